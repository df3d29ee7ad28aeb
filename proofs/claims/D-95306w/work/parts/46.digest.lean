/-! PLAIN LAWS, 27: digest -/
/-- h, then f 0, f 1, .. told one behind another -/
def hsh (h : Int) (f : Int → Int) : Nat → Int
  | 0 => h
  | k + 1 => 31 * hsh h f k + f (k : Int)
theorem hsh_s (h : Int) (f : Int → Int) {k : Int} (k0 : 0 ≤ k) : hsh h f (k + 1).toNat = 31 * hsh h f k.toNat + f k := by
  have e : (k + 1).toNat = k.toNat + 1 := by omega
  rw [e]
  show 31 * hsh h f k.toNat + f ((k.toNat : Nat) : Int) = _
  rw [Int.toNat_of_nonneg k0]
section
variable {s t : Sg} {i a b c : Int}
def tl1 (s : Sg) (x : Int) : Int := if x % 2 = 0 then lkK (s 5001 (x / 2)) else lkN (s 5001 (x / 2)) (s 5002 (x / 2)) (s 5003 (x / 2))
noncomputable def tl2 (s : Sg) (x : Int) : Int := if x % 2 = 0 then s 19 (x / 2) else asW s (x / 2)
noncomputable def tl3 (s : Sg) (x : Int) : Int := srt1 s (x / 3) (x % 3)
noncomputable def tl4 (s : Sg) (x : Int) : Int := if x = 0 then lfs s 0 else if x = 1 then lfs s 1 else if x = 2 then rct s (pw s) else sst s
noncomputable def tl5 (s : Sg) (x : Int) : Int := pln s (x / 2 + 2) (x % 2)
noncomputable def dg1 (s : Sg) : Int := hsh 547 (tl1 s) (2 * s 5000 2).toNat
noncomputable def dg2 (s : Sg) : Int := hsh (dg1 s) (tl2 s) (2 * s 1 1).toNat
noncomputable def dg3 (s : Sg) : Int := hsh (dg2 s) (tl3 s) (3 * s 1 2).toNat
noncomputable def dg4 (s : Sg) : Int := 31 * (31 * (31 * (31 * dg3 s + lfs s 0) + lfs s 1) + rct s (pw s)) + sst s
noncomputable def dg5 (s : Sg) : Int := hsh (dg4 s) (brk s) (s 1 0).toNat
noncomputable def dg6 (s : Sg) : Int := hsh (dg5 s) (tl5 s) 16
noncomputable def dg7 (s : Sg) : Int := hsh (dg6 s) (s 3) (s 0 3).toNat
noncomputable def dg8 (s : Sg) : Int := hsh (dg7 s) (cnt1 s) 8
theorem hsh_2 (h : Int) (f : Int → Int) {k : Int} (k0 : 0 ≤ k) : hsh h f (2 * (k + 1)).toNat = 31 * (31 * hsh h f (2 * k).toNat + f (2 * k)) + f (2 * k + 1) := by
  rw [show 2 * (k + 1) = (2 * k + 1) + 1 by omega, hsh_s h f (by omega), hsh_s h f (by omega)]
theorem srt1_b (G : GX s) {j : Int} (j0 : 0 ≤ j) (j1 : j < s 1 2) (a : Int) : -1 ≤ srt1 s j a ∧ srt1 s j a ≤ 84 := by
  have hg := G.b
  have hle := G.le j0 j1
  have hl := lf_01 s j
  unfold srt1
  split
  · omega
  · split <;> omega
theorem sst_b (G : GX s) : -1 ≤ sst s ∧ sst s ≤ 84 := by
  have hg := G.b
  have hb := bst_b s (s 1 1).toNat
  unfold sst
  split <;> omega
theorem pln_b (G : GX s) (a b : Int) : 0 ≤ pln s a b ∧ pln s a b ≤ 84 := by
  have hg := G.b
  unfold pln
  split
  · split
    · omega
    · have := hmn_b G a a.toNat; omega
  · have := b2i_r (∀ k : Int, 0 ≤ k → k < s 1 1 → (0 < a ∨ k < 0) → hok s a k)
    unfold hfl; omega
theorem cnt1_b (G : GX s) (a : Int) : -102 ≤ cnt1 s a ∧ cnt1 s a ≤ 84 := by
  have hg := G.b
  unfold cnt1
  repeat' split
  all_goals omega
theorem lkN_b (G : GX s) {i : Int} (i0 : 0 ≤ i) (i1 : i < s 5000 2) : -1 ≤ lkN (s 5001 i) (s 5002 i) (s 5003 i) ∧ lkN (s 5001 i) (s 5002 i) (s 5003 i) ≤ 100 := by
  have hv := G.1.2.2.1.2.2 i i0 i1
  unfold lkN
  repeat' split
  all_goals omega
theorem ok_X0_withSorts {h : Int} {Q : Int → Prop} (G : GX s) (hQ : ∀ h3 : Int, h3 = hsh (hsh h (tl2 s) (2 * s 1 1).toNat) (tl3 s) (3 * s 1 2).toNat → Q (31 * (31 * h3 + lfs s 0) + lfs s 1)) : wp_X0_withSorts h s Q := by
  have hg := G.b
  unfold wp_X0_withSorts wp_X0_with
  refine ⟨fun v c => 0 ≤ c ∧ c ≤ s 1 1 ∧ v = hsh h (tl2 s) (2 * c).toNat, fun v c => (s 1 1 - c).toNat, ⟨by omega, by omega, rfl⟩, fun v c ⟨c0, c1, hv⟩ => ⟨by omega, by omega, fun h => ?_, fun h => ?_⟩⟩
  · have e : c = s 1 1 := by omega
    rw [e] at hv
    rw [← hv] at hQ
    refine ⟨fun w j => 0 ≤ j ∧ j ≤ s 1 2 ∧ w = hsh v (tl3 s) (3 * j).toNat, fun w j => (s 1 2 - j).toNat, ⟨by omega, by omega, rfl⟩, fun w j ⟨j0, j1, hw⟩ => ⟨by omega, by omega, fun h => ?_, fun h => ?_⟩⟩
    · have e : j = s 1 2 := by omega
      rw [e] at hw
      have hQ := hQ w hw
      have q0 := lfs_b G 0
      have q1 := lfs_b G 1
      exact ok_X0_leftTold G (XS.refl s) (by decide) ⟨by omega, ok_X0_leftTold G (XS.refl s) (by decide) ⟨by omega, hQ⟩⟩
    · refine ⟨fun w y => 0 ≤ y ∧ y ≤ 3 ∧ w = hsh v (tl3 s) (3 * j + y).toNat, fun w y => (3 - y).toNat, ⟨by omega, by omega, by rw [Int.add_zero]; exact hw⟩, fun w y ⟨y0, y1, hw⟩ => ⟨by omega, fun h2 => ?_, fun h2 => ?_⟩⟩
      · have ey : y = 3 := by omega
        refine ⟨⟨by omega, by omega, ?_⟩, by dsimp only; omega⟩
        rw [hw, ey, show 3 * j + 3 = 3 * (j + 1) by omega]
      · have q := srt1_b G j0 h y
        refine ok_X0_sortTold G (XS.refl s) j0 h (by omega) ⟨by omega, ⟨⟨by omega, by omega, ?_⟩, by dsimp only; omega⟩⟩
        rw [hw, show 3 * j + (y + 1) = (3 * j + y) + 1 by omega, hsh_s _ _ (by omega)]
        unfold tl3
        rw [show (3 * j + y) / 3 = j by omega, show (3 * j + y) % 3 = y by omega]
  · have hL := G.L c0 h
    have hab := asW_b G c
    refine ⟨c0, by omega, by omega, ok_X0_asWhat G (XS.refl s) c0 h ⟨by omega, ⟨⟨by omega, by omega, ?_⟩, by dsimp only; omega⟩⟩⟩
    rw [hsh_2 _ _ c0, hv]
    unfold tl2
    rw [if_pos (by omega), if_neg (by omega), show 2 * c / 2 = c by omega, show (2 * c + 1) / 2 = c by omega]
theorem ok_X0_digest {Q : Int → Sg → Prop} (G : GX s) (hQ : ∀ u : Sg, XS s u → Q (dg8 s) u) : wp_X0_digest s Q := by
  have hg := G.b
  have hpw := pw_b G
  have hrc := rct_b s (show 0 ≤ pw s by omega)
  unfold wp_X0_digest wp_X0_with wp_J2_size
  refine ⟨fun v c => 0 ≤ c ∧ c ≤ s 5000 2 ∧ v = hsh 547 (tl1 s) (2 * c).toNat, fun v c => (s 5000 2 - c).toNat, ⟨by omega, by omega, rfl⟩, fun v c ⟨c0, c1, hv⟩ => ⟨by omega, by omega, fun h => ?_, fun h => ?_⟩⟩
  · have e : c = s 5000 2 := by omega
    rw [e] at hv
    refine ok_X0_withSorts G (fun h3 e3 => ?_)
    have e3' : h3 = dg3 s := by rw [e3, hv]; rfl
    rw [e3']
    refine ok_X0_layReadings G (XS.refl s) (fun u1 X1 _ _ => ⟨by omega, ?_⟩)
    have qs := sst_b G
    refine ok_X0_surestTold G X1 (fun u X => ⟨by omega, ?_⟩)
    have hQ := hQ u X
    have Gu := GX_XS G X
    have e4 : 31 * (31 * (31 * (31 * dg3 s + lfs s 0) + lfs s 1) + rct s (pw s)) + sst s = dg4 s := rfl
    rw [e4, X.n, X.pg, X.pb]
    refine ⟨fun v c => 0 ≤ c ∧ c ≤ s 1 0 ∧ v = hsh (dg4 s) (brk s) c.toNat, fun v c => (s 1 0 - c).toNat, ⟨by omega, by omega, rfl⟩, fun v c ⟨c0, c1, hv⟩ => ⟨by omega, by omega, fun h => ?_, fun h => ?_⟩⟩
    · have e : c = s 1 0 := by omega
      rw [e] at hv
      have hv : v = dg5 s := hv
      refine ⟨fun v c => 2 ≤ c ∧ c ≤ 10 ∧ v = hsh (dg5 s) (tl5 s) (2 * (c - 2)).toNat, fun v c => (10 - c).toNat, ⟨by omega, by omega, hv⟩, fun v c ⟨c0, c1, hv⟩ => ⟨by omega, fun h => ?_, fun h => ?_⟩⟩
      · have e : c = 10 := by omega
        rw [e] at hv
        have hv : v = dg6 s := hv
        refine ⟨fun v c => 0 ≤ c ∧ c ≤ s 0 3 ∧ v = hsh (dg6 s) (s 3) c.toNat, fun v c => (s 0 3 - c).toNat, ⟨by omega, by omega, hv⟩, fun v c ⟨c0, c1, hv⟩ => ⟨by omega, by omega, fun h => ?_, fun h => ?_⟩⟩
        · have e : c = s 0 3 := by omega
          rw [e] at hv
          have hv : v = dg7 s := hv
          refine ⟨fun v c => 0 ≤ c ∧ c ≤ 8 ∧ v = hsh (dg7 s) (cnt1 s) c.toNat, fun v c => (8 - c).toNat, ⟨by omega, by omega, hv⟩, fun v c ⟨c0, c1, hv⟩ => ⟨by omega, fun h => ?_, fun h => ?_⟩⟩
          · have e : c = 8 := by omega
            rw [e] at hv
            have hv : v = dg8 s := hv
            rw [hv]; exact hQ
          · have q := cnt1_b G c
            refine ok_X0_countOf X (by omega) ⟨by omega, ⟨⟨by omega, by omega, ?_⟩, by dsimp only; omega⟩⟩
            rw [hsh_s _ _ c0, hv]
        · have hp := G.2.2.1.2.2 c c0 h
          refine ⟨c0, by omega, by omega, ⟨⟨by omega, by omega, ?_⟩, by dsimp only; omega⟩⟩
          rw [hsh_s _ _ c0, hv]
      · have q0 := pln_b G c 0
        have q1 := pln_b G c 1
        refine ok_X0_planTold X G (by omega) (by omega) (by decide) ⟨by omega, ok_X0_planTold X G (by omega) (by omega) (by decide) ⟨by omega, ⟨⟨by omega, by omega, ?_⟩, by dsimp only; omega⟩⟩⟩
        rw [show 2 * (c + 1 - 2) = 2 * ((c - 2) + 1) by omega, hsh_2 _ _ (by omega), hv]
        unfold tl5
        rw [show 2 * (c - 2) / 2 + 2 = c by omega, show 2 * (c - 2) % 2 = 0 by omega, show (2 * (c - 2) + 1) / 2 + 2 = c by omega, show (2 * (c - 2) + 1) % 2 = 1 by omega]
    · have q := brk_b G c
      refine ok_X0_brokenOf X G (by omega) ⟨by omega, ⟨⟨by omega, by omega, ?_⟩, by dsimp only; omega⟩⟩
      rw [hsh_s _ _ c0, hv]
  · have hk := lkK_v (s 5001 c)
    have hn := lkN_b G c0 h
    unfold wp_X0_told
    refine ⟨c0, h, by omega, by decide, fun w => absurd rfl w, fun _ => ⟨c0, h, by omega, by omega, c0, h, by omega, by decide, fun _ => ⟨c0, h, by omega, by omega, ⟨⟨by omega, by omega, ?_⟩, by dsimp only; omega⟩⟩, fun w => absurd w (by decide)⟩⟩
    rw [hsh_2 _ _ c0, hv]
    unfold tl1
    rw [if_pos (by omega), if_neg (by omega), show 2 * c / 2 = c by omega, show (2 * c + 1) / 2 = c by omega]
/-- the reference, when it has told h -/
def HM (t : Sg) (h : Int) (u : Sg) : Prop := MS t u ∧ u 0 33 = h
theorem HM.say {t u : Sg} {h z : Int} (H : HM t h u) : HM t (31 * h + z) (up u 0 33 (31 * (u 0 33) + z)) := ⟨H.1.up (by unfold com; omega), by rw [up_s, H.2]⟩
theorem ok_X2_digest {Q : Int → Sg → Prop} (G : GX s) (M : MC s t) (hQ : ∀ u : Sg, MS t u → Q (dg8 s) u) : wp_X2_digest t Q := by
  have hg := G.b
  have hpw := pw_b G
  have hrc := rct_b s (show 0 ≤ pw s by omega)
  have Mf : ∀ {h : Int} {u : Sg}, HM t h u → MC s u := fun H => MC_MS M H.1
  unfold wp_X2_digest wp_X2_say
  refine ⟨fun x u => 0 ≤ x ∧ x ≤ 2 * s 5000 2 ∧ HM t (hsh 547 (tl1 s) x.toNat) u, fun x u => (2 * s 5000 2 - x).toNat, ⟨by omega, by omega, (MS.refl t).up (by unfold com; omega), up_s _ _ _ _⟩, fun x u ⟨x0, x1, H⟩ => ?_⟩
  have el := (Mf H).l
  refine ⟨by omega, by omega, fun h => ?_, fun h => ?_⟩
  · have e : x = 2 * s 5000 2 := by omega
    rw [e] at H
    have H : HM t (dg1 s) u := H
    refine ⟨fun x u => 0 ≤ x ∧ x ≤ s 1 1 ∧ HM t (hsh (dg1 s) (tl2 s) (2 * x).toNat) u, fun x u => (s 1 1 - x).toNat, ⟨by omega, by omega, H⟩, fun x u ⟨x0, x1, H⟩ => ?_⟩
    have em := (Mf H).m G
    refine ⟨by omega, by omega, fun h => ?_, fun h => ?_⟩
    · have e : x = s 1 1 := by omega
      rw [e] at H
      have H : HM t (dg2 s) u := H
      refine ⟨fun x u => 0 ≤ x ∧ x ≤ s 1 2 ∧ HM t (hsh (dg2 s) (tl3 s) (3 * x).toNat) u, fun x u => (s 1 2 - x).toNat, ⟨by omega, by omega, H⟩, fun x u ⟨x0, x1, H⟩ => ?_⟩
      have eg := (Mf H).g
      refine ⟨by omega, by omega, fun h => ?_, fun h => ?_⟩
      · have e : x = s 1 2 := by omega
        rw [e] at H
        have H : HM t (dg3 s) u := H
        have q0 := lfs_b G 0
        have q1 := lfs_b G 1
        have qs := sst_b G
        refine ok_X2_leftOf G (Mf H) (by decide) ⟨by omega, ?_⟩
        have H := H.say (z := lfs s 0)
        generalize up u 0 33 (31 * u 0 33 + lfs s 0) = u at H ⊢
        refine ok_X2_leftOf G (Mf H) (by decide) ⟨by omega, ?_⟩
        have H := H.say (z := lfs s 1)
        generalize up u 0 33 (31 * u 0 33 + lfs s 1) = u at H ⊢
        refine ok_X2_surestOf G (Mf H) (fun v F e22 => ?_)
        have H : HM t (31 * (31 * dg3 s + lfs s 0) + lfs s 1) v := ⟨H.1.trans F.MS, by rw [F 0 33 (by omega)]; exact H.2⟩
        rw [e22]
        refine ⟨by omega, by omega, ?_⟩
        have H := H.say (z := rct s (pw s))
        generalize up v 0 33 (31 * v 0 33 + rct s (pw s)) = v at H ⊢
        have H := H.say (z := sst s)
        generalize up v 0 33 (31 * v 0 33 + sst s) = v at H ⊢
        have H : HM t (dg4 s) v := H
        refine ⟨fun x u => 0 ≤ x ∧ x ≤ s 1 0 ∧ HM t (hsh (dg4 s) (brk s) x.toNat) u, fun x u => (s 1 0 - x).toNat, ⟨by omega, by omega, H⟩, fun x u ⟨x0, x1, H⟩ => ?_⟩
        have en := (Mf H).n
        refine ⟨by omega, by omega, fun h => ?_, fun h => ?_⟩
        · have e : x = s 1 0 := by omega
          rw [e] at H
          have H : HM t (dg5 s) u := H
          refine ⟨fun x u => 2 ≤ x ∧ x ≤ 10 ∧ HM t (hsh (dg5 s) (tl5 s) (2 * (x - 2)).toNat) u, fun x u => (10 - x).toNat, ⟨by omega, by omega, H⟩, fun x u ⟨x0, x1, H⟩ => ⟨by omega, fun h => ?_, fun h => ?_⟩⟩
          · have e : x = 10 := by omega
            rw [e] at H
            have H : HM t (dg6 s) u := H
            refine ⟨fun x u => 0 ≤ x ∧ x ≤ s 0 3 ∧ HM t (hsh (dg6 s) (s 3) x.toNat) u, fun x u => (s 0 3 - x).toNat, ⟨by omega, by omega, H⟩, fun x u ⟨x0, x1, H⟩ => ?_⟩
            have ep := (Mf H).pg
            refine ⟨by omega, by omega, fun h => ?_, fun h => ?_⟩
            · have e : x = s 0 3 := by omega
              rw [e] at H
              have H : HM t (dg7 s) u := H
              refine ⟨fun x u => 0 ≤ x ∧ x ≤ 8 ∧ HM t (hsh (dg7 s) (cnt1 s) x.toNat) u, fun x u => (8 - x).toNat, ⟨by omega, by omega, H⟩, fun x u ⟨x0, x1, H⟩ => ⟨by omega, fun h => ?_, fun h => ?_⟩⟩
              · have e : x = 8 := by omega
                rw [e] at H
                have H : HM t (dg8 s) u := H
                rw [H.2]; exact hQ u H.1
              · have q := cnt1_b G x
                refine ok_X2_countOf (Mf H) G (by omega) ⟨by omega, ⟨⟨by omega, by omega, ?_⟩, by dsimp only; omega⟩⟩
                rw [hsh_s _ _ x0]; exact H.say
            · have hx : x < s 0 3 := by omega
              have hp := G.2.2.1.2.2 x x0 hx
              rw [(Mf H).pb x0 hx]
              refine ⟨x0, by omega, by omega, ⟨⟨by omega, by omega, ?_⟩, by dsimp only; omega⟩⟩
              rw [hsh_s _ _ x0]; exact H.say
          · have q0 := pln_b G x 0
            have q1 := pln_b G x 1
            refine ok_X2_planOf (Mf H) G (by omega) (by omega) (by decide) (by decide) (by decide) ⟨by omega, ?_⟩
            have H1 := H.say (z := pln s x 0)
            generalize up u 0 33 (31 * u 0 33 + pln s x 0) = u at H1 ⊢
            refine ok_X2_planOf (Mf H1) G (by omega) (by omega) (by decide) (by decide) (by decide) ⟨by omega, ⟨⟨by omega, by omega, ?_⟩, by dsimp only; omega⟩⟩
            rw [show 2 * (x + 1 - 2) = 2 * ((x - 2) + 1) by omega, hsh_2 _ _ (by omega)]
            unfold tl5
            rw [show 2 * (x - 2) / 2 + 2 = x by omega, show 2 * (x - 2) % 2 = 0 by omega, show (2 * (x - 2) + 1) / 2 + 2 = x by omega, show (2 * (x - 2) + 1) % 2 = 1 by omega]
            exact H1.say
        · have q := brk_b G x
          refine ok_X2_brokenOf (Mf H) G (by omega) ⟨by omega, ⟨⟨by omega, by omega, ?_⟩, by dsimp only; omega⟩⟩
          rw [hsh_s _ _ x0]; exact H.say
      · have hx : x < s 1 2 := by omega
        refine ⟨fun y u => 0 ≤ y ∧ y ≤ 3 ∧ HM t (hsh (dg2 s) (tl3 s) (3 * x + y).toNat) u, fun y u => (3 - y).toNat, ⟨by omega, by omega, by rw [Int.add_zero]; exact H⟩, fun y u ⟨y0, y1, H⟩ => ⟨by omega, fun h2 => ?_, fun h2 => ?_⟩⟩
        · have ey : y = 3 := by omega
          refine ⟨⟨by omega, by omega, ?_⟩, by dsimp only; omega⟩
          rw [show 3 * (x + 1) = 3 * x + y by omega]; exact H
        · have q := srt1_b G x0 hx y
          refine ok_X2_tellSort G (Mf H) x0 hx (by omega) ?_
          rw [if_pos (by omega)]
          refine ⟨by omega, ⟨⟨by omega, by omega, ?_⟩, by dsimp only; omega⟩⟩
          rw [show 3 * x + (y + 1) = (3 * x + y) + 1 by omega, hsh_s _ _ (by omega)]
          have e : tl3 s (3 * x + y) = srt1 s x y := by
            unfold tl3
            rw [show (3 * x + y) / 3 = x by omega, show (3 * x + y) % 3 = y by omega]
          rw [e]; exact H.say
    · have hx : x < s 1 1 := by omega
      have hL := G.L x0 hx
      have hab := asW_b G x
      rw [(Mf H).L x0 hx]
      refine ⟨x0, by omega, by omega, ?_⟩
      have H1 := H.say (z := s 19 x)
      generalize up u 0 33 (31 * u 0 33 + s 19 x) = u at H1 ⊢
      refine ok_X2_asOf G (Mf H1) x0 hx ⟨by omega, ⟨⟨by omega, by omega, ?_⟩, by dsimp only; omega⟩⟩
      rw [hsh_2 _ _ x0]
      have e1 : tl2 s (2 * x) = s 19 x := by unfold tl2; rw [if_pos (by omega), show 2 * x / 2 = x by omega]
      have e2 : tl2 s (2 * x + 1) = asW s x := by unfold tl2; rw [if_neg (by omega), show (2 * x + 1) / 2 = x by omega]
      rw [e1, e2]
      exact H1.say
  · have hx : x < 2 * s 5000 2 := by omega
    obtain ⟨e1, e2⟩ := (Mf H).1.2.1.2 (x / 2) (by omega) (by omega)
    have hk := lkK_v (s 5001 (x / 2))
    have hn := lkN_b G (show 0 ≤ x / 2 by omega) (by omega)
    have e3 : u 2 x = tl1 s x := by
      unfold tl1
      by_cases z : x % 2 = 0
      · rw [if_pos z, ← e1, show 2 * (x / 2) = x by omega]
      · rw [if_neg z, ← e2, show 2 * (x / 2) + 1 = x by omega]
    have q : -1 ≤ tl1 s x ∧ tl1 s x ≤ 100 := by unfold tl1; split <;> omega
    rw [e3]
    refine ⟨x0, by omega, by omega, ⟨⟨by omega, by omega, ?_⟩, by dsimp only; omega⟩⟩
    rw [hsh_s _ _ x0]; exact H.say
theorem rel_digest (h : RL i s t) : wp_X0_digest s (fun r s' => wp_X2_digest t (fun r' t' => RR i r s' r' t')) := by
  refine ok_X0_digest h.1 (fun u X => ?_)
  exact ok_X2_digest h.1 h.2.1 (fun v F => ⟨rfl, RL_XM h X F⟩)
end
