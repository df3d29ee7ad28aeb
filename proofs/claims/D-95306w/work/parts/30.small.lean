/-! PLAIN LAWS, 11: the small methods of both -/
section
variable {s t : Sg}
theorem XS.h (X : XS s t) : t 0 9 = s 0 9 := X 0 9 (by unfold cor; omega)
theorem XS.hd (X : XS s t) : t 5 = s 5 := X.fn 5 (fun j => by unfold cor; omega)
theorem XS.L (X : XS s t) : t 19 = s 19 := X.fn 19 (fun j => by unfold cor; omega)
theorem XS.le (X : XS s t) : t 20 = s 20 := X.fn 20 (fun j => by unfold cor; omega)
theorem XS.sz (X : XS s t) : t 21 = s 21 := X.fn 21 (fun j => by unfold cor; omega)
theorem XS.n (X : XS s t) : t 1 0 = s 1 0 := X 1 0 (by unfold cor; omega)
theorem XS.m (X : XS s t) : t 1 1 = s 1 1 := X 1 1 (by unfold cor; omega)
theorem XS.g (X : XS s t) : t 1 2 = s 1 2 := X 1 2 (by unfold cor; omega)
theorem XS.sh (X : XS s t) : t 0 14 = s 0 14 := X 0 14 (by unfold cor; omega)
theorem XS.sc (X : XS s t) : t 8 = s 8 := X.fn 8 (fun j => by unfold cor; omega)
theorem XS.sw (X : XS s t) : t 9 = s 9 := X.fn 9 (fun j => by unfold cor; omega)
theorem XS.sk (X : XS s t) {i : Int} (h0 : 0 ≤ i) (h : i < 5) : t (26 + i.toNat) = s (26 + i.toNat) := X.fn _ (fun j => by unfold cor; omega)
theorem XS.tq (X : XS s t) {i : Int} (h0 : 0 ≤ i) (h : i < 120) : t (36 + i.toNat) = s (36 + i.toNat) := X.fn _ (fun j => by unfold cor; omega)
theorem XS.l (X : XS s t) : t 5000 2 = s 5000 2 := X 5000 2 (by unfold cor; omega)
theorem XS.K (X : XS s t) : t 5001 = s 5001 := X.fn 5001 (fun j => by unfold cor; omega)
theorem XS.A (X : XS s t) : t 5002 = s 5002 := X.fn 5002 (fun j => by unfold cor; omega)
theorem XS.B (X : XS s t) : t 5003 = s 5003 := X.fn 5003 (fun j => by unfold cor; omega)
theorem XS.pg (X : XS s t) : t 0 3 = s 0 3 := X 0 3 (by unfold cor; omega)
theorem XS.pb (X : XS s t) : t 3 = s 3 := X.fn 3 (fun j => by unfold cor; omega)
theorem XS.ask (X : XS s t) : t 0 19 = s 0 19 := X 0 19 (by unfold cor; omega)
theorem MC.n (M : MC s t) : t 0 7 = s 1 0 := M.1.1.2.2.1
theorem MC.m (M : MC s t) (G : GX s) : t 0 8 = s 1 1 := by rw [M.1.1.2.2.2.1, G.b.2.2.1]
theorem MC.g (M : MC s t) : t 0 10 = s 1 2 := M.1.2.2.1
theorem MC.L (M : MC s t) {c : Int} (c0 : 0 ≤ c) (c1 : c < s 1 1) : t 5 c = s 19 c := M.1.2.2.2.1 c c0 c1
theorem MC.le (M : MC s t) {c : Int} (c0 : 0 ≤ c) (c1 : c < s 1 2) : t 6 c = s 20 c := M.1.2.2.2.2 c c0 c1
theorem MC.h (M : MC s t) : t 0 13 = s 0 9 := M.2.1.1
theorem MC.hd (M : MC s t) {c : Int} (c0 : 0 ≤ c) (c1 : c < s 0 9) : t 7 c = s 5 c := M.2.1.2 c c0 c1
theorem MC.sh (M : MC s t) : t 0 15 = s 0 14 := M.2.2.1.1
theorem MC.sc (M : MC s t) {c : Int} (c0 : 0 ≤ c) (c1 : c < s 0 14) : t 8 (8 * c) = s 8 c := (M.2.2.1.2 c c0 c1).1
theorem MC.sw (M : MC s t) {c : Int} (c0 : 0 ≤ c) (c1 : c < s 0 14) : t 8 (8 * c + 7) = s 9 c := (M.2.2.1.2 c c0 c1).2.1
theorem MC.sk (M : MC s t) {c j : Int} (c0 : 0 ≤ c) (c1 : c < s 0 14) (j0 : 0 ≤ j) (j1 : j < s 8 c) : t 8 (8 * c + 1 + j) = s (26 + c.toNat) j := (M.2.2.1.2 c c0 c1).2.2 j j0 j1
theorem MC.l (M : MC s t) : t 0 2 = s 5000 2 := M.1.2.1.1
theorem MC.pg (M : MC s t) : t 0 1 = s 0 3 := M.2.2.2.1.1
theorem MC.pb (M : MC s t) {c : Int} (c0 : 0 ≤ c) (c1 : c < s 0 3) : t 1 c = s 3 c := M.2.2.2.1.2 c c0 c1
theorem MC.ask (M : MC s t) : t 0 24 = s 0 19 := M.2.2.2.2
theorem MC.tp (M : MC s t) (G : GX s) {k : Int} (k0 : 0 ≤ k) (k1 : k < s 1 1) : t 4 (3 * k) = tp (s 1 0) k 0 ∧ t 4 (3 * k + 1) = tp (s 1 0) k 1 ∧ t 4 (3 * k + 2) = tp (s 1 0) k 2 := M.1.1.2.2.2.2 k k0 (by rw [← G.b.2.2.1]; exact k1)
end
/-- as what a chord was heard -/
noncomputable def asW (s : Sg) (c : Int) : Int := if ff (fun i => s 19 (s 5 i) = s 19 c) (s 0 9).toNat = -1 then -1 else s 5 (ff (fun i => s 19 (s 5 i) = s 19 c) (s 0 9).toNat)
theorem asW_b {s : Sg} (G : GX s) (c : Int) : asW s c = -1 ∨ (0 ≤ asW s c ∧ asW s c < s 1 1) := by
  unfold asW
  rcases ff_spec (fun i => s 19 (s 5 i) = s 19 c) (s 0 9) with ⟨h, -⟩ | ⟨a, b, -⟩
  · rw [if_pos h]; exact Or.inl rfl
  · rw [if_neg (by omega)]; exact Or.inr (G.hd a b)
theorem asW_no {s : Sg} {c : Int} (h : ∀ j : Int, 0 ≤ j → j < s 0 9 → ¬ s 19 (s 5 j) = s 19 c) : asW s c = -1 := by
  unfold asW; rw [if_pos (ff_none h)]
theorem asW_at {s : Sg} {c i : Int} (i0 : 0 ≤ i) (i1 : i < s 0 9) (hp : s 19 (s 5 i) = s 19 c) (h : ∀ j : Int, 0 ≤ j → j < i → ¬ s 19 (s 5 j) = s 19 c) : asW s c = s 5 i := by
  have e : ff (fun i => s 19 (s 5 i) = s 19 c) (s 0 9).toNat = i := ff_hit i0 i1 hp h
  unfold asW; rw [e, if_neg (by omega)]
theorem ok_X0_asWhat {s t : Sg} {c : Int} {Q : Int → Prop} (G : GX s) (X : XS s t) (c0 : 0 ≤ c) (c1 : c < s 1 1) (hQ : Q (asW s c)) : wp_X0_asWhat c t Q := by
  have hb := G.b
  have hL := G.L c0 c1
  unfold wp_X0_asWhat
  rw [X.h, X.hd, X.L]
  refine ⟨fun i => 0 ≤ i ∧ i ≤ s 0 9 ∧ ∀ j : Int, 0 ≤ j → j < i → ¬ s 19 (s 5 j) = s 19 c, fun i => (s 0 9 - i).toNat, ⟨by omega, by omega, fun j j0 j1 => by omega⟩, fun i ⟨i0, i1, hi⟩ => ⟨by omega, by omega, fun h => ?_, fun h => ?_⟩⟩
  · have e : i = s 0 9 := by omega
    rw [e] at hi
    rw [asW_no hi] at hQ
    exact hQ
  · have h1 := G.hd i0 h
    have h2 := G.L h1.1 h1.2
    refine ⟨i0, by omega, h1.1, by omega, c0, by omega, by omega, by omega, fun q => ⟨⟨by omega, by omega, fun j j0 j1 => ?_⟩, by dsimp only; omega⟩, fun q => ⟨i0, by omega, ?_⟩⟩
    · by_cases w : j = i
      · rw [w]; exact q
      · exact hi j j0 (by omega)
    · rw [asW_at i0 h q hi] at hQ
      exact hQ
theorem ok_X2_asOf {s t : Sg} {c : Int} {Q : Int → Prop} (G : GX s) (M : MC s t) (c0 : 0 ≤ c) (c1 : c < s 1 1) (hQ : Q (asW s c)) : wp_X2_asOf c t Q := by
  have hb := G.b
  have hL := G.L c0 c1
  unfold wp_X2_asOf
  rw [M.h, M.L c0 c1]
  refine ⟨fun i => 0 ≤ i ∧ i ≤ s 0 9 ∧ ∀ j : Int, 0 ≤ j → j < i → ¬ s 19 (s 5 j) = s 19 c, fun i => (s 0 9 - i).toNat, ⟨by omega, by omega, fun j j0 j1 => by omega⟩, fun i ⟨i0, i1, hi⟩ => ⟨by omega, by omega, fun h => ?_, fun h => ?_⟩⟩
  · have e : i = s 0 9 := by omega
    rw [e] at hi
    rw [asW_no hi] at hQ
    exact hQ
  · have h1 := G.hd i0 h
    have h2 := G.L h1.1 h1.2
    rw [M.hd i0 h, M.L h1.1 h1.2]
    refine ⟨i0, by omega, h1.1, by omega, c0, by omega, by omega, by omega, fun q => ⟨⟨by omega, by omega, fun j j0 j1 => ?_⟩, by dsimp only; omega⟩, fun q => ⟨i0, by omega, ?_⟩⟩
    · by_cases w : j = i
      · rw [w]; exact q
      · exact hi j j0 (by omega)
    · rw [asW_at i0 h q hi] at hQ
      exact hQ
/-- sort j is left to hear -/
noncomputable def lf (s : Sg) (j : Int) : Int := if asW s (s 20 j) = -1 then 1 else 0
theorem lf_01 (s : Sg) (j : Int) : lf s j = 0 ∨ lf s j = 1 := by
  unfold lf; split
  · exact Or.inr rfl
  · exact Or.inl rfl
theorem ok_X0_isLeft {s t : Sg} {j : Int} {Q : Int → Prop} (G : GX s) (X : XS s t) (j0 : 0 ≤ j) (j1 : j < s 1 2) (hQ : Q (lf s j)) : wp_X0_isLeft j t Q := by
  have hb := G.b
  have hle := G.le j0 j1
  unfold wp_X0_isLeft
  rw [X.le]
  refine ⟨j0, by omega, ok_X0_asWhat G X hle.1 hle.2.1 ?_⟩
  have := asW_b G (s 20 j)
  unfold lf at hQ
  refine ⟨by omega, fun h => ?_, fun h => ?_⟩
  · rw [if_neg h] at hQ; exact hQ
  · rw [if_pos h] at hQ; exact hQ
theorem ok_X2_isLeft {s t : Sg} {j : Int} {Q : Int → Prop} (G : GX s) (M : MC s t) (j0 : 0 ≤ j) (j1 : j < s 1 2) (hQ : Q (lf s j)) : wp_X2_isLeft j t Q := by
  have hb := G.b
  have hle := G.le j0 j1
  unfold wp_X2_isLeft
  rw [M.le j0 j1]
  refine ⟨j0, by omega, ok_X2_asOf G M hle.1 hle.2.1 ?_⟩
  have := asW_b G (s 20 j)
  unfold lf at hQ
  refine ⟨by omega, fun h => ?_, fun h => ?_⟩
  · rw [if_neg h] at hQ; exact hQ
  · rw [if_pos h] at hQ; exact hQ
theorem ok_X2_sizeOf {s t : Sg} {j : Int} {Q : Int → Prop} (G : GX s) (M : MC s t) (j0 : 0 ≤ j) (j1 : j < s 1 2) (hQ : Q (s 21 j)) : wp_X2_sizeOf j t Q := by
  have hb := G.b
  rw [(G.le j0 j1).2.2.2.2.1] at hQ
  unfold wp_X2_sizeOf
  rw [M.m G]
  refine ⟨fun v c => 0 ≤ c ∧ c ≤ s 1 1 ∧ v = cnt (s 19) c j, fun v c => (s 1 1 - c).toNat, ⟨by omega, by omega, rfl⟩, fun v c ⟨c0, c1, hv⟩ => ⟨by omega, by omega, fun h => ?_, fun h => ?_⟩⟩
  · have e : c = s 1 1 := by omega
    rw [hv, e]; exact hQ
  · have hL := G.L c0 h
    rw [M.L c0 h]
    refine ⟨c0, by omega, by omega, by omega, ?_⟩
    refine jn1_v (b2i (s 19 c = j)) (fun K hK => ⟨fun w => ?_, fun w => ?_⟩) ?_
    · rw [b2i_f w] at hK; exact hK
    · rw [b2i_t w] at hK; exact hK
    · refine ⟨⟨by omega, by omega, ?_⟩, by dsimp only; omega⟩
      rw [hv]
      exact (sm_s _ c0).symm
/-- how many sorts (chords of sorts) are left -/
noncomputable def lfs (s : Sg) (a : Int) : Int := sm (fun j => if lf s j = 0 then 0 else if a = 0 then 1 else s 21 j) (s 1 2).toNat
theorem lfs_b {s : Sg} (G : GX s) (a : Int) : 0 ≤ lfs s a ∧ lfs s a ≤ 10000 := by
  have hb := G.b
  have h := sm_bi (f := fun j => if lf s j = 0 then 0 else if a = 0 then 1 else s 21 j) 84 hb.2.2.2.2.2.1 (fun j j0 j1 => by
    have := G.le j0 j1
    split
    · omega
    · split <;> omega)
  unfold lfs
  omega
theorem ok_X0_leftTold {s t : Sg} {a : Int} {Q : Int → Prop} (G : GX s) (X : XS s t) (ha : Rg a) (hQ : Q (lfs s a)) : wp_X0_leftTold a t Q := by
  have hb := G.b
  unfold wp_X0_leftTold
  rw [X.g, X.sz]
  refine ⟨fun v j => 0 ≤ j ∧ j ≤ s 1 2 ∧ v = sm (fun j => if lf s j = 0 then 0 else if a = 0 then 1 else s 21 j) j.toNat, fun v j => (s 1 2 - j).toNat, ⟨by omega, by omega, rfl⟩, fun v j ⟨j0, j1, hv⟩ => ⟨by omega, by omega, fun h => ?_, fun h => ?_⟩⟩
  · have e : j = s 1 2 := by omega
    rw [hv, e]; exact hQ
  · refine ok_X0_isLeft G X j0 h ?_
    refine jn1_v (if lf s j = 0 then 0 else if a = 0 then 1 else s 21 j) (fun K hK => ⟨fun w => ⟨ha, fun w2 => ⟨j0, by omega, ?_⟩, fun w2 => ?_⟩, fun w => ?_⟩) ?_
    · rw [if_neg w, if_neg w2] at hK; exact hK
    · rw [if_neg w, if_pos w2] at hK; exact hK
    · rw [if_pos w] at hK; exact hK
    · refine ⟨⟨by omega, by omega, ?_⟩, by dsimp only; omega⟩
      rw [hv]
      exact (sm_s _ j0).symm
theorem ok_X2_leftOf {s t : Sg} {a : Int} {Q : Int → Prop} (G : GX s) (M : MC s t) (ha : Rg a) (hQ : Q (lfs s a)) : wp_X2_leftOf a t Q := by
  have hb := G.b
  unfold wp_X2_leftOf
  rw [M.g]
  refine ⟨fun v j => 0 ≤ j ∧ j ≤ s 1 2 ∧ v = sm (fun j => if lf s j = 0 then 0 else if a = 0 then 1 else s 21 j) j.toNat, fun v j => (s 1 2 - j).toNat, ⟨by omega, by omega, rfl⟩, fun v j ⟨j0, j1, hv⟩ => ⟨by omega, by omega, fun h => ?_, fun h => ?_⟩⟩
  · have e : j = s 1 2 := by omega
    rw [hv, e]; exact hQ
  · refine ok_X2_isLeft G M j0 h ?_
    refine jn1_v (if lf s j = 0 then 0 else if a = 0 then 1 else s 21 j) (fun K hK => ⟨fun w => ?_, fun w => ⟨ha, fun w2 => ok_X2_sizeOf G M j0 h ?_, fun w2 => ?_⟩⟩) ?_
    · rw [if_pos w] at hK; exact hK
    · rw [if_neg w, if_neg w2] at hK; exact hK
    · rw [if_neg w, if_pos w2] at hK; exact hK
    · refine ⟨⟨by omega, by omega, ?_⟩, by dsimp only; omega⟩
      rw [hv]
      exact (sm_s _ j0).symm
noncomputable def srt1 (s : Sg) (j a : Int) : Int := if a = 0 then s 20 j else if a = 1 then s 21 j else lf s j
theorem ok_X0_sortTold {s t : Sg} {j a : Int} {Q : Int → Prop} (G : GX s) (X : XS s t) (j0 : 0 ≤ j) (j1 : j < s 1 2) (ha : Rg a) (hQ : Q (srt1 s j a)) : wp_X0_sortTold j a t Q := by
  have hb := G.b
  unfold wp_X0_sortTold
  rw [X.le, X.sz]
  unfold srt1 at hQ
  refine ⟨ha, fun h => ⟨ha, fun h2 => ok_X0_isLeft G X j0 j1 ?_, fun h2 => ⟨j0, by omega, ?_⟩⟩, fun h => ⟨j0, by omega, ?_⟩⟩
  · rw [if_neg h, if_neg h2] at hQ
    rcases lf_01 s j with q | q
    · rw [q] at hQ ⊢; exact tf0 hQ
    · rw [q] at hQ ⊢; exact tf1 hQ
  · rw [if_neg h, if_pos h2] at hQ; exact hQ
  · rw [if_pos h] at hQ; exact hQ
theorem ok_X2_tellSort {s t : Sg} {j a : Int} {Q : Int → Prop} (G : GX s) (M : MC s t) (j0 : 0 ≤ j) (j1 : j < s 1 2) (ha : Rg a) (hQ : Q (if 0 ≤ a ∧ a ≤ 2 then srt1 s j a else -102)) : wp_X2_tellSort j a t Q := by
  have hb := G.b
  unfold wp_X2_tellSort
  rw [M.le j0 j1]
  unfold srt1 at hQ
  refine ⟨ha, fun h => ⟨ha, fun h2 => ⟨ha, fun h3 => ?_, fun h3 => ok_X2_isLeft G M j0 j1 ?_⟩, fun h2 => ok_X2_sizeOf G M j0 j1 ?_⟩, fun h => ⟨j0, by omega, ?_⟩⟩
  · rw [if_neg (by omega)] at hQ; exact hQ
  · rw [if_pos (by omega), if_neg h, if_neg h2] at hQ
    rcases lf_01 s j with q | q
    · rw [q] at hQ ⊢; exact tf0 hQ
    · rw [q] at hQ ⊢; exact tf1 hQ
  · rw [if_pos (by omega), if_neg h, if_pos h2] at hQ; exact hQ
  · rw [if_pos (by omega), if_pos h] at hQ; exact hQ
