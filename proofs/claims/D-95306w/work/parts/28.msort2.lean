/-! PLAIN LAWS, 9: the reference lays its sorts -/
theorem ok_X2_laySorts {ka : Nat} {n l : Int} {K A B : Int → Int} {s : Sg} {Q : Int → Sg → Prop} (k0 : ka ≠ 0) (k2 : ka ≠ 2) (V : LV l K A B) (M : LM s l K A B) (n0 : 3 ≤ n) (n1 : n ≤ 10)
    (hQ : ∀ (g : Int) (t : Sg), SortOk (Ed K A B n) l (C3 n) (t ka) g → 0 ≤ g → g ≤ C3 n → (∀ k : Nat, k ≠ ka → t k = s k) → Q g t) : wp_X2_laySorts ka n s Q := by
  have hb := C3_b (show 0 ≤ n by omega) n1
  have hM : 0 ≤ n * (n - 1) * (n - 2) ∧ n * (n - 1) * (n - 2) ≤ 720 := by
    rcases (show n = 3 ∨ n = 4 ∨ n = 5 ∨ n = 6 ∨ n = 7 ∨ n = 8 ∨ n = 9 ∨ n = 10 by omega) with rfl | rfl | rfl | rfl | rfl | rfl | rfl | rfl <;> decide
  have hl := V.2.1
  unfold wp_X2_laySorts
  rw [C3_f (by omega) n1]
  refine ⟨by omega, hM.1, ?_⟩
  have hE : ∀ i c : Int, 0 ≤ i → i < l → 0 ≤ c → c < C3 n → 0 ≤ Ed K A B n i c ∧ Ed K A B n i c < C3 n := fun i c i0 i1 c0 c1 => Ed_in V i0 i1 n0 n1 c0 c1
  generalize hm : C3 n = m at *
  generalize hEE : Ed K A B n = E at *
  refine ⟨fun k t => 0 ≤ k ∧ k ≤ m ∧ (∀ q : Nat, q ≠ ka → t q = s q) ∧ ∀ c : Int, 0 ≤ c → c < k → t ka c = c, fun k t => (m - k).toNat, ⟨by omega, by omega, fun q h => rfl, fun c c0 c1 => by omega⟩, fun k t ⟨a0, a1, F, hid⟩ => ⟨by omega, by omega, fun h => ?_, fun h => ?_⟩⟩
  · have ek : k = m := by omega
    subst ek
    have hJ0 : LJ ka s E l k t := ⟨F, fun c c0 c1 => by rw [hid c c0 c1]; omega, fun h hh c c0 c1 => by rw [hid c c0 c1]⟩
    clear hid a0 a1 h F
    refine ⟨fun x t => LJ ka s E l k t ∧ (x = 1 ∨ (x = 0 ∧ ∀ c : Int, 0 ≤ c → c < k → ∀ j : Int, 0 ≤ j → j < l → t ka c = t ka (E j c))), fun x t => if x = 0 then 0 else (sm (t ka) k.toNat).toNat + 1, ⟨hJ0, Or.inl rfl⟩, fun x t ⟨hJ, hx⟩ => ?_⟩
    refine ⟨by omega, fun hx0 => ?_, fun hx0 => ?_⟩
    · have hcl : ∀ c : Int, 0 ≤ c → c < k → ∀ j : Int, 0 ≤ j → j < l → t ka c = t ka (E j c) := by
        rcases hx with w | w
        · omega
        · exact w.2
      have hinv : Inv E l k (t ka) := fun i i0 i1 c c0 c1 => (hcl c c0 c1 i i0 i1).symm
      have hff := hJ.2.2 (t ka) hinv
      generalize hf : t ka = f at *
      refine ⟨fun g c u => 0 ≤ c ∧ c ≤ k ∧ g = rk f c ∧ (∀ q : Nat, q ≠ ka → u q = s q) ∧ (∀ d : Int, 0 ≤ d → d < k → u ka d = if d < c then rk f (f d) else f d), fun g c u => (k - c).toNat, ⟨by omega, by omega, rfl, hJ.1, fun d d0 d1 => by rw [if_neg (by omega), hf]⟩, fun g c u ⟨c0, c1, hg, F, hu⟩ => ?_⟩
      refine ⟨by omega, by omega, fun h => ?_, fun h => ?_⟩
      · have ec : c = k := by omega
        subst ec
        rw [hg]
        refine hQ _ u (rk_ok c0 (fun d d0 d1 => by rw [← hf]; exact hJ.2.1 d d0 d1) (fun h hh d d0 d1 => by rw [← hf]; exact hJ.2.2 h hh d d0 d1) hcl (fun d d0 d1 => by rw [hu d d0 d1, if_pos d1]) hE) (rk_b f c0).1 (rk_b f c0).2 F
      · have hJc := hJ.2.1 c c0 h
        rw [hf] at hJc
        have huc : u ka c = f c := by rw [hu c c0 h, if_neg (by omega)]
        have hub := rk_b f c0
        refine ⟨c0, by omega, by rw [huc]; omega, by omega, ?_⟩
        rw [huc]
        unfold JN2
        refine ⟨fun w => ⟨c0, by omega, by omega, by omega, c0, by omega, ⟨⟨by omega, by omega, ?_, fun q hq => by rw [up_o _ _ _ _ hq]; exact F q hq, fun d d0 d1 => ?_⟩, by dsimp only; omega⟩⟩, fun w => ⟨c0, by omega, ⟨⟨by omega, by omega, ?_, fun q hq => by rw [up_o _ _ _ _ hq]; exact F q hq, fun d d0 d1 => ?_⟩, by dsimp only; omega⟩⟩⟩
        · rw [rk_s f c0, b2i_f w, hg]; omega
        · rw [up_k]
          by_cases q : d = c
          · rw [q, upI_s, if_pos (by omega), hu _ hJc.1 (by omega), if_pos (by omega), hff c c0 h]
          · rw [upI_n _ q, hu d d0 d1]
            by_cases q2 : d < c
            · rw [if_pos q2, if_pos (by omega)]
            · rw [if_neg q2, if_neg (by omega)]
        · rw [rk_s f c0, b2i_t w, hg]
        · rw [up_k]
          by_cases q : d = c
          · rw [q, upI_s, if_pos (by omega), w, hg]
          · rw [upI_n _ q, hu d d0 d1]
            by_cases q2 : d < c
            · rw [if_pos q2, if_pos (by omega)]
            · rw [if_neg q2, if_neg (by omega)]
    · -- a pass
      have hx1 : x = 1 := by omega
      subst hx1
      have hS0 : 0 ≤ sm (t ka) k.toNat := (sm_bi k hb.1 (fun c c0 c1 => by have := hJ.2.1 c c0 c1; omega)).1
      have hfin : ∀ (x' : Int) (u : Sg), PS ka s E l k (t ka) k 0 x' u → (LJ ka s E l k u ∧ (x' = 1 ∨ (x' = 0 ∧ ∀ c : Int, 0 ≤ c → c < k → ∀ j : Int, 0 ≤ j → j < l → u ka c = u ka (E j c)))) ∧ (if x' = 0 then 0 else (sm (u ka) k.toNat).toNat + 1) < (if (1 : Int) = 0 then 0 else (sm (t ka) k.toNat).toNat + 1) := by
        intro x' u ⟨hJ', h⟩
        rw [if_neg (show ¬ (1 : Int) = 0 by decide)]
        rcases h with ⟨a, b, c⟩ | ⟨a, b⟩
        · rw [if_pos a]
          refine ⟨⟨hJ', Or.inr ⟨a, fun d d0 d1 j j0 j1 => ?_⟩⟩, by omega⟩
          rw [b]
          exact c d d0 d1 j j0 j1 (Or.inl d1)
        · rw [if_neg (by omega)]
          refine ⟨⟨hJ', Or.inl a⟩, ?_⟩
          have hS1 : 0 ≤ sm (u ka) k.toNat := (sm_bi k hb.1 (fun c c0 c1 => by have := hJ'.2.1 c c0 c1; omega)).1
          omega
      have hst : PS ka s E l k (t ka) 0 0 0 t := ⟨hJ, Or.inl ⟨rfl, rfl, fun c c0 c1 j j0 j1 w => by omega⟩⟩
      have hMM : ∀ u : Sg, (∀ q : Nat, q ≠ ka → u q = s q) → LM u l K A B := fun u hu => M.of (by rw [hu 0 (fun q => k0 q.symm)]) (hu 2 (fun q => k2 q.symm))
      generalize hf0 : t ka = f at *
      refine ⟨fun x p a u => 0 ≤ a ∧ a ≤ n ∧ p = pA n a ∧ PS ka s E l k f p 0 x u, fun x p a u => (n - a).toNat, ⟨by omega, by omega, (pA_0 n).symm, hst⟩, fun x p a u ⟨a0, a1, hp, hP⟩ => ?_⟩
      refine ⟨by omega, by omega, fun h => ?_, fun h => ?_⟩
      · have ea : a = n := by omega
        rw [hp, ea, pA_n, hm] at hP
        have hz := hfin x u hP
        rw [← hf0] at hz
        exact hz
      · refine ⟨fun x p b u => a < b ∧ b ≤ n ∧ p = pB n a b ∧ PS ka s E l k f p 0 x u, fun x p b u => (n - b).toNat, ⟨by omega, by omega, by rw [pB_0 a0]; exact hp, hP⟩, fun x p b u ⟨b0, b1, hp, hP⟩ => ?_⟩
        refine ⟨by omega, by omega, fun h2 => ?_, fun h2 => ?_⟩
        · have eb : b = n := by omega
          refine ⟨⟨by omega, by omega, ?_, hP⟩, by dsimp only; omega⟩
          rw [hp, eb, pB_n n1 a0 h]
        · refine ⟨fun x p c u => b < c ∧ c ≤ n ∧ p = pB n a b + (c - b - 1) ∧ PS ka s E l k f p 0 x u, fun x p c u => (n - c).toNat, ⟨by omega, by omega, by omega, hP⟩, fun x p c u ⟨c0, c1, hp, hP⟩ => ?_⟩
          refine ⟨by omega, by omega, fun h3 => ?_, fun h3 => ?_⟩
          · have ec : c = n := by omega
            refine ⟨⟨by omega, by omega, ?_, hP⟩, by dsimp only; omega⟩
            rw [hp, ec, pB_s a0 b0 h2]
            omega
          · have hpi : p = ix n a b c := by rw [ix_e a0 b0 c0]; exact hp
            obtain ⟨t0, t1, t2, t3, t4⟩ := tp_ix n1 a0 b0 c0 h3
            rw [← hpi] at t0 t1 t2 t3 t4
            rw [hm] at t4
            refine ⟨fun x i u => 0 ≤ i ∧ i ≤ l ∧ PS ka s E l k f p i x u, fun x i u => (l - i).toNat, ⟨by omega, V.1, hP⟩, fun x i u ⟨i0, i1, hP⟩ => ?_⟩
            have hMu := hMM u hP.1.1
            have hl0 := hMu.1
            refine ⟨by omega, by omega, fun h4 => ?_, fun h4 => ?_⟩
            · have ei : i = l := by omega
              rw [ei] at hP
              refine ⟨⟨by omega, by omega, by omega, PS_next hP⟩, by dsimp only; omega⟩
            · rw [hl0] at h4
              have hdst := Ed_dst V i0 h4 n0 n1 t3 (by rw [hm]; exact t4)
              rw [t0, t1, t2] at hdst
              have hEp : E i p = num n (Lk K A B n i a) (Lk K A B n i b) (Lk K A B n i c) := by
                rw [← hEE]; unfold Ed; rw [t0, t1, t2]
              refine ok_X2_sound V hMu i0 h4 n0 n1 a0 (by omega) ?_
              refine ok_X2_sound V hMu i0 h4 n0 n1 (by omega) (by omega) ?_
              refine ok_X2_sound V hMu i0 h4 n0 n1 (by omega) (by omega) ?_
              refine ok_X2_numberOf n0 n1 hdst ?_
              rw [← hEp]
              have he := hE i p i0 h4 t3 t4
              have r1 := hP.1.2.1 p t3 t4
              have r2 := hP.1.2.1 _ he.1 he.2
              have rgx : x = 0 ∨ x = 1 := by
                rcases hP.2 with w | w
                · exact Or.inl w.1
                · exact Or.inr w.1
              refine ⟨t3, by omega, he.1, by omega, by omega, by omega, ?_⟩
              refine jn1_v (if u ka (E i p) ≤ u ka p then u ka (E i p) else u ka p) (fun K hK => ?_) ?_
              · refine ⟨fun w => ⟨he.1, by omega, ?_⟩, fun w => ⟨t3, by omega, ?_⟩⟩
                · rw [if_pos w] at hK; exact hK
                · rw [if_neg (by omega)] at hK; exact hK
              refine ⟨by omega, ?_⟩
              refine jn1_v (if x = 0 ∧ u ka p = u ka (E i p) then 0 else 1) (fun K hK => ?_) ?_
              · unfold JN0
                refine ⟨fun w => ?_, fun w => ⟨t3, by omega, he.1, by omega, by omega, by omega, fun w2 => ?_, fun w2 => ?_⟩⟩
                · rw [if_neg (fun z => w z.1)] at hK; exact hK
                · rw [if_pos ⟨w, w2⟩] at hK; exact hK
                · rw [if_neg (fun z => w2 z.2)] at hK; exact hK
              refine ⟨t3, by omega, he.1, by omega, ⟨⟨by omega, by omega, PS_step t3 t4 i0 h4 he.1 he.2 hP rfl rfl⟩, by dsimp only; omega⟩⟩
  · refine ⟨a0, by omega, ⟨⟨by omega, by omega, fun q hq => by rw [up_o _ _ _ _ hq]; exact F q hq, fun c c0 c1 => ?_⟩, by dsimp only; omega⟩⟩
    rw [up_k]
    by_cases q : c = k
    · rw [q, upI_s]
    · rw [upI_n _ q]; exact hid c c0 (by omega)
