/-! PLAIN LAWS, 4: the reference's number of a chord, what two chords have in common -/
theorem jn0_v {K : Prop} {b : Prop → Prop} (hb : ∀ K' : Prop, K' → b K') (hK : K) : JN0 K b := hb K hK
theorem jn1_v {A : Type} {K : A → Prop} {b : (A → Prop) → Prop} (v : A) (hb : ∀ K' : A → Prop, K' v → b K') (hK : K v) : JN1 K b := hb K hK
theorem jn2_v {A B : Type} {K : A → B → Prop} {b : (A → B → Prop) → Prop} (v : A) (w : B) (hb : ∀ K' : A → B → Prop, K' v w → b K') (hK : K v w) : JN2 K b := hb K hK
theorem mul_rg {x y M : Int} (h0 : 0 ≤ x) (h1 : x ≤ M) (h2 : 0 ≤ y) (h3 : y ≤ M) : 0 ≤ x * y ∧ x * y ≤ M * M :=
  ⟨Int.mul_nonneg h0 h2, Int.mul_le_mul h1 h3 h2 (by omega)⟩
theorem ok_X2_numberOf {n a b c : Int} {Q : Int → Prop} (n0 : 3 ≤ n) (n1 : n ≤ 10) (hd : dst n a b c) (hQ : Q (num n a b c)) : wp_X2_numberOf a b c n Q := by
  obtain ⟨s1, s2, s3, s4⟩ := srt hd
  have hd' := hd
  unfold dst at hd'
  have ha : Rg a := by omega
  have hb : Rg b := by omega
  have hc : Rg c := by omega
  unfold wp_X2_numberOf
  refine ⟨ha, hb, ?_⟩
  refine jn1_v (mn3 a b c) (fun K hK => ?_) ?_
  · unfold mn3 at hK
    refine ⟨fun h => ⟨hb, hc, fun h2 => ?_, fun h2 => ?_⟩, fun h => ⟨ha, hc, fun h2 => ?_, fun h2 => ?_⟩⟩
    · rw [if_neg (by omega), if_neg (by omega)] at hK; exact hK
    · rw [if_neg (by omega), if_pos (by omega)] at hK; exact hK
    · rw [if_pos (by omega), if_neg (by omega)] at hK; exact hK
    · rw [if_pos (by omega), if_pos (by omega)] at hK; exact hK
  refine ⟨ha, hb, ?_⟩
  refine jn1_v (mx3 a b c) (fun K hK => ?_) ?_
  · unfold mx3 at hK
    refine ⟨fun h => ⟨hb, hc, fun h2 => ?_, fun h2 => ?_⟩, fun h => ⟨ha, hc, fun h2 => ?_, fun h2 => ?_⟩⟩
    · rw [if_neg (by omega), if_neg (by omega)] at hK; exact hK
    · rw [if_neg (by omega), if_pos (by omega)] at hK; exact hK
    · rw [if_pos (by omega), if_neg (by omega)] at hK; exact hK
    · rw [if_pos (by omega), if_pos (by omega)] at hK; exact hK
  have hN : num n a b c = ix n (mn3 a b c) (a + b + c - mn3 a b c - mx3 a b c) (mx3 a b c) := rfl
  rw [hN, ix_e s1 s2 s3] at hQ
  clear hN
  generalize mn3 a b c = x at *
  generalize mx3 a b c = z at *
  generalize hy : a + b + c - x - z = y at *
  refine ⟨fun v i => 0 ≤ i ∧ i ≤ x ∧ v = pA n i, fun v i => (x - i).toNat, ⟨by omega, by omega, (pA_0 n).symm⟩, fun v i ⟨h0, h1, hv⟩ => ⟨by omega, by omega, fun h => ?_, fun h => ?_⟩⟩
  · have e : i = x := by omega
    subst e
    refine ⟨fun v j => i < j ∧ j ≤ y ∧ v = pB n i j, fun v j => (y - j).toNat, ⟨by omega, by omega, by rw [pB_0 h0]; exact hv⟩, fun v j ⟨j0, j1, hv⟩ => ⟨by omega, by omega, fun h => ?_, fun h => ?_⟩⟩
    · have e : j = y := by omega
      subst e
      rw [hv, show pB n i j + z - j - 1 = pB n i j + (z - j - 1) by omega]
      exact hQ
    · refine ⟨⟨by omega, by omega, ?_⟩, by dsimp only; omega⟩
      rw [pB_s h0 j0 (by omega), hv]
  · have hm := mul_rg (x := n - 1 - i) (y := n - 2 - i) (M := 10) (by omega) (by omega) (by omega) (by omega)
    refine ⟨by omega, hm.1, ⟨by omega, by omega, ?_⟩, by dsimp only; omega⟩
    rw [pA_s h0 (by omega), hv]
def TBm (s : Sg) (n : Int) : Prop := 3 ≤ n ∧ n ≤ 9 ∧ s 0 7 = n ∧ s 0 8 = C3 n ∧ ∀ k : Int, 0 ≤ k → k < C3 n → s 4 (3 * k) = tp n k 0 ∧ s 4 (3 * k + 1) = tp n k 1 ∧ s 4 (3 * k + 2) = tp n k 2
theorem ok_X2_inCommon {n a b : Int} {s : Sg} {Q : Int → Prop} (T : TBm s n) (a0 : 0 ≤ a) (a1 : a < C3 n) (b0 : 0 ≤ b) (b1 : b < C3 n) (hQ : Q (comn n a b)) : wp_X2_inCommon a b s Q := by
  obtain ⟨n0, n1, e0, e1, tb⟩ := T
  have hb := C3_b (show 0 ≤ n by omega) (show n ≤ 10 by omega)
  have hb2 := hb.2.2.1 n1
  have ta := tp_in (show n ≤ 10 by omega) a0 a1
  have tbb := tp_in (show n ≤ 10 by omega) b0 b1
  have key : ∀ k i : Int, 0 ≤ k → k < C3 n → 0 ≤ i → i < 3 → s 4 (3 * k + i) = tp n k i := fun k i h0 h1 i0 i1 => by
    obtain ⟨q0, q1, q2⟩ := tb k h0 h1
    rcases (show i = 0 ∨ i = 1 ∨ i = 2 by omega) with rfl | rfl | rfl
    · rw [Int.add_zero]; exact q0
    · exact q1
    · exact q2
  have krg : ∀ k i : Int, 0 ≤ k → k < C3 n → 0 ≤ i → i < 3 → Rg (tp n k i) := fun k i h0 h1 i0 i1 => by
    have := tp_in (show n ≤ 10 by omega) h0 h1
    rcases (show i = 0 ∨ i = 1 ∨ i = 2 by omega) with rfl | rfl | rfl <;> omega
  unfold wp_X2_inCommon
  refine ⟨fun r i => 0 ≤ i ∧ i ≤ 3 ∧ r = sm (fun i => b2i (hasP n b (tp n a i))) i.toNat, fun r i => (3 - i).toNat, ⟨by omega, by omega, rfl⟩, fun r i ⟨h0, h1, hr⟩ => ⟨by omega, fun h => ?_, fun h => ?_⟩⟩
  · have e : i = 3 := by omega
    subst e
    have e2 : r = comn n a b := by
      rw [hr]
      unfold comn
      show 0 + b2i (hasP n b (tp n a (0 : Nat))) + b2i (hasP n b (tp n a (1 : Nat))) + b2i (hasP n b (tp n a (2 : Nat))) = _
      rw [Int.zero_add]
      rfl
    rw [e2]
    exact hQ
  · refine ⟨fun r2 j => 0 ≤ j ∧ j ≤ 3 ∧ r2 = r + sm (fun j => b2i (tp n b j = tp n a i)) j.toNat, fun r2 j => (3 - j).toNat, ⟨by omega, by omega, by rw [sm_0]; omega⟩, fun r2 j ⟨j0, j1, hr2⟩ => ⟨by omega, fun g => ?_, fun g => ?_⟩⟩
    · have e : j = 3 := by omega
      subst e
      refine ⟨⟨by omega, by omega, ?_⟩, by dsimp only; omega⟩
      rw [sm_s _ h0, hr2, hr]
      congr 1
      show 0 + b2i (tp n b (0 : Nat) = tp n a i) + b2i (tp n b (1 : Nat) = tp n a i) + b2i (tp n b (2 : Nat) = tp n a i) = b2i (hasP n b (tp n a i))
      rw [Int.zero_add]
      show b2i (tp n b 0 = tp n a i) + b2i (tp n b 1 = tp n a i) + b2i (tp n b 2 = tp n a i) = b2i (hasP n b (tp n a i))
      by_cases p0 : tp n b 0 = tp n a i
      · rw [b2i_t p0, b2i_f (show ¬ tp n b 1 = tp n a i by omega), b2i_f (show ¬ tp n b 2 = tp n a i by omega), b2i_t (show hasP n b (tp n a i) from Or.inl p0)]; rfl
      · by_cases p1 : tp n b 1 = tp n a i
        · rw [b2i_f p0, b2i_t p1, b2i_f (show ¬ tp n b 2 = tp n a i by omega), b2i_t (show hasP n b (tp n a i) from Or.inr (Or.inl p1))]; rfl
        · by_cases p2 : tp n b 2 = tp n a i
          · rw [b2i_f p0, b2i_f p1, b2i_t p2, b2i_t (show hasP n b (tp n a i) from Or.inr (Or.inr p2))]; rfl
          · rw [b2i_f p0, b2i_f p1, b2i_f p2, b2i_f (show ¬ hasP n b (tp n a i) by unfold hasP; omega)]; rfl
    · rw [key a i a0 a1 h0 h, key b j b0 b1 j0 g]
      have hs := sm_s (fun j => b2i (tp n b j = tp n a i)) j0
      refine ⟨by omega, by omega, by omega, by omega, krg a i a0 a1 h0 h, krg b j b0 b1 j0 g, ?_⟩
      unfold JN1
      refine ⟨fun p => ⟨⟨by omega, by omega, ?_⟩, by dsimp only; omega⟩, fun p => ⟨⟨by omega, by omega, ?_⟩, by dsimp only; omega⟩⟩
      · rw [hs, hr2, b2i_f (fun q => p q.symm)]; omega
      · rw [hs, hr2, b2i_t p.symm]; omega
