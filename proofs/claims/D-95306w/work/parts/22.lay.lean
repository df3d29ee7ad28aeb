/-! PLAIN LAWS, 3: laying the chords, what a chord has, its number, for both -/
def TBx (kc kr : Nat) (s : Sg) (n : Int) : Prop := 3 ≤ n ∧ n ≤ 10 ∧ s kc 0 = n ∧ s kc 1 = C3 n ∧ ∀ k : Int, 0 ≤ k → k < C3 n → s (kr + k.toNat) 0 = tp n k 0 ∧ s (kr + k.toNat) 1 = tp n k 1 ∧ s (kr + k.toNat) 2 = tp n k 2
def hasP (n k w : Int) : Prop := tp n k 0 = w ∨ tp n k 1 = w ∨ tp n k 2 = w
theorem ok_X1_has {kc kr ks kl kz : Nat} {n k w : Int} {s : Sg} {Q : Int → Prop} (T : TBx kc kr s n) (h0 : 0 ≤ k) (h1 : k < C3 n) (hw : Rg w) (q1 : hasP n k w → Q 1) (q0 : ¬ hasP n k w → Q 0) : wp_X1_has kc kr ks kl kz k w s Q := by
  obtain ⟨n0, n1, e0, e1, tb⟩ := T
  obtain ⟨t0, t1, t2⟩ := tb k h0 h1
  have hb := C3_b (show 0 ≤ n by omega) n1
  have ht := tp_in n1 h0 h1
  unfold wp_X1_has JN0
  rw [t0, t1, t2]
  unfold hasP at q1 q0
  refine ⟨h0, by omega, by omega, hw, fun q => q1 (Or.inl q), fun a0 => ⟨h0, by omega, by omega, hw, fun q => q1 (Or.inr (Or.inl q)), fun a1 => ⟨h0, by omega, by omega, hw, fun a2 => q0 ?_, fun q => q1 (Or.inr (Or.inr q))⟩⟩⟩
  rintro (q | q | q)
  · exact a0 q
  · exact a1 q
  · exact a2 q
theorem ok_X1_number {kc kr ks kl kz : Nat} {n a b c : Int} {s : Sg} {Q : Int → Prop} (T : TBx kc kr s n) (hd : dst n a b c) (hQ : Q (num n a b c)) : wp_X1_number kc kr ks kl kz a b c s Q := by
  have n1 := T.2.1
  have n0 := T.1
  have hin := num_in n1 hd
  have hb := C3_b (show 0 ≤ n by omega) n1
  have hh := num_has n1 hd
  have hd' := hd
  unfold dst at hd'
  unfold wp_X1_number
  refine ⟨fun k => 0 ≤ k ∧ k ≤ num n a b c, fun k => (num n a b c - k).toNat, ⟨by omega, by omega⟩, fun k ⟨h0, h1⟩ => ?_⟩
  have step : k ≠ num n a b c → (0 ≤ k + 1 ∧ k + 1 ≤ num n a b c) ∧ (num n a b c - (k + 1)).toNat < (num n a b c - k).toNat := fun q => by omega
  refine ok_X1_has T h0 (by omega) (by omega) (fun p1 => ?_) (fun p1 => ?_)
  · unfold JN0
    refine tf1 ?_
    refine ok_X1_has T h0 (by omega) (by omega) (fun p2 => ?_) (fun p2 => ?_)
    · refine tf1 ?_
      refine ok_X1_has T h0 (by omega) (by omega) (fun p3 => ?_) (fun p3 => ?_)
      · refine tt1 ?_
        have e : num n a b c = k := num_of n1 h0 (by omega) hd (by unfold hasP at p1; omega) (by unfold hasP at p2; omega) (by unfold hasP at p3; omega)
        rw [← e]
        exact hQ
      · refine tt0 (step fun q => p3 ?_)
        rw [q]
        have := (hh c).mp (Or.inr (Or.inr rfl))
        unfold hasP
        omega
    · refine tf0 (step fun q => p2 ?_)
      rw [q]
      have := (hh b).mp (Or.inr (Or.inl rfl))
      unfold hasP
      omega
  · unfold JN0
    refine tf0 (step fun q => p1 ?_)
    rw [q]
    have := (hh a).mp (Or.inl rfl)
    unfold hasP
    omega
/-- how many strings two chords have in common -/
noncomputable def comn (n a b : Int) : Int := b2i (hasP n b (tp n a 0)) + b2i (hasP n b (tp n a 1)) + b2i (hasP n b (tp n a 2))
theorem ok_X1_common {kc kr ks kl kz : Nat} {n a b : Int} {s : Sg} {Q : Int → Prop} (T : TBx kc kr s n) (a0 : 0 ≤ a) (a1 : a < C3 n) (b0 : 0 ≤ b) (b1 : b < C3 n) (hQ : Q (comn n a b)) : wp_X1_common kc kr ks kl kz a b s Q := by
  have n1 := T.2.1
  have n0 := T.1
  have hb := C3_b (show 0 ≤ n by omega) n1
  have ht := tp_in n1 a0 a1
  obtain ⟨t0, t1, t2⟩ := T.2.2.2.2 a a0 a1
  have key : ∀ i : Int, 0 ≤ i → i < 3 → s (kr + a.toNat) i = tp n a i := fun i h0 h1 => by
    rcases (show i = 0 ∨ i = 1 ∨ i = 2 by omega) with rfl | rfl | rfl <;> assumption
  have kr' : ∀ i : Int, 0 ≤ i → i < 3 → Rg (tp n a i) := fun i h0 h1 => by
    rcases (show i = 0 ∨ i = 1 ∨ i = 2 by omega) with rfl | rfl | rfl <;> omega
  unfold wp_X1_common
  refine ⟨fun r i => 0 ≤ i ∧ i ≤ 3 ∧ r = sm (fun i => b2i (hasP n b (tp n a i))) i.toNat, fun r i => (3 - i).toNat, ⟨by omega, by omega, rfl⟩, fun r i ⟨h0, h1, hr⟩ => ⟨by omega, fun h => ?_, fun h => ?_⟩⟩
  · have e : i = 3 := by omega
    subst e
    have e2 : r = comn n a b := by
      rw [hr]
      unfold comn
      show 0 + b2i (hasP n b (tp n a (0 : Nat))) + b2i (hasP n b (tp n a (1 : Nat))) + b2i (hasP n b (tp n a (2 : Nat))) = _
      rw [Int.zero_add]
      rfl
    rw [e2]
    exact hQ
  · refine ⟨a0, by omega, h0, h, ?_⟩
    rw [key i h0 h]
    have hs := sm_s (fun i => b2i (hasP n b (tp n a i))) h0
    refine ok_X1_has T b0 b1 (kr' i h0 h) (fun p => ?_) (fun p => ?_)
    · unfold JN1
      refine tf1 ⟨⟨by omega, by omega, ?_⟩, by dsimp only; omega⟩
      rw [hs, hr, b2i_t p]
    · unfold JN1
      refine tf0 ⟨⟨by omega, by omega, ?_⟩, by dsimp only; omega⟩
      rw [hs, hr, b2i_f p]
theorem comn_b (n a b : Int) : 0 ≤ comn n a b ∧ comn n a b ≤ 3 := by
  unfold comn
  rcases b2i_01 (hasP n b (tp n a 0)) with q | q <;> rcases b2i_01 (hasP n b (tp n a 1)) with q2 | q2 <;> rcases b2i_01 (hasP n b (tp n a 2)) with q3 | q3 <;> omega
def LayK (kc kr : Nat) (s t : Sg) : Prop := ∀ (k : Nat) (j : Int), (k ≠ kc ∨ 2 ≤ j) → (k < kr ∨ kr + 120 ≤ k) → t k j = s k j
theorem ok_X1_lay {kc kr ks kl kz : Nat} {n : Int} {s : Sg} {Q : Sg → Prop} (hkc : kc < kr) (n0 : 3 ≤ n) (n1 : n ≤ 10) (hQ : ∀ t, TBx kc kr t n → LayK kc kr s t → Q t) : wp_X1_lay kc kr ks kl kz n s Q := by
  have hne : ∀ m : Nat, kc ≠ kr + m := fun m => by omega
  have hb := C3_b (show 0 ≤ n by omega) n1
  -- what holds when m chords are laid
  let I : Int → Sg → Prop := fun m t => 0 ≤ m ∧ t kc 0 = n ∧ t kc 1 = m ∧ (∀ k : Int, 0 ≤ k → k < m → t (kr + k.toNat) 0 = tp n k 0 ∧ t (kr + k.toNat) 1 = tp n k 1 ∧ t (kr + k.toNat) 2 = tp n k 2) ∧ LayK kc kr s t
  have hI : ∀ m t, I m t ↔ (0 ≤ m ∧ t kc 0 = n ∧ t kc 1 = m ∧ (∀ k : Int, 0 ≤ k → k < m → t (kr + k.toNat) 0 = tp n k 0 ∧ t (kr + k.toNat) 1 = tp n k 1 ∧ t (kr + k.toNat) 2 = tp n k 2) ∧ LayK kc kr s t) := fun _ _ => Iff.rfl
  clear_value I
  have step : ∀ (m a b c : Int) (t : Sg), I m t → m < C3 n → tp n m 0 = a → tp n m 1 = b → tp n m 2 = c → I (m + 1) (up (up (up (up t (kr + m.toNat) 0 a) (kr + m.toNat) 1 b) (kr + m.toNat) 2 c) kc 1 (m + 1)) := by
    intro m a b c t h hm ea eb ec
    obtain ⟨h0, h1, h2, h3, h4⟩ := (hI _ _).mp h
    refine (hI _ _).mpr ⟨by omega, ?_, ?_, ?_, ?_⟩
    · rw [up_at, if_neg (by omega), up_o _ _ _ _ (hne _), up_o _ _ _ _ (hne _), up_o _ _ _ _ (hne _)]
      exact h1
    · exact up_s _ _ _ _
    · intro k k0 k1
      rw [up_o _ _ _ _ (show kr + k.toNat ≠ kc by omega)]
      by_cases q : k = m
      · subst q
        rw [up_at, up_at, up_at, up_at, up_at, up_at, up_at, up_at, up_at]
        simp [ea, eb, ec]
      · have hk : kr + k.toNat ≠ kr + m.toNat := by omega
        rw [up_o _ _ _ _ hk, up_o _ _ _ _ hk, up_o _ _ _ _ hk]
        exact h3 k k0 (by omega)
    · intro k j hk hk2
      have e1 : k ≠ kr + m.toNat := by omega
      rw [up_at, if_neg (by omega), up_o _ _ _ _ e1, up_o _ _ _ _ e1, up_o _ _ _ _ e1]
      exact h4 k j hk hk2
  have fin : ∀ t, I (C3 n) t → Q t := fun t h => by
    obtain ⟨h0, h1, h2, h3, h4⟩ := (hI _ _).mp h
    exact hQ t ⟨n0, n1, h1, h2, h3⟩ h4
  unfold wp_X1_lay
  refine ⟨fun a t => 0 ≤ a ∧ a ≤ n ∧ I (pA n a) t, fun a t => (n - a).toNat, ⟨by omega, by omega, (hI _ _).mpr ⟨by rw [pA_0]; omega, ?_, ?_, ?_, ?_⟩⟩, fun a t ⟨a0, a1, ht⟩ => ⟨by omega, by omega, fun h => ?_, fun h => ?_⟩⟩
  · rw [up_at, if_neg (by omega)]; exact up_s _ _ _ _
  · rw [pA_0]; exact up_s _ _ _ _
  · intro k k0 k1; rw [pA_0] at k1; omega
  · intro k j hk hk2; rw [up_at, if_neg (by omega), up_at, if_neg (by omega)]
  · have e : a = n := by omega
    rw [e, pA_n] at ht
    exact fin t ht
  · refine ⟨fun b t => a < b ∧ b ≤ n ∧ I (pB n a b) t, fun b t => (n - b).toNat, ⟨by omega, by omega, by rw [pB_0 a0]; exact ht⟩, fun b t ⟨b0, b1, ht⟩ => ⟨by omega, by omega, fun h => ?_, fun h => ?_⟩⟩
    · have e : b = n := by omega
      rw [e, pB_n n1 a0 (by omega)] at ht
      exact ⟨⟨by omega, by omega, ht⟩, by dsimp only; omega⟩
    · refine ⟨fun c t => b < c ∧ c ≤ n ∧ I (pB n a b + (c - b - 1)) t, fun c t => (n - c).toNat, ⟨by omega, by omega, by rw [show pB n a b + (b + 1 - b - 1) = pB n a b by omega]; exact ht⟩, fun c t ⟨c0, c1, ht⟩ => ⟨by omega, by omega, fun h => ?_, fun h => ?_⟩⟩
      · have e : c = n := by omega
        rw [e] at ht
        refine ⟨⟨by omega, by omega, ?_⟩, by dsimp only; omega⟩
        rw [pB_s a0 b0 (by omega), show pB n a b + (n - 1 - b) = pB n a b + (n - b - 1) by omega]
        exact ht
      · have hx := tp_ix n1 a0 b0 c0 h
        rw [ix_e a0 b0 c0] at hx
        obtain ⟨x0, x1, x2, x3, x4⟩ := hx
        have e2 := ((hI _ _).mp ht).2.2.1
        have hs := step _ a b c t ht x4 x0 x1 x2
        rw [← e2] at hs x3 x4
        simp only [up_o _ _ _ _ (hne _)]
        refine ⟨x3, by omega, x3, by omega, x3, by omega, ⟨by omega, by omega, ?_⟩, by omega⟩
        rw [show pB n a b + (c + 1 - b - 1) = t kc 1 + 1 by omega]
        exact hs
