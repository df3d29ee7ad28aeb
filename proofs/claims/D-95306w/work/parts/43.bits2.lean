/-! PLAIN LAWS, 24: bits, more -/
def bq (x k : Int) : Prop := x.toNat.testBit k.toNat = true
theorem bq_i (x k : Int) : b2i (bq x k) = ((x.toNat / 2 ^ k.toNat % 2 : Nat) : Int) := by
  have e : x.toNat.testBit k.toNat = decide (x.toNat / 2 ^ k.toNat % 2 = 1) := Nat.testBit_eq_decide_div_mod_eq
  by_cases h : x.toNat / 2 ^ k.toNat % 2 = 1
  · rw [b2i_t (by unfold bq; rw [e]; exact decide_eq_true h), h]; rfl
  · rw [b2i_f (by unfold bq; rw [e]; intro z; exact h (of_decide_eq_true z))]
    have : x.toNat / 2 ^ k.toNat % 2 = 0 := by omega
    rw [this]; rfl
theorem div_nat {x : Int} (x0 : 0 ≤ x) (k : Nat) : x / 2 ^ k = ((x.toNat / 2 ^ k : Nat) : Int) := by
  have e : x = (x.toNat : Int) := (Int.toNat_of_nonneg x0).symm
  rw [e]
  have e2 : ((2 : Int) ^ k) = ((2 ^ k : Nat) : Int) := by rw [Int.natCast_pow]; rfl
  rw [e2, ← Int.natCast_ediv]
  rfl
theorem band_1 {x : Int} (k : Int) (x0 : 0 ≤ x) : band (x / 2 ^ k.toNat) 1 = b2i (bq x k) := by
  rw [bq_i, div_nat x0]
  unfold band
  rw [Int.toNat_natCast]
  show ((_ &&& 1 : Nat) : Int) = _
  rw [Nat.and_one_is_mod]
theorem bq_and (a b k : Int) : bq (band a b) k ↔ bq a k ∧ bq b k := by
  unfold bq band
  rw [Int.toNat_natCast, Nat.testBit_and, Bool.and_eq_true]
theorem bq_or (a b k : Int) : bq (bor a b) k ↔ bq a k ∨ bq b k := by
  unfold bq bor
  rw [Int.toNat_natCast, Nat.testBit_or, Bool.or_eq_true]
theorem pow_nat (j : Nat) : ((1 : Int) * 2 ^ j) = ((2 ^ j : Nat) : Int) := by rw [Int.one_mul, Int.natCast_pow]; rfl
theorem pow_pos1 (j : Nat) : (0 : Int) ≤ 1 * 2 ^ j := by rw [pow_nat]; exact Int.natCast_nonneg _
theorem bq_pow {j k : Int} (j0 : 0 ≤ j) (k0 : 0 ≤ k) : bq ((1 : Int) * 2 ^ j.toNat) k ↔ k = j := by
  unfold bq
  rw [pow_nat, Int.toNat_natCast, Nat.testBit_two_pow]
  constructor
  · intro h; have := of_decide_eq_true h; omega
  · intro h; rw [h]; exact decide_eq_true rfl
theorem bq_0 (k : Int) : ¬ bq 0 k := by
  unfold bq
  show ¬ Nat.testBit 0 _ = true
  rw [Nat.zero_testBit]; decide
theorem bits_eq {a b : Int} (a0 : 0 ≤ a) (b0 : 0 ≤ b) (h : ∀ k : Int, 0 ≤ k → (bq a k ↔ bq b k)) : a = b := by
  have e : a.toNat = b.toNat := Nat.eq_of_testBit_eq (fun i => by
    have := h i (by omega)
    unfold bq at this
    rw [Int.toNat_natCast] at this
    exact Bool.eq_iff_iff.mpr this)
  omega
theorem band_sub {x m : Int} (x0 : 0 ≤ x) (m0 : 0 ≤ m) : band x m = m ↔ ∀ k : Int, 0 ≤ k → bq m k → bq x k := by
  constructor
  · intro h k k0 hk
    rw [← h] at hk
    exact ((bq_and x m k).mp hk).1
  · intro h
    exact bits_eq (band_nn _ _) m0 (fun k k0 => ⟨fun q => ((bq_and x m k).mp q).2, fun q => (bq_and x m k).mpr ⟨h k k0 q, q⟩⟩)
theorem band_00 {x m : Int} : band x m = 0 ↔ ∀ k : Int, 0 ≤ k → bq x k → ¬ bq m k := by
  constructor
  · intro h k k0 h1 h2
    have := (bq_and x m k).mpr ⟨h1, h2⟩
    rw [h] at this
    exact bq_0 k this
  · intro h
    exact bits_eq (band_nn _ _) (Int.le_refl 0) (fun k k0 => ⟨fun q => absurd ((bq_and x m k).mp q).2 (h k k0 ((bq_and x m k).mp q).1), fun q => absurd q (bq_0 k)⟩)
/-- how many of the first n bits -/
noncomputable def pop (n : Nat) (v : Int) : Int := sm (fun k => b2i (bq v k)) n
theorem pop_N (n : Nat) (v : Nat) : pop n v = (popN n v : Nat) := by
  induction n with
  | zero => rfl
  | succ n ih =>
    show sm (fun k => b2i (bq v k)) n + b2i (bq v n) = ((popN n v + v / 2 ^ n % 2 : Nat) : Int)
    have e : sm (fun k => b2i (bq v k)) n = pop n v := rfl
    rw [e, ih, bq_i]
    rfl
theorem ok_bitCount {v : Int} {Q : Int → Prop} (v0 : 0 ≤ v) (v1 : v < 4096) (hQ : Q (pop 12 v)) : wp_J10_bitCount v Q := by
  have h := List.all_eq_true.mp bc_0 v.toNat (List.mem_range.mpr (by omega))
  have h2 : wp_J10_bitCount ((v.toNat : Nat) : Int) (fun r => r = ((popN 12 v.toNat : Nat) : Int)) := @of_decide_eq_true _ (bc_dec _ _) h
  rw [← pop_N 12 v.toNat, Int.toNat_of_nonneg v0] at h2
  exact bc_w h2 hQ
theorem lt_of_bits {x : Int} {n : Nat} (x0 : 0 ≤ x) (h : ∀ k : Int, n ≤ k → ¬ bq x k) : x < 2 ^ n := by
  have h1 : x.toNat < 2 ^ n := Nat.lt_pow_two_of_testBit _ (fun i hi => by
    have := h i (by omega)
    unfold bq at this
    rw [Int.toNat_natCast] at this
    exact Bool.eq_false_iff.mpr this)
  have e2 : ((2 : Int) ^ n) = ((2 ^ n : Nat) : Int) := by rw [Int.natCast_pow]; rfl
  rw [e2]
  omega
theorem bits_of_lt {x : Int} {n : Nat} (x0 : 0 ≤ x) (h : x < 2 ^ n) (k : Int) (hk : n ≤ k) : ¬ bq x k := by
  have e2 : ((2 : Int) ^ n) = ((2 ^ n : Nat) : Int) := by rw [Int.natCast_pow]; rfl
  rw [e2] at h
  unfold bq
  rw [Nat.testBit_lt_two_pow]
  · decide
  · have h1 : x.toNat < 2 ^ n := by omega
    exact Nat.lt_of_lt_of_le h1 (Nat.pow_le_pow_right (by decide) (by omega))
theorem pop_b (n : Nat) (v : Int) : 0 ≤ pop n v ∧ pop n v ≤ n := by
  have := sm_b (f := fun k => b2i (bq v k)) 1 n (fun k _ _ => b2i_r _)
  unfold pop; omega
theorem band_shift {x y : Int} (k : Int) (x0 : 0 ≤ x) (y0 : 0 ≤ y) : band (band (x / 2 ^ k.toNat) (y / 2 ^ k.toNat)) 1 = b2i (bq (band x y) k) := by
  have e1 : band (band (x / 2 ^ k.toNat) (y / 2 ^ k.toNat)) 1 = band (band (x / 2 ^ k.toNat) (y / 2 ^ k.toNat) / 2 ^ (0 : Int).toNat) 1 := by
    show band _ 1 = band (_ / 1) 1
    rw [Int.ediv_one]
  have hs : ∀ z : Int, 0 ≤ z → (bq (z / 2 ^ k.toNat) 0 ↔ bq z k) := fun z z0 => by
    have a := bq_i (z / 2 ^ k.toNat) 0
    have b := bq_i z k
    rw [div_nat z0, Int.toNat_natCast] at a
    have e0 : (2 : Nat) ^ (0 : Int).toNat = 1 := rfl
    rw [e0, Nat.div_one, ← b] at a
    rw [← div_nat z0] at a
    constructor
    · intro h; rw [b2i_t h] at a; exact b2i_1.mp a.symm
    · intro h; rw [b2i_t h] at a; exact b2i_1.mp a
  rw [e1, band_1 _ (band_nn _ _)]
  exact b2i_c (by rw [bq_and, bq_and, hs x x0, hs y y0])
theorem pow_12 {q : Int} (q0 : 0 ≤ q) (q1 : q ≤ 12) : (1 : Int) ≤ 1 * 2 ^ q.toNat ∧ (1 : Int) * 2 ^ q.toNat ≤ 4096 := by
  rw [pow_nat]
  have h1 : 2 ^ q.toNat ≤ 2 ^ 12 := Nat.pow_le_pow_right (by decide) (by omega)
  have h2 : 1 ≤ 2 ^ q.toNat := Nat.one_le_two_pow
  have e : (2 : Nat) ^ 12 = 4096 := by decide
  omega
