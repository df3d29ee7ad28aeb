/-! PLAIN LAWS, 2: the table of chords of n strings (n ≤ 10), in order; a chord's number -/
def c2N (m : Nat) : Nat := m * (m - 1) / 2
def pAN (n : Nat) : Nat → Nat
  | 0 => 0
  | a + 1 => pAN n a + c2N (n - 1 - a)
def pBN (n a : Nat) : Nat → Nat
  | 0 => pAN n a
  | b + 1 => if a < b then pBN n a b + (n - 1 - b) else pAN n a
def posN (n a b c : Nat) : Nat := pBN n a b + (c - b - 1)
/-- a triple as one number: 121 a + 11 b + c -/
def tabN (n : Nat) : List Nat := (List.range n).flatMap fun a => (List.range n).flatMap fun b => (List.range n).flatMap fun c => if a < b ∧ b < c then [121 * a + 11 * b + c] else []
def trN (n k : Nat) : Nat := (tabN n).getD k 0
set_option maxRecDepth 100000 in
theorem tabN_1c : ((List.range 11).all fun n => (List.range n).all fun a => (List.range n).all fun b => (List.range n).all fun c => !(decide (a < b) && decide (b < c)) || (decide (trN n (posN n a b c) = 121 * a + 11 * b + c) && decide (posN n a b c < pAN n n))) = true := by decide +kernel
theorem tabN_1 (n : Nat) (hn : n < 11) (a : Nat) (ha : a < n) (b : Nat) (hb : b < n) (c : Nat) (hc : c < n) (h : a < b ∧ b < c) : trN n (posN n a b c) = 121 * a + 11 * b + c ∧ posN n a b c < pAN n n := by
  have h1 := List.all_eq_true.mp tabN_1c n (List.mem_range.mpr hn)
  have h2 := List.all_eq_true.mp h1 a (List.mem_range.mpr ha)
  have h3 := List.all_eq_true.mp h2 b (List.mem_range.mpr hb)
  have h4 := List.all_eq_true.mp h3 c (List.mem_range.mpr hc)
  simp only [h.1, h.2, decide_true, Bool.and_self, Bool.not_true, Bool.false_or, Bool.and_eq_true, decide_eq_true_eq] at h4
  exact h4
set_option maxRecDepth 100000 in
theorem tabN_2 : ∀ n, n < 11 → ∀ k, k < pAN n n → (trN n k / 121 < trN n k / 11 % 11 ∧ trN n k / 11 % 11 < trN n k % 11 ∧ trN n k % 11 < n ∧ posN n (trN n k / 121) (trN n k / 11 % 11) (trN n k % 11) = k) := by decide +kernel
set_option maxRecDepth 100000 in
theorem pBN_n : ∀ n, n < 11 → ∀ a, a < n → pBN n a n = pAN n (a + 1) := by decide +kernel
set_option maxRecDepth 100000 in
theorem pAN_C : ∀ n, n < 11 → pAN n n = n * (n - 1) * (n - 2) / 6 ∧ pAN n n ≤ 120 ∧ (n < 10 → pAN n n ≤ 84) ∧ (3 ≤ n → 1 ≤ pAN n n) := by decide +kernel
theorem pBN_s {n a b : Nat} (h : a < b) : pBN n a (b + 1) = pBN n a b + (n - 1 - b) := by
  show (if a < b then _ else _) = _
  rw [if_pos h]
theorem pBN_0 (n a : Nat) : pBN n a (a + 1) = pAN n a := by
  show (if a < a then _ else _) = _
  rw [if_neg (Nat.lt_irrefl a)]
/-- the i-th string of chord k of n strings; how many chords; the place of a < b < c -/
def tp (n k i : Int) : Int := if i = 0 then ((trN n.toNat k.toNat / 121 : Nat) : Int) else if i = 1 then ((trN n.toNat k.toNat / 11 % 11 : Nat) : Int) else ((trN n.toNat k.toNat % 11 : Nat) : Int)
def C3 (n : Int) : Int := (pAN n.toNat n.toNat : Nat)
def ix (n a b c : Int) : Int := (posN n.toNat a.toNat b.toNat c.toNat : Nat)
def pA (n a : Int) : Int := (pAN n.toNat a.toNat : Nat)
def pB (n a b : Int) : Int := (pBN n.toNat a.toNat b.toNat : Nat)
theorem tp_ix {n a b c : Int} (hn : n ≤ 10) (h0 : 0 ≤ a) (h1 : a < b) (h2 : b < c) (h3 : c < n) : tp n (ix n a b c) 0 = a ∧ tp n (ix n a b c) 1 = b ∧ tp n (ix n a b c) 2 = c ∧ 0 ≤ ix n a b c ∧ ix n a b c < C3 n := by
  have h := tabN_1 n.toNat (by omega) a.toNat (by omega) b.toNat (by omega) c.toNat (by omega) (by omega)
  unfold tp ix C3
  rw [Int.toNat_natCast, h.1]
  have h4 := h.2
  refine ⟨?_, ?_, ?_, ?_, ?_⟩
  · rw [if_pos rfl]; omega
  · rw [if_neg (by decide), if_pos rfl]; omega
  · rw [if_neg (by decide), if_neg (by decide)]; omega
  · omega
  · omega
theorem tp_in {n k : Int} (hn : n ≤ 10) (h0 : 0 ≤ k) (h1 : k < C3 n) : 0 ≤ tp n k 0 ∧ tp n k 0 < tp n k 1 ∧ tp n k 1 < tp n k 2 ∧ tp n k 2 < n ∧ ix n (tp n k 0) (tp n k 1) (tp n k 2) = k := by
  unfold C3 at h1
  have hn0 : 0 ≤ n := by
    rcases Int.lt_or_le n 0 with q | q
    · have : n.toNat = 0 := by omega
      rw [this] at h1
      have e : pAN 0 0 = 0 := rfl
      rw [e] at h1
      omega
    · exact q
  have h := tabN_2 n.toNat (by omega) k.toNat (by omega)
  have e0 : tp n k 0 = ((trN n.toNat k.toNat / 121 : Nat) : Int) := by unfold tp; rw [if_pos rfl]
  have e1 : tp n k 1 = ((trN n.toNat k.toNat / 11 % 11 : Nat) : Int) := by unfold tp; rw [if_neg (by decide), if_pos rfl]
  have e2 : tp n k 2 = ((trN n.toNat k.toNat % 11 : Nat) : Int) := by unfold tp; rw [if_neg (by decide), if_neg (by decide)]
  rw [e0, e1, e2]
  refine ⟨by omega, by omega, by omega, by omega, ?_⟩
  unfold ix
  rw [Int.toNat_natCast, Int.toNat_natCast, Int.toNat_natCast, h.2.2.2]
  omega
theorem C3_b {n : Int} (h0 : 0 ≤ n) (hn : n ≤ 10) : 0 ≤ C3 n ∧ C3 n ≤ 120 ∧ (n ≤ 9 → C3 n ≤ 84) ∧ (3 ≤ n → 1 ≤ C3 n) := by
  have h := pAN_C n.toNat (by omega)
  unfold C3
  refine ⟨by omega, by omega, fun q => ?_, fun q => ?_⟩
  · have := h.2.2.1 (by omega); omega
  · have := h.2.2.2 (by omega); omega
theorem C3_f {n : Int} (h0 : 2 ≤ n) (hn : n ≤ 10) : n * (n - 1) * (n - 2) / 6 = C3 n := by
  have h := (pAN_C n.toNat (by omega)).1
  unfold C3
  rw [h]
  obtain ⟨m, rfl⟩ : ∃ m : Nat, n = m := ⟨n.toNat, by omega⟩
  rw [Int.toNat_natCast]
  have e1 : ((m - 1 : Nat) : Int) = (m : Int) - 1 := by omega
  have e2 : ((m - 2 : Nat) : Int) = (m : Int) - 2 := by omega
  rw [Int.natCast_ediv, Int.natCast_mul, Int.natCast_mul, e1, e2]
  rfl
theorem pA_0 (n : Int) : pA n 0 = 0 := rfl
theorem pA_n (n : Int) : pA n n = C3 n := rfl
theorem pB_0 {n a : Int} (h : 0 ≤ a) : pB n a (a + 1) = pA n a := by
  unfold pB pA
  have e : (a + 1).toNat = a.toNat + 1 := by omega
  rw [e, pBN_0]
theorem pB_s {n a b : Int} (h0 : 0 ≤ a) (h : a < b) (hb : b < n) : pB n a (b + 1) = pB n a b + (n - 1 - b) := by
  unfold pB
  have e : (b + 1).toNat = b.toNat + 1 := by omega
  rw [e, pBN_s (by omega)]
  omega
theorem pB_n {n a : Int} (hn : n ≤ 10) (h0 : 0 ≤ a) (h : a < n) : pB n a n = pA n (a + 1) := by
  unfold pB pA
  have e : (a + 1).toNat = a.toNat + 1 := by omega
  rw [e, pBN_n n.toNat (by omega) a.toNat (by omega)]
theorem pA_s {n a : Int} (h0 : 0 ≤ a) (h : a < n) : pA n (a + 1) = pA n a + (n - 1 - a) * (n - 2 - a) / 2 := by
  unfold pA
  have e : (a + 1).toNat = a.toNat + 1 := by omega
  rw [e]
  show ((pAN n.toNat a.toNat + c2N (n.toNat - 1 - a.toNat) : Nat) : Int) = _
  unfold c2N
  rcases Int.lt_or_le (a + 1) n with q | q
  · have e1 : ((n.toNat - 1 - a.toNat : Nat) : Int) = n - 1 - a := by omega
    have e2 : ((n.toNat - 1 - a.toNat - 1 : Nat) : Int) = n - 2 - a := by omega
    rw [Int.natCast_add, Int.natCast_ediv, Int.natCast_mul, e1, e2]
    rfl
  · have e1 : n.toNat - 1 - a.toNat = 0 := by omega
    rw [e1]
    have e2 : n - 1 - a = 0 := by omega
    rw [e2]
    simp
theorem ix_e {n a b c : Int} (h0 : 0 ≤ a) (h1 : a < b) (h2 : b < c) : ix n a b c = pB n a b + (c - b - 1) := by
  unfold ix pB posN
  omega
/-- the number of a chord by its strings in any order -/
def mn3 (x y z : Int) : Int := if x < y then (if x < z then x else z) else (if y < z then y else z)
def mx3 (x y z : Int) : Int := if x > y then (if x > z then x else z) else (if y > z then y else z)
def num (n x y z : Int) : Int := ix n (mn3 x y z) (x + y + z - mn3 x y z - mx3 x y z) (mx3 x y z)
def dst (n x y z : Int) : Prop := 0 ≤ x ∧ x < n ∧ 0 ≤ y ∧ y < n ∧ 0 ≤ z ∧ z < n ∧ x ≠ y ∧ x ≠ z ∧ y ≠ z
theorem srt {n x y z : Int} (h : dst n x y z) : 0 ≤ mn3 x y z ∧ mn3 x y z < x + y + z - mn3 x y z - mx3 x y z ∧ x + y + z - mn3 x y z - mx3 x y z < mx3 x y z ∧ mx3 x y z < n := by
  unfold dst at h
  unfold mn3 mx3
  repeat' split
  all_goals omega
theorem mn3_12 (x y z : Int) : mn3 x y z = mn3 y x z := by
  unfold mn3
  repeat' split
  all_goals omega
theorem mx3_12 (x y z : Int) : mx3 x y z = mx3 y x z := by
  unfold mx3
  repeat' split
  all_goals omega
theorem mn3_23 (x y z : Int) : mn3 x y z = mn3 x z y := by
  unfold mn3
  repeat' split
  all_goals omega
theorem mx3_23 (x y z : Int) : mx3 x y z = mx3 x z y := by
  unfold mx3
  repeat' split
  all_goals omega
theorem num_12 (n x y z : Int) : num n x y z = num n y x z := by
  unfold num
  rw [mn3_12, mx3_12, show x + y + z = y + x + z by omega]
theorem num_23 (n x y z : Int) : num n x y z = num n x z y := by
  unfold num
  rw [mn3_23, mx3_23, show x + y + z = x + z + y by omega]
theorem num_ord {n a b c : Int} (h1 : a < b) (h2 : b < c) : num n a b c = ix n a b c := by
  have e1 : mn3 a b c = a := by unfold mn3; repeat' split <;> omega
  have e2 : mx3 a b c = c := by unfold mx3; repeat' split <;> omega
  unfold num
  rw [e1, e2, show a + b + c - a - c = b by omega]
/-- chord k has the strings x, y, z, in some order -/
def isP (n k x y z : Int) : Prop := dst n x y z ∧ 0 ≤ k ∧ k < C3 n ∧ (∀ w : Int, (w = x ∨ w = y ∨ w = z) ↔ (w = tp n k 0 ∨ w = tp n k 1 ∨ w = tp n k 2))
theorem num_in {n x y z : Int} (hn : n ≤ 10) (h : dst n x y z) : 0 ≤ num n x y z ∧ num n x y z < C3 n := by
  obtain ⟨s1, s2, s3, s4⟩ := srt h
  have := tp_ix hn s1 s2 s3 s4
  unfold num
  exact ⟨this.2.2.2.1, this.2.2.2.2⟩
theorem num_has {n x y z : Int} (hn : n ≤ 10) (h : dst n x y z) : ∀ w : Int, (w = x ∨ w = y ∨ w = z) ↔ (w = tp n (num n x y z) 0 ∨ w = tp n (num n x y z) 1 ∨ w = tp n (num n x y z) 2) := by
  obtain ⟨s1, s2, s3, s4⟩ := srt h
  obtain ⟨t0, t1, t2, -, -⟩ := tp_ix hn s1 s2 s3 s4
  intro w
  unfold num
  rw [t0, t1, t2]
  unfold dst at h
  unfold mn3 mx3
  repeat' split
  all_goals omega
theorem num_tp {n k : Int} (hn : n ≤ 10) (h0 : 0 ≤ k) (h1 : k < C3 n) : num n (tp n k 0) (tp n k 1) (tp n k 2) = k := by
  obtain ⟨t0, t1, t2, t3, t4⟩ := tp_in hn h0 h1
  rw [num_ord t1 t2, t4]
theorem dst_tp {n k : Int} (hn : n ≤ 10) (h0 : 0 ≤ k) (h1 : k < C3 n) : dst n (tp n k 0) (tp n k 1) (tp n k 2) := by
  obtain ⟨t0, t1, t2, t3, t4⟩ := tp_in hn h0 h1
  unfold dst
  omega
/-- a chord that has three different strings is theirs -/
theorem num_of {n k x y z : Int} (hn : n ≤ 10) (h0 : 0 ≤ k) (h1 : k < C3 n) (h : dst n x y z) (hx : x = tp n k 0 ∨ x = tp n k 1 ∨ x = tp n k 2) (hy : y = tp n k 0 ∨ y = tp n k 1 ∨ y = tp n k 2) (hz : z = tp n k 0 ∨ z = tp n k 1 ∨ z = tp n k 2) : num n x y z = k := by
  have e := num_tp hn h0 h1
  generalize tp n k 0 = a at *
  generalize tp n k 1 = b at *
  generalize tp n k 2 = c at *
  unfold dst at h
  rcases hx with rfl | rfl | rfl <;> rcases hy with rfl | rfl | rfl <;> rcases hz with rfl | rfl | rfl <;> first | exact e | (exfalso; omega) | (rw [num_12]; exact e) | (rw [num_23]; exact e) | (rw [num_12, num_23]; exact e) | (rw [num_23, num_12]; exact e) | (rw [num_12, num_23, num_12]; exact e)
/-- num of a permuted triple of a chord, and back -/
theorem num_map {n x y z : Int} (hn : n ≤ 10) (h : dst n x y z) (S : Int → Int) : num n (S (tp n (num n x y z) 0)) (S (tp n (num n x y z) 1)) (S (tp n (num n x y z) 2)) = num n (S x) (S y) (S z) := by
  obtain ⟨s1, s2, s3, s4⟩ := srt h
  obtain ⟨t0, t1, t2, -, -⟩ := tp_ix hn s1 s2 s3 s4
  have e : num n x y z = ix n (mn3 x y z) (x + y + z - mn3 x y z - mx3 x y z) (mx3 x y z) := rfl
  rw [e, t0, t1, t2]
  unfold dst at h
  have key : (mn3 x y z = x ∧ mx3 x y z = z) ∨ (mn3 x y z = x ∧ mx3 x y z = y) ∨ (mn3 x y z = y ∧ mx3 x y z = x) ∨ (mn3 x y z = y ∧ mx3 x y z = z) ∨ (mn3 x y z = z ∧ mx3 x y z = x) ∨ (mn3 x y z = z ∧ mx3 x y z = y) := by
    unfold mn3 mx3
    repeat' split
    all_goals omega
  rcases key with ⟨a, b⟩ | ⟨a, b⟩ | ⟨a, b⟩ | ⟨a, b⟩ | ⟨a, b⟩ | ⟨a, b⟩ <;> rw [a, b]
  · rw [show x + y + z - x - z = y by omega]
  · rw [show x + y + z - x - y = z by omega, num_23]
  · rw [show x + y + z - y - x = z by omega, num_23, num_12]
  · rw [show x + y + z - y - z = x by omega, num_12]
  · rw [show x + y + z - z - x = y by omega, num_12, num_23, num_12]
  · rw [show x + y + z - z - y = x by omega, num_12, num_23]
