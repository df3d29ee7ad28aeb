/-! NUMBERS: every int and long of the two programs as a whole number: iI z, lI z -/
abbrev Sg : Type := Nat → Int → Int
def iI (z : Int) : Int32 := Int32.ofInt z
def lI (z : Int) : Int64 := Int64.ofInt z
abbrev Rg (z : Int) : Prop := -2147483648 ≤ z ∧ z ≤ 2147483647
abbrev RgL (z : Int) : Prop := -9223372036854775808 ≤ z ∧ z ≤ 9223372036854775807
def cmpI (a b : Int) : Int := if a > b then 1 else if a = b then 0 else -1
def band (a b : Int) : Int := ((a.toNat &&& b.toNat : Nat) : Int)
def bor (a b : Int) : Int := ((a.toNat ||| b.toNat : Nat) : Int)
def bxor (a b : Int) : Int := ((a.toNat ^^^ b.toNat : Nat) : Int)
def upI (f : Int → Int) (j z : Int) : Int → Int := fun i => if i = j then z else f i
def up (s : Sg) (k : Nat) (j z : Int) : Sg := fun k' => if k' = k then upI (s k) j z else s k'
theorem iI_toInt {z : Int} (h : Rg z) : (iI z).toInt = z := Int32.toInt_ofInt_of_le (by omega) (by omega)
theorem lI_toInt {z : Int} (h : RgL z) : (lI z).toInt = z := Int64.toInt_ofInt_of_le (by omega) (by omega)
theorem iI_of (x : Int32) : iI x.toInt = x := Int32.ofInt_toInt x
theorem lI_of (x : Int64) : lI x.toInt = x := Int64.ofInt_toInt x
theorem rg_toInt (x : Int32) : Rg x.toInt := ⟨by have := Int32.le_toInt x; omega, by have := x.toInt_lt; omega⟩
theorem iI_inj {a b : Int} (ha : Rg a) (hb : Rg b) : iI a = iI b ↔ a = b := by
  rw [← Int32.toInt_inj, iI_toInt ha, iI_toInt hb]
theorem iI_le {a b : Int} (ha : Rg a) (hb : Rg b) : iI a ≤ iI b ↔ a ≤ b := by
  rw [Int32.le_iff_toInt_le, iI_toInt ha, iI_toInt hb]
theorem iI_lt {a b : Int} (ha : Rg a) (hb : Rg b) : iI a < iI b ↔ a < b := by
  rw [Int32.lt_iff_toInt_lt, iI_toInt ha, iI_toInt hb]
theorem lI_inj {a b : Int} (ha : RgL a) (hb : RgL b) : lI a = lI b ↔ a = b := by
  rw [← Int64.toInt_inj, lI_toInt ha, lI_toInt hb]
theorem lI_lt {a b : Int} (ha : RgL a) (hb : RgL b) : lI a < lI b ↔ a < b := by
  rw [Int64.lt_iff_toInt_lt, lI_toInt ha, lI_toInt hb]
theorem iI_0 : (0 : Int32) = iI 0 := by decide
theorem rg_0 : Rg 0 := by decide
theorem iI_z {a : Int} (ha : Rg a) : iI a = 0 ↔ a = 0 := by rw [iI_0]; exact iI_inj ha rg_0
theorem iI_lt0 {a : Int} (ha : Rg a) : iI a < 0 ↔ a < 0 := by rw [iI_0]; exact iI_lt ha rg_0
theorem iI_le0 {a : Int} (ha : Rg a) : iI a ≤ 0 ↔ a ≤ 0 := by rw [iI_0]; exact iI_le ha rg_0
theorem iI_0le {a : Int} (ha : Rg a) : 0 ≤ iI a ↔ 0 ≤ a := by rw [iI_0]; exact iI_le rg_0 ha
theorem iI_0lt {a : Int} (ha : Rg a) : 0 < iI a ↔ 0 < a := by rw [iI_0]; exact iI_lt rg_0 ha
theorem iI_add (a b : Int) : iI a + iI b = iI (a + b) := (Int32.ofInt_add a b).symm
theorem iI_sub (a b : Int) : iI a - iI b = iI (a - b) := (Int32.ofInt_sub a b).symm
theorem iI_mul (a b : Int) : iI a * iI b = iI (a * b) := (Int32.ofInt_mul a b).symm
theorem iI_neg (a : Int) : - iI a = iI (-a) := (Int32.ofInt_neg a).symm
theorem lI_add (a b : Int) : lI a + lI b = lI (a + b) := (Int64.ofInt_add a b).symm
theorem lI_sub (a b : Int) : lI a - lI b = lI (a - b) := (Int64.ofInt_sub a b).symm
theorem lI_mul (a b : Int) : lI a * lI b = lI (a * b) := (Int64.ofInt_mul a b).symm
theorem iI_nat (n : Nat) : iI (n : Int) = nI n := rfl
theorem lI_nat (n : Nat) : lI (n : Int) = lN n := rfl
theorem iI_pos {a : Int} (h : 0 ≤ a) : iI a = nI a.toNat := by
  rw [← iI_nat, Int.toNat_of_nonneg h]
theorem lI_pos {a : Int} (h : 0 ≤ a) : lI a = lN a.toNat := by
  rw [← lI_nat, Int.toNat_of_nonneg h]
theorem iI_clamp {z : Int} (h0 : 0 ≤ z) (h : z ≤ 2147483647) : (iI z).toNatClampNeg = z.toNat :=
  Int32.toNatClampNeg_ofInt_of_le (by omega) (by omega)
theorem iI_in {z : Int} {n : Nat} (h0 : 0 ≤ z) (h1 : z < n) (hn : (n : Int) ≤ 2147483647) : vp_in (iI z) n := by
  rw [vp_in_iff, iI_toInt (by omega)]
  exact ⟨h0, h1⟩
theorem iI_nz {b : Int} (h : Rg b) (hb : b ≠ 0) : ¬ iI b = 0 := fun q => hb ((iI_z h).mp q)
theorem lI_nz {b : Int} (h : RgL b) (hb : b ≠ 0) : ¬ lI b = 0 := fun q => hb ((lI_inj h (by decide : RgL 0)).mp q)
theorem iI_div {a b : Int} (ha : Rg a) (hb : Rg b) (h0 : 0 ≤ a) (h1 : 0 < b) : iI a / iI b = iI (a / b) := by
  apply Int32.toInt_inj.mp
  have hd : a / b ≤ a := Int.ediv_le_self b h0
  have hp : 0 ≤ a / b := Int.ediv_nonneg h0 (Int.le_of_lt h1)
  rw [Int32.toInt_div, iI_toInt ha, iI_toInt hb, Int.tdiv_eq_ediv_of_nonneg h0, iI_toInt (by omega)]
  rw [Int.bmod_eq_of_le (by omega) (by omega)]
theorem iI_rem {a b : Int} (ha : Rg a) (hb : Rg b) (h0 : 0 ≤ a) (h1 : 0 < b) : iI a - iI a / iI b * iI b = iI (a % b) := by
  rw [iI_div ha hb h0 h1, iI_mul, iI_sub]
  congr 1
  rw [Int.emod_def, Int.mul_comm]
theorem lI_div {a b : Int} (ha : RgL a) (hb : RgL b) (h0 : 0 ≤ a) (h1 : 0 < b) : lI a / lI b = lI (a / b) := by
  apply Int64.toInt_inj.mp
  have hd : a / b ≤ a := Int.ediv_le_self b h0
  have hp : 0 ≤ a / b := Int.ediv_nonneg h0 (Int.le_of_lt h1)
  rw [Int64.toInt_div, lI_toInt ha, lI_toInt hb, Int.tdiv_eq_ediv_of_nonneg h0, lI_toInt (by omega)]
  rw [Int.bmod_eq_of_le (by omega) (by omega)]
theorem lI_rem {a b : Int} (ha : RgL a) (hb : RgL b) (h0 : 0 ≤ a) (h1 : 0 < b) : lI a - lI a / lI b * lI b = lI (a % b) := by
  rw [lI_div ha hb h0 h1, lI_mul, lI_sub]
  congr 1
  rw [Int.emod_def, Int.mul_comm]
theorem band_nn (a b : Int) : 0 ≤ band a b := Int.natCast_nonneg _
theorem bor_nn (a b : Int) : 0 ≤ bor a b := Int.natCast_nonneg _
theorem bxor_nn (a b : Int) : 0 ≤ bxor a b := Int.natCast_nonneg _
theorem iI_and {a b : Int} (h0 : 0 ≤ a) (h1 : 0 ≤ b) : iI a &&& iI b = iI (band a b) := by
  rw [iI_pos h0, iI_pos h1, nx_and]
  rfl
theorem nx_or (a b : Nat) : nI a ||| nI b = nI (a ||| b) := by
  apply Int32.toBitVec_inj.1
  show BitVec.ofNat 32 a ||| BitVec.ofNat 32 b = BitVec.ofNat 32 (a ||| b)
  apply BitVec.eq_of_getLsbD_eq
  intro i hi
  simp [hi]
theorem iI_or {a b : Int} (h0 : 0 ≤ a) (h1 : 0 ≤ b) : iI a ||| iI b = iI (bor a b) := by
  rw [iI_pos h0, iI_pos h1, nx_or]
  rfl
theorem iI_xor {a b : Int} (h0 : 0 ≤ a) (h1 : 0 ≤ b) : iI a ^^^ iI b = iI (bxor a b) := by
  rw [iI_pos h0, iI_pos h1, nx_xor]
  rfl
theorem iI_k31 {k : Int} (h0 : 0 ≤ k) (h1 : k < 32) : ((iI k &&& 31).toBitVec.smod 32).toNat = k.toNat := by
  rw [iI_pos h0]
  exact s_l k.toNat (by omega)
theorem iI_shr {a k : Int} (ha : Rg a) (h0 : 0 ≤ k) (h1 : k < 32) : iI a >>> (iI k &&& 31) = iI (a / 2 ^ k.toNat) := by
  apply Int32.toInt_inj.mp
  rw [pk_shr _ _ k.toNat (iI_k31 h0 h1), iI_toInt ha, Int.shiftRight_eq_div_pow]
  have hp : (1 : Int) ≤ 2 ^ k.toNat := by
    have := Int.pow_pos (n := (2 : Int)) (m := k.toNat) (by decide)
    omega
  have e : ((2 ^ k.toNat : Nat) : Int) = 2 ^ k.toNat := by simp
  rw [e, iI_toInt]
  constructor
  · rcases Int.lt_or_le a 0 with h | h
    · have h2 : a ≤ a / 2 ^ k.toNat := by
        rw [Int.le_ediv_iff_mul_le (by omega)]
        have h3 := Int.mul_le_mul_of_nonpos_left (Int.le_of_lt h) hp
        omega
      omega
    · have := Int.ediv_nonneg h (show (0 : Int) ≤ 2 ^ k.toNat by omega)
      omega
  · rcases Int.lt_or_le a 0 with h | h
    · have := Int.ediv_lt_of_lt_mul (a := a) (b := 1) (c := 2 ^ k.toNat) (by omega) (by omega)
      omega
    · have := Int.ediv_le_self (2 ^ k.toNat) h
      omega
theorem iI_ushr {a k : Int} (h : 0 ≤ a) (ha : Rg a) (h0 : 0 ≤ k) (h1 : k < 32) : ((iI a).toUInt32 >>> ((iI k).toUInt32 &&& Int32.toUInt32 31)).toInt32 = iI (a / 2 ^ k.toNat) := by
  rw [iI_pos h, iI_pos h0, pk_ushrN (by omega) _ k.toNat (s_u k.toNat (by omega)), ← iI_nat]
  congr 1
  rw [Int.natCast_ediv, Int.toNat_of_nonneg h]
  simp
theorem iI_shl {a k : Int} (h0 : 0 ≤ k) (h1 : k < 32) : iI a <<< (iI k &&& 31) = iI (a * 2 ^ k.toNat) := by
  apply Int32.toBitVec_inj.mp
  apply BitVec.eq_of_toNat_eq
  rw [pk_shl _ _ k.toNat (iI_k31 h0 h1)]
  show (BitVec.ofInt 32 a).toNat * 2 ^ k.toNat % 2 ^ 32 = (BitVec.ofInt 32 (a * 2 ^ k.toNat)).toNat
  rw [BitVec.toNat_ofInt, BitVec.toNat_ofInt]
  have hp : (0 : Int) < 2 ^ 32 := by decide
  have ha := Int.emod_nonneg a (show (2 : Int) ^ 32 ≠ 0 by decide)
  apply Int.ofNat_inj.mp
  rw [Int.toNat_of_nonneg (Int.emod_nonneg _ (by decide))]
  simp only [Int.natCast_emod, Int.natCast_mul, Int.natCast_pow]
  rw [Int.toNat_of_nonneg (Int.emod_nonneg _ (by decide))]
  show (a % 4294967296) * 2 ^ k.toNat % 4294967296 = a * 2 ^ k.toNat % 4294967296
  rw [Int.mul_emod, Int.emod_emod_of_dvd _ (Int.dvd_refl _), ← Int.mul_emod]
theorem iI_i2l {a : Int} (h : Rg a) : (iI a).toInt64 = lI a := by
  apply Int64.toInt_inj.mp
  rw [Int32.toInt_toInt64, iI_toInt h, lI_toInt (by omega)]
theorem lI_l2i (a : Int) : (lI a).toInt32 = iI a := Int64.toInt32_ofInt
theorem iI_i2b {a : Int} (h0 : 0 ≤ a) (h1 : a ≤ 127) : (iI a).toInt8.toInt32 = iI a := by
  rw [iI_pos h0]
  have key : ∀ n, n < 128 → (nI n).toInt8.toInt32 = nI n := by decide +kernel
  exact key a.toNat (by omega)
theorem iI_i2c (a : Int) : (iI a).toInt8.toInt32 = iI (Int.bmod a 256) := by
  apply Int32.toInt_inj.mp
  have h1 := Int.le_bmod (x := a) (m := 256) (by decide)
  have h2 := Int.bmod_lt (x := a) (m := 256) (by decide)
  rw [Int8.toInt_toInt32, Int32.toInt_toInt8, iI_toInt (z := Int.bmod a 256) (by omega)]
  show (Int32.ofInt a).toInt.bmod 256 = _
  rw [Int32.toInt_ofInt]
  exact Int.bmod_bmod_of_dvd (by decide)
theorem rg01 {z : Int} (h : z = 0 ∨ z = 1) : Rg z := by rcases h with rfl | rfl <;> decide
theorem nn01 {z : Int} (h : z = 0 ∨ z = 1) : 0 ≤ z := by rcases h with rfl | rfl <;> decide
theorem lI_cmp {a b : Int} (ha : RgL a) (hb : RgL b) : lg_cmp (lI a) (lI b) = iI (cmpI a b) := by
  unfold lg_cmp cmpI
  by_cases h : a > b
  · rw [if_pos h, if_pos ((lI_lt hb ha).mpr h)]
    rfl
  · rw [if_neg h, if_neg (fun q => h ((lI_lt hb ha).mp q))]
    by_cases h2 : a = b
    · rw [if_pos h2, if_pos (by rw [h2])]
      rfl
    · rw [if_neg h2, if_neg (fun q => h2 ((lI_inj ha hb).mp q))]
      rfl
theorem lg_cmp_self (x : Int64) : lg_cmp x x = 0 := by
  unfold lg_cmp
  rw [if_neg (by intro h; exact absurd h (by simp)), if_pos rfl]
theorem cmpI_0 {a b : Int} : cmpI a b = 0 ↔ a = b := by
  unfold cmpI
  by_cases h : a > b
  · rw [if_pos h]; constructor <;> intro q <;> omega
  · rw [if_neg h]
    by_cases h2 : a = b
    · rw [if_pos h2]; simp [h2]
    · rw [if_neg h2]; constructor <;> intro q <;> omega
theorem cmpI_lt {a b : Int} : cmpI a b < 0 ↔ a < b := by
  unfold cmpI
  by_cases h : a > b
  · rw [if_pos h]; constructor <;> intro q <;> omega
  · rw [if_neg h]
    by_cases h2 : a = b
    · rw [if_pos h2]; constructor <;> intro q <;> omega
    · rw [if_neg h2]; constructor <;> intro q <;> omega
theorem cmpI_gt {a b : Int} : 0 < cmpI a b ↔ b < a := by
  unfold cmpI
  by_cases h : a > b
  · rw [if_pos h]; constructor <;> intro q <;> omega
  · rw [if_neg h]
    by_cases h2 : a = b
    · rw [if_pos h2]; constructor <;> intro q <;> omega
    · rw [if_neg h2]; constructor <;> intro q <;> omega
theorem cmpI_rg (a b : Int) : Rg (cmpI a b) := by
  unfold cmpI
  by_cases h : a > b
  · rw [if_pos h]; decide
  · rw [if_neg h]
    by_cases h2 : a = b
    · rw [if_pos h2]; decide
    · rw [if_neg h2]; decide
theorem lI_uN (z : Int) : (uN (lI z) : Int) = z % 18446744073709551616 := by
  show ((BitVec.ofInt 64 z).toNat : Int) = _
  rw [BitVec.toNat_ofInt, Int.toNat_of_nonneg (Int.emod_nonneg _ (by decide))]
  rfl
theorem lI_ushr {a k : Int} (h0 : 0 ≤ k) (h1 : k < 64) : ((lI a).toUInt64 >>> ((iI k).toInt64.toUInt64 &&& Int64.toUInt64 63)).toInt64 = lI (a % 18446744073709551616 / 2 ^ k.toNat) := by
  apply uN_inj
  rw [iI_pos h0, uN_sk _ (by omega)]
  apply Int.ofNat_inj.mp
  rw [lI_uN]
  rw [Int.natCast_ediv, lI_uN]
  have e : ((2 ^ k.toNat : Nat) : Int) = 2 ^ k.toNat := by simp
  rw [e]
  have h2 := Int.emod_nonneg a (show (18446744073709551616 : Int) ≠ 0 by decide)
  have h3 := Int.emod_lt_of_pos a (show (0 : Int) < 18446744073709551616 by decide)
  have h4 := Int.ediv_le_self (2 ^ k.toNat) h2
  have h5 := Int.ediv_nonneg h2 (Int.le_of_lt (Int.pow_pos (n := (2 : Int)) (m := k.toNat) (by decide)))
  rw [Int.emod_eq_of_lt (a := a % 18446744073709551616 / 2 ^ k.toNat) h5 (by omega)]
theorem lI_shr {a k : Int} (ha : RgL a) (h0 : 0 ≤ k) (h1 : k < 64) : lI a >>> ((iI k).toInt64 &&& 63) = lI (a / 2 ^ k.toNat) := by
  apply Int64.toInt_inj.mp
  rw [iI_pos h0, wb_c _ (by omega)]
  have e0 : (lI a >>> lN k.toNat).toInt = (lI a).toInt >>> k.toNat := by
    show ((lI a).toBitVec.sshiftRight ((BitVec.ofNat 64 k.toNat).smod 64).toNat).toInt = _
    rw [wb_sm _ (by omega), BitVec.toNat_ofNat, Nat.mod_eq_of_lt (by omega), BitVec.toInt_sshiftRight]
    rfl
  rw [e0, lI_toInt ha, Int.shiftRight_eq_div_pow]
  have hp : (1 : Int) ≤ 2 ^ k.toNat := by
    have := Int.pow_pos (n := (2 : Int)) (m := k.toNat) (by decide)
    omega
  have e : ((2 ^ k.toNat : Nat) : Int) = 2 ^ k.toNat := by simp
  rw [e, lI_toInt]
  constructor
  · rcases Int.lt_or_le a 0 with h | h
    · have h2 : a ≤ a / 2 ^ k.toNat := by
        rw [Int.le_ediv_iff_mul_le (by omega)]
        have h3 := Int.mul_le_mul_of_nonpos_left (Int.le_of_lt h) hp
        omega
      omega
    · have := Int.ediv_nonneg h (show (0 : Int) ≤ 2 ^ k.toNat by omega)
      omega
  · rcases Int.lt_or_le a 0 with h | h
    · have := Int.ediv_lt_of_lt_mul (a := a) (b := 1) (c := 2 ^ k.toNat) (by omega) (by omega)
      omega
    · have := Int.ediv_le_self (2 ^ k.toNat) h
      omega
theorem lI_mask {a : Int} (k : Nat) (hk : k < 63) {m : Int} (hm : m = 2 ^ k - 1) : lI a &&& lI m = lI (a % 2 ^ k) := by
  apply uN_inj
  subst hm
  have hpN : 0 < 2 ^ k := Nat.two_pow_pos k
  have e : ((2 ^ k : Nat) : Int) = 2 ^ k := by simp
  have e1 : lI (2 ^ k - 1) = lN (2 ^ k - 1) := by
    rw [← lI_nat]
    congr 1
    omega
  have hle : 2 ^ k ≤ 2 ^ 62 := Nat.pow_le_pow_right (by decide) (by omega)
  have e2 : uN (lI a &&& lI (2 ^ k - 1)) = uN (lI a) % 2 ^ k := by
    rw [e1]
    show ((lI a).toUInt64 &&& (lN (2 ^ k - 1)).toUInt64).toNat = _
    rw [UInt64.toNat_and]
    have e3 : (lN (2 ^ k - 1)).toUInt64.toNat = 2 ^ k - 1 := by
      show (2 ^ k - 1) % 2 ^ 64 = _
      exact Nat.mod_eq_of_lt (by omega)
    rw [e3]
    exact Nat.and_two_pow_sub_one_eq_mod _ k
  rw [e2]
  apply Int.ofNat_inj.mp
  rw [Int.natCast_emod, lI_uN, lI_uN, e]
  have hd : ((2 : Int) ^ k) ∣ 18446744073709551616 := by
    have : (18446744073709551616 : Int) = 2 ^ k * 2 ^ (64 - k) := by
      rw [← Int.pow_add]
      rw [show k + (64 - k) = 64 by omega]
      decide
    exact ⟨_, this⟩
  rw [Int.emod_emod_of_dvd _ hd]
  have h5 := Int.emod_nonneg a (show (2 : Int) ^ k ≠ 0 by omega)
  have h6 := Int.emod_lt_of_pos a (show (0 : Int) < 2 ^ k by omega)
  have hle2 : (2 : Int) ^ k ≤ 2 ^ 62 := by omega
  rw [Int.emod_eq_of_lt h5 (by omega)]
theorem upI_s (f : Int → Int) (j z : Int) : upI f j z j = z := if_pos rfl
theorem upI_n (f : Int → Int) {j z i : Int} (h : i ≠ j) : upI f j z i = f i := if_neg h
theorem up_s (s : Sg) (k : Nat) (j z : Int) : up s k j z k j = z := by unfold up; rw [if_pos rfl]; exact upI_s _ _ _
theorem up_n (s : Sg) (k : Nat) (j z i : Int) (h : i ≠ j) : up s k j z k i = s k i := by unfold up; rw [if_pos rfl]; exact upI_n _ h
theorem up_o (s : Sg) (k : Nat) (j z : Int) {k' : Nat} (h : k' ≠ k) : up s k j z k' = s k' := by unfold up; rw [if_neg h]
theorem up_k (s : Sg) (k : Nat) (j z : Int) : up s k j z k = upI (s k) j z := by unfold up; rw [if_pos rfl]
theorem up_e (s : Sg) (k : Nat) (j z : Int) : up s k j z = va_up s k (upI (s k) j z) := rfl
def imax (a b : Int) : Int := if a < b then b else a
def imin (a b : Int) : Int := if b < a then b else a
/-- a loop: an invariant and a measure -/
def LP1 {A : Type} (body : A → (A → Prop) → Prop) (a : A) : Prop := ∃ (I : A → Prop) (μ : A → Nat), I a ∧ ∀ a, I a → body a (fun a' => I a' ∧ μ a' < μ a)
def LP2 {A B : Type} (body : A → B → (A → B → Prop) → Prop) (a : A) (b : B) : Prop := ∃ (I : A → B → Prop) (μ : A → B → Nat), I a b ∧ ∀ a b, I a b → body a b (fun a' b' => I a' b' ∧ μ a' b' < μ a b)
def LP3 {A B C : Type} (body : A → B → C → (A → B → C → Prop) → Prop) (a : A) (b : B) (c : C) : Prop := ∃ (I : A → B → C → Prop) (μ : A → B → C → Nat), I a b c ∧ ∀ a b c, I a b c → body a b c (fun a' b' c' => I a' b' c' ∧ μ a' b' c' < μ a b c)
def LP4 {A B C D : Type} (body : A → B → C → D → (A → B → C → D → Prop) → Prop) (a : A) (b : B) (c : C) (d : D) : Prop := ∃ (I : A → B → C → D → Prop) (μ : A → B → C → D → Nat), I a b c d ∧ ∀ a b c d, I a b c d → body a b c d (fun a' b' c' d' => I a' b' c' d' ∧ μ a' b' c' d' < μ a b c d)
def LP5 {A B C D E : Type} (body : A → B → C → D → E → (A → B → C → D → E → Prop) → Prop) (a : A) (b : B) (c : C) (d : D) (e : E) : Prop := ∃ (I : A → B → C → D → E → Prop) (μ : A → B → C → D → E → Nat), I a b c d e ∧ ∀ a b c d e, I a b c d e → body a b c d e (fun a' b' c' d' e' => I a' b' c' d' e' ∧ μ a' b' c' d' e' < μ a b c d e)
theorem lp1_r {A : Type} {body : A → (A → Prop) → Prop} {a : A} (P : A → Prop) (h : LP1 body a) (s : ∀ a (K : A → Prop), body a K → (∀ a', K a' → P a') → P a) : P a := by
  obtain ⟨I, μ, h0, hs⟩ := h
  have key : ∀ n a, μ a < n → I a → P a := by
    intro n
    induction n with
    | zero => intro a h; omega
    | succ n ih => intro a hn hI; exact s a _ (hs a hI) (fun a' h => ih a' (by omega) h.1)
  exact key _ a (Nat.lt_succ_self _) h0
theorem lp2_r {A B : Type} {body : A → B → (A → B → Prop) → Prop} {a : A} {b : B} (P : A → B → Prop) (h : LP2 body a b) (s : ∀ a b (K : A → B → Prop), body a b K → (∀ a' b', K a' b' → P a' b') → P a b) : P a b := by
  obtain ⟨I, μ, h0, hs⟩ := h
  have key : ∀ n a b, μ a b < n → I a b → P a b := by
    intro n
    induction n with
    | zero => intro a b h; omega
    | succ n ih => intro a b hn hI; exact s a b _ (hs a b hI) (fun a' b' h => ih a' b' (by omega) h.1)
  exact key _ a b (Nat.lt_succ_self _) h0
theorem lp3_r {A B C : Type} {body : A → B → C → (A → B → C → Prop) → Prop} {a : A} {b : B} {c : C} (P : A → B → C → Prop) (h : LP3 body a b c) (s : ∀ a b c (K : A → B → C → Prop), body a b c K → (∀ a' b' c', K a' b' c' → P a' b' c') → P a b c) : P a b c := by
  obtain ⟨I, μ, h0, hs⟩ := h
  have key : ∀ n a b c, μ a b c < n → I a b c → P a b c := by
    intro n
    induction n with
    | zero => intro a b c h; omega
    | succ n ih => intro a b c hn hI; exact s a b c _ (hs a b c hI) (fun a' b' c' h => ih a' b' c' (by omega) h.1)
  exact key _ a b c (Nat.lt_succ_self _) h0
theorem lp4_r {A B C D : Type} {body : A → B → C → D → (A → B → C → D → Prop) → Prop} {a : A} {b : B} {c : C} {d : D} (P : A → B → C → D → Prop) (h : LP4 body a b c d) (s : ∀ a b c d (K : A → B → C → D → Prop), body a b c d K → (∀ a' b' c' d', K a' b' c' d' → P a' b' c' d') → P a b c d) : P a b c d := by
  obtain ⟨I, μ, h0, hs⟩ := h
  have key : ∀ n a b c d, μ a b c d < n → I a b c d → P a b c d := by
    intro n
    induction n with
    | zero => intro a b c d h; omega
    | succ n ih => intro a b c d hn hI; exact s a b c d _ (hs a b c d hI) (fun a' b' c' d' h => ih a' b' c' d' (by omega) h.1)
  exact key _ a b c d (Nat.lt_succ_self _) h0
theorem lp5_r {A B C D E : Type} {body : A → B → C → D → E → (A → B → C → D → E → Prop) → Prop} {a : A} {b : B} {c : C} {d : D} {e : E} (P : A → B → C → D → E → Prop) (h : LP5 body a b c d e) (s : ∀ a b c d e (K : A → B → C → D → E → Prop), body a b c d e K → (∀ a' b' c' d' e', K a' b' c' d' e' → P a' b' c' d' e') → P a b c d e) : P a b c d e := by
  obtain ⟨I, μ, h0, hs⟩ := h
  have key : ∀ n a b c d e, μ a b c d e < n → I a b c d e → P a b c d e := by
    intro n
    induction n with
    | zero => intro a b c d e h; omega
    | succ n ih => intro a b c d e hn hI; exact s a b c d e _ (hs a b c d e hI) (fun a' b' c' d' e' h => ih a' b' c' d' e' (by omega) h.1)
  exact key _ a b c d e (Nat.lt_succ_self _) h0
/-- a place where ways meet: what follows (K), and the ways to it -/
def JN0 (K : Prop) (b : Prop → Prop) : Prop := b K
def JN1 {A : Type} (K : A → Prop) (b : (A → Prop) → Prop) : Prop := b K
def JN2 {A B : Type} (K : A → B → Prop) (b : (A → B → Prop) → Prop) : Prop := b K
def JN3 {A B C : Type} (K : A → B → C → Prop) (b : (A → B → C → Prop) → Prop) : Prop := b K
def JN4 {A B C D : Type} (K : A → B → C → D → Prop) (b : (A → B → C → D → Prop) → Prop) : Prop := b K
theorem jn0_r {K : Prop} {b : Prop → Prop} {P : Prop} (Pj : Prop) (h : JN0 K b) (hj : K → Pj) (hb : ∀ K' : Prop, b K' → (K' → Pj) → P) : P := hb K h hj
theorem jn1_r {A : Type} {K : A → Prop} {b : (A → Prop) → Prop} {P : Prop} (Pj : A → Prop) (h : JN1 K b) (hj : ∀ x, K x → Pj x) (hb : ∀ K' : A → Prop, b K' → (∀ x, K' x → Pj x) → P) : P := hb K h hj
theorem jn2_r {A B : Type} {K : A → B → Prop} {b : (A → B → Prop) → Prop} {P : Prop} (Pj : A → B → Prop) (h : JN2 K b) (hj : ∀ x y, K x y → Pj x y) (hb : ∀ K' : A → B → Prop, b K' → (∀ x y, K' x y → Pj x y) → P) : P := hb K h hj
theorem jn3_r {A B C : Type} {K : A → B → C → Prop} {b : (A → B → C → Prop) → Prop} {P : Prop} (Pj : A → B → C → Prop) (h : JN3 K b) (hj : ∀ x y z, K x y z → Pj x y z) (hb : ∀ K' : A → B → C → Prop, b K' → (∀ x y z, K' x y z → Pj x y z) → P) : P := hb K h hj
theorem jn4_r {A B C D : Type} {K : A → B → C → D → Prop} {b : (A → B → C → D → Prop) → Prop} {P : Prop} (Pj : A → B → C → D → Prop) (h : JN4 K b) (hj : ∀ x y z w, K x y z w → Pj x y z w) (hb : ∀ K' : A → B → C → D → Prop, b K' → (∀ x y z w, K' x y z w → Pj x y z w) → P) : P := hb K h hj
