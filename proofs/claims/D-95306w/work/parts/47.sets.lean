/-! PLAIN LAWS, 28: sets of sorts -/
section
variable {s t : Sg} {i a b c : Int}
theorem asW_c {c d : Int} (h : s 19 c = s 19 d) : asW s c = asW s d := by unfold asW; rw [h]
theorem lf_as (G : GX s) (c0 : 0 ≤ c) (c1 : c < s 1 1) : lf s (s 19 c) = 1 ↔ asW s c = -1 := by
  have hL := G.L c0 c1
  have hle := G.le hL.1 hL.2
  have e := asW_c hle.2.2.1
  unfold lf
  rw [e]
  constructor
  · intro h
    by_cases q : asW s c = -1
    · exact q
    · rw [if_neg q] at h; exact absurd h (by decide)
  · intro h; rw [if_pos h]
/-- sets of sorts -/
noncomputable def pg (s : Sg) : Int := (1 : Int) * 2 ^ (s 1 2).toNat
theorem pg_b (G : GX s) (h10 : s 1 2 ≤ 10) : 1 ≤ pg s ∧ pg s ≤ 1024 := by
  have hg := G.b
  unfold pg
  rw [pow_nat]
  have h1 : 2 ^ (s 1 2).toNat ≤ 2 ^ 10 := Nat.pow_le_pow_right (by decide) (by omega)
  have h2 : 1 ≤ 2 ^ (s 1 2).toNat := Nat.one_le_two_pow
  have e : (2 : Nat) ^ 10 = 1024 := by decide
  omega
theorem pg_lt (G : GX s) {x : Int} (x0 : 0 ≤ x) : x < pg s ↔ ∀ k : Int, 0 ≤ k → bq x k → k < s 1 2 := by
  have hg := G.b
  unfold pg
  rw [Int.one_mul]
  constructor
  · intro h k k0 hk
    rcases Int.lt_or_le k (s 1 2) with w | w
    · exact w
    · exact absurd hk (bits_of_lt x0 h k (by omega))
  · intro h
    refine lt_of_bits x0 (fun k hk hb => ?_)
    have := h k (by omega) hb
    omega
theorem bq_xor (a b k : Int) : bq (bxor a b) k ↔ ¬ (bq a k ↔ bq b k) := by
  unfold bq bxor
  rw [Int.toNat_natCast, Nat.testBit_xor]
  cases Nat.testBit a.toNat k.toNat <;> cases Nat.testBit b.toNat k.toNat <;> decide
/-- the set of the sorts heard -/
def HH (s : Sg) (r : Int) : Prop := 0 ≤ r ∧ ∀ k : Int, 0 ≤ k → (bq r k ↔ (k < s 1 2 ∧ lf s k = 0))
theorem HH_lt (G : GX s) {r : Int} (h : HH s r) : r < pg s := (pg_lt G h.1).mpr (fun k k0 hk => ((h.2 k k0).mp hk).1)
theorem ok_X0_heardSorts {u : Sg} {Q : Int → Prop} (G : GX s) (X : XS s u) (h10 : s 1 2 ≤ 10) (hQ : ∀ r : Int, HH s r → Q r) : wp_X0_heardSorts u Q := by
  have hg := G.b
  unfold wp_X0_heardSorts
  rw [X.g]
  refine ⟨fun r j => 0 ≤ j ∧ j ≤ s 1 2 ∧ 0 ≤ r ∧ (∀ k : Int, 0 ≤ k → (bq r k ↔ (k < j ∧ lf s k = 0))), fun r j => (s 1 2 - j).toNat, ⟨by omega, by omega, by omega, fun k k0 => ⟨fun h => absurd h (bq_0 k), fun h => by omega⟩⟩, fun r j ⟨j0, j1, r0, hr⟩ => ⟨by omega, by omega, fun h => ?_, fun h => ?_⟩⟩
  · have e : j = s 1 2 := by omega
    rw [e] at hr
    exact hQ r ⟨r0, hr⟩
  · refine ok_X0_isLeft G X j0 h ?_
    refine jn1_v (if lf s j = 0 then (1 : Int) * 2 ^ (j : Int).toNat else 0) (fun K hK => ⟨fun w => ⟨j0, by omega, ?_⟩, fun w => ?_⟩) ?_
    · rw [if_pos w] at hK; exact hK
    · rw [if_neg w] at hK; exact hK
    have hp := pow_pos1 j.toNat
    refine ⟨r0, by split <;> omega, ⟨⟨by omega, by omega, bor_nn _ _, fun k k0 => ?_⟩, by dsimp only; omega⟩⟩
    rw [bq_or, hr k k0]
    by_cases w : lf s j = 0
    · rw [if_pos w, bq_pow j0 k0]
      constructor
      · rintro (⟨a, b⟩ | a)
        · exact ⟨by omega, b⟩
        · rw [a]; exact ⟨by omega, w⟩
      · rintro ⟨a, b⟩
        by_cases z : k = j
        · exact Or.inr z
        · exact Or.inl ⟨by omega, b⟩
    · rw [if_neg w]
      constructor
      · rintro (⟨a, b⟩ | a)
        · exact ⟨by omega, b⟩
        · exact absurd a (bq_0 k)
      · rintro ⟨a, b⟩
        by_cases z : k = j
        · rw [z] at b; exact absurd b w
        · exact Or.inl ⟨by omega, b⟩
theorem ok_X0_mayAsk {u : Sg} {Q : Int → Prop} (G : GX s) (X : XS s u) (h1 : s 1 2 ≤ 10 → s 0 19 < 30 → Q 1) (h0 : ¬ (s 1 2 ≤ 10 ∧ s 0 19 < 30) → Q 0) : wp_X0_mayAsk u Q := by
  have hg := G.b
  unfold wp_X0_mayAsk
  rw [X.g, X.ask]
  exact ⟨by omega, fun w => h0 (by omega), fun w => ⟨by omega, fun w2 => h0 (by omega), fun w2 => h1 w w2⟩⟩
theorem pop_s (n : Nat) (v : Int) : pop (n + 1) v = pop n v + b2i (bq v n) := rfl
theorem pop_10 {v : Int} (v0 : 0 ≤ v) (v1 : v < 1024) : pop 12 v = pop 10 v := by
  have h1 : ¬ bq v ((10 : Nat) : Int) := bits_of_lt (n := 10) v0 (by have e : (2 : Int) ^ 10 = 1024 := by decide
                                                                     omega) _ (by omega)
  have h2 : ¬ bq v ((11 : Nat) : Int) := bits_of_lt (n := 10) v0 (by have e : (2 : Int) ^ 10 = 1024 := by decide
                                                                     omega) _ (by omega)
  rw [pop_s 11, pop_s 10, b2i_f h1, b2i_f h2]
  omega
theorem ok_X2_ones {v : Int} {Q : Int → Prop} (v0 : 0 ≤ v) (v1 : v < 1024) (hQ : Q (pop 12 v)) : wp_X2_ones v Q := by
  rw [pop_10 v0 v1] at hQ
  unfold wp_X2_ones
  refine ⟨fun r k => 0 ≤ k ∧ k ≤ 10 ∧ r = pop k.toNat v, fun r k => (10 - k).toNat, ⟨by omega, by omega, rfl⟩, fun r k ⟨k0, k1, hr⟩ => ⟨by omega, fun h => ?_, fun h => ?_⟩⟩
  · have e : k = 10 := by omega
    rw [e] at hr
    rw [hr]; exact hQ
  · have hd : 0 ≤ v / 2 ^ (k : Int).toNat := by rw [div_nat v0]; exact Int.natCast_nonneg _
    refine ⟨by omega, k0, by omega, hd, ⟨⟨by omega, by omega, ?_⟩, by dsimp only; omega⟩⟩
    rw [band_1 k v0, hr]
    exact (sm_s _ k0).symm
theorem ok_X2_mayTake {u : Sg} {S : Int} {Q : Int → Prop} (G : GX s) (M : MC s u) (h10 : s 1 2 ≤ 10) (c0 : 0 ≤ c) (c1 : c < s 1 1) (S0 : 0 ≤ S) (S1 : S < 1024) (h1 : ¬ bq S (s 19 c) → lf s (s 19 c) = 1 → Q 1) (h0 : ¬ (¬ bq S (s 19 c) ∧ lf s (s 19 c) = 1) → Q 0) : wp_X2_mayTake S c u Q := by
  have hg := G.b
  have hL := G.L c0 c1
  have hd : 0 ≤ S / 2 ^ (s 19 c : Int).toNat := by rw [div_nat S0]; exact Int.natCast_nonneg _
  have hbr := b2i_r (bq S (s 19 c))
  have hab := asW_b G c
  unfold wp_X2_mayTake
  rw [M.L c0 c1, band_1 _ S0]
  refine ⟨c0, by omega, by omega, hL.1, by omega, hd, by omega, fun w => h0 (fun q => w (b2i_f q.1)), fun w => ok_X2_asOf G M c0 c1 ⟨by omega, fun w2 => h0 (fun q => w2 ((lf_as G c0 c1).mp q.2)), fun w2 => h1 (b2i_0.mp w) ((lf_as G c0 c1).mpr w2)⟩⟩
theorem hasP_b {n k w : Int} (hn : n ≤ 10) (k0 : 0 ≤ k) (k1 : k < C3 n) : b2i (hasP n k w) = b2i (tp n k 0 = w) + b2i (tp n k 1 = w) + b2i (tp n k 2 = w) := by
  have h := tp_in hn k0 k1
  unfold hasP
  by_cases a : tp n k 0 = w
  · rw [b2i_t (Or.inl a), b2i_t a, b2i_f (show ¬ tp n k 1 = w by omega), b2i_f (show ¬ tp n k 2 = w by omega)]; rfl
  · by_cases b : tp n k 1 = w
    · rw [b2i_t (Or.inr (Or.inl b)), b2i_f a, b2i_t b, b2i_f (show ¬ tp n k 2 = w by omega)]; rfl
    · by_cases c : tp n k 2 = w
      · rw [b2i_t (Or.inr (Or.inr c)), b2i_f a, b2i_f b, b2i_t c]; rfl
      · rw [b2i_f (by omega), b2i_f a, b2i_f b, b2i_f c]; rfl
theorem comn_sym {n a b : Int} (hn : n ≤ 10) (a0 : 0 ≤ a) (a1 : a < C3 n) (b0 : 0 ≤ b) (b1 : b < C3 n) : comn n a b = comn n b a := by
  unfold comn
  rw [hasP_b hn b0 b1, hasP_b hn b0 b1, hasP_b hn b0 b1, hasP_b hn a0 a1, hasP_b hn a0 a1, hasP_b hn a0 a1]
  have e : ∀ x y : Int, b2i (x = y) = b2i (y = x) := fun x y => b2i_c ⟨fun h => h.symm, fun h => h.symm⟩
  rw [e (tp n b 0) (tp n a 0), e (tp n b 1) (tp n a 0), e (tp n b 2) (tp n a 0), e (tp n b 0) (tp n a 1), e (tp n b 1) (tp n a 1), e (tp n b 2) (tp n a 1), e (tp n b 0) (tp n a 2), e (tp n b 1) (tp n a 2), e (tp n b 2) (tp n a 2)]
  omega
end
