/-! PLAIN LAWS, 29: longest, x's half -/
theorem lt_bit {a b i : Int} (a0 : 0 ≤ a) (b0 : 0 ≤ b) (i0 : 0 ≤ i) (h0 : ¬ bq a i) (h1 : bq b i) (h : ∀ k : Int, i < k → (bq a k ↔ bq b k)) : a < b := by
  have ha := bq_i
  have e1 : a.toNat / 2 ^ (i.toNat + 1) = b.toNat / 2 ^ (i.toNat + 1) := by
    refine Nat.eq_of_testBit_eq (fun j => ?_)
    rw [Nat.testBit_div_two_pow, Nat.testBit_div_two_pow]
    have := h ((j + (i.toNat + 1) : Nat) : Int) (by omega)
    unfold bq at this
    rw [Int.toNat_natCast] at this
    exact Bool.eq_iff_iff.mpr this
  have e2 := ha a i
  have e3 := ha b i
  rw [b2i_f h0] at e2
  rw [b2i_t h1] at e3
  rw [Nat.pow_succ, ← Nat.div_div_eq_div_mul, ← Nat.div_div_eq_div_mul] at e1
  have h2 : a.toNat / 2 ^ i.toNat < b.toNat / 2 ^ i.toNat := by omega
  have h3 : a.toNat < b.toNat := by
    rcases Nat.lt_or_ge a.toNat b.toNat with w | w
    · exact w
    · have := Nat.div_le_div_right (c := 2 ^ i.toNat) w
      omega
  omega
theorem xor_lt {S j : Int} (S0 : 0 ≤ S) (j0 : 0 ≤ j) (h : bq S j) : bxor S ((1 : Int) * 2 ^ j.toNat) < S := by
  refine lt_bit (bxor_nn _ _) S0 j0 ?_ h (fun k hk => ?_)
  · rw [bq_xor, bq_pow j0 j0]
    intro w; exact w ⟨fun _ => rfl, fun _ => h⟩
  · rw [bq_xor, bq_pow j0 (by omega)]
    constructor
    · intro w
      by_cases q : bq S k
      · exact q
      · exact absurd ⟨fun z => absurd z q, fun z => by omega⟩ w
    · intro w z
      have := z.mp w
      omega
theorem or_gt {S j : Int} (S0 : 0 ≤ S) (j0 : 0 ≤ j) (h : ¬ bq S j) : S < bor S ((1 : Int) * 2 ^ j.toNat) := by
  refine lt_bit S0 (bor_nn _ _) j0 h ?_ (fun k hk => ?_)
  · rw [bq_or, bq_pow j0 j0]; exact Or.inr rfl
  · rw [bq_or, bq_pow j0 (by omega)]
    constructor
    · exact Or.inl
    · rintro (w | w)
      · exact w
      · omega
section
variable {s t : Sg} {i a b c : Int}
/-- chord c comes last when the sorts S are heard, by a table T of what comes last -/
def stX (s : Sg) (T : Int → Int → Int) (S c : Int) : Prop := bq S (s 19 c) ∧ (∀ k : Int, 0 ≤ k → bq S k → lf s k = 1) ∧ (bxor S ((1 : Int) * 2 ^ (s 19 c).toNat) = 0 ∨ ∃ d : Int, 0 ≤ d ∧ d < s 1 1 ∧ T (bxor S ((1 : Int) * 2 ^ (s 19 c).toNat)) d = 1 ∧ comn (s 1 0) d c = 2)
def rng (s : Sg) (S0 c0 S c : Int) : Prop := 0 ≤ S ∧ 0 ≤ c ∧ c < s 1 1 ∧ (S < S0 ∨ (S = S0 ∧ c < c0))
def TX (s : Sg) (T : Int → Int → Int) (S0 c0 : Int) : Prop := ∀ S c : Int, rng s S0 c0 S c → (T S c = 0 ∨ T S c = 1) ∧ (T S c = 1 ↔ stX s T S c)
def MX (s : Sg) (T : Int → Int → Int) (S0 c0 r : Int) : Prop := 0 ≤ r ∧ (∀ S c : Int, rng s S0 c0 S c → T S c = 1 → pop 12 S ≤ r) ∧ (r = 0 ∨ ∃ S c : Int, rng s S0 c0 S c ∧ T S c = 1 ∧ pop 12 S = r)
theorem stX_c {T T' : Int → Int → Int} {S c : Int} (G : GX s) (S0 : 0 ≤ S) (c0 : 0 ≤ c) (c1 : c < s 1 1) (h : ∀ R d : Int, 0 ≤ R → R < S → 0 ≤ d → d < s 1 1 → T' R d = T R d) : stX s T' S c ↔ stX s T S c := by
  have hL := G.L c0 c1
  unfold stX
  constructor
  · rintro ⟨h1, h2, h3⟩
    refine ⟨h1, h2, ?_⟩
    have hx := xor_lt S0 hL.1 h1
    rcases h3 with h3 | ⟨d, d0, d1, d2, d3⟩
    · exact Or.inl h3
    · exact Or.inr ⟨d, d0, d1, by rw [← h _ d (bxor_nn _ _) hx d0 d1]; exact d2, d3⟩
  · rintro ⟨h1, h2, h3⟩
    refine ⟨h1, h2, ?_⟩
    have hx := xor_lt S0 hL.1 h1
    rcases h3 with h3 | ⟨d, d0, d1, d2, d3⟩
    · exact Or.inl h3
    · exact Or.inr ⟨d, d0, d1, by rw [h _ d (bxor_nn _ _) hx d0 d1]; exact d2, d3⟩
/-- x's table in a state -/
def tx (u : Sg) (S c : Int) : Int := u (276 + S.toNat) c
theorem ok_X0_comesBehind {u : Sg} {S : Int} {Q : Int → Prop} (G : GX s) (X : XS s u) (S0 : 0 ≤ S) (S1 : S < 1024) (c0 : 0 ≤ c) (c1 : c < s 1 1) (hT : ∀ d : Int, 0 ≤ d → d < s 1 1 → tx u S d = 0 ∨ tx u S d = 1) (h1 : (∃ d : Int, 0 ≤ d ∧ d < s 1 1 ∧ tx u S d = 1 ∧ comn (s 1 0) d c = 2) → Q 1) (h0 : (¬ ∃ d : Int, 0 ≤ d ∧ d < s 1 1 ∧ tx u S d = 1 ∧ comn (s 1 0) d c = 2) → Q 0) : wp_X0_comesBehind S c u Q := by
  have hg := G.b
  unfold wp_X0_comesBehind
  rw [X.m]
  refine ⟨fun x => 0 ≤ x ∧ x ≤ s 1 1 ∧ ∀ d : Int, 0 ≤ d → d < x → ¬ (tx u S d = 1 ∧ comn (s 1 0) d c = 2), fun x => (s 1 1 - x).toNat, ⟨by omega, by omega, fun d d0 d1 => by omega⟩, fun x ⟨x0, x1, hx⟩ => ⟨by omega, by omega, fun h => ?_, fun h => ?_⟩⟩
  · have e : x = s 1 1 := by omega
    rw [e] at hx
    exact h0 (fun ⟨d, d0, d1, d2, d3⟩ => hx d d0 d1 ⟨d2, d3⟩)
  · have hb := hT x x0 h
    have ec := comn_b (s 1 0) x c
    have hnx : ¬ (tx u S x = 1 ∧ comn (s 1 0) x c = 2) → (0 ≤ x + 1 ∧ x + 1 ≤ s 1 1 ∧ ∀ d : Int, 0 ≤ d → d < x + 1 → ¬ (tx u S d = 1 ∧ comn (s 1 0) d c = 2)) ∧ (s 1 1 - (x + 1)).toNat < (s 1 1 - x).toNat := fun w => ⟨⟨by omega, by omega, fun d d0 d1 => by
      by_cases z : d = x
      · rw [z]; exact w
      · exact hx d d0 (by omega)⟩, by omega⟩
    rw [show u (276 + (S : Int).toNat) x = tx u S x from rfl]
    refine ⟨S0, S1, x0, by omega, by omega, ?_⟩
    unfold JN0
    refine ⟨fun w => hnx (fun y => by omega), fun w => ok_X1_common (TBx_XS X G.1.1) x0 (by omega) c0 (by omega) ⟨by omega, fun w2 => hnx (fun y => w2 y.2), fun w2 => h1 ⟨x, x0, h, by omega, w2⟩⟩⟩
theorem ok_X0_longestOf {Q : Int → Sg → Prop} (G : GX s) (h10 : s 1 2 ≤ 10) (hQ : ∀ (r : Int) (u : Sg), XS s u → TX s (tx u) (pg s) 0 → MX s (tx u) (pg s) 0 r → Q r u) : wp_X0_longestOf s Q := by
  have hg := G.b
  have hp := pg_b G h10
  unfold wp_X0_longestOf
  refine ok_X0_heardSorts G (XS.refl s) h10 (fun hs hH => ?_)
  have hHl := HH_lt G hH
  have hH0 := hH.1
  refine ⟨fun r S u => 0 ≤ S ∧ S ≤ pg s ∧ XS s u ∧ TX s (tx u) S 0 ∧ MX s (tx u) S 0 r, fun r S u => (pg s - S).toNat, ⟨by omega, by omega, XS.refl s, fun S c h => by unfold rng at h; omega, by omega, fun S c h => by unfold rng at h; omega, Or.inl rfl⟩, fun r S u ⟨S0, S1, X, hT, hM⟩ => ?_⟩
  have eg := X.g
  have epg : (1 : Int) * 2 ^ ((u 1 2) : Int).toNat = pg s := by rw [eg]; rfl
  refine ⟨by omega, by omega, by omega, by rw [epg]; omega, fun h => ?_, fun h => ?_⟩
  · rw [epg] at h
    have e : S = pg s := by omega
    rw [e] at hT hM
    exact hQ r u X hT hM
  · rw [epg] at h
    refine ⟨fun r c u => 0 ≤ c ∧ c ≤ s 1 1 ∧ XS s u ∧ TX s (tx u) S c ∧ MX s (tx u) S c r, fun r c u => (s 1 1 - c).toNat, ⟨by omega, by omega, X, hT, hM⟩, fun r c u ⟨c0, c1, X, hT, hM⟩ => ?_⟩
    have em := X.m
    have hr0 : ∀ S' c' : Int, rng s (S + 1) 0 S' c' ↔ rng s S (s 1 1) S' c' := fun S' c' => by unfold rng; omega
    refine ⟨by omega, by omega, fun h2 => ?_, fun h2 => ?_⟩
    · have e : c = s 1 1 := by omega
      rw [e] at hT hM
      refine ⟨⟨by omega, by omega, X, fun S' c' hr => hT S' c' ((hr0 S' c').mp hr), hM.1, fun S' c' hr => hM.2.1 S' c' ((hr0 S' c').mp hr), ?_⟩, by dsimp only; omega⟩
      rcases hM.2.2 with w | ⟨S', c', w1, w2⟩
      · exact Or.inl w
      · exact Or.inr ⟨S', c', (hr0 S' c').mpr w1, w2⟩
    · have h2 : c < s 1 1 := by omega
      have hL := G.L c0 h2
      have e19 := X.L
      rw [e19]
      have hpp := pow_pos1 (s 19 c).toNat
      refine ⟨c0, by omega, hL.1, by omega, S0, hpp, c0, by omega, ok_X0_isIn (by omega) S0 hL.1 (by omega) ?_⟩
      have hbl := band_le (y := hs) S0
      have hbn := band_nn S hs
      have hband : band S hs = 0 ↔ ∀ k : Int, 0 ≤ k → bq S k → lf s k = 1 := by
        rw [band_00]
        have hSp := (pg_lt G S0).mp (by omega)
        constructor
        · intro w k k0 hk
          have h1 := w k k0 hk
          have h2 := hSp k k0 hk
          rcases lf_01 s k with z | z
          · exact absurd ((hH.2 k k0).mpr ⟨h2, z⟩) h1
          · exact z
        · intro w k k0 hk hk2
          have h1 := w k k0 hk
          have h2 := (hH.2 k k0).mp hk2
          omega
      refine jn1_v (b2i (bq S (s 19 c) ∧ ∀ k : Int, 0 ≤ k → bq S k → lf s k = 1)) (fun K hK => ?_) ?_
      · unfold JN0
        refine ⟨fun w => ?_, fun w => ⟨S0, hH0, by omega, fun w2 => ?_, fun w2 => ?_⟩⟩
        · rw [b2i_f (fun y => b2i_0.mp w y.1)] at hK; exact hK
        · rw [b2i_f (fun y => w2 (hband.mpr y.2))] at hK; exact hK
        · have hin : bq S (s 19 c) := by
            rcases b2i_01 (bq S (s 19 c)) with z | z
            · exact absurd z w
            · exact b2i_1.mp z
          rw [b2i_t ⟨hin, hband.mp w2⟩] at hK; exact hK
      have hv := b2i_r (bq S (s 19 c) ∧ ∀ k : Int, 0 ≤ k → bq S k → lf s k = 1)
      refine ⟨S0, by omega, by omega, ?_⟩
      refine jn1_v (b2i (stX s (tx u) S c)) (fun K hK => ?_) ?_
      · have k0 : ¬ stX s (tx u) S c → K 0 := fun w => by rw [b2i_f w] at hK; exact hK
        have k1 : stX s (tx u) S c → K 1 := fun w => by rw [b2i_t w] at hK; exact hK
        unfold JN0
        refine ⟨fun w => k0 (fun y => b2i_0.mp w ⟨y.1, y.2.1⟩), fun w => ?_⟩
        have hin : bq S (s 19 c) ∧ ∀ k : Int, 0 ≤ k → bq S k → lf s k = 1 := by
          rcases b2i_01 (bq S (s 19 c) ∧ ∀ k : Int, 0 ≤ k → bq S k → lf s k = 1) with z | z
          · exact absurd z w
          · exact b2i_1.mp z
        have hx := xor_lt S0 hL.1 hin.1
        have hx0 := bxor_nn S ((1 : Int) * 2 ^ (s 19 c).toNat)
        refine ⟨by omega, fun w2 => k1 ⟨hin.1, hin.2, Or.inl w2⟩, fun w2 => ok_X0_comesBehind G X hx0 (by omega) c0 h2 (fun d d0 d1 => (hT _ d ⟨hx0, d0, d1, Or.inl hx⟩).1) (fun w3 => tf1 (k1 ⟨hin.1, hin.2, Or.inr w3⟩)) (fun w3 => tf0 (k0 (fun y => ?_)))⟩
        rcases y.2.2 with z | z
        · exact w2 z
        · exact w3 z
      generalize hvv : b2i (stX s (tx u) S c) = v
      have hv01 : v = 0 ∨ v = 1 := by rw [← hvv]; exact b2i_01 _
      have hst : v = 1 ↔ stX s (tx u) S c := by rw [← hvv]; exact b2i_1
      have eT : ∀ S' c' : Int, 0 ≤ S' → tx (up u (276 + S.toNat) c v) S' c' = if S' = S ∧ c' = c then v else tx u S' c' := fun S' c' s0 => by
        unfold tx
        rw [up_at]
        by_cases z : S' = S ∧ c' = c
        · rw [if_pos z, if_pos ⟨by rw [z.1], z.2⟩]
        · rw [if_neg z, if_neg (fun y => z ⟨by omega, y.2⟩)]
      have hT' : TX s (tx (up u (276 + S.toNat) c v)) S (c + 1) := fun S' c' hr => by
        unfold rng at hr
        have hc := stX_c (T := tx u) (T' := tx (up u (276 + S.toNat) c v)) G hr.1 hr.2.1 hr.2.2.1 (fun R d R0 R1 d0 d1 => by rw [eT R d R0, if_neg (by omega)])
        rw [eT S' c' hr.1, hc]
        by_cases z : S' = S ∧ c' = c
        · rw [if_pos z, z.1, z.2]; exact ⟨hv01, hst⟩
        · rw [if_neg z]
          exact hT S' c' (by unfold rng; omega)
      have hrs : ∀ S' c' : Int, rng s S (c + 1) S' c' ↔ (rng s S c S' c' ∨ (S' = S ∧ c' = c)) := fun S' c' => by unfold rng; omega
      have esv : (up u (276 + (S : Int).toNat) c v) (276 + (S : Int).toNat) c = v := up_s _ _ _ _
      rw [esv]
      have hXv : XS s (up u (276 + S.toNat) c v) := X.up (by unfold cor; omega)
      have hpb := pop_b 12 S
      have hM1 : ∀ r' : Int, r' = (if v = 1 then imax r (pop 12 S) else r) → MX s (tx (up u (276 + S.toNat) c v)) S (c + 1) r' := fun r' hr' => by
        obtain ⟨m0, m1, m2⟩ := hM
        have him : imax r (pop 12 S) = r ∨ imax r (pop 12 S) = pop 12 S := by unfold imax; split <;> omega
        have him2 : r ≤ imax r (pop 12 S) ∧ pop 12 S ≤ imax r (pop 12 S) := by unfold imax; split <;> omega
        refine ⟨by rw [hr']; split <;> omega, fun S' c' hr h1 => ?_, ?_⟩
        · rcases (hrs S' c').mp hr with w | w
          · rw [eT S' c' hr.1, if_neg (by unfold rng at w; omega)] at h1
            have := m1 S' c' w h1
            rw [hr']; split <;> omega
          · rw [eT S' c' hr.1, if_pos w] at h1
            rw [hr', if_pos h1, w.1]; exact him2.2
        · by_cases hv1 : v = 1
          · rw [if_pos hv1] at hr'
            rcases him with z | z
            · rw [z] at hr'
              rcases m2 with w | ⟨S', c', w1, w2, w3⟩
              · exact Or.inl (by omega)
              · exact Or.inr ⟨S', c', (hrs S' c').mpr (Or.inl w1), by rw [eT S' c' w1.1, if_neg (by unfold rng at w1; omega)]; exact w2, by omega⟩
            · exact Or.inr ⟨S, c, (hrs S c).mpr (Or.inr ⟨rfl, rfl⟩), by rw [eT S c S0, if_pos ⟨rfl, rfl⟩]; exact hv1, by omega⟩
          · rw [if_neg hv1] at hr'
            rcases m2 with w | ⟨S', c', w1, w2, w3⟩
            · exact Or.inl (by omega)
            · exact Or.inr ⟨S', c', (hrs S' c').mpr (Or.inl w1), by rw [eT S' c' w1.1, if_neg (by unfold rng at w1; omega)]; exact w2, by omega⟩
      have hrb : r ≤ 12 := by
        rcases hM.2.2 with w | ⟨S', c', w1, w2, w3⟩
        · omega
        · have := pop_b 12 S'; omega
      have hM0 := hM.1
      refine ⟨c0, by omega, hv01, S0, by omega, c0, by omega, by omega, ?_⟩
      unfold JN1
      refine ⟨fun w => ⟨⟨by omega, by omega, hXv, hT', hM1 r (by rw [if_neg (by omega)])⟩, by dsimp only; omega⟩, fun w => ?_⟩
      refine ok_bitCount S0 (by omega) ⟨by omega, by omega, ⟨⟨by omega, by omega, hXv, hT', hM1 _ (by rw [if_pos (by omega)])⟩, by dsimp only; omega⟩⟩
end
