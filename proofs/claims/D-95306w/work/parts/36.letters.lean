/-! PLAIN LAWS, 17: letters -/
def byt (a k : Int) : Int := (a / 2 ^ (8 * k).toNat) % 2 ^ 8
theorem byt_b (a k : Int) : 0 ≤ byt a k ∧ byt a k ≤ 255 := by unfold byt; omega
theorem byt_u {a k : Int} (k0 : 0 ≤ k) (k1 : k < 8) : (a % 18446744073709551616 / 2 ^ (8 * k).toNat) % 2 ^ 8 = byt a k := by
  unfold byt
  rcases (show k = 0 ∨ k = 1 ∨ k = 2 ∨ k = 3 ∨ k = 4 ∨ k = 5 ∨ k = 6 ∨ k = 7 by omega) with rfl | rfl | rfl | rfl | rfl | rfl | rfl | rfl
  · show (a % 18446744073709551616 / 1) % 256 = a / 1 % 256; omega
  · show (a % 18446744073709551616 / 256) % 256 = a / 256 % 256; omega
  · show (a % 18446744073709551616 / 65536) % 256 = a / 65536 % 256; omega
  · show (a % 18446744073709551616 / 16777216) % 256 = a / 16777216 % 256; omega
  · show (a % 18446744073709551616 / 4294967296) % 256 = a / 4294967296 % 256; omega
  · show (a % 18446744073709551616 / 1099511627776) % 256 = a / 1099511627776 % 256; omega
  · show (a % 18446744073709551616 / 281474976710656) % 256 = a / 281474976710656 % 256; omega
  · show (a % 18446744073709551616 / 72057594037927936) % 256 = a / 72057594037927936 % 256; omega
theorem byt_s {a k : Int} (k0 : 0 ≤ k) (k1 : k < 8) : a % 18446744073709551616 / 2 ^ (8 * k).toNat / 2 ^ 8 = a % 18446744073709551616 / 2 ^ (8 * (k + 1)).toNat := by
  rcases (show k = 0 ∨ k = 1 ∨ k = 2 ∨ k = 3 ∨ k = 4 ∨ k = 5 ∨ k = 6 ∨ k = 7 by omega) with rfl | rfl | rfl | rfl | rfl | rfl | rfl | rfl
  · show a % 18446744073709551616 / 1 / 256 = a % 18446744073709551616 / 256; omega
  · show a % 18446744073709551616 / 256 / 256 = a % 18446744073709551616 / 65536; omega
  · show a % 18446744073709551616 / 65536 / 256 = a % 18446744073709551616 / 16777216; omega
  · show a % 18446744073709551616 / 16777216 / 256 = a % 18446744073709551616 / 4294967296; omega
  · show a % 18446744073709551616 / 4294967296 / 256 = a % 18446744073709551616 / 1099511627776; omega
  · show a % 18446744073709551616 / 1099511627776 / 256 = a % 18446744073709551616 / 281474976710656; omega
  · show a % 18446744073709551616 / 281474976710656 / 256 = a % 18446744073709551616 / 72057594037927936; omega
  · show a % 18446744073709551616 / 72057594037927936 / 256 = a % 18446744073709551616 / 18446744073709551616; omega
theorem bmod_b {v : Int} (h : v % 2 ^ 8 ≤ 126) : Int.bmod v 256 = v % 2 ^ 8 := by
  have h2 : v % 256 ≤ 126 := h
  show Int.bmod v 256 = v % 256
  unfold Int.bmod
  have e : (((256 : Nat) : Int)) = 256 := rfl
  rw [e]
  simp only
  split <;> omega
/-- e letters, then nothing -/
def LT (a e : Int) : Prop := 0 ≤ e ∧ e ≤ 8 ∧ (∀ j : Int, 0 ≤ j → j < e → 1 ≤ byt a j ∧ byt a j ≤ 126) ∧ (∀ j : Int, e ≤ j → j < 8 → byt a j = 0)
section
variable {s t : Sg} {i a : Int}
theorem ok_X0_letters {Q : Int → Sg → Prop} (ha : RgL a) (p0 : 0 ≤ s 0 3) (p1 : s 0 3 ≤ 20) (hB : (¬ ∃ e, LT a e) → Q (-102) s) (hG : ∀ e, LT a e → (20 < s 0 3 + e → Q (-104) s) ∧
    (s 0 3 + e ≤ 20 → ∀ u : Sg, (∀ (k : Nat) (j : Int), ¬ (k = 3 ∨ (k = 0 ∧ j = 3)) → u k j = s k j) → u 0 3 = s 0 3 + e → (∀ j : Int, 0 ≤ j → j < s 0 3 → u 3 j = s 3 j) → (∀ j : Int, 0 ≤ j → j < e → u 3 (s 0 3 + j) = byt a j) → Q (s 0 3 + e) u)) : wp_X0_letters a s Q := by
  unfold wp_X0_letters
  refine ⟨fun x z k => 0 ≤ k ∧ k ≤ 8 ∧ 0 ≤ x ∧ x ≤ k ∧ (∀ j : Int, 0 ≤ j → j < x → 1 ≤ byt a j ∧ byt a j ≤ 126) ∧ (∀ j : Int, x ≤ j → j < k → byt a j = 0) ∧ ((z = 0 ∧ x = k) ∨ (z = 1 ∧ x < k)), fun x z k => (8 - k).toNat, ⟨by omega, by omega, by omega, by omega, fun j j0 j1 => by omega, fun j j0 j1 => by omega, Or.inl ⟨rfl, rfl⟩⟩, fun x z k ⟨k0, k1, x0, x1, h1, h2, hz⟩ => ⟨by omega, fun h => ?_, fun h => ?_⟩⟩
  · have ek : k = 8 := by omega
    rw [ek] at h2 x1
    obtain ⟨g1, g2⟩ := hG x ⟨x0, x1, h1, h2⟩
    refine ⟨by omega, fun hle => ?_, fun hlt => g1 hlt⟩
    have g2 := g2 hle
    refine ⟨fun m u => 0 ≤ m ∧ m ≤ x ∧ (∀ (k : Nat) (j : Int), k ≠ 3 → u k j = s k j) ∧ (∀ j : Int, 0 ≤ j → j < s 0 3 → u 3 j = s 3 j) ∧ (∀ j : Int, 0 ≤ j → j < m → u 3 (s 0 3 + j) = byt a j), fun m u => (x - m).toNat, ⟨by omega, by omega, fun k j _ => rfl, fun j _ _ => rfl, fun j j0 j1 => by omega⟩, fun m u ⟨m0, m1, F, F3, hu⟩ => ⟨by omega, by omega, fun h3 => ?_, fun h3 => ?_⟩⟩
    · have e1 : (up u 0 3 (u 0 3 + x)) 0 3 = s 0 3 + x := by rw [up_s, F 0 3 (by decide)]
      rw [e1]
      refine g2 _ (fun k j hk => ?_) e1 (fun j j0 j1 => ?_) (fun j j0 j1 => ?_)
      · rw [up_at, if_neg (by omega)]; exact F k j (by omega)
      · rw [up_o _ _ _ _ (by decide)]; exact F3 j j0 j1
      · rw [up_o _ _ _ _ (by decide)]; exact hu j j0 (by omega)
    · have hb := h1 m m0 h3
      have he : Int.bmod (a / 2 ^ ((8 * m) : Int).toNat) 256 = byt a m := bmod_b hb.2
      rw [F 0 3 (by decide), he]
      refine ⟨ha, by omega, by omega, by omega, by omega, by omega, by omega, ⟨⟨by omega, by omega, fun k j hk => ?_, fun j j0 j1 => ?_, fun j j0 j1 => ?_⟩, by dsimp only; omega⟩⟩
      · rw [up_o _ _ _ _ hk]; exact F k j hk
      · rw [up_n _ _ _ _ _ (by omega)]; exact F3 j j0 j1
      · by_cases q : j = m
        · rw [q, up_s]
        · rw [up_n _ _ _ _ _ (by omega)]; exact hu j j0 (by omega)
  · have hb := byt_b a k
    have eb : (a / 2 ^ ((8 * k) : Int).toNat) % 2 ^ 8 = byt a k := rfl
    rw [eb]
    have bad : (126 < byt a k ∨ (x < k ∧ byt a k ≠ 0)) → ¬ ∃ e, LT a e := by
      rintro hw ⟨e, e0, e1, q1, q2⟩
      by_cases w : k < e
      · have a1 := q1 k k0 w
        rcases hw with w2 | ⟨w2, w3⟩
        · omega
        · have a2 := q1 x x0 (by omega)
          have a3 := h2 x (Int.le_refl _) w2
          omega
      · have := q2 k (by omega) h
        omega
    refine ⟨ha, by omega, by omega, by omega, fun w => hB (bad (Or.inl w)), fun w => ⟨by omega, ?_⟩⟩
    by_cases hbad : z ≠ 0 ∧ byt a k ≠ 0
    · unfold JN0
      exact ⟨fun q => absurd q hbad.1, fun _ => ⟨by omega, fun q => absurd q hbad.2, fun _ => hB (bad (Or.inr ⟨by omega, hbad.2⟩))⟩⟩
    · refine jn0_v (fun K hK => ⟨fun _ => hK, fun q => ⟨by omega, fun _ => hK, fun q2 => absurd ⟨q, q2⟩ hbad⟩⟩) ?_
      refine ⟨by omega, ?_⟩
      refine jn1_v (if byt a k = 0 then 1 else 0) (fun K hK => ⟨fun q => ?_, fun q => ?_⟩) ?_
      · rw [if_neg q] at hK; exact hK
      · rw [if_pos q] at hK; exact hK
      refine ⟨by omega, by split <;> omega, by omega, ?_⟩
      refine jn1_v (if byt a k = 0 then 0 else 1) (fun K hK => ⟨fun q => ?_, fun q => ?_⟩) ?_
      · rw [if_neg q] at hK; exact hK
      · rw [if_pos q] at hK; exact hK
      by_cases q : byt a k = 0
      · rw [if_pos q, if_pos q]
        refine ⟨⟨by omega, by omega, by omega, by omega, fun j j0 j1 => h1 j j0 (by omega), fun j j0 j1 => ?_, Or.inr ⟨?_, by omega⟩⟩, by dsimp only; omega⟩
        · by_cases w : j = k
          · rw [w]; exact q
          · exact h2 j (by omega) (by omega)
        · rcases hz with w | w
          · rw [w.1]; rfl
          · rw [w.1]; rfl
      · rw [if_neg q, if_neg q]
        have hz0 : z = 0 ∧ x = k := by
          rcases hz with w | w
          · exact w
          · exact absurd ⟨by omega, q⟩ hbad
        refine ⟨⟨by omega, by omega, by omega, by omega, fun j j0 j1 => ?_, fun j j0 j1 => by omega, Or.inl ⟨?_, by omega⟩⟩, by dsimp only; omega⟩
        · by_cases w : j = k
          · rw [w]; omega
          · exact h1 j j0 (by omega)
        · rw [hz0.1]; rfl
theorem ok_X2_letters {Q : Int → Sg → Prop} (ha : RgL a) (p0 : 0 ≤ t 0 1) (p1 : t 0 1 ≤ 20) (hB : (¬ ∃ e, LT a e) → Q (-102) t) (hG : ∀ e, LT a e → (20 < t 0 1 + e → Q (-104) t) ∧
    (t 0 1 + e ≤ 20 → ∀ u : Sg, (∀ (k : Nat) (j : Int), ¬ (k = 1 ∨ (k = 0 ∧ j = 1)) → u k j = t k j) → u 0 1 = t 0 1 + e → (∀ j : Int, 0 ≤ j → j < t 0 1 → u 1 j = t 1 j) → (∀ j : Int, 0 ≤ j → j < e → u 1 (t 0 1 + j) = byt a j) → Q (t 0 1 + e) u)) : wp_X2_letters a t Q := by
  unfold wp_X2_letters
  refine ⟨fun x o v k => 0 ≤ k ∧ k ≤ 8 ∧ 0 ≤ x ∧ x ≤ k ∧ (v = a ∧ k = 0 ∨ v = a % 18446744073709551616 / 2 ^ (8 * k).toNat) ∧ ((o = 0 ∧ ¬ ∃ e, LT a e) ∨ (o = 1 ∧ (∀ j : Int, 0 ≤ j → j < x → 1 ≤ byt a j ∧ byt a j ≤ 126) ∧ (∀ j : Int, x ≤ j → j < k → byt a j = 0))), fun x o v k => (8 - k).toNat, ⟨by omega, by omega, by omega, by omega, Or.inl ⟨rfl, rfl⟩, Or.inr ⟨rfl, fun j j0 j1 => by omega, fun j j0 j1 => by omega⟩⟩, fun x o v k ⟨k0, k1, x0, x1, hv, ho⟩ => ⟨by omega, fun h => ?_, fun h => ?_⟩⟩
  · have ek : k = 8 := by omega
    subst ek
    refine ⟨by omega, fun q => ?_, fun q => ?_⟩
    · rcases ho with w | ⟨-, h1, h2⟩
      · omega
      · obtain ⟨g1, g2⟩ := hG x ⟨x0, x1, h1, h2⟩
        refine ⟨by omega, fun hle => ?_, fun hlt => g1 hlt⟩
        have g2 := g2 hle
        refine ⟨fun m u => 0 ≤ m ∧ m ≤ x ∧ u 0 1 = t 0 1 + m ∧ (∀ (k : Nat) (j : Int), ¬ (k = 1 ∨ (k = 0 ∧ j = 1)) → u k j = t k j) ∧ (∀ j : Int, 0 ≤ j → j < t 0 1 → u 1 j = t 1 j) ∧ (∀ j : Int, 0 ≤ j → j < m → u 1 (t 0 1 + j) = byt a j), fun m u => (x - m).toNat, ⟨by omega, by omega, by omega, fun k j _ => rfl, fun j _ _ => rfl, fun j j0 j1 => by omega⟩, fun m u ⟨m0, m1, um, F, F3, hu⟩ => ⟨by omega, by omega, fun h3 => ?_, fun h3 => ?_⟩⟩
        · have em : m = x := by omega
          subst em
          rw [um]
          exact g2 u F um F3 hu
        · rw [um, byt_u m0 (by omega)]
          refine ⟨by omega, by omega, by omega, by omega, ⟨⟨by omega, by omega, ?_, fun k j hk => ?_, fun j j0 j1 => ?_, fun j j0 j1 => ?_⟩, by dsimp only; omega⟩⟩
          · rw [up_s, up_o _ _ _ _ (by decide), um]; omega
          · rw [up_at, if_neg (by omega), up_o _ _ _ _ (by omega)]; exact F k j hk
          · rw [up_o _ _ _ _ (by decide), up_n _ _ _ _ _ (by omega)]; exact F3 j j0 j1
          · rw [up_o _ _ _ _ (by decide)]
            by_cases q : j = m
            · rw [q, up_s]
            · rw [up_n _ _ _ _ _ (by omega)]; exact hu j j0 (by omega)
    · rcases ho with w | w
      · exact hB w.2
      · omega
  · have hb := byt_b a k
    have eb : v % 2 ^ 8 = byt a k := by
      rcases hv with ⟨w1, w2⟩ | w
      · rw [w1, w2]; unfold byt; show a % 256 = a / 1 % 256; omega
      · rw [w]; exact byt_u k0 h
    have es : v % 18446744073709551616 / 2 ^ (8 : Int).toNat = a % 18446744073709551616 / 2 ^ (8 * (k + 1)).toNat := by
      have e8 : (2 : Int) ^ (8 : Int).toNat = 2 ^ 8 := rfl
      rw [e8]
      rcases hv with ⟨w1, w2⟩ | w
      · rw [w1, w2]; rfl
      · have hlt : 0 ≤ v ∧ v < 18446744073709551616 := by
          rw [w]
          have hp : (0 : Int) < 2 ^ (8 * k).toNat := Int.pow_pos (by decide)
          have h1 : 0 ≤ a % 18446744073709551616 := by omega
          refine ⟨Int.ediv_nonneg h1 (by omega), ?_⟩
          have h2 := Int.ediv_le_self (2 ^ (8 * k).toNat) h1
          omega
        rw [Int.emod_eq_of_lt hlt.1 hlt.2, w]
        exact byt_s k0 h
    have bad : ∀ (h1 : ∀ j : Int, 0 ≤ j → j < x → 1 ≤ byt a j ∧ byt a j ≤ 126) (h2 : ∀ j : Int, x ≤ j → j < k → byt a j = 0), (126 < byt a k ∨ (x < k ∧ byt a k ≠ 0)) → ¬ ∃ e, LT a e := by
      rintro h1 h2 hw ⟨e, e0, e1, q1, q2⟩
      by_cases w : k < e
      · have a1 := q1 k k0 w
        rcases hw with w2 | ⟨w2, w3⟩
        · omega
        · have a2 := q1 x x0 (by omega)
          have a3 := h2 x (Int.le_refl _) w2
          omega
      · have := q2 k (by omega) h
        omega
    rw [eb, es]
    refine ⟨by omega, ?_⟩
    refine jn1_v (if o = 0 ∨ 126 < byt a k ∨ (byt a k ≠ 0 ∧ x ≠ k) then 0 else 1) (fun K hK => ?_) ?_
    · unfold JN0
      refine ⟨fun q => ?_, fun q => ⟨by omega, fun q2 => ?_, fun q2 => ⟨by omega, fun q3 => ?_, fun q3 => ⟨by omega, by omega, fun q4 => ?_, fun q4 => ?_⟩⟩⟩⟩
      · rw [if_pos (Or.inl q)] at hK; exact hK
      · rw [if_pos (Or.inr (Or.inl q2))] at hK; exact hK
      · rw [if_neg (by omega)] at hK; exact hK
      · rw [if_pos (by omega)] at hK; exact hK
      · rw [if_neg (by omega)] at hK; exact hK
    refine ⟨by omega, ?_⟩
    refine jn1_v (if byt a k = 0 then 0 else 1) (fun K hK => ⟨fun q => ?_, fun q => ?_⟩) ?_
    · rw [if_pos (by omega)] at hK; exact hK
    · rw [if_neg (by omega)] at hK; exact hK
    refine ⟨⟨by omega, by omega, by split <;> omega, by split <;> omega, Or.inr rfl, ?_⟩, by dsimp only; omega⟩
    by_cases hbad : o = 0 ∨ 126 < byt a k ∨ (byt a k ≠ 0 ∧ x ≠ k)
    · rw [if_pos hbad]
      refine Or.inl ⟨rfl, ?_⟩
      rcases ho with w | ⟨w, h1, h2⟩
      · exact w.2
      · exact bad h1 h2 (by omega)
    · rw [if_neg hbad]
      rcases ho with w | ⟨w, h1, h2⟩
      · omega
      · refine Or.inr ⟨rfl, ?_⟩
        by_cases q : byt a k = 0
        · rw [if_pos q, Int.add_zero]
          refine ⟨h1, fun j j0 j1 => ?_⟩
          by_cases w : j = k
          · rw [w]; exact q
          · exact h2 j (by omega) (by omega)
        · rw [if_neg q]
          refine ⟨fun j j0 j1 => ?_, fun j j0 j1 => by omega⟩
          by_cases w : j = k
          · rw [w]; omega
          · exact h1 j j0 (by omega)
theorem rel_letters (h : RL i s t) (ha : RgL a) : wp_X0_letters a s (fun r s' => wp_X2_letters a t (fun r' t' => RR i r s' r' t')) := by
  have G := h.1
  have hg := G.b
  have M := h.2.1
  have ep := M.pg
  obtain ⟨b1, b2, b3, b4, b5, b6⟩ := RL_b.mp h
  have huniq : ∀ e e', LT a e → LT a e' → e = e' := by
    rintro e e' ⟨a0, a1, a2, a3⟩ ⟨c0, c1, c2, c3⟩
    rcases Int.lt_trichotomy e e' with w | w | w
    · have q1 := c2 e a0 w
      have q2 := a3 e (Int.le_refl _) (by omega)
      omega
    · exact w
    · have q1 := a2 e' c0 w
      have q2 := c3 e' (Int.le_refl _) (by omega)
      omega
  refine ok_X0_letters ha (by omega) (by omega) (fun w => ?_) (fun e he => ⟨fun w => ?_, fun w u F e3 f3 g3 => ?_⟩)
  · exact ok_X2_letters ha (by omega) (by omega) (fun _ => ⟨rfl, h⟩) (fun e he => absurd ⟨e, he⟩ w)
  · refine ok_X2_letters ha (by omega) (by omega) (fun w2 => absurd ⟨e, he⟩ w2) (fun e' he' => ?_)
    have := huniq e e' he he'
    subst this
    exact ⟨fun _ => ⟨rfl, h⟩, fun w2 => by omega⟩
  · refine ok_X2_letters ha (by omega) (by omega) (fun w2 => absurd ⟨e, he⟩ w2) (fun e' he' => ?_)
    have := huniq e e' he he'
    subst this
    refine ⟨fun w2 => by omega, fun _ v V v1 f1 g1 => ⟨by omega, RL_b.mpr ⟨BC_c (fun k j hk => F k j (by unfold cb at hk; omega)) (fun k j hk => V k j (by unfold mb at hk; omega)) b1, BH_c (fun k j hk => F k j (by omega)) (fun k j hk => V k j (by omega)) b2, BS_c (fun k j hk => F k j (by omega)) (fun k j hk => V k j (by omega)) b3, ?_, BA_c (F _ _ (by omega)) (V _ _ (by omega)) b5, KP_c (Int.le_refl i) (fun k j hk => F k j (by unfold ck at hk; omega)) (fun k j hk => V k j (by unfold mk at hk; omega)) b6⟩⟩⟩
    have he0 := he.1
    have hbyte := he.2.2.1
    unfold BP
    rw [e3, v1, ep]
    rw [ep] at f1 g1
    refine ⟨⟨by omega, w, fun j j0 j1 => ?_⟩, rfl, fun j j0 j1 => ?_⟩
    · by_cases q : j < s 0 3
      · rw [f3 j j0 q]; exact G.2.2.1.2.2 j j0 q
      · have := g3 (j - s 0 3) (by omega) (by omega)
        rw [show s 0 3 + (j - s 0 3) = j by omega] at this
        rw [this]
        exact hbyte _ (by omega) (by omega)
    · by_cases q : j < s 0 3
      · rw [f3 j j0 q, f1 j j0 q]; exact M.pb j0 q
      · have h1 := g3 (j - s 0 3) (by omega) (by omega)
        have h2 := g1 (j - s 0 3) (by omega) (by omega)
        rw [show s 0 3 + (j - s 0 3) = j by omega] at h1 h2
        rw [h1, h2]
end
