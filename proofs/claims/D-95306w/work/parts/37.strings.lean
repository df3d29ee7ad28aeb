/-! PLAIN LAWS, 18: strings; the chords of both laid anew -/
theorem ok_X2_layChords {n l : Int} {K A B : Int → Int} {t : Sg} {Q : Sg → Prop} (n0 : 3 ≤ n) (n1 : n ≤ 9) (hn : t 0 7 = n) (V : LV l K A B) (M : LM t l K A B)
    (hQ : ∀ (g : Int) (u : Sg), TBm u n → SortOk (Ed K A B n) l (C3 n) (u 5) g → 0 ≤ g → g ≤ C3 n → u 0 10 = g → (∀ j : Int, 0 ≤ j → j < g → 0 ≤ u 6 j ∧ u 6 j < C3 n ∧ u 5 (u 6 j) = j ∧ ∀ c : Int, 0 ≤ c → c < C3 n → u 5 c = j → u 6 j ≤ c) →
      (∀ (k : Nat) (j : Int), ¬ (k = 4 ∨ k = 5 ∨ k = 6 ∨ (k = 0 ∧ (j = 8 ∨ j = 10))) → u k j = t k j) → Q u) : wp_X2_layChords t Q := by
  have hb := C3_b (show 0 ≤ n by omega) (show n ≤ 10 by omega)
  have hb2 := hb.2.2.1 n1
  let I : Int → Sg → Prop := fun m u => 0 ≤ m ∧ u 0 8 = m ∧ (∀ k : Int, 0 ≤ k → k < m → u 4 (3 * k) = tp n k 0 ∧ u 4 (3 * k + 1) = tp n k 1 ∧ u 4 (3 * k + 2) = tp n k 2) ∧ (∀ (k : Nat) (j : Int), ¬ (k = 4 ∨ (k = 0 ∧ j = 8)) → u k j = t k j)
  have hI : ∀ m u, I m u ↔ (0 ≤ m ∧ u 0 8 = m ∧ (∀ k : Int, 0 ≤ k → k < m → u 4 (3 * k) = tp n k 0 ∧ u 4 (3 * k + 1) = tp n k 1 ∧ u 4 (3 * k + 2) = tp n k 2) ∧ (∀ (k : Nat) (j : Int), ¬ (k = 4 ∨ (k = 0 ∧ j = 8)) → u k j = t k j)) := fun _ _ => Iff.rfl
  clear_value I
  have step : ∀ (m a b c : Int) (u : Sg), I m u → tp n m 0 = a → tp n m 1 = b → tp n m 2 = c → I (m + 1) (up (up (up (up u 4 (3 * m) a) 4 (3 * m + 1) b) 4 (3 * m + 2) c) 0 8 (m + 1)) := by
    intro m a b c u h ea eb ec
    obtain ⟨h0, h1, h2, h3⟩ := (hI _ _).mp h
    refine (hI _ _).mpr ⟨by omega, up_s _ _ _ _, fun k k0 k1 => ?_, fun k j hk => ?_⟩
    · rw [up_o _ _ _ _ (show 4 ≠ 0 by decide)]
      by_cases q : k = m
      · subst q
        refine ⟨?_, ?_, ?_⟩
        · rw [up_n _ _ _ _ _ (by omega), up_n _ _ _ _ _ (by omega), up_s, ea]
        · rw [up_n _ _ _ _ _ (by omega), up_s, eb]
        · rw [up_s, ec]
      · obtain ⟨d0, d1, d2⟩ := h2 k k0 (by omega)
        refine ⟨?_, ?_, ?_⟩
        · rw [up_n _ _ _ _ _ (by omega), up_n _ _ _ _ _ (by omega), up_n _ _ _ _ _ (by omega), d0]
        · rw [up_n _ _ _ _ _ (by omega), up_n _ _ _ _ _ (by omega), up_n _ _ _ _ _ (by omega), d1]
        · rw [up_n _ _ _ _ _ (by omega), up_n _ _ _ _ _ (by omega), up_n _ _ _ _ _ (by omega), d2]
    · rw [up_at, if_neg (by omega), up_o _ _ _ _ (by omega), up_o _ _ _ _ (by omega), up_o _ _ _ _ (by omega)]
      exact h3 k j hk
  have fin : ∀ u, I (C3 n) u → wp_X2_laySorts 5 (u 0 7) u (fun r_7 s_8 => LP2 (fun x1_9 s_10 K_11 => (Rg x1_9) ∧ ((x1_9 < 0) → Q s_10) ∧ ((0 ≤ x1_9) → (0 ≤ x1_9) ∧ (x1_9 < 120) ∧ (0 ≤ (s_10 5 x1_9)) ∧ ((s_10 5 x1_9) < 120) ∧ K_11 (x1_9 + (-1)) (up s_10 6 (s_10 5 x1_9) x1_9))) (((up s_8 0 10 r_7) 0 8) - 1) (up s_8 0 10 r_7)) := fun u h => by
    obtain ⟨h0, h1, h2, h3⟩ := (hI _ _).mp h
    have e7 : u 0 7 = n := by rw [h3 0 7 (by omega)]; exact hn
    rw [e7]
    refine ok_X2_laySorts (by decide) (by decide) V (M.of (h3 0 2 (by omega)) (funext fun j => h3 2 j (by omega))) n0 (by omega) (fun g v hS g0 g1 F => ?_)
    have e8 : (up v 0 10 g) 0 8 = C3 n := by rw [up_n _ _ _ _ _ (by decide), F 0 (by decide)]; exact h1
    rw [e8]
    have hLb : ∀ c : Int, 0 ≤ c → c < C3 n → 0 ≤ v 5 c ∧ v 5 c < g := hS.1
    refine ⟨fun x w => -1 ≤ x ∧ x < C3 n ∧ (∀ (k : Nat) (j : Int), k ≠ 6 → w k j = (up v 0 10 g) k j) ∧ (∀ c : Int, x < c → c < C3 n → w 6 (v 5 c) ≤ c ∧ x < w 6 (v 5 c) ∧ w 6 (v 5 c) < C3 n ∧ v 5 (w 6 (v 5 c)) = v 5 c), fun x w => (x + 1).toNat, ⟨by omega, by omega, fun _ _ _ => rfl, fun c c0 c1 => by omega⟩, fun x w ⟨x0, x1, W, hw⟩ => ⟨by omega, fun h => ?_, fun h => ?_⟩⟩
    · have ex : x = -1 := by omega
      subst ex
      have W5 : w 5 = v 5 := funext fun j => by rw [W 5 j (by decide), up_o _ _ _ _ (by decide)]
      have W4 : w 4 = u 4 := funext fun j => by rw [W 4 j (by decide), up_o _ _ _ _ (by decide), F 4 (by decide)]
      refine hQ g w ⟨n0, n1, ?_, ?_, fun k k0 k1 => ?_⟩ (by rw [W5]; exact hS) g0 g1 ?_ (fun j j0 j1 => ?_) (fun k j hk => ?_)
      · rw [W 0 7 (by decide), up_n _ _ _ _ _ (by decide), F 0 (by decide)]; exact e7
      · rw [W 0 8 (by decide)]; exact e8
      · rw [W4]; exact h2 k k0 k1
      · rw [W 0 10 (by decide), up_s]
      · obtain ⟨c, c0, c1, c2⟩ := hS.2.1 j j0 j1
        obtain ⟨d1, d2, d3, d4⟩ := hw c (by omega) c1
        rw [c2] at d1 d2 d3 d4
        rw [W5]
        refine ⟨by omega, d3, d4, fun d q0 q1 q2 => ?_⟩
        have := hw d (by omega) q1
        rw [q2] at this
        exact this.1
      · rw [W k j (by omega), up_at, if_neg (by omega), F k (by omega)]
        exact h3 k j (by omega)
    · have hLx := hLb x h x1
      have W5 : w 5 x = v 5 x := by rw [W 5 x (by decide), up_o _ _ _ _ (by decide)]
      rw [W5]
      refine ⟨h, by omega, hLx.1, by omega, ⟨⟨by omega, by omega, fun k j hk => ?_, fun c c0 c1 => ?_⟩, by dsimp only; omega⟩⟩
      · rw [up_o _ _ _ _ hk]; exact W k j hk
      · by_cases q : v 5 c = v 5 x
        · rw [q, up_s]
          exact ⟨by omega, by omega, x1, rfl⟩
        · rw [up_n _ _ _ _ _ q]
          have hcx : c ≠ x := fun z => q (by rw [z])
          have := hw c (by omega) c1
          exact ⟨this.1, by omega, this.2.2.1, this.2.2.2⟩
  unfold wp_X2_layChords
  refine ⟨fun a u => 0 ≤ a ∧ a ≤ n ∧ I (pA n a) u, fun a u => (n - a).toNat, ⟨by omega, by omega, (hI _ _).mpr ⟨by rw [pA_0]; omega, by rw [pA_0]; exact up_s _ _ _ _, fun k k0 k1 => by rw [pA_0] at k1; omega, fun k j hk => by rw [up_at, if_neg (by omega)]⟩⟩, fun a u ⟨a0, a1, ht⟩ => ?_⟩
  have e7 : u 0 7 = n := by rw [((hI _ _).mp ht).2.2.2 0 7 (by omega)]; exact hn
  refine ⟨by omega, by omega, fun h => ?_, fun h => ?_⟩
  · have e : a = n := by omega
    rw [e, pA_n] at ht
    exact fin u ht
  · refine ⟨fun b u => a < b ∧ b ≤ n ∧ I (pB n a b) u, fun b u => (n - b).toNat, ⟨by omega, by omega, by rw [pB_0 a0]; exact ht⟩, fun b u ⟨b0, b1, ht⟩ => ?_⟩
    have e7 : u 0 7 = n := by rw [((hI _ _).mp ht).2.2.2 0 7 (by omega)]; exact hn
    refine ⟨by omega, by omega, fun h => ?_, fun h => ?_⟩
    · have e : b = n := by omega
      rw [e, pB_n (by omega) a0 (by omega)] at ht
      exact ⟨⟨by omega, by omega, ht⟩, by dsimp only; omega⟩
    · refine ⟨fun c u => b < c ∧ c ≤ n ∧ I (pB n a b + (c - b - 1)) u, fun c u => (n - c).toNat, ⟨by omega, by omega, by rw [show pB n a b + (b + 1 - b - 1) = pB n a b by omega]; exact ht⟩, fun c u ⟨c0, c1, ht⟩ => ?_⟩
      have e7 : u 0 7 = n := by rw [((hI _ _).mp ht).2.2.2 0 7 (by omega)]; exact hn
      refine ⟨by omega, by omega, fun h => ?_, fun h => ?_⟩
      · have e : c = n := by omega
        rw [e] at ht
        refine ⟨⟨by omega, by omega, ?_⟩, by dsimp only; omega⟩
        rw [pB_s a0 b0 (by omega), show pB n a b + (n - 1 - b) = pB n a b + (n - b - 1) by omega]
        exact ht
      · have hx := tp_ix (show n ≤ 10 by omega) a0 b0 c0 (show c < n by omega)
        rw [ix_e a0 b0 c0] at hx
        obtain ⟨x0, x1, x2, x3, x4⟩ := hx
        have e2 := ((hI _ _).mp ht).2.1
        have hs := step _ a b c u ht x0 x1 x2
        rw [← e2] at hs x3 x4
        simp only [up_o _ _ _ _ (show (0 : Nat) ≠ 4 by decide)]
        refine ⟨by omega, by omega, by omega, by omega, by omega, by omega, ⟨by omega, by omega, ?_⟩, by omega⟩
        rw [show pB n a b + (c + 1 - b - 1) = u 0 8 + 1 by omega]
        exact hs
section
variable {s t : Sg} {i a b c : Int}
/-- both lay their chords: the chord block -/
theorem lay_BC {u v : Sg} {n g : Int} (n0 : 3 ≤ n) (n1 : n ≤ 9) (VV : LVs u) (T : TBx 1 36 u n) (S : SX 1 19 20 21 u (Eds u n) (u 5000 2) (C3 n)) (M : LM v (u 5000 2) (u 5001) (u 5002) (u 5003)) (Tm : TBm v n) (hS : SortOk (Ed (u 5001) (u 5002) (u 5003) n) (u 5000 2) (C3 n) (v 5) g) (g0 : 0 ≤ g) (hg : v 0 10 = g)
    (hl : ∀ j : Int, 0 ≤ j → j < g → 0 ≤ v 6 j ∧ v 6 j < C3 n ∧ v 5 (v 6 j) = j ∧ ∀ c : Int, 0 ≤ c → c < C3 n → v 5 c = j → v 6 j ≤ c) : BC u v := by
  have e10 := T.2.2.1
  have e11 := T.2.2.2.1
  obtain ⟨S1, S2, S3, S4⟩ := S
  have hLL := sort_eq S1 hS
  have hgg := sort_eqn S2 g0 S1 hS
  refine ⟨⟨by rw [e10]; exact T, by omega, VV, by rw [e10]; exact ⟨S1, S2, S3, S4⟩⟩, ⟨by rw [e10]; exact Tm, M, by omega, fun c c0 c1 => (hLL c c0 (by omega)).symm, fun j j0 j1 => ?_⟩⟩
  obtain ⟨a1, a2, a3, a4⟩ := hl j j0 (by omega)
  obtain ⟨b1, b2, b3, b4, b5⟩ := S4 j j0 j1
  have h1 := a4 _ b1 b2 (by rw [← hLL _ b1 b2]; exact b3)
  have h2 := b4 _ a1 a2 (by rw [hLL _ a1 a2]; exact a3)
  omega
theorem LVs_c {u : Sg} (X : ∀ (k : Nat) (j : Int), 5000 ≤ k → u k j = s k j) (V : LVs s) : LVs u := by
  have e0 : u 5000 = s 5000 := funext fun j => X 5000 j (by omega)
  have e1 : u 5001 = s 5001 := funext fun j => X 5001 j (by omega)
  have e2 : u 5002 = s 5002 := funext fun j => X 5002 j (by omega)
  have e3 : u 5003 = s 5003 := funext fun j => X 5003 j (by omega)
  unfold LVs; rw [e0, e1, e2, e3]; exact V
theorem rel_strings (h : RL i s t) (hi : i ≤ 1000000) (ha : Rg a) : wp_X0_strings a s (fun r s' => wp_X2_strings a t (fun r' t' => RR (i + 1) r s' r' t')) := by
  have G := h.1
  have hg := G.b
  have M := h.2.1
  obtain ⟨b1, b2, b3, b4, b5, b6⟩ := RL_b.mp h
  unfold wp_X0_strings
  refine ok_X0_in ha (by omega) (by omega) (fun p q => tt1 ?_) (fun p => tt0 ?_)
  · refine ok_X1_lay (by decide) p (by omega) (fun s1 T1 F1 => ?_)
    have V1 : LVs s1 := LVs_c (fun k j hk => F1 k j (by omega) (by omega)) G.1.2.2.1
    refine ok_X0_join CI_1 T1 V1 (fun s2 S2 F2 => ?_)
    unfold wp_X2_strings
    refine ⟨ha, ok_X2_in (by omega) (by omega) (by omega) (fun _ _ => tt1 ?_) (fun w => absurd ⟨p, q⟩ w)⟩
    have hX5 : ∀ (k : Nat) (j : Int), 5000 ≤ k → s2 k j = s k j := fun k j hk => by rw [F2 k j (by omega) (by omega) (by omega) (by omega) (by omega)]; exact F1 k j (by omega) (by omega)
    have e50 : s1 5000 = s 5000 := funext fun j => F1 5000 j (by omega) (by omega)
    have e51 : s1 5001 = s 5001 := funext fun j => F1 5001 j (by omega) (by omega)
    have e52 : s1 5002 = s 5002 := funext fun j => F1 5002 j (by omega) (by omega)
    have e53 : s1 5003 = s 5003 := funext fun j => F1 5003 j (by omega) (by omega)
    refine ok_X2_layChords p q (up_s _ _ _ _) G.1.2.2.1 (M.1.2.1.of (by rw [up_n _ _ _ _ _ (by decide)]) (up_o _ _ _ _ (by decide))) (fun g v Tm hS g0 g1 v10 hl Fm => ?_)
    have em : ∀ (k : Nat) (j : Int), ¬ (k = 4 ∨ k = 5 ∨ k = 6 ∨ (k = 0 ∧ (j = 7 ∨ j = 8 ∨ j = 10))) → v k j = t k j := fun k j hk => by
      rw [Fm k j (by omega), up_at, if_neg (by omega)]
    have ex : ∀ (k : Nat) (j : Int), ¬ (k = 1 ∨ k = 4 ∨ k = 19 ∨ k = 20 ∨ k = 21 ∨ (36 ≤ k ∧ k < 156)) → s2 k j = s k j := fun k j hk => by
      rw [F2 k j (by omega) (by omega) (by omega) (by omega) (by omega)]; exact F1 k j (by omega) (by omega)
    have T2 : TBx 1 36 s2 a := F2.TB CI_1 T1
    have hbc : BC s2 v := by
      have c0 : s2 5000 = s 5000 := funext fun j => hX5 5000 j (by omega)
      have c1 : s2 5001 = s 5001 := funext fun j => hX5 5001 j (by omega)
      have c2 : s2 5002 = s 5002 := funext fun j => hX5 5002 j (by omega)
      have c3 : s2 5003 = s 5003 := funext fun j => hX5 5003 j (by omega)
      have hE : Eds s1 a = Eds s2 a := by unfold Eds; rw [e51, e52, e53, c1, c2, c3]
      refine lay_BC p q (LVs_c hX5 G.1.2.2.1) T2 ?_ ?_ Tm ?_ g0 v10 hl
      · rw [hE, show s1 5000 2 = s2 5000 2 by rw [e50, c0]] at S2; exact S2
      · rw [c0, c1, c2, c3]
        exact M.1.2.1.of (em 0 2 (by omega)) (funext fun j => em 2 j (by omega))
      · rw [c0, c1, c2, c3]; exact hS
    have e11 : (up (up (up s2 0 9 0) 0 14 0) 0 7 (((up (up s2 0 9 0) 0 14 0) 0 7) + 1)) 1 1 = C3 a := by
      rw [up_o _ _ _ _ (by decide), up_o _ _ _ _ (by decide), up_o _ _ _ _ (by decide)]; exact T2.2.2.2.1
    have e8 : (up (up (up v 0 13 0) 0 15 0) 0 17 (((up (up v 0 13 0) 0 15 0) 0 17) + 1)) 0 8 = C3 a := by
      rw [up_n _ _ _ _ _ (by decide), up_n _ _ _ _ _ (by decide), up_n _ _ _ _ _ (by decide)]; exact Tm.2.2.2.1
    have e7 : (up (up s2 0 9 0) 0 14 0) 0 7 = s 0 7 := by rw [up_n _ _ _ _ _ (by decide), up_n _ _ _ _ _ (by decide)]; exact ex 0 7 (by omega)
    have e17 : (up (up v 0 13 0) 0 15 0) 0 17 = t 0 17 := by rw [up_n _ _ _ _ _ (by decide), up_n _ _ _ _ _ (by decide)]; exact em 0 17 (by omega)
    rw [e11, e8, e7, e17]
    refine ⟨rfl, RL_b.mpr ⟨BC_c (fun k j hk => ?_) (fun k j hk => ?_) hbc, ?_, ?_, BP_c (fun k j hk => ?_) (fun k j hk => ?_) b4, BA_c ?_ ?_ b5, ?_⟩⟩
    · unfold cb at hk; rw [up_at, if_neg (by omega), up_at, if_neg (by omega), up_at, if_neg (by omega)]
    · unfold mb at hk; rw [up_at, if_neg (by omega), up_at, if_neg (by omega), up_at, if_neg (by omega)]
    · have f9 : (up (up (up s2 0 9 0) 0 14 0) 0 7 (s 0 7 + 1)) 0 9 = 0 := by simp [up_at]
      have f13 : (up (up (up v 0 13 0) 0 15 0) 0 17 (t 0 17 + 1)) 0 13 = 0 := by simp [up_at]
      unfold BH
      rw [f9, f13]
      exact ⟨⟨by omega, by omega, fun j j0 j1 => by omega⟩, rfl, fun j j0 j1 => by omega⟩
    · have f9 : (up (up (up s2 0 9 0) 0 14 0) 0 7 (s 0 7 + 1)) 0 14 = 0 := by simp [up_at]
      have f13 : (up (up (up v 0 13 0) 0 15 0) 0 17 (t 0 17 + 1)) 0 15 = 0 := by simp [up_at]
      unfold BS
      rw [f9, f13]
      exact ⟨⟨by omega, by omega, fun j j0 j1 => by omega⟩, by show (0 : Int) ≤ 12; decide, rfl, fun j j0 j1 => by omega⟩
    · rw [up_at, if_neg (by omega), up_at, if_neg (by omega), up_at, if_neg (by omega)]; exact ex k j (by omega)
    · rw [up_at, if_neg (by omega), up_at, if_neg (by omega), up_at, if_neg (by omega)]; exact em k j (by omega)
    · rw [up_at, if_neg (by omega), up_at, if_neg (by omega), up_at, if_neg (by omega)]; exact ex _ _ (by omega)
    · rw [up_at, if_neg (by omega), up_at, if_neg (by omega), up_at, if_neg (by omega)]; exact em _ _ (by omega)
    · have gx : ∀ (k : Nat) (j : Int), ¬ (k = 1 ∨ k = 4 ∨ k = 19 ∨ k = 20 ∨ k = 21 ∨ (36 ≤ k ∧ k < 156) ∨ (k = 0 ∧ (j = 9 ∨ j = 14 ∨ j = 7))) → (up (up (up s2 0 9 0) 0 14 0) 0 7 (s 0 7 + 1)) k j = s k j := fun k j hk => by
        rw [up_at, if_neg (by omega), up_at, if_neg (by omega), up_at, if_neg (by omega)]; exact ex k j (by omega)
      have gm : ∀ (k : Nat) (j : Int), ¬ (k = 4 ∨ k = 5 ∨ k = 6 ∨ (k = 0 ∧ (j = 7 ∨ j = 8 ∨ j = 10 ∨ j = 13 ∨ j = 15 ∨ j = 17))) → (up (up (up v 0 13 0) 0 15 0) 0 17 (t 0 17 + 1)) k j = t k j := fun k j hk => by
        rw [up_at, if_neg (by omega), up_at, if_neg (by omega), up_at, if_neg (by omega)]; exact em k j (by omega)
      have g7 : (up (up (up s2 0 9 0) 0 14 0) 0 7 (s 0 7 + 1)) 0 7 = s 0 7 + 1 := up_s _ _ _ _
      have g17 : (up (up (up v 0 13 0) 0 15 0) 0 17 (t 0 17 + 1)) 0 17 = t 0 17 + 1 := up_s _ _ _ _
      generalize (up (up (up s2 0 9 0) 0 14 0) 0 7 (s 0 7 + 1)) = u at *
      generalize (up (up (up v 0 13 0) 0 15 0) 0 17 (t 0 17 + 1)) = w at *
      have d16 : w 16 = t 16 := funext fun j => gm 16 j (by omega)
      have d17 : w 17 = t 17 := funext fun j => gm 17 j (by omega)
      have c14 : u 14 = s 14 := funext fun j => gx 14 j (by omega)
      have c16 : u 16 = s 16 := funext fun j => gx 16 j (by omega)
      have c17 : u 17 = s 17 := funext fun j => gx 17 j (by omega)
      obtain ⟨⟨k0, k1, k2, k3⟩, K⟩ := b6
      unfold KP
      rw [g7, g17, d16, d17, c14, c16, c17, gx 0 1 (by omega), gx 0 21 (by omega), gx 0 22 (by omega), gx 0 23 (by omega), gx 0 24 (by omega), gx 0 25 (by omega), gm 0 28 (by omega), gm 0 29 (by omega), gm 0 30 (by omega)]
      refine ⟨⟨k0, by omega, by omega, by omega⟩, ?_⟩
      rcases K with K | ⟨p, k22, k22b, k23, k23b, k30, k24, k24b, k28, k25, k25b, k14, k29, k16, kH⟩
      · exact Or.inl K
      · refine Or.inr ⟨p, k22, k22b, k23, by omega, k30, k24, k24b, k28, k25, k25b, k14, k29, fun r r0 r1 => ?_, fun w1 w2 => by omega⟩
        rw [show u (31 + r.toNat) = s (31 + r.toNat) from funext fun j => gx _ j (by omega)]
        exact k16 r r0 r1
  · unfold wp_X2_strings
    exact ⟨ha, ok_X2_in (by omega) (by omega) (by omega) (fun p1 q1 => absurd ⟨p1, q1⟩ p) (fun _ => tt0 ⟨rfl, RL_mono h (by omega)⟩)⟩
end
