/-! PLAIN LAWS, 16: image, restore -/
theorem dro_c {L row row' : Int → Int} {n : Nat} {p : Int × (Int → Int)} (h : ∀ j : Int, 0 ≤ j → j < n → row' j = row j) : dro L row' n p = dro L row n p := by
  induction n with
  | zero => rfl
  | succ n ih =>
    show dad (L (row' n)) (dro L row' n p) = dad (L (row n)) (dro L row n p)
    rw [ih (fun j j0 j1 => h j j0 (by omega)), h n (by omega) (by omega)]
theorem HS_c2 {h sh m : Int} {hd sc sw L hd' sc' sw' : Int → Int} {sk sk' : Int → Int → Int} (e1 : ∀ i : Int, 0 ≤ i → i < h → hd' i = hd i) (e2 : ∀ i : Int, 0 ≤ i → i < sh → sc' i = sc i) (e3 : ∀ i : Int, 0 ≤ i → i < sh → sw' i = sw i) (e4 : ∀ i : Int, 0 ≤ i → i < sh → ∀ j : Int, 0 ≤ j → j < sc i → sk' i j = sk i j) (H : HS h hd sh sc sw sk m L) : HS h hd' sh sc' sw' sk' m L := by
  obtain ⟨⟨a, b, c⟩, ⟨d, e, f⟩, g⟩ := H
  refine ⟨⟨a, b, fun i i0 i1 => by rw [e1 i i0 i1]; exact c i i0 i1⟩, ⟨d, e, fun i i0 i1 => by
    rw [e2 i i0 i1, e3 i i0 i1]
    obtain ⟨f1, f2, f3, f4, f5⟩ := f i i0 i1
    exact ⟨f1, f2, f3, f4, fun j j0 j1 => by rw [e4 i i0 i1 j j0 j1]; exact f5 j j0 j1⟩⟩, ?_⟩
  have key : ∀ k : Nat, (k : Int) ≤ sh → dsh L sc' sk' k = dsh L sc sk k := by
    intro k
    induction k with
    | zero => intro _; rfl
    | succ k ih =>
      intro h
      show dro L (sk' k) (sc' k).toNat (dsh L sc' sk' k) = dro L (sk k) (sc k).toNat (dsh L sc sk k)
      rw [ih (by omega), e2 k (by omega) (by omega)]
      exact dro_c (fun j j0 j1 => e4 k (by omega) (by omega) j j0 (by omega))
  rw [key _ (by omega)]
  exact g
section
variable {s t : Sg} {i a b c : Int}
/-- the rows of one grid into those of another -/
theorem ok_rows {f g : Nat} {s : Sg} {P : Sg → Prop} (hfg : f + 5 ≤ g ∨ g + 5 ≤ f) (hP : ∀ t : Sg, (∀ (k : Nat) (j : Int), ¬ (g ≤ k ∧ k < g + 5) → t k j = s k j) → (∀ r : Int, 0 ≤ r → r < 5 → ∀ j : Int, 0 ≤ j → j < 6 → t (g + r.toNat) j = s (f + r.toNat) j) → P t) :
    LP2 (fun x1_7 s_8 K_9 => (Rg x1_7) ∧ ((5 ≤ x1_7) → P s_8) ∧ ((x1_7 < 5) → (0 ≤ x1_7) ∧ (x1_7 < 5) ∧ (0 ≤ x1_7) ∧ (x1_7 < 5) ∧ wp_X0_copy (f + (x1_7 : Int).toNat) (g + (x1_7 : Int).toNat) 6 6 s_8 (fun s_17 => K_9 (x1_7 + 1) s_17))) 0 s := by
  refine ⟨fun x t => 0 ≤ x ∧ x ≤ 5 ∧ (∀ (k : Nat) (j : Int), ¬ (g ≤ k ∧ k < g + 5) → t k j = s k j) ∧ (∀ r : Int, 0 ≤ r → r < x → ∀ j : Int, 0 ≤ j → j < 6 → t (g + r.toNat) j = s (f + r.toNat) j), fun x t => ((5 : Int) - x).toNat, ⟨by omega, by omega, fun k j _ => rfl, fun j j0 j1 => by omega⟩, fun x t ⟨x0, x1, F, hc⟩ => ⟨by omega, fun h => ?_, fun h => ?_⟩⟩
  · exact hP t F (fun r r0 r1 => hc r r0 (by omega))
  · refine ⟨x0, h, x0, h, ?_⟩
    refine ok_X0_copy (by omega) (by omega) (by omega) (fun u F2 h2 => ⟨⟨by omega, by omega, fun k j hk => ?_, fun r r0 r1 j j0 j1 => ?_⟩, by dsimp only; omega⟩)
    · rw [F2 k j (by omega)]; exact F k j hk
    · by_cases q : r = x
      · rw [q, h2 j j0 (by omega)]
        exact F _ j (by omega)
      · rw [F2 _ j (by omega)]
        exact hc r r0 (by omega) j j0 j1
theorem ok_X0_image {Q : Int → Sg → Prop} (hQ : ∀ u : Sg, (∀ (k : Nat) (j : Int), ¬ ((k = 0 ∧ 21 ≤ j ∧ j ≤ 25) ∨ k = 14 ∨ k = 16 ∨ k = 17 ∨ (31 ≤ k ∧ k < 36)) → u k j = s k j) → u 0 21 = 1 → u 0 22 = s 0 1 → u 0 23 = s 0 7 → u 0 24 = s 0 9 → u 0 25 = s 0 14 →
    (∀ j : Int, 0 ≤ j → j < 20 → u 14 j = s 5 j) → (∀ j : Int, 0 ≤ j → j < 5 → u 16 j = s 8 j) → (∀ j : Int, 0 ≤ j → j < 5 → u 17 j = s 9 j) → (∀ r : Int, 0 ≤ r → r < 5 → ∀ j : Int, 0 ≤ j → j < 6 → u (31 + r.toNat) j = s (26 + r.toNat) j) → Q (s 0 9) u) : wp_X0_image s Q := by
  unfold wp_X0_image
  refine ok_X0_copy (by decide) (by decide) (by decide) (fun t1 F1 h1 => ?_)
  refine ok_X0_copy (by decide) (by decide) (by decide) (fun t2 F2 h2 => ?_)
  refine ok_X0_copy (by decide) (by decide) (by decide) (fun t3 F3 h3 => ?_)
  refine ok_rows (by omega) (fun u F4 h4 => ?_)
  have e9 : u 0 9 = s 0 9 := by
    rw [F4 _ _ (by omega), F3 _ _ (by omega), F2 _ _ (by omega), F1 _ _ (by omega)]
    simp [up_at]
  rw [e9]
  refine hQ u (fun k j hk => ?_) ?_ ?_ ?_ ?_ ?_ (fun j j0 j1 => ?_) (fun j j0 j1 => ?_) (fun j j0 j1 => ?_) (fun r r0 r1 j j0 j1 => ?_)
  · rw [F4 _ _ (by omega), F3 _ _ (by omega), F2 _ _ (by omega), F1 _ _ (by omega), up_at, if_neg (by omega), up_at, if_neg (by omega), up_at, if_neg (by omega), up_at, if_neg (by omega), up_at, if_neg (by omega)]
  · rw [F4 _ _ (by omega), F3 _ _ (by omega), F2 _ _ (by omega), F1 _ _ (by omega)]
    simp [up_at]
  · rw [F4 _ _ (by omega), F3 _ _ (by omega), F2 _ _ (by omega), F1 _ _ (by omega)]
    simp [up_at]
  · rw [F4 _ _ (by omega), F3 _ _ (by omega), F2 _ _ (by omega), F1 _ _ (by omega)]
    simp [up_at]
  · rw [F4 _ _ (by omega), F3 _ _ (by omega), F2 _ _ (by omega), F1 _ _ (by omega)]
    simp [up_at]
  · rw [F4 _ _ (by omega), F3 _ _ (by omega), F2 _ _ (by omega), F1 _ _ (by omega)]
    simp [up_at]
  · rw [F4 _ _ (by omega), F3 _ _ (by omega), F2 _ _ (by omega), h1 j j0 j1]
    simp [up_at]
  · rw [F4 _ _ (by omega), F3 _ _ (by omega), h2 j j0 j1, F1 _ _ (by omega)]
    simp [up_at]
  · rw [F4 _ _ (by omega), h3 j j0 j1, F2 _ _ (by omega), F1 _ _ (by omega)]
    simp [up_at]
  · rw [h4 r r0 r1 j j0 j1, F3 _ _ (by omega), F2 _ _ (by omega), F1 _ _ (by omega), up_o _ _ _ _ (by omega), up_o _ _ _ _ (by omega), up_o _ _ _ _ (by omega), up_o _ _ _ _ (by omega), up_o _ _ _ _ (by omega)]
/-- the reference copies an array -/
theorem ok_mcopy {k1 k2 : Nat} {n : Int} {s : Sg} {P : Sg → Prop} {m : Nat} (hne : k1 ≠ k2) (n0 : 0 ≤ n) (n1 : n ≤ 100) (hP : ∀ t : Sg, (∀ (k : Nat) (j : Int), k ≠ k2 → t k j = s k j) → (∀ j : Int, 0 ≤ j → j < n → t k2 j = s k1 j) → P t) :
    LP2 (fun x1_1 s_2 K_3 => (Rg x1_1) ∧ ((n ≤ x1_1) → P s_2) ∧ ((x1_1 < n) → (0 ≤ x1_1) ∧ (x1_1 < n) ∧ (0 ≤ x1_1) ∧ (x1_1 < n) ∧ K_3 (x1_1 + 1) (up s_2 k2 x1_1 (s_2 k1 x1_1)))) 0 s := by
  refine ⟨fun x t => 0 ≤ x ∧ x ≤ n ∧ (∀ (k : Nat) (j : Int), k ≠ k2 → t k j = s k j) ∧ (∀ j : Int, 0 ≤ j → j < x → t k2 j = s k1 j), fun x t => (n - x).toNat, ⟨by omega, by omega, fun k j _ => rfl, fun j j0 j1 => by omega⟩, fun x t ⟨x0, x1, F, hc⟩ => ⟨by omega, fun h => ?_, fun h => ?_⟩⟩
  · exact hP t F (fun j j0 j1 => hc j j0 (by omega))
  · refine ⟨x0, by omega, x0, by omega, ⟨⟨by omega, by omega, fun k j hk => ?_, fun j j0 j1 => ?_⟩, by dsimp only; omega⟩⟩
    · rw [up_o _ _ _ _ hk]; exact F k j hk
    · by_cases q : j = x
      · rw [q, up_s]; exact F k1 x hne
      · rw [up_n _ _ _ _ _ q]; exact hc j j0 (by omega)
theorem ok_X2_image {Q : Int → Sg → Prop} (hQ : ∀ u : Sg, (∀ (k : Nat) (j : Int), ¬ ((k = 0 ∧ 28 ≤ j ∧ j ≤ 30) ∨ k = 16 ∨ k = 17) → u k j = t k j) → u 0 28 = t 0 13 → u 0 29 = t 0 15 → u 0 30 = t 0 17 → (∀ j : Int, 0 ≤ j → j < 20 → u 16 j = t 7 j) → (∀ j : Int, 0 ≤ j → j < 40 → u 17 j = t 8 j) → Q (t 0 13) u) : wp_X2_image t Q := by
  unfold wp_X2_image
  refine ok_mcopy (m := 0) (by decide) (by decide) (by decide) (fun t1 F1 h1 => ?_)
  refine ok_mcopy (m := 0) (by decide) (by decide) (by decide) (fun t2 F2 h2 => ?_)
  have e13 : (up (up (up t2 0 28 (t2 0 13)) 0 29 ((up t2 0 28 (t2 0 13)) 0 15)) 0 30 ((up (up t2 0 28 (t2 0 13)) 0 29 ((up t2 0 28 (t2 0 13)) 0 15)) 0 17)) 0 13 = t 0 13 := by
    have : t2 0 13 = t 0 13 := by rw [F2 _ _ (by omega), F1 _ _ (by omega)]
    simp [up_at, this]
  rw [e13]
  have F : ∀ (k : Nat) (j : Int), ¬ (k = 16 ∨ k = 17) → t2 k j = t k j := fun k j hk => by rw [F2 _ _ (by omega), F1 _ _ (by omega)]
  refine hQ _ (fun k j hk => ?_) ?_ ?_ ?_ (fun j j0 j1 => ?_) (fun j j0 j1 => ?_)
  · rw [up_at, if_neg (by omega), up_at, if_neg (by omega), up_at, if_neg (by omega)]
    exact F k j (by omega)
  · simp [up_at, F 0 13 (by omega)]
  · simp [up_at, F 0 15 (by omega)]
  · simp [up_at, F 0 17 (by omega)]
  · rw [up_o _ _ _ _ (by decide), up_o _ _ _ _ (by decide), up_o _ _ _ _ (by decide), F2 _ _ (by decide)]
    exact h1 j j0 j1
  · rw [up_o _ _ _ _ (by decide), up_o _ _ _ _ (by decide), up_o _ _ _ _ (by decide), h2 j j0 j1]
    exact F1 _ _ (by decide)
theorem rel_image (h : RL i s t) : wp_X0_image s (fun r s' => wp_X2_image t (fun r' t' => RR i r s' r' t')) := by
  have G := h.1
  have hg := G.b
  have M := h.2.1
  have K := h.2.2
  obtain ⟨b1, b2, b3, b4, b5, b6⟩ := RL_b.mp h
  refine ok_X0_image (fun u F e21 e22 e23 e24 e25 h14 h16 h17 h31 => ?_)
  refine ok_X2_image (fun v V v28 v29 v30 w16 w17 => ?_)
  refine ⟨M.h.symm, RL_b.mpr ⟨BC_c (fun k j hk => F k j (by unfold cb at hk; omega)) (fun k j hk => V k j (by unfold mb at hk; omega)) b1, BH_c (fun k j hk => F k j (by omega)) (fun k j hk => V k j (by omega)) b2, BS_c (fun k j hk => F k j (by omega)) (fun k j hk => V k j (by omega)) b3, BP_c (fun k j hk => F k j (by omega)) (fun k j hk => V k j (by omega)) b4, BA_c (F _ _ (by omega)) (V _ _ (by omega)) b5, ?_⟩⟩
  unfold KP
  rw [F 0 1 (by omega), F 0 7 (by omega), V 0 17 (by omega), F 1 1 (by omega), e21, e22, e23, e24, e25, v28, v29, v30]
  have c19 : u 19 = s 19 := funext fun j => F 19 j (by omega)
  refine ⟨K.1, Or.inr ⟨rfl, K.1.1, Int.le_refl _, K.1.2.1, Int.le_refl _, K.1.2.2.2, by omega, by omega, M.h, by omega, by omega, fun j j0 j1 => ?_, M.sh, fun r r0 r1 => ?_, fun _ _ => ?_⟩⟩
  · rw [w16 j j0 (by omega), h14 j j0 (by omega)]
    exact M.hd j0 j1
  · have hs := G.2.1.2.1.2.2 r r0 r1
    rw [w17 _ (by omega) (by omega), w17 _ (by omega) (by omega), h16 r r0 (by omega), h17 r r0 (by omega)]
    refine ⟨M.sc r0 r1, M.sw r0 r1, fun j j0 j1 => ?_⟩
    rw [w17 _ (by omega) (by omega), h31 r r0 (by omega) j j0 (by omega)]
    exact M.sk r0 r1 j0 j1
  · rw [c19]
    exact HS_c2 (fun j j0 j1 => h14 j j0 (by omega)) (fun j j0 j1 => h16 j j0 (by omega)) (fun j j0 j1 => h17 j j0 (by omega)) (fun r r0 r1 j j0 j1 => h31 r r0 (by omega) j j0 (by have := (G.2.1.2.1.2.2 r r0 r1).2.1; omega)) G.2.1
theorem ok_X0_restore {Q : Int → Sg → Prop} (h21 : Rg (s 0 21)) (h22 : s 0 21 ≠ 0 → Rg (s 0 22)) (h23 : s 0 21 ≠ 0 → Rg (s 0 23)) (h1 : Rg (s 0 1)) (h7 : Rg (s 0 7)) (hN : (s 0 21 = 0 ∨ s 0 22 ≠ s 0 1 ∨ s 0 23 ≠ s 0 7) → Q (-103) s)
    (hQ : s 0 21 ≠ 0 → s 0 22 = s 0 1 → s 0 23 = s 0 7 → ∀ u : Sg, (∀ (k : Nat) (j : Int), ¬ ((k = 0 ∧ (j = 9 ∨ j = 14)) ∨ k = 5 ∨ k = 8 ∨ k = 9 ∨ (26 ≤ k ∧ k < 31)) → u k j = s k j) → u 0 9 = s 0 24 → u 0 14 = s 0 25 →
    (∀ j : Int, 0 ≤ j → j < 20 → u 5 j = s 14 j) → (∀ j : Int, 0 ≤ j → j < 5 → u 8 j = s 16 j) → (∀ j : Int, 0 ≤ j → j < 5 → u 9 j = s 17 j) → (∀ r : Int, 0 ≤ r → r < 5 → ∀ j : Int, 0 ≤ j → j < 6 → u (26 + r.toNat) j = s (31 + r.toNat) j) → Q (s 0 24) u) : wp_X0_restore s Q := by
  unfold wp_X0_restore
  refine ⟨h21, fun w => hN (Or.inl w), fun w1 => ⟨h22 w1, h1, fun w => hN (Or.inr (Or.inl w)), fun w2 => ⟨h23 w1, h7, fun w3 => ?_, fun w => hN (Or.inr (Or.inr w))⟩⟩⟩
  have hQ := hQ w1 w2 w3
  refine ok_X0_copy (by decide) (by decide) (by decide) (fun t1 F1 h1 => ?_)
  refine ok_X0_copy (by decide) (by decide) (by decide) (fun t2 F2 h2 => ?_)
  refine ok_X0_copy (by decide) (by decide) (by decide) (fun t3 F3 h3 => ?_)
  refine ok_rows (by omega) (fun u F4 h4 => ?_)
  have e9 : u 0 9 = s 0 24 := by
    rw [F4 _ _ (by omega), F3 _ _ (by omega), F2 _ _ (by omega), F1 _ _ (by omega)]
    simp [up_at]
  rw [e9]
  refine hQ u (fun k j hk => ?_) e9 ?_ (fun j j0 j1 => ?_) (fun j j0 j1 => ?_) (fun j j0 j1 => ?_) (fun r r0 r1 j j0 j1 => ?_)
  · rw [F4 _ _ (by omega), F3 _ _ (by omega), F2 _ _ (by omega), F1 _ _ (by omega), up_at, if_neg (by omega), up_at, if_neg (by omega)]
  · rw [F4 _ _ (by omega), F3 _ _ (by omega), F2 _ _ (by omega), F1 _ _ (by omega)]
    simp [up_at]
  · rw [F4 _ _ (by omega), F3 _ _ (by omega), F2 _ _ (by omega), h1 j j0 j1]
    simp [up_at]
  · rw [F4 _ _ (by omega), F3 _ _ (by omega), h2 j j0 j1, F1 _ _ (by omega)]
    simp [up_at]
  · rw [F4 _ _ (by omega), h3 j j0 j1, F2 _ _ (by omega), F1 _ _ (by omega)]
    simp [up_at]
  · rw [h4 r r0 r1 j j0 j1, F3 _ _ (by omega), F2 _ _ (by omega), F1 _ _ (by omega), up_o _ _ _ _ (by omega), up_o _ _ _ _ (by omega)]
theorem ok_X2_restore {Q : Int → Sg → Prop} (h28 : Rg (t 0 28)) (h30 : t 0 28 ≠ -1 → Rg (t 0 30)) (h17 : Rg (t 0 17)) (hN : (t 0 28 = -1 ∨ t 0 30 ≠ t 0 17) → Q (-103) t)
    (hQ : t 0 28 ≠ -1 → t 0 30 = t 0 17 → ∀ u : Sg, (∀ (k : Nat) (j : Int), ¬ ((k = 0 ∧ (j = 13 ∨ j = 15)) ∨ k = 7 ∨ k = 8) → u k j = t k j) → u 0 13 = t 0 28 → u 0 15 = t 0 29 → (∀ j : Int, 0 ≤ j → j < 20 → u 7 j = t 16 j) → (∀ j : Int, 0 ≤ j → j < 40 → u 8 j = t 17 j) → Q (t 0 28) u) : wp_X2_restore t Q := by
  unfold wp_X2_restore
  refine ⟨h28, fun w => hN (Or.inl w), fun w1 => ⟨h30 w1, h17, fun w2 => ?_, fun w => hN (Or.inr w)⟩⟩
  have hQ := hQ w1 w2
  refine ok_mcopy (m := 0) (by decide) (by decide) (by decide) (fun t1 F1 h1 => ?_)
  refine ok_mcopy (m := 0) (by decide) (by decide) (by decide) (fun t2 F2 h2 => ?_)
  have F : ∀ (k : Nat) (j : Int), ¬ (k = 7 ∨ k = 8) → t2 k j = t k j := fun k j hk => by rw [F2 _ _ (by omega), F1 _ _ (by omega)]
  have e13 : (up (up t2 0 13 (t2 0 28)) 0 15 ((up t2 0 13 (t2 0 28)) 0 29)) 0 13 = t 0 28 := by
    simp [up_at, F 0 28 (by omega)]
  rw [e13]
  refine hQ _ (fun k j hk => ?_) e13 ?_ (fun j j0 j1 => ?_) (fun j j0 j1 => ?_)
  · rw [up_at, if_neg (by omega), up_at, if_neg (by omega)]
    exact F k j (by omega)
  · simp [up_at, F 0 29 (by omega)]
  · rw [up_o _ _ _ _ (by decide), up_o _ _ _ _ (by decide), F2 _ _ (by decide)]
    exact h1 j j0 j1
  · rw [up_o _ _ _ _ (by decide), up_o _ _ _ _ (by decide), h2 j j0 j1]
    exact F1 _ _ (by decide)
theorem rel_restore (h : RL i s t) (hi : i ≤ 1000000) : wp_X0_restore s (fun r s' => wp_X2_restore t (fun r' t' => RR i r s' r' t')) := by
  have G := h.1
  have hg := G.b
  have M := h.2.1
  have K := h.2.2
  obtain ⟨b1, b2, b3, b4, b5, b6⟩ := RL_b.mp h
  obtain ⟨⟨k0, k1, k2, k3⟩, K⟩ := K
  rcases K with ⟨p, q⟩ | ⟨p, k22, k22b, k23, k23b, k30, k24, k24b, k28, k25, k25b, k14, k29, k16, kH⟩
  · refine ok_X0_restore (by omega) (fun w => absurd p w) (fun w => absurd p w) (by omega) (by omega) (fun _ => ?_) (fun w => absurd p w)
    exact ok_X2_restore (by omega) (fun w => absurd q w) (by omega) (fun _ => ⟨rfl, h⟩) (fun w => absurd q w)
  · refine ok_X0_restore (by omega) (fun _ => by omega) (fun _ => by omega) (by omega) (by omega) (fun w => ?_) (fun w1 w2 w3 u F e9 e14 h5 h8 h9 h26 => ?_)
    · refine ok_X2_restore (by omega) (fun _ => by omega) (by omega) (fun _ => ⟨rfl, h⟩) (fun w3 w4 => by omega)
    · have H := kH w2 w3
      refine ok_X2_restore (by omega) (fun _ => by omega) (by omega) (fun w => by omega) (fun w4 w5 v V v13 v15 w7 w8 => ?_)
      have c1 : u 1 1 = s 1 1 := F 1 1 (by omega)
      have c19 : u 19 = s 19 := funext fun j => F 19 j (by omega)
      refine ⟨k28.symm, RL_b.mpr ⟨BC_c (fun k j hk => F k j (by unfold cb at hk; omega)) (fun k j hk => V k j (by unfold mb at hk; omega)) b1, ?_, ?_, BP_c (fun k j hk => F k j (by omega)) (fun k j hk => V k j (by omega)) b4, BA_c (F _ _ (by omega)) (V _ _ (by omega)) b5, KP_c (Int.le_refl i) (fun k j hk => F k j (by unfold ck at hk; omega)) (fun k j hk => V k j (by unfold mk at hk; omega)) b6⟩⟩
      · unfold BH
        rw [e9, v13, c1]
        refine ⟨⟨by omega, by omega, fun j j0 j1 => ?_⟩, k28, fun j j0 j1 => ?_⟩
        · rw [h5 j j0 (by omega)]; exact H.1.2.2 j j0 j1
        · rw [h5 j j0 (by omega), w7 j j0 (by omega)]; exact k14 j j0 j1
      · have H2 := HS_c2 (hd' := s 14) (sc' := u 8) (sw' := u 9) (sk' := fun i => u (26 + i.toNat)) (fun j _ _ => rfl) (fun j j0 j1 => h8 j j0 (by omega)) (fun j j0 j1 => h9 j j0 (by omega)) (fun r r0 r1 j j0 j1 => h26 r r0 (by omega) j j0 (by have := (H.2.1.2.2 r r0 r1).2.1; omega)) H
        unfold BS
        rw [e14, v15, c1, c19]
        refine ⟨H2.2.1, H2.2.2, k29, fun r r0 r1 => ?_⟩
        obtain ⟨q1, q2, q3, q4, q5⟩ := H.2.1.2.2 r r0 r1
        obtain ⟨a1, a2, a3⟩ := k16 r r0 r1
        rw [w8 _ (by omega) (by omega), w8 _ (by omega) (by omega), h8 r r0 (by omega), h9 r r0 (by omega)]
        refine ⟨a1, a2, fun j j0 j1 => ?_⟩
        rw [w8 _ (by omega) (by omega), h26 r r0 (by omega) j j0 (by omega)]
        exact a3 j j0 j1
end
