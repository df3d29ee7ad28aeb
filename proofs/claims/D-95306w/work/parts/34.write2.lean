/-! PLAIN LAWS, 15: the relation in blocks -/
def BC (s t : Sg) : Prop := (TBx 1 36 s (s 1 0) ∧ s 1 0 ≤ 9 ∧ LVs s ∧ SX 1 19 20 21 s (Eds s (s 1 0)) (s 5000 2) (C3 (s 1 0))) ∧ MC1 s t
def BH (s t : Sg) : Prop := (0 ≤ s 0 9 ∧ s 0 9 ≤ 20 ∧ ∀ i : Int, 0 ≤ i → i < s 0 9 → 0 ≤ s 5 i ∧ s 5 i < s 1 1) ∧ (t 0 13 = s 0 9 ∧ (∀ i : Int, 0 ≤ i → i < s 0 9 → t 7 i = s 5 i))
def BS (s t : Sg) : Prop := (0 ≤ s 0 14 ∧ s 0 14 ≤ 5 ∧ ∀ i : Int, 0 ≤ i → i < s 0 14 → 1 ≤ s 8 i ∧ s 8 i ≤ 6 ∧ 0 ≤ s 9 i ∧ s 9 i ≤ 6 ∧ ∀ j : Int, 0 ≤ j → j < s 8 i → 0 ≤ s (26 + i.toNat) j ∧ s (26 + i.toNat) j < s 1 1) ∧
  (dsh (s 19) (s 8) (fun i => s (26 + i.toNat)) (s 0 14).toNat).1 ≤ 12 ∧
  (t 0 15 = s 0 14 ∧ ∀ i : Int, 0 ≤ i → i < s 0 14 → t 8 (8 * i) = s 8 i ∧ t 8 (8 * i + 7) = s 9 i ∧ ∀ j : Int, 0 ≤ j → j < s 8 i → t 8 (8 * i + 1 + j) = s (26 + i.toNat) j)
def BP (s t : Sg) : Prop := (0 ≤ s 0 3 ∧ s 0 3 ≤ 20 ∧ ∀ i : Int, 0 ≤ i → i < s 0 3 → 1 ≤ s 3 i ∧ s 3 i ≤ 126) ∧ (t 0 1 = s 0 3 ∧ ∀ i : Int, 0 ≤ i → i < s 0 3 → t 1 i = s 3 i)
def BA (s t : Sg) : Prop := 0 ≤ s 0 19 ∧ s 0 19 ≤ 30 ∧ t 0 24 = s 0 19
theorem RL_b {i : Int} {s t : Sg} : RL i s t ↔ (BC s t ∧ BH s t ∧ BS s t ∧ BP s t ∧ BA s t ∧ KP i s t) := by
  constructor
  · rintro ⟨⟨g1, ⟨h1, h2, h3⟩, g3, g4, g5⟩, ⟨m1, m2, m3, m4, m5⟩, k⟩
    exact ⟨⟨g1, m1⟩, ⟨h1, m2⟩, ⟨h2, h3, m3⟩, ⟨g3, m4⟩, ⟨g4, g5, m5⟩, k⟩
  · rintro ⟨⟨g1, m1⟩, ⟨h1, m2⟩, ⟨h2, h3, m3⟩, ⟨g3, m4⟩, ⟨g4, g5, m5⟩, k⟩
    exact ⟨⟨g1, ⟨h1, h2, h3⟩, g3, g4, g5⟩, ⟨m1, m2, m3, m4, m5⟩, k⟩
section
variable {s t s' t' : Sg}
theorem BC_c (X : ∀ (k : Nat) (j : Int), cb k → s' k j = s k j) (Y : ∀ (k : Nat) (j : Int), mb k j → t' k j = t k j) (B : BC s t) : BC s' t' := ⟨GX1_c X B.1, MC1_c X Y B.2⟩
theorem BH_c (X : ∀ (k : Nat) (j : Int), (k = 1 ∨ k = 5 ∨ (k = 0 ∧ j = 9)) → s' k j = s k j) (Y : ∀ (k : Nat) (j : Int), (k = 7 ∨ (k = 0 ∧ j = 13)) → t' k j = t k j) (B : BH s t) : BH s' t' := by
  have c1 : s' 1 = s 1 := funext fun j => X 1 j (by omega)
  have c5 : s' 5 = s 5 := funext fun j => X 5 j (by omega)
  have d7 : t' 7 = t 7 := funext fun j => Y 7 j (by omega)
  unfold BH
  rw [c1, c5, d7, X 0 9 (by omega), Y 0 13 (by omega)]
  exact B
theorem BS_c (X : ∀ (k : Nat) (j : Int), (k = 1 ∨ k = 19 ∨ k = 8 ∨ k = 9 ∨ (26 ≤ k ∧ k < 31) ∨ (k = 0 ∧ j = 14)) → s' k j = s k j) (Y : ∀ (k : Nat) (j : Int), (k = 8 ∨ (k = 0 ∧ j = 15)) → t' k j = t k j) (B : BS s t) : BS s' t' := by
  have c1 : s' 1 = s 1 := funext fun j => X 1 j (by omega)
  have c8 : s' 8 = s 8 := funext fun j => X 8 j (by omega)
  have c9 : s' 9 = s 9 := funext fun j => X 9 j (by omega)
  have c19 : s' 19 = s 19 := funext fun j => X 19 j (by omega)
  have d8 : t' 8 = t 8 := funext fun j => Y 8 j (by omega)
  obtain ⟨⟨a, b, c⟩, d, e, f⟩ := B
  have hr : ∀ i : Int, 0 ≤ i → i < s 0 14 → s' (26 + i.toNat) = s (26 + i.toNat) := fun i i0 i1 => funext fun j => X _ j (by omega)
  have H := HS_c (hd := s 5) (sw := s 9) (m := s 1 1) (sk' := fun i => s' (26 + i.toNat)) (h := 0) (fun i _ _ => rfl) rfl rfl (fun i i0 i1 => hr i i0 i1) rfl ⟨⟨by omega, by omega, fun i i0 i1 => by omega⟩, ⟨a, b, c⟩, d⟩
  unfold BS
  rw [c1, c8, c9, c19, d8, X 0 14 (by omega), Y 0 15 (by omega)]
  refine ⟨H.2.1, H.2.2, e, fun i i0 i1 => ?_⟩
  rw [hr i i0 i1]; exact f i i0 i1
theorem BP_c (X : ∀ (k : Nat) (j : Int), (k = 3 ∨ (k = 0 ∧ j = 3)) → s' k j = s k j) (Y : ∀ (k : Nat) (j : Int), (k = 1 ∨ (k = 0 ∧ j = 1)) → t' k j = t k j) (B : BP s t) : BP s' t' := by
  have c1 : s' 3 = s 3 := funext fun j => X 3 j (by omega)
  have d1 : t' 1 = t 1 := funext fun j => Y 1 j (by omega)
  unfold BP
  rw [c1, d1, X 0 3 (by omega), Y 0 1 (by omega)]
  exact B
theorem BA_c (X : s' 0 19 = s 0 19) (Y : t' 0 24 = t 0 24) (B : BA s t) : BA s' t' := by
  unfold BA; rw [X, Y]; exact B
end
section
variable {s t : Sg} {i a b c : Int}
theorem rel_forget (h : RL i s t) : wp_X0_forget s (fun r s' => wp_X2_forget t (fun r' t' => RR i r s' r' t')) := by
  have M := h.2.1
  obtain ⟨b1, b2, b3, b4, b5, b6⟩ := RL_b.mp h
  refine ⟨M.h.symm, RL_b.mpr ⟨BC_c (fun k j hk => ?_) (fun k j hk => ?_) b1, ?_, BS_c (fun k j hk => ?_) (fun k j hk => ?_) b3, BP_c (fun k j hk => ?_) (fun k j hk => ?_) b4, BA_c ?_ ?_ b5, KP_c (Int.le_refl i) (fun k j hk => ?_) (fun k j hk => ?_) b6⟩⟩
  · unfold cb at hk; rw [up_at, if_neg (by omega)]
  · unfold mb at hk; rw [up_at, if_neg (by omega)]
  · unfold BH
    rw [up_s, up_s]
    exact ⟨⟨by omega, by omega, fun j j0 j1 => by omega⟩, rfl, fun j j0 j1 => by omega⟩
  · rw [up_at, if_neg (by omega)]
  · rw [up_at, if_neg (by omega)]
  · rw [up_at, if_neg (by omega)]
  · rw [up_at, if_neg (by omega)]
  · rw [up_at, if_neg (by omega)]
  · rw [up_at, if_neg (by omega)]
  · unfold ck at hk; rw [up_at, if_neg (by omega)]
  · unfold mk at hk; rw [up_at, if_neg (by omega)]
theorem rel_blank (h : RL i s t) : wp_X0_blank s (fun r s' => wp_X2_blank t (fun r' t' => RR i r s' r' t')) := by
  have M := h.2.1
  obtain ⟨b1, b2, b3, b4, b5, b6⟩ := RL_b.mp h
  refine ⟨M.pg.symm, RL_b.mpr ⟨BC_c (fun k j hk => ?_) (fun k j hk => ?_) b1, BH_c (fun k j hk => ?_) (fun k j hk => ?_) b2, BS_c (fun k j hk => ?_) (fun k j hk => ?_) b3, ?_, BA_c ?_ ?_ b5, KP_c (Int.le_refl i) (fun k j hk => ?_) (fun k j hk => ?_) b6⟩⟩
  · unfold cb at hk; rw [up_at, if_neg (by omega)]
  · unfold mb at hk; rw [up_at, if_neg (by omega)]
  · rw [up_at, if_neg (by omega)]
  · rw [up_at, if_neg (by omega)]
  · rw [up_at, if_neg (by omega)]
  · rw [up_at, if_neg (by omega)]
  · unfold BP
    rw [up_s, up_s]
    exact ⟨⟨by omega, by omega, fun j j0 j1 => by omega⟩, rfl, fun j j0 j1 => by omega⟩
  · rw [up_at, if_neg (by omega)]
  · rw [up_at, if_neg (by omega)]
  · unfold ck at hk; rw [up_at, if_neg (by omega)]
  · unfold mk at hk; rw [up_at, if_neg (by omega)]
/-- copying one array into another -/
theorem ok_X0_copy {k1 k2 n1 n2 : Nat} {Q : Sg → Prop} (hne : k1 ≠ k2) (hn : n2 ≤ n1) (hn2 : n2 ≤ 100) (hQ : ∀ t : Sg, (∀ (k : Nat) (j : Int), k ≠ k2 → t k j = s k j) → (∀ j : Int, 0 ≤ j → j < n2 → t k2 j = s k1 j) → Q t) : wp_X0_copy k1 k2 n1 n2 s Q := by
  unfold wp_X0_copy
  refine ⟨fun x t => 0 ≤ x ∧ x ≤ n2 ∧ (∀ (k : Nat) (j : Int), k ≠ k2 → t k j = s k j) ∧ (∀ j : Int, 0 ≤ j → j < x → t k2 j = s k1 j), fun x t => ((n2 : Int) - x).toNat, ⟨by omega, by omega, fun k j _ => rfl, fun j j0 j1 => by omega⟩, fun x t ⟨x0, x1, F, hc⟩ => ⟨by omega, by omega, fun h => ?_, fun h => ?_⟩⟩
  · exact hQ t F (fun j j0 j1 => hc j j0 (by omega))
  · refine ⟨x0, by omega, x0, by omega, ⟨⟨by omega, by omega, fun k j hk => ?_, fun j j0 j1 => ?_⟩, by dsimp only; omega⟩⟩
    · rw [up_o _ _ _ _ hk]; exact F k j hk
    · by_cases q : j = x
      · rw [q, up_s]; exact F k1 x hne
      · rw [up_n _ _ _ _ _ q]; exact hc j j0 (by omega)
end
