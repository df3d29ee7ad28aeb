/-! PLAIN LAWS, 14: the small calls that change something -/
def cb (k : Nat) : Prop := k = 1 ∨ k = 19 ∨ k = 20 ∨ k = 21 ∨ (36 ≤ k ∧ k < 156) ∨ 5000 ≤ k
def ck (k : Nat) (j : Int) : Prop := (k = 0 ∧ (j = 1 ∨ j = 7 ∨ (21 ≤ j ∧ j ≤ 25))) ∨ k = 14 ∨ k = 16 ∨ k = 17 ∨ (31 ≤ k ∧ k < 36) ∨ k = 1 ∨ k = 19
def mb (k : Nat) (j : Int) : Prop := (k = 0 ∧ (j = 2 ∨ j = 7 ∨ j = 8 ∨ j = 10)) ∨ k = 2 ∨ k = 4 ∨ k = 5 ∨ k = 6
def mk (k : Nat) (j : Int) : Prop := (k = 0 ∧ (j = 17 ∨ j = 28 ∨ j = 29 ∨ j = 30)) ∨ k = 16 ∨ k = 17
theorem GX1_c {s t : Sg} (X : ∀ (k : Nat) (j : Int), cb k → t k j = s k j) (G : TBx 1 36 s (s 1 0) ∧ s 1 0 ≤ 9 ∧ LVs s ∧ SX 1 19 20 21 s (Eds s (s 1 0)) (s 5000 2) (C3 (s 1 0))) :
    TBx 1 36 t (t 1 0) ∧ t 1 0 ≤ 9 ∧ LVs t ∧ SX 1 19 20 21 t (Eds t (t 1 0)) (t 5000 2) (C3 (t 1 0)) := by
  obtain ⟨T, n9, V, S⟩ := G
  have fn : ∀ k : Nat, cb k → t k = s k := fun k h => funext fun j => X k j h
  have c1 := fn 1 (by unfold cb; omega)
  have e0 := fn 5000 (by unfold cb; omega)
  have e1 := fn 5001 (by unfold cb; omega)
  have e2 := fn 5002 (by unfold cb; omega)
  have e3 := fn 5003 (by unfold cb; omega)
  have e19 := fn 19 (by unfold cb; omega)
  have e20 := fn 20 (by unfold cb; omega)
  have e21 := fn 21 (by unfold cb; omega)
  have hb := C3_b (show 0 ≤ s 1 0 by have := T.1; omega) T.2.1
  unfold LVs SX Eds TBx
  rw [c1, e0, e1, e2, e3, e19, e20, e21]
  refine ⟨⟨T.1, T.2.1, T.2.2.1, T.2.2.2.1, fun k k0 k1 => ?_⟩, n9, V, S⟩
  rw [fn (36 + k.toNat) (by unfold cb; omega)]
  exact T.2.2.2.2 k k0 k1
def MC1 (s t : Sg) : Prop := TBm t (s 1 0) ∧ LM t (s 5000 2) (s 5001) (s 5002) (s 5003) ∧ t 0 10 = s 1 2 ∧ (∀ c : Int, 0 ≤ c → c < s 1 1 → t 5 c = s 19 c) ∧ (∀ j : Int, 0 ≤ j → j < s 1 2 → t 6 j = s 20 j)
theorem MC1_c {s t s' t' : Sg} (X : ∀ (k : Nat) (j : Int), cb k → s' k j = s k j) (Y : ∀ (k : Nat) (j : Int), mb k j → t' k j = t k j) (M : MC1 s t) : MC1 s' t' := by
  have fn : ∀ k : Nat, cb k → s' k = s k := fun k h => funext fun j => X k j h
  have gn : ∀ k : Nat, (∀ j, mb k j) → t' k = t k := fun k h => funext fun j => Y k j (h j)
  have c1 := fn 1 (by unfold cb; omega)
  have e0 := fn 5000 (by unfold cb; omega)
  have e1 := fn 5001 (by unfold cb; omega)
  have e2 := fn 5002 (by unfold cb; omega)
  have e3 := fn 5003 (by unfold cb; omega)
  have e19 := fn 19 (by unfold cb; omega)
  have e20 := fn 20 (by unfold cb; omega)
  have d2 := gn 2 (fun j => by unfold mb; omega)
  have d4 := gn 4 (fun j => by unfold mb; omega)
  have d5 := gn 5 (fun j => by unfold mb; omega)
  have d6 := gn 6 (fun j => by unfold mb; omega)
  unfold MC1 TBm LM
  rw [c1, e0, e1, e2, e3, e19, e20, d2, d4, d5, d6, Y 0 2 (by unfold mb; omega), Y 0 7 (by unfold mb; omega), Y 0 8 (by unfold mb; omega), Y 0 10 (by unfold mb; omega)]
  exact M
theorem KP_c {i i' : Int} {s t s' t' : Sg} (hi : i ≤ i') (X : ∀ (k : Nat) (j : Int), ck k j → s' k j = s k j) (Y : ∀ (k : Nat) (j : Int), mk k j → t' k j = t k j) (M : KP i s t) : KP i' s' t' := by
  have fn : ∀ k : Nat, (∀ j, ck k j) → s' k = s k := fun k h => funext fun j => X k j (h j)
  have gn : ∀ k : Nat, (∀ j, mk k j) → t' k = t k := fun k h => funext fun j => Y k j (h j)
  have c1 := fn 1 (fun j => by unfold ck; omega)
  have e14 := fn 14 (fun j => by unfold ck; omega)
  have e16 := fn 16 (fun j => by unfold ck; omega)
  have e17 := fn 17 (fun j => by unfold ck; omega)
  have e19 := fn 19 (fun j => by unfold ck; omega)
  have d16 := gn 16 (fun j => by unfold mk; omega)
  have d17 := gn 17 (fun j => by unfold mk; omega)
  unfold KP
  rw [c1, e14, e16, e17, e19, d16, d17, X 0 1 (by unfold ck; omega), X 0 7 (by unfold ck; omega), X 0 21 (by unfold ck; omega), X 0 22 (by unfold ck; omega), X 0 23 (by unfold ck; omega), X 0 24 (by unfold ck; omega), X 0 25 (by unfold ck; omega), Y 0 17 (by unfold mk; omega), Y 0 28 (by unfold mk; omega), Y 0 29 (by unfold mk; omega), Y 0 30 (by unfold mk; omega)]
  obtain ⟨⟨a0, a1, a2, a3⟩, M⟩ := M
  refine ⟨⟨a0, a1, by omega, a3⟩, ?_⟩
  rcases M with h | ⟨a, b, c, d, e, f, g, h, i, q0, q, j, k, l, m⟩
  · exact Or.inl h
  · refine Or.inr ⟨a, b, c, d, e, f, g, h, i, q0, q, j, k, fun i i0 i1 => ?_, fun w1 w2 => ?_⟩
    · rw [fn (31 + i.toNat) (fun j => by unfold ck; omega)]
      exact l i i0 i1
    · exact HS_c (fun i _ _ => rfl) rfl rfl (fun i i0 i1 => fn _ (fun j => by unfold ck; omega)) rfl (m w1 w2)
theorem RL_mono {i i' : Int} {s t : Sg} (h : RL i s t) (hi : i ≤ i') : RL i' s t := ⟨h.1, h.2.1, KP_c hi (fun _ _ _ => rfl) (fun _ _ _ => rfl) h.2.2⟩
/-- what a call leaves: the same answer, and the relation -/
def RR (i : Int) (r : Int) (s : Sg) (r' : Int) (t : Sg) : Prop := r = r' ∧ RL i s t
section
variable {s t : Sg} {i a b c : Int}
theorem rel_strike (h : RL i s t) (ha : Rg a) : wp_X0_strike a s (fun r s' => wp_X2_strike a t (fun r' t' => RR i r s' r' t')) := by
  obtain ⟨G, M, P⟩ := h
  have hg := G.b
  unfold wp_X0_strike
  refine ok_X0_isChord (XS.refl s) G ha (fun p q => tt1 (ok_X0_asWhat G (XS.refl s) p q ?_)) (fun p => tt0 ?_)
  · have hab := asW_b G a
    have hm : ∀ Q : Int → Sg → Prop, (Rg (asW s a) → (asW s a = -1 → (Rg (t 0 13)) ∧ ((¬ (t 0 13) = 20) → (0 ≤ (t 0 13)) ∧ ((t 0 13) < 20) ∧ Q 1 (up (up t 7 (t 0 13) a) 0 13 (((up t 7 (t 0 13) a) 0 13) + 1))) ∧ (((t 0 13) = 20) → Q (-104) t)) ∧ (¬ asW s a = -1 → Q 0 t)) → wp_X2_strike a t Q := fun Q hQ => by
      unfold wp_X2_strike
      exact ok_X2_isChord M G ha (fun _ _ => tt1 (ok_X2_asOf G M p q ⟨by omega, (hQ (by omega)).1, (hQ (by omega)).2⟩)) (fun w => absurd ⟨p, q⟩ w)
    refine ⟨by omega, fun w => ⟨by omega, fun w2 => ⟨by omega, by omega, ?_⟩, fun w2 => ?_⟩, fun w => ?_⟩
    · refine hm _ (fun _ => ⟨fun _ => ⟨by rw [M.h]; omega, fun _ => ⟨by rw [M.h]; omega, by rw [M.h]; omega, rfl, ?_⟩, fun z => absurd (M.h ▸ z) w2⟩, fun z => absurd w z⟩)
      have e9 : ∀ u : Sg, ∀ k : Nat, ∀ z : Int, k ≠ 0 → (up u k (s 0 9) z) 0 9 = u 0 9 := fun u k z hk => by rw [up_o _ _ _ _ (fun q => hk q.symm)]
      have e13 : (up t 7 (t 0 13) a) 0 13 = t 0 13 := by rw [up_o _ _ _ _ (show 0 ≠ 7 by decide)]
      rw [e9 s 5 a (by decide), e13, M.h]
      refine ⟨⟨GX1_c (fun k j hk => ?_) G.1, ?_, ?_, ?_⟩, ⟨MC1_c (fun k j hk => ?_) (fun k j hk => ?_) M.1, ?_, ?_, ?_, ?_⟩, KP_c (Int.le_refl i) (fun k j hk => ?_) (fun k j hk => ?_) P⟩
      · unfold cb at hk; rw [up_o _ _ _ _ (by omega), up_o _ _ _ _ (by omega)]
      · rw [up_s, up_n _ _ _ _ _ (show (14 : Int) ≠ 9 by decide), up_o _ _ _ _ (show 0 ≠ 5 by decide), up_o _ _ _ _ (show 5 ≠ 0 by decide), up_k]
        have f8 : (up (up s 5 (s 0 9) a) 0 9 (s 0 9 + 1)) 8 = s 8 := by rw [up_o _ _ _ _ (by decide), up_o _ _ _ _ (by decide)]
        have f9 : (up (up s 5 (s 0 9) a) 0 9 (s 0 9 + 1)) 9 = s 9 := by rw [up_o _ _ _ _ (by decide), up_o _ _ _ _ (by decide)]
        have f1 : (up (up s 5 (s 0 9) a) 0 9 (s 0 9 + 1)) 1 = s 1 := by rw [up_o _ _ _ _ (by decide), up_o _ _ _ _ (by decide)]
        have f19 : (up (up s 5 (s 0 9) a) 0 9 (s 0 9 + 1)) 19 = s 19 := by rw [up_o _ _ _ _ (by decide), up_o _ _ _ _ (by decide)]
        rw [f8, f9, f1, f19]
        have H := HS_c (sk' := fun i => (up (up s 5 (s 0 9) a) 0 9 (s 0 9 + 1)) (26 + i.toNat)) (fun i _ _ => rfl) rfl rfl (fun i i0 i1 => by show up _ _ _ _ _ = _; rw [up_o _ _ _ _ (by omega), up_o _ _ _ _ (by omega)]) rfl G.2.1
        refine ⟨⟨by omega, by omega, fun i i0 i1 => ?_⟩, H.2⟩
        by_cases z : i = s 0 9
        · rw [z, upI_s]; omega
        · rw [upI_n _ z]; exact G.hd i0 (by omega)
      · rw [up_n _ _ _ _ _ (show (3 : Int) ≠ 9 by decide), up_o _ _ _ _ (show 0 ≠ 5 by decide), up_o _ _ _ _ (show 3 ≠ 0 by decide), up_o _ _ _ _ (show 3 ≠ 5 by decide)]
        exact G.2.2.1
      · rw [up_n _ _ _ _ _ (show (19 : Int) ≠ 9 by decide), up_o _ _ _ _ (show 0 ≠ 5 by decide)]
        exact G.2.2.2
      · unfold cb at hk; rw [up_o _ _ _ _ (by omega), up_o _ _ _ _ (by omega)]
      · unfold mb at hk; rw [up_at, if_neg (by omega), up_o _ _ _ _ (by omega)]
      · rw [up_s, up_s]
        refine ⟨rfl, fun i i0 i1 => ?_⟩
        rw [up_o _ _ _ _ (show 7 ≠ 0 by decide), up_o _ _ _ _ (show 5 ≠ 0 by decide), up_k, up_k]
        by_cases z : i = s 0 9
        · rw [z, upI_s, upI_s]
        · rw [upI_n _ z, upI_n _ z]; exact M.hd i0 (by omega)
      · rw [up_n _ _ _ _ _ (show (15 : Int) ≠ 13 by decide), up_o _ _ _ _ (show 0 ≠ 7 by decide), up_n _ _ _ _ _ (show (14 : Int) ≠ 9 by decide), up_o _ _ _ _ (show 0 ≠ 5 by decide)]
        have f8 : (up (up s 5 (s 0 9) a) 0 9 (s 0 9 + 1)) 8 = s 8 := by rw [up_o _ _ _ _ (by decide), up_o _ _ _ _ (by decide)]
        have f9 : (up (up s 5 (s 0 9) a) 0 9 (s 0 9 + 1)) 9 = s 9 := by rw [up_o _ _ _ _ (by decide), up_o _ _ _ _ (by decide)]
        have g8 : (up (up t 7 (s 0 9) a) 0 13 (s 0 9 + 1)) 8 = t 8 := by rw [up_o _ _ _ _ (by decide), up_o _ _ _ _ (by decide)]
        rw [f8, f9, g8]
        refine ⟨M.sh, fun i i0 i1 => ?_⟩
        rw [up_o _ _ _ _ (show 26 + i.toNat ≠ 0 by omega), up_o _ _ _ _ (show 26 + i.toNat ≠ 5 by omega)]
        exact M.2.2.1.2 i i0 i1
      · rw [up_n _ _ _ _ _ (show (1 : Int) ≠ 13 by decide), up_o _ _ _ _ (show 0 ≠ 7 by decide), up_n _ _ _ _ _ (show (3 : Int) ≠ 9 by decide), up_o _ _ _ _ (show 0 ≠ 5 by decide), up_o _ _ _ _ (show 1 ≠ 0 by decide), up_o _ _ _ _ (show 1 ≠ 7 by decide), up_o _ _ _ _ (show 3 ≠ 0 by decide), up_o _ _ _ _ (show 3 ≠ 5 by decide)]
        exact M.2.2.2.1
      · rw [up_n _ _ _ _ _ (show (24 : Int) ≠ 13 by decide), up_o _ _ _ _ (show 0 ≠ 7 by decide), up_n _ _ _ _ _ (show (19 : Int) ≠ 9 by decide), up_o _ _ _ _ (show 0 ≠ 5 by decide)]
        exact M.ask
      · unfold ck at hk; rw [up_at, if_neg (by omega), up_o _ _ _ _ (by omega)]
      · unfold mk at hk; rw [up_at, if_neg (by omega), up_o _ _ _ _ (by omega)]
    · exact hm _ (fun _ => ⟨fun _ => ⟨by rw [M.h]; omega, fun z => absurd (M.h.trans w2) z, fun _ => ⟨rfl, G, M, P⟩⟩, fun z => absurd w z⟩)
    · exact hm _ (fun _ => ⟨fun z => absurd z w, fun _ => ⟨rfl, G, M, P⟩⟩)
  · unfold wp_X2_strike
    exact ok_X2_isChord M G ha (fun p1 q1 => absurd ⟨p1, q1⟩ p) (fun _ => tt0 ⟨rfl, G, M, P⟩)
end
