/-! PLAIN LAWS, 20: the sorts told on the sheets -/
theorem dad_n {v : Int} {p : Int × (Int → Int)} (h : ff (fun j => p.2 j = v) p.1.toNat = -1) : dad v p = (p.1 + 1, upI p.2 p.1 v) := by unfold dad; rw [if_pos h]
theorem dad_o {v : Int} {p : Int × (Int → Int)} (h : ff (fun j => p.2 j = v) p.1.toNat ≠ -1) : dad v p = p := by unfold dad; rw [if_neg h]
theorem dad_b (v : Int) (p : Int × (Int → Int)) : p.1 ≤ (dad v p).1 ∧ (dad v p).1 ≤ p.1 + 1 := by
  unfold dad
  split
  · show p.1 ≤ p.1 + 1 ∧ p.1 + 1 ≤ p.1 + 1; omega
  · omega
theorem dro_s (L row : Int → Int) (p : Int × (Int → Int)) {k : Int} (h : 0 ≤ k) : dro L row (k + 1).toNat p = dad (L (row k)) (dro L row k.toNat p) := by
  have e : (k + 1).toNat = k.toNat + 1 := by omega
  rw [e]
  show dad (L (row ((k.toNat : Nat) : Int))) _ = _
  rw [Int.toNat_of_nonneg h]
theorem dro_b (L row : Int → Int) (p : Int × (Int → Int)) (k : Nat) : p.1 ≤ (dro L row k p).1 ∧ (dro L row k p).1 ≤ p.1 + k := by
  induction k with
  | zero => show p.1 ≤ p.1 ∧ p.1 ≤ p.1 + 0; omega
  | succ k ih =>
    have := dad_b (L (row k)) (dro L row k p)
    show p.1 ≤ (dad (L (row k)) (dro L row k p)).1 ∧ (dad (L (row k)) (dro L row k p)).1 ≤ p.1 + ((k + 1 : Nat) : Int)
    omega
theorem dro_m (L row : Int → Int) (p : Int × (Int → Int)) {j k : Nat} (h : j ≤ k) : (dro L row j p).1 ≤ (dro L row k p).1 := by
  induction k with
  | zero => have : j = 0 := by omega
            subst this; exact Int.le_refl _
  | succ k ih =>
    by_cases q : j = k + 1
    · rw [q]; exact Int.le_refl _
    · have h1 := ih (by omega)
      have := dad_b (L (row k)) (dro L row k p)
      show _ ≤ (dad (L (row k)) (dro L row k p)).1
      omega
theorem dsh_s (L sc : Int → Int) (sk : Int → Int → Int) {k : Int} (h : 0 ≤ k) : dsh L sc sk (k + 1).toNat = dro L (sk k) (sc k).toNat (dsh L sc sk k.toNat) := by
  have e : (k + 1).toNat = k.toNat + 1 := by omega
  rw [e]
  show dro L (sk ((k.toNat : Nat) : Int)) (sc ((k.toNat : Nat) : Int)).toNat (dsh L sc sk k.toNat) = _
  rw [Int.toNat_of_nonneg h]
theorem dsh_0 (L sc : Int → Int) (sk : Int → Int → Int) (k : Nat) : 0 ≤ (dsh L sc sk k).1 := by
  induction k with
  | zero => exact Int.le_refl _
  | succ k ih =>
    have := (dro_b L (sk k) (dsh L sc sk k) (sc k).toNat).1
    show 0 ≤ (dro L (sk k) (sc k).toNat (dsh L sc sk k)).1
    omega
theorem dsh_m (L sc : Int → Int) (sk : Int → Int → Int) {j k : Nat} (h : j ≤ k) : (dsh L sc sk j).1 ≤ (dsh L sc sk k).1 := by
  induction k with
  | zero => have : j = 0 := by omega
            subst this; exact Int.le_refl _
  | succ k ih =>
    by_cases q : j = k + 1
    · rw [q]; exact Int.le_refl _
    · have h1 := ih (by omega)
      have := (dro_b L (sk k) (dsh L sc sk k) (sc k).toNat).1
      show _ ≤ (dro L (sk k) (sc k).toNat (dsh L sc sk k)).1
      omega
theorem dsh_c {L sc sc' : Int → Int} {sk sk' : Int → Int → Int} {n : Nat} (e2 : ∀ i : Int, 0 ≤ i → i < n → sc' i = sc i) (e4 : ∀ i : Int, 0 ≤ i → i < n → ∀ j : Int, 0 ≤ j → j < sc i → sk' i j = sk i j) : dsh L sc' sk' n = dsh L sc sk n := by
  induction n with
  | zero => rfl
  | succ n ih =>
    show dro L (sk' n) (sc' n).toNat (dsh L sc' sk' n) = dro L (sk n) (sc n).toNat (dsh L sc sk n)
    rw [ih (fun i i0 i1 => e2 i i0 (by omega)) (fun i i0 i1 => e4 i i0 (by omega)), e2 n (by omega) (by omega)]
    exact dro_c (fun j j0 j1 => e4 n (by omega) (by omega) j j0 (by omega))
-- x: doubts at 10, how many at 0 16
def DR (p : Int × (Int → Int)) (u : Sg) : Prop := u 0 16 = p.1 ∧ ∀ j : Int, 0 ≤ j → j < p.1 → u 10 j = p.2 j
-- the reference: told at 11, how many at 0 21
def DM (p : Int × (Int → Int)) (u : Sg) : Prop := u 0 21 = p.1 ∧ ∀ j : Int, 0 ≤ j → j < p.1 → u 11 j = p.2 j
/-- values told are sorts -/
def DV (g : Int) (p : Int × (Int → Int)) : Prop := 0 ≤ p.1 ∧ ∀ j : Int, 0 ≤ j → j < p.1 → 0 ≤ p.2 j ∧ p.2 j < g
theorem DV_dad {g v : Int} {p : Int × (Int → Int)} (h : DV g p) (v0 : 0 ≤ v) (v1 : v < g) : DV g (dad v p) := by
  by_cases q : ff (fun j => p.2 j = v) p.1.toNat = -1
  · rw [dad_n q]
    have h0 := h.1
    refine ⟨by show 0 ≤ p.1 + 1; omega, fun j j0 j1 => ?_⟩
    have j1 : j < p.1 + 1 := j1
    show 0 ≤ upI p.2 p.1 v j ∧ upI p.2 p.1 v j < g
    by_cases z : j = p.1
    · rw [z, upI_s]; exact ⟨v0, v1⟩
    · rw [upI_n _ z]; exact h.2 j j0 (by omega)
  · rw [dad_o q]; exact h
theorem DV_dro {g : Int} {L row : Int → Int} {p : Int × (Int → Int)} (h : DV g p) (k : Nat) (hv : ∀ j : Int, 0 ≤ j → j < k → 0 ≤ L (row j) ∧ L (row j) < g) : DV g (dro L row k p) := by
  induction k with
  | zero => exact h
  | succ k ih =>
    have h2 := hv k (by omega) (by omega)
    exact DV_dad (ih (fun j j0 j1 => hv j j0 (by omega))) h2.1 h2.2
theorem DV_dsh {g : Int} {L sc : Int → Int} {sk : Int → Int → Int} (k : Nat) (hv : ∀ i : Int, 0 ≤ i → i < k → ∀ j : Int, 0 ≤ j → j < sc i → 0 ≤ L (sk i j) ∧ L (sk i j) < g) : DV g (dsh L sc sk k) := by
  induction k with
  | zero => exact ⟨Int.le_refl _, fun j j0 j1 => by have : j < (0 : Int) := j1; omega⟩
  | succ k ih => exact DV_dro (ih (fun i i0 i1 => hv i i0 (by omega))) _ (fun j j0 j1 => hv k (by omega) (by omega) j j0 (by omega))
theorem ok_X0_doubtOf {g v : Int} {p : Int × (Int → Int)} {u : Sg} {Q : Int → Prop} (D : DR p u) (W : DV g p) (hg : g ≤ 100) (p1 : p.1 ≤ 18) (hv : Rg v) (hQ : Q (ff (fun j => p.2 j = v) p.1.toNat)) : wp_X0_doubtOf v u Q := by
  have h0 := W.1
  unfold wp_X0_doubtOf
  rw [D.1]
  refine ⟨fun i => 0 ≤ i ∧ i ≤ p.1 ∧ ∀ j : Int, 0 ≤ j → j < i → ¬ p.2 j = v, fun i => (p.1 - i).toNat, ⟨by omega, by omega, fun j j0 j1 => by omega⟩, fun i ⟨i0, i1, hi⟩ => ⟨by omega, by omega, fun h => ?_, fun h => ?_⟩⟩
  · have e : i = p.1 := by omega
    rw [e] at hi
    rw [ff_none hi] at hQ; exact hQ
  · have hw := W.2 i i0 h
    rw [D.2 i i0 h]
    refine ⟨i0, by omega, by omega, hv, fun q => ⟨⟨by omega, by omega, fun j j0 j1 => ?_⟩, by dsimp only; omega⟩, fun q => ?_⟩
    · by_cases z : j = i
      · rw [z]; exact q
      · exact hi j j0 (by omega)
    · rw [ff_hit i0 h q hi] at hQ; exact hQ
theorem ok_X2_placeOf {g v : Int} {p : Int × (Int → Int)} {u : Sg} {Q : Int → Prop} (D : DM p u) (W : DV g p) (hg : g ≤ 100) (p1 : p.1 ≤ 12) (hv : Rg v) (hQ : Q (ff (fun j => p.2 j = v) p.1.toNat)) : wp_X2_placeOf v u Q := by
  have h0 := W.1
  unfold wp_X2_placeOf
  rw [D.1]
  refine ⟨fun i => 0 ≤ i ∧ i ≤ p.1 ∧ ∀ j : Int, 0 ≤ j → j < i → ¬ p.2 j = v, fun i => (p.1 - i).toNat, ⟨by omega, by omega, fun j j0 j1 => by omega⟩, fun i ⟨i0, i1, hi⟩ => ⟨by omega, by omega, fun h => ?_, fun h => ?_⟩⟩
  · have e : i = p.1 := by omega
    rw [e] at hi
    rw [ff_none hi] at hQ; exact hQ
  · have hw := W.2 i i0 h
    rw [D.2 i i0 h]
    refine ⟨i0, by omega, by omega, hv, fun q => ⟨⟨by omega, by omega, fun j j0 j1 => ?_⟩, by dsimp only; omega⟩, fun q => ?_⟩
    · by_cases z : j = i
      · rw [z]; exact q
      · exact hi j j0 (by omega)
    · rw [ff_hit i0 h q hi] at hQ; exact hQ
theorem ff_rg (p : Int → Prop) {n : Int} (h : 0 ≤ n) : -1 ≤ ff p n.toNat ∧ ff p n.toNat < n ∨ ff p n.toNat = -1 := by
  rcases ff_spec p n with ⟨h, -⟩ | ⟨a, b, -⟩
  · exact Or.inr h
  · exact Or.inl ⟨by omega, b⟩
theorem ok_X2_tellAlso {g v : Int} {p : Int × (Int → Int)} {u : Sg} {Q : Sg → Prop} (D : DM p u) (W : DV g p) (hg : g ≤ 100) (p1 : p.1 ≤ 12) (hv : Rg v) (hd : (dad v p).1 ≤ 12) (hQ : ∀ w : Sg, DM (dad v p) w → (∀ (k : Nat) (j : Int), ¬ (k = 11 ∨ (k = 0 ∧ j = 21)) → w k j = u k j) → Q w) : wp_X2_tellAlso v u Q := by
  have h0 := W.1
  unfold wp_X2_tellAlso
  refine ok_X2_placeOf D W hg p1 hv ?_
  have hf := ff_rg (fun j => p.2 j = v) h0
  refine ⟨by omega, fun w => ?_, fun w => ?_⟩
  · exact hQ u (by rw [dad_o w]; exact D) (fun _ _ _ => rfl)
  · rw [dad_n w] at hd
    have hd : p.1 + 1 ≤ 12 := hd
    rw [D.1]
    refine ⟨by omega, ?_⟩
    unfold JN1
    refine ⟨fun z => by omega, fun z => ⟨by omega, z, ?_⟩⟩
    show Q (up (up u 11 p.1 v) 0 21 ((up u 11 p.1 v) 0 21 + 1))
    rw [up_o _ _ _ _ (show 0 ≠ 11 by decide), D.1]
    refine hQ _ ?_ (fun k j hk => by rw [up_at, if_neg (by omega), up_o _ _ _ _ (by omega)])
    rw [dad_n w]
    refine ⟨up_s _ _ _ _, fun j j0 j1 => ?_⟩
    have j1 : j < p.1 + 1 := j1
    rw [up_o _ _ _ _ (show 11 ≠ 0 by decide), up_k]
    show upI (u 11) p.1 v j = upI p.2 p.1 v j
    by_cases z : j = p.1
    · rw [z, upI_s, upI_s]
    · rw [upI_n _ z, upI_n _ z]; exact D.2 j j0 (by omega)
theorem ok_X0_layDoubts {k g : Int} {s : Sg} {Q : Sg → Prop} (k0 : 0 ≤ k) (k5 : k ≤ 5) (hg : g ≤ 84) (hs : ∀ i : Int, 0 ≤ i → i < k → 0 ≤ s 8 i ∧ s 8 i ≤ 6 ∧ ∀ j : Int, 0 ≤ j → j < s 8 i → (0 ≤ s (26 + i.toNat) j ∧ s (26 + i.toNat) j < 84) ∧ 0 ≤ s 19 (s (26 + i.toNat) j) ∧ s 19 (s (26 + i.toNat) j) < g)
    (h12 : ∀ i : Int, 0 ≤ i → i < k → (dsh (s 19) (s 8) (fun i => s (26 + i.toNat)) i.toNat).1 ≤ 12) (hQ : ∀ u : Sg, DR (dsh (s 19) (s 8) (fun i => s (26 + i.toNat)) k.toNat) u → (∀ (k : Nat) (j : Int), ¬ (k = 10 ∨ (k = 0 ∧ j = 16)) → u k j = s k j) → Q u) : wp_X0_layDoubts k s Q := by
  have hV : ∀ i : Int, 0 ≤ i → i ≤ k → DV g (dsh (s 19) (s 8) (fun i => s (26 + i.toNat)) i.toNat) := fun i i0 i1 => DV_dsh _ (fun r r0 r1 j j0 j1 => ((hs r r0 (by omega)).2.2 j j0 j1).2)
  unfold wp_X0_layDoubts
  refine ⟨fun i u => 0 ≤ i ∧ i ≤ k ∧ DR (dsh (s 19) (s 8) (fun i => s (26 + i.toNat)) i.toNat) u ∧ (∀ (k : Nat) (j : Int), ¬ (k = 10 ∨ (k = 0 ∧ j = 16)) → u k j = s k j), fun i u => (k - i).toNat, ⟨by omega, by omega, ⟨up_s _ _ _ _, fun j j0 j1 => by have : j < (0 : Int) := j1; omega⟩, fun k j hk => by rw [up_at, if_neg (by omega)]⟩, fun i u ⟨i0, i1, D, F⟩ => ⟨by omega, by omega, fun h => ?_, fun h => ?_⟩⟩
  · have e : i = k := by omega
    rw [e] at D
    exact hQ u D F
  · obtain ⟨c0, c6, hrow⟩ := hs i i0 h
    have h12i := h12 i i0 h
    have hVi := hV i i0 (by omega)
    have hrw := dsh_s (s 19) (s 8) (fun i => s (26 + i.toNat)) i0
    generalize hp : dsh (s 19) (s 8) (fun i => s (26 + i.toNat)) i.toNat = p at *
    refine ⟨fun j u => 0 ≤ j ∧ j ≤ s 8 i ∧ DR (dro (s 19) (s (26 + i.toNat)) j.toNat p) u ∧ (∀ (k : Nat) (j : Int), ¬ (k = 10 ∨ (k = 0 ∧ j = 16)) → u k j = s k j), fun j u => (s 8 i - j).toNat, ⟨by omega, by omega, D, F⟩, fun j u ⟨j0, j1, D, F⟩ => ?_⟩
    have f8 := F 8 i (by omega)
    refine ⟨i0, by omega, by omega, by omega, fun h2 => ?_, fun h2 => ?_⟩
    · have e : j = s 8 i := by omega
      rw [e] at D
      refine ⟨⟨by omega, by omega, ?_, F⟩, by dsimp only; omega⟩
      rw [hrw]; exact D
    · have h2 : j < s 8 i := by omega
      obtain ⟨⟨r0, r1⟩, l0, l1⟩ := hrow j j0 h2
      have fr : u (26 + i.toNat) = s (26 + i.toNat) := funext fun j => F _ j (by omega)
      have f19 : u 19 = s 19 := funext fun j => F _ j (by omega)
      rw [fr, f19]
      have hW := DV_dro (L := s 19) (row := s (26 + i.toNat)) hVi j.toNat (fun q q0 q1 => (hrow q q0 (by omega)).2)
      have hbb := dro_b (s 19) (s (26 + i.toNat)) p j.toNat
      have hst := dro_s (s 19) (s (26 + i.toNat)) p j0
      have hW0 := hW.1
      refine ⟨i0, by omega, j0, by omega, r0, by omega, ?_⟩
      refine ok_X0_doubtOf D hW (by omega) (by omega) (by omega) ?_
      have hf := ff_rg (fun q => (dro (s 19) (s (26 + i.toNat)) j.toNat p).2 q = s 19 (s (26 + i.toNat) j)) hW0
      refine ⟨by omega, ?_⟩
      unfold JN1
      refine ⟨fun z => ⟨⟨by omega, by omega, ?_, F⟩, by dsimp only; omega⟩, fun z => ?_⟩
      · rw [hst, dad_o z]; exact D
      · rw [up_o _ _ _ _ (show 0 ≠ 10 by decide), D.1]
        refine ⟨by omega, by omega, ⟨⟨by omega, by omega, ?_, fun k j hk => ?_⟩, by dsimp only; omega⟩⟩
        · rw [hst, dad_n z]
          refine ⟨up_s _ _ _ _, fun q q0 q1 => ?_⟩
          rw [up_o _ _ _ _ (show 10 ≠ 0 by decide), up_k]
          show upI (u 10) _ _ q = upI _ _ _ q
          have q1 : q < (dro (s 19) (s (26 + i.toNat)) j.toNat p).1 + 1 := q1
          by_cases y : q = (dro (s 19) (s (26 + i.toNat)) j.toNat p).1
          · rw [y, upI_s, upI_s]
          · rw [upI_n _ y, upI_n _ y]; exact D.2 q q0 (by omega)
        · rw [up_at, if_neg (by omega), up_o _ _ _ _ (by omega)]; exact F k j hk
