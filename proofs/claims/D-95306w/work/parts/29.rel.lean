/-! PLAIN LAWS, 10: what the two systems have in common -/
-- the sorts told on the sheets, in the order in which they are told: how many, which
noncomputable def dad (v : Int) (p : Int × (Int → Int)) : Int × (Int → Int) := if ff (fun j => p.2 j = v) p.1.toNat = -1 then (p.1 + 1, upI p.2 p.1 v) else p
noncomputable def dro (L row : Int → Int) : Nat → Int × (Int → Int) → Int × (Int → Int)
  | 0, p => p
  | k + 1, p => dad (L (row (k : Int))) (dro L row k p)
noncomputable def dsh (L sc : Int → Int) (sk : Int → Int → Int) : Nat → Int × (Int → Int)
  | 0 => (0, fun _ => 0)
  | k + 1 => dro L (sk (k : Int)) (sc (k : Int)).toNat (dsh L sc sk k)
/-- heard chords and sheets that hold for m chords of the sorts L -/
def HS (h : Int) (hd : Int → Int) (sh : Int) (sc sw : Int → Int) (sk : Int → Int → Int) (m : Int) (L : Int → Int) : Prop :=
  (0 ≤ h ∧ h ≤ 20 ∧ ∀ i : Int, 0 ≤ i → i < h → 0 ≤ hd i ∧ hd i < m) ∧
  (0 ≤ sh ∧ sh ≤ 5 ∧ ∀ i : Int, 0 ≤ i → i < sh → 1 ≤ sc i ∧ sc i ≤ 6 ∧ 0 ≤ sw i ∧ sw i ≤ 6 ∧ ∀ j : Int, 0 ≤ j → j < sc i → 0 ≤ sk i j ∧ sk i j < m) ∧
  (dsh L sc sk sh.toNat).1 ≤ 12
def GX (s : Sg) : Prop :=
  (TBx 1 36 s (s 1 0) ∧ s 1 0 ≤ 9 ∧ LVs s ∧ SX 1 19 20 21 s (Eds s (s 1 0)) (s 5000 2) (C3 (s 1 0))) ∧
  HS (s 0 9) (s 5) (s 0 14) (s 8) (s 9) (fun i => s (26 + i.toNat)) (s 1 1) (s 19) ∧
  (0 ≤ s 0 3 ∧ s 0 3 ≤ 20 ∧ ∀ i : Int, 0 ≤ i → i < s 0 3 → 1 ≤ s 3 i ∧ s 3 i ≤ 126) ∧ (0 ≤ s 0 19 ∧ s 0 19 ≤ 30)
/-- places of x that bear something from call to call -/
def cor (k : Nat) (j : Int) : Prop := (k = 0 ∧ j ≠ 16) ∨ k = 1 ∨ k = 3 ∨ k = 5 ∨ k = 8 ∨ k = 9 ∨ k = 14 ∨ k = 16 ∨ k = 17 ∨ k = 19 ∨ k = 20 ∨ k = 21 ∨ (26 ≤ k ∧ k < 156) ∨ 5000 ≤ k
def XS (s t : Sg) : Prop := ∀ (k : Nat) (j : Int), cor k j → t k j = s k j
theorem XS.refl (s : Sg) : XS s s := fun _ _ _ => rfl
theorem XS.trans {s t u : Sg} (h : XS s t) (h2 : XS t u) : XS s u := fun k j c => (h2 k j c).trans (h k j c)
theorem XS.fn {s t : Sg} (h : XS s t) (k : Nat) (hc : ∀ j, cor k j) : t k = s k := funext fun j => h k j (hc j)
theorem XS.up {s t : Sg} (h : XS s t) {k : Nat} {j z : Int} (hc : ¬ cor k j) : XS s (up t k j z) := fun k' j' c => by
  rw [up_at, if_neg (fun q => hc (by rw [← q.1, ← q.2]; exact c))]
  exact h k' j' c
/-- places of the reference that bear something from call to call -/
def com (k : Nat) (j : Int) : Prop := (k = 0 ∧ j ≠ 4 ∧ j ≠ 5 ∧ j ≠ 21 ∧ j ≠ 22 ∧ j ≠ 33) ∨ k = 1 ∨ k = 2 ∨ k = 4 ∨ k = 5 ∨ k = 6 ∨ k = 7 ∨ k = 8 ∨ k = 16 ∨ k = 17
def MS (s t : Sg) : Prop := ∀ (k : Nat) (j : Int), com k j → t k j = s k j
theorem MS.refl (s : Sg) : MS s s := fun _ _ _ => rfl
theorem MS.trans {s t u : Sg} (h : MS s t) (h2 : MS t u) : MS s u := fun k j c => (h2 k j c).trans (h k j c)
theorem MS.fn {s t : Sg} (h : MS s t) (k : Nat) (hc : ∀ j, com k j) : t k = s k := funext fun j => h k j (hc j)
theorem MS.up {s t : Sg} (h : MS s t) {k : Nat} {j z : Int} (hc : ¬ com k j) : MS s (up t k j z) := fun k' j' c => by
  rw [up_at, if_neg (fun q => hc (by rw [← q.1, ← q.2]; exact c))]
  exact h k' j' c
def MC (s t : Sg) : Prop :=
  (TBm t (s 1 0) ∧ LM t (s 5000 2) (s 5001) (s 5002) (s 5003) ∧ t 0 10 = s 1 2 ∧ (∀ c : Int, 0 ≤ c → c < s 1 1 → t 5 c = s 19 c) ∧ (∀ j : Int, 0 ≤ j → j < s 1 2 → t 6 j = s 20 j)) ∧
  (t 0 13 = s 0 9 ∧ (∀ i : Int, 0 ≤ i → i < s 0 9 → t 7 i = s 5 i)) ∧
  (t 0 15 = s 0 14 ∧ ∀ i : Int, 0 ≤ i → i < s 0 14 → t 8 (8 * i) = s 8 i ∧ t 8 (8 * i + 7) = s 9 i ∧ ∀ j : Int, 0 ≤ j → j < s 8 i → t 8 (8 * i + 1 + j) = s (26 + i.toNat) j) ∧
  (t 0 1 = s 0 3 ∧ ∀ i : Int, 0 ≤ i → i < s 0 3 → t 1 i = s 3 i) ∧ t 0 24 = s 0 19
/-- what is kept -/
def KP (i : Int) (s t : Sg) : Prop :=
  (0 ≤ s 0 1 ∧ 0 ≤ s 0 7 ∧ s 0 1 + s 0 7 ≤ i ∧ t 0 17 = s 0 1 + s 0 7) ∧
  ((s 0 21 = 0 ∧ t 0 28 = -1) ∨ (s 0 21 = 1 ∧ 0 ≤ s 0 22 ∧ s 0 22 ≤ s 0 1 ∧ 0 ≤ s 0 23 ∧ s 0 23 ≤ s 0 7 ∧ t 0 30 = s 0 22 + s 0 23 ∧ 0 ≤ s 0 24 ∧ s 0 24 ≤ 20 ∧ t 0 28 = s 0 24 ∧ 0 ≤ s 0 25 ∧ s 0 25 ≤ 5 ∧ (∀ i : Int, 0 ≤ i → i < s 0 24 → t 16 i = s 14 i) ∧
    t 0 29 = s 0 25 ∧ (∀ i : Int, 0 ≤ i → i < s 0 25 → t 17 (8 * i) = s 16 i ∧ t 17 (8 * i + 7) = s 17 i ∧ ∀ j : Int, 0 ≤ j → j < s 16 i → t 17 (8 * i + 1 + j) = s (31 + i.toNat) j) ∧
    (s 0 22 = s 0 1 → s 0 23 = s 0 7 → HS (s 0 24) (s 14) (s 0 25) (s 16) (s 17) (fun i => s (31 + i.toNat)) (s 1 1) (s 19))))
theorem TBx_XS {s t : Sg} {n : Int} (X : XS s t) (T : TBx 1 36 s n) : TBx 1 36 t n := by
  have hb := C3_b (show 0 ≤ n by have := T.1; omega) T.2.1
  refine ⟨T.1, T.2.1, ?_, ?_, fun k k0 k1 => ?_⟩
  · rw [X 1 0 (by unfold cor; omega)]; exact T.2.2.1
  · rw [X 1 1 (by unfold cor; omega)]; exact T.2.2.2.1
  · have e := X.fn (36 + k.toNat) (fun j => by unfold cor; omega)
    rw [e]; exact T.2.2.2.2 k k0 k1
theorem HS_c {h sh m : Int} {hd sc sw L hd' sc' sw' L' : Int → Int} {sk sk' : Int → Int → Int} (e1 : ∀ i : Int, 0 ≤ i → i < h → hd' i = hd i) (e2 : sc' = sc) (e3 : sw' = sw) (e4 : ∀ i : Int, 0 ≤ i → i < sh → sk' i = sk i) (e5 : L' = L) (H : HS h hd sh sc sw sk m L) : HS h hd' sh sc' sw' sk' m L' := by
  subst e2 e3 e5
  obtain ⟨⟨a, b, c⟩, ⟨d, e, f⟩, g⟩ := H
  refine ⟨⟨a, b, fun i i0 i1 => by rw [e1 i i0 i1]; exact c i i0 i1⟩, ⟨d, e, fun i i0 i1 => by rw [e4 i i0 i1]; exact f i i0 i1⟩, ?_⟩
  have key : ∀ k : Nat, (k : Int) ≤ sh → dsh L' sc' sk' k = dsh L' sc' sk k := by
    intro k
    induction k with
    | zero => intro _; rfl
    | succ k ih =>
      intro h
      show dro L' (sk' k) _ (dsh L' sc' sk' k) = dro L' (sk k) _ (dsh L' sc' sk k)
      rw [ih (by omega), e4 k (by omega) (by omega)]
  rw [key _ (by omega)]
  exact g
theorem GX_XS {s t : Sg} (G : GX s) (X : XS s t) : GX t := by
  obtain ⟨⟨T, n9, V, S⟩, H, P, A⟩ := G
  have e10 := X 1 0 (by unfold cor; omega)
  have e11 := X 1 1 (by unfold cor; omega)
  have e12 := X 1 2 (by unfold cor; omega)
  have c1 := X.fn 5001 (fun j => by unfold cor; omega)
  have c2 := X.fn 5002 (fun j => by unfold cor; omega)
  have c3 := X.fn 5003 (fun j => by unfold cor; omega)
  have c0 := X 5000 2 (by unfold cor; omega)
  have c19 := X.fn 19 (fun j => by unfold cor; omega)
  have c20 := X.fn 20 (fun j => by unfold cor; omega)
  have c21 := X.fn 21 (fun j => by unfold cor; omega)
  have c5 := X.fn 5 (fun j => by unfold cor; omega)
  have c8 := X.fn 8 (fun j => by unfold cor; omega)
  have c9 := X.fn 9 (fun j => by unfold cor; omega)
  have c3' := X.fn 3 (fun j => by unfold cor; omega)
  refine ⟨⟨by rw [e10]; exact TBx_XS X T, by rw [e10]; exact n9, ?_, ?_⟩, ?_, ?_, ?_⟩
  · unfold LVs; rw [c0, c1, c2, c3]; exact V
  · unfold SX Eds; rw [e10, c0, c1, c2, c3, c19, c20, c21, e12]; exact S
  · rw [X 0 9 (by unfold cor; omega), X 0 14 (by unfold cor; omega), e11]
    have h5 := H.2.1.2.1
    exact HS_c (fun i _ _ => by rw [c5]) c8 c9 (fun i i0 i1 => X.fn _ (fun j => by unfold cor; omega)) c19 H
  · rw [X 0 3 (by unfold cor; omega), c3']; exact P
  · rw [X 0 19 (by unfold cor; omega)]; exact A
theorem MC_MS {s t u : Sg} (M : MC s t) (X : MS t u) : MC s u := by
  obtain ⟨⟨T, V, a, b, c⟩, ⟨d, e⟩, ⟨f, g⟩, ⟨h, i⟩, k⟩ := M
  have c1 := X.fn 1 (fun j => by unfold com; omega)
  have c2 := X.fn 2 (fun j => by unfold com; omega)
  have c4 := X.fn 4 (fun j => by unfold com; omega)
  have c5 := X.fn 5 (fun j => by unfold com; omega)
  have c6 := X.fn 6 (fun j => by unfold com; omega)
  have c7 := X.fn 7 (fun j => by unfold com; omega)
  have c8 := X.fn 8 (fun j => by unfold com; omega)
  unfold MC TBm LM
  rw [c1, c2, c4, c5, c6, c7, c8, X 0 2 (by unfold com; omega), X 0 7 (by unfold com; omega), X 0 8 (by unfold com; omega), X 0 10 (by unfold com; omega), X 0 13 (by unfold com; omega), X 0 15 (by unfold com; omega), X 0 1 (by unfold com; omega), X 0 24 (by unfold com; omega)]
  exact ⟨⟨T, V, a, b, c⟩, ⟨d, e⟩, ⟨f, g⟩, ⟨h, i⟩, k⟩
theorem MC_XS {s s' t : Sg} (G : GX s) (M : MC s t) (X : XS s s') : MC s' t := by
  obtain ⟨⟨T, V, a, b, c⟩, ⟨d, e⟩, ⟨f, g⟩, ⟨h, i⟩, k⟩ := M
  have c1 := X.fn 5001 (fun j => by unfold cor; omega)
  have c2 := X.fn 5002 (fun j => by unfold cor; omega)
  have c3 := X.fn 5003 (fun j => by unfold cor; omega)
  have c19 := X.fn 19 (fun j => by unfold cor; omega)
  have c20 := X.fn 20 (fun j => by unfold cor; omega)
  have c5 := X.fn 5 (fun j => by unfold cor; omega)
  have c8 := X.fn 8 (fun j => by unfold cor; omega)
  have c9 := X.fn 9 (fun j => by unfold cor; omega)
  have c3' := X.fn 3 (fun j => by unfold cor; omega)
  have h5 := G.2.1.2.1.2.1
  unfold MC
  rw [c1, c2, c3, c19, c20, c5, c8, c9, c3', X 1 0 (by unfold cor; omega), X 1 1 (by unfold cor; omega), X 1 2 (by unfold cor; omega), X 5000 2 (by unfold cor; omega), X 0 9 (by unfold cor; omega), X 0 14 (by unfold cor; omega), X 0 3 (by unfold cor; omega), X 0 19 (by unfold cor; omega)]
  refine ⟨⟨T, V, a, b, c⟩, ⟨d, e⟩, ⟨f, fun i i0 i1 => ?_⟩, ⟨h, i⟩, k⟩
  rw [X.fn (26 + i.toNat) (fun j => by unfold cor; omega)]
  exact g i i0 i1
theorem KP_MS {i : Int} {s t u : Sg} (M : KP i s t) (X : MS t u) : KP i s u := by
  have c1 := X.fn 16 (fun j => by unfold com; omega)
  have c2 := X.fn 17 (fun j => by unfold com; omega)
  unfold KP
  rw [c1, c2, X 0 17 (by unfold com; omega), X 0 28 (by unfold com; omega), X 0 29 (by unfold com; omega), X 0 30 (by unfold com; omega)]
  exact M
theorem KP_XS {i : Int} {s s' t : Sg} (M : KP i s t) (X : XS s s') : KP i s' t := by
  have e11 := X 1 1 (by unfold cor; omega)
  have c19 := X.fn 19 (fun j => by unfold cor; omega)
  have c14 := X.fn 14 (fun j => by unfold cor; omega)
  have c16 := X.fn 16 (fun j => by unfold cor; omega)
  have c17 := X.fn 17 (fun j => by unfold cor; omega)
  unfold KP
  rw [X 0 1 (by unfold cor; omega), X 0 7 (by unfold cor; omega), X 0 21 (by unfold cor; omega), X 0 22 (by unfold cor; omega), X 0 23 (by unfold cor; omega), X 0 24 (by unfold cor; omega), X 0 25 (by unfold cor; omega), c14, c16, c17, e11, c19]
  refine ⟨M.1, ?_⟩
  rcases M.2 with h | ⟨a, b, c, d, e, f, g, h, i, q0, q, j, k, l, m⟩
  · exact Or.inl h
  · refine Or.inr ⟨a, b, c, d, e, f, g, h, i, q0, q, j, k, fun i i0 i1 => ?_, fun w1 w2 => ?_⟩
    · rw [X.fn (31 + i.toNat) (fun j => by unfold cor; omega)]
      exact l i i0 i1
    · exact HS_c (fun i _ _ => rfl) rfl rfl (fun i i0 i1 => X.fn _ (fun j => by unfold cor; omega)) rfl (m w1 w2)
/-- the relation from call to call: x in s, the reference in t, at most i calls so far -/
def RL (i : Int) (s t : Sg) : Prop := GX s ∧ MC s t ∧ KP i s t
theorem RL_XM {i : Int} {s t s' t' : Sg} (h : RL i s t) (X : XS s s') (Y : MS t t') : RL i s' t' :=
  ⟨GX_XS h.1 X, MC_MS (MC_XS h.1 h.2.1 X) Y, KP_MS (KP_XS h.2.2 X) Y⟩
/-- numbers at hand -/
theorem GX.b {s : Sg} (G : GX s) : 3 ≤ s 1 0 ∧ s 1 0 ≤ 9 ∧ s 1 1 = C3 (s 1 0) ∧ 1 ≤ s 1 1 ∧ s 1 1 ≤ 84 ∧ 0 ≤ s 1 2 ∧ s 1 2 ≤ s 1 1 ∧ 0 ≤ s 0 9 ∧ s 0 9 ≤ 20 ∧ 0 ≤ s 0 14 ∧ s 0 14 ≤ 5 ∧ 0 ≤ s 5000 2 ∧ s 5000 2 ≤ 4 ∧ 0 ≤ s 0 3 ∧ s 0 3 ≤ 20 ∧ 0 ≤ s 0 19 ∧ s 0 19 ≤ 30 := by
  obtain ⟨⟨T, n9, V, S⟩, H, P, A⟩ := G
  have hb := C3_b (show 0 ≤ s 1 0 by have := T.1; omega) T.2.1
  have h1 := T.2.2.2.1
  have h2 := T.1
  have h3 := H.1
  have h4 := H.2.1
  have h5 := V.1
  have h6 := V.2.1
  have h7 := S.2.1
  have h8 := S.2.2.1
  omega
theorem GX.L {s : Sg} (G : GX s) {c : Int} (c0 : 0 ≤ c) (c1 : c < s 1 1) : 0 ≤ s 19 c ∧ s 19 c < s 1 2 := by
  have h := G.1.2.2.2.1.1
  rw [← G.b.2.2.1] at h
  exact h c c0 c1
theorem GX.le {s : Sg} (G : GX s) {j : Int} (j0 : 0 ≤ j) (j1 : j < s 1 2) : 0 ≤ s 20 j ∧ s 20 j < s 1 1 ∧ s 19 (s 20 j) = j ∧ (∀ c : Int, 0 ≤ c → c < s 1 1 → s 19 c = j → s 20 j ≤ c) ∧ s 21 j = cnt (s 19) (s 1 1) j ∧ 1 ≤ s 21 j ∧ s 21 j ≤ s 1 1 := by
  obtain ⟨a, b, c, d, e⟩ := G.1.2.2.2.2.2.2 j j0 j1
  rw [← G.b.2.2.1] at b d e
  have hb := cnt_b (s 19) j (show 0 ≤ s 1 1 by have := G.b; omega)
  have h1 : 1 ≤ cnt (s 19) (s 1 1) j := by
    have := sm_pos (f := fun c => b2i (s 19 c = j)) (s 1 1).toNat (k := s 20 j) (fun k _ _ => by rcases b2i_01 (s 19 k = j) with q | q <;> (show 0 ≤ b2i (s 19 k = j)) <;> omega) a (by omega)
    have e1 : b2i (s 19 (s 20 j) = j) = 1 := b2i_t c
    unfold cnt
    have this : b2i (s 19 (s 20 j) = j) ≤ _ := this
    rw [e1] at this
    exact this
  exact ⟨a, b, c, d, e, by omega, by omega⟩
theorem GX.hd {s : Sg} (G : GX s) {i : Int} (i0 : 0 ≤ i) (i1 : i < s 0 9) : 0 ≤ s 5 i ∧ s 5 i < s 1 1 := G.2.1.1.2.2 i i0 i1
theorem GX.tp {s : Sg} (G : GX s) {k : Int} (k0 : 0 ≤ k) (k1 : k < s 1 1) : s (36 + k.toNat) 0 = tp (s 1 0) k 0 ∧ s (36 + k.toNat) 1 = tp (s 1 0) k 1 ∧ s (36 + k.toNat) 2 = tp (s 1 0) k 2 := G.1.1.2.2.2.2 k k0 (by rw [← G.b.2.2.1]; exact k1)
