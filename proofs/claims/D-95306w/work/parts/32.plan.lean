/-! PLAIN LAWS, 13: plan, broken -/
theorem band_b (P R : Prop) : band (b2i P) (b2i R) = b2i (P ∧ R) := by
  by_cases p : P <;> by_cases r : R
  · rw [b2i_t p, b2i_t r, b2i_t ⟨p, r⟩]; rfl
  · rw [b2i_t p, b2i_f r, b2i_f (fun q => r q.2)]; rfl
  · rw [b2i_f p, b2i_t r, b2i_f (fun q => p q.1)]; rfl
  · rw [b2i_f p, b2i_f r, b2i_f (fun q => p q.1)]; rfl
theorem bor_b (P R : Prop) : bor (b2i P) (b2i R) = b2i (P ∨ R) := by
  by_cases p : P <;> by_cases r : R
  · rw [b2i_t p, b2i_t r, b2i_t (Or.inl p)]; rfl
  · rw [b2i_t p, b2i_f r, b2i_t (Or.inl p)]; rfl
  · rw [b2i_f p, b2i_t r, b2i_t (Or.inr r)]; rfl
  · rw [b2i_f p, b2i_f r, b2i_f (fun q => q.elim p r)]; rfl
theorem b2i_r (P : Prop) : 0 ≤ b2i P ∧ b2i P ≤ 1 := by rcases b2i_01 P with h | h <;> omega
section
variable {s t : Sg} {a b c : Int} {Q : Int → Prop}
def hou (s : Sg) (k d : Int) : Int := (tp (s 1 0) k 0 + tp (s 1 0) k 1 + tp (s 1 0) k 2) % d
theorem hou_b (hd : 0 < b) : 0 ≤ hou s a b ∧ hou s a b < b := ⟨Int.emod_nonneg _ (by omega), Int.emod_lt_of_pos _ hd⟩
theorem ok_X0_houseOf (X : XS s t) (G : GX s) (c0 : 0 ≤ c) (c1 : c < s 1 1) (d0 : 2 ≤ b) (d1 : b ≤ 9) (hQ : Q (hou s c b)) : wp_X0_houseOf c b t Q := by
  have hg := G.b
  obtain ⟨e0, e1, e2⟩ := G.tp c0 c1
  have ht := tp_in (show s 1 0 ≤ 10 by omega) c0 (by rw [← hg.2.2.1]; exact c1)
  unfold wp_X0_houseOf
  rw [X.tq c0 (by omega), e0, e1, e2]
  exact ⟨c0, by omega, by omega, by omega, by omega, by omega, hQ⟩
theorem ok_X2_houseOf (M : MC s t) (G : GX s) (c0 : 0 ≤ c) (c1 : c < s 1 1) (d0 : 2 ≤ b) (d1 : b ≤ 9) (hQ : Q (hou s c b)) : wp_X2_houseOf c b t Q := by
  have hg := G.b
  obtain ⟨e0, e1, e2⟩ := M.tp G c0 c1
  have ht := tp_in (show s 1 0 ≤ 10 by omega) c0 (by rw [← hg.2.2.1]; exact c1)
  unfold wp_X2_houseOf
  rw [e0, e1, e2]
  exact ⟨by omega, by omega, by omega, by omega, by omega, by omega, by omega, by omega, by omega, by omega, hQ⟩
/-- chord k lives where the least of its sort lives -/
def hok (s : Sg) (d k : Int) : Prop := hou s k d = hou s (s 20 (s 19 k)) d
noncomputable def hfl (s : Sg) (d x y : Int) : Int := b2i (∀ k : Int, 0 ≤ k → k < s 1 1 → (0 < x ∨ k < y) → hok s d k)
noncomputable def hct (s : Sg) (d x y : Int) : Int := sm (fun k => b2i (hou s k d = x)) y.toNat
theorem hct_b (s : Sg) (d x : Int) {y : Int} (h : 0 ≤ y) : 0 ≤ hct s d x y ∧ hct s d x y ≤ y := by
  have := sm_bi (f := fun k => b2i (hou s k d = x)) 1 h (fun k _ _ => b2i_r _)
  unfold hct; omega
noncomputable def hmn (s : Sg) (d : Int) : Nat → Int
  | 0 => s 1 1
  | k + 1 => if hct s d (k : Int) (s 1 1) < hmn s d k then hct s d (k : Int) (s 1 1) else hmn s d k
theorem hmn_b (G : GX s) (d : Int) (k : Nat) : 0 ≤ hmn s d k ∧ hmn s d k ≤ s 1 1 := by
  have hg := G.b
  induction k with
  | zero => show 0 ≤ s 1 1 ∧ s 1 1 ≤ s 1 1; omega
  | succ k ih =>
    have h2 := hct_b s d k (show 0 ≤ s 1 1 by omega)
    unfold hmn
    split <;> omega
theorem hfl_s (d x y : Int) (y0 : 0 ≤ y) (y1 : y < s 1 1) : b2i ((∀ k : Int, 0 ≤ k → k < s 1 1 → (0 < x ∨ k < y) → hok s d k) ∧ hok s d y) = hfl s d x (y + 1) := by
  unfold hfl
  refine b2i_c ⟨fun ⟨h, h2⟩ k k0 k1 w => ?_, fun h => ⟨fun k k0 k1 w => h k k0 k1 (by omega), h y y0 y1 (by omega)⟩⟩
  by_cases z : k = y
  · rw [z]; exact h2
  · exact h k k0 k1 (by omega)
theorem hfl_n (d x : Int) (x0 : 0 ≤ x) : hfl s d x (s 1 1) = hfl s d (x + 1) 0 := by
  unfold hfl
  exact b2i_c ⟨fun h k k0 k1 w => h k k0 k1 (by omega), fun h k k0 k1 w => h k k0 k1 (by omega)⟩
noncomputable def pln (s : Sg) (a b : Int) : Int := if b = 1 then (if a ≤ 0 then 84 else hmn s a a.toNat) else hfl s a a 0
theorem ok_X0_planTold (X : XS s t) (G : GX s) (a0 : 2 ≤ a) (a1 : a ≤ 9) (hb : Rg b) (hQ : Q (pln s a b)) : wp_X0_planTold a b t Q := by
  have hg := G.b
  unfold wp_X0_planTold
  rw [X.m, X.L, X.le]
  refine ⟨fun f mn x => 0 ≤ x ∧ x ≤ a ∧ f = hfl s a x 0 ∧ ((x = 0 ∧ mn = 84) ∨ (0 < x ∧ mn = hmn s a x.toNat)), fun f mn x => (a - x).toNat, ⟨by omega, by omega, (b2i_t (fun k k0 k1 w => by omega)).symm, Or.inl ⟨rfl, rfl⟩⟩, fun f mn x ⟨x0, x1, hf, hm⟩ => ⟨by omega, by omega, fun h => ?_, fun h => ?_⟩⟩
  · have e : x = a := by omega
    subst e
    unfold pln at hQ
    refine ⟨hb, fun w => ?_, fun w => ?_⟩
    · rw [if_neg w] at hQ
      rw [hf]
      rcases b2i_01 (∀ k : Int, 0 ≤ k → k < s 1 1 → (0 < x ∨ k < 0) → hok s x k) with z | z
      · have z : hfl s x x 0 = 0 := z
        rw [z] at hQ ⊢
        exact ⟨by omega, fun _ => hQ, fun y => absurd rfl y⟩
      · have z : hfl s x x 0 = 1 := z
        rw [z] at hQ ⊢
        exact ⟨by omega, fun y => absurd y (by decide), fun _ => hQ⟩
    · rw [if_pos w, if_neg (by omega)] at hQ
      rcases hm with z | z
      · omega
      · rw [z.2]; exact hQ
  · refine ⟨fun f c y => 0 ≤ y ∧ y ≤ s 1 1 ∧ f = hfl s a x y ∧ c = hct s a x y, fun f c y => (s 1 1 - y).toNat, ⟨by omega, by omega, hf, rfl⟩, fun f c y ⟨y0, y1, hf, hc⟩ => ⟨by omega, by omega, fun h2 => ?_, fun h2 => ?_⟩⟩
    · have e : y = s 1 1 := by omega
      subst e
      have hcb := hct_b s a x y0
      have hmb := hmn_b G a x.toNat
      refine ⟨by omega, by omega, ⟨⟨by omega, by omega, ?_, ?_⟩, by dsimp only; omega⟩⟩
      · rw [hf]; exact hfl_n a x x0
      · refine Or.inr ⟨by omega, ?_⟩
        have es : (x + 1).toNat = x.toNat + 1 := by omega
        rw [es]
        unfold hmn
        rw [Int.toNat_of_nonneg x0, ← hc]
        rcases hm with z | z
        · have e0 : hmn s a x.toNat = s 1 1 := by rw [z.1]; rfl
          rw [e0, z.2]
          unfold imin
          split <;> split <;> omega
        · rw [z.2]
          rfl
    · refine ok_X0_houseOf X G y0 h2 a0 a1 ?_
      have hb1 := hou_b (s := s) (a := y) (show 0 < a by omega)
      refine ⟨by omega, by omega, ?_⟩
      refine jn1_v (b2i (hou s y a = x)) (fun K hK => ⟨fun w => ?_, fun w => ?_⟩) ?_
      · rw [b2i_f w] at hK; exact hK
      · rw [b2i_t w] at hK; exact hK
      refine ok_X0_houseOf X G y0 h2 a0 a1 ?_
      have hL := G.L y0 h2
      have hle := G.le hL.1 hL.2
      refine ⟨y0, by omega, hL.1, by omega, ?_⟩
      refine ok_X0_houseOf X G hle.1 hle.2.1 a0 a1 ?_
      have hb2 := hou_b (s := s) (a := s 20 (s 19 y)) (show 0 < a by omega)
      refine ⟨by omega, by omega, ?_⟩
      refine jn1_v (b2i (hok s a y)) (fun K hK => ⟨fun w => ?_, fun w => ?_⟩) ?_
      · rw [b2i_f (show ¬ hok s a y from w)] at hK; exact hK
      · rw [b2i_t (show hok s a y from w)] at hK; exact hK
      refine ⟨by rw [hf]; exact (b2i_r _).1, (b2i_r _).1, ⟨⟨by omega, by omega, ?_, ?_⟩, by dsimp only; omega⟩⟩
      · rw [hf]
        unfold hfl
        rw [band_b]
        exact hfl_s a x y y0 h2
      · rw [hc]; exact (sm_s _ y0).symm
theorem ok_X2_planOf (M : MC s t) (G : GX s) (a0 : 2 ≤ a) (a1 : a ≤ 9) (hb : Rg b) (b0 : 0 ≤ b) (b1 : b ≤ 1) (hQ : Q (pln s a b)) : wp_X2_planOf a b t Q := by
  have hg := G.b
  unfold wp_X2_planOf
  rw [M.m G]
  refine ⟨fun f mn x => 0 ≤ x ∧ x ≤ a ∧ f = hfl s a x 0 ∧ mn = hmn s a x.toNat, fun f mn x => (a - x).toNat, ⟨by omega, by omega, (b2i_t (fun k k0 k1 w => by omega)).symm, rfl⟩, fun f mn x ⟨x0, x1, hf, hm⟩ => ⟨by omega, by omega, fun h => ?_, fun h => ?_⟩⟩
  · have e : x = a := by omega
    subst e
    unfold pln at hQ
    refine ⟨hb, fun w => ?_, fun w => ?_⟩
    · rw [if_pos (by omega), if_neg (by omega)] at hQ
      rw [hm]; exact hQ
    · rw [if_neg (by omega)] at hQ
      rw [hf]
      rcases b2i_01 (∀ k : Int, 0 ≤ k → k < s 1 1 → (0 < x ∨ k < 0) → hok s x k) with z | z
      · have z : hfl s x x 0 = 0 := z
        rw [z] at hQ ⊢
        exact ⟨by omega, fun _ => hQ, fun y => absurd rfl y⟩
      · have z : hfl s x x 0 = 1 := z
        rw [z] at hQ ⊢
        exact ⟨by omega, fun y => absurd y (by decide), fun _ => hQ⟩
  · refine ⟨fun f c y => 0 ≤ y ∧ y ≤ s 1 1 ∧ f = hfl s a x y ∧ c = hct s a x y, fun f c y => (s 1 1 - y).toNat, ⟨by omega, by omega, hf, rfl⟩, fun f c y ⟨y0, y1, hf, hc⟩ => ⟨by omega, by omega, fun h2 => ?_, fun h2 => ?_⟩⟩
    · have e : y = s 1 1 := by omega
      subst e
      have hcb := hct_b s a x y0
      have hmb := hmn_b G a x.toNat
      refine ⟨by omega, by omega, ?_⟩
      refine jn1_v (if c < mn then c else mn) (fun K hK => ⟨fun w => ?_, fun w => ?_⟩) ?_
      · rw [if_neg (by omega)] at hK; exact hK
      · rw [if_pos w] at hK; exact hK
      refine ⟨⟨by omega, by omega, ?_, ?_⟩, by dsimp only; omega⟩
      · rw [hf]; exact hfl_n a x x0
      · have es : (x + 1).toNat = x.toNat + 1 := by omega
        rw [es]
        unfold hmn
        rw [Int.toNat_of_nonneg x0, ← hc, ← hm]
    · refine ok_X2_houseOf M G y0 h2 a0 a1 ?_
      have hb1 := hou_b (s := s) (a := y) (show 0 < a by omega)
      refine ⟨by omega, by omega, ?_⟩
      refine jn1_v (b2i (hou s y a = x)) (fun K hK => ⟨fun w => ?_, fun w => ?_⟩) ?_
      · rw [b2i_f w] at hK; exact hK
      · rw [b2i_t w] at hK; exact hK
      have hfb : Rg f := by rw [hf]; have := b2i_r (∀ k : Int, 0 ≤ k → k < s 1 1 → (0 < x ∨ k < y) → hok s a k); unfold hfl; omega
      refine ⟨hfb, ?_⟩
      refine jn1_v (hfl s a x (y + 1)) (fun K hK => ?_) ?_
      · rw [← hfl_s a x y y0 h2] at hK
        unfold JN0
        refine ⟨fun w => ?_, fun w => ?_⟩
        · rw [hf] at w
          rw [b2i_f (fun z => b2i_0.mp w z.1)] at hK
          exact hK
        · refine ok_X2_houseOf M G y0 h2 a0 a1 ?_
          have hL := G.L y0 h2
          have hle := G.le hL.1 hL.2
          rw [M.L y0 h2]
          refine ⟨y0, by omega, hL.1, by omega, ?_⟩
          rw [M.le hL.1 hL.2]
          refine ok_X2_houseOf M G hle.1 hle.2.1 a0 a1 ?_
          have hb2 := hou_b (s := s) (a := s 20 (s 19 y)) (show 0 < a by omega)
          refine ⟨by omega, by omega, fun w2 => ?_, fun w2 => ?_⟩
          · rw [b2i_f (fun z => w2 z.2)] at hK; exact hK
          · have hall : ∀ k : Int, 0 ≤ k → k < s 1 1 → (0 < x ∨ k < y) → hok s a k := by
              rw [hf] at w
              rcases b2i_01 (∀ k : Int, 0 ≤ k → k < s 1 1 → (0 < x ∨ k < y) → hok s a k) with z | z
              · exact absurd z w
              · exact b2i_1.mp z
            rw [b2i_t ⟨hall, w2⟩] at hK
            exact hK
      · refine ⟨⟨by omega, by omega, rfl, ?_⟩, by dsimp only; omega⟩
        rw [hc]; exact (sm_s _ y0).symm
noncomputable def pln2 (s : Sg) (a b : Int) : Int := if 2 ≤ a ∧ a ≤ 9 then (if 0 ≤ b ∧ b ≤ 1 then pln s a b else -102) else -102
theorem ok_X0_plan (X : XS s t) (G : GX s) (ha : Rg a) (hb : Rg b) (hQ : Q (pln2 s a b)) : wp_X0_plan a b t Q := by
  unfold pln2 at hQ
  unfold wp_X0_plan
  refine ok_X0_in ha (by omega) (by omega) (fun p q => tf1 ?_) (fun p => tf0 ?_)
  · rw [if_pos ⟨p, q⟩] at hQ
    refine ok_X0_in hb (by omega) (by omega) (fun p2 q2 => tf1 ?_) (fun p2 => tf0 ?_)
    · rw [if_pos ⟨p2, q2⟩] at hQ
      exact ok_X0_planTold X G p q hb hQ
    · rw [if_neg p2] at hQ; exact hQ
  · rw [if_neg p] at hQ; exact hQ
theorem ok_X2_plan (M : MC s t) (G : GX s) (ha : Rg a) (hb : Rg b) (hQ : Q (pln2 s a b)) : wp_X2_plan a b t Q := by
  unfold pln2 at hQ
  unfold wp_X2_plan
  refine ⟨ha, ok_X2_in (by omega) (by omega) (by omega) (fun p q => tf1 ?_) (fun p => tf0 ?_)⟩
  · rw [if_pos ⟨p, q⟩] at hQ
    refine ⟨hb, ok_X2_in (by omega) (by omega) (by omega) (fun p2 q2 => tf1 ?_) (fun p2 => tf0 ?_)⟩
    · rw [if_pos ⟨p2, q2⟩] at hQ
      exact ok_X2_planOf M G p q hb p2 q2 hQ
    · rw [if_neg p2] at hQ; exact hQ
  · rw [if_neg p] at hQ; exact hQ
-- broken
def brx (s : Sg) (a j c : Int) : Prop := ∃ d : Int, 0 ≤ d ∧ d < c ∧ s 19 d = j ∧ ¬ hasP (s 1 0) d a
theorem brx_s {j : Int} (c0 : 0 ≤ c) : brx s a j (c + 1) ↔ (brx s a j c ∨ (s 19 c = j ∧ ¬ hasP (s 1 0) c a)) := by
  constructor
  · rintro ⟨d, d0, d1, d2, d3⟩
    by_cases z : d = c
    · rw [z] at d2 d3; exact Or.inr ⟨d2, d3⟩
    · exact Or.inl ⟨d, d0, by omega, d2, d3⟩
  · rintro (⟨d, d0, d1, d2, d3⟩ | ⟨d2, d3⟩)
    · exact ⟨d, d0, by omega, d2, d3⟩
    · exact ⟨c, c0, by omega, d2, d3⟩
noncomputable def brk (s : Sg) (a : Int) : Int := sm (fun j => b2i (brx s a j (s 1 1) ∧ lf s j = 1)) (s 1 2).toNat
theorem brk_b (G : GX s) (a : Int) : 0 ≤ brk s a ∧ brk s a ≤ 84 := by
  have hg := G.b
  have := sm_bi (f := fun j => b2i (brx s a j (s 1 1) ∧ lf s j = 1)) 1 hg.2.2.2.2.2.1 (fun k _ _ => b2i_r _)
  unfold brk; omega
theorem ok_X0_brokenOf (X : XS s t) (G : GX s) (ha : Rg a) (hQ : Q (brk s a)) : wp_X0_brokenOf a t Q := by
  have hg := G.b
  unfold wp_X0_brokenOf
  rw [X.m, X.L, X.g]
  refine ⟨fun v j => 0 ≤ j ∧ j ≤ s 1 2 ∧ v = sm (fun j => b2i (brx s a j (s 1 1) ∧ lf s j = 1)) j.toNat, fun v j => (s 1 2 - j).toNat, ⟨by omega, by omega, rfl⟩, fun v j ⟨j0, j1, hv⟩ => ⟨by omega, by omega, fun h => ?_, fun h => ?_⟩⟩
  · have e : j = s 1 2 := by omega
    rw [hv, e]; exact hQ
  · refine ⟨fun w c => 0 ≤ c ∧ c ≤ s 1 1 ∧ w = b2i (brx s a j c), fun w c => (s 1 1 - c).toNat, ⟨by omega, by omega, (b2i_f (fun ⟨d, d0, d1, _⟩ => by omega)).symm⟩, fun w c ⟨c0, c1, hw⟩ => ⟨by omega, by omega, fun h2 => ?_, fun h2 => ?_⟩⟩
    · have e : c = s 1 1 := by omega
      subst e
      have hwb := b2i_r (brx s a j (s 1 1))
      refine ⟨by omega, ?_⟩
      refine jn1_v (b2i (brx s a j (s 1 1) ∧ lf s j = 1)) (fun K hK => ?_) ?_
      · unfold JN0
        refine ⟨fun z => ?_, fun z => ok_X0_isLeft G X j0 h ?_⟩
        · rw [b2i_f (fun y => b2i_0.mp (by rw [← hw]; exact z) y.1)] at hK; exact hK
        · have hbr : brx s a j (s 1 1) := by
            rcases b2i_01 (brx s a j (s 1 1)) with y | y
            · omega
            · exact b2i_1.mp y
          rcases lf_01 s j with y | y
          · rw [b2i_f (fun q => by have := q.2; omega)] at hK
            rw [y]; exact tf0 hK
          · rw [b2i_t ⟨hbr, y⟩] at hK
            rw [y]; exact tf1 hK
      · refine ⟨⟨by omega, by omega, ?_⟩, by dsimp only; omega⟩
        rw [hv]; exact (sm_s _ j0).symm
    · have hL := G.L c0 h2
      refine ⟨c0, by omega, by omega, by omega, ?_⟩
      refine jn1_v (b2i (s 19 c = j ∧ ¬ hasP (s 1 0) c a)) (fun K hK => ?_) ?_
      · unfold JN0
        refine ⟨fun z => ?_, fun z => ?_⟩
        · rw [b2i_f (fun y => z y.1)] at hK; exact hK
        · refine ok_X1_has (TBx_XS X G.1.1) c0 (by rw [← hg.2.2.1]; exact h2) ha (fun y => tt1 ?_) (fun y => tt0 ?_)
          · rw [b2i_f (fun q => q.2 y)] at hK; exact hK
          · rw [b2i_t ⟨z, y⟩] at hK; exact hK
      · have hwb := b2i_r (brx s a j c)
        have hwc := b2i_r (s 19 c = j ∧ ¬ hasP (s 1 0) c a)
        refine ⟨by omega, by omega, ⟨⟨by omega, by omega, ?_⟩, by dsimp only; omega⟩⟩
        rw [hw, bor_b]
        exact b2i_c (brx_s c0).symm
theorem ok_X2_brokenOf (M : MC s t) (G : GX s) (ha : Rg a) (hQ : Q (brk s a)) : wp_X2_brokenOf a t Q := by
  have hg := G.b
  unfold wp_X2_brokenOf
  rw [M.m G, M.g]
  refine ⟨fun v j => 0 ≤ j ∧ j ≤ s 1 2 ∧ v = sm (fun j => b2i (brx s a j (s 1 1) ∧ lf s j = 1)) j.toNat, fun v j => (s 1 2 - j).toNat, ⟨by omega, by omega, rfl⟩, fun v j ⟨j0, j1, hv⟩ => ⟨by omega, by omega, fun h => ?_, fun h => ?_⟩⟩
  · have e : j = s 1 2 := by omega
    rw [hv, e]; exact hQ
  · refine ⟨fun w c => 0 ≤ c ∧ c ≤ s 1 1 ∧ w = b2i (brx s a j c ∧ lf s j = 1), fun w c => (s 1 1 - c).toNat, ⟨by omega, by omega, (b2i_f (fun ⟨⟨d, d0, d1, _⟩, _⟩ => by omega)).symm⟩, fun w c ⟨c0, c1, hw⟩ => ⟨by omega, by omega, ?_⟩⟩
    have hwb := b2i_r (brx s a j c ∧ lf s j = 1)
    have hdone : (c = s 1 1 ∨ ¬ w = 0) → w = b2i (brx s a j (s 1 1) ∧ lf s j = 1) := fun z => by
      rcases z with z | z
      · rw [hw, z]
      · have e1 : brx s a j c ∧ lf s j = 1 := by
          rcases b2i_01 (brx s a j c ∧ lf s j = 1) with y | y
          · omega
          · exact b2i_1.mp y
        obtain ⟨⟨d, d0, d1, d2, d3⟩, e2⟩ := e1
        have e3 : w = 1 := by rcases b2i_01 (brx s a j c ∧ lf s j = 1) with y | y <;> omega
        rw [e3]
        exact (b2i_t ⟨⟨d, d0, by omega, d2, d3⟩, e2⟩).symm
    by_cases hstop : c = s 1 1 ∨ ¬ w = 0
    · refine jn0_v (fun K hK => ⟨fun _ => hK, fun h2 => ⟨by omega, fun _ => hK, fun z => by omega⟩⟩) ?_
      refine ⟨by omega, ?_⟩
      refine jn1_v w (fun K hK => ⟨fun z => ?_, fun z => ?_⟩) ?_
      · rw [z] at hK; exact hK
      · have e3 : w = 1 := by omega
        rw [e3] at hK; exact hK
      refine ⟨⟨by omega, by omega, ?_⟩, by dsimp only; omega⟩
      rw [hv, hdone hstop]; exact (sm_s _ j0).symm
    · have h2 : c < s 1 1 := by omega
      have hw0 : w = 0 := by omega
      unfold JN0
      refine ⟨fun z => by omega, fun _ => ⟨by omega, fun z => absurd hw0 z, fun _ => ?_⟩⟩
      obtain ⟨e0, e1, e2⟩ := M.tp G c0 h2
      have ht := tp_in (show s 1 0 ≤ 10 by omega) c0 (by rw [← hg.2.2.1]; exact h2)
      have hL := G.L c0 h2
      rw [e0, e1, e2, M.L c0 h2]
      refine ⟨by omega, by omega, by omega, ha, ?_⟩
      refine jn1_v (b2i (¬ hasP (s 1 0) c a)) (fun K hK => ⟨fun z => ?_, fun z => ⟨by omega, by omega, by omega, ha, fun z2 => ?_, fun z2 => ⟨by omega, by omega, by omega, ha, fun z3 => ?_, fun z3 => ?_⟩⟩⟩) ?_
      · rw [b2i_f (fun q => q (Or.inl z))] at hK; exact hK
      · rw [b2i_f (fun q => q (Or.inr (Or.inl z2)))] at hK; exact hK
      · rw [b2i_f (fun q => q (Or.inr (Or.inr z3)))] at hK; exact hK
      · rw [b2i_t (fun q => by unfold hasP at q; omega)] at hK; exact hK
      refine ⟨c0, by omega, by omega, by omega, ?_⟩
      refine jn1_v (b2i ((s 19 c = j ∧ ¬ hasP (s 1 0) c a) ∧ lf s j = 1)) (fun K hK => ⟨fun z => ?_, fun z => ⟨?_, fun z2 => ?_, fun z2 => ok_X2_isLeft G M j0 h ?_⟩⟩) ?_
      · rw [b2i_f (fun q => z q.1.1)] at hK; exact hK
      · have := b2i_r (¬ hasP (s 1 0) c a); omega
      · rw [b2i_f (fun q => b2i_0.mp z2 q.1.2)] at hK; exact hK
      · have hbr : ¬ hasP (s 1 0) c a := by
          rcases b2i_01 (¬ hasP (s 1 0) c a) with y | y
          · omega
          · exact b2i_1.mp y
        rcases lf_01 s j with y | y
        · rw [b2i_f (fun q => by have := q.2; omega)] at hK
          rw [y]; exact tf0 hK
        · rw [b2i_t ⟨⟨z, hbr⟩, y⟩] at hK
          rw [y]; exact tf1 hK
      refine ⟨⟨by omega, by omega, ?_⟩, by dsimp only; omega⟩
      have hno : ¬ (brx s a j c ∧ lf s j = 1) := b2i_0.mp (by rw [← hw]; exact hw0)
      refine b2i_c ⟨fun q => ⟨(brx_s c0).mpr (Or.inr q.1), q.2⟩, fun q => ?_⟩
      rcases (brx_s c0).mp q.1 with y | y
      · exact absurd ⟨y, q.2⟩ hno
      · exact ⟨y, q.2⟩
noncomputable def brk2 (s : Sg) (a : Int) : Int := if 0 ≤ a ∧ a < s 1 0 then brk s a else -101
theorem ok_X0_broken (X : XS s t) (G : GX s) (ha : Rg a) (hQ : Q (brk2 s a)) : wp_X0_broken a t Q := by
  unfold brk2 at hQ
  unfold wp_X0_broken
  refine ok_X0_isString X G ha (fun p q => tf1 (ok_X0_brokenOf X G ha ?_)) (fun p => tf0 ?_)
  · rw [if_pos ⟨p, q⟩] at hQ; exact hQ
  · rw [if_neg p] at hQ; exact hQ
theorem ok_X2_broken (M : MC s t) (G : GX s) (ha : Rg a) (hQ : Q (brk2 s a)) : wp_X2_broken a t Q := by
  unfold brk2 at hQ
  unfold wp_X2_broken
  refine ok_X2_isString M G ha (fun p q => tf1 (ok_X2_brokenOf M G ha ?_)) (fun p => tf0 ?_)
  · rw [if_pos ⟨p, q⟩] at hQ; exact hQ
  · rw [if_neg p] at hQ; exact hQ
end
