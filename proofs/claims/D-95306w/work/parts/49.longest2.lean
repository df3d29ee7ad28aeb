/-! PLAIN LAWS, 30: longest, the reference's half -/
section
variable {s t : Sg} {i a b c : Int}
noncomputable def tw (s : Sg) (c : Int) : Int := (1 : Int) * 2 ^ (s 19 c).toNat
def tm (u : Sg) (S c : Int) : Int := u 13 (84 * S + c)
def FWd (s : Sg) (S0 c0 d0 S' d' c : Int) : Prop := 0 ≤ S' ∧ 0 ≤ d' ∧ d' < s 1 1 ∧ (S' < S0 ∨ (S' = S0 ∧ (d' < c0 ∨ (d' = c0 ∧ c < d0))))
def FWc (s : Sg) (T : Int → Int → Int) (S' d' c : Int) : Prop := T S' d' = 1 ∧ ¬ bq S' (s 19 c) ∧ lf s (s 19 c) = 1 ∧ comn (s 1 0) d' c = 2
def FWs (s : Sg) (T : Int → Int → Int) (S0 c0 d0 S c : Int) : Prop := (S = tw s c ∧ lf s (s 19 c) = 1) ∨ ∃ S' d' : Int, FWd s S0 c0 d0 S' d' c ∧ FWc s T S' d' c ∧ S = bor S' (tw s c)
def TF (s : Sg) (T : Int → Int → Int) (S0 c0 d0 : Int) : Prop := ∀ S c : Int, 0 ≤ S → S < pg s → 0 ≤ c → c < s 1 1 → (T S c = 0 ∨ T S c = 1) ∧ (T S c = 1 ↔ FWs s T S0 c0 d0 S c)
theorem TF_mono {T : Int → Int → Int} {a0 b0 d0 a1 b1 d1 : Int} (h : TF s T a0 b0 d0) (hx : ∀ S' d' c : Int, 0 ≤ c → c < s 1 1 → FWc s T S' d' c → (FWd s a0 b0 d0 S' d' c ↔ FWd s a1 b1 d1 S' d' c)) : TF s T a1 b1 d1 := fun S c S0 S1 c0 c1 => by
  obtain ⟨h1, h2⟩ := h S c S0 S1 c0 c1
  refine ⟨h1, h2.trans ?_⟩
  unfold FWs
  constructor
  · rintro (w | ⟨S', d', w1, w2, w3⟩)
    · exact Or.inl w
    · exact Or.inr ⟨S', d', (hx S' d' c c0 c1 w2).mp w1, w2, w3⟩
  · rintro (w | ⟨S', d', w1, w2, w3⟩)
    · exact Or.inl w
    · exact Or.inr ⟨S', d', (hx S' d' c c0 c1 w2).mpr w1, w2, w3⟩
theorem tw_b (G : GX s) (h10 : s 1 2 ≤ 10) (c0 : 0 ≤ c) (c1 : c < s 1 1) : 1 ≤ tw s c ∧ tw s c < pg s := by
  have hL := G.L c0 c1
  have h0 : 0 ≤ tw s c := pow_pos1 _
  refine ⟨?_, (pg_lt G h0).mpr (fun k k0 hk => ?_)⟩
  · have : (0 : Int) < tw s c := by
      refine lt_bit (i := s 19 c) (Int.le_refl 0) h0 hL.1 (bq_0 _) ((bq_pow hL.1 hL.1).mpr rfl) (fun k hk => ⟨fun z => absurd z (bq_0 _), fun z => ?_⟩)
      have := (bq_pow hL.1 (by omega)).mp z
      omega
    omega
  · have := (bq_pow hL.1 k0).mp hk
    omega
theorem bor_b1 (G : GX s) {S : Int} (S0 : 0 ≤ S) (S1 : S < pg s) (c0 : 0 ≤ c) (c1 : c < s 1 1) : 0 ≤ bor S (tw s c) ∧ bor S (tw s c) < pg s := by
  have hL := G.L c0 c1
  refine ⟨bor_nn _ _, (pg_lt G (bor_nn _ _)).mpr (fun k k0 hk => ?_)⟩
  rcases (bq_or _ _ _).mp hk with w | w
  · exact (pg_lt G S0).mp S1 k k0 w
  · have := (bq_pow hL.1 k0).mp w
    omega
theorem bor_inj {S S' j : Int} (S0 : 0 ≤ S) (S0' : 0 ≤ S') (j0 : 0 ≤ j) (h : ¬ bq S j) (h' : ¬ bq S' j) (e : bor S ((1 : Int) * 2 ^ j.toNat) = bor S' ((1 : Int) * 2 ^ j.toNat)) : S = S' := by
  refine bits_eq S0 S0' (fun k k0 => ?_)
  by_cases z : k = j
  · rw [z]; exact ⟨fun w => absurd w h, fun w => absurd w h'⟩
  · have h1 := bq_or S ((1 : Int) * 2 ^ j.toNat) k
    have h2 := bq_or S' ((1 : Int) * 2 ^ j.toNat) k
    rw [bq_pow j0 k0] at h1 h2
    rw [e] at h1
    constructor
    · intro w
      rcases h2.mp (h1.mpr (Or.inl w)) with y | y
      · exact y
      · exact absurd y z
    · intro w
      rcases h1.mp (h2.mpr (Or.inl w)) with y | y
      · exact y
      · exact absurd y z
theorem ok_X2_longest {Q : Int → Sg → Prop} (t0 : Sg) (e24 : t = up t0 0 24 (t0 0 24 + 1)) (G : GX s) (M : MC s t) (h10 : s 1 2 ≤ 10) (hA : 0 ≤ t0 0 24 ∧ t0 0 24 < 30) (hQ : ∀ (r : Int) (u : Sg), (∀ (k : Nat) (j : Int), k ≠ 13 → u k j = t k j) → TF s (tm u) (pg s) 0 0 → MX s (tm u) (pg s) 0 r → Q r u) : wp_X2_longest t0 Q := by
  have hg := G.b
  have hp := pg_b G h10
  have hMf : ∀ u : Sg, (∀ (k : Nat) (j : Int), k ≠ 13 → u k j = t k j) → MC s u := fun u F => MC_MS M (fun k j hk => F k j (by unfold com at hk; omega))
  have eg0 : t0 0 10 = s 1 2 := by have := M.g; rw [e24, up_n _ _ _ _ _ (by decide)] at this; exact this
  unfold wp_X2_longest
  rw [eg0, ← e24]
  refine ⟨by omega, fun w => by omega, fun _ => ⟨by omega, fun _ => ?_, fun w => by omega⟩⟩
  have ep84 : ∀ u : Sg, u 0 10 = s 1 2 → (84 : Int) * 2 ^ ((u 0 10) : Int).toNat = 84 * pg s := fun u e => by rw [e]; unfold pg; rw [Int.one_mul]
  refine ⟨fun x u => 0 ≤ x ∧ x ≤ 84 * pg s ∧ (∀ (k : Nat) (j : Int), k ≠ 13 → u k j = t k j) ∧ ∀ j : Int, 0 ≤ j → j < x → u 13 j = 0, fun x u => (84 * pg s - x).toNat, ⟨by omega, by omega, fun _ _ _ => rfl, fun j j0 j1 => by omega⟩, fun x u ⟨x0, x1, F, hz⟩ => ?_⟩
  have eg := (hMf u F).g
  refine ⟨by omega, by omega, by omega, by rw [ep84 u eg]; omega, fun h => ?_, fun h => ?_⟩
  · rw [ep84 u eg] at h
    have hz0 : ∀ S c : Int, 0 ≤ S → S < pg s → 0 ≤ c → c < s 1 1 → tm u S c = 0 := fun S c S0 S1 c0 c1 => hz _ (by omega) (by omega)
    clear x0 x1 h hz eg
    refine ⟨fun x u => 0 ≤ x ∧ x ≤ s 1 1 ∧ (∀ (k : Nat) (j : Int), k ≠ 13 → u k j = t k j) ∧ ∀ S c : Int, 0 ≤ S → S < pg s → 0 ≤ c → c < s 1 1 → tm u S c = if S = tw s c ∧ lf s (s 19 c) = 1 ∧ c < x then 1 else 0, fun x u => (s 1 1 - x).toNat, ⟨by omega, by omega, F, fun S c S0 S1 c0 c1 => by rw [if_neg (by omega)]; exact hz0 S c S0 S1 c0 c1⟩, fun x u ⟨x0, x1, F, hb⟩ => ?_⟩
    have Mu := hMf u F
    have em := Mu.m G
    refine ⟨by omega, by omega, fun h => ?_, fun h => ?_⟩
    · have ex : x = s 1 1 := by omega
      have hT : TF s (tm u) 1 0 0 := fun S c S0 S1 c0 c1 => by
        have e := hb S c S0 S1 c0 c1
        rw [e]
        refine ⟨by split <;> omega, ?_⟩
        unfold FWs
        constructor
        · intro w
          refine Or.inl ?_
          by_cases z : S = tw s c ∧ lf s (s 19 c) = 1 ∧ c < x
          · exact ⟨z.1, z.2.1⟩
          · rw [if_neg z] at w; omega
        · rintro (w | ⟨S', d', w1, w2, w3⟩)
          · rw [if_pos ⟨w.1, w.2, by omega⟩]
          · unfold FWd at w1
            have hS' : S' = 0 := by omega
            have h1 := w2.1
            rw [hS', hb 0 d' (by omega) (by omega) w1.2.1 w1.2.2.1] at h1
            have := (tw_b G h10 w1.2.1 w1.2.2.1).1
            rw [if_neg (by omega)] at h1
            omega
      have hM0 : MX s (tm u) 1 0 0 := ⟨by omega, fun S c hr h1 => by
        unfold rng at hr
        have hS : S = 0 := by omega
        have := (tw_b G h10 hr.2.1 hr.2.2.1).1
        rw [hS, hb 0 c (by omega) (by omega) hr.2.1 hr.2.2.1, if_neg (by omega)] at h1
        omega, Or.inl rfl⟩
      clear hb ex x0 x1 h em Mu
      refine ⟨fun r S u => 1 ≤ S ∧ S ≤ pg s ∧ (∀ (k : Nat) (j : Int), k ≠ 13 → u k j = t k j) ∧ TF s (tm u) S 0 0 ∧ MX s (tm u) S 0 r, fun r S u => (pg s - S).toNat, ⟨by omega, by omega, F, hT, hM0⟩, fun r S u ⟨S0, S1, F, hT, hM⟩ => ?_⟩
      have eg := (hMf u F).g
      have epg : (1 : Int) * 2 ^ ((u 0 10) : Int).toNat = pg s := by rw [eg]; rfl
      refine ⟨by omega, by omega, by omega, by rw [epg]; omega, fun h => ?_, fun h => ?_⟩
      · rw [epg] at h
        have e : S = pg s := by omega
        rw [e] at hT hM
        exact hQ r u F hT hM
      · rw [epg] at h
        refine ⟨fun r c u => 0 ≤ c ∧ c ≤ s 1 1 ∧ (∀ (k : Nat) (j : Int), k ≠ 13 → u k j = t k j) ∧ TF s (tm u) S c 0 ∧ MX s (tm u) S c r, fun r c u => (s 1 1 - c).toNat, ⟨by omega, by omega, F, hT, hM⟩, fun r c u ⟨c0, c1, F, hT, hM⟩ => ?_⟩
        have Mu := hMf u F
        have em := Mu.m G
        refine ⟨by omega, by omega, fun h2 => ?_, fun h2 => ?_⟩
        · have e : c = s 1 1 := by omega
          rw [e] at hT hM
          have hr0 : ∀ S' c' : Int, rng s (S + 1) 0 S' c' ↔ rng s S (s 1 1) S' c' := fun S' c' => by unfold rng; omega
          refine ⟨⟨by omega, by omega, F, TF_mono hT (fun S' d' c' q0 q1 _ => by unfold FWd; omega), hM.1, fun S' c' hr => hM.2.1 S' c' ((hr0 S' c').mp hr), ?_⟩, by dsimp only; omega⟩
          rcases hM.2.2 with w | ⟨S', c', w1, w2⟩
          · exact Or.inl w
          · exact Or.inr ⟨S', c', (hr0 S' c').mpr w1, w2⟩
        · have h2 : c < s 1 1 := by omega
          have hTc := (hT S c (by omega) h c0 h2).1
          have hrs : ∀ S' c' : Int, rng s S (c + 1) S' c' ↔ (rng s S c S' c' ∨ (S' = S ∧ c' = c)) := fun S' c' => by unfold rng; omega
          rw [show u 13 (84 * S + c) = tm u S c from rfl]
          refine ⟨by omega, by omega, by omega, ?_⟩
          unfold JN2
          refine ⟨fun w => ⟨⟨by omega, by omega, F, TF_mono hT (fun S' d' c' q0 q1 hc => ?_), hM.1, fun S' c' hr h1 => ?_, ?_⟩, by dsimp only; omega⟩, fun w => ?_⟩
          · constructor
            · intro y; unfold FWd at y ⊢; omega
            · intro y
              by_cases z : S' = S ∧ d' = c
              · have := hc.1
                rw [z.1, z.2] at this
                exact absurd this w
              · unfold FWd at y ⊢; omega
          · rcases (hrs S' c').mp hr with y | y
            · exact hM.2.1 S' c' y h1
            · rw [y.1, y.2] at h1; exact absurd h1 w
          · rcases hM.2.2 with y | ⟨S', c', y1, y2⟩
            · exact Or.inl y
            · exact Or.inr ⟨S', c', (hrs S' c').mpr (Or.inl y1), y2⟩
          · have hpb := pop_b 12 S
            have hrb : 0 ≤ r ∧ r ≤ 12 := by
              have := hM.1
              rcases hM.2.2 with w | ⟨S', c', w1, w2, w3⟩
              · omega
              · have := pop_b 12 S'; omega
            refine ok_X2_ones (by omega) (by omega) ⟨by omega, by omega, ?_⟩
            refine jn1_v (if r < pop 12 S then pop 12 S else r) (fun K hK => ⟨fun w2 => ?_, fun w2 => ok_X2_ones (by omega) (by omega) ?_⟩) ?_
            · rw [if_neg (by omega)] at hK; exact hK
            · rw [if_pos w2] at hK; exact hK
            have hM' : MX s (tm u) S (c + 1) (if r < pop 12 S then pop 12 S else r) := by
              obtain ⟨m0, m1, m2⟩ := hM
              refine ⟨by split <;> omega, fun S' c' hr h1 => ?_, ?_⟩
              · rcases (hrs S' c').mp hr with y | y
                · have := m1 S' c' y h1
                  split <;> omega
                · rw [y.1]; split <;> omega
              · by_cases z : r < pop 12 S
                · rw [if_pos z]
                  exact Or.inr ⟨S, c, (hrs S c).mpr (Or.inr ⟨rfl, rfl⟩), w, rfl⟩
                · rw [if_neg z]
                  rcases m2 with y | ⟨S', c', y1, y2⟩
                  · exact Or.inl y
                  · exact Or.inr ⟨S', c', (hrs S' c').mpr (Or.inl y1), y2⟩
            generalize (if r < pop 12 S then pop 12 S else r) = r' at hM' ⊢
            refine ⟨fun d u => 0 ≤ d ∧ d ≤ s 1 1 ∧ (∀ (k : Nat) (j : Int), k ≠ 13 → u k j = t k j) ∧ TF s (tm u) S c d ∧ MX s (tm u) S (c + 1) r' ∧ tm u S c = 1, fun d u => (s 1 1 - d).toNat, ⟨by omega, by omega, F, hT, hM', w⟩, fun d u ⟨d0, d1, F, hT, hM, hSc⟩ => ?_⟩
            have Mu := hMf u F
            have em := Mu.m G
            refine ⟨by omega, by omega, fun h3 => ?_, fun h3 => ?_⟩
            · have e : d = s 1 1 := by omega
              rw [e] at hT
              refine ⟨⟨by omega, by omega, F, TF_mono hT (fun S' d' c' q0 q1 _ => by unfold FWd; omega), hM⟩, by dsimp only; omega⟩
            · have h3 : d < s 1 1 := by omega
              have hLd := G.L d0 h3
              have hno : ¬ (¬ bq S (s 19 d) ∧ lf s (s 19 d) = 1 ∧ comn (s 1 0) c d = 2) → TF s (tm u) S c (d + 1) := fun w => by
                refine TF_mono hT (fun S' d' c' q0 q1 hc => ?_)
                constructor
                · intro y; unfold FWd at y ⊢; omega
                · intro y
                  by_cases z : S' = S ∧ d' = c ∧ c' = d
                  · obtain ⟨z1, z2, z3⟩ := z
                    rw [z1, z2, z3] at hc
                    exact absurd ⟨hc.2.1, hc.2.2.1, hc.2.2.2⟩ w
                  · unfold FWd at y ⊢; omega
              refine ok_X2_mayTake G Mu h10 d0 h3 (by omega) (by omega) (fun w1 w2 => ?_) (fun w1 => ?_)
              · refine jn1_i (tf1 ?_)
                have hcb := comn_b (s 1 0) c d
                refine ok_X2_inCommon Mu.1.1 c0 (by omega) d0 (by omega) ⟨by omega, fun w3 => ⟨⟨by omega, by omega, F, hno (fun y => w3 y.2.2), hM, hSc⟩, by dsimp only; omega⟩, fun w3 => ?_⟩
                rw [Mu.L d0 h3]
                have hB := bor_b1 G (show 0 ≤ S by omega) h d0 h3
                have hBg : S < bor S (tw s d) := or_gt (by omega) hLd.1 w1
                rw [show (1 : Int) * 2 ^ ((s 19 d) : Int).toNat = tw s d from rfl]
                have htw := tw_b G h10 d0 h3
                have eT : ∀ S' c' : Int, 0 ≤ c' → c' < s 1 1 → tm (up u 13 (84 * bor S (tw s d) + d) 1) S' c' = if S' = bor S (tw s d) ∧ c' = d then 1 else tm u S' c' := fun S' c' q0 q1 => by
                  unfold tm
                  rw [up_at]
                  by_cases z : S' = bor S (tw s d) ∧ c' = d
                  · rw [if_pos z, if_pos ⟨rfl, by rw [z.1, z.2]⟩]
                  · rw [if_neg z, if_neg (fun y => z (by omega))]
                refine ⟨d0, by omega, hLd.1, by omega, by omega, by omega, by omega, by omega, ⟨⟨by omega, by omega, fun k j hk => ?_, fun S' c' q0 q1 p0 p1 => ?_, ?_, ?_⟩, by dsimp only; omega⟩⟩
                · rw [up_o _ _ _ _ hk]; exact F k j hk
                · rw [eT S' c' p0 p1]
                  obtain ⟨g1, g2⟩ := hT S' c' q0 q1 p0 p1
                  have hFs : FWs s (tm (up u 13 (84 * bor S (tw s d) + d) 1)) S c (d + 1) S' c' ↔ (FWs s (tm u) S c d S' c' ∨ (S' = bor S (tw s d) ∧ c' = d)) := by
                    unfold FWs
                    have hcc : ∀ S'' d'' : Int, 0 ≤ d'' → d'' < s 1 1 → S'' ≤ S → (FWc s (tm (up u 13 (84 * bor S (tw s d) + d) 1)) S'' d'' c' ↔ FWc s (tm u) S'' d'' c') := fun S'' d'' y0 y1 y2 => by
                      unfold FWc
                      rw [eT S'' d'' y0 y1, if_neg (by omega)]
                    constructor
                    · rintro (y | ⟨S'', d'', y1, y2, y3⟩)
                      · exact Or.inl (Or.inl y)
                      · have y1' := y1
                        unfold FWd at y1
                        have y2 := (hcc S'' d'' y1.2.1 y1.2.2.1 (by omega)).mp y2
                        by_cases z : S'' = S ∧ d'' = c ∧ c' = d
                        · obtain ⟨z1, z2, z3⟩ := z
                          rw [z1, z3] at y3
                          exact Or.inr ⟨y3, z3⟩
                        · exact Or.inl (Or.inr ⟨S'', d'', by unfold FWd; omega, y2, y3⟩)
                    · rintro ((y | ⟨S'', d'', y1, y2, y3⟩) | ⟨z1, z2⟩)
                      · exact Or.inl y
                      · have y1' := y1
                        unfold FWd at y1
                        exact Or.inr ⟨S'', d'', by unfold FWd; omega, (hcc S'' d'' y1.2.1 y1.2.2.1 (by omega)).mpr y2, y3⟩
                      · refine Or.inr ⟨S, c, by unfold FWd; omega, (hcc S c c0 h2 (by omega)).mpr ⟨hSc, ?_, ?_, ?_⟩, ?_⟩
                        · rw [z2]; exact w1
                        · rw [z2]; exact w2
                        · rw [z2]; exact w3
                        · rw [z2]; exact z1
                  by_cases z : S' = bor S (tw s d) ∧ c' = d
                  · rw [if_pos z]
                    exact ⟨Or.inr rfl, fun _ => hFs.mpr (Or.inr z), fun _ => rfl⟩
                  · rw [if_neg z]
                    refine ⟨g1, fun y => hFs.mpr (Or.inl (g2.mp y)), fun y => ?_⟩
                    rcases hFs.mp y with y | y
                    · exact g2.mpr y
                    · exact absurd y z
                · obtain ⟨m0, m1, m2⟩ := hM
                  refine ⟨m0, fun S' c' hr h1 => ?_, ?_⟩
                  · have hr' := hr
                    unfold rng at hr
                    rw [eT S' c' hr.2.1 hr.2.2.1, if_neg (by omega)] at h1
                    exact m1 S' c' hr' h1
                  · rcases m2 with y | ⟨S', c', y1, y2, y3⟩
                    · exact Or.inl y
                    · have y1' := y1
                      unfold rng at y1
                      exact Or.inr ⟨S', c', y1', by rw [eT S' c' y1.2.1 y1.2.2.1, if_neg (by omega)]; exact y2, y3⟩
                · rw [eT S c c0 h2, if_neg (by omega)]; exact hSc
              · exact jn1_i (tf0 ⟨⟨by omega, by omega, F, hno (fun y => w1 ⟨y.1, y.2.1⟩), hM, hSc⟩, by dsimp only; omega⟩)
    · have h : x < s 1 1 := by omega
      have hLx := G.L x0 h
      have htw := tw_b G h10 x0 h
      have hno : lf s (s 19 x) ≠ 1 → ∀ S c : Int, 0 ≤ S → S < pg s → 0 ≤ c → c < s 1 1 → tm u S c = if S = tw s c ∧ lf s (s 19 c) = 1 ∧ c < x + 1 then 1 else 0 := fun w S c S0 S1 c0 c1 => by
        rw [hb S c S0 S1 c0 c1]
        by_cases z : S = tw s c ∧ lf s (s 19 c) = 1 ∧ c < x
        · rw [if_pos z, if_pos (by omega)]
        · rw [if_neg z]
          by_cases z2 : c = x
          · rw [z2, if_neg (fun y => w y.2.1)]
          · rw [if_neg (by omega)]
      refine ok_X2_mayTake G Mu h10 x0 h (by omega) (by omega) (fun w1 w2 => ?_) (fun w1 => ?_)
      · refine jn1_i (tf1 ?_)
        rw [Mu.L x0 h, show (1 : Int) * 2 ^ ((s 19 x) : Int).toNat = tw s x from rfl]
        refine ⟨x0, by omega, hLx.1, by omega, by omega, by omega, ⟨⟨by omega, by omega, fun k j hk => ?_, fun S c S0 S1 c0 c1 => ?_⟩, by dsimp only; omega⟩⟩
        · rw [up_o _ _ _ _ hk]; exact F k j hk
        · have e : tm (up u 13 (84 * tw s x + x) 1) S c = if S = tw s x ∧ c = x then 1 else tm u S c := by
            unfold tm
            rw [up_at]
            by_cases z : S = tw s x ∧ c = x
            · rw [if_pos z, if_pos ⟨rfl, by rw [z.1, z.2]⟩]
            · rw [if_neg z, if_neg (fun y => z (by omega))]
          rw [e, hb S c S0 S1 c0 c1]
          by_cases z : c = x
          · subst z
            by_cases z2 : S = tw s c
            · rw [if_pos ⟨z2, rfl⟩, if_pos ⟨z2, w2, by omega⟩]
            · rw [if_neg (fun y => z2 y.1), if_neg (fun y => z2 y.1), if_neg (fun y => z2 y.1)]
          · rw [if_neg (fun y => z y.2)]
            by_cases z2 : S = tw s c ∧ lf s (s 19 c) = 1 ∧ c < x
            · rw [if_pos z2, if_pos (by omega)]
            · rw [if_neg z2, if_neg (by omega)]
      · exact jn1_i (tf0 ⟨⟨by omega, by omega, F, hno (fun y => w1 ⟨bq_0 _, y⟩)⟩, by dsimp only; omega⟩)
  · rw [ep84 u eg] at h
    refine ⟨x0, by omega, ⟨⟨by omega, by omega, fun k j hk => ?_, fun j j0 j1 => ?_⟩, by dsimp only; omega⟩⟩
    · rw [up_o _ _ _ _ hk]; exact F k j hk
    · by_cases q : j = x
      · rw [q, up_s]
      · rw [up_n _ _ _ _ _ q]; exact hz j j0 (by omega)
/-- the two tables agree -/
theorem tab_eq {Tx Tm : Int → Int → Int} (G : GX s) (h10 : s 1 2 ≤ 10) (hX : TX s Tx (pg s) 0) (hM : TF s Tm (pg s) 0 0) : ∀ S c : Int, 0 ≤ S → S < pg s → 0 ≤ c → c < s 1 1 → Tx S c = Tm S c := by
  have key : ∀ n : Nat, ∀ S c : Int, 0 ≤ S → S < n → S < pg s → 0 ≤ c → c < s 1 1 → Tx S c = Tm S c := by
    intro n
    induction n with
    | zero => intro S c S0 Sn; omega
    | succ n ih =>
      intro S c S0 Sn S1 c0 c1
      obtain ⟨x1, x2⟩ := hX S c ⟨S0, c0, c1, Or.inl S1⟩
      obtain ⟨m1, m2⟩ := hM S c S0 S1 c0 c1
      have hL := G.L c0 c1
      have hiff : Tx S c = 1 ↔ Tm S c = 1 := by
        rw [x2, m2]
        unfold stX FWs
        constructor
        · rintro ⟨q1, q2, q3⟩
          have hlt := xor_lt S0 hL.1 q1
          have hl1 := q2 _ hL.1 q1
          rcases q3 with q3 | ⟨d, d0, d1, d2, d3⟩
          · refine Or.inl ⟨?_, hl1⟩
            refine bits_eq S0 (pow_pos1 _) (fun k k0 => ?_)
            have := bq_xor S ((1 : Int) * 2 ^ (s 19 c).toNat) k
            rw [q3] at this
            have h2 := bq_0 k
            constructor
            · intro w
              by_cases z : bq ((1 : Int) * 2 ^ (s 19 c).toNat) k
              · exact z
              · exact absurd (this.mpr (fun y => z (y.mp w))) h2
            · intro w
              by_cases z : bq S k
              · exact z
              · exact absurd (this.mpr (fun y => z (y.mpr w))) h2
          · rw [ih _ d (bxor_nn _ _) (by omega) (by omega) d0 d1] at d2
            have hnb : ¬ bq (bxor S ((1 : Int) * 2 ^ (s 19 c).toNat)) (s 19 c) := by
              rw [bq_xor, bq_pow hL.1 hL.1]
              intro w; exact w ⟨fun _ => rfl, fun _ => q1⟩
            refine Or.inr ⟨_, d, ⟨bxor_nn _ _, d0, d1, Or.inl (by omega)⟩, ⟨d2, hnb, hl1, d3⟩, ?_⟩
            refine bits_eq S0 (bor_nn _ _) (fun k k0 => ?_)
            unfold tw
            rw [bq_or, bq_xor, bq_pow hL.1 k0]
            constructor
            · intro w
              by_cases z : k = s 19 c
              · exact Or.inr z
              · exact Or.inl (fun y => z (y.mp w))
            · rintro (w | w)
              · by_cases z : bq S k
                · exact z
                · by_cases z2 : k = s 19 c
                  · rw [z2]; exact q1
                  · exact absurd ⟨fun y => absurd y z, fun y => absurd y z2⟩ w
              · rw [w]; exact q1
        · rintro (⟨q1, q2⟩ | ⟨S', d', q1, q2, q3⟩)
          · have hb : ∀ k : Int, 0 ≤ k → (bq S k ↔ k = s 19 c) := fun k k0 => by rw [q1]; exact bq_pow hL.1 k0
            refine ⟨(hb _ hL.1).mpr rfl, fun k k0 hk => by rw [(hb k k0).mp hk]; exact q2, Or.inl ?_⟩
            refine bits_eq (bxor_nn _ _) (Int.le_refl 0) (fun k k0 => ?_)
            rw [bq_xor, bq_pow hL.1 k0, hb k k0]
            exact ⟨fun w => absurd Iff.rfl w, fun w => absurd w (bq_0 k)⟩
          · unfold FWd at q1
            obtain ⟨r1, r2, r3, r4⟩ := q2
            have hlt : S' < S := by rw [q3]; exact or_gt q1.1 hL.1 r2
            have r1' := r1
            rw [← ih S' d' q1.1 (by omega) (by omega) q1.2.1 q1.2.2.1] at r1
            have hst := (hX S' d' ⟨q1.1, q1.2.1, q1.2.2.1, Or.inl (by omega)⟩).2.mp r1
            have hbS : ∀ k : Int, 0 ≤ k → (bq S k ↔ (bq S' k ∨ k = s 19 c)) := fun k k0 => by
              rw [q3]; unfold tw; rw [bq_or, bq_pow hL.1 k0]
            have hxr : bxor S ((1 : Int) * 2 ^ (s 19 c).toNat) = S' := by
              refine bits_eq (bxor_nn _ _) q1.1 (fun k k0 => ?_)
              rw [bq_xor, bq_pow hL.1 k0, hbS k k0]
              by_cases z : k = s 19 c
              · rw [z]
                exact ⟨fun w => absurd ⟨fun _ => rfl, fun _ => Or.inr rfl⟩ w, fun w => absurd w r2⟩
              · constructor
                · intro w
                  by_cases y : bq S' k
                  · exact y
                  · exact absurd ⟨fun v => v.elim (fun v => absurd v y) id, fun v => absurd v z⟩ w
                · intro w v
                  exact z (v.mp (Or.inl w))
            refine ⟨(hbS _ hL.1).mpr (Or.inr rfl), fun k k0 hk => ?_, Or.inr ⟨d', q1.2.1, q1.2.2.1, by rw [hxr]; exact r1, r4⟩⟩
            rcases (hbS k k0).mp hk with w | w
            · exact hst.2.1 k k0 w
            · rw [w]; exact r3
      omega
  intro S c S0 S1 c0 c1
  exact key (S.toNat + 1) S c S0 (by omega) S1 c0 c1
theorem MX_u {Tx Tm : Int → Int → Int} {r r' : Int} (h : ∀ S c : Int, 0 ≤ S → S < pg s → 0 ≤ c → c < s 1 1 → Tx S c = Tm S c) (h1 : MX s Tx (pg s) 0 r) (h2 : MX s Tm (pg s) 0 r') : r = r' := by
  have e : ∀ S c : Int, rng s (pg s) 0 S c → Tx S c = Tm S c := fun S c hr => by
    unfold rng at hr
    exact h S c hr.1 (by omega) hr.2.1 hr.2.2.1
  have a : r ≤ r' := by
    rcases h1.2.2 with w | ⟨S, c, w1, w2, w3⟩
    · have := h2.1; omega
    · rw [← w3]; exact h2.2.1 S c w1 (by rw [← e S c w1]; exact w2)
  have b : r' ≤ r := by
    rcases h2.2.2 with w | ⟨S, c, w1, w2, w3⟩
    · have := h1.1; omega
    · rw [← w3]; exact h1.2.1 S c w1 (by rw [e S c w1]; exact w2)
  omega
/-- one more ask -/
theorem RL_ask (h : RL i s t) (h30 : s 0 19 < 30) : RL i (up s 0 19 (s 0 19 + 1)) (up t 0 24 (t 0 24 + 1)) := by
  have hg := h.1.b
  have ea := h.2.1.ask
  obtain ⟨b1, b2, b3, b4, b5, b6⟩ := RL_b.mp h
  refine RL_b.mpr ⟨BC_c (fun k j hk => ?_) (fun k j hk => ?_) b1, BH_c (fun k j hk => ?_) (fun k j hk => ?_) b2, BS_c (fun k j hk => ?_) (fun k j hk => ?_) b3, BP_c (fun k j hk => ?_) (fun k j hk => ?_) b4, ?_, KP_c (Int.le_refl i) (fun k j hk => ?_) (fun k j hk => ?_) b6⟩
  · unfold cb at hk; rw [up_at, if_neg (by omega)]
  · unfold mb at hk; rw [up_at, if_neg (by omega)]
  · rw [up_at, if_neg (by omega)]
  · rw [up_at, if_neg (by omega)]
  · rw [up_at, if_neg (by omega)]
  · rw [up_at, if_neg (by omega)]
  · rw [up_at, if_neg (by omega)]
  · rw [up_at, if_neg (by omega)]
  · unfold BA; rw [up_s, up_s]; omega
  · unfold ck at hk; rw [up_at, if_neg (by omega)]
  · unfold mk at hk; rw [up_at, if_neg (by omega)]
theorem rel_longest (h : RL i s t) : wp_X0_longest s (fun r s' => wp_X2_longest t (fun r' t' => RR i r s' r' t')) := by
  have G := h.1
  have M := h.2.1
  have hg := G.b
  have ea := M.ask
  unfold wp_X0_longest
  refine ok_X0_mayAsk G (XS.refl s) (fun h10 h30 => tt1 ?_) (fun w => tt0 ?_)
  · have h1 := RL_ask h h30
    have e12 : (up s 0 19 (s 0 19 + 1)) 1 2 = s 1 2 := by rw [up_o _ _ _ _ (by decide)]
    refine ok_X0_longestOf h1.1 (by rw [e12]; exact h10) (fun r u X hT hMx => ?_)
    refine ok_X2_longest t rfl h1.1 h1.2.1 (by rw [e12]; exact h10) (by omega) (fun r' v F hT' hMx' => ⟨MX_u (tab_eq h1.1 (by rw [e12]; exact h10) hT hT') hMx hMx', RL_XM h1 X (fun k j hk => F k j (by unfold com at hk; omega))⟩)
  · unfold wp_X2_longest
    rw [M.g]
    refine ⟨by omega, fun _ => ⟨rfl, h⟩, fun w2 => ⟨by omega, fun w3 => by omega, fun _ => ⟨rfl, h⟩⟩⟩
end
