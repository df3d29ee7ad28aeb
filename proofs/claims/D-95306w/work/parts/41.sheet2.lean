/-! PLAIN LAWS, 22: sheet, the reference's half -/
theorem in2_v {a b c : Int} {Q : Int → Prop} (ha : RgL a) (hb : RgL b) (hc : RgL c) (h : ∀ r : Int, ((r = 1 ∧ b ≤ a ∧ a ≤ c) ∨ (r = 0 ∧ ¬ (b ≤ a ∧ a ≤ c))) → Q r) : wp_X2_in a b c Q :=
  ok_X2_in ha hb hc (fun p q => h 1 (Or.inl ⟨rfl, p, q⟩)) (fun p => h 0 (Or.inr ⟨rfl, p⟩))
section
variable {s t : Sg} {i a b c : Int}
theorem ok_X2_sheet {Q : Int → Sg → Prop} (G : GX s) (M : MC s t) (ha : Rg a) (hc : RgL c) (hb : Rg b) (hB : ∀ (r : Int) (u : Sg), shB s a c b r → (∀ (k : Nat) (j : Int), ¬ (k = 11 ∨ (k = 0 ∧ j = 21)) → u k j = t k j) → Q r u)
    (hG : ∀ u : Sg, shG s a c b → (∀ (k : Nat) (j : Int), ¬ (k = 11 ∨ (k = 0 ∧ (j = 21 ∨ j = 15)) ∨ (k = 8 ∧ 8 * s 0 14 ≤ j)) → u k j = t k j) → u 0 15 = s 0 14 + 1 → u 8 (8 * s 0 14) = a → u 8 (8 * s 0 14 + 7) = b → (∀ j : Int, 0 ≤ j → j < a → u 8 (8 * s 0 14 + 1 + j) = byt c j) → Q (s 0 14 + 1) u) : wp_X2_sheet a c b t Q := by
  have hg := G.b
  have sk : ∀ r, shB s a c b r → Q r t := fun r h => hB r t h (fun _ _ _ => rfl)
  unfold wp_X2_sheet
  refine ⟨ha, in2_v (by omega) (by omega) (by omega) (fun r hr => ?_)⟩
  refine jn1_v (if (1 ≤ a ∧ a ≤ 6) ∧ (0 ≤ b ∧ b ≤ 6) then 1 else 0) (fun K hK => ?_) ?_
  · unfold JN0
    refine ⟨fun w => ?_, fun w => ⟨hb, in2_v (by omega) (by omega) (by omega) (fun r2 hr2 => ⟨fun w2 => ?_, fun w2 => ?_⟩)⟩⟩
    · rw [if_neg (by omega)] at hK; exact hK
    · rw [if_neg (by omega)] at hK; exact hK
    · rw [if_pos (by omega)] at hK; exact hK
  refine ⟨fun x k => 0 ≤ k ∧ k ≤ 8 ∧ ((x = 1 ∧ ((1 ≤ a ∧ a ≤ 6) ∧ (0 ≤ b ∧ b ≤ 6)) ∧ ∀ j : Int, a ≤ j → j < k → byt c j = 0) ∨ (x = 0 ∧ shB s a c b (-102))), fun x k => (8 - k).toNat, ⟨by omega, by omega, ?_⟩, fun x k ⟨k0, k1, hx⟩ => ?_⟩
  · by_cases w : (1 ≤ a ∧ a ≤ 6) ∧ (0 ≤ b ∧ b ≤ 6)
    · rw [if_pos w]; exact Or.inl ⟨rfl, w, fun j j0 j1 => by omega⟩
    · rw [if_neg w]
      refine Or.inr ⟨rfl, ?_⟩
      by_cases w2 : 1 ≤ a ∧ a ≤ 6
      · exact Or.inr (Or.inl ⟨w2.1, w2.2, fun y => w ⟨w2, y⟩, rfl⟩)
      · exact Or.inl ⟨w2, rfl⟩
  refine ⟨by omega, ?_⟩
  by_cases hstop : k = 8 ∨ x = 0
  · refine jn0_v (fun K hK => ⟨fun _ => hK, fun h2 => ⟨by omega, fun _ => hK, fun z => by omega⟩⟩) ?_
    refine ⟨by omega, fun hx0 => ?_, fun hx0 => ?_⟩
    · have hk8 : k = 8 := by omega
      subst hk8
      have hz : ((1 ≤ a ∧ a ≤ 6) ∧ (0 ≤ b ∧ b ≤ 6)) ∧ ∀ j : Int, a ≤ j → j < 8 → byt c j = 0 := by
        rcases hx with w | w
        · exact w.2
        · exact absurd w.1 hx0
      obtain ⟨⟨⟨p, q⟩, p2, q2⟩, hz⟩ := hz
      clear hx hstop hx0 k0 k1
      refine ⟨fun f k => 0 ≤ k ∧ k ≤ a ∧ f = b2i (okb c k (s 1 1)), fun f k => (a - k).toNat, ⟨by omega, by omega, (b2i_t (fun j j0 j1 => by omega)).symm⟩, fun f k ⟨k0, k1, hf⟩ => ?_⟩
      have qf := b2i_r (okb c k (s 1 1))
      refine ⟨by omega, by omega, fun h => ?_, fun h => ?_⟩
      · have e : k = a := by omega
        subst e
        refine ⟨by omega, fun hf1 => ?_, fun hf0 => ?_⟩
        · have hok : okb c k (s 1 1) := by
            rcases b2i_01 (okb c k (s 1 1)) with y | y
            · omega
            · exact b2i_1.mp y
          refine ok_X2_layTold G M (fun u D F => ?_)
          have hp12 := G.d12 (Int.le_refl (s 0 14))
          have hdv := G.dv (Int.le_refl (s 0 14))
          refine ⟨fun o j u => 0 ≤ j ∧ j ≤ k ∧ (∀ (k : Nat) (j : Int), ¬ (k = 11 ∨ (k = 0 ∧ j = 21)) → u k j = t k j) ∧ ((o = 1 ∧ DM (dro (s 19) (byt c) j.toNat (dls s (s 0 14))) u ∧ (dro (s 19) (byt c) j.toNat (dls s (s 0 14))).1 ≤ 12) ∨ (o = 0 ∧ 12 < (dro (s 19) (byt c) j.toNat (dls s (s 0 14))).1)), fun o j u => (k - j).toNat, ⟨by omega, by omega, F, Or.inl ⟨rfl, D, hp12⟩⟩, fun o j u ⟨j0, j1, F, ho⟩ => ?_⟩
          have e15 : u 0 15 = s 0 14 := by rw [F 0 15 (by omega)]; exact M.sh
          refine ⟨by omega, by omega, fun h2 => ?_, fun h2 => ?_⟩
          · have e : j = k := by omega
            subst e
            refine ⟨by omega, fun h5 => ?_, fun h5 => ⟨by omega, fun ho1 => ?_, fun ho0 => ?_⟩⟩
            · exact hB _ u (Or.inr (Or.inr (Or.inr (Or.inr ⟨p, q, p2, q2, hz, hok, Or.inl (by omega), rfl⟩)))) F
            · have hle : (dro (s 19) (byt c) j.toNat (dls s (s 0 14))).1 ≤ 12 := by omega
              rw [e15]
              refine ⟨by omega, by omega, ?_⟩
              refine ⟨fun x w => 0 ≤ x ∧ x ≤ j ∧ (∀ (k : Nat) (j : Int), ¬ (k = 11 ∨ (k = 0 ∧ j = 21) ∨ (k = 8 ∧ 8 * s 0 14 ≤ j)) → w k j = t k j) ∧ w 8 (8 * s 0 14) = j ∧ (∀ q : Int, 0 ≤ q → q < x → w 8 (8 * s 0 14 + 1 + q) = byt c q), fun x w => (j - x).toNat, ⟨by omega, by omega, fun k j hk => by rw [up_at, if_neg (by omega)]; exact F k j (by omega), up_s _ _ _ _, fun q q0 q1 => by omega⟩, fun x w ⟨x0, x1, W, w8, wr⟩ => ?_⟩
              have w15 : w 0 15 = s 0 14 := by rw [W 0 15 (by omega)]; exact M.sh
              refine ⟨by omega, by omega, fun h3 => ?_, fun h3 => ?_⟩
              · have ex : x = j := by omega
                subst ex
                rw [w15]
                have v15 : (up w 8 (8 * s 0 14 + 7) b) 0 15 = s 0 14 := by rw [up_o _ _ _ _ (by decide)]; exact w15
                rw [v15]
                have z15 : (up (up w 8 (8 * s 0 14 + 7) b) 0 15 (s 0 14 + 1)) 0 15 = s 0 14 + 1 := up_s _ _ _ _
                rw [z15]
                refine ⟨by omega, by omega, hG _ ⟨p, q, p2, q2, hz, hok, by omega, hle⟩ (fun k j hk => ?_) z15 ?_ ?_ (fun y y0 y1 => ?_)⟩
                · rw [up_at, if_neg (by omega), up_at, if_neg (by omega)]
                  exact W k j (by omega)
                · rw [up_o _ _ _ _ (by decide), up_n _ _ _ _ _ (by omega)]; exact w8
                · rw [up_o _ _ _ _ (by decide), up_s]
                · rw [up_o _ _ _ _ (by decide), up_n _ _ _ _ _ (by omega)]; exact wr y y0 y1
              · rw [w15, byt_u x0 (by omega)]
                refine ⟨by omega, by omega, by omega, by omega, ⟨⟨by omega, by omega, fun k j hk => ?_, ?_, fun y y0 y1 => ?_⟩, by dsimp only; omega⟩⟩
                · rw [up_at, if_neg (by omega)]; exact W k j hk
                · rw [up_n _ _ _ _ _ (by omega)]; exact w8
                · by_cases z : y = x
                  · rw [z, up_s]
                  · rw [up_n _ _ _ _ _ (by omega)]; exact wr y y0 (by omega)
            · exact hB _ u (Or.inr (Or.inr (Or.inr (Or.inr ⟨p, q, p2, q2, hz, hok, Or.inr (by omega), rfl⟩)))) F
          · have hb1 := (byt_b c j).1
            have hb2 := hok j j0 h2
            have hL := G.L hb1 hb2
            have Mu : MC s u := MC_MS M (fun k j hk => F k j (by unfold com at hk; omega))
            rw [byt_u j0 (by omega), Mu.L hb1 hb2]
            have hst := dro_s (s 19) (byt c) (dls s (s 0 14)) j0
            have hW := DV_dro (L := s 19) (row := byt c) hdv j.toNat (fun y y0 y1 => G.L (byt_b c y).1 (hok y y0 (by omega)))
            have hd := dad_b (s 19 (byt c j)) (dro (s 19) (byt c) j.toNat (dls s (s 0 14)))
            have hW0 := hW.1
            have hdn := @dad_n (s 19 (byt c j)) (dro (s 19) (byt c) j.toNat (dls s (s 0 14)))
            have hdo := @dad_o (s 19 (byt c j)) (dro (s 19) (byt c) j.toNat (dls s (s 0 14)))
            rw [← hst] at hd hdn hdo
            generalize hp : dro (s 19) (byt c) j.toNat (dls s (s 0 14)) = d at *
            generalize hp' : dro (s 19) (byt c) (j + 1).toNat (dls s (s 0 14)) = d' at *
            refine ⟨by omega, by omega, hb1, by omega, by omega, ?_⟩
            refine jn1_v (if d'.1 ≤ 12 then 1 else 0) (fun K hK => ?_) ?_
            · unfold JN0
              refine ⟨fun w => ?_, fun w => ?_⟩
              · rw [if_neg (by omega)] at hK; exact hK
              · have hD : DM d u ∧ d.1 ≤ 12 := by
                  rcases ho with y | y
                  · exact y.2
                  · omega
                have e21 := hD.1.1
                refine ⟨by omega, fun w2 => ?_, fun w2 => ok_X2_placeOf hD.1 hW (by omega) hD.2 (by omega) ?_⟩
                · rw [if_pos (by omega)] at hK; exact hK
                · have hfr := ff_rg (fun y => d.2 y = s 19 (byt c j)) hW0
                  refine ⟨by omega, fun w3 => ?_, fun w3 => ?_⟩
                  · have e1 := hdn w3
                    have e2 : d'.1 = d.1 + 1 := by rw [e1]
                    rw [if_neg (by omega)] at hK; exact hK
                  · have e1 := hdo w3
                    rw [if_pos (by rw [e1]; exact hD.2)] at hK; exact hK
            by_cases h12 : d'.1 ≤ 12
            · rw [if_pos h12]
              have hD : o = 1 ∧ DM d u ∧ d.1 ≤ 12 := by
                rcases ho with y | y
                · exact y
                · omega
              unfold JN1
              refine ⟨by omega, fun w => absurd w (by decide), fun _ => ?_⟩
              refine ok_X2_tellAlso hD.2.1 hW (by omega) hD.2.2 (by omega) (by rw [← hst]; exact h12) (fun w D2 F2 => ⟨⟨by omega, by omega, fun k j hk => by rw [F2 k j hk]; exact F k j hk, Or.inl ⟨rfl, ?_, ?_⟩⟩, by dsimp only; omega⟩)
              · rw [hp', hst]; exact D2
              · rw [hp']; exact h12
            · rw [if_neg h12]
              unfold JN1
              refine ⟨by omega, fun _ => ⟨⟨by omega, by omega, F, Or.inr ⟨rfl, ?_⟩⟩, by dsimp only; omega⟩, fun w => absurd rfl w⟩
              rw [hp']; omega
        · have hok : ¬ okb c k (s 1 1) := b2i_0.mp (by rw [← hf]; exact hf0)
          exact sk _ (Or.inr (Or.inr (Or.inr (Or.inl ⟨p, q, p2, q2, hz, hok, rfl⟩))))
      · have hbb := byt_b c k
        refine ⟨by omega, ?_⟩
        refine jn1_v (b2i (okb c (k + 1) (s 1 1))) (fun K hK => ?_) ?_
        · unfold JN0
          refine ⟨fun w => ?_, fun w => ?_⟩
          · rw [b2i_f (fun y => b2i_0.mp (by rw [← hf]; exact w) ((okb_s k0).mp y).1)] at hK; exact hK
          · have hok : okb c k (s 1 1) := by
              rcases b2i_01 (okb c k (s 1 1)) with y | y
              · omega
              · exact b2i_1.mp y
            rw [byt_u k0 (by omega)]
            refine ⟨by omega, by omega, ok_X2_isChord M G (by omega) (fun p3 q3 => tf1 ?_) (fun p3 => tf0 ?_)⟩
            · rw [b2i_t ((okb_s k0).mpr ⟨hok, q3⟩)] at hK; exact hK
            · rw [b2i_f (fun y => p3 ⟨hbb.1, ((okb_s k0).mp y).2⟩)] at hK; exact hK
        · exact ⟨⟨by omega, by omega, rfl⟩, by dsimp only; omega⟩
    · rcases hx with w | w
      · omega
      · exact sk _ w.2
  · have h8 : k < 8 := by omega
    have hx1 : x = 1 ∧ ((1 ≤ a ∧ a ≤ 6) ∧ (0 ≤ b ∧ b ≤ 6)) ∧ ∀ j : Int, a ≤ j → j < k → byt c j = 0 := by
      rcases hx with w | w
      · exact w
      · omega
    have hbb := byt_b c k
    have hx1' := hx1.1
    have hx12 := hx1.2.1
    unfold JN0
    refine ⟨fun w => by omega, fun _ => ⟨by omega, fun w => by omega, fun _ => ⟨by omega, by omega, ?_⟩⟩⟩
    refine jn1_v (if k < a ∨ byt c k = 0 then 1 else 0) (fun K hK => ⟨fun w => ?_, fun w => ?_⟩) ?_
    · rw [if_pos (Or.inl w)] at hK; exact hK
    · rw [byt_u k0 h8]
      refine ⟨by omega, by omega, by omega, fun w2 => ?_, fun w2 => ?_⟩
      · rw [if_neg (by omega)] at hK; exact hK
      · rw [if_pos (Or.inr w2)] at hK; exact hK
    refine ⟨⟨by omega, by omega, ?_⟩, by dsimp only; omega⟩
    by_cases w : k < a ∨ byt c k = 0
    · rw [if_pos w]
      refine Or.inl ⟨rfl, hx12, fun j j0 j1 => ?_⟩
      by_cases z : j = k
      · rw [z]; omega
      · exact hx1.2.2 j j0 (by omega)
    · rw [if_neg w]
      refine Or.inr ⟨rfl, Or.inr (Or.inr (Or.inl ⟨hx12.1.1, hx12.1.2, hx12.2.1, hx12.2.2, fun y => ?_, rfl⟩))⟩
      have := y k (by omega) h8
      omega
theorem rel_sheet (h : RL i s t) (ha : Rg a) (hc : RgL c) (hb : Rg b) : wp_X0_sheet a c b s (fun r s' => wp_X2_sheet a c b t (fun r' t' => RR i r s' r' t')) := by
  have G := h.1
  have hg := G.b
  have M := h.2.1
  obtain ⟨b1, b2, b3, b4, b5, b6⟩ := RL_b.mp h
  refine ok_X0_sheet G ha hc hb (fun r u hr F => ?_) (fun u hs F e14 e8 e9 er => ?_)
  · refine ok_X2_sheet G M ha hc hb (fun r' v hr' V => ⟨shB_u hr hr', ?_⟩) (fun v hs _ _ _ _ _ => (shBG hr hs).elim)
    by_cases h5 : s 0 14 = 5
    · exact RL_XM h (fun k j hk => F k j (Or.inr ⟨h5, by unfold cor at hk; omega⟩)) (fun k j hk => V k j (by unfold com at hk; omega))
    · have F' : ∀ (k : Nat) (j : Int), ¬ (k = 10 ∨ (k = 0 ∧ j = 16) ∨ (k = 8 ∧ j = s 0 14) ∨ k = 26 + (s 0 14).toNat) → u k j = s k j := fun k j hk => F k j (Or.inl hk)
      refine RL_b.mpr ⟨BC_c (fun k j hk => F' k j (by unfold cb at hk; omega)) (fun k j hk => V k j (by unfold mb at hk; omega)) b1, BH_c (fun k j hk => F' k j (by omega)) (fun k j hk => V k j (by omega)) b2, ?_, BP_c (fun k j hk => F' k j (by omega)) (fun k j hk => V k j (by omega)) b4, BA_c (F' _ _ (by omega)) (V _ _ (by omega)) b5, KP_c (Int.le_refl i) (fun k j hk => F' k j (by unfold ck at hk; omega)) (fun k j hk => V k j (by unfold mk at hk; omega)) b6⟩
      have c19 : u 19 = s 19 := funext fun j => F' 19 j (by omega)
      have c9 : u 9 = s 9 := funext fun j => F' 9 j (by omega)
      have c1 : u 1 1 = s 1 1 := F' 1 1 (by omega)
      have d8 : v 8 = t 8 := funext fun j => V 8 j (by omega)
      have H2 := HS_c2 (hd' := s 5) (sc' := u 8) (sw' := s 9) (sk' := fun i => u (26 + i.toNat)) (fun j _ _ => rfl) (fun j j0 j1 => F' 8 j (by omega)) (fun j j0 j1 => rfl) (fun r r0 r1 j j0 j1 => F' _ j (by omega)) G.2.1
      unfold BS
      rw [F' 0 14 (by omega), V 0 15 (by omega), c19, c9, c1, d8]
      refine ⟨H2.2.1, H2.2.2, M.sh, fun r r0 r1 => ?_⟩
      rw [F' 8 r (by omega), show u (26 + r.toNat) = s (26 + r.toNat) from funext fun j => F' _ j (by omega)]
      exact M.2.2.1.2 r r0 r1
  · refine ok_X2_sheet G M ha hc hb (fun r' v hr' V => (shBG hr' hs).elim) (fun v _ V v15 v8 v87 vr => ⟨rfl, ?_⟩)
    obtain ⟨p, q, p2, q2, hz, hok, h5, h12⟩ := hs
    refine RL_b.mpr ⟨BC_c (fun k j hk => F k j (by unfold cb at hk; omega)) (fun k j hk => V k j (by unfold mb at hk; omega)) b1, BH_c (fun k j hk => F k j (by omega)) (fun k j hk => V k j (by omega)) b2, ?_, BP_c (fun k j hk => F k j (by omega)) (fun k j hk => V k j (by omega)) b4, BA_c (F _ _ (by omega)) (V _ _ (by omega)) b5, KP_c (Int.le_refl i) (fun k j hk => F k j (by unfold ck at hk; omega)) (fun k j hk => V k j (by unfold mk at hk; omega)) b6⟩
    have c19 : u 19 = s 19 := funext fun j => F 19 j (by omega)
    have c1 : u 1 1 = s 1 1 := F 1 1 (by omega)
    have hrow : ∀ r : Int, 0 ≤ r → r < s 0 14 → u (26 + r.toNat) = s (26 + r.toNat) := fun r r0 r1 => funext fun j => F _ j (by omega)
    unfold BS
    rw [e14, v15, c19, c1]
    refine ⟨⟨by omega, by omega, fun r r0 r1 => ?_⟩, ?_, rfl, fun r r0 r1 => ?_⟩
    · by_cases z : r = s 0 14
      · rw [z, e8, e9]
        refine ⟨p, q, p2, q2, fun j j0 j1 => ?_⟩
        rw [er j j0 j1]
        exact ⟨(byt_b c j).1, hok j j0 j1⟩
      · rw [F 8 r (by omega), F 9 r (by omega), hrow r r0 (by omega)]
        exact G.2.1.2.1.2.2 r r0 (by omega)
    · rw [dsh_s _ _ _ hg.2.2.2.2.2.2.2.2.2.1, e8, dsh_c (sc := s 8) (sk := fun i => s (26 + i.toNat)) (fun i i0 i1 => F 8 i (by omega)) (fun i i0 i1 j j0 j1 => by rw [hrow i i0 (by omega)])]
      rw [dro_c (row := byt c) (fun j j0 j1 => er j j0 (by omega))]
      exact h12
    · by_cases z : r = s 0 14
      · rw [z, v8, v87, e8, e9]
        refine ⟨rfl, rfl, fun j j0 j1 => ?_⟩
        rw [vr j j0 j1, er j j0 j1]
      · have h1 := G.sc r0 (show r < s 0 14 by omega)
        rw [F 8 r (by omega), F 9 r (by omega), hrow r r0 (by omega), V 8 _ (by omega), V 8 _ (by omega)]
        refine ⟨M.sc r0 (by omega), M.sw r0 (by omega), fun j j0 j1 => ?_⟩
        rw [V 8 _ (by omega)]
        exact M.sk r0 (by omega) j0 j1
end
