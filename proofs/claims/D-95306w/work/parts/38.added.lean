/-! PLAIN LAWS, 19: added -/
/-- a chord's number with one string more -/
def wn (n c : Int) : Int := num (n + 1) (tp n c 0) (tp n c 1) (tp n c 2)
theorem wn_d {n c : Int} (n1 : n ≤ 9) (c0 : 0 ≤ c) (c1 : c < C3 n) : dst (n + 1) (tp n c 0) (tp n c 1) (tp n c 2) := by
  have h := tp_in (show n ≤ 10 by omega) c0 c1
  unfold dst
  omega
theorem wn_b {n c : Int} (n1 : n ≤ 9) (c0 : 0 ≤ c) (c1 : c < C3 n) : 0 ≤ wn n c ∧ wn n c < C3 (n + 1) := num_in (show n + 1 ≤ 10 by omega) (wn_d n1 c0 c1)
def adp (n h : Int) (hd L : Int → Int) (j : Int) : Prop := ∃ i : Int, 0 ≤ i ∧ i < h ∧ L (wn n (hd i)) = j
theorem adp_s {n h : Int} {hd L : Int → Int} {j : Int} (h0 : 0 ≤ h) : adp n (h + 1) hd L j ↔ (adp n h hd L j ∨ L (wn n (hd h)) = j) := by
  constructor
  · rintro ⟨d, d0, d1, d2⟩
    by_cases z : d = h
    · rw [z] at d2; exact Or.inr d2
    · exact Or.inl ⟨d, d0, by omega, d2⟩
  · rintro (⟨d, d0, d1, d2⟩ | d2)
    · exact ⟨d, d0, by omega, d2⟩
    · exact ⟨h, h0, by omega, d2⟩
noncomputable def adn (n h g : Int) (hd L : Int → Int) : Int := sm (fun j => b2i (¬ adp n h hd L j)) g.toNat
section
variable {s t : Sg} {i : Int}
theorem ok_X0_added {Q : Int → Sg → Prop} (G : GX s) (h9 : s 1 0 = 9 → Q (-103) s) (hQ : s 1 0 ≠ 9 → ∀ (g : Int) (L : Int → Int) (u : Sg), XS s u → SortOk (Eds s (s 1 0 + 1)) (s 5000 2) (C3 (s 1 0 + 1)) L g → 0 ≤ g → Q (adn (s 1 0) (s 0 9) g (s 5) L) u) : wp_X0_added s Q := by
  have hg := G.b
  unfold wp_X0_added
  refine ⟨by omega, fun w => ?_, h9⟩
  have hQ := hQ w
  refine ok_X1_lay (by decide) (by omega) (by omega) (fun s1 T1 F1 => ?_)
  have V1 : LVs s1 := LVs_c (fun k j hk => F1 k j (by omega) (by omega)) G.1.2.2.1
  refine ok_X0_join CI_2 T1 V1 (fun u S2 F2 => ?_)
  have T2 := F2.TB CI_2 T1
  have X : XS s u := fun k j hk => by
    unfold cor at hk
    rw [F2 k j (by omega) (by omega) (by omega) (by omega) (by omega)]; exact F1 k j (by omega) (by omega)
  have e50 : s1 5000 = s 5000 := funext fun j => F1 5000 j (by omega) (by omega)
  have e51 : s1 5001 = s 5001 := funext fun j => F1 5001 j (by omega) (by omega)
  have e52 : s1 5002 = s 5002 := funext fun j => F1 5002 j (by omega) (by omega)
  have e53 : s1 5003 = s 5003 := funext fun j => F1 5003 j (by omega) (by omega)
  obtain ⟨S1, g0, g1, -⟩ := S2
  have hS : SortOk (Eds s (s 1 0 + 1)) (s 5000 2) (C3 (s 1 0 + 1)) (u 23) (u 2 2) := by
    have hE : Eds s1 (s 1 0 + 1) = Eds s (s 1 0 + 1) := by unfold Eds; rw [e51, e52, e53]
    rw [hE, e50] at S1; exact S1
  have hQ := hQ (u 2 2) (u 23) u X hS g0
  have hb10 := C3_b (show 0 ≤ s 1 0 + 1 by omega) (show s 1 0 + 1 ≤ 10 by omega)
  rw [X.h, X.hd]
  refine ⟨fun v j => 0 ≤ j ∧ j ≤ u 2 2 ∧ v = sm (fun j => b2i (¬ adp (s 1 0) (s 0 9) (s 5) (u 23) j)) j.toNat, fun v j => (u 2 2 - j).toNat, ⟨by omega, by omega, rfl⟩, fun v j ⟨j0, j1, hv⟩ => ⟨by omega, by omega, fun h => ?_, fun h => ?_⟩⟩
  · have e : j = u 2 2 := by omega
    rw [hv, e]; exact hQ
  · refine ⟨fun f i => 0 ≤ i ∧ i ≤ s 0 9 ∧ f = b2i (¬ adp (s 1 0) i (s 5) (u 23) j), fun f i => (s 0 9 - i).toNat, ⟨by omega, by omega, (b2i_t (fun ⟨d, d0, d1, _⟩ => by omega)).symm⟩, fun f i ⟨i0, i1, hf⟩ => ⟨by omega, by omega, fun h2 => ?_, fun h2 => ?_⟩⟩
    · have e : i = s 0 9 := by omega
      rw [e] at hf
      have := b2i_r (¬ adp (s 1 0) (s 0 9) (s 5) (u 23) j)
      refine ⟨by omega, ?_⟩
      refine jn1_v f (fun K hK => ⟨fun z => ?_, fun z => ?_⟩) ?_
      · rw [z] at hK; exact hK
      · rw [show f = 1 by omega] at hK; exact hK
      refine ⟨⟨by omega, by omega, ?_⟩, by dsimp only; omega⟩
      rw [hv, hf]; exact (sm_s _ j0).symm
    · have hc := G.hd i0 h2
      have hc1 : s 5 i < C3 (s 1 0) := by omega
      obtain ⟨t0, t1, t2⟩ := G.tp hc.1 hc.2
      rw [X.tq hc.1 (by omega), t0, t1, t2]
      refine ⟨i0, by omega, hc.1, by omega, ?_⟩
      refine ok_X1_number T2 (wn_d (by omega) hc.1 hc1) ?_
      have hw := wn_b (show s 1 0 ≤ 9 by omega) hc.1 hc1
      unfold wn at hw
      have hL := hS.1 _ hw.1 hw.2
      refine ⟨hw.1, by omega, by omega, by omega, ?_⟩
      refine jn1_v (b2i (¬ u 23 (wn (s 1 0) (s 5 i)) = j)) (fun K hK => ⟨fun z => ?_, fun z => ?_⟩) ?_
      · rw [b2i_f (fun y => y z)] at hK; exact hK
      · rw [b2i_t (show ¬ u 23 (wn (s 1 0) (s 5 i)) = j from z)] at hK; exact hK
      have q1 := b2i_r (¬ adp (s 1 0) i (s 5) (u 23) j)
      have q2 := b2i_r (¬ u 23 (wn (s 1 0) (s 5 i)) = j)
      refine ⟨by omega, by omega, ⟨⟨by omega, by omega, ?_⟩, by dsimp only; omega⟩⟩
      rw [hf, band_b]
      refine b2i_c ⟨fun y z => ?_, fun y => ⟨fun z => y ((adp_s i0).mpr (Or.inl z)), fun z => y ((adp_s i0).mpr (Or.inr z))⟩⟩
      rcases (adp_s i0).mp z with z | z
      · exact y.1 z
      · exact y.2 z
theorem ok_X2_added {Q : Int → Sg → Prop} (G : GX s) (M : MC s t) (h9 : s 1 0 = 9 → Q (-103) t) (hQ : s 1 0 ≠ 9 → ∀ (g : Int) (L : Int → Int) (u : Sg), MS t u → SortOk (Eds s (s 1 0 + 1)) (s 5000 2) (C3 (s 1 0 + 1)) L g → 0 ≤ g → Q (adn (s 1 0) (s 0 9) g (s 5) L) u) : wp_X2_added t Q := by
  have hg := G.b
  unfold wp_X2_added
  rw [M.n]
  refine ⟨by omega, fun w => ?_, h9⟩
  have hQ := hQ w
  have hb10 := C3_b (show 0 ≤ s 1 0 + 1 by omega) (show s 1 0 + 1 ≤ 10 by omega)
  refine ok_X2_laySorts (by decide) (by decide) G.1.2.2.1 M.1.2.1 (by omega) (by omega) (fun g v hS g0 g1 F => ?_)
  have hX : MS t v := fun k j hk => by unfold com at hk; rw [F k (by omega)]
  have Mv := MC_MS M hX
  refine ⟨fun x u => 0 ≤ x ∧ x ≤ g ∧ (∀ (k : Nat) (j : Int), k ≠ 15 → u k j = v k j) ∧ ∀ j : Int, 0 ≤ j → j < x → u 15 j = 0, fun x u => (g - x).toNat, ⟨by omega, by omega, fun _ _ _ => rfl, fun j j0 j1 => by omega⟩, fun x u ⟨x0, x1, U, hz⟩ => ⟨by omega, by omega, fun h => ?_, fun h => ?_⟩⟩
  · have ex : x = g := by omega
    rw [ex] at hz
    have e9 : u 0 13 = s 0 9 := by rw [U 0 13 (by decide)]; exact Mv.h
    clear x0 x1 h ex
    refine ⟨fun i y => 0 ≤ i ∧ i ≤ s 0 9 ∧ (∀ (k : Nat) (j : Int), k ≠ 15 → y k j = v k j) ∧ ∀ j : Int, 0 ≤ j → j < g → y 15 j = 1 - b2i (¬ adp (s 1 0) i (s 5) (v 14) j), fun i y => (s 0 9 - i).toNat, ⟨by omega, by omega, U, fun j j0 j1 => by rw [hz j j0 j1, b2i_t (fun ⟨d, d0, d1, _⟩ => by omega)]; rfl⟩, fun i y ⟨i0, i1, Y, hy⟩ => ?_⟩
    have e9 : y 0 13 = s 0 9 := by rw [Y 0 13 (by decide)]; exact Mv.h
    refine ⟨by omega, by omega, fun h => ?_, fun h => ?_⟩
    · have ei : i = s 0 9 := by omega
      rw [ei] at hy
      refine ⟨fun a j => 0 ≤ j ∧ j ≤ g ∧ a = sm (fun j => b2i (¬ adp (s 1 0) (s 0 9) (s 5) (v 14) j)) j.toNat, fun a j => (g - j).toNat, ⟨by omega, g0, rfl⟩, fun a j ⟨j0, j1, ha⟩ => ⟨by omega, by omega, fun h2 => ?_, fun h2 => ?_⟩⟩
      · have ej : j = g := by omega
        rw [ha, ej]
        refine hQ g (v 14) y (fun k j hk => ?_) hS g0
        unfold com at hk
        rw [Y k j (by omega)]
        exact hX k j hk
      · refine ⟨j0, by omega, ⟨⟨by omega, by omega, ?_⟩, by dsimp only; omega⟩⟩
        rw [ha, hy j j0 h2, show (1 : Int) - (1 - b2i (¬ adp (s 1 0) (s 0 9) (s 5) (v 14) j)) = b2i (¬ adp (s 1 0) (s 0 9) (s 5) (v 14) j) by omega]
        exact (sm_s _ j0).symm
    · have h : i < s 0 9 := by omega
      have hc := G.hd i0 h
      have hc1 : s 5 i < C3 (s 1 0) := by omega
      have My : MC s y := MC_MS M (fun k j hk => by rw [Y k j (by unfold com at hk; omega)]; exact hX k j hk)
      have hL := hS.1 _ (wn_b (show s 1 0 ≤ 9 by omega) hc.1 hc1).1 (wn_b (show s 1 0 ≤ 9 by omega) hc.1 hc1).2
      have hw := wn_b (show s 1 0 ≤ 9 by omega) hc.1 hc1
      obtain ⟨t0, t1, t2⟩ := My.tp G hc.1 hc.2
      rw [My.hd i0 h, t0, t1, t2, My.n]
      refine ⟨i0, by omega, by omega, by omega, by omega, by omega, by omega, by omega, ?_⟩
      refine ok_X2_numberOf (by omega) (by omega) (wn_d (by omega) hc.1 hc1) ?_
      rw [show num (s 1 0 + 1) (tp (s 1 0) (s 5 i) 0) (tp (s 1 0) (s 5 i) 1) (tp (s 1 0) (s 5 i) 2) = wn (s 1 0) (s 5 i) from rfl, Y 14 _ (by decide)]
      refine ⟨hw.1, by omega, hL.1, by omega, ⟨⟨by omega, by omega, fun k j hk => ?_, fun j j0 j1 => ?_⟩, by dsimp only; omega⟩⟩
      · rw [up_o _ _ _ _ hk]; exact Y k j hk
      · by_cases q : v 14 (wn (s 1 0) (s 5 i)) = j
        · rw [q, up_s, b2i_f (fun z => z ((adp_s i0).mpr (Or.inr q)))]; rfl
        · rw [up_n _ _ _ _ _ (fun z => q z.symm), hy j j0 j1]
          have : b2i (¬ adp (s 1 0) i (s 5) (v 14) j) = b2i (¬ adp (s 1 0) (i + 1) (s 5) (v 14) j) := b2i_c ⟨fun y z => by
            rcases (adp_s i0).mp z with z | z
            · exact y z
            · exact q z, fun y z => y ((adp_s i0).mpr (Or.inl z))⟩
          rw [this]
  · refine ⟨x0, by omega, ⟨⟨by omega, by omega, fun k j hk => ?_, fun j j0 j1 => ?_⟩, by dsimp only; omega⟩⟩
    · rw [up_o _ _ _ _ hk]; exact U k j hk
    · by_cases q : j = x
      · rw [q, up_s]
      · rw [up_n _ _ _ _ _ q]; exact hz j j0 (by omega)
theorem rel_added (h : RL i s t) : wp_X0_added s (fun r s' => wp_X2_added t (fun r' t' => RR i r s' r' t')) := by
  have G := h.1
  have hg := G.b
  refine ok_X0_added G (fun w => ?_) (fun w g L u X hS g0 => ?_)
  · exact ok_X2_added G h.2.1 (fun _ => ⟨rfl, h⟩) (fun w2 => absurd w w2)
  · refine ok_X2_added G h.2.1 (fun w2 => absurd w2 w) (fun _ g' L' v Y hS' g0' => ⟨?_, RL_XM h X Y⟩)
    have e1 := sort_eq hS hS'
    have e2 := sort_eqn g0 g0' hS hS'
    rw [← e2]
    unfold adn
    refine sm_ci (fun j j0 j1 => b2i_c ?_)
    have hiff : adp (s 1 0) (s 0 9) (s 5) L j ↔ adp (s 1 0) (s 0 9) (s 5) L' j := by
      constructor
      · rintro ⟨d, d0, d1, d2⟩
        have hc := G.hd d0 d1
        have hw := wn_b (show s 1 0 ≤ 9 by omega) hc.1 (show s 5 d < C3 (s 1 0) by omega)
        exact ⟨d, d0, d1, by rw [← e1 _ hw.1 hw.2]; exact d2⟩
      · rintro ⟨d, d0, d1, d2⟩
        have hc := G.hd d0 d1
        have hw := wn_b (show s 1 0 ≤ 9 by omega) hc.1 (show s 5 d < C3 (s 1 0) by omega)
        exact ⟨d, d0, d1, by rw [e1 _ hw.1 hw.2]; exact d2⟩
    exact not_congr hiff
end
