def wp_X8_kind (fa fb : Int) (Q : Int → Prop) : Prop :=
  Q 1
set_option maxHeartbeats 4000000 in
set_option maxRecDepth 100000 in
theorem wk_X8_kind {l : Launch} {D : va_G} {dA : Nat → ClassId} {ad : Nat → Nat} {s : Sg} {q0 bb : Nat} {fa fb : Int} {Q : Int → Prop} (he : (xwf dA ad s)[q0]? = some (bb, .inr (2, [.int (iI fa)]))) (h : wp_X8_kind fa fb Q) : MXi l D dA (xwf dA ad) yX8_kind cX8_kind 1 .int ({ frames := 0, cells := 0, slots := 0, locals := 0 } : Room) [.ref bb] s (fun z s' => s' = s ∧ Q z) := by
  unfold wp_X8_kind at h
  refine jw_start_i (own := RX8) (lv0 := [(0, .ref bb)]) (by decide) rfl (Nat.le_of_ble_eq_true rfl) rfl (fun G F rt => ?_)
  refine jw_iconst F dX8_kind_0 ?_
  exact rt _ _ _ _ dX8_kind_1 ⟨rfl, h⟩
def wp_X8_number (fa fb : Int) (Q : Int → Prop) : Prop :=
  Q fa
set_option maxHeartbeats 4000000 in
set_option maxRecDepth 100000 in
theorem wk_X8_number {l : Launch} {D : va_G} {dA : Nat → ClassId} {ad : Nat → Nat} {s : Sg} {q0 bb : Nat} {fa fb : Int} {Q : Int → Prop} (he : (xwf dA ad s)[q0]? = some (bb, .inr (2, [.int (iI fa)]))) (h : wp_X8_number fa fb Q) : MXi l D dA (xwf dA ad) yX8_number cX8_number 1 .int ({ frames := 0, cells := 0, slots := 0, locals := 0 } : Room) [.ref bb] s (fun z s' => s' = s ∧ Q z) := by
  unfold wp_X8_number at h
  refine jw_start_i (own := RX8) (lv0 := [(0, .ref bb)]) (by decide) rfl (Nat.le_of_ble_eq_true rfl) rfl (fun G F rt => ?_)
  refine jw_aload_n F 0 dX8_number_0 rfl rfl ?_
  refine jw_get F in_X8 he rfl 0 (by decide) q455 rfl rfl dX8_number_1 ?_
  exact rt _ _ _ _ dX8_number_4 ⟨rfl, h⟩
def wp_X8_sounds (fa fb a1 a2 : Int) (Q : Int → Prop) : Prop :=
  (Rg (a1 + fa)) ∧ (Rg a2) ∧ (0 ≤ (a1 + fa)) ∧ (0 < a2) ∧ Q ((a1 + fa) % a2)
set_option maxHeartbeats 4000000 in
set_option maxRecDepth 100000 in
theorem wk_X8_sounds {l : Launch} {D : va_G} {dA : Nat → ClassId} {ad : Nat → Nat} {s : Sg} {q0 bb : Nat} {fa fb a1 a2 : Int} {Q : Int → Prop} (he : (xwf dA ad s)[q0]? = some (bb, .inr (2, [.int (iI fa)]))) (h : wp_X8_sounds fa fb a1 a2 Q) : MXi l D dA (xwf dA ad) yX8_sounds cX8_sounds 3 .int ({ frames := 0, cells := 0, slots := 0, locals := 0 } : Room) [.ref bb, .int (iI a1), .int (iI a2)] s (fun z s' => s' = s ∧ Q z) := by
  unfold wp_X8_sounds at h
  refine jw_start_i (own := RX8) (lv0 := [(0, .ref bb), (1, .int (iI a1)), (2, .int (iI a2))]) (by decide) rfl (Nat.le_of_ble_eq_true rfl) rfl (fun G F rt => ?_)
  refine jw_iload_n F 1 dX8_sounds_0 rfl rfl ?_
  refine jw_aload_n F 0 dX8_sounds_1 rfl rfl ?_
  refine jw_get F in_X8 he rfl 0 (by decide) q455 rfl rfl dX8_sounds_2 ?_
  refine jw_iadd F dX8_sounds_5 ?_
  refine jw_iload_n F 2 dX8_sounds_6 rfl rfl ?_
  obtain ⟨o_1, o_2, o_3, o_4, h⟩ := h
  refine jw_irem F o_1 o_2 o_3 o_4 dX8_sounds_7 ?_
  exact rt _ _ _ _ dX8_sounds_8 ⟨rfl, h⟩
def wp_X5_isOf_X8 (fa fb a1 : Int) (Q : Int → Prop) : Prop :=
  (Rg a1) ∧ JN0 (Q 1)
 (fun K_2 =>
  ((a1 = 0) →
   K_2) ∧
  ((¬ a1 = 0) →
   wp_X8_kind fa fb (fun r_4 => (Rg a1) ∧ (Rg r_4) ∧ ((¬ a1 = r_4) →
   Q 0) ∧
  ((a1 = r_4) →
   K_2))))
set_option maxHeartbeats 4000000 in
set_option maxRecDepth 100000 in
theorem wk_X5_isOf_X8 {l : Launch} {D : va_G} {dA : Nat → ClassId} {ad : Nat → Nat} {s : Sg} {q0 bb : Nat} {fa fb a1 : Int} {Q : Int → Prop} (he : (xwf dA ad s)[q0]? = some (bb, .inr (2, [.int (iI fa)]))) (h : wp_X5_isOf_X8 fa fb a1 Q) : MXi l D dA (xwf dA ad) yX5_isOf cX5_isOf 2 .boolean ({ frames := 1, cells := 0, slots := 0, locals := 20 } : Room) [.ref bb, .int (iI a1)] s (fun z s' => (z = 0 ∨ z = 1) ∧ s' = s ∧ Q z) := by
  unfold wp_X5_isOf_X8 at h
  refine jw_start_z (own := RX5) (lv0 := [(0, .ref bb), (1, .int (iI a1))]) (by decide) rfl (Nat.le_of_ble_eq_true rfl) rfl (fun G F rt => ?_)
  refine jw_iload_n F 1 dX5_isOf_0 rfl rfl ?_
  obtain ⟨o_1, h⟩ := h
  refine jn0_r (G s 12 [] []) h (fun h => ?_) (fun K_2 h j_3 => ?_)
  · refine jw_iconst F dX5_isOf_12 ?_
    refine jw_goto F (tgt := 17) dX5_isOf_13 (by decide) ?_
    exact rt _ _ _ _ dX5_isOf_17 (by decide) ⟨(by decide), rfl, h⟩
  · refine jw_if_eq F o_1 (tgt := 12) dX5_isOf_1 (by decide) (fun c => ?_) (fun c => ?_)
    · have h := h.1 (c)
      refine jw_sub F (lv' := []) [] rfl ?_
      exact j_3 h
    · have h := h.2 (c)
      refine jw_iload_n F 1 dX5_isOf_4 rfl rfl ?_
      refine jw_aload_n F 0 dX5_isOf_5 rfl rfl ?_
      refine jw_callUi (n := 0) F (wk_X8_kind he h) q546 q575 q540 (jw_declA (jw_nwi 17 rfl)) q544 q545 q85 (by decide +kernel) ⟨rfl, rfl, Nat.le_of_ble_eq_true rfl, Nat.le_of_ble_eq_true rfl⟩ rfl rfl he rfl rfl rfl (Nat.le_of_ble_eq_true rfl) dX5_isOf_6 (fun r_4 s_5 hz => ?_)
      obtain ⟨e_6, h⟩ := hz
      rw [e_6]
      obtain ⟨o_7, h⟩ := h
      obtain ⟨o_8, h⟩ := h
      refine jw_icmp_ne F o_7 o_8 (tgt := 16) dX5_isOf_9 (by decide) (fun c => ?_) (fun c => ?_)
      · have h := h.1 (c)
        refine jw_iconst F dX5_isOf_16 ?_
        exact rt _ _ _ _ dX5_isOf_17 (by decide) ⟨(by decide), rfl, h⟩
      · have h := h.2 (c)
        refine jw_sub F (lv' := []) [] rfl ?_
        exact j_3 h
def wp_X6_kind (fa fb : Int) (Q : Int → Prop) : Prop :=
  Q 3
set_option maxHeartbeats 4000000 in
set_option maxRecDepth 100000 in
theorem wk_X6_kind {l : Launch} {D : va_G} {dA : Nat → ClassId} {ad : Nat → Nat} {s : Sg} {q0 bb : Nat} {fa fb : Int} {Q : Int → Prop} (he : (xwf dA ad s)[q0]? = some (bb, .inr (3, [.int (iI fa), .int (iI fb)]))) (h : wp_X6_kind fa fb Q) : MXi l D dA (xwf dA ad) yX6_kind cX6_kind 1 .int ({ frames := 0, cells := 0, slots := 0, locals := 0 } : Room) [.ref bb] s (fun z s' => s' = s ∧ Q z) := by
  unfold wp_X6_kind at h
  refine jw_start_i (own := RX6) (lv0 := [(0, .ref bb)]) (by decide) rfl (Nat.le_of_ble_eq_true rfl) rfl (fun G F rt => ?_)
  refine jw_iconst F dX6_kind_0 ?_
  exact rt _ _ _ _ dX6_kind_1 ⟨rfl, h⟩
def wp_X6_number (fa fb : Int) (Q : Int → Prop) : Prop :=
  Q ((10 * fa) + fb)
set_option maxHeartbeats 4000000 in
set_option maxRecDepth 100000 in
theorem wk_X6_number {l : Launch} {D : va_G} {dA : Nat → ClassId} {ad : Nat → Nat} {s : Sg} {q0 bb : Nat} {fa fb : Int} {Q : Int → Prop} (he : (xwf dA ad s)[q0]? = some (bb, .inr (3, [.int (iI fa), .int (iI fb)]))) (h : wp_X6_number fa fb Q) : MXi l D dA (xwf dA ad) yX6_number cX6_number 1 .int ({ frames := 0, cells := 0, slots := 0, locals := 0 } : Room) [.ref bb] s (fun z s' => s' = s ∧ Q z) := by
  unfold wp_X6_number at h
  refine jw_start_i (own := RX6) (lv0 := [(0, .ref bb)]) (by decide) rfl (Nat.le_of_ble_eq_true rfl) rfl (fun G F rt => ?_)
  refine jw_bipush F (z := 10) dX6_number_0 (by decide) ?_
  refine jw_aload_n F 0 dX6_number_2 rfl rfl ?_
  refine jw_get F in_X6 he rfl 0 (by decide) q435 rfl rfl dX6_number_3 ?_
  refine jw_imul F dX6_number_6 ?_
  refine jw_aload_n F 0 dX6_number_7 rfl rfl ?_
  refine jw_get F in_X6 he rfl 1 (by decide) q436 rfl rfl dX6_number_8 ?_
  refine jw_iadd F dX6_number_11 ?_
  exact rt _ _ _ _ dX6_number_12 ⟨rfl, h⟩
def wp_X6_sounds (fa fb a1 a2 : Int) (Q : Int → Prop) : Prop :=
  (Rg fa) ∧ (Rg a2) ∧ ((a2 ≤ fa) →
  Q a1) ∧
 ((fa < a2) →
  (Rg fb) ∧ (Rg a2) ∧ ((fb < a2) →
   (Rg a1) ∧ (Rg fa) ∧ ((¬ a1 = fa) →
    (Rg a1) ∧ (Rg fb) ∧ ((¬ a1 = fb) →
     Q a1) ∧
    ((a1 = fb) →
     Q fa)) ∧
   ((a1 = fa) →
    Q fb)) ∧
  ((a2 ≤ fb) →
   Q a1))
set_option maxHeartbeats 4000000 in
set_option maxRecDepth 100000 in
theorem wk_X6_sounds {l : Launch} {D : va_G} {dA : Nat → ClassId} {ad : Nat → Nat} {s : Sg} {q0 bb : Nat} {fa fb a1 a2 : Int} {Q : Int → Prop} (he : (xwf dA ad s)[q0]? = some (bb, .inr (3, [.int (iI fa), .int (iI fb)]))) (h : wp_X6_sounds fa fb a1 a2 Q) : MXi l D dA (xwf dA ad) yX6_sounds cX6_sounds 3 .int ({ frames := 0, cells := 0, slots := 0, locals := 0 } : Room) [.ref bb, .int (iI a1), .int (iI a2)] s (fun z s' => s' = s ∧ Q z) := by
  unfold wp_X6_sounds at h
  refine jw_start_i (own := RX6) (lv0 := [(0, .ref bb), (1, .int (iI a1)), (2, .int (iI a2))]) (by decide) rfl (Nat.le_of_ble_eq_true rfl) rfl (fun G F rt => ?_)
  refine jw_aload_n F 0 dX6_sounds_0 rfl rfl ?_
  refine jw_get F in_X6 he rfl 0 (by decide) q435 rfl rfl dX6_sounds_1 ?_
  refine jw_iload_n F 2 dX6_sounds_4 rfl rfl ?_
  obtain ⟨o_1, h⟩ := h
  obtain ⟨o_2, h⟩ := h
  refine jw_icmp_ge F o_1 o_2 (tgt := 16) dX6_sounds_5 (by decide) (fun c => ?_) (fun c => ?_)
  · have h := h.1 (c)
    refine jw_iload_n F 1 dX6_sounds_16 rfl rfl ?_
    exact rt _ _ _ _ dX6_sounds_17 ⟨rfl, h⟩
  · have h := h.2 (c)
    refine jw_aload_n F 0 dX6_sounds_8 rfl rfl ?_
    refine jw_get F in_X6 he rfl 1 (by decide) q436 rfl rfl dX6_sounds_9 ?_
    refine jw_iload_n F 2 dX6_sounds_12 rfl rfl ?_
    obtain ⟨o_3, h⟩ := h
    obtain ⟨o_4, h⟩ := h
    refine jw_icmp_lt F o_3 o_4 (tgt := 18) dX6_sounds_13 (by decide) (fun c => ?_) (fun c => ?_)
    · have h := h.1 (c)
      refine jw_iload_n F 1 dX6_sounds_18 rfl rfl ?_
      refine jw_aload_n F 0 dX6_sounds_19 rfl rfl ?_
      refine jw_get F in_X6 he rfl 0 (by decide) q435 rfl rfl dX6_sounds_20 ?_
      obtain ⟨o_5, h⟩ := h
      obtain ⟨o_6, h⟩ := h
      refine jw_icmp_ne F o_5 o_6 (tgt := 33) dX6_sounds_23 (by decide) (fun c => ?_) (fun c => ?_)
      · have h := h.1 (c)
        refine jw_iload_n F 1 dX6_sounds_33 rfl rfl ?_
        refine jw_aload_n F 0 dX6_sounds_34 rfl rfl ?_
        refine jw_get F in_X6 he rfl 1 (by decide) q436 rfl rfl dX6_sounds_35 ?_
        obtain ⟨o_7, h⟩ := h
        obtain ⟨o_8, h⟩ := h
        refine jw_icmp_ne F o_7 o_8 (tgt := 48) dX6_sounds_38 (by decide) (fun c => ?_) (fun c => ?_)
        · have h := h.1 (c)
          refine jw_iload_n F 1 dX6_sounds_48 rfl rfl ?_
          exact rt _ _ _ _ dX6_sounds_49 ⟨rfl, h⟩
        · have h := h.2 (c)
          refine jw_aload_n F 0 dX6_sounds_41 rfl rfl ?_
          refine jw_get F in_X6 he rfl 0 (by decide) q435 rfl rfl dX6_sounds_42 ?_
          refine jw_goto F (tgt := 49) dX6_sounds_45 (by decide) ?_
          exact rt _ _ _ _ dX6_sounds_49 ⟨rfl, h⟩
      · have h := h.2 (c)
        refine jw_aload_n F 0 dX6_sounds_26 rfl rfl ?_
        refine jw_get F in_X6 he rfl 1 (by decide) q436 rfl rfl dX6_sounds_27 ?_
        refine jw_goto F (tgt := 49) dX6_sounds_30 (by decide) ?_
        exact rt _ _ _ _ dX6_sounds_49 ⟨rfl, h⟩
    · have h := h.2 (c)
      refine jw_iload_n F 1 dX6_sounds_16 rfl rfl ?_
      exact rt _ _ _ _ dX6_sounds_17 ⟨rfl, h⟩
def wp_X5_isOf_X6 (fa fb a1 : Int) (Q : Int → Prop) : Prop :=
  (Rg a1) ∧ JN0 (Q 1)
 (fun K_2 =>
  ((a1 = 0) →
   K_2) ∧
  ((¬ a1 = 0) →
   wp_X6_kind fa fb (fun r_4 => (Rg a1) ∧ (Rg r_4) ∧ ((¬ a1 = r_4) →
   Q 0) ∧
  ((a1 = r_4) →
   K_2))))
set_option maxHeartbeats 4000000 in
set_option maxRecDepth 100000 in
theorem wk_X5_isOf_X6 {l : Launch} {D : va_G} {dA : Nat → ClassId} {ad : Nat → Nat} {s : Sg} {q0 bb : Nat} {fa fb a1 : Int} {Q : Int → Prop} (he : (xwf dA ad s)[q0]? = some (bb, .inr (3, [.int (iI fa), .int (iI fb)]))) (h : wp_X5_isOf_X6 fa fb a1 Q) : MXi l D dA (xwf dA ad) yX5_isOf cX5_isOf 2 .boolean ({ frames := 1, cells := 0, slots := 0, locals := 20 } : Room) [.ref bb, .int (iI a1)] s (fun z s' => (z = 0 ∨ z = 1) ∧ s' = s ∧ Q z) := by
  unfold wp_X5_isOf_X6 at h
  refine jw_start_z (own := RX5) (lv0 := [(0, .ref bb), (1, .int (iI a1))]) (by decide) rfl (Nat.le_of_ble_eq_true rfl) rfl (fun G F rt => ?_)
  refine jw_iload_n F 1 dX5_isOf_0 rfl rfl ?_
  obtain ⟨o_1, h⟩ := h
  refine jn0_r (G s 12 [] []) h (fun h => ?_) (fun K_2 h j_3 => ?_)
  · refine jw_iconst F dX5_isOf_12 ?_
    refine jw_goto F (tgt := 17) dX5_isOf_13 (by decide) ?_
    exact rt _ _ _ _ dX5_isOf_17 (by decide) ⟨(by decide), rfl, h⟩
  · refine jw_if_eq F o_1 (tgt := 12) dX5_isOf_1 (by decide) (fun c => ?_) (fun c => ?_)
    · have h := h.1 (c)
      refine jw_sub F (lv' := []) [] rfl ?_
      exact j_3 h
    · have h := h.2 (c)
      refine jw_iload_n F 1 dX5_isOf_4 rfl rfl ?_
      refine jw_aload_n F 0 dX5_isOf_5 rfl rfl ?_
      refine jw_callUi (n := 0) F (wk_X6_kind he h) q543 q575 q540 (jw_declA (jw_nwi 17 rfl)) q541 q542 q83 (by decide +kernel) ⟨rfl, rfl, Nat.le_of_ble_eq_true rfl, Nat.le_of_ble_eq_true rfl⟩ rfl rfl he rfl rfl rfl (Nat.le_of_ble_eq_true rfl) dX5_isOf_6 (fun r_4 s_5 hz => ?_)
      obtain ⟨e_6, h⟩ := hz
      rw [e_6]
      obtain ⟨o_7, h⟩ := h
      obtain ⟨o_8, h⟩ := h
      refine jw_icmp_ne F o_7 o_8 (tgt := 16) dX5_isOf_9 (by decide) (fun c => ?_) (fun c => ?_)
      · have h := h.1 (c)
        refine jw_iconst F dX5_isOf_16 ?_
        exact rt _ _ _ _ dX5_isOf_17 (by decide) ⟨(by decide), rfl, h⟩
      · have h := h.2 (c)
        refine jw_sub F (lv' := []) [] rfl ?_
        exact j_3 h
def wp_X6_isOf_X6 (fa fb a1 : Int) (Q : Int → Prop) : Prop :=
  (Rg a1) ∧ JN0 (Q 1)
 (fun K_2 =>
  ((a1 = 3) →
   K_2) ∧
  ((¬ a1 = 3) →
   wp_X5_isOf_X6 fa fb a1 (fun r_4 => ((r_4 = 0) →
   Q 0) ∧
  ((¬ r_4 = 0) →
   K_2))))
set_option maxHeartbeats 4000000 in
set_option maxRecDepth 100000 in
theorem wk_X6_isOf_X6 {l : Launch} {D : va_G} {dA : Nat → ClassId} {ad : Nat → Nat} {s : Sg} {q0 bb : Nat} {fa fb a1 : Int} {Q : Int → Prop} (he : (xwf dA ad s)[q0]? = some (bb, .inr (3, [.int (iI fa), .int (iI fb)]))) (h : wp_X6_isOf_X6 fa fb a1 Q) : MXi l D dA (xwf dA ad) yX6_isOf cX6_isOf 2 .boolean ({ frames := 2, cells := 0, slots := 0, locals := 41 } : Room) [.ref bb, .int (iI a1)] s (fun z s' => (z = 0 ∨ z = 1) ∧ s' = s ∧ Q z) := by
  unfold wp_X6_isOf_X6 at h
  refine jw_start_z (own := RX6) (lv0 := [(0, .ref bb), (1, .int (iI a1))]) (by decide) rfl (Nat.le_of_ble_eq_true rfl) rfl (fun G F rt => ?_)
  refine jw_iload_n F 1 dX6_isOf_0 rfl rfl ?_
  refine jw_iconst F dX6_isOf_1 ?_
  obtain ⟨o_1, h⟩ := h
  refine jn0_r (G s 13 [] []) h (fun h => ?_) (fun K_2 h j_3 => ?_)
  · refine jw_iconst F dX6_isOf_13 ?_
    refine jw_goto F (tgt := 18) dX6_isOf_14 (by decide) ?_
    exact rt _ _ _ _ dX6_isOf_18 (by decide) ⟨(by decide), rfl, h⟩
  · refine jw_icmp_eq F o_1 (by decide) (tgt := 13) dX6_isOf_2 (by decide) (fun c => ?_) (fun c => ?_)
    · have h := h.1 (c)
      refine jw_sub F (lv' := []) [] rfl ?_
      exact j_3 h
    · have h := h.2 (c)
      refine jw_aload_n F 0 dX6_isOf_5 rfl rfl ?_
      refine jw_iload_n F 1 dX6_isOf_6 rfl rfl ?_
      refine jw_callSUi (n := 1) F (wk_X5_isOf_X6 he h) q574 q573 q569 q464 q568 q82 (by decide +kernel) ⟨rfl, rfl, Nat.le_of_ble_eq_true rfl, Nat.le_of_ble_eq_true rfl⟩ rfl he rfl rfl rfl (Nat.le_of_ble_eq_true rfl) dX6_isOf_7 (fun r_4 s_5 hz => ?_)
      obtain ⟨hb_r_4, e_6, h⟩ := hz
      rw [e_6]
      refine jw_if_eq F (rg01 hb_r_4) (tgt := 17) dX6_isOf_10 (by decide) (fun c => ?_) (fun c => ?_)
      · have h := h.1 (c)
        refine jw_iconst F dX6_isOf_17 ?_
        exact rt _ _ _ _ dX6_isOf_18 (by decide) ⟨(by decide), rfl, h⟩
      · have h := h.2 (c)
        refine jw_sub F (lv' := []) [] rfl ?_
        exact j_3 h
def wp_X7_kind (fa fb : Int) (Q : Int → Prop) : Prop :=
  Q 2
set_option maxHeartbeats 4000000 in
set_option maxRecDepth 100000 in
theorem wk_X7_kind {l : Launch} {D : va_G} {dA : Nat → ClassId} {ad : Nat → Nat} {s : Sg} {q0 bb : Nat} {fa fb : Int} {Q : Int → Prop} (he : (xwf dA ad s)[q0]? = some (bb, .inr (4, [.int (iI fa), .int (iI fb)]))) (h : wp_X7_kind fa fb Q) : MXi l D dA (xwf dA ad) yX7_kind cX7_kind 1 .int ({ frames := 0, cells := 0, slots := 0, locals := 0 } : Room) [.ref bb] s (fun z s' => s' = s ∧ Q z) := by
  unfold wp_X7_kind at h
  refine jw_start_i (own := RX7) (lv0 := [(0, .ref bb)]) (by decide) rfl (Nat.le_of_ble_eq_true rfl) rfl (fun G F rt => ?_)
  refine jw_iconst F dX7_kind_0 ?_
  exact rt _ _ _ _ dX7_kind_1 ⟨rfl, h⟩
def wp_X7_number (fa fb : Int) (Q : Int → Prop) : Prop :=
  Q (-1)
set_option maxHeartbeats 4000000 in
set_option maxRecDepth 100000 in
theorem wk_X7_number {l : Launch} {D : va_G} {dA : Nat → ClassId} {ad : Nat → Nat} {s : Sg} {q0 bb : Nat} {fa fb : Int} {Q : Int → Prop} (he : (xwf dA ad s)[q0]? = some (bb, .inr (4, [.int (iI fa), .int (iI fb)]))) (h : wp_X7_number fa fb Q) : MXi l D dA (xwf dA ad) yX7_number cX7_number 1 .int ({ frames := 0, cells := 0, slots := 0, locals := 0 } : Room) [.ref bb] s (fun z s' => s' = s ∧ Q z) := by
  unfold wp_X7_number at h
  refine jw_start_i (own := RX7) (lv0 := [(0, .ref bb)]) (by decide) rfl (Nat.le_of_ble_eq_true rfl) rfl (fun G F rt => ?_)
  refine jw_iconst F dX7_number_0 ?_
  exact rt _ _ _ _ dX7_number_1 ⟨rfl, h⟩
def wp_X7_sounds (fa fb a1 a2 : Int) (Q : Int → Prop) : Prop :=
  Q ((a2 - 1) - a1)
set_option maxHeartbeats 4000000 in
set_option maxRecDepth 100000 in
theorem wk_X7_sounds {l : Launch} {D : va_G} {dA : Nat → ClassId} {ad : Nat → Nat} {s : Sg} {q0 bb : Nat} {fa fb a1 a2 : Int} {Q : Int → Prop} (he : (xwf dA ad s)[q0]? = some (bb, .inr (4, [.int (iI fa), .int (iI fb)]))) (h : wp_X7_sounds fa fb a1 a2 Q) : MXi l D dA (xwf dA ad) yX7_sounds cX7_sounds 3 .int ({ frames := 0, cells := 0, slots := 0, locals := 0 } : Room) [.ref bb, .int (iI a1), .int (iI a2)] s (fun z s' => s' = s ∧ Q z) := by
  unfold wp_X7_sounds at h
  refine jw_start_i (own := RX7) (lv0 := [(0, .ref bb), (1, .int (iI a1)), (2, .int (iI a2))]) (by decide) rfl (Nat.le_of_ble_eq_true rfl) rfl (fun G F rt => ?_)
  refine jw_iload_n F 2 dX7_sounds_0 rfl rfl ?_
  refine jw_iconst F dX7_sounds_1 ?_
  refine jw_isub F dX7_sounds_2 ?_
  refine jw_iload_n F 1 dX7_sounds_3 rfl rfl ?_
  refine jw_isub F dX7_sounds_4 ?_
  exact rt _ _ _ _ dX7_sounds_5 ⟨rfl, h⟩
def wp_X5_isOf_X7 (fa fb a1 : Int) (Q : Int → Prop) : Prop :=
  (Rg a1) ∧ JN0 (Q 1)
 (fun K_2 =>
  ((a1 = 0) →
   K_2) ∧
  ((¬ a1 = 0) →
   wp_X7_kind fa fb (fun r_4 => (Rg a1) ∧ (Rg r_4) ∧ ((¬ a1 = r_4) →
   Q 0) ∧
  ((a1 = r_4) →
   K_2))))
set_option maxHeartbeats 4000000 in
set_option maxRecDepth 100000 in
theorem wk_X5_isOf_X7 {l : Launch} {D : va_G} {dA : Nat → ClassId} {ad : Nat → Nat} {s : Sg} {q0 bb : Nat} {fa fb a1 : Int} {Q : Int → Prop} (he : (xwf dA ad s)[q0]? = some (bb, .inr (4, [.int (iI fa), .int (iI fb)]))) (h : wp_X5_isOf_X7 fa fb a1 Q) : MXi l D dA (xwf dA ad) yX5_isOf cX5_isOf 2 .boolean ({ frames := 1, cells := 0, slots := 0, locals := 20 } : Room) [.ref bb, .int (iI a1)] s (fun z s' => (z = 0 ∨ z = 1) ∧ s' = s ∧ Q z) := by
  unfold wp_X5_isOf_X7 at h
  refine jw_start_z (own := RX5) (lv0 := [(0, .ref bb), (1, .int (iI a1))]) (by decide) rfl (Nat.le_of_ble_eq_true rfl) rfl (fun G F rt => ?_)
  refine jw_iload_n F 1 dX5_isOf_0 rfl rfl ?_
  obtain ⟨o_1, h⟩ := h
  refine jn0_r (G s 12 [] []) h (fun h => ?_) (fun K_2 h j_3 => ?_)
  · refine jw_iconst F dX5_isOf_12 ?_
    refine jw_goto F (tgt := 17) dX5_isOf_13 (by decide) ?_
    exact rt _ _ _ _ dX5_isOf_17 (by decide) ⟨(by decide), rfl, h⟩
  · refine jw_if_eq F o_1 (tgt := 12) dX5_isOf_1 (by decide) (fun c => ?_) (fun c => ?_)
    · have h := h.1 (c)
      refine jw_sub F (lv' := []) [] rfl ?_
      exact j_3 h
    · have h := h.2 (c)
      refine jw_iload_n F 1 dX5_isOf_4 rfl rfl ?_
      refine jw_aload_n F 0 dX5_isOf_5 rfl rfl ?_
      refine jw_callUi (n := 0) F (wk_X7_kind he h) q549 q575 q540 (jw_declA (jw_nwi 17 rfl)) q547 q548 q84 (by decide +kernel) ⟨rfl, rfl, Nat.le_of_ble_eq_true rfl, Nat.le_of_ble_eq_true rfl⟩ rfl rfl he rfl rfl rfl (Nat.le_of_ble_eq_true rfl) dX5_isOf_6 (fun r_4 s_5 hz => ?_)
      obtain ⟨e_6, h⟩ := hz
      rw [e_6]
      obtain ⟨o_7, h⟩ := h
      obtain ⟨o_8, h⟩ := h
      refine jw_icmp_ne F o_7 o_8 (tgt := 16) dX5_isOf_9 (by decide) (fun c => ?_) (fun c => ?_)
      · have h := h.1 (c)
        refine jw_iconst F dX5_isOf_16 ?_
        exact rt _ _ _ _ dX5_isOf_17 (by decide) ⟨(by decide), rfl, h⟩
      · have h := h.2 (c)
        refine jw_sub F (lv' := []) [] rfl ?_
        exact j_3 h
def wp_X6_isOf_X7 (fa fb a1 : Int) (Q : Int → Prop) : Prop :=
  (Rg a1) ∧ JN0 (Q 1)
 (fun K_2 =>
  ((a1 = 3) →
   K_2) ∧
  ((¬ a1 = 3) →
   wp_X5_isOf_X7 fa fb a1 (fun r_4 => ((r_4 = 0) →
   Q 0) ∧
  ((¬ r_4 = 0) →
   K_2))))
set_option maxHeartbeats 4000000 in
set_option maxRecDepth 100000 in
theorem wk_X6_isOf_X7 {l : Launch} {D : va_G} {dA : Nat → ClassId} {ad : Nat → Nat} {s : Sg} {q0 bb : Nat} {fa fb a1 : Int} {Q : Int → Prop} (he : (xwf dA ad s)[q0]? = some (bb, .inr (4, [.int (iI fa), .int (iI fb)]))) (h : wp_X6_isOf_X7 fa fb a1 Q) : MXi l D dA (xwf dA ad) yX6_isOf cX6_isOf 2 .boolean ({ frames := 2, cells := 0, slots := 0, locals := 41 } : Room) [.ref bb, .int (iI a1)] s (fun z s' => (z = 0 ∨ z = 1) ∧ s' = s ∧ Q z) := by
  unfold wp_X6_isOf_X7 at h
  refine jw_start_z (own := RX6) (lv0 := [(0, .ref bb), (1, .int (iI a1))]) (by decide) rfl (Nat.le_of_ble_eq_true rfl) rfl (fun G F rt => ?_)
  refine jw_iload_n F 1 dX6_isOf_0 rfl rfl ?_
  refine jw_iconst F dX6_isOf_1 ?_
  obtain ⟨o_1, h⟩ := h
  refine jn0_r (G s 13 [] []) h (fun h => ?_) (fun K_2 h j_3 => ?_)
  · refine jw_iconst F dX6_isOf_13 ?_
    refine jw_goto F (tgt := 18) dX6_isOf_14 (by decide) ?_
    exact rt _ _ _ _ dX6_isOf_18 (by decide) ⟨(by decide), rfl, h⟩
  · refine jw_icmp_eq F o_1 (by decide) (tgt := 13) dX6_isOf_2 (by decide) (fun c => ?_) (fun c => ?_)
    · have h := h.1 (c)
      refine jw_sub F (lv' := []) [] rfl ?_
      exact j_3 h
    · have h := h.2 (c)
      refine jw_aload_n F 0 dX6_isOf_5 rfl rfl ?_
      refine jw_iload_n F 1 dX6_isOf_6 rfl rfl ?_
      refine jw_callSUi (n := 1) F (wk_X5_isOf_X7 he h) q574 q573 q569 q464 q568 q82 (by decide +kernel) ⟨rfl, rfl, Nat.le_of_ble_eq_true rfl, Nat.le_of_ble_eq_true rfl⟩ rfl he rfl rfl rfl (Nat.le_of_ble_eq_true rfl) dX6_isOf_7 (fun r_4 s_5 hz => ?_)
      obtain ⟨hb_r_4, e_6, h⟩ := hz
      rw [e_6]
      refine jw_if_eq F (rg01 hb_r_4) (tgt := 17) dX6_isOf_10 (by decide) (fun c => ?_) (fun c => ?_)
      · have h := h.1 (c)
        refine jw_iconst F dX6_isOf_17 ?_
        exact rt _ _ _ _ dX6_isOf_18 (by decide) ⟨(by decide), rfl, h⟩
      · have h := h.2 (c)
        refine jw_sub F (lv' := []) [] rfl ?_
        exact j_3 h
def wp_J4_checkIndex (a1 a2 : Int) (Q : Int → Prop) : Prop :=
  (Rg a1) ∧ JN0 (False)
 (fun K_2 =>
  ((a1 < 0) →
   K_2) ∧
  ((0 ≤ a1) →
   (Rg a1) ∧ (Rg a2) ∧ ((a1 < a2) →
    Q a1) ∧
   ((a2 ≤ a1) →
    K_2)))
theorem hd_J4_checkIndex : yJ4_checkIndex.cls ≠ "java/lang/invoke/MethodHandle" ∧ yJ4_checkIndex.cls ≠ "java/lang/invoke/VarHandle" ∧ (parseMethodDescriptor yJ4_checkIndex.desc).map (fun d => d.parameters.length) = some 3 := by decide +kernel
set_option maxHeartbeats 4000000 in
set_option maxRecDepth 100000 in
theorem wk_J4_checkIndex {l : Launch} {D : va_G} {dA : Nat → ClassId} {wf : Sg → va_W} {s : Sg} {a1 a2 : Int} {Q : Int → Prop} (h : wp_J4_checkIndex a1 a2 Q) : MXi l D dA wf yJ4_checkIndex cJ4_checkIndex 3 .int ({ frames := 0, cells := 0, slots := 0, locals := 0 } : Room) [.int (iI a1), .int (iI a2), .null] s (fun z s' => s' = s ∧ Q z) := by
  unfold wp_J4_checkIndex at h
  refine jw_start_i (own := RJ4) (lv0 := [(0, .int (iI a1)), (1, .int (iI a2)), (2, .null)]) (by decide) rfl (Nat.le_of_ble_eq_true rfl) rfl (fun G F rt => ?_)
  refine jw_iload_n F 0 dJ4_checkIndex_0 rfl rfl ?_
  obtain ⟨o_1, h⟩ := h
  refine jn0_r (G s 9 [(0, .int (iI a1)), (1, .int (iI a2)), (2, .null)] []) h (fun h => ?_) (fun K_2 h j_3 => ?_)
  · exact h.elim
  · refine jw_if_lt F o_1 (tgt := 9) dJ4_checkIndex_1 (by decide) (fun c => ?_) (fun c => ?_)
    · have h := h.1 (c)
      exact j_3 h
    · have h := h.2 (c)
      refine jw_iload_n F 0 dJ4_checkIndex_4 rfl rfl ?_
      refine jw_iload_n F 1 dJ4_checkIndex_5 rfl rfl ?_
      obtain ⟨o_4, h⟩ := h
      obtain ⟨o_5, h⟩ := h
      refine jw_icmp_lt F o_4 o_5 (tgt := 16) dJ4_checkIndex_6 (by decide) (fun c => ?_) (fun c => ?_)
      · have h := h.1 (c)
        refine jw_iload_n F 0 dJ4_checkIndex_16 rfl rfl ?_
        exact rt _ _ _ _ dJ4_checkIndex_17 ⟨rfl, h⟩
      · have h := h.2 (c)
        exact j_3 h
def wp_J3_checkIndex (a1 a2 : Int) (Q : Int → Prop) : Prop :=
  wp_J4_checkIndex a1 a2 (fun r_1 =>
 Q r_1)
theorem hd_J3_checkIndex : yJ3_checkIndex.cls ≠ "java/lang/invoke/MethodHandle" ∧ yJ3_checkIndex.cls ≠ "java/lang/invoke/VarHandle" ∧ (parseMethodDescriptor yJ3_checkIndex.desc).map (fun d => d.parameters.length) = some 2 := by decide +kernel
set_option maxHeartbeats 4000000 in
set_option maxRecDepth 100000 in
theorem wk_J3_checkIndex {l : Launch} {D : va_G} {dA : Nat → ClassId} {wf : Sg → va_W} {s : Sg} {a1 a2 : Int} {Q : Int → Prop} (h : wp_J3_checkIndex a1 a2 Q) : MXi l D dA wf yJ3_checkIndex cJ3_checkIndex 2 .int ({ frames := 1, cells := 0, slots := 0, locals := 22 } : Room) [.int (iI a1), .int (iI a2)] s (fun z s' => s' = s ∧ Q z) := by
  unfold wp_J3_checkIndex at h
  refine jw_start_i (own := RJ3) (lv0 := [(0, .int (iI a1)), (1, .int (iI a2))]) (by decide) rfl (Nat.le_of_ble_eq_true rfl) rfl (fun G F rt => ?_)
  refine jw_iload_n F 0 dJ3_checkIndex_0 rfl rfl ?_
  refine jw_iload_n F 1 dJ3_checkIndex_1 rfl rfl ?_
  refine jw_null F dJ3_checkIndex_2 ?_
  refine jw_callSip F (wk_J4_checkIndex h) (lw_S q189 q190 q76 q191) hd_J4_checkIndex ⟨rfl, rfl, Nat.le_of_ble_eq_true rfl, Nat.le_of_ble_eq_true rfl⟩ rfl rfl (Nat.le_of_ble_eq_true rfl) dJ3_checkIndex_3 (fun r_1 h => ?_)
  exact rt _ _ _ _ dJ3_checkIndex_6 ⟨rfl, h⟩
/-! THE LIKENESSES: the list of them, and what each answers -/
def lkK (kd : Int) : Int := if kd = 1 then 1 else if kd = 2 then 2 else 3
def lkN (kd a b : Int) : Int := if kd = 1 then a else if kd = 2 then -1 else 10 * a + b
def lkO (kd k : Int) : Int := if k = 0 ∨ k = lkK kd ∨ (k = 3 ∧ kd ≠ 1) then 1 else 0
def lkS (kd a b st n : Int) : Int := if kd = 1 then (st + a) % n else if kd = 2 then n - 1 - st else if n ≤ a ∨ n ≤ b then st else if st = a then b else if st = b then a else st
def lkP (kd a b st n : Int) : Prop := 0 ≤ st ∧ st < n ∧ n ≤ 100 ∧ -1 ≤ a ∧ a ≤ 100 ∧ -1 ≤ b ∧ b ≤ 100 ∧ (kd = 1 → 0 ≤ a)
section LK
variable {l : Launch} {R : Room} {D : va_G} {dA : Nat → ClassId} {ad : Nat → Nat} {cc : ByteArray} {nL : Nat} {G : Gx} {σ : Sg} {pc : Nat} {lv : List (Nat × Value)} {st : List Value}
theorem gx_J2_48_L (F : FX l R D dA (xwf dA ad) cc nL RJ2 G) (d : decode cc pc = .ok (.getfield 48, 3)) (kk : G σ (pc + 3) lv (.int (iI (σ 5000 2)) :: st)) : G σ pc lv (.ref (ad 5000) :: st) := jw_get F in_J2 (xh_L dA ad σ) rfl 2 (by decide) q114 rfl rfl d kk
theorem gx_J2_9_L (F : FX l R D dA (xwf dA ad) cc nL RJ2 G) (d : decode cc pc = .ok (.getfield 9, 3)) (kk : G σ (pc + 3) lv (.ref (ad 5001) :: st)) : G σ pc lv (.ref (ad 5000) :: st) := jw_get F in_J2 (xh_L dA ad σ) rfl 1 (by decide) q113 rfl rfl d kk
end LK
theorem xh_E (dA : Nat → ClassId) (ad : Nat → Nat) (σ : Sg) (h : σ 5000 2 ≠ 0) : (xwf dA ad σ)[1301]? = some (ad 5001, .inl (dA 5, 10, .inr (.inr (.inr (.inr (fun (j : Nat) => if (j : Int) < σ 5000 2 then some (ad (5002 + j)) else none)))))) := by
  show (wl 1300 ad (xmk dA ad) σ ++ xex dA ad σ)[1301]? = _
  rw [List.getElem?_append_right (by rw [wl_len]; omega), wl_len]
  unfold xex
  rw [if_neg h]
  rfl
theorem xh_K (dA : Nat → ClassId) (ad : Nat → Nat) (σ : Sg) {i : Int} (h0 : 0 ≤ i) (h1 : i < σ 5000 2) : (xwf dA ad σ)[1302 + i.toNat]? = some (ad (5002 + i.toNat), xlk (σ 5001 i) (σ 5002 i) (σ 5003 i)) := by
  show (wl 1300 ad (xmk dA ad) σ ++ xex dA ad σ)[1302 + i.toNat]? = _
  rw [List.getElem?_append_right (by rw [wl_len]; omega), wl_len]
  unfold xex
  rw [if_neg (by omega), show 1302 + i.toNat - 1300 = i.toNat + 1 + 1 by omega, List.getElem?_cons_succ, List.getElem?_cons_succ, List.getElem?_map, List.getElem?_range (by omega)]
  show some (ad (5002 + i.toNat), xlk (σ 5001 (i.toNat : Int)) (σ 5002 (i.toNat : Int)) (σ 5003 (i.toNat : Int))) = _
  rw [Int.toNat_of_nonneg h0]
theorem wk_J2_elementData {l : Launch} {D : va_G} {dA : Nat → ClassId} {ad : Nat → Nat} {s : Sg} {a1 : Int} (h0 : 0 ≤ a1) (h1 : a1 < s 5000 2) (h2 : s 5000 2 ≤ 4) : MXr l D dA (xwf dA ad) yJ2_elementData cJ2_elementData 2 (.object "java/lang/Object") ({ frames := 0, cells := 0, slots := 0, locals := 0 } : Room) [.ref (ad 5000), .int (iI a1)] s (fun a s' => s' = s ∧ a = ad (5002 + a1.toNat)) := by
  refine jw_start_r (own := RJ2) (lv0 := [(0, .ref (ad 5000)), (1, .int (iI a1))]) (by decide) rfl (Or.inl ⟨_, rfl⟩) (Nat.le_of_ble_eq_true rfl) rfl (fun G F rt => ?_)
  refine jw_aload_n F 0 dJ2_elementData_0 rfl rfl ?_
  refine gx_J2_9_L F dJ2_elementData_1 ?_
  refine jw_iload_n F 1 dJ2_elementData_4 rfl rfl ?_
  refine (fun (k : G s 6 [(0, .ref (ad 5000)), (1, .int (iI a1))] [.ref (ad (5002 + a1.toNat))]) => ?_) ?_
  · obtain ⟨p, e, s1, m, args, below, meth, c, Q, A, rfl, hx, hb, hml, hown, hts, hK, hN, hA⟩ := F
    intro H locs ls hl hP hD hS
    have hin : vp_in (iI a1) 10 := iI_in h0 (by omega) (by omega)
    refine va_aldq hx hb hK hP 1301 5 (xh_E dA ad s (by omega)) rfl hin dJ2_elementData_5 ?_
    rw [iI_clamp h0 (by omega)]
    rw [if_pos (by omega)]
    exact k H locs ls hl hP hD hS
  · exact rt _ _ _ _ dJ2_elementData_6 ⟨rfl, rfl⟩
theorem wk_J2_get {l : Launch} {D : va_G} {dA : Nat → ClassId} {ad : Nat → Nat} {s : Sg} {a1 : Int} (h0 : 0 ≤ a1) (h1 : a1 < s 5000 2) (h2 : s 5000 2 ≤ 4) : MXr l D dA (xwf dA ad) yJ2_get cJ2_get 2 (.object "java/lang/Object") ({ frames := 2, cells := 0, slots := 0, locals := 60 } : Room) [.ref (ad 5000), .int (iI a1)] s (fun a s' => s' = s ∧ a = ad (5002 + a1.toNat)) := by
  have hck : wp_J3_checkIndex a1 (s 5000 2) (fun _ => True) := by
    unfold wp_J3_checkIndex wp_J4_checkIndex JN0
    refine ⟨⟨by omega, by omega⟩, fun q => absurd q (by omega), fun _ => ⟨⟨by omega, by omega⟩, ⟨by omega, by omega⟩, fun _ => trivial, fun q => absurd q (by omega)⟩⟩
  refine jw_start_r (own := RJ2) (lv0 := [(0, .ref (ad 5000)), (1, .int (iI a1))]) (by decide) rfl (Or.inl ⟨_, rfl⟩) (Nat.le_of_ble_eq_true rfl) rfl (fun G F rt => ?_)
  refine jw_iload_n F 1 dJ2_get_0 rfl rfl ?_
  refine jw_aload_n F 0 dJ2_get_1 rfl rfl ?_
  refine gx_J2_48_L F dJ2_get_2 ?_
  refine jw_callSip F (wk_J3_checkIndex hck) (lw_S q186 q187 q75 q188) hd_J3_checkIndex ⟨rfl, rfl, Nat.le_of_ble_eq_true rfl, Nat.le_of_ble_eq_true rfl⟩ rfl rfl (Nat.le_of_ble_eq_true rfl) dJ2_get_5 (fun r _ => ?_)
  refine jw_pop F rfl dJ2_get_8 ?_
  refine jw_aload_n F 0 dJ2_get_9 rfl rfl ?_
  refine jw_iload_n F 1 dJ2_get_10 rfl rfl ?_
  refine jw_callVrp (n := 1) F (wk_J2_elementData h0 h1 h2) (lw_V q192 q193 q194 q73 q195) (by decide +kernel) ⟨rfl, rfl, Nat.le_of_ble_eq_true rfl, Nat.le_of_ble_eq_true rfl⟩ rfl rfl (xh_L dA ad _) rfl rfl rfl (Nat.le_of_ble_eq_true rfl) dJ2_get_11 (fun a ha => ?_)
  subst ha
  exact rt _ _ _ _ dJ2_get_14 ⟨rfl, rfl⟩
section LK2
variable {l : Launch} {R : Room} {D : va_G} {dA : Nat → ClassId} {ad : Nat → Nat} {cc : ByteArray} {nL : Nat} {G : Gx} {σ : Sg} {pc : Nat} {lv : List (Nat × Value)} {st : List Value} {i : Int}
theorem jx_get_X0 (F : FX l R D dA (xwf dA ad) cc nL RX0 G) (hR : 3 ≤ R.frames ∧ 120 ≤ R.locals) (h0 : 0 ≤ i) (h1 : i < σ 5000 2) (h2 : σ 5000 2 ≤ 4) (d1 : decode cc pc = .ok (.invokevirtual 133, 3)) (d2 : decode cc (pc + 3) = .ok (.checkcast 122, 3)) (hst : (st.map fun v => v.category).sum ≤ 8) (k : G σ (pc + 6) lv (.ref (ad (5002 + i.toNat)) :: st)) : G σ pc lv (.int (iI i) :: .ref (ad 5000) :: st) := by
  refine jw_callVrp (n := 1) F (wk_J2_get h0 h1 h2) (lw_V q182 q183 q184 q73 q185) (by decide +kernel) ⟨rfl, rfl, hR.1, Nat.le_trans (Nat.le_of_ble_eq_true rfl) hR.2⟩ rfl rfl (xh_L dA ad _) rfl rfl rfl hst d1 (fun a ha => ?_)
  subst ha
  obtain ⟨p, e, s1, m, args, below, meth, c, Q, A, rfl, hx, hb, hml, hown, hts, hK, hN, hA⟩ := F
  intro H locs ls hl hP hD hS
  have he := xh_K dA ad σ h0 h1
  unfold xlk at he
  by_cases k1 : σ 5001 i = 1
  · rw [if_pos k1] at he
    exact va_castY hx hb hown (hts _ q196) (hN.1 _ (jw_nwi 20 rfl)) (va_recv (q := (RX8, TX8, 1)) hK hP (ci := 2) rfl he) d2 (k H locs ls hl hP hD hS)
  · rw [if_neg k1] at he
    by_cases k2 : σ 5001 i = 2
    · rw [if_pos k2] at he
      exact va_castY hx hb hown (hts _ q196) (hN.1 _ (jw_nwi 19 rfl)) (va_recv (q := (RX7, TX7, 2)) hK hP (ci := 4) rfl he) d2 (k H locs ls hl hP hD hS)
    · rw [if_neg k2] at he
      exact va_castY hx hb hown (hts _ q196) (hN.1 _ (jw_nwi 18 rfl)) (va_recv (q := (RX6, TX6, 2)) hK hP (ci := 3) rfl he) d2 (k H locs ls hl hP hD hS)
theorem lk_x6 {kd a b sx n : Int} (hp : lkP kd a b sx n) (k1 : ¬ kd = 1) (k2 : ¬ kd = 2) : wp_X6_sounds a b sx n (fun r => r = lkS kd a b sx n) := by
  unfold wp_X6_sounds lkS
  unfold lkP at hp
  rw [if_neg k1, if_neg k2]
  refine ⟨⟨by omega, by omega⟩, ⟨by omega, by omega⟩, fun q => by rw [if_pos (Or.inl q)], fun q => ⟨⟨by omega, by omega⟩, ⟨by omega, by omega⟩, fun q2 => ?_, fun q2 => by rw [if_pos (Or.inr q2)]⟩⟩
  rw [if_neg (by omega)]
  refine ⟨⟨by omega, by omega⟩, ⟨by omega, by omega⟩, fun q3 => ⟨⟨by omega, by omega⟩, ⟨by omega, by omega⟩, fun q4 => by rw [if_neg q3, if_neg q4], fun q4 => by rw [if_neg q3, if_pos q4]⟩, fun q3 => by rw [if_pos q3]⟩
theorem lk_o8 {kd a b k : Int} (hk : Rg k) (k1 : kd = 1) : wp_X5_isOf_X8 a b k (fun r => r = lkO kd k) := by
  unfold wp_X5_isOf_X8 JN0 wp_X8_kind lkO lkK
  rw [if_pos k1]
  refine ⟨hk, fun q => by rw [if_pos (Or.inl q)], fun q => ⟨hk, by decide, fun q2 => by rw [if_neg (by omega)], fun q2 => by rw [if_pos (Or.inr (Or.inl q2))]⟩⟩
theorem lk_o6 {kd a b k : Int} (hk : Rg k) (k1 : ¬ kd = 1) (k2 : ¬ kd = 2) : wp_X6_isOf_X6 a b k (fun r => r = lkO kd k) := by
  unfold wp_X6_isOf_X6 wp_X5_isOf_X6 JN0 wp_X6_kind lkO lkK
  rw [if_neg k1, if_neg k2]
  refine ⟨hk, fun q => by rw [if_pos (Or.inr (Or.inl q))], fun q => ⟨hk, fun q2 => ⟨fun q3 => absurd q3 (by decide), fun _ => by rw [if_pos (Or.inl q2)]⟩, fun q2 => ⟨hk, by decide, fun q3 => ⟨fun _ => by rw [if_neg (by omega)], fun q4 => absurd rfl q4⟩, fun q3 => absurd q3 q⟩⟩⟩
theorem lk_o7 {kd a b k : Int} (hk : Rg k) (k1 : ¬ kd = 1) (k2 : kd = 2) : wp_X6_isOf_X7 a b k (fun r => r = lkO kd k) := by
  unfold wp_X6_isOf_X7 wp_X5_isOf_X7 JN0 wp_X7_kind lkO lkK
  rw [if_neg k1, if_pos k2]
  refine ⟨hk, fun q => by rw [if_pos (Or.inr (Or.inr ⟨q, k1⟩))], fun q => ⟨hk, fun q2 => ⟨fun q3 => absurd q3 (by decide), fun _ => by rw [if_pos (Or.inl q2)]⟩, fun q2 => ⟨hk, by decide, fun q3 => ⟨fun _ => by rw [if_neg (by omega)], fun q4 => absurd rfl q4⟩, fun q3 => ⟨fun q4 => absurd q4 (by decide), fun _ => by rw [if_pos (Or.inr (Or.inl q3))]⟩⟩⟩⟩
theorem jx_kind_X0 (F : FX l R D dA (xwf dA ad) cc nL RX0 G) (hR : 3 ≤ R.frames ∧ 120 ≤ R.locals) (h0 : 0 ≤ i) (h1 : i < σ 5000 2) (h2 : σ 5000 2 ≤ 4) (d : decode cc pc = .ok (.invokevirtual 121, 3)) (hst : (st.map fun v => v.category).sum ≤ 8) (k : G σ (pc + 3) lv (.int (iI (lkK (σ 5001 i))) :: st)) : G σ pc lv (.ref (ad (5002 + i.toNat)) :: st) := by
  have he := xh_K dA ad σ h0 h1
  unfold xlk at he
  by_cases k1 : σ 5001 i = 1
  · rw [if_pos k1] at he
    refine jw_callUi (n := 0) F (wk_X8_kind he (fb := 0) (Q := fun r => r = lkK (σ 5001 i)) (by unfold wp_X8_kind lkK; rw [if_pos k1])) q546 q538 q540 (jw_declA (jw_nwi 17 rfl)) q544 q545 q85 (by decide +kernel) ⟨rfl, rfl, Nat.le_trans (Nat.le_of_ble_eq_true rfl) hR.1, Nat.le_trans (Nat.le_of_ble_eq_true rfl) hR.2⟩ rfl rfl he rfl rfl rfl hst d (fun r s9 hz => ?_)
    obtain ⟨e9, hr⟩ := hz
    rw [e9, hr]
    exact k
  · rw [if_neg k1] at he
    by_cases k2 : σ 5001 i = 2
    · rw [if_pos k2] at he
      refine jw_callUi (n := 0) F (wk_X7_kind he (Q := fun r => r = lkK (σ 5001 i)) (by unfold wp_X7_kind lkK; rw [if_neg k1, if_pos k2])) q549 q538 q540 (jw_declA (jw_nwi 17 rfl)) q547 q548 q84 (by decide +kernel) ⟨rfl, rfl, Nat.le_trans (Nat.le_of_ble_eq_true rfl) hR.1, Nat.le_trans (Nat.le_of_ble_eq_true rfl) hR.2⟩ rfl rfl he rfl rfl rfl hst d (fun r s9 hz => ?_)
      obtain ⟨e9, hr⟩ := hz
      rw [e9, hr]
      exact k
    · rw [if_neg k2] at he
      refine jw_callUi (n := 0) F (wk_X6_kind he (Q := fun r => r = lkK (σ 5001 i)) (by unfold wp_X6_kind lkK; rw [if_neg k1, if_neg k2])) q543 q538 q540 (jw_declA (jw_nwi 17 rfl)) q541 q542 q83 (by decide +kernel) ⟨rfl, rfl, Nat.le_trans (Nat.le_of_ble_eq_true rfl) hR.1, Nat.le_trans (Nat.le_of_ble_eq_true rfl) hR.2⟩ rfl rfl he rfl rfl rfl hst d (fun r s9 hz => ?_)
      obtain ⟨e9, hr⟩ := hz
      rw [e9, hr]
      exact k
theorem jx_number_X0 (F : FX l R D dA (xwf dA ad) cc nL RX0 G) (hR : 3 ≤ R.frames ∧ 120 ≤ R.locals) (h0 : 0 ≤ i) (h1 : i < σ 5000 2) (h2 : σ 5000 2 ≤ 4) (d : decode cc pc = .ok (.invokevirtual 126, 3)) (hst : (st.map fun v => v.category).sum ≤ 8) (k : G σ (pc + 3) lv (.int (iI (lkN (σ 5001 i) (σ 5002 i) (σ 5003 i))) :: st)) : G σ pc lv (.ref (ad (5002 + i.toNat)) :: st) := by
  have he := xh_K dA ad σ h0 h1
  unfold xlk at he
  by_cases k1 : σ 5001 i = 1
  · rw [if_pos k1] at he
    refine jw_callUi (n := 0) F (wk_X8_number he (fb := 0) (Q := fun r => r = lkN (σ 5001 i) (σ 5002 i) (σ 5003 i)) (by unfold wp_X8_number lkN; rw [if_pos k1])) q558 q550 q552 (jw_declC q551 q562) q556 q557 q85 (by decide +kernel) ⟨rfl, rfl, Nat.le_trans (Nat.le_of_ble_eq_true rfl) hR.1, Nat.le_trans (Nat.le_of_ble_eq_true rfl) hR.2⟩ rfl rfl he rfl rfl rfl hst d (fun r s9 hz => ?_)
    obtain ⟨e9, hr⟩ := hz
    rw [e9, hr]
    exact k
  · rw [if_neg k1] at he
    by_cases k2 : σ 5001 i = 2
    · rw [if_pos k2] at he
      refine jw_callUi (n := 0) F (wk_X7_number he (Q := fun r => r = lkN (σ 5001 i) (σ 5002 i) (σ 5003 i)) (by unfold wp_X7_number lkN; rw [if_neg k1, if_pos k2])) q561 q550 q552 (jw_declC q551 q562) q559 q560 q84 (by decide +kernel) ⟨rfl, rfl, Nat.le_trans (Nat.le_of_ble_eq_true rfl) hR.1, Nat.le_trans (Nat.le_of_ble_eq_true rfl) hR.2⟩ rfl rfl he rfl rfl rfl hst d (fun r s9 hz => ?_)
      obtain ⟨e9, hr⟩ := hz
      rw [e9, hr]
      exact k
    · rw [if_neg k2] at he
      refine jw_callUi (n := 0) F (wk_X6_number he (Q := fun r => r = lkN (σ 5001 i) (σ 5002 i) (σ 5003 i)) (by unfold wp_X6_number lkN; rw [if_neg k1, if_neg k2])) q555 q550 q552 (jw_declC q551 q562) q553 q554 q83 (by decide +kernel) ⟨rfl, rfl, Nat.le_trans (Nat.le_of_ble_eq_true rfl) hR.1, Nat.le_trans (Nat.le_of_ble_eq_true rfl) hR.2⟩ rfl rfl he rfl rfl rfl hst d (fun r s9 hz => ?_)
      obtain ⟨e9, hr⟩ := hz
      rw [e9, hr]
      exact k
theorem jx_isOf_X0 {k : Int} (F : FX l R D dA (xwf dA ad) cc nL RX0 G) (hR : 3 ≤ R.frames ∧ 120 ≤ R.locals) (h0 : 0 ≤ i) (h1 : i < σ 5000 2) (h2 : σ 5000 2 ≤ 4) (hk : Rg k) (d : decode cc pc = .ok (.invokevirtual 141, 3)) (hst : (st.map fun v => v.category).sum ≤ 8) (kk : (lkO (σ 5001 i) k = 0 ∨ lkO (σ 5001 i) k = 1) → G σ (pc + 3) lv (.int (iI (lkO (σ 5001 i) k)) :: st)) : G σ pc lv (.int (iI k) :: .ref (ad (5002 + i.toNat)) :: st) := by
  have he := xh_K dA ad σ h0 h1
  unfold xlk at he
  by_cases k1 : σ 5001 i = 1
  · rw [if_pos k1] at he
    refine jw_callUi (n := 1) F (wk_X5_isOf_X8 he (fb := 0) (Q := fun r => r = lkO (σ 5001 i) k) (lk_o8 hk k1)) q574 q567 q569 (jw_declC q568 q574) q576 q568 q82 (by decide +kernel) ⟨rfl, rfl, Nat.le_trans (Nat.le_of_ble_eq_true rfl) hR.1, Nat.le_trans (Nat.le_of_ble_eq_true rfl) hR.2⟩ rfl rfl he rfl rfl rfl hst d (fun r s9 hz => ?_)
    obtain ⟨h01, e9, hr⟩ := hz
    rw [e9, hr]
    exact kk (hr ▸ h01)
  · rw [if_neg k1] at he
    by_cases k2 : σ 5001 i = 2
    · rw [if_pos k2] at he
      refine jw_callUi (n := 1) F (wk_X6_isOf_X7 he (Q := fun r => r = lkO (σ 5001 i) k) (lk_o7 hk k1 k2)) q572 q567 q569 (jw_declC q568 q574) q577 q571 q83 (by decide +kernel) ⟨rfl, rfl, Nat.le_trans (Nat.le_of_ble_eq_true rfl) hR.1, Nat.le_trans (Nat.le_of_ble_eq_true rfl) hR.2⟩ rfl rfl he rfl rfl rfl hst d (fun r s9 hz => ?_)
      obtain ⟨h01, e9, hr⟩ := hz
      rw [e9, hr]
      exact kk (hr ▸ h01)
    · rw [if_neg k2] at he
      refine jw_callUi (n := 1) F (wk_X6_isOf_X6 he (Q := fun r => r = lkO (σ 5001 i) k) (lk_o6 hk k1 k2)) q572 q567 q569 (jw_declC q568 q574) q570 q571 q83 (by decide +kernel) ⟨rfl, rfl, Nat.le_trans (Nat.le_of_ble_eq_true rfl) hR.1, Nat.le_trans (Nat.le_of_ble_eq_true rfl) hR.2⟩ rfl rfl he rfl rfl rfl hst d (fun r s9 hz => ?_)
      obtain ⟨h01, e9, hr⟩ := hz
      rw [e9, hr]
      exact kk (hr ▸ h01)
theorem jx_sounds_X0 {sx n : Int} (F : FX l R D dA (xwf dA ad) cc nL RX0 G) (hR : 3 ≤ R.frames ∧ 120 ≤ R.locals) (h0 : 0 ≤ i) (h1 : i < σ 5000 2) (h2 : σ 5000 2 ≤ 4) (hp : lkP (σ 5001 i) (σ 5002 i) (σ 5003 i) sx n) (d : decode cc pc = .ok (.invokevirtual 147, 3)) (hst : (st.map fun v => v.category).sum ≤ 8) (k : G σ (pc + 3) lv (.int (iI (lkS (σ 5001 i) (σ 5002 i) (σ 5003 i) sx n)) :: st)) : G σ pc lv (.int (iI n) :: .int (iI sx) :: .ref (ad (5002 + i.toNat)) :: st) := by
  have he := xh_K dA ad σ h0 h1
  unfold xlk at he
  by_cases k1 : σ 5001 i = 1
  · rw [if_pos k1] at he
    refine jw_callUi (n := 2) F (wk_X8_sounds he (fb := 0) (Q := fun r => r = lkS (σ 5001 i) (σ 5002 i) (σ 5003 i) sx n) (by unfold wp_X8_sounds lkS; rw [if_pos k1]; unfold lkP at hp; exact ⟨⟨by omega, by omega⟩, ⟨by omega, by omega⟩, by omega, by omega, rfl⟩)) q209 q582 q203 (jw_declA (jw_nwi 16 rfl)) q207 q208 q85 (by decide +kernel) ⟨rfl, rfl, Nat.le_trans (Nat.le_of_ble_eq_true rfl) hR.1, Nat.le_trans (Nat.le_of_ble_eq_true rfl) hR.2⟩ rfl rfl he rfl rfl rfl hst d (fun r s9 hz => ?_)
    obtain ⟨e9, hr⟩ := hz
    rw [e9, hr]
    exact k
  · rw [if_neg k1] at he
    by_cases k2 : σ 5001 i = 2
    · rw [if_pos k2] at he
      refine jw_callUi (n := 2) F (wk_X7_sounds he (Q := fun r => r = lkS (σ 5001 i) (σ 5002 i) (σ 5003 i) sx n) (by unfold wp_X7_sounds lkS; rw [if_neg k1, if_pos k2])) q212 q582 q203 (jw_declA (jw_nwi 16 rfl)) q210 q211 q84 (by decide +kernel) ⟨rfl, rfl, Nat.le_trans (Nat.le_of_ble_eq_true rfl) hR.1, Nat.le_trans (Nat.le_of_ble_eq_true rfl) hR.2⟩ rfl rfl he rfl rfl rfl hst d (fun r s9 hz => ?_)
      obtain ⟨e9, hr⟩ := hz
      rw [e9, hr]
      exact k
    · rw [if_neg k2] at he
      refine jw_callUi (n := 2) F (wk_X6_sounds he (Q := fun r => r = lkS (σ 5001 i) (σ 5002 i) (σ 5003 i) sx n) (lk_x6 hp k1 k2)) q206 q582 q203 (jw_declA (jw_nwi 16 rfl)) q204 q205 q83 (by decide +kernel) ⟨rfl, rfl, Nat.le_trans (Nat.le_of_ble_eq_true rfl) hR.1, Nat.le_trans (Nat.le_of_ble_eq_true rfl) hR.2⟩ rfl rfl he rfl rfl rfl hst d (fun r s9 hz => ?_)
      obtain ⟨e9, hr⟩ := hz
      rw [e9, hr]
      exact k
theorem jx_sounds_X1 {sx n : Int} (F : FX l R D dA (xwf dA ad) cc nL RX1 G) (hR : 3 ≤ R.frames ∧ 120 ≤ R.locals) (h0 : 0 ≤ i) (h1 : i < σ 5000 2) (h2 : σ 5000 2 ≤ 4) (hp : lkP (σ 5001 i) (σ 5002 i) (σ 5003 i) sx n) (d : decode cc pc = .ok (.invokevirtual 37, 3)) (hst : (st.map fun v => v.category).sum ≤ 8) (k : G σ (pc + 3) lv (.int (iI (lkS (σ 5001 i) (σ 5002 i) (σ 5003 i) sx n)) :: st)) : G σ pc lv (.int (iI n) :: .int (iI sx) :: .ref (ad (5002 + i.toNat)) :: st) := by
  have he := xh_K dA ad σ h0 h1
  unfold xlk at he
  by_cases k1 : σ 5001 i = 1
  · rw [if_pos k1] at he
    refine jw_callUi (n := 2) F (wk_X8_sounds he (fb := 0) (Q := fun r => r = lkS (σ 5001 i) (σ 5002 i) (σ 5003 i) sx n) (by unfold wp_X8_sounds lkS; rw [if_pos k1]; unfold lkP at hp; exact ⟨⟨by omega, by omega⟩, ⟨by omega, by omega⟩, by omega, by omega, rfl⟩)) q209 q201 q203 (jw_declA (jw_nwi 16 rfl)) q207 q208 q85 (by decide +kernel) ⟨rfl, rfl, Nat.le_trans (Nat.le_of_ble_eq_true rfl) hR.1, Nat.le_trans (Nat.le_of_ble_eq_true rfl) hR.2⟩ rfl rfl he rfl rfl rfl hst d (fun r s9 hz => ?_)
    obtain ⟨e9, hr⟩ := hz
    rw [e9, hr]
    exact k
  · rw [if_neg k1] at he
    by_cases k2 : σ 5001 i = 2
    · rw [if_pos k2] at he
      refine jw_callUi (n := 2) F (wk_X7_sounds he (Q := fun r => r = lkS (σ 5001 i) (σ 5002 i) (σ 5003 i) sx n) (by unfold wp_X7_sounds lkS; rw [if_neg k1, if_pos k2])) q212 q201 q203 (jw_declA (jw_nwi 16 rfl)) q210 q211 q84 (by decide +kernel) ⟨rfl, rfl, Nat.le_trans (Nat.le_of_ble_eq_true rfl) hR.1, Nat.le_trans (Nat.le_of_ble_eq_true rfl) hR.2⟩ rfl rfl he rfl rfl rfl hst d (fun r s9 hz => ?_)
      obtain ⟨e9, hr⟩ := hz
      rw [e9, hr]
      exact k
    · rw [if_neg k2] at he
      refine jw_callUi (n := 2) F (wk_X6_sounds he (Q := fun r => r = lkS (σ 5001 i) (σ 5002 i) (σ 5003 i) sx n) (lk_x6 hp k1 k2)) q206 q201 q203 (jw_declA (jw_nwi 16 rfl)) q204 q205 q83 (by decide +kernel) ⟨rfl, rfl, Nat.le_trans (Nat.le_of_ble_eq_true rfl) hR.1, Nat.le_trans (Nat.le_of_ble_eq_true rfl) hR.2⟩ rfl rfl he rfl rfl rfl hst d (fun r s9 hz => ?_)
      obtain ⟨e9, hr⟩ := hz
      rw [e9, hr]
      exact k
end LK2
