/-! THE WALKS of x (printed by gen/walk.py) -/
theorem hd_J10_bitCount : yJ10_bitCount.cls ≠ "java/lang/invoke/MethodHandle" ∧ yJ10_bitCount.cls ≠ "java/lang/invoke/VarHandle" ∧ (parseMethodDescriptor yJ10_bitCount.desc).map (fun d => d.parameters.length) = some 1 := by decide +kernel
set_option maxHeartbeats 4000000 in
set_option maxRecDepth 100000 in
theorem wk_J10_bitCount {l : Launch} {D : va_G} {dA : Nat → ClassId} {wf : Sg → va_W} {s : Sg} {a1 : Int} {Q : Int → Prop} (h : wp_J10_bitCount a1 Q) : MXi l D dA wf yJ10_bitCount cJ10_bitCount 1 .int ({ frames := 0, cells := 0, slots := 0, locals := 0 } : Room) [.int (iI a1)] s (fun z s' => s' = s ∧ Q z) := by
  unfold wp_J10_bitCount at h
  refine jw_start_i (own := RJ10) (lv0 := [(0, .int (iI a1))]) (by decide) rfl (Nat.le_of_ble_eq_true rfl) rfl (fun G F rt => ?_)
  refine jw_iload_n F 0 dJ10_bitCount_0 rfl rfl ?_
  refine jw_iload_n F 0 dJ10_bitCount_1 rfl rfl ?_
  refine jw_iconst F dJ10_bitCount_2 ?_
  obtain ⟨o_1, o_2, h⟩ := h
  refine jw_iushr F o_1 o_2 (by decide) (by decide) dJ10_bitCount_3 ?_
  refine jw_ldcw F (z := 1431655765) q699 dJ10_bitCount_4 ?_
  obtain ⟨o_3, h⟩ := h
  refine jw_iand F o_3 (by decide) dJ10_bitCount_7 ?_
  refine jw_isub F dJ10_bitCount_8 ?_
  refine jw_istore_n F (lv' := [(0, .int (iI (a1 - (band (a1 / 2 ^ (1 : Int).toNat) 1431655765))))]) [0] dJ10_bitCount_9 rfl (by decide) rfl ?_
  refine jw_iload_n F 0 dJ10_bitCount_10 rfl rfl ?_
  refine jw_ldcw F (z := 858993459) q700 dJ10_bitCount_11 ?_
  obtain ⟨o_4, h⟩ := h
  refine jw_iand F o_4 (by decide) dJ10_bitCount_14 ?_
  refine jw_iload_n F 0 dJ10_bitCount_15 rfl rfl ?_
  refine jw_iconst F dJ10_bitCount_16 ?_
  obtain ⟨o_5, o_6, h⟩ := h
  refine jw_iushr F o_5 o_6 (by decide) (by decide) dJ10_bitCount_17 ?_
  refine jw_ldcw F (z := 858993459) q700 dJ10_bitCount_18 ?_
  obtain ⟨o_7, h⟩ := h
  refine jw_iand F o_7 (by decide) dJ10_bitCount_21 ?_
  refine jw_iadd F dJ10_bitCount_22 ?_
  refine jw_istore_n F (lv' := [(0, .int (iI ((band (a1 - (band (a1 / 2 ^ (1 : Int).toNat) 1431655765)) 858993459) + (band ((a1 - (band (a1 / 2 ^ (1 : Int).toNat) 1431655765)) / 2 ^ (2 : Int).toNat) 858993459))))]) [0] dJ10_bitCount_23 rfl (by decide) rfl ?_
  refine jw_iload_n F 0 dJ10_bitCount_24 rfl rfl ?_
  refine jw_iload_n F 0 dJ10_bitCount_25 rfl rfl ?_
  refine jw_iconst F dJ10_bitCount_26 ?_
  obtain ⟨o_8, o_9, h⟩ := h
  refine jw_iushr F o_8 o_9 (by decide) (by decide) dJ10_bitCount_27 ?_
  refine jw_iadd F dJ10_bitCount_28 ?_
  refine jw_ldcw F (z := 252645135) q701 dJ10_bitCount_29 ?_
  obtain ⟨o_10, h⟩ := h
  refine jw_iand F o_10 (by decide) dJ10_bitCount_32 ?_
  refine jw_istore_n F (lv' := [(0, .int (iI (band (((band (a1 - (band (a1 / 2 ^ (1 : Int).toNat) 1431655765)) 858993459) + (band ((a1 - (band (a1 / 2 ^ (1 : Int).toNat) 1431655765)) / 2 ^ (2 : Int).toNat) 858993459)) + (((band (a1 - (band (a1 / 2 ^ (1 : Int).toNat) 1431655765)) 858993459) + (band ((a1 - (band (a1 / 2 ^ (1 : Int).toNat) 1431655765)) / 2 ^ (2 : Int).toNat) 858993459)) / 2 ^ (4 : Int).toNat)) 252645135)))]) [0] dJ10_bitCount_33 rfl (by decide) rfl ?_
  refine jw_iload_n F 0 dJ10_bitCount_34 rfl rfl ?_
  refine jw_iload_n F 0 dJ10_bitCount_35 rfl rfl ?_
  refine jw_bipush F (z := 8) dJ10_bitCount_36 (by decide) ?_
  obtain ⟨o_11, o_12, h⟩ := h
  refine jw_iushr F o_11 o_12 (by decide) (by decide) dJ10_bitCount_38 ?_
  refine jw_iadd F dJ10_bitCount_39 ?_
  refine jw_istore_n F (lv' := [(0, .int (iI ((band (((band (a1 - (band (a1 / 2 ^ (1 : Int).toNat) 1431655765)) 858993459) + (band ((a1 - (band (a1 / 2 ^ (1 : Int).toNat) 1431655765)) / 2 ^ (2 : Int).toNat) 858993459)) + (((band (a1 - (band (a1 / 2 ^ (1 : Int).toNat) 1431655765)) 858993459) + (band ((a1 - (band (a1 / 2 ^ (1 : Int).toNat) 1431655765)) / 2 ^ (2 : Int).toNat) 858993459)) / 2 ^ (4 : Int).toNat)) 252645135) + ((band (((band (a1 - (band (a1 / 2 ^ (1 : Int).toNat) 1431655765)) 858993459) + (band ((a1 - (band (a1 / 2 ^ (1 : Int).toNat) 1431655765)) / 2 ^ (2 : Int).toNat) 858993459)) + (((band (a1 - (band (a1 / 2 ^ (1 : Int).toNat) 1431655765)) 858993459) + (band ((a1 - (band (a1 / 2 ^ (1 : Int).toNat) 1431655765)) / 2 ^ (2 : Int).toNat) 858993459)) / 2 ^ (4 : Int).toNat)) 252645135) / 2 ^ (8 : Int).toNat))))]) [0] dJ10_bitCount_40 rfl (by decide) rfl ?_
  refine jw_iload_n F 0 dJ10_bitCount_41 rfl rfl ?_
  refine jw_iload_n F 0 dJ10_bitCount_42 rfl rfl ?_
  refine jw_bipush F (z := 16) dJ10_bitCount_43 (by decide) ?_
  obtain ⟨o_13, o_14, h⟩ := h
  refine jw_iushr F o_13 o_14 (by decide) (by decide) dJ10_bitCount_45 ?_
  refine jw_iadd F dJ10_bitCount_46 ?_
  refine jw_istore_n F (lv' := [(0, .int (iI (((band (((band (a1 - (band (a1 / 2 ^ (1 : Int).toNat) 1431655765)) 858993459) + (band ((a1 - (band (a1 / 2 ^ (1 : Int).toNat) 1431655765)) / 2 ^ (2 : Int).toNat) 858993459)) + (((band (a1 - (band (a1 / 2 ^ (1 : Int).toNat) 1431655765)) 858993459) + (band ((a1 - (band (a1 / 2 ^ (1 : Int).toNat) 1431655765)) / 2 ^ (2 : Int).toNat) 858993459)) / 2 ^ (4 : Int).toNat)) 252645135) + ((band (((band (a1 - (band (a1 / 2 ^ (1 : Int).toNat) 1431655765)) 858993459) + (band ((a1 - (band (a1 / 2 ^ (1 : Int).toNat) 1431655765)) / 2 ^ (2 : Int).toNat) 858993459)) + (((band (a1 - (band (a1 / 2 ^ (1 : Int).toNat) 1431655765)) 858993459) + (band ((a1 - (band (a1 / 2 ^ (1 : Int).toNat) 1431655765)) / 2 ^ (2 : Int).toNat) 858993459)) / 2 ^ (4 : Int).toNat)) 252645135) / 2 ^ (8 : Int).toNat)) + (((band (((band (a1 - (band (a1 / 2 ^ (1 : Int).toNat) 1431655765)) 858993459) + (band ((a1 - (band (a1 / 2 ^ (1 : Int).toNat) 1431655765)) / 2 ^ (2 : Int).toNat) 858993459)) + (((band (a1 - (band (a1 / 2 ^ (1 : Int).toNat) 1431655765)) 858993459) + (band ((a1 - (band (a1 / 2 ^ (1 : Int).toNat) 1431655765)) / 2 ^ (2 : Int).toNat) 858993459)) / 2 ^ (4 : Int).toNat)) 252645135) + ((band (((band (a1 - (band (a1 / 2 ^ (1 : Int).toNat) 1431655765)) 858993459) + (band ((a1 - (band (a1 / 2 ^ (1 : Int).toNat) 1431655765)) / 2 ^ (2 : Int).toNat) 858993459)) + (((band (a1 - (band (a1 / 2 ^ (1 : Int).toNat) 1431655765)) 858993459) + (band ((a1 - (band (a1 / 2 ^ (1 : Int).toNat) 1431655765)) / 2 ^ (2 : Int).toNat) 858993459)) / 2 ^ (4 : Int).toNat)) 252645135) / 2 ^ (8 : Int).toNat)) / 2 ^ (16 : Int).toNat))))]) [0] dJ10_bitCount_47 rfl (by decide) rfl ?_
  refine jw_iload_n F 0 dJ10_bitCount_48 rfl rfl ?_
  refine jw_bipush F (z := 63) dJ10_bitCount_49 (by decide) ?_
  obtain ⟨o_15, h⟩ := h
  refine jw_iand F o_15 (by decide) dJ10_bitCount_51 ?_
  exact rt _ _ _ _ dJ10_bitCount_52 ⟨rfl, h⟩
theorem hd_J2_size : yJ2_size.cls = RJ2 ∧ yJ2_size.cls ≠ "java/lang/invoke/MethodHandle" ∧ yJ2_size.cls ≠ "java/lang/invoke/VarHandle" ∧ (parseMethodDescriptor yJ2_size.desc).map (fun d => d.parameters.length) = some 0 := by decide +kernel
set_option maxHeartbeats 4000000 in
set_option maxRecDepth 100000 in
theorem wk_J2_size {l : Launch} {D : va_G} {dA : Nat → ClassId} {ad : Nat → Nat} {s : Sg} {Q : Int → Prop} (h : wp_J2_size s Q) : MXi l D dA (xwf dA ad) yJ2_size cJ2_size 1 .int ({ frames := 0, cells := 0, slots := 0, locals := 0 } : Room) [.ref (ad 5000)] s (fun z s' => s' = s ∧ Q z) := by
  unfold wp_J2_size at h
  refine jw_start_i (own := RJ2) (lv0 := [(0, .ref (ad 5000))]) (by decide) rfl (Nat.le_of_ble_eq_true rfl) rfl (fun G F rt => ?_)
  refine jw_aload_n F 0 dJ2_size_0 rfl rfl ?_
  refine gx_J2_48_L F dJ2_size_1 ?_
  exact rt _ _ _ _ dJ2_size_4 ⟨rfl, h⟩
theorem hd_X1_has : yX1_has.cls = RX1 ∧ yX1_has.cls ≠ "java/lang/invoke/MethodHandle" ∧ yX1_has.cls ≠ "java/lang/invoke/VarHandle" ∧ (parseMethodDescriptor yX1_has.desc).map (fun d => d.parameters.length) = some 2 := by decide +kernel
set_option maxHeartbeats 4000000 in
set_option maxRecDepth 100000 in
theorem wk_X1_has_1 {l : Launch} {D : va_G} {dA : Nat → ClassId} {ad : Nat → Nat} {s : Sg} {a1 a2 : Int} {Q : Int → Prop} (h : wp_X1_has 1 36 19 20 21 a1 a2 s Q) : MXi l D dA (xwf dA ad) yX1_has cX1_has 3 .boolean ({ frames := 0, cells := 0, slots := 0, locals := 0 } : Room) [.ref (ad 1), .int (iI a1), .int (iI a2)] s (fun z s' => (z = 0 ∨ z = 1) ∧ s' = s ∧ Q z) := by
  unfold wp_X1_has at h
  refine jw_start_z (own := RX1) (lv0 := [(0, .ref (ad 1)), (1, .int (iI a1)), (2, .int (iI a2))]) (by decide) rfl (Nat.le_of_ble_eq_true rfl) rfl (fun G F rt => ?_)
  refine jw_aload_n F 0 dX1_has_0 rfl rfl ?_
  refine gx_X1_11_1 F dX1_has_1 ?_
  refine jw_iload_n F 1 dX1_has_4 rfl rfl ?_
  obtain ⟨o_1, o_2, h⟩ := h
  refine jw_aald F (xO dA ad) (k := 18) (by decide) (xa_18 dA ad) 3 rfl rfl (by decide) o_1 o_2 dX1_has_5 ?_
  refine jw_iconst F dX1_has_6 ?_
  refine jw_iald F (xO dA ad) (k := (36 + (a1 : Int).toNat)) (by omega) (xr_3 dA ad (by omega) (by omega)) 0 rfl (by decide) (by decide) (by decide) dX1_has_7 ?_
  refine jw_iload_n F 2 dX1_has_8 rfl rfl ?_
  obtain ⟨o_3, h⟩ := h
  obtain ⟨o_4, h⟩ := h
  refine jn0_r (G s 36 [] []) h (fun h => ?_) (fun K_5 h j_6 => ?_)
  · refine jw_iconst F dX1_has_36 ?_
    refine jw_goto F (tgt := 41) dX1_has_37 (by decide) ?_
    exact rt _ _ _ _ dX1_has_41 (by decide) ⟨(by decide), rfl, h⟩
  · refine jw_icmp_eq F o_3 o_4 (tgt := 36) dX1_has_9 (by decide) (fun c => ?_) (fun c => ?_)
    · have h := h.1 (c)
      refine jw_sub F (lv' := []) [] rfl ?_
      exact j_6 h
    · have h := h.2 (c)
      refine jw_aload_n F 0 dX1_has_12 rfl rfl ?_
      refine gx_X1_11_1 F dX1_has_13 ?_
      refine jw_iload_n F 1 dX1_has_16 rfl rfl ?_
      obtain ⟨o_7, o_8, h⟩ := h
      refine jw_aald F (xO dA ad) (k := 18) (by decide) (xa_18 dA ad) 3 rfl rfl (by decide) o_7 o_8 dX1_has_17 ?_
      refine jw_iconst F dX1_has_18 ?_
      refine jw_iald F (xO dA ad) (k := (36 + (a1 : Int).toNat)) (by omega) (xr_3 dA ad (by omega) (by omega)) 0 rfl (by decide) (by decide) (by decide) dX1_has_19 ?_
      refine jw_iload_n F 2 dX1_has_20 rfl rfl ?_
      obtain ⟨o_9, h⟩ := h
      obtain ⟨o_10, h⟩ := h
      refine jw_icmp_eq F o_9 o_10 (tgt := 36) dX1_has_21 (by decide) (fun c => ?_) (fun c => ?_)
      · have h := h.1 (c)
        refine jw_sub F (lv' := []) [] rfl ?_
        exact j_6 h
      · have h := h.2 (c)
        refine jw_aload_n F 0 dX1_has_24 rfl rfl ?_
        refine gx_X1_11_1 F dX1_has_25 ?_
        refine jw_iload_n F 1 dX1_has_28 rfl rfl ?_
        obtain ⟨o_11, o_12, h⟩ := h
        refine jw_aald F (xO dA ad) (k := 18) (by decide) (xa_18 dA ad) 3 rfl rfl (by decide) o_11 o_12 dX1_has_29 ?_
        refine jw_iconst F dX1_has_30 ?_
        refine jw_iald F (xO dA ad) (k := (36 + (a1 : Int).toNat)) (by omega) (xr_3 dA ad (by omega) (by omega)) 0 rfl (by decide) (by decide) (by decide) dX1_has_31 ?_
        refine jw_iload_n F 2 dX1_has_32 rfl rfl ?_
        obtain ⟨o_13, h⟩ := h
        obtain ⟨o_14, h⟩ := h
        refine jw_icmp_ne F o_13 o_14 (tgt := 40) dX1_has_33 (by decide) (fun c => ?_) (fun c => ?_)
        · have h := h.1 (c)
          refine jw_iconst F dX1_has_40 ?_
          exact rt _ _ _ _ dX1_has_41 (by decide) ⟨(by decide), rfl, h⟩
        · have h := h.2 (c)
          refine jw_sub F (lv' := []) [] rfl ?_
          exact j_6 h
set_option maxHeartbeats 4000000 in
set_option maxRecDepth 100000 in
theorem wk_X1_has_2 {l : Launch} {D : va_G} {dA : Nat → ClassId} {ad : Nat → Nat} {s : Sg} {a1 a2 : Int} {Q : Int → Prop} (h : wp_X1_has 2 156 23 24 25 a1 a2 s Q) : MXi l D dA (xwf dA ad) yX1_has cX1_has 3 .boolean ({ frames := 0, cells := 0, slots := 0, locals := 0 } : Room) [.ref (ad 2), .int (iI a1), .int (iI a2)] s (fun z s' => (z = 0 ∨ z = 1) ∧ s' = s ∧ Q z) := by
  unfold wp_X1_has at h
  refine jw_start_z (own := RX1) (lv0 := [(0, .ref (ad 2)), (1, .int (iI a1)), (2, .int (iI a2))]) (by decide) rfl (Nat.le_of_ble_eq_true rfl) rfl (fun G F rt => ?_)
  refine jw_aload_n F 0 dX1_has_0 rfl rfl ?_
  refine gx_X1_11_2 F dX1_has_1 ?_
  refine jw_iload_n F 1 dX1_has_4 rfl rfl ?_
  obtain ⟨o_1, o_2, h⟩ := h
  refine jw_aald F (xO dA ad) (k := 22) (by decide) (xa_22 dA ad) 3 rfl rfl (by decide) o_1 o_2 dX1_has_5 ?_
  refine jw_iconst F dX1_has_6 ?_
  refine jw_iald F (xO dA ad) (k := (156 + (a1 : Int).toNat)) (by omega) (xr_3 dA ad (by omega) (by omega)) 0 rfl (by decide) (by decide) (by decide) dX1_has_7 ?_
  refine jw_iload_n F 2 dX1_has_8 rfl rfl ?_
  obtain ⟨o_3, h⟩ := h
  obtain ⟨o_4, h⟩ := h
  refine jn0_r (G s 36 [] []) h (fun h => ?_) (fun K_5 h j_6 => ?_)
  · refine jw_iconst F dX1_has_36 ?_
    refine jw_goto F (tgt := 41) dX1_has_37 (by decide) ?_
    exact rt _ _ _ _ dX1_has_41 (by decide) ⟨(by decide), rfl, h⟩
  · refine jw_icmp_eq F o_3 o_4 (tgt := 36) dX1_has_9 (by decide) (fun c => ?_) (fun c => ?_)
    · have h := h.1 (c)
      refine jw_sub F (lv' := []) [] rfl ?_
      exact j_6 h
    · have h := h.2 (c)
      refine jw_aload_n F 0 dX1_has_12 rfl rfl ?_
      refine gx_X1_11_2 F dX1_has_13 ?_
      refine jw_iload_n F 1 dX1_has_16 rfl rfl ?_
      obtain ⟨o_7, o_8, h⟩ := h
      refine jw_aald F (xO dA ad) (k := 22) (by decide) (xa_22 dA ad) 3 rfl rfl (by decide) o_7 o_8 dX1_has_17 ?_
      refine jw_iconst F dX1_has_18 ?_
      refine jw_iald F (xO dA ad) (k := (156 + (a1 : Int).toNat)) (by omega) (xr_3 dA ad (by omega) (by omega)) 0 rfl (by decide) (by decide) (by decide) dX1_has_19 ?_
      refine jw_iload_n F 2 dX1_has_20 rfl rfl ?_
      obtain ⟨o_9, h⟩ := h
      obtain ⟨o_10, h⟩ := h
      refine jw_icmp_eq F o_9 o_10 (tgt := 36) dX1_has_21 (by decide) (fun c => ?_) (fun c => ?_)
      · have h := h.1 (c)
        refine jw_sub F (lv' := []) [] rfl ?_
        exact j_6 h
      · have h := h.2 (c)
        refine jw_aload_n F 0 dX1_has_24 rfl rfl ?_
        refine gx_X1_11_2 F dX1_has_25 ?_
        refine jw_iload_n F 1 dX1_has_28 rfl rfl ?_
        obtain ⟨o_11, o_12, h⟩ := h
        refine jw_aald F (xO dA ad) (k := 22) (by decide) (xa_22 dA ad) 3 rfl rfl (by decide) o_11 o_12 dX1_has_29 ?_
        refine jw_iconst F dX1_has_30 ?_
        refine jw_iald F (xO dA ad) (k := (156 + (a1 : Int).toNat)) (by omega) (xr_3 dA ad (by omega) (by omega)) 0 rfl (by decide) (by decide) (by decide) dX1_has_31 ?_
        refine jw_iload_n F 2 dX1_has_32 rfl rfl ?_
        obtain ⟨o_13, h⟩ := h
        obtain ⟨o_14, h⟩ := h
        refine jw_icmp_ne F o_13 o_14 (tgt := 40) dX1_has_33 (by decide) (fun c => ?_) (fun c => ?_)
        · have h := h.1 (c)
          refine jw_iconst F dX1_has_40 ?_
          exact rt _ _ _ _ dX1_has_41 (by decide) ⟨(by decide), rfl, h⟩
        · have h := h.2 (c)
          refine jw_sub F (lv' := []) [] rfl ?_
          exact j_6 h
theorem hd_X1_number : yX1_number.cls = RX1 ∧ yX1_number.cls ≠ "java/lang/invoke/MethodHandle" ∧ yX1_number.cls ≠ "java/lang/invoke/VarHandle" ∧ (parseMethodDescriptor yX1_number.desc).map (fun d => d.parameters.length) = some 3 := by decide +kernel
set_option maxHeartbeats 4000000 in
set_option maxRecDepth 100000 in
theorem wk_X1_number_1 {l : Launch} {D : va_G} {dA : Nat → ClassId} {ad : Nat → Nat} {s : Sg} {a1 a2 a3 : Int} {Q : Int → Prop} (h : wp_X1_number 1 36 19 20 21 a1 a2 a3 s Q) : MXi l D dA (xwf dA ad) yX1_number cX1_number 5 .int ({ frames := 1, cells := 0, slots := 0, locals := 22 } : Room) [.ref (ad 1), .int (iI a1), .int (iI a2), .int (iI a3)] s (fun z s' => s' = s ∧ Q z) := by
  unfold wp_X1_number at h
  refine jw_start_i (own := RX1) (lv0 := [(0, .ref (ad 1)), (1, .int (iI a1)), (2, .int (iI a2)), (3, .int (iI a3))]) (by decide) rfl (Nat.le_of_ble_eq_true rfl) rfl (fun G F rt => ?_)
  refine jw_iconst F dX1_number_0 ?_
  refine jw_istore F (lv' := [(0, .ref (ad 1)), (1, .int (iI a1)), (2, .int (iI a2)), (3, .int (iI a3)), (4, .int (iI 0))]) [1, 2, 3, 4, 0] dX1_number_1 (by decide) rfl ?_
  refine lp1_r (fun x4_1 => G s 3 [(0, .ref (ad 1)), (1, .int (iI a1)), (2, .int (iI a2)), (3, .int (iI a3)), (4, .int (iI x4_1))] []) h (fun x4_1 K_2 h ih_3 => ?_)
  refine jw_aload_n F 0 dX1_number_3 rfl rfl ?_
  refine jw_iload F 4 dX1_number_4 rfl ?_
  refine jw_iload_n F 1 dX1_number_6 rfl rfl ?_
  refine jw_callVzp F (wk_X1_has_1 h) (lw_V q217 q219 qs2 q74 q220) hd_X1_has ⟨rfl, rfl, Nat.le_of_ble_eq_true rfl, Nat.le_of_ble_eq_true rfl⟩ rfl rfl (xh_1 dA ad _) rfl rfl rfl (Nat.le_of_ble_eq_true rfl) dX1_number_7 (fun r_4 hb_r_4 h => ?_)
  refine jn0_r (G s 33 [(0, .ref (ad 1)), (1, .int (iI a1)), (2, .int (iI a2)), (3, .int (iI a3)), (4, .int (iI x4_1))] []) h (fun h => ?_) (fun K_6 h j_7 => ?_)
  · refine jw_iinc F (lv' := [(0, .ref (ad 1)), (1, .int (iI a1)), (2, .int (iI a2)), (3, .int (iI a3)), (4, .int (iI (x4_1 + 1)))]) 4 [1, 2, 3, 4, 0] dX1_number_33 rfl (by decide) rfl ?_
    refine jw_goto F (tgt := 3) dX1_number_36 (by decide) ?_
    exact ih_3 _ h
  · refine jw_if_eq F (rg01 hb_r_4) (tgt := 33) dX1_number_10 (by decide) (fun c => ?_) (fun c => ?_)
    · have h := h.1 (c)
      exact j_7 h
    · have h := h.2 (c)
      refine jw_aload_n F 0 dX1_number_13 rfl rfl ?_
      refine jw_iload F 4 dX1_number_14 rfl ?_
      refine jw_iload_n F 2 dX1_number_16 rfl rfl ?_
      refine jw_callVzp F (wk_X1_has_1 h) (lw_V q217 q219 qs2 q74 q220) hd_X1_has ⟨rfl, rfl, Nat.le_of_ble_eq_true rfl, Nat.le_of_ble_eq_true rfl⟩ rfl rfl (xh_1 dA ad _) rfl rfl rfl (Nat.le_of_ble_eq_true rfl) dX1_number_17 (fun r_8 hb_r_8 h => ?_)
      refine jw_if_eq F (rg01 hb_r_8) (tgt := 33) dX1_number_20 (by decide) (fun c => ?_) (fun c => ?_)
      · have h := h.1 (c)
        exact j_7 h
      · have h := h.2 (c)
        refine jw_aload_n F 0 dX1_number_23 rfl rfl ?_
        refine jw_iload F 4 dX1_number_24 rfl ?_
        refine jw_iload_n F 3 dX1_number_26 rfl rfl ?_
        refine jw_callVzp F (wk_X1_has_1 h) (lw_V q217 q219 qs2 q74 q220) hd_X1_has ⟨rfl, rfl, Nat.le_of_ble_eq_true rfl, Nat.le_of_ble_eq_true rfl⟩ rfl rfl (xh_1 dA ad _) rfl rfl rfl (Nat.le_of_ble_eq_true rfl) dX1_number_27 (fun r_10 hb_r_10 h => ?_)
        refine jw_if_ne F (rg01 hb_r_10) (tgt := 39) dX1_number_30 (by decide) (fun c => ?_) (fun c => ?_)
        · have h := h.1 (c)
          refine jw_iload F 4 dX1_number_39 rfl ?_
          exact rt _ _ _ _ dX1_number_41 ⟨rfl, h⟩
        · have h := h.2 (c)
          exact j_7 h
set_option maxHeartbeats 4000000 in
set_option maxRecDepth 100000 in
theorem wk_X1_number_2 {l : Launch} {D : va_G} {dA : Nat → ClassId} {ad : Nat → Nat} {s : Sg} {a1 a2 a3 : Int} {Q : Int → Prop} (h : wp_X1_number 2 156 23 24 25 a1 a2 a3 s Q) : MXi l D dA (xwf dA ad) yX1_number cX1_number 5 .int ({ frames := 1, cells := 0, slots := 0, locals := 22 } : Room) [.ref (ad 2), .int (iI a1), .int (iI a2), .int (iI a3)] s (fun z s' => s' = s ∧ Q z) := by
  unfold wp_X1_number at h
  refine jw_start_i (own := RX1) (lv0 := [(0, .ref (ad 2)), (1, .int (iI a1)), (2, .int (iI a2)), (3, .int (iI a3))]) (by decide) rfl (Nat.le_of_ble_eq_true rfl) rfl (fun G F rt => ?_)
  refine jw_iconst F dX1_number_0 ?_
  refine jw_istore F (lv' := [(0, .ref (ad 2)), (1, .int (iI a1)), (2, .int (iI a2)), (3, .int (iI a3)), (4, .int (iI 0))]) [1, 2, 3, 4, 0] dX1_number_1 (by decide) rfl ?_
  refine lp1_r (fun x4_1 => G s 3 [(0, .ref (ad 2)), (1, .int (iI a1)), (2, .int (iI a2)), (3, .int (iI a3)), (4, .int (iI x4_1))] []) h (fun x4_1 K_2 h ih_3 => ?_)
  refine jw_aload_n F 0 dX1_number_3 rfl rfl ?_
  refine jw_iload F 4 dX1_number_4 rfl ?_
  refine jw_iload_n F 1 dX1_number_6 rfl rfl ?_
  refine jw_callVzp F (wk_X1_has_2 h) (lw_V q217 q219 qs2 q74 q220) hd_X1_has ⟨rfl, rfl, Nat.le_of_ble_eq_true rfl, Nat.le_of_ble_eq_true rfl⟩ rfl rfl (xh_2 dA ad _) rfl rfl rfl (Nat.le_of_ble_eq_true rfl) dX1_number_7 (fun r_4 hb_r_4 h => ?_)
  refine jn0_r (G s 33 [(0, .ref (ad 2)), (1, .int (iI a1)), (2, .int (iI a2)), (3, .int (iI a3)), (4, .int (iI x4_1))] []) h (fun h => ?_) (fun K_6 h j_7 => ?_)
  · refine jw_iinc F (lv' := [(0, .ref (ad 2)), (1, .int (iI a1)), (2, .int (iI a2)), (3, .int (iI a3)), (4, .int (iI (x4_1 + 1)))]) 4 [1, 2, 3, 4, 0] dX1_number_33 rfl (by decide) rfl ?_
    refine jw_goto F (tgt := 3) dX1_number_36 (by decide) ?_
    exact ih_3 _ h
  · refine jw_if_eq F (rg01 hb_r_4) (tgt := 33) dX1_number_10 (by decide) (fun c => ?_) (fun c => ?_)
    · have h := h.1 (c)
      exact j_7 h
    · have h := h.2 (c)
      refine jw_aload_n F 0 dX1_number_13 rfl rfl ?_
      refine jw_iload F 4 dX1_number_14 rfl ?_
      refine jw_iload_n F 2 dX1_number_16 rfl rfl ?_
      refine jw_callVzp F (wk_X1_has_2 h) (lw_V q217 q219 qs2 q74 q220) hd_X1_has ⟨rfl, rfl, Nat.le_of_ble_eq_true rfl, Nat.le_of_ble_eq_true rfl⟩ rfl rfl (xh_2 dA ad _) rfl rfl rfl (Nat.le_of_ble_eq_true rfl) dX1_number_17 (fun r_8 hb_r_8 h => ?_)
      refine jw_if_eq F (rg01 hb_r_8) (tgt := 33) dX1_number_20 (by decide) (fun c => ?_) (fun c => ?_)
      · have h := h.1 (c)
        exact j_7 h
      · have h := h.2 (c)
        refine jw_aload_n F 0 dX1_number_23 rfl rfl ?_
        refine jw_iload F 4 dX1_number_24 rfl ?_
        refine jw_iload_n F 3 dX1_number_26 rfl rfl ?_
        refine jw_callVzp F (wk_X1_has_2 h) (lw_V q217 q219 qs2 q74 q220) hd_X1_has ⟨rfl, rfl, Nat.le_of_ble_eq_true rfl, Nat.le_of_ble_eq_true rfl⟩ rfl rfl (xh_2 dA ad _) rfl rfl rfl (Nat.le_of_ble_eq_true rfl) dX1_number_27 (fun r_10 hb_r_10 h => ?_)
        refine jw_if_ne F (rg01 hb_r_10) (tgt := 39) dX1_number_30 (by decide) (fun c => ?_) (fun c => ?_)
        · have h := h.1 (c)
          refine jw_iload F 4 dX1_number_39 rfl ?_
          exact rt _ _ _ _ dX1_number_41 ⟨rfl, h⟩
        · have h := h.2 (c)
          exact j_7 h
theorem hd_X1_sounds : yX1_sounds.cls = RX1 ∧ yX1_sounds.cls ≠ "java/lang/invoke/MethodHandle" ∧ yX1_sounds.cls ≠ "java/lang/invoke/VarHandle" ∧ (parseMethodDescriptor yX1_sounds.desc).map (fun d => d.parameters.length) = some 2 := by decide +kernel
set_option maxHeartbeats 4000000 in
set_option maxRecDepth 100000 in
theorem wk_X1_sounds_1 {l : Launch} {D : va_G} {dA : Nat → ClassId} {ad : Nat → Nat} {s : Sg} {a1 a2 : Int} {Q : Int → Prop} (h : wp_X1_sounds 1 36 19 20 21 a1 a2 s Q) : MXi l D dA (xwf dA ad) yX1_sounds cX1_sounds 4 .int ({ frames := 3, cells := 0, slots := 0, locals := 120 } : Room) [.ref (ad 1), .int (iI a1), .ref (ad (5002 + (a2 : Int).toNat))] s (fun z s' => s' = s ∧ Q z) := by
  unfold wp_X1_sounds at h
  refine jw_start_i (own := RX1) (lv0 := [(0, .ref (ad 1)), (1, .int (iI a1)), (2, .ref (ad (5002 + (a2 : Int).toNat)))]) (by decide) rfl (Nat.le_of_ble_eq_true rfl) rfl (fun G F rt => ?_)
  refine jw_aload_n F 0 dX1_sounds_0 rfl rfl ?_
  refine gx_X1_11_1 F dX1_sounds_1 ?_
  refine jw_iload_n F 1 dX1_sounds_4 rfl rfl ?_
  obtain ⟨o_1, o_2, h⟩ := h
  refine jw_aald F (xO dA ad) (k := 18) (by decide) (xa_18 dA ad) 3 rfl rfl (by decide) o_1 o_2 dX1_sounds_5 ?_
  refine jw_astore_n F (lv' := [(0, .ref (ad 1)), (1, .int (iI a1)), (2, .ref (ad (5002 + (a2 : Int).toNat))), (3, .ref (ad (36 + (a1 : Int).toNat)))]) [1, 2, 3, 0] dX1_sounds_6 rfl (by decide) rfl ?_
  refine jw_aload_n F 0 dX1_sounds_7 rfl rfl ?_
  refine jw_aload_n F 2 dX1_sounds_8 rfl rfl ?_
  refine jw_aload_n F 3 dX1_sounds_9 rfl rfl ?_
  refine jw_iconst F dX1_sounds_10 ?_
  refine jw_iald F (xO dA ad) (k := (36 + (a1 : Int).toNat)) (by omega) (xr_3 dA ad (by omega) (by omega)) 0 rfl (by decide) (by decide) (by decide) dX1_sounds_11 ?_
  refine jw_aload_n F 0 dX1_sounds_12 rfl rfl ?_
  refine gx_X1_26_1 F dX1_sounds_13 ?_
  obtain ⟨o_3, o_4, o_5, o_6, h⟩ := h
  refine jx_sounds_X1 F ⟨Nat.le_of_ble_eq_true rfl, Nat.le_of_ble_eq_true rfl⟩ o_3 o_4 o_5 o_6 dX1_sounds_16 (Nat.le_of_ble_eq_true rfl) ?_
  refine jw_aload_n F 2 dX1_sounds_19 rfl rfl ?_
  refine jw_aload_n F 3 dX1_sounds_20 rfl rfl ?_
  refine jw_iconst F dX1_sounds_21 ?_
  refine jw_iald F (xO dA ad) (k := (36 + (a1 : Int).toNat)) (by omega) (xr_3 dA ad (by omega) (by omega)) 0 rfl (by decide) (by decide) (by decide) dX1_sounds_22 ?_
  refine jw_aload_n F 0 dX1_sounds_23 rfl rfl ?_
  refine gx_X1_26_1 F dX1_sounds_24 ?_
  obtain ⟨o_7, o_8, o_9, o_10, h⟩ := h
  refine jx_sounds_X1 F ⟨Nat.le_of_ble_eq_true rfl, Nat.le_of_ble_eq_true rfl⟩ o_7 o_8 o_9 o_10 dX1_sounds_27 (Nat.le_of_ble_eq_true rfl) ?_
  refine jw_aload_n F 2 dX1_sounds_30 rfl rfl ?_
  refine jw_aload_n F 3 dX1_sounds_31 rfl rfl ?_
  refine jw_iconst F dX1_sounds_32 ?_
  refine jw_iald F (xO dA ad) (k := (36 + (a1 : Int).toNat)) (by omega) (xr_3 dA ad (by omega) (by omega)) 0 rfl (by decide) (by decide) (by decide) dX1_sounds_33 ?_
  refine jw_aload_n F 0 dX1_sounds_34 rfl rfl ?_
  refine gx_X1_26_1 F dX1_sounds_35 ?_
  obtain ⟨o_11, o_12, o_13, o_14, h⟩ := h
  refine jx_sounds_X1 F ⟨Nat.le_of_ble_eq_true rfl, Nat.le_of_ble_eq_true rfl⟩ o_11 o_12 o_13 o_14 dX1_sounds_38 (Nat.le_of_ble_eq_true rfl) ?_
  refine jw_callVip F (wk_X1_number_1 h) (lw_V q213 q214 q215 q74 q216) hd_X1_number ⟨rfl, rfl, Nat.le_of_ble_eq_true rfl, Nat.le_of_ble_eq_true rfl⟩ rfl rfl (xh_1 dA ad _) rfl rfl rfl (Nat.le_of_ble_eq_true rfl) dX1_sounds_41 (fun r_15 h => ?_)
  exact rt _ _ _ _ dX1_sounds_44 ⟨rfl, h⟩
set_option maxHeartbeats 4000000 in
set_option maxRecDepth 100000 in
theorem wk_X1_sounds_2 {l : Launch} {D : va_G} {dA : Nat → ClassId} {ad : Nat → Nat} {s : Sg} {a1 a2 : Int} {Q : Int → Prop} (h : wp_X1_sounds 2 156 23 24 25 a1 a2 s Q) : MXi l D dA (xwf dA ad) yX1_sounds cX1_sounds 4 .int ({ frames := 3, cells := 0, slots := 0, locals := 120 } : Room) [.ref (ad 2), .int (iI a1), .ref (ad (5002 + (a2 : Int).toNat))] s (fun z s' => s' = s ∧ Q z) := by
  unfold wp_X1_sounds at h
  refine jw_start_i (own := RX1) (lv0 := [(0, .ref (ad 2)), (1, .int (iI a1)), (2, .ref (ad (5002 + (a2 : Int).toNat)))]) (by decide) rfl (Nat.le_of_ble_eq_true rfl) rfl (fun G F rt => ?_)
  refine jw_aload_n F 0 dX1_sounds_0 rfl rfl ?_
  refine gx_X1_11_2 F dX1_sounds_1 ?_
  refine jw_iload_n F 1 dX1_sounds_4 rfl rfl ?_
  obtain ⟨o_1, o_2, h⟩ := h
  refine jw_aald F (xO dA ad) (k := 22) (by decide) (xa_22 dA ad) 3 rfl rfl (by decide) o_1 o_2 dX1_sounds_5 ?_
  refine jw_astore_n F (lv' := [(0, .ref (ad 2)), (1, .int (iI a1)), (2, .ref (ad (5002 + (a2 : Int).toNat))), (3, .ref (ad (156 + (a1 : Int).toNat)))]) [1, 2, 3, 0] dX1_sounds_6 rfl (by decide) rfl ?_
  refine jw_aload_n F 0 dX1_sounds_7 rfl rfl ?_
  refine jw_aload_n F 2 dX1_sounds_8 rfl rfl ?_
  refine jw_aload_n F 3 dX1_sounds_9 rfl rfl ?_
  refine jw_iconst F dX1_sounds_10 ?_
  refine jw_iald F (xO dA ad) (k := (156 + (a1 : Int).toNat)) (by omega) (xr_3 dA ad (by omega) (by omega)) 0 rfl (by decide) (by decide) (by decide) dX1_sounds_11 ?_
  refine jw_aload_n F 0 dX1_sounds_12 rfl rfl ?_
  refine gx_X1_26_2 F dX1_sounds_13 ?_
  obtain ⟨o_3, o_4, o_5, o_6, h⟩ := h
  refine jx_sounds_X1 F ⟨Nat.le_of_ble_eq_true rfl, Nat.le_of_ble_eq_true rfl⟩ o_3 o_4 o_5 o_6 dX1_sounds_16 (Nat.le_of_ble_eq_true rfl) ?_
  refine jw_aload_n F 2 dX1_sounds_19 rfl rfl ?_
  refine jw_aload_n F 3 dX1_sounds_20 rfl rfl ?_
  refine jw_iconst F dX1_sounds_21 ?_
  refine jw_iald F (xO dA ad) (k := (156 + (a1 : Int).toNat)) (by omega) (xr_3 dA ad (by omega) (by omega)) 0 rfl (by decide) (by decide) (by decide) dX1_sounds_22 ?_
  refine jw_aload_n F 0 dX1_sounds_23 rfl rfl ?_
  refine gx_X1_26_2 F dX1_sounds_24 ?_
  obtain ⟨o_7, o_8, o_9, o_10, h⟩ := h
  refine jx_sounds_X1 F ⟨Nat.le_of_ble_eq_true rfl, Nat.le_of_ble_eq_true rfl⟩ o_7 o_8 o_9 o_10 dX1_sounds_27 (Nat.le_of_ble_eq_true rfl) ?_
  refine jw_aload_n F 2 dX1_sounds_30 rfl rfl ?_
  refine jw_aload_n F 3 dX1_sounds_31 rfl rfl ?_
  refine jw_iconst F dX1_sounds_32 ?_
  refine jw_iald F (xO dA ad) (k := (156 + (a1 : Int).toNat)) (by omega) (xr_3 dA ad (by omega) (by omega)) 0 rfl (by decide) (by decide) (by decide) dX1_sounds_33 ?_
  refine jw_aload_n F 0 dX1_sounds_34 rfl rfl ?_
  refine gx_X1_26_2 F dX1_sounds_35 ?_
  obtain ⟨o_11, o_12, o_13, o_14, h⟩ := h
  refine jx_sounds_X1 F ⟨Nat.le_of_ble_eq_true rfl, Nat.le_of_ble_eq_true rfl⟩ o_11 o_12 o_13 o_14 dX1_sounds_38 (Nat.le_of_ble_eq_true rfl) ?_
  refine jw_callVip F (wk_X1_number_2 h) (lw_V q213 q214 q215 q74 q216) hd_X1_number ⟨rfl, rfl, Nat.le_of_ble_eq_true rfl, Nat.le_of_ble_eq_true rfl⟩ rfl rfl (xh_2 dA ad _) rfl rfl rfl (Nat.le_of_ble_eq_true rfl) dX1_sounds_41 (fun r_15 h => ?_)
  exact rt _ _ _ _ dX1_sounds_44 ⟨rfl, h⟩
theorem hd_X0_spread : yX0_spread.cls = RX0 ∧ yX0_spread.cls ≠ "java/lang/invoke/MethodHandle" ∧ yX0_spread.cls ≠ "java/lang/invoke/VarHandle" ∧ (parseMethodDescriptor yX0_spread.desc).map (fun d => d.parameters.length) = some 2 := by decide +kernel
set_option maxHeartbeats 4000000 in
set_option maxRecDepth 100000 in
theorem wk_X0_spread_1 {l : Launch} {D : va_G} {dA : Nat → ClassId} {ad : Nat → Nat} {s : Sg} {a2 : Int} {Q : Int → Sg → Prop} (h : wp_X0_spread 1 36 19 20 21 a2 s Q) : MXi l D dA (xwf dA ad) yX0_spread cX0_spread 7 .int ({ frames := 4, cells := 0, slots := 0, locals := 143 } : Room) [.ref (ad 0), .ref (ad 1), .int (iI a2)] s Q := by
  unfold wp_X0_spread at h
  refine jw_start_i (own := RX0) (lv0 := [(0, .ref (ad 0)), (1, .ref (ad 1)), (2, .int (iI a2))]) (by decide) rfl (Nat.le_of_ble_eq_true rfl) rfl (fun G F rt => ?_)
  refine jw_iconst F dX0_spread_0 ?_
  refine jw_istore_n F (lv' := [(0, .ref (ad 0)), (1, .ref (ad 1)), (2, .int (iI a2)), (3, .int (iI 1))]) [1, 2, 3, 0] dX0_spread_1 rfl (by decide) rfl ?_
  refine jw_aload_n F 0 dX0_spread_2 rfl rfl ?_
  refine gx_X0_30_0 F dX0_spread_3 ?_
  refine jw_iconst F dX0_spread_6 ?_
  refine jw_iload_n F 2 dX0_spread_7 rfl rfl ?_
  refine jw_iast F (xO dA ad) (k := 4) (by decide) (xa_4 dA ad) 0 rfl (by decide) (by decide) (by decide) dX0_spread_8 ?_
  refine jw_aload_n F 1 dX0_spread_9 rfl rfl ?_
  refine gx_X0_154_1 F dX0_spread_10 ?_
  refine jw_iload_n F 2 dX0_spread_13 rfl rfl ?_
  refine jw_aload_n F 1 dX0_spread_14 rfl rfl ?_
  refine gx_X0_118_1 F dX0_spread_15 ?_
  obtain ⟨o_1, o_2, h⟩ := h
  refine jw_iast F (xO dA ad) (k := 19) (by decide) (xa_19 dA ad) 0 rfl (by decide) o_1 o_2 dX0_spread_18 ?_
  refine jw_iconst F dX0_spread_19 ?_
  refine jw_istore F (lv' := [(0, .ref (ad 0)), (1, .ref (ad 1)), (2, .int (iI a2)), (3, .int (iI 1)), (4, .int (iI 0))]) [1, 2, 3, 4, 0] dX0_spread_20 (by decide) rfl ?_
  refine jw_sub F (lv' := [(0, .ref (ad 0)), (1, .ref (ad 1)), (3, .int (iI 1)), (4, .int (iI 0))]) [0, 1, 3, 4] rfl ?_
  refine lp3_r (fun x3_3 x4_4 s_5 => G s_5 22 [(0, .ref (ad 0)), (1, .ref (ad 1)), (3, .int (iI x3_3)), (4, .int (iI x4_4))] []) h (fun x3_3 x4_4 s_5 K_6 h ih_7 => ?_)
  refine jw_iload F 3 dX0_spread_22 rfl ?_
  refine jw_iload_n F 2 dX0_spread_24 rfl rfl ?_
  obtain ⟨o_8, h⟩ := h
  obtain ⟨o_9, h⟩ := h
  refine jw_icmp_ge F o_8 o_9 (tgt := 113) dX0_spread_25 (by decide) (fun c => ?_) (fun c => ?_)
  · have h := h.1 (c)
    refine jw_iload_n F 2 dX0_spread_113 rfl rfl ?_
    exact rt _ _ _ _ dX0_spread_114 h
  · have h := h.2 (c)
    refine jw_iconst F dX0_spread_28 ?_
    refine jw_istore F (lv' := [(0, .ref (ad 0)), (1, .ref (ad 1)), (3, .int (iI x3_3)), (4, .int (iI x4_4)), (5, .int (iI 0))]) [1, 2, 3, 4, 0] dX0_spread_29 (by decide) rfl ?_
    refine lp3_r (fun x3_10 x5_11 s_12 => G s_12 31 [(0, .ref (ad 0)), (1, .ref (ad 1)), (3, .int (iI x3_10)), (4, .int (iI x4_4)), (5, .int (iI x5_11))] []) h (fun x3_10 x5_11 s_12 K_13 h ih_14 => ?_)
    refine jw_iload F 4 dX0_spread_31 rfl ?_
    refine jw_aload_n F 0 dX0_spread_33 rfl rfl ?_
    refine gx_X0_10_0 F dX0_spread_34 ?_
    refine jw_callVip F (wk_J2_size h) (lw_V q178 q179 q180 q73 q181) hd_J2_size ⟨rfl, rfl, Nat.le_of_ble_eq_true rfl, Nat.le_of_ble_eq_true rfl⟩ rfl rfl (xh_L dA ad _) rfl rfl rfl (Nat.le_of_ble_eq_true rfl) dX0_spread_37 (fun r_15 h => ?_)
    obtain ⟨o_17, h⟩ := h
    obtain ⟨o_18, h⟩ := h
    refine jw_icmp_ge F o_17 o_18 (tgt := 107) dX0_spread_40 (by decide) (fun c => ?_) (fun c => ?_)
    · have h := h.1 (c)
      refine jw_iinc F (lv' := [(0, .ref (ad 0)), (1, .ref (ad 1)), (3, .int (iI x3_10)), (4, .int (iI (x4_4 + 1))), (5, .int (iI x5_11))]) 3 [1, 2, 3, 0, 4] dX0_spread_107 rfl (by decide) rfl ?_
      refine jw_goto F (tgt := 22) dX0_spread_110 (by decide) ?_
      refine jw_sub F (lv' := [(0, .ref (ad 0)), (1, .ref (ad 1)), (3, .int (iI x3_10)), (4, .int (iI (x4_4 + 1)))]) [0, 1, 2, 3] rfl ?_
      exact ih_7 _ _ _ h
    · have h := h.2 (c)
      refine jw_aload_n F 1 dX0_spread_43 rfl rfl ?_
      refine jw_aload_n F 0 dX0_spread_44 rfl rfl ?_
      refine gx_X0_30_0 F dX0_spread_45 ?_
      refine jw_iload F 3 dX0_spread_48 rfl ?_
      obtain ⟨o_19, o_20, h⟩ := h
      refine jw_iald F (xO dA ad) (k := 4) (by decide) (xa_4 dA ad) 0 rfl (by decide) o_19 o_20 dX0_spread_50 ?_
      refine jw_aload_n F 0 dX0_spread_51 rfl rfl ?_
      refine gx_X0_10_0 F dX0_spread_52 ?_
      refine jw_iload F 4 dX0_spread_55 rfl ?_
      obtain ⟨o_21, o_22, o_23, h⟩ := h
      refine jx_get_X0 F ⟨Nat.le_of_ble_eq_true rfl, Nat.le_of_ble_eq_true rfl⟩ o_21 o_22 o_23 dX0_spread_57 dX0_spread_60 (Nat.le_of_ble_eq_true rfl) ?_
      refine jw_callVip F (wk_X1_sounds_1 h) (lw_V q197 q198 q199 q74 q200) hd_X1_sounds ⟨rfl, rfl, Nat.le_of_ble_eq_true rfl, Nat.le_of_ble_eq_true rfl⟩ rfl rfl (xh_1 dA ad _) rfl rfl rfl (Nat.le_of_ble_eq_true rfl) dX0_spread_63 (fun r_24 h => ?_)
      refine jw_istore F (lv' := [(0, .ref (ad 0)), (1, .ref (ad 1)), (3, .int (iI x3_10)), (4, .int (iI x4_4)), (5, .int (iI x5_11)), (6, .int (iI r_24))]) [1, 2, 3, 4, 5, 0] dX0_spread_66 (by decide) rfl ?_
      refine jw_aload_n F 1 dX0_spread_68 rfl rfl ?_
      refine gx_X0_154_1 F dX0_spread_69 ?_
      refine jw_iload F 5 dX0_spread_72 rfl ?_
      obtain ⟨o_26, o_27, h⟩ := h
      refine jw_iald F (xO dA ad) (k := 19) (by decide) (xa_19 dA ad) 0 rfl (by decide) o_26 o_27 dX0_spread_74 ?_
      refine jw_iconst F dX0_spread_75 ?_
      obtain ⟨o_28, h⟩ := h
      refine jn2_r (fun x3_29 s_30 => G s_30 101 [(0, .ref (ad 0)), (1, .ref (ad 1)), (3, .int (iI x3_29)), (4, .int (iI x4_4)), (5, .int (iI x5_11))] []) h (fun x3_29 s_30 h => ?_) (fun K_31 h j_32 => ?_)
      · refine jw_iinc F (lv' := [(0, .ref (ad 0)), (1, .ref (ad 1)), (3, .int (iI x3_29)), (4, .int (iI x4_4)), (5, .int (iI (x5_11 + 1)))]) 4 [1, 2, 3, 4, 0] dX0_spread_101 rfl (by decide) rfl ?_
        refine jw_goto F (tgt := 31) dX0_spread_104 (by decide) ?_
        exact ih_14 _ _ _ h
      · refine jw_icmp_ne F o_28 (by decide) (tgt := 101) dX0_spread_76 (by decide) (fun c => ?_) (fun c => ?_)
        · have h := h.1 (c)
          refine jw_sub F (lv' := [(0, .ref (ad 0)), (1, .ref (ad 1)), (3, .int (iI x3_10)), (4, .int (iI x4_4)), (5, .int (iI x5_11))]) [0, 1, 2, 3, 4] rfl ?_
          exact j_32 _ _ h
        · have h := h.2 (c)
          refine jw_aload_n F 1 dX0_spread_79 rfl rfl ?_
          refine gx_X0_154_1 F dX0_spread_80 ?_
          refine jw_iload F 5 dX0_spread_83 rfl ?_
          refine jw_aload_n F 1 dX0_spread_85 rfl rfl ?_
          refine gx_X0_118_1 F dX0_spread_86 ?_
          obtain ⟨o_33, o_34, h⟩ := h
          refine jw_iast F (xO dA ad) (k := 19) (by decide) (xa_19 dA ad) 0 rfl (by decide) o_33 o_34 dX0_spread_89 ?_
          refine jw_aload_n F 0 dX0_spread_90 rfl rfl ?_
          refine gx_X0_30_0 F dX0_spread_91 ?_
          refine jw_iload_n F 2 dX0_spread_94 rfl rfl ?_
          refine jw_iload F 5 dX0_spread_95 rfl ?_
          obtain ⟨o_35, o_36, h⟩ := h
          refine jw_iast F (xO dA ad) (k := 4) (by decide) (xa_4 dA ad) 0 rfl (by decide) o_35 o_36 dX0_spread_97 ?_
          refine jw_iinc F (lv' := [(0, .ref (ad 0)), (1, .ref (ad 1)), (3, .int (iI (x3_10 + 1))), (4, .int (iI x4_4)), (5, .int (iI x5_11)), (6, .int (iI r_24))]) 2 [1, 2, 0, 3, 4, 5] dX0_spread_98 rfl (by decide) rfl ?_
          refine jw_sub F (lv' := [(0, .ref (ad 0)), (1, .ref (ad 1)), (3, .int (iI (x3_10 + 1))), (4, .int (iI x4_4)), (5, .int (iI x5_11))]) [0, 1, 2, 3, 4] rfl ?_
          exact j_32 _ _ h
set_option maxHeartbeats 4000000 in
set_option maxRecDepth 100000 in
theorem wk_X0_spread_2 {l : Launch} {D : va_G} {dA : Nat → ClassId} {ad : Nat → Nat} {s : Sg} {a2 : Int} {Q : Int → Sg → Prop} (h : wp_X0_spread 2 156 23 24 25 a2 s Q) : MXi l D dA (xwf dA ad) yX0_spread cX0_spread 7 .int ({ frames := 4, cells := 0, slots := 0, locals := 143 } : Room) [.ref (ad 0), .ref (ad 2), .int (iI a2)] s Q := by
  unfold wp_X0_spread at h
  refine jw_start_i (own := RX0) (lv0 := [(0, .ref (ad 0)), (1, .ref (ad 2)), (2, .int (iI a2))]) (by decide) rfl (Nat.le_of_ble_eq_true rfl) rfl (fun G F rt => ?_)
  refine jw_iconst F dX0_spread_0 ?_
  refine jw_istore_n F (lv' := [(0, .ref (ad 0)), (1, .ref (ad 2)), (2, .int (iI a2)), (3, .int (iI 1))]) [1, 2, 3, 0] dX0_spread_1 rfl (by decide) rfl ?_
  refine jw_aload_n F 0 dX0_spread_2 rfl rfl ?_
  refine gx_X0_30_0 F dX0_spread_3 ?_
  refine jw_iconst F dX0_spread_6 ?_
  refine jw_iload_n F 2 dX0_spread_7 rfl rfl ?_
  refine jw_iast F (xO dA ad) (k := 4) (by decide) (xa_4 dA ad) 0 rfl (by decide) (by decide) (by decide) dX0_spread_8 ?_
  refine jw_aload_n F 1 dX0_spread_9 rfl rfl ?_
  refine gx_X0_154_2 F dX0_spread_10 ?_
  refine jw_iload_n F 2 dX0_spread_13 rfl rfl ?_
  refine jw_aload_n F 1 dX0_spread_14 rfl rfl ?_
  refine gx_X0_118_2 F dX0_spread_15 ?_
  obtain ⟨o_1, o_2, h⟩ := h
  refine jw_iast F (xO dA ad) (k := 23) (by decide) (xa_23 dA ad) 0 rfl (by decide) o_1 o_2 dX0_spread_18 ?_
  refine jw_iconst F dX0_spread_19 ?_
  refine jw_istore F (lv' := [(0, .ref (ad 0)), (1, .ref (ad 2)), (2, .int (iI a2)), (3, .int (iI 1)), (4, .int (iI 0))]) [1, 2, 3, 4, 0] dX0_spread_20 (by decide) rfl ?_
  refine jw_sub F (lv' := [(0, .ref (ad 0)), (1, .ref (ad 2)), (3, .int (iI 1)), (4, .int (iI 0))]) [0, 1, 3, 4] rfl ?_
  refine lp3_r (fun x3_3 x4_4 s_5 => G s_5 22 [(0, .ref (ad 0)), (1, .ref (ad 2)), (3, .int (iI x3_3)), (4, .int (iI x4_4))] []) h (fun x3_3 x4_4 s_5 K_6 h ih_7 => ?_)
  refine jw_iload F 3 dX0_spread_22 rfl ?_
  refine jw_iload_n F 2 dX0_spread_24 rfl rfl ?_
  obtain ⟨o_8, h⟩ := h
  obtain ⟨o_9, h⟩ := h
  refine jw_icmp_ge F o_8 o_9 (tgt := 113) dX0_spread_25 (by decide) (fun c => ?_) (fun c => ?_)
  · have h := h.1 (c)
    refine jw_iload_n F 2 dX0_spread_113 rfl rfl ?_
    exact rt _ _ _ _ dX0_spread_114 h
  · have h := h.2 (c)
    refine jw_iconst F dX0_spread_28 ?_
    refine jw_istore F (lv' := [(0, .ref (ad 0)), (1, .ref (ad 2)), (3, .int (iI x3_3)), (4, .int (iI x4_4)), (5, .int (iI 0))]) [1, 2, 3, 4, 0] dX0_spread_29 (by decide) rfl ?_
    refine lp3_r (fun x3_10 x5_11 s_12 => G s_12 31 [(0, .ref (ad 0)), (1, .ref (ad 2)), (3, .int (iI x3_10)), (4, .int (iI x4_4)), (5, .int (iI x5_11))] []) h (fun x3_10 x5_11 s_12 K_13 h ih_14 => ?_)
    refine jw_iload F 4 dX0_spread_31 rfl ?_
    refine jw_aload_n F 0 dX0_spread_33 rfl rfl ?_
    refine gx_X0_10_0 F dX0_spread_34 ?_
    refine jw_callVip F (wk_J2_size h) (lw_V q178 q179 q180 q73 q181) hd_J2_size ⟨rfl, rfl, Nat.le_of_ble_eq_true rfl, Nat.le_of_ble_eq_true rfl⟩ rfl rfl (xh_L dA ad _) rfl rfl rfl (Nat.le_of_ble_eq_true rfl) dX0_spread_37 (fun r_15 h => ?_)
    obtain ⟨o_17, h⟩ := h
    obtain ⟨o_18, h⟩ := h
    refine jw_icmp_ge F o_17 o_18 (tgt := 107) dX0_spread_40 (by decide) (fun c => ?_) (fun c => ?_)
    · have h := h.1 (c)
      refine jw_iinc F (lv' := [(0, .ref (ad 0)), (1, .ref (ad 2)), (3, .int (iI x3_10)), (4, .int (iI (x4_4 + 1))), (5, .int (iI x5_11))]) 3 [1, 2, 3, 0, 4] dX0_spread_107 rfl (by decide) rfl ?_
      refine jw_goto F (tgt := 22) dX0_spread_110 (by decide) ?_
      refine jw_sub F (lv' := [(0, .ref (ad 0)), (1, .ref (ad 2)), (3, .int (iI x3_10)), (4, .int (iI (x4_4 + 1)))]) [0, 1, 2, 3] rfl ?_
      exact ih_7 _ _ _ h
    · have h := h.2 (c)
      refine jw_aload_n F 1 dX0_spread_43 rfl rfl ?_
      refine jw_aload_n F 0 dX0_spread_44 rfl rfl ?_
      refine gx_X0_30_0 F dX0_spread_45 ?_
      refine jw_iload F 3 dX0_spread_48 rfl ?_
      obtain ⟨o_19, o_20, h⟩ := h
      refine jw_iald F (xO dA ad) (k := 4) (by decide) (xa_4 dA ad) 0 rfl (by decide) o_19 o_20 dX0_spread_50 ?_
      refine jw_aload_n F 0 dX0_spread_51 rfl rfl ?_
      refine gx_X0_10_0 F dX0_spread_52 ?_
      refine jw_iload F 4 dX0_spread_55 rfl ?_
      obtain ⟨o_21, o_22, o_23, h⟩ := h
      refine jx_get_X0 F ⟨Nat.le_of_ble_eq_true rfl, Nat.le_of_ble_eq_true rfl⟩ o_21 o_22 o_23 dX0_spread_57 dX0_spread_60 (Nat.le_of_ble_eq_true rfl) ?_
      refine jw_callVip F (wk_X1_sounds_2 h) (lw_V q197 q198 q199 q74 q200) hd_X1_sounds ⟨rfl, rfl, Nat.le_of_ble_eq_true rfl, Nat.le_of_ble_eq_true rfl⟩ rfl rfl (xh_2 dA ad _) rfl rfl rfl (Nat.le_of_ble_eq_true rfl) dX0_spread_63 (fun r_24 h => ?_)
      refine jw_istore F (lv' := [(0, .ref (ad 0)), (1, .ref (ad 2)), (3, .int (iI x3_10)), (4, .int (iI x4_4)), (5, .int (iI x5_11)), (6, .int (iI r_24))]) [1, 2, 3, 4, 5, 0] dX0_spread_66 (by decide) rfl ?_
      refine jw_aload_n F 1 dX0_spread_68 rfl rfl ?_
      refine gx_X0_154_2 F dX0_spread_69 ?_
      refine jw_iload F 5 dX0_spread_72 rfl ?_
      obtain ⟨o_26, o_27, h⟩ := h
      refine jw_iald F (xO dA ad) (k := 23) (by decide) (xa_23 dA ad) 0 rfl (by decide) o_26 o_27 dX0_spread_74 ?_
      refine jw_iconst F dX0_spread_75 ?_
      obtain ⟨o_28, h⟩ := h
      refine jn2_r (fun x3_29 s_30 => G s_30 101 [(0, .ref (ad 0)), (1, .ref (ad 2)), (3, .int (iI x3_29)), (4, .int (iI x4_4)), (5, .int (iI x5_11))] []) h (fun x3_29 s_30 h => ?_) (fun K_31 h j_32 => ?_)
      · refine jw_iinc F (lv' := [(0, .ref (ad 0)), (1, .ref (ad 2)), (3, .int (iI x3_29)), (4, .int (iI x4_4)), (5, .int (iI (x5_11 + 1)))]) 4 [1, 2, 3, 4, 0] dX0_spread_101 rfl (by decide) rfl ?_
        refine jw_goto F (tgt := 31) dX0_spread_104 (by decide) ?_
        exact ih_14 _ _ _ h
      · refine jw_icmp_ne F o_28 (by decide) (tgt := 101) dX0_spread_76 (by decide) (fun c => ?_) (fun c => ?_)
        · have h := h.1 (c)
          refine jw_sub F (lv' := [(0, .ref (ad 0)), (1, .ref (ad 2)), (3, .int (iI x3_10)), (4, .int (iI x4_4)), (5, .int (iI x5_11))]) [0, 1, 2, 3, 4] rfl ?_
          exact j_32 _ _ h
        · have h := h.2 (c)
          refine jw_aload_n F 1 dX0_spread_79 rfl rfl ?_
          refine gx_X0_154_2 F dX0_spread_80 ?_
          refine jw_iload F 5 dX0_spread_83 rfl ?_
          refine jw_aload_n F 1 dX0_spread_85 rfl rfl ?_
          refine gx_X0_118_2 F dX0_spread_86 ?_
          obtain ⟨o_33, o_34, h⟩ := h
          refine jw_iast F (xO dA ad) (k := 23) (by decide) (xa_23 dA ad) 0 rfl (by decide) o_33 o_34 dX0_spread_89 ?_
          refine jw_aload_n F 0 dX0_spread_90 rfl rfl ?_
          refine gx_X0_30_0 F dX0_spread_91 ?_
          refine jw_iload_n F 2 dX0_spread_94 rfl rfl ?_
          refine jw_iload F 5 dX0_spread_95 rfl ?_
          obtain ⟨o_35, o_36, h⟩ := h
          refine jw_iast F (xO dA ad) (k := 4) (by decide) (xa_4 dA ad) 0 rfl (by decide) o_35 o_36 dX0_spread_97 ?_
          refine jw_iinc F (lv' := [(0, .ref (ad 0)), (1, .ref (ad 2)), (3, .int (iI (x3_10 + 1))), (4, .int (iI x4_4)), (5, .int (iI x5_11)), (6, .int (iI r_24))]) 2 [1, 2, 0, 3, 4, 5] dX0_spread_98 rfl (by decide) rfl ?_
          refine jw_sub F (lv' := [(0, .ref (ad 0)), (1, .ref (ad 2)), (3, .int (iI (x3_10 + 1))), (4, .int (iI x4_4)), (5, .int (iI x5_11))]) [0, 1, 2, 3, 4] rfl ?_
          exact j_32 _ _ h
theorem hd_X0_join : yX0_join.cls = RX0 ∧ yX0_join.cls ≠ "java/lang/invoke/MethodHandle" ∧ yX0_join.cls ≠ "java/lang/invoke/VarHandle" ∧ (parseMethodDescriptor yX0_join.desc).map (fun d => d.parameters.length) = some 1 := by decide +kernel
set_option maxHeartbeats 4000000 in
set_option maxRecDepth 100000 in
theorem wk_X0_join_1 {l : Launch} {D : va_G} {dA : Nat → ClassId} {ad : Nat → Nat} {s : Sg} {Q : Sg → Prop} (h : wp_X0_join 1 36 19 20 21 s Q) : MXv l D dA (xwf dA ad) yX0_join cX0_join 3 ({ frames := 5, cells := 0, slots := 0, locals := 169 } : Room) [.ref (ad 0), .ref (ad 1)] s Q := by
  unfold wp_X0_join at h
  refine jw_start_v (own := RX0) (lv0 := [(0, .ref (ad 0)), (1, .ref (ad 1))]) (by decide) rfl (Nat.le_of_ble_eq_true rfl) rfl (fun G F rt => ?_)
  refine jw_aload_n F 1 dX0_join_0 rfl rfl ?_
  refine jw_iconst F dX0_join_1 ?_
  refine pgx_X0_118_1 F dX0_join_2 ?_
  refine jw_iconst F dX0_join_5 ?_
  refine jw_istore_n F (lv' := [(0, .ref (ad 0)), (1, .ref (ad 1)), (2, .int (iI 0))]) [1, 2, 0] dX0_join_6 rfl (by decide) rfl ?_
  refine lp2_r (fun x2_1 s_2 => G s_2 7 [(0, .ref (ad 0)), (1, .ref (ad 1)), (2, .int (iI x2_1))] []) h (fun x2_1 s_2 K_3 h ih_4 => ?_)
  refine jw_iload_n F 2 dX0_join_7 rfl rfl ?_
  refine jw_aload_n F 1 dX0_join_8 rfl rfl ?_
  refine gx_X0_151_1 F dX0_join_9 ?_
  obtain ⟨o_5, h⟩ := h
  obtain ⟨o_6, h⟩ := h
  refine jw_icmp_ge F o_5 o_6 (tgt := 28) dX0_join_12 (by decide) (fun c => ?_) (fun c => ?_)
  · have h := h.1 (c)
    refine jw_iconst F dX0_join_28 ?_
    refine jw_istore_n F (lv' := [(0, .ref (ad 0)), (1, .ref (ad 1)), (2, .int (iI 0))]) [1, 2, 0] dX0_join_29 rfl (by decide) rfl ?_
    refine lp2_r (fun x2_7 s_8 => G s_8 30 [(0, .ref (ad 0)), (1, .ref (ad 1)), (2, .int (iI x2_7))] []) h (fun x2_7 s_8 K_9 h ih_10 => ?_)
    refine jw_iload_n F 2 dX0_join_30 rfl rfl ?_
    refine jw_aload_n F 1 dX0_join_31 rfl rfl ?_
    refine gx_X0_151_1 F dX0_join_32 ?_
    obtain ⟨o_11, h⟩ := h
    obtain ⟨o_12, h⟩ := h
    refine jw_icmp_ge F o_11 o_12 (tgt := 89) dX0_join_35 (by decide) (fun c => ?_) (fun c => ?_)
    · have h := h.1 (c)
      exact rt _ _ _ dX0_join_89 h
    · have h := h.2 (c)
      refine jw_aload_n F 1 dX0_join_38 rfl rfl ?_
      refine gx_X0_154_1 F dX0_join_39 ?_
      refine jw_iload_n F 2 dX0_join_42 rfl rfl ?_
      obtain ⟨o_13, o_14, h⟩ := h
      refine jw_iald F (xO dA ad) (k := 19) (by decide) (xa_19 dA ad) 0 rfl (by decide) o_13 o_14 dX0_join_43 ?_
      refine jw_iconst F dX0_join_44 ?_
      obtain ⟨o_15, h⟩ := h
      refine jn1_r (fun s_16 => G s_16 83 [(0, .ref (ad 0)), (1, .ref (ad 1)), (2, .int (iI x2_7))] []) h (fun s_16 h => ?_) (fun K_17 h j_18 => ?_)
      · refine jw_iinc F (lv' := [(0, .ref (ad 0)), (1, .ref (ad 1)), (2, .int (iI (x2_7 + 1)))]) 2 [1, 2, 0] dX0_join_83 rfl (by decide) rfl ?_
        refine jw_goto F (tgt := 30) dX0_join_86 (by decide) ?_
        exact ih_10 _ _ h
      · refine jw_icmp_ne F o_15 (by decide) (tgt := 83) dX0_join_45 (by decide) (fun c => ?_) (fun c => ?_)
        · have h := h.1 (c)
          exact j_18 _ h
        · have h := h.2 (c)
          refine jw_aload_n F 1 dX0_join_48 rfl rfl ?_
          refine gx_X0_157_1 F dX0_join_49 ?_
          refine jw_aload_n F 1 dX0_join_52 rfl rfl ?_
          refine gx_X0_118_1 F dX0_join_53 ?_
          refine jw_iload_n F 2 dX0_join_56 rfl rfl ?_
          obtain ⟨o_19, o_20, h⟩ := h
          refine jw_iast F (xO dA ad) (k := 20) (by decide) (xa_20 dA ad) 0 rfl (by decide) o_19 o_20 dX0_join_57 ?_
          refine jw_aload_n F 1 dX0_join_58 rfl rfl ?_
          refine gx_X0_160_1 F dX0_join_59 ?_
          refine jw_aload_n F 1 dX0_join_62 rfl rfl ?_
          refine gx_X0_118_1 F dX0_join_63 ?_
          refine jw_aload_n F 0 dX0_join_66 rfl rfl ?_
          refine jw_aload_n F 1 dX0_join_67 rfl rfl ?_
          refine jw_iload_n F 2 dX0_join_68 rfl rfl ?_
          refine jw_callVi F (wk_X0_spread_1 h) (lw_V q174 q176 qs1 q70 q177) hd_X0_spread ⟨rfl, rfl, Nat.le_of_ble_eq_true rfl, Nat.le_of_ble_eq_true rfl⟩ rfl rfl (xh_0 dA ad _) rfl rfl rfl (Nat.le_of_ble_eq_true rfl) dX0_join_69 (fun r_21 s_22 hz => ?_)
          have h := hz
          obtain ⟨o_23, o_24, h⟩ := h
          refine jw_iast F (xO dA ad) (k := 21) (by decide) (xa_21 dA ad) 0 rfl (by decide) o_23 o_24 dX0_join_72 ?_
          refine jw_aload_n F 1 dX0_join_73 rfl rfl ?_
          refine jw_dup F rfl dX0_join_74 ?_
          refine gx_X0_118_1 F dX0_join_75 ?_
          refine jw_iconst F dX0_join_78 ?_
          refine jw_iadd F dX0_join_79 ?_
          refine pgx_X0_118_1 F dX0_join_80 ?_
          exact j_18 _ h
  · have h := h.2 (c)
    refine jw_aload_n F 1 dX0_join_15 rfl rfl ?_
    refine gx_X0_154_1 F dX0_join_16 ?_
    refine jw_iload_n F 2 dX0_join_19 rfl rfl ?_
    refine jw_iconst F dX0_join_20 ?_
    obtain ⟨o_25, o_26, h⟩ := h
    refine jw_iast F (xO dA ad) (k := 19) (by decide) (xa_19 dA ad) 0 rfl (by decide) o_25 o_26 dX0_join_21 ?_
    refine jw_iinc F (lv' := [(0, .ref (ad 0)), (1, .ref (ad 1)), (2, .int (iI (x2_1 + 1)))]) 2 [1, 2, 0] dX0_join_22 rfl (by decide) rfl ?_
    refine jw_goto F (tgt := 7) dX0_join_25 (by decide) ?_
    exact ih_4 _ _ h
set_option maxHeartbeats 4000000 in
set_option maxRecDepth 100000 in
theorem wk_X0_join_2 {l : Launch} {D : va_G} {dA : Nat → ClassId} {ad : Nat → Nat} {s : Sg} {Q : Sg → Prop} (h : wp_X0_join 2 156 23 24 25 s Q) : MXv l D dA (xwf dA ad) yX0_join cX0_join 3 ({ frames := 5, cells := 0, slots := 0, locals := 169 } : Room) [.ref (ad 0), .ref (ad 2)] s Q := by
  unfold wp_X0_join at h
  refine jw_start_v (own := RX0) (lv0 := [(0, .ref (ad 0)), (1, .ref (ad 2))]) (by decide) rfl (Nat.le_of_ble_eq_true rfl) rfl (fun G F rt => ?_)
  refine jw_aload_n F 1 dX0_join_0 rfl rfl ?_
  refine jw_iconst F dX0_join_1 ?_
  refine pgx_X0_118_2 F dX0_join_2 ?_
  refine jw_iconst F dX0_join_5 ?_
  refine jw_istore_n F (lv' := [(0, .ref (ad 0)), (1, .ref (ad 2)), (2, .int (iI 0))]) [1, 2, 0] dX0_join_6 rfl (by decide) rfl ?_
  refine lp2_r (fun x2_1 s_2 => G s_2 7 [(0, .ref (ad 0)), (1, .ref (ad 2)), (2, .int (iI x2_1))] []) h (fun x2_1 s_2 K_3 h ih_4 => ?_)
  refine jw_iload_n F 2 dX0_join_7 rfl rfl ?_
  refine jw_aload_n F 1 dX0_join_8 rfl rfl ?_
  refine gx_X0_151_2 F dX0_join_9 ?_
  obtain ⟨o_5, h⟩ := h
  obtain ⟨o_6, h⟩ := h
  refine jw_icmp_ge F o_5 o_6 (tgt := 28) dX0_join_12 (by decide) (fun c => ?_) (fun c => ?_)
  · have h := h.1 (c)
    refine jw_iconst F dX0_join_28 ?_
    refine jw_istore_n F (lv' := [(0, .ref (ad 0)), (1, .ref (ad 2)), (2, .int (iI 0))]) [1, 2, 0] dX0_join_29 rfl (by decide) rfl ?_
    refine lp2_r (fun x2_7 s_8 => G s_8 30 [(0, .ref (ad 0)), (1, .ref (ad 2)), (2, .int (iI x2_7))] []) h (fun x2_7 s_8 K_9 h ih_10 => ?_)
    refine jw_iload_n F 2 dX0_join_30 rfl rfl ?_
    refine jw_aload_n F 1 dX0_join_31 rfl rfl ?_
    refine gx_X0_151_2 F dX0_join_32 ?_
    obtain ⟨o_11, h⟩ := h
    obtain ⟨o_12, h⟩ := h
    refine jw_icmp_ge F o_11 o_12 (tgt := 89) dX0_join_35 (by decide) (fun c => ?_) (fun c => ?_)
    · have h := h.1 (c)
      exact rt _ _ _ dX0_join_89 h
    · have h := h.2 (c)
      refine jw_aload_n F 1 dX0_join_38 rfl rfl ?_
      refine gx_X0_154_2 F dX0_join_39 ?_
      refine jw_iload_n F 2 dX0_join_42 rfl rfl ?_
      obtain ⟨o_13, o_14, h⟩ := h
      refine jw_iald F (xO dA ad) (k := 23) (by decide) (xa_23 dA ad) 0 rfl (by decide) o_13 o_14 dX0_join_43 ?_
      refine jw_iconst F dX0_join_44 ?_
      obtain ⟨o_15, h⟩ := h
      refine jn1_r (fun s_16 => G s_16 83 [(0, .ref (ad 0)), (1, .ref (ad 2)), (2, .int (iI x2_7))] []) h (fun s_16 h => ?_) (fun K_17 h j_18 => ?_)
      · refine jw_iinc F (lv' := [(0, .ref (ad 0)), (1, .ref (ad 2)), (2, .int (iI (x2_7 + 1)))]) 2 [1, 2, 0] dX0_join_83 rfl (by decide) rfl ?_
        refine jw_goto F (tgt := 30) dX0_join_86 (by decide) ?_
        exact ih_10 _ _ h
      · refine jw_icmp_ne F o_15 (by decide) (tgt := 83) dX0_join_45 (by decide) (fun c => ?_) (fun c => ?_)
        · have h := h.1 (c)
          exact j_18 _ h
        · have h := h.2 (c)
          refine jw_aload_n F 1 dX0_join_48 rfl rfl ?_
          refine gx_X0_157_2 F dX0_join_49 ?_
          refine jw_aload_n F 1 dX0_join_52 rfl rfl ?_
          refine gx_X0_118_2 F dX0_join_53 ?_
          refine jw_iload_n F 2 dX0_join_56 rfl rfl ?_
          obtain ⟨o_19, o_20, h⟩ := h
          refine jw_iast F (xO dA ad) (k := 24) (by decide) (xa_24 dA ad) 0 rfl (by decide) o_19 o_20 dX0_join_57 ?_
          refine jw_aload_n F 1 dX0_join_58 rfl rfl ?_
          refine gx_X0_160_2 F dX0_join_59 ?_
          refine jw_aload_n F 1 dX0_join_62 rfl rfl ?_
          refine gx_X0_118_2 F dX0_join_63 ?_
          refine jw_aload_n F 0 dX0_join_66 rfl rfl ?_
          refine jw_aload_n F 1 dX0_join_67 rfl rfl ?_
          refine jw_iload_n F 2 dX0_join_68 rfl rfl ?_
          refine jw_callVi F (wk_X0_spread_2 h) (lw_V q174 q176 qs1 q70 q177) hd_X0_spread ⟨rfl, rfl, Nat.le_of_ble_eq_true rfl, Nat.le_of_ble_eq_true rfl⟩ rfl rfl (xh_0 dA ad _) rfl rfl rfl (Nat.le_of_ble_eq_true rfl) dX0_join_69 (fun r_21 s_22 hz => ?_)
          have h := hz
          obtain ⟨o_23, o_24, h⟩ := h
          refine jw_iast F (xO dA ad) (k := 25) (by decide) (xa_25 dA ad) 0 rfl (by decide) o_23 o_24 dX0_join_72 ?_
          refine jw_aload_n F 1 dX0_join_73 rfl rfl ?_
          refine jw_dup F rfl dX0_join_74 ?_
          refine gx_X0_118_2 F dX0_join_75 ?_
          refine jw_iconst F dX0_join_78 ?_
          refine jw_iadd F dX0_join_79 ?_
          refine pgx_X0_118_2 F dX0_join_80 ?_
          exact j_18 _ h
  · have h := h.2 (c)
    refine jw_aload_n F 1 dX0_join_15 rfl rfl ?_
    refine gx_X0_154_2 F dX0_join_16 ?_
    refine jw_iload_n F 2 dX0_join_19 rfl rfl ?_
    refine jw_iconst F dX0_join_20 ?_
    obtain ⟨o_25, o_26, h⟩ := h
    refine jw_iast F (xO dA ad) (k := 23) (by decide) (xa_23 dA ad) 0 rfl (by decide) o_25 o_26 dX0_join_21 ?_
    refine jw_iinc F (lv' := [(0, .ref (ad 0)), (1, .ref (ad 2)), (2, .int (iI (x2_1 + 1)))]) 2 [1, 2, 0] dX0_join_22 rfl (by decide) rfl ?_
    refine jw_goto F (tgt := 7) dX0_join_25 (by decide) ?_
    exact ih_4 _ _ h
theorem hd_X0_letters : yX0_letters.cls = RX0 ∧ yX0_letters.cls ≠ "java/lang/invoke/MethodHandle" ∧ yX0_letters.cls ≠ "java/lang/invoke/VarHandle" ∧ (parseMethodDescriptor yX0_letters.desc).map (fun d => d.parameters.length) = some 1 := by decide +kernel
set_option maxHeartbeats 4000000 in
set_option maxRecDepth 100000 in
theorem wk_X0_letters {l : Launch} {D : va_G} {dA : Nat → ClassId} {ad : Nat → Nat} {s : Sg} {a1 : Int} {Q : Int → Sg → Prop} (h : wp_X0_letters a1 s Q) : MXi l D dA (xwf dA ad) yX0_letters cX0_letters 7 .int ({ frames := 0, cells := 0, slots := 0, locals := 0 } : Room) [.ref (ad 0), .long (lI a1)] s Q := by
  unfold wp_X0_letters at h
  refine jw_start_i (own := RX0) (lv0 := [(0, .ref (ad 0)), (1, .long (lI a1))]) (by decide) rfl (Nat.le_of_ble_eq_true rfl) rfl (fun G F rt => ?_)
  refine jw_iconst F dX0_letters_0 ?_
  refine jw_istore_n F (lv' := [(0, .ref (ad 0)), (1, .long (lI a1)), (3, .int (iI 0))]) [1, 2, 0] dX0_letters_1 rfl (by decide) rfl ?_
  refine jw_iconst F dX0_letters_2 ?_
  refine jw_istore F (lv' := [(0, .ref (ad 0)), (1, .long (lI a1)), (3, .int (iI 0)), (4, .int (iI 0))]) [1, 2, 3, 0] dX0_letters_3 (by decide) rfl ?_
  refine jw_iconst F dX0_letters_5 ?_
  refine jw_istore F (lv' := [(0, .ref (ad 0)), (1, .long (lI a1)), (3, .int (iI 0)), (4, .int (iI 0)), (5, .int (iI 0))]) [1, 2, 3, 4, 0] dX0_letters_6 (by decide) rfl ?_
  refine lp3_r (fun x3_1 x4_2 x5_3 => G s 8 [(0, .ref (ad 0)), (1, .long (lI a1)), (3, .int (iI x3_1)), (4, .int (iI x4_2)), (5, .int (iI x5_3))] []) h (fun x3_1 x4_2 x5_3 K_4 h ih_5 => ?_)
  refine jw_iload F 4 dX0_letters_8 rfl ?_
  refine jw_bipush F (z := 8) dX0_letters_10 (by decide) ?_
  obtain ⟨o_6, h⟩ := h
  refine jw_icmp_ge F o_6 (by decide) (tgt := 83) dX0_letters_12 (by decide) (fun c => ?_) (fun c => ?_)
  · have h := h.1 (c)
    refine jw_aload_n F 0 dX0_letters_83 rfl rfl ?_
    refine gx_X0_95_0 F dX0_letters_84 ?_
    refine jw_iload_n F 2 dX0_letters_87 rfl rfl ?_
    refine jw_iadd F dX0_letters_88 ?_
    refine jw_bipush F (z := 20) dX0_letters_89 (by decide) ?_
    obtain ⟨o_7, h⟩ := h
    refine jw_icmp_le F o_7 (by decide) (tgt := 97) dX0_letters_91 (by decide) (fun c => ?_) (fun c => ?_)
    · have h := h.1 (c)
      refine jw_iconst F dX0_letters_97 ?_
      refine jw_istore F (lv' := [(0, .ref (ad 0)), (1, .long (lI a1)), (3, .int (iI x3_1)), (4, .int (iI x4_2)), (5, .int (iI 0))]) [1, 2, 3, 4, 0] dX0_letters_98 (by decide) rfl ?_
      refine jw_sub F (lv' := [(0, .ref (ad 0)), (1, .long (lI a1)), (3, .int (iI x3_1)), (5, .int (iI 0))]) [0, 1, 2, 4] rfl ?_
      refine lp2_r (fun x5_8 s_9 => G s_9 100 [(0, .ref (ad 0)), (1, .long (lI a1)), (3, .int (iI x3_1)), (5, .int (iI x5_8))] []) h (fun x5_8 s_9 K_10 h ih_11 => ?_)
      refine jw_iload F 3 dX0_letters_100 rfl ?_
      refine jw_iload_n F 2 dX0_letters_102 rfl rfl ?_
      obtain ⟨o_12, h⟩ := h
      obtain ⟨o_13, h⟩ := h
      refine jw_icmp_ge F o_12 o_13 (tgt := 133) dX0_letters_103 (by decide) (fun c => ?_) (fun c => ?_)
      · have h := h.1 (c)
        refine jw_aload_n F 0 dX0_letters_133 rfl rfl ?_
        refine jw_dup F rfl dX0_letters_134 ?_
        refine gx_X0_95_0 F dX0_letters_135 ?_
        refine jw_iload_n F 2 dX0_letters_138 rfl rfl ?_
        refine jw_iadd F dX0_letters_139 ?_
        refine pgx_X0_95_0 F dX0_letters_140 ?_
        refine jw_aload_n F 0 dX0_letters_143 rfl rfl ?_
        refine gx_X0_95_0 F dX0_letters_144 ?_
        exact rt _ _ _ _ dX0_letters_147 h
      · have h := h.2 (c)
        refine jw_aload_n F 0 dX0_letters_106 rfl rfl ?_
        refine gx_X0_16_0 F dX0_letters_107 ?_
        refine jw_aload_n F 0 dX0_letters_110 rfl rfl ?_
        refine gx_X0_95_0 F dX0_letters_111 ?_
        refine jw_iload F 3 dX0_letters_114 rfl ?_
        refine jw_iadd F dX0_letters_116 ?_
        refine jw_lload_n F 1 dX0_letters_117 rfl rfl ?_
        refine jw_bipush F (z := 8) dX0_letters_118 (by decide) ?_
        refine jw_iload F 3 dX0_letters_120 rfl ?_
        refine jw_imul F dX0_letters_122 ?_
        obtain ⟨o_14, h⟩ := h
        obtain ⟨o_15, o_16, h⟩ := h
        refine jw_lshr F o_14 o_15 o_16 dX0_letters_123 ?_
        refine jw_l2i F dX0_letters_124 ?_
        refine jw_i2b F dX0_letters_125 ?_
        obtain ⟨o_17, o_18, h⟩ := h
        obtain ⟨o_19, o_20, h⟩ := h
        refine jw_bast F (xO dA ad) (k := 3) (by decide) (xa_3 dA ad) 1 rfl (by decide) o_17 o_18 o_19 o_20 dX0_letters_126 ?_
        refine jw_iinc F (lv' := [(0, .ref (ad 0)), (1, .long (lI a1)), (3, .int (iI x3_1)), (5, .int (iI (x5_8 + 1)))]) 3 [1, 2, 3, 0] dX0_letters_127 rfl (by decide) rfl ?_
        refine jw_goto F (tgt := 100) dX0_letters_130 (by decide) ?_
        exact ih_11 _ _ h
    · have h := h.2 (c)
      refine jw_bipush F (z := (-104)) dX0_letters_94 (by decide) ?_
      exact rt _ _ _ _ dX0_letters_96 h
  · have h := h.2 (c)
    refine jw_lload_n F 1 dX0_letters_15 rfl rfl ?_
    refine jw_bipush F (z := 8) dX0_letters_16 (by decide) ?_
    refine jw_iload F 4 dX0_letters_18 rfl ?_
    refine jw_imul F dX0_letters_20 ?_
    obtain ⟨o_21, h⟩ := h
    obtain ⟨o_22, o_23, h⟩ := h
    refine jw_lshr F o_21 o_22 o_23 dX0_letters_21 ?_
    refine jw_ldc2 F (z := 255) q319 dX0_letters_22 ?_
    refine jw_lmask F 8 (by decide) (by decide) dX0_letters_25 ?_
    refine jw_l2i F dX0_letters_26 ?_
    refine jw_istore F (lv' := [(0, .ref (ad 0)), (1, .long (lI a1)), (3, .int (iI x3_1)), (4, .int (iI x4_2)), (5, .int (iI x5_3)), (6, .int (iI ((a1 / 2 ^ ((8 * x5_3) : Int).toNat) % 2 ^ 8)))]) [1, 2, 3, 4, 5, 0] dX0_letters_27 (by decide) rfl ?_
    refine jw_iload F 5 dX0_letters_29 rfl ?_
    refine jw_bipush F (z := 126) dX0_letters_31 (by decide) ?_
    obtain ⟨o_24, h⟩ := h
    refine jw_icmp_gt F o_24 (by decide) (tgt := 46) dX0_letters_33 (by decide) (fun c => ?_) (fun c => ?_)
    · have h := h.1 (c)
      refine jw_bipush F (z := (-102)) dX0_letters_46 (by decide) ?_
      exact rt _ _ _ _ dX0_letters_48 h
    · have h := h.2 (c)
      refine jw_iload F 3 dX0_letters_36 rfl ?_
      obtain ⟨o_25, h⟩ := h
      refine jn0_r (G s 49 [(0, .ref (ad 0)), (1, .long (lI a1)), (3, .int (iI x3_1)), (4, .int (iI x4_2)), (5, .int (iI x5_3)), (6, .int (iI ((a1 / 2 ^ ((8 * x5_3) : Int).toNat) % 2 ^ 8)))] []) h (fun h => ?_) (fun K_26 h j_27 => ?_)
      · refine jw_iload F 3 dX0_letters_49 rfl ?_
        refine jw_iload F 5 dX0_letters_51 rfl ?_
        obtain ⟨o_28, h⟩ := h
        refine jn1_r (fun v_29 => G s 61 [(0, .ref (ad 0)), (1, .long (lI a1)), (3, .int (iI x3_1)), (5, .int (iI x5_3)), (6, .int (iI ((a1 / 2 ^ ((8 * x5_3) : Int).toNat) % 2 ^ 8)))] [.int (iI v_29), .int (iI x4_2)]) h (fun v_29 h => ?_) (fun K_30 h j_31 => ?_)
        · obtain ⟨o_32, h⟩ := h
          obtain ⟨o_33, h⟩ := h
          refine jw_ior F o_32 o_33 dX0_letters_61 ?_
          refine jw_istore F (lv' := [(0, .ref (ad 0)), (1, .long (lI a1)), (3, .int (iI x3_1)), (4, .int (iI (bor x4_2 v_29))), (5, .int (iI x5_3)), (6, .int (iI ((a1 / 2 ^ ((8 * x5_3) : Int).toNat) % 2 ^ 8)))]) [1, 2, 3, 0, 4, 5] dX0_letters_62 (by decide) rfl ?_
          refine jw_iload_n F 2 dX0_letters_64 rfl rfl ?_
          refine jw_iload F 5 dX0_letters_65 rfl ?_
          obtain ⟨o_34, h⟩ := h
          refine jn1_r (fun v_35 => G s 75 [(0, .ref (ad 0)), (1, .long (lI a1)), (4, .int (iI (bor x4_2 v_29))), (5, .int (iI x5_3))] [.int (iI v_35), .int (iI x3_1)]) h (fun v_35 h => ?_) (fun K_36 h j_37 => ?_)
          · refine jw_iadd F dX0_letters_75 ?_
            refine jw_istore_n F (lv' := [(0, .ref (ad 0)), (1, .long (lI a1)), (3, .int (iI (x3_1 + v_35))), (4, .int (iI (bor x4_2 v_29))), (5, .int (iI x5_3))]) [1, 2, 0, 3, 4] dX0_letters_76 rfl (by decide) rfl ?_
            refine jw_iinc F (lv' := [(0, .ref (ad 0)), (1, .long (lI a1)), (3, .int (iI (x3_1 + v_35))), (4, .int (iI (bor x4_2 v_29))), (5, .int (iI (x5_3 + 1)))]) 4 [1, 2, 3, 4, 0] dX0_letters_77 rfl (by decide) rfl ?_
            refine jw_goto F (tgt := 8) dX0_letters_80 (by decide) ?_
            exact ih_5 _ _ _ h
          · refine jw_if_ne F o_34 (tgt := 74) dX0_letters_67 (by decide) (fun c => ?_) (fun c => ?_)
            · have h := h.1 (c)
              refine jw_iconst F dX0_letters_74 ?_
              refine jw_sub F (lv' := [(0, .ref (ad 0)), (1, .long (lI a1)), (4, .int (iI (bor x4_2 v_29))), (5, .int (iI x5_3))]) [0, 1, 3, 4] rfl ?_
              exact j_37 _ h
            · have h := h.2 (c)
              refine jw_iconst F dX0_letters_70 ?_
              refine jw_goto F (tgt := 75) dX0_letters_71 (by decide) ?_
              refine jw_sub F (lv' := [(0, .ref (ad 0)), (1, .long (lI a1)), (4, .int (iI (bor x4_2 v_29))), (5, .int (iI x5_3))]) [0, 1, 3, 4] rfl ?_
              exact j_37 _ h
        · refine jw_if_ne F o_28 (tgt := 60) dX0_letters_53 (by decide) (fun c => ?_) (fun c => ?_)
          · have h := h.1 (c)
            refine jw_iconst F dX0_letters_60 ?_
            refine jw_sub F (lv' := [(0, .ref (ad 0)), (1, .long (lI a1)), (3, .int (iI x3_1)), (5, .int (iI x5_3)), (6, .int (iI ((a1 / 2 ^ ((8 * x5_3) : Int).toNat) % 2 ^ 8)))]) [0, 1, 2, 4, 5] rfl ?_
            exact j_31 _ h
          · have h := h.2 (c)
            refine jw_iconst F dX0_letters_56 ?_
            refine jw_goto F (tgt := 61) dX0_letters_57 (by decide) ?_
            refine jw_sub F (lv' := [(0, .ref (ad 0)), (1, .long (lI a1)), (3, .int (iI x3_1)), (5, .int (iI x5_3)), (6, .int (iI ((a1 / 2 ^ ((8 * x5_3) : Int).toNat) % 2 ^ 8)))]) [0, 1, 2, 4, 5] rfl ?_
            exact j_31 _ h
      · refine jw_if_eq F o_25 (tgt := 49) dX0_letters_38 (by decide) (fun c => ?_) (fun c => ?_)
        · have h := h.1 (c)
          exact j_27 h
        · have h := h.2 (c)
          refine jw_iload F 5 dX0_letters_41 rfl ?_
          obtain ⟨o_38, h⟩ := h
          refine jw_if_eq F o_38 (tgt := 49) dX0_letters_43 (by decide) (fun c => ?_) (fun c => ?_)
          · have h := h.1 (c)
            exact j_27 h
          · have h := h.2 (c)
            refine jw_bipush F (z := (-102)) dX0_letters_46 (by decide) ?_
            exact rt _ _ _ _ dX0_letters_48 h
theorem hd_X0_blank : yX0_blank.cls = RX0 ∧ yX0_blank.cls ≠ "java/lang/invoke/MethodHandle" ∧ yX0_blank.cls ≠ "java/lang/invoke/VarHandle" ∧ (parseMethodDescriptor yX0_blank.desc).map (fun d => d.parameters.length) = some 0 := by decide +kernel
set_option maxHeartbeats 4000000 in
set_option maxRecDepth 100000 in
theorem wk_X0_blank {l : Launch} {D : va_G} {dA : Nat → ClassId} {ad : Nat → Nat} {s : Sg} {Q : Int → Sg → Prop} (h : wp_X0_blank s Q) : MXi l D dA (xwf dA ad) yX0_blank cX0_blank 2 .int ({ frames := 0, cells := 0, slots := 0, locals := 0 } : Room) [.ref (ad 0)] s Q := by
  unfold wp_X0_blank at h
  refine jw_start_i (own := RX0) (lv0 := [(0, .ref (ad 0))]) (by decide) rfl (Nat.le_of_ble_eq_true rfl) rfl (fun G F rt => ?_)
  refine jw_aload_n F 0 dX0_blank_0 rfl rfl ?_
  refine gx_X0_95_0 F dX0_blank_1 ?_
  refine jw_istore_n F (lv' := [(0, .ref (ad 0)), (1, .int (iI (s 0 3)))]) [1, 0] dX0_blank_4 rfl (by decide) rfl ?_
  refine jw_aload_n F 0 dX0_blank_5 rfl rfl ?_
  refine jw_iconst F dX0_blank_6 ?_
  refine pgx_X0_95_0 F dX0_blank_7 ?_
  refine jw_iload_n F 1 dX0_blank_10 rfl rfl ?_
  exact rt _ _ _ _ dX0_blank_11 h
theorem hd_X0_in : yX0_in.cls ≠ "java/lang/invoke/MethodHandle" ∧ yX0_in.cls ≠ "java/lang/invoke/VarHandle" ∧ (parseMethodDescriptor yX0_in.desc).map (fun d => d.parameters.length) = some 3 := by decide +kernel
set_option maxHeartbeats 4000000 in
set_option maxRecDepth 100000 in
theorem wk_X0_in {l : Launch} {D : va_G} {dA : Nat → ClassId} {wf : Sg → va_W} {s : Sg} {a1 a2 a3 : Int} {Q : Int → Prop} (h : wp_X0_in a1 a2 a3 Q) : MXi l D dA wf yX0_in cX0_in 3 .boolean ({ frames := 0, cells := 0, slots := 0, locals := 0 } : Room) [.int (iI a1), .int (iI a2), .int (iI a3)] s (fun z s' => (z = 0 ∨ z = 1) ∧ s' = s ∧ Q z) := by
  unfold wp_X0_in at h
  refine jw_start_z (own := RX0) (lv0 := [(0, .int (iI a1)), (1, .int (iI a2)), (2, .int (iI a3))]) (by decide) rfl (Nat.le_of_ble_eq_true rfl) rfl (fun G F rt => ?_)
  refine jw_iload_n F 0 dX0_in_0 rfl rfl ?_
  refine jw_iload_n F 1 dX0_in_1 rfl rfl ?_
  obtain ⟨o_1, h⟩ := h
  obtain ⟨o_2, h⟩ := h
  refine jw_icmp_lt F o_1 o_2 (tgt := 14) dX0_in_2 (by decide) (fun c => ?_) (fun c => ?_)
  · have h := h.1 (c)
    refine jw_iconst F dX0_in_14 ?_
    exact rt _ _ _ _ dX0_in_15 (by decide) ⟨(by decide), rfl, h⟩
  · have h := h.2 (c)
    refine jw_iload_n F 0 dX0_in_5 rfl rfl ?_
    refine jw_iload_n F 2 dX0_in_6 rfl rfl ?_
    obtain ⟨o_3, h⟩ := h
    obtain ⟨o_4, h⟩ := h
    refine jw_icmp_gt F o_3 o_4 (tgt := 14) dX0_in_7 (by decide) (fun c => ?_) (fun c => ?_)
    · have h := h.1 (c)
      refine jw_iconst F dX0_in_14 ?_
      exact rt _ _ _ _ dX0_in_15 (by decide) ⟨(by decide), rfl, h⟩
    · have h := h.2 (c)
      refine jw_iconst F dX0_in_10 ?_
      refine jw_goto F (tgt := 15) dX0_in_11 (by decide) ?_
      exact rt _ _ _ _ dX0_in_15 (by decide) ⟨(by decide), rfl, h⟩
theorem hd_X0_isLikeness : yX0_isLikeness.cls = RX0 ∧ yX0_isLikeness.cls ≠ "java/lang/invoke/MethodHandle" ∧ yX0_isLikeness.cls ≠ "java/lang/invoke/VarHandle" ∧ (parseMethodDescriptor yX0_isLikeness.desc).map (fun d => d.parameters.length) = some 1 := by decide +kernel
set_option maxHeartbeats 4000000 in
set_option maxRecDepth 100000 in
theorem wk_X0_isLikeness {l : Launch} {D : va_G} {dA : Nat → ClassId} {ad : Nat → Nat} {s : Sg} {a1 : Int} {Q : Int → Prop} (h : wp_X0_isLikeness a1 s Q) : MXi l D dA (xwf dA ad) yX0_isLikeness cX0_isLikeness 2 .boolean ({ frames := 1, cells := 0, slots := 0, locals := 22 } : Room) [.ref (ad 0), .int (iI a1)] s (fun z s' => (z = 0 ∨ z = 1) ∧ s' = s ∧ Q z) := by
  unfold wp_X0_isLikeness at h
  refine jw_start_z (own := RX0) (lv0 := [(0, .ref (ad 0)), (1, .int (iI a1))]) (by decide) rfl (Nat.le_of_ble_eq_true rfl) rfl (fun G F rt => ?_)
  refine jw_iload_n F 1 dX0_isLikeness_0 rfl rfl ?_
  refine jw_iconst F dX0_isLikeness_1 ?_
  refine jw_aload_n F 0 dX0_isLikeness_2 rfl rfl ?_
  refine gx_X0_10_0 F dX0_isLikeness_3 ?_
  refine jw_callVip F (wk_J2_size h) (lw_V q178 q179 q180 q73 q181) hd_J2_size ⟨rfl, rfl, Nat.le_of_ble_eq_true rfl, Nat.le_of_ble_eq_true rfl⟩ rfl rfl (xh_L dA ad _) rfl rfl rfl (Nat.le_of_ble_eq_true rfl) dX0_isLikeness_6 (fun r_1 h => ?_)
  refine jw_iconst F dX0_isLikeness_9 ?_
  refine jw_isub F dX0_isLikeness_10 ?_
  refine jw_callSzp F (wk_X0_in h) (lw_S q534 q449 q70 q450) hd_X0_in ⟨rfl, rfl, Nat.le_of_ble_eq_true rfl, Nat.le_of_ble_eq_true rfl⟩ rfl rfl (Nat.le_of_ble_eq_true rfl) dX0_isLikeness_11 (fun r_3 hb_r_3 h => ?_)
  exact rt _ _ _ _ dX0_isLikeness_14 hb_r_3 ⟨hb_r_3, rfl, h⟩
theorem hd_X0_told : yX0_told.cls ≠ "java/lang/invoke/MethodHandle" ∧ yX0_told.cls ≠ "java/lang/invoke/VarHandle" ∧ (parseMethodDescriptor yX0_told.desc).map (fun d => d.parameters.length) = some 2 := by decide +kernel
set_option maxHeartbeats 4000000 in
set_option maxRecDepth 100000 in
theorem wk_X0_told {l : Launch} {D : va_G} {dA : Nat → ClassId} {ad : Nat → Nat} {s : Sg} {a1 a2 : Int} {Q : Int → Prop} (h : wp_X0_told a1 a2 s Q) : MXi l D dA (xwf dA ad) yX0_told cX0_told 2 .int ({ frames := 3, cells := 0, slots := 0, locals := 120 } : Room) [.ref (ad (5002 + (a1 : Int).toNat)), .int (iI a2)] s (fun z s' => s' = s ∧ Q z) := by
  unfold wp_X0_told at h
  refine jw_start_i (own := RX0) (lv0 := [(0, .ref (ad (5002 + (a1 : Int).toNat))), (1, .int (iI a2))]) (by decide) rfl (Nat.le_of_ble_eq_true rfl) rfl (fun G F rt => ?_)
  refine jw_iload_n F 1 dX0_told_0 rfl rfl ?_
  obtain ⟨o_1, h⟩ := h
  refine jw_if_ne F o_1 (tgt := 11) dX0_told_1 (by decide) (fun c => ?_) (fun c => ?_)
  · have h := h.1 (c)
    refine jw_aload_n F 0 dX0_told_11 rfl rfl ?_
    obtain ⟨o_2, o_3, o_4, h⟩ := h
    refine jx_number_X0 F ⟨Nat.le_of_ble_eq_true rfl, Nat.le_of_ble_eq_true rfl⟩ o_2 o_3 o_4 dX0_told_12 (Nat.le_of_ble_eq_true rfl) ?_
    exact rt _ _ _ _ dX0_told_15 ⟨rfl, h⟩
  · have h := h.2 (c)
    refine jw_aload_n F 0 dX0_told_4 rfl rfl ?_
    obtain ⟨o_5, o_6, o_7, h⟩ := h
    refine jx_kind_X0 F ⟨Nat.le_of_ble_eq_true rfl, Nat.le_of_ble_eq_true rfl⟩ o_5 o_6 o_7 dX0_told_5 (Nat.le_of_ble_eq_true rfl) ?_
    refine jw_goto F (tgt := 15) dX0_told_8 (by decide) ?_
    exact rt _ _ _ _ dX0_told_15 ⟨rfl, h⟩
theorem hd_X0_about : yX0_about.cls = RX0 ∧ yX0_about.cls ≠ "java/lang/invoke/MethodHandle" ∧ yX0_about.cls ≠ "java/lang/invoke/VarHandle" ∧ (parseMethodDescriptor yX0_about.desc).map (fun d => d.parameters.length) = some 2 := by decide +kernel
set_option maxHeartbeats 4000000 in
set_option maxRecDepth 100000 in
theorem wk_X0_about {l : Launch} {D : va_G} {dA : Nat → ClassId} {ad : Nat → Nat} {s : Sg} {a1 a2 : Int} {Q : Int → Prop} (h : wp_X0_about a1 a2 s Q) : MXi l D dA (xwf dA ad) yX0_about cX0_about 3 .int ({ frames := 4, cells := 0, slots := 0, locals := 141 } : Room) [.ref (ad 0), .int (iI a1), .int (iI a2)] s (fun z s' => s' = s ∧ Q z) := by
  unfold wp_X0_about at h
  refine jw_start_i (own := RX0) (lv0 := [(0, .ref (ad 0)), (1, .int (iI a1)), (2, .int (iI a2))]) (by decide) rfl (Nat.le_of_ble_eq_true rfl) rfl (fun G F rt => ?_)
  refine jw_aload_n F 0 dX0_about_0 rfl rfl ?_
  refine jw_iload_n F 1 dX0_about_1 rfl rfl ?_
  refine jw_callVzp F (wk_X0_isLikeness h) (lw_V q530 q532 qs11 q70 q533) hd_X0_isLikeness ⟨rfl, rfl, Nat.le_of_ble_eq_true rfl, Nat.le_of_ble_eq_true rfl⟩ rfl rfl (xh_0 dA ad _) rfl rfl rfl (Nat.le_of_ble_eq_true rfl) dX0_about_2 (fun r_1 hb_r_1 h => ?_)
  refine jw_if_ne F (rg01 hb_r_1) (tgt := 13) dX0_about_5 (by decide) (fun c => ?_) (fun c => ?_)
  · have h := h.1 (c)
    refine jw_iload_n F 2 dX0_about_13 rfl rfl ?_
    refine jw_iconst F dX0_about_14 ?_
    refine jw_iconst F dX0_about_15 ?_
    refine jw_callSzp F (wk_X0_in h) (lw_S q534 q449 q70 q450) hd_X0_in ⟨rfl, rfl, Nat.le_of_ble_eq_true rfl, Nat.le_of_ble_eq_true rfl⟩ rfl rfl (Nat.le_of_ble_eq_true rfl) dX0_about_16 (fun r_3 hb_r_3 h => ?_)
    refine jw_if_eq F (rg01 hb_r_3) (tgt := 40) dX0_about_19 (by decide) (fun c => ?_) (fun c => ?_)
    · have h := h.1 (c)
      refine jw_bipush F (z := (-102)) dX0_about_40 (by decide) ?_
      exact rt _ _ _ _ dX0_about_42 ⟨rfl, h⟩
    · have h := h.2 (c)
      refine jw_aload_n F 0 dX0_about_22 rfl rfl ?_
      refine gx_X0_10_0 F dX0_about_23 ?_
      refine jw_iload_n F 1 dX0_about_26 rfl rfl ?_
      obtain ⟨o_5, o_6, o_7, h⟩ := h
      refine jx_get_X0 F ⟨Nat.le_of_ble_eq_true rfl, Nat.le_of_ble_eq_true rfl⟩ o_5 o_6 o_7 dX0_about_27 dX0_about_30 (Nat.le_of_ble_eq_true rfl) ?_
      refine jw_iload_n F 2 dX0_about_33 rfl rfl ?_
      refine jw_callSip F (wk_X0_told h) (lw_S q535 q536 q70 q537) hd_X0_told ⟨rfl, rfl, Nat.le_of_ble_eq_true rfl, Nat.le_of_ble_eq_true rfl⟩ rfl rfl (Nat.le_of_ble_eq_true rfl) dX0_about_34 (fun r_8 h => ?_)
      refine jw_goto F (tgt := 42) dX0_about_37 (by decide) ?_
      exact rt _ _ _ _ dX0_about_42 ⟨rfl, h⟩
  · have h := h.2 (c)
    refine jw_bipush F (z := (-101)) dX0_about_8 (by decide) ?_
    refine jw_goto F (tgt := 42) dX0_about_10 (by decide) ?_
    exact rt _ _ _ _ dX0_about_42 ⟨rfl, h⟩
theorem hd_X0_as : yX0_as.cls = RX0 ∧ yX0_as.cls ≠ "java/lang/invoke/MethodHandle" ∧ yX0_as.cls ≠ "java/lang/invoke/VarHandle" ∧ (parseMethodDescriptor yX0_as.desc).map (fun d => d.parameters.length) = some 2 := by decide +kernel
set_option maxHeartbeats 4000000 in
set_option maxRecDepth 100000 in
theorem wk_X0_as {l : Launch} {D : va_G} {dA : Nat → ClassId} {ad : Nat → Nat} {s : Sg} {a1 a2 : Int} {Q : Int → Prop} (h : wp_X0_as a1 a2 s Q) : MXi l D dA (xwf dA ad) yX0_as cX0_as 3 .int ({ frames := 3, cells := 0, slots := 0, locals := 120 } : Room) [.ref (ad 0), .int (iI a1), .int (iI a2)] s (fun z s' => s' = s ∧ Q z) := by
  unfold wp_X0_as at h
  refine jw_start_i (own := RX0) (lv0 := [(0, .ref (ad 0)), (1, .int (iI a1)), (2, .int (iI a2))]) (by decide) rfl (Nat.le_of_ble_eq_true rfl) rfl (fun G F rt => ?_)
  refine jw_aload_n F 0 dX0_as_0 rfl rfl ?_
  refine jw_iload_n F 1 dX0_as_1 rfl rfl ?_
  refine jw_callVzp F (wk_X0_isLikeness h) (lw_V q530 q532 qs11 q70 q533) hd_X0_isLikeness ⟨rfl, rfl, Nat.le_of_ble_eq_true rfl, Nat.le_of_ble_eq_true rfl⟩ rfl rfl (xh_0 dA ad _) rfl rfl rfl (Nat.le_of_ble_eq_true rfl) dX0_as_2 (fun r_1 hb_r_1 h => ?_)
  refine jw_if_ne F (rg01 hb_r_1) (tgt := 11) dX0_as_5 (by decide) (fun c => ?_) (fun c => ?_)
  · have h := h.1 (c)
    refine jw_iload_n F 2 dX0_as_11 rfl rfl ?_
    refine jw_iconst F dX0_as_12 ?_
    refine jw_iconst F dX0_as_13 ?_
    refine jw_callSzp F (wk_X0_in h) (lw_S q534 q449 q70 q450) hd_X0_in ⟨rfl, rfl, Nat.le_of_ble_eq_true rfl, Nat.le_of_ble_eq_true rfl⟩ rfl rfl (Nat.le_of_ble_eq_true rfl) dX0_as_14 (fun r_3 hb_r_3 h => ?_)
    refine jw_if_ne F (rg01 hb_r_3) (tgt := 25) dX0_as_17 (by decide) (fun c => ?_) (fun c => ?_)
    · have h := h.1 (c)
      refine jw_aload_n F 0 dX0_as_25 rfl rfl ?_
      refine gx_X0_10_0 F dX0_as_26 ?_
      refine jw_iload_n F 1 dX0_as_29 rfl rfl ?_
      obtain ⟨o_5, o_6, o_7, h⟩ := h
      refine jx_get_X0 F ⟨Nat.le_of_ble_eq_true rfl, Nat.le_of_ble_eq_true rfl⟩ o_5 o_6 o_7 dX0_as_30 dX0_as_33 (Nat.le_of_ble_eq_true rfl) ?_
      refine jw_iload_n F 2 dX0_as_36 rfl rfl ?_
      obtain ⟨o_8, o_9, o_10, o_11, h⟩ := h
      refine jx_isOf_X0 F ⟨Nat.le_of_ble_eq_true rfl, Nat.le_of_ble_eq_true rfl⟩ o_8 o_9 o_10 o_11 dX0_as_37 (Nat.le_of_ble_eq_true rfl) (fun hb_11 => ?_)
      refine jw_if_eq F (rg01 hb_11) (tgt := 47) dX0_as_40 (by decide) (fun c => ?_) (fun c => ?_)
      · have h := h.1 (c)
        refine jw_iconst F dX0_as_47 ?_
        exact rt _ _ _ _ dX0_as_48 ⟨rfl, h⟩
      · have h := h.2 (c)
        refine jw_iload_n F 1 dX0_as_43 rfl rfl ?_
        refine jw_goto F (tgt := 48) dX0_as_44 (by decide) ?_
        exact rt _ _ _ _ dX0_as_48 ⟨rfl, h⟩
    · have h := h.2 (c)
      refine jw_bipush F (z := (-102)) dX0_as_20 (by decide) ?_
      refine jw_goto F (tgt := 48) dX0_as_22 (by decide) ?_
      exact rt _ _ _ _ dX0_as_48 ⟨rfl, h⟩
  · have h := h.2 (c)
    refine jw_bipush F (z := (-101)) dX0_as_8 (by decide) ?_
    exact rt _ _ _ _ dX0_as_10 ⟨rfl, h⟩
theorem hd_X0_sounds : yX0_sounds.cls = RX0 ∧ yX0_sounds.cls ≠ "java/lang/invoke/MethodHandle" ∧ yX0_sounds.cls ≠ "java/lang/invoke/VarHandle" ∧ (parseMethodDescriptor yX0_sounds.desc).map (fun d => d.parameters.length) = some 2 := by decide +kernel
set_option maxHeartbeats 4000000 in
set_option maxRecDepth 100000 in
theorem wk_X0_sounds {l : Launch} {D : va_G} {dA : Nat → ClassId} {ad : Nat → Nat} {s : Sg} {a1 a2 : Int} {Q : Int → Prop} (h : wp_X0_sounds a1 a2 s Q) : MXi l D dA (xwf dA ad) yX0_sounds cX0_sounds 3 .int ({ frames := 3, cells := 0, slots := 0, locals := 120 } : Room) [.ref (ad 0), .int (iI a1), .int (iI a2)] s (fun z s' => s' = s ∧ Q z) := by
  unfold wp_X0_sounds at h
  refine jw_start_i (own := RX0) (lv0 := [(0, .ref (ad 0)), (1, .int (iI a1)), (2, .int (iI a2))]) (by decide) rfl (Nat.le_of_ble_eq_true rfl) rfl (fun G F rt => ?_)
  refine jw_aload_n F 0 dX0_sounds_0 rfl rfl ?_
  refine jw_iload_n F 1 dX0_sounds_1 rfl rfl ?_
  refine jw_callVzp F (wk_X0_isLikeness h) (lw_V q530 q532 qs11 q70 q533) hd_X0_isLikeness ⟨rfl, rfl, Nat.le_of_ble_eq_true rfl, Nat.le_of_ble_eq_true rfl⟩ rfl rfl (xh_0 dA ad _) rfl rfl rfl (Nat.le_of_ble_eq_true rfl) dX0_sounds_2 (fun r_1 hb_r_1 h => ?_)
  refine jw_if_eq F (rg01 hb_r_1) (tgt := 50) dX0_sounds_5 (by decide) (fun c => ?_) (fun c => ?_)
  · have h := h.1 (c)
    refine jw_bipush F (z := (-101)) dX0_sounds_50 (by decide) ?_
    exact rt _ _ _ _ dX0_sounds_52 ⟨rfl, h⟩
  · have h := h.2 (c)
    refine jw_iload_n F 2 dX0_sounds_8 rfl rfl ?_
    refine jw_iconst F dX0_sounds_9 ?_
    refine jw_aload_n F 0 dX0_sounds_10 rfl rfl ?_
    refine gx_X0_23_0 F dX0_sounds_11 ?_
    refine gx_X0_144_1 F dX0_sounds_14 ?_
    refine jw_iconst F dX0_sounds_17 ?_
    refine jw_isub F dX0_sounds_18 ?_
    refine jw_callSzp F (wk_X0_in h) (lw_S q534 q449 q70 q450) hd_X0_in ⟨rfl, rfl, Nat.le_of_ble_eq_true rfl, Nat.le_of_ble_eq_true rfl⟩ rfl rfl (Nat.le_of_ble_eq_true rfl) dX0_sounds_19 (fun r_3 hb_r_3 h => ?_)
    refine jw_if_eq F (rg01 hb_r_3) (tgt := 50) dX0_sounds_22 (by decide) (fun c => ?_) (fun c => ?_)
    · have h := h.1 (c)
      refine jw_bipush F (z := (-101)) dX0_sounds_50 (by decide) ?_
      exact rt _ _ _ _ dX0_sounds_52 ⟨rfl, h⟩
    · have h := h.2 (c)
      refine jw_aload_n F 0 dX0_sounds_25 rfl rfl ?_
      refine gx_X0_10_0 F dX0_sounds_26 ?_
      refine jw_iload_n F 1 dX0_sounds_29 rfl rfl ?_
      obtain ⟨o_5, o_6, o_7, h⟩ := h
      refine jx_get_X0 F ⟨Nat.le_of_ble_eq_true rfl, Nat.le_of_ble_eq_true rfl⟩ o_5 o_6 o_7 dX0_sounds_30 dX0_sounds_33 (Nat.le_of_ble_eq_true rfl) ?_
      refine jw_iload_n F 2 dX0_sounds_36 rfl rfl ?_
      refine jw_aload_n F 0 dX0_sounds_37 rfl rfl ?_
      refine gx_X0_23_0 F dX0_sounds_38 ?_
      refine gx_X0_144_1 F dX0_sounds_41 ?_
      obtain ⟨o_8, o_9, o_10, o_11, h⟩ := h
      refine jx_sounds_X0 F ⟨Nat.le_of_ble_eq_true rfl, Nat.le_of_ble_eq_true rfl⟩ o_8 o_9 o_10 o_11 dX0_sounds_44 (Nat.le_of_ble_eq_true rfl) ?_
      refine jw_goto F (tgt := 52) dX0_sounds_47 (by decide) ?_
      exact rt _ _ _ _ dX0_sounds_52 ⟨rfl, h⟩
theorem hd_X1_lay : yX1_lay.cls = RX1 ∧ yX1_lay.cls ≠ "java/lang/invoke/MethodHandle" ∧ yX1_lay.cls ≠ "java/lang/invoke/VarHandle" ∧ (parseMethodDescriptor yX1_lay.desc).map (fun d => d.parameters.length) = some 1 := by decide +kernel
set_option maxHeartbeats 4000000 in
set_option maxRecDepth 100000 in
theorem wk_X1_lay_1 {l : Launch} {D : va_G} {dA : Nat → ClassId} {ad : Nat → Nat} {s : Sg} {a1 : Int} {Q : Sg → Prop} (h : wp_X1_lay 1 36 19 20 21 a1 s Q) : MXv l D dA (xwf dA ad) yX1_lay cX1_lay 5 ({ frames := 0, cells := 0, slots := 0, locals := 0 } : Room) [.ref (ad 1), .int (iI a1)] s Q := by
  unfold wp_X1_lay at h
  refine jw_start_v (own := RX1) (lv0 := [(0, .ref (ad 1)), (1, .int (iI a1))]) (by decide) rfl (Nat.le_of_ble_eq_true rfl) rfl (fun G F rt => ?_)
  refine jw_aload_n F 0 dX1_lay_0 rfl rfl ?_
  refine jw_iload_n F 1 dX1_lay_1 rfl rfl ?_
  refine pgx_X1_26_1 F dX1_lay_2 ?_
  refine jw_aload_n F 0 dX1_lay_5 rfl rfl ?_
  refine jw_iconst F dX1_lay_6 ?_
  refine pgx_X1_30_1 F dX1_lay_7 ?_
  refine jw_iconst F dX1_lay_10 ?_
  refine jw_istore_n F (lv' := [(0, .ref (ad 1)), (1, .int (iI a1)), (2, .int (iI 0))]) [1, 2, 0] dX1_lay_11 rfl (by decide) rfl ?_
  refine lp2_r (fun x2_1 s_2 => G s_2 12 [(0, .ref (ad 1)), (1, .int (iI a1)), (2, .int (iI x2_1))] []) h (fun x2_1 s_2 K_3 h ih_4 => ?_)
  refine jw_iload_n F 2 dX1_lay_12 rfl rfl ?_
  refine jw_iload_n F 1 dX1_lay_13 rfl rfl ?_
  obtain ⟨o_5, h⟩ := h
  obtain ⟨o_6, h⟩ := h
  refine jw_icmp_ge F o_5 o_6 (tgt := 102) dX1_lay_14 (by decide) (fun c => ?_) (fun c => ?_)
  · have h := h.1 (c)
    exact rt _ _ _ dX1_lay_102 h
  · have h := h.2 (c)
    refine jw_iload_n F 2 dX1_lay_17 rfl rfl ?_
    refine jw_iconst F dX1_lay_18 ?_
    refine jw_iadd F dX1_lay_19 ?_
    refine jw_istore_n F (lv' := [(0, .ref (ad 1)), (1, .int (iI a1)), (2, .int (iI x2_1)), (3, .int (iI (x2_1 + 1)))]) [1, 2, 3, 0] dX1_lay_20 rfl (by decide) rfl ?_
    refine lp2_r (fun x3_7 s_8 => G s_8 21 [(0, .ref (ad 1)), (1, .int (iI a1)), (2, .int (iI x2_1)), (3, .int (iI x3_7))] []) h (fun x3_7 s_8 K_9 h ih_10 => ?_)
    refine jw_iload_n F 3 dX1_lay_21 rfl rfl ?_
    refine jw_iload_n F 1 dX1_lay_22 rfl rfl ?_
    obtain ⟨o_11, h⟩ := h
    obtain ⟨o_12, h⟩ := h
    refine jw_icmp_ge F o_11 o_12 (tgt := 96) dX1_lay_23 (by decide) (fun c => ?_) (fun c => ?_)
    · have h := h.1 (c)
      refine jw_iinc F (lv' := [(0, .ref (ad 1)), (1, .int (iI a1)), (2, .int (iI (x2_1 + 1))), (3, .int (iI x3_7))]) 2 [1, 2, 0, 3] dX1_lay_96 rfl (by decide) rfl ?_
      refine jw_goto F (tgt := 12) dX1_lay_99 (by decide) ?_
      refine jw_sub F (lv' := [(0, .ref (ad 1)), (1, .int (iI a1)), (2, .int (iI (x2_1 + 1)))]) [0, 1, 2] rfl ?_
      exact ih_4 _ _ h
    · have h := h.2 (c)
      refine jw_iload_n F 3 dX1_lay_26 rfl rfl ?_
      refine jw_iconst F dX1_lay_27 ?_
      refine jw_iadd F dX1_lay_28 ?_
      refine jw_istore F (lv' := [(0, .ref (ad 1)), (1, .int (iI a1)), (2, .int (iI x2_1)), (3, .int (iI x3_7)), (4, .int (iI (x3_7 + 1)))]) [1, 2, 3, 4, 0] dX1_lay_29 (by decide) rfl ?_
      refine lp2_r (fun x4_13 s_14 => G s_14 31 [(0, .ref (ad 1)), (1, .int (iI a1)), (2, .int (iI x2_1)), (3, .int (iI x3_7)), (4, .int (iI x4_13))] []) h (fun x4_13 s_14 K_15 h ih_16 => ?_)
      refine jw_iload F 4 dX1_lay_31 rfl ?_
      refine jw_iload_n F 1 dX1_lay_33 rfl rfl ?_
      obtain ⟨o_17, h⟩ := h
      obtain ⟨o_18, h⟩ := h
      refine jw_icmp_ge F o_17 o_18 (tgt := 90) dX1_lay_34 (by decide) (fun c => ?_) (fun c => ?_)
      · have h := h.1 (c)
        refine jw_iinc F (lv' := [(0, .ref (ad 1)), (1, .int (iI a1)), (2, .int (iI x2_1)), (3, .int (iI (x3_7 + 1))), (4, .int (iI x4_13))]) 3 [1, 2, 3, 0, 4] dX1_lay_90 rfl (by decide) rfl ?_
        refine jw_goto F (tgt := 21) dX1_lay_93 (by decide) ?_
        refine jw_sub F (lv' := [(0, .ref (ad 1)), (1, .int (iI a1)), (2, .int (iI x2_1)), (3, .int (iI (x3_7 + 1)))]) [0, 1, 2, 3] rfl ?_
        exact ih_10 _ _ h
      · have h := h.2 (c)
        refine jw_aload_n F 0 dX1_lay_37 rfl rfl ?_
        refine gx_X1_11_1 F dX1_lay_38 ?_
        refine jw_aload_n F 0 dX1_lay_41 rfl rfl ?_
        refine gx_X1_30_1 F dX1_lay_42 ?_
        obtain ⟨o_19, o_20, h⟩ := h
        refine jw_aald F (xO dA ad) (k := 18) (by decide) (xa_18 dA ad) 3 rfl rfl (by decide) o_19 o_20 dX1_lay_45 ?_
        refine jw_iconst F dX1_lay_46 ?_
        refine jw_iload_n F 2 dX1_lay_47 rfl rfl ?_
        refine jw_iast F (xO dA ad) (k := (36 + ((s_14 1 1) : Int).toNat)) (by omega) (xr_3 dA ad (by omega) (by omega)) 0 rfl (by decide) (by decide) (by decide) dX1_lay_48 ?_
        refine jw_aload_n F 0 dX1_lay_49 rfl rfl ?_
        refine gx_X1_11_1 F dX1_lay_50 ?_
        refine jw_aload_n F 0 dX1_lay_53 rfl rfl ?_
        refine gx_X1_30_1 F dX1_lay_54 ?_
        obtain ⟨o_21, o_22, h⟩ := h
        refine jw_aald F (xO dA ad) (k := 18) (by decide) (xa_18 dA ad) 3 rfl rfl (by decide) o_21 o_22 dX1_lay_57 ?_
        refine jw_iconst F dX1_lay_58 ?_
        refine jw_iload_n F 3 dX1_lay_59 rfl rfl ?_
        refine jw_iast F (xO dA ad) (k := (36 + (((up s_14 (36 + ((s_14 1 1) : Int).toNat) 0 x2_1) 1 1) : Int).toNat)) (by omega) (xr_3 dA ad (by omega) (by omega)) 0 rfl (by decide) (by decide) (by decide) dX1_lay_60 ?_
        refine jw_aload_n F 0 dX1_lay_61 rfl rfl ?_
        refine gx_X1_11_1 F dX1_lay_62 ?_
        refine jw_aload_n F 0 dX1_lay_65 rfl rfl ?_
        refine gx_X1_30_1 F dX1_lay_66 ?_
        obtain ⟨o_23, o_24, h⟩ := h
        refine jw_aald F (xO dA ad) (k := 18) (by decide) (xa_18 dA ad) 3 rfl rfl (by decide) o_23 o_24 dX1_lay_69 ?_
        refine jw_iconst F dX1_lay_70 ?_
        refine jw_iload F 4 dX1_lay_71 rfl ?_
        refine jw_iast F (xO dA ad) (k := (36 + (((up (up s_14 (36 + ((s_14 1 1) : Int).toNat) 0 x2_1) (36 + (((up s_14 (36 + ((s_14 1 1) : Int).toNat) 0 x2_1) 1 1) : Int).toNat) 1 x3_7) 1 1) : Int).toNat)) (by omega) (xr_3 dA ad (by omega) (by omega)) 0 rfl (by decide) (by decide) (by decide) dX1_lay_73 ?_
        refine jw_aload_n F 0 dX1_lay_74 rfl rfl ?_
        refine jw_dup F rfl dX1_lay_75 ?_
        refine gx_X1_30_1 F dX1_lay_76 ?_
        refine jw_iconst F dX1_lay_79 ?_
        refine jw_iadd F dX1_lay_80 ?_
        refine pgx_X1_30_1 F dX1_lay_81 ?_
        refine jw_iinc F (lv' := [(0, .ref (ad 1)), (1, .int (iI a1)), (2, .int (iI x2_1)), (3, .int (iI x3_7)), (4, .int (iI (x4_13 + 1)))]) 4 [1, 2, 3, 4, 0] dX1_lay_84 rfl (by decide) rfl ?_
        refine jw_goto F (tgt := 31) dX1_lay_87 (by decide) ?_
        exact ih_16 _ _ h
set_option maxHeartbeats 4000000 in
set_option maxRecDepth 100000 in
theorem wk_X1_lay_2 {l : Launch} {D : va_G} {dA : Nat → ClassId} {ad : Nat → Nat} {s : Sg} {a1 : Int} {Q : Sg → Prop} (h : wp_X1_lay 2 156 23 24 25 a1 s Q) : MXv l D dA (xwf dA ad) yX1_lay cX1_lay 5 ({ frames := 0, cells := 0, slots := 0, locals := 0 } : Room) [.ref (ad 2), .int (iI a1)] s Q := by
  unfold wp_X1_lay at h
  refine jw_start_v (own := RX1) (lv0 := [(0, .ref (ad 2)), (1, .int (iI a1))]) (by decide) rfl (Nat.le_of_ble_eq_true rfl) rfl (fun G F rt => ?_)
  refine jw_aload_n F 0 dX1_lay_0 rfl rfl ?_
  refine jw_iload_n F 1 dX1_lay_1 rfl rfl ?_
  refine pgx_X1_26_2 F dX1_lay_2 ?_
  refine jw_aload_n F 0 dX1_lay_5 rfl rfl ?_
  refine jw_iconst F dX1_lay_6 ?_
  refine pgx_X1_30_2 F dX1_lay_7 ?_
  refine jw_iconst F dX1_lay_10 ?_
  refine jw_istore_n F (lv' := [(0, .ref (ad 2)), (1, .int (iI a1)), (2, .int (iI 0))]) [1, 2, 0] dX1_lay_11 rfl (by decide) rfl ?_
  refine lp2_r (fun x2_1 s_2 => G s_2 12 [(0, .ref (ad 2)), (1, .int (iI a1)), (2, .int (iI x2_1))] []) h (fun x2_1 s_2 K_3 h ih_4 => ?_)
  refine jw_iload_n F 2 dX1_lay_12 rfl rfl ?_
  refine jw_iload_n F 1 dX1_lay_13 rfl rfl ?_
  obtain ⟨o_5, h⟩ := h
  obtain ⟨o_6, h⟩ := h
  refine jw_icmp_ge F o_5 o_6 (tgt := 102) dX1_lay_14 (by decide) (fun c => ?_) (fun c => ?_)
  · have h := h.1 (c)
    exact rt _ _ _ dX1_lay_102 h
  · have h := h.2 (c)
    refine jw_iload_n F 2 dX1_lay_17 rfl rfl ?_
    refine jw_iconst F dX1_lay_18 ?_
    refine jw_iadd F dX1_lay_19 ?_
    refine jw_istore_n F (lv' := [(0, .ref (ad 2)), (1, .int (iI a1)), (2, .int (iI x2_1)), (3, .int (iI (x2_1 + 1)))]) [1, 2, 3, 0] dX1_lay_20 rfl (by decide) rfl ?_
    refine lp2_r (fun x3_7 s_8 => G s_8 21 [(0, .ref (ad 2)), (1, .int (iI a1)), (2, .int (iI x2_1)), (3, .int (iI x3_7))] []) h (fun x3_7 s_8 K_9 h ih_10 => ?_)
    refine jw_iload_n F 3 dX1_lay_21 rfl rfl ?_
    refine jw_iload_n F 1 dX1_lay_22 rfl rfl ?_
    obtain ⟨o_11, h⟩ := h
    obtain ⟨o_12, h⟩ := h
    refine jw_icmp_ge F o_11 o_12 (tgt := 96) dX1_lay_23 (by decide) (fun c => ?_) (fun c => ?_)
    · have h := h.1 (c)
      refine jw_iinc F (lv' := [(0, .ref (ad 2)), (1, .int (iI a1)), (2, .int (iI (x2_1 + 1))), (3, .int (iI x3_7))]) 2 [1, 2, 0, 3] dX1_lay_96 rfl (by decide) rfl ?_
      refine jw_goto F (tgt := 12) dX1_lay_99 (by decide) ?_
      refine jw_sub F (lv' := [(0, .ref (ad 2)), (1, .int (iI a1)), (2, .int (iI (x2_1 + 1)))]) [0, 1, 2] rfl ?_
      exact ih_4 _ _ h
    · have h := h.2 (c)
      refine jw_iload_n F 3 dX1_lay_26 rfl rfl ?_
      refine jw_iconst F dX1_lay_27 ?_
      refine jw_iadd F dX1_lay_28 ?_
      refine jw_istore F (lv' := [(0, .ref (ad 2)), (1, .int (iI a1)), (2, .int (iI x2_1)), (3, .int (iI x3_7)), (4, .int (iI (x3_7 + 1)))]) [1, 2, 3, 4, 0] dX1_lay_29 (by decide) rfl ?_
      refine lp2_r (fun x4_13 s_14 => G s_14 31 [(0, .ref (ad 2)), (1, .int (iI a1)), (2, .int (iI x2_1)), (3, .int (iI x3_7)), (4, .int (iI x4_13))] []) h (fun x4_13 s_14 K_15 h ih_16 => ?_)
      refine jw_iload F 4 dX1_lay_31 rfl ?_
      refine jw_iload_n F 1 dX1_lay_33 rfl rfl ?_
      obtain ⟨o_17, h⟩ := h
      obtain ⟨o_18, h⟩ := h
      refine jw_icmp_ge F o_17 o_18 (tgt := 90) dX1_lay_34 (by decide) (fun c => ?_) (fun c => ?_)
      · have h := h.1 (c)
        refine jw_iinc F (lv' := [(0, .ref (ad 2)), (1, .int (iI a1)), (2, .int (iI x2_1)), (3, .int (iI (x3_7 + 1))), (4, .int (iI x4_13))]) 3 [1, 2, 3, 0, 4] dX1_lay_90 rfl (by decide) rfl ?_
        refine jw_goto F (tgt := 21) dX1_lay_93 (by decide) ?_
        refine jw_sub F (lv' := [(0, .ref (ad 2)), (1, .int (iI a1)), (2, .int (iI x2_1)), (3, .int (iI (x3_7 + 1)))]) [0, 1, 2, 3] rfl ?_
        exact ih_10 _ _ h
      · have h := h.2 (c)
        refine jw_aload_n F 0 dX1_lay_37 rfl rfl ?_
        refine gx_X1_11_2 F dX1_lay_38 ?_
        refine jw_aload_n F 0 dX1_lay_41 rfl rfl ?_
        refine gx_X1_30_2 F dX1_lay_42 ?_
        obtain ⟨o_19, o_20, h⟩ := h
        refine jw_aald F (xO dA ad) (k := 22) (by decide) (xa_22 dA ad) 3 rfl rfl (by decide) o_19 o_20 dX1_lay_45 ?_
        refine jw_iconst F dX1_lay_46 ?_
        refine jw_iload_n F 2 dX1_lay_47 rfl rfl ?_
        refine jw_iast F (xO dA ad) (k := (156 + ((s_14 2 1) : Int).toNat)) (by omega) (xr_3 dA ad (by omega) (by omega)) 0 rfl (by decide) (by decide) (by decide) dX1_lay_48 ?_
        refine jw_aload_n F 0 dX1_lay_49 rfl rfl ?_
        refine gx_X1_11_2 F dX1_lay_50 ?_
        refine jw_aload_n F 0 dX1_lay_53 rfl rfl ?_
        refine gx_X1_30_2 F dX1_lay_54 ?_
        obtain ⟨o_21, o_22, h⟩ := h
        refine jw_aald F (xO dA ad) (k := 22) (by decide) (xa_22 dA ad) 3 rfl rfl (by decide) o_21 o_22 dX1_lay_57 ?_
        refine jw_iconst F dX1_lay_58 ?_
        refine jw_iload_n F 3 dX1_lay_59 rfl rfl ?_
        refine jw_iast F (xO dA ad) (k := (156 + (((up s_14 (156 + ((s_14 2 1) : Int).toNat) 0 x2_1) 2 1) : Int).toNat)) (by omega) (xr_3 dA ad (by omega) (by omega)) 0 rfl (by decide) (by decide) (by decide) dX1_lay_60 ?_
        refine jw_aload_n F 0 dX1_lay_61 rfl rfl ?_
        refine gx_X1_11_2 F dX1_lay_62 ?_
        refine jw_aload_n F 0 dX1_lay_65 rfl rfl ?_
        refine gx_X1_30_2 F dX1_lay_66 ?_
        obtain ⟨o_23, o_24, h⟩ := h
        refine jw_aald F (xO dA ad) (k := 22) (by decide) (xa_22 dA ad) 3 rfl rfl (by decide) o_23 o_24 dX1_lay_69 ?_
        refine jw_iconst F dX1_lay_70 ?_
        refine jw_iload F 4 dX1_lay_71 rfl ?_
        refine jw_iast F (xO dA ad) (k := (156 + (((up (up s_14 (156 + ((s_14 2 1) : Int).toNat) 0 x2_1) (156 + (((up s_14 (156 + ((s_14 2 1) : Int).toNat) 0 x2_1) 2 1) : Int).toNat) 1 x3_7) 2 1) : Int).toNat)) (by omega) (xr_3 dA ad (by omega) (by omega)) 0 rfl (by decide) (by decide) (by decide) dX1_lay_73 ?_
        refine jw_aload_n F 0 dX1_lay_74 rfl rfl ?_
        refine jw_dup F rfl dX1_lay_75 ?_
        refine gx_X1_30_2 F dX1_lay_76 ?_
        refine jw_iconst F dX1_lay_79 ?_
        refine jw_iadd F dX1_lay_80 ?_
        refine pgx_X1_30_2 F dX1_lay_81 ?_
        refine jw_iinc F (lv' := [(0, .ref (ad 2)), (1, .int (iI a1)), (2, .int (iI x2_1)), (3, .int (iI x3_7)), (4, .int (iI (x4_13 + 1)))]) 4 [1, 2, 3, 4, 0] dX1_lay_84 rfl (by decide) rfl ?_
        refine jw_goto F (tgt := 31) dX1_lay_87 (by decide) ?_
        exact ih_16 _ _ h
theorem hd_X0_strings : yX0_strings.cls = RX0 ∧ yX0_strings.cls ≠ "java/lang/invoke/MethodHandle" ∧ yX0_strings.cls ≠ "java/lang/invoke/VarHandle" ∧ (parseMethodDescriptor yX0_strings.desc).map (fun d => d.parameters.length) = some 1 := by decide +kernel
set_option maxHeartbeats 4000000 in
set_option maxRecDepth 100000 in
theorem wk_X0_strings {l : Launch} {D : va_G} {dA : Nat → ClassId} {ad : Nat → Nat} {s : Sg} {a1 : Int} {Q : Int → Sg → Prop} (h : wp_X0_strings a1 s Q) : MXi l D dA (xwf dA ad) yX0_strings cX0_strings 2 .int ({ frames := 6, cells := 0, slots := 0, locals := 191 } : Room) [.ref (ad 0), .int (iI a1)] s Q := by
  unfold wp_X0_strings at h
  refine jw_start_i (own := RX0) (lv0 := [(0, .ref (ad 0)), (1, .int (iI a1))]) (by decide) rfl (Nat.le_of_ble_eq_true rfl) rfl (fun G F rt => ?_)
  refine jw_iload_n F 1 dX0_strings_0 rfl rfl ?_
  refine jw_iconst F dX0_strings_1 ?_
  refine jw_bipush F (z := 9) dX0_strings_2 (by decide) ?_
  refine jw_callSzp F (wk_X0_in h) (lw_S q534 q449 q70 q450) hd_X0_in ⟨rfl, rfl, Nat.le_of_ble_eq_true rfl, Nat.le_of_ble_eq_true rfl⟩ rfl rfl (Nat.le_of_ble_eq_true rfl) dX0_strings_4 (fun r_1 hb_r_1 h => ?_)
  refine jw_if_ne F (rg01 hb_r_1) (tgt := 13) dX0_strings_7 (by decide) (fun c => ?_) (fun c => ?_)
  · have h := h.1 (c)
    refine jw_aload_n F 0 dX0_strings_13 rfl rfl ?_
    refine gx_X0_23_0 F dX0_strings_14 ?_
    refine jw_iload_n F 1 dX0_strings_17 rfl rfl ?_
    refine jw_callVv F (wk_X1_lay_1 h) (lw_V q166 q167 q168 q74 q169) hd_X1_lay ⟨rfl, rfl, Nat.le_of_ble_eq_true rfl, Nat.le_of_ble_eq_true rfl⟩ rfl rfl (xh_1 dA ad _) rfl rfl rfl (Nat.le_of_ble_eq_true rfl) dX0_strings_18 (fun s_4 hz => ?_)
    have h := hz
    refine jw_aload_n F 0 dX0_strings_21 rfl rfl ?_
    refine jw_aload_n F 0 dX0_strings_22 rfl rfl ?_
    refine gx_X0_23_0 F dX0_strings_23 ?_
    refine jw_callVv F (wk_X0_join_1 h) (lw_V q170 q172 qs0 q70 q173) hd_X0_join ⟨rfl, rfl, Nat.le_of_ble_eq_true rfl, Nat.le_of_ble_eq_true rfl⟩ rfl rfl (xh_0 dA ad _) rfl rfl rfl (Nat.le_of_ble_eq_true rfl) dX0_strings_26 (fun s_6 hz => ?_)
    have h := hz
    refine jw_aload_n F 0 dX0_strings_29 rfl rfl ?_
    refine jw_iconst F dX0_strings_30 ?_
    refine pgx_X0_170_0 F dX0_strings_31 ?_
    refine jw_aload_n F 0 dX0_strings_34 rfl rfl ?_
    refine jw_iconst F dX0_strings_35 ?_
    refine pgx_X0_115_0 F dX0_strings_36 ?_
    refine jw_aload_n F 0 dX0_strings_39 rfl rfl ?_
    refine jw_dup F rfl dX0_strings_40 ?_
    refine gx_X0_173_0 F dX0_strings_41 ?_
    refine jw_iconst F dX0_strings_44 ?_
    refine jw_iadd F dX0_strings_45 ?_
    refine pgx_X0_173_0 F dX0_strings_46 ?_
    refine jw_aload_n F 0 dX0_strings_49 rfl rfl ?_
    refine gx_X0_23_0 F dX0_strings_50 ?_
    refine gx_X0_151_1 F dX0_strings_53 ?_
    exact rt _ _ _ _ dX0_strings_56 h
  · have h := h.2 (c)
    refine jw_bipush F (z := (-102)) dX0_strings_10 (by decide) ?_
    exact rt _ _ _ _ dX0_strings_12 h
theorem hd_X0_isString : yX0_isString.cls = RX0 ∧ yX0_isString.cls ≠ "java/lang/invoke/MethodHandle" ∧ yX0_isString.cls ≠ "java/lang/invoke/VarHandle" ∧ (parseMethodDescriptor yX0_isString.desc).map (fun d => d.parameters.length) = some 1 := by decide +kernel
set_option maxHeartbeats 4000000 in
set_option maxRecDepth 100000 in
theorem wk_X0_isString {l : Launch} {D : va_G} {dA : Nat → ClassId} {ad : Nat → Nat} {s : Sg} {a1 : Int} {Q : Int → Prop} (h : wp_X0_isString a1 s Q) : MXi l D dA (xwf dA ad) yX0_isString cX0_isString 2 .boolean ({ frames := 1, cells := 0, slots := 0, locals := 22 } : Room) [.ref (ad 0), .int (iI a1)] s (fun z s' => (z = 0 ∨ z = 1) ∧ s' = s ∧ Q z) := by
  unfold wp_X0_isString at h
  refine jw_start_z (own := RX0) (lv0 := [(0, .ref (ad 0)), (1, .int (iI a1))]) (by decide) rfl (Nat.le_of_ble_eq_true rfl) rfl (fun G F rt => ?_)
  refine jw_iload_n F 1 dX0_isString_0 rfl rfl ?_
  refine jw_iconst F dX0_isString_1 ?_
  refine jw_aload_n F 0 dX0_isString_2 rfl rfl ?_
  refine gx_X0_23_0 F dX0_isString_3 ?_
  refine gx_X0_144_1 F dX0_isString_6 ?_
  refine jw_iconst F dX0_isString_9 ?_
  refine jw_isub F dX0_isString_10 ?_
  refine jw_callSzp F (wk_X0_in h) (lw_S q534 q449 q70 q450) hd_X0_in ⟨rfl, rfl, Nat.le_of_ble_eq_true rfl, Nat.le_of_ble_eq_true rfl⟩ rfl rfl (Nat.le_of_ble_eq_true rfl) dX0_isString_11 (fun r_1 hb_r_1 h => ?_)
  exact rt _ _ _ _ dX0_isString_14 hb_r_1 ⟨hb_r_1, rfl, h⟩
theorem hd_X0_chord : yX0_chord.cls = RX0 ∧ yX0_chord.cls ≠ "java/lang/invoke/MethodHandle" ∧ yX0_chord.cls ≠ "java/lang/invoke/VarHandle" ∧ (parseMethodDescriptor yX0_chord.desc).map (fun d => d.parameters.length) = some 3 := by decide +kernel
set_option maxHeartbeats 4000000 in
set_option maxRecDepth 100000 in
theorem wk_X0_chord {l : Launch} {D : va_G} {dA : Nat → ClassId} {ad : Nat → Nat} {s : Sg} {a1 a2 a3 : Int} {Q : Int → Prop} (h : wp_X0_chord a1 a2 a3 s Q) : MXi l D dA (xwf dA ad) yX0_chord cX0_chord 4 .int ({ frames := 2, cells := 0, slots := 0, locals := 46 } : Room) [.ref (ad 0), .int (iI a1), .int (iI a2), .int (iI a3)] s (fun z s' => s' = s ∧ Q z) := by
  unfold wp_X0_chord at h
  refine jw_start_i (own := RX0) (lv0 := [(0, .ref (ad 0)), (1, .int (iI a1)), (2, .int (iI a2)), (3, .int (iI a3))]) (by decide) rfl (Nat.le_of_ble_eq_true rfl) rfl (fun G F rt => ?_)
  refine jw_aload_n F 0 dX0_chord_0 rfl rfl ?_
  refine jw_iload_n F 1 dX0_chord_1 rfl rfl ?_
  refine jw_callVzp F (wk_X0_isString h) (lw_V q591 q593 qs12 q70 q594) hd_X0_isString ⟨rfl, rfl, Nat.le_of_ble_eq_true rfl, Nat.le_of_ble_eq_true rfl⟩ rfl rfl (xh_0 dA ad _) rfl rfl rfl (Nat.le_of_ble_eq_true rfl) dX0_chord_2 (fun r_1 hb_r_1 h => ?_)
  refine jw_if_eq F (rg01 hb_r_1) (tgt := 39) dX0_chord_5 (by decide) (fun c => ?_) (fun c => ?_)
  · have h := h.1 (c)
    refine jw_bipush F (z := (-101)) dX0_chord_39 (by decide) ?_
    exact rt _ _ _ _ dX0_chord_41 ⟨rfl, h⟩
  · have h := h.2 (c)
    refine jw_aload_n F 0 dX0_chord_8 rfl rfl ?_
    refine jw_iload_n F 2 dX0_chord_9 rfl rfl ?_
    refine jw_callVzp F (wk_X0_isString h) (lw_V q591 q593 qs12 q70 q594) hd_X0_isString ⟨rfl, rfl, Nat.le_of_ble_eq_true rfl, Nat.le_of_ble_eq_true rfl⟩ rfl rfl (xh_0 dA ad _) rfl rfl rfl (Nat.le_of_ble_eq_true rfl) dX0_chord_10 (fun r_3 hb_r_3 h => ?_)
    refine jw_if_eq F (rg01 hb_r_3) (tgt := 39) dX0_chord_13 (by decide) (fun c => ?_) (fun c => ?_)
    · have h := h.1 (c)
      refine jw_bipush F (z := (-101)) dX0_chord_39 (by decide) ?_
      exact rt _ _ _ _ dX0_chord_41 ⟨rfl, h⟩
    · have h := h.2 (c)
      refine jw_aload_n F 0 dX0_chord_16 rfl rfl ?_
      refine jw_iload_n F 3 dX0_chord_17 rfl rfl ?_
      refine jw_callVzp F (wk_X0_isString h) (lw_V q591 q593 qs12 q70 q594) hd_X0_isString ⟨rfl, rfl, Nat.le_of_ble_eq_true rfl, Nat.le_of_ble_eq_true rfl⟩ rfl rfl (xh_0 dA ad _) rfl rfl rfl (Nat.le_of_ble_eq_true rfl) dX0_chord_18 (fun r_5 hb_r_5 h => ?_)
      refine jw_if_eq F (rg01 hb_r_5) (tgt := 39) dX0_chord_21 (by decide) (fun c => ?_) (fun c => ?_)
      · have h := h.1 (c)
        refine jw_bipush F (z := (-101)) dX0_chord_39 (by decide) ?_
        exact rt _ _ _ _ dX0_chord_41 ⟨rfl, h⟩
      · have h := h.2 (c)
        refine jw_iload_n F 1 dX0_chord_24 rfl rfl ?_
        refine jw_iload_n F 2 dX0_chord_25 rfl rfl ?_
        obtain ⟨o_7, h⟩ := h
        obtain ⟨o_8, h⟩ := h
        refine jw_icmp_eq F o_7 o_8 (tgt := 39) dX0_chord_26 (by decide) (fun c => ?_) (fun c => ?_)
        · have h := h.1 (c)
          refine jw_bipush F (z := (-101)) dX0_chord_39 (by decide) ?_
          exact rt _ _ _ _ dX0_chord_41 ⟨rfl, h⟩
        · have h := h.2 (c)
          refine jw_iload_n F 1 dX0_chord_29 rfl rfl ?_
          refine jw_iload_n F 3 dX0_chord_30 rfl rfl ?_
          obtain ⟨o_9, h⟩ := h
          obtain ⟨o_10, h⟩ := h
          refine jw_icmp_eq F o_9 o_10 (tgt := 39) dX0_chord_31 (by decide) (fun c => ?_) (fun c => ?_)
          · have h := h.1 (c)
            refine jw_bipush F (z := (-101)) dX0_chord_39 (by decide) ?_
            exact rt _ _ _ _ dX0_chord_41 ⟨rfl, h⟩
          · have h := h.2 (c)
            refine jw_iload_n F 2 dX0_chord_34 rfl rfl ?_
            refine jw_iload_n F 3 dX0_chord_35 rfl rfl ?_
            obtain ⟨o_11, h⟩ := h
            obtain ⟨o_12, h⟩ := h
            refine jw_icmp_ne F o_11 o_12 (tgt := 42) dX0_chord_36 (by decide) (fun c => ?_) (fun c => ?_)
            · have h := h.1 (c)
              refine jw_aload_n F 0 dX0_chord_42 rfl rfl ?_
              refine gx_X0_23_0 F dX0_chord_43 ?_
              refine jw_iload_n F 1 dX0_chord_46 rfl rfl ?_
              refine jw_iload_n F 2 dX0_chord_47 rfl rfl ?_
              refine jw_iload_n F 3 dX0_chord_48 rfl rfl ?_
              refine jw_callVip F (wk_X1_number_1 h) (lw_V q595 q214 q215 q74 q216) hd_X1_number ⟨rfl, rfl, Nat.le_of_ble_eq_true rfl, Nat.le_of_ble_eq_true rfl⟩ rfl rfl (xh_1 dA ad _) rfl rfl rfl (Nat.le_of_ble_eq_true rfl) dX0_chord_49 (fun r_13 h => ?_)
              exact rt _ _ _ _ dX0_chord_52 ⟨rfl, h⟩
            · have h := h.2 (c)
              refine jw_bipush F (z := (-101)) dX0_chord_39 (by decide) ?_
              exact rt _ _ _ _ dX0_chord_41 ⟨rfl, h⟩
theorem hd_X0_isChord : yX0_isChord.cls = RX0 ∧ yX0_isChord.cls ≠ "java/lang/invoke/MethodHandle" ∧ yX0_isChord.cls ≠ "java/lang/invoke/VarHandle" ∧ (parseMethodDescriptor yX0_isChord.desc).map (fun d => d.parameters.length) = some 1 := by decide +kernel
set_option maxHeartbeats 4000000 in
set_option maxRecDepth 100000 in
theorem wk_X0_isChord {l : Launch} {D : va_G} {dA : Nat → ClassId} {ad : Nat → Nat} {s : Sg} {a1 : Int} {Q : Int → Prop} (h : wp_X0_isChord a1 s Q) : MXi l D dA (xwf dA ad) yX0_isChord cX0_isChord 2 .boolean ({ frames := 1, cells := 0, slots := 0, locals := 22 } : Room) [.ref (ad 0), .int (iI a1)] s (fun z s' => (z = 0 ∨ z = 1) ∧ s' = s ∧ Q z) := by
  unfold wp_X0_isChord at h
  refine jw_start_z (own := RX0) (lv0 := [(0, .ref (ad 0)), (1, .int (iI a1))]) (by decide) rfl (Nat.le_of_ble_eq_true rfl) rfl (fun G F rt => ?_)
  refine jw_iload_n F 1 dX0_isChord_0 rfl rfl ?_
  refine jw_iconst F dX0_isChord_1 ?_
  refine jw_aload_n F 0 dX0_isChord_2 rfl rfl ?_
  refine gx_X0_23_0 F dX0_isChord_3 ?_
  refine gx_X0_151_1 F dX0_isChord_6 ?_
  refine jw_iconst F dX0_isChord_9 ?_
  refine jw_isub F dX0_isChord_10 ?_
  refine jw_callSzp F (wk_X0_in h) (lw_S q534 q449 q70 q450) hd_X0_in ⟨rfl, rfl, Nat.le_of_ble_eq_true rfl, Nat.le_of_ble_eq_true rfl⟩ rfl rfl (Nat.le_of_ble_eq_true rfl) dX0_isChord_11 (fun r_1 hb_r_1 h => ?_)
  exact rt _ _ _ _ dX0_isChord_14 hb_r_1 ⟨hb_r_1, rfl, h⟩
theorem hd_X0_part : yX0_part.cls = RX0 ∧ yX0_part.cls ≠ "java/lang/invoke/MethodHandle" ∧ yX0_part.cls ≠ "java/lang/invoke/VarHandle" ∧ (parseMethodDescriptor yX0_part.desc).map (fun d => d.parameters.length) = some 2 := by decide +kernel
set_option maxHeartbeats 4000000 in
set_option maxRecDepth 100000 in
theorem wk_X0_part {l : Launch} {D : va_G} {dA : Nat → ClassId} {ad : Nat → Nat} {s : Sg} {a1 a2 : Int} {Q : Int → Prop} (h : wp_X0_part a1 a2 s Q) : MXi l D dA (xwf dA ad) yX0_part cX0_part 3 .int ({ frames := 2, cells := 0, slots := 0, locals := 43 } : Room) [.ref (ad 0), .int (iI a1), .int (iI a2)] s (fun z s' => s' = s ∧ Q z) := by
  unfold wp_X0_part at h
  refine jw_start_i (own := RX0) (lv0 := [(0, .ref (ad 0)), (1, .int (iI a1)), (2, .int (iI a2))]) (by decide) rfl (Nat.le_of_ble_eq_true rfl) rfl (fun G F rt => ?_)
  refine jw_aload_n F 0 dX0_part_0 rfl rfl ?_
  refine jw_iload_n F 1 dX0_part_1 rfl rfl ?_
  refine jw_callVzp F (wk_X0_isChord h) (lw_V q600 q602 qs13 q70 q603) hd_X0_isChord ⟨rfl, rfl, Nat.le_of_ble_eq_true rfl, Nat.le_of_ble_eq_true rfl⟩ rfl rfl (xh_0 dA ad _) rfl rfl rfl (Nat.le_of_ble_eq_true rfl) dX0_part_2 (fun r_1 hb_r_1 h => ?_)
  refine jw_if_ne F (rg01 hb_r_1) (tgt := 11) dX0_part_5 (by decide) (fun c => ?_) (fun c => ?_)
  · have h := h.1 (c)
    refine jw_iload_n F 2 dX0_part_11 rfl rfl ?_
    refine jw_iconst F dX0_part_12 ?_
    refine jw_iconst F dX0_part_13 ?_
    refine jw_callSzp F (wk_X0_in h) (lw_S q534 q449 q70 q450) hd_X0_in ⟨rfl, rfl, Nat.le_of_ble_eq_true rfl, Nat.le_of_ble_eq_true rfl⟩ rfl rfl (Nat.le_of_ble_eq_true rfl) dX0_part_14 (fun r_3 hb_r_3 h => ?_)
    refine jw_if_ne F (rg01 hb_r_3) (tgt := 25) dX0_part_17 (by decide) (fun c => ?_) (fun c => ?_)
    · have h := h.1 (c)
      refine jw_iload_n F 2 dX0_part_25 rfl rfl ?_
      refine jw_iconst F dX0_part_26 ?_
      obtain ⟨o_5, h⟩ := h
      refine jw_icmp_ge F o_5 (by decide) (tgt := 44) dX0_part_27 (by decide) (fun c => ?_) (fun c => ?_)
      · have h := h.1 (c)
        refine jw_aload_n F 0 dX0_part_44 rfl rfl ?_
        refine gx_X0_23_0 F dX0_part_45 ?_
        refine gx_X0_154_1 F dX0_part_48 ?_
        refine jw_iload_n F 1 dX0_part_51 rfl rfl ?_
        obtain ⟨o_6, o_7, h⟩ := h
        refine jw_iald F (xO dA ad) (k := 19) (by decide) (xa_19 dA ad) 0 rfl (by decide) o_6 o_7 dX0_part_52 ?_
        exact rt _ _ _ _ dX0_part_53 ⟨rfl, h⟩
      · have h := h.2 (c)
        refine jw_aload_n F 0 dX0_part_30 rfl rfl ?_
        refine gx_X0_23_0 F dX0_part_31 ?_
        refine gx_X0_185_1 F dX0_part_34 ?_
        refine jw_iload_n F 1 dX0_part_37 rfl rfl ?_
        obtain ⟨o_8, o_9, h⟩ := h
        refine jw_aald F (xO dA ad) (k := 18) (by decide) (xa_18 dA ad) 3 rfl rfl (by decide) o_8 o_9 dX0_part_38 ?_
        refine jw_iload_n F 2 dX0_part_39 rfl rfl ?_
        obtain ⟨o_10, o_11, h⟩ := h
        refine jw_iald F (xO dA ad) (k := (36 + (a1 : Int).toNat)) (by omega) (xr_3 dA ad (by omega) (by omega)) 0 rfl (by decide) o_10 o_11 dX0_part_40 ?_
        refine jw_goto F (tgt := 53) dX0_part_41 (by decide) ?_
        exact rt _ _ _ _ dX0_part_53 ⟨rfl, h⟩
    · have h := h.2 (c)
      refine jw_bipush F (z := (-102)) dX0_part_20 (by decide) ?_
      refine jw_goto F (tgt := 53) dX0_part_22 (by decide) ?_
      exact rt _ _ _ _ dX0_part_53 ⟨rfl, h⟩
  · have h := h.2 (c)
    refine jw_bipush F (z := (-101)) dX0_part_8 (by decide) ?_
    exact rt _ _ _ _ dX0_part_10 ⟨rfl, h⟩
theorem hd_X0_asWhat : yX0_asWhat.cls = RX0 ∧ yX0_asWhat.cls ≠ "java/lang/invoke/MethodHandle" ∧ yX0_asWhat.cls ≠ "java/lang/invoke/VarHandle" ∧ (parseMethodDescriptor yX0_asWhat.desc).map (fun d => d.parameters.length) = some 1 := by decide +kernel
set_option maxHeartbeats 4000000 in
set_option maxRecDepth 100000 in
theorem wk_X0_asWhat {l : Launch} {D : va_G} {dA : Nat → ClassId} {ad : Nat → Nat} {s : Sg} {a1 : Int} {Q : Int → Prop} (h : wp_X0_asWhat a1 s Q) : MXi l D dA (xwf dA ad) yX0_asWhat cX0_asWhat 3 .int ({ frames := 0, cells := 0, slots := 0, locals := 0 } : Room) [.ref (ad 0), .int (iI a1)] s (fun z s' => s' = s ∧ Q z) := by
  unfold wp_X0_asWhat at h
  refine jw_start_i (own := RX0) (lv0 := [(0, .ref (ad 0)), (1, .int (iI a1))]) (by decide) rfl (Nat.le_of_ble_eq_true rfl) rfl (fun G F rt => ?_)
  refine jw_iconst F dX0_asWhat_0 ?_
  refine jw_istore_n F (lv' := [(0, .ref (ad 0)), (1, .int (iI a1)), (2, .int (iI 0))]) [1, 2, 0] dX0_asWhat_1 rfl (by decide) rfl ?_
  refine lp1_r (fun x2_1 => G s 2 [(0, .ref (ad 0)), (1, .int (iI a1)), (2, .int (iI x2_1))] []) h (fun x2_1 K_2 h ih_3 => ?_)
  refine jw_iload_n F 2 dX0_asWhat_2 rfl rfl ?_
  refine jw_aload_n F 0 dX0_asWhat_3 rfl rfl ?_
  refine gx_X0_170_0 F dX0_asWhat_4 ?_
  obtain ⟨o_4, h⟩ := h
  obtain ⟨o_5, h⟩ := h
  refine jw_icmp_ge F o_4 o_5 (tgt := 49) dX0_asWhat_7 (by decide) (fun c => ?_) (fun c => ?_)
  · have h := h.1 (c)
    refine jw_iconst F dX0_asWhat_49 ?_
    exact rt _ _ _ _ dX0_asWhat_50 ⟨rfl, h⟩
  · have h := h.2 (c)
    refine jw_aload_n F 0 dX0_asWhat_10 rfl rfl ?_
    refine gx_X0_23_0 F dX0_asWhat_11 ?_
    refine gx_X0_154_1 F dX0_asWhat_14 ?_
    refine jw_aload_n F 0 dX0_asWhat_17 rfl rfl ?_
    refine gx_X0_34_0 F dX0_asWhat_18 ?_
    refine jw_iload_n F 2 dX0_asWhat_21 rfl rfl ?_
    obtain ⟨o_6, o_7, h⟩ := h
    refine jw_iald F (xO dA ad) (k := 5) (by decide) (xa_5 dA ad) 0 rfl (by decide) o_6 o_7 dX0_asWhat_22 ?_
    obtain ⟨o_8, o_9, h⟩ := h
    refine jw_iald F (xO dA ad) (k := 19) (by decide) (xa_19 dA ad) 0 rfl (by decide) o_8 o_9 dX0_asWhat_23 ?_
    refine jw_aload_n F 0 dX0_asWhat_24 rfl rfl ?_
    refine gx_X0_23_0 F dX0_asWhat_25 ?_
    refine gx_X0_154_1 F dX0_asWhat_28 ?_
    refine jw_iload_n F 1 dX0_asWhat_31 rfl rfl ?_
    obtain ⟨o_10, o_11, h⟩ := h
    refine jw_iald F (xO dA ad) (k := 19) (by decide) (xa_19 dA ad) 0 rfl (by decide) o_10 o_11 dX0_asWhat_32 ?_
    obtain ⟨o_12, h⟩ := h
    obtain ⟨o_13, h⟩ := h
    refine jw_icmp_ne F o_12 o_13 (tgt := 43) dX0_asWhat_33 (by decide) (fun c => ?_) (fun c => ?_)
    · have h := h.1 (c)
      refine jw_iinc F (lv' := [(0, .ref (ad 0)), (1, .int (iI a1)), (2, .int (iI (x2_1 + 1)))]) 2 [1, 2, 0] dX0_asWhat_43 rfl (by decide) rfl ?_
      refine jw_goto F (tgt := 2) dX0_asWhat_46 (by decide) ?_
      exact ih_3 _ h
    · have h := h.2 (c)
      refine jw_aload_n F 0 dX0_asWhat_36 rfl rfl ?_
      refine gx_X0_34_0 F dX0_asWhat_37 ?_
      refine jw_iload_n F 2 dX0_asWhat_40 rfl rfl ?_
      obtain ⟨o_14, o_15, h⟩ := h
      refine jw_iald F (xO dA ad) (k := 5) (by decide) (xa_5 dA ad) 0 rfl (by decide) o_14 o_15 dX0_asWhat_41 ?_
      exact rt _ _ _ _ dX0_asWhat_42 ⟨rfl, h⟩
theorem hd_X0_isLeft : yX0_isLeft.cls = RX0 ∧ yX0_isLeft.cls ≠ "java/lang/invoke/MethodHandle" ∧ yX0_isLeft.cls ≠ "java/lang/invoke/VarHandle" ∧ (parseMethodDescriptor yX0_isLeft.desc).map (fun d => d.parameters.length) = some 1 := by decide +kernel
set_option maxHeartbeats 4000000 in
set_option maxRecDepth 100000 in
theorem wk_X0_isLeft {l : Launch} {D : va_G} {dA : Nat → ClassId} {ad : Nat → Nat} {s : Sg} {a1 : Int} {Q : Int → Prop} (h : wp_X0_isLeft a1 s Q) : MXi l D dA (xwf dA ad) yX0_isLeft cX0_isLeft 2 .boolean ({ frames := 1, cells := 0, slots := 0, locals := 22 } : Room) [.ref (ad 0), .int (iI a1)] s (fun z s' => (z = 0 ∨ z = 1) ∧ s' = s ∧ Q z) := by
  unfold wp_X0_isLeft at h
  refine jw_start_z (own := RX0) (lv0 := [(0, .ref (ad 0)), (1, .int (iI a1))]) (by decide) rfl (Nat.le_of_ble_eq_true rfl) rfl (fun G F rt => ?_)
  refine jw_aload_n F 0 dX0_isLeft_0 rfl rfl ?_
  refine jw_aload_n F 0 dX0_isLeft_1 rfl rfl ?_
  refine gx_X0_23_0 F dX0_isLeft_2 ?_
  refine gx_X0_157_1 F dX0_isLeft_5 ?_
  refine jw_iload_n F 1 dX0_isLeft_8 rfl rfl ?_
  obtain ⟨o_1, o_2, h⟩ := h
  refine jw_iald F (xO dA ad) (k := 20) (by decide) (xa_20 dA ad) 0 rfl (by decide) o_1 o_2 dX0_isLeft_9 ?_
  refine jw_callVip F (wk_X0_asWhat h) (lw_V q616 q618 qs16 q70 q619) hd_X0_asWhat ⟨rfl, rfl, Nat.le_of_ble_eq_true rfl, Nat.le_of_ble_eq_true rfl⟩ rfl rfl (xh_0 dA ad _) rfl rfl rfl (Nat.le_of_ble_eq_true rfl) dX0_isLeft_10 (fun r_3 h => ?_)
  refine jw_iconst F dX0_isLeft_13 ?_
  obtain ⟨o_5, h⟩ := h
  refine jw_icmp_ne F o_5 (by decide) (tgt := 21) dX0_isLeft_14 (by decide) (fun c => ?_) (fun c => ?_)
  · have h := h.1 (c)
    refine jw_iconst F dX0_isLeft_21 ?_
    exact rt _ _ _ _ dX0_isLeft_22 (by decide) ⟨(by decide), rfl, h⟩
  · have h := h.2 (c)
    refine jw_iconst F dX0_isLeft_17 ?_
    refine jw_goto F (tgt := 22) dX0_isLeft_18 (by decide) ?_
    exact rt _ _ _ _ dX0_isLeft_22 (by decide) ⟨(by decide), rfl, h⟩
theorem hd_X0_sortTold : yX0_sortTold.cls = RX0 ∧ yX0_sortTold.cls ≠ "java/lang/invoke/MethodHandle" ∧ yX0_sortTold.cls ≠ "java/lang/invoke/VarHandle" ∧ (parseMethodDescriptor yX0_sortTold.desc).map (fun d => d.parameters.length) = some 2 := by decide +kernel
set_option maxHeartbeats 4000000 in
set_option maxRecDepth 100000 in
theorem wk_X0_sortTold {l : Launch} {D : va_G} {dA : Nat → ClassId} {ad : Nat → Nat} {s : Sg} {a1 a2 : Int} {Q : Int → Prop} (h : wp_X0_sortTold a1 a2 s Q) : MXi l D dA (xwf dA ad) yX0_sortTold cX0_sortTold 3 .int ({ frames := 2, cells := 0, slots := 0, locals := 43 } : Room) [.ref (ad 0), .int (iI a1), .int (iI a2)] s (fun z s' => s' = s ∧ Q z) := by
  unfold wp_X0_sortTold at h
  refine jw_start_i (own := RX0) (lv0 := [(0, .ref (ad 0)), (1, .int (iI a1)), (2, .int (iI a2))]) (by decide) rfl (Nat.le_of_ble_eq_true rfl) rfl (fun G F rt => ?_)
  refine jw_iload_n F 2 dX0_sortTold_0 rfl rfl ?_
  obtain ⟨o_1, h⟩ := h
  refine jw_if_ne F o_1 (tgt := 16) dX0_sortTold_1 (by decide) (fun c => ?_) (fun c => ?_)
  · have h := h.1 (c)
    refine jw_iload_n F 2 dX0_sortTold_16 rfl rfl ?_
    refine jw_iconst F dX0_sortTold_17 ?_
    obtain ⟨o_2, h⟩ := h
    refine jw_icmp_ne F o_2 (by decide) (tgt := 33) dX0_sortTold_18 (by decide) (fun c => ?_) (fun c => ?_)
    · have h := h.1 (c)
      refine jw_aload_n F 0 dX0_sortTold_33 rfl rfl ?_
      refine jw_iload_n F 1 dX0_sortTold_34 rfl rfl ?_
      refine jw_callVzp F (wk_X0_isLeft h) (lw_V q612 q614 qs15 q70 q615) hd_X0_isLeft ⟨rfl, rfl, Nat.le_of_ble_eq_true rfl, Nat.le_of_ble_eq_true rfl⟩ rfl rfl (xh_0 dA ad _) rfl rfl rfl (Nat.le_of_ble_eq_true rfl) dX0_sortTold_35 (fun r_3 hb_r_3 h => ?_)
      refine jw_if_eq F (rg01 hb_r_3) (tgt := 45) dX0_sortTold_38 (by decide) (fun c => ?_) (fun c => ?_)
      · have h := h.1 (c)
        refine jw_iconst F dX0_sortTold_45 ?_
        exact rt _ _ _ _ dX0_sortTold_46 ⟨rfl, h⟩
      · have h := h.2 (c)
        refine jw_iconst F dX0_sortTold_41 ?_
        refine jw_goto F (tgt := 46) dX0_sortTold_42 (by decide) ?_
        exact rt _ _ _ _ dX0_sortTold_46 ⟨rfl, h⟩
    · have h := h.2 (c)
      refine jw_aload_n F 0 dX0_sortTold_21 rfl rfl ?_
      refine gx_X0_23_0 F dX0_sortTold_22 ?_
      refine gx_X0_160_1 F dX0_sortTold_25 ?_
      refine jw_iload_n F 1 dX0_sortTold_28 rfl rfl ?_
      obtain ⟨o_5, o_6, h⟩ := h
      refine jw_iald F (xO dA ad) (k := 21) (by decide) (xa_21 dA ad) 0 rfl (by decide) o_5 o_6 dX0_sortTold_29 ?_
      refine jw_goto F (tgt := 46) dX0_sortTold_30 (by decide) ?_
      exact rt _ _ _ _ dX0_sortTold_46 ⟨rfl, h⟩
  · have h := h.2 (c)
    refine jw_aload_n F 0 dX0_sortTold_4 rfl rfl ?_
    refine gx_X0_23_0 F dX0_sortTold_5 ?_
    refine gx_X0_157_1 F dX0_sortTold_8 ?_
    refine jw_iload_n F 1 dX0_sortTold_11 rfl rfl ?_
    obtain ⟨o_7, o_8, h⟩ := h
    refine jw_iald F (xO dA ad) (k := 20) (by decide) (xa_20 dA ad) 0 rfl (by decide) o_7 o_8 dX0_sortTold_12 ?_
    refine jw_goto F (tgt := 46) dX0_sortTold_13 (by decide) ?_
    exact rt _ _ _ _ dX0_sortTold_46 ⟨rfl, h⟩
theorem hd_X0_sort : yX0_sort.cls = RX0 ∧ yX0_sort.cls ≠ "java/lang/invoke/MethodHandle" ∧ yX0_sort.cls ≠ "java/lang/invoke/VarHandle" ∧ (parseMethodDescriptor yX0_sort.desc).map (fun d => d.parameters.length) = some 2 := by decide +kernel
set_option maxHeartbeats 4000000 in
set_option maxRecDepth 100000 in
theorem wk_X0_sort {l : Launch} {D : va_G} {dA : Nat → ClassId} {ad : Nat → Nat} {s : Sg} {a1 a2 : Int} {Q : Int → Prop} (h : wp_X0_sort a1 a2 s Q) : MXi l D dA (xwf dA ad) yX0_sort cX0_sort 3 .int ({ frames := 3, cells := 0, slots := 0, locals := 65 } : Room) [.ref (ad 0), .int (iI a1), .int (iI a2)] s (fun z s' => s' = s ∧ Q z) := by
  unfold wp_X0_sort at h
  refine jw_start_i (own := RX0) (lv0 := [(0, .ref (ad 0)), (1, .int (iI a1)), (2, .int (iI a2))]) (by decide) rfl (Nat.le_of_ble_eq_true rfl) rfl (fun G F rt => ?_)
  refine jw_iload_n F 1 dX0_sort_0 rfl rfl ?_
  refine jw_iconst F dX0_sort_1 ?_
  refine jw_aload_n F 0 dX0_sort_2 rfl rfl ?_
  refine gx_X0_23_0 F dX0_sort_3 ?_
  refine gx_X0_118_1 F dX0_sort_6 ?_
  refine jw_iconst F dX0_sort_9 ?_
  refine jw_isub F dX0_sort_10 ?_
  refine jw_callSzp F (wk_X0_in h) (lw_S q534 q449 q70 q450) hd_X0_in ⟨rfl, rfl, Nat.le_of_ble_eq_true rfl, Nat.le_of_ble_eq_true rfl⟩ rfl rfl (Nat.le_of_ble_eq_true rfl) dX0_sort_11 (fun r_1 hb_r_1 h => ?_)
  refine jw_if_ne F (rg01 hb_r_1) (tgt := 22) dX0_sort_14 (by decide) (fun c => ?_) (fun c => ?_)
  · have h := h.1 (c)
    refine jw_iload_n F 2 dX0_sort_22 rfl rfl ?_
    refine jw_iconst F dX0_sort_23 ?_
    refine jw_iconst F dX0_sort_24 ?_
    refine jw_callSzp F (wk_X0_in h) (lw_S q534 q449 q70 q450) hd_X0_in ⟨rfl, rfl, Nat.le_of_ble_eq_true rfl, Nat.le_of_ble_eq_true rfl⟩ rfl rfl (Nat.le_of_ble_eq_true rfl) dX0_sort_25 (fun r_3 hb_r_3 h => ?_)
    refine jw_if_eq F (rg01 hb_r_3) (tgt := 40) dX0_sort_28 (by decide) (fun c => ?_) (fun c => ?_)
    · have h := h.1 (c)
      refine jw_bipush F (z := (-102)) dX0_sort_40 (by decide) ?_
      exact rt _ _ _ _ dX0_sort_42 ⟨rfl, h⟩
    · have h := h.2 (c)
      refine jw_aload_n F 0 dX0_sort_31 rfl rfl ?_
      refine jw_iload_n F 1 dX0_sort_32 rfl rfl ?_
      refine jw_iload_n F 2 dX0_sort_33 rfl rfl ?_
      refine jw_callVip F (wk_X0_sortTold h) (lw_V q608 q610 qs14 q70 q611) hd_X0_sortTold ⟨rfl, rfl, Nat.le_of_ble_eq_true rfl, Nat.le_of_ble_eq_true rfl⟩ rfl rfl (xh_0 dA ad _) rfl rfl rfl (Nat.le_of_ble_eq_true rfl) dX0_sort_34 (fun r_5 h => ?_)
      refine jw_goto F (tgt := 42) dX0_sort_37 (by decide) ?_
      exact rt _ _ _ _ dX0_sort_42 ⟨rfl, h⟩
  · have h := h.2 (c)
    refine jw_bipush F (z := (-101)) dX0_sort_17 (by decide) ?_
    refine jw_goto F (tgt := 42) dX0_sort_19 (by decide) ?_
    exact rt _ _ _ _ dX0_sort_42 ⟨rfl, h⟩
theorem hd_X0_strike : yX0_strike.cls = RX0 ∧ yX0_strike.cls ≠ "java/lang/invoke/MethodHandle" ∧ yX0_strike.cls ≠ "java/lang/invoke/VarHandle" ∧ (parseMethodDescriptor yX0_strike.desc).map (fun d => d.parameters.length) = some 1 := by decide +kernel
set_option maxHeartbeats 4000000 in
set_option maxRecDepth 100000 in
theorem wk_X0_strike {l : Launch} {D : va_G} {dA : Nat → ClassId} {ad : Nat → Nat} {s : Sg} {a1 : Int} {Q : Int → Sg → Prop} (h : wp_X0_strike a1 s Q) : MXi l D dA (xwf dA ad) yX0_strike cX0_strike 2 .int ({ frames := 2, cells := 0, slots := 0, locals := 43 } : Room) [.ref (ad 0), .int (iI a1)] s Q := by
  unfold wp_X0_strike at h
  refine jw_start_i (own := RX0) (lv0 := [(0, .ref (ad 0)), (1, .int (iI a1))]) (by decide) rfl (Nat.le_of_ble_eq_true rfl) rfl (fun G F rt => ?_)
  refine jw_aload_n F 0 dX0_strike_0 rfl rfl ?_
  refine jw_iload_n F 1 dX0_strike_1 rfl rfl ?_
  refine jw_callVzp F (wk_X0_isChord h) (lw_V q600 q602 qs13 q70 q603) hd_X0_isChord ⟨rfl, rfl, Nat.le_of_ble_eq_true rfl, Nat.le_of_ble_eq_true rfl⟩ rfl rfl (xh_0 dA ad _) rfl rfl rfl (Nat.le_of_ble_eq_true rfl) dX0_strike_2 (fun r_1 hb_r_1 h => ?_)
  refine jw_if_ne F (rg01 hb_r_1) (tgt := 11) dX0_strike_5 (by decide) (fun c => ?_) (fun c => ?_)
  · have h := h.1 (c)
    refine jw_aload_n F 0 dX0_strike_11 rfl rfl ?_
    refine jw_iload_n F 1 dX0_strike_12 rfl rfl ?_
    refine jw_callVip F (wk_X0_asWhat h) (lw_V q616 q618 qs16 q70 q619) hd_X0_asWhat ⟨rfl, rfl, Nat.le_of_ble_eq_true rfl, Nat.le_of_ble_eq_true rfl⟩ rfl rfl (xh_0 dA ad _) rfl rfl rfl (Nat.le_of_ble_eq_true rfl) dX0_strike_13 (fun r_3 h => ?_)
    refine jw_iconst F dX0_strike_16 ?_
    obtain ⟨o_5, h⟩ := h
    refine jw_icmp_eq F o_5 (by decide) (tgt := 22) dX0_strike_17 (by decide) (fun c => ?_) (fun c => ?_)
    · have h := h.1 (c)
      refine jw_aload_n F 0 dX0_strike_22 rfl rfl ?_
      refine gx_X0_170_0 F dX0_strike_23 ?_
      refine jw_bipush F (z := 20) dX0_strike_26 (by decide) ?_
      obtain ⟨o_6, h⟩ := h
      refine jw_icmp_ne F o_6 (by decide) (tgt := 34) dX0_strike_28 (by decide) (fun c => ?_) (fun c => ?_)
      · have h := h.1 (c)
        refine jw_aload_n F 0 dX0_strike_34 rfl rfl ?_
        refine gx_X0_34_0 F dX0_strike_35 ?_
        refine jw_aload_n F 0 dX0_strike_38 rfl rfl ?_
        refine gx_X0_170_0 F dX0_strike_39 ?_
        refine jw_iload_n F 1 dX0_strike_42 rfl rfl ?_
        obtain ⟨o_7, o_8, h⟩ := h
        refine jw_iast F (xO dA ad) (k := 5) (by decide) (xa_5 dA ad) 0 rfl (by decide) o_7 o_8 dX0_strike_43 ?_
        refine jw_aload_n F 0 dX0_strike_44 rfl rfl ?_
        refine jw_dup F rfl dX0_strike_45 ?_
        refine gx_X0_170_0 F dX0_strike_46 ?_
        refine jw_iconst F dX0_strike_49 ?_
        refine jw_iadd F dX0_strike_50 ?_
        refine pgx_X0_170_0 F dX0_strike_51 ?_
        refine jw_iconst F dX0_strike_54 ?_
        exact rt _ _ _ _ dX0_strike_55 h
      · have h := h.2 (c)
        refine jw_bipush F (z := (-104)) dX0_strike_31 (by decide) ?_
        exact rt _ _ _ _ dX0_strike_33 h
    · have h := h.2 (c)
      refine jw_iconst F dX0_strike_20 ?_
      exact rt _ _ _ _ dX0_strike_21 h
  · have h := h.2 (c)
    refine jw_bipush F (z := (-101)) dX0_strike_8 (by decide) ?_
    exact rt _ _ _ _ dX0_strike_10 h
theorem hd_X0_heardAs : yX0_heardAs.cls = RX0 ∧ yX0_heardAs.cls ≠ "java/lang/invoke/MethodHandle" ∧ yX0_heardAs.cls ≠ "java/lang/invoke/VarHandle" ∧ (parseMethodDescriptor yX0_heardAs.desc).map (fun d => d.parameters.length) = some 1 := by decide +kernel
set_option maxHeartbeats 4000000 in
set_option maxRecDepth 100000 in
theorem wk_X0_heardAs {l : Launch} {D : va_G} {dA : Nat → ClassId} {ad : Nat → Nat} {s : Sg} {a1 : Int} {Q : Int → Prop} (h : wp_X0_heardAs a1 s Q) : MXi l D dA (xwf dA ad) yX0_heardAs cX0_heardAs 2 .int ({ frames := 2, cells := 0, slots := 0, locals := 43 } : Room) [.ref (ad 0), .int (iI a1)] s (fun z s' => s' = s ∧ Q z) := by
  unfold wp_X0_heardAs at h
  refine jw_start_i (own := RX0) (lv0 := [(0, .ref (ad 0)), (1, .int (iI a1))]) (by decide) rfl (Nat.le_of_ble_eq_true rfl) rfl (fun G F rt => ?_)
  refine jw_aload_n F 0 dX0_heardAs_0 rfl rfl ?_
  refine jw_iload_n F 1 dX0_heardAs_1 rfl rfl ?_
  refine jw_callVzp F (wk_X0_isChord h) (lw_V q600 q602 qs13 q70 q603) hd_X0_isChord ⟨rfl, rfl, Nat.le_of_ble_eq_true rfl, Nat.le_of_ble_eq_true rfl⟩ rfl rfl (xh_0 dA ad _) rfl rfl rfl (Nat.le_of_ble_eq_true rfl) dX0_heardAs_2 (fun r_1 hb_r_1 h => ?_)
  refine jw_if_eq F (rg01 hb_r_1) (tgt := 16) dX0_heardAs_5 (by decide) (fun c => ?_) (fun c => ?_)
  · have h := h.1 (c)
    refine jw_bipush F (z := (-101)) dX0_heardAs_16 (by decide) ?_
    exact rt _ _ _ _ dX0_heardAs_18 ⟨rfl, h⟩
  · have h := h.2 (c)
    refine jw_aload_n F 0 dX0_heardAs_8 rfl rfl ?_
    refine jw_iload_n F 1 dX0_heardAs_9 rfl rfl ?_
    refine jw_callVip F (wk_X0_asWhat h) (lw_V q616 q618 qs16 q70 q619) hd_X0_asWhat ⟨rfl, rfl, Nat.le_of_ble_eq_true rfl, Nat.le_of_ble_eq_true rfl⟩ rfl rfl (xh_0 dA ad _) rfl rfl rfl (Nat.le_of_ble_eq_true rfl) dX0_heardAs_10 (fun r_3 h => ?_)
    refine jw_goto F (tgt := 18) dX0_heardAs_13 (by decide) ?_
    exact rt _ _ _ _ dX0_heardAs_18 ⟨rfl, h⟩
theorem hd_X0_forget : yX0_forget.cls = RX0 ∧ yX0_forget.cls ≠ "java/lang/invoke/MethodHandle" ∧ yX0_forget.cls ≠ "java/lang/invoke/VarHandle" ∧ (parseMethodDescriptor yX0_forget.desc).map (fun d => d.parameters.length) = some 0 := by decide +kernel
set_option maxHeartbeats 4000000 in
set_option maxRecDepth 100000 in
theorem wk_X0_forget {l : Launch} {D : va_G} {dA : Nat → ClassId} {ad : Nat → Nat} {s : Sg} {Q : Int → Sg → Prop} (h : wp_X0_forget s Q) : MXi l D dA (xwf dA ad) yX0_forget cX0_forget 2 .int ({ frames := 0, cells := 0, slots := 0, locals := 0 } : Room) [.ref (ad 0)] s Q := by
  unfold wp_X0_forget at h
  refine jw_start_i (own := RX0) (lv0 := [(0, .ref (ad 0))]) (by decide) rfl (Nat.le_of_ble_eq_true rfl) rfl (fun G F rt => ?_)
  refine jw_aload_n F 0 dX0_forget_0 rfl rfl ?_
  refine gx_X0_170_0 F dX0_forget_1 ?_
  refine jw_istore_n F (lv' := [(0, .ref (ad 0)), (1, .int (iI (s 0 9)))]) [1, 0] dX0_forget_4 rfl (by decide) rfl ?_
  refine jw_aload_n F 0 dX0_forget_5 rfl rfl ?_
  refine jw_iconst F dX0_forget_6 ?_
  refine pgx_X0_170_0 F dX0_forget_7 ?_
  refine jw_iload_n F 1 dX0_forget_10 rfl rfl ?_
  exact rt _ _ _ _ dX0_forget_11 h
theorem hd_X0_leftTold : yX0_leftTold.cls = RX0 ∧ yX0_leftTold.cls ≠ "java/lang/invoke/MethodHandle" ∧ yX0_leftTold.cls ≠ "java/lang/invoke/VarHandle" ∧ (parseMethodDescriptor yX0_leftTold.desc).map (fun d => d.parameters.length) = some 1 := by decide +kernel
set_option maxHeartbeats 4000000 in
set_option maxRecDepth 100000 in
theorem wk_X0_leftTold {l : Launch} {D : va_G} {dA : Nat → ClassId} {ad : Nat → Nat} {s : Sg} {a1 : Int} {Q : Int → Prop} (h : wp_X0_leftTold a1 s Q) : MXi l D dA (xwf dA ad) yX0_leftTold cX0_leftTold 4 .int ({ frames := 2, cells := 0, slots := 0, locals := 43 } : Room) [.ref (ad 0), .int (iI a1)] s (fun z s' => s' = s ∧ Q z) := by
  unfold wp_X0_leftTold at h
  refine jw_start_i (own := RX0) (lv0 := [(0, .ref (ad 0)), (1, .int (iI a1))]) (by decide) rfl (Nat.le_of_ble_eq_true rfl) rfl (fun G F rt => ?_)
  refine jw_iconst F dX0_leftTold_0 ?_
  refine jw_istore_n F (lv' := [(0, .ref (ad 0)), (1, .int (iI a1)), (2, .int (iI 0))]) [1, 2, 0] dX0_leftTold_1 rfl (by decide) rfl ?_
  refine jw_iconst F dX0_leftTold_2 ?_
  refine jw_istore_n F (lv' := [(0, .ref (ad 0)), (1, .int (iI a1)), (2, .int (iI 0)), (3, .int (iI 0))]) [1, 2, 3, 0] dX0_leftTold_3 rfl (by decide) rfl ?_
  refine lp2_r (fun x2_1 x3_2 => G s 4 [(0, .ref (ad 0)), (1, .int (iI a1)), (2, .int (iI x2_1)), (3, .int (iI x3_2))] []) h (fun x2_1 x3_2 K_3 h ih_4 => ?_)
  refine jw_iload_n F 3 dX0_leftTold_4 rfl rfl ?_
  refine jw_aload_n F 0 dX0_leftTold_5 rfl rfl ?_
  refine gx_X0_23_0 F dX0_leftTold_6 ?_
  refine gx_X0_118_1 F dX0_leftTold_9 ?_
  obtain ⟨o_5, h⟩ := h
  obtain ⟨o_6, h⟩ := h
  refine jw_icmp_ge F o_5 o_6 (tgt := 53) dX0_leftTold_12 (by decide) (fun c => ?_) (fun c => ?_)
  · have h := h.1 (c)
    refine jw_iload_n F 2 dX0_leftTold_53 rfl rfl ?_
    exact rt _ _ _ _ dX0_leftTold_54 ⟨rfl, h⟩
  · have h := h.2 (c)
    refine jw_iload_n F 2 dX0_leftTold_15 rfl rfl ?_
    refine jw_aload_n F 0 dX0_leftTold_16 rfl rfl ?_
    refine jw_iload_n F 3 dX0_leftTold_17 rfl rfl ?_
    refine jw_callVzp F (wk_X0_isLeft h) (lw_V q612 q614 qs15 q70 q615) hd_X0_isLeft ⟨rfl, rfl, Nat.le_of_ble_eq_true rfl, Nat.le_of_ble_eq_true rfl⟩ rfl rfl (xh_0 dA ad _) rfl rfl rfl (Nat.le_of_ble_eq_true rfl) dX0_leftTold_18 (fun r_7 hb_r_7 h => ?_)
    refine jn1_r (fun v_9 => G s 45 [(0, .ref (ad 0)), (1, .int (iI a1)), (3, .int (iI x3_2))] [.int (iI v_9), .int (iI x2_1)]) h (fun v_9 h => ?_) (fun K_10 h j_11 => ?_)
    · refine jw_iadd F dX0_leftTold_45 ?_
      refine jw_istore_n F (lv' := [(0, .ref (ad 0)), (1, .int (iI a1)), (2, .int (iI (x2_1 + v_9))), (3, .int (iI x3_2))]) [1, 2, 0, 3] dX0_leftTold_46 rfl (by decide) rfl ?_
      refine jw_iinc F (lv' := [(0, .ref (ad 0)), (1, .int (iI a1)), (2, .int (iI (x2_1 + v_9))), (3, .int (iI (x3_2 + 1)))]) 3 [1, 2, 3, 0] dX0_leftTold_47 rfl (by decide) rfl ?_
      refine jw_goto F (tgt := 4) dX0_leftTold_50 (by decide) ?_
      exact ih_4 _ _ h
    · refine jw_if_ne F (rg01 hb_r_7) (tgt := 28) dX0_leftTold_21 (by decide) (fun c => ?_) (fun c => ?_)
      · have h := h.1 (c)
        refine jw_iload_n F 1 dX0_leftTold_28 rfl rfl ?_
        obtain ⟨o_12, h⟩ := h
        refine jw_if_ne F o_12 (tgt := 36) dX0_leftTold_29 (by decide) (fun c => ?_) (fun c => ?_)
        · have h := h.1 (c)
          refine jw_aload_n F 0 dX0_leftTold_36 rfl rfl ?_
          refine gx_X0_23_0 F dX0_leftTold_37 ?_
          refine gx_X0_160_1 F dX0_leftTold_40 ?_
          refine jw_iload_n F 3 dX0_leftTold_43 rfl rfl ?_
          obtain ⟨o_13, o_14, h⟩ := h
          refine jw_iald F (xO dA ad) (k := 21) (by decide) (xa_21 dA ad) 0 rfl (by decide) o_13 o_14 dX0_leftTold_44 ?_
          refine jw_sub F (lv' := [(0, .ref (ad 0)), (1, .int (iI a1)), (3, .int (iI x3_2))]) [0, 1, 3] rfl ?_
          exact j_11 _ h
        · have h := h.2 (c)
          refine jw_iconst F dX0_leftTold_32 ?_
          refine jw_goto F (tgt := 45) dX0_leftTold_33 (by decide) ?_
          refine jw_sub F (lv' := [(0, .ref (ad 0)), (1, .int (iI a1)), (3, .int (iI x3_2))]) [0, 1, 3] rfl ?_
          exact j_11 _ h
      · have h := h.2 (c)
        refine jw_iconst F dX0_leftTold_24 ?_
        refine jw_goto F (tgt := 45) dX0_leftTold_25 (by decide) ?_
        refine jw_sub F (lv' := [(0, .ref (ad 0)), (1, .int (iI a1)), (3, .int (iI x3_2))]) [0, 1, 3] rfl ?_
        exact j_11 _ h
theorem hd_X0_left : yX0_left.cls = RX0 ∧ yX0_left.cls ≠ "java/lang/invoke/MethodHandle" ∧ yX0_left.cls ≠ "java/lang/invoke/VarHandle" ∧ (parseMethodDescriptor yX0_left.desc).map (fun d => d.parameters.length) = some 1 := by decide +kernel
set_option maxHeartbeats 4000000 in
set_option maxRecDepth 100000 in
theorem wk_X0_left {l : Launch} {D : va_G} {dA : Nat → ClassId} {ad : Nat → Nat} {s : Sg} {a1 : Int} {Q : Int → Prop} (h : wp_X0_left a1 s Q) : MXi l D dA (xwf dA ad) yX0_left cX0_left 2 .int ({ frames := 3, cells := 0, slots := 0, locals := 66 } : Room) [.ref (ad 0), .int (iI a1)] s (fun z s' => s' = s ∧ Q z) := by
  unfold wp_X0_left at h
  refine jw_start_i (own := RX0) (lv0 := [(0, .ref (ad 0)), (1, .int (iI a1))]) (by decide) rfl (Nat.le_of_ble_eq_true rfl) rfl (fun G F rt => ?_)
  refine jw_iload_n F 1 dX0_left_0 rfl rfl ?_
  refine jw_iconst F dX0_left_1 ?_
  refine jw_iconst F dX0_left_2 ?_
  refine jw_callSzp F (wk_X0_in h) (lw_S q534 q449 q70 q450) hd_X0_in ⟨rfl, rfl, Nat.le_of_ble_eq_true rfl, Nat.le_of_ble_eq_true rfl⟩ rfl rfl (Nat.le_of_ble_eq_true rfl) dX0_left_3 (fun r_1 hb_r_1 h => ?_)
  refine jw_if_eq F (rg01 hb_r_1) (tgt := 17) dX0_left_6 (by decide) (fun c => ?_) (fun c => ?_)
  · have h := h.1 (c)
    refine jw_bipush F (z := (-102)) dX0_left_17 (by decide) ?_
    exact rt _ _ _ _ dX0_left_19 ⟨rfl, h⟩
  · have h := h.2 (c)
    refine jw_aload_n F 0 dX0_left_9 rfl rfl ?_
    refine jw_iload_n F 1 dX0_left_10 rfl rfl ?_
    refine jw_callVip F (wk_X0_leftTold h) (lw_V q636 q638 qs17 q70 q639) hd_X0_leftTold ⟨rfl, rfl, Nat.le_of_ble_eq_true rfl, Nat.le_of_ble_eq_true rfl⟩ rfl rfl (xh_0 dA ad _) rfl rfl rfl (Nat.le_of_ble_eq_true rfl) dX0_left_11 (fun r_3 h => ?_)
    refine jw_goto F (tgt := 19) dX0_left_14 (by decide) ?_
    exact rt _ _ _ _ dX0_left_19 ⟨rfl, h⟩
theorem hd_X0_nth : yX0_nth.cls = RX0 ∧ yX0_nth.cls ≠ "java/lang/invoke/MethodHandle" ∧ yX0_nth.cls ≠ "java/lang/invoke/VarHandle" ∧ (parseMethodDescriptor yX0_nth.desc).map (fun d => d.parameters.length) = some 1 := by decide +kernel
set_option maxHeartbeats 4000000 in
set_option maxRecDepth 100000 in
theorem wk_X0_nth {l : Launch} {D : va_G} {dA : Nat → ClassId} {ad : Nat → Nat} {s : Sg} {a1 : Int} {Q : Int → Prop} (h : wp_X0_nth a1 s Q) : MXi l D dA (xwf dA ad) yX0_nth cX0_nth 4 .int ({ frames := 1, cells := 0, slots := 0, locals := 22 } : Room) [.ref (ad 0), .int (iI a1)] s (fun z s' => s' = s ∧ Q z) := by
  unfold wp_X0_nth at h
  refine jw_start_i (own := RX0) (lv0 := [(0, .ref (ad 0)), (1, .int (iI a1))]) (by decide) rfl (Nat.le_of_ble_eq_true rfl) rfl (fun G F rt => ?_)
  refine jw_iload_n F 1 dX0_nth_0 rfl rfl ?_
  refine jw_iconst F dX0_nth_1 ?_
  refine jw_bipush F (z := 83) dX0_nth_2 (by decide) ?_
  refine jw_callSzp F (wk_X0_in h) (lw_S q534 q449 q70 q450) hd_X0_in ⟨rfl, rfl, Nat.le_of_ble_eq_true rfl, Nat.le_of_ble_eq_true rfl⟩ rfl rfl (Nat.le_of_ble_eq_true rfl) dX0_nth_4 (fun r_1 hb_r_1 h => ?_)
  refine jw_if_ne F (rg01 hb_r_1) (tgt := 13) dX0_nth_7 (by decide) (fun c => ?_) (fun c => ?_)
  · have h := h.1 (c)
    refine jw_iload_n F 1 dX0_nth_13 rfl rfl ?_
    refine jw_istore_n F (lv' := [(0, .ref (ad 0)), (1, .int (iI a1)), (2, .int (iI a1))]) [1, 2, 0] dX0_nth_14 rfl (by decide) rfl ?_
    refine jw_iconst F dX0_nth_15 ?_
    refine jw_istore_n F (lv' := [(0, .ref (ad 0)), (1, .int (iI a1)), (2, .int (iI a1)), (3, .int (iI 0))]) [1, 2, 3, 0] dX0_nth_16 rfl (by decide) rfl ?_
    refine jw_sub F (lv' := [(0, .ref (ad 0)), (2, .int (iI a1)), (3, .int (iI 0))]) [0, 2, 3] rfl ?_
    refine lp2_r (fun x2_3 x3_4 => G s 17 [(0, .ref (ad 0)), (2, .int (iI x2_3)), (3, .int (iI x3_4))] []) h (fun x2_3 x3_4 K_5 h ih_6 => ?_)
    refine jw_iload_n F 2 dX0_nth_17 rfl rfl ?_
    refine jw_aload_n F 0 dX0_nth_18 rfl rfl ?_
    refine gx_X0_23_0 F dX0_nth_19 ?_
    refine gx_X0_151_1 F dX0_nth_22 ?_
    obtain ⟨o_7, h⟩ := h
    obtain ⟨o_8, h⟩ := h
    refine jw_icmp_ge F o_7 o_8 (tgt := 52) dX0_nth_25 (by decide) (fun c => ?_) (fun c => ?_)
    · have h := h.1 (c)
      refine jw_iconst F dX0_nth_52 ?_
      exact rt _ _ _ _ dX0_nth_53 ⟨rfl, h⟩
    · have h := h.2 (c)
      refine jw_aload_n F 0 dX0_nth_28 rfl rfl ?_
      refine jw_iload_n F 2 dX0_nth_29 rfl rfl ?_
      refine jw_callVip F (wk_X0_asWhat h) (lw_V q616 q618 qs16 q70 q619) hd_X0_asWhat ⟨rfl, rfl, Nat.le_of_ble_eq_true rfl, Nat.le_of_ble_eq_true rfl⟩ rfl rfl (xh_0 dA ad _) rfl rfl rfl (Nat.le_of_ble_eq_true rfl) dX0_nth_30 (fun r_9 h => ?_)
      refine jw_iconst F dX0_nth_33 ?_
      obtain ⟨o_11, h⟩ := h
      refine jn1_r (fun x2_12 => G s 46 [(0, .ref (ad 0)), (2, .int (iI x2_12)), (3, .int (iI x3_4))] []) h (fun x2_12 h => ?_) (fun K_13 h j_14 => ?_)
      · refine jw_iinc F (lv' := [(0, .ref (ad 0)), (2, .int (iI x2_12)), (3, .int (iI (x3_4 + 1)))]) 2 [1, 2, 0] dX0_nth_46 rfl (by decide) rfl ?_
        refine jw_goto F (tgt := 17) dX0_nth_49 (by decide) ?_
        exact ih_6 _ _ h
      · refine jw_icmp_ne F o_11 (by decide) (tgt := 46) dX0_nth_34 (by decide) (fun c => ?_) (fun c => ?_)
        · have h := h.1 (c)
          exact j_14 _ h
        · have h := h.2 (c)
          refine jw_iload_n F 1 dX0_nth_37 rfl rfl ?_
          obtain ⟨o_15, h⟩ := h
          refine jw_if_ne F o_15 (tgt := 43) dX0_nth_38 (by decide) (fun c => ?_) (fun c => ?_)
          · have h := h.1 (c)
            refine jw_iinc F (lv' := [(0, .ref (ad 0)), (2, .int (iI (x2_3 + (-1)))), (3, .int (iI x3_4))]) 1 [1, 0, 2] dX0_nth_43 rfl (by decide) rfl ?_
            exact j_14 _ h
          · have h := h.2 (c)
            refine jw_iload_n F 2 dX0_nth_41 rfl rfl ?_
            exact rt _ _ _ _ dX0_nth_42 ⟨rfl, h⟩
  · have h := h.2 (c)
    refine jw_bipush F (z := (-102)) dX0_nth_10 (by decide) ?_
    exact rt _ _ _ _ dX0_nth_12 ⟨rfl, h⟩
theorem hd_X0_laySizes : yX0_laySizes.cls = RX0 ∧ yX0_laySizes.cls ≠ "java/lang/invoke/MethodHandle" ∧ yX0_laySizes.cls ≠ "java/lang/invoke/VarHandle" ∧ (parseMethodDescriptor yX0_laySizes.desc).map (fun d => d.parameters.length) = some 0 := by decide +kernel
set_option maxHeartbeats 4000000 in
set_option maxRecDepth 100000 in
theorem wk_X0_laySizes {l : Launch} {D : va_G} {dA : Nat → ClassId} {ad : Nat → Nat} {s : Sg} {Q : Sg → Prop} (h : wp_X0_laySizes s Q) : MXv l D dA (xwf dA ad) yX0_laySizes cX0_laySizes 2 ({ frames := 2, cells := 0, slots := 0, locals := 43 } : Room) [.ref (ad 0)] s Q := by
  unfold wp_X0_laySizes at h
  refine jw_start_v (own := RX0) (lv0 := [(0, .ref (ad 0))]) (by decide) rfl (Nat.le_of_ble_eq_true rfl) rfl (fun G F rt => ?_)
  refine jw_iconst F dX0_laySizes_0 ?_
  refine jw_istore_n F (lv' := [(0, .ref (ad 0)), (1, .int (iI 0))]) [1, 0] dX0_laySizes_1 rfl (by decide) rfl ?_
  refine lp2_r (fun x1_1 s_2 => G s_2 2 [(0, .ref (ad 0)), (1, .int (iI x1_1))] []) h (fun x1_1 s_2 K_3 h ih_4 => ?_)
  refine jw_iload_n F 1 dX0_laySizes_2 rfl rfl ?_
  refine jw_bipush F (z := 120) dX0_laySizes_3 (by decide) ?_
  obtain ⟨o_5, h⟩ := h
  refine jw_icmp_gt F o_5 (by decide) (tgt := 21) dX0_laySizes_5 (by decide) (fun c => ?_) (fun c => ?_)
  · have h := h.1 (c)
    refine jw_iconst F dX0_laySizes_21 ?_
    refine jw_istore_n F (lv' := [(0, .ref (ad 0)), (1, .int (iI 0))]) [1, 0] dX0_laySizes_22 rfl (by decide) rfl ?_
    refine lp2_r (fun x1_6 s_7 => G s_7 23 [(0, .ref (ad 0)), (1, .int (iI x1_6))] []) h (fun x1_6 s_7 K_8 h ih_9 => ?_)
    refine jw_iload_n F 1 dX0_laySizes_23 rfl rfl ?_
    refine jw_aload_n F 0 dX0_laySizes_24 rfl rfl ?_
    refine gx_X0_23_0 F dX0_laySizes_25 ?_
    refine gx_X0_118_1 F dX0_laySizes_28 ?_
    obtain ⟨o_10, h⟩ := h
    obtain ⟨o_11, h⟩ := h
    refine jw_icmp_ge F o_10 o_11 (tgt := 70) dX0_laySizes_31 (by decide) (fun c => ?_) (fun c => ?_)
    · have h := h.1 (c)
      exact rt _ _ _ dX0_laySizes_70 h
    · have h := h.2 (c)
      refine jw_aload_n F 0 dX0_laySizes_34 rfl rfl ?_
      refine gx_X0_37_0 F dX0_laySizes_35 ?_
      refine jw_aload_n F 0 dX0_laySizes_38 rfl rfl ?_
      refine gx_X0_23_0 F dX0_laySizes_39 ?_
      refine gx_X0_160_1 F dX0_laySizes_42 ?_
      refine jw_iload_n F 1 dX0_laySizes_45 rfl rfl ?_
      obtain ⟨o_12, o_13, h⟩ := h
      refine jw_iald F (xO dA ad) (k := 21) (by decide) (xa_21 dA ad) 0 rfl (by decide) o_12 o_13 dX0_laySizes_46 ?_
      refine jw_dup2 F rfl rfl dX0_laySizes_47 ?_
      obtain ⟨o_14, o_15, h⟩ := h
      refine jw_iald F (xO dA ad) (k := 6) (by decide) (xa_6 dA ad) 0 rfl (by decide) o_14 o_15 dX0_laySizes_48 ?_
      refine jw_aload_n F 0 dX0_laySizes_49 rfl rfl ?_
      refine jw_iload_n F 1 dX0_laySizes_50 rfl rfl ?_
      refine jw_callVzp F (wk_X0_isLeft h) (lw_V q612 q614 qs15 q70 q615) hd_X0_isLeft ⟨rfl, rfl, Nat.le_of_ble_eq_true rfl, Nat.le_of_ble_eq_true rfl⟩ rfl rfl (xh_0 dA ad _) rfl rfl rfl (Nat.le_of_ble_eq_true rfl) dX0_laySizes_51 (fun r_16 hb_r_16 h => ?_)
      refine jn1_r (fun v_18 => G s_7 62 [(0, .ref (ad 0)), (1, .int (iI x1_6))] [.int (iI v_18), .int (iI (s_7 6 (s_7 21 x1_6))), .int (iI (s_7 21 x1_6)), .ref (ad 6)]) h (fun v_18 h => ?_) (fun K_19 h j_20 => ?_)
      · refine jw_iadd F dX0_laySizes_62 ?_
        obtain ⟨o_21, o_22, h⟩ := h
        refine jw_iast F (xO dA ad) (k := 6) (by decide) (xa_6 dA ad) 0 rfl (by decide) o_21 o_22 dX0_laySizes_63 ?_
        refine jw_iinc F (lv' := [(0, .ref (ad 0)), (1, .int (iI (x1_6 + 1)))]) 1 [1, 0] dX0_laySizes_64 rfl (by decide) rfl ?_
        refine jw_goto F (tgt := 23) dX0_laySizes_67 (by decide) ?_
        exact ih_9 _ _ h
      · refine jw_if_eq F (rg01 hb_r_16) (tgt := 61) dX0_laySizes_54 (by decide) (fun c => ?_) (fun c => ?_)
        · have h := h.1 (c)
          refine jw_iconst F dX0_laySizes_61 ?_
          exact j_20 _ h
        · have h := h.2 (c)
          refine jw_iconst F dX0_laySizes_57 ?_
          refine jw_goto F (tgt := 62) dX0_laySizes_58 (by decide) ?_
          exact j_20 _ h
  · have h := h.2 (c)
    refine jw_aload_n F 0 dX0_laySizes_8 rfl rfl ?_
    refine gx_X0_37_0 F dX0_laySizes_9 ?_
    refine jw_iload_n F 1 dX0_laySizes_12 rfl rfl ?_
    refine jw_iconst F dX0_laySizes_13 ?_
    obtain ⟨o_23, o_24, h⟩ := h
    refine jw_iast F (xO dA ad) (k := 6) (by decide) (xa_6 dA ad) 0 rfl (by decide) o_23 o_24 dX0_laySizes_14 ?_
    refine jw_iinc F (lv' := [(0, .ref (ad 0)), (1, .int (iI (x1_1 + 1)))]) 1 [1, 0] dX0_laySizes_15 rfl (by decide) rfl ?_
    refine jw_goto F (tgt := 2) dX0_laySizes_18 (by decide) ?_
    exact ih_4 _ _ h
theorem hd_X0_ways : yX0_ways.cls = RX0 ∧ yX0_ways.cls ≠ "java/lang/invoke/MethodHandle" ∧ yX0_ways.cls ≠ "java/lang/invoke/VarHandle" ∧ (parseMethodDescriptor yX0_ways.desc).map (fun d => d.parameters.length) = some 3 := by decide +kernel
set_option maxHeartbeats 4000000 in
set_option maxRecDepth 100000 in
theorem wk_X0_ways {l : Launch} {D : va_G} {dA : Nat → ClassId} {ad : Nat → Nat} : ∀ (d : Nat) (a1 a2 a3 : Int) (s : Sg) (Q : Int → Sg → Prop) (h : wp_X0_ways d a1 a2 a3 s Q), MXl l D dA (xwf dA ad) yX0_ways cX0_ways 8 ({ frames := d, cells := 0, slots := 0, locals := 27 * d } : Room) [.ref (ad 0), .int (iI a1), .int (iI a2), .int (iI a3)] s Q := by
  intro d
  induction d with
  | zero => intro a1 a2 a3 s Q h; exact h.elim
  | succ d ih =>
    intro a1 a2 a3 s Q h
    unfold wp_X0_ways at h
    refine jw_start_l (own := RX0) (lv0 := [(0, .ref (ad 0)), (1, .int (iI a1)), (2, .int (iI a2)), (3, .int (iI a3))]) (by decide) rfl (Nat.le_of_ble_eq_true rfl) rfl (fun G F rt => ?_)
    refine jw_iload_n F 1 dX0_ways_0 rfl rfl ?_
    obtain ⟨o_1, h⟩ := h
    refine jw_if_ne F o_1 (tgt := 14) dX0_ways_1 (by decide) (fun c => ?_) (fun c => ?_)
    · have h := h.1 (c)
      refine jw_iload_n F 2 dX0_ways_14 rfl rfl ?_
      refine jw_iload_n F 1 dX0_ways_15 rfl rfl ?_
      obtain ⟨o_2, h⟩ := h
      obtain ⟨o_3, h⟩ := h
      refine jn2_r (fun v_4 s_5 => G s_5 35 [(0, .ref (ad 0)), (1, .int (iI a1)), (2, .int (iI a2)), (3, .int (iI a3))] [.long (lI v_4)]) h (fun v_4 s_5 h => ?_) (fun K_6 h j_7 => ?_)
      · refine jw_lstore F (lv' := [(0, .ref (ad 0)), (1, .int (iI a1)), (2, .int (iI a2)), (3, .int (iI a3)), (4, .long (lI v_4))]) [1, 2, 3, 4, 0] dX0_ways_35 (by decide) rfl ?_
        refine jw_iconst F dX0_ways_37 ?_
        refine jw_istore F (lv' := [(0, .ref (ad 0)), (1, .int (iI a1)), (2, .int (iI a2)), (3, .int (iI a3)), (4, .long (lI v_4)), (6, .int (iI 1))]) [1, 2, 3, 4, 5, 0] dX0_ways_38 (by decide) rfl ?_
        refine lp3_r (fun x4_8 x6_9 s_10 => G s_10 40 [(0, .ref (ad 0)), (1, .int (iI a1)), (2, .int (iI a2)), (3, .int (iI a3)), (4, .long (lI x4_8)), (6, .int (iI x6_9))] []) h (fun x4_8 x6_9 s_10 K_11 h ih_12 => ?_)
        refine jw_iload F 5 dX0_ways_40 rfl ?_
        refine jw_aload_n F 0 dX0_ways_42 rfl rfl ?_
        refine gx_X0_23_0 F dX0_ways_43 ?_
        refine gx_X0_151_1 F dX0_ways_46 ?_
        obtain ⟨o_13, h⟩ := h
        obtain ⟨o_14, h⟩ := h
        refine jw_icmp_gt F o_13 o_14 (tgt := 125) dX0_ways_49 (by decide) (fun c => ?_) (fun c => ?_)
        · have h := h.1 (c)
          refine jw_lload F 4 dX0_ways_125 rfl ?_
          exact rt _ _ _ _ dX0_ways_127 h
        · have h := h.2 (c)
          refine jw_iload_n F 2 dX0_ways_52 rfl rfl ?_
          obtain ⟨o_15, h⟩ := h
          refine jw_if_le F o_15 (tgt := 125) dX0_ways_53 (by decide) (fun c => ?_) (fun c => ?_)
          · have h := h.1 (c)
            refine jw_lload F 4 dX0_ways_125 rfl ?_
            exact rt _ _ _ _ dX0_ways_127 h
          · have h := h.2 (c)
            refine jw_aload_n F 0 dX0_ways_56 rfl rfl ?_
            refine gx_X0_37_0 F dX0_ways_57 ?_
            refine jw_iload F 5 dX0_ways_60 rfl ?_
            obtain ⟨o_16, o_17, h⟩ := h
            refine jw_iald F (xO dA ad) (k := 6) (by decide) (xa_6 dA ad) 0 rfl (by decide) o_16 o_17 dX0_ways_62 ?_
            refine jw_istore F (lv' := [(0, .ref (ad 0)), (1, .int (iI a1)), (2, .int (iI a2)), (3, .int (iI a3)), (4, .long (lI x4_8)), (6, .int (iI x6_9)), (7, .int (iI (s_10 6 x6_9)))]) [1, 2, 3, 4, 5, 6, 0] dX0_ways_63 (by decide) rfl ?_
            refine jw_iload F 6 dX0_ways_65 rfl ?_
            obtain ⟨o_18, h⟩ := h
            refine jn2_r (fun x4_19 s_20 => G s_20 119 [(0, .ref (ad 0)), (1, .int (iI a1)), (2, .int (iI a2)), (3, .int (iI a3)), (4, .long (lI x4_19)), (6, .int (iI x6_9))] []) h (fun x4_19 s_20 h => ?_) (fun K_21 h j_22 => ?_)
            · refine jw_iinc F (lv' := [(0, .ref (ad 0)), (1, .int (iI a1)), (2, .int (iI a2)), (3, .int (iI a3)), (4, .long (lI x4_19)), (6, .int (iI (x6_9 + 1)))]) 5 [1, 2, 3, 4, 5, 0] dX0_ways_119 rfl (by decide) rfl ?_
              refine jw_goto F (tgt := 40) dX0_ways_122 (by decide) ?_
              exact ih_12 _ _ _ h
            · refine jw_if_le F o_18 (tgt := 119) dX0_ways_67 (by decide) (fun c => ?_) (fun c => ?_)
              · have h := h.1 (c)
                refine jw_sub F (lv' := [(0, .ref (ad 0)), (1, .int (iI a1)), (2, .int (iI a2)), (3, .int (iI a3)), (4, .long (lI x4_8)), (6, .int (iI x6_9))]) [0, 1, 2, 3, 4, 5] rfl ?_
                exact j_22 _ _ h
              · have h := h.2 (c)
                refine jw_aload_n F 0 dX0_ways_70 rfl rfl ?_
                refine gx_X0_37_0 F dX0_ways_71 ?_
                refine jw_iload F 5 dX0_ways_74 rfl ?_
                refine jw_dup2 F rfl rfl dX0_ways_76 ?_
                obtain ⟨o_23, o_24, h⟩ := h
                refine jw_iald F (xO dA ad) (k := 6) (by decide) (xa_6 dA ad) 0 rfl (by decide) o_23 o_24 dX0_ways_77 ?_
                refine jw_iconst F dX0_ways_78 ?_
                refine jw_isub F dX0_ways_79 ?_
                obtain ⟨o_25, o_26, h⟩ := h
                refine jw_iast F (xO dA ad) (k := 6) (by decide) (xa_6 dA ad) 0 rfl (by decide) o_25 o_26 dX0_ways_80 ?_
                refine jw_lload F 4 dX0_ways_81 rfl ?_
                refine jw_iload F 6 dX0_ways_83 rfl ?_
                obtain ⟨o_27, h⟩ := h
                refine jw_i2l F o_27 dX0_ways_85 ?_
                refine jw_iload F 5 dX0_ways_86 rfl ?_
                obtain ⟨o_28, h⟩ := h
                refine jw_i2l F o_28 dX0_ways_88 ?_
                refine jw_lmul F dX0_ways_89 ?_
                refine jw_aload_n F 0 dX0_ways_90 rfl rfl ?_
                refine jw_iload_n F 1 dX0_ways_91 rfl rfl ?_
                refine jw_iconst F dX0_ways_92 ?_
                refine jw_isub F dX0_ways_93 ?_
                refine jw_iload_n F 2 dX0_ways_94 rfl rfl ?_
                refine jw_iconst F dX0_ways_95 ?_
                refine jw_isub F dX0_ways_96 ?_
                refine jw_iload_n F 3 dX0_ways_97 rfl rfl ?_
                refine jw_iload F 5 dX0_ways_98 rfl ?_
                refine jw_iadd F dX0_ways_100 ?_
                refine jw_callVl F (ih _ _ _ _ _ h) (lw_V q653 q655 qs19 q70 q656) hd_X0_ways ⟨rfl, rfl, Nat.le_refl _, by show 8 + (8 + 11) + 27 * d ≤ 27 * (d + 1); omega⟩ rfl rfl (xh_0 dA ad _) rfl rfl rfl (Nat.le_of_ble_eq_true rfl) dX0_ways_101 (fun r_29 s_30 hz => ?_)
                have h := hz
                refine jw_lmul F dX0_ways_104 ?_
                refine jw_ladd F dX0_ways_105 ?_
                refine jw_lstore F (lv' := [(0, .ref (ad 0)), (1, .int (iI a1)), (2, .int (iI a2)), (3, .int (iI a3)), (4, .long (lI (x4_8 + (((s_10 6 x6_9) * x6_9) * r_29)))), (6, .int (iI x6_9)), (7, .int (iI (s_10 6 x6_9)))]) [1, 2, 3, 4, 0, 5, 6] dX0_ways_106 (by decide) rfl ?_
                refine jw_aload_n F 0 dX0_ways_108 rfl rfl ?_
                refine gx_X0_37_0 F dX0_ways_109 ?_
                refine jw_iload F 5 dX0_ways_112 rfl ?_
                refine jw_dup2 F rfl rfl dX0_ways_114 ?_
                obtain ⟨o_31, o_32, h⟩ := h
                refine jw_iald F (xO dA ad) (k := 6) (by decide) (xa_6 dA ad) 0 rfl (by decide) o_31 o_32 dX0_ways_115 ?_
                refine jw_iconst F dX0_ways_116 ?_
                refine jw_iadd F dX0_ways_117 ?_
                obtain ⟨o_33, o_34, h⟩ := h
                refine jw_iast F (xO dA ad) (k := 6) (by decide) (xa_6 dA ad) 0 rfl (by decide) o_33 o_34 dX0_ways_118 ?_
                refine jw_sub F (lv' := [(0, .ref (ad 0)), (1, .int (iI a1)), (2, .int (iI a2)), (3, .int (iI a3)), (4, .long (lI (x4_8 + (((s_10 6 x6_9) * x6_9) * r_29)))), (6, .int (iI x6_9))]) [0, 1, 2, 3, 4, 5] rfl ?_
                exact j_22 _ _ h
      · refine jw_icmp_ge F o_2 o_3 (tgt := 34) dX0_ways_16 (by decide) (fun c => ?_) (fun c => ?_)
        · have h := h.1 (c)
          refine jw_lconst F (z := 0) dX0_ways_34 (by decide) ?_
          exact j_7 _ _ h
        · have h := h.2 (c)
          refine jw_iload_n F 3 dX0_ways_19 rfl rfl ?_
          obtain ⟨o_35, h⟩ := h
          refine jw_i2l F o_35 dX0_ways_20 ?_
          refine jw_aload_n F 0 dX0_ways_21 rfl rfl ?_
          refine jw_iload_n F 1 dX0_ways_22 rfl rfl ?_
          refine jw_iconst F dX0_ways_23 ?_
          refine jw_isub F dX0_ways_24 ?_
          refine jw_iload_n F 2 dX0_ways_25 rfl rfl ?_
          refine jw_iload_n F 3 dX0_ways_26 rfl rfl ?_
          refine jw_callVl F (ih _ _ _ _ _ h) (lw_V q653 q655 qs19 q70 q656) hd_X0_ways ⟨rfl, rfl, Nat.le_refl _, by show 8 + (8 + 11) + 27 * d ≤ 27 * (d + 1); omega⟩ rfl rfl (xh_0 dA ad _) rfl rfl rfl (Nat.le_of_ble_eq_true rfl) dX0_ways_27 (fun r_36 s_37 hz => ?_)
          have h := hz
          refine jw_lmul F dX0_ways_30 ?_
          refine jw_goto F (tgt := 35) dX0_ways_31 (by decide) ?_
          exact j_7 _ _ h
    · have h := h.2 (c)
      refine jw_iload_n F 2 dX0_ways_4 rfl rfl ?_
      obtain ⟨o_38, h⟩ := h
      refine jw_if_ne F o_38 (tgt := 12) dX0_ways_5 (by decide) (fun c => ?_) (fun c => ?_)
      · have h := h.1 (c)
        refine jw_lconst F (z := 0) dX0_ways_12 (by decide) ?_
        exact rt _ _ _ _ dX0_ways_13 h
      · have h := h.2 (c)
        refine jw_lconst F (z := 1) dX0_ways_8 (by decide) ?_
        refine jw_goto F (tgt := 13) dX0_ways_9 (by decide) ?_
        exact rt _ _ _ _ dX0_ways_13 h
theorem hd_X0_lowest : yX0_lowest.cls ≠ "java/lang/invoke/MethodHandle" ∧ yX0_lowest.cls ≠ "java/lang/invoke/VarHandle" ∧ (parseMethodDescriptor yX0_lowest.desc).map (fun d => d.parameters.length) = some 3 := by decide +kernel
set_option maxHeartbeats 4000000 in
set_option maxRecDepth 100000 in
theorem wk_X0_lowest {l : Launch} {D : va_G} {dA : Nat → ClassId} {wf : Sg → va_W} {s : Sg} {a1 a2 a3 : Int} {Q : Int → Prop} (h : wp_X0_lowest a1 a2 a3 Q) : MXl l D dA wf yX0_lowest cX0_lowest 11 ({ frames := 0, cells := 0, slots := 0, locals := 0 } : Room) [.long (lI a1), .long (lI a2), .int (iI a3)] s (fun z s' => s' = s ∧ Q z) := by
  unfold wp_X0_lowest at h
  refine jw_start_l (own := RX0) (lv0 := [(0, .long (lI a1)), (2, .long (lI a2)), (4, .int (iI a3))]) (by decide) rfl (Nat.le_of_ble_eq_true rfl) rfl (fun G F rt => ?_)
  refine jw_lload_n F 0 dX0_lowest_0 rfl rfl ?_
  refine jw_lstore F (lv' := [(0, .long (lI a1)), (2, .long (lI a2)), (4, .int (iI a3)), (5, .long (lI a1))]) [1, 2, 3, 0] dX0_lowest_1 (by decide) rfl ?_
  refine jw_lload_n F 1 dX0_lowest_3 rfl rfl ?_
  refine jw_lstore F (lv' := [(0, .long (lI a1)), (2, .long (lI a2)), (4, .int (iI a3)), (5, .long (lI a1)), (7, .long (lI a2))]) [1, 2, 3, 4, 0] dX0_lowest_4 (by decide) rfl ?_
  refine lp2_r (fun x5_1 x7_2 => G s 6 [(0, .long (lI a1)), (2, .long (lI a2)), (4, .int (iI a3)), (5, .long (lI x5_1)), (7, .long (lI x7_2))] []) h (fun x5_1 x7_2 K_3 h ih_4 => ?_)
  refine jw_lload F 4 dX0_lowest_6 rfl ?_
  refine jw_lconst F (z := 0) dX0_lowest_8 (by decide) ?_
  obtain ⟨o_5, h⟩ := h
  refine jw_lcmp F o_5 (by decide) dX0_lowest_9 ?_
  refine jw_if_eq F (cmpI_rg _ _) (tgt := 31) dX0_lowest_10 (by decide) (fun c => ?_) (fun c => ?_)
  · have h := h.1 (cmpI_0.mp c)
    refine jw_iload F 2 dX0_lowest_31 rfl ?_
    obtain ⟨o_6, h⟩ := h
    refine jw_if_ne F o_6 (tgt := 43) dX0_lowest_33 (by decide) (fun c => ?_) (fun c => ?_)
    · have h := h.1 (c)
      refine jw_lload_n F 1 dX0_lowest_43 rfl rfl ?_
      refine jw_lload F 3 dX0_lowest_44 rfl ?_
      obtain ⟨o_7, o_8, o_9, o_10, h⟩ := h
      refine jw_ldiv F o_7 o_8 o_9 o_10 dX0_lowest_46 ?_
      exact rt _ _ _ _ dX0_lowest_47 ⟨rfl, h⟩
    · have h := h.2 (c)
      refine jw_lload_n F 0 dX0_lowest_36 rfl rfl ?_
      refine jw_lload F 3 dX0_lowest_37 rfl ?_
      obtain ⟨o_11, o_12, o_13, o_14, h⟩ := h
      refine jw_ldiv F o_11 o_12 o_13 o_14 dX0_lowest_39 ?_
      refine jw_goto F (tgt := 47) dX0_lowest_40 (by decide) ?_
      exact rt _ _ _ _ dX0_lowest_47 ⟨rfl, h⟩
  · have h := h.2 (fun z => c (cmpI_0.mpr z))
    refine jw_lload F 3 dX0_lowest_13 rfl ?_
    refine jw_lload F 4 dX0_lowest_15 rfl ?_
    obtain ⟨o_15, o_16, o_17, o_18, h⟩ := h
    refine jw_lrem F o_15 o_16 o_17 o_18 dX0_lowest_17 ?_
    refine jw_lstore F (lv' := [(0, .long (lI a1)), (2, .long (lI a2)), (4, .int (iI a3)), (5, .long (lI x5_1)), (7, .long (lI x7_2)), (9, .long (lI (x5_1 % x7_2)))]) [1, 2, 3, 4, 5, 0] dX0_lowest_18 (by decide) rfl ?_
    refine jw_lload F 4 dX0_lowest_20 rfl ?_
    refine jw_lstore F (lv' := [(0, .long (lI a1)), (2, .long (lI a2)), (4, .int (iI a3)), (5, .long (lI x7_2)), (7, .long (lI x7_2)), (9, .long (lI (x5_1 % x7_2)))]) [1, 2, 3, 0, 4, 5] dX0_lowest_22 (by decide) rfl ?_
    refine jw_lload F 5 dX0_lowest_24 rfl ?_
    refine jw_lstore F (lv' := [(0, .long (lI a1)), (2, .long (lI a2)), (4, .int (iI a3)), (5, .long (lI x7_2)), (7, .long (lI (x5_1 % x7_2))), (9, .long (lI (x5_1 % x7_2)))]) [1, 2, 3, 4, 0, 5] dX0_lowest_26 (by decide) rfl ?_
    refine jw_goto F (tgt := 6) dX0_lowest_28 (by decide) ?_
    refine jw_sub F (lv' := [(0, .long (lI a1)), (2, .long (lI a2)), (4, .int (iI a3)), (5, .long (lI x7_2)), (7, .long (lI (x5_1 % x7_2)))]) [0, 1, 2, 3, 4] rfl ?_
    exact ih_4 _ _ h
theorem hd_X0_strangers : yX0_strangers.cls = RX0 ∧ yX0_strangers.cls ≠ "java/lang/invoke/MethodHandle" ∧ yX0_strangers.cls ≠ "java/lang/invoke/VarHandle" ∧ (parseMethodDescriptor yX0_strangers.desc).map (fun d => d.parameters.length) = some 3 := by decide +kernel
set_option maxHeartbeats 4000000 in
set_option maxRecDepth 100000 in
theorem wk_X0_strangers {l : Launch} {D : va_G} {dA : Nat → ClassId} {ad : Nat → Nat} {s : Sg} {a1 a2 a3 : Int} {Q : Int → Sg → Prop} (h : wp_X0_strangers a1 a2 a3 s Q) : MXl l D dA (xwf dA ad) yX0_strangers cX0_strangers 7 ({ frames := 6, cells := 0, slots := 0, locals := 162 } : Room) [.ref (ad 0), .int (iI a1), .int (iI a2), .int (iI a3)] s Q := by
  unfold wp_X0_strangers at h
  refine jw_start_l (own := RX0) (lv0 := [(0, .ref (ad 0)), (1, .int (iI a1)), (2, .int (iI a2)), (3, .int (iI a3))]) (by decide) rfl (Nat.le_of_ble_eq_true rfl) rfl (fun G F rt => ?_)
  refine jw_iload_n F 1 dX0_strangers_0 rfl rfl ?_
  refine jw_iconst F dX0_strangers_1 ?_
  refine jw_iconst F dX0_strangers_2 ?_
  refine jw_callSzp F (wk_X0_in h) (lw_S q534 q449 q70 q450) hd_X0_in ⟨rfl, rfl, Nat.le_of_ble_eq_true rfl, Nat.le_of_ble_eq_true rfl⟩ rfl rfl (Nat.le_of_ble_eq_true rfl) dX0_strangers_3 (fun r_1 hb_r_1 h => ?_)
  refine jw_if_eq F (rg01 hb_r_1) (tgt := 27) dX0_strangers_6 (by decide) (fun c => ?_) (fun c => ?_)
  · have h := h.1 (c)
    refine jw_ldc2 F (z := (-102)) (ldneg_102 q648) dX0_strangers_27 ?_
    exact rt _ _ _ _ dX0_strangers_30 h
  · have h := h.2 (c)
    refine jw_iload_n F 2 dX0_strangers_9 rfl rfl ?_
    refine jw_iconst F dX0_strangers_10 ?_
    refine jw_iload_n F 1 dX0_strangers_11 rfl rfl ?_
    refine jw_callSzp F (wk_X0_in h) (lw_S q534 q449 q70 q450) hd_X0_in ⟨rfl, rfl, Nat.le_of_ble_eq_true rfl, Nat.le_of_ble_eq_true rfl⟩ rfl rfl (Nat.le_of_ble_eq_true rfl) dX0_strangers_12 (fun r_3 hb_r_3 h => ?_)
    refine jw_if_eq F (rg01 hb_r_3) (tgt := 27) dX0_strangers_15 (by decide) (fun c => ?_) (fun c => ?_)
    · have h := h.1 (c)
      refine jw_ldc2 F (z := (-102)) (ldneg_102 q648) dX0_strangers_27 ?_
      exact rt _ _ _ _ dX0_strangers_30 h
    · have h := h.2 (c)
      refine jw_iload_n F 3 dX0_strangers_18 rfl rfl ?_
      refine jw_iconst F dX0_strangers_19 ?_
      refine jw_iconst F dX0_strangers_20 ?_
      refine jw_callSzp F (wk_X0_in h) (lw_S q534 q449 q70 q450) hd_X0_in ⟨rfl, rfl, Nat.le_of_ble_eq_true rfl, Nat.le_of_ble_eq_true rfl⟩ rfl rfl (Nat.le_of_ble_eq_true rfl) dX0_strangers_21 (fun r_5 hb_r_5 h => ?_)
      refine jw_if_ne F (rg01 hb_r_5) (tgt := 31) dX0_strangers_24 (by decide) (fun c => ?_) (fun c => ?_)
      · have h := h.1 (c)
        refine jw_aload_n F 0 dX0_strangers_31 rfl rfl ?_
        refine jw_callVv F (wk_X0_laySizes h) (lw_V q649 q651 qs18 q70 q652) hd_X0_laySizes ⟨rfl, rfl, Nat.le_of_ble_eq_true rfl, Nat.le_of_ble_eq_true rfl⟩ rfl rfl (xh_0 dA ad _) rfl rfl rfl (Nat.le_of_ble_eq_true rfl) dX0_strangers_32 (fun s_8 hz => ?_)
        have h := hz
        refine jw_lconst F (z := 1) dX0_strangers_35 (by decide) ?_
        refine jw_lstore F (lv' := [(0, .ref (ad 0)), (1, .int (iI a1)), (2, .int (iI a2)), (3, .int (iI a3)), (4, .long (lI 1))]) [1, 2, 3, 4, 0] dX0_strangers_36 (by decide) rfl ?_
        refine jw_iconst F dX0_strangers_38 ?_
        refine jw_istore F (lv' := [(0, .ref (ad 0)), (1, .int (iI a1)), (2, .int (iI a2)), (3, .int (iI a3)), (4, .long (lI 1)), (6, .int (iI 0))]) [1, 2, 3, 4, 5, 0] dX0_strangers_39 (by decide) rfl ?_
        refine lp2_r (fun x4_9 x6_10 => G s_8 41 [(0, .ref (ad 0)), (1, .int (iI a1)), (2, .int (iI a2)), (3, .int (iI a3)), (4, .long (lI x4_9)), (6, .int (iI x6_10))] []) h (fun x4_9 x6_10 K_11 h ih_12 => ?_)
        refine jw_iload F 5 dX0_strangers_41 rfl ?_
        refine jw_iload_n F 1 dX0_strangers_43 rfl rfl ?_
        obtain ⟨o_13, h⟩ := h
        obtain ⟨o_14, h⟩ := h
        refine jw_icmp_ge F o_13 o_14 (tgt := 66) dX0_strangers_44 (by decide) (fun c => ?_) (fun c => ?_)
        · have h := h.1 (c)
          refine jw_aload_n F 0 dX0_strangers_66 rfl rfl ?_
          refine jw_iload_n F 1 dX0_strangers_67 rfl rfl ?_
          refine jw_iload_n F 2 dX0_strangers_68 rfl rfl ?_
          refine jw_aload_n F 0 dX0_strangers_69 rfl rfl ?_
          refine gx_X0_23_0 F dX0_strangers_70 ?_
          refine gx_X0_151_1 F dX0_strangers_73 ?_
          refine jw_aload_n F 0 dX0_strangers_76 rfl rfl ?_
          refine jw_iconst F dX0_strangers_77 ?_
          refine jw_callVip F (wk_X0_leftTold h) (lw_V q636 q638 qs17 q70 q639) hd_X0_leftTold ⟨rfl, rfl, Nat.le_of_ble_eq_true rfl, Nat.le_of_ble_eq_true rfl⟩ rfl rfl (xh_0 dA ad _) rfl rfl rfl (Nat.le_of_ble_eq_true rfl) dX0_strangers_78 (fun r_15 h => ?_)
          refine jw_isub F dX0_strangers_81 ?_
          refine jw_callVl F (wk_X0_ways 5 _ _ _ _ _ h) (lw_V q653 q655 qs19 q70 q656) hd_X0_ways ⟨rfl, rfl, Nat.le_of_ble_eq_true rfl, Nat.le_of_ble_eq_true rfl⟩ rfl rfl (xh_0 dA ad _) rfl rfl rfl (Nat.le_of_ble_eq_true rfl) dX0_strangers_82 (fun r_17 s_18 hz => ?_)
          have h := hz
          refine jw_lload F 4 dX0_strangers_85 rfl ?_
          refine jw_iload_n F 3 dX0_strangers_87 rfl rfl ?_
          refine jw_callSlp F (wk_X0_lowest h) (lw_S q657 q658 q70 q659) hd_X0_lowest ⟨rfl, rfl, Nat.le_of_ble_eq_true rfl, Nat.le_of_ble_eq_true rfl⟩ rfl rfl (Nat.le_of_ble_eq_true rfl) dX0_strangers_88 (fun r_19 h => ?_)
          exact rt _ _ _ _ dX0_strangers_91 h
        · have h := h.2 (c)
          refine jw_lload F 4 dX0_strangers_47 rfl ?_
          refine jw_aload_n F 0 dX0_strangers_49 rfl rfl ?_
          refine gx_X0_23_0 F dX0_strangers_50 ?_
          refine gx_X0_151_1 F dX0_strangers_53 ?_
          obtain ⟨o_21, h⟩ := h
          refine jw_i2l F o_21 dX0_strangers_56 ?_
          refine jw_lmul F dX0_strangers_57 ?_
          refine jw_lstore F (lv' := [(0, .ref (ad 0)), (1, .int (iI a1)), (2, .int (iI a2)), (3, .int (iI a3)), (4, .long (lI (x4_9 * (s_8 1 1)))), (6, .int (iI x6_10))]) [1, 2, 3, 4, 0, 5] dX0_strangers_58 (by decide) rfl ?_
          refine jw_iinc F (lv' := [(0, .ref (ad 0)), (1, .int (iI a1)), (2, .int (iI a2)), (3, .int (iI a3)), (4, .long (lI (x4_9 * (s_8 1 1)))), (6, .int (iI (x6_10 + 1)))]) 5 [1, 2, 3, 4, 5, 0] dX0_strangers_60 rfl (by decide) rfl ?_
          refine jw_goto F (tgt := 41) dX0_strangers_63 (by decide) ?_
          exact ih_12 _ _ h
      · have h := h.2 (c)
        refine jw_ldc2 F (z := (-102)) (ldneg_102 q648) dX0_strangers_27 ?_
        exact rt _ _ _ _ dX0_strangers_30 h
theorem hd_X0_areChords : yX0_areChords.cls = RX0 ∧ yX0_areChords.cls ≠ "java/lang/invoke/MethodHandle" ∧ yX0_areChords.cls ≠ "java/lang/invoke/VarHandle" ∧ (parseMethodDescriptor yX0_areChords.desc).map (fun d => d.parameters.length) = some 2 := by decide +kernel
set_option maxHeartbeats 4000000 in
set_option maxRecDepth 100000 in
theorem wk_X0_areChords {l : Launch} {D : va_G} {dA : Nat → ClassId} {ad : Nat → Nat} {s : Sg} {a1 a2 : Int} {Q : Int → Prop} (h : wp_X0_areChords a1 a2 s Q) : MXi l D dA (xwf dA ad) yX0_areChords cX0_areChords 6 .boolean ({ frames := 2, cells := 0, slots := 0, locals := 43 } : Room) [.ref (ad 0), .int (iI a1), .long (lI a2)] s (fun z s' => (z = 0 ∨ z = 1) ∧ s' = s ∧ Q z) := by
  unfold wp_X0_areChords at h
  refine jw_start_z (own := RX0) (lv0 := [(0, .ref (ad 0)), (1, .int (iI a1)), (2, .long (lI a2))]) (by decide) rfl (Nat.le_of_ble_eq_true rfl) rfl (fun G F rt => ?_)
  refine jw_iconst F dX0_areChords_0 ?_
  refine jw_istore F (lv' := [(0, .ref (ad 0)), (1, .int (iI a1)), (2, .long (lI a2)), (4, .int (iI 1))]) [1, 2, 3, 0] dX0_areChords_1 (by decide) rfl ?_
  refine jw_iconst F dX0_areChords_3 ?_
  refine jw_istore F (lv' := [(0, .ref (ad 0)), (1, .int (iI a1)), (2, .long (lI a2)), (4, .int (iI 1)), (5, .int (iI 0))]) [1, 2, 3, 4, 0] dX0_areChords_4 (by decide) rfl ?_
  refine lp2_r (fun x4_1 x5_2 => G s 6 [(0, .ref (ad 0)), (1, .int (iI a1)), (2, .long (lI a2)), (4, .int (iI x4_1)), (5, .int (iI x5_2))] []) h (fun x4_1 x5_2 K_3 h ih_4 => ?_)
  refine jw_iload F 4 dX0_areChords_6 rfl ?_
  refine jw_iload_n F 1 dX0_areChords_8 rfl rfl ?_
  obtain ⟨o_5, h⟩ := h
  obtain ⟨o_6, h⟩ := h
  refine jw_icmp_ge F o_5 o_6 (tgt := 39) dX0_areChords_9 (by decide) (fun c => ?_) (fun c => ?_)
  · have h := h.1 (c)
    refine jw_iload F 3 dX0_areChords_39 rfl ?_
    obtain ⟨o_7, h⟩ := h
    exact rt _ _ _ _ dX0_areChords_41 o_7 ⟨o_7, rfl, h⟩
  · have h := h.2 (c)
    refine jw_iload F 3 dX0_areChords_12 rfl ?_
    refine jw_aload_n F 0 dX0_areChords_14 rfl rfl ?_
    refine jw_lload_n F 2 dX0_areChords_15 rfl rfl ?_
    refine jw_bipush F (z := 8) dX0_areChords_16 (by decide) ?_
    refine jw_iload F 4 dX0_areChords_18 rfl ?_
    refine jw_imul F dX0_areChords_20 ?_
    obtain ⟨o_8, h⟩ := h
    obtain ⟨o_9, o_10, h⟩ := h
    refine jw_lshr F o_8 o_9 o_10 dX0_areChords_21 ?_
    refine jw_ldc2 F (z := 255) q319 dX0_areChords_22 ?_
    refine jw_lmask F 8 (by decide) (by decide) dX0_areChords_25 ?_
    refine jw_l2i F dX0_areChords_26 ?_
    refine jw_callVzp F (wk_X0_isChord h) (lw_V q600 q602 qs13 q70 q603) hd_X0_isChord ⟨rfl, rfl, Nat.le_of_ble_eq_true rfl, Nat.le_of_ble_eq_true rfl⟩ rfl rfl (xh_0 dA ad _) rfl rfl rfl (Nat.le_of_ble_eq_true rfl) dX0_areChords_27 (fun r_11 hb_r_11 h => ?_)
    obtain ⟨o_13, h⟩ := h
    refine jw_iand F o_13 (nn01 hb_r_11) dX0_areChords_30 ?_
    refine jw_istore F (lv' := [(0, .ref (ad 0)), (1, .int (iI a1)), (2, .long (lI a2)), (4, .int (iI (band x4_1 r_11))), (5, .int (iI x5_2))]) [1, 2, 3, 0, 4] dX0_areChords_31 (by decide) rfl ?_
    refine jw_iinc F (lv' := [(0, .ref (ad 0)), (1, .int (iI a1)), (2, .long (lI a2)), (4, .int (iI (band x4_1 r_11))), (5, .int (iI (x5_2 + 1)))]) 4 [1, 2, 3, 4, 0] dX0_areChords_33 rfl (by decide) rfl ?_
    refine jw_goto F (tgt := 6) dX0_areChords_36 (by decide) ?_
    exact ih_4 _ _ h
theorem hd_X0_doubtOf : yX0_doubtOf.cls = RX0 ∧ yX0_doubtOf.cls ≠ "java/lang/invoke/MethodHandle" ∧ yX0_doubtOf.cls ≠ "java/lang/invoke/VarHandle" ∧ (parseMethodDescriptor yX0_doubtOf.desc).map (fun d => d.parameters.length) = some 1 := by decide +kernel
set_option maxHeartbeats 4000000 in
set_option maxRecDepth 100000 in
theorem wk_X0_doubtOf {l : Launch} {D : va_G} {dA : Nat → ClassId} {ad : Nat → Nat} {s : Sg} {a1 : Int} {Q : Int → Prop} (h : wp_X0_doubtOf a1 s Q) : MXi l D dA (xwf dA ad) yX0_doubtOf cX0_doubtOf 3 .int ({ frames := 0, cells := 0, slots := 0, locals := 0 } : Room) [.ref (ad 0), .int (iI a1)] s (fun z s' => s' = s ∧ Q z) := by
  unfold wp_X0_doubtOf at h
  refine jw_start_i (own := RX0) (lv0 := [(0, .ref (ad 0)), (1, .int (iI a1))]) (by decide) rfl (Nat.le_of_ble_eq_true rfl) rfl (fun G F rt => ?_)
  refine jw_iconst F dX0_doubtOf_0 ?_
  refine jw_istore_n F (lv' := [(0, .ref (ad 0)), (1, .int (iI a1)), (2, .int (iI 0))]) [1, 2, 0] dX0_doubtOf_1 rfl (by decide) rfl ?_
  refine lp1_r (fun x2_1 => G s 2 [(0, .ref (ad 0)), (1, .int (iI a1)), (2, .int (iI x2_1))] []) h (fun x2_1 K_2 h ih_3 => ?_)
  refine jw_iload_n F 2 dX0_doubtOf_2 rfl rfl ?_
  refine jw_aload_n F 0 dX0_doubtOf_3 rfl rfl ?_
  refine gx_X0_214_0 F dX0_doubtOf_4 ?_
  obtain ⟨o_4, h⟩ := h
  obtain ⟨o_5, h⟩ := h
  refine jw_icmp_ge F o_4 o_5 (tgt := 28) dX0_doubtOf_7 (by decide) (fun c => ?_) (fun c => ?_)
  · have h := h.1 (c)
    refine jw_iconst F dX0_doubtOf_28 ?_
    exact rt _ _ _ _ dX0_doubtOf_29 ⟨rfl, h⟩
  · have h := h.2 (c)
    refine jw_aload_n F 0 dX0_doubtOf_10 rfl rfl ?_
    refine gx_X0_51_0 F dX0_doubtOf_11 ?_
    refine jw_iload_n F 2 dX0_doubtOf_14 rfl rfl ?_
    obtain ⟨o_6, o_7, h⟩ := h
    refine jw_iald F (xO dA ad) (k := 10) (by decide) (xa_10 dA ad) 0 rfl (by decide) o_6 o_7 dX0_doubtOf_15 ?_
    refine jw_iload_n F 1 dX0_doubtOf_16 rfl rfl ?_
    obtain ⟨o_8, h⟩ := h
    obtain ⟨o_9, h⟩ := h
    refine jw_icmp_ne F o_8 o_9 (tgt := 22) dX0_doubtOf_17 (by decide) (fun c => ?_) (fun c => ?_)
    · have h := h.1 (c)
      refine jw_iinc F (lv' := [(0, .ref (ad 0)), (1, .int (iI a1)), (2, .int (iI (x2_1 + 1)))]) 2 [1, 2, 0] dX0_doubtOf_22 rfl (by decide) rfl ?_
      refine jw_goto F (tgt := 2) dX0_doubtOf_25 (by decide) ?_
      exact ih_3 _ h
    · have h := h.2 (c)
      refine jw_iload_n F 2 dX0_doubtOf_20 rfl rfl ?_
      exact rt _ _ _ _ dX0_doubtOf_21 ⟨rfl, h⟩
theorem hd_X0_layDoubts : yX0_layDoubts.cls = RX0 ∧ yX0_layDoubts.cls ≠ "java/lang/invoke/MethodHandle" ∧ yX0_layDoubts.cls ≠ "java/lang/invoke/VarHandle" ∧ (parseMethodDescriptor yX0_layDoubts.desc).map (fun d => d.parameters.length) = some 1 := by decide +kernel
set_option maxHeartbeats 4000000 in
set_option maxRecDepth 100000 in
theorem wk_X0_layDoubts {l : Launch} {D : va_G} {dA : Nat → ClassId} {ad : Nat → Nat} {s : Sg} {a1 : Int} {Q : Sg → Prop} (h : wp_X0_layDoubts a1 s Q) : MXv l D dA (xwf dA ad) yX0_layDoubts cX0_layDoubts 5 ({ frames := 1, cells := 0, slots := 0, locals := 22 } : Room) [.ref (ad 0), .int (iI a1)] s Q := by
  unfold wp_X0_layDoubts at h
  refine jw_start_v (own := RX0) (lv0 := [(0, .ref (ad 0)), (1, .int (iI a1))]) (by decide) rfl (Nat.le_of_ble_eq_true rfl) rfl (fun G F rt => ?_)
  refine jw_aload_n F 0 dX0_layDoubts_0 rfl rfl ?_
  refine jw_iconst F dX0_layDoubts_1 ?_
  refine pgx_X0_214_0 F dX0_layDoubts_2 ?_
  refine jw_iconst F dX0_layDoubts_5 ?_
  refine jw_istore_n F (lv' := [(0, .ref (ad 0)), (1, .int (iI a1)), (2, .int (iI 0))]) [1, 2, 0] dX0_layDoubts_6 rfl (by decide) rfl ?_
  refine lp2_r (fun x2_1 s_2 => G s_2 7 [(0, .ref (ad 0)), (1, .int (iI a1)), (2, .int (iI x2_1))] []) h (fun x2_1 s_2 K_3 h ih_4 => ?_)
  refine jw_iload_n F 2 dX0_layDoubts_7 rfl rfl ?_
  refine jw_iload_n F 1 dX0_layDoubts_8 rfl rfl ?_
  obtain ⟨o_5, h⟩ := h
  obtain ⟨o_6, h⟩ := h
  refine jw_icmp_ge F o_5 o_6 (tgt := 85) dX0_layDoubts_9 (by decide) (fun c => ?_) (fun c => ?_)
  · have h := h.1 (c)
    exact rt _ _ _ dX0_layDoubts_85 h
  · have h := h.2 (c)
    refine jw_iconst F dX0_layDoubts_12 ?_
    refine jw_istore_n F (lv' := [(0, .ref (ad 0)), (1, .int (iI a1)), (2, .int (iI x2_1)), (3, .int (iI 0))]) [1, 2, 3, 0] dX0_layDoubts_13 rfl (by decide) rfl ?_
    refine lp2_r (fun x3_7 s_8 => G s_8 14 [(0, .ref (ad 0)), (1, .int (iI a1)), (2, .int (iI x2_1)), (3, .int (iI x3_7))] []) h (fun x3_7 s_8 K_9 h ih_10 => ?_)
    refine jw_iload_n F 3 dX0_layDoubts_14 rfl rfl ?_
    refine jw_aload_n F 0 dX0_layDoubts_15 rfl rfl ?_
    refine gx_X0_45_0 F dX0_layDoubts_16 ?_
    refine jw_iload_n F 2 dX0_layDoubts_19 rfl rfl ?_
    obtain ⟨o_11, o_12, h⟩ := h
    refine jw_iald F (xO dA ad) (k := 8) (by decide) (xa_8 dA ad) 0 rfl (by decide) o_11 o_12 dX0_layDoubts_20 ?_
    obtain ⟨o_13, h⟩ := h
    obtain ⟨o_14, h⟩ := h
    refine jw_icmp_ge F o_13 o_14 (tgt := 79) dX0_layDoubts_21 (by decide) (fun c => ?_) (fun c => ?_)
    · have h := h.1 (c)
      refine jw_iinc F (lv' := [(0, .ref (ad 0)), (1, .int (iI a1)), (2, .int (iI (x2_1 + 1))), (3, .int (iI x3_7))]) 2 [1, 2, 0, 3] dX0_layDoubts_79 rfl (by decide) rfl ?_
      refine jw_goto F (tgt := 7) dX0_layDoubts_82 (by decide) ?_
      refine jw_sub F (lv' := [(0, .ref (ad 0)), (1, .int (iI a1)), (2, .int (iI (x2_1 + 1)))]) [0, 1, 2] rfl ?_
      exact ih_4 _ _ h
    · have h := h.2 (c)
      refine jw_aload_n F 0 dX0_layDoubts_24 rfl rfl ?_
      refine gx_X0_23_0 F dX0_layDoubts_25 ?_
      refine gx_X0_154_1 F dX0_layDoubts_28 ?_
      refine jw_aload_n F 0 dX0_layDoubts_31 rfl rfl ?_
      refine gx_X0_42_0 F dX0_layDoubts_32 ?_
      refine jw_iload_n F 2 dX0_layDoubts_35 rfl rfl ?_
      obtain ⟨o_15, o_16, h⟩ := h
      refine jw_aald F (xO dA ad) (k := 7) (by decide) (xa_7 dA ad) 3 rfl rfl (by decide) o_15 o_16 dX0_layDoubts_36 ?_
      refine jw_iload_n F 3 dX0_layDoubts_37 rfl rfl ?_
      obtain ⟨o_17, o_18, h⟩ := h
      refine jw_iald F (xO dA ad) (k := (26 + (x2_1 : Int).toNat)) (by omega) (xr_6 dA ad (by omega) (by omega)) 0 rfl (by decide) o_17 o_18 dX0_layDoubts_38 ?_
      obtain ⟨o_19, o_20, h⟩ := h
      refine jw_iald F (xO dA ad) (k := 19) (by decide) (xa_19 dA ad) 0 rfl (by decide) o_19 o_20 dX0_layDoubts_39 ?_
      refine jw_istore F (lv' := [(0, .ref (ad 0)), (1, .int (iI a1)), (2, .int (iI x2_1)), (3, .int (iI x3_7)), (4, .int (iI (s_8 19 (s_8 (26 + (x2_1 : Int).toNat) x3_7))))]) [1, 2, 3, 4, 0] dX0_layDoubts_40 (by decide) rfl ?_
      refine jw_aload_n F 0 dX0_layDoubts_42 rfl rfl ?_
      refine jw_iload F 4 dX0_layDoubts_43 rfl ?_
      refine jw_callVip F (wk_X0_doubtOf h) (lw_V q672 q674 qs22 q70 q675) hd_X0_doubtOf ⟨rfl, rfl, Nat.le_of_ble_eq_true rfl, Nat.le_of_ble_eq_true rfl⟩ rfl rfl (xh_0 dA ad _) rfl rfl rfl (Nat.le_of_ble_eq_true rfl) dX0_layDoubts_45 (fun r_21 h => ?_)
      refine jw_iconst F dX0_layDoubts_48 ?_
      obtain ⟨o_23, h⟩ := h
      refine jn1_r (fun s_24 => G s_24 73 [(0, .ref (ad 0)), (1, .int (iI a1)), (2, .int (iI x2_1)), (3, .int (iI x3_7))] []) h (fun s_24 h => ?_) (fun K_25 h j_26 => ?_)
      · refine jw_iinc F (lv' := [(0, .ref (ad 0)), (1, .int (iI a1)), (2, .int (iI x2_1)), (3, .int (iI (x3_7 + 1)))]) 3 [1, 2, 3, 0] dX0_layDoubts_73 rfl (by decide) rfl ?_
        refine jw_goto F (tgt := 14) dX0_layDoubts_76 (by decide) ?_
        exact ih_10 _ _ h
      · refine jw_icmp_ne F o_23 (by decide) (tgt := 73) dX0_layDoubts_49 (by decide) (fun c => ?_) (fun c => ?_)
        · have h := h.1 (c)
          refine jw_sub F (lv' := [(0, .ref (ad 0)), (1, .int (iI a1)), (2, .int (iI x2_1)), (3, .int (iI x3_7))]) [0, 1, 2, 3] rfl ?_
          exact j_26 _ h
        · have h := h.2 (c)
          refine jw_aload_n F 0 dX0_layDoubts_52 rfl rfl ?_
          refine gx_X0_51_0 F dX0_layDoubts_53 ?_
          refine jw_aload_n F 0 dX0_layDoubts_56 rfl rfl ?_
          refine gx_X0_214_0 F dX0_layDoubts_57 ?_
          refine jw_iload F 4 dX0_layDoubts_60 rfl ?_
          obtain ⟨o_27, o_28, h⟩ := h
          refine jw_iast F (xO dA ad) (k := 10) (by decide) (xa_10 dA ad) 0 rfl (by decide) o_27 o_28 dX0_layDoubts_62 ?_
          refine jw_aload_n F 0 dX0_layDoubts_63 rfl rfl ?_
          refine jw_dup F rfl dX0_layDoubts_64 ?_
          refine gx_X0_214_0 F dX0_layDoubts_65 ?_
          refine jw_iconst F dX0_layDoubts_68 ?_
          refine jw_iadd F dX0_layDoubts_69 ?_
          refine pgx_X0_214_0 F dX0_layDoubts_70 ?_
          refine jw_sub F (lv' := [(0, .ref (ad 0)), (1, .int (iI a1)), (2, .int (iI x2_1)), (3, .int (iI x3_7))]) [0, 1, 2, 3] rfl ?_
          exact j_26 _ h
theorem hd_X0_sheet : yX0_sheet.cls = RX0 ∧ yX0_sheet.cls ≠ "java/lang/invoke/MethodHandle" ∧ yX0_sheet.cls ≠ "java/lang/invoke/VarHandle" ∧ (parseMethodDescriptor yX0_sheet.desc).map (fun d => d.parameters.length) = some 3 := by decide +kernel
set_option maxHeartbeats 4000000 in
set_option maxRecDepth 100000 in
theorem wk_X0_sheet {l : Launch} {D : va_G} {dA : Nat → ClassId} {ad : Nat → Nat} {s : Sg} {a1 a2 a3 : Int} {Q : Int → Sg → Prop} (h : wp_X0_sheet a1 a2 a3 s Q) : MXi l D dA (xwf dA ad) yX0_sheet cX0_sheet 6 .int ({ frames := 3, cells := 0, slots := 0, locals := 68 } : Room) [.ref (ad 0), .int (iI a1), .long (lI a2), .int (iI a3)] s Q := by
  unfold wp_X0_sheet at h
  refine jw_start_i (own := RX0) (lv0 := [(0, .ref (ad 0)), (1, .int (iI a1)), (2, .long (lI a2)), (4, .int (iI a3))]) (by decide) rfl (Nat.le_of_ble_eq_true rfl) rfl (fun G F rt => ?_)
  refine jw_iload_n F 1 dX0_sheet_0 rfl rfl ?_
  refine jw_iconst F dX0_sheet_1 ?_
  refine jw_bipush F (z := 6) dX0_sheet_2 (by decide) ?_
  refine jw_callSzp F (wk_X0_in h) (lw_S q534 q449 q70 q450) hd_X0_in ⟨rfl, rfl, Nat.le_of_ble_eq_true rfl, Nat.le_of_ble_eq_true rfl⟩ rfl rfl (Nat.le_of_ble_eq_true rfl) dX0_sheet_4 (fun r_1 hb_r_1 h => ?_)
  refine jw_if_eq F (rg01 hb_r_1) (tgt := 32) dX0_sheet_7 (by decide) (fun c => ?_) (fun c => ?_)
  · have h := h.1 (c)
    refine jw_bipush F (z := (-102)) dX0_sheet_32 (by decide) ?_
    exact rt _ _ _ _ dX0_sheet_34 h
  · have h := h.2 (c)
    refine jw_iload F 3 dX0_sheet_10 rfl ?_
    refine jw_iconst F dX0_sheet_12 ?_
    refine jw_bipush F (z := 6) dX0_sheet_13 (by decide) ?_
    refine jw_callSzp F (wk_X0_in h) (lw_S q534 q449 q70 q450) hd_X0_in ⟨rfl, rfl, Nat.le_of_ble_eq_true rfl, Nat.le_of_ble_eq_true rfl⟩ rfl rfl (Nat.le_of_ble_eq_true rfl) dX0_sheet_15 (fun r_3 hb_r_3 h => ?_)
    refine jw_if_eq F (rg01 hb_r_3) (tgt := 32) dX0_sheet_18 (by decide) (fun c => ?_) (fun c => ?_)
    · have h := h.1 (c)
      refine jw_bipush F (z := (-102)) dX0_sheet_32 (by decide) ?_
      exact rt _ _ _ _ dX0_sheet_34 h
    · have h := h.2 (c)
      refine jw_lload_n F 2 dX0_sheet_21 rfl rfl ?_
      refine jw_bipush F (z := 8) dX0_sheet_22 (by decide) ?_
      refine jw_iload_n F 1 dX0_sheet_24 rfl rfl ?_
      refine jw_imul F dX0_sheet_25 ?_
      obtain ⟨o_5, o_6, h⟩ := h
      refine jw_lushr F o_5 o_6 dX0_sheet_26 ?_
      refine jw_lconst F (z := 0) dX0_sheet_27 (by decide) ?_
      obtain ⟨o_7, h⟩ := h
      refine jw_lcmp F o_7 (by decide) dX0_sheet_28 ?_
      refine jw_if_eq F (cmpI_rg _ _) (tgt := 35) dX0_sheet_29 (by decide) (fun c => ?_) (fun c => ?_)
      · have h := h.1 (cmpI_0.mp c)
        refine jw_aload_n F 0 dX0_sheet_35 rfl rfl ?_
        refine jw_iload_n F 1 dX0_sheet_36 rfl rfl ?_
        refine jw_lload_n F 2 dX0_sheet_37 rfl rfl ?_
        refine jw_callVzp F (wk_X0_areChords h) (lw_V q664 q666 qs20 q70 q667) hd_X0_areChords ⟨rfl, rfl, Nat.le_of_ble_eq_true rfl, Nat.le_of_ble_eq_true rfl⟩ rfl rfl (xh_0 dA ad _) rfl rfl rfl (Nat.le_of_ble_eq_true rfl) dX0_sheet_38 (fun r_8 hb_r_8 h => ?_)
        refine jw_if_ne F (rg01 hb_r_8) (tgt := 47) dX0_sheet_41 (by decide) (fun c => ?_) (fun c => ?_)
        · have h := h.1 (c)
          refine jw_aload_n F 0 dX0_sheet_47 rfl rfl ?_
          refine gx_X0_115_0 F dX0_sheet_48 ?_
          refine jw_iconst F dX0_sheet_51 ?_
          obtain ⟨o_10, h⟩ := h
          refine jw_icmp_ne F o_10 (by decide) (tgt := 58) dX0_sheet_52 (by decide) (fun c => ?_) (fun c => ?_)
          · have h := h.1 (c)
            refine jw_iconst F dX0_sheet_58 ?_
            refine jw_istore F (lv' := [(0, .ref (ad 0)), (1, .int (iI a1)), (2, .long (lI a2)), (4, .int (iI a3)), (5, .int (iI 0))]) [1, 2, 3, 4, 0] dX0_sheet_59 (by decide) rfl ?_
            refine lp2_r (fun x5_11 s_12 => G s_12 61 [(0, .ref (ad 0)), (1, .int (iI a1)), (2, .long (lI a2)), (4, .int (iI a3)), (5, .int (iI x5_11))] []) h (fun x5_11 s_12 K_13 h ih_14 => ?_)
            refine jw_iload F 4 dX0_sheet_61 rfl ?_
            refine jw_iload_n F 1 dX0_sheet_63 rfl rfl ?_
            obtain ⟨o_15, h⟩ := h
            obtain ⟨o_16, h⟩ := h
            refine jw_icmp_ge F o_15 o_16 (tgt := 97) dX0_sheet_64 (by decide) (fun c => ?_) (fun c => ?_)
            · have h := h.1 (c)
              refine jw_aload_n F 0 dX0_sheet_97 rfl rfl ?_
              refine gx_X0_45_0 F dX0_sheet_98 ?_
              refine jw_aload_n F 0 dX0_sheet_101 rfl rfl ?_
              refine gx_X0_115_0 F dX0_sheet_102 ?_
              refine jw_iload_n F 1 dX0_sheet_105 rfl rfl ?_
              obtain ⟨o_17, o_18, h⟩ := h
              refine jw_iast F (xO dA ad) (k := 8) (by decide) (xa_8 dA ad) 0 rfl (by decide) o_17 o_18 dX0_sheet_106 ?_
              refine jw_aload_n F 0 dX0_sheet_107 rfl rfl ?_
              refine jw_aload_n F 0 dX0_sheet_108 rfl rfl ?_
              refine gx_X0_115_0 F dX0_sheet_109 ?_
              refine jw_iconst F dX0_sheet_112 ?_
              refine jw_iadd F dX0_sheet_113 ?_
              refine jw_callVv F (wk_X0_layDoubts h) (lw_V q668 q670 qs21 q70 q671) hd_X0_layDoubts ⟨rfl, rfl, Nat.le_of_ble_eq_true rfl, Nat.le_of_ble_eq_true rfl⟩ rfl rfl (xh_0 dA ad _) rfl rfl rfl (Nat.le_of_ble_eq_true rfl) dX0_sheet_114 (fun s_20 hz => ?_)
              have h := hz
              refine jw_aload_n F 0 dX0_sheet_117 rfl rfl ?_
              refine gx_X0_214_0 F dX0_sheet_118 ?_
              refine jw_bipush F (z := 12) dX0_sheet_121 (by decide) ?_
              obtain ⟨o_21, h⟩ := h
              refine jw_icmp_le F o_21 (by decide) (tgt := 129) dX0_sheet_123 (by decide) (fun c => ?_) (fun c => ?_)
              · have h := h.1 (c)
                refine jw_aload_n F 0 dX0_sheet_129 rfl rfl ?_
                refine gx_X0_48_0 F dX0_sheet_130 ?_
                refine jw_aload_n F 0 dX0_sheet_133 rfl rfl ?_
                refine gx_X0_115_0 F dX0_sheet_134 ?_
                refine jw_iload F 3 dX0_sheet_137 rfl ?_
                obtain ⟨o_22, o_23, h⟩ := h
                refine jw_iast F (xO dA ad) (k := 9) (by decide) (xa_9 dA ad) 0 rfl (by decide) o_22 o_23 dX0_sheet_139 ?_
                refine jw_aload_n F 0 dX0_sheet_140 rfl rfl ?_
                refine jw_dup F rfl dX0_sheet_141 ?_
                refine gx_X0_115_0 F dX0_sheet_142 ?_
                refine jw_iconst F dX0_sheet_145 ?_
                refine jw_iadd F dX0_sheet_146 ?_
                refine pgx_X0_115_0 F dX0_sheet_147 ?_
                refine jw_aload_n F 0 dX0_sheet_150 rfl rfl ?_
                refine gx_X0_115_0 F dX0_sheet_151 ?_
                exact rt _ _ _ _ dX0_sheet_154 h
              · have h := h.2 (c)
                refine jw_bipush F (z := (-104)) dX0_sheet_126 (by decide) ?_
                exact rt _ _ _ _ dX0_sheet_128 h
            · have h := h.2 (c)
              refine jw_aload_n F 0 dX0_sheet_67 rfl rfl ?_
              refine gx_X0_42_0 F dX0_sheet_68 ?_
              refine jw_aload_n F 0 dX0_sheet_71 rfl rfl ?_
              refine gx_X0_115_0 F dX0_sheet_72 ?_
              obtain ⟨o_24, o_25, h⟩ := h
              refine jw_aald F (xO dA ad) (k := 7) (by decide) (xa_7 dA ad) 3 rfl rfl (by decide) o_24 o_25 dX0_sheet_75 ?_
              refine jw_iload F 4 dX0_sheet_76 rfl ?_
              refine jw_lload_n F 2 dX0_sheet_78 rfl rfl ?_
              refine jw_bipush F (z := 8) dX0_sheet_79 (by decide) ?_
              refine jw_iload F 4 dX0_sheet_81 rfl ?_
              refine jw_imul F dX0_sheet_83 ?_
              obtain ⟨o_26, h⟩ := h
              obtain ⟨o_27, o_28, h⟩ := h
              refine jw_lshr F o_26 o_27 o_28 dX0_sheet_84 ?_
              refine jw_ldc2 F (z := 255) q319 dX0_sheet_85 ?_
              refine jw_lmask F 8 (by decide) (by decide) dX0_sheet_88 ?_
              refine jw_l2i F dX0_sheet_89 ?_
              obtain ⟨o_29, o_30, h⟩ := h
              refine jw_iast F (xO dA ad) (k := (26 + ((s_12 0 14) : Int).toNat)) (by omega) (xr_6 dA ad (by omega) (by omega)) 0 rfl (by decide) o_29 o_30 dX0_sheet_90 ?_
              refine jw_iinc F (lv' := [(0, .ref (ad 0)), (1, .int (iI a1)), (2, .long (lI a2)), (4, .int (iI a3)), (5, .int (iI (x5_11 + 1)))]) 4 [1, 2, 3, 4, 0] dX0_sheet_91 rfl (by decide) rfl ?_
              refine jw_goto F (tgt := 61) dX0_sheet_94 (by decide) ?_
              exact ih_14 _ _ h
          · have h := h.2 (c)
            refine jw_bipush F (z := (-104)) dX0_sheet_55 (by decide) ?_
            exact rt _ _ _ _ dX0_sheet_57 h
        · have h := h.2 (c)
          refine jw_bipush F (z := (-101)) dX0_sheet_44 (by decide) ?_
          exact rt _ _ _ _ dX0_sheet_46 h
      · have h := h.2 (fun z => c (cmpI_0.mpr z))
        refine jw_bipush F (z := (-102)) dX0_sheet_32 (by decide) ?_
        exact rt _ _ _ _ dX0_sheet_34 h
theorem hd_X0_surely : yX0_surely.cls = RX0 ∧ yX0_surely.cls ≠ "java/lang/invoke/MethodHandle" ∧ yX0_surely.cls ≠ "java/lang/invoke/VarHandle" ∧ (parseMethodDescriptor yX0_surely.desc).map (fun d => d.parameters.length) = some 0 := by decide +kernel
set_option maxHeartbeats 4000000 in
set_option maxRecDepth 100000 in
theorem wk_X0_surely {l : Launch} {D : va_G} {dA : Nat → ClassId} {ad : Nat → Nat} {s : Sg} {Q : Int → Prop} (h : wp_X0_surely s Q) : MXi l D dA (xwf dA ad) yX0_surely cX0_surely 3 .int ({ frames := 2, cells := 0, slots := 0, locals := 43 } : Room) [.ref (ad 0)] s (fun z s' => s' = s ∧ Q z) := by
  unfold wp_X0_surely at h
  refine jw_start_i (own := RX0) (lv0 := [(0, .ref (ad 0))]) (by decide) rfl (Nat.le_of_ble_eq_true rfl) rfl (fun G F rt => ?_)
  refine jw_iconst F dX0_surely_0 ?_
  refine jw_istore_n F (lv' := [(0, .ref (ad 0)), (1, .int (iI 0))]) [1, 0] dX0_surely_1 rfl (by decide) rfl ?_
  refine jw_iconst F dX0_surely_2 ?_
  refine jw_istore_n F (lv' := [(0, .ref (ad 0)), (1, .int (iI 0)), (2, .int (iI 0))]) [1, 2, 0] dX0_surely_3 rfl (by decide) rfl ?_
  refine lp2_r (fun x1_1 x2_2 => G s 4 [(0, .ref (ad 0)), (1, .int (iI x1_1)), (2, .int (iI x2_2))] []) h (fun x1_1 x2_2 K_3 h ih_4 => ?_)
  refine jw_iload_n F 2 dX0_surely_4 rfl rfl ?_
  refine jw_aload_n F 0 dX0_surely_5 rfl rfl ?_
  refine gx_X0_214_0 F dX0_surely_6 ?_
  obtain ⟨o_5, h⟩ := h
  obtain ⟨o_6, h⟩ := h
  refine jw_icmp_ge F o_5 o_6 (tgt := 41) dX0_surely_9 (by decide) (fun c => ?_) (fun c => ?_)
  · have h := h.1 (c)
    refine jw_iload_n F 1 dX0_surely_41 rfl rfl ?_
    exact rt _ _ _ _ dX0_surely_42 ⟨rfl, h⟩
  · have h := h.2 (c)
    refine jw_iload_n F 1 dX0_surely_12 rfl rfl ?_
    refine jw_aload_n F 0 dX0_surely_13 rfl rfl ?_
    refine jw_aload_n F 0 dX0_surely_14 rfl rfl ?_
    refine gx_X0_51_0 F dX0_surely_15 ?_
    refine jw_iload_n F 2 dX0_surely_18 rfl rfl ?_
    obtain ⟨o_7, o_8, h⟩ := h
    refine jw_iald F (xO dA ad) (k := 10) (by decide) (xa_10 dA ad) 0 rfl (by decide) o_7 o_8 dX0_surely_19 ?_
    refine jw_callVzp F (wk_X0_isLeft h) (lw_V q612 q614 qs15 q70 q615) hd_X0_isLeft ⟨rfl, rfl, Nat.le_of_ble_eq_true rfl, Nat.le_of_ble_eq_true rfl⟩ rfl rfl (xh_0 dA ad _) rfl rfl rfl (Nat.le_of_ble_eq_true rfl) dX0_surely_20 (fun r_9 hb_r_9 h => ?_)
    refine jn1_r (fun v_11 => G s 33 [(0, .ref (ad 0)), (2, .int (iI x2_2))] [.int (iI v_11), .int (iI x1_1)]) h (fun v_11 h => ?_) (fun K_12 h j_13 => ?_)
    · obtain ⟨o_14, h⟩ := h
      obtain ⟨o_15, h⟩ := h
      refine jw_ior F o_14 o_15 dX0_surely_33 ?_
      refine jw_istore_n F (lv' := [(0, .ref (ad 0)), (1, .int (iI (bor x1_1 v_11))), (2, .int (iI x2_2))]) [1, 0, 2] dX0_surely_34 rfl (by decide) rfl ?_
      refine jw_iinc F (lv' := [(0, .ref (ad 0)), (1, .int (iI (bor x1_1 v_11))), (2, .int (iI (x2_2 + 1)))]) 2 [1, 2, 0] dX0_surely_35 rfl (by decide) rfl ?_
      refine jw_goto F (tgt := 4) dX0_surely_38 (by decide) ?_
      exact ih_4 _ _ h
    · refine jw_if_eq F (rg01 hb_r_9) (tgt := 30) dX0_surely_23 (by decide) (fun c => ?_) (fun c => ?_)
      · have h := h.1 (c)
        refine jw_iconst F dX0_surely_30 ?_
        refine jw_iload_n F 2 dX0_surely_31 rfl rfl ?_
        obtain ⟨o_16, o_17, h⟩ := h
        refine jw_ishl F o_16 o_17 dX0_surely_32 ?_
        refine jw_sub F (lv' := [(0, .ref (ad 0)), (2, .int (iI x2_2))]) [0, 2] rfl ?_
        exact j_13 _ h
      · have h := h.2 (c)
        refine jw_iconst F dX0_surely_26 ?_
        refine jw_goto F (tgt := 33) dX0_surely_27 (by decide) ?_
        refine jw_sub F (lv' := [(0, .ref (ad 0)), (2, .int (iI x2_2))]) [0, 2] rfl ?_
        exact j_13 _ h
theorem hd_X0_isReading : yX0_isReading.cls = RX0 ∧ yX0_isReading.cls ≠ "java/lang/invoke/MethodHandle" ∧ yX0_isReading.cls ≠ "java/lang/invoke/VarHandle" ∧ (parseMethodDescriptor yX0_isReading.desc).map (fun d => d.parameters.length) = some 1 := by decide +kernel
set_option maxHeartbeats 4000000 in
set_option maxRecDepth 100000 in
theorem wk_X0_isReading {l : Launch} {D : va_G} {dA : Nat → ClassId} {ad : Nat → Nat} {s : Sg} {a1 : Int} {Q : Int → Prop} (h : wp_X0_isReading a1 s Q) : MXi l D dA (xwf dA ad) yX0_isReading cX0_isReading 4 .boolean ({ frames := 1, cells := 0, slots := 0, locals := 20 } : Room) [.ref (ad 0), .int (iI a1)] s (fun z s' => (z = 0 ∨ z = 1) ∧ s' = s ∧ Q z) := by
  unfold wp_X0_isReading at h
  refine jw_start_z (own := RX0) (lv0 := [(0, .ref (ad 0)), (1, .int (iI a1))]) (by decide) rfl (Nat.le_of_ble_eq_true rfl) rfl (fun G F rt => ?_)
  refine jw_iconst F dX0_isReading_0 ?_
  refine jw_istore_n F (lv' := [(0, .ref (ad 0)), (1, .int (iI a1)), (2, .int (iI 1))]) [1, 2, 0] dX0_isReading_1 rfl (by decide) rfl ?_
  refine jw_iconst F dX0_isReading_2 ?_
  refine jw_istore_n F (lv' := [(0, .ref (ad 0)), (1, .int (iI a1)), (2, .int (iI 1)), (3, .int (iI 0))]) [1, 2, 3, 0] dX0_isReading_3 rfl (by decide) rfl ?_
  refine lp2_r (fun x2_1 x3_2 => G s 4 [(0, .ref (ad 0)), (1, .int (iI a1)), (2, .int (iI x2_1)), (3, .int (iI x3_2))] []) h (fun x2_1 x3_2 K_3 h ih_4 => ?_)
  refine jw_iload_n F 3 dX0_isReading_4 rfl rfl ?_
  refine jw_aload_n F 0 dX0_isReading_5 rfl rfl ?_
  refine gx_X0_115_0 F dX0_isReading_6 ?_
  obtain ⟨o_5, h⟩ := h
  obtain ⟨o_6, h⟩ := h
  refine jw_icmp_ge F o_5 o_6 (tgt := 46) dX0_isReading_9 (by decide) (fun c => ?_) (fun c => ?_)
  · have h := h.1 (c)
    refine jw_iload_n F 2 dX0_isReading_46 rfl rfl ?_
    obtain ⟨o_7, h⟩ := h
    exact rt _ _ _ _ dX0_isReading_47 o_7 ⟨o_7, rfl, h⟩
  · have h := h.2 (c)
    refine jw_iload_n F 2 dX0_isReading_12 rfl rfl ?_
    refine jw_iload_n F 1 dX0_isReading_13 rfl rfl ?_
    refine jw_aload_n F 0 dX0_isReading_14 rfl rfl ?_
    refine gx_X0_54_0 F dX0_isReading_15 ?_
    refine jw_iload_n F 3 dX0_isReading_18 rfl rfl ?_
    obtain ⟨o_8, o_9, h⟩ := h
    refine jw_iald F (xO dA ad) (k := 11) (by decide) (xa_11 dA ad) 0 rfl (by decide) o_8 o_9 dX0_isReading_19 ?_
    obtain ⟨o_10, h⟩ := h
    obtain ⟨o_11, h⟩ := h
    refine jw_iand F o_10 o_11 dX0_isReading_20 ?_
    refine jw_callSip F (wk_J10_bitCount h) (lw_S q696 q697 q90 q698) hd_J10_bitCount ⟨rfl, rfl, Nat.le_of_ble_eq_true rfl, Nat.le_of_ble_eq_true rfl⟩ rfl rfl (Nat.le_of_ble_eq_true rfl) dX0_isReading_21 (fun r_12 h => ?_)
    refine jw_aload_n F 0 dX0_isReading_24 rfl rfl ?_
    refine gx_X0_48_0 F dX0_isReading_25 ?_
    refine jw_iload_n F 3 dX0_isReading_28 rfl rfl ?_
    obtain ⟨o_14, o_15, h⟩ := h
    refine jw_iald F (xO dA ad) (k := 9) (by decide) (xa_9 dA ad) 0 rfl (by decide) o_14 o_15 dX0_isReading_29 ?_
    obtain ⟨o_16, h⟩ := h
    obtain ⟨o_17, h⟩ := h
    refine jn1_r (fun v_18 => G s 38 [(0, .ref (ad 0)), (1, .int (iI a1)), (3, .int (iI x3_2))] [.int (iI v_18), .int (iI x2_1)]) h (fun v_18 h => ?_) (fun K_19 h j_20 => ?_)
    · obtain ⟨o_21, h⟩ := h
      obtain ⟨o_22, h⟩ := h
      refine jw_iand F o_21 o_22 dX0_isReading_38 ?_
      refine jw_istore_n F (lv' := [(0, .ref (ad 0)), (1, .int (iI a1)), (2, .int (iI (band x2_1 v_18))), (3, .int (iI x3_2))]) [1, 2, 0, 3] dX0_isReading_39 rfl (by decide) rfl ?_
      refine jw_iinc F (lv' := [(0, .ref (ad 0)), (1, .int (iI a1)), (2, .int (iI (band x2_1 v_18))), (3, .int (iI (x3_2 + 1)))]) 3 [1, 2, 3, 0] dX0_isReading_40 rfl (by decide) rfl ?_
      refine jw_goto F (tgt := 4) dX0_isReading_43 (by decide) ?_
      exact ih_4 _ _ h
    · refine jw_icmp_ne F o_16 o_17 (tgt := 37) dX0_isReading_30 (by decide) (fun c => ?_) (fun c => ?_)
      · have h := h.1 (c)
        refine jw_iconst F dX0_isReading_37 ?_
        refine jw_sub F (lv' := [(0, .ref (ad 0)), (1, .int (iI a1)), (3, .int (iI x3_2))]) [0, 1, 3] rfl ?_
        exact j_20 _ h
      · have h := h.2 (c)
        refine jw_iconst F dX0_isReading_33 ?_
        refine jw_goto F (tgt := 38) dX0_isReading_34 (by decide) ?_
        refine jw_sub F (lv' := [(0, .ref (ad 0)), (1, .int (iI a1)), (3, .int (iI x3_2))]) [0, 1, 3] rfl ?_
        exact j_20 _ h
theorem hd_X0_isIn : yX0_isIn.cls ≠ "java/lang/invoke/MethodHandle" ∧ yX0_isIn.cls ≠ "java/lang/invoke/VarHandle" ∧ (parseMethodDescriptor yX0_isIn.desc).map (fun d => d.parameters.length) = some 2 := by decide +kernel
set_option maxHeartbeats 4000000 in
set_option maxRecDepth 100000 in
theorem wk_X0_isIn {l : Launch} {D : va_G} {dA : Nat → ClassId} {wf : Sg → va_W} {s : Sg} {a1 a2 : Int} {Q : Int → Prop} (h : wp_X0_isIn a1 a2 Q) : MXi l D dA wf yX0_isIn cX0_isIn 2 .boolean ({ frames := 0, cells := 0, slots := 0, locals := 0 } : Room) [.int (iI a1), .int (iI a2)] s (fun z s' => (z = 0 ∨ z = 1) ∧ s' = s ∧ Q z) := by
  unfold wp_X0_isIn at h
  refine jw_start_z (own := RX0) (lv0 := [(0, .int (iI a1)), (1, .int (iI a2))]) (by decide) rfl (Nat.le_of_ble_eq_true rfl) rfl (fun G F rt => ?_)
  refine jw_iload_n F 0 dX0_isIn_0 rfl rfl ?_
  refine jw_iload_n F 1 dX0_isIn_1 rfl rfl ?_
  obtain ⟨o_1, h⟩ := h
  obtain ⟨o_2, o_3, h⟩ := h
  refine jw_ishr F o_1 o_2 o_3 dX0_isIn_2 ?_
  refine jw_iconst F dX0_isIn_3 ?_
  obtain ⟨o_4, h⟩ := h
  refine jw_iand F o_4 (by decide) dX0_isIn_4 ?_
  refine jw_iconst F dX0_isIn_5 ?_
  obtain ⟨o_5, h⟩ := h
  refine jw_icmp_ne F o_5 (by decide) (tgt := 13) dX0_isIn_6 (by decide) (fun c => ?_) (fun c => ?_)
  · have h := h.1 (c)
    refine jw_iconst F dX0_isIn_13 ?_
    exact rt _ _ _ _ dX0_isIn_14 (by decide) ⟨(by decide), rfl, h⟩
  · have h := h.2 (c)
    refine jw_iconst F dX0_isIn_9 ?_
    refine jw_goto F (tgt := 14) dX0_isIn_10 (by decide) ?_
    exact rt _ _ _ _ dX0_isIn_14 (by decide) ⟨(by decide), rfl, h⟩
theorem hd_X0_bitsOf : yX0_bitsOf.cls = RX0 ∧ yX0_bitsOf.cls ≠ "java/lang/invoke/MethodHandle" ∧ yX0_bitsOf.cls ≠ "java/lang/invoke/VarHandle" ∧ (parseMethodDescriptor yX0_bitsOf.desc).map (fun d => d.parameters.length) = some 1 := by decide +kernel
set_option maxHeartbeats 4000000 in
set_option maxRecDepth 100000 in
theorem wk_X0_bitsOf {l : Launch} {D : va_G} {dA : Nat → ClassId} {ad : Nat → Nat} {s : Sg} {a1 : Int} {Q : Int → Prop} (h : wp_X0_bitsOf a1 s Q) : MXi l D dA (xwf dA ad) yX0_bitsOf cX0_bitsOf 4 .int ({ frames := 1, cells := 0, slots := 0, locals := 22 } : Room) [.ref (ad 0), .int (iI a1)] s (fun z s' => s' = s ∧ Q z) := by
  unfold wp_X0_bitsOf at h
  refine jw_start_i (own := RX0) (lv0 := [(0, .ref (ad 0)), (1, .int (iI a1))]) (by decide) rfl (Nat.le_of_ble_eq_true rfl) rfl (fun G F rt => ?_)
  refine jw_iconst F dX0_bitsOf_0 ?_
  refine jw_istore_n F (lv' := [(0, .ref (ad 0)), (1, .int (iI a1)), (2, .int (iI 0))]) [1, 2, 0] dX0_bitsOf_1 rfl (by decide) rfl ?_
  refine jw_iconst F dX0_bitsOf_2 ?_
  refine jw_istore_n F (lv' := [(0, .ref (ad 0)), (1, .int (iI a1)), (2, .int (iI 0)), (3, .int (iI 0))]) [1, 2, 3, 0] dX0_bitsOf_3 rfl (by decide) rfl ?_
  refine lp2_r (fun x2_1 x3_2 => G s 4 [(0, .ref (ad 0)), (1, .int (iI a1)), (2, .int (iI x2_1)), (3, .int (iI x3_2))] []) h (fun x2_1 x3_2 K_3 h ih_4 => ?_)
  refine jw_iload_n F 3 dX0_bitsOf_4 rfl rfl ?_
  refine jw_aload_n F 0 dX0_bitsOf_5 rfl rfl ?_
  refine gx_X0_45_0 F dX0_bitsOf_6 ?_
  refine jw_iload_n F 1 dX0_bitsOf_9 rfl rfl ?_
  obtain ⟨o_5, o_6, h⟩ := h
  refine jw_iald F (xO dA ad) (k := 8) (by decide) (xa_8 dA ad) 0 rfl (by decide) o_5 o_6 dX0_bitsOf_10 ?_
  obtain ⟨o_7, h⟩ := h
  obtain ⟨o_8, h⟩ := h
  refine jw_icmp_ge F o_7 o_8 (tgt := 45) dX0_bitsOf_11 (by decide) (fun c => ?_) (fun c => ?_)
  · have h := h.1 (c)
    refine jw_iload_n F 2 dX0_bitsOf_45 rfl rfl ?_
    exact rt _ _ _ _ dX0_bitsOf_46 ⟨rfl, h⟩
  · have h := h.2 (c)
    refine jw_iload_n F 2 dX0_bitsOf_14 rfl rfl ?_
    refine jw_iconst F dX0_bitsOf_15 ?_
    refine jw_aload_n F 0 dX0_bitsOf_16 rfl rfl ?_
    refine jw_aload_n F 0 dX0_bitsOf_17 rfl rfl ?_
    refine gx_X0_23_0 F dX0_bitsOf_18 ?_
    refine gx_X0_154_1 F dX0_bitsOf_21 ?_
    refine jw_aload_n F 0 dX0_bitsOf_24 rfl rfl ?_
    refine gx_X0_42_0 F dX0_bitsOf_25 ?_
    refine jw_iload_n F 1 dX0_bitsOf_28 rfl rfl ?_
    obtain ⟨o_9, o_10, h⟩ := h
    refine jw_aald F (xO dA ad) (k := 7) (by decide) (xa_7 dA ad) 3 rfl rfl (by decide) o_9 o_10 dX0_bitsOf_29 ?_
    refine jw_iload_n F 3 dX0_bitsOf_30 rfl rfl ?_
    obtain ⟨o_11, o_12, h⟩ := h
    refine jw_iald F (xO dA ad) (k := (26 + (a1 : Int).toNat)) (by omega) (xr_6 dA ad (by omega) (by omega)) 0 rfl (by decide) o_11 o_12 dX0_bitsOf_31 ?_
    obtain ⟨o_13, o_14, h⟩ := h
    refine jw_iald F (xO dA ad) (k := 19) (by decide) (xa_19 dA ad) 0 rfl (by decide) o_13 o_14 dX0_bitsOf_32 ?_
    refine jw_callVip F (wk_X0_doubtOf h) (lw_V q672 q674 qs22 q70 q675) hd_X0_doubtOf ⟨rfl, rfl, Nat.le_of_ble_eq_true rfl, Nat.le_of_ble_eq_true rfl⟩ rfl rfl (xh_0 dA ad _) rfl rfl rfl (Nat.le_of_ble_eq_true rfl) dX0_bitsOf_33 (fun r_15 h => ?_)
    obtain ⟨o_17, o_18, h⟩ := h
    refine jw_ishl F o_17 o_18 dX0_bitsOf_36 ?_
    obtain ⟨o_19, h⟩ := h
    obtain ⟨o_20, h⟩ := h
    refine jw_ior F o_19 o_20 dX0_bitsOf_37 ?_
    refine jw_istore_n F (lv' := [(0, .ref (ad 0)), (1, .int (iI a1)), (2, .int (iI (bor x2_1 ((1 : Int) * 2 ^ (r_15 : Int).toNat)))), (3, .int (iI x3_2))]) [1, 2, 0, 3] dX0_bitsOf_38 rfl (by decide) rfl ?_
    refine jw_iinc F (lv' := [(0, .ref (ad 0)), (1, .int (iI a1)), (2, .int (iI (bor x2_1 ((1 : Int) * 2 ^ (r_15 : Int).toNat)))), (3, .int (iI (x3_2 + 1)))]) 3 [1, 2, 3, 0] dX0_bitsOf_39 rfl (by decide) rfl ?_
    refine jw_goto F (tgt := 4) dX0_bitsOf_42 (by decide) ?_
    exact ih_4 _ _ h
theorem hd_X0_layReadings : yX0_layReadings.cls = RX0 ∧ yX0_layReadings.cls ≠ "java/lang/invoke/MethodHandle" ∧ yX0_layReadings.cls ≠ "java/lang/invoke/VarHandle" ∧ (parseMethodDescriptor yX0_layReadings.desc).map (fun d => d.parameters.length) = some 0 := by decide +kernel
set_option maxHeartbeats 4000000 in
set_option maxRecDepth 100000 in
theorem wk_X0_layReadings {l : Launch} {D : va_G} {dA : Nat → ClassId} {ad : Nat → Nat} {s : Sg} {Q : Int → Sg → Prop} (h : wp_X0_layReadings s Q) : MXi l D dA (xwf dA ad) yX0_layReadings cX0_layReadings 5 .int ({ frames := 3, cells := 0, slots := 0, locals := 65 } : Room) [.ref (ad 0)] s Q := by
  unfold wp_X0_layReadings at h
  refine jw_start_i (own := RX0) (lv0 := [(0, .ref (ad 0))]) (by decide) rfl (Nat.le_of_ble_eq_true rfl) rfl (fun G F rt => ?_)
  refine jw_aload_n F 0 dX0_layReadings_0 rfl rfl ?_
  refine jw_aload_n F 0 dX0_layReadings_1 rfl rfl ?_
  refine gx_X0_115_0 F dX0_layReadings_2 ?_
  refine jw_callVv F (wk_X0_layDoubts h) (lw_V q668 q670 qs21 q70 q671) hd_X0_layDoubts ⟨rfl, rfl, Nat.le_of_ble_eq_true rfl, Nat.le_of_ble_eq_true rfl⟩ rfl rfl (xh_0 dA ad _) rfl rfl rfl (Nat.le_of_ble_eq_true rfl) dX0_layReadings_5 (fun s_2 hz => ?_)
  have h := hz
  refine jw_iconst F dX0_layReadings_8 ?_
  refine jw_istore_n F (lv' := [(0, .ref (ad 0)), (1, .int (iI 0))]) [1, 0] dX0_layReadings_9 rfl (by decide) rfl ?_
  refine lp2_r (fun x1_3 s_4 => G s_4 10 [(0, .ref (ad 0)), (1, .int (iI x1_3))] []) h (fun x1_3 s_4 K_5 h ih_6 => ?_)
  refine jw_iload_n F 1 dX0_layReadings_10 rfl rfl ?_
  refine jw_aload_n F 0 dX0_layReadings_11 rfl rfl ?_
  refine gx_X0_115_0 F dX0_layReadings_12 ?_
  obtain ⟨o_7, h⟩ := h
  obtain ⟨o_8, h⟩ := h
  refine jw_icmp_ge F o_7 o_8 (tgt := 35) dX0_layReadings_15 (by decide) (fun c => ?_) (fun c => ?_)
  · have h := h.1 (c)
    refine jw_iconst F dX0_layReadings_35 ?_
    refine jw_istore_n F (lv' := [(0, .ref (ad 0)), (1, .int (iI 0))]) [1, 0] dX0_layReadings_36 rfl (by decide) rfl ?_
    refine lp2_r (fun x1_9 s_10 => G s_10 37 [(0, .ref (ad 0)), (1, .int (iI x1_9))] []) h (fun x1_9 s_10 K_11 h ih_12 => ?_)
    refine jw_iload_n F 1 dX0_layReadings_37 rfl rfl ?_
    refine jw_bipush F (z := 12) dX0_layReadings_38 (by decide) ?_
    obtain ⟨o_13, h⟩ := h
    refine jw_icmp_ge F o_13 (by decide) (tgt := 56) dX0_layReadings_40 (by decide) (fun c => ?_) (fun c => ?_)
    · have h := h.1 (c)
      refine jw_aload_n F 0 dX0_layReadings_56 rfl rfl ?_
      refine jw_callVip F (wk_X0_surely h) (lw_V q688 q690 qs25 q70 q691) hd_X0_surely ⟨rfl, rfl, Nat.le_of_ble_eq_true rfl, Nat.le_of_ble_eq_true rfl⟩ rfl rfl (xh_0 dA ad _) rfl rfl rfl (Nat.le_of_ble_eq_true rfl) dX0_layReadings_57 (fun r_14 h => ?_)
      refine jw_istore_n F (lv' := [(0, .ref (ad 0)), (1, .int (iI r_14))]) [1, 0] dX0_layReadings_60 rfl (by decide) rfl ?_
      refine jw_iconst F dX0_layReadings_61 ?_
      refine jw_istore_n F (lv' := [(0, .ref (ad 0)), (1, .int (iI r_14)), (2, .int (iI 0))]) [1, 2, 0] dX0_layReadings_62 rfl (by decide) rfl ?_
      refine jw_iconst F dX0_layReadings_63 ?_
      refine jw_istore_n F (lv' := [(0, .ref (ad 0)), (1, .int (iI r_14)), (2, .int (iI 0)), (3, .int (iI 0))]) [1, 2, 3, 0] dX0_layReadings_64 rfl (by decide) rfl ?_
      refine lp3_r (fun x2_16 x3_17 s_18 => G s_18 65 [(0, .ref (ad 0)), (1, .int (iI r_14)), (2, .int (iI x2_16)), (3, .int (iI x3_17))] []) h (fun x2_16 x3_17 s_18 K_19 h ih_20 => ?_)
      refine jw_iload_n F 3 dX0_layReadings_65 rfl rfl ?_
      refine jw_iconst F dX0_layReadings_66 ?_
      refine jw_aload_n F 0 dX0_layReadings_67 rfl rfl ?_
      refine gx_X0_214_0 F dX0_layReadings_68 ?_
      obtain ⟨o_21, o_22, h⟩ := h
      refine jw_ishl F o_21 o_22 dX0_layReadings_71 ?_
      obtain ⟨o_23, h⟩ := h
      obtain ⟨o_24, h⟩ := h
      refine jw_icmp_ge F o_23 o_24 (tgt := 141) dX0_layReadings_72 (by decide) (fun c => ?_) (fun c => ?_)
      · have h := h.1 (c)
        refine jw_iload_n F 2 dX0_layReadings_141 rfl rfl ?_
        exact rt _ _ _ _ dX0_layReadings_142 h
      · have h := h.2 (c)
        refine jw_iload_n F 3 dX0_layReadings_75 rfl rfl ?_
        refine jw_iload_n F 1 dX0_layReadings_76 rfl rfl ?_
        obtain ⟨o_25, h⟩ := h
        obtain ⟨o_26, h⟩ := h
        refine jw_iand F o_25 o_26 dX0_layReadings_77 ?_
        refine jw_iload_n F 1 dX0_layReadings_78 rfl rfl ?_
        obtain ⟨o_27, h⟩ := h
        obtain ⟨o_28, h⟩ := h
        refine jn2_r (fun x2_29 s_30 => G s_30 135 [(0, .ref (ad 0)), (1, .int (iI r_14)), (2, .int (iI x2_29)), (3, .int (iI x3_17))] []) h (fun x2_29 s_30 h => ?_) (fun K_31 h j_32 => ?_)
        · refine jw_iinc F (lv' := [(0, .ref (ad 0)), (1, .int (iI r_14)), (2, .int (iI x2_29)), (3, .int (iI (x3_17 + 1)))]) 3 [1, 2, 3, 0] dX0_layReadings_135 rfl (by decide) rfl ?_
          refine jw_goto F (tgt := 65) dX0_layReadings_138 (by decide) ?_
          exact ih_20 _ _ _ h
        · refine jw_icmp_ne F o_27 o_28 (tgt := 135) dX0_layReadings_79 (by decide) (fun c => ?_) (fun c => ?_)
          · have h := h.1 (c)
            exact j_32 _ _ h
          · have h := h.2 (c)
            refine jw_aload_n F 0 dX0_layReadings_82 rfl rfl ?_
            refine jw_iload_n F 3 dX0_layReadings_83 rfl rfl ?_
            refine jw_callVzp F (wk_X0_isReading h) (lw_V q692 q694 qs26 q70 q695) hd_X0_isReading ⟨rfl, rfl, Nat.le_of_ble_eq_true rfl, Nat.le_of_ble_eq_true rfl⟩ rfl rfl (xh_0 dA ad _) rfl rfl rfl (Nat.le_of_ble_eq_true rfl) dX0_layReadings_84 (fun r_33 hb_r_33 h => ?_)
            refine jw_if_eq F (rg01 hb_r_33) (tgt := 135) dX0_layReadings_87 (by decide) (fun c => ?_) (fun c => ?_)
            · have h := h.1 (c)
              exact j_32 _ _ h
            · have h := h.2 (c)
              refine jw_iinc F (lv' := [(0, .ref (ad 0)), (1, .int (iI r_14)), (2, .int (iI (x2_16 + 1))), (3, .int (iI x3_17))]) 2 [1, 2, 0, 3] dX0_layReadings_90 rfl (by decide) rfl ?_
              refine jw_iconst F dX0_layReadings_93 ?_
              refine jw_istore F (lv' := [(0, .ref (ad 0)), (1, .int (iI r_14)), (2, .int (iI (x2_16 + 1))), (3, .int (iI x3_17)), (4, .int (iI 0))]) [1, 2, 3, 4, 0] dX0_layReadings_94 (by decide) rfl ?_
              refine lp2_r (fun x4_35 s_36 => G s_36 96 [(0, .ref (ad 0)), (1, .int (iI r_14)), (2, .int (iI (x2_16 + 1))), (3, .int (iI x3_17)), (4, .int (iI x4_35))] []) h (fun x4_35 s_36 K_37 h ih_38 => ?_)
              refine jw_iload F 4 dX0_layReadings_96 rfl ?_
              refine jw_aload_n F 0 dX0_layReadings_98 rfl rfl ?_
              refine gx_X0_214_0 F dX0_layReadings_99 ?_
              obtain ⟨o_39, h⟩ := h
              obtain ⟨o_40, h⟩ := h
              refine jw_icmp_ge F o_39 o_40 (tgt := 135) dX0_layReadings_102 (by decide) (fun c => ?_) (fun c => ?_)
              · have h := h.1 (c)
                refine jw_sub F (lv' := [(0, .ref (ad 0)), (1, .int (iI r_14)), (2, .int (iI (x2_16 + 1))), (3, .int (iI x3_17))]) [0, 1, 2, 3] rfl ?_
                exact j_32 _ _ h
              · have h := h.2 (c)
                refine jw_aload_n F 0 dX0_layReadings_105 rfl rfl ?_
                refine gx_X0_57_0 F dX0_layReadings_106 ?_
                refine jw_iload F 4 dX0_layReadings_109 rfl ?_
                refine jw_dup2 F rfl rfl dX0_layReadings_111 ?_
                obtain ⟨o_41, o_42, h⟩ := h
                refine jw_iald F (xO dA ad) (k := 12) (by decide) (xa_12 dA ad) 0 rfl (by decide) o_41 o_42 dX0_layReadings_112 ?_
                refine jw_iload_n F 3 dX0_layReadings_113 rfl rfl ?_
                refine jw_iload F 4 dX0_layReadings_114 rfl ?_
                refine jw_callSzp F (wk_X0_isIn h) (lw_S q702 q703 q70 q704) hd_X0_isIn ⟨rfl, rfl, Nat.le_of_ble_eq_true rfl, Nat.le_of_ble_eq_true rfl⟩ rfl rfl (Nat.le_of_ble_eq_true rfl) dX0_layReadings_116 (fun r_43 hb_r_43 h => ?_)
                refine jn1_r (fun v_45 => G s_36 127 [(0, .ref (ad 0)), (1, .int (iI r_14)), (2, .int (iI (x2_16 + 1))), (3, .int (iI x3_17)), (4, .int (iI x4_35))] [.int (iI v_45), .int (iI (s_36 12 x4_35)), .int (iI x4_35), .ref (ad 12)]) h (fun v_45 h => ?_) (fun K_46 h j_47 => ?_)
                · refine jw_iadd F dX0_layReadings_127 ?_
                  obtain ⟨o_48, o_49, h⟩ := h
                  refine jw_iast F (xO dA ad) (k := 12) (by decide) (xa_12 dA ad) 0 rfl (by decide) o_48 o_49 dX0_layReadings_128 ?_
                  refine jw_iinc F (lv' := [(0, .ref (ad 0)), (1, .int (iI r_14)), (2, .int (iI (x2_16 + 1))), (3, .int (iI x3_17)), (4, .int (iI (x4_35 + 1)))]) 4 [1, 2, 3, 4, 0] dX0_layReadings_129 rfl (by decide) rfl ?_
                  refine jw_goto F (tgt := 96) dX0_layReadings_132 (by decide) ?_
                  exact ih_38 _ _ h
                · refine jw_if_eq F (rg01 hb_r_43) (tgt := 126) dX0_layReadings_119 (by decide) (fun c => ?_) (fun c => ?_)
                  · have h := h.1 (c)
                    refine jw_iconst F dX0_layReadings_126 ?_
                    exact j_47 _ h
                  · have h := h.2 (c)
                    refine jw_iconst F dX0_layReadings_122 ?_
                    refine jw_goto F (tgt := 127) dX0_layReadings_123 (by decide) ?_
                    exact j_47 _ h
    · have h := h.2 (c)
      refine jw_aload_n F 0 dX0_layReadings_43 rfl rfl ?_
      refine gx_X0_57_0 F dX0_layReadings_44 ?_
      refine jw_iload_n F 1 dX0_layReadings_47 rfl rfl ?_
      refine jw_iconst F dX0_layReadings_48 ?_
      obtain ⟨o_50, o_51, h⟩ := h
      refine jw_iast F (xO dA ad) (k := 12) (by decide) (xa_12 dA ad) 0 rfl (by decide) o_50 o_51 dX0_layReadings_49 ?_
      refine jw_iinc F (lv' := [(0, .ref (ad 0)), (1, .int (iI (x1_9 + 1)))]) 1 [1, 0] dX0_layReadings_50 rfl (by decide) rfl ?_
      refine jw_goto F (tgt := 37) dX0_layReadings_53 (by decide) ?_
      exact ih_12 _ _ h
  · have h := h.2 (c)
    refine jw_aload_n F 0 dX0_layReadings_18 rfl rfl ?_
    refine gx_X0_54_0 F dX0_layReadings_19 ?_
    refine jw_iload_n F 1 dX0_layReadings_22 rfl rfl ?_
    refine jw_aload_n F 0 dX0_layReadings_23 rfl rfl ?_
    refine jw_iload_n F 1 dX0_layReadings_24 rfl rfl ?_
    refine jw_callVip F (wk_X0_bitsOf h) (lw_V q684 q686 qs24 q70 q687) hd_X0_bitsOf ⟨rfl, rfl, Nat.le_of_ble_eq_true rfl, Nat.le_of_ble_eq_true rfl⟩ rfl rfl (xh_0 dA ad _) rfl rfl rfl (Nat.le_of_ble_eq_true rfl) dX0_layReadings_25 (fun r_52 h => ?_)
    obtain ⟨o_54, o_55, h⟩ := h
    refine jw_iast F (xO dA ad) (k := 11) (by decide) (xa_11 dA ad) 0 rfl (by decide) o_54 o_55 dX0_layReadings_28 ?_
    refine jw_iinc F (lv' := [(0, .ref (ad 0)), (1, .int (iI (x1_3 + 1)))]) 1 [1, 0] dX0_layReadings_29 rfl (by decide) rfl ?_
    refine jw_goto F (tgt := 10) dX0_layReadings_32 (by decide) ?_
    exact ih_6 _ _ h
theorem hd_X0_readings : yX0_readings.cls = RX0 ∧ yX0_readings.cls ≠ "java/lang/invoke/MethodHandle" ∧ yX0_readings.cls ≠ "java/lang/invoke/VarHandle" ∧ (parseMethodDescriptor yX0_readings.desc).map (fun d => d.parameters.length) = some 0 := by decide +kernel
set_option maxHeartbeats 4000000 in
set_option maxRecDepth 100000 in
theorem wk_X0_readings {l : Launch} {D : va_G} {dA : Nat → ClassId} {ad : Nat → Nat} {s : Sg} {Q : Int → Sg → Prop} (h : wp_X0_readings s Q) : MXi l D dA (xwf dA ad) yX0_readings cX0_readings 1 .int ({ frames := 4, cells := 0, slots := 0, locals := 89 } : Room) [.ref (ad 0)] s Q := by
  unfold wp_X0_readings at h
  refine jw_start_i (own := RX0) (lv0 := [(0, .ref (ad 0))]) (by decide) rfl (Nat.le_of_ble_eq_true rfl) rfl (fun G F rt => ?_)
  refine jw_aload_n F 0 dX0_readings_0 rfl rfl ?_
  refine jw_callVi F (wk_X0_layReadings h) (lw_V q680 q682 qs23 q70 q683) hd_X0_layReadings ⟨rfl, rfl, Nat.le_of_ble_eq_true rfl, Nat.le_of_ble_eq_true rfl⟩ rfl rfl (xh_0 dA ad _) rfl rfl rfl (Nat.le_of_ble_eq_true rfl) dX0_readings_1 (fun r_1 s_2 hz => ?_)
  have h := hz
  exact rt _ _ _ _ dX0_readings_4 h
theorem hd_X0_sureBy : yX0_sureBy.cls = RX0 ∧ yX0_sureBy.cls ≠ "java/lang/invoke/MethodHandle" ∧ yX0_sureBy.cls ≠ "java/lang/invoke/VarHandle" ∧ (parseMethodDescriptor yX0_sureBy.desc).map (fun d => d.parameters.length) = some 2 := by decide +kernel
set_option maxHeartbeats 4000000 in
set_option maxRecDepth 100000 in
theorem wk_X0_sureBy {l : Launch} {D : va_G} {dA : Nat → ClassId} {ad : Nat → Nat} {s : Sg} {a1 a2 : Int} {Q : Int → Prop} (h : wp_X0_sureBy a1 a2 s Q) : MXi l D dA (xwf dA ad) yX0_sureBy cX0_sureBy 4 .int ({ frames := 1, cells := 0, slots := 0, locals := 22 } : Room) [.ref (ad 0), .int (iI a1), .int (iI a2)] s (fun z s' => s' = s ∧ Q z) := by
  unfold wp_X0_sureBy at h
  refine jw_start_i (own := RX0) (lv0 := [(0, .ref (ad 0)), (1, .int (iI a1)), (2, .int (iI a2))]) (by decide) rfl (Nat.le_of_ble_eq_true rfl) rfl (fun G F rt => ?_)
  refine jw_aload_n F 0 dX0_sureBy_0 rfl rfl ?_
  refine jw_aload_n F 0 dX0_sureBy_1 rfl rfl ?_
  refine gx_X0_23_0 F dX0_sureBy_2 ?_
  refine gx_X0_154_1 F dX0_sureBy_5 ?_
  refine jw_iload_n F 1 dX0_sureBy_8 rfl rfl ?_
  obtain ⟨o_1, o_2, h⟩ := h
  refine jw_iald F (xO dA ad) (k := 19) (by decide) (xa_19 dA ad) 0 rfl (by decide) o_1 o_2 dX0_sureBy_9 ?_
  refine jw_callVip F (wk_X0_doubtOf h) (lw_V q672 q674 qs22 q70 q675) hd_X0_doubtOf ⟨rfl, rfl, Nat.le_of_ble_eq_true rfl, Nat.le_of_ble_eq_true rfl⟩ rfl rfl (xh_0 dA ad _) rfl rfl rfl (Nat.le_of_ble_eq_true rfl) dX0_sureBy_10 (fun r_3 h => ?_)
  refine jw_istore_n F (lv' := [(0, .ref (ad 0)), (1, .int (iI a1)), (2, .int (iI a2)), (3, .int (iI r_3))]) [1, 2, 3, 0] dX0_sureBy_13 rfl (by decide) rfl ?_
  refine jw_iload_n F 3 dX0_sureBy_14 rfl rfl ?_
  refine jw_iconst F dX0_sureBy_15 ?_
  obtain ⟨o_5, h⟩ := h
  refine jw_icmp_eq F o_5 (by decide) (tgt := 28) dX0_sureBy_16 (by decide) (fun c => ?_) (fun c => ?_)
  · have h := h.1 (c)
    refine jw_aload_n F 0 dX0_sureBy_28 rfl rfl ?_
    refine jw_iload_n F 1 dX0_sureBy_29 rfl rfl ?_
    refine jw_callVip F (wk_X0_asWhat h) (lw_V q616 q618 qs16 q70 q619) hd_X0_asWhat ⟨rfl, rfl, Nat.le_of_ble_eq_true rfl, Nat.le_of_ble_eq_true rfl⟩ rfl rfl (xh_0 dA ad _) rfl rfl rfl (Nat.le_of_ble_eq_true rfl) dX0_sureBy_30 (fun r_6 h => ?_)
    refine jw_iconst F dX0_sureBy_33 ?_
    obtain ⟨o_8, h⟩ := h
    refine jw_icmp_ne F o_8 (by decide) (tgt := 41) dX0_sureBy_34 (by decide) (fun c => ?_) (fun c => ?_)
    · have h := h.1 (c)
      refine jw_iconst F dX0_sureBy_41 ?_
      exact rt _ _ _ _ dX0_sureBy_42 ⟨rfl, h⟩
    · have h := h.2 (c)
      refine jw_iload_n F 2 dX0_sureBy_37 rfl rfl ?_
      refine jw_goto F (tgt := 42) dX0_sureBy_38 (by decide) ?_
      exact rt _ _ _ _ dX0_sureBy_42 ⟨rfl, h⟩
  · have h := h.2 (c)
    refine jw_aload_n F 0 dX0_sureBy_19 rfl rfl ?_
    refine gx_X0_57_0 F dX0_sureBy_20 ?_
    refine jw_iload_n F 3 dX0_sureBy_23 rfl rfl ?_
    obtain ⟨o_9, o_10, h⟩ := h
    refine jw_iald F (xO dA ad) (k := 12) (by decide) (xa_12 dA ad) 0 rfl (by decide) o_9 o_10 dX0_sureBy_24 ?_
    refine jw_goto F (tgt := 42) dX0_sureBy_25 (by decide) ?_
    exact rt _ _ _ _ dX0_sureBy_42 ⟨rfl, h⟩
theorem hd_X0_sure : yX0_sure.cls = RX0 ∧ yX0_sure.cls ≠ "java/lang/invoke/MethodHandle" ∧ yX0_sure.cls ≠ "java/lang/invoke/VarHandle" ∧ (parseMethodDescriptor yX0_sure.desc).map (fun d => d.parameters.length) = some 1 := by decide +kernel
set_option maxHeartbeats 4000000 in
set_option maxRecDepth 100000 in
theorem wk_X0_sure {l : Launch} {D : va_G} {dA : Nat → ClassId} {ad : Nat → Nat} {s : Sg} {a1 : Int} {Q : Int → Sg → Prop} (h : wp_X0_sure a1 s Q) : MXi l D dA (xwf dA ad) yX0_sure cX0_sure 2 .int ({ frames := 4, cells := 0, slots := 0, locals := 89 } : Room) [.ref (ad 0), .int (iI a1)] s Q := by
  unfold wp_X0_sure at h
  refine jw_start_i (own := RX0) (lv0 := [(0, .ref (ad 0)), (1, .int (iI a1))]) (by decide) rfl (Nat.le_of_ble_eq_true rfl) rfl (fun G F rt => ?_)
  refine jw_aload_n F 0 dX0_sure_0 rfl rfl ?_
  refine jw_iload_n F 1 dX0_sure_1 rfl rfl ?_
  refine jw_callVzp F (wk_X0_isChord h) (lw_V q600 q602 qs13 q70 q603) hd_X0_isChord ⟨rfl, rfl, Nat.le_of_ble_eq_true rfl, Nat.le_of_ble_eq_true rfl⟩ rfl rfl (xh_0 dA ad _) rfl rfl rfl (Nat.le_of_ble_eq_true rfl) dX0_sure_2 (fun r_1 hb_r_1 h => ?_)
  refine jw_if_eq F (rg01 hb_r_1) (tgt := 20) dX0_sure_5 (by decide) (fun c => ?_) (fun c => ?_)
  · have h := h.1 (c)
    refine jw_bipush F (z := (-101)) dX0_sure_20 (by decide) ?_
    exact rt _ _ _ _ dX0_sure_22 h
  · have h := h.2 (c)
    refine jw_aload_n F 0 dX0_sure_8 rfl rfl ?_
    refine jw_iload_n F 1 dX0_sure_9 rfl rfl ?_
    refine jw_aload_n F 0 dX0_sure_10 rfl rfl ?_
    refine jw_callVi F (wk_X0_layReadings h) (lw_V q680 q682 qs23 q70 q683) hd_X0_layReadings ⟨rfl, rfl, Nat.le_of_ble_eq_true rfl, Nat.le_of_ble_eq_true rfl⟩ rfl rfl (xh_0 dA ad _) rfl rfl rfl (Nat.le_of_ble_eq_true rfl) dX0_sure_11 (fun r_3 s_4 hz => ?_)
    have h := hz
    refine jw_callVip F (wk_X0_sureBy h) (lw_V q709 q711 qs27 q70 q712) hd_X0_sureBy ⟨rfl, rfl, Nat.le_of_ble_eq_true rfl, Nat.le_of_ble_eq_true rfl⟩ rfl rfl (xh_0 dA ad _) rfl rfl rfl (Nat.le_of_ble_eq_true rfl) dX0_sure_14 (fun r_5 h => ?_)
    refine jw_goto F (tgt := 22) dX0_sure_17 (by decide) ?_
    exact rt _ _ _ _ dX0_sure_22 h
theorem hd_X0_surestTold : yX0_surestTold.cls = RX0 ∧ yX0_surestTold.cls ≠ "java/lang/invoke/MethodHandle" ∧ yX0_surestTold.cls ≠ "java/lang/invoke/VarHandle" ∧ (parseMethodDescriptor yX0_surestTold.desc).map (fun d => d.parameters.length) = some 0 := by decide +kernel
set_option maxHeartbeats 4000000 in
set_option maxRecDepth 100000 in
theorem wk_X0_surestTold {l : Launch} {D : va_G} {dA : Nat → ClassId} {ad : Nat → Nat} {s : Sg} {Q : Int → Sg → Prop} (h : wp_X0_surestTold s Q) : MXi l D dA (xwf dA ad) yX0_surestTold cX0_surestTold 4 .int ({ frames := 4, cells := 0, slots := 0, locals := 89 } : Room) [.ref (ad 0)] s Q := by
  unfold wp_X0_surestTold at h
  refine jw_start_i (own := RX0) (lv0 := [(0, .ref (ad 0))]) (by decide) rfl (Nat.le_of_ble_eq_true rfl) rfl (fun G F rt => ?_)
  refine jw_aload_n F 0 dX0_surestTold_0 rfl rfl ?_
  refine jw_callVi F (wk_X0_layReadings h) (lw_V q680 q682 qs23 q70 q683) hd_X0_layReadings ⟨rfl, rfl, Nat.le_of_ble_eq_true rfl, Nat.le_of_ble_eq_true rfl⟩ rfl rfl (xh_0 dA ad _) rfl rfl rfl (Nat.le_of_ble_eq_true rfl) dX0_surestTold_1 (fun r_1 s_2 hz => ?_)
  have h := hz
  refine jw_istore_n F (lv' := [(0, .ref (ad 0)), (1, .int (iI r_1))]) [1, 0] dX0_surestTold_4 rfl (by decide) rfl ?_
  refine jw_iconst F dX0_surestTold_5 ?_
  refine jw_istore_n F (lv' := [(0, .ref (ad 0)), (1, .int (iI r_1)), (2, .int (iI 0))]) [1, 2, 0] dX0_surestTold_6 rfl (by decide) rfl ?_
  refine jw_iconst F dX0_surestTold_7 ?_
  refine jw_istore_n F (lv' := [(0, .ref (ad 0)), (1, .int (iI r_1)), (2, .int (iI 0)), (3, .int (iI 1))]) [1, 2, 3, 0] dX0_surestTold_8 rfl (by decide) rfl ?_
  refine lp2_r (fun x2_3 x3_4 => G s_2 9 [(0, .ref (ad 0)), (1, .int (iI r_1)), (2, .int (iI x2_3)), (3, .int (iI x3_4))] []) h (fun x2_3 x3_4 K_5 h ih_6 => ?_)
  refine jw_iload_n F 3 dX0_surestTold_9 rfl rfl ?_
  refine jw_aload_n F 0 dX0_surestTold_10 rfl rfl ?_
  refine gx_X0_23_0 F dX0_surestTold_11 ?_
  refine gx_X0_151_1 F dX0_surestTold_14 ?_
  obtain ⟨o_7, h⟩ := h
  obtain ⟨o_8, h⟩ := h
  refine jw_icmp_ge F o_7 o_8 (tgt := 47) dX0_surestTold_17 (by decide) (fun c => ?_) (fun c => ?_)
  · have h := h.1 (c)
    refine jw_iload_n F 1 dX0_surestTold_47 rfl rfl ?_
    obtain ⟨o_9, h⟩ := h
    refine jw_if_ne F o_9 (tgt := 55) dX0_surestTold_48 (by decide) (fun c => ?_) (fun c => ?_)
    · have h := h.1 (c)
      refine jw_iload_n F 2 dX0_surestTold_55 rfl rfl ?_
      exact rt _ _ _ _ dX0_surestTold_56 h
    · have h := h.2 (c)
      refine jw_iconst F dX0_surestTold_51 ?_
      refine jw_goto F (tgt := 56) dX0_surestTold_52 (by decide) ?_
      exact rt _ _ _ _ dX0_surestTold_56 h
  · have h := h.2 (c)
    refine jw_aload_n F 0 dX0_surestTold_20 rfl rfl ?_
    refine jw_iload_n F 3 dX0_surestTold_21 rfl rfl ?_
    refine jw_iload_n F 1 dX0_surestTold_22 rfl rfl ?_
    refine jw_callVip F (wk_X0_sureBy h) (lw_V q709 q711 qs27 q70 q712) hd_X0_sureBy ⟨rfl, rfl, Nat.le_of_ble_eq_true rfl, Nat.le_of_ble_eq_true rfl⟩ rfl rfl (xh_0 dA ad _) rfl rfl rfl (Nat.le_of_ble_eq_true rfl) dX0_surestTold_23 (fun r_10 h => ?_)
    refine jw_aload_n F 0 dX0_surestTold_26 rfl rfl ?_
    refine jw_iload_n F 2 dX0_surestTold_27 rfl rfl ?_
    refine jw_iload_n F 1 dX0_surestTold_28 rfl rfl ?_
    refine jw_callVip F (wk_X0_sureBy h) (lw_V q709 q711 qs27 q70 q712) hd_X0_sureBy ⟨rfl, rfl, Nat.le_of_ble_eq_true rfl, Nat.le_of_ble_eq_true rfl⟩ rfl rfl (xh_0 dA ad _) rfl rfl rfl (Nat.le_of_ble_eq_true rfl) dX0_surestTold_29 (fun r_12 h => ?_)
    obtain ⟨o_14, h⟩ := h
    obtain ⟨o_15, h⟩ := h
    refine jn1_r (fun v_16 => G s_2 40 [(0, .ref (ad 0)), (1, .int (iI r_1)), (3, .int (iI x3_4))] [.int (iI v_16)]) h (fun v_16 h => ?_) (fun K_17 h j_18 => ?_)
    · refine jw_istore_n F (lv' := [(0, .ref (ad 0)), (1, .int (iI r_1)), (2, .int (iI v_16)), (3, .int (iI x3_4))]) [1, 2, 0, 3] dX0_surestTold_40 rfl (by decide) rfl ?_
      refine jw_iinc F (lv' := [(0, .ref (ad 0)), (1, .int (iI r_1)), (2, .int (iI v_16)), (3, .int (iI (x3_4 + 1)))]) 3 [1, 2, 3, 0] dX0_surestTold_41 rfl (by decide) rfl ?_
      refine jw_goto F (tgt := 9) dX0_surestTold_44 (by decide) ?_
      exact ih_6 _ _ h
    · refine jw_icmp_le F o_14 o_15 (tgt := 39) dX0_surestTold_32 (by decide) (fun c => ?_) (fun c => ?_)
      · have h := h.1 (c)
        refine jw_iload_n F 2 dX0_surestTold_39 rfl rfl ?_
        refine jw_sub F (lv' := [(0, .ref (ad 0)), (1, .int (iI r_1)), (3, .int (iI x3_4))]) [0, 1, 3] rfl ?_
        exact j_18 _ h
      · have h := h.2 (c)
        refine jw_iload_n F 3 dX0_surestTold_35 rfl rfl ?_
        refine jw_goto F (tgt := 40) dX0_surestTold_36 (by decide) ?_
        refine jw_sub F (lv' := [(0, .ref (ad 0)), (1, .int (iI r_1)), (3, .int (iI x3_4))]) [0, 1, 3] rfl ?_
        exact j_18 _ h
theorem hd_X0_surest : yX0_surest.cls = RX0 ∧ yX0_surest.cls ≠ "java/lang/invoke/MethodHandle" ∧ yX0_surest.cls ≠ "java/lang/invoke/VarHandle" ∧ (parseMethodDescriptor yX0_surest.desc).map (fun d => d.parameters.length) = some 0 := by decide +kernel
set_option maxHeartbeats 4000000 in
set_option maxRecDepth 100000 in
theorem wk_X0_surest {l : Launch} {D : va_G} {dA : Nat → ClassId} {ad : Nat → Nat} {s : Sg} {Q : Int → Sg → Prop} (h : wp_X0_surest s Q) : MXi l D dA (xwf dA ad) yX0_surest cX0_surest 1 .int ({ frames := 5, cells := 0, slots := 0, locals := 112 } : Room) [.ref (ad 0)] s Q := by
  unfold wp_X0_surest at h
  refine jw_start_i (own := RX0) (lv0 := [(0, .ref (ad 0))]) (by decide) rfl (Nat.le_of_ble_eq_true rfl) rfl (fun G F rt => ?_)
  refine jw_aload_n F 0 dX0_surest_0 rfl rfl ?_
  refine jw_callVi F (wk_X0_surestTold h) (lw_V q717 q719 qs28 q70 q720) hd_X0_surestTold ⟨rfl, rfl, Nat.le_of_ble_eq_true rfl, Nat.le_of_ble_eq_true rfl⟩ rfl rfl (xh_0 dA ad _) rfl rfl rfl (Nat.le_of_ble_eq_true rfl) dX0_surest_1 (fun r_1 s_2 hz => ?_)
  have h := hz
  exact rt _ _ _ _ dX0_surest_4 h
theorem hd_X0_mayAsk : yX0_mayAsk.cls = RX0 ∧ yX0_mayAsk.cls ≠ "java/lang/invoke/MethodHandle" ∧ yX0_mayAsk.cls ≠ "java/lang/invoke/VarHandle" ∧ (parseMethodDescriptor yX0_mayAsk.desc).map (fun d => d.parameters.length) = some 0 := by decide +kernel
set_option maxHeartbeats 4000000 in
set_option maxRecDepth 100000 in
theorem wk_X0_mayAsk {l : Launch} {D : va_G} {dA : Nat → ClassId} {ad : Nat → Nat} {s : Sg} {Q : Int → Prop} (h : wp_X0_mayAsk s Q) : MXi l D dA (xwf dA ad) yX0_mayAsk cX0_mayAsk 1 .boolean ({ frames := 0, cells := 0, slots := 0, locals := 0 } : Room) [.ref (ad 0)] s (fun z s' => (z = 0 ∨ z = 1) ∧ s' = s ∧ Q z) := by
  unfold wp_X0_mayAsk at h
  refine jw_start_z (own := RX0) (lv0 := [(0, .ref (ad 0))]) (by decide) rfl (Nat.le_of_ble_eq_true rfl) rfl (fun G F rt => ?_)
  refine jw_aload_n F 0 dX0_mayAsk_0 rfl rfl ?_
  refine gx_X0_23_0 F dX0_mayAsk_1 ?_
  refine gx_X0_118_1 F dX0_mayAsk_4 ?_
  refine jw_bipush F (z := 10) dX0_mayAsk_7 (by decide) ?_
  obtain ⟨o_1, h⟩ := h
  refine jw_icmp_gt F o_1 (by decide) (tgt := 25) dX0_mayAsk_9 (by decide) (fun c => ?_) (fun c => ?_)
  · have h := h.1 (c)
    refine jw_iconst F dX0_mayAsk_25 ?_
    exact rt _ _ _ _ dX0_mayAsk_26 (by decide) ⟨(by decide), rfl, h⟩
  · have h := h.2 (c)
    refine jw_aload_n F 0 dX0_mayAsk_12 rfl rfl ?_
    refine gx_X0_254_0 F dX0_mayAsk_13 ?_
    refine jw_bipush F (z := 30) dX0_mayAsk_16 (by decide) ?_
    obtain ⟨o_2, h⟩ := h
    refine jw_icmp_ge F o_2 (by decide) (tgt := 25) dX0_mayAsk_18 (by decide) (fun c => ?_) (fun c => ?_)
    · have h := h.1 (c)
      refine jw_iconst F dX0_mayAsk_25 ?_
      exact rt _ _ _ _ dX0_mayAsk_26 (by decide) ⟨(by decide), rfl, h⟩
    · have h := h.2 (c)
      refine jw_iconst F dX0_mayAsk_21 ?_
      refine jw_goto F (tgt := 26) dX0_mayAsk_22 (by decide) ?_
      exact rt _ _ _ _ dX0_mayAsk_26 (by decide) ⟨(by decide), rfl, h⟩
theorem hd_X0_heardSorts : yX0_heardSorts.cls = RX0 ∧ yX0_heardSorts.cls ≠ "java/lang/invoke/MethodHandle" ∧ yX0_heardSorts.cls ≠ "java/lang/invoke/VarHandle" ∧ (parseMethodDescriptor yX0_heardSorts.desc).map (fun d => d.parameters.length) = some 0 := by decide +kernel
set_option maxHeartbeats 4000000 in
set_option maxRecDepth 100000 in
theorem wk_X0_heardSorts {l : Launch} {D : va_G} {dA : Nat → ClassId} {ad : Nat → Nat} {s : Sg} {Q : Int → Prop} (h : wp_X0_heardSorts s Q) : MXi l D dA (xwf dA ad) yX0_heardSorts cX0_heardSorts 3 .int ({ frames := 2, cells := 0, slots := 0, locals := 43 } : Room) [.ref (ad 0)] s (fun z s' => s' = s ∧ Q z) := by
  unfold wp_X0_heardSorts at h
  refine jw_start_i (own := RX0) (lv0 := [(0, .ref (ad 0))]) (by decide) rfl (Nat.le_of_ble_eq_true rfl) rfl (fun G F rt => ?_)
  refine jw_iconst F dX0_heardSorts_0 ?_
  refine jw_istore_n F (lv' := [(0, .ref (ad 0)), (1, .int (iI 0))]) [1, 0] dX0_heardSorts_1 rfl (by decide) rfl ?_
  refine jw_iconst F dX0_heardSorts_2 ?_
  refine jw_istore_n F (lv' := [(0, .ref (ad 0)), (1, .int (iI 0)), (2, .int (iI 0))]) [1, 2, 0] dX0_heardSorts_3 rfl (by decide) rfl ?_
  refine lp2_r (fun x1_1 x2_2 => G s 4 [(0, .ref (ad 0)), (1, .int (iI x1_1)), (2, .int (iI x2_2))] []) h (fun x1_1 x2_2 K_3 h ih_4 => ?_)
  refine jw_iload_n F 2 dX0_heardSorts_4 rfl rfl ?_
  refine jw_aload_n F 0 dX0_heardSorts_5 rfl rfl ?_
  refine gx_X0_23_0 F dX0_heardSorts_6 ?_
  refine gx_X0_118_1 F dX0_heardSorts_9 ?_
  obtain ⟨o_5, h⟩ := h
  obtain ⟨o_6, h⟩ := h
  refine jw_icmp_ge F o_5 o_6 (tgt := 39) dX0_heardSorts_12 (by decide) (fun c => ?_) (fun c => ?_)
  · have h := h.1 (c)
    refine jw_iload_n F 1 dX0_heardSorts_39 rfl rfl ?_
    exact rt _ _ _ _ dX0_heardSorts_40 ⟨rfl, h⟩
  · have h := h.2 (c)
    refine jw_iload_n F 1 dX0_heardSorts_15 rfl rfl ?_
    refine jw_aload_n F 0 dX0_heardSorts_16 rfl rfl ?_
    refine jw_iload_n F 2 dX0_heardSorts_17 rfl rfl ?_
    refine jw_callVzp F (wk_X0_isLeft h) (lw_V q612 q614 qs15 q70 q615) hd_X0_isLeft ⟨rfl, rfl, Nat.le_of_ble_eq_true rfl, Nat.le_of_ble_eq_true rfl⟩ rfl rfl (xh_0 dA ad _) rfl rfl rfl (Nat.le_of_ble_eq_true rfl) dX0_heardSorts_18 (fun r_7 hb_r_7 h => ?_)
    refine jn1_r (fun v_9 => G s 31 [(0, .ref (ad 0)), (2, .int (iI x2_2))] [.int (iI v_9), .int (iI x1_1)]) h (fun v_9 h => ?_) (fun K_10 h j_11 => ?_)
    · obtain ⟨o_12, h⟩ := h
      obtain ⟨o_13, h⟩ := h
      refine jw_ior F o_12 o_13 dX0_heardSorts_31 ?_
      refine jw_istore_n F (lv' := [(0, .ref (ad 0)), (1, .int (iI (bor x1_1 v_9))), (2, .int (iI x2_2))]) [1, 0, 2] dX0_heardSorts_32 rfl (by decide) rfl ?_
      refine jw_iinc F (lv' := [(0, .ref (ad 0)), (1, .int (iI (bor x1_1 v_9))), (2, .int (iI (x2_2 + 1)))]) 2 [1, 2, 0] dX0_heardSorts_33 rfl (by decide) rfl ?_
      refine jw_goto F (tgt := 4) dX0_heardSorts_36 (by decide) ?_
      exact ih_4 _ _ h
    · refine jw_if_eq F (rg01 hb_r_7) (tgt := 28) dX0_heardSorts_21 (by decide) (fun c => ?_) (fun c => ?_)
      · have h := h.1 (c)
        refine jw_iconst F dX0_heardSorts_28 ?_
        refine jw_iload_n F 2 dX0_heardSorts_29 rfl rfl ?_
        obtain ⟨o_14, o_15, h⟩ := h
        refine jw_ishl F o_14 o_15 dX0_heardSorts_30 ?_
        refine jw_sub F (lv' := [(0, .ref (ad 0)), (2, .int (iI x2_2))]) [0, 2] rfl ?_
        exact j_11 _ h
      · have h := h.2 (c)
        refine jw_iconst F dX0_heardSorts_24 ?_
        refine jw_goto F (tgt := 31) dX0_heardSorts_25 (by decide) ?_
        refine jw_sub F (lv' := [(0, .ref (ad 0)), (2, .int (iI x2_2))]) [0, 2] rfl ?_
        exact j_11 _ h
theorem hd_X1_common : yX1_common.cls = RX1 ∧ yX1_common.cls ≠ "java/lang/invoke/MethodHandle" ∧ yX1_common.cls ≠ "java/lang/invoke/VarHandle" ∧ (parseMethodDescriptor yX1_common.desc).map (fun d => d.parameters.length) = some 2 := by decide +kernel
set_option maxHeartbeats 4000000 in
set_option maxRecDepth 100000 in
theorem wk_X1_common_1 {l : Launch} {D : va_G} {dA : Nat → ClassId} {ad : Nat → Nat} {s : Sg} {a1 a2 : Int} {Q : Int → Prop} (h : wp_X1_common 1 36 19 20 21 a1 a2 s Q) : MXi l D dA (xwf dA ad) yX1_common cX1_common 5 .int ({ frames := 1, cells := 0, slots := 0, locals := 22 } : Room) [.ref (ad 1), .int (iI a1), .int (iI a2)] s (fun z s' => s' = s ∧ Q z) := by
  unfold wp_X1_common at h
  refine jw_start_i (own := RX1) (lv0 := [(0, .ref (ad 1)), (1, .int (iI a1)), (2, .int (iI a2))]) (by decide) rfl (Nat.le_of_ble_eq_true rfl) rfl (fun G F rt => ?_)
  refine jw_iconst F dX1_common_0 ?_
  refine jw_istore_n F (lv' := [(0, .ref (ad 1)), (1, .int (iI a1)), (2, .int (iI a2)), (3, .int (iI 0))]) [1, 2, 3, 0] dX1_common_1 rfl (by decide) rfl ?_
  refine jw_iconst F dX1_common_2 ?_
  refine jw_istore F (lv' := [(0, .ref (ad 1)), (1, .int (iI a1)), (2, .int (iI a2)), (3, .int (iI 0)), (4, .int (iI 0))]) [1, 2, 3, 4, 0] dX1_common_3 (by decide) rfl ?_
  refine lp2_r (fun x3_1 x4_2 => G s 5 [(0, .ref (ad 1)), (1, .int (iI a1)), (2, .int (iI a2)), (3, .int (iI x3_1)), (4, .int (iI x4_2))] []) h (fun x3_1 x4_2 K_3 h ih_4 => ?_)
  refine jw_iload F 4 dX1_common_5 rfl ?_
  refine jw_iconst F dX1_common_7 ?_
  obtain ⟨o_5, h⟩ := h
  refine jw_icmp_ge F o_5 (by decide) (tgt := 42) dX1_common_8 (by decide) (fun c => ?_) (fun c => ?_)
  · have h := h.1 (c)
    refine jw_iload_n F 3 dX1_common_42 rfl rfl ?_
    exact rt _ _ _ _ dX1_common_43 ⟨rfl, h⟩
  · have h := h.2 (c)
    refine jw_iload_n F 3 dX1_common_11 rfl rfl ?_
    refine jw_aload_n F 0 dX1_common_12 rfl rfl ?_
    refine jw_iload_n F 2 dX1_common_13 rfl rfl ?_
    refine jw_aload_n F 0 dX1_common_14 rfl rfl ?_
    refine gx_X1_11_1 F dX1_common_15 ?_
    refine jw_iload_n F 1 dX1_common_18 rfl rfl ?_
    obtain ⟨o_6, o_7, h⟩ := h
    refine jw_aald F (xO dA ad) (k := 18) (by decide) (xa_18 dA ad) 3 rfl rfl (by decide) o_6 o_7 dX1_common_19 ?_
    refine jw_iload F 4 dX1_common_20 rfl ?_
    obtain ⟨o_8, o_9, h⟩ := h
    refine jw_iald F (xO dA ad) (k := (36 + (a1 : Int).toNat)) (by omega) (xr_3 dA ad (by omega) (by omega)) 0 rfl (by decide) o_8 o_9 dX1_common_22 ?_
    refine jw_callVzp F (wk_X1_has_1 h) (lw_V q217 q219 qs2 q74 q220) hd_X1_has ⟨rfl, rfl, Nat.le_of_ble_eq_true rfl, Nat.le_of_ble_eq_true rfl⟩ rfl rfl (xh_1 dA ad _) rfl rfl rfl (Nat.le_of_ble_eq_true rfl) dX1_common_23 (fun r_10 hb_r_10 h => ?_)
    refine jn1_r (fun v_12 => G s 34 [(0, .ref (ad 1)), (1, .int (iI a1)), (2, .int (iI a2)), (4, .int (iI x4_2))] [.int (iI v_12), .int (iI x3_1)]) h (fun v_12 h => ?_) (fun K_13 h j_14 => ?_)
    · refine jw_iadd F dX1_common_34 ?_
      refine jw_istore_n F (lv' := [(0, .ref (ad 1)), (1, .int (iI a1)), (2, .int (iI a2)), (3, .int (iI (x3_1 + v_12))), (4, .int (iI x4_2))]) [1, 2, 3, 0, 4] dX1_common_35 rfl (by decide) rfl ?_
      refine jw_iinc F (lv' := [(0, .ref (ad 1)), (1, .int (iI a1)), (2, .int (iI a2)), (3, .int (iI (x3_1 + v_12))), (4, .int (iI (x4_2 + 1)))]) 4 [1, 2, 3, 4, 0] dX1_common_36 rfl (by decide) rfl ?_
      refine jw_goto F (tgt := 5) dX1_common_39 (by decide) ?_
      exact ih_4 _ _ h
    · refine jw_if_eq F (rg01 hb_r_10) (tgt := 33) dX1_common_26 (by decide) (fun c => ?_) (fun c => ?_)
      · have h := h.1 (c)
        refine jw_iconst F dX1_common_33 ?_
        refine jw_sub F (lv' := [(0, .ref (ad 1)), (1, .int (iI a1)), (2, .int (iI a2)), (4, .int (iI x4_2))]) [0, 1, 2, 4] rfl ?_
        exact j_14 _ h
      · have h := h.2 (c)
        refine jw_iconst F dX1_common_29 ?_
        refine jw_goto F (tgt := 34) dX1_common_30 (by decide) ?_
        refine jw_sub F (lv' := [(0, .ref (ad 1)), (1, .int (iI a1)), (2, .int (iI a2)), (4, .int (iI x4_2))]) [0, 1, 2, 4] rfl ?_
        exact j_14 _ h
set_option maxHeartbeats 4000000 in
set_option maxRecDepth 100000 in
theorem wk_X1_common_2 {l : Launch} {D : va_G} {dA : Nat → ClassId} {ad : Nat → Nat} {s : Sg} {a1 a2 : Int} {Q : Int → Prop} (h : wp_X1_common 2 156 23 24 25 a1 a2 s Q) : MXi l D dA (xwf dA ad) yX1_common cX1_common 5 .int ({ frames := 1, cells := 0, slots := 0, locals := 22 } : Room) [.ref (ad 2), .int (iI a1), .int (iI a2)] s (fun z s' => s' = s ∧ Q z) := by
  unfold wp_X1_common at h
  refine jw_start_i (own := RX1) (lv0 := [(0, .ref (ad 2)), (1, .int (iI a1)), (2, .int (iI a2))]) (by decide) rfl (Nat.le_of_ble_eq_true rfl) rfl (fun G F rt => ?_)
  refine jw_iconst F dX1_common_0 ?_
  refine jw_istore_n F (lv' := [(0, .ref (ad 2)), (1, .int (iI a1)), (2, .int (iI a2)), (3, .int (iI 0))]) [1, 2, 3, 0] dX1_common_1 rfl (by decide) rfl ?_
  refine jw_iconst F dX1_common_2 ?_
  refine jw_istore F (lv' := [(0, .ref (ad 2)), (1, .int (iI a1)), (2, .int (iI a2)), (3, .int (iI 0)), (4, .int (iI 0))]) [1, 2, 3, 4, 0] dX1_common_3 (by decide) rfl ?_
  refine lp2_r (fun x3_1 x4_2 => G s 5 [(0, .ref (ad 2)), (1, .int (iI a1)), (2, .int (iI a2)), (3, .int (iI x3_1)), (4, .int (iI x4_2))] []) h (fun x3_1 x4_2 K_3 h ih_4 => ?_)
  refine jw_iload F 4 dX1_common_5 rfl ?_
  refine jw_iconst F dX1_common_7 ?_
  obtain ⟨o_5, h⟩ := h
  refine jw_icmp_ge F o_5 (by decide) (tgt := 42) dX1_common_8 (by decide) (fun c => ?_) (fun c => ?_)
  · have h := h.1 (c)
    refine jw_iload_n F 3 dX1_common_42 rfl rfl ?_
    exact rt _ _ _ _ dX1_common_43 ⟨rfl, h⟩
  · have h := h.2 (c)
    refine jw_iload_n F 3 dX1_common_11 rfl rfl ?_
    refine jw_aload_n F 0 dX1_common_12 rfl rfl ?_
    refine jw_iload_n F 2 dX1_common_13 rfl rfl ?_
    refine jw_aload_n F 0 dX1_common_14 rfl rfl ?_
    refine gx_X1_11_2 F dX1_common_15 ?_
    refine jw_iload_n F 1 dX1_common_18 rfl rfl ?_
    obtain ⟨o_6, o_7, h⟩ := h
    refine jw_aald F (xO dA ad) (k := 22) (by decide) (xa_22 dA ad) 3 rfl rfl (by decide) o_6 o_7 dX1_common_19 ?_
    refine jw_iload F 4 dX1_common_20 rfl ?_
    obtain ⟨o_8, o_9, h⟩ := h
    refine jw_iald F (xO dA ad) (k := (156 + (a1 : Int).toNat)) (by omega) (xr_3 dA ad (by omega) (by omega)) 0 rfl (by decide) o_8 o_9 dX1_common_22 ?_
    refine jw_callVzp F (wk_X1_has_2 h) (lw_V q217 q219 qs2 q74 q220) hd_X1_has ⟨rfl, rfl, Nat.le_of_ble_eq_true rfl, Nat.le_of_ble_eq_true rfl⟩ rfl rfl (xh_2 dA ad _) rfl rfl rfl (Nat.le_of_ble_eq_true rfl) dX1_common_23 (fun r_10 hb_r_10 h => ?_)
    refine jn1_r (fun v_12 => G s 34 [(0, .ref (ad 2)), (1, .int (iI a1)), (2, .int (iI a2)), (4, .int (iI x4_2))] [.int (iI v_12), .int (iI x3_1)]) h (fun v_12 h => ?_) (fun K_13 h j_14 => ?_)
    · refine jw_iadd F dX1_common_34 ?_
      refine jw_istore_n F (lv' := [(0, .ref (ad 2)), (1, .int (iI a1)), (2, .int (iI a2)), (3, .int (iI (x3_1 + v_12))), (4, .int (iI x4_2))]) [1, 2, 3, 0, 4] dX1_common_35 rfl (by decide) rfl ?_
      refine jw_iinc F (lv' := [(0, .ref (ad 2)), (1, .int (iI a1)), (2, .int (iI a2)), (3, .int (iI (x3_1 + v_12))), (4, .int (iI (x4_2 + 1)))]) 4 [1, 2, 3, 4, 0] dX1_common_36 rfl (by decide) rfl ?_
      refine jw_goto F (tgt := 5) dX1_common_39 (by decide) ?_
      exact ih_4 _ _ h
    · refine jw_if_eq F (rg01 hb_r_10) (tgt := 33) dX1_common_26 (by decide) (fun c => ?_) (fun c => ?_)
      · have h := h.1 (c)
        refine jw_iconst F dX1_common_33 ?_
        refine jw_sub F (lv' := [(0, .ref (ad 2)), (1, .int (iI a1)), (2, .int (iI a2)), (4, .int (iI x4_2))]) [0, 1, 2, 4] rfl ?_
        exact j_14 _ h
      · have h := h.2 (c)
        refine jw_iconst F dX1_common_29 ?_
        refine jw_goto F (tgt := 34) dX1_common_30 (by decide) ?_
        refine jw_sub F (lv' := [(0, .ref (ad 2)), (1, .int (iI a1)), (2, .int (iI a2)), (4, .int (iI x4_2))]) [0, 1, 2, 4] rfl ?_
        exact j_14 _ h
theorem hd_X0_comesBehind : yX0_comesBehind.cls = RX0 ∧ yX0_comesBehind.cls ≠ "java/lang/invoke/MethodHandle" ∧ yX0_comesBehind.cls ≠ "java/lang/invoke/VarHandle" ∧ (parseMethodDescriptor yX0_comesBehind.desc).map (fun d => d.parameters.length) = some 2 := by decide +kernel
set_option maxHeartbeats 4000000 in
set_option maxRecDepth 100000 in
theorem wk_X0_comesBehind {l : Launch} {D : va_G} {dA : Nat → ClassId} {ad : Nat → Nat} {s : Sg} {a1 a2 : Int} {Q : Int → Prop} (h : wp_X0_comesBehind a1 a2 s Q) : MXi l D dA (xwf dA ad) yX0_comesBehind cX0_comesBehind 4 .boolean ({ frames := 2, cells := 0, slots := 0, locals := 46 } : Room) [.ref (ad 0), .int (iI a1), .int (iI a2)] s (fun z s' => (z = 0 ∨ z = 1) ∧ s' = s ∧ Q z) := by
  unfold wp_X0_comesBehind at h
  refine jw_start_z (own := RX0) (lv0 := [(0, .ref (ad 0)), (1, .int (iI a1)), (2, .int (iI a2))]) (by decide) rfl (Nat.le_of_ble_eq_true rfl) rfl (fun G F rt => ?_)
  refine jw_iconst F dX0_comesBehind_0 ?_
  refine jw_istore_n F (lv' := [(0, .ref (ad 0)), (1, .int (iI a1)), (2, .int (iI a2)), (3, .int (iI 0))]) [1, 2, 3, 0] dX0_comesBehind_1 rfl (by decide) rfl ?_
  refine lp1_r (fun x3_1 => G s 2 [(0, .ref (ad 0)), (1, .int (iI a1)), (2, .int (iI a2)), (3, .int (iI x3_1))] []) h (fun x3_1 K_2 h ih_3 => ?_)
  refine jw_iload_n F 3 dX0_comesBehind_2 rfl rfl ?_
  refine jw_aload_n F 0 dX0_comesBehind_3 rfl rfl ?_
  refine gx_X0_23_0 F dX0_comesBehind_4 ?_
  refine gx_X0_151_1 F dX0_comesBehind_7 ?_
  obtain ⟨o_4, h⟩ := h
  obtain ⟨o_5, h⟩ := h
  refine jw_icmp_ge F o_4 o_5 (tgt := 45) dX0_comesBehind_10 (by decide) (fun c => ?_) (fun c => ?_)
  · have h := h.1 (c)
    refine jw_iconst F dX0_comesBehind_45 ?_
    exact rt _ _ _ _ dX0_comesBehind_46 (by decide) ⟨(by decide), rfl, h⟩
  · have h := h.2 (c)
    refine jw_aload_n F 0 dX0_comesBehind_13 rfl rfl ?_
    refine gx_X0_62_0 F dX0_comesBehind_14 ?_
    refine jw_iload_n F 1 dX0_comesBehind_17 rfl rfl ?_
    obtain ⟨o_6, o_7, h⟩ := h
    refine jw_aald F (xO dA ad) (k := 13) (by decide) (xa_13 dA ad) 4 rfl rfl (by decide) o_6 o_7 dX0_comesBehind_18 ?_
    refine jw_iload_n F 3 dX0_comesBehind_19 rfl rfl ?_
    obtain ⟨o_8, o_9, h⟩ := h
    refine jw_zald F (xO dA ad) (k := (276 + (a1 : Int).toNat)) (by omega) (xr_84 dA ad (by omega)) 2 rfl (by decide) o_8 o_9 dX0_comesBehind_20 ?_
    obtain ⟨o_10, h⟩ := h
    refine jn0_r (G s 39 [(0, .ref (ad 0)), (1, .int (iI a1)), (2, .int (iI a2)), (3, .int (iI x3_1))] []) h (fun h => ?_) (fun K_11 h j_12 => ?_)
    · refine jw_iinc F (lv' := [(0, .ref (ad 0)), (1, .int (iI a1)), (2, .int (iI a2)), (3, .int (iI (x3_1 + 1)))]) 3 [1, 2, 3, 0] dX0_comesBehind_39 rfl (by decide) rfl ?_
      refine jw_goto F (tgt := 2) dX0_comesBehind_42 (by decide) ?_
      exact ih_3 _ h
    · refine jw_if_eq F o_10 (tgt := 39) dX0_comesBehind_21 (by decide) (fun c => ?_) (fun c => ?_)
      · have h := h.1 (c)
        exact j_12 h
      · have h := h.2 (c)
        refine jw_aload_n F 0 dX0_comesBehind_24 rfl rfl ?_
        refine gx_X0_23_0 F dX0_comesBehind_25 ?_
        refine jw_iload_n F 3 dX0_comesBehind_28 rfl rfl ?_
        refine jw_iload_n F 2 dX0_comesBehind_29 rfl rfl ?_
        refine jw_callVip F (wk_X1_common_1 h) (lw_V q741 q742 q743 q74 q744) hd_X1_common ⟨rfl, rfl, Nat.le_of_ble_eq_true rfl, Nat.le_of_ble_eq_true rfl⟩ rfl rfl (xh_1 dA ad _) rfl rfl rfl (Nat.le_of_ble_eq_true rfl) dX0_comesBehind_30 (fun r_13 h => ?_)
        refine jw_iconst F dX0_comesBehind_33 ?_
        obtain ⟨o_15, h⟩ := h
        refine jw_icmp_ne F o_15 (by decide) (tgt := 39) dX0_comesBehind_34 (by decide) (fun c => ?_) (fun c => ?_)
        · have h := h.1 (c)
          exact j_12 h
        · have h := h.2 (c)
          refine jw_iconst F dX0_comesBehind_37 ?_
          exact rt _ _ _ _ dX0_comesBehind_38 (by decide) ⟨(by decide), rfl, h⟩
theorem hd_X0_longestOf : yX0_longestOf.cls = RX0 ∧ yX0_longestOf.cls ≠ "java/lang/invoke/MethodHandle" ∧ yX0_longestOf.cls ≠ "java/lang/invoke/VarHandle" ∧ (parseMethodDescriptor yX0_longestOf.desc).map (fun d => d.parameters.length) = some 0 := by decide +kernel
set_option maxHeartbeats 4000000 in
set_option maxRecDepth 100000 in
theorem wk_X0_longestOf {l : Launch} {D : va_G} {dA : Nat → ClassId} {ad : Nat → Nat} {s : Sg} {Q : Int → Sg → Prop} (h : wp_X0_longestOf s Q) : MXi l D dA (xwf dA ad) yX0_longestOf cX0_longestOf 7 .int ({ frames := 3, cells := 0, slots := 0, locals := 69 } : Room) [.ref (ad 0)] s Q := by
  unfold wp_X0_longestOf at h
  refine jw_start_i (own := RX0) (lv0 := [(0, .ref (ad 0))]) (by decide) rfl (Nat.le_of_ble_eq_true rfl) rfl (fun G F rt => ?_)
  refine jw_aload_n F 0 dX0_longestOf_0 rfl rfl ?_
  refine jw_callVip F (wk_X0_heardSorts h) (lw_V q733 q735 qs31 q70 q736) hd_X0_heardSorts ⟨rfl, rfl, Nat.le_of_ble_eq_true rfl, Nat.le_of_ble_eq_true rfl⟩ rfl rfl (xh_0 dA ad _) rfl rfl rfl (Nat.le_of_ble_eq_true rfl) dX0_longestOf_1 (fun r_1 h => ?_)
  refine jw_istore_n F (lv' := [(0, .ref (ad 0)), (1, .int (iI r_1))]) [1, 0] dX0_longestOf_4 rfl (by decide) rfl ?_
  refine jw_iconst F dX0_longestOf_5 ?_
  refine jw_istore_n F (lv' := [(0, .ref (ad 0)), (1, .int (iI r_1)), (2, .int (iI 0))]) [1, 2, 0] dX0_longestOf_6 rfl (by decide) rfl ?_
  refine jw_iconst F dX0_longestOf_7 ?_
  refine jw_istore_n F (lv' := [(0, .ref (ad 0)), (1, .int (iI r_1)), (2, .int (iI 0)), (3, .int (iI 0))]) [1, 2, 3, 0] dX0_longestOf_8 rfl (by decide) rfl ?_
  refine lp3_r (fun x2_3 x3_4 s_5 => G s_5 9 [(0, .ref (ad 0)), (1, .int (iI r_1)), (2, .int (iI x2_3)), (3, .int (iI x3_4))] []) h (fun x2_3 x3_4 s_5 K_6 h ih_7 => ?_)
  refine jw_iload_n F 3 dX0_longestOf_9 rfl rfl ?_
  refine jw_iconst F dX0_longestOf_10 ?_
  refine jw_aload_n F 0 dX0_longestOf_11 rfl rfl ?_
  refine gx_X0_23_0 F dX0_longestOf_12 ?_
  refine gx_X0_118_1 F dX0_longestOf_15 ?_
  obtain ⟨o_8, o_9, h⟩ := h
  refine jw_ishl F o_8 o_9 dX0_longestOf_18 ?_
  obtain ⟨o_10, h⟩ := h
  obtain ⟨o_11, h⟩ := h
  refine jw_icmp_ge F o_10 o_11 (tgt := 155) dX0_longestOf_19 (by decide) (fun c => ?_) (fun c => ?_)
  · have h := h.1 (c)
    refine jw_iload_n F 2 dX0_longestOf_155 rfl rfl ?_
    exact rt _ _ _ _ dX0_longestOf_156 h
  · have h := h.2 (c)
    refine jw_iconst F dX0_longestOf_22 ?_
    refine jw_istore F (lv' := [(0, .ref (ad 0)), (1, .int (iI r_1)), (2, .int (iI x2_3)), (3, .int (iI x3_4)), (4, .int (iI 0))]) [1, 2, 3, 4, 0] dX0_longestOf_23 (by decide) rfl ?_
    refine lp3_r (fun x2_12 x4_13 s_14 => G s_14 25 [(0, .ref (ad 0)), (1, .int (iI r_1)), (2, .int (iI x2_12)), (3, .int (iI x3_4)), (4, .int (iI x4_13))] []) h (fun x2_12 x4_13 s_14 K_15 h ih_16 => ?_)
    refine jw_iload F 4 dX0_longestOf_25 rfl ?_
    refine jw_aload_n F 0 dX0_longestOf_27 rfl rfl ?_
    refine gx_X0_23_0 F dX0_longestOf_28 ?_
    refine gx_X0_151_1 F dX0_longestOf_31 ?_
    obtain ⟨o_17, h⟩ := h
    obtain ⟨o_18, h⟩ := h
    refine jw_icmp_ge F o_17 o_18 (tgt := 149) dX0_longestOf_34 (by decide) (fun c => ?_) (fun c => ?_)
    · have h := h.1 (c)
      refine jw_iinc F (lv' := [(0, .ref (ad 0)), (1, .int (iI r_1)), (2, .int (iI x2_12)), (3, .int (iI (x3_4 + 1))), (4, .int (iI x4_13))]) 3 [1, 2, 3, 0, 4] dX0_longestOf_149 rfl (by decide) rfl ?_
      refine jw_goto F (tgt := 9) dX0_longestOf_152 (by decide) ?_
      refine jw_sub F (lv' := [(0, .ref (ad 0)), (1, .int (iI r_1)), (2, .int (iI x2_12)), (3, .int (iI (x3_4 + 1)))]) [0, 1, 2, 3] rfl ?_
      exact ih_7 _ _ _ h
    · have h := h.2 (c)
      refine jw_iload_n F 3 dX0_longestOf_37 rfl rfl ?_
      refine jw_iconst F dX0_longestOf_38 ?_
      refine jw_aload_n F 0 dX0_longestOf_39 rfl rfl ?_
      refine gx_X0_23_0 F dX0_longestOf_40 ?_
      refine gx_X0_154_1 F dX0_longestOf_43 ?_
      refine jw_iload F 4 dX0_longestOf_46 rfl ?_
      obtain ⟨o_19, o_20, h⟩ := h
      refine jw_iald F (xO dA ad) (k := 19) (by decide) (xa_19 dA ad) 0 rfl (by decide) o_19 o_20 dX0_longestOf_48 ?_
      obtain ⟨o_21, o_22, h⟩ := h
      refine jw_ishl F o_21 o_22 dX0_longestOf_49 ?_
      obtain ⟨o_23, h⟩ := h
      obtain ⟨o_24, h⟩ := h
      refine jw_ixor F o_23 o_24 dX0_longestOf_50 ?_
      refine jw_istore F (lv' := [(0, .ref (ad 0)), (1, .int (iI r_1)), (2, .int (iI x2_12)), (3, .int (iI x3_4)), (4, .int (iI x4_13)), (5, .int (iI (bxor x3_4 ((1 : Int) * 2 ^ ((s_14 19 x4_13) : Int).toNat))))]) [1, 2, 3, 4, 5, 0] dX0_longestOf_51 (by decide) rfl ?_
      refine jw_iload_n F 3 dX0_longestOf_53 rfl rfl ?_
      refine jw_aload_n F 0 dX0_longestOf_54 rfl rfl ?_
      refine gx_X0_23_0 F dX0_longestOf_55 ?_
      refine gx_X0_154_1 F dX0_longestOf_58 ?_
      refine jw_iload F 4 dX0_longestOf_61 rfl ?_
      obtain ⟨o_25, o_26, h⟩ := h
      refine jw_iald F (xO dA ad) (k := 19) (by decide) (xa_19 dA ad) 0 rfl (by decide) o_25 o_26 dX0_longestOf_63 ?_
      refine jw_callSzp F (wk_X0_isIn h) (lw_S q702 q703 q70 q704) hd_X0_isIn ⟨rfl, rfl, Nat.le_of_ble_eq_true rfl, Nat.le_of_ble_eq_true rfl⟩ rfl rfl (Nat.le_of_ble_eq_true rfl) dX0_longestOf_64 (fun r_27 hb_r_27 h => ?_)
      refine jn1_r (fun v_29 => G s_14 81 [(0, .ref (ad 0)), (1, .int (iI r_1)), (2, .int (iI x2_12)), (3, .int (iI x3_4)), (4, .int (iI x4_13)), (5, .int (iI (bxor x3_4 ((1 : Int) * 2 ^ ((s_14 19 x4_13) : Int).toNat))))] [.int (iI v_29)]) h (fun v_29 h => ?_) (fun K_30 h j_31 => ?_)
      · refine jw_istore F (lv' := [(0, .ref (ad 0)), (1, .int (iI r_1)), (2, .int (iI x2_12)), (3, .int (iI x3_4)), (4, .int (iI x4_13)), (5, .int (iI (bxor x3_4 ((1 : Int) * 2 ^ ((s_14 19 x4_13) : Int).toNat)))), (6, .int (iI v_29))]) [1, 2, 3, 4, 5, 6, 0] dX0_longestOf_81 (by decide) rfl ?_
        refine jw_aload_n F 0 dX0_longestOf_83 rfl rfl ?_
        refine gx_X0_62_0 F dX0_longestOf_84 ?_
        refine jw_iload_n F 3 dX0_longestOf_87 rfl rfl ?_
        obtain ⟨o_32, o_33, h⟩ := h
        refine jw_aald F (xO dA ad) (k := 13) (by decide) (xa_13 dA ad) 4 rfl rfl (by decide) o_32 o_33 dX0_longestOf_88 ?_
        refine jw_iload F 4 dX0_longestOf_89 rfl ?_
        refine jw_iload F 6 dX0_longestOf_91 rfl ?_
        obtain ⟨o_34, h⟩ := h
        refine jn1_r (fun v_35 => G s_14 117 [(0, .ref (ad 0)), (1, .int (iI r_1)), (2, .int (iI x2_12)), (3, .int (iI x3_4)), (4, .int (iI x4_13))] [.int (iI v_35), .int (iI x4_13), .ref (ad (276 + (x3_4 : Int).toNat))]) h (fun v_35 h => ?_) (fun K_36 h j_37 => ?_)
        · obtain ⟨o_38, o_39, h⟩ := h
          obtain ⟨o_40, h⟩ := h
          refine jw_zast F (xO dA ad) (k := (276 + (x3_4 : Int).toNat)) (by omega) (xr_84 dA ad (by omega)) 2 rfl (by decide) o_38 o_39 o_40 dX0_longestOf_117 ?_
          refine jw_aload_n F 0 dX0_longestOf_118 rfl rfl ?_
          refine gx_X0_62_0 F dX0_longestOf_119 ?_
          refine jw_iload_n F 3 dX0_longestOf_122 rfl rfl ?_
          obtain ⟨o_41, o_42, h⟩ := h
          refine jw_aald F (xO dA ad) (k := 13) (by decide) (xa_13 dA ad) 4 rfl rfl (by decide) o_41 o_42 dX0_longestOf_123 ?_
          refine jw_iload F 4 dX0_longestOf_124 rfl ?_
          obtain ⟨o_43, o_44, h⟩ := h
          refine jw_zald F (xO dA ad) (k := (276 + (x3_4 : Int).toNat)) (by omega) (xr_84 dA ad (by omega)) 2 rfl (by decide) o_43 o_44 dX0_longestOf_126 ?_
          obtain ⟨o_45, h⟩ := h
          refine jn1_r (fun v_46 => G (up s_14 (276 + (x3_4 : Int).toNat) x4_13 v_35) 142 [(0, .ref (ad 0)), (1, .int (iI r_1)), (3, .int (iI x3_4)), (4, .int (iI x4_13))] [.int (iI v_46)]) h (fun v_46 h => ?_) (fun K_47 h j_48 => ?_)
          · refine jw_istore_n F (lv' := [(0, .ref (ad 0)), (1, .int (iI r_1)), (2, .int (iI v_46)), (3, .int (iI x3_4)), (4, .int (iI x4_13))]) [1, 2, 0, 3, 4] dX0_longestOf_142 rfl (by decide) rfl ?_
            refine jw_iinc F (lv' := [(0, .ref (ad 0)), (1, .int (iI r_1)), (2, .int (iI v_46)), (3, .int (iI x3_4)), (4, .int (iI (x4_13 + 1)))]) 4 [1, 2, 3, 4, 0] dX0_longestOf_143 rfl (by decide) rfl ?_
            refine jw_goto F (tgt := 25) dX0_longestOf_146 (by decide) ?_
            exact ih_16 _ _ _ h
          · refine jw_if_eq F o_45 (tgt := 141) dX0_longestOf_127 (by decide) (fun c => ?_) (fun c => ?_)
            · have h := h.1 (c)
              refine jw_iload_n F 2 dX0_longestOf_141 rfl rfl ?_
              refine jw_sub F (lv' := [(0, .ref (ad 0)), (1, .int (iI r_1)), (3, .int (iI x3_4)), (4, .int (iI x4_13))]) [0, 1, 3, 4] rfl ?_
              exact j_48 _ h
            · have h := h.2 (c)
              refine jw_iload_n F 2 dX0_longestOf_130 rfl rfl ?_
              refine jw_iload_n F 3 dX0_longestOf_131 rfl rfl ?_
              refine jw_callSip F (wk_J10_bitCount h) (lw_S q696 q697 q90 q698) hd_J10_bitCount ⟨rfl, rfl, Nat.le_of_ble_eq_true rfl, Nat.le_of_ble_eq_true rfl⟩ rfl rfl (Nat.le_of_ble_eq_true rfl) dX0_longestOf_132 (fun r_49 h => ?_)
              obtain ⟨o_51, h⟩ := h
              obtain ⟨o_52, h⟩ := h
              refine jw_mmax F o_51 o_52 q745 q485 q87 q486 ⟨Nat.le_of_ble_eq_true rfl, Nat.le_of_ble_eq_true rfl⟩ (Nat.le_of_ble_eq_true rfl) dX0_longestOf_135 ?_
              refine jw_goto F (tgt := 142) dX0_longestOf_138 (by decide) ?_
              refine jw_sub F (lv' := [(0, .ref (ad 0)), (1, .int (iI r_1)), (3, .int (iI x3_4)), (4, .int (iI x4_13))]) [0, 1, 3, 4] rfl ?_
              exact j_48 _ h
        · refine jn0_r (G s_14 116 [(0, .ref (ad 0)), (1, .int (iI r_1)), (2, .int (iI x2_12)), (3, .int (iI x3_4)), (4, .int (iI x4_13))] [.int (iI x4_13), .ref (ad (276 + (x3_4 : Int).toNat))]) h (fun h => ?_) (fun K_53 h j_54 => ?_)
          · refine jw_iconst F dX0_longestOf_116 ?_
            exact j_37 _ h
          · refine jw_if_eq F o_34 (tgt := 116) dX0_longestOf_93 (by decide) (fun c => ?_) (fun c => ?_)
            · have h := h.1 (c)
              refine jw_sub F (lv' := [(0, .ref (ad 0)), (1, .int (iI r_1)), (2, .int (iI x2_12)), (3, .int (iI x3_4)), (4, .int (iI x4_13))]) [0, 1, 2, 3, 4] rfl ?_
              exact j_54 h
            · have h := h.2 (c)
              refine jw_iload F 5 dX0_longestOf_96 rfl ?_
              obtain ⟨o_55, h⟩ := h
              refine jn0_r (G s_14 112 [(0, .ref (ad 0)), (1, .int (iI r_1)), (2, .int (iI x2_12)), (3, .int (iI x3_4)), (4, .int (iI x4_13))] [.int (iI x4_13), .ref (ad (276 + (x3_4 : Int).toNat))]) h (fun h => ?_) (fun K_56 h j_57 => ?_)
              · refine jw_iconst F dX0_longestOf_112 ?_
                refine jw_goto F (tgt := 117) dX0_longestOf_113 (by decide) ?_
                exact j_37 _ h
              · refine jw_if_eq F o_55 (tgt := 112) dX0_longestOf_98 (by decide) (fun c => ?_) (fun c => ?_)
                · have h := h.1 (c)
                  refine jw_sub F (lv' := [(0, .ref (ad 0)), (1, .int (iI r_1)), (2, .int (iI x2_12)), (3, .int (iI x3_4)), (4, .int (iI x4_13))]) [0, 1, 2, 3, 4] rfl ?_
                  exact j_57 h
                · have h := h.2 (c)
                  refine jw_aload_n F 0 dX0_longestOf_101 rfl rfl ?_
                  refine jw_iload F 5 dX0_longestOf_102 rfl ?_
                  refine jw_iload F 4 dX0_longestOf_104 rfl ?_
                  refine jw_callVzp F (wk_X0_comesBehind h) (lw_V q737 q739 qs32 q70 q740) hd_X0_comesBehind ⟨rfl, rfl, Nat.le_of_ble_eq_true rfl, Nat.le_of_ble_eq_true rfl⟩ rfl rfl (xh_0 dA ad _) rfl rfl rfl (Nat.le_of_ble_eq_true rfl) dX0_longestOf_106 (fun r_58 hb_r_58 h => ?_)
                  refine jw_if_eq F (rg01 hb_r_58) (tgt := 116) dX0_longestOf_109 (by decide) (fun c => ?_) (fun c => ?_)
                  · have h := h.1 (c)
                    refine jw_sub F (lv' := [(0, .ref (ad 0)), (1, .int (iI r_1)), (2, .int (iI x2_12)), (3, .int (iI x3_4)), (4, .int (iI x4_13))]) [0, 1, 2, 3, 4] rfl ?_
                    exact j_54 h
                  · have h := h.2 (c)
                    refine jw_sub F (lv' := [(0, .ref (ad 0)), (1, .int (iI r_1)), (2, .int (iI x2_12)), (3, .int (iI x3_4)), (4, .int (iI x4_13))]) [0, 1, 2, 3, 4] rfl ?_
                    exact j_57 h
      · refine jn0_r (G s_14 80 [(0, .ref (ad 0)), (1, .int (iI r_1)), (2, .int (iI x2_12)), (3, .int (iI x3_4)), (4, .int (iI x4_13)), (5, .int (iI (bxor x3_4 ((1 : Int) * 2 ^ ((s_14 19 x4_13) : Int).toNat))))] []) h (fun h => ?_) (fun K_60 h j_61 => ?_)
        · refine jw_iconst F dX0_longestOf_80 ?_
          exact j_31 _ h
        · refine jw_if_eq F (rg01 hb_r_27) (tgt := 80) dX0_longestOf_67 (by decide) (fun c => ?_) (fun c => ?_)
          · have h := h.1 (c)
            exact j_61 h
          · have h := h.2 (c)
            refine jw_iload_n F 3 dX0_longestOf_70 rfl rfl ?_
            refine jw_iload_n F 1 dX0_longestOf_71 rfl rfl ?_
            obtain ⟨o_62, h⟩ := h
            obtain ⟨o_63, h⟩ := h
            refine jw_iand F o_62 o_63 dX0_longestOf_72 ?_
            obtain ⟨o_64, h⟩ := h
            refine jw_if_ne F o_64 (tgt := 80) dX0_longestOf_73 (by decide) (fun c => ?_) (fun c => ?_)
            · have h := h.1 (c)
              exact j_61 h
            · have h := h.2 (c)
              refine jw_iconst F dX0_longestOf_76 ?_
              refine jw_goto F (tgt := 81) dX0_longestOf_77 (by decide) ?_
              exact j_31 _ h
theorem hd_X0_longest : yX0_longest.cls = RX0 ∧ yX0_longest.cls ≠ "java/lang/invoke/MethodHandle" ∧ yX0_longest.cls ≠ "java/lang/invoke/VarHandle" ∧ (parseMethodDescriptor yX0_longest.desc).map (fun d => d.parameters.length) = some 0 := by decide +kernel
set_option maxHeartbeats 4000000 in
set_option maxRecDepth 100000 in
theorem wk_X0_longest {l : Launch} {D : va_G} {dA : Nat → ClassId} {ad : Nat → Nat} {s : Sg} {Q : Int → Sg → Prop} (h : wp_X0_longest s Q) : MXi l D dA (xwf dA ad) yX0_longest cX0_longest 1 .int ({ frames := 4, cells := 0, slots := 0, locals := 95 } : Room) [.ref (ad 0)] s Q := by
  unfold wp_X0_longest at h
  refine jw_start_i (own := RX0) (lv0 := [(0, .ref (ad 0))]) (by decide) rfl (Nat.le_of_ble_eq_true rfl) rfl (fun G F rt => ?_)
  refine jw_aload_n F 0 dX0_longest_0 rfl rfl ?_
  refine jw_callVzp F (wk_X0_mayAsk h) (lw_V q725 q727 qs29 q70 q728) hd_X0_mayAsk ⟨rfl, rfl, Nat.le_of_ble_eq_true rfl, Nat.le_of_ble_eq_true rfl⟩ rfl rfl (xh_0 dA ad _) rfl rfl rfl (Nat.le_of_ble_eq_true rfl) dX0_longest_1 (fun r_1 hb_r_1 h => ?_)
  refine jw_if_ne F (rg01 hb_r_1) (tgt := 10) dX0_longest_4 (by decide) (fun c => ?_) (fun c => ?_)
  · have h := h.1 (c)
    refine jw_aload_n F 0 dX0_longest_10 rfl rfl ?_
    refine jw_dup F rfl dX0_longest_11 ?_
    refine gx_X0_254_0 F dX0_longest_12 ?_
    refine jw_iconst F dX0_longest_15 ?_
    refine jw_iadd F dX0_longest_16 ?_
    refine pgx_X0_254_0 F dX0_longest_17 ?_
    refine jw_aload_n F 0 dX0_longest_20 rfl rfl ?_
    refine jw_callVi F (wk_X0_longestOf h) (lw_V q729 q731 qs30 q70 q732) hd_X0_longestOf ⟨rfl, rfl, Nat.le_of_ble_eq_true rfl, Nat.le_of_ble_eq_true rfl⟩ rfl rfl (xh_0 dA ad _) rfl rfl rfl (Nat.le_of_ble_eq_true rfl) dX0_longest_21 (fun r_3 s_4 hz => ?_)
    have h := hz
    exact rt _ _ _ _ dX0_longest_24 h
  · have h := h.2 (c)
    refine jw_bipush F (z := (-103)) dX0_longest_7 (by decide) ?_
    exact rt _ _ _ _ dX0_longest_9 h
theorem hd_X0_winsBy : yX0_winsBy.cls = RX0 ∧ yX0_winsBy.cls ≠ "java/lang/invoke/MethodHandle" ∧ yX0_winsBy.cls ≠ "java/lang/invoke/VarHandle" ∧ (parseMethodDescriptor yX0_winsBy.desc).map (fun d => d.parameters.length) = some 3 := by decide +kernel
set_option maxHeartbeats 4000000 in
set_option maxRecDepth 100000 in
theorem wk_X0_winsBy {l : Launch} {D : va_G} {dA : Nat → ClassId} {ad : Nat → Nat} {s : Sg} {a1 a2 a3 : Int} {Q : Int → Prop} (h : wp_X0_winsBy a1 a2 a3 s Q) : MXi l D dA (xwf dA ad) yX0_winsBy cX0_winsBy 6 .int ({ frames := 2, cells := 0, slots := 0, locals := 46 } : Room) [.ref (ad 0), .int (iI a1), .int (iI a2), .int (iI a3)] s (fun z s' => s' = s ∧ Q z) := by
  unfold wp_X0_winsBy at h
  refine jw_start_i (own := RX0) (lv0 := [(0, .ref (ad 0)), (1, .int (iI a1)), (2, .int (iI a2)), (3, .int (iI a3))]) (by decide) rfl (Nat.le_of_ble_eq_true rfl) rfl (fun G F rt => ?_)
  refine jw_iconst F dX0_winsBy_0 ?_
  refine jw_istore F (lv' := [(0, .ref (ad 0)), (1, .int (iI a1)), (2, .int (iI a2)), (3, .int (iI a3)), (4, .int (iI 0))]) [1, 2, 3, 4, 0] dX0_winsBy_1 (by decide) rfl ?_
  refine lp1_r (fun x4_1 => G s 3 [(0, .ref (ad 0)), (1, .int (iI a1)), (2, .int (iI a2)), (3, .int (iI a3)), (4, .int (iI x4_1))] []) h (fun x4_1 K_2 h ih_3 => ?_)
  refine jw_iload F 4 dX0_winsBy_3 rfl ?_
  refine jw_aload_n F 0 dX0_winsBy_5 rfl rfl ?_
  refine gx_X0_23_0 F dX0_winsBy_6 ?_
  refine gx_X0_151_1 F dX0_winsBy_9 ?_
  obtain ⟨o_4, h⟩ := h
  obtain ⟨o_5, h⟩ := h
  refine jw_icmp_ge F o_4 o_5 (tgt := 97) dX0_winsBy_12 (by decide) (fun c => ?_) (fun c => ?_)
  · have h := h.1 (c)
    refine jw_iconst F dX0_winsBy_97 ?_
    exact rt _ _ _ _ dX0_winsBy_98 ⟨rfl, h⟩
  · have h := h.2 (c)
    refine jw_iload_n F 1 dX0_winsBy_15 rfl rfl ?_
    refine jw_aload_n F 0 dX0_winsBy_16 rfl rfl ?_
    refine gx_X0_23_0 F dX0_winsBy_17 ?_
    refine gx_X0_154_1 F dX0_winsBy_20 ?_
    refine jw_iload F 4 dX0_winsBy_23 rfl ?_
    obtain ⟨o_6, o_7, h⟩ := h
    refine jw_iald F (xO dA ad) (k := 19) (by decide) (xa_19 dA ad) 0 rfl (by decide) o_6 o_7 dX0_winsBy_25 ?_
    refine jw_callSzp F (wk_X0_isIn h) (lw_S q702 q703 q70 q704) hd_X0_isIn ⟨rfl, rfl, Nat.le_of_ble_eq_true rfl, Nat.le_of_ble_eq_true rfl⟩ rfl rfl (Nat.le_of_ble_eq_true rfl) dX0_winsBy_26 (fun r_8 hb_r_8 h => ?_)
    refine jn1_r (fun v_10 => G s 56 [(0, .ref (ad 0)), (1, .int (iI a1)), (2, .int (iI a2)), (3, .int (iI a3)), (4, .int (iI x4_1))] [.int (iI v_10)]) h (fun v_10 h => ?_) (fun K_11 h j_12 => ?_)
    · refine jw_istore F (lv' := [(0, .ref (ad 0)), (1, .int (iI a1)), (2, .int (iI a2)), (3, .int (iI a3)), (4, .int (iI x4_1)), (5, .int (iI v_10))]) [1, 2, 3, 4, 5, 0] dX0_winsBy_56 (by decide) rfl ?_
      refine jw_iload F 5 dX0_winsBy_58 rfl ?_
      obtain ⟨o_13, h⟩ := h
      refine jn0_r (G s 91 [(0, .ref (ad 0)), (1, .int (iI a1)), (2, .int (iI a2)), (3, .int (iI a3)), (4, .int (iI x4_1))] []) h (fun h => ?_) (fun K_14 h j_15 => ?_)
      · refine jw_iinc F (lv' := [(0, .ref (ad 0)), (1, .int (iI a1)), (2, .int (iI a2)), (3, .int (iI a3)), (4, .int (iI (x4_1 + 1)))]) 4 [1, 2, 3, 4, 0] dX0_winsBy_91 rfl (by decide) rfl ?_
        refine jw_goto F (tgt := 3) dX0_winsBy_94 (by decide) ?_
        exact ih_3 _ h
      · refine jw_if_eq F o_13 (tgt := 91) dX0_winsBy_60 (by decide) (fun c => ?_) (fun c => ?_)
        · have h := h.1 (c)
          refine jw_sub F (lv' := [(0, .ref (ad 0)), (1, .int (iI a1)), (2, .int (iI a2)), (3, .int (iI a3)), (4, .int (iI x4_1))]) [0, 1, 2, 3, 4] rfl ?_
          exact j_15 h
        · have h := h.2 (c)
          refine jw_aload_n F 0 dX0_winsBy_63 rfl rfl ?_
          refine gx_X0_62_0 F dX0_winsBy_64 ?_
          refine jw_iload_n F 1 dX0_winsBy_67 rfl rfl ?_
          refine jw_iconst F dX0_winsBy_68 ?_
          refine jw_aload_n F 0 dX0_winsBy_69 rfl rfl ?_
          refine gx_X0_23_0 F dX0_winsBy_70 ?_
          refine gx_X0_154_1 F dX0_winsBy_73 ?_
          refine jw_iload F 4 dX0_winsBy_76 rfl ?_
          obtain ⟨o_16, o_17, h⟩ := h
          refine jw_iald F (xO dA ad) (k := 19) (by decide) (xa_19 dA ad) 0 rfl (by decide) o_16 o_17 dX0_winsBy_78 ?_
          obtain ⟨o_18, o_19, h⟩ := h
          refine jw_ishl F o_18 o_19 dX0_winsBy_79 ?_
          obtain ⟨o_20, h⟩ := h
          obtain ⟨o_21, h⟩ := h
          refine jw_ior F o_20 o_21 dX0_winsBy_80 ?_
          obtain ⟨o_22, o_23, h⟩ := h
          refine jw_aald F (xO dA ad) (k := 13) (by decide) (xa_13 dA ad) 4 rfl rfl (by decide) o_22 o_23 dX0_winsBy_81 ?_
          refine jw_iload F 4 dX0_winsBy_82 rfl ?_
          obtain ⟨o_24, o_25, h⟩ := h
          refine jw_zald F (xO dA ad) (k := (276 + ((bor a1 ((1 : Int) * 2 ^ ((s 19 x4_1) : Int).toNat)) : Int).toNat)) (by omega) (xr_84 dA ad (by omega)) 2 rfl (by decide) o_24 o_25 dX0_winsBy_84 ?_
          obtain ⟨o_26, h⟩ := h
          refine jw_if_ne F o_26 (tgt := 91) dX0_winsBy_85 (by decide) (fun c => ?_) (fun c => ?_)
          · have h := h.1 (c)
            refine jw_sub F (lv' := [(0, .ref (ad 0)), (1, .int (iI a1)), (2, .int (iI a2)), (3, .int (iI a3)), (4, .int (iI x4_1))]) [0, 1, 2, 3, 4] rfl ?_
            exact j_15 h
          · have h := h.2 (c)
            refine jw_iload F 4 dX0_winsBy_88 rfl ?_
            exact rt _ _ _ _ dX0_winsBy_90 ⟨rfl, h⟩
    · refine jn0_r (G s 55 [(0, .ref (ad 0)), (1, .int (iI a1)), (2, .int (iI a2)), (3, .int (iI a3)), (4, .int (iI x4_1))] []) h (fun h => ?_) (fun K_27 h j_28 => ?_)
      · refine jw_iconst F dX0_winsBy_55 ?_
        exact j_12 _ h
      · refine jw_if_ne F (rg01 hb_r_8) (tgt := 55) dX0_winsBy_29 (by decide) (fun c => ?_) (fun c => ?_)
        · have h := h.1 (c)
          exact j_28 h
        · have h := h.2 (c)
          refine jw_iload_n F 2 dX0_winsBy_32 rfl rfl ?_
          refine jw_iconst F dX0_winsBy_33 ?_
          obtain ⟨o_29, h⟩ := h
          refine jn0_r (G s 51 [(0, .ref (ad 0)), (1, .int (iI a1)), (2, .int (iI a2)), (3, .int (iI a3)), (4, .int (iI x4_1))] []) h (fun h => ?_) (fun K_30 h j_31 => ?_)
          · refine jw_iconst F dX0_winsBy_51 ?_
            refine jw_goto F (tgt := 56) dX0_winsBy_52 (by decide) ?_
            exact j_12 _ h
          · refine jw_icmp_eq F o_29 (by decide) (tgt := 51) dX0_winsBy_34 (by decide) (fun c => ?_) (fun c => ?_)
            · have h := h.1 (c)
              exact j_31 h
            · have h := h.2 (c)
              refine jw_aload_n F 0 dX0_winsBy_37 rfl rfl ?_
              refine gx_X0_23_0 F dX0_winsBy_38 ?_
              refine jw_iload_n F 2 dX0_winsBy_41 rfl rfl ?_
              refine jw_iload F 4 dX0_winsBy_42 rfl ?_
              refine jw_callVip F (wk_X1_common_1 h) (lw_V q741 q742 q743 q74 q744) hd_X1_common ⟨rfl, rfl, Nat.le_of_ble_eq_true rfl, Nat.le_of_ble_eq_true rfl⟩ rfl rfl (xh_1 dA ad _) rfl rfl rfl (Nat.le_of_ble_eq_true rfl) dX0_winsBy_44 (fun r_32 h => ?_)
              refine jw_iload_n F 3 dX0_winsBy_47 rfl rfl ?_
              obtain ⟨o_34, h⟩ := h
              obtain ⟨o_35, h⟩ := h
              refine jw_icmp_ne F o_34 o_35 (tgt := 55) dX0_winsBy_48 (by decide) (fun c => ?_) (fun c => ?_)
              · have h := h.1 (c)
                exact j_28 h
              · have h := h.2 (c)
                exact j_31 h
theorem hd_X0_gameOf : yX0_gameOf.cls = RX0 ∧ yX0_gameOf.cls ≠ "java/lang/invoke/MethodHandle" ∧ yX0_gameOf.cls ≠ "java/lang/invoke/VarHandle" ∧ (parseMethodDescriptor yX0_gameOf.desc).map (fun d => d.parameters.length) = some 1 := by decide +kernel
set_option maxHeartbeats 4000000 in
set_option maxRecDepth 100000 in
theorem wk_X0_gameOf {l : Launch} {D : va_G} {dA : Nat → ClassId} {ad : Nat → Nat} {s : Sg} {a1 : Int} {Q : Int → Sg → Prop} (h : wp_X0_gameOf a1 s Q) : MXi l D dA (xwf dA ad) yX0_gameOf cX0_gameOf 4 .int ({ frames := 3, cells := 0, slots := 0, locals := 71 } : Room) [.ref (ad 0), .int (iI a1)] s Q := by
  unfold wp_X0_gameOf at h
  refine jw_start_i (own := RX0) (lv0 := [(0, .ref (ad 0)), (1, .int (iI a1))]) (by decide) rfl (Nat.le_of_ble_eq_true rfl) rfl (fun G F rt => ?_)
  refine jw_iconst F dX0_gameOf_0 ?_
  refine jw_aload_n F 0 dX0_gameOf_1 rfl rfl ?_
  refine gx_X0_23_0 F dX0_gameOf_2 ?_
  refine gx_X0_118_1 F dX0_gameOf_5 ?_
  obtain ⟨o_1, o_2, h⟩ := h
  refine jw_ishl F o_1 o_2 dX0_gameOf_8 ?_
  refine jw_iconst F dX0_gameOf_9 ?_
  refine jw_isub F dX0_gameOf_10 ?_
  refine jw_istore_n F (lv' := [(0, .ref (ad 0)), (1, .int (iI a1)), (2, .int (iI (((1 : Int) * 2 ^ ((s 1 2) : Int).toNat) - 1)))]) [1, 2, 0] dX0_gameOf_11 rfl (by decide) rfl ?_
  refine lp2_r (fun x2_3 s_4 => G s_4 12 [(0, .ref (ad 0)), (1, .int (iI a1)), (2, .int (iI x2_3))] []) h (fun x2_3 s_4 K_5 h ih_6 => ?_)
  refine jw_iload_n F 2 dX0_gameOf_12 rfl rfl ?_
  obtain ⟨o_7, h⟩ := h
  refine jw_if_lt F o_7 (tgt := 81) dX0_gameOf_13 (by decide) (fun c => ?_) (fun c => ?_)
  · have h := h.1 (c)
    refine jw_aload_n F 0 dX0_gameOf_81 rfl rfl ?_
    refine jw_aload_n F 0 dX0_gameOf_82 rfl rfl ?_
    refine jw_callVip F (wk_X0_heardSorts h) (lw_V q733 q735 qs31 q70 q736) hd_X0_heardSorts ⟨rfl, rfl, Nat.le_of_ble_eq_true rfl, Nat.le_of_ble_eq_true rfl⟩ rfl rfl (xh_0 dA ad _) rfl rfl rfl (Nat.le_of_ble_eq_true rfl) dX0_gameOf_83 (fun r_8 h => ?_)
    refine jw_iconst F dX0_gameOf_86 ?_
    refine jw_iload_n F 1 dX0_gameOf_87 rfl rfl ?_
    refine jw_callVip F (wk_X0_winsBy h) (lw_V q754 q756 qs34 q70 q757) hd_X0_winsBy ⟨rfl, rfl, Nat.le_of_ble_eq_true rfl, Nat.le_of_ble_eq_true rfl⟩ rfl rfl (xh_0 dA ad _) rfl rfl rfl (Nat.le_of_ble_eq_true rfl) dX0_gameOf_88 (fun r_10 h => ?_)
    exact rt _ _ _ _ dX0_gameOf_91 h
  · have h := h.2 (c)
    refine jw_iconst F dX0_gameOf_16 ?_
    refine jw_istore_n F (lv' := [(0, .ref (ad 0)), (1, .int (iI a1)), (2, .int (iI x2_3)), (3, .int (iI 0))]) [1, 2, 3, 0] dX0_gameOf_17 rfl (by decide) rfl ?_
    refine lp2_r (fun x3_12 s_13 => G s_13 18 [(0, .ref (ad 0)), (1, .int (iI a1)), (2, .int (iI x2_3)), (3, .int (iI x3_12))] []) h (fun x3_12 s_13 K_14 h ih_15 => ?_)
    refine jw_iload_n F 3 dX0_gameOf_18 rfl rfl ?_
    refine jw_aload_n F 0 dX0_gameOf_19 rfl rfl ?_
    refine gx_X0_23_0 F dX0_gameOf_20 ?_
    refine gx_X0_151_1 F dX0_gameOf_23 ?_
    obtain ⟨o_16, h⟩ := h
    obtain ⟨o_17, h⟩ := h
    refine jw_icmp_ge F o_16 o_17 (tgt := 75) dX0_gameOf_26 (by decide) (fun c => ?_) (fun c => ?_)
    · have h := h.1 (c)
      refine jw_iinc F (lv' := [(0, .ref (ad 0)), (1, .int (iI a1)), (2, .int (iI (x2_3 + (-1)))), (3, .int (iI x3_12))]) 2 [1, 2, 0, 3] dX0_gameOf_75 rfl (by decide) rfl ?_
      refine jw_goto F (tgt := 12) dX0_gameOf_78 (by decide) ?_
      refine jw_sub F (lv' := [(0, .ref (ad 0)), (1, .int (iI a1)), (2, .int (iI (x2_3 + (-1))))]) [0, 1, 2] rfl ?_
      exact ih_6 _ _ h
    · have h := h.2 (c)
      refine jw_aload_n F 0 dX0_gameOf_29 rfl rfl ?_
      refine gx_X0_62_0 F dX0_gameOf_30 ?_
      refine jw_iload_n F 2 dX0_gameOf_33 rfl rfl ?_
      obtain ⟨o_18, o_19, h⟩ := h
      refine jw_aald F (xO dA ad) (k := 13) (by decide) (xa_13 dA ad) 4 rfl rfl (by decide) o_18 o_19 dX0_gameOf_34 ?_
      refine jw_iload_n F 3 dX0_gameOf_35 rfl rfl ?_
      refine jw_iload_n F 2 dX0_gameOf_36 rfl rfl ?_
      refine jw_aload_n F 0 dX0_gameOf_37 rfl rfl ?_
      refine gx_X0_23_0 F dX0_gameOf_38 ?_
      refine gx_X0_154_1 F dX0_gameOf_41 ?_
      refine jw_iload_n F 3 dX0_gameOf_44 rfl rfl ?_
      obtain ⟨o_20, o_21, h⟩ := h
      refine jw_iald F (xO dA ad) (k := 19) (by decide) (xa_19 dA ad) 0 rfl (by decide) o_20 o_21 dX0_gameOf_45 ?_
      refine jw_callSzp F (wk_X0_isIn h) (lw_S q702 q703 q70 q704) hd_X0_isIn ⟨rfl, rfl, Nat.le_of_ble_eq_true rfl, Nat.le_of_ble_eq_true rfl⟩ rfl rfl (Nat.le_of_ble_eq_true rfl) dX0_gameOf_46 (fun r_22 hb_r_22 h => ?_)
      refine jn1_r (fun v_24 => G s_13 68 [(0, .ref (ad 0)), (1, .int (iI a1)), (2, .int (iI x2_3)), (3, .int (iI x3_12))] [.int (iI v_24), .int (iI x3_12), .ref (ad (276 + (x2_3 : Int).toNat))]) h (fun v_24 h => ?_) (fun K_25 h j_26 => ?_)
      · obtain ⟨o_27, o_28, h⟩ := h
        obtain ⟨o_29, h⟩ := h
        refine jw_zast F (xO dA ad) (k := (276 + (x2_3 : Int).toNat)) (by omega) (xr_84 dA ad (by omega)) 2 rfl (by decide) o_27 o_28 o_29 dX0_gameOf_68 ?_
        refine jw_iinc F (lv' := [(0, .ref (ad 0)), (1, .int (iI a1)), (2, .int (iI x2_3)), (3, .int (iI (x3_12 + 1)))]) 3 [1, 2, 3, 0] dX0_gameOf_69 rfl (by decide) rfl ?_
        refine jw_goto F (tgt := 18) dX0_gameOf_72 (by decide) ?_
        exact ih_15 _ _ h
      · refine jn0_r (G s_13 67 [(0, .ref (ad 0)), (1, .int (iI a1)), (2, .int (iI x2_3)), (3, .int (iI x3_12))] [.int (iI x3_12), .ref (ad (276 + (x2_3 : Int).toNat))]) h (fun h => ?_) (fun K_30 h j_31 => ?_)
        · refine jw_iconst F dX0_gameOf_67 ?_
          exact j_26 _ h
        · refine jw_if_eq F (rg01 hb_r_22) (tgt := 67) dX0_gameOf_49 (by decide) (fun c => ?_) (fun c => ?_)
          · have h := h.1 (c)
            exact j_31 h
          · have h := h.2 (c)
            refine jw_aload_n F 0 dX0_gameOf_52 rfl rfl ?_
            refine jw_iload_n F 2 dX0_gameOf_53 rfl rfl ?_
            refine jw_iload_n F 3 dX0_gameOf_54 rfl rfl ?_
            refine jw_iload_n F 1 dX0_gameOf_55 rfl rfl ?_
            refine jw_callVip F (wk_X0_winsBy h) (lw_V q754 q756 qs34 q70 q757) hd_X0_winsBy ⟨rfl, rfl, Nat.le_of_ble_eq_true rfl, Nat.le_of_ble_eq_true rfl⟩ rfl rfl (xh_0 dA ad _) rfl rfl rfl (Nat.le_of_ble_eq_true rfl) dX0_gameOf_56 (fun r_32 h => ?_)
            refine jw_iconst F dX0_gameOf_59 ?_
            obtain ⟨o_34, h⟩ := h
            refine jw_icmp_eq F o_34 (by decide) (tgt := 67) dX0_gameOf_60 (by decide) (fun c => ?_) (fun c => ?_)
            · have h := h.1 (c)
              exact j_31 h
            · have h := h.2 (c)
              refine jw_iconst F dX0_gameOf_63 ?_
              refine jw_goto F (tgt := 68) dX0_gameOf_64 (by decide) ?_
              exact j_26 _ h
theorem hd_X0_game : yX0_game.cls = RX0 ∧ yX0_game.cls ≠ "java/lang/invoke/MethodHandle" ∧ yX0_game.cls ≠ "java/lang/invoke/VarHandle" ∧ (parseMethodDescriptor yX0_game.desc).map (fun d => d.parameters.length) = some 2 := by decide +kernel
set_option maxHeartbeats 4000000 in
set_option maxRecDepth 100000 in
theorem wk_X0_game {l : Launch} {D : va_G} {dA : Nat → ClassId} {ad : Nat → Nat} {s : Sg} {a1 a2 : Int} {Q : Int → Sg → Prop} (h : wp_X0_game a1 a2 s Q) : MXi l D dA (xwf dA ad) yX0_game cX0_game 4 .int ({ frames := 4, cells := 0, slots := 0, locals := 94 } : Room) [.ref (ad 0), .int (iI a1), .int (iI a2)] s Q := by
  unfold wp_X0_game at h
  refine jw_start_i (own := RX0) (lv0 := [(0, .ref (ad 0)), (1, .int (iI a1)), (2, .int (iI a2))]) (by decide) rfl (Nat.le_of_ble_eq_true rfl) rfl (fun G F rt => ?_)
  refine jw_iload_n F 1 dX0_game_0 rfl rfl ?_
  refine jw_iconst F dX0_game_1 ?_
  refine jw_iconst F dX0_game_2 ?_
  refine jw_callSzp F (wk_X0_in h) (lw_S q534 q449 q70 q450) hd_X0_in ⟨rfl, rfl, Nat.le_of_ble_eq_true rfl, Nat.le_of_ble_eq_true rfl⟩ rfl rfl (Nat.le_of_ble_eq_true rfl) dX0_game_3 (fun r_1 hb_r_1 h => ?_)
  refine jw_if_eq F (rg01 hb_r_1) (tgt := 18) dX0_game_6 (by decide) (fun c => ?_) (fun c => ?_)
  · have h := h.1 (c)
    refine jw_bipush F (z := (-102)) dX0_game_18 (by decide) ?_
    exact rt _ _ _ _ dX0_game_20 h
  · have h := h.2 (c)
    refine jw_iload_n F 2 dX0_game_9 rfl rfl ?_
    refine jw_iconst F dX0_game_10 ?_
    refine jw_iconst F dX0_game_11 ?_
    refine jw_callSzp F (wk_X0_in h) (lw_S q534 q449 q70 q450) hd_X0_in ⟨rfl, rfl, Nat.le_of_ble_eq_true rfl, Nat.le_of_ble_eq_true rfl⟩ rfl rfl (Nat.le_of_ble_eq_true rfl) dX0_game_12 (fun r_3 hb_r_3 h => ?_)
    refine jw_if_ne F (rg01 hb_r_3) (tgt := 21) dX0_game_15 (by decide) (fun c => ?_) (fun c => ?_)
    · have h := h.1 (c)
      refine jw_aload_n F 0 dX0_game_21 rfl rfl ?_
      refine jw_callVzp F (wk_X0_mayAsk h) (lw_V q725 q727 qs29 q70 q728) hd_X0_mayAsk ⟨rfl, rfl, Nat.le_of_ble_eq_true rfl, Nat.le_of_ble_eq_true rfl⟩ rfl rfl (xh_0 dA ad _) rfl rfl rfl (Nat.le_of_ble_eq_true rfl) dX0_game_22 (fun r_5 hb_r_5 h => ?_)
      refine jw_if_ne F (rg01 hb_r_5) (tgt := 31) dX0_game_25 (by decide) (fun c => ?_) (fun c => ?_)
      · have h := h.1 (c)
        refine jw_aload_n F 0 dX0_game_31 rfl rfl ?_
        refine jw_dup F rfl dX0_game_32 ?_
        refine gx_X0_254_0 F dX0_game_33 ?_
        refine jw_iconst F dX0_game_36 ?_
        refine jw_iadd F dX0_game_37 ?_
        refine pgx_X0_254_0 F dX0_game_38 ?_
        refine jw_aload_n F 0 dX0_game_41 rfl rfl ?_
        refine jw_iload_n F 1 dX0_game_42 rfl rfl ?_
        refine jw_callVi F (wk_X0_gameOf h) (lw_V q750 q752 qs33 q70 q753) hd_X0_gameOf ⟨rfl, rfl, Nat.le_of_ble_eq_true rfl, Nat.le_of_ble_eq_true rfl⟩ rfl rfl (xh_0 dA ad _) rfl rfl rfl (Nat.le_of_ble_eq_true rfl) dX0_game_43 (fun r_7 s_8 hz => ?_)
        have h := hz
        refine jw_istore_n F (lv' := [(0, .ref (ad 0)), (1, .int (iI a1)), (2, .int (iI a2)), (3, .int (iI r_7))]) [1, 2, 3, 0] dX0_game_46 rfl (by decide) rfl ?_
        refine jw_iload_n F 2 dX0_game_47 rfl rfl ?_
        refine jw_iconst F dX0_game_48 ?_
        obtain ⟨o_9, h⟩ := h
        refine jw_icmp_ne F o_9 (by decide) (tgt := 56) dX0_game_49 (by decide) (fun c => ?_) (fun c => ?_)
        · have h := h.1 (c)
          refine jw_iload_n F 3 dX0_game_56 rfl rfl ?_
          refine jw_iconst F dX0_game_57 ?_
          obtain ⟨o_10, h⟩ := h
          refine jw_icmp_ne F o_10 (by decide) (tgt := 65) dX0_game_58 (by decide) (fun c => ?_) (fun c => ?_)
          · have h := h.1 (c)
            refine jw_iconst F dX0_game_65 ?_
            exact rt _ _ _ _ dX0_game_66 h
          · have h := h.2 (c)
            refine jw_iconst F dX0_game_61 ?_
            refine jw_goto F (tgt := 66) dX0_game_62 (by decide) ?_
            exact rt _ _ _ _ dX0_game_66 h
        · have h := h.2 (c)
          refine jw_iload_n F 3 dX0_game_52 rfl rfl ?_
          refine jw_goto F (tgt := 66) dX0_game_53 (by decide) ?_
          exact rt _ _ _ _ dX0_game_66 h
      · have h := h.2 (c)
        refine jw_bipush F (z := (-103)) dX0_game_28 (by decide) ?_
        exact rt _ _ _ _ dX0_game_30 h
    · have h := h.2 (c)
      refine jw_bipush F (z := (-102)) dX0_game_18 (by decide) ?_
      exact rt _ _ _ _ dX0_game_20 h
theorem hd_X0_brokenOf : yX0_brokenOf.cls = RX0 ∧ yX0_brokenOf.cls ≠ "java/lang/invoke/MethodHandle" ∧ yX0_brokenOf.cls ≠ "java/lang/invoke/VarHandle" ∧ (parseMethodDescriptor yX0_brokenOf.desc).map (fun d => d.parameters.length) = some 1 := by decide +kernel
set_option maxHeartbeats 4000000 in
set_option maxRecDepth 100000 in
theorem wk_X0_brokenOf {l : Launch} {D : va_G} {dA : Nat → ClassId} {ad : Nat → Nat} {s : Sg} {a1 : Int} {Q : Int → Prop} (h : wp_X0_brokenOf a1 s Q) : MXi l D dA (xwf dA ad) yX0_brokenOf cX0_brokenOf 6 .int ({ frames := 2, cells := 0, slots := 0, locals := 43 } : Room) [.ref (ad 0), .int (iI a1)] s (fun z s' => s' = s ∧ Q z) := by
  unfold wp_X0_brokenOf at h
  refine jw_start_i (own := RX0) (lv0 := [(0, .ref (ad 0)), (1, .int (iI a1))]) (by decide) rfl (Nat.le_of_ble_eq_true rfl) rfl (fun G F rt => ?_)
  refine jw_iconst F dX0_brokenOf_0 ?_
  refine jw_istore_n F (lv' := [(0, .ref (ad 0)), (1, .int (iI a1)), (2, .int (iI 0))]) [1, 2, 0] dX0_brokenOf_1 rfl (by decide) rfl ?_
  refine jw_iconst F dX0_brokenOf_2 ?_
  refine jw_istore_n F (lv' := [(0, .ref (ad 0)), (1, .int (iI a1)), (2, .int (iI 0)), (3, .int (iI 0))]) [1, 2, 3, 0] dX0_brokenOf_3 rfl (by decide) rfl ?_
  refine lp2_r (fun x2_1 x3_2 => G s 4 [(0, .ref (ad 0)), (1, .int (iI a1)), (2, .int (iI x2_1)), (3, .int (iI x3_2))] []) h (fun x2_1 x3_2 K_3 h ih_4 => ?_)
  refine jw_iload_n F 3 dX0_brokenOf_4 rfl rfl ?_
  refine jw_aload_n F 0 dX0_brokenOf_5 rfl rfl ?_
  refine gx_X0_23_0 F dX0_brokenOf_6 ?_
  refine gx_X0_118_1 F dX0_brokenOf_9 ?_
  obtain ⟨o_5, h⟩ := h
  obtain ⟨o_6, h⟩ := h
  refine jw_icmp_ge F o_5 o_6 (tgt := 103) dX0_brokenOf_12 (by decide) (fun c => ?_) (fun c => ?_)
  · have h := h.1 (c)
    refine jw_iload_n F 2 dX0_brokenOf_103 rfl rfl ?_
    exact rt _ _ _ _ dX0_brokenOf_104 ⟨rfl, h⟩
  · have h := h.2 (c)
    refine jw_iconst F dX0_brokenOf_15 ?_
    refine jw_istore F (lv' := [(0, .ref (ad 0)), (1, .int (iI a1)), (2, .int (iI x2_1)), (3, .int (iI x3_2)), (4, .int (iI 0))]) [1, 2, 3, 4, 0] dX0_brokenOf_16 (by decide) rfl ?_
    refine jw_iconst F dX0_brokenOf_18 ?_
    refine jw_istore F (lv' := [(0, .ref (ad 0)), (1, .int (iI a1)), (2, .int (iI x2_1)), (3, .int (iI x3_2)), (4, .int (iI 0)), (5, .int (iI 0))]) [1, 2, 3, 4, 5, 0] dX0_brokenOf_19 (by decide) rfl ?_
    refine lp2_r (fun x4_7 x5_8 => G s 21 [(0, .ref (ad 0)), (1, .int (iI a1)), (2, .int (iI x2_1)), (3, .int (iI x3_2)), (4, .int (iI x4_7)), (5, .int (iI x5_8))] []) h (fun x4_7 x5_8 K_9 h ih_10 => ?_)
    refine jw_iload F 5 dX0_brokenOf_21 rfl ?_
    refine jw_aload_n F 0 dX0_brokenOf_23 rfl rfl ?_
    refine gx_X0_23_0 F dX0_brokenOf_24 ?_
    refine gx_X0_151_1 F dX0_brokenOf_27 ?_
    obtain ⟨o_11, h⟩ := h
    obtain ⟨o_12, h⟩ := h
    refine jw_icmp_ge F o_11 o_12 (tgt := 76) dX0_brokenOf_30 (by decide) (fun c => ?_) (fun c => ?_)
    · have h := h.1 (c)
      refine jw_iload_n F 2 dX0_brokenOf_76 rfl rfl ?_
      refine jw_iload F 4 dX0_brokenOf_77 rfl ?_
      obtain ⟨o_13, h⟩ := h
      refine jn1_r (fun v_14 => G s 95 [(0, .ref (ad 0)), (1, .int (iI a1)), (3, .int (iI x3_2))] [.int (iI v_14), .int (iI x2_1)]) h (fun v_14 h => ?_) (fun K_15 h j_16 => ?_)
      · refine jw_iadd F dX0_brokenOf_95 ?_
        refine jw_istore_n F (lv' := [(0, .ref (ad 0)), (1, .int (iI a1)), (2, .int (iI (x2_1 + v_14))), (3, .int (iI x3_2))]) [1, 2, 0, 3] dX0_brokenOf_96 rfl (by decide) rfl ?_
        refine jw_iinc F (lv' := [(0, .ref (ad 0)), (1, .int (iI a1)), (2, .int (iI (x2_1 + v_14))), (3, .int (iI (x3_2 + 1)))]) 3 [1, 2, 3, 0] dX0_brokenOf_97 rfl (by decide) rfl ?_
        refine jw_goto F (tgt := 4) dX0_brokenOf_100 (by decide) ?_
        exact ih_4 _ _ h
      · refine jn0_r (G s 94 [(0, .ref (ad 0)), (1, .int (iI a1)), (3, .int (iI x3_2))] [.int (iI x2_1)]) h (fun h => ?_) (fun K_17 h j_18 => ?_)
        · refine jw_iconst F dX0_brokenOf_94 ?_
          exact j_16 _ h
        · refine jw_if_eq F o_13 (tgt := 94) dX0_brokenOf_79 (by decide) (fun c => ?_) (fun c => ?_)
          · have h := h.1 (c)
            refine jw_sub F (lv' := [(0, .ref (ad 0)), (1, .int (iI a1)), (3, .int (iI x3_2))]) [0, 1, 3] rfl ?_
            exact j_18 h
          · have h := h.2 (c)
            refine jw_aload_n F 0 dX0_brokenOf_82 rfl rfl ?_
            refine jw_iload_n F 3 dX0_brokenOf_83 rfl rfl ?_
            refine jw_callVzp F (wk_X0_isLeft h) (lw_V q612 q614 qs15 q70 q615) hd_X0_isLeft ⟨rfl, rfl, Nat.le_of_ble_eq_true rfl, Nat.le_of_ble_eq_true rfl⟩ rfl rfl (xh_0 dA ad _) rfl rfl rfl (Nat.le_of_ble_eq_true rfl) dX0_brokenOf_84 (fun r_19 hb_r_19 h => ?_)
            refine jw_if_eq F (rg01 hb_r_19) (tgt := 94) dX0_brokenOf_87 (by decide) (fun c => ?_) (fun c => ?_)
            · have h := h.1 (c)
              refine jw_sub F (lv' := [(0, .ref (ad 0)), (1, .int (iI a1)), (3, .int (iI x3_2))]) [0, 1, 3] rfl ?_
              exact j_18 h
            · have h := h.2 (c)
              refine jw_iconst F dX0_brokenOf_90 ?_
              refine jw_goto F (tgt := 95) dX0_brokenOf_91 (by decide) ?_
              refine jw_sub F (lv' := [(0, .ref (ad 0)), (1, .int (iI a1)), (3, .int (iI x3_2))]) [0, 1, 3] rfl ?_
              exact j_16 _ h
    · have h := h.2 (c)
      refine jw_iload F 4 dX0_brokenOf_33 rfl ?_
      refine jw_aload_n F 0 dX0_brokenOf_35 rfl rfl ?_
      refine gx_X0_23_0 F dX0_brokenOf_36 ?_
      refine gx_X0_154_1 F dX0_brokenOf_39 ?_
      refine jw_iload F 5 dX0_brokenOf_42 rfl ?_
      obtain ⟨o_21, o_22, h⟩ := h
      refine jw_iald F (xO dA ad) (k := 19) (by decide) (xa_19 dA ad) 0 rfl (by decide) o_21 o_22 dX0_brokenOf_44 ?_
      refine jw_iload_n F 3 dX0_brokenOf_45 rfl rfl ?_
      obtain ⟨o_23, h⟩ := h
      obtain ⟨o_24, h⟩ := h
      refine jn1_r (fun v_25 => G s 67 [(0, .ref (ad 0)), (1, .int (iI a1)), (2, .int (iI x2_1)), (3, .int (iI x3_2)), (5, .int (iI x5_8))] [.int (iI v_25), .int (iI x4_7)]) h (fun v_25 h => ?_) (fun K_26 h j_27 => ?_)
      · obtain ⟨o_28, h⟩ := h
        obtain ⟨o_29, h⟩ := h
        refine jw_ior F o_28 o_29 dX0_brokenOf_67 ?_
        refine jw_istore F (lv' := [(0, .ref (ad 0)), (1, .int (iI a1)), (2, .int (iI x2_1)), (3, .int (iI x3_2)), (4, .int (iI (bor x4_7 v_25))), (5, .int (iI x5_8))]) [1, 2, 3, 4, 0, 5] dX0_brokenOf_68 (by decide) rfl ?_
        refine jw_iinc F (lv' := [(0, .ref (ad 0)), (1, .int (iI a1)), (2, .int (iI x2_1)), (3, .int (iI x3_2)), (4, .int (iI (bor x4_7 v_25))), (5, .int (iI (x5_8 + 1)))]) 5 [1, 2, 3, 4, 5, 0] dX0_brokenOf_70 rfl (by decide) rfl ?_
        refine jw_goto F (tgt := 21) dX0_brokenOf_73 (by decide) ?_
        exact ih_10 _ _ h
      · refine jn0_r (G s 66 [(0, .ref (ad 0)), (1, .int (iI a1)), (2, .int (iI x2_1)), (3, .int (iI x3_2)), (5, .int (iI x5_8))] [.int (iI x4_7)]) h (fun h => ?_) (fun K_30 h j_31 => ?_)
        · refine jw_iconst F dX0_brokenOf_66 ?_
          exact j_27 _ h
        · refine jw_icmp_ne F o_23 o_24 (tgt := 66) dX0_brokenOf_46 (by decide) (fun c => ?_) (fun c => ?_)
          · have h := h.1 (c)
            refine jw_sub F (lv' := [(0, .ref (ad 0)), (1, .int (iI a1)), (2, .int (iI x2_1)), (3, .int (iI x3_2)), (5, .int (iI x5_8))]) [0, 1, 2, 3, 5] rfl ?_
            exact j_31 h
          · have h := h.2 (c)
            refine jw_aload_n F 0 dX0_brokenOf_49 rfl rfl ?_
            refine gx_X0_23_0 F dX0_brokenOf_50 ?_
            refine jw_iload F 5 dX0_brokenOf_53 rfl ?_
            refine jw_iload_n F 1 dX0_brokenOf_55 rfl rfl ?_
            refine jw_callVNzp F (wk_X1_has_1 h) (jw_nwi 12 rfl) (lw_meth q220) q219 qs2 q74 hd_X1_has ⟨rfl, rfl, Nat.le_of_ble_eq_true rfl, Nat.le_of_ble_eq_true rfl⟩ rfl rfl (xh_1 dA ad _) rfl rfl rfl (Nat.le_of_ble_eq_true rfl) dX0_brokenOf_56 (fun r_32 hb_r_32 h => ?_)
            refine jw_if_ne F (rg01 hb_r_32) (tgt := 66) dX0_brokenOf_59 (by decide) (fun c => ?_) (fun c => ?_)
            · have h := h.1 (c)
              refine jw_sub F (lv' := [(0, .ref (ad 0)), (1, .int (iI a1)), (2, .int (iI x2_1)), (3, .int (iI x3_2)), (5, .int (iI x5_8))]) [0, 1, 2, 3, 5] rfl ?_
              exact j_31 h
            · have h := h.2 (c)
              refine jw_iconst F dX0_brokenOf_62 ?_
              refine jw_goto F (tgt := 67) dX0_brokenOf_63 (by decide) ?_
              refine jw_sub F (lv' := [(0, .ref (ad 0)), (1, .int (iI a1)), (2, .int (iI x2_1)), (3, .int (iI x3_2)), (5, .int (iI x5_8))]) [0, 1, 2, 3, 5] rfl ?_
              exact j_27 _ h
theorem hd_X0_broken : yX0_broken.cls = RX0 ∧ yX0_broken.cls ≠ "java/lang/invoke/MethodHandle" ∧ yX0_broken.cls ≠ "java/lang/invoke/VarHandle" ∧ (parseMethodDescriptor yX0_broken.desc).map (fun d => d.parameters.length) = some 1 := by decide +kernel
set_option maxHeartbeats 4000000 in
set_option maxRecDepth 100000 in
theorem wk_X0_broken {l : Launch} {D : va_G} {dA : Nat → ClassId} {ad : Nat → Nat} {s : Sg} {a1 : Int} {Q : Int → Prop} (h : wp_X0_broken a1 s Q) : MXi l D dA (xwf dA ad) yX0_broken cX0_broken 2 .int ({ frames := 3, cells := 0, slots := 0, locals := 68 } : Room) [.ref (ad 0), .int (iI a1)] s (fun z s' => s' = s ∧ Q z) := by
  unfold wp_X0_broken at h
  refine jw_start_i (own := RX0) (lv0 := [(0, .ref (ad 0)), (1, .int (iI a1))]) (by decide) rfl (Nat.le_of_ble_eq_true rfl) rfl (fun G F rt => ?_)
  refine jw_aload_n F 0 dX0_broken_0 rfl rfl ?_
  refine jw_iload_n F 1 dX0_broken_1 rfl rfl ?_
  refine jw_callVzp F (wk_X0_isString h) (lw_V q591 q593 qs12 q70 q594) hd_X0_isString ⟨rfl, rfl, Nat.le_of_ble_eq_true rfl, Nat.le_of_ble_eq_true rfl⟩ rfl rfl (xh_0 dA ad _) rfl rfl rfl (Nat.le_of_ble_eq_true rfl) dX0_broken_2 (fun r_1 hb_r_1 h => ?_)
  refine jw_if_eq F (rg01 hb_r_1) (tgt := 16) dX0_broken_5 (by decide) (fun c => ?_) (fun c => ?_)
  · have h := h.1 (c)
    refine jw_bipush F (z := (-101)) dX0_broken_16 (by decide) ?_
    exact rt _ _ _ _ dX0_broken_18 ⟨rfl, h⟩
  · have h := h.2 (c)
    refine jw_aload_n F 0 dX0_broken_8 rfl rfl ?_
    refine jw_iload_n F 1 dX0_broken_9 rfl rfl ?_
    refine jw_callVip F (wk_X0_brokenOf h) (lw_V q762 q764 qs35 q70 q765) hd_X0_brokenOf ⟨rfl, rfl, Nat.le_of_ble_eq_true rfl, Nat.le_of_ble_eq_true rfl⟩ rfl rfl (xh_0 dA ad _) rfl rfl rfl (Nat.le_of_ble_eq_true rfl) dX0_broken_10 (fun r_3 h => ?_)
    refine jw_goto F (tgt := 18) dX0_broken_13 (by decide) ?_
    exact rt _ _ _ _ dX0_broken_18 ⟨rfl, h⟩
theorem hd_X0_added : yX0_added.cls = RX0 ∧ yX0_added.cls ≠ "java/lang/invoke/MethodHandle" ∧ yX0_added.cls ≠ "java/lang/invoke/VarHandle" ∧ (parseMethodDescriptor yX0_added.desc).map (fun d => d.parameters.length) = some 0 := by decide +kernel
set_option maxHeartbeats 4000000 in
set_option maxRecDepth 100000 in
theorem wk_X0_added {l : Launch} {D : va_G} {dA : Nat → ClassId} {ad : Nat → Nat} {s : Sg} {Q : Int → Sg → Prop} (h : wp_X0_added s Q) : MXi l D dA (xwf dA ad) yX0_added cX0_added 6 .int ({ frames := 6, cells := 0, slots := 0, locals := 191 } : Room) [.ref (ad 0)] s Q := by
  unfold wp_X0_added at h
  refine jw_start_i (own := RX0) (lv0 := [(0, .ref (ad 0))]) (by decide) rfl (Nat.le_of_ble_eq_true rfl) rfl (fun G F rt => ?_)
  refine jw_aload_n F 0 dX0_added_0 rfl rfl ?_
  refine gx_X0_23_0 F dX0_added_1 ?_
  refine gx_X0_144_1 F dX0_added_4 ?_
  refine jw_bipush F (z := 9) dX0_added_7 (by decide) ?_
  obtain ⟨o_1, h⟩ := h
  refine jw_icmp_ne F o_1 (by decide) (tgt := 15) dX0_added_9 (by decide) (fun c => ?_) (fun c => ?_)
  · have h := h.1 (c)
    refine jw_aload_n F 0 dX0_added_15 rfl rfl ?_
    refine gx_X0_27_0 F dX0_added_16 ?_
    refine jw_aload_n F 0 dX0_added_19 rfl rfl ?_
    refine gx_X0_23_0 F dX0_added_20 ?_
    refine gx_X0_144_1 F dX0_added_23 ?_
    refine jw_iconst F dX0_added_26 ?_
    refine jw_iadd F dX0_added_27 ?_
    refine jw_callVv F (wk_X1_lay_2 h) (lw_V q166 q167 q168 q74 q169) hd_X1_lay ⟨rfl, rfl, Nat.le_of_ble_eq_true rfl, Nat.le_of_ble_eq_true rfl⟩ rfl rfl (xh_2 dA ad _) rfl rfl rfl (Nat.le_of_ble_eq_true rfl) dX0_added_28 (fun s_3 hz => ?_)
    have h := hz
    refine jw_aload_n F 0 dX0_added_31 rfl rfl ?_
    refine jw_aload_n F 0 dX0_added_32 rfl rfl ?_
    refine gx_X0_27_0 F dX0_added_33 ?_
    refine jw_callVv F (wk_X0_join_2 h) (lw_V q170 q172 qs0 q70 q173) hd_X0_join ⟨rfl, rfl, Nat.le_of_ble_eq_true rfl, Nat.le_of_ble_eq_true rfl⟩ rfl rfl (xh_0 dA ad _) rfl rfl rfl (Nat.le_of_ble_eq_true rfl) dX0_added_36 (fun s_5 hz => ?_)
    have h := hz
    refine jw_iconst F dX0_added_39 ?_
    refine jw_istore_n F (lv' := [(0, .ref (ad 0)), (1, .int (iI 0))]) [1, 0] dX0_added_40 rfl (by decide) rfl ?_
    refine jw_iconst F dX0_added_41 ?_
    refine jw_istore_n F (lv' := [(0, .ref (ad 0)), (1, .int (iI 0)), (2, .int (iI 0))]) [1, 2, 0] dX0_added_42 rfl (by decide) rfl ?_
    refine lp2_r (fun x1_6 x2_7 => G s_5 43 [(0, .ref (ad 0)), (1, .int (iI x1_6)), (2, .int (iI x2_7))] []) h (fun x1_6 x2_7 K_8 h ih_9 => ?_)
    refine jw_iload_n F 2 dX0_added_43 rfl rfl ?_
    refine jw_aload_n F 0 dX0_added_44 rfl rfl ?_
    refine gx_X0_27_0 F dX0_added_45 ?_
    refine gx_X0_118_2 F dX0_added_48 ?_
    obtain ⟨o_10, h⟩ := h
    obtain ⟨o_11, h⟩ := h
    refine jw_icmp_ge F o_10 o_11 (tgt := 148) dX0_added_51 (by decide) (fun c => ?_) (fun c => ?_)
    · have h := h.1 (c)
      refine jw_iload_n F 1 dX0_added_148 rfl rfl ?_
      exact rt _ _ _ _ dX0_added_149 h
    · have h := h.2 (c)
      refine jw_iconst F dX0_added_54 ?_
      refine jw_istore_n F (lv' := [(0, .ref (ad 0)), (1, .int (iI x1_6)), (2, .int (iI x2_7)), (3, .int (iI 1))]) [1, 2, 3, 0] dX0_added_55 rfl (by decide) rfl ?_
      refine jw_iconst F dX0_added_56 ?_
      refine jw_istore F (lv' := [(0, .ref (ad 0)), (1, .int (iI x1_6)), (2, .int (iI x2_7)), (3, .int (iI 1)), (4, .int (iI 0))]) [1, 2, 3, 4, 0] dX0_added_57 (by decide) rfl ?_
      refine lp2_r (fun x3_12 x4_13 => G s_5 59 [(0, .ref (ad 0)), (1, .int (iI x1_6)), (2, .int (iI x2_7)), (3, .int (iI x3_12)), (4, .int (iI x4_13))] []) h (fun x3_12 x4_13 K_14 h ih_15 => ?_)
      refine jw_iload F 4 dX0_added_59 rfl ?_
      refine jw_aload_n F 0 dX0_added_61 rfl rfl ?_
      refine gx_X0_170_0 F dX0_added_62 ?_
      obtain ⟨o_16, h⟩ := h
      obtain ⟨o_17, h⟩ := h
      refine jw_icmp_ge F o_16 o_17 (tgt := 130) dX0_added_65 (by decide) (fun c => ?_) (fun c => ?_)
      · have h := h.1 (c)
        refine jw_iload_n F 1 dX0_added_130 rfl rfl ?_
        refine jw_iload_n F 3 dX0_added_131 rfl rfl ?_
        obtain ⟨o_18, h⟩ := h
        refine jn1_r (fun v_19 => G s_5 140 [(0, .ref (ad 0)), (2, .int (iI x2_7))] [.int (iI v_19), .int (iI x1_6)]) h (fun v_19 h => ?_) (fun K_20 h j_21 => ?_)
        · refine jw_iadd F dX0_added_140 ?_
          refine jw_istore_n F (lv' := [(0, .ref (ad 0)), (1, .int (iI (x1_6 + v_19))), (2, .int (iI x2_7))]) [1, 0, 2] dX0_added_141 rfl (by decide) rfl ?_
          refine jw_iinc F (lv' := [(0, .ref (ad 0)), (1, .int (iI (x1_6 + v_19))), (2, .int (iI (x2_7 + 1)))]) 2 [1, 2, 0] dX0_added_142 rfl (by decide) rfl ?_
          refine jw_goto F (tgt := 43) dX0_added_145 (by decide) ?_
          exact ih_9 _ _ h
        · refine jw_if_eq F o_18 (tgt := 139) dX0_added_132 (by decide) (fun c => ?_) (fun c => ?_)
          · have h := h.1 (c)
            refine jw_iconst F dX0_added_139 ?_
            refine jw_sub F (lv' := [(0, .ref (ad 0)), (2, .int (iI x2_7))]) [0, 2] rfl ?_
            exact j_21 _ h
          · have h := h.2 (c)
            refine jw_iconst F dX0_added_135 ?_
            refine jw_goto F (tgt := 140) dX0_added_136 (by decide) ?_
            refine jw_sub F (lv' := [(0, .ref (ad 0)), (2, .int (iI x2_7))]) [0, 2] rfl ?_
            exact j_21 _ h
      · have h := h.2 (c)
        refine jw_aload_n F 0 dX0_added_68 rfl rfl ?_
        refine gx_X0_23_0 F dX0_added_69 ?_
        refine gx_X0_185_1 F dX0_added_72 ?_
        refine jw_aload_n F 0 dX0_added_75 rfl rfl ?_
        refine gx_X0_34_0 F dX0_added_76 ?_
        refine jw_iload F 4 dX0_added_79 rfl ?_
        obtain ⟨o_22, o_23, h⟩ := h
        refine jw_iald F (xO dA ad) (k := 5) (by decide) (xa_5 dA ad) 0 rfl (by decide) o_22 o_23 dX0_added_81 ?_
        obtain ⟨o_24, o_25, h⟩ := h
        refine jw_aald F (xO dA ad) (k := 18) (by decide) (xa_18 dA ad) 3 rfl rfl (by decide) o_24 o_25 dX0_added_82 ?_
        refine jw_astore F (lv' := [(0, .ref (ad 0)), (1, .int (iI x1_6)), (2, .int (iI x2_7)), (3, .int (iI x3_12)), (4, .int (iI x4_13)), (5, .ref (ad (36 + ((s_5 5 x4_13) : Int).toNat)))]) [1, 2, 3, 4, 5, 0] dX0_added_83 (by decide) rfl ?_
        refine jw_iload_n F 3 dX0_added_85 rfl rfl ?_
        refine jw_aload_n F 0 dX0_added_86 rfl rfl ?_
        refine gx_X0_27_0 F dX0_added_87 ?_
        refine gx_X0_154_2 F dX0_added_90 ?_
        refine jw_aload_n F 0 dX0_added_93 rfl rfl ?_
        refine gx_X0_27_0 F dX0_added_94 ?_
        refine jw_aload F 5 dX0_added_97 rfl ?_
        refine jw_iconst F dX0_added_99 ?_
        refine jw_iald F (xO dA ad) (k := (36 + ((s_5 5 x4_13) : Int).toNat)) (by omega) (xr_3 dA ad (by omega) (by omega)) 0 rfl (by decide) (by decide) (by decide) dX0_added_100 ?_
        refine jw_aload F 5 dX0_added_101 rfl ?_
        refine jw_iconst F dX0_added_103 ?_
        refine jw_iald F (xO dA ad) (k := (36 + ((s_5 5 x4_13) : Int).toNat)) (by omega) (xr_3 dA ad (by omega) (by omega)) 0 rfl (by decide) (by decide) (by decide) dX0_added_104 ?_
        refine jw_aload F 5 dX0_added_105 rfl ?_
        refine jw_iconst F dX0_added_107 ?_
        refine jw_iald F (xO dA ad) (k := (36 + ((s_5 5 x4_13) : Int).toNat)) (by omega) (xr_3 dA ad (by omega) (by omega)) 0 rfl (by decide) (by decide) (by decide) dX0_added_108 ?_
        refine jw_callVip F (wk_X1_number_2 h) (lw_V q595 q214 q215 q74 q216) hd_X1_number ⟨rfl, rfl, Nat.le_of_ble_eq_true rfl, Nat.le_of_ble_eq_true rfl⟩ rfl rfl (xh_2 dA ad _) rfl rfl rfl (Nat.le_of_ble_eq_true rfl) dX0_added_109 (fun r_26 h => ?_)
        obtain ⟨o_28, o_29, h⟩ := h
        refine jw_iald F (xO dA ad) (k := 23) (by decide) (xa_23 dA ad) 0 rfl (by decide) o_28 o_29 dX0_added_112 ?_
        refine jw_iload_n F 2 dX0_added_113 rfl rfl ?_
        obtain ⟨o_30, h⟩ := h
        obtain ⟨o_31, h⟩ := h
        refine jn1_r (fun v_32 => G s_5 122 [(0, .ref (ad 0)), (1, .int (iI x1_6)), (2, .int (iI x2_7)), (4, .int (iI x4_13))] [.int (iI v_32), .int (iI x3_12)]) h (fun v_32 h => ?_) (fun K_33 h j_34 => ?_)
        · obtain ⟨o_35, h⟩ := h
          obtain ⟨o_36, h⟩ := h
          refine jw_iand F o_35 o_36 dX0_added_122 ?_
          refine jw_istore_n F (lv' := [(0, .ref (ad 0)), (1, .int (iI x1_6)), (2, .int (iI x2_7)), (3, .int (iI (band x3_12 v_32))), (4, .int (iI x4_13))]) [1, 2, 3, 0, 4] dX0_added_123 rfl (by decide) rfl ?_
          refine jw_iinc F (lv' := [(0, .ref (ad 0)), (1, .int (iI x1_6)), (2, .int (iI x2_7)), (3, .int (iI (band x3_12 v_32))), (4, .int (iI (x4_13 + 1)))]) 4 [1, 2, 3, 4, 0] dX0_added_124 rfl (by decide) rfl ?_
          refine jw_goto F (tgt := 59) dX0_added_127 (by decide) ?_
          exact ih_15 _ _ h
        · refine jw_icmp_eq F o_30 o_31 (tgt := 121) dX0_added_114 (by decide) (fun c => ?_) (fun c => ?_)
          · have h := h.1 (c)
            refine jw_iconst F dX0_added_121 ?_
            refine jw_sub F (lv' := [(0, .ref (ad 0)), (1, .int (iI x1_6)), (2, .int (iI x2_7)), (4, .int (iI x4_13))]) [0, 1, 2, 4] rfl ?_
            exact j_34 _ h
          · have h := h.2 (c)
            refine jw_iconst F dX0_added_117 ?_
            refine jw_goto F (tgt := 122) dX0_added_118 (by decide) ?_
            refine jw_sub F (lv' := [(0, .ref (ad 0)), (1, .int (iI x1_6)), (2, .int (iI x2_7)), (4, .int (iI x4_13))]) [0, 1, 2, 4] rfl ?_
            exact j_34 _ h
  · have h := h.2 (c)
    refine jw_bipush F (z := (-103)) dX0_added_12 (by decide) ?_
    exact rt _ _ _ _ dX0_added_14 h
theorem hd_X0_houseOf : yX0_houseOf.cls = RX0 ∧ yX0_houseOf.cls ≠ "java/lang/invoke/MethodHandle" ∧ yX0_houseOf.cls ≠ "java/lang/invoke/VarHandle" ∧ (parseMethodDescriptor yX0_houseOf.desc).map (fun d => d.parameters.length) = some 2 := by decide +kernel
set_option maxHeartbeats 4000000 in
set_option maxRecDepth 100000 in
theorem wk_X0_houseOf {l : Launch} {D : va_G} {dA : Nat → ClassId} {ad : Nat → Nat} {s : Sg} {a1 a2 : Int} {Q : Int → Prop} (h : wp_X0_houseOf a1 a2 s Q) : MXi l D dA (xwf dA ad) yX0_houseOf cX0_houseOf 4 .int ({ frames := 0, cells := 0, slots := 0, locals := 0 } : Room) [.ref (ad 0), .int (iI a1), .int (iI a2)] s (fun z s' => s' = s ∧ Q z) := by
  unfold wp_X0_houseOf at h
  refine jw_start_i (own := RX0) (lv0 := [(0, .ref (ad 0)), (1, .int (iI a1)), (2, .int (iI a2))]) (by decide) rfl (Nat.le_of_ble_eq_true rfl) rfl (fun G F rt => ?_)
  refine jw_aload_n F 0 dX0_houseOf_0 rfl rfl ?_
  refine gx_X0_23_0 F dX0_houseOf_1 ?_
  refine gx_X0_185_1 F dX0_houseOf_4 ?_
  refine jw_iload_n F 1 dX0_houseOf_7 rfl rfl ?_
  obtain ⟨o_1, o_2, h⟩ := h
  refine jw_aald F (xO dA ad) (k := 18) (by decide) (xa_18 dA ad) 3 rfl rfl (by decide) o_1 o_2 dX0_houseOf_8 ?_
  refine jw_astore_n F (lv' := [(0, .ref (ad 0)), (1, .int (iI a1)), (2, .int (iI a2)), (3, .ref (ad (36 + (a1 : Int).toNat)))]) [1, 2, 3, 0] dX0_houseOf_9 rfl (by decide) rfl ?_
  refine jw_aload_n F 3 dX0_houseOf_10 rfl rfl ?_
  refine jw_iconst F dX0_houseOf_11 ?_
  refine jw_iald F (xO dA ad) (k := (36 + (a1 : Int).toNat)) (by omega) (xr_3 dA ad (by omega) (by omega)) 0 rfl (by decide) (by decide) (by decide) dX0_houseOf_12 ?_
  refine jw_aload_n F 3 dX0_houseOf_13 rfl rfl ?_
  refine jw_iconst F dX0_houseOf_14 ?_
  refine jw_iald F (xO dA ad) (k := (36 + (a1 : Int).toNat)) (by omega) (xr_3 dA ad (by omega) (by omega)) 0 rfl (by decide) (by decide) (by decide) dX0_houseOf_15 ?_
  refine jw_iadd F dX0_houseOf_16 ?_
  refine jw_aload_n F 3 dX0_houseOf_17 rfl rfl ?_
  refine jw_iconst F dX0_houseOf_18 ?_
  refine jw_iald F (xO dA ad) (k := (36 + (a1 : Int).toNat)) (by omega) (xr_3 dA ad (by omega) (by omega)) 0 rfl (by decide) (by decide) (by decide) dX0_houseOf_19 ?_
  refine jw_iadd F dX0_houseOf_20 ?_
  refine jw_iload_n F 2 dX0_houseOf_21 rfl rfl ?_
  obtain ⟨o_3, o_4, o_5, o_6, h⟩ := h
  refine jw_irem F o_3 o_4 o_5 o_6 dX0_houseOf_22 ?_
  exact rt _ _ _ _ dX0_houseOf_23 ⟨rfl, h⟩
theorem hd_X0_planTold : yX0_planTold.cls = RX0 ∧ yX0_planTold.cls ≠ "java/lang/invoke/MethodHandle" ∧ yX0_planTold.cls ≠ "java/lang/invoke/VarHandle" ∧ (parseMethodDescriptor yX0_planTold.desc).map (fun d => d.parameters.length) = some 2 := by decide +kernel
set_option maxHeartbeats 4000000 in
set_option maxRecDepth 100000 in
theorem wk_X0_planTold {l : Launch} {D : va_G} {dA : Nat → ClassId} {ad : Nat → Nat} {s : Sg} {a1 a2 : Int} {Q : Int → Prop} (h : wp_X0_planTold a1 a2 s Q) : MXi l D dA (xwf dA ad) yX0_planTold cX0_planTold 8 .int ({ frames := 1, cells := 0, slots := 0, locals := 30 } : Room) [.ref (ad 0), .int (iI a1), .int (iI a2)] s (fun z s' => s' = s ∧ Q z) := by
  unfold wp_X0_planTold at h
  refine jw_start_i (own := RX0) (lv0 := [(0, .ref (ad 0)), (1, .int (iI a1)), (2, .int (iI a2))]) (by decide) rfl (Nat.le_of_ble_eq_true rfl) rfl (fun G F rt => ?_)
  refine jw_iconst F dX0_planTold_0 ?_
  refine jw_istore_n F (lv' := [(0, .ref (ad 0)), (1, .int (iI a1)), (2, .int (iI a2)), (3, .int (iI 1))]) [1, 2, 3, 0] dX0_planTold_1 rfl (by decide) rfl ?_
  refine jw_bipush F (z := 84) dX0_planTold_2 (by decide) ?_
  refine jw_istore F (lv' := [(0, .ref (ad 0)), (1, .int (iI a1)), (2, .int (iI a2)), (3, .int (iI 1)), (4, .int (iI 84))]) [1, 2, 3, 4, 0] dX0_planTold_4 (by decide) rfl ?_
  refine jw_iconst F dX0_planTold_6 ?_
  refine jw_istore F (lv' := [(0, .ref (ad 0)), (1, .int (iI a1)), (2, .int (iI a2)), (3, .int (iI 1)), (4, .int (iI 84)), (5, .int (iI 0))]) [1, 2, 3, 4, 5, 0] dX0_planTold_7 (by decide) rfl ?_
  refine lp3_r (fun x3_1 x4_2 x5_3 => G s 9 [(0, .ref (ad 0)), (1, .int (iI a1)), (2, .int (iI a2)), (3, .int (iI x3_1)), (4, .int (iI x4_2)), (5, .int (iI x5_3))] []) h (fun x3_1 x4_2 x5_3 K_4 h ih_5 => ?_)
  refine jw_iload F 5 dX0_planTold_9 rfl ?_
  refine jw_iload_n F 1 dX0_planTold_11 rfl rfl ?_
  obtain ⟨o_6, h⟩ := h
  obtain ⟨o_7, h⟩ := h
  refine jw_icmp_ge F o_6 o_7 (tgt := 117) dX0_planTold_12 (by decide) (fun c => ?_) (fun c => ?_)
  · have h := h.1 (c)
    refine jw_iload_n F 2 dX0_planTold_117 rfl rfl ?_
    refine jw_iconst F dX0_planTold_118 ?_
    obtain ⟨o_8, h⟩ := h
    refine jw_icmp_ne F o_8 (by decide) (tgt := 127) dX0_planTold_119 (by decide) (fun c => ?_) (fun c => ?_)
    · have h := h.1 (c)
      refine jw_iload_n F 3 dX0_planTold_127 rfl rfl ?_
      obtain ⟨o_9, h⟩ := h
      refine jw_if_eq F o_9 (tgt := 135) dX0_planTold_128 (by decide) (fun c => ?_) (fun c => ?_)
      · have h := h.1 (c)
        refine jw_iconst F dX0_planTold_135 ?_
        exact rt _ _ _ _ dX0_planTold_136 ⟨rfl, h⟩
      · have h := h.2 (c)
        refine jw_iconst F dX0_planTold_131 ?_
        refine jw_goto F (tgt := 136) dX0_planTold_132 (by decide) ?_
        exact rt _ _ _ _ dX0_planTold_136 ⟨rfl, h⟩
    · have h := h.2 (c)
      refine jw_iload F 4 dX0_planTold_122 rfl ?_
      refine jw_goto F (tgt := 136) dX0_planTold_124 (by decide) ?_
      exact rt _ _ _ _ dX0_planTold_136 ⟨rfl, h⟩
  · have h := h.2 (c)
    refine jw_iconst F dX0_planTold_15 ?_
    refine jw_istore F (lv' := [(0, .ref (ad 0)), (1, .int (iI a1)), (2, .int (iI a2)), (3, .int (iI x3_1)), (4, .int (iI x4_2)), (5, .int (iI x5_3)), (6, .int (iI 0))]) [1, 2, 3, 4, 5, 6, 0] dX0_planTold_16 (by decide) rfl ?_
    refine jw_iconst F dX0_planTold_18 ?_
    refine jw_istore F (lv' := [(0, .ref (ad 0)), (1, .int (iI a1)), (2, .int (iI a2)), (3, .int (iI x3_1)), (4, .int (iI x4_2)), (5, .int (iI x5_3)), (6, .int (iI 0)), (7, .int (iI 0))]) [1, 2, 3, 4, 5, 6, 7, 0] dX0_planTold_19 (by decide) rfl ?_
    refine lp3_r (fun x3_10 x6_11 x7_12 => G s 21 [(0, .ref (ad 0)), (1, .int (iI a1)), (2, .int (iI a2)), (3, .int (iI x3_10)), (4, .int (iI x4_2)), (5, .int (iI x5_3)), (6, .int (iI x6_11)), (7, .int (iI x7_12))] []) h (fun x3_10 x6_11 x7_12 K_13 h ih_14 => ?_)
    refine jw_iload F 7 dX0_planTold_21 rfl ?_
    refine jw_aload_n F 0 dX0_planTold_23 rfl rfl ?_
    refine gx_X0_23_0 F dX0_planTold_24 ?_
    refine gx_X0_151_1 F dX0_planTold_27 ?_
    obtain ⟨o_15, h⟩ := h
    obtain ⟨o_16, h⟩ := h
    refine jw_icmp_ge F o_15 o_16 (tgt := 102) dX0_planTold_30 (by decide) (fun c => ?_) (fun c => ?_)
    · have h := h.1 (c)
      refine jw_iload F 4 dX0_planTold_102 rfl ?_
      refine jw_iload F 6 dX0_planTold_104 rfl ?_
      obtain ⟨o_17, h⟩ := h
      obtain ⟨o_18, h⟩ := h
      refine jw_mmin F o_17 o_18 q783 q514 q87 q515 ⟨Nat.le_of_ble_eq_true rfl, Nat.le_of_ble_eq_true rfl⟩ (Nat.le_of_ble_eq_true rfl) dX0_planTold_106 ?_
      refine jw_istore F (lv' := [(0, .ref (ad 0)), (1, .int (iI a1)), (2, .int (iI a2)), (3, .int (iI x3_10)), (4, .int (iI (imin x4_2 x6_11))), (5, .int (iI x5_3)), (6, .int (iI x6_11)), (7, .int (iI x7_12))]) [1, 2, 3, 4, 0, 5, 6, 7] dX0_planTold_109 (by decide) rfl ?_
      refine jw_iinc F (lv' := [(0, .ref (ad 0)), (1, .int (iI a1)), (2, .int (iI a2)), (3, .int (iI x3_10)), (4, .int (iI (imin x4_2 x6_11))), (5, .int (iI (x5_3 + 1))), (6, .int (iI x6_11)), (7, .int (iI x7_12))]) 5 [1, 2, 3, 4, 5, 0, 6, 7] dX0_planTold_111 rfl (by decide) rfl ?_
      refine jw_goto F (tgt := 9) dX0_planTold_114 (by decide) ?_
      refine jw_sub F (lv' := [(0, .ref (ad 0)), (1, .int (iI a1)), (2, .int (iI a2)), (3, .int (iI x3_10)), (4, .int (iI (imin x4_2 x6_11))), (5, .int (iI (x5_3 + 1)))]) [0, 1, 2, 3, 4, 5] rfl ?_
      exact ih_5 _ _ _ h
    · have h := h.2 (c)
      refine jw_iload F 6 dX0_planTold_33 rfl ?_
      refine jw_aload_n F 0 dX0_planTold_35 rfl rfl ?_
      refine jw_iload F 7 dX0_planTold_36 rfl ?_
      refine jw_iload_n F 1 dX0_planTold_38 rfl rfl ?_
      refine jw_callVip F (wk_X0_houseOf h) (lw_V q779 q781 qs37 q70 q782) hd_X0_houseOf ⟨rfl, rfl, Nat.le_of_ble_eq_true rfl, Nat.le_of_ble_eq_true rfl⟩ rfl rfl (xh_0 dA ad _) rfl rfl rfl (Nat.le_of_ble_eq_true rfl) dX0_planTold_39 (fun r_19 h => ?_)
      refine jw_iload F 5 dX0_planTold_42 rfl ?_
      obtain ⟨o_21, h⟩ := h
      obtain ⟨o_22, h⟩ := h
      refine jn1_r (fun v_23 => G s 52 [(0, .ref (ad 0)), (1, .int (iI a1)), (2, .int (iI a2)), (3, .int (iI x3_10)), (4, .int (iI x4_2)), (5, .int (iI x5_3)), (7, .int (iI x7_12))] [.int (iI v_23), .int (iI x6_11)]) h (fun v_23 h => ?_) (fun K_24 h j_25 => ?_)
      · refine jw_iadd F dX0_planTold_52 ?_
        refine jw_istore F (lv' := [(0, .ref (ad 0)), (1, .int (iI a1)), (2, .int (iI a2)), (3, .int (iI x3_10)), (4, .int (iI x4_2)), (5, .int (iI x5_3)), (6, .int (iI (x6_11 + v_23))), (7, .int (iI x7_12))]) [1, 2, 3, 4, 5, 6, 0, 7] dX0_planTold_53 (by decide) rfl ?_
        refine jw_iload_n F 3 dX0_planTold_55 rfl rfl ?_
        refine jw_aload_n F 0 dX0_planTold_56 rfl rfl ?_
        refine jw_iload F 7 dX0_planTold_57 rfl ?_
        refine jw_iload_n F 1 dX0_planTold_59 rfl rfl ?_
        refine jw_callVip F (wk_X0_houseOf h) (lw_V q779 q781 qs37 q70 q782) hd_X0_houseOf ⟨rfl, rfl, Nat.le_of_ble_eq_true rfl, Nat.le_of_ble_eq_true rfl⟩ rfl rfl (xh_0 dA ad _) rfl rfl rfl (Nat.le_of_ble_eq_true rfl) dX0_planTold_60 (fun r_26 h => ?_)
        refine jw_aload_n F 0 dX0_planTold_63 rfl rfl ?_
        refine jw_aload_n F 0 dX0_planTold_64 rfl rfl ?_
        refine gx_X0_23_0 F dX0_planTold_65 ?_
        refine gx_X0_157_1 F dX0_planTold_68 ?_
        refine jw_aload_n F 0 dX0_planTold_71 rfl rfl ?_
        refine gx_X0_23_0 F dX0_planTold_72 ?_
        refine gx_X0_154_1 F dX0_planTold_75 ?_
        refine jw_iload F 7 dX0_planTold_78 rfl ?_
        obtain ⟨o_28, o_29, h⟩ := h
        refine jw_iald F (xO dA ad) (k := 19) (by decide) (xa_19 dA ad) 0 rfl (by decide) o_28 o_29 dX0_planTold_80 ?_
        obtain ⟨o_30, o_31, h⟩ := h
        refine jw_iald F (xO dA ad) (k := 20) (by decide) (xa_20 dA ad) 0 rfl (by decide) o_30 o_31 dX0_planTold_81 ?_
        refine jw_iload_n F 1 dX0_planTold_82 rfl rfl ?_
        refine jw_callVip F (wk_X0_houseOf h) (lw_V q779 q781 qs37 q70 q782) hd_X0_houseOf ⟨rfl, rfl, Nat.le_of_ble_eq_true rfl, Nat.le_of_ble_eq_true rfl⟩ rfl rfl (xh_0 dA ad _) rfl rfl rfl (Nat.le_of_ble_eq_true rfl) dX0_planTold_83 (fun r_32 h => ?_)
        obtain ⟨o_34, h⟩ := h
        obtain ⟨o_35, h⟩ := h
        refine jn1_r (fun v_36 => G s 94 [(0, .ref (ad 0)), (1, .int (iI a1)), (2, .int (iI a2)), (4, .int (iI x4_2)), (5, .int (iI x5_3)), (6, .int (iI (x6_11 + v_23))), (7, .int (iI x7_12))] [.int (iI v_36), .int (iI x3_10)]) h (fun v_36 h => ?_) (fun K_37 h j_38 => ?_)
        · obtain ⟨o_39, h⟩ := h
          obtain ⟨o_40, h⟩ := h
          refine jw_iand F o_39 o_40 dX0_planTold_94 ?_
          refine jw_istore_n F (lv' := [(0, .ref (ad 0)), (1, .int (iI a1)), (2, .int (iI a2)), (3, .int (iI (band x3_10 v_36))), (4, .int (iI x4_2)), (5, .int (iI x5_3)), (6, .int (iI (x6_11 + v_23))), (7, .int (iI x7_12))]) [1, 2, 3, 0, 4, 5, 6, 7] dX0_planTold_95 rfl (by decide) rfl ?_
          refine jw_iinc F (lv' := [(0, .ref (ad 0)), (1, .int (iI a1)), (2, .int (iI a2)), (3, .int (iI (band x3_10 v_36))), (4, .int (iI x4_2)), (5, .int (iI x5_3)), (6, .int (iI (x6_11 + v_23))), (7, .int (iI (x7_12 + 1)))]) 7 [1, 2, 3, 4, 5, 6, 7, 0] dX0_planTold_96 rfl (by decide) rfl ?_
          refine jw_goto F (tgt := 21) dX0_planTold_99 (by decide) ?_
          exact ih_14 _ _ _ h
        · refine jw_icmp_ne F o_34 o_35 (tgt := 93) dX0_planTold_86 (by decide) (fun c => ?_) (fun c => ?_)
          · have h := h.1 (c)
            refine jw_iconst F dX0_planTold_93 ?_
            refine jw_sub F (lv' := [(0, .ref (ad 0)), (1, .int (iI a1)), (2, .int (iI a2)), (4, .int (iI x4_2)), (5, .int (iI x5_3)), (6, .int (iI (x6_11 + v_23))), (7, .int (iI x7_12))]) [0, 1, 2, 4, 5, 6, 7] rfl ?_
            exact j_38 _ h
          · have h := h.2 (c)
            refine jw_iconst F dX0_planTold_89 ?_
            refine jw_goto F (tgt := 94) dX0_planTold_90 (by decide) ?_
            refine jw_sub F (lv' := [(0, .ref (ad 0)), (1, .int (iI a1)), (2, .int (iI a2)), (4, .int (iI x4_2)), (5, .int (iI x5_3)), (6, .int (iI (x6_11 + v_23))), (7, .int (iI x7_12))]) [0, 1, 2, 4, 5, 6, 7] rfl ?_
            exact j_38 _ h
      · refine jw_icmp_ne F o_21 o_22 (tgt := 51) dX0_planTold_44 (by decide) (fun c => ?_) (fun c => ?_)
        · have h := h.1 (c)
          refine jw_iconst F dX0_planTold_51 ?_
          refine jw_sub F (lv' := [(0, .ref (ad 0)), (1, .int (iI a1)), (2, .int (iI a2)), (3, .int (iI x3_10)), (4, .int (iI x4_2)), (5, .int (iI x5_3)), (7, .int (iI x7_12))]) [0, 1, 2, 3, 4, 5, 7] rfl ?_
          exact j_25 _ h
        · have h := h.2 (c)
          refine jw_iconst F dX0_planTold_47 ?_
          refine jw_goto F (tgt := 52) dX0_planTold_48 (by decide) ?_
          refine jw_sub F (lv' := [(0, .ref (ad 0)), (1, .int (iI a1)), (2, .int (iI a2)), (3, .int (iI x3_10)), (4, .int (iI x4_2)), (5, .int (iI x5_3)), (7, .int (iI x7_12))]) [0, 1, 2, 3, 4, 5, 7] rfl ?_
          exact j_25 _ h
theorem hd_X0_plan : yX0_plan.cls = RX0 ∧ yX0_plan.cls ≠ "java/lang/invoke/MethodHandle" ∧ yX0_plan.cls ≠ "java/lang/invoke/VarHandle" ∧ (parseMethodDescriptor yX0_plan.desc).map (fun d => d.parameters.length) = some 2 := by decide +kernel
set_option maxHeartbeats 4000000 in
set_option maxRecDepth 100000 in
theorem wk_X0_plan {l : Launch} {D : va_G} {dA : Nat → ClassId} {ad : Nat → Nat} {s : Sg} {a1 a2 : Int} {Q : Int → Prop} (h : wp_X0_plan a1 a2 s Q) : MXi l D dA (xwf dA ad) yX0_plan cX0_plan 3 .int ({ frames := 2, cells := 0, slots := 0, locals := 57 } : Room) [.ref (ad 0), .int (iI a1), .int (iI a2)] s (fun z s' => s' = s ∧ Q z) := by
  unfold wp_X0_plan at h
  refine jw_start_i (own := RX0) (lv0 := [(0, .ref (ad 0)), (1, .int (iI a1)), (2, .int (iI a2))]) (by decide) rfl (Nat.le_of_ble_eq_true rfl) rfl (fun G F rt => ?_)
  refine jw_iload_n F 1 dX0_plan_0 rfl rfl ?_
  refine jw_iconst F dX0_plan_1 ?_
  refine jw_bipush F (z := 9) dX0_plan_2 (by decide) ?_
  refine jw_callSzp F (wk_X0_in h) (lw_S q534 q449 q70 q450) hd_X0_in ⟨rfl, rfl, Nat.le_of_ble_eq_true rfl, Nat.le_of_ble_eq_true rfl⟩ rfl rfl (Nat.le_of_ble_eq_true rfl) dX0_plan_4 (fun r_1 hb_r_1 h => ?_)
  refine jw_if_eq F (rg01 hb_r_1) (tgt := 28) dX0_plan_7 (by decide) (fun c => ?_) (fun c => ?_)
  · have h := h.1 (c)
    refine jw_bipush F (z := (-102)) dX0_plan_28 (by decide) ?_
    exact rt _ _ _ _ dX0_plan_30 ⟨rfl, h⟩
  · have h := h.2 (c)
    refine jw_iload_n F 2 dX0_plan_10 rfl rfl ?_
    refine jw_iconst F dX0_plan_11 ?_
    refine jw_iconst F dX0_plan_12 ?_
    refine jw_callSzp F (wk_X0_in h) (lw_S q534 q449 q70 q450) hd_X0_in ⟨rfl, rfl, Nat.le_of_ble_eq_true rfl, Nat.le_of_ble_eq_true rfl⟩ rfl rfl (Nat.le_of_ble_eq_true rfl) dX0_plan_13 (fun r_3 hb_r_3 h => ?_)
    refine jw_if_eq F (rg01 hb_r_3) (tgt := 28) dX0_plan_16 (by decide) (fun c => ?_) (fun c => ?_)
    · have h := h.1 (c)
      refine jw_bipush F (z := (-102)) dX0_plan_28 (by decide) ?_
      exact rt _ _ _ _ dX0_plan_30 ⟨rfl, h⟩
    · have h := h.2 (c)
      refine jw_aload_n F 0 dX0_plan_19 rfl rfl ?_
      refine jw_iload_n F 1 dX0_plan_20 rfl rfl ?_
      refine jw_iload_n F 2 dX0_plan_21 rfl rfl ?_
      refine jw_callVip F (wk_X0_planTold h) (lw_V q775 q777 qs36 q70 q778) hd_X0_planTold ⟨rfl, rfl, Nat.le_of_ble_eq_true rfl, Nat.le_of_ble_eq_true rfl⟩ rfl rfl (xh_0 dA ad _) rfl rfl rfl (Nat.le_of_ble_eq_true rfl) dX0_plan_22 (fun r_5 h => ?_)
      refine jw_goto F (tgt := 30) dX0_plan_25 (by decide) ?_
      exact rt _ _ _ _ dX0_plan_30 ⟨rfl, h⟩
theorem hd_X0_copy : yX0_copy.cls ≠ "java/lang/invoke/MethodHandle" ∧ yX0_copy.cls ≠ "java/lang/invoke/VarHandle" ∧ (parseMethodDescriptor yX0_copy.desc).map (fun d => d.parameters.length) = some 2 := by decide +kernel
set_option maxHeartbeats 4000000 in
set_option maxRecDepth 100000 in
theorem wk_X0_copy {l : Launch} {D : va_G} {dA : Nat → ClassId} {ad : Nat → Nat} {s : Sg} {Q : Sg → Prop} {k1 k2 n1 n2 : Nat} (hk1 : k1 < 1300) (hk2 : k2 < 1300) (hm1 : ∀ v, xmk dA ad k1 v = .inl (dA 0, n1, .inl (fun (j : Nat) => iI (v (j : Int))))) (hm2 : ∀ v, xmk dA ad k2 v = .inl (dA 0, n2, .inl (fun (j : Nat) => iI (v (j : Int))))) (hn1 : (n1 : Int) ≤ 2147483647) (hn2 : (n2 : Int) ≤ 2147483647) (h : wp_X0_copy k1 k2 n1 n2 s Q) : MXv l D dA (xwf dA ad) yX0_copy cX0_copy 3 ({ frames := 0, cells := 0, slots := 0, locals := 0 } : Room) [.ref (ad k1), .ref (ad k2)] s Q := by
  unfold wp_X0_copy at h
  refine jw_start_v (own := RX0) (lv0 := [(0, .ref (ad k1)), (1, .ref (ad k2))]) (by decide) rfl (Nat.le_of_ble_eq_true rfl) rfl (fun G F rt => ?_)
  refine jw_iconst F dX0_copy_0 ?_
  refine jw_istore_n F (lv' := [(0, .ref (ad k1)), (1, .ref (ad k2)), (2, .int (iI 0))]) [1, 2, 0] dX0_copy_1 rfl (by decide) rfl ?_
  refine lp2_r (fun x2_1 s_2 => G s_2 2 [(0, .ref (ad k1)), (1, .ref (ad k2)), (2, .int (iI x2_1))] []) h (fun x2_1 s_2 K_3 h ih_4 => ?_)
  refine jw_iload_n F 2 dX0_copy_2 rfl rfl ?_
  refine jw_aload_n F 1 dX0_copy_3 rfl rfl ?_
  refine jw_alen F (xO dA ad) hk2 hm2 0 rfl dX0_copy_4 ?_
  obtain ⟨o_5, h⟩ := h
  obtain ⟨o_6, h⟩ := h
  refine jw_icmp_ge F o_5 o_6 (tgt := 20) dX0_copy_5 (by decide) (fun c => ?_) (fun c => ?_)
  · have h := h.1 (c)
    exact rt _ _ _ dX0_copy_20 h
  · have h := h.2 (c)
    refine jw_aload_n F 1 dX0_copy_8 rfl rfl ?_
    refine jw_iload_n F 2 dX0_copy_9 rfl rfl ?_
    refine jw_aload_n F 0 dX0_copy_10 rfl rfl ?_
    refine jw_iload_n F 2 dX0_copy_11 rfl rfl ?_
    obtain ⟨o_7, o_8, h⟩ := h
    refine jw_iald F (xO dA ad) hk1 hm1 0 rfl hn1 o_7 o_8 dX0_copy_12 ?_
    obtain ⟨o_9, o_10, h⟩ := h
    refine jw_iast F (xO dA ad) hk2 hm2 0 rfl hn2 o_9 o_10 dX0_copy_13 ?_
    refine jw_iinc F (lv' := [(0, .ref (ad k1)), (1, .ref (ad k2)), (2, .int (iI (x2_1 + 1)))]) 2 [1, 2, 0] dX0_copy_14 rfl (by decide) rfl ?_
    refine jw_goto F (tgt := 2) dX0_copy_17 (by decide) ?_
    exact ih_4 _ _ h
theorem hd_X0_image : yX0_image.cls = RX0 ∧ yX0_image.cls ≠ "java/lang/invoke/MethodHandle" ∧ yX0_image.cls ≠ "java/lang/invoke/VarHandle" ∧ (parseMethodDescriptor yX0_image.desc).map (fun d => d.parameters.length) = some 0 := by decide +kernel
set_option maxHeartbeats 4000000 in
set_option maxRecDepth 100000 in
theorem wk_X0_image {l : Launch} {D : va_G} {dA : Nat → ClassId} {ad : Nat → Nat} {s : Sg} {Q : Int → Sg → Prop} (h : wp_X0_image s Q) : MXi l D dA (xwf dA ad) yX0_image cX0_image 2 .int ({ frames := 1, cells := 0, slots := 0, locals := 22 } : Room) [.ref (ad 0)] s Q := by
  unfold wp_X0_image at h
  refine jw_start_i (own := RX0) (lv0 := [(0, .ref (ad 0))]) (by decide) rfl (Nat.le_of_ble_eq_true rfl) rfl (fun G F rt => ?_)
  refine jw_aload_n F 0 dX0_image_0 rfl rfl ?_
  refine jw_iconst F dX0_image_1 ?_
  refine pgx_X0_299_0 F (by decide) dX0_image_2 ?_
  refine jw_aload_n F 0 dX0_image_5 rfl rfl ?_
  refine jw_aload_n F 0 dX0_image_6 rfl rfl ?_
  refine gx_X0_112_0 F dX0_image_7 ?_
  refine pgx_X0_303_0 F dX0_image_10 ?_
  refine jw_aload_n F 0 dX0_image_13 rfl rfl ?_
  refine jw_aload_n F 0 dX0_image_14 rfl rfl ?_
  refine gx_X0_173_0 F dX0_image_15 ?_
  refine pgx_X0_306_0 F dX0_image_18 ?_
  refine jw_aload_n F 0 dX0_image_21 rfl rfl ?_
  refine jw_aload_n F 0 dX0_image_22 rfl rfl ?_
  refine gx_X0_170_0 F dX0_image_23 ?_
  refine pgx_X0_309_0 F dX0_image_26 ?_
  refine jw_aload_n F 0 dX0_image_29 rfl rfl ?_
  refine jw_aload_n F 0 dX0_image_30 rfl rfl ?_
  refine gx_X0_115_0 F dX0_image_31 ?_
  refine pgx_X0_312_0 F dX0_image_34 ?_
  refine jw_aload_n F 0 dX0_image_37 rfl rfl ?_
  refine gx_X0_34_0 F dX0_image_38 ?_
  refine jw_aload_n F 0 dX0_image_41 rfl rfl ?_
  refine gx_X0_65_0 F dX0_image_42 ?_
  refine jw_callSv F (wk_X0_copy (by decide) (by decide) (xa_5 dA ad) (xa_14 dA ad) (by decide) (by decide) h) (lw_S q788 q789 q70 q790) hd_X0_copy ⟨rfl, rfl, Nat.le_of_ble_eq_true rfl, Nat.le_of_ble_eq_true rfl⟩ rfl rfl (Nat.le_of_ble_eq_true rfl) dX0_image_45 (fun s_2 hz => ?_)
  have h := hz
  refine jw_aload_n F 0 dX0_image_48 rfl rfl ?_
  refine gx_X0_45_0 F dX0_image_49 ?_
  refine jw_aload_n F 0 dX0_image_52 rfl rfl ?_
  refine gx_X0_71_0 F dX0_image_53 ?_
  refine jw_callSv F (wk_X0_copy (by decide) (by decide) (xa_8 dA ad) (xa_16 dA ad) (by decide) (by decide) h) (lw_S q788 q789 q70 q790) hd_X0_copy ⟨rfl, rfl, Nat.le_of_ble_eq_true rfl, Nat.le_of_ble_eq_true rfl⟩ rfl rfl (Nat.le_of_ble_eq_true rfl) dX0_image_56 (fun s_4 hz => ?_)
  have h := hz
  refine jw_aload_n F 0 dX0_image_59 rfl rfl ?_
  refine gx_X0_48_0 F dX0_image_60 ?_
  refine jw_aload_n F 0 dX0_image_63 rfl rfl ?_
  refine gx_X0_74_0 F dX0_image_64 ?_
  refine jw_callSv F (wk_X0_copy (by decide) (by decide) (xa_9 dA ad) (xa_17 dA ad) (by decide) (by decide) h) (lw_S q788 q789 q70 q790) hd_X0_copy ⟨rfl, rfl, Nat.le_of_ble_eq_true rfl, Nat.le_of_ble_eq_true rfl⟩ rfl rfl (Nat.le_of_ble_eq_true rfl) dX0_image_67 (fun s_6 hz => ?_)
  have h := hz
  refine jw_iconst F dX0_image_70 ?_
  refine jw_istore_n F (lv' := [(0, .ref (ad 0)), (1, .int (iI 0))]) [1, 0] dX0_image_71 rfl (by decide) rfl ?_
  refine lp2_r (fun x1_7 s_8 => G s_8 72 [(0, .ref (ad 0)), (1, .int (iI x1_7))] []) h (fun x1_7 s_8 K_9 h ih_10 => ?_)
  refine jw_iload_n F 1 dX0_image_72 rfl rfl ?_
  refine jw_iconst F dX0_image_73 ?_
  obtain ⟨o_11, h⟩ := h
  refine jw_icmp_ge F o_11 (by decide) (tgt := 98) dX0_image_74 (by decide) (fun c => ?_) (fun c => ?_)
  · have h := h.1 (c)
    refine jw_aload_n F 0 dX0_image_98 rfl rfl ?_
    refine gx_X0_170_0 F dX0_image_99 ?_
    exact rt _ _ _ _ dX0_image_102 h
  · have h := h.2 (c)
    refine jw_aload_n F 0 dX0_image_77 rfl rfl ?_
    refine gx_X0_42_0 F dX0_image_78 ?_
    refine jw_iload_n F 1 dX0_image_81 rfl rfl ?_
    obtain ⟨o_12, o_13, h⟩ := h
    refine jw_aald F (xO dA ad) (k := 7) (by decide) (xa_7 dA ad) 3 rfl rfl (by decide) o_12 o_13 dX0_image_82 ?_
    refine jw_aload_n F 0 dX0_image_83 rfl rfl ?_
    refine gx_X0_68_0 F dX0_image_84 ?_
    refine jw_iload_n F 1 dX0_image_87 rfl rfl ?_
    obtain ⟨o_14, o_15, h⟩ := h
    refine jw_aald F (xO dA ad) (k := 15) (by decide) (xa_15 dA ad) 3 rfl rfl (by decide) o_14 o_15 dX0_image_88 ?_
    refine jw_callSv F (wk_X0_copy (by omega) (by omega) (xr_6 dA ad (by omega) (by omega)) (xr_6 dA ad (by omega) (by omega)) (by decide) (by decide) h) (lw_S q788 q789 q70 q790) hd_X0_copy ⟨rfl, rfl, Nat.le_of_ble_eq_true rfl, Nat.le_of_ble_eq_true rfl⟩ rfl rfl (Nat.le_of_ble_eq_true rfl) dX0_image_89 (fun s_17 hz => ?_)
    have h := hz
    refine jw_iinc F (lv' := [(0, .ref (ad 0)), (1, .int (iI (x1_7 + 1)))]) 1 [1, 0] dX0_image_92 rfl (by decide) rfl ?_
    refine jw_goto F (tgt := 72) dX0_image_95 (by decide) ?_
    exact ih_10 _ _ h
theorem hd_X0_restore : yX0_restore.cls = RX0 ∧ yX0_restore.cls ≠ "java/lang/invoke/MethodHandle" ∧ yX0_restore.cls ≠ "java/lang/invoke/VarHandle" ∧ (parseMethodDescriptor yX0_restore.desc).map (fun d => d.parameters.length) = some 0 := by decide +kernel
set_option maxHeartbeats 4000000 in
set_option maxRecDepth 100000 in
theorem wk_X0_restore {l : Launch} {D : va_G} {dA : Nat → ClassId} {ad : Nat → Nat} {s : Sg} {Q : Int → Sg → Prop} (h : wp_X0_restore s Q) : MXi l D dA (xwf dA ad) yX0_restore cX0_restore 2 .int ({ frames := 1, cells := 0, slots := 0, locals := 22 } : Room) [.ref (ad 0)] s Q := by
  unfold wp_X0_restore at h
  refine jw_start_i (own := RX0) (lv0 := [(0, .ref (ad 0))]) (by decide) rfl (Nat.le_of_ble_eq_true rfl) rfl (fun G F rt => ?_)
  refine jw_aload_n F 0 dX0_restore_0 rfl rfl ?_
  refine gx_X0_299_0 F dX0_restore_1 ?_
  obtain ⟨o_1, h⟩ := h
  refine jw_if_eq F o_1 (tgt := 29) dX0_restore_4 (by decide) (fun c => ?_) (fun c => ?_)
  · have h := h.1 (c)
    refine jw_bipush F (z := (-103)) dX0_restore_29 (by decide) ?_
    exact rt _ _ _ _ dX0_restore_31 h
  · have h := h.2 (c)
    refine jw_aload_n F 0 dX0_restore_7 rfl rfl ?_
    refine gx_X0_303_0 F dX0_restore_8 ?_
    refine jw_aload_n F 0 dX0_restore_11 rfl rfl ?_
    refine gx_X0_112_0 F dX0_restore_12 ?_
    obtain ⟨o_2, h⟩ := h
    obtain ⟨o_3, h⟩ := h
    refine jw_icmp_ne F o_2 o_3 (tgt := 29) dX0_restore_15 (by decide) (fun c => ?_) (fun c => ?_)
    · have h := h.1 (c)
      refine jw_bipush F (z := (-103)) dX0_restore_29 (by decide) ?_
      exact rt _ _ _ _ dX0_restore_31 h
    · have h := h.2 (c)
      refine jw_aload_n F 0 dX0_restore_18 rfl rfl ?_
      refine gx_X0_306_0 F dX0_restore_19 ?_
      refine jw_aload_n F 0 dX0_restore_22 rfl rfl ?_
      refine gx_X0_173_0 F dX0_restore_23 ?_
      obtain ⟨o_4, h⟩ := h
      obtain ⟨o_5, h⟩ := h
      refine jw_icmp_eq F o_4 o_5 (tgt := 32) dX0_restore_26 (by decide) (fun c => ?_) (fun c => ?_)
      · have h := h.1 (c)
        refine jw_aload_n F 0 dX0_restore_32 rfl rfl ?_
        refine jw_aload_n F 0 dX0_restore_33 rfl rfl ?_
        refine gx_X0_309_0 F dX0_restore_34 ?_
        refine pgx_X0_170_0 F dX0_restore_37 ?_
        refine jw_aload_n F 0 dX0_restore_40 rfl rfl ?_
        refine jw_aload_n F 0 dX0_restore_41 rfl rfl ?_
        refine gx_X0_312_0 F dX0_restore_42 ?_
        refine pgx_X0_115_0 F dX0_restore_45 ?_
        refine jw_aload_n F 0 dX0_restore_48 rfl rfl ?_
        refine gx_X0_65_0 F dX0_restore_49 ?_
        refine jw_aload_n F 0 dX0_restore_52 rfl rfl ?_
        refine gx_X0_34_0 F dX0_restore_53 ?_
        refine jw_callSv F (wk_X0_copy (by decide) (by decide) (xa_14 dA ad) (xa_5 dA ad) (by decide) (by decide) h) (lw_S q788 q789 q70 q790) hd_X0_copy ⟨rfl, rfl, Nat.le_of_ble_eq_true rfl, Nat.le_of_ble_eq_true rfl⟩ rfl rfl (Nat.le_of_ble_eq_true rfl) dX0_restore_56 (fun s_7 hz => ?_)
        have h := hz
        refine jw_aload_n F 0 dX0_restore_59 rfl rfl ?_
        refine gx_X0_71_0 F dX0_restore_60 ?_
        refine jw_aload_n F 0 dX0_restore_63 rfl rfl ?_
        refine gx_X0_45_0 F dX0_restore_64 ?_
        refine jw_callSv F (wk_X0_copy (by decide) (by decide) (xa_16 dA ad) (xa_8 dA ad) (by decide) (by decide) h) (lw_S q788 q789 q70 q790) hd_X0_copy ⟨rfl, rfl, Nat.le_of_ble_eq_true rfl, Nat.le_of_ble_eq_true rfl⟩ rfl rfl (Nat.le_of_ble_eq_true rfl) dX0_restore_67 (fun s_9 hz => ?_)
        have h := hz
        refine jw_aload_n F 0 dX0_restore_70 rfl rfl ?_
        refine gx_X0_74_0 F dX0_restore_71 ?_
        refine jw_aload_n F 0 dX0_restore_74 rfl rfl ?_
        refine gx_X0_48_0 F dX0_restore_75 ?_
        refine jw_callSv F (wk_X0_copy (by decide) (by decide) (xa_17 dA ad) (xa_9 dA ad) (by decide) (by decide) h) (lw_S q788 q789 q70 q790) hd_X0_copy ⟨rfl, rfl, Nat.le_of_ble_eq_true rfl, Nat.le_of_ble_eq_true rfl⟩ rfl rfl (Nat.le_of_ble_eq_true rfl) dX0_restore_78 (fun s_11 hz => ?_)
        have h := hz
        refine jw_iconst F dX0_restore_81 ?_
        refine jw_istore_n F (lv' := [(0, .ref (ad 0)), (1, .int (iI 0))]) [1, 0] dX0_restore_82 rfl (by decide) rfl ?_
        refine lp2_r (fun x1_12 s_13 => G s_13 83 [(0, .ref (ad 0)), (1, .int (iI x1_12))] []) h (fun x1_12 s_13 K_14 h ih_15 => ?_)
        refine jw_iload_n F 1 dX0_restore_83 rfl rfl ?_
        refine jw_iconst F dX0_restore_84 ?_
        obtain ⟨o_16, h⟩ := h
        refine jw_icmp_ge F o_16 (by decide) (tgt := 109) dX0_restore_85 (by decide) (fun c => ?_) (fun c => ?_)
        · have h := h.1 (c)
          refine jw_aload_n F 0 dX0_restore_109 rfl rfl ?_
          refine gx_X0_170_0 F dX0_restore_110 ?_
          exact rt _ _ _ _ dX0_restore_113 h
        · have h := h.2 (c)
          refine jw_aload_n F 0 dX0_restore_88 rfl rfl ?_
          refine gx_X0_68_0 F dX0_restore_89 ?_
          refine jw_iload_n F 1 dX0_restore_92 rfl rfl ?_
          obtain ⟨o_17, o_18, h⟩ := h
          refine jw_aald F (xO dA ad) (k := 15) (by decide) (xa_15 dA ad) 3 rfl rfl (by decide) o_17 o_18 dX0_restore_93 ?_
          refine jw_aload_n F 0 dX0_restore_94 rfl rfl ?_
          refine gx_X0_42_0 F dX0_restore_95 ?_
          refine jw_iload_n F 1 dX0_restore_98 rfl rfl ?_
          obtain ⟨o_19, o_20, h⟩ := h
          refine jw_aald F (xO dA ad) (k := 7) (by decide) (xa_7 dA ad) 3 rfl rfl (by decide) o_19 o_20 dX0_restore_99 ?_
          refine jw_callSv F (wk_X0_copy (by omega) (by omega) (xr_6 dA ad (by omega) (by omega)) (xr_6 dA ad (by omega) (by omega)) (by decide) (by decide) h) (lw_S q788 q789 q70 q790) hd_X0_copy ⟨rfl, rfl, Nat.le_of_ble_eq_true rfl, Nat.le_of_ble_eq_true rfl⟩ rfl rfl (Nat.le_of_ble_eq_true rfl) dX0_restore_100 (fun s_22 hz => ?_)
          have h := hz
          refine jw_iinc F (lv' := [(0, .ref (ad 0)), (1, .int (iI (x1_12 + 1)))]) 1 [1, 0] dX0_restore_103 rfl (by decide) rfl ?_
          refine jw_goto F (tgt := 83) dX0_restore_106 (by decide) ?_
          exact ih_15 _ _ h
      · have h := h.2 (c)
        refine jw_bipush F (z := (-103)) dX0_restore_29 (by decide) ?_
        exact rt _ _ _ _ dX0_restore_31 h
theorem hd_X0_countOf : yX0_countOf.cls = RX0 ∧ yX0_countOf.cls ≠ "java/lang/invoke/MethodHandle" ∧ yX0_countOf.cls ≠ "java/lang/invoke/VarHandle" ∧ (parseMethodDescriptor yX0_countOf.desc).map (fun d => d.parameters.length) = some 1 := by decide +kernel
set_option maxHeartbeats 4000000 in
set_option maxRecDepth 100000 in
theorem wk_X0_countOf {l : Launch} {D : va_G} {dA : Nat → ClassId} {ad : Nat → Nat} {s : Sg} {a1 : Int} {Q : Int → Prop} (h : wp_X0_countOf a1 s Q) : MXi l D dA (xwf dA ad) yX0_countOf cX0_countOf 2 .int ({ frames := 1, cells := 0, slots := 0, locals := 20 } : Room) [.ref (ad 0), .int (iI a1)] s (fun z s' => s' = s ∧ Q z) := by
  unfold wp_X0_countOf at h
  refine jw_start_i (own := RX0) (lv0 := [(0, .ref (ad 0)), (1, .int (iI a1))]) (by decide) rfl (Nat.le_of_ble_eq_true rfl) rfl (fun G F rt => ?_)
  refine jw_iload_n F 1 dX0_countOf_0 rfl rfl ?_
  obtain ⟨o_1, h⟩ := h
  have hsw : a1 = 0 ∨ a1 = 1 ∨ a1 = 2 ∨ a1 = 3 ∨ a1 = 4 ∨ a1 = 5 ∨ a1 = 6 ∨ a1 = 7 ∨ (a1 < 0 ∨ 7 < a1) := by omega
  rcases hsw with q | q | q | q | q | q | q | q | q
  · have h := h.1 q
    refine jw_tableIn F o_1 (off := 47) (tgt := 48) dX0_countOf_1 (by omega) (by omega) (by rw [q]; rfl) (by decide) ?_
    refine jw_aload_n F 0 dX0_countOf_48 rfl rfl ?_
    refine gx_X0_23_0 F dX0_countOf_49 ?_
    refine gx_X0_144_1 F dX0_countOf_52 ?_
    exact rt _ _ _ _ dX0_countOf_55 ⟨rfl, h⟩
  · have h := h.2.1 q
    refine jw_tableIn F o_1 (off := 55) (tgt := 56) dX0_countOf_1 (by omega) (by omega) (by rw [q]; rfl) (by decide) ?_
    refine jw_aload_n F 0 dX0_countOf_56 rfl rfl ?_
    refine gx_X0_23_0 F dX0_countOf_57 ?_
    refine gx_X0_151_1 F dX0_countOf_60 ?_
    exact rt _ _ _ _ dX0_countOf_63 ⟨rfl, h⟩
  · have h := h.2.2.1 q
    refine jw_tableIn F o_1 (off := 63) (tgt := 64) dX0_countOf_1 (by omega) (by omega) (by rw [q]; rfl) (by decide) ?_
    refine jw_aload_n F 0 dX0_countOf_64 rfl rfl ?_
    refine gx_X0_10_0 F dX0_countOf_65 ?_
    refine jw_callVip F (wk_J2_size h) (lw_V q178 q179 q180 q73 q181) hd_J2_size ⟨rfl, rfl, Nat.le_of_ble_eq_true rfl, Nat.le_of_ble_eq_true rfl⟩ rfl rfl (xh_L dA ad _) rfl rfl rfl (Nat.le_of_ble_eq_true rfl) dX0_countOf_68 (fun r_2 h => ?_)
    exact rt _ _ _ _ dX0_countOf_71 ⟨rfl, h⟩
  · have h := h.2.2.2.1 q
    refine jw_tableIn F o_1 (off := 71) (tgt := 72) dX0_countOf_1 (by omega) (by omega) (by rw [q]; rfl) (by decide) ?_
    refine jw_aload_n F 0 dX0_countOf_72 rfl rfl ?_
    refine gx_X0_23_0 F dX0_countOf_73 ?_
    refine gx_X0_118_1 F dX0_countOf_76 ?_
    exact rt _ _ _ _ dX0_countOf_79 ⟨rfl, h⟩
  · have h := h.2.2.2.2.1 q
    refine jw_tableIn F o_1 (off := 79) (tgt := 80) dX0_countOf_1 (by omega) (by omega) (by rw [q]; rfl) (by decide) ?_
    refine jw_aload_n F 0 dX0_countOf_80 rfl rfl ?_
    refine gx_X0_170_0 F dX0_countOf_81 ?_
    exact rt _ _ _ _ dX0_countOf_84 ⟨rfl, h⟩
  · have h := h.2.2.2.2.2.1 q
    refine jw_tableIn F o_1 (off := 84) (tgt := 85) dX0_countOf_1 (by omega) (by omega) (by rw [q]; rfl) (by decide) ?_
    refine jw_aload_n F 0 dX0_countOf_85 rfl rfl ?_
    refine gx_X0_115_0 F dX0_countOf_86 ?_
    exact rt _ _ _ _ dX0_countOf_89 ⟨rfl, h⟩
  · have h := h.2.2.2.2.2.2.1 q
    refine jw_tableIn F o_1 (off := 89) (tgt := 90) dX0_countOf_1 (by omega) (by omega) (by rw [q]; rfl) (by decide) ?_
    refine jw_aload_n F 0 dX0_countOf_90 rfl rfl ?_
    refine gx_X0_95_0 F dX0_countOf_91 ?_
    exact rt _ _ _ _ dX0_countOf_94 ⟨rfl, h⟩
  · have h := h.2.2.2.2.2.2.2.1 q
    refine jw_tableIn F o_1 (off := 94) (tgt := 95) dX0_countOf_1 (by omega) (by omega) (by rw [q]; rfl) (by decide) ?_
    refine jw_aload_n F 0 dX0_countOf_95 rfl rfl ?_
    refine gx_X0_254_0 F dX0_countOf_96 ?_
    exact rt _ _ _ _ dX0_countOf_99 ⟨rfl, h⟩
  · have h := h.2.2.2.2.2.2.2.2 q
    refine jw_tableOut F o_1 (tgt := 100) dX0_countOf_1 q (by decide) ?_
    refine jw_bipush F (z := (-102)) dX0_countOf_100 (by decide) ?_
    exact rt _ _ _ _ dX0_countOf_102 ⟨rfl, h⟩
theorem hd_X0_count : yX0_count.cls = RX0 ∧ yX0_count.cls ≠ "java/lang/invoke/MethodHandle" ∧ yX0_count.cls ≠ "java/lang/invoke/VarHandle" ∧ (parseMethodDescriptor yX0_count.desc).map (fun d => d.parameters.length) = some 1 := by decide +kernel
set_option maxHeartbeats 4000000 in
set_option maxRecDepth 100000 in
theorem wk_X0_count {l : Launch} {D : va_G} {dA : Nat → ClassId} {ad : Nat → Nat} {s : Sg} {a1 : Int} {Q : Int → Prop} (h : wp_X0_count a1 s Q) : MXi l D dA (xwf dA ad) yX0_count cX0_count 2 .int ({ frames := 2, cells := 0, slots := 0, locals := 41 } : Room) [.ref (ad 0), .int (iI a1)] s (fun z s' => s' = s ∧ Q z) := by
  unfold wp_X0_count at h
  refine jw_start_i (own := RX0) (lv0 := [(0, .ref (ad 0)), (1, .int (iI a1))]) (by decide) rfl (Nat.le_of_ble_eq_true rfl) rfl (fun G F rt => ?_)
  refine jw_aload_n F 0 dX0_count_0 rfl rfl ?_
  refine jw_iload_n F 1 dX0_count_1 rfl rfl ?_
  refine jw_callVip F (wk_X0_countOf h) (lw_V q799 q801 qs38 q70 q802) hd_X0_countOf ⟨rfl, rfl, Nat.le_of_ble_eq_true rfl, Nat.le_of_ble_eq_true rfl⟩ rfl rfl (xh_0 dA ad _) rfl rfl rfl (Nat.le_of_ble_eq_true rfl) dX0_count_2 (fun r_1 h => ?_)
  exact rt _ _ _ _ dX0_count_5 ⟨rfl, h⟩
theorem hd_X0_with : yX0_with.cls ≠ "java/lang/invoke/MethodHandle" ∧ yX0_with.cls ≠ "java/lang/invoke/VarHandle" ∧ (parseMethodDescriptor yX0_with.desc).map (fun d => d.parameters.length) = some 2 := by decide +kernel
set_option maxHeartbeats 4000000 in
set_option maxRecDepth 100000 in
theorem wk_X0_with {l : Launch} {D : va_G} {dA : Nat → ClassId} {wf : Sg → va_W} {s : Sg} {a1 a2 : Int} {Q : Int → Prop} (h : wp_X0_with a1 a2 Q) : MXl l D dA wf yX0_with cX0_with 4 ({ frames := 0, cells := 0, slots := 0, locals := 0 } : Room) [.long (lI a1), .long (lI a2)] s (fun z s' => s' = s ∧ Q z) := by
  unfold wp_X0_with at h
  refine jw_start_l (own := RX0) (lv0 := [(0, .long (lI a1)), (2, .long (lI a2))]) (by decide) rfl (Nat.le_of_ble_eq_true rfl) rfl (fun G F rt => ?_)
  refine jw_ldc2 F (z := 31) q811 dX0_with_0 ?_
  refine jw_lload_n F 0 dX0_with_3 rfl rfl ?_
  refine jw_lmul F dX0_with_4 ?_
  refine jw_lload_n F 1 dX0_with_5 rfl rfl ?_
  refine jw_ladd F dX0_with_6 ?_
  exact rt _ _ _ _ dX0_with_7 ⟨rfl, h⟩
theorem hd_X0_withSorts : yX0_withSorts.cls = RX0 ∧ yX0_withSorts.cls ≠ "java/lang/invoke/MethodHandle" ∧ yX0_withSorts.cls ≠ "java/lang/invoke/VarHandle" ∧ (parseMethodDescriptor yX0_withSorts.desc).map (fun d => d.parameters.length) = some 1 := by decide +kernel
set_option maxHeartbeats 4000000 in
set_option maxRecDepth 100000 in
theorem wk_X0_withSorts {l : Launch} {D : va_G} {dA : Nat → ClassId} {ad : Nat → Nat} {s : Sg} {a1 : Int} {Q : Int → Prop} (h : wp_X0_withSorts a1 s Q) : MXl l D dA (xwf dA ad) yX0_withSorts cX0_withSorts 7 ({ frames := 3, cells := 0, slots := 0, locals := 66 } : Room) [.ref (ad 0), .long (lI a1)] s (fun z s' => s' = s ∧ Q z) := by
  unfold wp_X0_withSorts at h
  refine jw_start_l (own := RX0) (lv0 := [(0, .ref (ad 0)), (1, .long (lI a1))]) (by decide) rfl (Nat.le_of_ble_eq_true rfl) rfl (fun G F rt => ?_)
  refine jw_lload_n F 1 dX0_withSorts_0 rfl rfl ?_
  refine jw_lstore_n F (lv' := [(0, .ref (ad 0)), (1, .long (lI a1)), (3, .long (lI a1))]) [1, 2, 0] dX0_withSorts_1 rfl (by decide) rfl ?_
  refine jw_iconst F dX0_withSorts_2 ?_
  refine jw_istore F (lv' := [(0, .ref (ad 0)), (1, .long (lI a1)), (3, .long (lI a1)), (5, .int (iI 0))]) [1, 2, 3, 0] dX0_withSorts_3 (by decide) rfl ?_
  refine jw_sub F (lv' := [(0, .ref (ad 0)), (3, .long (lI a1)), (5, .int (iI 0))]) [0, 2, 3] rfl ?_
  refine lp2_r (fun x3_1 x5_2 => G s 5 [(0, .ref (ad 0)), (3, .long (lI x3_1)), (5, .int (iI x5_2))] []) h (fun x3_1 x5_2 K_3 h ih_4 => ?_)
  refine jw_iload F 2 dX0_withSorts_5 rfl ?_
  refine jw_aload_n F 0 dX0_withSorts_7 rfl rfl ?_
  refine gx_X0_23_0 F dX0_withSorts_8 ?_
  refine gx_X0_151_1 F dX0_withSorts_11 ?_
  obtain ⟨o_5, h⟩ := h
  obtain ⟨o_6, h⟩ := h
  refine jw_icmp_ge F o_5 o_6 (tgt := 49) dX0_withSorts_14 (by decide) (fun c => ?_) (fun c => ?_)
  · have h := h.1 (c)
    refine jw_iconst F dX0_withSorts_49 ?_
    refine jw_istore F (lv' := [(0, .ref (ad 0)), (3, .long (lI x3_1)), (5, .int (iI 0))]) [1, 2, 0] dX0_withSorts_50 (by decide) rfl ?_
    refine lp2_r (fun x3_7 x5_8 => G s 52 [(0, .ref (ad 0)), (3, .long (lI x3_7)), (5, .int (iI x5_8))] []) h (fun x3_7 x5_8 K_9 h ih_10 => ?_)
    refine jw_iload F 2 dX0_withSorts_52 rfl ?_
    refine jw_aload_n F 0 dX0_withSorts_54 rfl rfl ?_
    refine gx_X0_23_0 F dX0_withSorts_55 ?_
    refine gx_X0_118_1 F dX0_withSorts_58 ?_
    obtain ⟨o_11, h⟩ := h
    obtain ⟨o_12, h⟩ := h
    refine jw_icmp_ge F o_11 o_12 (tgt := 99) dX0_withSorts_61 (by decide) (fun c => ?_) (fun c => ?_)
    · have h := h.1 (c)
      refine jw_lload_n F 1 dX0_withSorts_99 rfl rfl ?_
      refine jw_aload_n F 0 dX0_withSorts_100 rfl rfl ?_
      refine jw_iconst F dX0_withSorts_101 ?_
      refine jw_callVip F (wk_X0_leftTold h) (lw_V q636 q638 qs17 q70 q639) hd_X0_leftTold ⟨rfl, rfl, Nat.le_of_ble_eq_true rfl, Nat.le_of_ble_eq_true rfl⟩ rfl rfl (xh_0 dA ad _) rfl rfl rfl (Nat.le_of_ble_eq_true rfl) dX0_withSorts_102 (fun r_13 h => ?_)
      obtain ⟨o_15, h⟩ := h
      refine jw_i2l F o_15 dX0_withSorts_105 ?_
      refine jw_callSlp F (wk_X0_with h) (lw_S q808 q809 q70 q810) hd_X0_with ⟨rfl, rfl, Nat.le_of_ble_eq_true rfl, Nat.le_of_ble_eq_true rfl⟩ rfl rfl (Nat.le_of_ble_eq_true rfl) dX0_withSorts_106 (fun r_16 h => ?_)
      refine jw_aload_n F 0 dX0_withSorts_109 rfl rfl ?_
      refine jw_iconst F dX0_withSorts_110 ?_
      refine jw_callVip F (wk_X0_leftTold h) (lw_V q636 q638 qs17 q70 q639) hd_X0_leftTold ⟨rfl, rfl, Nat.le_of_ble_eq_true rfl, Nat.le_of_ble_eq_true rfl⟩ rfl rfl (xh_0 dA ad _) rfl rfl rfl (Nat.le_of_ble_eq_true rfl) dX0_withSorts_111 (fun r_18 h => ?_)
      obtain ⟨o_20, h⟩ := h
      refine jw_i2l F o_20 dX0_withSorts_114 ?_
      refine jw_callSlp F (wk_X0_with h) (lw_S q808 q809 q70 q810) hd_X0_with ⟨rfl, rfl, Nat.le_of_ble_eq_true rfl, Nat.le_of_ble_eq_true rfl⟩ rfl rfl (Nat.le_of_ble_eq_true rfl) dX0_withSorts_115 (fun r_21 h => ?_)
      exact rt _ _ _ _ dX0_withSorts_118 ⟨rfl, h⟩
    · have h := h.2 (c)
      refine jw_iconst F dX0_withSorts_64 ?_
      refine jw_istore F (lv' := [(0, .ref (ad 0)), (3, .long (lI x3_7)), (5, .int (iI x5_8)), (6, .int (iI 0))]) [1, 2, 3, 0] dX0_withSorts_65 (by decide) rfl ?_
      refine lp2_r (fun x3_23 x6_24 => G s 67 [(0, .ref (ad 0)), (3, .long (lI x3_23)), (5, .int (iI x5_8)), (6, .int (iI x6_24))] []) h (fun x3_23 x6_24 K_25 h ih_26 => ?_)
      refine jw_iload F 3 dX0_withSorts_67 rfl ?_
      refine jw_iconst F dX0_withSorts_69 ?_
      obtain ⟨o_27, h⟩ := h
      refine jw_icmp_ge F o_27 (by decide) (tgt := 93) dX0_withSorts_70 (by decide) (fun c => ?_) (fun c => ?_)
      · have h := h.1 (c)
        refine jw_iinc F (lv' := [(0, .ref (ad 0)), (3, .long (lI x3_23)), (5, .int (iI (x5_8 + 1))), (6, .int (iI x6_24))]) 2 [1, 2, 0, 3] dX0_withSorts_93 rfl (by decide) rfl ?_
        refine jw_goto F (tgt := 52) dX0_withSorts_96 (by decide) ?_
        refine jw_sub F (lv' := [(0, .ref (ad 0)), (3, .long (lI x3_23)), (5, .int (iI (x5_8 + 1)))]) [0, 1, 2] rfl ?_
        exact ih_10 _ _ h
      · have h := h.2 (c)
        refine jw_lload_n F 1 dX0_withSorts_73 rfl rfl ?_
        refine jw_aload_n F 0 dX0_withSorts_74 rfl rfl ?_
        refine jw_iload F 2 dX0_withSorts_75 rfl ?_
        refine jw_iload F 3 dX0_withSorts_77 rfl ?_
        refine jw_callVip F (wk_X0_sortTold h) (lw_V q608 q610 qs14 q70 q611) hd_X0_sortTold ⟨rfl, rfl, Nat.le_of_ble_eq_true rfl, Nat.le_of_ble_eq_true rfl⟩ rfl rfl (xh_0 dA ad _) rfl rfl rfl (Nat.le_of_ble_eq_true rfl) dX0_withSorts_79 (fun r_28 h => ?_)
        obtain ⟨o_30, h⟩ := h
        refine jw_i2l F o_30 dX0_withSorts_82 ?_
        refine jw_callSlp F (wk_X0_with h) (lw_S q808 q809 q70 q810) hd_X0_with ⟨rfl, rfl, Nat.le_of_ble_eq_true rfl, Nat.le_of_ble_eq_true rfl⟩ rfl rfl (Nat.le_of_ble_eq_true rfl) dX0_withSorts_83 (fun r_31 h => ?_)
        refine jw_lstore_n F (lv' := [(0, .ref (ad 0)), (3, .long (lI r_31)), (5, .int (iI x5_8)), (6, .int (iI x6_24))]) [1, 0, 2, 3] dX0_withSorts_86 rfl (by decide) rfl ?_
        refine jw_iinc F (lv' := [(0, .ref (ad 0)), (3, .long (lI r_31)), (5, .int (iI x5_8)), (6, .int (iI (x6_24 + 1)))]) 3 [1, 2, 3, 0] dX0_withSorts_87 rfl (by decide) rfl ?_
        refine jw_goto F (tgt := 67) dX0_withSorts_90 (by decide) ?_
        exact ih_26 _ _ h
  · have h := h.2 (c)
    refine jw_lload_n F 1 dX0_withSorts_17 rfl rfl ?_
    refine jw_aload_n F 0 dX0_withSorts_18 rfl rfl ?_
    refine gx_X0_23_0 F dX0_withSorts_19 ?_
    refine gx_X0_154_1 F dX0_withSorts_22 ?_
    refine jw_iload F 2 dX0_withSorts_25 rfl ?_
    obtain ⟨o_33, o_34, h⟩ := h
    refine jw_iald F (xO dA ad) (k := 19) (by decide) (xa_19 dA ad) 0 rfl (by decide) o_33 o_34 dX0_withSorts_27 ?_
    obtain ⟨o_35, h⟩ := h
    refine jw_i2l F o_35 dX0_withSorts_28 ?_
    refine jw_callSlp F (wk_X0_with h) (lw_S q808 q809 q70 q810) hd_X0_with ⟨rfl, rfl, Nat.le_of_ble_eq_true rfl, Nat.le_of_ble_eq_true rfl⟩ rfl rfl (Nat.le_of_ble_eq_true rfl) dX0_withSorts_29 (fun r_36 h => ?_)
    refine jw_aload_n F 0 dX0_withSorts_32 rfl rfl ?_
    refine jw_iload F 2 dX0_withSorts_33 rfl ?_
    refine jw_callVip F (wk_X0_asWhat h) (lw_V q616 q618 qs16 q70 q619) hd_X0_asWhat ⟨rfl, rfl, Nat.le_of_ble_eq_true rfl, Nat.le_of_ble_eq_true rfl⟩ rfl rfl (xh_0 dA ad _) rfl rfl rfl (Nat.le_of_ble_eq_true rfl) dX0_withSorts_35 (fun r_38 h => ?_)
    obtain ⟨o_40, h⟩ := h
    refine jw_i2l F o_40 dX0_withSorts_38 ?_
    refine jw_callSlp F (wk_X0_with h) (lw_S q808 q809 q70 q810) hd_X0_with ⟨rfl, rfl, Nat.le_of_ble_eq_true rfl, Nat.le_of_ble_eq_true rfl⟩ rfl rfl (Nat.le_of_ble_eq_true rfl) dX0_withSorts_39 (fun r_41 h => ?_)
    refine jw_lstore_n F (lv' := [(0, .ref (ad 0)), (3, .long (lI r_41)), (5, .int (iI x5_2))]) [1, 0, 2] dX0_withSorts_42 rfl (by decide) rfl ?_
    refine jw_iinc F (lv' := [(0, .ref (ad 0)), (3, .long (lI r_41)), (5, .int (iI (x5_2 + 1)))]) 2 [1, 2, 0] dX0_withSorts_43 rfl (by decide) rfl ?_
    refine jw_goto F (tgt := 5) dX0_withSorts_46 (by decide) ?_
    exact ih_4 _ _ h
theorem hd_X0_digest : yX0_digest.cls = RX0 ∧ yX0_digest.cls ≠ "java/lang/invoke/MethodHandle" ∧ yX0_digest.cls ≠ "java/lang/invoke/VarHandle" ∧ (parseMethodDescriptor yX0_digest.desc).map (fun d => d.parameters.length) = some 0 := by decide +kernel
set_option maxHeartbeats 4000000 in
set_option maxRecDepth 100000 in
theorem wk_X0_digest {l : Launch} {D : va_G} {dA : Nat → ClassId} {ad : Nat → Nat} {s : Sg} {Q : Int → Sg → Prop} (h : wp_X0_digest s Q) : MXl l D dA (xwf dA ad) yX0_digest cX0_digest 4 ({ frames := 5, cells := 0, slots := 0, locals := 141 } : Room) [.ref (ad 0)] s Q := by
  unfold wp_X0_digest at h
  refine jw_start_l (own := RX0) (lv0 := [(0, .ref (ad 0))]) (by decide) rfl (Nat.le_of_ble_eq_true rfl) rfl (fun G F rt => ?_)
  refine jw_ldc2 F (z := 547) q807 dX0_digest_0 ?_
  refine jw_lstore_n F (lv' := [(0, .ref (ad 0)), (1, .long (lI 547))]) [1, 0] dX0_digest_3 rfl (by decide) rfl ?_
  refine jw_iconst F dX0_digest_4 ?_
  refine jw_istore_n F (lv' := [(0, .ref (ad 0)), (1, .long (lI 547)), (3, .int (iI 0))]) [1, 2, 0] dX0_digest_5 rfl (by decide) rfl ?_
  refine lp2_r (fun x1_1 x3_2 => G s 6 [(0, .ref (ad 0)), (1, .long (lI x1_1)), (3, .int (iI x3_2))] []) h (fun x1_1 x3_2 K_3 h ih_4 => ?_)
  refine jw_iload_n F 2 dX0_digest_6 rfl rfl ?_
  refine jw_aload_n F 0 dX0_digest_7 rfl rfl ?_
  refine gx_X0_10_0 F dX0_digest_8 ?_
  refine jw_callVip F (wk_J2_size h) (lw_V q178 q179 q180 q73 q181) hd_J2_size ⟨rfl, rfl, Nat.le_of_ble_eq_true rfl, Nat.le_of_ble_eq_true rfl⟩ rfl rfl (xh_L dA ad _) rfl rfl rfl (Nat.le_of_ble_eq_true rfl) dX0_digest_11 (fun r_5 h => ?_)
  obtain ⟨o_7, h⟩ := h
  obtain ⟨o_8, h⟩ := h
  refine jw_icmp_ge F o_7 o_8 (tgt := 63) dX0_digest_14 (by decide) (fun c => ?_) (fun c => ?_)
  · have h := h.1 (c)
    refine jw_aload_n F 0 dX0_digest_63 rfl rfl ?_
    refine jw_lload_n F 1 dX0_digest_64 rfl rfl ?_
    refine jw_callVlp F (wk_X0_withSorts h) (lw_V q812 q814 qs39 q70 q815) hd_X0_withSorts ⟨rfl, rfl, Nat.le_of_ble_eq_true rfl, Nat.le_of_ble_eq_true rfl⟩ rfl rfl (xh_0 dA ad _) rfl rfl rfl (Nat.le_of_ble_eq_true rfl) dX0_digest_65 (fun r_9 h => ?_)
    refine jw_lstore_n F (lv' := [(0, .ref (ad 0)), (1, .long (lI r_9)), (3, .int (iI x3_2))]) [1, 0, 2] dX0_digest_68 rfl (by decide) rfl ?_
    refine jw_lload_n F 1 dX0_digest_69 rfl rfl ?_
    refine jw_aload_n F 0 dX0_digest_70 rfl rfl ?_
    refine jw_callVi F (wk_X0_layReadings h) (lw_V q680 q682 qs23 q70 q683) hd_X0_layReadings ⟨rfl, rfl, Nat.le_of_ble_eq_true rfl, Nat.le_of_ble_eq_true rfl⟩ rfl rfl (xh_0 dA ad _) rfl rfl rfl (Nat.le_of_ble_eq_true rfl) dX0_digest_71 (fun r_11 s_12 hz => ?_)
    have h := hz
    obtain ⟨o_13, h⟩ := h
    refine jw_i2l F o_13 dX0_digest_74 ?_
    refine jw_callSlp F (wk_X0_with h) (lw_S q808 q809 q70 q810) hd_X0_with ⟨rfl, rfl, Nat.le_of_ble_eq_true rfl, Nat.le_of_ble_eq_true rfl⟩ rfl rfl (Nat.le_of_ble_eq_true rfl) dX0_digest_75 (fun r_14 h => ?_)
    refine jw_aload_n F 0 dX0_digest_78 rfl rfl ?_
    refine jw_callVi F (wk_X0_surestTold h) (lw_V q717 q719 qs28 q70 q720) hd_X0_surestTold ⟨rfl, rfl, Nat.le_of_ble_eq_true rfl, Nat.le_of_ble_eq_true rfl⟩ rfl rfl (xh_0 dA ad _) rfl rfl rfl (Nat.le_of_ble_eq_true rfl) dX0_digest_79 (fun r_16 s_17 hz => ?_)
    have h := hz
    obtain ⟨o_18, h⟩ := h
    refine jw_i2l F o_18 dX0_digest_82 ?_
    refine jw_callSlp F (wk_X0_with h) (lw_S q808 q809 q70 q810) hd_X0_with ⟨rfl, rfl, Nat.le_of_ble_eq_true rfl, Nat.le_of_ble_eq_true rfl⟩ rfl rfl (Nat.le_of_ble_eq_true rfl) dX0_digest_83 (fun r_19 h => ?_)
    refine jw_lstore_n F (lv' := [(0, .ref (ad 0)), (1, .long (lI r_19)), (3, .int (iI x3_2))]) [1, 0, 2] dX0_digest_86 rfl (by decide) rfl ?_
    refine jw_iconst F dX0_digest_87 ?_
    refine jw_istore_n F (lv' := [(0, .ref (ad 0)), (1, .long (lI r_19)), (3, .int (iI 0))]) [1, 2, 0] dX0_digest_88 rfl (by decide) rfl ?_
    refine lp2_r (fun x1_21 x3_22 => G s_17 89 [(0, .ref (ad 0)), (1, .long (lI x1_21)), (3, .int (iI x3_22))] []) h (fun x1_21 x3_22 K_23 h ih_24 => ?_)
    refine jw_iload_n F 2 dX0_digest_89 rfl rfl ?_
    refine jw_aload_n F 0 dX0_digest_90 rfl rfl ?_
    refine gx_X0_23_0 F dX0_digest_91 ?_
    refine gx_X0_144_1 F dX0_digest_94 ?_
    obtain ⟨o_25, h⟩ := h
    obtain ⟨o_26, h⟩ := h
    refine jw_icmp_ge F o_25 o_26 (tgt := 117) dX0_digest_97 (by decide) (fun c => ?_) (fun c => ?_)
    · have h := h.1 (c)
      refine jw_iconst F dX0_digest_117 ?_
      refine jw_istore_n F (lv' := [(0, .ref (ad 0)), (1, .long (lI x1_21)), (3, .int (iI 2))]) [1, 2, 0] dX0_digest_118 rfl (by decide) rfl ?_
      refine lp2_r (fun x1_27 x3_28 => G s_17 119 [(0, .ref (ad 0)), (1, .long (lI x1_27)), (3, .int (iI x3_28))] []) h (fun x1_27 x3_28 K_29 h ih_30 => ?_)
      refine jw_iload_n F 2 dX0_digest_119 rfl rfl ?_
      refine jw_bipush F (z := 10) dX0_digest_120 (by decide) ?_
      obtain ⟨o_31, h⟩ := h
      refine jw_icmp_ge F o_31 (by decide) (tgt := 153) dX0_digest_122 (by decide) (fun c => ?_) (fun c => ?_)
      · have h := h.1 (c)
        refine jw_iconst F dX0_digest_153 ?_
        refine jw_istore_n F (lv' := [(0, .ref (ad 0)), (1, .long (lI x1_27)), (3, .int (iI 0))]) [1, 2, 0] dX0_digest_154 rfl (by decide) rfl ?_
        refine lp2_r (fun x1_32 x3_33 => G s_17 155 [(0, .ref (ad 0)), (1, .long (lI x1_32)), (3, .int (iI x3_33))] []) h (fun x1_32 x3_33 K_34 h ih_35 => ?_)
        refine jw_iload_n F 2 dX0_digest_155 rfl rfl ?_
        refine jw_aload_n F 0 dX0_digest_156 rfl rfl ?_
        refine gx_X0_95_0 F dX0_digest_157 ?_
        obtain ⟨o_36, h⟩ := h
        obtain ⟨o_37, h⟩ := h
        refine jw_icmp_ge F o_36 o_37 (tgt := 181) dX0_digest_160 (by decide) (fun c => ?_) (fun c => ?_)
        · have h := h.1 (c)
          refine jw_iconst F dX0_digest_181 ?_
          refine jw_istore_n F (lv' := [(0, .ref (ad 0)), (1, .long (lI x1_32)), (3, .int (iI 0))]) [1, 2, 0] dX0_digest_182 rfl (by decide) rfl ?_
          refine lp2_r (fun x1_38 x3_39 => G s_17 183 [(0, .ref (ad 0)), (1, .long (lI x1_38)), (3, .int (iI x3_39))] []) h (fun x1_38 x3_39 K_40 h ih_41 => ?_)
          refine jw_iload_n F 2 dX0_digest_183 rfl rfl ?_
          refine jw_bipush F (z := 8) dX0_digest_184 (by decide) ?_
          obtain ⟨o_42, h⟩ := h
          refine jw_icmp_ge F o_42 (by decide) (tgt := 206) dX0_digest_186 (by decide) (fun c => ?_) (fun c => ?_)
          · have h := h.1 (c)
            refine jw_lload_n F 1 dX0_digest_206 rfl rfl ?_
            exact rt _ _ _ _ dX0_digest_207 h
          · have h := h.2 (c)
            refine jw_lload_n F 1 dX0_digest_189 rfl rfl ?_
            refine jw_aload_n F 0 dX0_digest_190 rfl rfl ?_
            refine jw_iload_n F 2 dX0_digest_191 rfl rfl ?_
            refine jw_callVip F (wk_X0_countOf h) (lw_V q799 q801 qs38 q70 q802) hd_X0_countOf ⟨rfl, rfl, Nat.le_of_ble_eq_true rfl, Nat.le_of_ble_eq_true rfl⟩ rfl rfl (xh_0 dA ad _) rfl rfl rfl (Nat.le_of_ble_eq_true rfl) dX0_digest_192 (fun r_43 h => ?_)
            obtain ⟨o_45, h⟩ := h
            refine jw_i2l F o_45 dX0_digest_195 ?_
            refine jw_callSlp F (wk_X0_with h) (lw_S q808 q809 q70 q810) hd_X0_with ⟨rfl, rfl, Nat.le_of_ble_eq_true rfl, Nat.le_of_ble_eq_true rfl⟩ rfl rfl (Nat.le_of_ble_eq_true rfl) dX0_digest_196 (fun r_46 h => ?_)
            refine jw_lstore_n F (lv' := [(0, .ref (ad 0)), (1, .long (lI r_46)), (3, .int (iI x3_39))]) [1, 0, 2] dX0_digest_199 rfl (by decide) rfl ?_
            refine jw_iinc F (lv' := [(0, .ref (ad 0)), (1, .long (lI r_46)), (3, .int (iI (x3_39 + 1)))]) 2 [1, 2, 0] dX0_digest_200 rfl (by decide) rfl ?_
            refine jw_goto F (tgt := 183) dX0_digest_203 (by decide) ?_
            exact ih_41 _ _ h
        · have h := h.2 (c)
          refine jw_lload_n F 1 dX0_digest_163 rfl rfl ?_
          refine jw_aload_n F 0 dX0_digest_164 rfl rfl ?_
          refine gx_X0_16_0 F dX0_digest_165 ?_
          refine jw_iload_n F 2 dX0_digest_168 rfl rfl ?_
          obtain ⟨o_48, o_49, h⟩ := h
          refine jw_bald F (xO dA ad) (k := 3) (by decide) (xa_3 dA ad) 1 rfl (by decide) o_48 o_49 dX0_digest_169 ?_
          obtain ⟨o_50, h⟩ := h
          refine jw_i2l F o_50 dX0_digest_170 ?_
          refine jw_callSlp F (wk_X0_with h) (lw_S q808 q809 q70 q810) hd_X0_with ⟨rfl, rfl, Nat.le_of_ble_eq_true rfl, Nat.le_of_ble_eq_true rfl⟩ rfl rfl (Nat.le_of_ble_eq_true rfl) dX0_digest_171 (fun r_51 h => ?_)
          refine jw_lstore_n F (lv' := [(0, .ref (ad 0)), (1, .long (lI r_51)), (3, .int (iI x3_33))]) [1, 0, 2] dX0_digest_174 rfl (by decide) rfl ?_
          refine jw_iinc F (lv' := [(0, .ref (ad 0)), (1, .long (lI r_51)), (3, .int (iI (x3_33 + 1)))]) 2 [1, 2, 0] dX0_digest_175 rfl (by decide) rfl ?_
          refine jw_goto F (tgt := 155) dX0_digest_178 (by decide) ?_
          exact ih_35 _ _ h
      · have h := h.2 (c)
        refine jw_lload_n F 1 dX0_digest_125 rfl rfl ?_
        refine jw_aload_n F 0 dX0_digest_126 rfl rfl ?_
        refine jw_iload_n F 2 dX0_digest_127 rfl rfl ?_
        refine jw_iconst F dX0_digest_128 ?_
        refine jw_callVip F (wk_X0_planTold h) (lw_V q775 q777 qs36 q70 q778) hd_X0_planTold ⟨rfl, rfl, Nat.le_of_ble_eq_true rfl, Nat.le_of_ble_eq_true rfl⟩ rfl rfl (xh_0 dA ad _) rfl rfl rfl (Nat.le_of_ble_eq_true rfl) dX0_digest_129 (fun r_53 h => ?_)
        obtain ⟨o_55, h⟩ := h
        refine jw_i2l F o_55 dX0_digest_132 ?_
        refine jw_callSlp F (wk_X0_with h) (lw_S q808 q809 q70 q810) hd_X0_with ⟨rfl, rfl, Nat.le_of_ble_eq_true rfl, Nat.le_of_ble_eq_true rfl⟩ rfl rfl (Nat.le_of_ble_eq_true rfl) dX0_digest_133 (fun r_56 h => ?_)
        refine jw_aload_n F 0 dX0_digest_136 rfl rfl ?_
        refine jw_iload_n F 2 dX0_digest_137 rfl rfl ?_
        refine jw_iconst F dX0_digest_138 ?_
        refine jw_callVip F (wk_X0_planTold h) (lw_V q775 q777 qs36 q70 q778) hd_X0_planTold ⟨rfl, rfl, Nat.le_of_ble_eq_true rfl, Nat.le_of_ble_eq_true rfl⟩ rfl rfl (xh_0 dA ad _) rfl rfl rfl (Nat.le_of_ble_eq_true rfl) dX0_digest_139 (fun r_58 h => ?_)
        obtain ⟨o_60, h⟩ := h
        refine jw_i2l F o_60 dX0_digest_142 ?_
        refine jw_callSlp F (wk_X0_with h) (lw_S q808 q809 q70 q810) hd_X0_with ⟨rfl, rfl, Nat.le_of_ble_eq_true rfl, Nat.le_of_ble_eq_true rfl⟩ rfl rfl (Nat.le_of_ble_eq_true rfl) dX0_digest_143 (fun r_61 h => ?_)
        refine jw_lstore_n F (lv' := [(0, .ref (ad 0)), (1, .long (lI r_61)), (3, .int (iI x3_28))]) [1, 0, 2] dX0_digest_146 rfl (by decide) rfl ?_
        refine jw_iinc F (lv' := [(0, .ref (ad 0)), (1, .long (lI r_61)), (3, .int (iI (x3_28 + 1)))]) 2 [1, 2, 0] dX0_digest_147 rfl (by decide) rfl ?_
        refine jw_goto F (tgt := 119) dX0_digest_150 (by decide) ?_
        exact ih_30 _ _ h
    · have h := h.2 (c)
      refine jw_lload_n F 1 dX0_digest_100 rfl rfl ?_
      refine jw_aload_n F 0 dX0_digest_101 rfl rfl ?_
      refine jw_iload_n F 2 dX0_digest_102 rfl rfl ?_
      refine jw_callVip F (wk_X0_brokenOf h) (lw_V q762 q764 qs35 q70 q765) hd_X0_brokenOf ⟨rfl, rfl, Nat.le_of_ble_eq_true rfl, Nat.le_of_ble_eq_true rfl⟩ rfl rfl (xh_0 dA ad _) rfl rfl rfl (Nat.le_of_ble_eq_true rfl) dX0_digest_103 (fun r_63 h => ?_)
      obtain ⟨o_65, h⟩ := h
      refine jw_i2l F o_65 dX0_digest_106 ?_
      refine jw_callSlp F (wk_X0_with h) (lw_S q808 q809 q70 q810) hd_X0_with ⟨rfl, rfl, Nat.le_of_ble_eq_true rfl, Nat.le_of_ble_eq_true rfl⟩ rfl rfl (Nat.le_of_ble_eq_true rfl) dX0_digest_107 (fun r_66 h => ?_)
      refine jw_lstore_n F (lv' := [(0, .ref (ad 0)), (1, .long (lI r_66)), (3, .int (iI x3_22))]) [1, 0, 2] dX0_digest_110 rfl (by decide) rfl ?_
      refine jw_iinc F (lv' := [(0, .ref (ad 0)), (1, .long (lI r_66)), (3, .int (iI (x3_22 + 1)))]) 2 [1, 2, 0] dX0_digest_111 rfl (by decide) rfl ?_
      refine jw_goto F (tgt := 89) dX0_digest_114 (by decide) ?_
      exact ih_24 _ _ h
  · have h := h.2 (c)
    refine jw_lload_n F 1 dX0_digest_17 rfl rfl ?_
    refine jw_aload_n F 0 dX0_digest_18 rfl rfl ?_
    refine gx_X0_10_0 F dX0_digest_19 ?_
    refine jw_iload_n F 2 dX0_digest_22 rfl rfl ?_
    obtain ⟨o_68, o_69, o_70, h⟩ := h
    refine jx_get_X0 F ⟨Nat.le_of_ble_eq_true rfl, Nat.le_of_ble_eq_true rfl⟩ o_68 o_69 o_70 dX0_digest_23 dX0_digest_26 (Nat.le_of_ble_eq_true rfl) ?_
    refine jw_iconst F dX0_digest_29 ?_
    refine jw_callSip F (wk_X0_told h) (lw_S q535 q536 q70 q537) hd_X0_told ⟨rfl, rfl, Nat.le_of_ble_eq_true rfl, Nat.le_of_ble_eq_true rfl⟩ rfl rfl (Nat.le_of_ble_eq_true rfl) dX0_digest_30 (fun r_71 h => ?_)
    obtain ⟨o_73, h⟩ := h
    refine jw_i2l F o_73 dX0_digest_33 ?_
    refine jw_callSlp F (wk_X0_with h) (lw_S q808 q809 q70 q810) hd_X0_with ⟨rfl, rfl, Nat.le_of_ble_eq_true rfl, Nat.le_of_ble_eq_true rfl⟩ rfl rfl (Nat.le_of_ble_eq_true rfl) dX0_digest_34 (fun r_74 h => ?_)
    refine jw_aload_n F 0 dX0_digest_37 rfl rfl ?_
    refine gx_X0_10_0 F dX0_digest_38 ?_
    refine jw_iload_n F 2 dX0_digest_41 rfl rfl ?_
    obtain ⟨o_76, o_77, o_78, h⟩ := h
    refine jx_get_X0 F ⟨Nat.le_of_ble_eq_true rfl, Nat.le_of_ble_eq_true rfl⟩ o_76 o_77 o_78 dX0_digest_42 dX0_digest_45 (Nat.le_of_ble_eq_true rfl) ?_
    refine jw_iconst F dX0_digest_48 ?_
    refine jw_callSip F (wk_X0_told h) (lw_S q535 q536 q70 q537) hd_X0_told ⟨rfl, rfl, Nat.le_of_ble_eq_true rfl, Nat.le_of_ble_eq_true rfl⟩ rfl rfl (Nat.le_of_ble_eq_true rfl) dX0_digest_49 (fun r_79 h => ?_)
    obtain ⟨o_81, h⟩ := h
    refine jw_i2l F o_81 dX0_digest_52 ?_
    refine jw_callSlp F (wk_X0_with h) (lw_S q808 q809 q70 q810) hd_X0_with ⟨rfl, rfl, Nat.le_of_ble_eq_true rfl, Nat.le_of_ble_eq_true rfl⟩ rfl rfl (Nat.le_of_ble_eq_true rfl) dX0_digest_53 (fun r_82 h => ?_)
    refine jw_lstore_n F (lv' := [(0, .ref (ad 0)), (1, .long (lI r_82)), (3, .int (iI x3_2))]) [1, 0, 2] dX0_digest_56 rfl (by decide) rfl ?_
    refine jw_iinc F (lv' := [(0, .ref (ad 0)), (1, .long (lI r_82)), (3, .int (iI (x3_2 + 1)))]) 2 [1, 2, 0] dX0_digest_57 rfl (by decide) rfl ?_
    refine jw_goto F (tgt := 6) dX0_digest_60 (by decide) ?_
    exact ih_4 _ _ h
