/-! THE WALKS of the reference (printed by gen/walk.py) -/
theorem hd_X2_sound : yX2_sound.cls = RX2 ∧ yX2_sound.cls ≠ "java/lang/invoke/MethodHandle" ∧ yX2_sound.cls ≠ "java/lang/invoke/VarHandle" ∧ (parseMethodDescriptor yX2_sound.desc).map (fun d => d.parameters.length) = some 3 := by decide +kernel
set_option maxHeartbeats 4000000 in
set_option maxRecDepth 100000 in
theorem wk_X2_sound {l : Launch} {D : va_G} {dA : Nat → ClassId} {ad : Nat → Nat} {s : Sg} {a1 a2 a3 : Int} {Q : Int → Prop} (h : wp_X2_sound a1 a2 a3 s Q) : MXi l D dA (mwf dA ad) yX2_sound cX2_sound 7 .int ({ frames := 0, cells := 0, slots := 0, locals := 0 } : Room) [.ref (ad 0), .int (iI a1), .int (iI a2), .int (iI a3)] s (fun z s' => s' = s ∧ Q z) := by
  unfold wp_X2_sound at h
  refine jw_start_i (own := RX2) (lv0 := [(0, .ref (ad 0)), (1, .int (iI a1)), (2, .int (iI a2)), (3, .int (iI a3))]) (by decide) rfl (Nat.le_of_ble_eq_true rfl) rfl (fun G F rt => ?_)
  refine jw_aload_n F 0 dX2_sound_0 rfl rfl ?_
  refine gx_X2_13_0 F dX2_sound_1 ?_
  refine jw_iconst F dX2_sound_4 ?_
  refine jw_iload_n F 1 dX2_sound_5 rfl rfl ?_
  refine jw_imul F dX2_sound_6 ?_
  refine jw_iconst F dX2_sound_7 ?_
  refine jw_iadd F dX2_sound_8 ?_
  obtain ⟨o_1, o_2, h⟩ := h
  refine jw_iald F (mO dA ad) (k := 2) (by decide) (ma_2 dA ad) 0 rfl (by decide) o_1 o_2 dX2_sound_9 ?_
  refine jw_istore F (lv' := [(0, .ref (ad 0)), (1, .int (iI a1)), (2, .int (iI a2)), (3, .int (iI a3)), (4, .int (iI (s 2 ((2 * a1) + 1))))]) [1, 2, 3, 4, 0] dX2_sound_10 (by decide) rfl ?_
  refine jw_aload_n F 0 dX2_sound_12 rfl rfl ?_
  refine gx_X2_13_0 F dX2_sound_13 ?_
  refine jw_iconst F dX2_sound_16 ?_
  refine jw_iload_n F 1 dX2_sound_17 rfl rfl ?_
  refine jw_imul F dX2_sound_18 ?_
  obtain ⟨o_3, o_4, h⟩ := h
  refine jw_iald F (mO dA ad) (k := 2) (by decide) (ma_2 dA ad) 0 rfl (by decide) o_3 o_4 dX2_sound_19 ?_
  refine jw_iconst F dX2_sound_20 ?_
  obtain ⟨o_5, h⟩ := h
  refine jw_icmp_ne F o_5 (by decide) (tgt := 31) dX2_sound_21 (by decide) (fun c => ?_) (fun c => ?_)
  · have h := h.1 (c)
    refine jw_aload_n F 0 dX2_sound_31 rfl rfl ?_
    refine gx_X2_13_0 F dX2_sound_32 ?_
    refine jw_iconst F dX2_sound_35 ?_
    refine jw_iload_n F 1 dX2_sound_36 rfl rfl ?_
    refine jw_imul F dX2_sound_37 ?_
    obtain ⟨o_6, o_7, h⟩ := h
    refine jw_iald F (mO dA ad) (k := 2) (by decide) (ma_2 dA ad) 0 rfl (by decide) o_6 o_7 dX2_sound_38 ?_
    refine jw_iconst F dX2_sound_39 ?_
    obtain ⟨o_8, h⟩ := h
    refine jw_icmp_ne F o_8 (by decide) (tgt := 49) dX2_sound_40 (by decide) (fun c => ?_) (fun c => ?_)
    · have h := h.1 (c)
      refine jw_iload F 4 dX2_sound_49 rfl ?_
      refine jw_bipush F (z := 10) dX2_sound_51 (by decide) ?_
      obtain ⟨o_9, o_10, h⟩ := h
      refine jw_idiv F o_9 (by decide) o_10 (by decide) dX2_sound_53 ?_
      refine jw_istore F (lv' := [(0, .ref (ad 0)), (1, .int (iI a1)), (2, .int (iI a2)), (3, .int (iI a3)), (4, .int (iI (s 2 ((2 * a1) + 1)))), (5, .int (iI ((s 2 ((2 * a1) + 1)) / 10)))]) [1, 2, 3, 4, 5, 0] dX2_sound_54 (by decide) rfl ?_
      refine jw_iload F 4 dX2_sound_56 rfl ?_
      refine jw_bipush F (z := 10) dX2_sound_58 (by decide) ?_
      obtain ⟨o_11, o_12, h⟩ := h
      refine jw_irem F o_11 (by decide) o_12 (by decide) dX2_sound_60 ?_
      refine jw_istore F (lv' := [(0, .ref (ad 0)), (1, .int (iI a1)), (2, .int (iI a2)), (3, .int (iI a3)), (4, .int (iI (s 2 ((2 * a1) + 1)))), (5, .int (iI ((s 2 ((2 * a1) + 1)) / 10))), (6, .int (iI ((s 2 ((2 * a1) + 1)) % 10)))]) [1, 2, 3, 4, 5, 6, 0] dX2_sound_61 (by decide) rfl ?_
      refine jw_iload F 5 dX2_sound_63 rfl ?_
      refine jw_iload_n F 3 dX2_sound_65 rfl rfl ?_
      obtain ⟨o_13, h⟩ := h
      obtain ⟨o_14, h⟩ := h
      refine jw_icmp_ge F o_13 o_14 (tgt := 75) dX2_sound_66 (by decide) (fun c => ?_) (fun c => ?_)
      · have h := h.1 (c)
        refine jw_iload_n F 2 dX2_sound_75 rfl rfl ?_
        exact rt _ _ _ _ dX2_sound_76 ⟨rfl, h⟩
      · have h := h.2 (c)
        refine jw_iload F 6 dX2_sound_69 rfl ?_
        refine jw_iload_n F 3 dX2_sound_71 rfl rfl ?_
        obtain ⟨o_15, h⟩ := h
        obtain ⟨o_16, h⟩ := h
        refine jw_icmp_lt F o_15 o_16 (tgt := 77) dX2_sound_72 (by decide) (fun c => ?_) (fun c => ?_)
        · have h := h.1 (c)
          refine jw_iload_n F 2 dX2_sound_77 rfl rfl ?_
          refine jw_iload F 5 dX2_sound_78 rfl ?_
          obtain ⟨o_17, h⟩ := h
          obtain ⟨o_18, h⟩ := h
          refine jw_icmp_ne F o_17 o_18 (tgt := 88) dX2_sound_80 (by decide) (fun c => ?_) (fun c => ?_)
          · have h := h.1 (c)
            refine jw_iload_n F 2 dX2_sound_88 rfl rfl ?_
            refine jw_iload F 6 dX2_sound_89 rfl ?_
            obtain ⟨o_19, h⟩ := h
            obtain ⟨o_20, h⟩ := h
            refine jw_icmp_ne F o_19 o_20 (tgt := 99) dX2_sound_91 (by decide) (fun c => ?_) (fun c => ?_)
            · have h := h.1 (c)
              refine jw_iload_n F 2 dX2_sound_99 rfl rfl ?_
              exact rt _ _ _ _ dX2_sound_100 ⟨rfl, h⟩
            · have h := h.2 (c)
              refine jw_iload F 5 dX2_sound_94 rfl ?_
              refine jw_goto F (tgt := 100) dX2_sound_96 (by decide) ?_
              exact rt _ _ _ _ dX2_sound_100 ⟨rfl, h⟩
          · have h := h.2 (c)
            refine jw_iload F 6 dX2_sound_83 rfl ?_
            refine jw_goto F (tgt := 100) dX2_sound_85 (by decide) ?_
            exact rt _ _ _ _ dX2_sound_100 ⟨rfl, h⟩
        · have h := h.2 (c)
          refine jw_iload_n F 2 dX2_sound_75 rfl rfl ?_
          exact rt _ _ _ _ dX2_sound_76 ⟨rfl, h⟩
    · have h := h.2 (c)
      refine jw_iload_n F 3 dX2_sound_43 rfl rfl ?_
      refine jw_iconst F dX2_sound_44 ?_
      refine jw_isub F dX2_sound_45 ?_
      refine jw_iload_n F 2 dX2_sound_46 rfl rfl ?_
      refine jw_isub F dX2_sound_47 ?_
      exact rt _ _ _ _ dX2_sound_48 ⟨rfl, h⟩
  · have h := h.2 (c)
    refine jw_iload_n F 2 dX2_sound_24 rfl rfl ?_
    refine jw_iload F 4 dX2_sound_25 rfl ?_
    refine jw_iadd F dX2_sound_27 ?_
    refine jw_iload_n F 3 dX2_sound_28 rfl rfl ?_
    obtain ⟨o_21, o_22, o_23, o_24, h⟩ := h
    refine jw_irem F o_21 o_22 o_23 o_24 dX2_sound_29 ?_
    exact rt _ _ _ _ dX2_sound_30 ⟨rfl, h⟩
theorem hd_X2_numberOf : yX2_numberOf.cls ≠ "java/lang/invoke/MethodHandle" ∧ yX2_numberOf.cls ≠ "java/lang/invoke/VarHandle" ∧ (parseMethodDescriptor yX2_numberOf.desc).map (fun d => d.parameters.length) = some 4 := by decide +kernel
set_option maxHeartbeats 4000000 in
set_option maxRecDepth 100000 in
theorem wk_X2_numberOf {l : Launch} {D : va_G} {dA : Nat → ClassId} {wf : Sg → va_W} {s : Sg} {a1 a2 a3 a4 : Int} {Q : Int → Prop} (h : wp_X2_numberOf a1 a2 a3 a4 Q) : MXi l D dA wf yX2_numberOf cX2_numberOf 9 .int ({ frames := 0, cells := 0, slots := 0, locals := 0 } : Room) [.int (iI a1), .int (iI a2), .int (iI a3), .int (iI a4)] s (fun z s' => s' = s ∧ Q z) := by
  unfold wp_X2_numberOf at h
  refine jw_start_i (own := RX2) (lv0 := [(0, .int (iI a1)), (1, .int (iI a2)), (2, .int (iI a3)), (3, .int (iI a4))]) (by decide) rfl (Nat.le_of_ble_eq_true rfl) rfl (fun G F rt => ?_)
  refine jw_iload_n F 0 dX2_numberOf_0 rfl rfl ?_
  refine jw_iload_n F 1 dX2_numberOf_1 rfl rfl ?_
  obtain ⟨o_1, h⟩ := h
  obtain ⟨o_2, h⟩ := h
  refine jn1_r (fun v_3 => G s 28 [(0, .int (iI a1)), (1, .int (iI a2)), (2, .int (iI a3)), (3, .int (iI a4))] [.int (iI v_3)]) h (fun v_3 h => ?_) (fun K_4 h j_5 => ?_)
  · refine jw_istore F (lv' := [(0, .int (iI a1)), (1, .int (iI a2)), (2, .int (iI a3)), (3, .int (iI a4)), (4, .int (iI v_3))]) [1, 2, 3, 4, 0] dX2_numberOf_28 (by decide) rfl ?_
    refine jw_iload_n F 0 dX2_numberOf_30 rfl rfl ?_
    refine jw_iload_n F 1 dX2_numberOf_31 rfl rfl ?_
    obtain ⟨o_6, h⟩ := h
    obtain ⟨o_7, h⟩ := h
    refine jn1_r (fun v_8 => G s 58 [(0, .int (iI a1)), (1, .int (iI a2)), (2, .int (iI a3)), (3, .int (iI a4)), (4, .int (iI v_3))] [.int (iI v_8)]) h (fun v_8 h => ?_) (fun K_9 h j_10 => ?_)
    · refine jw_istore F (lv' := [(0, .int (iI a1)), (1, .int (iI a2)), (2, .int (iI a3)), (3, .int (iI a4)), (4, .int (iI v_3)), (5, .int (iI v_8))]) [1, 2, 3, 4, 5, 0] dX2_numberOf_58 (by decide) rfl ?_
      refine jw_iload_n F 0 dX2_numberOf_60 rfl rfl ?_
      refine jw_iload_n F 1 dX2_numberOf_61 rfl rfl ?_
      refine jw_iadd F dX2_numberOf_62 ?_
      refine jw_iload_n F 2 dX2_numberOf_63 rfl rfl ?_
      refine jw_iadd F dX2_numberOf_64 ?_
      refine jw_iload F 4 dX2_numberOf_65 rfl ?_
      refine jw_isub F dX2_numberOf_67 ?_
      refine jw_iload F 5 dX2_numberOf_68 rfl ?_
      refine jw_isub F dX2_numberOf_70 ?_
      refine jw_istore F (lv' := [(0, .int (iI a1)), (1, .int (iI a2)), (2, .int (iI a3)), (3, .int (iI a4)), (4, .int (iI v_3)), (5, .int (iI v_8)), (6, .int (iI ((((a1 + a2) + a3) - v_3) - v_8)))]) [1, 2, 3, 4, 5, 6, 0] dX2_numberOf_71 (by decide) rfl ?_
      refine jw_iconst F dX2_numberOf_73 ?_
      refine jw_istore F (lv' := [(0, .int (iI a1)), (1, .int (iI a2)), (2, .int (iI a3)), (3, .int (iI a4)), (4, .int (iI v_3)), (5, .int (iI v_8)), (6, .int (iI ((((a1 + a2) + a3) - v_3) - v_8))), (7, .int (iI 0))]) [1, 2, 3, 4, 5, 6, 7, 0] dX2_numberOf_74 (by decide) rfl ?_
      refine jw_iconst F dX2_numberOf_76 ?_
      refine jw_istore F (lv' := [(0, .int (iI a1)), (1, .int (iI a2)), (2, .int (iI a3)), (3, .int (iI a4)), (4, .int (iI v_3)), (5, .int (iI v_8)), (6, .int (iI ((((a1 + a2) + a3) - v_3) - v_8))), (7, .int (iI 0)), (8, .int (iI 0))]) [1, 2, 3, 4, 5, 6, 7, 8, 0] dX2_numberOf_77 (by decide) rfl ?_
      refine jw_sub F (lv' := [(3, .int (iI a4)), (4, .int (iI v_3)), (5, .int (iI v_8)), (6, .int (iI ((((a1 + a2) + a3) - v_3) - v_8))), (7, .int (iI 0)), (8, .int (iI 0))]) [3, 4, 5, 6, 7, 8] rfl ?_
      refine lp2_r (fun x7_11 x8_12 => G s 79 [(3, .int (iI a4)), (4, .int (iI v_3)), (5, .int (iI v_8)), (6, .int (iI ((((a1 + a2) + a3) - v_3) - v_8))), (7, .int (iI x7_11)), (8, .int (iI x8_12))] []) h (fun x7_11 x8_12 K_13 h ih_14 => ?_)
      refine jw_iload F 5 dX2_numberOf_79 rfl ?_
      refine jw_iload F 1 dX2_numberOf_81 rfl ?_
      obtain ⟨o_15, h⟩ := h
      obtain ⟨o_16, h⟩ := h
      refine jw_icmp_ge F o_15 o_16 (tgt := 112) dX2_numberOf_83 (by decide) (fun c => ?_) (fun c => ?_)
      · have h := h.1 (c)
        refine jw_iload F 1 dX2_numberOf_112 rfl ?_
        refine jw_iconst F dX2_numberOf_114 ?_
        refine jw_iadd F dX2_numberOf_115 ?_
        refine jw_istore F (lv' := [(3, .int (iI a4)), (4, .int (iI v_3)), (5, .int (iI v_8)), (6, .int (iI ((((a1 + a2) + a3) - v_3) - v_8))), (7, .int (iI x7_11)), (8, .int (iI (v_3 + 1)))]) [1, 2, 3, 4, 5, 0] dX2_numberOf_116 (by decide) rfl ?_
        refine jw_sub F (lv' := [(3, .int (iI a4)), (5, .int (iI v_8)), (6, .int (iI ((((a1 + a2) + a3) - v_3) - v_8))), (7, .int (iI x7_11)), (8, .int (iI (v_3 + 1)))]) [0, 2, 3, 4, 5] rfl ?_
        refine lp2_r (fun x7_17 x8_18 => G s 118 [(3, .int (iI a4)), (5, .int (iI v_8)), (6, .int (iI ((((a1 + a2) + a3) - v_3) - v_8))), (7, .int (iI x7_17)), (8, .int (iI x8_18))] []) h (fun x7_17 x8_18 K_19 h ih_20 => ?_)
        refine jw_iload F 4 dX2_numberOf_118 rfl ?_
        refine jw_iload F 2 dX2_numberOf_120 rfl ?_
        obtain ⟨o_21, h⟩ := h
        obtain ⟨o_22, h⟩ := h
        refine jw_icmp_ge F o_21 o_22 (tgt := 142) dX2_numberOf_122 (by decide) (fun c => ?_) (fun c => ?_)
        · have h := h.1 (c)
          refine jw_iload F 3 dX2_numberOf_142 rfl ?_
          refine jw_iload F 1 dX2_numberOf_144 rfl ?_
          refine jw_iadd F dX2_numberOf_146 ?_
          refine jw_iload F 2 dX2_numberOf_147 rfl ?_
          refine jw_isub F dX2_numberOf_149 ?_
          refine jw_iconst F dX2_numberOf_150 ?_
          refine jw_isub F dX2_numberOf_151 ?_
          exact rt _ _ _ _ dX2_numberOf_152 ⟨rfl, h⟩
        · have h := h.2 (c)
          refine jw_iload F 3 dX2_numberOf_125 rfl ?_
          refine jw_iload_n F 0 dX2_numberOf_127 rfl rfl ?_
          refine jw_iconst F dX2_numberOf_128 ?_
          refine jw_isub F dX2_numberOf_129 ?_
          refine jw_iload F 4 dX2_numberOf_130 rfl ?_
          refine jw_isub F dX2_numberOf_132 ?_
          refine jw_iadd F dX2_numberOf_133 ?_
          refine jw_istore F (lv' := [(3, .int (iI a4)), (5, .int (iI v_8)), (6, .int (iI ((((a1 + a2) + a3) - v_3) - v_8))), (7, .int (iI (x7_17 + ((a4 - 1) - x8_18)))), (8, .int (iI x8_18))]) [1, 2, 3, 0, 4] dX2_numberOf_134 (by decide) rfl ?_
          refine jw_iinc F (lv' := [(3, .int (iI a4)), (5, .int (iI v_8)), (6, .int (iI ((((a1 + a2) + a3) - v_3) - v_8))), (7, .int (iI (x7_17 + ((a4 - 1) - x8_18)))), (8, .int (iI (x8_18 + 1)))]) 4 [1, 2, 3, 4, 0] dX2_numberOf_136 rfl (by decide) rfl ?_
          refine jw_goto F (tgt := 118) dX2_numberOf_139 (by decide) ?_
          exact ih_20 _ _ h
      · have h := h.2 (c)
        refine jw_iload F 4 dX2_numberOf_86 rfl ?_
        refine jw_iload_n F 0 dX2_numberOf_88 rfl rfl ?_
        refine jw_iconst F dX2_numberOf_89 ?_
        refine jw_isub F dX2_numberOf_90 ?_
        refine jw_iload F 5 dX2_numberOf_91 rfl ?_
        refine jw_isub F dX2_numberOf_93 ?_
        refine jw_iload_n F 0 dX2_numberOf_94 rfl rfl ?_
        refine jw_iconst F dX2_numberOf_95 ?_
        refine jw_isub F dX2_numberOf_96 ?_
        refine jw_iload F 5 dX2_numberOf_97 rfl ?_
        refine jw_isub F dX2_numberOf_99 ?_
        refine jw_imul F dX2_numberOf_100 ?_
        refine jw_iconst F dX2_numberOf_101 ?_
        obtain ⟨o_23, o_24, h⟩ := h
        refine jw_idiv F o_23 (by decide) o_24 (by decide) dX2_numberOf_102 ?_
        refine jw_iadd F dX2_numberOf_103 ?_
        refine jw_istore F (lv' := [(3, .int (iI a4)), (4, .int (iI v_3)), (5, .int (iI v_8)), (6, .int (iI ((((a1 + a2) + a3) - v_3) - v_8))), (7, .int (iI (x7_11 + ((((a4 - 1) - x8_12) * ((a4 - 2) - x8_12)) / 2)))), (8, .int (iI x8_12))]) [1, 2, 3, 4, 0, 5] dX2_numberOf_104 (by decide) rfl ?_
        refine jw_iinc F (lv' := [(3, .int (iI a4)), (4, .int (iI v_3)), (5, .int (iI v_8)), (6, .int (iI ((((a1 + a2) + a3) - v_3) - v_8))), (7, .int (iI (x7_11 + ((((a4 - 1) - x8_12) * ((a4 - 2) - x8_12)) / 2)))), (8, .int (iI (x8_12 + 1)))]) 5 [1, 2, 3, 4, 5, 0] dX2_numberOf_106 rfl (by decide) rfl ?_
        refine jw_goto F (tgt := 79) dX2_numberOf_109 (by decide) ?_
        exact ih_14 _ _ h
    · refine jw_icmp_le F o_6 o_7 (tgt := 48) dX2_numberOf_32 (by decide) (fun c => ?_) (fun c => ?_)
      · have h := h.1 (c)
        refine jw_iload_n F 1 dX2_numberOf_48 rfl rfl ?_
        refine jw_iload_n F 2 dX2_numberOf_49 rfl rfl ?_
        obtain ⟨o_25, h⟩ := h
        obtain ⟨o_26, h⟩ := h
        refine jw_icmp_le F o_25 o_26 (tgt := 57) dX2_numberOf_50 (by decide) (fun c => ?_) (fun c => ?_)
        · have h := h.1 (c)
          refine jw_iload_n F 2 dX2_numberOf_57 rfl rfl ?_
          exact j_10 _ h
        · have h := h.2 (c)
          refine jw_iload_n F 1 dX2_numberOf_53 rfl rfl ?_
          refine jw_goto F (tgt := 58) dX2_numberOf_54 (by decide) ?_
          exact j_10 _ h
      · have h := h.2 (c)
        refine jw_iload_n F 0 dX2_numberOf_35 rfl rfl ?_
        refine jw_iload_n F 2 dX2_numberOf_36 rfl rfl ?_
        obtain ⟨o_27, h⟩ := h
        obtain ⟨o_28, h⟩ := h
        refine jw_icmp_le F o_27 o_28 (tgt := 44) dX2_numberOf_37 (by decide) (fun c => ?_) (fun c => ?_)
        · have h := h.1 (c)
          refine jw_iload_n F 2 dX2_numberOf_44 rfl rfl ?_
          refine jw_goto F (tgt := 58) dX2_numberOf_45 (by decide) ?_
          exact j_10 _ h
        · have h := h.2 (c)
          refine jw_iload_n F 0 dX2_numberOf_40 rfl rfl ?_
          refine jw_goto F (tgt := 58) dX2_numberOf_41 (by decide) ?_
          exact j_10 _ h
  · refine jw_icmp_ge F o_1 o_2 (tgt := 18) dX2_numberOf_2 (by decide) (fun c => ?_) (fun c => ?_)
    · have h := h.1 (c)
      refine jw_iload_n F 1 dX2_numberOf_18 rfl rfl ?_
      refine jw_iload_n F 2 dX2_numberOf_19 rfl rfl ?_
      obtain ⟨o_29, h⟩ := h
      obtain ⟨o_30, h⟩ := h
      refine jw_icmp_ge F o_29 o_30 (tgt := 27) dX2_numberOf_20 (by decide) (fun c => ?_) (fun c => ?_)
      · have h := h.1 (c)
        refine jw_iload_n F 2 dX2_numberOf_27 rfl rfl ?_
        exact j_5 _ h
      · have h := h.2 (c)
        refine jw_iload_n F 1 dX2_numberOf_23 rfl rfl ?_
        refine jw_goto F (tgt := 28) dX2_numberOf_24 (by decide) ?_
        exact j_5 _ h
    · have h := h.2 (c)
      refine jw_iload_n F 0 dX2_numberOf_5 rfl rfl ?_
      refine jw_iload_n F 2 dX2_numberOf_6 rfl rfl ?_
      obtain ⟨o_31, h⟩ := h
      obtain ⟨o_32, h⟩ := h
      refine jw_icmp_ge F o_31 o_32 (tgt := 14) dX2_numberOf_7 (by decide) (fun c => ?_) (fun c => ?_)
      · have h := h.1 (c)
        refine jw_iload_n F 2 dX2_numberOf_14 rfl rfl ?_
        refine jw_goto F (tgt := 28) dX2_numberOf_15 (by decide) ?_
        exact j_5 _ h
      · have h := h.2 (c)
        refine jw_iload_n F 0 dX2_numberOf_10 rfl rfl ?_
        refine jw_goto F (tgt := 28) dX2_numberOf_11 (by decide) ?_
        exact j_5 _ h
theorem hd_X2_laySorts : yX2_laySorts.cls = RX2 ∧ yX2_laySorts.cls ≠ "java/lang/invoke/MethodHandle" ∧ yX2_laySorts.cls ≠ "java/lang/invoke/VarHandle" ∧ (parseMethodDescriptor yX2_laySorts.desc).map (fun d => d.parameters.length) = some 2 := by decide +kernel
set_option maxHeartbeats 4000000 in
set_option maxRecDepth 100000 in
theorem wk_X2_laySorts {l : Launch} {D : va_G} {dA : Nat → ClassId} {ad : Nat → Nat} {s : Sg} {a1 : Int} {Q : Int → Sg → Prop} {ka : Nat} (hka : ka < 18) (hma : ∀ v, mmk dA ad ka v = .inl (dA 0, 120, .inl (fun (j : Nat) => iI (v (j : Int))))) (h : wp_X2_laySorts ka a1 s Q) : MXi l D dA (mwf dA ad) yX2_laySorts cX2_laySorts 12 .int ({ frames := 1, cells := 0, slots := 0, locals := 28 } : Room) [.ref (ad 0), .int (iI a1), .ref (ad ka)] s Q := by
  unfold wp_X2_laySorts at h
  refine jw_start_i (own := RX2) (lv0 := [(0, .ref (ad 0)), (1, .int (iI a1)), (2, .ref (ad ka))]) (by decide) rfl (Nat.le_of_ble_eq_true rfl) rfl (fun G F rt => ?_)
  refine jw_iload_n F 1 dX2_laySorts_0 rfl rfl ?_
  refine jw_iload_n F 1 dX2_laySorts_1 rfl rfl ?_
  refine jw_iconst F dX2_laySorts_2 ?_
  refine jw_isub F dX2_laySorts_3 ?_
  refine jw_imul F dX2_laySorts_4 ?_
  refine jw_iload_n F 1 dX2_laySorts_5 rfl rfl ?_
  refine jw_iconst F dX2_laySorts_6 ?_
  refine jw_isub F dX2_laySorts_7 ?_
  refine jw_imul F dX2_laySorts_8 ?_
  refine jw_bipush F (z := 6) dX2_laySorts_9 (by decide) ?_
  obtain ⟨o_1, o_2, h⟩ := h
  refine jw_idiv F o_1 (by decide) o_2 (by decide) dX2_laySorts_11 ?_
  refine jw_istore_n F (lv' := [(0, .ref (ad 0)), (1, .int (iI a1)), (2, .ref (ad ka)), (3, .int (iI (((a1 * (a1 - 1)) * (a1 - 2)) / 6)))]) [1, 2, 3, 0] dX2_laySorts_12 rfl (by decide) rfl ?_
  refine jw_iconst F dX2_laySorts_13 ?_
  refine jw_istore F (lv' := [(0, .ref (ad 0)), (1, .int (iI a1)), (2, .ref (ad ka)), (3, .int (iI (((a1 * (a1 - 1)) * (a1 - 2)) / 6))), (4, .int (iI 0))]) [1, 2, 3, 4, 0] dX2_laySorts_14 (by decide) rfl ?_
  refine lp2_r (fun x4_3 s_4 => G s_4 16 [(0, .ref (ad 0)), (1, .int (iI a1)), (2, .ref (ad ka)), (3, .int (iI (((a1 * (a1 - 1)) * (a1 - 2)) / 6))), (4, .int (iI x4_3))] []) h (fun x4_3 s_4 K_5 h ih_6 => ?_)
  refine jw_iload F 4 dX2_laySorts_16 rfl ?_
  refine jw_iload_n F 3 dX2_laySorts_18 rfl rfl ?_
  obtain ⟨o_7, h⟩ := h
  obtain ⟨o_8, h⟩ := h
  refine jw_icmp_ge F o_7 o_8 (tgt := 34) dX2_laySorts_19 (by decide) (fun c => ?_) (fun c => ?_)
  · have h := h.1 (c)
    refine jw_iconst F dX2_laySorts_34 ?_
    refine jw_istore F (lv' := [(0, .ref (ad 0)), (1, .int (iI a1)), (2, .ref (ad ka)), (3, .int (iI (((a1 * (a1 - 1)) * (a1 - 2)) / 6))), (4, .int (iI 1))]) [1, 2, 3, 4, 0] dX2_laySorts_35 (by decide) rfl ?_
    refine lp2_r (fun x4_9 s_10 => G s_10 37 [(0, .ref (ad 0)), (1, .int (iI a1)), (2, .ref (ad ka)), (3, .int (iI (((a1 * (a1 - 1)) * (a1 - 2)) / 6))), (4, .int (iI x4_9))] []) h (fun x4_9 s_10 K_11 h ih_12 => ?_)
    refine jw_iload F 4 dX2_laySorts_37 rfl ?_
    obtain ⟨o_13, h⟩ := h
    refine jw_if_eq F o_13 (tgt := 215) dX2_laySorts_39 (by decide) (fun c => ?_) (fun c => ?_)
    · have h := h.1 (c)
      refine jw_iconst F dX2_laySorts_215 ?_
      refine jw_istore F (lv' := [(0, .ref (ad 0)), (1, .int (iI a1)), (2, .ref (ad ka)), (3, .int (iI (((a1 * (a1 - 1)) * (a1 - 2)) / 6))), (4, .int (iI x4_9)), (5, .int (iI 0))]) [1, 2, 3, 4, 5, 0] dX2_laySorts_216 (by decide) rfl ?_
      refine jw_iconst F dX2_laySorts_218 ?_
      refine jw_istore F (lv' := [(0, .ref (ad 0)), (1, .int (iI a1)), (2, .ref (ad ka)), (3, .int (iI (((a1 * (a1 - 1)) * (a1 - 2)) / 6))), (4, .int (iI x4_9)), (5, .int (iI 0)), (6, .int (iI 0))]) [1, 2, 3, 4, 5, 6, 0] dX2_laySorts_219 (by decide) rfl ?_
      refine jw_sub F (lv' := [(2, .ref (ad ka)), (3, .int (iI (((a1 * (a1 - 1)) * (a1 - 2)) / 6))), (5, .int (iI 0)), (6, .int (iI 0))]) [2, 3, 5, 6] rfl ?_
      refine lp3_r (fun x5_14 x6_15 s_16 => G s_16 221 [(2, .ref (ad ka)), (3, .int (iI (((a1 * (a1 - 1)) * (a1 - 2)) / 6))), (5, .int (iI x5_14)), (6, .int (iI x6_15))] []) h (fun x5_14 x6_15 s_16 K_17 h ih_18 => ?_)
      refine jw_iload F 3 dX2_laySorts_221 rfl ?_
      refine jw_iload_n F 1 dX2_laySorts_223 rfl rfl ?_
      obtain ⟨o_19, h⟩ := h
      obtain ⟨o_20, h⟩ := h
      refine jw_icmp_ge F o_19 o_20 (tgt := 264) dX2_laySorts_224 (by decide) (fun c => ?_) (fun c => ?_)
      · have h := h.1 (c)
        refine jw_iload F 2 dX2_laySorts_264 rfl ?_
        exact rt _ _ _ _ dX2_laySorts_266 h
      · have h := h.2 (c)
        refine jw_aload_n F 0 dX2_laySorts_227 rfl rfl ?_
        refine jw_iload F 3 dX2_laySorts_228 rfl ?_
        obtain ⟨o_21, o_22, h⟩ := h
        refine jw_iald F (mO dA ad) hka hma 0 rfl (by decide) o_21 o_22 dX2_laySorts_230 ?_
        refine jw_iload F 3 dX2_laySorts_231 rfl ?_
        obtain ⟨o_23, h⟩ := h
        obtain ⟨o_24, h⟩ := h
        refine jn2_r (fun x5_25 s_26 => G s_26 258 [(2, .ref (ad ka)), (3, .int (iI (((a1 * (a1 - 1)) * (a1 - 2)) / 6))), (5, .int (iI x5_25)), (6, .int (iI x6_15))] []) h (fun x5_25 s_26 h => ?_) (fun K_27 h j_28 => ?_)
        · refine jw_iinc F (lv' := [(2, .ref (ad ka)), (3, .int (iI (((a1 * (a1 - 1)) * (a1 - 2)) / 6))), (5, .int (iI x5_25)), (6, .int (iI (x6_15 + 1)))]) 3 [1, 2, 3, 0] dX2_laySorts_258 rfl (by decide) rfl ?_
          refine jw_goto F (tgt := 221) dX2_laySorts_261 (by decide) ?_
          exact ih_18 _ _ _ h
        · refine jw_icmp_ne F o_23 o_24 (tgt := 248) dX2_laySorts_233 (by decide) (fun c => ?_) (fun c => ?_)
          · have h := h.1 (c)
            refine jw_aload_n F 0 dX2_laySorts_248 rfl rfl ?_
            refine jw_iload F 3 dX2_laySorts_249 rfl ?_
            refine jw_aload_n F 0 dX2_laySorts_251 rfl rfl ?_
            refine jw_aload_n F 0 dX2_laySorts_252 rfl rfl ?_
            refine jw_iload F 3 dX2_laySorts_253 rfl ?_
            obtain ⟨o_29, o_30, h⟩ := h
            refine jw_iald F (mO dA ad) hka hma 0 rfl (by decide) o_29 o_30 dX2_laySorts_255 ?_
            obtain ⟨o_31, o_32, h⟩ := h
            refine jw_iald F (mO dA ad) hka hma 0 rfl (by decide) o_31 o_32 dX2_laySorts_256 ?_
            obtain ⟨o_33, o_34, h⟩ := h
            refine jw_iast F (mO dA ad) hka hma 0 rfl (by decide) o_33 o_34 dX2_laySorts_257 ?_
            exact j_28 _ _ h
          · have h := h.2 (c)
            refine jw_aload_n F 0 dX2_laySorts_236 rfl rfl ?_
            refine jw_iload F 3 dX2_laySorts_237 rfl ?_
            refine jw_iload F 2 dX2_laySorts_239 rfl ?_
            obtain ⟨o_35, o_36, h⟩ := h
            refine jw_iast F (mO dA ad) hka hma 0 rfl (by decide) o_35 o_36 dX2_laySorts_241 ?_
            refine jw_iinc F (lv' := [(2, .ref (ad ka)), (3, .int (iI (((a1 * (a1 - 1)) * (a1 - 2)) / 6))), (5, .int (iI (x5_14 + 1))), (6, .int (iI x6_15))]) 2 [1, 2, 0, 3] dX2_laySorts_242 rfl (by decide) rfl ?_
            refine jw_goto F (tgt := 258) dX2_laySorts_245 (by decide) ?_
            exact j_28 _ _ h
    · have h := h.2 (c)
      refine jw_iconst F dX2_laySorts_42 ?_
      refine jw_istore F (lv' := [(0, .ref (ad 0)), (1, .int (iI a1)), (2, .ref (ad ka)), (3, .int (iI (((a1 * (a1 - 1)) * (a1 - 2)) / 6))), (4, .int (iI 0))]) [1, 2, 3, 4, 0] dX2_laySorts_43 (by decide) rfl ?_
      refine jw_iconst F dX2_laySorts_45 ?_
      refine jw_istore F (lv' := [(0, .ref (ad 0)), (1, .int (iI a1)), (2, .ref (ad ka)), (3, .int (iI (((a1 * (a1 - 1)) * (a1 - 2)) / 6))), (4, .int (iI 0)), (5, .int (iI 0))]) [1, 2, 3, 4, 5, 0] dX2_laySorts_46 (by decide) rfl ?_
      refine jw_iconst F dX2_laySorts_48 ?_
      refine jw_istore F (lv' := [(0, .ref (ad 0)), (1, .int (iI a1)), (2, .ref (ad ka)), (3, .int (iI (((a1 * (a1 - 1)) * (a1 - 2)) / 6))), (4, .int (iI 0)), (5, .int (iI 0)), (6, .int (iI 0))]) [1, 2, 3, 4, 5, 6, 0] dX2_laySorts_49 (by decide) rfl ?_
      refine lp4_r (fun x4_37 x5_38 x6_39 s_40 => G s_40 51 [(0, .ref (ad 0)), (1, .int (iI a1)), (2, .ref (ad ka)), (3, .int (iI (((a1 * (a1 - 1)) * (a1 - 2)) / 6))), (4, .int (iI x4_37)), (5, .int (iI x5_38)), (6, .int (iI x6_39))] []) h (fun x4_37 x5_38 x6_39 s_40 K_41 h ih_42 => ?_)
      refine jw_iload F 6 dX2_laySorts_51 rfl ?_
      refine jw_iload_n F 1 dX2_laySorts_53 rfl rfl ?_
      obtain ⟨o_43, h⟩ := h
      obtain ⟨o_44, h⟩ := h
      refine jw_icmp_ge F o_43 o_44 (tgt := 212) dX2_laySorts_54 (by decide) (fun c => ?_) (fun c => ?_)
      · have h := h.1 (c)
        refine jw_goto F (tgt := 37) dX2_laySorts_212 (by decide) ?_
        refine jw_sub F (lv' := [(0, .ref (ad 0)), (1, .int (iI a1)), (2, .ref (ad ka)), (3, .int (iI (((a1 * (a1 - 1)) * (a1 - 2)) / 6))), (4, .int (iI x4_37))]) [0, 1, 2, 3, 4] rfl ?_
        exact ih_12 _ _ h
      · have h := h.2 (c)
        refine jw_iload F 6 dX2_laySorts_57 rfl ?_
        refine jw_iconst F dX2_laySorts_59 ?_
        refine jw_iadd F dX2_laySorts_60 ?_
        refine jw_istore F (lv' := [(0, .ref (ad 0)), (1, .int (iI a1)), (2, .ref (ad ka)), (3, .int (iI (((a1 * (a1 - 1)) * (a1 - 2)) / 6))), (4, .int (iI x4_37)), (5, .int (iI x5_38)), (6, .int (iI x6_39)), (7, .int (iI (x6_39 + 1)))]) [1, 2, 3, 4, 5, 6, 7, 0] dX2_laySorts_61 (by decide) rfl ?_
        refine lp4_r (fun x4_45 x5_46 x7_47 s_48 => G s_48 63 [(0, .ref (ad 0)), (1, .int (iI a1)), (2, .ref (ad ka)), (3, .int (iI (((a1 * (a1 - 1)) * (a1 - 2)) / 6))), (4, .int (iI x4_45)), (5, .int (iI x5_46)), (6, .int (iI x6_39)), (7, .int (iI x7_47))] []) h (fun x4_45 x5_46 x7_47 s_48 K_49 h ih_50 => ?_)
        refine jw_iload F 7 dX2_laySorts_63 rfl ?_
        refine jw_iload_n F 1 dX2_laySorts_65 rfl rfl ?_
        obtain ⟨o_51, h⟩ := h
        obtain ⟨o_52, h⟩ := h
        refine jw_icmp_ge F o_51 o_52 (tgt := 206) dX2_laySorts_66 (by decide) (fun c => ?_) (fun c => ?_)
        · have h := h.1 (c)
          refine jw_iinc F (lv' := [(0, .ref (ad 0)), (1, .int (iI a1)), (2, .ref (ad ka)), (3, .int (iI (((a1 * (a1 - 1)) * (a1 - 2)) / 6))), (4, .int (iI x4_45)), (5, .int (iI x5_46)), (6, .int (iI (x6_39 + 1))), (7, .int (iI x7_47))]) 6 [1, 2, 3, 4, 5, 6, 0, 7] dX2_laySorts_206 rfl (by decide) rfl ?_
          refine jw_goto F (tgt := 51) dX2_laySorts_209 (by decide) ?_
          refine jw_sub F (lv' := [(0, .ref (ad 0)), (1, .int (iI a1)), (2, .ref (ad ka)), (3, .int (iI (((a1 * (a1 - 1)) * (a1 - 2)) / 6))), (4, .int (iI x4_45)), (5, .int (iI x5_46)), (6, .int (iI (x6_39 + 1)))]) [0, 1, 2, 3, 4, 5, 6] rfl ?_
          exact ih_42 _ _ _ _ h
        · have h := h.2 (c)
          refine jw_iload F 7 dX2_laySorts_69 rfl ?_
          refine jw_iconst F dX2_laySorts_71 ?_
          refine jw_iadd F dX2_laySorts_72 ?_
          refine jw_istore F (lv' := [(0, .ref (ad 0)), (1, .int (iI a1)), (2, .ref (ad ka)), (3, .int (iI (((a1 * (a1 - 1)) * (a1 - 2)) / 6))), (4, .int (iI x4_45)), (5, .int (iI x5_46)), (6, .int (iI x6_39)), (7, .int (iI x7_47)), (8, .int (iI (x7_47 + 1)))]) [1, 2, 3, 4, 5, 6, 7, 8, 0] dX2_laySorts_73 (by decide) rfl ?_
          refine lp4_r (fun x4_53 x5_54 x8_55 s_56 => G s_56 75 [(0, .ref (ad 0)), (1, .int (iI a1)), (2, .ref (ad ka)), (3, .int (iI (((a1 * (a1 - 1)) * (a1 - 2)) / 6))), (4, .int (iI x4_53)), (5, .int (iI x5_54)), (6, .int (iI x6_39)), (7, .int (iI x7_47)), (8, .int (iI x8_55))] []) h (fun x4_53 x5_54 x8_55 s_56 K_57 h ih_58 => ?_)
          refine jw_iload F 8 dX2_laySorts_75 rfl ?_
          refine jw_iload_n F 1 dX2_laySorts_77 rfl rfl ?_
          obtain ⟨o_59, h⟩ := h
          obtain ⟨o_60, h⟩ := h
          refine jw_icmp_ge F o_59 o_60 (tgt := 200) dX2_laySorts_78 (by decide) (fun c => ?_) (fun c => ?_)
          · have h := h.1 (c)
            refine jw_iinc F (lv' := [(0, .ref (ad 0)), (1, .int (iI a1)), (2, .ref (ad ka)), (3, .int (iI (((a1 * (a1 - 1)) * (a1 - 2)) / 6))), (4, .int (iI x4_53)), (5, .int (iI x5_54)), (6, .int (iI x6_39)), (7, .int (iI (x7_47 + 1))), (8, .int (iI x8_55))]) 7 [1, 2, 3, 4, 5, 6, 7, 0, 8] dX2_laySorts_200 rfl (by decide) rfl ?_
            refine jw_goto F (tgt := 63) dX2_laySorts_203 (by decide) ?_
            refine jw_sub F (lv' := [(0, .ref (ad 0)), (1, .int (iI a1)), (2, .ref (ad ka)), (3, .int (iI (((a1 * (a1 - 1)) * (a1 - 2)) / 6))), (4, .int (iI x4_53)), (5, .int (iI x5_54)), (6, .int (iI x6_39)), (7, .int (iI (x7_47 + 1)))]) [0, 1, 2, 3, 4, 5, 6, 7] rfl ?_
            exact ih_50 _ _ _ _ h
          · have h := h.2 (c)
            refine jw_iconst F dX2_laySorts_81 ?_
            refine jw_istore F (lv' := [(0, .ref (ad 0)), (1, .int (iI a1)), (2, .ref (ad ka)), (3, .int (iI (((a1 * (a1 - 1)) * (a1 - 2)) / 6))), (4, .int (iI x4_53)), (5, .int (iI x5_54)), (6, .int (iI x6_39)), (7, .int (iI x7_47)), (8, .int (iI x8_55)), (9, .int (iI 0))]) [1, 2, 3, 4, 5, 6, 7, 8, 9, 0] dX2_laySorts_82 (by decide) rfl ?_
            refine lp3_r (fun x4_61 x9_62 s_63 => G s_63 84 [(0, .ref (ad 0)), (1, .int (iI a1)), (2, .ref (ad ka)), (3, .int (iI (((a1 * (a1 - 1)) * (a1 - 2)) / 6))), (4, .int (iI x4_61)), (5, .int (iI x5_54)), (6, .int (iI x6_39)), (7, .int (iI x7_47)), (8, .int (iI x8_55)), (9, .int (iI x9_62))] []) h (fun x4_61 x9_62 s_63 K_64 h ih_65 => ?_)
            refine jw_iload F 9 dX2_laySorts_84 rfl ?_
            refine jw_aload_n F 0 dX2_laySorts_86 rfl rfl ?_
            refine gx_X2_112_0 F dX2_laySorts_87 ?_
            obtain ⟨o_66, h⟩ := h
            obtain ⟨o_67, h⟩ := h
            refine jw_icmp_ge F o_66 o_67 (tgt := 191) dX2_laySorts_90 (by decide) (fun c => ?_) (fun c => ?_)
            · have h := h.1 (c)
              refine jw_iinc F (lv' := [(0, .ref (ad 0)), (1, .int (iI a1)), (2, .ref (ad ka)), (3, .int (iI (((a1 * (a1 - 1)) * (a1 - 2)) / 6))), (4, .int (iI x4_61)), (5, .int (iI (x5_54 + 1))), (6, .int (iI x6_39)), (7, .int (iI x7_47)), (8, .int (iI x8_55)), (9, .int (iI x9_62))]) 5 [1, 2, 3, 4, 5, 0, 6, 7, 8, 9] dX2_laySorts_191 rfl (by decide) rfl ?_
              refine jw_iinc F (lv' := [(0, .ref (ad 0)), (1, .int (iI a1)), (2, .ref (ad ka)), (3, .int (iI (((a1 * (a1 - 1)) * (a1 - 2)) / 6))), (4, .int (iI x4_61)), (5, .int (iI (x5_54 + 1))), (6, .int (iI x6_39)), (7, .int (iI x7_47)), (8, .int (iI (x8_55 + 1))), (9, .int (iI x9_62))]) 8 [1, 2, 3, 4, 5, 6, 7, 8, 0, 9] dX2_laySorts_194 rfl (by decide) rfl ?_
              refine jw_goto F (tgt := 75) dX2_laySorts_197 (by decide) ?_
              refine jw_sub F (lv' := [(0, .ref (ad 0)), (1, .int (iI a1)), (2, .ref (ad ka)), (3, .int (iI (((a1 * (a1 - 1)) * (a1 - 2)) / 6))), (4, .int (iI x4_61)), (5, .int (iI (x5_54 + 1))), (6, .int (iI x6_39)), (7, .int (iI x7_47)), (8, .int (iI (x8_55 + 1)))]) [0, 1, 2, 3, 4, 5, 6, 7, 8] rfl ?_
              exact ih_58 _ _ _ _ h
            · have h := h.2 (c)
              refine jw_aload_n F 0 dX2_laySorts_93 rfl rfl ?_
              refine jw_iload F 9 dX2_laySorts_94 rfl ?_
              refine jw_iload F 6 dX2_laySorts_96 rfl ?_
              refine jw_iload_n F 1 dX2_laySorts_98 rfl rfl ?_
              refine jw_callVip F (wk_X2_sound h) (lw_V q831 q833 qs42 q77 q834) hd_X2_sound ⟨rfl, rfl, Nat.le_of_ble_eq_true rfl, Nat.le_of_ble_eq_true rfl⟩ rfl rfl (mh_0 dA ad _) rfl rfl rfl (Nat.le_of_ble_eq_true rfl) dX2_laySorts_99 (fun r_68 h => ?_)
              refine jw_aload_n F 0 dX2_laySorts_102 rfl rfl ?_
              refine jw_iload F 9 dX2_laySorts_103 rfl ?_
              refine jw_iload F 7 dX2_laySorts_105 rfl ?_
              refine jw_iload_n F 1 dX2_laySorts_107 rfl rfl ?_
              refine jw_callVip F (wk_X2_sound h) (lw_V q831 q833 qs42 q77 q834) hd_X2_sound ⟨rfl, rfl, Nat.le_of_ble_eq_true rfl, Nat.le_of_ble_eq_true rfl⟩ rfl rfl (mh_0 dA ad _) rfl rfl rfl (Nat.le_of_ble_eq_true rfl) dX2_laySorts_108 (fun r_70 h => ?_)
              refine jw_aload_n F 0 dX2_laySorts_111 rfl rfl ?_
              refine jw_iload F 9 dX2_laySorts_112 rfl ?_
              refine jw_iload F 8 dX2_laySorts_114 rfl ?_
              refine jw_iload_n F 1 dX2_laySorts_116 rfl rfl ?_
              refine jw_callVip F (wk_X2_sound h) (lw_V q831 q833 qs42 q77 q834) hd_X2_sound ⟨rfl, rfl, Nat.le_of_ble_eq_true rfl, Nat.le_of_ble_eq_true rfl⟩ rfl rfl (mh_0 dA ad _) rfl rfl rfl (Nat.le_of_ble_eq_true rfl) dX2_laySorts_117 (fun r_72 h => ?_)
              refine jw_iload_n F 1 dX2_laySorts_120 rfl rfl ?_
              refine jw_callSip F (wk_X2_numberOf h) (lw_S q835 q836 q77 q837) hd_X2_numberOf ⟨rfl, rfl, Nat.le_of_ble_eq_true rfl, Nat.le_of_ble_eq_true rfl⟩ rfl rfl (Nat.le_of_ble_eq_true rfl) dX2_laySorts_121 (fun r_74 h => ?_)
              refine jw_istore F (lv' := [(0, .ref (ad 0)), (1, .int (iI a1)), (2, .ref (ad ka)), (3, .int (iI (((a1 * (a1 - 1)) * (a1 - 2)) / 6))), (4, .int (iI x4_61)), (5, .int (iI x5_54)), (6, .int (iI x6_39)), (7, .int (iI x7_47)), (8, .int (iI x8_55)), (9, .int (iI x9_62)), (10, .int (iI r_74))]) [1, 2, 3, 4, 5, 6, 7, 8, 9, 10, 0] dX2_laySorts_124 (by decide) rfl ?_
              refine jw_aload_n F 2 dX2_laySorts_126 rfl rfl ?_
              refine jw_iload F 5 dX2_laySorts_127 rfl ?_
              obtain ⟨o_76, o_77, h⟩ := h
              refine jw_iald F (mO dA ad) hka hma 0 rfl (by decide) o_76 o_77 dX2_laySorts_129 ?_
              refine jw_aload_n F 2 dX2_laySorts_130 rfl rfl ?_
              refine jw_iload F 10 dX2_laySorts_131 rfl ?_
              obtain ⟨o_78, o_79, h⟩ := h
              refine jw_iald F (mO dA ad) hka hma 0 rfl (by decide) o_78 o_79 dX2_laySorts_133 ?_
              obtain ⟨o_80, h⟩ := h
              obtain ⟨o_81, h⟩ := h
              refine jn1_r (fun v_82 => G s_63 148 [(0, .ref (ad 0)), (1, .int (iI a1)), (2, .ref (ad ka)), (3, .int (iI (((a1 * (a1 - 1)) * (a1 - 2)) / 6))), (4, .int (iI x4_61)), (5, .int (iI x5_54)), (6, .int (iI x6_39)), (7, .int (iI x7_47)), (8, .int (iI x8_55)), (9, .int (iI x9_62)), (10, .int (iI r_74))] [.int (iI v_82)]) h (fun v_82 h => ?_) (fun K_83 h j_84 => ?_)
              · refine jw_istore F (lv' := [(0, .ref (ad 0)), (1, .int (iI a1)), (2, .ref (ad ka)), (3, .int (iI (((a1 * (a1 - 1)) * (a1 - 2)) / 6))), (4, .int (iI x4_61)), (5, .int (iI x5_54)), (6, .int (iI x6_39)), (7, .int (iI x7_47)), (8, .int (iI x8_55)), (9, .int (iI x9_62)), (10, .int (iI r_74)), (11, .int (iI v_82))]) [1, 2, 3, 4, 5, 6, 7, 8, 9, 10, 11, 0] dX2_laySorts_148 (by decide) rfl ?_
                refine jw_iload F 4 dX2_laySorts_150 rfl ?_
                obtain ⟨o_85, h⟩ := h
                refine jn1_r (fun v_86 => G s_63 171 [(0, .ref (ad 0)), (1, .int (iI a1)), (2, .ref (ad ka)), (3, .int (iI (((a1 * (a1 - 1)) * (a1 - 2)) / 6))), (5, .int (iI x5_54)), (6, .int (iI x6_39)), (7, .int (iI x7_47)), (8, .int (iI x8_55)), (9, .int (iI x9_62)), (10, .int (iI r_74)), (11, .int (iI v_82))] [.int (iI v_86)]) h (fun v_86 h => ?_) (fun K_87 h j_88 => ?_)
                · refine jw_istore F (lv' := [(0, .ref (ad 0)), (1, .int (iI a1)), (2, .ref (ad ka)), (3, .int (iI (((a1 * (a1 - 1)) * (a1 - 2)) / 6))), (4, .int (iI v_86)), (5, .int (iI x5_54)), (6, .int (iI x6_39)), (7, .int (iI x7_47)), (8, .int (iI x8_55)), (9, .int (iI x9_62)), (10, .int (iI r_74)), (11, .int (iI v_82))]) [1, 2, 3, 4, 0, 5, 6, 7, 8, 9, 10, 11] dX2_laySorts_171 (by decide) rfl ?_
                  refine jw_aload_n F 2 dX2_laySorts_173 rfl rfl ?_
                  refine jw_iload F 5 dX2_laySorts_174 rfl ?_
                  refine jw_iload F 11 dX2_laySorts_176 rfl ?_
                  obtain ⟨o_89, o_90, h⟩ := h
                  refine jw_iast F (mO dA ad) hka hma 0 rfl (by decide) o_89 o_90 dX2_laySorts_178 ?_
                  refine jw_aload_n F 2 dX2_laySorts_179 rfl rfl ?_
                  refine jw_iload F 10 dX2_laySorts_180 rfl ?_
                  refine jw_iload F 11 dX2_laySorts_182 rfl ?_
                  obtain ⟨o_91, o_92, h⟩ := h
                  refine jw_iast F (mO dA ad) hka hma 0 rfl (by decide) o_91 o_92 dX2_laySorts_184 ?_
                  refine jw_iinc F (lv' := [(0, .ref (ad 0)), (1, .int (iI a1)), (2, .ref (ad ka)), (3, .int (iI (((a1 * (a1 - 1)) * (a1 - 2)) / 6))), (4, .int (iI v_86)), (5, .int (iI x5_54)), (6, .int (iI x6_39)), (7, .int (iI x7_47)), (8, .int (iI x8_55)), (9, .int (iI (x9_62 + 1))), (10, .int (iI r_74)), (11, .int (iI v_82))]) 9 [1, 2, 3, 4, 5, 6, 7, 8, 9, 0, 10, 11] dX2_laySorts_185 rfl (by decide) rfl ?_
                  refine jw_goto F (tgt := 84) dX2_laySorts_188 (by decide) ?_
                  refine jw_sub F (lv' := [(0, .ref (ad 0)), (1, .int (iI a1)), (2, .ref (ad ka)), (3, .int (iI (((a1 * (a1 - 1)) * (a1 - 2)) / 6))), (4, .int (iI v_86)), (5, .int (iI x5_54)), (6, .int (iI x6_39)), (7, .int (iI x7_47)), (8, .int (iI x8_55)), (9, .int (iI (x9_62 + 1)))]) [0, 1, 2, 3, 4, 5, 6, 7, 8, 9] rfl ?_
                  exact ih_65 _ _ _ h
                · refine jn0_r (G s_63 166 [(0, .ref (ad 0)), (1, .int (iI a1)), (2, .ref (ad ka)), (3, .int (iI (((a1 * (a1 - 1)) * (a1 - 2)) / 6))), (5, .int (iI x5_54)), (6, .int (iI x6_39)), (7, .int (iI x7_47)), (8, .int (iI x8_55)), (9, .int (iI x9_62)), (10, .int (iI r_74)), (11, .int (iI v_82))] []) h (fun h => ?_) (fun K_93 h j_94 => ?_)
                  · refine jw_iconst F dX2_laySorts_166 ?_
                    refine jw_goto F (tgt := 171) dX2_laySorts_167 (by decide) ?_
                    exact j_88 _ h
                  · refine jw_if_ne F o_85 (tgt := 166) dX2_laySorts_152 (by decide) (fun c => ?_) (fun c => ?_)
                    · have h := h.1 (c)
                      refine jw_sub F (lv' := [(0, .ref (ad 0)), (1, .int (iI a1)), (2, .ref (ad ka)), (3, .int (iI (((a1 * (a1 - 1)) * (a1 - 2)) / 6))), (5, .int (iI x5_54)), (6, .int (iI x6_39)), (7, .int (iI x7_47)), (8, .int (iI x8_55)), (9, .int (iI x9_62)), (10, .int (iI r_74)), (11, .int (iI v_82))]) [0, 1, 2, 3, 5, 6, 7, 8, 9, 10, 11] rfl ?_
                      exact j_94 h
                    · have h := h.2 (c)
                      refine jw_aload_n F 2 dX2_laySorts_155 rfl rfl ?_
                      refine jw_iload F 5 dX2_laySorts_156 rfl ?_
                      obtain ⟨o_95, o_96, h⟩ := h
                      refine jw_iald F (mO dA ad) hka hma 0 rfl (by decide) o_95 o_96 dX2_laySorts_158 ?_
                      refine jw_aload_n F 2 dX2_laySorts_159 rfl rfl ?_
                      refine jw_iload F 10 dX2_laySorts_160 rfl ?_
                      obtain ⟨o_97, o_98, h⟩ := h
                      refine jw_iald F (mO dA ad) hka hma 0 rfl (by decide) o_97 o_98 dX2_laySorts_162 ?_
                      obtain ⟨o_99, h⟩ := h
                      obtain ⟨o_100, h⟩ := h
                      refine jw_icmp_eq F o_99 o_100 (tgt := 170) dX2_laySorts_163 (by decide) (fun c => ?_) (fun c => ?_)
                      · have h := h.1 (c)
                        refine jw_iconst F dX2_laySorts_170 ?_
                        refine jw_sub F (lv' := [(0, .ref (ad 0)), (1, .int (iI a1)), (2, .ref (ad ka)), (3, .int (iI (((a1 * (a1 - 1)) * (a1 - 2)) / 6))), (5, .int (iI x5_54)), (6, .int (iI x6_39)), (7, .int (iI x7_47)), (8, .int (iI x8_55)), (9, .int (iI x9_62)), (10, .int (iI r_74)), (11, .int (iI v_82))]) [0, 1, 2, 3, 5, 6, 7, 8, 9, 10, 11] rfl ?_
                        exact j_88 _ h
                      · have h := h.2 (c)
                        refine jw_sub F (lv' := [(0, .ref (ad 0)), (1, .int (iI a1)), (2, .ref (ad ka)), (3, .int (iI (((a1 * (a1 - 1)) * (a1 - 2)) / 6))), (5, .int (iI x5_54)), (6, .int (iI x6_39)), (7, .int (iI x7_47)), (8, .int (iI x8_55)), (9, .int (iI x9_62)), (10, .int (iI r_74)), (11, .int (iI v_82))]) [0, 1, 2, 3, 5, 6, 7, 8, 9, 10, 11] rfl ?_
                        exact j_94 h
              · refine jw_icmp_ge F o_80 o_81 (tgt := 144) dX2_laySorts_134 (by decide) (fun c => ?_) (fun c => ?_)
                · have h := h.1 (c)
                  refine jw_aload_n F 2 dX2_laySorts_144 rfl rfl ?_
                  refine jw_iload F 10 dX2_laySorts_145 rfl ?_
                  obtain ⟨o_101, o_102, h⟩ := h
                  refine jw_iald F (mO dA ad) hka hma 0 rfl (by decide) o_101 o_102 dX2_laySorts_147 ?_
                  exact j_84 _ h
                · have h := h.2 (c)
                  refine jw_aload_n F 2 dX2_laySorts_137 rfl rfl ?_
                  refine jw_iload F 5 dX2_laySorts_138 rfl ?_
                  obtain ⟨o_103, o_104, h⟩ := h
                  refine jw_iald F (mO dA ad) hka hma 0 rfl (by decide) o_103 o_104 dX2_laySorts_140 ?_
                  refine jw_goto F (tgt := 148) dX2_laySorts_141 (by decide) ?_
                  exact j_84 _ h
  · have h := h.2 (c)
    refine jw_aload_n F 2 dX2_laySorts_22 rfl rfl ?_
    refine jw_iload F 4 dX2_laySorts_23 rfl ?_
    refine jw_iload F 4 dX2_laySorts_25 rfl ?_
    obtain ⟨o_105, o_106, h⟩ := h
    refine jw_iast F (mO dA ad) hka hma 0 rfl (by decide) o_105 o_106 dX2_laySorts_27 ?_
    refine jw_iinc F (lv' := [(0, .ref (ad 0)), (1, .int (iI a1)), (2, .ref (ad ka)), (3, .int (iI (((a1 * (a1 - 1)) * (a1 - 2)) / 6))), (4, .int (iI (x4_3 + 1)))]) 4 [1, 2, 3, 4, 0] dX2_laySorts_28 rfl (by decide) rfl ?_
    refine jw_goto F (tgt := 16) dX2_laySorts_31 (by decide) ?_
    exact ih_6 _ _ h
theorem hd_X2_layChords : yX2_layChords.cls = RX2 ∧ yX2_layChords.cls ≠ "java/lang/invoke/MethodHandle" ∧ yX2_layChords.cls ≠ "java/lang/invoke/VarHandle" ∧ (parseMethodDescriptor yX2_layChords.desc).map (fun d => d.parameters.length) = some 0 := by decide +kernel
set_option maxHeartbeats 4000000 in
set_option maxRecDepth 100000 in
theorem wk_X2_layChords {l : Launch} {D : va_G} {dA : Nat → ClassId} {ad : Nat → Nat} {s : Sg} {Q : Sg → Prop} (h : wp_X2_layChords s Q) : MXv l D dA (mwf dA ad) yX2_layChords cX2_layChords 4 ({ frames := 2, cells := 0, slots := 0, locals := 59 } : Room) [.ref (ad 0)] s Q := by
  unfold wp_X2_layChords at h
  refine jw_start_v (own := RX2) (lv0 := [(0, .ref (ad 0))]) (by decide) rfl (Nat.le_of_ble_eq_true rfl) rfl (fun G F rt => ?_)
  refine jw_aload_n F 0 dX2_layChords_0 rfl rfl ?_
  refine jw_iconst F dX2_layChords_1 ?_
  refine pgx_X2_102_0 F dX2_layChords_2 ?_
  refine jw_iconst F dX2_layChords_5 ?_
  refine jw_istore_n F (lv' := [(0, .ref (ad 0)), (1, .int (iI 0))]) [1, 0] dX2_layChords_6 rfl (by decide) rfl ?_
  refine lp2_r (fun x1_1 s_2 => G s_2 7 [(0, .ref (ad 0)), (1, .int (iI x1_1))] []) h (fun x1_1 s_2 K_3 h ih_4 => ?_)
  refine jw_iload_n F 1 dX2_layChords_7 rfl rfl ?_
  refine jw_aload_n F 0 dX2_layChords_8 rfl rfl ?_
  refine gx_X2_67_0 F dX2_layChords_9 ?_
  obtain ⟨o_5, h⟩ := h
  obtain ⟨o_6, h⟩ := h
  refine jw_icmp_ge F o_5 o_6 (tgt := 107) dX2_layChords_12 (by decide) (fun c => ?_) (fun c => ?_)
  · have h := h.1 (c)
    refine jw_aload_n F 0 dX2_layChords_107 rfl rfl ?_
    refine jw_aload_n F 0 dX2_layChords_108 rfl rfl ?_
    refine jw_aload_n F 0 dX2_layChords_109 rfl rfl ?_
    refine gx_X2_67_0 F dX2_layChords_110 ?_
    refine jw_aload_n F 0 dX2_layChords_113 rfl rfl ?_
    refine gx_X2_22_0 F dX2_layChords_114 ?_
    refine jw_callVi F (wk_X2_laySorts (by decide) (ma_5 dA ad) h) (lw_V q827 q829 qs41 q77 q830) hd_X2_laySorts ⟨rfl, rfl, Nat.le_of_ble_eq_true rfl, Nat.le_of_ble_eq_true rfl⟩ rfl rfl (mh_0 dA ad _) rfl rfl rfl (Nat.le_of_ble_eq_true rfl) dX2_layChords_117 (fun r_7 s_8 hz => ?_)
    have h := hz
    refine pgx_X2_109_0 F dX2_layChords_120 ?_
    refine jw_aload_n F 0 dX2_layChords_123 rfl rfl ?_
    refine gx_X2_102_0 F dX2_layChords_124 ?_
    refine jw_iconst F dX2_layChords_127 ?_
    refine jw_isub F dX2_layChords_128 ?_
    refine jw_istore_n F (lv' := [(0, .ref (ad 0)), (1, .int (iI (((up s_8 0 10 r_7) 0 8) - 1)))]) [1, 0] dX2_layChords_129 rfl (by decide) rfl ?_
    refine lp2_r (fun x1_9 s_10 => G s_10 130 [(0, .ref (ad 0)), (1, .int (iI x1_9))] []) h (fun x1_9 s_10 K_11 h ih_12 => ?_)
    refine jw_iload_n F 1 dX2_layChords_130 rfl rfl ?_
    obtain ⟨o_13, h⟩ := h
    refine jw_if_lt F o_13 (tgt := 152) dX2_layChords_131 (by decide) (fun c => ?_) (fun c => ?_)
    · have h := h.1 (c)
      exact rt _ _ _ dX2_layChords_152 h
    · have h := h.2 (c)
      refine jw_aload_n F 0 dX2_layChords_134 rfl rfl ?_
      refine gx_X2_25_0 F dX2_layChords_135 ?_
      refine jw_aload_n F 0 dX2_layChords_138 rfl rfl ?_
      refine gx_X2_22_0 F dX2_layChords_139 ?_
      refine jw_iload_n F 1 dX2_layChords_142 rfl rfl ?_
      obtain ⟨o_14, o_15, h⟩ := h
      refine jw_iald F (mO dA ad) (k := 5) (by decide) (ma_5 dA ad) 0 rfl (by decide) o_14 o_15 dX2_layChords_143 ?_
      refine jw_iload_n F 1 dX2_layChords_144 rfl rfl ?_
      obtain ⟨o_16, o_17, h⟩ := h
      refine jw_iast F (mO dA ad) (k := 6) (by decide) (ma_6 dA ad) 0 rfl (by decide) o_16 o_17 dX2_layChords_145 ?_
      refine jw_iinc F (lv' := [(0, .ref (ad 0)), (1, .int (iI (x1_9 + (-1))))]) 1 [1, 0] dX2_layChords_146 rfl (by decide) rfl ?_
      refine jw_goto F (tgt := 130) dX2_layChords_149 (by decide) ?_
      exact ih_12 _ _ h
  · have h := h.2 (c)
    refine jw_iload_n F 1 dX2_layChords_15 rfl rfl ?_
    refine jw_iconst F dX2_layChords_16 ?_
    refine jw_iadd F dX2_layChords_17 ?_
    refine jw_istore_n F (lv' := [(0, .ref (ad 0)), (1, .int (iI x1_1)), (2, .int (iI (x1_1 + 1)))]) [1, 2, 0] dX2_layChords_18 rfl (by decide) rfl ?_
    refine lp2_r (fun x2_18 s_19 => G s_19 19 [(0, .ref (ad 0)), (1, .int (iI x1_1)), (2, .int (iI x2_18))] []) h (fun x2_18 s_19 K_20 h ih_21 => ?_)
    refine jw_iload_n F 2 dX2_layChords_19 rfl rfl ?_
    refine jw_aload_n F 0 dX2_layChords_20 rfl rfl ?_
    refine gx_X2_67_0 F dX2_layChords_21 ?_
    obtain ⟨o_22, h⟩ := h
    obtain ⟨o_23, h⟩ := h
    refine jw_icmp_ge F o_22 o_23 (tgt := 101) dX2_layChords_24 (by decide) (fun c => ?_) (fun c => ?_)
    · have h := h.1 (c)
      refine jw_iinc F (lv' := [(0, .ref (ad 0)), (1, .int (iI (x1_1 + 1))), (2, .int (iI x2_18))]) 1 [1, 0, 2] dX2_layChords_101 rfl (by decide) rfl ?_
      refine jw_goto F (tgt := 7) dX2_layChords_104 (by decide) ?_
      refine jw_sub F (lv' := [(0, .ref (ad 0)), (1, .int (iI (x1_1 + 1)))]) [0, 1] rfl ?_
      exact ih_4 _ _ h
    · have h := h.2 (c)
      refine jw_iload_n F 2 dX2_layChords_27 rfl rfl ?_
      refine jw_iconst F dX2_layChords_28 ?_
      refine jw_iadd F dX2_layChords_29 ?_
      refine jw_istore_n F (lv' := [(0, .ref (ad 0)), (1, .int (iI x1_1)), (2, .int (iI x2_18)), (3, .int (iI (x2_18 + 1)))]) [1, 2, 3, 0] dX2_layChords_30 rfl (by decide) rfl ?_
      refine lp2_r (fun x3_24 s_25 => G s_25 31 [(0, .ref (ad 0)), (1, .int (iI x1_1)), (2, .int (iI x2_18)), (3, .int (iI x3_24))] []) h (fun x3_24 s_25 K_26 h ih_27 => ?_)
      refine jw_iload_n F 3 dX2_layChords_31 rfl rfl ?_
      refine jw_aload_n F 0 dX2_layChords_32 rfl rfl ?_
      refine gx_X2_67_0 F dX2_layChords_33 ?_
      obtain ⟨o_28, h⟩ := h
      obtain ⟨o_29, h⟩ := h
      refine jw_icmp_ge F o_28 o_29 (tgt := 95) dX2_layChords_36 (by decide) (fun c => ?_) (fun c => ?_)
      · have h := h.1 (c)
        refine jw_iinc F (lv' := [(0, .ref (ad 0)), (1, .int (iI x1_1)), (2, .int (iI (x2_18 + 1))), (3, .int (iI x3_24))]) 2 [1, 2, 0, 3] dX2_layChords_95 rfl (by decide) rfl ?_
        refine jw_goto F (tgt := 19) dX2_layChords_98 (by decide) ?_
        refine jw_sub F (lv' := [(0, .ref (ad 0)), (1, .int (iI x1_1)), (2, .int (iI (x2_18 + 1)))]) [0, 1, 2] rfl ?_
        exact ih_21 _ _ h
      · have h := h.2 (c)
        refine jw_aload_n F 0 dX2_layChords_39 rfl rfl ?_
        refine gx_X2_19_0 F dX2_layChords_40 ?_
        refine jw_iconst F dX2_layChords_43 ?_
        refine jw_aload_n F 0 dX2_layChords_44 rfl rfl ?_
        refine gx_X2_102_0 F dX2_layChords_45 ?_
        refine jw_imul F dX2_layChords_48 ?_
        refine jw_iload_n F 1 dX2_layChords_49 rfl rfl ?_
        obtain ⟨o_30, o_31, h⟩ := h
        refine jw_iast F (mO dA ad) (k := 4) (by decide) (ma_4 dA ad) 0 rfl (by decide) o_30 o_31 dX2_layChords_50 ?_
        refine jw_aload_n F 0 dX2_layChords_51 rfl rfl ?_
        refine gx_X2_19_0 F dX2_layChords_52 ?_
        refine jw_iconst F dX2_layChords_55 ?_
        refine jw_aload_n F 0 dX2_layChords_56 rfl rfl ?_
        refine gx_X2_102_0 F dX2_layChords_57 ?_
        refine jw_imul F dX2_layChords_60 ?_
        refine jw_iconst F dX2_layChords_61 ?_
        refine jw_iadd F dX2_layChords_62 ?_
        refine jw_iload_n F 2 dX2_layChords_63 rfl rfl ?_
        obtain ⟨o_32, o_33, h⟩ := h
        refine jw_iast F (mO dA ad) (k := 4) (by decide) (ma_4 dA ad) 0 rfl (by decide) o_32 o_33 dX2_layChords_64 ?_
        refine jw_aload_n F 0 dX2_layChords_65 rfl rfl ?_
        refine gx_X2_19_0 F dX2_layChords_66 ?_
        refine jw_iconst F dX2_layChords_69 ?_
        refine jw_aload_n F 0 dX2_layChords_70 rfl rfl ?_
        refine gx_X2_102_0 F dX2_layChords_71 ?_
        refine jw_imul F dX2_layChords_74 ?_
        refine jw_iconst F dX2_layChords_75 ?_
        refine jw_iadd F dX2_layChords_76 ?_
        refine jw_iload_n F 3 dX2_layChords_77 rfl rfl ?_
        obtain ⟨o_34, o_35, h⟩ := h
        refine jw_iast F (mO dA ad) (k := 4) (by decide) (ma_4 dA ad) 0 rfl (by decide) o_34 o_35 dX2_layChords_78 ?_
        refine jw_aload_n F 0 dX2_layChords_79 rfl rfl ?_
        refine jw_dup F rfl dX2_layChords_80 ?_
        refine gx_X2_102_0 F dX2_layChords_81 ?_
        refine jw_iconst F dX2_layChords_84 ?_
        refine jw_iadd F dX2_layChords_85 ?_
        refine pgx_X2_102_0 F dX2_layChords_86 ?_
        refine jw_iinc F (lv' := [(0, .ref (ad 0)), (1, .int (iI x1_1)), (2, .int (iI x2_18)), (3, .int (iI (x3_24 + 1)))]) 3 [1, 2, 3, 0] dX2_layChords_89 rfl (by decide) rfl ?_
        refine jw_goto F (tgt := 31) dX2_layChords_92 (by decide) ?_
        exact ih_27 _ _ h
theorem hd_X2_letters : yX2_letters.cls = RX2 ∧ yX2_letters.cls ≠ "java/lang/invoke/MethodHandle" ∧ yX2_letters.cls ≠ "java/lang/invoke/VarHandle" ∧ (parseMethodDescriptor yX2_letters.desc).map (fun d => d.parameters.length) = some 1 := by decide +kernel
set_option maxHeartbeats 4000000 in
set_option maxRecDepth 100000 in
theorem wk_X2_letters {l : Launch} {D : va_G} {dA : Nat → ClassId} {ad : Nat → Nat} {s : Sg} {a1 : Int} {Q : Int → Sg → Prop} (h : wp_X2_letters a1 s Q) : MXi l D dA (mwf dA ad) yX2_letters cX2_letters 9 .int ({ frames := 0, cells := 0, slots := 0, locals := 0 } : Room) [.ref (ad 0), .long (lI a1)] s Q := by
  unfold wp_X2_letters at h
  refine jw_start_i (own := RX2) (lv0 := [(0, .ref (ad 0)), (1, .long (lI a1))]) (by decide) rfl (Nat.le_of_ble_eq_true rfl) rfl (fun G F rt => ?_)
  refine jw_iconst F dX2_letters_0 ?_
  refine jw_istore_n F (lv' := [(0, .ref (ad 0)), (1, .long (lI a1)), (3, .int (iI 0))]) [1, 2, 0] dX2_letters_1 rfl (by decide) rfl ?_
  refine jw_iconst F dX2_letters_2 ?_
  refine jw_istore F (lv' := [(0, .ref (ad 0)), (1, .long (lI a1)), (3, .int (iI 0)), (4, .int (iI 1))]) [1, 2, 3, 0] dX2_letters_3 (by decide) rfl ?_
  refine jw_lload_n F 1 dX2_letters_5 rfl rfl ?_
  refine jw_lstore F (lv' := [(0, .ref (ad 0)), (1, .long (lI a1)), (3, .int (iI 0)), (4, .int (iI 1)), (5, .long (lI a1))]) [1, 2, 3, 4, 0] dX2_letters_6 (by decide) rfl ?_
  refine jw_iconst F dX2_letters_8 ?_
  refine jw_istore F (lv' := [(0, .ref (ad 0)), (1, .long (lI a1)), (3, .int (iI 0)), (4, .int (iI 1)), (5, .long (lI a1)), (7, .int (iI 0))]) [1, 2, 3, 4, 5, 0] dX2_letters_9 (by decide) rfl ?_
  refine lp4_r (fun x3_1 x4_2 x5_3 x7_4 => G s 11 [(0, .ref (ad 0)), (1, .long (lI a1)), (3, .int (iI x3_1)), (4, .int (iI x4_2)), (5, .long (lI x5_3)), (7, .int (iI x7_4))] []) h (fun x3_1 x4_2 x5_3 x7_4 K_5 h ih_6 => ?_)
  refine jw_iload F 5 dX2_letters_11 rfl ?_
  refine jw_bipush F (z := 8) dX2_letters_13 (by decide) ?_
  obtain ⟨o_7, h⟩ := h
  refine jw_icmp_ge F o_7 (by decide) (tgt := 83) dX2_letters_15 (by decide) (fun c => ?_) (fun c => ?_)
  · have h := h.1 (c)
    refine jw_iload F 3 dX2_letters_83 rfl ?_
    obtain ⟨o_8, h⟩ := h
    refine jw_if_ne F o_8 (tgt := 91) dX2_letters_85 (by decide) (fun c => ?_) (fun c => ?_)
    · have h := h.1 (c)
      refine jw_aload_n F 0 dX2_letters_91 rfl rfl ?_
      refine gx_X2_75_0 F dX2_letters_92 ?_
      refine jw_iload_n F 2 dX2_letters_95 rfl rfl ?_
      refine jw_iadd F dX2_letters_96 ?_
      refine jw_bipush F (z := 20) dX2_letters_97 (by decide) ?_
      obtain ⟨o_9, h⟩ := h
      refine jw_icmp_le F o_9 (by decide) (tgt := 105) dX2_letters_99 (by decide) (fun c => ?_) (fun c => ?_)
      · have h := h.1 (c)
        refine jw_iconst F dX2_letters_105 ?_
        refine jw_istore F (lv' := [(0, .ref (ad 0)), (1, .long (lI a1)), (3, .int (iI x3_1)), (4, .int (iI x4_2)), (5, .long (lI x5_3)), (7, .int (iI 0))]) [1, 2, 3, 4, 5, 0] dX2_letters_106 (by decide) rfl ?_
        refine jw_sub F (lv' := [(0, .ref (ad 0)), (1, .long (lI a1)), (3, .int (iI x3_1)), (7, .int (iI 0))]) [0, 1, 2, 5] rfl ?_
        refine lp2_r (fun x7_10 s_11 => G s_11 108 [(0, .ref (ad 0)), (1, .long (lI a1)), (3, .int (iI x3_1)), (7, .int (iI x7_10))] []) h (fun x7_10 s_11 K_12 h ih_13 => ?_)
        refine jw_iload F 3 dX2_letters_108 rfl ?_
        refine jw_iload_n F 2 dX2_letters_110 rfl rfl ?_
        obtain ⟨o_14, h⟩ := h
        obtain ⟨o_15, h⟩ := h
        refine jw_icmp_ge F o_14 o_15 (tgt := 151) dX2_letters_111 (by decide) (fun c => ?_) (fun c => ?_)
        · have h := h.1 (c)
          refine jw_aload_n F 0 dX2_letters_151 rfl rfl ?_
          refine gx_X2_75_0 F dX2_letters_152 ?_
          exact rt _ _ _ _ dX2_letters_155 h
        · have h := h.2 (c)
          refine jw_aload_n F 0 dX2_letters_114 rfl rfl ?_
          refine gx_X2_7_0 F dX2_letters_115 ?_
          refine jw_aload_n F 0 dX2_letters_118 rfl rfl ?_
          refine gx_X2_75_0 F dX2_letters_119 ?_
          refine jw_lload_n F 1 dX2_letters_122 rfl rfl ?_
          refine jw_bipush F (z := 8) dX2_letters_123 (by decide) ?_
          refine jw_iload F 3 dX2_letters_125 rfl ?_
          refine jw_imul F dX2_letters_127 ?_
          obtain ⟨o_16, o_17, h⟩ := h
          refine jw_lushr F o_16 o_17 dX2_letters_128 ?_
          refine jw_ldc2 F (z := 255) q946 dX2_letters_129 ?_
          refine jw_lmask F 8 (by decide) (by decide) dX2_letters_132 ?_
          refine jw_l2i F dX2_letters_133 ?_
          obtain ⟨o_18, o_19, h⟩ := h
          refine jw_iast F (mO dA ad) (k := 1) (by decide) (ma_1 dA ad) 0 rfl (by decide) o_18 o_19 dX2_letters_134 ?_
          refine jw_aload_n F 0 dX2_letters_135 rfl rfl ?_
          refine jw_dup F rfl dX2_letters_136 ?_
          refine gx_X2_75_0 F dX2_letters_137 ?_
          refine jw_iconst F dX2_letters_140 ?_
          refine jw_iadd F dX2_letters_141 ?_
          refine pgx_X2_75_0 F dX2_letters_142 ?_
          refine jw_iinc F (lv' := [(0, .ref (ad 0)), (1, .long (lI a1)), (3, .int (iI x3_1)), (7, .int (iI (x7_10 + 1)))]) 3 [1, 2, 3, 0] dX2_letters_145 rfl (by decide) rfl ?_
          refine jw_goto F (tgt := 108) dX2_letters_148 (by decide) ?_
          exact ih_13 _ _ h
      · have h := h.2 (c)
        refine jw_bipush F (z := (-104)) dX2_letters_102 (by decide) ?_
        exact rt _ _ _ _ dX2_letters_104 h
    · have h := h.2 (c)
      refine jw_bipush F (z := (-102)) dX2_letters_88 (by decide) ?_
      exact rt _ _ _ _ dX2_letters_90 h
  · have h := h.2 (c)
    refine jw_lload F 4 dX2_letters_18 rfl ?_
    refine jw_ldc2 F (z := 255) q946 dX2_letters_20 ?_
    refine jw_lmask F 8 (by decide) (by decide) dX2_letters_23 ?_
    refine jw_l2i F dX2_letters_24 ?_
    refine jw_istore F (lv' := [(0, .ref (ad 0)), (1, .long (lI a1)), (3, .int (iI x3_1)), (4, .int (iI x4_2)), (5, .long (lI x5_3)), (7, .int (iI x7_4)), (8, .int (iI (x5_3 % 2 ^ 8)))]) [1, 2, 3, 4, 5, 6, 0] dX2_letters_25 (by decide) rfl ?_
    refine jw_lload F 4 dX2_letters_27 rfl ?_
    refine jw_bipush F (z := 8) dX2_letters_29 (by decide) ?_
    refine jw_lushr F (by decide) (by decide) dX2_letters_31 ?_
    refine jw_lstore F (lv' := [(0, .ref (ad 0)), (1, .long (lI a1)), (3, .int (iI x3_1)), (4, .int (iI x4_2)), (5, .long (lI (x5_3 % 18446744073709551616 / 2 ^ (8 : Int).toNat))), (7, .int (iI x7_4)), (8, .int (iI (x5_3 % 2 ^ 8)))]) [1, 2, 3, 4, 0, 5, 6] dX2_letters_32 (by decide) rfl ?_
    refine jw_iload F 3 dX2_letters_34 rfl ?_
    obtain ⟨o_20, h⟩ := h
    refine jn1_r (fun v_21 => G s 62 [(0, .ref (ad 0)), (1, .long (lI a1)), (3, .int (iI x3_1)), (5, .long (lI (x5_3 % 18446744073709551616 / 2 ^ (8 : Int).toNat))), (7, .int (iI x7_4)), (8, .int (iI (x5_3 % 2 ^ 8)))] [.int (iI v_21)]) h (fun v_21 h => ?_) (fun K_22 h j_23 => ?_)
    · refine jw_istore F (lv' := [(0, .ref (ad 0)), (1, .long (lI a1)), (3, .int (iI x3_1)), (4, .int (iI v_21)), (5, .long (lI (x5_3 % 18446744073709551616 / 2 ^ (8 : Int).toNat))), (7, .int (iI x7_4)), (8, .int (iI (x5_3 % 2 ^ 8)))]) [1, 2, 3, 0, 4, 5, 6] dX2_letters_62 (by decide) rfl ?_
      refine jw_iload_n F 2 dX2_letters_64 rfl rfl ?_
      refine jw_iload F 6 dX2_letters_65 rfl ?_
      obtain ⟨o_24, h⟩ := h
      refine jn1_r (fun v_25 => G s 75 [(0, .ref (ad 0)), (1, .long (lI a1)), (4, .int (iI v_21)), (5, .long (lI (x5_3 % 18446744073709551616 / 2 ^ (8 : Int).toNat))), (7, .int (iI x7_4))] [.int (iI v_25), .int (iI x3_1)]) h (fun v_25 h => ?_) (fun K_26 h j_27 => ?_)
      · refine jw_iadd F dX2_letters_75 ?_
        refine jw_istore_n F (lv' := [(0, .ref (ad 0)), (1, .long (lI a1)), (3, .int (iI (x3_1 + v_25))), (4, .int (iI v_21)), (5, .long (lI (x5_3 % 18446744073709551616 / 2 ^ (8 : Int).toNat))), (7, .int (iI x7_4))]) [1, 2, 0, 3, 4, 5] dX2_letters_76 rfl (by decide) rfl ?_
        refine jw_iinc F (lv' := [(0, .ref (ad 0)), (1, .long (lI a1)), (3, .int (iI (x3_1 + v_25))), (4, .int (iI v_21)), (5, .long (lI (x5_3 % 18446744073709551616 / 2 ^ (8 : Int).toNat))), (7, .int (iI (x7_4 + 1)))]) 5 [1, 2, 3, 4, 5, 0] dX2_letters_77 rfl (by decide) rfl ?_
        refine jw_goto F (tgt := 11) dX2_letters_80 (by decide) ?_
        exact ih_6 _ _ _ _ h
      · refine jw_if_le F o_24 (tgt := 74) dX2_letters_67 (by decide) (fun c => ?_) (fun c => ?_)
        · have h := h.1 (c)
          refine jw_iconst F dX2_letters_74 ?_
          refine jw_sub F (lv' := [(0, .ref (ad 0)), (1, .long (lI a1)), (4, .int (iI v_21)), (5, .long (lI (x5_3 % 18446744073709551616 / 2 ^ (8 : Int).toNat))), (7, .int (iI x7_4))]) [0, 1, 3, 4, 5] rfl ?_
          exact j_27 _ h
        · have h := h.2 (c)
          refine jw_iconst F dX2_letters_70 ?_
          refine jw_goto F (tgt := 75) dX2_letters_71 (by decide) ?_
          refine jw_sub F (lv' := [(0, .ref (ad 0)), (1, .long (lI a1)), (4, .int (iI v_21)), (5, .long (lI (x5_3 % 18446744073709551616 / 2 ^ (8 : Int).toNat))), (7, .int (iI x7_4))]) [0, 1, 3, 4, 5] rfl ?_
          exact j_27 _ h
    · refine jn0_r (G s 61 [(0, .ref (ad 0)), (1, .long (lI a1)), (3, .int (iI x3_1)), (5, .long (lI (x5_3 % 18446744073709551616 / 2 ^ (8 : Int).toNat))), (7, .int (iI x7_4)), (8, .int (iI (x5_3 % 2 ^ 8)))] []) h (fun h => ?_) (fun K_28 h j_29 => ?_)
      · refine jw_iconst F dX2_letters_61 ?_
        exact j_23 _ h
      · refine jw_if_eq F o_20 (tgt := 61) dX2_letters_36 (by decide) (fun c => ?_) (fun c => ?_)
        · have h := h.1 (c)
          refine jw_sub F (lv' := [(0, .ref (ad 0)), (1, .long (lI a1)), (3, .int (iI x3_1)), (5, .long (lI (x5_3 % 18446744073709551616 / 2 ^ (8 : Int).toNat))), (7, .int (iI x7_4)), (8, .int (iI (x5_3 % 2 ^ 8)))]) [0, 1, 2, 4, 5, 6] rfl ?_
          exact j_29 h
        · have h := h.2 (c)
          refine jw_iload F 6 dX2_letters_39 rfl ?_
          refine jw_bipush F (z := 126) dX2_letters_41 (by decide) ?_
          obtain ⟨o_30, h⟩ := h
          refine jw_icmp_gt F o_30 (by decide) (tgt := 61) dX2_letters_43 (by decide) (fun c => ?_) (fun c => ?_)
          · have h := h.1 (c)
            refine jw_sub F (lv' := [(0, .ref (ad 0)), (1, .long (lI a1)), (3, .int (iI x3_1)), (5, .long (lI (x5_3 % 18446744073709551616 / 2 ^ (8 : Int).toNat))), (7, .int (iI x7_4)), (8, .int (iI (x5_3 % 2 ^ 8)))]) [0, 1, 2, 4, 5, 6] rfl ?_
            exact j_29 h
          · have h := h.2 (c)
            refine jw_iload F 6 dX2_letters_46 rfl ?_
            obtain ⟨o_31, h⟩ := h
            refine jn0_r (G s 57 [(0, .ref (ad 0)), (1, .long (lI a1)), (3, .int (iI x3_1)), (5, .long (lI (x5_3 % 18446744073709551616 / 2 ^ (8 : Int).toNat))), (7, .int (iI x7_4)), (8, .int (iI (x5_3 % 2 ^ 8)))] []) h (fun h => ?_) (fun K_32 h j_33 => ?_)
            · refine jw_iconst F dX2_letters_57 ?_
              refine jw_goto F (tgt := 62) dX2_letters_58 (by decide) ?_
              exact j_23 _ h
            · refine jw_if_eq F o_31 (tgt := 57) dX2_letters_48 (by decide) (fun c => ?_) (fun c => ?_)
              · have h := h.1 (c)
                refine jw_sub F (lv' := [(0, .ref (ad 0)), (1, .long (lI a1)), (3, .int (iI x3_1)), (5, .long (lI (x5_3 % 18446744073709551616 / 2 ^ (8 : Int).toNat))), (7, .int (iI x7_4)), (8, .int (iI (x5_3 % 2 ^ 8)))]) [0, 1, 2, 4, 5, 6] rfl ?_
                exact j_33 h
              · have h := h.2 (c)
                refine jw_iload_n F 2 dX2_letters_51 rfl rfl ?_
                refine jw_iload F 5 dX2_letters_52 rfl ?_
                obtain ⟨o_34, h⟩ := h
                obtain ⟨o_35, h⟩ := h
                refine jw_icmp_ne F o_34 o_35 (tgt := 61) dX2_letters_54 (by decide) (fun c => ?_) (fun c => ?_)
                · have h := h.1 (c)
                  refine jw_sub F (lv' := [(0, .ref (ad 0)), (1, .long (lI a1)), (3, .int (iI x3_1)), (5, .long (lI (x5_3 % 18446744073709551616 / 2 ^ (8 : Int).toNat))), (7, .int (iI x7_4)), (8, .int (iI (x5_3 % 2 ^ 8)))]) [0, 1, 2, 4, 5, 6] rfl ?_
                  exact j_29 h
                · have h := h.2 (c)
                  refine jw_sub F (lv' := [(0, .ref (ad 0)), (1, .long (lI a1)), (3, .int (iI x3_1)), (5, .long (lI (x5_3 % 18446744073709551616 / 2 ^ (8 : Int).toNat))), (7, .int (iI x7_4)), (8, .int (iI (x5_3 % 2 ^ 8)))]) [0, 1, 2, 4, 5, 6] rfl ?_
                  exact j_33 h
theorem hd_X2_blank : yX2_blank.cls = RX2 ∧ yX2_blank.cls ≠ "java/lang/invoke/MethodHandle" ∧ yX2_blank.cls ≠ "java/lang/invoke/VarHandle" ∧ (parseMethodDescriptor yX2_blank.desc).map (fun d => d.parameters.length) = some 0 := by decide +kernel
set_option maxHeartbeats 4000000 in
set_option maxRecDepth 100000 in
theorem wk_X2_blank {l : Launch} {D : va_G} {dA : Nat → ClassId} {ad : Nat → Nat} {s : Sg} {Q : Int → Sg → Prop} (h : wp_X2_blank s Q) : MXi l D dA (mwf dA ad) yX2_blank cX2_blank 2 .int ({ frames := 0, cells := 0, slots := 0, locals := 0 } : Room) [.ref (ad 0)] s Q := by
  unfold wp_X2_blank at h
  refine jw_start_i (own := RX2) (lv0 := [(0, .ref (ad 0))]) (by decide) rfl (Nat.le_of_ble_eq_true rfl) rfl (fun G F rt => ?_)
  refine jw_aload_n F 0 dX2_blank_0 rfl rfl ?_
  refine gx_X2_75_0 F dX2_blank_1 ?_
  refine jw_istore_n F (lv' := [(0, .ref (ad 0)), (1, .int (iI (s 0 1)))]) [1, 0] dX2_blank_4 rfl (by decide) rfl ?_
  refine jw_aload_n F 0 dX2_blank_5 rfl rfl ?_
  refine jw_iconst F dX2_blank_6 ?_
  refine pgx_X2_75_0 F dX2_blank_7 ?_
  refine jw_iload_n F 1 dX2_blank_10 rfl rfl ?_
  exact rt _ _ _ _ dX2_blank_11 h
theorem hd_X2_in : yX2_in.cls ≠ "java/lang/invoke/MethodHandle" ∧ yX2_in.cls ≠ "java/lang/invoke/VarHandle" ∧ (parseMethodDescriptor yX2_in.desc).map (fun d => d.parameters.length) = some 3 := by decide +kernel
set_option maxHeartbeats 4000000 in
set_option maxRecDepth 100000 in
theorem wk_X2_in {l : Launch} {D : va_G} {dA : Nat → ClassId} {wf : Sg → va_W} {s : Sg} {a1 a2 a3 : Int} {Q : Int → Prop} (h : wp_X2_in a1 a2 a3 Q) : MXi l D dA wf yX2_in cX2_in 6 .boolean ({ frames := 0, cells := 0, slots := 0, locals := 0 } : Room) [.long (lI a1), .long (lI a2), .long (lI a3)] s (fun z s' => (z = 0 ∨ z = 1) ∧ s' = s ∧ Q z) := by
  unfold wp_X2_in at h
  refine jw_start_z (own := RX2) (lv0 := [(0, .long (lI a1)), (2, .long (lI a2)), (4, .long (lI a3))]) (by decide) rfl (Nat.le_of_ble_eq_true rfl) rfl (fun G F rt => ?_)
  refine jw_lload_n F 0 dX2_in_0 rfl rfl ?_
  refine jw_lload_n F 1 dX2_in_1 rfl rfl ?_
  obtain ⟨o_1, h⟩ := h
  obtain ⟨o_2, h⟩ := h
  refine jw_lcmp F o_1 o_2 dX2_in_2 ?_
  refine jw_if_lt F (cmpI_rg _ _) (tgt := 17) dX2_in_3 (by decide) (fun c => ?_) (fun c => ?_)
  · have h := h.1 (cmpI_lt.mp c)
    refine jw_iconst F dX2_in_17 ?_
    exact rt _ _ _ _ dX2_in_18 (by decide) ⟨(by decide), rfl, h⟩
  · have h := h.2 (Int.not_lt.mp (fun z => Int.not_lt.mpr c (cmpI_lt.mpr z)))
    refine jw_lload_n F 0 dX2_in_6 rfl rfl ?_
    refine jw_lload F 2 dX2_in_7 rfl ?_
    obtain ⟨o_3, h⟩ := h
    obtain ⟨o_4, h⟩ := h
    refine jw_lcmp F o_3 o_4 dX2_in_9 ?_
    refine jw_if_gt F (cmpI_rg _ _) (tgt := 17) dX2_in_10 (by decide) (fun c => ?_) (fun c => ?_)
    · have h := h.1 (cmpI_gt.mp c)
      refine jw_iconst F dX2_in_17 ?_
      exact rt _ _ _ _ dX2_in_18 (by decide) ⟨(by decide), rfl, h⟩
    · have h := h.2 (Int.not_lt.mp (fun z => Int.not_lt.mpr c (cmpI_gt.mpr z)))
      refine jw_iconst F dX2_in_13 ?_
      refine jw_goto F (tgt := 18) dX2_in_14 (by decide) ?_
      exact rt _ _ _ _ dX2_in_18 (by decide) ⟨(by decide), rfl, h⟩
theorem hd_X2_go : yX2_go.cls = RX2 ∧ yX2_go.cls ≠ "java/lang/invoke/MethodHandle" ∧ yX2_go.cls ≠ "java/lang/invoke/VarHandle" ∧ (parseMethodDescriptor yX2_go.desc).map (fun d => d.parameters.length) = some 1 := by decide +kernel
set_option maxHeartbeats 4000000 in
set_option maxRecDepth 100000 in
theorem wk_X2_go {l : Launch} {D : va_G} {dA : Nat → ClassId} {ad : Nat → Nat} {s : Sg} {a1 : Int} {Q : Int → Sg → Prop} (h : wp_X2_go a1 s Q) : MXi l D dA (mwf dA ad) yX2_go cX2_go 4 .boolean ({ frames := 1, cells := 0, slots := 0, locals := 25 } : Room) [.ref (ad 0), .int (iI a1)] s (fun z s' => (z = 0 ∨ z = 1) ∧ Q z s') := by
  unfold wp_X2_go at h
  refine jw_start_z (own := RX2) (lv0 := [(0, .ref (ad 0)), (1, .int (iI a1))]) (by decide) rfl (Nat.le_of_ble_eq_true rfl) rfl (fun G F rt => ?_)
  refine jw_iconst F dX2_go_0 ?_
  refine jw_aload_n F 0 dX2_go_1 rfl rfl ?_
  refine gx_X2_78_0 F dX2_go_2 ?_
  refine jw_imul F dX2_go_5 ?_
  refine jw_istore_n F (lv' := [(0, .ref (ad 0)), (1, .int (iI a1)), (2, .int (iI (2 * (s 0 5))))]) [1, 2, 0] dX2_go_6 rfl (by decide) rfl ?_
  refine jw_aload_n F 0 dX2_go_7 rfl rfl ?_
  refine gx_X2_81_0 F dX2_go_8 ?_
  obtain ⟨o_1, h⟩ := h
  have hsw : (s 0 4) = 0 ∨ (s 0 4) = 1 ∨ (s 0 4) = 2 ∨ (s 0 4) = 3 ∨ ((s 0 4) < 0 ∨ 3 < (s 0 4)) := by omega
  rcases hsw with q | q | q | q | q
  · have h := h.1 q
    refine jw_tableIn F o_1 (off := 29) (tgt := 40) dX2_go_11 (by omega) (by omega) (by rw [q]; rfl) (by decide) ?_
    refine jw_aload_n F 0 dX2_go_40 rfl rfl ?_
    refine gx_X2_16_0 F dX2_go_41 ?_
    refine jw_iload_n F 2 dX2_go_44 rfl rfl ?_
    refine jw_iload_n F 1 dX2_go_45 rfl rfl ?_
    refine jw_bipush F (z := 115) dX2_go_46 (by decide) ?_
    obtain ⟨o_2, h⟩ := h
    refine jn1_r (fun v_3 => G s 66 [(0, .ref (ad 0)), (1, .int (iI a1)), (2, .int (iI (2 * (s 0 5))))] [.int (iI v_3), .int (iI (2 * (s 0 5))), .ref (ad 3)]) h (fun v_3 h => ?_) (fun K_4 h j_5 => ?_)
    · obtain ⟨o_6, o_7, h⟩ := h
      refine jw_iast F (mO dA ad) (k := 3) (by decide) (ma_3 dA ad) 0 rfl (by decide) o_6 o_7 dX2_go_66 ?_
      refine jw_aload_n F 0 dX2_go_67 rfl rfl ?_
      refine gx_X2_16_0 F dX2_go_68 ?_
      refine jw_iload_n F 2 dX2_go_71 rfl rfl ?_
      refine jw_iconst F dX2_go_72 ?_
      refine jw_iadd F dX2_go_73 ?_
      refine jw_iconst F dX2_go_74 ?_
      obtain ⟨o_8, o_9, h⟩ := h
      refine jw_iast F (mO dA ad) (k := 3) (by decide) (ma_3 dA ad) 0 rfl (by decide) o_8 o_9 dX2_go_75 ?_
      refine jw_aload_n F 0 dX2_go_76 rfl rfl ?_
      refine jw_iload_n F 1 dX2_go_77 rfl rfl ?_
      refine jw_bipush F (z := 115) dX2_go_78 (by decide) ?_
      obtain ⟨o_10, h⟩ := h
      refine jn1_r (fun v_11 => G (up (up s 3 (2 * (s 0 5)) v_3) 3 ((2 * (s 0 5)) + 1) (-1)) 98 [(1, .int (iI a1))] [.int (iI v_11), .ref (ad 0)]) h (fun v_11 h => ?_) (fun K_12 h j_13 => ?_)
      · refine pgx_X2_81_0 F dX2_go_98 ?_
        refine jw_iload_n F 0 dX2_go_101 rfl rfl ?_
        refine jw_bipush F (z := 115) dX2_go_102 (by decide) ?_
        obtain ⟨o_14, h⟩ := h
        refine jn0_r (G (up (up (up s 3 (2 * (s 0 5)) v_3) 3 ((2 * (s 0 5)) + 1) (-1)) 0 4 v_11) 119 [] []) h (fun h => ?_) (fun K_15 h j_16 => ?_)
        · refine jw_iconst F dX2_go_119 ?_
          refine jw_goto F (tgt := 124) dX2_go_120 (by decide) ?_
          exact rt _ _ _ _ dX2_go_124 (by decide) ⟨(by decide), h⟩
        · refine jw_icmp_eq F o_14 (by decide) (tgt := 119) dX2_go_104 (by decide) (fun c => ?_) (fun c => ?_)
          · have h := h.1 (c)
            refine jw_sub F (lv' := []) [] rfl ?_
            exact j_16 h
          · have h := h.2 (c)
            refine jw_iload_n F 0 dX2_go_107 rfl rfl ?_
            refine jw_bipush F (z := 117) dX2_go_108 (by decide) ?_
            obtain ⟨o_17, h⟩ := h
            refine jw_icmp_eq F o_17 (by decide) (tgt := 119) dX2_go_110 (by decide) (fun c => ?_) (fun c => ?_)
            · have h := h.1 (c)
              refine jw_sub F (lv' := []) [] rfl ?_
              exact j_16 h
            · have h := h.2 (c)
              refine jw_iload_n F 0 dX2_go_113 rfl rfl ?_
              refine jw_bipush F (z := 120) dX2_go_114 (by decide) ?_
              obtain ⟨o_18, h⟩ := h
              refine jw_icmp_ne F o_18 (by decide) (tgt := 123) dX2_go_116 (by decide) (fun c => ?_) (fun c => ?_)
              · have h := h.1 (c)
                refine jw_iconst F dX2_go_123 ?_
                exact rt _ _ _ _ dX2_go_124 (by decide) ⟨(by decide), h⟩
              · have h := h.2 (c)
                refine jw_sub F (lv' := []) [] rfl ?_
                exact j_16 h
      · refine jw_icmp_ne F o_10 (by decide) (tgt := 87) dX2_go_80 (by decide) (fun c => ?_) (fun c => ?_)
        · have h := h.1 (c)
          refine jw_iload_n F 1 dX2_go_87 rfl rfl ?_
          refine jw_bipush F (z := 117) dX2_go_88 (by decide) ?_
          obtain ⟨o_19, h⟩ := h
          refine jw_icmp_ne F o_19 (by decide) (tgt := 97) dX2_go_90 (by decide) (fun c => ?_) (fun c => ?_)
          · have h := h.1 (c)
            refine jw_iconst F dX2_go_97 ?_
            refine jw_sub F (lv' := [(1, .int (iI a1))]) [1] rfl ?_
            exact j_13 _ h
          · have h := h.2 (c)
            refine jw_iconst F dX2_go_93 ?_
            refine jw_goto F (tgt := 98) dX2_go_94 (by decide) ?_
            refine jw_sub F (lv' := [(1, .int (iI a1))]) [1] rfl ?_
            exact j_13 _ h
        · have h := h.2 (c)
          refine jw_iconst F dX2_go_83 ?_
          refine jw_goto F (tgt := 98) dX2_go_84 (by decide) ?_
          refine jw_sub F (lv' := [(1, .int (iI a1))]) [1] rfl ?_
          exact j_13 _ h
    · refine jw_icmp_ne F o_2 (by decide) (tgt := 55) dX2_go_48 (by decide) (fun c => ?_) (fun c => ?_)
      · have h := h.1 (c)
        refine jw_iload_n F 1 dX2_go_55 rfl rfl ?_
        refine jw_bipush F (z := 117) dX2_go_56 (by decide) ?_
        obtain ⟨o_20, h⟩ := h
        refine jw_icmp_ne F o_20 (by decide) (tgt := 65) dX2_go_58 (by decide) (fun c => ?_) (fun c => ?_)
        · have h := h.1 (c)
          refine jw_iconst F dX2_go_65 ?_
          exact j_5 _ h
        · have h := h.2 (c)
          refine jw_iconst F dX2_go_61 ?_
          refine jw_goto F (tgt := 66) dX2_go_62 (by decide) ?_
          exact j_5 _ h
      · have h := h.2 (c)
        refine jw_iconst F dX2_go_51 ?_
        refine jw_goto F (tgt := 66) dX2_go_52 (by decide) ?_
        exact j_5 _ h
  · have h := h.2.1 q
    refine jw_tableIn F o_1 (off := 114) (tgt := 125) dX2_go_11 (by omega) (by omega) (by rw [q]; rfl) (by decide) ?_
    refine jw_aload_n F 0 dX2_go_125 rfl rfl ?_
    refine gx_X2_16_0 F dX2_go_126 ?_
    refine jw_iload_n F 2 dX2_go_129 rfl rfl ?_
    refine jw_iconst F dX2_go_130 ?_
    refine jw_iadd F dX2_go_131 ?_
    refine jw_iload_n F 1 dX2_go_132 rfl rfl ?_
    refine jw_bipush F (z := 48) dX2_go_133 (by decide) ?_
    refine jw_isub F dX2_go_135 ?_
    obtain ⟨o_21, o_22, h⟩ := h
    refine jw_iast F (mO dA ad) (k := 3) (by decide) (ma_3 dA ad) 0 rfl (by decide) o_21 o_22 dX2_go_136 ?_
    refine jw_aload_n F 0 dX2_go_137 rfl rfl ?_
    refine jw_iconst F dX2_go_138 ?_
    refine pgx_X2_81_0 F dX2_go_139 ?_
    refine jw_iload_n F 1 dX2_go_142 rfl rfl ?_
    obtain ⟨o_23, h⟩ := h
    refine jw_i2l F o_23 dX2_go_143 ?_
    refine jw_ldc2 F (z := 49) q963 dX2_go_144 ?_
    refine jw_ldc2 F (z := 56) q964 dX2_go_147 ?_
    refine jw_callSzp F (wk_X2_in h) (lw_S q965 q966 q77 q967) hd_X2_in ⟨rfl, rfl, Nat.le_of_ble_eq_true rfl, Nat.le_of_ble_eq_true rfl⟩ rfl rfl (Nat.le_of_ble_eq_true rfl) dX2_go_150 (fun r_24 hb_r_24 h => ?_)
    exact rt _ _ _ _ dX2_go_153 hb_r_24 ⟨hb_r_24, h⟩
  · have h := h.2.2.1 q
    refine jw_tableIn F o_1 (off := 143) (tgt := 154) dX2_go_11 (by omega) (by omega) (by rw [q]; rfl) (by decide) ?_
    refine jw_aload_n F 0 dX2_go_154 rfl rfl ?_
    refine gx_X2_16_0 F dX2_go_155 ?_
    refine jw_iload_n F 2 dX2_go_158 rfl rfl ?_
    refine jw_iconst F dX2_go_159 ?_
    refine jw_iadd F dX2_go_160 ?_
    refine jw_bipush F (z := 10) dX2_go_161 (by decide) ?_
    refine jw_iload_n F 1 dX2_go_163 rfl rfl ?_
    refine jw_bipush F (z := 48) dX2_go_164 (by decide) ?_
    refine jw_isub F dX2_go_166 ?_
    refine jw_imul F dX2_go_167 ?_
    obtain ⟨o_26, o_27, h⟩ := h
    refine jw_iast F (mO dA ad) (k := 3) (by decide) (ma_3 dA ad) 0 rfl (by decide) o_26 o_27 dX2_go_168 ?_
    refine jw_aload_n F 0 dX2_go_169 rfl rfl ?_
    refine jw_iconst F dX2_go_170 ?_
    refine pgx_X2_81_0 F dX2_go_171 ?_
    refine jw_iload_n F 1 dX2_go_174 rfl rfl ?_
    obtain ⟨o_28, h⟩ := h
    refine jw_i2l F o_28 dX2_go_175 ?_
    refine jw_ldc2 F (z := 48) q968 dX2_go_176 ?_
    refine jw_ldc2 F (z := 56) q964 dX2_go_179 ?_
    refine jw_callSzp F (wk_X2_in h) (lw_S q965 q966 q77 q967) hd_X2_in ⟨rfl, rfl, Nat.le_of_ble_eq_true rfl, Nat.le_of_ble_eq_true rfl⟩ rfl rfl (Nat.le_of_ble_eq_true rfl) dX2_go_182 (fun r_29 hb_r_29 h => ?_)
    exact rt _ _ _ _ dX2_go_185 hb_r_29 ⟨hb_r_29, h⟩
  · have h := h.2.2.2.1 q
    refine jw_tableIn F o_1 (off := 175) (tgt := 186) dX2_go_11 (by omega) (by omega) (by rw [q]; rfl) (by decide) ?_
    refine jw_iload_n F 1 dX2_go_186 rfl rfl ?_
    refine jw_bipush F (z := 48) dX2_go_187 (by decide) ?_
    refine jw_isub F dX2_go_189 ?_
    refine jw_aload_n F 0 dX2_go_190 rfl rfl ?_
    refine gx_X2_16_0 F dX2_go_191 ?_
    refine jw_iload_n F 2 dX2_go_194 rfl rfl ?_
    refine jw_iconst F dX2_go_195 ?_
    refine jw_iadd F dX2_go_196 ?_
    obtain ⟨o_31, o_32, h⟩ := h
    refine jw_iald F (mO dA ad) (k := 3) (by decide) (ma_3 dA ad) 0 rfl (by decide) o_31 o_32 dX2_go_197 ?_
    refine jw_bipush F (z := 10) dX2_go_198 (by decide) ?_
    obtain ⟨o_33, o_34, h⟩ := h
    refine jw_idiv F o_33 (by decide) o_34 (by decide) dX2_go_200 ?_
    obtain ⟨o_35, h⟩ := h
    obtain ⟨o_36, h⟩ := h
    refine jn1_r (fun v_37 => G s 209 [(0, .ref (ad 0)), (1, .int (iI a1)), (2, .int (iI (2 * (s 0 5))))] [.int (iI v_37)]) h (fun v_37 h => ?_) (fun K_38 h j_39 => ?_)
    · refine jw_istore_n F (lv' := [(0, .ref (ad 0)), (1, .int (iI a1)), (2, .int (iI (2 * (s 0 5)))), (3, .int (iI v_37))]) [1, 2, 3, 0] dX2_go_209 rfl (by decide) rfl ?_
      refine jw_aload_n F 0 dX2_go_210 rfl rfl ?_
      refine gx_X2_16_0 F dX2_go_211 ?_
      refine jw_iload_n F 2 dX2_go_214 rfl rfl ?_
      refine jw_iconst F dX2_go_215 ?_
      refine jw_iadd F dX2_go_216 ?_
      refine jw_dup2 F rfl rfl dX2_go_217 ?_
      obtain ⟨o_40, o_41, h⟩ := h
      refine jw_iald F (mO dA ad) (k := 3) (by decide) (ma_3 dA ad) 0 rfl (by decide) o_40 o_41 dX2_go_218 ?_
      refine jw_iload_n F 1 dX2_go_219 rfl rfl ?_
      refine jw_bipush F (z := 48) dX2_go_220 (by decide) ?_
      refine jw_isub F dX2_go_222 ?_
      refine jw_iadd F dX2_go_223 ?_
      obtain ⟨o_42, o_43, h⟩ := h
      refine jw_iast F (mO dA ad) (k := 3) (by decide) (ma_3 dA ad) 0 rfl (by decide) o_42 o_43 dX2_go_224 ?_
      refine jw_aload_n F 0 dX2_go_225 rfl rfl ?_
      refine jw_iconst F dX2_go_226 ?_
      refine pgx_X2_81_0 F dX2_go_227 ?_
      refine jw_iload_n F 1 dX2_go_230 rfl rfl ?_
      obtain ⟨o_44, h⟩ := h
      refine jw_i2l F o_44 dX2_go_231 ?_
      refine jw_ldc2 F (z := 48) q968 dX2_go_232 ?_
      refine jw_ldc2 F (z := 56) q964 dX2_go_235 ?_
      refine jw_callSzp F (wk_X2_in h) (lw_S q965 q966 q77 q967) hd_X2_in ⟨rfl, rfl, Nat.le_of_ble_eq_true rfl, Nat.le_of_ble_eq_true rfl⟩ rfl rfl (Nat.le_of_ble_eq_true rfl) dX2_go_238 (fun r_45 hb_r_45 h => ?_)
      refine jw_if_eq F (rg01 hb_r_45) (tgt := 252) dX2_go_241 (by decide) (fun c => ?_) (fun c => ?_)
      · have h := h.1 (c)
        refine jw_iconst F dX2_go_252 ?_
        exact rt _ _ _ _ dX2_go_253 (by decide) ⟨(by decide), h⟩
      · have h := h.2 (c)
        refine jw_iload_n F 3 dX2_go_244 rfl rfl ?_
        obtain ⟨o_47, h⟩ := h
        refine jw_if_eq F o_47 (tgt := 252) dX2_go_245 (by decide) (fun c => ?_) (fun c => ?_)
        · have h := h.1 (c)
          refine jw_iconst F dX2_go_252 ?_
          exact rt _ _ _ _ dX2_go_253 (by decide) ⟨(by decide), h⟩
        · have h := h.2 (c)
          refine jw_iconst F dX2_go_248 ?_
          refine jw_goto F (tgt := 253) dX2_go_249 (by decide) ?_
          exact rt _ _ _ _ dX2_go_253 (by decide) ⟨(by decide), h⟩
    · refine jw_icmp_eq F o_35 o_36 (tgt := 208) dX2_go_201 (by decide) (fun c => ?_) (fun c => ?_)
      · have h := h.1 (c)
        refine jw_iconst F dX2_go_208 ?_
        exact j_39 _ h
      · have h := h.2 (c)
        refine jw_iconst F dX2_go_204 ?_
        refine jw_goto F (tgt := 209) dX2_go_205 (by decide) ?_
        exact j_39 _ h
  · have h := h.2.2.2.2 q
    refine jw_tableOut F o_1 (tgt := 254) dX2_go_11 q (by decide) ?_
    refine jw_aload_n F 0 dX2_go_254 rfl rfl ?_
    refine jw_dup F rfl dX2_go_255 ?_
    refine gx_X2_78_0 F dX2_go_256 ?_
    refine jw_iconst F dX2_go_259 ?_
    refine jw_iadd F dX2_go_260 ?_
    refine pgx_X2_78_0 F dX2_go_261 ?_
    refine jw_aload_n F 0 dX2_go_264 rfl rfl ?_
    refine jw_iconst F dX2_go_265 ?_
    refine pgx_X2_81_0 F dX2_go_266 ?_
    refine jw_iload_n F 1 dX2_go_269 rfl rfl ?_
    refine jw_bipush F (z := 44) dX2_go_270 (by decide) ?_
    obtain ⟨o_48, h⟩ := h
    refine jw_icmp_ne F o_48 (by decide) (tgt := 287) dX2_go_272 (by decide) (fun c => ?_) (fun c => ?_)
    · have h := h.1 (c)
      refine jw_iconst F dX2_go_287 ?_
      exact rt _ _ _ _ dX2_go_288 (by decide) ⟨(by decide), h⟩
    · have h := h.2 (c)
      refine jw_aload_n F 0 dX2_go_275 rfl rfl ?_
      refine gx_X2_78_0 F dX2_go_276 ?_
      refine jw_iconst F dX2_go_279 ?_
      obtain ⟨o_49, h⟩ := h
      refine jw_icmp_ge F o_49 (by decide) (tgt := 287) dX2_go_280 (by decide) (fun c => ?_) (fun c => ?_)
      · have h := h.1 (c)
        refine jw_iconst F dX2_go_287 ?_
        exact rt _ _ _ _ dX2_go_288 (by decide) ⟨(by decide), h⟩
      · have h := h.2 (c)
        refine jw_iconst F dX2_go_283 ?_
        refine jw_goto F (tgt := 288) dX2_go_284 (by decide) ?_
        exact rt _ _ _ _ dX2_go_288 (by decide) ⟨(by decide), h⟩
theorem hd_X2_faultOf : yX2_faultOf.cls = RX2 ∧ yX2_faultOf.cls ≠ "java/lang/invoke/MethodHandle" ∧ yX2_faultOf.cls ≠ "java/lang/invoke/VarHandle" ∧ (parseMethodDescriptor yX2_faultOf.desc).map (fun d => d.parameters.length) = some 0 := by decide +kernel
set_option maxHeartbeats 4000000 in
set_option maxRecDepth 100000 in
theorem wk_X2_faultOf {l : Launch} {D : va_G} {dA : Nat → ClassId} {ad : Nat → Nat} {s : Sg} {Q : Int → Sg → Prop} (h : wp_X2_faultOf s Q) : MXi l D dA (mwf dA ad) yX2_faultOf cX2_faultOf 2 .int ({ frames := 2, cells := 0, slots := 0, locals := 48 } : Room) [.ref (ad 0)] s Q := by
  unfold wp_X2_faultOf at h
  refine jw_start_i (own := RX2) (lv0 := [(0, .ref (ad 0))]) (by decide) rfl (Nat.le_of_ble_eq_true rfl) rfl (fun G F rt => ?_)
  refine jw_aload_n F 0 dX2_faultOf_0 rfl rfl ?_
  refine jw_iconst F dX2_faultOf_1 ?_
  refine pgx_X2_81_0 F dX2_faultOf_2 ?_
  refine jw_aload_n F 0 dX2_faultOf_5 rfl rfl ?_
  refine jw_iconst F dX2_faultOf_6 ?_
  refine pgx_X2_78_0 F dX2_faultOf_7 ?_
  refine jw_iconst F dX2_faultOf_10 ?_
  refine jw_istore_n F (lv' := [(0, .ref (ad 0)), (1, .int (iI 0))]) [1, 0] dX2_faultOf_11 rfl (by decide) rfl ?_
  refine lp2_r (fun x1_1 s_2 => G s_2 12 [(0, .ref (ad 0)), (1, .int (iI x1_1))] []) h (fun x1_1 s_2 K_3 h ih_4 => ?_)
  refine jw_iload_n F 1 dX2_faultOf_12 rfl rfl ?_
  refine jw_aload_n F 0 dX2_faultOf_13 rfl rfl ?_
  refine gx_X2_75_0 F dX2_faultOf_14 ?_
  obtain ⟨o_5, h⟩ := h
  obtain ⟨o_6, h⟩ := h
  refine jw_icmp_ge F o_5 o_6 (tgt := 39) dX2_faultOf_17 (by decide) (fun c => ?_) (fun c => ?_)
  · have h := h.1 (c)
    refine jw_iload_n F 1 dX2_faultOf_39 rfl rfl ?_
    exact rt _ _ _ _ dX2_faultOf_40 h
  · have h := h.2 (c)
    refine jw_aload_n F 0 dX2_faultOf_20 rfl rfl ?_
    refine jw_aload_n F 0 dX2_faultOf_21 rfl rfl ?_
    refine gx_X2_7_0 F dX2_faultOf_22 ?_
    refine jw_iload_n F 1 dX2_faultOf_25 rfl rfl ?_
    obtain ⟨o_7, o_8, h⟩ := h
    refine jw_iald F (mO dA ad) (k := 1) (by decide) (ma_1 dA ad) 0 rfl (by decide) o_7 o_8 dX2_faultOf_26 ?_
    refine jw_callVi F (wk_X2_go h) (lw_V q959 q961 qs44 q77 q962) hd_X2_go ⟨rfl, rfl, Nat.le_of_ble_eq_true rfl, Nat.le_of_ble_eq_true rfl⟩ rfl rfl (mh_0 dA ad _) rfl rfl rfl (Nat.le_of_ble_eq_true rfl) dX2_faultOf_27 (fun r_9 s_10 hz => ?_)
    obtain ⟨hb_r_9, h⟩ := hz
    refine jw_if_eq F (rg01 hb_r_9) (tgt := 39) dX2_faultOf_30 (by decide) (fun c => ?_) (fun c => ?_)
    · have h := h.1 (c)
      refine jw_iload_n F 1 dX2_faultOf_39 rfl rfl ?_
      exact rt _ _ _ _ dX2_faultOf_40 h
    · have h := h.2 (c)
      refine jw_iinc F (lv' := [(0, .ref (ad 0)), (1, .int (iI (x1_1 + 1)))]) 1 [1, 0] dX2_faultOf_33 rfl (by decide) rfl ?_
      refine jw_goto F (tgt := 12) dX2_faultOf_36 (by decide) ?_
      exact ih_4 _ _ h
theorem hd_X2_fault : yX2_fault.cls = RX2 ∧ yX2_fault.cls ≠ "java/lang/invoke/MethodHandle" ∧ yX2_fault.cls ≠ "java/lang/invoke/VarHandle" ∧ (parseMethodDescriptor yX2_fault.desc).map (fun d => d.parameters.length) = some 0 := by decide +kernel
set_option maxHeartbeats 4000000 in
set_option maxRecDepth 100000 in
theorem wk_X2_fault {l : Launch} {D : va_G} {dA : Nat → ClassId} {ad : Nat → Nat} {s : Sg} {Q : Int → Sg → Prop} (h : wp_X2_fault s Q) : MXi l D dA (mwf dA ad) yX2_fault cX2_fault 1 .int ({ frames := 3, cells := 0, slots := 0, locals := 69 } : Room) [.ref (ad 0)] s Q := by
  unfold wp_X2_fault at h
  refine jw_start_i (own := RX2) (lv0 := [(0, .ref (ad 0))]) (by decide) rfl (Nat.le_of_ble_eq_true rfl) rfl (fun G F rt => ?_)
  refine jw_aload_n F 0 dX2_fault_0 rfl rfl ?_
  refine jw_callVi F (wk_X2_faultOf h) (lw_V q955 q957 qs43 q77 q958) hd_X2_faultOf ⟨rfl, rfl, Nat.le_of_ble_eq_true rfl, Nat.le_of_ble_eq_true rfl⟩ rfl rfl (mh_0 dA ad _) rfl rfl rfl (Nat.le_of_ble_eq_true rfl) dX2_fault_1 (fun r_1 s_2 hz => ?_)
  have h := hz
  exact rt _ _ _ _ dX2_fault_4 h
theorem hd_X2_strings : yX2_strings.cls = RX2 ∧ yX2_strings.cls ≠ "java/lang/invoke/MethodHandle" ∧ yX2_strings.cls ≠ "java/lang/invoke/VarHandle" ∧ (parseMethodDescriptor yX2_strings.desc).map (fun d => d.parameters.length) = some 1 := by decide +kernel
set_option maxHeartbeats 4000000 in
set_option maxRecDepth 100000 in
theorem wk_X2_strings {l : Launch} {D : va_G} {dA : Nat → ClassId} {ad : Nat → Nat} {s : Sg} {a1 : Int} {Q : Int → Sg → Prop} (h : wp_X2_strings a1 s Q) : MXi l D dA (mwf dA ad) yX2_strings cX2_strings 2 .int ({ frames := 3, cells := 0, slots := 0, locals := 82 } : Room) [.ref (ad 0), .int (iI a1)] s Q := by
  unfold wp_X2_strings at h
  refine jw_start_i (own := RX2) (lv0 := [(0, .ref (ad 0)), (1, .int (iI a1))]) (by decide) rfl (Nat.le_of_ble_eq_true rfl) rfl (fun G F rt => ?_)
  refine jw_iload_n F 1 dX2_strings_0 rfl rfl ?_
  obtain ⟨o_1, h⟩ := h
  refine jw_i2l F o_1 dX2_strings_1 ?_
  refine jw_ldc2 F (z := 3) q973 dX2_strings_2 ?_
  refine jw_ldc2 F (z := 9) q974 dX2_strings_5 ?_
  refine jw_callSzp F (wk_X2_in h) (lw_S q965 q966 q77 q967) hd_X2_in ⟨rfl, rfl, Nat.le_of_ble_eq_true rfl, Nat.le_of_ble_eq_true rfl⟩ rfl rfl (Nat.le_of_ble_eq_true rfl) dX2_strings_8 (fun r_2 hb_r_2 h => ?_)
  refine jw_if_ne F (rg01 hb_r_2) (tgt := 17) dX2_strings_11 (by decide) (fun c => ?_) (fun c => ?_)
  · have h := h.1 (c)
    refine jw_aload_n F 0 dX2_strings_17 rfl rfl ?_
    refine jw_iload_n F 1 dX2_strings_18 rfl rfl ?_
    refine pgx_X2_67_0 F dX2_strings_19 ?_
    refine jw_aload_n F 0 dX2_strings_22 rfl rfl ?_
    refine jw_callVv F (wk_X2_layChords h) (lw_V q823 q825 qs40 q77 q826) hd_X2_layChords ⟨rfl, rfl, Nat.le_of_ble_eq_true rfl, Nat.le_of_ble_eq_true rfl⟩ rfl rfl (mh_0 dA ad _) rfl rfl rfl (Nat.le_of_ble_eq_true rfl) dX2_strings_23 (fun s_5 hz => ?_)
    have h := hz
    refine jw_aload_n F 0 dX2_strings_26 rfl rfl ?_
    refine jw_iconst F dX2_strings_27 ?_
    refine pgx_X2_127_0 F dX2_strings_28 ?_
    refine jw_aload_n F 0 dX2_strings_31 rfl rfl ?_
    refine jw_iconst F dX2_strings_32 ?_
    refine pgx_X2_130_0 F dX2_strings_33 ?_
    refine jw_aload_n F 0 dX2_strings_36 rfl rfl ?_
    refine jw_dup F rfl dX2_strings_37 ?_
    refine gx_X2_133_0 F dX2_strings_38 ?_
    refine jw_iconst F dX2_strings_41 ?_
    refine jw_iadd F dX2_strings_42 ?_
    refine pgx_X2_133_0 F dX2_strings_43 ?_
    refine jw_aload_n F 0 dX2_strings_46 rfl rfl ?_
    refine gx_X2_102_0 F dX2_strings_47 ?_
    exact rt _ _ _ _ dX2_strings_50 h
  · have h := h.2 (c)
    refine jw_bipush F (z := (-102)) dX2_strings_14 (by decide) ?_
    exact rt _ _ _ _ dX2_strings_16 h
theorem hd_X2_law : yX2_law.cls = RX2 ∧ yX2_law.cls ≠ "java/lang/invoke/MethodHandle" ∧ yX2_law.cls ≠ "java/lang/invoke/VarHandle" ∧ (parseMethodDescriptor yX2_law.desc).map (fun d => d.parameters.length) = some 0 := by decide +kernel
set_option maxHeartbeats 4000000 in
set_option maxRecDepth 100000 in
theorem wk_X2_law {l : Launch} {D : va_G} {dA : Nat → ClassId} {ad : Nat → Nat} {s : Sg} {Q : Int → Sg → Prop} (h : wp_X2_law s Q) : MXi l D dA (mwf dA ad) yX2_law cX2_law 2 .int ({ frames := 3, cells := 0, slots := 0, locals := 82 } : Room) [.ref (ad 0)] s Q := by
  unfold wp_X2_law at h
  refine jw_start_i (own := RX2) (lv0 := [(0, .ref (ad 0))]) (by decide) rfl (Nat.le_of_ble_eq_true rfl) rfl (fun G F rt => ?_)
  refine jw_aload_n F 0 dX2_law_0 rfl rfl ?_
  refine jw_callVi F (wk_X2_faultOf h) (lw_V q955 q957 qs43 q77 q958) hd_X2_faultOf ⟨rfl, rfl, Nat.le_of_ble_eq_true rfl, Nat.le_of_ble_eq_true rfl⟩ rfl rfl (mh_0 dA ad _) rfl rfl rfl (Nat.le_of_ble_eq_true rfl) dX2_law_1 (fun r_1 s_2 hz => ?_)
  have h := hz
  refine jw_aload_n F 0 dX2_law_4 rfl rfl ?_
  refine gx_X2_75_0 F dX2_law_5 ?_
  obtain ⟨o_3, h⟩ := h
  obtain ⟨o_4, h⟩ := h
  refine jw_icmp_lt F o_3 o_4 (tgt := 19) dX2_law_8 (by decide) (fun c => ?_) (fun c => ?_)
  · have h := h.1 (c)
    refine jw_bipush F (z := (-103)) dX2_law_19 (by decide) ?_
    exact rt _ _ _ _ dX2_law_21 h
  · have h := h.2 (c)
    refine jw_aload_n F 0 dX2_law_11 rfl rfl ?_
    refine gx_X2_81_0 F dX2_law_12 ?_
    refine jw_iconst F dX2_law_15 ?_
    obtain ⟨o_5, h⟩ := h
    refine jw_icmp_eq F o_5 (by decide) (tgt := 22) dX2_law_16 (by decide) (fun c => ?_) (fun c => ?_)
    · have h := h.1 (c)
      refine jw_aload_n F 0 dX2_law_22 rfl rfl ?_
      refine jw_aload_n F 0 dX2_law_23 rfl rfl ?_
      refine gx_X2_78_0 F dX2_law_24 ?_
      refine jw_iconst F dX2_law_27 ?_
      refine jw_iadd F dX2_law_28 ?_
      refine pgx_X2_112_0 F dX2_law_29 ?_
      refine jw_iconst F dX2_law_32 ?_
      refine jw_istore_n F (lv' := [(0, .ref (ad 0)), (1, .int (iI 0))]) [1, 0] dX2_law_33 rfl (by decide) rfl ?_
      refine lp2_r (fun x1_6 s_7 => G s_7 34 [(0, .ref (ad 0)), (1, .int (iI x1_6))] []) h (fun x1_6 s_7 K_8 h ih_9 => ?_)
      refine jw_iload_n F 1 dX2_law_34 rfl rfl ?_
      refine jw_bipush F (z := 8) dX2_law_35 (by decide) ?_
      obtain ⟨o_10, h⟩ := h
      refine jw_icmp_ge F o_10 (by decide) (tgt := 58) dX2_law_37 (by decide) (fun c => ?_) (fun c => ?_)
      · have h := h.1 (c)
        refine jw_aload_n F 0 dX2_law_58 rfl rfl ?_
        refine jw_callVv F (wk_X2_layChords h) (lw_V q823 q825 qs40 q77 q826) hd_X2_layChords ⟨rfl, rfl, Nat.le_of_ble_eq_true rfl, Nat.le_of_ble_eq_true rfl⟩ rfl rfl (mh_0 dA ad _) rfl rfl rfl (Nat.le_of_ble_eq_true rfl) dX2_law_59 (fun s_12 hz => ?_)
        have h := hz
        refine jw_aload_n F 0 dX2_law_62 rfl rfl ?_
        refine jw_iconst F dX2_law_63 ?_
        refine pgx_X2_130_0 F dX2_law_64 ?_
        refine jw_aload_n F 0 dX2_law_67 rfl rfl ?_
        refine jw_dup F rfl dX2_law_68 ?_
        refine gx_X2_133_0 F dX2_law_69 ?_
        refine jw_iconst F dX2_law_72 ?_
        refine jw_iadd F dX2_law_73 ?_
        refine pgx_X2_133_0 F dX2_law_74 ?_
        refine jw_aload_n F 0 dX2_law_77 rfl rfl ?_
        refine jw_iconst F dX2_law_78 ?_
        refine pgx_X2_75_0 F dX2_law_79 ?_
        refine jw_aload_n F 0 dX2_law_82 rfl rfl ?_
        refine gx_X2_109_0 F dX2_law_83 ?_
        exact rt _ _ _ _ dX2_law_86 h
      · have h := h.2 (c)
        refine jw_aload_n F 0 dX2_law_40 rfl rfl ?_
        refine gx_X2_13_0 F dX2_law_41 ?_
        refine jw_iload_n F 1 dX2_law_44 rfl rfl ?_
        refine jw_aload_n F 0 dX2_law_45 rfl rfl ?_
        refine gx_X2_16_0 F dX2_law_46 ?_
        refine jw_iload_n F 1 dX2_law_49 rfl rfl ?_
        obtain ⟨o_13, o_14, h⟩ := h
        refine jw_iald F (mO dA ad) (k := 3) (by decide) (ma_3 dA ad) 0 rfl (by decide) o_13 o_14 dX2_law_50 ?_
        obtain ⟨o_15, o_16, h⟩ := h
        refine jw_iast F (mO dA ad) (k := 2) (by decide) (ma_2 dA ad) 0 rfl (by decide) o_15 o_16 dX2_law_51 ?_
        refine jw_iinc F (lv' := [(0, .ref (ad 0)), (1, .int (iI (x1_6 + 1)))]) 1 [1, 0] dX2_law_52 rfl (by decide) rfl ?_
        refine jw_goto F (tgt := 34) dX2_law_55 (by decide) ?_
        exact ih_9 _ _ h
    · have h := h.2 (c)
      refine jw_bipush F (z := (-103)) dX2_law_19 (by decide) ?_
      exact rt _ _ _ _ dX2_law_21 h
theorem hd_X2_isLikeness : yX2_isLikeness.cls = RX2 ∧ yX2_isLikeness.cls ≠ "java/lang/invoke/MethodHandle" ∧ yX2_isLikeness.cls ≠ "java/lang/invoke/VarHandle" ∧ (parseMethodDescriptor yX2_isLikeness.desc).map (fun d => d.parameters.length) = some 1 := by decide +kernel
set_option maxHeartbeats 4000000 in
set_option maxRecDepth 100000 in
theorem wk_X2_isLikeness {l : Launch} {D : va_G} {dA : Nat → ClassId} {ad : Nat → Nat} {s : Sg} {a1 : Int} {Q : Int → Prop} (h : wp_X2_isLikeness a1 s Q) : MXi l D dA (mwf dA ad) yX2_isLikeness cX2_isLikeness 2 .boolean ({ frames := 1, cells := 0, slots := 0, locals := 25 } : Room) [.ref (ad 0), .int (iI a1)] s (fun z s' => (z = 0 ∨ z = 1) ∧ s' = s ∧ Q z) := by
  unfold wp_X2_isLikeness at h
  refine jw_start_z (own := RX2) (lv0 := [(0, .ref (ad 0)), (1, .int (iI a1))]) (by decide) rfl (Nat.le_of_ble_eq_true rfl) rfl (fun G F rt => ?_)
  refine jw_iload_n F 1 dX2_isLikeness_0 rfl rfl ?_
  obtain ⟨o_1, h⟩ := h
  refine jw_i2l F o_1 dX2_isLikeness_1 ?_
  refine jw_lconst F (z := 0) dX2_isLikeness_2 (by decide) ?_
  refine jw_aload_n F 0 dX2_isLikeness_3 rfl rfl ?_
  refine gx_X2_112_0 F dX2_isLikeness_4 ?_
  refine jw_iconst F dX2_isLikeness_7 ?_
  refine jw_isub F dX2_isLikeness_8 ?_
  obtain ⟨o_2, h⟩ := h
  refine jw_i2l F o_2 dX2_isLikeness_9 ?_
  refine jw_callSzp F (wk_X2_in h) (lw_S q965 q966 q77 q967) hd_X2_in ⟨rfl, rfl, Nat.le_of_ble_eq_true rfl, Nat.le_of_ble_eq_true rfl⟩ rfl rfl (Nat.le_of_ble_eq_true rfl) dX2_isLikeness_10 (fun r_3 hb_r_3 h => ?_)
  exact rt _ _ _ _ dX2_isLikeness_13 hb_r_3 ⟨hb_r_3, rfl, h⟩
theorem hd_X2_about : yX2_about.cls = RX2 ∧ yX2_about.cls ≠ "java/lang/invoke/MethodHandle" ∧ yX2_about.cls ≠ "java/lang/invoke/VarHandle" ∧ (parseMethodDescriptor yX2_about.desc).map (fun d => d.parameters.length) = some 2 := by decide +kernel
set_option maxHeartbeats 4000000 in
set_option maxRecDepth 100000 in
theorem wk_X2_about {l : Launch} {D : va_G} {dA : Nat → ClassId} {ad : Nat → Nat} {s : Sg} {a1 a2 : Int} {Q : Int → Prop} (h : wp_X2_about a1 a2 s Q) : MXi l D dA (mwf dA ad) yX2_about cX2_about 3 .int ({ frames := 2, cells := 0, slots := 0, locals := 46 } : Room) [.ref (ad 0), .int (iI a1), .int (iI a2)] s (fun z s' => s' = s ∧ Q z) := by
  unfold wp_X2_about at h
  refine jw_start_i (own := RX2) (lv0 := [(0, .ref (ad 0)), (1, .int (iI a1)), (2, .int (iI a2))]) (by decide) rfl (Nat.le_of_ble_eq_true rfl) rfl (fun G F rt => ?_)
  refine jw_aload_n F 0 dX2_about_0 rfl rfl ?_
  refine jw_iload_n F 1 dX2_about_1 rfl rfl ?_
  refine jw_callVzp F (wk_X2_isLikeness h) (lw_V q983 q985 qs45 q77 q986) hd_X2_isLikeness ⟨rfl, rfl, Nat.le_of_ble_eq_true rfl, Nat.le_of_ble_eq_true rfl⟩ rfl rfl (mh_0 dA ad _) rfl rfl rfl (Nat.le_of_ble_eq_true rfl) dX2_about_2 (fun r_1 hb_r_1 h => ?_)
  refine jw_if_ne F (rg01 hb_r_1) (tgt := 11) dX2_about_5 (by decide) (fun c => ?_) (fun c => ?_)
  · have h := h.1 (c)
    refine jw_iload_n F 2 dX2_about_11 rfl rfl ?_
    obtain ⟨o_3, h⟩ := h
    refine jw_i2l F o_3 dX2_about_12 ?_
    refine jw_lconst F (z := 0) dX2_about_13 (by decide) ?_
    refine jw_lconst F (z := 1) dX2_about_14 (by decide) ?_
    refine jw_callSzp F (wk_X2_in h) (lw_S q965 q966 q77 q967) hd_X2_in ⟨rfl, rfl, Nat.le_of_ble_eq_true rfl, Nat.le_of_ble_eq_true rfl⟩ rfl rfl (Nat.le_of_ble_eq_true rfl) dX2_about_15 (fun r_4 hb_r_4 h => ?_)
    refine jw_if_eq F (rg01 hb_r_4) (tgt := 34) dX2_about_18 (by decide) (fun c => ?_) (fun c => ?_)
    · have h := h.1 (c)
      refine jw_bipush F (z := (-102)) dX2_about_34 (by decide) ?_
      exact rt _ _ _ _ dX2_about_36 ⟨rfl, h⟩
    · have h := h.2 (c)
      refine jw_aload_n F 0 dX2_about_21 rfl rfl ?_
      refine gx_X2_13_0 F dX2_about_22 ?_
      refine jw_iconst F dX2_about_25 ?_
      refine jw_iload_n F 1 dX2_about_26 rfl rfl ?_
      refine jw_imul F dX2_about_27 ?_
      refine jw_iload_n F 2 dX2_about_28 rfl rfl ?_
      refine jw_iadd F dX2_about_29 ?_
      obtain ⟨o_6, o_7, h⟩ := h
      refine jw_iald F (mO dA ad) (k := 2) (by decide) (ma_2 dA ad) 0 rfl (by decide) o_6 o_7 dX2_about_30 ?_
      refine jw_goto F (tgt := 36) dX2_about_31 (by decide) ?_
      exact rt _ _ _ _ dX2_about_36 ⟨rfl, h⟩
  · have h := h.2 (c)
    refine jw_bipush F (z := (-101)) dX2_about_8 (by decide) ?_
    exact rt _ _ _ _ dX2_about_10 ⟨rfl, h⟩
theorem hd_X2_as : yX2_as.cls = RX2 ∧ yX2_as.cls ≠ "java/lang/invoke/MethodHandle" ∧ yX2_as.cls ≠ "java/lang/invoke/VarHandle" ∧ (parseMethodDescriptor yX2_as.desc).map (fun d => d.parameters.length) = some 2 := by decide +kernel
set_option maxHeartbeats 4000000 in
set_option maxRecDepth 100000 in
theorem wk_X2_as {l : Launch} {D : va_G} {dA : Nat → ClassId} {ad : Nat → Nat} {s : Sg} {a1 a2 : Int} {Q : Int → Prop} (h : wp_X2_as a1 a2 s Q) : MXi l D dA (mwf dA ad) yX2_as cX2_as 5 .int ({ frames := 2, cells := 0, slots := 0, locals := 46 } : Room) [.ref (ad 0), .int (iI a1), .int (iI a2)] s (fun z s' => s' = s ∧ Q z) := by
  unfold wp_X2_as at h
  refine jw_start_i (own := RX2) (lv0 := [(0, .ref (ad 0)), (1, .int (iI a1)), (2, .int (iI a2))]) (by decide) rfl (Nat.le_of_ble_eq_true rfl) rfl (fun G F rt => ?_)
  refine jw_aload_n F 0 dX2_as_0 rfl rfl ?_
  refine jw_iload_n F 1 dX2_as_1 rfl rfl ?_
  refine jw_callVzp F (wk_X2_isLikeness h) (lw_V q983 q985 qs45 q77 q986) hd_X2_isLikeness ⟨rfl, rfl, Nat.le_of_ble_eq_true rfl, Nat.le_of_ble_eq_true rfl⟩ rfl rfl (mh_0 dA ad _) rfl rfl rfl (Nat.le_of_ble_eq_true rfl) dX2_as_2 (fun r_1 hb_r_1 h => ?_)
  refine jw_if_ne F (rg01 hb_r_1) (tgt := 11) dX2_as_5 (by decide) (fun c => ?_) (fun c => ?_)
  · have h := h.1 (c)
    refine jw_iload_n F 2 dX2_as_11 rfl rfl ?_
    obtain ⟨o_3, h⟩ := h
    refine jw_i2l F o_3 dX2_as_12 ?_
    refine jw_lconst F (z := 0) dX2_as_13 (by decide) ?_
    refine jw_ldc2 F (z := 3) q973 dX2_as_14 ?_
    refine jw_callSzp F (wk_X2_in h) (lw_S q965 q966 q77 q967) hd_X2_in ⟨rfl, rfl, Nat.le_of_ble_eq_true rfl, Nat.le_of_ble_eq_true rfl⟩ rfl rfl (Nat.le_of_ble_eq_true rfl) dX2_as_17 (fun r_4 hb_r_4 h => ?_)
    refine jw_if_ne F (rg01 hb_r_4) (tgt := 26) dX2_as_20 (by decide) (fun c => ?_) (fun c => ?_)
    · have h := h.1 (c)
      refine jw_aload_n F 0 dX2_as_26 rfl rfl ?_
      refine gx_X2_13_0 F dX2_as_27 ?_
      refine jw_iconst F dX2_as_30 ?_
      refine jw_iload_n F 1 dX2_as_31 rfl rfl ?_
      refine jw_imul F dX2_as_32 ?_
      obtain ⟨o_6, o_7, h⟩ := h
      refine jw_iald F (mO dA ad) (k := 2) (by decide) (ma_2 dA ad) 0 rfl (by decide) o_6 o_7 dX2_as_33 ?_
      refine jw_istore_n F (lv' := [(0, .ref (ad 0)), (1, .int (iI a1)), (2, .int (iI a2)), (3, .int (iI (s 2 (2 * a1))))]) [1, 2, 3, 0] dX2_as_34 rfl (by decide) rfl ?_
      refine jw_iload_n F 2 dX2_as_35 rfl rfl ?_
      obtain ⟨o_8, h⟩ := h
      refine jn1_r (fun v_9 => G s 59 [(1, .int (iI a1))] [.int (iI v_9)]) h (fun v_9 h => ?_) (fun K_10 h j_11 => ?_)
      · refine jw_istore F (lv' := [(1, .int (iI a1)), (4, .int (iI v_9))]) [1, 0] dX2_as_59 (by decide) rfl ?_
        refine jw_iload F 1 dX2_as_61 rfl ?_
        obtain ⟨o_12, h⟩ := h
        refine jw_if_eq F o_12 (tgt := 70) dX2_as_63 (by decide) (fun c => ?_) (fun c => ?_)
        · have h := h.1 (c)
          refine jw_iconst F dX2_as_70 ?_
          exact rt _ _ _ _ dX2_as_71 ⟨rfl, h⟩
        · have h := h.2 (c)
          refine jw_iload_n F 0 dX2_as_66 rfl rfl ?_
          refine jw_goto F (tgt := 71) dX2_as_67 (by decide) ?_
          exact rt _ _ _ _ dX2_as_71 ⟨rfl, h⟩
      · refine jn0_r (G s 54 [(1, .int (iI a1))] []) h (fun h => ?_) (fun K_13 h j_14 => ?_)
        · refine jw_iconst F dX2_as_54 ?_
          refine jw_goto F (tgt := 59) dX2_as_55 (by decide) ?_
          exact j_11 _ h
        · refine jw_if_eq F o_8 (tgt := 54) dX2_as_36 (by decide) (fun c => ?_) (fun c => ?_)
          · have h := h.1 (c)
            refine jw_sub F (lv' := [(1, .int (iI a1))]) [1] rfl ?_
            exact j_14 h
          · have h := h.2 (c)
            refine jw_iload_n F 2 dX2_as_39 rfl rfl ?_
            refine jw_iload_n F 3 dX2_as_40 rfl rfl ?_
            obtain ⟨o_15, h⟩ := h
            obtain ⟨o_16, h⟩ := h
            refine jw_icmp_eq F o_15 o_16 (tgt := 54) dX2_as_41 (by decide) (fun c => ?_) (fun c => ?_)
            · have h := h.1 (c)
              refine jw_sub F (lv' := [(1, .int (iI a1))]) [1] rfl ?_
              exact j_14 h
            · have h := h.2 (c)
              refine jw_iload_n F 2 dX2_as_44 rfl rfl ?_
              refine jw_iconst F dX2_as_45 ?_
              obtain ⟨o_17, h⟩ := h
              refine jn0_r (G s 58 [(1, .int (iI a1))] []) h (fun h => ?_) (fun K_18 h j_19 => ?_)
              · refine jw_iconst F dX2_as_58 ?_
                exact j_11 _ h
              · refine jw_icmp_ne F o_17 (by decide) (tgt := 58) dX2_as_46 (by decide) (fun c => ?_) (fun c => ?_)
                · have h := h.1 (c)
                  refine jw_sub F (lv' := [(1, .int (iI a1))]) [1] rfl ?_
                  exact j_19 h
                · have h := h.2 (c)
                  refine jw_iload_n F 3 dX2_as_49 rfl rfl ?_
                  refine jw_iconst F dX2_as_50 ?_
                  obtain ⟨o_20, h⟩ := h
                  refine jw_icmp_ne F o_20 (by decide) (tgt := 58) dX2_as_51 (by decide) (fun c => ?_) (fun c => ?_)
                  · have h := h.1 (c)
                    refine jw_sub F (lv' := [(1, .int (iI a1))]) [1] rfl ?_
                    exact j_19 h
                  · have h := h.2 (c)
                    refine jw_sub F (lv' := [(1, .int (iI a1))]) [1] rfl ?_
                    exact j_14 h
    · have h := h.2 (c)
      refine jw_bipush F (z := (-102)) dX2_as_23 (by decide) ?_
      exact rt _ _ _ _ dX2_as_25 ⟨rfl, h⟩
  · have h := h.2 (c)
    refine jw_bipush F (z := (-101)) dX2_as_8 (by decide) ?_
    exact rt _ _ _ _ dX2_as_10 ⟨rfl, h⟩
theorem hd_X2_isString : yX2_isString.cls = RX2 ∧ yX2_isString.cls ≠ "java/lang/invoke/MethodHandle" ∧ yX2_isString.cls ≠ "java/lang/invoke/VarHandle" ∧ (parseMethodDescriptor yX2_isString.desc).map (fun d => d.parameters.length) = some 1 := by decide +kernel
set_option maxHeartbeats 4000000 in
set_option maxRecDepth 100000 in
theorem wk_X2_isString {l : Launch} {D : va_G} {dA : Nat → ClassId} {ad : Nat → Nat} {s : Sg} {a1 : Int} {Q : Int → Prop} (h : wp_X2_isString a1 s Q) : MXi l D dA (mwf dA ad) yX2_isString cX2_isString 2 .boolean ({ frames := 1, cells := 0, slots := 0, locals := 25 } : Room) [.ref (ad 0), .int (iI a1)] s (fun z s' => (z = 0 ∨ z = 1) ∧ s' = s ∧ Q z) := by
  unfold wp_X2_isString at h
  refine jw_start_z (own := RX2) (lv0 := [(0, .ref (ad 0)), (1, .int (iI a1))]) (by decide) rfl (Nat.le_of_ble_eq_true rfl) rfl (fun G F rt => ?_)
  refine jw_iload_n F 1 dX2_isString_0 rfl rfl ?_
  obtain ⟨o_1, h⟩ := h
  refine jw_i2l F o_1 dX2_isString_1 ?_
  refine jw_lconst F (z := 0) dX2_isString_2 (by decide) ?_
  refine jw_aload_n F 0 dX2_isString_3 rfl rfl ?_
  refine gx_X2_67_0 F dX2_isString_4 ?_
  refine jw_iconst F dX2_isString_7 ?_
  refine jw_isub F dX2_isString_8 ?_
  obtain ⟨o_2, h⟩ := h
  refine jw_i2l F o_2 dX2_isString_9 ?_
  refine jw_callSzp F (wk_X2_in h) (lw_S q965 q966 q77 q967) hd_X2_in ⟨rfl, rfl, Nat.le_of_ble_eq_true rfl, Nat.le_of_ble_eq_true rfl⟩ rfl rfl (Nat.le_of_ble_eq_true rfl) dX2_isString_10 (fun r_3 hb_r_3 h => ?_)
  exact rt _ _ _ _ dX2_isString_13 hb_r_3 ⟨hb_r_3, rfl, h⟩
theorem hd_X2_sounds : yX2_sounds.cls = RX2 ∧ yX2_sounds.cls ≠ "java/lang/invoke/MethodHandle" ∧ yX2_sounds.cls ≠ "java/lang/invoke/VarHandle" ∧ (parseMethodDescriptor yX2_sounds.desc).map (fun d => d.parameters.length) = some 2 := by decide +kernel
set_option maxHeartbeats 4000000 in
set_option maxRecDepth 100000 in
theorem wk_X2_sounds {l : Launch} {D : va_G} {dA : Nat → ClassId} {ad : Nat → Nat} {s : Sg} {a1 a2 : Int} {Q : Int → Prop} (h : wp_X2_sounds a1 a2 s Q) : MXi l D dA (mwf dA ad) yX2_sounds cX2_sounds 3 .int ({ frames := 2, cells := 0, slots := 0, locals := 46 } : Room) [.ref (ad 0), .int (iI a1), .int (iI a2)] s (fun z s' => s' = s ∧ Q z) := by
  unfold wp_X2_sounds at h
  refine jw_start_i (own := RX2) (lv0 := [(0, .ref (ad 0)), (1, .int (iI a1)), (2, .int (iI a2))]) (by decide) rfl (Nat.le_of_ble_eq_true rfl) rfl (fun G F rt => ?_)
  refine jw_aload_n F 0 dX2_sounds_0 rfl rfl ?_
  refine jw_iload_n F 1 dX2_sounds_1 rfl rfl ?_
  refine jw_callVzp F (wk_X2_isLikeness h) (lw_V q983 q985 qs45 q77 q986) hd_X2_isLikeness ⟨rfl, rfl, Nat.le_of_ble_eq_true rfl, Nat.le_of_ble_eq_true rfl⟩ rfl rfl (mh_0 dA ad _) rfl rfl rfl (Nat.le_of_ble_eq_true rfl) dX2_sounds_2 (fun r_1 hb_r_1 h => ?_)
  refine jw_if_eq F (rg01 hb_r_1) (tgt := 29) dX2_sounds_5 (by decide) (fun c => ?_) (fun c => ?_)
  · have h := h.1 (c)
    refine jw_bipush F (z := (-101)) dX2_sounds_29 (by decide) ?_
    exact rt _ _ _ _ dX2_sounds_31 ⟨rfl, h⟩
  · have h := h.2 (c)
    refine jw_aload_n F 0 dX2_sounds_8 rfl rfl ?_
    refine jw_iload_n F 2 dX2_sounds_9 rfl rfl ?_
    refine jw_callVzp F (wk_X2_isString h) (lw_V q995 q997 qs46 q77 q998) hd_X2_isString ⟨rfl, rfl, Nat.le_of_ble_eq_true rfl, Nat.le_of_ble_eq_true rfl⟩ rfl rfl (mh_0 dA ad _) rfl rfl rfl (Nat.le_of_ble_eq_true rfl) dX2_sounds_10 (fun r_3 hb_r_3 h => ?_)
    refine jw_if_eq F (rg01 hb_r_3) (tgt := 29) dX2_sounds_13 (by decide) (fun c => ?_) (fun c => ?_)
    · have h := h.1 (c)
      refine jw_bipush F (z := (-101)) dX2_sounds_29 (by decide) ?_
      exact rt _ _ _ _ dX2_sounds_31 ⟨rfl, h⟩
    · have h := h.2 (c)
      refine jw_aload_n F 0 dX2_sounds_16 rfl rfl ?_
      refine jw_iload_n F 1 dX2_sounds_17 rfl rfl ?_
      refine jw_iload_n F 2 dX2_sounds_18 rfl rfl ?_
      refine jw_aload_n F 0 dX2_sounds_19 rfl rfl ?_
      refine gx_X2_67_0 F dX2_sounds_20 ?_
      refine jw_callVip F (wk_X2_sound h) (lw_V q831 q833 qs42 q77 q834) hd_X2_sound ⟨rfl, rfl, Nat.le_of_ble_eq_true rfl, Nat.le_of_ble_eq_true rfl⟩ rfl rfl (mh_0 dA ad _) rfl rfl rfl (Nat.le_of_ble_eq_true rfl) dX2_sounds_23 (fun r_5 h => ?_)
      refine jw_goto F (tgt := 31) dX2_sounds_26 (by decide) ?_
      exact rt _ _ _ _ dX2_sounds_31 ⟨rfl, h⟩
theorem hd_X2_chord : yX2_chord.cls = RX2 ∧ yX2_chord.cls ≠ "java/lang/invoke/MethodHandle" ∧ yX2_chord.cls ≠ "java/lang/invoke/VarHandle" ∧ (parseMethodDescriptor yX2_chord.desc).map (fun d => d.parameters.length) = some 3 := by decide +kernel
set_option maxHeartbeats 4000000 in
set_option maxRecDepth 100000 in
theorem wk_X2_chord {l : Launch} {D : va_G} {dA : Nat → ClassId} {ad : Nat → Nat} {s : Sg} {a1 a2 a3 : Int} {Q : Int → Prop} (h : wp_X2_chord a1 a2 a3 s Q) : MXi l D dA (mwf dA ad) yX2_chord cX2_chord 5 .int ({ frames := 2, cells := 0, slots := 0, locals := 46 } : Room) [.ref (ad 0), .int (iI a1), .int (iI a2), .int (iI a3)] s (fun z s' => s' = s ∧ Q z) := by
  unfold wp_X2_chord at h
  refine jw_start_i (own := RX2) (lv0 := [(0, .ref (ad 0)), (1, .int (iI a1)), (2, .int (iI a2)), (3, .int (iI a3))]) (by decide) rfl (Nat.le_of_ble_eq_true rfl) rfl (fun G F rt => ?_)
  refine jw_aload_n F 0 dX2_chord_0 rfl rfl ?_
  refine jw_iload_n F 1 dX2_chord_1 rfl rfl ?_
  refine jw_callVzp F (wk_X2_isString h) (lw_V q995 q997 qs46 q77 q998) hd_X2_isString ⟨rfl, rfl, Nat.le_of_ble_eq_true rfl, Nat.le_of_ble_eq_true rfl⟩ rfl rfl (mh_0 dA ad _) rfl rfl rfl (Nat.le_of_ble_eq_true rfl) dX2_chord_2 (fun r_1 hb_r_1 h => ?_)
  refine jn1_r (fun v_3 => G s 44 [(0, .ref (ad 0)), (1, .int (iI a1)), (2, .int (iI a2)), (3, .int (iI a3))] [.int (iI v_3)]) h (fun v_3 h => ?_) (fun K_4 h j_5 => ?_)
  · refine jw_istore F (lv' := [(0, .ref (ad 0)), (1, .int (iI a1)), (2, .int (iI a2)), (3, .int (iI a3)), (4, .int (iI v_3))]) [1, 2, 3, 4, 0] dX2_chord_44 (by decide) rfl ?_
    refine jw_iload F 4 dX2_chord_46 rfl ?_
    obtain ⟨o_6, h⟩ := h
    refine jw_if_eq F o_6 (tgt := 64) dX2_chord_48 (by decide) (fun c => ?_) (fun c => ?_)
    · have h := h.1 (c)
      refine jw_bipush F (z := (-101)) dX2_chord_64 (by decide) ?_
      exact rt _ _ _ _ dX2_chord_66 ⟨rfl, h⟩
    · have h := h.2 (c)
      refine jw_iload_n F 1 dX2_chord_51 rfl rfl ?_
      refine jw_iload_n F 2 dX2_chord_52 rfl rfl ?_
      refine jw_iload_n F 3 dX2_chord_53 rfl rfl ?_
      refine jw_aload_n F 0 dX2_chord_54 rfl rfl ?_
      refine gx_X2_67_0 F dX2_chord_55 ?_
      refine jw_callSip F (wk_X2_numberOf h) (lw_S q835 q836 q77 q837) hd_X2_numberOf ⟨rfl, rfl, Nat.le_of_ble_eq_true rfl, Nat.le_of_ble_eq_true rfl⟩ rfl rfl (Nat.le_of_ble_eq_true rfl) dX2_chord_58 (fun r_7 h => ?_)
      refine jw_goto F (tgt := 66) dX2_chord_61 (by decide) ?_
      exact rt _ _ _ _ dX2_chord_66 ⟨rfl, h⟩
  · refine jn0_r (G s 43 [(0, .ref (ad 0)), (1, .int (iI a1)), (2, .int (iI a2)), (3, .int (iI a3))] []) h (fun h => ?_) (fun K_9 h j_10 => ?_)
    · refine jw_iconst F dX2_chord_43 ?_
      exact j_5 _ h
    · refine jw_if_eq F (rg01 hb_r_1) (tgt := 43) dX2_chord_5 (by decide) (fun c => ?_) (fun c => ?_)
      · have h := h.1 (c)
        exact j_10 h
      · have h := h.2 (c)
        refine jw_aload_n F 0 dX2_chord_8 rfl rfl ?_
        refine jw_iload_n F 2 dX2_chord_9 rfl rfl ?_
        refine jw_callVzp F (wk_X2_isString h) (lw_V q995 q997 qs46 q77 q998) hd_X2_isString ⟨rfl, rfl, Nat.le_of_ble_eq_true rfl, Nat.le_of_ble_eq_true rfl⟩ rfl rfl (mh_0 dA ad _) rfl rfl rfl (Nat.le_of_ble_eq_true rfl) dX2_chord_10 (fun r_11 hb_r_11 h => ?_)
        refine jw_if_eq F (rg01 hb_r_11) (tgt := 43) dX2_chord_13 (by decide) (fun c => ?_) (fun c => ?_)
        · have h := h.1 (c)
          exact j_10 h
        · have h := h.2 (c)
          refine jw_aload_n F 0 dX2_chord_16 rfl rfl ?_
          refine jw_iload_n F 3 dX2_chord_17 rfl rfl ?_
          refine jw_callVzp F (wk_X2_isString h) (lw_V q995 q997 qs46 q77 q998) hd_X2_isString ⟨rfl, rfl, Nat.le_of_ble_eq_true rfl, Nat.le_of_ble_eq_true rfl⟩ rfl rfl (mh_0 dA ad _) rfl rfl rfl (Nat.le_of_ble_eq_true rfl) dX2_chord_18 (fun r_13 hb_r_13 h => ?_)
          refine jw_if_eq F (rg01 hb_r_13) (tgt := 43) dX2_chord_21 (by decide) (fun c => ?_) (fun c => ?_)
          · have h := h.1 (c)
            exact j_10 h
          · have h := h.2 (c)
            refine jw_iload_n F 1 dX2_chord_24 rfl rfl ?_
            refine jw_iload_n F 2 dX2_chord_25 rfl rfl ?_
            obtain ⟨o_15, h⟩ := h
            obtain ⟨o_16, h⟩ := h
            refine jw_icmp_eq F o_15 o_16 (tgt := 43) dX2_chord_26 (by decide) (fun c => ?_) (fun c => ?_)
            · have h := h.1 (c)
              exact j_10 h
            · have h := h.2 (c)
              refine jw_iload_n F 1 dX2_chord_29 rfl rfl ?_
              refine jw_iload_n F 3 dX2_chord_30 rfl rfl ?_
              obtain ⟨o_17, h⟩ := h
              obtain ⟨o_18, h⟩ := h
              refine jw_icmp_eq F o_17 o_18 (tgt := 43) dX2_chord_31 (by decide) (fun c => ?_) (fun c => ?_)
              · have h := h.1 (c)
                exact j_10 h
              · have h := h.2 (c)
                refine jw_iload_n F 2 dX2_chord_34 rfl rfl ?_
                refine jw_iload_n F 3 dX2_chord_35 rfl rfl ?_
                obtain ⟨o_19, h⟩ := h
                obtain ⟨o_20, h⟩ := h
                refine jw_icmp_eq F o_19 o_20 (tgt := 43) dX2_chord_36 (by decide) (fun c => ?_) (fun c => ?_)
                · have h := h.1 (c)
                  exact j_10 h
                · have h := h.2 (c)
                  refine jw_iconst F dX2_chord_39 ?_
                  refine jw_goto F (tgt := 44) dX2_chord_40 (by decide) ?_
                  exact j_5 _ h
theorem hd_X2_isChord : yX2_isChord.cls = RX2 ∧ yX2_isChord.cls ≠ "java/lang/invoke/MethodHandle" ∧ yX2_isChord.cls ≠ "java/lang/invoke/VarHandle" ∧ (parseMethodDescriptor yX2_isChord.desc).map (fun d => d.parameters.length) = some 1 := by decide +kernel
set_option maxHeartbeats 4000000 in
set_option maxRecDepth 100000 in
theorem wk_X2_isChord {l : Launch} {D : va_G} {dA : Nat → ClassId} {ad : Nat → Nat} {s : Sg} {a1 : Int} {Q : Int → Prop} (h : wp_X2_isChord a1 s Q) : MXi l D dA (mwf dA ad) yX2_isChord cX2_isChord 2 .boolean ({ frames := 1, cells := 0, slots := 0, locals := 25 } : Room) [.ref (ad 0), .int (iI a1)] s (fun z s' => (z = 0 ∨ z = 1) ∧ s' = s ∧ Q z) := by
  unfold wp_X2_isChord at h
  refine jw_start_z (own := RX2) (lv0 := [(0, .ref (ad 0)), (1, .int (iI a1))]) (by decide) rfl (Nat.le_of_ble_eq_true rfl) rfl (fun G F rt => ?_)
  refine jw_iload_n F 1 dX2_isChord_0 rfl rfl ?_
  obtain ⟨o_1, h⟩ := h
  refine jw_i2l F o_1 dX2_isChord_1 ?_
  refine jw_lconst F (z := 0) dX2_isChord_2 (by decide) ?_
  refine jw_aload_n F 0 dX2_isChord_3 rfl rfl ?_
  refine gx_X2_102_0 F dX2_isChord_4 ?_
  refine jw_iconst F dX2_isChord_7 ?_
  refine jw_isub F dX2_isChord_8 ?_
  obtain ⟨o_2, h⟩ := h
  refine jw_i2l F o_2 dX2_isChord_9 ?_
  refine jw_callSzp F (wk_X2_in h) (lw_S q965 q966 q77 q967) hd_X2_in ⟨rfl, rfl, Nat.le_of_ble_eq_true rfl, Nat.le_of_ble_eq_true rfl⟩ rfl rfl (Nat.le_of_ble_eq_true rfl) dX2_isChord_10 (fun r_3 hb_r_3 h => ?_)
  exact rt _ _ _ _ dX2_isChord_13 hb_r_3 ⟨hb_r_3, rfl, h⟩
theorem hd_X2_part : yX2_part.cls = RX2 ∧ yX2_part.cls ≠ "java/lang/invoke/MethodHandle" ∧ yX2_part.cls ≠ "java/lang/invoke/VarHandle" ∧ (parseMethodDescriptor yX2_part.desc).map (fun d => d.parameters.length) = some 2 := by decide +kernel
set_option maxHeartbeats 4000000 in
set_option maxRecDepth 100000 in
theorem wk_X2_part {l : Launch} {D : va_G} {dA : Nat → ClassId} {ad : Nat → Nat} {s : Sg} {a1 a2 : Int} {Q : Int → Prop} (h : wp_X2_part a1 a2 s Q) : MXi l D dA (mwf dA ad) yX2_part cX2_part 3 .int ({ frames := 2, cells := 0, slots := 0, locals := 46 } : Room) [.ref (ad 0), .int (iI a1), .int (iI a2)] s (fun z s' => s' = s ∧ Q z) := by
  unfold wp_X2_part at h
  refine jw_start_i (own := RX2) (lv0 := [(0, .ref (ad 0)), (1, .int (iI a1)), (2, .int (iI a2))]) (by decide) rfl (Nat.le_of_ble_eq_true rfl) rfl (fun G F rt => ?_)
  refine jw_aload_n F 0 dX2_part_0 rfl rfl ?_
  refine jw_iload_n F 1 dX2_part_1 rfl rfl ?_
  refine jw_callVzp F (wk_X2_isChord h) (lw_V q1007 q1009 qs47 q77 q1010) hd_X2_isChord ⟨rfl, rfl, Nat.le_of_ble_eq_true rfl, Nat.le_of_ble_eq_true rfl⟩ rfl rfl (mh_0 dA ad _) rfl rfl rfl (Nat.le_of_ble_eq_true rfl) dX2_part_2 (fun r_1 hb_r_1 h => ?_)
  refine jw_if_ne F (rg01 hb_r_1) (tgt := 11) dX2_part_5 (by decide) (fun c => ?_) (fun c => ?_)
  · have h := h.1 (c)
    refine jw_iload_n F 2 dX2_part_11 rfl rfl ?_
    obtain ⟨o_3, h⟩ := h
    refine jw_i2l F o_3 dX2_part_12 ?_
    refine jw_lconst F (z := 0) dX2_part_13 (by decide) ?_
    refine jw_ldc2 F (z := 2) q1011 dX2_part_14 ?_
    refine jw_callSzp F (wk_X2_in h) (lw_S q965 q966 q77 q967) hd_X2_in ⟨rfl, rfl, Nat.le_of_ble_eq_true rfl, Nat.le_of_ble_eq_true rfl⟩ rfl rfl (Nat.le_of_ble_eq_true rfl) dX2_part_17 (fun r_4 hb_r_4 h => ?_)
    refine jw_if_eq F (rg01 hb_r_4) (tgt := 36) dX2_part_20 (by decide) (fun c => ?_) (fun c => ?_)
    · have h := h.1 (c)
      refine jw_iload_n F 2 dX2_part_36 rfl rfl ?_
      refine jw_iconst F dX2_part_37 ?_
      obtain ⟨o_6, h⟩ := h
      refine jw_icmp_ne F o_6 (by decide) (tgt := 50) dX2_part_38 (by decide) (fun c => ?_) (fun c => ?_)
      · have h := h.1 (c)
        refine jw_bipush F (z := (-102)) dX2_part_50 (by decide) ?_
        exact rt _ _ _ _ dX2_part_52 ⟨rfl, h⟩
      · have h := h.2 (c)
        refine jw_aload_n F 0 dX2_part_41 rfl rfl ?_
        refine gx_X2_22_0 F dX2_part_42 ?_
        refine jw_iload_n F 1 dX2_part_45 rfl rfl ?_
        obtain ⟨o_7, o_8, h⟩ := h
        refine jw_iald F (mO dA ad) (k := 5) (by decide) (ma_5 dA ad) 0 rfl (by decide) o_7 o_8 dX2_part_46 ?_
        refine jw_goto F (tgt := 52) dX2_part_47 (by decide) ?_
        exact rt _ _ _ _ dX2_part_52 ⟨rfl, h⟩
    · have h := h.2 (c)
      refine jw_aload_n F 0 dX2_part_23 rfl rfl ?_
      refine gx_X2_19_0 F dX2_part_24 ?_
      refine jw_iconst F dX2_part_27 ?_
      refine jw_iload_n F 1 dX2_part_28 rfl rfl ?_
      refine jw_imul F dX2_part_29 ?_
      refine jw_iload_n F 2 dX2_part_30 rfl rfl ?_
      refine jw_iadd F dX2_part_31 ?_
      obtain ⟨o_9, o_10, h⟩ := h
      refine jw_iald F (mO dA ad) (k := 4) (by decide) (ma_4 dA ad) 0 rfl (by decide) o_9 o_10 dX2_part_32 ?_
      refine jw_goto F (tgt := 52) dX2_part_33 (by decide) ?_
      exact rt _ _ _ _ dX2_part_52 ⟨rfl, h⟩
  · have h := h.2 (c)
    refine jw_bipush F (z := (-101)) dX2_part_8 (by decide) ?_
    exact rt _ _ _ _ dX2_part_10 ⟨rfl, h⟩
theorem hd_X2_asOf : yX2_asOf.cls = RX2 ∧ yX2_asOf.cls ≠ "java/lang/invoke/MethodHandle" ∧ yX2_asOf.cls ≠ "java/lang/invoke/VarHandle" ∧ (parseMethodDescriptor yX2_asOf.desc).map (fun d => d.parameters.length) = some 1 := by decide +kernel
set_option maxHeartbeats 4000000 in
set_option maxRecDepth 100000 in
theorem wk_X2_asOf {l : Launch} {D : va_G} {dA : Nat → ClassId} {ad : Nat → Nat} {s : Sg} {a1 : Int} {Q : Int → Prop} (h : wp_X2_asOf a1 s Q) : MXi l D dA (mwf dA ad) yX2_asOf cX2_asOf 3 .int ({ frames := 0, cells := 0, slots := 0, locals := 0 } : Room) [.ref (ad 0), .int (iI a1)] s (fun z s' => s' = s ∧ Q z) := by
  unfold wp_X2_asOf at h
  refine jw_start_i (own := RX2) (lv0 := [(0, .ref (ad 0)), (1, .int (iI a1))]) (by decide) rfl (Nat.le_of_ble_eq_true rfl) rfl (fun G F rt => ?_)
  refine jw_iconst F dX2_asOf_0 ?_
  refine jw_istore_n F (lv' := [(0, .ref (ad 0)), (1, .int (iI a1)), (2, .int (iI 0))]) [1, 2, 0] dX2_asOf_1 rfl (by decide) rfl ?_
  refine lp1_r (fun x2_1 => G s 2 [(0, .ref (ad 0)), (1, .int (iI a1)), (2, .int (iI x2_1))] []) h (fun x2_1 K_2 h ih_3 => ?_)
  refine jw_iload_n F 2 dX2_asOf_2 rfl rfl ?_
  refine jw_aload_n F 0 dX2_asOf_3 rfl rfl ?_
  refine gx_X2_127_0 F dX2_asOf_4 ?_
  obtain ⟨o_4, h⟩ := h
  obtain ⟨o_5, h⟩ := h
  refine jw_icmp_ge F o_4 o_5 (tgt := 43) dX2_asOf_7 (by decide) (fun c => ?_) (fun c => ?_)
  · have h := h.1 (c)
    refine jw_iconst F dX2_asOf_43 ?_
    exact rt _ _ _ _ dX2_asOf_44 ⟨rfl, h⟩
  · have h := h.2 (c)
    refine jw_aload_n F 0 dX2_asOf_10 rfl rfl ?_
    refine gx_X2_22_0 F dX2_asOf_11 ?_
    refine jw_aload_n F 0 dX2_asOf_14 rfl rfl ?_
    refine gx_X2_28_0 F dX2_asOf_15 ?_
    refine jw_iload_n F 2 dX2_asOf_18 rfl rfl ?_
    obtain ⟨o_6, o_7, h⟩ := h
    refine jw_iald F (mO dA ad) (k := 7) (by decide) (ma_7 dA ad) 0 rfl (by decide) o_6 o_7 dX2_asOf_19 ?_
    obtain ⟨o_8, o_9, h⟩ := h
    refine jw_iald F (mO dA ad) (k := 5) (by decide) (ma_5 dA ad) 0 rfl (by decide) o_8 o_9 dX2_asOf_20 ?_
    refine jw_aload_n F 0 dX2_asOf_21 rfl rfl ?_
    refine gx_X2_22_0 F dX2_asOf_22 ?_
    refine jw_iload_n F 1 dX2_asOf_25 rfl rfl ?_
    obtain ⟨o_10, o_11, h⟩ := h
    refine jw_iald F (mO dA ad) (k := 5) (by decide) (ma_5 dA ad) 0 rfl (by decide) o_10 o_11 dX2_asOf_26 ?_
    obtain ⟨o_12, h⟩ := h
    obtain ⟨o_13, h⟩ := h
    refine jw_icmp_ne F o_12 o_13 (tgt := 37) dX2_asOf_27 (by decide) (fun c => ?_) (fun c => ?_)
    · have h := h.1 (c)
      refine jw_iinc F (lv' := [(0, .ref (ad 0)), (1, .int (iI a1)), (2, .int (iI (x2_1 + 1)))]) 2 [1, 2, 0] dX2_asOf_37 rfl (by decide) rfl ?_
      refine jw_goto F (tgt := 2) dX2_asOf_40 (by decide) ?_
      exact ih_3 _ h
    · have h := h.2 (c)
      refine jw_aload_n F 0 dX2_asOf_30 rfl rfl ?_
      refine gx_X2_28_0 F dX2_asOf_31 ?_
      refine jw_iload_n F 2 dX2_asOf_34 rfl rfl ?_
      obtain ⟨o_14, o_15, h⟩ := h
      refine jw_iald F (mO dA ad) (k := 7) (by decide) (ma_7 dA ad) 0 rfl (by decide) o_14 o_15 dX2_asOf_35 ?_
      exact rt _ _ _ _ dX2_asOf_36 ⟨rfl, h⟩
theorem hd_X2_isLeft : yX2_isLeft.cls = RX2 ∧ yX2_isLeft.cls ≠ "java/lang/invoke/MethodHandle" ∧ yX2_isLeft.cls ≠ "java/lang/invoke/VarHandle" ∧ (parseMethodDescriptor yX2_isLeft.desc).map (fun d => d.parameters.length) = some 1 := by decide +kernel
set_option maxHeartbeats 4000000 in
set_option maxRecDepth 100000 in
theorem wk_X2_isLeft {l : Launch} {D : va_G} {dA : Nat → ClassId} {ad : Nat → Nat} {s : Sg} {a1 : Int} {Q : Int → Prop} (h : wp_X2_isLeft a1 s Q) : MXi l D dA (mwf dA ad) yX2_isLeft cX2_isLeft 2 .boolean ({ frames := 1, cells := 0, slots := 0, locals := 22 } : Room) [.ref (ad 0), .int (iI a1)] s (fun z s' => (z = 0 ∨ z = 1) ∧ s' = s ∧ Q z) := by
  unfold wp_X2_isLeft at h
  refine jw_start_z (own := RX2) (lv0 := [(0, .ref (ad 0)), (1, .int (iI a1))]) (by decide) rfl (Nat.le_of_ble_eq_true rfl) rfl (fun G F rt => ?_)
  refine jw_aload_n F 0 dX2_isLeft_0 rfl rfl ?_
  refine jw_aload_n F 0 dX2_isLeft_1 rfl rfl ?_
  refine gx_X2_25_0 F dX2_isLeft_2 ?_
  refine jw_iload_n F 1 dX2_isLeft_5 rfl rfl ?_
  obtain ⟨o_1, o_2, h⟩ := h
  refine jw_iald F (mO dA ad) (k := 6) (by decide) (ma_6 dA ad) 0 rfl (by decide) o_1 o_2 dX2_isLeft_6 ?_
  refine jw_callVip F (wk_X2_asOf h) (lw_V q1028 q1030 qs51 q77 q1031) hd_X2_asOf ⟨rfl, rfl, Nat.le_of_ble_eq_true rfl, Nat.le_of_ble_eq_true rfl⟩ rfl rfl (mh_0 dA ad _) rfl rfl rfl (Nat.le_of_ble_eq_true rfl) dX2_isLeft_7 (fun r_3 h => ?_)
  refine jw_iconst F dX2_isLeft_10 ?_
  obtain ⟨o_5, h⟩ := h
  refine jw_icmp_ne F o_5 (by decide) (tgt := 18) dX2_isLeft_11 (by decide) (fun c => ?_) (fun c => ?_)
  · have h := h.1 (c)
    refine jw_iconst F dX2_isLeft_18 ?_
    exact rt _ _ _ _ dX2_isLeft_19 (by decide) ⟨(by decide), rfl, h⟩
  · have h := h.2 (c)
    refine jw_iconst F dX2_isLeft_14 ?_
    refine jw_goto F (tgt := 19) dX2_isLeft_15 (by decide) ?_
    exact rt _ _ _ _ dX2_isLeft_19 (by decide) ⟨(by decide), rfl, h⟩
theorem hd_X2_sizeOf : yX2_sizeOf.cls = RX2 ∧ yX2_sizeOf.cls ≠ "java/lang/invoke/MethodHandle" ∧ yX2_sizeOf.cls ≠ "java/lang/invoke/VarHandle" ∧ (parseMethodDescriptor yX2_sizeOf.desc).map (fun d => d.parameters.length) = some 1 := by decide +kernel
set_option maxHeartbeats 4000000 in
set_option maxRecDepth 100000 in
theorem wk_X2_sizeOf {l : Launch} {D : va_G} {dA : Nat → ClassId} {ad : Nat → Nat} {s : Sg} {a1 : Int} {Q : Int → Prop} (h : wp_X2_sizeOf a1 s Q) : MXi l D dA (mwf dA ad) yX2_sizeOf cX2_sizeOf 4 .int ({ frames := 0, cells := 0, slots := 0, locals := 0 } : Room) [.ref (ad 0), .int (iI a1)] s (fun z s' => s' = s ∧ Q z) := by
  unfold wp_X2_sizeOf at h
  refine jw_start_i (own := RX2) (lv0 := [(0, .ref (ad 0)), (1, .int (iI a1))]) (by decide) rfl (Nat.le_of_ble_eq_true rfl) rfl (fun G F rt => ?_)
  refine jw_iconst F dX2_sizeOf_0 ?_
  refine jw_istore_n F (lv' := [(0, .ref (ad 0)), (1, .int (iI a1)), (2, .int (iI 0))]) [1, 2, 0] dX2_sizeOf_1 rfl (by decide) rfl ?_
  refine jw_iconst F dX2_sizeOf_2 ?_
  refine jw_istore_n F (lv' := [(0, .ref (ad 0)), (1, .int (iI a1)), (2, .int (iI 0)), (3, .int (iI 0))]) [1, 2, 3, 0] dX2_sizeOf_3 rfl (by decide) rfl ?_
  refine lp2_r (fun x2_1 x3_2 => G s 4 [(0, .ref (ad 0)), (1, .int (iI a1)), (2, .int (iI x2_1)), (3, .int (iI x3_2))] []) h (fun x2_1 x3_2 K_3 h ih_4 => ?_)
  refine jw_iload_n F 3 dX2_sizeOf_4 rfl rfl ?_
  refine jw_aload_n F 0 dX2_sizeOf_5 rfl rfl ?_
  refine gx_X2_102_0 F dX2_sizeOf_6 ?_
  obtain ⟨o_5, h⟩ := h
  obtain ⟨o_6, h⟩ := h
  refine jw_icmp_ge F o_5 o_6 (tgt := 36) dX2_sizeOf_9 (by decide) (fun c => ?_) (fun c => ?_)
  · have h := h.1 (c)
    refine jw_iload_n F 2 dX2_sizeOf_36 rfl rfl ?_
    exact rt _ _ _ _ dX2_sizeOf_37 ⟨rfl, h⟩
  · have h := h.2 (c)
    refine jw_iload_n F 2 dX2_sizeOf_12 rfl rfl ?_
    refine jw_aload_n F 0 dX2_sizeOf_13 rfl rfl ?_
    refine gx_X2_22_0 F dX2_sizeOf_14 ?_
    refine jw_iload_n F 3 dX2_sizeOf_17 rfl rfl ?_
    obtain ⟨o_7, o_8, h⟩ := h
    refine jw_iald F (mO dA ad) (k := 5) (by decide) (ma_5 dA ad) 0 rfl (by decide) o_7 o_8 dX2_sizeOf_18 ?_
    refine jw_iload_n F 1 dX2_sizeOf_19 rfl rfl ?_
    obtain ⟨o_9, h⟩ := h
    obtain ⟨o_10, h⟩ := h
    refine jn1_r (fun v_11 => G s 28 [(0, .ref (ad 0)), (1, .int (iI a1)), (3, .int (iI x3_2))] [.int (iI v_11), .int (iI x2_1)]) h (fun v_11 h => ?_) (fun K_12 h j_13 => ?_)
    · refine jw_iadd F dX2_sizeOf_28 ?_
      refine jw_istore_n F (lv' := [(0, .ref (ad 0)), (1, .int (iI a1)), (2, .int (iI (x2_1 + v_11))), (3, .int (iI x3_2))]) [1, 2, 0, 3] dX2_sizeOf_29 rfl (by decide) rfl ?_
      refine jw_iinc F (lv' := [(0, .ref (ad 0)), (1, .int (iI a1)), (2, .int (iI (x2_1 + v_11))), (3, .int (iI (x3_2 + 1)))]) 3 [1, 2, 3, 0] dX2_sizeOf_30 rfl (by decide) rfl ?_
      refine jw_goto F (tgt := 4) dX2_sizeOf_33 (by decide) ?_
      exact ih_4 _ _ h
    · refine jw_icmp_ne F o_9 o_10 (tgt := 27) dX2_sizeOf_20 (by decide) (fun c => ?_) (fun c => ?_)
      · have h := h.1 (c)
        refine jw_iconst F dX2_sizeOf_27 ?_
        refine jw_sub F (lv' := [(0, .ref (ad 0)), (1, .int (iI a1)), (3, .int (iI x3_2))]) [0, 1, 3] rfl ?_
        exact j_13 _ h
      · have h := h.2 (c)
        refine jw_iconst F dX2_sizeOf_23 ?_
        refine jw_goto F (tgt := 28) dX2_sizeOf_24 (by decide) ?_
        refine jw_sub F (lv' := [(0, .ref (ad 0)), (1, .int (iI a1)), (3, .int (iI x3_2))]) [0, 1, 3] rfl ?_
        exact j_13 _ h
theorem hd_X2_tellSort : yX2_tellSort.cls = RX2 ∧ yX2_tellSort.cls ≠ "java/lang/invoke/MethodHandle" ∧ yX2_tellSort.cls ≠ "java/lang/invoke/VarHandle" ∧ (parseMethodDescriptor yX2_tellSort.desc).map (fun d => d.parameters.length) = some 2 := by decide +kernel
set_option maxHeartbeats 4000000 in
set_option maxRecDepth 100000 in
theorem wk_X2_tellSort {l : Launch} {D : va_G} {dA : Nat → ClassId} {ad : Nat → Nat} {s : Sg} {a1 a2 : Int} {Q : Int → Prop} (h : wp_X2_tellSort a1 a2 s Q) : MXi l D dA (mwf dA ad) yX2_tellSort cX2_tellSort 3 .int ({ frames := 2, cells := 0, slots := 0, locals := 43 } : Room) [.ref (ad 0), .int (iI a1), .int (iI a2)] s (fun z s' => s' = s ∧ Q z) := by
  unfold wp_X2_tellSort at h
  refine jw_start_i (own := RX2) (lv0 := [(0, .ref (ad 0)), (1, .int (iI a1)), (2, .int (iI a2))]) (by decide) rfl (Nat.le_of_ble_eq_true rfl) rfl (fun G F rt => ?_)
  refine jw_iload_n F 2 dX2_tellSort_0 rfl rfl ?_
  obtain ⟨o_1, h⟩ := h
  refine jw_if_ne F o_1 (tgt := 13) dX2_tellSort_1 (by decide) (fun c => ?_) (fun c => ?_)
  · have h := h.1 (c)
    refine jw_iload_n F 2 dX2_tellSort_13 rfl rfl ?_
    refine jw_iconst F dX2_tellSort_14 ?_
    obtain ⟨o_2, h⟩ := h
    refine jw_icmp_ne F o_2 (by decide) (tgt := 26) dX2_tellSort_15 (by decide) (fun c => ?_) (fun c => ?_)
    · have h := h.1 (c)
      refine jw_iload_n F 2 dX2_tellSort_26 rfl rfl ?_
      refine jw_iconst F dX2_tellSort_27 ?_
      obtain ⟨o_3, h⟩ := h
      refine jw_icmp_ne F o_3 (by decide) (tgt := 47) dX2_tellSort_28 (by decide) (fun c => ?_) (fun c => ?_)
      · have h := h.1 (c)
        refine jw_bipush F (z := (-102)) dX2_tellSort_47 (by decide) ?_
        exact rt _ _ _ _ dX2_tellSort_49 ⟨rfl, h⟩
      · have h := h.2 (c)
        refine jw_aload_n F 0 dX2_tellSort_31 rfl rfl ?_
        refine jw_iload_n F 1 dX2_tellSort_32 rfl rfl ?_
        refine jw_callVzp F (wk_X2_isLeft h) (lw_V q1024 q1026 qs50 q77 q1027) hd_X2_isLeft ⟨rfl, rfl, Nat.le_of_ble_eq_true rfl, Nat.le_of_ble_eq_true rfl⟩ rfl rfl (mh_0 dA ad _) rfl rfl rfl (Nat.le_of_ble_eq_true rfl) dX2_tellSort_33 (fun r_4 hb_r_4 h => ?_)
        refine jw_if_eq F (rg01 hb_r_4) (tgt := 43) dX2_tellSort_36 (by decide) (fun c => ?_) (fun c => ?_)
        · have h := h.1 (c)
          refine jw_iconst F dX2_tellSort_43 ?_
          refine jw_goto F (tgt := 49) dX2_tellSort_44 (by decide) ?_
          exact rt _ _ _ _ dX2_tellSort_49 ⟨rfl, h⟩
        · have h := h.2 (c)
          refine jw_iconst F dX2_tellSort_39 ?_
          refine jw_goto F (tgt := 49) dX2_tellSort_40 (by decide) ?_
          exact rt _ _ _ _ dX2_tellSort_49 ⟨rfl, h⟩
    · have h := h.2 (c)
      refine jw_aload_n F 0 dX2_tellSort_18 rfl rfl ?_
      refine jw_iload_n F 1 dX2_tellSort_19 rfl rfl ?_
      refine jw_callVip F (wk_X2_sizeOf h) (lw_V q1020 q1022 qs49 q77 q1023) hd_X2_sizeOf ⟨rfl, rfl, Nat.le_of_ble_eq_true rfl, Nat.le_of_ble_eq_true rfl⟩ rfl rfl (mh_0 dA ad _) rfl rfl rfl (Nat.le_of_ble_eq_true rfl) dX2_tellSort_20 (fun r_6 h => ?_)
      refine jw_goto F (tgt := 49) dX2_tellSort_23 (by decide) ?_
      exact rt _ _ _ _ dX2_tellSort_49 ⟨rfl, h⟩
  · have h := h.2 (c)
    refine jw_aload_n F 0 dX2_tellSort_4 rfl rfl ?_
    refine gx_X2_25_0 F dX2_tellSort_5 ?_
    refine jw_iload_n F 1 dX2_tellSort_8 rfl rfl ?_
    obtain ⟨o_8, o_9, h⟩ := h
    refine jw_iald F (mO dA ad) (k := 6) (by decide) (ma_6 dA ad) 0 rfl (by decide) o_8 o_9 dX2_tellSort_9 ?_
    refine jw_goto F (tgt := 49) dX2_tellSort_10 (by decide) ?_
    exact rt _ _ _ _ dX2_tellSort_49 ⟨rfl, h⟩
theorem hd_X2_sort : yX2_sort.cls = RX2 ∧ yX2_sort.cls ≠ "java/lang/invoke/MethodHandle" ∧ yX2_sort.cls ≠ "java/lang/invoke/VarHandle" ∧ (parseMethodDescriptor yX2_sort.desc).map (fun d => d.parameters.length) = some 2 := by decide +kernel
set_option maxHeartbeats 4000000 in
set_option maxRecDepth 100000 in
theorem wk_X2_sort {l : Launch} {D : va_G} {dA : Nat → ClassId} {ad : Nat → Nat} {s : Sg} {a1 a2 : Int} {Q : Int → Prop} (h : wp_X2_sort a1 a2 s Q) : MXi l D dA (mwf dA ad) yX2_sort cX2_sort 3 .int ({ frames := 3, cells := 0, slots := 0, locals := 65 } : Room) [.ref (ad 0), .int (iI a1), .int (iI a2)] s (fun z s' => s' = s ∧ Q z) := by
  unfold wp_X2_sort at h
  refine jw_start_i (own := RX2) (lv0 := [(0, .ref (ad 0)), (1, .int (iI a1)), (2, .int (iI a2))]) (by decide) rfl (Nat.le_of_ble_eq_true rfl) rfl (fun G F rt => ?_)
  refine jw_iload_n F 1 dX2_sort_0 rfl rfl ?_
  obtain ⟨o_1, h⟩ := h
  refine jw_i2l F o_1 dX2_sort_1 ?_
  refine jw_lconst F (z := 0) dX2_sort_2 (by decide) ?_
  refine jw_aload_n F 0 dX2_sort_3 rfl rfl ?_
  refine gx_X2_109_0 F dX2_sort_4 ?_
  refine jw_iconst F dX2_sort_7 ?_
  refine jw_isub F dX2_sort_8 ?_
  obtain ⟨o_2, h⟩ := h
  refine jw_i2l F o_2 dX2_sort_9 ?_
  refine jw_callSzp F (wk_X2_in h) (lw_S q965 q966 q77 q967) hd_X2_in ⟨rfl, rfl, Nat.le_of_ble_eq_true rfl, Nat.le_of_ble_eq_true rfl⟩ rfl rfl (Nat.le_of_ble_eq_true rfl) dX2_sort_10 (fun r_3 hb_r_3 h => ?_)
  refine jw_if_eq F (rg01 hb_r_3) (tgt := 25) dX2_sort_13 (by decide) (fun c => ?_) (fun c => ?_)
  · have h := h.1 (c)
    refine jw_bipush F (z := (-101)) dX2_sort_25 (by decide) ?_
    exact rt _ _ _ _ dX2_sort_27 ⟨rfl, h⟩
  · have h := h.2 (c)
    refine jw_aload_n F 0 dX2_sort_16 rfl rfl ?_
    refine jw_iload_n F 1 dX2_sort_17 rfl rfl ?_
    refine jw_iload_n F 2 dX2_sort_18 rfl rfl ?_
    refine jw_callVip F (wk_X2_tellSort h) (lw_V q1016 q1018 qs48 q77 q1019) hd_X2_tellSort ⟨rfl, rfl, Nat.le_of_ble_eq_true rfl, Nat.le_of_ble_eq_true rfl⟩ rfl rfl (mh_0 dA ad _) rfl rfl rfl (Nat.le_of_ble_eq_true rfl) dX2_sort_19 (fun r_5 h => ?_)
    refine jw_goto F (tgt := 27) dX2_sort_22 (by decide) ?_
    exact rt _ _ _ _ dX2_sort_27 ⟨rfl, h⟩
theorem hd_X2_strike : yX2_strike.cls = RX2 ∧ yX2_strike.cls ≠ "java/lang/invoke/MethodHandle" ∧ yX2_strike.cls ≠ "java/lang/invoke/VarHandle" ∧ (parseMethodDescriptor yX2_strike.desc).map (fun d => d.parameters.length) = some 1 := by decide +kernel
set_option maxHeartbeats 4000000 in
set_option maxRecDepth 100000 in
theorem wk_X2_strike {l : Launch} {D : va_G} {dA : Nat → ClassId} {ad : Nat → Nat} {s : Sg} {a1 : Int} {Q : Int → Sg → Prop} (h : wp_X2_strike a1 s Q) : MXi l D dA (mwf dA ad) yX2_strike cX2_strike 2 .int ({ frames := 2, cells := 0, slots := 0, locals := 46 } : Room) [.ref (ad 0), .int (iI a1)] s Q := by
  unfold wp_X2_strike at h
  refine jw_start_i (own := RX2) (lv0 := [(0, .ref (ad 0)), (1, .int (iI a1))]) (by decide) rfl (Nat.le_of_ble_eq_true rfl) rfl (fun G F rt => ?_)
  refine jw_aload_n F 0 dX2_strike_0 rfl rfl ?_
  refine jw_iload_n F 1 dX2_strike_1 rfl rfl ?_
  refine jw_callVzp F (wk_X2_isChord h) (lw_V q1007 q1009 qs47 q77 q1010) hd_X2_isChord ⟨rfl, rfl, Nat.le_of_ble_eq_true rfl, Nat.le_of_ble_eq_true rfl⟩ rfl rfl (mh_0 dA ad _) rfl rfl rfl (Nat.le_of_ble_eq_true rfl) dX2_strike_2 (fun r_1 hb_r_1 h => ?_)
  refine jw_if_ne F (rg01 hb_r_1) (tgt := 11) dX2_strike_5 (by decide) (fun c => ?_) (fun c => ?_)
  · have h := h.1 (c)
    refine jw_aload_n F 0 dX2_strike_11 rfl rfl ?_
    refine jw_iload_n F 1 dX2_strike_12 rfl rfl ?_
    refine jw_callVip F (wk_X2_asOf h) (lw_V q1028 q1030 qs51 q77 q1031) hd_X2_asOf ⟨rfl, rfl, Nat.le_of_ble_eq_true rfl, Nat.le_of_ble_eq_true rfl⟩ rfl rfl (mh_0 dA ad _) rfl rfl rfl (Nat.le_of_ble_eq_true rfl) dX2_strike_13 (fun r_3 h => ?_)
    refine jw_iconst F dX2_strike_16 ?_
    obtain ⟨o_5, h⟩ := h
    refine jw_icmp_eq F o_5 (by decide) (tgt := 22) dX2_strike_17 (by decide) (fun c => ?_) (fun c => ?_)
    · have h := h.1 (c)
      refine jw_aload_n F 0 dX2_strike_22 rfl rfl ?_
      refine gx_X2_127_0 F dX2_strike_23 ?_
      refine jw_bipush F (z := 20) dX2_strike_26 (by decide) ?_
      obtain ⟨o_6, h⟩ := h
      refine jw_icmp_ne F o_6 (by decide) (tgt := 34) dX2_strike_28 (by decide) (fun c => ?_) (fun c => ?_)
      · have h := h.1 (c)
        refine jw_aload_n F 0 dX2_strike_34 rfl rfl ?_
        refine gx_X2_28_0 F dX2_strike_35 ?_
        refine jw_aload_n F 0 dX2_strike_38 rfl rfl ?_
        refine gx_X2_127_0 F dX2_strike_39 ?_
        refine jw_iload_n F 1 dX2_strike_42 rfl rfl ?_
        obtain ⟨o_7, o_8, h⟩ := h
        refine jw_iast F (mO dA ad) (k := 7) (by decide) (ma_7 dA ad) 0 rfl (by decide) o_7 o_8 dX2_strike_43 ?_
        refine jw_aload_n F 0 dX2_strike_44 rfl rfl ?_
        refine jw_dup F rfl dX2_strike_45 ?_
        refine gx_X2_127_0 F dX2_strike_46 ?_
        refine jw_iconst F dX2_strike_49 ?_
        refine jw_iadd F dX2_strike_50 ?_
        refine pgx_X2_127_0 F dX2_strike_51 ?_
        refine jw_iconst F dX2_strike_54 ?_
        exact rt _ _ _ _ dX2_strike_55 h
      · have h := h.2 (c)
        refine jw_bipush F (z := (-104)) dX2_strike_31 (by decide) ?_
        exact rt _ _ _ _ dX2_strike_33 h
    · have h := h.2 (c)
      refine jw_iconst F dX2_strike_20 ?_
      exact rt _ _ _ _ dX2_strike_21 h
  · have h := h.2 (c)
    refine jw_bipush F (z := (-101)) dX2_strike_8 (by decide) ?_
    exact rt _ _ _ _ dX2_strike_10 h
theorem hd_X2_heardAs : yX2_heardAs.cls = RX2 ∧ yX2_heardAs.cls ≠ "java/lang/invoke/MethodHandle" ∧ yX2_heardAs.cls ≠ "java/lang/invoke/VarHandle" ∧ (parseMethodDescriptor yX2_heardAs.desc).map (fun d => d.parameters.length) = some 1 := by decide +kernel
set_option maxHeartbeats 4000000 in
set_option maxRecDepth 100000 in
theorem wk_X2_heardAs {l : Launch} {D : va_G} {dA : Nat → ClassId} {ad : Nat → Nat} {s : Sg} {a1 : Int} {Q : Int → Prop} (h : wp_X2_heardAs a1 s Q) : MXi l D dA (mwf dA ad) yX2_heardAs cX2_heardAs 2 .int ({ frames := 2, cells := 0, slots := 0, locals := 46 } : Room) [.ref (ad 0), .int (iI a1)] s (fun z s' => s' = s ∧ Q z) := by
  unfold wp_X2_heardAs at h
  refine jw_start_i (own := RX2) (lv0 := [(0, .ref (ad 0)), (1, .int (iI a1))]) (by decide) rfl (Nat.le_of_ble_eq_true rfl) rfl (fun G F rt => ?_)
  refine jw_aload_n F 0 dX2_heardAs_0 rfl rfl ?_
  refine jw_iload_n F 1 dX2_heardAs_1 rfl rfl ?_
  refine jw_callVzp F (wk_X2_isChord h) (lw_V q1007 q1009 qs47 q77 q1010) hd_X2_isChord ⟨rfl, rfl, Nat.le_of_ble_eq_true rfl, Nat.le_of_ble_eq_true rfl⟩ rfl rfl (mh_0 dA ad _) rfl rfl rfl (Nat.le_of_ble_eq_true rfl) dX2_heardAs_2 (fun r_1 hb_r_1 h => ?_)
  refine jw_if_eq F (rg01 hb_r_1) (tgt := 16) dX2_heardAs_5 (by decide) (fun c => ?_) (fun c => ?_)
  · have h := h.1 (c)
    refine jw_bipush F (z := (-101)) dX2_heardAs_16 (by decide) ?_
    exact rt _ _ _ _ dX2_heardAs_18 ⟨rfl, h⟩
  · have h := h.2 (c)
    refine jw_aload_n F 0 dX2_heardAs_8 rfl rfl ?_
    refine jw_iload_n F 1 dX2_heardAs_9 rfl rfl ?_
    refine jw_callVip F (wk_X2_asOf h) (lw_V q1028 q1030 qs51 q77 q1031) hd_X2_asOf ⟨rfl, rfl, Nat.le_of_ble_eq_true rfl, Nat.le_of_ble_eq_true rfl⟩ rfl rfl (mh_0 dA ad _) rfl rfl rfl (Nat.le_of_ble_eq_true rfl) dX2_heardAs_10 (fun r_3 h => ?_)
    refine jw_goto F (tgt := 18) dX2_heardAs_13 (by decide) ?_
    exact rt _ _ _ _ dX2_heardAs_18 ⟨rfl, h⟩
theorem hd_X2_forget : yX2_forget.cls = RX2 ∧ yX2_forget.cls ≠ "java/lang/invoke/MethodHandle" ∧ yX2_forget.cls ≠ "java/lang/invoke/VarHandle" ∧ (parseMethodDescriptor yX2_forget.desc).map (fun d => d.parameters.length) = some 0 := by decide +kernel
set_option maxHeartbeats 4000000 in
set_option maxRecDepth 100000 in
theorem wk_X2_forget {l : Launch} {D : va_G} {dA : Nat → ClassId} {ad : Nat → Nat} {s : Sg} {Q : Int → Sg → Prop} (h : wp_X2_forget s Q) : MXi l D dA (mwf dA ad) yX2_forget cX2_forget 2 .int ({ frames := 0, cells := 0, slots := 0, locals := 0 } : Room) [.ref (ad 0)] s Q := by
  unfold wp_X2_forget at h
  refine jw_start_i (own := RX2) (lv0 := [(0, .ref (ad 0))]) (by decide) rfl (Nat.le_of_ble_eq_true rfl) rfl (fun G F rt => ?_)
  refine jw_aload_n F 0 dX2_forget_0 rfl rfl ?_
  refine gx_X2_127_0 F dX2_forget_1 ?_
  refine jw_istore_n F (lv' := [(0, .ref (ad 0)), (1, .int (iI (s 0 13)))]) [1, 0] dX2_forget_4 rfl (by decide) rfl ?_
  refine jw_aload_n F 0 dX2_forget_5 rfl rfl ?_
  refine jw_iconst F dX2_forget_6 ?_
  refine pgx_X2_127_0 F dX2_forget_7 ?_
  refine jw_iload_n F 1 dX2_forget_10 rfl rfl ?_
  exact rt _ _ _ _ dX2_forget_11 h
theorem hd_X2_leftOf : yX2_leftOf.cls = RX2 ∧ yX2_leftOf.cls ≠ "java/lang/invoke/MethodHandle" ∧ yX2_leftOf.cls ≠ "java/lang/invoke/VarHandle" ∧ (parseMethodDescriptor yX2_leftOf.desc).map (fun d => d.parameters.length) = some 1 := by decide +kernel
set_option maxHeartbeats 4000000 in
set_option maxRecDepth 100000 in
theorem wk_X2_leftOf {l : Launch} {D : va_G} {dA : Nat → ClassId} {ad : Nat → Nat} {s : Sg} {a1 : Int} {Q : Int → Prop} (h : wp_X2_leftOf a1 s Q) : MXi l D dA (mwf dA ad) yX2_leftOf cX2_leftOf 4 .int ({ frames := 2, cells := 0, slots := 0, locals := 43 } : Room) [.ref (ad 0), .int (iI a1)] s (fun z s' => s' = s ∧ Q z) := by
  unfold wp_X2_leftOf at h
  refine jw_start_i (own := RX2) (lv0 := [(0, .ref (ad 0)), (1, .int (iI a1))]) (by decide) rfl (Nat.le_of_ble_eq_true rfl) rfl (fun G F rt => ?_)
  refine jw_iconst F dX2_leftOf_0 ?_
  refine jw_istore_n F (lv' := [(0, .ref (ad 0)), (1, .int (iI a1)), (2, .int (iI 0))]) [1, 2, 0] dX2_leftOf_1 rfl (by decide) rfl ?_
  refine jw_iconst F dX2_leftOf_2 ?_
  refine jw_istore_n F (lv' := [(0, .ref (ad 0)), (1, .int (iI a1)), (2, .int (iI 0)), (3, .int (iI 0))]) [1, 2, 3, 0] dX2_leftOf_3 rfl (by decide) rfl ?_
  refine lp2_r (fun x2_1 x3_2 => G s 4 [(0, .ref (ad 0)), (1, .int (iI a1)), (2, .int (iI x2_1)), (3, .int (iI x3_2))] []) h (fun x2_1 x3_2 K_3 h ih_4 => ?_)
  refine jw_iload_n F 3 dX2_leftOf_4 rfl rfl ?_
  refine jw_aload_n F 0 dX2_leftOf_5 rfl rfl ?_
  refine gx_X2_109_0 F dX2_leftOf_6 ?_
  obtain ⟨o_5, h⟩ := h
  obtain ⟨o_6, h⟩ := h
  refine jw_icmp_ge F o_5 o_6 (tgt := 46) dX2_leftOf_9 (by decide) (fun c => ?_) (fun c => ?_)
  · have h := h.1 (c)
    refine jw_iload_n F 2 dX2_leftOf_46 rfl rfl ?_
    exact rt _ _ _ _ dX2_leftOf_47 ⟨rfl, h⟩
  · have h := h.2 (c)
    refine jw_iload_n F 2 dX2_leftOf_12 rfl rfl ?_
    refine jw_aload_n F 0 dX2_leftOf_13 rfl rfl ?_
    refine jw_iload_n F 3 dX2_leftOf_14 rfl rfl ?_
    refine jw_callVzp F (wk_X2_isLeft h) (lw_V q1024 q1026 qs50 q77 q1027) hd_X2_isLeft ⟨rfl, rfl, Nat.le_of_ble_eq_true rfl, Nat.le_of_ble_eq_true rfl⟩ rfl rfl (mh_0 dA ad _) rfl rfl rfl (Nat.le_of_ble_eq_true rfl) dX2_leftOf_15 (fun r_7 hb_r_7 h => ?_)
    refine jn1_r (fun v_9 => G s 38 [(0, .ref (ad 0)), (1, .int (iI a1)), (3, .int (iI x3_2))] [.int (iI v_9), .int (iI x2_1)]) h (fun v_9 h => ?_) (fun K_10 h j_11 => ?_)
    · refine jw_iadd F dX2_leftOf_38 ?_
      refine jw_istore_n F (lv' := [(0, .ref (ad 0)), (1, .int (iI a1)), (2, .int (iI (x2_1 + v_9))), (3, .int (iI x3_2))]) [1, 2, 0, 3] dX2_leftOf_39 rfl (by decide) rfl ?_
      refine jw_iinc F (lv' := [(0, .ref (ad 0)), (1, .int (iI a1)), (2, .int (iI (x2_1 + v_9))), (3, .int (iI (x3_2 + 1)))]) 3 [1, 2, 3, 0] dX2_leftOf_40 rfl (by decide) rfl ?_
      refine jw_goto F (tgt := 4) dX2_leftOf_43 (by decide) ?_
      exact ih_4 _ _ h
    · refine jw_if_eq F (rg01 hb_r_7) (tgt := 37) dX2_leftOf_18 (by decide) (fun c => ?_) (fun c => ?_)
      · have h := h.1 (c)
        refine jw_iconst F dX2_leftOf_37 ?_
        refine jw_sub F (lv' := [(0, .ref (ad 0)), (1, .int (iI a1)), (3, .int (iI x3_2))]) [0, 1, 3] rfl ?_
        exact j_11 _ h
      · have h := h.2 (c)
        refine jw_iload_n F 1 dX2_leftOf_21 rfl rfl ?_
        obtain ⟨o_12, h⟩ := h
        refine jw_if_ne F o_12 (tgt := 29) dX2_leftOf_22 (by decide) (fun c => ?_) (fun c => ?_)
        · have h := h.1 (c)
          refine jw_aload_n F 0 dX2_leftOf_29 rfl rfl ?_
          refine jw_iload_n F 3 dX2_leftOf_30 rfl rfl ?_
          refine jw_callVip F (wk_X2_sizeOf h) (lw_V q1020 q1022 qs49 q77 q1023) hd_X2_sizeOf ⟨rfl, rfl, Nat.le_of_ble_eq_true rfl, Nat.le_of_ble_eq_true rfl⟩ rfl rfl (mh_0 dA ad _) rfl rfl rfl (Nat.le_of_ble_eq_true rfl) dX2_leftOf_31 (fun r_13 h => ?_)
          refine jw_goto F (tgt := 38) dX2_leftOf_34 (by decide) ?_
          refine jw_sub F (lv' := [(0, .ref (ad 0)), (1, .int (iI a1)), (3, .int (iI x3_2))]) [0, 1, 3] rfl ?_
          exact j_11 _ h
        · have h := h.2 (c)
          refine jw_iconst F dX2_leftOf_25 ?_
          refine jw_goto F (tgt := 38) dX2_leftOf_26 (by decide) ?_
          refine jw_sub F (lv' := [(0, .ref (ad 0)), (1, .int (iI a1)), (3, .int (iI x3_2))]) [0, 1, 3] rfl ?_
          exact j_11 _ h
theorem hd_X2_left : yX2_left.cls = RX2 ∧ yX2_left.cls ≠ "java/lang/invoke/MethodHandle" ∧ yX2_left.cls ≠ "java/lang/invoke/VarHandle" ∧ (parseMethodDescriptor yX2_left.desc).map (fun d => d.parameters.length) = some 1 := by decide +kernel
set_option maxHeartbeats 4000000 in
set_option maxRecDepth 100000 in
theorem wk_X2_left {l : Launch} {D : va_G} {dA : Nat → ClassId} {ad : Nat → Nat} {s : Sg} {a1 : Int} {Q : Int → Prop} (h : wp_X2_left a1 s Q) : MXi l D dA (mwf dA ad) yX2_left cX2_left 2 .int ({ frames := 3, cells := 0, slots := 0, locals := 66 } : Room) [.ref (ad 0), .int (iI a1)] s (fun z s' => s' = s ∧ Q z) := by
  unfold wp_X2_left at h
  refine jw_start_i (own := RX2) (lv0 := [(0, .ref (ad 0)), (1, .int (iI a1))]) (by decide) rfl (Nat.le_of_ble_eq_true rfl) rfl (fun G F rt => ?_)
  refine jw_iload_n F 1 dX2_left_0 rfl rfl ?_
  obtain ⟨o_1, h⟩ := h
  refine jw_i2l F o_1 dX2_left_1 ?_
  refine jw_lconst F (z := 0) dX2_left_2 (by decide) ?_
  refine jw_lconst F (z := 1) dX2_left_3 (by decide) ?_
  refine jw_callSzp F (wk_X2_in h) (lw_S q965 q966 q77 q967) hd_X2_in ⟨rfl, rfl, Nat.le_of_ble_eq_true rfl, Nat.le_of_ble_eq_true rfl⟩ rfl rfl (Nat.le_of_ble_eq_true rfl) dX2_left_4 (fun r_2 hb_r_2 h => ?_)
  refine jw_if_eq F (rg01 hb_r_2) (tgt := 18) dX2_left_7 (by decide) (fun c => ?_) (fun c => ?_)
  · have h := h.1 (c)
    refine jw_bipush F (z := (-102)) dX2_left_18 (by decide) ?_
    exact rt _ _ _ _ dX2_left_20 ⟨rfl, h⟩
  · have h := h.2 (c)
    refine jw_aload_n F 0 dX2_left_10 rfl rfl ?_
    refine jw_iload_n F 1 dX2_left_11 rfl rfl ?_
    refine jw_callVip F (wk_X2_leftOf h) (lw_V q1048 q1050 qs52 q77 q1051) hd_X2_leftOf ⟨rfl, rfl, Nat.le_of_ble_eq_true rfl, Nat.le_of_ble_eq_true rfl⟩ rfl rfl (mh_0 dA ad _) rfl rfl rfl (Nat.le_of_ble_eq_true rfl) dX2_left_12 (fun r_4 h => ?_)
    refine jw_goto F (tgt := 20) dX2_left_15 (by decide) ?_
    exact rt _ _ _ _ dX2_left_20 ⟨rfl, h⟩
theorem hd_X2_nth : yX2_nth.cls = RX2 ∧ yX2_nth.cls ≠ "java/lang/invoke/MethodHandle" ∧ yX2_nth.cls ≠ "java/lang/invoke/VarHandle" ∧ (parseMethodDescriptor yX2_nth.desc).map (fun d => d.parameters.length) = some 1 := by decide +kernel
set_option maxHeartbeats 4000000 in
set_option maxRecDepth 100000 in
theorem wk_X2_nth {l : Launch} {D : va_G} {dA : Nat → ClassId} {ad : Nat → Nat} {s : Sg} {a1 : Int} {Q : Int → Prop} (h : wp_X2_nth a1 s Q) : MXi l D dA (mwf dA ad) yX2_nth cX2_nth 4 .int ({ frames := 1, cells := 0, slots := 0, locals := 25 } : Room) [.ref (ad 0), .int (iI a1)] s (fun z s' => s' = s ∧ Q z) := by
  unfold wp_X2_nth at h
  refine jw_start_i (own := RX2) (lv0 := [(0, .ref (ad 0)), (1, .int (iI a1))]) (by decide) rfl (Nat.le_of_ble_eq_true rfl) rfl (fun G F rt => ?_)
  refine jw_iload_n F 1 dX2_nth_0 rfl rfl ?_
  obtain ⟨o_1, h⟩ := h
  refine jw_i2l F o_1 dX2_nth_1 ?_
  refine jw_lconst F (z := 0) dX2_nth_2 (by decide) ?_
  refine jw_ldc2 F (z := 83) q1056 dX2_nth_3 ?_
  refine jw_callSzp F (wk_X2_in h) (lw_S q965 q966 q77 q967) hd_X2_in ⟨rfl, rfl, Nat.le_of_ble_eq_true rfl, Nat.le_of_ble_eq_true rfl⟩ rfl rfl (Nat.le_of_ble_eq_true rfl) dX2_nth_6 (fun r_2 hb_r_2 h => ?_)
  refine jw_if_ne F (rg01 hb_r_2) (tgt := 15) dX2_nth_9 (by decide) (fun c => ?_) (fun c => ?_)
  · have h := h.1 (c)
    refine jw_iconst F dX2_nth_15 ?_
    refine jw_istore_n F (lv' := [(0, .ref (ad 0)), (1, .int (iI a1)), (2, .int (iI 0))]) [1, 2, 0] dX2_nth_16 rfl (by decide) rfl ?_
    refine jw_iconst F dX2_nth_17 ?_
    refine jw_istore_n F (lv' := [(0, .ref (ad 0)), (1, .int (iI a1)), (2, .int (iI 0)), (3, .int (iI 0))]) [1, 2, 3, 0] dX2_nth_18 rfl (by decide) rfl ?_
    refine lp2_r (fun x2_4 x3_5 => G s 19 [(0, .ref (ad 0)), (1, .int (iI a1)), (2, .int (iI x2_4)), (3, .int (iI x3_5))] []) h (fun x2_4 x3_5 K_6 h ih_7 => ?_)
    refine jw_iload_n F 3 dX2_nth_19 rfl rfl ?_
    refine jw_aload_n F 0 dX2_nth_20 rfl rfl ?_
    refine gx_X2_102_0 F dX2_nth_21 ?_
    obtain ⟨o_8, h⟩ := h
    obtain ⟨o_9, h⟩ := h
    refine jw_icmp_ge F o_8 o_9 (tgt := 52) dX2_nth_24 (by decide) (fun c => ?_) (fun c => ?_)
    · have h := h.1 (c)
      refine jw_iconst F dX2_nth_52 ?_
      exact rt _ _ _ _ dX2_nth_53 ⟨rfl, h⟩
    · have h := h.2 (c)
      refine jw_aload_n F 0 dX2_nth_27 rfl rfl ?_
      refine jw_iload_n F 3 dX2_nth_28 rfl rfl ?_
      refine jw_callVip F (wk_X2_asOf h) (lw_V q1028 q1030 qs51 q77 q1031) hd_X2_asOf ⟨rfl, rfl, Nat.le_of_ble_eq_true rfl, Nat.le_of_ble_eq_true rfl⟩ rfl rfl (mh_0 dA ad _) rfl rfl rfl (Nat.le_of_ble_eq_true rfl) dX2_nth_29 (fun r_10 h => ?_)
      refine jw_iconst F dX2_nth_32 ?_
      obtain ⟨o_12, h⟩ := h
      refine jn1_r (fun x2_13 => G s 46 [(0, .ref (ad 0)), (1, .int (iI a1)), (2, .int (iI x2_13)), (3, .int (iI x3_5))] []) h (fun x2_13 h => ?_) (fun K_14 h j_15 => ?_)
      · refine jw_iinc F (lv' := [(0, .ref (ad 0)), (1, .int (iI a1)), (2, .int (iI x2_13)), (3, .int (iI (x3_5 + 1)))]) 3 [1, 2, 3, 0] dX2_nth_46 rfl (by decide) rfl ?_
        refine jw_goto F (tgt := 19) dX2_nth_49 (by decide) ?_
        exact ih_7 _ _ h
      · refine jw_icmp_ne F o_12 (by decide) (tgt := 46) dX2_nth_33 (by decide) (fun c => ?_) (fun c => ?_)
        · have h := h.1 (c)
          exact j_15 _ h
        · have h := h.2 (c)
          refine jw_iload_n F 2 dX2_nth_36 rfl rfl ?_
          refine jw_iload_n F 1 dX2_nth_37 rfl rfl ?_
          obtain ⟨o_16, h⟩ := h
          obtain ⟨o_17, h⟩ := h
          refine jw_icmp_ne F o_16 o_17 (tgt := 43) dX2_nth_38 (by decide) (fun c => ?_) (fun c => ?_)
          · have h := h.1 (c)
            refine jw_iinc F (lv' := [(0, .ref (ad 0)), (1, .int (iI a1)), (2, .int (iI (x2_4 + 1))), (3, .int (iI x3_5))]) 2 [1, 2, 0, 3] dX2_nth_43 rfl (by decide) rfl ?_
            exact j_15 _ h
          · have h := h.2 (c)
            refine jw_iload_n F 3 dX2_nth_41 rfl rfl ?_
            exact rt _ _ _ _ dX2_nth_42 ⟨rfl, h⟩
  · have h := h.2 (c)
    refine jw_bipush F (z := (-102)) dX2_nth_12 (by decide) ?_
    exact rt _ _ _ _ dX2_nth_14 ⟨rfl, h⟩
theorem hd_X2_term : yX2_term.cls ≠ "java/lang/invoke/MethodHandle" ∧ yX2_term.cls ≠ "java/lang/invoke/VarHandle" ∧ (parseMethodDescriptor yX2_term.desc).map (fun d => d.parameters.length) = some 3 := by decide +kernel
set_option maxHeartbeats 4000000 in
set_option maxRecDepth 100000 in
theorem wk_X2_term {l : Launch} {D : va_G} {dA : Nat → ClassId} {wf : Sg → va_W} {s : Sg} {a1 a2 a3 : Int} {Q : Int → Prop} (h : wp_X2_term a1 a2 a3 Q) : MXl l D dA wf yX2_term cX2_term 11 ({ frames := 0, cells := 0, slots := 0, locals := 0 } : Room) [.long (lI a1), .long (lI a2), .int (iI a3)] s (fun z s' => s' = s ∧ Q z) := by
  unfold wp_X2_term at h
  refine jw_start_l (own := RX2) (lv0 := [(0, .long (lI a1)), (2, .long (lI a2)), (4, .int (iI a3))]) (by decide) rfl (Nat.le_of_ble_eq_true rfl) rfl (fun G F rt => ?_)
  refine jw_lload_n F 0 dX2_term_0 rfl rfl ?_
  refine jw_lstore F (lv' := [(0, .long (lI a1)), (2, .long (lI a2)), (4, .int (iI a3)), (5, .long (lI a1))]) [1, 2, 3, 0] dX2_term_1 (by decide) rfl ?_
  refine jw_lload_n F 1 dX2_term_3 rfl rfl ?_
  refine jw_lstore F (lv' := [(0, .long (lI a1)), (2, .long (lI a2)), (4, .int (iI a3)), (5, .long (lI a1)), (7, .long (lI a2))]) [1, 2, 3, 4, 0] dX2_term_4 (by decide) rfl ?_
  refine lp2_r (fun x5_1 x7_2 => G s 6 [(0, .long (lI a1)), (2, .long (lI a2)), (4, .int (iI a3)), (5, .long (lI x5_1)), (7, .long (lI x7_2))] []) h (fun x5_1 x7_2 K_3 h ih_4 => ?_)
  refine jw_lload F 3 dX2_term_6 rfl ?_
  refine jw_lconst F (z := 0) dX2_term_8 (by decide) ?_
  obtain ⟨o_5, h⟩ := h
  refine jw_lcmp F o_5 (by decide) dX2_term_9 ?_
  refine jw_if_eq F (cmpI_rg _ _) (tgt := 31) dX2_term_10 (by decide) (fun c => ?_) (fun c => ?_)
  · have h := h.1 (cmpI_0.mp c)
    refine jw_iload F 2 dX2_term_31 rfl ?_
    obtain ⟨o_6, h⟩ := h
    refine jw_if_ne F o_6 (tgt := 43) dX2_term_33 (by decide) (fun c => ?_) (fun c => ?_)
    · have h := h.1 (c)
      refine jw_lload_n F 1 dX2_term_43 rfl rfl ?_
      refine jw_lload F 4 dX2_term_44 rfl ?_
      obtain ⟨o_7, o_8, o_9, o_10, h⟩ := h
      refine jw_ldiv F o_7 o_8 o_9 o_10 dX2_term_46 ?_
      exact rt _ _ _ _ dX2_term_47 ⟨rfl, h⟩
    · have h := h.2 (c)
      refine jw_lload_n F 0 dX2_term_36 rfl rfl ?_
      refine jw_lload F 4 dX2_term_37 rfl ?_
      obtain ⟨o_11, o_12, o_13, o_14, h⟩ := h
      refine jw_ldiv F o_11 o_12 o_13 o_14 dX2_term_39 ?_
      refine jw_goto F (tgt := 47) dX2_term_40 (by decide) ?_
      exact rt _ _ _ _ dX2_term_47 ⟨rfl, h⟩
  · have h := h.2 (fun z => c (cmpI_0.mpr z))
    refine jw_lload F 4 dX2_term_13 rfl ?_
    refine jw_lload F 3 dX2_term_15 rfl ?_
    obtain ⟨o_15, o_16, o_17, o_18, h⟩ := h
    refine jw_lrem F o_15 o_16 o_17 o_18 dX2_term_17 ?_
    refine jw_lstore F (lv' := [(0, .long (lI a1)), (2, .long (lI a2)), (4, .int (iI a3)), (5, .long (lI x5_1)), (7, .long (lI x7_2)), (9, .long (lI (x7_2 % x5_1)))]) [1, 2, 3, 4, 5, 0] dX2_term_18 (by decide) rfl ?_
    refine jw_lload F 3 dX2_term_20 rfl ?_
    refine jw_lstore F (lv' := [(0, .long (lI a1)), (2, .long (lI a2)), (4, .int (iI a3)), (5, .long (lI x5_1)), (7, .long (lI x5_1)), (9, .long (lI (x7_2 % x5_1)))]) [1, 2, 3, 4, 0, 5] dX2_term_22 (by decide) rfl ?_
    refine jw_lload F 5 dX2_term_24 rfl ?_
    refine jw_lstore F (lv' := [(0, .long (lI a1)), (2, .long (lI a2)), (4, .int (iI a3)), (5, .long (lI (x7_2 % x5_1))), (7, .long (lI x5_1)), (9, .long (lI (x7_2 % x5_1)))]) [1, 2, 3, 0, 4, 5] dX2_term_26 (by decide) rfl ?_
    refine jw_goto F (tgt := 6) dX2_term_28 (by decide) ?_
    refine jw_sub F (lv' := [(0, .long (lI a1)), (2, .long (lI a2)), (4, .int (iI a3)), (5, .long (lI (x7_2 % x5_1))), (7, .long (lI x5_1))]) [0, 1, 2, 3, 4] rfl ?_
    exact ih_4 _ _ h
theorem hd_X2_choose : yX2_choose.cls ≠ "java/lang/invoke/MethodHandle" ∧ yX2_choose.cls ≠ "java/lang/invoke/VarHandle" ∧ (parseMethodDescriptor yX2_choose.desc).map (fun d => d.parameters.length) = some 2 := by decide +kernel
set_option maxHeartbeats 4000000 in
set_option maxRecDepth 100000 in
theorem wk_X2_choose {l : Launch} {D : va_G} {dA : Nat → ClassId} {wf : Sg → va_W} {s : Sg} {a1 a2 : Int} {Q : Int → Prop} (h : wp_X2_choose a1 a2 Q) : MXl l D dA wf yX2_choose cX2_choose 5 ({ frames := 0, cells := 0, slots := 0, locals := 0 } : Room) [.int (iI a1), .int (iI a2)] s (fun z s' => s' = s ∧ Q z) := by
  unfold wp_X2_choose at h
  refine jw_start_l (own := RX2) (lv0 := [(0, .int (iI a1)), (1, .int (iI a2))]) (by decide) rfl (Nat.le_of_ble_eq_true rfl) rfl (fun G F rt => ?_)
  refine jw_lconst F (z := 1) dX2_choose_0 (by decide) ?_
  refine jw_lstore_n F (lv' := [(0, .int (iI a1)), (1, .int (iI a2)), (2, .long (lI 1))]) [1, 2, 0] dX2_choose_1 rfl (by decide) rfl ?_
  refine jw_iconst F dX2_choose_2 ?_
  refine jw_istore F (lv' := [(0, .int (iI a1)), (1, .int (iI a2)), (2, .long (lI 1)), (4, .int (iI 0))]) [1, 2, 3, 0] dX2_choose_3 (by decide) rfl ?_
  refine lp2_r (fun x2_1 x4_2 => G s 5 [(0, .int (iI a1)), (1, .int (iI a2)), (2, .long (lI x2_1)), (4, .int (iI x4_2))] []) h (fun x2_1 x4_2 K_3 h ih_4 => ?_)
  refine jw_iload F 3 dX2_choose_5 rfl ?_
  refine jw_iload_n F 1 dX2_choose_7 rfl rfl ?_
  obtain ⟨o_5, h⟩ := h
  obtain ⟨o_6, h⟩ := h
  refine jw_icmp_ge F o_5 o_6 (tgt := 31) dX2_choose_8 (by decide) (fun c => ?_) (fun c => ?_)
  · have h := h.1 (c)
    refine jw_lload_n F 2 dX2_choose_31 rfl rfl ?_
    exact rt _ _ _ _ dX2_choose_32 ⟨rfl, h⟩
  · have h := h.2 (c)
    refine jw_lload_n F 2 dX2_choose_11 rfl rfl ?_
    refine jw_iload_n F 0 dX2_choose_12 rfl rfl ?_
    refine jw_iload F 3 dX2_choose_13 rfl ?_
    refine jw_isub F dX2_choose_15 ?_
    obtain ⟨o_7, h⟩ := h
    refine jw_i2l F o_7 dX2_choose_16 ?_
    refine jw_lmul F dX2_choose_17 ?_
    refine jw_iload F 3 dX2_choose_18 rfl ?_
    refine jw_iconst F dX2_choose_20 ?_
    refine jw_iadd F dX2_choose_21 ?_
    obtain ⟨o_8, h⟩ := h
    refine jw_i2l F o_8 dX2_choose_22 ?_
    obtain ⟨o_9, o_10, o_11, o_12, h⟩ := h
    refine jw_ldiv F o_9 o_10 o_11 o_12 dX2_choose_23 ?_
    refine jw_lstore_n F (lv' := [(0, .int (iI a1)), (1, .int (iI a2)), (2, .long (lI ((x2_1 * (a1 - x4_2)) / (x4_2 + 1)))), (4, .int (iI x4_2))]) [1, 2, 0, 3] dX2_choose_24 rfl (by decide) rfl ?_
    refine jw_iinc F (lv' := [(0, .int (iI a1)), (1, .int (iI a2)), (2, .long (lI ((x2_1 * (a1 - x4_2)) / (x4_2 + 1)))), (4, .int (iI (x4_2 + 1)))]) 3 [1, 2, 3, 0] dX2_choose_25 rfl (by decide) rfl ?_
    refine jw_goto F (tgt := 5) dX2_choose_28 (by decide) ?_
    exact ih_4 _ _ h
theorem hd_X2_addSort : yX2_addSort.cls = RX2 ∧ yX2_addSort.cls ≠ "java/lang/invoke/MethodHandle" ∧ yX2_addSort.cls ≠ "java/lang/invoke/VarHandle" ∧ (parseMethodDescriptor yX2_addSort.desc).map (fun d => d.parameters.length) = some 2 := by decide +kernel
set_option maxHeartbeats 4000000 in
set_option maxRecDepth 100000 in
theorem wk_X2_addSort {l : Launch} {D : va_G} {dA : Nat → ClassId} {ad : Nat → Nat} {s : Sg} {a1 a2 : Int} {Q : Sg → Prop} (h : wp_X2_addSort a1 a2 s Q) : MXv l D dA (mwf dA ad) yX2_addSort cX2_addSort 8 ({ frames := 1, cells := 0, slots := 0, locals := 24 } : Room) [.ref (ad 0), .int (iI a1), .int (iI a2)] s Q := by
  unfold wp_X2_addSort at h
  refine jw_start_v (own := RX2) (lv0 := [(0, .ref (ad 0)), (1, .int (iI a1)), (2, .int (iI a2))]) (by decide) rfl (Nat.le_of_ble_eq_true rfl) rfl (fun G F rt => ?_)
  refine jw_iconst F dX2_addSort_0 ?_
  refine jw_istore_n F (lv' := [(0, .ref (ad 0)), (1, .int (iI a1)), (2, .int (iI a2)), (3, .int (iI 0))]) [1, 2, 3, 0] dX2_addSort_1 rfl (by decide) rfl ?_
  refine lp2_r (fun x3_1 s_2 => G s_2 2 [(0, .ref (ad 0)), (1, .int (iI a1)), (2, .int (iI a2)), (3, .int (iI x3_1))] []) h (fun x3_1 s_2 K_3 h ih_4 => ?_)
  refine jw_iload_n F 3 dX2_addSort_2 rfl rfl ?_
  refine jw_bipush F (z := 25) dX2_addSort_3 (by decide) ?_
  obtain ⟨o_5, h⟩ := h
  refine jw_icmp_ge F o_5 (by decide) (tgt := 26) dX2_addSort_5 (by decide) (fun c => ?_) (fun c => ?_)
  · have h := h.1 (c)
    refine jw_iconst F dX2_addSort_26 ?_
    refine jw_istore_n F (lv' := [(0, .ref (ad 0)), (1, .int (iI a1)), (2, .int (iI a2)), (3, .int (iI 0))]) [1, 2, 3, 0] dX2_addSort_27 rfl (by decide) rfl ?_
    refine lp2_r (fun x3_6 s_7 => G s_7 28 [(0, .ref (ad 0)), (1, .int (iI a1)), (2, .int (iI a2)), (3, .int (iI x3_6))] []) h (fun x3_6 s_7 K_8 h ih_9 => ?_)
    refine jw_iload_n F 3 dX2_addSort_28 rfl rfl ?_
    refine jw_iload_n F 1 dX2_addSort_29 rfl rfl ?_
    obtain ⟨o_10, h⟩ := h
    obtain ⟨o_11, h⟩ := h
    refine jw_icmp_ge F o_10 o_11 (tgt := 123) dX2_addSort_30 (by decide) (fun c => ?_) (fun c => ?_)
    · have h := h.1 (c)
      refine jw_iconst F dX2_addSort_123 ?_
      refine jw_istore_n F (lv' := [(0, .ref (ad 0)), (1, .int (iI a1)), (2, .int (iI a2)), (3, .int (iI 0))]) [1, 2, 3, 0] dX2_addSort_124 rfl (by decide) rfl ?_
      refine jw_sub F (lv' := [(0, .ref (ad 0)), (3, .int (iI 0))]) [0, 3] rfl ?_
      refine lp2_r (fun x3_12 s_13 => G s_13 125 [(0, .ref (ad 0)), (3, .int (iI x3_12))] []) h (fun x3_12 s_13 K_14 h ih_15 => ?_)
      refine jw_iload_n F 1 dX2_addSort_125 rfl rfl ?_
      refine jw_bipush F (z := 25) dX2_addSort_126 (by decide) ?_
      obtain ⟨o_16, h⟩ := h
      refine jw_icmp_ge F o_16 (by decide) (tgt := 149) dX2_addSort_128 (by decide) (fun c => ?_) (fun c => ?_)
      · have h := h.1 (c)
        exact rt _ _ _ dX2_addSort_149 h
      · have h := h.2 (c)
        refine jw_aload_n F 0 dX2_addSort_131 rfl rfl ?_
        refine gx_X2_34_0 F dX2_addSort_132 ?_
        refine jw_iload_n F 1 dX2_addSort_135 rfl rfl ?_
        refine jw_aload_n F 0 dX2_addSort_136 rfl rfl ?_
        refine gx_X2_38_0 F dX2_addSort_137 ?_
        refine jw_iload_n F 1 dX2_addSort_140 rfl rfl ?_
        obtain ⟨o_17, o_18, h⟩ := h
        refine jw_lald F (mO dA ad) (k := 10) (by decide) (ma_10 dA ad) 6 rfl (by decide) o_17 o_18 dX2_addSort_141 ?_
        obtain ⟨o_19, o_20, h⟩ := h
        refine jw_last F (mO dA ad) (k := 9) (by decide) (ma_9 dA ad) 6 rfl (by decide) o_19 o_20 dX2_addSort_142 ?_
        refine jw_iinc F (lv' := [(0, .ref (ad 0)), (3, .int (iI (x3_12 + 1)))]) 1 [1, 0] dX2_addSort_143 rfl (by decide) rfl ?_
        refine jw_goto F (tgt := 125) dX2_addSort_146 (by decide) ?_
        exact ih_15 _ _ h
    · have h := h.2 (c)
      refine jw_lconst F (z := 1) dX2_addSort_33 (by decide) ?_
      refine jw_lstore F (lv' := [(0, .ref (ad 0)), (1, .int (iI a1)), (2, .int (iI a2)), (3, .int (iI x3_6)), (4, .long (lI 1))]) [1, 2, 3, 4, 0] dX2_addSort_34 (by decide) rfl ?_
      refine jw_iconst F dX2_addSort_36 ?_
      refine jw_istore F (lv' := [(0, .ref (ad 0)), (1, .int (iI a1)), (2, .int (iI a2)), (3, .int (iI x3_6)), (4, .long (lI 1)), (6, .int (iI 1))]) [1, 2, 3, 4, 5, 0] dX2_addSort_37 (by decide) rfl ?_
      refine lp3_r (fun x4_21 x6_22 s_23 => G s_23 39 [(0, .ref (ad 0)), (1, .int (iI a1)), (2, .int (iI a2)), (3, .int (iI x3_6)), (4, .long (lI x4_21)), (6, .int (iI x6_22))] []) h (fun x4_21 x6_22 s_23 K_24 h ih_25 => ?_)
      refine jw_iload_n F 3 dX2_addSort_39 rfl rfl ?_
      refine jw_iload F 5 dX2_addSort_40 rfl ?_
      refine jw_iadd F dX2_addSort_42 ?_
      refine jw_iload_n F 1 dX2_addSort_43 rfl rfl ?_
      obtain ⟨o_26, h⟩ := h
      obtain ⟨o_27, h⟩ := h
      refine jw_icmp_gt F o_26 o_27 (tgt := 117) dX2_addSort_44 (by decide) (fun c => ?_) (fun c => ?_)
      · have h := h.1 (c)
        refine jw_iinc F (lv' := [(0, .ref (ad 0)), (1, .int (iI a1)), (2, .int (iI a2)), (3, .int (iI (x3_6 + 1))), (4, .long (lI x4_21)), (6, .int (iI x6_22))]) 3 [1, 2, 3, 0, 4, 5] dX2_addSort_117 rfl (by decide) rfl ?_
        refine jw_goto F (tgt := 28) dX2_addSort_120 (by decide) ?_
        refine jw_sub F (lv' := [(0, .ref (ad 0)), (1, .int (iI a1)), (2, .int (iI a2)), (3, .int (iI (x3_6 + 1)))]) [0, 1, 2, 3] rfl ?_
        exact ih_9 _ _ h
      · have h := h.2 (c)
        refine jw_lload F 4 dX2_addSort_47 rfl ?_
        refine jw_iload_n F 2 dX2_addSort_49 rfl rfl ?_
        obtain ⟨o_28, h⟩ := h
        refine jw_i2l F o_28 dX2_addSort_50 ?_
        refine jw_lmul F dX2_addSort_51 ?_
        refine jw_lstore F (lv' := [(0, .ref (ad 0)), (1, .int (iI a1)), (2, .int (iI a2)), (3, .int (iI x3_6)), (4, .long (lI (x4_21 * a2))), (6, .int (iI x6_22))]) [1, 2, 3, 4, 0, 5] dX2_addSort_52 (by decide) rfl ?_
        refine jw_iconst F dX2_addSort_54 ?_
        refine jw_istore F (lv' := [(0, .ref (ad 0)), (1, .int (iI a1)), (2, .int (iI a2)), (3, .int (iI x3_6)), (4, .long (lI (x4_21 * a2))), (6, .int (iI x6_22)), (7, .int (iI 0))]) [1, 2, 3, 4, 5, 6, 0] dX2_addSort_55 (by decide) rfl ?_
        refine lp2_r (fun x7_29 s_30 => G s_30 57 [(0, .ref (ad 0)), (1, .int (iI a1)), (2, .int (iI a2)), (3, .int (iI x3_6)), (4, .long (lI (x4_21 * a2))), (6, .int (iI x6_22)), (7, .int (iI x7_29))] []) h (fun x7_29 s_30 K_31 h ih_32 => ?_)
        refine jw_iload F 6 dX2_addSort_57 rfl ?_
        refine jw_iload_n F 1 dX2_addSort_59 rfl rfl ?_
        obtain ⟨o_33, h⟩ := h
        obtain ⟨o_34, h⟩ := h
        refine jw_icmp_ge F o_33 o_34 (tgt := 111) dX2_addSort_60 (by decide) (fun c => ?_) (fun c => ?_)
        · have h := h.1 (c)
          refine jw_iinc F (lv' := [(0, .ref (ad 0)), (1, .int (iI a1)), (2, .int (iI a2)), (3, .int (iI x3_6)), (4, .long (lI (x4_21 * a2))), (6, .int (iI (x6_22 + 1))), (7, .int (iI x7_29))]) 5 [1, 2, 3, 4, 5, 0, 6] dX2_addSort_111 rfl (by decide) rfl ?_
          refine jw_goto F (tgt := 39) dX2_addSort_114 (by decide) ?_
          refine jw_sub F (lv' := [(0, .ref (ad 0)), (1, .int (iI a1)), (2, .int (iI a2)), (3, .int (iI x3_6)), (4, .long (lI (x4_21 * a2))), (6, .int (iI (x6_22 + 1)))]) [0, 1, 2, 3, 4, 5] rfl ?_
          exact ih_25 _ _ _ h
        · have h := h.2 (c)
          refine jw_aload_n F 0 dX2_addSort_63 rfl rfl ?_
          refine gx_X2_38_0 F dX2_addSort_64 ?_
          refine jw_iconst F dX2_addSort_67 ?_
          refine jw_iload_n F 3 dX2_addSort_68 rfl rfl ?_
          refine jw_iload F 5 dX2_addSort_69 rfl ?_
          refine jw_iadd F dX2_addSort_71 ?_
          refine jw_imul F dX2_addSort_72 ?_
          refine jw_iload F 6 dX2_addSort_73 rfl ?_
          refine jw_iadd F dX2_addSort_75 ?_
          refine jw_iconst F dX2_addSort_76 ?_
          refine jw_iadd F dX2_addSort_77 ?_
          refine jw_dup2 F rfl rfl dX2_addSort_78 ?_
          obtain ⟨o_35, o_36, h⟩ := h
          refine jw_lald F (mO dA ad) (k := 10) (by decide) (ma_10 dA ad) 6 rfl (by decide) o_35 o_36 dX2_addSort_79 ?_
          refine jw_aload_n F 0 dX2_addSort_80 rfl rfl ?_
          refine gx_X2_34_0 F dX2_addSort_81 ?_
          refine jw_iconst F dX2_addSort_84 ?_
          refine jw_iload_n F 3 dX2_addSort_85 rfl rfl ?_
          refine jw_imul F dX2_addSort_86 ?_
          refine jw_iload F 6 dX2_addSort_87 rfl ?_
          refine jw_iadd F dX2_addSort_89 ?_
          obtain ⟨o_37, o_38, h⟩ := h
          refine jw_lald F (mO dA ad) (k := 9) (by decide) (ma_9 dA ad) 6 rfl (by decide) o_37 o_38 dX2_addSort_90 ?_
          refine jw_iload_n F 1 dX2_addSort_91 rfl rfl ?_
          refine jw_iload_n F 3 dX2_addSort_92 rfl rfl ?_
          refine jw_isub F dX2_addSort_93 ?_
          refine jw_iload F 5 dX2_addSort_94 rfl ?_
          refine jw_callSlp F (wk_X2_choose h) (lw_S q1067 q1068 q77 q1069) hd_X2_choose ⟨rfl, rfl, Nat.le_of_ble_eq_true rfl, Nat.le_of_ble_eq_true rfl⟩ rfl rfl (Nat.le_of_ble_eq_true rfl) dX2_addSort_96 (fun r_39 h => ?_)
          refine jw_lmul F dX2_addSort_99 ?_
          refine jw_lload F 4 dX2_addSort_100 rfl ?_
          refine jw_lmul F dX2_addSort_102 ?_
          refine jw_ladd F dX2_addSort_103 ?_
          obtain ⟨o_41, o_42, h⟩ := h
          refine jw_last F (mO dA ad) (k := 10) (by decide) (ma_10 dA ad) 6 rfl (by decide) o_41 o_42 dX2_addSort_104 ?_
          refine jw_iinc F (lv' := [(0, .ref (ad 0)), (1, .int (iI a1)), (2, .int (iI a2)), (3, .int (iI x3_6)), (4, .long (lI (x4_21 * a2))), (6, .int (iI x6_22)), (7, .int (iI (x7_29 + 1)))]) 6 [1, 2, 3, 4, 5, 6, 0] dX2_addSort_105 rfl (by decide) rfl ?_
          refine jw_goto F (tgt := 57) dX2_addSort_108 (by decide) ?_
          exact ih_32 _ _ h
  · have h := h.2 (c)
    refine jw_aload_n F 0 dX2_addSort_8 rfl rfl ?_
    refine gx_X2_38_0 F dX2_addSort_9 ?_
    refine jw_iload_n F 3 dX2_addSort_12 rfl rfl ?_
    refine jw_aload_n F 0 dX2_addSort_13 rfl rfl ?_
    refine gx_X2_34_0 F dX2_addSort_14 ?_
    refine jw_iload_n F 3 dX2_addSort_17 rfl rfl ?_
    obtain ⟨o_43, o_44, h⟩ := h
    refine jw_lald F (mO dA ad) (k := 9) (by decide) (ma_9 dA ad) 6 rfl (by decide) o_43 o_44 dX2_addSort_18 ?_
    obtain ⟨o_45, o_46, h⟩ := h
    refine jw_last F (mO dA ad) (k := 10) (by decide) (ma_10 dA ad) 6 rfl (by decide) o_45 o_46 dX2_addSort_19 ?_
    refine jw_iinc F (lv' := [(0, .ref (ad 0)), (1, .int (iI a1)), (2, .int (iI a2)), (3, .int (iI (x3_1 + 1)))]) 3 [1, 2, 3, 0] dX2_addSort_20 rfl (by decide) rfl ?_
    refine jw_goto F (tgt := 2) dX2_addSort_23 (by decide) ?_
    exact ih_4 _ _ h
theorem hd_X2_strangers : yX2_strangers.cls = RX2 ∧ yX2_strangers.cls ≠ "java/lang/invoke/MethodHandle" ∧ yX2_strangers.cls ≠ "java/lang/invoke/VarHandle" ∧ (parseMethodDescriptor yX2_strangers.desc).map (fun d => d.parameters.length) = some 3 := by decide +kernel
set_option maxHeartbeats 4000000 in
set_option maxRecDepth 100000 in
theorem wk_X2_strangers {l : Launch} {D : va_G} {dA : Nat → ClassId} {ad : Nat → Nat} {s : Sg} {a1 a2 a3 : Int} {Q : Int → Sg → Prop} (h : wp_X2_strangers a1 a2 a3 s Q) : MXl l D dA (mwf dA ad) yX2_strangers cX2_strangers 13 ({ frames := 3, cells := 0, slots := 0, locals := 66 } : Room) [.ref (ad 0), .int (iI a1), .int (iI a2), .int (iI a3)] s Q := by
  unfold wp_X2_strangers at h
  refine jw_start_l (own := RX2) (lv0 := [(0, .ref (ad 0)), (1, .int (iI a1)), (2, .int (iI a2)), (3, .int (iI a3))]) (by decide) rfl (Nat.le_of_ble_eq_true rfl) rfl (fun G F rt => ?_)
  refine jw_iload_n F 1 dX2_strangers_0 rfl rfl ?_
  obtain ⟨o_1, h⟩ := h
  refine jw_i2l F o_1 dX2_strangers_1 ?_
  refine jw_lconst F (z := 1) dX2_strangers_2 (by decide) ?_
  refine jw_ldc2 F (z := 4) q1061 dX2_strangers_3 ?_
  refine jw_callSzp F (wk_X2_in h) (lw_S q965 q966 q77 q967) hd_X2_in ⟨rfl, rfl, Nat.le_of_ble_eq_true rfl, Nat.le_of_ble_eq_true rfl⟩ rfl rfl (Nat.le_of_ble_eq_true rfl) dX2_strangers_6 (fun r_2 hb_r_2 h => ?_)
  refine jw_if_eq F (rg01 hb_r_2) (tgt := 33) dX2_strangers_9 (by decide) (fun c => ?_) (fun c => ?_)
  · have h := h.1 (c)
    refine jw_ldc2 F (z := (-102)) (ldneg_102 q1062) dX2_strangers_33 ?_
    exact rt _ _ _ _ dX2_strangers_36 h
  · have h := h.2 (c)
    refine jw_iload_n F 2 dX2_strangers_12 rfl rfl ?_
    obtain ⟨o_4, h⟩ := h
    refine jw_i2l F o_4 dX2_strangers_13 ?_
    refine jw_lconst F (z := 0) dX2_strangers_14 (by decide) ?_
    refine jw_iload_n F 1 dX2_strangers_15 rfl rfl ?_
    obtain ⟨o_5, h⟩ := h
    refine jw_i2l F o_5 dX2_strangers_16 ?_
    refine jw_callSzp F (wk_X2_in h) (lw_S q965 q966 q77 q967) hd_X2_in ⟨rfl, rfl, Nat.le_of_ble_eq_true rfl, Nat.le_of_ble_eq_true rfl⟩ rfl rfl (Nat.le_of_ble_eq_true rfl) dX2_strangers_17 (fun r_6 hb_r_6 h => ?_)
    refine jw_if_eq F (rg01 hb_r_6) (tgt := 33) dX2_strangers_20 (by decide) (fun c => ?_) (fun c => ?_)
    · have h := h.1 (c)
      refine jw_ldc2 F (z := (-102)) (ldneg_102 q1062) dX2_strangers_33 ?_
      exact rt _ _ _ _ dX2_strangers_36 h
    · have h := h.2 (c)
      refine jw_iload_n F 3 dX2_strangers_23 rfl rfl ?_
      obtain ⟨o_8, h⟩ := h
      refine jw_i2l F o_8 dX2_strangers_24 ?_
      refine jw_lconst F (z := 0) dX2_strangers_25 (by decide) ?_
      refine jw_lconst F (z := 1) dX2_strangers_26 (by decide) ?_
      refine jw_callSzp F (wk_X2_in h) (lw_S q965 q966 q77 q967) hd_X2_in ⟨rfl, rfl, Nat.le_of_ble_eq_true rfl, Nat.le_of_ble_eq_true rfl⟩ rfl rfl (Nat.le_of_ble_eq_true rfl) dX2_strangers_27 (fun r_9 hb_r_9 h => ?_)
      refine jw_if_ne F (rg01 hb_r_9) (tgt := 37) dX2_strangers_30 (by decide) (fun c => ?_) (fun c => ?_)
      · have h := h.1 (c)
        refine jw_iconst F dX2_strangers_37 ?_
        refine jw_istore F (lv' := [(0, .ref (ad 0)), (1, .int (iI a1)), (2, .int (iI a2)), (3, .int (iI a3)), (4, .int (iI 0))]) [1, 2, 3, 4, 0] dX2_strangers_38 (by decide) rfl ?_
        refine lp2_r (fun x4_11 s_12 => G s_12 40 [(0, .ref (ad 0)), (1, .int (iI a1)), (2, .int (iI a2)), (3, .int (iI a3)), (4, .int (iI x4_11))] []) h (fun x4_11 s_12 K_13 h ih_14 => ?_)
        refine jw_iload F 4 dX2_strangers_40 rfl ?_
        refine jw_bipush F (z := 25) dX2_strangers_42 (by decide) ?_
        obtain ⟨o_15, h⟩ := h
        refine jw_icmp_ge F o_15 (by decide) (tgt := 70) dX2_strangers_44 (by decide) (fun c => ?_) (fun c => ?_)
        · have h := h.1 (c)
          refine jw_iconst F dX2_strangers_70 ?_
          refine jw_istore F (lv' := [(0, .ref (ad 0)), (1, .int (iI a1)), (2, .int (iI a2)), (3, .int (iI a3)), (4, .int (iI 0))]) [1, 2, 3, 4, 0] dX2_strangers_71 (by decide) rfl ?_
          refine lp2_r (fun x4_16 s_17 => G s_17 73 [(0, .ref (ad 0)), (1, .int (iI a1)), (2, .int (iI a2)), (3, .int (iI a3)), (4, .int (iI x4_16))] []) h (fun x4_16 s_17 K_18 h ih_19 => ?_)
          refine jw_iload F 4 dX2_strangers_73 rfl ?_
          refine jw_aload_n F 0 dX2_strangers_75 rfl rfl ?_
          refine gx_X2_109_0 F dX2_strangers_76 ?_
          obtain ⟨o_20, h⟩ := h
          obtain ⟨o_21, h⟩ := h
          refine jw_icmp_ge F o_20 o_21 (tgt := 108) dX2_strangers_79 (by decide) (fun c => ?_) (fun c => ?_)
          · have h := h.1 (c)
            refine jw_aload_n F 0 dX2_strangers_108 rfl rfl ?_
            refine gx_X2_102_0 F dX2_strangers_109 ?_
            refine jw_aload_n F 0 dX2_strangers_112 rfl rfl ?_
            refine jw_iconst F dX2_strangers_113 ?_
            refine jw_callVip F (wk_X2_leftOf h) (lw_V q1048 q1050 qs52 q77 q1051) hd_X2_leftOf ⟨rfl, rfl, Nat.le_of_ble_eq_true rfl, Nat.le_of_ble_eq_true rfl⟩ rfl rfl (mh_0 dA ad _) rfl rfl rfl (Nat.le_of_ble_eq_true rfl) dX2_strangers_114 (fun r_22 h => ?_)
            refine jw_isub F dX2_strangers_117 ?_
            refine jw_istore F (lv' := [(0, .ref (ad 0)), (1, .int (iI a1)), (2, .int (iI a2)), (3, .int (iI a3)), (4, .int (iI ((s_17 0 8) - r_22)))]) [1, 2, 3, 4, 0] dX2_strangers_118 (by decide) rfl ?_
            refine jw_lconst F (z := 1) dX2_strangers_120 (by decide) ?_
            refine jw_lstore F (lv' := [(0, .ref (ad 0)), (1, .int (iI a1)), (2, .int (iI a2)), (3, .int (iI a3)), (4, .int (iI ((s_17 0 8) - r_22))), (5, .long (lI 1))]) [1, 2, 3, 4, 5, 0] dX2_strangers_121 (by decide) rfl ?_
            refine jw_iconst F dX2_strangers_123 ?_
            refine jw_istore F (lv' := [(0, .ref (ad 0)), (1, .int (iI a1)), (2, .int (iI a2)), (3, .int (iI a3)), (4, .int (iI ((s_17 0 8) - r_22))), (5, .long (lI 1)), (7, .int (iI 0))]) [1, 2, 3, 4, 5, 6, 0] dX2_strangers_124 (by decide) rfl ?_
            refine lp2_r (fun x5_24 x7_25 => G s_17 126 [(0, .ref (ad 0)), (1, .int (iI a1)), (2, .int (iI a2)), (3, .int (iI a3)), (4, .int (iI ((s_17 0 8) - r_22))), (5, .long (lI x5_24)), (7, .int (iI x7_25))] []) h (fun x5_24 x7_25 K_26 h ih_27 => ?_)
            refine jw_iload F 6 dX2_strangers_126 rfl ?_
            refine jw_iload_n F 1 dX2_strangers_128 rfl rfl ?_
            obtain ⟨o_28, h⟩ := h
            obtain ⟨o_29, h⟩ := h
            refine jw_icmp_ge F o_28 o_29 (tgt := 148) dX2_strangers_129 (by decide) (fun c => ?_) (fun c => ?_)
            · have h := h.1 (c)
              refine jw_lconst F (z := 0) dX2_strangers_148 (by decide) ?_
              refine jw_lstore F (lv' := [(0, .ref (ad 0)), (1, .int (iI a1)), (2, .int (iI a2)), (3, .int (iI a3)), (4, .int (iI ((s_17 0 8) - r_22))), (5, .long (lI x5_24)), (7, .long (lI 0))]) [1, 2, 3, 4, 5, 6, 0] dX2_strangers_149 (by decide) rfl ?_
              refine jw_iconst F dX2_strangers_151 ?_
              refine jw_istore F (lv' := [(0, .ref (ad 0)), (1, .int (iI a1)), (2, .int (iI a2)), (3, .int (iI a3)), (4, .int (iI ((s_17 0 8) - r_22))), (5, .long (lI x5_24)), (7, .long (lI 0)), (9, .int (iI 0))]) [1, 2, 3, 4, 5, 6, 7, 0] dX2_strangers_152 (by decide) rfl ?_
              refine lp2_r (fun x7_30 x9_31 => G s_17 154 [(0, .ref (ad 0)), (1, .int (iI a1)), (2, .int (iI a2)), (3, .int (iI a3)), (4, .int (iI ((s_17 0 8) - r_22))), (5, .long (lI x5_24)), (7, .long (lI x7_30)), (9, .int (iI x9_31))] []) h (fun x7_30 x9_31 K_32 h ih_33 => ?_)
              refine jw_iload F 7 dX2_strangers_154 rfl ?_
              refine jw_iload_n F 1 dX2_strangers_156 rfl rfl ?_
              obtain ⟨o_34, h⟩ := h
              obtain ⟨o_35, h⟩ := h
              refine jw_icmp_gt F o_34 o_35 (tgt := 210) dX2_strangers_157 (by decide) (fun c => ?_) (fun c => ?_)
              · have h := h.1 (c)
                refine jw_lload F 6 dX2_strangers_210 rfl ?_
                refine jw_lload F 5 dX2_strangers_212 rfl ?_
                refine jw_iload_n F 3 dX2_strangers_214 rfl rfl ?_
                refine jw_callSlp F (wk_X2_term h) (lw_S q1070 q1071 q77 q1072) hd_X2_term ⟨rfl, rfl, Nat.le_of_ble_eq_true rfl, Nat.le_of_ble_eq_true rfl⟩ rfl rfl (Nat.le_of_ble_eq_true rfl) dX2_strangers_215 (fun r_36 h => ?_)
                exact rt _ _ _ _ dX2_strangers_218 h
              · have h := h.2 (c)
                refine jw_aload_n F 0 dX2_strangers_160 rfl rfl ?_
                refine gx_X2_34_0 F dX2_strangers_161 ?_
                refine jw_iconst F dX2_strangers_164 ?_
                refine jw_iload F 7 dX2_strangers_165 rfl ?_
                refine jw_imul F dX2_strangers_167 ?_
                refine jw_iload_n F 2 dX2_strangers_168 rfl rfl ?_
                refine jw_iadd F dX2_strangers_169 ?_
                obtain ⟨o_38, o_39, h⟩ := h
                refine jw_lald F (mO dA ad) (k := 9) (by decide) (ma_9 dA ad) 6 rfl (by decide) o_38 o_39 dX2_strangers_170 ?_
                refine jw_lstore F (lv' := [(0, .ref (ad 0)), (1, .int (iI a1)), (2, .int (iI a2)), (3, .int (iI a3)), (4, .int (iI ((s_17 0 8) - r_22))), (5, .long (lI x5_24)), (7, .long (lI x7_30)), (9, .int (iI x9_31)), (10, .long (lI (s_17 9 ((5 * x9_31) + a2))))]) [1, 2, 3, 4, 5, 6, 7, 8, 0] dX2_strangers_171 (by decide) rfl ?_
                refine jw_iload F 7 dX2_strangers_173 rfl ?_
                refine jw_istore F (lv' := [(0, .ref (ad 0)), (1, .int (iI a1)), (2, .int (iI a2)), (3, .int (iI a3)), (4, .int (iI ((s_17 0 8) - r_22))), (5, .long (lI x5_24)), (7, .long (lI x7_30)), (9, .int (iI x9_31)), (10, .long (lI (s_17 9 ((5 * x9_31) + a2)))), (12, .int (iI x9_31))]) [1, 2, 3, 4, 5, 6, 7, 8, 9, 0] dX2_strangers_175 (by decide) rfl ?_
                refine lp2_r (fun x10_40 x12_41 => G s_17 177 [(0, .ref (ad 0)), (1, .int (iI a1)), (2, .int (iI a2)), (3, .int (iI a3)), (4, .int (iI ((s_17 0 8) - r_22))), (5, .long (lI x5_24)), (7, .long (lI x7_30)), (9, .int (iI x9_31)), (10, .long (lI x10_40)), (12, .int (iI x12_41))] []) h (fun x10_40 x12_41 K_42 h ih_43 => ?_)
                refine jw_iload F 9 dX2_strangers_177 rfl ?_
                refine jw_iload_n F 1 dX2_strangers_179 rfl rfl ?_
                obtain ⟨o_44, h⟩ := h
                obtain ⟨o_45, h⟩ := h
                refine jw_icmp_ge F o_44 o_45 (tgt := 197) dX2_strangers_180 (by decide) (fun c => ?_) (fun c => ?_)
                · have h := h.1 (c)
                  refine jw_lload F 6 dX2_strangers_197 rfl ?_
                  refine jw_lload F 8 dX2_strangers_199 rfl ?_
                  refine jw_ladd F dX2_strangers_201 ?_
                  refine jw_lstore F (lv' := [(0, .ref (ad 0)), (1, .int (iI a1)), (2, .int (iI a2)), (3, .int (iI a3)), (4, .int (iI ((s_17 0 8) - r_22))), (5, .long (lI x5_24)), (7, .long (lI (x7_30 + x10_40))), (9, .int (iI x9_31)), (10, .long (lI x10_40)), (12, .int (iI x12_41))]) [1, 2, 3, 4, 5, 6, 0, 7, 8, 9] dX2_strangers_202 (by decide) rfl ?_
                  refine jw_iinc F (lv' := [(0, .ref (ad 0)), (1, .int (iI a1)), (2, .int (iI a2)), (3, .int (iI a3)), (4, .int (iI ((s_17 0 8) - r_22))), (5, .long (lI x5_24)), (7, .long (lI (x7_30 + x10_40))), (9, .int (iI (x9_31 + 1))), (10, .long (lI x10_40)), (12, .int (iI x12_41))]) 7 [1, 2, 3, 4, 5, 6, 7, 0, 8, 9] dX2_strangers_204 rfl (by decide) rfl ?_
                  refine jw_goto F (tgt := 154) dX2_strangers_207 (by decide) ?_
                  refine jw_sub F (lv' := [(0, .ref (ad 0)), (1, .int (iI a1)), (2, .int (iI a2)), (3, .int (iI a3)), (4, .int (iI ((s_17 0 8) - r_22))), (5, .long (lI x5_24)), (7, .long (lI (x7_30 + x10_40))), (9, .int (iI (x9_31 + 1)))]) [0, 1, 2, 3, 4, 5, 6, 7] rfl ?_
                  exact ih_33 _ _ h
                · have h := h.2 (c)
                  refine jw_lload F 8 dX2_strangers_183 rfl ?_
                  refine jw_iload F 4 dX2_strangers_185 rfl ?_
                  obtain ⟨o_46, h⟩ := h
                  refine jw_i2l F o_46 dX2_strangers_187 ?_
                  refine jw_lmul F dX2_strangers_188 ?_
                  refine jw_lstore F (lv' := [(0, .ref (ad 0)), (1, .int (iI a1)), (2, .int (iI a2)), (3, .int (iI a3)), (4, .int (iI ((s_17 0 8) - r_22))), (5, .long (lI x5_24)), (7, .long (lI x7_30)), (9, .int (iI x9_31)), (10, .long (lI (x10_40 * ((s_17 0 8) - r_22)))), (12, .int (iI x12_41))]) [1, 2, 3, 4, 5, 6, 7, 8, 0, 9] dX2_strangers_189 (by decide) rfl ?_
                  refine jw_iinc F (lv' := [(0, .ref (ad 0)), (1, .int (iI a1)), (2, .int (iI a2)), (3, .int (iI a3)), (4, .int (iI ((s_17 0 8) - r_22))), (5, .long (lI x5_24)), (7, .long (lI x7_30)), (9, .int (iI x9_31)), (10, .long (lI (x10_40 * ((s_17 0 8) - r_22)))), (12, .int (iI (x12_41 + 1)))]) 9 [1, 2, 3, 4, 5, 6, 7, 8, 9, 0] dX2_strangers_191 rfl (by decide) rfl ?_
                  refine jw_goto F (tgt := 177) dX2_strangers_194 (by decide) ?_
                  exact ih_43 _ _ h
            · have h := h.2 (c)
              refine jw_lload F 5 dX2_strangers_132 rfl ?_
              refine jw_aload_n F 0 dX2_strangers_134 rfl rfl ?_
              refine gx_X2_102_0 F dX2_strangers_135 ?_
              obtain ⟨o_47, h⟩ := h
              refine jw_i2l F o_47 dX2_strangers_138 ?_
              refine jw_lmul F dX2_strangers_139 ?_
              refine jw_lstore F (lv' := [(0, .ref (ad 0)), (1, .int (iI a1)), (2, .int (iI a2)), (3, .int (iI a3)), (4, .int (iI ((s_17 0 8) - r_22))), (5, .long (lI (x5_24 * (s_17 0 8)))), (7, .int (iI x7_25))]) [1, 2, 3, 4, 5, 0, 6] dX2_strangers_140 (by decide) rfl ?_
              refine jw_iinc F (lv' := [(0, .ref (ad 0)), (1, .int (iI a1)), (2, .int (iI a2)), (3, .int (iI a3)), (4, .int (iI ((s_17 0 8) - r_22))), (5, .long (lI (x5_24 * (s_17 0 8)))), (7, .int (iI (x7_25 + 1)))]) 6 [1, 2, 3, 4, 5, 6, 0] dX2_strangers_142 rfl (by decide) rfl ?_
              refine jw_goto F (tgt := 126) dX2_strangers_145 (by decide) ?_
              exact ih_27 _ _ h
          · have h := h.2 (c)
            refine jw_aload_n F 0 dX2_strangers_82 rfl rfl ?_
            refine jw_iload F 4 dX2_strangers_83 rfl ?_
            refine jw_callVzp F (wk_X2_isLeft h) (lw_V q1024 q1026 qs50 q77 q1027) hd_X2_isLeft ⟨rfl, rfl, Nat.le_of_ble_eq_true rfl, Nat.le_of_ble_eq_true rfl⟩ rfl rfl (mh_0 dA ad _) rfl rfl rfl (Nat.le_of_ble_eq_true rfl) dX2_strangers_85 (fun r_48 hb_r_48 h => ?_)
            refine jn1_r (fun s_50 => G s_50 102 [(0, .ref (ad 0)), (1, .int (iI a1)), (2, .int (iI a2)), (3, .int (iI a3)), (4, .int (iI x4_16))] []) h (fun s_50 h => ?_) (fun K_51 h j_52 => ?_)
            · refine jw_iinc F (lv' := [(0, .ref (ad 0)), (1, .int (iI a1)), (2, .int (iI a2)), (3, .int (iI a3)), (4, .int (iI (x4_16 + 1)))]) 4 [1, 2, 3, 4, 0] dX2_strangers_102 rfl (by decide) rfl ?_
              refine jw_goto F (tgt := 73) dX2_strangers_105 (by decide) ?_
              exact ih_19 _ _ h
            · refine jw_if_eq F (rg01 hb_r_48) (tgt := 102) dX2_strangers_88 (by decide) (fun c => ?_) (fun c => ?_)
              · have h := h.1 (c)
                exact j_52 _ h
              · have h := h.2 (c)
                refine jw_aload_n F 0 dX2_strangers_91 rfl rfl ?_
                refine jw_iload_n F 1 dX2_strangers_92 rfl rfl ?_
                refine jw_aload_n F 0 dX2_strangers_93 rfl rfl ?_
                refine jw_iload F 4 dX2_strangers_94 rfl ?_
                refine jw_callVip F (wk_X2_sizeOf h) (lw_V q1020 q1022 qs49 q77 q1023) hd_X2_sizeOf ⟨rfl, rfl, Nat.le_of_ble_eq_true rfl, Nat.le_of_ble_eq_true rfl⟩ rfl rfl (mh_0 dA ad _) rfl rfl rfl (Nat.le_of_ble_eq_true rfl) dX2_strangers_96 (fun r_53 h => ?_)
                refine jw_callVv F (wk_X2_addSort h) (lw_V q1063 q1065 qs53 q77 q1066) hd_X2_addSort ⟨rfl, rfl, Nat.le_of_ble_eq_true rfl, Nat.le_of_ble_eq_true rfl⟩ rfl rfl (mh_0 dA ad _) rfl rfl rfl (Nat.le_of_ble_eq_true rfl) dX2_strangers_99 (fun s_56 hz => ?_)
                have h := hz
                exact j_52 _ h
        · have h := h.2 (c)
          refine jw_aload_n F 0 dX2_strangers_47 rfl rfl ?_
          refine gx_X2_34_0 F dX2_strangers_48 ?_
          refine jw_iload F 4 dX2_strangers_51 rfl ?_
          refine jw_iload F 4 dX2_strangers_53 rfl ?_
          obtain ⟨o_57, h⟩ := h
          refine jn1_r (fun v_58 => G s_12 63 [(0, .ref (ad 0)), (1, .int (iI a1)), (2, .int (iI a2)), (3, .int (iI a3)), (4, .int (iI x4_11))] [.long (lI v_58), .int (iI x4_11), .ref (ad 9)]) h (fun v_58 h => ?_) (fun K_59 h j_60 => ?_)
          · obtain ⟨o_61, o_62, h⟩ := h
            refine jw_last F (mO dA ad) (k := 9) (by decide) (ma_9 dA ad) 6 rfl (by decide) o_61 o_62 dX2_strangers_63 ?_
            refine jw_iinc F (lv' := [(0, .ref (ad 0)), (1, .int (iI a1)), (2, .int (iI a2)), (3, .int (iI a3)), (4, .int (iI (x4_11 + 1)))]) 4 [1, 2, 3, 4, 0] dX2_strangers_64 rfl (by decide) rfl ?_
            refine jw_goto F (tgt := 40) dX2_strangers_67 (by decide) ?_
            exact ih_14 _ _ h
          · refine jw_if_ne F o_57 (tgt := 62) dX2_strangers_55 (by decide) (fun c => ?_) (fun c => ?_)
            · have h := h.1 (c)
              refine jw_lconst F (z := 0) dX2_strangers_62 (by decide) ?_
              exact j_60 _ h
            · have h := h.2 (c)
              refine jw_lconst F (z := 1) dX2_strangers_58 (by decide) ?_
              refine jw_goto F (tgt := 63) dX2_strangers_59 (by decide) ?_
              exact j_60 _ h
      · have h := h.2 (c)
        refine jw_ldc2 F (z := (-102)) (ldneg_102 q1062) dX2_strangers_33 ?_
        exact rt _ _ _ _ dX2_strangers_36 h
theorem hd_X2_placeOf : yX2_placeOf.cls = RX2 ∧ yX2_placeOf.cls ≠ "java/lang/invoke/MethodHandle" ∧ yX2_placeOf.cls ≠ "java/lang/invoke/VarHandle" ∧ (parseMethodDescriptor yX2_placeOf.desc).map (fun d => d.parameters.length) = some 1 := by decide +kernel
set_option maxHeartbeats 4000000 in
set_option maxRecDepth 100000 in
theorem wk_X2_placeOf {l : Launch} {D : va_G} {dA : Nat → ClassId} {ad : Nat → Nat} {s : Sg} {a1 : Int} {Q : Int → Prop} (h : wp_X2_placeOf a1 s Q) : MXi l D dA (mwf dA ad) yX2_placeOf cX2_placeOf 3 .int ({ frames := 0, cells := 0, slots := 0, locals := 0 } : Room) [.ref (ad 0), .int (iI a1)] s (fun z s' => s' = s ∧ Q z) := by
  unfold wp_X2_placeOf at h
  refine jw_start_i (own := RX2) (lv0 := [(0, .ref (ad 0)), (1, .int (iI a1))]) (by decide) rfl (Nat.le_of_ble_eq_true rfl) rfl (fun G F rt => ?_)
  refine jw_iconst F dX2_placeOf_0 ?_
  refine jw_istore_n F (lv' := [(0, .ref (ad 0)), (1, .int (iI a1)), (2, .int (iI 0))]) [1, 2, 0] dX2_placeOf_1 rfl (by decide) rfl ?_
  refine lp1_r (fun x2_1 => G s 2 [(0, .ref (ad 0)), (1, .int (iI a1)), (2, .int (iI x2_1))] []) h (fun x2_1 K_2 h ih_3 => ?_)
  refine jw_iload_n F 2 dX2_placeOf_2 rfl rfl ?_
  refine jw_aload_n F 0 dX2_placeOf_3 rfl rfl ?_
  refine gx_X2_182_0 F dX2_placeOf_4 ?_
  obtain ⟨o_4, h⟩ := h
  obtain ⟨o_5, h⟩ := h
  refine jw_icmp_ge F o_4 o_5 (tgt := 28) dX2_placeOf_7 (by decide) (fun c => ?_) (fun c => ?_)
  · have h := h.1 (c)
    refine jw_iconst F dX2_placeOf_28 ?_
    exact rt _ _ _ _ dX2_placeOf_29 ⟨rfl, h⟩
  · have h := h.2 (c)
    refine jw_aload_n F 0 dX2_placeOf_10 rfl rfl ?_
    refine gx_X2_41_0 F dX2_placeOf_11 ?_
    refine jw_iload_n F 2 dX2_placeOf_14 rfl rfl ?_
    obtain ⟨o_6, o_7, h⟩ := h
    refine jw_iald F (mO dA ad) (k := 11) (by decide) (ma_11 dA ad) 0 rfl (by decide) o_6 o_7 dX2_placeOf_15 ?_
    refine jw_iload_n F 1 dX2_placeOf_16 rfl rfl ?_
    obtain ⟨o_8, h⟩ := h
    obtain ⟨o_9, h⟩ := h
    refine jw_icmp_ne F o_8 o_9 (tgt := 22) dX2_placeOf_17 (by decide) (fun c => ?_) (fun c => ?_)
    · have h := h.1 (c)
      refine jw_iinc F (lv' := [(0, .ref (ad 0)), (1, .int (iI a1)), (2, .int (iI (x2_1 + 1)))]) 2 [1, 2, 0] dX2_placeOf_22 rfl (by decide) rfl ?_
      refine jw_goto F (tgt := 2) dX2_placeOf_25 (by decide) ?_
      exact ih_3 _ h
    · have h := h.2 (c)
      refine jw_iload_n F 2 dX2_placeOf_20 rfl rfl ?_
      exact rt _ _ _ _ dX2_placeOf_21 ⟨rfl, h⟩
theorem hd_X2_tellAlso : yX2_tellAlso.cls = RX2 ∧ yX2_tellAlso.cls ≠ "java/lang/invoke/MethodHandle" ∧ yX2_tellAlso.cls ≠ "java/lang/invoke/VarHandle" ∧ (parseMethodDescriptor yX2_tellAlso.desc).map (fun d => d.parameters.length) = some 1 := by decide +kernel
set_option maxHeartbeats 4000000 in
set_option maxRecDepth 100000 in
theorem wk_X2_tellAlso {l : Launch} {D : va_G} {dA : Nat → ClassId} {ad : Nat → Nat} {s : Sg} {a1 : Int} {Q : Sg → Prop} (h : wp_X2_tellAlso a1 s Q) : MXv l D dA (mwf dA ad) yX2_tellAlso cX2_tellAlso 2 ({ frames := 1, cells := 0, slots := 0, locals := 22 } : Room) [.ref (ad 0), .int (iI a1)] s Q := by
  unfold wp_X2_tellAlso at h
  refine jw_start_v (own := RX2) (lv0 := [(0, .ref (ad 0)), (1, .int (iI a1))]) (by decide) rfl (Nat.le_of_ble_eq_true rfl) rfl (fun G F rt => ?_)
  refine jw_aload_n F 0 dX2_tellAlso_0 rfl rfl ?_
  refine jw_iload_n F 1 dX2_tellAlso_1 rfl rfl ?_
  refine jw_callVip F (wk_X2_placeOf h) (lw_V q1086 q1088 qs56 q77 q1089) hd_X2_placeOf ⟨rfl, rfl, Nat.le_of_ble_eq_true rfl, Nat.le_of_ble_eq_true rfl⟩ rfl rfl (mh_0 dA ad _) rfl rfl rfl (Nat.le_of_ble_eq_true rfl) dX2_tellAlso_2 (fun r_1 h => ?_)
  refine jw_iconst F dX2_tellAlso_5 ?_
  obtain ⟨o_3, h⟩ := h
  refine jw_icmp_ne F o_3 (by decide) (tgt := 38) dX2_tellAlso_6 (by decide) (fun c => ?_) (fun c => ?_)
  · have h := h.1 (c)
    exact rt _ _ _ dX2_tellAlso_38 h
  · have h := h.2 (c)
    refine jw_aload_n F 0 dX2_tellAlso_9 rfl rfl ?_
    refine gx_X2_182_0 F dX2_tellAlso_10 ?_
    refine jw_bipush F (z := 12) dX2_tellAlso_13 (by decide) ?_
    obtain ⟨o_4, h⟩ := h
    refine jn1_r (fun s_5 => G s_5 28 [(0, .ref (ad 0))] []) h (fun s_5 h => ?_) (fun K_6 h j_7 => ?_)
    · refine jw_aload_n F 0 dX2_tellAlso_28 rfl rfl ?_
      refine jw_dup F rfl dX2_tellAlso_29 ?_
      refine gx_X2_182_0 F dX2_tellAlso_30 ?_
      refine jw_iconst F dX2_tellAlso_33 ?_
      refine jw_iadd F dX2_tellAlso_34 ?_
      refine pgx_X2_182_0 F dX2_tellAlso_35 ?_
      exact rt _ _ _ dX2_tellAlso_38 h
    · refine jw_icmp_ge F o_4 (by decide) (tgt := 28) dX2_tellAlso_15 (by decide) (fun c => ?_) (fun c => ?_)
      · have h := h.1 (c)
        refine jw_sub F (lv' := [(0, .ref (ad 0))]) [0] rfl ?_
        exact j_7 _ h
      · have h := h.2 (c)
        refine jw_aload_n F 0 dX2_tellAlso_18 rfl rfl ?_
        refine gx_X2_41_0 F dX2_tellAlso_19 ?_
        refine jw_aload_n F 0 dX2_tellAlso_22 rfl rfl ?_
        refine gx_X2_182_0 F dX2_tellAlso_23 ?_
        refine jw_iload_n F 1 dX2_tellAlso_26 rfl rfl ?_
        obtain ⟨o_8, o_9, h⟩ := h
        refine jw_iast F (mO dA ad) (k := 11) (by decide) (ma_11 dA ad) 0 rfl (by decide) o_8 o_9 dX2_tellAlso_27 ?_
        refine jw_sub F (lv' := [(0, .ref (ad 0))]) [0] rfl ?_
        exact j_7 _ h
theorem hd_X2_layTold : yX2_layTold.cls = RX2 ∧ yX2_layTold.cls ≠ "java/lang/invoke/MethodHandle" ∧ yX2_layTold.cls ≠ "java/lang/invoke/VarHandle" ∧ (parseMethodDescriptor yX2_layTold.desc).map (fun d => d.parameters.length) = some 0 := by decide +kernel
set_option maxHeartbeats 4000000 in
set_option maxRecDepth 100000 in
theorem wk_X2_layTold {l : Launch} {D : va_G} {dA : Nat → ClassId} {ad : Nat → Nat} {s : Sg} {Q : Sg → Prop} (h : wp_X2_layTold s Q) : MXv l D dA (mwf dA ad) yX2_layTold cX2_layTold 3 ({ frames := 2, cells := 0, slots := 0, locals := 43 } : Room) [.ref (ad 0)] s Q := by
  unfold wp_X2_layTold at h
  refine jw_start_v (own := RX2) (lv0 := [(0, .ref (ad 0))]) (by decide) rfl (Nat.le_of_ble_eq_true rfl) rfl (fun G F rt => ?_)
  refine jw_aload_n F 0 dX2_layTold_0 rfl rfl ?_
  refine jw_iconst F dX2_layTold_1 ?_
  refine pgx_X2_182_0 F dX2_layTold_2 ?_
  refine jw_iconst F dX2_layTold_5 ?_
  refine jw_istore_n F (lv' := [(0, .ref (ad 0)), (1, .int (iI 0))]) [1, 0] dX2_layTold_6 rfl (by decide) rfl ?_
  refine lp2_r (fun x1_1 s_2 => G s_2 7 [(0, .ref (ad 0)), (1, .int (iI x1_1))] []) h (fun x1_1 s_2 K_3 h ih_4 => ?_)
  refine jw_iload_n F 1 dX2_layTold_7 rfl rfl ?_
  refine jw_aload_n F 0 dX2_layTold_8 rfl rfl ?_
  refine gx_X2_130_0 F dX2_layTold_9 ?_
  obtain ⟨o_5, h⟩ := h
  obtain ⟨o_6, h⟩ := h
  refine jw_icmp_ge F o_5 o_6 (tgt := 64) dX2_layTold_12 (by decide) (fun c => ?_) (fun c => ?_)
  · have h := h.1 (c)
    exact rt _ _ _ dX2_layTold_64 h
  · have h := h.2 (c)
    refine jw_iconst F dX2_layTold_15 ?_
    refine jw_istore_n F (lv' := [(0, .ref (ad 0)), (1, .int (iI x1_1)), (2, .int (iI 0))]) [1, 2, 0] dX2_layTold_16 rfl (by decide) rfl ?_
    refine lp2_r (fun x2_7 s_8 => G s_8 17 [(0, .ref (ad 0)), (1, .int (iI x1_1)), (2, .int (iI x2_7))] []) h (fun x2_7 s_8 K_9 h ih_10 => ?_)
    refine jw_iload_n F 2 dX2_layTold_17 rfl rfl ?_
    refine jw_aload_n F 0 dX2_layTold_18 rfl rfl ?_
    refine gx_X2_31_0 F dX2_layTold_19 ?_
    refine jw_bipush F (z := 8) dX2_layTold_22 (by decide) ?_
    refine jw_iload_n F 1 dX2_layTold_24 rfl rfl ?_
    refine jw_imul F dX2_layTold_25 ?_
    obtain ⟨o_11, o_12, h⟩ := h
    refine jw_iald F (mO dA ad) (k := 8) (by decide) (ma_8 dA ad) 0 rfl (by decide) o_11 o_12 dX2_layTold_26 ?_
    obtain ⟨o_13, h⟩ := h
    obtain ⟨o_14, h⟩ := h
    refine jw_icmp_ge F o_13 o_14 (tgt := 58) dX2_layTold_27 (by decide) (fun c => ?_) (fun c => ?_)
    · have h := h.1 (c)
      refine jw_iinc F (lv' := [(0, .ref (ad 0)), (1, .int (iI (x1_1 + 1))), (2, .int (iI x2_7))]) 1 [1, 0, 2] dX2_layTold_58 rfl (by decide) rfl ?_
      refine jw_goto F (tgt := 7) dX2_layTold_61 (by decide) ?_
      refine jw_sub F (lv' := [(0, .ref (ad 0)), (1, .int (iI (x1_1 + 1)))]) [0, 1] rfl ?_
      exact ih_4 _ _ h
    · have h := h.2 (c)
      refine jw_aload_n F 0 dX2_layTold_30 rfl rfl ?_
      refine jw_aload_n F 0 dX2_layTold_31 rfl rfl ?_
      refine gx_X2_22_0 F dX2_layTold_32 ?_
      refine jw_aload_n F 0 dX2_layTold_35 rfl rfl ?_
      refine gx_X2_31_0 F dX2_layTold_36 ?_
      refine jw_bipush F (z := 8) dX2_layTold_39 (by decide) ?_
      refine jw_iload_n F 1 dX2_layTold_41 rfl rfl ?_
      refine jw_imul F dX2_layTold_42 ?_
      refine jw_iconst F dX2_layTold_43 ?_
      refine jw_iadd F dX2_layTold_44 ?_
      refine jw_iload_n F 2 dX2_layTold_45 rfl rfl ?_
      refine jw_iadd F dX2_layTold_46 ?_
      obtain ⟨o_15, o_16, h⟩ := h
      refine jw_iald F (mO dA ad) (k := 8) (by decide) (ma_8 dA ad) 0 rfl (by decide) o_15 o_16 dX2_layTold_47 ?_
      obtain ⟨o_17, o_18, h⟩ := h
      refine jw_iald F (mO dA ad) (k := 5) (by decide) (ma_5 dA ad) 0 rfl (by decide) o_17 o_18 dX2_layTold_48 ?_
      refine jw_callVv F (wk_X2_tellAlso h) (lw_V q1082 q1084 qs55 q77 q1085) hd_X2_tellAlso ⟨rfl, rfl, Nat.le_of_ble_eq_true rfl, Nat.le_of_ble_eq_true rfl⟩ rfl rfl (mh_0 dA ad _) rfl rfl rfl (Nat.le_of_ble_eq_true rfl) dX2_layTold_49 (fun s_20 hz => ?_)
      have h := hz
      refine jw_iinc F (lv' := [(0, .ref (ad 0)), (1, .int (iI x1_1)), (2, .int (iI (x2_7 + 1)))]) 2 [1, 2, 0] dX2_layTold_52 rfl (by decide) rfl ?_
      refine jw_goto F (tgt := 17) dX2_layTold_55 (by decide) ?_
      exact ih_10 _ _ h
theorem hd_X2_sheet : yX2_sheet.cls = RX2 ∧ yX2_sheet.cls ≠ "java/lang/invoke/MethodHandle" ∧ yX2_sheet.cls ≠ "java/lang/invoke/VarHandle" ∧ (parseMethodDescriptor yX2_sheet.desc).map (fun d => d.parameters.length) = some 3 := by decide +kernel
set_option maxHeartbeats 4000000 in
set_option maxRecDepth 100000 in
theorem wk_X2_sheet {l : Launch} {D : va_G} {dA : Nat → ClassId} {ad : Nat → Nat} {s : Sg} {a1 a2 a3 : Int} {Q : Int → Sg → Prop} (h : wp_X2_sheet a1 a2 a3 s Q) : MXi l D dA (mwf dA ad) yX2_sheet cX2_sheet 10 .int ({ frames := 3, cells := 0, slots := 0, locals := 65 } : Room) [.ref (ad 0), .int (iI a1), .long (lI a2), .int (iI a3)] s Q := by
  unfold wp_X2_sheet at h
  refine jw_start_i (own := RX2) (lv0 := [(0, .ref (ad 0)), (1, .int (iI a1)), (2, .long (lI a2)), (4, .int (iI a3))]) (by decide) rfl (Nat.le_of_ble_eq_true rfl) rfl (fun G F rt => ?_)
  refine jw_iload_n F 1 dX2_sheet_0 rfl rfl ?_
  obtain ⟨o_1, h⟩ := h
  refine jw_i2l F o_1 dX2_sheet_1 ?_
  refine jw_lconst F (z := 1) dX2_sheet_2 (by decide) ?_
  refine jw_ldc2 F (z := 6) q1077 dX2_sheet_3 ?_
  refine jw_callSzp F (wk_X2_in h) (lw_S q965 q966 q77 q967) hd_X2_in ⟨rfl, rfl, Nat.le_of_ble_eq_true rfl, Nat.le_of_ble_eq_true rfl⟩ rfl rfl (Nat.le_of_ble_eq_true rfl) dX2_sheet_6 (fun r_2 hb_r_2 h => ?_)
  refine jn1_r (fun v_4 => G s 30 [(0, .ref (ad 0)), (1, .int (iI a1)), (2, .long (lI a2)), (4, .int (iI a3))] [.int (iI v_4)]) h (fun v_4 h => ?_) (fun K_5 h j_6 => ?_)
  · refine jw_istore F (lv' := [(0, .ref (ad 0)), (1, .int (iI a1)), (2, .long (lI a2)), (4, .int (iI a3)), (5, .int (iI v_4))]) [1, 2, 3, 4, 0] dX2_sheet_30 (by decide) rfl ?_
    refine jw_iconst F dX2_sheet_32 ?_
    refine jw_istore F (lv' := [(0, .ref (ad 0)), (1, .int (iI a1)), (2, .long (lI a2)), (4, .int (iI a3)), (5, .int (iI v_4)), (6, .int (iI 0))]) [1, 2, 3, 4, 5, 0] dX2_sheet_33 (by decide) rfl ?_
    refine lp2_r (fun x5_7 x6_8 => G s 35 [(0, .ref (ad 0)), (1, .int (iI a1)), (2, .long (lI a2)), (4, .int (iI a3)), (5, .int (iI x5_7)), (6, .int (iI x6_8))] []) h (fun x5_7 x6_8 K_9 h ih_10 => ?_)
    refine jw_iload F 5 dX2_sheet_35 rfl ?_
    refine jw_bipush F (z := 8) dX2_sheet_37 (by decide) ?_
    obtain ⟨o_11, h⟩ := h
    refine jn0_r (G s 82 [(0, .ref (ad 0)), (1, .int (iI a1)), (2, .long (lI a2)), (4, .int (iI a3)), (5, .int (iI x5_7))] []) h (fun h => ?_) (fun K_12 h j_13 => ?_)
    · refine jw_iload F 4 dX2_sheet_82 rfl ?_
      obtain ⟨o_14, h⟩ := h
      refine jw_if_ne F o_14 (tgt := 90) dX2_sheet_84 (by decide) (fun c => ?_) (fun c => ?_)
      · have h := h.1 (c)
        refine jw_iconst F dX2_sheet_90 ?_
        refine jw_istore F (lv' := [(0, .ref (ad 0)), (1, .int (iI a1)), (2, .long (lI a2)), (4, .int (iI a3)), (5, .int (iI x5_7)), (6, .int (iI 1))]) [1, 2, 3, 4, 5, 0] dX2_sheet_91 (by decide) rfl ?_
        refine jw_iconst F dX2_sheet_93 ?_
        refine jw_istore F (lv' := [(0, .ref (ad 0)), (1, .int (iI a1)), (2, .long (lI a2)), (4, .int (iI a3)), (5, .int (iI x5_7)), (6, .int (iI 1)), (7, .int (iI 0))]) [1, 2, 3, 4, 5, 6, 0] dX2_sheet_94 (by decide) rfl ?_
        refine jw_sub F (lv' := [(0, .ref (ad 0)), (1, .int (iI a1)), (2, .long (lI a2)), (4, .int (iI a3)), (6, .int (iI 1)), (7, .int (iI 0))]) [0, 1, 2, 3, 5, 6] rfl ?_
        refine lp2_r (fun x6_15 x7_16 => G s 96 [(0, .ref (ad 0)), (1, .int (iI a1)), (2, .long (lI a2)), (4, .int (iI a3)), (6, .int (iI x6_15)), (7, .int (iI x7_16))] []) h (fun x6_15 x7_16 K_17 h ih_18 => ?_)
        refine jw_iload F 5 dX2_sheet_96 rfl ?_
        refine jw_iload_n F 1 dX2_sheet_98 rfl rfl ?_
        obtain ⟨o_19, h⟩ := h
        obtain ⟨o_20, h⟩ := h
        refine jw_icmp_ge F o_19 o_20 (tgt := 139) dX2_sheet_99 (by decide) (fun c => ?_) (fun c => ?_)
        · have h := h.1 (c)
          refine jw_iload F 4 dX2_sheet_139 rfl ?_
          obtain ⟨o_21, h⟩ := h
          refine jw_if_ne F o_21 (tgt := 147) dX2_sheet_141 (by decide) (fun c => ?_) (fun c => ?_)
          · have h := h.1 (c)
            refine jw_aload_n F 0 dX2_sheet_147 rfl rfl ?_
            refine jw_callVv F (wk_X2_layTold h) (lw_V q1078 q1080 qs54 q77 q1081) hd_X2_layTold ⟨rfl, rfl, Nat.le_of_ble_eq_true rfl, Nat.le_of_ble_eq_true rfl⟩ rfl rfl (mh_0 dA ad _) rfl rfl rfl (Nat.le_of_ble_eq_true rfl) dX2_sheet_148 (fun s_23 hz => ?_)
            have h := hz
            refine jw_iconst F dX2_sheet_151 ?_
            refine jw_istore F (lv' := [(0, .ref (ad 0)), (1, .int (iI a1)), (2, .long (lI a2)), (4, .int (iI a3)), (6, .int (iI x6_15)), (7, .int (iI 1))]) [1, 2, 3, 4, 5, 0] dX2_sheet_152 (by decide) rfl ?_
            refine jw_iconst F dX2_sheet_154 ?_
            refine jw_istore F (lv' := [(0, .ref (ad 0)), (1, .int (iI a1)), (2, .long (lI a2)), (4, .int (iI a3)), (6, .int (iI x6_15)), (7, .int (iI 1)), (8, .int (iI 0))]) [1, 2, 3, 4, 5, 6, 0] dX2_sheet_155 (by decide) rfl ?_
            refine jw_sub F (lv' := [(0, .ref (ad 0)), (1, .int (iI a1)), (2, .long (lI a2)), (4, .int (iI a3)), (7, .int (iI 1)), (8, .int (iI 0))]) [0, 1, 2, 3, 5, 6] rfl ?_
            refine lp3_r (fun x7_24 x8_25 s_26 => G s_26 157 [(0, .ref (ad 0)), (1, .int (iI a1)), (2, .long (lI a2)), (4, .int (iI a3)), (7, .int (iI x7_24)), (8, .int (iI x8_25))] []) h (fun x7_24 x8_25 s_26 K_27 h ih_28 => ?_)
            refine jw_iload F 5 dX2_sheet_157 rfl ?_
            refine jw_iload_n F 1 dX2_sheet_159 rfl rfl ?_
            obtain ⟨o_29, h⟩ := h
            obtain ⟨o_30, h⟩ := h
            refine jw_icmp_ge F o_29 o_30 (tgt := 230) dX2_sheet_160 (by decide) (fun c => ?_) (fun c => ?_)
            · have h := h.1 (c)
              refine jw_aload_n F 0 dX2_sheet_230 rfl rfl ?_
              refine gx_X2_130_0 F dX2_sheet_231 ?_
              refine jw_iconst F dX2_sheet_234 ?_
              obtain ⟨o_31, h⟩ := h
              refine jw_icmp_eq F o_31 (by decide) (tgt := 243) dX2_sheet_235 (by decide) (fun c => ?_) (fun c => ?_)
              · have h := h.1 (c)
                refine jw_bipush F (z := (-104)) dX2_sheet_243 (by decide) ?_
                exact rt _ _ _ _ dX2_sheet_245 h
              · have h := h.2 (c)
                refine jw_iload F 4 dX2_sheet_238 rfl ?_
                obtain ⟨o_32, h⟩ := h
                refine jw_if_ne F o_32 (tgt := 246) dX2_sheet_240 (by decide) (fun c => ?_) (fun c => ?_)
                · have h := h.1 (c)
                  refine jw_aload_n F 0 dX2_sheet_246 rfl rfl ?_
                  refine gx_X2_31_0 F dX2_sheet_247 ?_
                  refine jw_bipush F (z := 8) dX2_sheet_250 (by decide) ?_
                  refine jw_aload_n F 0 dX2_sheet_252 rfl rfl ?_
                  refine gx_X2_130_0 F dX2_sheet_253 ?_
                  refine jw_imul F dX2_sheet_256 ?_
                  refine jw_iload_n F 1 dX2_sheet_257 rfl rfl ?_
                  obtain ⟨o_33, o_34, h⟩ := h
                  refine jw_iast F (mO dA ad) (k := 8) (by decide) (ma_8 dA ad) 0 rfl (by decide) o_33 o_34 dX2_sheet_258 ?_
                  refine jw_iconst F dX2_sheet_259 ?_
                  refine jw_istore F (lv' := [(0, .ref (ad 0)), (1, .int (iI a1)), (2, .long (lI a2)), (4, .int (iI a3)), (7, .int (iI x7_24)), (8, .int (iI 0))]) [1, 2, 3, 4, 5, 0] dX2_sheet_260 (by decide) rfl ?_
                  refine jw_sub F (lv' := [(0, .ref (ad 0)), (1, .int (iI a1)), (2, .long (lI a2)), (4, .int (iI a3)), (8, .int (iI 0))]) [0, 1, 2, 3, 5] rfl ?_
                  refine lp2_r (fun x8_35 s_36 => G s_36 262 [(0, .ref (ad 0)), (1, .int (iI a1)), (2, .long (lI a2)), (4, .int (iI a3)), (8, .int (iI x8_35))] []) h (fun x8_35 s_36 K_37 h ih_38 => ?_)
                  refine jw_iload F 4 dX2_sheet_262 rfl ?_
                  refine jw_iload_n F 1 dX2_sheet_264 rfl rfl ?_
                  obtain ⟨o_39, h⟩ := h
                  obtain ⟨o_40, h⟩ := h
                  refine jw_icmp_ge F o_39 o_40 (tgt := 303) dX2_sheet_265 (by decide) (fun c => ?_) (fun c => ?_)
                  · have h := h.1 (c)
                    refine jw_aload_n F 0 dX2_sheet_303 rfl rfl ?_
                    refine gx_X2_31_0 F dX2_sheet_304 ?_
                    refine jw_bipush F (z := 8) dX2_sheet_307 (by decide) ?_
                    refine jw_aload_n F 0 dX2_sheet_309 rfl rfl ?_
                    refine gx_X2_130_0 F dX2_sheet_310 ?_
                    refine jw_imul F dX2_sheet_313 ?_
                    refine jw_bipush F (z := 7) dX2_sheet_314 (by decide) ?_
                    refine jw_iadd F dX2_sheet_316 ?_
                    refine jw_iload F 3 dX2_sheet_317 rfl ?_
                    obtain ⟨o_41, o_42, h⟩ := h
                    refine jw_iast F (mO dA ad) (k := 8) (by decide) (ma_8 dA ad) 0 rfl (by decide) o_41 o_42 dX2_sheet_319 ?_
                    refine jw_aload_n F 0 dX2_sheet_320 rfl rfl ?_
                    refine jw_dup F rfl dX2_sheet_321 ?_
                    refine gx_X2_130_0 F dX2_sheet_322 ?_
                    refine jw_iconst F dX2_sheet_325 ?_
                    refine jw_iadd F dX2_sheet_326 ?_
                    refine pgx_X2_130_0 F dX2_sheet_327 ?_
                    refine jw_aload_n F 0 dX2_sheet_330 rfl rfl ?_
                    refine gx_X2_130_0 F dX2_sheet_331 ?_
                    exact rt _ _ _ _ dX2_sheet_334 h
                  · have h := h.2 (c)
                    refine jw_aload_n F 0 dX2_sheet_268 rfl rfl ?_
                    refine gx_X2_31_0 F dX2_sheet_269 ?_
                    refine jw_bipush F (z := 8) dX2_sheet_272 (by decide) ?_
                    refine jw_aload_n F 0 dX2_sheet_274 rfl rfl ?_
                    refine gx_X2_130_0 F dX2_sheet_275 ?_
                    refine jw_imul F dX2_sheet_278 ?_
                    refine jw_iconst F dX2_sheet_279 ?_
                    refine jw_iadd F dX2_sheet_280 ?_
                    refine jw_iload F 4 dX2_sheet_281 rfl ?_
                    refine jw_iadd F dX2_sheet_283 ?_
                    refine jw_lload_n F 2 dX2_sheet_284 rfl rfl ?_
                    refine jw_bipush F (z := 8) dX2_sheet_285 (by decide) ?_
                    refine jw_iload F 4 dX2_sheet_287 rfl ?_
                    refine jw_imul F dX2_sheet_289 ?_
                    obtain ⟨o_43, o_44, h⟩ := h
                    refine jw_lushr F o_43 o_44 dX2_sheet_290 ?_
                    refine jw_ldc2 F (z := 255) q946 dX2_sheet_291 ?_
                    refine jw_lmask F 8 (by decide) (by decide) dX2_sheet_294 ?_
                    refine jw_l2i F dX2_sheet_295 ?_
                    obtain ⟨o_45, o_46, h⟩ := h
                    refine jw_iast F (mO dA ad) (k := 8) (by decide) (ma_8 dA ad) 0 rfl (by decide) o_45 o_46 dX2_sheet_296 ?_
                    refine jw_iinc F (lv' := [(0, .ref (ad 0)), (1, .int (iI a1)), (2, .long (lI a2)), (4, .int (iI a3)), (8, .int (iI (x8_35 + 1)))]) 4 [1, 2, 3, 4, 0] dX2_sheet_297 rfl (by decide) rfl ?_
                    refine jw_goto F (tgt := 262) dX2_sheet_300 (by decide) ?_
                    exact ih_38 _ _ h
                · have h := h.2 (c)
                  refine jw_bipush F (z := (-104)) dX2_sheet_243 (by decide) ?_
                  exact rt _ _ _ _ dX2_sheet_245 h
            · have h := h.2 (c)
              refine jw_aload_n F 0 dX2_sheet_163 rfl rfl ?_
              refine gx_X2_22_0 F dX2_sheet_164 ?_
              refine jw_lload_n F 2 dX2_sheet_167 rfl rfl ?_
              refine jw_bipush F (z := 8) dX2_sheet_168 (by decide) ?_
              refine jw_iload F 5 dX2_sheet_170 rfl ?_
              refine jw_imul F dX2_sheet_172 ?_
              obtain ⟨o_47, o_48, h⟩ := h
              refine jw_lushr F o_47 o_48 dX2_sheet_173 ?_
              refine jw_ldc2 F (z := 255) q946 dX2_sheet_174 ?_
              refine jw_lmask F 8 (by decide) (by decide) dX2_sheet_177 ?_
              refine jw_l2i F dX2_sheet_178 ?_
              obtain ⟨o_49, o_50, h⟩ := h
              refine jw_iald F (mO dA ad) (k := 5) (by decide) (ma_5 dA ad) 0 rfl (by decide) o_49 o_50 dX2_sheet_179 ?_
              refine jw_istore F (lv' := [(0, .ref (ad 0)), (1, .int (iI a1)), (2, .long (lI a2)), (4, .int (iI a3)), (7, .int (iI x7_24)), (8, .int (iI x8_25)), (9, .int (iI (s_26 5 ((a2 % 18446744073709551616 / 2 ^ ((8 * x8_25) : Int).toNat) % 2 ^ 8))))]) [1, 2, 3, 4, 5, 6, 0] dX2_sheet_180 (by decide) rfl ?_
              refine jw_iload F 4 dX2_sheet_182 rfl ?_
              obtain ⟨o_51, h⟩ := h
              refine jn1_r (fun v_52 => G s_26 211 [(0, .ref (ad 0)), (1, .int (iI a1)), (2, .long (lI a2)), (4, .int (iI a3)), (8, .int (iI x8_25)), (9, .int (iI (s_26 5 ((a2 % 18446744073709551616 / 2 ^ ((8 * x8_25) : Int).toNat) % 2 ^ 8))))] [.int (iI v_52)]) h (fun v_52 h => ?_) (fun K_53 h j_54 => ?_)
              · refine jw_istore F (lv' := [(0, .ref (ad 0)), (1, .int (iI a1)), (2, .long (lI a2)), (4, .int (iI a3)), (7, .int (iI v_52)), (8, .int (iI x8_25)), (9, .int (iI (s_26 5 ((a2 % 18446744073709551616 / 2 ^ ((8 * x8_25) : Int).toNat) % 2 ^ 8))))]) [1, 2, 3, 4, 0, 5, 6] dX2_sheet_211 (by decide) rfl ?_
                refine jw_iload F 4 dX2_sheet_213 rfl ?_
                obtain ⟨o_55, h⟩ := h
                refine jn1_r (fun s_56 => G s_56 224 [(0, .ref (ad 0)), (1, .int (iI a1)), (2, .long (lI a2)), (4, .int (iI a3)), (7, .int (iI v_52)), (8, .int (iI x8_25))] []) h (fun s_56 h => ?_) (fun K_57 h j_58 => ?_)
                · refine jw_iinc F (lv' := [(0, .ref (ad 0)), (1, .int (iI a1)), (2, .long (lI a2)), (4, .int (iI a3)), (7, .int (iI v_52)), (8, .int (iI (x8_25 + 1)))]) 5 [1, 2, 3, 4, 5, 0] dX2_sheet_224 rfl (by decide) rfl ?_
                  refine jw_goto F (tgt := 157) dX2_sheet_227 (by decide) ?_
                  exact ih_28 _ _ _ h
                · refine jw_if_eq F o_55 (tgt := 224) dX2_sheet_215 (by decide) (fun c => ?_) (fun c => ?_)
                  · have h := h.1 (c)
                    refine jw_sub F (lv' := [(0, .ref (ad 0)), (1, .int (iI a1)), (2, .long (lI a2)), (4, .int (iI a3)), (7, .int (iI v_52)), (8, .int (iI x8_25))]) [0, 1, 2, 3, 4, 5] rfl ?_
                    exact j_58 _ h
                  · have h := h.2 (c)
                    refine jw_aload_n F 0 dX2_sheet_218 rfl rfl ?_
                    refine jw_iload F 6 dX2_sheet_219 rfl ?_
                    refine jw_callVv F (wk_X2_tellAlso h) (lw_V q1082 q1084 qs55 q77 q1085) hd_X2_tellAlso ⟨rfl, rfl, Nat.le_of_ble_eq_true rfl, Nat.le_of_ble_eq_true rfl⟩ rfl rfl (mh_0 dA ad _) rfl rfl rfl (Nat.le_of_ble_eq_true rfl) dX2_sheet_221 (fun s_60 hz => ?_)
                    have h := hz
                    refine jw_sub F (lv' := [(0, .ref (ad 0)), (1, .int (iI a1)), (2, .long (lI a2)), (4, .int (iI a3)), (7, .int (iI v_52)), (8, .int (iI x8_25))]) [0, 1, 2, 3, 4, 5] rfl ?_
                    exact j_58 _ h
              · refine jn0_r (G s_26 210 [(0, .ref (ad 0)), (1, .int (iI a1)), (2, .long (lI a2)), (4, .int (iI a3)), (8, .int (iI x8_25)), (9, .int (iI (s_26 5 ((a2 % 18446744073709551616 / 2 ^ ((8 * x8_25) : Int).toNat) % 2 ^ 8))))] []) h (fun h => ?_) (fun K_61 h j_62 => ?_)
                · refine jw_iconst F dX2_sheet_210 ?_
                  exact j_54 _ h
                · refine jw_if_eq F o_51 (tgt := 210) dX2_sheet_184 (by decide) (fun c => ?_) (fun c => ?_)
                  · have h := h.1 (c)
                    refine jw_sub F (lv' := [(0, .ref (ad 0)), (1, .int (iI a1)), (2, .long (lI a2)), (4, .int (iI a3)), (8, .int (iI x8_25)), (9, .int (iI (s_26 5 ((a2 % 18446744073709551616 / 2 ^ ((8 * x8_25) : Int).toNat) % 2 ^ 8))))]) [0, 1, 2, 3, 5, 6] rfl ?_
                    exact j_62 h
                  · have h := h.2 (c)
                    refine jw_aload_n F 0 dX2_sheet_187 rfl rfl ?_
                    refine gx_X2_182_0 F dX2_sheet_188 ?_
                    refine jw_bipush F (z := 12) dX2_sheet_191 (by decide) ?_
                    obtain ⟨o_63, h⟩ := h
                    refine jn0_r (G s_26 206 [(0, .ref (ad 0)), (1, .int (iI a1)), (2, .long (lI a2)), (4, .int (iI a3)), (8, .int (iI x8_25)), (9, .int (iI (s_26 5 ((a2 % 18446744073709551616 / 2 ^ ((8 * x8_25) : Int).toNat) % 2 ^ 8))))] []) h (fun h => ?_) (fun K_64 h j_65 => ?_)
                    · refine jw_iconst F dX2_sheet_206 ?_
                      refine jw_goto F (tgt := 211) dX2_sheet_207 (by decide) ?_
                      exact j_54 _ h
                    · refine jw_icmp_lt F o_63 (by decide) (tgt := 206) dX2_sheet_193 (by decide) (fun c => ?_) (fun c => ?_)
                      · have h := h.1 (c)
                        refine jw_sub F (lv' := [(0, .ref (ad 0)), (1, .int (iI a1)), (2, .long (lI a2)), (4, .int (iI a3)), (8, .int (iI x8_25)), (9, .int (iI (s_26 5 ((a2 % 18446744073709551616 / 2 ^ ((8 * x8_25) : Int).toNat) % 2 ^ 8))))]) [0, 1, 2, 3, 5, 6] rfl ?_
                        exact j_65 h
                      · have h := h.2 (c)
                        refine jw_aload_n F 0 dX2_sheet_196 rfl rfl ?_
                        refine jw_iload F 6 dX2_sheet_197 rfl ?_
                        refine jw_callVip F (wk_X2_placeOf h) (lw_V q1086 q1088 qs56 q77 q1089) hd_X2_placeOf ⟨rfl, rfl, Nat.le_of_ble_eq_true rfl, Nat.le_of_ble_eq_true rfl⟩ rfl rfl (mh_0 dA ad _) rfl rfl rfl (Nat.le_of_ble_eq_true rfl) dX2_sheet_199 (fun r_66 h => ?_)
                        refine jw_iconst F dX2_sheet_202 ?_
                        obtain ⟨o_68, h⟩ := h
                        refine jw_icmp_eq F o_68 (by decide) (tgt := 210) dX2_sheet_203 (by decide) (fun c => ?_) (fun c => ?_)
                        · have h := h.1 (c)
                          refine jw_sub F (lv' := [(0, .ref (ad 0)), (1, .int (iI a1)), (2, .long (lI a2)), (4, .int (iI a3)), (8, .int (iI x8_25)), (9, .int (iI (s_26 5 ((a2 % 18446744073709551616 / 2 ^ ((8 * x8_25) : Int).toNat) % 2 ^ 8))))]) [0, 1, 2, 3, 5, 6] rfl ?_
                          exact j_62 h
                        · have h := h.2 (c)
                          refine jw_sub F (lv' := [(0, .ref (ad 0)), (1, .int (iI a1)), (2, .long (lI a2)), (4, .int (iI a3)), (8, .int (iI x8_25)), (9, .int (iI (s_26 5 ((a2 % 18446744073709551616 / 2 ^ ((8 * x8_25) : Int).toNat) % 2 ^ 8))))]) [0, 1, 2, 3, 5, 6] rfl ?_
                          exact j_65 h
          · have h := h.2 (c)
            refine jw_bipush F (z := (-101)) dX2_sheet_144 (by decide) ?_
            exact rt _ _ _ _ dX2_sheet_146 h
        · have h := h.2 (c)
          refine jw_iload F 4 dX2_sheet_102 rfl ?_
          obtain ⟨o_69, h⟩ := h
          refine jn1_r (fun v_70 => G s 131 [(0, .ref (ad 0)), (1, .int (iI a1)), (2, .long (lI a2)), (4, .int (iI a3)), (7, .int (iI x7_16))] [.int (iI v_70)]) h (fun v_70 h => ?_) (fun K_71 h j_72 => ?_)
          · refine jw_istore F (lv' := [(0, .ref (ad 0)), (1, .int (iI a1)), (2, .long (lI a2)), (4, .int (iI a3)), (6, .int (iI v_70)), (7, .int (iI x7_16))]) [1, 2, 3, 4, 0, 5] dX2_sheet_131 (by decide) rfl ?_
            refine jw_iinc F (lv' := [(0, .ref (ad 0)), (1, .int (iI a1)), (2, .long (lI a2)), (4, .int (iI a3)), (6, .int (iI v_70)), (7, .int (iI (x7_16 + 1)))]) 5 [1, 2, 3, 4, 5, 0] dX2_sheet_133 rfl (by decide) rfl ?_
            refine jw_goto F (tgt := 96) dX2_sheet_136 (by decide) ?_
            exact ih_18 _ _ h
          · refine jn0_r (G s 130 [(0, .ref (ad 0)), (1, .int (iI a1)), (2, .long (lI a2)), (4, .int (iI a3)), (7, .int (iI x7_16))] []) h (fun h => ?_) (fun K_73 h j_74 => ?_)
            · refine jw_iconst F dX2_sheet_130 ?_
              exact j_72 _ h
            · refine jw_if_eq F o_69 (tgt := 130) dX2_sheet_104 (by decide) (fun c => ?_) (fun c => ?_)
              · have h := h.1 (c)
                refine jw_sub F (lv' := [(0, .ref (ad 0)), (1, .int (iI a1)), (2, .long (lI a2)), (4, .int (iI a3)), (7, .int (iI x7_16))]) [0, 1, 2, 3, 5] rfl ?_
                exact j_74 h
              · have h := h.2 (c)
                refine jw_aload_n F 0 dX2_sheet_107 rfl rfl ?_
                refine jw_lload_n F 2 dX2_sheet_108 rfl rfl ?_
                refine jw_bipush F (z := 8) dX2_sheet_109 (by decide) ?_
                refine jw_iload F 5 dX2_sheet_111 rfl ?_
                refine jw_imul F dX2_sheet_113 ?_
                obtain ⟨o_75, o_76, h⟩ := h
                refine jw_lushr F o_75 o_76 dX2_sheet_114 ?_
                refine jw_ldc2 F (z := 255) q946 dX2_sheet_115 ?_
                refine jw_lmask F 8 (by decide) (by decide) dX2_sheet_118 ?_
                refine jw_l2i F dX2_sheet_119 ?_
                refine jw_callVzp F (wk_X2_isChord h) (lw_V q1007 q1009 qs47 q77 q1010) hd_X2_isChord ⟨rfl, rfl, Nat.le_of_ble_eq_true rfl, Nat.le_of_ble_eq_true rfl⟩ rfl rfl (mh_0 dA ad _) rfl rfl rfl (Nat.le_of_ble_eq_true rfl) dX2_sheet_120 (fun r_77 hb_r_77 h => ?_)
                refine jw_if_eq F (rg01 hb_r_77) (tgt := 130) dX2_sheet_123 (by decide) (fun c => ?_) (fun c => ?_)
                · have h := h.1 (c)
                  refine jw_sub F (lv' := [(0, .ref (ad 0)), (1, .int (iI a1)), (2, .long (lI a2)), (4, .int (iI a3)), (7, .int (iI x7_16))]) [0, 1, 2, 3, 5] rfl ?_
                  exact j_74 h
                · have h := h.2 (c)
                  refine jw_iconst F dX2_sheet_126 ?_
                  refine jw_goto F (tgt := 131) dX2_sheet_127 (by decide) ?_
                  refine jw_sub F (lv' := [(0, .ref (ad 0)), (1, .int (iI a1)), (2, .long (lI a2)), (4, .int (iI a3)), (7, .int (iI x7_16))]) [0, 1, 2, 3, 5] rfl ?_
                  exact j_72 _ h
      · have h := h.2 (c)
        refine jw_bipush F (z := (-102)) dX2_sheet_87 (by decide) ?_
        exact rt _ _ _ _ dX2_sheet_89 h
    · refine jw_icmp_ge F o_11 (by decide) (tgt := 82) dX2_sheet_39 (by decide) (fun c => ?_) (fun c => ?_)
      · have h := h.1 (c)
        refine jw_sub F (lv' := [(0, .ref (ad 0)), (1, .int (iI a1)), (2, .long (lI a2)), (4, .int (iI a3)), (5, .int (iI x5_7))]) [0, 1, 2, 3, 4] rfl ?_
        exact j_13 h
      · have h := h.2 (c)
        refine jw_iload F 4 dX2_sheet_42 rfl ?_
        obtain ⟨o_79, h⟩ := h
        refine jw_if_eq F o_79 (tgt := 82) dX2_sheet_44 (by decide) (fun c => ?_) (fun c => ?_)
        · have h := h.1 (c)
          refine jw_sub F (lv' := [(0, .ref (ad 0)), (1, .int (iI a1)), (2, .long (lI a2)), (4, .int (iI a3)), (5, .int (iI x5_7))]) [0, 1, 2, 3, 4] rfl ?_
          exact j_13 h
        · have h := h.2 (c)
          refine jw_iload F 5 dX2_sheet_47 rfl ?_
          refine jw_iload_n F 1 dX2_sheet_49 rfl rfl ?_
          obtain ⟨o_80, h⟩ := h
          obtain ⟨o_81, h⟩ := h
          refine jn1_r (fun v_82 => G s 74 [(0, .ref (ad 0)), (1, .int (iI a1)), (2, .long (lI a2)), (4, .int (iI a3)), (6, .int (iI x6_8))] [.int (iI v_82)]) h (fun v_82 h => ?_) (fun K_83 h j_84 => ?_)
          · refine jw_istore F (lv' := [(0, .ref (ad 0)), (1, .int (iI a1)), (2, .long (lI a2)), (4, .int (iI a3)), (5, .int (iI v_82)), (6, .int (iI x6_8))]) [1, 2, 3, 4, 0, 5] dX2_sheet_74 (by decide) rfl ?_
            refine jw_iinc F (lv' := [(0, .ref (ad 0)), (1, .int (iI a1)), (2, .long (lI a2)), (4, .int (iI a3)), (5, .int (iI v_82)), (6, .int (iI (x6_8 + 1)))]) 5 [1, 2, 3, 4, 5, 0] dX2_sheet_76 rfl (by decide) rfl ?_
            refine jw_goto F (tgt := 35) dX2_sheet_79 (by decide) ?_
            exact ih_10 _ _ h
          · refine jn0_r (G s 69 [(0, .ref (ad 0)), (1, .int (iI a1)), (2, .long (lI a2)), (4, .int (iI a3)), (6, .int (iI x6_8))] []) h (fun h => ?_) (fun K_85 h j_86 => ?_)
            · refine jw_iconst F dX2_sheet_69 ?_
              refine jw_goto F (tgt := 74) dX2_sheet_70 (by decide) ?_
              exact j_84 _ h
            · refine jw_icmp_lt F o_80 o_81 (tgt := 69) dX2_sheet_50 (by decide) (fun c => ?_) (fun c => ?_)
              · have h := h.1 (c)
                refine jw_sub F (lv' := [(0, .ref (ad 0)), (1, .int (iI a1)), (2, .long (lI a2)), (4, .int (iI a3)), (6, .int (iI x6_8))]) [0, 1, 2, 3, 5] rfl ?_
                exact j_86 h
              · have h := h.2 (c)
                refine jw_lload_n F 2 dX2_sheet_53 rfl rfl ?_
                refine jw_bipush F (z := 8) dX2_sheet_54 (by decide) ?_
                refine jw_iload F 5 dX2_sheet_56 rfl ?_
                refine jw_imul F dX2_sheet_58 ?_
                obtain ⟨o_87, o_88, h⟩ := h
                refine jw_lushr F o_87 o_88 dX2_sheet_59 ?_
                refine jw_ldc2 F (z := 255) q946 dX2_sheet_60 ?_
                refine jw_lmask F 8 (by decide) (by decide) dX2_sheet_63 ?_
                refine jw_lconst F (z := 0) dX2_sheet_64 (by decide) ?_
                obtain ⟨o_89, h⟩ := h
                refine jw_lcmp F o_89 (by decide) dX2_sheet_65 ?_
                refine jw_if_ne F (cmpI_rg _ _) (tgt := 73) dX2_sheet_66 (by decide) (fun c => ?_) (fun c => ?_)
                · have h := h.1 (fun z => c (cmpI_0.mpr z))
                  refine jw_iconst F dX2_sheet_73 ?_
                  refine jw_sub F (lv' := [(0, .ref (ad 0)), (1, .int (iI a1)), (2, .long (lI a2)), (4, .int (iI a3)), (6, .int (iI x6_8))]) [0, 1, 2, 3, 5] rfl ?_
                  exact j_84 _ h
                · have h := h.2 (cmpI_0.mp c)
                  refine jw_sub F (lv' := [(0, .ref (ad 0)), (1, .int (iI a1)), (2, .long (lI a2)), (4, .int (iI a3)), (6, .int (iI x6_8))]) [0, 1, 2, 3, 5] rfl ?_
                  exact j_86 h
  · refine jn0_r (G s 29 [(0, .ref (ad 0)), (1, .int (iI a1)), (2, .long (lI a2)), (4, .int (iI a3))] []) h (fun h => ?_) (fun K_90 h j_91 => ?_)
    · refine jw_iconst F dX2_sheet_29 ?_
      exact j_6 _ h
    · refine jw_if_eq F (rg01 hb_r_2) (tgt := 29) dX2_sheet_9 (by decide) (fun c => ?_) (fun c => ?_)
      · have h := h.1 (c)
        exact j_91 h
      · have h := h.2 (c)
        refine jw_iload F 3 dX2_sheet_12 rfl ?_
        obtain ⟨o_92, h⟩ := h
        refine jw_i2l F o_92 dX2_sheet_14 ?_
        refine jw_lconst F (z := 0) dX2_sheet_15 (by decide) ?_
        refine jw_ldc2 F (z := 6) q1077 dX2_sheet_16 ?_
        refine jw_callSzp F (wk_X2_in h) (lw_S q965 q966 q77 q967) hd_X2_in ⟨rfl, rfl, Nat.le_of_ble_eq_true rfl, Nat.le_of_ble_eq_true rfl⟩ rfl rfl (Nat.le_of_ble_eq_true rfl) dX2_sheet_19 (fun r_93 hb_r_93 h => ?_)
        refine jw_if_eq F (rg01 hb_r_93) (tgt := 29) dX2_sheet_22 (by decide) (fun c => ?_) (fun c => ?_)
        · have h := h.1 (c)
          exact j_91 h
        · have h := h.2 (c)
          refine jw_iconst F dX2_sheet_25 ?_
          refine jw_goto F (tgt := 30) dX2_sheet_26 (by decide) ?_
          exact j_6 _ h
theorem hd_X2_isReading : yX2_isReading.cls = RX2 ∧ yX2_isReading.cls ≠ "java/lang/invoke/MethodHandle" ∧ yX2_isReading.cls ≠ "java/lang/invoke/VarHandle" ∧ (parseMethodDescriptor yX2_isReading.desc).map (fun d => d.parameters.length) = some 1 := by decide +kernel
set_option maxHeartbeats 4000000 in
set_option maxRecDepth 100000 in
theorem wk_X2_isReading {l : Launch} {D : va_G} {dA : Nat → ClassId} {ad : Nat → Nat} {s : Sg} {a1 : Int} {Q : Int → Prop} (h : wp_X2_isReading a1 s Q) : MXi l D dA (mwf dA ad) yX2_isReading cX2_isReading 7 .boolean ({ frames := 2, cells := 0, slots := 0, locals := 43 } : Room) [.ref (ad 0), .int (iI a1)] s (fun z s' => (z = 0 ∨ z = 1) ∧ s' = s ∧ Q z) := by
  unfold wp_X2_isReading at h
  refine jw_start_z (own := RX2) (lv0 := [(0, .ref (ad 0)), (1, .int (iI a1))]) (by decide) rfl (Nat.le_of_ble_eq_true rfl) rfl (fun G F rt => ?_)
  refine jw_iconst F dX2_isReading_0 ?_
  refine jw_istore_n F (lv' := [(0, .ref (ad 0)), (1, .int (iI a1)), (2, .int (iI 1))]) [1, 2, 0] dX2_isReading_1 rfl (by decide) rfl ?_
  refine jw_iconst F dX2_isReading_2 ?_
  refine jw_istore_n F (lv' := [(0, .ref (ad 0)), (1, .int (iI a1)), (2, .int (iI 1)), (3, .int (iI 0))]) [1, 2, 3, 0] dX2_isReading_3 rfl (by decide) rfl ?_
  refine lp2_r (fun x2_1 x3_2 => G s 4 [(0, .ref (ad 0)), (1, .int (iI a1)), (2, .int (iI x2_1)), (3, .int (iI x3_2))] []) h (fun x2_1 x3_2 K_3 h ih_4 => ?_)
  refine jw_iload_n F 3 dX2_isReading_4 rfl rfl ?_
  refine jw_aload_n F 0 dX2_isReading_5 rfl rfl ?_
  refine gx_X2_182_0 F dX2_isReading_6 ?_
  obtain ⟨o_5, h⟩ := h
  obtain ⟨o_6, h⟩ := h
  refine jw_icmp_ge F o_5 o_6 (tgt := 50) dX2_isReading_9 (by decide) (fun c => ?_) (fun c => ?_)
  · have h := h.1 (c)
    refine jw_iconst F dX2_isReading_50 ?_
    refine jw_istore_n F (lv' := [(0, .ref (ad 0)), (1, .int (iI a1)), (2, .int (iI x2_1)), (3, .int (iI 0))]) [1, 2, 3, 0] dX2_isReading_51 rfl (by decide) rfl ?_
    refine lp2_r (fun x2_7 x3_8 => G s 52 [(0, .ref (ad 0)), (1, .int (iI a1)), (2, .int (iI x2_7)), (3, .int (iI x3_8))] []) h (fun x2_7 x3_8 K_9 h ih_10 => ?_)
    refine jw_iload_n F 3 dX2_isReading_52 rfl rfl ?_
    refine jw_aload_n F 0 dX2_isReading_53 rfl rfl ?_
    refine gx_X2_130_0 F dX2_isReading_54 ?_
    obtain ⟨o_11, h⟩ := h
    obtain ⟨o_12, h⟩ := h
    refine jw_icmp_ge F o_11 o_12 (tgt := 185) dX2_isReading_57 (by decide) (fun c => ?_) (fun c => ?_)
    · have h := h.1 (c)
      refine jw_iload_n F 2 dX2_isReading_185 rfl rfl ?_
      obtain ⟨o_13, h⟩ := h
      exact rt _ _ _ _ dX2_isReading_186 o_13 ⟨o_13, rfl, h⟩
    · have h := h.2 (c)
      refine jw_iload_n F 2 dX2_isReading_60 rfl rfl ?_
      obtain ⟨o_14, h⟩ := h
      refine jw_if_eq F o_14 (tgt := 185) dX2_isReading_61 (by decide) (fun c => ?_) (fun c => ?_)
      · have h := h.1 (c)
        refine jw_iload_n F 2 dX2_isReading_185 rfl rfl ?_
        obtain ⟨o_15, h⟩ := h
        exact rt _ _ _ _ dX2_isReading_186 o_15 ⟨o_15, rfl, h⟩
      · have h := h.2 (c)
        refine jw_iconst F dX2_isReading_64 ?_
        refine jw_istore F (lv' := [(0, .ref (ad 0)), (1, .int (iI a1)), (2, .int (iI x2_7)), (3, .int (iI x3_8)), (4, .int (iI 0))]) [1, 2, 3, 4, 0] dX2_isReading_65 (by decide) rfl ?_
        refine jw_iconst F dX2_isReading_67 ?_
        refine jw_istore F (lv' := [(0, .ref (ad 0)), (1, .int (iI a1)), (2, .int (iI x2_7)), (3, .int (iI x3_8)), (4, .int (iI 0)), (5, .int (iI 0))]) [1, 2, 3, 4, 5, 0] dX2_isReading_68 (by decide) rfl ?_
        refine jw_sub F (lv' := [(0, .ref (ad 0)), (1, .int (iI a1)), (3, .int (iI x3_8)), (4, .int (iI 0)), (5, .int (iI 0))]) [0, 1, 3, 4, 5] rfl ?_
        refine lp2_r (fun x4_16 x5_17 => G s 70 [(0, .ref (ad 0)), (1, .int (iI a1)), (3, .int (iI x3_8)), (4, .int (iI x4_16)), (5, .int (iI x5_17))] []) h (fun x4_16 x5_17 K_18 h ih_19 => ?_)
        refine jw_iload F 4 dX2_isReading_70 rfl ?_
        refine jw_aload_n F 0 dX2_isReading_72 rfl rfl ?_
        refine gx_X2_31_0 F dX2_isReading_73 ?_
        refine jw_bipush F (z := 8) dX2_isReading_76 (by decide) ?_
        refine jw_iload_n F 2 dX2_isReading_78 rfl rfl ?_
        refine jw_imul F dX2_isReading_79 ?_
        obtain ⟨o_20, o_21, h⟩ := h
        refine jw_iald F (mO dA ad) (k := 8) (by decide) (ma_8 dA ad) 0 rfl (by decide) o_20 o_21 dX2_isReading_80 ?_
        obtain ⟨o_22, h⟩ := h
        obtain ⟨o_23, h⟩ := h
        refine jw_icmp_ge F o_22 o_23 (tgt := 120) dX2_isReading_81 (by decide) (fun c => ?_) (fun c => ?_)
        · have h := h.1 (c)
          refine jw_iconst F dX2_isReading_120 ?_
          refine jw_istore F (lv' := [(0, .ref (ad 0)), (1, .int (iI a1)), (3, .int (iI x3_8)), (4, .int (iI x4_16)), (5, .int (iI 0))]) [1, 2, 3, 4, 0] dX2_isReading_121 (by decide) rfl ?_
          refine jw_iconst F dX2_isReading_123 ?_
          refine jw_istore F (lv' := [(0, .ref (ad 0)), (1, .int (iI a1)), (3, .int (iI x3_8)), (4, .int (iI x4_16)), (5, .int (iI 0)), (6, .int (iI 0))]) [1, 2, 3, 4, 5, 0] dX2_isReading_124 (by decide) rfl ?_
          refine lp2_r (fun x5_24 x6_25 => G s 126 [(0, .ref (ad 0)), (1, .int (iI a1)), (3, .int (iI x3_8)), (4, .int (iI x4_16)), (5, .int (iI x5_24)), (6, .int (iI x6_25))] []) h (fun x5_24 x6_25 K_26 h ih_27 => ?_)
          refine jw_iload F 5 dX2_isReading_126 rfl ?_
          refine jw_bipush F (z := 12) dX2_isReading_128 (by decide) ?_
          obtain ⟨o_28, h⟩ := h
          refine jw_icmp_ge F o_28 (by decide) (tgt := 156) dX2_isReading_130 (by decide) (fun c => ?_) (fun c => ?_)
          · have h := h.1 (c)
            refine jw_iload F 4 dX2_isReading_156 rfl ?_
            refine jw_aload_n F 0 dX2_isReading_158 rfl rfl ?_
            refine gx_X2_31_0 F dX2_isReading_159 ?_
            refine jw_bipush F (z := 8) dX2_isReading_162 (by decide) ?_
            refine jw_iload_n F 2 dX2_isReading_164 rfl rfl ?_
            refine jw_imul F dX2_isReading_165 ?_
            refine jw_bipush F (z := 7) dX2_isReading_166 (by decide) ?_
            refine jw_iadd F dX2_isReading_168 ?_
            obtain ⟨o_29, o_30, h⟩ := h
            refine jw_iald F (mO dA ad) (k := 8) (by decide) (ma_8 dA ad) 0 rfl (by decide) o_29 o_30 dX2_isReading_169 ?_
            obtain ⟨o_31, h⟩ := h
            obtain ⟨o_32, h⟩ := h
            refine jn1_r (fun v_33 => G s 178 [(0, .ref (ad 0)), (1, .int (iI a1)), (3, .int (iI x3_8))] [.int (iI v_33)]) h (fun v_33 h => ?_) (fun K_34 h j_35 => ?_)
            · refine jw_istore_n F (lv' := [(0, .ref (ad 0)), (1, .int (iI a1)), (2, .int (iI v_33)), (3, .int (iI x3_8))]) [1, 2, 0, 3] dX2_isReading_178 rfl (by decide) rfl ?_
              refine jw_iinc F (lv' := [(0, .ref (ad 0)), (1, .int (iI a1)), (2, .int (iI v_33)), (3, .int (iI (x3_8 + 1)))]) 3 [1, 2, 3, 0] dX2_isReading_179 rfl (by decide) rfl ?_
              refine jw_goto F (tgt := 52) dX2_isReading_182 (by decide) ?_
              exact ih_10 _ _ h
            · refine jw_icmp_ne F o_31 o_32 (tgt := 177) dX2_isReading_170 (by decide) (fun c => ?_) (fun c => ?_)
              · have h := h.1 (c)
                refine jw_iconst F dX2_isReading_177 ?_
                refine jw_sub F (lv' := [(0, .ref (ad 0)), (1, .int (iI a1)), (3, .int (iI x3_8))]) [0, 1, 2] rfl ?_
                exact j_35 _ h
              · have h := h.2 (c)
                refine jw_iconst F dX2_isReading_173 ?_
                refine jw_goto F (tgt := 178) dX2_isReading_174 (by decide) ?_
                refine jw_sub F (lv' := [(0, .ref (ad 0)), (1, .int (iI a1)), (3, .int (iI x3_8))]) [0, 1, 2] rfl ?_
                exact j_35 _ h
          · have h := h.2 (c)
            refine jw_iload F 4 dX2_isReading_133 rfl ?_
            refine jw_iload F 3 dX2_isReading_135 rfl ?_
            refine jw_iload F 5 dX2_isReading_137 rfl ?_
            obtain ⟨o_36, h⟩ := h
            obtain ⟨o_37, o_38, h⟩ := h
            refine jw_ishr F o_36 o_37 o_38 dX2_isReading_139 ?_
            refine jw_iload_n F 1 dX2_isReading_140 rfl rfl ?_
            refine jw_iload F 5 dX2_isReading_141 rfl ?_
            obtain ⟨o_39, h⟩ := h
            obtain ⟨o_40, o_41, h⟩ := h
            refine jw_ishr F o_39 o_40 o_41 dX2_isReading_143 ?_
            obtain ⟨o_42, h⟩ := h
            obtain ⟨o_43, h⟩ := h
            refine jw_iand F o_42 o_43 dX2_isReading_144 ?_
            refine jw_iconst F dX2_isReading_145 ?_
            obtain ⟨o_44, h⟩ := h
            refine jw_iand F o_44 (by decide) dX2_isReading_146 ?_
            refine jw_iadd F dX2_isReading_147 ?_
            refine jw_istore F (lv' := [(0, .ref (ad 0)), (1, .int (iI a1)), (3, .int (iI x3_8)), (4, .int (iI x4_16)), (5, .int (iI (x5_24 + (band (band (x4_16 / 2 ^ (x6_25 : Int).toNat) (a1 / 2 ^ (x6_25 : Int).toNat)) 1)))), (6, .int (iI x6_25))]) [1, 2, 3, 4, 0, 5] dX2_isReading_148 (by decide) rfl ?_
            refine jw_iinc F (lv' := [(0, .ref (ad 0)), (1, .int (iI a1)), (3, .int (iI x3_8)), (4, .int (iI x4_16)), (5, .int (iI (x5_24 + (band (band (x4_16 / 2 ^ (x6_25 : Int).toNat) (a1 / 2 ^ (x6_25 : Int).toNat)) 1)))), (6, .int (iI (x6_25 + 1)))]) 5 [1, 2, 3, 4, 5, 0] dX2_isReading_150 rfl (by decide) rfl ?_
            refine jw_goto F (tgt := 126) dX2_isReading_153 (by decide) ?_
            exact ih_27 _ _ h
        · have h := h.2 (c)
          refine jw_iload F 3 dX2_isReading_84 rfl ?_
          refine jw_iconst F dX2_isReading_86 ?_
          refine jw_aload_n F 0 dX2_isReading_87 rfl rfl ?_
          refine jw_aload_n F 0 dX2_isReading_88 rfl rfl ?_
          refine gx_X2_22_0 F dX2_isReading_89 ?_
          refine jw_aload_n F 0 dX2_isReading_92 rfl rfl ?_
          refine gx_X2_31_0 F dX2_isReading_93 ?_
          refine jw_bipush F (z := 8) dX2_isReading_96 (by decide) ?_
          refine jw_iload_n F 2 dX2_isReading_98 rfl rfl ?_
          refine jw_imul F dX2_isReading_99 ?_
          refine jw_iconst F dX2_isReading_100 ?_
          refine jw_iadd F dX2_isReading_101 ?_
          refine jw_iload F 4 dX2_isReading_102 rfl ?_
          refine jw_iadd F dX2_isReading_104 ?_
          obtain ⟨o_45, o_46, h⟩ := h
          refine jw_iald F (mO dA ad) (k := 8) (by decide) (ma_8 dA ad) 0 rfl (by decide) o_45 o_46 dX2_isReading_105 ?_
          obtain ⟨o_47, o_48, h⟩ := h
          refine jw_iald F (mO dA ad) (k := 5) (by decide) (ma_5 dA ad) 0 rfl (by decide) o_47 o_48 dX2_isReading_106 ?_
          refine jw_callVip F (wk_X2_placeOf h) (lw_V q1086 q1088 qs56 q77 q1089) hd_X2_placeOf ⟨rfl, rfl, Nat.le_of_ble_eq_true rfl, Nat.le_of_ble_eq_true rfl⟩ rfl rfl (mh_0 dA ad _) rfl rfl rfl (Nat.le_of_ble_eq_true rfl) dX2_isReading_107 (fun r_49 h => ?_)
          obtain ⟨o_51, o_52, h⟩ := h
          refine jw_ishl F o_51 o_52 dX2_isReading_110 ?_
          obtain ⟨o_53, h⟩ := h
          obtain ⟨o_54, h⟩ := h
          refine jw_ior F o_53 o_54 dX2_isReading_111 ?_
          refine jw_istore F (lv' := [(0, .ref (ad 0)), (1, .int (iI a1)), (3, .int (iI x3_8)), (4, .int (iI (bor x4_16 ((1 : Int) * 2 ^ (r_49 : Int).toNat)))), (5, .int (iI x5_17))]) [1, 2, 3, 0, 4] dX2_isReading_112 (by decide) rfl ?_
          refine jw_iinc F (lv' := [(0, .ref (ad 0)), (1, .int (iI a1)), (3, .int (iI x3_8)), (4, .int (iI (bor x4_16 ((1 : Int) * 2 ^ (r_49 : Int).toNat)))), (5, .int (iI (x5_17 + 1)))]) 4 [1, 2, 3, 4, 0] dX2_isReading_114 rfl (by decide) rfl ?_
          refine jw_goto F (tgt := 70) dX2_isReading_117 (by decide) ?_
          exact ih_19 _ _ h
  · have h := h.2 (c)
    refine jw_iload_n F 2 dX2_isReading_12 rfl rfl ?_
    obtain ⟨o_55, h⟩ := h
    refine jn1_r (fun v_56 => G s 43 [(0, .ref (ad 0)), (1, .int (iI a1)), (3, .int (iI x3_2))] [.int (iI v_56)]) h (fun v_56 h => ?_) (fun K_57 h j_58 => ?_)
    · refine jw_istore_n F (lv' := [(0, .ref (ad 0)), (1, .int (iI a1)), (2, .int (iI v_56)), (3, .int (iI x3_2))]) [1, 2, 0, 3] dX2_isReading_43 rfl (by decide) rfl ?_
      refine jw_iinc F (lv' := [(0, .ref (ad 0)), (1, .int (iI a1)), (2, .int (iI v_56)), (3, .int (iI (x3_2 + 1)))]) 3 [1, 2, 3, 0] dX2_isReading_44 rfl (by decide) rfl ?_
      refine jw_goto F (tgt := 4) dX2_isReading_47 (by decide) ?_
      exact ih_4 _ _ h
    · refine jn0_r (G s 42 [(0, .ref (ad 0)), (1, .int (iI a1)), (3, .int (iI x3_2))] []) h (fun h => ?_) (fun K_59 h j_60 => ?_)
      · refine jw_iconst F dX2_isReading_42 ?_
        exact j_58 _ h
      · refine jw_if_eq F o_55 (tgt := 42) dX2_isReading_13 (by decide) (fun c => ?_) (fun c => ?_)
        · have h := h.1 (c)
          refine jw_sub F (lv' := [(0, .ref (ad 0)), (1, .int (iI a1)), (3, .int (iI x3_2))]) [0, 1, 3] rfl ?_
          exact j_60 h
        · have h := h.2 (c)
          refine jw_aload_n F 0 dX2_isReading_16 rfl rfl ?_
          refine jw_aload_n F 0 dX2_isReading_17 rfl rfl ?_
          refine gx_X2_41_0 F dX2_isReading_18 ?_
          refine jw_iload_n F 3 dX2_isReading_21 rfl rfl ?_
          obtain ⟨o_61, o_62, h⟩ := h
          refine jw_iald F (mO dA ad) (k := 11) (by decide) (ma_11 dA ad) 0 rfl (by decide) o_61 o_62 dX2_isReading_22 ?_
          refine jw_callVzp F (wk_X2_isLeft h) (lw_V q1024 q1026 qs50 q77 q1027) hd_X2_isLeft ⟨rfl, rfl, Nat.le_of_ble_eq_true rfl, Nat.le_of_ble_eq_true rfl⟩ rfl rfl (mh_0 dA ad _) rfl rfl rfl (Nat.le_of_ble_eq_true rfl) dX2_isReading_23 (fun r_63 hb_r_63 h => ?_)
          refine jn0_r (G s 38 [(0, .ref (ad 0)), (1, .int (iI a1)), (3, .int (iI x3_2))] []) h (fun h => ?_) (fun K_65 h j_66 => ?_)
          · refine jw_iconst F dX2_isReading_38 ?_
            refine jw_goto F (tgt := 43) dX2_isReading_39 (by decide) ?_
            exact j_58 _ h
          · refine jw_if_ne F (rg01 hb_r_63) (tgt := 38) dX2_isReading_26 (by decide) (fun c => ?_) (fun c => ?_)
            · have h := h.1 (c)
              refine jw_sub F (lv' := [(0, .ref (ad 0)), (1, .int (iI a1)), (3, .int (iI x3_2))]) [0, 1, 3] rfl ?_
              exact j_66 h
            · have h := h.2 (c)
              refine jw_iload_n F 1 dX2_isReading_29 rfl rfl ?_
              refine jw_iload_n F 3 dX2_isReading_30 rfl rfl ?_
              obtain ⟨o_67, h⟩ := h
              obtain ⟨o_68, o_69, h⟩ := h
              refine jw_ishr F o_67 o_68 o_69 dX2_isReading_31 ?_
              refine jw_iconst F dX2_isReading_32 ?_
              obtain ⟨o_70, h⟩ := h
              refine jw_iand F o_70 (by decide) dX2_isReading_33 ?_
              refine jw_iconst F dX2_isReading_34 ?_
              obtain ⟨o_71, h⟩ := h
              refine jw_icmp_ne F o_71 (by decide) (tgt := 42) dX2_isReading_35 (by decide) (fun c => ?_) (fun c => ?_)
              · have h := h.1 (c)
                refine jw_sub F (lv' := [(0, .ref (ad 0)), (1, .int (iI a1)), (3, .int (iI x3_2))]) [0, 1, 3] rfl ?_
                exact j_60 h
              · have h := h.2 (c)
                refine jw_sub F (lv' := [(0, .ref (ad 0)), (1, .int (iI a1)), (3, .int (iI x3_2))]) [0, 1, 3] rfl ?_
                exact j_66 h
theorem hd_X2_layReadings : yX2_layReadings.cls = RX2 ∧ yX2_layReadings.cls ≠ "java/lang/invoke/MethodHandle" ∧ yX2_layReadings.cls ≠ "java/lang/invoke/VarHandle" ∧ (parseMethodDescriptor yX2_layReadings.desc).map (fun d => d.parameters.length) = some 0 := by decide +kernel
set_option maxHeartbeats 4000000 in
set_option maxRecDepth 100000 in
theorem wk_X2_layReadings {l : Launch} {D : va_G} {dA : Nat → ClassId} {ad : Nat → Nat} {s : Sg} {Q : Sg → Prop} (h : wp_X2_layReadings s Q) : MXv l D dA (mwf dA ad) yX2_layReadings cX2_layReadings 3 ({ frames := 3, cells := 0, slots := 0, locals := 69 } : Room) [.ref (ad 0)] s Q := by
  unfold wp_X2_layReadings at h
  refine jw_start_v (own := RX2) (lv0 := [(0, .ref (ad 0))]) (by decide) rfl (Nat.le_of_ble_eq_true rfl) rfl (fun G F rt => ?_)
  refine jw_aload_n F 0 dX2_layReadings_0 rfl rfl ?_
  refine jw_callVv F (wk_X2_layTold h) (lw_V q1078 q1080 qs54 q77 q1081) hd_X2_layTold ⟨rfl, rfl, Nat.le_of_ble_eq_true rfl, Nat.le_of_ble_eq_true rfl⟩ rfl rfl (mh_0 dA ad _) rfl rfl rfl (Nat.le_of_ble_eq_true rfl) dX2_layReadings_1 (fun s_2 hz => ?_)
  have h := hz
  refine jw_aload_n F 0 dX2_layReadings_4 rfl rfl ?_
  refine jw_iconst F dX2_layReadings_5 ?_
  refine pgx_X2_197_0 F dX2_layReadings_6 ?_
  refine jw_iconst F dX2_layReadings_9 ?_
  refine jw_istore_n F (lv' := [(0, .ref (ad 0)), (1, .int (iI 0))]) [1, 0] dX2_layReadings_10 rfl (by decide) rfl ?_
  refine lp2_r (fun x1_3 s_4 => G s_4 11 [(0, .ref (ad 0)), (1, .int (iI x1_3))] []) h (fun x1_3 s_4 K_5 h ih_6 => ?_)
  refine jw_iload_n F 1 dX2_layReadings_11 rfl rfl ?_
  refine jw_bipush F (z := 12) dX2_layReadings_12 (by decide) ?_
  obtain ⟨o_7, h⟩ := h
  refine jw_icmp_ge F o_7 (by decide) (tgt := 30) dX2_layReadings_14 (by decide) (fun c => ?_) (fun c => ?_)
  · have h := h.1 (c)
    refine jw_iconst F dX2_layReadings_30 ?_
    refine jw_istore_n F (lv' := [(0, .ref (ad 0)), (1, .int (iI 0))]) [1, 0] dX2_layReadings_31 rfl (by decide) rfl ?_
    refine lp2_r (fun x1_8 s_9 => G s_9 32 [(0, .ref (ad 0)), (1, .int (iI x1_8))] []) h (fun x1_8 s_9 K_10 h ih_11 => ?_)
    refine jw_iload_n F 1 dX2_layReadings_32 rfl rfl ?_
    refine jw_iconst F dX2_layReadings_33 ?_
    refine jw_aload_n F 0 dX2_layReadings_34 rfl rfl ?_
    refine gx_X2_182_0 F dX2_layReadings_35 ?_
    obtain ⟨o_12, o_13, h⟩ := h
    refine jw_ishl F o_12 o_13 dX2_layReadings_38 ?_
    obtain ⟨o_14, h⟩ := h
    obtain ⟨o_15, h⟩ := h
    refine jw_icmp_ge F o_14 o_15 (tgt := 104) dX2_layReadings_39 (by decide) (fun c => ?_) (fun c => ?_)
    · have h := h.1 (c)
      exact rt _ _ _ dX2_layReadings_104 h
    · have h := h.2 (c)
      refine jw_aload_n F 0 dX2_layReadings_42 rfl rfl ?_
      refine jw_iload_n F 1 dX2_layReadings_43 rfl rfl ?_
      refine jw_callVzp F (wk_X2_isReading h) (lw_V q1098 q1100 qs58 q77 q1101) hd_X2_isReading ⟨rfl, rfl, Nat.le_of_ble_eq_true rfl, Nat.le_of_ble_eq_true rfl⟩ rfl rfl (mh_0 dA ad _) rfl rfl rfl (Nat.le_of_ble_eq_true rfl) dX2_layReadings_44 (fun r_16 hb_r_16 h => ?_)
      refine jn1_r (fun s_18 => G s_18 98 [(0, .ref (ad 0)), (1, .int (iI x1_8))] []) h (fun s_18 h => ?_) (fun K_19 h j_20 => ?_)
      · refine jw_iinc F (lv' := [(0, .ref (ad 0)), (1, .int (iI (x1_8 + 1)))]) 1 [1, 0] dX2_layReadings_98 rfl (by decide) rfl ?_
        refine jw_goto F (tgt := 32) dX2_layReadings_101 (by decide) ?_
        exact ih_11 _ _ h
      · refine jw_if_eq F (rg01 hb_r_16) (tgt := 98) dX2_layReadings_47 (by decide) (fun c => ?_) (fun c => ?_)
        · have h := h.1 (c)
          exact j_20 _ h
        · have h := h.2 (c)
          refine jw_aload_n F 0 dX2_layReadings_50 rfl rfl ?_
          refine jw_dup F rfl dX2_layReadings_51 ?_
          refine gx_X2_197_0 F dX2_layReadings_52 ?_
          refine jw_iconst F dX2_layReadings_55 ?_
          refine jw_iadd F dX2_layReadings_56 ?_
          refine pgx_X2_197_0 F dX2_layReadings_57 ?_
          refine jw_iconst F dX2_layReadings_60 ?_
          refine jw_istore_n F (lv' := [(0, .ref (ad 0)), (1, .int (iI x1_8)), (2, .int (iI 0))]) [1, 2, 0] dX2_layReadings_61 rfl (by decide) rfl ?_
          refine lp2_r (fun x2_21 s_22 => G s_22 62 [(0, .ref (ad 0)), (1, .int (iI x1_8)), (2, .int (iI x2_21))] []) h (fun x2_21 s_22 K_23 h ih_24 => ?_)
          refine jw_iload_n F 2 dX2_layReadings_62 rfl rfl ?_
          refine jw_aload_n F 0 dX2_layReadings_63 rfl rfl ?_
          refine gx_X2_182_0 F dX2_layReadings_64 ?_
          obtain ⟨o_25, h⟩ := h
          obtain ⟨o_26, h⟩ := h
          refine jw_icmp_ge F o_25 o_26 (tgt := 98) dX2_layReadings_67 (by decide) (fun c => ?_) (fun c => ?_)
          · have h := h.1 (c)
            refine jw_sub F (lv' := [(0, .ref (ad 0)), (1, .int (iI x1_8))]) [0, 1] rfl ?_
            exact j_20 _ h
          · have h := h.2 (c)
            refine jw_aload_n F 0 dX2_layReadings_70 rfl rfl ?_
            refine gx_X2_44_0 F dX2_layReadings_71 ?_
            refine jw_iload_n F 2 dX2_layReadings_74 rfl rfl ?_
            refine jw_dup2 F rfl rfl dX2_layReadings_75 ?_
            obtain ⟨o_27, o_28, h⟩ := h
            refine jw_iald F (mO dA ad) (k := 12) (by decide) (ma_12 dA ad) 0 rfl (by decide) o_27 o_28 dX2_layReadings_76 ?_
            refine jw_iload_n F 1 dX2_layReadings_77 rfl rfl ?_
            refine jw_iload_n F 2 dX2_layReadings_78 rfl rfl ?_
            obtain ⟨o_29, h⟩ := h
            obtain ⟨o_30, o_31, h⟩ := h
            refine jw_ishr F o_29 o_30 o_31 dX2_layReadings_79 ?_
            refine jw_iconst F dX2_layReadings_80 ?_
            obtain ⟨o_32, h⟩ := h
            refine jw_iand F o_32 (by decide) dX2_layReadings_81 ?_
            obtain ⟨o_33, h⟩ := h
            refine jn1_r (fun v_34 => G s_22 90 [(0, .ref (ad 0)), (1, .int (iI x1_8)), (2, .int (iI x2_21))] [.int (iI v_34), .int (iI (s_22 12 x2_21)), .int (iI x2_21), .ref (ad 12)]) h (fun v_34 h => ?_) (fun K_35 h j_36 => ?_)
            · refine jw_iadd F dX2_layReadings_90 ?_
              obtain ⟨o_37, o_38, h⟩ := h
              refine jw_iast F (mO dA ad) (k := 12) (by decide) (ma_12 dA ad) 0 rfl (by decide) o_37 o_38 dX2_layReadings_91 ?_
              refine jw_iinc F (lv' := [(0, .ref (ad 0)), (1, .int (iI x1_8)), (2, .int (iI (x2_21 + 1)))]) 2 [1, 2, 0] dX2_layReadings_92 rfl (by decide) rfl ?_
              refine jw_goto F (tgt := 62) dX2_layReadings_95 (by decide) ?_
              exact ih_24 _ _ h
            · refine jw_if_ne F o_33 (tgt := 89) dX2_layReadings_82 (by decide) (fun c => ?_) (fun c => ?_)
              · have h := h.1 (c)
                refine jw_iconst F dX2_layReadings_89 ?_
                exact j_36 _ h
              · have h := h.2 (c)
                refine jw_iconst F dX2_layReadings_85 ?_
                refine jw_goto F (tgt := 90) dX2_layReadings_86 (by decide) ?_
                exact j_36 _ h
  · have h := h.2 (c)
    refine jw_aload_n F 0 dX2_layReadings_17 rfl rfl ?_
    refine gx_X2_44_0 F dX2_layReadings_18 ?_
    refine jw_iload_n F 1 dX2_layReadings_21 rfl rfl ?_
    refine jw_iconst F dX2_layReadings_22 ?_
    obtain ⟨o_39, o_40, h⟩ := h
    refine jw_iast F (mO dA ad) (k := 12) (by decide) (ma_12 dA ad) 0 rfl (by decide) o_39 o_40 dX2_layReadings_23 ?_
    refine jw_iinc F (lv' := [(0, .ref (ad 0)), (1, .int (iI (x1_3 + 1)))]) 1 [1, 0] dX2_layReadings_24 rfl (by decide) rfl ?_
    refine jw_goto F (tgt := 11) dX2_layReadings_27 (by decide) ?_
    exact ih_6 _ _ h
theorem hd_X2_readings : yX2_readings.cls = RX2 ∧ yX2_readings.cls ≠ "java/lang/invoke/MethodHandle" ∧ yX2_readings.cls ≠ "java/lang/invoke/VarHandle" ∧ (parseMethodDescriptor yX2_readings.desc).map (fun d => d.parameters.length) = some 0 := by decide +kernel
set_option maxHeartbeats 4000000 in
set_option maxRecDepth 100000 in
theorem wk_X2_readings {l : Launch} {D : va_G} {dA : Nat → ClassId} {ad : Nat → Nat} {s : Sg} {Q : Int → Sg → Prop} (h : wp_X2_readings s Q) : MXi l D dA (mwf dA ad) yX2_readings cX2_readings 1 .int ({ frames := 4, cells := 0, slots := 0, locals := 91 } : Room) [.ref (ad 0)] s Q := by
  unfold wp_X2_readings at h
  refine jw_start_i (own := RX2) (lv0 := [(0, .ref (ad 0))]) (by decide) rfl (Nat.le_of_ble_eq_true rfl) rfl (fun G F rt => ?_)
  refine jw_aload_n F 0 dX2_readings_0 rfl rfl ?_
  refine jw_callVv F (wk_X2_layReadings h) (lw_V q1094 q1096 qs57 q77 q1097) hd_X2_layReadings ⟨rfl, rfl, Nat.le_of_ble_eq_true rfl, Nat.le_of_ble_eq_true rfl⟩ rfl rfl (mh_0 dA ad _) rfl rfl rfl (Nat.le_of_ble_eq_true rfl) dX2_readings_1 (fun s_2 hz => ?_)
  have h := hz
  refine jw_aload_n F 0 dX2_readings_4 rfl rfl ?_
  refine gx_X2_197_0 F dX2_readings_5 ?_
  exact rt _ _ _ _ dX2_readings_8 h
theorem hd_X2_sureNow : yX2_sureNow.cls = RX2 ∧ yX2_sureNow.cls ≠ "java/lang/invoke/MethodHandle" ∧ yX2_sureNow.cls ≠ "java/lang/invoke/VarHandle" ∧ (parseMethodDescriptor yX2_sureNow.desc).map (fun d => d.parameters.length) = some 1 := by decide +kernel
set_option maxHeartbeats 4000000 in
set_option maxRecDepth 100000 in
theorem wk_X2_sureNow {l : Launch} {D : va_G} {dA : Nat → ClassId} {ad : Nat → Nat} {s : Sg} {a1 : Int} {Q : Int → Prop} (h : wp_X2_sureNow a1 s Q) : MXi l D dA (mwf dA ad) yX2_sureNow cX2_sureNow 3 .int ({ frames := 1, cells := 0, slots := 0, locals := 22 } : Room) [.ref (ad 0), .int (iI a1)] s (fun z s' => s' = s ∧ Q z) := by
  unfold wp_X2_sureNow at h
  refine jw_start_i (own := RX2) (lv0 := [(0, .ref (ad 0)), (1, .int (iI a1))]) (by decide) rfl (Nat.le_of_ble_eq_true rfl) rfl (fun G F rt => ?_)
  refine jw_aload_n F 0 dX2_sureNow_0 rfl rfl ?_
  refine jw_aload_n F 0 dX2_sureNow_1 rfl rfl ?_
  refine gx_X2_22_0 F dX2_sureNow_2 ?_
  refine jw_iload_n F 1 dX2_sureNow_5 rfl rfl ?_
  obtain ⟨o_1, o_2, h⟩ := h
  refine jw_iald F (mO dA ad) (k := 5) (by decide) (ma_5 dA ad) 0 rfl (by decide) o_1 o_2 dX2_sureNow_6 ?_
  refine jw_callVip F (wk_X2_placeOf h) (lw_V q1086 q1088 qs56 q77 q1089) hd_X2_placeOf ⟨rfl, rfl, Nat.le_of_ble_eq_true rfl, Nat.le_of_ble_eq_true rfl⟩ rfl rfl (mh_0 dA ad _) rfl rfl rfl (Nat.le_of_ble_eq_true rfl) dX2_sureNow_7 (fun r_3 h => ?_)
  refine jw_istore_n F (lv' := [(0, .ref (ad 0)), (1, .int (iI a1)), (2, .int (iI r_3))]) [1, 2, 0] dX2_sureNow_10 rfl (by decide) rfl ?_
  refine jw_iload_n F 2 dX2_sureNow_11 rfl rfl ?_
  refine jw_iconst F dX2_sureNow_12 ?_
  obtain ⟨o_5, h⟩ := h
  refine jw_icmp_eq F o_5 (by decide) (tgt := 25) dX2_sureNow_13 (by decide) (fun c => ?_) (fun c => ?_)
  · have h := h.1 (c)
    refine jw_aload_n F 0 dX2_sureNow_25 rfl rfl ?_
    refine jw_iload_n F 1 dX2_sureNow_26 rfl rfl ?_
    refine jw_callVip F (wk_X2_asOf h) (lw_V q1028 q1030 qs51 q77 q1031) hd_X2_asOf ⟨rfl, rfl, Nat.le_of_ble_eq_true rfl, Nat.le_of_ble_eq_true rfl⟩ rfl rfl (mh_0 dA ad _) rfl rfl rfl (Nat.le_of_ble_eq_true rfl) dX2_sureNow_27 (fun r_6 h => ?_)
    refine jw_iconst F dX2_sureNow_30 ?_
    obtain ⟨o_8, h⟩ := h
    refine jw_icmp_ne F o_8 (by decide) (tgt := 41) dX2_sureNow_31 (by decide) (fun c => ?_) (fun c => ?_)
    · have h := h.1 (c)
      refine jw_iconst F dX2_sureNow_41 ?_
      exact rt _ _ _ _ dX2_sureNow_42 ⟨rfl, h⟩
    · have h := h.2 (c)
      refine jw_aload_n F 0 dX2_sureNow_34 rfl rfl ?_
      refine gx_X2_197_0 F dX2_sureNow_35 ?_
      refine jw_goto F (tgt := 42) dX2_sureNow_38 (by decide) ?_
      exact rt _ _ _ _ dX2_sureNow_42 ⟨rfl, h⟩
  · have h := h.2 (c)
    refine jw_aload_n F 0 dX2_sureNow_16 rfl rfl ?_
    refine gx_X2_44_0 F dX2_sureNow_17 ?_
    refine jw_iload_n F 2 dX2_sureNow_20 rfl rfl ?_
    obtain ⟨o_9, o_10, h⟩ := h
    refine jw_iald F (mO dA ad) (k := 12) (by decide) (ma_12 dA ad) 0 rfl (by decide) o_9 o_10 dX2_sureNow_21 ?_
    refine jw_goto F (tgt := 42) dX2_sureNow_22 (by decide) ?_
    exact rt _ _ _ _ dX2_sureNow_42 ⟨rfl, h⟩
theorem hd_X2_sure : yX2_sure.cls = RX2 ∧ yX2_sure.cls ≠ "java/lang/invoke/MethodHandle" ∧ yX2_sure.cls ≠ "java/lang/invoke/VarHandle" ∧ (parseMethodDescriptor yX2_sure.desc).map (fun d => d.parameters.length) = some 1 := by decide +kernel
set_option maxHeartbeats 4000000 in
set_option maxRecDepth 100000 in
theorem wk_X2_sure {l : Launch} {D : va_G} {dA : Nat → ClassId} {ad : Nat → Nat} {s : Sg} {a1 : Int} {Q : Int → Sg → Prop} (h : wp_X2_sure a1 s Q) : MXi l D dA (mwf dA ad) yX2_sure cX2_sure 2 .int ({ frames := 4, cells := 0, slots := 0, locals := 91 } : Room) [.ref (ad 0), .int (iI a1)] s Q := by
  unfold wp_X2_sure at h
  refine jw_start_i (own := RX2) (lv0 := [(0, .ref (ad 0)), (1, .int (iI a1))]) (by decide) rfl (Nat.le_of_ble_eq_true rfl) rfl (fun G F rt => ?_)
  refine jw_aload_n F 0 dX2_sure_0 rfl rfl ?_
  refine jw_iload_n F 1 dX2_sure_1 rfl rfl ?_
  refine jw_callVzp F (wk_X2_isChord h) (lw_V q1007 q1009 qs47 q77 q1010) hd_X2_isChord ⟨rfl, rfl, Nat.le_of_ble_eq_true rfl, Nat.le_of_ble_eq_true rfl⟩ rfl rfl (mh_0 dA ad _) rfl rfl rfl (Nat.le_of_ble_eq_true rfl) dX2_sure_2 (fun r_1 hb_r_1 h => ?_)
  refine jw_if_ne F (rg01 hb_r_1) (tgt := 11) dX2_sure_5 (by decide) (fun c => ?_) (fun c => ?_)
  · have h := h.1 (c)
    refine jw_aload_n F 0 dX2_sure_11 rfl rfl ?_
    refine jw_callVv F (wk_X2_layReadings h) (lw_V q1094 q1096 qs57 q77 q1097) hd_X2_layReadings ⟨rfl, rfl, Nat.le_of_ble_eq_true rfl, Nat.le_of_ble_eq_true rfl⟩ rfl rfl (mh_0 dA ad _) rfl rfl rfl (Nat.le_of_ble_eq_true rfl) dX2_sure_12 (fun s_4 hz => ?_)
    have h := hz
    refine jw_aload_n F 0 dX2_sure_15 rfl rfl ?_
    refine jw_iload_n F 1 dX2_sure_16 rfl rfl ?_
    refine jw_callVip F (wk_X2_sureNow h) (lw_V q1106 q1108 qs59 q77 q1109) hd_X2_sureNow ⟨rfl, rfl, Nat.le_of_ble_eq_true rfl, Nat.le_of_ble_eq_true rfl⟩ rfl rfl (mh_0 dA ad _) rfl rfl rfl (Nat.le_of_ble_eq_true rfl) dX2_sure_17 (fun r_5 h => ?_)
    exact rt _ _ _ _ dX2_sure_20 h
  · have h := h.2 (c)
    refine jw_bipush F (z := (-101)) dX2_sure_8 (by decide) ?_
    exact rt _ _ _ _ dX2_sure_10 h
theorem hd_X2_surestOf : yX2_surestOf.cls = RX2 ∧ yX2_surestOf.cls ≠ "java/lang/invoke/MethodHandle" ∧ yX2_surestOf.cls ≠ "java/lang/invoke/VarHandle" ∧ (parseMethodDescriptor yX2_surestOf.desc).map (fun d => d.parameters.length) = some 0 := by decide +kernel
set_option maxHeartbeats 4000000 in
set_option maxRecDepth 100000 in
theorem wk_X2_surestOf {l : Launch} {D : va_G} {dA : Nat → ClassId} {ad : Nat → Nat} {s : Sg} {Q : Int → Sg → Prop} (h : wp_X2_surestOf s Q) : MXi l D dA (mwf dA ad) yX2_surestOf cX2_surestOf 5 .int ({ frames := 4, cells := 0, slots := 0, locals := 91 } : Room) [.ref (ad 0)] s Q := by
  unfold wp_X2_surestOf at h
  refine jw_start_i (own := RX2) (lv0 := [(0, .ref (ad 0))]) (by decide) rfl (Nat.le_of_ble_eq_true rfl) rfl (fun G F rt => ?_)
  refine jw_aload_n F 0 dX2_surestOf_0 rfl rfl ?_
  refine jw_callVv F (wk_X2_layReadings h) (lw_V q1094 q1096 qs57 q77 q1097) hd_X2_layReadings ⟨rfl, rfl, Nat.le_of_ble_eq_true rfl, Nat.le_of_ble_eq_true rfl⟩ rfl rfl (mh_0 dA ad _) rfl rfl rfl (Nat.le_of_ble_eq_true rfl) dX2_surestOf_1 (fun s_2 hz => ?_)
  have h := hz
  refine jw_iconst F dX2_surestOf_4 ?_
  refine jw_istore_n F (lv' := [(0, .ref (ad 0)), (1, .int (iI (-1)))]) [1, 0] dX2_surestOf_5 rfl (by decide) rfl ?_
  refine jw_iconst F dX2_surestOf_6 ?_
  refine jw_istore_n F (lv' := [(0, .ref (ad 0)), (1, .int (iI (-1))), (2, .int (iI (-1)))]) [1, 2, 0] dX2_surestOf_7 rfl (by decide) rfl ?_
  refine jw_iconst F dX2_surestOf_8 ?_
  refine jw_istore_n F (lv' := [(0, .ref (ad 0)), (1, .int (iI (-1))), (2, .int (iI (-1))), (3, .int (iI 0))]) [1, 2, 3, 0] dX2_surestOf_9 rfl (by decide) rfl ?_
  refine lp3_r (fun x1_3 x2_4 x3_5 => G s_2 10 [(0, .ref (ad 0)), (1, .int (iI x1_3)), (2, .int (iI x2_4)), (3, .int (iI x3_5))] []) h (fun x1_3 x2_4 x3_5 K_6 h ih_7 => ?_)
  refine jw_iload_n F 3 dX2_surestOf_10 rfl rfl ?_
  refine jw_aload_n F 0 dX2_surestOf_11 rfl rfl ?_
  refine gx_X2_102_0 F dX2_surestOf_12 ?_
  obtain ⟨o_8, h⟩ := h
  obtain ⟨o_9, h⟩ := h
  refine jw_icmp_ge F o_8 o_9 (tgt := 63) dX2_surestOf_15 (by decide) (fun c => ?_) (fun c => ?_)
  · have h := h.1 (c)
    refine jw_iload_n F 1 dX2_surestOf_63 rfl rfl ?_
    exact rt _ _ _ _ dX2_surestOf_64 h
  · have h := h.2 (c)
    refine jw_aload_n F 0 dX2_surestOf_18 rfl rfl ?_
    refine gx_X2_197_0 F dX2_surestOf_19 ?_
    obtain ⟨o_10, h⟩ := h
    refine jw_if_le F o_10 (tgt := 63) dX2_surestOf_22 (by decide) (fun c => ?_) (fun c => ?_)
    · have h := h.1 (c)
      refine jw_iload_n F 1 dX2_surestOf_63 rfl rfl ?_
      exact rt _ _ _ _ dX2_surestOf_64 h
    · have h := h.2 (c)
      refine jw_aload_n F 0 dX2_surestOf_25 rfl rfl ?_
      refine jw_iload_n F 3 dX2_surestOf_26 rfl rfl ?_
      refine jw_callVip F (wk_X2_sureNow h) (lw_V q1106 q1108 qs59 q77 q1109) hd_X2_sureNow ⟨rfl, rfl, Nat.le_of_ble_eq_true rfl, Nat.le_of_ble_eq_true rfl⟩ rfl rfl (mh_0 dA ad _) rfl rfl rfl (Nat.le_of_ble_eq_true rfl) dX2_surestOf_27 (fun r_11 h => ?_)
      refine jw_istore F (lv' := [(0, .ref (ad 0)), (1, .int (iI x1_3)), (2, .int (iI x2_4)), (3, .int (iI x3_5)), (4, .int (iI r_11))]) [1, 2, 3, 4, 0] dX2_surestOf_30 (by decide) rfl ?_
      refine jw_iload F 4 dX2_surestOf_32 rfl ?_
      refine jw_iload_n F 2 dX2_surestOf_34 rfl rfl ?_
      obtain ⟨o_13, h⟩ := h
      obtain ⟨o_14, h⟩ := h
      refine jn1_r (fun v_15 => G s_2 43 [(0, .ref (ad 0)), (2, .int (iI x2_4)), (3, .int (iI x3_5)), (4, .int (iI r_11))] [.int (iI v_15)]) h (fun v_15 h => ?_) (fun K_16 h j_17 => ?_)
      · refine jw_istore_n F (lv' := [(0, .ref (ad 0)), (1, .int (iI v_15)), (2, .int (iI x2_4)), (3, .int (iI x3_5)), (4, .int (iI r_11))]) [1, 0, 2, 3, 4] dX2_surestOf_43 rfl (by decide) rfl ?_
        refine jw_iload F 4 dX2_surestOf_44 rfl ?_
        refine jw_iload_n F 2 dX2_surestOf_46 rfl rfl ?_
        obtain ⟨o_18, h⟩ := h
        obtain ⟨o_19, h⟩ := h
        refine jn1_r (fun v_20 => G s_2 56 [(0, .ref (ad 0)), (1, .int (iI v_15)), (3, .int (iI x3_5))] [.int (iI v_20)]) h (fun v_20 h => ?_) (fun K_21 h j_22 => ?_)
        · refine jw_istore_n F (lv' := [(0, .ref (ad 0)), (1, .int (iI v_15)), (2, .int (iI v_20)), (3, .int (iI x3_5))]) [1, 2, 0, 3] dX2_surestOf_56 rfl (by decide) rfl ?_
          refine jw_iinc F (lv' := [(0, .ref (ad 0)), (1, .int (iI v_15)), (2, .int (iI v_20)), (3, .int (iI (x3_5 + 1)))]) 3 [1, 2, 3, 0] dX2_surestOf_57 rfl (by decide) rfl ?_
          refine jw_goto F (tgt := 10) dX2_surestOf_60 (by decide) ?_
          exact ih_7 _ _ _ h
        · refine jw_icmp_le F o_18 o_19 (tgt := 55) dX2_surestOf_47 (by decide) (fun c => ?_) (fun c => ?_)
          · have h := h.1 (c)
            refine jw_iload_n F 2 dX2_surestOf_55 rfl rfl ?_
            refine jw_sub F (lv' := [(0, .ref (ad 0)), (1, .int (iI v_15)), (3, .int (iI x3_5))]) [0, 1, 3] rfl ?_
            exact j_22 _ h
          · have h := h.2 (c)
            refine jw_iload F 4 dX2_surestOf_50 rfl ?_
            refine jw_goto F (tgt := 56) dX2_surestOf_52 (by decide) ?_
            refine jw_sub F (lv' := [(0, .ref (ad 0)), (1, .int (iI v_15)), (3, .int (iI x3_5))]) [0, 1, 3] rfl ?_
            exact j_22 _ h
      · refine jw_icmp_le F o_13 o_14 (tgt := 42) dX2_surestOf_35 (by decide) (fun c => ?_) (fun c => ?_)
        · have h := h.1 (c)
          refine jw_iload_n F 1 dX2_surestOf_42 rfl rfl ?_
          refine jw_sub F (lv' := [(0, .ref (ad 0)), (2, .int (iI x2_4)), (3, .int (iI x3_5)), (4, .int (iI r_11))]) [0, 2, 3, 4] rfl ?_
          exact j_17 _ h
        · have h := h.2 (c)
          refine jw_iload_n F 3 dX2_surestOf_38 rfl rfl ?_
          refine jw_goto F (tgt := 43) dX2_surestOf_39 (by decide) ?_
          refine jw_sub F (lv' := [(0, .ref (ad 0)), (2, .int (iI x2_4)), (3, .int (iI x3_5)), (4, .int (iI r_11))]) [0, 2, 3, 4] rfl ?_
          exact j_17 _ h
theorem hd_X2_surest : yX2_surest.cls = RX2 ∧ yX2_surest.cls ≠ "java/lang/invoke/MethodHandle" ∧ yX2_surest.cls ≠ "java/lang/invoke/VarHandle" ∧ (parseMethodDescriptor yX2_surest.desc).map (fun d => d.parameters.length) = some 0 := by decide +kernel
set_option maxHeartbeats 4000000 in
set_option maxRecDepth 100000 in
theorem wk_X2_surest {l : Launch} {D : va_G} {dA : Nat → ClassId} {ad : Nat → Nat} {s : Sg} {Q : Int → Sg → Prop} (h : wp_X2_surest s Q) : MXi l D dA (mwf dA ad) yX2_surest cX2_surest 1 .int ({ frames := 5, cells := 0, slots := 0, locals := 115 } : Room) [.ref (ad 0)] s Q := by
  unfold wp_X2_surest at h
  refine jw_start_i (own := RX2) (lv0 := [(0, .ref (ad 0))]) (by decide) rfl (Nat.le_of_ble_eq_true rfl) rfl (fun G F rt => ?_)
  refine jw_aload_n F 0 dX2_surest_0 rfl rfl ?_
  refine jw_callVi F (wk_X2_surestOf h) (lw_V q1114 q1116 qs60 q77 q1117) hd_X2_surestOf ⟨rfl, rfl, Nat.le_of_ble_eq_true rfl, Nat.le_of_ble_eq_true rfl⟩ rfl rfl (mh_0 dA ad _) rfl rfl rfl (Nat.le_of_ble_eq_true rfl) dX2_surest_1 (fun r_1 s_2 hz => ?_)
  have h := hz
  exact rt _ _ _ _ dX2_surest_4 h
theorem hd_X2_ones : yX2_ones.cls ≠ "java/lang/invoke/MethodHandle" ∧ yX2_ones.cls ≠ "java/lang/invoke/VarHandle" ∧ (parseMethodDescriptor yX2_ones.desc).map (fun d => d.parameters.length) = some 1 := by decide +kernel
set_option maxHeartbeats 4000000 in
set_option maxRecDepth 100000 in
theorem wk_X2_ones {l : Launch} {D : va_G} {dA : Nat → ClassId} {wf : Sg → va_W} {s : Sg} {a1 : Int} {Q : Int → Prop} (h : wp_X2_ones a1 Q) : MXi l D dA wf yX2_ones cX2_ones 3 .int ({ frames := 0, cells := 0, slots := 0, locals := 0 } : Room) [.int (iI a1)] s (fun z s' => s' = s ∧ Q z) := by
  unfold wp_X2_ones at h
  refine jw_start_i (own := RX2) (lv0 := [(0, .int (iI a1))]) (by decide) rfl (Nat.le_of_ble_eq_true rfl) rfl (fun G F rt => ?_)
  refine jw_iconst F dX2_ones_0 ?_
  refine jw_istore_n F (lv' := [(0, .int (iI a1)), (1, .int (iI 0))]) [1, 0] dX2_ones_1 rfl (by decide) rfl ?_
  refine jw_iconst F dX2_ones_2 ?_
  refine jw_istore_n F (lv' := [(0, .int (iI a1)), (1, .int (iI 0)), (2, .int (iI 0))]) [1, 2, 0] dX2_ones_3 rfl (by decide) rfl ?_
  refine lp2_r (fun x1_1 x2_2 => G s 4 [(0, .int (iI a1)), (1, .int (iI x1_1)), (2, .int (iI x2_2))] []) h (fun x1_1 x2_2 K_3 h ih_4 => ?_)
  refine jw_iload_n F 2 dX2_ones_4 rfl rfl ?_
  refine jw_bipush F (z := 10) dX2_ones_5 (by decide) ?_
  obtain ⟨o_5, h⟩ := h
  refine jw_icmp_ge F o_5 (by decide) (tgt := 24) dX2_ones_7 (by decide) (fun c => ?_) (fun c => ?_)
  · have h := h.1 (c)
    refine jw_iload_n F 1 dX2_ones_24 rfl rfl ?_
    exact rt _ _ _ _ dX2_ones_25 ⟨rfl, h⟩
  · have h := h.2 (c)
    refine jw_iload_n F 1 dX2_ones_10 rfl rfl ?_
    refine jw_iload_n F 0 dX2_ones_11 rfl rfl ?_
    refine jw_iload_n F 2 dX2_ones_12 rfl rfl ?_
    obtain ⟨o_6, h⟩ := h
    obtain ⟨o_7, o_8, h⟩ := h
    refine jw_ishr F o_6 o_7 o_8 dX2_ones_13 ?_
    refine jw_iconst F dX2_ones_14 ?_
    obtain ⟨o_9, h⟩ := h
    refine jw_iand F o_9 (by decide) dX2_ones_15 ?_
    refine jw_iadd F dX2_ones_16 ?_
    refine jw_istore_n F (lv' := [(0, .int (iI a1)), (1, .int (iI (x1_1 + (band (a1 / 2 ^ (x2_2 : Int).toNat) 1)))), (2, .int (iI x2_2))]) [1, 0, 2] dX2_ones_17 rfl (by decide) rfl ?_
    refine jw_iinc F (lv' := [(0, .int (iI a1)), (1, .int (iI (x1_1 + (band (a1 / 2 ^ (x2_2 : Int).toNat) 1)))), (2, .int (iI (x2_2 + 1)))]) 2 [1, 2, 0] dX2_ones_18 rfl (by decide) rfl ?_
    refine jw_goto F (tgt := 4) dX2_ones_21 (by decide) ?_
    exact ih_4 _ _ h
theorem hd_X2_mayTake : yX2_mayTake.cls = RX2 ∧ yX2_mayTake.cls ≠ "java/lang/invoke/MethodHandle" ∧ yX2_mayTake.cls ≠ "java/lang/invoke/VarHandle" ∧ (parseMethodDescriptor yX2_mayTake.desc).map (fun d => d.parameters.length) = some 2 := by decide +kernel
set_option maxHeartbeats 4000000 in
set_option maxRecDepth 100000 in
theorem wk_X2_mayTake {l : Launch} {D : va_G} {dA : Nat → ClassId} {ad : Nat → Nat} {s : Sg} {a1 a2 : Int} {Q : Int → Prop} (h : wp_X2_mayTake a1 a2 s Q) : MXi l D dA (mwf dA ad) yX2_mayTake cX2_mayTake 3 .boolean ({ frames := 1, cells := 0, slots := 0, locals := 22 } : Room) [.ref (ad 0), .int (iI a1), .int (iI a2)] s (fun z s' => (z = 0 ∨ z = 1) ∧ s' = s ∧ Q z) := by
  unfold wp_X2_mayTake at h
  refine jw_start_z (own := RX2) (lv0 := [(0, .ref (ad 0)), (1, .int (iI a1)), (2, .int (iI a2))]) (by decide) rfl (Nat.le_of_ble_eq_true rfl) rfl (fun G F rt => ?_)
  refine jw_iload_n F 1 dX2_mayTake_0 rfl rfl ?_
  refine jw_aload_n F 0 dX2_mayTake_1 rfl rfl ?_
  refine gx_X2_22_0 F dX2_mayTake_2 ?_
  refine jw_iload_n F 2 dX2_mayTake_5 rfl rfl ?_
  obtain ⟨o_1, o_2, h⟩ := h
  refine jw_iald F (mO dA ad) (k := 5) (by decide) (ma_5 dA ad) 0 rfl (by decide) o_1 o_2 dX2_mayTake_6 ?_
  obtain ⟨o_3, h⟩ := h
  obtain ⟨o_4, o_5, h⟩ := h
  refine jw_ishr F o_3 o_4 o_5 dX2_mayTake_7 ?_
  refine jw_iconst F dX2_mayTake_8 ?_
  obtain ⟨o_6, h⟩ := h
  refine jw_iand F o_6 (by decide) dX2_mayTake_9 ?_
  obtain ⟨o_7, h⟩ := h
  refine jw_if_ne F o_7 (tgt := 26) dX2_mayTake_10 (by decide) (fun c => ?_) (fun c => ?_)
  · have h := h.1 (c)
    refine jw_iconst F dX2_mayTake_26 ?_
    exact rt _ _ _ _ dX2_mayTake_27 (by decide) ⟨(by decide), rfl, h⟩
  · have h := h.2 (c)
    refine jw_aload_n F 0 dX2_mayTake_13 rfl rfl ?_
    refine jw_iload_n F 2 dX2_mayTake_14 rfl rfl ?_
    refine jw_callVip F (wk_X2_asOf h) (lw_V q1028 q1030 qs51 q77 q1031) hd_X2_asOf ⟨rfl, rfl, Nat.le_of_ble_eq_true rfl, Nat.le_of_ble_eq_true rfl⟩ rfl rfl (mh_0 dA ad _) rfl rfl rfl (Nat.le_of_ble_eq_true rfl) dX2_mayTake_15 (fun r_8 h => ?_)
    refine jw_iconst F dX2_mayTake_18 ?_
    obtain ⟨o_10, h⟩ := h
    refine jw_icmp_ne F o_10 (by decide) (tgt := 26) dX2_mayTake_19 (by decide) (fun c => ?_) (fun c => ?_)
    · have h := h.1 (c)
      refine jw_iconst F dX2_mayTake_26 ?_
      exact rt _ _ _ _ dX2_mayTake_27 (by decide) ⟨(by decide), rfl, h⟩
    · have h := h.2 (c)
      refine jw_iconst F dX2_mayTake_22 ?_
      refine jw_goto F (tgt := 27) dX2_mayTake_23 (by decide) ?_
      exact rt _ _ _ _ dX2_mayTake_27 (by decide) ⟨(by decide), rfl, h⟩
theorem hd_X2_inCommon : yX2_inCommon.cls = RX2 ∧ yX2_inCommon.cls ≠ "java/lang/invoke/MethodHandle" ∧ yX2_inCommon.cls ≠ "java/lang/invoke/VarHandle" ∧ (parseMethodDescriptor yX2_inCommon.desc).map (fun d => d.parameters.length) = some 2 := by decide +kernel
set_option maxHeartbeats 4000000 in
set_option maxRecDepth 100000 in
theorem wk_X2_inCommon {l : Launch} {D : va_G} {dA : Nat → ClassId} {ad : Nat → Nat} {s : Sg} {a1 a2 : Int} {Q : Int → Prop} (h : wp_X2_inCommon a1 a2 s Q) : MXi l D dA (mwf dA ad) yX2_inCommon cX2_inCommon 6 .int ({ frames := 0, cells := 0, slots := 0, locals := 0 } : Room) [.ref (ad 0), .int (iI a1), .int (iI a2)] s (fun z s' => s' = s ∧ Q z) := by
  unfold wp_X2_inCommon at h
  refine jw_start_i (own := RX2) (lv0 := [(0, .ref (ad 0)), (1, .int (iI a1)), (2, .int (iI a2))]) (by decide) rfl (Nat.le_of_ble_eq_true rfl) rfl (fun G F rt => ?_)
  refine jw_iconst F dX2_inCommon_0 ?_
  refine jw_istore_n F (lv' := [(0, .ref (ad 0)), (1, .int (iI a1)), (2, .int (iI a2)), (3, .int (iI 0))]) [1, 2, 3, 0] dX2_inCommon_1 rfl (by decide) rfl ?_
  refine jw_iconst F dX2_inCommon_2 ?_
  refine jw_istore F (lv' := [(0, .ref (ad 0)), (1, .int (iI a1)), (2, .int (iI a2)), (3, .int (iI 0)), (4, .int (iI 0))]) [1, 2, 3, 4, 0] dX2_inCommon_3 (by decide) rfl ?_
  refine lp2_r (fun x3_1 x4_2 => G s 5 [(0, .ref (ad 0)), (1, .int (iI a1)), (2, .int (iI a2)), (3, .int (iI x3_1)), (4, .int (iI x4_2))] []) h (fun x3_1 x4_2 K_3 h ih_4 => ?_)
  refine jw_iload F 4 dX2_inCommon_5 rfl ?_
  refine jw_iconst F dX2_inCommon_7 ?_
  obtain ⟨o_5, h⟩ := h
  refine jw_icmp_ge F o_5 (by decide) (tgt := 65) dX2_inCommon_8 (by decide) (fun c => ?_) (fun c => ?_)
  · have h := h.1 (c)
    refine jw_iload_n F 3 dX2_inCommon_65 rfl rfl ?_
    exact rt _ _ _ _ dX2_inCommon_66 ⟨rfl, h⟩
  · have h := h.2 (c)
    refine jw_iconst F dX2_inCommon_11 ?_
    refine jw_istore F (lv' := [(0, .ref (ad 0)), (1, .int (iI a1)), (2, .int (iI a2)), (3, .int (iI x3_1)), (4, .int (iI x4_2)), (5, .int (iI 0))]) [1, 2, 3, 4, 5, 0] dX2_inCommon_12 (by decide) rfl ?_
    refine lp2_r (fun x3_6 x5_7 => G s 14 [(0, .ref (ad 0)), (1, .int (iI a1)), (2, .int (iI a2)), (3, .int (iI x3_6)), (4, .int (iI x4_2)), (5, .int (iI x5_7))] []) h (fun x3_6 x5_7 K_8 h ih_9 => ?_)
    refine jw_iload F 5 dX2_inCommon_14 rfl ?_
    refine jw_iconst F dX2_inCommon_16 ?_
    obtain ⟨o_10, h⟩ := h
    refine jw_icmp_ge F o_10 (by decide) (tgt := 59) dX2_inCommon_17 (by decide) (fun c => ?_) (fun c => ?_)
    · have h := h.1 (c)
      refine jw_iinc F (lv' := [(0, .ref (ad 0)), (1, .int (iI a1)), (2, .int (iI a2)), (3, .int (iI x3_6)), (4, .int (iI (x4_2 + 1))), (5, .int (iI x5_7))]) 4 [1, 2, 3, 4, 0, 5] dX2_inCommon_59 rfl (by decide) rfl ?_
      refine jw_goto F (tgt := 5) dX2_inCommon_62 (by decide) ?_
      refine jw_sub F (lv' := [(0, .ref (ad 0)), (1, .int (iI a1)), (2, .int (iI a2)), (3, .int (iI x3_6)), (4, .int (iI (x4_2 + 1)))]) [0, 1, 2, 3, 4] rfl ?_
      exact ih_4 _ _ h
    · have h := h.2 (c)
      refine jw_iload_n F 3 dX2_inCommon_20 rfl rfl ?_
      refine jw_aload_n F 0 dX2_inCommon_21 rfl rfl ?_
      refine gx_X2_19_0 F dX2_inCommon_22 ?_
      refine jw_iconst F dX2_inCommon_25 ?_
      refine jw_iload_n F 1 dX2_inCommon_26 rfl rfl ?_
      refine jw_imul F dX2_inCommon_27 ?_
      refine jw_iload F 4 dX2_inCommon_28 rfl ?_
      refine jw_iadd F dX2_inCommon_30 ?_
      obtain ⟨o_11, o_12, h⟩ := h
      refine jw_iald F (mO dA ad) (k := 4) (by decide) (ma_4 dA ad) 0 rfl (by decide) o_11 o_12 dX2_inCommon_31 ?_
      refine jw_aload_n F 0 dX2_inCommon_32 rfl rfl ?_
      refine gx_X2_19_0 F dX2_inCommon_33 ?_
      refine jw_iconst F dX2_inCommon_36 ?_
      refine jw_iload_n F 2 dX2_inCommon_37 rfl rfl ?_
      refine jw_imul F dX2_inCommon_38 ?_
      refine jw_iload F 5 dX2_inCommon_39 rfl ?_
      refine jw_iadd F dX2_inCommon_41 ?_
      obtain ⟨o_13, o_14, h⟩ := h
      refine jw_iald F (mO dA ad) (k := 4) (by decide) (ma_4 dA ad) 0 rfl (by decide) o_13 o_14 dX2_inCommon_42 ?_
      obtain ⟨o_15, h⟩ := h
      obtain ⟨o_16, h⟩ := h
      refine jn1_r (fun v_17 => G s 51 [(0, .ref (ad 0)), (1, .int (iI a1)), (2, .int (iI a2)), (4, .int (iI x4_2)), (5, .int (iI x5_7))] [.int (iI v_17), .int (iI x3_6)]) h (fun v_17 h => ?_) (fun K_18 h j_19 => ?_)
      · refine jw_iadd F dX2_inCommon_51 ?_
        refine jw_istore_n F (lv' := [(0, .ref (ad 0)), (1, .int (iI a1)), (2, .int (iI a2)), (3, .int (iI (x3_6 + v_17))), (4, .int (iI x4_2)), (5, .int (iI x5_7))]) [1, 2, 3, 0, 4, 5] dX2_inCommon_52 rfl (by decide) rfl ?_
        refine jw_iinc F (lv' := [(0, .ref (ad 0)), (1, .int (iI a1)), (2, .int (iI a2)), (3, .int (iI (x3_6 + v_17))), (4, .int (iI x4_2)), (5, .int (iI (x5_7 + 1)))]) 5 [1, 2, 3, 4, 5, 0] dX2_inCommon_53 rfl (by decide) rfl ?_
        refine jw_goto F (tgt := 14) dX2_inCommon_56 (by decide) ?_
        exact ih_9 _ _ h
      · refine jw_icmp_ne F o_15 o_16 (tgt := 50) dX2_inCommon_43 (by decide) (fun c => ?_) (fun c => ?_)
        · have h := h.1 (c)
          refine jw_iconst F dX2_inCommon_50 ?_
          refine jw_sub F (lv' := [(0, .ref (ad 0)), (1, .int (iI a1)), (2, .int (iI a2)), (4, .int (iI x4_2)), (5, .int (iI x5_7))]) [0, 1, 2, 4, 5] rfl ?_
          exact j_19 _ h
        · have h := h.2 (c)
          refine jw_iconst F dX2_inCommon_46 ?_
          refine jw_goto F (tgt := 51) dX2_inCommon_47 (by decide) ?_
          refine jw_sub F (lv' := [(0, .ref (ad 0)), (1, .int (iI a1)), (2, .int (iI a2)), (4, .int (iI x4_2)), (5, .int (iI x5_7))]) [0, 1, 2, 4, 5] rfl ?_
          exact j_19 _ h
theorem hd_X2_longest : yX2_longest.cls = RX2 ∧ yX2_longest.cls ≠ "java/lang/invoke/MethodHandle" ∧ yX2_longest.cls ≠ "java/lang/invoke/VarHandle" ∧ (parseMethodDescriptor yX2_longest.desc).map (fun d => d.parameters.length) = some 0 := by decide +kernel
set_option maxHeartbeats 4000000 in
set_option maxRecDepth 100000 in
theorem wk_X2_longest {l : Launch} {D : va_G} {dA : Nat → ClassId} {ad : Nat → Nat} {s : Sg} {Q : Int → Sg → Prop} (h : wp_X2_longest s Q) : MXi l D dA (mwf dA ad) yX2_longest cX2_longest 5 .int ({ frames := 2, cells := 0, slots := 0, locals := 44 } : Room) [.ref (ad 0)] s Q := by
  unfold wp_X2_longest at h
  refine jw_start_i (own := RX2) (lv0 := [(0, .ref (ad 0))]) (by decide) rfl (Nat.le_of_ble_eq_true rfl) rfl (fun G F rt => ?_)
  refine jw_aload_n F 0 dX2_longest_0 rfl rfl ?_
  refine gx_X2_109_0 F dX2_longest_1 ?_
  refine jw_bipush F (z := 10) dX2_longest_4 (by decide) ?_
  obtain ⟨o_1, h⟩ := h
  refine jw_icmp_gt F o_1 (by decide) (tgt := 18) dX2_longest_6 (by decide) (fun c => ?_) (fun c => ?_)
  · have h := h.1 (c)
    refine jw_bipush F (z := (-103)) dX2_longest_18 (by decide) ?_
    exact rt _ _ _ _ dX2_longest_20 h
  · have h := h.2 (c)
    refine jw_aload_n F 0 dX2_longest_9 rfl rfl ?_
    refine gx_X2_212_0 F dX2_longest_10 ?_
    refine jw_bipush F (z := 30) dX2_longest_13 (by decide) ?_
    obtain ⟨o_2, h⟩ := h
    refine jw_icmp_ne F o_2 (by decide) (tgt := 21) dX2_longest_15 (by decide) (fun c => ?_) (fun c => ?_)
    · have h := h.1 (c)
      refine jw_aload_n F 0 dX2_longest_21 rfl rfl ?_
      refine jw_dup F rfl dX2_longest_22 ?_
      refine gx_X2_212_0 F dX2_longest_23 ?_
      refine jw_iconst F dX2_longest_26 ?_
      refine jw_iadd F dX2_longest_27 ?_
      refine pgx_X2_212_0 F dX2_longest_28 ?_
      refine jw_iconst F dX2_longest_31 ?_
      refine jw_istore_n F (lv' := [(0, .ref (ad 0)), (1, .int (iI 0))]) [1, 0] dX2_longest_32 rfl (by decide) rfl ?_
      refine lp2_r (fun x1_3 s_4 => G s_4 33 [(0, .ref (ad 0)), (1, .int (iI x1_3))] []) h (fun x1_3 s_4 K_5 h ih_6 => ?_)
      refine jw_iload_n F 1 dX2_longest_33 rfl rfl ?_
      refine jw_bipush F (z := 84) dX2_longest_34 (by decide) ?_
      refine jw_aload_n F 0 dX2_longest_36 rfl rfl ?_
      refine gx_X2_109_0 F dX2_longest_37 ?_
      obtain ⟨o_7, o_8, h⟩ := h
      refine jw_ishl F o_7 o_8 dX2_longest_40 ?_
      obtain ⟨o_9, h⟩ := h
      obtain ⟨o_10, h⟩ := h
      refine jw_icmp_ge F o_9 o_10 (tgt := 57) dX2_longest_41 (by decide) (fun c => ?_) (fun c => ?_)
      · have h := h.1 (c)
        refine jw_iconst F dX2_longest_57 ?_
        refine jw_istore_n F (lv' := [(0, .ref (ad 0)), (1, .int (iI 0))]) [1, 0] dX2_longest_58 rfl (by decide) rfl ?_
        refine lp2_r (fun x1_11 s_12 => G s_12 59 [(0, .ref (ad 0)), (1, .int (iI x1_11))] []) h (fun x1_11 s_12 K_13 h ih_14 => ?_)
        refine jw_iload_n F 1 dX2_longest_59 rfl rfl ?_
        refine jw_aload_n F 0 dX2_longest_60 rfl rfl ?_
        refine gx_X2_102_0 F dX2_longest_61 ?_
        obtain ⟨o_15, h⟩ := h
        obtain ⟨o_16, h⟩ := h
        refine jw_icmp_ge F o_15 o_16 (tgt := 101) dX2_longest_64 (by decide) (fun c => ?_) (fun c => ?_)
        · have h := h.1 (c)
          refine jw_iconst F dX2_longest_101 ?_
          refine jw_istore_n F (lv' := [(0, .ref (ad 0)), (1, .int (iI 0))]) [1, 0] dX2_longest_102 rfl (by decide) rfl ?_
          refine jw_iconst F dX2_longest_103 ?_
          refine jw_istore_n F (lv' := [(0, .ref (ad 0)), (1, .int (iI 0)), (2, .int (iI 1))]) [1, 2, 0] dX2_longest_104 rfl (by decide) rfl ?_
          refine lp3_r (fun x1_17 x2_18 s_19 => G s_19 105 [(0, .ref (ad 0)), (1, .int (iI x1_17)), (2, .int (iI x2_18))] []) h (fun x1_17 x2_18 s_19 K_20 h ih_21 => ?_)
          refine jw_iload_n F 2 dX2_longest_105 rfl rfl ?_
          refine jw_iconst F dX2_longest_106 ?_
          refine jw_aload_n F 0 dX2_longest_107 rfl rfl ?_
          refine gx_X2_109_0 F dX2_longest_108 ?_
          obtain ⟨o_22, o_23, h⟩ := h
          refine jw_ishl F o_22 o_23 dX2_longest_111 ?_
          obtain ⟨o_24, h⟩ := h
          obtain ⟨o_25, h⟩ := h
          refine jw_icmp_ge F o_24 o_25 (tgt := 231) dX2_longest_112 (by decide) (fun c => ?_) (fun c => ?_)
          · have h := h.1 (c)
            refine jw_iload_n F 1 dX2_longest_231 rfl rfl ?_
            exact rt _ _ _ _ dX2_longest_232 h
          · have h := h.2 (c)
            refine jw_iconst F dX2_longest_115 ?_
            refine jw_istore_n F (lv' := [(0, .ref (ad 0)), (1, .int (iI x1_17)), (2, .int (iI x2_18)), (3, .int (iI 0))]) [1, 2, 3, 0] dX2_longest_116 rfl (by decide) rfl ?_
            refine lp3_r (fun x1_26 x3_27 s_28 => G s_28 117 [(0, .ref (ad 0)), (1, .int (iI x1_26)), (2, .int (iI x2_18)), (3, .int (iI x3_27))] []) h (fun x1_26 x3_27 s_28 K_29 h ih_30 => ?_)
            refine jw_iload_n F 3 dX2_longest_117 rfl rfl ?_
            refine jw_aload_n F 0 dX2_longest_118 rfl rfl ?_
            refine gx_X2_102_0 F dX2_longest_119 ?_
            obtain ⟨o_31, h⟩ := h
            obtain ⟨o_32, h⟩ := h
            refine jw_icmp_ge F o_31 o_32 (tgt := 225) dX2_longest_122 (by decide) (fun c => ?_) (fun c => ?_)
            · have h := h.1 (c)
              refine jw_iinc F (lv' := [(0, .ref (ad 0)), (1, .int (iI x1_26)), (2, .int (iI (x2_18 + 1))), (3, .int (iI x3_27))]) 2 [1, 2, 0, 3] dX2_longest_225 rfl (by decide) rfl ?_
              refine jw_goto F (tgt := 105) dX2_longest_228 (by decide) ?_
              refine jw_sub F (lv' := [(0, .ref (ad 0)), (1, .int (iI x1_26)), (2, .int (iI (x2_18 + 1)))]) [0, 1, 2] rfl ?_
              exact ih_21 _ _ _ h
            · have h := h.2 (c)
              refine jw_aload_n F 0 dX2_longest_125 rfl rfl ?_
              refine gx_X2_48_0 F dX2_longest_126 ?_
              refine jw_bipush F (z := 84) dX2_longest_129 (by decide) ?_
              refine jw_iload_n F 2 dX2_longest_131 rfl rfl ?_
              refine jw_imul F dX2_longest_132 ?_
              refine jw_iload_n F 3 dX2_longest_133 rfl rfl ?_
              refine jw_iadd F dX2_longest_134 ?_
              obtain ⟨o_33, o_34, h⟩ := h
              refine jw_iald F (mO dA ad) (k := 13) (by decide) (ma_13 dA ad) 0 rfl (by decide) o_33 o_34 dX2_longest_135 ?_
              refine jw_iconst F dX2_longest_136 ?_
              obtain ⟨o_35, h⟩ := h
              refine jn2_r (fun x1_36 s_37 => G s_37 219 [(0, .ref (ad 0)), (1, .int (iI x1_36)), (2, .int (iI x2_18)), (3, .int (iI x3_27))] []) h (fun x1_36 s_37 h => ?_) (fun K_38 h j_39 => ?_)
              · refine jw_iinc F (lv' := [(0, .ref (ad 0)), (1, .int (iI x1_36)), (2, .int (iI x2_18)), (3, .int (iI (x3_27 + 1)))]) 3 [1, 2, 3, 0] dX2_longest_219 rfl (by decide) rfl ?_
                refine jw_goto F (tgt := 117) dX2_longest_222 (by decide) ?_
                exact ih_30 _ _ _ h
              · refine jw_icmp_ne F o_35 (by decide) (tgt := 219) dX2_longest_137 (by decide) (fun c => ?_) (fun c => ?_)
                · have h := h.1 (c)
                  exact j_39 _ _ h
                · have h := h.2 (c)
                  refine jw_iload_n F 2 dX2_longest_140 rfl rfl ?_
                  refine jw_callSip F (wk_X2_ones h) (lw_S q1126 q1127 q77 q1128) hd_X2_ones ⟨rfl, rfl, Nat.le_of_ble_eq_true rfl, Nat.le_of_ble_eq_true rfl⟩ rfl rfl (Nat.le_of_ble_eq_true rfl) dX2_longest_141 (fun r_40 h => ?_)
                  refine jw_iload_n F 1 dX2_longest_144 rfl rfl ?_
                  obtain ⟨o_42, h⟩ := h
                  obtain ⟨o_43, h⟩ := h
                  refine jn1_r (fun v_44 => G s_28 156 [(0, .ref (ad 0)), (2, .int (iI x2_18)), (3, .int (iI x3_27))] [.int (iI v_44)]) h (fun v_44 h => ?_) (fun K_45 h j_46 => ?_)
                  · refine jw_istore_n F (lv' := [(0, .ref (ad 0)), (1, .int (iI v_44)), (2, .int (iI x2_18)), (3, .int (iI x3_27))]) [1, 0, 2, 3] dX2_longest_156 rfl (by decide) rfl ?_
                    refine jw_iconst F dX2_longest_157 ?_
                    refine jw_istore F (lv' := [(0, .ref (ad 0)), (1, .int (iI v_44)), (2, .int (iI x2_18)), (3, .int (iI x3_27)), (4, .int (iI 0))]) [1, 2, 3, 4, 0] dX2_longest_158 (by decide) rfl ?_
                    refine lp2_r (fun x4_47 s_48 => G s_48 160 [(0, .ref (ad 0)), (1, .int (iI v_44)), (2, .int (iI x2_18)), (3, .int (iI x3_27)), (4, .int (iI x4_47))] []) h (fun x4_47 s_48 K_49 h ih_50 => ?_)
                    refine jw_iload F 4 dX2_longest_160 rfl ?_
                    refine jw_aload_n F 0 dX2_longest_162 rfl rfl ?_
                    refine gx_X2_102_0 F dX2_longest_163 ?_
                    obtain ⟨o_51, h⟩ := h
                    obtain ⟨o_52, h⟩ := h
                    refine jw_icmp_ge F o_51 o_52 (tgt := 219) dX2_longest_166 (by decide) (fun c => ?_) (fun c => ?_)
                    · have h := h.1 (c)
                      refine jw_sub F (lv' := [(0, .ref (ad 0)), (1, .int (iI v_44)), (2, .int (iI x2_18)), (3, .int (iI x3_27))]) [0, 1, 2, 3] rfl ?_
                      exact j_39 _ _ h
                    · have h := h.2 (c)
                      refine jw_aload_n F 0 dX2_longest_169 rfl rfl ?_
                      refine jw_iload_n F 2 dX2_longest_170 rfl rfl ?_
                      refine jw_iload F 4 dX2_longest_171 rfl ?_
                      refine jw_callVzp F (wk_X2_mayTake h) (lw_V q1122 q1124 qs61 q77 q1125) hd_X2_mayTake ⟨rfl, rfl, Nat.le_of_ble_eq_true rfl, Nat.le_of_ble_eq_true rfl⟩ rfl rfl (mh_0 dA ad _) rfl rfl rfl (Nat.le_of_ble_eq_true rfl) dX2_longest_173 (fun r_53 hb_r_53 h => ?_)
                      refine jn1_r (fun s_55 => G s_55 213 [(0, .ref (ad 0)), (1, .int (iI v_44)), (2, .int (iI x2_18)), (3, .int (iI x3_27)), (4, .int (iI x4_47))] []) h (fun s_55 h => ?_) (fun K_56 h j_57 => ?_)
                      · refine jw_iinc F (lv' := [(0, .ref (ad 0)), (1, .int (iI v_44)), (2, .int (iI x2_18)), (3, .int (iI x3_27)), (4, .int (iI (x4_47 + 1)))]) 4 [1, 2, 3, 4, 0] dX2_longest_213 rfl (by decide) rfl ?_
                        refine jw_goto F (tgt := 160) dX2_longest_216 (by decide) ?_
                        exact ih_50 _ _ h
                      · refine jw_if_eq F (rg01 hb_r_53) (tgt := 213) dX2_longest_176 (by decide) (fun c => ?_) (fun c => ?_)
                        · have h := h.1 (c)
                          exact j_57 _ h
                        · have h := h.2 (c)
                          refine jw_aload_n F 0 dX2_longest_179 rfl rfl ?_
                          refine jw_iload_n F 3 dX2_longest_180 rfl rfl ?_
                          refine jw_iload F 4 dX2_longest_181 rfl ?_
                          refine jw_callVip F (wk_X2_inCommon h) (lw_V q1129 q1131 qs62 q77 q1132) hd_X2_inCommon ⟨rfl, rfl, Nat.le_of_ble_eq_true rfl, Nat.le_of_ble_eq_true rfl⟩ rfl rfl (mh_0 dA ad _) rfl rfl rfl (Nat.le_of_ble_eq_true rfl) dX2_longest_183 (fun r_58 h => ?_)
                          refine jw_iconst F dX2_longest_186 ?_
                          obtain ⟨o_60, h⟩ := h
                          refine jw_icmp_ne F o_60 (by decide) (tgt := 213) dX2_longest_187 (by decide) (fun c => ?_) (fun c => ?_)
                          · have h := h.1 (c)
                            exact j_57 _ h
                          · have h := h.2 (c)
                            refine jw_aload_n F 0 dX2_longest_190 rfl rfl ?_
                            refine gx_X2_48_0 F dX2_longest_191 ?_
                            refine jw_bipush F (z := 84) dX2_longest_194 (by decide) ?_
                            refine jw_iload_n F 2 dX2_longest_196 rfl rfl ?_
                            refine jw_iconst F dX2_longest_197 ?_
                            refine jw_aload_n F 0 dX2_longest_198 rfl rfl ?_
                            refine gx_X2_22_0 F dX2_longest_199 ?_
                            refine jw_iload F 4 dX2_longest_202 rfl ?_
                            obtain ⟨o_61, o_62, h⟩ := h
                            refine jw_iald F (mO dA ad) (k := 5) (by decide) (ma_5 dA ad) 0 rfl (by decide) o_61 o_62 dX2_longest_204 ?_
                            obtain ⟨o_63, o_64, h⟩ := h
                            refine jw_ishl F o_63 o_64 dX2_longest_205 ?_
                            obtain ⟨o_65, h⟩ := h
                            obtain ⟨o_66, h⟩ := h
                            refine jw_ior F o_65 o_66 dX2_longest_206 ?_
                            refine jw_imul F dX2_longest_207 ?_
                            refine jw_iload F 4 dX2_longest_208 rfl ?_
                            refine jw_iadd F dX2_longest_210 ?_
                            refine jw_iconst F dX2_longest_211 ?_
                            obtain ⟨o_67, o_68, h⟩ := h
                            refine jw_iast F (mO dA ad) (k := 13) (by decide) (ma_13 dA ad) 0 rfl (by decide) o_67 o_68 dX2_longest_212 ?_
                            exact j_57 _ h
                  · refine jw_icmp_le F o_42 o_43 (tgt := 155) dX2_longest_145 (by decide) (fun c => ?_) (fun c => ?_)
                    · have h := h.1 (c)
                      refine jw_iload_n F 1 dX2_longest_155 rfl rfl ?_
                      refine jw_sub F (lv' := [(0, .ref (ad 0)), (2, .int (iI x2_18)), (3, .int (iI x3_27))]) [0, 2, 3] rfl ?_
                      exact j_46 _ h
                    · have h := h.2 (c)
                      refine jw_iload_n F 2 dX2_longest_148 rfl rfl ?_
                      refine jw_callSip F (wk_X2_ones h) (lw_S q1126 q1127 q77 q1128) hd_X2_ones ⟨rfl, rfl, Nat.le_of_ble_eq_true rfl, Nat.le_of_ble_eq_true rfl⟩ rfl rfl (Nat.le_of_ble_eq_true rfl) dX2_longest_149 (fun r_69 h => ?_)
                      refine jw_goto F (tgt := 156) dX2_longest_152 (by decide) ?_
                      refine jw_sub F (lv' := [(0, .ref (ad 0)), (2, .int (iI x2_18)), (3, .int (iI x3_27))]) [0, 2, 3] rfl ?_
                      exact j_46 _ h
        · have h := h.2 (c)
          refine jw_aload_n F 0 dX2_longest_67 rfl rfl ?_
          refine jw_iconst F dX2_longest_68 ?_
          refine jw_iload_n F 1 dX2_longest_69 rfl rfl ?_
          refine jw_callVzp F (wk_X2_mayTake h) (lw_V q1122 q1124 qs61 q77 q1125) hd_X2_mayTake ⟨rfl, rfl, Nat.le_of_ble_eq_true rfl, Nat.le_of_ble_eq_true rfl⟩ rfl rfl (mh_0 dA ad _) rfl rfl rfl (Nat.le_of_ble_eq_true rfl) dX2_longest_70 (fun r_71 hb_r_71 h => ?_)
          refine jn1_r (fun s_73 => G s_73 95 [(0, .ref (ad 0)), (1, .int (iI x1_11))] []) h (fun s_73 h => ?_) (fun K_74 h j_75 => ?_)
          · refine jw_iinc F (lv' := [(0, .ref (ad 0)), (1, .int (iI (x1_11 + 1)))]) 1 [1, 0] dX2_longest_95 rfl (by decide) rfl ?_
            refine jw_goto F (tgt := 59) dX2_longest_98 (by decide) ?_
            exact ih_14 _ _ h
          · refine jw_if_eq F (rg01 hb_r_71) (tgt := 95) dX2_longest_73 (by decide) (fun c => ?_) (fun c => ?_)
            · have h := h.1 (c)
              exact j_75 _ h
            · have h := h.2 (c)
              refine jw_aload_n F 0 dX2_longest_76 rfl rfl ?_
              refine gx_X2_48_0 F dX2_longest_77 ?_
              refine jw_bipush F (z := 84) dX2_longest_80 (by decide) ?_
              refine jw_iconst F dX2_longest_82 ?_
              refine jw_aload_n F 0 dX2_longest_83 rfl rfl ?_
              refine gx_X2_22_0 F dX2_longest_84 ?_
              refine jw_iload_n F 1 dX2_longest_87 rfl rfl ?_
              obtain ⟨o_76, o_77, h⟩ := h
              refine jw_iald F (mO dA ad) (k := 5) (by decide) (ma_5 dA ad) 0 rfl (by decide) o_76 o_77 dX2_longest_88 ?_
              obtain ⟨o_78, o_79, h⟩ := h
              refine jw_ishl F o_78 o_79 dX2_longest_89 ?_
              refine jw_imul F dX2_longest_90 ?_
              refine jw_iload_n F 1 dX2_longest_91 rfl rfl ?_
              refine jw_iadd F dX2_longest_92 ?_
              refine jw_iconst F dX2_longest_93 ?_
              obtain ⟨o_80, o_81, h⟩ := h
              refine jw_iast F (mO dA ad) (k := 13) (by decide) (ma_13 dA ad) 0 rfl (by decide) o_80 o_81 dX2_longest_94 ?_
              exact j_75 _ h
      · have h := h.2 (c)
        refine jw_aload_n F 0 dX2_longest_44 rfl rfl ?_
        refine gx_X2_48_0 F dX2_longest_45 ?_
        refine jw_iload_n F 1 dX2_longest_48 rfl rfl ?_
        refine jw_iconst F dX2_longest_49 ?_
        obtain ⟨o_82, o_83, h⟩ := h
        refine jw_iast F (mO dA ad) (k := 13) (by decide) (ma_13 dA ad) 0 rfl (by decide) o_82 o_83 dX2_longest_50 ?_
        refine jw_iinc F (lv' := [(0, .ref (ad 0)), (1, .int (iI (x1_3 + 1)))]) 1 [1, 0] dX2_longest_51 rfl (by decide) rfl ?_
        refine jw_goto F (tgt := 33) dX2_longest_54 (by decide) ?_
        exact ih_6 _ _ h
    · have h := h.2 (c)
      refine jw_bipush F (z := (-103)) dX2_longest_18 (by decide) ?_
      exact rt _ _ _ _ dX2_longest_20 h
theorem hd_X2_isGood : yX2_isGood.cls = RX2 ∧ yX2_isGood.cls ≠ "java/lang/invoke/MethodHandle" ∧ yX2_isGood.cls ≠ "java/lang/invoke/VarHandle" ∧ (parseMethodDescriptor yX2_isGood.desc).map (fun d => d.parameters.length) = some 2 := by decide +kernel
set_option maxHeartbeats 4000000 in
set_option maxRecDepth 100000 in
theorem wk_X2_isGood {l : Launch} {D : va_G} {dA : Nat → ClassId} {ad : Nat → Nat} {s : Sg} {a1 a2 : Int} {Q : Int → Prop} (h : wp_X2_isGood a1 a2 s Q) : MXi l D dA (mwf dA ad) yX2_isGood cX2_isGood 3 .boolean ({ frames := 2, cells := 0, slots := 0, locals := 44 } : Room) [.ref (ad 0), .int (iI a1), .int (iI a2)] s (fun z s' => (z = 0 ∨ z = 1) ∧ s' = s ∧ Q z) := by
  unfold wp_X2_isGood at h
  refine jw_start_z (own := RX2) (lv0 := [(0, .ref (ad 0)), (1, .int (iI a1)), (2, .int (iI a2))]) (by decide) rfl (Nat.le_of_ble_eq_true rfl) rfl (fun G F rt => ?_)
  refine jw_aload_n F 0 dX2_isGood_0 rfl rfl ?_
  refine jw_iload_n F 1 dX2_isGood_1 rfl rfl ?_
  refine jw_iload_n F 2 dX2_isGood_2 rfl rfl ?_
  refine jw_callVzp F (wk_X2_mayTake h) (lw_V q1122 q1124 qs61 q77 q1125) hd_X2_mayTake ⟨rfl, rfl, Nat.le_of_ble_eq_true rfl, Nat.le_of_ble_eq_true rfl⟩ rfl rfl (mh_0 dA ad _) rfl rfl rfl (Nat.le_of_ble_eq_true rfl) dX2_isGood_3 (fun r_1 hb_r_1 h => ?_)
  refine jw_if_eq F (rg01 hb_r_1) (tgt := 36) dX2_isGood_6 (by decide) (fun c => ?_) (fun c => ?_)
  · have h := h.1 (c)
    refine jw_iconst F dX2_isGood_36 ?_
    exact rt _ _ _ _ dX2_isGood_37 (by decide) ⟨(by decide), rfl, h⟩
  · have h := h.2 (c)
    refine jw_aload_n F 0 dX2_isGood_9 rfl rfl ?_
    refine gx_X2_48_0 F dX2_isGood_10 ?_
    refine jw_bipush F (z := 84) dX2_isGood_13 (by decide) ?_
    refine jw_iload_n F 1 dX2_isGood_15 rfl rfl ?_
    refine jw_iconst F dX2_isGood_16 ?_
    refine jw_aload_n F 0 dX2_isGood_17 rfl rfl ?_
    refine gx_X2_22_0 F dX2_isGood_18 ?_
    refine jw_iload_n F 2 dX2_isGood_21 rfl rfl ?_
    obtain ⟨o_3, o_4, h⟩ := h
    refine jw_iald F (mO dA ad) (k := 5) (by decide) (ma_5 dA ad) 0 rfl (by decide) o_3 o_4 dX2_isGood_22 ?_
    obtain ⟨o_5, o_6, h⟩ := h
    refine jw_ishl F o_5 o_6 dX2_isGood_23 ?_
    obtain ⟨o_7, h⟩ := h
    obtain ⟨o_8, h⟩ := h
    refine jw_ior F o_7 o_8 dX2_isGood_24 ?_
    refine jw_imul F dX2_isGood_25 ?_
    refine jw_iload_n F 2 dX2_isGood_26 rfl rfl ?_
    refine jw_iadd F dX2_isGood_27 ?_
    obtain ⟨o_9, o_10, h⟩ := h
    refine jw_iald F (mO dA ad) (k := 13) (by decide) (ma_13 dA ad) 0 rfl (by decide) o_9 o_10 dX2_isGood_28 ?_
    obtain ⟨o_11, h⟩ := h
    refine jw_if_ne F o_11 (tgt := 36) dX2_isGood_29 (by decide) (fun c => ?_) (fun c => ?_)
    · have h := h.1 (c)
      refine jw_iconst F dX2_isGood_36 ?_
      exact rt _ _ _ _ dX2_isGood_37 (by decide) ⟨(by decide), rfl, h⟩
    · have h := h.2 (c)
      refine jw_iconst F dX2_isGood_32 ?_
      refine jw_goto F (tgt := 37) dX2_isGood_33 (by decide) ?_
      exact rt _ _ _ _ dX2_isGood_37 (by decide) ⟨(by decide), rfl, h⟩
theorem hd_X2_game : yX2_game.cls = RX2 ∧ yX2_game.cls ≠ "java/lang/invoke/MethodHandle" ∧ yX2_game.cls ≠ "java/lang/invoke/VarHandle" ∧ (parseMethodDescriptor yX2_game.desc).map (fun d => d.parameters.length) = some 2 := by decide +kernel
set_option maxHeartbeats 4000000 in
set_option maxRecDepth 100000 in
theorem wk_X2_game {l : Launch} {D : va_G} {dA : Nat → ClassId} {ad : Nat → Nat} {s : Sg} {a1 a2 : Int} {Q : Int → Sg → Prop} (h : wp_X2_game a1 a2 s Q) : MXi l D dA (mwf dA ad) yX2_game cX2_game 7 .int ({ frames := 3, cells := 0, slots := 0, locals := 66 } : Room) [.ref (ad 0), .int (iI a1), .int (iI a2)] s Q := by
  unfold wp_X2_game at h
  refine jw_start_i (own := RX2) (lv0 := [(0, .ref (ad 0)), (1, .int (iI a1)), (2, .int (iI a2))]) (by decide) rfl (Nat.le_of_ble_eq_true rfl) rfl (fun G F rt => ?_)
  refine jw_iload_n F 1 dX2_game_0 rfl rfl ?_
  obtain ⟨o_1, h⟩ := h
  refine jw_i2l F o_1 dX2_game_1 ?_
  refine jw_lconst F (z := 0) dX2_game_2 (by decide) ?_
  refine jw_ldc2 F (z := 2) q1011 dX2_game_3 ?_
  refine jw_callSzp F (wk_X2_in h) (lw_S q965 q966 q77 q967) hd_X2_in ⟨rfl, rfl, Nat.le_of_ble_eq_true rfl, Nat.le_of_ble_eq_true rfl⟩ rfl rfl (Nat.le_of_ble_eq_true rfl) dX2_game_6 (fun r_2 hb_r_2 h => ?_)
  refine jw_if_eq F (rg01 hb_r_2) (tgt := 22) dX2_game_9 (by decide) (fun c => ?_) (fun c => ?_)
  · have h := h.1 (c)
    refine jw_bipush F (z := (-102)) dX2_game_22 (by decide) ?_
    exact rt _ _ _ _ dX2_game_24 h
  · have h := h.2 (c)
    refine jw_iload_n F 2 dX2_game_12 rfl rfl ?_
    obtain ⟨o_4, h⟩ := h
    refine jw_i2l F o_4 dX2_game_13 ?_
    refine jw_lconst F (z := 0) dX2_game_14 (by decide) ?_
    refine jw_lconst F (z := 1) dX2_game_15 (by decide) ?_
    refine jw_callSzp F (wk_X2_in h) (lw_S q965 q966 q77 q967) hd_X2_in ⟨rfl, rfl, Nat.le_of_ble_eq_true rfl, Nat.le_of_ble_eq_true rfl⟩ rfl rfl (Nat.le_of_ble_eq_true rfl) dX2_game_16 (fun r_5 hb_r_5 h => ?_)
    refine jw_if_ne F (rg01 hb_r_5) (tgt := 25) dX2_game_19 (by decide) (fun c => ?_) (fun c => ?_)
    · have h := h.1 (c)
      refine jw_aload_n F 0 dX2_game_25 rfl rfl ?_
      refine gx_X2_109_0 F dX2_game_26 ?_
      refine jw_bipush F (z := 10) dX2_game_29 (by decide) ?_
      obtain ⟨o_7, h⟩ := h
      refine jw_icmp_gt F o_7 (by decide) (tgt := 43) dX2_game_31 (by decide) (fun c => ?_) (fun c => ?_)
      · have h := h.1 (c)
        refine jw_bipush F (z := (-103)) dX2_game_43 (by decide) ?_
        exact rt _ _ _ _ dX2_game_45 h
      · have h := h.2 (c)
        refine jw_aload_n F 0 dX2_game_34 rfl rfl ?_
        refine gx_X2_212_0 F dX2_game_35 ?_
        refine jw_bipush F (z := 30) dX2_game_38 (by decide) ?_
        obtain ⟨o_8, h⟩ := h
        refine jw_icmp_ne F o_8 (by decide) (tgt := 46) dX2_game_40 (by decide) (fun c => ?_) (fun c => ?_)
        · have h := h.1 (c)
          refine jw_aload_n F 0 dX2_game_46 rfl rfl ?_
          refine jw_dup F rfl dX2_game_47 ?_
          refine gx_X2_212_0 F dX2_game_48 ?_
          refine jw_iconst F dX2_game_51 ?_
          refine jw_iadd F dX2_game_52 ?_
          refine pgx_X2_212_0 F dX2_game_53 ?_
          refine jw_iconst F dX2_game_56 ?_
          refine jw_aload_n F 0 dX2_game_57 rfl rfl ?_
          refine gx_X2_109_0 F dX2_game_58 ?_
          obtain ⟨o_9, o_10, h⟩ := h
          refine jw_ishl F o_9 o_10 dX2_game_61 ?_
          refine jw_iconst F dX2_game_62 ?_
          refine jw_isub F dX2_game_63 ?_
          refine jw_istore_n F (lv' := [(0, .ref (ad 0)), (1, .int (iI a1)), (2, .int (iI a2)), (3, .int (iI (((1 : Int) * 2 ^ (((up s 0 24 ((s 0 24) + 1)) 0 10) : Int).toNat) - 1)))]) [1, 2, 3, 0] dX2_game_64 rfl (by decide) rfl ?_
          refine lp2_r (fun x3_11 s_12 => G s_12 65 [(0, .ref (ad 0)), (1, .int (iI a1)), (2, .int (iI a2)), (3, .int (iI x3_11))] []) h (fun x3_11 s_12 K_13 h ih_14 => ?_)
          refine jw_iload_n F 3 dX2_game_65 rfl rfl ?_
          obtain ⟨o_15, h⟩ := h
          refine jw_if_le F o_15 (tgt := 162) dX2_game_66 (by decide) (fun c => ?_) (fun c => ?_)
          · have h := h.1 (c)
            refine jw_iconst F dX2_game_162 ?_
            refine jw_istore_n F (lv' := [(0, .ref (ad 0)), (1, .int (iI a1)), (2, .int (iI a2)), (3, .int (iI (-1)))]) [1, 2, 3, 0] dX2_game_163 rfl (by decide) rfl ?_
            refine jw_aload_n F 0 dX2_game_164 rfl rfl ?_
            refine gx_X2_102_0 F dX2_game_165 ?_
            refine jw_iconst F dX2_game_168 ?_
            refine jw_isub F dX2_game_169 ?_
            refine jw_istore F (lv' := [(0, .ref (ad 0)), (1, .int (iI a1)), (2, .int (iI a2)), (3, .int (iI (-1))), (4, .int (iI ((s_12 0 8) - 1)))]) [1, 2, 3, 4, 0] dX2_game_170 (by decide) rfl ?_
            refine jw_sub F (lv' := [(0, .ref (ad 0)), (2, .int (iI a2)), (3, .int (iI (-1))), (4, .int (iI ((s_12 0 8) - 1)))]) [0, 2, 3, 4] rfl ?_
            refine lp2_r (fun x3_16 x4_17 => G s_12 172 [(0, .ref (ad 0)), (2, .int (iI a2)), (3, .int (iI x3_16)), (4, .int (iI x4_17))] []) h (fun x3_16 x4_17 K_18 h ih_19 => ?_)
            refine jw_iload F 3 dX2_game_172 rfl ?_
            obtain ⟨o_20, h⟩ := h
            refine jw_if_lt F o_20 (tgt := 200) dX2_game_174 (by decide) (fun c => ?_) (fun c => ?_)
            · have h := h.1 (c)
              refine jw_iload_n F 1 dX2_game_200 rfl rfl ?_
              refine jw_iconst F dX2_game_201 ?_
              obtain ⟨o_21, h⟩ := h
              refine jw_icmp_ne F o_21 (by decide) (tgt := 209) dX2_game_202 (by decide) (fun c => ?_) (fun c => ?_)
              · have h := h.1 (c)
                refine jw_iload_n F 2 dX2_game_209 rfl rfl ?_
                refine jw_iconst F dX2_game_210 ?_
                obtain ⟨o_22, h⟩ := h
                refine jw_icmp_ne F o_22 (by decide) (tgt := 218) dX2_game_211 (by decide) (fun c => ?_) (fun c => ?_)
                · have h := h.1 (c)
                  refine jw_iconst F dX2_game_218 ?_
                  exact rt _ _ _ _ dX2_game_219 h
                · have h := h.2 (c)
                  refine jw_iconst F dX2_game_214 ?_
                  refine jw_goto F (tgt := 219) dX2_game_215 (by decide) ?_
                  exact rt _ _ _ _ dX2_game_219 h
              · have h := h.2 (c)
                refine jw_iload_n F 2 dX2_game_205 rfl rfl ?_
                refine jw_goto F (tgt := 219) dX2_game_206 (by decide) ?_
                exact rt _ _ _ _ dX2_game_219 h
            · have h := h.2 (c)
              refine jw_aload_n F 0 dX2_game_177 rfl rfl ?_
              refine jw_iconst F dX2_game_178 ?_
              refine jw_iload F 3 dX2_game_179 rfl ?_
              refine jw_callVzp F (wk_X2_isGood h) (lw_V q1137 q1139 qs63 q77 q1140) hd_X2_isGood ⟨rfl, rfl, Nat.le_of_ble_eq_true rfl, Nat.le_of_ble_eq_true rfl⟩ rfl rfl (mh_0 dA ad _) rfl rfl rfl (Nat.le_of_ble_eq_true rfl) dX2_game_181 (fun r_23 hb_r_23 h => ?_)
              refine jn1_r (fun v_25 => G s_12 193 [(0, .ref (ad 0)), (2, .int (iI a2)), (4, .int (iI x4_17))] [.int (iI v_25)]) h (fun v_25 h => ?_) (fun K_26 h j_27 => ?_)
              · refine jw_istore_n F (lv' := [(0, .ref (ad 0)), (2, .int (iI a2)), (3, .int (iI v_25)), (4, .int (iI x4_17))]) [1, 2, 0, 3] dX2_game_193 rfl (by decide) rfl ?_
                refine jw_iinc F (lv' := [(0, .ref (ad 0)), (2, .int (iI a2)), (3, .int (iI v_25)), (4, .int (iI (x4_17 + (-1))))]) 3 [1, 2, 3, 0] dX2_game_194 rfl (by decide) rfl ?_
                refine jw_goto F (tgt := 172) dX2_game_197 (by decide) ?_
                exact ih_19 _ _ h
              · refine jw_if_eq F (rg01 hb_r_23) (tgt := 192) dX2_game_184 (by decide) (fun c => ?_) (fun c => ?_)
                · have h := h.1 (c)
                  refine jw_iload_n F 2 dX2_game_192 rfl rfl ?_
                  refine jw_sub F (lv' := [(0, .ref (ad 0)), (2, .int (iI a2)), (4, .int (iI x4_17))]) [0, 1, 3] rfl ?_
                  exact j_27 _ h
                · have h := h.2 (c)
                  refine jw_iload F 3 dX2_game_187 rfl ?_
                  refine jw_goto F (tgt := 193) dX2_game_189 (by decide) ?_
                  refine jw_sub F (lv' := [(0, .ref (ad 0)), (2, .int (iI a2)), (4, .int (iI x4_17))]) [0, 1, 3] rfl ?_
                  exact j_27 _ h
          · have h := h.2 (c)
            refine jw_iconst F dX2_game_69 ?_
            refine jw_istore F (lv' := [(0, .ref (ad 0)), (1, .int (iI a1)), (2, .int (iI a2)), (3, .int (iI x3_11)), (4, .int (iI 0))]) [1, 2, 3, 4, 0] dX2_game_70 (by decide) rfl ?_
            refine lp2_r (fun x4_28 s_29 => G s_29 72 [(0, .ref (ad 0)), (1, .int (iI a1)), (2, .int (iI a2)), (3, .int (iI x3_11)), (4, .int (iI x4_28))] []) h (fun x4_28 s_29 K_30 h ih_31 => ?_)
            refine jw_iload F 4 dX2_game_72 rfl ?_
            refine jw_aload_n F 0 dX2_game_74 rfl rfl ?_
            refine gx_X2_102_0 F dX2_game_75 ?_
            obtain ⟨o_32, h⟩ := h
            obtain ⟨o_33, h⟩ := h
            refine jw_icmp_ge F o_32 o_33 (tgt := 156) dX2_game_78 (by decide) (fun c => ?_) (fun c => ?_)
            · have h := h.1 (c)
              refine jw_iinc F (lv' := [(0, .ref (ad 0)), (1, .int (iI a1)), (2, .int (iI a2)), (3, .int (iI (x3_11 + (-1)))), (4, .int (iI x4_28))]) 3 [1, 2, 3, 0, 4] dX2_game_156 rfl (by decide) rfl ?_
              refine jw_goto F (tgt := 65) dX2_game_159 (by decide) ?_
              refine jw_sub F (lv' := [(0, .ref (ad 0)), (1, .int (iI a1)), (2, .int (iI a2)), (3, .int (iI (x3_11 + (-1))))]) [0, 1, 2, 3] rfl ?_
              exact ih_14 _ _ h
            · have h := h.2 (c)
              refine jw_iconst F dX2_game_81 ?_
              refine jw_istore F (lv' := [(0, .ref (ad 0)), (1, .int (iI a1)), (2, .int (iI a2)), (3, .int (iI x3_11)), (4, .int (iI x4_28)), (5, .int (iI 0))]) [1, 2, 3, 4, 5, 0] dX2_game_82 (by decide) rfl ?_
              refine jw_iconst F dX2_game_84 ?_
              refine jw_istore F (lv' := [(0, .ref (ad 0)), (1, .int (iI a1)), (2, .int (iI a2)), (3, .int (iI x3_11)), (4, .int (iI x4_28)), (5, .int (iI 0)), (6, .int (iI 0))]) [1, 2, 3, 4, 5, 6, 0] dX2_game_85 (by decide) rfl ?_
              refine lp2_r (fun x5_34 x6_35 => G s_29 87 [(0, .ref (ad 0)), (1, .int (iI a1)), (2, .int (iI a2)), (3, .int (iI x3_11)), (4, .int (iI x4_28)), (5, .int (iI x5_34)), (6, .int (iI x6_35))] []) h (fun x5_34 x6_35 K_36 h ih_37 => ?_)
              refine jw_iload F 6 dX2_game_87 rfl ?_
              refine jw_aload_n F 0 dX2_game_89 rfl rfl ?_
              refine gx_X2_102_0 F dX2_game_90 ?_
              obtain ⟨o_38, h⟩ := h
              obtain ⟨o_39, h⟩ := h
              refine jn0_r (G s_29 136 [(0, .ref (ad 0)), (1, .int (iI a1)), (2, .int (iI a2)), (3, .int (iI x3_11)), (4, .int (iI x4_28)), (5, .int (iI x5_34))] []) h (fun h => ?_) (fun K_40 h j_41 => ?_)
              · refine jw_aload_n F 0 dX2_game_136 rfl rfl ?_
                refine gx_X2_48_0 F dX2_game_137 ?_
                refine jw_bipush F (z := 84) dX2_game_140 (by decide) ?_
                refine jw_iload_n F 3 dX2_game_142 rfl rfl ?_
                refine jw_imul F dX2_game_143 ?_
                refine jw_iload F 4 dX2_game_144 rfl ?_
                refine jw_iadd F dX2_game_146 ?_
                refine jw_iload F 5 dX2_game_147 rfl ?_
                obtain ⟨o_42, o_43, h⟩ := h
                refine jw_iast F (mO dA ad) (k := 13) (by decide) (ma_13 dA ad) 0 rfl (by decide) o_42 o_43 dX2_game_149 ?_
                refine jw_iinc F (lv' := [(0, .ref (ad 0)), (1, .int (iI a1)), (2, .int (iI a2)), (3, .int (iI x3_11)), (4, .int (iI (x4_28 + 1))), (5, .int (iI x5_34))]) 4 [1, 2, 3, 4, 0, 5] dX2_game_150 rfl (by decide) rfl ?_
                refine jw_goto F (tgt := 72) dX2_game_153 (by decide) ?_
                refine jw_sub F (lv' := [(0, .ref (ad 0)), (1, .int (iI a1)), (2, .int (iI a2)), (3, .int (iI x3_11)), (4, .int (iI (x4_28 + 1)))]) [0, 1, 2, 3, 4] rfl ?_
                exact ih_31 _ _ h
              · refine jw_icmp_ge F o_38 o_39 (tgt := 136) dX2_game_93 (by decide) (fun c => ?_) (fun c => ?_)
                · have h := h.1 (c)
                  refine jw_sub F (lv' := [(0, .ref (ad 0)), (1, .int (iI a1)), (2, .int (iI a2)), (3, .int (iI x3_11)), (4, .int (iI x4_28)), (5, .int (iI x5_34))]) [0, 1, 2, 3, 4, 5] rfl ?_
                  exact j_41 h
                · have h := h.2 (c)
                  refine jw_iload F 5 dX2_game_96 rfl ?_
                  obtain ⟨o_44, h⟩ := h
                  refine jw_if_ne F o_44 (tgt := 136) dX2_game_98 (by decide) (fun c => ?_) (fun c => ?_)
                  · have h := h.1 (c)
                    refine jw_sub F (lv' := [(0, .ref (ad 0)), (1, .int (iI a1)), (2, .int (iI a2)), (3, .int (iI x3_11)), (4, .int (iI x4_28)), (5, .int (iI x5_34))]) [0, 1, 2, 3, 4, 5] rfl ?_
                    exact j_41 h
                  · have h := h.2 (c)
                    refine jw_aload_n F 0 dX2_game_101 rfl rfl ?_
                    refine jw_iload F 6 dX2_game_102 rfl ?_
                    refine jw_iload F 4 dX2_game_104 rfl ?_
                    refine jw_callVip F (wk_X2_inCommon h) (lw_V q1129 q1131 qs62 q77 q1132) hd_X2_inCommon ⟨rfl, rfl, Nat.le_of_ble_eq_true rfl, Nat.le_of_ble_eq_true rfl⟩ rfl rfl (mh_0 dA ad _) rfl rfl rfl (Nat.le_of_ble_eq_true rfl) dX2_game_106 (fun r_45 h => ?_)
                    refine jw_iload_n F 1 dX2_game_109 rfl rfl ?_
                    obtain ⟨o_47, h⟩ := h
                    obtain ⟨o_48, h⟩ := h
                    refine jn1_r (fun v_49 => G s_29 128 [(0, .ref (ad 0)), (1, .int (iI a1)), (2, .int (iI a2)), (3, .int (iI x3_11)), (4, .int (iI x4_28)), (6, .int (iI x6_35))] [.int (iI v_49)]) h (fun v_49 h => ?_) (fun K_50 h j_51 => ?_)
                    · refine jw_istore F (lv' := [(0, .ref (ad 0)), (1, .int (iI a1)), (2, .int (iI a2)), (3, .int (iI x3_11)), (4, .int (iI x4_28)), (5, .int (iI v_49)), (6, .int (iI x6_35))]) [1, 2, 3, 4, 5, 0, 6] dX2_game_128 (by decide) rfl ?_
                      refine jw_iinc F (lv' := [(0, .ref (ad 0)), (1, .int (iI a1)), (2, .int (iI a2)), (3, .int (iI x3_11)), (4, .int (iI x4_28)), (5, .int (iI v_49)), (6, .int (iI (x6_35 + 1)))]) 6 [1, 2, 3, 4, 5, 6, 0] dX2_game_130 rfl (by decide) rfl ?_
                      refine jw_goto F (tgt := 87) dX2_game_133 (by decide) ?_
                      exact ih_37 _ _ h
                    · refine jn0_r (G s_29 127 [(0, .ref (ad 0)), (1, .int (iI a1)), (2, .int (iI a2)), (3, .int (iI x3_11)), (4, .int (iI x4_28)), (6, .int (iI x6_35))] []) h (fun h => ?_) (fun K_52 h j_53 => ?_)
                      · refine jw_iconst F dX2_game_127 ?_
                        exact j_51 _ h
                      · refine jw_icmp_ne F o_47 o_48 (tgt := 127) dX2_game_110 (by decide) (fun c => ?_) (fun c => ?_)
                        · have h := h.1 (c)
                          refine jw_sub F (lv' := [(0, .ref (ad 0)), (1, .int (iI a1)), (2, .int (iI a2)), (3, .int (iI x3_11)), (4, .int (iI x4_28)), (6, .int (iI x6_35))]) [0, 1, 2, 3, 4, 6] rfl ?_
                          exact j_53 h
                        · have h := h.2 (c)
                          refine jw_aload_n F 0 dX2_game_113 rfl rfl ?_
                          refine jw_iload_n F 3 dX2_game_114 rfl rfl ?_
                          refine jw_iload F 6 dX2_game_115 rfl ?_
                          refine jw_callVzp F (wk_X2_isGood h) (lw_V q1137 q1139 qs63 q77 q1140) hd_X2_isGood ⟨rfl, rfl, Nat.le_of_ble_eq_true rfl, Nat.le_of_ble_eq_true rfl⟩ rfl rfl (mh_0 dA ad _) rfl rfl rfl (Nat.le_of_ble_eq_true rfl) dX2_game_117 (fun r_54 hb_r_54 h => ?_)
                          refine jw_if_eq F (rg01 hb_r_54) (tgt := 127) dX2_game_120 (by decide) (fun c => ?_) (fun c => ?_)
                          · have h := h.1 (c)
                            refine jw_sub F (lv' := [(0, .ref (ad 0)), (1, .int (iI a1)), (2, .int (iI a2)), (3, .int (iI x3_11)), (4, .int (iI x4_28)), (6, .int (iI x6_35))]) [0, 1, 2, 3, 4, 6] rfl ?_
                            exact j_53 h
                          · have h := h.2 (c)
                            refine jw_iconst F dX2_game_123 ?_
                            refine jw_goto F (tgt := 128) dX2_game_124 (by decide) ?_
                            refine jw_sub F (lv' := [(0, .ref (ad 0)), (1, .int (iI a1)), (2, .int (iI a2)), (3, .int (iI x3_11)), (4, .int (iI x4_28)), (6, .int (iI x6_35))]) [0, 1, 2, 3, 4, 6] rfl ?_
                            exact j_51 _ h
        · have h := h.2 (c)
          refine jw_bipush F (z := (-103)) dX2_game_43 (by decide) ?_
          exact rt _ _ _ _ dX2_game_45 h
    · have h := h.2 (c)
      refine jw_bipush F (z := (-102)) dX2_game_22 (by decide) ?_
      exact rt _ _ _ _ dX2_game_24 h
theorem hd_X2_brokenOf : yX2_brokenOf.cls = RX2 ∧ yX2_brokenOf.cls ≠ "java/lang/invoke/MethodHandle" ∧ yX2_brokenOf.cls ≠ "java/lang/invoke/VarHandle" ∧ (parseMethodDescriptor yX2_brokenOf.desc).map (fun d => d.parameters.length) = some 1 := by decide +kernel
set_option maxHeartbeats 4000000 in
set_option maxRecDepth 100000 in
theorem wk_X2_brokenOf {l : Launch} {D : va_G} {dA : Nat → ClassId} {ad : Nat → Nat} {s : Sg} {a1 : Int} {Q : Int → Prop} (h : wp_X2_brokenOf a1 s Q) : MXi l D dA (mwf dA ad) yX2_brokenOf cX2_brokenOf 7 .int ({ frames := 2, cells := 0, slots := 0, locals := 43 } : Room) [.ref (ad 0), .int (iI a1)] s (fun z s' => s' = s ∧ Q z) := by
  unfold wp_X2_brokenOf at h
  refine jw_start_i (own := RX2) (lv0 := [(0, .ref (ad 0)), (1, .int (iI a1))]) (by decide) rfl (Nat.le_of_ble_eq_true rfl) rfl (fun G F rt => ?_)
  refine jw_iconst F dX2_brokenOf_0 ?_
  refine jw_istore_n F (lv' := [(0, .ref (ad 0)), (1, .int (iI a1)), (2, .int (iI 0))]) [1, 2, 0] dX2_brokenOf_1 rfl (by decide) rfl ?_
  refine jw_iconst F dX2_brokenOf_2 ?_
  refine jw_istore_n F (lv' := [(0, .ref (ad 0)), (1, .int (iI a1)), (2, .int (iI 0)), (3, .int (iI 0))]) [1, 2, 3, 0] dX2_brokenOf_3 rfl (by decide) rfl ?_
  refine lp2_r (fun x2_1 x3_2 => G s 4 [(0, .ref (ad 0)), (1, .int (iI a1)), (2, .int (iI x2_1)), (3, .int (iI x3_2))] []) h (fun x2_1 x3_2 K_3 h ih_4 => ?_)
  refine jw_iload_n F 3 dX2_brokenOf_4 rfl rfl ?_
  refine jw_aload_n F 0 dX2_brokenOf_5 rfl rfl ?_
  refine gx_X2_109_0 F dX2_brokenOf_6 ?_
  obtain ⟨o_5, h⟩ := h
  obtain ⟨o_6, h⟩ := h
  refine jw_icmp_ge F o_5 o_6 (tgt := 138) dX2_brokenOf_9 (by decide) (fun c => ?_) (fun c => ?_)
  · have h := h.1 (c)
    refine jw_iload_n F 2 dX2_brokenOf_138 rfl rfl ?_
    exact rt _ _ _ _ dX2_brokenOf_139 ⟨rfl, h⟩
  · have h := h.2 (c)
    refine jw_iconst F dX2_brokenOf_12 ?_
    refine jw_istore F (lv' := [(0, .ref (ad 0)), (1, .int (iI a1)), (2, .int (iI x2_1)), (3, .int (iI x3_2)), (4, .int (iI 0))]) [1, 2, 3, 4, 0] dX2_brokenOf_13 (by decide) rfl ?_
    refine jw_iconst F dX2_brokenOf_15 ?_
    refine jw_istore F (lv' := [(0, .ref (ad 0)), (1, .int (iI a1)), (2, .int (iI x2_1)), (3, .int (iI x3_2)), (4, .int (iI 0)), (5, .int (iI 0))]) [1, 2, 3, 4, 5, 0] dX2_brokenOf_16 (by decide) rfl ?_
    refine lp2_r (fun x4_7 x5_8 => G s 18 [(0, .ref (ad 0)), (1, .int (iI a1)), (2, .int (iI x2_1)), (3, .int (iI x3_2)), (4, .int (iI x4_7)), (5, .int (iI x5_8))] []) h (fun x4_7 x5_8 K_9 h ih_10 => ?_)
    refine jw_iload F 5 dX2_brokenOf_18 rfl ?_
    refine jw_aload_n F 0 dX2_brokenOf_20 rfl rfl ?_
    refine gx_X2_102_0 F dX2_brokenOf_21 ?_
    obtain ⟨o_11, h⟩ := h
    obtain ⟨o_12, h⟩ := h
    refine jn0_r (G s 119 [(0, .ref (ad 0)), (1, .int (iI a1)), (2, .int (iI x2_1)), (3, .int (iI x3_2)), (4, .int (iI x4_7))] []) h (fun h => ?_) (fun K_13 h j_14 => ?_)
    · refine jw_iload_n F 2 dX2_brokenOf_119 rfl rfl ?_
      refine jw_iload F 4 dX2_brokenOf_120 rfl ?_
      obtain ⟨o_15, h⟩ := h
      refine jn1_r (fun v_16 => G s 130 [(0, .ref (ad 0)), (1, .int (iI a1)), (3, .int (iI x3_2))] [.int (iI v_16), .int (iI x2_1)]) h (fun v_16 h => ?_) (fun K_17 h j_18 => ?_)
      · refine jw_iadd F dX2_brokenOf_130 ?_
        refine jw_istore_n F (lv' := [(0, .ref (ad 0)), (1, .int (iI a1)), (2, .int (iI (x2_1 + v_16))), (3, .int (iI x3_2))]) [1, 2, 0, 3] dX2_brokenOf_131 rfl (by decide) rfl ?_
        refine jw_iinc F (lv' := [(0, .ref (ad 0)), (1, .int (iI a1)), (2, .int (iI (x2_1 + v_16))), (3, .int (iI (x3_2 + 1)))]) 3 [1, 2, 3, 0] dX2_brokenOf_132 rfl (by decide) rfl ?_
        refine jw_goto F (tgt := 4) dX2_brokenOf_135 (by decide) ?_
        exact ih_4 _ _ h
      · refine jw_if_eq F o_15 (tgt := 129) dX2_brokenOf_122 (by decide) (fun c => ?_) (fun c => ?_)
        · have h := h.1 (c)
          refine jw_iconst F dX2_brokenOf_129 ?_
          refine jw_sub F (lv' := [(0, .ref (ad 0)), (1, .int (iI a1)), (3, .int (iI x3_2))]) [0, 1, 3] rfl ?_
          exact j_18 _ h
        · have h := h.2 (c)
          refine jw_iconst F dX2_brokenOf_125 ?_
          refine jw_goto F (tgt := 130) dX2_brokenOf_126 (by decide) ?_
          refine jw_sub F (lv' := [(0, .ref (ad 0)), (1, .int (iI a1)), (3, .int (iI x3_2))]) [0, 1, 3] rfl ?_
          exact j_18 _ h
    · refine jw_icmp_ge F o_11 o_12 (tgt := 119) dX2_brokenOf_24 (by decide) (fun c => ?_) (fun c => ?_)
      · have h := h.1 (c)
        refine jw_sub F (lv' := [(0, .ref (ad 0)), (1, .int (iI a1)), (2, .int (iI x2_1)), (3, .int (iI x3_2)), (4, .int (iI x4_7))]) [0, 1, 2, 3, 4] rfl ?_
        exact j_14 h
      · have h := h.2 (c)
        refine jw_iload F 4 dX2_brokenOf_27 rfl ?_
        obtain ⟨o_19, h⟩ := h
        refine jw_if_ne F o_19 (tgt := 119) dX2_brokenOf_29 (by decide) (fun c => ?_) (fun c => ?_)
        · have h := h.1 (c)
          refine jw_sub F (lv' := [(0, .ref (ad 0)), (1, .int (iI a1)), (2, .int (iI x2_1)), (3, .int (iI x3_2)), (4, .int (iI x4_7))]) [0, 1, 2, 3, 4] rfl ?_
          exact j_14 h
        · have h := h.2 (c)
          refine jw_aload_n F 0 dX2_brokenOf_32 rfl rfl ?_
          refine gx_X2_19_0 F dX2_brokenOf_33 ?_
          refine jw_iconst F dX2_brokenOf_36 ?_
          refine jw_iload F 5 dX2_brokenOf_37 rfl ?_
          refine jw_imul F dX2_brokenOf_39 ?_
          obtain ⟨o_20, o_21, h⟩ := h
          refine jw_iald F (mO dA ad) (k := 4) (by decide) (ma_4 dA ad) 0 rfl (by decide) o_20 o_21 dX2_brokenOf_40 ?_
          refine jw_iload_n F 1 dX2_brokenOf_41 rfl rfl ?_
          obtain ⟨o_22, h⟩ := h
          obtain ⟨o_23, h⟩ := h
          refine jn1_r (fun v_24 => G s 80 [(0, .ref (ad 0)), (1, .int (iI a1)), (2, .int (iI x2_1)), (3, .int (iI x3_2)), (5, .int (iI x5_8))] [.int (iI v_24)]) h (fun v_24 h => ?_) (fun K_25 h j_26 => ?_)
          · refine jw_istore F (lv' := [(0, .ref (ad 0)), (1, .int (iI a1)), (2, .int (iI x2_1)), (3, .int (iI x3_2)), (5, .int (iI x5_8)), (6, .int (iI v_24))]) [1, 2, 3, 4, 5, 0] dX2_brokenOf_80 (by decide) rfl ?_
            refine jw_aload_n F 0 dX2_brokenOf_82 rfl rfl ?_
            refine gx_X2_22_0 F dX2_brokenOf_83 ?_
            refine jw_iload F 4 dX2_brokenOf_86 rfl ?_
            obtain ⟨o_27, o_28, h⟩ := h
            refine jw_iald F (mO dA ad) (k := 5) (by decide) (ma_5 dA ad) 0 rfl (by decide) o_27 o_28 dX2_brokenOf_88 ?_
            refine jw_iload_n F 3 dX2_brokenOf_89 rfl rfl ?_
            obtain ⟨o_29, h⟩ := h
            obtain ⟨o_30, h⟩ := h
            refine jn1_r (fun v_31 => G s 111 [(0, .ref (ad 0)), (1, .int (iI a1)), (2, .int (iI x2_1)), (3, .int (iI x3_2)), (5, .int (iI x5_8))] [.int (iI v_31)]) h (fun v_31 h => ?_) (fun K_32 h j_33 => ?_)
            · refine jw_istore F (lv' := [(0, .ref (ad 0)), (1, .int (iI a1)), (2, .int (iI x2_1)), (3, .int (iI x3_2)), (4, .int (iI v_31)), (5, .int (iI x5_8))]) [1, 2, 3, 4, 0, 5] dX2_brokenOf_111 (by decide) rfl ?_
              refine jw_iinc F (lv' := [(0, .ref (ad 0)), (1, .int (iI a1)), (2, .int (iI x2_1)), (3, .int (iI x3_2)), (4, .int (iI v_31)), (5, .int (iI (x5_8 + 1)))]) 5 [1, 2, 3, 4, 5, 0] dX2_brokenOf_113 rfl (by decide) rfl ?_
              refine jw_goto F (tgt := 18) dX2_brokenOf_116 (by decide) ?_
              exact ih_10 _ _ h
            · refine jn0_r (G s 110 [(0, .ref (ad 0)), (1, .int (iI a1)), (2, .int (iI x2_1)), (3, .int (iI x3_2)), (5, .int (iI x5_8))] []) h (fun h => ?_) (fun K_34 h j_35 => ?_)
              · refine jw_iconst F dX2_brokenOf_110 ?_
                exact j_33 _ h
              · refine jw_icmp_ne F o_29 o_30 (tgt := 110) dX2_brokenOf_90 (by decide) (fun c => ?_) (fun c => ?_)
                · have h := h.1 (c)
                  refine jw_sub F (lv' := [(0, .ref (ad 0)), (1, .int (iI a1)), (2, .int (iI x2_1)), (3, .int (iI x3_2)), (5, .int (iI x5_8))]) [0, 1, 2, 3, 4] rfl ?_
                  exact j_35 h
                · have h := h.2 (c)
                  refine jw_iload F 5 dX2_brokenOf_93 rfl ?_
                  obtain ⟨o_36, h⟩ := h
                  refine jw_if_eq F o_36 (tgt := 110) dX2_brokenOf_95 (by decide) (fun c => ?_) (fun c => ?_)
                  · have h := h.1 (c)
                    refine jw_sub F (lv' := [(0, .ref (ad 0)), (1, .int (iI a1)), (2, .int (iI x2_1)), (3, .int (iI x3_2)), (5, .int (iI x5_8))]) [0, 1, 2, 3, 4] rfl ?_
                    exact j_35 h
                  · have h := h.2 (c)
                    refine jw_aload_n F 0 dX2_brokenOf_98 rfl rfl ?_
                    refine jw_iload_n F 3 dX2_brokenOf_99 rfl rfl ?_
                    refine jw_callVzp F (wk_X2_isLeft h) (lw_V q1024 q1026 qs50 q77 q1027) hd_X2_isLeft ⟨rfl, rfl, Nat.le_of_ble_eq_true rfl, Nat.le_of_ble_eq_true rfl⟩ rfl rfl (mh_0 dA ad _) rfl rfl rfl (Nat.le_of_ble_eq_true rfl) dX2_brokenOf_100 (fun r_37 hb_r_37 h => ?_)
                    refine jw_if_eq F (rg01 hb_r_37) (tgt := 110) dX2_brokenOf_103 (by decide) (fun c => ?_) (fun c => ?_)
                    · have h := h.1 (c)
                      refine jw_sub F (lv' := [(0, .ref (ad 0)), (1, .int (iI a1)), (2, .int (iI x2_1)), (3, .int (iI x3_2)), (5, .int (iI x5_8))]) [0, 1, 2, 3, 4] rfl ?_
                      exact j_35 h
                    · have h := h.2 (c)
                      refine jw_iconst F dX2_brokenOf_106 ?_
                      refine jw_goto F (tgt := 111) dX2_brokenOf_107 (by decide) ?_
                      refine jw_sub F (lv' := [(0, .ref (ad 0)), (1, .int (iI a1)), (2, .int (iI x2_1)), (3, .int (iI x3_2)), (5, .int (iI x5_8))]) [0, 1, 2, 3, 4] rfl ?_
                      exact j_33 _ h
          · refine jn0_r (G s 79 [(0, .ref (ad 0)), (1, .int (iI a1)), (2, .int (iI x2_1)), (3, .int (iI x3_2)), (5, .int (iI x5_8))] []) h (fun h => ?_) (fun K_39 h j_40 => ?_)
            · refine jw_iconst F dX2_brokenOf_79 ?_
              exact j_26 _ h
            · refine jw_icmp_eq F o_22 o_23 (tgt := 79) dX2_brokenOf_42 (by decide) (fun c => ?_) (fun c => ?_)
              · have h := h.1 (c)
                refine jw_sub F (lv' := [(0, .ref (ad 0)), (1, .int (iI a1)), (2, .int (iI x2_1)), (3, .int (iI x3_2)), (5, .int (iI x5_8))]) [0, 1, 2, 3, 5] rfl ?_
                exact j_40 h
              · have h := h.2 (c)
                refine jw_aload_n F 0 dX2_brokenOf_45 rfl rfl ?_
                refine gx_X2_19_0 F dX2_brokenOf_46 ?_
                refine jw_iconst F dX2_brokenOf_49 ?_
                refine jw_iload F 5 dX2_brokenOf_50 rfl ?_
                refine jw_imul F dX2_brokenOf_52 ?_
                refine jw_iconst F dX2_brokenOf_53 ?_
                refine jw_iadd F dX2_brokenOf_54 ?_
                obtain ⟨o_41, o_42, h⟩ := h
                refine jw_iald F (mO dA ad) (k := 4) (by decide) (ma_4 dA ad) 0 rfl (by decide) o_41 o_42 dX2_brokenOf_55 ?_
                refine jw_iload_n F 1 dX2_brokenOf_56 rfl rfl ?_
                obtain ⟨o_43, h⟩ := h
                obtain ⟨o_44, h⟩ := h
                refine jw_icmp_eq F o_43 o_44 (tgt := 79) dX2_brokenOf_57 (by decide) (fun c => ?_) (fun c => ?_)
                · have h := h.1 (c)
                  refine jw_sub F (lv' := [(0, .ref (ad 0)), (1, .int (iI a1)), (2, .int (iI x2_1)), (3, .int (iI x3_2)), (5, .int (iI x5_8))]) [0, 1, 2, 3, 5] rfl ?_
                  exact j_40 h
                · have h := h.2 (c)
                  refine jw_aload_n F 0 dX2_brokenOf_60 rfl rfl ?_
                  refine gx_X2_19_0 F dX2_brokenOf_61 ?_
                  refine jw_iconst F dX2_brokenOf_64 ?_
                  refine jw_iload F 5 dX2_brokenOf_65 rfl ?_
                  refine jw_imul F dX2_brokenOf_67 ?_
                  refine jw_iconst F dX2_brokenOf_68 ?_
                  refine jw_iadd F dX2_brokenOf_69 ?_
                  obtain ⟨o_45, o_46, h⟩ := h
                  refine jw_iald F (mO dA ad) (k := 4) (by decide) (ma_4 dA ad) 0 rfl (by decide) o_45 o_46 dX2_brokenOf_70 ?_
                  refine jw_iload_n F 1 dX2_brokenOf_71 rfl rfl ?_
                  obtain ⟨o_47, h⟩ := h
                  obtain ⟨o_48, h⟩ := h
                  refine jw_icmp_eq F o_47 o_48 (tgt := 79) dX2_brokenOf_72 (by decide) (fun c => ?_) (fun c => ?_)
                  · have h := h.1 (c)
                    refine jw_sub F (lv' := [(0, .ref (ad 0)), (1, .int (iI a1)), (2, .int (iI x2_1)), (3, .int (iI x3_2)), (5, .int (iI x5_8))]) [0, 1, 2, 3, 5] rfl ?_
                    exact j_40 h
                  · have h := h.2 (c)
                    refine jw_iconst F dX2_brokenOf_75 ?_
                    refine jw_goto F (tgt := 80) dX2_brokenOf_76 (by decide) ?_
                    refine jw_sub F (lv' := [(0, .ref (ad 0)), (1, .int (iI a1)), (2, .int (iI x2_1)), (3, .int (iI x3_2)), (5, .int (iI x5_8))]) [0, 1, 2, 3, 5] rfl ?_
                    exact j_26 _ h
theorem hd_X2_broken : yX2_broken.cls = RX2 ∧ yX2_broken.cls ≠ "java/lang/invoke/MethodHandle" ∧ yX2_broken.cls ≠ "java/lang/invoke/VarHandle" ∧ (parseMethodDescriptor yX2_broken.desc).map (fun d => d.parameters.length) = some 1 := by decide +kernel
set_option maxHeartbeats 4000000 in
set_option maxRecDepth 100000 in
theorem wk_X2_broken {l : Launch} {D : va_G} {dA : Nat → ClassId} {ad : Nat → Nat} {s : Sg} {a1 : Int} {Q : Int → Prop} (h : wp_X2_broken a1 s Q) : MXi l D dA (mwf dA ad) yX2_broken cX2_broken 2 .int ({ frames := 3, cells := 0, slots := 0, locals := 69 } : Room) [.ref (ad 0), .int (iI a1)] s (fun z s' => s' = s ∧ Q z) := by
  unfold wp_X2_broken at h
  refine jw_start_i (own := RX2) (lv0 := [(0, .ref (ad 0)), (1, .int (iI a1))]) (by decide) rfl (Nat.le_of_ble_eq_true rfl) rfl (fun G F rt => ?_)
  refine jw_aload_n F 0 dX2_broken_0 rfl rfl ?_
  refine jw_iload_n F 1 dX2_broken_1 rfl rfl ?_
  refine jw_callVzp F (wk_X2_isString h) (lw_V q995 q997 qs46 q77 q998) hd_X2_isString ⟨rfl, rfl, Nat.le_of_ble_eq_true rfl, Nat.le_of_ble_eq_true rfl⟩ rfl rfl (mh_0 dA ad _) rfl rfl rfl (Nat.le_of_ble_eq_true rfl) dX2_broken_2 (fun r_1 hb_r_1 h => ?_)
  refine jw_if_eq F (rg01 hb_r_1) (tgt := 16) dX2_broken_5 (by decide) (fun c => ?_) (fun c => ?_)
  · have h := h.1 (c)
    refine jw_bipush F (z := (-101)) dX2_broken_16 (by decide) ?_
    exact rt _ _ _ _ dX2_broken_18 ⟨rfl, h⟩
  · have h := h.2 (c)
    refine jw_aload_n F 0 dX2_broken_8 rfl rfl ?_
    refine jw_iload_n F 1 dX2_broken_9 rfl rfl ?_
    refine jw_callVip F (wk_X2_brokenOf h) (lw_V q1145 q1147 qs64 q77 q1148) hd_X2_brokenOf ⟨rfl, rfl, Nat.le_of_ble_eq_true rfl, Nat.le_of_ble_eq_true rfl⟩ rfl rfl (mh_0 dA ad _) rfl rfl rfl (Nat.le_of_ble_eq_true rfl) dX2_broken_10 (fun r_3 h => ?_)
    refine jw_goto F (tgt := 18) dX2_broken_13 (by decide) ?_
    exact rt _ _ _ _ dX2_broken_18 ⟨rfl, h⟩
theorem hd_X2_added : yX2_added.cls = RX2 ∧ yX2_added.cls ≠ "java/lang/invoke/MethodHandle" ∧ yX2_added.cls ≠ "java/lang/invoke/VarHandle" ∧ (parseMethodDescriptor yX2_added.desc).map (fun d => d.parameters.length) = some 0 := by decide +kernel
set_option maxHeartbeats 4000000 in
set_option maxRecDepth 100000 in
theorem wk_X2_added {l : Launch} {D : va_G} {dA : Nat → ClassId} {ad : Nat → Nat} {s : Sg} {Q : Int → Sg → Prop} (h : wp_X2_added s Q) : MXi l D dA (mwf dA ad) yX2_added cX2_added 4 .int ({ frames := 2, cells := 0, slots := 0, locals := 59 } : Room) [.ref (ad 0)] s Q := by
  unfold wp_X2_added at h
  refine jw_start_i (own := RX2) (lv0 := [(0, .ref (ad 0))]) (by decide) rfl (Nat.le_of_ble_eq_true rfl) rfl (fun G F rt => ?_)
  refine jw_aload_n F 0 dX2_added_0 rfl rfl ?_
  refine gx_X2_67_0 F dX2_added_1 ?_
  refine jw_bipush F (z := 9) dX2_added_4 (by decide) ?_
  obtain ⟨o_1, h⟩ := h
  refine jw_icmp_ne F o_1 (by decide) (tgt := 12) dX2_added_6 (by decide) (fun c => ?_) (fun c => ?_)
  · have h := h.1 (c)
    refine jw_aload_n F 0 dX2_added_12 rfl rfl ?_
    refine jw_aload_n F 0 dX2_added_13 rfl rfl ?_
    refine gx_X2_67_0 F dX2_added_14 ?_
    refine jw_iconst F dX2_added_17 ?_
    refine jw_iadd F dX2_added_18 ?_
    refine jw_aload_n F 0 dX2_added_19 rfl rfl ?_
    refine gx_X2_51_0 F dX2_added_20 ?_
    refine jw_callVi F (wk_X2_laySorts (by decide) (ma_14 dA ad) h) (lw_V q827 q829 qs41 q77 q830) hd_X2_laySorts ⟨rfl, rfl, Nat.le_of_ble_eq_true rfl, Nat.le_of_ble_eq_true rfl⟩ rfl rfl (mh_0 dA ad _) rfl rfl rfl (Nat.le_of_ble_eq_true rfl) dX2_added_23 (fun r_2 s_3 hz => ?_)
    have h := hz
    refine jw_istore_n F (lv' := [(0, .ref (ad 0)), (1, .int (iI r_2))]) [1, 0] dX2_added_26 rfl (by decide) rfl ?_
    refine jw_iconst F dX2_added_27 ?_
    refine jw_istore_n F (lv' := [(0, .ref (ad 0)), (1, .int (iI r_2)), (2, .int (iI 0))]) [1, 2, 0] dX2_added_28 rfl (by decide) rfl ?_
    refine lp2_r (fun x2_4 s_5 => G s_5 29 [(0, .ref (ad 0)), (1, .int (iI r_2)), (2, .int (iI x2_4))] []) h (fun x2_4 s_5 K_6 h ih_7 => ?_)
    refine jw_iload_n F 2 dX2_added_29 rfl rfl ?_
    refine jw_iload_n F 1 dX2_added_30 rfl rfl ?_
    obtain ⟨o_8, h⟩ := h
    obtain ⟨o_9, h⟩ := h
    refine jw_icmp_ge F o_8 o_9 (tgt := 47) dX2_added_31 (by decide) (fun c => ?_) (fun c => ?_)
    · have h := h.1 (c)
      refine jw_iconst F dX2_added_47 ?_
      refine jw_istore_n F (lv' := [(0, .ref (ad 0)), (1, .int (iI r_2)), (2, .int (iI 0))]) [1, 2, 0] dX2_added_48 rfl (by decide) rfl ?_
      refine lp2_r (fun x2_10 s_11 => G s_11 49 [(0, .ref (ad 0)), (1, .int (iI r_2)), (2, .int (iI x2_10))] []) h (fun x2_10 s_11 K_12 h ih_13 => ?_)
      refine jw_iload_n F 2 dX2_added_49 rfl rfl ?_
      refine jw_aload_n F 0 dX2_added_50 rfl rfl ?_
      refine gx_X2_127_0 F dX2_added_51 ?_
      obtain ⟨o_14, h⟩ := h
      obtain ⟨o_15, h⟩ := h
      refine jw_icmp_ge F o_14 o_15 (tgt := 118) dX2_added_54 (by decide) (fun c => ?_) (fun c => ?_)
      · have h := h.1 (c)
        refine jw_iconst F dX2_added_118 ?_
        refine jw_istore_n F (lv' := [(0, .ref (ad 0)), (1, .int (iI r_2)), (2, .int (iI 0))]) [1, 2, 0] dX2_added_119 rfl (by decide) rfl ?_
        refine jw_iconst F dX2_added_120 ?_
        refine jw_istore_n F (lv' := [(0, .ref (ad 0)), (1, .int (iI r_2)), (2, .int (iI 0)), (3, .int (iI 0))]) [1, 2, 3, 0] dX2_added_121 rfl (by decide) rfl ?_
        refine lp2_r (fun x2_16 x3_17 => G s_11 122 [(0, .ref (ad 0)), (1, .int (iI r_2)), (2, .int (iI x2_16)), (3, .int (iI x3_17))] []) h (fun x2_16 x3_17 K_18 h ih_19 => ?_)
        refine jw_iload_n F 3 dX2_added_122 rfl rfl ?_
        refine jw_iload_n F 1 dX2_added_123 rfl rfl ?_
        obtain ⟨o_20, h⟩ := h
        obtain ⟨o_21, h⟩ := h
        refine jw_icmp_ge F o_20 o_21 (tgt := 144) dX2_added_124 (by decide) (fun c => ?_) (fun c => ?_)
        · have h := h.1 (c)
          refine jw_iload_n F 2 dX2_added_144 rfl rfl ?_
          exact rt _ _ _ _ dX2_added_145 h
        · have h := h.2 (c)
          refine jw_iload_n F 2 dX2_added_127 rfl rfl ?_
          refine jw_iconst F dX2_added_128 ?_
          refine jw_aload_n F 0 dX2_added_129 rfl rfl ?_
          refine gx_X2_54_0 F dX2_added_130 ?_
          refine jw_iload_n F 3 dX2_added_133 rfl rfl ?_
          obtain ⟨o_22, o_23, h⟩ := h
          refine jw_iald F (mO dA ad) (k := 15) (by decide) (ma_15 dA ad) 0 rfl (by decide) o_22 o_23 dX2_added_134 ?_
          refine jw_isub F dX2_added_135 ?_
          refine jw_iadd F dX2_added_136 ?_
          refine jw_istore_n F (lv' := [(0, .ref (ad 0)), (1, .int (iI r_2)), (2, .int (iI (x2_16 + (1 - (s_11 15 x3_17))))), (3, .int (iI x3_17))]) [1, 2, 0, 3] dX2_added_137 rfl (by decide) rfl ?_
          refine jw_iinc F (lv' := [(0, .ref (ad 0)), (1, .int (iI r_2)), (2, .int (iI (x2_16 + (1 - (s_11 15 x3_17))))), (3, .int (iI (x3_17 + 1)))]) 3 [1, 2, 3, 0] dX2_added_138 rfl (by decide) rfl ?_
          refine jw_goto F (tgt := 122) dX2_added_141 (by decide) ?_
          exact ih_19 _ _ h
      · have h := h.2 (c)
        refine jw_aload_n F 0 dX2_added_57 rfl rfl ?_
        refine gx_X2_28_0 F dX2_added_58 ?_
        refine jw_iload_n F 2 dX2_added_61 rfl rfl ?_
        obtain ⟨o_24, o_25, h⟩ := h
        refine jw_iald F (mO dA ad) (k := 7) (by decide) (ma_7 dA ad) 0 rfl (by decide) o_24 o_25 dX2_added_62 ?_
        refine jw_istore_n F (lv' := [(0, .ref (ad 0)), (1, .int (iI r_2)), (2, .int (iI x2_10)), (3, .int (iI (s_11 7 x2_10)))]) [1, 2, 3, 0] dX2_added_63 rfl (by decide) rfl ?_
        refine jw_aload_n F 0 dX2_added_64 rfl rfl ?_
        refine gx_X2_54_0 F dX2_added_65 ?_
        refine jw_aload_n F 0 dX2_added_68 rfl rfl ?_
        refine gx_X2_51_0 F dX2_added_69 ?_
        refine jw_aload_n F 0 dX2_added_72 rfl rfl ?_
        refine gx_X2_19_0 F dX2_added_73 ?_
        refine jw_iconst F dX2_added_76 ?_
        refine jw_iload_n F 3 dX2_added_77 rfl rfl ?_
        refine jw_imul F dX2_added_78 ?_
        obtain ⟨o_26, o_27, h⟩ := h
        refine jw_iald F (mO dA ad) (k := 4) (by decide) (ma_4 dA ad) 0 rfl (by decide) o_26 o_27 dX2_added_79 ?_
        refine jw_aload_n F 0 dX2_added_80 rfl rfl ?_
        refine gx_X2_19_0 F dX2_added_81 ?_
        refine jw_iconst F dX2_added_84 ?_
        refine jw_iload_n F 3 dX2_added_85 rfl rfl ?_
        refine jw_imul F dX2_added_86 ?_
        refine jw_iconst F dX2_added_87 ?_
        refine jw_iadd F dX2_added_88 ?_
        obtain ⟨o_28, o_29, h⟩ := h
        refine jw_iald F (mO dA ad) (k := 4) (by decide) (ma_4 dA ad) 0 rfl (by decide) o_28 o_29 dX2_added_89 ?_
        refine jw_aload_n F 0 dX2_added_90 rfl rfl ?_
        refine gx_X2_19_0 F dX2_added_91 ?_
        refine jw_iconst F dX2_added_94 ?_
        refine jw_iload_n F 3 dX2_added_95 rfl rfl ?_
        refine jw_imul F dX2_added_96 ?_
        refine jw_iconst F dX2_added_97 ?_
        refine jw_iadd F dX2_added_98 ?_
        obtain ⟨o_30, o_31, h⟩ := h
        refine jw_iald F (mO dA ad) (k := 4) (by decide) (ma_4 dA ad) 0 rfl (by decide) o_30 o_31 dX2_added_99 ?_
        refine jw_aload_n F 0 dX2_added_100 rfl rfl ?_
        refine gx_X2_67_0 F dX2_added_101 ?_
        refine jw_iconst F dX2_added_104 ?_
        refine jw_iadd F dX2_added_105 ?_
        refine jw_callSip F (wk_X2_numberOf h) (lw_S q835 q836 q77 q837) hd_X2_numberOf ⟨rfl, rfl, Nat.le_of_ble_eq_true rfl, Nat.le_of_ble_eq_true rfl⟩ rfl rfl (Nat.le_of_ble_eq_true rfl) dX2_added_106 (fun r_32 h => ?_)
        obtain ⟨o_34, o_35, h⟩ := h
        refine jw_iald F (mO dA ad) (k := 14) (by decide) (ma_14 dA ad) 0 rfl (by decide) o_34 o_35 dX2_added_109 ?_
        refine jw_iconst F dX2_added_110 ?_
        obtain ⟨o_36, o_37, h⟩ := h
        refine jw_iast F (mO dA ad) (k := 15) (by decide) (ma_15 dA ad) 0 rfl (by decide) o_36 o_37 dX2_added_111 ?_
        refine jw_iinc F (lv' := [(0, .ref (ad 0)), (1, .int (iI r_2)), (2, .int (iI (x2_10 + 1))), (3, .int (iI (s_11 7 x2_10)))]) 2 [1, 2, 0, 3] dX2_added_112 rfl (by decide) rfl ?_
        refine jw_goto F (tgt := 49) dX2_added_115 (by decide) ?_
        refine jw_sub F (lv' := [(0, .ref (ad 0)), (1, .int (iI r_2)), (2, .int (iI (x2_10 + 1)))]) [0, 1, 2] rfl ?_
        exact ih_13 _ _ h
    · have h := h.2 (c)
      refine jw_aload_n F 0 dX2_added_34 rfl rfl ?_
      refine gx_X2_54_0 F dX2_added_35 ?_
      refine jw_iload_n F 2 dX2_added_38 rfl rfl ?_
      refine jw_iconst F dX2_added_39 ?_
      obtain ⟨o_38, o_39, h⟩ := h
      refine jw_iast F (mO dA ad) (k := 15) (by decide) (ma_15 dA ad) 0 rfl (by decide) o_38 o_39 dX2_added_40 ?_
      refine jw_iinc F (lv' := [(0, .ref (ad 0)), (1, .int (iI r_2)), (2, .int (iI (x2_4 + 1)))]) 2 [1, 2, 0] dX2_added_41 rfl (by decide) rfl ?_
      refine jw_goto F (tgt := 29) dX2_added_44 (by decide) ?_
      exact ih_7 _ _ h
  · have h := h.2 (c)
    refine jw_bipush F (z := (-103)) dX2_added_9 (by decide) ?_
    exact rt _ _ _ _ dX2_added_11 h
theorem hd_X2_houseOf : yX2_houseOf.cls = RX2 ∧ yX2_houseOf.cls ≠ "java/lang/invoke/MethodHandle" ∧ yX2_houseOf.cls ≠ "java/lang/invoke/VarHandle" ∧ (parseMethodDescriptor yX2_houseOf.desc).map (fun d => d.parameters.length) = some 2 := by decide +kernel
set_option maxHeartbeats 4000000 in
set_option maxRecDepth 100000 in
theorem wk_X2_houseOf {l : Launch} {D : va_G} {dA : Nat → ClassId} {ad : Nat → Nat} {s : Sg} {a1 a2 : Int} {Q : Int → Prop} (h : wp_X2_houseOf a1 a2 s Q) : MXi l D dA (mwf dA ad) yX2_houseOf cX2_houseOf 3 .int ({ frames := 0, cells := 0, slots := 0, locals := 0 } : Room) [.ref (ad 0), .int (iI a1), .int (iI a2)] s (fun z s' => s' = s ∧ Q z) := by
  unfold wp_X2_houseOf at h
  refine jw_start_i (own := RX2) (lv0 := [(0, .ref (ad 0)), (1, .int (iI a1)), (2, .int (iI a2))]) (by decide) rfl (Nat.le_of_ble_eq_true rfl) rfl (fun G F rt => ?_)
  refine jw_aload_n F 0 dX2_houseOf_0 rfl rfl ?_
  refine gx_X2_19_0 F dX2_houseOf_1 ?_
  refine jw_iconst F dX2_houseOf_4 ?_
  refine jw_iload_n F 1 dX2_houseOf_5 rfl rfl ?_
  refine jw_imul F dX2_houseOf_6 ?_
  obtain ⟨o_1, o_2, h⟩ := h
  refine jw_iald F (mO dA ad) (k := 4) (by decide) (ma_4 dA ad) 0 rfl (by decide) o_1 o_2 dX2_houseOf_7 ?_
  refine jw_aload_n F 0 dX2_houseOf_8 rfl rfl ?_
  refine gx_X2_19_0 F dX2_houseOf_9 ?_
  refine jw_iconst F dX2_houseOf_12 ?_
  refine jw_iload_n F 1 dX2_houseOf_13 rfl rfl ?_
  refine jw_imul F dX2_houseOf_14 ?_
  refine jw_iconst F dX2_houseOf_15 ?_
  refine jw_iadd F dX2_houseOf_16 ?_
  obtain ⟨o_3, o_4, h⟩ := h
  refine jw_iald F (mO dA ad) (k := 4) (by decide) (ma_4 dA ad) 0 rfl (by decide) o_3 o_4 dX2_houseOf_17 ?_
  refine jw_iadd F dX2_houseOf_18 ?_
  refine jw_aload_n F 0 dX2_houseOf_19 rfl rfl ?_
  refine gx_X2_19_0 F dX2_houseOf_20 ?_
  refine jw_iconst F dX2_houseOf_23 ?_
  refine jw_iload_n F 1 dX2_houseOf_24 rfl rfl ?_
  refine jw_imul F dX2_houseOf_25 ?_
  refine jw_iconst F dX2_houseOf_26 ?_
  refine jw_iadd F dX2_houseOf_27 ?_
  obtain ⟨o_5, o_6, h⟩ := h
  refine jw_iald F (mO dA ad) (k := 4) (by decide) (ma_4 dA ad) 0 rfl (by decide) o_5 o_6 dX2_houseOf_28 ?_
  refine jw_iadd F dX2_houseOf_29 ?_
  refine jw_iload_n F 2 dX2_houseOf_30 rfl rfl ?_
  obtain ⟨o_7, o_8, o_9, o_10, h⟩ := h
  refine jw_irem F o_7 o_8 o_9 o_10 dX2_houseOf_31 ?_
  exact rt _ _ _ _ dX2_houseOf_32 ⟨rfl, h⟩
theorem hd_X2_planOf : yX2_planOf.cls = RX2 ∧ yX2_planOf.cls ≠ "java/lang/invoke/MethodHandle" ∧ yX2_planOf.cls ≠ "java/lang/invoke/VarHandle" ∧ (parseMethodDescriptor yX2_planOf.desc).map (fun d => d.parameters.length) = some 2 := by decide +kernel
set_option maxHeartbeats 4000000 in
set_option maxRecDepth 100000 in
theorem wk_X2_planOf {l : Launch} {D : va_G} {dA : Nat → ClassId} {ad : Nat → Nat} {s : Sg} {a1 a2 : Int} {Q : Int → Prop} (h : wp_X2_planOf a1 a2 s Q) : MXi l D dA (mwf dA ad) yX2_planOf cX2_planOf 8 .int ({ frames := 1, cells := 0, slots := 0, locals := 22 } : Room) [.ref (ad 0), .int (iI a1), .int (iI a2)] s (fun z s' => s' = s ∧ Q z) := by
  unfold wp_X2_planOf at h
  refine jw_start_i (own := RX2) (lv0 := [(0, .ref (ad 0)), (1, .int (iI a1)), (2, .int (iI a2))]) (by decide) rfl (Nat.le_of_ble_eq_true rfl) rfl (fun G F rt => ?_)
  refine jw_iconst F dX2_planOf_0 ?_
  refine jw_istore_n F (lv' := [(0, .ref (ad 0)), (1, .int (iI a1)), (2, .int (iI a2)), (3, .int (iI 1))]) [1, 2, 3, 0] dX2_planOf_1 rfl (by decide) rfl ?_
  refine jw_aload_n F 0 dX2_planOf_2 rfl rfl ?_
  refine gx_X2_102_0 F dX2_planOf_3 ?_
  refine jw_istore F (lv' := [(0, .ref (ad 0)), (1, .int (iI a1)), (2, .int (iI a2)), (3, .int (iI 1)), (4, .int (iI (s 0 8)))]) [1, 2, 3, 4, 0] dX2_planOf_6 (by decide) rfl ?_
  refine jw_iconst F dX2_planOf_8 ?_
  refine jw_istore F (lv' := [(0, .ref (ad 0)), (1, .int (iI a1)), (2, .int (iI a2)), (3, .int (iI 1)), (4, .int (iI (s 0 8))), (5, .int (iI 0))]) [1, 2, 3, 4, 5, 0] dX2_planOf_9 (by decide) rfl ?_
  refine lp3_r (fun x3_1 x4_2 x5_3 => G s 11 [(0, .ref (ad 0)), (1, .int (iI a1)), (2, .int (iI a2)), (3, .int (iI x3_1)), (4, .int (iI x4_2)), (5, .int (iI x5_3))] []) h (fun x3_1 x4_2 x5_3 K_4 h ih_5 => ?_)
  refine jw_iload F 5 dX2_planOf_11 rfl ?_
  refine jw_iload_n F 1 dX2_planOf_13 rfl rfl ?_
  obtain ⟨o_6, h⟩ := h
  obtain ⟨o_7, h⟩ := h
  refine jw_icmp_ge F o_6 o_7 (tgt := 119) dX2_planOf_14 (by decide) (fun c => ?_) (fun c => ?_)
  · have h := h.1 (c)
    refine jw_iload_n F 2 dX2_planOf_119 rfl rfl ?_
    obtain ⟨o_8, h⟩ := h
    refine jw_if_ne F o_8 (tgt := 135) dX2_planOf_120 (by decide) (fun c => ?_) (fun c => ?_)
    · have h := h.1 (c)
      refine jw_iload F 4 dX2_planOf_135 rfl ?_
      exact rt _ _ _ _ dX2_planOf_137 ⟨rfl, h⟩
    · have h := h.2 (c)
      refine jw_iload_n F 3 dX2_planOf_123 rfl rfl ?_
      obtain ⟨o_9, h⟩ := h
      refine jw_if_eq F o_9 (tgt := 131) dX2_planOf_124 (by decide) (fun c => ?_) (fun c => ?_)
      · have h := h.1 (c)
        refine jw_iconst F dX2_planOf_131 ?_
        refine jw_goto F (tgt := 137) dX2_planOf_132 (by decide) ?_
        exact rt _ _ _ _ dX2_planOf_137 ⟨rfl, h⟩
      · have h := h.2 (c)
        refine jw_iconst F dX2_planOf_127 ?_
        refine jw_goto F (tgt := 137) dX2_planOf_128 (by decide) ?_
        exact rt _ _ _ _ dX2_planOf_137 ⟨rfl, h⟩
  · have h := h.2 (c)
    refine jw_iconst F dX2_planOf_17 ?_
    refine jw_istore F (lv' := [(0, .ref (ad 0)), (1, .int (iI a1)), (2, .int (iI a2)), (3, .int (iI x3_1)), (4, .int (iI x4_2)), (5, .int (iI x5_3)), (6, .int (iI 0))]) [1, 2, 3, 4, 5, 6, 0] dX2_planOf_18 (by decide) rfl ?_
    refine jw_iconst F dX2_planOf_20 ?_
    refine jw_istore F (lv' := [(0, .ref (ad 0)), (1, .int (iI a1)), (2, .int (iI a2)), (3, .int (iI x3_1)), (4, .int (iI x4_2)), (5, .int (iI x5_3)), (6, .int (iI 0)), (7, .int (iI 0))]) [1, 2, 3, 4, 5, 6, 7, 0] dX2_planOf_21 (by decide) rfl ?_
    refine lp3_r (fun x3_10 x6_11 x7_12 => G s 23 [(0, .ref (ad 0)), (1, .int (iI a1)), (2, .int (iI a2)), (3, .int (iI x3_10)), (4, .int (iI x4_2)), (5, .int (iI x5_3)), (6, .int (iI x6_11)), (7, .int (iI x7_12))] []) h (fun x3_10 x6_11 x7_12 K_13 h ih_14 => ?_)
    refine jw_iload F 7 dX2_planOf_23 rfl ?_
    refine jw_aload_n F 0 dX2_planOf_25 rfl rfl ?_
    refine gx_X2_102_0 F dX2_planOf_26 ?_
    obtain ⟨o_15, h⟩ := h
    obtain ⟨o_16, h⟩ := h
    refine jw_icmp_ge F o_15 o_16 (tgt := 97) dX2_planOf_29 (by decide) (fun c => ?_) (fun c => ?_)
    · have h := h.1 (c)
      refine jw_iload F 6 dX2_planOf_97 rfl ?_
      refine jw_iload F 4 dX2_planOf_99 rfl ?_
      obtain ⟨o_17, h⟩ := h
      obtain ⟨o_18, h⟩ := h
      refine jn1_r (fun v_19 => G s 111 [(0, .ref (ad 0)), (1, .int (iI a1)), (2, .int (iI a2)), (3, .int (iI x3_10)), (5, .int (iI x5_3))] [.int (iI v_19)]) h (fun v_19 h => ?_) (fun K_20 h j_21 => ?_)
      · refine jw_istore F (lv' := [(0, .ref (ad 0)), (1, .int (iI a1)), (2, .int (iI a2)), (3, .int (iI x3_10)), (4, .int (iI v_19)), (5, .int (iI x5_3))]) [1, 2, 3, 4, 0, 5] dX2_planOf_111 (by decide) rfl ?_
        refine jw_iinc F (lv' := [(0, .ref (ad 0)), (1, .int (iI a1)), (2, .int (iI a2)), (3, .int (iI x3_10)), (4, .int (iI v_19)), (5, .int (iI (x5_3 + 1)))]) 5 [1, 2, 3, 4, 5, 0] dX2_planOf_113 rfl (by decide) rfl ?_
        refine jw_goto F (tgt := 11) dX2_planOf_116 (by decide) ?_
        exact ih_5 _ _ _ h
      · refine jw_icmp_ge F o_17 o_18 (tgt := 109) dX2_planOf_101 (by decide) (fun c => ?_) (fun c => ?_)
        · have h := h.1 (c)
          refine jw_iload F 4 dX2_planOf_109 rfl ?_
          refine jw_sub F (lv' := [(0, .ref (ad 0)), (1, .int (iI a1)), (2, .int (iI a2)), (3, .int (iI x3_10)), (5, .int (iI x5_3))]) [0, 1, 2, 3, 5] rfl ?_
          exact j_21 _ h
        · have h := h.2 (c)
          refine jw_iload F 6 dX2_planOf_104 rfl ?_
          refine jw_goto F (tgt := 111) dX2_planOf_106 (by decide) ?_
          refine jw_sub F (lv' := [(0, .ref (ad 0)), (1, .int (iI a1)), (2, .int (iI a2)), (3, .int (iI x3_10)), (5, .int (iI x5_3))]) [0, 1, 2, 3, 5] rfl ?_
          exact j_21 _ h
    · have h := h.2 (c)
      refine jw_iload F 6 dX2_planOf_32 rfl ?_
      refine jw_aload_n F 0 dX2_planOf_34 rfl rfl ?_
      refine jw_iload F 7 dX2_planOf_35 rfl ?_
      refine jw_iload_n F 1 dX2_planOf_37 rfl rfl ?_
      refine jw_callVip F (wk_X2_houseOf h) (lw_V q1161 q1163 qs66 q77 q1164) hd_X2_houseOf ⟨rfl, rfl, Nat.le_of_ble_eq_true rfl, Nat.le_of_ble_eq_true rfl⟩ rfl rfl (mh_0 dA ad _) rfl rfl rfl (Nat.le_of_ble_eq_true rfl) dX2_planOf_38 (fun r_22 h => ?_)
      refine jw_iload F 5 dX2_planOf_41 rfl ?_
      obtain ⟨o_24, h⟩ := h
      obtain ⟨o_25, h⟩ := h
      refine jn1_r (fun v_26 => G s 51 [(0, .ref (ad 0)), (1, .int (iI a1)), (2, .int (iI a2)), (3, .int (iI x3_10)), (4, .int (iI x4_2)), (5, .int (iI x5_3)), (7, .int (iI x7_12))] [.int (iI v_26), .int (iI x6_11)]) h (fun v_26 h => ?_) (fun K_27 h j_28 => ?_)
      · refine jw_iadd F dX2_planOf_51 ?_
        refine jw_istore F (lv' := [(0, .ref (ad 0)), (1, .int (iI a1)), (2, .int (iI a2)), (3, .int (iI x3_10)), (4, .int (iI x4_2)), (5, .int (iI x5_3)), (6, .int (iI (x6_11 + v_26))), (7, .int (iI x7_12))]) [1, 2, 3, 4, 5, 6, 0, 7] dX2_planOf_52 (by decide) rfl ?_
        refine jw_iload_n F 3 dX2_planOf_54 rfl rfl ?_
        obtain ⟨o_29, h⟩ := h
        refine jn1_r (fun v_30 => G s 90 [(0, .ref (ad 0)), (1, .int (iI a1)), (2, .int (iI a2)), (4, .int (iI x4_2)), (5, .int (iI x5_3)), (6, .int (iI (x6_11 + v_26))), (7, .int (iI x7_12))] [.int (iI v_30)]) h (fun v_30 h => ?_) (fun K_31 h j_32 => ?_)
        · refine jw_istore_n F (lv' := [(0, .ref (ad 0)), (1, .int (iI a1)), (2, .int (iI a2)), (3, .int (iI v_30)), (4, .int (iI x4_2)), (5, .int (iI x5_3)), (6, .int (iI (x6_11 + v_26))), (7, .int (iI x7_12))]) [1, 2, 3, 0, 4, 5, 6, 7] dX2_planOf_90 rfl (by decide) rfl ?_
          refine jw_iinc F (lv' := [(0, .ref (ad 0)), (1, .int (iI a1)), (2, .int (iI a2)), (3, .int (iI v_30)), (4, .int (iI x4_2)), (5, .int (iI x5_3)), (6, .int (iI (x6_11 + v_26))), (7, .int (iI (x7_12 + 1)))]) 7 [1, 2, 3, 4, 5, 6, 7, 0] dX2_planOf_91 rfl (by decide) rfl ?_
          refine jw_goto F (tgt := 23) dX2_planOf_94 (by decide) ?_
          exact ih_14 _ _ _ h
        · refine jn0_r (G s 89 [(0, .ref (ad 0)), (1, .int (iI a1)), (2, .int (iI a2)), (4, .int (iI x4_2)), (5, .int (iI x5_3)), (6, .int (iI (x6_11 + v_26))), (7, .int (iI x7_12))] []) h (fun h => ?_) (fun K_33 h j_34 => ?_)
          · refine jw_iconst F dX2_planOf_89 ?_
            exact j_32 _ h
          · refine jw_if_eq F o_29 (tgt := 89) dX2_planOf_55 (by decide) (fun c => ?_) (fun c => ?_)
            · have h := h.1 (c)
              refine jw_sub F (lv' := [(0, .ref (ad 0)), (1, .int (iI a1)), (2, .int (iI a2)), (4, .int (iI x4_2)), (5, .int (iI x5_3)), (6, .int (iI (x6_11 + v_26))), (7, .int (iI x7_12))]) [0, 1, 2, 4, 5, 6, 7] rfl ?_
              exact j_34 h
            · have h := h.2 (c)
              refine jw_aload_n F 0 dX2_planOf_58 rfl rfl ?_
              refine jw_iload F 7 dX2_planOf_59 rfl ?_
              refine jw_iload_n F 1 dX2_planOf_61 rfl rfl ?_
              refine jw_callVip F (wk_X2_houseOf h) (lw_V q1161 q1163 qs66 q77 q1164) hd_X2_houseOf ⟨rfl, rfl, Nat.le_of_ble_eq_true rfl, Nat.le_of_ble_eq_true rfl⟩ rfl rfl (mh_0 dA ad _) rfl rfl rfl (Nat.le_of_ble_eq_true rfl) dX2_planOf_62 (fun r_35 h => ?_)
              refine jw_aload_n F 0 dX2_planOf_65 rfl rfl ?_
              refine jw_aload_n F 0 dX2_planOf_66 rfl rfl ?_
              refine gx_X2_25_0 F dX2_planOf_67 ?_
              refine jw_aload_n F 0 dX2_planOf_70 rfl rfl ?_
              refine gx_X2_22_0 F dX2_planOf_71 ?_
              refine jw_iload F 7 dX2_planOf_74 rfl ?_
              obtain ⟨o_37, o_38, h⟩ := h
              refine jw_iald F (mO dA ad) (k := 5) (by decide) (ma_5 dA ad) 0 rfl (by decide) o_37 o_38 dX2_planOf_76 ?_
              obtain ⟨o_39, o_40, h⟩ := h
              refine jw_iald F (mO dA ad) (k := 6) (by decide) (ma_6 dA ad) 0 rfl (by decide) o_39 o_40 dX2_planOf_77 ?_
              refine jw_iload_n F 1 dX2_planOf_78 rfl rfl ?_
              refine jw_callVip F (wk_X2_houseOf h) (lw_V q1161 q1163 qs66 q77 q1164) hd_X2_houseOf ⟨rfl, rfl, Nat.le_of_ble_eq_true rfl, Nat.le_of_ble_eq_true rfl⟩ rfl rfl (mh_0 dA ad _) rfl rfl rfl (Nat.le_of_ble_eq_true rfl) dX2_planOf_79 (fun r_41 h => ?_)
              obtain ⟨o_43, h⟩ := h
              obtain ⟨o_44, h⟩ := h
              refine jw_icmp_ne F o_43 o_44 (tgt := 89) dX2_planOf_82 (by decide) (fun c => ?_) (fun c => ?_)
              · have h := h.1 (c)
                refine jw_sub F (lv' := [(0, .ref (ad 0)), (1, .int (iI a1)), (2, .int (iI a2)), (4, .int (iI x4_2)), (5, .int (iI x5_3)), (6, .int (iI (x6_11 + v_26))), (7, .int (iI x7_12))]) [0, 1, 2, 4, 5, 6, 7] rfl ?_
                exact j_34 h
              · have h := h.2 (c)
                refine jw_iconst F dX2_planOf_85 ?_
                refine jw_goto F (tgt := 90) dX2_planOf_86 (by decide) ?_
                refine jw_sub F (lv' := [(0, .ref (ad 0)), (1, .int (iI a1)), (2, .int (iI a2)), (4, .int (iI x4_2)), (5, .int (iI x5_3)), (6, .int (iI (x6_11 + v_26))), (7, .int (iI x7_12))]) [0, 1, 2, 4, 5, 6, 7] rfl ?_
                exact j_32 _ h
      · refine jw_icmp_ne F o_24 o_25 (tgt := 50) dX2_planOf_43 (by decide) (fun c => ?_) (fun c => ?_)
        · have h := h.1 (c)
          refine jw_iconst F dX2_planOf_50 ?_
          refine jw_sub F (lv' := [(0, .ref (ad 0)), (1, .int (iI a1)), (2, .int (iI a2)), (3, .int (iI x3_10)), (4, .int (iI x4_2)), (5, .int (iI x5_3)), (7, .int (iI x7_12))]) [0, 1, 2, 3, 4, 5, 7] rfl ?_
          exact j_28 _ h
        · have h := h.2 (c)
          refine jw_iconst F dX2_planOf_46 ?_
          refine jw_goto F (tgt := 51) dX2_planOf_47 (by decide) ?_
          refine jw_sub F (lv' := [(0, .ref (ad 0)), (1, .int (iI a1)), (2, .int (iI a2)), (3, .int (iI x3_10)), (4, .int (iI x4_2)), (5, .int (iI x5_3)), (7, .int (iI x7_12))]) [0, 1, 2, 3, 4, 5, 7] rfl ?_
          exact j_28 _ h
theorem hd_X2_plan : yX2_plan.cls = RX2 ∧ yX2_plan.cls ≠ "java/lang/invoke/MethodHandle" ∧ yX2_plan.cls ≠ "java/lang/invoke/VarHandle" ∧ (parseMethodDescriptor yX2_plan.desc).map (fun d => d.parameters.length) = some 2 := by decide +kernel
set_option maxHeartbeats 4000000 in
set_option maxRecDepth 100000 in
theorem wk_X2_plan {l : Launch} {D : va_G} {dA : Nat → ClassId} {ad : Nat → Nat} {s : Sg} {a1 a2 : Int} {Q : Int → Prop} (h : wp_X2_plan a1 a2 s Q) : MXi l D dA (mwf dA ad) yX2_plan cX2_plan 3 .int ({ frames := 2, cells := 0, slots := 0, locals := 49 } : Room) [.ref (ad 0), .int (iI a1), .int (iI a2)] s (fun z s' => s' = s ∧ Q z) := by
  unfold wp_X2_plan at h
  refine jw_start_i (own := RX2) (lv0 := [(0, .ref (ad 0)), (1, .int (iI a1)), (2, .int (iI a2))]) (by decide) rfl (Nat.le_of_ble_eq_true rfl) rfl (fun G F rt => ?_)
  refine jw_iload_n F 1 dX2_plan_0 rfl rfl ?_
  obtain ⟨o_1, h⟩ := h
  refine jw_i2l F o_1 dX2_plan_1 ?_
  refine jw_ldc2 F (z := 2) q1011 dX2_plan_2 ?_
  refine jw_ldc2 F (z := 9) q974 dX2_plan_5 ?_
  refine jw_callSzp F (wk_X2_in h) (lw_S q965 q966 q77 q967) hd_X2_in ⟨rfl, rfl, Nat.le_of_ble_eq_true rfl, Nat.le_of_ble_eq_true rfl⟩ rfl rfl (Nat.le_of_ble_eq_true rfl) dX2_plan_8 (fun r_2 hb_r_2 h => ?_)
  refine jw_if_eq F (rg01 hb_r_2) (tgt := 33) dX2_plan_11 (by decide) (fun c => ?_) (fun c => ?_)
  · have h := h.1 (c)
    refine jw_bipush F (z := (-102)) dX2_plan_33 (by decide) ?_
    exact rt _ _ _ _ dX2_plan_35 ⟨rfl, h⟩
  · have h := h.2 (c)
    refine jw_iload_n F 2 dX2_plan_14 rfl rfl ?_
    obtain ⟨o_4, h⟩ := h
    refine jw_i2l F o_4 dX2_plan_15 ?_
    refine jw_lconst F (z := 0) dX2_plan_16 (by decide) ?_
    refine jw_lconst F (z := 1) dX2_plan_17 (by decide) ?_
    refine jw_callSzp F (wk_X2_in h) (lw_S q965 q966 q77 q967) hd_X2_in ⟨rfl, rfl, Nat.le_of_ble_eq_true rfl, Nat.le_of_ble_eq_true rfl⟩ rfl rfl (Nat.le_of_ble_eq_true rfl) dX2_plan_18 (fun r_5 hb_r_5 h => ?_)
    refine jw_if_eq F (rg01 hb_r_5) (tgt := 33) dX2_plan_21 (by decide) (fun c => ?_) (fun c => ?_)
    · have h := h.1 (c)
      refine jw_bipush F (z := (-102)) dX2_plan_33 (by decide) ?_
      exact rt _ _ _ _ dX2_plan_35 ⟨rfl, h⟩
    · have h := h.2 (c)
      refine jw_aload_n F 0 dX2_plan_24 rfl rfl ?_
      refine jw_iload_n F 1 dX2_plan_25 rfl rfl ?_
      refine jw_iload_n F 2 dX2_plan_26 rfl rfl ?_
      refine jw_callVip F (wk_X2_planOf h) (lw_V q1157 q1159 qs65 q77 q1160) hd_X2_planOf ⟨rfl, rfl, Nat.le_of_ble_eq_true rfl, Nat.le_of_ble_eq_true rfl⟩ rfl rfl (mh_0 dA ad _) rfl rfl rfl (Nat.le_of_ble_eq_true rfl) dX2_plan_27 (fun r_7 h => ?_)
      refine jw_goto F (tgt := 35) dX2_plan_30 (by decide) ?_
      exact rt _ _ _ _ dX2_plan_35 ⟨rfl, h⟩
theorem hd_X2_image : yX2_image.cls = RX2 ∧ yX2_image.cls ≠ "java/lang/invoke/MethodHandle" ∧ yX2_image.cls ≠ "java/lang/invoke/VarHandle" ∧ (parseMethodDescriptor yX2_image.desc).map (fun d => d.parameters.length) = some 0 := by decide +kernel
set_option maxHeartbeats 4000000 in
set_option maxRecDepth 100000 in
theorem wk_X2_image {l : Launch} {D : va_G} {dA : Nat → ClassId} {ad : Nat → Nat} {s : Sg} {Q : Int → Sg → Prop} (h : wp_X2_image s Q) : MXi l D dA (mwf dA ad) yX2_image cX2_image 2 .int ({ frames := 0, cells := 0, slots := 0, locals := 0 } : Room) [.ref (ad 0)] s Q := by
  unfold wp_X2_image at h
  refine jw_start_i (own := RX2) (lv0 := [(0, .ref (ad 0))]) (by decide) rfl (Nat.le_of_ble_eq_true rfl) rfl (fun G F rt => ?_)
  refine jw_iconst F dX2_image_0 ?_
  refine jw_istore_n F (lv' := [(0, .ref (ad 0)), (1, .int (iI 0))]) [1, 0] dX2_image_1 rfl (by decide) rfl ?_
  refine lp2_r (fun x1_1 s_2 => G s_2 2 [(0, .ref (ad 0)), (1, .int (iI x1_1))] []) h (fun x1_1 s_2 K_3 h ih_4 => ?_)
  refine jw_iload_n F 1 dX2_image_2 rfl rfl ?_
  refine jw_bipush F (z := 20) dX2_image_3 (by decide) ?_
  obtain ⟨o_5, h⟩ := h
  refine jw_icmp_ge F o_5 (by decide) (tgt := 26) dX2_image_5 (by decide) (fun c => ?_) (fun c => ?_)
  · have h := h.1 (c)
    refine jw_iconst F dX2_image_26 ?_
    refine jw_istore_n F (lv' := [(0, .ref (ad 0)), (1, .int (iI 0))]) [1, 0] dX2_image_27 rfl (by decide) rfl ?_
    refine lp2_r (fun x1_6 s_7 => G s_7 28 [(0, .ref (ad 0)), (1, .int (iI x1_6))] []) h (fun x1_6 s_7 K_8 h ih_9 => ?_)
    refine jw_iload_n F 1 dX2_image_28 rfl rfl ?_
    refine jw_bipush F (z := 40) dX2_image_29 (by decide) ?_
    obtain ⟨o_10, h⟩ := h
    refine jw_icmp_ge F o_10 (by decide) (tgt := 52) dX2_image_31 (by decide) (fun c => ?_) (fun c => ?_)
    · have h := h.1 (c)
      refine jw_aload_n F 0 dX2_image_52 rfl rfl ?_
      refine jw_aload_n F 0 dX2_image_53 rfl rfl ?_
      refine gx_X2_127_0 F dX2_image_54 ?_
      refine pgx_X2_63_0 F dX2_image_57 ?_
      refine jw_aload_n F 0 dX2_image_60 rfl rfl ?_
      refine jw_aload_n F 0 dX2_image_61 rfl rfl ?_
      refine gx_X2_130_0 F dX2_image_62 ?_
      refine pgx_X2_237_0 F dX2_image_65 ?_
      refine jw_aload_n F 0 dX2_image_68 rfl rfl ?_
      refine jw_aload_n F 0 dX2_image_69 rfl rfl ?_
      refine gx_X2_133_0 F dX2_image_70 ?_
      refine pgx_X2_240_0 F dX2_image_73 ?_
      refine jw_aload_n F 0 dX2_image_76 rfl rfl ?_
      refine gx_X2_127_0 F dX2_image_77 ?_
      exact rt _ _ _ _ dX2_image_80 h
    · have h := h.2 (c)
      refine jw_aload_n F 0 dX2_image_34 rfl rfl ?_
      refine gx_X2_60_0 F dX2_image_35 ?_
      refine jw_iload_n F 1 dX2_image_38 rfl rfl ?_
      refine jw_aload_n F 0 dX2_image_39 rfl rfl ?_
      refine gx_X2_31_0 F dX2_image_40 ?_
      refine jw_iload_n F 1 dX2_image_43 rfl rfl ?_
      obtain ⟨o_11, o_12, h⟩ := h
      refine jw_iald F (mO dA ad) (k := 8) (by decide) (ma_8 dA ad) 0 rfl (by decide) o_11 o_12 dX2_image_44 ?_
      obtain ⟨o_13, o_14, h⟩ := h
      refine jw_iast F (mO dA ad) (k := 17) (by decide) (ma_17 dA ad) 0 rfl (by decide) o_13 o_14 dX2_image_45 ?_
      refine jw_iinc F (lv' := [(0, .ref (ad 0)), (1, .int (iI (x1_6 + 1)))]) 1 [1, 0] dX2_image_46 rfl (by decide) rfl ?_
      refine jw_goto F (tgt := 28) dX2_image_49 (by decide) ?_
      exact ih_9 _ _ h
  · have h := h.2 (c)
    refine jw_aload_n F 0 dX2_image_8 rfl rfl ?_
    refine gx_X2_57_0 F dX2_image_9 ?_
    refine jw_iload_n F 1 dX2_image_12 rfl rfl ?_
    refine jw_aload_n F 0 dX2_image_13 rfl rfl ?_
    refine gx_X2_28_0 F dX2_image_14 ?_
    refine jw_iload_n F 1 dX2_image_17 rfl rfl ?_
    obtain ⟨o_15, o_16, h⟩ := h
    refine jw_iald F (mO dA ad) (k := 7) (by decide) (ma_7 dA ad) 0 rfl (by decide) o_15 o_16 dX2_image_18 ?_
    obtain ⟨o_17, o_18, h⟩ := h
    refine jw_iast F (mO dA ad) (k := 16) (by decide) (ma_16 dA ad) 0 rfl (by decide) o_17 o_18 dX2_image_19 ?_
    refine jw_iinc F (lv' := [(0, .ref (ad 0)), (1, .int (iI (x1_1 + 1)))]) 1 [1, 0] dX2_image_20 rfl (by decide) rfl ?_
    refine jw_goto F (tgt := 2) dX2_image_23 (by decide) ?_
    exact ih_4 _ _ h
theorem hd_X2_restore : yX2_restore.cls = RX2 ∧ yX2_restore.cls ≠ "java/lang/invoke/MethodHandle" ∧ yX2_restore.cls ≠ "java/lang/invoke/VarHandle" ∧ (parseMethodDescriptor yX2_restore.desc).map (fun d => d.parameters.length) = some 0 := by decide +kernel
set_option maxHeartbeats 4000000 in
set_option maxRecDepth 100000 in
theorem wk_X2_restore {l : Launch} {D : va_G} {dA : Nat → ClassId} {ad : Nat → Nat} {s : Sg} {Q : Int → Sg → Prop} (h : wp_X2_restore s Q) : MXi l D dA (mwf dA ad) yX2_restore cX2_restore 2 .int ({ frames := 0, cells := 0, slots := 0, locals := 0 } : Room) [.ref (ad 0)] s Q := by
  unfold wp_X2_restore at h
  refine jw_start_i (own := RX2) (lv0 := [(0, .ref (ad 0))]) (by decide) rfl (Nat.le_of_ble_eq_true rfl) rfl (fun G F rt => ?_)
  refine jw_aload_n F 0 dX2_restore_0 rfl rfl ?_
  refine gx_X2_63_0 F dX2_restore_1 ?_
  refine jw_iconst F dX2_restore_4 ?_
  obtain ⟨o_1, h⟩ := h
  refine jw_icmp_eq F o_1 (by decide) (tgt := 19) dX2_restore_5 (by decide) (fun c => ?_) (fun c => ?_)
  · have h := h.1 (c)
    refine jw_bipush F (z := (-103)) dX2_restore_19 (by decide) ?_
    exact rt _ _ _ _ dX2_restore_21 h
  · have h := h.2 (c)
    refine jw_aload_n F 0 dX2_restore_8 rfl rfl ?_
    refine gx_X2_240_0 F dX2_restore_9 ?_
    refine jw_aload_n F 0 dX2_restore_12 rfl rfl ?_
    refine gx_X2_133_0 F dX2_restore_13 ?_
    obtain ⟨o_2, h⟩ := h
    obtain ⟨o_3, h⟩ := h
    refine jw_icmp_eq F o_2 o_3 (tgt := 22) dX2_restore_16 (by decide) (fun c => ?_) (fun c => ?_)
    · have h := h.1 (c)
      refine jw_iconst F dX2_restore_22 ?_
      refine jw_istore_n F (lv' := [(0, .ref (ad 0)), (1, .int (iI 0))]) [1, 0] dX2_restore_23 rfl (by decide) rfl ?_
      refine lp2_r (fun x1_4 s_5 => G s_5 24 [(0, .ref (ad 0)), (1, .int (iI x1_4))] []) h (fun x1_4 s_5 K_6 h ih_7 => ?_)
      refine jw_iload_n F 1 dX2_restore_24 rfl rfl ?_
      refine jw_bipush F (z := 20) dX2_restore_25 (by decide) ?_
      obtain ⟨o_8, h⟩ := h
      refine jw_icmp_ge F o_8 (by decide) (tgt := 48) dX2_restore_27 (by decide) (fun c => ?_) (fun c => ?_)
      · have h := h.1 (c)
        refine jw_iconst F dX2_restore_48 ?_
        refine jw_istore_n F (lv' := [(0, .ref (ad 0)), (1, .int (iI 0))]) [1, 0] dX2_restore_49 rfl (by decide) rfl ?_
        refine lp2_r (fun x1_9 s_10 => G s_10 50 [(0, .ref (ad 0)), (1, .int (iI x1_9))] []) h (fun x1_9 s_10 K_11 h ih_12 => ?_)
        refine jw_iload_n F 1 dX2_restore_50 rfl rfl ?_
        refine jw_bipush F (z := 40) dX2_restore_51 (by decide) ?_
        obtain ⟨o_13, h⟩ := h
        refine jw_icmp_ge F o_13 (by decide) (tgt := 74) dX2_restore_53 (by decide) (fun c => ?_) (fun c => ?_)
        · have h := h.1 (c)
          refine jw_aload_n F 0 dX2_restore_74 rfl rfl ?_
          refine jw_aload_n F 0 dX2_restore_75 rfl rfl ?_
          refine gx_X2_63_0 F dX2_restore_76 ?_
          refine pgx_X2_127_0 F dX2_restore_79 ?_
          refine jw_aload_n F 0 dX2_restore_82 rfl rfl ?_
          refine jw_aload_n F 0 dX2_restore_83 rfl rfl ?_
          refine gx_X2_237_0 F dX2_restore_84 ?_
          refine pgx_X2_130_0 F dX2_restore_87 ?_
          refine jw_aload_n F 0 dX2_restore_90 rfl rfl ?_
          refine gx_X2_127_0 F dX2_restore_91 ?_
          exact rt _ _ _ _ dX2_restore_94 h
        · have h := h.2 (c)
          refine jw_aload_n F 0 dX2_restore_56 rfl rfl ?_
          refine gx_X2_31_0 F dX2_restore_57 ?_
          refine jw_iload_n F 1 dX2_restore_60 rfl rfl ?_
          refine jw_aload_n F 0 dX2_restore_61 rfl rfl ?_
          refine gx_X2_60_0 F dX2_restore_62 ?_
          refine jw_iload_n F 1 dX2_restore_65 rfl rfl ?_
          obtain ⟨o_14, o_15, h⟩ := h
          refine jw_iald F (mO dA ad) (k := 17) (by decide) (ma_17 dA ad) 0 rfl (by decide) o_14 o_15 dX2_restore_66 ?_
          obtain ⟨o_16, o_17, h⟩ := h
          refine jw_iast F (mO dA ad) (k := 8) (by decide) (ma_8 dA ad) 0 rfl (by decide) o_16 o_17 dX2_restore_67 ?_
          refine jw_iinc F (lv' := [(0, .ref (ad 0)), (1, .int (iI (x1_9 + 1)))]) 1 [1, 0] dX2_restore_68 rfl (by decide) rfl ?_
          refine jw_goto F (tgt := 50) dX2_restore_71 (by decide) ?_
          exact ih_12 _ _ h
      · have h := h.2 (c)
        refine jw_aload_n F 0 dX2_restore_30 rfl rfl ?_
        refine gx_X2_28_0 F dX2_restore_31 ?_
        refine jw_iload_n F 1 dX2_restore_34 rfl rfl ?_
        refine jw_aload_n F 0 dX2_restore_35 rfl rfl ?_
        refine gx_X2_57_0 F dX2_restore_36 ?_
        refine jw_iload_n F 1 dX2_restore_39 rfl rfl ?_
        obtain ⟨o_18, o_19, h⟩ := h
        refine jw_iald F (mO dA ad) (k := 16) (by decide) (ma_16 dA ad) 0 rfl (by decide) o_18 o_19 dX2_restore_40 ?_
        obtain ⟨o_20, o_21, h⟩ := h
        refine jw_iast F (mO dA ad) (k := 7) (by decide) (ma_7 dA ad) 0 rfl (by decide) o_20 o_21 dX2_restore_41 ?_
        refine jw_iinc F (lv' := [(0, .ref (ad 0)), (1, .int (iI (x1_4 + 1)))]) 1 [1, 0] dX2_restore_42 rfl (by decide) rfl ?_
        refine jw_goto F (tgt := 24) dX2_restore_45 (by decide) ?_
        exact ih_7 _ _ h
    · have h := h.2 (c)
      refine jw_bipush F (z := (-103)) dX2_restore_19 (by decide) ?_
      exact rt _ _ _ _ dX2_restore_21 h
theorem hd_X2_countOf : yX2_countOf.cls = RX2 ∧ yX2_countOf.cls ≠ "java/lang/invoke/MethodHandle" ∧ yX2_countOf.cls ≠ "java/lang/invoke/VarHandle" ∧ (parseMethodDescriptor yX2_countOf.desc).map (fun d => d.parameters.length) = some 1 := by decide +kernel
set_option maxHeartbeats 4000000 in
set_option maxRecDepth 100000 in
theorem wk_X2_countOf {l : Launch} {D : va_G} {dA : Nat → ClassId} {ad : Nat → Nat} {s : Sg} {a1 : Int} {Q : Int → Prop} (h : wp_X2_countOf a1 s Q) : MXi l D dA (mwf dA ad) yX2_countOf cX2_countOf 2 .int ({ frames := 0, cells := 0, slots := 0, locals := 0 } : Room) [.ref (ad 0), .int (iI a1)] s (fun z s' => s' = s ∧ Q z) := by
  unfold wp_X2_countOf at h
  refine jw_start_i (own := RX2) (lv0 := [(0, .ref (ad 0)), (1, .int (iI a1))]) (by decide) rfl (Nat.le_of_ble_eq_true rfl) rfl (fun G F rt => ?_)
  refine jw_iload_n F 1 dX2_countOf_0 rfl rfl ?_
  obtain ⟨o_1, h⟩ := h
  have hsw : a1 = 0 ∨ a1 = 1 ∨ a1 = 2 ∨ a1 = 3 ∨ a1 = 4 ∨ a1 = 5 ∨ a1 = 6 ∨ a1 = 7 ∨ (a1 < 0 ∨ 7 < a1) := by omega
  rcases hsw with q | q | q | q | q | q | q | q | q
  · have h := h.1 q
    refine jw_tableIn F o_1 (off := 47) (tgt := 48) dX2_countOf_1 (by omega) (by omega) (by rw [q]; rfl) (by decide) ?_
    refine jw_aload_n F 0 dX2_countOf_48 rfl rfl ?_
    refine gx_X2_67_0 F dX2_countOf_49 ?_
    exact rt _ _ _ _ dX2_countOf_52 ⟨rfl, h⟩
  · have h := h.2.1 q
    refine jw_tableIn F o_1 (off := 52) (tgt := 53) dX2_countOf_1 (by omega) (by omega) (by rw [q]; rfl) (by decide) ?_
    refine jw_aload_n F 0 dX2_countOf_53 rfl rfl ?_
    refine gx_X2_102_0 F dX2_countOf_54 ?_
    exact rt _ _ _ _ dX2_countOf_57 ⟨rfl, h⟩
  · have h := h.2.2.1 q
    refine jw_tableIn F o_1 (off := 57) (tgt := 58) dX2_countOf_1 (by omega) (by omega) (by rw [q]; rfl) (by decide) ?_
    refine jw_aload_n F 0 dX2_countOf_58 rfl rfl ?_
    refine gx_X2_112_0 F dX2_countOf_59 ?_
    exact rt _ _ _ _ dX2_countOf_62 ⟨rfl, h⟩
  · have h := h.2.2.2.1 q
    refine jw_tableIn F o_1 (off := 62) (tgt := 63) dX2_countOf_1 (by omega) (by omega) (by rw [q]; rfl) (by decide) ?_
    refine jw_aload_n F 0 dX2_countOf_63 rfl rfl ?_
    refine gx_X2_109_0 F dX2_countOf_64 ?_
    exact rt _ _ _ _ dX2_countOf_67 ⟨rfl, h⟩
  · have h := h.2.2.2.2.1 q
    refine jw_tableIn F o_1 (off := 67) (tgt := 68) dX2_countOf_1 (by omega) (by omega) (by rw [q]; rfl) (by decide) ?_
    refine jw_aload_n F 0 dX2_countOf_68 rfl rfl ?_
    refine gx_X2_127_0 F dX2_countOf_69 ?_
    exact rt _ _ _ _ dX2_countOf_72 ⟨rfl, h⟩
  · have h := h.2.2.2.2.2.1 q
    refine jw_tableIn F o_1 (off := 72) (tgt := 73) dX2_countOf_1 (by omega) (by omega) (by rw [q]; rfl) (by decide) ?_
    refine jw_aload_n F 0 dX2_countOf_73 rfl rfl ?_
    refine gx_X2_130_0 F dX2_countOf_74 ?_
    exact rt _ _ _ _ dX2_countOf_77 ⟨rfl, h⟩
  · have h := h.2.2.2.2.2.2.1 q
    refine jw_tableIn F o_1 (off := 77) (tgt := 78) dX2_countOf_1 (by omega) (by omega) (by rw [q]; rfl) (by decide) ?_
    refine jw_aload_n F 0 dX2_countOf_78 rfl rfl ?_
    refine gx_X2_75_0 F dX2_countOf_79 ?_
    exact rt _ _ _ _ dX2_countOf_82 ⟨rfl, h⟩
  · have h := h.2.2.2.2.2.2.2.1 q
    refine jw_tableIn F o_1 (off := 82) (tgt := 83) dX2_countOf_1 (by omega) (by omega) (by rw [q]; rfl) (by decide) ?_
    refine jw_aload_n F 0 dX2_countOf_83 rfl rfl ?_
    refine gx_X2_212_0 F dX2_countOf_84 ?_
    exact rt _ _ _ _ dX2_countOf_87 ⟨rfl, h⟩
  · have h := h.2.2.2.2.2.2.2.2 q
    refine jw_tableOut F o_1 (tgt := 88) dX2_countOf_1 q (by decide) ?_
    refine jw_bipush F (z := (-102)) dX2_countOf_88 (by decide) ?_
    exact rt _ _ _ _ dX2_countOf_90 ⟨rfl, h⟩
theorem hd_X2_count : yX2_count.cls = RX2 ∧ yX2_count.cls ≠ "java/lang/invoke/MethodHandle" ∧ yX2_count.cls ≠ "java/lang/invoke/VarHandle" ∧ (parseMethodDescriptor yX2_count.desc).map (fun d => d.parameters.length) = some 1 := by decide +kernel
set_option maxHeartbeats 4000000 in
set_option maxRecDepth 100000 in
theorem wk_X2_count {l : Launch} {D : va_G} {dA : Nat → ClassId} {ad : Nat → Nat} {s : Sg} {a1 : Int} {Q : Int → Prop} (h : wp_X2_count a1 s Q) : MXi l D dA (mwf dA ad) yX2_count cX2_count 2 .int ({ frames := 1, cells := 0, slots := 0, locals := 21 } : Room) [.ref (ad 0), .int (iI a1)] s (fun z s' => s' = s ∧ Q z) := by
  unfold wp_X2_count at h
  refine jw_start_i (own := RX2) (lv0 := [(0, .ref (ad 0)), (1, .int (iI a1))]) (by decide) rfl (Nat.le_of_ble_eq_true rfl) rfl (fun G F rt => ?_)
  refine jw_aload_n F 0 dX2_count_0 rfl rfl ?_
  refine jw_iload_n F 1 dX2_count_1 rfl rfl ?_
  refine jw_callVip F (wk_X2_countOf h) (lw_V q1177 q1179 qs67 q77 q1180) hd_X2_countOf ⟨rfl, rfl, Nat.le_of_ble_eq_true rfl, Nat.le_of_ble_eq_true rfl⟩ rfl rfl (mh_0 dA ad _) rfl rfl rfl (Nat.le_of_ble_eq_true rfl) dX2_count_2 (fun r_1 h => ?_)
  exact rt _ _ _ _ dX2_count_5 ⟨rfl, h⟩
theorem hd_X2_say : yX2_say.cls = RX2 ∧ yX2_say.cls ≠ "java/lang/invoke/MethodHandle" ∧ yX2_say.cls ≠ "java/lang/invoke/VarHandle" ∧ (parseMethodDescriptor yX2_say.desc).map (fun d => d.parameters.length) = some 1 := by decide +kernel
set_option maxHeartbeats 4000000 in
set_option maxRecDepth 100000 in
theorem wk_X2_say {l : Launch} {D : va_G} {dA : Nat → ClassId} {ad : Nat → Nat} {s : Sg} {a1 : Int} {Q : Sg → Prop} (h : wp_X2_say a1 s Q) : MXv l D dA (mwf dA ad) yX2_say cX2_say 3 ({ frames := 0, cells := 0, slots := 0, locals := 0 } : Room) [.ref (ad 0), .long (lI a1)] s Q := by
  unfold wp_X2_say at h
  refine jw_start_v (own := RX2) (lv0 := [(0, .ref (ad 0)), (1, .long (lI a1))]) (by decide) rfl (Nat.le_of_ble_eq_true rfl) rfl (fun G F rt => ?_)
  refine jw_aload_n F 0 dX2_say_0 rfl rfl ?_
  refine jw_ldc2 F (z := 31) q1190 dX2_say_1 ?_
  refine jw_aload_n F 0 dX2_say_4 rfl rfl ?_
  refine gx_X2_248_0 F dX2_say_5 ?_
  refine jw_lmul F dX2_say_8 ?_
  refine jw_lload_n F 1 dX2_say_9 rfl rfl ?_
  refine jw_ladd F dX2_say_10 ?_
  refine pgx_X2_248_0 F dX2_say_11 ?_
  exact rt _ _ _ dX2_say_14 h
theorem hd_X2_digest : yX2_digest.cls = RX2 ∧ yX2_digest.cls ≠ "java/lang/invoke/MethodHandle" ∧ yX2_digest.cls ≠ "java/lang/invoke/VarHandle" ∧ (parseMethodDescriptor yX2_digest.desc).map (fun d => d.parameters.length) = some 0 := by decide +kernel
set_option maxHeartbeats 4000000 in
set_option maxRecDepth 100000 in
theorem wk_X2_digest {l : Launch} {D : va_G} {dA : Nat → ClassId} {ad : Nat → Nat} {s : Sg} {Q : Int → Sg → Prop} (h : wp_X2_digest s Q) : MXl l D dA (mwf dA ad) yX2_digest cX2_digest 3 ({ frames := 5, cells := 0, slots := 0, locals := 115 } : Room) [.ref (ad 0)] s Q := by
  unfold wp_X2_digest at h
  refine jw_start_l (own := RX2) (lv0 := [(0, .ref (ad 0))]) (by decide) rfl (Nat.le_of_ble_eq_true rfl) rfl (fun G F rt => ?_)
  refine jw_aload_n F 0 dX2_digest_0 rfl rfl ?_
  refine jw_ldc2 F (z := 547) q1185 dX2_digest_1 ?_
  refine pgx_X2_248_0 F dX2_digest_4 ?_
  refine jw_iconst F dX2_digest_7 ?_
  refine jw_istore_n F (lv' := [(0, .ref (ad 0)), (1, .int (iI 0))]) [1, 0] dX2_digest_8 rfl (by decide) rfl ?_
  refine lp2_r (fun x1_1 s_2 => G s_2 9 [(0, .ref (ad 0)), (1, .int (iI x1_1))] []) h (fun x1_1 s_2 K_3 h ih_4 => ?_)
  refine jw_iload_n F 1 dX2_digest_9 rfl rfl ?_
  refine jw_iconst F dX2_digest_10 ?_
  refine jw_aload_n F 0 dX2_digest_11 rfl rfl ?_
  refine gx_X2_112_0 F dX2_digest_12 ?_
  refine jw_imul F dX2_digest_15 ?_
  obtain ⟨o_5, h⟩ := h
  obtain ⟨o_6, h⟩ := h
  refine jw_icmp_ge F o_5 o_6 (tgt := 36) dX2_digest_16 (by decide) (fun c => ?_) (fun c => ?_)
  · have h := h.1 (c)
    refine jw_iconst F dX2_digest_36 ?_
    refine jw_istore_n F (lv' := [(0, .ref (ad 0)), (1, .int (iI 0))]) [1, 0] dX2_digest_37 rfl (by decide) rfl ?_
    refine lp2_r (fun x1_7 s_8 => G s_8 38 [(0, .ref (ad 0)), (1, .int (iI x1_7))] []) h (fun x1_7 s_8 K_9 h ih_10 => ?_)
    refine jw_iload_n F 1 dX2_digest_38 rfl rfl ?_
    refine jw_aload_n F 0 dX2_digest_39 rfl rfl ?_
    refine gx_X2_102_0 F dX2_digest_40 ?_
    obtain ⟨o_11, h⟩ := h
    obtain ⟨o_12, h⟩ := h
    refine jw_icmp_ge F o_11 o_12 (tgt := 73) dX2_digest_43 (by decide) (fun c => ?_) (fun c => ?_)
    · have h := h.1 (c)
      refine jw_iconst F dX2_digest_73 ?_
      refine jw_istore_n F (lv' := [(0, .ref (ad 0)), (1, .int (iI 0))]) [1, 0] dX2_digest_74 rfl (by decide) rfl ?_
      refine lp2_r (fun x1_13 s_14 => G s_14 75 [(0, .ref (ad 0)), (1, .int (iI x1_13))] []) h (fun x1_13 s_14 K_15 h ih_16 => ?_)
      refine jw_iload_n F 1 dX2_digest_75 rfl rfl ?_
      refine jw_aload_n F 0 dX2_digest_76 rfl rfl ?_
      refine gx_X2_109_0 F dX2_digest_77 ?_
      obtain ⟨o_17, h⟩ := h
      obtain ⟨o_18, h⟩ := h
      refine jw_icmp_ge F o_17 o_18 (tgt := 113) dX2_digest_80 (by decide) (fun c => ?_) (fun c => ?_)
      · have h := h.1 (c)
        refine jw_aload_n F 0 dX2_digest_113 rfl rfl ?_
        refine jw_aload_n F 0 dX2_digest_114 rfl rfl ?_
        refine jw_iconst F dX2_digest_115 ?_
        refine jw_callVip F (wk_X2_leftOf h) (lw_V q1048 q1050 qs52 q77 q1051) hd_X2_leftOf ⟨rfl, rfl, Nat.le_of_ble_eq_true rfl, Nat.le_of_ble_eq_true rfl⟩ rfl rfl (mh_0 dA ad _) rfl rfl rfl (Nat.le_of_ble_eq_true rfl) dX2_digest_116 (fun r_19 h => ?_)
        obtain ⟨o_21, h⟩ := h
        refine jw_i2l F o_21 dX2_digest_119 ?_
        refine jw_callVv F (wk_X2_say h) (lw_V q1186 q1188 qs68 q77 q1189) hd_X2_say ⟨rfl, rfl, Nat.le_of_ble_eq_true rfl, Nat.le_of_ble_eq_true rfl⟩ rfl rfl (mh_0 dA ad _) rfl rfl rfl (Nat.le_of_ble_eq_true rfl) dX2_digest_120 (fun s_23 hz => ?_)
        have h := hz
        refine jw_aload_n F 0 dX2_digest_123 rfl rfl ?_
        refine jw_aload_n F 0 dX2_digest_124 rfl rfl ?_
        refine jw_iconst F dX2_digest_125 ?_
        refine jw_callVip F (wk_X2_leftOf h) (lw_V q1048 q1050 qs52 q77 q1051) hd_X2_leftOf ⟨rfl, rfl, Nat.le_of_ble_eq_true rfl, Nat.le_of_ble_eq_true rfl⟩ rfl rfl (mh_0 dA ad _) rfl rfl rfl (Nat.le_of_ble_eq_true rfl) dX2_digest_126 (fun r_24 h => ?_)
        obtain ⟨o_26, h⟩ := h
        refine jw_i2l F o_26 dX2_digest_129 ?_
        refine jw_callVv F (wk_X2_say h) (lw_V q1186 q1188 qs68 q77 q1189) hd_X2_say ⟨rfl, rfl, Nat.le_of_ble_eq_true rfl, Nat.le_of_ble_eq_true rfl⟩ rfl rfl (mh_0 dA ad _) rfl rfl rfl (Nat.le_of_ble_eq_true rfl) dX2_digest_130 (fun s_28 hz => ?_)
        have h := hz
        refine jw_aload_n F 0 dX2_digest_133 rfl rfl ?_
        refine jw_callVi F (wk_X2_surestOf h) (lw_V q1114 q1116 qs60 q77 q1117) hd_X2_surestOf ⟨rfl, rfl, Nat.le_of_ble_eq_true rfl, Nat.le_of_ble_eq_true rfl⟩ rfl rfl (mh_0 dA ad _) rfl rfl rfl (Nat.le_of_ble_eq_true rfl) dX2_digest_134 (fun r_29 s_30 hz => ?_)
        have h := hz
        refine jw_istore_n F (lv' := [(0, .ref (ad 0)), (1, .int (iI r_29))]) [1, 0] dX2_digest_137 rfl (by decide) rfl ?_
        refine jw_aload_n F 0 dX2_digest_138 rfl rfl ?_
        refine jw_aload_n F 0 dX2_digest_139 rfl rfl ?_
        refine gx_X2_197_0 F dX2_digest_140 ?_
        obtain ⟨o_31, h⟩ := h
        refine jw_i2l F o_31 dX2_digest_143 ?_
        refine jw_callVv F (wk_X2_say h) (lw_V q1186 q1188 qs68 q77 q1189) hd_X2_say ⟨rfl, rfl, Nat.le_of_ble_eq_true rfl, Nat.le_of_ble_eq_true rfl⟩ rfl rfl (mh_0 dA ad _) rfl rfl rfl (Nat.le_of_ble_eq_true rfl) dX2_digest_144 (fun s_33 hz => ?_)
        have h := hz
        refine jw_aload_n F 0 dX2_digest_147 rfl rfl ?_
        refine jw_iload_n F 1 dX2_digest_148 rfl rfl ?_
        obtain ⟨o_34, h⟩ := h
        refine jw_i2l F o_34 dX2_digest_149 ?_
        refine jw_callVv F (wk_X2_say h) (lw_V q1186 q1188 qs68 q77 q1189) hd_X2_say ⟨rfl, rfl, Nat.le_of_ble_eq_true rfl, Nat.le_of_ble_eq_true rfl⟩ rfl rfl (mh_0 dA ad _) rfl rfl rfl (Nat.le_of_ble_eq_true rfl) dX2_digest_150 (fun s_36 hz => ?_)
        have h := hz
        refine jw_iconst F dX2_digest_153 ?_
        refine jw_istore_n F (lv' := [(0, .ref (ad 0)), (1, .int (iI r_29)), (2, .int (iI 0))]) [1, 2, 0] dX2_digest_154 rfl (by decide) rfl ?_
        refine jw_sub F (lv' := [(0, .ref (ad 0)), (2, .int (iI 0))]) [0, 2] rfl ?_
        refine lp2_r (fun x2_37 s_38 => G s_38 155 [(0, .ref (ad 0)), (2, .int (iI x2_37))] []) h (fun x2_37 s_38 K_39 h ih_40 => ?_)
        refine jw_iload_n F 1 dX2_digest_155 rfl rfl ?_
        refine jw_aload_n F 0 dX2_digest_156 rfl rfl ?_
        refine gx_X2_67_0 F dX2_digest_157 ?_
        obtain ⟨o_41, h⟩ := h
        obtain ⟨o_42, h⟩ := h
        refine jw_icmp_ge F o_41 o_42 (tgt := 179) dX2_digest_160 (by decide) (fun c => ?_) (fun c => ?_)
        · have h := h.1 (c)
          refine jw_iconst F dX2_digest_179 ?_
          refine jw_istore_n F (lv' := [(0, .ref (ad 0)), (2, .int (iI 2))]) [1, 0] dX2_digest_180 rfl (by decide) rfl ?_
          refine lp2_r (fun x2_43 s_44 => G s_44 181 [(0, .ref (ad 0)), (2, .int (iI x2_43))] []) h (fun x2_43 s_44 K_45 h ih_46 => ?_)
          refine jw_iload_n F 1 dX2_digest_181 rfl rfl ?_
          refine jw_bipush F (z := 10) dX2_digest_182 (by decide) ?_
          obtain ⟨o_47, h⟩ := h
          refine jw_icmp_ge F o_47 (by decide) (tgt := 215) dX2_digest_184 (by decide) (fun c => ?_) (fun c => ?_)
          · have h := h.1 (c)
            refine jw_iconst F dX2_digest_215 ?_
            refine jw_istore_n F (lv' := [(0, .ref (ad 0)), (2, .int (iI 0))]) [1, 0] dX2_digest_216 rfl (by decide) rfl ?_
            refine lp2_r (fun x2_48 s_49 => G s_49 217 [(0, .ref (ad 0)), (2, .int (iI x2_48))] []) h (fun x2_48 s_49 K_50 h ih_51 => ?_)
            refine jw_iload_n F 1 dX2_digest_217 rfl rfl ?_
            refine jw_aload_n F 0 dX2_digest_218 rfl rfl ?_
            refine gx_X2_75_0 F dX2_digest_219 ?_
            obtain ⟨o_52, h⟩ := h
            obtain ⟨o_53, h⟩ := h
            refine jw_icmp_ge F o_52 o_53 (tgt := 242) dX2_digest_222 (by decide) (fun c => ?_) (fun c => ?_)
            · have h := h.1 (c)
              refine jw_iconst F dX2_digest_242 ?_
              refine jw_istore_n F (lv' := [(0, .ref (ad 0)), (2, .int (iI 0))]) [1, 0] dX2_digest_243 rfl (by decide) rfl ?_
              refine lp2_r (fun x2_54 s_55 => G s_55 244 [(0, .ref (ad 0)), (2, .int (iI x2_54))] []) h (fun x2_54 s_55 K_56 h ih_57 => ?_)
              refine jw_iload_n F 1 dX2_digest_244 rfl rfl ?_
              refine jw_bipush F (z := 8) dX2_digest_245 (by decide) ?_
              obtain ⟨o_58, h⟩ := h
              refine jw_icmp_ge F o_58 (by decide) (tgt := 266) dX2_digest_247 (by decide) (fun c => ?_) (fun c => ?_)
              · have h := h.1 (c)
                refine jw_aload_n F 0 dX2_digest_266 rfl rfl ?_
                refine gx_X2_248_0 F dX2_digest_267 ?_
                exact rt _ _ _ _ dX2_digest_270 h
              · have h := h.2 (c)
                refine jw_aload_n F 0 dX2_digest_250 rfl rfl ?_
                refine jw_aload_n F 0 dX2_digest_251 rfl rfl ?_
                refine jw_iload_n F 1 dX2_digest_252 rfl rfl ?_
                refine jw_callVip F (wk_X2_countOf h) (lw_V q1177 q1179 qs67 q77 q1180) hd_X2_countOf ⟨rfl, rfl, Nat.le_of_ble_eq_true rfl, Nat.le_of_ble_eq_true rfl⟩ rfl rfl (mh_0 dA ad _) rfl rfl rfl (Nat.le_of_ble_eq_true rfl) dX2_digest_253 (fun r_59 h => ?_)
                obtain ⟨o_61, h⟩ := h
                refine jw_i2l F o_61 dX2_digest_256 ?_
                refine jw_callVv F (wk_X2_say h) (lw_V q1186 q1188 qs68 q77 q1189) hd_X2_say ⟨rfl, rfl, Nat.le_of_ble_eq_true rfl, Nat.le_of_ble_eq_true rfl⟩ rfl rfl (mh_0 dA ad _) rfl rfl rfl (Nat.le_of_ble_eq_true rfl) dX2_digest_257 (fun s_63 hz => ?_)
                have h := hz
                refine jw_iinc F (lv' := [(0, .ref (ad 0)), (2, .int (iI (x2_54 + 1)))]) 1 [1, 0] dX2_digest_260 rfl (by decide) rfl ?_
                refine jw_goto F (tgt := 244) dX2_digest_263 (by decide) ?_
                exact ih_57 _ _ h
            · have h := h.2 (c)
              refine jw_aload_n F 0 dX2_digest_225 rfl rfl ?_
              refine jw_aload_n F 0 dX2_digest_226 rfl rfl ?_
              refine gx_X2_7_0 F dX2_digest_227 ?_
              refine jw_iload_n F 1 dX2_digest_230 rfl rfl ?_
              obtain ⟨o_64, o_65, h⟩ := h
              refine jw_iald F (mO dA ad) (k := 1) (by decide) (ma_1 dA ad) 0 rfl (by decide) o_64 o_65 dX2_digest_231 ?_
              obtain ⟨o_66, h⟩ := h
              refine jw_i2l F o_66 dX2_digest_232 ?_
              refine jw_callVv F (wk_X2_say h) (lw_V q1186 q1188 qs68 q77 q1189) hd_X2_say ⟨rfl, rfl, Nat.le_of_ble_eq_true rfl, Nat.le_of_ble_eq_true rfl⟩ rfl rfl (mh_0 dA ad _) rfl rfl rfl (Nat.le_of_ble_eq_true rfl) dX2_digest_233 (fun s_68 hz => ?_)
              have h := hz
              refine jw_iinc F (lv' := [(0, .ref (ad 0)), (2, .int (iI (x2_48 + 1)))]) 1 [1, 0] dX2_digest_236 rfl (by decide) rfl ?_
              refine jw_goto F (tgt := 217) dX2_digest_239 (by decide) ?_
              exact ih_51 _ _ h
          · have h := h.2 (c)
            refine jw_aload_n F 0 dX2_digest_187 rfl rfl ?_
            refine jw_aload_n F 0 dX2_digest_188 rfl rfl ?_
            refine jw_iload_n F 1 dX2_digest_189 rfl rfl ?_
            refine jw_iconst F dX2_digest_190 ?_
            refine jw_callVip F (wk_X2_planOf h) (lw_V q1157 q1159 qs65 q77 q1160) hd_X2_planOf ⟨rfl, rfl, Nat.le_of_ble_eq_true rfl, Nat.le_of_ble_eq_true rfl⟩ rfl rfl (mh_0 dA ad _) rfl rfl rfl (Nat.le_of_ble_eq_true rfl) dX2_digest_191 (fun r_69 h => ?_)
            obtain ⟨o_71, h⟩ := h
            refine jw_i2l F o_71 dX2_digest_194 ?_
            refine jw_callVv F (wk_X2_say h) (lw_V q1186 q1188 qs68 q77 q1189) hd_X2_say ⟨rfl, rfl, Nat.le_of_ble_eq_true rfl, Nat.le_of_ble_eq_true rfl⟩ rfl rfl (mh_0 dA ad _) rfl rfl rfl (Nat.le_of_ble_eq_true rfl) dX2_digest_195 (fun s_73 hz => ?_)
            have h := hz
            refine jw_aload_n F 0 dX2_digest_198 rfl rfl ?_
            refine jw_aload_n F 0 dX2_digest_199 rfl rfl ?_
            refine jw_iload_n F 1 dX2_digest_200 rfl rfl ?_
            refine jw_iconst F dX2_digest_201 ?_
            refine jw_callVip F (wk_X2_planOf h) (lw_V q1157 q1159 qs65 q77 q1160) hd_X2_planOf ⟨rfl, rfl, Nat.le_of_ble_eq_true rfl, Nat.le_of_ble_eq_true rfl⟩ rfl rfl (mh_0 dA ad _) rfl rfl rfl (Nat.le_of_ble_eq_true rfl) dX2_digest_202 (fun r_74 h => ?_)
            obtain ⟨o_76, h⟩ := h
            refine jw_i2l F o_76 dX2_digest_205 ?_
            refine jw_callVv F (wk_X2_say h) (lw_V q1186 q1188 qs68 q77 q1189) hd_X2_say ⟨rfl, rfl, Nat.le_of_ble_eq_true rfl, Nat.le_of_ble_eq_true rfl⟩ rfl rfl (mh_0 dA ad _) rfl rfl rfl (Nat.le_of_ble_eq_true rfl) dX2_digest_206 (fun s_78 hz => ?_)
            have h := hz
            refine jw_iinc F (lv' := [(0, .ref (ad 0)), (2, .int (iI (x2_43 + 1)))]) 1 [1, 0] dX2_digest_209 rfl (by decide) rfl ?_
            refine jw_goto F (tgt := 181) dX2_digest_212 (by decide) ?_
            exact ih_46 _ _ h
        · have h := h.2 (c)
          refine jw_aload_n F 0 dX2_digest_163 rfl rfl ?_
          refine jw_aload_n F 0 dX2_digest_164 rfl rfl ?_
          refine jw_iload_n F 1 dX2_digest_165 rfl rfl ?_
          refine jw_callVip F (wk_X2_brokenOf h) (lw_V q1145 q1147 qs64 q77 q1148) hd_X2_brokenOf ⟨rfl, rfl, Nat.le_of_ble_eq_true rfl, Nat.le_of_ble_eq_true rfl⟩ rfl rfl (mh_0 dA ad _) rfl rfl rfl (Nat.le_of_ble_eq_true rfl) dX2_digest_166 (fun r_79 h => ?_)
          obtain ⟨o_81, h⟩ := h
          refine jw_i2l F o_81 dX2_digest_169 ?_
          refine jw_callVv F (wk_X2_say h) (lw_V q1186 q1188 qs68 q77 q1189) hd_X2_say ⟨rfl, rfl, Nat.le_of_ble_eq_true rfl, Nat.le_of_ble_eq_true rfl⟩ rfl rfl (mh_0 dA ad _) rfl rfl rfl (Nat.le_of_ble_eq_true rfl) dX2_digest_170 (fun s_83 hz => ?_)
          have h := hz
          refine jw_iinc F (lv' := [(0, .ref (ad 0)), (2, .int (iI (x2_37 + 1)))]) 1 [1, 0] dX2_digest_173 rfl (by decide) rfl ?_
          refine jw_goto F (tgt := 155) dX2_digest_176 (by decide) ?_
          exact ih_40 _ _ h
      · have h := h.2 (c)
        refine jw_iconst F dX2_digest_83 ?_
        refine jw_istore_n F (lv' := [(0, .ref (ad 0)), (1, .int (iI x1_13)), (2, .int (iI 0))]) [1, 2, 0] dX2_digest_84 rfl (by decide) rfl ?_
        refine lp2_r (fun x2_84 s_85 => G s_85 85 [(0, .ref (ad 0)), (1, .int (iI x1_13)), (2, .int (iI x2_84))] []) h (fun x2_84 s_85 K_86 h ih_87 => ?_)
        refine jw_iload_n F 2 dX2_digest_85 rfl rfl ?_
        refine jw_iconst F dX2_digest_86 ?_
        obtain ⟨o_88, h⟩ := h
        refine jw_icmp_ge F o_88 (by decide) (tgt := 107) dX2_digest_87 (by decide) (fun c => ?_) (fun c => ?_)
        · have h := h.1 (c)
          refine jw_iinc F (lv' := [(0, .ref (ad 0)), (1, .int (iI (x1_13 + 1))), (2, .int (iI x2_84))]) 1 [1, 0, 2] dX2_digest_107 rfl (by decide) rfl ?_
          refine jw_goto F (tgt := 75) dX2_digest_110 (by decide) ?_
          refine jw_sub F (lv' := [(0, .ref (ad 0)), (1, .int (iI (x1_13 + 1)))]) [0, 1] rfl ?_
          exact ih_16 _ _ h
        · have h := h.2 (c)
          refine jw_aload_n F 0 dX2_digest_90 rfl rfl ?_
          refine jw_aload_n F 0 dX2_digest_91 rfl rfl ?_
          refine jw_iload_n F 1 dX2_digest_92 rfl rfl ?_
          refine jw_iload_n F 2 dX2_digest_93 rfl rfl ?_
          refine jw_callVip F (wk_X2_tellSort h) (lw_V q1016 q1018 qs48 q77 q1019) hd_X2_tellSort ⟨rfl, rfl, Nat.le_of_ble_eq_true rfl, Nat.le_of_ble_eq_true rfl⟩ rfl rfl (mh_0 dA ad _) rfl rfl rfl (Nat.le_of_ble_eq_true rfl) dX2_digest_94 (fun r_89 h => ?_)
          obtain ⟨o_91, h⟩ := h
          refine jw_i2l F o_91 dX2_digest_97 ?_
          refine jw_callVv F (wk_X2_say h) (lw_V q1186 q1188 qs68 q77 q1189) hd_X2_say ⟨rfl, rfl, Nat.le_of_ble_eq_true rfl, Nat.le_of_ble_eq_true rfl⟩ rfl rfl (mh_0 dA ad _) rfl rfl rfl (Nat.le_of_ble_eq_true rfl) dX2_digest_98 (fun s_93 hz => ?_)
          have h := hz
          refine jw_iinc F (lv' := [(0, .ref (ad 0)), (1, .int (iI x1_13)), (2, .int (iI (x2_84 + 1)))]) 2 [1, 2, 0] dX2_digest_101 rfl (by decide) rfl ?_
          refine jw_goto F (tgt := 85) dX2_digest_104 (by decide) ?_
          exact ih_87 _ _ h
    · have h := h.2 (c)
      refine jw_aload_n F 0 dX2_digest_46 rfl rfl ?_
      refine jw_aload_n F 0 dX2_digest_47 rfl rfl ?_
      refine gx_X2_22_0 F dX2_digest_48 ?_
      refine jw_iload_n F 1 dX2_digest_51 rfl rfl ?_
      obtain ⟨o_94, o_95, h⟩ := h
      refine jw_iald F (mO dA ad) (k := 5) (by decide) (ma_5 dA ad) 0 rfl (by decide) o_94 o_95 dX2_digest_52 ?_
      obtain ⟨o_96, h⟩ := h
      refine jw_i2l F o_96 dX2_digest_53 ?_
      refine jw_callVv F (wk_X2_say h) (lw_V q1186 q1188 qs68 q77 q1189) hd_X2_say ⟨rfl, rfl, Nat.le_of_ble_eq_true rfl, Nat.le_of_ble_eq_true rfl⟩ rfl rfl (mh_0 dA ad _) rfl rfl rfl (Nat.le_of_ble_eq_true rfl) dX2_digest_54 (fun s_98 hz => ?_)
      have h := hz
      refine jw_aload_n F 0 dX2_digest_57 rfl rfl ?_
      refine jw_aload_n F 0 dX2_digest_58 rfl rfl ?_
      refine jw_iload_n F 1 dX2_digest_59 rfl rfl ?_
      refine jw_callVip F (wk_X2_asOf h) (lw_V q1028 q1030 qs51 q77 q1031) hd_X2_asOf ⟨rfl, rfl, Nat.le_of_ble_eq_true rfl, Nat.le_of_ble_eq_true rfl⟩ rfl rfl (mh_0 dA ad _) rfl rfl rfl (Nat.le_of_ble_eq_true rfl) dX2_digest_60 (fun r_99 h => ?_)
      obtain ⟨o_101, h⟩ := h
      refine jw_i2l F o_101 dX2_digest_63 ?_
      refine jw_callVv F (wk_X2_say h) (lw_V q1186 q1188 qs68 q77 q1189) hd_X2_say ⟨rfl, rfl, Nat.le_of_ble_eq_true rfl, Nat.le_of_ble_eq_true rfl⟩ rfl rfl (mh_0 dA ad _) rfl rfl rfl (Nat.le_of_ble_eq_true rfl) dX2_digest_64 (fun s_103 hz => ?_)
      have h := hz
      refine jw_iinc F (lv' := [(0, .ref (ad 0)), (1, .int (iI (x1_7 + 1)))]) 1 [1, 0] dX2_digest_67 rfl (by decide) rfl ?_
      refine jw_goto F (tgt := 38) dX2_digest_70 (by decide) ?_
      exact ih_10 _ _ h
  · have h := h.2 (c)
    refine jw_aload_n F 0 dX2_digest_19 rfl rfl ?_
    refine jw_aload_n F 0 dX2_digest_20 rfl rfl ?_
    refine gx_X2_13_0 F dX2_digest_21 ?_
    refine jw_iload_n F 1 dX2_digest_24 rfl rfl ?_
    obtain ⟨o_104, o_105, h⟩ := h
    refine jw_iald F (mO dA ad) (k := 2) (by decide) (ma_2 dA ad) 0 rfl (by decide) o_104 o_105 dX2_digest_25 ?_
    obtain ⟨o_106, h⟩ := h
    refine jw_i2l F o_106 dX2_digest_26 ?_
    refine jw_callVv F (wk_X2_say h) (lw_V q1186 q1188 qs68 q77 q1189) hd_X2_say ⟨rfl, rfl, Nat.le_of_ble_eq_true rfl, Nat.le_of_ble_eq_true rfl⟩ rfl rfl (mh_0 dA ad _) rfl rfl rfl (Nat.le_of_ble_eq_true rfl) dX2_digest_27 (fun s_108 hz => ?_)
    have h := hz
    refine jw_iinc F (lv' := [(0, .ref (ad 0)), (1, .int (iI (x1_1 + 1)))]) 1 [1, 0] dX2_digest_30 rfl (by decide) rfl ?_
    refine jw_goto F (tgt := 9) dX2_digest_33 (by decide) ?_
    exact ih_4 _ _ h
