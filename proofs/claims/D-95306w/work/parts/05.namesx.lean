/-! ChordNotHeard -/
set_option maxRecDepth 100000
def RX0 : String := "ChordNotHeard"
def TX0 : u_T := fun k => match k with
  | 0 => ("ChordNotHeard", "law", "Ljava/util/ArrayList;", false)
  | 1 => ("ChordNotHeard", "laws", "I", false)
  | 2 => ("ChordNotHeard", "page", "[B", true)
  | 3 => ("ChordNotHeard", "pageLength", "I", false)
  | 4 => ("ChordNotHeard", "chords", "LChordNotHeard$Chords;", true)
  | 5 => ("ChordNotHeard", "wider", "LChordNotHeard$Chords;", true)
  | 6 => ("ChordNotHeard", "queue", "[I", true)
  | 7 => ("ChordNotHeard", "tellings", "I", false)
  | 8 => ("ChordNotHeard", "heardOf", "[I", true)
  | 9 => ("ChordNotHeard", "heard", "I", false)
  | 10 => ("ChordNotHeard", "bySize", "[I", true)
  | 11 => ("ChordNotHeard", "sheetChord", "[[I", true)
  | 12 => ("ChordNotHeard", "sheetMany", "[I", true)
  | 13 => ("ChordNotHeard", "sheetHeard", "[I", true)
  | 14 => ("ChordNotHeard", "sheets", "I", false)
  | 15 => ("ChordNotHeard", "doubt", "[I", true)
  | 16 => ("ChordNotHeard", "doubts", "I", false)
  | 17 => ("ChordNotHeard", "sheetBits", "[I", true)
  | 18 => ("ChordNotHeard", "silent", "[I", true)
  | 19 => ("ChordNotHeard", "asks", "I", false)
  | 20 => ("ChordNotHeard", "comes", "[[Z", true)
  | 21 => ("ChordNotHeard", "isKept", "Z", false)
  | 22 => ("ChordNotHeard", "keptLaw", "I", false)
  | 23 => ("ChordNotHeard", "keptTelling", "I", false)
  | 24 => ("ChordNotHeard", "keptHeard", "I", false)
  | 25 => ("ChordNotHeard", "keptSheets", "I", false)
  | 26 => ("ChordNotHeard", "keptOf", "[I", true)
  | 27 => ("ChordNotHeard", "keptChord", "[[I", true)
  | 28 => ("ChordNotHeard", "keptMany", "[I", true)
  | _ => ("ChordNotHeard", "keptTold", "[I", true)
def tyX0 : Nat → FieldType := fun k => match k with
  | 0 => .object "java/util/ArrayList"
  | 1 => .int
  | 2 => .array .byte
  | 3 => .int
  | 4 => .object "ChordNotHeard$Chords"
  | 5 => .object "ChordNotHeard$Chords"
  | 6 => .array .int
  | 7 => .int
  | 8 => .array .int
  | 9 => .int
  | 10 => .array .int
  | 11 => .array (.array .int)
  | 12 => .array .int
  | 13 => .array .int
  | 14 => .int
  | 15 => .array .int
  | 16 => .int
  | 17 => .array .int
  | 18 => .array .int
  | 19 => .int
  | 20 => .array (.array .boolean)
  | 21 => .boolean
  | 22 => .int
  | 23 => .int
  | 24 => .int
  | 25 => .int
  | 26 => .array .int
  | 27 => .array (.array .int)
  | 28 => .array .int
  | _ => .array .int
abbrev wsX00 : List Cond := u_ws RX0 TX0 30
set_option maxRecDepth 100000 in
theorem nmX0 : ∀ a, a < 30 → ∀ b, b < 30 → a ≠ b → (TX0 a).2.1 ≠ (TX0 b).2.1 := by decide +kernel
set_option maxRecDepth 100000 in
theorem tyX0_ok : ∀ k, k < 30 → parseFieldDescriptor (TX0 k).2.2.1 = some (tyX0 k) := by decide +kernel
abbrev cX0_init : ByteArray := prog_1_method_4_code
def yX0_init : MethodName := ⟨RX0, "<init>", "()V"⟩
def dkwX0_init_7 : List UInt8 := [180, 0, 23, 16, 6, 182, 0, 77, 42, 42, 180, 0, 23, 182, 0, 81, 177]
abbrev dktX0_init_7 : List UInt8 := dkwX0_init_7 ++ []
def dkwX0_init_6 : List UInt8 := [197, 0, 40, 2, 181, 0, 68, 42, 8, 188, 10, 181, 0, 71, 42, 8, 188, 10, 181, 0, 74, 42]
abbrev dktX0_init_6 : List UInt8 := dkwX0_init_6 ++ dktX0_init_7
def dkwX0_init_5 : List UInt8 := [17, 4, 0, 16, 84, 197, 0, 60, 2, 181, 0, 62, 42, 16, 20, 188, 10, 181, 0, 65, 42, 8, 16, 6]
abbrev dktX0_init_5 : List UInt8 := dkwX0_init_5 ++ dktX0_init_6
def dkwX0_init_4 : List UInt8 := [16, 18, 188, 10, 181, 0, 51, 42, 8, 188, 10, 181, 0, 54, 42, 16, 12, 188, 10, 181, 0, 57, 42]
abbrev dktX0_init_4 : List UInt8 := dkwX0_init_4 ++ dktX0_init_5
def dkwX0_init_3 : List UInt8 := [16, 6, 197, 0, 40, 2, 181, 0, 42, 42, 8, 188, 10, 181, 0, 45, 42, 8, 188, 10, 181, 0, 48, 42]
abbrev dktX0_init_3 : List UInt8 := dkwX0_init_3 ++ dktX0_init_4
def dkwX0_init_2 : List UInt8 := [188, 10, 181, 0, 30, 42, 16, 20, 188, 10, 181, 0, 34, 42, 16, 121, 188, 10, 181, 0, 37, 42, 8]
abbrev dktX0_init_2 : List UInt8 := dkwX0_init_2 ++ dktX0_init_3
def dkwX0_init_1 : List UInt8 := [187, 0, 20, 89, 183, 0, 22, 181, 0, 23, 42, 187, 0, 20, 89, 183, 0, 22, 181, 0, 27, 42, 16, 120]
abbrev dktX0_init_1 : List UInt8 := dkwX0_init_1 ++ dktX0_init_2
def dkwX0_init_0 : List UInt8 := [42, 183, 0, 1, 42, 187, 0, 7, 89, 183, 0, 9, 181, 0, 10, 42, 16, 20, 188, 8, 181, 0, 16, 42]
abbrev dktX0_init_0 : List UInt8 := dkwX0_init_0 ++ dktX0_init_1
theorem dksX0_init_0 : cX0_init.data.toList.drop 0 = dktX0_init_0 := by decide +kernel
theorem dksX0_init_1 : cX0_init.data.toList.drop 24 = dktX0_init_1 := dk_seg dksX0_init_0 24 rfl rfl
theorem dksX0_init_2 : cX0_init.data.toList.drop 48 = dktX0_init_2 := dk_seg dksX0_init_1 24 rfl rfl
theorem dksX0_init_3 : cX0_init.data.toList.drop 71 = dktX0_init_3 := dk_seg dksX0_init_2 23 rfl rfl
theorem dksX0_init_4 : cX0_init.data.toList.drop 95 = dktX0_init_4 := dk_seg dksX0_init_3 24 rfl rfl
theorem dksX0_init_5 : cX0_init.data.toList.drop 118 = dktX0_init_5 := dk_seg dksX0_init_4 23 rfl rfl
theorem dksX0_init_6 : cX0_init.data.toList.drop 142 = dktX0_init_6 := dk_seg dksX0_init_5 24 rfl rfl
theorem dksX0_init_7 : cX0_init.data.toList.drop 164 = dktX0_init_7 := dk_seg dksX0_init_6 22 rfl rfl
theorem dX0_init_0 : decode cX0_init 0 = .ok (.aload_n 0, 1) := dk_42 (dk_at dksX0_init_0 0 rfl rfl)
theorem dX0_init_1 : decode cX0_init 1 = .ok (.invokespecial 1, 3) := dk_183 0 1 (dk_at dksX0_init_0 1 rfl rfl)
theorem dX0_init_4 : decode cX0_init 4 = .ok (.aload_n 0, 1) := dk_42 (dk_at dksX0_init_0 4 rfl rfl)
theorem dX0_init_5 : decode cX0_init 5 = .ok (.new 7, 3) := dk_187 0 7 (dk_at dksX0_init_0 5 rfl rfl)
theorem dX0_init_8 : decode cX0_init 8 = .ok (.dup, 1) := dk_89 (dk_at dksX0_init_0 8 rfl rfl)
theorem dX0_init_9 : decode cX0_init 9 = .ok (.invokespecial 9, 3) := dk_183 0 9 (dk_at dksX0_init_0 9 rfl rfl)
theorem dX0_init_12 : decode cX0_init 12 = .ok (.putfield 10, 3) := dk_181 0 10 (dk_at dksX0_init_0 12 rfl rfl)
theorem dX0_init_15 : decode cX0_init 15 = .ok (.aload_n 0, 1) := dk_42 (dk_at dksX0_init_0 15 rfl rfl)
theorem dX0_init_16 : decode cX0_init 16 = .ok (.bipush 20, 2) := dk_16 20 (dk_at dksX0_init_0 16 rfl rfl)
theorem dX0_init_18 : decode cX0_init 18 = .ok (.newarray .byte, 2) := dk_188_8 (dk_at dksX0_init_0 18 rfl rfl)
theorem dX0_init_20 : decode cX0_init 20 = .ok (.putfield 16, 3) := dk_181 0 16 (dk_at dksX0_init_0 20 rfl rfl)
theorem dX0_init_23 : decode cX0_init 23 = .ok (.aload_n 0, 1) := dk_42 (dk_at dksX0_init_0 23 rfl rfl)
theorem dX0_init_24 : decode cX0_init 24 = .ok (.new 20, 3) := dk_187 0 20 (dk_at dksX0_init_1 0 rfl rfl)
theorem dX0_init_27 : decode cX0_init 27 = .ok (.dup, 1) := dk_89 (dk_at dksX0_init_1 3 rfl rfl)
theorem dX0_init_28 : decode cX0_init 28 = .ok (.invokespecial 22, 3) := dk_183 0 22 (dk_at dksX0_init_1 4 rfl rfl)
theorem dX0_init_31 : decode cX0_init 31 = .ok (.putfield 23, 3) := dk_181 0 23 (dk_at dksX0_init_1 7 rfl rfl)
theorem dX0_init_34 : decode cX0_init 34 = .ok (.aload_n 0, 1) := dk_42 (dk_at dksX0_init_1 10 rfl rfl)
theorem dX0_init_35 : decode cX0_init 35 = .ok (.new 20, 3) := dk_187 0 20 (dk_at dksX0_init_1 11 rfl rfl)
theorem dX0_init_38 : decode cX0_init 38 = .ok (.dup, 1) := dk_89 (dk_at dksX0_init_1 14 rfl rfl)
theorem dX0_init_39 : decode cX0_init 39 = .ok (.invokespecial 22, 3) := dk_183 0 22 (dk_at dksX0_init_1 15 rfl rfl)
theorem dX0_init_42 : decode cX0_init 42 = .ok (.putfield 27, 3) := dk_181 0 27 (dk_at dksX0_init_1 18 rfl rfl)
theorem dX0_init_45 : decode cX0_init 45 = .ok (.aload_n 0, 1) := dk_42 (dk_at dksX0_init_1 21 rfl rfl)
theorem dX0_init_46 : decode cX0_init 46 = .ok (.bipush 120, 2) := dk_16 120 (dk_at dksX0_init_1 22 rfl rfl)
theorem dX0_init_48 : decode cX0_init 48 = .ok (.newarray .int, 2) := dk_188_10 (dk_at dksX0_init_2 0 rfl rfl)
theorem dX0_init_50 : decode cX0_init 50 = .ok (.putfield 30, 3) := dk_181 0 30 (dk_at dksX0_init_2 2 rfl rfl)
theorem dX0_init_53 : decode cX0_init 53 = .ok (.aload_n 0, 1) := dk_42 (dk_at dksX0_init_2 5 rfl rfl)
theorem dX0_init_54 : decode cX0_init 54 = .ok (.bipush 20, 2) := dk_16 20 (dk_at dksX0_init_2 6 rfl rfl)
theorem dX0_init_56 : decode cX0_init 56 = .ok (.newarray .int, 2) := dk_188_10 (dk_at dksX0_init_2 8 rfl rfl)
theorem dX0_init_58 : decode cX0_init 58 = .ok (.putfield 34, 3) := dk_181 0 34 (dk_at dksX0_init_2 10 rfl rfl)
theorem dX0_init_61 : decode cX0_init 61 = .ok (.aload_n 0, 1) := dk_42 (dk_at dksX0_init_2 13 rfl rfl)
theorem dX0_init_62 : decode cX0_init 62 = .ok (.bipush 121, 2) := dk_16 121 (dk_at dksX0_init_2 14 rfl rfl)
theorem dX0_init_64 : decode cX0_init 64 = .ok (.newarray .int, 2) := dk_188_10 (dk_at dksX0_init_2 16 rfl rfl)
theorem dX0_init_66 : decode cX0_init 66 = .ok (.putfield 37, 3) := dk_181 0 37 (dk_at dksX0_init_2 18 rfl rfl)
theorem dX0_init_69 : decode cX0_init 69 = .ok (.aload_n 0, 1) := dk_42 (dk_at dksX0_init_2 21 rfl rfl)
theorem dX0_init_70 : decode cX0_init 70 = .ok (.iconst 5, 1) := dk_8 (dk_at dksX0_init_2 22 rfl rfl)
theorem dX0_init_71 : decode cX0_init 71 = .ok (.bipush 6, 2) := dk_16 6 (dk_at dksX0_init_3 0 rfl rfl)
theorem dX0_init_73 : decode cX0_init 73 = .ok (.multianewarray 40 2, 4) := by decide +kernel
theorem dX0_init_77 : decode cX0_init 77 = .ok (.putfield 42, 3) := dk_181 0 42 (dk_at dksX0_init_3 6 rfl rfl)
theorem dX0_init_80 : decode cX0_init 80 = .ok (.aload_n 0, 1) := dk_42 (dk_at dksX0_init_3 9 rfl rfl)
theorem dX0_init_81 : decode cX0_init 81 = .ok (.iconst 5, 1) := dk_8 (dk_at dksX0_init_3 10 rfl rfl)
theorem dX0_init_82 : decode cX0_init 82 = .ok (.newarray .int, 2) := dk_188_10 (dk_at dksX0_init_3 11 rfl rfl)
theorem dX0_init_84 : decode cX0_init 84 = .ok (.putfield 45, 3) := dk_181 0 45 (dk_at dksX0_init_3 13 rfl rfl)
theorem dX0_init_87 : decode cX0_init 87 = .ok (.aload_n 0, 1) := dk_42 (dk_at dksX0_init_3 16 rfl rfl)
theorem dX0_init_88 : decode cX0_init 88 = .ok (.iconst 5, 1) := dk_8 (dk_at dksX0_init_3 17 rfl rfl)
theorem dX0_init_89 : decode cX0_init 89 = .ok (.newarray .int, 2) := dk_188_10 (dk_at dksX0_init_3 18 rfl rfl)
theorem dX0_init_91 : decode cX0_init 91 = .ok (.putfield 48, 3) := dk_181 0 48 (dk_at dksX0_init_3 20 rfl rfl)
theorem dX0_init_94 : decode cX0_init 94 = .ok (.aload_n 0, 1) := dk_42 (dk_at dksX0_init_3 23 rfl rfl)
theorem dX0_init_95 : decode cX0_init 95 = .ok (.bipush 18, 2) := dk_16 18 (dk_at dksX0_init_4 0 rfl rfl)
theorem dX0_init_97 : decode cX0_init 97 = .ok (.newarray .int, 2) := dk_188_10 (dk_at dksX0_init_4 2 rfl rfl)
theorem dX0_init_99 : decode cX0_init 99 = .ok (.putfield 51, 3) := dk_181 0 51 (dk_at dksX0_init_4 4 rfl rfl)
theorem dX0_init_102 : decode cX0_init 102 = .ok (.aload_n 0, 1) := dk_42 (dk_at dksX0_init_4 7 rfl rfl)
theorem dX0_init_103 : decode cX0_init 103 = .ok (.iconst 5, 1) := dk_8 (dk_at dksX0_init_4 8 rfl rfl)
theorem dX0_init_104 : decode cX0_init 104 = .ok (.newarray .int, 2) := dk_188_10 (dk_at dksX0_init_4 9 rfl rfl)
theorem dX0_init_106 : decode cX0_init 106 = .ok (.putfield 54, 3) := dk_181 0 54 (dk_at dksX0_init_4 11 rfl rfl)
theorem dX0_init_109 : decode cX0_init 109 = .ok (.aload_n 0, 1) := dk_42 (dk_at dksX0_init_4 14 rfl rfl)
theorem dX0_init_110 : decode cX0_init 110 = .ok (.bipush 12, 2) := dk_16 12 (dk_at dksX0_init_4 15 rfl rfl)
theorem dX0_init_112 : decode cX0_init 112 = .ok (.newarray .int, 2) := dk_188_10 (dk_at dksX0_init_4 17 rfl rfl)
theorem dX0_init_114 : decode cX0_init 114 = .ok (.putfield 57, 3) := dk_181 0 57 (dk_at dksX0_init_4 19 rfl rfl)
theorem dX0_init_117 : decode cX0_init 117 = .ok (.aload_n 0, 1) := dk_42 (dk_at dksX0_init_4 22 rfl rfl)
theorem dX0_init_118 : decode cX0_init 118 = .ok (.sipush 1024, 3) := dk_17 4 0 (dk_at dksX0_init_5 0 rfl rfl)
theorem dX0_init_121 : decode cX0_init 121 = .ok (.bipush 84, 2) := dk_16 84 (dk_at dksX0_init_5 3 rfl rfl)
theorem dX0_init_123 : decode cX0_init 123 = .ok (.multianewarray 60 2, 4) := by decide +kernel
theorem dX0_init_127 : decode cX0_init 127 = .ok (.putfield 62, 3) := dk_181 0 62 (dk_at dksX0_init_5 9 rfl rfl)
theorem dX0_init_130 : decode cX0_init 130 = .ok (.aload_n 0, 1) := dk_42 (dk_at dksX0_init_5 12 rfl rfl)
theorem dX0_init_131 : decode cX0_init 131 = .ok (.bipush 20, 2) := dk_16 20 (dk_at dksX0_init_5 13 rfl rfl)
theorem dX0_init_133 : decode cX0_init 133 = .ok (.newarray .int, 2) := dk_188_10 (dk_at dksX0_init_5 15 rfl rfl)
theorem dX0_init_135 : decode cX0_init 135 = .ok (.putfield 65, 3) := dk_181 0 65 (dk_at dksX0_init_5 17 rfl rfl)
theorem dX0_init_138 : decode cX0_init 138 = .ok (.aload_n 0, 1) := dk_42 (dk_at dksX0_init_5 20 rfl rfl)
theorem dX0_init_139 : decode cX0_init 139 = .ok (.iconst 5, 1) := dk_8 (dk_at dksX0_init_5 21 rfl rfl)
theorem dX0_init_140 : decode cX0_init 140 = .ok (.bipush 6, 2) := dk_16 6 (dk_at dksX0_init_5 22 rfl rfl)
theorem dX0_init_142 : decode cX0_init 142 = .ok (.multianewarray 40 2, 4) := by decide +kernel
theorem dX0_init_146 : decode cX0_init 146 = .ok (.putfield 68, 3) := dk_181 0 68 (dk_at dksX0_init_6 4 rfl rfl)
theorem dX0_init_149 : decode cX0_init 149 = .ok (.aload_n 0, 1) := dk_42 (dk_at dksX0_init_6 7 rfl rfl)
theorem dX0_init_150 : decode cX0_init 150 = .ok (.iconst 5, 1) := dk_8 (dk_at dksX0_init_6 8 rfl rfl)
theorem dX0_init_151 : decode cX0_init 151 = .ok (.newarray .int, 2) := dk_188_10 (dk_at dksX0_init_6 9 rfl rfl)
theorem dX0_init_153 : decode cX0_init 153 = .ok (.putfield 71, 3) := dk_181 0 71 (dk_at dksX0_init_6 11 rfl rfl)
theorem dX0_init_156 : decode cX0_init 156 = .ok (.aload_n 0, 1) := dk_42 (dk_at dksX0_init_6 14 rfl rfl)
theorem dX0_init_157 : decode cX0_init 157 = .ok (.iconst 5, 1) := dk_8 (dk_at dksX0_init_6 15 rfl rfl)
theorem dX0_init_158 : decode cX0_init 158 = .ok (.newarray .int, 2) := dk_188_10 (dk_at dksX0_init_6 16 rfl rfl)
theorem dX0_init_160 : decode cX0_init 160 = .ok (.putfield 74, 3) := dk_181 0 74 (dk_at dksX0_init_6 18 rfl rfl)
theorem dX0_init_163 : decode cX0_init 163 = .ok (.aload_n 0, 1) := dk_42 (dk_at dksX0_init_6 21 rfl rfl)
theorem dX0_init_164 : decode cX0_init 164 = .ok (.getfield 23, 3) := dk_180 0 23 (dk_at dksX0_init_7 0 rfl rfl)
theorem dX0_init_167 : decode cX0_init 167 = .ok (.bipush 6, 2) := dk_16 6 (dk_at dksX0_init_7 3 rfl rfl)
theorem dX0_init_169 : decode cX0_init 169 = .ok (.invokevirtual 77, 3) := dk_182 0 77 (dk_at dksX0_init_7 5 rfl rfl)
theorem dX0_init_172 : decode cX0_init 172 = .ok (.aload_n 0, 1) := dk_42 (dk_at dksX0_init_7 8 rfl rfl)
theorem dX0_init_173 : decode cX0_init 173 = .ok (.aload_n 0, 1) := dk_42 (dk_at dksX0_init_7 9 rfl rfl)
theorem dX0_init_174 : decode cX0_init 174 = .ok (.getfield 23, 3) := dk_180 0 23 (dk_at dksX0_init_7 10 rfl rfl)
theorem dX0_init_177 : decode cX0_init 177 = .ok (.invokevirtual 81, 3) := dk_182 0 81 (dk_at dksX0_init_7 13 rfl rfl)
theorem dX0_init_180 : decode cX0_init 180 = .ok (.return_, 1) := dk_177 (dk_at dksX0_init_7 16 rfl rfl)
abbrev cX0_join : ByteArray := prog_1_method_14_code
def yX0_join : MethodName := ⟨RX0, "join", "(LChordNotHeard$Chords;)V"⟩
def dkwX0_join_3 : List UInt8 := [182, 0, 163, 79, 43, 89, 180, 0, 118, 4, 96, 181, 0, 118, 132, 2, 1, 167, 255, 200, 177]
abbrev dktX0_join_3 : List UInt8 := dkwX0_join_3 ++ []
def dkwX0_join_2 : List UInt8 := [160, 0, 38, 43, 180, 0, 157, 43, 180, 0, 118, 28, 79, 43, 180, 0, 160, 43, 180, 0, 118, 42, 43, 28]
abbrev dktX0_join_2 : List UInt8 := dkwX0_join_2 ++ dktX0_join_3
def dkwX0_join_1 : List UInt8 := [132, 2, 1, 167, 255, 238, 3, 61, 28, 43, 180, 0, 151, 162, 0, 54, 43, 180, 0, 154, 28, 46, 2]
abbrev dktX0_join_1 : List UInt8 := dkwX0_join_1 ++ dktX0_join_2
def dkwX0_join_0 : List UInt8 := [43, 3, 181, 0, 118, 3, 61, 28, 43, 180, 0, 151, 162, 0, 16, 43, 180, 0, 154, 28, 2, 79]
abbrev dktX0_join_0 : List UInt8 := dkwX0_join_0 ++ dktX0_join_1
theorem dksX0_join_0 : cX0_join.data.toList.drop 0 = dktX0_join_0 := by decide +kernel
theorem dksX0_join_1 : cX0_join.data.toList.drop 22 = dktX0_join_1 := dk_seg dksX0_join_0 22 rfl rfl
theorem dksX0_join_2 : cX0_join.data.toList.drop 45 = dktX0_join_2 := dk_seg dksX0_join_1 23 rfl rfl
theorem dksX0_join_3 : cX0_join.data.toList.drop 69 = dktX0_join_3 := dk_seg dksX0_join_2 24 rfl rfl
theorem dX0_join_0 : decode cX0_join 0 = .ok (.aload_n 1, 1) := dk_43 (dk_at dksX0_join_0 0 rfl rfl)
theorem dX0_join_1 : decode cX0_join 1 = .ok (.iconst 0, 1) := dk_3 (dk_at dksX0_join_0 1 rfl rfl)
theorem dX0_join_2 : decode cX0_join 2 = .ok (.putfield 118, 3) := dk_181 0 118 (dk_at dksX0_join_0 2 rfl rfl)
theorem dX0_join_5 : decode cX0_join 5 = .ok (.iconst 0, 1) := dk_3 (dk_at dksX0_join_0 5 rfl rfl)
theorem dX0_join_6 : decode cX0_join 6 = .ok (.istore_n 2, 1) := dk_61 (dk_at dksX0_join_0 6 rfl rfl)
theorem dX0_join_7 : decode cX0_join 7 = .ok (.iload_n 2, 1) := dk_28 (dk_at dksX0_join_0 7 rfl rfl)
theorem dX0_join_8 : decode cX0_join 8 = .ok (.aload_n 1, 1) := dk_43 (dk_at dksX0_join_0 8 rfl rfl)
theorem dX0_join_9 : decode cX0_join 9 = .ok (.getfield 151, 3) := dk_180 0 151 (dk_at dksX0_join_0 9 rfl rfl)
theorem dX0_join_12 : decode cX0_join 12 = .ok (.if_icmp .ge 16, 3) := dk_162 0 16 (dk_at dksX0_join_0 12 rfl rfl)
theorem dX0_join_15 : decode cX0_join 15 = .ok (.aload_n 1, 1) := dk_43 (dk_at dksX0_join_0 15 rfl rfl)
theorem dX0_join_16 : decode cX0_join 16 = .ok (.getfield 154, 3) := dk_180 0 154 (dk_at dksX0_join_0 16 rfl rfl)
theorem dX0_join_19 : decode cX0_join 19 = .ok (.iload_n 2, 1) := dk_28 (dk_at dksX0_join_0 19 rfl rfl)
theorem dX0_join_20 : decode cX0_join 20 = .ok (.iconst (-1), 1) := dk_2 (dk_at dksX0_join_0 20 rfl rfl)
theorem dX0_join_21 : decode cX0_join 21 = .ok (.iastore, 1) := dk_79 (dk_at dksX0_join_0 21 rfl rfl)
theorem dX0_join_22 : decode cX0_join 22 = .ok (.iinc 2 1, 3) := dk_132 2 1 (dk_at dksX0_join_1 0 rfl rfl)
theorem dX0_join_25 : decode cX0_join 25 = .ok (.goto (-18), 3) := dk_167 255 238 (dk_at dksX0_join_1 3 rfl rfl)
theorem dX0_join_28 : decode cX0_join 28 = .ok (.iconst 0, 1) := dk_3 (dk_at dksX0_join_1 6 rfl rfl)
theorem dX0_join_29 : decode cX0_join 29 = .ok (.istore_n 2, 1) := dk_61 (dk_at dksX0_join_1 7 rfl rfl)
theorem dX0_join_30 : decode cX0_join 30 = .ok (.iload_n 2, 1) := dk_28 (dk_at dksX0_join_1 8 rfl rfl)
theorem dX0_join_31 : decode cX0_join 31 = .ok (.aload_n 1, 1) := dk_43 (dk_at dksX0_join_1 9 rfl rfl)
theorem dX0_join_32 : decode cX0_join 32 = .ok (.getfield 151, 3) := dk_180 0 151 (dk_at dksX0_join_1 10 rfl rfl)
theorem dX0_join_35 : decode cX0_join 35 = .ok (.if_icmp .ge 54, 3) := dk_162 0 54 (dk_at dksX0_join_1 13 rfl rfl)
theorem dX0_join_38 : decode cX0_join 38 = .ok (.aload_n 1, 1) := dk_43 (dk_at dksX0_join_1 16 rfl rfl)
theorem dX0_join_39 : decode cX0_join 39 = .ok (.getfield 154, 3) := dk_180 0 154 (dk_at dksX0_join_1 17 rfl rfl)
theorem dX0_join_42 : decode cX0_join 42 = .ok (.iload_n 2, 1) := dk_28 (dk_at dksX0_join_1 20 rfl rfl)
theorem dX0_join_43 : decode cX0_join 43 = .ok (.iaload, 1) := dk_46 (dk_at dksX0_join_1 21 rfl rfl)
theorem dX0_join_44 : decode cX0_join 44 = .ok (.iconst (-1), 1) := dk_2 (dk_at dksX0_join_1 22 rfl rfl)
theorem dX0_join_45 : decode cX0_join 45 = .ok (.if_icmp .ne 38, 3) := dk_160 0 38 (dk_at dksX0_join_2 0 rfl rfl)
theorem dX0_join_48 : decode cX0_join 48 = .ok (.aload_n 1, 1) := dk_43 (dk_at dksX0_join_2 3 rfl rfl)
theorem dX0_join_49 : decode cX0_join 49 = .ok (.getfield 157, 3) := dk_180 0 157 (dk_at dksX0_join_2 4 rfl rfl)
theorem dX0_join_52 : decode cX0_join 52 = .ok (.aload_n 1, 1) := dk_43 (dk_at dksX0_join_2 7 rfl rfl)
theorem dX0_join_53 : decode cX0_join 53 = .ok (.getfield 118, 3) := dk_180 0 118 (dk_at dksX0_join_2 8 rfl rfl)
theorem dX0_join_56 : decode cX0_join 56 = .ok (.iload_n 2, 1) := dk_28 (dk_at dksX0_join_2 11 rfl rfl)
theorem dX0_join_57 : decode cX0_join 57 = .ok (.iastore, 1) := dk_79 (dk_at dksX0_join_2 12 rfl rfl)
theorem dX0_join_58 : decode cX0_join 58 = .ok (.aload_n 1, 1) := dk_43 (dk_at dksX0_join_2 13 rfl rfl)
theorem dX0_join_59 : decode cX0_join 59 = .ok (.getfield 160, 3) := dk_180 0 160 (dk_at dksX0_join_2 14 rfl rfl)
theorem dX0_join_62 : decode cX0_join 62 = .ok (.aload_n 1, 1) := dk_43 (dk_at dksX0_join_2 17 rfl rfl)
theorem dX0_join_63 : decode cX0_join 63 = .ok (.getfield 118, 3) := dk_180 0 118 (dk_at dksX0_join_2 18 rfl rfl)
theorem dX0_join_66 : decode cX0_join 66 = .ok (.aload_n 0, 1) := dk_42 (dk_at dksX0_join_2 21 rfl rfl)
theorem dX0_join_67 : decode cX0_join 67 = .ok (.aload_n 1, 1) := dk_43 (dk_at dksX0_join_2 22 rfl rfl)
theorem dX0_join_68 : decode cX0_join 68 = .ok (.iload_n 2, 1) := dk_28 (dk_at dksX0_join_2 23 rfl rfl)
theorem dX0_join_69 : decode cX0_join 69 = .ok (.invokevirtual 163, 3) := dk_182 0 163 (dk_at dksX0_join_3 0 rfl rfl)
theorem dX0_join_72 : decode cX0_join 72 = .ok (.iastore, 1) := dk_79 (dk_at dksX0_join_3 3 rfl rfl)
theorem dX0_join_73 : decode cX0_join 73 = .ok (.aload_n 1, 1) := dk_43 (dk_at dksX0_join_3 4 rfl rfl)
theorem dX0_join_74 : decode cX0_join 74 = .ok (.dup, 1) := dk_89 (dk_at dksX0_join_3 5 rfl rfl)
theorem dX0_join_75 : decode cX0_join 75 = .ok (.getfield 118, 3) := dk_180 0 118 (dk_at dksX0_join_3 6 rfl rfl)
theorem dX0_join_78 : decode cX0_join 78 = .ok (.iconst 1, 1) := dk_4 (dk_at dksX0_join_3 9 rfl rfl)
theorem dX0_join_79 : decode cX0_join 79 = .ok (.iadd, 1) := dk_96 (dk_at dksX0_join_3 10 rfl rfl)
theorem dX0_join_80 : decode cX0_join 80 = .ok (.putfield 118, 3) := dk_181 0 118 (dk_at dksX0_join_3 11 rfl rfl)
theorem dX0_join_83 : decode cX0_join 83 = .ok (.iinc 2 1, 3) := dk_132 2 1 (dk_at dksX0_join_3 14 rfl rfl)
theorem dX0_join_86 : decode cX0_join 86 = .ok (.goto (-56), 3) := dk_167 255 200 (dk_at dksX0_join_3 17 rfl rfl)
theorem dX0_join_89 : decode cX0_join 89 = .ok (.return_, 1) := dk_177 (dk_at dksX0_join_3 20 rfl rfl)
abbrev cX0_spread : ByteArray := prog_1_method_15_code
def yX0_spread : MethodName := ⟨RX0, "spread", "(LChordNotHeard$Chords;I)I"⟩
def dkwX0_spread_4 : List UInt8 := [21, 6, 79, 132, 3, 1, 132, 5, 1, 167, 255, 183, 132, 4, 1, 167, 255, 168, 29, 172]
abbrev dktX0_spread_4 : List UInt8 := dkwX0_spread_4 ++ []
def dkwX0_spread_3 : List UInt8 := [21, 6, 46, 2, 160, 0, 25, 43, 180, 0, 154, 21, 6, 43, 180, 0, 118, 79, 42, 180, 0, 30, 29]
abbrev dktX0_spread_3 : List UInt8 := dkwX0_spread_3 ++ dktX0_spread_4
def dkwX0_spread_2 : List UInt8 := [21, 4, 46, 42, 180, 0, 10, 21, 5, 182, 0, 133, 192, 0, 122, 182, 0, 167, 54, 6, 43, 180, 0, 154]
abbrev dktX0_spread_2 : List UInt8 := dkwX0_spread_2 ++ dktX0_spread_3
def dkwX0_spread_1 : List UInt8 := [29, 162, 0, 88, 3, 54, 5, 21, 5, 42, 180, 0, 10, 182, 0, 85, 162, 0, 67, 43, 42, 180, 0, 30]
abbrev dktX0_spread_1 : List UInt8 := dkwX0_spread_1 ++ dktX0_spread_2
def dkwX0_spread_0 : List UInt8 := [4, 62, 42, 180, 0, 30, 3, 28, 79, 43, 180, 0, 154, 28, 43, 180, 0, 118, 79, 3, 54, 4, 21, 4]
abbrev dktX0_spread_0 : List UInt8 := dkwX0_spread_0 ++ dktX0_spread_1
theorem dksX0_spread_0 : cX0_spread.data.toList.drop 0 = dktX0_spread_0 := by decide +kernel
theorem dksX0_spread_1 : cX0_spread.data.toList.drop 24 = dktX0_spread_1 := dk_seg dksX0_spread_0 24 rfl rfl
theorem dksX0_spread_2 : cX0_spread.data.toList.drop 48 = dktX0_spread_2 := dk_seg dksX0_spread_1 24 rfl rfl
theorem dksX0_spread_3 : cX0_spread.data.toList.drop 72 = dktX0_spread_3 := dk_seg dksX0_spread_2 24 rfl rfl
theorem dksX0_spread_4 : cX0_spread.data.toList.drop 95 = dktX0_spread_4 := dk_seg dksX0_spread_3 23 rfl rfl
theorem dX0_spread_0 : decode cX0_spread 0 = .ok (.iconst 1, 1) := dk_4 (dk_at dksX0_spread_0 0 rfl rfl)
theorem dX0_spread_1 : decode cX0_spread 1 = .ok (.istore_n 3, 1) := dk_62 (dk_at dksX0_spread_0 1 rfl rfl)
theorem dX0_spread_2 : decode cX0_spread 2 = .ok (.aload_n 0, 1) := dk_42 (dk_at dksX0_spread_0 2 rfl rfl)
theorem dX0_spread_3 : decode cX0_spread 3 = .ok (.getfield 30, 3) := dk_180 0 30 (dk_at dksX0_spread_0 3 rfl rfl)
theorem dX0_spread_6 : decode cX0_spread 6 = .ok (.iconst 0, 1) := dk_3 (dk_at dksX0_spread_0 6 rfl rfl)
theorem dX0_spread_7 : decode cX0_spread 7 = .ok (.iload_n 2, 1) := dk_28 (dk_at dksX0_spread_0 7 rfl rfl)
theorem dX0_spread_8 : decode cX0_spread 8 = .ok (.iastore, 1) := dk_79 (dk_at dksX0_spread_0 8 rfl rfl)
theorem dX0_spread_9 : decode cX0_spread 9 = .ok (.aload_n 1, 1) := dk_43 (dk_at dksX0_spread_0 9 rfl rfl)
theorem dX0_spread_10 : decode cX0_spread 10 = .ok (.getfield 154, 3) := dk_180 0 154 (dk_at dksX0_spread_0 10 rfl rfl)
theorem dX0_spread_13 : decode cX0_spread 13 = .ok (.iload_n 2, 1) := dk_28 (dk_at dksX0_spread_0 13 rfl rfl)
theorem dX0_spread_14 : decode cX0_spread 14 = .ok (.aload_n 1, 1) := dk_43 (dk_at dksX0_spread_0 14 rfl rfl)
theorem dX0_spread_15 : decode cX0_spread 15 = .ok (.getfield 118, 3) := dk_180 0 118 (dk_at dksX0_spread_0 15 rfl rfl)
theorem dX0_spread_18 : decode cX0_spread 18 = .ok (.iastore, 1) := dk_79 (dk_at dksX0_spread_0 18 rfl rfl)
theorem dX0_spread_19 : decode cX0_spread 19 = .ok (.iconst 0, 1) := dk_3 (dk_at dksX0_spread_0 19 rfl rfl)
theorem dX0_spread_20 : decode cX0_spread 20 = .ok (.istore 4, 2) := dk_54 4 (dk_at dksX0_spread_0 20 rfl rfl)
theorem dX0_spread_22 : decode cX0_spread 22 = .ok (.iload 4, 2) := dk_21 4 (dk_at dksX0_spread_0 22 rfl rfl)
theorem dX0_spread_24 : decode cX0_spread 24 = .ok (.iload_n 3, 1) := dk_29 (dk_at dksX0_spread_1 0 rfl rfl)
theorem dX0_spread_25 : decode cX0_spread 25 = .ok (.if_icmp .ge 88, 3) := dk_162 0 88 (dk_at dksX0_spread_1 1 rfl rfl)
theorem dX0_spread_28 : decode cX0_spread 28 = .ok (.iconst 0, 1) := dk_3 (dk_at dksX0_spread_1 4 rfl rfl)
theorem dX0_spread_29 : decode cX0_spread 29 = .ok (.istore 5, 2) := dk_54 5 (dk_at dksX0_spread_1 5 rfl rfl)
theorem dX0_spread_31 : decode cX0_spread 31 = .ok (.iload 5, 2) := dk_21 5 (dk_at dksX0_spread_1 7 rfl rfl)
theorem dX0_spread_33 : decode cX0_spread 33 = .ok (.aload_n 0, 1) := dk_42 (dk_at dksX0_spread_1 9 rfl rfl)
theorem dX0_spread_34 : decode cX0_spread 34 = .ok (.getfield 10, 3) := dk_180 0 10 (dk_at dksX0_spread_1 10 rfl rfl)
theorem dX0_spread_37 : decode cX0_spread 37 = .ok (.invokevirtual 85, 3) := dk_182 0 85 (dk_at dksX0_spread_1 13 rfl rfl)
theorem dX0_spread_40 : decode cX0_spread 40 = .ok (.if_icmp .ge 67, 3) := dk_162 0 67 (dk_at dksX0_spread_1 16 rfl rfl)
theorem dX0_spread_43 : decode cX0_spread 43 = .ok (.aload_n 1, 1) := dk_43 (dk_at dksX0_spread_1 19 rfl rfl)
theorem dX0_spread_44 : decode cX0_spread 44 = .ok (.aload_n 0, 1) := dk_42 (dk_at dksX0_spread_1 20 rfl rfl)
theorem dX0_spread_45 : decode cX0_spread 45 = .ok (.getfield 30, 3) := dk_180 0 30 (dk_at dksX0_spread_1 21 rfl rfl)
theorem dX0_spread_48 : decode cX0_spread 48 = .ok (.iload 4, 2) := dk_21 4 (dk_at dksX0_spread_2 0 rfl rfl)
theorem dX0_spread_50 : decode cX0_spread 50 = .ok (.iaload, 1) := dk_46 (dk_at dksX0_spread_2 2 rfl rfl)
theorem dX0_spread_51 : decode cX0_spread 51 = .ok (.aload_n 0, 1) := dk_42 (dk_at dksX0_spread_2 3 rfl rfl)
theorem dX0_spread_52 : decode cX0_spread 52 = .ok (.getfield 10, 3) := dk_180 0 10 (dk_at dksX0_spread_2 4 rfl rfl)
theorem dX0_spread_55 : decode cX0_spread 55 = .ok (.iload 5, 2) := dk_21 5 (dk_at dksX0_spread_2 7 rfl rfl)
theorem dX0_spread_57 : decode cX0_spread 57 = .ok (.invokevirtual 133, 3) := dk_182 0 133 (dk_at dksX0_spread_2 9 rfl rfl)
theorem dX0_spread_60 : decode cX0_spread 60 = .ok (.checkcast 122, 3) := dk_192 0 122 (dk_at dksX0_spread_2 12 rfl rfl)
theorem dX0_spread_63 : decode cX0_spread 63 = .ok (.invokevirtual 167, 3) := dk_182 0 167 (dk_at dksX0_spread_2 15 rfl rfl)
theorem dX0_spread_66 : decode cX0_spread 66 = .ok (.istore 6, 2) := dk_54 6 (dk_at dksX0_spread_2 18 rfl rfl)
theorem dX0_spread_68 : decode cX0_spread 68 = .ok (.aload_n 1, 1) := dk_43 (dk_at dksX0_spread_2 20 rfl rfl)
theorem dX0_spread_69 : decode cX0_spread 69 = .ok (.getfield 154, 3) := dk_180 0 154 (dk_at dksX0_spread_2 21 rfl rfl)
theorem dX0_spread_72 : decode cX0_spread 72 = .ok (.iload 6, 2) := dk_21 6 (dk_at dksX0_spread_3 0 rfl rfl)
theorem dX0_spread_74 : decode cX0_spread 74 = .ok (.iaload, 1) := dk_46 (dk_at dksX0_spread_3 2 rfl rfl)
theorem dX0_spread_75 : decode cX0_spread 75 = .ok (.iconst (-1), 1) := dk_2 (dk_at dksX0_spread_3 3 rfl rfl)
theorem dX0_spread_76 : decode cX0_spread 76 = .ok (.if_icmp .ne 25, 3) := dk_160 0 25 (dk_at dksX0_spread_3 4 rfl rfl)
theorem dX0_spread_79 : decode cX0_spread 79 = .ok (.aload_n 1, 1) := dk_43 (dk_at dksX0_spread_3 7 rfl rfl)
theorem dX0_spread_80 : decode cX0_spread 80 = .ok (.getfield 154, 3) := dk_180 0 154 (dk_at dksX0_spread_3 8 rfl rfl)
theorem dX0_spread_83 : decode cX0_spread 83 = .ok (.iload 6, 2) := dk_21 6 (dk_at dksX0_spread_3 11 rfl rfl)
theorem dX0_spread_85 : decode cX0_spread 85 = .ok (.aload_n 1, 1) := dk_43 (dk_at dksX0_spread_3 13 rfl rfl)
theorem dX0_spread_86 : decode cX0_spread 86 = .ok (.getfield 118, 3) := dk_180 0 118 (dk_at dksX0_spread_3 14 rfl rfl)
theorem dX0_spread_89 : decode cX0_spread 89 = .ok (.iastore, 1) := dk_79 (dk_at dksX0_spread_3 17 rfl rfl)
theorem dX0_spread_90 : decode cX0_spread 90 = .ok (.aload_n 0, 1) := dk_42 (dk_at dksX0_spread_3 18 rfl rfl)
theorem dX0_spread_91 : decode cX0_spread 91 = .ok (.getfield 30, 3) := dk_180 0 30 (dk_at dksX0_spread_3 19 rfl rfl)
theorem dX0_spread_94 : decode cX0_spread 94 = .ok (.iload_n 3, 1) := dk_29 (dk_at dksX0_spread_3 22 rfl rfl)
theorem dX0_spread_95 : decode cX0_spread 95 = .ok (.iload 6, 2) := dk_21 6 (dk_at dksX0_spread_4 0 rfl rfl)
theorem dX0_spread_97 : decode cX0_spread 97 = .ok (.iastore, 1) := dk_79 (dk_at dksX0_spread_4 2 rfl rfl)
theorem dX0_spread_98 : decode cX0_spread 98 = .ok (.iinc 3 1, 3) := dk_132 3 1 (dk_at dksX0_spread_4 3 rfl rfl)
theorem dX0_spread_101 : decode cX0_spread 101 = .ok (.iinc 5 1, 3) := dk_132 5 1 (dk_at dksX0_spread_4 6 rfl rfl)
theorem dX0_spread_104 : decode cX0_spread 104 = .ok (.goto (-73), 3) := dk_167 255 183 (dk_at dksX0_spread_4 9 rfl rfl)
theorem dX0_spread_107 : decode cX0_spread 107 = .ok (.iinc 4 1, 3) := dk_132 4 1 (dk_at dksX0_spread_4 12 rfl rfl)
theorem dX0_spread_110 : decode cX0_spread 110 = .ok (.goto (-88), 3) := dk_167 255 168 (dk_at dksX0_spread_4 15 rfl rfl)
theorem dX0_spread_113 : decode cX0_spread 113 = .ok (.iload_n 3, 1) := dk_29 (dk_at dksX0_spread_4 18 rfl rfl)
theorem dX0_spread_114 : decode cX0_spread 114 = .ok (.ireturn, 1) := dk_172 (dk_at dksX0_spread_4 19 rfl rfl)
abbrev cX0_letters : ByteArray := prog_1_method_6_code
def yX0_letters : MethodName := ⟨RX0, "letters", "(J)I"⟩
def dkwX0_letters_6 : List UInt8 := [181, 0, 95, 42, 180, 0, 95, 172]
abbrev dktX0_letters_6 : List UInt8 := dkwX0_letters_6 ++ []
def dkwX0_letters_5 : List UInt8 := [16, 8, 21, 5, 104, 123, 136, 145, 84, 132, 5, 1, 167, 255, 226, 42, 89, 180, 0, 95, 29, 96]
abbrev dktX0_letters_5 : List UInt8 := dkwX0_letters_5 ++ dktX0_letters_6
def dkwX0_letters_4 : List UInt8 := [16, 152, 172, 3, 54, 5, 21, 5, 29, 162, 0, 30, 42, 180, 0, 16, 42, 180, 0, 95, 21, 5, 96, 31]
abbrev dktX0_letters_4 : List UInt8 := dkwX0_letters_4 ++ dktX0_letters_5
def dkwX0_letters_3 : List UInt8 := [3, 167, 0, 4, 4, 96, 62, 132, 5, 1, 167, 255, 184, 42, 180, 0, 95, 29, 96, 16, 20, 164, 0, 6]
abbrev dktX0_letters_3 : List UInt8 := dkwX0_letters_3 ++ dktX0_letters_4
def dkwX0_letters_2 : List UInt8 := [16, 154, 172, 21, 4, 21, 6, 154, 0, 7, 4, 167, 0, 4, 3, 128, 54, 4, 29, 21, 6, 154, 0, 7]
abbrev dktX0_letters_2 : List UInt8 := dkwX0_letters_2 ++ dktX0_letters_3
def dkwX0_letters_1 : List UInt8 := [20, 0, 93, 127, 136, 54, 6, 21, 6, 16, 126, 163, 0, 13, 21, 4, 153, 0, 11, 21, 6, 153, 0, 6]
abbrev dktX0_letters_1 : List UInt8 := dkwX0_letters_1 ++ dktX0_letters_2
def dkwX0_letters_0 : List UInt8 := [3, 62, 3, 54, 4, 3, 54, 5, 21, 5, 16, 8, 162, 0, 71, 31, 16, 8, 21, 5, 104, 123]
abbrev dktX0_letters_0 : List UInt8 := dkwX0_letters_0 ++ dktX0_letters_1
theorem dksX0_letters_0 : cX0_letters.data.toList.drop 0 = dktX0_letters_0 := by decide +kernel
theorem dksX0_letters_1 : cX0_letters.data.toList.drop 22 = dktX0_letters_1 := dk_seg dksX0_letters_0 22 rfl rfl
theorem dksX0_letters_2 : cX0_letters.data.toList.drop 46 = dktX0_letters_2 := dk_seg dksX0_letters_1 24 rfl rfl
theorem dksX0_letters_3 : cX0_letters.data.toList.drop 70 = dktX0_letters_3 := dk_seg dksX0_letters_2 24 rfl rfl
theorem dksX0_letters_4 : cX0_letters.data.toList.drop 94 = dktX0_letters_4 := dk_seg dksX0_letters_3 24 rfl rfl
theorem dksX0_letters_5 : cX0_letters.data.toList.drop 118 = dktX0_letters_5 := dk_seg dksX0_letters_4 24 rfl rfl
theorem dksX0_letters_6 : cX0_letters.data.toList.drop 140 = dktX0_letters_6 := dk_seg dksX0_letters_5 22 rfl rfl
theorem dX0_letters_0 : decode cX0_letters 0 = .ok (.iconst 0, 1) := dk_3 (dk_at dksX0_letters_0 0 rfl rfl)
theorem dX0_letters_1 : decode cX0_letters 1 = .ok (.istore_n 3, 1) := dk_62 (dk_at dksX0_letters_0 1 rfl rfl)
theorem dX0_letters_2 : decode cX0_letters 2 = .ok (.iconst 0, 1) := dk_3 (dk_at dksX0_letters_0 2 rfl rfl)
theorem dX0_letters_3 : decode cX0_letters 3 = .ok (.istore 4, 2) := dk_54 4 (dk_at dksX0_letters_0 3 rfl rfl)
theorem dX0_letters_5 : decode cX0_letters 5 = .ok (.iconst 0, 1) := dk_3 (dk_at dksX0_letters_0 5 rfl rfl)
theorem dX0_letters_6 : decode cX0_letters 6 = .ok (.istore 5, 2) := dk_54 5 (dk_at dksX0_letters_0 6 rfl rfl)
theorem dX0_letters_8 : decode cX0_letters 8 = .ok (.iload 5, 2) := dk_21 5 (dk_at dksX0_letters_0 8 rfl rfl)
theorem dX0_letters_10 : decode cX0_letters 10 = .ok (.bipush 8, 2) := dk_16 8 (dk_at dksX0_letters_0 10 rfl rfl)
theorem dX0_letters_12 : decode cX0_letters 12 = .ok (.if_icmp .ge 71, 3) := dk_162 0 71 (dk_at dksX0_letters_0 12 rfl rfl)
theorem dX0_letters_15 : decode cX0_letters 15 = .ok (.lload_n 1, 1) := dk_31 (dk_at dksX0_letters_0 15 rfl rfl)
theorem dX0_letters_16 : decode cX0_letters 16 = .ok (.bipush 8, 2) := dk_16 8 (dk_at dksX0_letters_0 16 rfl rfl)
theorem dX0_letters_18 : decode cX0_letters 18 = .ok (.iload 5, 2) := dk_21 5 (dk_at dksX0_letters_0 18 rfl rfl)
theorem dX0_letters_20 : decode cX0_letters 20 = .ok (.imul, 1) := dk_104 (dk_at dksX0_letters_0 20 rfl rfl)
theorem dX0_letters_21 : decode cX0_letters 21 = .ok (.lshr, 1) := dk_123 (dk_at dksX0_letters_0 21 rfl rfl)
theorem dX0_letters_22 : decode cX0_letters 22 = .ok (.ldc2_w 93, 3) := dk_20 0 93 (dk_at dksX0_letters_1 0 rfl rfl)
theorem dX0_letters_25 : decode cX0_letters 25 = .ok (.land, 1) := dk_127 (dk_at dksX0_letters_1 3 rfl rfl)
theorem dX0_letters_26 : decode cX0_letters 26 = .ok (.l2i, 1) := dk_136 (dk_at dksX0_letters_1 4 rfl rfl)
theorem dX0_letters_27 : decode cX0_letters 27 = .ok (.istore 6, 2) := dk_54 6 (dk_at dksX0_letters_1 5 rfl rfl)
theorem dX0_letters_29 : decode cX0_letters 29 = .ok (.iload 6, 2) := dk_21 6 (dk_at dksX0_letters_1 7 rfl rfl)
theorem dX0_letters_31 : decode cX0_letters 31 = .ok (.bipush 126, 2) := dk_16 126 (dk_at dksX0_letters_1 9 rfl rfl)
theorem dX0_letters_33 : decode cX0_letters 33 = .ok (.if_icmp .gt 13, 3) := dk_163 0 13 (dk_at dksX0_letters_1 11 rfl rfl)
theorem dX0_letters_36 : decode cX0_letters 36 = .ok (.iload 4, 2) := dk_21 4 (dk_at dksX0_letters_1 14 rfl rfl)
theorem dX0_letters_38 : decode cX0_letters 38 = .ok (.ifCond .eq 11, 3) := dk_153 0 11 (dk_at dksX0_letters_1 16 rfl rfl)
theorem dX0_letters_41 : decode cX0_letters 41 = .ok (.iload 6, 2) := dk_21 6 (dk_at dksX0_letters_1 19 rfl rfl)
theorem dX0_letters_43 : decode cX0_letters 43 = .ok (.ifCond .eq 6, 3) := dk_153 0 6 (dk_at dksX0_letters_1 21 rfl rfl)
theorem dX0_letters_46 : decode cX0_letters 46 = .ok (.bipush (-102), 2) := dk_16 154 (dk_at dksX0_letters_2 0 rfl rfl)
theorem dX0_letters_48 : decode cX0_letters 48 = .ok (.ireturn, 1) := dk_172 (dk_at dksX0_letters_2 2 rfl rfl)
theorem dX0_letters_49 : decode cX0_letters 49 = .ok (.iload 4, 2) := dk_21 4 (dk_at dksX0_letters_2 3 rfl rfl)
theorem dX0_letters_51 : decode cX0_letters 51 = .ok (.iload 6, 2) := dk_21 6 (dk_at dksX0_letters_2 5 rfl rfl)
theorem dX0_letters_53 : decode cX0_letters 53 = .ok (.ifCond .ne 7, 3) := dk_154 0 7 (dk_at dksX0_letters_2 7 rfl rfl)
theorem dX0_letters_56 : decode cX0_letters 56 = .ok (.iconst 1, 1) := dk_4 (dk_at dksX0_letters_2 10 rfl rfl)
theorem dX0_letters_57 : decode cX0_letters 57 = .ok (.goto 4, 3) := dk_167 0 4 (dk_at dksX0_letters_2 11 rfl rfl)
theorem dX0_letters_60 : decode cX0_letters 60 = .ok (.iconst 0, 1) := dk_3 (dk_at dksX0_letters_2 14 rfl rfl)
theorem dX0_letters_61 : decode cX0_letters 61 = .ok (.ior, 1) := dk_128 (dk_at dksX0_letters_2 15 rfl rfl)
theorem dX0_letters_62 : decode cX0_letters 62 = .ok (.istore 4, 2) := dk_54 4 (dk_at dksX0_letters_2 16 rfl rfl)
theorem dX0_letters_64 : decode cX0_letters 64 = .ok (.iload_n 3, 1) := dk_29 (dk_at dksX0_letters_2 18 rfl rfl)
theorem dX0_letters_65 : decode cX0_letters 65 = .ok (.iload 6, 2) := dk_21 6 (dk_at dksX0_letters_2 19 rfl rfl)
theorem dX0_letters_67 : decode cX0_letters 67 = .ok (.ifCond .ne 7, 3) := dk_154 0 7 (dk_at dksX0_letters_2 21 rfl rfl)
theorem dX0_letters_70 : decode cX0_letters 70 = .ok (.iconst 0, 1) := dk_3 (dk_at dksX0_letters_3 0 rfl rfl)
theorem dX0_letters_71 : decode cX0_letters 71 = .ok (.goto 4, 3) := dk_167 0 4 (dk_at dksX0_letters_3 1 rfl rfl)
theorem dX0_letters_74 : decode cX0_letters 74 = .ok (.iconst 1, 1) := dk_4 (dk_at dksX0_letters_3 4 rfl rfl)
theorem dX0_letters_75 : decode cX0_letters 75 = .ok (.iadd, 1) := dk_96 (dk_at dksX0_letters_3 5 rfl rfl)
theorem dX0_letters_76 : decode cX0_letters 76 = .ok (.istore_n 3, 1) := dk_62 (dk_at dksX0_letters_3 6 rfl rfl)
theorem dX0_letters_77 : decode cX0_letters 77 = .ok (.iinc 5 1, 3) := dk_132 5 1 (dk_at dksX0_letters_3 7 rfl rfl)
theorem dX0_letters_80 : decode cX0_letters 80 = .ok (.goto (-72), 3) := dk_167 255 184 (dk_at dksX0_letters_3 10 rfl rfl)
theorem dX0_letters_83 : decode cX0_letters 83 = .ok (.aload_n 0, 1) := dk_42 (dk_at dksX0_letters_3 13 rfl rfl)
theorem dX0_letters_84 : decode cX0_letters 84 = .ok (.getfield 95, 3) := dk_180 0 95 (dk_at dksX0_letters_3 14 rfl rfl)
theorem dX0_letters_87 : decode cX0_letters 87 = .ok (.iload_n 3, 1) := dk_29 (dk_at dksX0_letters_3 17 rfl rfl)
theorem dX0_letters_88 : decode cX0_letters 88 = .ok (.iadd, 1) := dk_96 (dk_at dksX0_letters_3 18 rfl rfl)
theorem dX0_letters_89 : decode cX0_letters 89 = .ok (.bipush 20, 2) := dk_16 20 (dk_at dksX0_letters_3 19 rfl rfl)
theorem dX0_letters_91 : decode cX0_letters 91 = .ok (.if_icmp .le 6, 3) := dk_164 0 6 (dk_at dksX0_letters_3 21 rfl rfl)
theorem dX0_letters_94 : decode cX0_letters 94 = .ok (.bipush (-104), 2) := dk_16 152 (dk_at dksX0_letters_4 0 rfl rfl)
theorem dX0_letters_96 : decode cX0_letters 96 = .ok (.ireturn, 1) := dk_172 (dk_at dksX0_letters_4 2 rfl rfl)
theorem dX0_letters_97 : decode cX0_letters 97 = .ok (.iconst 0, 1) := dk_3 (dk_at dksX0_letters_4 3 rfl rfl)
theorem dX0_letters_98 : decode cX0_letters 98 = .ok (.istore 5, 2) := dk_54 5 (dk_at dksX0_letters_4 4 rfl rfl)
theorem dX0_letters_100 : decode cX0_letters 100 = .ok (.iload 5, 2) := dk_21 5 (dk_at dksX0_letters_4 6 rfl rfl)
theorem dX0_letters_102 : decode cX0_letters 102 = .ok (.iload_n 3, 1) := dk_29 (dk_at dksX0_letters_4 8 rfl rfl)
theorem dX0_letters_103 : decode cX0_letters 103 = .ok (.if_icmp .ge 30, 3) := dk_162 0 30 (dk_at dksX0_letters_4 9 rfl rfl)
theorem dX0_letters_106 : decode cX0_letters 106 = .ok (.aload_n 0, 1) := dk_42 (dk_at dksX0_letters_4 12 rfl rfl)
theorem dX0_letters_107 : decode cX0_letters 107 = .ok (.getfield 16, 3) := dk_180 0 16 (dk_at dksX0_letters_4 13 rfl rfl)
theorem dX0_letters_110 : decode cX0_letters 110 = .ok (.aload_n 0, 1) := dk_42 (dk_at dksX0_letters_4 16 rfl rfl)
theorem dX0_letters_111 : decode cX0_letters 111 = .ok (.getfield 95, 3) := dk_180 0 95 (dk_at dksX0_letters_4 17 rfl rfl)
theorem dX0_letters_114 : decode cX0_letters 114 = .ok (.iload 5, 2) := dk_21 5 (dk_at dksX0_letters_4 20 rfl rfl)
theorem dX0_letters_116 : decode cX0_letters 116 = .ok (.iadd, 1) := dk_96 (dk_at dksX0_letters_4 22 rfl rfl)
theorem dX0_letters_117 : decode cX0_letters 117 = .ok (.lload_n 1, 1) := dk_31 (dk_at dksX0_letters_4 23 rfl rfl)
theorem dX0_letters_118 : decode cX0_letters 118 = .ok (.bipush 8, 2) := dk_16 8 (dk_at dksX0_letters_5 0 rfl rfl)
theorem dX0_letters_120 : decode cX0_letters 120 = .ok (.iload 5, 2) := dk_21 5 (dk_at dksX0_letters_5 2 rfl rfl)
theorem dX0_letters_122 : decode cX0_letters 122 = .ok (.imul, 1) := dk_104 (dk_at dksX0_letters_5 4 rfl rfl)
theorem dX0_letters_123 : decode cX0_letters 123 = .ok (.lshr, 1) := dk_123 (dk_at dksX0_letters_5 5 rfl rfl)
theorem dX0_letters_124 : decode cX0_letters 124 = .ok (.l2i, 1) := dk_136 (dk_at dksX0_letters_5 6 rfl rfl)
theorem dX0_letters_125 : decode cX0_letters 125 = .ok (.i2b, 1) := dk_145 (dk_at dksX0_letters_5 7 rfl rfl)
theorem dX0_letters_126 : decode cX0_letters 126 = .ok (.bastore, 1) := dk_84 (dk_at dksX0_letters_5 8 rfl rfl)
theorem dX0_letters_127 : decode cX0_letters 127 = .ok (.iinc 5 1, 3) := dk_132 5 1 (dk_at dksX0_letters_5 9 rfl rfl)
theorem dX0_letters_130 : decode cX0_letters 130 = .ok (.goto (-30), 3) := dk_167 255 226 (dk_at dksX0_letters_5 12 rfl rfl)
theorem dX0_letters_133 : decode cX0_letters 133 = .ok (.aload_n 0, 1) := dk_42 (dk_at dksX0_letters_5 15 rfl rfl)
theorem dX0_letters_134 : decode cX0_letters 134 = .ok (.dup, 1) := dk_89 (dk_at dksX0_letters_5 16 rfl rfl)
theorem dX0_letters_135 : decode cX0_letters 135 = .ok (.getfield 95, 3) := dk_180 0 95 (dk_at dksX0_letters_5 17 rfl rfl)
theorem dX0_letters_138 : decode cX0_letters 138 = .ok (.iload_n 3, 1) := dk_29 (dk_at dksX0_letters_5 20 rfl rfl)
theorem dX0_letters_139 : decode cX0_letters 139 = .ok (.iadd, 1) := dk_96 (dk_at dksX0_letters_5 21 rfl rfl)
theorem dX0_letters_140 : decode cX0_letters 140 = .ok (.putfield 95, 3) := dk_181 0 95 (dk_at dksX0_letters_6 0 rfl rfl)
theorem dX0_letters_143 : decode cX0_letters 143 = .ok (.aload_n 0, 1) := dk_42 (dk_at dksX0_letters_6 3 rfl rfl)
theorem dX0_letters_144 : decode cX0_letters 144 = .ok (.getfield 95, 3) := dk_180 0 95 (dk_at dksX0_letters_6 4 rfl rfl)
theorem dX0_letters_147 : decode cX0_letters 147 = .ok (.ireturn, 1) := dk_172 (dk_at dksX0_letters_6 7 rfl rfl)
abbrev cX0_blank : ByteArray := prog_1_method_7_code
def yX0_blank : MethodName := ⟨RX0, "blank", "()I"⟩
def dkwX0_blank_0 : List UInt8 := [42, 180, 0, 95, 60, 42, 3, 181, 0, 95, 27, 172]
abbrev dktX0_blank_0 : List UInt8 := dkwX0_blank_0 ++ []
theorem dksX0_blank_0 : cX0_blank.data.toList.drop 0 = dktX0_blank_0 := by decide +kernel
theorem dX0_blank_0 : decode cX0_blank 0 = .ok (.aload_n 0, 1) := dk_42 (dk_at dksX0_blank_0 0 rfl rfl)
theorem dX0_blank_1 : decode cX0_blank 1 = .ok (.getfield 95, 3) := dk_180 0 95 (dk_at dksX0_blank_0 1 rfl rfl)
theorem dX0_blank_4 : decode cX0_blank 4 = .ok (.istore_n 1, 1) := dk_60 (dk_at dksX0_blank_0 4 rfl rfl)
theorem dX0_blank_5 : decode cX0_blank 5 = .ok (.aload_n 0, 1) := dk_42 (dk_at dksX0_blank_0 5 rfl rfl)
theorem dX0_blank_6 : decode cX0_blank 6 = .ok (.iconst 0, 1) := dk_3 (dk_at dksX0_blank_0 6 rfl rfl)
theorem dX0_blank_7 : decode cX0_blank 7 = .ok (.putfield 95, 3) := dk_181 0 95 (dk_at dksX0_blank_0 7 rfl rfl)
theorem dX0_blank_10 : decode cX0_blank 10 = .ok (.iload_n 1, 1) := dk_27 (dk_at dksX0_blank_0 10 rfl rfl)
theorem dX0_blank_11 : decode cX0_blank 11 = .ok (.ireturn, 1) := dk_172 (dk_at dksX0_blank_0 11 rfl rfl)
abbrev cX0_fault : ByteArray := prog_1_method_8_code
def yX0_fault : MethodName := ⟨RX0, "fault", "()I"⟩
def dkwX0_fault_0 : List UInt8 := [187, 0, 99, 89, 42, 183, 0, 101, 182, 0, 104, 87, 42, 180, 0, 95, 172, 76, 43, 180, 0, 109, 172]
abbrev dktX0_fault_0 : List UInt8 := dkwX0_fault_0 ++ []
theorem dksX0_fault_0 : cX0_fault.data.toList.drop 0 = dktX0_fault_0 := by decide +kernel
theorem dX0_fault_0 : decode cX0_fault 0 = .ok (.new 99, 3) := dk_187 0 99 (dk_at dksX0_fault_0 0 rfl rfl)
theorem dX0_fault_3 : decode cX0_fault 3 = .ok (.dup, 1) := dk_89 (dk_at dksX0_fault_0 3 rfl rfl)
theorem dX0_fault_4 : decode cX0_fault 4 = .ok (.aload_n 0, 1) := dk_42 (dk_at dksX0_fault_0 4 rfl rfl)
theorem dX0_fault_5 : decode cX0_fault 5 = .ok (.invokespecial 101, 3) := dk_183 0 101 (dk_at dksX0_fault_0 5 rfl rfl)
theorem dX0_fault_8 : decode cX0_fault 8 = .ok (.invokevirtual 104, 3) := dk_182 0 104 (dk_at dksX0_fault_0 8 rfl rfl)
theorem dX0_fault_11 : decode cX0_fault 11 = .ok (.pop, 1) := dk_87 (dk_at dksX0_fault_0 11 rfl rfl)
theorem dX0_fault_12 : decode cX0_fault 12 = .ok (.aload_n 0, 1) := dk_42 (dk_at dksX0_fault_0 12 rfl rfl)
theorem dX0_fault_13 : decode cX0_fault 13 = .ok (.getfield 95, 3) := dk_180 0 95 (dk_at dksX0_fault_0 13 rfl rfl)
theorem dX0_fault_16 : decode cX0_fault 16 = .ok (.ireturn, 1) := dk_172 (dk_at dksX0_fault_0 16 rfl rfl)
theorem dX0_fault_17 : decode cX0_fault 17 = .ok (.astore_n 1, 1) := dk_76 (dk_at dksX0_fault_0 17 rfl rfl)
theorem dX0_fault_18 : decode cX0_fault 18 = .ok (.aload_n 1, 1) := dk_43 (dk_at dksX0_fault_0 18 rfl rfl)
theorem dX0_fault_19 : decode cX0_fault 19 = .ok (.getfield 109, 3) := dk_180 0 109 (dk_at dksX0_fault_0 19 rfl rfl)
theorem dX0_fault_22 : decode cX0_fault 22 = .ok (.ireturn, 1) := dk_172 (dk_at dksX0_fault_0 22 rfl rfl)
abbrev cX0_in : ByteArray := prog_1_method_1_code
def yX0_in : MethodName := ⟨RX0, "in", "(III)Z"⟩
def dkwX0_in_0 : List UInt8 := [26, 27, 161, 0, 12, 26, 28, 163, 0, 7, 4, 167, 0, 4, 3, 172]
abbrev dktX0_in_0 : List UInt8 := dkwX0_in_0 ++ []
theorem dksX0_in_0 : cX0_in.data.toList.drop 0 = dktX0_in_0 := by decide +kernel
theorem dX0_in_0 : decode cX0_in 0 = .ok (.iload_n 0, 1) := dk_26 (dk_at dksX0_in_0 0 rfl rfl)
theorem dX0_in_1 : decode cX0_in 1 = .ok (.iload_n 1, 1) := dk_27 (dk_at dksX0_in_0 1 rfl rfl)
theorem dX0_in_2 : decode cX0_in 2 = .ok (.if_icmp .lt 12, 3) := dk_161 0 12 (dk_at dksX0_in_0 2 rfl rfl)
theorem dX0_in_5 : decode cX0_in 5 = .ok (.iload_n 0, 1) := dk_26 (dk_at dksX0_in_0 5 rfl rfl)
theorem dX0_in_6 : decode cX0_in 6 = .ok (.iload_n 2, 1) := dk_28 (dk_at dksX0_in_0 6 rfl rfl)
theorem dX0_in_7 : decode cX0_in 7 = .ok (.if_icmp .gt 7, 3) := dk_163 0 7 (dk_at dksX0_in_0 7 rfl rfl)
theorem dX0_in_10 : decode cX0_in 10 = .ok (.iconst 1, 1) := dk_4 (dk_at dksX0_in_0 10 rfl rfl)
theorem dX0_in_11 : decode cX0_in 11 = .ok (.goto 4, 3) := dk_167 0 4 (dk_at dksX0_in_0 11 rfl rfl)
theorem dX0_in_14 : decode cX0_in 14 = .ok (.iconst 0, 1) := dk_3 (dk_at dksX0_in_0 14 rfl rfl)
theorem dX0_in_15 : decode cX0_in 15 = .ok (.ireturn, 1) := dk_172 (dk_at dksX0_in_0 15 rfl rfl)
abbrev cX0_law : ByteArray := prog_1_method_9_code
def yX0_law : MethodName := ⟨RX0, "law", "()I"⟩
def dkwX0_law_2 : List UInt8 := [180, 0, 23, 180, 0, 118, 172, 76, 16, 153, 172]
abbrev dktX0_law_2 : List UInt8 := dkwX0_law_2 ++ []
def dkwX0_law_1 : List UInt8 := [181, 0, 112, 42, 3, 181, 0, 95, 42, 3, 181, 0, 115, 42, 42, 180, 0, 23, 182, 0, 81, 42]
abbrev dktX0_law_1 : List UInt8 := dkwX0_law_1 ++ dktX0_law_2
def dkwX0_law_0 : List UInt8 := [42, 187, 0, 99, 89, 42, 183, 0, 101, 182, 0, 104, 181, 0, 10, 42, 89, 180, 0, 112, 4, 96]
abbrev dktX0_law_0 : List UInt8 := dkwX0_law_0 ++ dktX0_law_1
theorem dksX0_law_0 : cX0_law.data.toList.drop 0 = dktX0_law_0 := by decide +kernel
theorem dksX0_law_1 : cX0_law.data.toList.drop 22 = dktX0_law_1 := dk_seg dksX0_law_0 22 rfl rfl
theorem dksX0_law_2 : cX0_law.data.toList.drop 44 = dktX0_law_2 := dk_seg dksX0_law_1 22 rfl rfl
theorem dX0_law_0 : decode cX0_law 0 = .ok (.aload_n 0, 1) := dk_42 (dk_at dksX0_law_0 0 rfl rfl)
theorem dX0_law_1 : decode cX0_law 1 = .ok (.new 99, 3) := dk_187 0 99 (dk_at dksX0_law_0 1 rfl rfl)
theorem dX0_law_4 : decode cX0_law 4 = .ok (.dup, 1) := dk_89 (dk_at dksX0_law_0 4 rfl rfl)
theorem dX0_law_5 : decode cX0_law 5 = .ok (.aload_n 0, 1) := dk_42 (dk_at dksX0_law_0 5 rfl rfl)
theorem dX0_law_6 : decode cX0_law 6 = .ok (.invokespecial 101, 3) := dk_183 0 101 (dk_at dksX0_law_0 6 rfl rfl)
theorem dX0_law_9 : decode cX0_law 9 = .ok (.invokevirtual 104, 3) := dk_182 0 104 (dk_at dksX0_law_0 9 rfl rfl)
theorem dX0_law_12 : decode cX0_law 12 = .ok (.putfield 10, 3) := dk_181 0 10 (dk_at dksX0_law_0 12 rfl rfl)
theorem dX0_law_15 : decode cX0_law 15 = .ok (.aload_n 0, 1) := dk_42 (dk_at dksX0_law_0 15 rfl rfl)
theorem dX0_law_16 : decode cX0_law 16 = .ok (.dup, 1) := dk_89 (dk_at dksX0_law_0 16 rfl rfl)
theorem dX0_law_17 : decode cX0_law 17 = .ok (.getfield 112, 3) := dk_180 0 112 (dk_at dksX0_law_0 17 rfl rfl)
theorem dX0_law_20 : decode cX0_law 20 = .ok (.iconst 1, 1) := dk_4 (dk_at dksX0_law_0 20 rfl rfl)
theorem dX0_law_21 : decode cX0_law 21 = .ok (.iadd, 1) := dk_96 (dk_at dksX0_law_0 21 rfl rfl)
theorem dX0_law_22 : decode cX0_law 22 = .ok (.putfield 112, 3) := dk_181 0 112 (dk_at dksX0_law_1 0 rfl rfl)
theorem dX0_law_25 : decode cX0_law 25 = .ok (.aload_n 0, 1) := dk_42 (dk_at dksX0_law_1 3 rfl rfl)
theorem dX0_law_26 : decode cX0_law 26 = .ok (.iconst 0, 1) := dk_3 (dk_at dksX0_law_1 4 rfl rfl)
theorem dX0_law_27 : decode cX0_law 27 = .ok (.putfield 95, 3) := dk_181 0 95 (dk_at dksX0_law_1 5 rfl rfl)
theorem dX0_law_30 : decode cX0_law 30 = .ok (.aload_n 0, 1) := dk_42 (dk_at dksX0_law_1 8 rfl rfl)
theorem dX0_law_31 : decode cX0_law 31 = .ok (.iconst 0, 1) := dk_3 (dk_at dksX0_law_1 9 rfl rfl)
theorem dX0_law_32 : decode cX0_law 32 = .ok (.putfield 115, 3) := dk_181 0 115 (dk_at dksX0_law_1 10 rfl rfl)
theorem dX0_law_35 : decode cX0_law 35 = .ok (.aload_n 0, 1) := dk_42 (dk_at dksX0_law_1 13 rfl rfl)
theorem dX0_law_36 : decode cX0_law 36 = .ok (.aload_n 0, 1) := dk_42 (dk_at dksX0_law_1 14 rfl rfl)
theorem dX0_law_37 : decode cX0_law 37 = .ok (.getfield 23, 3) := dk_180 0 23 (dk_at dksX0_law_1 15 rfl rfl)
theorem dX0_law_40 : decode cX0_law 40 = .ok (.invokevirtual 81, 3) := dk_182 0 81 (dk_at dksX0_law_1 18 rfl rfl)
theorem dX0_law_43 : decode cX0_law 43 = .ok (.aload_n 0, 1) := dk_42 (dk_at dksX0_law_1 21 rfl rfl)
theorem dX0_law_44 : decode cX0_law 44 = .ok (.getfield 23, 3) := dk_180 0 23 (dk_at dksX0_law_2 0 rfl rfl)
theorem dX0_law_47 : decode cX0_law 47 = .ok (.getfield 118, 3) := dk_180 0 118 (dk_at dksX0_law_2 3 rfl rfl)
theorem dX0_law_50 : decode cX0_law 50 = .ok (.ireturn, 1) := dk_172 (dk_at dksX0_law_2 6 rfl rfl)
theorem dX0_law_51 : decode cX0_law 51 = .ok (.astore_n 1, 1) := dk_76 (dk_at dksX0_law_2 7 rfl rfl)
theorem dX0_law_52 : decode cX0_law 52 = .ok (.bipush (-103), 2) := dk_16 153 (dk_at dksX0_law_2 8 rfl rfl)
theorem dX0_law_54 : decode cX0_law 54 = .ok (.ireturn, 1) := dk_172 (dk_at dksX0_law_2 10 rfl rfl)
abbrev cX0_about : ByteArray := prog_1_method_11_code
def yX0_about : MethodName := ⟨RX0, "about", "(II)I"⟩
def dkwX0_about_1 : List UInt8 := [180, 0, 10, 27, 182, 0, 133, 192, 0, 122, 28, 184, 0, 137, 167, 0, 5, 16, 154, 172]
abbrev dktX0_about_1 : List UInt8 := dkwX0_about_1 ++ []
def dkwX0_about_0 : List UInt8 := [42, 27, 182, 0, 129, 154, 0, 8, 16, 155, 167, 0, 32, 28, 3, 4, 184, 0, 89, 153, 0, 21, 42]
abbrev dktX0_about_0 : List UInt8 := dkwX0_about_0 ++ dktX0_about_1
theorem dksX0_about_0 : cX0_about.data.toList.drop 0 = dktX0_about_0 := by decide +kernel
theorem dksX0_about_1 : cX0_about.data.toList.drop 23 = dktX0_about_1 := dk_seg dksX0_about_0 23 rfl rfl
theorem dX0_about_0 : decode cX0_about 0 = .ok (.aload_n 0, 1) := dk_42 (dk_at dksX0_about_0 0 rfl rfl)
theorem dX0_about_1 : decode cX0_about 1 = .ok (.iload_n 1, 1) := dk_27 (dk_at dksX0_about_0 1 rfl rfl)
theorem dX0_about_2 : decode cX0_about 2 = .ok (.invokevirtual 129, 3) := dk_182 0 129 (dk_at dksX0_about_0 2 rfl rfl)
theorem dX0_about_5 : decode cX0_about 5 = .ok (.ifCond .ne 8, 3) := dk_154 0 8 (dk_at dksX0_about_0 5 rfl rfl)
theorem dX0_about_8 : decode cX0_about 8 = .ok (.bipush (-101), 2) := dk_16 155 (dk_at dksX0_about_0 8 rfl rfl)
theorem dX0_about_10 : decode cX0_about 10 = .ok (.goto 32, 3) := dk_167 0 32 (dk_at dksX0_about_0 10 rfl rfl)
theorem dX0_about_13 : decode cX0_about 13 = .ok (.iload_n 2, 1) := dk_28 (dk_at dksX0_about_0 13 rfl rfl)
theorem dX0_about_14 : decode cX0_about 14 = .ok (.iconst 0, 1) := dk_3 (dk_at dksX0_about_0 14 rfl rfl)
theorem dX0_about_15 : decode cX0_about 15 = .ok (.iconst 1, 1) := dk_4 (dk_at dksX0_about_0 15 rfl rfl)
theorem dX0_about_16 : decode cX0_about 16 = .ok (.invokestatic 89, 3) := dk_184 0 89 (dk_at dksX0_about_0 16 rfl rfl)
theorem dX0_about_19 : decode cX0_about 19 = .ok (.ifCond .eq 21, 3) := dk_153 0 21 (dk_at dksX0_about_0 19 rfl rfl)
theorem dX0_about_22 : decode cX0_about 22 = .ok (.aload_n 0, 1) := dk_42 (dk_at dksX0_about_0 22 rfl rfl)
theorem dX0_about_23 : decode cX0_about 23 = .ok (.getfield 10, 3) := dk_180 0 10 (dk_at dksX0_about_1 0 rfl rfl)
theorem dX0_about_26 : decode cX0_about 26 = .ok (.iload_n 1, 1) := dk_27 (dk_at dksX0_about_1 3 rfl rfl)
theorem dX0_about_27 : decode cX0_about 27 = .ok (.invokevirtual 133, 3) := dk_182 0 133 (dk_at dksX0_about_1 4 rfl rfl)
theorem dX0_about_30 : decode cX0_about 30 = .ok (.checkcast 122, 3) := dk_192 0 122 (dk_at dksX0_about_1 7 rfl rfl)
theorem dX0_about_33 : decode cX0_about 33 = .ok (.iload_n 2, 1) := dk_28 (dk_at dksX0_about_1 10 rfl rfl)
theorem dX0_about_34 : decode cX0_about 34 = .ok (.invokestatic 137, 3) := dk_184 0 137 (dk_at dksX0_about_1 11 rfl rfl)
theorem dX0_about_37 : decode cX0_about 37 = .ok (.goto 5, 3) := dk_167 0 5 (dk_at dksX0_about_1 14 rfl rfl)
theorem dX0_about_40 : decode cX0_about 40 = .ok (.bipush (-102), 2) := dk_16 154 (dk_at dksX0_about_1 17 rfl rfl)
theorem dX0_about_42 : decode cX0_about 42 = .ok (.ireturn, 1) := dk_172 (dk_at dksX0_about_1 19 rfl rfl)
abbrev cX0_isLikeness : ByteArray := prog_1_method_5_code
def yX0_isLikeness : MethodName := ⟨RX0, "isLikeness", "(I)Z"⟩
def dkwX0_isLikeness_0 : List UInt8 := [27, 3, 42, 180, 0, 10, 182, 0, 85, 4, 100, 184, 0, 89, 172]
abbrev dktX0_isLikeness_0 : List UInt8 := dkwX0_isLikeness_0 ++ []
theorem dksX0_isLikeness_0 : cX0_isLikeness.data.toList.drop 0 = dktX0_isLikeness_0 := by decide +kernel
theorem dX0_isLikeness_0 : decode cX0_isLikeness 0 = .ok (.iload_n 1, 1) := dk_27 (dk_at dksX0_isLikeness_0 0 rfl rfl)
theorem dX0_isLikeness_1 : decode cX0_isLikeness 1 = .ok (.iconst 0, 1) := dk_3 (dk_at dksX0_isLikeness_0 1 rfl rfl)
theorem dX0_isLikeness_2 : decode cX0_isLikeness 2 = .ok (.aload_n 0, 1) := dk_42 (dk_at dksX0_isLikeness_0 2 rfl rfl)
theorem dX0_isLikeness_3 : decode cX0_isLikeness 3 = .ok (.getfield 10, 3) := dk_180 0 10 (dk_at dksX0_isLikeness_0 3 rfl rfl)
theorem dX0_isLikeness_6 : decode cX0_isLikeness 6 = .ok (.invokevirtual 85, 3) := dk_182 0 85 (dk_at dksX0_isLikeness_0 6 rfl rfl)
theorem dX0_isLikeness_9 : decode cX0_isLikeness 9 = .ok (.iconst 1, 1) := dk_4 (dk_at dksX0_isLikeness_0 9 rfl rfl)
theorem dX0_isLikeness_10 : decode cX0_isLikeness 10 = .ok (.isub, 1) := dk_100 (dk_at dksX0_isLikeness_0 10 rfl rfl)
theorem dX0_isLikeness_11 : decode cX0_isLikeness 11 = .ok (.invokestatic 89, 3) := dk_184 0 89 (dk_at dksX0_isLikeness_0 11 rfl rfl)
theorem dX0_isLikeness_14 : decode cX0_isLikeness 14 = .ok (.ireturn, 1) := dk_172 (dk_at dksX0_isLikeness_0 14 rfl rfl)
abbrev cX0_told : ByteArray := prog_1_method_10_code
def yX0_told : MethodName := ⟨RX0, "told", "(LChordNotHeard$Likeness;I)I"⟩
def dkwX0_told_0 : List UInt8 := [27, 154, 0, 10, 42, 182, 0, 121, 167, 0, 7, 42, 182, 0, 126, 172]
abbrev dktX0_told_0 : List UInt8 := dkwX0_told_0 ++ []
theorem dksX0_told_0 : cX0_told.data.toList.drop 0 = dktX0_told_0 := by decide +kernel
theorem dX0_told_0 : decode cX0_told 0 = .ok (.iload_n 1, 1) := dk_27 (dk_at dksX0_told_0 0 rfl rfl)
theorem dX0_told_1 : decode cX0_told 1 = .ok (.ifCond .ne 10, 3) := dk_154 0 10 (dk_at dksX0_told_0 1 rfl rfl)
theorem dX0_told_4 : decode cX0_told 4 = .ok (.aload_n 0, 1) := dk_42 (dk_at dksX0_told_0 4 rfl rfl)
theorem dX0_told_5 : decode cX0_told 5 = .ok (.invokevirtual 121, 3) := dk_182 0 121 (dk_at dksX0_told_0 5 rfl rfl)
theorem dX0_told_8 : decode cX0_told 8 = .ok (.goto 7, 3) := dk_167 0 7 (dk_at dksX0_told_0 8 rfl rfl)
theorem dX0_told_11 : decode cX0_told 11 = .ok (.aload_n 0, 1) := dk_42 (dk_at dksX0_told_0 11 rfl rfl)
theorem dX0_told_12 : decode cX0_told 12 = .ok (.invokevirtual 126, 3) := dk_182 0 126 (dk_at dksX0_told_0 12 rfl rfl)
theorem dX0_told_15 : decode cX0_told 15 = .ok (.ireturn, 1) := dk_172 (dk_at dksX0_told_0 15 rfl rfl)
abbrev cX0_as : ByteArray := prog_1_method_12_code
def yX0_as : MethodName := ⟨RX0, "as", "(II)I"⟩
def dkwX0_as_2 : List UInt8 := [167, 0, 4, 2, 172]
abbrev dktX0_as_2 : List UInt8 := dkwX0_as_2 ++ []
def dkwX0_as_1 : List UInt8 := [167, 0, 26, 42, 180, 0, 10, 27, 182, 0, 133, 192, 0, 122, 28, 182, 0, 141, 153, 0, 7, 27]
abbrev dktX0_as_1 : List UInt8 := dkwX0_as_1 ++ dktX0_as_2
def dkwX0_as_0 : List UInt8 := [42, 27, 182, 0, 129, 154, 0, 6, 16, 155, 172, 28, 3, 6, 184, 0, 89, 154, 0, 8, 16, 154]
abbrev dktX0_as_0 : List UInt8 := dkwX0_as_0 ++ dktX0_as_1
theorem dksX0_as_0 : cX0_as.data.toList.drop 0 = dktX0_as_0 := by decide +kernel
theorem dksX0_as_1 : cX0_as.data.toList.drop 22 = dktX0_as_1 := dk_seg dksX0_as_0 22 rfl rfl
theorem dksX0_as_2 : cX0_as.data.toList.drop 44 = dktX0_as_2 := dk_seg dksX0_as_1 22 rfl rfl
theorem dX0_as_0 : decode cX0_as 0 = .ok (.aload_n 0, 1) := dk_42 (dk_at dksX0_as_0 0 rfl rfl)
theorem dX0_as_1 : decode cX0_as 1 = .ok (.iload_n 1, 1) := dk_27 (dk_at dksX0_as_0 1 rfl rfl)
theorem dX0_as_2 : decode cX0_as 2 = .ok (.invokevirtual 129, 3) := dk_182 0 129 (dk_at dksX0_as_0 2 rfl rfl)
theorem dX0_as_5 : decode cX0_as 5 = .ok (.ifCond .ne 6, 3) := dk_154 0 6 (dk_at dksX0_as_0 5 rfl rfl)
theorem dX0_as_8 : decode cX0_as 8 = .ok (.bipush (-101), 2) := dk_16 155 (dk_at dksX0_as_0 8 rfl rfl)
theorem dX0_as_10 : decode cX0_as 10 = .ok (.ireturn, 1) := dk_172 (dk_at dksX0_as_0 10 rfl rfl)
theorem dX0_as_11 : decode cX0_as 11 = .ok (.iload_n 2, 1) := dk_28 (dk_at dksX0_as_0 11 rfl rfl)
theorem dX0_as_12 : decode cX0_as 12 = .ok (.iconst 0, 1) := dk_3 (dk_at dksX0_as_0 12 rfl rfl)
theorem dX0_as_13 : decode cX0_as 13 = .ok (.iconst 3, 1) := dk_6 (dk_at dksX0_as_0 13 rfl rfl)
theorem dX0_as_14 : decode cX0_as 14 = .ok (.invokestatic 89, 3) := dk_184 0 89 (dk_at dksX0_as_0 14 rfl rfl)
theorem dX0_as_17 : decode cX0_as 17 = .ok (.ifCond .ne 8, 3) := dk_154 0 8 (dk_at dksX0_as_0 17 rfl rfl)
theorem dX0_as_20 : decode cX0_as 20 = .ok (.bipush (-102), 2) := dk_16 154 (dk_at dksX0_as_0 20 rfl rfl)
theorem dX0_as_22 : decode cX0_as 22 = .ok (.goto 26, 3) := dk_167 0 26 (dk_at dksX0_as_1 0 rfl rfl)
theorem dX0_as_25 : decode cX0_as 25 = .ok (.aload_n 0, 1) := dk_42 (dk_at dksX0_as_1 3 rfl rfl)
theorem dX0_as_26 : decode cX0_as 26 = .ok (.getfield 10, 3) := dk_180 0 10 (dk_at dksX0_as_1 4 rfl rfl)
theorem dX0_as_29 : decode cX0_as 29 = .ok (.iload_n 1, 1) := dk_27 (dk_at dksX0_as_1 7 rfl rfl)
theorem dX0_as_30 : decode cX0_as 30 = .ok (.invokevirtual 133, 3) := dk_182 0 133 (dk_at dksX0_as_1 8 rfl rfl)
theorem dX0_as_33 : decode cX0_as 33 = .ok (.checkcast 122, 3) := dk_192 0 122 (dk_at dksX0_as_1 11 rfl rfl)
theorem dX0_as_36 : decode cX0_as 36 = .ok (.iload_n 2, 1) := dk_28 (dk_at dksX0_as_1 14 rfl rfl)
theorem dX0_as_37 : decode cX0_as 37 = .ok (.invokevirtual 141, 3) := dk_182 0 141 (dk_at dksX0_as_1 15 rfl rfl)
theorem dX0_as_40 : decode cX0_as 40 = .ok (.ifCond .eq 7, 3) := dk_153 0 7 (dk_at dksX0_as_1 18 rfl rfl)
theorem dX0_as_43 : decode cX0_as 43 = .ok (.iload_n 1, 1) := dk_27 (dk_at dksX0_as_1 21 rfl rfl)
theorem dX0_as_44 : decode cX0_as 44 = .ok (.goto 4, 3) := dk_167 0 4 (dk_at dksX0_as_2 0 rfl rfl)
theorem dX0_as_47 : decode cX0_as 47 = .ok (.iconst (-1), 1) := dk_2 (dk_at dksX0_as_2 3 rfl rfl)
theorem dX0_as_48 : decode cX0_as 48 = .ok (.ireturn, 1) := dk_172 (dk_at dksX0_as_2 4 rfl rfl)
abbrev cX0_sounds : ByteArray := prog_1_method_13_code
def yX0_sounds : MethodName := ⟨RX0, "sounds", "(II)I"⟩
def dkwX0_sounds_2 : List UInt8 := [182, 0, 147, 167, 0, 5, 16, 155, 172]
abbrev dktX0_sounds_2 : List UInt8 := dkwX0_sounds_2 ++ []
def dkwX0_sounds_1 : List UInt8 := [153, 0, 28, 42, 180, 0, 10, 27, 182, 0, 133, 192, 0, 122, 28, 42, 180, 0, 23, 180, 0, 144]
abbrev dktX0_sounds_1 : List UInt8 := dkwX0_sounds_1 ++ dktX0_sounds_2
def dkwX0_sounds_0 : List UInt8 := [42, 27, 182, 0, 129, 153, 0, 45, 28, 3, 42, 180, 0, 23, 180, 0, 144, 4, 100, 184, 0, 89]
abbrev dktX0_sounds_0 : List UInt8 := dkwX0_sounds_0 ++ dktX0_sounds_1
theorem dksX0_sounds_0 : cX0_sounds.data.toList.drop 0 = dktX0_sounds_0 := by decide +kernel
theorem dksX0_sounds_1 : cX0_sounds.data.toList.drop 22 = dktX0_sounds_1 := dk_seg dksX0_sounds_0 22 rfl rfl
theorem dksX0_sounds_2 : cX0_sounds.data.toList.drop 44 = dktX0_sounds_2 := dk_seg dksX0_sounds_1 22 rfl rfl
theorem dX0_sounds_0 : decode cX0_sounds 0 = .ok (.aload_n 0, 1) := dk_42 (dk_at dksX0_sounds_0 0 rfl rfl)
theorem dX0_sounds_1 : decode cX0_sounds 1 = .ok (.iload_n 1, 1) := dk_27 (dk_at dksX0_sounds_0 1 rfl rfl)
theorem dX0_sounds_2 : decode cX0_sounds 2 = .ok (.invokevirtual 129, 3) := dk_182 0 129 (dk_at dksX0_sounds_0 2 rfl rfl)
theorem dX0_sounds_5 : decode cX0_sounds 5 = .ok (.ifCond .eq 45, 3) := dk_153 0 45 (dk_at dksX0_sounds_0 5 rfl rfl)
theorem dX0_sounds_8 : decode cX0_sounds 8 = .ok (.iload_n 2, 1) := dk_28 (dk_at dksX0_sounds_0 8 rfl rfl)
theorem dX0_sounds_9 : decode cX0_sounds 9 = .ok (.iconst 0, 1) := dk_3 (dk_at dksX0_sounds_0 9 rfl rfl)
theorem dX0_sounds_10 : decode cX0_sounds 10 = .ok (.aload_n 0, 1) := dk_42 (dk_at dksX0_sounds_0 10 rfl rfl)
theorem dX0_sounds_11 : decode cX0_sounds 11 = .ok (.getfield 23, 3) := dk_180 0 23 (dk_at dksX0_sounds_0 11 rfl rfl)
theorem dX0_sounds_14 : decode cX0_sounds 14 = .ok (.getfield 144, 3) := dk_180 0 144 (dk_at dksX0_sounds_0 14 rfl rfl)
theorem dX0_sounds_17 : decode cX0_sounds 17 = .ok (.iconst 1, 1) := dk_4 (dk_at dksX0_sounds_0 17 rfl rfl)
theorem dX0_sounds_18 : decode cX0_sounds 18 = .ok (.isub, 1) := dk_100 (dk_at dksX0_sounds_0 18 rfl rfl)
theorem dX0_sounds_19 : decode cX0_sounds 19 = .ok (.invokestatic 89, 3) := dk_184 0 89 (dk_at dksX0_sounds_0 19 rfl rfl)
theorem dX0_sounds_22 : decode cX0_sounds 22 = .ok (.ifCond .eq 28, 3) := dk_153 0 28 (dk_at dksX0_sounds_1 0 rfl rfl)
theorem dX0_sounds_25 : decode cX0_sounds 25 = .ok (.aload_n 0, 1) := dk_42 (dk_at dksX0_sounds_1 3 rfl rfl)
theorem dX0_sounds_26 : decode cX0_sounds 26 = .ok (.getfield 10, 3) := dk_180 0 10 (dk_at dksX0_sounds_1 4 rfl rfl)
theorem dX0_sounds_29 : decode cX0_sounds 29 = .ok (.iload_n 1, 1) := dk_27 (dk_at dksX0_sounds_1 7 rfl rfl)
theorem dX0_sounds_30 : decode cX0_sounds 30 = .ok (.invokevirtual 133, 3) := dk_182 0 133 (dk_at dksX0_sounds_1 8 rfl rfl)
theorem dX0_sounds_33 : decode cX0_sounds 33 = .ok (.checkcast 122, 3) := dk_192 0 122 (dk_at dksX0_sounds_1 11 rfl rfl)
theorem dX0_sounds_36 : decode cX0_sounds 36 = .ok (.iload_n 2, 1) := dk_28 (dk_at dksX0_sounds_1 14 rfl rfl)
theorem dX0_sounds_37 : decode cX0_sounds 37 = .ok (.aload_n 0, 1) := dk_42 (dk_at dksX0_sounds_1 15 rfl rfl)
theorem dX0_sounds_38 : decode cX0_sounds 38 = .ok (.getfield 23, 3) := dk_180 0 23 (dk_at dksX0_sounds_1 16 rfl rfl)
theorem dX0_sounds_41 : decode cX0_sounds 41 = .ok (.getfield 144, 3) := dk_180 0 144 (dk_at dksX0_sounds_1 19 rfl rfl)
theorem dX0_sounds_44 : decode cX0_sounds 44 = .ok (.invokevirtual 147, 3) := dk_182 0 147 (dk_at dksX0_sounds_2 0 rfl rfl)
theorem dX0_sounds_47 : decode cX0_sounds 47 = .ok (.goto 5, 3) := dk_167 0 5 (dk_at dksX0_sounds_2 3 rfl rfl)
theorem dX0_sounds_50 : decode cX0_sounds 50 = .ok (.bipush (-101), 2) := dk_16 155 (dk_at dksX0_sounds_2 6 rfl rfl)
theorem dX0_sounds_52 : decode cX0_sounds 52 = .ok (.ireturn, 1) := dk_172 (dk_at dksX0_sounds_2 8 rfl rfl)
abbrev cX0_strings : ByteArray := prog_1_method_18_code
def yX0_strings : MethodName := ⟨RX0, "strings", "(I)I"⟩
def dkwX0_strings_2 : List UInt8 := [181, 0, 173, 42, 180, 0, 23, 180, 0, 151, 172]
abbrev dktX0_strings_2 : List UInt8 := dkwX0_strings_2 ++ []
def dkwX0_strings_1 : List UInt8 := [180, 0, 23, 182, 0, 81, 42, 3, 181, 0, 170, 42, 3, 181, 0, 115, 42, 89, 180, 0, 173, 4, 96]
abbrev dktX0_strings_1 : List UInt8 := dkwX0_strings_1 ++ dktX0_strings_2
def dkwX0_strings_0 : List UInt8 := [27, 6, 16, 9, 184, 0, 89, 154, 0, 6, 16, 154, 172, 42, 180, 0, 23, 27, 182, 0, 77, 42, 42]
abbrev dktX0_strings_0 : List UInt8 := dkwX0_strings_0 ++ dktX0_strings_1
theorem dksX0_strings_0 : cX0_strings.data.toList.drop 0 = dktX0_strings_0 := by decide +kernel
theorem dksX0_strings_1 : cX0_strings.data.toList.drop 23 = dktX0_strings_1 := dk_seg dksX0_strings_0 23 rfl rfl
theorem dksX0_strings_2 : cX0_strings.data.toList.drop 46 = dktX0_strings_2 := dk_seg dksX0_strings_1 23 rfl rfl
theorem dX0_strings_0 : decode cX0_strings 0 = .ok (.iload_n 1, 1) := dk_27 (dk_at dksX0_strings_0 0 rfl rfl)
theorem dX0_strings_1 : decode cX0_strings 1 = .ok (.iconst 3, 1) := dk_6 (dk_at dksX0_strings_0 1 rfl rfl)
theorem dX0_strings_2 : decode cX0_strings 2 = .ok (.bipush 9, 2) := dk_16 9 (dk_at dksX0_strings_0 2 rfl rfl)
theorem dX0_strings_4 : decode cX0_strings 4 = .ok (.invokestatic 89, 3) := dk_184 0 89 (dk_at dksX0_strings_0 4 rfl rfl)
theorem dX0_strings_7 : decode cX0_strings 7 = .ok (.ifCond .ne 6, 3) := dk_154 0 6 (dk_at dksX0_strings_0 7 rfl rfl)
theorem dX0_strings_10 : decode cX0_strings 10 = .ok (.bipush (-102), 2) := dk_16 154 (dk_at dksX0_strings_0 10 rfl rfl)
theorem dX0_strings_12 : decode cX0_strings 12 = .ok (.ireturn, 1) := dk_172 (dk_at dksX0_strings_0 12 rfl rfl)
theorem dX0_strings_13 : decode cX0_strings 13 = .ok (.aload_n 0, 1) := dk_42 (dk_at dksX0_strings_0 13 rfl rfl)
theorem dX0_strings_14 : decode cX0_strings 14 = .ok (.getfield 23, 3) := dk_180 0 23 (dk_at dksX0_strings_0 14 rfl rfl)
theorem dX0_strings_17 : decode cX0_strings 17 = .ok (.iload_n 1, 1) := dk_27 (dk_at dksX0_strings_0 17 rfl rfl)
theorem dX0_strings_18 : decode cX0_strings 18 = .ok (.invokevirtual 77, 3) := dk_182 0 77 (dk_at dksX0_strings_0 18 rfl rfl)
theorem dX0_strings_21 : decode cX0_strings 21 = .ok (.aload_n 0, 1) := dk_42 (dk_at dksX0_strings_0 21 rfl rfl)
theorem dX0_strings_22 : decode cX0_strings 22 = .ok (.aload_n 0, 1) := dk_42 (dk_at dksX0_strings_0 22 rfl rfl)
theorem dX0_strings_23 : decode cX0_strings 23 = .ok (.getfield 23, 3) := dk_180 0 23 (dk_at dksX0_strings_1 0 rfl rfl)
theorem dX0_strings_26 : decode cX0_strings 26 = .ok (.invokevirtual 81, 3) := dk_182 0 81 (dk_at dksX0_strings_1 3 rfl rfl)
theorem dX0_strings_29 : decode cX0_strings 29 = .ok (.aload_n 0, 1) := dk_42 (dk_at dksX0_strings_1 6 rfl rfl)
theorem dX0_strings_30 : decode cX0_strings 30 = .ok (.iconst 0, 1) := dk_3 (dk_at dksX0_strings_1 7 rfl rfl)
theorem dX0_strings_31 : decode cX0_strings 31 = .ok (.putfield 170, 3) := dk_181 0 170 (dk_at dksX0_strings_1 8 rfl rfl)
theorem dX0_strings_34 : decode cX0_strings 34 = .ok (.aload_n 0, 1) := dk_42 (dk_at dksX0_strings_1 11 rfl rfl)
theorem dX0_strings_35 : decode cX0_strings 35 = .ok (.iconst 0, 1) := dk_3 (dk_at dksX0_strings_1 12 rfl rfl)
theorem dX0_strings_36 : decode cX0_strings 36 = .ok (.putfield 115, 3) := dk_181 0 115 (dk_at dksX0_strings_1 13 rfl rfl)
theorem dX0_strings_39 : decode cX0_strings 39 = .ok (.aload_n 0, 1) := dk_42 (dk_at dksX0_strings_1 16 rfl rfl)
theorem dX0_strings_40 : decode cX0_strings 40 = .ok (.dup, 1) := dk_89 (dk_at dksX0_strings_1 17 rfl rfl)
theorem dX0_strings_41 : decode cX0_strings 41 = .ok (.getfield 173, 3) := dk_180 0 173 (dk_at dksX0_strings_1 18 rfl rfl)
theorem dX0_strings_44 : decode cX0_strings 44 = .ok (.iconst 1, 1) := dk_4 (dk_at dksX0_strings_1 21 rfl rfl)
theorem dX0_strings_45 : decode cX0_strings 45 = .ok (.iadd, 1) := dk_96 (dk_at dksX0_strings_1 22 rfl rfl)
theorem dX0_strings_46 : decode cX0_strings 46 = .ok (.putfield 173, 3) := dk_181 0 173 (dk_at dksX0_strings_2 0 rfl rfl)
theorem dX0_strings_49 : decode cX0_strings 49 = .ok (.aload_n 0, 1) := dk_42 (dk_at dksX0_strings_2 3 rfl rfl)
theorem dX0_strings_50 : decode cX0_strings 50 = .ok (.getfield 23, 3) := dk_180 0 23 (dk_at dksX0_strings_2 4 rfl rfl)
theorem dX0_strings_53 : decode cX0_strings 53 = .ok (.getfield 151, 3) := dk_180 0 151 (dk_at dksX0_strings_2 7 rfl rfl)
theorem dX0_strings_56 : decode cX0_strings 56 = .ok (.ireturn, 1) := dk_172 (dk_at dksX0_strings_2 10 rfl rfl)
abbrev cX0_chord : ByteArray := prog_1_method_19_code
def yX0_chord : MethodName := ⟨RX0, "chord", "(III)I"⟩
def dkwX0_chord_2 : List UInt8 := [29, 182, 0, 179, 172]
abbrev dktX0_chord_2 : List UInt8 := dkwX0_chord_2 ++ []
def dkwX0_chord_1 : List UInt8 := [27, 28, 159, 0, 13, 27, 29, 159, 0, 8, 28, 29, 160, 0, 6, 16, 155, 172, 42, 180, 0, 23, 27, 28]
abbrev dktX0_chord_1 : List UInt8 := dkwX0_chord_1 ++ dktX0_chord_2
def dkwX0_chord_0 : List UInt8 := [42, 27, 182, 0, 176, 153, 0, 34, 42, 28, 182, 0, 176, 153, 0, 26, 42, 29, 182, 0, 176, 153, 0, 18]
abbrev dktX0_chord_0 : List UInt8 := dkwX0_chord_0 ++ dktX0_chord_1
theorem dksX0_chord_0 : cX0_chord.data.toList.drop 0 = dktX0_chord_0 := by decide +kernel
theorem dksX0_chord_1 : cX0_chord.data.toList.drop 24 = dktX0_chord_1 := dk_seg dksX0_chord_0 24 rfl rfl
theorem dksX0_chord_2 : cX0_chord.data.toList.drop 48 = dktX0_chord_2 := dk_seg dksX0_chord_1 24 rfl rfl
theorem dX0_chord_0 : decode cX0_chord 0 = .ok (.aload_n 0, 1) := dk_42 (dk_at dksX0_chord_0 0 rfl rfl)
theorem dX0_chord_1 : decode cX0_chord 1 = .ok (.iload_n 1, 1) := dk_27 (dk_at dksX0_chord_0 1 rfl rfl)
theorem dX0_chord_2 : decode cX0_chord 2 = .ok (.invokevirtual 176, 3) := dk_182 0 176 (dk_at dksX0_chord_0 2 rfl rfl)
theorem dX0_chord_5 : decode cX0_chord 5 = .ok (.ifCond .eq 34, 3) := dk_153 0 34 (dk_at dksX0_chord_0 5 rfl rfl)
theorem dX0_chord_8 : decode cX0_chord 8 = .ok (.aload_n 0, 1) := dk_42 (dk_at dksX0_chord_0 8 rfl rfl)
theorem dX0_chord_9 : decode cX0_chord 9 = .ok (.iload_n 2, 1) := dk_28 (dk_at dksX0_chord_0 9 rfl rfl)
theorem dX0_chord_10 : decode cX0_chord 10 = .ok (.invokevirtual 176, 3) := dk_182 0 176 (dk_at dksX0_chord_0 10 rfl rfl)
theorem dX0_chord_13 : decode cX0_chord 13 = .ok (.ifCond .eq 26, 3) := dk_153 0 26 (dk_at dksX0_chord_0 13 rfl rfl)
theorem dX0_chord_16 : decode cX0_chord 16 = .ok (.aload_n 0, 1) := dk_42 (dk_at dksX0_chord_0 16 rfl rfl)
theorem dX0_chord_17 : decode cX0_chord 17 = .ok (.iload_n 3, 1) := dk_29 (dk_at dksX0_chord_0 17 rfl rfl)
theorem dX0_chord_18 : decode cX0_chord 18 = .ok (.invokevirtual 176, 3) := dk_182 0 176 (dk_at dksX0_chord_0 18 rfl rfl)
theorem dX0_chord_21 : decode cX0_chord 21 = .ok (.ifCond .eq 18, 3) := dk_153 0 18 (dk_at dksX0_chord_0 21 rfl rfl)
theorem dX0_chord_24 : decode cX0_chord 24 = .ok (.iload_n 1, 1) := dk_27 (dk_at dksX0_chord_1 0 rfl rfl)
theorem dX0_chord_25 : decode cX0_chord 25 = .ok (.iload_n 2, 1) := dk_28 (dk_at dksX0_chord_1 1 rfl rfl)
theorem dX0_chord_26 : decode cX0_chord 26 = .ok (.if_icmp .eq 13, 3) := dk_159 0 13 (dk_at dksX0_chord_1 2 rfl rfl)
theorem dX0_chord_29 : decode cX0_chord 29 = .ok (.iload_n 1, 1) := dk_27 (dk_at dksX0_chord_1 5 rfl rfl)
theorem dX0_chord_30 : decode cX0_chord 30 = .ok (.iload_n 3, 1) := dk_29 (dk_at dksX0_chord_1 6 rfl rfl)
theorem dX0_chord_31 : decode cX0_chord 31 = .ok (.if_icmp .eq 8, 3) := dk_159 0 8 (dk_at dksX0_chord_1 7 rfl rfl)
theorem dX0_chord_34 : decode cX0_chord 34 = .ok (.iload_n 2, 1) := dk_28 (dk_at dksX0_chord_1 10 rfl rfl)
theorem dX0_chord_35 : decode cX0_chord 35 = .ok (.iload_n 3, 1) := dk_29 (dk_at dksX0_chord_1 11 rfl rfl)
theorem dX0_chord_36 : decode cX0_chord 36 = .ok (.if_icmp .ne 6, 3) := dk_160 0 6 (dk_at dksX0_chord_1 12 rfl rfl)
theorem dX0_chord_39 : decode cX0_chord 39 = .ok (.bipush (-101), 2) := dk_16 155 (dk_at dksX0_chord_1 15 rfl rfl)
theorem dX0_chord_41 : decode cX0_chord 41 = .ok (.ireturn, 1) := dk_172 (dk_at dksX0_chord_1 17 rfl rfl)
theorem dX0_chord_42 : decode cX0_chord 42 = .ok (.aload_n 0, 1) := dk_42 (dk_at dksX0_chord_1 18 rfl rfl)
theorem dX0_chord_43 : decode cX0_chord 43 = .ok (.getfield 23, 3) := dk_180 0 23 (dk_at dksX0_chord_1 19 rfl rfl)
theorem dX0_chord_46 : decode cX0_chord 46 = .ok (.iload_n 1, 1) := dk_27 (dk_at dksX0_chord_1 22 rfl rfl)
theorem dX0_chord_47 : decode cX0_chord 47 = .ok (.iload_n 2, 1) := dk_28 (dk_at dksX0_chord_1 23 rfl rfl)
theorem dX0_chord_48 : decode cX0_chord 48 = .ok (.iload_n 3, 1) := dk_29 (dk_at dksX0_chord_2 0 rfl rfl)
theorem dX0_chord_49 : decode cX0_chord 49 = .ok (.invokevirtual 179, 3) := dk_182 0 179 (dk_at dksX0_chord_2 1 rfl rfl)
theorem dX0_chord_52 : decode cX0_chord 52 = .ok (.ireturn, 1) := dk_172 (dk_at dksX0_chord_2 4 rfl rfl)
abbrev cX0_isString : ByteArray := prog_1_method_17_code
def yX0_isString : MethodName := ⟨RX0, "isString", "(I)Z"⟩
def dkwX0_isString_0 : List UInt8 := [27, 3, 42, 180, 0, 23, 180, 0, 144, 4, 100, 184, 0, 89, 172]
abbrev dktX0_isString_0 : List UInt8 := dkwX0_isString_0 ++ []
theorem dksX0_isString_0 : cX0_isString.data.toList.drop 0 = dktX0_isString_0 := by decide +kernel
theorem dX0_isString_0 : decode cX0_isString 0 = .ok (.iload_n 1, 1) := dk_27 (dk_at dksX0_isString_0 0 rfl rfl)
theorem dX0_isString_1 : decode cX0_isString 1 = .ok (.iconst 0, 1) := dk_3 (dk_at dksX0_isString_0 1 rfl rfl)
theorem dX0_isString_2 : decode cX0_isString 2 = .ok (.aload_n 0, 1) := dk_42 (dk_at dksX0_isString_0 2 rfl rfl)
theorem dX0_isString_3 : decode cX0_isString 3 = .ok (.getfield 23, 3) := dk_180 0 23 (dk_at dksX0_isString_0 3 rfl rfl)
theorem dX0_isString_6 : decode cX0_isString 6 = .ok (.getfield 144, 3) := dk_180 0 144 (dk_at dksX0_isString_0 6 rfl rfl)
theorem dX0_isString_9 : decode cX0_isString 9 = .ok (.iconst 1, 1) := dk_4 (dk_at dksX0_isString_0 9 rfl rfl)
theorem dX0_isString_10 : decode cX0_isString 10 = .ok (.isub, 1) := dk_100 (dk_at dksX0_isString_0 10 rfl rfl)
theorem dX0_isString_11 : decode cX0_isString 11 = .ok (.invokestatic 89, 3) := dk_184 0 89 (dk_at dksX0_isString_0 11 rfl rfl)
theorem dX0_isString_14 : decode cX0_isString 14 = .ok (.ireturn, 1) := dk_172 (dk_at dksX0_isString_0 14 rfl rfl)
abbrev cX0_part : ByteArray := prog_1_method_20_code
def yX0_part : MethodName := ⟨RX0, "part", "(II)I"⟩
def dkwX0_part_2 : List UInt8 := [180, 0, 23, 180, 0, 154, 27, 46, 172]
abbrev dktX0_part_2 : List UInt8 := dkwX0_part_2 ++ []
def dkwX0_part_1 : List UInt8 := [167, 0, 31, 28, 6, 162, 0, 17, 42, 180, 0, 23, 180, 0, 185, 27, 50, 28, 46, 167, 0, 12, 42]
abbrev dktX0_part_1 : List UInt8 := dkwX0_part_1 ++ dktX0_part_2
def dkwX0_part_0 : List UInt8 := [42, 27, 182, 0, 182, 154, 0, 6, 16, 155, 172, 28, 3, 6, 184, 0, 89, 154, 0, 8, 16, 154]
abbrev dktX0_part_0 : List UInt8 := dkwX0_part_0 ++ dktX0_part_1
theorem dksX0_part_0 : cX0_part.data.toList.drop 0 = dktX0_part_0 := by decide +kernel
theorem dksX0_part_1 : cX0_part.data.toList.drop 22 = dktX0_part_1 := dk_seg dksX0_part_0 22 rfl rfl
theorem dksX0_part_2 : cX0_part.data.toList.drop 45 = dktX0_part_2 := dk_seg dksX0_part_1 23 rfl rfl
theorem dX0_part_0 : decode cX0_part 0 = .ok (.aload_n 0, 1) := dk_42 (dk_at dksX0_part_0 0 rfl rfl)
theorem dX0_part_1 : decode cX0_part 1 = .ok (.iload_n 1, 1) := dk_27 (dk_at dksX0_part_0 1 rfl rfl)
theorem dX0_part_2 : decode cX0_part 2 = .ok (.invokevirtual 182, 3) := dk_182 0 182 (dk_at dksX0_part_0 2 rfl rfl)
theorem dX0_part_5 : decode cX0_part 5 = .ok (.ifCond .ne 6, 3) := dk_154 0 6 (dk_at dksX0_part_0 5 rfl rfl)
theorem dX0_part_8 : decode cX0_part 8 = .ok (.bipush (-101), 2) := dk_16 155 (dk_at dksX0_part_0 8 rfl rfl)
theorem dX0_part_10 : decode cX0_part 10 = .ok (.ireturn, 1) := dk_172 (dk_at dksX0_part_0 10 rfl rfl)
theorem dX0_part_11 : decode cX0_part 11 = .ok (.iload_n 2, 1) := dk_28 (dk_at dksX0_part_0 11 rfl rfl)
theorem dX0_part_12 : decode cX0_part 12 = .ok (.iconst 0, 1) := dk_3 (dk_at dksX0_part_0 12 rfl rfl)
theorem dX0_part_13 : decode cX0_part 13 = .ok (.iconst 3, 1) := dk_6 (dk_at dksX0_part_0 13 rfl rfl)
theorem dX0_part_14 : decode cX0_part 14 = .ok (.invokestatic 89, 3) := dk_184 0 89 (dk_at dksX0_part_0 14 rfl rfl)
theorem dX0_part_17 : decode cX0_part 17 = .ok (.ifCond .ne 8, 3) := dk_154 0 8 (dk_at dksX0_part_0 17 rfl rfl)
theorem dX0_part_20 : decode cX0_part 20 = .ok (.bipush (-102), 2) := dk_16 154 (dk_at dksX0_part_0 20 rfl rfl)
theorem dX0_part_22 : decode cX0_part 22 = .ok (.goto 31, 3) := dk_167 0 31 (dk_at dksX0_part_1 0 rfl rfl)
theorem dX0_part_25 : decode cX0_part 25 = .ok (.iload_n 2, 1) := dk_28 (dk_at dksX0_part_1 3 rfl rfl)
theorem dX0_part_26 : decode cX0_part 26 = .ok (.iconst 3, 1) := dk_6 (dk_at dksX0_part_1 4 rfl rfl)
theorem dX0_part_27 : decode cX0_part 27 = .ok (.if_icmp .ge 17, 3) := dk_162 0 17 (dk_at dksX0_part_1 5 rfl rfl)
theorem dX0_part_30 : decode cX0_part 30 = .ok (.aload_n 0, 1) := dk_42 (dk_at dksX0_part_1 8 rfl rfl)
theorem dX0_part_31 : decode cX0_part 31 = .ok (.getfield 23, 3) := dk_180 0 23 (dk_at dksX0_part_1 9 rfl rfl)
theorem dX0_part_34 : decode cX0_part 34 = .ok (.getfield 185, 3) := dk_180 0 185 (dk_at dksX0_part_1 12 rfl rfl)
theorem dX0_part_37 : decode cX0_part 37 = .ok (.iload_n 1, 1) := dk_27 (dk_at dksX0_part_1 15 rfl rfl)
theorem dX0_part_38 : decode cX0_part 38 = .ok (.aaload, 1) := dk_50 (dk_at dksX0_part_1 16 rfl rfl)
theorem dX0_part_39 : decode cX0_part 39 = .ok (.iload_n 2, 1) := dk_28 (dk_at dksX0_part_1 17 rfl rfl)
theorem dX0_part_40 : decode cX0_part 40 = .ok (.iaload, 1) := dk_46 (dk_at dksX0_part_1 18 rfl rfl)
theorem dX0_part_41 : decode cX0_part 41 = .ok (.goto 12, 3) := dk_167 0 12 (dk_at dksX0_part_1 19 rfl rfl)
theorem dX0_part_44 : decode cX0_part 44 = .ok (.aload_n 0, 1) := dk_42 (dk_at dksX0_part_1 22 rfl rfl)
theorem dX0_part_45 : decode cX0_part 45 = .ok (.getfield 23, 3) := dk_180 0 23 (dk_at dksX0_part_2 0 rfl rfl)
theorem dX0_part_48 : decode cX0_part 48 = .ok (.getfield 154, 3) := dk_180 0 154 (dk_at dksX0_part_2 3 rfl rfl)
theorem dX0_part_51 : decode cX0_part 51 = .ok (.iload_n 1, 1) := dk_27 (dk_at dksX0_part_2 6 rfl rfl)
theorem dX0_part_52 : decode cX0_part 52 = .ok (.iaload, 1) := dk_46 (dk_at dksX0_part_2 7 rfl rfl)
theorem dX0_part_53 : decode cX0_part 53 = .ok (.ireturn, 1) := dk_172 (dk_at dksX0_part_2 8 rfl rfl)
abbrev cX0_isChord : ByteArray := prog_1_method_16_code
def yX0_isChord : MethodName := ⟨RX0, "isChord", "(I)Z"⟩
def dkwX0_isChord_0 : List UInt8 := [27, 3, 42, 180, 0, 23, 180, 0, 151, 4, 100, 184, 0, 89, 172]
abbrev dktX0_isChord_0 : List UInt8 := dkwX0_isChord_0 ++ []
theorem dksX0_isChord_0 : cX0_isChord.data.toList.drop 0 = dktX0_isChord_0 := by decide +kernel
theorem dX0_isChord_0 : decode cX0_isChord 0 = .ok (.iload_n 1, 1) := dk_27 (dk_at dksX0_isChord_0 0 rfl rfl)
theorem dX0_isChord_1 : decode cX0_isChord 1 = .ok (.iconst 0, 1) := dk_3 (dk_at dksX0_isChord_0 1 rfl rfl)
theorem dX0_isChord_2 : decode cX0_isChord 2 = .ok (.aload_n 0, 1) := dk_42 (dk_at dksX0_isChord_0 2 rfl rfl)
theorem dX0_isChord_3 : decode cX0_isChord 3 = .ok (.getfield 23, 3) := dk_180 0 23 (dk_at dksX0_isChord_0 3 rfl rfl)
theorem dX0_isChord_6 : decode cX0_isChord 6 = .ok (.getfield 151, 3) := dk_180 0 151 (dk_at dksX0_isChord_0 6 rfl rfl)
theorem dX0_isChord_9 : decode cX0_isChord 9 = .ok (.iconst 1, 1) := dk_4 (dk_at dksX0_isChord_0 9 rfl rfl)
theorem dX0_isChord_10 : decode cX0_isChord 10 = .ok (.isub, 1) := dk_100 (dk_at dksX0_isChord_0 10 rfl rfl)
theorem dX0_isChord_11 : decode cX0_isChord 11 = .ok (.invokestatic 89, 3) := dk_184 0 89 (dk_at dksX0_isChord_0 11 rfl rfl)
theorem dX0_isChord_14 : decode cX0_isChord 14 = .ok (.ireturn, 1) := dk_172 (dk_at dksX0_isChord_0 14 rfl rfl)
abbrev cX0_sort : ByteArray := prog_1_method_22_code
def yX0_sort : MethodName := ⟨RX0, "sort", "(II)I"⟩
def dkwX0_sort_1 : List UInt8 := [5, 184, 0, 89, 153, 0, 12, 42, 27, 28, 182, 0, 191, 167, 0, 5, 16, 154, 172]
abbrev dktX0_sort_1 : List UInt8 := dkwX0_sort_1 ++ []
def dkwX0_sort_0 : List UInt8 := [27, 3, 42, 180, 0, 23, 180, 0, 118, 4, 100, 184, 0, 89, 154, 0, 8, 16, 155, 167, 0, 23, 28, 3]
abbrev dktX0_sort_0 : List UInt8 := dkwX0_sort_0 ++ dktX0_sort_1
theorem dksX0_sort_0 : cX0_sort.data.toList.drop 0 = dktX0_sort_0 := by decide +kernel
theorem dksX0_sort_1 : cX0_sort.data.toList.drop 24 = dktX0_sort_1 := dk_seg dksX0_sort_0 24 rfl rfl
theorem dX0_sort_0 : decode cX0_sort 0 = .ok (.iload_n 1, 1) := dk_27 (dk_at dksX0_sort_0 0 rfl rfl)
theorem dX0_sort_1 : decode cX0_sort 1 = .ok (.iconst 0, 1) := dk_3 (dk_at dksX0_sort_0 1 rfl rfl)
theorem dX0_sort_2 : decode cX0_sort 2 = .ok (.aload_n 0, 1) := dk_42 (dk_at dksX0_sort_0 2 rfl rfl)
theorem dX0_sort_3 : decode cX0_sort 3 = .ok (.getfield 23, 3) := dk_180 0 23 (dk_at dksX0_sort_0 3 rfl rfl)
theorem dX0_sort_6 : decode cX0_sort 6 = .ok (.getfield 118, 3) := dk_180 0 118 (dk_at dksX0_sort_0 6 rfl rfl)
theorem dX0_sort_9 : decode cX0_sort 9 = .ok (.iconst 1, 1) := dk_4 (dk_at dksX0_sort_0 9 rfl rfl)
theorem dX0_sort_10 : decode cX0_sort 10 = .ok (.isub, 1) := dk_100 (dk_at dksX0_sort_0 10 rfl rfl)
theorem dX0_sort_11 : decode cX0_sort 11 = .ok (.invokestatic 89, 3) := dk_184 0 89 (dk_at dksX0_sort_0 11 rfl rfl)
theorem dX0_sort_14 : decode cX0_sort 14 = .ok (.ifCond .ne 8, 3) := dk_154 0 8 (dk_at dksX0_sort_0 14 rfl rfl)
theorem dX0_sort_17 : decode cX0_sort 17 = .ok (.bipush (-101), 2) := dk_16 155 (dk_at dksX0_sort_0 17 rfl rfl)
theorem dX0_sort_19 : decode cX0_sort 19 = .ok (.goto 23, 3) := dk_167 0 23 (dk_at dksX0_sort_0 19 rfl rfl)
theorem dX0_sort_22 : decode cX0_sort 22 = .ok (.iload_n 2, 1) := dk_28 (dk_at dksX0_sort_0 22 rfl rfl)
theorem dX0_sort_23 : decode cX0_sort 23 = .ok (.iconst 0, 1) := dk_3 (dk_at dksX0_sort_0 23 rfl rfl)
theorem dX0_sort_24 : decode cX0_sort 24 = .ok (.iconst 2, 1) := dk_5 (dk_at dksX0_sort_1 0 rfl rfl)
theorem dX0_sort_25 : decode cX0_sort 25 = .ok (.invokestatic 89, 3) := dk_184 0 89 (dk_at dksX0_sort_1 1 rfl rfl)
theorem dX0_sort_28 : decode cX0_sort 28 = .ok (.ifCond .eq 12, 3) := dk_153 0 12 (dk_at dksX0_sort_1 4 rfl rfl)
theorem dX0_sort_31 : decode cX0_sort 31 = .ok (.aload_n 0, 1) := dk_42 (dk_at dksX0_sort_1 7 rfl rfl)
theorem dX0_sort_32 : decode cX0_sort 32 = .ok (.iload_n 1, 1) := dk_27 (dk_at dksX0_sort_1 8 rfl rfl)
theorem dX0_sort_33 : decode cX0_sort 33 = .ok (.iload_n 2, 1) := dk_28 (dk_at dksX0_sort_1 9 rfl rfl)
theorem dX0_sort_34 : decode cX0_sort 34 = .ok (.invokevirtual 191, 3) := dk_182 0 191 (dk_at dksX0_sort_1 10 rfl rfl)
theorem dX0_sort_37 : decode cX0_sort 37 = .ok (.goto 5, 3) := dk_167 0 5 (dk_at dksX0_sort_1 13 rfl rfl)
theorem dX0_sort_40 : decode cX0_sort 40 = .ok (.bipush (-102), 2) := dk_16 154 (dk_at dksX0_sort_1 16 rfl rfl)
theorem dX0_sort_42 : decode cX0_sort 42 = .ok (.ireturn, 1) := dk_172 (dk_at dksX0_sort_1 18 rfl rfl)
abbrev cX0_sortTold : ByteArray := prog_1_method_21_code
def yX0_sortTold : MethodName := ⟨RX0, "sortTold", "(II)I"⟩
def dkwX0_sortTold_2 : List UInt8 := [172]
abbrev dktX0_sortTold_2 : List UInt8 := dkwX0_sortTold_2 ++ []
def dkwX0_sortTold_1 : List UInt8 := [180, 0, 23, 180, 0, 160, 27, 46, 167, 0, 16, 42, 27, 182, 0, 188, 153, 0, 7, 4, 167, 0, 4, 3]
abbrev dktX0_sortTold_1 : List UInt8 := dkwX0_sortTold_1 ++ dktX0_sortTold_2
def dkwX0_sortTold_0 : List UInt8 := [28, 154, 0, 15, 42, 180, 0, 23, 180, 0, 157, 27, 46, 167, 0, 33, 28, 4, 160, 0, 15, 42]
abbrev dktX0_sortTold_0 : List UInt8 := dkwX0_sortTold_0 ++ dktX0_sortTold_1
theorem dksX0_sortTold_0 : cX0_sortTold.data.toList.drop 0 = dktX0_sortTold_0 := by decide +kernel
theorem dksX0_sortTold_1 : cX0_sortTold.data.toList.drop 22 = dktX0_sortTold_1 := dk_seg dksX0_sortTold_0 22 rfl rfl
theorem dksX0_sortTold_2 : cX0_sortTold.data.toList.drop 46 = dktX0_sortTold_2 := dk_seg dksX0_sortTold_1 24 rfl rfl
theorem dX0_sortTold_0 : decode cX0_sortTold 0 = .ok (.iload_n 2, 1) := dk_28 (dk_at dksX0_sortTold_0 0 rfl rfl)
theorem dX0_sortTold_1 : decode cX0_sortTold 1 = .ok (.ifCond .ne 15, 3) := dk_154 0 15 (dk_at dksX0_sortTold_0 1 rfl rfl)
theorem dX0_sortTold_4 : decode cX0_sortTold 4 = .ok (.aload_n 0, 1) := dk_42 (dk_at dksX0_sortTold_0 4 rfl rfl)
theorem dX0_sortTold_5 : decode cX0_sortTold 5 = .ok (.getfield 23, 3) := dk_180 0 23 (dk_at dksX0_sortTold_0 5 rfl rfl)
theorem dX0_sortTold_8 : decode cX0_sortTold 8 = .ok (.getfield 157, 3) := dk_180 0 157 (dk_at dksX0_sortTold_0 8 rfl rfl)
theorem dX0_sortTold_11 : decode cX0_sortTold 11 = .ok (.iload_n 1, 1) := dk_27 (dk_at dksX0_sortTold_0 11 rfl rfl)
theorem dX0_sortTold_12 : decode cX0_sortTold 12 = .ok (.iaload, 1) := dk_46 (dk_at dksX0_sortTold_0 12 rfl rfl)
theorem dX0_sortTold_13 : decode cX0_sortTold 13 = .ok (.goto 33, 3) := dk_167 0 33 (dk_at dksX0_sortTold_0 13 rfl rfl)
theorem dX0_sortTold_16 : decode cX0_sortTold 16 = .ok (.iload_n 2, 1) := dk_28 (dk_at dksX0_sortTold_0 16 rfl rfl)
theorem dX0_sortTold_17 : decode cX0_sortTold 17 = .ok (.iconst 1, 1) := dk_4 (dk_at dksX0_sortTold_0 17 rfl rfl)
theorem dX0_sortTold_18 : decode cX0_sortTold 18 = .ok (.if_icmp .ne 15, 3) := dk_160 0 15 (dk_at dksX0_sortTold_0 18 rfl rfl)
theorem dX0_sortTold_21 : decode cX0_sortTold 21 = .ok (.aload_n 0, 1) := dk_42 (dk_at dksX0_sortTold_0 21 rfl rfl)
theorem dX0_sortTold_22 : decode cX0_sortTold 22 = .ok (.getfield 23, 3) := dk_180 0 23 (dk_at dksX0_sortTold_1 0 rfl rfl)
theorem dX0_sortTold_25 : decode cX0_sortTold 25 = .ok (.getfield 160, 3) := dk_180 0 160 (dk_at dksX0_sortTold_1 3 rfl rfl)
theorem dX0_sortTold_28 : decode cX0_sortTold 28 = .ok (.iload_n 1, 1) := dk_27 (dk_at dksX0_sortTold_1 6 rfl rfl)
theorem dX0_sortTold_29 : decode cX0_sortTold 29 = .ok (.iaload, 1) := dk_46 (dk_at dksX0_sortTold_1 7 rfl rfl)
theorem dX0_sortTold_30 : decode cX0_sortTold 30 = .ok (.goto 16, 3) := dk_167 0 16 (dk_at dksX0_sortTold_1 8 rfl rfl)
theorem dX0_sortTold_33 : decode cX0_sortTold 33 = .ok (.aload_n 0, 1) := dk_42 (dk_at dksX0_sortTold_1 11 rfl rfl)
theorem dX0_sortTold_34 : decode cX0_sortTold 34 = .ok (.iload_n 1, 1) := dk_27 (dk_at dksX0_sortTold_1 12 rfl rfl)
theorem dX0_sortTold_35 : decode cX0_sortTold 35 = .ok (.invokevirtual 188, 3) := dk_182 0 188 (dk_at dksX0_sortTold_1 13 rfl rfl)
theorem dX0_sortTold_38 : decode cX0_sortTold 38 = .ok (.ifCond .eq 7, 3) := dk_153 0 7 (dk_at dksX0_sortTold_1 16 rfl rfl)
theorem dX0_sortTold_41 : decode cX0_sortTold 41 = .ok (.iconst 1, 1) := dk_4 (dk_at dksX0_sortTold_1 19 rfl rfl)
theorem dX0_sortTold_42 : decode cX0_sortTold 42 = .ok (.goto 4, 3) := dk_167 0 4 (dk_at dksX0_sortTold_1 20 rfl rfl)
theorem dX0_sortTold_45 : decode cX0_sortTold 45 = .ok (.iconst 0, 1) := dk_3 (dk_at dksX0_sortTold_1 23 rfl rfl)
theorem dX0_sortTold_46 : decode cX0_sortTold 46 = .ok (.ireturn, 1) := dk_172 (dk_at dksX0_sortTold_2 0 rfl rfl)
abbrev cX0_isLeft : ByteArray := prog_1_method_24_code
def yX0_isLeft : MethodName := ⟨RX0, "isLeft", "(I)Z"⟩
def dkwX0_isLeft_0 : List UInt8 := [42, 42, 180, 0, 23, 180, 0, 157, 27, 46, 182, 0, 194, 2, 160, 0, 7, 4, 167, 0, 4, 3, 172]
abbrev dktX0_isLeft_0 : List UInt8 := dkwX0_isLeft_0 ++ []
theorem dksX0_isLeft_0 : cX0_isLeft.data.toList.drop 0 = dktX0_isLeft_0 := by decide +kernel
theorem dX0_isLeft_0 : decode cX0_isLeft 0 = .ok (.aload_n 0, 1) := dk_42 (dk_at dksX0_isLeft_0 0 rfl rfl)
theorem dX0_isLeft_1 : decode cX0_isLeft 1 = .ok (.aload_n 0, 1) := dk_42 (dk_at dksX0_isLeft_0 1 rfl rfl)
theorem dX0_isLeft_2 : decode cX0_isLeft 2 = .ok (.getfield 23, 3) := dk_180 0 23 (dk_at dksX0_isLeft_0 2 rfl rfl)
theorem dX0_isLeft_5 : decode cX0_isLeft 5 = .ok (.getfield 157, 3) := dk_180 0 157 (dk_at dksX0_isLeft_0 5 rfl rfl)
theorem dX0_isLeft_8 : decode cX0_isLeft 8 = .ok (.iload_n 1, 1) := dk_27 (dk_at dksX0_isLeft_0 8 rfl rfl)
theorem dX0_isLeft_9 : decode cX0_isLeft 9 = .ok (.iaload, 1) := dk_46 (dk_at dksX0_isLeft_0 9 rfl rfl)
theorem dX0_isLeft_10 : decode cX0_isLeft 10 = .ok (.invokevirtual 194, 3) := dk_182 0 194 (dk_at dksX0_isLeft_0 10 rfl rfl)
theorem dX0_isLeft_13 : decode cX0_isLeft 13 = .ok (.iconst (-1), 1) := dk_2 (dk_at dksX0_isLeft_0 13 rfl rfl)
theorem dX0_isLeft_14 : decode cX0_isLeft 14 = .ok (.if_icmp .ne 7, 3) := dk_160 0 7 (dk_at dksX0_isLeft_0 14 rfl rfl)
theorem dX0_isLeft_17 : decode cX0_isLeft 17 = .ok (.iconst 1, 1) := dk_4 (dk_at dksX0_isLeft_0 17 rfl rfl)
theorem dX0_isLeft_18 : decode cX0_isLeft 18 = .ok (.goto 4, 3) := dk_167 0 4 (dk_at dksX0_isLeft_0 18 rfl rfl)
theorem dX0_isLeft_21 : decode cX0_isLeft 21 = .ok (.iconst 0, 1) := dk_3 (dk_at dksX0_isLeft_0 21 rfl rfl)
theorem dX0_isLeft_22 : decode cX0_isLeft 22 = .ok (.ireturn, 1) := dk_172 (dk_at dksX0_isLeft_0 22 rfl rfl)
abbrev cX0_asWhat : ByteArray := prog_1_method_23_code
def yX0_asWhat : MethodName := ⟨RX0, "asWhat", "(I)I"⟩
def dkwX0_asWhat_2 : List UInt8 := [167, 255, 212, 2, 172]
abbrev dktX0_asWhat_2 : List UInt8 := dkwX0_asWhat_2 ++ []
def dkwX0_asWhat_1 : List UInt8 := [42, 180, 0, 23, 180, 0, 154, 27, 46, 160, 0, 10, 42, 180, 0, 34, 28, 46, 172, 132, 2, 1]
abbrev dktX0_asWhat_1 : List UInt8 := dkwX0_asWhat_1 ++ dktX0_asWhat_2
def dkwX0_asWhat_0 : List UInt8 := [3, 61, 28, 42, 180, 0, 170, 162, 0, 42, 42, 180, 0, 23, 180, 0, 154, 42, 180, 0, 34, 28, 46, 46]
abbrev dktX0_asWhat_0 : List UInt8 := dkwX0_asWhat_0 ++ dktX0_asWhat_1
theorem dksX0_asWhat_0 : cX0_asWhat.data.toList.drop 0 = dktX0_asWhat_0 := by decide +kernel
theorem dksX0_asWhat_1 : cX0_asWhat.data.toList.drop 24 = dktX0_asWhat_1 := dk_seg dksX0_asWhat_0 24 rfl rfl
theorem dksX0_asWhat_2 : cX0_asWhat.data.toList.drop 46 = dktX0_asWhat_2 := dk_seg dksX0_asWhat_1 22 rfl rfl
theorem dX0_asWhat_0 : decode cX0_asWhat 0 = .ok (.iconst 0, 1) := dk_3 (dk_at dksX0_asWhat_0 0 rfl rfl)
theorem dX0_asWhat_1 : decode cX0_asWhat 1 = .ok (.istore_n 2, 1) := dk_61 (dk_at dksX0_asWhat_0 1 rfl rfl)
theorem dX0_asWhat_2 : decode cX0_asWhat 2 = .ok (.iload_n 2, 1) := dk_28 (dk_at dksX0_asWhat_0 2 rfl rfl)
theorem dX0_asWhat_3 : decode cX0_asWhat 3 = .ok (.aload_n 0, 1) := dk_42 (dk_at dksX0_asWhat_0 3 rfl rfl)
theorem dX0_asWhat_4 : decode cX0_asWhat 4 = .ok (.getfield 170, 3) := dk_180 0 170 (dk_at dksX0_asWhat_0 4 rfl rfl)
theorem dX0_asWhat_7 : decode cX0_asWhat 7 = .ok (.if_icmp .ge 42, 3) := dk_162 0 42 (dk_at dksX0_asWhat_0 7 rfl rfl)
theorem dX0_asWhat_10 : decode cX0_asWhat 10 = .ok (.aload_n 0, 1) := dk_42 (dk_at dksX0_asWhat_0 10 rfl rfl)
theorem dX0_asWhat_11 : decode cX0_asWhat 11 = .ok (.getfield 23, 3) := dk_180 0 23 (dk_at dksX0_asWhat_0 11 rfl rfl)
theorem dX0_asWhat_14 : decode cX0_asWhat 14 = .ok (.getfield 154, 3) := dk_180 0 154 (dk_at dksX0_asWhat_0 14 rfl rfl)
theorem dX0_asWhat_17 : decode cX0_asWhat 17 = .ok (.aload_n 0, 1) := dk_42 (dk_at dksX0_asWhat_0 17 rfl rfl)
theorem dX0_asWhat_18 : decode cX0_asWhat 18 = .ok (.getfield 34, 3) := dk_180 0 34 (dk_at dksX0_asWhat_0 18 rfl rfl)
theorem dX0_asWhat_21 : decode cX0_asWhat 21 = .ok (.iload_n 2, 1) := dk_28 (dk_at dksX0_asWhat_0 21 rfl rfl)
theorem dX0_asWhat_22 : decode cX0_asWhat 22 = .ok (.iaload, 1) := dk_46 (dk_at dksX0_asWhat_0 22 rfl rfl)
theorem dX0_asWhat_23 : decode cX0_asWhat 23 = .ok (.iaload, 1) := dk_46 (dk_at dksX0_asWhat_0 23 rfl rfl)
theorem dX0_asWhat_24 : decode cX0_asWhat 24 = .ok (.aload_n 0, 1) := dk_42 (dk_at dksX0_asWhat_1 0 rfl rfl)
theorem dX0_asWhat_25 : decode cX0_asWhat 25 = .ok (.getfield 23, 3) := dk_180 0 23 (dk_at dksX0_asWhat_1 1 rfl rfl)
theorem dX0_asWhat_28 : decode cX0_asWhat 28 = .ok (.getfield 154, 3) := dk_180 0 154 (dk_at dksX0_asWhat_1 4 rfl rfl)
theorem dX0_asWhat_31 : decode cX0_asWhat 31 = .ok (.iload_n 1, 1) := dk_27 (dk_at dksX0_asWhat_1 7 rfl rfl)
theorem dX0_asWhat_32 : decode cX0_asWhat 32 = .ok (.iaload, 1) := dk_46 (dk_at dksX0_asWhat_1 8 rfl rfl)
theorem dX0_asWhat_33 : decode cX0_asWhat 33 = .ok (.if_icmp .ne 10, 3) := dk_160 0 10 (dk_at dksX0_asWhat_1 9 rfl rfl)
theorem dX0_asWhat_36 : decode cX0_asWhat 36 = .ok (.aload_n 0, 1) := dk_42 (dk_at dksX0_asWhat_1 12 rfl rfl)
theorem dX0_asWhat_37 : decode cX0_asWhat 37 = .ok (.getfield 34, 3) := dk_180 0 34 (dk_at dksX0_asWhat_1 13 rfl rfl)
theorem dX0_asWhat_40 : decode cX0_asWhat 40 = .ok (.iload_n 2, 1) := dk_28 (dk_at dksX0_asWhat_1 16 rfl rfl)
theorem dX0_asWhat_41 : decode cX0_asWhat 41 = .ok (.iaload, 1) := dk_46 (dk_at dksX0_asWhat_1 17 rfl rfl)
theorem dX0_asWhat_42 : decode cX0_asWhat 42 = .ok (.ireturn, 1) := dk_172 (dk_at dksX0_asWhat_1 18 rfl rfl)
theorem dX0_asWhat_43 : decode cX0_asWhat 43 = .ok (.iinc 2 1, 3) := dk_132 2 1 (dk_at dksX0_asWhat_1 19 rfl rfl)
theorem dX0_asWhat_46 : decode cX0_asWhat 46 = .ok (.goto (-44), 3) := dk_167 255 212 (dk_at dksX0_asWhat_2 0 rfl rfl)
theorem dX0_asWhat_49 : decode cX0_asWhat 49 = .ok (.iconst (-1), 1) := dk_2 (dk_at dksX0_asWhat_2 3 rfl rfl)
theorem dX0_asWhat_50 : decode cX0_asWhat 50 = .ok (.ireturn, 1) := dk_172 (dk_at dksX0_asWhat_2 4 rfl rfl)
abbrev cX0_strike : ByteArray := prog_1_method_25_code
def yX0_strike : MethodName := ⟨RX0, "strike", "(I)I"⟩
def dkwX0_strike_2 : List UInt8 := [180, 0, 170, 4, 96, 181, 0, 170, 4, 172]
abbrev dktX0_strike_2 : List UInt8 := dkwX0_strike_2 ++ []
def dkwX0_strike_1 : List UInt8 := [180, 0, 170, 16, 20, 160, 0, 6, 16, 152, 172, 42, 180, 0, 34, 42, 180, 0, 170, 27, 79, 42, 89]
abbrev dktX0_strike_1 : List UInt8 := dkwX0_strike_1 ++ dktX0_strike_2
def dkwX0_strike_0 : List UInt8 := [42, 27, 182, 0, 182, 154, 0, 6, 16, 155, 172, 42, 27, 182, 0, 194, 2, 159, 0, 5, 3, 172, 42]
abbrev dktX0_strike_0 : List UInt8 := dkwX0_strike_0 ++ dktX0_strike_1
theorem dksX0_strike_0 : cX0_strike.data.toList.drop 0 = dktX0_strike_0 := by decide +kernel
theorem dksX0_strike_1 : cX0_strike.data.toList.drop 23 = dktX0_strike_1 := dk_seg dksX0_strike_0 23 rfl rfl
theorem dksX0_strike_2 : cX0_strike.data.toList.drop 46 = dktX0_strike_2 := dk_seg dksX0_strike_1 23 rfl rfl
theorem dX0_strike_0 : decode cX0_strike 0 = .ok (.aload_n 0, 1) := dk_42 (dk_at dksX0_strike_0 0 rfl rfl)
theorem dX0_strike_1 : decode cX0_strike 1 = .ok (.iload_n 1, 1) := dk_27 (dk_at dksX0_strike_0 1 rfl rfl)
theorem dX0_strike_2 : decode cX0_strike 2 = .ok (.invokevirtual 182, 3) := dk_182 0 182 (dk_at dksX0_strike_0 2 rfl rfl)
theorem dX0_strike_5 : decode cX0_strike 5 = .ok (.ifCond .ne 6, 3) := dk_154 0 6 (dk_at dksX0_strike_0 5 rfl rfl)
theorem dX0_strike_8 : decode cX0_strike 8 = .ok (.bipush (-101), 2) := dk_16 155 (dk_at dksX0_strike_0 8 rfl rfl)
theorem dX0_strike_10 : decode cX0_strike 10 = .ok (.ireturn, 1) := dk_172 (dk_at dksX0_strike_0 10 rfl rfl)
theorem dX0_strike_11 : decode cX0_strike 11 = .ok (.aload_n 0, 1) := dk_42 (dk_at dksX0_strike_0 11 rfl rfl)
theorem dX0_strike_12 : decode cX0_strike 12 = .ok (.iload_n 1, 1) := dk_27 (dk_at dksX0_strike_0 12 rfl rfl)
theorem dX0_strike_13 : decode cX0_strike 13 = .ok (.invokevirtual 194, 3) := dk_182 0 194 (dk_at dksX0_strike_0 13 rfl rfl)
theorem dX0_strike_16 : decode cX0_strike 16 = .ok (.iconst (-1), 1) := dk_2 (dk_at dksX0_strike_0 16 rfl rfl)
theorem dX0_strike_17 : decode cX0_strike 17 = .ok (.if_icmp .eq 5, 3) := dk_159 0 5 (dk_at dksX0_strike_0 17 rfl rfl)
theorem dX0_strike_20 : decode cX0_strike 20 = .ok (.iconst 0, 1) := dk_3 (dk_at dksX0_strike_0 20 rfl rfl)
theorem dX0_strike_21 : decode cX0_strike 21 = .ok (.ireturn, 1) := dk_172 (dk_at dksX0_strike_0 21 rfl rfl)
theorem dX0_strike_22 : decode cX0_strike 22 = .ok (.aload_n 0, 1) := dk_42 (dk_at dksX0_strike_0 22 rfl rfl)
theorem dX0_strike_23 : decode cX0_strike 23 = .ok (.getfield 170, 3) := dk_180 0 170 (dk_at dksX0_strike_1 0 rfl rfl)
theorem dX0_strike_26 : decode cX0_strike 26 = .ok (.bipush 20, 2) := dk_16 20 (dk_at dksX0_strike_1 3 rfl rfl)
theorem dX0_strike_28 : decode cX0_strike 28 = .ok (.if_icmp .ne 6, 3) := dk_160 0 6 (dk_at dksX0_strike_1 5 rfl rfl)
theorem dX0_strike_31 : decode cX0_strike 31 = .ok (.bipush (-104), 2) := dk_16 152 (dk_at dksX0_strike_1 8 rfl rfl)
theorem dX0_strike_33 : decode cX0_strike 33 = .ok (.ireturn, 1) := dk_172 (dk_at dksX0_strike_1 10 rfl rfl)
theorem dX0_strike_34 : decode cX0_strike 34 = .ok (.aload_n 0, 1) := dk_42 (dk_at dksX0_strike_1 11 rfl rfl)
theorem dX0_strike_35 : decode cX0_strike 35 = .ok (.getfield 34, 3) := dk_180 0 34 (dk_at dksX0_strike_1 12 rfl rfl)
theorem dX0_strike_38 : decode cX0_strike 38 = .ok (.aload_n 0, 1) := dk_42 (dk_at dksX0_strike_1 15 rfl rfl)
theorem dX0_strike_39 : decode cX0_strike 39 = .ok (.getfield 170, 3) := dk_180 0 170 (dk_at dksX0_strike_1 16 rfl rfl)
theorem dX0_strike_42 : decode cX0_strike 42 = .ok (.iload_n 1, 1) := dk_27 (dk_at dksX0_strike_1 19 rfl rfl)
theorem dX0_strike_43 : decode cX0_strike 43 = .ok (.iastore, 1) := dk_79 (dk_at dksX0_strike_1 20 rfl rfl)
theorem dX0_strike_44 : decode cX0_strike 44 = .ok (.aload_n 0, 1) := dk_42 (dk_at dksX0_strike_1 21 rfl rfl)
theorem dX0_strike_45 : decode cX0_strike 45 = .ok (.dup, 1) := dk_89 (dk_at dksX0_strike_1 22 rfl rfl)
theorem dX0_strike_46 : decode cX0_strike 46 = .ok (.getfield 170, 3) := dk_180 0 170 (dk_at dksX0_strike_2 0 rfl rfl)
theorem dX0_strike_49 : decode cX0_strike 49 = .ok (.iconst 1, 1) := dk_4 (dk_at dksX0_strike_2 3 rfl rfl)
theorem dX0_strike_50 : decode cX0_strike 50 = .ok (.iadd, 1) := dk_96 (dk_at dksX0_strike_2 4 rfl rfl)
theorem dX0_strike_51 : decode cX0_strike 51 = .ok (.putfield 170, 3) := dk_181 0 170 (dk_at dksX0_strike_2 5 rfl rfl)
theorem dX0_strike_54 : decode cX0_strike 54 = .ok (.iconst 1, 1) := dk_4 (dk_at dksX0_strike_2 8 rfl rfl)
theorem dX0_strike_55 : decode cX0_strike 55 = .ok (.ireturn, 1) := dk_172 (dk_at dksX0_strike_2 9 rfl rfl)
abbrev cX0_heardAs : ByteArray := prog_1_method_26_code
def yX0_heardAs : MethodName := ⟨RX0, "heardAs", "(I)I"⟩
def dkwX0_heardAs_0 : List UInt8 := [42, 27, 182, 0, 182, 153, 0, 11, 42, 27, 182, 0, 194, 167, 0, 5, 16, 155, 172]
abbrev dktX0_heardAs_0 : List UInt8 := dkwX0_heardAs_0 ++ []
theorem dksX0_heardAs_0 : cX0_heardAs.data.toList.drop 0 = dktX0_heardAs_0 := by decide +kernel
theorem dX0_heardAs_0 : decode cX0_heardAs 0 = .ok (.aload_n 0, 1) := dk_42 (dk_at dksX0_heardAs_0 0 rfl rfl)
theorem dX0_heardAs_1 : decode cX0_heardAs 1 = .ok (.iload_n 1, 1) := dk_27 (dk_at dksX0_heardAs_0 1 rfl rfl)
theorem dX0_heardAs_2 : decode cX0_heardAs 2 = .ok (.invokevirtual 182, 3) := dk_182 0 182 (dk_at dksX0_heardAs_0 2 rfl rfl)
theorem dX0_heardAs_5 : decode cX0_heardAs 5 = .ok (.ifCond .eq 11, 3) := dk_153 0 11 (dk_at dksX0_heardAs_0 5 rfl rfl)
theorem dX0_heardAs_8 : decode cX0_heardAs 8 = .ok (.aload_n 0, 1) := dk_42 (dk_at dksX0_heardAs_0 8 rfl rfl)
theorem dX0_heardAs_9 : decode cX0_heardAs 9 = .ok (.iload_n 1, 1) := dk_27 (dk_at dksX0_heardAs_0 9 rfl rfl)
theorem dX0_heardAs_10 : decode cX0_heardAs 10 = .ok (.invokevirtual 194, 3) := dk_182 0 194 (dk_at dksX0_heardAs_0 10 rfl rfl)
theorem dX0_heardAs_13 : decode cX0_heardAs 13 = .ok (.goto 5, 3) := dk_167 0 5 (dk_at dksX0_heardAs_0 13 rfl rfl)
theorem dX0_heardAs_16 : decode cX0_heardAs 16 = .ok (.bipush (-101), 2) := dk_16 155 (dk_at dksX0_heardAs_0 16 rfl rfl)
theorem dX0_heardAs_18 : decode cX0_heardAs 18 = .ok (.ireturn, 1) := dk_172 (dk_at dksX0_heardAs_0 18 rfl rfl)
abbrev cX0_forget : ByteArray := prog_1_method_27_code
def yX0_forget : MethodName := ⟨RX0, "forget", "()I"⟩
def dkwX0_forget_0 : List UInt8 := [42, 180, 0, 170, 60, 42, 3, 181, 0, 170, 27, 172]
abbrev dktX0_forget_0 : List UInt8 := dkwX0_forget_0 ++ []
theorem dksX0_forget_0 : cX0_forget.data.toList.drop 0 = dktX0_forget_0 := by decide +kernel
theorem dX0_forget_0 : decode cX0_forget 0 = .ok (.aload_n 0, 1) := dk_42 (dk_at dksX0_forget_0 0 rfl rfl)
theorem dX0_forget_1 : decode cX0_forget 1 = .ok (.getfield 170, 3) := dk_180 0 170 (dk_at dksX0_forget_0 1 rfl rfl)
theorem dX0_forget_4 : decode cX0_forget 4 = .ok (.istore_n 1, 1) := dk_60 (dk_at dksX0_forget_0 4 rfl rfl)
theorem dX0_forget_5 : decode cX0_forget 5 = .ok (.aload_n 0, 1) := dk_42 (dk_at dksX0_forget_0 5 rfl rfl)
theorem dX0_forget_6 : decode cX0_forget 6 = .ok (.iconst 0, 1) := dk_3 (dk_at dksX0_forget_0 6 rfl rfl)
theorem dX0_forget_7 : decode cX0_forget 7 = .ok (.putfield 170, 3) := dk_181 0 170 (dk_at dksX0_forget_0 7 rfl rfl)
theorem dX0_forget_10 : decode cX0_forget 10 = .ok (.iload_n 1, 1) := dk_27 (dk_at dksX0_forget_0 10 rfl rfl)
theorem dX0_forget_11 : decode cX0_forget 11 = .ok (.ireturn, 1) := dk_172 (dk_at dksX0_forget_0 11 rfl rfl)
abbrev cX0_left : ByteArray := prog_1_method_29_code
def yX0_left : MethodName := ⟨RX0, "left", "(I)I"⟩
def dkwX0_left_0 : List UInt8 := [27, 3, 4, 184, 0, 89, 153, 0, 11, 42, 27, 182, 0, 198, 167, 0, 5, 16, 154, 172]
abbrev dktX0_left_0 : List UInt8 := dkwX0_left_0 ++ []
theorem dksX0_left_0 : cX0_left.data.toList.drop 0 = dktX0_left_0 := by decide +kernel
theorem dX0_left_0 : decode cX0_left 0 = .ok (.iload_n 1, 1) := dk_27 (dk_at dksX0_left_0 0 rfl rfl)
theorem dX0_left_1 : decode cX0_left 1 = .ok (.iconst 0, 1) := dk_3 (dk_at dksX0_left_0 1 rfl rfl)
theorem dX0_left_2 : decode cX0_left 2 = .ok (.iconst 1, 1) := dk_4 (dk_at dksX0_left_0 2 rfl rfl)
theorem dX0_left_3 : decode cX0_left 3 = .ok (.invokestatic 89, 3) := dk_184 0 89 (dk_at dksX0_left_0 3 rfl rfl)
theorem dX0_left_6 : decode cX0_left 6 = .ok (.ifCond .eq 11, 3) := dk_153 0 11 (dk_at dksX0_left_0 6 rfl rfl)
theorem dX0_left_9 : decode cX0_left 9 = .ok (.aload_n 0, 1) := dk_42 (dk_at dksX0_left_0 9 rfl rfl)
theorem dX0_left_10 : decode cX0_left 10 = .ok (.iload_n 1, 1) := dk_27 (dk_at dksX0_left_0 10 rfl rfl)
theorem dX0_left_11 : decode cX0_left 11 = .ok (.invokevirtual 198, 3) := dk_182 0 198 (dk_at dksX0_left_0 11 rfl rfl)
theorem dX0_left_14 : decode cX0_left 14 = .ok (.goto 5, 3) := dk_167 0 5 (dk_at dksX0_left_0 14 rfl rfl)
theorem dX0_left_17 : decode cX0_left 17 = .ok (.bipush (-102), 2) := dk_16 154 (dk_at dksX0_left_0 17 rfl rfl)
theorem dX0_left_19 : decode cX0_left 19 = .ok (.ireturn, 1) := dk_172 (dk_at dksX0_left_0 19 rfl rfl)
abbrev cX0_leftTold : ByteArray := prog_1_method_28_code
def yX0_leftTold : MethodName := ⟨RX0, "leftTold", "(I)I"⟩
def dkwX0_leftTold_2 : List UInt8 := [132, 3, 1, 167, 255, 210, 28, 172]
abbrev dktX0_leftTold_2 : List UInt8 := dkwX0_leftTold_2 ++ []
def dkwX0_leftTold_1 : List UInt8 := [3, 167, 0, 20, 27, 154, 0, 7, 4, 167, 0, 12, 42, 180, 0, 23, 180, 0, 160, 29, 46, 96, 61]
abbrev dktX0_leftTold_1 : List UInt8 := dkwX0_leftTold_1 ++ dktX0_leftTold_2
def dkwX0_leftTold_0 : List UInt8 := [3, 61, 3, 62, 29, 42, 180, 0, 23, 180, 0, 118, 162, 0, 41, 28, 42, 29, 182, 0, 188, 154, 0, 7]
abbrev dktX0_leftTold_0 : List UInt8 := dkwX0_leftTold_0 ++ dktX0_leftTold_1
theorem dksX0_leftTold_0 : cX0_leftTold.data.toList.drop 0 = dktX0_leftTold_0 := by decide +kernel
theorem dksX0_leftTold_1 : cX0_leftTold.data.toList.drop 24 = dktX0_leftTold_1 := dk_seg dksX0_leftTold_0 24 rfl rfl
theorem dksX0_leftTold_2 : cX0_leftTold.data.toList.drop 47 = dktX0_leftTold_2 := dk_seg dksX0_leftTold_1 23 rfl rfl
theorem dX0_leftTold_0 : decode cX0_leftTold 0 = .ok (.iconst 0, 1) := dk_3 (dk_at dksX0_leftTold_0 0 rfl rfl)
theorem dX0_leftTold_1 : decode cX0_leftTold 1 = .ok (.istore_n 2, 1) := dk_61 (dk_at dksX0_leftTold_0 1 rfl rfl)
theorem dX0_leftTold_2 : decode cX0_leftTold 2 = .ok (.iconst 0, 1) := dk_3 (dk_at dksX0_leftTold_0 2 rfl rfl)
theorem dX0_leftTold_3 : decode cX0_leftTold 3 = .ok (.istore_n 3, 1) := dk_62 (dk_at dksX0_leftTold_0 3 rfl rfl)
theorem dX0_leftTold_4 : decode cX0_leftTold 4 = .ok (.iload_n 3, 1) := dk_29 (dk_at dksX0_leftTold_0 4 rfl rfl)
theorem dX0_leftTold_5 : decode cX0_leftTold 5 = .ok (.aload_n 0, 1) := dk_42 (dk_at dksX0_leftTold_0 5 rfl rfl)
theorem dX0_leftTold_6 : decode cX0_leftTold 6 = .ok (.getfield 23, 3) := dk_180 0 23 (dk_at dksX0_leftTold_0 6 rfl rfl)
theorem dX0_leftTold_9 : decode cX0_leftTold 9 = .ok (.getfield 118, 3) := dk_180 0 118 (dk_at dksX0_leftTold_0 9 rfl rfl)
theorem dX0_leftTold_12 : decode cX0_leftTold 12 = .ok (.if_icmp .ge 41, 3) := dk_162 0 41 (dk_at dksX0_leftTold_0 12 rfl rfl)
theorem dX0_leftTold_15 : decode cX0_leftTold 15 = .ok (.iload_n 2, 1) := dk_28 (dk_at dksX0_leftTold_0 15 rfl rfl)
theorem dX0_leftTold_16 : decode cX0_leftTold 16 = .ok (.aload_n 0, 1) := dk_42 (dk_at dksX0_leftTold_0 16 rfl rfl)
theorem dX0_leftTold_17 : decode cX0_leftTold 17 = .ok (.iload_n 3, 1) := dk_29 (dk_at dksX0_leftTold_0 17 rfl rfl)
theorem dX0_leftTold_18 : decode cX0_leftTold 18 = .ok (.invokevirtual 188, 3) := dk_182 0 188 (dk_at dksX0_leftTold_0 18 rfl rfl)
theorem dX0_leftTold_21 : decode cX0_leftTold 21 = .ok (.ifCond .ne 7, 3) := dk_154 0 7 (dk_at dksX0_leftTold_0 21 rfl rfl)
theorem dX0_leftTold_24 : decode cX0_leftTold 24 = .ok (.iconst 0, 1) := dk_3 (dk_at dksX0_leftTold_1 0 rfl rfl)
theorem dX0_leftTold_25 : decode cX0_leftTold 25 = .ok (.goto 20, 3) := dk_167 0 20 (dk_at dksX0_leftTold_1 1 rfl rfl)
theorem dX0_leftTold_28 : decode cX0_leftTold 28 = .ok (.iload_n 1, 1) := dk_27 (dk_at dksX0_leftTold_1 4 rfl rfl)
theorem dX0_leftTold_29 : decode cX0_leftTold 29 = .ok (.ifCond .ne 7, 3) := dk_154 0 7 (dk_at dksX0_leftTold_1 5 rfl rfl)
theorem dX0_leftTold_32 : decode cX0_leftTold 32 = .ok (.iconst 1, 1) := dk_4 (dk_at dksX0_leftTold_1 8 rfl rfl)
theorem dX0_leftTold_33 : decode cX0_leftTold 33 = .ok (.goto 12, 3) := dk_167 0 12 (dk_at dksX0_leftTold_1 9 rfl rfl)
theorem dX0_leftTold_36 : decode cX0_leftTold 36 = .ok (.aload_n 0, 1) := dk_42 (dk_at dksX0_leftTold_1 12 rfl rfl)
theorem dX0_leftTold_37 : decode cX0_leftTold 37 = .ok (.getfield 23, 3) := dk_180 0 23 (dk_at dksX0_leftTold_1 13 rfl rfl)
theorem dX0_leftTold_40 : decode cX0_leftTold 40 = .ok (.getfield 160, 3) := dk_180 0 160 (dk_at dksX0_leftTold_1 16 rfl rfl)
theorem dX0_leftTold_43 : decode cX0_leftTold 43 = .ok (.iload_n 3, 1) := dk_29 (dk_at dksX0_leftTold_1 19 rfl rfl)
theorem dX0_leftTold_44 : decode cX0_leftTold 44 = .ok (.iaload, 1) := dk_46 (dk_at dksX0_leftTold_1 20 rfl rfl)
theorem dX0_leftTold_45 : decode cX0_leftTold 45 = .ok (.iadd, 1) := dk_96 (dk_at dksX0_leftTold_1 21 rfl rfl)
theorem dX0_leftTold_46 : decode cX0_leftTold 46 = .ok (.istore_n 2, 1) := dk_61 (dk_at dksX0_leftTold_1 22 rfl rfl)
theorem dX0_leftTold_47 : decode cX0_leftTold 47 = .ok (.iinc 3 1, 3) := dk_132 3 1 (dk_at dksX0_leftTold_2 0 rfl rfl)
theorem dX0_leftTold_50 : decode cX0_leftTold 50 = .ok (.goto (-46), 3) := dk_167 255 210 (dk_at dksX0_leftTold_2 3 rfl rfl)
theorem dX0_leftTold_53 : decode cX0_leftTold 53 = .ok (.iload_n 2, 1) := dk_28 (dk_at dksX0_leftTold_2 6 rfl rfl)
theorem dX0_leftTold_54 : decode cX0_leftTold 54 = .ok (.ireturn, 1) := dk_172 (dk_at dksX0_leftTold_2 7 rfl rfl)
abbrev cX0_nth : ByteArray := prog_1_method_30_code
def yX0_nth : MethodName := ⟨RX0, "nth", "(I)I"⟩
def dkwX0_nth_2 : List UInt8 := [132, 3, 1, 167, 255, 224, 2, 172]
abbrev dktX0_nth_2 : List UInt8 := dkwX0_nth_2 ++ []
def dkwX0_nth_1 : List UInt8 := [180, 0, 151, 162, 0, 27, 42, 29, 182, 0, 194, 2, 160, 0, 12, 28, 154, 0, 5, 29, 172, 132, 2, 255]
abbrev dktX0_nth_1 : List UInt8 := dkwX0_nth_1 ++ dktX0_nth_2
def dkwX0_nth_0 : List UInt8 := [27, 3, 16, 83, 184, 0, 89, 154, 0, 6, 16, 154, 172, 27, 61, 3, 62, 29, 42, 180, 0, 23]
abbrev dktX0_nth_0 : List UInt8 := dkwX0_nth_0 ++ dktX0_nth_1
theorem dksX0_nth_0 : cX0_nth.data.toList.drop 0 = dktX0_nth_0 := by decide +kernel
theorem dksX0_nth_1 : cX0_nth.data.toList.drop 22 = dktX0_nth_1 := dk_seg dksX0_nth_0 22 rfl rfl
theorem dksX0_nth_2 : cX0_nth.data.toList.drop 46 = dktX0_nth_2 := dk_seg dksX0_nth_1 24 rfl rfl
theorem dX0_nth_0 : decode cX0_nth 0 = .ok (.iload_n 1, 1) := dk_27 (dk_at dksX0_nth_0 0 rfl rfl)
theorem dX0_nth_1 : decode cX0_nth 1 = .ok (.iconst 0, 1) := dk_3 (dk_at dksX0_nth_0 1 rfl rfl)
theorem dX0_nth_2 : decode cX0_nth 2 = .ok (.bipush 83, 2) := dk_16 83 (dk_at dksX0_nth_0 2 rfl rfl)
theorem dX0_nth_4 : decode cX0_nth 4 = .ok (.invokestatic 89, 3) := dk_184 0 89 (dk_at dksX0_nth_0 4 rfl rfl)
theorem dX0_nth_7 : decode cX0_nth 7 = .ok (.ifCond .ne 6, 3) := dk_154 0 6 (dk_at dksX0_nth_0 7 rfl rfl)
theorem dX0_nth_10 : decode cX0_nth 10 = .ok (.bipush (-102), 2) := dk_16 154 (dk_at dksX0_nth_0 10 rfl rfl)
theorem dX0_nth_12 : decode cX0_nth 12 = .ok (.ireturn, 1) := dk_172 (dk_at dksX0_nth_0 12 rfl rfl)
theorem dX0_nth_13 : decode cX0_nth 13 = .ok (.iload_n 1, 1) := dk_27 (dk_at dksX0_nth_0 13 rfl rfl)
theorem dX0_nth_14 : decode cX0_nth 14 = .ok (.istore_n 2, 1) := dk_61 (dk_at dksX0_nth_0 14 rfl rfl)
theorem dX0_nth_15 : decode cX0_nth 15 = .ok (.iconst 0, 1) := dk_3 (dk_at dksX0_nth_0 15 rfl rfl)
theorem dX0_nth_16 : decode cX0_nth 16 = .ok (.istore_n 3, 1) := dk_62 (dk_at dksX0_nth_0 16 rfl rfl)
theorem dX0_nth_17 : decode cX0_nth 17 = .ok (.iload_n 3, 1) := dk_29 (dk_at dksX0_nth_0 17 rfl rfl)
theorem dX0_nth_18 : decode cX0_nth 18 = .ok (.aload_n 0, 1) := dk_42 (dk_at dksX0_nth_0 18 rfl rfl)
theorem dX0_nth_19 : decode cX0_nth 19 = .ok (.getfield 23, 3) := dk_180 0 23 (dk_at dksX0_nth_0 19 rfl rfl)
theorem dX0_nth_22 : decode cX0_nth 22 = .ok (.getfield 151, 3) := dk_180 0 151 (dk_at dksX0_nth_1 0 rfl rfl)
theorem dX0_nth_25 : decode cX0_nth 25 = .ok (.if_icmp .ge 27, 3) := dk_162 0 27 (dk_at dksX0_nth_1 3 rfl rfl)
theorem dX0_nth_28 : decode cX0_nth 28 = .ok (.aload_n 0, 1) := dk_42 (dk_at dksX0_nth_1 6 rfl rfl)
theorem dX0_nth_29 : decode cX0_nth 29 = .ok (.iload_n 3, 1) := dk_29 (dk_at dksX0_nth_1 7 rfl rfl)
theorem dX0_nth_30 : decode cX0_nth 30 = .ok (.invokevirtual 194, 3) := dk_182 0 194 (dk_at dksX0_nth_1 8 rfl rfl)
theorem dX0_nth_33 : decode cX0_nth 33 = .ok (.iconst (-1), 1) := dk_2 (dk_at dksX0_nth_1 11 rfl rfl)
theorem dX0_nth_34 : decode cX0_nth 34 = .ok (.if_icmp .ne 12, 3) := dk_160 0 12 (dk_at dksX0_nth_1 12 rfl rfl)
theorem dX0_nth_37 : decode cX0_nth 37 = .ok (.iload_n 2, 1) := dk_28 (dk_at dksX0_nth_1 15 rfl rfl)
theorem dX0_nth_38 : decode cX0_nth 38 = .ok (.ifCond .ne 5, 3) := dk_154 0 5 (dk_at dksX0_nth_1 16 rfl rfl)
theorem dX0_nth_41 : decode cX0_nth 41 = .ok (.iload_n 3, 1) := dk_29 (dk_at dksX0_nth_1 19 rfl rfl)
theorem dX0_nth_42 : decode cX0_nth 42 = .ok (.ireturn, 1) := dk_172 (dk_at dksX0_nth_1 20 rfl rfl)
theorem dX0_nth_43 : decode cX0_nth 43 = .ok (.iinc 2 (-1), 3) := dk_132 2 255 (dk_at dksX0_nth_1 21 rfl rfl)
theorem dX0_nth_46 : decode cX0_nth 46 = .ok (.iinc 3 1, 3) := dk_132 3 1 (dk_at dksX0_nth_2 0 rfl rfl)
theorem dX0_nth_49 : decode cX0_nth 49 = .ok (.goto (-32), 3) := dk_167 255 224 (dk_at dksX0_nth_2 3 rfl rfl)
theorem dX0_nth_52 : decode cX0_nth 52 = .ok (.iconst (-1), 1) := dk_2 (dk_at dksX0_nth_2 6 rfl rfl)
theorem dX0_nth_53 : decode cX0_nth 53 = .ok (.ireturn, 1) := dk_172 (dk_at dksX0_nth_2 7 rfl rfl)
abbrev cX0_strangers : ByteArray := prog_1_method_33_code
def yX0_strangers : MethodName := ⟨RX0, "strangers", "(III)J"⟩
def dkwX0_strangers_3 : List UInt8 := [180, 0, 23, 180, 0, 151, 42, 4, 182, 0, 198, 100, 182, 0, 201, 22, 4, 29, 184, 0, 210, 173]
abbrev dktX0_strangers_3 : List UInt8 := dkwX0_strangers_3 ++ []
def dkwX0_strangers_2 : List UInt8 := [22, 4, 42, 180, 0, 23, 180, 0, 151, 133, 105, 55, 4, 132, 6, 1, 167, 255, 234, 42, 27, 28, 42]
abbrev dktX0_strangers_2 : List UInt8 := dkwX0_strangers_2 ++ dktX0_strangers_3
def dkwX0_strangers_1 : List UInt8 := [154, 0, 7, 20, 0, 205, 173, 42, 182, 0, 207, 10, 55, 4, 3, 54, 6, 21, 6, 27, 162, 0, 22]
abbrev dktX0_strangers_1 : List UInt8 := dkwX0_strangers_1 ++ dktX0_strangers_2
def dkwX0_strangers_0 : List UInt8 := [27, 4, 7, 184, 0, 89, 153, 0, 21, 28, 3, 27, 184, 0, 89, 153, 0, 12, 29, 3, 4, 184, 0, 89]
abbrev dktX0_strangers_0 : List UInt8 := dkwX0_strangers_0 ++ dktX0_strangers_1
theorem dksX0_strangers_0 : cX0_strangers.data.toList.drop 0 = dktX0_strangers_0 := by decide +kernel
theorem dksX0_strangers_1 : cX0_strangers.data.toList.drop 24 = dktX0_strangers_1 := dk_seg dksX0_strangers_0 24 rfl rfl
theorem dksX0_strangers_2 : cX0_strangers.data.toList.drop 47 = dktX0_strangers_2 := dk_seg dksX0_strangers_1 23 rfl rfl
theorem dksX0_strangers_3 : cX0_strangers.data.toList.drop 70 = dktX0_strangers_3 := dk_seg dksX0_strangers_2 23 rfl rfl
theorem dX0_strangers_0 : decode cX0_strangers 0 = .ok (.iload_n 1, 1) := dk_27 (dk_at dksX0_strangers_0 0 rfl rfl)
theorem dX0_strangers_1 : decode cX0_strangers 1 = .ok (.iconst 1, 1) := dk_4 (dk_at dksX0_strangers_0 1 rfl rfl)
theorem dX0_strangers_2 : decode cX0_strangers 2 = .ok (.iconst 4, 1) := dk_7 (dk_at dksX0_strangers_0 2 rfl rfl)
theorem dX0_strangers_3 : decode cX0_strangers 3 = .ok (.invokestatic 89, 3) := dk_184 0 89 (dk_at dksX0_strangers_0 3 rfl rfl)
theorem dX0_strangers_6 : decode cX0_strangers 6 = .ok (.ifCond .eq 21, 3) := dk_153 0 21 (dk_at dksX0_strangers_0 6 rfl rfl)
theorem dX0_strangers_9 : decode cX0_strangers 9 = .ok (.iload_n 2, 1) := dk_28 (dk_at dksX0_strangers_0 9 rfl rfl)
theorem dX0_strangers_10 : decode cX0_strangers 10 = .ok (.iconst 0, 1) := dk_3 (dk_at dksX0_strangers_0 10 rfl rfl)
theorem dX0_strangers_11 : decode cX0_strangers 11 = .ok (.iload_n 1, 1) := dk_27 (dk_at dksX0_strangers_0 11 rfl rfl)
theorem dX0_strangers_12 : decode cX0_strangers 12 = .ok (.invokestatic 89, 3) := dk_184 0 89 (dk_at dksX0_strangers_0 12 rfl rfl)
theorem dX0_strangers_15 : decode cX0_strangers 15 = .ok (.ifCond .eq 12, 3) := dk_153 0 12 (dk_at dksX0_strangers_0 15 rfl rfl)
theorem dX0_strangers_18 : decode cX0_strangers 18 = .ok (.iload_n 3, 1) := dk_29 (dk_at dksX0_strangers_0 18 rfl rfl)
theorem dX0_strangers_19 : decode cX0_strangers 19 = .ok (.iconst 0, 1) := dk_3 (dk_at dksX0_strangers_0 19 rfl rfl)
theorem dX0_strangers_20 : decode cX0_strangers 20 = .ok (.iconst 1, 1) := dk_4 (dk_at dksX0_strangers_0 20 rfl rfl)
theorem dX0_strangers_21 : decode cX0_strangers 21 = .ok (.invokestatic 89, 3) := dk_184 0 89 (dk_at dksX0_strangers_0 21 rfl rfl)
theorem dX0_strangers_24 : decode cX0_strangers 24 = .ok (.ifCond .ne 7, 3) := dk_154 0 7 (dk_at dksX0_strangers_1 0 rfl rfl)
theorem dX0_strangers_27 : decode cX0_strangers 27 = .ok (.ldc2_w 205, 3) := dk_20 0 205 (dk_at dksX0_strangers_1 3 rfl rfl)
theorem dX0_strangers_30 : decode cX0_strangers 30 = .ok (.lreturn, 1) := dk_173 (dk_at dksX0_strangers_1 6 rfl rfl)
theorem dX0_strangers_31 : decode cX0_strangers 31 = .ok (.aload_n 0, 1) := dk_42 (dk_at dksX0_strangers_1 7 rfl rfl)
theorem dX0_strangers_32 : decode cX0_strangers 32 = .ok (.invokevirtual 207, 3) := dk_182 0 207 (dk_at dksX0_strangers_1 8 rfl rfl)
theorem dX0_strangers_35 : decode cX0_strangers 35 = .ok (.lconst 1, 1) := dk_10 (dk_at dksX0_strangers_1 11 rfl rfl)
theorem dX0_strangers_36 : decode cX0_strangers 36 = .ok (.lstore 4, 2) := dk_55 4 (dk_at dksX0_strangers_1 12 rfl rfl)
theorem dX0_strangers_38 : decode cX0_strangers 38 = .ok (.iconst 0, 1) := dk_3 (dk_at dksX0_strangers_1 14 rfl rfl)
theorem dX0_strangers_39 : decode cX0_strangers 39 = .ok (.istore 6, 2) := dk_54 6 (dk_at dksX0_strangers_1 15 rfl rfl)
theorem dX0_strangers_41 : decode cX0_strangers 41 = .ok (.iload 6, 2) := dk_21 6 (dk_at dksX0_strangers_1 17 rfl rfl)
theorem dX0_strangers_43 : decode cX0_strangers 43 = .ok (.iload_n 1, 1) := dk_27 (dk_at dksX0_strangers_1 19 rfl rfl)
theorem dX0_strangers_44 : decode cX0_strangers 44 = .ok (.if_icmp .ge 22, 3) := dk_162 0 22 (dk_at dksX0_strangers_1 20 rfl rfl)
theorem dX0_strangers_47 : decode cX0_strangers 47 = .ok (.lload 4, 2) := dk_22 4 (dk_at dksX0_strangers_2 0 rfl rfl)
theorem dX0_strangers_49 : decode cX0_strangers 49 = .ok (.aload_n 0, 1) := dk_42 (dk_at dksX0_strangers_2 2 rfl rfl)
theorem dX0_strangers_50 : decode cX0_strangers 50 = .ok (.getfield 23, 3) := dk_180 0 23 (dk_at dksX0_strangers_2 3 rfl rfl)
theorem dX0_strangers_53 : decode cX0_strangers 53 = .ok (.getfield 151, 3) := dk_180 0 151 (dk_at dksX0_strangers_2 6 rfl rfl)
theorem dX0_strangers_56 : decode cX0_strangers 56 = .ok (.i2l, 1) := dk_133 (dk_at dksX0_strangers_2 9 rfl rfl)
theorem dX0_strangers_57 : decode cX0_strangers 57 = .ok (.lmul, 1) := dk_105 (dk_at dksX0_strangers_2 10 rfl rfl)
theorem dX0_strangers_58 : decode cX0_strangers 58 = .ok (.lstore 4, 2) := dk_55 4 (dk_at dksX0_strangers_2 11 rfl rfl)
theorem dX0_strangers_60 : decode cX0_strangers 60 = .ok (.iinc 6 1, 3) := dk_132 6 1 (dk_at dksX0_strangers_2 13 rfl rfl)
theorem dX0_strangers_63 : decode cX0_strangers 63 = .ok (.goto (-22), 3) := dk_167 255 234 (dk_at dksX0_strangers_2 16 rfl rfl)
theorem dX0_strangers_66 : decode cX0_strangers 66 = .ok (.aload_n 0, 1) := dk_42 (dk_at dksX0_strangers_2 19 rfl rfl)
theorem dX0_strangers_67 : decode cX0_strangers 67 = .ok (.iload_n 1, 1) := dk_27 (dk_at dksX0_strangers_2 20 rfl rfl)
theorem dX0_strangers_68 : decode cX0_strangers 68 = .ok (.iload_n 2, 1) := dk_28 (dk_at dksX0_strangers_2 21 rfl rfl)
theorem dX0_strangers_69 : decode cX0_strangers 69 = .ok (.aload_n 0, 1) := dk_42 (dk_at dksX0_strangers_2 22 rfl rfl)
theorem dX0_strangers_70 : decode cX0_strangers 70 = .ok (.getfield 23, 3) := dk_180 0 23 (dk_at dksX0_strangers_3 0 rfl rfl)
theorem dX0_strangers_73 : decode cX0_strangers 73 = .ok (.getfield 151, 3) := dk_180 0 151 (dk_at dksX0_strangers_3 3 rfl rfl)
theorem dX0_strangers_76 : decode cX0_strangers 76 = .ok (.aload_n 0, 1) := dk_42 (dk_at dksX0_strangers_3 6 rfl rfl)
theorem dX0_strangers_77 : decode cX0_strangers 77 = .ok (.iconst 1, 1) := dk_4 (dk_at dksX0_strangers_3 7 rfl rfl)
theorem dX0_strangers_78 : decode cX0_strangers 78 = .ok (.invokevirtual 198, 3) := dk_182 0 198 (dk_at dksX0_strangers_3 8 rfl rfl)
theorem dX0_strangers_81 : decode cX0_strangers 81 = .ok (.isub, 1) := dk_100 (dk_at dksX0_strangers_3 11 rfl rfl)
theorem dX0_strangers_82 : decode cX0_strangers 82 = .ok (.invokevirtual 201, 3) := dk_182 0 201 (dk_at dksX0_strangers_3 12 rfl rfl)
theorem dX0_strangers_85 : decode cX0_strangers 85 = .ok (.lload 4, 2) := dk_22 4 (dk_at dksX0_strangers_3 15 rfl rfl)
theorem dX0_strangers_87 : decode cX0_strangers 87 = .ok (.iload_n 3, 1) := dk_29 (dk_at dksX0_strangers_3 17 rfl rfl)
theorem dX0_strangers_88 : decode cX0_strangers 88 = .ok (.invokestatic 210, 3) := dk_184 0 210 (dk_at dksX0_strangers_3 18 rfl rfl)
theorem dX0_strangers_91 : decode cX0_strangers 91 = .ok (.lreturn, 1) := dk_173 (dk_at dksX0_strangers_3 21 rfl rfl)
abbrev cX0_laySizes : ByteArray := prog_1_method_31_code
def yX0_laySizes : MethodName := ⟨RX0, "laySizes", "()V"⟩
def dkwX0_laySizes_2 : List UInt8 := [46, 42, 27, 182, 0, 188, 153, 0, 7, 4, 167, 0, 4, 3, 96, 79, 132, 1, 1, 167, 255, 212, 177]
abbrev dktX0_laySizes_2 : List UInt8 := dkwX0_laySizes_2 ++ []
def dkwX0_laySizes_1 : List UInt8 := [42, 180, 0, 23, 180, 0, 118, 162, 0, 39, 42, 180, 0, 37, 42, 180, 0, 23, 180, 0, 160, 27, 46, 92]
abbrev dktX0_laySizes_1 : List UInt8 := dkwX0_laySizes_1 ++ dktX0_laySizes_2
def dkwX0_laySizes_0 : List UInt8 := [3, 60, 27, 16, 120, 163, 0, 16, 42, 180, 0, 37, 27, 3, 79, 132, 1, 1, 167, 255, 240, 3, 60, 27]
abbrev dktX0_laySizes_0 : List UInt8 := dkwX0_laySizes_0 ++ dktX0_laySizes_1
theorem dksX0_laySizes_0 : cX0_laySizes.data.toList.drop 0 = dktX0_laySizes_0 := by decide +kernel
theorem dksX0_laySizes_1 : cX0_laySizes.data.toList.drop 24 = dktX0_laySizes_1 := dk_seg dksX0_laySizes_0 24 rfl rfl
theorem dksX0_laySizes_2 : cX0_laySizes.data.toList.drop 48 = dktX0_laySizes_2 := dk_seg dksX0_laySizes_1 24 rfl rfl
theorem dX0_laySizes_0 : decode cX0_laySizes 0 = .ok (.iconst 0, 1) := dk_3 (dk_at dksX0_laySizes_0 0 rfl rfl)
theorem dX0_laySizes_1 : decode cX0_laySizes 1 = .ok (.istore_n 1, 1) := dk_60 (dk_at dksX0_laySizes_0 1 rfl rfl)
theorem dX0_laySizes_2 : decode cX0_laySizes 2 = .ok (.iload_n 1, 1) := dk_27 (dk_at dksX0_laySizes_0 2 rfl rfl)
theorem dX0_laySizes_3 : decode cX0_laySizes 3 = .ok (.bipush 120, 2) := dk_16 120 (dk_at dksX0_laySizes_0 3 rfl rfl)
theorem dX0_laySizes_5 : decode cX0_laySizes 5 = .ok (.if_icmp .gt 16, 3) := dk_163 0 16 (dk_at dksX0_laySizes_0 5 rfl rfl)
theorem dX0_laySizes_8 : decode cX0_laySizes 8 = .ok (.aload_n 0, 1) := dk_42 (dk_at dksX0_laySizes_0 8 rfl rfl)
theorem dX0_laySizes_9 : decode cX0_laySizes 9 = .ok (.getfield 37, 3) := dk_180 0 37 (dk_at dksX0_laySizes_0 9 rfl rfl)
theorem dX0_laySizes_12 : decode cX0_laySizes 12 = .ok (.iload_n 1, 1) := dk_27 (dk_at dksX0_laySizes_0 12 rfl rfl)
theorem dX0_laySizes_13 : decode cX0_laySizes 13 = .ok (.iconst 0, 1) := dk_3 (dk_at dksX0_laySizes_0 13 rfl rfl)
theorem dX0_laySizes_14 : decode cX0_laySizes 14 = .ok (.iastore, 1) := dk_79 (dk_at dksX0_laySizes_0 14 rfl rfl)
theorem dX0_laySizes_15 : decode cX0_laySizes 15 = .ok (.iinc 1 1, 3) := dk_132 1 1 (dk_at dksX0_laySizes_0 15 rfl rfl)
theorem dX0_laySizes_18 : decode cX0_laySizes 18 = .ok (.goto (-16), 3) := dk_167 255 240 (dk_at dksX0_laySizes_0 18 rfl rfl)
theorem dX0_laySizes_21 : decode cX0_laySizes 21 = .ok (.iconst 0, 1) := dk_3 (dk_at dksX0_laySizes_0 21 rfl rfl)
theorem dX0_laySizes_22 : decode cX0_laySizes 22 = .ok (.istore_n 1, 1) := dk_60 (dk_at dksX0_laySizes_0 22 rfl rfl)
theorem dX0_laySizes_23 : decode cX0_laySizes 23 = .ok (.iload_n 1, 1) := dk_27 (dk_at dksX0_laySizes_0 23 rfl rfl)
theorem dX0_laySizes_24 : decode cX0_laySizes 24 = .ok (.aload_n 0, 1) := dk_42 (dk_at dksX0_laySizes_1 0 rfl rfl)
theorem dX0_laySizes_25 : decode cX0_laySizes 25 = .ok (.getfield 23, 3) := dk_180 0 23 (dk_at dksX0_laySizes_1 1 rfl rfl)
theorem dX0_laySizes_28 : decode cX0_laySizes 28 = .ok (.getfield 118, 3) := dk_180 0 118 (dk_at dksX0_laySizes_1 4 rfl rfl)
theorem dX0_laySizes_31 : decode cX0_laySizes 31 = .ok (.if_icmp .ge 39, 3) := dk_162 0 39 (dk_at dksX0_laySizes_1 7 rfl rfl)
theorem dX0_laySizes_34 : decode cX0_laySizes 34 = .ok (.aload_n 0, 1) := dk_42 (dk_at dksX0_laySizes_1 10 rfl rfl)
theorem dX0_laySizes_35 : decode cX0_laySizes 35 = .ok (.getfield 37, 3) := dk_180 0 37 (dk_at dksX0_laySizes_1 11 rfl rfl)
theorem dX0_laySizes_38 : decode cX0_laySizes 38 = .ok (.aload_n 0, 1) := dk_42 (dk_at dksX0_laySizes_1 14 rfl rfl)
theorem dX0_laySizes_39 : decode cX0_laySizes 39 = .ok (.getfield 23, 3) := dk_180 0 23 (dk_at dksX0_laySizes_1 15 rfl rfl)
theorem dX0_laySizes_42 : decode cX0_laySizes 42 = .ok (.getfield 160, 3) := dk_180 0 160 (dk_at dksX0_laySizes_1 18 rfl rfl)
theorem dX0_laySizes_45 : decode cX0_laySizes 45 = .ok (.iload_n 1, 1) := dk_27 (dk_at dksX0_laySizes_1 21 rfl rfl)
theorem dX0_laySizes_46 : decode cX0_laySizes 46 = .ok (.iaload, 1) := dk_46 (dk_at dksX0_laySizes_1 22 rfl rfl)
theorem dX0_laySizes_47 : decode cX0_laySizes 47 = .ok (.dup2, 1) := dk_92 (dk_at dksX0_laySizes_1 23 rfl rfl)
theorem dX0_laySizes_48 : decode cX0_laySizes 48 = .ok (.iaload, 1) := dk_46 (dk_at dksX0_laySizes_2 0 rfl rfl)
theorem dX0_laySizes_49 : decode cX0_laySizes 49 = .ok (.aload_n 0, 1) := dk_42 (dk_at dksX0_laySizes_2 1 rfl rfl)
theorem dX0_laySizes_50 : decode cX0_laySizes 50 = .ok (.iload_n 1, 1) := dk_27 (dk_at dksX0_laySizes_2 2 rfl rfl)
theorem dX0_laySizes_51 : decode cX0_laySizes 51 = .ok (.invokevirtual 188, 3) := dk_182 0 188 (dk_at dksX0_laySizes_2 3 rfl rfl)
theorem dX0_laySizes_54 : decode cX0_laySizes 54 = .ok (.ifCond .eq 7, 3) := dk_153 0 7 (dk_at dksX0_laySizes_2 6 rfl rfl)
theorem dX0_laySizes_57 : decode cX0_laySizes 57 = .ok (.iconst 1, 1) := dk_4 (dk_at dksX0_laySizes_2 9 rfl rfl)
theorem dX0_laySizes_58 : decode cX0_laySizes 58 = .ok (.goto 4, 3) := dk_167 0 4 (dk_at dksX0_laySizes_2 10 rfl rfl)
theorem dX0_laySizes_61 : decode cX0_laySizes 61 = .ok (.iconst 0, 1) := dk_3 (dk_at dksX0_laySizes_2 13 rfl rfl)
theorem dX0_laySizes_62 : decode cX0_laySizes 62 = .ok (.iadd, 1) := dk_96 (dk_at dksX0_laySizes_2 14 rfl rfl)
theorem dX0_laySizes_63 : decode cX0_laySizes 63 = .ok (.iastore, 1) := dk_79 (dk_at dksX0_laySizes_2 15 rfl rfl)
theorem dX0_laySizes_64 : decode cX0_laySizes 64 = .ok (.iinc 1 1, 3) := dk_132 1 1 (dk_at dksX0_laySizes_2 16 rfl rfl)
theorem dX0_laySizes_67 : decode cX0_laySizes 67 = .ok (.goto (-44), 3) := dk_167 255 212 (dk_at dksX0_laySizes_2 19 rfl rfl)
theorem dX0_laySizes_70 : decode cX0_laySizes 70 = .ok (.return_, 1) := dk_177 (dk_at dksX0_laySizes_2 22 rfl rfl)
abbrev cX0_ways : ByteArray := prog_1_method_32_code
def yX0_ways : MethodName := ⟨RX0, "ways", "(III)J"⟩
def dkwX0_ways_5 : List UInt8 := [79, 132, 6, 1, 167, 255, 174, 22, 4, 173]
abbrev dktX0_ways_5 : List UInt8 := dkwX0_ways_5 ++ []
def dkwX0_ways_4 : List UInt8 := [28, 4, 100, 29, 21, 6, 96, 182, 0, 201, 105, 97, 55, 4, 42, 180, 0, 37, 21, 6, 92, 46, 4, 96]
abbrev dktX0_ways_4 : List UInt8 := dkwX0_ways_4 ++ dktX0_ways_5
def dkwX0_ways_3 : List UInt8 := [42, 180, 0, 37, 21, 6, 92, 46, 4, 100, 79, 22, 4, 21, 7, 133, 21, 6, 133, 105, 42, 27, 4, 100]
abbrev dktX0_ways_3 : List UInt8 := dkwX0_ways_3 ++ dktX0_ways_4
def dkwX0_ways_2 : List UInt8 := [180, 0, 151, 163, 0, 76, 28, 158, 0, 72, 42, 180, 0, 37, 21, 6, 46, 54, 7, 21, 7, 158, 0, 52]
abbrev dktX0_ways_2 : List UInt8 := dkwX0_ways_2 ++ dktX0_ways_3
def dkwX0_ways_1 : List UInt8 := [100, 28, 29, 182, 0, 201, 105, 167, 0, 4, 9, 55, 4, 4, 54, 6, 21, 6, 42, 180, 0, 23]
abbrev dktX0_ways_1 : List UInt8 := dkwX0_ways_1 ++ dktX0_ways_2
def dkwX0_ways_0 : List UInt8 := [27, 154, 0, 13, 28, 154, 0, 7, 10, 167, 0, 4, 9, 173, 28, 27, 162, 0, 18, 29, 133, 42, 27, 4]
abbrev dktX0_ways_0 : List UInt8 := dkwX0_ways_0 ++ dktX0_ways_1
theorem dksX0_ways_0 : cX0_ways.data.toList.drop 0 = dktX0_ways_0 := by decide +kernel
theorem dksX0_ways_1 : cX0_ways.data.toList.drop 24 = dktX0_ways_1 := dk_seg dksX0_ways_0 24 rfl rfl
theorem dksX0_ways_2 : cX0_ways.data.toList.drop 46 = dktX0_ways_2 := dk_seg dksX0_ways_1 22 rfl rfl
theorem dksX0_ways_3 : cX0_ways.data.toList.drop 70 = dktX0_ways_3 := dk_seg dksX0_ways_2 24 rfl rfl
theorem dksX0_ways_4 : cX0_ways.data.toList.drop 94 = dktX0_ways_4 := dk_seg dksX0_ways_3 24 rfl rfl
theorem dksX0_ways_5 : cX0_ways.data.toList.drop 118 = dktX0_ways_5 := dk_seg dksX0_ways_4 24 rfl rfl
theorem dX0_ways_0 : decode cX0_ways 0 = .ok (.iload_n 1, 1) := dk_27 (dk_at dksX0_ways_0 0 rfl rfl)
theorem dX0_ways_1 : decode cX0_ways 1 = .ok (.ifCond .ne 13, 3) := dk_154 0 13 (dk_at dksX0_ways_0 1 rfl rfl)
theorem dX0_ways_4 : decode cX0_ways 4 = .ok (.iload_n 2, 1) := dk_28 (dk_at dksX0_ways_0 4 rfl rfl)
theorem dX0_ways_5 : decode cX0_ways 5 = .ok (.ifCond .ne 7, 3) := dk_154 0 7 (dk_at dksX0_ways_0 5 rfl rfl)
theorem dX0_ways_8 : decode cX0_ways 8 = .ok (.lconst 1, 1) := dk_10 (dk_at dksX0_ways_0 8 rfl rfl)
theorem dX0_ways_9 : decode cX0_ways 9 = .ok (.goto 4, 3) := dk_167 0 4 (dk_at dksX0_ways_0 9 rfl rfl)
theorem dX0_ways_12 : decode cX0_ways 12 = .ok (.lconst 0, 1) := dk_9 (dk_at dksX0_ways_0 12 rfl rfl)
theorem dX0_ways_13 : decode cX0_ways 13 = .ok (.lreturn, 1) := dk_173 (dk_at dksX0_ways_0 13 rfl rfl)
theorem dX0_ways_14 : decode cX0_ways 14 = .ok (.iload_n 2, 1) := dk_28 (dk_at dksX0_ways_0 14 rfl rfl)
theorem dX0_ways_15 : decode cX0_ways 15 = .ok (.iload_n 1, 1) := dk_27 (dk_at dksX0_ways_0 15 rfl rfl)
theorem dX0_ways_16 : decode cX0_ways 16 = .ok (.if_icmp .ge 18, 3) := dk_162 0 18 (dk_at dksX0_ways_0 16 rfl rfl)
theorem dX0_ways_19 : decode cX0_ways 19 = .ok (.iload_n 3, 1) := dk_29 (dk_at dksX0_ways_0 19 rfl rfl)
theorem dX0_ways_20 : decode cX0_ways 20 = .ok (.i2l, 1) := dk_133 (dk_at dksX0_ways_0 20 rfl rfl)
theorem dX0_ways_21 : decode cX0_ways 21 = .ok (.aload_n 0, 1) := dk_42 (dk_at dksX0_ways_0 21 rfl rfl)
theorem dX0_ways_22 : decode cX0_ways 22 = .ok (.iload_n 1, 1) := dk_27 (dk_at dksX0_ways_0 22 rfl rfl)
theorem dX0_ways_23 : decode cX0_ways 23 = .ok (.iconst 1, 1) := dk_4 (dk_at dksX0_ways_0 23 rfl rfl)
theorem dX0_ways_24 : decode cX0_ways 24 = .ok (.isub, 1) := dk_100 (dk_at dksX0_ways_1 0 rfl rfl)
theorem dX0_ways_25 : decode cX0_ways 25 = .ok (.iload_n 2, 1) := dk_28 (dk_at dksX0_ways_1 1 rfl rfl)
theorem dX0_ways_26 : decode cX0_ways 26 = .ok (.iload_n 3, 1) := dk_29 (dk_at dksX0_ways_1 2 rfl rfl)
theorem dX0_ways_27 : decode cX0_ways 27 = .ok (.invokevirtual 201, 3) := dk_182 0 201 (dk_at dksX0_ways_1 3 rfl rfl)
theorem dX0_ways_30 : decode cX0_ways 30 = .ok (.lmul, 1) := dk_105 (dk_at dksX0_ways_1 6 rfl rfl)
theorem dX0_ways_31 : decode cX0_ways 31 = .ok (.goto 4, 3) := dk_167 0 4 (dk_at dksX0_ways_1 7 rfl rfl)
theorem dX0_ways_34 : decode cX0_ways 34 = .ok (.lconst 0, 1) := dk_9 (dk_at dksX0_ways_1 10 rfl rfl)
theorem dX0_ways_35 : decode cX0_ways 35 = .ok (.lstore 4, 2) := dk_55 4 (dk_at dksX0_ways_1 11 rfl rfl)
theorem dX0_ways_37 : decode cX0_ways 37 = .ok (.iconst 1, 1) := dk_4 (dk_at dksX0_ways_1 13 rfl rfl)
theorem dX0_ways_38 : decode cX0_ways 38 = .ok (.istore 6, 2) := dk_54 6 (dk_at dksX0_ways_1 14 rfl rfl)
theorem dX0_ways_40 : decode cX0_ways 40 = .ok (.iload 6, 2) := dk_21 6 (dk_at dksX0_ways_1 16 rfl rfl)
theorem dX0_ways_42 : decode cX0_ways 42 = .ok (.aload_n 0, 1) := dk_42 (dk_at dksX0_ways_1 18 rfl rfl)
theorem dX0_ways_43 : decode cX0_ways 43 = .ok (.getfield 23, 3) := dk_180 0 23 (dk_at dksX0_ways_1 19 rfl rfl)
theorem dX0_ways_46 : decode cX0_ways 46 = .ok (.getfield 151, 3) := dk_180 0 151 (dk_at dksX0_ways_2 0 rfl rfl)
theorem dX0_ways_49 : decode cX0_ways 49 = .ok (.if_icmp .gt 76, 3) := dk_163 0 76 (dk_at dksX0_ways_2 3 rfl rfl)
theorem dX0_ways_52 : decode cX0_ways 52 = .ok (.iload_n 2, 1) := dk_28 (dk_at dksX0_ways_2 6 rfl rfl)
theorem dX0_ways_53 : decode cX0_ways 53 = .ok (.ifCond .le 72, 3) := dk_158 0 72 (dk_at dksX0_ways_2 7 rfl rfl)
theorem dX0_ways_56 : decode cX0_ways 56 = .ok (.aload_n 0, 1) := dk_42 (dk_at dksX0_ways_2 10 rfl rfl)
theorem dX0_ways_57 : decode cX0_ways 57 = .ok (.getfield 37, 3) := dk_180 0 37 (dk_at dksX0_ways_2 11 rfl rfl)
theorem dX0_ways_60 : decode cX0_ways 60 = .ok (.iload 6, 2) := dk_21 6 (dk_at dksX0_ways_2 14 rfl rfl)
theorem dX0_ways_62 : decode cX0_ways 62 = .ok (.iaload, 1) := dk_46 (dk_at dksX0_ways_2 16 rfl rfl)
theorem dX0_ways_63 : decode cX0_ways 63 = .ok (.istore 7, 2) := dk_54 7 (dk_at dksX0_ways_2 17 rfl rfl)
theorem dX0_ways_65 : decode cX0_ways 65 = .ok (.iload 7, 2) := dk_21 7 (dk_at dksX0_ways_2 19 rfl rfl)
theorem dX0_ways_67 : decode cX0_ways 67 = .ok (.ifCond .le 52, 3) := dk_158 0 52 (dk_at dksX0_ways_2 21 rfl rfl)
theorem dX0_ways_70 : decode cX0_ways 70 = .ok (.aload_n 0, 1) := dk_42 (dk_at dksX0_ways_3 0 rfl rfl)
theorem dX0_ways_71 : decode cX0_ways 71 = .ok (.getfield 37, 3) := dk_180 0 37 (dk_at dksX0_ways_3 1 rfl rfl)
theorem dX0_ways_74 : decode cX0_ways 74 = .ok (.iload 6, 2) := dk_21 6 (dk_at dksX0_ways_3 4 rfl rfl)
theorem dX0_ways_76 : decode cX0_ways 76 = .ok (.dup2, 1) := dk_92 (dk_at dksX0_ways_3 6 rfl rfl)
theorem dX0_ways_77 : decode cX0_ways 77 = .ok (.iaload, 1) := dk_46 (dk_at dksX0_ways_3 7 rfl rfl)
theorem dX0_ways_78 : decode cX0_ways 78 = .ok (.iconst 1, 1) := dk_4 (dk_at dksX0_ways_3 8 rfl rfl)
theorem dX0_ways_79 : decode cX0_ways 79 = .ok (.isub, 1) := dk_100 (dk_at dksX0_ways_3 9 rfl rfl)
theorem dX0_ways_80 : decode cX0_ways 80 = .ok (.iastore, 1) := dk_79 (dk_at dksX0_ways_3 10 rfl rfl)
theorem dX0_ways_81 : decode cX0_ways 81 = .ok (.lload 4, 2) := dk_22 4 (dk_at dksX0_ways_3 11 rfl rfl)
theorem dX0_ways_83 : decode cX0_ways 83 = .ok (.iload 7, 2) := dk_21 7 (dk_at dksX0_ways_3 13 rfl rfl)
theorem dX0_ways_85 : decode cX0_ways 85 = .ok (.i2l, 1) := dk_133 (dk_at dksX0_ways_3 15 rfl rfl)
theorem dX0_ways_86 : decode cX0_ways 86 = .ok (.iload 6, 2) := dk_21 6 (dk_at dksX0_ways_3 16 rfl rfl)
theorem dX0_ways_88 : decode cX0_ways 88 = .ok (.i2l, 1) := dk_133 (dk_at dksX0_ways_3 18 rfl rfl)
theorem dX0_ways_89 : decode cX0_ways 89 = .ok (.lmul, 1) := dk_105 (dk_at dksX0_ways_3 19 rfl rfl)
theorem dX0_ways_90 : decode cX0_ways 90 = .ok (.aload_n 0, 1) := dk_42 (dk_at dksX0_ways_3 20 rfl rfl)
theorem dX0_ways_91 : decode cX0_ways 91 = .ok (.iload_n 1, 1) := dk_27 (dk_at dksX0_ways_3 21 rfl rfl)
theorem dX0_ways_92 : decode cX0_ways 92 = .ok (.iconst 1, 1) := dk_4 (dk_at dksX0_ways_3 22 rfl rfl)
theorem dX0_ways_93 : decode cX0_ways 93 = .ok (.isub, 1) := dk_100 (dk_at dksX0_ways_3 23 rfl rfl)
theorem dX0_ways_94 : decode cX0_ways 94 = .ok (.iload_n 2, 1) := dk_28 (dk_at dksX0_ways_4 0 rfl rfl)
theorem dX0_ways_95 : decode cX0_ways 95 = .ok (.iconst 1, 1) := dk_4 (dk_at dksX0_ways_4 1 rfl rfl)
theorem dX0_ways_96 : decode cX0_ways 96 = .ok (.isub, 1) := dk_100 (dk_at dksX0_ways_4 2 rfl rfl)
theorem dX0_ways_97 : decode cX0_ways 97 = .ok (.iload_n 3, 1) := dk_29 (dk_at dksX0_ways_4 3 rfl rfl)
theorem dX0_ways_98 : decode cX0_ways 98 = .ok (.iload 6, 2) := dk_21 6 (dk_at dksX0_ways_4 4 rfl rfl)
theorem dX0_ways_100 : decode cX0_ways 100 = .ok (.iadd, 1) := dk_96 (dk_at dksX0_ways_4 6 rfl rfl)
theorem dX0_ways_101 : decode cX0_ways 101 = .ok (.invokevirtual 201, 3) := dk_182 0 201 (dk_at dksX0_ways_4 7 rfl rfl)
theorem dX0_ways_104 : decode cX0_ways 104 = .ok (.lmul, 1) := dk_105 (dk_at dksX0_ways_4 10 rfl rfl)
theorem dX0_ways_105 : decode cX0_ways 105 = .ok (.ladd, 1) := dk_97 (dk_at dksX0_ways_4 11 rfl rfl)
theorem dX0_ways_106 : decode cX0_ways 106 = .ok (.lstore 4, 2) := dk_55 4 (dk_at dksX0_ways_4 12 rfl rfl)
theorem dX0_ways_108 : decode cX0_ways 108 = .ok (.aload_n 0, 1) := dk_42 (dk_at dksX0_ways_4 14 rfl rfl)
theorem dX0_ways_109 : decode cX0_ways 109 = .ok (.getfield 37, 3) := dk_180 0 37 (dk_at dksX0_ways_4 15 rfl rfl)
theorem dX0_ways_112 : decode cX0_ways 112 = .ok (.iload 6, 2) := dk_21 6 (dk_at dksX0_ways_4 18 rfl rfl)
theorem dX0_ways_114 : decode cX0_ways 114 = .ok (.dup2, 1) := dk_92 (dk_at dksX0_ways_4 20 rfl rfl)
theorem dX0_ways_115 : decode cX0_ways 115 = .ok (.iaload, 1) := dk_46 (dk_at dksX0_ways_4 21 rfl rfl)
theorem dX0_ways_116 : decode cX0_ways 116 = .ok (.iconst 1, 1) := dk_4 (dk_at dksX0_ways_4 22 rfl rfl)
theorem dX0_ways_117 : decode cX0_ways 117 = .ok (.iadd, 1) := dk_96 (dk_at dksX0_ways_4 23 rfl rfl)
theorem dX0_ways_118 : decode cX0_ways 118 = .ok (.iastore, 1) := dk_79 (dk_at dksX0_ways_5 0 rfl rfl)
theorem dX0_ways_119 : decode cX0_ways 119 = .ok (.iinc 6 1, 3) := dk_132 6 1 (dk_at dksX0_ways_5 1 rfl rfl)
theorem dX0_ways_122 : decode cX0_ways 122 = .ok (.goto (-82), 3) := dk_167 255 174 (dk_at dksX0_ways_5 4 rfl rfl)
theorem dX0_ways_125 : decode cX0_ways 125 = .ok (.lload 4, 2) := dk_22 4 (dk_at dksX0_ways_5 7 rfl rfl)
theorem dX0_ways_127 : decode cX0_ways 127 = .ok (.lreturn, 1) := dk_173 (dk_at dksX0_ways_5 9 rfl rfl)
abbrev cX0_lowest : ByteArray := prog_1_method_3_code
def yX0_lowest : MethodName := ⟨RX0, "lowest", "(JJI)J"⟩
def dkwX0_lowest_1 : List UInt8 := [22, 9, 55, 7, 167, 255, 234, 21, 4, 154, 0, 10, 30, 22, 5, 109, 167, 0, 7, 32, 22, 5, 109, 173]
abbrev dktX0_lowest_1 : List UInt8 := dkwX0_lowest_1 ++ []
def dkwX0_lowest_0 : List UInt8 := [30, 55, 5, 32, 55, 7, 22, 7, 9, 148, 153, 0, 21, 22, 5, 22, 7, 113, 55, 9, 22, 7, 55, 5]
abbrev dktX0_lowest_0 : List UInt8 := dkwX0_lowest_0 ++ dktX0_lowest_1
theorem dksX0_lowest_0 : cX0_lowest.data.toList.drop 0 = dktX0_lowest_0 := by decide +kernel
theorem dksX0_lowest_1 : cX0_lowest.data.toList.drop 24 = dktX0_lowest_1 := dk_seg dksX0_lowest_0 24 rfl rfl
theorem dX0_lowest_0 : decode cX0_lowest 0 = .ok (.lload_n 0, 1) := dk_30 (dk_at dksX0_lowest_0 0 rfl rfl)
theorem dX0_lowest_1 : decode cX0_lowest 1 = .ok (.lstore 5, 2) := dk_55 5 (dk_at dksX0_lowest_0 1 rfl rfl)
theorem dX0_lowest_3 : decode cX0_lowest 3 = .ok (.lload_n 2, 1) := dk_32 (dk_at dksX0_lowest_0 3 rfl rfl)
theorem dX0_lowest_4 : decode cX0_lowest 4 = .ok (.lstore 7, 2) := dk_55 7 (dk_at dksX0_lowest_0 4 rfl rfl)
theorem dX0_lowest_6 : decode cX0_lowest 6 = .ok (.lload 7, 2) := dk_22 7 (dk_at dksX0_lowest_0 6 rfl rfl)
theorem dX0_lowest_8 : decode cX0_lowest 8 = .ok (.lconst 0, 1) := dk_9 (dk_at dksX0_lowest_0 8 rfl rfl)
theorem dX0_lowest_9 : decode cX0_lowest 9 = .ok (.lcmp, 1) := dk_148 (dk_at dksX0_lowest_0 9 rfl rfl)
theorem dX0_lowest_10 : decode cX0_lowest 10 = .ok (.ifCond .eq 21, 3) := dk_153 0 21 (dk_at dksX0_lowest_0 10 rfl rfl)
theorem dX0_lowest_13 : decode cX0_lowest 13 = .ok (.lload 5, 2) := dk_22 5 (dk_at dksX0_lowest_0 13 rfl rfl)
theorem dX0_lowest_15 : decode cX0_lowest 15 = .ok (.lload 7, 2) := dk_22 7 (dk_at dksX0_lowest_0 15 rfl rfl)
theorem dX0_lowest_17 : decode cX0_lowest 17 = .ok (.lrem, 1) := dk_113 (dk_at dksX0_lowest_0 17 rfl rfl)
theorem dX0_lowest_18 : decode cX0_lowest 18 = .ok (.lstore 9, 2) := dk_55 9 (dk_at dksX0_lowest_0 18 rfl rfl)
theorem dX0_lowest_20 : decode cX0_lowest 20 = .ok (.lload 7, 2) := dk_22 7 (dk_at dksX0_lowest_0 20 rfl rfl)
theorem dX0_lowest_22 : decode cX0_lowest 22 = .ok (.lstore 5, 2) := dk_55 5 (dk_at dksX0_lowest_0 22 rfl rfl)
theorem dX0_lowest_24 : decode cX0_lowest 24 = .ok (.lload 9, 2) := dk_22 9 (dk_at dksX0_lowest_1 0 rfl rfl)
theorem dX0_lowest_26 : decode cX0_lowest 26 = .ok (.lstore 7, 2) := dk_55 7 (dk_at dksX0_lowest_1 2 rfl rfl)
theorem dX0_lowest_28 : decode cX0_lowest 28 = .ok (.goto (-22), 3) := dk_167 255 234 (dk_at dksX0_lowest_1 4 rfl rfl)
theorem dX0_lowest_31 : decode cX0_lowest 31 = .ok (.iload 4, 2) := dk_21 4 (dk_at dksX0_lowest_1 7 rfl rfl)
theorem dX0_lowest_33 : decode cX0_lowest 33 = .ok (.ifCond .ne 10, 3) := dk_154 0 10 (dk_at dksX0_lowest_1 9 rfl rfl)
theorem dX0_lowest_36 : decode cX0_lowest 36 = .ok (.lload_n 0, 1) := dk_30 (dk_at dksX0_lowest_1 12 rfl rfl)
theorem dX0_lowest_37 : decode cX0_lowest 37 = .ok (.lload 5, 2) := dk_22 5 (dk_at dksX0_lowest_1 13 rfl rfl)
theorem dX0_lowest_39 : decode cX0_lowest 39 = .ok (.ldiv, 1) := dk_109 (dk_at dksX0_lowest_1 15 rfl rfl)
theorem dX0_lowest_40 : decode cX0_lowest 40 = .ok (.goto 7, 3) := dk_167 0 7 (dk_at dksX0_lowest_1 16 rfl rfl)
theorem dX0_lowest_43 : decode cX0_lowest 43 = .ok (.lload_n 2, 1) := dk_32 (dk_at dksX0_lowest_1 19 rfl rfl)
theorem dX0_lowest_44 : decode cX0_lowest 44 = .ok (.lload 5, 2) := dk_22 5 (dk_at dksX0_lowest_1 20 rfl rfl)
theorem dX0_lowest_46 : decode cX0_lowest 46 = .ok (.ldiv, 1) := dk_109 (dk_at dksX0_lowest_1 22 rfl rfl)
theorem dX0_lowest_47 : decode cX0_lowest 47 = .ok (.lreturn, 1) := dk_173 (dk_at dksX0_lowest_1 23 rfl rfl)
abbrev cX0_sheet : ByteArray := prog_1_method_37_code
def yX0_sheet : MethodName := ⟨RX0, "sheet", "(IJI)I"⟩
def dkwX0_sheet_6 : List UInt8 := [180, 0, 115, 4, 96, 181, 0, 115, 42, 180, 0, 115, 172]
abbrev dktX0_sheet_6 : List UInt8 := dkwX0_sheet_6 ++ []
def dkwX0_sheet_5 : List UInt8 := [180, 0, 214, 16, 12, 164, 0, 6, 16, 152, 172, 42, 180, 0, 48, 42, 180, 0, 115, 21, 4, 79, 42, 89]
abbrev dktX0_sheet_5 : List UInt8 := dkwX0_sheet_5 ++ dktX0_sheet_6
def dkwX0_sheet_4 : List UInt8 := [167, 255, 223, 42, 180, 0, 45, 42, 180, 0, 115, 27, 79, 42, 42, 180, 0, 115, 4, 96, 182, 0, 224, 42]
abbrev dktX0_sheet_4 : List UInt8 := dkwX0_sheet_4 ++ dktX0_sheet_5
def dkwX0_sheet_3 : List UInt8 := [180, 0, 115, 50, 21, 5, 32, 16, 8, 21, 5, 104, 123, 20, 0, 93, 127, 136, 79, 132, 5, 1]
abbrev dktX0_sheet_3 : List UInt8 := dkwX0_sheet_3 ++ dktX0_sheet_4
def dkwX0_sheet_2 : List UInt8 := [180, 0, 115, 8, 160, 0, 6, 16, 152, 172, 3, 54, 5, 21, 5, 27, 162, 0, 33, 42, 180, 0, 42, 42]
abbrev dktX0_sheet_2 : List UInt8 := dkwX0_sheet_2 ++ dktX0_sheet_3
def dkwX0_sheet_1 : List UInt8 := [27, 104, 125, 9, 148, 153, 0, 6, 16, 154, 172, 42, 27, 32, 182, 0, 220, 154, 0, 6, 16, 155, 172, 42]
abbrev dktX0_sheet_1 : List UInt8 := dkwX0_sheet_1 ++ dktX0_sheet_2
def dkwX0_sheet_0 : List UInt8 := [27, 4, 16, 6, 184, 0, 89, 153, 0, 25, 21, 4, 3, 16, 6, 184, 0, 89, 153, 0, 14, 32, 16, 8]
abbrev dktX0_sheet_0 : List UInt8 := dkwX0_sheet_0 ++ dktX0_sheet_1
theorem dksX0_sheet_0 : cX0_sheet.data.toList.drop 0 = dktX0_sheet_0 := by decide +kernel
theorem dksX0_sheet_1 : cX0_sheet.data.toList.drop 24 = dktX0_sheet_1 := dk_seg dksX0_sheet_0 24 rfl rfl
theorem dksX0_sheet_2 : cX0_sheet.data.toList.drop 48 = dktX0_sheet_2 := dk_seg dksX0_sheet_1 24 rfl rfl
theorem dksX0_sheet_3 : cX0_sheet.data.toList.drop 72 = dktX0_sheet_3 := dk_seg dksX0_sheet_2 24 rfl rfl
theorem dksX0_sheet_4 : cX0_sheet.data.toList.drop 94 = dktX0_sheet_4 := dk_seg dksX0_sheet_3 22 rfl rfl
theorem dksX0_sheet_5 : cX0_sheet.data.toList.drop 118 = dktX0_sheet_5 := dk_seg dksX0_sheet_4 24 rfl rfl
theorem dksX0_sheet_6 : cX0_sheet.data.toList.drop 142 = dktX0_sheet_6 := dk_seg dksX0_sheet_5 24 rfl rfl
theorem dX0_sheet_0 : decode cX0_sheet 0 = .ok (.iload_n 1, 1) := dk_27 (dk_at dksX0_sheet_0 0 rfl rfl)
theorem dX0_sheet_1 : decode cX0_sheet 1 = .ok (.iconst 1, 1) := dk_4 (dk_at dksX0_sheet_0 1 rfl rfl)
theorem dX0_sheet_2 : decode cX0_sheet 2 = .ok (.bipush 6, 2) := dk_16 6 (dk_at dksX0_sheet_0 2 rfl rfl)
theorem dX0_sheet_4 : decode cX0_sheet 4 = .ok (.invokestatic 89, 3) := dk_184 0 89 (dk_at dksX0_sheet_0 4 rfl rfl)
theorem dX0_sheet_7 : decode cX0_sheet 7 = .ok (.ifCond .eq 25, 3) := dk_153 0 25 (dk_at dksX0_sheet_0 7 rfl rfl)
theorem dX0_sheet_10 : decode cX0_sheet 10 = .ok (.iload 4, 2) := dk_21 4 (dk_at dksX0_sheet_0 10 rfl rfl)
theorem dX0_sheet_12 : decode cX0_sheet 12 = .ok (.iconst 0, 1) := dk_3 (dk_at dksX0_sheet_0 12 rfl rfl)
theorem dX0_sheet_13 : decode cX0_sheet 13 = .ok (.bipush 6, 2) := dk_16 6 (dk_at dksX0_sheet_0 13 rfl rfl)
theorem dX0_sheet_15 : decode cX0_sheet 15 = .ok (.invokestatic 89, 3) := dk_184 0 89 (dk_at dksX0_sheet_0 15 rfl rfl)
theorem dX0_sheet_18 : decode cX0_sheet 18 = .ok (.ifCond .eq 14, 3) := dk_153 0 14 (dk_at dksX0_sheet_0 18 rfl rfl)
theorem dX0_sheet_21 : decode cX0_sheet 21 = .ok (.lload_n 2, 1) := dk_32 (dk_at dksX0_sheet_0 21 rfl rfl)
theorem dX0_sheet_22 : decode cX0_sheet 22 = .ok (.bipush 8, 2) := dk_16 8 (dk_at dksX0_sheet_0 22 rfl rfl)
theorem dX0_sheet_24 : decode cX0_sheet 24 = .ok (.iload_n 1, 1) := dk_27 (dk_at dksX0_sheet_1 0 rfl rfl)
theorem dX0_sheet_25 : decode cX0_sheet 25 = .ok (.imul, 1) := dk_104 (dk_at dksX0_sheet_1 1 rfl rfl)
theorem dX0_sheet_26 : decode cX0_sheet 26 = .ok (.lushr, 1) := dk_125 (dk_at dksX0_sheet_1 2 rfl rfl)
theorem dX0_sheet_27 : decode cX0_sheet 27 = .ok (.lconst 0, 1) := dk_9 (dk_at dksX0_sheet_1 3 rfl rfl)
theorem dX0_sheet_28 : decode cX0_sheet 28 = .ok (.lcmp, 1) := dk_148 (dk_at dksX0_sheet_1 4 rfl rfl)
theorem dX0_sheet_29 : decode cX0_sheet 29 = .ok (.ifCond .eq 6, 3) := dk_153 0 6 (dk_at dksX0_sheet_1 5 rfl rfl)
theorem dX0_sheet_32 : decode cX0_sheet 32 = .ok (.bipush (-102), 2) := dk_16 154 (dk_at dksX0_sheet_1 8 rfl rfl)
theorem dX0_sheet_34 : decode cX0_sheet 34 = .ok (.ireturn, 1) := dk_172 (dk_at dksX0_sheet_1 10 rfl rfl)
theorem dX0_sheet_35 : decode cX0_sheet 35 = .ok (.aload_n 0, 1) := dk_42 (dk_at dksX0_sheet_1 11 rfl rfl)
theorem dX0_sheet_36 : decode cX0_sheet 36 = .ok (.iload_n 1, 1) := dk_27 (dk_at dksX0_sheet_1 12 rfl rfl)
theorem dX0_sheet_37 : decode cX0_sheet 37 = .ok (.lload_n 2, 1) := dk_32 (dk_at dksX0_sheet_1 13 rfl rfl)
theorem dX0_sheet_38 : decode cX0_sheet 38 = .ok (.invokevirtual 220, 3) := dk_182 0 220 (dk_at dksX0_sheet_1 14 rfl rfl)
theorem dX0_sheet_41 : decode cX0_sheet 41 = .ok (.ifCond .ne 6, 3) := dk_154 0 6 (dk_at dksX0_sheet_1 17 rfl rfl)
theorem dX0_sheet_44 : decode cX0_sheet 44 = .ok (.bipush (-101), 2) := dk_16 155 (dk_at dksX0_sheet_1 20 rfl rfl)
theorem dX0_sheet_46 : decode cX0_sheet 46 = .ok (.ireturn, 1) := dk_172 (dk_at dksX0_sheet_1 22 rfl rfl)
theorem dX0_sheet_47 : decode cX0_sheet 47 = .ok (.aload_n 0, 1) := dk_42 (dk_at dksX0_sheet_1 23 rfl rfl)
theorem dX0_sheet_48 : decode cX0_sheet 48 = .ok (.getfield 115, 3) := dk_180 0 115 (dk_at dksX0_sheet_2 0 rfl rfl)
theorem dX0_sheet_51 : decode cX0_sheet 51 = .ok (.iconst 5, 1) := dk_8 (dk_at dksX0_sheet_2 3 rfl rfl)
theorem dX0_sheet_52 : decode cX0_sheet 52 = .ok (.if_icmp .ne 6, 3) := dk_160 0 6 (dk_at dksX0_sheet_2 4 rfl rfl)
theorem dX0_sheet_55 : decode cX0_sheet 55 = .ok (.bipush (-104), 2) := dk_16 152 (dk_at dksX0_sheet_2 7 rfl rfl)
theorem dX0_sheet_57 : decode cX0_sheet 57 = .ok (.ireturn, 1) := dk_172 (dk_at dksX0_sheet_2 9 rfl rfl)
theorem dX0_sheet_58 : decode cX0_sheet 58 = .ok (.iconst 0, 1) := dk_3 (dk_at dksX0_sheet_2 10 rfl rfl)
theorem dX0_sheet_59 : decode cX0_sheet 59 = .ok (.istore 5, 2) := dk_54 5 (dk_at dksX0_sheet_2 11 rfl rfl)
theorem dX0_sheet_61 : decode cX0_sheet 61 = .ok (.iload 5, 2) := dk_21 5 (dk_at dksX0_sheet_2 13 rfl rfl)
theorem dX0_sheet_63 : decode cX0_sheet 63 = .ok (.iload_n 1, 1) := dk_27 (dk_at dksX0_sheet_2 15 rfl rfl)
theorem dX0_sheet_64 : decode cX0_sheet 64 = .ok (.if_icmp .ge 33, 3) := dk_162 0 33 (dk_at dksX0_sheet_2 16 rfl rfl)
theorem dX0_sheet_67 : decode cX0_sheet 67 = .ok (.aload_n 0, 1) := dk_42 (dk_at dksX0_sheet_2 19 rfl rfl)
theorem dX0_sheet_68 : decode cX0_sheet 68 = .ok (.getfield 42, 3) := dk_180 0 42 (dk_at dksX0_sheet_2 20 rfl rfl)
theorem dX0_sheet_71 : decode cX0_sheet 71 = .ok (.aload_n 0, 1) := dk_42 (dk_at dksX0_sheet_2 23 rfl rfl)
theorem dX0_sheet_72 : decode cX0_sheet 72 = .ok (.getfield 115, 3) := dk_180 0 115 (dk_at dksX0_sheet_3 0 rfl rfl)
theorem dX0_sheet_75 : decode cX0_sheet 75 = .ok (.aaload, 1) := dk_50 (dk_at dksX0_sheet_3 3 rfl rfl)
theorem dX0_sheet_76 : decode cX0_sheet 76 = .ok (.iload 5, 2) := dk_21 5 (dk_at dksX0_sheet_3 4 rfl rfl)
theorem dX0_sheet_78 : decode cX0_sheet 78 = .ok (.lload_n 2, 1) := dk_32 (dk_at dksX0_sheet_3 6 rfl rfl)
theorem dX0_sheet_79 : decode cX0_sheet 79 = .ok (.bipush 8, 2) := dk_16 8 (dk_at dksX0_sheet_3 7 rfl rfl)
theorem dX0_sheet_81 : decode cX0_sheet 81 = .ok (.iload 5, 2) := dk_21 5 (dk_at dksX0_sheet_3 9 rfl rfl)
theorem dX0_sheet_83 : decode cX0_sheet 83 = .ok (.imul, 1) := dk_104 (dk_at dksX0_sheet_3 11 rfl rfl)
theorem dX0_sheet_84 : decode cX0_sheet 84 = .ok (.lshr, 1) := dk_123 (dk_at dksX0_sheet_3 12 rfl rfl)
theorem dX0_sheet_85 : decode cX0_sheet 85 = .ok (.ldc2_w 93, 3) := dk_20 0 93 (dk_at dksX0_sheet_3 13 rfl rfl)
theorem dX0_sheet_88 : decode cX0_sheet 88 = .ok (.land, 1) := dk_127 (dk_at dksX0_sheet_3 16 rfl rfl)
theorem dX0_sheet_89 : decode cX0_sheet 89 = .ok (.l2i, 1) := dk_136 (dk_at dksX0_sheet_3 17 rfl rfl)
theorem dX0_sheet_90 : decode cX0_sheet 90 = .ok (.iastore, 1) := dk_79 (dk_at dksX0_sheet_3 18 rfl rfl)
theorem dX0_sheet_91 : decode cX0_sheet 91 = .ok (.iinc 5 1, 3) := dk_132 5 1 (dk_at dksX0_sheet_3 19 rfl rfl)
theorem dX0_sheet_94 : decode cX0_sheet 94 = .ok (.goto (-33), 3) := dk_167 255 223 (dk_at dksX0_sheet_4 0 rfl rfl)
theorem dX0_sheet_97 : decode cX0_sheet 97 = .ok (.aload_n 0, 1) := dk_42 (dk_at dksX0_sheet_4 3 rfl rfl)
theorem dX0_sheet_98 : decode cX0_sheet 98 = .ok (.getfield 45, 3) := dk_180 0 45 (dk_at dksX0_sheet_4 4 rfl rfl)
theorem dX0_sheet_101 : decode cX0_sheet 101 = .ok (.aload_n 0, 1) := dk_42 (dk_at dksX0_sheet_4 7 rfl rfl)
theorem dX0_sheet_102 : decode cX0_sheet 102 = .ok (.getfield 115, 3) := dk_180 0 115 (dk_at dksX0_sheet_4 8 rfl rfl)
theorem dX0_sheet_105 : decode cX0_sheet 105 = .ok (.iload_n 1, 1) := dk_27 (dk_at dksX0_sheet_4 11 rfl rfl)
theorem dX0_sheet_106 : decode cX0_sheet 106 = .ok (.iastore, 1) := dk_79 (dk_at dksX0_sheet_4 12 rfl rfl)
theorem dX0_sheet_107 : decode cX0_sheet 107 = .ok (.aload_n 0, 1) := dk_42 (dk_at dksX0_sheet_4 13 rfl rfl)
theorem dX0_sheet_108 : decode cX0_sheet 108 = .ok (.aload_n 0, 1) := dk_42 (dk_at dksX0_sheet_4 14 rfl rfl)
theorem dX0_sheet_109 : decode cX0_sheet 109 = .ok (.getfield 115, 3) := dk_180 0 115 (dk_at dksX0_sheet_4 15 rfl rfl)
theorem dX0_sheet_112 : decode cX0_sheet 112 = .ok (.iconst 1, 1) := dk_4 (dk_at dksX0_sheet_4 18 rfl rfl)
theorem dX0_sheet_113 : decode cX0_sheet 113 = .ok (.iadd, 1) := dk_96 (dk_at dksX0_sheet_4 19 rfl rfl)
theorem dX0_sheet_114 : decode cX0_sheet 114 = .ok (.invokevirtual 224, 3) := dk_182 0 224 (dk_at dksX0_sheet_4 20 rfl rfl)
theorem dX0_sheet_117 : decode cX0_sheet 117 = .ok (.aload_n 0, 1) := dk_42 (dk_at dksX0_sheet_4 23 rfl rfl)
theorem dX0_sheet_118 : decode cX0_sheet 118 = .ok (.getfield 214, 3) := dk_180 0 214 (dk_at dksX0_sheet_5 0 rfl rfl)
theorem dX0_sheet_121 : decode cX0_sheet 121 = .ok (.bipush 12, 2) := dk_16 12 (dk_at dksX0_sheet_5 3 rfl rfl)
theorem dX0_sheet_123 : decode cX0_sheet 123 = .ok (.if_icmp .le 6, 3) := dk_164 0 6 (dk_at dksX0_sheet_5 5 rfl rfl)
theorem dX0_sheet_126 : decode cX0_sheet 126 = .ok (.bipush (-104), 2) := dk_16 152 (dk_at dksX0_sheet_5 8 rfl rfl)
theorem dX0_sheet_128 : decode cX0_sheet 128 = .ok (.ireturn, 1) := dk_172 (dk_at dksX0_sheet_5 10 rfl rfl)
theorem dX0_sheet_129 : decode cX0_sheet 129 = .ok (.aload_n 0, 1) := dk_42 (dk_at dksX0_sheet_5 11 rfl rfl)
theorem dX0_sheet_130 : decode cX0_sheet 130 = .ok (.getfield 48, 3) := dk_180 0 48 (dk_at dksX0_sheet_5 12 rfl rfl)
theorem dX0_sheet_133 : decode cX0_sheet 133 = .ok (.aload_n 0, 1) := dk_42 (dk_at dksX0_sheet_5 15 rfl rfl)
theorem dX0_sheet_134 : decode cX0_sheet 134 = .ok (.getfield 115, 3) := dk_180 0 115 (dk_at dksX0_sheet_5 16 rfl rfl)
theorem dX0_sheet_137 : decode cX0_sheet 137 = .ok (.iload 4, 2) := dk_21 4 (dk_at dksX0_sheet_5 19 rfl rfl)
theorem dX0_sheet_139 : decode cX0_sheet 139 = .ok (.iastore, 1) := dk_79 (dk_at dksX0_sheet_5 21 rfl rfl)
theorem dX0_sheet_140 : decode cX0_sheet 140 = .ok (.aload_n 0, 1) := dk_42 (dk_at dksX0_sheet_5 22 rfl rfl)
theorem dX0_sheet_141 : decode cX0_sheet 141 = .ok (.dup, 1) := dk_89 (dk_at dksX0_sheet_5 23 rfl rfl)
theorem dX0_sheet_142 : decode cX0_sheet 142 = .ok (.getfield 115, 3) := dk_180 0 115 (dk_at dksX0_sheet_6 0 rfl rfl)
theorem dX0_sheet_145 : decode cX0_sheet 145 = .ok (.iconst 1, 1) := dk_4 (dk_at dksX0_sheet_6 3 rfl rfl)
theorem dX0_sheet_146 : decode cX0_sheet 146 = .ok (.iadd, 1) := dk_96 (dk_at dksX0_sheet_6 4 rfl rfl)
theorem dX0_sheet_147 : decode cX0_sheet 147 = .ok (.putfield 115, 3) := dk_181 0 115 (dk_at dksX0_sheet_6 5 rfl rfl)
theorem dX0_sheet_150 : decode cX0_sheet 150 = .ok (.aload_n 0, 1) := dk_42 (dk_at dksX0_sheet_6 8 rfl rfl)
theorem dX0_sheet_151 : decode cX0_sheet 151 = .ok (.getfield 115, 3) := dk_180 0 115 (dk_at dksX0_sheet_6 9 rfl rfl)
theorem dX0_sheet_154 : decode cX0_sheet 154 = .ok (.ireturn, 1) := dk_172 (dk_at dksX0_sheet_6 12 rfl rfl)
abbrev cX0_areChords : ByteArray := prog_1_method_36_code
def yX0_areChords : MethodName := ⟨RX0, "areChords", "(IJ)Z"⟩
def dkwX0_areChords_1 : List UInt8 := [20, 0, 93, 127, 136, 182, 0, 182, 126, 54, 4, 132, 5, 1, 167, 255, 226, 21, 4, 172]
abbrev dktX0_areChords_1 : List UInt8 := dkwX0_areChords_1 ++ []
def dkwX0_areChords_0 : List UInt8 := [4, 54, 4, 3, 54, 5, 21, 5, 27, 162, 0, 30, 21, 4, 42, 32, 16, 8, 21, 5, 104, 123]
abbrev dktX0_areChords_0 : List UInt8 := dkwX0_areChords_0 ++ dktX0_areChords_1
theorem dksX0_areChords_0 : cX0_areChords.data.toList.drop 0 = dktX0_areChords_0 := by decide +kernel
theorem dksX0_areChords_1 : cX0_areChords.data.toList.drop 22 = dktX0_areChords_1 := dk_seg dksX0_areChords_0 22 rfl rfl
theorem dX0_areChords_0 : decode cX0_areChords 0 = .ok (.iconst 1, 1) := dk_4 (dk_at dksX0_areChords_0 0 rfl rfl)
theorem dX0_areChords_1 : decode cX0_areChords 1 = .ok (.istore 4, 2) := dk_54 4 (dk_at dksX0_areChords_0 1 rfl rfl)
theorem dX0_areChords_3 : decode cX0_areChords 3 = .ok (.iconst 0, 1) := dk_3 (dk_at dksX0_areChords_0 3 rfl rfl)
theorem dX0_areChords_4 : decode cX0_areChords 4 = .ok (.istore 5, 2) := dk_54 5 (dk_at dksX0_areChords_0 4 rfl rfl)
theorem dX0_areChords_6 : decode cX0_areChords 6 = .ok (.iload 5, 2) := dk_21 5 (dk_at dksX0_areChords_0 6 rfl rfl)
theorem dX0_areChords_8 : decode cX0_areChords 8 = .ok (.iload_n 1, 1) := dk_27 (dk_at dksX0_areChords_0 8 rfl rfl)
theorem dX0_areChords_9 : decode cX0_areChords 9 = .ok (.if_icmp .ge 30, 3) := dk_162 0 30 (dk_at dksX0_areChords_0 9 rfl rfl)
theorem dX0_areChords_12 : decode cX0_areChords 12 = .ok (.iload 4, 2) := dk_21 4 (dk_at dksX0_areChords_0 12 rfl rfl)
theorem dX0_areChords_14 : decode cX0_areChords 14 = .ok (.aload_n 0, 1) := dk_42 (dk_at dksX0_areChords_0 14 rfl rfl)
theorem dX0_areChords_15 : decode cX0_areChords 15 = .ok (.lload_n 2, 1) := dk_32 (dk_at dksX0_areChords_0 15 rfl rfl)
theorem dX0_areChords_16 : decode cX0_areChords 16 = .ok (.bipush 8, 2) := dk_16 8 (dk_at dksX0_areChords_0 16 rfl rfl)
theorem dX0_areChords_18 : decode cX0_areChords 18 = .ok (.iload 5, 2) := dk_21 5 (dk_at dksX0_areChords_0 18 rfl rfl)
theorem dX0_areChords_20 : decode cX0_areChords 20 = .ok (.imul, 1) := dk_104 (dk_at dksX0_areChords_0 20 rfl rfl)
theorem dX0_areChords_21 : decode cX0_areChords 21 = .ok (.lshr, 1) := dk_123 (dk_at dksX0_areChords_0 21 rfl rfl)
theorem dX0_areChords_22 : decode cX0_areChords 22 = .ok (.ldc2_w 93, 3) := dk_20 0 93 (dk_at dksX0_areChords_1 0 rfl rfl)
theorem dX0_areChords_25 : decode cX0_areChords 25 = .ok (.land, 1) := dk_127 (dk_at dksX0_areChords_1 3 rfl rfl)
theorem dX0_areChords_26 : decode cX0_areChords 26 = .ok (.l2i, 1) := dk_136 (dk_at dksX0_areChords_1 4 rfl rfl)
theorem dX0_areChords_27 : decode cX0_areChords 27 = .ok (.invokevirtual 182, 3) := dk_182 0 182 (dk_at dksX0_areChords_1 5 rfl rfl)
theorem dX0_areChords_30 : decode cX0_areChords 30 = .ok (.iand, 1) := dk_126 (dk_at dksX0_areChords_1 8 rfl rfl)
theorem dX0_areChords_31 : decode cX0_areChords 31 = .ok (.istore 4, 2) := dk_54 4 (dk_at dksX0_areChords_1 9 rfl rfl)
theorem dX0_areChords_33 : decode cX0_areChords 33 = .ok (.iinc 5 1, 3) := dk_132 5 1 (dk_at dksX0_areChords_1 11 rfl rfl)
theorem dX0_areChords_36 : decode cX0_areChords 36 = .ok (.goto (-30), 3) := dk_167 255 226 (dk_at dksX0_areChords_1 14 rfl rfl)
theorem dX0_areChords_39 : decode cX0_areChords 39 = .ok (.iload 4, 2) := dk_21 4 (dk_at dksX0_areChords_1 17 rfl rfl)
theorem dX0_areChords_41 : decode cX0_areChords 41 = .ok (.ireturn, 1) := dk_172 (dk_at dksX0_areChords_1 19 rfl rfl)
abbrev cX0_layDoubts : ByteArray := prog_1_method_35_code
def yX0_layDoubts : MethodName := ⟨RX0, "layDoubts", "(I)V"⟩
def dkwX0_layDoubts_3 : List UInt8 := [181, 0, 214, 132, 3, 1, 167, 255, 194, 132, 2, 1, 167, 255, 181, 177]
abbrev dktX0_layDoubts_3 : List UInt8 := dkwX0_layDoubts_3 ++ []
def dkwX0_layDoubts_2 : List UInt8 := [2, 160, 0, 24, 42, 180, 0, 51, 42, 180, 0, 214, 21, 4, 79, 42, 89, 180, 0, 214, 4, 96]
abbrev dktX0_layDoubts_2 : List UInt8 := dkwX0_layDoubts_2 ++ dktX0_layDoubts_3
def dkwX0_layDoubts_1 : List UInt8 := [42, 180, 0, 23, 180, 0, 154, 42, 180, 0, 42, 28, 50, 29, 46, 46, 54, 4, 42, 21, 4, 182, 0, 217]
abbrev dktX0_layDoubts_1 : List UInt8 := dkwX0_layDoubts_1 ++ dktX0_layDoubts_2
def dkwX0_layDoubts_0 : List UInt8 := [42, 3, 181, 0, 214, 3, 61, 28, 27, 162, 0, 76, 3, 62, 29, 42, 180, 0, 45, 28, 46, 162, 0, 58]
abbrev dktX0_layDoubts_0 : List UInt8 := dkwX0_layDoubts_0 ++ dktX0_layDoubts_1
theorem dksX0_layDoubts_0 : cX0_layDoubts.data.toList.drop 0 = dktX0_layDoubts_0 := by decide +kernel
theorem dksX0_layDoubts_1 : cX0_layDoubts.data.toList.drop 24 = dktX0_layDoubts_1 := dk_seg dksX0_layDoubts_0 24 rfl rfl
theorem dksX0_layDoubts_2 : cX0_layDoubts.data.toList.drop 48 = dktX0_layDoubts_2 := dk_seg dksX0_layDoubts_1 24 rfl rfl
theorem dksX0_layDoubts_3 : cX0_layDoubts.data.toList.drop 70 = dktX0_layDoubts_3 := dk_seg dksX0_layDoubts_2 22 rfl rfl
theorem dX0_layDoubts_0 : decode cX0_layDoubts 0 = .ok (.aload_n 0, 1) := dk_42 (dk_at dksX0_layDoubts_0 0 rfl rfl)
theorem dX0_layDoubts_1 : decode cX0_layDoubts 1 = .ok (.iconst 0, 1) := dk_3 (dk_at dksX0_layDoubts_0 1 rfl rfl)
theorem dX0_layDoubts_2 : decode cX0_layDoubts 2 = .ok (.putfield 214, 3) := dk_181 0 214 (dk_at dksX0_layDoubts_0 2 rfl rfl)
theorem dX0_layDoubts_5 : decode cX0_layDoubts 5 = .ok (.iconst 0, 1) := dk_3 (dk_at dksX0_layDoubts_0 5 rfl rfl)
theorem dX0_layDoubts_6 : decode cX0_layDoubts 6 = .ok (.istore_n 2, 1) := dk_61 (dk_at dksX0_layDoubts_0 6 rfl rfl)
theorem dX0_layDoubts_7 : decode cX0_layDoubts 7 = .ok (.iload_n 2, 1) := dk_28 (dk_at dksX0_layDoubts_0 7 rfl rfl)
theorem dX0_layDoubts_8 : decode cX0_layDoubts 8 = .ok (.iload_n 1, 1) := dk_27 (dk_at dksX0_layDoubts_0 8 rfl rfl)
theorem dX0_layDoubts_9 : decode cX0_layDoubts 9 = .ok (.if_icmp .ge 76, 3) := dk_162 0 76 (dk_at dksX0_layDoubts_0 9 rfl rfl)
theorem dX0_layDoubts_12 : decode cX0_layDoubts 12 = .ok (.iconst 0, 1) := dk_3 (dk_at dksX0_layDoubts_0 12 rfl rfl)
theorem dX0_layDoubts_13 : decode cX0_layDoubts 13 = .ok (.istore_n 3, 1) := dk_62 (dk_at dksX0_layDoubts_0 13 rfl rfl)
theorem dX0_layDoubts_14 : decode cX0_layDoubts 14 = .ok (.iload_n 3, 1) := dk_29 (dk_at dksX0_layDoubts_0 14 rfl rfl)
theorem dX0_layDoubts_15 : decode cX0_layDoubts 15 = .ok (.aload_n 0, 1) := dk_42 (dk_at dksX0_layDoubts_0 15 rfl rfl)
theorem dX0_layDoubts_16 : decode cX0_layDoubts 16 = .ok (.getfield 45, 3) := dk_180 0 45 (dk_at dksX0_layDoubts_0 16 rfl rfl)
theorem dX0_layDoubts_19 : decode cX0_layDoubts 19 = .ok (.iload_n 2, 1) := dk_28 (dk_at dksX0_layDoubts_0 19 rfl rfl)
theorem dX0_layDoubts_20 : decode cX0_layDoubts 20 = .ok (.iaload, 1) := dk_46 (dk_at dksX0_layDoubts_0 20 rfl rfl)
theorem dX0_layDoubts_21 : decode cX0_layDoubts 21 = .ok (.if_icmp .ge 58, 3) := dk_162 0 58 (dk_at dksX0_layDoubts_0 21 rfl rfl)
theorem dX0_layDoubts_24 : decode cX0_layDoubts 24 = .ok (.aload_n 0, 1) := dk_42 (dk_at dksX0_layDoubts_1 0 rfl rfl)
theorem dX0_layDoubts_25 : decode cX0_layDoubts 25 = .ok (.getfield 23, 3) := dk_180 0 23 (dk_at dksX0_layDoubts_1 1 rfl rfl)
theorem dX0_layDoubts_28 : decode cX0_layDoubts 28 = .ok (.getfield 154, 3) := dk_180 0 154 (dk_at dksX0_layDoubts_1 4 rfl rfl)
theorem dX0_layDoubts_31 : decode cX0_layDoubts 31 = .ok (.aload_n 0, 1) := dk_42 (dk_at dksX0_layDoubts_1 7 rfl rfl)
theorem dX0_layDoubts_32 : decode cX0_layDoubts 32 = .ok (.getfield 42, 3) := dk_180 0 42 (dk_at dksX0_layDoubts_1 8 rfl rfl)
theorem dX0_layDoubts_35 : decode cX0_layDoubts 35 = .ok (.iload_n 2, 1) := dk_28 (dk_at dksX0_layDoubts_1 11 rfl rfl)
theorem dX0_layDoubts_36 : decode cX0_layDoubts 36 = .ok (.aaload, 1) := dk_50 (dk_at dksX0_layDoubts_1 12 rfl rfl)
theorem dX0_layDoubts_37 : decode cX0_layDoubts 37 = .ok (.iload_n 3, 1) := dk_29 (dk_at dksX0_layDoubts_1 13 rfl rfl)
theorem dX0_layDoubts_38 : decode cX0_layDoubts 38 = .ok (.iaload, 1) := dk_46 (dk_at dksX0_layDoubts_1 14 rfl rfl)
theorem dX0_layDoubts_39 : decode cX0_layDoubts 39 = .ok (.iaload, 1) := dk_46 (dk_at dksX0_layDoubts_1 15 rfl rfl)
theorem dX0_layDoubts_40 : decode cX0_layDoubts 40 = .ok (.istore 4, 2) := dk_54 4 (dk_at dksX0_layDoubts_1 16 rfl rfl)
theorem dX0_layDoubts_42 : decode cX0_layDoubts 42 = .ok (.aload_n 0, 1) := dk_42 (dk_at dksX0_layDoubts_1 18 rfl rfl)
theorem dX0_layDoubts_43 : decode cX0_layDoubts 43 = .ok (.iload 4, 2) := dk_21 4 (dk_at dksX0_layDoubts_1 19 rfl rfl)
theorem dX0_layDoubts_45 : decode cX0_layDoubts 45 = .ok (.invokevirtual 217, 3) := dk_182 0 217 (dk_at dksX0_layDoubts_1 21 rfl rfl)
theorem dX0_layDoubts_48 : decode cX0_layDoubts 48 = .ok (.iconst (-1), 1) := dk_2 (dk_at dksX0_layDoubts_2 0 rfl rfl)
theorem dX0_layDoubts_49 : decode cX0_layDoubts 49 = .ok (.if_icmp .ne 24, 3) := dk_160 0 24 (dk_at dksX0_layDoubts_2 1 rfl rfl)
theorem dX0_layDoubts_52 : decode cX0_layDoubts 52 = .ok (.aload_n 0, 1) := dk_42 (dk_at dksX0_layDoubts_2 4 rfl rfl)
theorem dX0_layDoubts_53 : decode cX0_layDoubts 53 = .ok (.getfield 51, 3) := dk_180 0 51 (dk_at dksX0_layDoubts_2 5 rfl rfl)
theorem dX0_layDoubts_56 : decode cX0_layDoubts 56 = .ok (.aload_n 0, 1) := dk_42 (dk_at dksX0_layDoubts_2 8 rfl rfl)
theorem dX0_layDoubts_57 : decode cX0_layDoubts 57 = .ok (.getfield 214, 3) := dk_180 0 214 (dk_at dksX0_layDoubts_2 9 rfl rfl)
theorem dX0_layDoubts_60 : decode cX0_layDoubts 60 = .ok (.iload 4, 2) := dk_21 4 (dk_at dksX0_layDoubts_2 12 rfl rfl)
theorem dX0_layDoubts_62 : decode cX0_layDoubts 62 = .ok (.iastore, 1) := dk_79 (dk_at dksX0_layDoubts_2 14 rfl rfl)
theorem dX0_layDoubts_63 : decode cX0_layDoubts 63 = .ok (.aload_n 0, 1) := dk_42 (dk_at dksX0_layDoubts_2 15 rfl rfl)
theorem dX0_layDoubts_64 : decode cX0_layDoubts 64 = .ok (.dup, 1) := dk_89 (dk_at dksX0_layDoubts_2 16 rfl rfl)
theorem dX0_layDoubts_65 : decode cX0_layDoubts 65 = .ok (.getfield 214, 3) := dk_180 0 214 (dk_at dksX0_layDoubts_2 17 rfl rfl)
theorem dX0_layDoubts_68 : decode cX0_layDoubts 68 = .ok (.iconst 1, 1) := dk_4 (dk_at dksX0_layDoubts_2 20 rfl rfl)
theorem dX0_layDoubts_69 : decode cX0_layDoubts 69 = .ok (.iadd, 1) := dk_96 (dk_at dksX0_layDoubts_2 21 rfl rfl)
theorem dX0_layDoubts_70 : decode cX0_layDoubts 70 = .ok (.putfield 214, 3) := dk_181 0 214 (dk_at dksX0_layDoubts_3 0 rfl rfl)
theorem dX0_layDoubts_73 : decode cX0_layDoubts 73 = .ok (.iinc 3 1, 3) := dk_132 3 1 (dk_at dksX0_layDoubts_3 3 rfl rfl)
theorem dX0_layDoubts_76 : decode cX0_layDoubts 76 = .ok (.goto (-62), 3) := dk_167 255 194 (dk_at dksX0_layDoubts_3 6 rfl rfl)
theorem dX0_layDoubts_79 : decode cX0_layDoubts 79 = .ok (.iinc 2 1, 3) := dk_132 2 1 (dk_at dksX0_layDoubts_3 9 rfl rfl)
theorem dX0_layDoubts_82 : decode cX0_layDoubts 82 = .ok (.goto (-75), 3) := dk_167 255 181 (dk_at dksX0_layDoubts_3 12 rfl rfl)
theorem dX0_layDoubts_85 : decode cX0_layDoubts 85 = .ok (.return_, 1) := dk_177 (dk_at dksX0_layDoubts_3 15 rfl rfl)
abbrev cX0_doubtOf : ByteArray := prog_1_method_34_code
def yX0_doubtOf : MethodName := ⟨RX0, "doubtOf", "(I)I"⟩
def dkwX0_doubtOf_1 : List UInt8 := [132, 2, 1, 167, 255, 233, 2, 172]
abbrev dktX0_doubtOf_1 : List UInt8 := dkwX0_doubtOf_1 ++ []
def dkwX0_doubtOf_0 : List UInt8 := [3, 61, 28, 42, 180, 0, 214, 162, 0, 21, 42, 180, 0, 51, 28, 46, 27, 160, 0, 5, 28, 172]
abbrev dktX0_doubtOf_0 : List UInt8 := dkwX0_doubtOf_0 ++ dktX0_doubtOf_1
theorem dksX0_doubtOf_0 : cX0_doubtOf.data.toList.drop 0 = dktX0_doubtOf_0 := by decide +kernel
theorem dksX0_doubtOf_1 : cX0_doubtOf.data.toList.drop 22 = dktX0_doubtOf_1 := dk_seg dksX0_doubtOf_0 22 rfl rfl
theorem dX0_doubtOf_0 : decode cX0_doubtOf 0 = .ok (.iconst 0, 1) := dk_3 (dk_at dksX0_doubtOf_0 0 rfl rfl)
theorem dX0_doubtOf_1 : decode cX0_doubtOf 1 = .ok (.istore_n 2, 1) := dk_61 (dk_at dksX0_doubtOf_0 1 rfl rfl)
theorem dX0_doubtOf_2 : decode cX0_doubtOf 2 = .ok (.iload_n 2, 1) := dk_28 (dk_at dksX0_doubtOf_0 2 rfl rfl)
theorem dX0_doubtOf_3 : decode cX0_doubtOf 3 = .ok (.aload_n 0, 1) := dk_42 (dk_at dksX0_doubtOf_0 3 rfl rfl)
theorem dX0_doubtOf_4 : decode cX0_doubtOf 4 = .ok (.getfield 214, 3) := dk_180 0 214 (dk_at dksX0_doubtOf_0 4 rfl rfl)
theorem dX0_doubtOf_7 : decode cX0_doubtOf 7 = .ok (.if_icmp .ge 21, 3) := dk_162 0 21 (dk_at dksX0_doubtOf_0 7 rfl rfl)
theorem dX0_doubtOf_10 : decode cX0_doubtOf 10 = .ok (.aload_n 0, 1) := dk_42 (dk_at dksX0_doubtOf_0 10 rfl rfl)
theorem dX0_doubtOf_11 : decode cX0_doubtOf 11 = .ok (.getfield 51, 3) := dk_180 0 51 (dk_at dksX0_doubtOf_0 11 rfl rfl)
theorem dX0_doubtOf_14 : decode cX0_doubtOf 14 = .ok (.iload_n 2, 1) := dk_28 (dk_at dksX0_doubtOf_0 14 rfl rfl)
theorem dX0_doubtOf_15 : decode cX0_doubtOf 15 = .ok (.iaload, 1) := dk_46 (dk_at dksX0_doubtOf_0 15 rfl rfl)
theorem dX0_doubtOf_16 : decode cX0_doubtOf 16 = .ok (.iload_n 1, 1) := dk_27 (dk_at dksX0_doubtOf_0 16 rfl rfl)
theorem dX0_doubtOf_17 : decode cX0_doubtOf 17 = .ok (.if_icmp .ne 5, 3) := dk_160 0 5 (dk_at dksX0_doubtOf_0 17 rfl rfl)
theorem dX0_doubtOf_20 : decode cX0_doubtOf 20 = .ok (.iload_n 2, 1) := dk_28 (dk_at dksX0_doubtOf_0 20 rfl rfl)
theorem dX0_doubtOf_21 : decode cX0_doubtOf 21 = .ok (.ireturn, 1) := dk_172 (dk_at dksX0_doubtOf_0 21 rfl rfl)
theorem dX0_doubtOf_22 : decode cX0_doubtOf 22 = .ok (.iinc 2 1, 3) := dk_132 2 1 (dk_at dksX0_doubtOf_1 0 rfl rfl)
theorem dX0_doubtOf_25 : decode cX0_doubtOf 25 = .ok (.goto (-23), 3) := dk_167 255 233 (dk_at dksX0_doubtOf_1 3 rfl rfl)
theorem dX0_doubtOf_28 : decode cX0_doubtOf 28 = .ok (.iconst (-1), 1) := dk_2 (dk_at dksX0_doubtOf_1 6 rfl rfl)
theorem dX0_doubtOf_29 : decode cX0_doubtOf 29 = .ok (.ireturn, 1) := dk_172 (dk_at dksX0_doubtOf_1 7 rfl rfl)
abbrev cX0_readings : ByteArray := prog_1_method_42_code
def yX0_readings : MethodName := ⟨RX0, "readings", "()I"⟩
theorem dX0_readings_0 : decode cX0_readings 0 = .ok (.aload_n 0, 1) := by decide +kernel
theorem dX0_readings_1 : decode cX0_readings 1 = .ok (.invokevirtual 245, 3) := by decide +kernel
theorem dX0_readings_4 : decode cX0_readings 4 = .ok (.ireturn, 1) := by decide +kernel
abbrev cX0_layReadings : ByteArray := prog_1_method_41_code
def yX0_layReadings : MethodName := ⟨RX0, "layReadings", "()I"⟩
def dkwX0_layReadings_5 : List UInt8 := [153, 0, 7, 3, 167, 0, 4, 4, 96, 79, 132, 4, 1, 167, 255, 220, 132, 3, 1, 167, 255, 183, 28, 172]
abbrev dktX0_layReadings_5 : List UInt8 := dkwX0_layReadings_5 ++ []
def dkwX0_layReadings_4 : List UInt8 := [21, 4, 42, 180, 0, 214, 162, 0, 33, 42, 180, 0, 57, 21, 4, 92, 46, 29, 21, 4, 184, 0, 241]
abbrev dktX0_layReadings_4 : List UInt8 := dkwX0_layReadings_4 ++ dktX0_layReadings_5
def dkwX0_layReadings_3 : List UInt8 := [162, 0, 69, 29, 27, 126, 27, 160, 0, 56, 42, 29, 182, 0, 238, 153, 0, 48, 132, 2, 1, 3, 54, 4]
abbrev dktX0_layReadings_3 : List UInt8 := dkwX0_layReadings_3 ++ dktX0_layReadings_4
def dkwX0_layReadings_2 : List UInt8 := [3, 79, 132, 1, 1, 167, 255, 240, 42, 182, 0, 235, 60, 3, 61, 3, 62, 29, 4, 42, 180, 0, 214, 120]
abbrev dktX0_layReadings_2 : List UInt8 := dkwX0_layReadings_2 ++ dktX0_layReadings_3
def dkwX0_layReadings_1 : List UInt8 := [27, 182, 0, 232, 79, 132, 1, 1, 167, 255, 234, 3, 60, 27, 16, 12, 162, 0, 16, 42, 180, 0, 57, 27]
abbrev dktX0_layReadings_1 : List UInt8 := dkwX0_layReadings_1 ++ dktX0_layReadings_2
def dkwX0_layReadings_0 : List UInt8 := [42, 42, 180, 0, 115, 182, 0, 224, 3, 60, 27, 42, 180, 0, 115, 162, 0, 20, 42, 180, 0, 54, 27, 42]
abbrev dktX0_layReadings_0 : List UInt8 := dkwX0_layReadings_0 ++ dktX0_layReadings_1
theorem dksX0_layReadings_0 : cX0_layReadings.data.toList.drop 0 = dktX0_layReadings_0 := by decide +kernel
theorem dksX0_layReadings_1 : cX0_layReadings.data.toList.drop 24 = dktX0_layReadings_1 := dk_seg dksX0_layReadings_0 24 rfl rfl
theorem dksX0_layReadings_2 : cX0_layReadings.data.toList.drop 48 = dktX0_layReadings_2 := dk_seg dksX0_layReadings_1 24 rfl rfl
theorem dksX0_layReadings_3 : cX0_layReadings.data.toList.drop 72 = dktX0_layReadings_3 := dk_seg dksX0_layReadings_2 24 rfl rfl
theorem dksX0_layReadings_4 : cX0_layReadings.data.toList.drop 96 = dktX0_layReadings_4 := dk_seg dksX0_layReadings_3 24 rfl rfl
theorem dksX0_layReadings_5 : cX0_layReadings.data.toList.drop 119 = dktX0_layReadings_5 := dk_seg dksX0_layReadings_4 23 rfl rfl
theorem dX0_layReadings_0 : decode cX0_layReadings 0 = .ok (.aload_n 0, 1) := dk_42 (dk_at dksX0_layReadings_0 0 rfl rfl)
theorem dX0_layReadings_1 : decode cX0_layReadings 1 = .ok (.aload_n 0, 1) := dk_42 (dk_at dksX0_layReadings_0 1 rfl rfl)
theorem dX0_layReadings_2 : decode cX0_layReadings 2 = .ok (.getfield 115, 3) := dk_180 0 115 (dk_at dksX0_layReadings_0 2 rfl rfl)
theorem dX0_layReadings_5 : decode cX0_layReadings 5 = .ok (.invokevirtual 224, 3) := dk_182 0 224 (dk_at dksX0_layReadings_0 5 rfl rfl)
theorem dX0_layReadings_8 : decode cX0_layReadings 8 = .ok (.iconst 0, 1) := dk_3 (dk_at dksX0_layReadings_0 8 rfl rfl)
theorem dX0_layReadings_9 : decode cX0_layReadings 9 = .ok (.istore_n 1, 1) := dk_60 (dk_at dksX0_layReadings_0 9 rfl rfl)
theorem dX0_layReadings_10 : decode cX0_layReadings 10 = .ok (.iload_n 1, 1) := dk_27 (dk_at dksX0_layReadings_0 10 rfl rfl)
theorem dX0_layReadings_11 : decode cX0_layReadings 11 = .ok (.aload_n 0, 1) := dk_42 (dk_at dksX0_layReadings_0 11 rfl rfl)
theorem dX0_layReadings_12 : decode cX0_layReadings 12 = .ok (.getfield 115, 3) := dk_180 0 115 (dk_at dksX0_layReadings_0 12 rfl rfl)
theorem dX0_layReadings_15 : decode cX0_layReadings 15 = .ok (.if_icmp .ge 20, 3) := dk_162 0 20 (dk_at dksX0_layReadings_0 15 rfl rfl)
theorem dX0_layReadings_18 : decode cX0_layReadings 18 = .ok (.aload_n 0, 1) := dk_42 (dk_at dksX0_layReadings_0 18 rfl rfl)
theorem dX0_layReadings_19 : decode cX0_layReadings 19 = .ok (.getfield 54, 3) := dk_180 0 54 (dk_at dksX0_layReadings_0 19 rfl rfl)
theorem dX0_layReadings_22 : decode cX0_layReadings 22 = .ok (.iload_n 1, 1) := dk_27 (dk_at dksX0_layReadings_0 22 rfl rfl)
theorem dX0_layReadings_23 : decode cX0_layReadings 23 = .ok (.aload_n 0, 1) := dk_42 (dk_at dksX0_layReadings_0 23 rfl rfl)
theorem dX0_layReadings_24 : decode cX0_layReadings 24 = .ok (.iload_n 1, 1) := dk_27 (dk_at dksX0_layReadings_1 0 rfl rfl)
theorem dX0_layReadings_25 : decode cX0_layReadings 25 = .ok (.invokevirtual 232, 3) := dk_182 0 232 (dk_at dksX0_layReadings_1 1 rfl rfl)
theorem dX0_layReadings_28 : decode cX0_layReadings 28 = .ok (.iastore, 1) := dk_79 (dk_at dksX0_layReadings_1 4 rfl rfl)
theorem dX0_layReadings_29 : decode cX0_layReadings 29 = .ok (.iinc 1 1, 3) := dk_132 1 1 (dk_at dksX0_layReadings_1 5 rfl rfl)
theorem dX0_layReadings_32 : decode cX0_layReadings 32 = .ok (.goto (-22), 3) := dk_167 255 234 (dk_at dksX0_layReadings_1 8 rfl rfl)
theorem dX0_layReadings_35 : decode cX0_layReadings 35 = .ok (.iconst 0, 1) := dk_3 (dk_at dksX0_layReadings_1 11 rfl rfl)
theorem dX0_layReadings_36 : decode cX0_layReadings 36 = .ok (.istore_n 1, 1) := dk_60 (dk_at dksX0_layReadings_1 12 rfl rfl)
theorem dX0_layReadings_37 : decode cX0_layReadings 37 = .ok (.iload_n 1, 1) := dk_27 (dk_at dksX0_layReadings_1 13 rfl rfl)
theorem dX0_layReadings_38 : decode cX0_layReadings 38 = .ok (.bipush 12, 2) := dk_16 12 (dk_at dksX0_layReadings_1 14 rfl rfl)
theorem dX0_layReadings_40 : decode cX0_layReadings 40 = .ok (.if_icmp .ge 16, 3) := dk_162 0 16 (dk_at dksX0_layReadings_1 16 rfl rfl)
theorem dX0_layReadings_43 : decode cX0_layReadings 43 = .ok (.aload_n 0, 1) := dk_42 (dk_at dksX0_layReadings_1 19 rfl rfl)
theorem dX0_layReadings_44 : decode cX0_layReadings 44 = .ok (.getfield 57, 3) := dk_180 0 57 (dk_at dksX0_layReadings_1 20 rfl rfl)
theorem dX0_layReadings_47 : decode cX0_layReadings 47 = .ok (.iload_n 1, 1) := dk_27 (dk_at dksX0_layReadings_1 23 rfl rfl)
theorem dX0_layReadings_48 : decode cX0_layReadings 48 = .ok (.iconst 0, 1) := dk_3 (dk_at dksX0_layReadings_2 0 rfl rfl)
theorem dX0_layReadings_49 : decode cX0_layReadings 49 = .ok (.iastore, 1) := dk_79 (dk_at dksX0_layReadings_2 1 rfl rfl)
theorem dX0_layReadings_50 : decode cX0_layReadings 50 = .ok (.iinc 1 1, 3) := dk_132 1 1 (dk_at dksX0_layReadings_2 2 rfl rfl)
theorem dX0_layReadings_53 : decode cX0_layReadings 53 = .ok (.goto (-16), 3) := dk_167 255 240 (dk_at dksX0_layReadings_2 5 rfl rfl)
theorem dX0_layReadings_56 : decode cX0_layReadings 56 = .ok (.aload_n 0, 1) := dk_42 (dk_at dksX0_layReadings_2 8 rfl rfl)
theorem dX0_layReadings_57 : decode cX0_layReadings 57 = .ok (.invokevirtual 235, 3) := dk_182 0 235 (dk_at dksX0_layReadings_2 9 rfl rfl)
theorem dX0_layReadings_60 : decode cX0_layReadings 60 = .ok (.istore_n 1, 1) := dk_60 (dk_at dksX0_layReadings_2 12 rfl rfl)
theorem dX0_layReadings_61 : decode cX0_layReadings 61 = .ok (.iconst 0, 1) := dk_3 (dk_at dksX0_layReadings_2 13 rfl rfl)
theorem dX0_layReadings_62 : decode cX0_layReadings 62 = .ok (.istore_n 2, 1) := dk_61 (dk_at dksX0_layReadings_2 14 rfl rfl)
theorem dX0_layReadings_63 : decode cX0_layReadings 63 = .ok (.iconst 0, 1) := dk_3 (dk_at dksX0_layReadings_2 15 rfl rfl)
theorem dX0_layReadings_64 : decode cX0_layReadings 64 = .ok (.istore_n 3, 1) := dk_62 (dk_at dksX0_layReadings_2 16 rfl rfl)
theorem dX0_layReadings_65 : decode cX0_layReadings 65 = .ok (.iload_n 3, 1) := dk_29 (dk_at dksX0_layReadings_2 17 rfl rfl)
theorem dX0_layReadings_66 : decode cX0_layReadings 66 = .ok (.iconst 1, 1) := dk_4 (dk_at dksX0_layReadings_2 18 rfl rfl)
theorem dX0_layReadings_67 : decode cX0_layReadings 67 = .ok (.aload_n 0, 1) := dk_42 (dk_at dksX0_layReadings_2 19 rfl rfl)
theorem dX0_layReadings_68 : decode cX0_layReadings 68 = .ok (.getfield 214, 3) := dk_180 0 214 (dk_at dksX0_layReadings_2 20 rfl rfl)
theorem dX0_layReadings_71 : decode cX0_layReadings 71 = .ok (.ishl, 1) := dk_120 (dk_at dksX0_layReadings_2 23 rfl rfl)
theorem dX0_layReadings_72 : decode cX0_layReadings 72 = .ok (.if_icmp .ge 69, 3) := dk_162 0 69 (dk_at dksX0_layReadings_3 0 rfl rfl)
theorem dX0_layReadings_75 : decode cX0_layReadings 75 = .ok (.iload_n 3, 1) := dk_29 (dk_at dksX0_layReadings_3 3 rfl rfl)
theorem dX0_layReadings_76 : decode cX0_layReadings 76 = .ok (.iload_n 1, 1) := dk_27 (dk_at dksX0_layReadings_3 4 rfl rfl)
theorem dX0_layReadings_77 : decode cX0_layReadings 77 = .ok (.iand, 1) := dk_126 (dk_at dksX0_layReadings_3 5 rfl rfl)
theorem dX0_layReadings_78 : decode cX0_layReadings 78 = .ok (.iload_n 1, 1) := dk_27 (dk_at dksX0_layReadings_3 6 rfl rfl)
theorem dX0_layReadings_79 : decode cX0_layReadings 79 = .ok (.if_icmp .ne 56, 3) := dk_160 0 56 (dk_at dksX0_layReadings_3 7 rfl rfl)
theorem dX0_layReadings_82 : decode cX0_layReadings 82 = .ok (.aload_n 0, 1) := dk_42 (dk_at dksX0_layReadings_3 10 rfl rfl)
theorem dX0_layReadings_83 : decode cX0_layReadings 83 = .ok (.iload_n 3, 1) := dk_29 (dk_at dksX0_layReadings_3 11 rfl rfl)
theorem dX0_layReadings_84 : decode cX0_layReadings 84 = .ok (.invokevirtual 238, 3) := dk_182 0 238 (dk_at dksX0_layReadings_3 12 rfl rfl)
theorem dX0_layReadings_87 : decode cX0_layReadings 87 = .ok (.ifCond .eq 48, 3) := dk_153 0 48 (dk_at dksX0_layReadings_3 15 rfl rfl)
theorem dX0_layReadings_90 : decode cX0_layReadings 90 = .ok (.iinc 2 1, 3) := dk_132 2 1 (dk_at dksX0_layReadings_3 18 rfl rfl)
theorem dX0_layReadings_93 : decode cX0_layReadings 93 = .ok (.iconst 0, 1) := dk_3 (dk_at dksX0_layReadings_3 21 rfl rfl)
theorem dX0_layReadings_94 : decode cX0_layReadings 94 = .ok (.istore 4, 2) := dk_54 4 (dk_at dksX0_layReadings_3 22 rfl rfl)
theorem dX0_layReadings_96 : decode cX0_layReadings 96 = .ok (.iload 4, 2) := dk_21 4 (dk_at dksX0_layReadings_4 0 rfl rfl)
theorem dX0_layReadings_98 : decode cX0_layReadings 98 = .ok (.aload_n 0, 1) := dk_42 (dk_at dksX0_layReadings_4 2 rfl rfl)
theorem dX0_layReadings_99 : decode cX0_layReadings 99 = .ok (.getfield 214, 3) := dk_180 0 214 (dk_at dksX0_layReadings_4 3 rfl rfl)
theorem dX0_layReadings_102 : decode cX0_layReadings 102 = .ok (.if_icmp .ge 33, 3) := dk_162 0 33 (dk_at dksX0_layReadings_4 6 rfl rfl)
theorem dX0_layReadings_105 : decode cX0_layReadings 105 = .ok (.aload_n 0, 1) := dk_42 (dk_at dksX0_layReadings_4 9 rfl rfl)
theorem dX0_layReadings_106 : decode cX0_layReadings 106 = .ok (.getfield 57, 3) := dk_180 0 57 (dk_at dksX0_layReadings_4 10 rfl rfl)
theorem dX0_layReadings_109 : decode cX0_layReadings 109 = .ok (.iload 4, 2) := dk_21 4 (dk_at dksX0_layReadings_4 13 rfl rfl)
theorem dX0_layReadings_111 : decode cX0_layReadings 111 = .ok (.dup2, 1) := dk_92 (dk_at dksX0_layReadings_4 15 rfl rfl)
theorem dX0_layReadings_112 : decode cX0_layReadings 112 = .ok (.iaload, 1) := dk_46 (dk_at dksX0_layReadings_4 16 rfl rfl)
theorem dX0_layReadings_113 : decode cX0_layReadings 113 = .ok (.iload_n 3, 1) := dk_29 (dk_at dksX0_layReadings_4 17 rfl rfl)
theorem dX0_layReadings_114 : decode cX0_layReadings 114 = .ok (.iload 4, 2) := dk_21 4 (dk_at dksX0_layReadings_4 18 rfl rfl)
theorem dX0_layReadings_116 : decode cX0_layReadings 116 = .ok (.invokestatic 241, 3) := dk_184 0 241 (dk_at dksX0_layReadings_4 20 rfl rfl)
theorem dX0_layReadings_119 : decode cX0_layReadings 119 = .ok (.ifCond .eq 7, 3) := dk_153 0 7 (dk_at dksX0_layReadings_5 0 rfl rfl)
theorem dX0_layReadings_122 : decode cX0_layReadings 122 = .ok (.iconst 0, 1) := dk_3 (dk_at dksX0_layReadings_5 3 rfl rfl)
theorem dX0_layReadings_123 : decode cX0_layReadings 123 = .ok (.goto 4, 3) := dk_167 0 4 (dk_at dksX0_layReadings_5 4 rfl rfl)
theorem dX0_layReadings_126 : decode cX0_layReadings 126 = .ok (.iconst 1, 1) := dk_4 (dk_at dksX0_layReadings_5 7 rfl rfl)
theorem dX0_layReadings_127 : decode cX0_layReadings 127 = .ok (.iadd, 1) := dk_96 (dk_at dksX0_layReadings_5 8 rfl rfl)
theorem dX0_layReadings_128 : decode cX0_layReadings 128 = .ok (.iastore, 1) := dk_79 (dk_at dksX0_layReadings_5 9 rfl rfl)
theorem dX0_layReadings_129 : decode cX0_layReadings 129 = .ok (.iinc 4 1, 3) := dk_132 4 1 (dk_at dksX0_layReadings_5 10 rfl rfl)
theorem dX0_layReadings_132 : decode cX0_layReadings 132 = .ok (.goto (-36), 3) := dk_167 255 220 (dk_at dksX0_layReadings_5 13 rfl rfl)
theorem dX0_layReadings_135 : decode cX0_layReadings 135 = .ok (.iinc 3 1, 3) := dk_132 3 1 (dk_at dksX0_layReadings_5 16 rfl rfl)
theorem dX0_layReadings_138 : decode cX0_layReadings 138 = .ok (.goto (-73), 3) := dk_167 255 183 (dk_at dksX0_layReadings_5 19 rfl rfl)
theorem dX0_layReadings_141 : decode cX0_layReadings 141 = .ok (.iload_n 2, 1) := dk_28 (dk_at dksX0_layReadings_5 22 rfl rfl)
theorem dX0_layReadings_142 : decode cX0_layReadings 142 = .ok (.ireturn, 1) := dk_172 (dk_at dksX0_layReadings_5 23 rfl rfl)
abbrev cX0_bitsOf : ByteArray := prog_1_method_38_code
def yX0_bitsOf : MethodName := ⟨RX0, "bitsOf", "(I)I"⟩
def dkwX0_bitsOf_1 : List UInt8 := [42, 180, 0, 42, 27, 50, 29, 46, 46, 182, 0, 217, 120, 128, 61, 132, 3, 1, 167, 255, 218, 28, 172]
abbrev dktX0_bitsOf_1 : List UInt8 := dkwX0_bitsOf_1 ++ []
def dkwX0_bitsOf_0 : List UInt8 := [3, 61, 3, 62, 29, 42, 180, 0, 45, 27, 46, 162, 0, 34, 28, 4, 42, 42, 180, 0, 23, 180, 0, 154]
abbrev dktX0_bitsOf_0 : List UInt8 := dkwX0_bitsOf_0 ++ dktX0_bitsOf_1
theorem dksX0_bitsOf_0 : cX0_bitsOf.data.toList.drop 0 = dktX0_bitsOf_0 := by decide +kernel
theorem dksX0_bitsOf_1 : cX0_bitsOf.data.toList.drop 24 = dktX0_bitsOf_1 := dk_seg dksX0_bitsOf_0 24 rfl rfl
theorem dX0_bitsOf_0 : decode cX0_bitsOf 0 = .ok (.iconst 0, 1) := dk_3 (dk_at dksX0_bitsOf_0 0 rfl rfl)
theorem dX0_bitsOf_1 : decode cX0_bitsOf 1 = .ok (.istore_n 2, 1) := dk_61 (dk_at dksX0_bitsOf_0 1 rfl rfl)
theorem dX0_bitsOf_2 : decode cX0_bitsOf 2 = .ok (.iconst 0, 1) := dk_3 (dk_at dksX0_bitsOf_0 2 rfl rfl)
theorem dX0_bitsOf_3 : decode cX0_bitsOf 3 = .ok (.istore_n 3, 1) := dk_62 (dk_at dksX0_bitsOf_0 3 rfl rfl)
theorem dX0_bitsOf_4 : decode cX0_bitsOf 4 = .ok (.iload_n 3, 1) := dk_29 (dk_at dksX0_bitsOf_0 4 rfl rfl)
theorem dX0_bitsOf_5 : decode cX0_bitsOf 5 = .ok (.aload_n 0, 1) := dk_42 (dk_at dksX0_bitsOf_0 5 rfl rfl)
theorem dX0_bitsOf_6 : decode cX0_bitsOf 6 = .ok (.getfield 45, 3) := dk_180 0 45 (dk_at dksX0_bitsOf_0 6 rfl rfl)
theorem dX0_bitsOf_9 : decode cX0_bitsOf 9 = .ok (.iload_n 1, 1) := dk_27 (dk_at dksX0_bitsOf_0 9 rfl rfl)
theorem dX0_bitsOf_10 : decode cX0_bitsOf 10 = .ok (.iaload, 1) := dk_46 (dk_at dksX0_bitsOf_0 10 rfl rfl)
theorem dX0_bitsOf_11 : decode cX0_bitsOf 11 = .ok (.if_icmp .ge 34, 3) := dk_162 0 34 (dk_at dksX0_bitsOf_0 11 rfl rfl)
theorem dX0_bitsOf_14 : decode cX0_bitsOf 14 = .ok (.iload_n 2, 1) := dk_28 (dk_at dksX0_bitsOf_0 14 rfl rfl)
theorem dX0_bitsOf_15 : decode cX0_bitsOf 15 = .ok (.iconst 1, 1) := dk_4 (dk_at dksX0_bitsOf_0 15 rfl rfl)
theorem dX0_bitsOf_16 : decode cX0_bitsOf 16 = .ok (.aload_n 0, 1) := dk_42 (dk_at dksX0_bitsOf_0 16 rfl rfl)
theorem dX0_bitsOf_17 : decode cX0_bitsOf 17 = .ok (.aload_n 0, 1) := dk_42 (dk_at dksX0_bitsOf_0 17 rfl rfl)
theorem dX0_bitsOf_18 : decode cX0_bitsOf 18 = .ok (.getfield 23, 3) := dk_180 0 23 (dk_at dksX0_bitsOf_0 18 rfl rfl)
theorem dX0_bitsOf_21 : decode cX0_bitsOf 21 = .ok (.getfield 154, 3) := dk_180 0 154 (dk_at dksX0_bitsOf_0 21 rfl rfl)
theorem dX0_bitsOf_24 : decode cX0_bitsOf 24 = .ok (.aload_n 0, 1) := dk_42 (dk_at dksX0_bitsOf_1 0 rfl rfl)
theorem dX0_bitsOf_25 : decode cX0_bitsOf 25 = .ok (.getfield 42, 3) := dk_180 0 42 (dk_at dksX0_bitsOf_1 1 rfl rfl)
theorem dX0_bitsOf_28 : decode cX0_bitsOf 28 = .ok (.iload_n 1, 1) := dk_27 (dk_at dksX0_bitsOf_1 4 rfl rfl)
theorem dX0_bitsOf_29 : decode cX0_bitsOf 29 = .ok (.aaload, 1) := dk_50 (dk_at dksX0_bitsOf_1 5 rfl rfl)
theorem dX0_bitsOf_30 : decode cX0_bitsOf 30 = .ok (.iload_n 3, 1) := dk_29 (dk_at dksX0_bitsOf_1 6 rfl rfl)
theorem dX0_bitsOf_31 : decode cX0_bitsOf 31 = .ok (.iaload, 1) := dk_46 (dk_at dksX0_bitsOf_1 7 rfl rfl)
theorem dX0_bitsOf_32 : decode cX0_bitsOf 32 = .ok (.iaload, 1) := dk_46 (dk_at dksX0_bitsOf_1 8 rfl rfl)
theorem dX0_bitsOf_33 : decode cX0_bitsOf 33 = .ok (.invokevirtual 217, 3) := dk_182 0 217 (dk_at dksX0_bitsOf_1 9 rfl rfl)
theorem dX0_bitsOf_36 : decode cX0_bitsOf 36 = .ok (.ishl, 1) := dk_120 (dk_at dksX0_bitsOf_1 12 rfl rfl)
theorem dX0_bitsOf_37 : decode cX0_bitsOf 37 = .ok (.ior, 1) := dk_128 (dk_at dksX0_bitsOf_1 13 rfl rfl)
theorem dX0_bitsOf_38 : decode cX0_bitsOf 38 = .ok (.istore_n 2, 1) := dk_61 (dk_at dksX0_bitsOf_1 14 rfl rfl)
theorem dX0_bitsOf_39 : decode cX0_bitsOf 39 = .ok (.iinc 3 1, 3) := dk_132 3 1 (dk_at dksX0_bitsOf_1 15 rfl rfl)
theorem dX0_bitsOf_42 : decode cX0_bitsOf 42 = .ok (.goto (-38), 3) := dk_167 255 218 (dk_at dksX0_bitsOf_1 18 rfl rfl)
theorem dX0_bitsOf_45 : decode cX0_bitsOf 45 = .ok (.iload_n 2, 1) := dk_28 (dk_at dksX0_bitsOf_1 21 rfl rfl)
theorem dX0_bitsOf_46 : decode cX0_bitsOf 46 = .ok (.ireturn, 1) := dk_172 (dk_at dksX0_bitsOf_1 22 rfl rfl)
abbrev cX0_surely : ByteArray := prog_1_method_39_code
def yX0_surely : MethodName := ⟨RX0, "surely", "()I"⟩
def dkwX0_surely_1 : List UInt8 := [153, 0, 7, 3, 167, 0, 6, 4, 28, 120, 128, 60, 132, 2, 1, 167, 255, 222, 27, 172]
abbrev dktX0_surely_1 : List UInt8 := dkwX0_surely_1 ++ []
def dkwX0_surely_0 : List UInt8 := [3, 60, 3, 61, 28, 42, 180, 0, 214, 162, 0, 32, 27, 42, 42, 180, 0, 51, 28, 46, 182, 0, 188]
abbrev dktX0_surely_0 : List UInt8 := dkwX0_surely_0 ++ dktX0_surely_1
theorem dksX0_surely_0 : cX0_surely.data.toList.drop 0 = dktX0_surely_0 := by decide +kernel
theorem dksX0_surely_1 : cX0_surely.data.toList.drop 23 = dktX0_surely_1 := dk_seg dksX0_surely_0 23 rfl rfl
theorem dX0_surely_0 : decode cX0_surely 0 = .ok (.iconst 0, 1) := dk_3 (dk_at dksX0_surely_0 0 rfl rfl)
theorem dX0_surely_1 : decode cX0_surely 1 = .ok (.istore_n 1, 1) := dk_60 (dk_at dksX0_surely_0 1 rfl rfl)
theorem dX0_surely_2 : decode cX0_surely 2 = .ok (.iconst 0, 1) := dk_3 (dk_at dksX0_surely_0 2 rfl rfl)
theorem dX0_surely_3 : decode cX0_surely 3 = .ok (.istore_n 2, 1) := dk_61 (dk_at dksX0_surely_0 3 rfl rfl)
theorem dX0_surely_4 : decode cX0_surely 4 = .ok (.iload_n 2, 1) := dk_28 (dk_at dksX0_surely_0 4 rfl rfl)
theorem dX0_surely_5 : decode cX0_surely 5 = .ok (.aload_n 0, 1) := dk_42 (dk_at dksX0_surely_0 5 rfl rfl)
theorem dX0_surely_6 : decode cX0_surely 6 = .ok (.getfield 214, 3) := dk_180 0 214 (dk_at dksX0_surely_0 6 rfl rfl)
theorem dX0_surely_9 : decode cX0_surely 9 = .ok (.if_icmp .ge 32, 3) := dk_162 0 32 (dk_at dksX0_surely_0 9 rfl rfl)
theorem dX0_surely_12 : decode cX0_surely 12 = .ok (.iload_n 1, 1) := dk_27 (dk_at dksX0_surely_0 12 rfl rfl)
theorem dX0_surely_13 : decode cX0_surely 13 = .ok (.aload_n 0, 1) := dk_42 (dk_at dksX0_surely_0 13 rfl rfl)
theorem dX0_surely_14 : decode cX0_surely 14 = .ok (.aload_n 0, 1) := dk_42 (dk_at dksX0_surely_0 14 rfl rfl)
theorem dX0_surely_15 : decode cX0_surely 15 = .ok (.getfield 51, 3) := dk_180 0 51 (dk_at dksX0_surely_0 15 rfl rfl)
theorem dX0_surely_18 : decode cX0_surely 18 = .ok (.iload_n 2, 1) := dk_28 (dk_at dksX0_surely_0 18 rfl rfl)
theorem dX0_surely_19 : decode cX0_surely 19 = .ok (.iaload, 1) := dk_46 (dk_at dksX0_surely_0 19 rfl rfl)
theorem dX0_surely_20 : decode cX0_surely 20 = .ok (.invokevirtual 188, 3) := dk_182 0 188 (dk_at dksX0_surely_0 20 rfl rfl)
theorem dX0_surely_23 : decode cX0_surely 23 = .ok (.ifCond .eq 7, 3) := dk_153 0 7 (dk_at dksX0_surely_1 0 rfl rfl)
theorem dX0_surely_26 : decode cX0_surely 26 = .ok (.iconst 0, 1) := dk_3 (dk_at dksX0_surely_1 3 rfl rfl)
theorem dX0_surely_27 : decode cX0_surely 27 = .ok (.goto 6, 3) := dk_167 0 6 (dk_at dksX0_surely_1 4 rfl rfl)
theorem dX0_surely_30 : decode cX0_surely 30 = .ok (.iconst 1, 1) := dk_4 (dk_at dksX0_surely_1 7 rfl rfl)
theorem dX0_surely_31 : decode cX0_surely 31 = .ok (.iload_n 2, 1) := dk_28 (dk_at dksX0_surely_1 8 rfl rfl)
theorem dX0_surely_32 : decode cX0_surely 32 = .ok (.ishl, 1) := dk_120 (dk_at dksX0_surely_1 9 rfl rfl)
theorem dX0_surely_33 : decode cX0_surely 33 = .ok (.ior, 1) := dk_128 (dk_at dksX0_surely_1 10 rfl rfl)
theorem dX0_surely_34 : decode cX0_surely 34 = .ok (.istore_n 1, 1) := dk_60 (dk_at dksX0_surely_1 11 rfl rfl)
theorem dX0_surely_35 : decode cX0_surely 35 = .ok (.iinc 2 1, 3) := dk_132 2 1 (dk_at dksX0_surely_1 12 rfl rfl)
theorem dX0_surely_38 : decode cX0_surely 38 = .ok (.goto (-34), 3) := dk_167 255 222 (dk_at dksX0_surely_1 15 rfl rfl)
theorem dX0_surely_41 : decode cX0_surely 41 = .ok (.iload_n 1, 1) := dk_27 (dk_at dksX0_surely_1 18 rfl rfl)
theorem dX0_surely_42 : decode cX0_surely 42 = .ok (.ireturn, 1) := dk_172 (dk_at dksX0_surely_1 19 rfl rfl)
abbrev cX0_isReading : ByteArray := prog_1_method_40_code
def yX0_isReading : MethodName := ⟨RX0, "isReading", "(I)Z"⟩
def dkwX0_isReading_1 : List UInt8 := [42, 180, 0, 48, 29, 46, 160, 0, 7, 4, 167, 0, 4, 3, 126, 61, 132, 3, 1, 167, 255, 217, 28, 172]
abbrev dktX0_isReading_1 : List UInt8 := dkwX0_isReading_1 ++ []
def dkwX0_isReading_0 : List UInt8 := [4, 61, 3, 62, 29, 42, 180, 0, 115, 162, 0, 37, 28, 27, 42, 180, 0, 54, 29, 46, 126, 184, 0, 227]
abbrev dktX0_isReading_0 : List UInt8 := dkwX0_isReading_0 ++ dktX0_isReading_1
theorem dksX0_isReading_0 : cX0_isReading.data.toList.drop 0 = dktX0_isReading_0 := by decide +kernel
theorem dksX0_isReading_1 : cX0_isReading.data.toList.drop 24 = dktX0_isReading_1 := dk_seg dksX0_isReading_0 24 rfl rfl
theorem dX0_isReading_0 : decode cX0_isReading 0 = .ok (.iconst 1, 1) := dk_4 (dk_at dksX0_isReading_0 0 rfl rfl)
theorem dX0_isReading_1 : decode cX0_isReading 1 = .ok (.istore_n 2, 1) := dk_61 (dk_at dksX0_isReading_0 1 rfl rfl)
theorem dX0_isReading_2 : decode cX0_isReading 2 = .ok (.iconst 0, 1) := dk_3 (dk_at dksX0_isReading_0 2 rfl rfl)
theorem dX0_isReading_3 : decode cX0_isReading 3 = .ok (.istore_n 3, 1) := dk_62 (dk_at dksX0_isReading_0 3 rfl rfl)
theorem dX0_isReading_4 : decode cX0_isReading 4 = .ok (.iload_n 3, 1) := dk_29 (dk_at dksX0_isReading_0 4 rfl rfl)
theorem dX0_isReading_5 : decode cX0_isReading 5 = .ok (.aload_n 0, 1) := dk_42 (dk_at dksX0_isReading_0 5 rfl rfl)
theorem dX0_isReading_6 : decode cX0_isReading 6 = .ok (.getfield 115, 3) := dk_180 0 115 (dk_at dksX0_isReading_0 6 rfl rfl)
theorem dX0_isReading_9 : decode cX0_isReading 9 = .ok (.if_icmp .ge 37, 3) := dk_162 0 37 (dk_at dksX0_isReading_0 9 rfl rfl)
theorem dX0_isReading_12 : decode cX0_isReading 12 = .ok (.iload_n 2, 1) := dk_28 (dk_at dksX0_isReading_0 12 rfl rfl)
theorem dX0_isReading_13 : decode cX0_isReading 13 = .ok (.iload_n 1, 1) := dk_27 (dk_at dksX0_isReading_0 13 rfl rfl)
theorem dX0_isReading_14 : decode cX0_isReading 14 = .ok (.aload_n 0, 1) := dk_42 (dk_at dksX0_isReading_0 14 rfl rfl)
theorem dX0_isReading_15 : decode cX0_isReading 15 = .ok (.getfield 54, 3) := dk_180 0 54 (dk_at dksX0_isReading_0 15 rfl rfl)
theorem dX0_isReading_18 : decode cX0_isReading 18 = .ok (.iload_n 3, 1) := dk_29 (dk_at dksX0_isReading_0 18 rfl rfl)
theorem dX0_isReading_19 : decode cX0_isReading 19 = .ok (.iaload, 1) := dk_46 (dk_at dksX0_isReading_0 19 rfl rfl)
theorem dX0_isReading_20 : decode cX0_isReading 20 = .ok (.iand, 1) := dk_126 (dk_at dksX0_isReading_0 20 rfl rfl)
theorem dX0_isReading_21 : decode cX0_isReading 21 = .ok (.invokestatic 227, 3) := dk_184 0 227 (dk_at dksX0_isReading_0 21 rfl rfl)
theorem dX0_isReading_24 : decode cX0_isReading 24 = .ok (.aload_n 0, 1) := dk_42 (dk_at dksX0_isReading_1 0 rfl rfl)
theorem dX0_isReading_25 : decode cX0_isReading 25 = .ok (.getfield 48, 3) := dk_180 0 48 (dk_at dksX0_isReading_1 1 rfl rfl)
theorem dX0_isReading_28 : decode cX0_isReading 28 = .ok (.iload_n 3, 1) := dk_29 (dk_at dksX0_isReading_1 4 rfl rfl)
theorem dX0_isReading_29 : decode cX0_isReading 29 = .ok (.iaload, 1) := dk_46 (dk_at dksX0_isReading_1 5 rfl rfl)
theorem dX0_isReading_30 : decode cX0_isReading 30 = .ok (.if_icmp .ne 7, 3) := dk_160 0 7 (dk_at dksX0_isReading_1 6 rfl rfl)
theorem dX0_isReading_33 : decode cX0_isReading 33 = .ok (.iconst 1, 1) := dk_4 (dk_at dksX0_isReading_1 9 rfl rfl)
theorem dX0_isReading_34 : decode cX0_isReading 34 = .ok (.goto 4, 3) := dk_167 0 4 (dk_at dksX0_isReading_1 10 rfl rfl)
theorem dX0_isReading_37 : decode cX0_isReading 37 = .ok (.iconst 0, 1) := dk_3 (dk_at dksX0_isReading_1 13 rfl rfl)
theorem dX0_isReading_38 : decode cX0_isReading 38 = .ok (.iand, 1) := dk_126 (dk_at dksX0_isReading_1 14 rfl rfl)
theorem dX0_isReading_39 : decode cX0_isReading 39 = .ok (.istore_n 2, 1) := dk_61 (dk_at dksX0_isReading_1 15 rfl rfl)
theorem dX0_isReading_40 : decode cX0_isReading 40 = .ok (.iinc 3 1, 3) := dk_132 3 1 (dk_at dksX0_isReading_1 16 rfl rfl)
theorem dX0_isReading_43 : decode cX0_isReading 43 = .ok (.goto (-39), 3) := dk_167 255 217 (dk_at dksX0_isReading_1 19 rfl rfl)
theorem dX0_isReading_46 : decode cX0_isReading 46 = .ok (.iload_n 2, 1) := dk_28 (dk_at dksX0_isReading_1 22 rfl rfl)
theorem dX0_isReading_47 : decode cX0_isReading 47 = .ok (.ireturn, 1) := dk_172 (dk_at dksX0_isReading_1 23 rfl rfl)
abbrev cX0_isIn : ByteArray := prog_1_method_2_code
def yX0_isIn : MethodName := ⟨RX0, "isIn", "(II)Z"⟩
def dkwX0_isIn_0 : List UInt8 := [26, 27, 122, 4, 126, 4, 160, 0, 7, 4, 167, 0, 4, 3, 172]
abbrev dktX0_isIn_0 : List UInt8 := dkwX0_isIn_0 ++ []
theorem dksX0_isIn_0 : cX0_isIn.data.toList.drop 0 = dktX0_isIn_0 := by decide +kernel
theorem dX0_isIn_0 : decode cX0_isIn 0 = .ok (.iload_n 0, 1) := dk_26 (dk_at dksX0_isIn_0 0 rfl rfl)
theorem dX0_isIn_1 : decode cX0_isIn 1 = .ok (.iload_n 1, 1) := dk_27 (dk_at dksX0_isIn_0 1 rfl rfl)
theorem dX0_isIn_2 : decode cX0_isIn 2 = .ok (.ishr, 1) := dk_122 (dk_at dksX0_isIn_0 2 rfl rfl)
theorem dX0_isIn_3 : decode cX0_isIn 3 = .ok (.iconst 1, 1) := dk_4 (dk_at dksX0_isIn_0 3 rfl rfl)
theorem dX0_isIn_4 : decode cX0_isIn 4 = .ok (.iand, 1) := dk_126 (dk_at dksX0_isIn_0 4 rfl rfl)
theorem dX0_isIn_5 : decode cX0_isIn 5 = .ok (.iconst 1, 1) := dk_4 (dk_at dksX0_isIn_0 5 rfl rfl)
theorem dX0_isIn_6 : decode cX0_isIn 6 = .ok (.if_icmp .ne 7, 3) := dk_160 0 7 (dk_at dksX0_isIn_0 6 rfl rfl)
theorem dX0_isIn_9 : decode cX0_isIn 9 = .ok (.iconst 1, 1) := dk_4 (dk_at dksX0_isIn_0 9 rfl rfl)
theorem dX0_isIn_10 : decode cX0_isIn 10 = .ok (.goto 4, 3) := dk_167 0 4 (dk_at dksX0_isIn_0 10 rfl rfl)
theorem dX0_isIn_13 : decode cX0_isIn 13 = .ok (.iconst 0, 1) := dk_3 (dk_at dksX0_isIn_0 13 rfl rfl)
theorem dX0_isIn_14 : decode cX0_isIn 14 = .ok (.ireturn, 1) := dk_172 (dk_at dksX0_isIn_0 14 rfl rfl)
abbrev cX0_sure : ByteArray := prog_1_method_44_code
def yX0_sure : MethodName := ⟨RX0, "sure", "(I)I"⟩
def dkwX0_sure_0 : List UInt8 := [42, 27, 182, 0, 182, 153, 0, 15, 42, 27, 42, 182, 0, 245, 182, 0, 248, 167, 0, 5, 16, 155, 172]
abbrev dktX0_sure_0 : List UInt8 := dkwX0_sure_0 ++ []
theorem dksX0_sure_0 : cX0_sure.data.toList.drop 0 = dktX0_sure_0 := by decide +kernel
theorem dX0_sure_0 : decode cX0_sure 0 = .ok (.aload_n 0, 1) := dk_42 (dk_at dksX0_sure_0 0 rfl rfl)
theorem dX0_sure_1 : decode cX0_sure 1 = .ok (.iload_n 1, 1) := dk_27 (dk_at dksX0_sure_0 1 rfl rfl)
theorem dX0_sure_2 : decode cX0_sure 2 = .ok (.invokevirtual 182, 3) := dk_182 0 182 (dk_at dksX0_sure_0 2 rfl rfl)
theorem dX0_sure_5 : decode cX0_sure 5 = .ok (.ifCond .eq 15, 3) := dk_153 0 15 (dk_at dksX0_sure_0 5 rfl rfl)
theorem dX0_sure_8 : decode cX0_sure 8 = .ok (.aload_n 0, 1) := dk_42 (dk_at dksX0_sure_0 8 rfl rfl)
theorem dX0_sure_9 : decode cX0_sure 9 = .ok (.iload_n 1, 1) := dk_27 (dk_at dksX0_sure_0 9 rfl rfl)
theorem dX0_sure_10 : decode cX0_sure 10 = .ok (.aload_n 0, 1) := dk_42 (dk_at dksX0_sure_0 10 rfl rfl)
theorem dX0_sure_11 : decode cX0_sure 11 = .ok (.invokevirtual 245, 3) := dk_182 0 245 (dk_at dksX0_sure_0 11 rfl rfl)
theorem dX0_sure_14 : decode cX0_sure 14 = .ok (.invokevirtual 248, 3) := dk_182 0 248 (dk_at dksX0_sure_0 14 rfl rfl)
theorem dX0_sure_17 : decode cX0_sure 17 = .ok (.goto 5, 3) := dk_167 0 5 (dk_at dksX0_sure_0 17 rfl rfl)
theorem dX0_sure_20 : decode cX0_sure 20 = .ok (.bipush (-101), 2) := dk_16 155 (dk_at dksX0_sure_0 20 rfl rfl)
theorem dX0_sure_22 : decode cX0_sure 22 = .ok (.ireturn, 1) := dk_172 (dk_at dksX0_sure_0 22 rfl rfl)
abbrev cX0_sureBy : ByteArray := prog_1_method_43_code
def yX0_sureBy : MethodName := ⟨RX0, "sureBy", "(II)I"⟩
def dkwX0_sureBy_1 : List UInt8 := [46, 167, 0, 17, 42, 27, 182, 0, 194, 2, 160, 0, 7, 28, 167, 0, 4, 3, 172]
abbrev dktX0_sureBy_1 : List UInt8 := dkwX0_sureBy_1 ++ []
def dkwX0_sureBy_0 : List UInt8 := [42, 42, 180, 0, 23, 180, 0, 154, 27, 46, 182, 0, 217, 62, 29, 2, 159, 0, 12, 42, 180, 0, 57, 29]
abbrev dktX0_sureBy_0 : List UInt8 := dkwX0_sureBy_0 ++ dktX0_sureBy_1
theorem dksX0_sureBy_0 : cX0_sureBy.data.toList.drop 0 = dktX0_sureBy_0 := by decide +kernel
theorem dksX0_sureBy_1 : cX0_sureBy.data.toList.drop 24 = dktX0_sureBy_1 := dk_seg dksX0_sureBy_0 24 rfl rfl
theorem dX0_sureBy_0 : decode cX0_sureBy 0 = .ok (.aload_n 0, 1) := dk_42 (dk_at dksX0_sureBy_0 0 rfl rfl)
theorem dX0_sureBy_1 : decode cX0_sureBy 1 = .ok (.aload_n 0, 1) := dk_42 (dk_at dksX0_sureBy_0 1 rfl rfl)
theorem dX0_sureBy_2 : decode cX0_sureBy 2 = .ok (.getfield 23, 3) := dk_180 0 23 (dk_at dksX0_sureBy_0 2 rfl rfl)
theorem dX0_sureBy_5 : decode cX0_sureBy 5 = .ok (.getfield 154, 3) := dk_180 0 154 (dk_at dksX0_sureBy_0 5 rfl rfl)
theorem dX0_sureBy_8 : decode cX0_sureBy 8 = .ok (.iload_n 1, 1) := dk_27 (dk_at dksX0_sureBy_0 8 rfl rfl)
theorem dX0_sureBy_9 : decode cX0_sureBy 9 = .ok (.iaload, 1) := dk_46 (dk_at dksX0_sureBy_0 9 rfl rfl)
theorem dX0_sureBy_10 : decode cX0_sureBy 10 = .ok (.invokevirtual 217, 3) := dk_182 0 217 (dk_at dksX0_sureBy_0 10 rfl rfl)
theorem dX0_sureBy_13 : decode cX0_sureBy 13 = .ok (.istore_n 3, 1) := dk_62 (dk_at dksX0_sureBy_0 13 rfl rfl)
theorem dX0_sureBy_14 : decode cX0_sureBy 14 = .ok (.iload_n 3, 1) := dk_29 (dk_at dksX0_sureBy_0 14 rfl rfl)
theorem dX0_sureBy_15 : decode cX0_sureBy 15 = .ok (.iconst (-1), 1) := dk_2 (dk_at dksX0_sureBy_0 15 rfl rfl)
theorem dX0_sureBy_16 : decode cX0_sureBy 16 = .ok (.if_icmp .eq 12, 3) := dk_159 0 12 (dk_at dksX0_sureBy_0 16 rfl rfl)
theorem dX0_sureBy_19 : decode cX0_sureBy 19 = .ok (.aload_n 0, 1) := dk_42 (dk_at dksX0_sureBy_0 19 rfl rfl)
theorem dX0_sureBy_20 : decode cX0_sureBy 20 = .ok (.getfield 57, 3) := dk_180 0 57 (dk_at dksX0_sureBy_0 20 rfl rfl)
theorem dX0_sureBy_23 : decode cX0_sureBy 23 = .ok (.iload_n 3, 1) := dk_29 (dk_at dksX0_sureBy_0 23 rfl rfl)
theorem dX0_sureBy_24 : decode cX0_sureBy 24 = .ok (.iaload, 1) := dk_46 (dk_at dksX0_sureBy_1 0 rfl rfl)
theorem dX0_sureBy_25 : decode cX0_sureBy 25 = .ok (.goto 17, 3) := dk_167 0 17 (dk_at dksX0_sureBy_1 1 rfl rfl)
theorem dX0_sureBy_28 : decode cX0_sureBy 28 = .ok (.aload_n 0, 1) := dk_42 (dk_at dksX0_sureBy_1 4 rfl rfl)
theorem dX0_sureBy_29 : decode cX0_sureBy 29 = .ok (.iload_n 1, 1) := dk_27 (dk_at dksX0_sureBy_1 5 rfl rfl)
theorem dX0_sureBy_30 : decode cX0_sureBy 30 = .ok (.invokevirtual 194, 3) := dk_182 0 194 (dk_at dksX0_sureBy_1 6 rfl rfl)
theorem dX0_sureBy_33 : decode cX0_sureBy 33 = .ok (.iconst (-1), 1) := dk_2 (dk_at dksX0_sureBy_1 9 rfl rfl)
theorem dX0_sureBy_34 : decode cX0_sureBy 34 = .ok (.if_icmp .ne 7, 3) := dk_160 0 7 (dk_at dksX0_sureBy_1 10 rfl rfl)
theorem dX0_sureBy_37 : decode cX0_sureBy 37 = .ok (.iload_n 2, 1) := dk_28 (dk_at dksX0_sureBy_1 13 rfl rfl)
theorem dX0_sureBy_38 : decode cX0_sureBy 38 = .ok (.goto 4, 3) := dk_167 0 4 (dk_at dksX0_sureBy_1 14 rfl rfl)
theorem dX0_sureBy_41 : decode cX0_sureBy 41 = .ok (.iconst 0, 1) := dk_3 (dk_at dksX0_sureBy_1 17 rfl rfl)
theorem dX0_sureBy_42 : decode cX0_sureBy 42 = .ok (.ireturn, 1) := dk_172 (dk_at dksX0_sureBy_1 18 rfl rfl)
abbrev cX0_surest : ByteArray := prog_1_method_46_code
def yX0_surest : MethodName := ⟨RX0, "surest", "()I"⟩
theorem dX0_surest_0 : decode cX0_surest 0 = .ok (.aload_n 0, 1) := by decide +kernel
theorem dX0_surest_1 : decode cX0_surest 1 = .ok (.invokevirtual 251, 3) := by decide +kernel
theorem dX0_surest_4 : decode cX0_surest 4 = .ok (.ireturn, 1) := by decide +kernel
abbrev cX0_surestTold : ByteArray := prog_1_method_45_code
def yX0_surestTold : MethodName := ⟨RX0, "surestTold", "()I"⟩
def dkwX0_surestTold_2 : List UInt8 := [27, 154, 0, 7, 2, 167, 0, 4, 28, 172]
abbrev dktX0_surestTold_2 : List UInt8 := dkwX0_surestTold_2 ++ []
def dkwX0_surestTold_1 : List UInt8 := [182, 0, 248, 42, 28, 27, 182, 0, 248, 164, 0, 7, 29, 167, 0, 4, 28, 61, 132, 3, 1, 167, 255, 221]
abbrev dktX0_surestTold_1 : List UInt8 := dkwX0_surestTold_1 ++ dktX0_surestTold_2
def dkwX0_surestTold_0 : List UInt8 := [42, 182, 0, 245, 60, 3, 61, 4, 62, 29, 42, 180, 0, 23, 180, 0, 151, 162, 0, 30, 42, 29, 27]
abbrev dktX0_surestTold_0 : List UInt8 := dkwX0_surestTold_0 ++ dktX0_surestTold_1
theorem dksX0_surestTold_0 : cX0_surestTold.data.toList.drop 0 = dktX0_surestTold_0 := by decide +kernel
theorem dksX0_surestTold_1 : cX0_surestTold.data.toList.drop 23 = dktX0_surestTold_1 := dk_seg dksX0_surestTold_0 23 rfl rfl
theorem dksX0_surestTold_2 : cX0_surestTold.data.toList.drop 47 = dktX0_surestTold_2 := dk_seg dksX0_surestTold_1 24 rfl rfl
theorem dX0_surestTold_0 : decode cX0_surestTold 0 = .ok (.aload_n 0, 1) := dk_42 (dk_at dksX0_surestTold_0 0 rfl rfl)
theorem dX0_surestTold_1 : decode cX0_surestTold 1 = .ok (.invokevirtual 245, 3) := dk_182 0 245 (dk_at dksX0_surestTold_0 1 rfl rfl)
theorem dX0_surestTold_4 : decode cX0_surestTold 4 = .ok (.istore_n 1, 1) := dk_60 (dk_at dksX0_surestTold_0 4 rfl rfl)
theorem dX0_surestTold_5 : decode cX0_surestTold 5 = .ok (.iconst 0, 1) := dk_3 (dk_at dksX0_surestTold_0 5 rfl rfl)
theorem dX0_surestTold_6 : decode cX0_surestTold 6 = .ok (.istore_n 2, 1) := dk_61 (dk_at dksX0_surestTold_0 6 rfl rfl)
theorem dX0_surestTold_7 : decode cX0_surestTold 7 = .ok (.iconst 1, 1) := dk_4 (dk_at dksX0_surestTold_0 7 rfl rfl)
theorem dX0_surestTold_8 : decode cX0_surestTold 8 = .ok (.istore_n 3, 1) := dk_62 (dk_at dksX0_surestTold_0 8 rfl rfl)
theorem dX0_surestTold_9 : decode cX0_surestTold 9 = .ok (.iload_n 3, 1) := dk_29 (dk_at dksX0_surestTold_0 9 rfl rfl)
theorem dX0_surestTold_10 : decode cX0_surestTold 10 = .ok (.aload_n 0, 1) := dk_42 (dk_at dksX0_surestTold_0 10 rfl rfl)
theorem dX0_surestTold_11 : decode cX0_surestTold 11 = .ok (.getfield 23, 3) := dk_180 0 23 (dk_at dksX0_surestTold_0 11 rfl rfl)
theorem dX0_surestTold_14 : decode cX0_surestTold 14 = .ok (.getfield 151, 3) := dk_180 0 151 (dk_at dksX0_surestTold_0 14 rfl rfl)
theorem dX0_surestTold_17 : decode cX0_surestTold 17 = .ok (.if_icmp .ge 30, 3) := dk_162 0 30 (dk_at dksX0_surestTold_0 17 rfl rfl)
theorem dX0_surestTold_20 : decode cX0_surestTold 20 = .ok (.aload_n 0, 1) := dk_42 (dk_at dksX0_surestTold_0 20 rfl rfl)
theorem dX0_surestTold_21 : decode cX0_surestTold 21 = .ok (.iload_n 3, 1) := dk_29 (dk_at dksX0_surestTold_0 21 rfl rfl)
theorem dX0_surestTold_22 : decode cX0_surestTold 22 = .ok (.iload_n 1, 1) := dk_27 (dk_at dksX0_surestTold_0 22 rfl rfl)
theorem dX0_surestTold_23 : decode cX0_surestTold 23 = .ok (.invokevirtual 248, 3) := dk_182 0 248 (dk_at dksX0_surestTold_1 0 rfl rfl)
theorem dX0_surestTold_26 : decode cX0_surestTold 26 = .ok (.aload_n 0, 1) := dk_42 (dk_at dksX0_surestTold_1 3 rfl rfl)
theorem dX0_surestTold_27 : decode cX0_surestTold 27 = .ok (.iload_n 2, 1) := dk_28 (dk_at dksX0_surestTold_1 4 rfl rfl)
theorem dX0_surestTold_28 : decode cX0_surestTold 28 = .ok (.iload_n 1, 1) := dk_27 (dk_at dksX0_surestTold_1 5 rfl rfl)
theorem dX0_surestTold_29 : decode cX0_surestTold 29 = .ok (.invokevirtual 248, 3) := dk_182 0 248 (dk_at dksX0_surestTold_1 6 rfl rfl)
theorem dX0_surestTold_32 : decode cX0_surestTold 32 = .ok (.if_icmp .le 7, 3) := dk_164 0 7 (dk_at dksX0_surestTold_1 9 rfl rfl)
theorem dX0_surestTold_35 : decode cX0_surestTold 35 = .ok (.iload_n 3, 1) := dk_29 (dk_at dksX0_surestTold_1 12 rfl rfl)
theorem dX0_surestTold_36 : decode cX0_surestTold 36 = .ok (.goto 4, 3) := dk_167 0 4 (dk_at dksX0_surestTold_1 13 rfl rfl)
theorem dX0_surestTold_39 : decode cX0_surestTold 39 = .ok (.iload_n 2, 1) := dk_28 (dk_at dksX0_surestTold_1 16 rfl rfl)
theorem dX0_surestTold_40 : decode cX0_surestTold 40 = .ok (.istore_n 2, 1) := dk_61 (dk_at dksX0_surestTold_1 17 rfl rfl)
theorem dX0_surestTold_41 : decode cX0_surestTold 41 = .ok (.iinc 3 1, 3) := dk_132 3 1 (dk_at dksX0_surestTold_1 18 rfl rfl)
theorem dX0_surestTold_44 : decode cX0_surestTold 44 = .ok (.goto (-35), 3) := dk_167 255 221 (dk_at dksX0_surestTold_1 21 rfl rfl)
theorem dX0_surestTold_47 : decode cX0_surestTold 47 = .ok (.iload_n 1, 1) := dk_27 (dk_at dksX0_surestTold_2 0 rfl rfl)
theorem dX0_surestTold_48 : decode cX0_surestTold 48 = .ok (.ifCond .ne 7, 3) := dk_154 0 7 (dk_at dksX0_surestTold_2 1 rfl rfl)
theorem dX0_surestTold_51 : decode cX0_surestTold 51 = .ok (.iconst (-1), 1) := dk_2 (dk_at dksX0_surestTold_2 4 rfl rfl)
theorem dX0_surestTold_52 : decode cX0_surestTold 52 = .ok (.goto 4, 3) := dk_167 0 4 (dk_at dksX0_surestTold_2 5 rfl rfl)
theorem dX0_surestTold_55 : decode cX0_surestTold 55 = .ok (.iload_n 2, 1) := dk_28 (dk_at dksX0_surestTold_2 8 rfl rfl)
theorem dX0_surestTold_56 : decode cX0_surestTold 56 = .ok (.ireturn, 1) := dk_172 (dk_at dksX0_surestTold_2 9 rfl rfl)
abbrev cX0_longest : ByteArray := prog_1_method_51_code
def yX0_longest : MethodName := ⟨RX0, "longest", "()I"⟩
def dkwX0_longest_1 : List UInt8 := [172]
abbrev dktX0_longest_1 : List UInt8 := dkwX0_longest_1 ++ []
def dkwX0_longest_0 : List UInt8 := [42, 182, 1, 15, 154, 0, 6, 16, 153, 172, 42, 89, 180, 0, 254, 4, 96, 181, 0, 254, 42, 182, 1, 19]
abbrev dktX0_longest_0 : List UInt8 := dkwX0_longest_0 ++ dktX0_longest_1
theorem dksX0_longest_0 : cX0_longest.data.toList.drop 0 = dktX0_longest_0 := by decide +kernel
theorem dksX0_longest_1 : cX0_longest.data.toList.drop 24 = dktX0_longest_1 := dk_seg dksX0_longest_0 24 rfl rfl
theorem dX0_longest_0 : decode cX0_longest 0 = .ok (.aload_n 0, 1) := dk_42 (dk_at dksX0_longest_0 0 rfl rfl)
theorem dX0_longest_1 : decode cX0_longest 1 = .ok (.invokevirtual 271, 3) := dk_182 1 15 (dk_at dksX0_longest_0 1 rfl rfl)
theorem dX0_longest_4 : decode cX0_longest 4 = .ok (.ifCond .ne 6, 3) := dk_154 0 6 (dk_at dksX0_longest_0 4 rfl rfl)
theorem dX0_longest_7 : decode cX0_longest 7 = .ok (.bipush (-103), 2) := dk_16 153 (dk_at dksX0_longest_0 7 rfl rfl)
theorem dX0_longest_9 : decode cX0_longest 9 = .ok (.ireturn, 1) := dk_172 (dk_at dksX0_longest_0 9 rfl rfl)
theorem dX0_longest_10 : decode cX0_longest 10 = .ok (.aload_n 0, 1) := dk_42 (dk_at dksX0_longest_0 10 rfl rfl)
theorem dX0_longest_11 : decode cX0_longest 11 = .ok (.dup, 1) := dk_89 (dk_at dksX0_longest_0 11 rfl rfl)
theorem dX0_longest_12 : decode cX0_longest 12 = .ok (.getfield 254, 3) := dk_180 0 254 (dk_at dksX0_longest_0 12 rfl rfl)
theorem dX0_longest_15 : decode cX0_longest 15 = .ok (.iconst 1, 1) := dk_4 (dk_at dksX0_longest_0 15 rfl rfl)
theorem dX0_longest_16 : decode cX0_longest 16 = .ok (.iadd, 1) := dk_96 (dk_at dksX0_longest_0 16 rfl rfl)
theorem dX0_longest_17 : decode cX0_longest 17 = .ok (.putfield 254, 3) := dk_181 0 254 (dk_at dksX0_longest_0 17 rfl rfl)
theorem dX0_longest_20 : decode cX0_longest 20 = .ok (.aload_n 0, 1) := dk_42 (dk_at dksX0_longest_0 20 rfl rfl)
theorem dX0_longest_21 : decode cX0_longest 21 = .ok (.invokevirtual 275, 3) := dk_182 1 19 (dk_at dksX0_longest_0 21 rfl rfl)
theorem dX0_longest_24 : decode cX0_longest 24 = .ok (.ireturn, 1) := dk_172 (dk_at dksX0_longest_1 0 rfl rfl)
abbrev cX0_mayAsk : ByteArray := prog_1_method_47_code
def yX0_mayAsk : MethodName := ⟨RX0, "mayAsk", "()Z"⟩
def dkwX0_mayAsk_1 : List UInt8 := [167, 0, 4, 3, 172]
abbrev dktX0_mayAsk_1 : List UInt8 := dkwX0_mayAsk_1 ++ []
def dkwX0_mayAsk_0 : List UInt8 := [42, 180, 0, 23, 180, 0, 118, 16, 10, 163, 0, 16, 42, 180, 0, 254, 16, 30, 162, 0, 7, 4]
abbrev dktX0_mayAsk_0 : List UInt8 := dkwX0_mayAsk_0 ++ dktX0_mayAsk_1
theorem dksX0_mayAsk_0 : cX0_mayAsk.data.toList.drop 0 = dktX0_mayAsk_0 := by decide +kernel
theorem dksX0_mayAsk_1 : cX0_mayAsk.data.toList.drop 22 = dktX0_mayAsk_1 := dk_seg dksX0_mayAsk_0 22 rfl rfl
theorem dX0_mayAsk_0 : decode cX0_mayAsk 0 = .ok (.aload_n 0, 1) := dk_42 (dk_at dksX0_mayAsk_0 0 rfl rfl)
theorem dX0_mayAsk_1 : decode cX0_mayAsk 1 = .ok (.getfield 23, 3) := dk_180 0 23 (dk_at dksX0_mayAsk_0 1 rfl rfl)
theorem dX0_mayAsk_4 : decode cX0_mayAsk 4 = .ok (.getfield 118, 3) := dk_180 0 118 (dk_at dksX0_mayAsk_0 4 rfl rfl)
theorem dX0_mayAsk_7 : decode cX0_mayAsk 7 = .ok (.bipush 10, 2) := dk_16 10 (dk_at dksX0_mayAsk_0 7 rfl rfl)
theorem dX0_mayAsk_9 : decode cX0_mayAsk 9 = .ok (.if_icmp .gt 16, 3) := dk_163 0 16 (dk_at dksX0_mayAsk_0 9 rfl rfl)
theorem dX0_mayAsk_12 : decode cX0_mayAsk 12 = .ok (.aload_n 0, 1) := dk_42 (dk_at dksX0_mayAsk_0 12 rfl rfl)
theorem dX0_mayAsk_13 : decode cX0_mayAsk 13 = .ok (.getfield 254, 3) := dk_180 0 254 (dk_at dksX0_mayAsk_0 13 rfl rfl)
theorem dX0_mayAsk_16 : decode cX0_mayAsk 16 = .ok (.bipush 30, 2) := dk_16 30 (dk_at dksX0_mayAsk_0 16 rfl rfl)
theorem dX0_mayAsk_18 : decode cX0_mayAsk 18 = .ok (.if_icmp .ge 7, 3) := dk_162 0 7 (dk_at dksX0_mayAsk_0 18 rfl rfl)
theorem dX0_mayAsk_21 : decode cX0_mayAsk 21 = .ok (.iconst 1, 1) := dk_4 (dk_at dksX0_mayAsk_0 21 rfl rfl)
theorem dX0_mayAsk_22 : decode cX0_mayAsk 22 = .ok (.goto 4, 3) := dk_167 0 4 (dk_at dksX0_mayAsk_1 0 rfl rfl)
theorem dX0_mayAsk_25 : decode cX0_mayAsk 25 = .ok (.iconst 0, 1) := dk_3 (dk_at dksX0_mayAsk_1 3 rfl rfl)
theorem dX0_mayAsk_26 : decode cX0_mayAsk 26 = .ok (.ireturn, 1) := dk_172 (dk_at dksX0_mayAsk_1 4 rfl rfl)
abbrev cX0_longestOf : ByteArray := prog_1_method_49_code
def yX0_longestOf : MethodName := ⟨RX0, "longestOf", "()I"⟩
def dkwX0_longestOf_6 : List UInt8 := [28, 61, 132, 4, 1, 167, 255, 135, 132, 3, 1, 167, 255, 113, 28, 172]
abbrev dktX0_longestOf_6 : List UInt8 := dkwX0_longestOf_6 ++ []
def dkwX0_longestOf_5 : List UInt8 := [84, 42, 180, 0, 62, 29, 50, 21, 4, 51, 153, 0, 14, 28, 29, 184, 0, 227, 184, 1, 7, 167, 0, 4]
abbrev dktX0_longestOf_5 : List UInt8 := dkwX0_longestOf_5 ++ dktX0_longestOf_6
def dkwX0_longestOf_4 : List UInt8 := [153, 0, 23, 21, 5, 153, 0, 14, 42, 21, 5, 21, 4, 182, 1, 4, 153, 0, 7, 4, 167, 0, 4, 3]
abbrev dktX0_longestOf_4 : List UInt8 := dkwX0_longestOf_4 ++ dktX0_longestOf_5
def dkwX0_longestOf_3 : List UInt8 := [29, 27, 126, 154, 0, 7, 4, 167, 0, 4, 3, 54, 6, 42, 180, 0, 62, 29, 50, 21, 4, 21, 6]
abbrev dktX0_longestOf_3 : List UInt8 := dkwX0_longestOf_3 ++ dktX0_longestOf_4
def dkwX0_longestOf_2 : List UInt8 := [21, 4, 46, 120, 130, 54, 5, 29, 42, 180, 0, 23, 180, 0, 154, 21, 4, 46, 184, 0, 241, 153, 0, 13]
abbrev dktX0_longestOf_2 : List UInt8 := dkwX0_longestOf_2 ++ dktX0_longestOf_3
def dkwX0_longestOf_1 : List UInt8 := [54, 4, 21, 4, 42, 180, 0, 23, 180, 0, 151, 162, 0, 115, 29, 4, 42, 180, 0, 23, 180, 0, 154]
abbrev dktX0_longestOf_1 : List UInt8 := dkwX0_longestOf_1 ++ dktX0_longestOf_2
def dkwX0_longestOf_0 : List UInt8 := [42, 182, 1, 1, 60, 3, 61, 3, 62, 29, 4, 42, 180, 0, 23, 180, 0, 118, 120, 162, 0, 136, 3]
abbrev dktX0_longestOf_0 : List UInt8 := dkwX0_longestOf_0 ++ dktX0_longestOf_1
theorem dksX0_longestOf_0 : cX0_longestOf.data.toList.drop 0 = dktX0_longestOf_0 := by decide +kernel
theorem dksX0_longestOf_1 : cX0_longestOf.data.toList.drop 23 = dktX0_longestOf_1 := dk_seg dksX0_longestOf_0 23 rfl rfl
theorem dksX0_longestOf_2 : cX0_longestOf.data.toList.drop 46 = dktX0_longestOf_2 := dk_seg dksX0_longestOf_1 23 rfl rfl
theorem dksX0_longestOf_3 : cX0_longestOf.data.toList.drop 70 = dktX0_longestOf_3 := dk_seg dksX0_longestOf_2 24 rfl rfl
theorem dksX0_longestOf_4 : cX0_longestOf.data.toList.drop 93 = dktX0_longestOf_4 := dk_seg dksX0_longestOf_3 23 rfl rfl
theorem dksX0_longestOf_5 : cX0_longestOf.data.toList.drop 117 = dktX0_longestOf_5 := dk_seg dksX0_longestOf_4 24 rfl rfl
theorem dksX0_longestOf_6 : cX0_longestOf.data.toList.drop 141 = dktX0_longestOf_6 := dk_seg dksX0_longestOf_5 24 rfl rfl
theorem dX0_longestOf_0 : decode cX0_longestOf 0 = .ok (.aload_n 0, 1) := dk_42 (dk_at dksX0_longestOf_0 0 rfl rfl)
theorem dX0_longestOf_1 : decode cX0_longestOf 1 = .ok (.invokevirtual 257, 3) := dk_182 1 1 (dk_at dksX0_longestOf_0 1 rfl rfl)
theorem dX0_longestOf_4 : decode cX0_longestOf 4 = .ok (.istore_n 1, 1) := dk_60 (dk_at dksX0_longestOf_0 4 rfl rfl)
theorem dX0_longestOf_5 : decode cX0_longestOf 5 = .ok (.iconst 0, 1) := dk_3 (dk_at dksX0_longestOf_0 5 rfl rfl)
theorem dX0_longestOf_6 : decode cX0_longestOf 6 = .ok (.istore_n 2, 1) := dk_61 (dk_at dksX0_longestOf_0 6 rfl rfl)
theorem dX0_longestOf_7 : decode cX0_longestOf 7 = .ok (.iconst 0, 1) := dk_3 (dk_at dksX0_longestOf_0 7 rfl rfl)
theorem dX0_longestOf_8 : decode cX0_longestOf 8 = .ok (.istore_n 3, 1) := dk_62 (dk_at dksX0_longestOf_0 8 rfl rfl)
theorem dX0_longestOf_9 : decode cX0_longestOf 9 = .ok (.iload_n 3, 1) := dk_29 (dk_at dksX0_longestOf_0 9 rfl rfl)
theorem dX0_longestOf_10 : decode cX0_longestOf 10 = .ok (.iconst 1, 1) := dk_4 (dk_at dksX0_longestOf_0 10 rfl rfl)
theorem dX0_longestOf_11 : decode cX0_longestOf 11 = .ok (.aload_n 0, 1) := dk_42 (dk_at dksX0_longestOf_0 11 rfl rfl)
theorem dX0_longestOf_12 : decode cX0_longestOf 12 = .ok (.getfield 23, 3) := dk_180 0 23 (dk_at dksX0_longestOf_0 12 rfl rfl)
theorem dX0_longestOf_15 : decode cX0_longestOf 15 = .ok (.getfield 118, 3) := dk_180 0 118 (dk_at dksX0_longestOf_0 15 rfl rfl)
theorem dX0_longestOf_18 : decode cX0_longestOf 18 = .ok (.ishl, 1) := dk_120 (dk_at dksX0_longestOf_0 18 rfl rfl)
theorem dX0_longestOf_19 : decode cX0_longestOf 19 = .ok (.if_icmp .ge 136, 3) := dk_162 0 136 (dk_at dksX0_longestOf_0 19 rfl rfl)
theorem dX0_longestOf_22 : decode cX0_longestOf 22 = .ok (.iconst 0, 1) := dk_3 (dk_at dksX0_longestOf_0 22 rfl rfl)
theorem dX0_longestOf_23 : decode cX0_longestOf 23 = .ok (.istore 4, 2) := dk_54 4 (dk_at dksX0_longestOf_1 0 rfl rfl)
theorem dX0_longestOf_25 : decode cX0_longestOf 25 = .ok (.iload 4, 2) := dk_21 4 (dk_at dksX0_longestOf_1 2 rfl rfl)
theorem dX0_longestOf_27 : decode cX0_longestOf 27 = .ok (.aload_n 0, 1) := dk_42 (dk_at dksX0_longestOf_1 4 rfl rfl)
theorem dX0_longestOf_28 : decode cX0_longestOf 28 = .ok (.getfield 23, 3) := dk_180 0 23 (dk_at dksX0_longestOf_1 5 rfl rfl)
theorem dX0_longestOf_31 : decode cX0_longestOf 31 = .ok (.getfield 151, 3) := dk_180 0 151 (dk_at dksX0_longestOf_1 8 rfl rfl)
theorem dX0_longestOf_34 : decode cX0_longestOf 34 = .ok (.if_icmp .ge 115, 3) := dk_162 0 115 (dk_at dksX0_longestOf_1 11 rfl rfl)
theorem dX0_longestOf_37 : decode cX0_longestOf 37 = .ok (.iload_n 3, 1) := dk_29 (dk_at dksX0_longestOf_1 14 rfl rfl)
theorem dX0_longestOf_38 : decode cX0_longestOf 38 = .ok (.iconst 1, 1) := dk_4 (dk_at dksX0_longestOf_1 15 rfl rfl)
theorem dX0_longestOf_39 : decode cX0_longestOf 39 = .ok (.aload_n 0, 1) := dk_42 (dk_at dksX0_longestOf_1 16 rfl rfl)
theorem dX0_longestOf_40 : decode cX0_longestOf 40 = .ok (.getfield 23, 3) := dk_180 0 23 (dk_at dksX0_longestOf_1 17 rfl rfl)
theorem dX0_longestOf_43 : decode cX0_longestOf 43 = .ok (.getfield 154, 3) := dk_180 0 154 (dk_at dksX0_longestOf_1 20 rfl rfl)
theorem dX0_longestOf_46 : decode cX0_longestOf 46 = .ok (.iload 4, 2) := dk_21 4 (dk_at dksX0_longestOf_2 0 rfl rfl)
theorem dX0_longestOf_48 : decode cX0_longestOf 48 = .ok (.iaload, 1) := dk_46 (dk_at dksX0_longestOf_2 2 rfl rfl)
theorem dX0_longestOf_49 : decode cX0_longestOf 49 = .ok (.ishl, 1) := dk_120 (dk_at dksX0_longestOf_2 3 rfl rfl)
theorem dX0_longestOf_50 : decode cX0_longestOf 50 = .ok (.ixor, 1) := dk_130 (dk_at dksX0_longestOf_2 4 rfl rfl)
theorem dX0_longestOf_51 : decode cX0_longestOf 51 = .ok (.istore 5, 2) := dk_54 5 (dk_at dksX0_longestOf_2 5 rfl rfl)
theorem dX0_longestOf_53 : decode cX0_longestOf 53 = .ok (.iload_n 3, 1) := dk_29 (dk_at dksX0_longestOf_2 7 rfl rfl)
theorem dX0_longestOf_54 : decode cX0_longestOf 54 = .ok (.aload_n 0, 1) := dk_42 (dk_at dksX0_longestOf_2 8 rfl rfl)
theorem dX0_longestOf_55 : decode cX0_longestOf 55 = .ok (.getfield 23, 3) := dk_180 0 23 (dk_at dksX0_longestOf_2 9 rfl rfl)
theorem dX0_longestOf_58 : decode cX0_longestOf 58 = .ok (.getfield 154, 3) := dk_180 0 154 (dk_at dksX0_longestOf_2 12 rfl rfl)
theorem dX0_longestOf_61 : decode cX0_longestOf 61 = .ok (.iload 4, 2) := dk_21 4 (dk_at dksX0_longestOf_2 15 rfl rfl)
theorem dX0_longestOf_63 : decode cX0_longestOf 63 = .ok (.iaload, 1) := dk_46 (dk_at dksX0_longestOf_2 17 rfl rfl)
theorem dX0_longestOf_64 : decode cX0_longestOf 64 = .ok (.invokestatic 241, 3) := dk_184 0 241 (dk_at dksX0_longestOf_2 18 rfl rfl)
theorem dX0_longestOf_67 : decode cX0_longestOf 67 = .ok (.ifCond .eq 13, 3) := dk_153 0 13 (dk_at dksX0_longestOf_2 21 rfl rfl)
theorem dX0_longestOf_70 : decode cX0_longestOf 70 = .ok (.iload_n 3, 1) := dk_29 (dk_at dksX0_longestOf_3 0 rfl rfl)
theorem dX0_longestOf_71 : decode cX0_longestOf 71 = .ok (.iload_n 1, 1) := dk_27 (dk_at dksX0_longestOf_3 1 rfl rfl)
theorem dX0_longestOf_72 : decode cX0_longestOf 72 = .ok (.iand, 1) := dk_126 (dk_at dksX0_longestOf_3 2 rfl rfl)
theorem dX0_longestOf_73 : decode cX0_longestOf 73 = .ok (.ifCond .ne 7, 3) := dk_154 0 7 (dk_at dksX0_longestOf_3 3 rfl rfl)
theorem dX0_longestOf_76 : decode cX0_longestOf 76 = .ok (.iconst 1, 1) := dk_4 (dk_at dksX0_longestOf_3 6 rfl rfl)
theorem dX0_longestOf_77 : decode cX0_longestOf 77 = .ok (.goto 4, 3) := dk_167 0 4 (dk_at dksX0_longestOf_3 7 rfl rfl)
theorem dX0_longestOf_80 : decode cX0_longestOf 80 = .ok (.iconst 0, 1) := dk_3 (dk_at dksX0_longestOf_3 10 rfl rfl)
theorem dX0_longestOf_81 : decode cX0_longestOf 81 = .ok (.istore 6, 2) := dk_54 6 (dk_at dksX0_longestOf_3 11 rfl rfl)
theorem dX0_longestOf_83 : decode cX0_longestOf 83 = .ok (.aload_n 0, 1) := dk_42 (dk_at dksX0_longestOf_3 13 rfl rfl)
theorem dX0_longestOf_84 : decode cX0_longestOf 84 = .ok (.getfield 62, 3) := dk_180 0 62 (dk_at dksX0_longestOf_3 14 rfl rfl)
theorem dX0_longestOf_87 : decode cX0_longestOf 87 = .ok (.iload_n 3, 1) := dk_29 (dk_at dksX0_longestOf_3 17 rfl rfl)
theorem dX0_longestOf_88 : decode cX0_longestOf 88 = .ok (.aaload, 1) := dk_50 (dk_at dksX0_longestOf_3 18 rfl rfl)
theorem dX0_longestOf_89 : decode cX0_longestOf 89 = .ok (.iload 4, 2) := dk_21 4 (dk_at dksX0_longestOf_3 19 rfl rfl)
theorem dX0_longestOf_91 : decode cX0_longestOf 91 = .ok (.iload 6, 2) := dk_21 6 (dk_at dksX0_longestOf_3 21 rfl rfl)
theorem dX0_longestOf_93 : decode cX0_longestOf 93 = .ok (.ifCond .eq 23, 3) := dk_153 0 23 (dk_at dksX0_longestOf_4 0 rfl rfl)
theorem dX0_longestOf_96 : decode cX0_longestOf 96 = .ok (.iload 5, 2) := dk_21 5 (dk_at dksX0_longestOf_4 3 rfl rfl)
theorem dX0_longestOf_98 : decode cX0_longestOf 98 = .ok (.ifCond .eq 14, 3) := dk_153 0 14 (dk_at dksX0_longestOf_4 5 rfl rfl)
theorem dX0_longestOf_101 : decode cX0_longestOf 101 = .ok (.aload_n 0, 1) := dk_42 (dk_at dksX0_longestOf_4 8 rfl rfl)
theorem dX0_longestOf_102 : decode cX0_longestOf 102 = .ok (.iload 5, 2) := dk_21 5 (dk_at dksX0_longestOf_4 9 rfl rfl)
theorem dX0_longestOf_104 : decode cX0_longestOf 104 = .ok (.iload 4, 2) := dk_21 4 (dk_at dksX0_longestOf_4 11 rfl rfl)
theorem dX0_longestOf_106 : decode cX0_longestOf 106 = .ok (.invokevirtual 260, 3) := dk_182 1 4 (dk_at dksX0_longestOf_4 13 rfl rfl)
theorem dX0_longestOf_109 : decode cX0_longestOf 109 = .ok (.ifCond .eq 7, 3) := dk_153 0 7 (dk_at dksX0_longestOf_4 16 rfl rfl)
theorem dX0_longestOf_112 : decode cX0_longestOf 112 = .ok (.iconst 1, 1) := dk_4 (dk_at dksX0_longestOf_4 19 rfl rfl)
theorem dX0_longestOf_113 : decode cX0_longestOf 113 = .ok (.goto 4, 3) := dk_167 0 4 (dk_at dksX0_longestOf_4 20 rfl rfl)
theorem dX0_longestOf_116 : decode cX0_longestOf 116 = .ok (.iconst 0, 1) := dk_3 (dk_at dksX0_longestOf_4 23 rfl rfl)
theorem dX0_longestOf_117 : decode cX0_longestOf 117 = .ok (.bastore, 1) := dk_84 (dk_at dksX0_longestOf_5 0 rfl rfl)
theorem dX0_longestOf_118 : decode cX0_longestOf 118 = .ok (.aload_n 0, 1) := dk_42 (dk_at dksX0_longestOf_5 1 rfl rfl)
theorem dX0_longestOf_119 : decode cX0_longestOf 119 = .ok (.getfield 62, 3) := dk_180 0 62 (dk_at dksX0_longestOf_5 2 rfl rfl)
theorem dX0_longestOf_122 : decode cX0_longestOf 122 = .ok (.iload_n 3, 1) := dk_29 (dk_at dksX0_longestOf_5 5 rfl rfl)
theorem dX0_longestOf_123 : decode cX0_longestOf 123 = .ok (.aaload, 1) := dk_50 (dk_at dksX0_longestOf_5 6 rfl rfl)
theorem dX0_longestOf_124 : decode cX0_longestOf 124 = .ok (.iload 4, 2) := dk_21 4 (dk_at dksX0_longestOf_5 7 rfl rfl)
theorem dX0_longestOf_126 : decode cX0_longestOf 126 = .ok (.baload, 1) := dk_51 (dk_at dksX0_longestOf_5 9 rfl rfl)
theorem dX0_longestOf_127 : decode cX0_longestOf 127 = .ok (.ifCond .eq 14, 3) := dk_153 0 14 (dk_at dksX0_longestOf_5 10 rfl rfl)
theorem dX0_longestOf_130 : decode cX0_longestOf 130 = .ok (.iload_n 2, 1) := dk_28 (dk_at dksX0_longestOf_5 13 rfl rfl)
theorem dX0_longestOf_131 : decode cX0_longestOf 131 = .ok (.iload_n 3, 1) := dk_29 (dk_at dksX0_longestOf_5 14 rfl rfl)
theorem dX0_longestOf_132 : decode cX0_longestOf 132 = .ok (.invokestatic 227, 3) := dk_184 0 227 (dk_at dksX0_longestOf_5 15 rfl rfl)
theorem dX0_longestOf_135 : decode cX0_longestOf 135 = .ok (.invokestatic 263, 3) := dk_184 1 7 (dk_at dksX0_longestOf_5 18 rfl rfl)
theorem dX0_longestOf_138 : decode cX0_longestOf 138 = .ok (.goto 4, 3) := dk_167 0 4 (dk_at dksX0_longestOf_5 21 rfl rfl)
theorem dX0_longestOf_141 : decode cX0_longestOf 141 = .ok (.iload_n 2, 1) := dk_28 (dk_at dksX0_longestOf_6 0 rfl rfl)
theorem dX0_longestOf_142 : decode cX0_longestOf 142 = .ok (.istore_n 2, 1) := dk_61 (dk_at dksX0_longestOf_6 1 rfl rfl)
theorem dX0_longestOf_143 : decode cX0_longestOf 143 = .ok (.iinc 4 1, 3) := dk_132 4 1 (dk_at dksX0_longestOf_6 2 rfl rfl)
theorem dX0_longestOf_146 : decode cX0_longestOf 146 = .ok (.goto (-121), 3) := dk_167 255 135 (dk_at dksX0_longestOf_6 5 rfl rfl)
theorem dX0_longestOf_149 : decode cX0_longestOf 149 = .ok (.iinc 3 1, 3) := dk_132 3 1 (dk_at dksX0_longestOf_6 8 rfl rfl)
theorem dX0_longestOf_152 : decode cX0_longestOf 152 = .ok (.goto (-143), 3) := dk_167 255 113 (dk_at dksX0_longestOf_6 11 rfl rfl)
theorem dX0_longestOf_155 : decode cX0_longestOf 155 = .ok (.iload_n 2, 1) := dk_28 (dk_at dksX0_longestOf_6 14 rfl rfl)
theorem dX0_longestOf_156 : decode cX0_longestOf 156 = .ok (.ireturn, 1) := dk_172 (dk_at dksX0_longestOf_6 15 rfl rfl)
abbrev cX0_heardSorts : ByteArray := prog_1_method_48_code
def yX0_heardSorts : MethodName := ⟨RX0, "heardSorts", "()I"⟩
def dkwX0_heardSorts_1 : List UInt8 := [3, 167, 0, 6, 4, 28, 120, 128, 60, 132, 2, 1, 167, 255, 224, 27, 172]
abbrev dktX0_heardSorts_1 : List UInt8 := dkwX0_heardSorts_1 ++ []
def dkwX0_heardSorts_0 : List UInt8 := [3, 60, 3, 61, 28, 42, 180, 0, 23, 180, 0, 118, 162, 0, 27, 27, 42, 28, 182, 0, 188, 153, 0, 7]
abbrev dktX0_heardSorts_0 : List UInt8 := dkwX0_heardSorts_0 ++ dktX0_heardSorts_1
theorem dksX0_heardSorts_0 : cX0_heardSorts.data.toList.drop 0 = dktX0_heardSorts_0 := by decide +kernel
theorem dksX0_heardSorts_1 : cX0_heardSorts.data.toList.drop 24 = dktX0_heardSorts_1 := dk_seg dksX0_heardSorts_0 24 rfl rfl
theorem dX0_heardSorts_0 : decode cX0_heardSorts 0 = .ok (.iconst 0, 1) := dk_3 (dk_at dksX0_heardSorts_0 0 rfl rfl)
theorem dX0_heardSorts_1 : decode cX0_heardSorts 1 = .ok (.istore_n 1, 1) := dk_60 (dk_at dksX0_heardSorts_0 1 rfl rfl)
theorem dX0_heardSorts_2 : decode cX0_heardSorts 2 = .ok (.iconst 0, 1) := dk_3 (dk_at dksX0_heardSorts_0 2 rfl rfl)
theorem dX0_heardSorts_3 : decode cX0_heardSorts 3 = .ok (.istore_n 2, 1) := dk_61 (dk_at dksX0_heardSorts_0 3 rfl rfl)
theorem dX0_heardSorts_4 : decode cX0_heardSorts 4 = .ok (.iload_n 2, 1) := dk_28 (dk_at dksX0_heardSorts_0 4 rfl rfl)
theorem dX0_heardSorts_5 : decode cX0_heardSorts 5 = .ok (.aload_n 0, 1) := dk_42 (dk_at dksX0_heardSorts_0 5 rfl rfl)
theorem dX0_heardSorts_6 : decode cX0_heardSorts 6 = .ok (.getfield 23, 3) := dk_180 0 23 (dk_at dksX0_heardSorts_0 6 rfl rfl)
theorem dX0_heardSorts_9 : decode cX0_heardSorts 9 = .ok (.getfield 118, 3) := dk_180 0 118 (dk_at dksX0_heardSorts_0 9 rfl rfl)
theorem dX0_heardSorts_12 : decode cX0_heardSorts 12 = .ok (.if_icmp .ge 27, 3) := dk_162 0 27 (dk_at dksX0_heardSorts_0 12 rfl rfl)
theorem dX0_heardSorts_15 : decode cX0_heardSorts 15 = .ok (.iload_n 1, 1) := dk_27 (dk_at dksX0_heardSorts_0 15 rfl rfl)
theorem dX0_heardSorts_16 : decode cX0_heardSorts 16 = .ok (.aload_n 0, 1) := dk_42 (dk_at dksX0_heardSorts_0 16 rfl rfl)
theorem dX0_heardSorts_17 : decode cX0_heardSorts 17 = .ok (.iload_n 2, 1) := dk_28 (dk_at dksX0_heardSorts_0 17 rfl rfl)
theorem dX0_heardSorts_18 : decode cX0_heardSorts 18 = .ok (.invokevirtual 188, 3) := dk_182 0 188 (dk_at dksX0_heardSorts_0 18 rfl rfl)
theorem dX0_heardSorts_21 : decode cX0_heardSorts 21 = .ok (.ifCond .eq 7, 3) := dk_153 0 7 (dk_at dksX0_heardSorts_0 21 rfl rfl)
theorem dX0_heardSorts_24 : decode cX0_heardSorts 24 = .ok (.iconst 0, 1) := dk_3 (dk_at dksX0_heardSorts_1 0 rfl rfl)
theorem dX0_heardSorts_25 : decode cX0_heardSorts 25 = .ok (.goto 6, 3) := dk_167 0 6 (dk_at dksX0_heardSorts_1 1 rfl rfl)
theorem dX0_heardSorts_28 : decode cX0_heardSorts 28 = .ok (.iconst 1, 1) := dk_4 (dk_at dksX0_heardSorts_1 4 rfl rfl)
theorem dX0_heardSorts_29 : decode cX0_heardSorts 29 = .ok (.iload_n 2, 1) := dk_28 (dk_at dksX0_heardSorts_1 5 rfl rfl)
theorem dX0_heardSorts_30 : decode cX0_heardSorts 30 = .ok (.ishl, 1) := dk_120 (dk_at dksX0_heardSorts_1 6 rfl rfl)
theorem dX0_heardSorts_31 : decode cX0_heardSorts 31 = .ok (.ior, 1) := dk_128 (dk_at dksX0_heardSorts_1 7 rfl rfl)
theorem dX0_heardSorts_32 : decode cX0_heardSorts 32 = .ok (.istore_n 1, 1) := dk_60 (dk_at dksX0_heardSorts_1 8 rfl rfl)
theorem dX0_heardSorts_33 : decode cX0_heardSorts 33 = .ok (.iinc 2 1, 3) := dk_132 2 1 (dk_at dksX0_heardSorts_1 9 rfl rfl)
theorem dX0_heardSorts_36 : decode cX0_heardSorts 36 = .ok (.goto (-32), 3) := dk_167 255 224 (dk_at dksX0_heardSorts_1 12 rfl rfl)
theorem dX0_heardSorts_39 : decode cX0_heardSorts 39 = .ok (.iload_n 1, 1) := dk_27 (dk_at dksX0_heardSorts_1 15 rfl rfl)
theorem dX0_heardSorts_40 : decode cX0_heardSorts 40 = .ok (.ireturn, 1) := dk_172 (dk_at dksX0_heardSorts_1 16 rfl rfl)
abbrev cX0_comesBehind : ByteArray := prog_1_method_50_code
def yX0_comesBehind : MethodName := ⟨RX0, "comesBehind", "(II)Z"⟩
def dkwX0_comesBehind_1 : List UInt8 := [42, 180, 0, 23, 29, 28, 182, 1, 12, 5, 160, 0, 5, 4, 172, 132, 3, 1, 167, 255, 216, 3, 172]
abbrev dktX0_comesBehind_1 : List UInt8 := dkwX0_comesBehind_1 ++ []
def dkwX0_comesBehind_0 : List UInt8 := [3, 62, 29, 42, 180, 0, 23, 180, 0, 151, 162, 0, 35, 42, 180, 0, 62, 27, 50, 29, 51, 153, 0, 18]
abbrev dktX0_comesBehind_0 : List UInt8 := dkwX0_comesBehind_0 ++ dktX0_comesBehind_1
theorem dksX0_comesBehind_0 : cX0_comesBehind.data.toList.drop 0 = dktX0_comesBehind_0 := by decide +kernel
theorem dksX0_comesBehind_1 : cX0_comesBehind.data.toList.drop 24 = dktX0_comesBehind_1 := dk_seg dksX0_comesBehind_0 24 rfl rfl
theorem dX0_comesBehind_0 : decode cX0_comesBehind 0 = .ok (.iconst 0, 1) := dk_3 (dk_at dksX0_comesBehind_0 0 rfl rfl)
theorem dX0_comesBehind_1 : decode cX0_comesBehind 1 = .ok (.istore_n 3, 1) := dk_62 (dk_at dksX0_comesBehind_0 1 rfl rfl)
theorem dX0_comesBehind_2 : decode cX0_comesBehind 2 = .ok (.iload_n 3, 1) := dk_29 (dk_at dksX0_comesBehind_0 2 rfl rfl)
theorem dX0_comesBehind_3 : decode cX0_comesBehind 3 = .ok (.aload_n 0, 1) := dk_42 (dk_at dksX0_comesBehind_0 3 rfl rfl)
theorem dX0_comesBehind_4 : decode cX0_comesBehind 4 = .ok (.getfield 23, 3) := dk_180 0 23 (dk_at dksX0_comesBehind_0 4 rfl rfl)
theorem dX0_comesBehind_7 : decode cX0_comesBehind 7 = .ok (.getfield 151, 3) := dk_180 0 151 (dk_at dksX0_comesBehind_0 7 rfl rfl)
theorem dX0_comesBehind_10 : decode cX0_comesBehind 10 = .ok (.if_icmp .ge 35, 3) := dk_162 0 35 (dk_at dksX0_comesBehind_0 10 rfl rfl)
theorem dX0_comesBehind_13 : decode cX0_comesBehind 13 = .ok (.aload_n 0, 1) := dk_42 (dk_at dksX0_comesBehind_0 13 rfl rfl)
theorem dX0_comesBehind_14 : decode cX0_comesBehind 14 = .ok (.getfield 62, 3) := dk_180 0 62 (dk_at dksX0_comesBehind_0 14 rfl rfl)
theorem dX0_comesBehind_17 : decode cX0_comesBehind 17 = .ok (.iload_n 1, 1) := dk_27 (dk_at dksX0_comesBehind_0 17 rfl rfl)
theorem dX0_comesBehind_18 : decode cX0_comesBehind 18 = .ok (.aaload, 1) := dk_50 (dk_at dksX0_comesBehind_0 18 rfl rfl)
theorem dX0_comesBehind_19 : decode cX0_comesBehind 19 = .ok (.iload_n 3, 1) := dk_29 (dk_at dksX0_comesBehind_0 19 rfl rfl)
theorem dX0_comesBehind_20 : decode cX0_comesBehind 20 = .ok (.baload, 1) := dk_51 (dk_at dksX0_comesBehind_0 20 rfl rfl)
theorem dX0_comesBehind_21 : decode cX0_comesBehind 21 = .ok (.ifCond .eq 18, 3) := dk_153 0 18 (dk_at dksX0_comesBehind_0 21 rfl rfl)
theorem dX0_comesBehind_24 : decode cX0_comesBehind 24 = .ok (.aload_n 0, 1) := dk_42 (dk_at dksX0_comesBehind_1 0 rfl rfl)
theorem dX0_comesBehind_25 : decode cX0_comesBehind 25 = .ok (.getfield 23, 3) := dk_180 0 23 (dk_at dksX0_comesBehind_1 1 rfl rfl)
theorem dX0_comesBehind_28 : decode cX0_comesBehind 28 = .ok (.iload_n 3, 1) := dk_29 (dk_at dksX0_comesBehind_1 4 rfl rfl)
theorem dX0_comesBehind_29 : decode cX0_comesBehind 29 = .ok (.iload_n 2, 1) := dk_28 (dk_at dksX0_comesBehind_1 5 rfl rfl)
theorem dX0_comesBehind_30 : decode cX0_comesBehind 30 = .ok (.invokevirtual 268, 3) := dk_182 1 12 (dk_at dksX0_comesBehind_1 6 rfl rfl)
theorem dX0_comesBehind_33 : decode cX0_comesBehind 33 = .ok (.iconst 2, 1) := dk_5 (dk_at dksX0_comesBehind_1 9 rfl rfl)
theorem dX0_comesBehind_34 : decode cX0_comesBehind 34 = .ok (.if_icmp .ne 5, 3) := dk_160 0 5 (dk_at dksX0_comesBehind_1 10 rfl rfl)
theorem dX0_comesBehind_37 : decode cX0_comesBehind 37 = .ok (.iconst 1, 1) := dk_4 (dk_at dksX0_comesBehind_1 13 rfl rfl)
theorem dX0_comesBehind_38 : decode cX0_comesBehind 38 = .ok (.ireturn, 1) := dk_172 (dk_at dksX0_comesBehind_1 14 rfl rfl)
theorem dX0_comesBehind_39 : decode cX0_comesBehind 39 = .ok (.iinc 3 1, 3) := dk_132 3 1 (dk_at dksX0_comesBehind_1 15 rfl rfl)
theorem dX0_comesBehind_42 : decode cX0_comesBehind 42 = .ok (.goto (-40), 3) := dk_167 255 216 (dk_at dksX0_comesBehind_1 18 rfl rfl)
theorem dX0_comesBehind_45 : decode cX0_comesBehind 45 = .ok (.iconst 0, 1) := dk_3 (dk_at dksX0_comesBehind_1 21 rfl rfl)
theorem dX0_comesBehind_46 : decode cX0_comesBehind 46 = .ok (.ireturn, 1) := dk_172 (dk_at dksX0_comesBehind_1 22 rfl rfl)
abbrev cX0_game : ByteArray := prog_1_method_54_code
def yX0_game : MethodName := ⟨RX0, "game", "(II)I"⟩
def dkwX0_game_2 : List UInt8 := [62, 28, 4, 160, 0, 7, 29, 167, 0, 13, 29, 2, 160, 0, 7, 3, 167, 0, 4, 4, 172]
abbrev dktX0_game_2 : List UInt8 := dkwX0_game_2 ++ []
def dkwX0_game_1 : List UInt8 := [182, 1, 15, 154, 0, 6, 16, 153, 172, 42, 89, 180, 0, 254, 4, 96, 181, 0, 254, 42, 27, 182, 1, 25]
abbrev dktX0_game_1 : List UInt8 := dkwX0_game_1 ++ dktX0_game_2
def dkwX0_game_0 : List UInt8 := [27, 3, 5, 184, 0, 89, 153, 0, 12, 28, 3, 4, 184, 0, 89, 154, 0, 6, 16, 154, 172, 42]
abbrev dktX0_game_0 : List UInt8 := dkwX0_game_0 ++ dktX0_game_1
theorem dksX0_game_0 : cX0_game.data.toList.drop 0 = dktX0_game_0 := by decide +kernel
theorem dksX0_game_1 : cX0_game.data.toList.drop 22 = dktX0_game_1 := dk_seg dksX0_game_0 22 rfl rfl
theorem dksX0_game_2 : cX0_game.data.toList.drop 46 = dktX0_game_2 := dk_seg dksX0_game_1 24 rfl rfl
theorem dX0_game_0 : decode cX0_game 0 = .ok (.iload_n 1, 1) := dk_27 (dk_at dksX0_game_0 0 rfl rfl)
theorem dX0_game_1 : decode cX0_game 1 = .ok (.iconst 0, 1) := dk_3 (dk_at dksX0_game_0 1 rfl rfl)
theorem dX0_game_2 : decode cX0_game 2 = .ok (.iconst 2, 1) := dk_5 (dk_at dksX0_game_0 2 rfl rfl)
theorem dX0_game_3 : decode cX0_game 3 = .ok (.invokestatic 89, 3) := dk_184 0 89 (dk_at dksX0_game_0 3 rfl rfl)
theorem dX0_game_6 : decode cX0_game 6 = .ok (.ifCond .eq 12, 3) := dk_153 0 12 (dk_at dksX0_game_0 6 rfl rfl)
theorem dX0_game_9 : decode cX0_game 9 = .ok (.iload_n 2, 1) := dk_28 (dk_at dksX0_game_0 9 rfl rfl)
theorem dX0_game_10 : decode cX0_game 10 = .ok (.iconst 0, 1) := dk_3 (dk_at dksX0_game_0 10 rfl rfl)
theorem dX0_game_11 : decode cX0_game 11 = .ok (.iconst 1, 1) := dk_4 (dk_at dksX0_game_0 11 rfl rfl)
theorem dX0_game_12 : decode cX0_game 12 = .ok (.invokestatic 89, 3) := dk_184 0 89 (dk_at dksX0_game_0 12 rfl rfl)
theorem dX0_game_15 : decode cX0_game 15 = .ok (.ifCond .ne 6, 3) := dk_154 0 6 (dk_at dksX0_game_0 15 rfl rfl)
theorem dX0_game_18 : decode cX0_game 18 = .ok (.bipush (-102), 2) := dk_16 154 (dk_at dksX0_game_0 18 rfl rfl)
theorem dX0_game_20 : decode cX0_game 20 = .ok (.ireturn, 1) := dk_172 (dk_at dksX0_game_0 20 rfl rfl)
theorem dX0_game_21 : decode cX0_game 21 = .ok (.aload_n 0, 1) := dk_42 (dk_at dksX0_game_0 21 rfl rfl)
theorem dX0_game_22 : decode cX0_game 22 = .ok (.invokevirtual 271, 3) := dk_182 1 15 (dk_at dksX0_game_1 0 rfl rfl)
theorem dX0_game_25 : decode cX0_game 25 = .ok (.ifCond .ne 6, 3) := dk_154 0 6 (dk_at dksX0_game_1 3 rfl rfl)
theorem dX0_game_28 : decode cX0_game 28 = .ok (.bipush (-103), 2) := dk_16 153 (dk_at dksX0_game_1 6 rfl rfl)
theorem dX0_game_30 : decode cX0_game 30 = .ok (.ireturn, 1) := dk_172 (dk_at dksX0_game_1 8 rfl rfl)
theorem dX0_game_31 : decode cX0_game 31 = .ok (.aload_n 0, 1) := dk_42 (dk_at dksX0_game_1 9 rfl rfl)
theorem dX0_game_32 : decode cX0_game 32 = .ok (.dup, 1) := dk_89 (dk_at dksX0_game_1 10 rfl rfl)
theorem dX0_game_33 : decode cX0_game 33 = .ok (.getfield 254, 3) := dk_180 0 254 (dk_at dksX0_game_1 11 rfl rfl)
theorem dX0_game_36 : decode cX0_game 36 = .ok (.iconst 1, 1) := dk_4 (dk_at dksX0_game_1 14 rfl rfl)
theorem dX0_game_37 : decode cX0_game 37 = .ok (.iadd, 1) := dk_96 (dk_at dksX0_game_1 15 rfl rfl)
theorem dX0_game_38 : decode cX0_game 38 = .ok (.putfield 254, 3) := dk_181 0 254 (dk_at dksX0_game_1 16 rfl rfl)
theorem dX0_game_41 : decode cX0_game 41 = .ok (.aload_n 0, 1) := dk_42 (dk_at dksX0_game_1 19 rfl rfl)
theorem dX0_game_42 : decode cX0_game 42 = .ok (.iload_n 1, 1) := dk_27 (dk_at dksX0_game_1 20 rfl rfl)
theorem dX0_game_43 : decode cX0_game 43 = .ok (.invokevirtual 281, 3) := dk_182 1 25 (dk_at dksX0_game_1 21 rfl rfl)
theorem dX0_game_46 : decode cX0_game 46 = .ok (.istore_n 3, 1) := dk_62 (dk_at dksX0_game_2 0 rfl rfl)
theorem dX0_game_47 : decode cX0_game 47 = .ok (.iload_n 2, 1) := dk_28 (dk_at dksX0_game_2 1 rfl rfl)
theorem dX0_game_48 : decode cX0_game 48 = .ok (.iconst 1, 1) := dk_4 (dk_at dksX0_game_2 2 rfl rfl)
theorem dX0_game_49 : decode cX0_game 49 = .ok (.if_icmp .ne 7, 3) := dk_160 0 7 (dk_at dksX0_game_2 3 rfl rfl)
theorem dX0_game_52 : decode cX0_game 52 = .ok (.iload_n 3, 1) := dk_29 (dk_at dksX0_game_2 6 rfl rfl)
theorem dX0_game_53 : decode cX0_game 53 = .ok (.goto 13, 3) := dk_167 0 13 (dk_at dksX0_game_2 7 rfl rfl)
theorem dX0_game_56 : decode cX0_game 56 = .ok (.iload_n 3, 1) := dk_29 (dk_at dksX0_game_2 10 rfl rfl)
theorem dX0_game_57 : decode cX0_game 57 = .ok (.iconst (-1), 1) := dk_2 (dk_at dksX0_game_2 11 rfl rfl)
theorem dX0_game_58 : decode cX0_game 58 = .ok (.if_icmp .ne 7, 3) := dk_160 0 7 (dk_at dksX0_game_2 12 rfl rfl)
theorem dX0_game_61 : decode cX0_game 61 = .ok (.iconst 0, 1) := dk_3 (dk_at dksX0_game_2 15 rfl rfl)
theorem dX0_game_62 : decode cX0_game 62 = .ok (.goto 4, 3) := dk_167 0 4 (dk_at dksX0_game_2 16 rfl rfl)
theorem dX0_game_65 : decode cX0_game 65 = .ok (.iconst 1, 1) := dk_4 (dk_at dksX0_game_2 19 rfl rfl)
theorem dX0_game_66 : decode cX0_game 66 = .ok (.ireturn, 1) := dk_172 (dk_at dksX0_game_2 20 rfl rfl)
abbrev cX0_gameOf : ByteArray := prog_1_method_53_code
def yX0_gameOf : MethodName := ⟨RX0, "gameOf", "(I)I"⟩
def dkwX0_gameOf_3 : List UInt8 := [132, 3, 1, 167, 255, 202, 132, 2, 255, 167, 255, 190, 42, 42, 182, 1, 1, 2, 27, 182, 1, 22, 172]
abbrev dktX0_gameOf_3 : List UInt8 := dkwX0_gameOf_3 ++ []
def dkwX0_gameOf_2 : List UInt8 := [184, 0, 241, 153, 0, 18, 42, 28, 29, 27, 182, 1, 22, 2, 159, 0, 7, 4, 167, 0, 4, 3, 84]
abbrev dktX0_gameOf_2 : List UInt8 := dkwX0_gameOf_2 ++ dktX0_gameOf_3
def dkwX0_gameOf_1 : List UInt8 := [180, 0, 151, 162, 0, 49, 42, 180, 0, 62, 28, 50, 29, 28, 42, 180, 0, 23, 180, 0, 154, 29, 46]
abbrev dktX0_gameOf_1 : List UInt8 := dkwX0_gameOf_1 ++ dktX0_gameOf_2
def dkwX0_gameOf_0 : List UInt8 := [4, 42, 180, 0, 23, 180, 0, 118, 120, 4, 100, 61, 28, 155, 0, 68, 3, 62, 29, 42, 180, 0, 23]
abbrev dktX0_gameOf_0 : List UInt8 := dkwX0_gameOf_0 ++ dktX0_gameOf_1
theorem dksX0_gameOf_0 : cX0_gameOf.data.toList.drop 0 = dktX0_gameOf_0 := by decide +kernel
theorem dksX0_gameOf_1 : cX0_gameOf.data.toList.drop 23 = dktX0_gameOf_1 := dk_seg dksX0_gameOf_0 23 rfl rfl
theorem dksX0_gameOf_2 : cX0_gameOf.data.toList.drop 46 = dktX0_gameOf_2 := dk_seg dksX0_gameOf_1 23 rfl rfl
theorem dksX0_gameOf_3 : cX0_gameOf.data.toList.drop 69 = dktX0_gameOf_3 := dk_seg dksX0_gameOf_2 23 rfl rfl
theorem dX0_gameOf_0 : decode cX0_gameOf 0 = .ok (.iconst 1, 1) := dk_4 (dk_at dksX0_gameOf_0 0 rfl rfl)
theorem dX0_gameOf_1 : decode cX0_gameOf 1 = .ok (.aload_n 0, 1) := dk_42 (dk_at dksX0_gameOf_0 1 rfl rfl)
theorem dX0_gameOf_2 : decode cX0_gameOf 2 = .ok (.getfield 23, 3) := dk_180 0 23 (dk_at dksX0_gameOf_0 2 rfl rfl)
theorem dX0_gameOf_5 : decode cX0_gameOf 5 = .ok (.getfield 118, 3) := dk_180 0 118 (dk_at dksX0_gameOf_0 5 rfl rfl)
theorem dX0_gameOf_8 : decode cX0_gameOf 8 = .ok (.ishl, 1) := dk_120 (dk_at dksX0_gameOf_0 8 rfl rfl)
theorem dX0_gameOf_9 : decode cX0_gameOf 9 = .ok (.iconst 1, 1) := dk_4 (dk_at dksX0_gameOf_0 9 rfl rfl)
theorem dX0_gameOf_10 : decode cX0_gameOf 10 = .ok (.isub, 1) := dk_100 (dk_at dksX0_gameOf_0 10 rfl rfl)
theorem dX0_gameOf_11 : decode cX0_gameOf 11 = .ok (.istore_n 2, 1) := dk_61 (dk_at dksX0_gameOf_0 11 rfl rfl)
theorem dX0_gameOf_12 : decode cX0_gameOf 12 = .ok (.iload_n 2, 1) := dk_28 (dk_at dksX0_gameOf_0 12 rfl rfl)
theorem dX0_gameOf_13 : decode cX0_gameOf 13 = .ok (.ifCond .lt 68, 3) := dk_155 0 68 (dk_at dksX0_gameOf_0 13 rfl rfl)
theorem dX0_gameOf_16 : decode cX0_gameOf 16 = .ok (.iconst 0, 1) := dk_3 (dk_at dksX0_gameOf_0 16 rfl rfl)
theorem dX0_gameOf_17 : decode cX0_gameOf 17 = .ok (.istore_n 3, 1) := dk_62 (dk_at dksX0_gameOf_0 17 rfl rfl)
theorem dX0_gameOf_18 : decode cX0_gameOf 18 = .ok (.iload_n 3, 1) := dk_29 (dk_at dksX0_gameOf_0 18 rfl rfl)
theorem dX0_gameOf_19 : decode cX0_gameOf 19 = .ok (.aload_n 0, 1) := dk_42 (dk_at dksX0_gameOf_0 19 rfl rfl)
theorem dX0_gameOf_20 : decode cX0_gameOf 20 = .ok (.getfield 23, 3) := dk_180 0 23 (dk_at dksX0_gameOf_0 20 rfl rfl)
theorem dX0_gameOf_23 : decode cX0_gameOf 23 = .ok (.getfield 151, 3) := dk_180 0 151 (dk_at dksX0_gameOf_1 0 rfl rfl)
theorem dX0_gameOf_26 : decode cX0_gameOf 26 = .ok (.if_icmp .ge 49, 3) := dk_162 0 49 (dk_at dksX0_gameOf_1 3 rfl rfl)
theorem dX0_gameOf_29 : decode cX0_gameOf 29 = .ok (.aload_n 0, 1) := dk_42 (dk_at dksX0_gameOf_1 6 rfl rfl)
theorem dX0_gameOf_30 : decode cX0_gameOf 30 = .ok (.getfield 62, 3) := dk_180 0 62 (dk_at dksX0_gameOf_1 7 rfl rfl)
theorem dX0_gameOf_33 : decode cX0_gameOf 33 = .ok (.iload_n 2, 1) := dk_28 (dk_at dksX0_gameOf_1 10 rfl rfl)
theorem dX0_gameOf_34 : decode cX0_gameOf 34 = .ok (.aaload, 1) := dk_50 (dk_at dksX0_gameOf_1 11 rfl rfl)
theorem dX0_gameOf_35 : decode cX0_gameOf 35 = .ok (.iload_n 3, 1) := dk_29 (dk_at dksX0_gameOf_1 12 rfl rfl)
theorem dX0_gameOf_36 : decode cX0_gameOf 36 = .ok (.iload_n 2, 1) := dk_28 (dk_at dksX0_gameOf_1 13 rfl rfl)
theorem dX0_gameOf_37 : decode cX0_gameOf 37 = .ok (.aload_n 0, 1) := dk_42 (dk_at dksX0_gameOf_1 14 rfl rfl)
theorem dX0_gameOf_38 : decode cX0_gameOf 38 = .ok (.getfield 23, 3) := dk_180 0 23 (dk_at dksX0_gameOf_1 15 rfl rfl)
theorem dX0_gameOf_41 : decode cX0_gameOf 41 = .ok (.getfield 154, 3) := dk_180 0 154 (dk_at dksX0_gameOf_1 18 rfl rfl)
theorem dX0_gameOf_44 : decode cX0_gameOf 44 = .ok (.iload_n 3, 1) := dk_29 (dk_at dksX0_gameOf_1 21 rfl rfl)
theorem dX0_gameOf_45 : decode cX0_gameOf 45 = .ok (.iaload, 1) := dk_46 (dk_at dksX0_gameOf_1 22 rfl rfl)
theorem dX0_gameOf_46 : decode cX0_gameOf 46 = .ok (.invokestatic 241, 3) := dk_184 0 241 (dk_at dksX0_gameOf_2 0 rfl rfl)
theorem dX0_gameOf_49 : decode cX0_gameOf 49 = .ok (.ifCond .eq 18, 3) := dk_153 0 18 (dk_at dksX0_gameOf_2 3 rfl rfl)
theorem dX0_gameOf_52 : decode cX0_gameOf 52 = .ok (.aload_n 0, 1) := dk_42 (dk_at dksX0_gameOf_2 6 rfl rfl)
theorem dX0_gameOf_53 : decode cX0_gameOf 53 = .ok (.iload_n 2, 1) := dk_28 (dk_at dksX0_gameOf_2 7 rfl rfl)
theorem dX0_gameOf_54 : decode cX0_gameOf 54 = .ok (.iload_n 3, 1) := dk_29 (dk_at dksX0_gameOf_2 8 rfl rfl)
theorem dX0_gameOf_55 : decode cX0_gameOf 55 = .ok (.iload_n 1, 1) := dk_27 (dk_at dksX0_gameOf_2 9 rfl rfl)
theorem dX0_gameOf_56 : decode cX0_gameOf 56 = .ok (.invokevirtual 278, 3) := dk_182 1 22 (dk_at dksX0_gameOf_2 10 rfl rfl)
theorem dX0_gameOf_59 : decode cX0_gameOf 59 = .ok (.iconst (-1), 1) := dk_2 (dk_at dksX0_gameOf_2 13 rfl rfl)
theorem dX0_gameOf_60 : decode cX0_gameOf 60 = .ok (.if_icmp .eq 7, 3) := dk_159 0 7 (dk_at dksX0_gameOf_2 14 rfl rfl)
theorem dX0_gameOf_63 : decode cX0_gameOf 63 = .ok (.iconst 1, 1) := dk_4 (dk_at dksX0_gameOf_2 17 rfl rfl)
theorem dX0_gameOf_64 : decode cX0_gameOf 64 = .ok (.goto 4, 3) := dk_167 0 4 (dk_at dksX0_gameOf_2 18 rfl rfl)
theorem dX0_gameOf_67 : decode cX0_gameOf 67 = .ok (.iconst 0, 1) := dk_3 (dk_at dksX0_gameOf_2 21 rfl rfl)
theorem dX0_gameOf_68 : decode cX0_gameOf 68 = .ok (.bastore, 1) := dk_84 (dk_at dksX0_gameOf_2 22 rfl rfl)
theorem dX0_gameOf_69 : decode cX0_gameOf 69 = .ok (.iinc 3 1, 3) := dk_132 3 1 (dk_at dksX0_gameOf_3 0 rfl rfl)
theorem dX0_gameOf_72 : decode cX0_gameOf 72 = .ok (.goto (-54), 3) := dk_167 255 202 (dk_at dksX0_gameOf_3 3 rfl rfl)
theorem dX0_gameOf_75 : decode cX0_gameOf 75 = .ok (.iinc 2 (-1), 3) := dk_132 2 255 (dk_at dksX0_gameOf_3 6 rfl rfl)
theorem dX0_gameOf_78 : decode cX0_gameOf 78 = .ok (.goto (-66), 3) := dk_167 255 190 (dk_at dksX0_gameOf_3 9 rfl rfl)
theorem dX0_gameOf_81 : decode cX0_gameOf 81 = .ok (.aload_n 0, 1) := dk_42 (dk_at dksX0_gameOf_3 12 rfl rfl)
theorem dX0_gameOf_82 : decode cX0_gameOf 82 = .ok (.aload_n 0, 1) := dk_42 (dk_at dksX0_gameOf_3 13 rfl rfl)
theorem dX0_gameOf_83 : decode cX0_gameOf 83 = .ok (.invokevirtual 257, 3) := dk_182 1 1 (dk_at dksX0_gameOf_3 14 rfl rfl)
theorem dX0_gameOf_86 : decode cX0_gameOf 86 = .ok (.iconst (-1), 1) := dk_2 (dk_at dksX0_gameOf_3 17 rfl rfl)
theorem dX0_gameOf_87 : decode cX0_gameOf 87 = .ok (.iload_n 1, 1) := dk_27 (dk_at dksX0_gameOf_3 18 rfl rfl)
theorem dX0_gameOf_88 : decode cX0_gameOf 88 = .ok (.invokevirtual 278, 3) := dk_182 1 22 (dk_at dksX0_gameOf_3 19 rfl rfl)
theorem dX0_gameOf_91 : decode cX0_gameOf 91 = .ok (.ireturn, 1) := dk_172 (dk_at dksX0_gameOf_3 22 rfl rfl)
abbrev cX0_winsBy : ByteArray := prog_1_method_52_code
def yX0_winsBy : MethodName := ⟨RX0, "winsBy", "(III)I"⟩
def dkwX0_winsBy_4 : List UInt8 := [167, 255, 165, 2, 172]
abbrev dktX0_winsBy_4 : List UInt8 := dkwX0_winsBy_4 ++ []
def dkwX0_winsBy_3 : List UInt8 := [180, 0, 23, 180, 0, 154, 21, 4, 46, 120, 128, 50, 21, 4, 51, 154, 0, 6, 21, 4, 172, 132, 4, 1]
abbrev dktX0_winsBy_3 : List UInt8 := dkwX0_winsBy_3 ++ dktX0_winsBy_4
def dkwX0_winsBy_2 : List UInt8 := [29, 160, 0, 7, 4, 167, 0, 4, 3, 54, 5, 21, 5, 153, 0, 31, 42, 180, 0, 62, 27, 4, 42]
abbrev dktX0_winsBy_2 : List UInt8 := dkwX0_winsBy_2 ++ dktX0_winsBy_3
def dkwX0_winsBy_1 : List UInt8 := [21, 4, 46, 184, 0, 241, 154, 0, 26, 28, 2, 159, 0, 17, 42, 180, 0, 23, 28, 21, 4, 182, 1, 12]
abbrev dktX0_winsBy_1 : List UInt8 := dkwX0_winsBy_1 ++ dktX0_winsBy_2
def dkwX0_winsBy_0 : List UInt8 := [3, 54, 4, 21, 4, 42, 180, 0, 23, 180, 0, 151, 162, 0, 85, 27, 42, 180, 0, 23, 180, 0, 154]
abbrev dktX0_winsBy_0 : List UInt8 := dkwX0_winsBy_0 ++ dktX0_winsBy_1
theorem dksX0_winsBy_0 : cX0_winsBy.data.toList.drop 0 = dktX0_winsBy_0 := by decide +kernel
theorem dksX0_winsBy_1 : cX0_winsBy.data.toList.drop 23 = dktX0_winsBy_1 := dk_seg dksX0_winsBy_0 23 rfl rfl
theorem dksX0_winsBy_2 : cX0_winsBy.data.toList.drop 47 = dktX0_winsBy_2 := dk_seg dksX0_winsBy_1 24 rfl rfl
theorem dksX0_winsBy_3 : cX0_winsBy.data.toList.drop 70 = dktX0_winsBy_3 := dk_seg dksX0_winsBy_2 23 rfl rfl
theorem dksX0_winsBy_4 : cX0_winsBy.data.toList.drop 94 = dktX0_winsBy_4 := dk_seg dksX0_winsBy_3 24 rfl rfl
theorem dX0_winsBy_0 : decode cX0_winsBy 0 = .ok (.iconst 0, 1) := dk_3 (dk_at dksX0_winsBy_0 0 rfl rfl)
theorem dX0_winsBy_1 : decode cX0_winsBy 1 = .ok (.istore 4, 2) := dk_54 4 (dk_at dksX0_winsBy_0 1 rfl rfl)
theorem dX0_winsBy_3 : decode cX0_winsBy 3 = .ok (.iload 4, 2) := dk_21 4 (dk_at dksX0_winsBy_0 3 rfl rfl)
theorem dX0_winsBy_5 : decode cX0_winsBy 5 = .ok (.aload_n 0, 1) := dk_42 (dk_at dksX0_winsBy_0 5 rfl rfl)
theorem dX0_winsBy_6 : decode cX0_winsBy 6 = .ok (.getfield 23, 3) := dk_180 0 23 (dk_at dksX0_winsBy_0 6 rfl rfl)
theorem dX0_winsBy_9 : decode cX0_winsBy 9 = .ok (.getfield 151, 3) := dk_180 0 151 (dk_at dksX0_winsBy_0 9 rfl rfl)
theorem dX0_winsBy_12 : decode cX0_winsBy 12 = .ok (.if_icmp .ge 85, 3) := dk_162 0 85 (dk_at dksX0_winsBy_0 12 rfl rfl)
theorem dX0_winsBy_15 : decode cX0_winsBy 15 = .ok (.iload_n 1, 1) := dk_27 (dk_at dksX0_winsBy_0 15 rfl rfl)
theorem dX0_winsBy_16 : decode cX0_winsBy 16 = .ok (.aload_n 0, 1) := dk_42 (dk_at dksX0_winsBy_0 16 rfl rfl)
theorem dX0_winsBy_17 : decode cX0_winsBy 17 = .ok (.getfield 23, 3) := dk_180 0 23 (dk_at dksX0_winsBy_0 17 rfl rfl)
theorem dX0_winsBy_20 : decode cX0_winsBy 20 = .ok (.getfield 154, 3) := dk_180 0 154 (dk_at dksX0_winsBy_0 20 rfl rfl)
theorem dX0_winsBy_23 : decode cX0_winsBy 23 = .ok (.iload 4, 2) := dk_21 4 (dk_at dksX0_winsBy_1 0 rfl rfl)
theorem dX0_winsBy_25 : decode cX0_winsBy 25 = .ok (.iaload, 1) := dk_46 (dk_at dksX0_winsBy_1 2 rfl rfl)
theorem dX0_winsBy_26 : decode cX0_winsBy 26 = .ok (.invokestatic 241, 3) := dk_184 0 241 (dk_at dksX0_winsBy_1 3 rfl rfl)
theorem dX0_winsBy_29 : decode cX0_winsBy 29 = .ok (.ifCond .ne 26, 3) := dk_154 0 26 (dk_at dksX0_winsBy_1 6 rfl rfl)
theorem dX0_winsBy_32 : decode cX0_winsBy 32 = .ok (.iload_n 2, 1) := dk_28 (dk_at dksX0_winsBy_1 9 rfl rfl)
theorem dX0_winsBy_33 : decode cX0_winsBy 33 = .ok (.iconst (-1), 1) := dk_2 (dk_at dksX0_winsBy_1 10 rfl rfl)
theorem dX0_winsBy_34 : decode cX0_winsBy 34 = .ok (.if_icmp .eq 17, 3) := dk_159 0 17 (dk_at dksX0_winsBy_1 11 rfl rfl)
theorem dX0_winsBy_37 : decode cX0_winsBy 37 = .ok (.aload_n 0, 1) := dk_42 (dk_at dksX0_winsBy_1 14 rfl rfl)
theorem dX0_winsBy_38 : decode cX0_winsBy 38 = .ok (.getfield 23, 3) := dk_180 0 23 (dk_at dksX0_winsBy_1 15 rfl rfl)
theorem dX0_winsBy_41 : decode cX0_winsBy 41 = .ok (.iload_n 2, 1) := dk_28 (dk_at dksX0_winsBy_1 18 rfl rfl)
theorem dX0_winsBy_42 : decode cX0_winsBy 42 = .ok (.iload 4, 2) := dk_21 4 (dk_at dksX0_winsBy_1 19 rfl rfl)
theorem dX0_winsBy_44 : decode cX0_winsBy 44 = .ok (.invokevirtual 268, 3) := dk_182 1 12 (dk_at dksX0_winsBy_1 21 rfl rfl)
theorem dX0_winsBy_47 : decode cX0_winsBy 47 = .ok (.iload_n 3, 1) := dk_29 (dk_at dksX0_winsBy_2 0 rfl rfl)
theorem dX0_winsBy_48 : decode cX0_winsBy 48 = .ok (.if_icmp .ne 7, 3) := dk_160 0 7 (dk_at dksX0_winsBy_2 1 rfl rfl)
theorem dX0_winsBy_51 : decode cX0_winsBy 51 = .ok (.iconst 1, 1) := dk_4 (dk_at dksX0_winsBy_2 4 rfl rfl)
theorem dX0_winsBy_52 : decode cX0_winsBy 52 = .ok (.goto 4, 3) := dk_167 0 4 (dk_at dksX0_winsBy_2 5 rfl rfl)
theorem dX0_winsBy_55 : decode cX0_winsBy 55 = .ok (.iconst 0, 1) := dk_3 (dk_at dksX0_winsBy_2 8 rfl rfl)
theorem dX0_winsBy_56 : decode cX0_winsBy 56 = .ok (.istore 5, 2) := dk_54 5 (dk_at dksX0_winsBy_2 9 rfl rfl)
theorem dX0_winsBy_58 : decode cX0_winsBy 58 = .ok (.iload 5, 2) := dk_21 5 (dk_at dksX0_winsBy_2 11 rfl rfl)
theorem dX0_winsBy_60 : decode cX0_winsBy 60 = .ok (.ifCond .eq 31, 3) := dk_153 0 31 (dk_at dksX0_winsBy_2 13 rfl rfl)
theorem dX0_winsBy_63 : decode cX0_winsBy 63 = .ok (.aload_n 0, 1) := dk_42 (dk_at dksX0_winsBy_2 16 rfl rfl)
theorem dX0_winsBy_64 : decode cX0_winsBy 64 = .ok (.getfield 62, 3) := dk_180 0 62 (dk_at dksX0_winsBy_2 17 rfl rfl)
theorem dX0_winsBy_67 : decode cX0_winsBy 67 = .ok (.iload_n 1, 1) := dk_27 (dk_at dksX0_winsBy_2 20 rfl rfl)
theorem dX0_winsBy_68 : decode cX0_winsBy 68 = .ok (.iconst 1, 1) := dk_4 (dk_at dksX0_winsBy_2 21 rfl rfl)
theorem dX0_winsBy_69 : decode cX0_winsBy 69 = .ok (.aload_n 0, 1) := dk_42 (dk_at dksX0_winsBy_2 22 rfl rfl)
theorem dX0_winsBy_70 : decode cX0_winsBy 70 = .ok (.getfield 23, 3) := dk_180 0 23 (dk_at dksX0_winsBy_3 0 rfl rfl)
theorem dX0_winsBy_73 : decode cX0_winsBy 73 = .ok (.getfield 154, 3) := dk_180 0 154 (dk_at dksX0_winsBy_3 3 rfl rfl)
theorem dX0_winsBy_76 : decode cX0_winsBy 76 = .ok (.iload 4, 2) := dk_21 4 (dk_at dksX0_winsBy_3 6 rfl rfl)
theorem dX0_winsBy_78 : decode cX0_winsBy 78 = .ok (.iaload, 1) := dk_46 (dk_at dksX0_winsBy_3 8 rfl rfl)
theorem dX0_winsBy_79 : decode cX0_winsBy 79 = .ok (.ishl, 1) := dk_120 (dk_at dksX0_winsBy_3 9 rfl rfl)
theorem dX0_winsBy_80 : decode cX0_winsBy 80 = .ok (.ior, 1) := dk_128 (dk_at dksX0_winsBy_3 10 rfl rfl)
theorem dX0_winsBy_81 : decode cX0_winsBy 81 = .ok (.aaload, 1) := dk_50 (dk_at dksX0_winsBy_3 11 rfl rfl)
theorem dX0_winsBy_82 : decode cX0_winsBy 82 = .ok (.iload 4, 2) := dk_21 4 (dk_at dksX0_winsBy_3 12 rfl rfl)
theorem dX0_winsBy_84 : decode cX0_winsBy 84 = .ok (.baload, 1) := dk_51 (dk_at dksX0_winsBy_3 14 rfl rfl)
theorem dX0_winsBy_85 : decode cX0_winsBy 85 = .ok (.ifCond .ne 6, 3) := dk_154 0 6 (dk_at dksX0_winsBy_3 15 rfl rfl)
theorem dX0_winsBy_88 : decode cX0_winsBy 88 = .ok (.iload 4, 2) := dk_21 4 (dk_at dksX0_winsBy_3 18 rfl rfl)
theorem dX0_winsBy_90 : decode cX0_winsBy 90 = .ok (.ireturn, 1) := dk_172 (dk_at dksX0_winsBy_3 20 rfl rfl)
theorem dX0_winsBy_91 : decode cX0_winsBy 91 = .ok (.iinc 4 1, 3) := dk_132 4 1 (dk_at dksX0_winsBy_3 21 rfl rfl)
theorem dX0_winsBy_94 : decode cX0_winsBy 94 = .ok (.goto (-91), 3) := dk_167 255 165 (dk_at dksX0_winsBy_4 0 rfl rfl)
theorem dX0_winsBy_97 : decode cX0_winsBy 97 = .ok (.iconst (-1), 1) := dk_2 (dk_at dksX0_winsBy_4 3 rfl rfl)
theorem dX0_winsBy_98 : decode cX0_winsBy 98 = .ok (.ireturn, 1) := dk_172 (dk_at dksX0_winsBy_4 4 rfl rfl)
abbrev cX0_broken : ByteArray := prog_1_method_56_code
def yX0_broken : MethodName := ⟨RX0, "broken", "(I)I"⟩
def dkwX0_broken_0 : List UInt8 := [42, 27, 182, 0, 176, 153, 0, 11, 42, 27, 182, 1, 31, 167, 0, 5, 16, 155, 172]
abbrev dktX0_broken_0 : List UInt8 := dkwX0_broken_0 ++ []
theorem dksX0_broken_0 : cX0_broken.data.toList.drop 0 = dktX0_broken_0 := by decide +kernel
theorem dX0_broken_0 : decode cX0_broken 0 = .ok (.aload_n 0, 1) := dk_42 (dk_at dksX0_broken_0 0 rfl rfl)
theorem dX0_broken_1 : decode cX0_broken 1 = .ok (.iload_n 1, 1) := dk_27 (dk_at dksX0_broken_0 1 rfl rfl)
theorem dX0_broken_2 : decode cX0_broken 2 = .ok (.invokevirtual 176, 3) := dk_182 0 176 (dk_at dksX0_broken_0 2 rfl rfl)
theorem dX0_broken_5 : decode cX0_broken 5 = .ok (.ifCond .eq 11, 3) := dk_153 0 11 (dk_at dksX0_broken_0 5 rfl rfl)
theorem dX0_broken_8 : decode cX0_broken 8 = .ok (.aload_n 0, 1) := dk_42 (dk_at dksX0_broken_0 8 rfl rfl)
theorem dX0_broken_9 : decode cX0_broken 9 = .ok (.iload_n 1, 1) := dk_27 (dk_at dksX0_broken_0 9 rfl rfl)
theorem dX0_broken_10 : decode cX0_broken 10 = .ok (.invokevirtual 287, 3) := dk_182 1 31 (dk_at dksX0_broken_0 10 rfl rfl)
theorem dX0_broken_13 : decode cX0_broken 13 = .ok (.goto 5, 3) := dk_167 0 5 (dk_at dksX0_broken_0 13 rfl rfl)
theorem dX0_broken_16 : decode cX0_broken 16 = .ok (.bipush (-101), 2) := dk_16 155 (dk_at dksX0_broken_0 16 rfl rfl)
theorem dX0_broken_18 : decode cX0_broken 18 = .ok (.ireturn, 1) := dk_172 (dk_at dksX0_broken_0 18 rfl rfl)
abbrev cX0_brokenOf : ByteArray := prog_1_method_55_code
def yX0_brokenOf : MethodName := ⟨RX0, "brokenOf", "(I)I"⟩
def dkwX0_brokenOf_4 : List UInt8 := [3, 96, 61, 132, 3, 1, 167, 255, 160, 28, 172]
abbrev dktX0_brokenOf_4 : List UInt8 := dkwX0_brokenOf_4 ++ []
def dkwX0_brokenOf_3 : List UInt8 := [132, 5, 1, 167, 255, 204, 28, 21, 4, 153, 0, 15, 42, 29, 182, 0, 188, 153, 0, 7, 4, 167, 0, 4]
abbrev dktX0_brokenOf_3 : List UInt8 := dkwX0_brokenOf_3 ++ dktX0_brokenOf_4
def dkwX0_brokenOf_2 : List UInt8 := [160, 0, 20, 42, 180, 0, 23, 21, 5, 27, 182, 1, 28, 154, 0, 7, 4, 167, 0, 4, 3, 128, 54, 4]
abbrev dktX0_brokenOf_2 : List UInt8 := dkwX0_brokenOf_2 ++ dktX0_brokenOf_3
def dkwX0_brokenOf_1 : List UInt8 := [180, 0, 23, 180, 0, 151, 162, 0, 46, 21, 4, 42, 180, 0, 23, 180, 0, 154, 21, 5, 46, 29]
abbrev dktX0_brokenOf_1 : List UInt8 := dkwX0_brokenOf_1 ++ dktX0_brokenOf_2
def dkwX0_brokenOf_0 : List UInt8 := [3, 61, 3, 62, 29, 42, 180, 0, 23, 180, 0, 118, 162, 0, 91, 3, 54, 4, 3, 54, 5, 21, 5, 42]
abbrev dktX0_brokenOf_0 : List UInt8 := dkwX0_brokenOf_0 ++ dktX0_brokenOf_1
theorem dksX0_brokenOf_0 : cX0_brokenOf.data.toList.drop 0 = dktX0_brokenOf_0 := by decide +kernel
theorem dksX0_brokenOf_1 : cX0_brokenOf.data.toList.drop 24 = dktX0_brokenOf_1 := dk_seg dksX0_brokenOf_0 24 rfl rfl
theorem dksX0_brokenOf_2 : cX0_brokenOf.data.toList.drop 46 = dktX0_brokenOf_2 := dk_seg dksX0_brokenOf_1 22 rfl rfl
theorem dksX0_brokenOf_3 : cX0_brokenOf.data.toList.drop 70 = dktX0_brokenOf_3 := dk_seg dksX0_brokenOf_2 24 rfl rfl
theorem dksX0_brokenOf_4 : cX0_brokenOf.data.toList.drop 94 = dktX0_brokenOf_4 := dk_seg dksX0_brokenOf_3 24 rfl rfl
theorem dX0_brokenOf_0 : decode cX0_brokenOf 0 = .ok (.iconst 0, 1) := dk_3 (dk_at dksX0_brokenOf_0 0 rfl rfl)
theorem dX0_brokenOf_1 : decode cX0_brokenOf 1 = .ok (.istore_n 2, 1) := dk_61 (dk_at dksX0_brokenOf_0 1 rfl rfl)
theorem dX0_brokenOf_2 : decode cX0_brokenOf 2 = .ok (.iconst 0, 1) := dk_3 (dk_at dksX0_brokenOf_0 2 rfl rfl)
theorem dX0_brokenOf_3 : decode cX0_brokenOf 3 = .ok (.istore_n 3, 1) := dk_62 (dk_at dksX0_brokenOf_0 3 rfl rfl)
theorem dX0_brokenOf_4 : decode cX0_brokenOf 4 = .ok (.iload_n 3, 1) := dk_29 (dk_at dksX0_brokenOf_0 4 rfl rfl)
theorem dX0_brokenOf_5 : decode cX0_brokenOf 5 = .ok (.aload_n 0, 1) := dk_42 (dk_at dksX0_brokenOf_0 5 rfl rfl)
theorem dX0_brokenOf_6 : decode cX0_brokenOf 6 = .ok (.getfield 23, 3) := dk_180 0 23 (dk_at dksX0_brokenOf_0 6 rfl rfl)
theorem dX0_brokenOf_9 : decode cX0_brokenOf 9 = .ok (.getfield 118, 3) := dk_180 0 118 (dk_at dksX0_brokenOf_0 9 rfl rfl)
theorem dX0_brokenOf_12 : decode cX0_brokenOf 12 = .ok (.if_icmp .ge 91, 3) := dk_162 0 91 (dk_at dksX0_brokenOf_0 12 rfl rfl)
theorem dX0_brokenOf_15 : decode cX0_brokenOf 15 = .ok (.iconst 0, 1) := dk_3 (dk_at dksX0_brokenOf_0 15 rfl rfl)
theorem dX0_brokenOf_16 : decode cX0_brokenOf 16 = .ok (.istore 4, 2) := dk_54 4 (dk_at dksX0_brokenOf_0 16 rfl rfl)
theorem dX0_brokenOf_18 : decode cX0_brokenOf 18 = .ok (.iconst 0, 1) := dk_3 (dk_at dksX0_brokenOf_0 18 rfl rfl)
theorem dX0_brokenOf_19 : decode cX0_brokenOf 19 = .ok (.istore 5, 2) := dk_54 5 (dk_at dksX0_brokenOf_0 19 rfl rfl)
theorem dX0_brokenOf_21 : decode cX0_brokenOf 21 = .ok (.iload 5, 2) := dk_21 5 (dk_at dksX0_brokenOf_0 21 rfl rfl)
theorem dX0_brokenOf_23 : decode cX0_brokenOf 23 = .ok (.aload_n 0, 1) := dk_42 (dk_at dksX0_brokenOf_0 23 rfl rfl)
theorem dX0_brokenOf_24 : decode cX0_brokenOf 24 = .ok (.getfield 23, 3) := dk_180 0 23 (dk_at dksX0_brokenOf_1 0 rfl rfl)
theorem dX0_brokenOf_27 : decode cX0_brokenOf 27 = .ok (.getfield 151, 3) := dk_180 0 151 (dk_at dksX0_brokenOf_1 3 rfl rfl)
theorem dX0_brokenOf_30 : decode cX0_brokenOf 30 = .ok (.if_icmp .ge 46, 3) := dk_162 0 46 (dk_at dksX0_brokenOf_1 6 rfl rfl)
theorem dX0_brokenOf_33 : decode cX0_brokenOf 33 = .ok (.iload 4, 2) := dk_21 4 (dk_at dksX0_brokenOf_1 9 rfl rfl)
theorem dX0_brokenOf_35 : decode cX0_brokenOf 35 = .ok (.aload_n 0, 1) := dk_42 (dk_at dksX0_brokenOf_1 11 rfl rfl)
theorem dX0_brokenOf_36 : decode cX0_brokenOf 36 = .ok (.getfield 23, 3) := dk_180 0 23 (dk_at dksX0_brokenOf_1 12 rfl rfl)
theorem dX0_brokenOf_39 : decode cX0_brokenOf 39 = .ok (.getfield 154, 3) := dk_180 0 154 (dk_at dksX0_brokenOf_1 15 rfl rfl)
theorem dX0_brokenOf_42 : decode cX0_brokenOf 42 = .ok (.iload 5, 2) := dk_21 5 (dk_at dksX0_brokenOf_1 18 rfl rfl)
theorem dX0_brokenOf_44 : decode cX0_brokenOf 44 = .ok (.iaload, 1) := dk_46 (dk_at dksX0_brokenOf_1 20 rfl rfl)
theorem dX0_brokenOf_45 : decode cX0_brokenOf 45 = .ok (.iload_n 3, 1) := dk_29 (dk_at dksX0_brokenOf_1 21 rfl rfl)
theorem dX0_brokenOf_46 : decode cX0_brokenOf 46 = .ok (.if_icmp .ne 20, 3) := dk_160 0 20 (dk_at dksX0_brokenOf_2 0 rfl rfl)
theorem dX0_brokenOf_49 : decode cX0_brokenOf 49 = .ok (.aload_n 0, 1) := dk_42 (dk_at dksX0_brokenOf_2 3 rfl rfl)
theorem dX0_brokenOf_50 : decode cX0_brokenOf 50 = .ok (.getfield 23, 3) := dk_180 0 23 (dk_at dksX0_brokenOf_2 4 rfl rfl)
theorem dX0_brokenOf_53 : decode cX0_brokenOf 53 = .ok (.iload 5, 2) := dk_21 5 (dk_at dksX0_brokenOf_2 7 rfl rfl)
theorem dX0_brokenOf_55 : decode cX0_brokenOf 55 = .ok (.iload_n 1, 1) := dk_27 (dk_at dksX0_brokenOf_2 9 rfl rfl)
theorem dX0_brokenOf_56 : decode cX0_brokenOf 56 = .ok (.invokevirtual 284, 3) := dk_182 1 28 (dk_at dksX0_brokenOf_2 10 rfl rfl)
theorem dX0_brokenOf_59 : decode cX0_brokenOf 59 = .ok (.ifCond .ne 7, 3) := dk_154 0 7 (dk_at dksX0_brokenOf_2 13 rfl rfl)
theorem dX0_brokenOf_62 : decode cX0_brokenOf 62 = .ok (.iconst 1, 1) := dk_4 (dk_at dksX0_brokenOf_2 16 rfl rfl)
theorem dX0_brokenOf_63 : decode cX0_brokenOf 63 = .ok (.goto 4, 3) := dk_167 0 4 (dk_at dksX0_brokenOf_2 17 rfl rfl)
theorem dX0_brokenOf_66 : decode cX0_brokenOf 66 = .ok (.iconst 0, 1) := dk_3 (dk_at dksX0_brokenOf_2 20 rfl rfl)
theorem dX0_brokenOf_67 : decode cX0_brokenOf 67 = .ok (.ior, 1) := dk_128 (dk_at dksX0_brokenOf_2 21 rfl rfl)
theorem dX0_brokenOf_68 : decode cX0_brokenOf 68 = .ok (.istore 4, 2) := dk_54 4 (dk_at dksX0_brokenOf_2 22 rfl rfl)
theorem dX0_brokenOf_70 : decode cX0_brokenOf 70 = .ok (.iinc 5 1, 3) := dk_132 5 1 (dk_at dksX0_brokenOf_3 0 rfl rfl)
theorem dX0_brokenOf_73 : decode cX0_brokenOf 73 = .ok (.goto (-52), 3) := dk_167 255 204 (dk_at dksX0_brokenOf_3 3 rfl rfl)
theorem dX0_brokenOf_76 : decode cX0_brokenOf 76 = .ok (.iload_n 2, 1) := dk_28 (dk_at dksX0_brokenOf_3 6 rfl rfl)
theorem dX0_brokenOf_77 : decode cX0_brokenOf 77 = .ok (.iload 4, 2) := dk_21 4 (dk_at dksX0_brokenOf_3 7 rfl rfl)
theorem dX0_brokenOf_79 : decode cX0_brokenOf 79 = .ok (.ifCond .eq 15, 3) := dk_153 0 15 (dk_at dksX0_brokenOf_3 9 rfl rfl)
theorem dX0_brokenOf_82 : decode cX0_brokenOf 82 = .ok (.aload_n 0, 1) := dk_42 (dk_at dksX0_brokenOf_3 12 rfl rfl)
theorem dX0_brokenOf_83 : decode cX0_brokenOf 83 = .ok (.iload_n 3, 1) := dk_29 (dk_at dksX0_brokenOf_3 13 rfl rfl)
theorem dX0_brokenOf_84 : decode cX0_brokenOf 84 = .ok (.invokevirtual 188, 3) := dk_182 0 188 (dk_at dksX0_brokenOf_3 14 rfl rfl)
theorem dX0_brokenOf_87 : decode cX0_brokenOf 87 = .ok (.ifCond .eq 7, 3) := dk_153 0 7 (dk_at dksX0_brokenOf_3 17 rfl rfl)
theorem dX0_brokenOf_90 : decode cX0_brokenOf 90 = .ok (.iconst 1, 1) := dk_4 (dk_at dksX0_brokenOf_3 20 rfl rfl)
theorem dX0_brokenOf_91 : decode cX0_brokenOf 91 = .ok (.goto 4, 3) := dk_167 0 4 (dk_at dksX0_brokenOf_3 21 rfl rfl)
theorem dX0_brokenOf_94 : decode cX0_brokenOf 94 = .ok (.iconst 0, 1) := dk_3 (dk_at dksX0_brokenOf_4 0 rfl rfl)
theorem dX0_brokenOf_95 : decode cX0_brokenOf 95 = .ok (.iadd, 1) := dk_96 (dk_at dksX0_brokenOf_4 1 rfl rfl)
theorem dX0_brokenOf_96 : decode cX0_brokenOf 96 = .ok (.istore_n 2, 1) := dk_61 (dk_at dksX0_brokenOf_4 2 rfl rfl)
theorem dX0_brokenOf_97 : decode cX0_brokenOf 97 = .ok (.iinc 3 1, 3) := dk_132 3 1 (dk_at dksX0_brokenOf_4 3 rfl rfl)
theorem dX0_brokenOf_100 : decode cX0_brokenOf 100 = .ok (.goto (-96), 3) := dk_167 255 160 (dk_at dksX0_brokenOf_4 6 rfl rfl)
theorem dX0_brokenOf_103 : decode cX0_brokenOf 103 = .ok (.iload_n 2, 1) := dk_28 (dk_at dksX0_brokenOf_4 9 rfl rfl)
theorem dX0_brokenOf_104 : decode cX0_brokenOf 104 = .ok (.ireturn, 1) := dk_172 (dk_at dksX0_brokenOf_4 10 rfl rfl)
abbrev cX0_added : ByteArray := prog_1_method_57_code
def yX0_added : MethodName := ⟨RX0, "added", "()I"⟩
def dkwX0_added_6 : List UInt8 := [60, 132, 2, 1, 167, 255, 154, 27, 172]
abbrev dktX0_added_6 : List UInt8 := dkwX0_added_6 ++ []
def dkwX0_added_5 : List UInt8 := [4, 167, 0, 4, 3, 126, 62, 132, 4, 1, 167, 255, 188, 27, 29, 153, 0, 7, 4, 167, 0, 4, 3, 96]
abbrev dktX0_added_5 : List UInt8 := dkwX0_added_5 ++ dktX0_added_6
def dkwX0_added_4 : List UInt8 := [42, 180, 0, 27, 25, 5, 3, 46, 25, 5, 4, 46, 25, 5, 5, 46, 182, 0, 179, 46, 28, 159, 0, 7]
abbrev dktX0_added_4 : List UInt8 := dkwX0_added_4 ++ dktX0_added_5
def dkwX0_added_3 : List UInt8 := [180, 0, 23, 180, 0, 185, 42, 180, 0, 34, 21, 4, 46, 50, 58, 5, 29, 42, 180, 0, 27, 180, 0, 154]
abbrev dktX0_added_3 : List UInt8 := dkwX0_added_3 ++ dktX0_added_4
def dkwX0_added_2 : List UInt8 := [180, 0, 27, 180, 0, 118, 162, 0, 97, 4, 62, 3, 54, 4, 21, 4, 42, 180, 0, 170, 162, 0, 65, 42]
abbrev dktX0_added_2 : List UInt8 := dkwX0_added_2 ++ dktX0_added_3
def dkwX0_added_1 : List UInt8 := [180, 0, 144, 4, 96, 182, 0, 77, 42, 42, 180, 0, 27, 182, 0, 81, 3, 60, 3, 61, 28, 42]
abbrev dktX0_added_1 : List UInt8 := dkwX0_added_1 ++ dktX0_added_2
def dkwX0_added_0 : List UInt8 := [42, 180, 0, 23, 180, 0, 144, 16, 9, 160, 0, 6, 16, 153, 172, 42, 180, 0, 27, 42, 180, 0, 23]
abbrev dktX0_added_0 : List UInt8 := dkwX0_added_0 ++ dktX0_added_1
theorem dksX0_added_0 : cX0_added.data.toList.drop 0 = dktX0_added_0 := by decide +kernel
theorem dksX0_added_1 : cX0_added.data.toList.drop 23 = dktX0_added_1 := dk_seg dksX0_added_0 23 rfl rfl
theorem dksX0_added_2 : cX0_added.data.toList.drop 45 = dktX0_added_2 := dk_seg dksX0_added_1 22 rfl rfl
theorem dksX0_added_3 : cX0_added.data.toList.drop 69 = dktX0_added_3 := dk_seg dksX0_added_2 24 rfl rfl
theorem dksX0_added_4 : cX0_added.data.toList.drop 93 = dktX0_added_4 := dk_seg dksX0_added_3 24 rfl rfl
theorem dksX0_added_5 : cX0_added.data.toList.drop 117 = dktX0_added_5 := dk_seg dksX0_added_4 24 rfl rfl
theorem dksX0_added_6 : cX0_added.data.toList.drop 141 = dktX0_added_6 := dk_seg dksX0_added_5 24 rfl rfl
theorem dX0_added_0 : decode cX0_added 0 = .ok (.aload_n 0, 1) := dk_42 (dk_at dksX0_added_0 0 rfl rfl)
theorem dX0_added_1 : decode cX0_added 1 = .ok (.getfield 23, 3) := dk_180 0 23 (dk_at dksX0_added_0 1 rfl rfl)
theorem dX0_added_4 : decode cX0_added 4 = .ok (.getfield 144, 3) := dk_180 0 144 (dk_at dksX0_added_0 4 rfl rfl)
theorem dX0_added_7 : decode cX0_added 7 = .ok (.bipush 9, 2) := dk_16 9 (dk_at dksX0_added_0 7 rfl rfl)
theorem dX0_added_9 : decode cX0_added 9 = .ok (.if_icmp .ne 6, 3) := dk_160 0 6 (dk_at dksX0_added_0 9 rfl rfl)
theorem dX0_added_12 : decode cX0_added 12 = .ok (.bipush (-103), 2) := dk_16 153 (dk_at dksX0_added_0 12 rfl rfl)
theorem dX0_added_14 : decode cX0_added 14 = .ok (.ireturn, 1) := dk_172 (dk_at dksX0_added_0 14 rfl rfl)
theorem dX0_added_15 : decode cX0_added 15 = .ok (.aload_n 0, 1) := dk_42 (dk_at dksX0_added_0 15 rfl rfl)
theorem dX0_added_16 : decode cX0_added 16 = .ok (.getfield 27, 3) := dk_180 0 27 (dk_at dksX0_added_0 16 rfl rfl)
theorem dX0_added_19 : decode cX0_added 19 = .ok (.aload_n 0, 1) := dk_42 (dk_at dksX0_added_0 19 rfl rfl)
theorem dX0_added_20 : decode cX0_added 20 = .ok (.getfield 23, 3) := dk_180 0 23 (dk_at dksX0_added_0 20 rfl rfl)
theorem dX0_added_23 : decode cX0_added 23 = .ok (.getfield 144, 3) := dk_180 0 144 (dk_at dksX0_added_1 0 rfl rfl)
theorem dX0_added_26 : decode cX0_added 26 = .ok (.iconst 1, 1) := dk_4 (dk_at dksX0_added_1 3 rfl rfl)
theorem dX0_added_27 : decode cX0_added 27 = .ok (.iadd, 1) := dk_96 (dk_at dksX0_added_1 4 rfl rfl)
theorem dX0_added_28 : decode cX0_added 28 = .ok (.invokevirtual 77, 3) := dk_182 0 77 (dk_at dksX0_added_1 5 rfl rfl)
theorem dX0_added_31 : decode cX0_added 31 = .ok (.aload_n 0, 1) := dk_42 (dk_at dksX0_added_1 8 rfl rfl)
theorem dX0_added_32 : decode cX0_added 32 = .ok (.aload_n 0, 1) := dk_42 (dk_at dksX0_added_1 9 rfl rfl)
theorem dX0_added_33 : decode cX0_added 33 = .ok (.getfield 27, 3) := dk_180 0 27 (dk_at dksX0_added_1 10 rfl rfl)
theorem dX0_added_36 : decode cX0_added 36 = .ok (.invokevirtual 81, 3) := dk_182 0 81 (dk_at dksX0_added_1 13 rfl rfl)
theorem dX0_added_39 : decode cX0_added 39 = .ok (.iconst 0, 1) := dk_3 (dk_at dksX0_added_1 16 rfl rfl)
theorem dX0_added_40 : decode cX0_added 40 = .ok (.istore_n 1, 1) := dk_60 (dk_at dksX0_added_1 17 rfl rfl)
theorem dX0_added_41 : decode cX0_added 41 = .ok (.iconst 0, 1) := dk_3 (dk_at dksX0_added_1 18 rfl rfl)
theorem dX0_added_42 : decode cX0_added 42 = .ok (.istore_n 2, 1) := dk_61 (dk_at dksX0_added_1 19 rfl rfl)
theorem dX0_added_43 : decode cX0_added 43 = .ok (.iload_n 2, 1) := dk_28 (dk_at dksX0_added_1 20 rfl rfl)
theorem dX0_added_44 : decode cX0_added 44 = .ok (.aload_n 0, 1) := dk_42 (dk_at dksX0_added_1 21 rfl rfl)
theorem dX0_added_45 : decode cX0_added 45 = .ok (.getfield 27, 3) := dk_180 0 27 (dk_at dksX0_added_2 0 rfl rfl)
theorem dX0_added_48 : decode cX0_added 48 = .ok (.getfield 118, 3) := dk_180 0 118 (dk_at dksX0_added_2 3 rfl rfl)
theorem dX0_added_51 : decode cX0_added 51 = .ok (.if_icmp .ge 97, 3) := dk_162 0 97 (dk_at dksX0_added_2 6 rfl rfl)
theorem dX0_added_54 : decode cX0_added 54 = .ok (.iconst 1, 1) := dk_4 (dk_at dksX0_added_2 9 rfl rfl)
theorem dX0_added_55 : decode cX0_added 55 = .ok (.istore_n 3, 1) := dk_62 (dk_at dksX0_added_2 10 rfl rfl)
theorem dX0_added_56 : decode cX0_added 56 = .ok (.iconst 0, 1) := dk_3 (dk_at dksX0_added_2 11 rfl rfl)
theorem dX0_added_57 : decode cX0_added 57 = .ok (.istore 4, 2) := dk_54 4 (dk_at dksX0_added_2 12 rfl rfl)
theorem dX0_added_59 : decode cX0_added 59 = .ok (.iload 4, 2) := dk_21 4 (dk_at dksX0_added_2 14 rfl rfl)
theorem dX0_added_61 : decode cX0_added 61 = .ok (.aload_n 0, 1) := dk_42 (dk_at dksX0_added_2 16 rfl rfl)
theorem dX0_added_62 : decode cX0_added 62 = .ok (.getfield 170, 3) := dk_180 0 170 (dk_at dksX0_added_2 17 rfl rfl)
theorem dX0_added_65 : decode cX0_added 65 = .ok (.if_icmp .ge 65, 3) := dk_162 0 65 (dk_at dksX0_added_2 20 rfl rfl)
theorem dX0_added_68 : decode cX0_added 68 = .ok (.aload_n 0, 1) := dk_42 (dk_at dksX0_added_2 23 rfl rfl)
theorem dX0_added_69 : decode cX0_added 69 = .ok (.getfield 23, 3) := dk_180 0 23 (dk_at dksX0_added_3 0 rfl rfl)
theorem dX0_added_72 : decode cX0_added 72 = .ok (.getfield 185, 3) := dk_180 0 185 (dk_at dksX0_added_3 3 rfl rfl)
theorem dX0_added_75 : decode cX0_added 75 = .ok (.aload_n 0, 1) := dk_42 (dk_at dksX0_added_3 6 rfl rfl)
theorem dX0_added_76 : decode cX0_added 76 = .ok (.getfield 34, 3) := dk_180 0 34 (dk_at dksX0_added_3 7 rfl rfl)
theorem dX0_added_79 : decode cX0_added 79 = .ok (.iload 4, 2) := dk_21 4 (dk_at dksX0_added_3 10 rfl rfl)
theorem dX0_added_81 : decode cX0_added 81 = .ok (.iaload, 1) := dk_46 (dk_at dksX0_added_3 12 rfl rfl)
theorem dX0_added_82 : decode cX0_added 82 = .ok (.aaload, 1) := dk_50 (dk_at dksX0_added_3 13 rfl rfl)
theorem dX0_added_83 : decode cX0_added 83 = .ok (.astore 5, 2) := dk_58 5 (dk_at dksX0_added_3 14 rfl rfl)
theorem dX0_added_85 : decode cX0_added 85 = .ok (.iload_n 3, 1) := dk_29 (dk_at dksX0_added_3 16 rfl rfl)
theorem dX0_added_86 : decode cX0_added 86 = .ok (.aload_n 0, 1) := dk_42 (dk_at dksX0_added_3 17 rfl rfl)
theorem dX0_added_87 : decode cX0_added 87 = .ok (.getfield 27, 3) := dk_180 0 27 (dk_at dksX0_added_3 18 rfl rfl)
theorem dX0_added_90 : decode cX0_added 90 = .ok (.getfield 154, 3) := dk_180 0 154 (dk_at dksX0_added_3 21 rfl rfl)
theorem dX0_added_93 : decode cX0_added 93 = .ok (.aload_n 0, 1) := dk_42 (dk_at dksX0_added_4 0 rfl rfl)
theorem dX0_added_94 : decode cX0_added 94 = .ok (.getfield 27, 3) := dk_180 0 27 (dk_at dksX0_added_4 1 rfl rfl)
theorem dX0_added_97 : decode cX0_added 97 = .ok (.aload 5, 2) := dk_25 5 (dk_at dksX0_added_4 4 rfl rfl)
theorem dX0_added_99 : decode cX0_added 99 = .ok (.iconst 0, 1) := dk_3 (dk_at dksX0_added_4 6 rfl rfl)
theorem dX0_added_100 : decode cX0_added 100 = .ok (.iaload, 1) := dk_46 (dk_at dksX0_added_4 7 rfl rfl)
theorem dX0_added_101 : decode cX0_added 101 = .ok (.aload 5, 2) := dk_25 5 (dk_at dksX0_added_4 8 rfl rfl)
theorem dX0_added_103 : decode cX0_added 103 = .ok (.iconst 1, 1) := dk_4 (dk_at dksX0_added_4 10 rfl rfl)
theorem dX0_added_104 : decode cX0_added 104 = .ok (.iaload, 1) := dk_46 (dk_at dksX0_added_4 11 rfl rfl)
theorem dX0_added_105 : decode cX0_added 105 = .ok (.aload 5, 2) := dk_25 5 (dk_at dksX0_added_4 12 rfl rfl)
theorem dX0_added_107 : decode cX0_added 107 = .ok (.iconst 2, 1) := dk_5 (dk_at dksX0_added_4 14 rfl rfl)
theorem dX0_added_108 : decode cX0_added 108 = .ok (.iaload, 1) := dk_46 (dk_at dksX0_added_4 15 rfl rfl)
theorem dX0_added_109 : decode cX0_added 109 = .ok (.invokevirtual 179, 3) := dk_182 0 179 (dk_at dksX0_added_4 16 rfl rfl)
theorem dX0_added_112 : decode cX0_added 112 = .ok (.iaload, 1) := dk_46 (dk_at dksX0_added_4 19 rfl rfl)
theorem dX0_added_113 : decode cX0_added 113 = .ok (.iload_n 2, 1) := dk_28 (dk_at dksX0_added_4 20 rfl rfl)
theorem dX0_added_114 : decode cX0_added 114 = .ok (.if_icmp .eq 7, 3) := dk_159 0 7 (dk_at dksX0_added_4 21 rfl rfl)
theorem dX0_added_117 : decode cX0_added 117 = .ok (.iconst 1, 1) := dk_4 (dk_at dksX0_added_5 0 rfl rfl)
theorem dX0_added_118 : decode cX0_added 118 = .ok (.goto 4, 3) := dk_167 0 4 (dk_at dksX0_added_5 1 rfl rfl)
theorem dX0_added_121 : decode cX0_added 121 = .ok (.iconst 0, 1) := dk_3 (dk_at dksX0_added_5 4 rfl rfl)
theorem dX0_added_122 : decode cX0_added 122 = .ok (.iand, 1) := dk_126 (dk_at dksX0_added_5 5 rfl rfl)
theorem dX0_added_123 : decode cX0_added 123 = .ok (.istore_n 3, 1) := dk_62 (dk_at dksX0_added_5 6 rfl rfl)
theorem dX0_added_124 : decode cX0_added 124 = .ok (.iinc 4 1, 3) := dk_132 4 1 (dk_at dksX0_added_5 7 rfl rfl)
theorem dX0_added_127 : decode cX0_added 127 = .ok (.goto (-68), 3) := dk_167 255 188 (dk_at dksX0_added_5 10 rfl rfl)
theorem dX0_added_130 : decode cX0_added 130 = .ok (.iload_n 1, 1) := dk_27 (dk_at dksX0_added_5 13 rfl rfl)
theorem dX0_added_131 : decode cX0_added 131 = .ok (.iload_n 3, 1) := dk_29 (dk_at dksX0_added_5 14 rfl rfl)
theorem dX0_added_132 : decode cX0_added 132 = .ok (.ifCond .eq 7, 3) := dk_153 0 7 (dk_at dksX0_added_5 15 rfl rfl)
theorem dX0_added_135 : decode cX0_added 135 = .ok (.iconst 1, 1) := dk_4 (dk_at dksX0_added_5 18 rfl rfl)
theorem dX0_added_136 : decode cX0_added 136 = .ok (.goto 4, 3) := dk_167 0 4 (dk_at dksX0_added_5 19 rfl rfl)
theorem dX0_added_139 : decode cX0_added 139 = .ok (.iconst 0, 1) := dk_3 (dk_at dksX0_added_5 22 rfl rfl)
theorem dX0_added_140 : decode cX0_added 140 = .ok (.iadd, 1) := dk_96 (dk_at dksX0_added_5 23 rfl rfl)
theorem dX0_added_141 : decode cX0_added 141 = .ok (.istore_n 1, 1) := dk_60 (dk_at dksX0_added_6 0 rfl rfl)
theorem dX0_added_142 : decode cX0_added 142 = .ok (.iinc 2 1, 3) := dk_132 2 1 (dk_at dksX0_added_6 1 rfl rfl)
theorem dX0_added_145 : decode cX0_added 145 = .ok (.goto (-102), 3) := dk_167 255 154 (dk_at dksX0_added_6 4 rfl rfl)
theorem dX0_added_148 : decode cX0_added 148 = .ok (.iload_n 1, 1) := dk_27 (dk_at dksX0_added_6 7 rfl rfl)
theorem dX0_added_149 : decode cX0_added 149 = .ok (.ireturn, 1) := dk_172 (dk_at dksX0_added_6 8 rfl rfl)
abbrev cX0_plan : ByteArray := prog_1_method_60_code
def yX0_plan : MethodName := ⟨RX0, "plan", "(II)I"⟩
def dkwX0_plan_1 : List UInt8 := [182, 1, 40, 167, 0, 5, 16, 154, 172]
abbrev dktX0_plan_1 : List UInt8 := dkwX0_plan_1 ++ []
def dkwX0_plan_0 : List UInt8 := [27, 5, 16, 9, 184, 0, 89, 153, 0, 21, 28, 3, 4, 184, 0, 89, 153, 0, 12, 42, 27, 28]
abbrev dktX0_plan_0 : List UInt8 := dkwX0_plan_0 ++ dktX0_plan_1
theorem dksX0_plan_0 : cX0_plan.data.toList.drop 0 = dktX0_plan_0 := by decide +kernel
theorem dksX0_plan_1 : cX0_plan.data.toList.drop 22 = dktX0_plan_1 := dk_seg dksX0_plan_0 22 rfl rfl
theorem dX0_plan_0 : decode cX0_plan 0 = .ok (.iload_n 1, 1) := dk_27 (dk_at dksX0_plan_0 0 rfl rfl)
theorem dX0_plan_1 : decode cX0_plan 1 = .ok (.iconst 2, 1) := dk_5 (dk_at dksX0_plan_0 1 rfl rfl)
theorem dX0_plan_2 : decode cX0_plan 2 = .ok (.bipush 9, 2) := dk_16 9 (dk_at dksX0_plan_0 2 rfl rfl)
theorem dX0_plan_4 : decode cX0_plan 4 = .ok (.invokestatic 89, 3) := dk_184 0 89 (dk_at dksX0_plan_0 4 rfl rfl)
theorem dX0_plan_7 : decode cX0_plan 7 = .ok (.ifCond .eq 21, 3) := dk_153 0 21 (dk_at dksX0_plan_0 7 rfl rfl)
theorem dX0_plan_10 : decode cX0_plan 10 = .ok (.iload_n 2, 1) := dk_28 (dk_at dksX0_plan_0 10 rfl rfl)
theorem dX0_plan_11 : decode cX0_plan 11 = .ok (.iconst 0, 1) := dk_3 (dk_at dksX0_plan_0 11 rfl rfl)
theorem dX0_plan_12 : decode cX0_plan 12 = .ok (.iconst 1, 1) := dk_4 (dk_at dksX0_plan_0 12 rfl rfl)
theorem dX0_plan_13 : decode cX0_plan 13 = .ok (.invokestatic 89, 3) := dk_184 0 89 (dk_at dksX0_plan_0 13 rfl rfl)
theorem dX0_plan_16 : decode cX0_plan 16 = .ok (.ifCond .eq 12, 3) := dk_153 0 12 (dk_at dksX0_plan_0 16 rfl rfl)
theorem dX0_plan_19 : decode cX0_plan 19 = .ok (.aload_n 0, 1) := dk_42 (dk_at dksX0_plan_0 19 rfl rfl)
theorem dX0_plan_20 : decode cX0_plan 20 = .ok (.iload_n 1, 1) := dk_27 (dk_at dksX0_plan_0 20 rfl rfl)
theorem dX0_plan_21 : decode cX0_plan 21 = .ok (.iload_n 2, 1) := dk_28 (dk_at dksX0_plan_0 21 rfl rfl)
theorem dX0_plan_22 : decode cX0_plan 22 = .ok (.invokevirtual 296, 3) := dk_182 1 40 (dk_at dksX0_plan_1 0 rfl rfl)
theorem dX0_plan_25 : decode cX0_plan 25 = .ok (.goto 5, 3) := dk_167 0 5 (dk_at dksX0_plan_1 3 rfl rfl)
theorem dX0_plan_28 : decode cX0_plan 28 = .ok (.bipush (-102), 2) := dk_16 154 (dk_at dksX0_plan_1 6 rfl rfl)
theorem dX0_plan_30 : decode cX0_plan 30 = .ok (.ireturn, 1) := dk_172 (dk_at dksX0_plan_1 8 rfl rfl)
abbrev cX0_planTold : ByteArray := prog_1_method_59_code
def yX0_planTold : MethodName := ⟨RX0, "planTold", "(II)I"⟩
def dkwX0_planTold_5 : List UInt8 := [160, 0, 8, 21, 4, 167, 0, 12, 29, 153, 0, 7, 4, 167, 0, 4, 3, 172]
abbrev dktX0_planTold_5 : List UInt8 := dkwX0_planTold_5 ++ []
def dkwX0_planTold_4 : List UInt8 := [132, 7, 1, 167, 255, 178, 21, 4, 21, 6, 184, 1, 37, 54, 4, 132, 5, 1, 167, 255, 151, 28, 4]
abbrev dktX0_planTold_4 : List UInt8 := dkwX0_planTold_4 ++ dktX0_planTold_5
def dkwX0_planTold_3 : List UInt8 := [180, 0, 23, 180, 0, 154, 21, 7, 46, 46, 27, 182, 1, 34, 160, 0, 7, 4, 167, 0, 4, 3, 126, 62]
abbrev dktX0_planTold_3 : List UInt8 := dkwX0_planTold_3 ++ dktX0_planTold_4
def dkwX0_planTold_2 : List UInt8 := [167, 0, 4, 3, 96, 54, 6, 29, 42, 21, 7, 27, 182, 1, 34, 42, 42, 180, 0, 23, 180, 0, 157, 42]
abbrev dktX0_planTold_2 : List UInt8 := dkwX0_planTold_2 ++ dktX0_planTold_3
def dkwX0_planTold_1 : List UInt8 := [180, 0, 23, 180, 0, 151, 162, 0, 72, 21, 6, 42, 21, 7, 27, 182, 1, 34, 21, 5, 160, 0, 7, 4]
abbrev dktX0_planTold_1 : List UInt8 := dkwX0_planTold_1 ++ dktX0_planTold_2
def dkwX0_planTold_0 : List UInt8 := [4, 62, 16, 84, 54, 4, 3, 54, 5, 21, 5, 27, 162, 0, 105, 3, 54, 6, 3, 54, 7, 21, 7, 42]
abbrev dktX0_planTold_0 : List UInt8 := dkwX0_planTold_0 ++ dktX0_planTold_1
theorem dksX0_planTold_0 : cX0_planTold.data.toList.drop 0 = dktX0_planTold_0 := by decide +kernel
theorem dksX0_planTold_1 : cX0_planTold.data.toList.drop 24 = dktX0_planTold_1 := dk_seg dksX0_planTold_0 24 rfl rfl
theorem dksX0_planTold_2 : cX0_planTold.data.toList.drop 48 = dktX0_planTold_2 := dk_seg dksX0_planTold_1 24 rfl rfl
theorem dksX0_planTold_3 : cX0_planTold.data.toList.drop 72 = dktX0_planTold_3 := dk_seg dksX0_planTold_2 24 rfl rfl
theorem dksX0_planTold_4 : cX0_planTold.data.toList.drop 96 = dktX0_planTold_4 := dk_seg dksX0_planTold_3 24 rfl rfl
theorem dksX0_planTold_5 : cX0_planTold.data.toList.drop 119 = dktX0_planTold_5 := dk_seg dksX0_planTold_4 23 rfl rfl
theorem dX0_planTold_0 : decode cX0_planTold 0 = .ok (.iconst 1, 1) := dk_4 (dk_at dksX0_planTold_0 0 rfl rfl)
theorem dX0_planTold_1 : decode cX0_planTold 1 = .ok (.istore_n 3, 1) := dk_62 (dk_at dksX0_planTold_0 1 rfl rfl)
theorem dX0_planTold_2 : decode cX0_planTold 2 = .ok (.bipush 84, 2) := dk_16 84 (dk_at dksX0_planTold_0 2 rfl rfl)
theorem dX0_planTold_4 : decode cX0_planTold 4 = .ok (.istore 4, 2) := dk_54 4 (dk_at dksX0_planTold_0 4 rfl rfl)
theorem dX0_planTold_6 : decode cX0_planTold 6 = .ok (.iconst 0, 1) := dk_3 (dk_at dksX0_planTold_0 6 rfl rfl)
theorem dX0_planTold_7 : decode cX0_planTold 7 = .ok (.istore 5, 2) := dk_54 5 (dk_at dksX0_planTold_0 7 rfl rfl)
theorem dX0_planTold_9 : decode cX0_planTold 9 = .ok (.iload 5, 2) := dk_21 5 (dk_at dksX0_planTold_0 9 rfl rfl)
theorem dX0_planTold_11 : decode cX0_planTold 11 = .ok (.iload_n 1, 1) := dk_27 (dk_at dksX0_planTold_0 11 rfl rfl)
theorem dX0_planTold_12 : decode cX0_planTold 12 = .ok (.if_icmp .ge 105, 3) := dk_162 0 105 (dk_at dksX0_planTold_0 12 rfl rfl)
theorem dX0_planTold_15 : decode cX0_planTold 15 = .ok (.iconst 0, 1) := dk_3 (dk_at dksX0_planTold_0 15 rfl rfl)
theorem dX0_planTold_16 : decode cX0_planTold 16 = .ok (.istore 6, 2) := dk_54 6 (dk_at dksX0_planTold_0 16 rfl rfl)
theorem dX0_planTold_18 : decode cX0_planTold 18 = .ok (.iconst 0, 1) := dk_3 (dk_at dksX0_planTold_0 18 rfl rfl)
theorem dX0_planTold_19 : decode cX0_planTold 19 = .ok (.istore 7, 2) := dk_54 7 (dk_at dksX0_planTold_0 19 rfl rfl)
theorem dX0_planTold_21 : decode cX0_planTold 21 = .ok (.iload 7, 2) := dk_21 7 (dk_at dksX0_planTold_0 21 rfl rfl)
theorem dX0_planTold_23 : decode cX0_planTold 23 = .ok (.aload_n 0, 1) := dk_42 (dk_at dksX0_planTold_0 23 rfl rfl)
theorem dX0_planTold_24 : decode cX0_planTold 24 = .ok (.getfield 23, 3) := dk_180 0 23 (dk_at dksX0_planTold_1 0 rfl rfl)
theorem dX0_planTold_27 : decode cX0_planTold 27 = .ok (.getfield 151, 3) := dk_180 0 151 (dk_at dksX0_planTold_1 3 rfl rfl)
theorem dX0_planTold_30 : decode cX0_planTold 30 = .ok (.if_icmp .ge 72, 3) := dk_162 0 72 (dk_at dksX0_planTold_1 6 rfl rfl)
theorem dX0_planTold_33 : decode cX0_planTold 33 = .ok (.iload 6, 2) := dk_21 6 (dk_at dksX0_planTold_1 9 rfl rfl)
theorem dX0_planTold_35 : decode cX0_planTold 35 = .ok (.aload_n 0, 1) := dk_42 (dk_at dksX0_planTold_1 11 rfl rfl)
theorem dX0_planTold_36 : decode cX0_planTold 36 = .ok (.iload 7, 2) := dk_21 7 (dk_at dksX0_planTold_1 12 rfl rfl)
theorem dX0_planTold_38 : decode cX0_planTold 38 = .ok (.iload_n 1, 1) := dk_27 (dk_at dksX0_planTold_1 14 rfl rfl)
theorem dX0_planTold_39 : decode cX0_planTold 39 = .ok (.invokevirtual 290, 3) := dk_182 1 34 (dk_at dksX0_planTold_1 15 rfl rfl)
theorem dX0_planTold_42 : decode cX0_planTold 42 = .ok (.iload 5, 2) := dk_21 5 (dk_at dksX0_planTold_1 18 rfl rfl)
theorem dX0_planTold_44 : decode cX0_planTold 44 = .ok (.if_icmp .ne 7, 3) := dk_160 0 7 (dk_at dksX0_planTold_1 20 rfl rfl)
theorem dX0_planTold_47 : decode cX0_planTold 47 = .ok (.iconst 1, 1) := dk_4 (dk_at dksX0_planTold_1 23 rfl rfl)
theorem dX0_planTold_48 : decode cX0_planTold 48 = .ok (.goto 4, 3) := dk_167 0 4 (dk_at dksX0_planTold_2 0 rfl rfl)
theorem dX0_planTold_51 : decode cX0_planTold 51 = .ok (.iconst 0, 1) := dk_3 (dk_at dksX0_planTold_2 3 rfl rfl)
theorem dX0_planTold_52 : decode cX0_planTold 52 = .ok (.iadd, 1) := dk_96 (dk_at dksX0_planTold_2 4 rfl rfl)
theorem dX0_planTold_53 : decode cX0_planTold 53 = .ok (.istore 6, 2) := dk_54 6 (dk_at dksX0_planTold_2 5 rfl rfl)
theorem dX0_planTold_55 : decode cX0_planTold 55 = .ok (.iload_n 3, 1) := dk_29 (dk_at dksX0_planTold_2 7 rfl rfl)
theorem dX0_planTold_56 : decode cX0_planTold 56 = .ok (.aload_n 0, 1) := dk_42 (dk_at dksX0_planTold_2 8 rfl rfl)
theorem dX0_planTold_57 : decode cX0_planTold 57 = .ok (.iload 7, 2) := dk_21 7 (dk_at dksX0_planTold_2 9 rfl rfl)
theorem dX0_planTold_59 : decode cX0_planTold 59 = .ok (.iload_n 1, 1) := dk_27 (dk_at dksX0_planTold_2 11 rfl rfl)
theorem dX0_planTold_60 : decode cX0_planTold 60 = .ok (.invokevirtual 290, 3) := dk_182 1 34 (dk_at dksX0_planTold_2 12 rfl rfl)
theorem dX0_planTold_63 : decode cX0_planTold 63 = .ok (.aload_n 0, 1) := dk_42 (dk_at dksX0_planTold_2 15 rfl rfl)
theorem dX0_planTold_64 : decode cX0_planTold 64 = .ok (.aload_n 0, 1) := dk_42 (dk_at dksX0_planTold_2 16 rfl rfl)
theorem dX0_planTold_65 : decode cX0_planTold 65 = .ok (.getfield 23, 3) := dk_180 0 23 (dk_at dksX0_planTold_2 17 rfl rfl)
theorem dX0_planTold_68 : decode cX0_planTold 68 = .ok (.getfield 157, 3) := dk_180 0 157 (dk_at dksX0_planTold_2 20 rfl rfl)
theorem dX0_planTold_71 : decode cX0_planTold 71 = .ok (.aload_n 0, 1) := dk_42 (dk_at dksX0_planTold_2 23 rfl rfl)
theorem dX0_planTold_72 : decode cX0_planTold 72 = .ok (.getfield 23, 3) := dk_180 0 23 (dk_at dksX0_planTold_3 0 rfl rfl)
theorem dX0_planTold_75 : decode cX0_planTold 75 = .ok (.getfield 154, 3) := dk_180 0 154 (dk_at dksX0_planTold_3 3 rfl rfl)
theorem dX0_planTold_78 : decode cX0_planTold 78 = .ok (.iload 7, 2) := dk_21 7 (dk_at dksX0_planTold_3 6 rfl rfl)
theorem dX0_planTold_80 : decode cX0_planTold 80 = .ok (.iaload, 1) := dk_46 (dk_at dksX0_planTold_3 8 rfl rfl)
theorem dX0_planTold_81 : decode cX0_planTold 81 = .ok (.iaload, 1) := dk_46 (dk_at dksX0_planTold_3 9 rfl rfl)
theorem dX0_planTold_82 : decode cX0_planTold 82 = .ok (.iload_n 1, 1) := dk_27 (dk_at dksX0_planTold_3 10 rfl rfl)
theorem dX0_planTold_83 : decode cX0_planTold 83 = .ok (.invokevirtual 290, 3) := dk_182 1 34 (dk_at dksX0_planTold_3 11 rfl rfl)
theorem dX0_planTold_86 : decode cX0_planTold 86 = .ok (.if_icmp .ne 7, 3) := dk_160 0 7 (dk_at dksX0_planTold_3 14 rfl rfl)
theorem dX0_planTold_89 : decode cX0_planTold 89 = .ok (.iconst 1, 1) := dk_4 (dk_at dksX0_planTold_3 17 rfl rfl)
theorem dX0_planTold_90 : decode cX0_planTold 90 = .ok (.goto 4, 3) := dk_167 0 4 (dk_at dksX0_planTold_3 18 rfl rfl)
theorem dX0_planTold_93 : decode cX0_planTold 93 = .ok (.iconst 0, 1) := dk_3 (dk_at dksX0_planTold_3 21 rfl rfl)
theorem dX0_planTold_94 : decode cX0_planTold 94 = .ok (.iand, 1) := dk_126 (dk_at dksX0_planTold_3 22 rfl rfl)
theorem dX0_planTold_95 : decode cX0_planTold 95 = .ok (.istore_n 3, 1) := dk_62 (dk_at dksX0_planTold_3 23 rfl rfl)
theorem dX0_planTold_96 : decode cX0_planTold 96 = .ok (.iinc 7 1, 3) := dk_132 7 1 (dk_at dksX0_planTold_4 0 rfl rfl)
theorem dX0_planTold_99 : decode cX0_planTold 99 = .ok (.goto (-78), 3) := dk_167 255 178 (dk_at dksX0_planTold_4 3 rfl rfl)
theorem dX0_planTold_102 : decode cX0_planTold 102 = .ok (.iload 4, 2) := dk_21 4 (dk_at dksX0_planTold_4 6 rfl rfl)
theorem dX0_planTold_104 : decode cX0_planTold 104 = .ok (.iload 6, 2) := dk_21 6 (dk_at dksX0_planTold_4 8 rfl rfl)
theorem dX0_planTold_106 : decode cX0_planTold 106 = .ok (.invokestatic 293, 3) := dk_184 1 37 (dk_at dksX0_planTold_4 10 rfl rfl)
theorem dX0_planTold_109 : decode cX0_planTold 109 = .ok (.istore 4, 2) := dk_54 4 (dk_at dksX0_planTold_4 13 rfl rfl)
theorem dX0_planTold_111 : decode cX0_planTold 111 = .ok (.iinc 5 1, 3) := dk_132 5 1 (dk_at dksX0_planTold_4 15 rfl rfl)
theorem dX0_planTold_114 : decode cX0_planTold 114 = .ok (.goto (-105), 3) := dk_167 255 151 (dk_at dksX0_planTold_4 18 rfl rfl)
theorem dX0_planTold_117 : decode cX0_planTold 117 = .ok (.iload_n 2, 1) := dk_28 (dk_at dksX0_planTold_4 21 rfl rfl)
theorem dX0_planTold_118 : decode cX0_planTold 118 = .ok (.iconst 1, 1) := dk_4 (dk_at dksX0_planTold_4 22 rfl rfl)
theorem dX0_planTold_119 : decode cX0_planTold 119 = .ok (.if_icmp .ne 8, 3) := dk_160 0 8 (dk_at dksX0_planTold_5 0 rfl rfl)
theorem dX0_planTold_122 : decode cX0_planTold 122 = .ok (.iload 4, 2) := dk_21 4 (dk_at dksX0_planTold_5 3 rfl rfl)
theorem dX0_planTold_124 : decode cX0_planTold 124 = .ok (.goto 12, 3) := dk_167 0 12 (dk_at dksX0_planTold_5 5 rfl rfl)
theorem dX0_planTold_127 : decode cX0_planTold 127 = .ok (.iload_n 3, 1) := dk_29 (dk_at dksX0_planTold_5 8 rfl rfl)
theorem dX0_planTold_128 : decode cX0_planTold 128 = .ok (.ifCond .eq 7, 3) := dk_153 0 7 (dk_at dksX0_planTold_5 9 rfl rfl)
theorem dX0_planTold_131 : decode cX0_planTold 131 = .ok (.iconst 1, 1) := dk_4 (dk_at dksX0_planTold_5 12 rfl rfl)
theorem dX0_planTold_132 : decode cX0_planTold 132 = .ok (.goto 4, 3) := dk_167 0 4 (dk_at dksX0_planTold_5 13 rfl rfl)
theorem dX0_planTold_135 : decode cX0_planTold 135 = .ok (.iconst 0, 1) := dk_3 (dk_at dksX0_planTold_5 16 rfl rfl)
theorem dX0_planTold_136 : decode cX0_planTold 136 = .ok (.ireturn, 1) := dk_172 (dk_at dksX0_planTold_5 17 rfl rfl)
abbrev cX0_houseOf : ByteArray := prog_1_method_58_code
def yX0_houseOf : MethodName := ⟨RX0, "houseOf", "(II)I"⟩
def dkwX0_houseOf_0 : List UInt8 := [42, 180, 0, 23, 180, 0, 185, 27, 50, 78, 45, 3, 46, 45, 4, 46, 96, 45, 5, 46, 96, 28, 112, 172]
abbrev dktX0_houseOf_0 : List UInt8 := dkwX0_houseOf_0 ++ []
theorem dksX0_houseOf_0 : cX0_houseOf.data.toList.drop 0 = dktX0_houseOf_0 := by decide +kernel
theorem dX0_houseOf_0 : decode cX0_houseOf 0 = .ok (.aload_n 0, 1) := dk_42 (dk_at dksX0_houseOf_0 0 rfl rfl)
theorem dX0_houseOf_1 : decode cX0_houseOf 1 = .ok (.getfield 23, 3) := dk_180 0 23 (dk_at dksX0_houseOf_0 1 rfl rfl)
theorem dX0_houseOf_4 : decode cX0_houseOf 4 = .ok (.getfield 185, 3) := dk_180 0 185 (dk_at dksX0_houseOf_0 4 rfl rfl)
theorem dX0_houseOf_7 : decode cX0_houseOf 7 = .ok (.iload_n 1, 1) := dk_27 (dk_at dksX0_houseOf_0 7 rfl rfl)
theorem dX0_houseOf_8 : decode cX0_houseOf 8 = .ok (.aaload, 1) := dk_50 (dk_at dksX0_houseOf_0 8 rfl rfl)
theorem dX0_houseOf_9 : decode cX0_houseOf 9 = .ok (.astore_n 3, 1) := dk_78 (dk_at dksX0_houseOf_0 9 rfl rfl)
theorem dX0_houseOf_10 : decode cX0_houseOf 10 = .ok (.aload_n 3, 1) := dk_45 (dk_at dksX0_houseOf_0 10 rfl rfl)
theorem dX0_houseOf_11 : decode cX0_houseOf 11 = .ok (.iconst 0, 1) := dk_3 (dk_at dksX0_houseOf_0 11 rfl rfl)
theorem dX0_houseOf_12 : decode cX0_houseOf 12 = .ok (.iaload, 1) := dk_46 (dk_at dksX0_houseOf_0 12 rfl rfl)
theorem dX0_houseOf_13 : decode cX0_houseOf 13 = .ok (.aload_n 3, 1) := dk_45 (dk_at dksX0_houseOf_0 13 rfl rfl)
theorem dX0_houseOf_14 : decode cX0_houseOf 14 = .ok (.iconst 1, 1) := dk_4 (dk_at dksX0_houseOf_0 14 rfl rfl)
theorem dX0_houseOf_15 : decode cX0_houseOf 15 = .ok (.iaload, 1) := dk_46 (dk_at dksX0_houseOf_0 15 rfl rfl)
theorem dX0_houseOf_16 : decode cX0_houseOf 16 = .ok (.iadd, 1) := dk_96 (dk_at dksX0_houseOf_0 16 rfl rfl)
theorem dX0_houseOf_17 : decode cX0_houseOf 17 = .ok (.aload_n 3, 1) := dk_45 (dk_at dksX0_houseOf_0 17 rfl rfl)
theorem dX0_houseOf_18 : decode cX0_houseOf 18 = .ok (.iconst 2, 1) := dk_5 (dk_at dksX0_houseOf_0 18 rfl rfl)
theorem dX0_houseOf_19 : decode cX0_houseOf 19 = .ok (.iaload, 1) := dk_46 (dk_at dksX0_houseOf_0 19 rfl rfl)
theorem dX0_houseOf_20 : decode cX0_houseOf 20 = .ok (.iadd, 1) := dk_96 (dk_at dksX0_houseOf_0 20 rfl rfl)
theorem dX0_houseOf_21 : decode cX0_houseOf 21 = .ok (.iload_n 2, 1) := dk_28 (dk_at dksX0_houseOf_0 21 rfl rfl)
theorem dX0_houseOf_22 : decode cX0_houseOf 22 = .ok (.irem, 1) := dk_112 (dk_at dksX0_houseOf_0 22 rfl rfl)
theorem dX0_houseOf_23 : decode cX0_houseOf 23 = .ok (.ireturn, 1) := dk_172 (dk_at dksX0_houseOf_0 23 rfl rfl)
abbrev cX0_image : ByteArray := prog_1_method_62_code
def yX0_image : MethodName := ⟨RX0, "image", "()I"⟩
def dkwX0_image_4 : List UInt8 := [184, 1, 59, 132, 1, 1, 167, 255, 233, 42, 180, 0, 170, 172]
abbrev dktX0_image_4 : List UInt8 := dkwX0_image_4 ++ []
def dkwX0_image_3 : List UInt8 := [184, 1, 59, 3, 60, 27, 8, 162, 0, 24, 42, 180, 0, 42, 27, 50, 42, 180, 0, 68, 27, 50]
abbrev dktX0_image_3 : List UInt8 := dkwX0_image_3 ++ dktX0_image_4
def dkwX0_image_2 : List UInt8 := [184, 1, 59, 42, 180, 0, 45, 42, 180, 0, 71, 184, 1, 59, 42, 180, 0, 48, 42, 180, 0, 74]
abbrev dktX0_image_2 : List UInt8 := dkwX0_image_2 ++ dktX0_image_3
def dkwX0_image_1 : List UInt8 := [180, 0, 170, 181, 1, 53, 42, 42, 180, 0, 115, 181, 1, 56, 42, 180, 0, 34, 42, 180, 0, 65]
abbrev dktX0_image_1 : List UInt8 := dkwX0_image_1 ++ dktX0_image_2
def dkwX0_image_0 : List UInt8 := [42, 4, 181, 1, 43, 42, 42, 180, 0, 112, 181, 1, 47, 42, 42, 180, 0, 173, 181, 1, 50, 42, 42]
abbrev dktX0_image_0 : List UInt8 := dkwX0_image_0 ++ dktX0_image_1
theorem dksX0_image_0 : cX0_image.data.toList.drop 0 = dktX0_image_0 := by decide +kernel
theorem dksX0_image_1 : cX0_image.data.toList.drop 23 = dktX0_image_1 := dk_seg dksX0_image_0 23 rfl rfl
theorem dksX0_image_2 : cX0_image.data.toList.drop 45 = dktX0_image_2 := dk_seg dksX0_image_1 22 rfl rfl
theorem dksX0_image_3 : cX0_image.data.toList.drop 67 = dktX0_image_3 := dk_seg dksX0_image_2 22 rfl rfl
theorem dksX0_image_4 : cX0_image.data.toList.drop 89 = dktX0_image_4 := dk_seg dksX0_image_3 22 rfl rfl
theorem dX0_image_0 : decode cX0_image 0 = .ok (.aload_n 0, 1) := dk_42 (dk_at dksX0_image_0 0 rfl rfl)
theorem dX0_image_1 : decode cX0_image 1 = .ok (.iconst 1, 1) := dk_4 (dk_at dksX0_image_0 1 rfl rfl)
theorem dX0_image_2 : decode cX0_image 2 = .ok (.putfield 299, 3) := dk_181 1 43 (dk_at dksX0_image_0 2 rfl rfl)
theorem dX0_image_5 : decode cX0_image 5 = .ok (.aload_n 0, 1) := dk_42 (dk_at dksX0_image_0 5 rfl rfl)
theorem dX0_image_6 : decode cX0_image 6 = .ok (.aload_n 0, 1) := dk_42 (dk_at dksX0_image_0 6 rfl rfl)
theorem dX0_image_7 : decode cX0_image 7 = .ok (.getfield 112, 3) := dk_180 0 112 (dk_at dksX0_image_0 7 rfl rfl)
theorem dX0_image_10 : decode cX0_image 10 = .ok (.putfield 303, 3) := dk_181 1 47 (dk_at dksX0_image_0 10 rfl rfl)
theorem dX0_image_13 : decode cX0_image 13 = .ok (.aload_n 0, 1) := dk_42 (dk_at dksX0_image_0 13 rfl rfl)
theorem dX0_image_14 : decode cX0_image 14 = .ok (.aload_n 0, 1) := dk_42 (dk_at dksX0_image_0 14 rfl rfl)
theorem dX0_image_15 : decode cX0_image 15 = .ok (.getfield 173, 3) := dk_180 0 173 (dk_at dksX0_image_0 15 rfl rfl)
theorem dX0_image_18 : decode cX0_image 18 = .ok (.putfield 306, 3) := dk_181 1 50 (dk_at dksX0_image_0 18 rfl rfl)
theorem dX0_image_21 : decode cX0_image 21 = .ok (.aload_n 0, 1) := dk_42 (dk_at dksX0_image_0 21 rfl rfl)
theorem dX0_image_22 : decode cX0_image 22 = .ok (.aload_n 0, 1) := dk_42 (dk_at dksX0_image_0 22 rfl rfl)
theorem dX0_image_23 : decode cX0_image 23 = .ok (.getfield 170, 3) := dk_180 0 170 (dk_at dksX0_image_1 0 rfl rfl)
theorem dX0_image_26 : decode cX0_image 26 = .ok (.putfield 309, 3) := dk_181 1 53 (dk_at dksX0_image_1 3 rfl rfl)
theorem dX0_image_29 : decode cX0_image 29 = .ok (.aload_n 0, 1) := dk_42 (dk_at dksX0_image_1 6 rfl rfl)
theorem dX0_image_30 : decode cX0_image 30 = .ok (.aload_n 0, 1) := dk_42 (dk_at dksX0_image_1 7 rfl rfl)
theorem dX0_image_31 : decode cX0_image 31 = .ok (.getfield 115, 3) := dk_180 0 115 (dk_at dksX0_image_1 8 rfl rfl)
theorem dX0_image_34 : decode cX0_image 34 = .ok (.putfield 312, 3) := dk_181 1 56 (dk_at dksX0_image_1 11 rfl rfl)
theorem dX0_image_37 : decode cX0_image 37 = .ok (.aload_n 0, 1) := dk_42 (dk_at dksX0_image_1 14 rfl rfl)
theorem dX0_image_38 : decode cX0_image 38 = .ok (.getfield 34, 3) := dk_180 0 34 (dk_at dksX0_image_1 15 rfl rfl)
theorem dX0_image_41 : decode cX0_image 41 = .ok (.aload_n 0, 1) := dk_42 (dk_at dksX0_image_1 18 rfl rfl)
theorem dX0_image_42 : decode cX0_image 42 = .ok (.getfield 65, 3) := dk_180 0 65 (dk_at dksX0_image_1 19 rfl rfl)
theorem dX0_image_45 : decode cX0_image 45 = .ok (.invokestatic 315, 3) := dk_184 1 59 (dk_at dksX0_image_2 0 rfl rfl)
theorem dX0_image_48 : decode cX0_image 48 = .ok (.aload_n 0, 1) := dk_42 (dk_at dksX0_image_2 3 rfl rfl)
theorem dX0_image_49 : decode cX0_image 49 = .ok (.getfield 45, 3) := dk_180 0 45 (dk_at dksX0_image_2 4 rfl rfl)
theorem dX0_image_52 : decode cX0_image 52 = .ok (.aload_n 0, 1) := dk_42 (dk_at dksX0_image_2 7 rfl rfl)
theorem dX0_image_53 : decode cX0_image 53 = .ok (.getfield 71, 3) := dk_180 0 71 (dk_at dksX0_image_2 8 rfl rfl)
theorem dX0_image_56 : decode cX0_image 56 = .ok (.invokestatic 315, 3) := dk_184 1 59 (dk_at dksX0_image_2 11 rfl rfl)
theorem dX0_image_59 : decode cX0_image 59 = .ok (.aload_n 0, 1) := dk_42 (dk_at dksX0_image_2 14 rfl rfl)
theorem dX0_image_60 : decode cX0_image 60 = .ok (.getfield 48, 3) := dk_180 0 48 (dk_at dksX0_image_2 15 rfl rfl)
theorem dX0_image_63 : decode cX0_image 63 = .ok (.aload_n 0, 1) := dk_42 (dk_at dksX0_image_2 18 rfl rfl)
theorem dX0_image_64 : decode cX0_image 64 = .ok (.getfield 74, 3) := dk_180 0 74 (dk_at dksX0_image_2 19 rfl rfl)
theorem dX0_image_67 : decode cX0_image 67 = .ok (.invokestatic 315, 3) := dk_184 1 59 (dk_at dksX0_image_3 0 rfl rfl)
theorem dX0_image_70 : decode cX0_image 70 = .ok (.iconst 0, 1) := dk_3 (dk_at dksX0_image_3 3 rfl rfl)
theorem dX0_image_71 : decode cX0_image 71 = .ok (.istore_n 1, 1) := dk_60 (dk_at dksX0_image_3 4 rfl rfl)
theorem dX0_image_72 : decode cX0_image 72 = .ok (.iload_n 1, 1) := dk_27 (dk_at dksX0_image_3 5 rfl rfl)
theorem dX0_image_73 : decode cX0_image 73 = .ok (.iconst 5, 1) := dk_8 (dk_at dksX0_image_3 6 rfl rfl)
theorem dX0_image_74 : decode cX0_image 74 = .ok (.if_icmp .ge 24, 3) := dk_162 0 24 (dk_at dksX0_image_3 7 rfl rfl)
theorem dX0_image_77 : decode cX0_image 77 = .ok (.aload_n 0, 1) := dk_42 (dk_at dksX0_image_3 10 rfl rfl)
theorem dX0_image_78 : decode cX0_image 78 = .ok (.getfield 42, 3) := dk_180 0 42 (dk_at dksX0_image_3 11 rfl rfl)
theorem dX0_image_81 : decode cX0_image 81 = .ok (.iload_n 1, 1) := dk_27 (dk_at dksX0_image_3 14 rfl rfl)
theorem dX0_image_82 : decode cX0_image 82 = .ok (.aaload, 1) := dk_50 (dk_at dksX0_image_3 15 rfl rfl)
theorem dX0_image_83 : decode cX0_image 83 = .ok (.aload_n 0, 1) := dk_42 (dk_at dksX0_image_3 16 rfl rfl)
theorem dX0_image_84 : decode cX0_image 84 = .ok (.getfield 68, 3) := dk_180 0 68 (dk_at dksX0_image_3 17 rfl rfl)
theorem dX0_image_87 : decode cX0_image 87 = .ok (.iload_n 1, 1) := dk_27 (dk_at dksX0_image_3 20 rfl rfl)
theorem dX0_image_88 : decode cX0_image 88 = .ok (.aaload, 1) := dk_50 (dk_at dksX0_image_3 21 rfl rfl)
theorem dX0_image_89 : decode cX0_image 89 = .ok (.invokestatic 315, 3) := dk_184 1 59 (dk_at dksX0_image_4 0 rfl rfl)
theorem dX0_image_92 : decode cX0_image 92 = .ok (.iinc 1 1, 3) := dk_132 1 1 (dk_at dksX0_image_4 3 rfl rfl)
theorem dX0_image_95 : decode cX0_image 95 = .ok (.goto (-23), 3) := dk_167 255 233 (dk_at dksX0_image_4 6 rfl rfl)
theorem dX0_image_98 : decode cX0_image 98 = .ok (.aload_n 0, 1) := dk_42 (dk_at dksX0_image_4 9 rfl rfl)
theorem dX0_image_99 : decode cX0_image 99 = .ok (.getfield 170, 3) := dk_180 0 170 (dk_at dksX0_image_4 10 rfl rfl)
theorem dX0_image_102 : decode cX0_image 102 = .ok (.ireturn, 1) := dk_172 (dk_at dksX0_image_4 13 rfl rfl)
abbrev cX0_copy : ByteArray := prog_1_method_61_code
def yX0_copy : MethodName := ⟨RX0, "copy", "([I[I)V"⟩
def dkwX0_copy_0 : List UInt8 := [3, 61, 28, 43, 190, 162, 0, 15, 43, 28, 42, 28, 46, 79, 132, 2, 1, 167, 255, 241, 177]
abbrev dktX0_copy_0 : List UInt8 := dkwX0_copy_0 ++ []
theorem dksX0_copy_0 : cX0_copy.data.toList.drop 0 = dktX0_copy_0 := by decide +kernel
theorem dX0_copy_0 : decode cX0_copy 0 = .ok (.iconst 0, 1) := dk_3 (dk_at dksX0_copy_0 0 rfl rfl)
theorem dX0_copy_1 : decode cX0_copy 1 = .ok (.istore_n 2, 1) := dk_61 (dk_at dksX0_copy_0 1 rfl rfl)
theorem dX0_copy_2 : decode cX0_copy 2 = .ok (.iload_n 2, 1) := dk_28 (dk_at dksX0_copy_0 2 rfl rfl)
theorem dX0_copy_3 : decode cX0_copy 3 = .ok (.aload_n 1, 1) := dk_43 (dk_at dksX0_copy_0 3 rfl rfl)
theorem dX0_copy_4 : decode cX0_copy 4 = .ok (.arraylength, 1) := dk_190 (dk_at dksX0_copy_0 4 rfl rfl)
theorem dX0_copy_5 : decode cX0_copy 5 = .ok (.if_icmp .ge 15, 3) := dk_162 0 15 (dk_at dksX0_copy_0 5 rfl rfl)
theorem dX0_copy_8 : decode cX0_copy 8 = .ok (.aload_n 1, 1) := dk_43 (dk_at dksX0_copy_0 8 rfl rfl)
theorem dX0_copy_9 : decode cX0_copy 9 = .ok (.iload_n 2, 1) := dk_28 (dk_at dksX0_copy_0 9 rfl rfl)
theorem dX0_copy_10 : decode cX0_copy 10 = .ok (.aload_n 0, 1) := dk_42 (dk_at dksX0_copy_0 10 rfl rfl)
theorem dX0_copy_11 : decode cX0_copy 11 = .ok (.iload_n 2, 1) := dk_28 (dk_at dksX0_copy_0 11 rfl rfl)
theorem dX0_copy_12 : decode cX0_copy 12 = .ok (.iaload, 1) := dk_46 (dk_at dksX0_copy_0 12 rfl rfl)
theorem dX0_copy_13 : decode cX0_copy 13 = .ok (.iastore, 1) := dk_79 (dk_at dksX0_copy_0 13 rfl rfl)
theorem dX0_copy_14 : decode cX0_copy 14 = .ok (.iinc 2 1, 3) := dk_132 2 1 (dk_at dksX0_copy_0 14 rfl rfl)
theorem dX0_copy_17 : decode cX0_copy 17 = .ok (.goto (-15), 3) := dk_167 255 241 (dk_at dksX0_copy_0 17 rfl rfl)
theorem dX0_copy_20 : decode cX0_copy 20 = .ok (.return_, 1) := dk_177 (dk_at dksX0_copy_0 20 rfl rfl)
abbrev cX0_restore : ByteArray := prog_1_method_63_code
def yX0_restore : MethodName := ⟨RX0, "restore", "()I"⟩
def dkwX0_restore_5 : List UInt8 := [172]
abbrev dktX0_restore_5 : List UInt8 := dkwX0_restore_5 ++ []
def dkwX0_restore_4 : List UInt8 := [180, 0, 68, 27, 50, 42, 180, 0, 42, 27, 50, 184, 1, 59, 132, 1, 1, 167, 255, 233, 42, 180, 0, 170]
abbrev dktX0_restore_4 : List UInt8 := dkwX0_restore_4 ++ dktX0_restore_5
def dkwX0_restore_3 : List UInt8 := [184, 1, 59, 42, 180, 0, 74, 42, 180, 0, 48, 184, 1, 59, 3, 60, 27, 8, 162, 0, 24, 42]
abbrev dktX0_restore_3 : List UInt8 := dkwX0_restore_3 ++ dktX0_restore_4
def dkwX0_restore_2 : List UInt8 := [181, 0, 115, 42, 180, 0, 65, 42, 180, 0, 34, 184, 1, 59, 42, 180, 0, 71, 42, 180, 0, 45]
abbrev dktX0_restore_2 : List UInt8 := dkwX0_restore_2 ++ dktX0_restore_3
def dkwX0_restore_1 : List UInt8 := [180, 0, 173, 159, 0, 6, 16, 153, 172, 42, 42, 180, 1, 53, 181, 0, 170, 42, 42, 180, 1, 56]
abbrev dktX0_restore_1 : List UInt8 := dkwX0_restore_1 ++ dktX0_restore_2
def dkwX0_restore_0 : List UInt8 := [42, 180, 1, 43, 153, 0, 25, 42, 180, 1, 47, 42, 180, 0, 112, 160, 0, 14, 42, 180, 1, 50, 42]
abbrev dktX0_restore_0 : List UInt8 := dkwX0_restore_0 ++ dktX0_restore_1
theorem dksX0_restore_0 : cX0_restore.data.toList.drop 0 = dktX0_restore_0 := by decide +kernel
theorem dksX0_restore_1 : cX0_restore.data.toList.drop 23 = dktX0_restore_1 := dk_seg dksX0_restore_0 23 rfl rfl
theorem dksX0_restore_2 : cX0_restore.data.toList.drop 45 = dktX0_restore_2 := dk_seg dksX0_restore_1 22 rfl rfl
theorem dksX0_restore_3 : cX0_restore.data.toList.drop 67 = dktX0_restore_3 := dk_seg dksX0_restore_2 22 rfl rfl
theorem dksX0_restore_4 : cX0_restore.data.toList.drop 89 = dktX0_restore_4 := dk_seg dksX0_restore_3 22 rfl rfl
theorem dksX0_restore_5 : cX0_restore.data.toList.drop 113 = dktX0_restore_5 := dk_seg dksX0_restore_4 24 rfl rfl
theorem dX0_restore_0 : decode cX0_restore 0 = .ok (.aload_n 0, 1) := dk_42 (dk_at dksX0_restore_0 0 rfl rfl)
theorem dX0_restore_1 : decode cX0_restore 1 = .ok (.getfield 299, 3) := dk_180 1 43 (dk_at dksX0_restore_0 1 rfl rfl)
theorem dX0_restore_4 : decode cX0_restore 4 = .ok (.ifCond .eq 25, 3) := dk_153 0 25 (dk_at dksX0_restore_0 4 rfl rfl)
theorem dX0_restore_7 : decode cX0_restore 7 = .ok (.aload_n 0, 1) := dk_42 (dk_at dksX0_restore_0 7 rfl rfl)
theorem dX0_restore_8 : decode cX0_restore 8 = .ok (.getfield 303, 3) := dk_180 1 47 (dk_at dksX0_restore_0 8 rfl rfl)
theorem dX0_restore_11 : decode cX0_restore 11 = .ok (.aload_n 0, 1) := dk_42 (dk_at dksX0_restore_0 11 rfl rfl)
theorem dX0_restore_12 : decode cX0_restore 12 = .ok (.getfield 112, 3) := dk_180 0 112 (dk_at dksX0_restore_0 12 rfl rfl)
theorem dX0_restore_15 : decode cX0_restore 15 = .ok (.if_icmp .ne 14, 3) := dk_160 0 14 (dk_at dksX0_restore_0 15 rfl rfl)
theorem dX0_restore_18 : decode cX0_restore 18 = .ok (.aload_n 0, 1) := dk_42 (dk_at dksX0_restore_0 18 rfl rfl)
theorem dX0_restore_19 : decode cX0_restore 19 = .ok (.getfield 306, 3) := dk_180 1 50 (dk_at dksX0_restore_0 19 rfl rfl)
theorem dX0_restore_22 : decode cX0_restore 22 = .ok (.aload_n 0, 1) := dk_42 (dk_at dksX0_restore_0 22 rfl rfl)
theorem dX0_restore_23 : decode cX0_restore 23 = .ok (.getfield 173, 3) := dk_180 0 173 (dk_at dksX0_restore_1 0 rfl rfl)
theorem dX0_restore_26 : decode cX0_restore 26 = .ok (.if_icmp .eq 6, 3) := dk_159 0 6 (dk_at dksX0_restore_1 3 rfl rfl)
theorem dX0_restore_29 : decode cX0_restore 29 = .ok (.bipush (-103), 2) := dk_16 153 (dk_at dksX0_restore_1 6 rfl rfl)
theorem dX0_restore_31 : decode cX0_restore 31 = .ok (.ireturn, 1) := dk_172 (dk_at dksX0_restore_1 8 rfl rfl)
theorem dX0_restore_32 : decode cX0_restore 32 = .ok (.aload_n 0, 1) := dk_42 (dk_at dksX0_restore_1 9 rfl rfl)
theorem dX0_restore_33 : decode cX0_restore 33 = .ok (.aload_n 0, 1) := dk_42 (dk_at dksX0_restore_1 10 rfl rfl)
theorem dX0_restore_34 : decode cX0_restore 34 = .ok (.getfield 309, 3) := dk_180 1 53 (dk_at dksX0_restore_1 11 rfl rfl)
theorem dX0_restore_37 : decode cX0_restore 37 = .ok (.putfield 170, 3) := dk_181 0 170 (dk_at dksX0_restore_1 14 rfl rfl)
theorem dX0_restore_40 : decode cX0_restore 40 = .ok (.aload_n 0, 1) := dk_42 (dk_at dksX0_restore_1 17 rfl rfl)
theorem dX0_restore_41 : decode cX0_restore 41 = .ok (.aload_n 0, 1) := dk_42 (dk_at dksX0_restore_1 18 rfl rfl)
theorem dX0_restore_42 : decode cX0_restore 42 = .ok (.getfield 312, 3) := dk_180 1 56 (dk_at dksX0_restore_1 19 rfl rfl)
theorem dX0_restore_45 : decode cX0_restore 45 = .ok (.putfield 115, 3) := dk_181 0 115 (dk_at dksX0_restore_2 0 rfl rfl)
theorem dX0_restore_48 : decode cX0_restore 48 = .ok (.aload_n 0, 1) := dk_42 (dk_at dksX0_restore_2 3 rfl rfl)
theorem dX0_restore_49 : decode cX0_restore 49 = .ok (.getfield 65, 3) := dk_180 0 65 (dk_at dksX0_restore_2 4 rfl rfl)
theorem dX0_restore_52 : decode cX0_restore 52 = .ok (.aload_n 0, 1) := dk_42 (dk_at dksX0_restore_2 7 rfl rfl)
theorem dX0_restore_53 : decode cX0_restore 53 = .ok (.getfield 34, 3) := dk_180 0 34 (dk_at dksX0_restore_2 8 rfl rfl)
theorem dX0_restore_56 : decode cX0_restore 56 = .ok (.invokestatic 315, 3) := dk_184 1 59 (dk_at dksX0_restore_2 11 rfl rfl)
theorem dX0_restore_59 : decode cX0_restore 59 = .ok (.aload_n 0, 1) := dk_42 (dk_at dksX0_restore_2 14 rfl rfl)
theorem dX0_restore_60 : decode cX0_restore 60 = .ok (.getfield 71, 3) := dk_180 0 71 (dk_at dksX0_restore_2 15 rfl rfl)
theorem dX0_restore_63 : decode cX0_restore 63 = .ok (.aload_n 0, 1) := dk_42 (dk_at dksX0_restore_2 18 rfl rfl)
theorem dX0_restore_64 : decode cX0_restore 64 = .ok (.getfield 45, 3) := dk_180 0 45 (dk_at dksX0_restore_2 19 rfl rfl)
theorem dX0_restore_67 : decode cX0_restore 67 = .ok (.invokestatic 315, 3) := dk_184 1 59 (dk_at dksX0_restore_3 0 rfl rfl)
theorem dX0_restore_70 : decode cX0_restore 70 = .ok (.aload_n 0, 1) := dk_42 (dk_at dksX0_restore_3 3 rfl rfl)
theorem dX0_restore_71 : decode cX0_restore 71 = .ok (.getfield 74, 3) := dk_180 0 74 (dk_at dksX0_restore_3 4 rfl rfl)
theorem dX0_restore_74 : decode cX0_restore 74 = .ok (.aload_n 0, 1) := dk_42 (dk_at dksX0_restore_3 7 rfl rfl)
theorem dX0_restore_75 : decode cX0_restore 75 = .ok (.getfield 48, 3) := dk_180 0 48 (dk_at dksX0_restore_3 8 rfl rfl)
theorem dX0_restore_78 : decode cX0_restore 78 = .ok (.invokestatic 315, 3) := dk_184 1 59 (dk_at dksX0_restore_3 11 rfl rfl)
theorem dX0_restore_81 : decode cX0_restore 81 = .ok (.iconst 0, 1) := dk_3 (dk_at dksX0_restore_3 14 rfl rfl)
theorem dX0_restore_82 : decode cX0_restore 82 = .ok (.istore_n 1, 1) := dk_60 (dk_at dksX0_restore_3 15 rfl rfl)
theorem dX0_restore_83 : decode cX0_restore 83 = .ok (.iload_n 1, 1) := dk_27 (dk_at dksX0_restore_3 16 rfl rfl)
theorem dX0_restore_84 : decode cX0_restore 84 = .ok (.iconst 5, 1) := dk_8 (dk_at dksX0_restore_3 17 rfl rfl)
theorem dX0_restore_85 : decode cX0_restore 85 = .ok (.if_icmp .ge 24, 3) := dk_162 0 24 (dk_at dksX0_restore_3 18 rfl rfl)
theorem dX0_restore_88 : decode cX0_restore 88 = .ok (.aload_n 0, 1) := dk_42 (dk_at dksX0_restore_3 21 rfl rfl)
theorem dX0_restore_89 : decode cX0_restore 89 = .ok (.getfield 68, 3) := dk_180 0 68 (dk_at dksX0_restore_4 0 rfl rfl)
theorem dX0_restore_92 : decode cX0_restore 92 = .ok (.iload_n 1, 1) := dk_27 (dk_at dksX0_restore_4 3 rfl rfl)
theorem dX0_restore_93 : decode cX0_restore 93 = .ok (.aaload, 1) := dk_50 (dk_at dksX0_restore_4 4 rfl rfl)
theorem dX0_restore_94 : decode cX0_restore 94 = .ok (.aload_n 0, 1) := dk_42 (dk_at dksX0_restore_4 5 rfl rfl)
theorem dX0_restore_95 : decode cX0_restore 95 = .ok (.getfield 42, 3) := dk_180 0 42 (dk_at dksX0_restore_4 6 rfl rfl)
theorem dX0_restore_98 : decode cX0_restore 98 = .ok (.iload_n 1, 1) := dk_27 (dk_at dksX0_restore_4 9 rfl rfl)
theorem dX0_restore_99 : decode cX0_restore 99 = .ok (.aaload, 1) := dk_50 (dk_at dksX0_restore_4 10 rfl rfl)
theorem dX0_restore_100 : decode cX0_restore 100 = .ok (.invokestatic 315, 3) := dk_184 1 59 (dk_at dksX0_restore_4 11 rfl rfl)
theorem dX0_restore_103 : decode cX0_restore 103 = .ok (.iinc 1 1, 3) := dk_132 1 1 (dk_at dksX0_restore_4 14 rfl rfl)
theorem dX0_restore_106 : decode cX0_restore 106 = .ok (.goto (-23), 3) := dk_167 255 233 (dk_at dksX0_restore_4 17 rfl rfl)
theorem dX0_restore_109 : decode cX0_restore 109 = .ok (.aload_n 0, 1) := dk_42 (dk_at dksX0_restore_4 20 rfl rfl)
theorem dX0_restore_110 : decode cX0_restore 110 = .ok (.getfield 170, 3) := dk_180 0 170 (dk_at dksX0_restore_4 21 rfl rfl)
theorem dX0_restore_113 : decode cX0_restore 113 = .ok (.ireturn, 1) := dk_172 (dk_at dksX0_restore_5 0 rfl rfl)
abbrev cX0_count : ByteArray := prog_1_method_65_code
def yX0_count : MethodName := ⟨RX0, "count", "(I)I"⟩
def dkwX0_count_0 : List UInt8 := [42, 27, 182, 1, 63, 172]
abbrev dktX0_count_0 : List UInt8 := dkwX0_count_0 ++ []
theorem dksX0_count_0 : cX0_count.data.toList.drop 0 = dktX0_count_0 := by decide +kernel
theorem dX0_count_0 : decode cX0_count 0 = .ok (.aload_n 0, 1) := dk_42 (dk_at dksX0_count_0 0 rfl rfl)
theorem dX0_count_1 : decode cX0_count 1 = .ok (.iload_n 1, 1) := dk_27 (dk_at dksX0_count_0 1 rfl rfl)
theorem dX0_count_2 : decode cX0_count 2 = .ok (.invokevirtual 319, 3) := dk_182 1 63 (dk_at dksX0_count_0 2 rfl rfl)
theorem dX0_count_5 : decode cX0_count 5 = .ok (.ireturn, 1) := dk_172 (dk_at dksX0_count_0 5 rfl rfl)
abbrev cX0_countOf : ByteArray := prog_1_method_64_code
def yX0_countOf : MethodName := ⟨RX0, "countOf", "(I)I"⟩
def dkwX0_countOf_4 : List UInt8 := [180, 0, 254, 172, 16, 154, 172]
abbrev dktX0_countOf_4 : List UInt8 := dkwX0_countOf_4 ++ []
def dkwX0_countOf_3 : List UInt8 := [42, 180, 0, 23, 180, 0, 118, 172, 42, 180, 0, 170, 172, 42, 180, 0, 115, 172, 42, 180, 0, 95, 172, 42]
abbrev dktX0_countOf_3 : List UInt8 := dkwX0_countOf_3 ++ dktX0_countOf_4
def dkwX0_countOf_2 : List UInt8 := [42, 180, 0, 23, 180, 0, 144, 172, 42, 180, 0, 23, 180, 0, 151, 172, 42, 180, 0, 10, 182, 0, 85, 172]
abbrev dktX0_countOf_2 : List UInt8 := dkwX0_countOf_2 ++ dktX0_countOf_3
def dkwX0_countOf_1 : List UInt8 := [170, 0, 0, 0, 0, 0, 99, 0, 0, 0, 0, 0, 0, 0, 7, 0, 0, 0, 47, 0, 0, 0, 55, 0, 0, 0, 63, 0, 0, 0, 71, 0, 0, 0, 79, 0, 0, 0, 84, 0, 0, 0, 89, 0, 0, 0, 94]
abbrev dktX0_countOf_1 : List UInt8 := dkwX0_countOf_1 ++ dktX0_countOf_2
def dkwX0_countOf_0 : List UInt8 := [27]
abbrev dktX0_countOf_0 : List UInt8 := dkwX0_countOf_0 ++ dktX0_countOf_1
theorem dksX0_countOf_0 : cX0_countOf.data.toList.drop 0 = dktX0_countOf_0 := by decide +kernel
theorem dksX0_countOf_1 : cX0_countOf.data.toList.drop 1 = dktX0_countOf_1 := dk_seg dksX0_countOf_0 1 rfl rfl
theorem dksX0_countOf_2 : cX0_countOf.data.toList.drop 48 = dktX0_countOf_2 := dk_seg dksX0_countOf_1 47 rfl rfl
theorem dksX0_countOf_3 : cX0_countOf.data.toList.drop 72 = dktX0_countOf_3 := dk_seg dksX0_countOf_2 24 rfl rfl
theorem dksX0_countOf_4 : cX0_countOf.data.toList.drop 96 = dktX0_countOf_4 := dk_seg dksX0_countOf_3 24 rfl rfl
theorem dX0_countOf_0 : decode cX0_countOf 0 = .ok (.iload_n 1, 1) := dk_27 (dk_at dksX0_countOf_0 0 rfl rfl)
theorem dX0_countOf_1 : decode cX0_countOf 1 = .ok (.tableswitch 99 0 7 #[47, 55, 63, 71, 79, 84, 89, 94], 47) := by decide +kernel
theorem dX0_countOf_48 : decode cX0_countOf 48 = .ok (.aload_n 0, 1) := dk_42 (dk_at dksX0_countOf_2 0 rfl rfl)
theorem dX0_countOf_49 : decode cX0_countOf 49 = .ok (.getfield 23, 3) := dk_180 0 23 (dk_at dksX0_countOf_2 1 rfl rfl)
theorem dX0_countOf_52 : decode cX0_countOf 52 = .ok (.getfield 144, 3) := dk_180 0 144 (dk_at dksX0_countOf_2 4 rfl rfl)
theorem dX0_countOf_55 : decode cX0_countOf 55 = .ok (.ireturn, 1) := dk_172 (dk_at dksX0_countOf_2 7 rfl rfl)
theorem dX0_countOf_56 : decode cX0_countOf 56 = .ok (.aload_n 0, 1) := dk_42 (dk_at dksX0_countOf_2 8 rfl rfl)
theorem dX0_countOf_57 : decode cX0_countOf 57 = .ok (.getfield 23, 3) := dk_180 0 23 (dk_at dksX0_countOf_2 9 rfl rfl)
theorem dX0_countOf_60 : decode cX0_countOf 60 = .ok (.getfield 151, 3) := dk_180 0 151 (dk_at dksX0_countOf_2 12 rfl rfl)
theorem dX0_countOf_63 : decode cX0_countOf 63 = .ok (.ireturn, 1) := dk_172 (dk_at dksX0_countOf_2 15 rfl rfl)
theorem dX0_countOf_64 : decode cX0_countOf 64 = .ok (.aload_n 0, 1) := dk_42 (dk_at dksX0_countOf_2 16 rfl rfl)
theorem dX0_countOf_65 : decode cX0_countOf 65 = .ok (.getfield 10, 3) := dk_180 0 10 (dk_at dksX0_countOf_2 17 rfl rfl)
theorem dX0_countOf_68 : decode cX0_countOf 68 = .ok (.invokevirtual 85, 3) := dk_182 0 85 (dk_at dksX0_countOf_2 20 rfl rfl)
theorem dX0_countOf_71 : decode cX0_countOf 71 = .ok (.ireturn, 1) := dk_172 (dk_at dksX0_countOf_2 23 rfl rfl)
theorem dX0_countOf_72 : decode cX0_countOf 72 = .ok (.aload_n 0, 1) := dk_42 (dk_at dksX0_countOf_3 0 rfl rfl)
theorem dX0_countOf_73 : decode cX0_countOf 73 = .ok (.getfield 23, 3) := dk_180 0 23 (dk_at dksX0_countOf_3 1 rfl rfl)
theorem dX0_countOf_76 : decode cX0_countOf 76 = .ok (.getfield 118, 3) := dk_180 0 118 (dk_at dksX0_countOf_3 4 rfl rfl)
theorem dX0_countOf_79 : decode cX0_countOf 79 = .ok (.ireturn, 1) := dk_172 (dk_at dksX0_countOf_3 7 rfl rfl)
theorem dX0_countOf_80 : decode cX0_countOf 80 = .ok (.aload_n 0, 1) := dk_42 (dk_at dksX0_countOf_3 8 rfl rfl)
theorem dX0_countOf_81 : decode cX0_countOf 81 = .ok (.getfield 170, 3) := dk_180 0 170 (dk_at dksX0_countOf_3 9 rfl rfl)
theorem dX0_countOf_84 : decode cX0_countOf 84 = .ok (.ireturn, 1) := dk_172 (dk_at dksX0_countOf_3 12 rfl rfl)
theorem dX0_countOf_85 : decode cX0_countOf 85 = .ok (.aload_n 0, 1) := dk_42 (dk_at dksX0_countOf_3 13 rfl rfl)
theorem dX0_countOf_86 : decode cX0_countOf 86 = .ok (.getfield 115, 3) := dk_180 0 115 (dk_at dksX0_countOf_3 14 rfl rfl)
theorem dX0_countOf_89 : decode cX0_countOf 89 = .ok (.ireturn, 1) := dk_172 (dk_at dksX0_countOf_3 17 rfl rfl)
theorem dX0_countOf_90 : decode cX0_countOf 90 = .ok (.aload_n 0, 1) := dk_42 (dk_at dksX0_countOf_3 18 rfl rfl)
theorem dX0_countOf_91 : decode cX0_countOf 91 = .ok (.getfield 95, 3) := dk_180 0 95 (dk_at dksX0_countOf_3 19 rfl rfl)
theorem dX0_countOf_94 : decode cX0_countOf 94 = .ok (.ireturn, 1) := dk_172 (dk_at dksX0_countOf_3 22 rfl rfl)
theorem dX0_countOf_95 : decode cX0_countOf 95 = .ok (.aload_n 0, 1) := dk_42 (dk_at dksX0_countOf_3 23 rfl rfl)
theorem dX0_countOf_96 : decode cX0_countOf 96 = .ok (.getfield 254, 3) := dk_180 0 254 (dk_at dksX0_countOf_4 0 rfl rfl)
theorem dX0_countOf_99 : decode cX0_countOf 99 = .ok (.ireturn, 1) := dk_172 (dk_at dksX0_countOf_4 3 rfl rfl)
theorem dX0_countOf_100 : decode cX0_countOf 100 = .ok (.bipush (-102), 2) := dk_16 154 (dk_at dksX0_countOf_4 4 rfl rfl)
theorem dX0_countOf_102 : decode cX0_countOf 102 = .ok (.ireturn, 1) := dk_172 (dk_at dksX0_countOf_4 6 rfl rfl)
abbrev cX0_digest : ByteArray := prog_1_method_68_code
def yX0_digest : MethodName := ⟨RX0, "digest", "()J"⟩
def dkwX0_digest_8 : List UInt8 := [16, 8, 162, 0, 20, 31, 42, 29, 182, 1, 63, 133, 184, 1, 68, 64, 132, 3, 1, 167, 255, 236, 31, 173]
abbrev dktX0_digest_8 : List UInt8 := dkwX0_digest_8 ++ []
def dkwX0_digest_7 : List UInt8 := [162, 0, 21, 31, 42, 180, 0, 16, 29, 51, 133, 184, 1, 68, 64, 132, 3, 1, 167, 255, 233, 3, 62, 29]
abbrev dktX0_digest_7 : List UInt8 := dkwX0_digest_7 ++ dktX0_digest_8
def dkwX0_digest_6 : List UInt8 := [4, 182, 1, 40, 133, 184, 1, 68, 64, 132, 3, 1, 167, 255, 225, 3, 62, 29, 42, 180, 0, 95]
abbrev dktX0_digest_6 : List UInt8 := dkwX0_digest_6 ++ dktX0_digest_7
def dkwX0_digest_5 : List UInt8 := [167, 255, 231, 5, 62, 29, 16, 10, 162, 0, 31, 31, 42, 29, 3, 182, 1, 40, 133, 184, 1, 68, 42, 29]
abbrev dktX0_digest_5 : List UInt8 := dkwX0_digest_5 ++ dktX0_digest_6
def dkwX0_digest_4 : List UInt8 := [180, 0, 23, 180, 0, 144, 162, 0, 20, 31, 42, 29, 182, 1, 31, 133, 184, 1, 68, 64, 132, 3, 1]
abbrev dktX0_digest_4 : List UInt8 := dkwX0_digest_4 ++ dktX0_digest_5
def dkwX0_digest_3 : List UInt8 := [31, 42, 182, 0, 245, 133, 184, 1, 68, 42, 182, 0, 251, 133, 184, 1, 68, 64, 3, 62, 29, 42]
abbrev dktX0_digest_3 : List UInt8 := dkwX0_digest_3 ++ dktX0_digest_4
def dkwX0_digest_2 : List UInt8 := [192, 0, 122, 4, 184, 0, 137, 133, 184, 1, 68, 64, 132, 3, 1, 167, 255, 202, 42, 31, 182, 1, 74, 64]
abbrev dktX0_digest_2 : List UInt8 := dkwX0_digest_2 ++ dktX0_digest_3
def dkwX0_digest_1 : List UInt8 := [182, 0, 133, 192, 0, 122, 3, 184, 0, 137, 133, 184, 1, 68, 42, 180, 0, 10, 29, 182, 0, 133]
abbrev dktX0_digest_1 : List UInt8 := dkwX0_digest_1 ++ dktX0_digest_2
def dkwX0_digest_0 : List UInt8 := [20, 1, 72, 64, 3, 62, 29, 42, 180, 0, 10, 182, 0, 85, 162, 0, 49, 31, 42, 180, 0, 10, 29]
abbrev dktX0_digest_0 : List UInt8 := dkwX0_digest_0 ++ dktX0_digest_1
theorem dksX0_digest_0 : cX0_digest.data.toList.drop 0 = dktX0_digest_0 := by decide +kernel
theorem dksX0_digest_1 : cX0_digest.data.toList.drop 23 = dktX0_digest_1 := dk_seg dksX0_digest_0 23 rfl rfl
theorem dksX0_digest_2 : cX0_digest.data.toList.drop 45 = dktX0_digest_2 := dk_seg dksX0_digest_1 22 rfl rfl
theorem dksX0_digest_3 : cX0_digest.data.toList.drop 69 = dktX0_digest_3 := dk_seg dksX0_digest_2 24 rfl rfl
theorem dksX0_digest_4 : cX0_digest.data.toList.drop 91 = dktX0_digest_4 := dk_seg dksX0_digest_3 22 rfl rfl
theorem dksX0_digest_5 : cX0_digest.data.toList.drop 114 = dktX0_digest_5 := dk_seg dksX0_digest_4 23 rfl rfl
theorem dksX0_digest_6 : cX0_digest.data.toList.drop 138 = dktX0_digest_6 := dk_seg dksX0_digest_5 24 rfl rfl
theorem dksX0_digest_7 : cX0_digest.data.toList.drop 160 = dktX0_digest_7 := dk_seg dksX0_digest_6 22 rfl rfl
theorem dksX0_digest_8 : cX0_digest.data.toList.drop 184 = dktX0_digest_8 := dk_seg dksX0_digest_7 24 rfl rfl
theorem dX0_digest_0 : decode cX0_digest 0 = .ok (.ldc2_w 328, 3) := dk_20 1 72 (dk_at dksX0_digest_0 0 rfl rfl)
theorem dX0_digest_3 : decode cX0_digest 3 = .ok (.lstore_n 1, 1) := dk_64 (dk_at dksX0_digest_0 3 rfl rfl)
theorem dX0_digest_4 : decode cX0_digest 4 = .ok (.iconst 0, 1) := dk_3 (dk_at dksX0_digest_0 4 rfl rfl)
theorem dX0_digest_5 : decode cX0_digest 5 = .ok (.istore_n 3, 1) := dk_62 (dk_at dksX0_digest_0 5 rfl rfl)
theorem dX0_digest_6 : decode cX0_digest 6 = .ok (.iload_n 3, 1) := dk_29 (dk_at dksX0_digest_0 6 rfl rfl)
theorem dX0_digest_7 : decode cX0_digest 7 = .ok (.aload_n 0, 1) := dk_42 (dk_at dksX0_digest_0 7 rfl rfl)
theorem dX0_digest_8 : decode cX0_digest 8 = .ok (.getfield 10, 3) := dk_180 0 10 (dk_at dksX0_digest_0 8 rfl rfl)
theorem dX0_digest_11 : decode cX0_digest 11 = .ok (.invokevirtual 85, 3) := dk_182 0 85 (dk_at dksX0_digest_0 11 rfl rfl)
theorem dX0_digest_14 : decode cX0_digest 14 = .ok (.if_icmp .ge 49, 3) := dk_162 0 49 (dk_at dksX0_digest_0 14 rfl rfl)
theorem dX0_digest_17 : decode cX0_digest 17 = .ok (.lload_n 1, 1) := dk_31 (dk_at dksX0_digest_0 17 rfl rfl)
theorem dX0_digest_18 : decode cX0_digest 18 = .ok (.aload_n 0, 1) := dk_42 (dk_at dksX0_digest_0 18 rfl rfl)
theorem dX0_digest_19 : decode cX0_digest 19 = .ok (.getfield 10, 3) := dk_180 0 10 (dk_at dksX0_digest_0 19 rfl rfl)
theorem dX0_digest_22 : decode cX0_digest 22 = .ok (.iload_n 3, 1) := dk_29 (dk_at dksX0_digest_0 22 rfl rfl)
theorem dX0_digest_23 : decode cX0_digest 23 = .ok (.invokevirtual 133, 3) := dk_182 0 133 (dk_at dksX0_digest_1 0 rfl rfl)
theorem dX0_digest_26 : decode cX0_digest 26 = .ok (.checkcast 122, 3) := dk_192 0 122 (dk_at dksX0_digest_1 3 rfl rfl)
theorem dX0_digest_29 : decode cX0_digest 29 = .ok (.iconst 0, 1) := dk_3 (dk_at dksX0_digest_1 6 rfl rfl)
theorem dX0_digest_30 : decode cX0_digest 30 = .ok (.invokestatic 137, 3) := dk_184 0 137 (dk_at dksX0_digest_1 7 rfl rfl)
theorem dX0_digest_33 : decode cX0_digest 33 = .ok (.i2l, 1) := dk_133 (dk_at dksX0_digest_1 10 rfl rfl)
theorem dX0_digest_34 : decode cX0_digest 34 = .ok (.invokestatic 324, 3) := dk_184 1 68 (dk_at dksX0_digest_1 11 rfl rfl)
theorem dX0_digest_37 : decode cX0_digest 37 = .ok (.aload_n 0, 1) := dk_42 (dk_at dksX0_digest_1 14 rfl rfl)
theorem dX0_digest_38 : decode cX0_digest 38 = .ok (.getfield 10, 3) := dk_180 0 10 (dk_at dksX0_digest_1 15 rfl rfl)
theorem dX0_digest_41 : decode cX0_digest 41 = .ok (.iload_n 3, 1) := dk_29 (dk_at dksX0_digest_1 18 rfl rfl)
theorem dX0_digest_42 : decode cX0_digest 42 = .ok (.invokevirtual 133, 3) := dk_182 0 133 (dk_at dksX0_digest_1 19 rfl rfl)
theorem dX0_digest_45 : decode cX0_digest 45 = .ok (.checkcast 122, 3) := dk_192 0 122 (dk_at dksX0_digest_2 0 rfl rfl)
theorem dX0_digest_48 : decode cX0_digest 48 = .ok (.iconst 1, 1) := dk_4 (dk_at dksX0_digest_2 3 rfl rfl)
theorem dX0_digest_49 : decode cX0_digest 49 = .ok (.invokestatic 137, 3) := dk_184 0 137 (dk_at dksX0_digest_2 4 rfl rfl)
theorem dX0_digest_52 : decode cX0_digest 52 = .ok (.i2l, 1) := dk_133 (dk_at dksX0_digest_2 7 rfl rfl)
theorem dX0_digest_53 : decode cX0_digest 53 = .ok (.invokestatic 324, 3) := dk_184 1 68 (dk_at dksX0_digest_2 8 rfl rfl)
theorem dX0_digest_56 : decode cX0_digest 56 = .ok (.lstore_n 1, 1) := dk_64 (dk_at dksX0_digest_2 11 rfl rfl)
theorem dX0_digest_57 : decode cX0_digest 57 = .ok (.iinc 3 1, 3) := dk_132 3 1 (dk_at dksX0_digest_2 12 rfl rfl)
theorem dX0_digest_60 : decode cX0_digest 60 = .ok (.goto (-54), 3) := dk_167 255 202 (dk_at dksX0_digest_2 15 rfl rfl)
theorem dX0_digest_63 : decode cX0_digest 63 = .ok (.aload_n 0, 1) := dk_42 (dk_at dksX0_digest_2 18 rfl rfl)
theorem dX0_digest_64 : decode cX0_digest 64 = .ok (.lload_n 1, 1) := dk_31 (dk_at dksX0_digest_2 19 rfl rfl)
theorem dX0_digest_65 : decode cX0_digest 65 = .ok (.invokevirtual 330, 3) := dk_182 1 74 (dk_at dksX0_digest_2 20 rfl rfl)
theorem dX0_digest_68 : decode cX0_digest 68 = .ok (.lstore_n 1, 1) := dk_64 (dk_at dksX0_digest_2 23 rfl rfl)
theorem dX0_digest_69 : decode cX0_digest 69 = .ok (.lload_n 1, 1) := dk_31 (dk_at dksX0_digest_3 0 rfl rfl)
theorem dX0_digest_70 : decode cX0_digest 70 = .ok (.aload_n 0, 1) := dk_42 (dk_at dksX0_digest_3 1 rfl rfl)
theorem dX0_digest_71 : decode cX0_digest 71 = .ok (.invokevirtual 245, 3) := dk_182 0 245 (dk_at dksX0_digest_3 2 rfl rfl)
theorem dX0_digest_74 : decode cX0_digest 74 = .ok (.i2l, 1) := dk_133 (dk_at dksX0_digest_3 5 rfl rfl)
theorem dX0_digest_75 : decode cX0_digest 75 = .ok (.invokestatic 324, 3) := dk_184 1 68 (dk_at dksX0_digest_3 6 rfl rfl)
theorem dX0_digest_78 : decode cX0_digest 78 = .ok (.aload_n 0, 1) := dk_42 (dk_at dksX0_digest_3 9 rfl rfl)
theorem dX0_digest_79 : decode cX0_digest 79 = .ok (.invokevirtual 251, 3) := dk_182 0 251 (dk_at dksX0_digest_3 10 rfl rfl)
theorem dX0_digest_82 : decode cX0_digest 82 = .ok (.i2l, 1) := dk_133 (dk_at dksX0_digest_3 13 rfl rfl)
theorem dX0_digest_83 : decode cX0_digest 83 = .ok (.invokestatic 324, 3) := dk_184 1 68 (dk_at dksX0_digest_3 14 rfl rfl)
theorem dX0_digest_86 : decode cX0_digest 86 = .ok (.lstore_n 1, 1) := dk_64 (dk_at dksX0_digest_3 17 rfl rfl)
theorem dX0_digest_87 : decode cX0_digest 87 = .ok (.iconst 0, 1) := dk_3 (dk_at dksX0_digest_3 18 rfl rfl)
theorem dX0_digest_88 : decode cX0_digest 88 = .ok (.istore_n 3, 1) := dk_62 (dk_at dksX0_digest_3 19 rfl rfl)
theorem dX0_digest_89 : decode cX0_digest 89 = .ok (.iload_n 3, 1) := dk_29 (dk_at dksX0_digest_3 20 rfl rfl)
theorem dX0_digest_90 : decode cX0_digest 90 = .ok (.aload_n 0, 1) := dk_42 (dk_at dksX0_digest_3 21 rfl rfl)
theorem dX0_digest_91 : decode cX0_digest 91 = .ok (.getfield 23, 3) := dk_180 0 23 (dk_at dksX0_digest_4 0 rfl rfl)
theorem dX0_digest_94 : decode cX0_digest 94 = .ok (.getfield 144, 3) := dk_180 0 144 (dk_at dksX0_digest_4 3 rfl rfl)
theorem dX0_digest_97 : decode cX0_digest 97 = .ok (.if_icmp .ge 20, 3) := dk_162 0 20 (dk_at dksX0_digest_4 6 rfl rfl)
theorem dX0_digest_100 : decode cX0_digest 100 = .ok (.lload_n 1, 1) := dk_31 (dk_at dksX0_digest_4 9 rfl rfl)
theorem dX0_digest_101 : decode cX0_digest 101 = .ok (.aload_n 0, 1) := dk_42 (dk_at dksX0_digest_4 10 rfl rfl)
theorem dX0_digest_102 : decode cX0_digest 102 = .ok (.iload_n 3, 1) := dk_29 (dk_at dksX0_digest_4 11 rfl rfl)
theorem dX0_digest_103 : decode cX0_digest 103 = .ok (.invokevirtual 287, 3) := dk_182 1 31 (dk_at dksX0_digest_4 12 rfl rfl)
theorem dX0_digest_106 : decode cX0_digest 106 = .ok (.i2l, 1) := dk_133 (dk_at dksX0_digest_4 15 rfl rfl)
theorem dX0_digest_107 : decode cX0_digest 107 = .ok (.invokestatic 324, 3) := dk_184 1 68 (dk_at dksX0_digest_4 16 rfl rfl)
theorem dX0_digest_110 : decode cX0_digest 110 = .ok (.lstore_n 1, 1) := dk_64 (dk_at dksX0_digest_4 19 rfl rfl)
theorem dX0_digest_111 : decode cX0_digest 111 = .ok (.iinc 3 1, 3) := dk_132 3 1 (dk_at dksX0_digest_4 20 rfl rfl)
theorem dX0_digest_114 : decode cX0_digest 114 = .ok (.goto (-25), 3) := dk_167 255 231 (dk_at dksX0_digest_5 0 rfl rfl)
theorem dX0_digest_117 : decode cX0_digest 117 = .ok (.iconst 2, 1) := dk_5 (dk_at dksX0_digest_5 3 rfl rfl)
theorem dX0_digest_118 : decode cX0_digest 118 = .ok (.istore_n 3, 1) := dk_62 (dk_at dksX0_digest_5 4 rfl rfl)
theorem dX0_digest_119 : decode cX0_digest 119 = .ok (.iload_n 3, 1) := dk_29 (dk_at dksX0_digest_5 5 rfl rfl)
theorem dX0_digest_120 : decode cX0_digest 120 = .ok (.bipush 10, 2) := dk_16 10 (dk_at dksX0_digest_5 6 rfl rfl)
theorem dX0_digest_122 : decode cX0_digest 122 = .ok (.if_icmp .ge 31, 3) := dk_162 0 31 (dk_at dksX0_digest_5 8 rfl rfl)
theorem dX0_digest_125 : decode cX0_digest 125 = .ok (.lload_n 1, 1) := dk_31 (dk_at dksX0_digest_5 11 rfl rfl)
theorem dX0_digest_126 : decode cX0_digest 126 = .ok (.aload_n 0, 1) := dk_42 (dk_at dksX0_digest_5 12 rfl rfl)
theorem dX0_digest_127 : decode cX0_digest 127 = .ok (.iload_n 3, 1) := dk_29 (dk_at dksX0_digest_5 13 rfl rfl)
theorem dX0_digest_128 : decode cX0_digest 128 = .ok (.iconst 0, 1) := dk_3 (dk_at dksX0_digest_5 14 rfl rfl)
theorem dX0_digest_129 : decode cX0_digest 129 = .ok (.invokevirtual 296, 3) := dk_182 1 40 (dk_at dksX0_digest_5 15 rfl rfl)
theorem dX0_digest_132 : decode cX0_digest 132 = .ok (.i2l, 1) := dk_133 (dk_at dksX0_digest_5 18 rfl rfl)
theorem dX0_digest_133 : decode cX0_digest 133 = .ok (.invokestatic 324, 3) := dk_184 1 68 (dk_at dksX0_digest_5 19 rfl rfl)
theorem dX0_digest_136 : decode cX0_digest 136 = .ok (.aload_n 0, 1) := dk_42 (dk_at dksX0_digest_5 22 rfl rfl)
theorem dX0_digest_137 : decode cX0_digest 137 = .ok (.iload_n 3, 1) := dk_29 (dk_at dksX0_digest_5 23 rfl rfl)
theorem dX0_digest_138 : decode cX0_digest 138 = .ok (.iconst 1, 1) := dk_4 (dk_at dksX0_digest_6 0 rfl rfl)
theorem dX0_digest_139 : decode cX0_digest 139 = .ok (.invokevirtual 296, 3) := dk_182 1 40 (dk_at dksX0_digest_6 1 rfl rfl)
theorem dX0_digest_142 : decode cX0_digest 142 = .ok (.i2l, 1) := dk_133 (dk_at dksX0_digest_6 4 rfl rfl)
theorem dX0_digest_143 : decode cX0_digest 143 = .ok (.invokestatic 324, 3) := dk_184 1 68 (dk_at dksX0_digest_6 5 rfl rfl)
theorem dX0_digest_146 : decode cX0_digest 146 = .ok (.lstore_n 1, 1) := dk_64 (dk_at dksX0_digest_6 8 rfl rfl)
theorem dX0_digest_147 : decode cX0_digest 147 = .ok (.iinc 3 1, 3) := dk_132 3 1 (dk_at dksX0_digest_6 9 rfl rfl)
theorem dX0_digest_150 : decode cX0_digest 150 = .ok (.goto (-31), 3) := dk_167 255 225 (dk_at dksX0_digest_6 12 rfl rfl)
theorem dX0_digest_153 : decode cX0_digest 153 = .ok (.iconst 0, 1) := dk_3 (dk_at dksX0_digest_6 15 rfl rfl)
theorem dX0_digest_154 : decode cX0_digest 154 = .ok (.istore_n 3, 1) := dk_62 (dk_at dksX0_digest_6 16 rfl rfl)
theorem dX0_digest_155 : decode cX0_digest 155 = .ok (.iload_n 3, 1) := dk_29 (dk_at dksX0_digest_6 17 rfl rfl)
theorem dX0_digest_156 : decode cX0_digest 156 = .ok (.aload_n 0, 1) := dk_42 (dk_at dksX0_digest_6 18 rfl rfl)
theorem dX0_digest_157 : decode cX0_digest 157 = .ok (.getfield 95, 3) := dk_180 0 95 (dk_at dksX0_digest_6 19 rfl rfl)
theorem dX0_digest_160 : decode cX0_digest 160 = .ok (.if_icmp .ge 21, 3) := dk_162 0 21 (dk_at dksX0_digest_7 0 rfl rfl)
theorem dX0_digest_163 : decode cX0_digest 163 = .ok (.lload_n 1, 1) := dk_31 (dk_at dksX0_digest_7 3 rfl rfl)
theorem dX0_digest_164 : decode cX0_digest 164 = .ok (.aload_n 0, 1) := dk_42 (dk_at dksX0_digest_7 4 rfl rfl)
theorem dX0_digest_165 : decode cX0_digest 165 = .ok (.getfield 16, 3) := dk_180 0 16 (dk_at dksX0_digest_7 5 rfl rfl)
theorem dX0_digest_168 : decode cX0_digest 168 = .ok (.iload_n 3, 1) := dk_29 (dk_at dksX0_digest_7 8 rfl rfl)
theorem dX0_digest_169 : decode cX0_digest 169 = .ok (.baload, 1) := dk_51 (dk_at dksX0_digest_7 9 rfl rfl)
theorem dX0_digest_170 : decode cX0_digest 170 = .ok (.i2l, 1) := dk_133 (dk_at dksX0_digest_7 10 rfl rfl)
theorem dX0_digest_171 : decode cX0_digest 171 = .ok (.invokestatic 324, 3) := dk_184 1 68 (dk_at dksX0_digest_7 11 rfl rfl)
theorem dX0_digest_174 : decode cX0_digest 174 = .ok (.lstore_n 1, 1) := dk_64 (dk_at dksX0_digest_7 14 rfl rfl)
theorem dX0_digest_175 : decode cX0_digest 175 = .ok (.iinc 3 1, 3) := dk_132 3 1 (dk_at dksX0_digest_7 15 rfl rfl)
theorem dX0_digest_178 : decode cX0_digest 178 = .ok (.goto (-23), 3) := dk_167 255 233 (dk_at dksX0_digest_7 18 rfl rfl)
theorem dX0_digest_181 : decode cX0_digest 181 = .ok (.iconst 0, 1) := dk_3 (dk_at dksX0_digest_7 21 rfl rfl)
theorem dX0_digest_182 : decode cX0_digest 182 = .ok (.istore_n 3, 1) := dk_62 (dk_at dksX0_digest_7 22 rfl rfl)
theorem dX0_digest_183 : decode cX0_digest 183 = .ok (.iload_n 3, 1) := dk_29 (dk_at dksX0_digest_7 23 rfl rfl)
theorem dX0_digest_184 : decode cX0_digest 184 = .ok (.bipush 8, 2) := dk_16 8 (dk_at dksX0_digest_8 0 rfl rfl)
theorem dX0_digest_186 : decode cX0_digest 186 = .ok (.if_icmp .ge 20, 3) := dk_162 0 20 (dk_at dksX0_digest_8 2 rfl rfl)
theorem dX0_digest_189 : decode cX0_digest 189 = .ok (.lload_n 1, 1) := dk_31 (dk_at dksX0_digest_8 5 rfl rfl)
theorem dX0_digest_190 : decode cX0_digest 190 = .ok (.aload_n 0, 1) := dk_42 (dk_at dksX0_digest_8 6 rfl rfl)
theorem dX0_digest_191 : decode cX0_digest 191 = .ok (.iload_n 3, 1) := dk_29 (dk_at dksX0_digest_8 7 rfl rfl)
theorem dX0_digest_192 : decode cX0_digest 192 = .ok (.invokevirtual 319, 3) := dk_182 1 63 (dk_at dksX0_digest_8 8 rfl rfl)
theorem dX0_digest_195 : decode cX0_digest 195 = .ok (.i2l, 1) := dk_133 (dk_at dksX0_digest_8 11 rfl rfl)
theorem dX0_digest_196 : decode cX0_digest 196 = .ok (.invokestatic 324, 3) := dk_184 1 68 (dk_at dksX0_digest_8 12 rfl rfl)
theorem dX0_digest_199 : decode cX0_digest 199 = .ok (.lstore_n 1, 1) := dk_64 (dk_at dksX0_digest_8 15 rfl rfl)
theorem dX0_digest_200 : decode cX0_digest 200 = .ok (.iinc 3 1, 3) := dk_132 3 1 (dk_at dksX0_digest_8 16 rfl rfl)
theorem dX0_digest_203 : decode cX0_digest 203 = .ok (.goto (-20), 3) := dk_167 255 236 (dk_at dksX0_digest_8 19 rfl rfl)
theorem dX0_digest_206 : decode cX0_digest 206 = .ok (.lload_n 1, 1) := dk_31 (dk_at dksX0_digest_8 22 rfl rfl)
theorem dX0_digest_207 : decode cX0_digest 207 = .ok (.lreturn, 1) := dk_173 (dk_at dksX0_digest_8 23 rfl rfl)
abbrev cX0_with : ByteArray := prog_1_method_66_code
def yX0_with : MethodName := ⟨RX0, "with", "(JJ)J"⟩
def dkwX0_with_0 : List UInt8 := [20, 1, 66, 30, 105, 32, 97, 173]
abbrev dktX0_with_0 : List UInt8 := dkwX0_with_0 ++ []
theorem dksX0_with_0 : cX0_with.data.toList.drop 0 = dktX0_with_0 := by decide +kernel
theorem dX0_with_0 : decode cX0_with 0 = .ok (.ldc2_w 322, 3) := dk_20 1 66 (dk_at dksX0_with_0 0 rfl rfl)
theorem dX0_with_3 : decode cX0_with 3 = .ok (.lload_n 0, 1) := dk_30 (dk_at dksX0_with_0 3 rfl rfl)
theorem dX0_with_4 : decode cX0_with 4 = .ok (.lmul, 1) := dk_105 (dk_at dksX0_with_0 4 rfl rfl)
theorem dX0_with_5 : decode cX0_with 5 = .ok (.lload_n 2, 1) := dk_32 (dk_at dksX0_with_0 5 rfl rfl)
theorem dX0_with_6 : decode cX0_with 6 = .ok (.ladd, 1) := dk_97 (dk_at dksX0_with_0 6 rfl rfl)
theorem dX0_with_7 : decode cX0_with 7 = .ok (.lreturn, 1) := dk_173 (dk_at dksX0_with_0 7 rfl rfl)
abbrev cX0_withSorts : ByteArray := prog_1_method_67_code
def yX0_withSorts : MethodName := ⟨RX0, "withSorts", "(J)J"⟩
def dkwX0_withSorts_5 : List UInt8 := [184, 1, 68, 173]
abbrev dktX0_withSorts_5 : List UInt8 := dkwX0_withSorts_5 ++ []
def dkwX0_withSorts_4 : List UInt8 := [132, 5, 1, 167, 255, 212, 33, 42, 3, 182, 0, 198, 133, 184, 1, 68, 42, 4, 182, 0, 198, 133]
abbrev dktX0_withSorts_4 : List UInt8 := dkwX0_withSorts_4 ++ dktX0_withSorts_5
def dkwX0_withSorts_3 : List UInt8 := [162, 0, 23, 33, 42, 21, 5, 21, 6, 182, 0, 191, 133, 184, 1, 68, 66, 132, 6, 1, 167, 255, 233]
abbrev dktX0_withSorts_3 : List UInt8 := dkwX0_withSorts_3 ++ dktX0_withSorts_4
def dkwX0_withSorts_2 : List UInt8 := [167, 255, 215, 3, 54, 5, 21, 5, 42, 180, 0, 23, 180, 0, 118, 162, 0, 38, 3, 54, 6, 21, 6, 6]
abbrev dktX0_withSorts_2 : List UInt8 := dkwX0_withSorts_2 ++ dktX0_withSorts_3
def dkwX0_withSorts_1 : List UInt8 := [180, 0, 154, 21, 5, 46, 133, 184, 1, 68, 42, 21, 5, 182, 0, 194, 133, 184, 1, 68, 66, 132, 5, 1]
abbrev dktX0_withSorts_1 : List UInt8 := dkwX0_withSorts_1 ++ dktX0_withSorts_2
def dkwX0_withSorts_0 : List UInt8 := [31, 66, 3, 54, 5, 21, 5, 42, 180, 0, 23, 180, 0, 151, 162, 0, 35, 33, 42, 180, 0, 23]
abbrev dktX0_withSorts_0 : List UInt8 := dkwX0_withSorts_0 ++ dktX0_withSorts_1
theorem dksX0_withSorts_0 : cX0_withSorts.data.toList.drop 0 = dktX0_withSorts_0 := by decide +kernel
theorem dksX0_withSorts_1 : cX0_withSorts.data.toList.drop 22 = dktX0_withSorts_1 := dk_seg dksX0_withSorts_0 22 rfl rfl
theorem dksX0_withSorts_2 : cX0_withSorts.data.toList.drop 46 = dktX0_withSorts_2 := dk_seg dksX0_withSorts_1 24 rfl rfl
theorem dksX0_withSorts_3 : cX0_withSorts.data.toList.drop 70 = dktX0_withSorts_3 := dk_seg dksX0_withSorts_2 24 rfl rfl
theorem dksX0_withSorts_4 : cX0_withSorts.data.toList.drop 93 = dktX0_withSorts_4 := dk_seg dksX0_withSorts_3 23 rfl rfl
theorem dksX0_withSorts_5 : cX0_withSorts.data.toList.drop 115 = dktX0_withSorts_5 := dk_seg dksX0_withSorts_4 22 rfl rfl
theorem dX0_withSorts_0 : decode cX0_withSorts 0 = .ok (.lload_n 1, 1) := dk_31 (dk_at dksX0_withSorts_0 0 rfl rfl)
theorem dX0_withSorts_1 : decode cX0_withSorts 1 = .ok (.lstore_n 3, 1) := dk_66 (dk_at dksX0_withSorts_0 1 rfl rfl)
theorem dX0_withSorts_2 : decode cX0_withSorts 2 = .ok (.iconst 0, 1) := dk_3 (dk_at dksX0_withSorts_0 2 rfl rfl)
theorem dX0_withSorts_3 : decode cX0_withSorts 3 = .ok (.istore 5, 2) := dk_54 5 (dk_at dksX0_withSorts_0 3 rfl rfl)
theorem dX0_withSorts_5 : decode cX0_withSorts 5 = .ok (.iload 5, 2) := dk_21 5 (dk_at dksX0_withSorts_0 5 rfl rfl)
theorem dX0_withSorts_7 : decode cX0_withSorts 7 = .ok (.aload_n 0, 1) := dk_42 (dk_at dksX0_withSorts_0 7 rfl rfl)
theorem dX0_withSorts_8 : decode cX0_withSorts 8 = .ok (.getfield 23, 3) := dk_180 0 23 (dk_at dksX0_withSorts_0 8 rfl rfl)
theorem dX0_withSorts_11 : decode cX0_withSorts 11 = .ok (.getfield 151, 3) := dk_180 0 151 (dk_at dksX0_withSorts_0 11 rfl rfl)
theorem dX0_withSorts_14 : decode cX0_withSorts 14 = .ok (.if_icmp .ge 35, 3) := dk_162 0 35 (dk_at dksX0_withSorts_0 14 rfl rfl)
theorem dX0_withSorts_17 : decode cX0_withSorts 17 = .ok (.lload_n 3, 1) := dk_33 (dk_at dksX0_withSorts_0 17 rfl rfl)
theorem dX0_withSorts_18 : decode cX0_withSorts 18 = .ok (.aload_n 0, 1) := dk_42 (dk_at dksX0_withSorts_0 18 rfl rfl)
theorem dX0_withSorts_19 : decode cX0_withSorts 19 = .ok (.getfield 23, 3) := dk_180 0 23 (dk_at dksX0_withSorts_0 19 rfl rfl)
theorem dX0_withSorts_22 : decode cX0_withSorts 22 = .ok (.getfield 154, 3) := dk_180 0 154 (dk_at dksX0_withSorts_1 0 rfl rfl)
theorem dX0_withSorts_25 : decode cX0_withSorts 25 = .ok (.iload 5, 2) := dk_21 5 (dk_at dksX0_withSorts_1 3 rfl rfl)
theorem dX0_withSorts_27 : decode cX0_withSorts 27 = .ok (.iaload, 1) := dk_46 (dk_at dksX0_withSorts_1 5 rfl rfl)
theorem dX0_withSorts_28 : decode cX0_withSorts 28 = .ok (.i2l, 1) := dk_133 (dk_at dksX0_withSorts_1 6 rfl rfl)
theorem dX0_withSorts_29 : decode cX0_withSorts 29 = .ok (.invokestatic 324, 3) := dk_184 1 68 (dk_at dksX0_withSorts_1 7 rfl rfl)
theorem dX0_withSorts_32 : decode cX0_withSorts 32 = .ok (.aload_n 0, 1) := dk_42 (dk_at dksX0_withSorts_1 10 rfl rfl)
theorem dX0_withSorts_33 : decode cX0_withSorts 33 = .ok (.iload 5, 2) := dk_21 5 (dk_at dksX0_withSorts_1 11 rfl rfl)
theorem dX0_withSorts_35 : decode cX0_withSorts 35 = .ok (.invokevirtual 194, 3) := dk_182 0 194 (dk_at dksX0_withSorts_1 13 rfl rfl)
theorem dX0_withSorts_38 : decode cX0_withSorts 38 = .ok (.i2l, 1) := dk_133 (dk_at dksX0_withSorts_1 16 rfl rfl)
theorem dX0_withSorts_39 : decode cX0_withSorts 39 = .ok (.invokestatic 324, 3) := dk_184 1 68 (dk_at dksX0_withSorts_1 17 rfl rfl)
theorem dX0_withSorts_42 : decode cX0_withSorts 42 = .ok (.lstore_n 3, 1) := dk_66 (dk_at dksX0_withSorts_1 20 rfl rfl)
theorem dX0_withSorts_43 : decode cX0_withSorts 43 = .ok (.iinc 5 1, 3) := dk_132 5 1 (dk_at dksX0_withSorts_1 21 rfl rfl)
theorem dX0_withSorts_46 : decode cX0_withSorts 46 = .ok (.goto (-41), 3) := dk_167 255 215 (dk_at dksX0_withSorts_2 0 rfl rfl)
theorem dX0_withSorts_49 : decode cX0_withSorts 49 = .ok (.iconst 0, 1) := dk_3 (dk_at dksX0_withSorts_2 3 rfl rfl)
theorem dX0_withSorts_50 : decode cX0_withSorts 50 = .ok (.istore 5, 2) := dk_54 5 (dk_at dksX0_withSorts_2 4 rfl rfl)
theorem dX0_withSorts_52 : decode cX0_withSorts 52 = .ok (.iload 5, 2) := dk_21 5 (dk_at dksX0_withSorts_2 6 rfl rfl)
theorem dX0_withSorts_54 : decode cX0_withSorts 54 = .ok (.aload_n 0, 1) := dk_42 (dk_at dksX0_withSorts_2 8 rfl rfl)
theorem dX0_withSorts_55 : decode cX0_withSorts 55 = .ok (.getfield 23, 3) := dk_180 0 23 (dk_at dksX0_withSorts_2 9 rfl rfl)
theorem dX0_withSorts_58 : decode cX0_withSorts 58 = .ok (.getfield 118, 3) := dk_180 0 118 (dk_at dksX0_withSorts_2 12 rfl rfl)
theorem dX0_withSorts_61 : decode cX0_withSorts 61 = .ok (.if_icmp .ge 38, 3) := dk_162 0 38 (dk_at dksX0_withSorts_2 15 rfl rfl)
theorem dX0_withSorts_64 : decode cX0_withSorts 64 = .ok (.iconst 0, 1) := dk_3 (dk_at dksX0_withSorts_2 18 rfl rfl)
theorem dX0_withSorts_65 : decode cX0_withSorts 65 = .ok (.istore 6, 2) := dk_54 6 (dk_at dksX0_withSorts_2 19 rfl rfl)
theorem dX0_withSorts_67 : decode cX0_withSorts 67 = .ok (.iload 6, 2) := dk_21 6 (dk_at dksX0_withSorts_2 21 rfl rfl)
theorem dX0_withSorts_69 : decode cX0_withSorts 69 = .ok (.iconst 3, 1) := dk_6 (dk_at dksX0_withSorts_2 23 rfl rfl)
theorem dX0_withSorts_70 : decode cX0_withSorts 70 = .ok (.if_icmp .ge 23, 3) := dk_162 0 23 (dk_at dksX0_withSorts_3 0 rfl rfl)
theorem dX0_withSorts_73 : decode cX0_withSorts 73 = .ok (.lload_n 3, 1) := dk_33 (dk_at dksX0_withSorts_3 3 rfl rfl)
theorem dX0_withSorts_74 : decode cX0_withSorts 74 = .ok (.aload_n 0, 1) := dk_42 (dk_at dksX0_withSorts_3 4 rfl rfl)
theorem dX0_withSorts_75 : decode cX0_withSorts 75 = .ok (.iload 5, 2) := dk_21 5 (dk_at dksX0_withSorts_3 5 rfl rfl)
theorem dX0_withSorts_77 : decode cX0_withSorts 77 = .ok (.iload 6, 2) := dk_21 6 (dk_at dksX0_withSorts_3 7 rfl rfl)
theorem dX0_withSorts_79 : decode cX0_withSorts 79 = .ok (.invokevirtual 191, 3) := dk_182 0 191 (dk_at dksX0_withSorts_3 9 rfl rfl)
theorem dX0_withSorts_82 : decode cX0_withSorts 82 = .ok (.i2l, 1) := dk_133 (dk_at dksX0_withSorts_3 12 rfl rfl)
theorem dX0_withSorts_83 : decode cX0_withSorts 83 = .ok (.invokestatic 324, 3) := dk_184 1 68 (dk_at dksX0_withSorts_3 13 rfl rfl)
theorem dX0_withSorts_86 : decode cX0_withSorts 86 = .ok (.lstore_n 3, 1) := dk_66 (dk_at dksX0_withSorts_3 16 rfl rfl)
theorem dX0_withSorts_87 : decode cX0_withSorts 87 = .ok (.iinc 6 1, 3) := dk_132 6 1 (dk_at dksX0_withSorts_3 17 rfl rfl)
theorem dX0_withSorts_90 : decode cX0_withSorts 90 = .ok (.goto (-23), 3) := dk_167 255 233 (dk_at dksX0_withSorts_3 20 rfl rfl)
theorem dX0_withSorts_93 : decode cX0_withSorts 93 = .ok (.iinc 5 1, 3) := dk_132 5 1 (dk_at dksX0_withSorts_4 0 rfl rfl)
theorem dX0_withSorts_96 : decode cX0_withSorts 96 = .ok (.goto (-44), 3) := dk_167 255 212 (dk_at dksX0_withSorts_4 3 rfl rfl)
theorem dX0_withSorts_99 : decode cX0_withSorts 99 = .ok (.lload_n 3, 1) := dk_33 (dk_at dksX0_withSorts_4 6 rfl rfl)
theorem dX0_withSorts_100 : decode cX0_withSorts 100 = .ok (.aload_n 0, 1) := dk_42 (dk_at dksX0_withSorts_4 7 rfl rfl)
theorem dX0_withSorts_101 : decode cX0_withSorts 101 = .ok (.iconst 0, 1) := dk_3 (dk_at dksX0_withSorts_4 8 rfl rfl)
theorem dX0_withSorts_102 : decode cX0_withSorts 102 = .ok (.invokevirtual 198, 3) := dk_182 0 198 (dk_at dksX0_withSorts_4 9 rfl rfl)
theorem dX0_withSorts_105 : decode cX0_withSorts 105 = .ok (.i2l, 1) := dk_133 (dk_at dksX0_withSorts_4 12 rfl rfl)
theorem dX0_withSorts_106 : decode cX0_withSorts 106 = .ok (.invokestatic 324, 3) := dk_184 1 68 (dk_at dksX0_withSorts_4 13 rfl rfl)
theorem dX0_withSorts_109 : decode cX0_withSorts 109 = .ok (.aload_n 0, 1) := dk_42 (dk_at dksX0_withSorts_4 16 rfl rfl)
theorem dX0_withSorts_110 : decode cX0_withSorts 110 = .ok (.iconst 1, 1) := dk_4 (dk_at dksX0_withSorts_4 17 rfl rfl)
theorem dX0_withSorts_111 : decode cX0_withSorts 111 = .ok (.invokevirtual 198, 3) := dk_182 0 198 (dk_at dksX0_withSorts_4 18 rfl rfl)
theorem dX0_withSorts_114 : decode cX0_withSorts 114 = .ok (.i2l, 1) := dk_133 (dk_at dksX0_withSorts_4 21 rfl rfl)
theorem dX0_withSorts_115 : decode cX0_withSorts 115 = .ok (.invokestatic 324, 3) := dk_184 1 68 (dk_at dksX0_withSorts_5 0 rfl rfl)
theorem dX0_withSorts_118 : decode cX0_withSorts 118 = .ok (.lreturn, 1) := dk_173 (dk_at dksX0_withSorts_5 3 rfl rfl)
theorem q70 : (Jvm.Cond.initialized "ChordNotHeard") ∈ lw_all := lw_g (lw_at lw_m1 1 rfl) rfl
theorem q92 : (Jvm.Cond.instantiable "ChordNotHeard" (30 : Nat)) ∈ lw_all := lw_g (lw_at lw_m1 23 rfl) rfl
theorem q94 : (Jvm.Cond.instanceMethod ({ cls := "ChordNotHeard", name := "<init>", desc := "()V" } : Jvm.MethodName)) ∈ lw_all := lw_g (lw_at lw_m1 25 rfl) rfl
theorem q95 : (Jvm.Cond.code ({ cls := "ChordNotHeard", name := "<init>", desc := "()V" } : Jvm.MethodName) prog_1_method_4_code (1 : Nat) (Option.none : Option Jvm.ClassFile.FieldType)) ∈ lw_all := lw_g (lw_at lw_m1 26 rfl) rfl
theorem q96 : (Jvm.Cond.methodLink "ChordNotHeard" (1 : Nat) ({ cls := "java/lang/Object", name := "<init>", desc := "()V" } : Jvm.MethodName)) ∈ lw_all := lw_g (lw_at lw_m1 27 rfl) rfl
theorem q99 : (Jvm.Cond.classLink "ChordNotHeard" (7 : Nat) "java/util/ArrayList") ∈ lw_all := lw_g (lw_at lw_m1 30 rfl) rfl
theorem q101 : (Jvm.Cond.methodLink "ChordNotHeard" (9 : Nat) ({ cls := "java/util/ArrayList", name := "<init>", desc := "()V" } : Jvm.MethodName)) ∈ lw_all := lw_g (lw_at lw_m1 32 rfl) rfl
theorem q125 : (Jvm.Cond.classLink "ChordNotHeard" (20 : Nat) "ChordNotHeard$Chords") ∈ lw_all := lw_g (lw_at lw_m1 56 rfl) rfl
theorem q127 : (Jvm.Cond.methodLinkNest "ChordNotHeard" (22 : Nat) ({ cls := "ChordNotHeard$Chords", name := "<init>", desc := "()V" } : Jvm.MethodName) "ChordNotHeard") ∈ lw_tbl := lw_at lw_m1 58 rfl
theorem q134 : (Jvm.Cond.fieldLinkNest "ChordNotHeard" (144 : Nat) "ChordNotHeard$Chords" "strings" "I" "ChordNotHeard") ∈ lw_tbl := lw_at lw_m1 65 rfl
theorem q136 : (Jvm.Cond.fieldLinkNest "ChordNotHeard" (151 : Nat) "ChordNotHeard$Chords" "many" "I" "ChordNotHeard") ∈ lw_tbl := lw_at lw_m1 67 rfl
theorem q137 : (Jvm.Cond.fieldLinkNest "ChordNotHeard" (118 : Nat) "ChordNotHeard$Chords" "sorts" "I" "ChordNotHeard") ∈ lw_tbl := lw_at lw_m1 68 rfl
theorem q139 : (Jvm.Cond.fieldLinkNest "ChordNotHeard" (185 : Nat) "ChordNotHeard$Chords" "parts" "[[I" "ChordNotHeard") ∈ lw_tbl := lw_at lw_m1 70 rfl
theorem q141 : (Jvm.Cond.fieldLinkNest "ChordNotHeard" (154 : Nat) "ChordNotHeard$Chords" "sort" "[I" "ChordNotHeard") ∈ lw_tbl := lw_at lw_m1 72 rfl
theorem q143 : (Jvm.Cond.fieldLinkNest "ChordNotHeard" (157 : Nat) "ChordNotHeard$Chords" "least" "[I" "ChordNotHeard") ∈ lw_tbl := lw_at lw_m1 74 rfl
theorem q145 : (Jvm.Cond.fieldLinkNest "ChordNotHeard" (160 : Nat) "ChordNotHeard$Chords" "sizes" "[I" "ChordNotHeard") ∈ lw_tbl := lw_at lw_m1 76 rfl
theorem q163 : (Jvm.Cond.classLink "ChordNotHeard" (40 : Nat) "[[I") ∈ lw_all := lw_g (lw_at lw_m1 94 rfl) rfl
theorem q164 : (Jvm.Cond.classLink "ChordNotHeard" (60 : Nat) "[[Z") ∈ lw_all := lw_g (lw_at lw_m1 95 rfl) rfl
theorem q166 : (Jvm.Cond.methodLink "ChordNotHeard" (77 : Nat) ({ cls := "ChordNotHeard$Chords", name := "lay", desc := "(I)V" } : Jvm.MethodName)) ∈ lw_all := lw_g (lw_at lw_m1 97 rfl) rfl
theorem q170 : (Jvm.Cond.methodLink "ChordNotHeard" (81 : Nat) ({ cls := "ChordNotHeard", name := "join", desc := "(LChordNotHeard$Chords;)V" } : Jvm.MethodName)) ∈ lw_all := lw_g (lw_at lw_m1 101 rfl) rfl
theorem q171 : (Jvm.Cond.privateMethod ({ cls := "ChordNotHeard", name := "join", desc := "(LChordNotHeard$Chords;)V" } : Jvm.MethodName)) ∈ lw_tbl := lw_at lw_m1 102 rfl
theorem q172 : (Jvm.Cond.instanceMethod ({ cls := "ChordNotHeard", name := "join", desc := "(LChordNotHeard$Chords;)V" } : Jvm.MethodName)) ∈ lw_all := lw_g (lw_at lw_m1 103 rfl) rfl
theorem q173 : (Jvm.Cond.code ({ cls := "ChordNotHeard", name := "join", desc := "(LChordNotHeard$Chords;)V" } : Jvm.MethodName) prog_1_method_14_code (3 : Nat) (Option.none : Option Jvm.ClassFile.FieldType)) ∈ lw_all := lw_g (lw_at lw_m1 104 rfl) rfl
theorem q174 : (Jvm.Cond.methodLink "ChordNotHeard" (163 : Nat) ({ cls := "ChordNotHeard", name := "spread", desc := "(LChordNotHeard$Chords;I)I" } : Jvm.MethodName)) ∈ lw_all := lw_g (lw_at lw_m1 105 rfl) rfl
theorem q175 : (Jvm.Cond.privateMethod ({ cls := "ChordNotHeard", name := "spread", desc := "(LChordNotHeard$Chords;I)I" } : Jvm.MethodName)) ∈ lw_tbl := lw_at lw_m1 106 rfl
theorem q176 : (Jvm.Cond.instanceMethod ({ cls := "ChordNotHeard", name := "spread", desc := "(LChordNotHeard$Chords;I)I" } : Jvm.MethodName)) ∈ lw_all := lw_g (lw_at lw_m1 107 rfl) rfl
theorem q177 : (Jvm.Cond.code ({ cls := "ChordNotHeard", name := "spread", desc := "(LChordNotHeard$Chords;I)I" } : Jvm.MethodName) prog_1_method_15_code (7 : Nat) (Option.some Jvm.ClassFile.FieldType.int)) ∈ lw_all := lw_g (lw_at lw_m1 108 rfl) rfl
theorem q178 : (Jvm.Cond.methodLink "ChordNotHeard" (85 : Nat) ({ cls := "java/util/ArrayList", name := "size", desc := "()I" } : Jvm.MethodName)) ∈ lw_all := lw_g (lw_at lw_m1 109 rfl) rfl
theorem q182 : (Jvm.Cond.methodLink "ChordNotHeard" (133 : Nat) ({ cls := "java/util/ArrayList", name := "get", desc := "(I)Ljava/lang/Object;" } : Jvm.MethodName)) ∈ lw_all := lw_g (lw_at lw_m1 113 rfl) rfl
theorem q196 : (Jvm.Cond.classLink "ChordNotHeard" (122 : Nat) "ChordNotHeard$Likeness") ∈ lw_all := lw_g (lw_at lw_m1 127 rfl) rfl
theorem q197 : (Jvm.Cond.methodLink "ChordNotHeard" (167 : Nat) ({ cls := "ChordNotHeard$Chords", name := "sounds", desc := "(ILChordNotHeard$Likeness;)I" } : Jvm.MethodName)) ∈ lw_all := lw_g (lw_at lw_m1 128 rfl) rfl
theorem q221 : (Jvm.Cond.fieldLink "ChordNotHeard" (10 : Nat) "ChordNotHeard" "law" "Ljava/util/ArrayList;") ∈ lw_all := lw_g (lw_at lw_m1 152 rfl) rfl
theorem q222 : (Jvm.Cond.fieldLink "ChordNotHeard" (112 : Nat) "ChordNotHeard" "laws" "I") ∈ lw_all := lw_g (lw_at lw_m1 153 rfl) rfl
theorem q224 : (Jvm.Cond.fieldLink "ChordNotHeard" (16 : Nat) "ChordNotHeard" "page" "[B") ∈ lw_all := lw_g (lw_at lw_m1 155 rfl) rfl
theorem q226 : (Jvm.Cond.fieldLink "ChordNotHeard" (95 : Nat) "ChordNotHeard" "pageLength" "I") ∈ lw_all := lw_g (lw_at lw_m1 157 rfl) rfl
theorem q227 : (Jvm.Cond.fieldLink "ChordNotHeard" (23 : Nat) "ChordNotHeard" "chords" "LChordNotHeard$Chords;") ∈ lw_all := lw_g (lw_at lw_m1 158 rfl) rfl
theorem q228 : (Jvm.Cond.fieldLink "ChordNotHeard" (27 : Nat) "ChordNotHeard" "wider" "LChordNotHeard$Chords;") ∈ lw_all := lw_g (lw_at lw_m1 159 rfl) rfl
theorem q229 : (Jvm.Cond.fieldLink "ChordNotHeard" (30 : Nat) "ChordNotHeard" "queue" "[I") ∈ lw_all := lw_g (lw_at lw_m1 160 rfl) rfl
theorem q230 : (Jvm.Cond.fieldLink "ChordNotHeard" (173 : Nat) "ChordNotHeard" "tellings" "I") ∈ lw_all := lw_g (lw_at lw_m1 161 rfl) rfl
theorem q231 : (Jvm.Cond.fieldLink "ChordNotHeard" (34 : Nat) "ChordNotHeard" "heardOf" "[I") ∈ lw_all := lw_g (lw_at lw_m1 162 rfl) rfl
theorem q232 : (Jvm.Cond.fieldLink "ChordNotHeard" (170 : Nat) "ChordNotHeard" "heard" "I") ∈ lw_all := lw_g (lw_at lw_m1 163 rfl) rfl
theorem q233 : (Jvm.Cond.fieldLink "ChordNotHeard" (37 : Nat) "ChordNotHeard" "bySize" "[I") ∈ lw_all := lw_g (lw_at lw_m1 164 rfl) rfl
theorem q234 : (Jvm.Cond.fieldLink "ChordNotHeard" (42 : Nat) "ChordNotHeard" "sheetChord" "[[I") ∈ lw_all := lw_g (lw_at lw_m1 165 rfl) rfl
theorem q235 : (Jvm.Cond.fieldLink "ChordNotHeard" (45 : Nat) "ChordNotHeard" "sheetMany" "[I") ∈ lw_all := lw_g (lw_at lw_m1 166 rfl) rfl
theorem q236 : (Jvm.Cond.fieldLink "ChordNotHeard" (48 : Nat) "ChordNotHeard" "sheetHeard" "[I") ∈ lw_all := lw_g (lw_at lw_m1 167 rfl) rfl
theorem q237 : (Jvm.Cond.fieldLink "ChordNotHeard" (115 : Nat) "ChordNotHeard" "sheets" "I") ∈ lw_all := lw_g (lw_at lw_m1 168 rfl) rfl
theorem q238 : (Jvm.Cond.fieldLink "ChordNotHeard" (51 : Nat) "ChordNotHeard" "doubt" "[I") ∈ lw_all := lw_g (lw_at lw_m1 169 rfl) rfl
theorem q239 : (Jvm.Cond.fieldLink "ChordNotHeard" (214 : Nat) "ChordNotHeard" "doubts" "I") ∈ lw_all := lw_g (lw_at lw_m1 170 rfl) rfl
theorem q240 : (Jvm.Cond.fieldLink "ChordNotHeard" (54 : Nat) "ChordNotHeard" "sheetBits" "[I") ∈ lw_all := lw_g (lw_at lw_m1 171 rfl) rfl
theorem q241 : (Jvm.Cond.fieldLink "ChordNotHeard" (57 : Nat) "ChordNotHeard" "silent" "[I") ∈ lw_all := lw_g (lw_at lw_m1 172 rfl) rfl
theorem q242 : (Jvm.Cond.fieldLink "ChordNotHeard" (254 : Nat) "ChordNotHeard" "asks" "I") ∈ lw_all := lw_g (lw_at lw_m1 173 rfl) rfl
theorem q243 : (Jvm.Cond.fieldLink "ChordNotHeard" (62 : Nat) "ChordNotHeard" "comes" "[[Z") ∈ lw_all := lw_g (lw_at lw_m1 174 rfl) rfl
theorem q244 : (Jvm.Cond.fieldLink "ChordNotHeard" (299 : Nat) "ChordNotHeard" "isKept" "Z") ∈ lw_all := lw_g (lw_at lw_m1 175 rfl) rfl
theorem q245 : (Jvm.Cond.fieldLink "ChordNotHeard" (303 : Nat) "ChordNotHeard" "keptLaw" "I") ∈ lw_all := lw_g (lw_at lw_m1 176 rfl) rfl
theorem q246 : (Jvm.Cond.fieldLink "ChordNotHeard" (306 : Nat) "ChordNotHeard" "keptTelling" "I") ∈ lw_all := lw_g (lw_at lw_m1 177 rfl) rfl
theorem q247 : (Jvm.Cond.fieldLink "ChordNotHeard" (309 : Nat) "ChordNotHeard" "keptHeard" "I") ∈ lw_all := lw_g (lw_at lw_m1 178 rfl) rfl
theorem q248 : (Jvm.Cond.fieldLink "ChordNotHeard" (312 : Nat) "ChordNotHeard" "keptSheets" "I") ∈ lw_all := lw_g (lw_at lw_m1 179 rfl) rfl
theorem q249 : (Jvm.Cond.fieldLink "ChordNotHeard" (65 : Nat) "ChordNotHeard" "keptOf" "[I") ∈ lw_all := lw_g (lw_at lw_m1 180 rfl) rfl
theorem q250 : (Jvm.Cond.fieldLink "ChordNotHeard" (68 : Nat) "ChordNotHeard" "keptChord" "[[I") ∈ lw_all := lw_g (lw_at lw_m1 181 rfl) rfl
theorem q251 : (Jvm.Cond.fieldLink "ChordNotHeard" (71 : Nat) "ChordNotHeard" "keptMany" "[I") ∈ lw_all := lw_g (lw_at lw_m1 182 rfl) rfl
theorem q252 : (Jvm.Cond.fieldLink "ChordNotHeard" (74 : Nat) "ChordNotHeard" "keptTold" "[I") ∈ lw_all := lw_g (lw_at lw_m1 183 rfl) rfl
theorem q253 : (Jvm.Cond.lays "ChordNotHeard" "ChordNotHeard" "law" "Ljava/util/ArrayList;") ∈ lw_all := lw_g (lw_at lw_m1 184 rfl) rfl
theorem q254 : (Jvm.Cond.soleField "ChordNotHeard" "law") ∈ lw_all := lw_g (lw_at lw_m1 185 rfl) rfl
theorem q255 : (Jvm.Cond.lays "ChordNotHeard" "ChordNotHeard" "laws" "I") ∈ lw_all := lw_g (lw_at lw_m1 186 rfl) rfl
theorem q256 : (Jvm.Cond.soleField "ChordNotHeard" "laws") ∈ lw_all := lw_g (lw_at lw_m1 187 rfl) rfl
theorem q257 : (Jvm.Cond.laysFinal "ChordNotHeard" "ChordNotHeard" "page" "[B") ∈ lw_all := lw_g (lw_at lw_m1 188 rfl) rfl
theorem q258 : (Jvm.Cond.soleField "ChordNotHeard" "page") ∈ lw_all := lw_g (lw_at lw_m1 189 rfl) rfl
theorem q259 : (Jvm.Cond.lays "ChordNotHeard" "ChordNotHeard" "pageLength" "I") ∈ lw_all := lw_g (lw_at lw_m1 190 rfl) rfl
theorem q260 : (Jvm.Cond.soleField "ChordNotHeard" "pageLength") ∈ lw_all := lw_g (lw_at lw_m1 191 rfl) rfl
theorem q261 : (Jvm.Cond.laysFinal "ChordNotHeard" "ChordNotHeard" "chords" "LChordNotHeard$Chords;") ∈ lw_all := lw_g (lw_at lw_m1 192 rfl) rfl
theorem q262 : (Jvm.Cond.soleField "ChordNotHeard" "chords") ∈ lw_all := lw_g (lw_at lw_m1 193 rfl) rfl
theorem q263 : (Jvm.Cond.laysFinal "ChordNotHeard" "ChordNotHeard" "wider" "LChordNotHeard$Chords;") ∈ lw_all := lw_g (lw_at lw_m1 194 rfl) rfl
theorem q264 : (Jvm.Cond.soleField "ChordNotHeard" "wider") ∈ lw_all := lw_g (lw_at lw_m1 195 rfl) rfl
theorem q265 : (Jvm.Cond.laysFinal "ChordNotHeard" "ChordNotHeard" "queue" "[I") ∈ lw_all := lw_g (lw_at lw_m1 196 rfl) rfl
theorem q266 : (Jvm.Cond.soleField "ChordNotHeard" "queue") ∈ lw_all := lw_g (lw_at lw_m1 197 rfl) rfl
theorem q267 : (Jvm.Cond.lays "ChordNotHeard" "ChordNotHeard" "tellings" "I") ∈ lw_all := lw_g (lw_at lw_m1 198 rfl) rfl
theorem q268 : (Jvm.Cond.soleField "ChordNotHeard" "tellings") ∈ lw_all := lw_g (lw_at lw_m1 199 rfl) rfl
theorem q269 : (Jvm.Cond.laysFinal "ChordNotHeard" "ChordNotHeard" "heardOf" "[I") ∈ lw_all := lw_g (lw_at lw_m1 200 rfl) rfl
theorem q270 : (Jvm.Cond.soleField "ChordNotHeard" "heardOf") ∈ lw_all := lw_g (lw_at lw_m1 201 rfl) rfl
theorem q271 : (Jvm.Cond.lays "ChordNotHeard" "ChordNotHeard" "heard" "I") ∈ lw_all := lw_g (lw_at lw_m1 202 rfl) rfl
theorem q272 : (Jvm.Cond.soleField "ChordNotHeard" "heard") ∈ lw_all := lw_g (lw_at lw_m1 203 rfl) rfl
theorem q273 : (Jvm.Cond.laysFinal "ChordNotHeard" "ChordNotHeard" "bySize" "[I") ∈ lw_all := lw_g (lw_at lw_m1 204 rfl) rfl
theorem q274 : (Jvm.Cond.soleField "ChordNotHeard" "bySize") ∈ lw_all := lw_g (lw_at lw_m1 205 rfl) rfl
theorem q275 : (Jvm.Cond.laysFinal "ChordNotHeard" "ChordNotHeard" "sheetChord" "[[I") ∈ lw_all := lw_g (lw_at lw_m1 206 rfl) rfl
theorem q276 : (Jvm.Cond.soleField "ChordNotHeard" "sheetChord") ∈ lw_all := lw_g (lw_at lw_m1 207 rfl) rfl
theorem q277 : (Jvm.Cond.laysFinal "ChordNotHeard" "ChordNotHeard" "sheetMany" "[I") ∈ lw_all := lw_g (lw_at lw_m1 208 rfl) rfl
theorem q278 : (Jvm.Cond.soleField "ChordNotHeard" "sheetMany") ∈ lw_all := lw_g (lw_at lw_m1 209 rfl) rfl
theorem q279 : (Jvm.Cond.laysFinal "ChordNotHeard" "ChordNotHeard" "sheetHeard" "[I") ∈ lw_all := lw_g (lw_at lw_m1 210 rfl) rfl
theorem q280 : (Jvm.Cond.soleField "ChordNotHeard" "sheetHeard") ∈ lw_all := lw_g (lw_at lw_m1 211 rfl) rfl
theorem q281 : (Jvm.Cond.lays "ChordNotHeard" "ChordNotHeard" "sheets" "I") ∈ lw_all := lw_g (lw_at lw_m1 212 rfl) rfl
theorem q282 : (Jvm.Cond.soleField "ChordNotHeard" "sheets") ∈ lw_all := lw_g (lw_at lw_m1 213 rfl) rfl
theorem q283 : (Jvm.Cond.laysFinal "ChordNotHeard" "ChordNotHeard" "doubt" "[I") ∈ lw_all := lw_g (lw_at lw_m1 214 rfl) rfl
theorem q284 : (Jvm.Cond.soleField "ChordNotHeard" "doubt") ∈ lw_all := lw_g (lw_at lw_m1 215 rfl) rfl
theorem q285 : (Jvm.Cond.lays "ChordNotHeard" "ChordNotHeard" "doubts" "I") ∈ lw_all := lw_g (lw_at lw_m1 216 rfl) rfl
theorem q286 : (Jvm.Cond.soleField "ChordNotHeard" "doubts") ∈ lw_all := lw_g (lw_at lw_m1 217 rfl) rfl
theorem q287 : (Jvm.Cond.laysFinal "ChordNotHeard" "ChordNotHeard" "sheetBits" "[I") ∈ lw_all := lw_g (lw_at lw_m1 218 rfl) rfl
theorem q288 : (Jvm.Cond.soleField "ChordNotHeard" "sheetBits") ∈ lw_all := lw_g (lw_at lw_m1 219 rfl) rfl
theorem q289 : (Jvm.Cond.laysFinal "ChordNotHeard" "ChordNotHeard" "silent" "[I") ∈ lw_all := lw_g (lw_at lw_m1 220 rfl) rfl
theorem q290 : (Jvm.Cond.soleField "ChordNotHeard" "silent") ∈ lw_all := lw_g (lw_at lw_m1 221 rfl) rfl
theorem q291 : (Jvm.Cond.lays "ChordNotHeard" "ChordNotHeard" "asks" "I") ∈ lw_all := lw_g (lw_at lw_m1 222 rfl) rfl
theorem q292 : (Jvm.Cond.soleField "ChordNotHeard" "asks") ∈ lw_all := lw_g (lw_at lw_m1 223 rfl) rfl
theorem q293 : (Jvm.Cond.laysFinal "ChordNotHeard" "ChordNotHeard" "comes" "[[Z") ∈ lw_all := lw_g (lw_at lw_m1 224 rfl) rfl
theorem q294 : (Jvm.Cond.soleField "ChordNotHeard" "comes") ∈ lw_all := lw_g (lw_at lw_m1 225 rfl) rfl
theorem q295 : (Jvm.Cond.lays "ChordNotHeard" "ChordNotHeard" "isKept" "Z") ∈ lw_all := lw_g (lw_at lw_m1 226 rfl) rfl
theorem q296 : (Jvm.Cond.soleField "ChordNotHeard" "isKept") ∈ lw_all := lw_g (lw_at lw_m1 227 rfl) rfl
theorem q297 : (Jvm.Cond.lays "ChordNotHeard" "ChordNotHeard" "keptLaw" "I") ∈ lw_all := lw_g (lw_at lw_m1 228 rfl) rfl
theorem q298 : (Jvm.Cond.soleField "ChordNotHeard" "keptLaw") ∈ lw_all := lw_g (lw_at lw_m1 229 rfl) rfl
theorem q299 : (Jvm.Cond.lays "ChordNotHeard" "ChordNotHeard" "keptTelling" "I") ∈ lw_all := lw_g (lw_at lw_m1 230 rfl) rfl
theorem q300 : (Jvm.Cond.soleField "ChordNotHeard" "keptTelling") ∈ lw_all := lw_g (lw_at lw_m1 231 rfl) rfl
theorem q301 : (Jvm.Cond.lays "ChordNotHeard" "ChordNotHeard" "keptHeard" "I") ∈ lw_all := lw_g (lw_at lw_m1 232 rfl) rfl
theorem q302 : (Jvm.Cond.soleField "ChordNotHeard" "keptHeard") ∈ lw_all := lw_g (lw_at lw_m1 233 rfl) rfl
theorem q303 : (Jvm.Cond.lays "ChordNotHeard" "ChordNotHeard" "keptSheets" "I") ∈ lw_all := lw_g (lw_at lw_m1 234 rfl) rfl
theorem q304 : (Jvm.Cond.soleField "ChordNotHeard" "keptSheets") ∈ lw_all := lw_g (lw_at lw_m1 235 rfl) rfl
theorem q305 : (Jvm.Cond.laysFinal "ChordNotHeard" "ChordNotHeard" "keptOf" "[I") ∈ lw_all := lw_g (lw_at lw_m1 236 rfl) rfl
theorem q306 : (Jvm.Cond.soleField "ChordNotHeard" "keptOf") ∈ lw_all := lw_g (lw_at lw_m1 237 rfl) rfl
theorem q307 : (Jvm.Cond.laysFinal "ChordNotHeard" "ChordNotHeard" "keptChord" "[[I") ∈ lw_all := lw_g (lw_at lw_m1 238 rfl) rfl
theorem q308 : (Jvm.Cond.soleField "ChordNotHeard" "keptChord") ∈ lw_all := lw_g (lw_at lw_m1 239 rfl) rfl
theorem q309 : (Jvm.Cond.laysFinal "ChordNotHeard" "ChordNotHeard" "keptMany" "[I") ∈ lw_all := lw_g (lw_at lw_m2 0 rfl) rfl
theorem q310 : (Jvm.Cond.soleField "ChordNotHeard" "keptMany") ∈ lw_all := lw_g (lw_at lw_m2 1 rfl) rfl
theorem q311 : (Jvm.Cond.laysFinal "ChordNotHeard" "ChordNotHeard" "keptTold" "[I") ∈ lw_all := lw_g (lw_at lw_m2 2 rfl) rfl
theorem q312 : (Jvm.Cond.soleField "ChordNotHeard" "keptTold") ∈ lw_all := lw_g (lw_at lw_m2 3 rfl) rfl
theorem q313 : (Jvm.Cond.superclass "ChordNotHeard" "java/lang/Object") ∈ lw_all := lw_g (lw_at lw_m2 4 rfl) rfl
theorem q316 : (Jvm.Cond.instanceMethod ({ cls := "ChordNotHeard", name := "letters", desc := "(J)I" } : Jvm.MethodName)) ∈ lw_all := lw_g (lw_at lw_m2 7 rfl) rfl
theorem q317 : (Jvm.Cond.selects "ChordNotHeard" ({ cls := "ChordNotHeard", name := "letters", desc := "(J)I" } : Jvm.MethodName) ({ cls := "ChordNotHeard", name := "letters", desc := "(J)I" } : Jvm.MethodName)) ∈ lw_all := lw_g (lw_at lw_m2 8 rfl) rfl
theorem q318 : (Jvm.Cond.code ({ cls := "ChordNotHeard", name := "letters", desc := "(J)I" } : Jvm.MethodName) prog_1_method_6_code (7 : Nat) (Option.some Jvm.ClassFile.FieldType.int)) ∈ lw_all := lw_g (lw_at lw_m2 9 rfl) rfl
theorem q319 : (Jvm.Cond.constantLong "ChordNotHeard" (93 : Nat) (255 : Int64)) ∈ lw_all := lw_g (lw_at lw_m2 10 rfl) rfl
theorem q321 : (Jvm.Cond.instanceMethod ({ cls := "ChordNotHeard", name := "blank", desc := "()I" } : Jvm.MethodName)) ∈ lw_all := lw_g (lw_at lw_m2 12 rfl) rfl
theorem q322 : (Jvm.Cond.selects "ChordNotHeard" ({ cls := "ChordNotHeard", name := "blank", desc := "()I" } : Jvm.MethodName) ({ cls := "ChordNotHeard", name := "blank", desc := "()I" } : Jvm.MethodName)) ∈ lw_all := lw_g (lw_at lw_m2 13 rfl) rfl
theorem q323 : (Jvm.Cond.code ({ cls := "ChordNotHeard", name := "blank", desc := "()I" } : Jvm.MethodName) prog_1_method_7_code (2 : Nat) (Option.some Jvm.ClassFile.FieldType.int)) ∈ lw_all := lw_g (lw_at lw_m2 14 rfl) rfl
theorem q325 : (Jvm.Cond.instanceMethod ({ cls := "ChordNotHeard", name := "fault", desc := "()I" } : Jvm.MethodName)) ∈ lw_all := lw_g (lw_at lw_m2 16 rfl) rfl
theorem q326 : (Jvm.Cond.selects "ChordNotHeard" ({ cls := "ChordNotHeard", name := "fault", desc := "()I" } : Jvm.MethodName) ({ cls := "ChordNotHeard", name := "fault", desc := "()I" } : Jvm.MethodName)) ∈ lw_all := lw_g (lw_at lw_m2 17 rfl) rfl
theorem q327 : (Jvm.Cond.codeWith ({ cls := "ChordNotHeard", name := "fault", desc := "()I" } : Jvm.MethodName) prog_1_method_8_code (2 : Nat) (Option.some Jvm.ClassFile.FieldType.int) [((0 : Nat), (16 : Nat), (17 : Nat), (107 : Nat))]) ∈ lw_all := lw_g (lw_at lw_m2 18 rfl) rfl
theorem q328 : (Jvm.Cond.classLink "ChordNotHeard" (107 : Nat) "ChordNotHeard$Stop") ∈ lw_all := lw_g (lw_at lw_m2 19 rfl) rfl
theorem q329 : (Jvm.Cond.classLink "ChordNotHeard" (99 : Nat) "ChordNotHeard$Reader") ∈ lw_all := lw_g (lw_at lw_m2 20 rfl) rfl
theorem q331 : (Jvm.Cond.methodLinkNest "ChordNotHeard" (101 : Nat) ({ cls := "ChordNotHeard$Reader", name := "<init>", desc := "(LChordNotHeard;)V" } : Jvm.MethodName) "ChordNotHeard") ∈ lw_tbl := lw_at lw_m2 22 rfl
theorem q342 : (Jvm.Cond.methodLink "ChordNotHeard" (104 : Nat) ({ cls := "ChordNotHeard$Reader", name := "law", desc := "()Ljava/util/ArrayList;" } : Jvm.MethodName)) ∈ lw_all := lw_g (lw_at lw_m2 33 rfl) rfl
theorem q407 : (Jvm.Cond.fieldLinkNest "ChordNotHeard" (109 : Nat) "ChordNotHeard$Stop" "place" "I" "ChordNotHeard") ∈ lw_tbl := lw_at lw_m2 98 rfl
theorem q449 : (Jvm.Cond.static ({ cls := "ChordNotHeard", name := "in", desc := "(III)Z" } : Jvm.MethodName)) ∈ lw_all := lw_g (lw_at lw_m2 140 rfl) rfl
theorem q450 : (Jvm.Cond.code ({ cls := "ChordNotHeard", name := "in", desc := "(III)Z" } : Jvm.MethodName) prog_1_method_1_code (3 : Nat) (Option.some Jvm.ClassFile.FieldType.boolean)) ∈ lw_all := lw_g (lw_at lw_m2 141 rfl) rfl
theorem q497 : (Jvm.Cond.selects "ChordNotHeard" ({ cls := "java/lang/Object", name := "getClass", desc := "()Ljava/lang/Class;" } : Jvm.MethodName) ({ cls := "java/lang/Object", name := "getClass", desc := "()Ljava/lang/Class;" } : Jvm.MethodName)) ∈ lw_all := lw_g (lw_at lw_m2 188 rfl) rfl
theorem q523 : (Jvm.Cond.instanceMethod ({ cls := "ChordNotHeard", name := "law", desc := "()I" } : Jvm.MethodName)) ∈ lw_all := lw_g (lw_at lw_m2 214 rfl) rfl
theorem q524 : (Jvm.Cond.selects "ChordNotHeard" ({ cls := "ChordNotHeard", name := "law", desc := "()I" } : Jvm.MethodName) ({ cls := "ChordNotHeard", name := "law", desc := "()I" } : Jvm.MethodName)) ∈ lw_all := lw_g (lw_at lw_m2 215 rfl) rfl
theorem q525 : (Jvm.Cond.codeWith ({ cls := "ChordNotHeard", name := "law", desc := "()I" } : Jvm.MethodName) prog_1_method_9_code (2 : Nat) (Option.some Jvm.ClassFile.FieldType.int) [((0 : Nat), (50 : Nat), (51 : Nat), (107 : Nat))]) ∈ lw_all := lw_g (lw_at lw_m2 216 rfl) rfl
theorem q527 : (Jvm.Cond.instanceMethod ({ cls := "ChordNotHeard", name := "about", desc := "(II)I" } : Jvm.MethodName)) ∈ lw_all := lw_g (lw_at lw_m2 218 rfl) rfl
theorem q528 : (Jvm.Cond.selects "ChordNotHeard" ({ cls := "ChordNotHeard", name := "about", desc := "(II)I" } : Jvm.MethodName) ({ cls := "ChordNotHeard", name := "about", desc := "(II)I" } : Jvm.MethodName)) ∈ lw_all := lw_g (lw_at lw_m2 219 rfl) rfl
theorem q529 : (Jvm.Cond.code ({ cls := "ChordNotHeard", name := "about", desc := "(II)I" } : Jvm.MethodName) prog_1_method_11_code (3 : Nat) (Option.some Jvm.ClassFile.FieldType.int)) ∈ lw_all := lw_g (lw_at lw_m2 220 rfl) rfl
theorem q530 : (Jvm.Cond.methodLink "ChordNotHeard" (129 : Nat) ({ cls := "ChordNotHeard", name := "isLikeness", desc := "(I)Z" } : Jvm.MethodName)) ∈ lw_all := lw_g (lw_at lw_m2 221 rfl) rfl
theorem q531 : (Jvm.Cond.privateMethod ({ cls := "ChordNotHeard", name := "isLikeness", desc := "(I)Z" } : Jvm.MethodName)) ∈ lw_tbl := lw_at lw_m2 222 rfl
theorem q532 : (Jvm.Cond.instanceMethod ({ cls := "ChordNotHeard", name := "isLikeness", desc := "(I)Z" } : Jvm.MethodName)) ∈ lw_all := lw_g (lw_at lw_m2 223 rfl) rfl
theorem q533 : (Jvm.Cond.code ({ cls := "ChordNotHeard", name := "isLikeness", desc := "(I)Z" } : Jvm.MethodName) prog_1_method_5_code (2 : Nat) (Option.some Jvm.ClassFile.FieldType.boolean)) ∈ lw_all := lw_g (lw_at lw_m2 224 rfl) rfl
theorem q534 : (Jvm.Cond.methodLink "ChordNotHeard" (89 : Nat) ({ cls := "ChordNotHeard", name := "in", desc := "(III)Z" } : Jvm.MethodName)) ∈ lw_all := lw_g (lw_at lw_m2 225 rfl) rfl
theorem q535 : (Jvm.Cond.methodLink "ChordNotHeard" (137 : Nat) ({ cls := "ChordNotHeard", name := "told", desc := "(LChordNotHeard$Likeness;I)I" } : Jvm.MethodName)) ∈ lw_all := lw_g (lw_at lw_m2 226 rfl) rfl
theorem q536 : (Jvm.Cond.static ({ cls := "ChordNotHeard", name := "told", desc := "(LChordNotHeard$Likeness;I)I" } : Jvm.MethodName)) ∈ lw_all := lw_g (lw_at lw_m2 227 rfl) rfl
theorem q537 : (Jvm.Cond.code ({ cls := "ChordNotHeard", name := "told", desc := "(LChordNotHeard$Likeness;I)I" } : Jvm.MethodName) prog_1_method_10_code (2 : Nat) (Option.some Jvm.ClassFile.FieldType.int)) ∈ lw_all := lw_g (lw_at lw_m2 228 rfl) rfl
theorem q538 : (Jvm.Cond.methodLink "ChordNotHeard" (121 : Nat) ({ cls := "ChordNotHeard$Likeness", name := "kind", desc := "()I" } : Jvm.MethodName)) ∈ lw_all := lw_g (lw_at lw_m2 229 rfl) rfl
theorem q550 : (Jvm.Cond.methodLink "ChordNotHeard" (126 : Nat) ({ cls := "ChordNotHeard$Likeness", name := "number", desc := "()I" } : Jvm.MethodName)) ∈ lw_all := lw_g (lw_at lw_m3 1 rfl) rfl
theorem q564 : (Jvm.Cond.instanceMethod ({ cls := "ChordNotHeard", name := "as", desc := "(II)I" } : Jvm.MethodName)) ∈ lw_all := lw_g (lw_at lw_m3 15 rfl) rfl
theorem q565 : (Jvm.Cond.selects "ChordNotHeard" ({ cls := "ChordNotHeard", name := "as", desc := "(II)I" } : Jvm.MethodName) ({ cls := "ChordNotHeard", name := "as", desc := "(II)I" } : Jvm.MethodName)) ∈ lw_all := lw_g (lw_at lw_m3 16 rfl) rfl
theorem q566 : (Jvm.Cond.code ({ cls := "ChordNotHeard", name := "as", desc := "(II)I" } : Jvm.MethodName) prog_1_method_12_code (3 : Nat) (Option.some Jvm.ClassFile.FieldType.int)) ∈ lw_all := lw_g (lw_at lw_m3 17 rfl) rfl
theorem q567 : (Jvm.Cond.methodLink "ChordNotHeard" (141 : Nat) ({ cls := "ChordNotHeard$Likeness", name := "isOf", desc := "(I)Z" } : Jvm.MethodName)) ∈ lw_all := lw_g (lw_at lw_m3 18 rfl) rfl
theorem q579 : (Jvm.Cond.instanceMethod ({ cls := "ChordNotHeard", name := "sounds", desc := "(II)I" } : Jvm.MethodName)) ∈ lw_all := lw_g (lw_at lw_m3 30 rfl) rfl
theorem q580 : (Jvm.Cond.selects "ChordNotHeard" ({ cls := "ChordNotHeard", name := "sounds", desc := "(II)I" } : Jvm.MethodName) ({ cls := "ChordNotHeard", name := "sounds", desc := "(II)I" } : Jvm.MethodName)) ∈ lw_all := lw_g (lw_at lw_m3 31 rfl) rfl
theorem q581 : (Jvm.Cond.code ({ cls := "ChordNotHeard", name := "sounds", desc := "(II)I" } : Jvm.MethodName) prog_1_method_13_code (3 : Nat) (Option.some Jvm.ClassFile.FieldType.int)) ∈ lw_all := lw_g (lw_at lw_m3 32 rfl) rfl
theorem q582 : (Jvm.Cond.methodLink "ChordNotHeard" (147 : Nat) ({ cls := "ChordNotHeard$Likeness", name := "sounds", desc := "(II)I" } : Jvm.MethodName)) ∈ lw_all := lw_g (lw_at lw_m3 33 rfl) rfl
theorem q584 : (Jvm.Cond.instanceMethod ({ cls := "ChordNotHeard", name := "strings", desc := "(I)I" } : Jvm.MethodName)) ∈ lw_all := lw_g (lw_at lw_m3 35 rfl) rfl
theorem q585 : (Jvm.Cond.selects "ChordNotHeard" ({ cls := "ChordNotHeard", name := "strings", desc := "(I)I" } : Jvm.MethodName) ({ cls := "ChordNotHeard", name := "strings", desc := "(I)I" } : Jvm.MethodName)) ∈ lw_all := lw_g (lw_at lw_m3 36 rfl) rfl
theorem q586 : (Jvm.Cond.code ({ cls := "ChordNotHeard", name := "strings", desc := "(I)I" } : Jvm.MethodName) prog_1_method_18_code (2 : Nat) (Option.some Jvm.ClassFile.FieldType.int)) ∈ lw_all := lw_g (lw_at lw_m3 37 rfl) rfl
theorem q588 : (Jvm.Cond.instanceMethod ({ cls := "ChordNotHeard", name := "chord", desc := "(III)I" } : Jvm.MethodName)) ∈ lw_all := lw_g (lw_at lw_m3 39 rfl) rfl
theorem q589 : (Jvm.Cond.selects "ChordNotHeard" ({ cls := "ChordNotHeard", name := "chord", desc := "(III)I" } : Jvm.MethodName) ({ cls := "ChordNotHeard", name := "chord", desc := "(III)I" } : Jvm.MethodName)) ∈ lw_all := lw_g (lw_at lw_m3 40 rfl) rfl
theorem q590 : (Jvm.Cond.code ({ cls := "ChordNotHeard", name := "chord", desc := "(III)I" } : Jvm.MethodName) prog_1_method_19_code (4 : Nat) (Option.some Jvm.ClassFile.FieldType.int)) ∈ lw_all := lw_g (lw_at lw_m3 41 rfl) rfl
theorem q591 : (Jvm.Cond.methodLink "ChordNotHeard" (176 : Nat) ({ cls := "ChordNotHeard", name := "isString", desc := "(I)Z" } : Jvm.MethodName)) ∈ lw_all := lw_g (lw_at lw_m3 42 rfl) rfl
theorem q592 : (Jvm.Cond.privateMethod ({ cls := "ChordNotHeard", name := "isString", desc := "(I)Z" } : Jvm.MethodName)) ∈ lw_tbl := lw_at lw_m3 43 rfl
theorem q593 : (Jvm.Cond.instanceMethod ({ cls := "ChordNotHeard", name := "isString", desc := "(I)Z" } : Jvm.MethodName)) ∈ lw_all := lw_g (lw_at lw_m3 44 rfl) rfl
theorem q594 : (Jvm.Cond.code ({ cls := "ChordNotHeard", name := "isString", desc := "(I)Z" } : Jvm.MethodName) prog_1_method_17_code (2 : Nat) (Option.some Jvm.ClassFile.FieldType.boolean)) ∈ lw_all := lw_g (lw_at lw_m3 45 rfl) rfl
theorem q595 : (Jvm.Cond.methodLink "ChordNotHeard" (179 : Nat) ({ cls := "ChordNotHeard$Chords", name := "number", desc := "(III)I" } : Jvm.MethodName)) ∈ lw_all := lw_g (lw_at lw_m3 46 rfl) rfl
theorem q597 : (Jvm.Cond.instanceMethod ({ cls := "ChordNotHeard", name := "part", desc := "(II)I" } : Jvm.MethodName)) ∈ lw_all := lw_g (lw_at lw_m3 48 rfl) rfl
theorem q598 : (Jvm.Cond.selects "ChordNotHeard" ({ cls := "ChordNotHeard", name := "part", desc := "(II)I" } : Jvm.MethodName) ({ cls := "ChordNotHeard", name := "part", desc := "(II)I" } : Jvm.MethodName)) ∈ lw_all := lw_g (lw_at lw_m3 49 rfl) rfl
theorem q599 : (Jvm.Cond.code ({ cls := "ChordNotHeard", name := "part", desc := "(II)I" } : Jvm.MethodName) prog_1_method_20_code (3 : Nat) (Option.some Jvm.ClassFile.FieldType.int)) ∈ lw_all := lw_g (lw_at lw_m3 50 rfl) rfl
theorem q600 : (Jvm.Cond.methodLink "ChordNotHeard" (182 : Nat) ({ cls := "ChordNotHeard", name := "isChord", desc := "(I)Z" } : Jvm.MethodName)) ∈ lw_all := lw_g (lw_at lw_m3 51 rfl) rfl
theorem q601 : (Jvm.Cond.privateMethod ({ cls := "ChordNotHeard", name := "isChord", desc := "(I)Z" } : Jvm.MethodName)) ∈ lw_tbl := lw_at lw_m3 52 rfl
theorem q602 : (Jvm.Cond.instanceMethod ({ cls := "ChordNotHeard", name := "isChord", desc := "(I)Z" } : Jvm.MethodName)) ∈ lw_all := lw_g (lw_at lw_m3 53 rfl) rfl
theorem q603 : (Jvm.Cond.code ({ cls := "ChordNotHeard", name := "isChord", desc := "(I)Z" } : Jvm.MethodName) prog_1_method_16_code (2 : Nat) (Option.some Jvm.ClassFile.FieldType.boolean)) ∈ lw_all := lw_g (lw_at lw_m3 54 rfl) rfl
theorem q605 : (Jvm.Cond.instanceMethod ({ cls := "ChordNotHeard", name := "sort", desc := "(II)I" } : Jvm.MethodName)) ∈ lw_all := lw_g (lw_at lw_m3 56 rfl) rfl
theorem q606 : (Jvm.Cond.selects "ChordNotHeard" ({ cls := "ChordNotHeard", name := "sort", desc := "(II)I" } : Jvm.MethodName) ({ cls := "ChordNotHeard", name := "sort", desc := "(II)I" } : Jvm.MethodName)) ∈ lw_all := lw_g (lw_at lw_m3 57 rfl) rfl
theorem q607 : (Jvm.Cond.code ({ cls := "ChordNotHeard", name := "sort", desc := "(II)I" } : Jvm.MethodName) prog_1_method_22_code (3 : Nat) (Option.some Jvm.ClassFile.FieldType.int)) ∈ lw_all := lw_g (lw_at lw_m3 58 rfl) rfl
theorem q608 : (Jvm.Cond.methodLink "ChordNotHeard" (191 : Nat) ({ cls := "ChordNotHeard", name := "sortTold", desc := "(II)I" } : Jvm.MethodName)) ∈ lw_all := lw_g (lw_at lw_m3 59 rfl) rfl
theorem q609 : (Jvm.Cond.privateMethod ({ cls := "ChordNotHeard", name := "sortTold", desc := "(II)I" } : Jvm.MethodName)) ∈ lw_tbl := lw_at lw_m3 60 rfl
theorem q610 : (Jvm.Cond.instanceMethod ({ cls := "ChordNotHeard", name := "sortTold", desc := "(II)I" } : Jvm.MethodName)) ∈ lw_all := lw_g (lw_at lw_m3 61 rfl) rfl
theorem q611 : (Jvm.Cond.code ({ cls := "ChordNotHeard", name := "sortTold", desc := "(II)I" } : Jvm.MethodName) prog_1_method_21_code (3 : Nat) (Option.some Jvm.ClassFile.FieldType.int)) ∈ lw_all := lw_g (lw_at lw_m3 62 rfl) rfl
theorem q612 : (Jvm.Cond.methodLink "ChordNotHeard" (188 : Nat) ({ cls := "ChordNotHeard", name := "isLeft", desc := "(I)Z" } : Jvm.MethodName)) ∈ lw_all := lw_g (lw_at lw_m3 63 rfl) rfl
theorem q613 : (Jvm.Cond.privateMethod ({ cls := "ChordNotHeard", name := "isLeft", desc := "(I)Z" } : Jvm.MethodName)) ∈ lw_tbl := lw_at lw_m3 64 rfl
theorem q614 : (Jvm.Cond.instanceMethod ({ cls := "ChordNotHeard", name := "isLeft", desc := "(I)Z" } : Jvm.MethodName)) ∈ lw_all := lw_g (lw_at lw_m3 65 rfl) rfl
theorem q615 : (Jvm.Cond.code ({ cls := "ChordNotHeard", name := "isLeft", desc := "(I)Z" } : Jvm.MethodName) prog_1_method_24_code (2 : Nat) (Option.some Jvm.ClassFile.FieldType.boolean)) ∈ lw_all := lw_g (lw_at lw_m3 66 rfl) rfl
theorem q616 : (Jvm.Cond.methodLink "ChordNotHeard" (194 : Nat) ({ cls := "ChordNotHeard", name := "asWhat", desc := "(I)I" } : Jvm.MethodName)) ∈ lw_all := lw_g (lw_at lw_m3 67 rfl) rfl
theorem q617 : (Jvm.Cond.privateMethod ({ cls := "ChordNotHeard", name := "asWhat", desc := "(I)I" } : Jvm.MethodName)) ∈ lw_tbl := lw_at lw_m3 68 rfl
theorem q618 : (Jvm.Cond.instanceMethod ({ cls := "ChordNotHeard", name := "asWhat", desc := "(I)I" } : Jvm.MethodName)) ∈ lw_all := lw_g (lw_at lw_m3 69 rfl) rfl
theorem q619 : (Jvm.Cond.code ({ cls := "ChordNotHeard", name := "asWhat", desc := "(I)I" } : Jvm.MethodName) prog_1_method_23_code (3 : Nat) (Option.some Jvm.ClassFile.FieldType.int)) ∈ lw_all := lw_g (lw_at lw_m3 70 rfl) rfl
theorem q621 : (Jvm.Cond.instanceMethod ({ cls := "ChordNotHeard", name := "strike", desc := "(I)I" } : Jvm.MethodName)) ∈ lw_all := lw_g (lw_at lw_m3 72 rfl) rfl
theorem q622 : (Jvm.Cond.selects "ChordNotHeard" ({ cls := "ChordNotHeard", name := "strike", desc := "(I)I" } : Jvm.MethodName) ({ cls := "ChordNotHeard", name := "strike", desc := "(I)I" } : Jvm.MethodName)) ∈ lw_all := lw_g (lw_at lw_m3 73 rfl) rfl
theorem q623 : (Jvm.Cond.code ({ cls := "ChordNotHeard", name := "strike", desc := "(I)I" } : Jvm.MethodName) prog_1_method_25_code (2 : Nat) (Option.some Jvm.ClassFile.FieldType.int)) ∈ lw_all := lw_g (lw_at lw_m3 74 rfl) rfl
theorem q625 : (Jvm.Cond.instanceMethod ({ cls := "ChordNotHeard", name := "heardAs", desc := "(I)I" } : Jvm.MethodName)) ∈ lw_all := lw_g (lw_at lw_m3 76 rfl) rfl
theorem q626 : (Jvm.Cond.selects "ChordNotHeard" ({ cls := "ChordNotHeard", name := "heardAs", desc := "(I)I" } : Jvm.MethodName) ({ cls := "ChordNotHeard", name := "heardAs", desc := "(I)I" } : Jvm.MethodName)) ∈ lw_all := lw_g (lw_at lw_m3 77 rfl) rfl
theorem q627 : (Jvm.Cond.code ({ cls := "ChordNotHeard", name := "heardAs", desc := "(I)I" } : Jvm.MethodName) prog_1_method_26_code (2 : Nat) (Option.some Jvm.ClassFile.FieldType.int)) ∈ lw_all := lw_g (lw_at lw_m3 78 rfl) rfl
theorem q629 : (Jvm.Cond.instanceMethod ({ cls := "ChordNotHeard", name := "forget", desc := "()I" } : Jvm.MethodName)) ∈ lw_all := lw_g (lw_at lw_m3 80 rfl) rfl
theorem q630 : (Jvm.Cond.selects "ChordNotHeard" ({ cls := "ChordNotHeard", name := "forget", desc := "()I" } : Jvm.MethodName) ({ cls := "ChordNotHeard", name := "forget", desc := "()I" } : Jvm.MethodName)) ∈ lw_all := lw_g (lw_at lw_m3 81 rfl) rfl
theorem q631 : (Jvm.Cond.code ({ cls := "ChordNotHeard", name := "forget", desc := "()I" } : Jvm.MethodName) prog_1_method_27_code (2 : Nat) (Option.some Jvm.ClassFile.FieldType.int)) ∈ lw_all := lw_g (lw_at lw_m3 82 rfl) rfl
theorem q633 : (Jvm.Cond.instanceMethod ({ cls := "ChordNotHeard", name := "left", desc := "(I)I" } : Jvm.MethodName)) ∈ lw_all := lw_g (lw_at lw_m3 84 rfl) rfl
theorem q634 : (Jvm.Cond.selects "ChordNotHeard" ({ cls := "ChordNotHeard", name := "left", desc := "(I)I" } : Jvm.MethodName) ({ cls := "ChordNotHeard", name := "left", desc := "(I)I" } : Jvm.MethodName)) ∈ lw_all := lw_g (lw_at lw_m3 85 rfl) rfl
theorem q635 : (Jvm.Cond.code ({ cls := "ChordNotHeard", name := "left", desc := "(I)I" } : Jvm.MethodName) prog_1_method_29_code (2 : Nat) (Option.some Jvm.ClassFile.FieldType.int)) ∈ lw_all := lw_g (lw_at lw_m3 86 rfl) rfl
theorem q636 : (Jvm.Cond.methodLink "ChordNotHeard" (198 : Nat) ({ cls := "ChordNotHeard", name := "leftTold", desc := "(I)I" } : Jvm.MethodName)) ∈ lw_all := lw_g (lw_at lw_m3 87 rfl) rfl
theorem q637 : (Jvm.Cond.privateMethod ({ cls := "ChordNotHeard", name := "leftTold", desc := "(I)I" } : Jvm.MethodName)) ∈ lw_tbl := lw_at lw_m3 88 rfl
theorem q638 : (Jvm.Cond.instanceMethod ({ cls := "ChordNotHeard", name := "leftTold", desc := "(I)I" } : Jvm.MethodName)) ∈ lw_all := lw_g (lw_at lw_m3 89 rfl) rfl
theorem q639 : (Jvm.Cond.code ({ cls := "ChordNotHeard", name := "leftTold", desc := "(I)I" } : Jvm.MethodName) prog_1_method_28_code (4 : Nat) (Option.some Jvm.ClassFile.FieldType.int)) ∈ lw_all := lw_g (lw_at lw_m3 90 rfl) rfl
theorem q641 : (Jvm.Cond.instanceMethod ({ cls := "ChordNotHeard", name := "nth", desc := "(I)I" } : Jvm.MethodName)) ∈ lw_all := lw_g (lw_at lw_m3 92 rfl) rfl
theorem q642 : (Jvm.Cond.selects "ChordNotHeard" ({ cls := "ChordNotHeard", name := "nth", desc := "(I)I" } : Jvm.MethodName) ({ cls := "ChordNotHeard", name := "nth", desc := "(I)I" } : Jvm.MethodName)) ∈ lw_all := lw_g (lw_at lw_m3 93 rfl) rfl
theorem q643 : (Jvm.Cond.code ({ cls := "ChordNotHeard", name := "nth", desc := "(I)I" } : Jvm.MethodName) prog_1_method_30_code (4 : Nat) (Option.some Jvm.ClassFile.FieldType.int)) ∈ lw_all := lw_g (lw_at lw_m3 94 rfl) rfl
theorem q645 : (Jvm.Cond.instanceMethod ({ cls := "ChordNotHeard", name := "strangers", desc := "(III)J" } : Jvm.MethodName)) ∈ lw_all := lw_g (lw_at lw_m3 96 rfl) rfl
theorem q646 : (Jvm.Cond.selects "ChordNotHeard" ({ cls := "ChordNotHeard", name := "strangers", desc := "(III)J" } : Jvm.MethodName) ({ cls := "ChordNotHeard", name := "strangers", desc := "(III)J" } : Jvm.MethodName)) ∈ lw_all := lw_g (lw_at lw_m3 97 rfl) rfl
theorem q647 : (Jvm.Cond.code ({ cls := "ChordNotHeard", name := "strangers", desc := "(III)J" } : Jvm.MethodName) prog_1_method_33_code (7 : Nat) (Option.some Jvm.ClassFile.FieldType.long)) ∈ lw_all := lw_g (lw_at lw_m3 98 rfl) rfl
theorem q648 : (Jvm.Cond.constantLong "ChordNotHeard" (205 : Nat) (-102 : Int64)) ∈ lw_all := lw_g (lw_at lw_m3 99 rfl) rfl
theorem q649 : (Jvm.Cond.methodLink "ChordNotHeard" (207 : Nat) ({ cls := "ChordNotHeard", name := "laySizes", desc := "()V" } : Jvm.MethodName)) ∈ lw_all := lw_g (lw_at lw_m3 100 rfl) rfl
theorem q650 : (Jvm.Cond.privateMethod ({ cls := "ChordNotHeard", name := "laySizes", desc := "()V" } : Jvm.MethodName)) ∈ lw_tbl := lw_at lw_m3 101 rfl
theorem q651 : (Jvm.Cond.instanceMethod ({ cls := "ChordNotHeard", name := "laySizes", desc := "()V" } : Jvm.MethodName)) ∈ lw_all := lw_g (lw_at lw_m3 102 rfl) rfl
theorem q652 : (Jvm.Cond.code ({ cls := "ChordNotHeard", name := "laySizes", desc := "()V" } : Jvm.MethodName) prog_1_method_31_code (2 : Nat) (Option.none : Option Jvm.ClassFile.FieldType)) ∈ lw_all := lw_g (lw_at lw_m3 103 rfl) rfl
theorem q653 : (Jvm.Cond.methodLink "ChordNotHeard" (201 : Nat) ({ cls := "ChordNotHeard", name := "ways", desc := "(III)J" } : Jvm.MethodName)) ∈ lw_all := lw_g (lw_at lw_m3 104 rfl) rfl
theorem q654 : (Jvm.Cond.privateMethod ({ cls := "ChordNotHeard", name := "ways", desc := "(III)J" } : Jvm.MethodName)) ∈ lw_tbl := lw_at lw_m3 105 rfl
theorem q655 : (Jvm.Cond.instanceMethod ({ cls := "ChordNotHeard", name := "ways", desc := "(III)J" } : Jvm.MethodName)) ∈ lw_all := lw_g (lw_at lw_m3 106 rfl) rfl
theorem q656 : (Jvm.Cond.code ({ cls := "ChordNotHeard", name := "ways", desc := "(III)J" } : Jvm.MethodName) prog_1_method_32_code (8 : Nat) (Option.some Jvm.ClassFile.FieldType.long)) ∈ lw_all := lw_g (lw_at lw_m3 107 rfl) rfl
theorem q657 : (Jvm.Cond.methodLink "ChordNotHeard" (210 : Nat) ({ cls := "ChordNotHeard", name := "lowest", desc := "(JJI)J" } : Jvm.MethodName)) ∈ lw_all := lw_g (lw_at lw_m3 108 rfl) rfl
theorem q658 : (Jvm.Cond.static ({ cls := "ChordNotHeard", name := "lowest", desc := "(JJI)J" } : Jvm.MethodName)) ∈ lw_all := lw_g (lw_at lw_m3 109 rfl) rfl
theorem q659 : (Jvm.Cond.code ({ cls := "ChordNotHeard", name := "lowest", desc := "(JJI)J" } : Jvm.MethodName) prog_1_method_3_code (11 : Nat) (Option.some Jvm.ClassFile.FieldType.long)) ∈ lw_all := lw_g (lw_at lw_m3 110 rfl) rfl
theorem q661 : (Jvm.Cond.instanceMethod ({ cls := "ChordNotHeard", name := "sheet", desc := "(IJI)I" } : Jvm.MethodName)) ∈ lw_all := lw_g (lw_at lw_m3 112 rfl) rfl
theorem q662 : (Jvm.Cond.selects "ChordNotHeard" ({ cls := "ChordNotHeard", name := "sheet", desc := "(IJI)I" } : Jvm.MethodName) ({ cls := "ChordNotHeard", name := "sheet", desc := "(IJI)I" } : Jvm.MethodName)) ∈ lw_all := lw_g (lw_at lw_m3 113 rfl) rfl
theorem q663 : (Jvm.Cond.code ({ cls := "ChordNotHeard", name := "sheet", desc := "(IJI)I" } : Jvm.MethodName) prog_1_method_37_code (6 : Nat) (Option.some Jvm.ClassFile.FieldType.int)) ∈ lw_all := lw_g (lw_at lw_m3 114 rfl) rfl
theorem q664 : (Jvm.Cond.methodLink "ChordNotHeard" (220 : Nat) ({ cls := "ChordNotHeard", name := "areChords", desc := "(IJ)Z" } : Jvm.MethodName)) ∈ lw_all := lw_g (lw_at lw_m3 115 rfl) rfl
theorem q665 : (Jvm.Cond.privateMethod ({ cls := "ChordNotHeard", name := "areChords", desc := "(IJ)Z" } : Jvm.MethodName)) ∈ lw_tbl := lw_at lw_m3 116 rfl
theorem q666 : (Jvm.Cond.instanceMethod ({ cls := "ChordNotHeard", name := "areChords", desc := "(IJ)Z" } : Jvm.MethodName)) ∈ lw_all := lw_g (lw_at lw_m3 117 rfl) rfl
theorem q667 : (Jvm.Cond.code ({ cls := "ChordNotHeard", name := "areChords", desc := "(IJ)Z" } : Jvm.MethodName) prog_1_method_36_code (6 : Nat) (Option.some Jvm.ClassFile.FieldType.boolean)) ∈ lw_all := lw_g (lw_at lw_m3 118 rfl) rfl
theorem q668 : (Jvm.Cond.methodLink "ChordNotHeard" (224 : Nat) ({ cls := "ChordNotHeard", name := "layDoubts", desc := "(I)V" } : Jvm.MethodName)) ∈ lw_all := lw_g (lw_at lw_m3 119 rfl) rfl
theorem q669 : (Jvm.Cond.privateMethod ({ cls := "ChordNotHeard", name := "layDoubts", desc := "(I)V" } : Jvm.MethodName)) ∈ lw_tbl := lw_at lw_m3 120 rfl
theorem q670 : (Jvm.Cond.instanceMethod ({ cls := "ChordNotHeard", name := "layDoubts", desc := "(I)V" } : Jvm.MethodName)) ∈ lw_all := lw_g (lw_at lw_m3 121 rfl) rfl
theorem q671 : (Jvm.Cond.code ({ cls := "ChordNotHeard", name := "layDoubts", desc := "(I)V" } : Jvm.MethodName) prog_1_method_35_code (5 : Nat) (Option.none : Option Jvm.ClassFile.FieldType)) ∈ lw_all := lw_g (lw_at lw_m3 122 rfl) rfl
theorem q672 : (Jvm.Cond.methodLink "ChordNotHeard" (217 : Nat) ({ cls := "ChordNotHeard", name := "doubtOf", desc := "(I)I" } : Jvm.MethodName)) ∈ lw_all := lw_g (lw_at lw_m3 123 rfl) rfl
theorem q673 : (Jvm.Cond.privateMethod ({ cls := "ChordNotHeard", name := "doubtOf", desc := "(I)I" } : Jvm.MethodName)) ∈ lw_tbl := lw_at lw_m3 124 rfl
theorem q674 : (Jvm.Cond.instanceMethod ({ cls := "ChordNotHeard", name := "doubtOf", desc := "(I)I" } : Jvm.MethodName)) ∈ lw_all := lw_g (lw_at lw_m3 125 rfl) rfl
theorem q675 : (Jvm.Cond.code ({ cls := "ChordNotHeard", name := "doubtOf", desc := "(I)I" } : Jvm.MethodName) prog_1_method_34_code (3 : Nat) (Option.some Jvm.ClassFile.FieldType.int)) ∈ lw_all := lw_g (lw_at lw_m3 126 rfl) rfl
theorem q677 : (Jvm.Cond.instanceMethod ({ cls := "ChordNotHeard", name := "readings", desc := "()I" } : Jvm.MethodName)) ∈ lw_all := lw_g (lw_at lw_m3 128 rfl) rfl
theorem q678 : (Jvm.Cond.selects "ChordNotHeard" ({ cls := "ChordNotHeard", name := "readings", desc := "()I" } : Jvm.MethodName) ({ cls := "ChordNotHeard", name := "readings", desc := "()I" } : Jvm.MethodName)) ∈ lw_all := lw_g (lw_at lw_m3 129 rfl) rfl
theorem q679 : (Jvm.Cond.code ({ cls := "ChordNotHeard", name := "readings", desc := "()I" } : Jvm.MethodName) prog_1_method_42_code (1 : Nat) (Option.some Jvm.ClassFile.FieldType.int)) ∈ lw_all := lw_g (lw_at lw_m3 130 rfl) rfl
theorem q680 : (Jvm.Cond.methodLink "ChordNotHeard" (245 : Nat) ({ cls := "ChordNotHeard", name := "layReadings", desc := "()I" } : Jvm.MethodName)) ∈ lw_all := lw_g (lw_at lw_m3 131 rfl) rfl
theorem q681 : (Jvm.Cond.privateMethod ({ cls := "ChordNotHeard", name := "layReadings", desc := "()I" } : Jvm.MethodName)) ∈ lw_tbl := lw_at lw_m3 132 rfl
theorem q682 : (Jvm.Cond.instanceMethod ({ cls := "ChordNotHeard", name := "layReadings", desc := "()I" } : Jvm.MethodName)) ∈ lw_all := lw_g (lw_at lw_m3 133 rfl) rfl
theorem q683 : (Jvm.Cond.code ({ cls := "ChordNotHeard", name := "layReadings", desc := "()I" } : Jvm.MethodName) prog_1_method_41_code (5 : Nat) (Option.some Jvm.ClassFile.FieldType.int)) ∈ lw_all := lw_g (lw_at lw_m3 134 rfl) rfl
theorem q684 : (Jvm.Cond.methodLink "ChordNotHeard" (232 : Nat) ({ cls := "ChordNotHeard", name := "bitsOf", desc := "(I)I" } : Jvm.MethodName)) ∈ lw_all := lw_g (lw_at lw_m3 135 rfl) rfl
theorem q685 : (Jvm.Cond.privateMethod ({ cls := "ChordNotHeard", name := "bitsOf", desc := "(I)I" } : Jvm.MethodName)) ∈ lw_tbl := lw_at lw_m3 136 rfl
theorem q686 : (Jvm.Cond.instanceMethod ({ cls := "ChordNotHeard", name := "bitsOf", desc := "(I)I" } : Jvm.MethodName)) ∈ lw_all := lw_g (lw_at lw_m3 137 rfl) rfl
theorem q687 : (Jvm.Cond.code ({ cls := "ChordNotHeard", name := "bitsOf", desc := "(I)I" } : Jvm.MethodName) prog_1_method_38_code (4 : Nat) (Option.some Jvm.ClassFile.FieldType.int)) ∈ lw_all := lw_g (lw_at lw_m3 138 rfl) rfl
theorem q688 : (Jvm.Cond.methodLink "ChordNotHeard" (235 : Nat) ({ cls := "ChordNotHeard", name := "surely", desc := "()I" } : Jvm.MethodName)) ∈ lw_all := lw_g (lw_at lw_m3 139 rfl) rfl
theorem q689 : (Jvm.Cond.privateMethod ({ cls := "ChordNotHeard", name := "surely", desc := "()I" } : Jvm.MethodName)) ∈ lw_tbl := lw_at lw_m3 140 rfl
theorem q690 : (Jvm.Cond.instanceMethod ({ cls := "ChordNotHeard", name := "surely", desc := "()I" } : Jvm.MethodName)) ∈ lw_all := lw_g (lw_at lw_m3 141 rfl) rfl
theorem q691 : (Jvm.Cond.code ({ cls := "ChordNotHeard", name := "surely", desc := "()I" } : Jvm.MethodName) prog_1_method_39_code (3 : Nat) (Option.some Jvm.ClassFile.FieldType.int)) ∈ lw_all := lw_g (lw_at lw_m3 142 rfl) rfl
theorem q692 : (Jvm.Cond.methodLink "ChordNotHeard" (238 : Nat) ({ cls := "ChordNotHeard", name := "isReading", desc := "(I)Z" } : Jvm.MethodName)) ∈ lw_all := lw_g (lw_at lw_m3 143 rfl) rfl
theorem q693 : (Jvm.Cond.privateMethod ({ cls := "ChordNotHeard", name := "isReading", desc := "(I)Z" } : Jvm.MethodName)) ∈ lw_tbl := lw_at lw_m3 144 rfl
theorem q694 : (Jvm.Cond.instanceMethod ({ cls := "ChordNotHeard", name := "isReading", desc := "(I)Z" } : Jvm.MethodName)) ∈ lw_all := lw_g (lw_at lw_m3 145 rfl) rfl
theorem q695 : (Jvm.Cond.code ({ cls := "ChordNotHeard", name := "isReading", desc := "(I)Z" } : Jvm.MethodName) prog_1_method_40_code (4 : Nat) (Option.some Jvm.ClassFile.FieldType.boolean)) ∈ lw_all := lw_g (lw_at lw_m3 146 rfl) rfl
theorem q696 : (Jvm.Cond.methodLink "ChordNotHeard" (227 : Nat) ({ cls := "java/lang/Integer", name := "bitCount", desc := "(I)I" } : Jvm.MethodName)) ∈ lw_all := lw_g (lw_at lw_m3 147 rfl) rfl
theorem q702 : (Jvm.Cond.methodLink "ChordNotHeard" (241 : Nat) ({ cls := "ChordNotHeard", name := "isIn", desc := "(II)Z" } : Jvm.MethodName)) ∈ lw_all := lw_g (lw_at lw_m3 153 rfl) rfl
theorem q703 : (Jvm.Cond.static ({ cls := "ChordNotHeard", name := "isIn", desc := "(II)Z" } : Jvm.MethodName)) ∈ lw_all := lw_g (lw_at lw_m3 154 rfl) rfl
theorem q704 : (Jvm.Cond.code ({ cls := "ChordNotHeard", name := "isIn", desc := "(II)Z" } : Jvm.MethodName) prog_1_method_2_code (2 : Nat) (Option.some Jvm.ClassFile.FieldType.boolean)) ∈ lw_all := lw_g (lw_at lw_m3 155 rfl) rfl
theorem q706 : (Jvm.Cond.instanceMethod ({ cls := "ChordNotHeard", name := "sure", desc := "(I)I" } : Jvm.MethodName)) ∈ lw_all := lw_g (lw_at lw_m3 157 rfl) rfl
theorem q707 : (Jvm.Cond.selects "ChordNotHeard" ({ cls := "ChordNotHeard", name := "sure", desc := "(I)I" } : Jvm.MethodName) ({ cls := "ChordNotHeard", name := "sure", desc := "(I)I" } : Jvm.MethodName)) ∈ lw_all := lw_g (lw_at lw_m3 158 rfl) rfl
theorem q708 : (Jvm.Cond.code ({ cls := "ChordNotHeard", name := "sure", desc := "(I)I" } : Jvm.MethodName) prog_1_method_44_code (2 : Nat) (Option.some Jvm.ClassFile.FieldType.int)) ∈ lw_all := lw_g (lw_at lw_m3 159 rfl) rfl
theorem q709 : (Jvm.Cond.methodLink "ChordNotHeard" (248 : Nat) ({ cls := "ChordNotHeard", name := "sureBy", desc := "(II)I" } : Jvm.MethodName)) ∈ lw_all := lw_g (lw_at lw_m3 160 rfl) rfl
theorem q710 : (Jvm.Cond.privateMethod ({ cls := "ChordNotHeard", name := "sureBy", desc := "(II)I" } : Jvm.MethodName)) ∈ lw_tbl := lw_at lw_m3 161 rfl
theorem q711 : (Jvm.Cond.instanceMethod ({ cls := "ChordNotHeard", name := "sureBy", desc := "(II)I" } : Jvm.MethodName)) ∈ lw_all := lw_g (lw_at lw_m3 162 rfl) rfl
theorem q712 : (Jvm.Cond.code ({ cls := "ChordNotHeard", name := "sureBy", desc := "(II)I" } : Jvm.MethodName) prog_1_method_43_code (4 : Nat) (Option.some Jvm.ClassFile.FieldType.int)) ∈ lw_all := lw_g (lw_at lw_m3 163 rfl) rfl
theorem q714 : (Jvm.Cond.instanceMethod ({ cls := "ChordNotHeard", name := "surest", desc := "()I" } : Jvm.MethodName)) ∈ lw_all := lw_g (lw_at lw_m3 165 rfl) rfl
theorem q715 : (Jvm.Cond.selects "ChordNotHeard" ({ cls := "ChordNotHeard", name := "surest", desc := "()I" } : Jvm.MethodName) ({ cls := "ChordNotHeard", name := "surest", desc := "()I" } : Jvm.MethodName)) ∈ lw_all := lw_g (lw_at lw_m3 166 rfl) rfl
theorem q716 : (Jvm.Cond.code ({ cls := "ChordNotHeard", name := "surest", desc := "()I" } : Jvm.MethodName) prog_1_method_46_code (1 : Nat) (Option.some Jvm.ClassFile.FieldType.int)) ∈ lw_all := lw_g (lw_at lw_m3 167 rfl) rfl
theorem q717 : (Jvm.Cond.methodLink "ChordNotHeard" (251 : Nat) ({ cls := "ChordNotHeard", name := "surestTold", desc := "()I" } : Jvm.MethodName)) ∈ lw_all := lw_g (lw_at lw_m3 168 rfl) rfl
theorem q718 : (Jvm.Cond.privateMethod ({ cls := "ChordNotHeard", name := "surestTold", desc := "()I" } : Jvm.MethodName)) ∈ lw_tbl := lw_at lw_m3 169 rfl
theorem q719 : (Jvm.Cond.instanceMethod ({ cls := "ChordNotHeard", name := "surestTold", desc := "()I" } : Jvm.MethodName)) ∈ lw_all := lw_g (lw_at lw_m3 170 rfl) rfl
theorem q720 : (Jvm.Cond.code ({ cls := "ChordNotHeard", name := "surestTold", desc := "()I" } : Jvm.MethodName) prog_1_method_45_code (4 : Nat) (Option.some Jvm.ClassFile.FieldType.int)) ∈ lw_all := lw_g (lw_at lw_m3 171 rfl) rfl
theorem q722 : (Jvm.Cond.instanceMethod ({ cls := "ChordNotHeard", name := "longest", desc := "()I" } : Jvm.MethodName)) ∈ lw_all := lw_g (lw_at lw_m3 173 rfl) rfl
theorem q723 : (Jvm.Cond.selects "ChordNotHeard" ({ cls := "ChordNotHeard", name := "longest", desc := "()I" } : Jvm.MethodName) ({ cls := "ChordNotHeard", name := "longest", desc := "()I" } : Jvm.MethodName)) ∈ lw_all := lw_g (lw_at lw_m3 174 rfl) rfl
theorem q724 : (Jvm.Cond.code ({ cls := "ChordNotHeard", name := "longest", desc := "()I" } : Jvm.MethodName) prog_1_method_51_code (1 : Nat) (Option.some Jvm.ClassFile.FieldType.int)) ∈ lw_all := lw_g (lw_at lw_m3 175 rfl) rfl
theorem q725 : (Jvm.Cond.methodLink "ChordNotHeard" (271 : Nat) ({ cls := "ChordNotHeard", name := "mayAsk", desc := "()Z" } : Jvm.MethodName)) ∈ lw_all := lw_g (lw_at lw_m3 176 rfl) rfl
theorem q726 : (Jvm.Cond.privateMethod ({ cls := "ChordNotHeard", name := "mayAsk", desc := "()Z" } : Jvm.MethodName)) ∈ lw_tbl := lw_at lw_m3 177 rfl
theorem q727 : (Jvm.Cond.instanceMethod ({ cls := "ChordNotHeard", name := "mayAsk", desc := "()Z" } : Jvm.MethodName)) ∈ lw_all := lw_g (lw_at lw_m3 178 rfl) rfl
theorem q728 : (Jvm.Cond.code ({ cls := "ChordNotHeard", name := "mayAsk", desc := "()Z" } : Jvm.MethodName) prog_1_method_47_code (1 : Nat) (Option.some Jvm.ClassFile.FieldType.boolean)) ∈ lw_all := lw_g (lw_at lw_m3 179 rfl) rfl
theorem q729 : (Jvm.Cond.methodLink "ChordNotHeard" (275 : Nat) ({ cls := "ChordNotHeard", name := "longestOf", desc := "()I" } : Jvm.MethodName)) ∈ lw_all := lw_g (lw_at lw_m3 180 rfl) rfl
theorem q730 : (Jvm.Cond.privateMethod ({ cls := "ChordNotHeard", name := "longestOf", desc := "()I" } : Jvm.MethodName)) ∈ lw_tbl := lw_at lw_m3 181 rfl
theorem q731 : (Jvm.Cond.instanceMethod ({ cls := "ChordNotHeard", name := "longestOf", desc := "()I" } : Jvm.MethodName)) ∈ lw_all := lw_g (lw_at lw_m3 182 rfl) rfl
theorem q732 : (Jvm.Cond.code ({ cls := "ChordNotHeard", name := "longestOf", desc := "()I" } : Jvm.MethodName) prog_1_method_49_code (7 : Nat) (Option.some Jvm.ClassFile.FieldType.int)) ∈ lw_all := lw_g (lw_at lw_m3 183 rfl) rfl
theorem q733 : (Jvm.Cond.methodLink "ChordNotHeard" (257 : Nat) ({ cls := "ChordNotHeard", name := "heardSorts", desc := "()I" } : Jvm.MethodName)) ∈ lw_all := lw_g (lw_at lw_m3 184 rfl) rfl
theorem q734 : (Jvm.Cond.privateMethod ({ cls := "ChordNotHeard", name := "heardSorts", desc := "()I" } : Jvm.MethodName)) ∈ lw_tbl := lw_at lw_m3 185 rfl
theorem q735 : (Jvm.Cond.instanceMethod ({ cls := "ChordNotHeard", name := "heardSorts", desc := "()I" } : Jvm.MethodName)) ∈ lw_all := lw_g (lw_at lw_m3 186 rfl) rfl
theorem q736 : (Jvm.Cond.code ({ cls := "ChordNotHeard", name := "heardSorts", desc := "()I" } : Jvm.MethodName) prog_1_method_48_code (3 : Nat) (Option.some Jvm.ClassFile.FieldType.int)) ∈ lw_all := lw_g (lw_at lw_m3 187 rfl) rfl
theorem q737 : (Jvm.Cond.methodLink "ChordNotHeard" (260 : Nat) ({ cls := "ChordNotHeard", name := "comesBehind", desc := "(II)Z" } : Jvm.MethodName)) ∈ lw_all := lw_g (lw_at lw_m3 188 rfl) rfl
theorem q738 : (Jvm.Cond.privateMethod ({ cls := "ChordNotHeard", name := "comesBehind", desc := "(II)Z" } : Jvm.MethodName)) ∈ lw_tbl := lw_at lw_m3 189 rfl
theorem q739 : (Jvm.Cond.instanceMethod ({ cls := "ChordNotHeard", name := "comesBehind", desc := "(II)Z" } : Jvm.MethodName)) ∈ lw_all := lw_g (lw_at lw_m3 190 rfl) rfl
theorem q740 : (Jvm.Cond.code ({ cls := "ChordNotHeard", name := "comesBehind", desc := "(II)Z" } : Jvm.MethodName) prog_1_method_50_code (4 : Nat) (Option.some Jvm.ClassFile.FieldType.boolean)) ∈ lw_all := lw_g (lw_at lw_m3 191 rfl) rfl
theorem q741 : (Jvm.Cond.methodLink "ChordNotHeard" (268 : Nat) ({ cls := "ChordNotHeard$Chords", name := "common", desc := "(II)I" } : Jvm.MethodName)) ∈ lw_all := lw_g (lw_at lw_m3 192 rfl) rfl
theorem q745 : (Jvm.Cond.methodLink "ChordNotHeard" (263 : Nat) ({ cls := "java/lang/Math", name := "max", desc := "(II)I" } : Jvm.MethodName)) ∈ lw_all := lw_g (lw_at lw_m3 196 rfl) rfl
theorem q747 : (Jvm.Cond.instanceMethod ({ cls := "ChordNotHeard", name := "game", desc := "(II)I" } : Jvm.MethodName)) ∈ lw_all := lw_g (lw_at lw_m3 198 rfl) rfl
theorem q748 : (Jvm.Cond.selects "ChordNotHeard" ({ cls := "ChordNotHeard", name := "game", desc := "(II)I" } : Jvm.MethodName) ({ cls := "ChordNotHeard", name := "game", desc := "(II)I" } : Jvm.MethodName)) ∈ lw_all := lw_g (lw_at lw_m3 199 rfl) rfl
theorem q749 : (Jvm.Cond.code ({ cls := "ChordNotHeard", name := "game", desc := "(II)I" } : Jvm.MethodName) prog_1_method_54_code (4 : Nat) (Option.some Jvm.ClassFile.FieldType.int)) ∈ lw_all := lw_g (lw_at lw_m3 200 rfl) rfl
theorem q750 : (Jvm.Cond.methodLink "ChordNotHeard" (281 : Nat) ({ cls := "ChordNotHeard", name := "gameOf", desc := "(I)I" } : Jvm.MethodName)) ∈ lw_all := lw_g (lw_at lw_m3 201 rfl) rfl
theorem q751 : (Jvm.Cond.privateMethod ({ cls := "ChordNotHeard", name := "gameOf", desc := "(I)I" } : Jvm.MethodName)) ∈ lw_tbl := lw_at lw_m3 202 rfl
theorem q752 : (Jvm.Cond.instanceMethod ({ cls := "ChordNotHeard", name := "gameOf", desc := "(I)I" } : Jvm.MethodName)) ∈ lw_all := lw_g (lw_at lw_m3 203 rfl) rfl
theorem q753 : (Jvm.Cond.code ({ cls := "ChordNotHeard", name := "gameOf", desc := "(I)I" } : Jvm.MethodName) prog_1_method_53_code (4 : Nat) (Option.some Jvm.ClassFile.FieldType.int)) ∈ lw_all := lw_g (lw_at lw_m3 204 rfl) rfl
theorem q754 : (Jvm.Cond.methodLink "ChordNotHeard" (278 : Nat) ({ cls := "ChordNotHeard", name := "winsBy", desc := "(III)I" } : Jvm.MethodName)) ∈ lw_all := lw_g (lw_at lw_m3 205 rfl) rfl
theorem q755 : (Jvm.Cond.privateMethod ({ cls := "ChordNotHeard", name := "winsBy", desc := "(III)I" } : Jvm.MethodName)) ∈ lw_tbl := lw_at lw_m3 206 rfl
theorem q756 : (Jvm.Cond.instanceMethod ({ cls := "ChordNotHeard", name := "winsBy", desc := "(III)I" } : Jvm.MethodName)) ∈ lw_all := lw_g (lw_at lw_m3 207 rfl) rfl
theorem q757 : (Jvm.Cond.code ({ cls := "ChordNotHeard", name := "winsBy", desc := "(III)I" } : Jvm.MethodName) prog_1_method_52_code (6 : Nat) (Option.some Jvm.ClassFile.FieldType.int)) ∈ lw_all := lw_g (lw_at lw_m3 208 rfl) rfl
theorem q759 : (Jvm.Cond.instanceMethod ({ cls := "ChordNotHeard", name := "broken", desc := "(I)I" } : Jvm.MethodName)) ∈ lw_all := lw_g (lw_at lw_m3 210 rfl) rfl
theorem q760 : (Jvm.Cond.selects "ChordNotHeard" ({ cls := "ChordNotHeard", name := "broken", desc := "(I)I" } : Jvm.MethodName) ({ cls := "ChordNotHeard", name := "broken", desc := "(I)I" } : Jvm.MethodName)) ∈ lw_all := lw_g (lw_at lw_m3 211 rfl) rfl
theorem q761 : (Jvm.Cond.code ({ cls := "ChordNotHeard", name := "broken", desc := "(I)I" } : Jvm.MethodName) prog_1_method_56_code (2 : Nat) (Option.some Jvm.ClassFile.FieldType.int)) ∈ lw_all := lw_g (lw_at lw_m3 212 rfl) rfl
theorem q762 : (Jvm.Cond.methodLink "ChordNotHeard" (287 : Nat) ({ cls := "ChordNotHeard", name := "brokenOf", desc := "(I)I" } : Jvm.MethodName)) ∈ lw_all := lw_g (lw_at lw_m3 213 rfl) rfl
theorem q763 : (Jvm.Cond.privateMethod ({ cls := "ChordNotHeard", name := "brokenOf", desc := "(I)I" } : Jvm.MethodName)) ∈ lw_tbl := lw_at lw_m3 214 rfl
theorem q764 : (Jvm.Cond.instanceMethod ({ cls := "ChordNotHeard", name := "brokenOf", desc := "(I)I" } : Jvm.MethodName)) ∈ lw_all := lw_g (lw_at lw_m3 215 rfl) rfl
theorem q765 : (Jvm.Cond.code ({ cls := "ChordNotHeard", name := "brokenOf", desc := "(I)I" } : Jvm.MethodName) prog_1_method_55_code (6 : Nat) (Option.some Jvm.ClassFile.FieldType.int)) ∈ lw_all := lw_g (lw_at lw_m3 216 rfl) rfl
theorem q766 : (Jvm.Cond.methodLinkNest "ChordNotHeard" (284 : Nat) ({ cls := "ChordNotHeard$Chords", name := "has", desc := "(II)Z" } : Jvm.MethodName) "ChordNotHeard") ∈ lw_tbl := lw_at lw_m3 217 rfl
theorem q768 : (Jvm.Cond.instanceMethod ({ cls := "ChordNotHeard", name := "added", desc := "()I" } : Jvm.MethodName)) ∈ lw_all := lw_g (lw_at lw_m3 219 rfl) rfl
theorem q769 : (Jvm.Cond.selects "ChordNotHeard" ({ cls := "ChordNotHeard", name := "added", desc := "()I" } : Jvm.MethodName) ({ cls := "ChordNotHeard", name := "added", desc := "()I" } : Jvm.MethodName)) ∈ lw_all := lw_g (lw_at lw_m3 220 rfl) rfl
theorem q770 : (Jvm.Cond.code ({ cls := "ChordNotHeard", name := "added", desc := "()I" } : Jvm.MethodName) prog_1_method_57_code (6 : Nat) (Option.some Jvm.ClassFile.FieldType.int)) ∈ lw_all := lw_g (lw_at lw_m3 221 rfl) rfl
theorem q772 : (Jvm.Cond.instanceMethod ({ cls := "ChordNotHeard", name := "plan", desc := "(II)I" } : Jvm.MethodName)) ∈ lw_all := lw_g (lw_at lw_m3 223 rfl) rfl
theorem q773 : (Jvm.Cond.selects "ChordNotHeard" ({ cls := "ChordNotHeard", name := "plan", desc := "(II)I" } : Jvm.MethodName) ({ cls := "ChordNotHeard", name := "plan", desc := "(II)I" } : Jvm.MethodName)) ∈ lw_all := lw_g (lw_at lw_m3 224 rfl) rfl
theorem q774 : (Jvm.Cond.code ({ cls := "ChordNotHeard", name := "plan", desc := "(II)I" } : Jvm.MethodName) prog_1_method_60_code (3 : Nat) (Option.some Jvm.ClassFile.FieldType.int)) ∈ lw_all := lw_g (lw_at lw_m3 225 rfl) rfl
theorem q775 : (Jvm.Cond.methodLink "ChordNotHeard" (296 : Nat) ({ cls := "ChordNotHeard", name := "planTold", desc := "(II)I" } : Jvm.MethodName)) ∈ lw_all := lw_g (lw_at lw_m3 226 rfl) rfl
theorem q776 : (Jvm.Cond.privateMethod ({ cls := "ChordNotHeard", name := "planTold", desc := "(II)I" } : Jvm.MethodName)) ∈ lw_tbl := lw_at lw_m3 227 rfl
theorem q777 : (Jvm.Cond.instanceMethod ({ cls := "ChordNotHeard", name := "planTold", desc := "(II)I" } : Jvm.MethodName)) ∈ lw_all := lw_g (lw_at lw_m3 228 rfl) rfl
theorem q778 : (Jvm.Cond.code ({ cls := "ChordNotHeard", name := "planTold", desc := "(II)I" } : Jvm.MethodName) prog_1_method_59_code (8 : Nat) (Option.some Jvm.ClassFile.FieldType.int)) ∈ lw_all := lw_g (lw_at lw_m3 229 rfl) rfl
theorem q779 : (Jvm.Cond.methodLink "ChordNotHeard" (290 : Nat) ({ cls := "ChordNotHeard", name := "houseOf", desc := "(II)I" } : Jvm.MethodName)) ∈ lw_all := lw_g (lw_at lw_m3 230 rfl) rfl
theorem q780 : (Jvm.Cond.privateMethod ({ cls := "ChordNotHeard", name := "houseOf", desc := "(II)I" } : Jvm.MethodName)) ∈ lw_tbl := lw_at lw_m3 231 rfl
theorem q781 : (Jvm.Cond.instanceMethod ({ cls := "ChordNotHeard", name := "houseOf", desc := "(II)I" } : Jvm.MethodName)) ∈ lw_all := lw_g (lw_at lw_m3 232 rfl) rfl
theorem q782 : (Jvm.Cond.code ({ cls := "ChordNotHeard", name := "houseOf", desc := "(II)I" } : Jvm.MethodName) prog_1_method_58_code (4 : Nat) (Option.some Jvm.ClassFile.FieldType.int)) ∈ lw_all := lw_g (lw_at lw_m3 233 rfl) rfl
theorem q783 : (Jvm.Cond.methodLink "ChordNotHeard" (293 : Nat) ({ cls := "java/lang/Math", name := "min", desc := "(II)I" } : Jvm.MethodName)) ∈ lw_all := lw_g (lw_at lw_m3 234 rfl) rfl
theorem q785 : (Jvm.Cond.instanceMethod ({ cls := "ChordNotHeard", name := "image", desc := "()I" } : Jvm.MethodName)) ∈ lw_all := lw_g (lw_at lw_m3 236 rfl) rfl
theorem q786 : (Jvm.Cond.selects "ChordNotHeard" ({ cls := "ChordNotHeard", name := "image", desc := "()I" } : Jvm.MethodName) ({ cls := "ChordNotHeard", name := "image", desc := "()I" } : Jvm.MethodName)) ∈ lw_all := lw_g (lw_at lw_m3 237 rfl) rfl
theorem q787 : (Jvm.Cond.code ({ cls := "ChordNotHeard", name := "image", desc := "()I" } : Jvm.MethodName) prog_1_method_62_code (2 : Nat) (Option.some Jvm.ClassFile.FieldType.int)) ∈ lw_all := lw_g (lw_at lw_m3 238 rfl) rfl
theorem q788 : (Jvm.Cond.methodLink "ChordNotHeard" (315 : Nat) ({ cls := "ChordNotHeard", name := "copy", desc := "([I[I)V" } : Jvm.MethodName)) ∈ lw_all := lw_g (lw_at lw_m3 239 rfl) rfl
theorem q789 : (Jvm.Cond.static ({ cls := "ChordNotHeard", name := "copy", desc := "([I[I)V" } : Jvm.MethodName)) ∈ lw_all := lw_g (lw_at lw_m4 0 rfl) rfl
theorem q790 : (Jvm.Cond.code ({ cls := "ChordNotHeard", name := "copy", desc := "([I[I)V" } : Jvm.MethodName) prog_1_method_61_code (3 : Nat) (Option.none : Option Jvm.ClassFile.FieldType)) ∈ lw_all := lw_g (lw_at lw_m4 1 rfl) rfl
theorem q792 : (Jvm.Cond.instanceMethod ({ cls := "ChordNotHeard", name := "restore", desc := "()I" } : Jvm.MethodName)) ∈ lw_all := lw_g (lw_at lw_m4 3 rfl) rfl
theorem q793 : (Jvm.Cond.selects "ChordNotHeard" ({ cls := "ChordNotHeard", name := "restore", desc := "()I" } : Jvm.MethodName) ({ cls := "ChordNotHeard", name := "restore", desc := "()I" } : Jvm.MethodName)) ∈ lw_all := lw_g (lw_at lw_m4 4 rfl) rfl
theorem q794 : (Jvm.Cond.code ({ cls := "ChordNotHeard", name := "restore", desc := "()I" } : Jvm.MethodName) prog_1_method_63_code (2 : Nat) (Option.some Jvm.ClassFile.FieldType.int)) ∈ lw_all := lw_g (lw_at lw_m4 5 rfl) rfl
theorem q796 : (Jvm.Cond.instanceMethod ({ cls := "ChordNotHeard", name := "count", desc := "(I)I" } : Jvm.MethodName)) ∈ lw_all := lw_g (lw_at lw_m4 7 rfl) rfl
theorem q797 : (Jvm.Cond.selects "ChordNotHeard" ({ cls := "ChordNotHeard", name := "count", desc := "(I)I" } : Jvm.MethodName) ({ cls := "ChordNotHeard", name := "count", desc := "(I)I" } : Jvm.MethodName)) ∈ lw_all := lw_g (lw_at lw_m4 8 rfl) rfl
theorem q798 : (Jvm.Cond.code ({ cls := "ChordNotHeard", name := "count", desc := "(I)I" } : Jvm.MethodName) prog_1_method_65_code (2 : Nat) (Option.some Jvm.ClassFile.FieldType.int)) ∈ lw_all := lw_g (lw_at lw_m4 9 rfl) rfl
theorem q799 : (Jvm.Cond.methodLink "ChordNotHeard" (319 : Nat) ({ cls := "ChordNotHeard", name := "countOf", desc := "(I)I" } : Jvm.MethodName)) ∈ lw_all := lw_g (lw_at lw_m4 10 rfl) rfl
theorem q800 : (Jvm.Cond.privateMethod ({ cls := "ChordNotHeard", name := "countOf", desc := "(I)I" } : Jvm.MethodName)) ∈ lw_tbl := lw_at lw_m4 11 rfl
theorem q801 : (Jvm.Cond.instanceMethod ({ cls := "ChordNotHeard", name := "countOf", desc := "(I)I" } : Jvm.MethodName)) ∈ lw_all := lw_g (lw_at lw_m4 12 rfl) rfl
theorem q802 : (Jvm.Cond.code ({ cls := "ChordNotHeard", name := "countOf", desc := "(I)I" } : Jvm.MethodName) prog_1_method_64_code (2 : Nat) (Option.some Jvm.ClassFile.FieldType.int)) ∈ lw_all := lw_g (lw_at lw_m4 13 rfl) rfl
theorem q804 : (Jvm.Cond.instanceMethod ({ cls := "ChordNotHeard", name := "digest", desc := "()J" } : Jvm.MethodName)) ∈ lw_all := lw_g (lw_at lw_m4 15 rfl) rfl
theorem q805 : (Jvm.Cond.selects "ChordNotHeard" ({ cls := "ChordNotHeard", name := "digest", desc := "()J" } : Jvm.MethodName) ({ cls := "ChordNotHeard", name := "digest", desc := "()J" } : Jvm.MethodName)) ∈ lw_all := lw_g (lw_at lw_m4 16 rfl) rfl
theorem q806 : (Jvm.Cond.code ({ cls := "ChordNotHeard", name := "digest", desc := "()J" } : Jvm.MethodName) prog_1_method_68_code (4 : Nat) (Option.some Jvm.ClassFile.FieldType.long)) ∈ lw_all := lw_g (lw_at lw_m4 17 rfl) rfl
theorem q807 : (Jvm.Cond.constantLong "ChordNotHeard" (328 : Nat) (547 : Int64)) ∈ lw_all := lw_g (lw_at lw_m4 18 rfl) rfl
theorem q808 : (Jvm.Cond.methodLink "ChordNotHeard" (324 : Nat) ({ cls := "ChordNotHeard", name := "with", desc := "(JJ)J" } : Jvm.MethodName)) ∈ lw_all := lw_g (lw_at lw_m4 19 rfl) rfl
theorem q809 : (Jvm.Cond.static ({ cls := "ChordNotHeard", name := "with", desc := "(JJ)J" } : Jvm.MethodName)) ∈ lw_all := lw_g (lw_at lw_m4 20 rfl) rfl
theorem q810 : (Jvm.Cond.code ({ cls := "ChordNotHeard", name := "with", desc := "(JJ)J" } : Jvm.MethodName) prog_1_method_66_code (4 : Nat) (Option.some Jvm.ClassFile.FieldType.long)) ∈ lw_all := lw_g (lw_at lw_m4 21 rfl) rfl
theorem q811 : (Jvm.Cond.constantLong "ChordNotHeard" (322 : Nat) (31 : Int64)) ∈ lw_all := lw_g (lw_at lw_m4 22 rfl) rfl
theorem q812 : (Jvm.Cond.methodLink "ChordNotHeard" (330 : Nat) ({ cls := "ChordNotHeard", name := "withSorts", desc := "(J)J" } : Jvm.MethodName)) ∈ lw_all := lw_g (lw_at lw_m4 23 rfl) rfl
theorem q813 : (Jvm.Cond.privateMethod ({ cls := "ChordNotHeard", name := "withSorts", desc := "(J)J" } : Jvm.MethodName)) ∈ lw_tbl := lw_at lw_m4 24 rfl
theorem q814 : (Jvm.Cond.instanceMethod ({ cls := "ChordNotHeard", name := "withSorts", desc := "(J)J" } : Jvm.MethodName)) ∈ lw_all := lw_g (lw_at lw_m4 25 rfl) rfl
theorem q815 : (Jvm.Cond.code ({ cls := "ChordNotHeard", name := "withSorts", desc := "(J)J" } : Jvm.MethodName) prog_1_method_67_code (7 : Nat) (Option.some Jvm.ClassFile.FieldType.long)) ∈ lw_all := lw_g (lw_at lw_m4 26 rfl) rfl
theorem q1197 : (Jvm.Cond.castable "ChordNotHeard" "java/lang/Object") ∈ lw_tbl := lw_at lw_m5 168 rfl
theorem in_X0 : ∀ w ∈ wsX00, w ∈ lw_all := lw_in wsX00 [253, 255, 257, 259, 261, 263, 265, 267, 269, 271, 273, 275, 277, 279, 281, 283, 285, 287, 289, 291, 293, 295, 297, 299, 301, 303, 305, 307, 309, 311] (by decide +kernel) (by decide +kernel)
