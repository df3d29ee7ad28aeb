/-! ChordNotHeardModel -/
set_option maxRecDepth 100000
def RX2 : String := "ChordNotHeardModel"
def TX2 : u_T := fun k => match k with
  | 0 => ("ChordNotHeardModel", "page", "[I", true)
  | 1 => ("ChordNotHeardModel", "pageMany", "I", false)
  | 2 => ("ChordNotHeardModel", "likenesses", "I", false)
  | 3 => ("ChordNotHeardModel", "likes", "[I", true)
  | 4 => ("ChordNotHeardModel", "state", "I", false)
  | 5 => ("ChordNotHeardModel", "readMany", "I", false)
  | 6 => ("ChordNotHeardModel", "readRow", "[I", true)
  | 7 => ("ChordNotHeardModel", "strings", "I", false)
  | 8 => ("ChordNotHeardModel", "chords", "I", false)
  | 9 => ("ChordNotHeardModel", "chordRows", "[I", true)
  | 10 => ("ChordNotHeardModel", "sorts", "I", false)
  | 11 => ("ChordNotHeardModel", "sortOf", "[I", true)
  | 12 => ("ChordNotHeardModel", "leastOf", "[I", true)
  | 13 => ("ChordNotHeardModel", "heard", "I", false)
  | 14 => ("ChordNotHeardModel", "heardRow", "[I", true)
  | 15 => ("ChordNotHeardModel", "sheets", "I", false)
  | 16 => ("ChordNotHeardModel", "sheetRows", "[I", true)
  | 17 => ("ChordNotHeardModel", "changes", "I", false)
  | 18 => ("ChordNotHeardModel", "ways", "[J", true)
  | 19 => ("ChordNotHeardModel", "next", "[J", true)
  | 20 => ("ChordNotHeardModel", "told", "[I", true)
  | 21 => ("ChordNotHeardModel", "toldMany", "I", false)
  | 22 => ("ChordNotHeardModel", "readingMany", "I", false)
  | 23 => ("ChordNotHeardModel", "notHeard", "[I", true)
  | 24 => ("ChordNotHeardModel", "done", "I", false)
  | 25 => ("ChordNotHeardModel", "marks", "[I", true)
  | 26 => ("ChordNotHeardModel", "moreSorts", "[I", true)
  | 27 => ("ChordNotHeardModel", "moreHeard", "[I", true)
  | 28 => ("ChordNotHeardModel", "keptHeard", "I", false)
  | 29 => ("ChordNotHeardModel", "keptSheets", "I", false)
  | 30 => ("ChordNotHeardModel", "keptChanges", "I", false)
  | 31 => ("ChordNotHeardModel", "keptRow", "[I", true)
  | 32 => ("ChordNotHeardModel", "keptRows", "[I", true)
  | _ => ("ChordNotHeardModel", "hash", "J", false)
def tyX2 : Nat → FieldType := fun k => match k with
  | 0 => .array .int
  | 1 => .int
  | 2 => .int
  | 3 => .array .int
  | 4 => .int
  | 5 => .int
  | 6 => .array .int
  | 7 => .int
  | 8 => .int
  | 9 => .array .int
  | 10 => .int
  | 11 => .array .int
  | 12 => .array .int
  | 13 => .int
  | 14 => .array .int
  | 15 => .int
  | 16 => .array .int
  | 17 => .int
  | 18 => .array .long
  | 19 => .array .long
  | 20 => .array .int
  | 21 => .int
  | 22 => .int
  | 23 => .array .int
  | 24 => .int
  | 25 => .array .int
  | 26 => .array .int
  | 27 => .array .int
  | 28 => .int
  | 29 => .int
  | 30 => .int
  | 31 => .array .int
  | 32 => .array .int
  | _ => .long
abbrev wsX20 : List Cond := u_ws RX2 TX2 34
set_option maxRecDepth 100000 in
theorem nmX2 : ∀ a, a < 34 → ∀ b, b < 34 → a ≠ b → (TX2 a).2.1 ≠ (TX2 b).2.1 := by decide +kernel
set_option maxRecDepth 100000 in
theorem tyX2_ok : ∀ k, k < 34 → parseFieldDescriptor (TX2 k).2.2.1 = some (tyX2 k) := by decide +kernel
abbrev cX2_init : ByteArray := prog_10_method_1_code
def yX2_init : MethodName := ⟨RX2, "<init>", "()V"⟩
def dkwX2_init_6 : List UInt8 := [2, 181, 0, 63, 42, 16, 6, 181, 0, 67, 42, 182, 0, 70, 177]
abbrev dktX2_init_6 : List UInt8 := dkwX2_init_6 ++ []
def dkwX2_init_5 : List UInt8 := [16, 120, 188, 10, 181, 0, 54, 42, 16, 20, 188, 10, 181, 0, 57, 42, 16, 40, 188, 10, 181, 0, 60, 42]
abbrev dktX2_init_5 : List UInt8 := dkwX2_init_5 ++ dktX2_init_6
def dkwX2_init_4 : List UInt8 := [16, 12, 188, 10, 181, 0, 44, 42, 18, 47, 188, 10, 181, 0, 48, 42, 16, 120, 188, 10, 181, 0, 51, 42]
abbrev dktX2_init_4 : List UInt8 := dkwX2_init_4 ++ dktX2_init_5
def dkwX2_init_3 : List UInt8 := [16, 25, 188, 11, 181, 0, 34, 42, 16, 25, 188, 11, 181, 0, 38, 42, 16, 12, 188, 10, 181, 0, 41, 42]
abbrev dktX2_init_3 : List UInt8 := dkwX2_init_3 ++ dktX2_init_4
def dkwX2_init_2 : List UInt8 := [16, 120, 188, 10, 181, 0, 25, 42, 16, 20, 188, 10, 181, 0, 28, 42, 16, 40, 188, 10, 181, 0, 31, 42]
abbrev dktX2_init_2 : List UInt8 := dkwX2_init_2 ++ dktX2_init_3
def dkwX2_init_1 : List UInt8 := [188, 10, 181, 0, 16, 42, 17, 0, 252, 188, 10, 181, 0, 19, 42, 16, 120, 188, 10, 181, 0, 22, 42]
abbrev dktX2_init_1 : List UInt8 := dkwX2_init_1 ++ dktX2_init_2
def dkwX2_init_0 : List UInt8 := [42, 183, 0, 1, 42, 16, 20, 188, 10, 181, 0, 7, 42, 16, 8, 188, 10, 181, 0, 13, 42, 16, 8]
abbrev dktX2_init_0 : List UInt8 := dkwX2_init_0 ++ dktX2_init_1
theorem dksX2_init_0 : cX2_init.data.toList.drop 0 = dktX2_init_0 := by decide +kernel
theorem dksX2_init_1 : cX2_init.data.toList.drop 23 = dktX2_init_1 := dk_seg dksX2_init_0 23 rfl rfl
theorem dksX2_init_2 : cX2_init.data.toList.drop 46 = dktX2_init_2 := dk_seg dksX2_init_1 23 rfl rfl
theorem dksX2_init_3 : cX2_init.data.toList.drop 70 = dktX2_init_3 := dk_seg dksX2_init_2 24 rfl rfl
theorem dksX2_init_4 : cX2_init.data.toList.drop 94 = dktX2_init_4 := dk_seg dksX2_init_3 24 rfl rfl
theorem dksX2_init_5 : cX2_init.data.toList.drop 118 = dktX2_init_5 := dk_seg dksX2_init_4 24 rfl rfl
theorem dksX2_init_6 : cX2_init.data.toList.drop 142 = dktX2_init_6 := dk_seg dksX2_init_5 24 rfl rfl
theorem dX2_init_0 : decode cX2_init 0 = .ok (.aload_n 0, 1) := dk_42 (dk_at dksX2_init_0 0 rfl rfl)
theorem dX2_init_1 : decode cX2_init 1 = .ok (.invokespecial 1, 3) := dk_183 0 1 (dk_at dksX2_init_0 1 rfl rfl)
theorem dX2_init_4 : decode cX2_init 4 = .ok (.aload_n 0, 1) := dk_42 (dk_at dksX2_init_0 4 rfl rfl)
theorem dX2_init_5 : decode cX2_init 5 = .ok (.bipush 20, 2) := dk_16 20 (dk_at dksX2_init_0 5 rfl rfl)
theorem dX2_init_7 : decode cX2_init 7 = .ok (.newarray .int, 2) := dk_188_10 (dk_at dksX2_init_0 7 rfl rfl)
theorem dX2_init_9 : decode cX2_init 9 = .ok (.putfield 7, 3) := dk_181 0 7 (dk_at dksX2_init_0 9 rfl rfl)
theorem dX2_init_12 : decode cX2_init 12 = .ok (.aload_n 0, 1) := dk_42 (dk_at dksX2_init_0 12 rfl rfl)
theorem dX2_init_13 : decode cX2_init 13 = .ok (.bipush 8, 2) := dk_16 8 (dk_at dksX2_init_0 13 rfl rfl)
theorem dX2_init_15 : decode cX2_init 15 = .ok (.newarray .int, 2) := dk_188_10 (dk_at dksX2_init_0 15 rfl rfl)
theorem dX2_init_17 : decode cX2_init 17 = .ok (.putfield 13, 3) := dk_181 0 13 (dk_at dksX2_init_0 17 rfl rfl)
theorem dX2_init_20 : decode cX2_init 20 = .ok (.aload_n 0, 1) := dk_42 (dk_at dksX2_init_0 20 rfl rfl)
theorem dX2_init_21 : decode cX2_init 21 = .ok (.bipush 8, 2) := dk_16 8 (dk_at dksX2_init_0 21 rfl rfl)
theorem dX2_init_23 : decode cX2_init 23 = .ok (.newarray .int, 2) := dk_188_10 (dk_at dksX2_init_1 0 rfl rfl)
theorem dX2_init_25 : decode cX2_init 25 = .ok (.putfield 16, 3) := dk_181 0 16 (dk_at dksX2_init_1 2 rfl rfl)
theorem dX2_init_28 : decode cX2_init 28 = .ok (.aload_n 0, 1) := dk_42 (dk_at dksX2_init_1 5 rfl rfl)
theorem dX2_init_29 : decode cX2_init 29 = .ok (.sipush 252, 3) := dk_17 0 252 (dk_at dksX2_init_1 6 rfl rfl)
theorem dX2_init_32 : decode cX2_init 32 = .ok (.newarray .int, 2) := dk_188_10 (dk_at dksX2_init_1 9 rfl rfl)
theorem dX2_init_34 : decode cX2_init 34 = .ok (.putfield 19, 3) := dk_181 0 19 (dk_at dksX2_init_1 11 rfl rfl)
theorem dX2_init_37 : decode cX2_init 37 = .ok (.aload_n 0, 1) := dk_42 (dk_at dksX2_init_1 14 rfl rfl)
theorem dX2_init_38 : decode cX2_init 38 = .ok (.bipush 120, 2) := dk_16 120 (dk_at dksX2_init_1 15 rfl rfl)
theorem dX2_init_40 : decode cX2_init 40 = .ok (.newarray .int, 2) := dk_188_10 (dk_at dksX2_init_1 17 rfl rfl)
theorem dX2_init_42 : decode cX2_init 42 = .ok (.putfield 22, 3) := dk_181 0 22 (dk_at dksX2_init_1 19 rfl rfl)
theorem dX2_init_45 : decode cX2_init 45 = .ok (.aload_n 0, 1) := dk_42 (dk_at dksX2_init_1 22 rfl rfl)
theorem dX2_init_46 : decode cX2_init 46 = .ok (.bipush 120, 2) := dk_16 120 (dk_at dksX2_init_2 0 rfl rfl)
theorem dX2_init_48 : decode cX2_init 48 = .ok (.newarray .int, 2) := dk_188_10 (dk_at dksX2_init_2 2 rfl rfl)
theorem dX2_init_50 : decode cX2_init 50 = .ok (.putfield 25, 3) := dk_181 0 25 (dk_at dksX2_init_2 4 rfl rfl)
theorem dX2_init_53 : decode cX2_init 53 = .ok (.aload_n 0, 1) := dk_42 (dk_at dksX2_init_2 7 rfl rfl)
theorem dX2_init_54 : decode cX2_init 54 = .ok (.bipush 20, 2) := dk_16 20 (dk_at dksX2_init_2 8 rfl rfl)
theorem dX2_init_56 : decode cX2_init 56 = .ok (.newarray .int, 2) := dk_188_10 (dk_at dksX2_init_2 10 rfl rfl)
theorem dX2_init_58 : decode cX2_init 58 = .ok (.putfield 28, 3) := dk_181 0 28 (dk_at dksX2_init_2 12 rfl rfl)
theorem dX2_init_61 : decode cX2_init 61 = .ok (.aload_n 0, 1) := dk_42 (dk_at dksX2_init_2 15 rfl rfl)
theorem dX2_init_62 : decode cX2_init 62 = .ok (.bipush 40, 2) := dk_16 40 (dk_at dksX2_init_2 16 rfl rfl)
theorem dX2_init_64 : decode cX2_init 64 = .ok (.newarray .int, 2) := dk_188_10 (dk_at dksX2_init_2 18 rfl rfl)
theorem dX2_init_66 : decode cX2_init 66 = .ok (.putfield 31, 3) := dk_181 0 31 (dk_at dksX2_init_2 20 rfl rfl)
theorem dX2_init_69 : decode cX2_init 69 = .ok (.aload_n 0, 1) := dk_42 (dk_at dksX2_init_2 23 rfl rfl)
theorem dX2_init_70 : decode cX2_init 70 = .ok (.bipush 25, 2) := dk_16 25 (dk_at dksX2_init_3 0 rfl rfl)
theorem dX2_init_72 : decode cX2_init 72 = .ok (.newarray .long, 2) := dk_188_11 (dk_at dksX2_init_3 2 rfl rfl)
theorem dX2_init_74 : decode cX2_init 74 = .ok (.putfield 34, 3) := dk_181 0 34 (dk_at dksX2_init_3 4 rfl rfl)
theorem dX2_init_77 : decode cX2_init 77 = .ok (.aload_n 0, 1) := dk_42 (dk_at dksX2_init_3 7 rfl rfl)
theorem dX2_init_78 : decode cX2_init 78 = .ok (.bipush 25, 2) := dk_16 25 (dk_at dksX2_init_3 8 rfl rfl)
theorem dX2_init_80 : decode cX2_init 80 = .ok (.newarray .long, 2) := dk_188_11 (dk_at dksX2_init_3 10 rfl rfl)
theorem dX2_init_82 : decode cX2_init 82 = .ok (.putfield 38, 3) := dk_181 0 38 (dk_at dksX2_init_3 12 rfl rfl)
theorem dX2_init_85 : decode cX2_init 85 = .ok (.aload_n 0, 1) := dk_42 (dk_at dksX2_init_3 15 rfl rfl)
theorem dX2_init_86 : decode cX2_init 86 = .ok (.bipush 12, 2) := dk_16 12 (dk_at dksX2_init_3 16 rfl rfl)
theorem dX2_init_88 : decode cX2_init 88 = .ok (.newarray .int, 2) := dk_188_10 (dk_at dksX2_init_3 18 rfl rfl)
theorem dX2_init_90 : decode cX2_init 90 = .ok (.putfield 41, 3) := dk_181 0 41 (dk_at dksX2_init_3 20 rfl rfl)
theorem dX2_init_93 : decode cX2_init 93 = .ok (.aload_n 0, 1) := dk_42 (dk_at dksX2_init_3 23 rfl rfl)
theorem dX2_init_94 : decode cX2_init 94 = .ok (.bipush 12, 2) := dk_16 12 (dk_at dksX2_init_4 0 rfl rfl)
theorem dX2_init_96 : decode cX2_init 96 = .ok (.newarray .int, 2) := dk_188_10 (dk_at dksX2_init_4 2 rfl rfl)
theorem dX2_init_98 : decode cX2_init 98 = .ok (.putfield 44, 3) := dk_181 0 44 (dk_at dksX2_init_4 4 rfl rfl)
theorem dX2_init_101 : decode cX2_init 101 = .ok (.aload_n 0, 1) := dk_42 (dk_at dksX2_init_4 7 rfl rfl)
theorem dX2_init_102 : decode cX2_init 102 = .ok (.ldc 47, 2) := dk_18 47 (dk_at dksX2_init_4 8 rfl rfl)
theorem dX2_init_104 : decode cX2_init 104 = .ok (.newarray .int, 2) := dk_188_10 (dk_at dksX2_init_4 10 rfl rfl)
theorem dX2_init_106 : decode cX2_init 106 = .ok (.putfield 48, 3) := dk_181 0 48 (dk_at dksX2_init_4 12 rfl rfl)
theorem dX2_init_109 : decode cX2_init 109 = .ok (.aload_n 0, 1) := dk_42 (dk_at dksX2_init_4 15 rfl rfl)
theorem dX2_init_110 : decode cX2_init 110 = .ok (.bipush 120, 2) := dk_16 120 (dk_at dksX2_init_4 16 rfl rfl)
theorem dX2_init_112 : decode cX2_init 112 = .ok (.newarray .int, 2) := dk_188_10 (dk_at dksX2_init_4 18 rfl rfl)
theorem dX2_init_114 : decode cX2_init 114 = .ok (.putfield 51, 3) := dk_181 0 51 (dk_at dksX2_init_4 20 rfl rfl)
theorem dX2_init_117 : decode cX2_init 117 = .ok (.aload_n 0, 1) := dk_42 (dk_at dksX2_init_4 23 rfl rfl)
theorem dX2_init_118 : decode cX2_init 118 = .ok (.bipush 120, 2) := dk_16 120 (dk_at dksX2_init_5 0 rfl rfl)
theorem dX2_init_120 : decode cX2_init 120 = .ok (.newarray .int, 2) := dk_188_10 (dk_at dksX2_init_5 2 rfl rfl)
theorem dX2_init_122 : decode cX2_init 122 = .ok (.putfield 54, 3) := dk_181 0 54 (dk_at dksX2_init_5 4 rfl rfl)
theorem dX2_init_125 : decode cX2_init 125 = .ok (.aload_n 0, 1) := dk_42 (dk_at dksX2_init_5 7 rfl rfl)
theorem dX2_init_126 : decode cX2_init 126 = .ok (.bipush 20, 2) := dk_16 20 (dk_at dksX2_init_5 8 rfl rfl)
theorem dX2_init_128 : decode cX2_init 128 = .ok (.newarray .int, 2) := dk_188_10 (dk_at dksX2_init_5 10 rfl rfl)
theorem dX2_init_130 : decode cX2_init 130 = .ok (.putfield 57, 3) := dk_181 0 57 (dk_at dksX2_init_5 12 rfl rfl)
theorem dX2_init_133 : decode cX2_init 133 = .ok (.aload_n 0, 1) := dk_42 (dk_at dksX2_init_5 15 rfl rfl)
theorem dX2_init_134 : decode cX2_init 134 = .ok (.bipush 40, 2) := dk_16 40 (dk_at dksX2_init_5 16 rfl rfl)
theorem dX2_init_136 : decode cX2_init 136 = .ok (.newarray .int, 2) := dk_188_10 (dk_at dksX2_init_5 18 rfl rfl)
theorem dX2_init_138 : decode cX2_init 138 = .ok (.putfield 60, 3) := dk_181 0 60 (dk_at dksX2_init_5 20 rfl rfl)
theorem dX2_init_141 : decode cX2_init 141 = .ok (.aload_n 0, 1) := dk_42 (dk_at dksX2_init_5 23 rfl rfl)
theorem dX2_init_142 : decode cX2_init 142 = .ok (.iconst (-1), 1) := dk_2 (dk_at dksX2_init_6 0 rfl rfl)
theorem dX2_init_143 : decode cX2_init 143 = .ok (.putfield 63, 3) := dk_181 0 63 (dk_at dksX2_init_6 1 rfl rfl)
theorem dX2_init_146 : decode cX2_init 146 = .ok (.aload_n 0, 1) := dk_42 (dk_at dksX2_init_6 4 rfl rfl)
theorem dX2_init_147 : decode cX2_init 147 = .ok (.bipush 6, 2) := dk_16 6 (dk_at dksX2_init_6 5 rfl rfl)
theorem dX2_init_149 : decode cX2_init 149 = .ok (.putfield 67, 3) := dk_181 0 67 (dk_at dksX2_init_6 7 rfl rfl)
theorem dX2_init_152 : decode cX2_init 152 = .ok (.aload_n 0, 1) := dk_42 (dk_at dksX2_init_6 10 rfl rfl)
theorem dX2_init_153 : decode cX2_init 153 = .ok (.invokevirtual 70, 3) := dk_182 0 70 (dk_at dksX2_init_6 11 rfl rfl)
theorem dX2_init_156 : decode cX2_init 156 = .ok (.return_, 1) := dk_177 (dk_at dksX2_init_6 14 rfl rfl)
abbrev cX2_layChords : ByteArray := prog_10_method_8_code
def yX2_layChords : MethodName := ⟨RX2, "layChords", "()V"⟩
def dkwX2_layChords_6 : List UInt8 := [180, 0, 22, 27, 46, 27, 79, 132, 1, 255, 167, 255, 237, 177]
abbrev dktX2_layChords_6 : List UInt8 := dkwX2_layChords_6 ++ []
def dkwX2_layChords_5 : List UInt8 := [182, 0, 105, 181, 0, 109, 42, 180, 0, 102, 4, 100, 60, 27, 155, 0, 21, 42, 180, 0, 25, 42]
abbrev dktX2_layChords_5 : List UInt8 := dkwX2_layChords_5 ++ dktX2_layChords_6
def dkwX2_layChords_4 : List UInt8 := [132, 2, 1, 167, 255, 177, 132, 1, 1, 167, 255, 159, 42, 42, 42, 180, 0, 67, 42, 180, 0, 22]
abbrev dktX2_layChords_4 : List UInt8 := dkwX2_layChords_4 ++ dktX2_layChords_5
def dkwX2_layChords_3 : List UInt8 := [180, 0, 102, 104, 5, 96, 29, 79, 42, 89, 180, 0, 102, 4, 96, 181, 0, 102, 132, 3, 1, 167, 255, 195]
abbrev dktX2_layChords_3 : List UInt8 := dkwX2_layChords_3 ++ dktX2_layChords_4
def dkwX2_layChords_2 : List UInt8 := [104, 27, 79, 42, 180, 0, 19, 6, 42, 180, 0, 102, 104, 4, 96, 28, 79, 42, 180, 0, 19, 6, 42]
abbrev dktX2_layChords_2 : List UInt8 := dkwX2_layChords_2 ++ dktX2_layChords_3
def dkwX2_layChords_1 : List UInt8 := [162, 0, 77, 28, 4, 96, 62, 29, 42, 180, 0, 67, 162, 0, 59, 42, 180, 0, 19, 6, 42, 180, 0, 102]
abbrev dktX2_layChords_1 : List UInt8 := dkwX2_layChords_1 ++ dktX2_layChords_2
def dkwX2_layChords_0 : List UInt8 := [42, 3, 181, 0, 102, 3, 60, 27, 42, 180, 0, 67, 162, 0, 95, 27, 4, 96, 61, 28, 42, 180, 0, 67]
abbrev dktX2_layChords_0 : List UInt8 := dkwX2_layChords_0 ++ dktX2_layChords_1
theorem dksX2_layChords_0 : cX2_layChords.data.toList.drop 0 = dktX2_layChords_0 := by decide +kernel
theorem dksX2_layChords_1 : cX2_layChords.data.toList.drop 24 = dktX2_layChords_1 := dk_seg dksX2_layChords_0 24 rfl rfl
theorem dksX2_layChords_2 : cX2_layChords.data.toList.drop 48 = dktX2_layChords_2 := dk_seg dksX2_layChords_1 24 rfl rfl
theorem dksX2_layChords_3 : cX2_layChords.data.toList.drop 71 = dktX2_layChords_3 := dk_seg dksX2_layChords_2 23 rfl rfl
theorem dksX2_layChords_4 : cX2_layChords.data.toList.drop 95 = dktX2_layChords_4 := dk_seg dksX2_layChords_3 24 rfl rfl
theorem dksX2_layChords_5 : cX2_layChords.data.toList.drop 117 = dktX2_layChords_5 := dk_seg dksX2_layChords_4 22 rfl rfl
theorem dksX2_layChords_6 : cX2_layChords.data.toList.drop 139 = dktX2_layChords_6 := dk_seg dksX2_layChords_5 22 rfl rfl
theorem dX2_layChords_0 : decode cX2_layChords 0 = .ok (.aload_n 0, 1) := dk_42 (dk_at dksX2_layChords_0 0 rfl rfl)
theorem dX2_layChords_1 : decode cX2_layChords 1 = .ok (.iconst 0, 1) := dk_3 (dk_at dksX2_layChords_0 1 rfl rfl)
theorem dX2_layChords_2 : decode cX2_layChords 2 = .ok (.putfield 102, 3) := dk_181 0 102 (dk_at dksX2_layChords_0 2 rfl rfl)
theorem dX2_layChords_5 : decode cX2_layChords 5 = .ok (.iconst 0, 1) := dk_3 (dk_at dksX2_layChords_0 5 rfl rfl)
theorem dX2_layChords_6 : decode cX2_layChords 6 = .ok (.istore_n 1, 1) := dk_60 (dk_at dksX2_layChords_0 6 rfl rfl)
theorem dX2_layChords_7 : decode cX2_layChords 7 = .ok (.iload_n 1, 1) := dk_27 (dk_at dksX2_layChords_0 7 rfl rfl)
theorem dX2_layChords_8 : decode cX2_layChords 8 = .ok (.aload_n 0, 1) := dk_42 (dk_at dksX2_layChords_0 8 rfl rfl)
theorem dX2_layChords_9 : decode cX2_layChords 9 = .ok (.getfield 67, 3) := dk_180 0 67 (dk_at dksX2_layChords_0 9 rfl rfl)
theorem dX2_layChords_12 : decode cX2_layChords 12 = .ok (.if_icmp .ge 95, 3) := dk_162 0 95 (dk_at dksX2_layChords_0 12 rfl rfl)
theorem dX2_layChords_15 : decode cX2_layChords 15 = .ok (.iload_n 1, 1) := dk_27 (dk_at dksX2_layChords_0 15 rfl rfl)
theorem dX2_layChords_16 : decode cX2_layChords 16 = .ok (.iconst 1, 1) := dk_4 (dk_at dksX2_layChords_0 16 rfl rfl)
theorem dX2_layChords_17 : decode cX2_layChords 17 = .ok (.iadd, 1) := dk_96 (dk_at dksX2_layChords_0 17 rfl rfl)
theorem dX2_layChords_18 : decode cX2_layChords 18 = .ok (.istore_n 2, 1) := dk_61 (dk_at dksX2_layChords_0 18 rfl rfl)
theorem dX2_layChords_19 : decode cX2_layChords 19 = .ok (.iload_n 2, 1) := dk_28 (dk_at dksX2_layChords_0 19 rfl rfl)
theorem dX2_layChords_20 : decode cX2_layChords 20 = .ok (.aload_n 0, 1) := dk_42 (dk_at dksX2_layChords_0 20 rfl rfl)
theorem dX2_layChords_21 : decode cX2_layChords 21 = .ok (.getfield 67, 3) := dk_180 0 67 (dk_at dksX2_layChords_0 21 rfl rfl)
theorem dX2_layChords_24 : decode cX2_layChords 24 = .ok (.if_icmp .ge 77, 3) := dk_162 0 77 (dk_at dksX2_layChords_1 0 rfl rfl)
theorem dX2_layChords_27 : decode cX2_layChords 27 = .ok (.iload_n 2, 1) := dk_28 (dk_at dksX2_layChords_1 3 rfl rfl)
theorem dX2_layChords_28 : decode cX2_layChords 28 = .ok (.iconst 1, 1) := dk_4 (dk_at dksX2_layChords_1 4 rfl rfl)
theorem dX2_layChords_29 : decode cX2_layChords 29 = .ok (.iadd, 1) := dk_96 (dk_at dksX2_layChords_1 5 rfl rfl)
theorem dX2_layChords_30 : decode cX2_layChords 30 = .ok (.istore_n 3, 1) := dk_62 (dk_at dksX2_layChords_1 6 rfl rfl)
theorem dX2_layChords_31 : decode cX2_layChords 31 = .ok (.iload_n 3, 1) := dk_29 (dk_at dksX2_layChords_1 7 rfl rfl)
theorem dX2_layChords_32 : decode cX2_layChords 32 = .ok (.aload_n 0, 1) := dk_42 (dk_at dksX2_layChords_1 8 rfl rfl)
theorem dX2_layChords_33 : decode cX2_layChords 33 = .ok (.getfield 67, 3) := dk_180 0 67 (dk_at dksX2_layChords_1 9 rfl rfl)
theorem dX2_layChords_36 : decode cX2_layChords 36 = .ok (.if_icmp .ge 59, 3) := dk_162 0 59 (dk_at dksX2_layChords_1 12 rfl rfl)
theorem dX2_layChords_39 : decode cX2_layChords 39 = .ok (.aload_n 0, 1) := dk_42 (dk_at dksX2_layChords_1 15 rfl rfl)
theorem dX2_layChords_40 : decode cX2_layChords 40 = .ok (.getfield 19, 3) := dk_180 0 19 (dk_at dksX2_layChords_1 16 rfl rfl)
theorem dX2_layChords_43 : decode cX2_layChords 43 = .ok (.iconst 3, 1) := dk_6 (dk_at dksX2_layChords_1 19 rfl rfl)
theorem dX2_layChords_44 : decode cX2_layChords 44 = .ok (.aload_n 0, 1) := dk_42 (dk_at dksX2_layChords_1 20 rfl rfl)
theorem dX2_layChords_45 : decode cX2_layChords 45 = .ok (.getfield 102, 3) := dk_180 0 102 (dk_at dksX2_layChords_1 21 rfl rfl)
theorem dX2_layChords_48 : decode cX2_layChords 48 = .ok (.imul, 1) := dk_104 (dk_at dksX2_layChords_2 0 rfl rfl)
theorem dX2_layChords_49 : decode cX2_layChords 49 = .ok (.iload_n 1, 1) := dk_27 (dk_at dksX2_layChords_2 1 rfl rfl)
theorem dX2_layChords_50 : decode cX2_layChords 50 = .ok (.iastore, 1) := dk_79 (dk_at dksX2_layChords_2 2 rfl rfl)
theorem dX2_layChords_51 : decode cX2_layChords 51 = .ok (.aload_n 0, 1) := dk_42 (dk_at dksX2_layChords_2 3 rfl rfl)
theorem dX2_layChords_52 : decode cX2_layChords 52 = .ok (.getfield 19, 3) := dk_180 0 19 (dk_at dksX2_layChords_2 4 rfl rfl)
theorem dX2_layChords_55 : decode cX2_layChords 55 = .ok (.iconst 3, 1) := dk_6 (dk_at dksX2_layChords_2 7 rfl rfl)
theorem dX2_layChords_56 : decode cX2_layChords 56 = .ok (.aload_n 0, 1) := dk_42 (dk_at dksX2_layChords_2 8 rfl rfl)
theorem dX2_layChords_57 : decode cX2_layChords 57 = .ok (.getfield 102, 3) := dk_180 0 102 (dk_at dksX2_layChords_2 9 rfl rfl)
theorem dX2_layChords_60 : decode cX2_layChords 60 = .ok (.imul, 1) := dk_104 (dk_at dksX2_layChords_2 12 rfl rfl)
theorem dX2_layChords_61 : decode cX2_layChords 61 = .ok (.iconst 1, 1) := dk_4 (dk_at dksX2_layChords_2 13 rfl rfl)
theorem dX2_layChords_62 : decode cX2_layChords 62 = .ok (.iadd, 1) := dk_96 (dk_at dksX2_layChords_2 14 rfl rfl)
theorem dX2_layChords_63 : decode cX2_layChords 63 = .ok (.iload_n 2, 1) := dk_28 (dk_at dksX2_layChords_2 15 rfl rfl)
theorem dX2_layChords_64 : decode cX2_layChords 64 = .ok (.iastore, 1) := dk_79 (dk_at dksX2_layChords_2 16 rfl rfl)
theorem dX2_layChords_65 : decode cX2_layChords 65 = .ok (.aload_n 0, 1) := dk_42 (dk_at dksX2_layChords_2 17 rfl rfl)
theorem dX2_layChords_66 : decode cX2_layChords 66 = .ok (.getfield 19, 3) := dk_180 0 19 (dk_at dksX2_layChords_2 18 rfl rfl)
theorem dX2_layChords_69 : decode cX2_layChords 69 = .ok (.iconst 3, 1) := dk_6 (dk_at dksX2_layChords_2 21 rfl rfl)
theorem dX2_layChords_70 : decode cX2_layChords 70 = .ok (.aload_n 0, 1) := dk_42 (dk_at dksX2_layChords_2 22 rfl rfl)
theorem dX2_layChords_71 : decode cX2_layChords 71 = .ok (.getfield 102, 3) := dk_180 0 102 (dk_at dksX2_layChords_3 0 rfl rfl)
theorem dX2_layChords_74 : decode cX2_layChords 74 = .ok (.imul, 1) := dk_104 (dk_at dksX2_layChords_3 3 rfl rfl)
theorem dX2_layChords_75 : decode cX2_layChords 75 = .ok (.iconst 2, 1) := dk_5 (dk_at dksX2_layChords_3 4 rfl rfl)
theorem dX2_layChords_76 : decode cX2_layChords 76 = .ok (.iadd, 1) := dk_96 (dk_at dksX2_layChords_3 5 rfl rfl)
theorem dX2_layChords_77 : decode cX2_layChords 77 = .ok (.iload_n 3, 1) := dk_29 (dk_at dksX2_layChords_3 6 rfl rfl)
theorem dX2_layChords_78 : decode cX2_layChords 78 = .ok (.iastore, 1) := dk_79 (dk_at dksX2_layChords_3 7 rfl rfl)
theorem dX2_layChords_79 : decode cX2_layChords 79 = .ok (.aload_n 0, 1) := dk_42 (dk_at dksX2_layChords_3 8 rfl rfl)
theorem dX2_layChords_80 : decode cX2_layChords 80 = .ok (.dup, 1) := dk_89 (dk_at dksX2_layChords_3 9 rfl rfl)
theorem dX2_layChords_81 : decode cX2_layChords 81 = .ok (.getfield 102, 3) := dk_180 0 102 (dk_at dksX2_layChords_3 10 rfl rfl)
theorem dX2_layChords_84 : decode cX2_layChords 84 = .ok (.iconst 1, 1) := dk_4 (dk_at dksX2_layChords_3 13 rfl rfl)
theorem dX2_layChords_85 : decode cX2_layChords 85 = .ok (.iadd, 1) := dk_96 (dk_at dksX2_layChords_3 14 rfl rfl)
theorem dX2_layChords_86 : decode cX2_layChords 86 = .ok (.putfield 102, 3) := dk_181 0 102 (dk_at dksX2_layChords_3 15 rfl rfl)
theorem dX2_layChords_89 : decode cX2_layChords 89 = .ok (.iinc 3 1, 3) := dk_132 3 1 (dk_at dksX2_layChords_3 18 rfl rfl)
theorem dX2_layChords_92 : decode cX2_layChords 92 = .ok (.goto (-61), 3) := dk_167 255 195 (dk_at dksX2_layChords_3 21 rfl rfl)
theorem dX2_layChords_95 : decode cX2_layChords 95 = .ok (.iinc 2 1, 3) := dk_132 2 1 (dk_at dksX2_layChords_4 0 rfl rfl)
theorem dX2_layChords_98 : decode cX2_layChords 98 = .ok (.goto (-79), 3) := dk_167 255 177 (dk_at dksX2_layChords_4 3 rfl rfl)
theorem dX2_layChords_101 : decode cX2_layChords 101 = .ok (.iinc 1 1, 3) := dk_132 1 1 (dk_at dksX2_layChords_4 6 rfl rfl)
theorem dX2_layChords_104 : decode cX2_layChords 104 = .ok (.goto (-97), 3) := dk_167 255 159 (dk_at dksX2_layChords_4 9 rfl rfl)
theorem dX2_layChords_107 : decode cX2_layChords 107 = .ok (.aload_n 0, 1) := dk_42 (dk_at dksX2_layChords_4 12 rfl rfl)
theorem dX2_layChords_108 : decode cX2_layChords 108 = .ok (.aload_n 0, 1) := dk_42 (dk_at dksX2_layChords_4 13 rfl rfl)
theorem dX2_layChords_109 : decode cX2_layChords 109 = .ok (.aload_n 0, 1) := dk_42 (dk_at dksX2_layChords_4 14 rfl rfl)
theorem dX2_layChords_110 : decode cX2_layChords 110 = .ok (.getfield 67, 3) := dk_180 0 67 (dk_at dksX2_layChords_4 15 rfl rfl)
theorem dX2_layChords_113 : decode cX2_layChords 113 = .ok (.aload_n 0, 1) := dk_42 (dk_at dksX2_layChords_4 18 rfl rfl)
theorem dX2_layChords_114 : decode cX2_layChords 114 = .ok (.getfield 22, 3) := dk_180 0 22 (dk_at dksX2_layChords_4 19 rfl rfl)
theorem dX2_layChords_117 : decode cX2_layChords 117 = .ok (.invokevirtual 105, 3) := dk_182 0 105 (dk_at dksX2_layChords_5 0 rfl rfl)
theorem dX2_layChords_120 : decode cX2_layChords 120 = .ok (.putfield 109, 3) := dk_181 0 109 (dk_at dksX2_layChords_5 3 rfl rfl)
theorem dX2_layChords_123 : decode cX2_layChords 123 = .ok (.aload_n 0, 1) := dk_42 (dk_at dksX2_layChords_5 6 rfl rfl)
theorem dX2_layChords_124 : decode cX2_layChords 124 = .ok (.getfield 102, 3) := dk_180 0 102 (dk_at dksX2_layChords_5 7 rfl rfl)
theorem dX2_layChords_127 : decode cX2_layChords 127 = .ok (.iconst 1, 1) := dk_4 (dk_at dksX2_layChords_5 10 rfl rfl)
theorem dX2_layChords_128 : decode cX2_layChords 128 = .ok (.isub, 1) := dk_100 (dk_at dksX2_layChords_5 11 rfl rfl)
theorem dX2_layChords_129 : decode cX2_layChords 129 = .ok (.istore_n 1, 1) := dk_60 (dk_at dksX2_layChords_5 12 rfl rfl)
theorem dX2_layChords_130 : decode cX2_layChords 130 = .ok (.iload_n 1, 1) := dk_27 (dk_at dksX2_layChords_5 13 rfl rfl)
theorem dX2_layChords_131 : decode cX2_layChords 131 = .ok (.ifCond .lt 21, 3) := dk_155 0 21 (dk_at dksX2_layChords_5 14 rfl rfl)
theorem dX2_layChords_134 : decode cX2_layChords 134 = .ok (.aload_n 0, 1) := dk_42 (dk_at dksX2_layChords_5 17 rfl rfl)
theorem dX2_layChords_135 : decode cX2_layChords 135 = .ok (.getfield 25, 3) := dk_180 0 25 (dk_at dksX2_layChords_5 18 rfl rfl)
theorem dX2_layChords_138 : decode cX2_layChords 138 = .ok (.aload_n 0, 1) := dk_42 (dk_at dksX2_layChords_5 21 rfl rfl)
theorem dX2_layChords_139 : decode cX2_layChords 139 = .ok (.getfield 22, 3) := dk_180 0 22 (dk_at dksX2_layChords_6 0 rfl rfl)
theorem dX2_layChords_142 : decode cX2_layChords 142 = .ok (.iload_n 1, 1) := dk_27 (dk_at dksX2_layChords_6 3 rfl rfl)
theorem dX2_layChords_143 : decode cX2_layChords 143 = .ok (.iaload, 1) := dk_46 (dk_at dksX2_layChords_6 4 rfl rfl)
theorem dX2_layChords_144 : decode cX2_layChords 144 = .ok (.iload_n 1, 1) := dk_27 (dk_at dksX2_layChords_6 5 rfl rfl)
theorem dX2_layChords_145 : decode cX2_layChords 145 = .ok (.iastore, 1) := dk_79 (dk_at dksX2_layChords_6 6 rfl rfl)
theorem dX2_layChords_146 : decode cX2_layChords 146 = .ok (.iinc 1 (-1), 3) := dk_132 1 255 (dk_at dksX2_layChords_6 7 rfl rfl)
theorem dX2_layChords_149 : decode cX2_layChords 149 = .ok (.goto (-19), 3) := dk_167 255 237 (dk_at dksX2_layChords_6 10 rfl rfl)
theorem dX2_layChords_152 : decode cX2_layChords 152 = .ok (.return_, 1) := dk_177 (dk_at dksX2_layChords_6 13 rfl rfl)
abbrev cX2_laySorts : ByteArray := prog_10_method_11_code
def yX2_laySorts : MethodName := ⟨RX2, "laySorts", "(I[I)I"⟩
def dkwX2_laySorts_11 : List UInt8 := [79, 132, 6, 1, 167, 255, 216, 21, 5, 172]
abbrev dktX2_laySorts_11 : List UInt8 := dkwX2_laySorts_11 ++ []
def dkwX2_laySorts_10 : List UInt8 := [160, 0, 15, 44, 21, 6, 21, 5, 79, 132, 5, 1, 167, 0, 13, 44, 21, 6, 44, 44, 21, 6, 46, 46]
abbrev dktX2_laySorts_10 : List UInt8 := dkwX2_laySorts_10 ++ dktX2_laySorts_11
def dkwX2_laySorts_9 : List UInt8 := [167, 255, 98, 167, 255, 81, 3, 54, 5, 3, 54, 6, 21, 6, 29, 162, 0, 40, 44, 21, 6, 46, 21, 6]
abbrev dktX2_laySorts_9 : List UInt8 := dkwX2_laySorts_9 ++ dktX2_laySorts_10
def dkwX2_laySorts_8 : List UInt8 := [132, 9, 1, 167, 255, 152, 132, 5, 1, 132, 8, 1, 167, 255, 134, 132, 7, 1, 167, 255, 116, 132, 6, 1]
abbrev dktX2_laySorts_8 : List UInt8 := dkwX2_laySorts_8 ++ dktX2_laySorts_9
def dkwX2_laySorts_7 : List UInt8 := [159, 0, 7, 4, 167, 0, 4, 3, 54, 4, 44, 21, 5, 21, 11, 79, 44, 21, 10, 21, 11, 79]
abbrev dktX2_laySorts_7 : List UInt8 := dkwX2_laySorts_7 ++ dktX2_laySorts_8
def dkwX2_laySorts_6 : List UInt8 := [167, 0, 7, 44, 21, 10, 46, 54, 11, 21, 4, 154, 0, 14, 44, 21, 5, 46, 44, 21, 10, 46]
abbrev dktX2_laySorts_6 : List UInt8 := dkwX2_laySorts_6 ++ dktX2_laySorts_7
def dkwX2_laySorts_5 : List UInt8 := [182, 0, 115, 27, 184, 0, 119, 54, 10, 44, 21, 5, 46, 44, 21, 10, 46, 162, 0, 10, 44, 21, 5, 46]
abbrev dktX2_laySorts_5 : List UInt8 := dkwX2_laySorts_5 ++ dktX2_laySorts_6
def dkwX2_laySorts_4 : List UInt8 := [42, 21, 9, 21, 6, 27, 182, 0, 115, 42, 21, 9, 21, 7, 27, 182, 0, 115, 42, 21, 9, 21, 8, 27]
abbrev dktX2_laySorts_4 : List UInt8 := dkwX2_laySorts_4 ++ dktX2_laySorts_5
def dkwX2_laySorts_3 : List UInt8 := [21, 7, 4, 96, 54, 8, 21, 8, 27, 162, 0, 122, 3, 54, 9, 21, 9, 42, 180, 0, 112, 162, 0, 101]
abbrev dktX2_laySorts_3 : List UInt8 := dkwX2_laySorts_3 ++ dktX2_laySorts_4
def dkwX2_laySorts_2 : List UInt8 := [54, 5, 3, 54, 6, 21, 6, 27, 162, 0, 158, 21, 6, 4, 96, 54, 7, 21, 7, 27, 162, 0, 140]
abbrev dktX2_laySorts_2 : List UInt8 := dkwX2_laySorts_2 ++ dktX2_laySorts_3
def dkwX2_laySorts_1 : List UInt8 := [21, 4, 21, 4, 79, 132, 4, 1, 167, 255, 241, 4, 54, 4, 21, 4, 153, 0, 176, 3, 54, 4, 3]
abbrev dktX2_laySorts_1 : List UInt8 := dkwX2_laySorts_1 ++ dktX2_laySorts_2
def dkwX2_laySorts_0 : List UInt8 := [27, 27, 4, 100, 104, 27, 5, 100, 104, 16, 6, 108, 62, 3, 54, 4, 21, 4, 29, 162, 0, 15, 44]
abbrev dktX2_laySorts_0 : List UInt8 := dkwX2_laySorts_0 ++ dktX2_laySorts_1
theorem dksX2_laySorts_0 : cX2_laySorts.data.toList.drop 0 = dktX2_laySorts_0 := by decide +kernel
theorem dksX2_laySorts_1 : cX2_laySorts.data.toList.drop 23 = dktX2_laySorts_1 := dk_seg dksX2_laySorts_0 23 rfl rfl
theorem dksX2_laySorts_2 : cX2_laySorts.data.toList.drop 46 = dktX2_laySorts_2 := dk_seg dksX2_laySorts_1 23 rfl rfl
theorem dksX2_laySorts_3 : cX2_laySorts.data.toList.drop 69 = dktX2_laySorts_3 := dk_seg dksX2_laySorts_2 23 rfl rfl
theorem dksX2_laySorts_4 : cX2_laySorts.data.toList.drop 93 = dktX2_laySorts_4 := dk_seg dksX2_laySorts_3 24 rfl rfl
theorem dksX2_laySorts_5 : cX2_laySorts.data.toList.drop 117 = dktX2_laySorts_5 := dk_seg dksX2_laySorts_4 24 rfl rfl
theorem dksX2_laySorts_6 : cX2_laySorts.data.toList.drop 141 = dktX2_laySorts_6 := dk_seg dksX2_laySorts_5 24 rfl rfl
theorem dksX2_laySorts_7 : cX2_laySorts.data.toList.drop 163 = dktX2_laySorts_7 := dk_seg dksX2_laySorts_6 22 rfl rfl
theorem dksX2_laySorts_8 : cX2_laySorts.data.toList.drop 185 = dktX2_laySorts_8 := dk_seg dksX2_laySorts_7 22 rfl rfl
theorem dksX2_laySorts_9 : cX2_laySorts.data.toList.drop 209 = dktX2_laySorts_9 := dk_seg dksX2_laySorts_8 24 rfl rfl
theorem dksX2_laySorts_10 : cX2_laySorts.data.toList.drop 233 = dktX2_laySorts_10 := dk_seg dksX2_laySorts_9 24 rfl rfl
theorem dksX2_laySorts_11 : cX2_laySorts.data.toList.drop 257 = dktX2_laySorts_11 := dk_seg dksX2_laySorts_10 24 rfl rfl
theorem dX2_laySorts_0 : decode cX2_laySorts 0 = .ok (.iload_n 1, 1) := dk_27 (dk_at dksX2_laySorts_0 0 rfl rfl)
theorem dX2_laySorts_1 : decode cX2_laySorts 1 = .ok (.iload_n 1, 1) := dk_27 (dk_at dksX2_laySorts_0 1 rfl rfl)
theorem dX2_laySorts_2 : decode cX2_laySorts 2 = .ok (.iconst 1, 1) := dk_4 (dk_at dksX2_laySorts_0 2 rfl rfl)
theorem dX2_laySorts_3 : decode cX2_laySorts 3 = .ok (.isub, 1) := dk_100 (dk_at dksX2_laySorts_0 3 rfl rfl)
theorem dX2_laySorts_4 : decode cX2_laySorts 4 = .ok (.imul, 1) := dk_104 (dk_at dksX2_laySorts_0 4 rfl rfl)
theorem dX2_laySorts_5 : decode cX2_laySorts 5 = .ok (.iload_n 1, 1) := dk_27 (dk_at dksX2_laySorts_0 5 rfl rfl)
theorem dX2_laySorts_6 : decode cX2_laySorts 6 = .ok (.iconst 2, 1) := dk_5 (dk_at dksX2_laySorts_0 6 rfl rfl)
theorem dX2_laySorts_7 : decode cX2_laySorts 7 = .ok (.isub, 1) := dk_100 (dk_at dksX2_laySorts_0 7 rfl rfl)
theorem dX2_laySorts_8 : decode cX2_laySorts 8 = .ok (.imul, 1) := dk_104 (dk_at dksX2_laySorts_0 8 rfl rfl)
theorem dX2_laySorts_9 : decode cX2_laySorts 9 = .ok (.bipush 6, 2) := dk_16 6 (dk_at dksX2_laySorts_0 9 rfl rfl)
theorem dX2_laySorts_11 : decode cX2_laySorts 11 = .ok (.idiv, 1) := dk_108 (dk_at dksX2_laySorts_0 11 rfl rfl)
theorem dX2_laySorts_12 : decode cX2_laySorts 12 = .ok (.istore_n 3, 1) := dk_62 (dk_at dksX2_laySorts_0 12 rfl rfl)
theorem dX2_laySorts_13 : decode cX2_laySorts 13 = .ok (.iconst 0, 1) := dk_3 (dk_at dksX2_laySorts_0 13 rfl rfl)
theorem dX2_laySorts_14 : decode cX2_laySorts 14 = .ok (.istore 4, 2) := dk_54 4 (dk_at dksX2_laySorts_0 14 rfl rfl)
theorem dX2_laySorts_16 : decode cX2_laySorts 16 = .ok (.iload 4, 2) := dk_21 4 (dk_at dksX2_laySorts_0 16 rfl rfl)
theorem dX2_laySorts_18 : decode cX2_laySorts 18 = .ok (.iload_n 3, 1) := dk_29 (dk_at dksX2_laySorts_0 18 rfl rfl)
theorem dX2_laySorts_19 : decode cX2_laySorts 19 = .ok (.if_icmp .ge 15, 3) := dk_162 0 15 (dk_at dksX2_laySorts_0 19 rfl rfl)
theorem dX2_laySorts_22 : decode cX2_laySorts 22 = .ok (.aload_n 2, 1) := dk_44 (dk_at dksX2_laySorts_0 22 rfl rfl)
theorem dX2_laySorts_23 : decode cX2_laySorts 23 = .ok (.iload 4, 2) := dk_21 4 (dk_at dksX2_laySorts_1 0 rfl rfl)
theorem dX2_laySorts_25 : decode cX2_laySorts 25 = .ok (.iload 4, 2) := dk_21 4 (dk_at dksX2_laySorts_1 2 rfl rfl)
theorem dX2_laySorts_27 : decode cX2_laySorts 27 = .ok (.iastore, 1) := dk_79 (dk_at dksX2_laySorts_1 4 rfl rfl)
theorem dX2_laySorts_28 : decode cX2_laySorts 28 = .ok (.iinc 4 1, 3) := dk_132 4 1 (dk_at dksX2_laySorts_1 5 rfl rfl)
theorem dX2_laySorts_31 : decode cX2_laySorts 31 = .ok (.goto (-15), 3) := dk_167 255 241 (dk_at dksX2_laySorts_1 8 rfl rfl)
theorem dX2_laySorts_34 : decode cX2_laySorts 34 = .ok (.iconst 1, 1) := dk_4 (dk_at dksX2_laySorts_1 11 rfl rfl)
theorem dX2_laySorts_35 : decode cX2_laySorts 35 = .ok (.istore 4, 2) := dk_54 4 (dk_at dksX2_laySorts_1 12 rfl rfl)
theorem dX2_laySorts_37 : decode cX2_laySorts 37 = .ok (.iload 4, 2) := dk_21 4 (dk_at dksX2_laySorts_1 14 rfl rfl)
theorem dX2_laySorts_39 : decode cX2_laySorts 39 = .ok (.ifCond .eq 176, 3) := dk_153 0 176 (dk_at dksX2_laySorts_1 16 rfl rfl)
theorem dX2_laySorts_42 : decode cX2_laySorts 42 = .ok (.iconst 0, 1) := dk_3 (dk_at dksX2_laySorts_1 19 rfl rfl)
theorem dX2_laySorts_43 : decode cX2_laySorts 43 = .ok (.istore 4, 2) := dk_54 4 (dk_at dksX2_laySorts_1 20 rfl rfl)
theorem dX2_laySorts_45 : decode cX2_laySorts 45 = .ok (.iconst 0, 1) := dk_3 (dk_at dksX2_laySorts_1 22 rfl rfl)
theorem dX2_laySorts_46 : decode cX2_laySorts 46 = .ok (.istore 5, 2) := dk_54 5 (dk_at dksX2_laySorts_2 0 rfl rfl)
theorem dX2_laySorts_48 : decode cX2_laySorts 48 = .ok (.iconst 0, 1) := dk_3 (dk_at dksX2_laySorts_2 2 rfl rfl)
theorem dX2_laySorts_49 : decode cX2_laySorts 49 = .ok (.istore 6, 2) := dk_54 6 (dk_at dksX2_laySorts_2 3 rfl rfl)
theorem dX2_laySorts_51 : decode cX2_laySorts 51 = .ok (.iload 6, 2) := dk_21 6 (dk_at dksX2_laySorts_2 5 rfl rfl)
theorem dX2_laySorts_53 : decode cX2_laySorts 53 = .ok (.iload_n 1, 1) := dk_27 (dk_at dksX2_laySorts_2 7 rfl rfl)
theorem dX2_laySorts_54 : decode cX2_laySorts 54 = .ok (.if_icmp .ge 158, 3) := dk_162 0 158 (dk_at dksX2_laySorts_2 8 rfl rfl)
theorem dX2_laySorts_57 : decode cX2_laySorts 57 = .ok (.iload 6, 2) := dk_21 6 (dk_at dksX2_laySorts_2 11 rfl rfl)
theorem dX2_laySorts_59 : decode cX2_laySorts 59 = .ok (.iconst 1, 1) := dk_4 (dk_at dksX2_laySorts_2 13 rfl rfl)
theorem dX2_laySorts_60 : decode cX2_laySorts 60 = .ok (.iadd, 1) := dk_96 (dk_at dksX2_laySorts_2 14 rfl rfl)
theorem dX2_laySorts_61 : decode cX2_laySorts 61 = .ok (.istore 7, 2) := dk_54 7 (dk_at dksX2_laySorts_2 15 rfl rfl)
theorem dX2_laySorts_63 : decode cX2_laySorts 63 = .ok (.iload 7, 2) := dk_21 7 (dk_at dksX2_laySorts_2 17 rfl rfl)
theorem dX2_laySorts_65 : decode cX2_laySorts 65 = .ok (.iload_n 1, 1) := dk_27 (dk_at dksX2_laySorts_2 19 rfl rfl)
theorem dX2_laySorts_66 : decode cX2_laySorts 66 = .ok (.if_icmp .ge 140, 3) := dk_162 0 140 (dk_at dksX2_laySorts_2 20 rfl rfl)
theorem dX2_laySorts_69 : decode cX2_laySorts 69 = .ok (.iload 7, 2) := dk_21 7 (dk_at dksX2_laySorts_3 0 rfl rfl)
theorem dX2_laySorts_71 : decode cX2_laySorts 71 = .ok (.iconst 1, 1) := dk_4 (dk_at dksX2_laySorts_3 2 rfl rfl)
theorem dX2_laySorts_72 : decode cX2_laySorts 72 = .ok (.iadd, 1) := dk_96 (dk_at dksX2_laySorts_3 3 rfl rfl)
theorem dX2_laySorts_73 : decode cX2_laySorts 73 = .ok (.istore 8, 2) := dk_54 8 (dk_at dksX2_laySorts_3 4 rfl rfl)
theorem dX2_laySorts_75 : decode cX2_laySorts 75 = .ok (.iload 8, 2) := dk_21 8 (dk_at dksX2_laySorts_3 6 rfl rfl)
theorem dX2_laySorts_77 : decode cX2_laySorts 77 = .ok (.iload_n 1, 1) := dk_27 (dk_at dksX2_laySorts_3 8 rfl rfl)
theorem dX2_laySorts_78 : decode cX2_laySorts 78 = .ok (.if_icmp .ge 122, 3) := dk_162 0 122 (dk_at dksX2_laySorts_3 9 rfl rfl)
theorem dX2_laySorts_81 : decode cX2_laySorts 81 = .ok (.iconst 0, 1) := dk_3 (dk_at dksX2_laySorts_3 12 rfl rfl)
theorem dX2_laySorts_82 : decode cX2_laySorts 82 = .ok (.istore 9, 2) := dk_54 9 (dk_at dksX2_laySorts_3 13 rfl rfl)
theorem dX2_laySorts_84 : decode cX2_laySorts 84 = .ok (.iload 9, 2) := dk_21 9 (dk_at dksX2_laySorts_3 15 rfl rfl)
theorem dX2_laySorts_86 : decode cX2_laySorts 86 = .ok (.aload_n 0, 1) := dk_42 (dk_at dksX2_laySorts_3 17 rfl rfl)
theorem dX2_laySorts_87 : decode cX2_laySorts 87 = .ok (.getfield 112, 3) := dk_180 0 112 (dk_at dksX2_laySorts_3 18 rfl rfl)
theorem dX2_laySorts_90 : decode cX2_laySorts 90 = .ok (.if_icmp .ge 101, 3) := dk_162 0 101 (dk_at dksX2_laySorts_3 21 rfl rfl)
theorem dX2_laySorts_93 : decode cX2_laySorts 93 = .ok (.aload_n 0, 1) := dk_42 (dk_at dksX2_laySorts_4 0 rfl rfl)
theorem dX2_laySorts_94 : decode cX2_laySorts 94 = .ok (.iload 9, 2) := dk_21 9 (dk_at dksX2_laySorts_4 1 rfl rfl)
theorem dX2_laySorts_96 : decode cX2_laySorts 96 = .ok (.iload 6, 2) := dk_21 6 (dk_at dksX2_laySorts_4 3 rfl rfl)
theorem dX2_laySorts_98 : decode cX2_laySorts 98 = .ok (.iload_n 1, 1) := dk_27 (dk_at dksX2_laySorts_4 5 rfl rfl)
theorem dX2_laySorts_99 : decode cX2_laySorts 99 = .ok (.invokevirtual 115, 3) := dk_182 0 115 (dk_at dksX2_laySorts_4 6 rfl rfl)
theorem dX2_laySorts_102 : decode cX2_laySorts 102 = .ok (.aload_n 0, 1) := dk_42 (dk_at dksX2_laySorts_4 9 rfl rfl)
theorem dX2_laySorts_103 : decode cX2_laySorts 103 = .ok (.iload 9, 2) := dk_21 9 (dk_at dksX2_laySorts_4 10 rfl rfl)
theorem dX2_laySorts_105 : decode cX2_laySorts 105 = .ok (.iload 7, 2) := dk_21 7 (dk_at dksX2_laySorts_4 12 rfl rfl)
theorem dX2_laySorts_107 : decode cX2_laySorts 107 = .ok (.iload_n 1, 1) := dk_27 (dk_at dksX2_laySorts_4 14 rfl rfl)
theorem dX2_laySorts_108 : decode cX2_laySorts 108 = .ok (.invokevirtual 115, 3) := dk_182 0 115 (dk_at dksX2_laySorts_4 15 rfl rfl)
theorem dX2_laySorts_111 : decode cX2_laySorts 111 = .ok (.aload_n 0, 1) := dk_42 (dk_at dksX2_laySorts_4 18 rfl rfl)
theorem dX2_laySorts_112 : decode cX2_laySorts 112 = .ok (.iload 9, 2) := dk_21 9 (dk_at dksX2_laySorts_4 19 rfl rfl)
theorem dX2_laySorts_114 : decode cX2_laySorts 114 = .ok (.iload 8, 2) := dk_21 8 (dk_at dksX2_laySorts_4 21 rfl rfl)
theorem dX2_laySorts_116 : decode cX2_laySorts 116 = .ok (.iload_n 1, 1) := dk_27 (dk_at dksX2_laySorts_4 23 rfl rfl)
theorem dX2_laySorts_117 : decode cX2_laySorts 117 = .ok (.invokevirtual 115, 3) := dk_182 0 115 (dk_at dksX2_laySorts_5 0 rfl rfl)
theorem dX2_laySorts_120 : decode cX2_laySorts 120 = .ok (.iload_n 1, 1) := dk_27 (dk_at dksX2_laySorts_5 3 rfl rfl)
theorem dX2_laySorts_121 : decode cX2_laySorts 121 = .ok (.invokestatic 119, 3) := dk_184 0 119 (dk_at dksX2_laySorts_5 4 rfl rfl)
theorem dX2_laySorts_124 : decode cX2_laySorts 124 = .ok (.istore 10, 2) := dk_54 10 (dk_at dksX2_laySorts_5 7 rfl rfl)
theorem dX2_laySorts_126 : decode cX2_laySorts 126 = .ok (.aload_n 2, 1) := dk_44 (dk_at dksX2_laySorts_5 9 rfl rfl)
theorem dX2_laySorts_127 : decode cX2_laySorts 127 = .ok (.iload 5, 2) := dk_21 5 (dk_at dksX2_laySorts_5 10 rfl rfl)
theorem dX2_laySorts_129 : decode cX2_laySorts 129 = .ok (.iaload, 1) := dk_46 (dk_at dksX2_laySorts_5 12 rfl rfl)
theorem dX2_laySorts_130 : decode cX2_laySorts 130 = .ok (.aload_n 2, 1) := dk_44 (dk_at dksX2_laySorts_5 13 rfl rfl)
theorem dX2_laySorts_131 : decode cX2_laySorts 131 = .ok (.iload 10, 2) := dk_21 10 (dk_at dksX2_laySorts_5 14 rfl rfl)
theorem dX2_laySorts_133 : decode cX2_laySorts 133 = .ok (.iaload, 1) := dk_46 (dk_at dksX2_laySorts_5 16 rfl rfl)
theorem dX2_laySorts_134 : decode cX2_laySorts 134 = .ok (.if_icmp .ge 10, 3) := dk_162 0 10 (dk_at dksX2_laySorts_5 17 rfl rfl)
theorem dX2_laySorts_137 : decode cX2_laySorts 137 = .ok (.aload_n 2, 1) := dk_44 (dk_at dksX2_laySorts_5 20 rfl rfl)
theorem dX2_laySorts_138 : decode cX2_laySorts 138 = .ok (.iload 5, 2) := dk_21 5 (dk_at dksX2_laySorts_5 21 rfl rfl)
theorem dX2_laySorts_140 : decode cX2_laySorts 140 = .ok (.iaload, 1) := dk_46 (dk_at dksX2_laySorts_5 23 rfl rfl)
theorem dX2_laySorts_141 : decode cX2_laySorts 141 = .ok (.goto 7, 3) := dk_167 0 7 (dk_at dksX2_laySorts_6 0 rfl rfl)
theorem dX2_laySorts_144 : decode cX2_laySorts 144 = .ok (.aload_n 2, 1) := dk_44 (dk_at dksX2_laySorts_6 3 rfl rfl)
theorem dX2_laySorts_145 : decode cX2_laySorts 145 = .ok (.iload 10, 2) := dk_21 10 (dk_at dksX2_laySorts_6 4 rfl rfl)
theorem dX2_laySorts_147 : decode cX2_laySorts 147 = .ok (.iaload, 1) := dk_46 (dk_at dksX2_laySorts_6 6 rfl rfl)
theorem dX2_laySorts_148 : decode cX2_laySorts 148 = .ok (.istore 11, 2) := dk_54 11 (dk_at dksX2_laySorts_6 7 rfl rfl)
theorem dX2_laySorts_150 : decode cX2_laySorts 150 = .ok (.iload 4, 2) := dk_21 4 (dk_at dksX2_laySorts_6 9 rfl rfl)
theorem dX2_laySorts_152 : decode cX2_laySorts 152 = .ok (.ifCond .ne 14, 3) := dk_154 0 14 (dk_at dksX2_laySorts_6 11 rfl rfl)
theorem dX2_laySorts_155 : decode cX2_laySorts 155 = .ok (.aload_n 2, 1) := dk_44 (dk_at dksX2_laySorts_6 14 rfl rfl)
theorem dX2_laySorts_156 : decode cX2_laySorts 156 = .ok (.iload 5, 2) := dk_21 5 (dk_at dksX2_laySorts_6 15 rfl rfl)
theorem dX2_laySorts_158 : decode cX2_laySorts 158 = .ok (.iaload, 1) := dk_46 (dk_at dksX2_laySorts_6 17 rfl rfl)
theorem dX2_laySorts_159 : decode cX2_laySorts 159 = .ok (.aload_n 2, 1) := dk_44 (dk_at dksX2_laySorts_6 18 rfl rfl)
theorem dX2_laySorts_160 : decode cX2_laySorts 160 = .ok (.iload 10, 2) := dk_21 10 (dk_at dksX2_laySorts_6 19 rfl rfl)
theorem dX2_laySorts_162 : decode cX2_laySorts 162 = .ok (.iaload, 1) := dk_46 (dk_at dksX2_laySorts_6 21 rfl rfl)
theorem dX2_laySorts_163 : decode cX2_laySorts 163 = .ok (.if_icmp .eq 7, 3) := dk_159 0 7 (dk_at dksX2_laySorts_7 0 rfl rfl)
theorem dX2_laySorts_166 : decode cX2_laySorts 166 = .ok (.iconst 1, 1) := dk_4 (dk_at dksX2_laySorts_7 3 rfl rfl)
theorem dX2_laySorts_167 : decode cX2_laySorts 167 = .ok (.goto 4, 3) := dk_167 0 4 (dk_at dksX2_laySorts_7 4 rfl rfl)
theorem dX2_laySorts_170 : decode cX2_laySorts 170 = .ok (.iconst 0, 1) := dk_3 (dk_at dksX2_laySorts_7 7 rfl rfl)
theorem dX2_laySorts_171 : decode cX2_laySorts 171 = .ok (.istore 4, 2) := dk_54 4 (dk_at dksX2_laySorts_7 8 rfl rfl)
theorem dX2_laySorts_173 : decode cX2_laySorts 173 = .ok (.aload_n 2, 1) := dk_44 (dk_at dksX2_laySorts_7 10 rfl rfl)
theorem dX2_laySorts_174 : decode cX2_laySorts 174 = .ok (.iload 5, 2) := dk_21 5 (dk_at dksX2_laySorts_7 11 rfl rfl)
theorem dX2_laySorts_176 : decode cX2_laySorts 176 = .ok (.iload 11, 2) := dk_21 11 (dk_at dksX2_laySorts_7 13 rfl rfl)
theorem dX2_laySorts_178 : decode cX2_laySorts 178 = .ok (.iastore, 1) := dk_79 (dk_at dksX2_laySorts_7 15 rfl rfl)
theorem dX2_laySorts_179 : decode cX2_laySorts 179 = .ok (.aload_n 2, 1) := dk_44 (dk_at dksX2_laySorts_7 16 rfl rfl)
theorem dX2_laySorts_180 : decode cX2_laySorts 180 = .ok (.iload 10, 2) := dk_21 10 (dk_at dksX2_laySorts_7 17 rfl rfl)
theorem dX2_laySorts_182 : decode cX2_laySorts 182 = .ok (.iload 11, 2) := dk_21 11 (dk_at dksX2_laySorts_7 19 rfl rfl)
theorem dX2_laySorts_184 : decode cX2_laySorts 184 = .ok (.iastore, 1) := dk_79 (dk_at dksX2_laySorts_7 21 rfl rfl)
theorem dX2_laySorts_185 : decode cX2_laySorts 185 = .ok (.iinc 9 1, 3) := dk_132 9 1 (dk_at dksX2_laySorts_8 0 rfl rfl)
theorem dX2_laySorts_188 : decode cX2_laySorts 188 = .ok (.goto (-104), 3) := dk_167 255 152 (dk_at dksX2_laySorts_8 3 rfl rfl)
theorem dX2_laySorts_191 : decode cX2_laySorts 191 = .ok (.iinc 5 1, 3) := dk_132 5 1 (dk_at dksX2_laySorts_8 6 rfl rfl)
theorem dX2_laySorts_194 : decode cX2_laySorts 194 = .ok (.iinc 8 1, 3) := dk_132 8 1 (dk_at dksX2_laySorts_8 9 rfl rfl)
theorem dX2_laySorts_197 : decode cX2_laySorts 197 = .ok (.goto (-122), 3) := dk_167 255 134 (dk_at dksX2_laySorts_8 12 rfl rfl)
theorem dX2_laySorts_200 : decode cX2_laySorts 200 = .ok (.iinc 7 1, 3) := dk_132 7 1 (dk_at dksX2_laySorts_8 15 rfl rfl)
theorem dX2_laySorts_203 : decode cX2_laySorts 203 = .ok (.goto (-140), 3) := dk_167 255 116 (dk_at dksX2_laySorts_8 18 rfl rfl)
theorem dX2_laySorts_206 : decode cX2_laySorts 206 = .ok (.iinc 6 1, 3) := dk_132 6 1 (dk_at dksX2_laySorts_8 21 rfl rfl)
theorem dX2_laySorts_209 : decode cX2_laySorts 209 = .ok (.goto (-158), 3) := dk_167 255 98 (dk_at dksX2_laySorts_9 0 rfl rfl)
theorem dX2_laySorts_212 : decode cX2_laySorts 212 = .ok (.goto (-175), 3) := dk_167 255 81 (dk_at dksX2_laySorts_9 3 rfl rfl)
theorem dX2_laySorts_215 : decode cX2_laySorts 215 = .ok (.iconst 0, 1) := dk_3 (dk_at dksX2_laySorts_9 6 rfl rfl)
theorem dX2_laySorts_216 : decode cX2_laySorts 216 = .ok (.istore 5, 2) := dk_54 5 (dk_at dksX2_laySorts_9 7 rfl rfl)
theorem dX2_laySorts_218 : decode cX2_laySorts 218 = .ok (.iconst 0, 1) := dk_3 (dk_at dksX2_laySorts_9 9 rfl rfl)
theorem dX2_laySorts_219 : decode cX2_laySorts 219 = .ok (.istore 6, 2) := dk_54 6 (dk_at dksX2_laySorts_9 10 rfl rfl)
theorem dX2_laySorts_221 : decode cX2_laySorts 221 = .ok (.iload 6, 2) := dk_21 6 (dk_at dksX2_laySorts_9 12 rfl rfl)
theorem dX2_laySorts_223 : decode cX2_laySorts 223 = .ok (.iload_n 3, 1) := dk_29 (dk_at dksX2_laySorts_9 14 rfl rfl)
theorem dX2_laySorts_224 : decode cX2_laySorts 224 = .ok (.if_icmp .ge 40, 3) := dk_162 0 40 (dk_at dksX2_laySorts_9 15 rfl rfl)
theorem dX2_laySorts_227 : decode cX2_laySorts 227 = .ok (.aload_n 2, 1) := dk_44 (dk_at dksX2_laySorts_9 18 rfl rfl)
theorem dX2_laySorts_228 : decode cX2_laySorts 228 = .ok (.iload 6, 2) := dk_21 6 (dk_at dksX2_laySorts_9 19 rfl rfl)
theorem dX2_laySorts_230 : decode cX2_laySorts 230 = .ok (.iaload, 1) := dk_46 (dk_at dksX2_laySorts_9 21 rfl rfl)
theorem dX2_laySorts_231 : decode cX2_laySorts 231 = .ok (.iload 6, 2) := dk_21 6 (dk_at dksX2_laySorts_9 22 rfl rfl)
theorem dX2_laySorts_233 : decode cX2_laySorts 233 = .ok (.if_icmp .ne 15, 3) := dk_160 0 15 (dk_at dksX2_laySorts_10 0 rfl rfl)
theorem dX2_laySorts_236 : decode cX2_laySorts 236 = .ok (.aload_n 2, 1) := dk_44 (dk_at dksX2_laySorts_10 3 rfl rfl)
theorem dX2_laySorts_237 : decode cX2_laySorts 237 = .ok (.iload 6, 2) := dk_21 6 (dk_at dksX2_laySorts_10 4 rfl rfl)
theorem dX2_laySorts_239 : decode cX2_laySorts 239 = .ok (.iload 5, 2) := dk_21 5 (dk_at dksX2_laySorts_10 6 rfl rfl)
theorem dX2_laySorts_241 : decode cX2_laySorts 241 = .ok (.iastore, 1) := dk_79 (dk_at dksX2_laySorts_10 8 rfl rfl)
theorem dX2_laySorts_242 : decode cX2_laySorts 242 = .ok (.iinc 5 1, 3) := dk_132 5 1 (dk_at dksX2_laySorts_10 9 rfl rfl)
theorem dX2_laySorts_245 : decode cX2_laySorts 245 = .ok (.goto 13, 3) := dk_167 0 13 (dk_at dksX2_laySorts_10 12 rfl rfl)
theorem dX2_laySorts_248 : decode cX2_laySorts 248 = .ok (.aload_n 2, 1) := dk_44 (dk_at dksX2_laySorts_10 15 rfl rfl)
theorem dX2_laySorts_249 : decode cX2_laySorts 249 = .ok (.iload 6, 2) := dk_21 6 (dk_at dksX2_laySorts_10 16 rfl rfl)
theorem dX2_laySorts_251 : decode cX2_laySorts 251 = .ok (.aload_n 2, 1) := dk_44 (dk_at dksX2_laySorts_10 18 rfl rfl)
theorem dX2_laySorts_252 : decode cX2_laySorts 252 = .ok (.aload_n 2, 1) := dk_44 (dk_at dksX2_laySorts_10 19 rfl rfl)
theorem dX2_laySorts_253 : decode cX2_laySorts 253 = .ok (.iload 6, 2) := dk_21 6 (dk_at dksX2_laySorts_10 20 rfl rfl)
theorem dX2_laySorts_255 : decode cX2_laySorts 255 = .ok (.iaload, 1) := dk_46 (dk_at dksX2_laySorts_10 22 rfl rfl)
theorem dX2_laySorts_256 : decode cX2_laySorts 256 = .ok (.iaload, 1) := dk_46 (dk_at dksX2_laySorts_10 23 rfl rfl)
theorem dX2_laySorts_257 : decode cX2_laySorts 257 = .ok (.iastore, 1) := dk_79 (dk_at dksX2_laySorts_11 0 rfl rfl)
theorem dX2_laySorts_258 : decode cX2_laySorts 258 = .ok (.iinc 6 1, 3) := dk_132 6 1 (dk_at dksX2_laySorts_11 1 rfl rfl)
theorem dX2_laySorts_261 : decode cX2_laySorts 261 = .ok (.goto (-40), 3) := dk_167 255 216 (dk_at dksX2_laySorts_11 4 rfl rfl)
theorem dX2_laySorts_264 : decode cX2_laySorts 264 = .ok (.iload 5, 2) := dk_21 5 (dk_at dksX2_laySorts_11 7 rfl rfl)
theorem dX2_laySorts_266 : decode cX2_laySorts 266 = .ok (.ireturn, 1) := dk_172 (dk_at dksX2_laySorts_11 9 rfl rfl)
abbrev cX2_sound : ByteArray := prog_10_method_9_code
def yX2_sound : MethodName := ⟨RX2, "sound", "(III)I"⟩
def dkwX2_sound_4 : List UInt8 := [167, 0, 4, 28, 172]
abbrev dktX2_sound_4 : List UInt8 := dkwX2_sound_4 ++ []
def dkwX2_sound_3 : List UInt8 := [161, 0, 5, 28, 172, 28, 21, 5, 160, 0, 8, 21, 6, 167, 0, 15, 28, 21, 6, 160, 0, 8, 21, 5]
abbrev dktX2_sound_3 : List UInt8 := dkwX2_sound_3 ++ dktX2_sound_4
def dkwX2_sound_2 : List UInt8 := [172, 21, 4, 16, 10, 108, 54, 5, 21, 4, 16, 10, 112, 54, 6, 21, 5, 29, 162, 0, 9, 21, 6, 29]
abbrev dktX2_sound_2 : List UInt8 := dkwX2_sound_2 ++ dktX2_sound_3
def dkwX2_sound_1 : List UInt8 := [28, 21, 4, 96, 29, 112, 172, 42, 180, 0, 13, 5, 27, 104, 46, 5, 160, 0, 9, 29, 4, 100, 28, 100]
abbrev dktX2_sound_1 : List UInt8 := dkwX2_sound_1 ++ dktX2_sound_2
def dkwX2_sound_0 : List UInt8 := [42, 180, 0, 13, 5, 27, 104, 4, 96, 46, 54, 4, 42, 180, 0, 13, 5, 27, 104, 46, 4, 160, 0, 10]
abbrev dktX2_sound_0 : List UInt8 := dkwX2_sound_0 ++ dktX2_sound_1
theorem dksX2_sound_0 : cX2_sound.data.toList.drop 0 = dktX2_sound_0 := by decide +kernel
theorem dksX2_sound_1 : cX2_sound.data.toList.drop 24 = dktX2_sound_1 := dk_seg dksX2_sound_0 24 rfl rfl
theorem dksX2_sound_2 : cX2_sound.data.toList.drop 48 = dktX2_sound_2 := dk_seg dksX2_sound_1 24 rfl rfl
theorem dksX2_sound_3 : cX2_sound.data.toList.drop 72 = dktX2_sound_3 := dk_seg dksX2_sound_2 24 rfl rfl
theorem dksX2_sound_4 : cX2_sound.data.toList.drop 96 = dktX2_sound_4 := dk_seg dksX2_sound_3 24 rfl rfl
theorem dX2_sound_0 : decode cX2_sound 0 = .ok (.aload_n 0, 1) := dk_42 (dk_at dksX2_sound_0 0 rfl rfl)
theorem dX2_sound_1 : decode cX2_sound 1 = .ok (.getfield 13, 3) := dk_180 0 13 (dk_at dksX2_sound_0 1 rfl rfl)
theorem dX2_sound_4 : decode cX2_sound 4 = .ok (.iconst 2, 1) := dk_5 (dk_at dksX2_sound_0 4 rfl rfl)
theorem dX2_sound_5 : decode cX2_sound 5 = .ok (.iload_n 1, 1) := dk_27 (dk_at dksX2_sound_0 5 rfl rfl)
theorem dX2_sound_6 : decode cX2_sound 6 = .ok (.imul, 1) := dk_104 (dk_at dksX2_sound_0 6 rfl rfl)
theorem dX2_sound_7 : decode cX2_sound 7 = .ok (.iconst 1, 1) := dk_4 (dk_at dksX2_sound_0 7 rfl rfl)
theorem dX2_sound_8 : decode cX2_sound 8 = .ok (.iadd, 1) := dk_96 (dk_at dksX2_sound_0 8 rfl rfl)
theorem dX2_sound_9 : decode cX2_sound 9 = .ok (.iaload, 1) := dk_46 (dk_at dksX2_sound_0 9 rfl rfl)
theorem dX2_sound_10 : decode cX2_sound 10 = .ok (.istore 4, 2) := dk_54 4 (dk_at dksX2_sound_0 10 rfl rfl)
theorem dX2_sound_12 : decode cX2_sound 12 = .ok (.aload_n 0, 1) := dk_42 (dk_at dksX2_sound_0 12 rfl rfl)
theorem dX2_sound_13 : decode cX2_sound 13 = .ok (.getfield 13, 3) := dk_180 0 13 (dk_at dksX2_sound_0 13 rfl rfl)
theorem dX2_sound_16 : decode cX2_sound 16 = .ok (.iconst 2, 1) := dk_5 (dk_at dksX2_sound_0 16 rfl rfl)
theorem dX2_sound_17 : decode cX2_sound 17 = .ok (.iload_n 1, 1) := dk_27 (dk_at dksX2_sound_0 17 rfl rfl)
theorem dX2_sound_18 : decode cX2_sound 18 = .ok (.imul, 1) := dk_104 (dk_at dksX2_sound_0 18 rfl rfl)
theorem dX2_sound_19 : decode cX2_sound 19 = .ok (.iaload, 1) := dk_46 (dk_at dksX2_sound_0 19 rfl rfl)
theorem dX2_sound_20 : decode cX2_sound 20 = .ok (.iconst 1, 1) := dk_4 (dk_at dksX2_sound_0 20 rfl rfl)
theorem dX2_sound_21 : decode cX2_sound 21 = .ok (.if_icmp .ne 10, 3) := dk_160 0 10 (dk_at dksX2_sound_0 21 rfl rfl)
theorem dX2_sound_24 : decode cX2_sound 24 = .ok (.iload_n 2, 1) := dk_28 (dk_at dksX2_sound_1 0 rfl rfl)
theorem dX2_sound_25 : decode cX2_sound 25 = .ok (.iload 4, 2) := dk_21 4 (dk_at dksX2_sound_1 1 rfl rfl)
theorem dX2_sound_27 : decode cX2_sound 27 = .ok (.iadd, 1) := dk_96 (dk_at dksX2_sound_1 3 rfl rfl)
theorem dX2_sound_28 : decode cX2_sound 28 = .ok (.iload_n 3, 1) := dk_29 (dk_at dksX2_sound_1 4 rfl rfl)
theorem dX2_sound_29 : decode cX2_sound 29 = .ok (.irem, 1) := dk_112 (dk_at dksX2_sound_1 5 rfl rfl)
theorem dX2_sound_30 : decode cX2_sound 30 = .ok (.ireturn, 1) := dk_172 (dk_at dksX2_sound_1 6 rfl rfl)
theorem dX2_sound_31 : decode cX2_sound 31 = .ok (.aload_n 0, 1) := dk_42 (dk_at dksX2_sound_1 7 rfl rfl)
theorem dX2_sound_32 : decode cX2_sound 32 = .ok (.getfield 13, 3) := dk_180 0 13 (dk_at dksX2_sound_1 8 rfl rfl)
theorem dX2_sound_35 : decode cX2_sound 35 = .ok (.iconst 2, 1) := dk_5 (dk_at dksX2_sound_1 11 rfl rfl)
theorem dX2_sound_36 : decode cX2_sound 36 = .ok (.iload_n 1, 1) := dk_27 (dk_at dksX2_sound_1 12 rfl rfl)
theorem dX2_sound_37 : decode cX2_sound 37 = .ok (.imul, 1) := dk_104 (dk_at dksX2_sound_1 13 rfl rfl)
theorem dX2_sound_38 : decode cX2_sound 38 = .ok (.iaload, 1) := dk_46 (dk_at dksX2_sound_1 14 rfl rfl)
theorem dX2_sound_39 : decode cX2_sound 39 = .ok (.iconst 2, 1) := dk_5 (dk_at dksX2_sound_1 15 rfl rfl)
theorem dX2_sound_40 : decode cX2_sound 40 = .ok (.if_icmp .ne 9, 3) := dk_160 0 9 (dk_at dksX2_sound_1 16 rfl rfl)
theorem dX2_sound_43 : decode cX2_sound 43 = .ok (.iload_n 3, 1) := dk_29 (dk_at dksX2_sound_1 19 rfl rfl)
theorem dX2_sound_44 : decode cX2_sound 44 = .ok (.iconst 1, 1) := dk_4 (dk_at dksX2_sound_1 20 rfl rfl)
theorem dX2_sound_45 : decode cX2_sound 45 = .ok (.isub, 1) := dk_100 (dk_at dksX2_sound_1 21 rfl rfl)
theorem dX2_sound_46 : decode cX2_sound 46 = .ok (.iload_n 2, 1) := dk_28 (dk_at dksX2_sound_1 22 rfl rfl)
theorem dX2_sound_47 : decode cX2_sound 47 = .ok (.isub, 1) := dk_100 (dk_at dksX2_sound_1 23 rfl rfl)
theorem dX2_sound_48 : decode cX2_sound 48 = .ok (.ireturn, 1) := dk_172 (dk_at dksX2_sound_2 0 rfl rfl)
theorem dX2_sound_49 : decode cX2_sound 49 = .ok (.iload 4, 2) := dk_21 4 (dk_at dksX2_sound_2 1 rfl rfl)
theorem dX2_sound_51 : decode cX2_sound 51 = .ok (.bipush 10, 2) := dk_16 10 (dk_at dksX2_sound_2 3 rfl rfl)
theorem dX2_sound_53 : decode cX2_sound 53 = .ok (.idiv, 1) := dk_108 (dk_at dksX2_sound_2 5 rfl rfl)
theorem dX2_sound_54 : decode cX2_sound 54 = .ok (.istore 5, 2) := dk_54 5 (dk_at dksX2_sound_2 6 rfl rfl)
theorem dX2_sound_56 : decode cX2_sound 56 = .ok (.iload 4, 2) := dk_21 4 (dk_at dksX2_sound_2 8 rfl rfl)
theorem dX2_sound_58 : decode cX2_sound 58 = .ok (.bipush 10, 2) := dk_16 10 (dk_at dksX2_sound_2 10 rfl rfl)
theorem dX2_sound_60 : decode cX2_sound 60 = .ok (.irem, 1) := dk_112 (dk_at dksX2_sound_2 12 rfl rfl)
theorem dX2_sound_61 : decode cX2_sound 61 = .ok (.istore 6, 2) := dk_54 6 (dk_at dksX2_sound_2 13 rfl rfl)
theorem dX2_sound_63 : decode cX2_sound 63 = .ok (.iload 5, 2) := dk_21 5 (dk_at dksX2_sound_2 15 rfl rfl)
theorem dX2_sound_65 : decode cX2_sound 65 = .ok (.iload_n 3, 1) := dk_29 (dk_at dksX2_sound_2 17 rfl rfl)
theorem dX2_sound_66 : decode cX2_sound 66 = .ok (.if_icmp .ge 9, 3) := dk_162 0 9 (dk_at dksX2_sound_2 18 rfl rfl)
theorem dX2_sound_69 : decode cX2_sound 69 = .ok (.iload 6, 2) := dk_21 6 (dk_at dksX2_sound_2 21 rfl rfl)
theorem dX2_sound_71 : decode cX2_sound 71 = .ok (.iload_n 3, 1) := dk_29 (dk_at dksX2_sound_2 23 rfl rfl)
theorem dX2_sound_72 : decode cX2_sound 72 = .ok (.if_icmp .lt 5, 3) := dk_161 0 5 (dk_at dksX2_sound_3 0 rfl rfl)
theorem dX2_sound_75 : decode cX2_sound 75 = .ok (.iload_n 2, 1) := dk_28 (dk_at dksX2_sound_3 3 rfl rfl)
theorem dX2_sound_76 : decode cX2_sound 76 = .ok (.ireturn, 1) := dk_172 (dk_at dksX2_sound_3 4 rfl rfl)
theorem dX2_sound_77 : decode cX2_sound 77 = .ok (.iload_n 2, 1) := dk_28 (dk_at dksX2_sound_3 5 rfl rfl)
theorem dX2_sound_78 : decode cX2_sound 78 = .ok (.iload 5, 2) := dk_21 5 (dk_at dksX2_sound_3 6 rfl rfl)
theorem dX2_sound_80 : decode cX2_sound 80 = .ok (.if_icmp .ne 8, 3) := dk_160 0 8 (dk_at dksX2_sound_3 8 rfl rfl)
theorem dX2_sound_83 : decode cX2_sound 83 = .ok (.iload 6, 2) := dk_21 6 (dk_at dksX2_sound_3 11 rfl rfl)
theorem dX2_sound_85 : decode cX2_sound 85 = .ok (.goto 15, 3) := dk_167 0 15 (dk_at dksX2_sound_3 13 rfl rfl)
theorem dX2_sound_88 : decode cX2_sound 88 = .ok (.iload_n 2, 1) := dk_28 (dk_at dksX2_sound_3 16 rfl rfl)
theorem dX2_sound_89 : decode cX2_sound 89 = .ok (.iload 6, 2) := dk_21 6 (dk_at dksX2_sound_3 17 rfl rfl)
theorem dX2_sound_91 : decode cX2_sound 91 = .ok (.if_icmp .ne 8, 3) := dk_160 0 8 (dk_at dksX2_sound_3 19 rfl rfl)
theorem dX2_sound_94 : decode cX2_sound 94 = .ok (.iload 5, 2) := dk_21 5 (dk_at dksX2_sound_3 22 rfl rfl)
theorem dX2_sound_96 : decode cX2_sound 96 = .ok (.goto 4, 3) := dk_167 0 4 (dk_at dksX2_sound_4 0 rfl rfl)
theorem dX2_sound_99 : decode cX2_sound 99 = .ok (.iload_n 2, 1) := dk_28 (dk_at dksX2_sound_4 3 rfl rfl)
theorem dX2_sound_100 : decode cX2_sound 100 = .ok (.ireturn, 1) := dk_172 (dk_at dksX2_sound_4 4 rfl rfl)
abbrev cX2_numberOf : ByteArray := prog_10_method_10_code
def yX2_numberOf : MethodName := ⟨RX2, "numberOf", "(IIII)I"⟩
def dkwX2_numberOf_6 : List UInt8 := [21, 7, 21, 5, 96, 21, 6, 100, 4, 100, 172]
abbrev dktX2_numberOf_6 : List UInt8 := dkwX2_numberOf_6 ++ []
def dkwX2_numberOf_5 : List UInt8 := [21, 8, 21, 6, 162, 0, 20, 21, 7, 29, 4, 100, 21, 8, 100, 96, 54, 7, 132, 8, 1, 167, 255, 235]
abbrev dktX2_numberOf_5 : List UInt8 := dkwX2_numberOf_5 ++ dktX2_numberOf_6
def dkwX2_numberOf_4 : List UInt8 := [5, 100, 21, 8, 100, 104, 5, 108, 96, 54, 7, 132, 8, 1, 167, 255, 226, 21, 4, 4, 96, 54, 8]
abbrev dktX2_numberOf_4 : List UInt8 := dkwX2_numberOf_4 ++ dktX2_numberOf_5
def dkwX2_numberOf_3 : List UInt8 := [54, 6, 3, 54, 7, 3, 54, 8, 21, 8, 21, 4, 162, 0, 29, 21, 7, 29, 4, 100, 21, 8, 100, 29]
abbrev dktX2_numberOf_3 : List UInt8 := dkwX2_numberOf_3 ++ dktX2_numberOf_4
def dkwX2_numberOf_2 : List UInt8 := [27, 28, 164, 0, 7, 27, 167, 0, 4, 28, 54, 5, 26, 27, 96, 28, 96, 21, 4, 100, 21, 5, 100]
abbrev dktX2_numberOf_2 : List UInt8 := dkwX2_numberOf_2 ++ dktX2_numberOf_3
def dkwX2_numberOf_1 : List UInt8 := [167, 0, 4, 28, 54, 4, 26, 27, 164, 0, 16, 26, 28, 164, 0, 7, 26, 167, 0, 17, 28, 167, 0, 13]
abbrev dktX2_numberOf_1 : List UInt8 := dkwX2_numberOf_1 ++ dktX2_numberOf_2
def dkwX2_numberOf_0 : List UInt8 := [26, 27, 162, 0, 16, 26, 28, 162, 0, 7, 26, 167, 0, 17, 28, 167, 0, 13, 27, 28, 162, 0, 7, 27]
abbrev dktX2_numberOf_0 : List UInt8 := dkwX2_numberOf_0 ++ dktX2_numberOf_1
theorem dksX2_numberOf_0 : cX2_numberOf.data.toList.drop 0 = dktX2_numberOf_0 := by decide +kernel
theorem dksX2_numberOf_1 : cX2_numberOf.data.toList.drop 24 = dktX2_numberOf_1 := dk_seg dksX2_numberOf_0 24 rfl rfl
theorem dksX2_numberOf_2 : cX2_numberOf.data.toList.drop 48 = dktX2_numberOf_2 := dk_seg dksX2_numberOf_1 24 rfl rfl
theorem dksX2_numberOf_3 : cX2_numberOf.data.toList.drop 71 = dktX2_numberOf_3 := dk_seg dksX2_numberOf_2 23 rfl rfl
theorem dksX2_numberOf_4 : cX2_numberOf.data.toList.drop 95 = dktX2_numberOf_4 := dk_seg dksX2_numberOf_3 24 rfl rfl
theorem dksX2_numberOf_5 : cX2_numberOf.data.toList.drop 118 = dktX2_numberOf_5 := dk_seg dksX2_numberOf_4 23 rfl rfl
theorem dksX2_numberOf_6 : cX2_numberOf.data.toList.drop 142 = dktX2_numberOf_6 := dk_seg dksX2_numberOf_5 24 rfl rfl
theorem dX2_numberOf_0 : decode cX2_numberOf 0 = .ok (.iload_n 0, 1) := dk_26 (dk_at dksX2_numberOf_0 0 rfl rfl)
theorem dX2_numberOf_1 : decode cX2_numberOf 1 = .ok (.iload_n 1, 1) := dk_27 (dk_at dksX2_numberOf_0 1 rfl rfl)
theorem dX2_numberOf_2 : decode cX2_numberOf 2 = .ok (.if_icmp .ge 16, 3) := dk_162 0 16 (dk_at dksX2_numberOf_0 2 rfl rfl)
theorem dX2_numberOf_5 : decode cX2_numberOf 5 = .ok (.iload_n 0, 1) := dk_26 (dk_at dksX2_numberOf_0 5 rfl rfl)
theorem dX2_numberOf_6 : decode cX2_numberOf 6 = .ok (.iload_n 2, 1) := dk_28 (dk_at dksX2_numberOf_0 6 rfl rfl)
theorem dX2_numberOf_7 : decode cX2_numberOf 7 = .ok (.if_icmp .ge 7, 3) := dk_162 0 7 (dk_at dksX2_numberOf_0 7 rfl rfl)
theorem dX2_numberOf_10 : decode cX2_numberOf 10 = .ok (.iload_n 0, 1) := dk_26 (dk_at dksX2_numberOf_0 10 rfl rfl)
theorem dX2_numberOf_11 : decode cX2_numberOf 11 = .ok (.goto 17, 3) := dk_167 0 17 (dk_at dksX2_numberOf_0 11 rfl rfl)
theorem dX2_numberOf_14 : decode cX2_numberOf 14 = .ok (.iload_n 2, 1) := dk_28 (dk_at dksX2_numberOf_0 14 rfl rfl)
theorem dX2_numberOf_15 : decode cX2_numberOf 15 = .ok (.goto 13, 3) := dk_167 0 13 (dk_at dksX2_numberOf_0 15 rfl rfl)
theorem dX2_numberOf_18 : decode cX2_numberOf 18 = .ok (.iload_n 1, 1) := dk_27 (dk_at dksX2_numberOf_0 18 rfl rfl)
theorem dX2_numberOf_19 : decode cX2_numberOf 19 = .ok (.iload_n 2, 1) := dk_28 (dk_at dksX2_numberOf_0 19 rfl rfl)
theorem dX2_numberOf_20 : decode cX2_numberOf 20 = .ok (.if_icmp .ge 7, 3) := dk_162 0 7 (dk_at dksX2_numberOf_0 20 rfl rfl)
theorem dX2_numberOf_23 : decode cX2_numberOf 23 = .ok (.iload_n 1, 1) := dk_27 (dk_at dksX2_numberOf_0 23 rfl rfl)
theorem dX2_numberOf_24 : decode cX2_numberOf 24 = .ok (.goto 4, 3) := dk_167 0 4 (dk_at dksX2_numberOf_1 0 rfl rfl)
theorem dX2_numberOf_27 : decode cX2_numberOf 27 = .ok (.iload_n 2, 1) := dk_28 (dk_at dksX2_numberOf_1 3 rfl rfl)
theorem dX2_numberOf_28 : decode cX2_numberOf 28 = .ok (.istore 4, 2) := dk_54 4 (dk_at dksX2_numberOf_1 4 rfl rfl)
theorem dX2_numberOf_30 : decode cX2_numberOf 30 = .ok (.iload_n 0, 1) := dk_26 (dk_at dksX2_numberOf_1 6 rfl rfl)
theorem dX2_numberOf_31 : decode cX2_numberOf 31 = .ok (.iload_n 1, 1) := dk_27 (dk_at dksX2_numberOf_1 7 rfl rfl)
theorem dX2_numberOf_32 : decode cX2_numberOf 32 = .ok (.if_icmp .le 16, 3) := dk_164 0 16 (dk_at dksX2_numberOf_1 8 rfl rfl)
theorem dX2_numberOf_35 : decode cX2_numberOf 35 = .ok (.iload_n 0, 1) := dk_26 (dk_at dksX2_numberOf_1 11 rfl rfl)
theorem dX2_numberOf_36 : decode cX2_numberOf 36 = .ok (.iload_n 2, 1) := dk_28 (dk_at dksX2_numberOf_1 12 rfl rfl)
theorem dX2_numberOf_37 : decode cX2_numberOf 37 = .ok (.if_icmp .le 7, 3) := dk_164 0 7 (dk_at dksX2_numberOf_1 13 rfl rfl)
theorem dX2_numberOf_40 : decode cX2_numberOf 40 = .ok (.iload_n 0, 1) := dk_26 (dk_at dksX2_numberOf_1 16 rfl rfl)
theorem dX2_numberOf_41 : decode cX2_numberOf 41 = .ok (.goto 17, 3) := dk_167 0 17 (dk_at dksX2_numberOf_1 17 rfl rfl)
theorem dX2_numberOf_44 : decode cX2_numberOf 44 = .ok (.iload_n 2, 1) := dk_28 (dk_at dksX2_numberOf_1 20 rfl rfl)
theorem dX2_numberOf_45 : decode cX2_numberOf 45 = .ok (.goto 13, 3) := dk_167 0 13 (dk_at dksX2_numberOf_1 21 rfl rfl)
theorem dX2_numberOf_48 : decode cX2_numberOf 48 = .ok (.iload_n 1, 1) := dk_27 (dk_at dksX2_numberOf_2 0 rfl rfl)
theorem dX2_numberOf_49 : decode cX2_numberOf 49 = .ok (.iload_n 2, 1) := dk_28 (dk_at dksX2_numberOf_2 1 rfl rfl)
theorem dX2_numberOf_50 : decode cX2_numberOf 50 = .ok (.if_icmp .le 7, 3) := dk_164 0 7 (dk_at dksX2_numberOf_2 2 rfl rfl)
theorem dX2_numberOf_53 : decode cX2_numberOf 53 = .ok (.iload_n 1, 1) := dk_27 (dk_at dksX2_numberOf_2 5 rfl rfl)
theorem dX2_numberOf_54 : decode cX2_numberOf 54 = .ok (.goto 4, 3) := dk_167 0 4 (dk_at dksX2_numberOf_2 6 rfl rfl)
theorem dX2_numberOf_57 : decode cX2_numberOf 57 = .ok (.iload_n 2, 1) := dk_28 (dk_at dksX2_numberOf_2 9 rfl rfl)
theorem dX2_numberOf_58 : decode cX2_numberOf 58 = .ok (.istore 5, 2) := dk_54 5 (dk_at dksX2_numberOf_2 10 rfl rfl)
theorem dX2_numberOf_60 : decode cX2_numberOf 60 = .ok (.iload_n 0, 1) := dk_26 (dk_at dksX2_numberOf_2 12 rfl rfl)
theorem dX2_numberOf_61 : decode cX2_numberOf 61 = .ok (.iload_n 1, 1) := dk_27 (dk_at dksX2_numberOf_2 13 rfl rfl)
theorem dX2_numberOf_62 : decode cX2_numberOf 62 = .ok (.iadd, 1) := dk_96 (dk_at dksX2_numberOf_2 14 rfl rfl)
theorem dX2_numberOf_63 : decode cX2_numberOf 63 = .ok (.iload_n 2, 1) := dk_28 (dk_at dksX2_numberOf_2 15 rfl rfl)
theorem dX2_numberOf_64 : decode cX2_numberOf 64 = .ok (.iadd, 1) := dk_96 (dk_at dksX2_numberOf_2 16 rfl rfl)
theorem dX2_numberOf_65 : decode cX2_numberOf 65 = .ok (.iload 4, 2) := dk_21 4 (dk_at dksX2_numberOf_2 17 rfl rfl)
theorem dX2_numberOf_67 : decode cX2_numberOf 67 = .ok (.isub, 1) := dk_100 (dk_at dksX2_numberOf_2 19 rfl rfl)
theorem dX2_numberOf_68 : decode cX2_numberOf 68 = .ok (.iload 5, 2) := dk_21 5 (dk_at dksX2_numberOf_2 20 rfl rfl)
theorem dX2_numberOf_70 : decode cX2_numberOf 70 = .ok (.isub, 1) := dk_100 (dk_at dksX2_numberOf_2 22 rfl rfl)
theorem dX2_numberOf_71 : decode cX2_numberOf 71 = .ok (.istore 6, 2) := dk_54 6 (dk_at dksX2_numberOf_3 0 rfl rfl)
theorem dX2_numberOf_73 : decode cX2_numberOf 73 = .ok (.iconst 0, 1) := dk_3 (dk_at dksX2_numberOf_3 2 rfl rfl)
theorem dX2_numberOf_74 : decode cX2_numberOf 74 = .ok (.istore 7, 2) := dk_54 7 (dk_at dksX2_numberOf_3 3 rfl rfl)
theorem dX2_numberOf_76 : decode cX2_numberOf 76 = .ok (.iconst 0, 1) := dk_3 (dk_at dksX2_numberOf_3 5 rfl rfl)
theorem dX2_numberOf_77 : decode cX2_numberOf 77 = .ok (.istore 8, 2) := dk_54 8 (dk_at dksX2_numberOf_3 6 rfl rfl)
theorem dX2_numberOf_79 : decode cX2_numberOf 79 = .ok (.iload 8, 2) := dk_21 8 (dk_at dksX2_numberOf_3 8 rfl rfl)
theorem dX2_numberOf_81 : decode cX2_numberOf 81 = .ok (.iload 4, 2) := dk_21 4 (dk_at dksX2_numberOf_3 10 rfl rfl)
theorem dX2_numberOf_83 : decode cX2_numberOf 83 = .ok (.if_icmp .ge 29, 3) := dk_162 0 29 (dk_at dksX2_numberOf_3 12 rfl rfl)
theorem dX2_numberOf_86 : decode cX2_numberOf 86 = .ok (.iload 7, 2) := dk_21 7 (dk_at dksX2_numberOf_3 15 rfl rfl)
theorem dX2_numberOf_88 : decode cX2_numberOf 88 = .ok (.iload_n 3, 1) := dk_29 (dk_at dksX2_numberOf_3 17 rfl rfl)
theorem dX2_numberOf_89 : decode cX2_numberOf 89 = .ok (.iconst 1, 1) := dk_4 (dk_at dksX2_numberOf_3 18 rfl rfl)
theorem dX2_numberOf_90 : decode cX2_numberOf 90 = .ok (.isub, 1) := dk_100 (dk_at dksX2_numberOf_3 19 rfl rfl)
theorem dX2_numberOf_91 : decode cX2_numberOf 91 = .ok (.iload 8, 2) := dk_21 8 (dk_at dksX2_numberOf_3 20 rfl rfl)
theorem dX2_numberOf_93 : decode cX2_numberOf 93 = .ok (.isub, 1) := dk_100 (dk_at dksX2_numberOf_3 22 rfl rfl)
theorem dX2_numberOf_94 : decode cX2_numberOf 94 = .ok (.iload_n 3, 1) := dk_29 (dk_at dksX2_numberOf_3 23 rfl rfl)
theorem dX2_numberOf_95 : decode cX2_numberOf 95 = .ok (.iconst 2, 1) := dk_5 (dk_at dksX2_numberOf_4 0 rfl rfl)
theorem dX2_numberOf_96 : decode cX2_numberOf 96 = .ok (.isub, 1) := dk_100 (dk_at dksX2_numberOf_4 1 rfl rfl)
theorem dX2_numberOf_97 : decode cX2_numberOf 97 = .ok (.iload 8, 2) := dk_21 8 (dk_at dksX2_numberOf_4 2 rfl rfl)
theorem dX2_numberOf_99 : decode cX2_numberOf 99 = .ok (.isub, 1) := dk_100 (dk_at dksX2_numberOf_4 4 rfl rfl)
theorem dX2_numberOf_100 : decode cX2_numberOf 100 = .ok (.imul, 1) := dk_104 (dk_at dksX2_numberOf_4 5 rfl rfl)
theorem dX2_numberOf_101 : decode cX2_numberOf 101 = .ok (.iconst 2, 1) := dk_5 (dk_at dksX2_numberOf_4 6 rfl rfl)
theorem dX2_numberOf_102 : decode cX2_numberOf 102 = .ok (.idiv, 1) := dk_108 (dk_at dksX2_numberOf_4 7 rfl rfl)
theorem dX2_numberOf_103 : decode cX2_numberOf 103 = .ok (.iadd, 1) := dk_96 (dk_at dksX2_numberOf_4 8 rfl rfl)
theorem dX2_numberOf_104 : decode cX2_numberOf 104 = .ok (.istore 7, 2) := dk_54 7 (dk_at dksX2_numberOf_4 9 rfl rfl)
theorem dX2_numberOf_106 : decode cX2_numberOf 106 = .ok (.iinc 8 1, 3) := dk_132 8 1 (dk_at dksX2_numberOf_4 11 rfl rfl)
theorem dX2_numberOf_109 : decode cX2_numberOf 109 = .ok (.goto (-30), 3) := dk_167 255 226 (dk_at dksX2_numberOf_4 14 rfl rfl)
theorem dX2_numberOf_112 : decode cX2_numberOf 112 = .ok (.iload 4, 2) := dk_21 4 (dk_at dksX2_numberOf_4 17 rfl rfl)
theorem dX2_numberOf_114 : decode cX2_numberOf 114 = .ok (.iconst 1, 1) := dk_4 (dk_at dksX2_numberOf_4 19 rfl rfl)
theorem dX2_numberOf_115 : decode cX2_numberOf 115 = .ok (.iadd, 1) := dk_96 (dk_at dksX2_numberOf_4 20 rfl rfl)
theorem dX2_numberOf_116 : decode cX2_numberOf 116 = .ok (.istore 8, 2) := dk_54 8 (dk_at dksX2_numberOf_4 21 rfl rfl)
theorem dX2_numberOf_118 : decode cX2_numberOf 118 = .ok (.iload 8, 2) := dk_21 8 (dk_at dksX2_numberOf_5 0 rfl rfl)
theorem dX2_numberOf_120 : decode cX2_numberOf 120 = .ok (.iload 6, 2) := dk_21 6 (dk_at dksX2_numberOf_5 2 rfl rfl)
theorem dX2_numberOf_122 : decode cX2_numberOf 122 = .ok (.if_icmp .ge 20, 3) := dk_162 0 20 (dk_at dksX2_numberOf_5 4 rfl rfl)
theorem dX2_numberOf_125 : decode cX2_numberOf 125 = .ok (.iload 7, 2) := dk_21 7 (dk_at dksX2_numberOf_5 7 rfl rfl)
theorem dX2_numberOf_127 : decode cX2_numberOf 127 = .ok (.iload_n 3, 1) := dk_29 (dk_at dksX2_numberOf_5 9 rfl rfl)
theorem dX2_numberOf_128 : decode cX2_numberOf 128 = .ok (.iconst 1, 1) := dk_4 (dk_at dksX2_numberOf_5 10 rfl rfl)
theorem dX2_numberOf_129 : decode cX2_numberOf 129 = .ok (.isub, 1) := dk_100 (dk_at dksX2_numberOf_5 11 rfl rfl)
theorem dX2_numberOf_130 : decode cX2_numberOf 130 = .ok (.iload 8, 2) := dk_21 8 (dk_at dksX2_numberOf_5 12 rfl rfl)
theorem dX2_numberOf_132 : decode cX2_numberOf 132 = .ok (.isub, 1) := dk_100 (dk_at dksX2_numberOf_5 14 rfl rfl)
theorem dX2_numberOf_133 : decode cX2_numberOf 133 = .ok (.iadd, 1) := dk_96 (dk_at dksX2_numberOf_5 15 rfl rfl)
theorem dX2_numberOf_134 : decode cX2_numberOf 134 = .ok (.istore 7, 2) := dk_54 7 (dk_at dksX2_numberOf_5 16 rfl rfl)
theorem dX2_numberOf_136 : decode cX2_numberOf 136 = .ok (.iinc 8 1, 3) := dk_132 8 1 (dk_at dksX2_numberOf_5 18 rfl rfl)
theorem dX2_numberOf_139 : decode cX2_numberOf 139 = .ok (.goto (-21), 3) := dk_167 255 235 (dk_at dksX2_numberOf_5 21 rfl rfl)
theorem dX2_numberOf_142 : decode cX2_numberOf 142 = .ok (.iload 7, 2) := dk_21 7 (dk_at dksX2_numberOf_6 0 rfl rfl)
theorem dX2_numberOf_144 : decode cX2_numberOf 144 = .ok (.iload 5, 2) := dk_21 5 (dk_at dksX2_numberOf_6 2 rfl rfl)
theorem dX2_numberOf_146 : decode cX2_numberOf 146 = .ok (.iadd, 1) := dk_96 (dk_at dksX2_numberOf_6 4 rfl rfl)
theorem dX2_numberOf_147 : decode cX2_numberOf 147 = .ok (.iload 6, 2) := dk_21 6 (dk_at dksX2_numberOf_6 5 rfl rfl)
theorem dX2_numberOf_149 : decode cX2_numberOf 149 = .ok (.isub, 1) := dk_100 (dk_at dksX2_numberOf_6 7 rfl rfl)
theorem dX2_numberOf_150 : decode cX2_numberOf 150 = .ok (.iconst 1, 1) := dk_4 (dk_at dksX2_numberOf_6 8 rfl rfl)
theorem dX2_numberOf_151 : decode cX2_numberOf 151 = .ok (.isub, 1) := dk_100 (dk_at dksX2_numberOf_6 9 rfl rfl)
theorem dX2_numberOf_152 : decode cX2_numberOf 152 = .ok (.ireturn, 1) := dk_172 (dk_at dksX2_numberOf_6 10 rfl rfl)
abbrev cX2_letters : ByteArray := prog_10_method_3_code
def yX2_letters : MethodName := ⟨RX2, "letters", "(J)I"⟩
def dkwX2_letters_6 : List UInt8 := [181, 0, 75, 132, 7, 1, 167, 255, 216, 42, 180, 0, 75, 172]
abbrev dktX2_letters_6 : List UInt8 := dkwX2_letters_6 ++ []
def dkwX2_letters_5 : List UInt8 := [180, 0, 75, 31, 16, 8, 21, 7, 104, 125, 20, 0, 73, 127, 136, 79, 42, 89, 180, 0, 75, 4, 96]
abbrev dktX2_letters_5 : List UInt8 := dkwX2_letters_5 ++ dktX2_letters_6
def dkwX2_letters_4 : List UInt8 := [29, 96, 16, 20, 164, 0, 6, 16, 152, 172, 3, 54, 7, 21, 7, 29, 162, 0, 40, 42, 180, 0, 7, 42]
abbrev dktX2_letters_4 : List UInt8 := dkwX2_letters_4 ++ dktX2_letters_5
def dkwX2_letters_3 : List UInt8 := [167, 0, 4, 3, 96, 62, 132, 7, 1, 167, 255, 187, 21, 4, 154, 0, 6, 16, 154, 172, 42, 180, 0, 75]
abbrev dktX2_letters_3 : List UInt8 := dkwX2_letters_3 ++ dktX2_letters_4
def dkwX2_letters_2 : List UInt8 := [153, 0, 9, 29, 21, 7, 160, 0, 7, 4, 167, 0, 4, 3, 54, 4, 29, 21, 8, 158, 0, 7, 4]
abbrev dktX2_letters_2 : List UInt8 := dkwX2_letters_2 ++ dktX2_letters_3
def dkwX2_letters_1 : List UInt8 := [136, 54, 8, 22, 5, 16, 8, 125, 55, 5, 21, 4, 153, 0, 25, 21, 8, 16, 126, 163, 0, 18, 21, 8]
abbrev dktX2_letters_1 : List UInt8 := dkwX2_letters_1 ++ dktX2_letters_2
def dkwX2_letters_0 : List UInt8 := [3, 62, 4, 54, 4, 31, 55, 5, 3, 54, 7, 21, 7, 16, 8, 162, 0, 68, 22, 5, 20, 0, 73, 127]
abbrev dktX2_letters_0 : List UInt8 := dkwX2_letters_0 ++ dktX2_letters_1
theorem dksX2_letters_0 : cX2_letters.data.toList.drop 0 = dktX2_letters_0 := by decide +kernel
theorem dksX2_letters_1 : cX2_letters.data.toList.drop 24 = dktX2_letters_1 := dk_seg dksX2_letters_0 24 rfl rfl
theorem dksX2_letters_2 : cX2_letters.data.toList.drop 48 = dktX2_letters_2 := dk_seg dksX2_letters_1 24 rfl rfl
theorem dksX2_letters_3 : cX2_letters.data.toList.drop 71 = dktX2_letters_3 := dk_seg dksX2_letters_2 23 rfl rfl
theorem dksX2_letters_4 : cX2_letters.data.toList.drop 95 = dktX2_letters_4 := dk_seg dksX2_letters_3 24 rfl rfl
theorem dksX2_letters_5 : cX2_letters.data.toList.drop 119 = dktX2_letters_5 := dk_seg dksX2_letters_4 24 rfl rfl
theorem dksX2_letters_6 : cX2_letters.data.toList.drop 142 = dktX2_letters_6 := dk_seg dksX2_letters_5 23 rfl rfl
theorem dX2_letters_0 : decode cX2_letters 0 = .ok (.iconst 0, 1) := dk_3 (dk_at dksX2_letters_0 0 rfl rfl)
theorem dX2_letters_1 : decode cX2_letters 1 = .ok (.istore_n 3, 1) := dk_62 (dk_at dksX2_letters_0 1 rfl rfl)
theorem dX2_letters_2 : decode cX2_letters 2 = .ok (.iconst 1, 1) := dk_4 (dk_at dksX2_letters_0 2 rfl rfl)
theorem dX2_letters_3 : decode cX2_letters 3 = .ok (.istore 4, 2) := dk_54 4 (dk_at dksX2_letters_0 3 rfl rfl)
theorem dX2_letters_5 : decode cX2_letters 5 = .ok (.lload_n 1, 1) := dk_31 (dk_at dksX2_letters_0 5 rfl rfl)
theorem dX2_letters_6 : decode cX2_letters 6 = .ok (.lstore 5, 2) := dk_55 5 (dk_at dksX2_letters_0 6 rfl rfl)
theorem dX2_letters_8 : decode cX2_letters 8 = .ok (.iconst 0, 1) := dk_3 (dk_at dksX2_letters_0 8 rfl rfl)
theorem dX2_letters_9 : decode cX2_letters 9 = .ok (.istore 7, 2) := dk_54 7 (dk_at dksX2_letters_0 9 rfl rfl)
theorem dX2_letters_11 : decode cX2_letters 11 = .ok (.iload 7, 2) := dk_21 7 (dk_at dksX2_letters_0 11 rfl rfl)
theorem dX2_letters_13 : decode cX2_letters 13 = .ok (.bipush 8, 2) := dk_16 8 (dk_at dksX2_letters_0 13 rfl rfl)
theorem dX2_letters_15 : decode cX2_letters 15 = .ok (.if_icmp .ge 68, 3) := dk_162 0 68 (dk_at dksX2_letters_0 15 rfl rfl)
theorem dX2_letters_18 : decode cX2_letters 18 = .ok (.lload 5, 2) := dk_22 5 (dk_at dksX2_letters_0 18 rfl rfl)
theorem dX2_letters_20 : decode cX2_letters 20 = .ok (.ldc2_w 73, 3) := dk_20 0 73 (dk_at dksX2_letters_0 20 rfl rfl)
theorem dX2_letters_23 : decode cX2_letters 23 = .ok (.land, 1) := dk_127 (dk_at dksX2_letters_0 23 rfl rfl)
theorem dX2_letters_24 : decode cX2_letters 24 = .ok (.l2i, 1) := dk_136 (dk_at dksX2_letters_1 0 rfl rfl)
theorem dX2_letters_25 : decode cX2_letters 25 = .ok (.istore 8, 2) := dk_54 8 (dk_at dksX2_letters_1 1 rfl rfl)
theorem dX2_letters_27 : decode cX2_letters 27 = .ok (.lload 5, 2) := dk_22 5 (dk_at dksX2_letters_1 3 rfl rfl)
theorem dX2_letters_29 : decode cX2_letters 29 = .ok (.bipush 8, 2) := dk_16 8 (dk_at dksX2_letters_1 5 rfl rfl)
theorem dX2_letters_31 : decode cX2_letters 31 = .ok (.lushr, 1) := dk_125 (dk_at dksX2_letters_1 7 rfl rfl)
theorem dX2_letters_32 : decode cX2_letters 32 = .ok (.lstore 5, 2) := dk_55 5 (dk_at dksX2_letters_1 8 rfl rfl)
theorem dX2_letters_34 : decode cX2_letters 34 = .ok (.iload 4, 2) := dk_21 4 (dk_at dksX2_letters_1 10 rfl rfl)
theorem dX2_letters_36 : decode cX2_letters 36 = .ok (.ifCond .eq 25, 3) := dk_153 0 25 (dk_at dksX2_letters_1 12 rfl rfl)
theorem dX2_letters_39 : decode cX2_letters 39 = .ok (.iload 8, 2) := dk_21 8 (dk_at dksX2_letters_1 15 rfl rfl)
theorem dX2_letters_41 : decode cX2_letters 41 = .ok (.bipush 126, 2) := dk_16 126 (dk_at dksX2_letters_1 17 rfl rfl)
theorem dX2_letters_43 : decode cX2_letters 43 = .ok (.if_icmp .gt 18, 3) := dk_163 0 18 (dk_at dksX2_letters_1 19 rfl rfl)
theorem dX2_letters_46 : decode cX2_letters 46 = .ok (.iload 8, 2) := dk_21 8 (dk_at dksX2_letters_1 22 rfl rfl)
theorem dX2_letters_48 : decode cX2_letters 48 = .ok (.ifCond .eq 9, 3) := dk_153 0 9 (dk_at dksX2_letters_2 0 rfl rfl)
theorem dX2_letters_51 : decode cX2_letters 51 = .ok (.iload_n 3, 1) := dk_29 (dk_at dksX2_letters_2 3 rfl rfl)
theorem dX2_letters_52 : decode cX2_letters 52 = .ok (.iload 7, 2) := dk_21 7 (dk_at dksX2_letters_2 4 rfl rfl)
theorem dX2_letters_54 : decode cX2_letters 54 = .ok (.if_icmp .ne 7, 3) := dk_160 0 7 (dk_at dksX2_letters_2 6 rfl rfl)
theorem dX2_letters_57 : decode cX2_letters 57 = .ok (.iconst 1, 1) := dk_4 (dk_at dksX2_letters_2 9 rfl rfl)
theorem dX2_letters_58 : decode cX2_letters 58 = .ok (.goto 4, 3) := dk_167 0 4 (dk_at dksX2_letters_2 10 rfl rfl)
theorem dX2_letters_61 : decode cX2_letters 61 = .ok (.iconst 0, 1) := dk_3 (dk_at dksX2_letters_2 13 rfl rfl)
theorem dX2_letters_62 : decode cX2_letters 62 = .ok (.istore 4, 2) := dk_54 4 (dk_at dksX2_letters_2 14 rfl rfl)
theorem dX2_letters_64 : decode cX2_letters 64 = .ok (.iload_n 3, 1) := dk_29 (dk_at dksX2_letters_2 16 rfl rfl)
theorem dX2_letters_65 : decode cX2_letters 65 = .ok (.iload 8, 2) := dk_21 8 (dk_at dksX2_letters_2 17 rfl rfl)
theorem dX2_letters_67 : decode cX2_letters 67 = .ok (.ifCond .le 7, 3) := dk_158 0 7 (dk_at dksX2_letters_2 19 rfl rfl)
theorem dX2_letters_70 : decode cX2_letters 70 = .ok (.iconst 1, 1) := dk_4 (dk_at dksX2_letters_2 22 rfl rfl)
theorem dX2_letters_71 : decode cX2_letters 71 = .ok (.goto 4, 3) := dk_167 0 4 (dk_at dksX2_letters_3 0 rfl rfl)
theorem dX2_letters_74 : decode cX2_letters 74 = .ok (.iconst 0, 1) := dk_3 (dk_at dksX2_letters_3 3 rfl rfl)
theorem dX2_letters_75 : decode cX2_letters 75 = .ok (.iadd, 1) := dk_96 (dk_at dksX2_letters_3 4 rfl rfl)
theorem dX2_letters_76 : decode cX2_letters 76 = .ok (.istore_n 3, 1) := dk_62 (dk_at dksX2_letters_3 5 rfl rfl)
theorem dX2_letters_77 : decode cX2_letters 77 = .ok (.iinc 7 1, 3) := dk_132 7 1 (dk_at dksX2_letters_3 6 rfl rfl)
theorem dX2_letters_80 : decode cX2_letters 80 = .ok (.goto (-69), 3) := dk_167 255 187 (dk_at dksX2_letters_3 9 rfl rfl)
theorem dX2_letters_83 : decode cX2_letters 83 = .ok (.iload 4, 2) := dk_21 4 (dk_at dksX2_letters_3 12 rfl rfl)
theorem dX2_letters_85 : decode cX2_letters 85 = .ok (.ifCond .ne 6, 3) := dk_154 0 6 (dk_at dksX2_letters_3 14 rfl rfl)
theorem dX2_letters_88 : decode cX2_letters 88 = .ok (.bipush (-102), 2) := dk_16 154 (dk_at dksX2_letters_3 17 rfl rfl)
theorem dX2_letters_90 : decode cX2_letters 90 = .ok (.ireturn, 1) := dk_172 (dk_at dksX2_letters_3 19 rfl rfl)
theorem dX2_letters_91 : decode cX2_letters 91 = .ok (.aload_n 0, 1) := dk_42 (dk_at dksX2_letters_3 20 rfl rfl)
theorem dX2_letters_92 : decode cX2_letters 92 = .ok (.getfield 75, 3) := dk_180 0 75 (dk_at dksX2_letters_3 21 rfl rfl)
theorem dX2_letters_95 : decode cX2_letters 95 = .ok (.iload_n 3, 1) := dk_29 (dk_at dksX2_letters_4 0 rfl rfl)
theorem dX2_letters_96 : decode cX2_letters 96 = .ok (.iadd, 1) := dk_96 (dk_at dksX2_letters_4 1 rfl rfl)
theorem dX2_letters_97 : decode cX2_letters 97 = .ok (.bipush 20, 2) := dk_16 20 (dk_at dksX2_letters_4 2 rfl rfl)
theorem dX2_letters_99 : decode cX2_letters 99 = .ok (.if_icmp .le 6, 3) := dk_164 0 6 (dk_at dksX2_letters_4 4 rfl rfl)
theorem dX2_letters_102 : decode cX2_letters 102 = .ok (.bipush (-104), 2) := dk_16 152 (dk_at dksX2_letters_4 7 rfl rfl)
theorem dX2_letters_104 : decode cX2_letters 104 = .ok (.ireturn, 1) := dk_172 (dk_at dksX2_letters_4 9 rfl rfl)
theorem dX2_letters_105 : decode cX2_letters 105 = .ok (.iconst 0, 1) := dk_3 (dk_at dksX2_letters_4 10 rfl rfl)
theorem dX2_letters_106 : decode cX2_letters 106 = .ok (.istore 7, 2) := dk_54 7 (dk_at dksX2_letters_4 11 rfl rfl)
theorem dX2_letters_108 : decode cX2_letters 108 = .ok (.iload 7, 2) := dk_21 7 (dk_at dksX2_letters_4 13 rfl rfl)
theorem dX2_letters_110 : decode cX2_letters 110 = .ok (.iload_n 3, 1) := dk_29 (dk_at dksX2_letters_4 15 rfl rfl)
theorem dX2_letters_111 : decode cX2_letters 111 = .ok (.if_icmp .ge 40, 3) := dk_162 0 40 (dk_at dksX2_letters_4 16 rfl rfl)
theorem dX2_letters_114 : decode cX2_letters 114 = .ok (.aload_n 0, 1) := dk_42 (dk_at dksX2_letters_4 19 rfl rfl)
theorem dX2_letters_115 : decode cX2_letters 115 = .ok (.getfield 7, 3) := dk_180 0 7 (dk_at dksX2_letters_4 20 rfl rfl)
theorem dX2_letters_118 : decode cX2_letters 118 = .ok (.aload_n 0, 1) := dk_42 (dk_at dksX2_letters_4 23 rfl rfl)
theorem dX2_letters_119 : decode cX2_letters 119 = .ok (.getfield 75, 3) := dk_180 0 75 (dk_at dksX2_letters_5 0 rfl rfl)
theorem dX2_letters_122 : decode cX2_letters 122 = .ok (.lload_n 1, 1) := dk_31 (dk_at dksX2_letters_5 3 rfl rfl)
theorem dX2_letters_123 : decode cX2_letters 123 = .ok (.bipush 8, 2) := dk_16 8 (dk_at dksX2_letters_5 4 rfl rfl)
theorem dX2_letters_125 : decode cX2_letters 125 = .ok (.iload 7, 2) := dk_21 7 (dk_at dksX2_letters_5 6 rfl rfl)
theorem dX2_letters_127 : decode cX2_letters 127 = .ok (.imul, 1) := dk_104 (dk_at dksX2_letters_5 8 rfl rfl)
theorem dX2_letters_128 : decode cX2_letters 128 = .ok (.lushr, 1) := dk_125 (dk_at dksX2_letters_5 9 rfl rfl)
theorem dX2_letters_129 : decode cX2_letters 129 = .ok (.ldc2_w 73, 3) := dk_20 0 73 (dk_at dksX2_letters_5 10 rfl rfl)
theorem dX2_letters_132 : decode cX2_letters 132 = .ok (.land, 1) := dk_127 (dk_at dksX2_letters_5 13 rfl rfl)
theorem dX2_letters_133 : decode cX2_letters 133 = .ok (.l2i, 1) := dk_136 (dk_at dksX2_letters_5 14 rfl rfl)
theorem dX2_letters_134 : decode cX2_letters 134 = .ok (.iastore, 1) := dk_79 (dk_at dksX2_letters_5 15 rfl rfl)
theorem dX2_letters_135 : decode cX2_letters 135 = .ok (.aload_n 0, 1) := dk_42 (dk_at dksX2_letters_5 16 rfl rfl)
theorem dX2_letters_136 : decode cX2_letters 136 = .ok (.dup, 1) := dk_89 (dk_at dksX2_letters_5 17 rfl rfl)
theorem dX2_letters_137 : decode cX2_letters 137 = .ok (.getfield 75, 3) := dk_180 0 75 (dk_at dksX2_letters_5 18 rfl rfl)
theorem dX2_letters_140 : decode cX2_letters 140 = .ok (.iconst 1, 1) := dk_4 (dk_at dksX2_letters_5 21 rfl rfl)
theorem dX2_letters_141 : decode cX2_letters 141 = .ok (.iadd, 1) := dk_96 (dk_at dksX2_letters_5 22 rfl rfl)
theorem dX2_letters_142 : decode cX2_letters 142 = .ok (.putfield 75, 3) := dk_181 0 75 (dk_at dksX2_letters_6 0 rfl rfl)
theorem dX2_letters_145 : decode cX2_letters 145 = .ok (.iinc 7 1, 3) := dk_132 7 1 (dk_at dksX2_letters_6 3 rfl rfl)
theorem dX2_letters_148 : decode cX2_letters 148 = .ok (.goto (-40), 3) := dk_167 255 216 (dk_at dksX2_letters_6 6 rfl rfl)
theorem dX2_letters_151 : decode cX2_letters 151 = .ok (.aload_n 0, 1) := dk_42 (dk_at dksX2_letters_6 9 rfl rfl)
theorem dX2_letters_152 : decode cX2_letters 152 = .ok (.getfield 75, 3) := dk_180 0 75 (dk_at dksX2_letters_6 10 rfl rfl)
theorem dX2_letters_155 : decode cX2_letters 155 = .ok (.ireturn, 1) := dk_172 (dk_at dksX2_letters_6 13 rfl rfl)
abbrev cX2_blank : ByteArray := prog_10_method_4_code
def yX2_blank : MethodName := ⟨RX2, "blank", "()I"⟩
def dkwX2_blank_0 : List UInt8 := [42, 180, 0, 75, 60, 42, 3, 181, 0, 75, 27, 172]
abbrev dktX2_blank_0 : List UInt8 := dkwX2_blank_0 ++ []
theorem dksX2_blank_0 : cX2_blank.data.toList.drop 0 = dktX2_blank_0 := by decide +kernel
theorem dX2_blank_0 : decode cX2_blank 0 = .ok (.aload_n 0, 1) := dk_42 (dk_at dksX2_blank_0 0 rfl rfl)
theorem dX2_blank_1 : decode cX2_blank 1 = .ok (.getfield 75, 3) := dk_180 0 75 (dk_at dksX2_blank_0 1 rfl rfl)
theorem dX2_blank_4 : decode cX2_blank 4 = .ok (.istore_n 1, 1) := dk_60 (dk_at dksX2_blank_0 4 rfl rfl)
theorem dX2_blank_5 : decode cX2_blank 5 = .ok (.aload_n 0, 1) := dk_42 (dk_at dksX2_blank_0 5 rfl rfl)
theorem dX2_blank_6 : decode cX2_blank 6 = .ok (.iconst 0, 1) := dk_3 (dk_at dksX2_blank_0 6 rfl rfl)
theorem dX2_blank_7 : decode cX2_blank 7 = .ok (.putfield 75, 3) := dk_181 0 75 (dk_at dksX2_blank_0 7 rfl rfl)
theorem dX2_blank_10 : decode cX2_blank 10 = .ok (.iload_n 1, 1) := dk_27 (dk_at dksX2_blank_0 10 rfl rfl)
theorem dX2_blank_11 : decode cX2_blank 11 = .ok (.ireturn, 1) := dk_172 (dk_at dksX2_blank_0 11 rfl rfl)
abbrev cX2_fault : ByteArray := prog_10_method_7_code
def yX2_fault : MethodName := ⟨RX2, "fault", "()I"⟩
theorem dX2_fault_0 : decode cX2_fault 0 = .ok (.aload_n 0, 1) := by decide +kernel
theorem dX2_fault_1 : decode cX2_fault 1 = .ok (.invokevirtual 98, 3) := by decide +kernel
theorem dX2_fault_4 : decode cX2_fault 4 = .ok (.ireturn, 1) := by decide +kernel
abbrev cX2_faultOf : ByteArray := prog_10_method_6_code
def yX2_faultOf : MethodName := ⟨RX2, "faultOf", "()I"⟩
def dkwX2_faultOf_1 : List UInt8 := [180, 0, 7, 27, 46, 182, 0, 94, 153, 0, 9, 132, 1, 1, 167, 255, 232, 27, 172]
abbrev dktX2_faultOf_1 : List UInt8 := dkwX2_faultOf_1 ++ []
def dkwX2_faultOf_0 : List UInt8 := [42, 3, 181, 0, 81, 42, 3, 181, 0, 78, 3, 60, 27, 42, 180, 0, 75, 162, 0, 22, 42, 42]
abbrev dktX2_faultOf_0 : List UInt8 := dkwX2_faultOf_0 ++ dktX2_faultOf_1
theorem dksX2_faultOf_0 : cX2_faultOf.data.toList.drop 0 = dktX2_faultOf_0 := by decide +kernel
theorem dksX2_faultOf_1 : cX2_faultOf.data.toList.drop 22 = dktX2_faultOf_1 := dk_seg dksX2_faultOf_0 22 rfl rfl
theorem dX2_faultOf_0 : decode cX2_faultOf 0 = .ok (.aload_n 0, 1) := dk_42 (dk_at dksX2_faultOf_0 0 rfl rfl)
theorem dX2_faultOf_1 : decode cX2_faultOf 1 = .ok (.iconst 0, 1) := dk_3 (dk_at dksX2_faultOf_0 1 rfl rfl)
theorem dX2_faultOf_2 : decode cX2_faultOf 2 = .ok (.putfield 81, 3) := dk_181 0 81 (dk_at dksX2_faultOf_0 2 rfl rfl)
theorem dX2_faultOf_5 : decode cX2_faultOf 5 = .ok (.aload_n 0, 1) := dk_42 (dk_at dksX2_faultOf_0 5 rfl rfl)
theorem dX2_faultOf_6 : decode cX2_faultOf 6 = .ok (.iconst 0, 1) := dk_3 (dk_at dksX2_faultOf_0 6 rfl rfl)
theorem dX2_faultOf_7 : decode cX2_faultOf 7 = .ok (.putfield 78, 3) := dk_181 0 78 (dk_at dksX2_faultOf_0 7 rfl rfl)
theorem dX2_faultOf_10 : decode cX2_faultOf 10 = .ok (.iconst 0, 1) := dk_3 (dk_at dksX2_faultOf_0 10 rfl rfl)
theorem dX2_faultOf_11 : decode cX2_faultOf 11 = .ok (.istore_n 1, 1) := dk_60 (dk_at dksX2_faultOf_0 11 rfl rfl)
theorem dX2_faultOf_12 : decode cX2_faultOf 12 = .ok (.iload_n 1, 1) := dk_27 (dk_at dksX2_faultOf_0 12 rfl rfl)
theorem dX2_faultOf_13 : decode cX2_faultOf 13 = .ok (.aload_n 0, 1) := dk_42 (dk_at dksX2_faultOf_0 13 rfl rfl)
theorem dX2_faultOf_14 : decode cX2_faultOf 14 = .ok (.getfield 75, 3) := dk_180 0 75 (dk_at dksX2_faultOf_0 14 rfl rfl)
theorem dX2_faultOf_17 : decode cX2_faultOf 17 = .ok (.if_icmp .ge 22, 3) := dk_162 0 22 (dk_at dksX2_faultOf_0 17 rfl rfl)
theorem dX2_faultOf_20 : decode cX2_faultOf 20 = .ok (.aload_n 0, 1) := dk_42 (dk_at dksX2_faultOf_0 20 rfl rfl)
theorem dX2_faultOf_21 : decode cX2_faultOf 21 = .ok (.aload_n 0, 1) := dk_42 (dk_at dksX2_faultOf_0 21 rfl rfl)
theorem dX2_faultOf_22 : decode cX2_faultOf 22 = .ok (.getfield 7, 3) := dk_180 0 7 (dk_at dksX2_faultOf_1 0 rfl rfl)
theorem dX2_faultOf_25 : decode cX2_faultOf 25 = .ok (.iload_n 1, 1) := dk_27 (dk_at dksX2_faultOf_1 3 rfl rfl)
theorem dX2_faultOf_26 : decode cX2_faultOf 26 = .ok (.iaload, 1) := dk_46 (dk_at dksX2_faultOf_1 4 rfl rfl)
theorem dX2_faultOf_27 : decode cX2_faultOf 27 = .ok (.invokevirtual 94, 3) := dk_182 0 94 (dk_at dksX2_faultOf_1 5 rfl rfl)
theorem dX2_faultOf_30 : decode cX2_faultOf 30 = .ok (.ifCond .eq 9, 3) := dk_153 0 9 (dk_at dksX2_faultOf_1 8 rfl rfl)
theorem dX2_faultOf_33 : decode cX2_faultOf 33 = .ok (.iinc 1 1, 3) := dk_132 1 1 (dk_at dksX2_faultOf_1 11 rfl rfl)
theorem dX2_faultOf_36 : decode cX2_faultOf 36 = .ok (.goto (-24), 3) := dk_167 255 232 (dk_at dksX2_faultOf_1 14 rfl rfl)
theorem dX2_faultOf_39 : decode cX2_faultOf 39 = .ok (.iload_n 1, 1) := dk_27 (dk_at dksX2_faultOf_1 17 rfl rfl)
theorem dX2_faultOf_40 : decode cX2_faultOf 40 = .ok (.ireturn, 1) := dk_172 (dk_at dksX2_faultOf_1 18 rfl rfl)
abbrev cX2_go : ByteArray := prog_10_method_5_code
def yX2_go : MethodName := ⟨RX2, "go", "(I)Z"⟩
def dkwX2_go_12 : List UInt8 := [160, 0, 15, 42, 180, 0, 78, 7, 162, 0, 7, 4, 167, 0, 4, 3, 172]
abbrev dktX2_go_12 : List UInt8 := dkwX2_go_12 ++ []
def dkwX2_go_11 : List UInt8 := [167, 0, 4, 3, 172, 42, 89, 180, 0, 78, 4, 96, 181, 0, 78, 42, 3, 181, 0, 81, 27, 16, 44]
abbrev dktX2_go_11 : List UInt8 := dkwX2_go_11 ++ dktX2_go_12
def dkwX2_go_10 : List UInt8 := [42, 7, 181, 0, 81, 27, 133, 20, 0, 92, 20, 0, 86, 184, 0, 88, 153, 0, 11, 29, 153, 0, 7, 4]
abbrev dktX2_go_10 : List UInt8 := dkwX2_go_10 ++ dktX2_go_11
def dkwX2_go_9 : List UInt8 := [159, 0, 7, 4, 167, 0, 4, 3, 62, 42, 180, 0, 16, 28, 4, 96, 92, 46, 27, 16, 48, 100, 96, 79]
abbrev dktX2_go_9 : List UInt8 := dkwX2_go_9 ++ dktX2_go_10
def dkwX2_go_8 : List UInt8 := [20, 0, 86, 184, 0, 88, 172, 27, 16, 48, 100, 42, 180, 0, 16, 28, 4, 96, 46, 16, 10, 108]
abbrev dktX2_go_8 : List UInt8 := dkwX2_go_8 ++ dktX2_go_9
def dkwX2_go_7 : List UInt8 := [180, 0, 16, 28, 4, 96, 16, 10, 27, 16, 48, 100, 104, 79, 42, 6, 181, 0, 81, 27, 133, 20, 0, 92]
abbrev dktX2_go_7 : List UInt8 := dkwX2_go_7 ++ dktX2_go_8
def dkwX2_go_6 : List UInt8 := [27, 16, 48, 100, 79, 42, 7, 181, 0, 81, 27, 133, 20, 0, 84, 20, 0, 86, 184, 0, 88, 172, 42]
abbrev dktX2_go_6 : List UInt8 := dkwX2_go_6 ++ dktX2_go_7
def dkwX2_go_5 : List UInt8 := [16, 117, 159, 0, 9, 27, 16, 120, 160, 0, 7, 4, 167, 0, 4, 3, 172, 42, 180, 0, 16, 28, 4, 96]
abbrev dktX2_go_5 : List UInt8 := dkwX2_go_5 ++ dktX2_go_6
def dkwX2_go_4 : List UInt8 := [167, 0, 14, 27, 16, 117, 160, 0, 7, 7, 167, 0, 4, 5, 181, 0, 81, 27, 16, 115, 159, 0, 15, 27]
abbrev dktX2_go_4 : List UInt8 := dkwX2_go_4 ++ dktX2_go_5
def dkwX2_go_3 : List UInt8 := [167, 0, 4, 6, 79, 42, 180, 0, 16, 28, 4, 96, 2, 79, 42, 27, 16, 115, 160, 0, 7, 4]
abbrev dktX2_go_3 : List UInt8 := dkwX2_go_3 ++ dktX2_go_4
def dkwX2_go_2 : List UInt8 := [42, 180, 0, 16, 28, 27, 16, 115, 160, 0, 7, 4, 167, 0, 14, 27, 16, 117, 160, 0, 7, 5]
abbrev dktX2_go_2 : List UInt8 := dkwX2_go_2 ++ dktX2_go_3
def dkwX2_go_1 : List UInt8 := [170, 0, 0, 0, 243, 0, 0, 0, 0, 0, 0, 0, 3, 0, 0, 0, 29, 0, 0, 0, 114, 0, 0, 0, 143, 0, 0, 0, 175]
abbrev dktX2_go_1 : List UInt8 := dkwX2_go_1 ++ dktX2_go_2
def dkwX2_go_0 : List UInt8 := [5, 42, 180, 0, 78, 104, 61, 42, 180, 0, 81]
abbrev dktX2_go_0 : List UInt8 := dkwX2_go_0 ++ dktX2_go_1
theorem dksX2_go_0 : cX2_go.data.toList.drop 0 = dktX2_go_0 := by decide +kernel
theorem dksX2_go_1 : cX2_go.data.toList.drop 11 = dktX2_go_1 := dk_seg dksX2_go_0 11 rfl rfl
theorem dksX2_go_2 : cX2_go.data.toList.drop 40 = dktX2_go_2 := dk_seg dksX2_go_1 29 rfl rfl
theorem dksX2_go_3 : cX2_go.data.toList.drop 62 = dktX2_go_3 := dk_seg dksX2_go_2 22 rfl rfl
theorem dksX2_go_4 : cX2_go.data.toList.drop 84 = dktX2_go_4 := dk_seg dksX2_go_3 22 rfl rfl
theorem dksX2_go_5 : cX2_go.data.toList.drop 108 = dktX2_go_5 := dk_seg dksX2_go_4 24 rfl rfl
theorem dksX2_go_6 : cX2_go.data.toList.drop 132 = dktX2_go_6 := dk_seg dksX2_go_5 24 rfl rfl
theorem dksX2_go_7 : cX2_go.data.toList.drop 155 = dktX2_go_7 := dk_seg dksX2_go_6 23 rfl rfl
theorem dksX2_go_8 : cX2_go.data.toList.drop 179 = dktX2_go_8 := dk_seg dksX2_go_7 24 rfl rfl
theorem dksX2_go_9 : cX2_go.data.toList.drop 201 = dktX2_go_9 := dk_seg dksX2_go_8 22 rfl rfl
theorem dksX2_go_10 : cX2_go.data.toList.drop 225 = dktX2_go_10 := dk_seg dksX2_go_9 24 rfl rfl
theorem dksX2_go_11 : cX2_go.data.toList.drop 249 = dktX2_go_11 := dk_seg dksX2_go_10 24 rfl rfl
theorem dksX2_go_12 : cX2_go.data.toList.drop 272 = dktX2_go_12 := dk_seg dksX2_go_11 23 rfl rfl
theorem dX2_go_0 : decode cX2_go 0 = .ok (.iconst 2, 1) := dk_5 (dk_at dksX2_go_0 0 rfl rfl)
theorem dX2_go_1 : decode cX2_go 1 = .ok (.aload_n 0, 1) := dk_42 (dk_at dksX2_go_0 1 rfl rfl)
theorem dX2_go_2 : decode cX2_go 2 = .ok (.getfield 78, 3) := dk_180 0 78 (dk_at dksX2_go_0 2 rfl rfl)
theorem dX2_go_5 : decode cX2_go 5 = .ok (.imul, 1) := dk_104 (dk_at dksX2_go_0 5 rfl rfl)
theorem dX2_go_6 : decode cX2_go 6 = .ok (.istore_n 2, 1) := dk_61 (dk_at dksX2_go_0 6 rfl rfl)
theorem dX2_go_7 : decode cX2_go 7 = .ok (.aload_n 0, 1) := dk_42 (dk_at dksX2_go_0 7 rfl rfl)
theorem dX2_go_8 : decode cX2_go 8 = .ok (.getfield 81, 3) := dk_180 0 81 (dk_at dksX2_go_0 8 rfl rfl)
theorem dX2_go_11 : decode cX2_go 11 = .ok (.tableswitch 243 0 3 #[29, 114, 143, 175], 29) := by decide +kernel
theorem dX2_go_40 : decode cX2_go 40 = .ok (.aload_n 0, 1) := dk_42 (dk_at dksX2_go_2 0 rfl rfl)
theorem dX2_go_41 : decode cX2_go 41 = .ok (.getfield 16, 3) := dk_180 0 16 (dk_at dksX2_go_2 1 rfl rfl)
theorem dX2_go_44 : decode cX2_go 44 = .ok (.iload_n 2, 1) := dk_28 (dk_at dksX2_go_2 4 rfl rfl)
theorem dX2_go_45 : decode cX2_go 45 = .ok (.iload_n 1, 1) := dk_27 (dk_at dksX2_go_2 5 rfl rfl)
theorem dX2_go_46 : decode cX2_go 46 = .ok (.bipush 115, 2) := dk_16 115 (dk_at dksX2_go_2 6 rfl rfl)
theorem dX2_go_48 : decode cX2_go 48 = .ok (.if_icmp .ne 7, 3) := dk_160 0 7 (dk_at dksX2_go_2 8 rfl rfl)
theorem dX2_go_51 : decode cX2_go 51 = .ok (.iconst 1, 1) := dk_4 (dk_at dksX2_go_2 11 rfl rfl)
theorem dX2_go_52 : decode cX2_go 52 = .ok (.goto 14, 3) := dk_167 0 14 (dk_at dksX2_go_2 12 rfl rfl)
theorem dX2_go_55 : decode cX2_go 55 = .ok (.iload_n 1, 1) := dk_27 (dk_at dksX2_go_2 15 rfl rfl)
theorem dX2_go_56 : decode cX2_go 56 = .ok (.bipush 117, 2) := dk_16 117 (dk_at dksX2_go_2 16 rfl rfl)
theorem dX2_go_58 : decode cX2_go 58 = .ok (.if_icmp .ne 7, 3) := dk_160 0 7 (dk_at dksX2_go_2 18 rfl rfl)
theorem dX2_go_61 : decode cX2_go 61 = .ok (.iconst 2, 1) := dk_5 (dk_at dksX2_go_2 21 rfl rfl)
theorem dX2_go_62 : decode cX2_go 62 = .ok (.goto 4, 3) := dk_167 0 4 (dk_at dksX2_go_3 0 rfl rfl)
theorem dX2_go_65 : decode cX2_go 65 = .ok (.iconst 3, 1) := dk_6 (dk_at dksX2_go_3 3 rfl rfl)
theorem dX2_go_66 : decode cX2_go 66 = .ok (.iastore, 1) := dk_79 (dk_at dksX2_go_3 4 rfl rfl)
theorem dX2_go_67 : decode cX2_go 67 = .ok (.aload_n 0, 1) := dk_42 (dk_at dksX2_go_3 5 rfl rfl)
theorem dX2_go_68 : decode cX2_go 68 = .ok (.getfield 16, 3) := dk_180 0 16 (dk_at dksX2_go_3 6 rfl rfl)
theorem dX2_go_71 : decode cX2_go 71 = .ok (.iload_n 2, 1) := dk_28 (dk_at dksX2_go_3 9 rfl rfl)
theorem dX2_go_72 : decode cX2_go 72 = .ok (.iconst 1, 1) := dk_4 (dk_at dksX2_go_3 10 rfl rfl)
theorem dX2_go_73 : decode cX2_go 73 = .ok (.iadd, 1) := dk_96 (dk_at dksX2_go_3 11 rfl rfl)
theorem dX2_go_74 : decode cX2_go 74 = .ok (.iconst (-1), 1) := dk_2 (dk_at dksX2_go_3 12 rfl rfl)
theorem dX2_go_75 : decode cX2_go 75 = .ok (.iastore, 1) := dk_79 (dk_at dksX2_go_3 13 rfl rfl)
theorem dX2_go_76 : decode cX2_go 76 = .ok (.aload_n 0, 1) := dk_42 (dk_at dksX2_go_3 14 rfl rfl)
theorem dX2_go_77 : decode cX2_go 77 = .ok (.iload_n 1, 1) := dk_27 (dk_at dksX2_go_3 15 rfl rfl)
theorem dX2_go_78 : decode cX2_go 78 = .ok (.bipush 115, 2) := dk_16 115 (dk_at dksX2_go_3 16 rfl rfl)
theorem dX2_go_80 : decode cX2_go 80 = .ok (.if_icmp .ne 7, 3) := dk_160 0 7 (dk_at dksX2_go_3 18 rfl rfl)
theorem dX2_go_83 : decode cX2_go 83 = .ok (.iconst 1, 1) := dk_4 (dk_at dksX2_go_3 21 rfl rfl)
theorem dX2_go_84 : decode cX2_go 84 = .ok (.goto 14, 3) := dk_167 0 14 (dk_at dksX2_go_4 0 rfl rfl)
theorem dX2_go_87 : decode cX2_go 87 = .ok (.iload_n 1, 1) := dk_27 (dk_at dksX2_go_4 3 rfl rfl)
theorem dX2_go_88 : decode cX2_go 88 = .ok (.bipush 117, 2) := dk_16 117 (dk_at dksX2_go_4 4 rfl rfl)
theorem dX2_go_90 : decode cX2_go 90 = .ok (.if_icmp .ne 7, 3) := dk_160 0 7 (dk_at dksX2_go_4 6 rfl rfl)
theorem dX2_go_93 : decode cX2_go 93 = .ok (.iconst 4, 1) := dk_7 (dk_at dksX2_go_4 9 rfl rfl)
theorem dX2_go_94 : decode cX2_go 94 = .ok (.goto 4, 3) := dk_167 0 4 (dk_at dksX2_go_4 10 rfl rfl)
theorem dX2_go_97 : decode cX2_go 97 = .ok (.iconst 2, 1) := dk_5 (dk_at dksX2_go_4 13 rfl rfl)
theorem dX2_go_98 : decode cX2_go 98 = .ok (.putfield 81, 3) := dk_181 0 81 (dk_at dksX2_go_4 14 rfl rfl)
theorem dX2_go_101 : decode cX2_go 101 = .ok (.iload_n 1, 1) := dk_27 (dk_at dksX2_go_4 17 rfl rfl)
theorem dX2_go_102 : decode cX2_go 102 = .ok (.bipush 115, 2) := dk_16 115 (dk_at dksX2_go_4 18 rfl rfl)
theorem dX2_go_104 : decode cX2_go 104 = .ok (.if_icmp .eq 15, 3) := dk_159 0 15 (dk_at dksX2_go_4 20 rfl rfl)
theorem dX2_go_107 : decode cX2_go 107 = .ok (.iload_n 1, 1) := dk_27 (dk_at dksX2_go_4 23 rfl rfl)
theorem dX2_go_108 : decode cX2_go 108 = .ok (.bipush 117, 2) := dk_16 117 (dk_at dksX2_go_5 0 rfl rfl)
theorem dX2_go_110 : decode cX2_go 110 = .ok (.if_icmp .eq 9, 3) := dk_159 0 9 (dk_at dksX2_go_5 2 rfl rfl)
theorem dX2_go_113 : decode cX2_go 113 = .ok (.iload_n 1, 1) := dk_27 (dk_at dksX2_go_5 5 rfl rfl)
theorem dX2_go_114 : decode cX2_go 114 = .ok (.bipush 120, 2) := dk_16 120 (dk_at dksX2_go_5 6 rfl rfl)
theorem dX2_go_116 : decode cX2_go 116 = .ok (.if_icmp .ne 7, 3) := dk_160 0 7 (dk_at dksX2_go_5 8 rfl rfl)
theorem dX2_go_119 : decode cX2_go 119 = .ok (.iconst 1, 1) := dk_4 (dk_at dksX2_go_5 11 rfl rfl)
theorem dX2_go_120 : decode cX2_go 120 = .ok (.goto 4, 3) := dk_167 0 4 (dk_at dksX2_go_5 12 rfl rfl)
theorem dX2_go_123 : decode cX2_go 123 = .ok (.iconst 0, 1) := dk_3 (dk_at dksX2_go_5 15 rfl rfl)
theorem dX2_go_124 : decode cX2_go 124 = .ok (.ireturn, 1) := dk_172 (dk_at dksX2_go_5 16 rfl rfl)
theorem dX2_go_125 : decode cX2_go 125 = .ok (.aload_n 0, 1) := dk_42 (dk_at dksX2_go_5 17 rfl rfl)
theorem dX2_go_126 : decode cX2_go 126 = .ok (.getfield 16, 3) := dk_180 0 16 (dk_at dksX2_go_5 18 rfl rfl)
theorem dX2_go_129 : decode cX2_go 129 = .ok (.iload_n 2, 1) := dk_28 (dk_at dksX2_go_5 21 rfl rfl)
theorem dX2_go_130 : decode cX2_go 130 = .ok (.iconst 1, 1) := dk_4 (dk_at dksX2_go_5 22 rfl rfl)
theorem dX2_go_131 : decode cX2_go 131 = .ok (.iadd, 1) := dk_96 (dk_at dksX2_go_5 23 rfl rfl)
theorem dX2_go_132 : decode cX2_go 132 = .ok (.iload_n 1, 1) := dk_27 (dk_at dksX2_go_6 0 rfl rfl)
theorem dX2_go_133 : decode cX2_go 133 = .ok (.bipush 48, 2) := dk_16 48 (dk_at dksX2_go_6 1 rfl rfl)
theorem dX2_go_135 : decode cX2_go 135 = .ok (.isub, 1) := dk_100 (dk_at dksX2_go_6 3 rfl rfl)
theorem dX2_go_136 : decode cX2_go 136 = .ok (.iastore, 1) := dk_79 (dk_at dksX2_go_6 4 rfl rfl)
theorem dX2_go_137 : decode cX2_go 137 = .ok (.aload_n 0, 1) := dk_42 (dk_at dksX2_go_6 5 rfl rfl)
theorem dX2_go_138 : decode cX2_go 138 = .ok (.iconst 4, 1) := dk_7 (dk_at dksX2_go_6 6 rfl rfl)
theorem dX2_go_139 : decode cX2_go 139 = .ok (.putfield 81, 3) := dk_181 0 81 (dk_at dksX2_go_6 7 rfl rfl)
theorem dX2_go_142 : decode cX2_go 142 = .ok (.iload_n 1, 1) := dk_27 (dk_at dksX2_go_6 10 rfl rfl)
theorem dX2_go_143 : decode cX2_go 143 = .ok (.i2l, 1) := dk_133 (dk_at dksX2_go_6 11 rfl rfl)
theorem dX2_go_144 : decode cX2_go 144 = .ok (.ldc2_w 84, 3) := dk_20 0 84 (dk_at dksX2_go_6 12 rfl rfl)
theorem dX2_go_147 : decode cX2_go 147 = .ok (.ldc2_w 86, 3) := dk_20 0 86 (dk_at dksX2_go_6 15 rfl rfl)
theorem dX2_go_150 : decode cX2_go 150 = .ok (.invokestatic 88, 3) := dk_184 0 88 (dk_at dksX2_go_6 18 rfl rfl)
theorem dX2_go_153 : decode cX2_go 153 = .ok (.ireturn, 1) := dk_172 (dk_at dksX2_go_6 21 rfl rfl)
theorem dX2_go_154 : decode cX2_go 154 = .ok (.aload_n 0, 1) := dk_42 (dk_at dksX2_go_6 22 rfl rfl)
theorem dX2_go_155 : decode cX2_go 155 = .ok (.getfield 16, 3) := dk_180 0 16 (dk_at dksX2_go_7 0 rfl rfl)
theorem dX2_go_158 : decode cX2_go 158 = .ok (.iload_n 2, 1) := dk_28 (dk_at dksX2_go_7 3 rfl rfl)
theorem dX2_go_159 : decode cX2_go 159 = .ok (.iconst 1, 1) := dk_4 (dk_at dksX2_go_7 4 rfl rfl)
theorem dX2_go_160 : decode cX2_go 160 = .ok (.iadd, 1) := dk_96 (dk_at dksX2_go_7 5 rfl rfl)
theorem dX2_go_161 : decode cX2_go 161 = .ok (.bipush 10, 2) := dk_16 10 (dk_at dksX2_go_7 6 rfl rfl)
theorem dX2_go_163 : decode cX2_go 163 = .ok (.iload_n 1, 1) := dk_27 (dk_at dksX2_go_7 8 rfl rfl)
theorem dX2_go_164 : decode cX2_go 164 = .ok (.bipush 48, 2) := dk_16 48 (dk_at dksX2_go_7 9 rfl rfl)
theorem dX2_go_166 : decode cX2_go 166 = .ok (.isub, 1) := dk_100 (dk_at dksX2_go_7 11 rfl rfl)
theorem dX2_go_167 : decode cX2_go 167 = .ok (.imul, 1) := dk_104 (dk_at dksX2_go_7 12 rfl rfl)
theorem dX2_go_168 : decode cX2_go 168 = .ok (.iastore, 1) := dk_79 (dk_at dksX2_go_7 13 rfl rfl)
theorem dX2_go_169 : decode cX2_go 169 = .ok (.aload_n 0, 1) := dk_42 (dk_at dksX2_go_7 14 rfl rfl)
theorem dX2_go_170 : decode cX2_go 170 = .ok (.iconst 3, 1) := dk_6 (dk_at dksX2_go_7 15 rfl rfl)
theorem dX2_go_171 : decode cX2_go 171 = .ok (.putfield 81, 3) := dk_181 0 81 (dk_at dksX2_go_7 16 rfl rfl)
theorem dX2_go_174 : decode cX2_go 174 = .ok (.iload_n 1, 1) := dk_27 (dk_at dksX2_go_7 19 rfl rfl)
theorem dX2_go_175 : decode cX2_go 175 = .ok (.i2l, 1) := dk_133 (dk_at dksX2_go_7 20 rfl rfl)
theorem dX2_go_176 : decode cX2_go 176 = .ok (.ldc2_w 92, 3) := dk_20 0 92 (dk_at dksX2_go_7 21 rfl rfl)
theorem dX2_go_179 : decode cX2_go 179 = .ok (.ldc2_w 86, 3) := dk_20 0 86 (dk_at dksX2_go_8 0 rfl rfl)
theorem dX2_go_182 : decode cX2_go 182 = .ok (.invokestatic 88, 3) := dk_184 0 88 (dk_at dksX2_go_8 3 rfl rfl)
theorem dX2_go_185 : decode cX2_go 185 = .ok (.ireturn, 1) := dk_172 (dk_at dksX2_go_8 6 rfl rfl)
theorem dX2_go_186 : decode cX2_go 186 = .ok (.iload_n 1, 1) := dk_27 (dk_at dksX2_go_8 7 rfl rfl)
theorem dX2_go_187 : decode cX2_go 187 = .ok (.bipush 48, 2) := dk_16 48 (dk_at dksX2_go_8 8 rfl rfl)
theorem dX2_go_189 : decode cX2_go 189 = .ok (.isub, 1) := dk_100 (dk_at dksX2_go_8 10 rfl rfl)
theorem dX2_go_190 : decode cX2_go 190 = .ok (.aload_n 0, 1) := dk_42 (dk_at dksX2_go_8 11 rfl rfl)
theorem dX2_go_191 : decode cX2_go 191 = .ok (.getfield 16, 3) := dk_180 0 16 (dk_at dksX2_go_8 12 rfl rfl)
theorem dX2_go_194 : decode cX2_go 194 = .ok (.iload_n 2, 1) := dk_28 (dk_at dksX2_go_8 15 rfl rfl)
theorem dX2_go_195 : decode cX2_go 195 = .ok (.iconst 1, 1) := dk_4 (dk_at dksX2_go_8 16 rfl rfl)
theorem dX2_go_196 : decode cX2_go 196 = .ok (.iadd, 1) := dk_96 (dk_at dksX2_go_8 17 rfl rfl)
theorem dX2_go_197 : decode cX2_go 197 = .ok (.iaload, 1) := dk_46 (dk_at dksX2_go_8 18 rfl rfl)
theorem dX2_go_198 : decode cX2_go 198 = .ok (.bipush 10, 2) := dk_16 10 (dk_at dksX2_go_8 19 rfl rfl)
theorem dX2_go_200 : decode cX2_go 200 = .ok (.idiv, 1) := dk_108 (dk_at dksX2_go_8 21 rfl rfl)
theorem dX2_go_201 : decode cX2_go 201 = .ok (.if_icmp .eq 7, 3) := dk_159 0 7 (dk_at dksX2_go_9 0 rfl rfl)
theorem dX2_go_204 : decode cX2_go 204 = .ok (.iconst 1, 1) := dk_4 (dk_at dksX2_go_9 3 rfl rfl)
theorem dX2_go_205 : decode cX2_go 205 = .ok (.goto 4, 3) := dk_167 0 4 (dk_at dksX2_go_9 4 rfl rfl)
theorem dX2_go_208 : decode cX2_go 208 = .ok (.iconst 0, 1) := dk_3 (dk_at dksX2_go_9 7 rfl rfl)
theorem dX2_go_209 : decode cX2_go 209 = .ok (.istore_n 3, 1) := dk_62 (dk_at dksX2_go_9 8 rfl rfl)
theorem dX2_go_210 : decode cX2_go 210 = .ok (.aload_n 0, 1) := dk_42 (dk_at dksX2_go_9 9 rfl rfl)
theorem dX2_go_211 : decode cX2_go 211 = .ok (.getfield 16, 3) := dk_180 0 16 (dk_at dksX2_go_9 10 rfl rfl)
theorem dX2_go_214 : decode cX2_go 214 = .ok (.iload_n 2, 1) := dk_28 (dk_at dksX2_go_9 13 rfl rfl)
theorem dX2_go_215 : decode cX2_go 215 = .ok (.iconst 1, 1) := dk_4 (dk_at dksX2_go_9 14 rfl rfl)
theorem dX2_go_216 : decode cX2_go 216 = .ok (.iadd, 1) := dk_96 (dk_at dksX2_go_9 15 rfl rfl)
theorem dX2_go_217 : decode cX2_go 217 = .ok (.dup2, 1) := dk_92 (dk_at dksX2_go_9 16 rfl rfl)
theorem dX2_go_218 : decode cX2_go 218 = .ok (.iaload, 1) := dk_46 (dk_at dksX2_go_9 17 rfl rfl)
theorem dX2_go_219 : decode cX2_go 219 = .ok (.iload_n 1, 1) := dk_27 (dk_at dksX2_go_9 18 rfl rfl)
theorem dX2_go_220 : decode cX2_go 220 = .ok (.bipush 48, 2) := dk_16 48 (dk_at dksX2_go_9 19 rfl rfl)
theorem dX2_go_222 : decode cX2_go 222 = .ok (.isub, 1) := dk_100 (dk_at dksX2_go_9 21 rfl rfl)
theorem dX2_go_223 : decode cX2_go 223 = .ok (.iadd, 1) := dk_96 (dk_at dksX2_go_9 22 rfl rfl)
theorem dX2_go_224 : decode cX2_go 224 = .ok (.iastore, 1) := dk_79 (dk_at dksX2_go_9 23 rfl rfl)
theorem dX2_go_225 : decode cX2_go 225 = .ok (.aload_n 0, 1) := dk_42 (dk_at dksX2_go_10 0 rfl rfl)
theorem dX2_go_226 : decode cX2_go 226 = .ok (.iconst 4, 1) := dk_7 (dk_at dksX2_go_10 1 rfl rfl)
theorem dX2_go_227 : decode cX2_go 227 = .ok (.putfield 81, 3) := dk_181 0 81 (dk_at dksX2_go_10 2 rfl rfl)
theorem dX2_go_230 : decode cX2_go 230 = .ok (.iload_n 1, 1) := dk_27 (dk_at dksX2_go_10 5 rfl rfl)
theorem dX2_go_231 : decode cX2_go 231 = .ok (.i2l, 1) := dk_133 (dk_at dksX2_go_10 6 rfl rfl)
theorem dX2_go_232 : decode cX2_go 232 = .ok (.ldc2_w 92, 3) := dk_20 0 92 (dk_at dksX2_go_10 7 rfl rfl)
theorem dX2_go_235 : decode cX2_go 235 = .ok (.ldc2_w 86, 3) := dk_20 0 86 (dk_at dksX2_go_10 10 rfl rfl)
theorem dX2_go_238 : decode cX2_go 238 = .ok (.invokestatic 88, 3) := dk_184 0 88 (dk_at dksX2_go_10 13 rfl rfl)
theorem dX2_go_241 : decode cX2_go 241 = .ok (.ifCond .eq 11, 3) := dk_153 0 11 (dk_at dksX2_go_10 16 rfl rfl)
theorem dX2_go_244 : decode cX2_go 244 = .ok (.iload_n 3, 1) := dk_29 (dk_at dksX2_go_10 19 rfl rfl)
theorem dX2_go_245 : decode cX2_go 245 = .ok (.ifCond .eq 7, 3) := dk_153 0 7 (dk_at dksX2_go_10 20 rfl rfl)
theorem dX2_go_248 : decode cX2_go 248 = .ok (.iconst 1, 1) := dk_4 (dk_at dksX2_go_10 23 rfl rfl)
theorem dX2_go_249 : decode cX2_go 249 = .ok (.goto 4, 3) := dk_167 0 4 (dk_at dksX2_go_11 0 rfl rfl)
theorem dX2_go_252 : decode cX2_go 252 = .ok (.iconst 0, 1) := dk_3 (dk_at dksX2_go_11 3 rfl rfl)
theorem dX2_go_253 : decode cX2_go 253 = .ok (.ireturn, 1) := dk_172 (dk_at dksX2_go_11 4 rfl rfl)
theorem dX2_go_254 : decode cX2_go 254 = .ok (.aload_n 0, 1) := dk_42 (dk_at dksX2_go_11 5 rfl rfl)
theorem dX2_go_255 : decode cX2_go 255 = .ok (.dup, 1) := dk_89 (dk_at dksX2_go_11 6 rfl rfl)
theorem dX2_go_256 : decode cX2_go 256 = .ok (.getfield 78, 3) := dk_180 0 78 (dk_at dksX2_go_11 7 rfl rfl)
theorem dX2_go_259 : decode cX2_go 259 = .ok (.iconst 1, 1) := dk_4 (dk_at dksX2_go_11 10 rfl rfl)
theorem dX2_go_260 : decode cX2_go 260 = .ok (.iadd, 1) := dk_96 (dk_at dksX2_go_11 11 rfl rfl)
theorem dX2_go_261 : decode cX2_go 261 = .ok (.putfield 78, 3) := dk_181 0 78 (dk_at dksX2_go_11 12 rfl rfl)
theorem dX2_go_264 : decode cX2_go 264 = .ok (.aload_n 0, 1) := dk_42 (dk_at dksX2_go_11 15 rfl rfl)
theorem dX2_go_265 : decode cX2_go 265 = .ok (.iconst 0, 1) := dk_3 (dk_at dksX2_go_11 16 rfl rfl)
theorem dX2_go_266 : decode cX2_go 266 = .ok (.putfield 81, 3) := dk_181 0 81 (dk_at dksX2_go_11 17 rfl rfl)
theorem dX2_go_269 : decode cX2_go 269 = .ok (.iload_n 1, 1) := dk_27 (dk_at dksX2_go_11 20 rfl rfl)
theorem dX2_go_270 : decode cX2_go 270 = .ok (.bipush 44, 2) := dk_16 44 (dk_at dksX2_go_11 21 rfl rfl)
theorem dX2_go_272 : decode cX2_go 272 = .ok (.if_icmp .ne 15, 3) := dk_160 0 15 (dk_at dksX2_go_12 0 rfl rfl)
theorem dX2_go_275 : decode cX2_go 275 = .ok (.aload_n 0, 1) := dk_42 (dk_at dksX2_go_12 3 rfl rfl)
theorem dX2_go_276 : decode cX2_go 276 = .ok (.getfield 78, 3) := dk_180 0 78 (dk_at dksX2_go_12 4 rfl rfl)
theorem dX2_go_279 : decode cX2_go 279 = .ok (.iconst 4, 1) := dk_7 (dk_at dksX2_go_12 7 rfl rfl)
theorem dX2_go_280 : decode cX2_go 280 = .ok (.if_icmp .ge 7, 3) := dk_162 0 7 (dk_at dksX2_go_12 8 rfl rfl)
theorem dX2_go_283 : decode cX2_go 283 = .ok (.iconst 1, 1) := dk_4 (dk_at dksX2_go_12 11 rfl rfl)
theorem dX2_go_284 : decode cX2_go 284 = .ok (.goto 4, 3) := dk_167 0 4 (dk_at dksX2_go_12 12 rfl rfl)
theorem dX2_go_287 : decode cX2_go 287 = .ok (.iconst 0, 1) := dk_3 (dk_at dksX2_go_12 15 rfl rfl)
theorem dX2_go_288 : decode cX2_go 288 = .ok (.ireturn, 1) := dk_172 (dk_at dksX2_go_12 16 rfl rfl)
abbrev cX2_in : ByteArray := prog_10_method_2_code
def yX2_in : MethodName := ⟨RX2, "in", "(JJJ)Z"⟩
def dkwX2_in_0 : List UInt8 := [30, 32, 148, 155, 0, 14, 30, 22, 4, 148, 157, 0, 7, 4, 167, 0, 4, 3, 172]
abbrev dktX2_in_0 : List UInt8 := dkwX2_in_0 ++ []
theorem dksX2_in_0 : cX2_in.data.toList.drop 0 = dktX2_in_0 := by decide +kernel
theorem dX2_in_0 : decode cX2_in 0 = .ok (.lload_n 0, 1) := dk_30 (dk_at dksX2_in_0 0 rfl rfl)
theorem dX2_in_1 : decode cX2_in 1 = .ok (.lload_n 2, 1) := dk_32 (dk_at dksX2_in_0 1 rfl rfl)
theorem dX2_in_2 : decode cX2_in 2 = .ok (.lcmp, 1) := dk_148 (dk_at dksX2_in_0 2 rfl rfl)
theorem dX2_in_3 : decode cX2_in 3 = .ok (.ifCond .lt 14, 3) := dk_155 0 14 (dk_at dksX2_in_0 3 rfl rfl)
theorem dX2_in_6 : decode cX2_in 6 = .ok (.lload_n 0, 1) := dk_30 (dk_at dksX2_in_0 6 rfl rfl)
theorem dX2_in_7 : decode cX2_in 7 = .ok (.lload 4, 2) := dk_22 4 (dk_at dksX2_in_0 7 rfl rfl)
theorem dX2_in_9 : decode cX2_in 9 = .ok (.lcmp, 1) := dk_148 (dk_at dksX2_in_0 9 rfl rfl)
theorem dX2_in_10 : decode cX2_in 10 = .ok (.ifCond .gt 7, 3) := dk_157 0 7 (dk_at dksX2_in_0 10 rfl rfl)
theorem dX2_in_13 : decode cX2_in 13 = .ok (.iconst 1, 1) := dk_4 (dk_at dksX2_in_0 13 rfl rfl)
theorem dX2_in_14 : decode cX2_in 14 = .ok (.goto 4, 3) := dk_167 0 4 (dk_at dksX2_in_0 14 rfl rfl)
theorem dX2_in_17 : decode cX2_in 17 = .ok (.iconst 0, 1) := dk_3 (dk_at dksX2_in_0 17 rfl rfl)
theorem dX2_in_18 : decode cX2_in 18 = .ok (.ireturn, 1) := dk_172 (dk_at dksX2_in_0 18 rfl rfl)
abbrev cX2_strings : ByteArray := prog_10_method_12_code
def yX2_strings : MethodName := ⟨RX2, "strings", "(I)I"⟩
def dkwX2_strings_2 : List UInt8 := [180, 0, 102, 172]
abbrev dktX2_strings_2 : List UInt8 := dkwX2_strings_2 ++ []
def dkwX2_strings_1 : List UInt8 := [182, 0, 70, 42, 3, 181, 0, 127, 42, 3, 181, 0, 130, 42, 89, 180, 0, 133, 4, 96, 181, 0, 133, 42]
abbrev dktX2_strings_1 : List UInt8 := dkwX2_strings_1 ++ dktX2_strings_2
def dkwX2_strings_0 : List UInt8 := [27, 133, 20, 0, 123, 20, 0, 125, 184, 0, 88, 154, 0, 6, 16, 154, 172, 42, 27, 181, 0, 67, 42]
abbrev dktX2_strings_0 : List UInt8 := dkwX2_strings_0 ++ dktX2_strings_1
theorem dksX2_strings_0 : cX2_strings.data.toList.drop 0 = dktX2_strings_0 := by decide +kernel
theorem dksX2_strings_1 : cX2_strings.data.toList.drop 23 = dktX2_strings_1 := dk_seg dksX2_strings_0 23 rfl rfl
theorem dksX2_strings_2 : cX2_strings.data.toList.drop 47 = dktX2_strings_2 := dk_seg dksX2_strings_1 24 rfl rfl
theorem dX2_strings_0 : decode cX2_strings 0 = .ok (.iload_n 1, 1) := dk_27 (dk_at dksX2_strings_0 0 rfl rfl)
theorem dX2_strings_1 : decode cX2_strings 1 = .ok (.i2l, 1) := dk_133 (dk_at dksX2_strings_0 1 rfl rfl)
theorem dX2_strings_2 : decode cX2_strings 2 = .ok (.ldc2_w 123, 3) := dk_20 0 123 (dk_at dksX2_strings_0 2 rfl rfl)
theorem dX2_strings_5 : decode cX2_strings 5 = .ok (.ldc2_w 125, 3) := dk_20 0 125 (dk_at dksX2_strings_0 5 rfl rfl)
theorem dX2_strings_8 : decode cX2_strings 8 = .ok (.invokestatic 88, 3) := dk_184 0 88 (dk_at dksX2_strings_0 8 rfl rfl)
theorem dX2_strings_11 : decode cX2_strings 11 = .ok (.ifCond .ne 6, 3) := dk_154 0 6 (dk_at dksX2_strings_0 11 rfl rfl)
theorem dX2_strings_14 : decode cX2_strings 14 = .ok (.bipush (-102), 2) := dk_16 154 (dk_at dksX2_strings_0 14 rfl rfl)
theorem dX2_strings_16 : decode cX2_strings 16 = .ok (.ireturn, 1) := dk_172 (dk_at dksX2_strings_0 16 rfl rfl)
theorem dX2_strings_17 : decode cX2_strings 17 = .ok (.aload_n 0, 1) := dk_42 (dk_at dksX2_strings_0 17 rfl rfl)
theorem dX2_strings_18 : decode cX2_strings 18 = .ok (.iload_n 1, 1) := dk_27 (dk_at dksX2_strings_0 18 rfl rfl)
theorem dX2_strings_19 : decode cX2_strings 19 = .ok (.putfield 67, 3) := dk_181 0 67 (dk_at dksX2_strings_0 19 rfl rfl)
theorem dX2_strings_22 : decode cX2_strings 22 = .ok (.aload_n 0, 1) := dk_42 (dk_at dksX2_strings_0 22 rfl rfl)
theorem dX2_strings_23 : decode cX2_strings 23 = .ok (.invokevirtual 70, 3) := dk_182 0 70 (dk_at dksX2_strings_1 0 rfl rfl)
theorem dX2_strings_26 : decode cX2_strings 26 = .ok (.aload_n 0, 1) := dk_42 (dk_at dksX2_strings_1 3 rfl rfl)
theorem dX2_strings_27 : decode cX2_strings 27 = .ok (.iconst 0, 1) := dk_3 (dk_at dksX2_strings_1 4 rfl rfl)
theorem dX2_strings_28 : decode cX2_strings 28 = .ok (.putfield 127, 3) := dk_181 0 127 (dk_at dksX2_strings_1 5 rfl rfl)
theorem dX2_strings_31 : decode cX2_strings 31 = .ok (.aload_n 0, 1) := dk_42 (dk_at dksX2_strings_1 8 rfl rfl)
theorem dX2_strings_32 : decode cX2_strings 32 = .ok (.iconst 0, 1) := dk_3 (dk_at dksX2_strings_1 9 rfl rfl)
theorem dX2_strings_33 : decode cX2_strings 33 = .ok (.putfield 130, 3) := dk_181 0 130 (dk_at dksX2_strings_1 10 rfl rfl)
theorem dX2_strings_36 : decode cX2_strings 36 = .ok (.aload_n 0, 1) := dk_42 (dk_at dksX2_strings_1 13 rfl rfl)
theorem dX2_strings_37 : decode cX2_strings 37 = .ok (.dup, 1) := dk_89 (dk_at dksX2_strings_1 14 rfl rfl)
theorem dX2_strings_38 : decode cX2_strings 38 = .ok (.getfield 133, 3) := dk_180 0 133 (dk_at dksX2_strings_1 15 rfl rfl)
theorem dX2_strings_41 : decode cX2_strings 41 = .ok (.iconst 1, 1) := dk_4 (dk_at dksX2_strings_1 18 rfl rfl)
theorem dX2_strings_42 : decode cX2_strings 42 = .ok (.iadd, 1) := dk_96 (dk_at dksX2_strings_1 19 rfl rfl)
theorem dX2_strings_43 : decode cX2_strings 43 = .ok (.putfield 133, 3) := dk_181 0 133 (dk_at dksX2_strings_1 20 rfl rfl)
theorem dX2_strings_46 : decode cX2_strings 46 = .ok (.aload_n 0, 1) := dk_42 (dk_at dksX2_strings_1 23 rfl rfl)
theorem dX2_strings_47 : decode cX2_strings 47 = .ok (.getfield 102, 3) := dk_180 0 102 (dk_at dksX2_strings_2 0 rfl rfl)
theorem dX2_strings_50 : decode cX2_strings 50 = .ok (.ireturn, 1) := dk_172 (dk_at dksX2_strings_2 3 rfl rfl)
abbrev cX2_law : ByteArray := prog_10_method_13_code
def yX2_law : MethodName := ⟨RX2, "law", "()I"⟩
def dkwX2_law_3 : List UInt8 := [180, 0, 133, 4, 96, 181, 0, 133, 42, 3, 181, 0, 75, 42, 180, 0, 109, 172]
abbrev dktX2_law_3 : List UInt8 := dkwX2_law_3 ++ []
def dkwX2_law_2 : List UInt8 := [180, 0, 16, 27, 46, 79, 132, 1, 1, 167, 255, 235, 42, 182, 0, 70, 42, 3, 181, 0, 130, 42, 89]
abbrev dktX2_law_2 : List UInt8 := dkwX2_law_2 ++ dktX2_law_3
def dkwX2_law_1 : List UInt8 := [180, 0, 78, 4, 96, 181, 0, 112, 3, 60, 27, 16, 8, 162, 0, 21, 42, 180, 0, 13, 27, 42]
abbrev dktX2_law_1 : List UInt8 := dkwX2_law_1 ++ dktX2_law_2
def dkwX2_law_0 : List UInt8 := [42, 182, 0, 98, 42, 180, 0, 75, 161, 0, 11, 42, 180, 0, 81, 7, 159, 0, 6, 16, 153, 172, 42, 42]
abbrev dktX2_law_0 : List UInt8 := dkwX2_law_0 ++ dktX2_law_1
theorem dksX2_law_0 : cX2_law.data.toList.drop 0 = dktX2_law_0 := by decide +kernel
theorem dksX2_law_1 : cX2_law.data.toList.drop 24 = dktX2_law_1 := dk_seg dksX2_law_0 24 rfl rfl
theorem dksX2_law_2 : cX2_law.data.toList.drop 46 = dktX2_law_2 := dk_seg dksX2_law_1 22 rfl rfl
theorem dksX2_law_3 : cX2_law.data.toList.drop 69 = dktX2_law_3 := dk_seg dksX2_law_2 23 rfl rfl
theorem dX2_law_0 : decode cX2_law 0 = .ok (.aload_n 0, 1) := dk_42 (dk_at dksX2_law_0 0 rfl rfl)
theorem dX2_law_1 : decode cX2_law 1 = .ok (.invokevirtual 98, 3) := dk_182 0 98 (dk_at dksX2_law_0 1 rfl rfl)
theorem dX2_law_4 : decode cX2_law 4 = .ok (.aload_n 0, 1) := dk_42 (dk_at dksX2_law_0 4 rfl rfl)
theorem dX2_law_5 : decode cX2_law 5 = .ok (.getfield 75, 3) := dk_180 0 75 (dk_at dksX2_law_0 5 rfl rfl)
theorem dX2_law_8 : decode cX2_law 8 = .ok (.if_icmp .lt 11, 3) := dk_161 0 11 (dk_at dksX2_law_0 8 rfl rfl)
theorem dX2_law_11 : decode cX2_law 11 = .ok (.aload_n 0, 1) := dk_42 (dk_at dksX2_law_0 11 rfl rfl)
theorem dX2_law_12 : decode cX2_law 12 = .ok (.getfield 81, 3) := dk_180 0 81 (dk_at dksX2_law_0 12 rfl rfl)
theorem dX2_law_15 : decode cX2_law 15 = .ok (.iconst 4, 1) := dk_7 (dk_at dksX2_law_0 15 rfl rfl)
theorem dX2_law_16 : decode cX2_law 16 = .ok (.if_icmp .eq 6, 3) := dk_159 0 6 (dk_at dksX2_law_0 16 rfl rfl)
theorem dX2_law_19 : decode cX2_law 19 = .ok (.bipush (-103), 2) := dk_16 153 (dk_at dksX2_law_0 19 rfl rfl)
theorem dX2_law_21 : decode cX2_law 21 = .ok (.ireturn, 1) := dk_172 (dk_at dksX2_law_0 21 rfl rfl)
theorem dX2_law_22 : decode cX2_law 22 = .ok (.aload_n 0, 1) := dk_42 (dk_at dksX2_law_0 22 rfl rfl)
theorem dX2_law_23 : decode cX2_law 23 = .ok (.aload_n 0, 1) := dk_42 (dk_at dksX2_law_0 23 rfl rfl)
theorem dX2_law_24 : decode cX2_law 24 = .ok (.getfield 78, 3) := dk_180 0 78 (dk_at dksX2_law_1 0 rfl rfl)
theorem dX2_law_27 : decode cX2_law 27 = .ok (.iconst 1, 1) := dk_4 (dk_at dksX2_law_1 3 rfl rfl)
theorem dX2_law_28 : decode cX2_law 28 = .ok (.iadd, 1) := dk_96 (dk_at dksX2_law_1 4 rfl rfl)
theorem dX2_law_29 : decode cX2_law 29 = .ok (.putfield 112, 3) := dk_181 0 112 (dk_at dksX2_law_1 5 rfl rfl)
theorem dX2_law_32 : decode cX2_law 32 = .ok (.iconst 0, 1) := dk_3 (dk_at dksX2_law_1 8 rfl rfl)
theorem dX2_law_33 : decode cX2_law 33 = .ok (.istore_n 1, 1) := dk_60 (dk_at dksX2_law_1 9 rfl rfl)
theorem dX2_law_34 : decode cX2_law 34 = .ok (.iload_n 1, 1) := dk_27 (dk_at dksX2_law_1 10 rfl rfl)
theorem dX2_law_35 : decode cX2_law 35 = .ok (.bipush 8, 2) := dk_16 8 (dk_at dksX2_law_1 11 rfl rfl)
theorem dX2_law_37 : decode cX2_law 37 = .ok (.if_icmp .ge 21, 3) := dk_162 0 21 (dk_at dksX2_law_1 13 rfl rfl)
theorem dX2_law_40 : decode cX2_law 40 = .ok (.aload_n 0, 1) := dk_42 (dk_at dksX2_law_1 16 rfl rfl)
theorem dX2_law_41 : decode cX2_law 41 = .ok (.getfield 13, 3) := dk_180 0 13 (dk_at dksX2_law_1 17 rfl rfl)
theorem dX2_law_44 : decode cX2_law 44 = .ok (.iload_n 1, 1) := dk_27 (dk_at dksX2_law_1 20 rfl rfl)
theorem dX2_law_45 : decode cX2_law 45 = .ok (.aload_n 0, 1) := dk_42 (dk_at dksX2_law_1 21 rfl rfl)
theorem dX2_law_46 : decode cX2_law 46 = .ok (.getfield 16, 3) := dk_180 0 16 (dk_at dksX2_law_2 0 rfl rfl)
theorem dX2_law_49 : decode cX2_law 49 = .ok (.iload_n 1, 1) := dk_27 (dk_at dksX2_law_2 3 rfl rfl)
theorem dX2_law_50 : decode cX2_law 50 = .ok (.iaload, 1) := dk_46 (dk_at dksX2_law_2 4 rfl rfl)
theorem dX2_law_51 : decode cX2_law 51 = .ok (.iastore, 1) := dk_79 (dk_at dksX2_law_2 5 rfl rfl)
theorem dX2_law_52 : decode cX2_law 52 = .ok (.iinc 1 1, 3) := dk_132 1 1 (dk_at dksX2_law_2 6 rfl rfl)
theorem dX2_law_55 : decode cX2_law 55 = .ok (.goto (-21), 3) := dk_167 255 235 (dk_at dksX2_law_2 9 rfl rfl)
theorem dX2_law_58 : decode cX2_law 58 = .ok (.aload_n 0, 1) := dk_42 (dk_at dksX2_law_2 12 rfl rfl)
theorem dX2_law_59 : decode cX2_law 59 = .ok (.invokevirtual 70, 3) := dk_182 0 70 (dk_at dksX2_law_2 13 rfl rfl)
theorem dX2_law_62 : decode cX2_law 62 = .ok (.aload_n 0, 1) := dk_42 (dk_at dksX2_law_2 16 rfl rfl)
theorem dX2_law_63 : decode cX2_law 63 = .ok (.iconst 0, 1) := dk_3 (dk_at dksX2_law_2 17 rfl rfl)
theorem dX2_law_64 : decode cX2_law 64 = .ok (.putfield 130, 3) := dk_181 0 130 (dk_at dksX2_law_2 18 rfl rfl)
theorem dX2_law_67 : decode cX2_law 67 = .ok (.aload_n 0, 1) := dk_42 (dk_at dksX2_law_2 21 rfl rfl)
theorem dX2_law_68 : decode cX2_law 68 = .ok (.dup, 1) := dk_89 (dk_at dksX2_law_2 22 rfl rfl)
theorem dX2_law_69 : decode cX2_law 69 = .ok (.getfield 133, 3) := dk_180 0 133 (dk_at dksX2_law_3 0 rfl rfl)
theorem dX2_law_72 : decode cX2_law 72 = .ok (.iconst 1, 1) := dk_4 (dk_at dksX2_law_3 3 rfl rfl)
theorem dX2_law_73 : decode cX2_law 73 = .ok (.iadd, 1) := dk_96 (dk_at dksX2_law_3 4 rfl rfl)
theorem dX2_law_74 : decode cX2_law 74 = .ok (.putfield 133, 3) := dk_181 0 133 (dk_at dksX2_law_3 5 rfl rfl)
theorem dX2_law_77 : decode cX2_law 77 = .ok (.aload_n 0, 1) := dk_42 (dk_at dksX2_law_3 8 rfl rfl)
theorem dX2_law_78 : decode cX2_law 78 = .ok (.iconst 0, 1) := dk_3 (dk_at dksX2_law_3 9 rfl rfl)
theorem dX2_law_79 : decode cX2_law 79 = .ok (.putfield 75, 3) := dk_181 0 75 (dk_at dksX2_law_3 10 rfl rfl)
theorem dX2_law_82 : decode cX2_law 82 = .ok (.aload_n 0, 1) := dk_42 (dk_at dksX2_law_3 13 rfl rfl)
theorem dX2_law_83 : decode cX2_law 83 = .ok (.getfield 109, 3) := dk_180 0 109 (dk_at dksX2_law_3 14 rfl rfl)
theorem dX2_law_86 : decode cX2_law 86 = .ok (.ireturn, 1) := dk_172 (dk_at dksX2_law_3 17 rfl rfl)
abbrev cX2_about : ByteArray := prog_10_method_17_code
def yX2_about : MethodName := ⟨RX2, "about", "(II)I"⟩
def dkwX2_about_1 : List UInt8 := [180, 0, 13, 5, 27, 104, 28, 96, 46, 167, 0, 5, 16, 154, 172]
abbrev dktX2_about_1 : List UInt8 := dkwX2_about_1 ++ []
def dkwX2_about_0 : List UInt8 := [42, 27, 182, 0, 136, 154, 0, 6, 16, 155, 172, 28, 133, 9, 10, 184, 0, 88, 153, 0, 16, 42]
abbrev dktX2_about_0 : List UInt8 := dkwX2_about_0 ++ dktX2_about_1
theorem dksX2_about_0 : cX2_about.data.toList.drop 0 = dktX2_about_0 := by decide +kernel
theorem dksX2_about_1 : cX2_about.data.toList.drop 22 = dktX2_about_1 := dk_seg dksX2_about_0 22 rfl rfl
theorem dX2_about_0 : decode cX2_about 0 = .ok (.aload_n 0, 1) := dk_42 (dk_at dksX2_about_0 0 rfl rfl)
theorem dX2_about_1 : decode cX2_about 1 = .ok (.iload_n 1, 1) := dk_27 (dk_at dksX2_about_0 1 rfl rfl)
theorem dX2_about_2 : decode cX2_about 2 = .ok (.invokevirtual 136, 3) := dk_182 0 136 (dk_at dksX2_about_0 2 rfl rfl)
theorem dX2_about_5 : decode cX2_about 5 = .ok (.ifCond .ne 6, 3) := dk_154 0 6 (dk_at dksX2_about_0 5 rfl rfl)
theorem dX2_about_8 : decode cX2_about 8 = .ok (.bipush (-101), 2) := dk_16 155 (dk_at dksX2_about_0 8 rfl rfl)
theorem dX2_about_10 : decode cX2_about 10 = .ok (.ireturn, 1) := dk_172 (dk_at dksX2_about_0 10 rfl rfl)
theorem dX2_about_11 : decode cX2_about 11 = .ok (.iload_n 2, 1) := dk_28 (dk_at dksX2_about_0 11 rfl rfl)
theorem dX2_about_12 : decode cX2_about 12 = .ok (.i2l, 1) := dk_133 (dk_at dksX2_about_0 12 rfl rfl)
theorem dX2_about_13 : decode cX2_about 13 = .ok (.lconst 0, 1) := dk_9 (dk_at dksX2_about_0 13 rfl rfl)
theorem dX2_about_14 : decode cX2_about 14 = .ok (.lconst 1, 1) := dk_10 (dk_at dksX2_about_0 14 rfl rfl)
theorem dX2_about_15 : decode cX2_about 15 = .ok (.invokestatic 88, 3) := dk_184 0 88 (dk_at dksX2_about_0 15 rfl rfl)
theorem dX2_about_18 : decode cX2_about 18 = .ok (.ifCond .eq 16, 3) := dk_153 0 16 (dk_at dksX2_about_0 18 rfl rfl)
theorem dX2_about_21 : decode cX2_about 21 = .ok (.aload_n 0, 1) := dk_42 (dk_at dksX2_about_0 21 rfl rfl)
theorem dX2_about_22 : decode cX2_about 22 = .ok (.getfield 13, 3) := dk_180 0 13 (dk_at dksX2_about_1 0 rfl rfl)
theorem dX2_about_25 : decode cX2_about 25 = .ok (.iconst 2, 1) := dk_5 (dk_at dksX2_about_1 3 rfl rfl)
theorem dX2_about_26 : decode cX2_about 26 = .ok (.iload_n 1, 1) := dk_27 (dk_at dksX2_about_1 4 rfl rfl)
theorem dX2_about_27 : decode cX2_about 27 = .ok (.imul, 1) := dk_104 (dk_at dksX2_about_1 5 rfl rfl)
theorem dX2_about_28 : decode cX2_about 28 = .ok (.iload_n 2, 1) := dk_28 (dk_at dksX2_about_1 6 rfl rfl)
theorem dX2_about_29 : decode cX2_about 29 = .ok (.iadd, 1) := dk_96 (dk_at dksX2_about_1 7 rfl rfl)
theorem dX2_about_30 : decode cX2_about 30 = .ok (.iaload, 1) := dk_46 (dk_at dksX2_about_1 8 rfl rfl)
theorem dX2_about_31 : decode cX2_about 31 = .ok (.goto 5, 3) := dk_167 0 5 (dk_at dksX2_about_1 9 rfl rfl)
theorem dX2_about_34 : decode cX2_about 34 = .ok (.bipush (-102), 2) := dk_16 154 (dk_at dksX2_about_1 12 rfl rfl)
theorem dX2_about_36 : decode cX2_about 36 = .ok (.ireturn, 1) := dk_172 (dk_at dksX2_about_1 14 rfl rfl)
abbrev cX2_isLikeness : ByteArray := prog_10_method_14_code
def yX2_isLikeness : MethodName := ⟨RX2, "isLikeness", "(I)Z"⟩
def dkwX2_isLikeness_0 : List UInt8 := [27, 133, 9, 42, 180, 0, 112, 4, 100, 133, 184, 0, 88, 172]
abbrev dktX2_isLikeness_0 : List UInt8 := dkwX2_isLikeness_0 ++ []
theorem dksX2_isLikeness_0 : cX2_isLikeness.data.toList.drop 0 = dktX2_isLikeness_0 := by decide +kernel
theorem dX2_isLikeness_0 : decode cX2_isLikeness 0 = .ok (.iload_n 1, 1) := dk_27 (dk_at dksX2_isLikeness_0 0 rfl rfl)
theorem dX2_isLikeness_1 : decode cX2_isLikeness 1 = .ok (.i2l, 1) := dk_133 (dk_at dksX2_isLikeness_0 1 rfl rfl)
theorem dX2_isLikeness_2 : decode cX2_isLikeness 2 = .ok (.lconst 0, 1) := dk_9 (dk_at dksX2_isLikeness_0 2 rfl rfl)
theorem dX2_isLikeness_3 : decode cX2_isLikeness 3 = .ok (.aload_n 0, 1) := dk_42 (dk_at dksX2_isLikeness_0 3 rfl rfl)
theorem dX2_isLikeness_4 : decode cX2_isLikeness 4 = .ok (.getfield 112, 3) := dk_180 0 112 (dk_at dksX2_isLikeness_0 4 rfl rfl)
theorem dX2_isLikeness_7 : decode cX2_isLikeness 7 = .ok (.iconst 1, 1) := dk_4 (dk_at dksX2_isLikeness_0 7 rfl rfl)
theorem dX2_isLikeness_8 : decode cX2_isLikeness 8 = .ok (.isub, 1) := dk_100 (dk_at dksX2_isLikeness_0 8 rfl rfl)
theorem dX2_isLikeness_9 : decode cX2_isLikeness 9 = .ok (.i2l, 1) := dk_133 (dk_at dksX2_isLikeness_0 9 rfl rfl)
theorem dX2_isLikeness_10 : decode cX2_isLikeness 10 = .ok (.invokestatic 88, 3) := dk_184 0 88 (dk_at dksX2_isLikeness_0 10 rfl rfl)
theorem dX2_isLikeness_13 : decode cX2_isLikeness 13 = .ok (.ireturn, 1) := dk_172 (dk_at dksX2_isLikeness_0 13 rfl rfl)
abbrev cX2_as : ByteArray := prog_10_method_18_code
def yX2_as : MethodName := ⟨RX2, "as", "(II)I"⟩
def dkwX2_as_3 : List UInt8 := [2, 172]
abbrev dktX2_as_3 : List UInt8 := dkwX2_as_3 ++ []
def dkwX2_as_2 : List UInt8 := [160, 0, 12, 29, 5, 160, 0, 7, 4, 167, 0, 4, 3, 54, 4, 21, 4, 153, 0, 7, 27, 167, 0, 4]
abbrev dktX2_as_2 : List UInt8 := dkwX2_as_2 ++ dktX2_as_3
def dkwX2_as_1 : List UInt8 := [16, 154, 172, 42, 180, 0, 13, 5, 27, 104, 46, 62, 28, 153, 0, 18, 28, 29, 159, 0, 13, 28, 6]
abbrev dktX2_as_1 : List UInt8 := dkwX2_as_1 ++ dktX2_as_2
def dkwX2_as_0 : List UInt8 := [42, 27, 182, 0, 136, 154, 0, 6, 16, 155, 172, 28, 133, 9, 20, 0, 123, 184, 0, 88, 154, 0, 6]
abbrev dktX2_as_0 : List UInt8 := dkwX2_as_0 ++ dktX2_as_1
theorem dksX2_as_0 : cX2_as.data.toList.drop 0 = dktX2_as_0 := by decide +kernel
theorem dksX2_as_1 : cX2_as.data.toList.drop 23 = dktX2_as_1 := dk_seg dksX2_as_0 23 rfl rfl
theorem dksX2_as_2 : cX2_as.data.toList.drop 46 = dktX2_as_2 := dk_seg dksX2_as_1 23 rfl rfl
theorem dksX2_as_3 : cX2_as.data.toList.drop 70 = dktX2_as_3 := dk_seg dksX2_as_2 24 rfl rfl
theorem dX2_as_0 : decode cX2_as 0 = .ok (.aload_n 0, 1) := dk_42 (dk_at dksX2_as_0 0 rfl rfl)
theorem dX2_as_1 : decode cX2_as 1 = .ok (.iload_n 1, 1) := dk_27 (dk_at dksX2_as_0 1 rfl rfl)
theorem dX2_as_2 : decode cX2_as 2 = .ok (.invokevirtual 136, 3) := dk_182 0 136 (dk_at dksX2_as_0 2 rfl rfl)
theorem dX2_as_5 : decode cX2_as 5 = .ok (.ifCond .ne 6, 3) := dk_154 0 6 (dk_at dksX2_as_0 5 rfl rfl)
theorem dX2_as_8 : decode cX2_as 8 = .ok (.bipush (-101), 2) := dk_16 155 (dk_at dksX2_as_0 8 rfl rfl)
theorem dX2_as_10 : decode cX2_as 10 = .ok (.ireturn, 1) := dk_172 (dk_at dksX2_as_0 10 rfl rfl)
theorem dX2_as_11 : decode cX2_as 11 = .ok (.iload_n 2, 1) := dk_28 (dk_at dksX2_as_0 11 rfl rfl)
theorem dX2_as_12 : decode cX2_as 12 = .ok (.i2l, 1) := dk_133 (dk_at dksX2_as_0 12 rfl rfl)
theorem dX2_as_13 : decode cX2_as 13 = .ok (.lconst 0, 1) := dk_9 (dk_at dksX2_as_0 13 rfl rfl)
theorem dX2_as_14 : decode cX2_as 14 = .ok (.ldc2_w 123, 3) := dk_20 0 123 (dk_at dksX2_as_0 14 rfl rfl)
theorem dX2_as_17 : decode cX2_as 17 = .ok (.invokestatic 88, 3) := dk_184 0 88 (dk_at dksX2_as_0 17 rfl rfl)
theorem dX2_as_20 : decode cX2_as 20 = .ok (.ifCond .ne 6, 3) := dk_154 0 6 (dk_at dksX2_as_0 20 rfl rfl)
theorem dX2_as_23 : decode cX2_as 23 = .ok (.bipush (-102), 2) := dk_16 154 (dk_at dksX2_as_1 0 rfl rfl)
theorem dX2_as_25 : decode cX2_as 25 = .ok (.ireturn, 1) := dk_172 (dk_at dksX2_as_1 2 rfl rfl)
theorem dX2_as_26 : decode cX2_as 26 = .ok (.aload_n 0, 1) := dk_42 (dk_at dksX2_as_1 3 rfl rfl)
theorem dX2_as_27 : decode cX2_as 27 = .ok (.getfield 13, 3) := dk_180 0 13 (dk_at dksX2_as_1 4 rfl rfl)
theorem dX2_as_30 : decode cX2_as 30 = .ok (.iconst 2, 1) := dk_5 (dk_at dksX2_as_1 7 rfl rfl)
theorem dX2_as_31 : decode cX2_as 31 = .ok (.iload_n 1, 1) := dk_27 (dk_at dksX2_as_1 8 rfl rfl)
theorem dX2_as_32 : decode cX2_as 32 = .ok (.imul, 1) := dk_104 (dk_at dksX2_as_1 9 rfl rfl)
theorem dX2_as_33 : decode cX2_as 33 = .ok (.iaload, 1) := dk_46 (dk_at dksX2_as_1 10 rfl rfl)
theorem dX2_as_34 : decode cX2_as 34 = .ok (.istore_n 3, 1) := dk_62 (dk_at dksX2_as_1 11 rfl rfl)
theorem dX2_as_35 : decode cX2_as 35 = .ok (.iload_n 2, 1) := dk_28 (dk_at dksX2_as_1 12 rfl rfl)
theorem dX2_as_36 : decode cX2_as 36 = .ok (.ifCond .eq 18, 3) := dk_153 0 18 (dk_at dksX2_as_1 13 rfl rfl)
theorem dX2_as_39 : decode cX2_as 39 = .ok (.iload_n 2, 1) := dk_28 (dk_at dksX2_as_1 16 rfl rfl)
theorem dX2_as_40 : decode cX2_as 40 = .ok (.iload_n 3, 1) := dk_29 (dk_at dksX2_as_1 17 rfl rfl)
theorem dX2_as_41 : decode cX2_as 41 = .ok (.if_icmp .eq 13, 3) := dk_159 0 13 (dk_at dksX2_as_1 18 rfl rfl)
theorem dX2_as_44 : decode cX2_as 44 = .ok (.iload_n 2, 1) := dk_28 (dk_at dksX2_as_1 21 rfl rfl)
theorem dX2_as_45 : decode cX2_as 45 = .ok (.iconst 3, 1) := dk_6 (dk_at dksX2_as_1 22 rfl rfl)
theorem dX2_as_46 : decode cX2_as 46 = .ok (.if_icmp .ne 12, 3) := dk_160 0 12 (dk_at dksX2_as_2 0 rfl rfl)
theorem dX2_as_49 : decode cX2_as 49 = .ok (.iload_n 3, 1) := dk_29 (dk_at dksX2_as_2 3 rfl rfl)
theorem dX2_as_50 : decode cX2_as 50 = .ok (.iconst 2, 1) := dk_5 (dk_at dksX2_as_2 4 rfl rfl)
theorem dX2_as_51 : decode cX2_as 51 = .ok (.if_icmp .ne 7, 3) := dk_160 0 7 (dk_at dksX2_as_2 5 rfl rfl)
theorem dX2_as_54 : decode cX2_as 54 = .ok (.iconst 1, 1) := dk_4 (dk_at dksX2_as_2 8 rfl rfl)
theorem dX2_as_55 : decode cX2_as 55 = .ok (.goto 4, 3) := dk_167 0 4 (dk_at dksX2_as_2 9 rfl rfl)
theorem dX2_as_58 : decode cX2_as 58 = .ok (.iconst 0, 1) := dk_3 (dk_at dksX2_as_2 12 rfl rfl)
theorem dX2_as_59 : decode cX2_as 59 = .ok (.istore 4, 2) := dk_54 4 (dk_at dksX2_as_2 13 rfl rfl)
theorem dX2_as_61 : decode cX2_as 61 = .ok (.iload 4, 2) := dk_21 4 (dk_at dksX2_as_2 15 rfl rfl)
theorem dX2_as_63 : decode cX2_as 63 = .ok (.ifCond .eq 7, 3) := dk_153 0 7 (dk_at dksX2_as_2 17 rfl rfl)
theorem dX2_as_66 : decode cX2_as 66 = .ok (.iload_n 1, 1) := dk_27 (dk_at dksX2_as_2 20 rfl rfl)
theorem dX2_as_67 : decode cX2_as 67 = .ok (.goto 4, 3) := dk_167 0 4 (dk_at dksX2_as_2 21 rfl rfl)
theorem dX2_as_70 : decode cX2_as 70 = .ok (.iconst (-1), 1) := dk_2 (dk_at dksX2_as_3 0 rfl rfl)
theorem dX2_as_71 : decode cX2_as 71 = .ok (.ireturn, 1) := dk_172 (dk_at dksX2_as_3 1 rfl rfl)
abbrev cX2_sounds : ByteArray := prog_10_method_19_code
def yX2_sounds : MethodName := ⟨RX2, "sounds", "(II)I"⟩
def dkwX2_sounds_1 : List UInt8 := [182, 0, 115, 167, 0, 5, 16, 155, 172]
abbrev dktX2_sounds_1 : List UInt8 := dkwX2_sounds_1 ++ []
def dkwX2_sounds_0 : List UInt8 := [42, 27, 182, 0, 136, 153, 0, 24, 42, 28, 182, 0, 139, 153, 0, 16, 42, 27, 28, 42, 180, 0, 67]
abbrev dktX2_sounds_0 : List UInt8 := dkwX2_sounds_0 ++ dktX2_sounds_1
theorem dksX2_sounds_0 : cX2_sounds.data.toList.drop 0 = dktX2_sounds_0 := by decide +kernel
theorem dksX2_sounds_1 : cX2_sounds.data.toList.drop 23 = dktX2_sounds_1 := dk_seg dksX2_sounds_0 23 rfl rfl
theorem dX2_sounds_0 : decode cX2_sounds 0 = .ok (.aload_n 0, 1) := dk_42 (dk_at dksX2_sounds_0 0 rfl rfl)
theorem dX2_sounds_1 : decode cX2_sounds 1 = .ok (.iload_n 1, 1) := dk_27 (dk_at dksX2_sounds_0 1 rfl rfl)
theorem dX2_sounds_2 : decode cX2_sounds 2 = .ok (.invokevirtual 136, 3) := dk_182 0 136 (dk_at dksX2_sounds_0 2 rfl rfl)
theorem dX2_sounds_5 : decode cX2_sounds 5 = .ok (.ifCond .eq 24, 3) := dk_153 0 24 (dk_at dksX2_sounds_0 5 rfl rfl)
theorem dX2_sounds_8 : decode cX2_sounds 8 = .ok (.aload_n 0, 1) := dk_42 (dk_at dksX2_sounds_0 8 rfl rfl)
theorem dX2_sounds_9 : decode cX2_sounds 9 = .ok (.iload_n 2, 1) := dk_28 (dk_at dksX2_sounds_0 9 rfl rfl)
theorem dX2_sounds_10 : decode cX2_sounds 10 = .ok (.invokevirtual 139, 3) := dk_182 0 139 (dk_at dksX2_sounds_0 10 rfl rfl)
theorem dX2_sounds_13 : decode cX2_sounds 13 = .ok (.ifCond .eq 16, 3) := dk_153 0 16 (dk_at dksX2_sounds_0 13 rfl rfl)
theorem dX2_sounds_16 : decode cX2_sounds 16 = .ok (.aload_n 0, 1) := dk_42 (dk_at dksX2_sounds_0 16 rfl rfl)
theorem dX2_sounds_17 : decode cX2_sounds 17 = .ok (.iload_n 1, 1) := dk_27 (dk_at dksX2_sounds_0 17 rfl rfl)
theorem dX2_sounds_18 : decode cX2_sounds 18 = .ok (.iload_n 2, 1) := dk_28 (dk_at dksX2_sounds_0 18 rfl rfl)
theorem dX2_sounds_19 : decode cX2_sounds 19 = .ok (.aload_n 0, 1) := dk_42 (dk_at dksX2_sounds_0 19 rfl rfl)
theorem dX2_sounds_20 : decode cX2_sounds 20 = .ok (.getfield 67, 3) := dk_180 0 67 (dk_at dksX2_sounds_0 20 rfl rfl)
theorem dX2_sounds_23 : decode cX2_sounds 23 = .ok (.invokevirtual 115, 3) := dk_182 0 115 (dk_at dksX2_sounds_1 0 rfl rfl)
theorem dX2_sounds_26 : decode cX2_sounds 26 = .ok (.goto 5, 3) := dk_167 0 5 (dk_at dksX2_sounds_1 3 rfl rfl)
theorem dX2_sounds_29 : decode cX2_sounds 29 = .ok (.bipush (-101), 2) := dk_16 155 (dk_at dksX2_sounds_1 6 rfl rfl)
theorem dX2_sounds_31 : decode cX2_sounds 31 = .ok (.ireturn, 1) := dk_172 (dk_at dksX2_sounds_1 8 rfl rfl)
abbrev cX2_isString : ByteArray := prog_10_method_15_code
def yX2_isString : MethodName := ⟨RX2, "isString", "(I)Z"⟩
def dkwX2_isString_0 : List UInt8 := [27, 133, 9, 42, 180, 0, 67, 4, 100, 133, 184, 0, 88, 172]
abbrev dktX2_isString_0 : List UInt8 := dkwX2_isString_0 ++ []
theorem dksX2_isString_0 : cX2_isString.data.toList.drop 0 = dktX2_isString_0 := by decide +kernel
theorem dX2_isString_0 : decode cX2_isString 0 = .ok (.iload_n 1, 1) := dk_27 (dk_at dksX2_isString_0 0 rfl rfl)
theorem dX2_isString_1 : decode cX2_isString 1 = .ok (.i2l, 1) := dk_133 (dk_at dksX2_isString_0 1 rfl rfl)
theorem dX2_isString_2 : decode cX2_isString 2 = .ok (.lconst 0, 1) := dk_9 (dk_at dksX2_isString_0 2 rfl rfl)
theorem dX2_isString_3 : decode cX2_isString 3 = .ok (.aload_n 0, 1) := dk_42 (dk_at dksX2_isString_0 3 rfl rfl)
theorem dX2_isString_4 : decode cX2_isString 4 = .ok (.getfield 67, 3) := dk_180 0 67 (dk_at dksX2_isString_0 4 rfl rfl)
theorem dX2_isString_7 : decode cX2_isString 7 = .ok (.iconst 1, 1) := dk_4 (dk_at dksX2_isString_0 7 rfl rfl)
theorem dX2_isString_8 : decode cX2_isString 8 = .ok (.isub, 1) := dk_100 (dk_at dksX2_isString_0 8 rfl rfl)
theorem dX2_isString_9 : decode cX2_isString 9 = .ok (.i2l, 1) := dk_133 (dk_at dksX2_isString_0 9 rfl rfl)
theorem dX2_isString_10 : decode cX2_isString 10 = .ok (.invokestatic 88, 3) := dk_184 0 88 (dk_at dksX2_isString_0 10 rfl rfl)
theorem dX2_isString_13 : decode cX2_isString 13 = .ok (.ireturn, 1) := dk_172 (dk_at dksX2_isString_0 13 rfl rfl)
abbrev cX2_chord : ByteArray := prog_10_method_20_code
def yX2_chord : MethodName := ⟨RX2, "chord", "(III)I"⟩
def dkwX2_chord_2 : List UInt8 := [153, 0, 16, 27, 28, 29, 42, 180, 0, 67, 184, 0, 119, 167, 0, 5, 16, 155, 172]
abbrev dktX2_chord_2 : List UInt8 := dkwX2_chord_2 ++ []
def dkwX2_chord_1 : List UInt8 := [27, 28, 159, 0, 17, 27, 29, 159, 0, 12, 28, 29, 159, 0, 7, 4, 167, 0, 4, 3, 54, 4, 21, 4]
abbrev dktX2_chord_1 : List UInt8 := dkwX2_chord_1 ++ dktX2_chord_2
def dkwX2_chord_0 : List UInt8 := [42, 27, 182, 0, 139, 153, 0, 38, 42, 28, 182, 0, 139, 153, 0, 30, 42, 29, 182, 0, 139, 153, 0, 22]
abbrev dktX2_chord_0 : List UInt8 := dkwX2_chord_0 ++ dktX2_chord_1
theorem dksX2_chord_0 : cX2_chord.data.toList.drop 0 = dktX2_chord_0 := by decide +kernel
theorem dksX2_chord_1 : cX2_chord.data.toList.drop 24 = dktX2_chord_1 := dk_seg dksX2_chord_0 24 rfl rfl
theorem dksX2_chord_2 : cX2_chord.data.toList.drop 48 = dktX2_chord_2 := dk_seg dksX2_chord_1 24 rfl rfl
theorem dX2_chord_0 : decode cX2_chord 0 = .ok (.aload_n 0, 1) := dk_42 (dk_at dksX2_chord_0 0 rfl rfl)
theorem dX2_chord_1 : decode cX2_chord 1 = .ok (.iload_n 1, 1) := dk_27 (dk_at dksX2_chord_0 1 rfl rfl)
theorem dX2_chord_2 : decode cX2_chord 2 = .ok (.invokevirtual 139, 3) := dk_182 0 139 (dk_at dksX2_chord_0 2 rfl rfl)
theorem dX2_chord_5 : decode cX2_chord 5 = .ok (.ifCond .eq 38, 3) := dk_153 0 38 (dk_at dksX2_chord_0 5 rfl rfl)
theorem dX2_chord_8 : decode cX2_chord 8 = .ok (.aload_n 0, 1) := dk_42 (dk_at dksX2_chord_0 8 rfl rfl)
theorem dX2_chord_9 : decode cX2_chord 9 = .ok (.iload_n 2, 1) := dk_28 (dk_at dksX2_chord_0 9 rfl rfl)
theorem dX2_chord_10 : decode cX2_chord 10 = .ok (.invokevirtual 139, 3) := dk_182 0 139 (dk_at dksX2_chord_0 10 rfl rfl)
theorem dX2_chord_13 : decode cX2_chord 13 = .ok (.ifCond .eq 30, 3) := dk_153 0 30 (dk_at dksX2_chord_0 13 rfl rfl)
theorem dX2_chord_16 : decode cX2_chord 16 = .ok (.aload_n 0, 1) := dk_42 (dk_at dksX2_chord_0 16 rfl rfl)
theorem dX2_chord_17 : decode cX2_chord 17 = .ok (.iload_n 3, 1) := dk_29 (dk_at dksX2_chord_0 17 rfl rfl)
theorem dX2_chord_18 : decode cX2_chord 18 = .ok (.invokevirtual 139, 3) := dk_182 0 139 (dk_at dksX2_chord_0 18 rfl rfl)
theorem dX2_chord_21 : decode cX2_chord 21 = .ok (.ifCond .eq 22, 3) := dk_153 0 22 (dk_at dksX2_chord_0 21 rfl rfl)
theorem dX2_chord_24 : decode cX2_chord 24 = .ok (.iload_n 1, 1) := dk_27 (dk_at dksX2_chord_1 0 rfl rfl)
theorem dX2_chord_25 : decode cX2_chord 25 = .ok (.iload_n 2, 1) := dk_28 (dk_at dksX2_chord_1 1 rfl rfl)
theorem dX2_chord_26 : decode cX2_chord 26 = .ok (.if_icmp .eq 17, 3) := dk_159 0 17 (dk_at dksX2_chord_1 2 rfl rfl)
theorem dX2_chord_29 : decode cX2_chord 29 = .ok (.iload_n 1, 1) := dk_27 (dk_at dksX2_chord_1 5 rfl rfl)
theorem dX2_chord_30 : decode cX2_chord 30 = .ok (.iload_n 3, 1) := dk_29 (dk_at dksX2_chord_1 6 rfl rfl)
theorem dX2_chord_31 : decode cX2_chord 31 = .ok (.if_icmp .eq 12, 3) := dk_159 0 12 (dk_at dksX2_chord_1 7 rfl rfl)
theorem dX2_chord_34 : decode cX2_chord 34 = .ok (.iload_n 2, 1) := dk_28 (dk_at dksX2_chord_1 10 rfl rfl)
theorem dX2_chord_35 : decode cX2_chord 35 = .ok (.iload_n 3, 1) := dk_29 (dk_at dksX2_chord_1 11 rfl rfl)
theorem dX2_chord_36 : decode cX2_chord 36 = .ok (.if_icmp .eq 7, 3) := dk_159 0 7 (dk_at dksX2_chord_1 12 rfl rfl)
theorem dX2_chord_39 : decode cX2_chord 39 = .ok (.iconst 1, 1) := dk_4 (dk_at dksX2_chord_1 15 rfl rfl)
theorem dX2_chord_40 : decode cX2_chord 40 = .ok (.goto 4, 3) := dk_167 0 4 (dk_at dksX2_chord_1 16 rfl rfl)
theorem dX2_chord_43 : decode cX2_chord 43 = .ok (.iconst 0, 1) := dk_3 (dk_at dksX2_chord_1 19 rfl rfl)
theorem dX2_chord_44 : decode cX2_chord 44 = .ok (.istore 4, 2) := dk_54 4 (dk_at dksX2_chord_1 20 rfl rfl)
theorem dX2_chord_46 : decode cX2_chord 46 = .ok (.iload 4, 2) := dk_21 4 (dk_at dksX2_chord_1 22 rfl rfl)
theorem dX2_chord_48 : decode cX2_chord 48 = .ok (.ifCond .eq 16, 3) := dk_153 0 16 (dk_at dksX2_chord_2 0 rfl rfl)
theorem dX2_chord_51 : decode cX2_chord 51 = .ok (.iload_n 1, 1) := dk_27 (dk_at dksX2_chord_2 3 rfl rfl)
theorem dX2_chord_52 : decode cX2_chord 52 = .ok (.iload_n 2, 1) := dk_28 (dk_at dksX2_chord_2 4 rfl rfl)
theorem dX2_chord_53 : decode cX2_chord 53 = .ok (.iload_n 3, 1) := dk_29 (dk_at dksX2_chord_2 5 rfl rfl)
theorem dX2_chord_54 : decode cX2_chord 54 = .ok (.aload_n 0, 1) := dk_42 (dk_at dksX2_chord_2 6 rfl rfl)
theorem dX2_chord_55 : decode cX2_chord 55 = .ok (.getfield 67, 3) := dk_180 0 67 (dk_at dksX2_chord_2 7 rfl rfl)
theorem dX2_chord_58 : decode cX2_chord 58 = .ok (.invokestatic 119, 3) := dk_184 0 119 (dk_at dksX2_chord_2 10 rfl rfl)
theorem dX2_chord_61 : decode cX2_chord 61 = .ok (.goto 5, 3) := dk_167 0 5 (dk_at dksX2_chord_2 13 rfl rfl)
theorem dX2_chord_64 : decode cX2_chord 64 = .ok (.bipush (-101), 2) := dk_16 155 (dk_at dksX2_chord_2 16 rfl rfl)
theorem dX2_chord_66 : decode cX2_chord 66 = .ok (.ireturn, 1) := dk_172 (dk_at dksX2_chord_2 18 rfl rfl)
abbrev cX2_part : ByteArray := prog_10_method_21_code
def yX2_part : MethodName := ⟨RX2, "part", "(II)I"⟩
def dkwX2_part_2 : List UInt8 := [167, 0, 5, 16, 154, 172]
abbrev dktX2_part_2 : List UInt8 := dkwX2_part_2 ++ []
def dkwX2_part_1 : List UInt8 := [180, 0, 19, 6, 27, 104, 28, 96, 46, 167, 0, 19, 28, 6, 160, 0, 12, 42, 180, 0, 22, 27, 46]
abbrev dktX2_part_1 : List UInt8 := dkwX2_part_1 ++ dktX2_part_2
def dkwX2_part_0 : List UInt8 := [42, 27, 182, 0, 142, 154, 0, 6, 16, 155, 172, 28, 133, 9, 20, 0, 145, 184, 0, 88, 153, 0, 16, 42]
abbrev dktX2_part_0 : List UInt8 := dkwX2_part_0 ++ dktX2_part_1
theorem dksX2_part_0 : cX2_part.data.toList.drop 0 = dktX2_part_0 := by decide +kernel
theorem dksX2_part_1 : cX2_part.data.toList.drop 24 = dktX2_part_1 := dk_seg dksX2_part_0 24 rfl rfl
theorem dksX2_part_2 : cX2_part.data.toList.drop 47 = dktX2_part_2 := dk_seg dksX2_part_1 23 rfl rfl
theorem dX2_part_0 : decode cX2_part 0 = .ok (.aload_n 0, 1) := dk_42 (dk_at dksX2_part_0 0 rfl rfl)
theorem dX2_part_1 : decode cX2_part 1 = .ok (.iload_n 1, 1) := dk_27 (dk_at dksX2_part_0 1 rfl rfl)
theorem dX2_part_2 : decode cX2_part 2 = .ok (.invokevirtual 142, 3) := dk_182 0 142 (dk_at dksX2_part_0 2 rfl rfl)
theorem dX2_part_5 : decode cX2_part 5 = .ok (.ifCond .ne 6, 3) := dk_154 0 6 (dk_at dksX2_part_0 5 rfl rfl)
theorem dX2_part_8 : decode cX2_part 8 = .ok (.bipush (-101), 2) := dk_16 155 (dk_at dksX2_part_0 8 rfl rfl)
theorem dX2_part_10 : decode cX2_part 10 = .ok (.ireturn, 1) := dk_172 (dk_at dksX2_part_0 10 rfl rfl)
theorem dX2_part_11 : decode cX2_part 11 = .ok (.iload_n 2, 1) := dk_28 (dk_at dksX2_part_0 11 rfl rfl)
theorem dX2_part_12 : decode cX2_part 12 = .ok (.i2l, 1) := dk_133 (dk_at dksX2_part_0 12 rfl rfl)
theorem dX2_part_13 : decode cX2_part 13 = .ok (.lconst 0, 1) := dk_9 (dk_at dksX2_part_0 13 rfl rfl)
theorem dX2_part_14 : decode cX2_part 14 = .ok (.ldc2_w 145, 3) := dk_20 0 145 (dk_at dksX2_part_0 14 rfl rfl)
theorem dX2_part_17 : decode cX2_part 17 = .ok (.invokestatic 88, 3) := dk_184 0 88 (dk_at dksX2_part_0 17 rfl rfl)
theorem dX2_part_20 : decode cX2_part 20 = .ok (.ifCond .eq 16, 3) := dk_153 0 16 (dk_at dksX2_part_0 20 rfl rfl)
theorem dX2_part_23 : decode cX2_part 23 = .ok (.aload_n 0, 1) := dk_42 (dk_at dksX2_part_0 23 rfl rfl)
theorem dX2_part_24 : decode cX2_part 24 = .ok (.getfield 19, 3) := dk_180 0 19 (dk_at dksX2_part_1 0 rfl rfl)
theorem dX2_part_27 : decode cX2_part 27 = .ok (.iconst 3, 1) := dk_6 (dk_at dksX2_part_1 3 rfl rfl)
theorem dX2_part_28 : decode cX2_part 28 = .ok (.iload_n 1, 1) := dk_27 (dk_at dksX2_part_1 4 rfl rfl)
theorem dX2_part_29 : decode cX2_part 29 = .ok (.imul, 1) := dk_104 (dk_at dksX2_part_1 5 rfl rfl)
theorem dX2_part_30 : decode cX2_part 30 = .ok (.iload_n 2, 1) := dk_28 (dk_at dksX2_part_1 6 rfl rfl)
theorem dX2_part_31 : decode cX2_part 31 = .ok (.iadd, 1) := dk_96 (dk_at dksX2_part_1 7 rfl rfl)
theorem dX2_part_32 : decode cX2_part 32 = .ok (.iaload, 1) := dk_46 (dk_at dksX2_part_1 8 rfl rfl)
theorem dX2_part_33 : decode cX2_part 33 = .ok (.goto 19, 3) := dk_167 0 19 (dk_at dksX2_part_1 9 rfl rfl)
theorem dX2_part_36 : decode cX2_part 36 = .ok (.iload_n 2, 1) := dk_28 (dk_at dksX2_part_1 12 rfl rfl)
theorem dX2_part_37 : decode cX2_part 37 = .ok (.iconst 3, 1) := dk_6 (dk_at dksX2_part_1 13 rfl rfl)
theorem dX2_part_38 : decode cX2_part 38 = .ok (.if_icmp .ne 12, 3) := dk_160 0 12 (dk_at dksX2_part_1 14 rfl rfl)
theorem dX2_part_41 : decode cX2_part 41 = .ok (.aload_n 0, 1) := dk_42 (dk_at dksX2_part_1 17 rfl rfl)
theorem dX2_part_42 : decode cX2_part 42 = .ok (.getfield 22, 3) := dk_180 0 22 (dk_at dksX2_part_1 18 rfl rfl)
theorem dX2_part_45 : decode cX2_part 45 = .ok (.iload_n 1, 1) := dk_27 (dk_at dksX2_part_1 21 rfl rfl)
theorem dX2_part_46 : decode cX2_part 46 = .ok (.iaload, 1) := dk_46 (dk_at dksX2_part_1 22 rfl rfl)
theorem dX2_part_47 : decode cX2_part 47 = .ok (.goto 5, 3) := dk_167 0 5 (dk_at dksX2_part_2 0 rfl rfl)
theorem dX2_part_50 : decode cX2_part 50 = .ok (.bipush (-102), 2) := dk_16 154 (dk_at dksX2_part_2 3 rfl rfl)
theorem dX2_part_52 : decode cX2_part 52 = .ok (.ireturn, 1) := dk_172 (dk_at dksX2_part_2 5 rfl rfl)
abbrev cX2_isChord : ByteArray := prog_10_method_16_code
def yX2_isChord : MethodName := ⟨RX2, "isChord", "(I)Z"⟩
def dkwX2_isChord_0 : List UInt8 := [27, 133, 9, 42, 180, 0, 102, 4, 100, 133, 184, 0, 88, 172]
abbrev dktX2_isChord_0 : List UInt8 := dkwX2_isChord_0 ++ []
theorem dksX2_isChord_0 : cX2_isChord.data.toList.drop 0 = dktX2_isChord_0 := by decide +kernel
theorem dX2_isChord_0 : decode cX2_isChord 0 = .ok (.iload_n 1, 1) := dk_27 (dk_at dksX2_isChord_0 0 rfl rfl)
theorem dX2_isChord_1 : decode cX2_isChord 1 = .ok (.i2l, 1) := dk_133 (dk_at dksX2_isChord_0 1 rfl rfl)
theorem dX2_isChord_2 : decode cX2_isChord 2 = .ok (.lconst 0, 1) := dk_9 (dk_at dksX2_isChord_0 2 rfl rfl)
theorem dX2_isChord_3 : decode cX2_isChord 3 = .ok (.aload_n 0, 1) := dk_42 (dk_at dksX2_isChord_0 3 rfl rfl)
theorem dX2_isChord_4 : decode cX2_isChord 4 = .ok (.getfield 102, 3) := dk_180 0 102 (dk_at dksX2_isChord_0 4 rfl rfl)
theorem dX2_isChord_7 : decode cX2_isChord 7 = .ok (.iconst 1, 1) := dk_4 (dk_at dksX2_isChord_0 7 rfl rfl)
theorem dX2_isChord_8 : decode cX2_isChord 8 = .ok (.isub, 1) := dk_100 (dk_at dksX2_isChord_0 8 rfl rfl)
theorem dX2_isChord_9 : decode cX2_isChord 9 = .ok (.i2l, 1) := dk_133 (dk_at dksX2_isChord_0 9 rfl rfl)
theorem dX2_isChord_10 : decode cX2_isChord 10 = .ok (.invokestatic 88, 3) := dk_184 0 88 (dk_at dksX2_isChord_0 10 rfl rfl)
theorem dX2_isChord_13 : decode cX2_isChord 13 = .ok (.ireturn, 1) := dk_172 (dk_at dksX2_isChord_0 13 rfl rfl)
abbrev cX2_sort : ByteArray := prog_10_method_26_code
def yX2_sort : MethodName := ⟨RX2, "sort", "(II)I"⟩
def dkwX2_sort_1 : List UInt8 := [167, 0, 5, 16, 155, 172]
abbrev dktX2_sort_1 : List UInt8 := dkwX2_sort_1 ++ []
def dkwX2_sort_0 : List UInt8 := [27, 133, 9, 42, 180, 0, 109, 4, 100, 133, 184, 0, 88, 153, 0, 12, 42, 27, 28, 182, 0, 157]
abbrev dktX2_sort_0 : List UInt8 := dkwX2_sort_0 ++ dktX2_sort_1
theorem dksX2_sort_0 : cX2_sort.data.toList.drop 0 = dktX2_sort_0 := by decide +kernel
theorem dksX2_sort_1 : cX2_sort.data.toList.drop 22 = dktX2_sort_1 := dk_seg dksX2_sort_0 22 rfl rfl
theorem dX2_sort_0 : decode cX2_sort 0 = .ok (.iload_n 1, 1) := dk_27 (dk_at dksX2_sort_0 0 rfl rfl)
theorem dX2_sort_1 : decode cX2_sort 1 = .ok (.i2l, 1) := dk_133 (dk_at dksX2_sort_0 1 rfl rfl)
theorem dX2_sort_2 : decode cX2_sort 2 = .ok (.lconst 0, 1) := dk_9 (dk_at dksX2_sort_0 2 rfl rfl)
theorem dX2_sort_3 : decode cX2_sort 3 = .ok (.aload_n 0, 1) := dk_42 (dk_at dksX2_sort_0 3 rfl rfl)
theorem dX2_sort_4 : decode cX2_sort 4 = .ok (.getfield 109, 3) := dk_180 0 109 (dk_at dksX2_sort_0 4 rfl rfl)
theorem dX2_sort_7 : decode cX2_sort 7 = .ok (.iconst 1, 1) := dk_4 (dk_at dksX2_sort_0 7 rfl rfl)
theorem dX2_sort_8 : decode cX2_sort 8 = .ok (.isub, 1) := dk_100 (dk_at dksX2_sort_0 8 rfl rfl)
theorem dX2_sort_9 : decode cX2_sort 9 = .ok (.i2l, 1) := dk_133 (dk_at dksX2_sort_0 9 rfl rfl)
theorem dX2_sort_10 : decode cX2_sort 10 = .ok (.invokestatic 88, 3) := dk_184 0 88 (dk_at dksX2_sort_0 10 rfl rfl)
theorem dX2_sort_13 : decode cX2_sort 13 = .ok (.ifCond .eq 12, 3) := dk_153 0 12 (dk_at dksX2_sort_0 13 rfl rfl)
theorem dX2_sort_16 : decode cX2_sort 16 = .ok (.aload_n 0, 1) := dk_42 (dk_at dksX2_sort_0 16 rfl rfl)
theorem dX2_sort_17 : decode cX2_sort 17 = .ok (.iload_n 1, 1) := dk_27 (dk_at dksX2_sort_0 17 rfl rfl)
theorem dX2_sort_18 : decode cX2_sort 18 = .ok (.iload_n 2, 1) := dk_28 (dk_at dksX2_sort_0 18 rfl rfl)
theorem dX2_sort_19 : decode cX2_sort 19 = .ok (.invokevirtual 157, 3) := dk_182 0 157 (dk_at dksX2_sort_0 19 rfl rfl)
theorem dX2_sort_22 : decode cX2_sort 22 = .ok (.goto 5, 3) := dk_167 0 5 (dk_at dksX2_sort_1 0 rfl rfl)
theorem dX2_sort_25 : decode cX2_sort 25 = .ok (.bipush (-101), 2) := dk_16 155 (dk_at dksX2_sort_1 3 rfl rfl)
theorem dX2_sort_27 : decode cX2_sort 27 = .ok (.ireturn, 1) := dk_172 (dk_at dksX2_sort_1 5 rfl rfl)
abbrev cX2_tellSort : ByteArray := prog_10_method_25_code
def yX2_tellSort : MethodName := ⟨RX2, "tellSort", "(II)I"⟩
def dkwX2_tellSort_2 : List UInt8 := [16, 154, 172]
abbrev dktX2_tellSort_2 : List UInt8 := dkwX2_tellSort_2 ++ []
def dkwX2_tellSort_1 : List UInt8 := [167, 0, 26, 28, 5, 160, 0, 19, 42, 27, 182, 0, 154, 153, 0, 7, 4, 167, 0, 9, 3, 167, 0, 5]
abbrev dktX2_tellSort_1 : List UInt8 := dkwX2_tellSort_1 ++ dktX2_tellSort_2
def dkwX2_tellSort_0 : List UInt8 := [28, 154, 0, 12, 42, 180, 0, 25, 27, 46, 167, 0, 39, 28, 4, 160, 0, 11, 42, 27, 182, 0, 151]
abbrev dktX2_tellSort_0 : List UInt8 := dkwX2_tellSort_0 ++ dktX2_tellSort_1
theorem dksX2_tellSort_0 : cX2_tellSort.data.toList.drop 0 = dktX2_tellSort_0 := by decide +kernel
theorem dksX2_tellSort_1 : cX2_tellSort.data.toList.drop 23 = dktX2_tellSort_1 := dk_seg dksX2_tellSort_0 23 rfl rfl
theorem dksX2_tellSort_2 : cX2_tellSort.data.toList.drop 47 = dktX2_tellSort_2 := dk_seg dksX2_tellSort_1 24 rfl rfl
theorem dX2_tellSort_0 : decode cX2_tellSort 0 = .ok (.iload_n 2, 1) := dk_28 (dk_at dksX2_tellSort_0 0 rfl rfl)
theorem dX2_tellSort_1 : decode cX2_tellSort 1 = .ok (.ifCond .ne 12, 3) := dk_154 0 12 (dk_at dksX2_tellSort_0 1 rfl rfl)
theorem dX2_tellSort_4 : decode cX2_tellSort 4 = .ok (.aload_n 0, 1) := dk_42 (dk_at dksX2_tellSort_0 4 rfl rfl)
theorem dX2_tellSort_5 : decode cX2_tellSort 5 = .ok (.getfield 25, 3) := dk_180 0 25 (dk_at dksX2_tellSort_0 5 rfl rfl)
theorem dX2_tellSort_8 : decode cX2_tellSort 8 = .ok (.iload_n 1, 1) := dk_27 (dk_at dksX2_tellSort_0 8 rfl rfl)
theorem dX2_tellSort_9 : decode cX2_tellSort 9 = .ok (.iaload, 1) := dk_46 (dk_at dksX2_tellSort_0 9 rfl rfl)
theorem dX2_tellSort_10 : decode cX2_tellSort 10 = .ok (.goto 39, 3) := dk_167 0 39 (dk_at dksX2_tellSort_0 10 rfl rfl)
theorem dX2_tellSort_13 : decode cX2_tellSort 13 = .ok (.iload_n 2, 1) := dk_28 (dk_at dksX2_tellSort_0 13 rfl rfl)
theorem dX2_tellSort_14 : decode cX2_tellSort 14 = .ok (.iconst 1, 1) := dk_4 (dk_at dksX2_tellSort_0 14 rfl rfl)
theorem dX2_tellSort_15 : decode cX2_tellSort 15 = .ok (.if_icmp .ne 11, 3) := dk_160 0 11 (dk_at dksX2_tellSort_0 15 rfl rfl)
theorem dX2_tellSort_18 : decode cX2_tellSort 18 = .ok (.aload_n 0, 1) := dk_42 (dk_at dksX2_tellSort_0 18 rfl rfl)
theorem dX2_tellSort_19 : decode cX2_tellSort 19 = .ok (.iload_n 1, 1) := dk_27 (dk_at dksX2_tellSort_0 19 rfl rfl)
theorem dX2_tellSort_20 : decode cX2_tellSort 20 = .ok (.invokevirtual 151, 3) := dk_182 0 151 (dk_at dksX2_tellSort_0 20 rfl rfl)
theorem dX2_tellSort_23 : decode cX2_tellSort 23 = .ok (.goto 26, 3) := dk_167 0 26 (dk_at dksX2_tellSort_1 0 rfl rfl)
theorem dX2_tellSort_26 : decode cX2_tellSort 26 = .ok (.iload_n 2, 1) := dk_28 (dk_at dksX2_tellSort_1 3 rfl rfl)
theorem dX2_tellSort_27 : decode cX2_tellSort 27 = .ok (.iconst 2, 1) := dk_5 (dk_at dksX2_tellSort_1 4 rfl rfl)
theorem dX2_tellSort_28 : decode cX2_tellSort 28 = .ok (.if_icmp .ne 19, 3) := dk_160 0 19 (dk_at dksX2_tellSort_1 5 rfl rfl)
theorem dX2_tellSort_31 : decode cX2_tellSort 31 = .ok (.aload_n 0, 1) := dk_42 (dk_at dksX2_tellSort_1 8 rfl rfl)
theorem dX2_tellSort_32 : decode cX2_tellSort 32 = .ok (.iload_n 1, 1) := dk_27 (dk_at dksX2_tellSort_1 9 rfl rfl)
theorem dX2_tellSort_33 : decode cX2_tellSort 33 = .ok (.invokevirtual 154, 3) := dk_182 0 154 (dk_at dksX2_tellSort_1 10 rfl rfl)
theorem dX2_tellSort_36 : decode cX2_tellSort 36 = .ok (.ifCond .eq 7, 3) := dk_153 0 7 (dk_at dksX2_tellSort_1 13 rfl rfl)
theorem dX2_tellSort_39 : decode cX2_tellSort 39 = .ok (.iconst 1, 1) := dk_4 (dk_at dksX2_tellSort_1 16 rfl rfl)
theorem dX2_tellSort_40 : decode cX2_tellSort 40 = .ok (.goto 9, 3) := dk_167 0 9 (dk_at dksX2_tellSort_1 17 rfl rfl)
theorem dX2_tellSort_43 : decode cX2_tellSort 43 = .ok (.iconst 0, 1) := dk_3 (dk_at dksX2_tellSort_1 20 rfl rfl)
theorem dX2_tellSort_44 : decode cX2_tellSort 44 = .ok (.goto 5, 3) := dk_167 0 5 (dk_at dksX2_tellSort_1 21 rfl rfl)
theorem dX2_tellSort_47 : decode cX2_tellSort 47 = .ok (.bipush (-102), 2) := dk_16 154 (dk_at dksX2_tellSort_2 0 rfl rfl)
theorem dX2_tellSort_49 : decode cX2_tellSort 49 = .ok (.ireturn, 1) := dk_172 (dk_at dksX2_tellSort_2 2 rfl rfl)
abbrev cX2_sizeOf : ByteArray := prog_10_method_24_code
def yX2_sizeOf : MethodName := ⟨RX2, "sizeOf", "(I)I"⟩
def dkwX2_sizeOf_1 : List UInt8 := [167, 0, 4, 3, 96, 61, 132, 3, 1, 167, 255, 227, 28, 172]
abbrev dktX2_sizeOf_1 : List UInt8 := dkwX2_sizeOf_1 ++ []
def dkwX2_sizeOf_0 : List UInt8 := [3, 61, 3, 62, 29, 42, 180, 0, 102, 162, 0, 27, 28, 42, 180, 0, 22, 29, 46, 27, 160, 0, 7, 4]
abbrev dktX2_sizeOf_0 : List UInt8 := dkwX2_sizeOf_0 ++ dktX2_sizeOf_1
theorem dksX2_sizeOf_0 : cX2_sizeOf.data.toList.drop 0 = dktX2_sizeOf_0 := by decide +kernel
theorem dksX2_sizeOf_1 : cX2_sizeOf.data.toList.drop 24 = dktX2_sizeOf_1 := dk_seg dksX2_sizeOf_0 24 rfl rfl
theorem dX2_sizeOf_0 : decode cX2_sizeOf 0 = .ok (.iconst 0, 1) := dk_3 (dk_at dksX2_sizeOf_0 0 rfl rfl)
theorem dX2_sizeOf_1 : decode cX2_sizeOf 1 = .ok (.istore_n 2, 1) := dk_61 (dk_at dksX2_sizeOf_0 1 rfl rfl)
theorem dX2_sizeOf_2 : decode cX2_sizeOf 2 = .ok (.iconst 0, 1) := dk_3 (dk_at dksX2_sizeOf_0 2 rfl rfl)
theorem dX2_sizeOf_3 : decode cX2_sizeOf 3 = .ok (.istore_n 3, 1) := dk_62 (dk_at dksX2_sizeOf_0 3 rfl rfl)
theorem dX2_sizeOf_4 : decode cX2_sizeOf 4 = .ok (.iload_n 3, 1) := dk_29 (dk_at dksX2_sizeOf_0 4 rfl rfl)
theorem dX2_sizeOf_5 : decode cX2_sizeOf 5 = .ok (.aload_n 0, 1) := dk_42 (dk_at dksX2_sizeOf_0 5 rfl rfl)
theorem dX2_sizeOf_6 : decode cX2_sizeOf 6 = .ok (.getfield 102, 3) := dk_180 0 102 (dk_at dksX2_sizeOf_0 6 rfl rfl)
theorem dX2_sizeOf_9 : decode cX2_sizeOf 9 = .ok (.if_icmp .ge 27, 3) := dk_162 0 27 (dk_at dksX2_sizeOf_0 9 rfl rfl)
theorem dX2_sizeOf_12 : decode cX2_sizeOf 12 = .ok (.iload_n 2, 1) := dk_28 (dk_at dksX2_sizeOf_0 12 rfl rfl)
theorem dX2_sizeOf_13 : decode cX2_sizeOf 13 = .ok (.aload_n 0, 1) := dk_42 (dk_at dksX2_sizeOf_0 13 rfl rfl)
theorem dX2_sizeOf_14 : decode cX2_sizeOf 14 = .ok (.getfield 22, 3) := dk_180 0 22 (dk_at dksX2_sizeOf_0 14 rfl rfl)
theorem dX2_sizeOf_17 : decode cX2_sizeOf 17 = .ok (.iload_n 3, 1) := dk_29 (dk_at dksX2_sizeOf_0 17 rfl rfl)
theorem dX2_sizeOf_18 : decode cX2_sizeOf 18 = .ok (.iaload, 1) := dk_46 (dk_at dksX2_sizeOf_0 18 rfl rfl)
theorem dX2_sizeOf_19 : decode cX2_sizeOf 19 = .ok (.iload_n 1, 1) := dk_27 (dk_at dksX2_sizeOf_0 19 rfl rfl)
theorem dX2_sizeOf_20 : decode cX2_sizeOf 20 = .ok (.if_icmp .ne 7, 3) := dk_160 0 7 (dk_at dksX2_sizeOf_0 20 rfl rfl)
theorem dX2_sizeOf_23 : decode cX2_sizeOf 23 = .ok (.iconst 1, 1) := dk_4 (dk_at dksX2_sizeOf_0 23 rfl rfl)
theorem dX2_sizeOf_24 : decode cX2_sizeOf 24 = .ok (.goto 4, 3) := dk_167 0 4 (dk_at dksX2_sizeOf_1 0 rfl rfl)
theorem dX2_sizeOf_27 : decode cX2_sizeOf 27 = .ok (.iconst 0, 1) := dk_3 (dk_at dksX2_sizeOf_1 3 rfl rfl)
theorem dX2_sizeOf_28 : decode cX2_sizeOf 28 = .ok (.iadd, 1) := dk_96 (dk_at dksX2_sizeOf_1 4 rfl rfl)
theorem dX2_sizeOf_29 : decode cX2_sizeOf 29 = .ok (.istore_n 2, 1) := dk_61 (dk_at dksX2_sizeOf_1 5 rfl rfl)
theorem dX2_sizeOf_30 : decode cX2_sizeOf 30 = .ok (.iinc 3 1, 3) := dk_132 3 1 (dk_at dksX2_sizeOf_1 6 rfl rfl)
theorem dX2_sizeOf_33 : decode cX2_sizeOf 33 = .ok (.goto (-29), 3) := dk_167 255 227 (dk_at dksX2_sizeOf_1 9 rfl rfl)
theorem dX2_sizeOf_36 : decode cX2_sizeOf 36 = .ok (.iload_n 2, 1) := dk_28 (dk_at dksX2_sizeOf_1 12 rfl rfl)
theorem dX2_sizeOf_37 : decode cX2_sizeOf 37 = .ok (.ireturn, 1) := dk_172 (dk_at dksX2_sizeOf_1 13 rfl rfl)
abbrev cX2_isLeft : ByteArray := prog_10_method_23_code
def yX2_isLeft : MethodName := ⟨RX2, "isLeft", "(I)Z"⟩
def dkwX2_isLeft_0 : List UInt8 := [42, 42, 180, 0, 25, 27, 46, 182, 0, 147, 2, 160, 0, 7, 4, 167, 0, 4, 3, 172]
abbrev dktX2_isLeft_0 : List UInt8 := dkwX2_isLeft_0 ++ []
theorem dksX2_isLeft_0 : cX2_isLeft.data.toList.drop 0 = dktX2_isLeft_0 := by decide +kernel
theorem dX2_isLeft_0 : decode cX2_isLeft 0 = .ok (.aload_n 0, 1) := dk_42 (dk_at dksX2_isLeft_0 0 rfl rfl)
theorem dX2_isLeft_1 : decode cX2_isLeft 1 = .ok (.aload_n 0, 1) := dk_42 (dk_at dksX2_isLeft_0 1 rfl rfl)
theorem dX2_isLeft_2 : decode cX2_isLeft 2 = .ok (.getfield 25, 3) := dk_180 0 25 (dk_at dksX2_isLeft_0 2 rfl rfl)
theorem dX2_isLeft_5 : decode cX2_isLeft 5 = .ok (.iload_n 1, 1) := dk_27 (dk_at dksX2_isLeft_0 5 rfl rfl)
theorem dX2_isLeft_6 : decode cX2_isLeft 6 = .ok (.iaload, 1) := dk_46 (dk_at dksX2_isLeft_0 6 rfl rfl)
theorem dX2_isLeft_7 : decode cX2_isLeft 7 = .ok (.invokevirtual 147, 3) := dk_182 0 147 (dk_at dksX2_isLeft_0 7 rfl rfl)
theorem dX2_isLeft_10 : decode cX2_isLeft 10 = .ok (.iconst (-1), 1) := dk_2 (dk_at dksX2_isLeft_0 10 rfl rfl)
theorem dX2_isLeft_11 : decode cX2_isLeft 11 = .ok (.if_icmp .ne 7, 3) := dk_160 0 7 (dk_at dksX2_isLeft_0 11 rfl rfl)
theorem dX2_isLeft_14 : decode cX2_isLeft 14 = .ok (.iconst 1, 1) := dk_4 (dk_at dksX2_isLeft_0 14 rfl rfl)
theorem dX2_isLeft_15 : decode cX2_isLeft 15 = .ok (.goto 4, 3) := dk_167 0 4 (dk_at dksX2_isLeft_0 15 rfl rfl)
theorem dX2_isLeft_18 : decode cX2_isLeft 18 = .ok (.iconst 0, 1) := dk_3 (dk_at dksX2_isLeft_0 18 rfl rfl)
theorem dX2_isLeft_19 : decode cX2_isLeft 19 = .ok (.ireturn, 1) := dk_172 (dk_at dksX2_isLeft_0 19 rfl rfl)
abbrev cX2_asOf : ByteArray := prog_10_method_22_code
def yX2_asOf : MethodName := ⟨RX2, "asOf", "(I)I"⟩
def dkwX2_asOf_1 : List UInt8 := [180, 0, 22, 27, 46, 160, 0, 10, 42, 180, 0, 28, 28, 46, 172, 132, 2, 1, 167, 255, 218, 2, 172]
abbrev dktX2_asOf_1 : List UInt8 := dkwX2_asOf_1 ++ []
def dkwX2_asOf_0 : List UInt8 := [3, 61, 28, 42, 180, 0, 127, 162, 0, 36, 42, 180, 0, 22, 42, 180, 0, 28, 28, 46, 46, 42]
abbrev dktX2_asOf_0 : List UInt8 := dkwX2_asOf_0 ++ dktX2_asOf_1
theorem dksX2_asOf_0 : cX2_asOf.data.toList.drop 0 = dktX2_asOf_0 := by decide +kernel
theorem dksX2_asOf_1 : cX2_asOf.data.toList.drop 22 = dktX2_asOf_1 := dk_seg dksX2_asOf_0 22 rfl rfl
theorem dX2_asOf_0 : decode cX2_asOf 0 = .ok (.iconst 0, 1) := dk_3 (dk_at dksX2_asOf_0 0 rfl rfl)
theorem dX2_asOf_1 : decode cX2_asOf 1 = .ok (.istore_n 2, 1) := dk_61 (dk_at dksX2_asOf_0 1 rfl rfl)
theorem dX2_asOf_2 : decode cX2_asOf 2 = .ok (.iload_n 2, 1) := dk_28 (dk_at dksX2_asOf_0 2 rfl rfl)
theorem dX2_asOf_3 : decode cX2_asOf 3 = .ok (.aload_n 0, 1) := dk_42 (dk_at dksX2_asOf_0 3 rfl rfl)
theorem dX2_asOf_4 : decode cX2_asOf 4 = .ok (.getfield 127, 3) := dk_180 0 127 (dk_at dksX2_asOf_0 4 rfl rfl)
theorem dX2_asOf_7 : decode cX2_asOf 7 = .ok (.if_icmp .ge 36, 3) := dk_162 0 36 (dk_at dksX2_asOf_0 7 rfl rfl)
theorem dX2_asOf_10 : decode cX2_asOf 10 = .ok (.aload_n 0, 1) := dk_42 (dk_at dksX2_asOf_0 10 rfl rfl)
theorem dX2_asOf_11 : decode cX2_asOf 11 = .ok (.getfield 22, 3) := dk_180 0 22 (dk_at dksX2_asOf_0 11 rfl rfl)
theorem dX2_asOf_14 : decode cX2_asOf 14 = .ok (.aload_n 0, 1) := dk_42 (dk_at dksX2_asOf_0 14 rfl rfl)
theorem dX2_asOf_15 : decode cX2_asOf 15 = .ok (.getfield 28, 3) := dk_180 0 28 (dk_at dksX2_asOf_0 15 rfl rfl)
theorem dX2_asOf_18 : decode cX2_asOf 18 = .ok (.iload_n 2, 1) := dk_28 (dk_at dksX2_asOf_0 18 rfl rfl)
theorem dX2_asOf_19 : decode cX2_asOf 19 = .ok (.iaload, 1) := dk_46 (dk_at dksX2_asOf_0 19 rfl rfl)
theorem dX2_asOf_20 : decode cX2_asOf 20 = .ok (.iaload, 1) := dk_46 (dk_at dksX2_asOf_0 20 rfl rfl)
theorem dX2_asOf_21 : decode cX2_asOf 21 = .ok (.aload_n 0, 1) := dk_42 (dk_at dksX2_asOf_0 21 rfl rfl)
theorem dX2_asOf_22 : decode cX2_asOf 22 = .ok (.getfield 22, 3) := dk_180 0 22 (dk_at dksX2_asOf_1 0 rfl rfl)
theorem dX2_asOf_25 : decode cX2_asOf 25 = .ok (.iload_n 1, 1) := dk_27 (dk_at dksX2_asOf_1 3 rfl rfl)
theorem dX2_asOf_26 : decode cX2_asOf 26 = .ok (.iaload, 1) := dk_46 (dk_at dksX2_asOf_1 4 rfl rfl)
theorem dX2_asOf_27 : decode cX2_asOf 27 = .ok (.if_icmp .ne 10, 3) := dk_160 0 10 (dk_at dksX2_asOf_1 5 rfl rfl)
theorem dX2_asOf_30 : decode cX2_asOf 30 = .ok (.aload_n 0, 1) := dk_42 (dk_at dksX2_asOf_1 8 rfl rfl)
theorem dX2_asOf_31 : decode cX2_asOf 31 = .ok (.getfield 28, 3) := dk_180 0 28 (dk_at dksX2_asOf_1 9 rfl rfl)
theorem dX2_asOf_34 : decode cX2_asOf 34 = .ok (.iload_n 2, 1) := dk_28 (dk_at dksX2_asOf_1 12 rfl rfl)
theorem dX2_asOf_35 : decode cX2_asOf 35 = .ok (.iaload, 1) := dk_46 (dk_at dksX2_asOf_1 13 rfl rfl)
theorem dX2_asOf_36 : decode cX2_asOf 36 = .ok (.ireturn, 1) := dk_172 (dk_at dksX2_asOf_1 14 rfl rfl)
theorem dX2_asOf_37 : decode cX2_asOf 37 = .ok (.iinc 2 1, 3) := dk_132 2 1 (dk_at dksX2_asOf_1 15 rfl rfl)
theorem dX2_asOf_40 : decode cX2_asOf 40 = .ok (.goto (-38), 3) := dk_167 255 218 (dk_at dksX2_asOf_1 18 rfl rfl)
theorem dX2_asOf_43 : decode cX2_asOf 43 = .ok (.iconst (-1), 1) := dk_2 (dk_at dksX2_asOf_1 21 rfl rfl)
theorem dX2_asOf_44 : decode cX2_asOf 44 = .ok (.ireturn, 1) := dk_172 (dk_at dksX2_asOf_1 22 rfl rfl)
abbrev cX2_strike : ByteArray := prog_10_method_27_code
def yX2_strike : MethodName := ⟨RX2, "strike", "(I)I"⟩
def dkwX2_strike_2 : List UInt8 := [180, 0, 127, 4, 96, 181, 0, 127, 4, 172]
abbrev dktX2_strike_2 : List UInt8 := dkwX2_strike_2 ++ []
def dkwX2_strike_1 : List UInt8 := [180, 0, 127, 16, 20, 160, 0, 6, 16, 152, 172, 42, 180, 0, 28, 42, 180, 0, 127, 27, 79, 42, 89]
abbrev dktX2_strike_1 : List UInt8 := dkwX2_strike_1 ++ dktX2_strike_2
def dkwX2_strike_0 : List UInt8 := [42, 27, 182, 0, 142, 154, 0, 6, 16, 155, 172, 42, 27, 182, 0, 147, 2, 159, 0, 5, 3, 172, 42]
abbrev dktX2_strike_0 : List UInt8 := dkwX2_strike_0 ++ dktX2_strike_1
theorem dksX2_strike_0 : cX2_strike.data.toList.drop 0 = dktX2_strike_0 := by decide +kernel
theorem dksX2_strike_1 : cX2_strike.data.toList.drop 23 = dktX2_strike_1 := dk_seg dksX2_strike_0 23 rfl rfl
theorem dksX2_strike_2 : cX2_strike.data.toList.drop 46 = dktX2_strike_2 := dk_seg dksX2_strike_1 23 rfl rfl
theorem dX2_strike_0 : decode cX2_strike 0 = .ok (.aload_n 0, 1) := dk_42 (dk_at dksX2_strike_0 0 rfl rfl)
theorem dX2_strike_1 : decode cX2_strike 1 = .ok (.iload_n 1, 1) := dk_27 (dk_at dksX2_strike_0 1 rfl rfl)
theorem dX2_strike_2 : decode cX2_strike 2 = .ok (.invokevirtual 142, 3) := dk_182 0 142 (dk_at dksX2_strike_0 2 rfl rfl)
theorem dX2_strike_5 : decode cX2_strike 5 = .ok (.ifCond .ne 6, 3) := dk_154 0 6 (dk_at dksX2_strike_0 5 rfl rfl)
theorem dX2_strike_8 : decode cX2_strike 8 = .ok (.bipush (-101), 2) := dk_16 155 (dk_at dksX2_strike_0 8 rfl rfl)
theorem dX2_strike_10 : decode cX2_strike 10 = .ok (.ireturn, 1) := dk_172 (dk_at dksX2_strike_0 10 rfl rfl)
theorem dX2_strike_11 : decode cX2_strike 11 = .ok (.aload_n 0, 1) := dk_42 (dk_at dksX2_strike_0 11 rfl rfl)
theorem dX2_strike_12 : decode cX2_strike 12 = .ok (.iload_n 1, 1) := dk_27 (dk_at dksX2_strike_0 12 rfl rfl)
theorem dX2_strike_13 : decode cX2_strike 13 = .ok (.invokevirtual 147, 3) := dk_182 0 147 (dk_at dksX2_strike_0 13 rfl rfl)
theorem dX2_strike_16 : decode cX2_strike 16 = .ok (.iconst (-1), 1) := dk_2 (dk_at dksX2_strike_0 16 rfl rfl)
theorem dX2_strike_17 : decode cX2_strike 17 = .ok (.if_icmp .eq 5, 3) := dk_159 0 5 (dk_at dksX2_strike_0 17 rfl rfl)
theorem dX2_strike_20 : decode cX2_strike 20 = .ok (.iconst 0, 1) := dk_3 (dk_at dksX2_strike_0 20 rfl rfl)
theorem dX2_strike_21 : decode cX2_strike 21 = .ok (.ireturn, 1) := dk_172 (dk_at dksX2_strike_0 21 rfl rfl)
theorem dX2_strike_22 : decode cX2_strike 22 = .ok (.aload_n 0, 1) := dk_42 (dk_at dksX2_strike_0 22 rfl rfl)
theorem dX2_strike_23 : decode cX2_strike 23 = .ok (.getfield 127, 3) := dk_180 0 127 (dk_at dksX2_strike_1 0 rfl rfl)
theorem dX2_strike_26 : decode cX2_strike 26 = .ok (.bipush 20, 2) := dk_16 20 (dk_at dksX2_strike_1 3 rfl rfl)
theorem dX2_strike_28 : decode cX2_strike 28 = .ok (.if_icmp .ne 6, 3) := dk_160 0 6 (dk_at dksX2_strike_1 5 rfl rfl)
theorem dX2_strike_31 : decode cX2_strike 31 = .ok (.bipush (-104), 2) := dk_16 152 (dk_at dksX2_strike_1 8 rfl rfl)
theorem dX2_strike_33 : decode cX2_strike 33 = .ok (.ireturn, 1) := dk_172 (dk_at dksX2_strike_1 10 rfl rfl)
theorem dX2_strike_34 : decode cX2_strike 34 = .ok (.aload_n 0, 1) := dk_42 (dk_at dksX2_strike_1 11 rfl rfl)
theorem dX2_strike_35 : decode cX2_strike 35 = .ok (.getfield 28, 3) := dk_180 0 28 (dk_at dksX2_strike_1 12 rfl rfl)
theorem dX2_strike_38 : decode cX2_strike 38 = .ok (.aload_n 0, 1) := dk_42 (dk_at dksX2_strike_1 15 rfl rfl)
theorem dX2_strike_39 : decode cX2_strike 39 = .ok (.getfield 127, 3) := dk_180 0 127 (dk_at dksX2_strike_1 16 rfl rfl)
theorem dX2_strike_42 : decode cX2_strike 42 = .ok (.iload_n 1, 1) := dk_27 (dk_at dksX2_strike_1 19 rfl rfl)
theorem dX2_strike_43 : decode cX2_strike 43 = .ok (.iastore, 1) := dk_79 (dk_at dksX2_strike_1 20 rfl rfl)
theorem dX2_strike_44 : decode cX2_strike 44 = .ok (.aload_n 0, 1) := dk_42 (dk_at dksX2_strike_1 21 rfl rfl)
theorem dX2_strike_45 : decode cX2_strike 45 = .ok (.dup, 1) := dk_89 (dk_at dksX2_strike_1 22 rfl rfl)
theorem dX2_strike_46 : decode cX2_strike 46 = .ok (.getfield 127, 3) := dk_180 0 127 (dk_at dksX2_strike_2 0 rfl rfl)
theorem dX2_strike_49 : decode cX2_strike 49 = .ok (.iconst 1, 1) := dk_4 (dk_at dksX2_strike_2 3 rfl rfl)
theorem dX2_strike_50 : decode cX2_strike 50 = .ok (.iadd, 1) := dk_96 (dk_at dksX2_strike_2 4 rfl rfl)
theorem dX2_strike_51 : decode cX2_strike 51 = .ok (.putfield 127, 3) := dk_181 0 127 (dk_at dksX2_strike_2 5 rfl rfl)
theorem dX2_strike_54 : decode cX2_strike 54 = .ok (.iconst 1, 1) := dk_4 (dk_at dksX2_strike_2 8 rfl rfl)
theorem dX2_strike_55 : decode cX2_strike 55 = .ok (.ireturn, 1) := dk_172 (dk_at dksX2_strike_2 9 rfl rfl)
abbrev cX2_heardAs : ByteArray := prog_10_method_28_code
def yX2_heardAs : MethodName := ⟨RX2, "heardAs", "(I)I"⟩
def dkwX2_heardAs_0 : List UInt8 := [42, 27, 182, 0, 142, 153, 0, 11, 42, 27, 182, 0, 147, 167, 0, 5, 16, 155, 172]
abbrev dktX2_heardAs_0 : List UInt8 := dkwX2_heardAs_0 ++ []
theorem dksX2_heardAs_0 : cX2_heardAs.data.toList.drop 0 = dktX2_heardAs_0 := by decide +kernel
theorem dX2_heardAs_0 : decode cX2_heardAs 0 = .ok (.aload_n 0, 1) := dk_42 (dk_at dksX2_heardAs_0 0 rfl rfl)
theorem dX2_heardAs_1 : decode cX2_heardAs 1 = .ok (.iload_n 1, 1) := dk_27 (dk_at dksX2_heardAs_0 1 rfl rfl)
theorem dX2_heardAs_2 : decode cX2_heardAs 2 = .ok (.invokevirtual 142, 3) := dk_182 0 142 (dk_at dksX2_heardAs_0 2 rfl rfl)
theorem dX2_heardAs_5 : decode cX2_heardAs 5 = .ok (.ifCond .eq 11, 3) := dk_153 0 11 (dk_at dksX2_heardAs_0 5 rfl rfl)
theorem dX2_heardAs_8 : decode cX2_heardAs 8 = .ok (.aload_n 0, 1) := dk_42 (dk_at dksX2_heardAs_0 8 rfl rfl)
theorem dX2_heardAs_9 : decode cX2_heardAs 9 = .ok (.iload_n 1, 1) := dk_27 (dk_at dksX2_heardAs_0 9 rfl rfl)
theorem dX2_heardAs_10 : decode cX2_heardAs 10 = .ok (.invokevirtual 147, 3) := dk_182 0 147 (dk_at dksX2_heardAs_0 10 rfl rfl)
theorem dX2_heardAs_13 : decode cX2_heardAs 13 = .ok (.goto 5, 3) := dk_167 0 5 (dk_at dksX2_heardAs_0 13 rfl rfl)
theorem dX2_heardAs_16 : decode cX2_heardAs 16 = .ok (.bipush (-101), 2) := dk_16 155 (dk_at dksX2_heardAs_0 16 rfl rfl)
theorem dX2_heardAs_18 : decode cX2_heardAs 18 = .ok (.ireturn, 1) := dk_172 (dk_at dksX2_heardAs_0 18 rfl rfl)
abbrev cX2_forget : ByteArray := prog_10_method_29_code
def yX2_forget : MethodName := ⟨RX2, "forget", "()I"⟩
def dkwX2_forget_0 : List UInt8 := [42, 180, 0, 127, 60, 42, 3, 181, 0, 127, 27, 172]
abbrev dktX2_forget_0 : List UInt8 := dkwX2_forget_0 ++ []
theorem dksX2_forget_0 : cX2_forget.data.toList.drop 0 = dktX2_forget_0 := by decide +kernel
theorem dX2_forget_0 : decode cX2_forget 0 = .ok (.aload_n 0, 1) := dk_42 (dk_at dksX2_forget_0 0 rfl rfl)
theorem dX2_forget_1 : decode cX2_forget 1 = .ok (.getfield 127, 3) := dk_180 0 127 (dk_at dksX2_forget_0 1 rfl rfl)
theorem dX2_forget_4 : decode cX2_forget 4 = .ok (.istore_n 1, 1) := dk_60 (dk_at dksX2_forget_0 4 rfl rfl)
theorem dX2_forget_5 : decode cX2_forget 5 = .ok (.aload_n 0, 1) := dk_42 (dk_at dksX2_forget_0 5 rfl rfl)
theorem dX2_forget_6 : decode cX2_forget 6 = .ok (.iconst 0, 1) := dk_3 (dk_at dksX2_forget_0 6 rfl rfl)
theorem dX2_forget_7 : decode cX2_forget 7 = .ok (.putfield 127, 3) := dk_181 0 127 (dk_at dksX2_forget_0 7 rfl rfl)
theorem dX2_forget_10 : decode cX2_forget 10 = .ok (.iload_n 1, 1) := dk_27 (dk_at dksX2_forget_0 10 rfl rfl)
theorem dX2_forget_11 : decode cX2_forget 11 = .ok (.ireturn, 1) := dk_172 (dk_at dksX2_forget_0 11 rfl rfl)
abbrev cX2_left : ByteArray := prog_10_method_31_code
def yX2_left : MethodName := ⟨RX2, "left", "(I)I"⟩
def dkwX2_left_0 : List UInt8 := [27, 133, 9, 10, 184, 0, 88, 153, 0, 11, 42, 27, 182, 0, 161, 167, 0, 5, 16, 154, 172]
abbrev dktX2_left_0 : List UInt8 := dkwX2_left_0 ++ []
theorem dksX2_left_0 : cX2_left.data.toList.drop 0 = dktX2_left_0 := by decide +kernel
theorem dX2_left_0 : decode cX2_left 0 = .ok (.iload_n 1, 1) := dk_27 (dk_at dksX2_left_0 0 rfl rfl)
theorem dX2_left_1 : decode cX2_left 1 = .ok (.i2l, 1) := dk_133 (dk_at dksX2_left_0 1 rfl rfl)
theorem dX2_left_2 : decode cX2_left 2 = .ok (.lconst 0, 1) := dk_9 (dk_at dksX2_left_0 2 rfl rfl)
theorem dX2_left_3 : decode cX2_left 3 = .ok (.lconst 1, 1) := dk_10 (dk_at dksX2_left_0 3 rfl rfl)
theorem dX2_left_4 : decode cX2_left 4 = .ok (.invokestatic 88, 3) := dk_184 0 88 (dk_at dksX2_left_0 4 rfl rfl)
theorem dX2_left_7 : decode cX2_left 7 = .ok (.ifCond .eq 11, 3) := dk_153 0 11 (dk_at dksX2_left_0 7 rfl rfl)
theorem dX2_left_10 : decode cX2_left 10 = .ok (.aload_n 0, 1) := dk_42 (dk_at dksX2_left_0 10 rfl rfl)
theorem dX2_left_11 : decode cX2_left 11 = .ok (.iload_n 1, 1) := dk_27 (dk_at dksX2_left_0 11 rfl rfl)
theorem dX2_left_12 : decode cX2_left 12 = .ok (.invokevirtual 161, 3) := dk_182 0 161 (dk_at dksX2_left_0 12 rfl rfl)
theorem dX2_left_15 : decode cX2_left 15 = .ok (.goto 5, 3) := dk_167 0 5 (dk_at dksX2_left_0 15 rfl rfl)
theorem dX2_left_18 : decode cX2_left 18 = .ok (.bipush (-102), 2) := dk_16 154 (dk_at dksX2_left_0 18 rfl rfl)
theorem dX2_left_20 : decode cX2_left 20 = .ok (.ireturn, 1) := dk_172 (dk_at dksX2_left_0 20 rfl rfl)
abbrev cX2_leftOf : ByteArray := prog_10_method_30_code
def yX2_leftOf : MethodName := ⟨RX2, "leftOf", "(I)I"⟩
def dkwX2_leftOf_2 : List UInt8 := [28, 172]
abbrev dktX2_leftOf_2 : List UInt8 := dkwX2_leftOf_2 ++ []
def dkwX2_leftOf_1 : List UInt8 := [154, 0, 7, 4, 167, 0, 12, 42, 29, 182, 0, 151, 167, 0, 4, 3, 96, 61, 132, 3, 1, 167, 255, 217]
abbrev dktX2_leftOf_1 : List UInt8 := dkwX2_leftOf_1 ++ dktX2_leftOf_2
def dkwX2_leftOf_0 : List UInt8 := [3, 61, 3, 62, 29, 42, 180, 0, 109, 162, 0, 37, 28, 42, 29, 182, 0, 154, 153, 0, 19, 27]
abbrev dktX2_leftOf_0 : List UInt8 := dkwX2_leftOf_0 ++ dktX2_leftOf_1
theorem dksX2_leftOf_0 : cX2_leftOf.data.toList.drop 0 = dktX2_leftOf_0 := by decide +kernel
theorem dksX2_leftOf_1 : cX2_leftOf.data.toList.drop 22 = dktX2_leftOf_1 := dk_seg dksX2_leftOf_0 22 rfl rfl
theorem dksX2_leftOf_2 : cX2_leftOf.data.toList.drop 46 = dktX2_leftOf_2 := dk_seg dksX2_leftOf_1 24 rfl rfl
theorem dX2_leftOf_0 : decode cX2_leftOf 0 = .ok (.iconst 0, 1) := dk_3 (dk_at dksX2_leftOf_0 0 rfl rfl)
theorem dX2_leftOf_1 : decode cX2_leftOf 1 = .ok (.istore_n 2, 1) := dk_61 (dk_at dksX2_leftOf_0 1 rfl rfl)
theorem dX2_leftOf_2 : decode cX2_leftOf 2 = .ok (.iconst 0, 1) := dk_3 (dk_at dksX2_leftOf_0 2 rfl rfl)
theorem dX2_leftOf_3 : decode cX2_leftOf 3 = .ok (.istore_n 3, 1) := dk_62 (dk_at dksX2_leftOf_0 3 rfl rfl)
theorem dX2_leftOf_4 : decode cX2_leftOf 4 = .ok (.iload_n 3, 1) := dk_29 (dk_at dksX2_leftOf_0 4 rfl rfl)
theorem dX2_leftOf_5 : decode cX2_leftOf 5 = .ok (.aload_n 0, 1) := dk_42 (dk_at dksX2_leftOf_0 5 rfl rfl)
theorem dX2_leftOf_6 : decode cX2_leftOf 6 = .ok (.getfield 109, 3) := dk_180 0 109 (dk_at dksX2_leftOf_0 6 rfl rfl)
theorem dX2_leftOf_9 : decode cX2_leftOf 9 = .ok (.if_icmp .ge 37, 3) := dk_162 0 37 (dk_at dksX2_leftOf_0 9 rfl rfl)
theorem dX2_leftOf_12 : decode cX2_leftOf 12 = .ok (.iload_n 2, 1) := dk_28 (dk_at dksX2_leftOf_0 12 rfl rfl)
theorem dX2_leftOf_13 : decode cX2_leftOf 13 = .ok (.aload_n 0, 1) := dk_42 (dk_at dksX2_leftOf_0 13 rfl rfl)
theorem dX2_leftOf_14 : decode cX2_leftOf 14 = .ok (.iload_n 3, 1) := dk_29 (dk_at dksX2_leftOf_0 14 rfl rfl)
theorem dX2_leftOf_15 : decode cX2_leftOf 15 = .ok (.invokevirtual 154, 3) := dk_182 0 154 (dk_at dksX2_leftOf_0 15 rfl rfl)
theorem dX2_leftOf_18 : decode cX2_leftOf 18 = .ok (.ifCond .eq 19, 3) := dk_153 0 19 (dk_at dksX2_leftOf_0 18 rfl rfl)
theorem dX2_leftOf_21 : decode cX2_leftOf 21 = .ok (.iload_n 1, 1) := dk_27 (dk_at dksX2_leftOf_0 21 rfl rfl)
theorem dX2_leftOf_22 : decode cX2_leftOf 22 = .ok (.ifCond .ne 7, 3) := dk_154 0 7 (dk_at dksX2_leftOf_1 0 rfl rfl)
theorem dX2_leftOf_25 : decode cX2_leftOf 25 = .ok (.iconst 1, 1) := dk_4 (dk_at dksX2_leftOf_1 3 rfl rfl)
theorem dX2_leftOf_26 : decode cX2_leftOf 26 = .ok (.goto 12, 3) := dk_167 0 12 (dk_at dksX2_leftOf_1 4 rfl rfl)
theorem dX2_leftOf_29 : decode cX2_leftOf 29 = .ok (.aload_n 0, 1) := dk_42 (dk_at dksX2_leftOf_1 7 rfl rfl)
theorem dX2_leftOf_30 : decode cX2_leftOf 30 = .ok (.iload_n 3, 1) := dk_29 (dk_at dksX2_leftOf_1 8 rfl rfl)
theorem dX2_leftOf_31 : decode cX2_leftOf 31 = .ok (.invokevirtual 151, 3) := dk_182 0 151 (dk_at dksX2_leftOf_1 9 rfl rfl)
theorem dX2_leftOf_34 : decode cX2_leftOf 34 = .ok (.goto 4, 3) := dk_167 0 4 (dk_at dksX2_leftOf_1 12 rfl rfl)
theorem dX2_leftOf_37 : decode cX2_leftOf 37 = .ok (.iconst 0, 1) := dk_3 (dk_at dksX2_leftOf_1 15 rfl rfl)
theorem dX2_leftOf_38 : decode cX2_leftOf 38 = .ok (.iadd, 1) := dk_96 (dk_at dksX2_leftOf_1 16 rfl rfl)
theorem dX2_leftOf_39 : decode cX2_leftOf 39 = .ok (.istore_n 2, 1) := dk_61 (dk_at dksX2_leftOf_1 17 rfl rfl)
theorem dX2_leftOf_40 : decode cX2_leftOf 40 = .ok (.iinc 3 1, 3) := dk_132 3 1 (dk_at dksX2_leftOf_1 18 rfl rfl)
theorem dX2_leftOf_43 : decode cX2_leftOf 43 = .ok (.goto (-39), 3) := dk_167 255 217 (dk_at dksX2_leftOf_1 21 rfl rfl)
theorem dX2_leftOf_46 : decode cX2_leftOf 46 = .ok (.iload_n 2, 1) := dk_28 (dk_at dksX2_leftOf_2 0 rfl rfl)
theorem dX2_leftOf_47 : decode cX2_leftOf 47 = .ok (.ireturn, 1) := dk_172 (dk_at dksX2_leftOf_2 1 rfl rfl)
abbrev cX2_nth : ByteArray := prog_10_method_32_code
def yX2_nth : MethodName := ⟨RX2, "nth", "(I)I"⟩
def dkwX2_nth_2 : List UInt8 := [132, 3, 1, 167, 255, 226, 2, 172]
abbrev dktX2_nth_2 : List UInt8 := dkwX2_nth_2 ++ []
def dkwX2_nth_1 : List UInt8 := [162, 0, 28, 42, 29, 182, 0, 147, 2, 160, 0, 13, 28, 27, 160, 0, 5, 29, 172, 132, 2, 1]
abbrev dktX2_nth_1 : List UInt8 := dkwX2_nth_1 ++ dktX2_nth_2
def dkwX2_nth_0 : List UInt8 := [27, 133, 9, 20, 0, 164, 184, 0, 88, 154, 0, 6, 16, 154, 172, 3, 61, 3, 62, 29, 42, 180, 0, 102]
abbrev dktX2_nth_0 : List UInt8 := dkwX2_nth_0 ++ dktX2_nth_1
theorem dksX2_nth_0 : cX2_nth.data.toList.drop 0 = dktX2_nth_0 := by decide +kernel
theorem dksX2_nth_1 : cX2_nth.data.toList.drop 24 = dktX2_nth_1 := dk_seg dksX2_nth_0 24 rfl rfl
theorem dksX2_nth_2 : cX2_nth.data.toList.drop 46 = dktX2_nth_2 := dk_seg dksX2_nth_1 22 rfl rfl
theorem dX2_nth_0 : decode cX2_nth 0 = .ok (.iload_n 1, 1) := dk_27 (dk_at dksX2_nth_0 0 rfl rfl)
theorem dX2_nth_1 : decode cX2_nth 1 = .ok (.i2l, 1) := dk_133 (dk_at dksX2_nth_0 1 rfl rfl)
theorem dX2_nth_2 : decode cX2_nth 2 = .ok (.lconst 0, 1) := dk_9 (dk_at dksX2_nth_0 2 rfl rfl)
theorem dX2_nth_3 : decode cX2_nth 3 = .ok (.ldc2_w 164, 3) := dk_20 0 164 (dk_at dksX2_nth_0 3 rfl rfl)
theorem dX2_nth_6 : decode cX2_nth 6 = .ok (.invokestatic 88, 3) := dk_184 0 88 (dk_at dksX2_nth_0 6 rfl rfl)
theorem dX2_nth_9 : decode cX2_nth 9 = .ok (.ifCond .ne 6, 3) := dk_154 0 6 (dk_at dksX2_nth_0 9 rfl rfl)
theorem dX2_nth_12 : decode cX2_nth 12 = .ok (.bipush (-102), 2) := dk_16 154 (dk_at dksX2_nth_0 12 rfl rfl)
theorem dX2_nth_14 : decode cX2_nth 14 = .ok (.ireturn, 1) := dk_172 (dk_at dksX2_nth_0 14 rfl rfl)
theorem dX2_nth_15 : decode cX2_nth 15 = .ok (.iconst 0, 1) := dk_3 (dk_at dksX2_nth_0 15 rfl rfl)
theorem dX2_nth_16 : decode cX2_nth 16 = .ok (.istore_n 2, 1) := dk_61 (dk_at dksX2_nth_0 16 rfl rfl)
theorem dX2_nth_17 : decode cX2_nth 17 = .ok (.iconst 0, 1) := dk_3 (dk_at dksX2_nth_0 17 rfl rfl)
theorem dX2_nth_18 : decode cX2_nth 18 = .ok (.istore_n 3, 1) := dk_62 (dk_at dksX2_nth_0 18 rfl rfl)
theorem dX2_nth_19 : decode cX2_nth 19 = .ok (.iload_n 3, 1) := dk_29 (dk_at dksX2_nth_0 19 rfl rfl)
theorem dX2_nth_20 : decode cX2_nth 20 = .ok (.aload_n 0, 1) := dk_42 (dk_at dksX2_nth_0 20 rfl rfl)
theorem dX2_nth_21 : decode cX2_nth 21 = .ok (.getfield 102, 3) := dk_180 0 102 (dk_at dksX2_nth_0 21 rfl rfl)
theorem dX2_nth_24 : decode cX2_nth 24 = .ok (.if_icmp .ge 28, 3) := dk_162 0 28 (dk_at dksX2_nth_1 0 rfl rfl)
theorem dX2_nth_27 : decode cX2_nth 27 = .ok (.aload_n 0, 1) := dk_42 (dk_at dksX2_nth_1 3 rfl rfl)
theorem dX2_nth_28 : decode cX2_nth 28 = .ok (.iload_n 3, 1) := dk_29 (dk_at dksX2_nth_1 4 rfl rfl)
theorem dX2_nth_29 : decode cX2_nth 29 = .ok (.invokevirtual 147, 3) := dk_182 0 147 (dk_at dksX2_nth_1 5 rfl rfl)
theorem dX2_nth_32 : decode cX2_nth 32 = .ok (.iconst (-1), 1) := dk_2 (dk_at dksX2_nth_1 8 rfl rfl)
theorem dX2_nth_33 : decode cX2_nth 33 = .ok (.if_icmp .ne 13, 3) := dk_160 0 13 (dk_at dksX2_nth_1 9 rfl rfl)
theorem dX2_nth_36 : decode cX2_nth 36 = .ok (.iload_n 2, 1) := dk_28 (dk_at dksX2_nth_1 12 rfl rfl)
theorem dX2_nth_37 : decode cX2_nth 37 = .ok (.iload_n 1, 1) := dk_27 (dk_at dksX2_nth_1 13 rfl rfl)
theorem dX2_nth_38 : decode cX2_nth 38 = .ok (.if_icmp .ne 5, 3) := dk_160 0 5 (dk_at dksX2_nth_1 14 rfl rfl)
theorem dX2_nth_41 : decode cX2_nth 41 = .ok (.iload_n 3, 1) := dk_29 (dk_at dksX2_nth_1 17 rfl rfl)
theorem dX2_nth_42 : decode cX2_nth 42 = .ok (.ireturn, 1) := dk_172 (dk_at dksX2_nth_1 18 rfl rfl)
theorem dX2_nth_43 : decode cX2_nth 43 = .ok (.iinc 2 1, 3) := dk_132 2 1 (dk_at dksX2_nth_1 19 rfl rfl)
theorem dX2_nth_46 : decode cX2_nth 46 = .ok (.iinc 3 1, 3) := dk_132 3 1 (dk_at dksX2_nth_2 0 rfl rfl)
theorem dX2_nth_49 : decode cX2_nth 49 = .ok (.goto (-30), 3) := dk_167 255 226 (dk_at dksX2_nth_2 3 rfl rfl)
theorem dX2_nth_52 : decode cX2_nth 52 = .ok (.iconst (-1), 1) := dk_2 (dk_at dksX2_nth_2 6 rfl rfl)
theorem dX2_nth_53 : decode cX2_nth 53 = .ok (.ireturn, 1) := dk_172 (dk_at dksX2_nth_2 7 rfl rfl)
abbrev cX2_strangers : ByteArray := prog_10_method_36_code
def yX2_strangers : MethodName := ⟨RX2, "strangers", "(III)J"⟩
def dkwX2_strangers_9 : List UInt8 := [22, 5, 29, 184, 0, 178, 173]
abbrev dktX2_strangers_9 : List UInt8 := dkwX2_strangers_9 ++ []
def dkwX2_strangers_8 : List UInt8 := [55, 10, 132, 12, 1, 167, 255, 239, 22, 7, 22, 10, 97, 55, 7, 132, 9, 1, 167, 255, 203, 22, 7]
abbrev dktX2_strangers_8 : List UInt8 := dkwX2_strangers_8 ++ dktX2_strangers_9
def dkwX2_strangers_7 : List UInt8 := [21, 9, 104, 28, 96, 47, 55, 10, 21, 9, 54, 12, 21, 12, 27, 162, 0, 17, 22, 10, 21, 4, 133, 105]
abbrev dktX2_strangers_7 : List UInt8 := dkwX2_strangers_7 ++ dktX2_strangers_8
def dkwX2_strangers_6 : List UInt8 := [132, 7, 1, 167, 255, 237, 9, 55, 7, 3, 54, 9, 21, 9, 27, 163, 0, 53, 42, 180, 0, 34, 8]
abbrev dktX2_strangers_6 : List UInt8 := dkwX2_strangers_6 ++ dktX2_strangers_7
def dkwX2_strangers_5 : List UInt8 := [54, 4, 10, 55, 5, 3, 54, 7, 21, 7, 27, 162, 0, 19, 22, 5, 42, 180, 0, 102, 133, 105, 55, 5]
abbrev dktX2_strangers_5 : List UInt8 := dkwX2_strangers_5 ++ dktX2_strangers_6
def dkwX2_strangers_4 : List UInt8 := [21, 4, 182, 0, 151, 182, 0, 174, 132, 4, 1, 167, 255, 224, 42, 180, 0, 102, 42, 4, 182, 0, 161, 100]
abbrev dktX2_strangers_4 : List UInt8 := dkwX2_strangers_4 ++ dktX2_strangers_5
def dkwX2_strangers_3 : List UInt8 := [54, 4, 21, 4, 42, 180, 0, 109, 162, 0, 29, 42, 21, 4, 182, 0, 154, 153, 0, 14, 42, 27, 42]
abbrev dktX2_strangers_3 : List UInt8 := dkwX2_strangers_3 ++ dktX2_strangers_4
def dkwX2_strangers_2 : List UInt8 := [180, 0, 34, 21, 4, 21, 4, 154, 0, 7, 10, 167, 0, 4, 9, 80, 132, 4, 1, 167, 255, 229, 3]
abbrev dktX2_strangers_2 : List UInt8 := dkwX2_strangers_2 ++ dktX2_strangers_3
def dkwX2_strangers_1 : List UInt8 := [133, 9, 10, 184, 0, 88, 154, 0, 7, 20, 0, 172, 173, 3, 54, 4, 21, 4, 16, 25, 162, 0, 26, 42]
abbrev dktX2_strangers_1 : List UInt8 := dkwX2_strangers_1 ++ dktX2_strangers_2
def dkwX2_strangers_0 : List UInt8 := [27, 133, 10, 20, 0, 170, 184, 0, 88, 153, 0, 24, 28, 133, 9, 27, 133, 184, 0, 88, 153, 0, 13, 29]
abbrev dktX2_strangers_0 : List UInt8 := dkwX2_strangers_0 ++ dktX2_strangers_1
theorem dksX2_strangers_0 : cX2_strangers.data.toList.drop 0 = dktX2_strangers_0 := by decide +kernel
theorem dksX2_strangers_1 : cX2_strangers.data.toList.drop 24 = dktX2_strangers_1 := dk_seg dksX2_strangers_0 24 rfl rfl
theorem dksX2_strangers_2 : cX2_strangers.data.toList.drop 48 = dktX2_strangers_2 := dk_seg dksX2_strangers_1 24 rfl rfl
theorem dksX2_strangers_3 : cX2_strangers.data.toList.drop 71 = dktX2_strangers_3 := dk_seg dksX2_strangers_2 23 rfl rfl
theorem dksX2_strangers_4 : cX2_strangers.data.toList.drop 94 = dktX2_strangers_4 := dk_seg dksX2_strangers_3 23 rfl rfl
theorem dksX2_strangers_5 : cX2_strangers.data.toList.drop 118 = dktX2_strangers_5 := dk_seg dksX2_strangers_4 24 rfl rfl
theorem dksX2_strangers_6 : cX2_strangers.data.toList.drop 142 = dktX2_strangers_6 := dk_seg dksX2_strangers_5 24 rfl rfl
theorem dksX2_strangers_7 : cX2_strangers.data.toList.drop 165 = dktX2_strangers_7 := dk_seg dksX2_strangers_6 23 rfl rfl
theorem dksX2_strangers_8 : cX2_strangers.data.toList.drop 189 = dktX2_strangers_8 := dk_seg dksX2_strangers_7 24 rfl rfl
theorem dksX2_strangers_9 : cX2_strangers.data.toList.drop 212 = dktX2_strangers_9 := dk_seg dksX2_strangers_8 23 rfl rfl
theorem dX2_strangers_0 : decode cX2_strangers 0 = .ok (.iload_n 1, 1) := dk_27 (dk_at dksX2_strangers_0 0 rfl rfl)
theorem dX2_strangers_1 : decode cX2_strangers 1 = .ok (.i2l, 1) := dk_133 (dk_at dksX2_strangers_0 1 rfl rfl)
theorem dX2_strangers_2 : decode cX2_strangers 2 = .ok (.lconst 1, 1) := dk_10 (dk_at dksX2_strangers_0 2 rfl rfl)
theorem dX2_strangers_3 : decode cX2_strangers 3 = .ok (.ldc2_w 170, 3) := dk_20 0 170 (dk_at dksX2_strangers_0 3 rfl rfl)
theorem dX2_strangers_6 : decode cX2_strangers 6 = .ok (.invokestatic 88, 3) := dk_184 0 88 (dk_at dksX2_strangers_0 6 rfl rfl)
theorem dX2_strangers_9 : decode cX2_strangers 9 = .ok (.ifCond .eq 24, 3) := dk_153 0 24 (dk_at dksX2_strangers_0 9 rfl rfl)
theorem dX2_strangers_12 : decode cX2_strangers 12 = .ok (.iload_n 2, 1) := dk_28 (dk_at dksX2_strangers_0 12 rfl rfl)
theorem dX2_strangers_13 : decode cX2_strangers 13 = .ok (.i2l, 1) := dk_133 (dk_at dksX2_strangers_0 13 rfl rfl)
theorem dX2_strangers_14 : decode cX2_strangers 14 = .ok (.lconst 0, 1) := dk_9 (dk_at dksX2_strangers_0 14 rfl rfl)
theorem dX2_strangers_15 : decode cX2_strangers 15 = .ok (.iload_n 1, 1) := dk_27 (dk_at dksX2_strangers_0 15 rfl rfl)
theorem dX2_strangers_16 : decode cX2_strangers 16 = .ok (.i2l, 1) := dk_133 (dk_at dksX2_strangers_0 16 rfl rfl)
theorem dX2_strangers_17 : decode cX2_strangers 17 = .ok (.invokestatic 88, 3) := dk_184 0 88 (dk_at dksX2_strangers_0 17 rfl rfl)
theorem dX2_strangers_20 : decode cX2_strangers 20 = .ok (.ifCond .eq 13, 3) := dk_153 0 13 (dk_at dksX2_strangers_0 20 rfl rfl)
theorem dX2_strangers_23 : decode cX2_strangers 23 = .ok (.iload_n 3, 1) := dk_29 (dk_at dksX2_strangers_0 23 rfl rfl)
theorem dX2_strangers_24 : decode cX2_strangers 24 = .ok (.i2l, 1) := dk_133 (dk_at dksX2_strangers_1 0 rfl rfl)
theorem dX2_strangers_25 : decode cX2_strangers 25 = .ok (.lconst 0, 1) := dk_9 (dk_at dksX2_strangers_1 1 rfl rfl)
theorem dX2_strangers_26 : decode cX2_strangers 26 = .ok (.lconst 1, 1) := dk_10 (dk_at dksX2_strangers_1 2 rfl rfl)
theorem dX2_strangers_27 : decode cX2_strangers 27 = .ok (.invokestatic 88, 3) := dk_184 0 88 (dk_at dksX2_strangers_1 3 rfl rfl)
theorem dX2_strangers_30 : decode cX2_strangers 30 = .ok (.ifCond .ne 7, 3) := dk_154 0 7 (dk_at dksX2_strangers_1 6 rfl rfl)
theorem dX2_strangers_33 : decode cX2_strangers 33 = .ok (.ldc2_w 172, 3) := dk_20 0 172 (dk_at dksX2_strangers_1 9 rfl rfl)
theorem dX2_strangers_36 : decode cX2_strangers 36 = .ok (.lreturn, 1) := dk_173 (dk_at dksX2_strangers_1 12 rfl rfl)
theorem dX2_strangers_37 : decode cX2_strangers 37 = .ok (.iconst 0, 1) := dk_3 (dk_at dksX2_strangers_1 13 rfl rfl)
theorem dX2_strangers_38 : decode cX2_strangers 38 = .ok (.istore 4, 2) := dk_54 4 (dk_at dksX2_strangers_1 14 rfl rfl)
theorem dX2_strangers_40 : decode cX2_strangers 40 = .ok (.iload 4, 2) := dk_21 4 (dk_at dksX2_strangers_1 16 rfl rfl)
theorem dX2_strangers_42 : decode cX2_strangers 42 = .ok (.bipush 25, 2) := dk_16 25 (dk_at dksX2_strangers_1 18 rfl rfl)
theorem dX2_strangers_44 : decode cX2_strangers 44 = .ok (.if_icmp .ge 26, 3) := dk_162 0 26 (dk_at dksX2_strangers_1 20 rfl rfl)
theorem dX2_strangers_47 : decode cX2_strangers 47 = .ok (.aload_n 0, 1) := dk_42 (dk_at dksX2_strangers_1 23 rfl rfl)
theorem dX2_strangers_48 : decode cX2_strangers 48 = .ok (.getfield 34, 3) := dk_180 0 34 (dk_at dksX2_strangers_2 0 rfl rfl)
theorem dX2_strangers_51 : decode cX2_strangers 51 = .ok (.iload 4, 2) := dk_21 4 (dk_at dksX2_strangers_2 3 rfl rfl)
theorem dX2_strangers_53 : decode cX2_strangers 53 = .ok (.iload 4, 2) := dk_21 4 (dk_at dksX2_strangers_2 5 rfl rfl)
theorem dX2_strangers_55 : decode cX2_strangers 55 = .ok (.ifCond .ne 7, 3) := dk_154 0 7 (dk_at dksX2_strangers_2 7 rfl rfl)
theorem dX2_strangers_58 : decode cX2_strangers 58 = .ok (.lconst 1, 1) := dk_10 (dk_at dksX2_strangers_2 10 rfl rfl)
theorem dX2_strangers_59 : decode cX2_strangers 59 = .ok (.goto 4, 3) := dk_167 0 4 (dk_at dksX2_strangers_2 11 rfl rfl)
theorem dX2_strangers_62 : decode cX2_strangers 62 = .ok (.lconst 0, 1) := dk_9 (dk_at dksX2_strangers_2 14 rfl rfl)
theorem dX2_strangers_63 : decode cX2_strangers 63 = .ok (.lastore, 1) := dk_80 (dk_at dksX2_strangers_2 15 rfl rfl)
theorem dX2_strangers_64 : decode cX2_strangers 64 = .ok (.iinc 4 1, 3) := dk_132 4 1 (dk_at dksX2_strangers_2 16 rfl rfl)
theorem dX2_strangers_67 : decode cX2_strangers 67 = .ok (.goto (-27), 3) := dk_167 255 229 (dk_at dksX2_strangers_2 19 rfl rfl)
theorem dX2_strangers_70 : decode cX2_strangers 70 = .ok (.iconst 0, 1) := dk_3 (dk_at dksX2_strangers_2 22 rfl rfl)
theorem dX2_strangers_71 : decode cX2_strangers 71 = .ok (.istore 4, 2) := dk_54 4 (dk_at dksX2_strangers_3 0 rfl rfl)
theorem dX2_strangers_73 : decode cX2_strangers 73 = .ok (.iload 4, 2) := dk_21 4 (dk_at dksX2_strangers_3 2 rfl rfl)
theorem dX2_strangers_75 : decode cX2_strangers 75 = .ok (.aload_n 0, 1) := dk_42 (dk_at dksX2_strangers_3 4 rfl rfl)
theorem dX2_strangers_76 : decode cX2_strangers 76 = .ok (.getfield 109, 3) := dk_180 0 109 (dk_at dksX2_strangers_3 5 rfl rfl)
theorem dX2_strangers_79 : decode cX2_strangers 79 = .ok (.if_icmp .ge 29, 3) := dk_162 0 29 (dk_at dksX2_strangers_3 8 rfl rfl)
theorem dX2_strangers_82 : decode cX2_strangers 82 = .ok (.aload_n 0, 1) := dk_42 (dk_at dksX2_strangers_3 11 rfl rfl)
theorem dX2_strangers_83 : decode cX2_strangers 83 = .ok (.iload 4, 2) := dk_21 4 (dk_at dksX2_strangers_3 12 rfl rfl)
theorem dX2_strangers_85 : decode cX2_strangers 85 = .ok (.invokevirtual 154, 3) := dk_182 0 154 (dk_at dksX2_strangers_3 14 rfl rfl)
theorem dX2_strangers_88 : decode cX2_strangers 88 = .ok (.ifCond .eq 14, 3) := dk_153 0 14 (dk_at dksX2_strangers_3 17 rfl rfl)
theorem dX2_strangers_91 : decode cX2_strangers 91 = .ok (.aload_n 0, 1) := dk_42 (dk_at dksX2_strangers_3 20 rfl rfl)
theorem dX2_strangers_92 : decode cX2_strangers 92 = .ok (.iload_n 1, 1) := dk_27 (dk_at dksX2_strangers_3 21 rfl rfl)
theorem dX2_strangers_93 : decode cX2_strangers 93 = .ok (.aload_n 0, 1) := dk_42 (dk_at dksX2_strangers_3 22 rfl rfl)
theorem dX2_strangers_94 : decode cX2_strangers 94 = .ok (.iload 4, 2) := dk_21 4 (dk_at dksX2_strangers_4 0 rfl rfl)
theorem dX2_strangers_96 : decode cX2_strangers 96 = .ok (.invokevirtual 151, 3) := dk_182 0 151 (dk_at dksX2_strangers_4 2 rfl rfl)
theorem dX2_strangers_99 : decode cX2_strangers 99 = .ok (.invokevirtual 174, 3) := dk_182 0 174 (dk_at dksX2_strangers_4 5 rfl rfl)
theorem dX2_strangers_102 : decode cX2_strangers 102 = .ok (.iinc 4 1, 3) := dk_132 4 1 (dk_at dksX2_strangers_4 8 rfl rfl)
theorem dX2_strangers_105 : decode cX2_strangers 105 = .ok (.goto (-32), 3) := dk_167 255 224 (dk_at dksX2_strangers_4 11 rfl rfl)
theorem dX2_strangers_108 : decode cX2_strangers 108 = .ok (.aload_n 0, 1) := dk_42 (dk_at dksX2_strangers_4 14 rfl rfl)
theorem dX2_strangers_109 : decode cX2_strangers 109 = .ok (.getfield 102, 3) := dk_180 0 102 (dk_at dksX2_strangers_4 15 rfl rfl)
theorem dX2_strangers_112 : decode cX2_strangers 112 = .ok (.aload_n 0, 1) := dk_42 (dk_at dksX2_strangers_4 18 rfl rfl)
theorem dX2_strangers_113 : decode cX2_strangers 113 = .ok (.iconst 1, 1) := dk_4 (dk_at dksX2_strangers_4 19 rfl rfl)
theorem dX2_strangers_114 : decode cX2_strangers 114 = .ok (.invokevirtual 161, 3) := dk_182 0 161 (dk_at dksX2_strangers_4 20 rfl rfl)
theorem dX2_strangers_117 : decode cX2_strangers 117 = .ok (.isub, 1) := dk_100 (dk_at dksX2_strangers_4 23 rfl rfl)
theorem dX2_strangers_118 : decode cX2_strangers 118 = .ok (.istore 4, 2) := dk_54 4 (dk_at dksX2_strangers_5 0 rfl rfl)
theorem dX2_strangers_120 : decode cX2_strangers 120 = .ok (.lconst 1, 1) := dk_10 (dk_at dksX2_strangers_5 2 rfl rfl)
theorem dX2_strangers_121 : decode cX2_strangers 121 = .ok (.lstore 5, 2) := dk_55 5 (dk_at dksX2_strangers_5 3 rfl rfl)
theorem dX2_strangers_123 : decode cX2_strangers 123 = .ok (.iconst 0, 1) := dk_3 (dk_at dksX2_strangers_5 5 rfl rfl)
theorem dX2_strangers_124 : decode cX2_strangers 124 = .ok (.istore 7, 2) := dk_54 7 (dk_at dksX2_strangers_5 6 rfl rfl)
theorem dX2_strangers_126 : decode cX2_strangers 126 = .ok (.iload 7, 2) := dk_21 7 (dk_at dksX2_strangers_5 8 rfl rfl)
theorem dX2_strangers_128 : decode cX2_strangers 128 = .ok (.iload_n 1, 1) := dk_27 (dk_at dksX2_strangers_5 10 rfl rfl)
theorem dX2_strangers_129 : decode cX2_strangers 129 = .ok (.if_icmp .ge 19, 3) := dk_162 0 19 (dk_at dksX2_strangers_5 11 rfl rfl)
theorem dX2_strangers_132 : decode cX2_strangers 132 = .ok (.lload 5, 2) := dk_22 5 (dk_at dksX2_strangers_5 14 rfl rfl)
theorem dX2_strangers_134 : decode cX2_strangers 134 = .ok (.aload_n 0, 1) := dk_42 (dk_at dksX2_strangers_5 16 rfl rfl)
theorem dX2_strangers_135 : decode cX2_strangers 135 = .ok (.getfield 102, 3) := dk_180 0 102 (dk_at dksX2_strangers_5 17 rfl rfl)
theorem dX2_strangers_138 : decode cX2_strangers 138 = .ok (.i2l, 1) := dk_133 (dk_at dksX2_strangers_5 20 rfl rfl)
theorem dX2_strangers_139 : decode cX2_strangers 139 = .ok (.lmul, 1) := dk_105 (dk_at dksX2_strangers_5 21 rfl rfl)
theorem dX2_strangers_140 : decode cX2_strangers 140 = .ok (.lstore 5, 2) := dk_55 5 (dk_at dksX2_strangers_5 22 rfl rfl)
theorem dX2_strangers_142 : decode cX2_strangers 142 = .ok (.iinc 7 1, 3) := dk_132 7 1 (dk_at dksX2_strangers_6 0 rfl rfl)
theorem dX2_strangers_145 : decode cX2_strangers 145 = .ok (.goto (-19), 3) := dk_167 255 237 (dk_at dksX2_strangers_6 3 rfl rfl)
theorem dX2_strangers_148 : decode cX2_strangers 148 = .ok (.lconst 0, 1) := dk_9 (dk_at dksX2_strangers_6 6 rfl rfl)
theorem dX2_strangers_149 : decode cX2_strangers 149 = .ok (.lstore 7, 2) := dk_55 7 (dk_at dksX2_strangers_6 7 rfl rfl)
theorem dX2_strangers_151 : decode cX2_strangers 151 = .ok (.iconst 0, 1) := dk_3 (dk_at dksX2_strangers_6 9 rfl rfl)
theorem dX2_strangers_152 : decode cX2_strangers 152 = .ok (.istore 9, 2) := dk_54 9 (dk_at dksX2_strangers_6 10 rfl rfl)
theorem dX2_strangers_154 : decode cX2_strangers 154 = .ok (.iload 9, 2) := dk_21 9 (dk_at dksX2_strangers_6 12 rfl rfl)
theorem dX2_strangers_156 : decode cX2_strangers 156 = .ok (.iload_n 1, 1) := dk_27 (dk_at dksX2_strangers_6 14 rfl rfl)
theorem dX2_strangers_157 : decode cX2_strangers 157 = .ok (.if_icmp .gt 53, 3) := dk_163 0 53 (dk_at dksX2_strangers_6 15 rfl rfl)
theorem dX2_strangers_160 : decode cX2_strangers 160 = .ok (.aload_n 0, 1) := dk_42 (dk_at dksX2_strangers_6 18 rfl rfl)
theorem dX2_strangers_161 : decode cX2_strangers 161 = .ok (.getfield 34, 3) := dk_180 0 34 (dk_at dksX2_strangers_6 19 rfl rfl)
theorem dX2_strangers_164 : decode cX2_strangers 164 = .ok (.iconst 5, 1) := dk_8 (dk_at dksX2_strangers_6 22 rfl rfl)
theorem dX2_strangers_165 : decode cX2_strangers 165 = .ok (.iload 9, 2) := dk_21 9 (dk_at dksX2_strangers_7 0 rfl rfl)
theorem dX2_strangers_167 : decode cX2_strangers 167 = .ok (.imul, 1) := dk_104 (dk_at dksX2_strangers_7 2 rfl rfl)
theorem dX2_strangers_168 : decode cX2_strangers 168 = .ok (.iload_n 2, 1) := dk_28 (dk_at dksX2_strangers_7 3 rfl rfl)
theorem dX2_strangers_169 : decode cX2_strangers 169 = .ok (.iadd, 1) := dk_96 (dk_at dksX2_strangers_7 4 rfl rfl)
theorem dX2_strangers_170 : decode cX2_strangers 170 = .ok (.laload, 1) := dk_47 (dk_at dksX2_strangers_7 5 rfl rfl)
theorem dX2_strangers_171 : decode cX2_strangers 171 = .ok (.lstore 10, 2) := dk_55 10 (dk_at dksX2_strangers_7 6 rfl rfl)
theorem dX2_strangers_173 : decode cX2_strangers 173 = .ok (.iload 9, 2) := dk_21 9 (dk_at dksX2_strangers_7 8 rfl rfl)
theorem dX2_strangers_175 : decode cX2_strangers 175 = .ok (.istore 12, 2) := dk_54 12 (dk_at dksX2_strangers_7 10 rfl rfl)
theorem dX2_strangers_177 : decode cX2_strangers 177 = .ok (.iload 12, 2) := dk_21 12 (dk_at dksX2_strangers_7 12 rfl rfl)
theorem dX2_strangers_179 : decode cX2_strangers 179 = .ok (.iload_n 1, 1) := dk_27 (dk_at dksX2_strangers_7 14 rfl rfl)
theorem dX2_strangers_180 : decode cX2_strangers 180 = .ok (.if_icmp .ge 17, 3) := dk_162 0 17 (dk_at dksX2_strangers_7 15 rfl rfl)
theorem dX2_strangers_183 : decode cX2_strangers 183 = .ok (.lload 10, 2) := dk_22 10 (dk_at dksX2_strangers_7 18 rfl rfl)
theorem dX2_strangers_185 : decode cX2_strangers 185 = .ok (.iload 4, 2) := dk_21 4 (dk_at dksX2_strangers_7 20 rfl rfl)
theorem dX2_strangers_187 : decode cX2_strangers 187 = .ok (.i2l, 1) := dk_133 (dk_at dksX2_strangers_7 22 rfl rfl)
theorem dX2_strangers_188 : decode cX2_strangers 188 = .ok (.lmul, 1) := dk_105 (dk_at dksX2_strangers_7 23 rfl rfl)
theorem dX2_strangers_189 : decode cX2_strangers 189 = .ok (.lstore 10, 2) := dk_55 10 (dk_at dksX2_strangers_8 0 rfl rfl)
theorem dX2_strangers_191 : decode cX2_strangers 191 = .ok (.iinc 12 1, 3) := dk_132 12 1 (dk_at dksX2_strangers_8 2 rfl rfl)
theorem dX2_strangers_194 : decode cX2_strangers 194 = .ok (.goto (-17), 3) := dk_167 255 239 (dk_at dksX2_strangers_8 5 rfl rfl)
theorem dX2_strangers_197 : decode cX2_strangers 197 = .ok (.lload 7, 2) := dk_22 7 (dk_at dksX2_strangers_8 8 rfl rfl)
theorem dX2_strangers_199 : decode cX2_strangers 199 = .ok (.lload 10, 2) := dk_22 10 (dk_at dksX2_strangers_8 10 rfl rfl)
theorem dX2_strangers_201 : decode cX2_strangers 201 = .ok (.ladd, 1) := dk_97 (dk_at dksX2_strangers_8 12 rfl rfl)
theorem dX2_strangers_202 : decode cX2_strangers 202 = .ok (.lstore 7, 2) := dk_55 7 (dk_at dksX2_strangers_8 13 rfl rfl)
theorem dX2_strangers_204 : decode cX2_strangers 204 = .ok (.iinc 9 1, 3) := dk_132 9 1 (dk_at dksX2_strangers_8 15 rfl rfl)
theorem dX2_strangers_207 : decode cX2_strangers 207 = .ok (.goto (-53), 3) := dk_167 255 203 (dk_at dksX2_strangers_8 18 rfl rfl)
theorem dX2_strangers_210 : decode cX2_strangers 210 = .ok (.lload 7, 2) := dk_22 7 (dk_at dksX2_strangers_8 21 rfl rfl)
theorem dX2_strangers_212 : decode cX2_strangers 212 = .ok (.lload 5, 2) := dk_22 5 (dk_at dksX2_strangers_9 0 rfl rfl)
theorem dX2_strangers_214 : decode cX2_strangers 214 = .ok (.iload_n 3, 1) := dk_29 (dk_at dksX2_strangers_9 2 rfl rfl)
theorem dX2_strangers_215 : decode cX2_strangers 215 = .ok (.invokestatic 178, 3) := dk_184 0 178 (dk_at dksX2_strangers_9 3 rfl rfl)
theorem dX2_strangers_218 : decode cX2_strangers 218 = .ok (.lreturn, 1) := dk_173 (dk_at dksX2_strangers_9 6 rfl rfl)
abbrev cX2_addSort : ByteArray := prog_10_method_35_code
def yX2_addSort : MethodName := ⟨RX2, "addSort", "(II)V"⟩
def dkwX2_addSort_6 : List UInt8 := [47, 80, 132, 3, 1, 167, 255, 235, 177]
abbrev dktX2_addSort_6 : List UInt8 := dkwX2_addSort_6 ++ []
def dkwX2_addSort_5 : List UInt8 := [132, 3, 1, 167, 255, 164, 3, 62, 29, 16, 25, 162, 0, 21, 42, 180, 0, 34, 29, 42, 180, 0, 38, 29]
abbrev dktX2_addSort_5 : List UInt8 := dkwX2_addSort_5 ++ dktX2_addSort_6
def dkwX2_addSort_4 : List UInt8 := [21, 6, 184, 0, 166, 105, 22, 4, 105, 97, 80, 132, 7, 1, 167, 255, 205, 132, 6, 1, 167, 255, 181]
abbrev dktX2_addSort_4 : List UInt8 := dkwX2_addSort_4 ++ dktX2_addSort_5
def dkwX2_addSort_3 : List UInt8 := [96, 104, 21, 7, 96, 4, 96, 92, 47, 42, 180, 0, 34, 8, 29, 104, 21, 7, 96, 47, 27, 29, 100]
abbrev dktX2_addSort_3 : List UInt8 := dkwX2_addSort_3 ++ dktX2_addSort_4
def dkwX2_addSort_2 : List UInt8 := [22, 4, 28, 133, 105, 55, 4, 3, 54, 7, 21, 7, 27, 162, 0, 51, 42, 180, 0, 38, 8, 29, 21, 6]
abbrev dktX2_addSort_2 : List UInt8 := dkwX2_addSort_2 ++ dktX2_addSort_3
def dkwX2_addSort_1 : List UInt8 := [167, 255, 235, 3, 62, 29, 27, 162, 0, 93, 10, 55, 4, 4, 54, 6, 29, 21, 6, 96, 27, 163, 0, 73]
abbrev dktX2_addSort_1 : List UInt8 := dkwX2_addSort_1 ++ dktX2_addSort_2
def dkwX2_addSort_0 : List UInt8 := [3, 62, 29, 16, 25, 162, 0, 21, 42, 180, 0, 38, 29, 42, 180, 0, 34, 29, 47, 80, 132, 3, 1]
abbrev dktX2_addSort_0 : List UInt8 := dkwX2_addSort_0 ++ dktX2_addSort_1
theorem dksX2_addSort_0 : cX2_addSort.data.toList.drop 0 = dktX2_addSort_0 := by decide +kernel
theorem dksX2_addSort_1 : cX2_addSort.data.toList.drop 23 = dktX2_addSort_1 := dk_seg dksX2_addSort_0 23 rfl rfl
theorem dksX2_addSort_2 : cX2_addSort.data.toList.drop 47 = dktX2_addSort_2 := dk_seg dksX2_addSort_1 24 rfl rfl
theorem dksX2_addSort_3 : cX2_addSort.data.toList.drop 71 = dktX2_addSort_3 := dk_seg dksX2_addSort_2 24 rfl rfl
theorem dksX2_addSort_4 : cX2_addSort.data.toList.drop 94 = dktX2_addSort_4 := dk_seg dksX2_addSort_3 23 rfl rfl
theorem dksX2_addSort_5 : cX2_addSort.data.toList.drop 117 = dktX2_addSort_5 := dk_seg dksX2_addSort_4 23 rfl rfl
theorem dksX2_addSort_6 : cX2_addSort.data.toList.drop 141 = dktX2_addSort_6 := dk_seg dksX2_addSort_5 24 rfl rfl
theorem dX2_addSort_0 : decode cX2_addSort 0 = .ok (.iconst 0, 1) := dk_3 (dk_at dksX2_addSort_0 0 rfl rfl)
theorem dX2_addSort_1 : decode cX2_addSort 1 = .ok (.istore_n 3, 1) := dk_62 (dk_at dksX2_addSort_0 1 rfl rfl)
theorem dX2_addSort_2 : decode cX2_addSort 2 = .ok (.iload_n 3, 1) := dk_29 (dk_at dksX2_addSort_0 2 rfl rfl)
theorem dX2_addSort_3 : decode cX2_addSort 3 = .ok (.bipush 25, 2) := dk_16 25 (dk_at dksX2_addSort_0 3 rfl rfl)
theorem dX2_addSort_5 : decode cX2_addSort 5 = .ok (.if_icmp .ge 21, 3) := dk_162 0 21 (dk_at dksX2_addSort_0 5 rfl rfl)
theorem dX2_addSort_8 : decode cX2_addSort 8 = .ok (.aload_n 0, 1) := dk_42 (dk_at dksX2_addSort_0 8 rfl rfl)
theorem dX2_addSort_9 : decode cX2_addSort 9 = .ok (.getfield 38, 3) := dk_180 0 38 (dk_at dksX2_addSort_0 9 rfl rfl)
theorem dX2_addSort_12 : decode cX2_addSort 12 = .ok (.iload_n 3, 1) := dk_29 (dk_at dksX2_addSort_0 12 rfl rfl)
theorem dX2_addSort_13 : decode cX2_addSort 13 = .ok (.aload_n 0, 1) := dk_42 (dk_at dksX2_addSort_0 13 rfl rfl)
theorem dX2_addSort_14 : decode cX2_addSort 14 = .ok (.getfield 34, 3) := dk_180 0 34 (dk_at dksX2_addSort_0 14 rfl rfl)
theorem dX2_addSort_17 : decode cX2_addSort 17 = .ok (.iload_n 3, 1) := dk_29 (dk_at dksX2_addSort_0 17 rfl rfl)
theorem dX2_addSort_18 : decode cX2_addSort 18 = .ok (.laload, 1) := dk_47 (dk_at dksX2_addSort_0 18 rfl rfl)
theorem dX2_addSort_19 : decode cX2_addSort 19 = .ok (.lastore, 1) := dk_80 (dk_at dksX2_addSort_0 19 rfl rfl)
theorem dX2_addSort_20 : decode cX2_addSort 20 = .ok (.iinc 3 1, 3) := dk_132 3 1 (dk_at dksX2_addSort_0 20 rfl rfl)
theorem dX2_addSort_23 : decode cX2_addSort 23 = .ok (.goto (-21), 3) := dk_167 255 235 (dk_at dksX2_addSort_1 0 rfl rfl)
theorem dX2_addSort_26 : decode cX2_addSort 26 = .ok (.iconst 0, 1) := dk_3 (dk_at dksX2_addSort_1 3 rfl rfl)
theorem dX2_addSort_27 : decode cX2_addSort 27 = .ok (.istore_n 3, 1) := dk_62 (dk_at dksX2_addSort_1 4 rfl rfl)
theorem dX2_addSort_28 : decode cX2_addSort 28 = .ok (.iload_n 3, 1) := dk_29 (dk_at dksX2_addSort_1 5 rfl rfl)
theorem dX2_addSort_29 : decode cX2_addSort 29 = .ok (.iload_n 1, 1) := dk_27 (dk_at dksX2_addSort_1 6 rfl rfl)
theorem dX2_addSort_30 : decode cX2_addSort 30 = .ok (.if_icmp .ge 93, 3) := dk_162 0 93 (dk_at dksX2_addSort_1 7 rfl rfl)
theorem dX2_addSort_33 : decode cX2_addSort 33 = .ok (.lconst 1, 1) := dk_10 (dk_at dksX2_addSort_1 10 rfl rfl)
theorem dX2_addSort_34 : decode cX2_addSort 34 = .ok (.lstore 4, 2) := dk_55 4 (dk_at dksX2_addSort_1 11 rfl rfl)
theorem dX2_addSort_36 : decode cX2_addSort 36 = .ok (.iconst 1, 1) := dk_4 (dk_at dksX2_addSort_1 13 rfl rfl)
theorem dX2_addSort_37 : decode cX2_addSort 37 = .ok (.istore 6, 2) := dk_54 6 (dk_at dksX2_addSort_1 14 rfl rfl)
theorem dX2_addSort_39 : decode cX2_addSort 39 = .ok (.iload_n 3, 1) := dk_29 (dk_at dksX2_addSort_1 16 rfl rfl)
theorem dX2_addSort_40 : decode cX2_addSort 40 = .ok (.iload 6, 2) := dk_21 6 (dk_at dksX2_addSort_1 17 rfl rfl)
theorem dX2_addSort_42 : decode cX2_addSort 42 = .ok (.iadd, 1) := dk_96 (dk_at dksX2_addSort_1 19 rfl rfl)
theorem dX2_addSort_43 : decode cX2_addSort 43 = .ok (.iload_n 1, 1) := dk_27 (dk_at dksX2_addSort_1 20 rfl rfl)
theorem dX2_addSort_44 : decode cX2_addSort 44 = .ok (.if_icmp .gt 73, 3) := dk_163 0 73 (dk_at dksX2_addSort_1 21 rfl rfl)
theorem dX2_addSort_47 : decode cX2_addSort 47 = .ok (.lload 4, 2) := dk_22 4 (dk_at dksX2_addSort_2 0 rfl rfl)
theorem dX2_addSort_49 : decode cX2_addSort 49 = .ok (.iload_n 2, 1) := dk_28 (dk_at dksX2_addSort_2 2 rfl rfl)
theorem dX2_addSort_50 : decode cX2_addSort 50 = .ok (.i2l, 1) := dk_133 (dk_at dksX2_addSort_2 3 rfl rfl)
theorem dX2_addSort_51 : decode cX2_addSort 51 = .ok (.lmul, 1) := dk_105 (dk_at dksX2_addSort_2 4 rfl rfl)
theorem dX2_addSort_52 : decode cX2_addSort 52 = .ok (.lstore 4, 2) := dk_55 4 (dk_at dksX2_addSort_2 5 rfl rfl)
theorem dX2_addSort_54 : decode cX2_addSort 54 = .ok (.iconst 0, 1) := dk_3 (dk_at dksX2_addSort_2 7 rfl rfl)
theorem dX2_addSort_55 : decode cX2_addSort 55 = .ok (.istore 7, 2) := dk_54 7 (dk_at dksX2_addSort_2 8 rfl rfl)
theorem dX2_addSort_57 : decode cX2_addSort 57 = .ok (.iload 7, 2) := dk_21 7 (dk_at dksX2_addSort_2 10 rfl rfl)
theorem dX2_addSort_59 : decode cX2_addSort 59 = .ok (.iload_n 1, 1) := dk_27 (dk_at dksX2_addSort_2 12 rfl rfl)
theorem dX2_addSort_60 : decode cX2_addSort 60 = .ok (.if_icmp .ge 51, 3) := dk_162 0 51 (dk_at dksX2_addSort_2 13 rfl rfl)
theorem dX2_addSort_63 : decode cX2_addSort 63 = .ok (.aload_n 0, 1) := dk_42 (dk_at dksX2_addSort_2 16 rfl rfl)
theorem dX2_addSort_64 : decode cX2_addSort 64 = .ok (.getfield 38, 3) := dk_180 0 38 (dk_at dksX2_addSort_2 17 rfl rfl)
theorem dX2_addSort_67 : decode cX2_addSort 67 = .ok (.iconst 5, 1) := dk_8 (dk_at dksX2_addSort_2 20 rfl rfl)
theorem dX2_addSort_68 : decode cX2_addSort 68 = .ok (.iload_n 3, 1) := dk_29 (dk_at dksX2_addSort_2 21 rfl rfl)
theorem dX2_addSort_69 : decode cX2_addSort 69 = .ok (.iload 6, 2) := dk_21 6 (dk_at dksX2_addSort_2 22 rfl rfl)
theorem dX2_addSort_71 : decode cX2_addSort 71 = .ok (.iadd, 1) := dk_96 (dk_at dksX2_addSort_3 0 rfl rfl)
theorem dX2_addSort_72 : decode cX2_addSort 72 = .ok (.imul, 1) := dk_104 (dk_at dksX2_addSort_3 1 rfl rfl)
theorem dX2_addSort_73 : decode cX2_addSort 73 = .ok (.iload 7, 2) := dk_21 7 (dk_at dksX2_addSort_3 2 rfl rfl)
theorem dX2_addSort_75 : decode cX2_addSort 75 = .ok (.iadd, 1) := dk_96 (dk_at dksX2_addSort_3 4 rfl rfl)
theorem dX2_addSort_76 : decode cX2_addSort 76 = .ok (.iconst 1, 1) := dk_4 (dk_at dksX2_addSort_3 5 rfl rfl)
theorem dX2_addSort_77 : decode cX2_addSort 77 = .ok (.iadd, 1) := dk_96 (dk_at dksX2_addSort_3 6 rfl rfl)
theorem dX2_addSort_78 : decode cX2_addSort 78 = .ok (.dup2, 1) := dk_92 (dk_at dksX2_addSort_3 7 rfl rfl)
theorem dX2_addSort_79 : decode cX2_addSort 79 = .ok (.laload, 1) := dk_47 (dk_at dksX2_addSort_3 8 rfl rfl)
theorem dX2_addSort_80 : decode cX2_addSort 80 = .ok (.aload_n 0, 1) := dk_42 (dk_at dksX2_addSort_3 9 rfl rfl)
theorem dX2_addSort_81 : decode cX2_addSort 81 = .ok (.getfield 34, 3) := dk_180 0 34 (dk_at dksX2_addSort_3 10 rfl rfl)
theorem dX2_addSort_84 : decode cX2_addSort 84 = .ok (.iconst 5, 1) := dk_8 (dk_at dksX2_addSort_3 13 rfl rfl)
theorem dX2_addSort_85 : decode cX2_addSort 85 = .ok (.iload_n 3, 1) := dk_29 (dk_at dksX2_addSort_3 14 rfl rfl)
theorem dX2_addSort_86 : decode cX2_addSort 86 = .ok (.imul, 1) := dk_104 (dk_at dksX2_addSort_3 15 rfl rfl)
theorem dX2_addSort_87 : decode cX2_addSort 87 = .ok (.iload 7, 2) := dk_21 7 (dk_at dksX2_addSort_3 16 rfl rfl)
theorem dX2_addSort_89 : decode cX2_addSort 89 = .ok (.iadd, 1) := dk_96 (dk_at dksX2_addSort_3 18 rfl rfl)
theorem dX2_addSort_90 : decode cX2_addSort 90 = .ok (.laload, 1) := dk_47 (dk_at dksX2_addSort_3 19 rfl rfl)
theorem dX2_addSort_91 : decode cX2_addSort 91 = .ok (.iload_n 1, 1) := dk_27 (dk_at dksX2_addSort_3 20 rfl rfl)
theorem dX2_addSort_92 : decode cX2_addSort 92 = .ok (.iload_n 3, 1) := dk_29 (dk_at dksX2_addSort_3 21 rfl rfl)
theorem dX2_addSort_93 : decode cX2_addSort 93 = .ok (.isub, 1) := dk_100 (dk_at dksX2_addSort_3 22 rfl rfl)
theorem dX2_addSort_94 : decode cX2_addSort 94 = .ok (.iload 6, 2) := dk_21 6 (dk_at dksX2_addSort_4 0 rfl rfl)
theorem dX2_addSort_96 : decode cX2_addSort 96 = .ok (.invokestatic 166, 3) := dk_184 0 166 (dk_at dksX2_addSort_4 2 rfl rfl)
theorem dX2_addSort_99 : decode cX2_addSort 99 = .ok (.lmul, 1) := dk_105 (dk_at dksX2_addSort_4 5 rfl rfl)
theorem dX2_addSort_100 : decode cX2_addSort 100 = .ok (.lload 4, 2) := dk_22 4 (dk_at dksX2_addSort_4 6 rfl rfl)
theorem dX2_addSort_102 : decode cX2_addSort 102 = .ok (.lmul, 1) := dk_105 (dk_at dksX2_addSort_4 8 rfl rfl)
theorem dX2_addSort_103 : decode cX2_addSort 103 = .ok (.ladd, 1) := dk_97 (dk_at dksX2_addSort_4 9 rfl rfl)
theorem dX2_addSort_104 : decode cX2_addSort 104 = .ok (.lastore, 1) := dk_80 (dk_at dksX2_addSort_4 10 rfl rfl)
theorem dX2_addSort_105 : decode cX2_addSort 105 = .ok (.iinc 7 1, 3) := dk_132 7 1 (dk_at dksX2_addSort_4 11 rfl rfl)
theorem dX2_addSort_108 : decode cX2_addSort 108 = .ok (.goto (-51), 3) := dk_167 255 205 (dk_at dksX2_addSort_4 14 rfl rfl)
theorem dX2_addSort_111 : decode cX2_addSort 111 = .ok (.iinc 6 1, 3) := dk_132 6 1 (dk_at dksX2_addSort_4 17 rfl rfl)
theorem dX2_addSort_114 : decode cX2_addSort 114 = .ok (.goto (-75), 3) := dk_167 255 181 (dk_at dksX2_addSort_4 20 rfl rfl)
theorem dX2_addSort_117 : decode cX2_addSort 117 = .ok (.iinc 3 1, 3) := dk_132 3 1 (dk_at dksX2_addSort_5 0 rfl rfl)
theorem dX2_addSort_120 : decode cX2_addSort 120 = .ok (.goto (-92), 3) := dk_167 255 164 (dk_at dksX2_addSort_5 3 rfl rfl)
theorem dX2_addSort_123 : decode cX2_addSort 123 = .ok (.iconst 0, 1) := dk_3 (dk_at dksX2_addSort_5 6 rfl rfl)
theorem dX2_addSort_124 : decode cX2_addSort 124 = .ok (.istore_n 3, 1) := dk_62 (dk_at dksX2_addSort_5 7 rfl rfl)
theorem dX2_addSort_125 : decode cX2_addSort 125 = .ok (.iload_n 3, 1) := dk_29 (dk_at dksX2_addSort_5 8 rfl rfl)
theorem dX2_addSort_126 : decode cX2_addSort 126 = .ok (.bipush 25, 2) := dk_16 25 (dk_at dksX2_addSort_5 9 rfl rfl)
theorem dX2_addSort_128 : decode cX2_addSort 128 = .ok (.if_icmp .ge 21, 3) := dk_162 0 21 (dk_at dksX2_addSort_5 11 rfl rfl)
theorem dX2_addSort_131 : decode cX2_addSort 131 = .ok (.aload_n 0, 1) := dk_42 (dk_at dksX2_addSort_5 14 rfl rfl)
theorem dX2_addSort_132 : decode cX2_addSort 132 = .ok (.getfield 34, 3) := dk_180 0 34 (dk_at dksX2_addSort_5 15 rfl rfl)
theorem dX2_addSort_135 : decode cX2_addSort 135 = .ok (.iload_n 3, 1) := dk_29 (dk_at dksX2_addSort_5 18 rfl rfl)
theorem dX2_addSort_136 : decode cX2_addSort 136 = .ok (.aload_n 0, 1) := dk_42 (dk_at dksX2_addSort_5 19 rfl rfl)
theorem dX2_addSort_137 : decode cX2_addSort 137 = .ok (.getfield 38, 3) := dk_180 0 38 (dk_at dksX2_addSort_5 20 rfl rfl)
theorem dX2_addSort_140 : decode cX2_addSort 140 = .ok (.iload_n 3, 1) := dk_29 (dk_at dksX2_addSort_5 23 rfl rfl)
theorem dX2_addSort_141 : decode cX2_addSort 141 = .ok (.laload, 1) := dk_47 (dk_at dksX2_addSort_6 0 rfl rfl)
theorem dX2_addSort_142 : decode cX2_addSort 142 = .ok (.lastore, 1) := dk_80 (dk_at dksX2_addSort_6 1 rfl rfl)
theorem dX2_addSort_143 : decode cX2_addSort 143 = .ok (.iinc 3 1, 3) := dk_132 3 1 (dk_at dksX2_addSort_6 2 rfl rfl)
theorem dX2_addSort_146 : decode cX2_addSort 146 = .ok (.goto (-21), 3) := dk_167 255 235 (dk_at dksX2_addSort_6 5 rfl rfl)
theorem dX2_addSort_149 : decode cX2_addSort 149 = .ok (.return_, 1) := dk_177 (dk_at dksX2_addSort_6 8 rfl rfl)
abbrev cX2_choose : ByteArray := prog_10_method_34_code
def yX2_choose : MethodName := ⟨RX2, "choose", "(II)J"⟩
def dkwX2_choose_1 : List UInt8 := [65, 132, 4, 1, 167, 255, 233, 32, 173]
abbrev dktX2_choose_1 : List UInt8 := dkwX2_choose_1 ++ []
def dkwX2_choose_0 : List UInt8 := [10, 65, 3, 54, 4, 21, 4, 27, 162, 0, 23, 32, 26, 21, 4, 100, 133, 105, 21, 4, 4, 96, 133, 109]
abbrev dktX2_choose_0 : List UInt8 := dkwX2_choose_0 ++ dktX2_choose_1
theorem dksX2_choose_0 : cX2_choose.data.toList.drop 0 = dktX2_choose_0 := by decide +kernel
theorem dksX2_choose_1 : cX2_choose.data.toList.drop 24 = dktX2_choose_1 := dk_seg dksX2_choose_0 24 rfl rfl
theorem dX2_choose_0 : decode cX2_choose 0 = .ok (.lconst 1, 1) := dk_10 (dk_at dksX2_choose_0 0 rfl rfl)
theorem dX2_choose_1 : decode cX2_choose 1 = .ok (.lstore_n 2, 1) := dk_65 (dk_at dksX2_choose_0 1 rfl rfl)
theorem dX2_choose_2 : decode cX2_choose 2 = .ok (.iconst 0, 1) := dk_3 (dk_at dksX2_choose_0 2 rfl rfl)
theorem dX2_choose_3 : decode cX2_choose 3 = .ok (.istore 4, 2) := dk_54 4 (dk_at dksX2_choose_0 3 rfl rfl)
theorem dX2_choose_5 : decode cX2_choose 5 = .ok (.iload 4, 2) := dk_21 4 (dk_at dksX2_choose_0 5 rfl rfl)
theorem dX2_choose_7 : decode cX2_choose 7 = .ok (.iload_n 1, 1) := dk_27 (dk_at dksX2_choose_0 7 rfl rfl)
theorem dX2_choose_8 : decode cX2_choose 8 = .ok (.if_icmp .ge 23, 3) := dk_162 0 23 (dk_at dksX2_choose_0 8 rfl rfl)
theorem dX2_choose_11 : decode cX2_choose 11 = .ok (.lload_n 2, 1) := dk_32 (dk_at dksX2_choose_0 11 rfl rfl)
theorem dX2_choose_12 : decode cX2_choose 12 = .ok (.iload_n 0, 1) := dk_26 (dk_at dksX2_choose_0 12 rfl rfl)
theorem dX2_choose_13 : decode cX2_choose 13 = .ok (.iload 4, 2) := dk_21 4 (dk_at dksX2_choose_0 13 rfl rfl)
theorem dX2_choose_15 : decode cX2_choose 15 = .ok (.isub, 1) := dk_100 (dk_at dksX2_choose_0 15 rfl rfl)
theorem dX2_choose_16 : decode cX2_choose 16 = .ok (.i2l, 1) := dk_133 (dk_at dksX2_choose_0 16 rfl rfl)
theorem dX2_choose_17 : decode cX2_choose 17 = .ok (.lmul, 1) := dk_105 (dk_at dksX2_choose_0 17 rfl rfl)
theorem dX2_choose_18 : decode cX2_choose 18 = .ok (.iload 4, 2) := dk_21 4 (dk_at dksX2_choose_0 18 rfl rfl)
theorem dX2_choose_20 : decode cX2_choose 20 = .ok (.iconst 1, 1) := dk_4 (dk_at dksX2_choose_0 20 rfl rfl)
theorem dX2_choose_21 : decode cX2_choose 21 = .ok (.iadd, 1) := dk_96 (dk_at dksX2_choose_0 21 rfl rfl)
theorem dX2_choose_22 : decode cX2_choose 22 = .ok (.i2l, 1) := dk_133 (dk_at dksX2_choose_0 22 rfl rfl)
theorem dX2_choose_23 : decode cX2_choose 23 = .ok (.ldiv, 1) := dk_109 (dk_at dksX2_choose_0 23 rfl rfl)
theorem dX2_choose_24 : decode cX2_choose 24 = .ok (.lstore_n 2, 1) := dk_65 (dk_at dksX2_choose_1 0 rfl rfl)
theorem dX2_choose_25 : decode cX2_choose 25 = .ok (.iinc 4 1, 3) := dk_132 4 1 (dk_at dksX2_choose_1 1 rfl rfl)
theorem dX2_choose_28 : decode cX2_choose 28 = .ok (.goto (-23), 3) := dk_167 255 233 (dk_at dksX2_choose_1 4 rfl rfl)
theorem dX2_choose_31 : decode cX2_choose 31 = .ok (.lload_n 2, 1) := dk_32 (dk_at dksX2_choose_1 7 rfl rfl)
theorem dX2_choose_32 : decode cX2_choose 32 = .ok (.lreturn, 1) := dk_173 (dk_at dksX2_choose_1 8 rfl rfl)
abbrev cX2_term : ByteArray := prog_10_method_33_code
def yX2_term : MethodName := ⟨RX2, "term", "(JJI)J"⟩
def dkwX2_term_1 : List UInt8 := [22, 9, 55, 5, 167, 255, 234, 21, 4, 154, 0, 10, 30, 22, 7, 109, 167, 0, 7, 32, 22, 7, 109, 173]
abbrev dktX2_term_1 : List UInt8 := dkwX2_term_1 ++ []
def dkwX2_term_0 : List UInt8 := [30, 55, 5, 32, 55, 7, 22, 5, 9, 148, 153, 0, 21, 22, 7, 22, 5, 113, 55, 9, 22, 5, 55, 7]
abbrev dktX2_term_0 : List UInt8 := dkwX2_term_0 ++ dktX2_term_1
theorem dksX2_term_0 : cX2_term.data.toList.drop 0 = dktX2_term_0 := by decide +kernel
theorem dksX2_term_1 : cX2_term.data.toList.drop 24 = dktX2_term_1 := dk_seg dksX2_term_0 24 rfl rfl
theorem dX2_term_0 : decode cX2_term 0 = .ok (.lload_n 0, 1) := dk_30 (dk_at dksX2_term_0 0 rfl rfl)
theorem dX2_term_1 : decode cX2_term 1 = .ok (.lstore 5, 2) := dk_55 5 (dk_at dksX2_term_0 1 rfl rfl)
theorem dX2_term_3 : decode cX2_term 3 = .ok (.lload_n 2, 1) := dk_32 (dk_at dksX2_term_0 3 rfl rfl)
theorem dX2_term_4 : decode cX2_term 4 = .ok (.lstore 7, 2) := dk_55 7 (dk_at dksX2_term_0 4 rfl rfl)
theorem dX2_term_6 : decode cX2_term 6 = .ok (.lload 5, 2) := dk_22 5 (dk_at dksX2_term_0 6 rfl rfl)
theorem dX2_term_8 : decode cX2_term 8 = .ok (.lconst 0, 1) := dk_9 (dk_at dksX2_term_0 8 rfl rfl)
theorem dX2_term_9 : decode cX2_term 9 = .ok (.lcmp, 1) := dk_148 (dk_at dksX2_term_0 9 rfl rfl)
theorem dX2_term_10 : decode cX2_term 10 = .ok (.ifCond .eq 21, 3) := dk_153 0 21 (dk_at dksX2_term_0 10 rfl rfl)
theorem dX2_term_13 : decode cX2_term 13 = .ok (.lload 7, 2) := dk_22 7 (dk_at dksX2_term_0 13 rfl rfl)
theorem dX2_term_15 : decode cX2_term 15 = .ok (.lload 5, 2) := dk_22 5 (dk_at dksX2_term_0 15 rfl rfl)
theorem dX2_term_17 : decode cX2_term 17 = .ok (.lrem, 1) := dk_113 (dk_at dksX2_term_0 17 rfl rfl)
theorem dX2_term_18 : decode cX2_term 18 = .ok (.lstore 9, 2) := dk_55 9 (dk_at dksX2_term_0 18 rfl rfl)
theorem dX2_term_20 : decode cX2_term 20 = .ok (.lload 5, 2) := dk_22 5 (dk_at dksX2_term_0 20 rfl rfl)
theorem dX2_term_22 : decode cX2_term 22 = .ok (.lstore 7, 2) := dk_55 7 (dk_at dksX2_term_0 22 rfl rfl)
theorem dX2_term_24 : decode cX2_term 24 = .ok (.lload 9, 2) := dk_22 9 (dk_at dksX2_term_1 0 rfl rfl)
theorem dX2_term_26 : decode cX2_term 26 = .ok (.lstore 5, 2) := dk_55 5 (dk_at dksX2_term_1 2 rfl rfl)
theorem dX2_term_28 : decode cX2_term 28 = .ok (.goto (-22), 3) := dk_167 255 234 (dk_at dksX2_term_1 4 rfl rfl)
theorem dX2_term_31 : decode cX2_term 31 = .ok (.iload 4, 2) := dk_21 4 (dk_at dksX2_term_1 7 rfl rfl)
theorem dX2_term_33 : decode cX2_term 33 = .ok (.ifCond .ne 10, 3) := dk_154 0 10 (dk_at dksX2_term_1 9 rfl rfl)
theorem dX2_term_36 : decode cX2_term 36 = .ok (.lload_n 0, 1) := dk_30 (dk_at dksX2_term_1 12 rfl rfl)
theorem dX2_term_37 : decode cX2_term 37 = .ok (.lload 7, 2) := dk_22 7 (dk_at dksX2_term_1 13 rfl rfl)
theorem dX2_term_39 : decode cX2_term 39 = .ok (.ldiv, 1) := dk_109 (dk_at dksX2_term_1 15 rfl rfl)
theorem dX2_term_40 : decode cX2_term 40 = .ok (.goto 7, 3) := dk_167 0 7 (dk_at dksX2_term_1 16 rfl rfl)
theorem dX2_term_43 : decode cX2_term 43 = .ok (.lload_n 2, 1) := dk_32 (dk_at dksX2_term_1 19 rfl rfl)
theorem dX2_term_44 : decode cX2_term 44 = .ok (.lload 7, 2) := dk_22 7 (dk_at dksX2_term_1 20 rfl rfl)
theorem dX2_term_46 : decode cX2_term 46 = .ok (.ldiv, 1) := dk_109 (dk_at dksX2_term_1 22 rfl rfl)
theorem dX2_term_47 : decode cX2_term 47 = .ok (.lreturn, 1) := dk_173 (dk_at dksX2_term_1 23 rfl rfl)
abbrev cX2_sheet : ByteArray := prog_10_method_40_code
def yX2_sheet : MethodName := ⟨RX2, "sheet", "(IJI)I"⟩
def dkwX2_sheet_14 : List UInt8 := [89, 180, 0, 130, 4, 96, 181, 0, 130, 42, 180, 0, 130, 172]
abbrev dktX2_sheet_14 : List UInt8 := dkwX2_sheet_14 ++ []
def dkwX2_sheet_13 : List UInt8 := [132, 8, 1, 167, 255, 218, 42, 180, 0, 31, 16, 8, 42, 180, 0, 130, 104, 16, 7, 96, 21, 4, 79, 42]
abbrev dktX2_sheet_13 : List UInt8 := dkwX2_sheet_13 ++ dktX2_sheet_14
def dkwX2_sheet_12 : List UInt8 := [180, 0, 130, 104, 4, 96, 21, 8, 96, 32, 16, 8, 21, 8, 104, 125, 20, 0, 73, 127, 136, 79]
abbrev dktX2_sheet_12 : List UInt8 := dkwX2_sheet_12 ++ dktX2_sheet_13
def dkwX2_sheet_11 : List UInt8 := [180, 0, 130, 104, 27, 79, 3, 54, 8, 21, 8, 27, 162, 0, 38, 42, 180, 0, 31, 16, 8, 42]
abbrev dktX2_sheet_11 : List UInt8 := dkwX2_sheet_11 ++ dktX2_sheet_12
def dkwX2_sheet_10 : List UInt8 := [180, 0, 130, 8, 159, 0, 8, 21, 7, 154, 0, 6, 16, 152, 172, 42, 180, 0, 31, 16, 8, 42]
abbrev dktX2_sheet_10 : List UInt8 := dkwX2_sheet_10 ++ dktX2_sheet_11
def dkwX2_sheet_9 : List UInt8 := [167, 0, 4, 3, 54, 7, 21, 7, 153, 0, 9, 42, 21, 9, 182, 0, 188, 132, 8, 1, 167, 255, 186, 42]
abbrev dktX2_sheet_9 : List UInt8 := dkwX2_sheet_9 ++ dktX2_sheet_10
def dkwX2_sheet_8 : List UInt8 := [153, 0, 26, 42, 180, 0, 182, 16, 12, 161, 0, 13, 42, 21, 9, 182, 0, 185, 2, 159, 0, 7, 4]
abbrev dktX2_sheet_8 : List UInt8 := dkwX2_sheet_8 ++ dktX2_sheet_9
def dkwX2_sheet_7 : List UInt8 := [162, 0, 70, 42, 180, 0, 22, 32, 16, 8, 21, 8, 104, 125, 20, 0, 73, 127, 136, 46, 54, 9, 21, 7]
abbrev dktX2_sheet_7 : List UInt8 := dkwX2_sheet_7 ++ dktX2_sheet_8
def dkwX2_sheet_6 : List UInt8 := [167, 255, 216, 21, 6, 154, 0, 6, 16, 155, 172, 42, 182, 0, 194, 4, 54, 7, 3, 54, 8, 21, 8, 27]
abbrev dktX2_sheet_6 : List UInt8 := dkwX2_sheet_6 ++ dktX2_sheet_7
def dkwX2_sheet_5 : List UInt8 := [125, 20, 0, 73, 127, 136, 182, 0, 142, 153, 0, 7, 4, 167, 0, 4, 3, 54, 6, 132, 7, 1]
abbrev dktX2_sheet_5 : List UInt8 := dkwX2_sheet_5 ++ dktX2_sheet_6
def dkwX2_sheet_4 : List UInt8 := [4, 54, 6, 3, 54, 7, 21, 7, 27, 162, 0, 40, 21, 6, 153, 0, 26, 42, 32, 16, 8, 21, 7, 104]
abbrev dktX2_sheet_4 : List UInt8 := dkwX2_sheet_4 ++ dktX2_sheet_5
def dkwX2_sheet_3 : List UInt8 := [154, 0, 7, 4, 167, 0, 4, 3, 54, 5, 132, 6, 1, 167, 255, 212, 21, 5, 154, 0, 6, 16, 154, 172]
abbrev dktX2_sheet_3 : List UInt8 := dkwX2_sheet_3 ++ dktX2_sheet_4
def dkwX2_sheet_2 : List UInt8 := [153, 0, 38, 21, 6, 27, 161, 0, 19, 32, 16, 8, 21, 6, 104, 125, 20, 0, 73, 127, 9, 148]
abbrev dktX2_sheet_2 : List UInt8 := dkwX2_sheet_2 ++ dktX2_sheet_3
def dkwX2_sheet_1 : List UInt8 := [153, 0, 7, 4, 167, 0, 4, 3, 54, 5, 3, 54, 6, 21, 6, 16, 8, 162, 0, 43, 21, 5]
abbrev dktX2_sheet_1 : List UInt8 := dkwX2_sheet_1 ++ dktX2_sheet_2
def dkwX2_sheet_0 : List UInt8 := [27, 133, 10, 20, 0, 192, 184, 0, 88, 153, 0, 20, 21, 4, 133, 9, 20, 0, 192, 184, 0, 88]
abbrev dktX2_sheet_0 : List UInt8 := dkwX2_sheet_0 ++ dktX2_sheet_1
theorem dksX2_sheet_0 : cX2_sheet.data.toList.drop 0 = dktX2_sheet_0 := by decide +kernel
theorem dksX2_sheet_1 : cX2_sheet.data.toList.drop 22 = dktX2_sheet_1 := dk_seg dksX2_sheet_0 22 rfl rfl
theorem dksX2_sheet_2 : cX2_sheet.data.toList.drop 44 = dktX2_sheet_2 := dk_seg dksX2_sheet_1 22 rfl rfl
theorem dksX2_sheet_3 : cX2_sheet.data.toList.drop 66 = dktX2_sheet_3 := dk_seg dksX2_sheet_2 22 rfl rfl
theorem dksX2_sheet_4 : cX2_sheet.data.toList.drop 90 = dktX2_sheet_4 := dk_seg dksX2_sheet_3 24 rfl rfl
theorem dksX2_sheet_5 : cX2_sheet.data.toList.drop 114 = dktX2_sheet_5 := dk_seg dksX2_sheet_4 24 rfl rfl
theorem dksX2_sheet_6 : cX2_sheet.data.toList.drop 136 = dktX2_sheet_6 := dk_seg dksX2_sheet_5 22 rfl rfl
theorem dksX2_sheet_7 : cX2_sheet.data.toList.drop 160 = dktX2_sheet_7 := dk_seg dksX2_sheet_6 24 rfl rfl
theorem dksX2_sheet_8 : cX2_sheet.data.toList.drop 184 = dktX2_sheet_8 := dk_seg dksX2_sheet_7 24 rfl rfl
theorem dksX2_sheet_9 : cX2_sheet.data.toList.drop 207 = dktX2_sheet_9 := dk_seg dksX2_sheet_8 23 rfl rfl
theorem dksX2_sheet_10 : cX2_sheet.data.toList.drop 231 = dktX2_sheet_10 := dk_seg dksX2_sheet_9 24 rfl rfl
theorem dksX2_sheet_11 : cX2_sheet.data.toList.drop 253 = dktX2_sheet_11 := dk_seg dksX2_sheet_10 22 rfl rfl
theorem dksX2_sheet_12 : cX2_sheet.data.toList.drop 275 = dktX2_sheet_12 := dk_seg dksX2_sheet_11 22 rfl rfl
theorem dksX2_sheet_13 : cX2_sheet.data.toList.drop 297 = dktX2_sheet_13 := dk_seg dksX2_sheet_12 22 rfl rfl
theorem dksX2_sheet_14 : cX2_sheet.data.toList.drop 321 = dktX2_sheet_14 := dk_seg dksX2_sheet_13 24 rfl rfl
theorem dX2_sheet_0 : decode cX2_sheet 0 = .ok (.iload_n 1, 1) := dk_27 (dk_at dksX2_sheet_0 0 rfl rfl)
theorem dX2_sheet_1 : decode cX2_sheet 1 = .ok (.i2l, 1) := dk_133 (dk_at dksX2_sheet_0 1 rfl rfl)
theorem dX2_sheet_2 : decode cX2_sheet 2 = .ok (.lconst 1, 1) := dk_10 (dk_at dksX2_sheet_0 2 rfl rfl)
theorem dX2_sheet_3 : decode cX2_sheet 3 = .ok (.ldc2_w 192, 3) := dk_20 0 192 (dk_at dksX2_sheet_0 3 rfl rfl)
theorem dX2_sheet_6 : decode cX2_sheet 6 = .ok (.invokestatic 88, 3) := dk_184 0 88 (dk_at dksX2_sheet_0 6 rfl rfl)
theorem dX2_sheet_9 : decode cX2_sheet 9 = .ok (.ifCond .eq 20, 3) := dk_153 0 20 (dk_at dksX2_sheet_0 9 rfl rfl)
theorem dX2_sheet_12 : decode cX2_sheet 12 = .ok (.iload 4, 2) := dk_21 4 (dk_at dksX2_sheet_0 12 rfl rfl)
theorem dX2_sheet_14 : decode cX2_sheet 14 = .ok (.i2l, 1) := dk_133 (dk_at dksX2_sheet_0 14 rfl rfl)
theorem dX2_sheet_15 : decode cX2_sheet 15 = .ok (.lconst 0, 1) := dk_9 (dk_at dksX2_sheet_0 15 rfl rfl)
theorem dX2_sheet_16 : decode cX2_sheet 16 = .ok (.ldc2_w 192, 3) := dk_20 0 192 (dk_at dksX2_sheet_0 16 rfl rfl)
theorem dX2_sheet_19 : decode cX2_sheet 19 = .ok (.invokestatic 88, 3) := dk_184 0 88 (dk_at dksX2_sheet_0 19 rfl rfl)
theorem dX2_sheet_22 : decode cX2_sheet 22 = .ok (.ifCond .eq 7, 3) := dk_153 0 7 (dk_at dksX2_sheet_1 0 rfl rfl)
theorem dX2_sheet_25 : decode cX2_sheet 25 = .ok (.iconst 1, 1) := dk_4 (dk_at dksX2_sheet_1 3 rfl rfl)
theorem dX2_sheet_26 : decode cX2_sheet 26 = .ok (.goto 4, 3) := dk_167 0 4 (dk_at dksX2_sheet_1 4 rfl rfl)
theorem dX2_sheet_29 : decode cX2_sheet 29 = .ok (.iconst 0, 1) := dk_3 (dk_at dksX2_sheet_1 7 rfl rfl)
theorem dX2_sheet_30 : decode cX2_sheet 30 = .ok (.istore 5, 2) := dk_54 5 (dk_at dksX2_sheet_1 8 rfl rfl)
theorem dX2_sheet_32 : decode cX2_sheet 32 = .ok (.iconst 0, 1) := dk_3 (dk_at dksX2_sheet_1 10 rfl rfl)
theorem dX2_sheet_33 : decode cX2_sheet 33 = .ok (.istore 6, 2) := dk_54 6 (dk_at dksX2_sheet_1 11 rfl rfl)
theorem dX2_sheet_35 : decode cX2_sheet 35 = .ok (.iload 6, 2) := dk_21 6 (dk_at dksX2_sheet_1 13 rfl rfl)
theorem dX2_sheet_37 : decode cX2_sheet 37 = .ok (.bipush 8, 2) := dk_16 8 (dk_at dksX2_sheet_1 15 rfl rfl)
theorem dX2_sheet_39 : decode cX2_sheet 39 = .ok (.if_icmp .ge 43, 3) := dk_162 0 43 (dk_at dksX2_sheet_1 17 rfl rfl)
theorem dX2_sheet_42 : decode cX2_sheet 42 = .ok (.iload 5, 2) := dk_21 5 (dk_at dksX2_sheet_1 20 rfl rfl)
theorem dX2_sheet_44 : decode cX2_sheet 44 = .ok (.ifCond .eq 38, 3) := dk_153 0 38 (dk_at dksX2_sheet_2 0 rfl rfl)
theorem dX2_sheet_47 : decode cX2_sheet 47 = .ok (.iload 6, 2) := dk_21 6 (dk_at dksX2_sheet_2 3 rfl rfl)
theorem dX2_sheet_49 : decode cX2_sheet 49 = .ok (.iload_n 1, 1) := dk_27 (dk_at dksX2_sheet_2 5 rfl rfl)
theorem dX2_sheet_50 : decode cX2_sheet 50 = .ok (.if_icmp .lt 19, 3) := dk_161 0 19 (dk_at dksX2_sheet_2 6 rfl rfl)
theorem dX2_sheet_53 : decode cX2_sheet 53 = .ok (.lload_n 2, 1) := dk_32 (dk_at dksX2_sheet_2 9 rfl rfl)
theorem dX2_sheet_54 : decode cX2_sheet 54 = .ok (.bipush 8, 2) := dk_16 8 (dk_at dksX2_sheet_2 10 rfl rfl)
theorem dX2_sheet_56 : decode cX2_sheet 56 = .ok (.iload 6, 2) := dk_21 6 (dk_at dksX2_sheet_2 12 rfl rfl)
theorem dX2_sheet_58 : decode cX2_sheet 58 = .ok (.imul, 1) := dk_104 (dk_at dksX2_sheet_2 14 rfl rfl)
theorem dX2_sheet_59 : decode cX2_sheet 59 = .ok (.lushr, 1) := dk_125 (dk_at dksX2_sheet_2 15 rfl rfl)
theorem dX2_sheet_60 : decode cX2_sheet 60 = .ok (.ldc2_w 73, 3) := dk_20 0 73 (dk_at dksX2_sheet_2 16 rfl rfl)
theorem dX2_sheet_63 : decode cX2_sheet 63 = .ok (.land, 1) := dk_127 (dk_at dksX2_sheet_2 19 rfl rfl)
theorem dX2_sheet_64 : decode cX2_sheet 64 = .ok (.lconst 0, 1) := dk_9 (dk_at dksX2_sheet_2 20 rfl rfl)
theorem dX2_sheet_65 : decode cX2_sheet 65 = .ok (.lcmp, 1) := dk_148 (dk_at dksX2_sheet_2 21 rfl rfl)
theorem dX2_sheet_66 : decode cX2_sheet 66 = .ok (.ifCond .ne 7, 3) := dk_154 0 7 (dk_at dksX2_sheet_3 0 rfl rfl)
theorem dX2_sheet_69 : decode cX2_sheet 69 = .ok (.iconst 1, 1) := dk_4 (dk_at dksX2_sheet_3 3 rfl rfl)
theorem dX2_sheet_70 : decode cX2_sheet 70 = .ok (.goto 4, 3) := dk_167 0 4 (dk_at dksX2_sheet_3 4 rfl rfl)
theorem dX2_sheet_73 : decode cX2_sheet 73 = .ok (.iconst 0, 1) := dk_3 (dk_at dksX2_sheet_3 7 rfl rfl)
theorem dX2_sheet_74 : decode cX2_sheet 74 = .ok (.istore 5, 2) := dk_54 5 (dk_at dksX2_sheet_3 8 rfl rfl)
theorem dX2_sheet_76 : decode cX2_sheet 76 = .ok (.iinc 6 1, 3) := dk_132 6 1 (dk_at dksX2_sheet_3 10 rfl rfl)
theorem dX2_sheet_79 : decode cX2_sheet 79 = .ok (.goto (-44), 3) := dk_167 255 212 (dk_at dksX2_sheet_3 13 rfl rfl)
theorem dX2_sheet_82 : decode cX2_sheet 82 = .ok (.iload 5, 2) := dk_21 5 (dk_at dksX2_sheet_3 16 rfl rfl)
theorem dX2_sheet_84 : decode cX2_sheet 84 = .ok (.ifCond .ne 6, 3) := dk_154 0 6 (dk_at dksX2_sheet_3 18 rfl rfl)
theorem dX2_sheet_87 : decode cX2_sheet 87 = .ok (.bipush (-102), 2) := dk_16 154 (dk_at dksX2_sheet_3 21 rfl rfl)
theorem dX2_sheet_89 : decode cX2_sheet 89 = .ok (.ireturn, 1) := dk_172 (dk_at dksX2_sheet_3 23 rfl rfl)
theorem dX2_sheet_90 : decode cX2_sheet 90 = .ok (.iconst 1, 1) := dk_4 (dk_at dksX2_sheet_4 0 rfl rfl)
theorem dX2_sheet_91 : decode cX2_sheet 91 = .ok (.istore 6, 2) := dk_54 6 (dk_at dksX2_sheet_4 1 rfl rfl)
theorem dX2_sheet_93 : decode cX2_sheet 93 = .ok (.iconst 0, 1) := dk_3 (dk_at dksX2_sheet_4 3 rfl rfl)
theorem dX2_sheet_94 : decode cX2_sheet 94 = .ok (.istore 7, 2) := dk_54 7 (dk_at dksX2_sheet_4 4 rfl rfl)
theorem dX2_sheet_96 : decode cX2_sheet 96 = .ok (.iload 7, 2) := dk_21 7 (dk_at dksX2_sheet_4 6 rfl rfl)
theorem dX2_sheet_98 : decode cX2_sheet 98 = .ok (.iload_n 1, 1) := dk_27 (dk_at dksX2_sheet_4 8 rfl rfl)
theorem dX2_sheet_99 : decode cX2_sheet 99 = .ok (.if_icmp .ge 40, 3) := dk_162 0 40 (dk_at dksX2_sheet_4 9 rfl rfl)
theorem dX2_sheet_102 : decode cX2_sheet 102 = .ok (.iload 6, 2) := dk_21 6 (dk_at dksX2_sheet_4 12 rfl rfl)
theorem dX2_sheet_104 : decode cX2_sheet 104 = .ok (.ifCond .eq 26, 3) := dk_153 0 26 (dk_at dksX2_sheet_4 14 rfl rfl)
theorem dX2_sheet_107 : decode cX2_sheet 107 = .ok (.aload_n 0, 1) := dk_42 (dk_at dksX2_sheet_4 17 rfl rfl)
theorem dX2_sheet_108 : decode cX2_sheet 108 = .ok (.lload_n 2, 1) := dk_32 (dk_at dksX2_sheet_4 18 rfl rfl)
theorem dX2_sheet_109 : decode cX2_sheet 109 = .ok (.bipush 8, 2) := dk_16 8 (dk_at dksX2_sheet_4 19 rfl rfl)
theorem dX2_sheet_111 : decode cX2_sheet 111 = .ok (.iload 7, 2) := dk_21 7 (dk_at dksX2_sheet_4 21 rfl rfl)
theorem dX2_sheet_113 : decode cX2_sheet 113 = .ok (.imul, 1) := dk_104 (dk_at dksX2_sheet_4 23 rfl rfl)
theorem dX2_sheet_114 : decode cX2_sheet 114 = .ok (.lushr, 1) := dk_125 (dk_at dksX2_sheet_5 0 rfl rfl)
theorem dX2_sheet_115 : decode cX2_sheet 115 = .ok (.ldc2_w 73, 3) := dk_20 0 73 (dk_at dksX2_sheet_5 1 rfl rfl)
theorem dX2_sheet_118 : decode cX2_sheet 118 = .ok (.land, 1) := dk_127 (dk_at dksX2_sheet_5 4 rfl rfl)
theorem dX2_sheet_119 : decode cX2_sheet 119 = .ok (.l2i, 1) := dk_136 (dk_at dksX2_sheet_5 5 rfl rfl)
theorem dX2_sheet_120 : decode cX2_sheet 120 = .ok (.invokevirtual 142, 3) := dk_182 0 142 (dk_at dksX2_sheet_5 6 rfl rfl)
theorem dX2_sheet_123 : decode cX2_sheet 123 = .ok (.ifCond .eq 7, 3) := dk_153 0 7 (dk_at dksX2_sheet_5 9 rfl rfl)
theorem dX2_sheet_126 : decode cX2_sheet 126 = .ok (.iconst 1, 1) := dk_4 (dk_at dksX2_sheet_5 12 rfl rfl)
theorem dX2_sheet_127 : decode cX2_sheet 127 = .ok (.goto 4, 3) := dk_167 0 4 (dk_at dksX2_sheet_5 13 rfl rfl)
theorem dX2_sheet_130 : decode cX2_sheet 130 = .ok (.iconst 0, 1) := dk_3 (dk_at dksX2_sheet_5 16 rfl rfl)
theorem dX2_sheet_131 : decode cX2_sheet 131 = .ok (.istore 6, 2) := dk_54 6 (dk_at dksX2_sheet_5 17 rfl rfl)
theorem dX2_sheet_133 : decode cX2_sheet 133 = .ok (.iinc 7 1, 3) := dk_132 7 1 (dk_at dksX2_sheet_5 19 rfl rfl)
theorem dX2_sheet_136 : decode cX2_sheet 136 = .ok (.goto (-40), 3) := dk_167 255 216 (dk_at dksX2_sheet_6 0 rfl rfl)
theorem dX2_sheet_139 : decode cX2_sheet 139 = .ok (.iload 6, 2) := dk_21 6 (dk_at dksX2_sheet_6 3 rfl rfl)
theorem dX2_sheet_141 : decode cX2_sheet 141 = .ok (.ifCond .ne 6, 3) := dk_154 0 6 (dk_at dksX2_sheet_6 5 rfl rfl)
theorem dX2_sheet_144 : decode cX2_sheet 144 = .ok (.bipush (-101), 2) := dk_16 155 (dk_at dksX2_sheet_6 8 rfl rfl)
theorem dX2_sheet_146 : decode cX2_sheet 146 = .ok (.ireturn, 1) := dk_172 (dk_at dksX2_sheet_6 10 rfl rfl)
theorem dX2_sheet_147 : decode cX2_sheet 147 = .ok (.aload_n 0, 1) := dk_42 (dk_at dksX2_sheet_6 11 rfl rfl)
theorem dX2_sheet_148 : decode cX2_sheet 148 = .ok (.invokevirtual 194, 3) := dk_182 0 194 (dk_at dksX2_sheet_6 12 rfl rfl)
theorem dX2_sheet_151 : decode cX2_sheet 151 = .ok (.iconst 1, 1) := dk_4 (dk_at dksX2_sheet_6 15 rfl rfl)
theorem dX2_sheet_152 : decode cX2_sheet 152 = .ok (.istore 7, 2) := dk_54 7 (dk_at dksX2_sheet_6 16 rfl rfl)
theorem dX2_sheet_154 : decode cX2_sheet 154 = .ok (.iconst 0, 1) := dk_3 (dk_at dksX2_sheet_6 18 rfl rfl)
theorem dX2_sheet_155 : decode cX2_sheet 155 = .ok (.istore 8, 2) := dk_54 8 (dk_at dksX2_sheet_6 19 rfl rfl)
theorem dX2_sheet_157 : decode cX2_sheet 157 = .ok (.iload 8, 2) := dk_21 8 (dk_at dksX2_sheet_6 21 rfl rfl)
theorem dX2_sheet_159 : decode cX2_sheet 159 = .ok (.iload_n 1, 1) := dk_27 (dk_at dksX2_sheet_6 23 rfl rfl)
theorem dX2_sheet_160 : decode cX2_sheet 160 = .ok (.if_icmp .ge 70, 3) := dk_162 0 70 (dk_at dksX2_sheet_7 0 rfl rfl)
theorem dX2_sheet_163 : decode cX2_sheet 163 = .ok (.aload_n 0, 1) := dk_42 (dk_at dksX2_sheet_7 3 rfl rfl)
theorem dX2_sheet_164 : decode cX2_sheet 164 = .ok (.getfield 22, 3) := dk_180 0 22 (dk_at dksX2_sheet_7 4 rfl rfl)
theorem dX2_sheet_167 : decode cX2_sheet 167 = .ok (.lload_n 2, 1) := dk_32 (dk_at dksX2_sheet_7 7 rfl rfl)
theorem dX2_sheet_168 : decode cX2_sheet 168 = .ok (.bipush 8, 2) := dk_16 8 (dk_at dksX2_sheet_7 8 rfl rfl)
theorem dX2_sheet_170 : decode cX2_sheet 170 = .ok (.iload 8, 2) := dk_21 8 (dk_at dksX2_sheet_7 10 rfl rfl)
theorem dX2_sheet_172 : decode cX2_sheet 172 = .ok (.imul, 1) := dk_104 (dk_at dksX2_sheet_7 12 rfl rfl)
theorem dX2_sheet_173 : decode cX2_sheet 173 = .ok (.lushr, 1) := dk_125 (dk_at dksX2_sheet_7 13 rfl rfl)
theorem dX2_sheet_174 : decode cX2_sheet 174 = .ok (.ldc2_w 73, 3) := dk_20 0 73 (dk_at dksX2_sheet_7 14 rfl rfl)
theorem dX2_sheet_177 : decode cX2_sheet 177 = .ok (.land, 1) := dk_127 (dk_at dksX2_sheet_7 17 rfl rfl)
theorem dX2_sheet_178 : decode cX2_sheet 178 = .ok (.l2i, 1) := dk_136 (dk_at dksX2_sheet_7 18 rfl rfl)
theorem dX2_sheet_179 : decode cX2_sheet 179 = .ok (.iaload, 1) := dk_46 (dk_at dksX2_sheet_7 19 rfl rfl)
theorem dX2_sheet_180 : decode cX2_sheet 180 = .ok (.istore 9, 2) := dk_54 9 (dk_at dksX2_sheet_7 20 rfl rfl)
theorem dX2_sheet_182 : decode cX2_sheet 182 = .ok (.iload 7, 2) := dk_21 7 (dk_at dksX2_sheet_7 22 rfl rfl)
theorem dX2_sheet_184 : decode cX2_sheet 184 = .ok (.ifCond .eq 26, 3) := dk_153 0 26 (dk_at dksX2_sheet_8 0 rfl rfl)
theorem dX2_sheet_187 : decode cX2_sheet 187 = .ok (.aload_n 0, 1) := dk_42 (dk_at dksX2_sheet_8 3 rfl rfl)
theorem dX2_sheet_188 : decode cX2_sheet 188 = .ok (.getfield 182, 3) := dk_180 0 182 (dk_at dksX2_sheet_8 4 rfl rfl)
theorem dX2_sheet_191 : decode cX2_sheet 191 = .ok (.bipush 12, 2) := dk_16 12 (dk_at dksX2_sheet_8 7 rfl rfl)
theorem dX2_sheet_193 : decode cX2_sheet 193 = .ok (.if_icmp .lt 13, 3) := dk_161 0 13 (dk_at dksX2_sheet_8 9 rfl rfl)
theorem dX2_sheet_196 : decode cX2_sheet 196 = .ok (.aload_n 0, 1) := dk_42 (dk_at dksX2_sheet_8 12 rfl rfl)
theorem dX2_sheet_197 : decode cX2_sheet 197 = .ok (.iload 9, 2) := dk_21 9 (dk_at dksX2_sheet_8 13 rfl rfl)
theorem dX2_sheet_199 : decode cX2_sheet 199 = .ok (.invokevirtual 185, 3) := dk_182 0 185 (dk_at dksX2_sheet_8 15 rfl rfl)
theorem dX2_sheet_202 : decode cX2_sheet 202 = .ok (.iconst (-1), 1) := dk_2 (dk_at dksX2_sheet_8 18 rfl rfl)
theorem dX2_sheet_203 : decode cX2_sheet 203 = .ok (.if_icmp .eq 7, 3) := dk_159 0 7 (dk_at dksX2_sheet_8 19 rfl rfl)
theorem dX2_sheet_206 : decode cX2_sheet 206 = .ok (.iconst 1, 1) := dk_4 (dk_at dksX2_sheet_8 22 rfl rfl)
theorem dX2_sheet_207 : decode cX2_sheet 207 = .ok (.goto 4, 3) := dk_167 0 4 (dk_at dksX2_sheet_9 0 rfl rfl)
theorem dX2_sheet_210 : decode cX2_sheet 210 = .ok (.iconst 0, 1) := dk_3 (dk_at dksX2_sheet_9 3 rfl rfl)
theorem dX2_sheet_211 : decode cX2_sheet 211 = .ok (.istore 7, 2) := dk_54 7 (dk_at dksX2_sheet_9 4 rfl rfl)
theorem dX2_sheet_213 : decode cX2_sheet 213 = .ok (.iload 7, 2) := dk_21 7 (dk_at dksX2_sheet_9 6 rfl rfl)
theorem dX2_sheet_215 : decode cX2_sheet 215 = .ok (.ifCond .eq 9, 3) := dk_153 0 9 (dk_at dksX2_sheet_9 8 rfl rfl)
theorem dX2_sheet_218 : decode cX2_sheet 218 = .ok (.aload_n 0, 1) := dk_42 (dk_at dksX2_sheet_9 11 rfl rfl)
theorem dX2_sheet_219 : decode cX2_sheet 219 = .ok (.iload 9, 2) := dk_21 9 (dk_at dksX2_sheet_9 12 rfl rfl)
theorem dX2_sheet_221 : decode cX2_sheet 221 = .ok (.invokevirtual 188, 3) := dk_182 0 188 (dk_at dksX2_sheet_9 14 rfl rfl)
theorem dX2_sheet_224 : decode cX2_sheet 224 = .ok (.iinc 8 1, 3) := dk_132 8 1 (dk_at dksX2_sheet_9 17 rfl rfl)
theorem dX2_sheet_227 : decode cX2_sheet 227 = .ok (.goto (-70), 3) := dk_167 255 186 (dk_at dksX2_sheet_9 20 rfl rfl)
theorem dX2_sheet_230 : decode cX2_sheet 230 = .ok (.aload_n 0, 1) := dk_42 (dk_at dksX2_sheet_9 23 rfl rfl)
theorem dX2_sheet_231 : decode cX2_sheet 231 = .ok (.getfield 130, 3) := dk_180 0 130 (dk_at dksX2_sheet_10 0 rfl rfl)
theorem dX2_sheet_234 : decode cX2_sheet 234 = .ok (.iconst 5, 1) := dk_8 (dk_at dksX2_sheet_10 3 rfl rfl)
theorem dX2_sheet_235 : decode cX2_sheet 235 = .ok (.if_icmp .eq 8, 3) := dk_159 0 8 (dk_at dksX2_sheet_10 4 rfl rfl)
theorem dX2_sheet_238 : decode cX2_sheet 238 = .ok (.iload 7, 2) := dk_21 7 (dk_at dksX2_sheet_10 7 rfl rfl)
theorem dX2_sheet_240 : decode cX2_sheet 240 = .ok (.ifCond .ne 6, 3) := dk_154 0 6 (dk_at dksX2_sheet_10 9 rfl rfl)
theorem dX2_sheet_243 : decode cX2_sheet 243 = .ok (.bipush (-104), 2) := dk_16 152 (dk_at dksX2_sheet_10 12 rfl rfl)
theorem dX2_sheet_245 : decode cX2_sheet 245 = .ok (.ireturn, 1) := dk_172 (dk_at dksX2_sheet_10 14 rfl rfl)
theorem dX2_sheet_246 : decode cX2_sheet 246 = .ok (.aload_n 0, 1) := dk_42 (dk_at dksX2_sheet_10 15 rfl rfl)
theorem dX2_sheet_247 : decode cX2_sheet 247 = .ok (.getfield 31, 3) := dk_180 0 31 (dk_at dksX2_sheet_10 16 rfl rfl)
theorem dX2_sheet_250 : decode cX2_sheet 250 = .ok (.bipush 8, 2) := dk_16 8 (dk_at dksX2_sheet_10 19 rfl rfl)
theorem dX2_sheet_252 : decode cX2_sheet 252 = .ok (.aload_n 0, 1) := dk_42 (dk_at dksX2_sheet_10 21 rfl rfl)
theorem dX2_sheet_253 : decode cX2_sheet 253 = .ok (.getfield 130, 3) := dk_180 0 130 (dk_at dksX2_sheet_11 0 rfl rfl)
theorem dX2_sheet_256 : decode cX2_sheet 256 = .ok (.imul, 1) := dk_104 (dk_at dksX2_sheet_11 3 rfl rfl)
theorem dX2_sheet_257 : decode cX2_sheet 257 = .ok (.iload_n 1, 1) := dk_27 (dk_at dksX2_sheet_11 4 rfl rfl)
theorem dX2_sheet_258 : decode cX2_sheet 258 = .ok (.iastore, 1) := dk_79 (dk_at dksX2_sheet_11 5 rfl rfl)
theorem dX2_sheet_259 : decode cX2_sheet 259 = .ok (.iconst 0, 1) := dk_3 (dk_at dksX2_sheet_11 6 rfl rfl)
theorem dX2_sheet_260 : decode cX2_sheet 260 = .ok (.istore 8, 2) := dk_54 8 (dk_at dksX2_sheet_11 7 rfl rfl)
theorem dX2_sheet_262 : decode cX2_sheet 262 = .ok (.iload 8, 2) := dk_21 8 (dk_at dksX2_sheet_11 9 rfl rfl)
theorem dX2_sheet_264 : decode cX2_sheet 264 = .ok (.iload_n 1, 1) := dk_27 (dk_at dksX2_sheet_11 11 rfl rfl)
theorem dX2_sheet_265 : decode cX2_sheet 265 = .ok (.if_icmp .ge 38, 3) := dk_162 0 38 (dk_at dksX2_sheet_11 12 rfl rfl)
theorem dX2_sheet_268 : decode cX2_sheet 268 = .ok (.aload_n 0, 1) := dk_42 (dk_at dksX2_sheet_11 15 rfl rfl)
theorem dX2_sheet_269 : decode cX2_sheet 269 = .ok (.getfield 31, 3) := dk_180 0 31 (dk_at dksX2_sheet_11 16 rfl rfl)
theorem dX2_sheet_272 : decode cX2_sheet 272 = .ok (.bipush 8, 2) := dk_16 8 (dk_at dksX2_sheet_11 19 rfl rfl)
theorem dX2_sheet_274 : decode cX2_sheet 274 = .ok (.aload_n 0, 1) := dk_42 (dk_at dksX2_sheet_11 21 rfl rfl)
theorem dX2_sheet_275 : decode cX2_sheet 275 = .ok (.getfield 130, 3) := dk_180 0 130 (dk_at dksX2_sheet_12 0 rfl rfl)
theorem dX2_sheet_278 : decode cX2_sheet 278 = .ok (.imul, 1) := dk_104 (dk_at dksX2_sheet_12 3 rfl rfl)
theorem dX2_sheet_279 : decode cX2_sheet 279 = .ok (.iconst 1, 1) := dk_4 (dk_at dksX2_sheet_12 4 rfl rfl)
theorem dX2_sheet_280 : decode cX2_sheet 280 = .ok (.iadd, 1) := dk_96 (dk_at dksX2_sheet_12 5 rfl rfl)
theorem dX2_sheet_281 : decode cX2_sheet 281 = .ok (.iload 8, 2) := dk_21 8 (dk_at dksX2_sheet_12 6 rfl rfl)
theorem dX2_sheet_283 : decode cX2_sheet 283 = .ok (.iadd, 1) := dk_96 (dk_at dksX2_sheet_12 8 rfl rfl)
theorem dX2_sheet_284 : decode cX2_sheet 284 = .ok (.lload_n 2, 1) := dk_32 (dk_at dksX2_sheet_12 9 rfl rfl)
theorem dX2_sheet_285 : decode cX2_sheet 285 = .ok (.bipush 8, 2) := dk_16 8 (dk_at dksX2_sheet_12 10 rfl rfl)
theorem dX2_sheet_287 : decode cX2_sheet 287 = .ok (.iload 8, 2) := dk_21 8 (dk_at dksX2_sheet_12 12 rfl rfl)
theorem dX2_sheet_289 : decode cX2_sheet 289 = .ok (.imul, 1) := dk_104 (dk_at dksX2_sheet_12 14 rfl rfl)
theorem dX2_sheet_290 : decode cX2_sheet 290 = .ok (.lushr, 1) := dk_125 (dk_at dksX2_sheet_12 15 rfl rfl)
theorem dX2_sheet_291 : decode cX2_sheet 291 = .ok (.ldc2_w 73, 3) := dk_20 0 73 (dk_at dksX2_sheet_12 16 rfl rfl)
theorem dX2_sheet_294 : decode cX2_sheet 294 = .ok (.land, 1) := dk_127 (dk_at dksX2_sheet_12 19 rfl rfl)
theorem dX2_sheet_295 : decode cX2_sheet 295 = .ok (.l2i, 1) := dk_136 (dk_at dksX2_sheet_12 20 rfl rfl)
theorem dX2_sheet_296 : decode cX2_sheet 296 = .ok (.iastore, 1) := dk_79 (dk_at dksX2_sheet_12 21 rfl rfl)
theorem dX2_sheet_297 : decode cX2_sheet 297 = .ok (.iinc 8 1, 3) := dk_132 8 1 (dk_at dksX2_sheet_13 0 rfl rfl)
theorem dX2_sheet_300 : decode cX2_sheet 300 = .ok (.goto (-38), 3) := dk_167 255 218 (dk_at dksX2_sheet_13 3 rfl rfl)
theorem dX2_sheet_303 : decode cX2_sheet 303 = .ok (.aload_n 0, 1) := dk_42 (dk_at dksX2_sheet_13 6 rfl rfl)
theorem dX2_sheet_304 : decode cX2_sheet 304 = .ok (.getfield 31, 3) := dk_180 0 31 (dk_at dksX2_sheet_13 7 rfl rfl)
theorem dX2_sheet_307 : decode cX2_sheet 307 = .ok (.bipush 8, 2) := dk_16 8 (dk_at dksX2_sheet_13 10 rfl rfl)
theorem dX2_sheet_309 : decode cX2_sheet 309 = .ok (.aload_n 0, 1) := dk_42 (dk_at dksX2_sheet_13 12 rfl rfl)
theorem dX2_sheet_310 : decode cX2_sheet 310 = .ok (.getfield 130, 3) := dk_180 0 130 (dk_at dksX2_sheet_13 13 rfl rfl)
theorem dX2_sheet_313 : decode cX2_sheet 313 = .ok (.imul, 1) := dk_104 (dk_at dksX2_sheet_13 16 rfl rfl)
theorem dX2_sheet_314 : decode cX2_sheet 314 = .ok (.bipush 7, 2) := dk_16 7 (dk_at dksX2_sheet_13 17 rfl rfl)
theorem dX2_sheet_316 : decode cX2_sheet 316 = .ok (.iadd, 1) := dk_96 (dk_at dksX2_sheet_13 19 rfl rfl)
theorem dX2_sheet_317 : decode cX2_sheet 317 = .ok (.iload 4, 2) := dk_21 4 (dk_at dksX2_sheet_13 20 rfl rfl)
theorem dX2_sheet_319 : decode cX2_sheet 319 = .ok (.iastore, 1) := dk_79 (dk_at dksX2_sheet_13 22 rfl rfl)
theorem dX2_sheet_320 : decode cX2_sheet 320 = .ok (.aload_n 0, 1) := dk_42 (dk_at dksX2_sheet_13 23 rfl rfl)
theorem dX2_sheet_321 : decode cX2_sheet 321 = .ok (.dup, 1) := dk_89 (dk_at dksX2_sheet_14 0 rfl rfl)
theorem dX2_sheet_322 : decode cX2_sheet 322 = .ok (.getfield 130, 3) := dk_180 0 130 (dk_at dksX2_sheet_14 1 rfl rfl)
theorem dX2_sheet_325 : decode cX2_sheet 325 = .ok (.iconst 1, 1) := dk_4 (dk_at dksX2_sheet_14 4 rfl rfl)
theorem dX2_sheet_326 : decode cX2_sheet 326 = .ok (.iadd, 1) := dk_96 (dk_at dksX2_sheet_14 5 rfl rfl)
theorem dX2_sheet_327 : decode cX2_sheet 327 = .ok (.putfield 130, 3) := dk_181 0 130 (dk_at dksX2_sheet_14 6 rfl rfl)
theorem dX2_sheet_330 : decode cX2_sheet 330 = .ok (.aload_n 0, 1) := dk_42 (dk_at dksX2_sheet_14 9 rfl rfl)
theorem dX2_sheet_331 : decode cX2_sheet 331 = .ok (.getfield 130, 3) := dk_180 0 130 (dk_at dksX2_sheet_14 10 rfl rfl)
theorem dX2_sheet_334 : decode cX2_sheet 334 = .ok (.ireturn, 1) := dk_172 (dk_at dksX2_sheet_14 13 rfl rfl)
abbrev cX2_layTold : ByteArray := prog_10_method_39_code
def yX2_layTold : MethodName := ⟨RX2, "layTold", "()V"⟩
def dkwX2_layTold_2 : List UInt8 := [46, 182, 0, 188, 132, 2, 1, 167, 255, 218, 132, 1, 1, 167, 255, 202, 177]
abbrev dktX2_layTold_2 : List UInt8 := dkwX2_layTold_2 ++ []
def dkwX2_layTold_1 : List UInt8 := [27, 104, 46, 162, 0, 31, 42, 42, 180, 0, 22, 42, 180, 0, 31, 16, 8, 27, 104, 4, 96, 28, 96, 46]
abbrev dktX2_layTold_1 : List UInt8 := dkwX2_layTold_1 ++ dktX2_layTold_2
def dkwX2_layTold_0 : List UInt8 := [42, 3, 181, 0, 182, 3, 60, 27, 42, 180, 0, 130, 162, 0, 52, 3, 61, 28, 42, 180, 0, 31, 16, 8]
abbrev dktX2_layTold_0 : List UInt8 := dkwX2_layTold_0 ++ dktX2_layTold_1
theorem dksX2_layTold_0 : cX2_layTold.data.toList.drop 0 = dktX2_layTold_0 := by decide +kernel
theorem dksX2_layTold_1 : cX2_layTold.data.toList.drop 24 = dktX2_layTold_1 := dk_seg dksX2_layTold_0 24 rfl rfl
theorem dksX2_layTold_2 : cX2_layTold.data.toList.drop 48 = dktX2_layTold_2 := dk_seg dksX2_layTold_1 24 rfl rfl
theorem dX2_layTold_0 : decode cX2_layTold 0 = .ok (.aload_n 0, 1) := dk_42 (dk_at dksX2_layTold_0 0 rfl rfl)
theorem dX2_layTold_1 : decode cX2_layTold 1 = .ok (.iconst 0, 1) := dk_3 (dk_at dksX2_layTold_0 1 rfl rfl)
theorem dX2_layTold_2 : decode cX2_layTold 2 = .ok (.putfield 182, 3) := dk_181 0 182 (dk_at dksX2_layTold_0 2 rfl rfl)
theorem dX2_layTold_5 : decode cX2_layTold 5 = .ok (.iconst 0, 1) := dk_3 (dk_at dksX2_layTold_0 5 rfl rfl)
theorem dX2_layTold_6 : decode cX2_layTold 6 = .ok (.istore_n 1, 1) := dk_60 (dk_at dksX2_layTold_0 6 rfl rfl)
theorem dX2_layTold_7 : decode cX2_layTold 7 = .ok (.iload_n 1, 1) := dk_27 (dk_at dksX2_layTold_0 7 rfl rfl)
theorem dX2_layTold_8 : decode cX2_layTold 8 = .ok (.aload_n 0, 1) := dk_42 (dk_at dksX2_layTold_0 8 rfl rfl)
theorem dX2_layTold_9 : decode cX2_layTold 9 = .ok (.getfield 130, 3) := dk_180 0 130 (dk_at dksX2_layTold_0 9 rfl rfl)
theorem dX2_layTold_12 : decode cX2_layTold 12 = .ok (.if_icmp .ge 52, 3) := dk_162 0 52 (dk_at dksX2_layTold_0 12 rfl rfl)
theorem dX2_layTold_15 : decode cX2_layTold 15 = .ok (.iconst 0, 1) := dk_3 (dk_at dksX2_layTold_0 15 rfl rfl)
theorem dX2_layTold_16 : decode cX2_layTold 16 = .ok (.istore_n 2, 1) := dk_61 (dk_at dksX2_layTold_0 16 rfl rfl)
theorem dX2_layTold_17 : decode cX2_layTold 17 = .ok (.iload_n 2, 1) := dk_28 (dk_at dksX2_layTold_0 17 rfl rfl)
theorem dX2_layTold_18 : decode cX2_layTold 18 = .ok (.aload_n 0, 1) := dk_42 (dk_at dksX2_layTold_0 18 rfl rfl)
theorem dX2_layTold_19 : decode cX2_layTold 19 = .ok (.getfield 31, 3) := dk_180 0 31 (dk_at dksX2_layTold_0 19 rfl rfl)
theorem dX2_layTold_22 : decode cX2_layTold 22 = .ok (.bipush 8, 2) := dk_16 8 (dk_at dksX2_layTold_0 22 rfl rfl)
theorem dX2_layTold_24 : decode cX2_layTold 24 = .ok (.iload_n 1, 1) := dk_27 (dk_at dksX2_layTold_1 0 rfl rfl)
theorem dX2_layTold_25 : decode cX2_layTold 25 = .ok (.imul, 1) := dk_104 (dk_at dksX2_layTold_1 1 rfl rfl)
theorem dX2_layTold_26 : decode cX2_layTold 26 = .ok (.iaload, 1) := dk_46 (dk_at dksX2_layTold_1 2 rfl rfl)
theorem dX2_layTold_27 : decode cX2_layTold 27 = .ok (.if_icmp .ge 31, 3) := dk_162 0 31 (dk_at dksX2_layTold_1 3 rfl rfl)
theorem dX2_layTold_30 : decode cX2_layTold 30 = .ok (.aload_n 0, 1) := dk_42 (dk_at dksX2_layTold_1 6 rfl rfl)
theorem dX2_layTold_31 : decode cX2_layTold 31 = .ok (.aload_n 0, 1) := dk_42 (dk_at dksX2_layTold_1 7 rfl rfl)
theorem dX2_layTold_32 : decode cX2_layTold 32 = .ok (.getfield 22, 3) := dk_180 0 22 (dk_at dksX2_layTold_1 8 rfl rfl)
theorem dX2_layTold_35 : decode cX2_layTold 35 = .ok (.aload_n 0, 1) := dk_42 (dk_at dksX2_layTold_1 11 rfl rfl)
theorem dX2_layTold_36 : decode cX2_layTold 36 = .ok (.getfield 31, 3) := dk_180 0 31 (dk_at dksX2_layTold_1 12 rfl rfl)
theorem dX2_layTold_39 : decode cX2_layTold 39 = .ok (.bipush 8, 2) := dk_16 8 (dk_at dksX2_layTold_1 15 rfl rfl)
theorem dX2_layTold_41 : decode cX2_layTold 41 = .ok (.iload_n 1, 1) := dk_27 (dk_at dksX2_layTold_1 17 rfl rfl)
theorem dX2_layTold_42 : decode cX2_layTold 42 = .ok (.imul, 1) := dk_104 (dk_at dksX2_layTold_1 18 rfl rfl)
theorem dX2_layTold_43 : decode cX2_layTold 43 = .ok (.iconst 1, 1) := dk_4 (dk_at dksX2_layTold_1 19 rfl rfl)
theorem dX2_layTold_44 : decode cX2_layTold 44 = .ok (.iadd, 1) := dk_96 (dk_at dksX2_layTold_1 20 rfl rfl)
theorem dX2_layTold_45 : decode cX2_layTold 45 = .ok (.iload_n 2, 1) := dk_28 (dk_at dksX2_layTold_1 21 rfl rfl)
theorem dX2_layTold_46 : decode cX2_layTold 46 = .ok (.iadd, 1) := dk_96 (dk_at dksX2_layTold_1 22 rfl rfl)
theorem dX2_layTold_47 : decode cX2_layTold 47 = .ok (.iaload, 1) := dk_46 (dk_at dksX2_layTold_1 23 rfl rfl)
theorem dX2_layTold_48 : decode cX2_layTold 48 = .ok (.iaload, 1) := dk_46 (dk_at dksX2_layTold_2 0 rfl rfl)
theorem dX2_layTold_49 : decode cX2_layTold 49 = .ok (.invokevirtual 188, 3) := dk_182 0 188 (dk_at dksX2_layTold_2 1 rfl rfl)
theorem dX2_layTold_52 : decode cX2_layTold 52 = .ok (.iinc 2 1, 3) := dk_132 2 1 (dk_at dksX2_layTold_2 4 rfl rfl)
theorem dX2_layTold_55 : decode cX2_layTold 55 = .ok (.goto (-38), 3) := dk_167 255 218 (dk_at dksX2_layTold_2 7 rfl rfl)
theorem dX2_layTold_58 : decode cX2_layTold 58 = .ok (.iinc 1 1, 3) := dk_132 1 1 (dk_at dksX2_layTold_2 10 rfl rfl)
theorem dX2_layTold_61 : decode cX2_layTold 61 = .ok (.goto (-54), 3) := dk_167 255 202 (dk_at dksX2_layTold_2 13 rfl rfl)
theorem dX2_layTold_64 : decode cX2_layTold 64 = .ok (.return_, 1) := dk_177 (dk_at dksX2_layTold_2 16 rfl rfl)
abbrev cX2_tellAlso : ByteArray := prog_10_method_38_code
def yX2_tellAlso : MethodName := ⟨RX2, "tellAlso", "(I)V"⟩
def dkwX2_tellAlso_1 : List UInt8 := [180, 0, 182, 27, 79, 42, 89, 180, 0, 182, 4, 96, 181, 0, 182, 177]
abbrev dktX2_tellAlso_1 : List UInt8 := dkwX2_tellAlso_1 ++ []
def dkwX2_tellAlso_0 : List UInt8 := [42, 27, 182, 0, 185, 2, 160, 0, 32, 42, 180, 0, 182, 16, 12, 162, 0, 13, 42, 180, 0, 41, 42]
abbrev dktX2_tellAlso_0 : List UInt8 := dkwX2_tellAlso_0 ++ dktX2_tellAlso_1
theorem dksX2_tellAlso_0 : cX2_tellAlso.data.toList.drop 0 = dktX2_tellAlso_0 := by decide +kernel
theorem dksX2_tellAlso_1 : cX2_tellAlso.data.toList.drop 23 = dktX2_tellAlso_1 := dk_seg dksX2_tellAlso_0 23 rfl rfl
theorem dX2_tellAlso_0 : decode cX2_tellAlso 0 = .ok (.aload_n 0, 1) := dk_42 (dk_at dksX2_tellAlso_0 0 rfl rfl)
theorem dX2_tellAlso_1 : decode cX2_tellAlso 1 = .ok (.iload_n 1, 1) := dk_27 (dk_at dksX2_tellAlso_0 1 rfl rfl)
theorem dX2_tellAlso_2 : decode cX2_tellAlso 2 = .ok (.invokevirtual 185, 3) := dk_182 0 185 (dk_at dksX2_tellAlso_0 2 rfl rfl)
theorem dX2_tellAlso_5 : decode cX2_tellAlso 5 = .ok (.iconst (-1), 1) := dk_2 (dk_at dksX2_tellAlso_0 5 rfl rfl)
theorem dX2_tellAlso_6 : decode cX2_tellAlso 6 = .ok (.if_icmp .ne 32, 3) := dk_160 0 32 (dk_at dksX2_tellAlso_0 6 rfl rfl)
theorem dX2_tellAlso_9 : decode cX2_tellAlso 9 = .ok (.aload_n 0, 1) := dk_42 (dk_at dksX2_tellAlso_0 9 rfl rfl)
theorem dX2_tellAlso_10 : decode cX2_tellAlso 10 = .ok (.getfield 182, 3) := dk_180 0 182 (dk_at dksX2_tellAlso_0 10 rfl rfl)
theorem dX2_tellAlso_13 : decode cX2_tellAlso 13 = .ok (.bipush 12, 2) := dk_16 12 (dk_at dksX2_tellAlso_0 13 rfl rfl)
theorem dX2_tellAlso_15 : decode cX2_tellAlso 15 = .ok (.if_icmp .ge 13, 3) := dk_162 0 13 (dk_at dksX2_tellAlso_0 15 rfl rfl)
theorem dX2_tellAlso_18 : decode cX2_tellAlso 18 = .ok (.aload_n 0, 1) := dk_42 (dk_at dksX2_tellAlso_0 18 rfl rfl)
theorem dX2_tellAlso_19 : decode cX2_tellAlso 19 = .ok (.getfield 41, 3) := dk_180 0 41 (dk_at dksX2_tellAlso_0 19 rfl rfl)
theorem dX2_tellAlso_22 : decode cX2_tellAlso 22 = .ok (.aload_n 0, 1) := dk_42 (dk_at dksX2_tellAlso_0 22 rfl rfl)
theorem dX2_tellAlso_23 : decode cX2_tellAlso 23 = .ok (.getfield 182, 3) := dk_180 0 182 (dk_at dksX2_tellAlso_1 0 rfl rfl)
theorem dX2_tellAlso_26 : decode cX2_tellAlso 26 = .ok (.iload_n 1, 1) := dk_27 (dk_at dksX2_tellAlso_1 3 rfl rfl)
theorem dX2_tellAlso_27 : decode cX2_tellAlso 27 = .ok (.iastore, 1) := dk_79 (dk_at dksX2_tellAlso_1 4 rfl rfl)
theorem dX2_tellAlso_28 : decode cX2_tellAlso 28 = .ok (.aload_n 0, 1) := dk_42 (dk_at dksX2_tellAlso_1 5 rfl rfl)
theorem dX2_tellAlso_29 : decode cX2_tellAlso 29 = .ok (.dup, 1) := dk_89 (dk_at dksX2_tellAlso_1 6 rfl rfl)
theorem dX2_tellAlso_30 : decode cX2_tellAlso 30 = .ok (.getfield 182, 3) := dk_180 0 182 (dk_at dksX2_tellAlso_1 7 rfl rfl)
theorem dX2_tellAlso_33 : decode cX2_tellAlso 33 = .ok (.iconst 1, 1) := dk_4 (dk_at dksX2_tellAlso_1 10 rfl rfl)
theorem dX2_tellAlso_34 : decode cX2_tellAlso 34 = .ok (.iadd, 1) := dk_96 (dk_at dksX2_tellAlso_1 11 rfl rfl)
theorem dX2_tellAlso_35 : decode cX2_tellAlso 35 = .ok (.putfield 182, 3) := dk_181 0 182 (dk_at dksX2_tellAlso_1 12 rfl rfl)
theorem dX2_tellAlso_38 : decode cX2_tellAlso 38 = .ok (.return_, 1) := dk_177 (dk_at dksX2_tellAlso_1 15 rfl rfl)
abbrev cX2_placeOf : ByteArray := prog_10_method_37_code
def yX2_placeOf : MethodName := ⟨RX2, "placeOf", "(I)I"⟩
def dkwX2_placeOf_1 : List UInt8 := [132, 2, 1, 167, 255, 233, 2, 172]
abbrev dktX2_placeOf_1 : List UInt8 := dkwX2_placeOf_1 ++ []
def dkwX2_placeOf_0 : List UInt8 := [3, 61, 28, 42, 180, 0, 182, 162, 0, 21, 42, 180, 0, 41, 28, 46, 27, 160, 0, 5, 28, 172]
abbrev dktX2_placeOf_0 : List UInt8 := dkwX2_placeOf_0 ++ dktX2_placeOf_1
theorem dksX2_placeOf_0 : cX2_placeOf.data.toList.drop 0 = dktX2_placeOf_0 := by decide +kernel
theorem dksX2_placeOf_1 : cX2_placeOf.data.toList.drop 22 = dktX2_placeOf_1 := dk_seg dksX2_placeOf_0 22 rfl rfl
theorem dX2_placeOf_0 : decode cX2_placeOf 0 = .ok (.iconst 0, 1) := dk_3 (dk_at dksX2_placeOf_0 0 rfl rfl)
theorem dX2_placeOf_1 : decode cX2_placeOf 1 = .ok (.istore_n 2, 1) := dk_61 (dk_at dksX2_placeOf_0 1 rfl rfl)
theorem dX2_placeOf_2 : decode cX2_placeOf 2 = .ok (.iload_n 2, 1) := dk_28 (dk_at dksX2_placeOf_0 2 rfl rfl)
theorem dX2_placeOf_3 : decode cX2_placeOf 3 = .ok (.aload_n 0, 1) := dk_42 (dk_at dksX2_placeOf_0 3 rfl rfl)
theorem dX2_placeOf_4 : decode cX2_placeOf 4 = .ok (.getfield 182, 3) := dk_180 0 182 (dk_at dksX2_placeOf_0 4 rfl rfl)
theorem dX2_placeOf_7 : decode cX2_placeOf 7 = .ok (.if_icmp .ge 21, 3) := dk_162 0 21 (dk_at dksX2_placeOf_0 7 rfl rfl)
theorem dX2_placeOf_10 : decode cX2_placeOf 10 = .ok (.aload_n 0, 1) := dk_42 (dk_at dksX2_placeOf_0 10 rfl rfl)
theorem dX2_placeOf_11 : decode cX2_placeOf 11 = .ok (.getfield 41, 3) := dk_180 0 41 (dk_at dksX2_placeOf_0 11 rfl rfl)
theorem dX2_placeOf_14 : decode cX2_placeOf 14 = .ok (.iload_n 2, 1) := dk_28 (dk_at dksX2_placeOf_0 14 rfl rfl)
theorem dX2_placeOf_15 : decode cX2_placeOf 15 = .ok (.iaload, 1) := dk_46 (dk_at dksX2_placeOf_0 15 rfl rfl)
theorem dX2_placeOf_16 : decode cX2_placeOf 16 = .ok (.iload_n 1, 1) := dk_27 (dk_at dksX2_placeOf_0 16 rfl rfl)
theorem dX2_placeOf_17 : decode cX2_placeOf 17 = .ok (.if_icmp .ne 5, 3) := dk_160 0 5 (dk_at dksX2_placeOf_0 17 rfl rfl)
theorem dX2_placeOf_20 : decode cX2_placeOf 20 = .ok (.iload_n 2, 1) := dk_28 (dk_at dksX2_placeOf_0 20 rfl rfl)
theorem dX2_placeOf_21 : decode cX2_placeOf 21 = .ok (.ireturn, 1) := dk_172 (dk_at dksX2_placeOf_0 21 rfl rfl)
theorem dX2_placeOf_22 : decode cX2_placeOf 22 = .ok (.iinc 2 1, 3) := dk_132 2 1 (dk_at dksX2_placeOf_1 0 rfl rfl)
theorem dX2_placeOf_25 : decode cX2_placeOf 25 = .ok (.goto (-23), 3) := dk_167 255 233 (dk_at dksX2_placeOf_1 3 rfl rfl)
theorem dX2_placeOf_28 : decode cX2_placeOf 28 = .ok (.iconst (-1), 1) := dk_2 (dk_at dksX2_placeOf_1 6 rfl rfl)
theorem dX2_placeOf_29 : decode cX2_placeOf 29 = .ok (.ireturn, 1) := dk_172 (dk_at dksX2_placeOf_1 7 rfl rfl)
abbrev cX2_readings : ByteArray := prog_10_method_43_code
def yX2_readings : MethodName := ⟨RX2, "readings", "()I"⟩
def dkwX2_readings_0 : List UInt8 := [42, 182, 0, 203, 42, 180, 0, 197, 172]
abbrev dktX2_readings_0 : List UInt8 := dkwX2_readings_0 ++ []
theorem dksX2_readings_0 : cX2_readings.data.toList.drop 0 = dktX2_readings_0 := by decide +kernel
theorem dX2_readings_0 : decode cX2_readings 0 = .ok (.aload_n 0, 1) := dk_42 (dk_at dksX2_readings_0 0 rfl rfl)
theorem dX2_readings_1 : decode cX2_readings 1 = .ok (.invokevirtual 203, 3) := dk_182 0 203 (dk_at dksX2_readings_0 1 rfl rfl)
theorem dX2_readings_4 : decode cX2_readings 4 = .ok (.aload_n 0, 1) := dk_42 (dk_at dksX2_readings_0 4 rfl rfl)
theorem dX2_readings_5 : decode cX2_readings 5 = .ok (.getfield 197, 3) := dk_180 0 197 (dk_at dksX2_readings_0 5 rfl rfl)
theorem dX2_readings_8 : decode cX2_readings 8 = .ok (.ireturn, 1) := dk_172 (dk_at dksX2_readings_0 8 rfl rfl)
abbrev cX2_layReadings : ByteArray := prog_10_method_42_code
def yX2_layReadings : MethodName := ⟨RX2, "layReadings", "()V"⟩
def dkwX2_layReadings_4 : List UInt8 := [167, 255, 223, 132, 1, 1, 167, 255, 187, 177]
abbrev dktX2_layReadings_4 : List UInt8 := dkwX2_layReadings_4 ++ []
def dkwX2_layReadings_3 : List UInt8 := [180, 0, 44, 28, 92, 46, 27, 28, 122, 4, 126, 154, 0, 7, 4, 167, 0, 4, 3, 96, 79, 132, 2, 1]
abbrev dktX2_layReadings_3 : List UInt8 := dkwX2_layReadings_3 ++ dktX2_layReadings_4
def dkwX2_layReadings_2 : List UInt8 := [153, 0, 51, 42, 89, 180, 0, 197, 4, 96, 181, 0, 197, 3, 61, 28, 42, 180, 0, 182, 162, 0, 31, 42]
abbrev dktX2_layReadings_2 : List UInt8 := dkwX2_layReadings_2 ++ dktX2_layReadings_3
def dkwX2_layReadings_1 : List UInt8 := [132, 1, 1, 167, 255, 240, 3, 60, 27, 4, 42, 180, 0, 182, 120, 162, 0, 65, 42, 27, 182, 0, 200]
abbrev dktX2_layReadings_1 : List UInt8 := dkwX2_layReadings_1 ++ dktX2_layReadings_2
def dkwX2_layReadings_0 : List UInt8 := [42, 182, 0, 194, 42, 3, 181, 0, 197, 3, 60, 27, 16, 12, 162, 0, 16, 42, 180, 0, 44, 27, 3, 79]
abbrev dktX2_layReadings_0 : List UInt8 := dkwX2_layReadings_0 ++ dktX2_layReadings_1
theorem dksX2_layReadings_0 : cX2_layReadings.data.toList.drop 0 = dktX2_layReadings_0 := by decide +kernel
theorem dksX2_layReadings_1 : cX2_layReadings.data.toList.drop 24 = dktX2_layReadings_1 := dk_seg dksX2_layReadings_0 24 rfl rfl
theorem dksX2_layReadings_2 : cX2_layReadings.data.toList.drop 47 = dktX2_layReadings_2 := dk_seg dksX2_layReadings_1 23 rfl rfl
theorem dksX2_layReadings_3 : cX2_layReadings.data.toList.drop 71 = dktX2_layReadings_3 := dk_seg dksX2_layReadings_2 24 rfl rfl
theorem dksX2_layReadings_4 : cX2_layReadings.data.toList.drop 95 = dktX2_layReadings_4 := dk_seg dksX2_layReadings_3 24 rfl rfl
theorem dX2_layReadings_0 : decode cX2_layReadings 0 = .ok (.aload_n 0, 1) := dk_42 (dk_at dksX2_layReadings_0 0 rfl rfl)
theorem dX2_layReadings_1 : decode cX2_layReadings 1 = .ok (.invokevirtual 194, 3) := dk_182 0 194 (dk_at dksX2_layReadings_0 1 rfl rfl)
theorem dX2_layReadings_4 : decode cX2_layReadings 4 = .ok (.aload_n 0, 1) := dk_42 (dk_at dksX2_layReadings_0 4 rfl rfl)
theorem dX2_layReadings_5 : decode cX2_layReadings 5 = .ok (.iconst 0, 1) := dk_3 (dk_at dksX2_layReadings_0 5 rfl rfl)
theorem dX2_layReadings_6 : decode cX2_layReadings 6 = .ok (.putfield 197, 3) := dk_181 0 197 (dk_at dksX2_layReadings_0 6 rfl rfl)
theorem dX2_layReadings_9 : decode cX2_layReadings 9 = .ok (.iconst 0, 1) := dk_3 (dk_at dksX2_layReadings_0 9 rfl rfl)
theorem dX2_layReadings_10 : decode cX2_layReadings 10 = .ok (.istore_n 1, 1) := dk_60 (dk_at dksX2_layReadings_0 10 rfl rfl)
theorem dX2_layReadings_11 : decode cX2_layReadings 11 = .ok (.iload_n 1, 1) := dk_27 (dk_at dksX2_layReadings_0 11 rfl rfl)
theorem dX2_layReadings_12 : decode cX2_layReadings 12 = .ok (.bipush 12, 2) := dk_16 12 (dk_at dksX2_layReadings_0 12 rfl rfl)
theorem dX2_layReadings_14 : decode cX2_layReadings 14 = .ok (.if_icmp .ge 16, 3) := dk_162 0 16 (dk_at dksX2_layReadings_0 14 rfl rfl)
theorem dX2_layReadings_17 : decode cX2_layReadings 17 = .ok (.aload_n 0, 1) := dk_42 (dk_at dksX2_layReadings_0 17 rfl rfl)
theorem dX2_layReadings_18 : decode cX2_layReadings 18 = .ok (.getfield 44, 3) := dk_180 0 44 (dk_at dksX2_layReadings_0 18 rfl rfl)
theorem dX2_layReadings_21 : decode cX2_layReadings 21 = .ok (.iload_n 1, 1) := dk_27 (dk_at dksX2_layReadings_0 21 rfl rfl)
theorem dX2_layReadings_22 : decode cX2_layReadings 22 = .ok (.iconst 0, 1) := dk_3 (dk_at dksX2_layReadings_0 22 rfl rfl)
theorem dX2_layReadings_23 : decode cX2_layReadings 23 = .ok (.iastore, 1) := dk_79 (dk_at dksX2_layReadings_0 23 rfl rfl)
theorem dX2_layReadings_24 : decode cX2_layReadings 24 = .ok (.iinc 1 1, 3) := dk_132 1 1 (dk_at dksX2_layReadings_1 0 rfl rfl)
theorem dX2_layReadings_27 : decode cX2_layReadings 27 = .ok (.goto (-16), 3) := dk_167 255 240 (dk_at dksX2_layReadings_1 3 rfl rfl)
theorem dX2_layReadings_30 : decode cX2_layReadings 30 = .ok (.iconst 0, 1) := dk_3 (dk_at dksX2_layReadings_1 6 rfl rfl)
theorem dX2_layReadings_31 : decode cX2_layReadings 31 = .ok (.istore_n 1, 1) := dk_60 (dk_at dksX2_layReadings_1 7 rfl rfl)
theorem dX2_layReadings_32 : decode cX2_layReadings 32 = .ok (.iload_n 1, 1) := dk_27 (dk_at dksX2_layReadings_1 8 rfl rfl)
theorem dX2_layReadings_33 : decode cX2_layReadings 33 = .ok (.iconst 1, 1) := dk_4 (dk_at dksX2_layReadings_1 9 rfl rfl)
theorem dX2_layReadings_34 : decode cX2_layReadings 34 = .ok (.aload_n 0, 1) := dk_42 (dk_at dksX2_layReadings_1 10 rfl rfl)
theorem dX2_layReadings_35 : decode cX2_layReadings 35 = .ok (.getfield 182, 3) := dk_180 0 182 (dk_at dksX2_layReadings_1 11 rfl rfl)
theorem dX2_layReadings_38 : decode cX2_layReadings 38 = .ok (.ishl, 1) := dk_120 (dk_at dksX2_layReadings_1 14 rfl rfl)
theorem dX2_layReadings_39 : decode cX2_layReadings 39 = .ok (.if_icmp .ge 65, 3) := dk_162 0 65 (dk_at dksX2_layReadings_1 15 rfl rfl)
theorem dX2_layReadings_42 : decode cX2_layReadings 42 = .ok (.aload_n 0, 1) := dk_42 (dk_at dksX2_layReadings_1 18 rfl rfl)
theorem dX2_layReadings_43 : decode cX2_layReadings 43 = .ok (.iload_n 1, 1) := dk_27 (dk_at dksX2_layReadings_1 19 rfl rfl)
theorem dX2_layReadings_44 : decode cX2_layReadings 44 = .ok (.invokevirtual 200, 3) := dk_182 0 200 (dk_at dksX2_layReadings_1 20 rfl rfl)
theorem dX2_layReadings_47 : decode cX2_layReadings 47 = .ok (.ifCond .eq 51, 3) := dk_153 0 51 (dk_at dksX2_layReadings_2 0 rfl rfl)
theorem dX2_layReadings_50 : decode cX2_layReadings 50 = .ok (.aload_n 0, 1) := dk_42 (dk_at dksX2_layReadings_2 3 rfl rfl)
theorem dX2_layReadings_51 : decode cX2_layReadings 51 = .ok (.dup, 1) := dk_89 (dk_at dksX2_layReadings_2 4 rfl rfl)
theorem dX2_layReadings_52 : decode cX2_layReadings 52 = .ok (.getfield 197, 3) := dk_180 0 197 (dk_at dksX2_layReadings_2 5 rfl rfl)
theorem dX2_layReadings_55 : decode cX2_layReadings 55 = .ok (.iconst 1, 1) := dk_4 (dk_at dksX2_layReadings_2 8 rfl rfl)
theorem dX2_layReadings_56 : decode cX2_layReadings 56 = .ok (.iadd, 1) := dk_96 (dk_at dksX2_layReadings_2 9 rfl rfl)
theorem dX2_layReadings_57 : decode cX2_layReadings 57 = .ok (.putfield 197, 3) := dk_181 0 197 (dk_at dksX2_layReadings_2 10 rfl rfl)
theorem dX2_layReadings_60 : decode cX2_layReadings 60 = .ok (.iconst 0, 1) := dk_3 (dk_at dksX2_layReadings_2 13 rfl rfl)
theorem dX2_layReadings_61 : decode cX2_layReadings 61 = .ok (.istore_n 2, 1) := dk_61 (dk_at dksX2_layReadings_2 14 rfl rfl)
theorem dX2_layReadings_62 : decode cX2_layReadings 62 = .ok (.iload_n 2, 1) := dk_28 (dk_at dksX2_layReadings_2 15 rfl rfl)
theorem dX2_layReadings_63 : decode cX2_layReadings 63 = .ok (.aload_n 0, 1) := dk_42 (dk_at dksX2_layReadings_2 16 rfl rfl)
theorem dX2_layReadings_64 : decode cX2_layReadings 64 = .ok (.getfield 182, 3) := dk_180 0 182 (dk_at dksX2_layReadings_2 17 rfl rfl)
theorem dX2_layReadings_67 : decode cX2_layReadings 67 = .ok (.if_icmp .ge 31, 3) := dk_162 0 31 (dk_at dksX2_layReadings_2 20 rfl rfl)
theorem dX2_layReadings_70 : decode cX2_layReadings 70 = .ok (.aload_n 0, 1) := dk_42 (dk_at dksX2_layReadings_2 23 rfl rfl)
theorem dX2_layReadings_71 : decode cX2_layReadings 71 = .ok (.getfield 44, 3) := dk_180 0 44 (dk_at dksX2_layReadings_3 0 rfl rfl)
theorem dX2_layReadings_74 : decode cX2_layReadings 74 = .ok (.iload_n 2, 1) := dk_28 (dk_at dksX2_layReadings_3 3 rfl rfl)
theorem dX2_layReadings_75 : decode cX2_layReadings 75 = .ok (.dup2, 1) := dk_92 (dk_at dksX2_layReadings_3 4 rfl rfl)
theorem dX2_layReadings_76 : decode cX2_layReadings 76 = .ok (.iaload, 1) := dk_46 (dk_at dksX2_layReadings_3 5 rfl rfl)
theorem dX2_layReadings_77 : decode cX2_layReadings 77 = .ok (.iload_n 1, 1) := dk_27 (dk_at dksX2_layReadings_3 6 rfl rfl)
theorem dX2_layReadings_78 : decode cX2_layReadings 78 = .ok (.iload_n 2, 1) := dk_28 (dk_at dksX2_layReadings_3 7 rfl rfl)
theorem dX2_layReadings_79 : decode cX2_layReadings 79 = .ok (.ishr, 1) := dk_122 (dk_at dksX2_layReadings_3 8 rfl rfl)
theorem dX2_layReadings_80 : decode cX2_layReadings 80 = .ok (.iconst 1, 1) := dk_4 (dk_at dksX2_layReadings_3 9 rfl rfl)
theorem dX2_layReadings_81 : decode cX2_layReadings 81 = .ok (.iand, 1) := dk_126 (dk_at dksX2_layReadings_3 10 rfl rfl)
theorem dX2_layReadings_82 : decode cX2_layReadings 82 = .ok (.ifCond .ne 7, 3) := dk_154 0 7 (dk_at dksX2_layReadings_3 11 rfl rfl)
theorem dX2_layReadings_85 : decode cX2_layReadings 85 = .ok (.iconst 1, 1) := dk_4 (dk_at dksX2_layReadings_3 14 rfl rfl)
theorem dX2_layReadings_86 : decode cX2_layReadings 86 = .ok (.goto 4, 3) := dk_167 0 4 (dk_at dksX2_layReadings_3 15 rfl rfl)
theorem dX2_layReadings_89 : decode cX2_layReadings 89 = .ok (.iconst 0, 1) := dk_3 (dk_at dksX2_layReadings_3 18 rfl rfl)
theorem dX2_layReadings_90 : decode cX2_layReadings 90 = .ok (.iadd, 1) := dk_96 (dk_at dksX2_layReadings_3 19 rfl rfl)
theorem dX2_layReadings_91 : decode cX2_layReadings 91 = .ok (.iastore, 1) := dk_79 (dk_at dksX2_layReadings_3 20 rfl rfl)
theorem dX2_layReadings_92 : decode cX2_layReadings 92 = .ok (.iinc 2 1, 3) := dk_132 2 1 (dk_at dksX2_layReadings_3 21 rfl rfl)
theorem dX2_layReadings_95 : decode cX2_layReadings 95 = .ok (.goto (-33), 3) := dk_167 255 223 (dk_at dksX2_layReadings_4 0 rfl rfl)
theorem dX2_layReadings_98 : decode cX2_layReadings 98 = .ok (.iinc 1 1, 3) := dk_132 1 1 (dk_at dksX2_layReadings_4 3 rfl rfl)
theorem dX2_layReadings_101 : decode cX2_layReadings 101 = .ok (.goto (-69), 3) := dk_167 255 187 (dk_at dksX2_layReadings_4 6 rfl rfl)
theorem dX2_layReadings_104 : decode cX2_layReadings 104 = .ok (.return_, 1) := dk_177 (dk_at dksX2_layReadings_4 9 rfl rfl)
abbrev cX2_isReading : ByteArray := prog_10_method_41_code
def yX2_isReading : MethodName := ⟨RX2, "isReading", "(I)Z"⟩
def dkwX2_isReading_7 : List UInt8 := [104, 16, 7, 96, 46, 160, 0, 7, 4, 167, 0, 4, 3, 61, 132, 3, 1, 167, 255, 126, 28, 172]
abbrev dktX2_isReading_7 : List UInt8 := dkwX2_isReading_7 ++ []
def dkwX2_isReading_6 : List UInt8 := [21, 6, 122, 126, 4, 126, 96, 54, 5, 132, 6, 1, 167, 255, 229, 21, 5, 42, 180, 0, 31, 16, 8, 29]
abbrev dktX2_isReading_6 : List UInt8 := dkwX2_isReading_6 ++ dktX2_isReading_7
def dkwX2_isReading_5 : List UInt8 := [167, 255, 209, 3, 54, 5, 3, 54, 6, 21, 6, 16, 12, 162, 0, 26, 21, 5, 21, 4, 21, 6, 122, 27]
abbrev dktX2_isReading_5 : List UInt8 := dkwX2_isReading_5 ++ dktX2_isReading_6
def dkwX2_isReading_4 : List UInt8 := [180, 0, 31, 16, 8, 29, 104, 4, 96, 21, 5, 96, 46, 46, 182, 0, 185, 120, 128, 54, 4, 132, 5, 1]
abbrev dktX2_isReading_4 : List UInt8 := dkwX2_isReading_4 ++ dktX2_isReading_5
def dkwX2_isReading_3 : List UInt8 := [21, 5, 42, 180, 0, 31, 16, 8, 29, 104, 46, 162, 0, 39, 21, 4, 4, 42, 42, 180, 0, 22, 42]
abbrev dktX2_isReading_3 : List UInt8 := dkwX2_isReading_3 ++ dktX2_isReading_4
def dkwX2_isReading_2 : List UInt8 := [167, 255, 213, 3, 62, 29, 42, 180, 0, 130, 162, 0, 128, 28, 153, 0, 124, 3, 54, 4, 3, 54, 5]
abbrev dktX2_isReading_2 : List UInt8 := dkwX2_isReading_2 ++ dktX2_isReading_3
def dkwX2_isReading_1 : List UInt8 := [182, 0, 154, 154, 0, 12, 27, 29, 122, 4, 126, 4, 160, 0, 7, 4, 167, 0, 4, 3, 61, 132, 3, 1]
abbrev dktX2_isReading_1 : List UInt8 := dkwX2_isReading_1 ++ dktX2_isReading_2
def dkwX2_isReading_0 : List UInt8 := [4, 61, 3, 62, 29, 42, 180, 0, 182, 162, 0, 41, 28, 153, 0, 29, 42, 42, 180, 0, 41, 29, 46]
abbrev dktX2_isReading_0 : List UInt8 := dkwX2_isReading_0 ++ dktX2_isReading_1
theorem dksX2_isReading_0 : cX2_isReading.data.toList.drop 0 = dktX2_isReading_0 := by decide +kernel
theorem dksX2_isReading_1 : cX2_isReading.data.toList.drop 23 = dktX2_isReading_1 := dk_seg dksX2_isReading_0 23 rfl rfl
theorem dksX2_isReading_2 : cX2_isReading.data.toList.drop 47 = dktX2_isReading_2 := dk_seg dksX2_isReading_1 24 rfl rfl
theorem dksX2_isReading_3 : cX2_isReading.data.toList.drop 70 = dktX2_isReading_3 := dk_seg dksX2_isReading_2 23 rfl rfl
theorem dksX2_isReading_4 : cX2_isReading.data.toList.drop 93 = dktX2_isReading_4 := dk_seg dksX2_isReading_3 23 rfl rfl
theorem dksX2_isReading_5 : cX2_isReading.data.toList.drop 117 = dktX2_isReading_5 := dk_seg dksX2_isReading_4 24 rfl rfl
theorem dksX2_isReading_6 : cX2_isReading.data.toList.drop 141 = dktX2_isReading_6 := dk_seg dksX2_isReading_5 24 rfl rfl
theorem dksX2_isReading_7 : cX2_isReading.data.toList.drop 165 = dktX2_isReading_7 := dk_seg dksX2_isReading_6 24 rfl rfl
theorem dX2_isReading_0 : decode cX2_isReading 0 = .ok (.iconst 1, 1) := dk_4 (dk_at dksX2_isReading_0 0 rfl rfl)
theorem dX2_isReading_1 : decode cX2_isReading 1 = .ok (.istore_n 2, 1) := dk_61 (dk_at dksX2_isReading_0 1 rfl rfl)
theorem dX2_isReading_2 : decode cX2_isReading 2 = .ok (.iconst 0, 1) := dk_3 (dk_at dksX2_isReading_0 2 rfl rfl)
theorem dX2_isReading_3 : decode cX2_isReading 3 = .ok (.istore_n 3, 1) := dk_62 (dk_at dksX2_isReading_0 3 rfl rfl)
theorem dX2_isReading_4 : decode cX2_isReading 4 = .ok (.iload_n 3, 1) := dk_29 (dk_at dksX2_isReading_0 4 rfl rfl)
theorem dX2_isReading_5 : decode cX2_isReading 5 = .ok (.aload_n 0, 1) := dk_42 (dk_at dksX2_isReading_0 5 rfl rfl)
theorem dX2_isReading_6 : decode cX2_isReading 6 = .ok (.getfield 182, 3) := dk_180 0 182 (dk_at dksX2_isReading_0 6 rfl rfl)
theorem dX2_isReading_9 : decode cX2_isReading 9 = .ok (.if_icmp .ge 41, 3) := dk_162 0 41 (dk_at dksX2_isReading_0 9 rfl rfl)
theorem dX2_isReading_12 : decode cX2_isReading 12 = .ok (.iload_n 2, 1) := dk_28 (dk_at dksX2_isReading_0 12 rfl rfl)
theorem dX2_isReading_13 : decode cX2_isReading 13 = .ok (.ifCond .eq 29, 3) := dk_153 0 29 (dk_at dksX2_isReading_0 13 rfl rfl)
theorem dX2_isReading_16 : decode cX2_isReading 16 = .ok (.aload_n 0, 1) := dk_42 (dk_at dksX2_isReading_0 16 rfl rfl)
theorem dX2_isReading_17 : decode cX2_isReading 17 = .ok (.aload_n 0, 1) := dk_42 (dk_at dksX2_isReading_0 17 rfl rfl)
theorem dX2_isReading_18 : decode cX2_isReading 18 = .ok (.getfield 41, 3) := dk_180 0 41 (dk_at dksX2_isReading_0 18 rfl rfl)
theorem dX2_isReading_21 : decode cX2_isReading 21 = .ok (.iload_n 3, 1) := dk_29 (dk_at dksX2_isReading_0 21 rfl rfl)
theorem dX2_isReading_22 : decode cX2_isReading 22 = .ok (.iaload, 1) := dk_46 (dk_at dksX2_isReading_0 22 rfl rfl)
theorem dX2_isReading_23 : decode cX2_isReading 23 = .ok (.invokevirtual 154, 3) := dk_182 0 154 (dk_at dksX2_isReading_1 0 rfl rfl)
theorem dX2_isReading_26 : decode cX2_isReading 26 = .ok (.ifCond .ne 12, 3) := dk_154 0 12 (dk_at dksX2_isReading_1 3 rfl rfl)
theorem dX2_isReading_29 : decode cX2_isReading 29 = .ok (.iload_n 1, 1) := dk_27 (dk_at dksX2_isReading_1 6 rfl rfl)
theorem dX2_isReading_30 : decode cX2_isReading 30 = .ok (.iload_n 3, 1) := dk_29 (dk_at dksX2_isReading_1 7 rfl rfl)
theorem dX2_isReading_31 : decode cX2_isReading 31 = .ok (.ishr, 1) := dk_122 (dk_at dksX2_isReading_1 8 rfl rfl)
theorem dX2_isReading_32 : decode cX2_isReading 32 = .ok (.iconst 1, 1) := dk_4 (dk_at dksX2_isReading_1 9 rfl rfl)
theorem dX2_isReading_33 : decode cX2_isReading 33 = .ok (.iand, 1) := dk_126 (dk_at dksX2_isReading_1 10 rfl rfl)
theorem dX2_isReading_34 : decode cX2_isReading 34 = .ok (.iconst 1, 1) := dk_4 (dk_at dksX2_isReading_1 11 rfl rfl)
theorem dX2_isReading_35 : decode cX2_isReading 35 = .ok (.if_icmp .ne 7, 3) := dk_160 0 7 (dk_at dksX2_isReading_1 12 rfl rfl)
theorem dX2_isReading_38 : decode cX2_isReading 38 = .ok (.iconst 1, 1) := dk_4 (dk_at dksX2_isReading_1 15 rfl rfl)
theorem dX2_isReading_39 : decode cX2_isReading 39 = .ok (.goto 4, 3) := dk_167 0 4 (dk_at dksX2_isReading_1 16 rfl rfl)
theorem dX2_isReading_42 : decode cX2_isReading 42 = .ok (.iconst 0, 1) := dk_3 (dk_at dksX2_isReading_1 19 rfl rfl)
theorem dX2_isReading_43 : decode cX2_isReading 43 = .ok (.istore_n 2, 1) := dk_61 (dk_at dksX2_isReading_1 20 rfl rfl)
theorem dX2_isReading_44 : decode cX2_isReading 44 = .ok (.iinc 3 1, 3) := dk_132 3 1 (dk_at dksX2_isReading_1 21 rfl rfl)
theorem dX2_isReading_47 : decode cX2_isReading 47 = .ok (.goto (-43), 3) := dk_167 255 213 (dk_at dksX2_isReading_2 0 rfl rfl)
theorem dX2_isReading_50 : decode cX2_isReading 50 = .ok (.iconst 0, 1) := dk_3 (dk_at dksX2_isReading_2 3 rfl rfl)
theorem dX2_isReading_51 : decode cX2_isReading 51 = .ok (.istore_n 3, 1) := dk_62 (dk_at dksX2_isReading_2 4 rfl rfl)
theorem dX2_isReading_52 : decode cX2_isReading 52 = .ok (.iload_n 3, 1) := dk_29 (dk_at dksX2_isReading_2 5 rfl rfl)
theorem dX2_isReading_53 : decode cX2_isReading 53 = .ok (.aload_n 0, 1) := dk_42 (dk_at dksX2_isReading_2 6 rfl rfl)
theorem dX2_isReading_54 : decode cX2_isReading 54 = .ok (.getfield 130, 3) := dk_180 0 130 (dk_at dksX2_isReading_2 7 rfl rfl)
theorem dX2_isReading_57 : decode cX2_isReading 57 = .ok (.if_icmp .ge 128, 3) := dk_162 0 128 (dk_at dksX2_isReading_2 10 rfl rfl)
theorem dX2_isReading_60 : decode cX2_isReading 60 = .ok (.iload_n 2, 1) := dk_28 (dk_at dksX2_isReading_2 13 rfl rfl)
theorem dX2_isReading_61 : decode cX2_isReading 61 = .ok (.ifCond .eq 124, 3) := dk_153 0 124 (dk_at dksX2_isReading_2 14 rfl rfl)
theorem dX2_isReading_64 : decode cX2_isReading 64 = .ok (.iconst 0, 1) := dk_3 (dk_at dksX2_isReading_2 17 rfl rfl)
theorem dX2_isReading_65 : decode cX2_isReading 65 = .ok (.istore 4, 2) := dk_54 4 (dk_at dksX2_isReading_2 18 rfl rfl)
theorem dX2_isReading_67 : decode cX2_isReading 67 = .ok (.iconst 0, 1) := dk_3 (dk_at dksX2_isReading_2 20 rfl rfl)
theorem dX2_isReading_68 : decode cX2_isReading 68 = .ok (.istore 5, 2) := dk_54 5 (dk_at dksX2_isReading_2 21 rfl rfl)
theorem dX2_isReading_70 : decode cX2_isReading 70 = .ok (.iload 5, 2) := dk_21 5 (dk_at dksX2_isReading_3 0 rfl rfl)
theorem dX2_isReading_72 : decode cX2_isReading 72 = .ok (.aload_n 0, 1) := dk_42 (dk_at dksX2_isReading_3 2 rfl rfl)
theorem dX2_isReading_73 : decode cX2_isReading 73 = .ok (.getfield 31, 3) := dk_180 0 31 (dk_at dksX2_isReading_3 3 rfl rfl)
theorem dX2_isReading_76 : decode cX2_isReading 76 = .ok (.bipush 8, 2) := dk_16 8 (dk_at dksX2_isReading_3 6 rfl rfl)
theorem dX2_isReading_78 : decode cX2_isReading 78 = .ok (.iload_n 3, 1) := dk_29 (dk_at dksX2_isReading_3 8 rfl rfl)
theorem dX2_isReading_79 : decode cX2_isReading 79 = .ok (.imul, 1) := dk_104 (dk_at dksX2_isReading_3 9 rfl rfl)
theorem dX2_isReading_80 : decode cX2_isReading 80 = .ok (.iaload, 1) := dk_46 (dk_at dksX2_isReading_3 10 rfl rfl)
theorem dX2_isReading_81 : decode cX2_isReading 81 = .ok (.if_icmp .ge 39, 3) := dk_162 0 39 (dk_at dksX2_isReading_3 11 rfl rfl)
theorem dX2_isReading_84 : decode cX2_isReading 84 = .ok (.iload 4, 2) := dk_21 4 (dk_at dksX2_isReading_3 14 rfl rfl)
theorem dX2_isReading_86 : decode cX2_isReading 86 = .ok (.iconst 1, 1) := dk_4 (dk_at dksX2_isReading_3 16 rfl rfl)
theorem dX2_isReading_87 : decode cX2_isReading 87 = .ok (.aload_n 0, 1) := dk_42 (dk_at dksX2_isReading_3 17 rfl rfl)
theorem dX2_isReading_88 : decode cX2_isReading 88 = .ok (.aload_n 0, 1) := dk_42 (dk_at dksX2_isReading_3 18 rfl rfl)
theorem dX2_isReading_89 : decode cX2_isReading 89 = .ok (.getfield 22, 3) := dk_180 0 22 (dk_at dksX2_isReading_3 19 rfl rfl)
theorem dX2_isReading_92 : decode cX2_isReading 92 = .ok (.aload_n 0, 1) := dk_42 (dk_at dksX2_isReading_3 22 rfl rfl)
theorem dX2_isReading_93 : decode cX2_isReading 93 = .ok (.getfield 31, 3) := dk_180 0 31 (dk_at dksX2_isReading_4 0 rfl rfl)
theorem dX2_isReading_96 : decode cX2_isReading 96 = .ok (.bipush 8, 2) := dk_16 8 (dk_at dksX2_isReading_4 3 rfl rfl)
theorem dX2_isReading_98 : decode cX2_isReading 98 = .ok (.iload_n 3, 1) := dk_29 (dk_at dksX2_isReading_4 5 rfl rfl)
theorem dX2_isReading_99 : decode cX2_isReading 99 = .ok (.imul, 1) := dk_104 (dk_at dksX2_isReading_4 6 rfl rfl)
theorem dX2_isReading_100 : decode cX2_isReading 100 = .ok (.iconst 1, 1) := dk_4 (dk_at dksX2_isReading_4 7 rfl rfl)
theorem dX2_isReading_101 : decode cX2_isReading 101 = .ok (.iadd, 1) := dk_96 (dk_at dksX2_isReading_4 8 rfl rfl)
theorem dX2_isReading_102 : decode cX2_isReading 102 = .ok (.iload 5, 2) := dk_21 5 (dk_at dksX2_isReading_4 9 rfl rfl)
theorem dX2_isReading_104 : decode cX2_isReading 104 = .ok (.iadd, 1) := dk_96 (dk_at dksX2_isReading_4 11 rfl rfl)
theorem dX2_isReading_105 : decode cX2_isReading 105 = .ok (.iaload, 1) := dk_46 (dk_at dksX2_isReading_4 12 rfl rfl)
theorem dX2_isReading_106 : decode cX2_isReading 106 = .ok (.iaload, 1) := dk_46 (dk_at dksX2_isReading_4 13 rfl rfl)
theorem dX2_isReading_107 : decode cX2_isReading 107 = .ok (.invokevirtual 185, 3) := dk_182 0 185 (dk_at dksX2_isReading_4 14 rfl rfl)
theorem dX2_isReading_110 : decode cX2_isReading 110 = .ok (.ishl, 1) := dk_120 (dk_at dksX2_isReading_4 17 rfl rfl)
theorem dX2_isReading_111 : decode cX2_isReading 111 = .ok (.ior, 1) := dk_128 (dk_at dksX2_isReading_4 18 rfl rfl)
theorem dX2_isReading_112 : decode cX2_isReading 112 = .ok (.istore 4, 2) := dk_54 4 (dk_at dksX2_isReading_4 19 rfl rfl)
theorem dX2_isReading_114 : decode cX2_isReading 114 = .ok (.iinc 5 1, 3) := dk_132 5 1 (dk_at dksX2_isReading_4 21 rfl rfl)
theorem dX2_isReading_117 : decode cX2_isReading 117 = .ok (.goto (-47), 3) := dk_167 255 209 (dk_at dksX2_isReading_5 0 rfl rfl)
theorem dX2_isReading_120 : decode cX2_isReading 120 = .ok (.iconst 0, 1) := dk_3 (dk_at dksX2_isReading_5 3 rfl rfl)
theorem dX2_isReading_121 : decode cX2_isReading 121 = .ok (.istore 5, 2) := dk_54 5 (dk_at dksX2_isReading_5 4 rfl rfl)
theorem dX2_isReading_123 : decode cX2_isReading 123 = .ok (.iconst 0, 1) := dk_3 (dk_at dksX2_isReading_5 6 rfl rfl)
theorem dX2_isReading_124 : decode cX2_isReading 124 = .ok (.istore 6, 2) := dk_54 6 (dk_at dksX2_isReading_5 7 rfl rfl)
theorem dX2_isReading_126 : decode cX2_isReading 126 = .ok (.iload 6, 2) := dk_21 6 (dk_at dksX2_isReading_5 9 rfl rfl)
theorem dX2_isReading_128 : decode cX2_isReading 128 = .ok (.bipush 12, 2) := dk_16 12 (dk_at dksX2_isReading_5 11 rfl rfl)
theorem dX2_isReading_130 : decode cX2_isReading 130 = .ok (.if_icmp .ge 26, 3) := dk_162 0 26 (dk_at dksX2_isReading_5 13 rfl rfl)
theorem dX2_isReading_133 : decode cX2_isReading 133 = .ok (.iload 5, 2) := dk_21 5 (dk_at dksX2_isReading_5 16 rfl rfl)
theorem dX2_isReading_135 : decode cX2_isReading 135 = .ok (.iload 4, 2) := dk_21 4 (dk_at dksX2_isReading_5 18 rfl rfl)
theorem dX2_isReading_137 : decode cX2_isReading 137 = .ok (.iload 6, 2) := dk_21 6 (dk_at dksX2_isReading_5 20 rfl rfl)
theorem dX2_isReading_139 : decode cX2_isReading 139 = .ok (.ishr, 1) := dk_122 (dk_at dksX2_isReading_5 22 rfl rfl)
theorem dX2_isReading_140 : decode cX2_isReading 140 = .ok (.iload_n 1, 1) := dk_27 (dk_at dksX2_isReading_5 23 rfl rfl)
theorem dX2_isReading_141 : decode cX2_isReading 141 = .ok (.iload 6, 2) := dk_21 6 (dk_at dksX2_isReading_6 0 rfl rfl)
theorem dX2_isReading_143 : decode cX2_isReading 143 = .ok (.ishr, 1) := dk_122 (dk_at dksX2_isReading_6 2 rfl rfl)
theorem dX2_isReading_144 : decode cX2_isReading 144 = .ok (.iand, 1) := dk_126 (dk_at dksX2_isReading_6 3 rfl rfl)
theorem dX2_isReading_145 : decode cX2_isReading 145 = .ok (.iconst 1, 1) := dk_4 (dk_at dksX2_isReading_6 4 rfl rfl)
theorem dX2_isReading_146 : decode cX2_isReading 146 = .ok (.iand, 1) := dk_126 (dk_at dksX2_isReading_6 5 rfl rfl)
theorem dX2_isReading_147 : decode cX2_isReading 147 = .ok (.iadd, 1) := dk_96 (dk_at dksX2_isReading_6 6 rfl rfl)
theorem dX2_isReading_148 : decode cX2_isReading 148 = .ok (.istore 5, 2) := dk_54 5 (dk_at dksX2_isReading_6 7 rfl rfl)
theorem dX2_isReading_150 : decode cX2_isReading 150 = .ok (.iinc 6 1, 3) := dk_132 6 1 (dk_at dksX2_isReading_6 9 rfl rfl)
theorem dX2_isReading_153 : decode cX2_isReading 153 = .ok (.goto (-27), 3) := dk_167 255 229 (dk_at dksX2_isReading_6 12 rfl rfl)
theorem dX2_isReading_156 : decode cX2_isReading 156 = .ok (.iload 5, 2) := dk_21 5 (dk_at dksX2_isReading_6 15 rfl rfl)
theorem dX2_isReading_158 : decode cX2_isReading 158 = .ok (.aload_n 0, 1) := dk_42 (dk_at dksX2_isReading_6 17 rfl rfl)
theorem dX2_isReading_159 : decode cX2_isReading 159 = .ok (.getfield 31, 3) := dk_180 0 31 (dk_at dksX2_isReading_6 18 rfl rfl)
theorem dX2_isReading_162 : decode cX2_isReading 162 = .ok (.bipush 8, 2) := dk_16 8 (dk_at dksX2_isReading_6 21 rfl rfl)
theorem dX2_isReading_164 : decode cX2_isReading 164 = .ok (.iload_n 3, 1) := dk_29 (dk_at dksX2_isReading_6 23 rfl rfl)
theorem dX2_isReading_165 : decode cX2_isReading 165 = .ok (.imul, 1) := dk_104 (dk_at dksX2_isReading_7 0 rfl rfl)
theorem dX2_isReading_166 : decode cX2_isReading 166 = .ok (.bipush 7, 2) := dk_16 7 (dk_at dksX2_isReading_7 1 rfl rfl)
theorem dX2_isReading_168 : decode cX2_isReading 168 = .ok (.iadd, 1) := dk_96 (dk_at dksX2_isReading_7 3 rfl rfl)
theorem dX2_isReading_169 : decode cX2_isReading 169 = .ok (.iaload, 1) := dk_46 (dk_at dksX2_isReading_7 4 rfl rfl)
theorem dX2_isReading_170 : decode cX2_isReading 170 = .ok (.if_icmp .ne 7, 3) := dk_160 0 7 (dk_at dksX2_isReading_7 5 rfl rfl)
theorem dX2_isReading_173 : decode cX2_isReading 173 = .ok (.iconst 1, 1) := dk_4 (dk_at dksX2_isReading_7 8 rfl rfl)
theorem dX2_isReading_174 : decode cX2_isReading 174 = .ok (.goto 4, 3) := dk_167 0 4 (dk_at dksX2_isReading_7 9 rfl rfl)
theorem dX2_isReading_177 : decode cX2_isReading 177 = .ok (.iconst 0, 1) := dk_3 (dk_at dksX2_isReading_7 12 rfl rfl)
theorem dX2_isReading_178 : decode cX2_isReading 178 = .ok (.istore_n 2, 1) := dk_61 (dk_at dksX2_isReading_7 13 rfl rfl)
theorem dX2_isReading_179 : decode cX2_isReading 179 = .ok (.iinc 3 1, 3) := dk_132 3 1 (dk_at dksX2_isReading_7 14 rfl rfl)
theorem dX2_isReading_182 : decode cX2_isReading 182 = .ok (.goto (-130), 3) := dk_167 255 126 (dk_at dksX2_isReading_7 17 rfl rfl)
theorem dX2_isReading_185 : decode cX2_isReading 185 = .ok (.iload_n 2, 1) := dk_28 (dk_at dksX2_isReading_7 20 rfl rfl)
theorem dX2_isReading_186 : decode cX2_isReading 186 = .ok (.ireturn, 1) := dk_172 (dk_at dksX2_isReading_7 21 rfl rfl)
abbrev cX2_sure : ByteArray := prog_10_method_45_code
def yX2_sure : MethodName := ⟨RX2, "sure", "(I)I"⟩
def dkwX2_sure_0 : List UInt8 := [42, 27, 182, 0, 142, 154, 0, 6, 16, 155, 172, 42, 182, 0, 203, 42, 27, 182, 0, 206, 172]
abbrev dktX2_sure_0 : List UInt8 := dkwX2_sure_0 ++ []
theorem dksX2_sure_0 : cX2_sure.data.toList.drop 0 = dktX2_sure_0 := by decide +kernel
theorem dX2_sure_0 : decode cX2_sure 0 = .ok (.aload_n 0, 1) := dk_42 (dk_at dksX2_sure_0 0 rfl rfl)
theorem dX2_sure_1 : decode cX2_sure 1 = .ok (.iload_n 1, 1) := dk_27 (dk_at dksX2_sure_0 1 rfl rfl)
theorem dX2_sure_2 : decode cX2_sure 2 = .ok (.invokevirtual 142, 3) := dk_182 0 142 (dk_at dksX2_sure_0 2 rfl rfl)
theorem dX2_sure_5 : decode cX2_sure 5 = .ok (.ifCond .ne 6, 3) := dk_154 0 6 (dk_at dksX2_sure_0 5 rfl rfl)
theorem dX2_sure_8 : decode cX2_sure 8 = .ok (.bipush (-101), 2) := dk_16 155 (dk_at dksX2_sure_0 8 rfl rfl)
theorem dX2_sure_10 : decode cX2_sure 10 = .ok (.ireturn, 1) := dk_172 (dk_at dksX2_sure_0 10 rfl rfl)
theorem dX2_sure_11 : decode cX2_sure 11 = .ok (.aload_n 0, 1) := dk_42 (dk_at dksX2_sure_0 11 rfl rfl)
theorem dX2_sure_12 : decode cX2_sure 12 = .ok (.invokevirtual 203, 3) := dk_182 0 203 (dk_at dksX2_sure_0 12 rfl rfl)
theorem dX2_sure_15 : decode cX2_sure 15 = .ok (.aload_n 0, 1) := dk_42 (dk_at dksX2_sure_0 15 rfl rfl)
theorem dX2_sure_16 : decode cX2_sure 16 = .ok (.iload_n 1, 1) := dk_27 (dk_at dksX2_sure_0 16 rfl rfl)
theorem dX2_sure_17 : decode cX2_sure 17 = .ok (.invokevirtual 206, 3) := dk_182 0 206 (dk_at dksX2_sure_0 17 rfl rfl)
theorem dX2_sure_20 : decode cX2_sure 20 = .ok (.ireturn, 1) := dk_172 (dk_at dksX2_sure_0 20 rfl rfl)
abbrev cX2_sureNow : ByteArray := prog_10_method_44_code
def yX2_sureNow : MethodName := ⟨RX2, "sureNow", "(I)I"⟩
def dkwX2_sureNow_1 : List UInt8 := [167, 0, 20, 42, 27, 182, 0, 147, 2, 160, 0, 10, 42, 180, 0, 197, 167, 0, 4, 3, 172]
abbrev dktX2_sureNow_1 : List UInt8 := dkwX2_sureNow_1 ++ []
def dkwX2_sureNow_0 : List UInt8 := [42, 42, 180, 0, 22, 27, 46, 182, 0, 185, 61, 28, 2, 159, 0, 12, 42, 180, 0, 44, 28, 46]
abbrev dktX2_sureNow_0 : List UInt8 := dkwX2_sureNow_0 ++ dktX2_sureNow_1
theorem dksX2_sureNow_0 : cX2_sureNow.data.toList.drop 0 = dktX2_sureNow_0 := by decide +kernel
theorem dksX2_sureNow_1 : cX2_sureNow.data.toList.drop 22 = dktX2_sureNow_1 := dk_seg dksX2_sureNow_0 22 rfl rfl
theorem dX2_sureNow_0 : decode cX2_sureNow 0 = .ok (.aload_n 0, 1) := dk_42 (dk_at dksX2_sureNow_0 0 rfl rfl)
theorem dX2_sureNow_1 : decode cX2_sureNow 1 = .ok (.aload_n 0, 1) := dk_42 (dk_at dksX2_sureNow_0 1 rfl rfl)
theorem dX2_sureNow_2 : decode cX2_sureNow 2 = .ok (.getfield 22, 3) := dk_180 0 22 (dk_at dksX2_sureNow_0 2 rfl rfl)
theorem dX2_sureNow_5 : decode cX2_sureNow 5 = .ok (.iload_n 1, 1) := dk_27 (dk_at dksX2_sureNow_0 5 rfl rfl)
theorem dX2_sureNow_6 : decode cX2_sureNow 6 = .ok (.iaload, 1) := dk_46 (dk_at dksX2_sureNow_0 6 rfl rfl)
theorem dX2_sureNow_7 : decode cX2_sureNow 7 = .ok (.invokevirtual 185, 3) := dk_182 0 185 (dk_at dksX2_sureNow_0 7 rfl rfl)
theorem dX2_sureNow_10 : decode cX2_sureNow 10 = .ok (.istore_n 2, 1) := dk_61 (dk_at dksX2_sureNow_0 10 rfl rfl)
theorem dX2_sureNow_11 : decode cX2_sureNow 11 = .ok (.iload_n 2, 1) := dk_28 (dk_at dksX2_sureNow_0 11 rfl rfl)
theorem dX2_sureNow_12 : decode cX2_sureNow 12 = .ok (.iconst (-1), 1) := dk_2 (dk_at dksX2_sureNow_0 12 rfl rfl)
theorem dX2_sureNow_13 : decode cX2_sureNow 13 = .ok (.if_icmp .eq 12, 3) := dk_159 0 12 (dk_at dksX2_sureNow_0 13 rfl rfl)
theorem dX2_sureNow_16 : decode cX2_sureNow 16 = .ok (.aload_n 0, 1) := dk_42 (dk_at dksX2_sureNow_0 16 rfl rfl)
theorem dX2_sureNow_17 : decode cX2_sureNow 17 = .ok (.getfield 44, 3) := dk_180 0 44 (dk_at dksX2_sureNow_0 17 rfl rfl)
theorem dX2_sureNow_20 : decode cX2_sureNow 20 = .ok (.iload_n 2, 1) := dk_28 (dk_at dksX2_sureNow_0 20 rfl rfl)
theorem dX2_sureNow_21 : decode cX2_sureNow 21 = .ok (.iaload, 1) := dk_46 (dk_at dksX2_sureNow_0 21 rfl rfl)
theorem dX2_sureNow_22 : decode cX2_sureNow 22 = .ok (.goto 20, 3) := dk_167 0 20 (dk_at dksX2_sureNow_1 0 rfl rfl)
theorem dX2_sureNow_25 : decode cX2_sureNow 25 = .ok (.aload_n 0, 1) := dk_42 (dk_at dksX2_sureNow_1 3 rfl rfl)
theorem dX2_sureNow_26 : decode cX2_sureNow 26 = .ok (.iload_n 1, 1) := dk_27 (dk_at dksX2_sureNow_1 4 rfl rfl)
theorem dX2_sureNow_27 : decode cX2_sureNow 27 = .ok (.invokevirtual 147, 3) := dk_182 0 147 (dk_at dksX2_sureNow_1 5 rfl rfl)
theorem dX2_sureNow_30 : decode cX2_sureNow 30 = .ok (.iconst (-1), 1) := dk_2 (dk_at dksX2_sureNow_1 8 rfl rfl)
theorem dX2_sureNow_31 : decode cX2_sureNow 31 = .ok (.if_icmp .ne 10, 3) := dk_160 0 10 (dk_at dksX2_sureNow_1 9 rfl rfl)
theorem dX2_sureNow_34 : decode cX2_sureNow 34 = .ok (.aload_n 0, 1) := dk_42 (dk_at dksX2_sureNow_1 12 rfl rfl)
theorem dX2_sureNow_35 : decode cX2_sureNow 35 = .ok (.getfield 197, 3) := dk_180 0 197 (dk_at dksX2_sureNow_1 13 rfl rfl)
theorem dX2_sureNow_38 : decode cX2_sureNow 38 = .ok (.goto 4, 3) := dk_167 0 4 (dk_at dksX2_sureNow_1 16 rfl rfl)
theorem dX2_sureNow_41 : decode cX2_sureNow 41 = .ok (.iconst 0, 1) := dk_3 (dk_at dksX2_sureNow_1 19 rfl rfl)
theorem dX2_sureNow_42 : decode cX2_sureNow 42 = .ok (.ireturn, 1) := dk_172 (dk_at dksX2_sureNow_1 20 rfl rfl)
abbrev cX2_surest : ByteArray := prog_10_method_47_code
def yX2_surest : MethodName := ⟨RX2, "surest", "()I"⟩
theorem dX2_surest_0 : decode cX2_surest 0 = .ok (.aload_n 0, 1) := by decide +kernel
theorem dX2_surest_1 : decode cX2_surest 1 = .ok (.invokevirtual 209, 3) := by decide +kernel
theorem dX2_surest_4 : decode cX2_surest 4 = .ok (.ireturn, 1) := by decide +kernel
abbrev cX2_surestOf : ByteArray := prog_10_method_46_code
def yX2_surestOf : MethodName := ⟨RX2, "surestOf", "()I"⟩
def dkwX2_surestOf_2 : List UInt8 := [28, 164, 0, 8, 21, 4, 167, 0, 4, 28, 61, 132, 3, 1, 167, 255, 206, 27, 172]
abbrev dktX2_surestOf_2 : List UInt8 := dkwX2_surestOf_2 ++ []
def dkwX2_surestOf_1 : List UInt8 := [158, 0, 41, 42, 29, 182, 0, 206, 54, 4, 21, 4, 28, 164, 0, 7, 29, 167, 0, 4, 27, 60, 21, 4]
abbrev dktX2_surestOf_1 : List UInt8 := dkwX2_surestOf_1 ++ dktX2_surestOf_2
def dkwX2_surestOf_0 : List UInt8 := [42, 182, 0, 203, 2, 60, 2, 61, 3, 62, 29, 42, 180, 0, 102, 162, 0, 48, 42, 180, 0, 197]
abbrev dktX2_surestOf_0 : List UInt8 := dkwX2_surestOf_0 ++ dktX2_surestOf_1
theorem dksX2_surestOf_0 : cX2_surestOf.data.toList.drop 0 = dktX2_surestOf_0 := by decide +kernel
theorem dksX2_surestOf_1 : cX2_surestOf.data.toList.drop 22 = dktX2_surestOf_1 := dk_seg dksX2_surestOf_0 22 rfl rfl
theorem dksX2_surestOf_2 : cX2_surestOf.data.toList.drop 46 = dktX2_surestOf_2 := dk_seg dksX2_surestOf_1 24 rfl rfl
theorem dX2_surestOf_0 : decode cX2_surestOf 0 = .ok (.aload_n 0, 1) := dk_42 (dk_at dksX2_surestOf_0 0 rfl rfl)
theorem dX2_surestOf_1 : decode cX2_surestOf 1 = .ok (.invokevirtual 203, 3) := dk_182 0 203 (dk_at dksX2_surestOf_0 1 rfl rfl)
theorem dX2_surestOf_4 : decode cX2_surestOf 4 = .ok (.iconst (-1), 1) := dk_2 (dk_at dksX2_surestOf_0 4 rfl rfl)
theorem dX2_surestOf_5 : decode cX2_surestOf 5 = .ok (.istore_n 1, 1) := dk_60 (dk_at dksX2_surestOf_0 5 rfl rfl)
theorem dX2_surestOf_6 : decode cX2_surestOf 6 = .ok (.iconst (-1), 1) := dk_2 (dk_at dksX2_surestOf_0 6 rfl rfl)
theorem dX2_surestOf_7 : decode cX2_surestOf 7 = .ok (.istore_n 2, 1) := dk_61 (dk_at dksX2_surestOf_0 7 rfl rfl)
theorem dX2_surestOf_8 : decode cX2_surestOf 8 = .ok (.iconst 0, 1) := dk_3 (dk_at dksX2_surestOf_0 8 rfl rfl)
theorem dX2_surestOf_9 : decode cX2_surestOf 9 = .ok (.istore_n 3, 1) := dk_62 (dk_at dksX2_surestOf_0 9 rfl rfl)
theorem dX2_surestOf_10 : decode cX2_surestOf 10 = .ok (.iload_n 3, 1) := dk_29 (dk_at dksX2_surestOf_0 10 rfl rfl)
theorem dX2_surestOf_11 : decode cX2_surestOf 11 = .ok (.aload_n 0, 1) := dk_42 (dk_at dksX2_surestOf_0 11 rfl rfl)
theorem dX2_surestOf_12 : decode cX2_surestOf 12 = .ok (.getfield 102, 3) := dk_180 0 102 (dk_at dksX2_surestOf_0 12 rfl rfl)
theorem dX2_surestOf_15 : decode cX2_surestOf 15 = .ok (.if_icmp .ge 48, 3) := dk_162 0 48 (dk_at dksX2_surestOf_0 15 rfl rfl)
theorem dX2_surestOf_18 : decode cX2_surestOf 18 = .ok (.aload_n 0, 1) := dk_42 (dk_at dksX2_surestOf_0 18 rfl rfl)
theorem dX2_surestOf_19 : decode cX2_surestOf 19 = .ok (.getfield 197, 3) := dk_180 0 197 (dk_at dksX2_surestOf_0 19 rfl rfl)
theorem dX2_surestOf_22 : decode cX2_surestOf 22 = .ok (.ifCond .le 41, 3) := dk_158 0 41 (dk_at dksX2_surestOf_1 0 rfl rfl)
theorem dX2_surestOf_25 : decode cX2_surestOf 25 = .ok (.aload_n 0, 1) := dk_42 (dk_at dksX2_surestOf_1 3 rfl rfl)
theorem dX2_surestOf_26 : decode cX2_surestOf 26 = .ok (.iload_n 3, 1) := dk_29 (dk_at dksX2_surestOf_1 4 rfl rfl)
theorem dX2_surestOf_27 : decode cX2_surestOf 27 = .ok (.invokevirtual 206, 3) := dk_182 0 206 (dk_at dksX2_surestOf_1 5 rfl rfl)
theorem dX2_surestOf_30 : decode cX2_surestOf 30 = .ok (.istore 4, 2) := dk_54 4 (dk_at dksX2_surestOf_1 8 rfl rfl)
theorem dX2_surestOf_32 : decode cX2_surestOf 32 = .ok (.iload 4, 2) := dk_21 4 (dk_at dksX2_surestOf_1 10 rfl rfl)
theorem dX2_surestOf_34 : decode cX2_surestOf 34 = .ok (.iload_n 2, 1) := dk_28 (dk_at dksX2_surestOf_1 12 rfl rfl)
theorem dX2_surestOf_35 : decode cX2_surestOf 35 = .ok (.if_icmp .le 7, 3) := dk_164 0 7 (dk_at dksX2_surestOf_1 13 rfl rfl)
theorem dX2_surestOf_38 : decode cX2_surestOf 38 = .ok (.iload_n 3, 1) := dk_29 (dk_at dksX2_surestOf_1 16 rfl rfl)
theorem dX2_surestOf_39 : decode cX2_surestOf 39 = .ok (.goto 4, 3) := dk_167 0 4 (dk_at dksX2_surestOf_1 17 rfl rfl)
theorem dX2_surestOf_42 : decode cX2_surestOf 42 = .ok (.iload_n 1, 1) := dk_27 (dk_at dksX2_surestOf_1 20 rfl rfl)
theorem dX2_surestOf_43 : decode cX2_surestOf 43 = .ok (.istore_n 1, 1) := dk_60 (dk_at dksX2_surestOf_1 21 rfl rfl)
theorem dX2_surestOf_44 : decode cX2_surestOf 44 = .ok (.iload 4, 2) := dk_21 4 (dk_at dksX2_surestOf_1 22 rfl rfl)
theorem dX2_surestOf_46 : decode cX2_surestOf 46 = .ok (.iload_n 2, 1) := dk_28 (dk_at dksX2_surestOf_2 0 rfl rfl)
theorem dX2_surestOf_47 : decode cX2_surestOf 47 = .ok (.if_icmp .le 8, 3) := dk_164 0 8 (dk_at dksX2_surestOf_2 1 rfl rfl)
theorem dX2_surestOf_50 : decode cX2_surestOf 50 = .ok (.iload 4, 2) := dk_21 4 (dk_at dksX2_surestOf_2 4 rfl rfl)
theorem dX2_surestOf_52 : decode cX2_surestOf 52 = .ok (.goto 4, 3) := dk_167 0 4 (dk_at dksX2_surestOf_2 6 rfl rfl)
theorem dX2_surestOf_55 : decode cX2_surestOf 55 = .ok (.iload_n 2, 1) := dk_28 (dk_at dksX2_surestOf_2 9 rfl rfl)
theorem dX2_surestOf_56 : decode cX2_surestOf 56 = .ok (.istore_n 2, 1) := dk_61 (dk_at dksX2_surestOf_2 10 rfl rfl)
theorem dX2_surestOf_57 : decode cX2_surestOf 57 = .ok (.iinc 3 1, 3) := dk_132 3 1 (dk_at dksX2_surestOf_2 11 rfl rfl)
theorem dX2_surestOf_60 : decode cX2_surestOf 60 = .ok (.goto (-50), 3) := dk_167 255 206 (dk_at dksX2_surestOf_2 14 rfl rfl)
theorem dX2_surestOf_63 : decode cX2_surestOf 63 = .ok (.iload_n 1, 1) := dk_27 (dk_at dksX2_surestOf_2 17 rfl rfl)
theorem dX2_surestOf_64 : decode cX2_surestOf 64 = .ok (.ireturn, 1) := dk_172 (dk_at dksX2_surestOf_2 18 rfl rfl)
abbrev cX2_longest : ByteArray := prog_10_method_51_code
def yX2_longest : MethodName := ⟨RX2, "longest", "()I"⟩
def dkwX2_longest_9 : List UInt8 := [4, 79, 132, 4, 1, 167, 255, 200, 132, 3, 1, 167, 255, 151, 132, 2, 1, 167, 255, 133, 27, 172]
abbrev dktX2_longest_9 : List UInt8 := dkwX2_longest_9 ++ []
def dkwX2_longest_8 : List UInt8 := [160, 0, 26, 42, 180, 0, 48, 16, 84, 28, 4, 42, 180, 0, 22, 21, 4, 46, 120, 128, 104, 21, 4, 96]
abbrev dktX2_longest_8 : List UInt8 := dkwX2_longest_8 ++ dktX2_longest_9
def dkwX2_longest_7 : List UInt8 := [180, 0, 102, 162, 0, 53, 42, 28, 21, 4, 182, 0, 215, 153, 0, 37, 42, 29, 21, 4, 182, 0, 222, 5]
abbrev dktX2_longest_7 : List UInt8 := dkwX2_longest_7 ++ dktX2_longest_8
def dkwX2_longest_6 : List UInt8 := [184, 0, 219, 27, 164, 0, 10, 28, 184, 0, 219, 167, 0, 4, 27, 60, 3, 54, 4, 21, 4, 42]
abbrev dktX2_longest_6 : List UInt8 := dkwX2_longest_6 ++ dktX2_longest_7
def dkwX2_longest_5 : List UInt8 := [29, 42, 180, 0, 102, 162, 0, 103, 42, 180, 0, 48, 16, 84, 28, 104, 29, 96, 46, 4, 160, 0, 82, 28]
abbrev dktX2_longest_5 : List UInt8 := dkwX2_longest_5 ++ dktX2_longest_6
def dkwX2_longest_4 : List UInt8 := [4, 79, 132, 1, 1, 167, 255, 217, 3, 60, 4, 61, 28, 4, 42, 180, 0, 109, 120, 162, 0, 119, 3, 62]
abbrev dktX2_longest_4 : List UInt8 := dkwX2_longest_4 ++ dktX2_longest_5
def dkwX2_longest_3 : List UInt8 := [27, 182, 0, 215, 153, 0, 22, 42, 180, 0, 48, 16, 84, 4, 42, 180, 0, 22, 27, 46, 120, 104, 27, 96]
abbrev dktX2_longest_3 : List UInt8 := dkwX2_longest_3 ++ dktX2_longest_4
def dkwX2_longest_2 : List UInt8 := [180, 0, 48, 27, 3, 79, 132, 1, 1, 167, 255, 235, 3, 60, 27, 42, 180, 0, 102, 162, 0, 37, 42, 3]
abbrev dktX2_longest_2 : List UInt8 := dkwX2_longest_2 ++ dktX2_longest_3
def dkwX2_longest_1 : List UInt8 := [180, 0, 212, 4, 96, 181, 0, 212, 3, 60, 27, 16, 84, 42, 180, 0, 109, 120, 162, 0, 16, 42]
abbrev dktX2_longest_1 : List UInt8 := dkwX2_longest_1 ++ dktX2_longest_2
def dkwX2_longest_0 : List UInt8 := [42, 180, 0, 109, 16, 10, 163, 0, 12, 42, 180, 0, 212, 16, 30, 160, 0, 6, 16, 153, 172, 42, 89]
abbrev dktX2_longest_0 : List UInt8 := dkwX2_longest_0 ++ dktX2_longest_1
theorem dksX2_longest_0 : cX2_longest.data.toList.drop 0 = dktX2_longest_0 := by decide +kernel
theorem dksX2_longest_1 : cX2_longest.data.toList.drop 23 = dktX2_longest_1 := dk_seg dksX2_longest_0 23 rfl rfl
theorem dksX2_longest_2 : cX2_longest.data.toList.drop 45 = dktX2_longest_2 := dk_seg dksX2_longest_1 22 rfl rfl
theorem dksX2_longest_3 : cX2_longest.data.toList.drop 69 = dktX2_longest_3 := dk_seg dksX2_longest_2 24 rfl rfl
theorem dksX2_longest_4 : cX2_longest.data.toList.drop 93 = dktX2_longest_4 := dk_seg dksX2_longest_3 24 rfl rfl
theorem dksX2_longest_5 : cX2_longest.data.toList.drop 117 = dktX2_longest_5 := dk_seg dksX2_longest_4 24 rfl rfl
theorem dksX2_longest_6 : cX2_longest.data.toList.drop 141 = dktX2_longest_6 := dk_seg dksX2_longest_5 24 rfl rfl
theorem dksX2_longest_7 : cX2_longest.data.toList.drop 163 = dktX2_longest_7 := dk_seg dksX2_longest_6 22 rfl rfl
theorem dksX2_longest_8 : cX2_longest.data.toList.drop 187 = dktX2_longest_8 := dk_seg dksX2_longest_7 24 rfl rfl
theorem dksX2_longest_9 : cX2_longest.data.toList.drop 211 = dktX2_longest_9 := dk_seg dksX2_longest_8 24 rfl rfl
theorem dX2_longest_0 : decode cX2_longest 0 = .ok (.aload_n 0, 1) := dk_42 (dk_at dksX2_longest_0 0 rfl rfl)
theorem dX2_longest_1 : decode cX2_longest 1 = .ok (.getfield 109, 3) := dk_180 0 109 (dk_at dksX2_longest_0 1 rfl rfl)
theorem dX2_longest_4 : decode cX2_longest 4 = .ok (.bipush 10, 2) := dk_16 10 (dk_at dksX2_longest_0 4 rfl rfl)
theorem dX2_longest_6 : decode cX2_longest 6 = .ok (.if_icmp .gt 12, 3) := dk_163 0 12 (dk_at dksX2_longest_0 6 rfl rfl)
theorem dX2_longest_9 : decode cX2_longest 9 = .ok (.aload_n 0, 1) := dk_42 (dk_at dksX2_longest_0 9 rfl rfl)
theorem dX2_longest_10 : decode cX2_longest 10 = .ok (.getfield 212, 3) := dk_180 0 212 (dk_at dksX2_longest_0 10 rfl rfl)
theorem dX2_longest_13 : decode cX2_longest 13 = .ok (.bipush 30, 2) := dk_16 30 (dk_at dksX2_longest_0 13 rfl rfl)
theorem dX2_longest_15 : decode cX2_longest 15 = .ok (.if_icmp .ne 6, 3) := dk_160 0 6 (dk_at dksX2_longest_0 15 rfl rfl)
theorem dX2_longest_18 : decode cX2_longest 18 = .ok (.bipush (-103), 2) := dk_16 153 (dk_at dksX2_longest_0 18 rfl rfl)
theorem dX2_longest_20 : decode cX2_longest 20 = .ok (.ireturn, 1) := dk_172 (dk_at dksX2_longest_0 20 rfl rfl)
theorem dX2_longest_21 : decode cX2_longest 21 = .ok (.aload_n 0, 1) := dk_42 (dk_at dksX2_longest_0 21 rfl rfl)
theorem dX2_longest_22 : decode cX2_longest 22 = .ok (.dup, 1) := dk_89 (dk_at dksX2_longest_0 22 rfl rfl)
theorem dX2_longest_23 : decode cX2_longest 23 = .ok (.getfield 212, 3) := dk_180 0 212 (dk_at dksX2_longest_1 0 rfl rfl)
theorem dX2_longest_26 : decode cX2_longest 26 = .ok (.iconst 1, 1) := dk_4 (dk_at dksX2_longest_1 3 rfl rfl)
theorem dX2_longest_27 : decode cX2_longest 27 = .ok (.iadd, 1) := dk_96 (dk_at dksX2_longest_1 4 rfl rfl)
theorem dX2_longest_28 : decode cX2_longest 28 = .ok (.putfield 212, 3) := dk_181 0 212 (dk_at dksX2_longest_1 5 rfl rfl)
theorem dX2_longest_31 : decode cX2_longest 31 = .ok (.iconst 0, 1) := dk_3 (dk_at dksX2_longest_1 8 rfl rfl)
theorem dX2_longest_32 : decode cX2_longest 32 = .ok (.istore_n 1, 1) := dk_60 (dk_at dksX2_longest_1 9 rfl rfl)
theorem dX2_longest_33 : decode cX2_longest 33 = .ok (.iload_n 1, 1) := dk_27 (dk_at dksX2_longest_1 10 rfl rfl)
theorem dX2_longest_34 : decode cX2_longest 34 = .ok (.bipush 84, 2) := dk_16 84 (dk_at dksX2_longest_1 11 rfl rfl)
theorem dX2_longest_36 : decode cX2_longest 36 = .ok (.aload_n 0, 1) := dk_42 (dk_at dksX2_longest_1 13 rfl rfl)
theorem dX2_longest_37 : decode cX2_longest 37 = .ok (.getfield 109, 3) := dk_180 0 109 (dk_at dksX2_longest_1 14 rfl rfl)
theorem dX2_longest_40 : decode cX2_longest 40 = .ok (.ishl, 1) := dk_120 (dk_at dksX2_longest_1 17 rfl rfl)
theorem dX2_longest_41 : decode cX2_longest 41 = .ok (.if_icmp .ge 16, 3) := dk_162 0 16 (dk_at dksX2_longest_1 18 rfl rfl)
theorem dX2_longest_44 : decode cX2_longest 44 = .ok (.aload_n 0, 1) := dk_42 (dk_at dksX2_longest_1 21 rfl rfl)
theorem dX2_longest_45 : decode cX2_longest 45 = .ok (.getfield 48, 3) := dk_180 0 48 (dk_at dksX2_longest_2 0 rfl rfl)
theorem dX2_longest_48 : decode cX2_longest 48 = .ok (.iload_n 1, 1) := dk_27 (dk_at dksX2_longest_2 3 rfl rfl)
theorem dX2_longest_49 : decode cX2_longest 49 = .ok (.iconst 0, 1) := dk_3 (dk_at dksX2_longest_2 4 rfl rfl)
theorem dX2_longest_50 : decode cX2_longest 50 = .ok (.iastore, 1) := dk_79 (dk_at dksX2_longest_2 5 rfl rfl)
theorem dX2_longest_51 : decode cX2_longest 51 = .ok (.iinc 1 1, 3) := dk_132 1 1 (dk_at dksX2_longest_2 6 rfl rfl)
theorem dX2_longest_54 : decode cX2_longest 54 = .ok (.goto (-21), 3) := dk_167 255 235 (dk_at dksX2_longest_2 9 rfl rfl)
theorem dX2_longest_57 : decode cX2_longest 57 = .ok (.iconst 0, 1) := dk_3 (dk_at dksX2_longest_2 12 rfl rfl)
theorem dX2_longest_58 : decode cX2_longest 58 = .ok (.istore_n 1, 1) := dk_60 (dk_at dksX2_longest_2 13 rfl rfl)
theorem dX2_longest_59 : decode cX2_longest 59 = .ok (.iload_n 1, 1) := dk_27 (dk_at dksX2_longest_2 14 rfl rfl)
theorem dX2_longest_60 : decode cX2_longest 60 = .ok (.aload_n 0, 1) := dk_42 (dk_at dksX2_longest_2 15 rfl rfl)
theorem dX2_longest_61 : decode cX2_longest 61 = .ok (.getfield 102, 3) := dk_180 0 102 (dk_at dksX2_longest_2 16 rfl rfl)
theorem dX2_longest_64 : decode cX2_longest 64 = .ok (.if_icmp .ge 37, 3) := dk_162 0 37 (dk_at dksX2_longest_2 19 rfl rfl)
theorem dX2_longest_67 : decode cX2_longest 67 = .ok (.aload_n 0, 1) := dk_42 (dk_at dksX2_longest_2 22 rfl rfl)
theorem dX2_longest_68 : decode cX2_longest 68 = .ok (.iconst 0, 1) := dk_3 (dk_at dksX2_longest_2 23 rfl rfl)
theorem dX2_longest_69 : decode cX2_longest 69 = .ok (.iload_n 1, 1) := dk_27 (dk_at dksX2_longest_3 0 rfl rfl)
theorem dX2_longest_70 : decode cX2_longest 70 = .ok (.invokevirtual 215, 3) := dk_182 0 215 (dk_at dksX2_longest_3 1 rfl rfl)
theorem dX2_longest_73 : decode cX2_longest 73 = .ok (.ifCond .eq 22, 3) := dk_153 0 22 (dk_at dksX2_longest_3 4 rfl rfl)
theorem dX2_longest_76 : decode cX2_longest 76 = .ok (.aload_n 0, 1) := dk_42 (dk_at dksX2_longest_3 7 rfl rfl)
theorem dX2_longest_77 : decode cX2_longest 77 = .ok (.getfield 48, 3) := dk_180 0 48 (dk_at dksX2_longest_3 8 rfl rfl)
theorem dX2_longest_80 : decode cX2_longest 80 = .ok (.bipush 84, 2) := dk_16 84 (dk_at dksX2_longest_3 11 rfl rfl)
theorem dX2_longest_82 : decode cX2_longest 82 = .ok (.iconst 1, 1) := dk_4 (dk_at dksX2_longest_3 13 rfl rfl)
theorem dX2_longest_83 : decode cX2_longest 83 = .ok (.aload_n 0, 1) := dk_42 (dk_at dksX2_longest_3 14 rfl rfl)
theorem dX2_longest_84 : decode cX2_longest 84 = .ok (.getfield 22, 3) := dk_180 0 22 (dk_at dksX2_longest_3 15 rfl rfl)
theorem dX2_longest_87 : decode cX2_longest 87 = .ok (.iload_n 1, 1) := dk_27 (dk_at dksX2_longest_3 18 rfl rfl)
theorem dX2_longest_88 : decode cX2_longest 88 = .ok (.iaload, 1) := dk_46 (dk_at dksX2_longest_3 19 rfl rfl)
theorem dX2_longest_89 : decode cX2_longest 89 = .ok (.ishl, 1) := dk_120 (dk_at dksX2_longest_3 20 rfl rfl)
theorem dX2_longest_90 : decode cX2_longest 90 = .ok (.imul, 1) := dk_104 (dk_at dksX2_longest_3 21 rfl rfl)
theorem dX2_longest_91 : decode cX2_longest 91 = .ok (.iload_n 1, 1) := dk_27 (dk_at dksX2_longest_3 22 rfl rfl)
theorem dX2_longest_92 : decode cX2_longest 92 = .ok (.iadd, 1) := dk_96 (dk_at dksX2_longest_3 23 rfl rfl)
theorem dX2_longest_93 : decode cX2_longest 93 = .ok (.iconst 1, 1) := dk_4 (dk_at dksX2_longest_4 0 rfl rfl)
theorem dX2_longest_94 : decode cX2_longest 94 = .ok (.iastore, 1) := dk_79 (dk_at dksX2_longest_4 1 rfl rfl)
theorem dX2_longest_95 : decode cX2_longest 95 = .ok (.iinc 1 1, 3) := dk_132 1 1 (dk_at dksX2_longest_4 2 rfl rfl)
theorem dX2_longest_98 : decode cX2_longest 98 = .ok (.goto (-39), 3) := dk_167 255 217 (dk_at dksX2_longest_4 5 rfl rfl)
theorem dX2_longest_101 : decode cX2_longest 101 = .ok (.iconst 0, 1) := dk_3 (dk_at dksX2_longest_4 8 rfl rfl)
theorem dX2_longest_102 : decode cX2_longest 102 = .ok (.istore_n 1, 1) := dk_60 (dk_at dksX2_longest_4 9 rfl rfl)
theorem dX2_longest_103 : decode cX2_longest 103 = .ok (.iconst 1, 1) := dk_4 (dk_at dksX2_longest_4 10 rfl rfl)
theorem dX2_longest_104 : decode cX2_longest 104 = .ok (.istore_n 2, 1) := dk_61 (dk_at dksX2_longest_4 11 rfl rfl)
theorem dX2_longest_105 : decode cX2_longest 105 = .ok (.iload_n 2, 1) := dk_28 (dk_at dksX2_longest_4 12 rfl rfl)
theorem dX2_longest_106 : decode cX2_longest 106 = .ok (.iconst 1, 1) := dk_4 (dk_at dksX2_longest_4 13 rfl rfl)
theorem dX2_longest_107 : decode cX2_longest 107 = .ok (.aload_n 0, 1) := dk_42 (dk_at dksX2_longest_4 14 rfl rfl)
theorem dX2_longest_108 : decode cX2_longest 108 = .ok (.getfield 109, 3) := dk_180 0 109 (dk_at dksX2_longest_4 15 rfl rfl)
theorem dX2_longest_111 : decode cX2_longest 111 = .ok (.ishl, 1) := dk_120 (dk_at dksX2_longest_4 18 rfl rfl)
theorem dX2_longest_112 : decode cX2_longest 112 = .ok (.if_icmp .ge 119, 3) := dk_162 0 119 (dk_at dksX2_longest_4 19 rfl rfl)
theorem dX2_longest_115 : decode cX2_longest 115 = .ok (.iconst 0, 1) := dk_3 (dk_at dksX2_longest_4 22 rfl rfl)
theorem dX2_longest_116 : decode cX2_longest 116 = .ok (.istore_n 3, 1) := dk_62 (dk_at dksX2_longest_4 23 rfl rfl)
theorem dX2_longest_117 : decode cX2_longest 117 = .ok (.iload_n 3, 1) := dk_29 (dk_at dksX2_longest_5 0 rfl rfl)
theorem dX2_longest_118 : decode cX2_longest 118 = .ok (.aload_n 0, 1) := dk_42 (dk_at dksX2_longest_5 1 rfl rfl)
theorem dX2_longest_119 : decode cX2_longest 119 = .ok (.getfield 102, 3) := dk_180 0 102 (dk_at dksX2_longest_5 2 rfl rfl)
theorem dX2_longest_122 : decode cX2_longest 122 = .ok (.if_icmp .ge 103, 3) := dk_162 0 103 (dk_at dksX2_longest_5 5 rfl rfl)
theorem dX2_longest_125 : decode cX2_longest 125 = .ok (.aload_n 0, 1) := dk_42 (dk_at dksX2_longest_5 8 rfl rfl)
theorem dX2_longest_126 : decode cX2_longest 126 = .ok (.getfield 48, 3) := dk_180 0 48 (dk_at dksX2_longest_5 9 rfl rfl)
theorem dX2_longest_129 : decode cX2_longest 129 = .ok (.bipush 84, 2) := dk_16 84 (dk_at dksX2_longest_5 12 rfl rfl)
theorem dX2_longest_131 : decode cX2_longest 131 = .ok (.iload_n 2, 1) := dk_28 (dk_at dksX2_longest_5 14 rfl rfl)
theorem dX2_longest_132 : decode cX2_longest 132 = .ok (.imul, 1) := dk_104 (dk_at dksX2_longest_5 15 rfl rfl)
theorem dX2_longest_133 : decode cX2_longest 133 = .ok (.iload_n 3, 1) := dk_29 (dk_at dksX2_longest_5 16 rfl rfl)
theorem dX2_longest_134 : decode cX2_longest 134 = .ok (.iadd, 1) := dk_96 (dk_at dksX2_longest_5 17 rfl rfl)
theorem dX2_longest_135 : decode cX2_longest 135 = .ok (.iaload, 1) := dk_46 (dk_at dksX2_longest_5 18 rfl rfl)
theorem dX2_longest_136 : decode cX2_longest 136 = .ok (.iconst 1, 1) := dk_4 (dk_at dksX2_longest_5 19 rfl rfl)
theorem dX2_longest_137 : decode cX2_longest 137 = .ok (.if_icmp .ne 82, 3) := dk_160 0 82 (dk_at dksX2_longest_5 20 rfl rfl)
theorem dX2_longest_140 : decode cX2_longest 140 = .ok (.iload_n 2, 1) := dk_28 (dk_at dksX2_longest_5 23 rfl rfl)
theorem dX2_longest_141 : decode cX2_longest 141 = .ok (.invokestatic 219, 3) := dk_184 0 219 (dk_at dksX2_longest_6 0 rfl rfl)
theorem dX2_longest_144 : decode cX2_longest 144 = .ok (.iload_n 1, 1) := dk_27 (dk_at dksX2_longest_6 3 rfl rfl)
theorem dX2_longest_145 : decode cX2_longest 145 = .ok (.if_icmp .le 10, 3) := dk_164 0 10 (dk_at dksX2_longest_6 4 rfl rfl)
theorem dX2_longest_148 : decode cX2_longest 148 = .ok (.iload_n 2, 1) := dk_28 (dk_at dksX2_longest_6 7 rfl rfl)
theorem dX2_longest_149 : decode cX2_longest 149 = .ok (.invokestatic 219, 3) := dk_184 0 219 (dk_at dksX2_longest_6 8 rfl rfl)
theorem dX2_longest_152 : decode cX2_longest 152 = .ok (.goto 4, 3) := dk_167 0 4 (dk_at dksX2_longest_6 11 rfl rfl)
theorem dX2_longest_155 : decode cX2_longest 155 = .ok (.iload_n 1, 1) := dk_27 (dk_at dksX2_longest_6 14 rfl rfl)
theorem dX2_longest_156 : decode cX2_longest 156 = .ok (.istore_n 1, 1) := dk_60 (dk_at dksX2_longest_6 15 rfl rfl)
theorem dX2_longest_157 : decode cX2_longest 157 = .ok (.iconst 0, 1) := dk_3 (dk_at dksX2_longest_6 16 rfl rfl)
theorem dX2_longest_158 : decode cX2_longest 158 = .ok (.istore 4, 2) := dk_54 4 (dk_at dksX2_longest_6 17 rfl rfl)
theorem dX2_longest_160 : decode cX2_longest 160 = .ok (.iload 4, 2) := dk_21 4 (dk_at dksX2_longest_6 19 rfl rfl)
theorem dX2_longest_162 : decode cX2_longest 162 = .ok (.aload_n 0, 1) := dk_42 (dk_at dksX2_longest_6 21 rfl rfl)
theorem dX2_longest_163 : decode cX2_longest 163 = .ok (.getfield 102, 3) := dk_180 0 102 (dk_at dksX2_longest_7 0 rfl rfl)
theorem dX2_longest_166 : decode cX2_longest 166 = .ok (.if_icmp .ge 53, 3) := dk_162 0 53 (dk_at dksX2_longest_7 3 rfl rfl)
theorem dX2_longest_169 : decode cX2_longest 169 = .ok (.aload_n 0, 1) := dk_42 (dk_at dksX2_longest_7 6 rfl rfl)
theorem dX2_longest_170 : decode cX2_longest 170 = .ok (.iload_n 2, 1) := dk_28 (dk_at dksX2_longest_7 7 rfl rfl)
theorem dX2_longest_171 : decode cX2_longest 171 = .ok (.iload 4, 2) := dk_21 4 (dk_at dksX2_longest_7 8 rfl rfl)
theorem dX2_longest_173 : decode cX2_longest 173 = .ok (.invokevirtual 215, 3) := dk_182 0 215 (dk_at dksX2_longest_7 10 rfl rfl)
theorem dX2_longest_176 : decode cX2_longest 176 = .ok (.ifCond .eq 37, 3) := dk_153 0 37 (dk_at dksX2_longest_7 13 rfl rfl)
theorem dX2_longest_179 : decode cX2_longest 179 = .ok (.aload_n 0, 1) := dk_42 (dk_at dksX2_longest_7 16 rfl rfl)
theorem dX2_longest_180 : decode cX2_longest 180 = .ok (.iload_n 3, 1) := dk_29 (dk_at dksX2_longest_7 17 rfl rfl)
theorem dX2_longest_181 : decode cX2_longest 181 = .ok (.iload 4, 2) := dk_21 4 (dk_at dksX2_longest_7 18 rfl rfl)
theorem dX2_longest_183 : decode cX2_longest 183 = .ok (.invokevirtual 222, 3) := dk_182 0 222 (dk_at dksX2_longest_7 20 rfl rfl)
theorem dX2_longest_186 : decode cX2_longest 186 = .ok (.iconst 2, 1) := dk_5 (dk_at dksX2_longest_7 23 rfl rfl)
theorem dX2_longest_187 : decode cX2_longest 187 = .ok (.if_icmp .ne 26, 3) := dk_160 0 26 (dk_at dksX2_longest_8 0 rfl rfl)
theorem dX2_longest_190 : decode cX2_longest 190 = .ok (.aload_n 0, 1) := dk_42 (dk_at dksX2_longest_8 3 rfl rfl)
theorem dX2_longest_191 : decode cX2_longest 191 = .ok (.getfield 48, 3) := dk_180 0 48 (dk_at dksX2_longest_8 4 rfl rfl)
theorem dX2_longest_194 : decode cX2_longest 194 = .ok (.bipush 84, 2) := dk_16 84 (dk_at dksX2_longest_8 7 rfl rfl)
theorem dX2_longest_196 : decode cX2_longest 196 = .ok (.iload_n 2, 1) := dk_28 (dk_at dksX2_longest_8 9 rfl rfl)
theorem dX2_longest_197 : decode cX2_longest 197 = .ok (.iconst 1, 1) := dk_4 (dk_at dksX2_longest_8 10 rfl rfl)
theorem dX2_longest_198 : decode cX2_longest 198 = .ok (.aload_n 0, 1) := dk_42 (dk_at dksX2_longest_8 11 rfl rfl)
theorem dX2_longest_199 : decode cX2_longest 199 = .ok (.getfield 22, 3) := dk_180 0 22 (dk_at dksX2_longest_8 12 rfl rfl)
theorem dX2_longest_202 : decode cX2_longest 202 = .ok (.iload 4, 2) := dk_21 4 (dk_at dksX2_longest_8 15 rfl rfl)
theorem dX2_longest_204 : decode cX2_longest 204 = .ok (.iaload, 1) := dk_46 (dk_at dksX2_longest_8 17 rfl rfl)
theorem dX2_longest_205 : decode cX2_longest 205 = .ok (.ishl, 1) := dk_120 (dk_at dksX2_longest_8 18 rfl rfl)
theorem dX2_longest_206 : decode cX2_longest 206 = .ok (.ior, 1) := dk_128 (dk_at dksX2_longest_8 19 rfl rfl)
theorem dX2_longest_207 : decode cX2_longest 207 = .ok (.imul, 1) := dk_104 (dk_at dksX2_longest_8 20 rfl rfl)
theorem dX2_longest_208 : decode cX2_longest 208 = .ok (.iload 4, 2) := dk_21 4 (dk_at dksX2_longest_8 21 rfl rfl)
theorem dX2_longest_210 : decode cX2_longest 210 = .ok (.iadd, 1) := dk_96 (dk_at dksX2_longest_8 23 rfl rfl)
theorem dX2_longest_211 : decode cX2_longest 211 = .ok (.iconst 1, 1) := dk_4 (dk_at dksX2_longest_9 0 rfl rfl)
theorem dX2_longest_212 : decode cX2_longest 212 = .ok (.iastore, 1) := dk_79 (dk_at dksX2_longest_9 1 rfl rfl)
theorem dX2_longest_213 : decode cX2_longest 213 = .ok (.iinc 4 1, 3) := dk_132 4 1 (dk_at dksX2_longest_9 2 rfl rfl)
theorem dX2_longest_216 : decode cX2_longest 216 = .ok (.goto (-56), 3) := dk_167 255 200 (dk_at dksX2_longest_9 5 rfl rfl)
theorem dX2_longest_219 : decode cX2_longest 219 = .ok (.iinc 3 1, 3) := dk_132 3 1 (dk_at dksX2_longest_9 8 rfl rfl)
theorem dX2_longest_222 : decode cX2_longest 222 = .ok (.goto (-105), 3) := dk_167 255 151 (dk_at dksX2_longest_9 11 rfl rfl)
theorem dX2_longest_225 : decode cX2_longest 225 = .ok (.iinc 2 1, 3) := dk_132 2 1 (dk_at dksX2_longest_9 14 rfl rfl)
theorem dX2_longest_228 : decode cX2_longest 228 = .ok (.goto (-123), 3) := dk_167 255 133 (dk_at dksX2_longest_9 17 rfl rfl)
theorem dX2_longest_231 : decode cX2_longest 231 = .ok (.iload_n 1, 1) := dk_27 (dk_at dksX2_longest_9 20 rfl rfl)
theorem dX2_longest_232 : decode cX2_longest 232 = .ok (.ireturn, 1) := dk_172 (dk_at dksX2_longest_9 21 rfl rfl)
abbrev cX2_mayTake : ByteArray := prog_10_method_49_code
def yX2_mayTake : MethodName := ⟨RX2, "mayTake", "(II)Z"⟩
def dkwX2_mayTake_1 : List UInt8 := [167, 0, 4, 3, 172]
abbrev dktX2_mayTake_1 : List UInt8 := dkwX2_mayTake_1 ++ []
def dkwX2_mayTake_0 : List UInt8 := [27, 42, 180, 0, 22, 28, 46, 122, 4, 126, 154, 0, 16, 42, 28, 182, 0, 147, 2, 160, 0, 7, 4]
abbrev dktX2_mayTake_0 : List UInt8 := dkwX2_mayTake_0 ++ dktX2_mayTake_1
theorem dksX2_mayTake_0 : cX2_mayTake.data.toList.drop 0 = dktX2_mayTake_0 := by decide +kernel
theorem dksX2_mayTake_1 : cX2_mayTake.data.toList.drop 23 = dktX2_mayTake_1 := dk_seg dksX2_mayTake_0 23 rfl rfl
theorem dX2_mayTake_0 : decode cX2_mayTake 0 = .ok (.iload_n 1, 1) := dk_27 (dk_at dksX2_mayTake_0 0 rfl rfl)
theorem dX2_mayTake_1 : decode cX2_mayTake 1 = .ok (.aload_n 0, 1) := dk_42 (dk_at dksX2_mayTake_0 1 rfl rfl)
theorem dX2_mayTake_2 : decode cX2_mayTake 2 = .ok (.getfield 22, 3) := dk_180 0 22 (dk_at dksX2_mayTake_0 2 rfl rfl)
theorem dX2_mayTake_5 : decode cX2_mayTake 5 = .ok (.iload_n 2, 1) := dk_28 (dk_at dksX2_mayTake_0 5 rfl rfl)
theorem dX2_mayTake_6 : decode cX2_mayTake 6 = .ok (.iaload, 1) := dk_46 (dk_at dksX2_mayTake_0 6 rfl rfl)
theorem dX2_mayTake_7 : decode cX2_mayTake 7 = .ok (.ishr, 1) := dk_122 (dk_at dksX2_mayTake_0 7 rfl rfl)
theorem dX2_mayTake_8 : decode cX2_mayTake 8 = .ok (.iconst 1, 1) := dk_4 (dk_at dksX2_mayTake_0 8 rfl rfl)
theorem dX2_mayTake_9 : decode cX2_mayTake 9 = .ok (.iand, 1) := dk_126 (dk_at dksX2_mayTake_0 9 rfl rfl)
theorem dX2_mayTake_10 : decode cX2_mayTake 10 = .ok (.ifCond .ne 16, 3) := dk_154 0 16 (dk_at dksX2_mayTake_0 10 rfl rfl)
theorem dX2_mayTake_13 : decode cX2_mayTake 13 = .ok (.aload_n 0, 1) := dk_42 (dk_at dksX2_mayTake_0 13 rfl rfl)
theorem dX2_mayTake_14 : decode cX2_mayTake 14 = .ok (.iload_n 2, 1) := dk_28 (dk_at dksX2_mayTake_0 14 rfl rfl)
theorem dX2_mayTake_15 : decode cX2_mayTake 15 = .ok (.invokevirtual 147, 3) := dk_182 0 147 (dk_at dksX2_mayTake_0 15 rfl rfl)
theorem dX2_mayTake_18 : decode cX2_mayTake 18 = .ok (.iconst (-1), 1) := dk_2 (dk_at dksX2_mayTake_0 18 rfl rfl)
theorem dX2_mayTake_19 : decode cX2_mayTake 19 = .ok (.if_icmp .ne 7, 3) := dk_160 0 7 (dk_at dksX2_mayTake_0 19 rfl rfl)
theorem dX2_mayTake_22 : decode cX2_mayTake 22 = .ok (.iconst 1, 1) := dk_4 (dk_at dksX2_mayTake_0 22 rfl rfl)
theorem dX2_mayTake_23 : decode cX2_mayTake 23 = .ok (.goto 4, 3) := dk_167 0 4 (dk_at dksX2_mayTake_1 0 rfl rfl)
theorem dX2_mayTake_26 : decode cX2_mayTake 26 = .ok (.iconst 0, 1) := dk_3 (dk_at dksX2_mayTake_1 3 rfl rfl)
theorem dX2_mayTake_27 : decode cX2_mayTake 27 = .ok (.ireturn, 1) := dk_172 (dk_at dksX2_mayTake_1 4 rfl rfl)
abbrev cX2_ones : ByteArray := prog_10_method_50_code
def yX2_ones : MethodName := ⟨RX2, "ones", "(I)I"⟩
def dkwX2_ones_1 : List UInt8 := [27, 172]
abbrev dktX2_ones_1 : List UInt8 := dkwX2_ones_1 ++ []
def dkwX2_ones_0 : List UInt8 := [3, 60, 3, 61, 28, 16, 10, 162, 0, 17, 27, 26, 28, 122, 4, 126, 96, 60, 132, 2, 1, 167, 255, 239]
abbrev dktX2_ones_0 : List UInt8 := dkwX2_ones_0 ++ dktX2_ones_1
theorem dksX2_ones_0 : cX2_ones.data.toList.drop 0 = dktX2_ones_0 := by decide +kernel
theorem dksX2_ones_1 : cX2_ones.data.toList.drop 24 = dktX2_ones_1 := dk_seg dksX2_ones_0 24 rfl rfl
theorem dX2_ones_0 : decode cX2_ones 0 = .ok (.iconst 0, 1) := dk_3 (dk_at dksX2_ones_0 0 rfl rfl)
theorem dX2_ones_1 : decode cX2_ones 1 = .ok (.istore_n 1, 1) := dk_60 (dk_at dksX2_ones_0 1 rfl rfl)
theorem dX2_ones_2 : decode cX2_ones 2 = .ok (.iconst 0, 1) := dk_3 (dk_at dksX2_ones_0 2 rfl rfl)
theorem dX2_ones_3 : decode cX2_ones 3 = .ok (.istore_n 2, 1) := dk_61 (dk_at dksX2_ones_0 3 rfl rfl)
theorem dX2_ones_4 : decode cX2_ones 4 = .ok (.iload_n 2, 1) := dk_28 (dk_at dksX2_ones_0 4 rfl rfl)
theorem dX2_ones_5 : decode cX2_ones 5 = .ok (.bipush 10, 2) := dk_16 10 (dk_at dksX2_ones_0 5 rfl rfl)
theorem dX2_ones_7 : decode cX2_ones 7 = .ok (.if_icmp .ge 17, 3) := dk_162 0 17 (dk_at dksX2_ones_0 7 rfl rfl)
theorem dX2_ones_10 : decode cX2_ones 10 = .ok (.iload_n 1, 1) := dk_27 (dk_at dksX2_ones_0 10 rfl rfl)
theorem dX2_ones_11 : decode cX2_ones 11 = .ok (.iload_n 0, 1) := dk_26 (dk_at dksX2_ones_0 11 rfl rfl)
theorem dX2_ones_12 : decode cX2_ones 12 = .ok (.iload_n 2, 1) := dk_28 (dk_at dksX2_ones_0 12 rfl rfl)
theorem dX2_ones_13 : decode cX2_ones 13 = .ok (.ishr, 1) := dk_122 (dk_at dksX2_ones_0 13 rfl rfl)
theorem dX2_ones_14 : decode cX2_ones 14 = .ok (.iconst 1, 1) := dk_4 (dk_at dksX2_ones_0 14 rfl rfl)
theorem dX2_ones_15 : decode cX2_ones 15 = .ok (.iand, 1) := dk_126 (dk_at dksX2_ones_0 15 rfl rfl)
theorem dX2_ones_16 : decode cX2_ones 16 = .ok (.iadd, 1) := dk_96 (dk_at dksX2_ones_0 16 rfl rfl)
theorem dX2_ones_17 : decode cX2_ones 17 = .ok (.istore_n 1, 1) := dk_60 (dk_at dksX2_ones_0 17 rfl rfl)
theorem dX2_ones_18 : decode cX2_ones 18 = .ok (.iinc 2 1, 3) := dk_132 2 1 (dk_at dksX2_ones_0 18 rfl rfl)
theorem dX2_ones_21 : decode cX2_ones 21 = .ok (.goto (-17), 3) := dk_167 255 239 (dk_at dksX2_ones_0 21 rfl rfl)
theorem dX2_ones_24 : decode cX2_ones 24 = .ok (.iload_n 1, 1) := dk_27 (dk_at dksX2_ones_1 0 rfl rfl)
theorem dX2_ones_25 : decode cX2_ones 25 = .ok (.ireturn, 1) := dk_172 (dk_at dksX2_ones_1 1 rfl rfl)
abbrev cX2_inCommon : ByteArray := prog_10_method_48_code
def yX2_inCommon : MethodName := ⟨RX2, "inCommon", "(II)I"⟩
def dkwX2_inCommon_2 : List UInt8 := [4, 167, 0, 4, 3, 96, 62, 132, 5, 1, 167, 255, 214, 132, 4, 1, 167, 255, 199, 29, 172]
abbrev dktX2_inCommon_2 : List UInt8 := dkwX2_inCommon_2 ++ []
def dkwX2_inCommon_1 : List UInt8 := [180, 0, 19, 6, 27, 104, 21, 4, 96, 46, 42, 180, 0, 19, 6, 28, 104, 21, 5, 96, 46, 160, 0, 7]
abbrev dktX2_inCommon_1 : List UInt8 := dkwX2_inCommon_1 ++ dktX2_inCommon_2
def dkwX2_inCommon_0 : List UInt8 := [3, 62, 3, 54, 4, 21, 4, 6, 162, 0, 57, 3, 54, 5, 21, 5, 6, 162, 0, 42, 29, 42]
abbrev dktX2_inCommon_0 : List UInt8 := dkwX2_inCommon_0 ++ dktX2_inCommon_1
theorem dksX2_inCommon_0 : cX2_inCommon.data.toList.drop 0 = dktX2_inCommon_0 := by decide +kernel
theorem dksX2_inCommon_1 : cX2_inCommon.data.toList.drop 22 = dktX2_inCommon_1 := dk_seg dksX2_inCommon_0 22 rfl rfl
theorem dksX2_inCommon_2 : cX2_inCommon.data.toList.drop 46 = dktX2_inCommon_2 := dk_seg dksX2_inCommon_1 24 rfl rfl
theorem dX2_inCommon_0 : decode cX2_inCommon 0 = .ok (.iconst 0, 1) := dk_3 (dk_at dksX2_inCommon_0 0 rfl rfl)
theorem dX2_inCommon_1 : decode cX2_inCommon 1 = .ok (.istore_n 3, 1) := dk_62 (dk_at dksX2_inCommon_0 1 rfl rfl)
theorem dX2_inCommon_2 : decode cX2_inCommon 2 = .ok (.iconst 0, 1) := dk_3 (dk_at dksX2_inCommon_0 2 rfl rfl)
theorem dX2_inCommon_3 : decode cX2_inCommon 3 = .ok (.istore 4, 2) := dk_54 4 (dk_at dksX2_inCommon_0 3 rfl rfl)
theorem dX2_inCommon_5 : decode cX2_inCommon 5 = .ok (.iload 4, 2) := dk_21 4 (dk_at dksX2_inCommon_0 5 rfl rfl)
theorem dX2_inCommon_7 : decode cX2_inCommon 7 = .ok (.iconst 3, 1) := dk_6 (dk_at dksX2_inCommon_0 7 rfl rfl)
theorem dX2_inCommon_8 : decode cX2_inCommon 8 = .ok (.if_icmp .ge 57, 3) := dk_162 0 57 (dk_at dksX2_inCommon_0 8 rfl rfl)
theorem dX2_inCommon_11 : decode cX2_inCommon 11 = .ok (.iconst 0, 1) := dk_3 (dk_at dksX2_inCommon_0 11 rfl rfl)
theorem dX2_inCommon_12 : decode cX2_inCommon 12 = .ok (.istore 5, 2) := dk_54 5 (dk_at dksX2_inCommon_0 12 rfl rfl)
theorem dX2_inCommon_14 : decode cX2_inCommon 14 = .ok (.iload 5, 2) := dk_21 5 (dk_at dksX2_inCommon_0 14 rfl rfl)
theorem dX2_inCommon_16 : decode cX2_inCommon 16 = .ok (.iconst 3, 1) := dk_6 (dk_at dksX2_inCommon_0 16 rfl rfl)
theorem dX2_inCommon_17 : decode cX2_inCommon 17 = .ok (.if_icmp .ge 42, 3) := dk_162 0 42 (dk_at dksX2_inCommon_0 17 rfl rfl)
theorem dX2_inCommon_20 : decode cX2_inCommon 20 = .ok (.iload_n 3, 1) := dk_29 (dk_at dksX2_inCommon_0 20 rfl rfl)
theorem dX2_inCommon_21 : decode cX2_inCommon 21 = .ok (.aload_n 0, 1) := dk_42 (dk_at dksX2_inCommon_0 21 rfl rfl)
theorem dX2_inCommon_22 : decode cX2_inCommon 22 = .ok (.getfield 19, 3) := dk_180 0 19 (dk_at dksX2_inCommon_1 0 rfl rfl)
theorem dX2_inCommon_25 : decode cX2_inCommon 25 = .ok (.iconst 3, 1) := dk_6 (dk_at dksX2_inCommon_1 3 rfl rfl)
theorem dX2_inCommon_26 : decode cX2_inCommon 26 = .ok (.iload_n 1, 1) := dk_27 (dk_at dksX2_inCommon_1 4 rfl rfl)
theorem dX2_inCommon_27 : decode cX2_inCommon 27 = .ok (.imul, 1) := dk_104 (dk_at dksX2_inCommon_1 5 rfl rfl)
theorem dX2_inCommon_28 : decode cX2_inCommon 28 = .ok (.iload 4, 2) := dk_21 4 (dk_at dksX2_inCommon_1 6 rfl rfl)
theorem dX2_inCommon_30 : decode cX2_inCommon 30 = .ok (.iadd, 1) := dk_96 (dk_at dksX2_inCommon_1 8 rfl rfl)
theorem dX2_inCommon_31 : decode cX2_inCommon 31 = .ok (.iaload, 1) := dk_46 (dk_at dksX2_inCommon_1 9 rfl rfl)
theorem dX2_inCommon_32 : decode cX2_inCommon 32 = .ok (.aload_n 0, 1) := dk_42 (dk_at dksX2_inCommon_1 10 rfl rfl)
theorem dX2_inCommon_33 : decode cX2_inCommon 33 = .ok (.getfield 19, 3) := dk_180 0 19 (dk_at dksX2_inCommon_1 11 rfl rfl)
theorem dX2_inCommon_36 : decode cX2_inCommon 36 = .ok (.iconst 3, 1) := dk_6 (dk_at dksX2_inCommon_1 14 rfl rfl)
theorem dX2_inCommon_37 : decode cX2_inCommon 37 = .ok (.iload_n 2, 1) := dk_28 (dk_at dksX2_inCommon_1 15 rfl rfl)
theorem dX2_inCommon_38 : decode cX2_inCommon 38 = .ok (.imul, 1) := dk_104 (dk_at dksX2_inCommon_1 16 rfl rfl)
theorem dX2_inCommon_39 : decode cX2_inCommon 39 = .ok (.iload 5, 2) := dk_21 5 (dk_at dksX2_inCommon_1 17 rfl rfl)
theorem dX2_inCommon_41 : decode cX2_inCommon 41 = .ok (.iadd, 1) := dk_96 (dk_at dksX2_inCommon_1 19 rfl rfl)
theorem dX2_inCommon_42 : decode cX2_inCommon 42 = .ok (.iaload, 1) := dk_46 (dk_at dksX2_inCommon_1 20 rfl rfl)
theorem dX2_inCommon_43 : decode cX2_inCommon 43 = .ok (.if_icmp .ne 7, 3) := dk_160 0 7 (dk_at dksX2_inCommon_1 21 rfl rfl)
theorem dX2_inCommon_46 : decode cX2_inCommon 46 = .ok (.iconst 1, 1) := dk_4 (dk_at dksX2_inCommon_2 0 rfl rfl)
theorem dX2_inCommon_47 : decode cX2_inCommon 47 = .ok (.goto 4, 3) := dk_167 0 4 (dk_at dksX2_inCommon_2 1 rfl rfl)
theorem dX2_inCommon_50 : decode cX2_inCommon 50 = .ok (.iconst 0, 1) := dk_3 (dk_at dksX2_inCommon_2 4 rfl rfl)
theorem dX2_inCommon_51 : decode cX2_inCommon 51 = .ok (.iadd, 1) := dk_96 (dk_at dksX2_inCommon_2 5 rfl rfl)
theorem dX2_inCommon_52 : decode cX2_inCommon 52 = .ok (.istore_n 3, 1) := dk_62 (dk_at dksX2_inCommon_2 6 rfl rfl)
theorem dX2_inCommon_53 : decode cX2_inCommon 53 = .ok (.iinc 5 1, 3) := dk_132 5 1 (dk_at dksX2_inCommon_2 7 rfl rfl)
theorem dX2_inCommon_56 : decode cX2_inCommon 56 = .ok (.goto (-42), 3) := dk_167 255 214 (dk_at dksX2_inCommon_2 10 rfl rfl)
theorem dX2_inCommon_59 : decode cX2_inCommon 59 = .ok (.iinc 4 1, 3) := dk_132 4 1 (dk_at dksX2_inCommon_2 13 rfl rfl)
theorem dX2_inCommon_62 : decode cX2_inCommon 62 = .ok (.goto (-57), 3) := dk_167 255 199 (dk_at dksX2_inCommon_2 16 rfl rfl)
theorem dX2_inCommon_65 : decode cX2_inCommon 65 = .ok (.iload_n 3, 1) := dk_29 (dk_at dksX2_inCommon_2 19 rfl rfl)
theorem dX2_inCommon_66 : decode cX2_inCommon 66 = .ok (.ireturn, 1) := dk_172 (dk_at dksX2_inCommon_2 20 rfl rfl)
abbrev cX2_game : ByteArray := prog_10_method_53_code
def yX2_game : MethodName := ⟨RX2, "game", "(II)I"⟩
def dkwX2_game_9 : List UInt8 := [167, 0, 4, 4, 172]
abbrev dktX2_game_9 : List UInt8 := dkwX2_game_9 ++ []
def dkwX2_game_8 : List UInt8 := [29, 62, 132, 4, 255, 167, 255, 231, 28, 4, 160, 0, 7, 29, 167, 0, 13, 29, 2, 160, 0, 7, 3]
abbrev dktX2_game_8 : List UInt8 := dkwX2_game_8 ++ dktX2_game_9
def dkwX2_game_7 : List UInt8 := [4, 100, 54, 4, 21, 4, 155, 0, 26, 42, 3, 21, 4, 182, 0, 225, 153, 0, 8, 21, 4, 167, 0, 4]
abbrev dktX2_game_7 : List UInt8 := dkwX2_game_7 ++ dktX2_game_8
def dkwX2_game_6 : List UInt8 := [21, 4, 96, 21, 5, 79, 132, 4, 1, 167, 255, 175, 132, 3, 255, 167, 255, 162, 2, 62, 42, 180, 0, 102]
abbrev dktX2_game_6 : List UInt8 := dkwX2_game_6 ++ dktX2_game_7
def dkwX2_game_5 : List UInt8 := [153, 0, 7, 4, 167, 0, 4, 3, 54, 5, 132, 6, 1, 167, 255, 210, 42, 180, 0, 48, 16, 84, 29, 104]
abbrev dktX2_game_5 : List UInt8 := dkwX2_game_5 ++ dktX2_game_6
def dkwX2_game_4 : List UInt8 := [21, 5, 154, 0, 38, 42, 21, 6, 21, 4, 182, 0, 222, 27, 160, 0, 17, 42, 29, 21, 6, 182, 0, 225]
abbrev dktX2_game_4 : List UInt8 := dkwX2_game_4 ++ dktX2_game_5
def dkwX2_game_3 : List UInt8 := [21, 4, 42, 180, 0, 102, 162, 0, 78, 3, 54, 5, 3, 54, 6, 21, 6, 42, 180, 0, 102, 162, 0, 43]
abbrev dktX2_game_3 : List UInt8 := dkwX2_game_3 ++ dktX2_game_4
def dkwX2_game_2 : List UInt8 := [180, 0, 212, 4, 96, 181, 0, 212, 4, 42, 180, 0, 109, 120, 4, 100, 62, 29, 158, 0, 96, 3, 54, 4]
abbrev dktX2_game_2 : List UInt8 := dkwX2_game_2 ++ dktX2_game_3
def dkwX2_game_1 : List UInt8 := [172, 42, 180, 0, 109, 16, 10, 163, 0, 12, 42, 180, 0, 212, 16, 30, 160, 0, 6, 16, 153, 172, 42, 89]
abbrev dktX2_game_1 : List UInt8 := dkwX2_game_1 ++ dktX2_game_2
def dkwX2_game_0 : List UInt8 := [27, 133, 9, 20, 0, 145, 184, 0, 88, 153, 0, 13, 28, 133, 9, 10, 184, 0, 88, 154, 0, 6, 16, 154]
abbrev dktX2_game_0 : List UInt8 := dkwX2_game_0 ++ dktX2_game_1
theorem dksX2_game_0 : cX2_game.data.toList.drop 0 = dktX2_game_0 := by decide +kernel
theorem dksX2_game_1 : cX2_game.data.toList.drop 24 = dktX2_game_1 := dk_seg dksX2_game_0 24 rfl rfl
theorem dksX2_game_2 : cX2_game.data.toList.drop 48 = dktX2_game_2 := dk_seg dksX2_game_1 24 rfl rfl
theorem dksX2_game_3 : cX2_game.data.toList.drop 72 = dktX2_game_3 := dk_seg dksX2_game_2 24 rfl rfl
theorem dksX2_game_4 : cX2_game.data.toList.drop 96 = dktX2_game_4 := dk_seg dksX2_game_3 24 rfl rfl
theorem dksX2_game_5 : cX2_game.data.toList.drop 120 = dktX2_game_5 := dk_seg dksX2_game_4 24 rfl rfl
theorem dksX2_game_6 : cX2_game.data.toList.drop 144 = dktX2_game_6 := dk_seg dksX2_game_5 24 rfl rfl
theorem dksX2_game_7 : cX2_game.data.toList.drop 168 = dktX2_game_7 := dk_seg dksX2_game_6 24 rfl rfl
theorem dksX2_game_8 : cX2_game.data.toList.drop 192 = dktX2_game_8 := dk_seg dksX2_game_7 24 rfl rfl
theorem dksX2_game_9 : cX2_game.data.toList.drop 215 = dktX2_game_9 := dk_seg dksX2_game_8 23 rfl rfl
theorem dX2_game_0 : decode cX2_game 0 = .ok (.iload_n 1, 1) := dk_27 (dk_at dksX2_game_0 0 rfl rfl)
theorem dX2_game_1 : decode cX2_game 1 = .ok (.i2l, 1) := dk_133 (dk_at dksX2_game_0 1 rfl rfl)
theorem dX2_game_2 : decode cX2_game 2 = .ok (.lconst 0, 1) := dk_9 (dk_at dksX2_game_0 2 rfl rfl)
theorem dX2_game_3 : decode cX2_game 3 = .ok (.ldc2_w 145, 3) := dk_20 0 145 (dk_at dksX2_game_0 3 rfl rfl)
theorem dX2_game_6 : decode cX2_game 6 = .ok (.invokestatic 88, 3) := dk_184 0 88 (dk_at dksX2_game_0 6 rfl rfl)
theorem dX2_game_9 : decode cX2_game 9 = .ok (.ifCond .eq 13, 3) := dk_153 0 13 (dk_at dksX2_game_0 9 rfl rfl)
theorem dX2_game_12 : decode cX2_game 12 = .ok (.iload_n 2, 1) := dk_28 (dk_at dksX2_game_0 12 rfl rfl)
theorem dX2_game_13 : decode cX2_game 13 = .ok (.i2l, 1) := dk_133 (dk_at dksX2_game_0 13 rfl rfl)
theorem dX2_game_14 : decode cX2_game 14 = .ok (.lconst 0, 1) := dk_9 (dk_at dksX2_game_0 14 rfl rfl)
theorem dX2_game_15 : decode cX2_game 15 = .ok (.lconst 1, 1) := dk_10 (dk_at dksX2_game_0 15 rfl rfl)
theorem dX2_game_16 : decode cX2_game 16 = .ok (.invokestatic 88, 3) := dk_184 0 88 (dk_at dksX2_game_0 16 rfl rfl)
theorem dX2_game_19 : decode cX2_game 19 = .ok (.ifCond .ne 6, 3) := dk_154 0 6 (dk_at dksX2_game_0 19 rfl rfl)
theorem dX2_game_22 : decode cX2_game 22 = .ok (.bipush (-102), 2) := dk_16 154 (dk_at dksX2_game_0 22 rfl rfl)
theorem dX2_game_24 : decode cX2_game 24 = .ok (.ireturn, 1) := dk_172 (dk_at dksX2_game_1 0 rfl rfl)
theorem dX2_game_25 : decode cX2_game 25 = .ok (.aload_n 0, 1) := dk_42 (dk_at dksX2_game_1 1 rfl rfl)
theorem dX2_game_26 : decode cX2_game 26 = .ok (.getfield 109, 3) := dk_180 0 109 (dk_at dksX2_game_1 2 rfl rfl)
theorem dX2_game_29 : decode cX2_game 29 = .ok (.bipush 10, 2) := dk_16 10 (dk_at dksX2_game_1 5 rfl rfl)
theorem dX2_game_31 : decode cX2_game 31 = .ok (.if_icmp .gt 12, 3) := dk_163 0 12 (dk_at dksX2_game_1 7 rfl rfl)
theorem dX2_game_34 : decode cX2_game 34 = .ok (.aload_n 0, 1) := dk_42 (dk_at dksX2_game_1 10 rfl rfl)
theorem dX2_game_35 : decode cX2_game 35 = .ok (.getfield 212, 3) := dk_180 0 212 (dk_at dksX2_game_1 11 rfl rfl)
theorem dX2_game_38 : decode cX2_game 38 = .ok (.bipush 30, 2) := dk_16 30 (dk_at dksX2_game_1 14 rfl rfl)
theorem dX2_game_40 : decode cX2_game 40 = .ok (.if_icmp .ne 6, 3) := dk_160 0 6 (dk_at dksX2_game_1 16 rfl rfl)
theorem dX2_game_43 : decode cX2_game 43 = .ok (.bipush (-103), 2) := dk_16 153 (dk_at dksX2_game_1 19 rfl rfl)
theorem dX2_game_45 : decode cX2_game 45 = .ok (.ireturn, 1) := dk_172 (dk_at dksX2_game_1 21 rfl rfl)
theorem dX2_game_46 : decode cX2_game 46 = .ok (.aload_n 0, 1) := dk_42 (dk_at dksX2_game_1 22 rfl rfl)
theorem dX2_game_47 : decode cX2_game 47 = .ok (.dup, 1) := dk_89 (dk_at dksX2_game_1 23 rfl rfl)
theorem dX2_game_48 : decode cX2_game 48 = .ok (.getfield 212, 3) := dk_180 0 212 (dk_at dksX2_game_2 0 rfl rfl)
theorem dX2_game_51 : decode cX2_game 51 = .ok (.iconst 1, 1) := dk_4 (dk_at dksX2_game_2 3 rfl rfl)
theorem dX2_game_52 : decode cX2_game 52 = .ok (.iadd, 1) := dk_96 (dk_at dksX2_game_2 4 rfl rfl)
theorem dX2_game_53 : decode cX2_game 53 = .ok (.putfield 212, 3) := dk_181 0 212 (dk_at dksX2_game_2 5 rfl rfl)
theorem dX2_game_56 : decode cX2_game 56 = .ok (.iconst 1, 1) := dk_4 (dk_at dksX2_game_2 8 rfl rfl)
theorem dX2_game_57 : decode cX2_game 57 = .ok (.aload_n 0, 1) := dk_42 (dk_at dksX2_game_2 9 rfl rfl)
theorem dX2_game_58 : decode cX2_game 58 = .ok (.getfield 109, 3) := dk_180 0 109 (dk_at dksX2_game_2 10 rfl rfl)
theorem dX2_game_61 : decode cX2_game 61 = .ok (.ishl, 1) := dk_120 (dk_at dksX2_game_2 13 rfl rfl)
theorem dX2_game_62 : decode cX2_game 62 = .ok (.iconst 1, 1) := dk_4 (dk_at dksX2_game_2 14 rfl rfl)
theorem dX2_game_63 : decode cX2_game 63 = .ok (.isub, 1) := dk_100 (dk_at dksX2_game_2 15 rfl rfl)
theorem dX2_game_64 : decode cX2_game 64 = .ok (.istore_n 3, 1) := dk_62 (dk_at dksX2_game_2 16 rfl rfl)
theorem dX2_game_65 : decode cX2_game 65 = .ok (.iload_n 3, 1) := dk_29 (dk_at dksX2_game_2 17 rfl rfl)
theorem dX2_game_66 : decode cX2_game 66 = .ok (.ifCond .le 96, 3) := dk_158 0 96 (dk_at dksX2_game_2 18 rfl rfl)
theorem dX2_game_69 : decode cX2_game 69 = .ok (.iconst 0, 1) := dk_3 (dk_at dksX2_game_2 21 rfl rfl)
theorem dX2_game_70 : decode cX2_game 70 = .ok (.istore 4, 2) := dk_54 4 (dk_at dksX2_game_2 22 rfl rfl)
theorem dX2_game_72 : decode cX2_game 72 = .ok (.iload 4, 2) := dk_21 4 (dk_at dksX2_game_3 0 rfl rfl)
theorem dX2_game_74 : decode cX2_game 74 = .ok (.aload_n 0, 1) := dk_42 (dk_at dksX2_game_3 2 rfl rfl)
theorem dX2_game_75 : decode cX2_game 75 = .ok (.getfield 102, 3) := dk_180 0 102 (dk_at dksX2_game_3 3 rfl rfl)
theorem dX2_game_78 : decode cX2_game 78 = .ok (.if_icmp .ge 78, 3) := dk_162 0 78 (dk_at dksX2_game_3 6 rfl rfl)
theorem dX2_game_81 : decode cX2_game 81 = .ok (.iconst 0, 1) := dk_3 (dk_at dksX2_game_3 9 rfl rfl)
theorem dX2_game_82 : decode cX2_game 82 = .ok (.istore 5, 2) := dk_54 5 (dk_at dksX2_game_3 10 rfl rfl)
theorem dX2_game_84 : decode cX2_game 84 = .ok (.iconst 0, 1) := dk_3 (dk_at dksX2_game_3 12 rfl rfl)
theorem dX2_game_85 : decode cX2_game 85 = .ok (.istore 6, 2) := dk_54 6 (dk_at dksX2_game_3 13 rfl rfl)
theorem dX2_game_87 : decode cX2_game 87 = .ok (.iload 6, 2) := dk_21 6 (dk_at dksX2_game_3 15 rfl rfl)
theorem dX2_game_89 : decode cX2_game 89 = .ok (.aload_n 0, 1) := dk_42 (dk_at dksX2_game_3 17 rfl rfl)
theorem dX2_game_90 : decode cX2_game 90 = .ok (.getfield 102, 3) := dk_180 0 102 (dk_at dksX2_game_3 18 rfl rfl)
theorem dX2_game_93 : decode cX2_game 93 = .ok (.if_icmp .ge 43, 3) := dk_162 0 43 (dk_at dksX2_game_3 21 rfl rfl)
theorem dX2_game_96 : decode cX2_game 96 = .ok (.iload 5, 2) := dk_21 5 (dk_at dksX2_game_4 0 rfl rfl)
theorem dX2_game_98 : decode cX2_game 98 = .ok (.ifCond .ne 38, 3) := dk_154 0 38 (dk_at dksX2_game_4 2 rfl rfl)
theorem dX2_game_101 : decode cX2_game 101 = .ok (.aload_n 0, 1) := dk_42 (dk_at dksX2_game_4 5 rfl rfl)
theorem dX2_game_102 : decode cX2_game 102 = .ok (.iload 6, 2) := dk_21 6 (dk_at dksX2_game_4 6 rfl rfl)
theorem dX2_game_104 : decode cX2_game 104 = .ok (.iload 4, 2) := dk_21 4 (dk_at dksX2_game_4 8 rfl rfl)
theorem dX2_game_106 : decode cX2_game 106 = .ok (.invokevirtual 222, 3) := dk_182 0 222 (dk_at dksX2_game_4 10 rfl rfl)
theorem dX2_game_109 : decode cX2_game 109 = .ok (.iload_n 1, 1) := dk_27 (dk_at dksX2_game_4 13 rfl rfl)
theorem dX2_game_110 : decode cX2_game 110 = .ok (.if_icmp .ne 17, 3) := dk_160 0 17 (dk_at dksX2_game_4 14 rfl rfl)
theorem dX2_game_113 : decode cX2_game 113 = .ok (.aload_n 0, 1) := dk_42 (dk_at dksX2_game_4 17 rfl rfl)
theorem dX2_game_114 : decode cX2_game 114 = .ok (.iload_n 3, 1) := dk_29 (dk_at dksX2_game_4 18 rfl rfl)
theorem dX2_game_115 : decode cX2_game 115 = .ok (.iload 6, 2) := dk_21 6 (dk_at dksX2_game_4 19 rfl rfl)
theorem dX2_game_117 : decode cX2_game 117 = .ok (.invokevirtual 225, 3) := dk_182 0 225 (dk_at dksX2_game_4 21 rfl rfl)
theorem dX2_game_120 : decode cX2_game 120 = .ok (.ifCond .eq 7, 3) := dk_153 0 7 (dk_at dksX2_game_5 0 rfl rfl)
theorem dX2_game_123 : decode cX2_game 123 = .ok (.iconst 1, 1) := dk_4 (dk_at dksX2_game_5 3 rfl rfl)
theorem dX2_game_124 : decode cX2_game 124 = .ok (.goto 4, 3) := dk_167 0 4 (dk_at dksX2_game_5 4 rfl rfl)
theorem dX2_game_127 : decode cX2_game 127 = .ok (.iconst 0, 1) := dk_3 (dk_at dksX2_game_5 7 rfl rfl)
theorem dX2_game_128 : decode cX2_game 128 = .ok (.istore 5, 2) := dk_54 5 (dk_at dksX2_game_5 8 rfl rfl)
theorem dX2_game_130 : decode cX2_game 130 = .ok (.iinc 6 1, 3) := dk_132 6 1 (dk_at dksX2_game_5 10 rfl rfl)
theorem dX2_game_133 : decode cX2_game 133 = .ok (.goto (-46), 3) := dk_167 255 210 (dk_at dksX2_game_5 13 rfl rfl)
theorem dX2_game_136 : decode cX2_game 136 = .ok (.aload_n 0, 1) := dk_42 (dk_at dksX2_game_5 16 rfl rfl)
theorem dX2_game_137 : decode cX2_game 137 = .ok (.getfield 48, 3) := dk_180 0 48 (dk_at dksX2_game_5 17 rfl rfl)
theorem dX2_game_140 : decode cX2_game 140 = .ok (.bipush 84, 2) := dk_16 84 (dk_at dksX2_game_5 20 rfl rfl)
theorem dX2_game_142 : decode cX2_game 142 = .ok (.iload_n 3, 1) := dk_29 (dk_at dksX2_game_5 22 rfl rfl)
theorem dX2_game_143 : decode cX2_game 143 = .ok (.imul, 1) := dk_104 (dk_at dksX2_game_5 23 rfl rfl)
theorem dX2_game_144 : decode cX2_game 144 = .ok (.iload 4, 2) := dk_21 4 (dk_at dksX2_game_6 0 rfl rfl)
theorem dX2_game_146 : decode cX2_game 146 = .ok (.iadd, 1) := dk_96 (dk_at dksX2_game_6 2 rfl rfl)
theorem dX2_game_147 : decode cX2_game 147 = .ok (.iload 5, 2) := dk_21 5 (dk_at dksX2_game_6 3 rfl rfl)
theorem dX2_game_149 : decode cX2_game 149 = .ok (.iastore, 1) := dk_79 (dk_at dksX2_game_6 5 rfl rfl)
theorem dX2_game_150 : decode cX2_game 150 = .ok (.iinc 4 1, 3) := dk_132 4 1 (dk_at dksX2_game_6 6 rfl rfl)
theorem dX2_game_153 : decode cX2_game 153 = .ok (.goto (-81), 3) := dk_167 255 175 (dk_at dksX2_game_6 9 rfl rfl)
theorem dX2_game_156 : decode cX2_game 156 = .ok (.iinc 3 (-1), 3) := dk_132 3 255 (dk_at dksX2_game_6 12 rfl rfl)
theorem dX2_game_159 : decode cX2_game 159 = .ok (.goto (-94), 3) := dk_167 255 162 (dk_at dksX2_game_6 15 rfl rfl)
theorem dX2_game_162 : decode cX2_game 162 = .ok (.iconst (-1), 1) := dk_2 (dk_at dksX2_game_6 18 rfl rfl)
theorem dX2_game_163 : decode cX2_game 163 = .ok (.istore_n 3, 1) := dk_62 (dk_at dksX2_game_6 19 rfl rfl)
theorem dX2_game_164 : decode cX2_game 164 = .ok (.aload_n 0, 1) := dk_42 (dk_at dksX2_game_6 20 rfl rfl)
theorem dX2_game_165 : decode cX2_game 165 = .ok (.getfield 102, 3) := dk_180 0 102 (dk_at dksX2_game_6 21 rfl rfl)
theorem dX2_game_168 : decode cX2_game 168 = .ok (.iconst 1, 1) := dk_4 (dk_at dksX2_game_7 0 rfl rfl)
theorem dX2_game_169 : decode cX2_game 169 = .ok (.isub, 1) := dk_100 (dk_at dksX2_game_7 1 rfl rfl)
theorem dX2_game_170 : decode cX2_game 170 = .ok (.istore 4, 2) := dk_54 4 (dk_at dksX2_game_7 2 rfl rfl)
theorem dX2_game_172 : decode cX2_game 172 = .ok (.iload 4, 2) := dk_21 4 (dk_at dksX2_game_7 4 rfl rfl)
theorem dX2_game_174 : decode cX2_game 174 = .ok (.ifCond .lt 26, 3) := dk_155 0 26 (dk_at dksX2_game_7 6 rfl rfl)
theorem dX2_game_177 : decode cX2_game 177 = .ok (.aload_n 0, 1) := dk_42 (dk_at dksX2_game_7 9 rfl rfl)
theorem dX2_game_178 : decode cX2_game 178 = .ok (.iconst 0, 1) := dk_3 (dk_at dksX2_game_7 10 rfl rfl)
theorem dX2_game_179 : decode cX2_game 179 = .ok (.iload 4, 2) := dk_21 4 (dk_at dksX2_game_7 11 rfl rfl)
theorem dX2_game_181 : decode cX2_game 181 = .ok (.invokevirtual 225, 3) := dk_182 0 225 (dk_at dksX2_game_7 13 rfl rfl)
theorem dX2_game_184 : decode cX2_game 184 = .ok (.ifCond .eq 8, 3) := dk_153 0 8 (dk_at dksX2_game_7 16 rfl rfl)
theorem dX2_game_187 : decode cX2_game 187 = .ok (.iload 4, 2) := dk_21 4 (dk_at dksX2_game_7 19 rfl rfl)
theorem dX2_game_189 : decode cX2_game 189 = .ok (.goto 4, 3) := dk_167 0 4 (dk_at dksX2_game_7 21 rfl rfl)
theorem dX2_game_192 : decode cX2_game 192 = .ok (.iload_n 3, 1) := dk_29 (dk_at dksX2_game_8 0 rfl rfl)
theorem dX2_game_193 : decode cX2_game 193 = .ok (.istore_n 3, 1) := dk_62 (dk_at dksX2_game_8 1 rfl rfl)
theorem dX2_game_194 : decode cX2_game 194 = .ok (.iinc 4 (-1), 3) := dk_132 4 255 (dk_at dksX2_game_8 2 rfl rfl)
theorem dX2_game_197 : decode cX2_game 197 = .ok (.goto (-25), 3) := dk_167 255 231 (dk_at dksX2_game_8 5 rfl rfl)
theorem dX2_game_200 : decode cX2_game 200 = .ok (.iload_n 2, 1) := dk_28 (dk_at dksX2_game_8 8 rfl rfl)
theorem dX2_game_201 : decode cX2_game 201 = .ok (.iconst 1, 1) := dk_4 (dk_at dksX2_game_8 9 rfl rfl)
theorem dX2_game_202 : decode cX2_game 202 = .ok (.if_icmp .ne 7, 3) := dk_160 0 7 (dk_at dksX2_game_8 10 rfl rfl)
theorem dX2_game_205 : decode cX2_game 205 = .ok (.iload_n 3, 1) := dk_29 (dk_at dksX2_game_8 13 rfl rfl)
theorem dX2_game_206 : decode cX2_game 206 = .ok (.goto 13, 3) := dk_167 0 13 (dk_at dksX2_game_8 14 rfl rfl)
theorem dX2_game_209 : decode cX2_game 209 = .ok (.iload_n 3, 1) := dk_29 (dk_at dksX2_game_8 17 rfl rfl)
theorem dX2_game_210 : decode cX2_game 210 = .ok (.iconst (-1), 1) := dk_2 (dk_at dksX2_game_8 18 rfl rfl)
theorem dX2_game_211 : decode cX2_game 211 = .ok (.if_icmp .ne 7, 3) := dk_160 0 7 (dk_at dksX2_game_8 19 rfl rfl)
theorem dX2_game_214 : decode cX2_game 214 = .ok (.iconst 0, 1) := dk_3 (dk_at dksX2_game_8 22 rfl rfl)
theorem dX2_game_215 : decode cX2_game 215 = .ok (.goto 4, 3) := dk_167 0 4 (dk_at dksX2_game_9 0 rfl rfl)
theorem dX2_game_218 : decode cX2_game 218 = .ok (.iconst 1, 1) := dk_4 (dk_at dksX2_game_9 3 rfl rfl)
theorem dX2_game_219 : decode cX2_game 219 = .ok (.ireturn, 1) := dk_172 (dk_at dksX2_game_9 4 rfl rfl)
abbrev cX2_isGood : ByteArray := prog_10_method_52_code
def yX2_isGood : MethodName := ⟨RX2, "isGood", "(II)Z"⟩
def dkwX2_isGood_1 : List UInt8 := [128, 104, 28, 96, 46, 154, 0, 7, 4, 167, 0, 4, 3, 172]
abbrev dktX2_isGood_1 : List UInt8 := dkwX2_isGood_1 ++ []
def dkwX2_isGood_0 : List UInt8 := [42, 27, 28, 182, 0, 215, 153, 0, 30, 42, 180, 0, 48, 16, 84, 27, 4, 42, 180, 0, 22, 28, 46, 120]
abbrev dktX2_isGood_0 : List UInt8 := dkwX2_isGood_0 ++ dktX2_isGood_1
theorem dksX2_isGood_0 : cX2_isGood.data.toList.drop 0 = dktX2_isGood_0 := by decide +kernel
theorem dksX2_isGood_1 : cX2_isGood.data.toList.drop 24 = dktX2_isGood_1 := dk_seg dksX2_isGood_0 24 rfl rfl
theorem dX2_isGood_0 : decode cX2_isGood 0 = .ok (.aload_n 0, 1) := dk_42 (dk_at dksX2_isGood_0 0 rfl rfl)
theorem dX2_isGood_1 : decode cX2_isGood 1 = .ok (.iload_n 1, 1) := dk_27 (dk_at dksX2_isGood_0 1 rfl rfl)
theorem dX2_isGood_2 : decode cX2_isGood 2 = .ok (.iload_n 2, 1) := dk_28 (dk_at dksX2_isGood_0 2 rfl rfl)
theorem dX2_isGood_3 : decode cX2_isGood 3 = .ok (.invokevirtual 215, 3) := dk_182 0 215 (dk_at dksX2_isGood_0 3 rfl rfl)
theorem dX2_isGood_6 : decode cX2_isGood 6 = .ok (.ifCond .eq 30, 3) := dk_153 0 30 (dk_at dksX2_isGood_0 6 rfl rfl)
theorem dX2_isGood_9 : decode cX2_isGood 9 = .ok (.aload_n 0, 1) := dk_42 (dk_at dksX2_isGood_0 9 rfl rfl)
theorem dX2_isGood_10 : decode cX2_isGood 10 = .ok (.getfield 48, 3) := dk_180 0 48 (dk_at dksX2_isGood_0 10 rfl rfl)
theorem dX2_isGood_13 : decode cX2_isGood 13 = .ok (.bipush 84, 2) := dk_16 84 (dk_at dksX2_isGood_0 13 rfl rfl)
theorem dX2_isGood_15 : decode cX2_isGood 15 = .ok (.iload_n 1, 1) := dk_27 (dk_at dksX2_isGood_0 15 rfl rfl)
theorem dX2_isGood_16 : decode cX2_isGood 16 = .ok (.iconst 1, 1) := dk_4 (dk_at dksX2_isGood_0 16 rfl rfl)
theorem dX2_isGood_17 : decode cX2_isGood 17 = .ok (.aload_n 0, 1) := dk_42 (dk_at dksX2_isGood_0 17 rfl rfl)
theorem dX2_isGood_18 : decode cX2_isGood 18 = .ok (.getfield 22, 3) := dk_180 0 22 (dk_at dksX2_isGood_0 18 rfl rfl)
theorem dX2_isGood_21 : decode cX2_isGood 21 = .ok (.iload_n 2, 1) := dk_28 (dk_at dksX2_isGood_0 21 rfl rfl)
theorem dX2_isGood_22 : decode cX2_isGood 22 = .ok (.iaload, 1) := dk_46 (dk_at dksX2_isGood_0 22 rfl rfl)
theorem dX2_isGood_23 : decode cX2_isGood 23 = .ok (.ishl, 1) := dk_120 (dk_at dksX2_isGood_0 23 rfl rfl)
theorem dX2_isGood_24 : decode cX2_isGood 24 = .ok (.ior, 1) := dk_128 (dk_at dksX2_isGood_1 0 rfl rfl)
theorem dX2_isGood_25 : decode cX2_isGood 25 = .ok (.imul, 1) := dk_104 (dk_at dksX2_isGood_1 1 rfl rfl)
theorem dX2_isGood_26 : decode cX2_isGood 26 = .ok (.iload_n 2, 1) := dk_28 (dk_at dksX2_isGood_1 2 rfl rfl)
theorem dX2_isGood_27 : decode cX2_isGood 27 = .ok (.iadd, 1) := dk_96 (dk_at dksX2_isGood_1 3 rfl rfl)
theorem dX2_isGood_28 : decode cX2_isGood 28 = .ok (.iaload, 1) := dk_46 (dk_at dksX2_isGood_1 4 rfl rfl)
theorem dX2_isGood_29 : decode cX2_isGood 29 = .ok (.ifCond .ne 7, 3) := dk_154 0 7 (dk_at dksX2_isGood_1 5 rfl rfl)
theorem dX2_isGood_32 : decode cX2_isGood 32 = .ok (.iconst 1, 1) := dk_4 (dk_at dksX2_isGood_1 8 rfl rfl)
theorem dX2_isGood_33 : decode cX2_isGood 33 = .ok (.goto 4, 3) := dk_167 0 4 (dk_at dksX2_isGood_1 9 rfl rfl)
theorem dX2_isGood_36 : decode cX2_isGood 36 = .ok (.iconst 0, 1) := dk_3 (dk_at dksX2_isGood_1 12 rfl rfl)
theorem dX2_isGood_37 : decode cX2_isGood 37 = .ok (.ireturn, 1) := dk_172 (dk_at dksX2_isGood_1 13 rfl rfl)
abbrev cX2_broken : ByteArray := prog_10_method_55_code
def yX2_broken : MethodName := ⟨RX2, "broken", "(I)I"⟩
def dkwX2_broken_0 : List UInt8 := [42, 27, 182, 0, 139, 153, 0, 11, 42, 27, 182, 0, 228, 167, 0, 5, 16, 155, 172]
abbrev dktX2_broken_0 : List UInt8 := dkwX2_broken_0 ++ []
theorem dksX2_broken_0 : cX2_broken.data.toList.drop 0 = dktX2_broken_0 := by decide +kernel
theorem dX2_broken_0 : decode cX2_broken 0 = .ok (.aload_n 0, 1) := dk_42 (dk_at dksX2_broken_0 0 rfl rfl)
theorem dX2_broken_1 : decode cX2_broken 1 = .ok (.iload_n 1, 1) := dk_27 (dk_at dksX2_broken_0 1 rfl rfl)
theorem dX2_broken_2 : decode cX2_broken 2 = .ok (.invokevirtual 139, 3) := dk_182 0 139 (dk_at dksX2_broken_0 2 rfl rfl)
theorem dX2_broken_5 : decode cX2_broken 5 = .ok (.ifCond .eq 11, 3) := dk_153 0 11 (dk_at dksX2_broken_0 5 rfl rfl)
theorem dX2_broken_8 : decode cX2_broken 8 = .ok (.aload_n 0, 1) := dk_42 (dk_at dksX2_broken_0 8 rfl rfl)
theorem dX2_broken_9 : decode cX2_broken 9 = .ok (.iload_n 1, 1) := dk_27 (dk_at dksX2_broken_0 9 rfl rfl)
theorem dX2_broken_10 : decode cX2_broken 10 = .ok (.invokevirtual 228, 3) := dk_182 0 228 (dk_at dksX2_broken_0 10 rfl rfl)
theorem dX2_broken_13 : decode cX2_broken 13 = .ok (.goto 5, 3) := dk_167 0 5 (dk_at dksX2_broken_0 13 rfl rfl)
theorem dX2_broken_16 : decode cX2_broken 16 = .ok (.bipush (-101), 2) := dk_16 155 (dk_at dksX2_broken_0 16 rfl rfl)
theorem dX2_broken_18 : decode cX2_broken 18 = .ok (.ireturn, 1) := dk_172 (dk_at dksX2_broken_0 18 rfl rfl)
abbrev cX2_brokenOf : ByteArray := prog_10_method_54_code
def yX2_brokenOf : MethodName := ⟨RX2, "brokenOf", "(I)I"⟩
def dkwX2_brokenOf_5 : List UInt8 := [167, 255, 158, 28, 21, 4, 153, 0, 7, 4, 167, 0, 4, 3, 96, 61, 132, 3, 1, 167, 255, 125, 28, 172]
abbrev dktX2_brokenOf_5 : List UInt8 := dkwX2_brokenOf_5 ++ []
def dkwX2_brokenOf_4 : List UInt8 := [21, 6, 153, 0, 15, 42, 29, 182, 0, 154, 153, 0, 7, 4, 167, 0, 4, 3, 54, 4, 132, 5, 1]
abbrev dktX2_brokenOf_4 : List UInt8 := dkwX2_brokenOf_4 ++ dktX2_brokenOf_5
def dkwX2_brokenOf_3 : List UInt8 := [46, 27, 159, 0, 7, 4, 167, 0, 4, 3, 54, 6, 42, 180, 0, 22, 21, 5, 46, 29, 160, 0, 20]
abbrev dktX2_brokenOf_3 : List UInt8 := dkwX2_brokenOf_3 ++ dktX2_brokenOf_4
def dkwX2_brokenOf_2 : List UInt8 := [180, 0, 19, 6, 21, 5, 104, 4, 96, 46, 27, 159, 0, 22, 42, 180, 0, 19, 6, 21, 5, 104, 5, 96]
abbrev dktX2_brokenOf_2 : List UInt8 := dkwX2_brokenOf_2 ++ dktX2_brokenOf_3
def dkwX2_brokenOf_1 : List UInt8 := [162, 0, 95, 21, 4, 154, 0, 90, 42, 180, 0, 19, 6, 21, 5, 104, 46, 27, 159, 0, 37, 42]
abbrev dktX2_brokenOf_1 : List UInt8 := dkwX2_brokenOf_1 ++ dktX2_brokenOf_2
def dkwX2_brokenOf_0 : List UInt8 := [3, 61, 3, 62, 29, 42, 180, 0, 109, 162, 0, 129, 3, 54, 4, 3, 54, 5, 21, 5, 42, 180, 0, 102]
abbrev dktX2_brokenOf_0 : List UInt8 := dkwX2_brokenOf_0 ++ dktX2_brokenOf_1
theorem dksX2_brokenOf_0 : cX2_brokenOf.data.toList.drop 0 = dktX2_brokenOf_0 := by decide +kernel
theorem dksX2_brokenOf_1 : cX2_brokenOf.data.toList.drop 24 = dktX2_brokenOf_1 := dk_seg dksX2_brokenOf_0 24 rfl rfl
theorem dksX2_brokenOf_2 : cX2_brokenOf.data.toList.drop 46 = dktX2_brokenOf_2 := dk_seg dksX2_brokenOf_1 22 rfl rfl
theorem dksX2_brokenOf_3 : cX2_brokenOf.data.toList.drop 70 = dktX2_brokenOf_3 := dk_seg dksX2_brokenOf_2 24 rfl rfl
theorem dksX2_brokenOf_4 : cX2_brokenOf.data.toList.drop 93 = dktX2_brokenOf_4 := dk_seg dksX2_brokenOf_3 23 rfl rfl
theorem dksX2_brokenOf_5 : cX2_brokenOf.data.toList.drop 116 = dktX2_brokenOf_5 := dk_seg dksX2_brokenOf_4 23 rfl rfl
theorem dX2_brokenOf_0 : decode cX2_brokenOf 0 = .ok (.iconst 0, 1) := dk_3 (dk_at dksX2_brokenOf_0 0 rfl rfl)
theorem dX2_brokenOf_1 : decode cX2_brokenOf 1 = .ok (.istore_n 2, 1) := dk_61 (dk_at dksX2_brokenOf_0 1 rfl rfl)
theorem dX2_brokenOf_2 : decode cX2_brokenOf 2 = .ok (.iconst 0, 1) := dk_3 (dk_at dksX2_brokenOf_0 2 rfl rfl)
theorem dX2_brokenOf_3 : decode cX2_brokenOf 3 = .ok (.istore_n 3, 1) := dk_62 (dk_at dksX2_brokenOf_0 3 rfl rfl)
theorem dX2_brokenOf_4 : decode cX2_brokenOf 4 = .ok (.iload_n 3, 1) := dk_29 (dk_at dksX2_brokenOf_0 4 rfl rfl)
theorem dX2_brokenOf_5 : decode cX2_brokenOf 5 = .ok (.aload_n 0, 1) := dk_42 (dk_at dksX2_brokenOf_0 5 rfl rfl)
theorem dX2_brokenOf_6 : decode cX2_brokenOf 6 = .ok (.getfield 109, 3) := dk_180 0 109 (dk_at dksX2_brokenOf_0 6 rfl rfl)
theorem dX2_brokenOf_9 : decode cX2_brokenOf 9 = .ok (.if_icmp .ge 129, 3) := dk_162 0 129 (dk_at dksX2_brokenOf_0 9 rfl rfl)
theorem dX2_brokenOf_12 : decode cX2_brokenOf 12 = .ok (.iconst 0, 1) := dk_3 (dk_at dksX2_brokenOf_0 12 rfl rfl)
theorem dX2_brokenOf_13 : decode cX2_brokenOf 13 = .ok (.istore 4, 2) := dk_54 4 (dk_at dksX2_brokenOf_0 13 rfl rfl)
theorem dX2_brokenOf_15 : decode cX2_brokenOf 15 = .ok (.iconst 0, 1) := dk_3 (dk_at dksX2_brokenOf_0 15 rfl rfl)
theorem dX2_brokenOf_16 : decode cX2_brokenOf 16 = .ok (.istore 5, 2) := dk_54 5 (dk_at dksX2_brokenOf_0 16 rfl rfl)
theorem dX2_brokenOf_18 : decode cX2_brokenOf 18 = .ok (.iload 5, 2) := dk_21 5 (dk_at dksX2_brokenOf_0 18 rfl rfl)
theorem dX2_brokenOf_20 : decode cX2_brokenOf 20 = .ok (.aload_n 0, 1) := dk_42 (dk_at dksX2_brokenOf_0 20 rfl rfl)
theorem dX2_brokenOf_21 : decode cX2_brokenOf 21 = .ok (.getfield 102, 3) := dk_180 0 102 (dk_at dksX2_brokenOf_0 21 rfl rfl)
theorem dX2_brokenOf_24 : decode cX2_brokenOf 24 = .ok (.if_icmp .ge 95, 3) := dk_162 0 95 (dk_at dksX2_brokenOf_1 0 rfl rfl)
theorem dX2_brokenOf_27 : decode cX2_brokenOf 27 = .ok (.iload 4, 2) := dk_21 4 (dk_at dksX2_brokenOf_1 3 rfl rfl)
theorem dX2_brokenOf_29 : decode cX2_brokenOf 29 = .ok (.ifCond .ne 90, 3) := dk_154 0 90 (dk_at dksX2_brokenOf_1 5 rfl rfl)
theorem dX2_brokenOf_32 : decode cX2_brokenOf 32 = .ok (.aload_n 0, 1) := dk_42 (dk_at dksX2_brokenOf_1 8 rfl rfl)
theorem dX2_brokenOf_33 : decode cX2_brokenOf 33 = .ok (.getfield 19, 3) := dk_180 0 19 (dk_at dksX2_brokenOf_1 9 rfl rfl)
theorem dX2_brokenOf_36 : decode cX2_brokenOf 36 = .ok (.iconst 3, 1) := dk_6 (dk_at dksX2_brokenOf_1 12 rfl rfl)
theorem dX2_brokenOf_37 : decode cX2_brokenOf 37 = .ok (.iload 5, 2) := dk_21 5 (dk_at dksX2_brokenOf_1 13 rfl rfl)
theorem dX2_brokenOf_39 : decode cX2_brokenOf 39 = .ok (.imul, 1) := dk_104 (dk_at dksX2_brokenOf_1 15 rfl rfl)
theorem dX2_brokenOf_40 : decode cX2_brokenOf 40 = .ok (.iaload, 1) := dk_46 (dk_at dksX2_brokenOf_1 16 rfl rfl)
theorem dX2_brokenOf_41 : decode cX2_brokenOf 41 = .ok (.iload_n 1, 1) := dk_27 (dk_at dksX2_brokenOf_1 17 rfl rfl)
theorem dX2_brokenOf_42 : decode cX2_brokenOf 42 = .ok (.if_icmp .eq 37, 3) := dk_159 0 37 (dk_at dksX2_brokenOf_1 18 rfl rfl)
theorem dX2_brokenOf_45 : decode cX2_brokenOf 45 = .ok (.aload_n 0, 1) := dk_42 (dk_at dksX2_brokenOf_1 21 rfl rfl)
theorem dX2_brokenOf_46 : decode cX2_brokenOf 46 = .ok (.getfield 19, 3) := dk_180 0 19 (dk_at dksX2_brokenOf_2 0 rfl rfl)
theorem dX2_brokenOf_49 : decode cX2_brokenOf 49 = .ok (.iconst 3, 1) := dk_6 (dk_at dksX2_brokenOf_2 3 rfl rfl)
theorem dX2_brokenOf_50 : decode cX2_brokenOf 50 = .ok (.iload 5, 2) := dk_21 5 (dk_at dksX2_brokenOf_2 4 rfl rfl)
theorem dX2_brokenOf_52 : decode cX2_brokenOf 52 = .ok (.imul, 1) := dk_104 (dk_at dksX2_brokenOf_2 6 rfl rfl)
theorem dX2_brokenOf_53 : decode cX2_brokenOf 53 = .ok (.iconst 1, 1) := dk_4 (dk_at dksX2_brokenOf_2 7 rfl rfl)
theorem dX2_brokenOf_54 : decode cX2_brokenOf 54 = .ok (.iadd, 1) := dk_96 (dk_at dksX2_brokenOf_2 8 rfl rfl)
theorem dX2_brokenOf_55 : decode cX2_brokenOf 55 = .ok (.iaload, 1) := dk_46 (dk_at dksX2_brokenOf_2 9 rfl rfl)
theorem dX2_brokenOf_56 : decode cX2_brokenOf 56 = .ok (.iload_n 1, 1) := dk_27 (dk_at dksX2_brokenOf_2 10 rfl rfl)
theorem dX2_brokenOf_57 : decode cX2_brokenOf 57 = .ok (.if_icmp .eq 22, 3) := dk_159 0 22 (dk_at dksX2_brokenOf_2 11 rfl rfl)
theorem dX2_brokenOf_60 : decode cX2_brokenOf 60 = .ok (.aload_n 0, 1) := dk_42 (dk_at dksX2_brokenOf_2 14 rfl rfl)
theorem dX2_brokenOf_61 : decode cX2_brokenOf 61 = .ok (.getfield 19, 3) := dk_180 0 19 (dk_at dksX2_brokenOf_2 15 rfl rfl)
theorem dX2_brokenOf_64 : decode cX2_brokenOf 64 = .ok (.iconst 3, 1) := dk_6 (dk_at dksX2_brokenOf_2 18 rfl rfl)
theorem dX2_brokenOf_65 : decode cX2_brokenOf 65 = .ok (.iload 5, 2) := dk_21 5 (dk_at dksX2_brokenOf_2 19 rfl rfl)
theorem dX2_brokenOf_67 : decode cX2_brokenOf 67 = .ok (.imul, 1) := dk_104 (dk_at dksX2_brokenOf_2 21 rfl rfl)
theorem dX2_brokenOf_68 : decode cX2_brokenOf 68 = .ok (.iconst 2, 1) := dk_5 (dk_at dksX2_brokenOf_2 22 rfl rfl)
theorem dX2_brokenOf_69 : decode cX2_brokenOf 69 = .ok (.iadd, 1) := dk_96 (dk_at dksX2_brokenOf_2 23 rfl rfl)
theorem dX2_brokenOf_70 : decode cX2_brokenOf 70 = .ok (.iaload, 1) := dk_46 (dk_at dksX2_brokenOf_3 0 rfl rfl)
theorem dX2_brokenOf_71 : decode cX2_brokenOf 71 = .ok (.iload_n 1, 1) := dk_27 (dk_at dksX2_brokenOf_3 1 rfl rfl)
theorem dX2_brokenOf_72 : decode cX2_brokenOf 72 = .ok (.if_icmp .eq 7, 3) := dk_159 0 7 (dk_at dksX2_brokenOf_3 2 rfl rfl)
theorem dX2_brokenOf_75 : decode cX2_brokenOf 75 = .ok (.iconst 1, 1) := dk_4 (dk_at dksX2_brokenOf_3 5 rfl rfl)
theorem dX2_brokenOf_76 : decode cX2_brokenOf 76 = .ok (.goto 4, 3) := dk_167 0 4 (dk_at dksX2_brokenOf_3 6 rfl rfl)
theorem dX2_brokenOf_79 : decode cX2_brokenOf 79 = .ok (.iconst 0, 1) := dk_3 (dk_at dksX2_brokenOf_3 9 rfl rfl)
theorem dX2_brokenOf_80 : decode cX2_brokenOf 80 = .ok (.istore 6, 2) := dk_54 6 (dk_at dksX2_brokenOf_3 10 rfl rfl)
theorem dX2_brokenOf_82 : decode cX2_brokenOf 82 = .ok (.aload_n 0, 1) := dk_42 (dk_at dksX2_brokenOf_3 12 rfl rfl)
theorem dX2_brokenOf_83 : decode cX2_brokenOf 83 = .ok (.getfield 22, 3) := dk_180 0 22 (dk_at dksX2_brokenOf_3 13 rfl rfl)
theorem dX2_brokenOf_86 : decode cX2_brokenOf 86 = .ok (.iload 5, 2) := dk_21 5 (dk_at dksX2_brokenOf_3 16 rfl rfl)
theorem dX2_brokenOf_88 : decode cX2_brokenOf 88 = .ok (.iaload, 1) := dk_46 (dk_at dksX2_brokenOf_3 18 rfl rfl)
theorem dX2_brokenOf_89 : decode cX2_brokenOf 89 = .ok (.iload_n 3, 1) := dk_29 (dk_at dksX2_brokenOf_3 19 rfl rfl)
theorem dX2_brokenOf_90 : decode cX2_brokenOf 90 = .ok (.if_icmp .ne 20, 3) := dk_160 0 20 (dk_at dksX2_brokenOf_3 20 rfl rfl)
theorem dX2_brokenOf_93 : decode cX2_brokenOf 93 = .ok (.iload 6, 2) := dk_21 6 (dk_at dksX2_brokenOf_4 0 rfl rfl)
theorem dX2_brokenOf_95 : decode cX2_brokenOf 95 = .ok (.ifCond .eq 15, 3) := dk_153 0 15 (dk_at dksX2_brokenOf_4 2 rfl rfl)
theorem dX2_brokenOf_98 : decode cX2_brokenOf 98 = .ok (.aload_n 0, 1) := dk_42 (dk_at dksX2_brokenOf_4 5 rfl rfl)
theorem dX2_brokenOf_99 : decode cX2_brokenOf 99 = .ok (.iload_n 3, 1) := dk_29 (dk_at dksX2_brokenOf_4 6 rfl rfl)
theorem dX2_brokenOf_100 : decode cX2_brokenOf 100 = .ok (.invokevirtual 154, 3) := dk_182 0 154 (dk_at dksX2_brokenOf_4 7 rfl rfl)
theorem dX2_brokenOf_103 : decode cX2_brokenOf 103 = .ok (.ifCond .eq 7, 3) := dk_153 0 7 (dk_at dksX2_brokenOf_4 10 rfl rfl)
theorem dX2_brokenOf_106 : decode cX2_brokenOf 106 = .ok (.iconst 1, 1) := dk_4 (dk_at dksX2_brokenOf_4 13 rfl rfl)
theorem dX2_brokenOf_107 : decode cX2_brokenOf 107 = .ok (.goto 4, 3) := dk_167 0 4 (dk_at dksX2_brokenOf_4 14 rfl rfl)
theorem dX2_brokenOf_110 : decode cX2_brokenOf 110 = .ok (.iconst 0, 1) := dk_3 (dk_at dksX2_brokenOf_4 17 rfl rfl)
theorem dX2_brokenOf_111 : decode cX2_brokenOf 111 = .ok (.istore 4, 2) := dk_54 4 (dk_at dksX2_brokenOf_4 18 rfl rfl)
theorem dX2_brokenOf_113 : decode cX2_brokenOf 113 = .ok (.iinc 5 1, 3) := dk_132 5 1 (dk_at dksX2_brokenOf_4 20 rfl rfl)
theorem dX2_brokenOf_116 : decode cX2_brokenOf 116 = .ok (.goto (-98), 3) := dk_167 255 158 (dk_at dksX2_brokenOf_5 0 rfl rfl)
theorem dX2_brokenOf_119 : decode cX2_brokenOf 119 = .ok (.iload_n 2, 1) := dk_28 (dk_at dksX2_brokenOf_5 3 rfl rfl)
theorem dX2_brokenOf_120 : decode cX2_brokenOf 120 = .ok (.iload 4, 2) := dk_21 4 (dk_at dksX2_brokenOf_5 4 rfl rfl)
theorem dX2_brokenOf_122 : decode cX2_brokenOf 122 = .ok (.ifCond .eq 7, 3) := dk_153 0 7 (dk_at dksX2_brokenOf_5 6 rfl rfl)
theorem dX2_brokenOf_125 : decode cX2_brokenOf 125 = .ok (.iconst 1, 1) := dk_4 (dk_at dksX2_brokenOf_5 9 rfl rfl)
theorem dX2_brokenOf_126 : decode cX2_brokenOf 126 = .ok (.goto 4, 3) := dk_167 0 4 (dk_at dksX2_brokenOf_5 10 rfl rfl)
theorem dX2_brokenOf_129 : decode cX2_brokenOf 129 = .ok (.iconst 0, 1) := dk_3 (dk_at dksX2_brokenOf_5 13 rfl rfl)
theorem dX2_brokenOf_130 : decode cX2_brokenOf 130 = .ok (.iadd, 1) := dk_96 (dk_at dksX2_brokenOf_5 14 rfl rfl)
theorem dX2_brokenOf_131 : decode cX2_brokenOf 131 = .ok (.istore_n 2, 1) := dk_61 (dk_at dksX2_brokenOf_5 15 rfl rfl)
theorem dX2_brokenOf_132 : decode cX2_brokenOf 132 = .ok (.iinc 3 1, 3) := dk_132 3 1 (dk_at dksX2_brokenOf_5 16 rfl rfl)
theorem dX2_brokenOf_135 : decode cX2_brokenOf 135 = .ok (.goto (-131), 3) := dk_167 255 125 (dk_at dksX2_brokenOf_5 19 rfl rfl)
theorem dX2_brokenOf_138 : decode cX2_brokenOf 138 = .ok (.iload_n 2, 1) := dk_28 (dk_at dksX2_brokenOf_5 22 rfl rfl)
theorem dX2_brokenOf_139 : decode cX2_brokenOf 139 = .ok (.ireturn, 1) := dk_172 (dk_at dksX2_brokenOf_5 23 rfl rfl)
abbrev cX2_added : ByteArray := prog_10_method_56_code
def yX2_added : MethodName := ⟨RX2, "added", "()I"⟩
def dkwX2_added_6 : List UInt8 := [132, 3, 1, 167, 255, 237, 28, 172]
abbrev dktX2_added_6 : List UInt8 := dkwX2_added_6 ++ []
def dkwX2_added_5 : List UInt8 := [167, 255, 190, 3, 61, 3, 62, 29, 27, 162, 0, 20, 28, 4, 42, 180, 0, 54, 29, 46, 100, 96, 61]
abbrev dktX2_added_5 : List UInt8 := dkwX2_added_5 ++ dktX2_added_6
def dkwX2_added_4 : List UInt8 := [180, 0, 19, 6, 29, 104, 5, 96, 46, 42, 180, 0, 67, 4, 96, 184, 0, 119, 46, 4, 79, 132, 2, 1]
abbrev dktX2_added_4 : List UInt8 := dkwX2_added_4 ++ dktX2_added_5
def dkwX2_added_3 : List UInt8 := [180, 0, 51, 42, 180, 0, 19, 6, 29, 104, 46, 42, 180, 0, 19, 6, 29, 104, 4, 96, 46, 42]
abbrev dktX2_added_3 : List UInt8 := dkwX2_added_3 ++ dktX2_added_4
def dkwX2_added_2 : List UInt8 := [3, 61, 28, 42, 180, 0, 127, 162, 0, 64, 42, 180, 0, 28, 28, 46, 62, 42, 180, 0, 54, 42]
abbrev dktX2_added_2 : List UInt8 := dkwX2_added_2 ++ dktX2_added_3
def dkwX2_added_1 : List UInt8 := [182, 0, 105, 60, 3, 61, 28, 27, 162, 0, 16, 42, 180, 0, 54, 28, 3, 79, 132, 2, 1, 167, 255, 241]
abbrev dktX2_added_1 : List UInt8 := dkwX2_added_1 ++ dktX2_added_2
def dkwX2_added_0 : List UInt8 := [42, 180, 0, 67, 16, 9, 160, 0, 6, 16, 153, 172, 42, 42, 180, 0, 67, 4, 96, 42, 180, 0, 51]
abbrev dktX2_added_0 : List UInt8 := dkwX2_added_0 ++ dktX2_added_1
theorem dksX2_added_0 : cX2_added.data.toList.drop 0 = dktX2_added_0 := by decide +kernel
theorem dksX2_added_1 : cX2_added.data.toList.drop 23 = dktX2_added_1 := dk_seg dksX2_added_0 23 rfl rfl
theorem dksX2_added_2 : cX2_added.data.toList.drop 47 = dktX2_added_2 := dk_seg dksX2_added_1 24 rfl rfl
theorem dksX2_added_3 : cX2_added.data.toList.drop 69 = dktX2_added_3 := dk_seg dksX2_added_2 22 rfl rfl
theorem dksX2_added_4 : cX2_added.data.toList.drop 91 = dktX2_added_4 := dk_seg dksX2_added_3 22 rfl rfl
theorem dksX2_added_5 : cX2_added.data.toList.drop 115 = dktX2_added_5 := dk_seg dksX2_added_4 24 rfl rfl
theorem dksX2_added_6 : cX2_added.data.toList.drop 138 = dktX2_added_6 := dk_seg dksX2_added_5 23 rfl rfl
theorem dX2_added_0 : decode cX2_added 0 = .ok (.aload_n 0, 1) := dk_42 (dk_at dksX2_added_0 0 rfl rfl)
theorem dX2_added_1 : decode cX2_added 1 = .ok (.getfield 67, 3) := dk_180 0 67 (dk_at dksX2_added_0 1 rfl rfl)
theorem dX2_added_4 : decode cX2_added 4 = .ok (.bipush 9, 2) := dk_16 9 (dk_at dksX2_added_0 4 rfl rfl)
theorem dX2_added_6 : decode cX2_added 6 = .ok (.if_icmp .ne 6, 3) := dk_160 0 6 (dk_at dksX2_added_0 6 rfl rfl)
theorem dX2_added_9 : decode cX2_added 9 = .ok (.bipush (-103), 2) := dk_16 153 (dk_at dksX2_added_0 9 rfl rfl)
theorem dX2_added_11 : decode cX2_added 11 = .ok (.ireturn, 1) := dk_172 (dk_at dksX2_added_0 11 rfl rfl)
theorem dX2_added_12 : decode cX2_added 12 = .ok (.aload_n 0, 1) := dk_42 (dk_at dksX2_added_0 12 rfl rfl)
theorem dX2_added_13 : decode cX2_added 13 = .ok (.aload_n 0, 1) := dk_42 (dk_at dksX2_added_0 13 rfl rfl)
theorem dX2_added_14 : decode cX2_added 14 = .ok (.getfield 67, 3) := dk_180 0 67 (dk_at dksX2_added_0 14 rfl rfl)
theorem dX2_added_17 : decode cX2_added 17 = .ok (.iconst 1, 1) := dk_4 (dk_at dksX2_added_0 17 rfl rfl)
theorem dX2_added_18 : decode cX2_added 18 = .ok (.iadd, 1) := dk_96 (dk_at dksX2_added_0 18 rfl rfl)
theorem dX2_added_19 : decode cX2_added 19 = .ok (.aload_n 0, 1) := dk_42 (dk_at dksX2_added_0 19 rfl rfl)
theorem dX2_added_20 : decode cX2_added 20 = .ok (.getfield 51, 3) := dk_180 0 51 (dk_at dksX2_added_0 20 rfl rfl)
theorem dX2_added_23 : decode cX2_added 23 = .ok (.invokevirtual 105, 3) := dk_182 0 105 (dk_at dksX2_added_1 0 rfl rfl)
theorem dX2_added_26 : decode cX2_added 26 = .ok (.istore_n 1, 1) := dk_60 (dk_at dksX2_added_1 3 rfl rfl)
theorem dX2_added_27 : decode cX2_added 27 = .ok (.iconst 0, 1) := dk_3 (dk_at dksX2_added_1 4 rfl rfl)
theorem dX2_added_28 : decode cX2_added 28 = .ok (.istore_n 2, 1) := dk_61 (dk_at dksX2_added_1 5 rfl rfl)
theorem dX2_added_29 : decode cX2_added 29 = .ok (.iload_n 2, 1) := dk_28 (dk_at dksX2_added_1 6 rfl rfl)
theorem dX2_added_30 : decode cX2_added 30 = .ok (.iload_n 1, 1) := dk_27 (dk_at dksX2_added_1 7 rfl rfl)
theorem dX2_added_31 : decode cX2_added 31 = .ok (.if_icmp .ge 16, 3) := dk_162 0 16 (dk_at dksX2_added_1 8 rfl rfl)
theorem dX2_added_34 : decode cX2_added 34 = .ok (.aload_n 0, 1) := dk_42 (dk_at dksX2_added_1 11 rfl rfl)
theorem dX2_added_35 : decode cX2_added 35 = .ok (.getfield 54, 3) := dk_180 0 54 (dk_at dksX2_added_1 12 rfl rfl)
theorem dX2_added_38 : decode cX2_added 38 = .ok (.iload_n 2, 1) := dk_28 (dk_at dksX2_added_1 15 rfl rfl)
theorem dX2_added_39 : decode cX2_added 39 = .ok (.iconst 0, 1) := dk_3 (dk_at dksX2_added_1 16 rfl rfl)
theorem dX2_added_40 : decode cX2_added 40 = .ok (.iastore, 1) := dk_79 (dk_at dksX2_added_1 17 rfl rfl)
theorem dX2_added_41 : decode cX2_added 41 = .ok (.iinc 2 1, 3) := dk_132 2 1 (dk_at dksX2_added_1 18 rfl rfl)
theorem dX2_added_44 : decode cX2_added 44 = .ok (.goto (-15), 3) := dk_167 255 241 (dk_at dksX2_added_1 21 rfl rfl)
theorem dX2_added_47 : decode cX2_added 47 = .ok (.iconst 0, 1) := dk_3 (dk_at dksX2_added_2 0 rfl rfl)
theorem dX2_added_48 : decode cX2_added 48 = .ok (.istore_n 2, 1) := dk_61 (dk_at dksX2_added_2 1 rfl rfl)
theorem dX2_added_49 : decode cX2_added 49 = .ok (.iload_n 2, 1) := dk_28 (dk_at dksX2_added_2 2 rfl rfl)
theorem dX2_added_50 : decode cX2_added 50 = .ok (.aload_n 0, 1) := dk_42 (dk_at dksX2_added_2 3 rfl rfl)
theorem dX2_added_51 : decode cX2_added 51 = .ok (.getfield 127, 3) := dk_180 0 127 (dk_at dksX2_added_2 4 rfl rfl)
theorem dX2_added_54 : decode cX2_added 54 = .ok (.if_icmp .ge 64, 3) := dk_162 0 64 (dk_at dksX2_added_2 7 rfl rfl)
theorem dX2_added_57 : decode cX2_added 57 = .ok (.aload_n 0, 1) := dk_42 (dk_at dksX2_added_2 10 rfl rfl)
theorem dX2_added_58 : decode cX2_added 58 = .ok (.getfield 28, 3) := dk_180 0 28 (dk_at dksX2_added_2 11 rfl rfl)
theorem dX2_added_61 : decode cX2_added 61 = .ok (.iload_n 2, 1) := dk_28 (dk_at dksX2_added_2 14 rfl rfl)
theorem dX2_added_62 : decode cX2_added 62 = .ok (.iaload, 1) := dk_46 (dk_at dksX2_added_2 15 rfl rfl)
theorem dX2_added_63 : decode cX2_added 63 = .ok (.istore_n 3, 1) := dk_62 (dk_at dksX2_added_2 16 rfl rfl)
theorem dX2_added_64 : decode cX2_added 64 = .ok (.aload_n 0, 1) := dk_42 (dk_at dksX2_added_2 17 rfl rfl)
theorem dX2_added_65 : decode cX2_added 65 = .ok (.getfield 54, 3) := dk_180 0 54 (dk_at dksX2_added_2 18 rfl rfl)
theorem dX2_added_68 : decode cX2_added 68 = .ok (.aload_n 0, 1) := dk_42 (dk_at dksX2_added_2 21 rfl rfl)
theorem dX2_added_69 : decode cX2_added 69 = .ok (.getfield 51, 3) := dk_180 0 51 (dk_at dksX2_added_3 0 rfl rfl)
theorem dX2_added_72 : decode cX2_added 72 = .ok (.aload_n 0, 1) := dk_42 (dk_at dksX2_added_3 3 rfl rfl)
theorem dX2_added_73 : decode cX2_added 73 = .ok (.getfield 19, 3) := dk_180 0 19 (dk_at dksX2_added_3 4 rfl rfl)
theorem dX2_added_76 : decode cX2_added 76 = .ok (.iconst 3, 1) := dk_6 (dk_at dksX2_added_3 7 rfl rfl)
theorem dX2_added_77 : decode cX2_added 77 = .ok (.iload_n 3, 1) := dk_29 (dk_at dksX2_added_3 8 rfl rfl)
theorem dX2_added_78 : decode cX2_added 78 = .ok (.imul, 1) := dk_104 (dk_at dksX2_added_3 9 rfl rfl)
theorem dX2_added_79 : decode cX2_added 79 = .ok (.iaload, 1) := dk_46 (dk_at dksX2_added_3 10 rfl rfl)
theorem dX2_added_80 : decode cX2_added 80 = .ok (.aload_n 0, 1) := dk_42 (dk_at dksX2_added_3 11 rfl rfl)
theorem dX2_added_81 : decode cX2_added 81 = .ok (.getfield 19, 3) := dk_180 0 19 (dk_at dksX2_added_3 12 rfl rfl)
theorem dX2_added_84 : decode cX2_added 84 = .ok (.iconst 3, 1) := dk_6 (dk_at dksX2_added_3 15 rfl rfl)
theorem dX2_added_85 : decode cX2_added 85 = .ok (.iload_n 3, 1) := dk_29 (dk_at dksX2_added_3 16 rfl rfl)
theorem dX2_added_86 : decode cX2_added 86 = .ok (.imul, 1) := dk_104 (dk_at dksX2_added_3 17 rfl rfl)
theorem dX2_added_87 : decode cX2_added 87 = .ok (.iconst 1, 1) := dk_4 (dk_at dksX2_added_3 18 rfl rfl)
theorem dX2_added_88 : decode cX2_added 88 = .ok (.iadd, 1) := dk_96 (dk_at dksX2_added_3 19 rfl rfl)
theorem dX2_added_89 : decode cX2_added 89 = .ok (.iaload, 1) := dk_46 (dk_at dksX2_added_3 20 rfl rfl)
theorem dX2_added_90 : decode cX2_added 90 = .ok (.aload_n 0, 1) := dk_42 (dk_at dksX2_added_3 21 rfl rfl)
theorem dX2_added_91 : decode cX2_added 91 = .ok (.getfield 19, 3) := dk_180 0 19 (dk_at dksX2_added_4 0 rfl rfl)
theorem dX2_added_94 : decode cX2_added 94 = .ok (.iconst 3, 1) := dk_6 (dk_at dksX2_added_4 3 rfl rfl)
theorem dX2_added_95 : decode cX2_added 95 = .ok (.iload_n 3, 1) := dk_29 (dk_at dksX2_added_4 4 rfl rfl)
theorem dX2_added_96 : decode cX2_added 96 = .ok (.imul, 1) := dk_104 (dk_at dksX2_added_4 5 rfl rfl)
theorem dX2_added_97 : decode cX2_added 97 = .ok (.iconst 2, 1) := dk_5 (dk_at dksX2_added_4 6 rfl rfl)
theorem dX2_added_98 : decode cX2_added 98 = .ok (.iadd, 1) := dk_96 (dk_at dksX2_added_4 7 rfl rfl)
theorem dX2_added_99 : decode cX2_added 99 = .ok (.iaload, 1) := dk_46 (dk_at dksX2_added_4 8 rfl rfl)
theorem dX2_added_100 : decode cX2_added 100 = .ok (.aload_n 0, 1) := dk_42 (dk_at dksX2_added_4 9 rfl rfl)
theorem dX2_added_101 : decode cX2_added 101 = .ok (.getfield 67, 3) := dk_180 0 67 (dk_at dksX2_added_4 10 rfl rfl)
theorem dX2_added_104 : decode cX2_added 104 = .ok (.iconst 1, 1) := dk_4 (dk_at dksX2_added_4 13 rfl rfl)
theorem dX2_added_105 : decode cX2_added 105 = .ok (.iadd, 1) := dk_96 (dk_at dksX2_added_4 14 rfl rfl)
theorem dX2_added_106 : decode cX2_added 106 = .ok (.invokestatic 119, 3) := dk_184 0 119 (dk_at dksX2_added_4 15 rfl rfl)
theorem dX2_added_109 : decode cX2_added 109 = .ok (.iaload, 1) := dk_46 (dk_at dksX2_added_4 18 rfl rfl)
theorem dX2_added_110 : decode cX2_added 110 = .ok (.iconst 1, 1) := dk_4 (dk_at dksX2_added_4 19 rfl rfl)
theorem dX2_added_111 : decode cX2_added 111 = .ok (.iastore, 1) := dk_79 (dk_at dksX2_added_4 20 rfl rfl)
theorem dX2_added_112 : decode cX2_added 112 = .ok (.iinc 2 1, 3) := dk_132 2 1 (dk_at dksX2_added_4 21 rfl rfl)
theorem dX2_added_115 : decode cX2_added 115 = .ok (.goto (-66), 3) := dk_167 255 190 (dk_at dksX2_added_5 0 rfl rfl)
theorem dX2_added_118 : decode cX2_added 118 = .ok (.iconst 0, 1) := dk_3 (dk_at dksX2_added_5 3 rfl rfl)
theorem dX2_added_119 : decode cX2_added 119 = .ok (.istore_n 2, 1) := dk_61 (dk_at dksX2_added_5 4 rfl rfl)
theorem dX2_added_120 : decode cX2_added 120 = .ok (.iconst 0, 1) := dk_3 (dk_at dksX2_added_5 5 rfl rfl)
theorem dX2_added_121 : decode cX2_added 121 = .ok (.istore_n 3, 1) := dk_62 (dk_at dksX2_added_5 6 rfl rfl)
theorem dX2_added_122 : decode cX2_added 122 = .ok (.iload_n 3, 1) := dk_29 (dk_at dksX2_added_5 7 rfl rfl)
theorem dX2_added_123 : decode cX2_added 123 = .ok (.iload_n 1, 1) := dk_27 (dk_at dksX2_added_5 8 rfl rfl)
theorem dX2_added_124 : decode cX2_added 124 = .ok (.if_icmp .ge 20, 3) := dk_162 0 20 (dk_at dksX2_added_5 9 rfl rfl)
theorem dX2_added_127 : decode cX2_added 127 = .ok (.iload_n 2, 1) := dk_28 (dk_at dksX2_added_5 12 rfl rfl)
theorem dX2_added_128 : decode cX2_added 128 = .ok (.iconst 1, 1) := dk_4 (dk_at dksX2_added_5 13 rfl rfl)
theorem dX2_added_129 : decode cX2_added 129 = .ok (.aload_n 0, 1) := dk_42 (dk_at dksX2_added_5 14 rfl rfl)
theorem dX2_added_130 : decode cX2_added 130 = .ok (.getfield 54, 3) := dk_180 0 54 (dk_at dksX2_added_5 15 rfl rfl)
theorem dX2_added_133 : decode cX2_added 133 = .ok (.iload_n 3, 1) := dk_29 (dk_at dksX2_added_5 18 rfl rfl)
theorem dX2_added_134 : decode cX2_added 134 = .ok (.iaload, 1) := dk_46 (dk_at dksX2_added_5 19 rfl rfl)
theorem dX2_added_135 : decode cX2_added 135 = .ok (.isub, 1) := dk_100 (dk_at dksX2_added_5 20 rfl rfl)
theorem dX2_added_136 : decode cX2_added 136 = .ok (.iadd, 1) := dk_96 (dk_at dksX2_added_5 21 rfl rfl)
theorem dX2_added_137 : decode cX2_added 137 = .ok (.istore_n 2, 1) := dk_61 (dk_at dksX2_added_5 22 rfl rfl)
theorem dX2_added_138 : decode cX2_added 138 = .ok (.iinc 3 1, 3) := dk_132 3 1 (dk_at dksX2_added_6 0 rfl rfl)
theorem dX2_added_141 : decode cX2_added 141 = .ok (.goto (-19), 3) := dk_167 255 237 (dk_at dksX2_added_6 3 rfl rfl)
theorem dX2_added_144 : decode cX2_added 144 = .ok (.iload_n 2, 1) := dk_28 (dk_at dksX2_added_6 6 rfl rfl)
theorem dX2_added_145 : decode cX2_added 145 = .ok (.ireturn, 1) := dk_172 (dk_at dksX2_added_6 7 rfl rfl)
abbrev cX2_plan : ByteArray := prog_10_method_59_code
def yX2_plan : MethodName := ⟨RX2, "plan", "(II)I"⟩
def dkwX2_plan_1 : List UInt8 := [42, 27, 28, 182, 0, 234, 167, 0, 5, 16, 154, 172]
abbrev dktX2_plan_1 : List UInt8 := dkwX2_plan_1 ++ []
def dkwX2_plan_0 : List UInt8 := [27, 133, 20, 0, 145, 20, 0, 125, 184, 0, 88, 153, 0, 22, 28, 133, 9, 10, 184, 0, 88, 153, 0, 12]
abbrev dktX2_plan_0 : List UInt8 := dkwX2_plan_0 ++ dktX2_plan_1
theorem dksX2_plan_0 : cX2_plan.data.toList.drop 0 = dktX2_plan_0 := by decide +kernel
theorem dksX2_plan_1 : cX2_plan.data.toList.drop 24 = dktX2_plan_1 := dk_seg dksX2_plan_0 24 rfl rfl
theorem dX2_plan_0 : decode cX2_plan 0 = .ok (.iload_n 1, 1) := dk_27 (dk_at dksX2_plan_0 0 rfl rfl)
theorem dX2_plan_1 : decode cX2_plan 1 = .ok (.i2l, 1) := dk_133 (dk_at dksX2_plan_0 1 rfl rfl)
theorem dX2_plan_2 : decode cX2_plan 2 = .ok (.ldc2_w 145, 3) := dk_20 0 145 (dk_at dksX2_plan_0 2 rfl rfl)
theorem dX2_plan_5 : decode cX2_plan 5 = .ok (.ldc2_w 125, 3) := dk_20 0 125 (dk_at dksX2_plan_0 5 rfl rfl)
theorem dX2_plan_8 : decode cX2_plan 8 = .ok (.invokestatic 88, 3) := dk_184 0 88 (dk_at dksX2_plan_0 8 rfl rfl)
theorem dX2_plan_11 : decode cX2_plan 11 = .ok (.ifCond .eq 22, 3) := dk_153 0 22 (dk_at dksX2_plan_0 11 rfl rfl)
theorem dX2_plan_14 : decode cX2_plan 14 = .ok (.iload_n 2, 1) := dk_28 (dk_at dksX2_plan_0 14 rfl rfl)
theorem dX2_plan_15 : decode cX2_plan 15 = .ok (.i2l, 1) := dk_133 (dk_at dksX2_plan_0 15 rfl rfl)
theorem dX2_plan_16 : decode cX2_plan 16 = .ok (.lconst 0, 1) := dk_9 (dk_at dksX2_plan_0 16 rfl rfl)
theorem dX2_plan_17 : decode cX2_plan 17 = .ok (.lconst 1, 1) := dk_10 (dk_at dksX2_plan_0 17 rfl rfl)
theorem dX2_plan_18 : decode cX2_plan 18 = .ok (.invokestatic 88, 3) := dk_184 0 88 (dk_at dksX2_plan_0 18 rfl rfl)
theorem dX2_plan_21 : decode cX2_plan 21 = .ok (.ifCond .eq 12, 3) := dk_153 0 12 (dk_at dksX2_plan_0 21 rfl rfl)
theorem dX2_plan_24 : decode cX2_plan 24 = .ok (.aload_n 0, 1) := dk_42 (dk_at dksX2_plan_1 0 rfl rfl)
theorem dX2_plan_25 : decode cX2_plan 25 = .ok (.iload_n 1, 1) := dk_27 (dk_at dksX2_plan_1 1 rfl rfl)
theorem dX2_plan_26 : decode cX2_plan 26 = .ok (.iload_n 2, 1) := dk_28 (dk_at dksX2_plan_1 2 rfl rfl)
theorem dX2_plan_27 : decode cX2_plan 27 = .ok (.invokevirtual 234, 3) := dk_182 0 234 (dk_at dksX2_plan_1 3 rfl rfl)
theorem dX2_plan_30 : decode cX2_plan 30 = .ok (.goto 5, 3) := dk_167 0 5 (dk_at dksX2_plan_1 6 rfl rfl)
theorem dX2_plan_33 : decode cX2_plan 33 = .ok (.bipush (-102), 2) := dk_16 154 (dk_at dksX2_plan_1 9 rfl rfl)
theorem dX2_plan_35 : decode cX2_plan 35 = .ok (.ireturn, 1) := dk_172 (dk_at dksX2_plan_1 11 rfl rfl)
abbrev cX2_planOf : ByteArray := prog_10_method_58_code
def yX2_planOf : MethodName := ⟨RX2, "planOf", "(II)I"⟩
def dkwX2_planOf_5 : List UInt8 := [167, 255, 151, 28, 154, 0, 15, 29, 153, 0, 7, 4, 167, 0, 9, 3, 167, 0, 5, 21, 4, 172]
abbrev dktX2_planOf_5 : List UInt8 := dkwX2_planOf_5 ++ []
def dkwX2_planOf_4 : List UInt8 := [167, 255, 185, 21, 6, 21, 4, 162, 0, 8, 21, 6, 167, 0, 5, 21, 4, 54, 4, 132, 5, 1]
abbrev dktX2_planOf_4 : List UInt8 := dkwX2_planOf_4 ++ dktX2_planOf_5
def dkwX2_planOf_3 : List UInt8 := [180, 0, 22, 21, 7, 46, 46, 27, 182, 0, 231, 160, 0, 7, 4, 167, 0, 4, 3, 62, 132, 7, 1]
abbrev dktX2_planOf_3 : List UInt8 := dkwX2_planOf_3 ++ dktX2_planOf_4
def dkwX2_planOf_2 : List UInt8 := [167, 0, 4, 3, 96, 54, 6, 29, 153, 0, 34, 42, 21, 7, 27, 182, 0, 231, 42, 42, 180, 0, 25, 42]
abbrev dktX2_planOf_2 : List UInt8 := dkwX2_planOf_2 ++ dktX2_planOf_3
def dkwX2_planOf_1 : List UInt8 := [21, 7, 42, 180, 0, 102, 162, 0, 68, 21, 6, 42, 21, 7, 27, 182, 0, 231, 21, 5, 160, 0, 7, 4]
abbrev dktX2_planOf_1 : List UInt8 := dkwX2_planOf_1 ++ dktX2_planOf_2
def dkwX2_planOf_0 : List UInt8 := [4, 62, 42, 180, 0, 102, 54, 4, 3, 54, 5, 21, 5, 27, 162, 0, 105, 3, 54, 6, 3, 54, 7]
abbrev dktX2_planOf_0 : List UInt8 := dkwX2_planOf_0 ++ dktX2_planOf_1
theorem dksX2_planOf_0 : cX2_planOf.data.toList.drop 0 = dktX2_planOf_0 := by decide +kernel
theorem dksX2_planOf_1 : cX2_planOf.data.toList.drop 23 = dktX2_planOf_1 := dk_seg dksX2_planOf_0 23 rfl rfl
theorem dksX2_planOf_2 : cX2_planOf.data.toList.drop 47 = dktX2_planOf_2 := dk_seg dksX2_planOf_1 24 rfl rfl
theorem dksX2_planOf_3 : cX2_planOf.data.toList.drop 71 = dktX2_planOf_3 := dk_seg dksX2_planOf_2 24 rfl rfl
theorem dksX2_planOf_4 : cX2_planOf.data.toList.drop 94 = dktX2_planOf_4 := dk_seg dksX2_planOf_3 23 rfl rfl
theorem dksX2_planOf_5 : cX2_planOf.data.toList.drop 116 = dktX2_planOf_5 := dk_seg dksX2_planOf_4 22 rfl rfl
theorem dX2_planOf_0 : decode cX2_planOf 0 = .ok (.iconst 1, 1) := dk_4 (dk_at dksX2_planOf_0 0 rfl rfl)
theorem dX2_planOf_1 : decode cX2_planOf 1 = .ok (.istore_n 3, 1) := dk_62 (dk_at dksX2_planOf_0 1 rfl rfl)
theorem dX2_planOf_2 : decode cX2_planOf 2 = .ok (.aload_n 0, 1) := dk_42 (dk_at dksX2_planOf_0 2 rfl rfl)
theorem dX2_planOf_3 : decode cX2_planOf 3 = .ok (.getfield 102, 3) := dk_180 0 102 (dk_at dksX2_planOf_0 3 rfl rfl)
theorem dX2_planOf_6 : decode cX2_planOf 6 = .ok (.istore 4, 2) := dk_54 4 (dk_at dksX2_planOf_0 6 rfl rfl)
theorem dX2_planOf_8 : decode cX2_planOf 8 = .ok (.iconst 0, 1) := dk_3 (dk_at dksX2_planOf_0 8 rfl rfl)
theorem dX2_planOf_9 : decode cX2_planOf 9 = .ok (.istore 5, 2) := dk_54 5 (dk_at dksX2_planOf_0 9 rfl rfl)
theorem dX2_planOf_11 : decode cX2_planOf 11 = .ok (.iload 5, 2) := dk_21 5 (dk_at dksX2_planOf_0 11 rfl rfl)
theorem dX2_planOf_13 : decode cX2_planOf 13 = .ok (.iload_n 1, 1) := dk_27 (dk_at dksX2_planOf_0 13 rfl rfl)
theorem dX2_planOf_14 : decode cX2_planOf 14 = .ok (.if_icmp .ge 105, 3) := dk_162 0 105 (dk_at dksX2_planOf_0 14 rfl rfl)
theorem dX2_planOf_17 : decode cX2_planOf 17 = .ok (.iconst 0, 1) := dk_3 (dk_at dksX2_planOf_0 17 rfl rfl)
theorem dX2_planOf_18 : decode cX2_planOf 18 = .ok (.istore 6, 2) := dk_54 6 (dk_at dksX2_planOf_0 18 rfl rfl)
theorem dX2_planOf_20 : decode cX2_planOf 20 = .ok (.iconst 0, 1) := dk_3 (dk_at dksX2_planOf_0 20 rfl rfl)
theorem dX2_planOf_21 : decode cX2_planOf 21 = .ok (.istore 7, 2) := dk_54 7 (dk_at dksX2_planOf_0 21 rfl rfl)
theorem dX2_planOf_23 : decode cX2_planOf 23 = .ok (.iload 7, 2) := dk_21 7 (dk_at dksX2_planOf_1 0 rfl rfl)
theorem dX2_planOf_25 : decode cX2_planOf 25 = .ok (.aload_n 0, 1) := dk_42 (dk_at dksX2_planOf_1 2 rfl rfl)
theorem dX2_planOf_26 : decode cX2_planOf 26 = .ok (.getfield 102, 3) := dk_180 0 102 (dk_at dksX2_planOf_1 3 rfl rfl)
theorem dX2_planOf_29 : decode cX2_planOf 29 = .ok (.if_icmp .ge 68, 3) := dk_162 0 68 (dk_at dksX2_planOf_1 6 rfl rfl)
theorem dX2_planOf_32 : decode cX2_planOf 32 = .ok (.iload 6, 2) := dk_21 6 (dk_at dksX2_planOf_1 9 rfl rfl)
theorem dX2_planOf_34 : decode cX2_planOf 34 = .ok (.aload_n 0, 1) := dk_42 (dk_at dksX2_planOf_1 11 rfl rfl)
theorem dX2_planOf_35 : decode cX2_planOf 35 = .ok (.iload 7, 2) := dk_21 7 (dk_at dksX2_planOf_1 12 rfl rfl)
theorem dX2_planOf_37 : decode cX2_planOf 37 = .ok (.iload_n 1, 1) := dk_27 (dk_at dksX2_planOf_1 14 rfl rfl)
theorem dX2_planOf_38 : decode cX2_planOf 38 = .ok (.invokevirtual 231, 3) := dk_182 0 231 (dk_at dksX2_planOf_1 15 rfl rfl)
theorem dX2_planOf_41 : decode cX2_planOf 41 = .ok (.iload 5, 2) := dk_21 5 (dk_at dksX2_planOf_1 18 rfl rfl)
theorem dX2_planOf_43 : decode cX2_planOf 43 = .ok (.if_icmp .ne 7, 3) := dk_160 0 7 (dk_at dksX2_planOf_1 20 rfl rfl)
theorem dX2_planOf_46 : decode cX2_planOf 46 = .ok (.iconst 1, 1) := dk_4 (dk_at dksX2_planOf_1 23 rfl rfl)
theorem dX2_planOf_47 : decode cX2_planOf 47 = .ok (.goto 4, 3) := dk_167 0 4 (dk_at dksX2_planOf_2 0 rfl rfl)
theorem dX2_planOf_50 : decode cX2_planOf 50 = .ok (.iconst 0, 1) := dk_3 (dk_at dksX2_planOf_2 3 rfl rfl)
theorem dX2_planOf_51 : decode cX2_planOf 51 = .ok (.iadd, 1) := dk_96 (dk_at dksX2_planOf_2 4 rfl rfl)
theorem dX2_planOf_52 : decode cX2_planOf 52 = .ok (.istore 6, 2) := dk_54 6 (dk_at dksX2_planOf_2 5 rfl rfl)
theorem dX2_planOf_54 : decode cX2_planOf 54 = .ok (.iload_n 3, 1) := dk_29 (dk_at dksX2_planOf_2 7 rfl rfl)
theorem dX2_planOf_55 : decode cX2_planOf 55 = .ok (.ifCond .eq 34, 3) := dk_153 0 34 (dk_at dksX2_planOf_2 8 rfl rfl)
theorem dX2_planOf_58 : decode cX2_planOf 58 = .ok (.aload_n 0, 1) := dk_42 (dk_at dksX2_planOf_2 11 rfl rfl)
theorem dX2_planOf_59 : decode cX2_planOf 59 = .ok (.iload 7, 2) := dk_21 7 (dk_at dksX2_planOf_2 12 rfl rfl)
theorem dX2_planOf_61 : decode cX2_planOf 61 = .ok (.iload_n 1, 1) := dk_27 (dk_at dksX2_planOf_2 14 rfl rfl)
theorem dX2_planOf_62 : decode cX2_planOf 62 = .ok (.invokevirtual 231, 3) := dk_182 0 231 (dk_at dksX2_planOf_2 15 rfl rfl)
theorem dX2_planOf_65 : decode cX2_planOf 65 = .ok (.aload_n 0, 1) := dk_42 (dk_at dksX2_planOf_2 18 rfl rfl)
theorem dX2_planOf_66 : decode cX2_planOf 66 = .ok (.aload_n 0, 1) := dk_42 (dk_at dksX2_planOf_2 19 rfl rfl)
theorem dX2_planOf_67 : decode cX2_planOf 67 = .ok (.getfield 25, 3) := dk_180 0 25 (dk_at dksX2_planOf_2 20 rfl rfl)
theorem dX2_planOf_70 : decode cX2_planOf 70 = .ok (.aload_n 0, 1) := dk_42 (dk_at dksX2_planOf_2 23 rfl rfl)
theorem dX2_planOf_71 : decode cX2_planOf 71 = .ok (.getfield 22, 3) := dk_180 0 22 (dk_at dksX2_planOf_3 0 rfl rfl)
theorem dX2_planOf_74 : decode cX2_planOf 74 = .ok (.iload 7, 2) := dk_21 7 (dk_at dksX2_planOf_3 3 rfl rfl)
theorem dX2_planOf_76 : decode cX2_planOf 76 = .ok (.iaload, 1) := dk_46 (dk_at dksX2_planOf_3 5 rfl rfl)
theorem dX2_planOf_77 : decode cX2_planOf 77 = .ok (.iaload, 1) := dk_46 (dk_at dksX2_planOf_3 6 rfl rfl)
theorem dX2_planOf_78 : decode cX2_planOf 78 = .ok (.iload_n 1, 1) := dk_27 (dk_at dksX2_planOf_3 7 rfl rfl)
theorem dX2_planOf_79 : decode cX2_planOf 79 = .ok (.invokevirtual 231, 3) := dk_182 0 231 (dk_at dksX2_planOf_3 8 rfl rfl)
theorem dX2_planOf_82 : decode cX2_planOf 82 = .ok (.if_icmp .ne 7, 3) := dk_160 0 7 (dk_at dksX2_planOf_3 11 rfl rfl)
theorem dX2_planOf_85 : decode cX2_planOf 85 = .ok (.iconst 1, 1) := dk_4 (dk_at dksX2_planOf_3 14 rfl rfl)
theorem dX2_planOf_86 : decode cX2_planOf 86 = .ok (.goto 4, 3) := dk_167 0 4 (dk_at dksX2_planOf_3 15 rfl rfl)
theorem dX2_planOf_89 : decode cX2_planOf 89 = .ok (.iconst 0, 1) := dk_3 (dk_at dksX2_planOf_3 18 rfl rfl)
theorem dX2_planOf_90 : decode cX2_planOf 90 = .ok (.istore_n 3, 1) := dk_62 (dk_at dksX2_planOf_3 19 rfl rfl)
theorem dX2_planOf_91 : decode cX2_planOf 91 = .ok (.iinc 7 1, 3) := dk_132 7 1 (dk_at dksX2_planOf_3 20 rfl rfl)
theorem dX2_planOf_94 : decode cX2_planOf 94 = .ok (.goto (-71), 3) := dk_167 255 185 (dk_at dksX2_planOf_4 0 rfl rfl)
theorem dX2_planOf_97 : decode cX2_planOf 97 = .ok (.iload 6, 2) := dk_21 6 (dk_at dksX2_planOf_4 3 rfl rfl)
theorem dX2_planOf_99 : decode cX2_planOf 99 = .ok (.iload 4, 2) := dk_21 4 (dk_at dksX2_planOf_4 5 rfl rfl)
theorem dX2_planOf_101 : decode cX2_planOf 101 = .ok (.if_icmp .ge 8, 3) := dk_162 0 8 (dk_at dksX2_planOf_4 7 rfl rfl)
theorem dX2_planOf_104 : decode cX2_planOf 104 = .ok (.iload 6, 2) := dk_21 6 (dk_at dksX2_planOf_4 10 rfl rfl)
theorem dX2_planOf_106 : decode cX2_planOf 106 = .ok (.goto 5, 3) := dk_167 0 5 (dk_at dksX2_planOf_4 12 rfl rfl)
theorem dX2_planOf_109 : decode cX2_planOf 109 = .ok (.iload 4, 2) := dk_21 4 (dk_at dksX2_planOf_4 15 rfl rfl)
theorem dX2_planOf_111 : decode cX2_planOf 111 = .ok (.istore 4, 2) := dk_54 4 (dk_at dksX2_planOf_4 17 rfl rfl)
theorem dX2_planOf_113 : decode cX2_planOf 113 = .ok (.iinc 5 1, 3) := dk_132 5 1 (dk_at dksX2_planOf_4 19 rfl rfl)
theorem dX2_planOf_116 : decode cX2_planOf 116 = .ok (.goto (-105), 3) := dk_167 255 151 (dk_at dksX2_planOf_5 0 rfl rfl)
theorem dX2_planOf_119 : decode cX2_planOf 119 = .ok (.iload_n 2, 1) := dk_28 (dk_at dksX2_planOf_5 3 rfl rfl)
theorem dX2_planOf_120 : decode cX2_planOf 120 = .ok (.ifCond .ne 15, 3) := dk_154 0 15 (dk_at dksX2_planOf_5 4 rfl rfl)
theorem dX2_planOf_123 : decode cX2_planOf 123 = .ok (.iload_n 3, 1) := dk_29 (dk_at dksX2_planOf_5 7 rfl rfl)
theorem dX2_planOf_124 : decode cX2_planOf 124 = .ok (.ifCond .eq 7, 3) := dk_153 0 7 (dk_at dksX2_planOf_5 8 rfl rfl)
theorem dX2_planOf_127 : decode cX2_planOf 127 = .ok (.iconst 1, 1) := dk_4 (dk_at dksX2_planOf_5 11 rfl rfl)
theorem dX2_planOf_128 : decode cX2_planOf 128 = .ok (.goto 9, 3) := dk_167 0 9 (dk_at dksX2_planOf_5 12 rfl rfl)
theorem dX2_planOf_131 : decode cX2_planOf 131 = .ok (.iconst 0, 1) := dk_3 (dk_at dksX2_planOf_5 15 rfl rfl)
theorem dX2_planOf_132 : decode cX2_planOf 132 = .ok (.goto 5, 3) := dk_167 0 5 (dk_at dksX2_planOf_5 16 rfl rfl)
theorem dX2_planOf_135 : decode cX2_planOf 135 = .ok (.iload 4, 2) := dk_21 4 (dk_at dksX2_planOf_5 19 rfl rfl)
theorem dX2_planOf_137 : decode cX2_planOf 137 = .ok (.ireturn, 1) := dk_172 (dk_at dksX2_planOf_5 21 rfl rfl)
abbrev cX2_houseOf : ByteArray := prog_10_method_57_code
def yX2_houseOf : MethodName := ⟨RX2, "houseOf", "(II)I"⟩
def dkwX2_houseOf_1 : List UInt8 := [27, 104, 5, 96, 46, 96, 28, 112, 172]
abbrev dktX2_houseOf_1 : List UInt8 := dkwX2_houseOf_1 ++ []
def dkwX2_houseOf_0 : List UInt8 := [42, 180, 0, 19, 6, 27, 104, 46, 42, 180, 0, 19, 6, 27, 104, 4, 96, 46, 96, 42, 180, 0, 19, 6]
abbrev dktX2_houseOf_0 : List UInt8 := dkwX2_houseOf_0 ++ dktX2_houseOf_1
theorem dksX2_houseOf_0 : cX2_houseOf.data.toList.drop 0 = dktX2_houseOf_0 := by decide +kernel
theorem dksX2_houseOf_1 : cX2_houseOf.data.toList.drop 24 = dktX2_houseOf_1 := dk_seg dksX2_houseOf_0 24 rfl rfl
theorem dX2_houseOf_0 : decode cX2_houseOf 0 = .ok (.aload_n 0, 1) := dk_42 (dk_at dksX2_houseOf_0 0 rfl rfl)
theorem dX2_houseOf_1 : decode cX2_houseOf 1 = .ok (.getfield 19, 3) := dk_180 0 19 (dk_at dksX2_houseOf_0 1 rfl rfl)
theorem dX2_houseOf_4 : decode cX2_houseOf 4 = .ok (.iconst 3, 1) := dk_6 (dk_at dksX2_houseOf_0 4 rfl rfl)
theorem dX2_houseOf_5 : decode cX2_houseOf 5 = .ok (.iload_n 1, 1) := dk_27 (dk_at dksX2_houseOf_0 5 rfl rfl)
theorem dX2_houseOf_6 : decode cX2_houseOf 6 = .ok (.imul, 1) := dk_104 (dk_at dksX2_houseOf_0 6 rfl rfl)
theorem dX2_houseOf_7 : decode cX2_houseOf 7 = .ok (.iaload, 1) := dk_46 (dk_at dksX2_houseOf_0 7 rfl rfl)
theorem dX2_houseOf_8 : decode cX2_houseOf 8 = .ok (.aload_n 0, 1) := dk_42 (dk_at dksX2_houseOf_0 8 rfl rfl)
theorem dX2_houseOf_9 : decode cX2_houseOf 9 = .ok (.getfield 19, 3) := dk_180 0 19 (dk_at dksX2_houseOf_0 9 rfl rfl)
theorem dX2_houseOf_12 : decode cX2_houseOf 12 = .ok (.iconst 3, 1) := dk_6 (dk_at dksX2_houseOf_0 12 rfl rfl)
theorem dX2_houseOf_13 : decode cX2_houseOf 13 = .ok (.iload_n 1, 1) := dk_27 (dk_at dksX2_houseOf_0 13 rfl rfl)
theorem dX2_houseOf_14 : decode cX2_houseOf 14 = .ok (.imul, 1) := dk_104 (dk_at dksX2_houseOf_0 14 rfl rfl)
theorem dX2_houseOf_15 : decode cX2_houseOf 15 = .ok (.iconst 1, 1) := dk_4 (dk_at dksX2_houseOf_0 15 rfl rfl)
theorem dX2_houseOf_16 : decode cX2_houseOf 16 = .ok (.iadd, 1) := dk_96 (dk_at dksX2_houseOf_0 16 rfl rfl)
theorem dX2_houseOf_17 : decode cX2_houseOf 17 = .ok (.iaload, 1) := dk_46 (dk_at dksX2_houseOf_0 17 rfl rfl)
theorem dX2_houseOf_18 : decode cX2_houseOf 18 = .ok (.iadd, 1) := dk_96 (dk_at dksX2_houseOf_0 18 rfl rfl)
theorem dX2_houseOf_19 : decode cX2_houseOf 19 = .ok (.aload_n 0, 1) := dk_42 (dk_at dksX2_houseOf_0 19 rfl rfl)
theorem dX2_houseOf_20 : decode cX2_houseOf 20 = .ok (.getfield 19, 3) := dk_180 0 19 (dk_at dksX2_houseOf_0 20 rfl rfl)
theorem dX2_houseOf_23 : decode cX2_houseOf 23 = .ok (.iconst 3, 1) := dk_6 (dk_at dksX2_houseOf_0 23 rfl rfl)
theorem dX2_houseOf_24 : decode cX2_houseOf 24 = .ok (.iload_n 1, 1) := dk_27 (dk_at dksX2_houseOf_1 0 rfl rfl)
theorem dX2_houseOf_25 : decode cX2_houseOf 25 = .ok (.imul, 1) := dk_104 (dk_at dksX2_houseOf_1 1 rfl rfl)
theorem dX2_houseOf_26 : decode cX2_houseOf 26 = .ok (.iconst 2, 1) := dk_5 (dk_at dksX2_houseOf_1 2 rfl rfl)
theorem dX2_houseOf_27 : decode cX2_houseOf 27 = .ok (.iadd, 1) := dk_96 (dk_at dksX2_houseOf_1 3 rfl rfl)
theorem dX2_houseOf_28 : decode cX2_houseOf 28 = .ok (.iaload, 1) := dk_46 (dk_at dksX2_houseOf_1 4 rfl rfl)
theorem dX2_houseOf_29 : decode cX2_houseOf 29 = .ok (.iadd, 1) := dk_96 (dk_at dksX2_houseOf_1 5 rfl rfl)
theorem dX2_houseOf_30 : decode cX2_houseOf 30 = .ok (.iload_n 2, 1) := dk_28 (dk_at dksX2_houseOf_1 6 rfl rfl)
theorem dX2_houseOf_31 : decode cX2_houseOf 31 = .ok (.irem, 1) := dk_112 (dk_at dksX2_houseOf_1 7 rfl rfl)
theorem dX2_houseOf_32 : decode cX2_houseOf 32 = .ok (.ireturn, 1) := dk_172 (dk_at dksX2_houseOf_1 8 rfl rfl)
abbrev cX2_image : ByteArray := prog_10_method_60_code
def yX2_image : MethodName := ⟨RX2, "image", "()I"⟩
def dkwX2_image_3 : List UInt8 := [180, 0, 133, 181, 0, 240, 42, 180, 0, 127, 172]
abbrev dktX2_image_3 : List UInt8 := dkwX2_image_3 ++ []
def dkwX2_image_2 : List UInt8 := [132, 1, 1, 167, 255, 235, 42, 42, 180, 0, 127, 181, 0, 63, 42, 42, 180, 0, 130, 181, 0, 237, 42, 42]
abbrev dktX2_image_2 : List UInt8 := dkwX2_image_2 ++ dktX2_image_3
def dkwX2_image_1 : List UInt8 := [167, 255, 235, 3, 60, 27, 16, 40, 162, 0, 21, 42, 180, 0, 60, 27, 42, 180, 0, 31, 27, 46, 79]
abbrev dktX2_image_1 : List UInt8 := dkwX2_image_1 ++ dktX2_image_2
def dkwX2_image_0 : List UInt8 := [3, 60, 27, 16, 20, 162, 0, 21, 42, 180, 0, 57, 27, 42, 180, 0, 28, 27, 46, 79, 132, 1, 1]
abbrev dktX2_image_0 : List UInt8 := dkwX2_image_0 ++ dktX2_image_1
theorem dksX2_image_0 : cX2_image.data.toList.drop 0 = dktX2_image_0 := by decide +kernel
theorem dksX2_image_1 : cX2_image.data.toList.drop 23 = dktX2_image_1 := dk_seg dksX2_image_0 23 rfl rfl
theorem dksX2_image_2 : cX2_image.data.toList.drop 46 = dktX2_image_2 := dk_seg dksX2_image_1 23 rfl rfl
theorem dksX2_image_3 : cX2_image.data.toList.drop 70 = dktX2_image_3 := dk_seg dksX2_image_2 24 rfl rfl
theorem dX2_image_0 : decode cX2_image 0 = .ok (.iconst 0, 1) := dk_3 (dk_at dksX2_image_0 0 rfl rfl)
theorem dX2_image_1 : decode cX2_image 1 = .ok (.istore_n 1, 1) := dk_60 (dk_at dksX2_image_0 1 rfl rfl)
theorem dX2_image_2 : decode cX2_image 2 = .ok (.iload_n 1, 1) := dk_27 (dk_at dksX2_image_0 2 rfl rfl)
theorem dX2_image_3 : decode cX2_image 3 = .ok (.bipush 20, 2) := dk_16 20 (dk_at dksX2_image_0 3 rfl rfl)
theorem dX2_image_5 : decode cX2_image 5 = .ok (.if_icmp .ge 21, 3) := dk_162 0 21 (dk_at dksX2_image_0 5 rfl rfl)
theorem dX2_image_8 : decode cX2_image 8 = .ok (.aload_n 0, 1) := dk_42 (dk_at dksX2_image_0 8 rfl rfl)
theorem dX2_image_9 : decode cX2_image 9 = .ok (.getfield 57, 3) := dk_180 0 57 (dk_at dksX2_image_0 9 rfl rfl)
theorem dX2_image_12 : decode cX2_image 12 = .ok (.iload_n 1, 1) := dk_27 (dk_at dksX2_image_0 12 rfl rfl)
theorem dX2_image_13 : decode cX2_image 13 = .ok (.aload_n 0, 1) := dk_42 (dk_at dksX2_image_0 13 rfl rfl)
theorem dX2_image_14 : decode cX2_image 14 = .ok (.getfield 28, 3) := dk_180 0 28 (dk_at dksX2_image_0 14 rfl rfl)
theorem dX2_image_17 : decode cX2_image 17 = .ok (.iload_n 1, 1) := dk_27 (dk_at dksX2_image_0 17 rfl rfl)
theorem dX2_image_18 : decode cX2_image 18 = .ok (.iaload, 1) := dk_46 (dk_at dksX2_image_0 18 rfl rfl)
theorem dX2_image_19 : decode cX2_image 19 = .ok (.iastore, 1) := dk_79 (dk_at dksX2_image_0 19 rfl rfl)
theorem dX2_image_20 : decode cX2_image 20 = .ok (.iinc 1 1, 3) := dk_132 1 1 (dk_at dksX2_image_0 20 rfl rfl)
theorem dX2_image_23 : decode cX2_image 23 = .ok (.goto (-21), 3) := dk_167 255 235 (dk_at dksX2_image_1 0 rfl rfl)
theorem dX2_image_26 : decode cX2_image 26 = .ok (.iconst 0, 1) := dk_3 (dk_at dksX2_image_1 3 rfl rfl)
theorem dX2_image_27 : decode cX2_image 27 = .ok (.istore_n 1, 1) := dk_60 (dk_at dksX2_image_1 4 rfl rfl)
theorem dX2_image_28 : decode cX2_image 28 = .ok (.iload_n 1, 1) := dk_27 (dk_at dksX2_image_1 5 rfl rfl)
theorem dX2_image_29 : decode cX2_image 29 = .ok (.bipush 40, 2) := dk_16 40 (dk_at dksX2_image_1 6 rfl rfl)
theorem dX2_image_31 : decode cX2_image 31 = .ok (.if_icmp .ge 21, 3) := dk_162 0 21 (dk_at dksX2_image_1 8 rfl rfl)
theorem dX2_image_34 : decode cX2_image 34 = .ok (.aload_n 0, 1) := dk_42 (dk_at dksX2_image_1 11 rfl rfl)
theorem dX2_image_35 : decode cX2_image 35 = .ok (.getfield 60, 3) := dk_180 0 60 (dk_at dksX2_image_1 12 rfl rfl)
theorem dX2_image_38 : decode cX2_image 38 = .ok (.iload_n 1, 1) := dk_27 (dk_at dksX2_image_1 15 rfl rfl)
theorem dX2_image_39 : decode cX2_image 39 = .ok (.aload_n 0, 1) := dk_42 (dk_at dksX2_image_1 16 rfl rfl)
theorem dX2_image_40 : decode cX2_image 40 = .ok (.getfield 31, 3) := dk_180 0 31 (dk_at dksX2_image_1 17 rfl rfl)
theorem dX2_image_43 : decode cX2_image 43 = .ok (.iload_n 1, 1) := dk_27 (dk_at dksX2_image_1 20 rfl rfl)
theorem dX2_image_44 : decode cX2_image 44 = .ok (.iaload, 1) := dk_46 (dk_at dksX2_image_1 21 rfl rfl)
theorem dX2_image_45 : decode cX2_image 45 = .ok (.iastore, 1) := dk_79 (dk_at dksX2_image_1 22 rfl rfl)
theorem dX2_image_46 : decode cX2_image 46 = .ok (.iinc 1 1, 3) := dk_132 1 1 (dk_at dksX2_image_2 0 rfl rfl)
theorem dX2_image_49 : decode cX2_image 49 = .ok (.goto (-21), 3) := dk_167 255 235 (dk_at dksX2_image_2 3 rfl rfl)
theorem dX2_image_52 : decode cX2_image 52 = .ok (.aload_n 0, 1) := dk_42 (dk_at dksX2_image_2 6 rfl rfl)
theorem dX2_image_53 : decode cX2_image 53 = .ok (.aload_n 0, 1) := dk_42 (dk_at dksX2_image_2 7 rfl rfl)
theorem dX2_image_54 : decode cX2_image 54 = .ok (.getfield 127, 3) := dk_180 0 127 (dk_at dksX2_image_2 8 rfl rfl)
theorem dX2_image_57 : decode cX2_image 57 = .ok (.putfield 63, 3) := dk_181 0 63 (dk_at dksX2_image_2 11 rfl rfl)
theorem dX2_image_60 : decode cX2_image 60 = .ok (.aload_n 0, 1) := dk_42 (dk_at dksX2_image_2 14 rfl rfl)
theorem dX2_image_61 : decode cX2_image 61 = .ok (.aload_n 0, 1) := dk_42 (dk_at dksX2_image_2 15 rfl rfl)
theorem dX2_image_62 : decode cX2_image 62 = .ok (.getfield 130, 3) := dk_180 0 130 (dk_at dksX2_image_2 16 rfl rfl)
theorem dX2_image_65 : decode cX2_image 65 = .ok (.putfield 237, 3) := dk_181 0 237 (dk_at dksX2_image_2 19 rfl rfl)
theorem dX2_image_68 : decode cX2_image 68 = .ok (.aload_n 0, 1) := dk_42 (dk_at dksX2_image_2 22 rfl rfl)
theorem dX2_image_69 : decode cX2_image 69 = .ok (.aload_n 0, 1) := dk_42 (dk_at dksX2_image_2 23 rfl rfl)
theorem dX2_image_70 : decode cX2_image 70 = .ok (.getfield 133, 3) := dk_180 0 133 (dk_at dksX2_image_3 0 rfl rfl)
theorem dX2_image_73 : decode cX2_image 73 = .ok (.putfield 240, 3) := dk_181 0 240 (dk_at dksX2_image_3 3 rfl rfl)
theorem dX2_image_76 : decode cX2_image 76 = .ok (.aload_n 0, 1) := dk_42 (dk_at dksX2_image_3 6 rfl rfl)
theorem dX2_image_77 : decode cX2_image 77 = .ok (.getfield 127, 3) := dk_180 0 127 (dk_at dksX2_image_3 7 rfl rfl)
theorem dX2_image_80 : decode cX2_image 80 = .ok (.ireturn, 1) := dk_172 (dk_at dksX2_image_3 10 rfl rfl)
abbrev cX2_restore : ByteArray := prog_10_method_61_code
def yX2_restore : MethodName := ⟨RX2, "restore", "()I"⟩
def dkwX2_restore_3 : List UInt8 := [167, 255, 235, 42, 42, 180, 0, 63, 181, 0, 127, 42, 42, 180, 0, 237, 181, 0, 130, 42, 180, 0, 127, 172]
abbrev dktX2_restore_3 : List UInt8 := dkwX2_restore_3 ++ []
def dkwX2_restore_2 : List UInt8 := [3, 60, 27, 16, 40, 162, 0, 21, 42, 180, 0, 31, 27, 42, 180, 0, 60, 27, 46, 79, 132, 1, 1]
abbrev dktX2_restore_2 : List UInt8 := dkwX2_restore_2 ++ dktX2_restore_3
def dkwX2_restore_1 : List UInt8 := [27, 16, 20, 162, 0, 21, 42, 180, 0, 28, 27, 42, 180, 0, 57, 27, 46, 79, 132, 1, 1, 167, 255, 235]
abbrev dktX2_restore_1 : List UInt8 := dkwX2_restore_1 ++ dktX2_restore_2
def dkwX2_restore_0 : List UInt8 := [42, 180, 0, 63, 2, 159, 0, 14, 42, 180, 0, 240, 42, 180, 0, 133, 159, 0, 6, 16, 153, 172, 3, 60]
abbrev dktX2_restore_0 : List UInt8 := dkwX2_restore_0 ++ dktX2_restore_1
theorem dksX2_restore_0 : cX2_restore.data.toList.drop 0 = dktX2_restore_0 := by decide +kernel
theorem dksX2_restore_1 : cX2_restore.data.toList.drop 24 = dktX2_restore_1 := dk_seg dksX2_restore_0 24 rfl rfl
theorem dksX2_restore_2 : cX2_restore.data.toList.drop 48 = dktX2_restore_2 := dk_seg dksX2_restore_1 24 rfl rfl
theorem dksX2_restore_3 : cX2_restore.data.toList.drop 71 = dktX2_restore_3 := dk_seg dksX2_restore_2 23 rfl rfl
theorem dX2_restore_0 : decode cX2_restore 0 = .ok (.aload_n 0, 1) := dk_42 (dk_at dksX2_restore_0 0 rfl rfl)
theorem dX2_restore_1 : decode cX2_restore 1 = .ok (.getfield 63, 3) := dk_180 0 63 (dk_at dksX2_restore_0 1 rfl rfl)
theorem dX2_restore_4 : decode cX2_restore 4 = .ok (.iconst (-1), 1) := dk_2 (dk_at dksX2_restore_0 4 rfl rfl)
theorem dX2_restore_5 : decode cX2_restore 5 = .ok (.if_icmp .eq 14, 3) := dk_159 0 14 (dk_at dksX2_restore_0 5 rfl rfl)
theorem dX2_restore_8 : decode cX2_restore 8 = .ok (.aload_n 0, 1) := dk_42 (dk_at dksX2_restore_0 8 rfl rfl)
theorem dX2_restore_9 : decode cX2_restore 9 = .ok (.getfield 240, 3) := dk_180 0 240 (dk_at dksX2_restore_0 9 rfl rfl)
theorem dX2_restore_12 : decode cX2_restore 12 = .ok (.aload_n 0, 1) := dk_42 (dk_at dksX2_restore_0 12 rfl rfl)
theorem dX2_restore_13 : decode cX2_restore 13 = .ok (.getfield 133, 3) := dk_180 0 133 (dk_at dksX2_restore_0 13 rfl rfl)
theorem dX2_restore_16 : decode cX2_restore 16 = .ok (.if_icmp .eq 6, 3) := dk_159 0 6 (dk_at dksX2_restore_0 16 rfl rfl)
theorem dX2_restore_19 : decode cX2_restore 19 = .ok (.bipush (-103), 2) := dk_16 153 (dk_at dksX2_restore_0 19 rfl rfl)
theorem dX2_restore_21 : decode cX2_restore 21 = .ok (.ireturn, 1) := dk_172 (dk_at dksX2_restore_0 21 rfl rfl)
theorem dX2_restore_22 : decode cX2_restore 22 = .ok (.iconst 0, 1) := dk_3 (dk_at dksX2_restore_0 22 rfl rfl)
theorem dX2_restore_23 : decode cX2_restore 23 = .ok (.istore_n 1, 1) := dk_60 (dk_at dksX2_restore_0 23 rfl rfl)
theorem dX2_restore_24 : decode cX2_restore 24 = .ok (.iload_n 1, 1) := dk_27 (dk_at dksX2_restore_1 0 rfl rfl)
theorem dX2_restore_25 : decode cX2_restore 25 = .ok (.bipush 20, 2) := dk_16 20 (dk_at dksX2_restore_1 1 rfl rfl)
theorem dX2_restore_27 : decode cX2_restore 27 = .ok (.if_icmp .ge 21, 3) := dk_162 0 21 (dk_at dksX2_restore_1 3 rfl rfl)
theorem dX2_restore_30 : decode cX2_restore 30 = .ok (.aload_n 0, 1) := dk_42 (dk_at dksX2_restore_1 6 rfl rfl)
theorem dX2_restore_31 : decode cX2_restore 31 = .ok (.getfield 28, 3) := dk_180 0 28 (dk_at dksX2_restore_1 7 rfl rfl)
theorem dX2_restore_34 : decode cX2_restore 34 = .ok (.iload_n 1, 1) := dk_27 (dk_at dksX2_restore_1 10 rfl rfl)
theorem dX2_restore_35 : decode cX2_restore 35 = .ok (.aload_n 0, 1) := dk_42 (dk_at dksX2_restore_1 11 rfl rfl)
theorem dX2_restore_36 : decode cX2_restore 36 = .ok (.getfield 57, 3) := dk_180 0 57 (dk_at dksX2_restore_1 12 rfl rfl)
theorem dX2_restore_39 : decode cX2_restore 39 = .ok (.iload_n 1, 1) := dk_27 (dk_at dksX2_restore_1 15 rfl rfl)
theorem dX2_restore_40 : decode cX2_restore 40 = .ok (.iaload, 1) := dk_46 (dk_at dksX2_restore_1 16 rfl rfl)
theorem dX2_restore_41 : decode cX2_restore 41 = .ok (.iastore, 1) := dk_79 (dk_at dksX2_restore_1 17 rfl rfl)
theorem dX2_restore_42 : decode cX2_restore 42 = .ok (.iinc 1 1, 3) := dk_132 1 1 (dk_at dksX2_restore_1 18 rfl rfl)
theorem dX2_restore_45 : decode cX2_restore 45 = .ok (.goto (-21), 3) := dk_167 255 235 (dk_at dksX2_restore_1 21 rfl rfl)
theorem dX2_restore_48 : decode cX2_restore 48 = .ok (.iconst 0, 1) := dk_3 (dk_at dksX2_restore_2 0 rfl rfl)
theorem dX2_restore_49 : decode cX2_restore 49 = .ok (.istore_n 1, 1) := dk_60 (dk_at dksX2_restore_2 1 rfl rfl)
theorem dX2_restore_50 : decode cX2_restore 50 = .ok (.iload_n 1, 1) := dk_27 (dk_at dksX2_restore_2 2 rfl rfl)
theorem dX2_restore_51 : decode cX2_restore 51 = .ok (.bipush 40, 2) := dk_16 40 (dk_at dksX2_restore_2 3 rfl rfl)
theorem dX2_restore_53 : decode cX2_restore 53 = .ok (.if_icmp .ge 21, 3) := dk_162 0 21 (dk_at dksX2_restore_2 5 rfl rfl)
theorem dX2_restore_56 : decode cX2_restore 56 = .ok (.aload_n 0, 1) := dk_42 (dk_at dksX2_restore_2 8 rfl rfl)
theorem dX2_restore_57 : decode cX2_restore 57 = .ok (.getfield 31, 3) := dk_180 0 31 (dk_at dksX2_restore_2 9 rfl rfl)
theorem dX2_restore_60 : decode cX2_restore 60 = .ok (.iload_n 1, 1) := dk_27 (dk_at dksX2_restore_2 12 rfl rfl)
theorem dX2_restore_61 : decode cX2_restore 61 = .ok (.aload_n 0, 1) := dk_42 (dk_at dksX2_restore_2 13 rfl rfl)
theorem dX2_restore_62 : decode cX2_restore 62 = .ok (.getfield 60, 3) := dk_180 0 60 (dk_at dksX2_restore_2 14 rfl rfl)
theorem dX2_restore_65 : decode cX2_restore 65 = .ok (.iload_n 1, 1) := dk_27 (dk_at dksX2_restore_2 17 rfl rfl)
theorem dX2_restore_66 : decode cX2_restore 66 = .ok (.iaload, 1) := dk_46 (dk_at dksX2_restore_2 18 rfl rfl)
theorem dX2_restore_67 : decode cX2_restore 67 = .ok (.iastore, 1) := dk_79 (dk_at dksX2_restore_2 19 rfl rfl)
theorem dX2_restore_68 : decode cX2_restore 68 = .ok (.iinc 1 1, 3) := dk_132 1 1 (dk_at dksX2_restore_2 20 rfl rfl)
theorem dX2_restore_71 : decode cX2_restore 71 = .ok (.goto (-21), 3) := dk_167 255 235 (dk_at dksX2_restore_3 0 rfl rfl)
theorem dX2_restore_74 : decode cX2_restore 74 = .ok (.aload_n 0, 1) := dk_42 (dk_at dksX2_restore_3 3 rfl rfl)
theorem dX2_restore_75 : decode cX2_restore 75 = .ok (.aload_n 0, 1) := dk_42 (dk_at dksX2_restore_3 4 rfl rfl)
theorem dX2_restore_76 : decode cX2_restore 76 = .ok (.getfield 63, 3) := dk_180 0 63 (dk_at dksX2_restore_3 5 rfl rfl)
theorem dX2_restore_79 : decode cX2_restore 79 = .ok (.putfield 127, 3) := dk_181 0 127 (dk_at dksX2_restore_3 8 rfl rfl)
theorem dX2_restore_82 : decode cX2_restore 82 = .ok (.aload_n 0, 1) := dk_42 (dk_at dksX2_restore_3 11 rfl rfl)
theorem dX2_restore_83 : decode cX2_restore 83 = .ok (.aload_n 0, 1) := dk_42 (dk_at dksX2_restore_3 12 rfl rfl)
theorem dX2_restore_84 : decode cX2_restore 84 = .ok (.getfield 237, 3) := dk_180 0 237 (dk_at dksX2_restore_3 13 rfl rfl)
theorem dX2_restore_87 : decode cX2_restore 87 = .ok (.putfield 130, 3) := dk_181 0 130 (dk_at dksX2_restore_3 16 rfl rfl)
theorem dX2_restore_90 : decode cX2_restore 90 = .ok (.aload_n 0, 1) := dk_42 (dk_at dksX2_restore_3 19 rfl rfl)
theorem dX2_restore_91 : decode cX2_restore 91 = .ok (.getfield 127, 3) := dk_180 0 127 (dk_at dksX2_restore_3 20 rfl rfl)
theorem dX2_restore_94 : decode cX2_restore 94 = .ok (.ireturn, 1) := dk_172 (dk_at dksX2_restore_3 23 rfl rfl)
abbrev cX2_count : ByteArray := prog_10_method_63_code
def yX2_count : MethodName := ⟨RX2, "count", "(I)I"⟩
def dkwX2_count_0 : List UInt8 := [42, 27, 182, 0, 243, 172]
abbrev dktX2_count_0 : List UInt8 := dkwX2_count_0 ++ []
theorem dksX2_count_0 : cX2_count.data.toList.drop 0 = dktX2_count_0 := by decide +kernel
theorem dX2_count_0 : decode cX2_count 0 = .ok (.aload_n 0, 1) := dk_42 (dk_at dksX2_count_0 0 rfl rfl)
theorem dX2_count_1 : decode cX2_count 1 = .ok (.iload_n 1, 1) := dk_27 (dk_at dksX2_count_0 1 rfl rfl)
theorem dX2_count_2 : decode cX2_count 2 = .ok (.invokevirtual 243, 3) := dk_182 0 243 (dk_at dksX2_count_0 2 rfl rfl)
theorem dX2_count_5 : decode cX2_count 5 = .ok (.ireturn, 1) := dk_172 (dk_at dksX2_count_0 5 rfl rfl)
abbrev cX2_countOf : ByteArray := prog_10_method_62_code
def yX2_countOf : MethodName := ⟨RX2, "countOf", "(I)I"⟩
def dkwX2_countOf_3 : List UInt8 := [172, 42, 180, 0, 130, 172, 42, 180, 0, 75, 172, 42, 180, 0, 212, 172, 16, 154, 172]
abbrev dktX2_countOf_3 : List UInt8 := dkwX2_countOf_3 ++ []
def dkwX2_countOf_2 : List UInt8 := [42, 180, 0, 67, 172, 42, 180, 0, 102, 172, 42, 180, 0, 112, 172, 42, 180, 0, 109, 172, 42, 180, 0, 127]
abbrev dktX2_countOf_2 : List UInt8 := dkwX2_countOf_2 ++ dktX2_countOf_3
def dkwX2_countOf_1 : List UInt8 := [170, 0, 0, 0, 0, 0, 87, 0, 0, 0, 0, 0, 0, 0, 7, 0, 0, 0, 47, 0, 0, 0, 52, 0, 0, 0, 57, 0, 0, 0, 62, 0, 0, 0, 67, 0, 0, 0, 72, 0, 0, 0, 77, 0, 0, 0, 82]
abbrev dktX2_countOf_1 : List UInt8 := dkwX2_countOf_1 ++ dktX2_countOf_2
def dkwX2_countOf_0 : List UInt8 := [27]
abbrev dktX2_countOf_0 : List UInt8 := dkwX2_countOf_0 ++ dktX2_countOf_1
theorem dksX2_countOf_0 : cX2_countOf.data.toList.drop 0 = dktX2_countOf_0 := by decide +kernel
theorem dksX2_countOf_1 : cX2_countOf.data.toList.drop 1 = dktX2_countOf_1 := dk_seg dksX2_countOf_0 1 rfl rfl
theorem dksX2_countOf_2 : cX2_countOf.data.toList.drop 48 = dktX2_countOf_2 := dk_seg dksX2_countOf_1 47 rfl rfl
theorem dksX2_countOf_3 : cX2_countOf.data.toList.drop 72 = dktX2_countOf_3 := dk_seg dksX2_countOf_2 24 rfl rfl
theorem dX2_countOf_0 : decode cX2_countOf 0 = .ok (.iload_n 1, 1) := dk_27 (dk_at dksX2_countOf_0 0 rfl rfl)
theorem dX2_countOf_1 : decode cX2_countOf 1 = .ok (.tableswitch 87 0 7 #[47, 52, 57, 62, 67, 72, 77, 82], 47) := by decide +kernel
theorem dX2_countOf_48 : decode cX2_countOf 48 = .ok (.aload_n 0, 1) := dk_42 (dk_at dksX2_countOf_2 0 rfl rfl)
theorem dX2_countOf_49 : decode cX2_countOf 49 = .ok (.getfield 67, 3) := dk_180 0 67 (dk_at dksX2_countOf_2 1 rfl rfl)
theorem dX2_countOf_52 : decode cX2_countOf 52 = .ok (.ireturn, 1) := dk_172 (dk_at dksX2_countOf_2 4 rfl rfl)
theorem dX2_countOf_53 : decode cX2_countOf 53 = .ok (.aload_n 0, 1) := dk_42 (dk_at dksX2_countOf_2 5 rfl rfl)
theorem dX2_countOf_54 : decode cX2_countOf 54 = .ok (.getfield 102, 3) := dk_180 0 102 (dk_at dksX2_countOf_2 6 rfl rfl)
theorem dX2_countOf_57 : decode cX2_countOf 57 = .ok (.ireturn, 1) := dk_172 (dk_at dksX2_countOf_2 9 rfl rfl)
theorem dX2_countOf_58 : decode cX2_countOf 58 = .ok (.aload_n 0, 1) := dk_42 (dk_at dksX2_countOf_2 10 rfl rfl)
theorem dX2_countOf_59 : decode cX2_countOf 59 = .ok (.getfield 112, 3) := dk_180 0 112 (dk_at dksX2_countOf_2 11 rfl rfl)
theorem dX2_countOf_62 : decode cX2_countOf 62 = .ok (.ireturn, 1) := dk_172 (dk_at dksX2_countOf_2 14 rfl rfl)
theorem dX2_countOf_63 : decode cX2_countOf 63 = .ok (.aload_n 0, 1) := dk_42 (dk_at dksX2_countOf_2 15 rfl rfl)
theorem dX2_countOf_64 : decode cX2_countOf 64 = .ok (.getfield 109, 3) := dk_180 0 109 (dk_at dksX2_countOf_2 16 rfl rfl)
theorem dX2_countOf_67 : decode cX2_countOf 67 = .ok (.ireturn, 1) := dk_172 (dk_at dksX2_countOf_2 19 rfl rfl)
theorem dX2_countOf_68 : decode cX2_countOf 68 = .ok (.aload_n 0, 1) := dk_42 (dk_at dksX2_countOf_2 20 rfl rfl)
theorem dX2_countOf_69 : decode cX2_countOf 69 = .ok (.getfield 127, 3) := dk_180 0 127 (dk_at dksX2_countOf_2 21 rfl rfl)
theorem dX2_countOf_72 : decode cX2_countOf 72 = .ok (.ireturn, 1) := dk_172 (dk_at dksX2_countOf_3 0 rfl rfl)
theorem dX2_countOf_73 : decode cX2_countOf 73 = .ok (.aload_n 0, 1) := dk_42 (dk_at dksX2_countOf_3 1 rfl rfl)
theorem dX2_countOf_74 : decode cX2_countOf 74 = .ok (.getfield 130, 3) := dk_180 0 130 (dk_at dksX2_countOf_3 2 rfl rfl)
theorem dX2_countOf_77 : decode cX2_countOf 77 = .ok (.ireturn, 1) := dk_172 (dk_at dksX2_countOf_3 5 rfl rfl)
theorem dX2_countOf_78 : decode cX2_countOf 78 = .ok (.aload_n 0, 1) := dk_42 (dk_at dksX2_countOf_3 6 rfl rfl)
theorem dX2_countOf_79 : decode cX2_countOf 79 = .ok (.getfield 75, 3) := dk_180 0 75 (dk_at dksX2_countOf_3 7 rfl rfl)
theorem dX2_countOf_82 : decode cX2_countOf 82 = .ok (.ireturn, 1) := dk_172 (dk_at dksX2_countOf_3 10 rfl rfl)
theorem dX2_countOf_83 : decode cX2_countOf 83 = .ok (.aload_n 0, 1) := dk_42 (dk_at dksX2_countOf_3 11 rfl rfl)
theorem dX2_countOf_84 : decode cX2_countOf 84 = .ok (.getfield 212, 3) := dk_180 0 212 (dk_at dksX2_countOf_3 12 rfl rfl)
theorem dX2_countOf_87 : decode cX2_countOf 87 = .ok (.ireturn, 1) := dk_172 (dk_at dksX2_countOf_3 15 rfl rfl)
theorem dX2_countOf_88 : decode cX2_countOf 88 = .ok (.bipush (-102), 2) := dk_16 154 (dk_at dksX2_countOf_3 16 rfl rfl)
theorem dX2_countOf_90 : decode cX2_countOf 90 = .ok (.ireturn, 1) := dk_172 (dk_at dksX2_countOf_3 18 rfl rfl)
abbrev cX2_digest : ByteArray := prog_10_method_65_code
def yX2_digest : MethodName := ⟨RX2, "digest", "()J"⟩
def dkwX2_digest_11 : List UInt8 := [132, 2, 1, 167, 255, 237, 42, 180, 0, 248, 173]
abbrev dktX2_digest_11 : List UInt8 := dkwX2_digest_11 ++ []
def dkwX2_digest_10 : List UInt8 := [132, 2, 1, 167, 255, 234, 3, 61, 28, 16, 8, 162, 0, 19, 42, 42, 28, 182, 0, 243, 133, 182, 0, 254]
abbrev dktX2_digest_10 : List UInt8 := dkwX2_digest_10 ++ dktX2_digest_11
def dkwX2_digest_9 : List UInt8 := [167, 255, 225, 3, 61, 28, 42, 180, 0, 75, 162, 0, 20, 42, 42, 180, 0, 7, 28, 46, 133, 182, 0, 254]
abbrev dktX2_digest_9 : List UInt8 := dkwX2_digest_9 ++ dktX2_digest_10
def dkwX2_digest_8 : List UInt8 := [42, 28, 3, 182, 0, 234, 133, 182, 0, 254, 42, 42, 28, 4, 182, 0, 234, 133, 182, 0, 254, 132, 2, 1]
abbrev dktX2_digest_8 : List UInt8 := dkwX2_digest_8 ++ dktX2_digest_9
def dkwX2_digest_7 : List UInt8 := [42, 28, 182, 0, 228, 133, 182, 0, 254, 132, 2, 1, 167, 255, 235, 5, 61, 28, 16, 10, 162, 0, 31, 42]
abbrev dktX2_digest_7 : List UInt8 := dkwX2_digest_7 ++ dktX2_digest_8
def dkwX2_digest_6 : List UInt8 := [180, 0, 197, 133, 182, 0, 254, 42, 27, 133, 182, 0, 254, 3, 61, 28, 42, 180, 0, 67, 162, 0, 19, 42]
abbrev dktX2_digest_6 : List UInt8 := dkwX2_digest_6 ++ dktX2_digest_7
def dkwX2_digest_5 : List UInt8 := [182, 0, 161, 133, 182, 0, 254, 42, 42, 4, 182, 0, 161, 133, 182, 0, 254, 42, 182, 0, 209, 60, 42, 42]
abbrev dktX2_digest_5 : List UInt8 := dkwX2_digest_5 ++ dktX2_digest_6
def dkwX2_digest_4 : List UInt8 := [182, 0, 157, 133, 182, 0, 254, 132, 2, 1, 167, 255, 237, 132, 1, 1, 167, 255, 221, 42, 42, 3]
abbrev dktX2_digest_4 : List UInt8 := dkwX2_digest_4 ++ dktX2_digest_5
def dkwX2_digest_3 : List UInt8 := [167, 255, 224, 3, 60, 27, 42, 180, 0, 109, 162, 0, 33, 3, 61, 28, 6, 162, 0, 20, 42, 42, 27, 28]
abbrev dktX2_digest_3 : List UInt8 := dkwX2_digest_3 ++ dktX2_digest_4
def dkwX2_digest_2 : List UInt8 := [180, 0, 22, 27, 46, 133, 182, 0, 254, 42, 42, 27, 182, 0, 147, 133, 182, 0, 254, 132, 1, 1]
abbrev dktX2_digest_2 : List UInt8 := dkwX2_digest_2 ++ dktX2_digest_3
def dkwX2_digest_1 : List UInt8 := [27, 46, 133, 182, 0, 254, 132, 1, 1, 167, 255, 232, 3, 60, 27, 42, 180, 0, 102, 162, 0, 30, 42, 42]
abbrev dktX2_digest_1 : List UInt8 := dkwX2_digest_1 ++ dktX2_digest_2
def dkwX2_digest_0 : List UInt8 := [42, 20, 0, 252, 181, 0, 248, 3, 60, 27, 5, 42, 180, 0, 112, 104, 162, 0, 20, 42, 42, 180, 0, 13]
abbrev dktX2_digest_0 : List UInt8 := dkwX2_digest_0 ++ dktX2_digest_1
theorem dksX2_digest_0 : cX2_digest.data.toList.drop 0 = dktX2_digest_0 := by decide +kernel
theorem dksX2_digest_1 : cX2_digest.data.toList.drop 24 = dktX2_digest_1 := dk_seg dksX2_digest_0 24 rfl rfl
theorem dksX2_digest_2 : cX2_digest.data.toList.drop 48 = dktX2_digest_2 := dk_seg dksX2_digest_1 24 rfl rfl
theorem dksX2_digest_3 : cX2_digest.data.toList.drop 70 = dktX2_digest_3 := dk_seg dksX2_digest_2 22 rfl rfl
theorem dksX2_digest_4 : cX2_digest.data.toList.drop 94 = dktX2_digest_4 := dk_seg dksX2_digest_3 24 rfl rfl
theorem dksX2_digest_5 : cX2_digest.data.toList.drop 116 = dktX2_digest_5 := dk_seg dksX2_digest_4 22 rfl rfl
theorem dksX2_digest_6 : cX2_digest.data.toList.drop 140 = dktX2_digest_6 := dk_seg dksX2_digest_5 24 rfl rfl
theorem dksX2_digest_7 : cX2_digest.data.toList.drop 164 = dktX2_digest_7 := dk_seg dksX2_digest_6 24 rfl rfl
theorem dksX2_digest_8 : cX2_digest.data.toList.drop 188 = dktX2_digest_8 := dk_seg dksX2_digest_7 24 rfl rfl
theorem dksX2_digest_9 : cX2_digest.data.toList.drop 212 = dktX2_digest_9 := dk_seg dksX2_digest_8 24 rfl rfl
theorem dksX2_digest_10 : cX2_digest.data.toList.drop 236 = dktX2_digest_10 := dk_seg dksX2_digest_9 24 rfl rfl
theorem dksX2_digest_11 : cX2_digest.data.toList.drop 260 = dktX2_digest_11 := dk_seg dksX2_digest_10 24 rfl rfl
theorem dX2_digest_0 : decode cX2_digest 0 = .ok (.aload_n 0, 1) := dk_42 (dk_at dksX2_digest_0 0 rfl rfl)
theorem dX2_digest_1 : decode cX2_digest 1 = .ok (.ldc2_w 252, 3) := dk_20 0 252 (dk_at dksX2_digest_0 1 rfl rfl)
theorem dX2_digest_4 : decode cX2_digest 4 = .ok (.putfield 248, 3) := dk_181 0 248 (dk_at dksX2_digest_0 4 rfl rfl)
theorem dX2_digest_7 : decode cX2_digest 7 = .ok (.iconst 0, 1) := dk_3 (dk_at dksX2_digest_0 7 rfl rfl)
theorem dX2_digest_8 : decode cX2_digest 8 = .ok (.istore_n 1, 1) := dk_60 (dk_at dksX2_digest_0 8 rfl rfl)
theorem dX2_digest_9 : decode cX2_digest 9 = .ok (.iload_n 1, 1) := dk_27 (dk_at dksX2_digest_0 9 rfl rfl)
theorem dX2_digest_10 : decode cX2_digest 10 = .ok (.iconst 2, 1) := dk_5 (dk_at dksX2_digest_0 10 rfl rfl)
theorem dX2_digest_11 : decode cX2_digest 11 = .ok (.aload_n 0, 1) := dk_42 (dk_at dksX2_digest_0 11 rfl rfl)
theorem dX2_digest_12 : decode cX2_digest 12 = .ok (.getfield 112, 3) := dk_180 0 112 (dk_at dksX2_digest_0 12 rfl rfl)
theorem dX2_digest_15 : decode cX2_digest 15 = .ok (.imul, 1) := dk_104 (dk_at dksX2_digest_0 15 rfl rfl)
theorem dX2_digest_16 : decode cX2_digest 16 = .ok (.if_icmp .ge 20, 3) := dk_162 0 20 (dk_at dksX2_digest_0 16 rfl rfl)
theorem dX2_digest_19 : decode cX2_digest 19 = .ok (.aload_n 0, 1) := dk_42 (dk_at dksX2_digest_0 19 rfl rfl)
theorem dX2_digest_20 : decode cX2_digest 20 = .ok (.aload_n 0, 1) := dk_42 (dk_at dksX2_digest_0 20 rfl rfl)
theorem dX2_digest_21 : decode cX2_digest 21 = .ok (.getfield 13, 3) := dk_180 0 13 (dk_at dksX2_digest_0 21 rfl rfl)
theorem dX2_digest_24 : decode cX2_digest 24 = .ok (.iload_n 1, 1) := dk_27 (dk_at dksX2_digest_1 0 rfl rfl)
theorem dX2_digest_25 : decode cX2_digest 25 = .ok (.iaload, 1) := dk_46 (dk_at dksX2_digest_1 1 rfl rfl)
theorem dX2_digest_26 : decode cX2_digest 26 = .ok (.i2l, 1) := dk_133 (dk_at dksX2_digest_1 2 rfl rfl)
theorem dX2_digest_27 : decode cX2_digest 27 = .ok (.invokevirtual 254, 3) := dk_182 0 254 (dk_at dksX2_digest_1 3 rfl rfl)
theorem dX2_digest_30 : decode cX2_digest 30 = .ok (.iinc 1 1, 3) := dk_132 1 1 (dk_at dksX2_digest_1 6 rfl rfl)
theorem dX2_digest_33 : decode cX2_digest 33 = .ok (.goto (-24), 3) := dk_167 255 232 (dk_at dksX2_digest_1 9 rfl rfl)
theorem dX2_digest_36 : decode cX2_digest 36 = .ok (.iconst 0, 1) := dk_3 (dk_at dksX2_digest_1 12 rfl rfl)
theorem dX2_digest_37 : decode cX2_digest 37 = .ok (.istore_n 1, 1) := dk_60 (dk_at dksX2_digest_1 13 rfl rfl)
theorem dX2_digest_38 : decode cX2_digest 38 = .ok (.iload_n 1, 1) := dk_27 (dk_at dksX2_digest_1 14 rfl rfl)
theorem dX2_digest_39 : decode cX2_digest 39 = .ok (.aload_n 0, 1) := dk_42 (dk_at dksX2_digest_1 15 rfl rfl)
theorem dX2_digest_40 : decode cX2_digest 40 = .ok (.getfield 102, 3) := dk_180 0 102 (dk_at dksX2_digest_1 16 rfl rfl)
theorem dX2_digest_43 : decode cX2_digest 43 = .ok (.if_icmp .ge 30, 3) := dk_162 0 30 (dk_at dksX2_digest_1 19 rfl rfl)
theorem dX2_digest_46 : decode cX2_digest 46 = .ok (.aload_n 0, 1) := dk_42 (dk_at dksX2_digest_1 22 rfl rfl)
theorem dX2_digest_47 : decode cX2_digest 47 = .ok (.aload_n 0, 1) := dk_42 (dk_at dksX2_digest_1 23 rfl rfl)
theorem dX2_digest_48 : decode cX2_digest 48 = .ok (.getfield 22, 3) := dk_180 0 22 (dk_at dksX2_digest_2 0 rfl rfl)
theorem dX2_digest_51 : decode cX2_digest 51 = .ok (.iload_n 1, 1) := dk_27 (dk_at dksX2_digest_2 3 rfl rfl)
theorem dX2_digest_52 : decode cX2_digest 52 = .ok (.iaload, 1) := dk_46 (dk_at dksX2_digest_2 4 rfl rfl)
theorem dX2_digest_53 : decode cX2_digest 53 = .ok (.i2l, 1) := dk_133 (dk_at dksX2_digest_2 5 rfl rfl)
theorem dX2_digest_54 : decode cX2_digest 54 = .ok (.invokevirtual 254, 3) := dk_182 0 254 (dk_at dksX2_digest_2 6 rfl rfl)
theorem dX2_digest_57 : decode cX2_digest 57 = .ok (.aload_n 0, 1) := dk_42 (dk_at dksX2_digest_2 9 rfl rfl)
theorem dX2_digest_58 : decode cX2_digest 58 = .ok (.aload_n 0, 1) := dk_42 (dk_at dksX2_digest_2 10 rfl rfl)
theorem dX2_digest_59 : decode cX2_digest 59 = .ok (.iload_n 1, 1) := dk_27 (dk_at dksX2_digest_2 11 rfl rfl)
theorem dX2_digest_60 : decode cX2_digest 60 = .ok (.invokevirtual 147, 3) := dk_182 0 147 (dk_at dksX2_digest_2 12 rfl rfl)
theorem dX2_digest_63 : decode cX2_digest 63 = .ok (.i2l, 1) := dk_133 (dk_at dksX2_digest_2 15 rfl rfl)
theorem dX2_digest_64 : decode cX2_digest 64 = .ok (.invokevirtual 254, 3) := dk_182 0 254 (dk_at dksX2_digest_2 16 rfl rfl)
theorem dX2_digest_67 : decode cX2_digest 67 = .ok (.iinc 1 1, 3) := dk_132 1 1 (dk_at dksX2_digest_2 19 rfl rfl)
theorem dX2_digest_70 : decode cX2_digest 70 = .ok (.goto (-32), 3) := dk_167 255 224 (dk_at dksX2_digest_3 0 rfl rfl)
theorem dX2_digest_73 : decode cX2_digest 73 = .ok (.iconst 0, 1) := dk_3 (dk_at dksX2_digest_3 3 rfl rfl)
theorem dX2_digest_74 : decode cX2_digest 74 = .ok (.istore_n 1, 1) := dk_60 (dk_at dksX2_digest_3 4 rfl rfl)
theorem dX2_digest_75 : decode cX2_digest 75 = .ok (.iload_n 1, 1) := dk_27 (dk_at dksX2_digest_3 5 rfl rfl)
theorem dX2_digest_76 : decode cX2_digest 76 = .ok (.aload_n 0, 1) := dk_42 (dk_at dksX2_digest_3 6 rfl rfl)
theorem dX2_digest_77 : decode cX2_digest 77 = .ok (.getfield 109, 3) := dk_180 0 109 (dk_at dksX2_digest_3 7 rfl rfl)
theorem dX2_digest_80 : decode cX2_digest 80 = .ok (.if_icmp .ge 33, 3) := dk_162 0 33 (dk_at dksX2_digest_3 10 rfl rfl)
theorem dX2_digest_83 : decode cX2_digest 83 = .ok (.iconst 0, 1) := dk_3 (dk_at dksX2_digest_3 13 rfl rfl)
theorem dX2_digest_84 : decode cX2_digest 84 = .ok (.istore_n 2, 1) := dk_61 (dk_at dksX2_digest_3 14 rfl rfl)
theorem dX2_digest_85 : decode cX2_digest 85 = .ok (.iload_n 2, 1) := dk_28 (dk_at dksX2_digest_3 15 rfl rfl)
theorem dX2_digest_86 : decode cX2_digest 86 = .ok (.iconst 3, 1) := dk_6 (dk_at dksX2_digest_3 16 rfl rfl)
theorem dX2_digest_87 : decode cX2_digest 87 = .ok (.if_icmp .ge 20, 3) := dk_162 0 20 (dk_at dksX2_digest_3 17 rfl rfl)
theorem dX2_digest_90 : decode cX2_digest 90 = .ok (.aload_n 0, 1) := dk_42 (dk_at dksX2_digest_3 20 rfl rfl)
theorem dX2_digest_91 : decode cX2_digest 91 = .ok (.aload_n 0, 1) := dk_42 (dk_at dksX2_digest_3 21 rfl rfl)
theorem dX2_digest_92 : decode cX2_digest 92 = .ok (.iload_n 1, 1) := dk_27 (dk_at dksX2_digest_3 22 rfl rfl)
theorem dX2_digest_93 : decode cX2_digest 93 = .ok (.iload_n 2, 1) := dk_28 (dk_at dksX2_digest_3 23 rfl rfl)
theorem dX2_digest_94 : decode cX2_digest 94 = .ok (.invokevirtual 157, 3) := dk_182 0 157 (dk_at dksX2_digest_4 0 rfl rfl)
theorem dX2_digest_97 : decode cX2_digest 97 = .ok (.i2l, 1) := dk_133 (dk_at dksX2_digest_4 3 rfl rfl)
theorem dX2_digest_98 : decode cX2_digest 98 = .ok (.invokevirtual 254, 3) := dk_182 0 254 (dk_at dksX2_digest_4 4 rfl rfl)
theorem dX2_digest_101 : decode cX2_digest 101 = .ok (.iinc 2 1, 3) := dk_132 2 1 (dk_at dksX2_digest_4 7 rfl rfl)
theorem dX2_digest_104 : decode cX2_digest 104 = .ok (.goto (-19), 3) := dk_167 255 237 (dk_at dksX2_digest_4 10 rfl rfl)
theorem dX2_digest_107 : decode cX2_digest 107 = .ok (.iinc 1 1, 3) := dk_132 1 1 (dk_at dksX2_digest_4 13 rfl rfl)
theorem dX2_digest_110 : decode cX2_digest 110 = .ok (.goto (-35), 3) := dk_167 255 221 (dk_at dksX2_digest_4 16 rfl rfl)
theorem dX2_digest_113 : decode cX2_digest 113 = .ok (.aload_n 0, 1) := dk_42 (dk_at dksX2_digest_4 19 rfl rfl)
theorem dX2_digest_114 : decode cX2_digest 114 = .ok (.aload_n 0, 1) := dk_42 (dk_at dksX2_digest_4 20 rfl rfl)
theorem dX2_digest_115 : decode cX2_digest 115 = .ok (.iconst 0, 1) := dk_3 (dk_at dksX2_digest_4 21 rfl rfl)
theorem dX2_digest_116 : decode cX2_digest 116 = .ok (.invokevirtual 161, 3) := dk_182 0 161 (dk_at dksX2_digest_5 0 rfl rfl)
theorem dX2_digest_119 : decode cX2_digest 119 = .ok (.i2l, 1) := dk_133 (dk_at dksX2_digest_5 3 rfl rfl)
theorem dX2_digest_120 : decode cX2_digest 120 = .ok (.invokevirtual 254, 3) := dk_182 0 254 (dk_at dksX2_digest_5 4 rfl rfl)
theorem dX2_digest_123 : decode cX2_digest 123 = .ok (.aload_n 0, 1) := dk_42 (dk_at dksX2_digest_5 7 rfl rfl)
theorem dX2_digest_124 : decode cX2_digest 124 = .ok (.aload_n 0, 1) := dk_42 (dk_at dksX2_digest_5 8 rfl rfl)
theorem dX2_digest_125 : decode cX2_digest 125 = .ok (.iconst 1, 1) := dk_4 (dk_at dksX2_digest_5 9 rfl rfl)
theorem dX2_digest_126 : decode cX2_digest 126 = .ok (.invokevirtual 161, 3) := dk_182 0 161 (dk_at dksX2_digest_5 10 rfl rfl)
theorem dX2_digest_129 : decode cX2_digest 129 = .ok (.i2l, 1) := dk_133 (dk_at dksX2_digest_5 13 rfl rfl)
theorem dX2_digest_130 : decode cX2_digest 130 = .ok (.invokevirtual 254, 3) := dk_182 0 254 (dk_at dksX2_digest_5 14 rfl rfl)
theorem dX2_digest_133 : decode cX2_digest 133 = .ok (.aload_n 0, 1) := dk_42 (dk_at dksX2_digest_5 17 rfl rfl)
theorem dX2_digest_134 : decode cX2_digest 134 = .ok (.invokevirtual 209, 3) := dk_182 0 209 (dk_at dksX2_digest_5 18 rfl rfl)
theorem dX2_digest_137 : decode cX2_digest 137 = .ok (.istore_n 1, 1) := dk_60 (dk_at dksX2_digest_5 21 rfl rfl)
theorem dX2_digest_138 : decode cX2_digest 138 = .ok (.aload_n 0, 1) := dk_42 (dk_at dksX2_digest_5 22 rfl rfl)
theorem dX2_digest_139 : decode cX2_digest 139 = .ok (.aload_n 0, 1) := dk_42 (dk_at dksX2_digest_5 23 rfl rfl)
theorem dX2_digest_140 : decode cX2_digest 140 = .ok (.getfield 197, 3) := dk_180 0 197 (dk_at dksX2_digest_6 0 rfl rfl)
theorem dX2_digest_143 : decode cX2_digest 143 = .ok (.i2l, 1) := dk_133 (dk_at dksX2_digest_6 3 rfl rfl)
theorem dX2_digest_144 : decode cX2_digest 144 = .ok (.invokevirtual 254, 3) := dk_182 0 254 (dk_at dksX2_digest_6 4 rfl rfl)
theorem dX2_digest_147 : decode cX2_digest 147 = .ok (.aload_n 0, 1) := dk_42 (dk_at dksX2_digest_6 7 rfl rfl)
theorem dX2_digest_148 : decode cX2_digest 148 = .ok (.iload_n 1, 1) := dk_27 (dk_at dksX2_digest_6 8 rfl rfl)
theorem dX2_digest_149 : decode cX2_digest 149 = .ok (.i2l, 1) := dk_133 (dk_at dksX2_digest_6 9 rfl rfl)
theorem dX2_digest_150 : decode cX2_digest 150 = .ok (.invokevirtual 254, 3) := dk_182 0 254 (dk_at dksX2_digest_6 10 rfl rfl)
theorem dX2_digest_153 : decode cX2_digest 153 = .ok (.iconst 0, 1) := dk_3 (dk_at dksX2_digest_6 13 rfl rfl)
theorem dX2_digest_154 : decode cX2_digest 154 = .ok (.istore_n 2, 1) := dk_61 (dk_at dksX2_digest_6 14 rfl rfl)
theorem dX2_digest_155 : decode cX2_digest 155 = .ok (.iload_n 2, 1) := dk_28 (dk_at dksX2_digest_6 15 rfl rfl)
theorem dX2_digest_156 : decode cX2_digest 156 = .ok (.aload_n 0, 1) := dk_42 (dk_at dksX2_digest_6 16 rfl rfl)
theorem dX2_digest_157 : decode cX2_digest 157 = .ok (.getfield 67, 3) := dk_180 0 67 (dk_at dksX2_digest_6 17 rfl rfl)
theorem dX2_digest_160 : decode cX2_digest 160 = .ok (.if_icmp .ge 19, 3) := dk_162 0 19 (dk_at dksX2_digest_6 20 rfl rfl)
theorem dX2_digest_163 : decode cX2_digest 163 = .ok (.aload_n 0, 1) := dk_42 (dk_at dksX2_digest_6 23 rfl rfl)
theorem dX2_digest_164 : decode cX2_digest 164 = .ok (.aload_n 0, 1) := dk_42 (dk_at dksX2_digest_7 0 rfl rfl)
theorem dX2_digest_165 : decode cX2_digest 165 = .ok (.iload_n 2, 1) := dk_28 (dk_at dksX2_digest_7 1 rfl rfl)
theorem dX2_digest_166 : decode cX2_digest 166 = .ok (.invokevirtual 228, 3) := dk_182 0 228 (dk_at dksX2_digest_7 2 rfl rfl)
theorem dX2_digest_169 : decode cX2_digest 169 = .ok (.i2l, 1) := dk_133 (dk_at dksX2_digest_7 5 rfl rfl)
theorem dX2_digest_170 : decode cX2_digest 170 = .ok (.invokevirtual 254, 3) := dk_182 0 254 (dk_at dksX2_digest_7 6 rfl rfl)
theorem dX2_digest_173 : decode cX2_digest 173 = .ok (.iinc 2 1, 3) := dk_132 2 1 (dk_at dksX2_digest_7 9 rfl rfl)
theorem dX2_digest_176 : decode cX2_digest 176 = .ok (.goto (-21), 3) := dk_167 255 235 (dk_at dksX2_digest_7 12 rfl rfl)
theorem dX2_digest_179 : decode cX2_digest 179 = .ok (.iconst 2, 1) := dk_5 (dk_at dksX2_digest_7 15 rfl rfl)
theorem dX2_digest_180 : decode cX2_digest 180 = .ok (.istore_n 2, 1) := dk_61 (dk_at dksX2_digest_7 16 rfl rfl)
theorem dX2_digest_181 : decode cX2_digest 181 = .ok (.iload_n 2, 1) := dk_28 (dk_at dksX2_digest_7 17 rfl rfl)
theorem dX2_digest_182 : decode cX2_digest 182 = .ok (.bipush 10, 2) := dk_16 10 (dk_at dksX2_digest_7 18 rfl rfl)
theorem dX2_digest_184 : decode cX2_digest 184 = .ok (.if_icmp .ge 31, 3) := dk_162 0 31 (dk_at dksX2_digest_7 20 rfl rfl)
theorem dX2_digest_187 : decode cX2_digest 187 = .ok (.aload_n 0, 1) := dk_42 (dk_at dksX2_digest_7 23 rfl rfl)
theorem dX2_digest_188 : decode cX2_digest 188 = .ok (.aload_n 0, 1) := dk_42 (dk_at dksX2_digest_8 0 rfl rfl)
theorem dX2_digest_189 : decode cX2_digest 189 = .ok (.iload_n 2, 1) := dk_28 (dk_at dksX2_digest_8 1 rfl rfl)
theorem dX2_digest_190 : decode cX2_digest 190 = .ok (.iconst 0, 1) := dk_3 (dk_at dksX2_digest_8 2 rfl rfl)
theorem dX2_digest_191 : decode cX2_digest 191 = .ok (.invokevirtual 234, 3) := dk_182 0 234 (dk_at dksX2_digest_8 3 rfl rfl)
theorem dX2_digest_194 : decode cX2_digest 194 = .ok (.i2l, 1) := dk_133 (dk_at dksX2_digest_8 6 rfl rfl)
theorem dX2_digest_195 : decode cX2_digest 195 = .ok (.invokevirtual 254, 3) := dk_182 0 254 (dk_at dksX2_digest_8 7 rfl rfl)
theorem dX2_digest_198 : decode cX2_digest 198 = .ok (.aload_n 0, 1) := dk_42 (dk_at dksX2_digest_8 10 rfl rfl)
theorem dX2_digest_199 : decode cX2_digest 199 = .ok (.aload_n 0, 1) := dk_42 (dk_at dksX2_digest_8 11 rfl rfl)
theorem dX2_digest_200 : decode cX2_digest 200 = .ok (.iload_n 2, 1) := dk_28 (dk_at dksX2_digest_8 12 rfl rfl)
theorem dX2_digest_201 : decode cX2_digest 201 = .ok (.iconst 1, 1) := dk_4 (dk_at dksX2_digest_8 13 rfl rfl)
theorem dX2_digest_202 : decode cX2_digest 202 = .ok (.invokevirtual 234, 3) := dk_182 0 234 (dk_at dksX2_digest_8 14 rfl rfl)
theorem dX2_digest_205 : decode cX2_digest 205 = .ok (.i2l, 1) := dk_133 (dk_at dksX2_digest_8 17 rfl rfl)
theorem dX2_digest_206 : decode cX2_digest 206 = .ok (.invokevirtual 254, 3) := dk_182 0 254 (dk_at dksX2_digest_8 18 rfl rfl)
theorem dX2_digest_209 : decode cX2_digest 209 = .ok (.iinc 2 1, 3) := dk_132 2 1 (dk_at dksX2_digest_8 21 rfl rfl)
theorem dX2_digest_212 : decode cX2_digest 212 = .ok (.goto (-31), 3) := dk_167 255 225 (dk_at dksX2_digest_9 0 rfl rfl)
theorem dX2_digest_215 : decode cX2_digest 215 = .ok (.iconst 0, 1) := dk_3 (dk_at dksX2_digest_9 3 rfl rfl)
theorem dX2_digest_216 : decode cX2_digest 216 = .ok (.istore_n 2, 1) := dk_61 (dk_at dksX2_digest_9 4 rfl rfl)
theorem dX2_digest_217 : decode cX2_digest 217 = .ok (.iload_n 2, 1) := dk_28 (dk_at dksX2_digest_9 5 rfl rfl)
theorem dX2_digest_218 : decode cX2_digest 218 = .ok (.aload_n 0, 1) := dk_42 (dk_at dksX2_digest_9 6 rfl rfl)
theorem dX2_digest_219 : decode cX2_digest 219 = .ok (.getfield 75, 3) := dk_180 0 75 (dk_at dksX2_digest_9 7 rfl rfl)
theorem dX2_digest_222 : decode cX2_digest 222 = .ok (.if_icmp .ge 20, 3) := dk_162 0 20 (dk_at dksX2_digest_9 10 rfl rfl)
theorem dX2_digest_225 : decode cX2_digest 225 = .ok (.aload_n 0, 1) := dk_42 (dk_at dksX2_digest_9 13 rfl rfl)
theorem dX2_digest_226 : decode cX2_digest 226 = .ok (.aload_n 0, 1) := dk_42 (dk_at dksX2_digest_9 14 rfl rfl)
theorem dX2_digest_227 : decode cX2_digest 227 = .ok (.getfield 7, 3) := dk_180 0 7 (dk_at dksX2_digest_9 15 rfl rfl)
theorem dX2_digest_230 : decode cX2_digest 230 = .ok (.iload_n 2, 1) := dk_28 (dk_at dksX2_digest_9 18 rfl rfl)
theorem dX2_digest_231 : decode cX2_digest 231 = .ok (.iaload, 1) := dk_46 (dk_at dksX2_digest_9 19 rfl rfl)
theorem dX2_digest_232 : decode cX2_digest 232 = .ok (.i2l, 1) := dk_133 (dk_at dksX2_digest_9 20 rfl rfl)
theorem dX2_digest_233 : decode cX2_digest 233 = .ok (.invokevirtual 254, 3) := dk_182 0 254 (dk_at dksX2_digest_9 21 rfl rfl)
theorem dX2_digest_236 : decode cX2_digest 236 = .ok (.iinc 2 1, 3) := dk_132 2 1 (dk_at dksX2_digest_10 0 rfl rfl)
theorem dX2_digest_239 : decode cX2_digest 239 = .ok (.goto (-22), 3) := dk_167 255 234 (dk_at dksX2_digest_10 3 rfl rfl)
theorem dX2_digest_242 : decode cX2_digest 242 = .ok (.iconst 0, 1) := dk_3 (dk_at dksX2_digest_10 6 rfl rfl)
theorem dX2_digest_243 : decode cX2_digest 243 = .ok (.istore_n 2, 1) := dk_61 (dk_at dksX2_digest_10 7 rfl rfl)
theorem dX2_digest_244 : decode cX2_digest 244 = .ok (.iload_n 2, 1) := dk_28 (dk_at dksX2_digest_10 8 rfl rfl)
theorem dX2_digest_245 : decode cX2_digest 245 = .ok (.bipush 8, 2) := dk_16 8 (dk_at dksX2_digest_10 9 rfl rfl)
theorem dX2_digest_247 : decode cX2_digest 247 = .ok (.if_icmp .ge 19, 3) := dk_162 0 19 (dk_at dksX2_digest_10 11 rfl rfl)
theorem dX2_digest_250 : decode cX2_digest 250 = .ok (.aload_n 0, 1) := dk_42 (dk_at dksX2_digest_10 14 rfl rfl)
theorem dX2_digest_251 : decode cX2_digest 251 = .ok (.aload_n 0, 1) := dk_42 (dk_at dksX2_digest_10 15 rfl rfl)
theorem dX2_digest_252 : decode cX2_digest 252 = .ok (.iload_n 2, 1) := dk_28 (dk_at dksX2_digest_10 16 rfl rfl)
theorem dX2_digest_253 : decode cX2_digest 253 = .ok (.invokevirtual 243, 3) := dk_182 0 243 (dk_at dksX2_digest_10 17 rfl rfl)
theorem dX2_digest_256 : decode cX2_digest 256 = .ok (.i2l, 1) := dk_133 (dk_at dksX2_digest_10 20 rfl rfl)
theorem dX2_digest_257 : decode cX2_digest 257 = .ok (.invokevirtual 254, 3) := dk_182 0 254 (dk_at dksX2_digest_10 21 rfl rfl)
theorem dX2_digest_260 : decode cX2_digest 260 = .ok (.iinc 2 1, 3) := dk_132 2 1 (dk_at dksX2_digest_11 0 rfl rfl)
theorem dX2_digest_263 : decode cX2_digest 263 = .ok (.goto (-19), 3) := dk_167 255 237 (dk_at dksX2_digest_11 3 rfl rfl)
theorem dX2_digest_266 : decode cX2_digest 266 = .ok (.aload_n 0, 1) := dk_42 (dk_at dksX2_digest_11 6 rfl rfl)
theorem dX2_digest_267 : decode cX2_digest 267 = .ok (.getfield 248, 3) := dk_180 0 248 (dk_at dksX2_digest_11 7 rfl rfl)
theorem dX2_digest_270 : decode cX2_digest 270 = .ok (.lreturn, 1) := dk_173 (dk_at dksX2_digest_11 10 rfl rfl)
abbrev cX2_say : ByteArray := prog_10_method_64_code
def yX2_say : MethodName := ⟨RX2, "say", "(J)V"⟩
def dkwX2_say_0 : List UInt8 := [42, 20, 0, 246, 42, 180, 0, 248, 105, 31, 97, 181, 0, 248, 177]
abbrev dktX2_say_0 : List UInt8 := dkwX2_say_0 ++ []
theorem dksX2_say_0 : cX2_say.data.toList.drop 0 = dktX2_say_0 := by decide +kernel
theorem dX2_say_0 : decode cX2_say 0 = .ok (.aload_n 0, 1) := dk_42 (dk_at dksX2_say_0 0 rfl rfl)
theorem dX2_say_1 : decode cX2_say 1 = .ok (.ldc2_w 246, 3) := dk_20 0 246 (dk_at dksX2_say_0 1 rfl rfl)
theorem dX2_say_4 : decode cX2_say 4 = .ok (.aload_n 0, 1) := dk_42 (dk_at dksX2_say_0 4 rfl rfl)
theorem dX2_say_5 : decode cX2_say 5 = .ok (.getfield 248, 3) := dk_180 0 248 (dk_at dksX2_say_0 5 rfl rfl)
theorem dX2_say_8 : decode cX2_say 8 = .ok (.lmul, 1) := dk_105 (dk_at dksX2_say_0 8 rfl rfl)
theorem dX2_say_9 : decode cX2_say 9 = .ok (.lload_n 1, 1) := dk_31 (dk_at dksX2_say_0 9 rfl rfl)
theorem dX2_say_10 : decode cX2_say 10 = .ok (.ladd, 1) := dk_97 (dk_at dksX2_say_0 10 rfl rfl)
theorem dX2_say_11 : decode cX2_say 11 = .ok (.putfield 248, 3) := dk_181 0 248 (dk_at dksX2_say_0 11 rfl rfl)
theorem dX2_say_14 : decode cX2_say 14 = .ok (.return_, 1) := dk_177 (dk_at dksX2_say_0 14 rfl rfl)
theorem q77 : (Jvm.Cond.initialized "ChordNotHeardModel") ∈ lw_all := lw_g (lw_at lw_m1 8 rfl) rfl
theorem q504 : (Jvm.Cond.selects "ChordNotHeardModel" ({ cls := "java/lang/Object", name := "getClass", desc := "()Ljava/lang/Class;" } : Jvm.MethodName) ({ cls := "java/lang/Object", name := "getClass", desc := "()Ljava/lang/Class;" } : Jvm.MethodName)) ∈ lw_all := lw_g (lw_at lw_m2 195 rfl) rfl
theorem q817 : (Jvm.Cond.instantiable "ChordNotHeardModel" (34 : Nat)) ∈ lw_all := lw_g (lw_at lw_m4 28 rfl) rfl
theorem q819 : (Jvm.Cond.instanceMethod ({ cls := "ChordNotHeardModel", name := "<init>", desc := "()V" } : Jvm.MethodName)) ∈ lw_all := lw_g (lw_at lw_m4 30 rfl) rfl
theorem q820 : (Jvm.Cond.code ({ cls := "ChordNotHeardModel", name := "<init>", desc := "()V" } : Jvm.MethodName) prog_10_method_1_code (1 : Nat) (Option.none : Option Jvm.ClassFile.FieldType)) ∈ lw_all := lw_g (lw_at lw_m4 31 rfl) rfl
theorem q821 : (Jvm.Cond.methodLink "ChordNotHeardModel" (1 : Nat) ({ cls := "java/lang/Object", name := "<init>", desc := "()V" } : Jvm.MethodName)) ∈ lw_all := lw_g (lw_at lw_m4 32 rfl) rfl
theorem q822 : (Jvm.Cond.constant "ChordNotHeardModel" (47 : Nat) (86016 : Int32)) ∈ lw_all := lw_g (lw_at lw_m4 33 rfl) rfl
theorem q823 : (Jvm.Cond.methodLink "ChordNotHeardModel" (70 : Nat) ({ cls := "ChordNotHeardModel", name := "layChords", desc := "()V" } : Jvm.MethodName)) ∈ lw_all := lw_g (lw_at lw_m4 34 rfl) rfl
theorem q824 : (Jvm.Cond.privateMethod ({ cls := "ChordNotHeardModel", name := "layChords", desc := "()V" } : Jvm.MethodName)) ∈ lw_tbl := lw_at lw_m4 35 rfl
theorem q825 : (Jvm.Cond.instanceMethod ({ cls := "ChordNotHeardModel", name := "layChords", desc := "()V" } : Jvm.MethodName)) ∈ lw_all := lw_g (lw_at lw_m4 36 rfl) rfl
theorem q826 : (Jvm.Cond.code ({ cls := "ChordNotHeardModel", name := "layChords", desc := "()V" } : Jvm.MethodName) prog_10_method_8_code (4 : Nat) (Option.none : Option Jvm.ClassFile.FieldType)) ∈ lw_all := lw_g (lw_at lw_m4 37 rfl) rfl
theorem q827 : (Jvm.Cond.methodLink "ChordNotHeardModel" (105 : Nat) ({ cls := "ChordNotHeardModel", name := "laySorts", desc := "(I[I)I" } : Jvm.MethodName)) ∈ lw_all := lw_g (lw_at lw_m4 38 rfl) rfl
theorem q828 : (Jvm.Cond.privateMethod ({ cls := "ChordNotHeardModel", name := "laySorts", desc := "(I[I)I" } : Jvm.MethodName)) ∈ lw_tbl := lw_at lw_m4 39 rfl
theorem q829 : (Jvm.Cond.instanceMethod ({ cls := "ChordNotHeardModel", name := "laySorts", desc := "(I[I)I" } : Jvm.MethodName)) ∈ lw_all := lw_g (lw_at lw_m4 40 rfl) rfl
theorem q830 : (Jvm.Cond.code ({ cls := "ChordNotHeardModel", name := "laySorts", desc := "(I[I)I" } : Jvm.MethodName) prog_10_method_11_code (12 : Nat) (Option.some Jvm.ClassFile.FieldType.int)) ∈ lw_all := lw_g (lw_at lw_m4 41 rfl) rfl
theorem q831 : (Jvm.Cond.methodLink "ChordNotHeardModel" (115 : Nat) ({ cls := "ChordNotHeardModel", name := "sound", desc := "(III)I" } : Jvm.MethodName)) ∈ lw_all := lw_g (lw_at lw_m4 42 rfl) rfl
theorem q832 : (Jvm.Cond.privateMethod ({ cls := "ChordNotHeardModel", name := "sound", desc := "(III)I" } : Jvm.MethodName)) ∈ lw_tbl := lw_at lw_m4 43 rfl
theorem q833 : (Jvm.Cond.instanceMethod ({ cls := "ChordNotHeardModel", name := "sound", desc := "(III)I" } : Jvm.MethodName)) ∈ lw_all := lw_g (lw_at lw_m4 44 rfl) rfl
theorem q834 : (Jvm.Cond.code ({ cls := "ChordNotHeardModel", name := "sound", desc := "(III)I" } : Jvm.MethodName) prog_10_method_9_code (7 : Nat) (Option.some Jvm.ClassFile.FieldType.int)) ∈ lw_all := lw_g (lw_at lw_m4 45 rfl) rfl
theorem q835 : (Jvm.Cond.methodLink "ChordNotHeardModel" (119 : Nat) ({ cls := "ChordNotHeardModel", name := "numberOf", desc := "(IIII)I" } : Jvm.MethodName)) ∈ lw_all := lw_g (lw_at lw_m4 46 rfl) rfl
theorem q836 : (Jvm.Cond.static ({ cls := "ChordNotHeardModel", name := "numberOf", desc := "(IIII)I" } : Jvm.MethodName)) ∈ lw_all := lw_g (lw_at lw_m4 47 rfl) rfl
theorem q837 : (Jvm.Cond.code ({ cls := "ChordNotHeardModel", name := "numberOf", desc := "(IIII)I" } : Jvm.MethodName) prog_10_method_10_code (9 : Nat) (Option.some Jvm.ClassFile.FieldType.int)) ∈ lw_all := lw_g (lw_at lw_m4 48 rfl) rfl
theorem q838 : (Jvm.Cond.fieldLink "ChordNotHeardModel" (7 : Nat) "ChordNotHeardModel" "page" "[I") ∈ lw_all := lw_g (lw_at lw_m4 49 rfl) rfl
theorem q839 : (Jvm.Cond.fieldLink "ChordNotHeardModel" (75 : Nat) "ChordNotHeardModel" "pageMany" "I") ∈ lw_all := lw_g (lw_at lw_m4 50 rfl) rfl
theorem q840 : (Jvm.Cond.fieldLink "ChordNotHeardModel" (112 : Nat) "ChordNotHeardModel" "likenesses" "I") ∈ lw_all := lw_g (lw_at lw_m4 51 rfl) rfl
theorem q841 : (Jvm.Cond.fieldLink "ChordNotHeardModel" (13 : Nat) "ChordNotHeardModel" "likes" "[I") ∈ lw_all := lw_g (lw_at lw_m4 52 rfl) rfl
theorem q842 : (Jvm.Cond.fieldLink "ChordNotHeardModel" (81 : Nat) "ChordNotHeardModel" "state" "I") ∈ lw_all := lw_g (lw_at lw_m4 53 rfl) rfl
theorem q843 : (Jvm.Cond.fieldLink "ChordNotHeardModel" (78 : Nat) "ChordNotHeardModel" "readMany" "I") ∈ lw_all := lw_g (lw_at lw_m4 54 rfl) rfl
theorem q844 : (Jvm.Cond.fieldLink "ChordNotHeardModel" (16 : Nat) "ChordNotHeardModel" "readRow" "[I") ∈ lw_all := lw_g (lw_at lw_m4 55 rfl) rfl
theorem q845 : (Jvm.Cond.fieldLink "ChordNotHeardModel" (67 : Nat) "ChordNotHeardModel" "strings" "I") ∈ lw_all := lw_g (lw_at lw_m4 56 rfl) rfl
theorem q846 : (Jvm.Cond.fieldLink "ChordNotHeardModel" (102 : Nat) "ChordNotHeardModel" "chords" "I") ∈ lw_all := lw_g (lw_at lw_m4 57 rfl) rfl
theorem q847 : (Jvm.Cond.fieldLink "ChordNotHeardModel" (19 : Nat) "ChordNotHeardModel" "chordRows" "[I") ∈ lw_all := lw_g (lw_at lw_m4 58 rfl) rfl
theorem q848 : (Jvm.Cond.fieldLink "ChordNotHeardModel" (109 : Nat) "ChordNotHeardModel" "sorts" "I") ∈ lw_all := lw_g (lw_at lw_m4 59 rfl) rfl
theorem q849 : (Jvm.Cond.fieldLink "ChordNotHeardModel" (22 : Nat) "ChordNotHeardModel" "sortOf" "[I") ∈ lw_all := lw_g (lw_at lw_m4 60 rfl) rfl
theorem q850 : (Jvm.Cond.fieldLink "ChordNotHeardModel" (25 : Nat) "ChordNotHeardModel" "leastOf" "[I") ∈ lw_all := lw_g (lw_at lw_m4 61 rfl) rfl
theorem q851 : (Jvm.Cond.fieldLink "ChordNotHeardModel" (127 : Nat) "ChordNotHeardModel" "heard" "I") ∈ lw_all := lw_g (lw_at lw_m4 62 rfl) rfl
theorem q852 : (Jvm.Cond.fieldLink "ChordNotHeardModel" (28 : Nat) "ChordNotHeardModel" "heardRow" "[I") ∈ lw_all := lw_g (lw_at lw_m4 63 rfl) rfl
theorem q853 : (Jvm.Cond.fieldLink "ChordNotHeardModel" (130 : Nat) "ChordNotHeardModel" "sheets" "I") ∈ lw_all := lw_g (lw_at lw_m4 64 rfl) rfl
theorem q854 : (Jvm.Cond.fieldLink "ChordNotHeardModel" (31 : Nat) "ChordNotHeardModel" "sheetRows" "[I") ∈ lw_all := lw_g (lw_at lw_m4 65 rfl) rfl
theorem q855 : (Jvm.Cond.fieldLink "ChordNotHeardModel" (133 : Nat) "ChordNotHeardModel" "changes" "I") ∈ lw_all := lw_g (lw_at lw_m4 66 rfl) rfl
theorem q856 : (Jvm.Cond.fieldLink "ChordNotHeardModel" (34 : Nat) "ChordNotHeardModel" "ways" "[J") ∈ lw_all := lw_g (lw_at lw_m4 67 rfl) rfl
theorem q857 : (Jvm.Cond.fieldLink "ChordNotHeardModel" (38 : Nat) "ChordNotHeardModel" "next" "[J") ∈ lw_all := lw_g (lw_at lw_m4 68 rfl) rfl
theorem q858 : (Jvm.Cond.fieldLink "ChordNotHeardModel" (41 : Nat) "ChordNotHeardModel" "told" "[I") ∈ lw_all := lw_g (lw_at lw_m4 69 rfl) rfl
theorem q859 : (Jvm.Cond.fieldLink "ChordNotHeardModel" (182 : Nat) "ChordNotHeardModel" "toldMany" "I") ∈ lw_all := lw_g (lw_at lw_m4 70 rfl) rfl
theorem q860 : (Jvm.Cond.fieldLink "ChordNotHeardModel" (197 : Nat) "ChordNotHeardModel" "readingMany" "I") ∈ lw_all := lw_g (lw_at lw_m4 71 rfl) rfl
theorem q861 : (Jvm.Cond.fieldLink "ChordNotHeardModel" (44 : Nat) "ChordNotHeardModel" "notHeard" "[I") ∈ lw_all := lw_g (lw_at lw_m4 72 rfl) rfl
theorem q862 : (Jvm.Cond.fieldLink "ChordNotHeardModel" (212 : Nat) "ChordNotHeardModel" "done" "I") ∈ lw_all := lw_g (lw_at lw_m4 73 rfl) rfl
theorem q863 : (Jvm.Cond.fieldLink "ChordNotHeardModel" (48 : Nat) "ChordNotHeardModel" "marks" "[I") ∈ lw_all := lw_g (lw_at lw_m4 74 rfl) rfl
theorem q864 : (Jvm.Cond.fieldLink "ChordNotHeardModel" (51 : Nat) "ChordNotHeardModel" "moreSorts" "[I") ∈ lw_all := lw_g (lw_at lw_m4 75 rfl) rfl
theorem q865 : (Jvm.Cond.fieldLink "ChordNotHeardModel" (54 : Nat) "ChordNotHeardModel" "moreHeard" "[I") ∈ lw_all := lw_g (lw_at lw_m4 76 rfl) rfl
theorem q866 : (Jvm.Cond.fieldLink "ChordNotHeardModel" (63 : Nat) "ChordNotHeardModel" "keptHeard" "I") ∈ lw_all := lw_g (lw_at lw_m4 77 rfl) rfl
theorem q867 : (Jvm.Cond.fieldLink "ChordNotHeardModel" (237 : Nat) "ChordNotHeardModel" "keptSheets" "I") ∈ lw_all := lw_g (lw_at lw_m4 78 rfl) rfl
theorem q868 : (Jvm.Cond.fieldLink "ChordNotHeardModel" (240 : Nat) "ChordNotHeardModel" "keptChanges" "I") ∈ lw_all := lw_g (lw_at lw_m4 79 rfl) rfl
theorem q869 : (Jvm.Cond.fieldLink "ChordNotHeardModel" (57 : Nat) "ChordNotHeardModel" "keptRow" "[I") ∈ lw_all := lw_g (lw_at lw_m4 80 rfl) rfl
theorem q870 : (Jvm.Cond.fieldLink "ChordNotHeardModel" (60 : Nat) "ChordNotHeardModel" "keptRows" "[I") ∈ lw_all := lw_g (lw_at lw_m4 81 rfl) rfl
theorem q871 : (Jvm.Cond.fieldLink "ChordNotHeardModel" (248 : Nat) "ChordNotHeardModel" "hash" "J") ∈ lw_all := lw_g (lw_at lw_m4 82 rfl) rfl
theorem q872 : (Jvm.Cond.laysFinal "ChordNotHeardModel" "ChordNotHeardModel" "page" "[I") ∈ lw_all := lw_g (lw_at lw_m4 83 rfl) rfl
theorem q873 : (Jvm.Cond.soleField "ChordNotHeardModel" "page") ∈ lw_all := lw_g (lw_at lw_m4 84 rfl) rfl
theorem q874 : (Jvm.Cond.lays "ChordNotHeardModel" "ChordNotHeardModel" "pageMany" "I") ∈ lw_all := lw_g (lw_at lw_m4 85 rfl) rfl
theorem q875 : (Jvm.Cond.soleField "ChordNotHeardModel" "pageMany") ∈ lw_all := lw_g (lw_at lw_m4 86 rfl) rfl
theorem q876 : (Jvm.Cond.lays "ChordNotHeardModel" "ChordNotHeardModel" "likenesses" "I") ∈ lw_all := lw_g (lw_at lw_m4 87 rfl) rfl
theorem q877 : (Jvm.Cond.soleField "ChordNotHeardModel" "likenesses") ∈ lw_all := lw_g (lw_at lw_m4 88 rfl) rfl
theorem q878 : (Jvm.Cond.laysFinal "ChordNotHeardModel" "ChordNotHeardModel" "likes" "[I") ∈ lw_all := lw_g (lw_at lw_m4 89 rfl) rfl
theorem q879 : (Jvm.Cond.soleField "ChordNotHeardModel" "likes") ∈ lw_all := lw_g (lw_at lw_m4 90 rfl) rfl
theorem q880 : (Jvm.Cond.lays "ChordNotHeardModel" "ChordNotHeardModel" "state" "I") ∈ lw_all := lw_g (lw_at lw_m4 91 rfl) rfl
theorem q881 : (Jvm.Cond.soleField "ChordNotHeardModel" "state") ∈ lw_all := lw_g (lw_at lw_m4 92 rfl) rfl
theorem q882 : (Jvm.Cond.lays "ChordNotHeardModel" "ChordNotHeardModel" "readMany" "I") ∈ lw_all := lw_g (lw_at lw_m4 93 rfl) rfl
theorem q883 : (Jvm.Cond.soleField "ChordNotHeardModel" "readMany") ∈ lw_all := lw_g (lw_at lw_m4 94 rfl) rfl
theorem q884 : (Jvm.Cond.laysFinal "ChordNotHeardModel" "ChordNotHeardModel" "readRow" "[I") ∈ lw_all := lw_g (lw_at lw_m4 95 rfl) rfl
theorem q885 : (Jvm.Cond.soleField "ChordNotHeardModel" "readRow") ∈ lw_all := lw_g (lw_at lw_m4 96 rfl) rfl
theorem q886 : (Jvm.Cond.lays "ChordNotHeardModel" "ChordNotHeardModel" "strings" "I") ∈ lw_all := lw_g (lw_at lw_m4 97 rfl) rfl
theorem q887 : (Jvm.Cond.soleField "ChordNotHeardModel" "strings") ∈ lw_all := lw_g (lw_at lw_m4 98 rfl) rfl
theorem q888 : (Jvm.Cond.lays "ChordNotHeardModel" "ChordNotHeardModel" "chords" "I") ∈ lw_all := lw_g (lw_at lw_m4 99 rfl) rfl
theorem q889 : (Jvm.Cond.soleField "ChordNotHeardModel" "chords") ∈ lw_all := lw_g (lw_at lw_m4 100 rfl) rfl
theorem q890 : (Jvm.Cond.laysFinal "ChordNotHeardModel" "ChordNotHeardModel" "chordRows" "[I") ∈ lw_all := lw_g (lw_at lw_m4 101 rfl) rfl
theorem q891 : (Jvm.Cond.soleField "ChordNotHeardModel" "chordRows") ∈ lw_all := lw_g (lw_at lw_m4 102 rfl) rfl
theorem q892 : (Jvm.Cond.lays "ChordNotHeardModel" "ChordNotHeardModel" "sorts" "I") ∈ lw_all := lw_g (lw_at lw_m4 103 rfl) rfl
theorem q893 : (Jvm.Cond.soleField "ChordNotHeardModel" "sorts") ∈ lw_all := lw_g (lw_at lw_m4 104 rfl) rfl
theorem q894 : (Jvm.Cond.laysFinal "ChordNotHeardModel" "ChordNotHeardModel" "sortOf" "[I") ∈ lw_all := lw_g (lw_at lw_m4 105 rfl) rfl
theorem q895 : (Jvm.Cond.soleField "ChordNotHeardModel" "sortOf") ∈ lw_all := lw_g (lw_at lw_m4 106 rfl) rfl
theorem q896 : (Jvm.Cond.laysFinal "ChordNotHeardModel" "ChordNotHeardModel" "leastOf" "[I") ∈ lw_all := lw_g (lw_at lw_m4 107 rfl) rfl
theorem q897 : (Jvm.Cond.soleField "ChordNotHeardModel" "leastOf") ∈ lw_all := lw_g (lw_at lw_m4 108 rfl) rfl
theorem q898 : (Jvm.Cond.lays "ChordNotHeardModel" "ChordNotHeardModel" "heard" "I") ∈ lw_all := lw_g (lw_at lw_m4 109 rfl) rfl
theorem q899 : (Jvm.Cond.soleField "ChordNotHeardModel" "heard") ∈ lw_all := lw_g (lw_at lw_m4 110 rfl) rfl
theorem q900 : (Jvm.Cond.laysFinal "ChordNotHeardModel" "ChordNotHeardModel" "heardRow" "[I") ∈ lw_all := lw_g (lw_at lw_m4 111 rfl) rfl
theorem q901 : (Jvm.Cond.soleField "ChordNotHeardModel" "heardRow") ∈ lw_all := lw_g (lw_at lw_m4 112 rfl) rfl
theorem q902 : (Jvm.Cond.lays "ChordNotHeardModel" "ChordNotHeardModel" "sheets" "I") ∈ lw_all := lw_g (lw_at lw_m4 113 rfl) rfl
theorem q903 : (Jvm.Cond.soleField "ChordNotHeardModel" "sheets") ∈ lw_all := lw_g (lw_at lw_m4 114 rfl) rfl
theorem q904 : (Jvm.Cond.laysFinal "ChordNotHeardModel" "ChordNotHeardModel" "sheetRows" "[I") ∈ lw_all := lw_g (lw_at lw_m4 115 rfl) rfl
theorem q905 : (Jvm.Cond.soleField "ChordNotHeardModel" "sheetRows") ∈ lw_all := lw_g (lw_at lw_m4 116 rfl) rfl
theorem q906 : (Jvm.Cond.lays "ChordNotHeardModel" "ChordNotHeardModel" "changes" "I") ∈ lw_all := lw_g (lw_at lw_m4 117 rfl) rfl
theorem q907 : (Jvm.Cond.soleField "ChordNotHeardModel" "changes") ∈ lw_all := lw_g (lw_at lw_m4 118 rfl) rfl
theorem q908 : (Jvm.Cond.laysFinal "ChordNotHeardModel" "ChordNotHeardModel" "ways" "[J") ∈ lw_all := lw_g (lw_at lw_m4 119 rfl) rfl
theorem q909 : (Jvm.Cond.soleField "ChordNotHeardModel" "ways") ∈ lw_all := lw_g (lw_at lw_m4 120 rfl) rfl
theorem q910 : (Jvm.Cond.laysFinal "ChordNotHeardModel" "ChordNotHeardModel" "next" "[J") ∈ lw_all := lw_g (lw_at lw_m4 121 rfl) rfl
theorem q911 : (Jvm.Cond.soleField "ChordNotHeardModel" "next") ∈ lw_all := lw_g (lw_at lw_m4 122 rfl) rfl
theorem q912 : (Jvm.Cond.laysFinal "ChordNotHeardModel" "ChordNotHeardModel" "told" "[I") ∈ lw_all := lw_g (lw_at lw_m4 123 rfl) rfl
theorem q913 : (Jvm.Cond.soleField "ChordNotHeardModel" "told") ∈ lw_all := lw_g (lw_at lw_m4 124 rfl) rfl
theorem q914 : (Jvm.Cond.lays "ChordNotHeardModel" "ChordNotHeardModel" "toldMany" "I") ∈ lw_all := lw_g (lw_at lw_m4 125 rfl) rfl
theorem q915 : (Jvm.Cond.soleField "ChordNotHeardModel" "toldMany") ∈ lw_all := lw_g (lw_at lw_m4 126 rfl) rfl
theorem q916 : (Jvm.Cond.lays "ChordNotHeardModel" "ChordNotHeardModel" "readingMany" "I") ∈ lw_all := lw_g (lw_at lw_m4 127 rfl) rfl
theorem q917 : (Jvm.Cond.soleField "ChordNotHeardModel" "readingMany") ∈ lw_all := lw_g (lw_at lw_m4 128 rfl) rfl
theorem q918 : (Jvm.Cond.laysFinal "ChordNotHeardModel" "ChordNotHeardModel" "notHeard" "[I") ∈ lw_all := lw_g (lw_at lw_m4 129 rfl) rfl
theorem q919 : (Jvm.Cond.soleField "ChordNotHeardModel" "notHeard") ∈ lw_all := lw_g (lw_at lw_m4 130 rfl) rfl
theorem q920 : (Jvm.Cond.lays "ChordNotHeardModel" "ChordNotHeardModel" "done" "I") ∈ lw_all := lw_g (lw_at lw_m4 131 rfl) rfl
theorem q921 : (Jvm.Cond.soleField "ChordNotHeardModel" "done") ∈ lw_all := lw_g (lw_at lw_m4 132 rfl) rfl
theorem q922 : (Jvm.Cond.laysFinal "ChordNotHeardModel" "ChordNotHeardModel" "marks" "[I") ∈ lw_all := lw_g (lw_at lw_m4 133 rfl) rfl
theorem q923 : (Jvm.Cond.soleField "ChordNotHeardModel" "marks") ∈ lw_all := lw_g (lw_at lw_m4 134 rfl) rfl
theorem q924 : (Jvm.Cond.laysFinal "ChordNotHeardModel" "ChordNotHeardModel" "moreSorts" "[I") ∈ lw_all := lw_g (lw_at lw_m4 135 rfl) rfl
theorem q925 : (Jvm.Cond.soleField "ChordNotHeardModel" "moreSorts") ∈ lw_all := lw_g (lw_at lw_m4 136 rfl) rfl
theorem q926 : (Jvm.Cond.laysFinal "ChordNotHeardModel" "ChordNotHeardModel" "moreHeard" "[I") ∈ lw_all := lw_g (lw_at lw_m4 137 rfl) rfl
theorem q927 : (Jvm.Cond.soleField "ChordNotHeardModel" "moreHeard") ∈ lw_all := lw_g (lw_at lw_m4 138 rfl) rfl
theorem q928 : (Jvm.Cond.lays "ChordNotHeardModel" "ChordNotHeardModel" "keptHeard" "I") ∈ lw_all := lw_g (lw_at lw_m4 139 rfl) rfl
theorem q929 : (Jvm.Cond.soleField "ChordNotHeardModel" "keptHeard") ∈ lw_all := lw_g (lw_at lw_m4 140 rfl) rfl
theorem q930 : (Jvm.Cond.lays "ChordNotHeardModel" "ChordNotHeardModel" "keptSheets" "I") ∈ lw_all := lw_g (lw_at lw_m4 141 rfl) rfl
theorem q931 : (Jvm.Cond.soleField "ChordNotHeardModel" "keptSheets") ∈ lw_all := lw_g (lw_at lw_m4 142 rfl) rfl
theorem q932 : (Jvm.Cond.lays "ChordNotHeardModel" "ChordNotHeardModel" "keptChanges" "I") ∈ lw_all := lw_g (lw_at lw_m4 143 rfl) rfl
theorem q933 : (Jvm.Cond.soleField "ChordNotHeardModel" "keptChanges") ∈ lw_all := lw_g (lw_at lw_m4 144 rfl) rfl
theorem q934 : (Jvm.Cond.laysFinal "ChordNotHeardModel" "ChordNotHeardModel" "keptRow" "[I") ∈ lw_all := lw_g (lw_at lw_m4 145 rfl) rfl
theorem q935 : (Jvm.Cond.soleField "ChordNotHeardModel" "keptRow") ∈ lw_all := lw_g (lw_at lw_m4 146 rfl) rfl
theorem q936 : (Jvm.Cond.laysFinal "ChordNotHeardModel" "ChordNotHeardModel" "keptRows" "[I") ∈ lw_all := lw_g (lw_at lw_m4 147 rfl) rfl
theorem q937 : (Jvm.Cond.soleField "ChordNotHeardModel" "keptRows") ∈ lw_all := lw_g (lw_at lw_m4 148 rfl) rfl
theorem q938 : (Jvm.Cond.lays "ChordNotHeardModel" "ChordNotHeardModel" "hash" "J") ∈ lw_all := lw_g (lw_at lw_m4 149 rfl) rfl
theorem q939 : (Jvm.Cond.soleField "ChordNotHeardModel" "hash") ∈ lw_all := lw_g (lw_at lw_m4 150 rfl) rfl
theorem q940 : (Jvm.Cond.superclass "ChordNotHeardModel" "java/lang/Object") ∈ lw_all := lw_g (lw_at lw_m4 151 rfl) rfl
theorem q943 : (Jvm.Cond.instanceMethod ({ cls := "ChordNotHeardModel", name := "letters", desc := "(J)I" } : Jvm.MethodName)) ∈ lw_all := lw_g (lw_at lw_m4 154 rfl) rfl
theorem q944 : (Jvm.Cond.selects "ChordNotHeardModel" ({ cls := "ChordNotHeardModel", name := "letters", desc := "(J)I" } : Jvm.MethodName) ({ cls := "ChordNotHeardModel", name := "letters", desc := "(J)I" } : Jvm.MethodName)) ∈ lw_all := lw_g (lw_at lw_m4 155 rfl) rfl
theorem q945 : (Jvm.Cond.code ({ cls := "ChordNotHeardModel", name := "letters", desc := "(J)I" } : Jvm.MethodName) prog_10_method_3_code (9 : Nat) (Option.some Jvm.ClassFile.FieldType.int)) ∈ lw_all := lw_g (lw_at lw_m4 156 rfl) rfl
theorem q946 : (Jvm.Cond.constantLong "ChordNotHeardModel" (73 : Nat) (255 : Int64)) ∈ lw_all := lw_g (lw_at lw_m4 157 rfl) rfl
theorem q948 : (Jvm.Cond.instanceMethod ({ cls := "ChordNotHeardModel", name := "blank", desc := "()I" } : Jvm.MethodName)) ∈ lw_all := lw_g (lw_at lw_m4 159 rfl) rfl
theorem q949 : (Jvm.Cond.selects "ChordNotHeardModel" ({ cls := "ChordNotHeardModel", name := "blank", desc := "()I" } : Jvm.MethodName) ({ cls := "ChordNotHeardModel", name := "blank", desc := "()I" } : Jvm.MethodName)) ∈ lw_all := lw_g (lw_at lw_m4 160 rfl) rfl
theorem q950 : (Jvm.Cond.code ({ cls := "ChordNotHeardModel", name := "blank", desc := "()I" } : Jvm.MethodName) prog_10_method_4_code (2 : Nat) (Option.some Jvm.ClassFile.FieldType.int)) ∈ lw_all := lw_g (lw_at lw_m4 161 rfl) rfl
theorem q952 : (Jvm.Cond.instanceMethod ({ cls := "ChordNotHeardModel", name := "fault", desc := "()I" } : Jvm.MethodName)) ∈ lw_all := lw_g (lw_at lw_m4 163 rfl) rfl
theorem q953 : (Jvm.Cond.selects "ChordNotHeardModel" ({ cls := "ChordNotHeardModel", name := "fault", desc := "()I" } : Jvm.MethodName) ({ cls := "ChordNotHeardModel", name := "fault", desc := "()I" } : Jvm.MethodName)) ∈ lw_all := lw_g (lw_at lw_m4 164 rfl) rfl
theorem q954 : (Jvm.Cond.code ({ cls := "ChordNotHeardModel", name := "fault", desc := "()I" } : Jvm.MethodName) prog_10_method_7_code (1 : Nat) (Option.some Jvm.ClassFile.FieldType.int)) ∈ lw_all := lw_g (lw_at lw_m4 165 rfl) rfl
theorem q955 : (Jvm.Cond.methodLink "ChordNotHeardModel" (98 : Nat) ({ cls := "ChordNotHeardModel", name := "faultOf", desc := "()I" } : Jvm.MethodName)) ∈ lw_all := lw_g (lw_at lw_m4 166 rfl) rfl
theorem q956 : (Jvm.Cond.privateMethod ({ cls := "ChordNotHeardModel", name := "faultOf", desc := "()I" } : Jvm.MethodName)) ∈ lw_tbl := lw_at lw_m4 167 rfl
theorem q957 : (Jvm.Cond.instanceMethod ({ cls := "ChordNotHeardModel", name := "faultOf", desc := "()I" } : Jvm.MethodName)) ∈ lw_all := lw_g (lw_at lw_m4 168 rfl) rfl
theorem q958 : (Jvm.Cond.code ({ cls := "ChordNotHeardModel", name := "faultOf", desc := "()I" } : Jvm.MethodName) prog_10_method_6_code (2 : Nat) (Option.some Jvm.ClassFile.FieldType.int)) ∈ lw_all := lw_g (lw_at lw_m4 169 rfl) rfl
theorem q959 : (Jvm.Cond.methodLink "ChordNotHeardModel" (94 : Nat) ({ cls := "ChordNotHeardModel", name := "go", desc := "(I)Z" } : Jvm.MethodName)) ∈ lw_all := lw_g (lw_at lw_m4 170 rfl) rfl
theorem q960 : (Jvm.Cond.privateMethod ({ cls := "ChordNotHeardModel", name := "go", desc := "(I)Z" } : Jvm.MethodName)) ∈ lw_tbl := lw_at lw_m4 171 rfl
theorem q961 : (Jvm.Cond.instanceMethod ({ cls := "ChordNotHeardModel", name := "go", desc := "(I)Z" } : Jvm.MethodName)) ∈ lw_all := lw_g (lw_at lw_m4 172 rfl) rfl
theorem q962 : (Jvm.Cond.code ({ cls := "ChordNotHeardModel", name := "go", desc := "(I)Z" } : Jvm.MethodName) prog_10_method_5_code (4 : Nat) (Option.some Jvm.ClassFile.FieldType.boolean)) ∈ lw_all := lw_g (lw_at lw_m4 173 rfl) rfl
theorem q963 : (Jvm.Cond.constantLong "ChordNotHeardModel" (84 : Nat) (49 : Int64)) ∈ lw_all := lw_g (lw_at lw_m4 174 rfl) rfl
theorem q964 : (Jvm.Cond.constantLong "ChordNotHeardModel" (86 : Nat) (56 : Int64)) ∈ lw_all := lw_g (lw_at lw_m4 175 rfl) rfl
theorem q965 : (Jvm.Cond.methodLink "ChordNotHeardModel" (88 : Nat) ({ cls := "ChordNotHeardModel", name := "in", desc := "(JJJ)Z" } : Jvm.MethodName)) ∈ lw_all := lw_g (lw_at lw_m4 176 rfl) rfl
theorem q966 : (Jvm.Cond.static ({ cls := "ChordNotHeardModel", name := "in", desc := "(JJJ)Z" } : Jvm.MethodName)) ∈ lw_all := lw_g (lw_at lw_m4 177 rfl) rfl
theorem q967 : (Jvm.Cond.code ({ cls := "ChordNotHeardModel", name := "in", desc := "(JJJ)Z" } : Jvm.MethodName) prog_10_method_2_code (6 : Nat) (Option.some Jvm.ClassFile.FieldType.boolean)) ∈ lw_all := lw_g (lw_at lw_m4 178 rfl) rfl
theorem q968 : (Jvm.Cond.constantLong "ChordNotHeardModel" (92 : Nat) (48 : Int64)) ∈ lw_all := lw_g (lw_at lw_m4 179 rfl) rfl
theorem q970 : (Jvm.Cond.instanceMethod ({ cls := "ChordNotHeardModel", name := "strings", desc := "(I)I" } : Jvm.MethodName)) ∈ lw_all := lw_g (lw_at lw_m4 181 rfl) rfl
theorem q971 : (Jvm.Cond.selects "ChordNotHeardModel" ({ cls := "ChordNotHeardModel", name := "strings", desc := "(I)I" } : Jvm.MethodName) ({ cls := "ChordNotHeardModel", name := "strings", desc := "(I)I" } : Jvm.MethodName)) ∈ lw_all := lw_g (lw_at lw_m4 182 rfl) rfl
theorem q972 : (Jvm.Cond.code ({ cls := "ChordNotHeardModel", name := "strings", desc := "(I)I" } : Jvm.MethodName) prog_10_method_12_code (2 : Nat) (Option.some Jvm.ClassFile.FieldType.int)) ∈ lw_all := lw_g (lw_at lw_m4 183 rfl) rfl
theorem q973 : (Jvm.Cond.constantLong "ChordNotHeardModel" (123 : Nat) (3 : Int64)) ∈ lw_all := lw_g (lw_at lw_m4 184 rfl) rfl
theorem q974 : (Jvm.Cond.constantLong "ChordNotHeardModel" (125 : Nat) (9 : Int64)) ∈ lw_all := lw_g (lw_at lw_m4 185 rfl) rfl
theorem q976 : (Jvm.Cond.instanceMethod ({ cls := "ChordNotHeardModel", name := "law", desc := "()I" } : Jvm.MethodName)) ∈ lw_all := lw_g (lw_at lw_m4 187 rfl) rfl
theorem q977 : (Jvm.Cond.selects "ChordNotHeardModel" ({ cls := "ChordNotHeardModel", name := "law", desc := "()I" } : Jvm.MethodName) ({ cls := "ChordNotHeardModel", name := "law", desc := "()I" } : Jvm.MethodName)) ∈ lw_all := lw_g (lw_at lw_m4 188 rfl) rfl
theorem q978 : (Jvm.Cond.code ({ cls := "ChordNotHeardModel", name := "law", desc := "()I" } : Jvm.MethodName) prog_10_method_13_code (2 : Nat) (Option.some Jvm.ClassFile.FieldType.int)) ∈ lw_all := lw_g (lw_at lw_m4 189 rfl) rfl
theorem q980 : (Jvm.Cond.instanceMethod ({ cls := "ChordNotHeardModel", name := "about", desc := "(II)I" } : Jvm.MethodName)) ∈ lw_all := lw_g (lw_at lw_m4 191 rfl) rfl
theorem q981 : (Jvm.Cond.selects "ChordNotHeardModel" ({ cls := "ChordNotHeardModel", name := "about", desc := "(II)I" } : Jvm.MethodName) ({ cls := "ChordNotHeardModel", name := "about", desc := "(II)I" } : Jvm.MethodName)) ∈ lw_all := lw_g (lw_at lw_m4 192 rfl) rfl
theorem q982 : (Jvm.Cond.code ({ cls := "ChordNotHeardModel", name := "about", desc := "(II)I" } : Jvm.MethodName) prog_10_method_17_code (3 : Nat) (Option.some Jvm.ClassFile.FieldType.int)) ∈ lw_all := lw_g (lw_at lw_m4 193 rfl) rfl
theorem q983 : (Jvm.Cond.methodLink "ChordNotHeardModel" (136 : Nat) ({ cls := "ChordNotHeardModel", name := "isLikeness", desc := "(I)Z" } : Jvm.MethodName)) ∈ lw_all := lw_g (lw_at lw_m4 194 rfl) rfl
theorem q984 : (Jvm.Cond.privateMethod ({ cls := "ChordNotHeardModel", name := "isLikeness", desc := "(I)Z" } : Jvm.MethodName)) ∈ lw_tbl := lw_at lw_m4 195 rfl
theorem q985 : (Jvm.Cond.instanceMethod ({ cls := "ChordNotHeardModel", name := "isLikeness", desc := "(I)Z" } : Jvm.MethodName)) ∈ lw_all := lw_g (lw_at lw_m4 196 rfl) rfl
theorem q986 : (Jvm.Cond.code ({ cls := "ChordNotHeardModel", name := "isLikeness", desc := "(I)Z" } : Jvm.MethodName) prog_10_method_14_code (2 : Nat) (Option.some Jvm.ClassFile.FieldType.boolean)) ∈ lw_all := lw_g (lw_at lw_m4 197 rfl) rfl
theorem q988 : (Jvm.Cond.instanceMethod ({ cls := "ChordNotHeardModel", name := "as", desc := "(II)I" } : Jvm.MethodName)) ∈ lw_all := lw_g (lw_at lw_m4 199 rfl) rfl
theorem q989 : (Jvm.Cond.selects "ChordNotHeardModel" ({ cls := "ChordNotHeardModel", name := "as", desc := "(II)I" } : Jvm.MethodName) ({ cls := "ChordNotHeardModel", name := "as", desc := "(II)I" } : Jvm.MethodName)) ∈ lw_all := lw_g (lw_at lw_m4 200 rfl) rfl
theorem q990 : (Jvm.Cond.code ({ cls := "ChordNotHeardModel", name := "as", desc := "(II)I" } : Jvm.MethodName) prog_10_method_18_code (5 : Nat) (Option.some Jvm.ClassFile.FieldType.int)) ∈ lw_all := lw_g (lw_at lw_m4 201 rfl) rfl
theorem q992 : (Jvm.Cond.instanceMethod ({ cls := "ChordNotHeardModel", name := "sounds", desc := "(II)I" } : Jvm.MethodName)) ∈ lw_all := lw_g (lw_at lw_m4 203 rfl) rfl
theorem q993 : (Jvm.Cond.selects "ChordNotHeardModel" ({ cls := "ChordNotHeardModel", name := "sounds", desc := "(II)I" } : Jvm.MethodName) ({ cls := "ChordNotHeardModel", name := "sounds", desc := "(II)I" } : Jvm.MethodName)) ∈ lw_all := lw_g (lw_at lw_m4 204 rfl) rfl
theorem q994 : (Jvm.Cond.code ({ cls := "ChordNotHeardModel", name := "sounds", desc := "(II)I" } : Jvm.MethodName) prog_10_method_19_code (3 : Nat) (Option.some Jvm.ClassFile.FieldType.int)) ∈ lw_all := lw_g (lw_at lw_m4 205 rfl) rfl
theorem q995 : (Jvm.Cond.methodLink "ChordNotHeardModel" (139 : Nat) ({ cls := "ChordNotHeardModel", name := "isString", desc := "(I)Z" } : Jvm.MethodName)) ∈ lw_all := lw_g (lw_at lw_m4 206 rfl) rfl
theorem q996 : (Jvm.Cond.privateMethod ({ cls := "ChordNotHeardModel", name := "isString", desc := "(I)Z" } : Jvm.MethodName)) ∈ lw_tbl := lw_at lw_m4 207 rfl
theorem q997 : (Jvm.Cond.instanceMethod ({ cls := "ChordNotHeardModel", name := "isString", desc := "(I)Z" } : Jvm.MethodName)) ∈ lw_all := lw_g (lw_at lw_m4 208 rfl) rfl
theorem q998 : (Jvm.Cond.code ({ cls := "ChordNotHeardModel", name := "isString", desc := "(I)Z" } : Jvm.MethodName) prog_10_method_15_code (2 : Nat) (Option.some Jvm.ClassFile.FieldType.boolean)) ∈ lw_all := lw_g (lw_at lw_m4 209 rfl) rfl
theorem q1000 : (Jvm.Cond.instanceMethod ({ cls := "ChordNotHeardModel", name := "chord", desc := "(III)I" } : Jvm.MethodName)) ∈ lw_all := lw_g (lw_at lw_m4 211 rfl) rfl
theorem q1001 : (Jvm.Cond.selects "ChordNotHeardModel" ({ cls := "ChordNotHeardModel", name := "chord", desc := "(III)I" } : Jvm.MethodName) ({ cls := "ChordNotHeardModel", name := "chord", desc := "(III)I" } : Jvm.MethodName)) ∈ lw_all := lw_g (lw_at lw_m4 212 rfl) rfl
theorem q1002 : (Jvm.Cond.code ({ cls := "ChordNotHeardModel", name := "chord", desc := "(III)I" } : Jvm.MethodName) prog_10_method_20_code (5 : Nat) (Option.some Jvm.ClassFile.FieldType.int)) ∈ lw_all := lw_g (lw_at lw_m4 213 rfl) rfl
theorem q1004 : (Jvm.Cond.instanceMethod ({ cls := "ChordNotHeardModel", name := "part", desc := "(II)I" } : Jvm.MethodName)) ∈ lw_all := lw_g (lw_at lw_m4 215 rfl) rfl
theorem q1005 : (Jvm.Cond.selects "ChordNotHeardModel" ({ cls := "ChordNotHeardModel", name := "part", desc := "(II)I" } : Jvm.MethodName) ({ cls := "ChordNotHeardModel", name := "part", desc := "(II)I" } : Jvm.MethodName)) ∈ lw_all := lw_g (lw_at lw_m4 216 rfl) rfl
theorem q1006 : (Jvm.Cond.code ({ cls := "ChordNotHeardModel", name := "part", desc := "(II)I" } : Jvm.MethodName) prog_10_method_21_code (3 : Nat) (Option.some Jvm.ClassFile.FieldType.int)) ∈ lw_all := lw_g (lw_at lw_m4 217 rfl) rfl
theorem q1007 : (Jvm.Cond.methodLink "ChordNotHeardModel" (142 : Nat) ({ cls := "ChordNotHeardModel", name := "isChord", desc := "(I)Z" } : Jvm.MethodName)) ∈ lw_all := lw_g (lw_at lw_m4 218 rfl) rfl
theorem q1008 : (Jvm.Cond.privateMethod ({ cls := "ChordNotHeardModel", name := "isChord", desc := "(I)Z" } : Jvm.MethodName)) ∈ lw_tbl := lw_at lw_m4 219 rfl
theorem q1009 : (Jvm.Cond.instanceMethod ({ cls := "ChordNotHeardModel", name := "isChord", desc := "(I)Z" } : Jvm.MethodName)) ∈ lw_all := lw_g (lw_at lw_m4 220 rfl) rfl
theorem q1010 : (Jvm.Cond.code ({ cls := "ChordNotHeardModel", name := "isChord", desc := "(I)Z" } : Jvm.MethodName) prog_10_method_16_code (2 : Nat) (Option.some Jvm.ClassFile.FieldType.boolean)) ∈ lw_all := lw_g (lw_at lw_m4 221 rfl) rfl
theorem q1011 : (Jvm.Cond.constantLong "ChordNotHeardModel" (145 : Nat) (2 : Int64)) ∈ lw_all := lw_g (lw_at lw_m4 222 rfl) rfl
theorem q1013 : (Jvm.Cond.instanceMethod ({ cls := "ChordNotHeardModel", name := "sort", desc := "(II)I" } : Jvm.MethodName)) ∈ lw_all := lw_g (lw_at lw_m4 224 rfl) rfl
theorem q1014 : (Jvm.Cond.selects "ChordNotHeardModel" ({ cls := "ChordNotHeardModel", name := "sort", desc := "(II)I" } : Jvm.MethodName) ({ cls := "ChordNotHeardModel", name := "sort", desc := "(II)I" } : Jvm.MethodName)) ∈ lw_all := lw_g (lw_at lw_m4 225 rfl) rfl
theorem q1015 : (Jvm.Cond.code ({ cls := "ChordNotHeardModel", name := "sort", desc := "(II)I" } : Jvm.MethodName) prog_10_method_26_code (3 : Nat) (Option.some Jvm.ClassFile.FieldType.int)) ∈ lw_all := lw_g (lw_at lw_m4 226 rfl) rfl
theorem q1016 : (Jvm.Cond.methodLink "ChordNotHeardModel" (157 : Nat) ({ cls := "ChordNotHeardModel", name := "tellSort", desc := "(II)I" } : Jvm.MethodName)) ∈ lw_all := lw_g (lw_at lw_m4 227 rfl) rfl
theorem q1017 : (Jvm.Cond.privateMethod ({ cls := "ChordNotHeardModel", name := "tellSort", desc := "(II)I" } : Jvm.MethodName)) ∈ lw_tbl := lw_at lw_m4 228 rfl
theorem q1018 : (Jvm.Cond.instanceMethod ({ cls := "ChordNotHeardModel", name := "tellSort", desc := "(II)I" } : Jvm.MethodName)) ∈ lw_all := lw_g (lw_at lw_m4 229 rfl) rfl
theorem q1019 : (Jvm.Cond.code ({ cls := "ChordNotHeardModel", name := "tellSort", desc := "(II)I" } : Jvm.MethodName) prog_10_method_25_code (3 : Nat) (Option.some Jvm.ClassFile.FieldType.int)) ∈ lw_all := lw_g (lw_at lw_m4 230 rfl) rfl
theorem q1020 : (Jvm.Cond.methodLink "ChordNotHeardModel" (151 : Nat) ({ cls := "ChordNotHeardModel", name := "sizeOf", desc := "(I)I" } : Jvm.MethodName)) ∈ lw_all := lw_g (lw_at lw_m4 231 rfl) rfl
theorem q1021 : (Jvm.Cond.privateMethod ({ cls := "ChordNotHeardModel", name := "sizeOf", desc := "(I)I" } : Jvm.MethodName)) ∈ lw_tbl := lw_at lw_m4 232 rfl
theorem q1022 : (Jvm.Cond.instanceMethod ({ cls := "ChordNotHeardModel", name := "sizeOf", desc := "(I)I" } : Jvm.MethodName)) ∈ lw_all := lw_g (lw_at lw_m4 233 rfl) rfl
theorem q1023 : (Jvm.Cond.code ({ cls := "ChordNotHeardModel", name := "sizeOf", desc := "(I)I" } : Jvm.MethodName) prog_10_method_24_code (4 : Nat) (Option.some Jvm.ClassFile.FieldType.int)) ∈ lw_all := lw_g (lw_at lw_m4 234 rfl) rfl
theorem q1024 : (Jvm.Cond.methodLink "ChordNotHeardModel" (154 : Nat) ({ cls := "ChordNotHeardModel", name := "isLeft", desc := "(I)Z" } : Jvm.MethodName)) ∈ lw_all := lw_g (lw_at lw_m4 235 rfl) rfl
theorem q1025 : (Jvm.Cond.privateMethod ({ cls := "ChordNotHeardModel", name := "isLeft", desc := "(I)Z" } : Jvm.MethodName)) ∈ lw_tbl := lw_at lw_m4 236 rfl
theorem q1026 : (Jvm.Cond.instanceMethod ({ cls := "ChordNotHeardModel", name := "isLeft", desc := "(I)Z" } : Jvm.MethodName)) ∈ lw_all := lw_g (lw_at lw_m4 237 rfl) rfl
theorem q1027 : (Jvm.Cond.code ({ cls := "ChordNotHeardModel", name := "isLeft", desc := "(I)Z" } : Jvm.MethodName) prog_10_method_23_code (2 : Nat) (Option.some Jvm.ClassFile.FieldType.boolean)) ∈ lw_all := lw_g (lw_at lw_m4 238 rfl) rfl
theorem q1028 : (Jvm.Cond.methodLink "ChordNotHeardModel" (147 : Nat) ({ cls := "ChordNotHeardModel", name := "asOf", desc := "(I)I" } : Jvm.MethodName)) ∈ lw_all := lw_g (lw_at lw_m4 239 rfl) rfl
theorem q1029 : (Jvm.Cond.privateMethod ({ cls := "ChordNotHeardModel", name := "asOf", desc := "(I)I" } : Jvm.MethodName)) ∈ lw_tbl := lw_at lw_m5 0 rfl
theorem q1030 : (Jvm.Cond.instanceMethod ({ cls := "ChordNotHeardModel", name := "asOf", desc := "(I)I" } : Jvm.MethodName)) ∈ lw_all := lw_g (lw_at lw_m5 1 rfl) rfl
theorem q1031 : (Jvm.Cond.code ({ cls := "ChordNotHeardModel", name := "asOf", desc := "(I)I" } : Jvm.MethodName) prog_10_method_22_code (3 : Nat) (Option.some Jvm.ClassFile.FieldType.int)) ∈ lw_all := lw_g (lw_at lw_m5 2 rfl) rfl
theorem q1033 : (Jvm.Cond.instanceMethod ({ cls := "ChordNotHeardModel", name := "strike", desc := "(I)I" } : Jvm.MethodName)) ∈ lw_all := lw_g (lw_at lw_m5 4 rfl) rfl
theorem q1034 : (Jvm.Cond.selects "ChordNotHeardModel" ({ cls := "ChordNotHeardModel", name := "strike", desc := "(I)I" } : Jvm.MethodName) ({ cls := "ChordNotHeardModel", name := "strike", desc := "(I)I" } : Jvm.MethodName)) ∈ lw_all := lw_g (lw_at lw_m5 5 rfl) rfl
theorem q1035 : (Jvm.Cond.code ({ cls := "ChordNotHeardModel", name := "strike", desc := "(I)I" } : Jvm.MethodName) prog_10_method_27_code (2 : Nat) (Option.some Jvm.ClassFile.FieldType.int)) ∈ lw_all := lw_g (lw_at lw_m5 6 rfl) rfl
theorem q1037 : (Jvm.Cond.instanceMethod ({ cls := "ChordNotHeardModel", name := "heardAs", desc := "(I)I" } : Jvm.MethodName)) ∈ lw_all := lw_g (lw_at lw_m5 8 rfl) rfl
theorem q1038 : (Jvm.Cond.selects "ChordNotHeardModel" ({ cls := "ChordNotHeardModel", name := "heardAs", desc := "(I)I" } : Jvm.MethodName) ({ cls := "ChordNotHeardModel", name := "heardAs", desc := "(I)I" } : Jvm.MethodName)) ∈ lw_all := lw_g (lw_at lw_m5 9 rfl) rfl
theorem q1039 : (Jvm.Cond.code ({ cls := "ChordNotHeardModel", name := "heardAs", desc := "(I)I" } : Jvm.MethodName) prog_10_method_28_code (2 : Nat) (Option.some Jvm.ClassFile.FieldType.int)) ∈ lw_all := lw_g (lw_at lw_m5 10 rfl) rfl
theorem q1041 : (Jvm.Cond.instanceMethod ({ cls := "ChordNotHeardModel", name := "forget", desc := "()I" } : Jvm.MethodName)) ∈ lw_all := lw_g (lw_at lw_m5 12 rfl) rfl
theorem q1042 : (Jvm.Cond.selects "ChordNotHeardModel" ({ cls := "ChordNotHeardModel", name := "forget", desc := "()I" } : Jvm.MethodName) ({ cls := "ChordNotHeardModel", name := "forget", desc := "()I" } : Jvm.MethodName)) ∈ lw_all := lw_g (lw_at lw_m5 13 rfl) rfl
theorem q1043 : (Jvm.Cond.code ({ cls := "ChordNotHeardModel", name := "forget", desc := "()I" } : Jvm.MethodName) prog_10_method_29_code (2 : Nat) (Option.some Jvm.ClassFile.FieldType.int)) ∈ lw_all := lw_g (lw_at lw_m5 14 rfl) rfl
theorem q1045 : (Jvm.Cond.instanceMethod ({ cls := "ChordNotHeardModel", name := "left", desc := "(I)I" } : Jvm.MethodName)) ∈ lw_all := lw_g (lw_at lw_m5 16 rfl) rfl
theorem q1046 : (Jvm.Cond.selects "ChordNotHeardModel" ({ cls := "ChordNotHeardModel", name := "left", desc := "(I)I" } : Jvm.MethodName) ({ cls := "ChordNotHeardModel", name := "left", desc := "(I)I" } : Jvm.MethodName)) ∈ lw_all := lw_g (lw_at lw_m5 17 rfl) rfl
theorem q1047 : (Jvm.Cond.code ({ cls := "ChordNotHeardModel", name := "left", desc := "(I)I" } : Jvm.MethodName) prog_10_method_31_code (2 : Nat) (Option.some Jvm.ClassFile.FieldType.int)) ∈ lw_all := lw_g (lw_at lw_m5 18 rfl) rfl
theorem q1048 : (Jvm.Cond.methodLink "ChordNotHeardModel" (161 : Nat) ({ cls := "ChordNotHeardModel", name := "leftOf", desc := "(I)I" } : Jvm.MethodName)) ∈ lw_all := lw_g (lw_at lw_m5 19 rfl) rfl
theorem q1049 : (Jvm.Cond.privateMethod ({ cls := "ChordNotHeardModel", name := "leftOf", desc := "(I)I" } : Jvm.MethodName)) ∈ lw_tbl := lw_at lw_m5 20 rfl
theorem q1050 : (Jvm.Cond.instanceMethod ({ cls := "ChordNotHeardModel", name := "leftOf", desc := "(I)I" } : Jvm.MethodName)) ∈ lw_all := lw_g (lw_at lw_m5 21 rfl) rfl
theorem q1051 : (Jvm.Cond.code ({ cls := "ChordNotHeardModel", name := "leftOf", desc := "(I)I" } : Jvm.MethodName) prog_10_method_30_code (4 : Nat) (Option.some Jvm.ClassFile.FieldType.int)) ∈ lw_all := lw_g (lw_at lw_m5 22 rfl) rfl
theorem q1053 : (Jvm.Cond.instanceMethod ({ cls := "ChordNotHeardModel", name := "nth", desc := "(I)I" } : Jvm.MethodName)) ∈ lw_all := lw_g (lw_at lw_m5 24 rfl) rfl
theorem q1054 : (Jvm.Cond.selects "ChordNotHeardModel" ({ cls := "ChordNotHeardModel", name := "nth", desc := "(I)I" } : Jvm.MethodName) ({ cls := "ChordNotHeardModel", name := "nth", desc := "(I)I" } : Jvm.MethodName)) ∈ lw_all := lw_g (lw_at lw_m5 25 rfl) rfl
theorem q1055 : (Jvm.Cond.code ({ cls := "ChordNotHeardModel", name := "nth", desc := "(I)I" } : Jvm.MethodName) prog_10_method_32_code (4 : Nat) (Option.some Jvm.ClassFile.FieldType.int)) ∈ lw_all := lw_g (lw_at lw_m5 26 rfl) rfl
theorem q1056 : (Jvm.Cond.constantLong "ChordNotHeardModel" (164 : Nat) (83 : Int64)) ∈ lw_all := lw_g (lw_at lw_m5 27 rfl) rfl
theorem q1058 : (Jvm.Cond.instanceMethod ({ cls := "ChordNotHeardModel", name := "strangers", desc := "(III)J" } : Jvm.MethodName)) ∈ lw_all := lw_g (lw_at lw_m5 29 rfl) rfl
theorem q1059 : (Jvm.Cond.selects "ChordNotHeardModel" ({ cls := "ChordNotHeardModel", name := "strangers", desc := "(III)J" } : Jvm.MethodName) ({ cls := "ChordNotHeardModel", name := "strangers", desc := "(III)J" } : Jvm.MethodName)) ∈ lw_all := lw_g (lw_at lw_m5 30 rfl) rfl
theorem q1060 : (Jvm.Cond.code ({ cls := "ChordNotHeardModel", name := "strangers", desc := "(III)J" } : Jvm.MethodName) prog_10_method_36_code (13 : Nat) (Option.some Jvm.ClassFile.FieldType.long)) ∈ lw_all := lw_g (lw_at lw_m5 31 rfl) rfl
theorem q1061 : (Jvm.Cond.constantLong "ChordNotHeardModel" (170 : Nat) (4 : Int64)) ∈ lw_all := lw_g (lw_at lw_m5 32 rfl) rfl
theorem q1062 : (Jvm.Cond.constantLong "ChordNotHeardModel" (172 : Nat) (-102 : Int64)) ∈ lw_all := lw_g (lw_at lw_m5 33 rfl) rfl
theorem q1063 : (Jvm.Cond.methodLink "ChordNotHeardModel" (174 : Nat) ({ cls := "ChordNotHeardModel", name := "addSort", desc := "(II)V" } : Jvm.MethodName)) ∈ lw_all := lw_g (lw_at lw_m5 34 rfl) rfl
theorem q1064 : (Jvm.Cond.privateMethod ({ cls := "ChordNotHeardModel", name := "addSort", desc := "(II)V" } : Jvm.MethodName)) ∈ lw_tbl := lw_at lw_m5 35 rfl
theorem q1065 : (Jvm.Cond.instanceMethod ({ cls := "ChordNotHeardModel", name := "addSort", desc := "(II)V" } : Jvm.MethodName)) ∈ lw_all := lw_g (lw_at lw_m5 36 rfl) rfl
theorem q1066 : (Jvm.Cond.code ({ cls := "ChordNotHeardModel", name := "addSort", desc := "(II)V" } : Jvm.MethodName) prog_10_method_35_code (8 : Nat) (Option.none : Option Jvm.ClassFile.FieldType)) ∈ lw_all := lw_g (lw_at lw_m5 37 rfl) rfl
theorem q1067 : (Jvm.Cond.methodLink "ChordNotHeardModel" (166 : Nat) ({ cls := "ChordNotHeardModel", name := "choose", desc := "(II)J" } : Jvm.MethodName)) ∈ lw_all := lw_g (lw_at lw_m5 38 rfl) rfl
theorem q1068 : (Jvm.Cond.static ({ cls := "ChordNotHeardModel", name := "choose", desc := "(II)J" } : Jvm.MethodName)) ∈ lw_all := lw_g (lw_at lw_m5 39 rfl) rfl
theorem q1069 : (Jvm.Cond.code ({ cls := "ChordNotHeardModel", name := "choose", desc := "(II)J" } : Jvm.MethodName) prog_10_method_34_code (5 : Nat) (Option.some Jvm.ClassFile.FieldType.long)) ∈ lw_all := lw_g (lw_at lw_m5 40 rfl) rfl
theorem q1070 : (Jvm.Cond.methodLink "ChordNotHeardModel" (178 : Nat) ({ cls := "ChordNotHeardModel", name := "term", desc := "(JJI)J" } : Jvm.MethodName)) ∈ lw_all := lw_g (lw_at lw_m5 41 rfl) rfl
theorem q1071 : (Jvm.Cond.static ({ cls := "ChordNotHeardModel", name := "term", desc := "(JJI)J" } : Jvm.MethodName)) ∈ lw_all := lw_g (lw_at lw_m5 42 rfl) rfl
theorem q1072 : (Jvm.Cond.code ({ cls := "ChordNotHeardModel", name := "term", desc := "(JJI)J" } : Jvm.MethodName) prog_10_method_33_code (11 : Nat) (Option.some Jvm.ClassFile.FieldType.long)) ∈ lw_all := lw_g (lw_at lw_m5 43 rfl) rfl
theorem q1074 : (Jvm.Cond.instanceMethod ({ cls := "ChordNotHeardModel", name := "sheet", desc := "(IJI)I" } : Jvm.MethodName)) ∈ lw_all := lw_g (lw_at lw_m5 45 rfl) rfl
theorem q1075 : (Jvm.Cond.selects "ChordNotHeardModel" ({ cls := "ChordNotHeardModel", name := "sheet", desc := "(IJI)I" } : Jvm.MethodName) ({ cls := "ChordNotHeardModel", name := "sheet", desc := "(IJI)I" } : Jvm.MethodName)) ∈ lw_all := lw_g (lw_at lw_m5 46 rfl) rfl
theorem q1076 : (Jvm.Cond.code ({ cls := "ChordNotHeardModel", name := "sheet", desc := "(IJI)I" } : Jvm.MethodName) prog_10_method_40_code (10 : Nat) (Option.some Jvm.ClassFile.FieldType.int)) ∈ lw_all := lw_g (lw_at lw_m5 47 rfl) rfl
theorem q1077 : (Jvm.Cond.constantLong "ChordNotHeardModel" (192 : Nat) (6 : Int64)) ∈ lw_all := lw_g (lw_at lw_m5 48 rfl) rfl
theorem q1078 : (Jvm.Cond.methodLink "ChordNotHeardModel" (194 : Nat) ({ cls := "ChordNotHeardModel", name := "layTold", desc := "()V" } : Jvm.MethodName)) ∈ lw_all := lw_g (lw_at lw_m5 49 rfl) rfl
theorem q1079 : (Jvm.Cond.privateMethod ({ cls := "ChordNotHeardModel", name := "layTold", desc := "()V" } : Jvm.MethodName)) ∈ lw_tbl := lw_at lw_m5 50 rfl
theorem q1080 : (Jvm.Cond.instanceMethod ({ cls := "ChordNotHeardModel", name := "layTold", desc := "()V" } : Jvm.MethodName)) ∈ lw_all := lw_g (lw_at lw_m5 51 rfl) rfl
theorem q1081 : (Jvm.Cond.code ({ cls := "ChordNotHeardModel", name := "layTold", desc := "()V" } : Jvm.MethodName) prog_10_method_39_code (3 : Nat) (Option.none : Option Jvm.ClassFile.FieldType)) ∈ lw_all := lw_g (lw_at lw_m5 52 rfl) rfl
theorem q1082 : (Jvm.Cond.methodLink "ChordNotHeardModel" (188 : Nat) ({ cls := "ChordNotHeardModel", name := "tellAlso", desc := "(I)V" } : Jvm.MethodName)) ∈ lw_all := lw_g (lw_at lw_m5 53 rfl) rfl
theorem q1083 : (Jvm.Cond.privateMethod ({ cls := "ChordNotHeardModel", name := "tellAlso", desc := "(I)V" } : Jvm.MethodName)) ∈ lw_tbl := lw_at lw_m5 54 rfl
theorem q1084 : (Jvm.Cond.instanceMethod ({ cls := "ChordNotHeardModel", name := "tellAlso", desc := "(I)V" } : Jvm.MethodName)) ∈ lw_all := lw_g (lw_at lw_m5 55 rfl) rfl
theorem q1085 : (Jvm.Cond.code ({ cls := "ChordNotHeardModel", name := "tellAlso", desc := "(I)V" } : Jvm.MethodName) prog_10_method_38_code (2 : Nat) (Option.none : Option Jvm.ClassFile.FieldType)) ∈ lw_all := lw_g (lw_at lw_m5 56 rfl) rfl
theorem q1086 : (Jvm.Cond.methodLink "ChordNotHeardModel" (185 : Nat) ({ cls := "ChordNotHeardModel", name := "placeOf", desc := "(I)I" } : Jvm.MethodName)) ∈ lw_all := lw_g (lw_at lw_m5 57 rfl) rfl
theorem q1087 : (Jvm.Cond.privateMethod ({ cls := "ChordNotHeardModel", name := "placeOf", desc := "(I)I" } : Jvm.MethodName)) ∈ lw_tbl := lw_at lw_m5 58 rfl
theorem q1088 : (Jvm.Cond.instanceMethod ({ cls := "ChordNotHeardModel", name := "placeOf", desc := "(I)I" } : Jvm.MethodName)) ∈ lw_all := lw_g (lw_at lw_m5 59 rfl) rfl
theorem q1089 : (Jvm.Cond.code ({ cls := "ChordNotHeardModel", name := "placeOf", desc := "(I)I" } : Jvm.MethodName) prog_10_method_37_code (3 : Nat) (Option.some Jvm.ClassFile.FieldType.int)) ∈ lw_all := lw_g (lw_at lw_m5 60 rfl) rfl
theorem q1091 : (Jvm.Cond.instanceMethod ({ cls := "ChordNotHeardModel", name := "readings", desc := "()I" } : Jvm.MethodName)) ∈ lw_all := lw_g (lw_at lw_m5 62 rfl) rfl
theorem q1092 : (Jvm.Cond.selects "ChordNotHeardModel" ({ cls := "ChordNotHeardModel", name := "readings", desc := "()I" } : Jvm.MethodName) ({ cls := "ChordNotHeardModel", name := "readings", desc := "()I" } : Jvm.MethodName)) ∈ lw_all := lw_g (lw_at lw_m5 63 rfl) rfl
theorem q1093 : (Jvm.Cond.code ({ cls := "ChordNotHeardModel", name := "readings", desc := "()I" } : Jvm.MethodName) prog_10_method_43_code (1 : Nat) (Option.some Jvm.ClassFile.FieldType.int)) ∈ lw_all := lw_g (lw_at lw_m5 64 rfl) rfl
theorem q1094 : (Jvm.Cond.methodLink "ChordNotHeardModel" (203 : Nat) ({ cls := "ChordNotHeardModel", name := "layReadings", desc := "()V" } : Jvm.MethodName)) ∈ lw_all := lw_g (lw_at lw_m5 65 rfl) rfl
theorem q1095 : (Jvm.Cond.privateMethod ({ cls := "ChordNotHeardModel", name := "layReadings", desc := "()V" } : Jvm.MethodName)) ∈ lw_tbl := lw_at lw_m5 66 rfl
theorem q1096 : (Jvm.Cond.instanceMethod ({ cls := "ChordNotHeardModel", name := "layReadings", desc := "()V" } : Jvm.MethodName)) ∈ lw_all := lw_g (lw_at lw_m5 67 rfl) rfl
theorem q1097 : (Jvm.Cond.code ({ cls := "ChordNotHeardModel", name := "layReadings", desc := "()V" } : Jvm.MethodName) prog_10_method_42_code (3 : Nat) (Option.none : Option Jvm.ClassFile.FieldType)) ∈ lw_all := lw_g (lw_at lw_m5 68 rfl) rfl
theorem q1098 : (Jvm.Cond.methodLink "ChordNotHeardModel" (200 : Nat) ({ cls := "ChordNotHeardModel", name := "isReading", desc := "(I)Z" } : Jvm.MethodName)) ∈ lw_all := lw_g (lw_at lw_m5 69 rfl) rfl
theorem q1099 : (Jvm.Cond.privateMethod ({ cls := "ChordNotHeardModel", name := "isReading", desc := "(I)Z" } : Jvm.MethodName)) ∈ lw_tbl := lw_at lw_m5 70 rfl
theorem q1100 : (Jvm.Cond.instanceMethod ({ cls := "ChordNotHeardModel", name := "isReading", desc := "(I)Z" } : Jvm.MethodName)) ∈ lw_all := lw_g (lw_at lw_m5 71 rfl) rfl
theorem q1101 : (Jvm.Cond.code ({ cls := "ChordNotHeardModel", name := "isReading", desc := "(I)Z" } : Jvm.MethodName) prog_10_method_41_code (7 : Nat) (Option.some Jvm.ClassFile.FieldType.boolean)) ∈ lw_all := lw_g (lw_at lw_m5 72 rfl) rfl
theorem q1103 : (Jvm.Cond.instanceMethod ({ cls := "ChordNotHeardModel", name := "sure", desc := "(I)I" } : Jvm.MethodName)) ∈ lw_all := lw_g (lw_at lw_m5 74 rfl) rfl
theorem q1104 : (Jvm.Cond.selects "ChordNotHeardModel" ({ cls := "ChordNotHeardModel", name := "sure", desc := "(I)I" } : Jvm.MethodName) ({ cls := "ChordNotHeardModel", name := "sure", desc := "(I)I" } : Jvm.MethodName)) ∈ lw_all := lw_g (lw_at lw_m5 75 rfl) rfl
theorem q1105 : (Jvm.Cond.code ({ cls := "ChordNotHeardModel", name := "sure", desc := "(I)I" } : Jvm.MethodName) prog_10_method_45_code (2 : Nat) (Option.some Jvm.ClassFile.FieldType.int)) ∈ lw_all := lw_g (lw_at lw_m5 76 rfl) rfl
theorem q1106 : (Jvm.Cond.methodLink "ChordNotHeardModel" (206 : Nat) ({ cls := "ChordNotHeardModel", name := "sureNow", desc := "(I)I" } : Jvm.MethodName)) ∈ lw_all := lw_g (lw_at lw_m5 77 rfl) rfl
theorem q1107 : (Jvm.Cond.privateMethod ({ cls := "ChordNotHeardModel", name := "sureNow", desc := "(I)I" } : Jvm.MethodName)) ∈ lw_tbl := lw_at lw_m5 78 rfl
theorem q1108 : (Jvm.Cond.instanceMethod ({ cls := "ChordNotHeardModel", name := "sureNow", desc := "(I)I" } : Jvm.MethodName)) ∈ lw_all := lw_g (lw_at lw_m5 79 rfl) rfl
theorem q1109 : (Jvm.Cond.code ({ cls := "ChordNotHeardModel", name := "sureNow", desc := "(I)I" } : Jvm.MethodName) prog_10_method_44_code (3 : Nat) (Option.some Jvm.ClassFile.FieldType.int)) ∈ lw_all := lw_g (lw_at lw_m5 80 rfl) rfl
theorem q1111 : (Jvm.Cond.instanceMethod ({ cls := "ChordNotHeardModel", name := "surest", desc := "()I" } : Jvm.MethodName)) ∈ lw_all := lw_g (lw_at lw_m5 82 rfl) rfl
theorem q1112 : (Jvm.Cond.selects "ChordNotHeardModel" ({ cls := "ChordNotHeardModel", name := "surest", desc := "()I" } : Jvm.MethodName) ({ cls := "ChordNotHeardModel", name := "surest", desc := "()I" } : Jvm.MethodName)) ∈ lw_all := lw_g (lw_at lw_m5 83 rfl) rfl
theorem q1113 : (Jvm.Cond.code ({ cls := "ChordNotHeardModel", name := "surest", desc := "()I" } : Jvm.MethodName) prog_10_method_47_code (1 : Nat) (Option.some Jvm.ClassFile.FieldType.int)) ∈ lw_all := lw_g (lw_at lw_m5 84 rfl) rfl
theorem q1114 : (Jvm.Cond.methodLink "ChordNotHeardModel" (209 : Nat) ({ cls := "ChordNotHeardModel", name := "surestOf", desc := "()I" } : Jvm.MethodName)) ∈ lw_all := lw_g (lw_at lw_m5 85 rfl) rfl
theorem q1115 : (Jvm.Cond.privateMethod ({ cls := "ChordNotHeardModel", name := "surestOf", desc := "()I" } : Jvm.MethodName)) ∈ lw_tbl := lw_at lw_m5 86 rfl
theorem q1116 : (Jvm.Cond.instanceMethod ({ cls := "ChordNotHeardModel", name := "surestOf", desc := "()I" } : Jvm.MethodName)) ∈ lw_all := lw_g (lw_at lw_m5 87 rfl) rfl
theorem q1117 : (Jvm.Cond.code ({ cls := "ChordNotHeardModel", name := "surestOf", desc := "()I" } : Jvm.MethodName) prog_10_method_46_code (5 : Nat) (Option.some Jvm.ClassFile.FieldType.int)) ∈ lw_all := lw_g (lw_at lw_m5 88 rfl) rfl
theorem q1119 : (Jvm.Cond.instanceMethod ({ cls := "ChordNotHeardModel", name := "longest", desc := "()I" } : Jvm.MethodName)) ∈ lw_all := lw_g (lw_at lw_m5 90 rfl) rfl
theorem q1120 : (Jvm.Cond.selects "ChordNotHeardModel" ({ cls := "ChordNotHeardModel", name := "longest", desc := "()I" } : Jvm.MethodName) ({ cls := "ChordNotHeardModel", name := "longest", desc := "()I" } : Jvm.MethodName)) ∈ lw_all := lw_g (lw_at lw_m5 91 rfl) rfl
theorem q1121 : (Jvm.Cond.code ({ cls := "ChordNotHeardModel", name := "longest", desc := "()I" } : Jvm.MethodName) prog_10_method_51_code (5 : Nat) (Option.some Jvm.ClassFile.FieldType.int)) ∈ lw_all := lw_g (lw_at lw_m5 92 rfl) rfl
theorem q1122 : (Jvm.Cond.methodLink "ChordNotHeardModel" (215 : Nat) ({ cls := "ChordNotHeardModel", name := "mayTake", desc := "(II)Z" } : Jvm.MethodName)) ∈ lw_all := lw_g (lw_at lw_m5 93 rfl) rfl
theorem q1123 : (Jvm.Cond.privateMethod ({ cls := "ChordNotHeardModel", name := "mayTake", desc := "(II)Z" } : Jvm.MethodName)) ∈ lw_tbl := lw_at lw_m5 94 rfl
theorem q1124 : (Jvm.Cond.instanceMethod ({ cls := "ChordNotHeardModel", name := "mayTake", desc := "(II)Z" } : Jvm.MethodName)) ∈ lw_all := lw_g (lw_at lw_m5 95 rfl) rfl
theorem q1125 : (Jvm.Cond.code ({ cls := "ChordNotHeardModel", name := "mayTake", desc := "(II)Z" } : Jvm.MethodName) prog_10_method_49_code (3 : Nat) (Option.some Jvm.ClassFile.FieldType.boolean)) ∈ lw_all := lw_g (lw_at lw_m5 96 rfl) rfl
theorem q1126 : (Jvm.Cond.methodLink "ChordNotHeardModel" (219 : Nat) ({ cls := "ChordNotHeardModel", name := "ones", desc := "(I)I" } : Jvm.MethodName)) ∈ lw_all := lw_g (lw_at lw_m5 97 rfl) rfl
theorem q1127 : (Jvm.Cond.static ({ cls := "ChordNotHeardModel", name := "ones", desc := "(I)I" } : Jvm.MethodName)) ∈ lw_all := lw_g (lw_at lw_m5 98 rfl) rfl
theorem q1128 : (Jvm.Cond.code ({ cls := "ChordNotHeardModel", name := "ones", desc := "(I)I" } : Jvm.MethodName) prog_10_method_50_code (3 : Nat) (Option.some Jvm.ClassFile.FieldType.int)) ∈ lw_all := lw_g (lw_at lw_m5 99 rfl) rfl
theorem q1129 : (Jvm.Cond.methodLink "ChordNotHeardModel" (222 : Nat) ({ cls := "ChordNotHeardModel", name := "inCommon", desc := "(II)I" } : Jvm.MethodName)) ∈ lw_all := lw_g (lw_at lw_m5 100 rfl) rfl
theorem q1130 : (Jvm.Cond.privateMethod ({ cls := "ChordNotHeardModel", name := "inCommon", desc := "(II)I" } : Jvm.MethodName)) ∈ lw_tbl := lw_at lw_m5 101 rfl
theorem q1131 : (Jvm.Cond.instanceMethod ({ cls := "ChordNotHeardModel", name := "inCommon", desc := "(II)I" } : Jvm.MethodName)) ∈ lw_all := lw_g (lw_at lw_m5 102 rfl) rfl
theorem q1132 : (Jvm.Cond.code ({ cls := "ChordNotHeardModel", name := "inCommon", desc := "(II)I" } : Jvm.MethodName) prog_10_method_48_code (6 : Nat) (Option.some Jvm.ClassFile.FieldType.int)) ∈ lw_all := lw_g (lw_at lw_m5 103 rfl) rfl
theorem q1134 : (Jvm.Cond.instanceMethod ({ cls := "ChordNotHeardModel", name := "game", desc := "(II)I" } : Jvm.MethodName)) ∈ lw_all := lw_g (lw_at lw_m5 105 rfl) rfl
theorem q1135 : (Jvm.Cond.selects "ChordNotHeardModel" ({ cls := "ChordNotHeardModel", name := "game", desc := "(II)I" } : Jvm.MethodName) ({ cls := "ChordNotHeardModel", name := "game", desc := "(II)I" } : Jvm.MethodName)) ∈ lw_all := lw_g (lw_at lw_m5 106 rfl) rfl
theorem q1136 : (Jvm.Cond.code ({ cls := "ChordNotHeardModel", name := "game", desc := "(II)I" } : Jvm.MethodName) prog_10_method_53_code (7 : Nat) (Option.some Jvm.ClassFile.FieldType.int)) ∈ lw_all := lw_g (lw_at lw_m5 107 rfl) rfl
theorem q1137 : (Jvm.Cond.methodLink "ChordNotHeardModel" (225 : Nat) ({ cls := "ChordNotHeardModel", name := "isGood", desc := "(II)Z" } : Jvm.MethodName)) ∈ lw_all := lw_g (lw_at lw_m5 108 rfl) rfl
theorem q1138 : (Jvm.Cond.privateMethod ({ cls := "ChordNotHeardModel", name := "isGood", desc := "(II)Z" } : Jvm.MethodName)) ∈ lw_tbl := lw_at lw_m5 109 rfl
theorem q1139 : (Jvm.Cond.instanceMethod ({ cls := "ChordNotHeardModel", name := "isGood", desc := "(II)Z" } : Jvm.MethodName)) ∈ lw_all := lw_g (lw_at lw_m5 110 rfl) rfl
theorem q1140 : (Jvm.Cond.code ({ cls := "ChordNotHeardModel", name := "isGood", desc := "(II)Z" } : Jvm.MethodName) prog_10_method_52_code (3 : Nat) (Option.some Jvm.ClassFile.FieldType.boolean)) ∈ lw_all := lw_g (lw_at lw_m5 111 rfl) rfl
theorem q1142 : (Jvm.Cond.instanceMethod ({ cls := "ChordNotHeardModel", name := "broken", desc := "(I)I" } : Jvm.MethodName)) ∈ lw_all := lw_g (lw_at lw_m5 113 rfl) rfl
theorem q1143 : (Jvm.Cond.selects "ChordNotHeardModel" ({ cls := "ChordNotHeardModel", name := "broken", desc := "(I)I" } : Jvm.MethodName) ({ cls := "ChordNotHeardModel", name := "broken", desc := "(I)I" } : Jvm.MethodName)) ∈ lw_all := lw_g (lw_at lw_m5 114 rfl) rfl
theorem q1144 : (Jvm.Cond.code ({ cls := "ChordNotHeardModel", name := "broken", desc := "(I)I" } : Jvm.MethodName) prog_10_method_55_code (2 : Nat) (Option.some Jvm.ClassFile.FieldType.int)) ∈ lw_all := lw_g (lw_at lw_m5 115 rfl) rfl
theorem q1145 : (Jvm.Cond.methodLink "ChordNotHeardModel" (228 : Nat) ({ cls := "ChordNotHeardModel", name := "brokenOf", desc := "(I)I" } : Jvm.MethodName)) ∈ lw_all := lw_g (lw_at lw_m5 116 rfl) rfl
theorem q1146 : (Jvm.Cond.privateMethod ({ cls := "ChordNotHeardModel", name := "brokenOf", desc := "(I)I" } : Jvm.MethodName)) ∈ lw_tbl := lw_at lw_m5 117 rfl
theorem q1147 : (Jvm.Cond.instanceMethod ({ cls := "ChordNotHeardModel", name := "brokenOf", desc := "(I)I" } : Jvm.MethodName)) ∈ lw_all := lw_g (lw_at lw_m5 118 rfl) rfl
theorem q1148 : (Jvm.Cond.code ({ cls := "ChordNotHeardModel", name := "brokenOf", desc := "(I)I" } : Jvm.MethodName) prog_10_method_54_code (7 : Nat) (Option.some Jvm.ClassFile.FieldType.int)) ∈ lw_all := lw_g (lw_at lw_m5 119 rfl) rfl
theorem q1150 : (Jvm.Cond.instanceMethod ({ cls := "ChordNotHeardModel", name := "added", desc := "()I" } : Jvm.MethodName)) ∈ lw_all := lw_g (lw_at lw_m5 121 rfl) rfl
theorem q1151 : (Jvm.Cond.selects "ChordNotHeardModel" ({ cls := "ChordNotHeardModel", name := "added", desc := "()I" } : Jvm.MethodName) ({ cls := "ChordNotHeardModel", name := "added", desc := "()I" } : Jvm.MethodName)) ∈ lw_all := lw_g (lw_at lw_m5 122 rfl) rfl
theorem q1152 : (Jvm.Cond.code ({ cls := "ChordNotHeardModel", name := "added", desc := "()I" } : Jvm.MethodName) prog_10_method_56_code (4 : Nat) (Option.some Jvm.ClassFile.FieldType.int)) ∈ lw_all := lw_g (lw_at lw_m5 123 rfl) rfl
theorem q1154 : (Jvm.Cond.instanceMethod ({ cls := "ChordNotHeardModel", name := "plan", desc := "(II)I" } : Jvm.MethodName)) ∈ lw_all := lw_g (lw_at lw_m5 125 rfl) rfl
theorem q1155 : (Jvm.Cond.selects "ChordNotHeardModel" ({ cls := "ChordNotHeardModel", name := "plan", desc := "(II)I" } : Jvm.MethodName) ({ cls := "ChordNotHeardModel", name := "plan", desc := "(II)I" } : Jvm.MethodName)) ∈ lw_all := lw_g (lw_at lw_m5 126 rfl) rfl
theorem q1156 : (Jvm.Cond.code ({ cls := "ChordNotHeardModel", name := "plan", desc := "(II)I" } : Jvm.MethodName) prog_10_method_59_code (3 : Nat) (Option.some Jvm.ClassFile.FieldType.int)) ∈ lw_all := lw_g (lw_at lw_m5 127 rfl) rfl
theorem q1157 : (Jvm.Cond.methodLink "ChordNotHeardModel" (234 : Nat) ({ cls := "ChordNotHeardModel", name := "planOf", desc := "(II)I" } : Jvm.MethodName)) ∈ lw_all := lw_g (lw_at lw_m5 128 rfl) rfl
theorem q1158 : (Jvm.Cond.privateMethod ({ cls := "ChordNotHeardModel", name := "planOf", desc := "(II)I" } : Jvm.MethodName)) ∈ lw_tbl := lw_at lw_m5 129 rfl
theorem q1159 : (Jvm.Cond.instanceMethod ({ cls := "ChordNotHeardModel", name := "planOf", desc := "(II)I" } : Jvm.MethodName)) ∈ lw_all := lw_g (lw_at lw_m5 130 rfl) rfl
theorem q1160 : (Jvm.Cond.code ({ cls := "ChordNotHeardModel", name := "planOf", desc := "(II)I" } : Jvm.MethodName) prog_10_method_58_code (8 : Nat) (Option.some Jvm.ClassFile.FieldType.int)) ∈ lw_all := lw_g (lw_at lw_m5 131 rfl) rfl
theorem q1161 : (Jvm.Cond.methodLink "ChordNotHeardModel" (231 : Nat) ({ cls := "ChordNotHeardModel", name := "houseOf", desc := "(II)I" } : Jvm.MethodName)) ∈ lw_all := lw_g (lw_at lw_m5 132 rfl) rfl
theorem q1162 : (Jvm.Cond.privateMethod ({ cls := "ChordNotHeardModel", name := "houseOf", desc := "(II)I" } : Jvm.MethodName)) ∈ lw_tbl := lw_at lw_m5 133 rfl
theorem q1163 : (Jvm.Cond.instanceMethod ({ cls := "ChordNotHeardModel", name := "houseOf", desc := "(II)I" } : Jvm.MethodName)) ∈ lw_all := lw_g (lw_at lw_m5 134 rfl) rfl
theorem q1164 : (Jvm.Cond.code ({ cls := "ChordNotHeardModel", name := "houseOf", desc := "(II)I" } : Jvm.MethodName) prog_10_method_57_code (3 : Nat) (Option.some Jvm.ClassFile.FieldType.int)) ∈ lw_all := lw_g (lw_at lw_m5 135 rfl) rfl
theorem q1166 : (Jvm.Cond.instanceMethod ({ cls := "ChordNotHeardModel", name := "image", desc := "()I" } : Jvm.MethodName)) ∈ lw_all := lw_g (lw_at lw_m5 137 rfl) rfl
theorem q1167 : (Jvm.Cond.selects "ChordNotHeardModel" ({ cls := "ChordNotHeardModel", name := "image", desc := "()I" } : Jvm.MethodName) ({ cls := "ChordNotHeardModel", name := "image", desc := "()I" } : Jvm.MethodName)) ∈ lw_all := lw_g (lw_at lw_m5 138 rfl) rfl
theorem q1168 : (Jvm.Cond.code ({ cls := "ChordNotHeardModel", name := "image", desc := "()I" } : Jvm.MethodName) prog_10_method_60_code (2 : Nat) (Option.some Jvm.ClassFile.FieldType.int)) ∈ lw_all := lw_g (lw_at lw_m5 139 rfl) rfl
theorem q1170 : (Jvm.Cond.instanceMethod ({ cls := "ChordNotHeardModel", name := "restore", desc := "()I" } : Jvm.MethodName)) ∈ lw_all := lw_g (lw_at lw_m5 141 rfl) rfl
theorem q1171 : (Jvm.Cond.selects "ChordNotHeardModel" ({ cls := "ChordNotHeardModel", name := "restore", desc := "()I" } : Jvm.MethodName) ({ cls := "ChordNotHeardModel", name := "restore", desc := "()I" } : Jvm.MethodName)) ∈ lw_all := lw_g (lw_at lw_m5 142 rfl) rfl
theorem q1172 : (Jvm.Cond.code ({ cls := "ChordNotHeardModel", name := "restore", desc := "()I" } : Jvm.MethodName) prog_10_method_61_code (2 : Nat) (Option.some Jvm.ClassFile.FieldType.int)) ∈ lw_all := lw_g (lw_at lw_m5 143 rfl) rfl
theorem q1174 : (Jvm.Cond.instanceMethod ({ cls := "ChordNotHeardModel", name := "count", desc := "(I)I" } : Jvm.MethodName)) ∈ lw_all := lw_g (lw_at lw_m5 145 rfl) rfl
theorem q1175 : (Jvm.Cond.selects "ChordNotHeardModel" ({ cls := "ChordNotHeardModel", name := "count", desc := "(I)I" } : Jvm.MethodName) ({ cls := "ChordNotHeardModel", name := "count", desc := "(I)I" } : Jvm.MethodName)) ∈ lw_all := lw_g (lw_at lw_m5 146 rfl) rfl
theorem q1176 : (Jvm.Cond.code ({ cls := "ChordNotHeardModel", name := "count", desc := "(I)I" } : Jvm.MethodName) prog_10_method_63_code (2 : Nat) (Option.some Jvm.ClassFile.FieldType.int)) ∈ lw_all := lw_g (lw_at lw_m5 147 rfl) rfl
theorem q1177 : (Jvm.Cond.methodLink "ChordNotHeardModel" (243 : Nat) ({ cls := "ChordNotHeardModel", name := "countOf", desc := "(I)I" } : Jvm.MethodName)) ∈ lw_all := lw_g (lw_at lw_m5 148 rfl) rfl
theorem q1178 : (Jvm.Cond.privateMethod ({ cls := "ChordNotHeardModel", name := "countOf", desc := "(I)I" } : Jvm.MethodName)) ∈ lw_tbl := lw_at lw_m5 149 rfl
theorem q1179 : (Jvm.Cond.instanceMethod ({ cls := "ChordNotHeardModel", name := "countOf", desc := "(I)I" } : Jvm.MethodName)) ∈ lw_all := lw_g (lw_at lw_m5 150 rfl) rfl
theorem q1180 : (Jvm.Cond.code ({ cls := "ChordNotHeardModel", name := "countOf", desc := "(I)I" } : Jvm.MethodName) prog_10_method_62_code (2 : Nat) (Option.some Jvm.ClassFile.FieldType.int)) ∈ lw_all := lw_g (lw_at lw_m5 151 rfl) rfl
theorem q1182 : (Jvm.Cond.instanceMethod ({ cls := "ChordNotHeardModel", name := "digest", desc := "()J" } : Jvm.MethodName)) ∈ lw_all := lw_g (lw_at lw_m5 153 rfl) rfl
theorem q1183 : (Jvm.Cond.selects "ChordNotHeardModel" ({ cls := "ChordNotHeardModel", name := "digest", desc := "()J" } : Jvm.MethodName) ({ cls := "ChordNotHeardModel", name := "digest", desc := "()J" } : Jvm.MethodName)) ∈ lw_all := lw_g (lw_at lw_m5 154 rfl) rfl
theorem q1184 : (Jvm.Cond.code ({ cls := "ChordNotHeardModel", name := "digest", desc := "()J" } : Jvm.MethodName) prog_10_method_65_code (3 : Nat) (Option.some Jvm.ClassFile.FieldType.long)) ∈ lw_all := lw_g (lw_at lw_m5 155 rfl) rfl
theorem q1185 : (Jvm.Cond.constantLong "ChordNotHeardModel" (252 : Nat) (547 : Int64)) ∈ lw_all := lw_g (lw_at lw_m5 156 rfl) rfl
theorem q1186 : (Jvm.Cond.methodLink "ChordNotHeardModel" (254 : Nat) ({ cls := "ChordNotHeardModel", name := "say", desc := "(J)V" } : Jvm.MethodName)) ∈ lw_all := lw_g (lw_at lw_m5 157 rfl) rfl
theorem q1187 : (Jvm.Cond.privateMethod ({ cls := "ChordNotHeardModel", name := "say", desc := "(J)V" } : Jvm.MethodName)) ∈ lw_tbl := lw_at lw_m5 158 rfl
theorem q1188 : (Jvm.Cond.instanceMethod ({ cls := "ChordNotHeardModel", name := "say", desc := "(J)V" } : Jvm.MethodName)) ∈ lw_all := lw_g (lw_at lw_m5 159 rfl) rfl
theorem q1189 : (Jvm.Cond.code ({ cls := "ChordNotHeardModel", name := "say", desc := "(J)V" } : Jvm.MethodName) prog_10_method_64_code (3 : Nat) (Option.none : Option Jvm.ClassFile.FieldType)) ∈ lw_all := lw_g (lw_at lw_m5 160 rfl) rfl
theorem q1190 : (Jvm.Cond.constantLong "ChordNotHeardModel" (246 : Nat) (31 : Int64)) ∈ lw_all := lw_g (lw_at lw_m5 161 rfl) rfl
theorem q1200 : (Jvm.Cond.castable "ChordNotHeardModel" "java/lang/Object") ∈ lw_tbl := lw_at lw_m5 171 rfl
theorem in_X2 : ∀ w ∈ wsX20, w ∈ lw_all := lw_in wsX20 [872, 874, 876, 878, 880, 882, 884, 886, 888, 890, 892, 894, 896, 898, 900, 902, 904, 906, 908, 910, 912, 914, 916, 918, 920, 922, 924, 926, 928, 930, 932, 934, 936, 938] (by decide +kernel) (by decide +kernel)
