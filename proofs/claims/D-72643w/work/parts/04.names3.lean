/-! StoryColumnsModel -/
set_option maxRecDepth 100000
def RX1 : String := "StoryColumnsModel"
def TX1 : u_T := fun k => match k with
  | 0 => ("StoryColumnsModel", "blocks", "I", false)
  | 1 => ("StoryColumnsModel", "pageOf", "[I", true)
  | 2 => ("StoryColumnsModel", "kindOf", "[I", true)
  | 3 => ("StoryColumnsModel", "left", "[I", true)
  | 4 => ("StoryColumnsModel", "right", "[I", true)
  | 5 => ("StoryColumnsModel", "top", "[I", true)
  | 6 => ("StoryColumnsModel", "bottom", "[I", true)
  | 7 => ("StoryColumnsModel", "wordsOf", "[I", true)
  | 8 => ("StoryColumnsModel", "markPage", "[I", true)
  | 9 => ("StoryColumnsModel", "markWord", "[I", true)
  | 10 => ("StoryColumnsModel", "lines", "I", false)
  | 11 => ("StoryColumnsModel", "linePage", "[I", true)
  | 12 => ("StoryColumnsModel", "lineHow", "[I", true)
  | 13 => ("StoryColumnsModel", "lineAt", "[I", true)
  | 14 => ("StoryColumnsModel", "lineFrom", "[I", true)
  | 15 => ("StoryColumnsModel", "lineTo", "[I", true)
  | 16 => ("StoryColumnsModel", "underOf", "[I", true)
  | 17 => ("StoryColumnsModel", "headOf", "[I", true)
  | 18 => ("StoryColumnsModel", "takerOf", "[I", true)
  | 19 => ("StoryColumnsModel", "textsOf", "[I", true)
  | 20 => ("StoryColumnsModel", "textAt", "[I", true)
  | 21 => ("StoryColumnsModel", "stories", "I", false)
  | 22 => ("StoryColumnsModel", "storyBlock", "[I", true)
  | 23 => ("StoryColumnsModel", "storyOf", "[I", true)
  | 24 => ("StoryColumnsModel", "goesOn", "[Z", true)
  | 25 => ("StoryColumnsModel", "aimOf", "[I", true)
  | 26 => ("StoryColumnsModel", "linkedTo", "[I", true)
  | 27 => ("StoryColumnsModel", "linkedFrom", "[I", true)
  | 28 => ("StoryColumnsModel", "articles", "I", false)
  | 29 => ("StoryColumnsModel", "articleAt", "[I", true)
  | 30 => ("StoryColumnsModel", "isRing", "[Z", true)
  | 31 => ("StoryColumnsModel", "inRow", "[I", true)
  | 32 => ("StoryColumnsModel", "articleOf", "[I", true)
  | _ => ("StoryColumnsModel", "laid", "I", false)
def tyX1 : Nat → FieldType := fun k => match k with
  | 0 => .int
  | 1 => .array .int
  | 2 => .array .int
  | 3 => .array .int
  | 4 => .array .int
  | 5 => .array .int
  | 6 => .array .int
  | 7 => .array .int
  | 8 => .array .int
  | 9 => .array .int
  | 10 => .int
  | 11 => .array .int
  | 12 => .array .int
  | 13 => .array .int
  | 14 => .array .int
  | 15 => .array .int
  | 16 => .array .int
  | 17 => .array .int
  | 18 => .array .int
  | 19 => .array .int
  | 20 => .array .int
  | 21 => .int
  | 22 => .array .int
  | 23 => .array .int
  | 24 => .array .boolean
  | 25 => .array .int
  | 26 => .array .int
  | 27 => .array .int
  | 28 => .int
  | 29 => .array .int
  | 30 => .array .boolean
  | 31 => .array .int
  | 32 => .array .int
  | _ => .int
abbrev wsX10 : List Cond := u_ws RX1 TX1 34
set_option maxRecDepth 100000 in
theorem nmX1 : ∀ a, a < 34 → ∀ b, b < 34 → a ≠ b → (TX1 a).2.1 ≠ (TX1 b).2.1 := by decide +kernel
set_option maxRecDepth 100000 in
theorem tyX1_ok : ∀ k, k < 34 → parseFieldDescriptor (TX1 k).2.2.1 = some (tyX1 k) := by decide +kernel
abbrev cX1_init : ByteArray := prog_14_method_1_code
def yX1_init : MethodName := ⟨RX1, "<init>", "()V"⟩
def dkwX1_init_9 : List UInt8 := [16, 24, 188, 4, 181, 0, 89, 42, 16, 24, 188, 10, 181, 0, 92, 42, 16, 24, 188, 10, 181, 0, 95, 177]
abbrev dktX1_init_9 : List UInt8 := dkwX1_init_9 ++ []
def dkwX1_init_8 : List UInt8 := [16, 24, 188, 10, 181, 0, 80, 42, 16, 24, 188, 10, 181, 0, 83, 42, 16, 25, 188, 10, 181, 0, 86, 42]
abbrev dktX1_init_8 : List UInt8 := dkwX1_init_8 ++ dktX1_init_9
def dkwX1_init_7 : List UInt8 := [16, 24, 188, 10, 181, 0, 70, 42, 16, 24, 188, 4, 181, 0, 73, 42, 16, 24, 188, 10, 181, 0, 77, 42]
abbrev dktX1_init_7 : List UInt8 := dkwX1_init_7 ++ dktX1_init_8
def dkwX1_init_6 : List UInt8 := [188, 10, 181, 0, 61, 42, 17, 2, 64, 188, 10, 181, 0, 64, 42, 16, 24, 188, 10, 181, 0, 67, 42]
abbrev dktX1_init_6 : List UInt8 := dkwX1_init_6 ++ dktX1_init_7
def dkwX1_init_5 : List UInt8 := [188, 10, 181, 0, 52, 42, 16, 24, 188, 10, 181, 0, 55, 42, 16, 24, 188, 10, 181, 0, 58, 42, 16, 24]
abbrev dktX1_init_5 : List UInt8 := dkwX1_init_5 ++ dktX1_init_6
def dkwX1_init_4 : List UInt8 := [188, 10, 181, 0, 43, 42, 16, 12, 188, 10, 181, 0, 46, 42, 16, 12, 188, 10, 181, 0, 49, 42, 16, 24]
abbrev dktX1_init_4 : List UInt8 := dkwX1_init_4 ++ dktX1_init_5
def dkwX1_init_3 : List UInt8 := [188, 10, 181, 0, 34, 42, 16, 12, 188, 10, 181, 0, 37, 42, 16, 12, 188, 10, 181, 0, 40, 42, 16, 12]
abbrev dktX1_init_3 : List UInt8 := dkwX1_init_3 ++ dktX1_init_4
def dkwX1_init_2 : List UInt8 := [188, 10, 181, 0, 25, 42, 16, 24, 188, 10, 181, 0, 28, 42, 16, 48, 188, 10, 181, 0, 31, 42, 16, 48]
abbrev dktX1_init_2 : List UInt8 := dkwX1_init_2 ++ dktX1_init_3
def dkwX1_init_1 : List UInt8 := [188, 10, 181, 0, 16, 42, 16, 24, 188, 10, 181, 0, 19, 42, 16, 24, 188, 10, 181, 0, 22, 42, 16, 24]
abbrev dktX1_init_1 : List UInt8 := dkwX1_init_1 ++ dktX1_init_2
def dkwX1_init_0 : List UInt8 := [42, 183, 0, 1, 42, 16, 24, 188, 10, 181, 0, 7, 42, 16, 24, 188, 10, 181, 0, 13, 42, 16, 24]
abbrev dktX1_init_0 : List UInt8 := dkwX1_init_0 ++ dktX1_init_1
theorem dksX1_init_0 : cX1_init.data.toList.drop 0 = dktX1_init_0 := by decide +kernel
theorem dksX1_init_1 : cX1_init.data.toList.drop 23 = dktX1_init_1 := dk_seg dksX1_init_0 23 rfl rfl
theorem dksX1_init_2 : cX1_init.data.toList.drop 47 = dktX1_init_2 := dk_seg dksX1_init_1 24 rfl rfl
theorem dksX1_init_3 : cX1_init.data.toList.drop 71 = dktX1_init_3 := dk_seg dksX1_init_2 24 rfl rfl
theorem dksX1_init_4 : cX1_init.data.toList.drop 95 = dktX1_init_4 := dk_seg dksX1_init_3 24 rfl rfl
theorem dksX1_init_5 : cX1_init.data.toList.drop 119 = dktX1_init_5 := dk_seg dksX1_init_4 24 rfl rfl
theorem dksX1_init_6 : cX1_init.data.toList.drop 143 = dktX1_init_6 := dk_seg dksX1_init_5 24 rfl rfl
theorem dksX1_init_7 : cX1_init.data.toList.drop 166 = dktX1_init_7 := dk_seg dksX1_init_6 23 rfl rfl
theorem dksX1_init_8 : cX1_init.data.toList.drop 190 = dktX1_init_8 := dk_seg dksX1_init_7 24 rfl rfl
theorem dksX1_init_9 : cX1_init.data.toList.drop 214 = dktX1_init_9 := dk_seg dksX1_init_8 24 rfl rfl
theorem dX1_init_0 : decode cX1_init 0 = .ok (.aload_n 0, 1) := dk_42 (dk_at dksX1_init_0 0 rfl rfl)
theorem dX1_init_1 : decode cX1_init 1 = .ok (.invokespecial 1, 3) := dk_183 0 1 (dk_at dksX1_init_0 1 rfl rfl)
theorem dX1_init_4 : decode cX1_init 4 = .ok (.aload_n 0, 1) := dk_42 (dk_at dksX1_init_0 4 rfl rfl)
theorem dX1_init_5 : decode cX1_init 5 = .ok (.bipush 24, 2) := dk_16 24 (dk_at dksX1_init_0 5 rfl rfl)
theorem dX1_init_7 : decode cX1_init 7 = .ok (.newarray .int, 2) := dk_188_10 (dk_at dksX1_init_0 7 rfl rfl)
theorem dX1_init_9 : decode cX1_init 9 = .ok (.putfield 7, 3) := dk_181 0 7 (dk_at dksX1_init_0 9 rfl rfl)
theorem dX1_init_12 : decode cX1_init 12 = .ok (.aload_n 0, 1) := dk_42 (dk_at dksX1_init_0 12 rfl rfl)
theorem dX1_init_13 : decode cX1_init 13 = .ok (.bipush 24, 2) := dk_16 24 (dk_at dksX1_init_0 13 rfl rfl)
theorem dX1_init_15 : decode cX1_init 15 = .ok (.newarray .int, 2) := dk_188_10 (dk_at dksX1_init_0 15 rfl rfl)
theorem dX1_init_17 : decode cX1_init 17 = .ok (.putfield 13, 3) := dk_181 0 13 (dk_at dksX1_init_0 17 rfl rfl)
theorem dX1_init_20 : decode cX1_init 20 = .ok (.aload_n 0, 1) := dk_42 (dk_at dksX1_init_0 20 rfl rfl)
theorem dX1_init_21 : decode cX1_init 21 = .ok (.bipush 24, 2) := dk_16 24 (dk_at dksX1_init_0 21 rfl rfl)
theorem dX1_init_23 : decode cX1_init 23 = .ok (.newarray .int, 2) := dk_188_10 (dk_at dksX1_init_1 0 rfl rfl)
theorem dX1_init_25 : decode cX1_init 25 = .ok (.putfield 16, 3) := dk_181 0 16 (dk_at dksX1_init_1 2 rfl rfl)
theorem dX1_init_28 : decode cX1_init 28 = .ok (.aload_n 0, 1) := dk_42 (dk_at dksX1_init_1 5 rfl rfl)
theorem dX1_init_29 : decode cX1_init 29 = .ok (.bipush 24, 2) := dk_16 24 (dk_at dksX1_init_1 6 rfl rfl)
theorem dX1_init_31 : decode cX1_init 31 = .ok (.newarray .int, 2) := dk_188_10 (dk_at dksX1_init_1 8 rfl rfl)
theorem dX1_init_33 : decode cX1_init 33 = .ok (.putfield 19, 3) := dk_181 0 19 (dk_at dksX1_init_1 10 rfl rfl)
theorem dX1_init_36 : decode cX1_init 36 = .ok (.aload_n 0, 1) := dk_42 (dk_at dksX1_init_1 13 rfl rfl)
theorem dX1_init_37 : decode cX1_init 37 = .ok (.bipush 24, 2) := dk_16 24 (dk_at dksX1_init_1 14 rfl rfl)
theorem dX1_init_39 : decode cX1_init 39 = .ok (.newarray .int, 2) := dk_188_10 (dk_at dksX1_init_1 16 rfl rfl)
theorem dX1_init_41 : decode cX1_init 41 = .ok (.putfield 22, 3) := dk_181 0 22 (dk_at dksX1_init_1 18 rfl rfl)
theorem dX1_init_44 : decode cX1_init 44 = .ok (.aload_n 0, 1) := dk_42 (dk_at dksX1_init_1 21 rfl rfl)
theorem dX1_init_45 : decode cX1_init 45 = .ok (.bipush 24, 2) := dk_16 24 (dk_at dksX1_init_1 22 rfl rfl)
theorem dX1_init_47 : decode cX1_init 47 = .ok (.newarray .int, 2) := dk_188_10 (dk_at dksX1_init_2 0 rfl rfl)
theorem dX1_init_49 : decode cX1_init 49 = .ok (.putfield 25, 3) := dk_181 0 25 (dk_at dksX1_init_2 2 rfl rfl)
theorem dX1_init_52 : decode cX1_init 52 = .ok (.aload_n 0, 1) := dk_42 (dk_at dksX1_init_2 5 rfl rfl)
theorem dX1_init_53 : decode cX1_init 53 = .ok (.bipush 24, 2) := dk_16 24 (dk_at dksX1_init_2 6 rfl rfl)
theorem dX1_init_55 : decode cX1_init 55 = .ok (.newarray .int, 2) := dk_188_10 (dk_at dksX1_init_2 8 rfl rfl)
theorem dX1_init_57 : decode cX1_init 57 = .ok (.putfield 28, 3) := dk_181 0 28 (dk_at dksX1_init_2 10 rfl rfl)
theorem dX1_init_60 : decode cX1_init 60 = .ok (.aload_n 0, 1) := dk_42 (dk_at dksX1_init_2 13 rfl rfl)
theorem dX1_init_61 : decode cX1_init 61 = .ok (.bipush 48, 2) := dk_16 48 (dk_at dksX1_init_2 14 rfl rfl)
theorem dX1_init_63 : decode cX1_init 63 = .ok (.newarray .int, 2) := dk_188_10 (dk_at dksX1_init_2 16 rfl rfl)
theorem dX1_init_65 : decode cX1_init 65 = .ok (.putfield 31, 3) := dk_181 0 31 (dk_at dksX1_init_2 18 rfl rfl)
theorem dX1_init_68 : decode cX1_init 68 = .ok (.aload_n 0, 1) := dk_42 (dk_at dksX1_init_2 21 rfl rfl)
theorem dX1_init_69 : decode cX1_init 69 = .ok (.bipush 48, 2) := dk_16 48 (dk_at dksX1_init_2 22 rfl rfl)
theorem dX1_init_71 : decode cX1_init 71 = .ok (.newarray .int, 2) := dk_188_10 (dk_at dksX1_init_3 0 rfl rfl)
theorem dX1_init_73 : decode cX1_init 73 = .ok (.putfield 34, 3) := dk_181 0 34 (dk_at dksX1_init_3 2 rfl rfl)
theorem dX1_init_76 : decode cX1_init 76 = .ok (.aload_n 0, 1) := dk_42 (dk_at dksX1_init_3 5 rfl rfl)
theorem dX1_init_77 : decode cX1_init 77 = .ok (.bipush 12, 2) := dk_16 12 (dk_at dksX1_init_3 6 rfl rfl)
theorem dX1_init_79 : decode cX1_init 79 = .ok (.newarray .int, 2) := dk_188_10 (dk_at dksX1_init_3 8 rfl rfl)
theorem dX1_init_81 : decode cX1_init 81 = .ok (.putfield 37, 3) := dk_181 0 37 (dk_at dksX1_init_3 10 rfl rfl)
theorem dX1_init_84 : decode cX1_init 84 = .ok (.aload_n 0, 1) := dk_42 (dk_at dksX1_init_3 13 rfl rfl)
theorem dX1_init_85 : decode cX1_init 85 = .ok (.bipush 12, 2) := dk_16 12 (dk_at dksX1_init_3 14 rfl rfl)
theorem dX1_init_87 : decode cX1_init 87 = .ok (.newarray .int, 2) := dk_188_10 (dk_at dksX1_init_3 16 rfl rfl)
theorem dX1_init_89 : decode cX1_init 89 = .ok (.putfield 40, 3) := dk_181 0 40 (dk_at dksX1_init_3 18 rfl rfl)
theorem dX1_init_92 : decode cX1_init 92 = .ok (.aload_n 0, 1) := dk_42 (dk_at dksX1_init_3 21 rfl rfl)
theorem dX1_init_93 : decode cX1_init 93 = .ok (.bipush 12, 2) := dk_16 12 (dk_at dksX1_init_3 22 rfl rfl)
theorem dX1_init_95 : decode cX1_init 95 = .ok (.newarray .int, 2) := dk_188_10 (dk_at dksX1_init_4 0 rfl rfl)
theorem dX1_init_97 : decode cX1_init 97 = .ok (.putfield 43, 3) := dk_181 0 43 (dk_at dksX1_init_4 2 rfl rfl)
theorem dX1_init_100 : decode cX1_init 100 = .ok (.aload_n 0, 1) := dk_42 (dk_at dksX1_init_4 5 rfl rfl)
theorem dX1_init_101 : decode cX1_init 101 = .ok (.bipush 12, 2) := dk_16 12 (dk_at dksX1_init_4 6 rfl rfl)
theorem dX1_init_103 : decode cX1_init 103 = .ok (.newarray .int, 2) := dk_188_10 (dk_at dksX1_init_4 8 rfl rfl)
theorem dX1_init_105 : decode cX1_init 105 = .ok (.putfield 46, 3) := dk_181 0 46 (dk_at dksX1_init_4 10 rfl rfl)
theorem dX1_init_108 : decode cX1_init 108 = .ok (.aload_n 0, 1) := dk_42 (dk_at dksX1_init_4 13 rfl rfl)
theorem dX1_init_109 : decode cX1_init 109 = .ok (.bipush 12, 2) := dk_16 12 (dk_at dksX1_init_4 14 rfl rfl)
theorem dX1_init_111 : decode cX1_init 111 = .ok (.newarray .int, 2) := dk_188_10 (dk_at dksX1_init_4 16 rfl rfl)
theorem dX1_init_113 : decode cX1_init 113 = .ok (.putfield 49, 3) := dk_181 0 49 (dk_at dksX1_init_4 18 rfl rfl)
theorem dX1_init_116 : decode cX1_init 116 = .ok (.aload_n 0, 1) := dk_42 (dk_at dksX1_init_4 21 rfl rfl)
theorem dX1_init_117 : decode cX1_init 117 = .ok (.bipush 24, 2) := dk_16 24 (dk_at dksX1_init_4 22 rfl rfl)
theorem dX1_init_119 : decode cX1_init 119 = .ok (.newarray .int, 2) := dk_188_10 (dk_at dksX1_init_5 0 rfl rfl)
theorem dX1_init_121 : decode cX1_init 121 = .ok (.putfield 52, 3) := dk_181 0 52 (dk_at dksX1_init_5 2 rfl rfl)
theorem dX1_init_124 : decode cX1_init 124 = .ok (.aload_n 0, 1) := dk_42 (dk_at dksX1_init_5 5 rfl rfl)
theorem dX1_init_125 : decode cX1_init 125 = .ok (.bipush 24, 2) := dk_16 24 (dk_at dksX1_init_5 6 rfl rfl)
theorem dX1_init_127 : decode cX1_init 127 = .ok (.newarray .int, 2) := dk_188_10 (dk_at dksX1_init_5 8 rfl rfl)
theorem dX1_init_129 : decode cX1_init 129 = .ok (.putfield 55, 3) := dk_181 0 55 (dk_at dksX1_init_5 10 rfl rfl)
theorem dX1_init_132 : decode cX1_init 132 = .ok (.aload_n 0, 1) := dk_42 (dk_at dksX1_init_5 13 rfl rfl)
theorem dX1_init_133 : decode cX1_init 133 = .ok (.bipush 24, 2) := dk_16 24 (dk_at dksX1_init_5 14 rfl rfl)
theorem dX1_init_135 : decode cX1_init 135 = .ok (.newarray .int, 2) := dk_188_10 (dk_at dksX1_init_5 16 rfl rfl)
theorem dX1_init_137 : decode cX1_init 137 = .ok (.putfield 58, 3) := dk_181 0 58 (dk_at dksX1_init_5 18 rfl rfl)
theorem dX1_init_140 : decode cX1_init 140 = .ok (.aload_n 0, 1) := dk_42 (dk_at dksX1_init_5 21 rfl rfl)
theorem dX1_init_141 : decode cX1_init 141 = .ok (.bipush 24, 2) := dk_16 24 (dk_at dksX1_init_5 22 rfl rfl)
theorem dX1_init_143 : decode cX1_init 143 = .ok (.newarray .int, 2) := dk_188_10 (dk_at dksX1_init_6 0 rfl rfl)
theorem dX1_init_145 : decode cX1_init 145 = .ok (.putfield 61, 3) := dk_181 0 61 (dk_at dksX1_init_6 2 rfl rfl)
theorem dX1_init_148 : decode cX1_init 148 = .ok (.aload_n 0, 1) := dk_42 (dk_at dksX1_init_6 5 rfl rfl)
theorem dX1_init_149 : decode cX1_init 149 = .ok (.sipush 576, 3) := dk_17 2 64 (dk_at dksX1_init_6 6 rfl rfl)
theorem dX1_init_152 : decode cX1_init 152 = .ok (.newarray .int, 2) := dk_188_10 (dk_at dksX1_init_6 9 rfl rfl)
theorem dX1_init_154 : decode cX1_init 154 = .ok (.putfield 64, 3) := dk_181 0 64 (dk_at dksX1_init_6 11 rfl rfl)
theorem dX1_init_157 : decode cX1_init 157 = .ok (.aload_n 0, 1) := dk_42 (dk_at dksX1_init_6 14 rfl rfl)
theorem dX1_init_158 : decode cX1_init 158 = .ok (.bipush 24, 2) := dk_16 24 (dk_at dksX1_init_6 15 rfl rfl)
theorem dX1_init_160 : decode cX1_init 160 = .ok (.newarray .int, 2) := dk_188_10 (dk_at dksX1_init_6 17 rfl rfl)
theorem dX1_init_162 : decode cX1_init 162 = .ok (.putfield 67, 3) := dk_181 0 67 (dk_at dksX1_init_6 19 rfl rfl)
theorem dX1_init_165 : decode cX1_init 165 = .ok (.aload_n 0, 1) := dk_42 (dk_at dksX1_init_6 22 rfl rfl)
theorem dX1_init_166 : decode cX1_init 166 = .ok (.bipush 24, 2) := dk_16 24 (dk_at dksX1_init_7 0 rfl rfl)
theorem dX1_init_168 : decode cX1_init 168 = .ok (.newarray .int, 2) := dk_188_10 (dk_at dksX1_init_7 2 rfl rfl)
theorem dX1_init_170 : decode cX1_init 170 = .ok (.putfield 70, 3) := dk_181 0 70 (dk_at dksX1_init_7 4 rfl rfl)
theorem dX1_init_173 : decode cX1_init 173 = .ok (.aload_n 0, 1) := dk_42 (dk_at dksX1_init_7 7 rfl rfl)
theorem dX1_init_174 : decode cX1_init 174 = .ok (.bipush 24, 2) := dk_16 24 (dk_at dksX1_init_7 8 rfl rfl)
theorem dX1_init_176 : decode cX1_init 176 = .ok (.newarray .boolean, 2) := dk_188_4 (dk_at dksX1_init_7 10 rfl rfl)
theorem dX1_init_178 : decode cX1_init 178 = .ok (.putfield 73, 3) := dk_181 0 73 (dk_at dksX1_init_7 12 rfl rfl)
theorem dX1_init_181 : decode cX1_init 181 = .ok (.aload_n 0, 1) := dk_42 (dk_at dksX1_init_7 15 rfl rfl)
theorem dX1_init_182 : decode cX1_init 182 = .ok (.bipush 24, 2) := dk_16 24 (dk_at dksX1_init_7 16 rfl rfl)
theorem dX1_init_184 : decode cX1_init 184 = .ok (.newarray .int, 2) := dk_188_10 (dk_at dksX1_init_7 18 rfl rfl)
theorem dX1_init_186 : decode cX1_init 186 = .ok (.putfield 77, 3) := dk_181 0 77 (dk_at dksX1_init_7 20 rfl rfl)
theorem dX1_init_189 : decode cX1_init 189 = .ok (.aload_n 0, 1) := dk_42 (dk_at dksX1_init_7 23 rfl rfl)
theorem dX1_init_190 : decode cX1_init 190 = .ok (.bipush 24, 2) := dk_16 24 (dk_at dksX1_init_8 0 rfl rfl)
theorem dX1_init_192 : decode cX1_init 192 = .ok (.newarray .int, 2) := dk_188_10 (dk_at dksX1_init_8 2 rfl rfl)
theorem dX1_init_194 : decode cX1_init 194 = .ok (.putfield 80, 3) := dk_181 0 80 (dk_at dksX1_init_8 4 rfl rfl)
theorem dX1_init_197 : decode cX1_init 197 = .ok (.aload_n 0, 1) := dk_42 (dk_at dksX1_init_8 7 rfl rfl)
theorem dX1_init_198 : decode cX1_init 198 = .ok (.bipush 24, 2) := dk_16 24 (dk_at dksX1_init_8 8 rfl rfl)
theorem dX1_init_200 : decode cX1_init 200 = .ok (.newarray .int, 2) := dk_188_10 (dk_at dksX1_init_8 10 rfl rfl)
theorem dX1_init_202 : decode cX1_init 202 = .ok (.putfield 83, 3) := dk_181 0 83 (dk_at dksX1_init_8 12 rfl rfl)
theorem dX1_init_205 : decode cX1_init 205 = .ok (.aload_n 0, 1) := dk_42 (dk_at dksX1_init_8 15 rfl rfl)
theorem dX1_init_206 : decode cX1_init 206 = .ok (.bipush 25, 2) := dk_16 25 (dk_at dksX1_init_8 16 rfl rfl)
theorem dX1_init_208 : decode cX1_init 208 = .ok (.newarray .int, 2) := dk_188_10 (dk_at dksX1_init_8 18 rfl rfl)
theorem dX1_init_210 : decode cX1_init 210 = .ok (.putfield 86, 3) := dk_181 0 86 (dk_at dksX1_init_8 20 rfl rfl)
theorem dX1_init_213 : decode cX1_init 213 = .ok (.aload_n 0, 1) := dk_42 (dk_at dksX1_init_8 23 rfl rfl)
theorem dX1_init_214 : decode cX1_init 214 = .ok (.bipush 24, 2) := dk_16 24 (dk_at dksX1_init_9 0 rfl rfl)
theorem dX1_init_216 : decode cX1_init 216 = .ok (.newarray .boolean, 2) := dk_188_4 (dk_at dksX1_init_9 2 rfl rfl)
theorem dX1_init_218 : decode cX1_init 218 = .ok (.putfield 89, 3) := dk_181 0 89 (dk_at dksX1_init_9 4 rfl rfl)
theorem dX1_init_221 : decode cX1_init 221 = .ok (.aload_n 0, 1) := dk_42 (dk_at dksX1_init_9 7 rfl rfl)
theorem dX1_init_222 : decode cX1_init 222 = .ok (.bipush 24, 2) := dk_16 24 (dk_at dksX1_init_9 8 rfl rfl)
theorem dX1_init_224 : decode cX1_init 224 = .ok (.newarray .int, 2) := dk_188_10 (dk_at dksX1_init_9 10 rfl rfl)
theorem dX1_init_226 : decode cX1_init 226 = .ok (.putfield 92, 3) := dk_181 0 92 (dk_at dksX1_init_9 12 rfl rfl)
theorem dX1_init_229 : decode cX1_init 229 = .ok (.aload_n 0, 1) := dk_42 (dk_at dksX1_init_9 15 rfl rfl)
theorem dX1_init_230 : decode cX1_init 230 = .ok (.bipush 24, 2) := dk_16 24 (dk_at dksX1_init_9 16 rfl rfl)
theorem dX1_init_232 : decode cX1_init 232 = .ok (.newarray .int, 2) := dk_188_10 (dk_at dksX1_init_9 18 rfl rfl)
theorem dX1_init_234 : decode cX1_init 234 = .ok (.putfield 95, 3) := dk_181 0 95 (dk_at dksX1_init_9 20 rfl rfl)
theorem dX1_init_237 : decode cX1_init 237 = .ok (.return_, 1) := dk_177 (dk_at dksX1_init_9 23 rfl rfl)
abbrev cX1_block : ByteArray := prog_14_method_5_code
def yX1_block : MethodName := ⟨RX1, "block", "(IIIIII)I"⟩
def dkwX1_block_11 : List UInt8 := [4, 100, 172]
abbrev dktX1_block_11 : List UInt8 := dkwX1_block_11 ++ []
def dkwX1_block_10 : List UInt8 := [42, 180, 0, 98, 104, 4, 96, 16, 247, 79, 42, 89, 180, 0, 98, 4, 96, 181, 0, 98, 42, 180, 0, 98]
abbrev dktX1_block_10 : List UInt8 := dkwX1_block_10 ++ dktX1_block_11
def dkwX1_block_9 : List UInt8 := [167, 0, 5, 16, 247, 79, 42, 180, 0, 31, 5, 42, 180, 0, 98, 104, 16, 247, 79, 42, 180, 0, 31, 5]
abbrev dktX1_block_9 : List UInt8 := dkwX1_block_9 ++ dktX1_block_10
def dkwX1_block_8 : List UInt8 := [180, 0, 25, 42, 180, 0, 98, 21, 6, 79, 42, 180, 0, 28, 42, 180, 0, 98, 28, 4, 160, 0, 7, 4]
abbrev dktX1_block_8 : List UInt8 := dkwX1_block_8 ++ dktX1_block_9
def dkwX1_block_7 : List UInt8 := [79, 42, 180, 0, 19, 42, 180, 0, 98, 21, 4, 79, 42, 180, 0, 22, 42, 180, 0, 98, 21, 5, 79, 42]
abbrev dktX1_block_7 : List UInt8 := dkwX1_block_7 ++ dktX1_block_8
def dkwX1_block_6 : List UInt8 := [180, 0, 98, 27, 79, 42, 180, 0, 13, 42, 180, 0, 98, 28, 79, 42, 180, 0, 16, 42, 180, 0, 98, 29]
abbrev dktX1_block_6 : List UInt8 := dkwX1_block_6 ++ dktX1_block_7
def dkwX1_block_5 : List UInt8 := [132, 8, 1, 167, 255, 214, 42, 180, 0, 98, 16, 24, 160, 0, 6, 16, 252, 172, 42, 180, 0, 7, 42]
abbrev dktX1_block_5 : List UInt8 := dkwX1_block_5 ++ dktX1_block_6
def dkwX1_block_4 : List UInt8 := [46, 27, 160, 0, 22, 42, 21, 8, 29, 21, 4, 21, 5, 21, 6, 182, 0, 106, 153, 0, 6, 16, 253, 172]
abbrev dktX1_block_4 : List UInt8 := dkwX1_block_4 ++ dktX1_block_5
def dkwX1_block_3 : List UInt8 := [154, 0, 6, 16, 254, 172, 3, 54, 8, 21, 8, 42, 180, 0, 98, 162, 0, 39, 42, 180, 0, 7, 21, 8]
abbrev dktX1_block_3 : List UInt8 := dkwX1_block_3 ++ dktX1_block_4
def dkwX1_block_2 : List UInt8 := [3, 54, 7, 27, 3, 6, 184, 0, 102, 153, 0, 17, 28, 3, 5, 184, 0, 102, 153, 0, 8, 21, 7]
abbrev dktX1_block_2 : List UInt8 := dkwX1_block_2 ++ dktX1_block_3
def dkwX1_block_1 : List UInt8 := [21, 6, 184, 0, 102, 153, 0, 19, 21, 6, 21, 5, 16, 29, 184, 0, 102, 153, 0, 7, 4, 167, 0, 4]
abbrev dktX1_block_1 : List UInt8 := dkwX1_block_1 ++ dktX1_block_2
def dkwX1_block_0 : List UInt8 := [29, 3, 21, 4, 184, 0, 102, 153, 0, 41, 21, 4, 29, 16, 7, 184, 0, 102, 153, 0, 30, 21, 5, 3]
abbrev dktX1_block_0 : List UInt8 := dkwX1_block_0 ++ dktX1_block_1
theorem dksX1_block_0 : cX1_block.data.toList.drop 0 = dktX1_block_0 := by decide +kernel
theorem dksX1_block_1 : cX1_block.data.toList.drop 24 = dktX1_block_1 := dk_seg dksX1_block_0 24 rfl rfl
theorem dksX1_block_2 : cX1_block.data.toList.drop 48 = dktX1_block_2 := dk_seg dksX1_block_1 24 rfl rfl
theorem dksX1_block_3 : cX1_block.data.toList.drop 71 = dktX1_block_3 := dk_seg dksX1_block_2 23 rfl rfl
theorem dksX1_block_4 : cX1_block.data.toList.drop 95 = dktX1_block_4 := dk_seg dksX1_block_3 24 rfl rfl
theorem dksX1_block_5 : cX1_block.data.toList.drop 119 = dktX1_block_5 := dk_seg dksX1_block_4 24 rfl rfl
theorem dksX1_block_6 : cX1_block.data.toList.drop 142 = dktX1_block_6 := dk_seg dksX1_block_5 23 rfl rfl
theorem dksX1_block_7 : cX1_block.data.toList.drop 166 = dktX1_block_7 := dk_seg dksX1_block_6 24 rfl rfl
theorem dksX1_block_8 : cX1_block.data.toList.drop 190 = dktX1_block_8 := dk_seg dksX1_block_7 24 rfl rfl
theorem dksX1_block_9 : cX1_block.data.toList.drop 214 = dktX1_block_9 := dk_seg dksX1_block_8 24 rfl rfl
theorem dksX1_block_10 : cX1_block.data.toList.drop 238 = dktX1_block_10 := dk_seg dksX1_block_9 24 rfl rfl
theorem dksX1_block_11 : cX1_block.data.toList.drop 262 = dktX1_block_11 := dk_seg dksX1_block_10 24 rfl rfl
theorem dX1_block_0 : decode cX1_block 0 = .ok (.iload_n 3, 1) := dk_29 (dk_at dksX1_block_0 0 rfl rfl)
theorem dX1_block_1 : decode cX1_block 1 = .ok (.iconst 0, 1) := dk_3 (dk_at dksX1_block_0 1 rfl rfl)
theorem dX1_block_2 : decode cX1_block 2 = .ok (.iload 4, 2) := dk_21 4 (dk_at dksX1_block_0 2 rfl rfl)
theorem dX1_block_4 : decode cX1_block 4 = .ok (.invokestatic 102, 3) := dk_184 0 102 (dk_at dksX1_block_0 4 rfl rfl)
theorem dX1_block_7 : decode cX1_block 7 = .ok (.ifCond .eq 41, 3) := dk_153 0 41 (dk_at dksX1_block_0 7 rfl rfl)
theorem dX1_block_10 : decode cX1_block 10 = .ok (.iload 4, 2) := dk_21 4 (dk_at dksX1_block_0 10 rfl rfl)
theorem dX1_block_12 : decode cX1_block 12 = .ok (.iload_n 3, 1) := dk_29 (dk_at dksX1_block_0 12 rfl rfl)
theorem dX1_block_13 : decode cX1_block 13 = .ok (.bipush 7, 2) := dk_16 7 (dk_at dksX1_block_0 13 rfl rfl)
theorem dX1_block_15 : decode cX1_block 15 = .ok (.invokestatic 102, 3) := dk_184 0 102 (dk_at dksX1_block_0 15 rfl rfl)
theorem dX1_block_18 : decode cX1_block 18 = .ok (.ifCond .eq 30, 3) := dk_153 0 30 (dk_at dksX1_block_0 18 rfl rfl)
theorem dX1_block_21 : decode cX1_block 21 = .ok (.iload 5, 2) := dk_21 5 (dk_at dksX1_block_0 21 rfl rfl)
theorem dX1_block_23 : decode cX1_block 23 = .ok (.iconst 0, 1) := dk_3 (dk_at dksX1_block_0 23 rfl rfl)
theorem dX1_block_24 : decode cX1_block 24 = .ok (.iload 6, 2) := dk_21 6 (dk_at dksX1_block_1 0 rfl rfl)
theorem dX1_block_26 : decode cX1_block 26 = .ok (.invokestatic 102, 3) := dk_184 0 102 (dk_at dksX1_block_1 2 rfl rfl)
theorem dX1_block_29 : decode cX1_block 29 = .ok (.ifCond .eq 19, 3) := dk_153 0 19 (dk_at dksX1_block_1 5 rfl rfl)
theorem dX1_block_32 : decode cX1_block 32 = .ok (.iload 6, 2) := dk_21 6 (dk_at dksX1_block_1 8 rfl rfl)
theorem dX1_block_34 : decode cX1_block 34 = .ok (.iload 5, 2) := dk_21 5 (dk_at dksX1_block_1 10 rfl rfl)
theorem dX1_block_36 : decode cX1_block 36 = .ok (.bipush 29, 2) := dk_16 29 (dk_at dksX1_block_1 12 rfl rfl)
theorem dX1_block_38 : decode cX1_block 38 = .ok (.invokestatic 102, 3) := dk_184 0 102 (dk_at dksX1_block_1 14 rfl rfl)
theorem dX1_block_41 : decode cX1_block 41 = .ok (.ifCond .eq 7, 3) := dk_153 0 7 (dk_at dksX1_block_1 17 rfl rfl)
theorem dX1_block_44 : decode cX1_block 44 = .ok (.iconst 1, 1) := dk_4 (dk_at dksX1_block_1 20 rfl rfl)
theorem dX1_block_45 : decode cX1_block 45 = .ok (.goto 4, 3) := dk_167 0 4 (dk_at dksX1_block_1 21 rfl rfl)
theorem dX1_block_48 : decode cX1_block 48 = .ok (.iconst 0, 1) := dk_3 (dk_at dksX1_block_2 0 rfl rfl)
theorem dX1_block_49 : decode cX1_block 49 = .ok (.istore 7, 2) := dk_54 7 (dk_at dksX1_block_2 1 rfl rfl)
theorem dX1_block_51 : decode cX1_block 51 = .ok (.iload_n 1, 1) := dk_27 (dk_at dksX1_block_2 3 rfl rfl)
theorem dX1_block_52 : decode cX1_block 52 = .ok (.iconst 0, 1) := dk_3 (dk_at dksX1_block_2 4 rfl rfl)
theorem dX1_block_53 : decode cX1_block 53 = .ok (.iconst 3, 1) := dk_6 (dk_at dksX1_block_2 5 rfl rfl)
theorem dX1_block_54 : decode cX1_block 54 = .ok (.invokestatic 102, 3) := dk_184 0 102 (dk_at dksX1_block_2 6 rfl rfl)
theorem dX1_block_57 : decode cX1_block 57 = .ok (.ifCond .eq 17, 3) := dk_153 0 17 (dk_at dksX1_block_2 9 rfl rfl)
theorem dX1_block_60 : decode cX1_block 60 = .ok (.iload_n 2, 1) := dk_28 (dk_at dksX1_block_2 12 rfl rfl)
theorem dX1_block_61 : decode cX1_block 61 = .ok (.iconst 0, 1) := dk_3 (dk_at dksX1_block_2 13 rfl rfl)
theorem dX1_block_62 : decode cX1_block 62 = .ok (.iconst 2, 1) := dk_5 (dk_at dksX1_block_2 14 rfl rfl)
theorem dX1_block_63 : decode cX1_block 63 = .ok (.invokestatic 102, 3) := dk_184 0 102 (dk_at dksX1_block_2 15 rfl rfl)
theorem dX1_block_66 : decode cX1_block 66 = .ok (.ifCond .eq 8, 3) := dk_153 0 8 (dk_at dksX1_block_2 18 rfl rfl)
theorem dX1_block_69 : decode cX1_block 69 = .ok (.iload 7, 2) := dk_21 7 (dk_at dksX1_block_2 21 rfl rfl)
theorem dX1_block_71 : decode cX1_block 71 = .ok (.ifCond .ne 6, 3) := dk_154 0 6 (dk_at dksX1_block_3 0 rfl rfl)
theorem dX1_block_74 : decode cX1_block 74 = .ok (.bipush (-2), 2) := dk_16 254 (dk_at dksX1_block_3 3 rfl rfl)
theorem dX1_block_76 : decode cX1_block 76 = .ok (.ireturn, 1) := dk_172 (dk_at dksX1_block_3 5 rfl rfl)
theorem dX1_block_77 : decode cX1_block 77 = .ok (.iconst 0, 1) := dk_3 (dk_at dksX1_block_3 6 rfl rfl)
theorem dX1_block_78 : decode cX1_block 78 = .ok (.istore 8, 2) := dk_54 8 (dk_at dksX1_block_3 7 rfl rfl)
theorem dX1_block_80 : decode cX1_block 80 = .ok (.iload 8, 2) := dk_21 8 (dk_at dksX1_block_3 9 rfl rfl)
theorem dX1_block_82 : decode cX1_block 82 = .ok (.aload_n 0, 1) := dk_42 (dk_at dksX1_block_3 11 rfl rfl)
theorem dX1_block_83 : decode cX1_block 83 = .ok (.getfield 98, 3) := dk_180 0 98 (dk_at dksX1_block_3 12 rfl rfl)
theorem dX1_block_86 : decode cX1_block 86 = .ok (.if_icmp .ge 39, 3) := dk_162 0 39 (dk_at dksX1_block_3 15 rfl rfl)
theorem dX1_block_89 : decode cX1_block 89 = .ok (.aload_n 0, 1) := dk_42 (dk_at dksX1_block_3 18 rfl rfl)
theorem dX1_block_90 : decode cX1_block 90 = .ok (.getfield 7, 3) := dk_180 0 7 (dk_at dksX1_block_3 19 rfl rfl)
theorem dX1_block_93 : decode cX1_block 93 = .ok (.iload 8, 2) := dk_21 8 (dk_at dksX1_block_3 22 rfl rfl)
theorem dX1_block_95 : decode cX1_block 95 = .ok (.iaload, 1) := dk_46 (dk_at dksX1_block_4 0 rfl rfl)
theorem dX1_block_96 : decode cX1_block 96 = .ok (.iload_n 1, 1) := dk_27 (dk_at dksX1_block_4 1 rfl rfl)
theorem dX1_block_97 : decode cX1_block 97 = .ok (.if_icmp .ne 22, 3) := dk_160 0 22 (dk_at dksX1_block_4 2 rfl rfl)
theorem dX1_block_100 : decode cX1_block 100 = .ok (.aload_n 0, 1) := dk_42 (dk_at dksX1_block_4 5 rfl rfl)
theorem dX1_block_101 : decode cX1_block 101 = .ok (.iload 8, 2) := dk_21 8 (dk_at dksX1_block_4 6 rfl rfl)
theorem dX1_block_103 : decode cX1_block 103 = .ok (.iload_n 3, 1) := dk_29 (dk_at dksX1_block_4 8 rfl rfl)
theorem dX1_block_104 : decode cX1_block 104 = .ok (.iload 4, 2) := dk_21 4 (dk_at dksX1_block_4 9 rfl rfl)
theorem dX1_block_106 : decode cX1_block 106 = .ok (.iload 5, 2) := dk_21 5 (dk_at dksX1_block_4 11 rfl rfl)
theorem dX1_block_108 : decode cX1_block 108 = .ok (.iload 6, 2) := dk_21 6 (dk_at dksX1_block_4 13 rfl rfl)
theorem dX1_block_110 : decode cX1_block 110 = .ok (.invokevirtual 106, 3) := dk_182 0 106 (dk_at dksX1_block_4 15 rfl rfl)
theorem dX1_block_113 : decode cX1_block 113 = .ok (.ifCond .eq 6, 3) := dk_153 0 6 (dk_at dksX1_block_4 18 rfl rfl)
theorem dX1_block_116 : decode cX1_block 116 = .ok (.bipush (-3), 2) := dk_16 253 (dk_at dksX1_block_4 21 rfl rfl)
theorem dX1_block_118 : decode cX1_block 118 = .ok (.ireturn, 1) := dk_172 (dk_at dksX1_block_4 23 rfl rfl)
theorem dX1_block_119 : decode cX1_block 119 = .ok (.iinc 8 1, 3) := dk_132 8 1 (dk_at dksX1_block_5 0 rfl rfl)
theorem dX1_block_122 : decode cX1_block 122 = .ok (.goto (-42), 3) := dk_167 255 214 (dk_at dksX1_block_5 3 rfl rfl)
theorem dX1_block_125 : decode cX1_block 125 = .ok (.aload_n 0, 1) := dk_42 (dk_at dksX1_block_5 6 rfl rfl)
theorem dX1_block_126 : decode cX1_block 126 = .ok (.getfield 98, 3) := dk_180 0 98 (dk_at dksX1_block_5 7 rfl rfl)
theorem dX1_block_129 : decode cX1_block 129 = .ok (.bipush 24, 2) := dk_16 24 (dk_at dksX1_block_5 10 rfl rfl)
theorem dX1_block_131 : decode cX1_block 131 = .ok (.if_icmp .ne 6, 3) := dk_160 0 6 (dk_at dksX1_block_5 12 rfl rfl)
theorem dX1_block_134 : decode cX1_block 134 = .ok (.bipush (-4), 2) := dk_16 252 (dk_at dksX1_block_5 15 rfl rfl)
theorem dX1_block_136 : decode cX1_block 136 = .ok (.ireturn, 1) := dk_172 (dk_at dksX1_block_5 17 rfl rfl)
theorem dX1_block_137 : decode cX1_block 137 = .ok (.aload_n 0, 1) := dk_42 (dk_at dksX1_block_5 18 rfl rfl)
theorem dX1_block_138 : decode cX1_block 138 = .ok (.getfield 7, 3) := dk_180 0 7 (dk_at dksX1_block_5 19 rfl rfl)
theorem dX1_block_141 : decode cX1_block 141 = .ok (.aload_n 0, 1) := dk_42 (dk_at dksX1_block_5 22 rfl rfl)
theorem dX1_block_142 : decode cX1_block 142 = .ok (.getfield 98, 3) := dk_180 0 98 (dk_at dksX1_block_6 0 rfl rfl)
theorem dX1_block_145 : decode cX1_block 145 = .ok (.iload_n 1, 1) := dk_27 (dk_at dksX1_block_6 3 rfl rfl)
theorem dX1_block_146 : decode cX1_block 146 = .ok (.iastore, 1) := dk_79 (dk_at dksX1_block_6 4 rfl rfl)
theorem dX1_block_147 : decode cX1_block 147 = .ok (.aload_n 0, 1) := dk_42 (dk_at dksX1_block_6 5 rfl rfl)
theorem dX1_block_148 : decode cX1_block 148 = .ok (.getfield 13, 3) := dk_180 0 13 (dk_at dksX1_block_6 6 rfl rfl)
theorem dX1_block_151 : decode cX1_block 151 = .ok (.aload_n 0, 1) := dk_42 (dk_at dksX1_block_6 9 rfl rfl)
theorem dX1_block_152 : decode cX1_block 152 = .ok (.getfield 98, 3) := dk_180 0 98 (dk_at dksX1_block_6 10 rfl rfl)
theorem dX1_block_155 : decode cX1_block 155 = .ok (.iload_n 2, 1) := dk_28 (dk_at dksX1_block_6 13 rfl rfl)
theorem dX1_block_156 : decode cX1_block 156 = .ok (.iastore, 1) := dk_79 (dk_at dksX1_block_6 14 rfl rfl)
theorem dX1_block_157 : decode cX1_block 157 = .ok (.aload_n 0, 1) := dk_42 (dk_at dksX1_block_6 15 rfl rfl)
theorem dX1_block_158 : decode cX1_block 158 = .ok (.getfield 16, 3) := dk_180 0 16 (dk_at dksX1_block_6 16 rfl rfl)
theorem dX1_block_161 : decode cX1_block 161 = .ok (.aload_n 0, 1) := dk_42 (dk_at dksX1_block_6 19 rfl rfl)
theorem dX1_block_162 : decode cX1_block 162 = .ok (.getfield 98, 3) := dk_180 0 98 (dk_at dksX1_block_6 20 rfl rfl)
theorem dX1_block_165 : decode cX1_block 165 = .ok (.iload_n 3, 1) := dk_29 (dk_at dksX1_block_6 23 rfl rfl)
theorem dX1_block_166 : decode cX1_block 166 = .ok (.iastore, 1) := dk_79 (dk_at dksX1_block_7 0 rfl rfl)
theorem dX1_block_167 : decode cX1_block 167 = .ok (.aload_n 0, 1) := dk_42 (dk_at dksX1_block_7 1 rfl rfl)
theorem dX1_block_168 : decode cX1_block 168 = .ok (.getfield 19, 3) := dk_180 0 19 (dk_at dksX1_block_7 2 rfl rfl)
theorem dX1_block_171 : decode cX1_block 171 = .ok (.aload_n 0, 1) := dk_42 (dk_at dksX1_block_7 5 rfl rfl)
theorem dX1_block_172 : decode cX1_block 172 = .ok (.getfield 98, 3) := dk_180 0 98 (dk_at dksX1_block_7 6 rfl rfl)
theorem dX1_block_175 : decode cX1_block 175 = .ok (.iload 4, 2) := dk_21 4 (dk_at dksX1_block_7 9 rfl rfl)
theorem dX1_block_177 : decode cX1_block 177 = .ok (.iastore, 1) := dk_79 (dk_at dksX1_block_7 11 rfl rfl)
theorem dX1_block_178 : decode cX1_block 178 = .ok (.aload_n 0, 1) := dk_42 (dk_at dksX1_block_7 12 rfl rfl)
theorem dX1_block_179 : decode cX1_block 179 = .ok (.getfield 22, 3) := dk_180 0 22 (dk_at dksX1_block_7 13 rfl rfl)
theorem dX1_block_182 : decode cX1_block 182 = .ok (.aload_n 0, 1) := dk_42 (dk_at dksX1_block_7 16 rfl rfl)
theorem dX1_block_183 : decode cX1_block 183 = .ok (.getfield 98, 3) := dk_180 0 98 (dk_at dksX1_block_7 17 rfl rfl)
theorem dX1_block_186 : decode cX1_block 186 = .ok (.iload 5, 2) := dk_21 5 (dk_at dksX1_block_7 20 rfl rfl)
theorem dX1_block_188 : decode cX1_block 188 = .ok (.iastore, 1) := dk_79 (dk_at dksX1_block_7 22 rfl rfl)
theorem dX1_block_189 : decode cX1_block 189 = .ok (.aload_n 0, 1) := dk_42 (dk_at dksX1_block_7 23 rfl rfl)
theorem dX1_block_190 : decode cX1_block 190 = .ok (.getfield 25, 3) := dk_180 0 25 (dk_at dksX1_block_8 0 rfl rfl)
theorem dX1_block_193 : decode cX1_block 193 = .ok (.aload_n 0, 1) := dk_42 (dk_at dksX1_block_8 3 rfl rfl)
theorem dX1_block_194 : decode cX1_block 194 = .ok (.getfield 98, 3) := dk_180 0 98 (dk_at dksX1_block_8 4 rfl rfl)
theorem dX1_block_197 : decode cX1_block 197 = .ok (.iload 6, 2) := dk_21 6 (dk_at dksX1_block_8 7 rfl rfl)
theorem dX1_block_199 : decode cX1_block 199 = .ok (.iastore, 1) := dk_79 (dk_at dksX1_block_8 9 rfl rfl)
theorem dX1_block_200 : decode cX1_block 200 = .ok (.aload_n 0, 1) := dk_42 (dk_at dksX1_block_8 10 rfl rfl)
theorem dX1_block_201 : decode cX1_block 201 = .ok (.getfield 28, 3) := dk_180 0 28 (dk_at dksX1_block_8 11 rfl rfl)
theorem dX1_block_204 : decode cX1_block 204 = .ok (.aload_n 0, 1) := dk_42 (dk_at dksX1_block_8 14 rfl rfl)
theorem dX1_block_205 : decode cX1_block 205 = .ok (.getfield 98, 3) := dk_180 0 98 (dk_at dksX1_block_8 15 rfl rfl)
theorem dX1_block_208 : decode cX1_block 208 = .ok (.iload_n 2, 1) := dk_28 (dk_at dksX1_block_8 18 rfl rfl)
theorem dX1_block_209 : decode cX1_block 209 = .ok (.iconst 1, 1) := dk_4 (dk_at dksX1_block_8 19 rfl rfl)
theorem dX1_block_210 : decode cX1_block 210 = .ok (.if_icmp .ne 7, 3) := dk_160 0 7 (dk_at dksX1_block_8 20 rfl rfl)
theorem dX1_block_213 : decode cX1_block 213 = .ok (.iconst 1, 1) := dk_4 (dk_at dksX1_block_8 23 rfl rfl)
theorem dX1_block_214 : decode cX1_block 214 = .ok (.goto 5, 3) := dk_167 0 5 (dk_at dksX1_block_9 0 rfl rfl)
theorem dX1_block_217 : decode cX1_block 217 = .ok (.bipush (-9), 2) := dk_16 247 (dk_at dksX1_block_9 3 rfl rfl)
theorem dX1_block_219 : decode cX1_block 219 = .ok (.iastore, 1) := dk_79 (dk_at dksX1_block_9 5 rfl rfl)
theorem dX1_block_220 : decode cX1_block 220 = .ok (.aload_n 0, 1) := dk_42 (dk_at dksX1_block_9 6 rfl rfl)
theorem dX1_block_221 : decode cX1_block 221 = .ok (.getfield 31, 3) := dk_180 0 31 (dk_at dksX1_block_9 7 rfl rfl)
theorem dX1_block_224 : decode cX1_block 224 = .ok (.iconst 2, 1) := dk_5 (dk_at dksX1_block_9 10 rfl rfl)
theorem dX1_block_225 : decode cX1_block 225 = .ok (.aload_n 0, 1) := dk_42 (dk_at dksX1_block_9 11 rfl rfl)
theorem dX1_block_226 : decode cX1_block 226 = .ok (.getfield 98, 3) := dk_180 0 98 (dk_at dksX1_block_9 12 rfl rfl)
theorem dX1_block_229 : decode cX1_block 229 = .ok (.imul, 1) := dk_104 (dk_at dksX1_block_9 15 rfl rfl)
theorem dX1_block_230 : decode cX1_block 230 = .ok (.bipush (-9), 2) := dk_16 247 (dk_at dksX1_block_9 16 rfl rfl)
theorem dX1_block_232 : decode cX1_block 232 = .ok (.iastore, 1) := dk_79 (dk_at dksX1_block_9 18 rfl rfl)
theorem dX1_block_233 : decode cX1_block 233 = .ok (.aload_n 0, 1) := dk_42 (dk_at dksX1_block_9 19 rfl rfl)
theorem dX1_block_234 : decode cX1_block 234 = .ok (.getfield 31, 3) := dk_180 0 31 (dk_at dksX1_block_9 20 rfl rfl)
theorem dX1_block_237 : decode cX1_block 237 = .ok (.iconst 2, 1) := dk_5 (dk_at dksX1_block_9 23 rfl rfl)
theorem dX1_block_238 : decode cX1_block 238 = .ok (.aload_n 0, 1) := dk_42 (dk_at dksX1_block_10 0 rfl rfl)
theorem dX1_block_239 : decode cX1_block 239 = .ok (.getfield 98, 3) := dk_180 0 98 (dk_at dksX1_block_10 1 rfl rfl)
theorem dX1_block_242 : decode cX1_block 242 = .ok (.imul, 1) := dk_104 (dk_at dksX1_block_10 4 rfl rfl)
theorem dX1_block_243 : decode cX1_block 243 = .ok (.iconst 1, 1) := dk_4 (dk_at dksX1_block_10 5 rfl rfl)
theorem dX1_block_244 : decode cX1_block 244 = .ok (.iadd, 1) := dk_96 (dk_at dksX1_block_10 6 rfl rfl)
theorem dX1_block_245 : decode cX1_block 245 = .ok (.bipush (-9), 2) := dk_16 247 (dk_at dksX1_block_10 7 rfl rfl)
theorem dX1_block_247 : decode cX1_block 247 = .ok (.iastore, 1) := dk_79 (dk_at dksX1_block_10 9 rfl rfl)
theorem dX1_block_248 : decode cX1_block 248 = .ok (.aload_n 0, 1) := dk_42 (dk_at dksX1_block_10 10 rfl rfl)
theorem dX1_block_249 : decode cX1_block 249 = .ok (.dup, 1) := dk_89 (dk_at dksX1_block_10 11 rfl rfl)
theorem dX1_block_250 : decode cX1_block 250 = .ok (.getfield 98, 3) := dk_180 0 98 (dk_at dksX1_block_10 12 rfl rfl)
theorem dX1_block_253 : decode cX1_block 253 = .ok (.iconst 1, 1) := dk_4 (dk_at dksX1_block_10 15 rfl rfl)
theorem dX1_block_254 : decode cX1_block 254 = .ok (.iadd, 1) := dk_96 (dk_at dksX1_block_10 16 rfl rfl)
theorem dX1_block_255 : decode cX1_block 255 = .ok (.putfield 98, 3) := dk_181 0 98 (dk_at dksX1_block_10 17 rfl rfl)
theorem dX1_block_258 : decode cX1_block 258 = .ok (.aload_n 0, 1) := dk_42 (dk_at dksX1_block_10 20 rfl rfl)
theorem dX1_block_259 : decode cX1_block 259 = .ok (.getfield 98, 3) := dk_180 0 98 (dk_at dksX1_block_10 21 rfl rfl)
theorem dX1_block_262 : decode cX1_block 262 = .ok (.iconst 1, 1) := dk_4 (dk_at dksX1_block_11 0 rfl rfl)
theorem dX1_block_263 : decode cX1_block 263 = .ok (.isub, 1) := dk_100 (dk_at dksX1_block_11 1 rfl rfl)
theorem dX1_block_264 : decode cX1_block 264 = .ok (.ireturn, 1) := dk_172 (dk_at dksX1_block_11 2 rfl rfl)
abbrev cX1_within : ByteArray := prog_14_method_2_code
def yX1_within : MethodName := ⟨RX1, "within", "(III)Z"⟩
def dkwX1_within_0 : List UInt8 := [26, 27, 161, 0, 12, 26, 28, 163, 0, 7, 4, 167, 0, 4, 3, 172]
abbrev dktX1_within_0 : List UInt8 := dkwX1_within_0 ++ []
theorem dksX1_within_0 : cX1_within.data.toList.drop 0 = dktX1_within_0 := by decide +kernel
theorem dX1_within_0 : decode cX1_within 0 = .ok (.iload_n 0, 1) := dk_26 (dk_at dksX1_within_0 0 rfl rfl)
theorem dX1_within_1 : decode cX1_within 1 = .ok (.iload_n 1, 1) := dk_27 (dk_at dksX1_within_0 1 rfl rfl)
theorem dX1_within_2 : decode cX1_within 2 = .ok (.if_icmp .lt 12, 3) := dk_161 0 12 (dk_at dksX1_within_0 2 rfl rfl)
theorem dX1_within_5 : decode cX1_within 5 = .ok (.iload_n 0, 1) := dk_26 (dk_at dksX1_within_0 5 rfl rfl)
theorem dX1_within_6 : decode cX1_within 6 = .ok (.iload_n 2, 1) := dk_28 (dk_at dksX1_within_0 6 rfl rfl)
theorem dX1_within_7 : decode cX1_within 7 = .ok (.if_icmp .gt 7, 3) := dk_163 0 7 (dk_at dksX1_within_0 7 rfl rfl)
theorem dX1_within_10 : decode cX1_within 10 = .ok (.iconst 1, 1) := dk_4 (dk_at dksX1_within_0 10 rfl rfl)
theorem dX1_within_11 : decode cX1_within 11 = .ok (.goto 4, 3) := dk_167 0 4 (dk_at dksX1_within_0 11 rfl rfl)
theorem dX1_within_14 : decode cX1_within 14 = .ok (.iconst 0, 1) := dk_3 (dk_at dksX1_within_0 14 rfl rfl)
theorem dX1_within_15 : decode cX1_within 15 = .ok (.ireturn, 1) := dk_172 (dk_at dksX1_within_0 15 rfl rfl)
abbrev cX1_isMeeting : ByteArray := prog_14_method_4_code
def yX1_isMeeting : MethodName := ⟨RX1, "isMeeting", "(IIIII)Z"⟩
def dkwX1_isMeeting_1 : List UInt8 := [27, 46, 21, 5, 163, 0, 18, 42, 180, 0, 25, 27, 46, 21, 4, 161, 0, 7, 4, 167, 0, 4, 3, 172]
abbrev dktX1_isMeeting_1 : List UInt8 := dkwX1_isMeeting_1 ++ []
def dkwX1_isMeeting_0 : List UInt8 := [42, 180, 0, 16, 27, 46, 29, 163, 0, 39, 42, 180, 0, 19, 27, 46, 28, 161, 0, 29, 42, 180, 0, 22]
abbrev dktX1_isMeeting_0 : List UInt8 := dkwX1_isMeeting_0 ++ dktX1_isMeeting_1
theorem dksX1_isMeeting_0 : cX1_isMeeting.data.toList.drop 0 = dktX1_isMeeting_0 := by decide +kernel
theorem dksX1_isMeeting_1 : cX1_isMeeting.data.toList.drop 24 = dktX1_isMeeting_1 := dk_seg dksX1_isMeeting_0 24 rfl rfl
theorem dX1_isMeeting_0 : decode cX1_isMeeting 0 = .ok (.aload_n 0, 1) := dk_42 (dk_at dksX1_isMeeting_0 0 rfl rfl)
theorem dX1_isMeeting_1 : decode cX1_isMeeting 1 = .ok (.getfield 16, 3) := dk_180 0 16 (dk_at dksX1_isMeeting_0 1 rfl rfl)
theorem dX1_isMeeting_4 : decode cX1_isMeeting 4 = .ok (.iload_n 1, 1) := dk_27 (dk_at dksX1_isMeeting_0 4 rfl rfl)
theorem dX1_isMeeting_5 : decode cX1_isMeeting 5 = .ok (.iaload, 1) := dk_46 (dk_at dksX1_isMeeting_0 5 rfl rfl)
theorem dX1_isMeeting_6 : decode cX1_isMeeting 6 = .ok (.iload_n 3, 1) := dk_29 (dk_at dksX1_isMeeting_0 6 rfl rfl)
theorem dX1_isMeeting_7 : decode cX1_isMeeting 7 = .ok (.if_icmp .gt 39, 3) := dk_163 0 39 (dk_at dksX1_isMeeting_0 7 rfl rfl)
theorem dX1_isMeeting_10 : decode cX1_isMeeting 10 = .ok (.aload_n 0, 1) := dk_42 (dk_at dksX1_isMeeting_0 10 rfl rfl)
theorem dX1_isMeeting_11 : decode cX1_isMeeting 11 = .ok (.getfield 19, 3) := dk_180 0 19 (dk_at dksX1_isMeeting_0 11 rfl rfl)
theorem dX1_isMeeting_14 : decode cX1_isMeeting 14 = .ok (.iload_n 1, 1) := dk_27 (dk_at dksX1_isMeeting_0 14 rfl rfl)
theorem dX1_isMeeting_15 : decode cX1_isMeeting 15 = .ok (.iaload, 1) := dk_46 (dk_at dksX1_isMeeting_0 15 rfl rfl)
theorem dX1_isMeeting_16 : decode cX1_isMeeting 16 = .ok (.iload_n 2, 1) := dk_28 (dk_at dksX1_isMeeting_0 16 rfl rfl)
theorem dX1_isMeeting_17 : decode cX1_isMeeting 17 = .ok (.if_icmp .lt 29, 3) := dk_161 0 29 (dk_at dksX1_isMeeting_0 17 rfl rfl)
theorem dX1_isMeeting_20 : decode cX1_isMeeting 20 = .ok (.aload_n 0, 1) := dk_42 (dk_at dksX1_isMeeting_0 20 rfl rfl)
theorem dX1_isMeeting_21 : decode cX1_isMeeting 21 = .ok (.getfield 22, 3) := dk_180 0 22 (dk_at dksX1_isMeeting_0 21 rfl rfl)
theorem dX1_isMeeting_24 : decode cX1_isMeeting 24 = .ok (.iload_n 1, 1) := dk_27 (dk_at dksX1_isMeeting_1 0 rfl rfl)
theorem dX1_isMeeting_25 : decode cX1_isMeeting 25 = .ok (.iaload, 1) := dk_46 (dk_at dksX1_isMeeting_1 1 rfl rfl)
theorem dX1_isMeeting_26 : decode cX1_isMeeting 26 = .ok (.iload 5, 2) := dk_21 5 (dk_at dksX1_isMeeting_1 2 rfl rfl)
theorem dX1_isMeeting_28 : decode cX1_isMeeting 28 = .ok (.if_icmp .gt 18, 3) := dk_163 0 18 (dk_at dksX1_isMeeting_1 4 rfl rfl)
theorem dX1_isMeeting_31 : decode cX1_isMeeting 31 = .ok (.aload_n 0, 1) := dk_42 (dk_at dksX1_isMeeting_1 7 rfl rfl)
theorem dX1_isMeeting_32 : decode cX1_isMeeting 32 = .ok (.getfield 25, 3) := dk_180 0 25 (dk_at dksX1_isMeeting_1 8 rfl rfl)
theorem dX1_isMeeting_35 : decode cX1_isMeeting 35 = .ok (.iload_n 1, 1) := dk_27 (dk_at dksX1_isMeeting_1 11 rfl rfl)
theorem dX1_isMeeting_36 : decode cX1_isMeeting 36 = .ok (.iaload, 1) := dk_46 (dk_at dksX1_isMeeting_1 12 rfl rfl)
theorem dX1_isMeeting_37 : decode cX1_isMeeting 37 = .ok (.iload 4, 2) := dk_21 4 (dk_at dksX1_isMeeting_1 13 rfl rfl)
theorem dX1_isMeeting_39 : decode cX1_isMeeting 39 = .ok (.if_icmp .lt 7, 3) := dk_161 0 7 (dk_at dksX1_isMeeting_1 15 rfl rfl)
theorem dX1_isMeeting_42 : decode cX1_isMeeting 42 = .ok (.iconst 1, 1) := dk_4 (dk_at dksX1_isMeeting_1 18 rfl rfl)
theorem dX1_isMeeting_43 : decode cX1_isMeeting 43 = .ok (.goto 4, 3) := dk_167 0 4 (dk_at dksX1_isMeeting_1 19 rfl rfl)
theorem dX1_isMeeting_46 : decode cX1_isMeeting 46 = .ok (.iconst 0, 1) := dk_3 (dk_at dksX1_isMeeting_1 22 rfl rfl)
theorem dX1_isMeeting_47 : decode cX1_isMeeting 47 = .ok (.ireturn, 1) := dk_172 (dk_at dksX1_isMeeting_1 23 rfl rfl)
abbrev cX1_words : ByteArray := prog_14_method_6_code
def yX1_words : MethodName := ⟨RX1, "words", "(II)I"⟩
def dkwX1_words_2 : List UInt8 := [28, 79, 29, 172]
abbrev dktX1_words_2 : List UInt8 := dkwX1_words_2 ++ []
def dkwX1_words_1 : List UInt8 := [180, 0, 13, 27, 46, 4, 159, 0, 6, 16, 253, 172, 42, 180, 0, 28, 27, 46, 62, 42, 180, 0, 28, 27]
abbrev dktX1_words_1 : List UInt8 := dkwX1_words_1 ++ dktX1_words_2
def dkwX1_words_0 : List UInt8 := [42, 27, 182, 0, 110, 154, 0, 5, 2, 172, 28, 4, 16, 99, 184, 0, 102, 154, 0, 6, 16, 254, 172, 42]
abbrev dktX1_words_0 : List UInt8 := dkwX1_words_0 ++ dktX1_words_1
theorem dksX1_words_0 : cX1_words.data.toList.drop 0 = dktX1_words_0 := by decide +kernel
theorem dksX1_words_1 : cX1_words.data.toList.drop 24 = dktX1_words_1 := dk_seg dksX1_words_0 24 rfl rfl
theorem dksX1_words_2 : cX1_words.data.toList.drop 48 = dktX1_words_2 := dk_seg dksX1_words_1 24 rfl rfl
theorem dX1_words_0 : decode cX1_words 0 = .ok (.aload_n 0, 1) := dk_42 (dk_at dksX1_words_0 0 rfl rfl)
theorem dX1_words_1 : decode cX1_words 1 = .ok (.iload_n 1, 1) := dk_27 (dk_at dksX1_words_0 1 rfl rfl)
theorem dX1_words_2 : decode cX1_words 2 = .ok (.invokevirtual 110, 3) := dk_182 0 110 (dk_at dksX1_words_0 2 rfl rfl)
theorem dX1_words_5 : decode cX1_words 5 = .ok (.ifCond .ne 5, 3) := dk_154 0 5 (dk_at dksX1_words_0 5 rfl rfl)
theorem dX1_words_8 : decode cX1_words 8 = .ok (.iconst (-1), 1) := dk_2 (dk_at dksX1_words_0 8 rfl rfl)
theorem dX1_words_9 : decode cX1_words 9 = .ok (.ireturn, 1) := dk_172 (dk_at dksX1_words_0 9 rfl rfl)
theorem dX1_words_10 : decode cX1_words 10 = .ok (.iload_n 2, 1) := dk_28 (dk_at dksX1_words_0 10 rfl rfl)
theorem dX1_words_11 : decode cX1_words 11 = .ok (.iconst 1, 1) := dk_4 (dk_at dksX1_words_0 11 rfl rfl)
theorem dX1_words_12 : decode cX1_words 12 = .ok (.bipush 99, 2) := dk_16 99 (dk_at dksX1_words_0 12 rfl rfl)
theorem dX1_words_14 : decode cX1_words 14 = .ok (.invokestatic 102, 3) := dk_184 0 102 (dk_at dksX1_words_0 14 rfl rfl)
theorem dX1_words_17 : decode cX1_words 17 = .ok (.ifCond .ne 6, 3) := dk_154 0 6 (dk_at dksX1_words_0 17 rfl rfl)
theorem dX1_words_20 : decode cX1_words 20 = .ok (.bipush (-2), 2) := dk_16 254 (dk_at dksX1_words_0 20 rfl rfl)
theorem dX1_words_22 : decode cX1_words 22 = .ok (.ireturn, 1) := dk_172 (dk_at dksX1_words_0 22 rfl rfl)
theorem dX1_words_23 : decode cX1_words 23 = .ok (.aload_n 0, 1) := dk_42 (dk_at dksX1_words_0 23 rfl rfl)
theorem dX1_words_24 : decode cX1_words 24 = .ok (.getfield 13, 3) := dk_180 0 13 (dk_at dksX1_words_1 0 rfl rfl)
theorem dX1_words_27 : decode cX1_words 27 = .ok (.iload_n 1, 1) := dk_27 (dk_at dksX1_words_1 3 rfl rfl)
theorem dX1_words_28 : decode cX1_words 28 = .ok (.iaload, 1) := dk_46 (dk_at dksX1_words_1 4 rfl rfl)
theorem dX1_words_29 : decode cX1_words 29 = .ok (.iconst 1, 1) := dk_4 (dk_at dksX1_words_1 5 rfl rfl)
theorem dX1_words_30 : decode cX1_words 30 = .ok (.if_icmp .eq 6, 3) := dk_159 0 6 (dk_at dksX1_words_1 6 rfl rfl)
theorem dX1_words_33 : decode cX1_words 33 = .ok (.bipush (-3), 2) := dk_16 253 (dk_at dksX1_words_1 9 rfl rfl)
theorem dX1_words_35 : decode cX1_words 35 = .ok (.ireturn, 1) := dk_172 (dk_at dksX1_words_1 11 rfl rfl)
theorem dX1_words_36 : decode cX1_words 36 = .ok (.aload_n 0, 1) := dk_42 (dk_at dksX1_words_1 12 rfl rfl)
theorem dX1_words_37 : decode cX1_words 37 = .ok (.getfield 28, 3) := dk_180 0 28 (dk_at dksX1_words_1 13 rfl rfl)
theorem dX1_words_40 : decode cX1_words 40 = .ok (.iload_n 1, 1) := dk_27 (dk_at dksX1_words_1 16 rfl rfl)
theorem dX1_words_41 : decode cX1_words 41 = .ok (.iaload, 1) := dk_46 (dk_at dksX1_words_1 17 rfl rfl)
theorem dX1_words_42 : decode cX1_words 42 = .ok (.istore_n 3, 1) := dk_62 (dk_at dksX1_words_1 18 rfl rfl)
theorem dX1_words_43 : decode cX1_words 43 = .ok (.aload_n 0, 1) := dk_42 (dk_at dksX1_words_1 19 rfl rfl)
theorem dX1_words_44 : decode cX1_words 44 = .ok (.getfield 28, 3) := dk_180 0 28 (dk_at dksX1_words_1 20 rfl rfl)
theorem dX1_words_47 : decode cX1_words 47 = .ok (.iload_n 1, 1) := dk_27 (dk_at dksX1_words_1 23 rfl rfl)
theorem dX1_words_48 : decode cX1_words 48 = .ok (.iload_n 2, 1) := dk_28 (dk_at dksX1_words_2 0 rfl rfl)
theorem dX1_words_49 : decode cX1_words 49 = .ok (.iastore, 1) := dk_79 (dk_at dksX1_words_2 1 rfl rfl)
theorem dX1_words_50 : decode cX1_words 50 = .ok (.iload_n 3, 1) := dk_29 (dk_at dksX1_words_2 2 rfl rfl)
theorem dX1_words_51 : decode cX1_words 51 = .ok (.ireturn, 1) := dk_172 (dk_at dksX1_words_2 3 rfl rfl)
abbrev cX1_isBlock : ByteArray := prog_14_method_3_code
def yX1_isBlock : MethodName := ⟨RX1, "isBlock", "(I)Z"⟩
def dkwX1_isBlock_0 : List UInt8 := [27, 3, 42, 180, 0, 98, 4, 100, 184, 0, 102, 172]
abbrev dktX1_isBlock_0 : List UInt8 := dkwX1_isBlock_0 ++ []
theorem dksX1_isBlock_0 : cX1_isBlock.data.toList.drop 0 = dktX1_isBlock_0 := by decide +kernel
theorem dX1_isBlock_0 : decode cX1_isBlock 0 = .ok (.iload_n 1, 1) := dk_27 (dk_at dksX1_isBlock_0 0 rfl rfl)
theorem dX1_isBlock_1 : decode cX1_isBlock 1 = .ok (.iconst 0, 1) := dk_3 (dk_at dksX1_isBlock_0 1 rfl rfl)
theorem dX1_isBlock_2 : decode cX1_isBlock 2 = .ok (.aload_n 0, 1) := dk_42 (dk_at dksX1_isBlock_0 2 rfl rfl)
theorem dX1_isBlock_3 : decode cX1_isBlock 3 = .ok (.getfield 98, 3) := dk_180 0 98 (dk_at dksX1_isBlock_0 3 rfl rfl)
theorem dX1_isBlock_6 : decode cX1_isBlock 6 = .ok (.iconst 1, 1) := dk_4 (dk_at dksX1_isBlock_0 6 rfl rfl)
theorem dX1_isBlock_7 : decode cX1_isBlock 7 = .ok (.isub, 1) := dk_100 (dk_at dksX1_isBlock_0 7 rfl rfl)
theorem dX1_isBlock_8 : decode cX1_isBlock 8 = .ok (.invokestatic 102, 3) := dk_184 0 102 (dk_at dksX1_isBlock_0 8 rfl rfl)
theorem dX1_isBlock_11 : decode cX1_isBlock 11 = .ok (.ireturn, 1) := dk_172 (dk_at dksX1_isBlock_0 11 rfl rfl)
abbrev cX1_line : ByteArray := prog_14_method_7_code
def yX1_line : MethodName := ⟨RX1, "line", "(IIIII)I"⟩
def dkwX1_line_6 : List UInt8 := [21, 5, 79, 42, 89, 180, 0, 114, 4, 96, 181, 0, 114, 42, 180, 0, 114, 4, 100, 172]
abbrev dktX1_line_6 : List UInt8 := dkwX1_line_6 ++ []
def dkwX1_line_5 : List UInt8 := [180, 0, 114, 29, 79, 42, 180, 0, 46, 42, 180, 0, 114, 21, 4, 79, 42, 180, 0, 49, 42, 180, 0, 114]
abbrev dktX1_line_5 : List UInt8 := dkwX1_line_5 ++ dktX1_line_6
def dkwX1_line_4 : List UInt8 := [180, 0, 37, 42, 180, 0, 114, 27, 79, 42, 180, 0, 40, 42, 180, 0, 114, 28, 79, 42, 180, 0, 43, 42]
abbrev dktX1_line_4 : List UInt8 := dkwX1_line_4 ++ dktX1_line_5
def dkwX1_line_3 : List UInt8 := [21, 5, 21, 7, 164, 0, 6, 16, 254, 172, 42, 180, 0, 114, 16, 12, 160, 0, 6, 16, 252, 172, 42]
abbrev dktX1_line_3 : List UInt8 := dkwX1_line_3 ++ dktX1_line_4
def dkwX1_line_2 : List UInt8 := [54, 7, 29, 4, 21, 6, 184, 0, 102, 153, 0, 21, 21, 4, 3, 21, 5, 184, 0, 102, 153, 0, 10]
abbrev dktX1_line_2 : List UInt8 := dkwX1_line_2 ++ dktX1_line_3
def dkwX1_line_1 : List UInt8 := [154, 0, 8, 16, 7, 167, 0, 5, 16, 29, 54, 6, 28, 154, 0, 8, 16, 29, 167, 0, 5, 16, 7]
abbrev dktX1_line_1 : List UInt8 := dkwX1_line_1 ++ dktX1_line_2
def dkwX1_line_0 : List UInt8 := [27, 3, 6, 184, 0, 102, 153, 0, 12, 28, 3, 4, 184, 0, 102, 154, 0, 6, 16, 254, 172, 28]
abbrev dktX1_line_0 : List UInt8 := dkwX1_line_0 ++ dktX1_line_1
theorem dksX1_line_0 : cX1_line.data.toList.drop 0 = dktX1_line_0 := by decide +kernel
theorem dksX1_line_1 : cX1_line.data.toList.drop 22 = dktX1_line_1 := dk_seg dksX1_line_0 22 rfl rfl
theorem dksX1_line_2 : cX1_line.data.toList.drop 45 = dktX1_line_2 := dk_seg dksX1_line_1 23 rfl rfl
theorem dksX1_line_3 : cX1_line.data.toList.drop 68 = dktX1_line_3 := dk_seg dksX1_line_2 23 rfl rfl
theorem dksX1_line_4 : cX1_line.data.toList.drop 91 = dktX1_line_4 := dk_seg dksX1_line_3 23 rfl rfl
theorem dksX1_line_5 : cX1_line.data.toList.drop 115 = dktX1_line_5 := dk_seg dksX1_line_4 24 rfl rfl
theorem dksX1_line_6 : cX1_line.data.toList.drop 139 = dktX1_line_6 := dk_seg dksX1_line_5 24 rfl rfl
theorem dX1_line_0 : decode cX1_line 0 = .ok (.iload_n 1, 1) := dk_27 (dk_at dksX1_line_0 0 rfl rfl)
theorem dX1_line_1 : decode cX1_line 1 = .ok (.iconst 0, 1) := dk_3 (dk_at dksX1_line_0 1 rfl rfl)
theorem dX1_line_2 : decode cX1_line 2 = .ok (.iconst 3, 1) := dk_6 (dk_at dksX1_line_0 2 rfl rfl)
theorem dX1_line_3 : decode cX1_line 3 = .ok (.invokestatic 102, 3) := dk_184 0 102 (dk_at dksX1_line_0 3 rfl rfl)
theorem dX1_line_6 : decode cX1_line 6 = .ok (.ifCond .eq 12, 3) := dk_153 0 12 (dk_at dksX1_line_0 6 rfl rfl)
theorem dX1_line_9 : decode cX1_line 9 = .ok (.iload_n 2, 1) := dk_28 (dk_at dksX1_line_0 9 rfl rfl)
theorem dX1_line_10 : decode cX1_line 10 = .ok (.iconst 0, 1) := dk_3 (dk_at dksX1_line_0 10 rfl rfl)
theorem dX1_line_11 : decode cX1_line 11 = .ok (.iconst 1, 1) := dk_4 (dk_at dksX1_line_0 11 rfl rfl)
theorem dX1_line_12 : decode cX1_line 12 = .ok (.invokestatic 102, 3) := dk_184 0 102 (dk_at dksX1_line_0 12 rfl rfl)
theorem dX1_line_15 : decode cX1_line 15 = .ok (.ifCond .ne 6, 3) := dk_154 0 6 (dk_at dksX1_line_0 15 rfl rfl)
theorem dX1_line_18 : decode cX1_line 18 = .ok (.bipush (-2), 2) := dk_16 254 (dk_at dksX1_line_0 18 rfl rfl)
theorem dX1_line_20 : decode cX1_line 20 = .ok (.ireturn, 1) := dk_172 (dk_at dksX1_line_0 20 rfl rfl)
theorem dX1_line_21 : decode cX1_line 21 = .ok (.iload_n 2, 1) := dk_28 (dk_at dksX1_line_0 21 rfl rfl)
theorem dX1_line_22 : decode cX1_line 22 = .ok (.ifCond .ne 8, 3) := dk_154 0 8 (dk_at dksX1_line_1 0 rfl rfl)
theorem dX1_line_25 : decode cX1_line 25 = .ok (.bipush 7, 2) := dk_16 7 (dk_at dksX1_line_1 3 rfl rfl)
theorem dX1_line_27 : decode cX1_line 27 = .ok (.goto 5, 3) := dk_167 0 5 (dk_at dksX1_line_1 5 rfl rfl)
theorem dX1_line_30 : decode cX1_line 30 = .ok (.bipush 29, 2) := dk_16 29 (dk_at dksX1_line_1 8 rfl rfl)
theorem dX1_line_32 : decode cX1_line 32 = .ok (.istore 6, 2) := dk_54 6 (dk_at dksX1_line_1 10 rfl rfl)
theorem dX1_line_34 : decode cX1_line 34 = .ok (.iload_n 2, 1) := dk_28 (dk_at dksX1_line_1 12 rfl rfl)
theorem dX1_line_35 : decode cX1_line 35 = .ok (.ifCond .ne 8, 3) := dk_154 0 8 (dk_at dksX1_line_1 13 rfl rfl)
theorem dX1_line_38 : decode cX1_line 38 = .ok (.bipush 29, 2) := dk_16 29 (dk_at dksX1_line_1 16 rfl rfl)
theorem dX1_line_40 : decode cX1_line 40 = .ok (.goto 5, 3) := dk_167 0 5 (dk_at dksX1_line_1 18 rfl rfl)
theorem dX1_line_43 : decode cX1_line 43 = .ok (.bipush 7, 2) := dk_16 7 (dk_at dksX1_line_1 21 rfl rfl)
theorem dX1_line_45 : decode cX1_line 45 = .ok (.istore 7, 2) := dk_54 7 (dk_at dksX1_line_2 0 rfl rfl)
theorem dX1_line_47 : decode cX1_line 47 = .ok (.iload_n 3, 1) := dk_29 (dk_at dksX1_line_2 2 rfl rfl)
theorem dX1_line_48 : decode cX1_line 48 = .ok (.iconst 1, 1) := dk_4 (dk_at dksX1_line_2 3 rfl rfl)
theorem dX1_line_49 : decode cX1_line 49 = .ok (.iload 6, 2) := dk_21 6 (dk_at dksX1_line_2 4 rfl rfl)
theorem dX1_line_51 : decode cX1_line 51 = .ok (.invokestatic 102, 3) := dk_184 0 102 (dk_at dksX1_line_2 6 rfl rfl)
theorem dX1_line_54 : decode cX1_line 54 = .ok (.ifCond .eq 21, 3) := dk_153 0 21 (dk_at dksX1_line_2 9 rfl rfl)
theorem dX1_line_57 : decode cX1_line 57 = .ok (.iload 4, 2) := dk_21 4 (dk_at dksX1_line_2 12 rfl rfl)
theorem dX1_line_59 : decode cX1_line 59 = .ok (.iconst 0, 1) := dk_3 (dk_at dksX1_line_2 14 rfl rfl)
theorem dX1_line_60 : decode cX1_line 60 = .ok (.iload 5, 2) := dk_21 5 (dk_at dksX1_line_2 15 rfl rfl)
theorem dX1_line_62 : decode cX1_line 62 = .ok (.invokestatic 102, 3) := dk_184 0 102 (dk_at dksX1_line_2 17 rfl rfl)
theorem dX1_line_65 : decode cX1_line 65 = .ok (.ifCond .eq 10, 3) := dk_153 0 10 (dk_at dksX1_line_2 20 rfl rfl)
theorem dX1_line_68 : decode cX1_line 68 = .ok (.iload 5, 2) := dk_21 5 (dk_at dksX1_line_3 0 rfl rfl)
theorem dX1_line_70 : decode cX1_line 70 = .ok (.iload 7, 2) := dk_21 7 (dk_at dksX1_line_3 2 rfl rfl)
theorem dX1_line_72 : decode cX1_line 72 = .ok (.if_icmp .le 6, 3) := dk_164 0 6 (dk_at dksX1_line_3 4 rfl rfl)
theorem dX1_line_75 : decode cX1_line 75 = .ok (.bipush (-2), 2) := dk_16 254 (dk_at dksX1_line_3 7 rfl rfl)
theorem dX1_line_77 : decode cX1_line 77 = .ok (.ireturn, 1) := dk_172 (dk_at dksX1_line_3 9 rfl rfl)
theorem dX1_line_78 : decode cX1_line 78 = .ok (.aload_n 0, 1) := dk_42 (dk_at dksX1_line_3 10 rfl rfl)
theorem dX1_line_79 : decode cX1_line 79 = .ok (.getfield 114, 3) := dk_180 0 114 (dk_at dksX1_line_3 11 rfl rfl)
theorem dX1_line_82 : decode cX1_line 82 = .ok (.bipush 12, 2) := dk_16 12 (dk_at dksX1_line_3 14 rfl rfl)
theorem dX1_line_84 : decode cX1_line 84 = .ok (.if_icmp .ne 6, 3) := dk_160 0 6 (dk_at dksX1_line_3 16 rfl rfl)
theorem dX1_line_87 : decode cX1_line 87 = .ok (.bipush (-4), 2) := dk_16 252 (dk_at dksX1_line_3 19 rfl rfl)
theorem dX1_line_89 : decode cX1_line 89 = .ok (.ireturn, 1) := dk_172 (dk_at dksX1_line_3 21 rfl rfl)
theorem dX1_line_90 : decode cX1_line 90 = .ok (.aload_n 0, 1) := dk_42 (dk_at dksX1_line_3 22 rfl rfl)
theorem dX1_line_91 : decode cX1_line 91 = .ok (.getfield 37, 3) := dk_180 0 37 (dk_at dksX1_line_4 0 rfl rfl)
theorem dX1_line_94 : decode cX1_line 94 = .ok (.aload_n 0, 1) := dk_42 (dk_at dksX1_line_4 3 rfl rfl)
theorem dX1_line_95 : decode cX1_line 95 = .ok (.getfield 114, 3) := dk_180 0 114 (dk_at dksX1_line_4 4 rfl rfl)
theorem dX1_line_98 : decode cX1_line 98 = .ok (.iload_n 1, 1) := dk_27 (dk_at dksX1_line_4 7 rfl rfl)
theorem dX1_line_99 : decode cX1_line 99 = .ok (.iastore, 1) := dk_79 (dk_at dksX1_line_4 8 rfl rfl)
theorem dX1_line_100 : decode cX1_line 100 = .ok (.aload_n 0, 1) := dk_42 (dk_at dksX1_line_4 9 rfl rfl)
theorem dX1_line_101 : decode cX1_line 101 = .ok (.getfield 40, 3) := dk_180 0 40 (dk_at dksX1_line_4 10 rfl rfl)
theorem dX1_line_104 : decode cX1_line 104 = .ok (.aload_n 0, 1) := dk_42 (dk_at dksX1_line_4 13 rfl rfl)
theorem dX1_line_105 : decode cX1_line 105 = .ok (.getfield 114, 3) := dk_180 0 114 (dk_at dksX1_line_4 14 rfl rfl)
theorem dX1_line_108 : decode cX1_line 108 = .ok (.iload_n 2, 1) := dk_28 (dk_at dksX1_line_4 17 rfl rfl)
theorem dX1_line_109 : decode cX1_line 109 = .ok (.iastore, 1) := dk_79 (dk_at dksX1_line_4 18 rfl rfl)
theorem dX1_line_110 : decode cX1_line 110 = .ok (.aload_n 0, 1) := dk_42 (dk_at dksX1_line_4 19 rfl rfl)
theorem dX1_line_111 : decode cX1_line 111 = .ok (.getfield 43, 3) := dk_180 0 43 (dk_at dksX1_line_4 20 rfl rfl)
theorem dX1_line_114 : decode cX1_line 114 = .ok (.aload_n 0, 1) := dk_42 (dk_at dksX1_line_4 23 rfl rfl)
theorem dX1_line_115 : decode cX1_line 115 = .ok (.getfield 114, 3) := dk_180 0 114 (dk_at dksX1_line_5 0 rfl rfl)
theorem dX1_line_118 : decode cX1_line 118 = .ok (.iload_n 3, 1) := dk_29 (dk_at dksX1_line_5 3 rfl rfl)
theorem dX1_line_119 : decode cX1_line 119 = .ok (.iastore, 1) := dk_79 (dk_at dksX1_line_5 4 rfl rfl)
theorem dX1_line_120 : decode cX1_line 120 = .ok (.aload_n 0, 1) := dk_42 (dk_at dksX1_line_5 5 rfl rfl)
theorem dX1_line_121 : decode cX1_line 121 = .ok (.getfield 46, 3) := dk_180 0 46 (dk_at dksX1_line_5 6 rfl rfl)
theorem dX1_line_124 : decode cX1_line 124 = .ok (.aload_n 0, 1) := dk_42 (dk_at dksX1_line_5 9 rfl rfl)
theorem dX1_line_125 : decode cX1_line 125 = .ok (.getfield 114, 3) := dk_180 0 114 (dk_at dksX1_line_5 10 rfl rfl)
theorem dX1_line_128 : decode cX1_line 128 = .ok (.iload 4, 2) := dk_21 4 (dk_at dksX1_line_5 13 rfl rfl)
theorem dX1_line_130 : decode cX1_line 130 = .ok (.iastore, 1) := dk_79 (dk_at dksX1_line_5 15 rfl rfl)
theorem dX1_line_131 : decode cX1_line 131 = .ok (.aload_n 0, 1) := dk_42 (dk_at dksX1_line_5 16 rfl rfl)
theorem dX1_line_132 : decode cX1_line 132 = .ok (.getfield 49, 3) := dk_180 0 49 (dk_at dksX1_line_5 17 rfl rfl)
theorem dX1_line_135 : decode cX1_line 135 = .ok (.aload_n 0, 1) := dk_42 (dk_at dksX1_line_5 20 rfl rfl)
theorem dX1_line_136 : decode cX1_line 136 = .ok (.getfield 114, 3) := dk_180 0 114 (dk_at dksX1_line_5 21 rfl rfl)
theorem dX1_line_139 : decode cX1_line 139 = .ok (.iload 5, 2) := dk_21 5 (dk_at dksX1_line_6 0 rfl rfl)
theorem dX1_line_141 : decode cX1_line 141 = .ok (.iastore, 1) := dk_79 (dk_at dksX1_line_6 2 rfl rfl)
theorem dX1_line_142 : decode cX1_line 142 = .ok (.aload_n 0, 1) := dk_42 (dk_at dksX1_line_6 3 rfl rfl)
theorem dX1_line_143 : decode cX1_line 143 = .ok (.dup, 1) := dk_89 (dk_at dksX1_line_6 4 rfl rfl)
theorem dX1_line_144 : decode cX1_line 144 = .ok (.getfield 114, 3) := dk_180 0 114 (dk_at dksX1_line_6 5 rfl rfl)
theorem dX1_line_147 : decode cX1_line 147 = .ok (.iconst 1, 1) := dk_4 (dk_at dksX1_line_6 8 rfl rfl)
theorem dX1_line_148 : decode cX1_line 148 = .ok (.iadd, 1) := dk_96 (dk_at dksX1_line_6 9 rfl rfl)
theorem dX1_line_149 : decode cX1_line 149 = .ok (.putfield 114, 3) := dk_181 0 114 (dk_at dksX1_line_6 10 rfl rfl)
theorem dX1_line_152 : decode cX1_line 152 = .ok (.aload_n 0, 1) := dk_42 (dk_at dksX1_line_6 13 rfl rfl)
theorem dX1_line_153 : decode cX1_line 153 = .ok (.getfield 114, 3) := dk_180 0 114 (dk_at dksX1_line_6 14 rfl rfl)
theorem dX1_line_156 : decode cX1_line 156 = .ok (.iconst 1, 1) := dk_4 (dk_at dksX1_line_6 17 rfl rfl)
theorem dX1_line_157 : decode cX1_line 157 = .ok (.isub, 1) := dk_100 (dk_at dksX1_line_6 18 rfl rfl)
theorem dX1_line_158 : decode cX1_line 158 = .ok (.ireturn, 1) := dk_172 (dk_at dksX1_line_6 19 rfl rfl)
abbrev cX1_back : ByteArray := prog_14_method_8_code
def yX1_back : MethodName := ⟨RX1, "back", "()I"⟩
def dkwX1_back_1 : List UInt8 := [172]
abbrev dktX1_back_1 : List UInt8 := dkwX1_back_1 ++ []
def dkwX1_back_0 : List UInt8 := [42, 180, 0, 98, 154, 0, 6, 16, 253, 172, 42, 89, 180, 0, 98, 4, 100, 181, 0, 98, 42, 180, 0, 98]
abbrev dktX1_back_0 : List UInt8 := dkwX1_back_0 ++ dktX1_back_1
theorem dksX1_back_0 : cX1_back.data.toList.drop 0 = dktX1_back_0 := by decide +kernel
theorem dksX1_back_1 : cX1_back.data.toList.drop 24 = dktX1_back_1 := dk_seg dksX1_back_0 24 rfl rfl
theorem dX1_back_0 : decode cX1_back 0 = .ok (.aload_n 0, 1) := dk_42 (dk_at dksX1_back_0 0 rfl rfl)
theorem dX1_back_1 : decode cX1_back 1 = .ok (.getfield 98, 3) := dk_180 0 98 (dk_at dksX1_back_0 1 rfl rfl)
theorem dX1_back_4 : decode cX1_back 4 = .ok (.ifCond .ne 6, 3) := dk_154 0 6 (dk_at dksX1_back_0 4 rfl rfl)
theorem dX1_back_7 : decode cX1_back 7 = .ok (.bipush (-3), 2) := dk_16 253 (dk_at dksX1_back_0 7 rfl rfl)
theorem dX1_back_9 : decode cX1_back 9 = .ok (.ireturn, 1) := dk_172 (dk_at dksX1_back_0 9 rfl rfl)
theorem dX1_back_10 : decode cX1_back 10 = .ok (.aload_n 0, 1) := dk_42 (dk_at dksX1_back_0 10 rfl rfl)
theorem dX1_back_11 : decode cX1_back 11 = .ok (.dup, 1) := dk_89 (dk_at dksX1_back_0 11 rfl rfl)
theorem dX1_back_12 : decode cX1_back 12 = .ok (.getfield 98, 3) := dk_180 0 98 (dk_at dksX1_back_0 12 rfl rfl)
theorem dX1_back_15 : decode cX1_back 15 = .ok (.iconst 1, 1) := dk_4 (dk_at dksX1_back_0 15 rfl rfl)
theorem dX1_back_16 : decode cX1_back 16 = .ok (.isub, 1) := dk_100 (dk_at dksX1_back_0 16 rfl rfl)
theorem dX1_back_17 : decode cX1_back 17 = .ok (.putfield 98, 3) := dk_181 0 98 (dk_at dksX1_back_0 17 rfl rfl)
theorem dX1_back_20 : decode cX1_back 20 = .ok (.aload_n 0, 1) := dk_42 (dk_at dksX1_back_0 20 rfl rfl)
theorem dX1_back_21 : decode cX1_back 21 = .ok (.getfield 98, 3) := dk_180 0 98 (dk_at dksX1_back_0 21 rfl rfl)
theorem dX1_back_24 : decode cX1_back 24 = .ok (.ireturn, 1) := dk_172 (dk_at dksX1_back_1 0 rfl rfl)
abbrev cX1_erase : ByteArray := prog_14_method_9_code
def yX1_erase : MethodName := ⟨RX1, "erase", "()I"⟩
def dkwX1_erase_1 : List UInt8 := [172]
abbrev dktX1_erase_1 : List UInt8 := dkwX1_erase_1 ++ []
def dkwX1_erase_0 : List UInt8 := [42, 180, 0, 114, 154, 0, 6, 16, 253, 172, 42, 89, 180, 0, 114, 4, 100, 181, 0, 114, 42, 180, 0, 114]
abbrev dktX1_erase_0 : List UInt8 := dkwX1_erase_0 ++ dktX1_erase_1
theorem dksX1_erase_0 : cX1_erase.data.toList.drop 0 = dktX1_erase_0 := by decide +kernel
theorem dksX1_erase_1 : cX1_erase.data.toList.drop 24 = dktX1_erase_1 := dk_seg dksX1_erase_0 24 rfl rfl
theorem dX1_erase_0 : decode cX1_erase 0 = .ok (.aload_n 0, 1) := dk_42 (dk_at dksX1_erase_0 0 rfl rfl)
theorem dX1_erase_1 : decode cX1_erase 1 = .ok (.getfield 114, 3) := dk_180 0 114 (dk_at dksX1_erase_0 1 rfl rfl)
theorem dX1_erase_4 : decode cX1_erase 4 = .ok (.ifCond .ne 6, 3) := dk_154 0 6 (dk_at dksX1_erase_0 4 rfl rfl)
theorem dX1_erase_7 : decode cX1_erase 7 = .ok (.bipush (-3), 2) := dk_16 253 (dk_at dksX1_erase_0 7 rfl rfl)
theorem dX1_erase_9 : decode cX1_erase 9 = .ok (.ireturn, 1) := dk_172 (dk_at dksX1_erase_0 9 rfl rfl)
theorem dX1_erase_10 : decode cX1_erase 10 = .ok (.aload_n 0, 1) := dk_42 (dk_at dksX1_erase_0 10 rfl rfl)
theorem dX1_erase_11 : decode cX1_erase 11 = .ok (.dup, 1) := dk_89 (dk_at dksX1_erase_0 11 rfl rfl)
theorem dX1_erase_12 : decode cX1_erase 12 = .ok (.getfield 114, 3) := dk_180 0 114 (dk_at dksX1_erase_0 12 rfl rfl)
theorem dX1_erase_15 : decode cX1_erase 15 = .ok (.iconst 1, 1) := dk_4 (dk_at dksX1_erase_0 15 rfl rfl)
theorem dX1_erase_16 : decode cX1_erase 16 = .ok (.isub, 1) := dk_100 (dk_at dksX1_erase_0 16 rfl rfl)
theorem dX1_erase_17 : decode cX1_erase 17 = .ok (.putfield 114, 3) := dk_181 0 114 (dk_at dksX1_erase_0 17 rfl rfl)
theorem dX1_erase_20 : decode cX1_erase 20 = .ok (.aload_n 0, 1) := dk_42 (dk_at dksX1_erase_0 20 rfl rfl)
theorem dX1_erase_21 : decode cX1_erase 21 = .ok (.getfield 114, 3) := dk_180 0 114 (dk_at dksX1_erase_0 21 rfl rfl)
theorem dX1_erase_24 : decode cX1_erase 24 = .ok (.ireturn, 1) := dk_172 (dk_at dksX1_erase_1 0 rfl rfl)
abbrev cX1_clear : ByteArray := prog_14_method_10_code
def yX1_clear : MethodName := ⟨RX1, "clear", "()I"⟩
def dkwX1_clear_0 : List UInt8 := [42, 180, 0, 98, 60, 42, 3, 181, 0, 98, 42, 3, 181, 0, 114, 27, 172]
abbrev dktX1_clear_0 : List UInt8 := dkwX1_clear_0 ++ []
theorem dksX1_clear_0 : cX1_clear.data.toList.drop 0 = dktX1_clear_0 := by decide +kernel
theorem dX1_clear_0 : decode cX1_clear 0 = .ok (.aload_n 0, 1) := dk_42 (dk_at dksX1_clear_0 0 rfl rfl)
theorem dX1_clear_1 : decode cX1_clear 1 = .ok (.getfield 98, 3) := dk_180 0 98 (dk_at dksX1_clear_0 1 rfl rfl)
theorem dX1_clear_4 : decode cX1_clear 4 = .ok (.istore_n 1, 1) := dk_60 (dk_at dksX1_clear_0 4 rfl rfl)
theorem dX1_clear_5 : decode cX1_clear 5 = .ok (.aload_n 0, 1) := dk_42 (dk_at dksX1_clear_0 5 rfl rfl)
theorem dX1_clear_6 : decode cX1_clear 6 = .ok (.iconst 0, 1) := dk_3 (dk_at dksX1_clear_0 6 rfl rfl)
theorem dX1_clear_7 : decode cX1_clear 7 = .ok (.putfield 98, 3) := dk_181 0 98 (dk_at dksX1_clear_0 7 rfl rfl)
theorem dX1_clear_10 : decode cX1_clear 10 = .ok (.aload_n 0, 1) := dk_42 (dk_at dksX1_clear_0 10 rfl rfl)
theorem dX1_clear_11 : decode cX1_clear 11 = .ok (.iconst 0, 1) := dk_3 (dk_at dksX1_clear_0 11 rfl rfl)
theorem dX1_clear_12 : decode cX1_clear 12 = .ok (.putfield 114, 3) := dk_181 0 114 (dk_at dksX1_clear_0 12 rfl rfl)
theorem dX1_clear_15 : decode cX1_clear 15 = .ok (.iload_n 1, 1) := dk_27 (dk_at dksX1_clear_0 15 rfl rfl)
theorem dX1_clear_16 : decode cX1_clear 16 = .ok (.ireturn, 1) := dk_172 (dk_at dksX1_clear_0 16 rfl rfl)
abbrev cX1_turn : ByteArray := prog_14_method_11_code
def yX1_turn : MethodName := ⟨RX1, "turn", "()I"⟩
def dkwX1_turn_6 : List UInt8 := [167, 255, 186, 27, 172]
abbrev dktX1_turn_6 : List UInt8 := dkwX1_turn_6 ++ []
def dkwX1_turn_5 : List UInt8 := [16, 7, 42, 180, 0, 49, 28, 46, 100, 79, 42, 180, 0, 49, 28, 16, 7, 29, 100, 79, 132, 2, 1]
abbrev dktX1_turn_5 : List UInt8 := dkwX1_turn_5 ++ dktX1_turn_6
def dkwX1_turn_4 : List UInt8 := [42, 180, 0, 43, 28, 46, 100, 79, 167, 0, 35, 42, 180, 0, 46, 28, 46, 62, 42, 180, 0, 46, 28]
abbrev dktX1_turn_4 : List UInt8 := dkwX1_turn_4 ++ dktX1_turn_5
def dkwX1_turn_3 : List UInt8 := [28, 42, 180, 0, 114, 162, 0, 68, 42, 180, 0, 40, 28, 46, 154, 0, 21, 42, 180, 0, 43, 28, 16, 8]
abbrev dktX1_turn_3 : List UInt8 := dkwX1_turn_3 ++ dktX1_turn_4
def dkwX1_turn_2 : List UInt8 := [180, 0, 16, 28, 46, 29, 160, 0, 7, 3, 167, 0, 4, 4, 96, 60, 132, 2, 1, 167, 255, 195, 3, 61]
abbrev dktX1_turn_2 : List UInt8 := dkwX1_turn_2 ++ dktX1_turn_3
def dkwX1_turn_1 : List UInt8 := [16, 7, 42, 180, 0, 19, 28, 46, 100, 79, 42, 180, 0, 19, 28, 16, 7, 29, 100, 79, 27, 42]
abbrev dktX1_turn_1 : List UInt8 := dkwX1_turn_1 ++ dktX1_turn_2
def dkwX1_turn_0 : List UInt8 := [3, 60, 3, 61, 28, 42, 180, 0, 98, 162, 0, 59, 42, 180, 0, 16, 28, 46, 62, 42, 180, 0, 16, 28]
abbrev dktX1_turn_0 : List UInt8 := dkwX1_turn_0 ++ dktX1_turn_1
theorem dksX1_turn_0 : cX1_turn.data.toList.drop 0 = dktX1_turn_0 := by decide +kernel
theorem dksX1_turn_1 : cX1_turn.data.toList.drop 24 = dktX1_turn_1 := dk_seg dksX1_turn_0 24 rfl rfl
theorem dksX1_turn_2 : cX1_turn.data.toList.drop 46 = dktX1_turn_2 := dk_seg dksX1_turn_1 22 rfl rfl
theorem dksX1_turn_3 : cX1_turn.data.toList.drop 70 = dktX1_turn_3 := dk_seg dksX1_turn_2 24 rfl rfl
theorem dksX1_turn_4 : cX1_turn.data.toList.drop 94 = dktX1_turn_4 := dk_seg dksX1_turn_3 24 rfl rfl
theorem dksX1_turn_5 : cX1_turn.data.toList.drop 117 = dktX1_turn_5 := dk_seg dksX1_turn_4 23 rfl rfl
theorem dksX1_turn_6 : cX1_turn.data.toList.drop 140 = dktX1_turn_6 := dk_seg dksX1_turn_5 23 rfl rfl
theorem dX1_turn_0 : decode cX1_turn 0 = .ok (.iconst 0, 1) := dk_3 (dk_at dksX1_turn_0 0 rfl rfl)
theorem dX1_turn_1 : decode cX1_turn 1 = .ok (.istore_n 1, 1) := dk_60 (dk_at dksX1_turn_0 1 rfl rfl)
theorem dX1_turn_2 : decode cX1_turn 2 = .ok (.iconst 0, 1) := dk_3 (dk_at dksX1_turn_0 2 rfl rfl)
theorem dX1_turn_3 : decode cX1_turn 3 = .ok (.istore_n 2, 1) := dk_61 (dk_at dksX1_turn_0 3 rfl rfl)
theorem dX1_turn_4 : decode cX1_turn 4 = .ok (.iload_n 2, 1) := dk_28 (dk_at dksX1_turn_0 4 rfl rfl)
theorem dX1_turn_5 : decode cX1_turn 5 = .ok (.aload_n 0, 1) := dk_42 (dk_at dksX1_turn_0 5 rfl rfl)
theorem dX1_turn_6 : decode cX1_turn 6 = .ok (.getfield 98, 3) := dk_180 0 98 (dk_at dksX1_turn_0 6 rfl rfl)
theorem dX1_turn_9 : decode cX1_turn 9 = .ok (.if_icmp .ge 59, 3) := dk_162 0 59 (dk_at dksX1_turn_0 9 rfl rfl)
theorem dX1_turn_12 : decode cX1_turn 12 = .ok (.aload_n 0, 1) := dk_42 (dk_at dksX1_turn_0 12 rfl rfl)
theorem dX1_turn_13 : decode cX1_turn 13 = .ok (.getfield 16, 3) := dk_180 0 16 (dk_at dksX1_turn_0 13 rfl rfl)
theorem dX1_turn_16 : decode cX1_turn 16 = .ok (.iload_n 2, 1) := dk_28 (dk_at dksX1_turn_0 16 rfl rfl)
theorem dX1_turn_17 : decode cX1_turn 17 = .ok (.iaload, 1) := dk_46 (dk_at dksX1_turn_0 17 rfl rfl)
theorem dX1_turn_18 : decode cX1_turn 18 = .ok (.istore_n 3, 1) := dk_62 (dk_at dksX1_turn_0 18 rfl rfl)
theorem dX1_turn_19 : decode cX1_turn 19 = .ok (.aload_n 0, 1) := dk_42 (dk_at dksX1_turn_0 19 rfl rfl)
theorem dX1_turn_20 : decode cX1_turn 20 = .ok (.getfield 16, 3) := dk_180 0 16 (dk_at dksX1_turn_0 20 rfl rfl)
theorem dX1_turn_23 : decode cX1_turn 23 = .ok (.iload_n 2, 1) := dk_28 (dk_at dksX1_turn_0 23 rfl rfl)
theorem dX1_turn_24 : decode cX1_turn 24 = .ok (.bipush 7, 2) := dk_16 7 (dk_at dksX1_turn_1 0 rfl rfl)
theorem dX1_turn_26 : decode cX1_turn 26 = .ok (.aload_n 0, 1) := dk_42 (dk_at dksX1_turn_1 2 rfl rfl)
theorem dX1_turn_27 : decode cX1_turn 27 = .ok (.getfield 19, 3) := dk_180 0 19 (dk_at dksX1_turn_1 3 rfl rfl)
theorem dX1_turn_30 : decode cX1_turn 30 = .ok (.iload_n 2, 1) := dk_28 (dk_at dksX1_turn_1 6 rfl rfl)
theorem dX1_turn_31 : decode cX1_turn 31 = .ok (.iaload, 1) := dk_46 (dk_at dksX1_turn_1 7 rfl rfl)
theorem dX1_turn_32 : decode cX1_turn 32 = .ok (.isub, 1) := dk_100 (dk_at dksX1_turn_1 8 rfl rfl)
theorem dX1_turn_33 : decode cX1_turn 33 = .ok (.iastore, 1) := dk_79 (dk_at dksX1_turn_1 9 rfl rfl)
theorem dX1_turn_34 : decode cX1_turn 34 = .ok (.aload_n 0, 1) := dk_42 (dk_at dksX1_turn_1 10 rfl rfl)
theorem dX1_turn_35 : decode cX1_turn 35 = .ok (.getfield 19, 3) := dk_180 0 19 (dk_at dksX1_turn_1 11 rfl rfl)
theorem dX1_turn_38 : decode cX1_turn 38 = .ok (.iload_n 2, 1) := dk_28 (dk_at dksX1_turn_1 14 rfl rfl)
theorem dX1_turn_39 : decode cX1_turn 39 = .ok (.bipush 7, 2) := dk_16 7 (dk_at dksX1_turn_1 15 rfl rfl)
theorem dX1_turn_41 : decode cX1_turn 41 = .ok (.iload_n 3, 1) := dk_29 (dk_at dksX1_turn_1 17 rfl rfl)
theorem dX1_turn_42 : decode cX1_turn 42 = .ok (.isub, 1) := dk_100 (dk_at dksX1_turn_1 18 rfl rfl)
theorem dX1_turn_43 : decode cX1_turn 43 = .ok (.iastore, 1) := dk_79 (dk_at dksX1_turn_1 19 rfl rfl)
theorem dX1_turn_44 : decode cX1_turn 44 = .ok (.iload_n 1, 1) := dk_27 (dk_at dksX1_turn_1 20 rfl rfl)
theorem dX1_turn_45 : decode cX1_turn 45 = .ok (.aload_n 0, 1) := dk_42 (dk_at dksX1_turn_1 21 rfl rfl)
theorem dX1_turn_46 : decode cX1_turn 46 = .ok (.getfield 16, 3) := dk_180 0 16 (dk_at dksX1_turn_2 0 rfl rfl)
theorem dX1_turn_49 : decode cX1_turn 49 = .ok (.iload_n 2, 1) := dk_28 (dk_at dksX1_turn_2 3 rfl rfl)
theorem dX1_turn_50 : decode cX1_turn 50 = .ok (.iaload, 1) := dk_46 (dk_at dksX1_turn_2 4 rfl rfl)
theorem dX1_turn_51 : decode cX1_turn 51 = .ok (.iload_n 3, 1) := dk_29 (dk_at dksX1_turn_2 5 rfl rfl)
theorem dX1_turn_52 : decode cX1_turn 52 = .ok (.if_icmp .ne 7, 3) := dk_160 0 7 (dk_at dksX1_turn_2 6 rfl rfl)
theorem dX1_turn_55 : decode cX1_turn 55 = .ok (.iconst 0, 1) := dk_3 (dk_at dksX1_turn_2 9 rfl rfl)
theorem dX1_turn_56 : decode cX1_turn 56 = .ok (.goto 4, 3) := dk_167 0 4 (dk_at dksX1_turn_2 10 rfl rfl)
theorem dX1_turn_59 : decode cX1_turn 59 = .ok (.iconst 1, 1) := dk_4 (dk_at dksX1_turn_2 13 rfl rfl)
theorem dX1_turn_60 : decode cX1_turn 60 = .ok (.iadd, 1) := dk_96 (dk_at dksX1_turn_2 14 rfl rfl)
theorem dX1_turn_61 : decode cX1_turn 61 = .ok (.istore_n 1, 1) := dk_60 (dk_at dksX1_turn_2 15 rfl rfl)
theorem dX1_turn_62 : decode cX1_turn 62 = .ok (.iinc 2 1, 3) := dk_132 2 1 (dk_at dksX1_turn_2 16 rfl rfl)
theorem dX1_turn_65 : decode cX1_turn 65 = .ok (.goto (-61), 3) := dk_167 255 195 (dk_at dksX1_turn_2 19 rfl rfl)
theorem dX1_turn_68 : decode cX1_turn 68 = .ok (.iconst 0, 1) := dk_3 (dk_at dksX1_turn_2 22 rfl rfl)
theorem dX1_turn_69 : decode cX1_turn 69 = .ok (.istore_n 2, 1) := dk_61 (dk_at dksX1_turn_2 23 rfl rfl)
theorem dX1_turn_70 : decode cX1_turn 70 = .ok (.iload_n 2, 1) := dk_28 (dk_at dksX1_turn_3 0 rfl rfl)
theorem dX1_turn_71 : decode cX1_turn 71 = .ok (.aload_n 0, 1) := dk_42 (dk_at dksX1_turn_3 1 rfl rfl)
theorem dX1_turn_72 : decode cX1_turn 72 = .ok (.getfield 114, 3) := dk_180 0 114 (dk_at dksX1_turn_3 2 rfl rfl)
theorem dX1_turn_75 : decode cX1_turn 75 = .ok (.if_icmp .ge 68, 3) := dk_162 0 68 (dk_at dksX1_turn_3 5 rfl rfl)
theorem dX1_turn_78 : decode cX1_turn 78 = .ok (.aload_n 0, 1) := dk_42 (dk_at dksX1_turn_3 8 rfl rfl)
theorem dX1_turn_79 : decode cX1_turn 79 = .ok (.getfield 40, 3) := dk_180 0 40 (dk_at dksX1_turn_3 9 rfl rfl)
theorem dX1_turn_82 : decode cX1_turn 82 = .ok (.iload_n 2, 1) := dk_28 (dk_at dksX1_turn_3 12 rfl rfl)
theorem dX1_turn_83 : decode cX1_turn 83 = .ok (.iaload, 1) := dk_46 (dk_at dksX1_turn_3 13 rfl rfl)
theorem dX1_turn_84 : decode cX1_turn 84 = .ok (.ifCond .ne 21, 3) := dk_154 0 21 (dk_at dksX1_turn_3 14 rfl rfl)
theorem dX1_turn_87 : decode cX1_turn 87 = .ok (.aload_n 0, 1) := dk_42 (dk_at dksX1_turn_3 17 rfl rfl)
theorem dX1_turn_88 : decode cX1_turn 88 = .ok (.getfield 43, 3) := dk_180 0 43 (dk_at dksX1_turn_3 18 rfl rfl)
theorem dX1_turn_91 : decode cX1_turn 91 = .ok (.iload_n 2, 1) := dk_28 (dk_at dksX1_turn_3 21 rfl rfl)
theorem dX1_turn_92 : decode cX1_turn 92 = .ok (.bipush 8, 2) := dk_16 8 (dk_at dksX1_turn_3 22 rfl rfl)
theorem dX1_turn_94 : decode cX1_turn 94 = .ok (.aload_n 0, 1) := dk_42 (dk_at dksX1_turn_4 0 rfl rfl)
theorem dX1_turn_95 : decode cX1_turn 95 = .ok (.getfield 43, 3) := dk_180 0 43 (dk_at dksX1_turn_4 1 rfl rfl)
theorem dX1_turn_98 : decode cX1_turn 98 = .ok (.iload_n 2, 1) := dk_28 (dk_at dksX1_turn_4 4 rfl rfl)
theorem dX1_turn_99 : decode cX1_turn 99 = .ok (.iaload, 1) := dk_46 (dk_at dksX1_turn_4 5 rfl rfl)
theorem dX1_turn_100 : decode cX1_turn 100 = .ok (.isub, 1) := dk_100 (dk_at dksX1_turn_4 6 rfl rfl)
theorem dX1_turn_101 : decode cX1_turn 101 = .ok (.iastore, 1) := dk_79 (dk_at dksX1_turn_4 7 rfl rfl)
theorem dX1_turn_102 : decode cX1_turn 102 = .ok (.goto 35, 3) := dk_167 0 35 (dk_at dksX1_turn_4 8 rfl rfl)
theorem dX1_turn_105 : decode cX1_turn 105 = .ok (.aload_n 0, 1) := dk_42 (dk_at dksX1_turn_4 11 rfl rfl)
theorem dX1_turn_106 : decode cX1_turn 106 = .ok (.getfield 46, 3) := dk_180 0 46 (dk_at dksX1_turn_4 12 rfl rfl)
theorem dX1_turn_109 : decode cX1_turn 109 = .ok (.iload_n 2, 1) := dk_28 (dk_at dksX1_turn_4 15 rfl rfl)
theorem dX1_turn_110 : decode cX1_turn 110 = .ok (.iaload, 1) := dk_46 (dk_at dksX1_turn_4 16 rfl rfl)
theorem dX1_turn_111 : decode cX1_turn 111 = .ok (.istore_n 3, 1) := dk_62 (dk_at dksX1_turn_4 17 rfl rfl)
theorem dX1_turn_112 : decode cX1_turn 112 = .ok (.aload_n 0, 1) := dk_42 (dk_at dksX1_turn_4 18 rfl rfl)
theorem dX1_turn_113 : decode cX1_turn 113 = .ok (.getfield 46, 3) := dk_180 0 46 (dk_at dksX1_turn_4 19 rfl rfl)
theorem dX1_turn_116 : decode cX1_turn 116 = .ok (.iload_n 2, 1) := dk_28 (dk_at dksX1_turn_4 22 rfl rfl)
theorem dX1_turn_117 : decode cX1_turn 117 = .ok (.bipush 7, 2) := dk_16 7 (dk_at dksX1_turn_5 0 rfl rfl)
theorem dX1_turn_119 : decode cX1_turn 119 = .ok (.aload_n 0, 1) := dk_42 (dk_at dksX1_turn_5 2 rfl rfl)
theorem dX1_turn_120 : decode cX1_turn 120 = .ok (.getfield 49, 3) := dk_180 0 49 (dk_at dksX1_turn_5 3 rfl rfl)
theorem dX1_turn_123 : decode cX1_turn 123 = .ok (.iload_n 2, 1) := dk_28 (dk_at dksX1_turn_5 6 rfl rfl)
theorem dX1_turn_124 : decode cX1_turn 124 = .ok (.iaload, 1) := dk_46 (dk_at dksX1_turn_5 7 rfl rfl)
theorem dX1_turn_125 : decode cX1_turn 125 = .ok (.isub, 1) := dk_100 (dk_at dksX1_turn_5 8 rfl rfl)
theorem dX1_turn_126 : decode cX1_turn 126 = .ok (.iastore, 1) := dk_79 (dk_at dksX1_turn_5 9 rfl rfl)
theorem dX1_turn_127 : decode cX1_turn 127 = .ok (.aload_n 0, 1) := dk_42 (dk_at dksX1_turn_5 10 rfl rfl)
theorem dX1_turn_128 : decode cX1_turn 128 = .ok (.getfield 49, 3) := dk_180 0 49 (dk_at dksX1_turn_5 11 rfl rfl)
theorem dX1_turn_131 : decode cX1_turn 131 = .ok (.iload_n 2, 1) := dk_28 (dk_at dksX1_turn_5 14 rfl rfl)
theorem dX1_turn_132 : decode cX1_turn 132 = .ok (.bipush 7, 2) := dk_16 7 (dk_at dksX1_turn_5 15 rfl rfl)
theorem dX1_turn_134 : decode cX1_turn 134 = .ok (.iload_n 3, 1) := dk_29 (dk_at dksX1_turn_5 17 rfl rfl)
theorem dX1_turn_135 : decode cX1_turn 135 = .ok (.isub, 1) := dk_100 (dk_at dksX1_turn_5 18 rfl rfl)
theorem dX1_turn_136 : decode cX1_turn 136 = .ok (.iastore, 1) := dk_79 (dk_at dksX1_turn_5 19 rfl rfl)
theorem dX1_turn_137 : decode cX1_turn 137 = .ok (.iinc 2 1, 3) := dk_132 2 1 (dk_at dksX1_turn_5 20 rfl rfl)
theorem dX1_turn_140 : decode cX1_turn 140 = .ok (.goto (-70), 3) := dk_167 255 186 (dk_at dksX1_turn_6 0 rfl rfl)
theorem dX1_turn_143 : decode cX1_turn 143 = .ok (.iload_n 1, 1) := dk_27 (dk_at dksX1_turn_6 3 rfl rfl)
theorem dX1_turn_144 : decode cX1_turn 144 = .ok (.ireturn, 1) := dk_172 (dk_at dksX1_turn_6 4 rfl rfl)
abbrev cX1_ofBlock : ByteArray := prog_14_method_12_code
def yX1_ofBlock : MethodName := ⟨RX1, "ofBlock", "(II)I"⟩
def dkwX1_ofBlock_4 : List UInt8 := [27, 46, 172, 16, 254, 172]
abbrev dktX1_ofBlock_4 : List UInt8 := dkwX1_ofBlock_4 ++ []
def dkwX1_ofBlock_3 : List UInt8 := [180, 0, 19, 27, 46, 172, 42, 180, 0, 22, 27, 46, 172, 42, 180, 0, 25, 27, 46, 172, 42, 180, 0, 28]
abbrev dktX1_ofBlock_3 : List UInt8 := dkwX1_ofBlock_3 ++ dktX1_ofBlock_4
def dkwX1_ofBlock_2 : List UInt8 := [42, 180, 0, 7, 27, 46, 172, 42, 180, 0, 13, 27, 46, 172, 42, 180, 0, 16, 27, 46, 172, 42]
abbrev dktX1_ofBlock_2 : List UInt8 := dkwX1_ofBlock_2 ++ dktX1_ofBlock_3
def dkwX1_ofBlock_1 : List UInt8 := [170, 0, 0, 0, 90, 0, 0, 0, 0, 0, 0, 0, 6, 0, 0, 0, 41, 0, 0, 0, 48, 0, 0, 0, 55, 0, 0, 0, 62, 0, 0, 0, 69, 0, 0, 0, 76, 0, 0, 0, 83]
abbrev dktX1_ofBlock_1 : List UInt8 := dkwX1_ofBlock_1 ++ dktX1_ofBlock_2
def dkwX1_ofBlock_0 : List UInt8 := [42, 27, 182, 0, 110, 154, 0, 5, 2, 172, 28]
abbrev dktX1_ofBlock_0 : List UInt8 := dkwX1_ofBlock_0 ++ dktX1_ofBlock_1
theorem dksX1_ofBlock_0 : cX1_ofBlock.data.toList.drop 0 = dktX1_ofBlock_0 := by decide +kernel
theorem dksX1_ofBlock_1 : cX1_ofBlock.data.toList.drop 11 = dktX1_ofBlock_1 := dk_seg dksX1_ofBlock_0 11 rfl rfl
theorem dksX1_ofBlock_2 : cX1_ofBlock.data.toList.drop 52 = dktX1_ofBlock_2 := dk_seg dksX1_ofBlock_1 41 rfl rfl
theorem dksX1_ofBlock_3 : cX1_ofBlock.data.toList.drop 74 = dktX1_ofBlock_3 := dk_seg dksX1_ofBlock_2 22 rfl rfl
theorem dksX1_ofBlock_4 : cX1_ofBlock.data.toList.drop 98 = dktX1_ofBlock_4 := dk_seg dksX1_ofBlock_3 24 rfl rfl
theorem dX1_ofBlock_0 : decode cX1_ofBlock 0 = .ok (.aload_n 0, 1) := dk_42 (dk_at dksX1_ofBlock_0 0 rfl rfl)
theorem dX1_ofBlock_1 : decode cX1_ofBlock 1 = .ok (.iload_n 1, 1) := dk_27 (dk_at dksX1_ofBlock_0 1 rfl rfl)
theorem dX1_ofBlock_2 : decode cX1_ofBlock 2 = .ok (.invokevirtual 110, 3) := dk_182 0 110 (dk_at dksX1_ofBlock_0 2 rfl rfl)
theorem dX1_ofBlock_5 : decode cX1_ofBlock 5 = .ok (.ifCond .ne 5, 3) := dk_154 0 5 (dk_at dksX1_ofBlock_0 5 rfl rfl)
theorem dX1_ofBlock_8 : decode cX1_ofBlock 8 = .ok (.iconst (-1), 1) := dk_2 (dk_at dksX1_ofBlock_0 8 rfl rfl)
theorem dX1_ofBlock_9 : decode cX1_ofBlock 9 = .ok (.ireturn, 1) := dk_172 (dk_at dksX1_ofBlock_0 9 rfl rfl)
theorem dX1_ofBlock_10 : decode cX1_ofBlock 10 = .ok (.iload_n 2, 1) := dk_28 (dk_at dksX1_ofBlock_0 10 rfl rfl)
theorem dX1_ofBlock_11 : decode cX1_ofBlock 11 = .ok (.tableswitch 90 0 6 #[41, 48, 55, 62, 69, 76, 83], 41) := by decide +kernel
theorem dX1_ofBlock_52 : decode cX1_ofBlock 52 = .ok (.aload_n 0, 1) := dk_42 (dk_at dksX1_ofBlock_2 0 rfl rfl)
theorem dX1_ofBlock_53 : decode cX1_ofBlock 53 = .ok (.getfield 7, 3) := dk_180 0 7 (dk_at dksX1_ofBlock_2 1 rfl rfl)
theorem dX1_ofBlock_56 : decode cX1_ofBlock 56 = .ok (.iload_n 1, 1) := dk_27 (dk_at dksX1_ofBlock_2 4 rfl rfl)
theorem dX1_ofBlock_57 : decode cX1_ofBlock 57 = .ok (.iaload, 1) := dk_46 (dk_at dksX1_ofBlock_2 5 rfl rfl)
theorem dX1_ofBlock_58 : decode cX1_ofBlock 58 = .ok (.ireturn, 1) := dk_172 (dk_at dksX1_ofBlock_2 6 rfl rfl)
theorem dX1_ofBlock_59 : decode cX1_ofBlock 59 = .ok (.aload_n 0, 1) := dk_42 (dk_at dksX1_ofBlock_2 7 rfl rfl)
theorem dX1_ofBlock_60 : decode cX1_ofBlock 60 = .ok (.getfield 13, 3) := dk_180 0 13 (dk_at dksX1_ofBlock_2 8 rfl rfl)
theorem dX1_ofBlock_63 : decode cX1_ofBlock 63 = .ok (.iload_n 1, 1) := dk_27 (dk_at dksX1_ofBlock_2 11 rfl rfl)
theorem dX1_ofBlock_64 : decode cX1_ofBlock 64 = .ok (.iaload, 1) := dk_46 (dk_at dksX1_ofBlock_2 12 rfl rfl)
theorem dX1_ofBlock_65 : decode cX1_ofBlock 65 = .ok (.ireturn, 1) := dk_172 (dk_at dksX1_ofBlock_2 13 rfl rfl)
theorem dX1_ofBlock_66 : decode cX1_ofBlock 66 = .ok (.aload_n 0, 1) := dk_42 (dk_at dksX1_ofBlock_2 14 rfl rfl)
theorem dX1_ofBlock_67 : decode cX1_ofBlock 67 = .ok (.getfield 16, 3) := dk_180 0 16 (dk_at dksX1_ofBlock_2 15 rfl rfl)
theorem dX1_ofBlock_70 : decode cX1_ofBlock 70 = .ok (.iload_n 1, 1) := dk_27 (dk_at dksX1_ofBlock_2 18 rfl rfl)
theorem dX1_ofBlock_71 : decode cX1_ofBlock 71 = .ok (.iaload, 1) := dk_46 (dk_at dksX1_ofBlock_2 19 rfl rfl)
theorem dX1_ofBlock_72 : decode cX1_ofBlock 72 = .ok (.ireturn, 1) := dk_172 (dk_at dksX1_ofBlock_2 20 rfl rfl)
theorem dX1_ofBlock_73 : decode cX1_ofBlock 73 = .ok (.aload_n 0, 1) := dk_42 (dk_at dksX1_ofBlock_2 21 rfl rfl)
theorem dX1_ofBlock_74 : decode cX1_ofBlock 74 = .ok (.getfield 19, 3) := dk_180 0 19 (dk_at dksX1_ofBlock_3 0 rfl rfl)
theorem dX1_ofBlock_77 : decode cX1_ofBlock 77 = .ok (.iload_n 1, 1) := dk_27 (dk_at dksX1_ofBlock_3 3 rfl rfl)
theorem dX1_ofBlock_78 : decode cX1_ofBlock 78 = .ok (.iaload, 1) := dk_46 (dk_at dksX1_ofBlock_3 4 rfl rfl)
theorem dX1_ofBlock_79 : decode cX1_ofBlock 79 = .ok (.ireturn, 1) := dk_172 (dk_at dksX1_ofBlock_3 5 rfl rfl)
theorem dX1_ofBlock_80 : decode cX1_ofBlock 80 = .ok (.aload_n 0, 1) := dk_42 (dk_at dksX1_ofBlock_3 6 rfl rfl)
theorem dX1_ofBlock_81 : decode cX1_ofBlock 81 = .ok (.getfield 22, 3) := dk_180 0 22 (dk_at dksX1_ofBlock_3 7 rfl rfl)
theorem dX1_ofBlock_84 : decode cX1_ofBlock 84 = .ok (.iload_n 1, 1) := dk_27 (dk_at dksX1_ofBlock_3 10 rfl rfl)
theorem dX1_ofBlock_85 : decode cX1_ofBlock 85 = .ok (.iaload, 1) := dk_46 (dk_at dksX1_ofBlock_3 11 rfl rfl)
theorem dX1_ofBlock_86 : decode cX1_ofBlock 86 = .ok (.ireturn, 1) := dk_172 (dk_at dksX1_ofBlock_3 12 rfl rfl)
theorem dX1_ofBlock_87 : decode cX1_ofBlock 87 = .ok (.aload_n 0, 1) := dk_42 (dk_at dksX1_ofBlock_3 13 rfl rfl)
theorem dX1_ofBlock_88 : decode cX1_ofBlock 88 = .ok (.getfield 25, 3) := dk_180 0 25 (dk_at dksX1_ofBlock_3 14 rfl rfl)
theorem dX1_ofBlock_91 : decode cX1_ofBlock 91 = .ok (.iload_n 1, 1) := dk_27 (dk_at dksX1_ofBlock_3 17 rfl rfl)
theorem dX1_ofBlock_92 : decode cX1_ofBlock 92 = .ok (.iaload, 1) := dk_46 (dk_at dksX1_ofBlock_3 18 rfl rfl)
theorem dX1_ofBlock_93 : decode cX1_ofBlock 93 = .ok (.ireturn, 1) := dk_172 (dk_at dksX1_ofBlock_3 19 rfl rfl)
theorem dX1_ofBlock_94 : decode cX1_ofBlock 94 = .ok (.aload_n 0, 1) := dk_42 (dk_at dksX1_ofBlock_3 20 rfl rfl)
theorem dX1_ofBlock_95 : decode cX1_ofBlock 95 = .ok (.getfield 28, 3) := dk_180 0 28 (dk_at dksX1_ofBlock_3 21 rfl rfl)
theorem dX1_ofBlock_98 : decode cX1_ofBlock 98 = .ok (.iload_n 1, 1) := dk_27 (dk_at dksX1_ofBlock_4 0 rfl rfl)
theorem dX1_ofBlock_99 : decode cX1_ofBlock 99 = .ok (.iaload, 1) := dk_46 (dk_at dksX1_ofBlock_4 1 rfl rfl)
theorem dX1_ofBlock_100 : decode cX1_ofBlock 100 = .ok (.ireturn, 1) := dk_172 (dk_at dksX1_ofBlock_4 2 rfl rfl)
theorem dX1_ofBlock_101 : decode cX1_ofBlock 101 = .ok (.bipush (-2), 2) := dk_16 254 (dk_at dksX1_ofBlock_4 3 rfl rfl)
theorem dX1_ofBlock_103 : decode cX1_ofBlock 103 = .ok (.ireturn, 1) := dk_172 (dk_at dksX1_ofBlock_4 5 rfl rfl)
abbrev cX1_ofLine : ByteArray := prog_14_method_13_code
def yX1_ofLine : MethodName := ⟨RX1, "ofLine", "(II)I"⟩
def dkwX1_ofLine_3 : List UInt8 := [180, 0, 46, 27, 46, 172, 42, 180, 0, 49, 27, 46, 172, 16, 254, 172]
abbrev dktX1_ofLine_3 : List UInt8 := dkwX1_ofLine_3 ++ []
def dkwX1_ofLine_2 : List UInt8 := [42, 180, 0, 37, 27, 46, 172, 42, 180, 0, 40, 27, 46, 172, 42, 180, 0, 43, 27, 46, 172, 42]
abbrev dktX1_ofLine_2 : List UInt8 := dkwX1_ofLine_2 ++ dktX1_ofLine_3
def dkwX1_ofLine_1 : List UInt8 := [170, 0, 0, 0, 0, 0, 70, 0, 0, 0, 0, 0, 0, 0, 4, 0, 0, 0, 35, 0, 0, 0, 42, 0, 0, 0, 49, 0, 0, 0, 56, 0, 0, 0, 63]
abbrev dktX1_ofLine_1 : List UInt8 := dkwX1_ofLine_1 ++ dktX1_ofLine_2
def dkwX1_ofLine_0 : List UInt8 := [27, 3, 42, 180, 0, 114, 4, 100, 184, 0, 102, 154, 0, 5, 2, 172, 28]
abbrev dktX1_ofLine_0 : List UInt8 := dkwX1_ofLine_0 ++ dktX1_ofLine_1
theorem dksX1_ofLine_0 : cX1_ofLine.data.toList.drop 0 = dktX1_ofLine_0 := by decide +kernel
theorem dksX1_ofLine_1 : cX1_ofLine.data.toList.drop 17 = dktX1_ofLine_1 := dk_seg dksX1_ofLine_0 17 rfl rfl
theorem dksX1_ofLine_2 : cX1_ofLine.data.toList.drop 52 = dktX1_ofLine_2 := dk_seg dksX1_ofLine_1 35 rfl rfl
theorem dksX1_ofLine_3 : cX1_ofLine.data.toList.drop 74 = dktX1_ofLine_3 := dk_seg dksX1_ofLine_2 22 rfl rfl
theorem dX1_ofLine_0 : decode cX1_ofLine 0 = .ok (.iload_n 1, 1) := dk_27 (dk_at dksX1_ofLine_0 0 rfl rfl)
theorem dX1_ofLine_1 : decode cX1_ofLine 1 = .ok (.iconst 0, 1) := dk_3 (dk_at dksX1_ofLine_0 1 rfl rfl)
theorem dX1_ofLine_2 : decode cX1_ofLine 2 = .ok (.aload_n 0, 1) := dk_42 (dk_at dksX1_ofLine_0 2 rfl rfl)
theorem dX1_ofLine_3 : decode cX1_ofLine 3 = .ok (.getfield 114, 3) := dk_180 0 114 (dk_at dksX1_ofLine_0 3 rfl rfl)
theorem dX1_ofLine_6 : decode cX1_ofLine 6 = .ok (.iconst 1, 1) := dk_4 (dk_at dksX1_ofLine_0 6 rfl rfl)
theorem dX1_ofLine_7 : decode cX1_ofLine 7 = .ok (.isub, 1) := dk_100 (dk_at dksX1_ofLine_0 7 rfl rfl)
theorem dX1_ofLine_8 : decode cX1_ofLine 8 = .ok (.invokestatic 102, 3) := dk_184 0 102 (dk_at dksX1_ofLine_0 8 rfl rfl)
theorem dX1_ofLine_11 : decode cX1_ofLine 11 = .ok (.ifCond .ne 5, 3) := dk_154 0 5 (dk_at dksX1_ofLine_0 11 rfl rfl)
theorem dX1_ofLine_14 : decode cX1_ofLine 14 = .ok (.iconst (-1), 1) := dk_2 (dk_at dksX1_ofLine_0 14 rfl rfl)
theorem dX1_ofLine_15 : decode cX1_ofLine 15 = .ok (.ireturn, 1) := dk_172 (dk_at dksX1_ofLine_0 15 rfl rfl)
theorem dX1_ofLine_16 : decode cX1_ofLine 16 = .ok (.iload_n 2, 1) := dk_28 (dk_at dksX1_ofLine_0 16 rfl rfl)
theorem dX1_ofLine_17 : decode cX1_ofLine 17 = .ok (.tableswitch 70 0 4 #[35, 42, 49, 56, 63], 35) := by decide +kernel
theorem dX1_ofLine_52 : decode cX1_ofLine 52 = .ok (.aload_n 0, 1) := dk_42 (dk_at dksX1_ofLine_2 0 rfl rfl)
theorem dX1_ofLine_53 : decode cX1_ofLine 53 = .ok (.getfield 37, 3) := dk_180 0 37 (dk_at dksX1_ofLine_2 1 rfl rfl)
theorem dX1_ofLine_56 : decode cX1_ofLine 56 = .ok (.iload_n 1, 1) := dk_27 (dk_at dksX1_ofLine_2 4 rfl rfl)
theorem dX1_ofLine_57 : decode cX1_ofLine 57 = .ok (.iaload, 1) := dk_46 (dk_at dksX1_ofLine_2 5 rfl rfl)
theorem dX1_ofLine_58 : decode cX1_ofLine 58 = .ok (.ireturn, 1) := dk_172 (dk_at dksX1_ofLine_2 6 rfl rfl)
theorem dX1_ofLine_59 : decode cX1_ofLine 59 = .ok (.aload_n 0, 1) := dk_42 (dk_at dksX1_ofLine_2 7 rfl rfl)
theorem dX1_ofLine_60 : decode cX1_ofLine 60 = .ok (.getfield 40, 3) := dk_180 0 40 (dk_at dksX1_ofLine_2 8 rfl rfl)
theorem dX1_ofLine_63 : decode cX1_ofLine 63 = .ok (.iload_n 1, 1) := dk_27 (dk_at dksX1_ofLine_2 11 rfl rfl)
theorem dX1_ofLine_64 : decode cX1_ofLine 64 = .ok (.iaload, 1) := dk_46 (dk_at dksX1_ofLine_2 12 rfl rfl)
theorem dX1_ofLine_65 : decode cX1_ofLine 65 = .ok (.ireturn, 1) := dk_172 (dk_at dksX1_ofLine_2 13 rfl rfl)
theorem dX1_ofLine_66 : decode cX1_ofLine 66 = .ok (.aload_n 0, 1) := dk_42 (dk_at dksX1_ofLine_2 14 rfl rfl)
theorem dX1_ofLine_67 : decode cX1_ofLine 67 = .ok (.getfield 43, 3) := dk_180 0 43 (dk_at dksX1_ofLine_2 15 rfl rfl)
theorem dX1_ofLine_70 : decode cX1_ofLine 70 = .ok (.iload_n 1, 1) := dk_27 (dk_at dksX1_ofLine_2 18 rfl rfl)
theorem dX1_ofLine_71 : decode cX1_ofLine 71 = .ok (.iaload, 1) := dk_46 (dk_at dksX1_ofLine_2 19 rfl rfl)
theorem dX1_ofLine_72 : decode cX1_ofLine 72 = .ok (.ireturn, 1) := dk_172 (dk_at dksX1_ofLine_2 20 rfl rfl)
theorem dX1_ofLine_73 : decode cX1_ofLine 73 = .ok (.aload_n 0, 1) := dk_42 (dk_at dksX1_ofLine_2 21 rfl rfl)
theorem dX1_ofLine_74 : decode cX1_ofLine 74 = .ok (.getfield 46, 3) := dk_180 0 46 (dk_at dksX1_ofLine_3 0 rfl rfl)
theorem dX1_ofLine_77 : decode cX1_ofLine 77 = .ok (.iload_n 1, 1) := dk_27 (dk_at dksX1_ofLine_3 3 rfl rfl)
theorem dX1_ofLine_78 : decode cX1_ofLine 78 = .ok (.iaload, 1) := dk_46 (dk_at dksX1_ofLine_3 4 rfl rfl)
theorem dX1_ofLine_79 : decode cX1_ofLine 79 = .ok (.ireturn, 1) := dk_172 (dk_at dksX1_ofLine_3 5 rfl rfl)
theorem dX1_ofLine_80 : decode cX1_ofLine 80 = .ok (.aload_n 0, 1) := dk_42 (dk_at dksX1_ofLine_3 6 rfl rfl)
theorem dX1_ofLine_81 : decode cX1_ofLine 81 = .ok (.getfield 49, 3) := dk_180 0 49 (dk_at dksX1_ofLine_3 7 rfl rfl)
theorem dX1_ofLine_84 : decode cX1_ofLine 84 = .ok (.iload_n 1, 1) := dk_27 (dk_at dksX1_ofLine_3 10 rfl rfl)
theorem dX1_ofLine_85 : decode cX1_ofLine 85 = .ok (.iaload, 1) := dk_46 (dk_at dksX1_ofLine_3 11 rfl rfl)
theorem dX1_ofLine_86 : decode cX1_ofLine 86 = .ok (.ireturn, 1) := dk_172 (dk_at dksX1_ofLine_3 12 rfl rfl)
theorem dX1_ofLine_87 : decode cX1_ofLine 87 = .ok (.bipush (-2), 2) := dk_16 254 (dk_at dksX1_ofLine_3 13 rfl rfl)
theorem dX1_ofLine_89 : decode cX1_ofLine 89 = .ok (.ireturn, 1) := dk_172 (dk_at dksX1_ofLine_3 15 rfl rfl)
abbrev cX1_at : ByteArray := prog_14_method_14_code
def yX1_at : MethodName := ⟨RX1, "at", "(III)I"⟩
def dkwX1_at_3 : List UInt8 := [21, 4, 172, 132, 4, 1, 167, 255, 217, 16, 247, 172]
abbrev dktX1_at_3 : List UInt8 := dkwX1_at_3 ++ []
def dkwX1_at_2 : List UInt8 := [180, 0, 7, 21, 4, 46, 27, 160, 0, 19, 42, 21, 4, 28, 28, 29, 29, 182, 0, 106, 153, 0, 6]
abbrev dktX1_at_2 : List UInt8 := dkwX1_at_2 ++ dktX1_at_3
def dkwX1_at_1 : List UInt8 := [184, 0, 102, 154, 0, 6, 16, 254, 172, 3, 54, 4, 21, 4, 42, 180, 0, 98, 162, 0, 36, 42]
abbrev dktX1_at_1 : List UInt8 := dkwX1_at_1 ++ dktX1_at_2
def dkwX1_at_0 : List UInt8 := [27, 3, 6, 184, 0, 102, 153, 0, 23, 28, 3, 16, 7, 184, 0, 102, 153, 0, 13, 29, 3, 16, 29]
abbrev dktX1_at_0 : List UInt8 := dkwX1_at_0 ++ dktX1_at_1
theorem dksX1_at_0 : cX1_at.data.toList.drop 0 = dktX1_at_0 := by decide +kernel
theorem dksX1_at_1 : cX1_at.data.toList.drop 23 = dktX1_at_1 := dk_seg dksX1_at_0 23 rfl rfl
theorem dksX1_at_2 : cX1_at.data.toList.drop 45 = dktX1_at_2 := dk_seg dksX1_at_1 22 rfl rfl
theorem dksX1_at_3 : cX1_at.data.toList.drop 68 = dktX1_at_3 := dk_seg dksX1_at_2 23 rfl rfl
theorem dX1_at_0 : decode cX1_at 0 = .ok (.iload_n 1, 1) := dk_27 (dk_at dksX1_at_0 0 rfl rfl)
theorem dX1_at_1 : decode cX1_at 1 = .ok (.iconst 0, 1) := dk_3 (dk_at dksX1_at_0 1 rfl rfl)
theorem dX1_at_2 : decode cX1_at 2 = .ok (.iconst 3, 1) := dk_6 (dk_at dksX1_at_0 2 rfl rfl)
theorem dX1_at_3 : decode cX1_at 3 = .ok (.invokestatic 102, 3) := dk_184 0 102 (dk_at dksX1_at_0 3 rfl rfl)
theorem dX1_at_6 : decode cX1_at 6 = .ok (.ifCond .eq 23, 3) := dk_153 0 23 (dk_at dksX1_at_0 6 rfl rfl)
theorem dX1_at_9 : decode cX1_at 9 = .ok (.iload_n 2, 1) := dk_28 (dk_at dksX1_at_0 9 rfl rfl)
theorem dX1_at_10 : decode cX1_at 10 = .ok (.iconst 0, 1) := dk_3 (dk_at dksX1_at_0 10 rfl rfl)
theorem dX1_at_11 : decode cX1_at 11 = .ok (.bipush 7, 2) := dk_16 7 (dk_at dksX1_at_0 11 rfl rfl)
theorem dX1_at_13 : decode cX1_at 13 = .ok (.invokestatic 102, 3) := dk_184 0 102 (dk_at dksX1_at_0 13 rfl rfl)
theorem dX1_at_16 : decode cX1_at 16 = .ok (.ifCond .eq 13, 3) := dk_153 0 13 (dk_at dksX1_at_0 16 rfl rfl)
theorem dX1_at_19 : decode cX1_at 19 = .ok (.iload_n 3, 1) := dk_29 (dk_at dksX1_at_0 19 rfl rfl)
theorem dX1_at_20 : decode cX1_at 20 = .ok (.iconst 0, 1) := dk_3 (dk_at dksX1_at_0 20 rfl rfl)
theorem dX1_at_21 : decode cX1_at 21 = .ok (.bipush 29, 2) := dk_16 29 (dk_at dksX1_at_0 21 rfl rfl)
theorem dX1_at_23 : decode cX1_at 23 = .ok (.invokestatic 102, 3) := dk_184 0 102 (dk_at dksX1_at_1 0 rfl rfl)
theorem dX1_at_26 : decode cX1_at 26 = .ok (.ifCond .ne 6, 3) := dk_154 0 6 (dk_at dksX1_at_1 3 rfl rfl)
theorem dX1_at_29 : decode cX1_at 29 = .ok (.bipush (-2), 2) := dk_16 254 (dk_at dksX1_at_1 6 rfl rfl)
theorem dX1_at_31 : decode cX1_at 31 = .ok (.ireturn, 1) := dk_172 (dk_at dksX1_at_1 8 rfl rfl)
theorem dX1_at_32 : decode cX1_at 32 = .ok (.iconst 0, 1) := dk_3 (dk_at dksX1_at_1 9 rfl rfl)
theorem dX1_at_33 : decode cX1_at 33 = .ok (.istore 4, 2) := dk_54 4 (dk_at dksX1_at_1 10 rfl rfl)
theorem dX1_at_35 : decode cX1_at 35 = .ok (.iload 4, 2) := dk_21 4 (dk_at dksX1_at_1 12 rfl rfl)
theorem dX1_at_37 : decode cX1_at 37 = .ok (.aload_n 0, 1) := dk_42 (dk_at dksX1_at_1 14 rfl rfl)
theorem dX1_at_38 : decode cX1_at 38 = .ok (.getfield 98, 3) := dk_180 0 98 (dk_at dksX1_at_1 15 rfl rfl)
theorem dX1_at_41 : decode cX1_at 41 = .ok (.if_icmp .ge 36, 3) := dk_162 0 36 (dk_at dksX1_at_1 18 rfl rfl)
theorem dX1_at_44 : decode cX1_at 44 = .ok (.aload_n 0, 1) := dk_42 (dk_at dksX1_at_1 21 rfl rfl)
theorem dX1_at_45 : decode cX1_at 45 = .ok (.getfield 7, 3) := dk_180 0 7 (dk_at dksX1_at_2 0 rfl rfl)
theorem dX1_at_48 : decode cX1_at 48 = .ok (.iload 4, 2) := dk_21 4 (dk_at dksX1_at_2 3 rfl rfl)
theorem dX1_at_50 : decode cX1_at 50 = .ok (.iaload, 1) := dk_46 (dk_at dksX1_at_2 5 rfl rfl)
theorem dX1_at_51 : decode cX1_at 51 = .ok (.iload_n 1, 1) := dk_27 (dk_at dksX1_at_2 6 rfl rfl)
theorem dX1_at_52 : decode cX1_at 52 = .ok (.if_icmp .ne 19, 3) := dk_160 0 19 (dk_at dksX1_at_2 7 rfl rfl)
theorem dX1_at_55 : decode cX1_at 55 = .ok (.aload_n 0, 1) := dk_42 (dk_at dksX1_at_2 10 rfl rfl)
theorem dX1_at_56 : decode cX1_at 56 = .ok (.iload 4, 2) := dk_21 4 (dk_at dksX1_at_2 11 rfl rfl)
theorem dX1_at_58 : decode cX1_at 58 = .ok (.iload_n 2, 1) := dk_28 (dk_at dksX1_at_2 13 rfl rfl)
theorem dX1_at_59 : decode cX1_at 59 = .ok (.iload_n 2, 1) := dk_28 (dk_at dksX1_at_2 14 rfl rfl)
theorem dX1_at_60 : decode cX1_at 60 = .ok (.iload_n 3, 1) := dk_29 (dk_at dksX1_at_2 15 rfl rfl)
theorem dX1_at_61 : decode cX1_at 61 = .ok (.iload_n 3, 1) := dk_29 (dk_at dksX1_at_2 16 rfl rfl)
theorem dX1_at_62 : decode cX1_at 62 = .ok (.invokevirtual 106, 3) := dk_182 0 106 (dk_at dksX1_at_2 17 rfl rfl)
theorem dX1_at_65 : decode cX1_at 65 = .ok (.ifCond .eq 6, 3) := dk_153 0 6 (dk_at dksX1_at_2 20 rfl rfl)
theorem dX1_at_68 : decode cX1_at 68 = .ok (.iload 4, 2) := dk_21 4 (dk_at dksX1_at_3 0 rfl rfl)
theorem dX1_at_70 : decode cX1_at 70 = .ok (.ireturn, 1) := dk_172 (dk_at dksX1_at_3 2 rfl rfl)
theorem dX1_at_71 : decode cX1_at 71 = .ok (.iinc 4 1, 3) := dk_132 4 1 (dk_at dksX1_at_3 3 rfl rfl)
theorem dX1_at_74 : decode cX1_at 74 = .ok (.goto (-39), 3) := dk_167 255 217 (dk_at dksX1_at_3 6 rfl rfl)
theorem dX1_at_77 : decode cX1_at 77 = .ok (.bipush (-9), 2) := dk_16 247 (dk_at dksX1_at_3 9 rfl rfl)
theorem dX1_at_79 : decode cX1_at 79 = .ok (.ireturn, 1) := dk_172 (dk_at dksX1_at_3 11 rfl rfl)
abbrev cX1_reach : ByteArray := prog_14_method_27_code
def yX1_reach : MethodName := ⟨RX1, "reach", "(II)I"⟩
def dkwX1_reach_1 : List UInt8 := [182, 0, 125, 167, 0, 5, 16, 254, 172]
abbrev dktX1_reach_1 : List UInt8 := dkwX1_reach_1 ++ []
def dkwX1_reach_0 : List UInt8 := [42, 27, 182, 0, 156, 154, 0, 5, 2, 172, 28, 3, 16, 7, 184, 0, 102, 153, 0, 12, 42, 27, 28]
abbrev dktX1_reach_0 : List UInt8 := dkwX1_reach_0 ++ dktX1_reach_1
theorem dksX1_reach_0 : cX1_reach.data.toList.drop 0 = dktX1_reach_0 := by decide +kernel
theorem dksX1_reach_1 : cX1_reach.data.toList.drop 23 = dktX1_reach_1 := dk_seg dksX1_reach_0 23 rfl rfl
theorem dX1_reach_0 : decode cX1_reach 0 = .ok (.aload_n 0, 1) := dk_42 (dk_at dksX1_reach_0 0 rfl rfl)
theorem dX1_reach_1 : decode cX1_reach 1 = .ok (.iload_n 1, 1) := dk_27 (dk_at dksX1_reach_0 1 rfl rfl)
theorem dX1_reach_2 : decode cX1_reach 2 = .ok (.invokevirtual 156, 3) := dk_182 0 156 (dk_at dksX1_reach_0 2 rfl rfl)
theorem dX1_reach_5 : decode cX1_reach 5 = .ok (.ifCond .ne 5, 3) := dk_154 0 5 (dk_at dksX1_reach_0 5 rfl rfl)
theorem dX1_reach_8 : decode cX1_reach 8 = .ok (.iconst (-1), 1) := dk_2 (dk_at dksX1_reach_0 8 rfl rfl)
theorem dX1_reach_9 : decode cX1_reach 9 = .ok (.ireturn, 1) := dk_172 (dk_at dksX1_reach_0 9 rfl rfl)
theorem dX1_reach_10 : decode cX1_reach 10 = .ok (.iload_n 2, 1) := dk_28 (dk_at dksX1_reach_0 10 rfl rfl)
theorem dX1_reach_11 : decode cX1_reach 11 = .ok (.iconst 0, 1) := dk_3 (dk_at dksX1_reach_0 11 rfl rfl)
theorem dX1_reach_12 : decode cX1_reach 12 = .ok (.bipush 7, 2) := dk_16 7 (dk_at dksX1_reach_0 12 rfl rfl)
theorem dX1_reach_14 : decode cX1_reach 14 = .ok (.invokestatic 102, 3) := dk_184 0 102 (dk_at dksX1_reach_0 14 rfl rfl)
theorem dX1_reach_17 : decode cX1_reach 17 = .ok (.ifCond .eq 12, 3) := dk_153 0 12 (dk_at dksX1_reach_0 17 rfl rfl)
theorem dX1_reach_20 : decode cX1_reach 20 = .ok (.aload_n 0, 1) := dk_42 (dk_at dksX1_reach_0 20 rfl rfl)
theorem dX1_reach_21 : decode cX1_reach 21 = .ok (.iload_n 1, 1) := dk_27 (dk_at dksX1_reach_0 21 rfl rfl)
theorem dX1_reach_22 : decode cX1_reach 22 = .ok (.iload_n 2, 1) := dk_28 (dk_at dksX1_reach_0 22 rfl rfl)
theorem dX1_reach_23 : decode cX1_reach 23 = .ok (.invokevirtual 125, 3) := dk_182 0 125 (dk_at dksX1_reach_1 0 rfl rfl)
theorem dX1_reach_26 : decode cX1_reach 26 = .ok (.goto 5, 3) := dk_167 0 5 (dk_at dksX1_reach_1 3 rfl rfl)
theorem dX1_reach_29 : decode cX1_reach 29 = .ok (.bipush (-2), 2) := dk_16 254 (dk_at dksX1_reach_1 6 rfl rfl)
theorem dX1_reach_31 : decode cX1_reach 31 = .ok (.ireturn, 1) := dk_172 (dk_at dksX1_reach_1 8 rfl rfl)
abbrev cX1_isHead : ByteArray := prog_14_method_15_code
def yX1_isHead : MethodName := ⟨RX1, "isHead", "(I)Z"⟩
def dkwX1_isHead_0 : List UInt8 := [42, 27, 182, 0, 110, 153, 0, 16, 42, 180, 0, 13, 27, 46, 154, 0, 7, 4, 167, 0, 4, 3, 172]
abbrev dktX1_isHead_0 : List UInt8 := dkwX1_isHead_0 ++ []
theorem dksX1_isHead_0 : cX1_isHead.data.toList.drop 0 = dktX1_isHead_0 := by decide +kernel
theorem dX1_isHead_0 : decode cX1_isHead 0 = .ok (.aload_n 0, 1) := dk_42 (dk_at dksX1_isHead_0 0 rfl rfl)
theorem dX1_isHead_1 : decode cX1_isHead 1 = .ok (.iload_n 1, 1) := dk_27 (dk_at dksX1_isHead_0 1 rfl rfl)
theorem dX1_isHead_2 : decode cX1_isHead 2 = .ok (.invokevirtual 110, 3) := dk_182 0 110 (dk_at dksX1_isHead_0 2 rfl rfl)
theorem dX1_isHead_5 : decode cX1_isHead 5 = .ok (.ifCond .eq 16, 3) := dk_153 0 16 (dk_at dksX1_isHead_0 5 rfl rfl)
theorem dX1_isHead_8 : decode cX1_isHead 8 = .ok (.aload_n 0, 1) := dk_42 (dk_at dksX1_isHead_0 8 rfl rfl)
theorem dX1_isHead_9 : decode cX1_isHead 9 = .ok (.getfield 13, 3) := dk_180 0 13 (dk_at dksX1_isHead_0 9 rfl rfl)
theorem dX1_isHead_12 : decode cX1_isHead 12 = .ok (.iload_n 1, 1) := dk_27 (dk_at dksX1_isHead_0 12 rfl rfl)
theorem dX1_isHead_13 : decode cX1_isHead 13 = .ok (.iaload, 1) := dk_46 (dk_at dksX1_isHead_0 13 rfl rfl)
theorem dX1_isHead_14 : decode cX1_isHead 14 = .ok (.ifCond .ne 7, 3) := dk_154 0 7 (dk_at dksX1_isHead_0 14 rfl rfl)
theorem dX1_isHead_17 : decode cX1_isHead 17 = .ok (.iconst 1, 1) := dk_4 (dk_at dksX1_isHead_0 17 rfl rfl)
theorem dX1_isHead_18 : decode cX1_isHead 18 = .ok (.goto 4, 3) := dk_167 0 4 (dk_at dksX1_isHead_0 18 rfl rfl)
theorem dX1_isHead_21 : decode cX1_isHead 21 = .ok (.iconst 0, 1) := dk_3 (dk_at dksX1_isHead_0 21 rfl rfl)
theorem dX1_isHead_22 : decode cX1_isHead 22 = .ok (.ireturn, 1) := dk_172 (dk_at dksX1_isHead_0 22 rfl rfl)
abbrev cX1_lastRow : ByteArray := prog_14_method_18_code
def yX1_lastRow : MethodName := ⟨RX1, "lastRow", "(II)I"⟩
def dkwX1_lastRow_11 : List UInt8 := [167, 255, 143, 21, 4, 29, 164, 0, 8, 21, 4, 167, 0, 5, 16, 247, 172]
abbrev dktX1_lastRow_11 : List UInt8 := dkwX1_lastRow_11 ++ []
def dkwX1_lastRow_10 : List UInt8 := [21, 4, 162, 0, 15, 42, 180, 0, 43, 21, 5, 46, 4, 100, 167, 0, 5, 21, 4, 54, 4, 132, 5, 1]
abbrev dktX1_lastRow_10 : List UInt8 := dkwX1_lastRow_10 ++ dktX1_lastRow_11
def dkwX1_lastRow_9 : List UInt8 := [164, 0, 7, 4, 167, 0, 4, 3, 54, 6, 21, 6, 153, 0, 29, 42, 180, 0, 43, 21, 5, 46, 4, 100]
abbrev dktX1_lastRow_9 : List UInt8 := dkwX1_lastRow_9 ++ dktX1_lastRow_10
def dkwX1_lastRow_8 : List UInt8 := [21, 5, 46, 42, 180, 0, 49, 21, 5, 46, 184, 0, 102, 153, 0, 18, 42, 180, 0, 43, 21, 5, 46, 29]
abbrev dktX1_lastRow_8 : List UInt8 := dkwX1_lastRow_8 ++ dktX1_lastRow_9
def dkwX1_lastRow_7 : List UInt8 := [180, 0, 7, 27, 46, 160, 0, 50, 42, 180, 0, 40, 21, 5, 46, 4, 160, 0, 39, 28, 42, 180, 0, 46]
abbrev dktX1_lastRow_7 : List UInt8 := dkwX1_lastRow_7 ++ dktX1_lastRow_8
def dkwX1_lastRow_6 : List UInt8 := [167, 255, 144, 3, 54, 5, 21, 5, 42, 180, 0, 114, 162, 0, 110, 42, 180, 0, 37, 21, 5, 46, 42]
abbrev dktX1_lastRow_6 : List UInt8 := dkwX1_lastRow_6 ++ dktX1_lastRow_7
def dkwX1_lastRow_5 : List UInt8 := [162, 0, 15, 42, 180, 0, 22, 21, 5, 46, 4, 100, 167, 0, 5, 21, 4, 54, 4, 132, 5, 1]
abbrev dktX1_lastRow_5 : List UInt8 := dkwX1_lastRow_5 ++ dktX1_lastRow_6
def dkwX1_lastRow_4 : List UInt8 := [167, 0, 4, 3, 54, 6, 21, 6, 153, 0, 29, 42, 180, 0, 22, 21, 5, 46, 4, 100, 21, 4]
abbrev dktX1_lastRow_4 : List UInt8 := dkwX1_lastRow_4 ++ dktX1_lastRow_5
def dkwX1_lastRow_3 : List UInt8 := [180, 0, 19, 21, 5, 46, 184, 0, 102, 153, 0, 18, 42, 180, 0, 22, 21, 5, 46, 29, 164, 0, 7, 4]
abbrev dktX1_lastRow_3 : List UInt8 := dkwX1_lastRow_3 ++ dktX1_lastRow_4
def dkwX1_lastRow_2 : List UInt8 := [160, 0, 49, 42, 180, 0, 13, 21, 5, 46, 154, 0, 39, 28, 42, 180, 0, 16, 21, 5, 46, 42]
abbrev dktX1_lastRow_2 : List UInt8 := dkwX1_lastRow_2 ++ dktX1_lastRow_3
def dkwX1_lastRow_1 : List UInt8 := [54, 5, 21, 5, 42, 180, 0, 98, 162, 0, 109, 42, 180, 0, 7, 21, 5, 46, 42, 180, 0, 7, 27, 46]
abbrev dktX1_lastRow_1 : List UInt8 := dkwX1_lastRow_1 ++ dktX1_lastRow_2
def dkwX1_lastRow_0 : List UInt8 := [42, 27, 28, 182, 0, 121, 154, 0, 6, 16, 247, 172, 42, 180, 0, 25, 27, 46, 62, 16, 29, 54, 4, 3]
abbrev dktX1_lastRow_0 : List UInt8 := dkwX1_lastRow_0 ++ dktX1_lastRow_1
theorem dksX1_lastRow_0 : cX1_lastRow.data.toList.drop 0 = dktX1_lastRow_0 := by decide +kernel
theorem dksX1_lastRow_1 : cX1_lastRow.data.toList.drop 24 = dktX1_lastRow_1 := dk_seg dksX1_lastRow_0 24 rfl rfl
theorem dksX1_lastRow_2 : cX1_lastRow.data.toList.drop 48 = dktX1_lastRow_2 := dk_seg dksX1_lastRow_1 24 rfl rfl
theorem dksX1_lastRow_3 : cX1_lastRow.data.toList.drop 70 = dktX1_lastRow_3 := dk_seg dksX1_lastRow_2 22 rfl rfl
theorem dksX1_lastRow_4 : cX1_lastRow.data.toList.drop 94 = dktX1_lastRow_4 := dk_seg dksX1_lastRow_3 24 rfl rfl
theorem dksX1_lastRow_5 : cX1_lastRow.data.toList.drop 116 = dktX1_lastRow_5 := dk_seg dksX1_lastRow_4 22 rfl rfl
theorem dksX1_lastRow_6 : cX1_lastRow.data.toList.drop 138 = dktX1_lastRow_6 := dk_seg dksX1_lastRow_5 22 rfl rfl
theorem dksX1_lastRow_7 : cX1_lastRow.data.toList.drop 161 = dktX1_lastRow_7 := dk_seg dksX1_lastRow_6 23 rfl rfl
theorem dksX1_lastRow_8 : cX1_lastRow.data.toList.drop 185 = dktX1_lastRow_8 := dk_seg dksX1_lastRow_7 24 rfl rfl
theorem dksX1_lastRow_9 : cX1_lastRow.data.toList.drop 209 = dktX1_lastRow_9 := dk_seg dksX1_lastRow_8 24 rfl rfl
theorem dksX1_lastRow_10 : cX1_lastRow.data.toList.drop 233 = dktX1_lastRow_10 := dk_seg dksX1_lastRow_9 24 rfl rfl
theorem dksX1_lastRow_11 : cX1_lastRow.data.toList.drop 257 = dktX1_lastRow_11 := dk_seg dksX1_lastRow_10 24 rfl rfl
theorem dX1_lastRow_0 : decode cX1_lastRow 0 = .ok (.aload_n 0, 1) := dk_42 (dk_at dksX1_lastRow_0 0 rfl rfl)
theorem dX1_lastRow_1 : decode cX1_lastRow 1 = .ok (.iload_n 1, 1) := dk_27 (dk_at dksX1_lastRow_0 1 rfl rfl)
theorem dX1_lastRow_2 : decode cX1_lastRow 2 = .ok (.iload_n 2, 1) := dk_28 (dk_at dksX1_lastRow_0 2 rfl rfl)
theorem dX1_lastRow_3 : decode cX1_lastRow 3 = .ok (.invokevirtual 121, 3) := dk_182 0 121 (dk_at dksX1_lastRow_0 3 rfl rfl)
theorem dX1_lastRow_6 : decode cX1_lastRow 6 = .ok (.ifCond .ne 6, 3) := dk_154 0 6 (dk_at dksX1_lastRow_0 6 rfl rfl)
theorem dX1_lastRow_9 : decode cX1_lastRow 9 = .ok (.bipush (-9), 2) := dk_16 247 (dk_at dksX1_lastRow_0 9 rfl rfl)
theorem dX1_lastRow_11 : decode cX1_lastRow 11 = .ok (.ireturn, 1) := dk_172 (dk_at dksX1_lastRow_0 11 rfl rfl)
theorem dX1_lastRow_12 : decode cX1_lastRow 12 = .ok (.aload_n 0, 1) := dk_42 (dk_at dksX1_lastRow_0 12 rfl rfl)
theorem dX1_lastRow_13 : decode cX1_lastRow 13 = .ok (.getfield 25, 3) := dk_180 0 25 (dk_at dksX1_lastRow_0 13 rfl rfl)
theorem dX1_lastRow_16 : decode cX1_lastRow 16 = .ok (.iload_n 1, 1) := dk_27 (dk_at dksX1_lastRow_0 16 rfl rfl)
theorem dX1_lastRow_17 : decode cX1_lastRow 17 = .ok (.iaload, 1) := dk_46 (dk_at dksX1_lastRow_0 17 rfl rfl)
theorem dX1_lastRow_18 : decode cX1_lastRow 18 = .ok (.istore_n 3, 1) := dk_62 (dk_at dksX1_lastRow_0 18 rfl rfl)
theorem dX1_lastRow_19 : decode cX1_lastRow 19 = .ok (.bipush 29, 2) := dk_16 29 (dk_at dksX1_lastRow_0 19 rfl rfl)
theorem dX1_lastRow_21 : decode cX1_lastRow 21 = .ok (.istore 4, 2) := dk_54 4 (dk_at dksX1_lastRow_0 21 rfl rfl)
theorem dX1_lastRow_23 : decode cX1_lastRow 23 = .ok (.iconst 0, 1) := dk_3 (dk_at dksX1_lastRow_0 23 rfl rfl)
theorem dX1_lastRow_24 : decode cX1_lastRow 24 = .ok (.istore 5, 2) := dk_54 5 (dk_at dksX1_lastRow_1 0 rfl rfl)
theorem dX1_lastRow_26 : decode cX1_lastRow 26 = .ok (.iload 5, 2) := dk_21 5 (dk_at dksX1_lastRow_1 2 rfl rfl)
theorem dX1_lastRow_28 : decode cX1_lastRow 28 = .ok (.aload_n 0, 1) := dk_42 (dk_at dksX1_lastRow_1 4 rfl rfl)
theorem dX1_lastRow_29 : decode cX1_lastRow 29 = .ok (.getfield 98, 3) := dk_180 0 98 (dk_at dksX1_lastRow_1 5 rfl rfl)
theorem dX1_lastRow_32 : decode cX1_lastRow 32 = .ok (.if_icmp .ge 109, 3) := dk_162 0 109 (dk_at dksX1_lastRow_1 8 rfl rfl)
theorem dX1_lastRow_35 : decode cX1_lastRow 35 = .ok (.aload_n 0, 1) := dk_42 (dk_at dksX1_lastRow_1 11 rfl rfl)
theorem dX1_lastRow_36 : decode cX1_lastRow 36 = .ok (.getfield 7, 3) := dk_180 0 7 (dk_at dksX1_lastRow_1 12 rfl rfl)
theorem dX1_lastRow_39 : decode cX1_lastRow 39 = .ok (.iload 5, 2) := dk_21 5 (dk_at dksX1_lastRow_1 15 rfl rfl)
theorem dX1_lastRow_41 : decode cX1_lastRow 41 = .ok (.iaload, 1) := dk_46 (dk_at dksX1_lastRow_1 17 rfl rfl)
theorem dX1_lastRow_42 : decode cX1_lastRow 42 = .ok (.aload_n 0, 1) := dk_42 (dk_at dksX1_lastRow_1 18 rfl rfl)
theorem dX1_lastRow_43 : decode cX1_lastRow 43 = .ok (.getfield 7, 3) := dk_180 0 7 (dk_at dksX1_lastRow_1 19 rfl rfl)
theorem dX1_lastRow_46 : decode cX1_lastRow 46 = .ok (.iload_n 1, 1) := dk_27 (dk_at dksX1_lastRow_1 22 rfl rfl)
theorem dX1_lastRow_47 : decode cX1_lastRow 47 = .ok (.iaload, 1) := dk_46 (dk_at dksX1_lastRow_1 23 rfl rfl)
theorem dX1_lastRow_48 : decode cX1_lastRow 48 = .ok (.if_icmp .ne 49, 3) := dk_160 0 49 (dk_at dksX1_lastRow_2 0 rfl rfl)
theorem dX1_lastRow_51 : decode cX1_lastRow 51 = .ok (.aload_n 0, 1) := dk_42 (dk_at dksX1_lastRow_2 3 rfl rfl)
theorem dX1_lastRow_52 : decode cX1_lastRow 52 = .ok (.getfield 13, 3) := dk_180 0 13 (dk_at dksX1_lastRow_2 4 rfl rfl)
theorem dX1_lastRow_55 : decode cX1_lastRow 55 = .ok (.iload 5, 2) := dk_21 5 (dk_at dksX1_lastRow_2 7 rfl rfl)
theorem dX1_lastRow_57 : decode cX1_lastRow 57 = .ok (.iaload, 1) := dk_46 (dk_at dksX1_lastRow_2 9 rfl rfl)
theorem dX1_lastRow_58 : decode cX1_lastRow 58 = .ok (.ifCond .ne 39, 3) := dk_154 0 39 (dk_at dksX1_lastRow_2 10 rfl rfl)
theorem dX1_lastRow_61 : decode cX1_lastRow 61 = .ok (.iload_n 2, 1) := dk_28 (dk_at dksX1_lastRow_2 13 rfl rfl)
theorem dX1_lastRow_62 : decode cX1_lastRow 62 = .ok (.aload_n 0, 1) := dk_42 (dk_at dksX1_lastRow_2 14 rfl rfl)
theorem dX1_lastRow_63 : decode cX1_lastRow 63 = .ok (.getfield 16, 3) := dk_180 0 16 (dk_at dksX1_lastRow_2 15 rfl rfl)
theorem dX1_lastRow_66 : decode cX1_lastRow 66 = .ok (.iload 5, 2) := dk_21 5 (dk_at dksX1_lastRow_2 18 rfl rfl)
theorem dX1_lastRow_68 : decode cX1_lastRow 68 = .ok (.iaload, 1) := dk_46 (dk_at dksX1_lastRow_2 20 rfl rfl)
theorem dX1_lastRow_69 : decode cX1_lastRow 69 = .ok (.aload_n 0, 1) := dk_42 (dk_at dksX1_lastRow_2 21 rfl rfl)
theorem dX1_lastRow_70 : decode cX1_lastRow 70 = .ok (.getfield 19, 3) := dk_180 0 19 (dk_at dksX1_lastRow_3 0 rfl rfl)
theorem dX1_lastRow_73 : decode cX1_lastRow 73 = .ok (.iload 5, 2) := dk_21 5 (dk_at dksX1_lastRow_3 3 rfl rfl)
theorem dX1_lastRow_75 : decode cX1_lastRow 75 = .ok (.iaload, 1) := dk_46 (dk_at dksX1_lastRow_3 5 rfl rfl)
theorem dX1_lastRow_76 : decode cX1_lastRow 76 = .ok (.invokestatic 102, 3) := dk_184 0 102 (dk_at dksX1_lastRow_3 6 rfl rfl)
theorem dX1_lastRow_79 : decode cX1_lastRow 79 = .ok (.ifCond .eq 18, 3) := dk_153 0 18 (dk_at dksX1_lastRow_3 9 rfl rfl)
theorem dX1_lastRow_82 : decode cX1_lastRow 82 = .ok (.aload_n 0, 1) := dk_42 (dk_at dksX1_lastRow_3 12 rfl rfl)
theorem dX1_lastRow_83 : decode cX1_lastRow 83 = .ok (.getfield 22, 3) := dk_180 0 22 (dk_at dksX1_lastRow_3 13 rfl rfl)
theorem dX1_lastRow_86 : decode cX1_lastRow 86 = .ok (.iload 5, 2) := dk_21 5 (dk_at dksX1_lastRow_3 16 rfl rfl)
theorem dX1_lastRow_88 : decode cX1_lastRow 88 = .ok (.iaload, 1) := dk_46 (dk_at dksX1_lastRow_3 18 rfl rfl)
theorem dX1_lastRow_89 : decode cX1_lastRow 89 = .ok (.iload_n 3, 1) := dk_29 (dk_at dksX1_lastRow_3 19 rfl rfl)
theorem dX1_lastRow_90 : decode cX1_lastRow 90 = .ok (.if_icmp .le 7, 3) := dk_164 0 7 (dk_at dksX1_lastRow_3 20 rfl rfl)
theorem dX1_lastRow_93 : decode cX1_lastRow 93 = .ok (.iconst 1, 1) := dk_4 (dk_at dksX1_lastRow_3 23 rfl rfl)
theorem dX1_lastRow_94 : decode cX1_lastRow 94 = .ok (.goto 4, 3) := dk_167 0 4 (dk_at dksX1_lastRow_4 0 rfl rfl)
theorem dX1_lastRow_97 : decode cX1_lastRow 97 = .ok (.iconst 0, 1) := dk_3 (dk_at dksX1_lastRow_4 3 rfl rfl)
theorem dX1_lastRow_98 : decode cX1_lastRow 98 = .ok (.istore 6, 2) := dk_54 6 (dk_at dksX1_lastRow_4 4 rfl rfl)
theorem dX1_lastRow_100 : decode cX1_lastRow 100 = .ok (.iload 6, 2) := dk_21 6 (dk_at dksX1_lastRow_4 6 rfl rfl)
theorem dX1_lastRow_102 : decode cX1_lastRow 102 = .ok (.ifCond .eq 29, 3) := dk_153 0 29 (dk_at dksX1_lastRow_4 8 rfl rfl)
theorem dX1_lastRow_105 : decode cX1_lastRow 105 = .ok (.aload_n 0, 1) := dk_42 (dk_at dksX1_lastRow_4 11 rfl rfl)
theorem dX1_lastRow_106 : decode cX1_lastRow 106 = .ok (.getfield 22, 3) := dk_180 0 22 (dk_at dksX1_lastRow_4 12 rfl rfl)
theorem dX1_lastRow_109 : decode cX1_lastRow 109 = .ok (.iload 5, 2) := dk_21 5 (dk_at dksX1_lastRow_4 15 rfl rfl)
theorem dX1_lastRow_111 : decode cX1_lastRow 111 = .ok (.iaload, 1) := dk_46 (dk_at dksX1_lastRow_4 17 rfl rfl)
theorem dX1_lastRow_112 : decode cX1_lastRow 112 = .ok (.iconst 1, 1) := dk_4 (dk_at dksX1_lastRow_4 18 rfl rfl)
theorem dX1_lastRow_113 : decode cX1_lastRow 113 = .ok (.isub, 1) := dk_100 (dk_at dksX1_lastRow_4 19 rfl rfl)
theorem dX1_lastRow_114 : decode cX1_lastRow 114 = .ok (.iload 4, 2) := dk_21 4 (dk_at dksX1_lastRow_4 20 rfl rfl)
theorem dX1_lastRow_116 : decode cX1_lastRow 116 = .ok (.if_icmp .ge 15, 3) := dk_162 0 15 (dk_at dksX1_lastRow_5 0 rfl rfl)
theorem dX1_lastRow_119 : decode cX1_lastRow 119 = .ok (.aload_n 0, 1) := dk_42 (dk_at dksX1_lastRow_5 3 rfl rfl)
theorem dX1_lastRow_120 : decode cX1_lastRow 120 = .ok (.getfield 22, 3) := dk_180 0 22 (dk_at dksX1_lastRow_5 4 rfl rfl)
theorem dX1_lastRow_123 : decode cX1_lastRow 123 = .ok (.iload 5, 2) := dk_21 5 (dk_at dksX1_lastRow_5 7 rfl rfl)
theorem dX1_lastRow_125 : decode cX1_lastRow 125 = .ok (.iaload, 1) := dk_46 (dk_at dksX1_lastRow_5 9 rfl rfl)
theorem dX1_lastRow_126 : decode cX1_lastRow 126 = .ok (.iconst 1, 1) := dk_4 (dk_at dksX1_lastRow_5 10 rfl rfl)
theorem dX1_lastRow_127 : decode cX1_lastRow 127 = .ok (.isub, 1) := dk_100 (dk_at dksX1_lastRow_5 11 rfl rfl)
theorem dX1_lastRow_128 : decode cX1_lastRow 128 = .ok (.goto 5, 3) := dk_167 0 5 (dk_at dksX1_lastRow_5 12 rfl rfl)
theorem dX1_lastRow_131 : decode cX1_lastRow 131 = .ok (.iload 4, 2) := dk_21 4 (dk_at dksX1_lastRow_5 15 rfl rfl)
theorem dX1_lastRow_133 : decode cX1_lastRow 133 = .ok (.istore 4, 2) := dk_54 4 (dk_at dksX1_lastRow_5 17 rfl rfl)
theorem dX1_lastRow_135 : decode cX1_lastRow 135 = .ok (.iinc 5 1, 3) := dk_132 5 1 (dk_at dksX1_lastRow_5 19 rfl rfl)
theorem dX1_lastRow_138 : decode cX1_lastRow 138 = .ok (.goto (-112), 3) := dk_167 255 144 (dk_at dksX1_lastRow_6 0 rfl rfl)
theorem dX1_lastRow_141 : decode cX1_lastRow 141 = .ok (.iconst 0, 1) := dk_3 (dk_at dksX1_lastRow_6 3 rfl rfl)
theorem dX1_lastRow_142 : decode cX1_lastRow 142 = .ok (.istore 5, 2) := dk_54 5 (dk_at dksX1_lastRow_6 4 rfl rfl)
theorem dX1_lastRow_144 : decode cX1_lastRow 144 = .ok (.iload 5, 2) := dk_21 5 (dk_at dksX1_lastRow_6 6 rfl rfl)
theorem dX1_lastRow_146 : decode cX1_lastRow 146 = .ok (.aload_n 0, 1) := dk_42 (dk_at dksX1_lastRow_6 8 rfl rfl)
theorem dX1_lastRow_147 : decode cX1_lastRow 147 = .ok (.getfield 114, 3) := dk_180 0 114 (dk_at dksX1_lastRow_6 9 rfl rfl)
theorem dX1_lastRow_150 : decode cX1_lastRow 150 = .ok (.if_icmp .ge 110, 3) := dk_162 0 110 (dk_at dksX1_lastRow_6 12 rfl rfl)
theorem dX1_lastRow_153 : decode cX1_lastRow 153 = .ok (.aload_n 0, 1) := dk_42 (dk_at dksX1_lastRow_6 15 rfl rfl)
theorem dX1_lastRow_154 : decode cX1_lastRow 154 = .ok (.getfield 37, 3) := dk_180 0 37 (dk_at dksX1_lastRow_6 16 rfl rfl)
theorem dX1_lastRow_157 : decode cX1_lastRow 157 = .ok (.iload 5, 2) := dk_21 5 (dk_at dksX1_lastRow_6 19 rfl rfl)
theorem dX1_lastRow_159 : decode cX1_lastRow 159 = .ok (.iaload, 1) := dk_46 (dk_at dksX1_lastRow_6 21 rfl rfl)
theorem dX1_lastRow_160 : decode cX1_lastRow 160 = .ok (.aload_n 0, 1) := dk_42 (dk_at dksX1_lastRow_6 22 rfl rfl)
theorem dX1_lastRow_161 : decode cX1_lastRow 161 = .ok (.getfield 7, 3) := dk_180 0 7 (dk_at dksX1_lastRow_7 0 rfl rfl)
theorem dX1_lastRow_164 : decode cX1_lastRow 164 = .ok (.iload_n 1, 1) := dk_27 (dk_at dksX1_lastRow_7 3 rfl rfl)
theorem dX1_lastRow_165 : decode cX1_lastRow 165 = .ok (.iaload, 1) := dk_46 (dk_at dksX1_lastRow_7 4 rfl rfl)
theorem dX1_lastRow_166 : decode cX1_lastRow 166 = .ok (.if_icmp .ne 50, 3) := dk_160 0 50 (dk_at dksX1_lastRow_7 5 rfl rfl)
theorem dX1_lastRow_169 : decode cX1_lastRow 169 = .ok (.aload_n 0, 1) := dk_42 (dk_at dksX1_lastRow_7 8 rfl rfl)
theorem dX1_lastRow_170 : decode cX1_lastRow 170 = .ok (.getfield 40, 3) := dk_180 0 40 (dk_at dksX1_lastRow_7 9 rfl rfl)
theorem dX1_lastRow_173 : decode cX1_lastRow 173 = .ok (.iload 5, 2) := dk_21 5 (dk_at dksX1_lastRow_7 12 rfl rfl)
theorem dX1_lastRow_175 : decode cX1_lastRow 175 = .ok (.iaload, 1) := dk_46 (dk_at dksX1_lastRow_7 14 rfl rfl)
theorem dX1_lastRow_176 : decode cX1_lastRow 176 = .ok (.iconst 1, 1) := dk_4 (dk_at dksX1_lastRow_7 15 rfl rfl)
theorem dX1_lastRow_177 : decode cX1_lastRow 177 = .ok (.if_icmp .ne 39, 3) := dk_160 0 39 (dk_at dksX1_lastRow_7 16 rfl rfl)
theorem dX1_lastRow_180 : decode cX1_lastRow 180 = .ok (.iload_n 2, 1) := dk_28 (dk_at dksX1_lastRow_7 19 rfl rfl)
theorem dX1_lastRow_181 : decode cX1_lastRow 181 = .ok (.aload_n 0, 1) := dk_42 (dk_at dksX1_lastRow_7 20 rfl rfl)
theorem dX1_lastRow_182 : decode cX1_lastRow 182 = .ok (.getfield 46, 3) := dk_180 0 46 (dk_at dksX1_lastRow_7 21 rfl rfl)
theorem dX1_lastRow_185 : decode cX1_lastRow 185 = .ok (.iload 5, 2) := dk_21 5 (dk_at dksX1_lastRow_8 0 rfl rfl)
theorem dX1_lastRow_187 : decode cX1_lastRow 187 = .ok (.iaload, 1) := dk_46 (dk_at dksX1_lastRow_8 2 rfl rfl)
theorem dX1_lastRow_188 : decode cX1_lastRow 188 = .ok (.aload_n 0, 1) := dk_42 (dk_at dksX1_lastRow_8 3 rfl rfl)
theorem dX1_lastRow_189 : decode cX1_lastRow 189 = .ok (.getfield 49, 3) := dk_180 0 49 (dk_at dksX1_lastRow_8 4 rfl rfl)
theorem dX1_lastRow_192 : decode cX1_lastRow 192 = .ok (.iload 5, 2) := dk_21 5 (dk_at dksX1_lastRow_8 7 rfl rfl)
theorem dX1_lastRow_194 : decode cX1_lastRow 194 = .ok (.iaload, 1) := dk_46 (dk_at dksX1_lastRow_8 9 rfl rfl)
theorem dX1_lastRow_195 : decode cX1_lastRow 195 = .ok (.invokestatic 102, 3) := dk_184 0 102 (dk_at dksX1_lastRow_8 10 rfl rfl)
theorem dX1_lastRow_198 : decode cX1_lastRow 198 = .ok (.ifCond .eq 18, 3) := dk_153 0 18 (dk_at dksX1_lastRow_8 13 rfl rfl)
theorem dX1_lastRow_201 : decode cX1_lastRow 201 = .ok (.aload_n 0, 1) := dk_42 (dk_at dksX1_lastRow_8 16 rfl rfl)
theorem dX1_lastRow_202 : decode cX1_lastRow 202 = .ok (.getfield 43, 3) := dk_180 0 43 (dk_at dksX1_lastRow_8 17 rfl rfl)
theorem dX1_lastRow_205 : decode cX1_lastRow 205 = .ok (.iload 5, 2) := dk_21 5 (dk_at dksX1_lastRow_8 20 rfl rfl)
theorem dX1_lastRow_207 : decode cX1_lastRow 207 = .ok (.iaload, 1) := dk_46 (dk_at dksX1_lastRow_8 22 rfl rfl)
theorem dX1_lastRow_208 : decode cX1_lastRow 208 = .ok (.iload_n 3, 1) := dk_29 (dk_at dksX1_lastRow_8 23 rfl rfl)
theorem dX1_lastRow_209 : decode cX1_lastRow 209 = .ok (.if_icmp .le 7, 3) := dk_164 0 7 (dk_at dksX1_lastRow_9 0 rfl rfl)
theorem dX1_lastRow_212 : decode cX1_lastRow 212 = .ok (.iconst 1, 1) := dk_4 (dk_at dksX1_lastRow_9 3 rfl rfl)
theorem dX1_lastRow_213 : decode cX1_lastRow 213 = .ok (.goto 4, 3) := dk_167 0 4 (dk_at dksX1_lastRow_9 4 rfl rfl)
theorem dX1_lastRow_216 : decode cX1_lastRow 216 = .ok (.iconst 0, 1) := dk_3 (dk_at dksX1_lastRow_9 7 rfl rfl)
theorem dX1_lastRow_217 : decode cX1_lastRow 217 = .ok (.istore 6, 2) := dk_54 6 (dk_at dksX1_lastRow_9 8 rfl rfl)
theorem dX1_lastRow_219 : decode cX1_lastRow 219 = .ok (.iload 6, 2) := dk_21 6 (dk_at dksX1_lastRow_9 10 rfl rfl)
theorem dX1_lastRow_221 : decode cX1_lastRow 221 = .ok (.ifCond .eq 29, 3) := dk_153 0 29 (dk_at dksX1_lastRow_9 12 rfl rfl)
theorem dX1_lastRow_224 : decode cX1_lastRow 224 = .ok (.aload_n 0, 1) := dk_42 (dk_at dksX1_lastRow_9 15 rfl rfl)
theorem dX1_lastRow_225 : decode cX1_lastRow 225 = .ok (.getfield 43, 3) := dk_180 0 43 (dk_at dksX1_lastRow_9 16 rfl rfl)
theorem dX1_lastRow_228 : decode cX1_lastRow 228 = .ok (.iload 5, 2) := dk_21 5 (dk_at dksX1_lastRow_9 19 rfl rfl)
theorem dX1_lastRow_230 : decode cX1_lastRow 230 = .ok (.iaload, 1) := dk_46 (dk_at dksX1_lastRow_9 21 rfl rfl)
theorem dX1_lastRow_231 : decode cX1_lastRow 231 = .ok (.iconst 1, 1) := dk_4 (dk_at dksX1_lastRow_9 22 rfl rfl)
theorem dX1_lastRow_232 : decode cX1_lastRow 232 = .ok (.isub, 1) := dk_100 (dk_at dksX1_lastRow_9 23 rfl rfl)
theorem dX1_lastRow_233 : decode cX1_lastRow 233 = .ok (.iload 4, 2) := dk_21 4 (dk_at dksX1_lastRow_10 0 rfl rfl)
theorem dX1_lastRow_235 : decode cX1_lastRow 235 = .ok (.if_icmp .ge 15, 3) := dk_162 0 15 (dk_at dksX1_lastRow_10 2 rfl rfl)
theorem dX1_lastRow_238 : decode cX1_lastRow 238 = .ok (.aload_n 0, 1) := dk_42 (dk_at dksX1_lastRow_10 5 rfl rfl)
theorem dX1_lastRow_239 : decode cX1_lastRow 239 = .ok (.getfield 43, 3) := dk_180 0 43 (dk_at dksX1_lastRow_10 6 rfl rfl)
theorem dX1_lastRow_242 : decode cX1_lastRow 242 = .ok (.iload 5, 2) := dk_21 5 (dk_at dksX1_lastRow_10 9 rfl rfl)
theorem dX1_lastRow_244 : decode cX1_lastRow 244 = .ok (.iaload, 1) := dk_46 (dk_at dksX1_lastRow_10 11 rfl rfl)
theorem dX1_lastRow_245 : decode cX1_lastRow 245 = .ok (.iconst 1, 1) := dk_4 (dk_at dksX1_lastRow_10 12 rfl rfl)
theorem dX1_lastRow_246 : decode cX1_lastRow 246 = .ok (.isub, 1) := dk_100 (dk_at dksX1_lastRow_10 13 rfl rfl)
theorem dX1_lastRow_247 : decode cX1_lastRow 247 = .ok (.goto 5, 3) := dk_167 0 5 (dk_at dksX1_lastRow_10 14 rfl rfl)
theorem dX1_lastRow_250 : decode cX1_lastRow 250 = .ok (.iload 4, 2) := dk_21 4 (dk_at dksX1_lastRow_10 17 rfl rfl)
theorem dX1_lastRow_252 : decode cX1_lastRow 252 = .ok (.istore 4, 2) := dk_54 4 (dk_at dksX1_lastRow_10 19 rfl rfl)
theorem dX1_lastRow_254 : decode cX1_lastRow 254 = .ok (.iinc 5 1, 3) := dk_132 5 1 (dk_at dksX1_lastRow_10 21 rfl rfl)
theorem dX1_lastRow_257 : decode cX1_lastRow 257 = .ok (.goto (-113), 3) := dk_167 255 143 (dk_at dksX1_lastRow_11 0 rfl rfl)
theorem dX1_lastRow_260 : decode cX1_lastRow 260 = .ok (.iload 4, 2) := dk_21 4 (dk_at dksX1_lastRow_11 3 rfl rfl)
theorem dX1_lastRow_262 : decode cX1_lastRow 262 = .ok (.iload_n 3, 1) := dk_29 (dk_at dksX1_lastRow_11 5 rfl rfl)
theorem dX1_lastRow_263 : decode cX1_lastRow 263 = .ok (.if_icmp .le 8, 3) := dk_164 0 8 (dk_at dksX1_lastRow_11 6 rfl rfl)
theorem dX1_lastRow_266 : decode cX1_lastRow 266 = .ok (.iload 4, 2) := dk_21 4 (dk_at dksX1_lastRow_11 9 rfl rfl)
theorem dX1_lastRow_268 : decode cX1_lastRow 268 = .ok (.goto 5, 3) := dk_167 0 5 (dk_at dksX1_lastRow_11 11 rfl rfl)
theorem dX1_lastRow_271 : decode cX1_lastRow 271 = .ok (.bipush (-9), 2) := dk_16 247 (dk_at dksX1_lastRow_11 14 rfl rfl)
theorem dX1_lastRow_273 : decode cX1_lastRow 273 = .ok (.ireturn, 1) := dk_172 (dk_at dksX1_lastRow_11 16 rfl rfl)
abbrev cX1_reachesAcross : ByteArray := prog_14_method_17_code
def yX1_reachesAcross : MethodName := ⟨RX1, "reachesAcross", "(II)Z"⟩
def dkwX1_reachesAcross_3 : List UInt8 := [182, 0, 117, 153, 0, 5, 3, 172, 132, 3, 1, 167, 255, 216, 4, 172]
abbrev dktX1_reachesAcross_3 : List UInt8 := dkwX1_reachesAcross_3 ++ []
def dkwX1_reachesAcross_2 : List UInt8 := [180, 0, 7, 27, 46, 29, 42, 180, 0, 25, 27, 46, 4, 96, 42, 180, 0, 25, 27, 46, 4, 96]
abbrev dktX1_reachesAcross_2 : List UInt8 := dkwX1_reachesAcross_2 ++ dktX1_reachesAcross_3
def dkwX1_reachesAcross_1 : List UInt8 := [184, 0, 102, 154, 0, 5, 3, 172, 42, 180, 0, 16, 27, 46, 4, 96, 62, 29, 28, 163, 0, 41, 42, 42]
abbrev dktX1_reachesAcross_1 : List UInt8 := dkwX1_reachesAcross_1 ++ dktX1_reachesAcross_2
def dkwX1_reachesAcross_0 : List UInt8 := [42, 180, 0, 25, 27, 46, 16, 29, 159, 0, 22, 28, 42, 180, 0, 16, 27, 46, 42, 180, 0, 19, 27, 46]
abbrev dktX1_reachesAcross_0 : List UInt8 := dkwX1_reachesAcross_0 ++ dktX1_reachesAcross_1
theorem dksX1_reachesAcross_0 : cX1_reachesAcross.data.toList.drop 0 = dktX1_reachesAcross_0 := by decide +kernel
theorem dksX1_reachesAcross_1 : cX1_reachesAcross.data.toList.drop 24 = dktX1_reachesAcross_1 := dk_seg dksX1_reachesAcross_0 24 rfl rfl
theorem dksX1_reachesAcross_2 : cX1_reachesAcross.data.toList.drop 48 = dktX1_reachesAcross_2 := dk_seg dksX1_reachesAcross_1 24 rfl rfl
theorem dksX1_reachesAcross_3 : cX1_reachesAcross.data.toList.drop 70 = dktX1_reachesAcross_3 := dk_seg dksX1_reachesAcross_2 22 rfl rfl
theorem dX1_reachesAcross_0 : decode cX1_reachesAcross 0 = .ok (.aload_n 0, 1) := dk_42 (dk_at dksX1_reachesAcross_0 0 rfl rfl)
theorem dX1_reachesAcross_1 : decode cX1_reachesAcross 1 = .ok (.getfield 25, 3) := dk_180 0 25 (dk_at dksX1_reachesAcross_0 1 rfl rfl)
theorem dX1_reachesAcross_4 : decode cX1_reachesAcross 4 = .ok (.iload_n 1, 1) := dk_27 (dk_at dksX1_reachesAcross_0 4 rfl rfl)
theorem dX1_reachesAcross_5 : decode cX1_reachesAcross 5 = .ok (.iaload, 1) := dk_46 (dk_at dksX1_reachesAcross_0 5 rfl rfl)
theorem dX1_reachesAcross_6 : decode cX1_reachesAcross 6 = .ok (.bipush 29, 2) := dk_16 29 (dk_at dksX1_reachesAcross_0 6 rfl rfl)
theorem dX1_reachesAcross_8 : decode cX1_reachesAcross 8 = .ok (.if_icmp .eq 22, 3) := dk_159 0 22 (dk_at dksX1_reachesAcross_0 8 rfl rfl)
theorem dX1_reachesAcross_11 : decode cX1_reachesAcross 11 = .ok (.iload_n 2, 1) := dk_28 (dk_at dksX1_reachesAcross_0 11 rfl rfl)
theorem dX1_reachesAcross_12 : decode cX1_reachesAcross 12 = .ok (.aload_n 0, 1) := dk_42 (dk_at dksX1_reachesAcross_0 12 rfl rfl)
theorem dX1_reachesAcross_13 : decode cX1_reachesAcross 13 = .ok (.getfield 16, 3) := dk_180 0 16 (dk_at dksX1_reachesAcross_0 13 rfl rfl)
theorem dX1_reachesAcross_16 : decode cX1_reachesAcross 16 = .ok (.iload_n 1, 1) := dk_27 (dk_at dksX1_reachesAcross_0 16 rfl rfl)
theorem dX1_reachesAcross_17 : decode cX1_reachesAcross 17 = .ok (.iaload, 1) := dk_46 (dk_at dksX1_reachesAcross_0 17 rfl rfl)
theorem dX1_reachesAcross_18 : decode cX1_reachesAcross 18 = .ok (.aload_n 0, 1) := dk_42 (dk_at dksX1_reachesAcross_0 18 rfl rfl)
theorem dX1_reachesAcross_19 : decode cX1_reachesAcross 19 = .ok (.getfield 19, 3) := dk_180 0 19 (dk_at dksX1_reachesAcross_0 19 rfl rfl)
theorem dX1_reachesAcross_22 : decode cX1_reachesAcross 22 = .ok (.iload_n 1, 1) := dk_27 (dk_at dksX1_reachesAcross_0 22 rfl rfl)
theorem dX1_reachesAcross_23 : decode cX1_reachesAcross 23 = .ok (.iaload, 1) := dk_46 (dk_at dksX1_reachesAcross_0 23 rfl rfl)
theorem dX1_reachesAcross_24 : decode cX1_reachesAcross 24 = .ok (.invokestatic 102, 3) := dk_184 0 102 (dk_at dksX1_reachesAcross_1 0 rfl rfl)
theorem dX1_reachesAcross_27 : decode cX1_reachesAcross 27 = .ok (.ifCond .ne 5, 3) := dk_154 0 5 (dk_at dksX1_reachesAcross_1 3 rfl rfl)
theorem dX1_reachesAcross_30 : decode cX1_reachesAcross 30 = .ok (.iconst 0, 1) := dk_3 (dk_at dksX1_reachesAcross_1 6 rfl rfl)
theorem dX1_reachesAcross_31 : decode cX1_reachesAcross 31 = .ok (.ireturn, 1) := dk_172 (dk_at dksX1_reachesAcross_1 7 rfl rfl)
theorem dX1_reachesAcross_32 : decode cX1_reachesAcross 32 = .ok (.aload_n 0, 1) := dk_42 (dk_at dksX1_reachesAcross_1 8 rfl rfl)
theorem dX1_reachesAcross_33 : decode cX1_reachesAcross 33 = .ok (.getfield 16, 3) := dk_180 0 16 (dk_at dksX1_reachesAcross_1 9 rfl rfl)
theorem dX1_reachesAcross_36 : decode cX1_reachesAcross 36 = .ok (.iload_n 1, 1) := dk_27 (dk_at dksX1_reachesAcross_1 12 rfl rfl)
theorem dX1_reachesAcross_37 : decode cX1_reachesAcross 37 = .ok (.iaload, 1) := dk_46 (dk_at dksX1_reachesAcross_1 13 rfl rfl)
theorem dX1_reachesAcross_38 : decode cX1_reachesAcross 38 = .ok (.iconst 1, 1) := dk_4 (dk_at dksX1_reachesAcross_1 14 rfl rfl)
theorem dX1_reachesAcross_39 : decode cX1_reachesAcross 39 = .ok (.iadd, 1) := dk_96 (dk_at dksX1_reachesAcross_1 15 rfl rfl)
theorem dX1_reachesAcross_40 : decode cX1_reachesAcross 40 = .ok (.istore_n 3, 1) := dk_62 (dk_at dksX1_reachesAcross_1 16 rfl rfl)
theorem dX1_reachesAcross_41 : decode cX1_reachesAcross 41 = .ok (.iload_n 3, 1) := dk_29 (dk_at dksX1_reachesAcross_1 17 rfl rfl)
theorem dX1_reachesAcross_42 : decode cX1_reachesAcross 42 = .ok (.iload_n 2, 1) := dk_28 (dk_at dksX1_reachesAcross_1 18 rfl rfl)
theorem dX1_reachesAcross_43 : decode cX1_reachesAcross 43 = .ok (.if_icmp .gt 41, 3) := dk_163 0 41 (dk_at dksX1_reachesAcross_1 19 rfl rfl)
theorem dX1_reachesAcross_46 : decode cX1_reachesAcross 46 = .ok (.aload_n 0, 1) := dk_42 (dk_at dksX1_reachesAcross_1 22 rfl rfl)
theorem dX1_reachesAcross_47 : decode cX1_reachesAcross 47 = .ok (.aload_n 0, 1) := dk_42 (dk_at dksX1_reachesAcross_1 23 rfl rfl)
theorem dX1_reachesAcross_48 : decode cX1_reachesAcross 48 = .ok (.getfield 7, 3) := dk_180 0 7 (dk_at dksX1_reachesAcross_2 0 rfl rfl)
theorem dX1_reachesAcross_51 : decode cX1_reachesAcross 51 = .ok (.iload_n 1, 1) := dk_27 (dk_at dksX1_reachesAcross_2 3 rfl rfl)
theorem dX1_reachesAcross_52 : decode cX1_reachesAcross 52 = .ok (.iaload, 1) := dk_46 (dk_at dksX1_reachesAcross_2 4 rfl rfl)
theorem dX1_reachesAcross_53 : decode cX1_reachesAcross 53 = .ok (.iload_n 3, 1) := dk_29 (dk_at dksX1_reachesAcross_2 5 rfl rfl)
theorem dX1_reachesAcross_54 : decode cX1_reachesAcross 54 = .ok (.aload_n 0, 1) := dk_42 (dk_at dksX1_reachesAcross_2 6 rfl rfl)
theorem dX1_reachesAcross_55 : decode cX1_reachesAcross 55 = .ok (.getfield 25, 3) := dk_180 0 25 (dk_at dksX1_reachesAcross_2 7 rfl rfl)
theorem dX1_reachesAcross_58 : decode cX1_reachesAcross 58 = .ok (.iload_n 1, 1) := dk_27 (dk_at dksX1_reachesAcross_2 10 rfl rfl)
theorem dX1_reachesAcross_59 : decode cX1_reachesAcross 59 = .ok (.iaload, 1) := dk_46 (dk_at dksX1_reachesAcross_2 11 rfl rfl)
theorem dX1_reachesAcross_60 : decode cX1_reachesAcross 60 = .ok (.iconst 1, 1) := dk_4 (dk_at dksX1_reachesAcross_2 12 rfl rfl)
theorem dX1_reachesAcross_61 : decode cX1_reachesAcross 61 = .ok (.iadd, 1) := dk_96 (dk_at dksX1_reachesAcross_2 13 rfl rfl)
theorem dX1_reachesAcross_62 : decode cX1_reachesAcross 62 = .ok (.aload_n 0, 1) := dk_42 (dk_at dksX1_reachesAcross_2 14 rfl rfl)
theorem dX1_reachesAcross_63 : decode cX1_reachesAcross 63 = .ok (.getfield 25, 3) := dk_180 0 25 (dk_at dksX1_reachesAcross_2 15 rfl rfl)
theorem dX1_reachesAcross_66 : decode cX1_reachesAcross 66 = .ok (.iload_n 1, 1) := dk_27 (dk_at dksX1_reachesAcross_2 18 rfl rfl)
theorem dX1_reachesAcross_67 : decode cX1_reachesAcross 67 = .ok (.iaload, 1) := dk_46 (dk_at dksX1_reachesAcross_2 19 rfl rfl)
theorem dX1_reachesAcross_68 : decode cX1_reachesAcross 68 = .ok (.iconst 1, 1) := dk_4 (dk_at dksX1_reachesAcross_2 20 rfl rfl)
theorem dX1_reachesAcross_69 : decode cX1_reachesAcross 69 = .ok (.iadd, 1) := dk_96 (dk_at dksX1_reachesAcross_2 21 rfl rfl)
theorem dX1_reachesAcross_70 : decode cX1_reachesAcross 70 = .ok (.invokevirtual 117, 3) := dk_182 0 117 (dk_at dksX1_reachesAcross_3 0 rfl rfl)
theorem dX1_reachesAcross_73 : decode cX1_reachesAcross 73 = .ok (.ifCond .eq 5, 3) := dk_153 0 5 (dk_at dksX1_reachesAcross_3 3 rfl rfl)
theorem dX1_reachesAcross_76 : decode cX1_reachesAcross 76 = .ok (.iconst 0, 1) := dk_3 (dk_at dksX1_reachesAcross_3 6 rfl rfl)
theorem dX1_reachesAcross_77 : decode cX1_reachesAcross 77 = .ok (.ireturn, 1) := dk_172 (dk_at dksX1_reachesAcross_3 7 rfl rfl)
theorem dX1_reachesAcross_78 : decode cX1_reachesAcross 78 = .ok (.iinc 3 1, 3) := dk_132 3 1 (dk_at dksX1_reachesAcross_3 8 rfl rfl)
theorem dX1_reachesAcross_81 : decode cX1_reachesAcross 81 = .ok (.goto (-40), 3) := dk_167 255 216 (dk_at dksX1_reachesAcross_3 11 rfl rfl)
theorem dX1_reachesAcross_84 : decode cX1_reachesAcross 84 = .ok (.iconst 1, 1) := dk_4 (dk_at dksX1_reachesAcross_3 14 rfl rfl)
theorem dX1_reachesAcross_85 : decode cX1_reachesAcross 85 = .ok (.ireturn, 1) := dk_172 (dk_at dksX1_reachesAcross_3 15 rfl rfl)
abbrev cX1_isUpright : ByteArray := prog_14_method_16_code
def yX1_isUpright : MethodName := ⟨RX1, "isUpright", "(IIII)Z"⟩
def dkwX1_isUpright_3 : List UInt8 := [167, 255, 187, 3, 172]
abbrev dktX1_isUpright_3 : List UInt8 := dkwX1_isUpright_3 ++ []
def dkwX1_isUpright_2 : List UInt8 := [21, 5, 46, 21, 4, 163, 0, 16, 42, 180, 0, 49, 21, 5, 46, 29, 161, 0, 5, 4, 172, 132, 5, 1]
abbrev dktX1_isUpright_2 : List UInt8 := dkwX1_isUpright_2 ++ dktX1_isUpright_3
def dkwX1_isUpright_1 : List UInt8 := [180, 0, 40, 21, 5, 46, 154, 0, 39, 42, 180, 0, 43, 21, 5, 46, 28, 160, 0, 28, 42, 180, 0, 46]
abbrev dktX1_isUpright_1 : List UInt8 := dkwX1_isUpright_1 ++ dktX1_isUpright_2
def dkwX1_isUpright_0 : List UInt8 := [3, 54, 5, 21, 5, 42, 180, 0, 114, 162, 0, 66, 42, 180, 0, 37, 21, 5, 46, 27, 160, 0, 49, 42]
abbrev dktX1_isUpright_0 : List UInt8 := dkwX1_isUpright_0 ++ dktX1_isUpright_1
theorem dksX1_isUpright_0 : cX1_isUpright.data.toList.drop 0 = dktX1_isUpright_0 := by decide +kernel
theorem dksX1_isUpright_1 : cX1_isUpright.data.toList.drop 24 = dktX1_isUpright_1 := dk_seg dksX1_isUpright_0 24 rfl rfl
theorem dksX1_isUpright_2 : cX1_isUpright.data.toList.drop 48 = dktX1_isUpright_2 := dk_seg dksX1_isUpright_1 24 rfl rfl
theorem dksX1_isUpright_3 : cX1_isUpright.data.toList.drop 72 = dktX1_isUpright_3 := dk_seg dksX1_isUpright_2 24 rfl rfl
theorem dX1_isUpright_0 : decode cX1_isUpright 0 = .ok (.iconst 0, 1) := dk_3 (dk_at dksX1_isUpright_0 0 rfl rfl)
theorem dX1_isUpright_1 : decode cX1_isUpright 1 = .ok (.istore 5, 2) := dk_54 5 (dk_at dksX1_isUpright_0 1 rfl rfl)
theorem dX1_isUpright_3 : decode cX1_isUpright 3 = .ok (.iload 5, 2) := dk_21 5 (dk_at dksX1_isUpright_0 3 rfl rfl)
theorem dX1_isUpright_5 : decode cX1_isUpright 5 = .ok (.aload_n 0, 1) := dk_42 (dk_at dksX1_isUpright_0 5 rfl rfl)
theorem dX1_isUpright_6 : decode cX1_isUpright 6 = .ok (.getfield 114, 3) := dk_180 0 114 (dk_at dksX1_isUpright_0 6 rfl rfl)
theorem dX1_isUpright_9 : decode cX1_isUpright 9 = .ok (.if_icmp .ge 66, 3) := dk_162 0 66 (dk_at dksX1_isUpright_0 9 rfl rfl)
theorem dX1_isUpright_12 : decode cX1_isUpright 12 = .ok (.aload_n 0, 1) := dk_42 (dk_at dksX1_isUpright_0 12 rfl rfl)
theorem dX1_isUpright_13 : decode cX1_isUpright 13 = .ok (.getfield 37, 3) := dk_180 0 37 (dk_at dksX1_isUpright_0 13 rfl rfl)
theorem dX1_isUpright_16 : decode cX1_isUpright 16 = .ok (.iload 5, 2) := dk_21 5 (dk_at dksX1_isUpright_0 16 rfl rfl)
theorem dX1_isUpright_18 : decode cX1_isUpright 18 = .ok (.iaload, 1) := dk_46 (dk_at dksX1_isUpright_0 18 rfl rfl)
theorem dX1_isUpright_19 : decode cX1_isUpright 19 = .ok (.iload_n 1, 1) := dk_27 (dk_at dksX1_isUpright_0 19 rfl rfl)
theorem dX1_isUpright_20 : decode cX1_isUpright 20 = .ok (.if_icmp .ne 49, 3) := dk_160 0 49 (dk_at dksX1_isUpright_0 20 rfl rfl)
theorem dX1_isUpright_23 : decode cX1_isUpright 23 = .ok (.aload_n 0, 1) := dk_42 (dk_at dksX1_isUpright_0 23 rfl rfl)
theorem dX1_isUpright_24 : decode cX1_isUpright 24 = .ok (.getfield 40, 3) := dk_180 0 40 (dk_at dksX1_isUpright_1 0 rfl rfl)
theorem dX1_isUpright_27 : decode cX1_isUpright 27 = .ok (.iload 5, 2) := dk_21 5 (dk_at dksX1_isUpright_1 3 rfl rfl)
theorem dX1_isUpright_29 : decode cX1_isUpright 29 = .ok (.iaload, 1) := dk_46 (dk_at dksX1_isUpright_1 5 rfl rfl)
theorem dX1_isUpright_30 : decode cX1_isUpright 30 = .ok (.ifCond .ne 39, 3) := dk_154 0 39 (dk_at dksX1_isUpright_1 6 rfl rfl)
theorem dX1_isUpright_33 : decode cX1_isUpright 33 = .ok (.aload_n 0, 1) := dk_42 (dk_at dksX1_isUpright_1 9 rfl rfl)
theorem dX1_isUpright_34 : decode cX1_isUpright 34 = .ok (.getfield 43, 3) := dk_180 0 43 (dk_at dksX1_isUpright_1 10 rfl rfl)
theorem dX1_isUpright_37 : decode cX1_isUpright 37 = .ok (.iload 5, 2) := dk_21 5 (dk_at dksX1_isUpright_1 13 rfl rfl)
theorem dX1_isUpright_39 : decode cX1_isUpright 39 = .ok (.iaload, 1) := dk_46 (dk_at dksX1_isUpright_1 15 rfl rfl)
theorem dX1_isUpright_40 : decode cX1_isUpright 40 = .ok (.iload_n 2, 1) := dk_28 (dk_at dksX1_isUpright_1 16 rfl rfl)
theorem dX1_isUpright_41 : decode cX1_isUpright 41 = .ok (.if_icmp .ne 28, 3) := dk_160 0 28 (dk_at dksX1_isUpright_1 17 rfl rfl)
theorem dX1_isUpright_44 : decode cX1_isUpright 44 = .ok (.aload_n 0, 1) := dk_42 (dk_at dksX1_isUpright_1 20 rfl rfl)
theorem dX1_isUpright_45 : decode cX1_isUpright 45 = .ok (.getfield 46, 3) := dk_180 0 46 (dk_at dksX1_isUpright_1 21 rfl rfl)
theorem dX1_isUpright_48 : decode cX1_isUpright 48 = .ok (.iload 5, 2) := dk_21 5 (dk_at dksX1_isUpright_2 0 rfl rfl)
theorem dX1_isUpright_50 : decode cX1_isUpright 50 = .ok (.iaload, 1) := dk_46 (dk_at dksX1_isUpright_2 2 rfl rfl)
theorem dX1_isUpright_51 : decode cX1_isUpright 51 = .ok (.iload 4, 2) := dk_21 4 (dk_at dksX1_isUpright_2 3 rfl rfl)
theorem dX1_isUpright_53 : decode cX1_isUpright 53 = .ok (.if_icmp .gt 16, 3) := dk_163 0 16 (dk_at dksX1_isUpright_2 5 rfl rfl)
theorem dX1_isUpright_56 : decode cX1_isUpright 56 = .ok (.aload_n 0, 1) := dk_42 (dk_at dksX1_isUpright_2 8 rfl rfl)
theorem dX1_isUpright_57 : decode cX1_isUpright 57 = .ok (.getfield 49, 3) := dk_180 0 49 (dk_at dksX1_isUpright_2 9 rfl rfl)
theorem dX1_isUpright_60 : decode cX1_isUpright 60 = .ok (.iload 5, 2) := dk_21 5 (dk_at dksX1_isUpright_2 12 rfl rfl)
theorem dX1_isUpright_62 : decode cX1_isUpright 62 = .ok (.iaload, 1) := dk_46 (dk_at dksX1_isUpright_2 14 rfl rfl)
theorem dX1_isUpright_63 : decode cX1_isUpright 63 = .ok (.iload_n 3, 1) := dk_29 (dk_at dksX1_isUpright_2 15 rfl rfl)
theorem dX1_isUpright_64 : decode cX1_isUpright 64 = .ok (.if_icmp .lt 5, 3) := dk_161 0 5 (dk_at dksX1_isUpright_2 16 rfl rfl)
theorem dX1_isUpright_67 : decode cX1_isUpright 67 = .ok (.iconst 1, 1) := dk_4 (dk_at dksX1_isUpright_2 19 rfl rfl)
theorem dX1_isUpright_68 : decode cX1_isUpright 68 = .ok (.ireturn, 1) := dk_172 (dk_at dksX1_isUpright_2 20 rfl rfl)
theorem dX1_isUpright_69 : decode cX1_isUpright 69 = .ok (.iinc 5 1, 3) := dk_132 5 1 (dk_at dksX1_isUpright_2 21 rfl rfl)
theorem dX1_isUpright_72 : decode cX1_isUpright 72 = .ok (.goto (-69), 3) := dk_167 255 187 (dk_at dksX1_isUpright_3 0 rfl rfl)
theorem dX1_isUpright_75 : decode cX1_isUpright 75 = .ok (.iconst 0, 1) := dk_3 (dk_at dksX1_isUpright_3 3 rfl rfl)
theorem dX1_isUpright_76 : decode cX1_isUpright 76 = .ok (.ireturn, 1) := dk_172 (dk_at dksX1_isUpright_3 4 rfl rfl)
abbrev cX1_under : ByteArray := prog_14_method_28_code
def yX1_under : MethodName := ⟨RX1, "under", "(I)I"⟩
def dkwX1_under_1 : List UInt8 := [42, 27, 182, 0, 143, 172]
abbrev dktX1_under_1 : List UInt8 := dkwX1_under_1 ++ []
def dkwX1_under_0 : List UInt8 := [42, 27, 182, 0, 110, 154, 0, 5, 2, 172, 42, 180, 0, 13, 27, 46, 154, 0, 8, 16, 253, 167, 0, 8]
abbrev dktX1_under_0 : List UInt8 := dkwX1_under_0 ++ dktX1_under_1
theorem dksX1_under_0 : cX1_under.data.toList.drop 0 = dktX1_under_0 := by decide +kernel
theorem dksX1_under_1 : cX1_under.data.toList.drop 24 = dktX1_under_1 := dk_seg dksX1_under_0 24 rfl rfl
theorem dX1_under_0 : decode cX1_under 0 = .ok (.aload_n 0, 1) := dk_42 (dk_at dksX1_under_0 0 rfl rfl)
theorem dX1_under_1 : decode cX1_under 1 = .ok (.iload_n 1, 1) := dk_27 (dk_at dksX1_under_0 1 rfl rfl)
theorem dX1_under_2 : decode cX1_under 2 = .ok (.invokevirtual 110, 3) := dk_182 0 110 (dk_at dksX1_under_0 2 rfl rfl)
theorem dX1_under_5 : decode cX1_under 5 = .ok (.ifCond .ne 5, 3) := dk_154 0 5 (dk_at dksX1_under_0 5 rfl rfl)
theorem dX1_under_8 : decode cX1_under 8 = .ok (.iconst (-1), 1) := dk_2 (dk_at dksX1_under_0 8 rfl rfl)
theorem dX1_under_9 : decode cX1_under 9 = .ok (.ireturn, 1) := dk_172 (dk_at dksX1_under_0 9 rfl rfl)
theorem dX1_under_10 : decode cX1_under 10 = .ok (.aload_n 0, 1) := dk_42 (dk_at dksX1_under_0 10 rfl rfl)
theorem dX1_under_11 : decode cX1_under 11 = .ok (.getfield 13, 3) := dk_180 0 13 (dk_at dksX1_under_0 11 rfl rfl)
theorem dX1_under_14 : decode cX1_under 14 = .ok (.iload_n 1, 1) := dk_27 (dk_at dksX1_under_0 14 rfl rfl)
theorem dX1_under_15 : decode cX1_under 15 = .ok (.iaload, 1) := dk_46 (dk_at dksX1_under_0 15 rfl rfl)
theorem dX1_under_16 : decode cX1_under 16 = .ok (.ifCond .ne 8, 3) := dk_154 0 8 (dk_at dksX1_under_0 16 rfl rfl)
theorem dX1_under_19 : decode cX1_under 19 = .ok (.bipush (-3), 2) := dk_16 253 (dk_at dksX1_under_0 19 rfl rfl)
theorem dX1_under_21 : decode cX1_under 21 = .ok (.goto 8, 3) := dk_167 0 8 (dk_at dksX1_under_0 21 rfl rfl)
theorem dX1_under_24 : decode cX1_under 24 = .ok (.aload_n 0, 1) := dk_42 (dk_at dksX1_under_1 0 rfl rfl)
theorem dX1_under_25 : decode cX1_under 25 = .ok (.iload_n 1, 1) := dk_27 (dk_at dksX1_under_1 1 rfl rfl)
theorem dX1_under_26 : decode cX1_under 26 = .ok (.invokevirtual 143, 3) := dk_182 0 143 (dk_at dksX1_under_1 2 rfl rfl)
theorem dX1_under_29 : decode cX1_under 29 = .ok (.ireturn, 1) := dk_172 (dk_at dksX1_under_1 5 rfl rfl)
abbrev cX1_headOver : ByteArray := prog_14_method_19_code
def yX1_headOver : MethodName := ⟨RX1, "headOver", "(I)I"⟩
def dkwX1_headOver_4 : List UInt8 := [167, 255, 165, 16, 247, 172]
abbrev dktX1_headOver_4 : List UInt8 := dkwX1_headOver_4 ++ []
def dkwX1_headOver_3 : List UInt8 := [42, 180, 0, 16, 27, 46, 182, 0, 125, 42, 180, 0, 22, 27, 46, 161, 0, 5, 28, 172, 132, 2, 1]
abbrev dktX1_headOver_3 : List UInt8 := dkwX1_headOver_3 ++ dktX1_headOver_4
def dkwX1_headOver_2 : List UInt8 := [164, 0, 16, 42, 180, 0, 13, 27, 46, 153, 0, 7, 4, 167, 0, 4, 3, 62, 29, 153, 0, 25, 42, 28]
abbrev dktX1_headOver_2 : List UInt8 := dkwX1_headOver_2 ++ dktX1_headOver_3
def dkwX1_headOver_1 : List UInt8 := [46, 42, 180, 0, 7, 27, 46, 160, 0, 31, 42, 180, 0, 22, 27, 46, 42, 180, 0, 25, 28, 46]
abbrev dktX1_headOver_1 : List UInt8 := dkwX1_headOver_1 ++ dktX1_headOver_2
def dkwX1_headOver_0 : List UInt8 := [3, 61, 28, 42, 180, 0, 98, 162, 0, 89, 42, 180, 0, 13, 28, 46, 154, 0, 46, 42, 180, 0, 7, 28]
abbrev dktX1_headOver_0 : List UInt8 := dkwX1_headOver_0 ++ dktX1_headOver_1
theorem dksX1_headOver_0 : cX1_headOver.data.toList.drop 0 = dktX1_headOver_0 := by decide +kernel
theorem dksX1_headOver_1 : cX1_headOver.data.toList.drop 24 = dktX1_headOver_1 := dk_seg dksX1_headOver_0 24 rfl rfl
theorem dksX1_headOver_2 : cX1_headOver.data.toList.drop 46 = dktX1_headOver_2 := dk_seg dksX1_headOver_1 22 rfl rfl
theorem dksX1_headOver_3 : cX1_headOver.data.toList.drop 70 = dktX1_headOver_3 := dk_seg dksX1_headOver_2 24 rfl rfl
theorem dksX1_headOver_4 : cX1_headOver.data.toList.drop 93 = dktX1_headOver_4 := dk_seg dksX1_headOver_3 23 rfl rfl
theorem dX1_headOver_0 : decode cX1_headOver 0 = .ok (.iconst 0, 1) := dk_3 (dk_at dksX1_headOver_0 0 rfl rfl)
theorem dX1_headOver_1 : decode cX1_headOver 1 = .ok (.istore_n 2, 1) := dk_61 (dk_at dksX1_headOver_0 1 rfl rfl)
theorem dX1_headOver_2 : decode cX1_headOver 2 = .ok (.iload_n 2, 1) := dk_28 (dk_at dksX1_headOver_0 2 rfl rfl)
theorem dX1_headOver_3 : decode cX1_headOver 3 = .ok (.aload_n 0, 1) := dk_42 (dk_at dksX1_headOver_0 3 rfl rfl)
theorem dX1_headOver_4 : decode cX1_headOver 4 = .ok (.getfield 98, 3) := dk_180 0 98 (dk_at dksX1_headOver_0 4 rfl rfl)
theorem dX1_headOver_7 : decode cX1_headOver 7 = .ok (.if_icmp .ge 89, 3) := dk_162 0 89 (dk_at dksX1_headOver_0 7 rfl rfl)
theorem dX1_headOver_10 : decode cX1_headOver 10 = .ok (.aload_n 0, 1) := dk_42 (dk_at dksX1_headOver_0 10 rfl rfl)
theorem dX1_headOver_11 : decode cX1_headOver 11 = .ok (.getfield 13, 3) := dk_180 0 13 (dk_at dksX1_headOver_0 11 rfl rfl)
theorem dX1_headOver_14 : decode cX1_headOver 14 = .ok (.iload_n 2, 1) := dk_28 (dk_at dksX1_headOver_0 14 rfl rfl)
theorem dX1_headOver_15 : decode cX1_headOver 15 = .ok (.iaload, 1) := dk_46 (dk_at dksX1_headOver_0 15 rfl rfl)
theorem dX1_headOver_16 : decode cX1_headOver 16 = .ok (.ifCond .ne 46, 3) := dk_154 0 46 (dk_at dksX1_headOver_0 16 rfl rfl)
theorem dX1_headOver_19 : decode cX1_headOver 19 = .ok (.aload_n 0, 1) := dk_42 (dk_at dksX1_headOver_0 19 rfl rfl)
theorem dX1_headOver_20 : decode cX1_headOver 20 = .ok (.getfield 7, 3) := dk_180 0 7 (dk_at dksX1_headOver_0 20 rfl rfl)
theorem dX1_headOver_23 : decode cX1_headOver 23 = .ok (.iload_n 2, 1) := dk_28 (dk_at dksX1_headOver_0 23 rfl rfl)
theorem dX1_headOver_24 : decode cX1_headOver 24 = .ok (.iaload, 1) := dk_46 (dk_at dksX1_headOver_1 0 rfl rfl)
theorem dX1_headOver_25 : decode cX1_headOver 25 = .ok (.aload_n 0, 1) := dk_42 (dk_at dksX1_headOver_1 1 rfl rfl)
theorem dX1_headOver_26 : decode cX1_headOver 26 = .ok (.getfield 7, 3) := dk_180 0 7 (dk_at dksX1_headOver_1 2 rfl rfl)
theorem dX1_headOver_29 : decode cX1_headOver 29 = .ok (.iload_n 1, 1) := dk_27 (dk_at dksX1_headOver_1 5 rfl rfl)
theorem dX1_headOver_30 : decode cX1_headOver 30 = .ok (.iaload, 1) := dk_46 (dk_at dksX1_headOver_1 6 rfl rfl)
theorem dX1_headOver_31 : decode cX1_headOver 31 = .ok (.if_icmp .ne 31, 3) := dk_160 0 31 (dk_at dksX1_headOver_1 7 rfl rfl)
theorem dX1_headOver_34 : decode cX1_headOver 34 = .ok (.aload_n 0, 1) := dk_42 (dk_at dksX1_headOver_1 10 rfl rfl)
theorem dX1_headOver_35 : decode cX1_headOver 35 = .ok (.getfield 22, 3) := dk_180 0 22 (dk_at dksX1_headOver_1 11 rfl rfl)
theorem dX1_headOver_38 : decode cX1_headOver 38 = .ok (.iload_n 1, 1) := dk_27 (dk_at dksX1_headOver_1 14 rfl rfl)
theorem dX1_headOver_39 : decode cX1_headOver 39 = .ok (.iaload, 1) := dk_46 (dk_at dksX1_headOver_1 15 rfl rfl)
theorem dX1_headOver_40 : decode cX1_headOver 40 = .ok (.aload_n 0, 1) := dk_42 (dk_at dksX1_headOver_1 16 rfl rfl)
theorem dX1_headOver_41 : decode cX1_headOver 41 = .ok (.getfield 25, 3) := dk_180 0 25 (dk_at dksX1_headOver_1 17 rfl rfl)
theorem dX1_headOver_44 : decode cX1_headOver 44 = .ok (.iload_n 2, 1) := dk_28 (dk_at dksX1_headOver_1 20 rfl rfl)
theorem dX1_headOver_45 : decode cX1_headOver 45 = .ok (.iaload, 1) := dk_46 (dk_at dksX1_headOver_1 21 rfl rfl)
theorem dX1_headOver_46 : decode cX1_headOver 46 = .ok (.if_icmp .le 16, 3) := dk_164 0 16 (dk_at dksX1_headOver_2 0 rfl rfl)
theorem dX1_headOver_49 : decode cX1_headOver 49 = .ok (.aload_n 0, 1) := dk_42 (dk_at dksX1_headOver_2 3 rfl rfl)
theorem dX1_headOver_50 : decode cX1_headOver 50 = .ok (.getfield 13, 3) := dk_180 0 13 (dk_at dksX1_headOver_2 4 rfl rfl)
theorem dX1_headOver_53 : decode cX1_headOver 53 = .ok (.iload_n 1, 1) := dk_27 (dk_at dksX1_headOver_2 7 rfl rfl)
theorem dX1_headOver_54 : decode cX1_headOver 54 = .ok (.iaload, 1) := dk_46 (dk_at dksX1_headOver_2 8 rfl rfl)
theorem dX1_headOver_55 : decode cX1_headOver 55 = .ok (.ifCond .eq 7, 3) := dk_153 0 7 (dk_at dksX1_headOver_2 9 rfl rfl)
theorem dX1_headOver_58 : decode cX1_headOver 58 = .ok (.iconst 1, 1) := dk_4 (dk_at dksX1_headOver_2 12 rfl rfl)
theorem dX1_headOver_59 : decode cX1_headOver 59 = .ok (.goto 4, 3) := dk_167 0 4 (dk_at dksX1_headOver_2 13 rfl rfl)
theorem dX1_headOver_62 : decode cX1_headOver 62 = .ok (.iconst 0, 1) := dk_3 (dk_at dksX1_headOver_2 16 rfl rfl)
theorem dX1_headOver_63 : decode cX1_headOver 63 = .ok (.istore_n 3, 1) := dk_62 (dk_at dksX1_headOver_2 17 rfl rfl)
theorem dX1_headOver_64 : decode cX1_headOver 64 = .ok (.iload_n 3, 1) := dk_29 (dk_at dksX1_headOver_2 18 rfl rfl)
theorem dX1_headOver_65 : decode cX1_headOver 65 = .ok (.ifCond .eq 25, 3) := dk_153 0 25 (dk_at dksX1_headOver_2 19 rfl rfl)
theorem dX1_headOver_68 : decode cX1_headOver 68 = .ok (.aload_n 0, 1) := dk_42 (dk_at dksX1_headOver_2 22 rfl rfl)
theorem dX1_headOver_69 : decode cX1_headOver 69 = .ok (.iload_n 2, 1) := dk_28 (dk_at dksX1_headOver_2 23 rfl rfl)
theorem dX1_headOver_70 : decode cX1_headOver 70 = .ok (.aload_n 0, 1) := dk_42 (dk_at dksX1_headOver_3 0 rfl rfl)
theorem dX1_headOver_71 : decode cX1_headOver 71 = .ok (.getfield 16, 3) := dk_180 0 16 (dk_at dksX1_headOver_3 1 rfl rfl)
theorem dX1_headOver_74 : decode cX1_headOver 74 = .ok (.iload_n 1, 1) := dk_27 (dk_at dksX1_headOver_3 4 rfl rfl)
theorem dX1_headOver_75 : decode cX1_headOver 75 = .ok (.iaload, 1) := dk_46 (dk_at dksX1_headOver_3 5 rfl rfl)
theorem dX1_headOver_76 : decode cX1_headOver 76 = .ok (.invokevirtual 125, 3) := dk_182 0 125 (dk_at dksX1_headOver_3 6 rfl rfl)
theorem dX1_headOver_79 : decode cX1_headOver 79 = .ok (.aload_n 0, 1) := dk_42 (dk_at dksX1_headOver_3 9 rfl rfl)
theorem dX1_headOver_80 : decode cX1_headOver 80 = .ok (.getfield 22, 3) := dk_180 0 22 (dk_at dksX1_headOver_3 10 rfl rfl)
theorem dX1_headOver_83 : decode cX1_headOver 83 = .ok (.iload_n 1, 1) := dk_27 (dk_at dksX1_headOver_3 13 rfl rfl)
theorem dX1_headOver_84 : decode cX1_headOver 84 = .ok (.iaload, 1) := dk_46 (dk_at dksX1_headOver_3 14 rfl rfl)
theorem dX1_headOver_85 : decode cX1_headOver 85 = .ok (.if_icmp .lt 5, 3) := dk_161 0 5 (dk_at dksX1_headOver_3 15 rfl rfl)
theorem dX1_headOver_88 : decode cX1_headOver 88 = .ok (.iload_n 2, 1) := dk_28 (dk_at dksX1_headOver_3 18 rfl rfl)
theorem dX1_headOver_89 : decode cX1_headOver 89 = .ok (.ireturn, 1) := dk_172 (dk_at dksX1_headOver_3 19 rfl rfl)
theorem dX1_headOver_90 : decode cX1_headOver 90 = .ok (.iinc 2 1, 3) := dk_132 2 1 (dk_at dksX1_headOver_3 20 rfl rfl)
theorem dX1_headOver_93 : decode cX1_headOver 93 = .ok (.goto (-91), 3) := dk_167 255 165 (dk_at dksX1_headOver_4 0 rfl rfl)
theorem dX1_headOver_96 : decode cX1_headOver 96 = .ok (.bipush (-9), 2) := dk_16 247 (dk_at dksX1_headOver_4 3 rfl rfl)
theorem dX1_headOver_98 : decode cX1_headOver 98 = .ok (.ireturn, 1) := dk_172 (dk_at dksX1_headOver_4 5 rfl rfl)
abbrev cX1_story : ByteArray := prog_14_method_29_code
def yX1_story : MethodName := ⟨RX1, "story", "(I)I"⟩
def dkwX1_story_0 : List UInt8 := [42, 27, 182, 0, 110, 154, 0, 5, 2, 172, 42, 182, 0, 159, 42, 180, 0, 70, 27, 46, 172]
abbrev dktX1_story_0 : List UInt8 := dkwX1_story_0 ++ []
theorem dksX1_story_0 : cX1_story.data.toList.drop 0 = dktX1_story_0 := by decide +kernel
theorem dX1_story_0 : decode cX1_story 0 = .ok (.aload_n 0, 1) := dk_42 (dk_at dksX1_story_0 0 rfl rfl)
theorem dX1_story_1 : decode cX1_story 1 = .ok (.iload_n 1, 1) := dk_27 (dk_at dksX1_story_0 1 rfl rfl)
theorem dX1_story_2 : decode cX1_story 2 = .ok (.invokevirtual 110, 3) := dk_182 0 110 (dk_at dksX1_story_0 2 rfl rfl)
theorem dX1_story_5 : decode cX1_story 5 = .ok (.ifCond .ne 5, 3) := dk_154 0 5 (dk_at dksX1_story_0 5 rfl rfl)
theorem dX1_story_8 : decode cX1_story 8 = .ok (.iconst (-1), 1) := dk_2 (dk_at dksX1_story_0 8 rfl rfl)
theorem dX1_story_9 : decode cX1_story 9 = .ok (.ireturn, 1) := dk_172 (dk_at dksX1_story_0 9 rfl rfl)
theorem dX1_story_10 : decode cX1_story 10 = .ok (.aload_n 0, 1) := dk_42 (dk_at dksX1_story_0 10 rfl rfl)
theorem dX1_story_11 : decode cX1_story 11 = .ok (.invokevirtual 159, 3) := dk_182 0 159 (dk_at dksX1_story_0 11 rfl rfl)
theorem dX1_story_14 : decode cX1_story 14 = .ok (.aload_n 0, 1) := dk_42 (dk_at dksX1_story_0 14 rfl rfl)
theorem dX1_story_15 : decode cX1_story 15 = .ok (.getfield 70, 3) := dk_180 0 70 (dk_at dksX1_story_0 15 rfl rfl)
theorem dX1_story_18 : decode cX1_story 18 = .ok (.iload_n 1, 1) := dk_27 (dk_at dksX1_story_0 18 rfl rfl)
theorem dX1_story_19 : decode cX1_story 19 = .ok (.iaload, 1) := dk_46 (dk_at dksX1_story_0 19 rfl rfl)
theorem dX1_story_20 : decode cX1_story 20 = .ok (.ireturn, 1) := dk_172 (dk_at dksX1_story_0 20 rfl rfl)
abbrev cX1_findStories : ByteArray := prog_14_method_26_code
def yX1_findStories : MethodName := ⟨RX1, "findStories", "()V"⟩
def dkwX1_findStories_13 : List UInt8 := [167, 0, 9, 42, 180, 0, 70, 28, 46, 79, 132, 2, 1, 167, 255, 162, 177]
abbrev dktX1_findStories_13 : List UInt8 := dkwX1_findStories_13 ++ []
def dkwX1_findStories_12 : List UInt8 := [159, 0, 12, 42, 180, 0, 70, 29, 46, 167, 0, 24, 42, 180, 0, 13, 28, 46, 5, 160, 0, 8, 16, 247]
abbrev dktX1_findStories_12 : List UInt8 := dkwX1_findStories_12 ++ dktX1_findStories_13
def dkwX1_findStories_11 : List UInt8 := [5, 160, 0, 12, 42, 180, 0, 52, 28, 46, 167, 0, 5, 16, 247, 62, 42, 180, 0, 70, 28, 29, 16, 247]
abbrev dktX1_findStories_11 : List UInt8 := dkwX1_findStories_11 ++ dktX1_findStories_12
def dkwX1_findStories_10 : List UInt8 := [180, 0, 13, 28, 46, 4, 160, 0, 12, 42, 180, 0, 55, 28, 46, 167, 0, 24, 42, 180, 0, 13, 28, 46]
abbrev dktX1_findStories_10 : List UInt8 := dkwX1_findStories_10 ++ dktX1_findStories_11
def dkwX1_findStories_9 : List UInt8 := [4, 96, 181, 0, 153, 132, 2, 1, 167, 255, 165, 3, 61, 28, 42, 180, 0, 98, 162, 0, 92, 42]
abbrev dktX1_findStories_9 : List UInt8 := dkwX1_findStories_9 ++ dktX1_findStories_10
def dkwX1_findStories_8 : List UInt8 := [180, 0, 67, 42, 180, 0, 153, 28, 79, 42, 180, 0, 70, 28, 42, 180, 0, 153, 79, 42, 89, 180, 0, 153]
abbrev dktX1_findStories_8 : List UInt8 := dkwX1_findStories_8 ++ dktX1_findStories_9
def dkwX1_findStories_7 : List UInt8 := [153, 0, 9, 42, 28, 28, 182, 0, 129, 29, 154, 0, 12, 42, 180, 0, 13, 28, 46, 154, 0, 33, 42]
abbrev dktX1_findStories_7 : List UInt8 := dkwX1_findStories_7 ++ dktX1_findStories_8
def dkwX1_findStories_6 : List UInt8 := [4, 160, 0, 18, 42, 180, 0, 55, 28, 46, 16, 247, 160, 0, 7, 4, 167, 0, 4, 3, 62, 29]
abbrev dktX1_findStories_6 : List UInt8 := dkwX1_findStories_6 ++ dktX1_findStories_7
def dkwX1_findStories_5 : List UInt8 := [167, 255, 247, 42, 3, 181, 0, 153, 3, 61, 28, 42, 180, 0, 98, 162, 0, 89, 42, 180, 0, 13, 28, 46]
abbrev dktX1_findStories_5 : List UInt8 := dkwX1_findStories_5 ++ dktX1_findStories_6
def dkwX1_findStories_4 : List UInt8 := [46, 27, 182, 0, 146, 132, 1, 1, 167, 255, 223, 4, 60, 27, 153, 0, 11, 42, 182, 0, 149, 60]
abbrev dktX1_findStories_4 : List UInt8 := dkwX1_findStories_4 ++ dktX1_findStories_5
def dkwX1_findStories_3 : List UInt8 := [42, 180, 0, 98, 162, 0, 31, 42, 180, 0, 55, 27, 46, 16, 247, 159, 0, 14, 42, 42, 180, 0, 55, 27]
abbrev dktX1_findStories_3 : List UInt8 := dkwX1_findStories_3 ++ dktX1_findStories_4
def dkwX1_findStories_2 : List UInt8 := [160, 0, 12, 42, 180, 0, 52, 27, 46, 167, 0, 5, 16, 247, 79, 132, 1, 1, 167, 255, 192, 3, 60, 27]
abbrev dktX1_findStories_2 : List UInt8 := dkwX1_findStories_2 ++ dktX1_findStories_3
def dkwX1_findStories_1 : List UInt8 := [79, 42, 180, 0, 52, 27, 42, 27, 182, 0, 143, 79, 42, 180, 0, 55, 27, 42, 180, 0, 13, 27, 46, 4]
abbrev dktX1_findStories_1 : List UInt8 := dkwX1_findStories_1 ++ dktX1_findStories_2
def dkwX1_findStories_0 : List UInt8 := [3, 60, 27, 42, 180, 0, 98, 162, 0, 62, 42, 180, 0, 61, 27, 3, 79, 42, 180, 0, 58, 27, 16, 247]
abbrev dktX1_findStories_0 : List UInt8 := dkwX1_findStories_0 ++ dktX1_findStories_1
theorem dksX1_findStories_0 : cX1_findStories.data.toList.drop 0 = dktX1_findStories_0 := by decide +kernel
theorem dksX1_findStories_1 : cX1_findStories.data.toList.drop 24 = dktX1_findStories_1 := dk_seg dksX1_findStories_0 24 rfl rfl
theorem dksX1_findStories_2 : cX1_findStories.data.toList.drop 48 = dktX1_findStories_2 := dk_seg dksX1_findStories_1 24 rfl rfl
theorem dksX1_findStories_3 : cX1_findStories.data.toList.drop 72 = dktX1_findStories_3 := dk_seg dksX1_findStories_2 24 rfl rfl
theorem dksX1_findStories_4 : cX1_findStories.data.toList.drop 96 = dktX1_findStories_4 := dk_seg dksX1_findStories_3 24 rfl rfl
theorem dksX1_findStories_5 : cX1_findStories.data.toList.drop 118 = dktX1_findStories_5 := dk_seg dksX1_findStories_4 22 rfl rfl
theorem dksX1_findStories_6 : cX1_findStories.data.toList.drop 142 = dktX1_findStories_6 := dk_seg dksX1_findStories_5 24 rfl rfl
theorem dksX1_findStories_7 : cX1_findStories.data.toList.drop 164 = dktX1_findStories_7 := dk_seg dksX1_findStories_6 22 rfl rfl
theorem dksX1_findStories_8 : cX1_findStories.data.toList.drop 187 = dktX1_findStories_8 := dk_seg dksX1_findStories_7 23 rfl rfl
theorem dksX1_findStories_9 : cX1_findStories.data.toList.drop 211 = dktX1_findStories_9 := dk_seg dksX1_findStories_8 24 rfl rfl
theorem dksX1_findStories_10 : cX1_findStories.data.toList.drop 233 = dktX1_findStories_10 := dk_seg dksX1_findStories_9 22 rfl rfl
theorem dksX1_findStories_11 : cX1_findStories.data.toList.drop 257 = dktX1_findStories_11 := dk_seg dksX1_findStories_10 24 rfl rfl
theorem dksX1_findStories_12 : cX1_findStories.data.toList.drop 281 = dktX1_findStories_12 := dk_seg dksX1_findStories_11 24 rfl rfl
theorem dksX1_findStories_13 : cX1_findStories.data.toList.drop 305 = dktX1_findStories_13 := dk_seg dksX1_findStories_12 24 rfl rfl
theorem dX1_findStories_0 : decode cX1_findStories 0 = .ok (.iconst 0, 1) := dk_3 (dk_at dksX1_findStories_0 0 rfl rfl)
theorem dX1_findStories_1 : decode cX1_findStories 1 = .ok (.istore_n 1, 1) := dk_60 (dk_at dksX1_findStories_0 1 rfl rfl)
theorem dX1_findStories_2 : decode cX1_findStories 2 = .ok (.iload_n 1, 1) := dk_27 (dk_at dksX1_findStories_0 2 rfl rfl)
theorem dX1_findStories_3 : decode cX1_findStories 3 = .ok (.aload_n 0, 1) := dk_42 (dk_at dksX1_findStories_0 3 rfl rfl)
theorem dX1_findStories_4 : decode cX1_findStories 4 = .ok (.getfield 98, 3) := dk_180 0 98 (dk_at dksX1_findStories_0 4 rfl rfl)
theorem dX1_findStories_7 : decode cX1_findStories 7 = .ok (.if_icmp .ge 62, 3) := dk_162 0 62 (dk_at dksX1_findStories_0 7 rfl rfl)
theorem dX1_findStories_10 : decode cX1_findStories 10 = .ok (.aload_n 0, 1) := dk_42 (dk_at dksX1_findStories_0 10 rfl rfl)
theorem dX1_findStories_11 : decode cX1_findStories 11 = .ok (.getfield 61, 3) := dk_180 0 61 (dk_at dksX1_findStories_0 11 rfl rfl)
theorem dX1_findStories_14 : decode cX1_findStories 14 = .ok (.iload_n 1, 1) := dk_27 (dk_at dksX1_findStories_0 14 rfl rfl)
theorem dX1_findStories_15 : decode cX1_findStories 15 = .ok (.iconst 0, 1) := dk_3 (dk_at dksX1_findStories_0 15 rfl rfl)
theorem dX1_findStories_16 : decode cX1_findStories 16 = .ok (.iastore, 1) := dk_79 (dk_at dksX1_findStories_0 16 rfl rfl)
theorem dX1_findStories_17 : decode cX1_findStories 17 = .ok (.aload_n 0, 1) := dk_42 (dk_at dksX1_findStories_0 17 rfl rfl)
theorem dX1_findStories_18 : decode cX1_findStories 18 = .ok (.getfield 58, 3) := dk_180 0 58 (dk_at dksX1_findStories_0 18 rfl rfl)
theorem dX1_findStories_21 : decode cX1_findStories 21 = .ok (.iload_n 1, 1) := dk_27 (dk_at dksX1_findStories_0 21 rfl rfl)
theorem dX1_findStories_22 : decode cX1_findStories 22 = .ok (.bipush (-9), 2) := dk_16 247 (dk_at dksX1_findStories_0 22 rfl rfl)
theorem dX1_findStories_24 : decode cX1_findStories 24 = .ok (.iastore, 1) := dk_79 (dk_at dksX1_findStories_1 0 rfl rfl)
theorem dX1_findStories_25 : decode cX1_findStories 25 = .ok (.aload_n 0, 1) := dk_42 (dk_at dksX1_findStories_1 1 rfl rfl)
theorem dX1_findStories_26 : decode cX1_findStories 26 = .ok (.getfield 52, 3) := dk_180 0 52 (dk_at dksX1_findStories_1 2 rfl rfl)
theorem dX1_findStories_29 : decode cX1_findStories 29 = .ok (.iload_n 1, 1) := dk_27 (dk_at dksX1_findStories_1 5 rfl rfl)
theorem dX1_findStories_30 : decode cX1_findStories 30 = .ok (.aload_n 0, 1) := dk_42 (dk_at dksX1_findStories_1 6 rfl rfl)
theorem dX1_findStories_31 : decode cX1_findStories 31 = .ok (.iload_n 1, 1) := dk_27 (dk_at dksX1_findStories_1 7 rfl rfl)
theorem dX1_findStories_32 : decode cX1_findStories 32 = .ok (.invokevirtual 143, 3) := dk_182 0 143 (dk_at dksX1_findStories_1 8 rfl rfl)
theorem dX1_findStories_35 : decode cX1_findStories 35 = .ok (.iastore, 1) := dk_79 (dk_at dksX1_findStories_1 11 rfl rfl)
theorem dX1_findStories_36 : decode cX1_findStories 36 = .ok (.aload_n 0, 1) := dk_42 (dk_at dksX1_findStories_1 12 rfl rfl)
theorem dX1_findStories_37 : decode cX1_findStories 37 = .ok (.getfield 55, 3) := dk_180 0 55 (dk_at dksX1_findStories_1 13 rfl rfl)
theorem dX1_findStories_40 : decode cX1_findStories 40 = .ok (.iload_n 1, 1) := dk_27 (dk_at dksX1_findStories_1 16 rfl rfl)
theorem dX1_findStories_41 : decode cX1_findStories 41 = .ok (.aload_n 0, 1) := dk_42 (dk_at dksX1_findStories_1 17 rfl rfl)
theorem dX1_findStories_42 : decode cX1_findStories 42 = .ok (.getfield 13, 3) := dk_180 0 13 (dk_at dksX1_findStories_1 18 rfl rfl)
theorem dX1_findStories_45 : decode cX1_findStories 45 = .ok (.iload_n 1, 1) := dk_27 (dk_at dksX1_findStories_1 21 rfl rfl)
theorem dX1_findStories_46 : decode cX1_findStories 46 = .ok (.iaload, 1) := dk_46 (dk_at dksX1_findStories_1 22 rfl rfl)
theorem dX1_findStories_47 : decode cX1_findStories 47 = .ok (.iconst 1, 1) := dk_4 (dk_at dksX1_findStories_1 23 rfl rfl)
theorem dX1_findStories_48 : decode cX1_findStories 48 = .ok (.if_icmp .ne 12, 3) := dk_160 0 12 (dk_at dksX1_findStories_2 0 rfl rfl)
theorem dX1_findStories_51 : decode cX1_findStories 51 = .ok (.aload_n 0, 1) := dk_42 (dk_at dksX1_findStories_2 3 rfl rfl)
theorem dX1_findStories_52 : decode cX1_findStories 52 = .ok (.getfield 52, 3) := dk_180 0 52 (dk_at dksX1_findStories_2 4 rfl rfl)
theorem dX1_findStories_55 : decode cX1_findStories 55 = .ok (.iload_n 1, 1) := dk_27 (dk_at dksX1_findStories_2 7 rfl rfl)
theorem dX1_findStories_56 : decode cX1_findStories 56 = .ok (.iaload, 1) := dk_46 (dk_at dksX1_findStories_2 8 rfl rfl)
theorem dX1_findStories_57 : decode cX1_findStories 57 = .ok (.goto 5, 3) := dk_167 0 5 (dk_at dksX1_findStories_2 9 rfl rfl)
theorem dX1_findStories_60 : decode cX1_findStories 60 = .ok (.bipush (-9), 2) := dk_16 247 (dk_at dksX1_findStories_2 12 rfl rfl)
theorem dX1_findStories_62 : decode cX1_findStories 62 = .ok (.iastore, 1) := dk_79 (dk_at dksX1_findStories_2 14 rfl rfl)
theorem dX1_findStories_63 : decode cX1_findStories 63 = .ok (.iinc 1 1, 3) := dk_132 1 1 (dk_at dksX1_findStories_2 15 rfl rfl)
theorem dX1_findStories_66 : decode cX1_findStories 66 = .ok (.goto (-64), 3) := dk_167 255 192 (dk_at dksX1_findStories_2 18 rfl rfl)
theorem dX1_findStories_69 : decode cX1_findStories 69 = .ok (.iconst 0, 1) := dk_3 (dk_at dksX1_findStories_2 21 rfl rfl)
theorem dX1_findStories_70 : decode cX1_findStories 70 = .ok (.istore_n 1, 1) := dk_60 (dk_at dksX1_findStories_2 22 rfl rfl)
theorem dX1_findStories_71 : decode cX1_findStories 71 = .ok (.iload_n 1, 1) := dk_27 (dk_at dksX1_findStories_2 23 rfl rfl)
theorem dX1_findStories_72 : decode cX1_findStories 72 = .ok (.aload_n 0, 1) := dk_42 (dk_at dksX1_findStories_3 0 rfl rfl)
theorem dX1_findStories_73 : decode cX1_findStories 73 = .ok (.getfield 98, 3) := dk_180 0 98 (dk_at dksX1_findStories_3 1 rfl rfl)
theorem dX1_findStories_76 : decode cX1_findStories 76 = .ok (.if_icmp .ge 31, 3) := dk_162 0 31 (dk_at dksX1_findStories_3 4 rfl rfl)
theorem dX1_findStories_79 : decode cX1_findStories 79 = .ok (.aload_n 0, 1) := dk_42 (dk_at dksX1_findStories_3 7 rfl rfl)
theorem dX1_findStories_80 : decode cX1_findStories 80 = .ok (.getfield 55, 3) := dk_180 0 55 (dk_at dksX1_findStories_3 8 rfl rfl)
theorem dX1_findStories_83 : decode cX1_findStories 83 = .ok (.iload_n 1, 1) := dk_27 (dk_at dksX1_findStories_3 11 rfl rfl)
theorem dX1_findStories_84 : decode cX1_findStories 84 = .ok (.iaload, 1) := dk_46 (dk_at dksX1_findStories_3 12 rfl rfl)
theorem dX1_findStories_85 : decode cX1_findStories 85 = .ok (.bipush (-9), 2) := dk_16 247 (dk_at dksX1_findStories_3 13 rfl rfl)
theorem dX1_findStories_87 : decode cX1_findStories 87 = .ok (.if_icmp .eq 14, 3) := dk_159 0 14 (dk_at dksX1_findStories_3 15 rfl rfl)
theorem dX1_findStories_90 : decode cX1_findStories 90 = .ok (.aload_n 0, 1) := dk_42 (dk_at dksX1_findStories_3 18 rfl rfl)
theorem dX1_findStories_91 : decode cX1_findStories 91 = .ok (.aload_n 0, 1) := dk_42 (dk_at dksX1_findStories_3 19 rfl rfl)
theorem dX1_findStories_92 : decode cX1_findStories 92 = .ok (.getfield 55, 3) := dk_180 0 55 (dk_at dksX1_findStories_3 20 rfl rfl)
theorem dX1_findStories_95 : decode cX1_findStories 95 = .ok (.iload_n 1, 1) := dk_27 (dk_at dksX1_findStories_3 23 rfl rfl)
theorem dX1_findStories_96 : decode cX1_findStories 96 = .ok (.iaload, 1) := dk_46 (dk_at dksX1_findStories_4 0 rfl rfl)
theorem dX1_findStories_97 : decode cX1_findStories 97 = .ok (.iload_n 1, 1) := dk_27 (dk_at dksX1_findStories_4 1 rfl rfl)
theorem dX1_findStories_98 : decode cX1_findStories 98 = .ok (.invokevirtual 146, 3) := dk_182 0 146 (dk_at dksX1_findStories_4 2 rfl rfl)
theorem dX1_findStories_101 : decode cX1_findStories 101 = .ok (.iinc 1 1, 3) := dk_132 1 1 (dk_at dksX1_findStories_4 5 rfl rfl)
theorem dX1_findStories_104 : decode cX1_findStories 104 = .ok (.goto (-33), 3) := dk_167 255 223 (dk_at dksX1_findStories_4 8 rfl rfl)
theorem dX1_findStories_107 : decode cX1_findStories 107 = .ok (.iconst 1, 1) := dk_4 (dk_at dksX1_findStories_4 11 rfl rfl)
theorem dX1_findStories_108 : decode cX1_findStories 108 = .ok (.istore_n 1, 1) := dk_60 (dk_at dksX1_findStories_4 12 rfl rfl)
theorem dX1_findStories_109 : decode cX1_findStories 109 = .ok (.iload_n 1, 1) := dk_27 (dk_at dksX1_findStories_4 13 rfl rfl)
theorem dX1_findStories_110 : decode cX1_findStories 110 = .ok (.ifCond .eq 11, 3) := dk_153 0 11 (dk_at dksX1_findStories_4 14 rfl rfl)
theorem dX1_findStories_113 : decode cX1_findStories 113 = .ok (.aload_n 0, 1) := dk_42 (dk_at dksX1_findStories_4 17 rfl rfl)
theorem dX1_findStories_114 : decode cX1_findStories 114 = .ok (.invokevirtual 149, 3) := dk_182 0 149 (dk_at dksX1_findStories_4 18 rfl rfl)
theorem dX1_findStories_117 : decode cX1_findStories 117 = .ok (.istore_n 1, 1) := dk_60 (dk_at dksX1_findStories_4 21 rfl rfl)
theorem dX1_findStories_118 : decode cX1_findStories 118 = .ok (.goto (-9), 3) := dk_167 255 247 (dk_at dksX1_findStories_5 0 rfl rfl)
theorem dX1_findStories_121 : decode cX1_findStories 121 = .ok (.aload_n 0, 1) := dk_42 (dk_at dksX1_findStories_5 3 rfl rfl)
theorem dX1_findStories_122 : decode cX1_findStories 122 = .ok (.iconst 0, 1) := dk_3 (dk_at dksX1_findStories_5 4 rfl rfl)
theorem dX1_findStories_123 : decode cX1_findStories 123 = .ok (.putfield 153, 3) := dk_181 0 153 (dk_at dksX1_findStories_5 5 rfl rfl)
theorem dX1_findStories_126 : decode cX1_findStories 126 = .ok (.iconst 0, 1) := dk_3 (dk_at dksX1_findStories_5 8 rfl rfl)
theorem dX1_findStories_127 : decode cX1_findStories 127 = .ok (.istore_n 2, 1) := dk_61 (dk_at dksX1_findStories_5 9 rfl rfl)
theorem dX1_findStories_128 : decode cX1_findStories 128 = .ok (.iload_n 2, 1) := dk_28 (dk_at dksX1_findStories_5 10 rfl rfl)
theorem dX1_findStories_129 : decode cX1_findStories 129 = .ok (.aload_n 0, 1) := dk_42 (dk_at dksX1_findStories_5 11 rfl rfl)
theorem dX1_findStories_130 : decode cX1_findStories 130 = .ok (.getfield 98, 3) := dk_180 0 98 (dk_at dksX1_findStories_5 12 rfl rfl)
theorem dX1_findStories_133 : decode cX1_findStories 133 = .ok (.if_icmp .ge 89, 3) := dk_162 0 89 (dk_at dksX1_findStories_5 15 rfl rfl)
theorem dX1_findStories_136 : decode cX1_findStories 136 = .ok (.aload_n 0, 1) := dk_42 (dk_at dksX1_findStories_5 18 rfl rfl)
theorem dX1_findStories_137 : decode cX1_findStories 137 = .ok (.getfield 13, 3) := dk_180 0 13 (dk_at dksX1_findStories_5 19 rfl rfl)
theorem dX1_findStories_140 : decode cX1_findStories 140 = .ok (.iload_n 2, 1) := dk_28 (dk_at dksX1_findStories_5 22 rfl rfl)
theorem dX1_findStories_141 : decode cX1_findStories 141 = .ok (.iaload, 1) := dk_46 (dk_at dksX1_findStories_5 23 rfl rfl)
theorem dX1_findStories_142 : decode cX1_findStories 142 = .ok (.iconst 1, 1) := dk_4 (dk_at dksX1_findStories_6 0 rfl rfl)
theorem dX1_findStories_143 : decode cX1_findStories 143 = .ok (.if_icmp .ne 18, 3) := dk_160 0 18 (dk_at dksX1_findStories_6 1 rfl rfl)
theorem dX1_findStories_146 : decode cX1_findStories 146 = .ok (.aload_n 0, 1) := dk_42 (dk_at dksX1_findStories_6 4 rfl rfl)
theorem dX1_findStories_147 : decode cX1_findStories 147 = .ok (.getfield 55, 3) := dk_180 0 55 (dk_at dksX1_findStories_6 5 rfl rfl)
theorem dX1_findStories_150 : decode cX1_findStories 150 = .ok (.iload_n 2, 1) := dk_28 (dk_at dksX1_findStories_6 8 rfl rfl)
theorem dX1_findStories_151 : decode cX1_findStories 151 = .ok (.iaload, 1) := dk_46 (dk_at dksX1_findStories_6 9 rfl rfl)
theorem dX1_findStories_152 : decode cX1_findStories 152 = .ok (.bipush (-9), 2) := dk_16 247 (dk_at dksX1_findStories_6 10 rfl rfl)
theorem dX1_findStories_154 : decode cX1_findStories 154 = .ok (.if_icmp .ne 7, 3) := dk_160 0 7 (dk_at dksX1_findStories_6 12 rfl rfl)
theorem dX1_findStories_157 : decode cX1_findStories 157 = .ok (.iconst 1, 1) := dk_4 (dk_at dksX1_findStories_6 15 rfl rfl)
theorem dX1_findStories_158 : decode cX1_findStories 158 = .ok (.goto 4, 3) := dk_167 0 4 (dk_at dksX1_findStories_6 16 rfl rfl)
theorem dX1_findStories_161 : decode cX1_findStories 161 = .ok (.iconst 0, 1) := dk_3 (dk_at dksX1_findStories_6 19 rfl rfl)
theorem dX1_findStories_162 : decode cX1_findStories 162 = .ok (.istore_n 3, 1) := dk_62 (dk_at dksX1_findStories_6 20 rfl rfl)
theorem dX1_findStories_163 : decode cX1_findStories 163 = .ok (.iload_n 3, 1) := dk_29 (dk_at dksX1_findStories_6 21 rfl rfl)
theorem dX1_findStories_164 : decode cX1_findStories 164 = .ok (.ifCond .eq 9, 3) := dk_153 0 9 (dk_at dksX1_findStories_7 0 rfl rfl)
theorem dX1_findStories_167 : decode cX1_findStories 167 = .ok (.aload_n 0, 1) := dk_42 (dk_at dksX1_findStories_7 3 rfl rfl)
theorem dX1_findStories_168 : decode cX1_findStories 168 = .ok (.iload_n 2, 1) := dk_28 (dk_at dksX1_findStories_7 4 rfl rfl)
theorem dX1_findStories_169 : decode cX1_findStories 169 = .ok (.iload_n 2, 1) := dk_28 (dk_at dksX1_findStories_7 5 rfl rfl)
theorem dX1_findStories_170 : decode cX1_findStories 170 = .ok (.invokevirtual 129, 3) := dk_182 0 129 (dk_at dksX1_findStories_7 6 rfl rfl)
theorem dX1_findStories_173 : decode cX1_findStories 173 = .ok (.iload_n 3, 1) := dk_29 (dk_at dksX1_findStories_7 9 rfl rfl)
theorem dX1_findStories_174 : decode cX1_findStories 174 = .ok (.ifCond .ne 12, 3) := dk_154 0 12 (dk_at dksX1_findStories_7 10 rfl rfl)
theorem dX1_findStories_177 : decode cX1_findStories 177 = .ok (.aload_n 0, 1) := dk_42 (dk_at dksX1_findStories_7 13 rfl rfl)
theorem dX1_findStories_178 : decode cX1_findStories 178 = .ok (.getfield 13, 3) := dk_180 0 13 (dk_at dksX1_findStories_7 14 rfl rfl)
theorem dX1_findStories_181 : decode cX1_findStories 181 = .ok (.iload_n 2, 1) := dk_28 (dk_at dksX1_findStories_7 17 rfl rfl)
theorem dX1_findStories_182 : decode cX1_findStories 182 = .ok (.iaload, 1) := dk_46 (dk_at dksX1_findStories_7 18 rfl rfl)
theorem dX1_findStories_183 : decode cX1_findStories 183 = .ok (.ifCond .ne 33, 3) := dk_154 0 33 (dk_at dksX1_findStories_7 19 rfl rfl)
theorem dX1_findStories_186 : decode cX1_findStories 186 = .ok (.aload_n 0, 1) := dk_42 (dk_at dksX1_findStories_7 22 rfl rfl)
theorem dX1_findStories_187 : decode cX1_findStories 187 = .ok (.getfield 67, 3) := dk_180 0 67 (dk_at dksX1_findStories_8 0 rfl rfl)
theorem dX1_findStories_190 : decode cX1_findStories 190 = .ok (.aload_n 0, 1) := dk_42 (dk_at dksX1_findStories_8 3 rfl rfl)
theorem dX1_findStories_191 : decode cX1_findStories 191 = .ok (.getfield 153, 3) := dk_180 0 153 (dk_at dksX1_findStories_8 4 rfl rfl)
theorem dX1_findStories_194 : decode cX1_findStories 194 = .ok (.iload_n 2, 1) := dk_28 (dk_at dksX1_findStories_8 7 rfl rfl)
theorem dX1_findStories_195 : decode cX1_findStories 195 = .ok (.iastore, 1) := dk_79 (dk_at dksX1_findStories_8 8 rfl rfl)
theorem dX1_findStories_196 : decode cX1_findStories 196 = .ok (.aload_n 0, 1) := dk_42 (dk_at dksX1_findStories_8 9 rfl rfl)
theorem dX1_findStories_197 : decode cX1_findStories 197 = .ok (.getfield 70, 3) := dk_180 0 70 (dk_at dksX1_findStories_8 10 rfl rfl)
theorem dX1_findStories_200 : decode cX1_findStories 200 = .ok (.iload_n 2, 1) := dk_28 (dk_at dksX1_findStories_8 13 rfl rfl)
theorem dX1_findStories_201 : decode cX1_findStories 201 = .ok (.aload_n 0, 1) := dk_42 (dk_at dksX1_findStories_8 14 rfl rfl)
theorem dX1_findStories_202 : decode cX1_findStories 202 = .ok (.getfield 153, 3) := dk_180 0 153 (dk_at dksX1_findStories_8 15 rfl rfl)
theorem dX1_findStories_205 : decode cX1_findStories 205 = .ok (.iastore, 1) := dk_79 (dk_at dksX1_findStories_8 18 rfl rfl)
theorem dX1_findStories_206 : decode cX1_findStories 206 = .ok (.aload_n 0, 1) := dk_42 (dk_at dksX1_findStories_8 19 rfl rfl)
theorem dX1_findStories_207 : decode cX1_findStories 207 = .ok (.dup, 1) := dk_89 (dk_at dksX1_findStories_8 20 rfl rfl)
theorem dX1_findStories_208 : decode cX1_findStories 208 = .ok (.getfield 153, 3) := dk_180 0 153 (dk_at dksX1_findStories_8 21 rfl rfl)
theorem dX1_findStories_211 : decode cX1_findStories 211 = .ok (.iconst 1, 1) := dk_4 (dk_at dksX1_findStories_9 0 rfl rfl)
theorem dX1_findStories_212 : decode cX1_findStories 212 = .ok (.iadd, 1) := dk_96 (dk_at dksX1_findStories_9 1 rfl rfl)
theorem dX1_findStories_213 : decode cX1_findStories 213 = .ok (.putfield 153, 3) := dk_181 0 153 (dk_at dksX1_findStories_9 2 rfl rfl)
theorem dX1_findStories_216 : decode cX1_findStories 216 = .ok (.iinc 2 1, 3) := dk_132 2 1 (dk_at dksX1_findStories_9 5 rfl rfl)
theorem dX1_findStories_219 : decode cX1_findStories 219 = .ok (.goto (-91), 3) := dk_167 255 165 (dk_at dksX1_findStories_9 8 rfl rfl)
theorem dX1_findStories_222 : decode cX1_findStories 222 = .ok (.iconst 0, 1) := dk_3 (dk_at dksX1_findStories_9 11 rfl rfl)
theorem dX1_findStories_223 : decode cX1_findStories 223 = .ok (.istore_n 2, 1) := dk_61 (dk_at dksX1_findStories_9 12 rfl rfl)
theorem dX1_findStories_224 : decode cX1_findStories 224 = .ok (.iload_n 2, 1) := dk_28 (dk_at dksX1_findStories_9 13 rfl rfl)
theorem dX1_findStories_225 : decode cX1_findStories 225 = .ok (.aload_n 0, 1) := dk_42 (dk_at dksX1_findStories_9 14 rfl rfl)
theorem dX1_findStories_226 : decode cX1_findStories 226 = .ok (.getfield 98, 3) := dk_180 0 98 (dk_at dksX1_findStories_9 15 rfl rfl)
theorem dX1_findStories_229 : decode cX1_findStories 229 = .ok (.if_icmp .ge 92, 3) := dk_162 0 92 (dk_at dksX1_findStories_9 18 rfl rfl)
theorem dX1_findStories_232 : decode cX1_findStories 232 = .ok (.aload_n 0, 1) := dk_42 (dk_at dksX1_findStories_9 21 rfl rfl)
theorem dX1_findStories_233 : decode cX1_findStories 233 = .ok (.getfield 13, 3) := dk_180 0 13 (dk_at dksX1_findStories_10 0 rfl rfl)
theorem dX1_findStories_236 : decode cX1_findStories 236 = .ok (.iload_n 2, 1) := dk_28 (dk_at dksX1_findStories_10 3 rfl rfl)
theorem dX1_findStories_237 : decode cX1_findStories 237 = .ok (.iaload, 1) := dk_46 (dk_at dksX1_findStories_10 4 rfl rfl)
theorem dX1_findStories_238 : decode cX1_findStories 238 = .ok (.iconst 1, 1) := dk_4 (dk_at dksX1_findStories_10 5 rfl rfl)
theorem dX1_findStories_239 : decode cX1_findStories 239 = .ok (.if_icmp .ne 12, 3) := dk_160 0 12 (dk_at dksX1_findStories_10 6 rfl rfl)
theorem dX1_findStories_242 : decode cX1_findStories 242 = .ok (.aload_n 0, 1) := dk_42 (dk_at dksX1_findStories_10 9 rfl rfl)
theorem dX1_findStories_243 : decode cX1_findStories 243 = .ok (.getfield 55, 3) := dk_180 0 55 (dk_at dksX1_findStories_10 10 rfl rfl)
theorem dX1_findStories_246 : decode cX1_findStories 246 = .ok (.iload_n 2, 1) := dk_28 (dk_at dksX1_findStories_10 13 rfl rfl)
theorem dX1_findStories_247 : decode cX1_findStories 247 = .ok (.iaload, 1) := dk_46 (dk_at dksX1_findStories_10 14 rfl rfl)
theorem dX1_findStories_248 : decode cX1_findStories 248 = .ok (.goto 24, 3) := dk_167 0 24 (dk_at dksX1_findStories_10 15 rfl rfl)
theorem dX1_findStories_251 : decode cX1_findStories 251 = .ok (.aload_n 0, 1) := dk_42 (dk_at dksX1_findStories_10 18 rfl rfl)
theorem dX1_findStories_252 : decode cX1_findStories 252 = .ok (.getfield 13, 3) := dk_180 0 13 (dk_at dksX1_findStories_10 19 rfl rfl)
theorem dX1_findStories_255 : decode cX1_findStories 255 = .ok (.iload_n 2, 1) := dk_28 (dk_at dksX1_findStories_10 22 rfl rfl)
theorem dX1_findStories_256 : decode cX1_findStories 256 = .ok (.iaload, 1) := dk_46 (dk_at dksX1_findStories_10 23 rfl rfl)
theorem dX1_findStories_257 : decode cX1_findStories 257 = .ok (.iconst 2, 1) := dk_5 (dk_at dksX1_findStories_11 0 rfl rfl)
theorem dX1_findStories_258 : decode cX1_findStories 258 = .ok (.if_icmp .ne 12, 3) := dk_160 0 12 (dk_at dksX1_findStories_11 1 rfl rfl)
theorem dX1_findStories_261 : decode cX1_findStories 261 = .ok (.aload_n 0, 1) := dk_42 (dk_at dksX1_findStories_11 4 rfl rfl)
theorem dX1_findStories_262 : decode cX1_findStories 262 = .ok (.getfield 52, 3) := dk_180 0 52 (dk_at dksX1_findStories_11 5 rfl rfl)
theorem dX1_findStories_265 : decode cX1_findStories 265 = .ok (.iload_n 2, 1) := dk_28 (dk_at dksX1_findStories_11 8 rfl rfl)
theorem dX1_findStories_266 : decode cX1_findStories 266 = .ok (.iaload, 1) := dk_46 (dk_at dksX1_findStories_11 9 rfl rfl)
theorem dX1_findStories_267 : decode cX1_findStories 267 = .ok (.goto 5, 3) := dk_167 0 5 (dk_at dksX1_findStories_11 10 rfl rfl)
theorem dX1_findStories_270 : decode cX1_findStories 270 = .ok (.bipush (-9), 2) := dk_16 247 (dk_at dksX1_findStories_11 13 rfl rfl)
theorem dX1_findStories_272 : decode cX1_findStories 272 = .ok (.istore_n 3, 1) := dk_62 (dk_at dksX1_findStories_11 15 rfl rfl)
theorem dX1_findStories_273 : decode cX1_findStories 273 = .ok (.aload_n 0, 1) := dk_42 (dk_at dksX1_findStories_11 16 rfl rfl)
theorem dX1_findStories_274 : decode cX1_findStories 274 = .ok (.getfield 70, 3) := dk_180 0 70 (dk_at dksX1_findStories_11 17 rfl rfl)
theorem dX1_findStories_277 : decode cX1_findStories 277 = .ok (.iload_n 2, 1) := dk_28 (dk_at dksX1_findStories_11 20 rfl rfl)
theorem dX1_findStories_278 : decode cX1_findStories 278 = .ok (.iload_n 3, 1) := dk_29 (dk_at dksX1_findStories_11 21 rfl rfl)
theorem dX1_findStories_279 : decode cX1_findStories 279 = .ok (.bipush (-9), 2) := dk_16 247 (dk_at dksX1_findStories_11 22 rfl rfl)
theorem dX1_findStories_281 : decode cX1_findStories 281 = .ok (.if_icmp .eq 12, 3) := dk_159 0 12 (dk_at dksX1_findStories_12 0 rfl rfl)
theorem dX1_findStories_284 : decode cX1_findStories 284 = .ok (.aload_n 0, 1) := dk_42 (dk_at dksX1_findStories_12 3 rfl rfl)
theorem dX1_findStories_285 : decode cX1_findStories 285 = .ok (.getfield 70, 3) := dk_180 0 70 (dk_at dksX1_findStories_12 4 rfl rfl)
theorem dX1_findStories_288 : decode cX1_findStories 288 = .ok (.iload_n 3, 1) := dk_29 (dk_at dksX1_findStories_12 7 rfl rfl)
theorem dX1_findStories_289 : decode cX1_findStories 289 = .ok (.iaload, 1) := dk_46 (dk_at dksX1_findStories_12 8 rfl rfl)
theorem dX1_findStories_290 : decode cX1_findStories 290 = .ok (.goto 24, 3) := dk_167 0 24 (dk_at dksX1_findStories_12 9 rfl rfl)
theorem dX1_findStories_293 : decode cX1_findStories 293 = .ok (.aload_n 0, 1) := dk_42 (dk_at dksX1_findStories_12 12 rfl rfl)
theorem dX1_findStories_294 : decode cX1_findStories 294 = .ok (.getfield 13, 3) := dk_180 0 13 (dk_at dksX1_findStories_12 13 rfl rfl)
theorem dX1_findStories_297 : decode cX1_findStories 297 = .ok (.iload_n 2, 1) := dk_28 (dk_at dksX1_findStories_12 16 rfl rfl)
theorem dX1_findStories_298 : decode cX1_findStories 298 = .ok (.iaload, 1) := dk_46 (dk_at dksX1_findStories_12 17 rfl rfl)
theorem dX1_findStories_299 : decode cX1_findStories 299 = .ok (.iconst 2, 1) := dk_5 (dk_at dksX1_findStories_12 18 rfl rfl)
theorem dX1_findStories_300 : decode cX1_findStories 300 = .ok (.if_icmp .ne 8, 3) := dk_160 0 8 (dk_at dksX1_findStories_12 19 rfl rfl)
theorem dX1_findStories_303 : decode cX1_findStories 303 = .ok (.bipush (-9), 2) := dk_16 247 (dk_at dksX1_findStories_12 22 rfl rfl)
theorem dX1_findStories_305 : decode cX1_findStories 305 = .ok (.goto 9, 3) := dk_167 0 9 (dk_at dksX1_findStories_13 0 rfl rfl)
theorem dX1_findStories_308 : decode cX1_findStories 308 = .ok (.aload_n 0, 1) := dk_42 (dk_at dksX1_findStories_13 3 rfl rfl)
theorem dX1_findStories_309 : decode cX1_findStories 309 = .ok (.getfield 70, 3) := dk_180 0 70 (dk_at dksX1_findStories_13 4 rfl rfl)
theorem dX1_findStories_312 : decode cX1_findStories 312 = .ok (.iload_n 2, 1) := dk_28 (dk_at dksX1_findStories_13 7 rfl rfl)
theorem dX1_findStories_313 : decode cX1_findStories 313 = .ok (.iaload, 1) := dk_46 (dk_at dksX1_findStories_13 8 rfl rfl)
theorem dX1_findStories_314 : decode cX1_findStories 314 = .ok (.iastore, 1) := dk_79 (dk_at dksX1_findStories_13 9 rfl rfl)
theorem dX1_findStories_315 : decode cX1_findStories 315 = .ok (.iinc 2 1, 3) := dk_132 2 1 (dk_at dksX1_findStories_13 10 rfl rfl)
theorem dX1_findStories_318 : decode cX1_findStories 318 = .ok (.goto (-94), 3) := dk_167 255 162 (dk_at dksX1_findStories_13 13 rfl rfl)
theorem dX1_findStories_321 : decode cX1_findStories 321 = .ok (.return_, 1) := dk_177 (dk_at dksX1_findStories_13 16 rfl rfl)
abbrev cX1_comesUnder : ByteArray := prog_14_method_22_code
def yX1_comesUnder : MethodName := ⟨RX1, "comesUnder", "(II)V"⟩
def dkwX1_comesUnder_3 : List UInt8 := [27, 104, 29, 96, 4, 100, 28, 79, 132, 3, 255, 167, 255, 190, 177]
abbrev dktX1_comesUnder_3 : List UInt8 := dkwX1_comesUnder_3 ++ []
def dkwX1_comesUnder_2 : List UInt8 := [27, 104, 29, 96, 42, 180, 0, 64, 16, 24, 27, 104, 29, 96, 4, 100, 46, 79, 42, 180, 0, 64, 16, 24]
abbrev dktX1_comesUnder_2 : List UInt8 := dkwX1_comesUnder_2 ++ dktX1_comesUnder_3
def dkwX1_comesUnder_1 : List UInt8 := [180, 0, 64, 16, 24, 27, 104, 29, 96, 4, 100, 46, 182, 0, 133, 153, 0, 47, 42, 180, 0, 64, 16, 24]
abbrev dktX1_comesUnder_1 : List UInt8 := dkwX1_comesUnder_1 ++ dktX1_comesUnder_2
def dkwX1_comesUnder_0 : List UInt8 := [42, 27, 28, 182, 0, 129, 42, 180, 0, 61, 27, 46, 4, 100, 62, 29, 158, 0, 68, 42, 28, 42]
abbrev dktX1_comesUnder_0 : List UInt8 := dkwX1_comesUnder_0 ++ dktX1_comesUnder_1
theorem dksX1_comesUnder_0 : cX1_comesUnder.data.toList.drop 0 = dktX1_comesUnder_0 := by decide +kernel
theorem dksX1_comesUnder_1 : cX1_comesUnder.data.toList.drop 22 = dktX1_comesUnder_1 := dk_seg dksX1_comesUnder_0 22 rfl rfl
theorem dksX1_comesUnder_2 : cX1_comesUnder.data.toList.drop 46 = dktX1_comesUnder_2 := dk_seg dksX1_comesUnder_1 24 rfl rfl
theorem dksX1_comesUnder_3 : cX1_comesUnder.data.toList.drop 70 = dktX1_comesUnder_3 := dk_seg dksX1_comesUnder_2 24 rfl rfl
theorem dX1_comesUnder_0 : decode cX1_comesUnder 0 = .ok (.aload_n 0, 1) := dk_42 (dk_at dksX1_comesUnder_0 0 rfl rfl)
theorem dX1_comesUnder_1 : decode cX1_comesUnder 1 = .ok (.iload_n 1, 1) := dk_27 (dk_at dksX1_comesUnder_0 1 rfl rfl)
theorem dX1_comesUnder_2 : decode cX1_comesUnder 2 = .ok (.iload_n 2, 1) := dk_28 (dk_at dksX1_comesUnder_0 2 rfl rfl)
theorem dX1_comesUnder_3 : decode cX1_comesUnder 3 = .ok (.invokevirtual 129, 3) := dk_182 0 129 (dk_at dksX1_comesUnder_0 3 rfl rfl)
theorem dX1_comesUnder_6 : decode cX1_comesUnder 6 = .ok (.aload_n 0, 1) := dk_42 (dk_at dksX1_comesUnder_0 6 rfl rfl)
theorem dX1_comesUnder_7 : decode cX1_comesUnder 7 = .ok (.getfield 61, 3) := dk_180 0 61 (dk_at dksX1_comesUnder_0 7 rfl rfl)
theorem dX1_comesUnder_10 : decode cX1_comesUnder 10 = .ok (.iload_n 1, 1) := dk_27 (dk_at dksX1_comesUnder_0 10 rfl rfl)
theorem dX1_comesUnder_11 : decode cX1_comesUnder 11 = .ok (.iaload, 1) := dk_46 (dk_at dksX1_comesUnder_0 11 rfl rfl)
theorem dX1_comesUnder_12 : decode cX1_comesUnder 12 = .ok (.iconst 1, 1) := dk_4 (dk_at dksX1_comesUnder_0 12 rfl rfl)
theorem dX1_comesUnder_13 : decode cX1_comesUnder 13 = .ok (.isub, 1) := dk_100 (dk_at dksX1_comesUnder_0 13 rfl rfl)
theorem dX1_comesUnder_14 : decode cX1_comesUnder 14 = .ok (.istore_n 3, 1) := dk_62 (dk_at dksX1_comesUnder_0 14 rfl rfl)
theorem dX1_comesUnder_15 : decode cX1_comesUnder 15 = .ok (.iload_n 3, 1) := dk_29 (dk_at dksX1_comesUnder_0 15 rfl rfl)
theorem dX1_comesUnder_16 : decode cX1_comesUnder 16 = .ok (.ifCond .le 68, 3) := dk_158 0 68 (dk_at dksX1_comesUnder_0 16 rfl rfl)
theorem dX1_comesUnder_19 : decode cX1_comesUnder 19 = .ok (.aload_n 0, 1) := dk_42 (dk_at dksX1_comesUnder_0 19 rfl rfl)
theorem dX1_comesUnder_20 : decode cX1_comesUnder 20 = .ok (.iload_n 2, 1) := dk_28 (dk_at dksX1_comesUnder_0 20 rfl rfl)
theorem dX1_comesUnder_21 : decode cX1_comesUnder 21 = .ok (.aload_n 0, 1) := dk_42 (dk_at dksX1_comesUnder_0 21 rfl rfl)
theorem dX1_comesUnder_22 : decode cX1_comesUnder 22 = .ok (.getfield 64, 3) := dk_180 0 64 (dk_at dksX1_comesUnder_1 0 rfl rfl)
theorem dX1_comesUnder_25 : decode cX1_comesUnder 25 = .ok (.bipush 24, 2) := dk_16 24 (dk_at dksX1_comesUnder_1 3 rfl rfl)
theorem dX1_comesUnder_27 : decode cX1_comesUnder 27 = .ok (.iload_n 1, 1) := dk_27 (dk_at dksX1_comesUnder_1 5 rfl rfl)
theorem dX1_comesUnder_28 : decode cX1_comesUnder 28 = .ok (.imul, 1) := dk_104 (dk_at dksX1_comesUnder_1 6 rfl rfl)
theorem dX1_comesUnder_29 : decode cX1_comesUnder 29 = .ok (.iload_n 3, 1) := dk_29 (dk_at dksX1_comesUnder_1 7 rfl rfl)
theorem dX1_comesUnder_30 : decode cX1_comesUnder 30 = .ok (.iadd, 1) := dk_96 (dk_at dksX1_comesUnder_1 8 rfl rfl)
theorem dX1_comesUnder_31 : decode cX1_comesUnder 31 = .ok (.iconst 1, 1) := dk_4 (dk_at dksX1_comesUnder_1 9 rfl rfl)
theorem dX1_comesUnder_32 : decode cX1_comesUnder 32 = .ok (.isub, 1) := dk_100 (dk_at dksX1_comesUnder_1 10 rfl rfl)
theorem dX1_comesUnder_33 : decode cX1_comesUnder 33 = .ok (.iaload, 1) := dk_46 (dk_at dksX1_comesUnder_1 11 rfl rfl)
theorem dX1_comesUnder_34 : decode cX1_comesUnder 34 = .ok (.invokevirtual 133, 3) := dk_182 0 133 (dk_at dksX1_comesUnder_1 12 rfl rfl)
theorem dX1_comesUnder_37 : decode cX1_comesUnder 37 = .ok (.ifCond .eq 47, 3) := dk_153 0 47 (dk_at dksX1_comesUnder_1 15 rfl rfl)
theorem dX1_comesUnder_40 : decode cX1_comesUnder 40 = .ok (.aload_n 0, 1) := dk_42 (dk_at dksX1_comesUnder_1 18 rfl rfl)
theorem dX1_comesUnder_41 : decode cX1_comesUnder 41 = .ok (.getfield 64, 3) := dk_180 0 64 (dk_at dksX1_comesUnder_1 19 rfl rfl)
theorem dX1_comesUnder_44 : decode cX1_comesUnder 44 = .ok (.bipush 24, 2) := dk_16 24 (dk_at dksX1_comesUnder_1 22 rfl rfl)
theorem dX1_comesUnder_46 : decode cX1_comesUnder 46 = .ok (.iload_n 1, 1) := dk_27 (dk_at dksX1_comesUnder_2 0 rfl rfl)
theorem dX1_comesUnder_47 : decode cX1_comesUnder 47 = .ok (.imul, 1) := dk_104 (dk_at dksX1_comesUnder_2 1 rfl rfl)
theorem dX1_comesUnder_48 : decode cX1_comesUnder 48 = .ok (.iload_n 3, 1) := dk_29 (dk_at dksX1_comesUnder_2 2 rfl rfl)
theorem dX1_comesUnder_49 : decode cX1_comesUnder 49 = .ok (.iadd, 1) := dk_96 (dk_at dksX1_comesUnder_2 3 rfl rfl)
theorem dX1_comesUnder_50 : decode cX1_comesUnder 50 = .ok (.aload_n 0, 1) := dk_42 (dk_at dksX1_comesUnder_2 4 rfl rfl)
theorem dX1_comesUnder_51 : decode cX1_comesUnder 51 = .ok (.getfield 64, 3) := dk_180 0 64 (dk_at dksX1_comesUnder_2 5 rfl rfl)
theorem dX1_comesUnder_54 : decode cX1_comesUnder 54 = .ok (.bipush 24, 2) := dk_16 24 (dk_at dksX1_comesUnder_2 8 rfl rfl)
theorem dX1_comesUnder_56 : decode cX1_comesUnder 56 = .ok (.iload_n 1, 1) := dk_27 (dk_at dksX1_comesUnder_2 10 rfl rfl)
theorem dX1_comesUnder_57 : decode cX1_comesUnder 57 = .ok (.imul, 1) := dk_104 (dk_at dksX1_comesUnder_2 11 rfl rfl)
theorem dX1_comesUnder_58 : decode cX1_comesUnder 58 = .ok (.iload_n 3, 1) := dk_29 (dk_at dksX1_comesUnder_2 12 rfl rfl)
theorem dX1_comesUnder_59 : decode cX1_comesUnder 59 = .ok (.iadd, 1) := dk_96 (dk_at dksX1_comesUnder_2 13 rfl rfl)
theorem dX1_comesUnder_60 : decode cX1_comesUnder 60 = .ok (.iconst 1, 1) := dk_4 (dk_at dksX1_comesUnder_2 14 rfl rfl)
theorem dX1_comesUnder_61 : decode cX1_comesUnder 61 = .ok (.isub, 1) := dk_100 (dk_at dksX1_comesUnder_2 15 rfl rfl)
theorem dX1_comesUnder_62 : decode cX1_comesUnder 62 = .ok (.iaload, 1) := dk_46 (dk_at dksX1_comesUnder_2 16 rfl rfl)
theorem dX1_comesUnder_63 : decode cX1_comesUnder 63 = .ok (.iastore, 1) := dk_79 (dk_at dksX1_comesUnder_2 17 rfl rfl)
theorem dX1_comesUnder_64 : decode cX1_comesUnder 64 = .ok (.aload_n 0, 1) := dk_42 (dk_at dksX1_comesUnder_2 18 rfl rfl)
theorem dX1_comesUnder_65 : decode cX1_comesUnder 65 = .ok (.getfield 64, 3) := dk_180 0 64 (dk_at dksX1_comesUnder_2 19 rfl rfl)
theorem dX1_comesUnder_68 : decode cX1_comesUnder 68 = .ok (.bipush 24, 2) := dk_16 24 (dk_at dksX1_comesUnder_2 22 rfl rfl)
theorem dX1_comesUnder_70 : decode cX1_comesUnder 70 = .ok (.iload_n 1, 1) := dk_27 (dk_at dksX1_comesUnder_3 0 rfl rfl)
theorem dX1_comesUnder_71 : decode cX1_comesUnder 71 = .ok (.imul, 1) := dk_104 (dk_at dksX1_comesUnder_3 1 rfl rfl)
theorem dX1_comesUnder_72 : decode cX1_comesUnder 72 = .ok (.iload_n 3, 1) := dk_29 (dk_at dksX1_comesUnder_3 2 rfl rfl)
theorem dX1_comesUnder_73 : decode cX1_comesUnder 73 = .ok (.iadd, 1) := dk_96 (dk_at dksX1_comesUnder_3 3 rfl rfl)
theorem dX1_comesUnder_74 : decode cX1_comesUnder 74 = .ok (.iconst 1, 1) := dk_4 (dk_at dksX1_comesUnder_3 4 rfl rfl)
theorem dX1_comesUnder_75 : decode cX1_comesUnder 75 = .ok (.isub, 1) := dk_100 (dk_at dksX1_comesUnder_3 5 rfl rfl)
theorem dX1_comesUnder_76 : decode cX1_comesUnder 76 = .ok (.iload_n 2, 1) := dk_28 (dk_at dksX1_comesUnder_3 6 rfl rfl)
theorem dX1_comesUnder_77 : decode cX1_comesUnder 77 = .ok (.iastore, 1) := dk_79 (dk_at dksX1_comesUnder_3 7 rfl rfl)
theorem dX1_comesUnder_78 : decode cX1_comesUnder 78 = .ok (.iinc 3 (-1), 3) := dk_132 3 255 (dk_at dksX1_comesUnder_3 8 rfl rfl)
theorem dX1_comesUnder_81 : decode cX1_comesUnder 81 = .ok (.goto (-66), 3) := dk_167 255 190 (dk_at dksX1_comesUnder_3 11 rfl rfl)
theorem dX1_comesUnder_84 : decode cX1_comesUnder 84 = .ok (.return_, 1) := dk_177 (dk_at dksX1_comesUnder_3 14 rfl rfl)
abbrev cX1_comesBehind : ByteArray := prog_14_method_20_code
def yX1_comesBehind : MethodName := ⟨RX1, "comesBehind", "(II)V"⟩
def dkwX1_comesBehind_1 : List UInt8 := [4, 96, 79, 177]
abbrev dktX1_comesBehind_1 : List UInt8 := dkwX1_comesBehind_1 ++ []
def dkwX1_comesBehind_0 : List UInt8 := [42, 180, 0, 64, 16, 24, 27, 104, 42, 180, 0, 61, 27, 46, 96, 28, 79, 42, 180, 0, 61, 27, 92, 46]
abbrev dktX1_comesBehind_0 : List UInt8 := dkwX1_comesBehind_0 ++ dktX1_comesBehind_1
theorem dksX1_comesBehind_0 : cX1_comesBehind.data.toList.drop 0 = dktX1_comesBehind_0 := by decide +kernel
theorem dksX1_comesBehind_1 : cX1_comesBehind.data.toList.drop 24 = dktX1_comesBehind_1 := dk_seg dksX1_comesBehind_0 24 rfl rfl
theorem dX1_comesBehind_0 : decode cX1_comesBehind 0 = .ok (.aload_n 0, 1) := dk_42 (dk_at dksX1_comesBehind_0 0 rfl rfl)
theorem dX1_comesBehind_1 : decode cX1_comesBehind 1 = .ok (.getfield 64, 3) := dk_180 0 64 (dk_at dksX1_comesBehind_0 1 rfl rfl)
theorem dX1_comesBehind_4 : decode cX1_comesBehind 4 = .ok (.bipush 24, 2) := dk_16 24 (dk_at dksX1_comesBehind_0 4 rfl rfl)
theorem dX1_comesBehind_6 : decode cX1_comesBehind 6 = .ok (.iload_n 1, 1) := dk_27 (dk_at dksX1_comesBehind_0 6 rfl rfl)
theorem dX1_comesBehind_7 : decode cX1_comesBehind 7 = .ok (.imul, 1) := dk_104 (dk_at dksX1_comesBehind_0 7 rfl rfl)
theorem dX1_comesBehind_8 : decode cX1_comesBehind 8 = .ok (.aload_n 0, 1) := dk_42 (dk_at dksX1_comesBehind_0 8 rfl rfl)
theorem dX1_comesBehind_9 : decode cX1_comesBehind 9 = .ok (.getfield 61, 3) := dk_180 0 61 (dk_at dksX1_comesBehind_0 9 rfl rfl)
theorem dX1_comesBehind_12 : decode cX1_comesBehind 12 = .ok (.iload_n 1, 1) := dk_27 (dk_at dksX1_comesBehind_0 12 rfl rfl)
theorem dX1_comesBehind_13 : decode cX1_comesBehind 13 = .ok (.iaload, 1) := dk_46 (dk_at dksX1_comesBehind_0 13 rfl rfl)
theorem dX1_comesBehind_14 : decode cX1_comesBehind 14 = .ok (.iadd, 1) := dk_96 (dk_at dksX1_comesBehind_0 14 rfl rfl)
theorem dX1_comesBehind_15 : decode cX1_comesBehind 15 = .ok (.iload_n 2, 1) := dk_28 (dk_at dksX1_comesBehind_0 15 rfl rfl)
theorem dX1_comesBehind_16 : decode cX1_comesBehind 16 = .ok (.iastore, 1) := dk_79 (dk_at dksX1_comesBehind_0 16 rfl rfl)
theorem dX1_comesBehind_17 : decode cX1_comesBehind 17 = .ok (.aload_n 0, 1) := dk_42 (dk_at dksX1_comesBehind_0 17 rfl rfl)
theorem dX1_comesBehind_18 : decode cX1_comesBehind 18 = .ok (.getfield 61, 3) := dk_180 0 61 (dk_at dksX1_comesBehind_0 18 rfl rfl)
theorem dX1_comesBehind_21 : decode cX1_comesBehind 21 = .ok (.iload_n 1, 1) := dk_27 (dk_at dksX1_comesBehind_0 21 rfl rfl)
theorem dX1_comesBehind_22 : decode cX1_comesBehind 22 = .ok (.dup2, 1) := dk_92 (dk_at dksX1_comesBehind_0 22 rfl rfl)
theorem dX1_comesBehind_23 : decode cX1_comesBehind 23 = .ok (.iaload, 1) := dk_46 (dk_at dksX1_comesBehind_0 23 rfl rfl)
theorem dX1_comesBehind_24 : decode cX1_comesBehind 24 = .ok (.iconst 1, 1) := dk_4 (dk_at dksX1_comesBehind_1 0 rfl rfl)
theorem dX1_comesBehind_25 : decode cX1_comesBehind 25 = .ok (.iadd, 1) := dk_96 (dk_at dksX1_comesBehind_1 1 rfl rfl)
theorem dX1_comesBehind_26 : decode cX1_comesBehind 26 = .ok (.iastore, 1) := dk_79 (dk_at dksX1_comesBehind_1 2 rfl rfl)
theorem dX1_comesBehind_27 : decode cX1_comesBehind 27 = .ok (.return_, 1) := dk_177 (dk_at dksX1_comesBehind_1 3 rfl rfl)
abbrev cX1_isAhead : ByteArray := prog_14_method_21_code
def yX1_isAhead : MethodName := ⟨RX1, "isAhead", "(II)Z"⟩
def dkwX1_isAhead_2 : List UInt8 := [180, 0, 22, 28, 46, 162, 0, 7, 4, 167, 0, 4, 3, 172]
abbrev dktX1_isAhead_2 : List UInt8 := dkwX1_isAhead_2 ++ []
def dkwX1_isAhead_1 : List UInt8 := [180, 0, 16, 28, 46, 162, 0, 7, 4, 167, 0, 27, 3, 167, 0, 23, 42, 180, 0, 22, 27, 46, 42]
abbrev dktX1_isAhead_1 : List UInt8 := dkwX1_isAhead_1 ++ dktX1_isAhead_2
def dkwX1_isAhead_0 : List UInt8 := [42, 180, 0, 16, 27, 46, 42, 180, 0, 16, 28, 46, 159, 0, 26, 42, 180, 0, 16, 27, 46, 42]
abbrev dktX1_isAhead_0 : List UInt8 := dkwX1_isAhead_0 ++ dktX1_isAhead_1
theorem dksX1_isAhead_0 : cX1_isAhead.data.toList.drop 0 = dktX1_isAhead_0 := by decide +kernel
theorem dksX1_isAhead_1 : cX1_isAhead.data.toList.drop 22 = dktX1_isAhead_1 := dk_seg dksX1_isAhead_0 22 rfl rfl
theorem dksX1_isAhead_2 : cX1_isAhead.data.toList.drop 45 = dktX1_isAhead_2 := dk_seg dksX1_isAhead_1 23 rfl rfl
theorem dX1_isAhead_0 : decode cX1_isAhead 0 = .ok (.aload_n 0, 1) := dk_42 (dk_at dksX1_isAhead_0 0 rfl rfl)
theorem dX1_isAhead_1 : decode cX1_isAhead 1 = .ok (.getfield 16, 3) := dk_180 0 16 (dk_at dksX1_isAhead_0 1 rfl rfl)
theorem dX1_isAhead_4 : decode cX1_isAhead 4 = .ok (.iload_n 1, 1) := dk_27 (dk_at dksX1_isAhead_0 4 rfl rfl)
theorem dX1_isAhead_5 : decode cX1_isAhead 5 = .ok (.iaload, 1) := dk_46 (dk_at dksX1_isAhead_0 5 rfl rfl)
theorem dX1_isAhead_6 : decode cX1_isAhead 6 = .ok (.aload_n 0, 1) := dk_42 (dk_at dksX1_isAhead_0 6 rfl rfl)
theorem dX1_isAhead_7 : decode cX1_isAhead 7 = .ok (.getfield 16, 3) := dk_180 0 16 (dk_at dksX1_isAhead_0 7 rfl rfl)
theorem dX1_isAhead_10 : decode cX1_isAhead 10 = .ok (.iload_n 2, 1) := dk_28 (dk_at dksX1_isAhead_0 10 rfl rfl)
theorem dX1_isAhead_11 : decode cX1_isAhead 11 = .ok (.iaload, 1) := dk_46 (dk_at dksX1_isAhead_0 11 rfl rfl)
theorem dX1_isAhead_12 : decode cX1_isAhead 12 = .ok (.if_icmp .eq 26, 3) := dk_159 0 26 (dk_at dksX1_isAhead_0 12 rfl rfl)
theorem dX1_isAhead_15 : decode cX1_isAhead 15 = .ok (.aload_n 0, 1) := dk_42 (dk_at dksX1_isAhead_0 15 rfl rfl)
theorem dX1_isAhead_16 : decode cX1_isAhead 16 = .ok (.getfield 16, 3) := dk_180 0 16 (dk_at dksX1_isAhead_0 16 rfl rfl)
theorem dX1_isAhead_19 : decode cX1_isAhead 19 = .ok (.iload_n 1, 1) := dk_27 (dk_at dksX1_isAhead_0 19 rfl rfl)
theorem dX1_isAhead_20 : decode cX1_isAhead 20 = .ok (.iaload, 1) := dk_46 (dk_at dksX1_isAhead_0 20 rfl rfl)
theorem dX1_isAhead_21 : decode cX1_isAhead 21 = .ok (.aload_n 0, 1) := dk_42 (dk_at dksX1_isAhead_0 21 rfl rfl)
theorem dX1_isAhead_22 : decode cX1_isAhead 22 = .ok (.getfield 16, 3) := dk_180 0 16 (dk_at dksX1_isAhead_1 0 rfl rfl)
theorem dX1_isAhead_25 : decode cX1_isAhead 25 = .ok (.iload_n 2, 1) := dk_28 (dk_at dksX1_isAhead_1 3 rfl rfl)
theorem dX1_isAhead_26 : decode cX1_isAhead 26 = .ok (.iaload, 1) := dk_46 (dk_at dksX1_isAhead_1 4 rfl rfl)
theorem dX1_isAhead_27 : decode cX1_isAhead 27 = .ok (.if_icmp .ge 7, 3) := dk_162 0 7 (dk_at dksX1_isAhead_1 5 rfl rfl)
theorem dX1_isAhead_30 : decode cX1_isAhead 30 = .ok (.iconst 1, 1) := dk_4 (dk_at dksX1_isAhead_1 8 rfl rfl)
theorem dX1_isAhead_31 : decode cX1_isAhead 31 = .ok (.goto 27, 3) := dk_167 0 27 (dk_at dksX1_isAhead_1 9 rfl rfl)
theorem dX1_isAhead_34 : decode cX1_isAhead 34 = .ok (.iconst 0, 1) := dk_3 (dk_at dksX1_isAhead_1 12 rfl rfl)
theorem dX1_isAhead_35 : decode cX1_isAhead 35 = .ok (.goto 23, 3) := dk_167 0 23 (dk_at dksX1_isAhead_1 13 rfl rfl)
theorem dX1_isAhead_38 : decode cX1_isAhead 38 = .ok (.aload_n 0, 1) := dk_42 (dk_at dksX1_isAhead_1 16 rfl rfl)
theorem dX1_isAhead_39 : decode cX1_isAhead 39 = .ok (.getfield 22, 3) := dk_180 0 22 (dk_at dksX1_isAhead_1 17 rfl rfl)
theorem dX1_isAhead_42 : decode cX1_isAhead 42 = .ok (.iload_n 1, 1) := dk_27 (dk_at dksX1_isAhead_1 20 rfl rfl)
theorem dX1_isAhead_43 : decode cX1_isAhead 43 = .ok (.iaload, 1) := dk_46 (dk_at dksX1_isAhead_1 21 rfl rfl)
theorem dX1_isAhead_44 : decode cX1_isAhead 44 = .ok (.aload_n 0, 1) := dk_42 (dk_at dksX1_isAhead_1 22 rfl rfl)
theorem dX1_isAhead_45 : decode cX1_isAhead 45 = .ok (.getfield 22, 3) := dk_180 0 22 (dk_at dksX1_isAhead_2 0 rfl rfl)
theorem dX1_isAhead_48 : decode cX1_isAhead 48 = .ok (.iload_n 2, 1) := dk_28 (dk_at dksX1_isAhead_2 3 rfl rfl)
theorem dX1_isAhead_49 : decode cX1_isAhead 49 = .ok (.iaload, 1) := dk_46 (dk_at dksX1_isAhead_2 4 rfl rfl)
theorem dX1_isAhead_50 : decode cX1_isAhead 50 = .ok (.if_icmp .ge 7, 3) := dk_162 0 7 (dk_at dksX1_isAhead_2 5 rfl rfl)
theorem dX1_isAhead_53 : decode cX1_isAhead 53 = .ok (.iconst 1, 1) := dk_4 (dk_at dksX1_isAhead_2 8 rfl rfl)
theorem dX1_isAhead_54 : decode cX1_isAhead 54 = .ok (.goto 4, 3) := dk_167 0 4 (dk_at dksX1_isAhead_2 9 rfl rfl)
theorem dX1_isAhead_57 : decode cX1_isAhead 57 = .ok (.iconst 0, 1) := dk_3 (dk_at dksX1_isAhead_2 12 rfl rfl)
theorem dX1_isAhead_58 : decode cX1_isAhead 58 = .ok (.ireturn, 1) := dk_172 (dk_at dksX1_isAhead_2 13 rfl rfl)
abbrev cX1_joins : ByteArray := prog_14_method_25_code
def yX1_joins : MethodName := ⟨RX1, "joins", "()Z"⟩
def dkwX1_joins_3 : List UInt8 := [182, 0, 129, 4, 172, 132, 1, 1, 167, 255, 180, 3, 172]
abbrev dktX1_joins_3 : List UInt8 := dkwX1_joins_3 ++ []
def dkwX1_joins_2 : List UInt8 := [28, 79, 42, 180, 0, 55, 27, 42, 180, 0, 55, 28, 46, 79, 42, 42, 180, 0, 55, 28, 46, 27]
abbrev dktX1_joins_2 : List UInt8 := dkwX1_joins_2 ++ dktX1_joins_3
def dkwX1_joins_1 : List UInt8 := [27, 46, 16, 247, 160, 0, 47, 42, 27, 182, 0, 139, 61, 28, 16, 247, 159, 0, 35, 42, 180, 0, 58, 27]
abbrev dktX1_joins_1 : List UInt8 := dkwX1_joins_1 ++ dktX1_joins_2
def dkwX1_joins_0 : List UInt8 := [3, 60, 27, 42, 180, 0, 98, 162, 0, 74, 42, 180, 0, 13, 27, 46, 4, 160, 0, 58, 42, 180, 0, 55]
abbrev dktX1_joins_0 : List UInt8 := dkwX1_joins_0 ++ dktX1_joins_1
theorem dksX1_joins_0 : cX1_joins.data.toList.drop 0 = dktX1_joins_0 := by decide +kernel
theorem dksX1_joins_1 : cX1_joins.data.toList.drop 24 = dktX1_joins_1 := dk_seg dksX1_joins_0 24 rfl rfl
theorem dksX1_joins_2 : cX1_joins.data.toList.drop 48 = dktX1_joins_2 := dk_seg dksX1_joins_1 24 rfl rfl
theorem dksX1_joins_3 : cX1_joins.data.toList.drop 70 = dktX1_joins_3 := dk_seg dksX1_joins_2 22 rfl rfl
theorem dX1_joins_0 : decode cX1_joins 0 = .ok (.iconst 0, 1) := dk_3 (dk_at dksX1_joins_0 0 rfl rfl)
theorem dX1_joins_1 : decode cX1_joins 1 = .ok (.istore_n 1, 1) := dk_60 (dk_at dksX1_joins_0 1 rfl rfl)
theorem dX1_joins_2 : decode cX1_joins 2 = .ok (.iload_n 1, 1) := dk_27 (dk_at dksX1_joins_0 2 rfl rfl)
theorem dX1_joins_3 : decode cX1_joins 3 = .ok (.aload_n 0, 1) := dk_42 (dk_at dksX1_joins_0 3 rfl rfl)
theorem dX1_joins_4 : decode cX1_joins 4 = .ok (.getfield 98, 3) := dk_180 0 98 (dk_at dksX1_joins_0 4 rfl rfl)
theorem dX1_joins_7 : decode cX1_joins 7 = .ok (.if_icmp .ge 74, 3) := dk_162 0 74 (dk_at dksX1_joins_0 7 rfl rfl)
theorem dX1_joins_10 : decode cX1_joins 10 = .ok (.aload_n 0, 1) := dk_42 (dk_at dksX1_joins_0 10 rfl rfl)
theorem dX1_joins_11 : decode cX1_joins 11 = .ok (.getfield 13, 3) := dk_180 0 13 (dk_at dksX1_joins_0 11 rfl rfl)
theorem dX1_joins_14 : decode cX1_joins 14 = .ok (.iload_n 1, 1) := dk_27 (dk_at dksX1_joins_0 14 rfl rfl)
theorem dX1_joins_15 : decode cX1_joins 15 = .ok (.iaload, 1) := dk_46 (dk_at dksX1_joins_0 15 rfl rfl)
theorem dX1_joins_16 : decode cX1_joins 16 = .ok (.iconst 1, 1) := dk_4 (dk_at dksX1_joins_0 16 rfl rfl)
theorem dX1_joins_17 : decode cX1_joins 17 = .ok (.if_icmp .ne 58, 3) := dk_160 0 58 (dk_at dksX1_joins_0 17 rfl rfl)
theorem dX1_joins_20 : decode cX1_joins 20 = .ok (.aload_n 0, 1) := dk_42 (dk_at dksX1_joins_0 20 rfl rfl)
theorem dX1_joins_21 : decode cX1_joins 21 = .ok (.getfield 55, 3) := dk_180 0 55 (dk_at dksX1_joins_0 21 rfl rfl)
theorem dX1_joins_24 : decode cX1_joins 24 = .ok (.iload_n 1, 1) := dk_27 (dk_at dksX1_joins_1 0 rfl rfl)
theorem dX1_joins_25 : decode cX1_joins 25 = .ok (.iaload, 1) := dk_46 (dk_at dksX1_joins_1 1 rfl rfl)
theorem dX1_joins_26 : decode cX1_joins 26 = .ok (.bipush (-9), 2) := dk_16 247 (dk_at dksX1_joins_1 2 rfl rfl)
theorem dX1_joins_28 : decode cX1_joins 28 = .ok (.if_icmp .ne 47, 3) := dk_160 0 47 (dk_at dksX1_joins_1 4 rfl rfl)
theorem dX1_joins_31 : decode cX1_joins 31 = .ok (.aload_n 0, 1) := dk_42 (dk_at dksX1_joins_1 7 rfl rfl)
theorem dX1_joins_32 : decode cX1_joins 32 = .ok (.iload_n 1, 1) := dk_27 (dk_at dksX1_joins_1 8 rfl rfl)
theorem dX1_joins_33 : decode cX1_joins 33 = .ok (.invokevirtual 139, 3) := dk_182 0 139 (dk_at dksX1_joins_1 9 rfl rfl)
theorem dX1_joins_36 : decode cX1_joins 36 = .ok (.istore_n 2, 1) := dk_61 (dk_at dksX1_joins_1 12 rfl rfl)
theorem dX1_joins_37 : decode cX1_joins 37 = .ok (.iload_n 2, 1) := dk_28 (dk_at dksX1_joins_1 13 rfl rfl)
theorem dX1_joins_38 : decode cX1_joins 38 = .ok (.bipush (-9), 2) := dk_16 247 (dk_at dksX1_joins_1 14 rfl rfl)
theorem dX1_joins_40 : decode cX1_joins 40 = .ok (.if_icmp .eq 35, 3) := dk_159 0 35 (dk_at dksX1_joins_1 16 rfl rfl)
theorem dX1_joins_43 : decode cX1_joins 43 = .ok (.aload_n 0, 1) := dk_42 (dk_at dksX1_joins_1 19 rfl rfl)
theorem dX1_joins_44 : decode cX1_joins 44 = .ok (.getfield 58, 3) := dk_180 0 58 (dk_at dksX1_joins_1 20 rfl rfl)
theorem dX1_joins_47 : decode cX1_joins 47 = .ok (.iload_n 1, 1) := dk_27 (dk_at dksX1_joins_1 23 rfl rfl)
theorem dX1_joins_48 : decode cX1_joins 48 = .ok (.iload_n 2, 1) := dk_28 (dk_at dksX1_joins_2 0 rfl rfl)
theorem dX1_joins_49 : decode cX1_joins 49 = .ok (.iastore, 1) := dk_79 (dk_at dksX1_joins_2 1 rfl rfl)
theorem dX1_joins_50 : decode cX1_joins 50 = .ok (.aload_n 0, 1) := dk_42 (dk_at dksX1_joins_2 2 rfl rfl)
theorem dX1_joins_51 : decode cX1_joins 51 = .ok (.getfield 55, 3) := dk_180 0 55 (dk_at dksX1_joins_2 3 rfl rfl)
theorem dX1_joins_54 : decode cX1_joins 54 = .ok (.iload_n 1, 1) := dk_27 (dk_at dksX1_joins_2 6 rfl rfl)
theorem dX1_joins_55 : decode cX1_joins 55 = .ok (.aload_n 0, 1) := dk_42 (dk_at dksX1_joins_2 7 rfl rfl)
theorem dX1_joins_56 : decode cX1_joins 56 = .ok (.getfield 55, 3) := dk_180 0 55 (dk_at dksX1_joins_2 8 rfl rfl)
theorem dX1_joins_59 : decode cX1_joins 59 = .ok (.iload_n 2, 1) := dk_28 (dk_at dksX1_joins_2 11 rfl rfl)
theorem dX1_joins_60 : decode cX1_joins 60 = .ok (.iaload, 1) := dk_46 (dk_at dksX1_joins_2 12 rfl rfl)
theorem dX1_joins_61 : decode cX1_joins 61 = .ok (.iastore, 1) := dk_79 (dk_at dksX1_joins_2 13 rfl rfl)
theorem dX1_joins_62 : decode cX1_joins 62 = .ok (.aload_n 0, 1) := dk_42 (dk_at dksX1_joins_2 14 rfl rfl)
theorem dX1_joins_63 : decode cX1_joins 63 = .ok (.aload_n 0, 1) := dk_42 (dk_at dksX1_joins_2 15 rfl rfl)
theorem dX1_joins_64 : decode cX1_joins 64 = .ok (.getfield 55, 3) := dk_180 0 55 (dk_at dksX1_joins_2 16 rfl rfl)
theorem dX1_joins_67 : decode cX1_joins 67 = .ok (.iload_n 2, 1) := dk_28 (dk_at dksX1_joins_2 19 rfl rfl)
theorem dX1_joins_68 : decode cX1_joins 68 = .ok (.iaload, 1) := dk_46 (dk_at dksX1_joins_2 20 rfl rfl)
theorem dX1_joins_69 : decode cX1_joins 69 = .ok (.iload_n 1, 1) := dk_27 (dk_at dksX1_joins_2 21 rfl rfl)
theorem dX1_joins_70 : decode cX1_joins 70 = .ok (.invokevirtual 129, 3) := dk_182 0 129 (dk_at dksX1_joins_3 0 rfl rfl)
theorem dX1_joins_73 : decode cX1_joins 73 = .ok (.iconst 1, 1) := dk_4 (dk_at dksX1_joins_3 3 rfl rfl)
theorem dX1_joins_74 : decode cX1_joins 74 = .ok (.ireturn, 1) := dk_172 (dk_at dksX1_joins_3 4 rfl rfl)
theorem dX1_joins_75 : decode cX1_joins 75 = .ok (.iinc 1 1, 3) := dk_132 1 1 (dk_at dksX1_joins_3 5 rfl rfl)
theorem dX1_joins_78 : decode cX1_joins 78 = .ok (.goto (-76), 3) := dk_167 255 180 (dk_at dksX1_joins_3 8 rfl rfl)
theorem dX1_joins_81 : decode cX1_joins 81 = .ok (.iconst 0, 1) := dk_3 (dk_at dksX1_joins_3 11 rfl rfl)
theorem dX1_joins_82 : decode cX1_joins 82 = .ok (.ireturn, 1) := dk_172 (dk_at dksX1_joins_3 12 rfl rfl)
abbrev cX1_takerNow : ByteArray := prog_14_method_24_code
def yX1_takerNow : MethodName := ⟨RX1, "takerNow", "(I)I"⟩
def dkwX1_takerNow_2 : List UInt8 := [28, 61, 132, 3, 1, 167, 255, 209, 28, 172]
abbrev dktX1_takerNow_2 : List UInt8 := dkwX1_takerNow_2 ++ []
def dkwX1_takerNow_1 : List UInt8 := [16, 247, 159, 0, 18, 42, 180, 0, 22, 29, 46, 42, 180, 0, 22, 28, 46, 162, 0, 7, 29, 167, 0, 4]
abbrev dktX1_takerNow_1 : List UInt8 := dkwX1_takerNow_1 ++ dktX1_takerNow_2
def dkwX1_takerNow_0 : List UInt8 := [16, 247, 61, 3, 62, 29, 42, 180, 0, 98, 162, 0, 45, 42, 29, 27, 182, 0, 136, 153, 0, 28, 28]
abbrev dktX1_takerNow_0 : List UInt8 := dkwX1_takerNow_0 ++ dktX1_takerNow_1
theorem dksX1_takerNow_0 : cX1_takerNow.data.toList.drop 0 = dktX1_takerNow_0 := by decide +kernel
theorem dksX1_takerNow_1 : cX1_takerNow.data.toList.drop 23 = dktX1_takerNow_1 := dk_seg dksX1_takerNow_0 23 rfl rfl
theorem dksX1_takerNow_2 : cX1_takerNow.data.toList.drop 47 = dktX1_takerNow_2 := dk_seg dksX1_takerNow_1 24 rfl rfl
theorem dX1_takerNow_0 : decode cX1_takerNow 0 = .ok (.bipush (-9), 2) := dk_16 247 (dk_at dksX1_takerNow_0 0 rfl rfl)
theorem dX1_takerNow_2 : decode cX1_takerNow 2 = .ok (.istore_n 2, 1) := dk_61 (dk_at dksX1_takerNow_0 2 rfl rfl)
theorem dX1_takerNow_3 : decode cX1_takerNow 3 = .ok (.iconst 0, 1) := dk_3 (dk_at dksX1_takerNow_0 3 rfl rfl)
theorem dX1_takerNow_4 : decode cX1_takerNow 4 = .ok (.istore_n 3, 1) := dk_62 (dk_at dksX1_takerNow_0 4 rfl rfl)
theorem dX1_takerNow_5 : decode cX1_takerNow 5 = .ok (.iload_n 3, 1) := dk_29 (dk_at dksX1_takerNow_0 5 rfl rfl)
theorem dX1_takerNow_6 : decode cX1_takerNow 6 = .ok (.aload_n 0, 1) := dk_42 (dk_at dksX1_takerNow_0 6 rfl rfl)
theorem dX1_takerNow_7 : decode cX1_takerNow 7 = .ok (.getfield 98, 3) := dk_180 0 98 (dk_at dksX1_takerNow_0 7 rfl rfl)
theorem dX1_takerNow_10 : decode cX1_takerNow 10 = .ok (.if_icmp .ge 45, 3) := dk_162 0 45 (dk_at dksX1_takerNow_0 10 rfl rfl)
theorem dX1_takerNow_13 : decode cX1_takerNow 13 = .ok (.aload_n 0, 1) := dk_42 (dk_at dksX1_takerNow_0 13 rfl rfl)
theorem dX1_takerNow_14 : decode cX1_takerNow 14 = .ok (.iload_n 3, 1) := dk_29 (dk_at dksX1_takerNow_0 14 rfl rfl)
theorem dX1_takerNow_15 : decode cX1_takerNow 15 = .ok (.iload_n 1, 1) := dk_27 (dk_at dksX1_takerNow_0 15 rfl rfl)
theorem dX1_takerNow_16 : decode cX1_takerNow 16 = .ok (.invokevirtual 136, 3) := dk_182 0 136 (dk_at dksX1_takerNow_0 16 rfl rfl)
theorem dX1_takerNow_19 : decode cX1_takerNow 19 = .ok (.ifCond .eq 28, 3) := dk_153 0 28 (dk_at dksX1_takerNow_0 19 rfl rfl)
theorem dX1_takerNow_22 : decode cX1_takerNow 22 = .ok (.iload_n 2, 1) := dk_28 (dk_at dksX1_takerNow_0 22 rfl rfl)
theorem dX1_takerNow_23 : decode cX1_takerNow 23 = .ok (.bipush (-9), 2) := dk_16 247 (dk_at dksX1_takerNow_1 0 rfl rfl)
theorem dX1_takerNow_25 : decode cX1_takerNow 25 = .ok (.if_icmp .eq 18, 3) := dk_159 0 18 (dk_at dksX1_takerNow_1 2 rfl rfl)
theorem dX1_takerNow_28 : decode cX1_takerNow 28 = .ok (.aload_n 0, 1) := dk_42 (dk_at dksX1_takerNow_1 5 rfl rfl)
theorem dX1_takerNow_29 : decode cX1_takerNow 29 = .ok (.getfield 22, 3) := dk_180 0 22 (dk_at dksX1_takerNow_1 6 rfl rfl)
theorem dX1_takerNow_32 : decode cX1_takerNow 32 = .ok (.iload_n 3, 1) := dk_29 (dk_at dksX1_takerNow_1 9 rfl rfl)
theorem dX1_takerNow_33 : decode cX1_takerNow 33 = .ok (.iaload, 1) := dk_46 (dk_at dksX1_takerNow_1 10 rfl rfl)
theorem dX1_takerNow_34 : decode cX1_takerNow 34 = .ok (.aload_n 0, 1) := dk_42 (dk_at dksX1_takerNow_1 11 rfl rfl)
theorem dX1_takerNow_35 : decode cX1_takerNow 35 = .ok (.getfield 22, 3) := dk_180 0 22 (dk_at dksX1_takerNow_1 12 rfl rfl)
theorem dX1_takerNow_38 : decode cX1_takerNow 38 = .ok (.iload_n 2, 1) := dk_28 (dk_at dksX1_takerNow_1 15 rfl rfl)
theorem dX1_takerNow_39 : decode cX1_takerNow 39 = .ok (.iaload, 1) := dk_46 (dk_at dksX1_takerNow_1 16 rfl rfl)
theorem dX1_takerNow_40 : decode cX1_takerNow 40 = .ok (.if_icmp .ge 7, 3) := dk_162 0 7 (dk_at dksX1_takerNow_1 17 rfl rfl)
theorem dX1_takerNow_43 : decode cX1_takerNow 43 = .ok (.iload_n 3, 1) := dk_29 (dk_at dksX1_takerNow_1 20 rfl rfl)
theorem dX1_takerNow_44 : decode cX1_takerNow 44 = .ok (.goto 4, 3) := dk_167 0 4 (dk_at dksX1_takerNow_1 21 rfl rfl)
theorem dX1_takerNow_47 : decode cX1_takerNow 47 = .ok (.iload_n 2, 1) := dk_28 (dk_at dksX1_takerNow_2 0 rfl rfl)
theorem dX1_takerNow_48 : decode cX1_takerNow 48 = .ok (.istore_n 2, 1) := dk_61 (dk_at dksX1_takerNow_2 1 rfl rfl)
theorem dX1_takerNow_49 : decode cX1_takerNow 49 = .ok (.iinc 3 1, 3) := dk_132 3 1 (dk_at dksX1_takerNow_2 2 rfl rfl)
theorem dX1_takerNow_52 : decode cX1_takerNow 52 = .ok (.goto (-47), 3) := dk_167 255 209 (dk_at dksX1_takerNow_2 5 rfl rfl)
theorem dX1_takerNow_55 : decode cX1_takerNow 55 = .ok (.iload_n 2, 1) := dk_28 (dk_at dksX1_takerNow_2 8 rfl rfl)
theorem dX1_takerNow_56 : decode cX1_takerNow 56 = .ok (.ireturn, 1) := dk_172 (dk_at dksX1_takerNow_2 9 rfl rfl)
abbrev cX1_takes : ByteArray := prog_14_method_23_code
def yX1_takes : MethodName := ⟨RX1, "takes", "(II)Z"⟩
def dkwX1_takes_6 : List UInt8 := [182, 0, 117, 154, 0, 7, 4, 167, 0, 4, 3, 172]
abbrev dktX1_takes_6 : List UInt8 := dkwX1_takes_6 ++ []
def dkwX1_takes_5 : List UInt8 := [54, 4, 29, 21, 4, 163, 0, 29, 42, 42, 180, 0, 7, 28, 46, 42, 180, 0, 16, 28, 46, 29, 21, 4]
abbrev dktX1_takes_5 : List UInt8 := dkwX1_takes_5 ++ dktX1_takes_6
def dkwX1_takes_4 : List UInt8 := [180, 0, 25, 27, 46, 162, 0, 12, 42, 180, 0, 25, 28, 46, 167, 0, 9, 42, 180, 0, 25, 27, 46]
abbrev dktX1_takes_4 : List UInt8 := dkwX1_takes_4 ++ dktX1_takes_5
def dkwX1_takes_3 : List UInt8 := [42, 180, 0, 22, 28, 46, 167, 0, 9, 42, 180, 0, 22, 27, 46, 62, 42, 180, 0, 25, 28, 46, 42]
abbrev dktX1_takes_3 : List UInt8 := dkwX1_takes_3 ++ dktX1_takes_4
def dkwX1_takes_2 : List UInt8 := [28, 46, 4, 100, 159, 0, 5, 3, 172, 42, 180, 0, 22, 28, 46, 42, 180, 0, 22, 27, 46, 164, 0, 12]
abbrev dktX1_takes_2 : List UInt8 := dkwX1_takes_2 ++ dktX1_takes_3
def dkwX1_takes_1 : List UInt8 := [180, 0, 7, 27, 46, 42, 180, 0, 7, 28, 46, 160, 0, 20, 42, 180, 0, 19, 27, 46, 42, 180, 0, 16]
abbrev dktX1_takes_1 : List UInt8 := dkwX1_takes_1 ++ dktX1_takes_2
def dkwX1_takes_0 : List UInt8 := [42, 180, 0, 13, 27, 46, 4, 160, 0, 46, 42, 180, 0, 55, 27, 46, 16, 247, 159, 0, 35, 42]
abbrev dktX1_takes_0 : List UInt8 := dkwX1_takes_0 ++ dktX1_takes_1
theorem dksX1_takes_0 : cX1_takes.data.toList.drop 0 = dktX1_takes_0 := by decide +kernel
theorem dksX1_takes_1 : cX1_takes.data.toList.drop 22 = dktX1_takes_1 := dk_seg dksX1_takes_0 22 rfl rfl
theorem dksX1_takes_2 : cX1_takes.data.toList.drop 46 = dktX1_takes_2 := dk_seg dksX1_takes_1 24 rfl rfl
theorem dksX1_takes_3 : cX1_takes.data.toList.drop 70 = dktX1_takes_3 := dk_seg dksX1_takes_2 24 rfl rfl
theorem dksX1_takes_4 : cX1_takes.data.toList.drop 93 = dktX1_takes_4 := dk_seg dksX1_takes_3 23 rfl rfl
theorem dksX1_takes_5 : cX1_takes.data.toList.drop 116 = dktX1_takes_5 := dk_seg dksX1_takes_4 23 rfl rfl
theorem dksX1_takes_6 : cX1_takes.data.toList.drop 140 = dktX1_takes_6 := dk_seg dksX1_takes_5 24 rfl rfl
theorem dX1_takes_0 : decode cX1_takes 0 = .ok (.aload_n 0, 1) := dk_42 (dk_at dksX1_takes_0 0 rfl rfl)
theorem dX1_takes_1 : decode cX1_takes 1 = .ok (.getfield 13, 3) := dk_180 0 13 (dk_at dksX1_takes_0 1 rfl rfl)
theorem dX1_takes_4 : decode cX1_takes 4 = .ok (.iload_n 1, 1) := dk_27 (dk_at dksX1_takes_0 4 rfl rfl)
theorem dX1_takes_5 : decode cX1_takes 5 = .ok (.iaload, 1) := dk_46 (dk_at dksX1_takes_0 5 rfl rfl)
theorem dX1_takes_6 : decode cX1_takes 6 = .ok (.iconst 1, 1) := dk_4 (dk_at dksX1_takes_0 6 rfl rfl)
theorem dX1_takes_7 : decode cX1_takes 7 = .ok (.if_icmp .ne 46, 3) := dk_160 0 46 (dk_at dksX1_takes_0 7 rfl rfl)
theorem dX1_takes_10 : decode cX1_takes 10 = .ok (.aload_n 0, 1) := dk_42 (dk_at dksX1_takes_0 10 rfl rfl)
theorem dX1_takes_11 : decode cX1_takes 11 = .ok (.getfield 55, 3) := dk_180 0 55 (dk_at dksX1_takes_0 11 rfl rfl)
theorem dX1_takes_14 : decode cX1_takes 14 = .ok (.iload_n 1, 1) := dk_27 (dk_at dksX1_takes_0 14 rfl rfl)
theorem dX1_takes_15 : decode cX1_takes 15 = .ok (.iaload, 1) := dk_46 (dk_at dksX1_takes_0 15 rfl rfl)
theorem dX1_takes_16 : decode cX1_takes 16 = .ok (.bipush (-9), 2) := dk_16 247 (dk_at dksX1_takes_0 16 rfl rfl)
theorem dX1_takes_18 : decode cX1_takes 18 = .ok (.if_icmp .eq 35, 3) := dk_159 0 35 (dk_at dksX1_takes_0 18 rfl rfl)
theorem dX1_takes_21 : decode cX1_takes 21 = .ok (.aload_n 0, 1) := dk_42 (dk_at dksX1_takes_0 21 rfl rfl)
theorem dX1_takes_22 : decode cX1_takes 22 = .ok (.getfield 7, 3) := dk_180 0 7 (dk_at dksX1_takes_1 0 rfl rfl)
theorem dX1_takes_25 : decode cX1_takes 25 = .ok (.iload_n 1, 1) := dk_27 (dk_at dksX1_takes_1 3 rfl rfl)
theorem dX1_takes_26 : decode cX1_takes 26 = .ok (.iaload, 1) := dk_46 (dk_at dksX1_takes_1 4 rfl rfl)
theorem dX1_takes_27 : decode cX1_takes 27 = .ok (.aload_n 0, 1) := dk_42 (dk_at dksX1_takes_1 5 rfl rfl)
theorem dX1_takes_28 : decode cX1_takes 28 = .ok (.getfield 7, 3) := dk_180 0 7 (dk_at dksX1_takes_1 6 rfl rfl)
theorem dX1_takes_31 : decode cX1_takes 31 = .ok (.iload_n 2, 1) := dk_28 (dk_at dksX1_takes_1 9 rfl rfl)
theorem dX1_takes_32 : decode cX1_takes 32 = .ok (.iaload, 1) := dk_46 (dk_at dksX1_takes_1 10 rfl rfl)
theorem dX1_takes_33 : decode cX1_takes 33 = .ok (.if_icmp .ne 20, 3) := dk_160 0 20 (dk_at dksX1_takes_1 11 rfl rfl)
theorem dX1_takes_36 : decode cX1_takes 36 = .ok (.aload_n 0, 1) := dk_42 (dk_at dksX1_takes_1 14 rfl rfl)
theorem dX1_takes_37 : decode cX1_takes 37 = .ok (.getfield 19, 3) := dk_180 0 19 (dk_at dksX1_takes_1 15 rfl rfl)
theorem dX1_takes_40 : decode cX1_takes 40 = .ok (.iload_n 1, 1) := dk_27 (dk_at dksX1_takes_1 18 rfl rfl)
theorem dX1_takes_41 : decode cX1_takes 41 = .ok (.iaload, 1) := dk_46 (dk_at dksX1_takes_1 19 rfl rfl)
theorem dX1_takes_42 : decode cX1_takes 42 = .ok (.aload_n 0, 1) := dk_42 (dk_at dksX1_takes_1 20 rfl rfl)
theorem dX1_takes_43 : decode cX1_takes 43 = .ok (.getfield 16, 3) := dk_180 0 16 (dk_at dksX1_takes_1 21 rfl rfl)
theorem dX1_takes_46 : decode cX1_takes 46 = .ok (.iload_n 2, 1) := dk_28 (dk_at dksX1_takes_2 0 rfl rfl)
theorem dX1_takes_47 : decode cX1_takes 47 = .ok (.iaload, 1) := dk_46 (dk_at dksX1_takes_2 1 rfl rfl)
theorem dX1_takes_48 : decode cX1_takes 48 = .ok (.iconst 1, 1) := dk_4 (dk_at dksX1_takes_2 2 rfl rfl)
theorem dX1_takes_49 : decode cX1_takes 49 = .ok (.isub, 1) := dk_100 (dk_at dksX1_takes_2 3 rfl rfl)
theorem dX1_takes_50 : decode cX1_takes 50 = .ok (.if_icmp .eq 5, 3) := dk_159 0 5 (dk_at dksX1_takes_2 4 rfl rfl)
theorem dX1_takes_53 : decode cX1_takes 53 = .ok (.iconst 0, 1) := dk_3 (dk_at dksX1_takes_2 7 rfl rfl)
theorem dX1_takes_54 : decode cX1_takes 54 = .ok (.ireturn, 1) := dk_172 (dk_at dksX1_takes_2 8 rfl rfl)
theorem dX1_takes_55 : decode cX1_takes 55 = .ok (.aload_n 0, 1) := dk_42 (dk_at dksX1_takes_2 9 rfl rfl)
theorem dX1_takes_56 : decode cX1_takes 56 = .ok (.getfield 22, 3) := dk_180 0 22 (dk_at dksX1_takes_2 10 rfl rfl)
theorem dX1_takes_59 : decode cX1_takes 59 = .ok (.iload_n 2, 1) := dk_28 (dk_at dksX1_takes_2 13 rfl rfl)
theorem dX1_takes_60 : decode cX1_takes 60 = .ok (.iaload, 1) := dk_46 (dk_at dksX1_takes_2 14 rfl rfl)
theorem dX1_takes_61 : decode cX1_takes 61 = .ok (.aload_n 0, 1) := dk_42 (dk_at dksX1_takes_2 15 rfl rfl)
theorem dX1_takes_62 : decode cX1_takes 62 = .ok (.getfield 22, 3) := dk_180 0 22 (dk_at dksX1_takes_2 16 rfl rfl)
theorem dX1_takes_65 : decode cX1_takes 65 = .ok (.iload_n 1, 1) := dk_27 (dk_at dksX1_takes_2 19 rfl rfl)
theorem dX1_takes_66 : decode cX1_takes 66 = .ok (.iaload, 1) := dk_46 (dk_at dksX1_takes_2 20 rfl rfl)
theorem dX1_takes_67 : decode cX1_takes 67 = .ok (.if_icmp .le 12, 3) := dk_164 0 12 (dk_at dksX1_takes_2 21 rfl rfl)
theorem dX1_takes_70 : decode cX1_takes 70 = .ok (.aload_n 0, 1) := dk_42 (dk_at dksX1_takes_3 0 rfl rfl)
theorem dX1_takes_71 : decode cX1_takes 71 = .ok (.getfield 22, 3) := dk_180 0 22 (dk_at dksX1_takes_3 1 rfl rfl)
theorem dX1_takes_74 : decode cX1_takes 74 = .ok (.iload_n 2, 1) := dk_28 (dk_at dksX1_takes_3 4 rfl rfl)
theorem dX1_takes_75 : decode cX1_takes 75 = .ok (.iaload, 1) := dk_46 (dk_at dksX1_takes_3 5 rfl rfl)
theorem dX1_takes_76 : decode cX1_takes 76 = .ok (.goto 9, 3) := dk_167 0 9 (dk_at dksX1_takes_3 6 rfl rfl)
theorem dX1_takes_79 : decode cX1_takes 79 = .ok (.aload_n 0, 1) := dk_42 (dk_at dksX1_takes_3 9 rfl rfl)
theorem dX1_takes_80 : decode cX1_takes 80 = .ok (.getfield 22, 3) := dk_180 0 22 (dk_at dksX1_takes_3 10 rfl rfl)
theorem dX1_takes_83 : decode cX1_takes 83 = .ok (.iload_n 1, 1) := dk_27 (dk_at dksX1_takes_3 13 rfl rfl)
theorem dX1_takes_84 : decode cX1_takes 84 = .ok (.iaload, 1) := dk_46 (dk_at dksX1_takes_3 14 rfl rfl)
theorem dX1_takes_85 : decode cX1_takes 85 = .ok (.istore_n 3, 1) := dk_62 (dk_at dksX1_takes_3 15 rfl rfl)
theorem dX1_takes_86 : decode cX1_takes 86 = .ok (.aload_n 0, 1) := dk_42 (dk_at dksX1_takes_3 16 rfl rfl)
theorem dX1_takes_87 : decode cX1_takes 87 = .ok (.getfield 25, 3) := dk_180 0 25 (dk_at dksX1_takes_3 17 rfl rfl)
theorem dX1_takes_90 : decode cX1_takes 90 = .ok (.iload_n 2, 1) := dk_28 (dk_at dksX1_takes_3 20 rfl rfl)
theorem dX1_takes_91 : decode cX1_takes 91 = .ok (.iaload, 1) := dk_46 (dk_at dksX1_takes_3 21 rfl rfl)
theorem dX1_takes_92 : decode cX1_takes 92 = .ok (.aload_n 0, 1) := dk_42 (dk_at dksX1_takes_3 22 rfl rfl)
theorem dX1_takes_93 : decode cX1_takes 93 = .ok (.getfield 25, 3) := dk_180 0 25 (dk_at dksX1_takes_4 0 rfl rfl)
theorem dX1_takes_96 : decode cX1_takes 96 = .ok (.iload_n 1, 1) := dk_27 (dk_at dksX1_takes_4 3 rfl rfl)
theorem dX1_takes_97 : decode cX1_takes 97 = .ok (.iaload, 1) := dk_46 (dk_at dksX1_takes_4 4 rfl rfl)
theorem dX1_takes_98 : decode cX1_takes 98 = .ok (.if_icmp .ge 12, 3) := dk_162 0 12 (dk_at dksX1_takes_4 5 rfl rfl)
theorem dX1_takes_101 : decode cX1_takes 101 = .ok (.aload_n 0, 1) := dk_42 (dk_at dksX1_takes_4 8 rfl rfl)
theorem dX1_takes_102 : decode cX1_takes 102 = .ok (.getfield 25, 3) := dk_180 0 25 (dk_at dksX1_takes_4 9 rfl rfl)
theorem dX1_takes_105 : decode cX1_takes 105 = .ok (.iload_n 2, 1) := dk_28 (dk_at dksX1_takes_4 12 rfl rfl)
theorem dX1_takes_106 : decode cX1_takes 106 = .ok (.iaload, 1) := dk_46 (dk_at dksX1_takes_4 13 rfl rfl)
theorem dX1_takes_107 : decode cX1_takes 107 = .ok (.goto 9, 3) := dk_167 0 9 (dk_at dksX1_takes_4 14 rfl rfl)
theorem dX1_takes_110 : decode cX1_takes 110 = .ok (.aload_n 0, 1) := dk_42 (dk_at dksX1_takes_4 17 rfl rfl)
theorem dX1_takes_111 : decode cX1_takes 111 = .ok (.getfield 25, 3) := dk_180 0 25 (dk_at dksX1_takes_4 18 rfl rfl)
theorem dX1_takes_114 : decode cX1_takes 114 = .ok (.iload_n 1, 1) := dk_27 (dk_at dksX1_takes_4 21 rfl rfl)
theorem dX1_takes_115 : decode cX1_takes 115 = .ok (.iaload, 1) := dk_46 (dk_at dksX1_takes_4 22 rfl rfl)
theorem dX1_takes_116 : decode cX1_takes 116 = .ok (.istore 4, 2) := dk_54 4 (dk_at dksX1_takes_5 0 rfl rfl)
theorem dX1_takes_118 : decode cX1_takes 118 = .ok (.iload_n 3, 1) := dk_29 (dk_at dksX1_takes_5 2 rfl rfl)
theorem dX1_takes_119 : decode cX1_takes 119 = .ok (.iload 4, 2) := dk_21 4 (dk_at dksX1_takes_5 3 rfl rfl)
theorem dX1_takes_121 : decode cX1_takes 121 = .ok (.if_icmp .gt 29, 3) := dk_163 0 29 (dk_at dksX1_takes_5 5 rfl rfl)
theorem dX1_takes_124 : decode cX1_takes 124 = .ok (.aload_n 0, 1) := dk_42 (dk_at dksX1_takes_5 8 rfl rfl)
theorem dX1_takes_125 : decode cX1_takes 125 = .ok (.aload_n 0, 1) := dk_42 (dk_at dksX1_takes_5 9 rfl rfl)
theorem dX1_takes_126 : decode cX1_takes 126 = .ok (.getfield 7, 3) := dk_180 0 7 (dk_at dksX1_takes_5 10 rfl rfl)
theorem dX1_takes_129 : decode cX1_takes 129 = .ok (.iload_n 2, 1) := dk_28 (dk_at dksX1_takes_5 13 rfl rfl)
theorem dX1_takes_130 : decode cX1_takes 130 = .ok (.iaload, 1) := dk_46 (dk_at dksX1_takes_5 14 rfl rfl)
theorem dX1_takes_131 : decode cX1_takes 131 = .ok (.aload_n 0, 1) := dk_42 (dk_at dksX1_takes_5 15 rfl rfl)
theorem dX1_takes_132 : decode cX1_takes 132 = .ok (.getfield 16, 3) := dk_180 0 16 (dk_at dksX1_takes_5 16 rfl rfl)
theorem dX1_takes_135 : decode cX1_takes 135 = .ok (.iload_n 2, 1) := dk_28 (dk_at dksX1_takes_5 19 rfl rfl)
theorem dX1_takes_136 : decode cX1_takes 136 = .ok (.iaload, 1) := dk_46 (dk_at dksX1_takes_5 20 rfl rfl)
theorem dX1_takes_137 : decode cX1_takes 137 = .ok (.iload_n 3, 1) := dk_29 (dk_at dksX1_takes_5 21 rfl rfl)
theorem dX1_takes_138 : decode cX1_takes 138 = .ok (.iload 4, 2) := dk_21 4 (dk_at dksX1_takes_5 22 rfl rfl)
theorem dX1_takes_140 : decode cX1_takes 140 = .ok (.invokevirtual 117, 3) := dk_182 0 117 (dk_at dksX1_takes_6 0 rfl rfl)
theorem dX1_takes_143 : decode cX1_takes 143 = .ok (.ifCond .ne 7, 3) := dk_154 0 7 (dk_at dksX1_takes_6 3 rfl rfl)
theorem dX1_takes_146 : decode cX1_takes 146 = .ok (.iconst 1, 1) := dk_4 (dk_at dksX1_takes_6 6 rfl rfl)
theorem dX1_takes_147 : decode cX1_takes 147 = .ok (.goto 4, 3) := dk_167 0 4 (dk_at dksX1_takes_6 7 rfl rfl)
theorem dX1_takes_150 : decode cX1_takes 150 = .ok (.iconst 0, 1) := dk_3 (dk_at dksX1_takes_6 10 rfl rfl)
theorem dX1_takes_151 : decode cX1_takes 151 = .ok (.ireturn, 1) := dk_172 (dk_at dksX1_takes_6 11 rfl rfl)
abbrev cX1_takenBy : ByteArray := prog_14_method_30_code
def yX1_takenBy : MethodName := ⟨RX1, "takenBy", "(I)I"⟩
def dkwX1_takenBy_1 : List UInt8 := [182, 0, 159, 42, 180, 0, 58, 27, 46, 172]
abbrev dktX1_takenBy_1 : List UInt8 := dkwX1_takenBy_1 ++ []
def dkwX1_takenBy_0 : List UInt8 := [42, 27, 182, 0, 110, 154, 0, 5, 2, 172, 42, 180, 0, 13, 27, 46, 4, 159, 0, 6, 16, 253, 172, 42]
abbrev dktX1_takenBy_0 : List UInt8 := dkwX1_takenBy_0 ++ dktX1_takenBy_1
theorem dksX1_takenBy_0 : cX1_takenBy.data.toList.drop 0 = dktX1_takenBy_0 := by decide +kernel
theorem dksX1_takenBy_1 : cX1_takenBy.data.toList.drop 24 = dktX1_takenBy_1 := dk_seg dksX1_takenBy_0 24 rfl rfl
theorem dX1_takenBy_0 : decode cX1_takenBy 0 = .ok (.aload_n 0, 1) := dk_42 (dk_at dksX1_takenBy_0 0 rfl rfl)
theorem dX1_takenBy_1 : decode cX1_takenBy 1 = .ok (.iload_n 1, 1) := dk_27 (dk_at dksX1_takenBy_0 1 rfl rfl)
theorem dX1_takenBy_2 : decode cX1_takenBy 2 = .ok (.invokevirtual 110, 3) := dk_182 0 110 (dk_at dksX1_takenBy_0 2 rfl rfl)
theorem dX1_takenBy_5 : decode cX1_takenBy 5 = .ok (.ifCond .ne 5, 3) := dk_154 0 5 (dk_at dksX1_takenBy_0 5 rfl rfl)
theorem dX1_takenBy_8 : decode cX1_takenBy 8 = .ok (.iconst (-1), 1) := dk_2 (dk_at dksX1_takenBy_0 8 rfl rfl)
theorem dX1_takenBy_9 : decode cX1_takenBy 9 = .ok (.ireturn, 1) := dk_172 (dk_at dksX1_takenBy_0 9 rfl rfl)
theorem dX1_takenBy_10 : decode cX1_takenBy 10 = .ok (.aload_n 0, 1) := dk_42 (dk_at dksX1_takenBy_0 10 rfl rfl)
theorem dX1_takenBy_11 : decode cX1_takenBy 11 = .ok (.getfield 13, 3) := dk_180 0 13 (dk_at dksX1_takenBy_0 11 rfl rfl)
theorem dX1_takenBy_14 : decode cX1_takenBy 14 = .ok (.iload_n 1, 1) := dk_27 (dk_at dksX1_takenBy_0 14 rfl rfl)
theorem dX1_takenBy_15 : decode cX1_takenBy 15 = .ok (.iaload, 1) := dk_46 (dk_at dksX1_takenBy_0 15 rfl rfl)
theorem dX1_takenBy_16 : decode cX1_takenBy 16 = .ok (.iconst 1, 1) := dk_4 (dk_at dksX1_takenBy_0 16 rfl rfl)
theorem dX1_takenBy_17 : decode cX1_takenBy 17 = .ok (.if_icmp .eq 6, 3) := dk_159 0 6 (dk_at dksX1_takenBy_0 17 rfl rfl)
theorem dX1_takenBy_20 : decode cX1_takenBy 20 = .ok (.bipush (-3), 2) := dk_16 253 (dk_at dksX1_takenBy_0 20 rfl rfl)
theorem dX1_takenBy_22 : decode cX1_takenBy 22 = .ok (.ireturn, 1) := dk_172 (dk_at dksX1_takenBy_0 22 rfl rfl)
theorem dX1_takenBy_23 : decode cX1_takenBy 23 = .ok (.aload_n 0, 1) := dk_42 (dk_at dksX1_takenBy_0 23 rfl rfl)
theorem dX1_takenBy_24 : decode cX1_takenBy 24 = .ok (.invokevirtual 159, 3) := dk_182 0 159 (dk_at dksX1_takenBy_1 0 rfl rfl)
theorem dX1_takenBy_27 : decode cX1_takenBy 27 = .ok (.aload_n 0, 1) := dk_42 (dk_at dksX1_takenBy_1 3 rfl rfl)
theorem dX1_takenBy_28 : decode cX1_takenBy 28 = .ok (.getfield 58, 3) := dk_180 0 58 (dk_at dksX1_takenBy_1 4 rfl rfl)
theorem dX1_takenBy_31 : decode cX1_takenBy 31 = .ok (.iload_n 1, 1) := dk_27 (dk_at dksX1_takenBy_1 7 rfl rfl)
theorem dX1_takenBy_32 : decode cX1_takenBy 32 = .ok (.iaload, 1) := dk_46 (dk_at dksX1_takenBy_1 8 rfl rfl)
theorem dX1_takenBy_33 : decode cX1_takenBy 33 = .ok (.ireturn, 1) := dk_172 (dk_at dksX1_takenBy_1 9 rfl rfl)
abbrev cX1_mark : ByteArray := prog_14_method_31_code
def yX1_mark : MethodName := ⟨RX1, "mark", "(IIII)I"⟩
def dkwX1_mark_5 : List UInt8 := [172]
abbrev dktX1_mark_5 : List UInt8 := dkwX1_mark_5 ++ []
def dkwX1_mark_4 : List UInt8 := [180, 0, 31, 5, 27, 104, 28, 96, 29, 79, 42, 180, 0, 34, 5, 27, 104, 28, 96, 21, 4, 79, 21, 5]
abbrev dktX1_mark_4 : List UInt8 := dkwX1_mark_4 ++ dktX1_mark_5
def dkwX1_mark_3 : List UInt8 := [180, 0, 31, 5, 27, 104, 28, 96, 46, 16, 247, 160, 0, 7, 3, 167, 0, 4, 4, 54, 5, 42]
abbrev dktX1_mark_3 : List UInt8 := dkwX1_mark_3 ++ dktX1_mark_4
def dkwX1_mark_2 : List UInt8 := [27, 46, 5, 159, 0, 16, 28, 154, 0, 15, 42, 180, 0, 13, 27, 46, 154, 0, 6, 16, 253, 172, 42]
abbrev dktX1_mark_2 : List UInt8 := dkwX1_mark_2 ++ dktX1_mark_3
def dkwX1_mark_1 : List UInt8 := [184, 0, 102, 153, 0, 14, 21, 4, 3, 16, 99, 184, 0, 102, 154, 0, 6, 16, 254, 172, 42, 180, 0, 13]
abbrev dktX1_mark_1 : List UInt8 := dkwX1_mark_1 ++ dktX1_mark_2
def dkwX1_mark_0 : List UInt8 := [42, 27, 182, 0, 110, 154, 0, 5, 2, 172, 28, 3, 4, 184, 0, 102, 153, 0, 23, 29, 3, 6]
abbrev dktX1_mark_0 : List UInt8 := dkwX1_mark_0 ++ dktX1_mark_1
theorem dksX1_mark_0 : cX1_mark.data.toList.drop 0 = dktX1_mark_0 := by decide +kernel
theorem dksX1_mark_1 : cX1_mark.data.toList.drop 22 = dktX1_mark_1 := dk_seg dksX1_mark_0 22 rfl rfl
theorem dksX1_mark_2 : cX1_mark.data.toList.drop 46 = dktX1_mark_2 := dk_seg dksX1_mark_1 24 rfl rfl
theorem dksX1_mark_3 : cX1_mark.data.toList.drop 69 = dktX1_mark_3 := dk_seg dksX1_mark_2 23 rfl rfl
theorem dksX1_mark_4 : cX1_mark.data.toList.drop 91 = dktX1_mark_4 := dk_seg dksX1_mark_3 22 rfl rfl
theorem dksX1_mark_5 : cX1_mark.data.toList.drop 115 = dktX1_mark_5 := dk_seg dksX1_mark_4 24 rfl rfl
theorem dX1_mark_0 : decode cX1_mark 0 = .ok (.aload_n 0, 1) := dk_42 (dk_at dksX1_mark_0 0 rfl rfl)
theorem dX1_mark_1 : decode cX1_mark 1 = .ok (.iload_n 1, 1) := dk_27 (dk_at dksX1_mark_0 1 rfl rfl)
theorem dX1_mark_2 : decode cX1_mark 2 = .ok (.invokevirtual 110, 3) := dk_182 0 110 (dk_at dksX1_mark_0 2 rfl rfl)
theorem dX1_mark_5 : decode cX1_mark 5 = .ok (.ifCond .ne 5, 3) := dk_154 0 5 (dk_at dksX1_mark_0 5 rfl rfl)
theorem dX1_mark_8 : decode cX1_mark 8 = .ok (.iconst (-1), 1) := dk_2 (dk_at dksX1_mark_0 8 rfl rfl)
theorem dX1_mark_9 : decode cX1_mark 9 = .ok (.ireturn, 1) := dk_172 (dk_at dksX1_mark_0 9 rfl rfl)
theorem dX1_mark_10 : decode cX1_mark 10 = .ok (.iload_n 2, 1) := dk_28 (dk_at dksX1_mark_0 10 rfl rfl)
theorem dX1_mark_11 : decode cX1_mark 11 = .ok (.iconst 0, 1) := dk_3 (dk_at dksX1_mark_0 11 rfl rfl)
theorem dX1_mark_12 : decode cX1_mark 12 = .ok (.iconst 1, 1) := dk_4 (dk_at dksX1_mark_0 12 rfl rfl)
theorem dX1_mark_13 : decode cX1_mark 13 = .ok (.invokestatic 102, 3) := dk_184 0 102 (dk_at dksX1_mark_0 13 rfl rfl)
theorem dX1_mark_16 : decode cX1_mark 16 = .ok (.ifCond .eq 23, 3) := dk_153 0 23 (dk_at dksX1_mark_0 16 rfl rfl)
theorem dX1_mark_19 : decode cX1_mark 19 = .ok (.iload_n 3, 1) := dk_29 (dk_at dksX1_mark_0 19 rfl rfl)
theorem dX1_mark_20 : decode cX1_mark 20 = .ok (.iconst 0, 1) := dk_3 (dk_at dksX1_mark_0 20 rfl rfl)
theorem dX1_mark_21 : decode cX1_mark 21 = .ok (.iconst 3, 1) := dk_6 (dk_at dksX1_mark_0 21 rfl rfl)
theorem dX1_mark_22 : decode cX1_mark 22 = .ok (.invokestatic 102, 3) := dk_184 0 102 (dk_at dksX1_mark_1 0 rfl rfl)
theorem dX1_mark_25 : decode cX1_mark 25 = .ok (.ifCond .eq 14, 3) := dk_153 0 14 (dk_at dksX1_mark_1 3 rfl rfl)
theorem dX1_mark_28 : decode cX1_mark 28 = .ok (.iload 4, 2) := dk_21 4 (dk_at dksX1_mark_1 6 rfl rfl)
theorem dX1_mark_30 : decode cX1_mark 30 = .ok (.iconst 0, 1) := dk_3 (dk_at dksX1_mark_1 8 rfl rfl)
theorem dX1_mark_31 : decode cX1_mark 31 = .ok (.bipush 99, 2) := dk_16 99 (dk_at dksX1_mark_1 9 rfl rfl)
theorem dX1_mark_33 : decode cX1_mark 33 = .ok (.invokestatic 102, 3) := dk_184 0 102 (dk_at dksX1_mark_1 11 rfl rfl)
theorem dX1_mark_36 : decode cX1_mark 36 = .ok (.ifCond .ne 6, 3) := dk_154 0 6 (dk_at dksX1_mark_1 14 rfl rfl)
theorem dX1_mark_39 : decode cX1_mark 39 = .ok (.bipush (-2), 2) := dk_16 254 (dk_at dksX1_mark_1 17 rfl rfl)
theorem dX1_mark_41 : decode cX1_mark 41 = .ok (.ireturn, 1) := dk_172 (dk_at dksX1_mark_1 19 rfl rfl)
theorem dX1_mark_42 : decode cX1_mark 42 = .ok (.aload_n 0, 1) := dk_42 (dk_at dksX1_mark_1 20 rfl rfl)
theorem dX1_mark_43 : decode cX1_mark 43 = .ok (.getfield 13, 3) := dk_180 0 13 (dk_at dksX1_mark_1 21 rfl rfl)
theorem dX1_mark_46 : decode cX1_mark 46 = .ok (.iload_n 1, 1) := dk_27 (dk_at dksX1_mark_2 0 rfl rfl)
theorem dX1_mark_47 : decode cX1_mark 47 = .ok (.iaload, 1) := dk_46 (dk_at dksX1_mark_2 1 rfl rfl)
theorem dX1_mark_48 : decode cX1_mark 48 = .ok (.iconst 2, 1) := dk_5 (dk_at dksX1_mark_2 2 rfl rfl)
theorem dX1_mark_49 : decode cX1_mark 49 = .ok (.if_icmp .eq 16, 3) := dk_159 0 16 (dk_at dksX1_mark_2 3 rfl rfl)
theorem dX1_mark_52 : decode cX1_mark 52 = .ok (.iload_n 2, 1) := dk_28 (dk_at dksX1_mark_2 6 rfl rfl)
theorem dX1_mark_53 : decode cX1_mark 53 = .ok (.ifCond .ne 15, 3) := dk_154 0 15 (dk_at dksX1_mark_2 7 rfl rfl)
theorem dX1_mark_56 : decode cX1_mark 56 = .ok (.aload_n 0, 1) := dk_42 (dk_at dksX1_mark_2 10 rfl rfl)
theorem dX1_mark_57 : decode cX1_mark 57 = .ok (.getfield 13, 3) := dk_180 0 13 (dk_at dksX1_mark_2 11 rfl rfl)
theorem dX1_mark_60 : decode cX1_mark 60 = .ok (.iload_n 1, 1) := dk_27 (dk_at dksX1_mark_2 14 rfl rfl)
theorem dX1_mark_61 : decode cX1_mark 61 = .ok (.iaload, 1) := dk_46 (dk_at dksX1_mark_2 15 rfl rfl)
theorem dX1_mark_62 : decode cX1_mark 62 = .ok (.ifCond .ne 6, 3) := dk_154 0 6 (dk_at dksX1_mark_2 16 rfl rfl)
theorem dX1_mark_65 : decode cX1_mark 65 = .ok (.bipush (-3), 2) := dk_16 253 (dk_at dksX1_mark_2 19 rfl rfl)
theorem dX1_mark_67 : decode cX1_mark 67 = .ok (.ireturn, 1) := dk_172 (dk_at dksX1_mark_2 21 rfl rfl)
theorem dX1_mark_68 : decode cX1_mark 68 = .ok (.aload_n 0, 1) := dk_42 (dk_at dksX1_mark_2 22 rfl rfl)
theorem dX1_mark_69 : decode cX1_mark 69 = .ok (.getfield 31, 3) := dk_180 0 31 (dk_at dksX1_mark_3 0 rfl rfl)
theorem dX1_mark_72 : decode cX1_mark 72 = .ok (.iconst 2, 1) := dk_5 (dk_at dksX1_mark_3 3 rfl rfl)
theorem dX1_mark_73 : decode cX1_mark 73 = .ok (.iload_n 1, 1) := dk_27 (dk_at dksX1_mark_3 4 rfl rfl)
theorem dX1_mark_74 : decode cX1_mark 74 = .ok (.imul, 1) := dk_104 (dk_at dksX1_mark_3 5 rfl rfl)
theorem dX1_mark_75 : decode cX1_mark 75 = .ok (.iload_n 2, 1) := dk_28 (dk_at dksX1_mark_3 6 rfl rfl)
theorem dX1_mark_76 : decode cX1_mark 76 = .ok (.iadd, 1) := dk_96 (dk_at dksX1_mark_3 7 rfl rfl)
theorem dX1_mark_77 : decode cX1_mark 77 = .ok (.iaload, 1) := dk_46 (dk_at dksX1_mark_3 8 rfl rfl)
theorem dX1_mark_78 : decode cX1_mark 78 = .ok (.bipush (-9), 2) := dk_16 247 (dk_at dksX1_mark_3 9 rfl rfl)
theorem dX1_mark_80 : decode cX1_mark 80 = .ok (.if_icmp .ne 7, 3) := dk_160 0 7 (dk_at dksX1_mark_3 11 rfl rfl)
theorem dX1_mark_83 : decode cX1_mark 83 = .ok (.iconst 0, 1) := dk_3 (dk_at dksX1_mark_3 14 rfl rfl)
theorem dX1_mark_84 : decode cX1_mark 84 = .ok (.goto 4, 3) := dk_167 0 4 (dk_at dksX1_mark_3 15 rfl rfl)
theorem dX1_mark_87 : decode cX1_mark 87 = .ok (.iconst 1, 1) := dk_4 (dk_at dksX1_mark_3 18 rfl rfl)
theorem dX1_mark_88 : decode cX1_mark 88 = .ok (.istore 5, 2) := dk_54 5 (dk_at dksX1_mark_3 19 rfl rfl)
theorem dX1_mark_90 : decode cX1_mark 90 = .ok (.aload_n 0, 1) := dk_42 (dk_at dksX1_mark_3 21 rfl rfl)
theorem dX1_mark_91 : decode cX1_mark 91 = .ok (.getfield 31, 3) := dk_180 0 31 (dk_at dksX1_mark_4 0 rfl rfl)
theorem dX1_mark_94 : decode cX1_mark 94 = .ok (.iconst 2, 1) := dk_5 (dk_at dksX1_mark_4 3 rfl rfl)
theorem dX1_mark_95 : decode cX1_mark 95 = .ok (.iload_n 1, 1) := dk_27 (dk_at dksX1_mark_4 4 rfl rfl)
theorem dX1_mark_96 : decode cX1_mark 96 = .ok (.imul, 1) := dk_104 (dk_at dksX1_mark_4 5 rfl rfl)
theorem dX1_mark_97 : decode cX1_mark 97 = .ok (.iload_n 2, 1) := dk_28 (dk_at dksX1_mark_4 6 rfl rfl)
theorem dX1_mark_98 : decode cX1_mark 98 = .ok (.iadd, 1) := dk_96 (dk_at dksX1_mark_4 7 rfl rfl)
theorem dX1_mark_99 : decode cX1_mark 99 = .ok (.iload_n 3, 1) := dk_29 (dk_at dksX1_mark_4 8 rfl rfl)
theorem dX1_mark_100 : decode cX1_mark 100 = .ok (.iastore, 1) := dk_79 (dk_at dksX1_mark_4 9 rfl rfl)
theorem dX1_mark_101 : decode cX1_mark 101 = .ok (.aload_n 0, 1) := dk_42 (dk_at dksX1_mark_4 10 rfl rfl)
theorem dX1_mark_102 : decode cX1_mark 102 = .ok (.getfield 34, 3) := dk_180 0 34 (dk_at dksX1_mark_4 11 rfl rfl)
theorem dX1_mark_105 : decode cX1_mark 105 = .ok (.iconst 2, 1) := dk_5 (dk_at dksX1_mark_4 14 rfl rfl)
theorem dX1_mark_106 : decode cX1_mark 106 = .ok (.iload_n 1, 1) := dk_27 (dk_at dksX1_mark_4 15 rfl rfl)
theorem dX1_mark_107 : decode cX1_mark 107 = .ok (.imul, 1) := dk_104 (dk_at dksX1_mark_4 16 rfl rfl)
theorem dX1_mark_108 : decode cX1_mark 108 = .ok (.iload_n 2, 1) := dk_28 (dk_at dksX1_mark_4 17 rfl rfl)
theorem dX1_mark_109 : decode cX1_mark 109 = .ok (.iadd, 1) := dk_96 (dk_at dksX1_mark_4 18 rfl rfl)
theorem dX1_mark_110 : decode cX1_mark 110 = .ok (.iload 4, 2) := dk_21 4 (dk_at dksX1_mark_4 19 rfl rfl)
theorem dX1_mark_112 : decode cX1_mark 112 = .ok (.iastore, 1) := dk_79 (dk_at dksX1_mark_4 21 rfl rfl)
theorem dX1_mark_113 : decode cX1_mark 113 = .ok (.iload 5, 2) := dk_21 5 (dk_at dksX1_mark_4 22 rfl rfl)
theorem dX1_mark_115 : decode cX1_mark 115 = .ok (.ireturn, 1) := dk_172 (dk_at dksX1_mark_5 0 rfl rfl)
abbrev cX1_unmark : ByteArray := prog_14_method_32_code
def yX1_unmark : MethodName := ⟨RX1, "unmark", "(II)I"⟩
def dkwX1_unmark_2 : List UInt8 := [5, 27, 104, 28, 96, 16, 247, 79, 29, 172]
abbrev dktX1_unmark_2 : List UInt8 := dkwX1_unmark_2 ++ []
def dkwX1_unmark_1 : List UInt8 := [180, 0, 31, 5, 27, 104, 28, 96, 46, 16, 247, 160, 0, 7, 3, 167, 0, 4, 4, 62, 42, 180, 0, 31]
abbrev dktX1_unmark_1 : List UInt8 := dkwX1_unmark_1 ++ dktX1_unmark_2
def dkwX1_unmark_0 : List UInt8 := [42, 27, 182, 0, 110, 154, 0, 5, 2, 172, 28, 3, 4, 184, 0, 102, 154, 0, 6, 16, 254, 172, 42]
abbrev dktX1_unmark_0 : List UInt8 := dkwX1_unmark_0 ++ dktX1_unmark_1
theorem dksX1_unmark_0 : cX1_unmark.data.toList.drop 0 = dktX1_unmark_0 := by decide +kernel
theorem dksX1_unmark_1 : cX1_unmark.data.toList.drop 23 = dktX1_unmark_1 := dk_seg dksX1_unmark_0 23 rfl rfl
theorem dksX1_unmark_2 : cX1_unmark.data.toList.drop 47 = dktX1_unmark_2 := dk_seg dksX1_unmark_1 24 rfl rfl
theorem dX1_unmark_0 : decode cX1_unmark 0 = .ok (.aload_n 0, 1) := dk_42 (dk_at dksX1_unmark_0 0 rfl rfl)
theorem dX1_unmark_1 : decode cX1_unmark 1 = .ok (.iload_n 1, 1) := dk_27 (dk_at dksX1_unmark_0 1 rfl rfl)
theorem dX1_unmark_2 : decode cX1_unmark 2 = .ok (.invokevirtual 110, 3) := dk_182 0 110 (dk_at dksX1_unmark_0 2 rfl rfl)
theorem dX1_unmark_5 : decode cX1_unmark 5 = .ok (.ifCond .ne 5, 3) := dk_154 0 5 (dk_at dksX1_unmark_0 5 rfl rfl)
theorem dX1_unmark_8 : decode cX1_unmark 8 = .ok (.iconst (-1), 1) := dk_2 (dk_at dksX1_unmark_0 8 rfl rfl)
theorem dX1_unmark_9 : decode cX1_unmark 9 = .ok (.ireturn, 1) := dk_172 (dk_at dksX1_unmark_0 9 rfl rfl)
theorem dX1_unmark_10 : decode cX1_unmark 10 = .ok (.iload_n 2, 1) := dk_28 (dk_at dksX1_unmark_0 10 rfl rfl)
theorem dX1_unmark_11 : decode cX1_unmark 11 = .ok (.iconst 0, 1) := dk_3 (dk_at dksX1_unmark_0 11 rfl rfl)
theorem dX1_unmark_12 : decode cX1_unmark 12 = .ok (.iconst 1, 1) := dk_4 (dk_at dksX1_unmark_0 12 rfl rfl)
theorem dX1_unmark_13 : decode cX1_unmark 13 = .ok (.invokestatic 102, 3) := dk_184 0 102 (dk_at dksX1_unmark_0 13 rfl rfl)
theorem dX1_unmark_16 : decode cX1_unmark 16 = .ok (.ifCond .ne 6, 3) := dk_154 0 6 (dk_at dksX1_unmark_0 16 rfl rfl)
theorem dX1_unmark_19 : decode cX1_unmark 19 = .ok (.bipush (-2), 2) := dk_16 254 (dk_at dksX1_unmark_0 19 rfl rfl)
theorem dX1_unmark_21 : decode cX1_unmark 21 = .ok (.ireturn, 1) := dk_172 (dk_at dksX1_unmark_0 21 rfl rfl)
theorem dX1_unmark_22 : decode cX1_unmark 22 = .ok (.aload_n 0, 1) := dk_42 (dk_at dksX1_unmark_0 22 rfl rfl)
theorem dX1_unmark_23 : decode cX1_unmark 23 = .ok (.getfield 31, 3) := dk_180 0 31 (dk_at dksX1_unmark_1 0 rfl rfl)
theorem dX1_unmark_26 : decode cX1_unmark 26 = .ok (.iconst 2, 1) := dk_5 (dk_at dksX1_unmark_1 3 rfl rfl)
theorem dX1_unmark_27 : decode cX1_unmark 27 = .ok (.iload_n 1, 1) := dk_27 (dk_at dksX1_unmark_1 4 rfl rfl)
theorem dX1_unmark_28 : decode cX1_unmark 28 = .ok (.imul, 1) := dk_104 (dk_at dksX1_unmark_1 5 rfl rfl)
theorem dX1_unmark_29 : decode cX1_unmark 29 = .ok (.iload_n 2, 1) := dk_28 (dk_at dksX1_unmark_1 6 rfl rfl)
theorem dX1_unmark_30 : decode cX1_unmark 30 = .ok (.iadd, 1) := dk_96 (dk_at dksX1_unmark_1 7 rfl rfl)
theorem dX1_unmark_31 : decode cX1_unmark 31 = .ok (.iaload, 1) := dk_46 (dk_at dksX1_unmark_1 8 rfl rfl)
theorem dX1_unmark_32 : decode cX1_unmark 32 = .ok (.bipush (-9), 2) := dk_16 247 (dk_at dksX1_unmark_1 9 rfl rfl)
theorem dX1_unmark_34 : decode cX1_unmark 34 = .ok (.if_icmp .ne 7, 3) := dk_160 0 7 (dk_at dksX1_unmark_1 11 rfl rfl)
theorem dX1_unmark_37 : decode cX1_unmark 37 = .ok (.iconst 0, 1) := dk_3 (dk_at dksX1_unmark_1 14 rfl rfl)
theorem dX1_unmark_38 : decode cX1_unmark 38 = .ok (.goto 4, 3) := dk_167 0 4 (dk_at dksX1_unmark_1 15 rfl rfl)
theorem dX1_unmark_41 : decode cX1_unmark 41 = .ok (.iconst 1, 1) := dk_4 (dk_at dksX1_unmark_1 18 rfl rfl)
theorem dX1_unmark_42 : decode cX1_unmark 42 = .ok (.istore_n 3, 1) := dk_62 (dk_at dksX1_unmark_1 19 rfl rfl)
theorem dX1_unmark_43 : decode cX1_unmark 43 = .ok (.aload_n 0, 1) := dk_42 (dk_at dksX1_unmark_1 20 rfl rfl)
theorem dX1_unmark_44 : decode cX1_unmark 44 = .ok (.getfield 31, 3) := dk_180 0 31 (dk_at dksX1_unmark_1 21 rfl rfl)
theorem dX1_unmark_47 : decode cX1_unmark 47 = .ok (.iconst 2, 1) := dk_5 (dk_at dksX1_unmark_2 0 rfl rfl)
theorem dX1_unmark_48 : decode cX1_unmark 48 = .ok (.iload_n 1, 1) := dk_27 (dk_at dksX1_unmark_2 1 rfl rfl)
theorem dX1_unmark_49 : decode cX1_unmark 49 = .ok (.imul, 1) := dk_104 (dk_at dksX1_unmark_2 2 rfl rfl)
theorem dX1_unmark_50 : decode cX1_unmark 50 = .ok (.iload_n 2, 1) := dk_28 (dk_at dksX1_unmark_2 3 rfl rfl)
theorem dX1_unmark_51 : decode cX1_unmark 51 = .ok (.iadd, 1) := dk_96 (dk_at dksX1_unmark_2 4 rfl rfl)
theorem dX1_unmark_52 : decode cX1_unmark 52 = .ok (.bipush (-9), 2) := dk_16 247 (dk_at dksX1_unmark_2 5 rfl rfl)
theorem dX1_unmark_54 : decode cX1_unmark 54 = .ok (.iastore, 1) := dk_79 (dk_at dksX1_unmark_2 7 rfl rfl)
theorem dX1_unmark_55 : decode cX1_unmark 55 = .ok (.iload_n 3, 1) := dk_29 (dk_at dksX1_unmark_2 8 rfl rfl)
theorem dX1_unmark_56 : decode cX1_unmark 56 = .ok (.ireturn, 1) := dk_172 (dk_at dksX1_unmark_2 9 rfl rfl)
abbrev cX1_ofMark : ByteArray := prog_14_method_33_code
def yX1_ofMark : MethodName := ⟨RX1, "ofMark", "(III)I"⟩
def dkwX1_ofMark_3 : List UInt8 := [172]
abbrev dktX1_ofMark_3 : List UInt8 := dkwX1_ofMark_3 ++ []
def dkwX1_ofMark_2 : List UInt8 := [16, 247, 159, 0, 7, 29, 154, 0, 8, 21, 4, 167, 0, 13, 42, 180, 0, 34, 5, 27, 104, 28, 96, 46]
abbrev dktX1_ofMark_2 : List UInt8 := dkwX1_ofMark_2 ++ dktX1_ofMark_3
def dkwX1_ofMark_1 : List UInt8 := [184, 0, 102, 154, 0, 6, 16, 254, 172, 42, 180, 0, 31, 5, 27, 104, 28, 96, 46, 54, 4, 21, 4]
abbrev dktX1_ofMark_1 : List UInt8 := dkwX1_ofMark_1 ++ dktX1_ofMark_2
def dkwX1_ofMark_0 : List UInt8 := [42, 27, 182, 0, 110, 154, 0, 5, 2, 172, 28, 3, 4, 184, 0, 102, 153, 0, 12, 29, 3, 4]
abbrev dktX1_ofMark_0 : List UInt8 := dkwX1_ofMark_0 ++ dktX1_ofMark_1
theorem dksX1_ofMark_0 : cX1_ofMark.data.toList.drop 0 = dktX1_ofMark_0 := by decide +kernel
theorem dksX1_ofMark_1 : cX1_ofMark.data.toList.drop 22 = dktX1_ofMark_1 := dk_seg dksX1_ofMark_0 22 rfl rfl
theorem dksX1_ofMark_2 : cX1_ofMark.data.toList.drop 45 = dktX1_ofMark_2 := dk_seg dksX1_ofMark_1 23 rfl rfl
theorem dksX1_ofMark_3 : cX1_ofMark.data.toList.drop 69 = dktX1_ofMark_3 := dk_seg dksX1_ofMark_2 24 rfl rfl
theorem dX1_ofMark_0 : decode cX1_ofMark 0 = .ok (.aload_n 0, 1) := dk_42 (dk_at dksX1_ofMark_0 0 rfl rfl)
theorem dX1_ofMark_1 : decode cX1_ofMark 1 = .ok (.iload_n 1, 1) := dk_27 (dk_at dksX1_ofMark_0 1 rfl rfl)
theorem dX1_ofMark_2 : decode cX1_ofMark 2 = .ok (.invokevirtual 110, 3) := dk_182 0 110 (dk_at dksX1_ofMark_0 2 rfl rfl)
theorem dX1_ofMark_5 : decode cX1_ofMark 5 = .ok (.ifCond .ne 5, 3) := dk_154 0 5 (dk_at dksX1_ofMark_0 5 rfl rfl)
theorem dX1_ofMark_8 : decode cX1_ofMark 8 = .ok (.iconst (-1), 1) := dk_2 (dk_at dksX1_ofMark_0 8 rfl rfl)
theorem dX1_ofMark_9 : decode cX1_ofMark 9 = .ok (.ireturn, 1) := dk_172 (dk_at dksX1_ofMark_0 9 rfl rfl)
theorem dX1_ofMark_10 : decode cX1_ofMark 10 = .ok (.iload_n 2, 1) := dk_28 (dk_at dksX1_ofMark_0 10 rfl rfl)
theorem dX1_ofMark_11 : decode cX1_ofMark 11 = .ok (.iconst 0, 1) := dk_3 (dk_at dksX1_ofMark_0 11 rfl rfl)
theorem dX1_ofMark_12 : decode cX1_ofMark 12 = .ok (.iconst 1, 1) := dk_4 (dk_at dksX1_ofMark_0 12 rfl rfl)
theorem dX1_ofMark_13 : decode cX1_ofMark 13 = .ok (.invokestatic 102, 3) := dk_184 0 102 (dk_at dksX1_ofMark_0 13 rfl rfl)
theorem dX1_ofMark_16 : decode cX1_ofMark 16 = .ok (.ifCond .eq 12, 3) := dk_153 0 12 (dk_at dksX1_ofMark_0 16 rfl rfl)
theorem dX1_ofMark_19 : decode cX1_ofMark 19 = .ok (.iload_n 3, 1) := dk_29 (dk_at dksX1_ofMark_0 19 rfl rfl)
theorem dX1_ofMark_20 : decode cX1_ofMark 20 = .ok (.iconst 0, 1) := dk_3 (dk_at dksX1_ofMark_0 20 rfl rfl)
theorem dX1_ofMark_21 : decode cX1_ofMark 21 = .ok (.iconst 1, 1) := dk_4 (dk_at dksX1_ofMark_0 21 rfl rfl)
theorem dX1_ofMark_22 : decode cX1_ofMark 22 = .ok (.invokestatic 102, 3) := dk_184 0 102 (dk_at dksX1_ofMark_1 0 rfl rfl)
theorem dX1_ofMark_25 : decode cX1_ofMark 25 = .ok (.ifCond .ne 6, 3) := dk_154 0 6 (dk_at dksX1_ofMark_1 3 rfl rfl)
theorem dX1_ofMark_28 : decode cX1_ofMark 28 = .ok (.bipush (-2), 2) := dk_16 254 (dk_at dksX1_ofMark_1 6 rfl rfl)
theorem dX1_ofMark_30 : decode cX1_ofMark 30 = .ok (.ireturn, 1) := dk_172 (dk_at dksX1_ofMark_1 8 rfl rfl)
theorem dX1_ofMark_31 : decode cX1_ofMark 31 = .ok (.aload_n 0, 1) := dk_42 (dk_at dksX1_ofMark_1 9 rfl rfl)
theorem dX1_ofMark_32 : decode cX1_ofMark 32 = .ok (.getfield 31, 3) := dk_180 0 31 (dk_at dksX1_ofMark_1 10 rfl rfl)
theorem dX1_ofMark_35 : decode cX1_ofMark 35 = .ok (.iconst 2, 1) := dk_5 (dk_at dksX1_ofMark_1 13 rfl rfl)
theorem dX1_ofMark_36 : decode cX1_ofMark 36 = .ok (.iload_n 1, 1) := dk_27 (dk_at dksX1_ofMark_1 14 rfl rfl)
theorem dX1_ofMark_37 : decode cX1_ofMark 37 = .ok (.imul, 1) := dk_104 (dk_at dksX1_ofMark_1 15 rfl rfl)
theorem dX1_ofMark_38 : decode cX1_ofMark 38 = .ok (.iload_n 2, 1) := dk_28 (dk_at dksX1_ofMark_1 16 rfl rfl)
theorem dX1_ofMark_39 : decode cX1_ofMark 39 = .ok (.iadd, 1) := dk_96 (dk_at dksX1_ofMark_1 17 rfl rfl)
theorem dX1_ofMark_40 : decode cX1_ofMark 40 = .ok (.iaload, 1) := dk_46 (dk_at dksX1_ofMark_1 18 rfl rfl)
theorem dX1_ofMark_41 : decode cX1_ofMark 41 = .ok (.istore 4, 2) := dk_54 4 (dk_at dksX1_ofMark_1 19 rfl rfl)
theorem dX1_ofMark_43 : decode cX1_ofMark 43 = .ok (.iload 4, 2) := dk_21 4 (dk_at dksX1_ofMark_1 21 rfl rfl)
theorem dX1_ofMark_45 : decode cX1_ofMark 45 = .ok (.bipush (-9), 2) := dk_16 247 (dk_at dksX1_ofMark_2 0 rfl rfl)
theorem dX1_ofMark_47 : decode cX1_ofMark 47 = .ok (.if_icmp .eq 7, 3) := dk_159 0 7 (dk_at dksX1_ofMark_2 2 rfl rfl)
theorem dX1_ofMark_50 : decode cX1_ofMark 50 = .ok (.iload_n 3, 1) := dk_29 (dk_at dksX1_ofMark_2 5 rfl rfl)
theorem dX1_ofMark_51 : decode cX1_ofMark 51 = .ok (.ifCond .ne 8, 3) := dk_154 0 8 (dk_at dksX1_ofMark_2 6 rfl rfl)
theorem dX1_ofMark_54 : decode cX1_ofMark 54 = .ok (.iload 4, 2) := dk_21 4 (dk_at dksX1_ofMark_2 9 rfl rfl)
theorem dX1_ofMark_56 : decode cX1_ofMark 56 = .ok (.goto 13, 3) := dk_167 0 13 (dk_at dksX1_ofMark_2 11 rfl rfl)
theorem dX1_ofMark_59 : decode cX1_ofMark 59 = .ok (.aload_n 0, 1) := dk_42 (dk_at dksX1_ofMark_2 14 rfl rfl)
theorem dX1_ofMark_60 : decode cX1_ofMark 60 = .ok (.getfield 34, 3) := dk_180 0 34 (dk_at dksX1_ofMark_2 15 rfl rfl)
theorem dX1_ofMark_63 : decode cX1_ofMark 63 = .ok (.iconst 2, 1) := dk_5 (dk_at dksX1_ofMark_2 18 rfl rfl)
theorem dX1_ofMark_64 : decode cX1_ofMark 64 = .ok (.iload_n 1, 1) := dk_27 (dk_at dksX1_ofMark_2 19 rfl rfl)
theorem dX1_ofMark_65 : decode cX1_ofMark 65 = .ok (.imul, 1) := dk_104 (dk_at dksX1_ofMark_2 20 rfl rfl)
theorem dX1_ofMark_66 : decode cX1_ofMark 66 = .ok (.iload_n 2, 1) := dk_28 (dk_at dksX1_ofMark_2 21 rfl rfl)
theorem dX1_ofMark_67 : decode cX1_ofMark 67 = .ok (.iadd, 1) := dk_96 (dk_at dksX1_ofMark_2 22 rfl rfl)
theorem dX1_ofMark_68 : decode cX1_ofMark 68 = .ok (.iaload, 1) := dk_46 (dk_at dksX1_ofMark_2 23 rfl rfl)
theorem dX1_ofMark_69 : decode cX1_ofMark 69 = .ok (.ireturn, 1) := dk_172 (dk_at dksX1_ofMark_3 0 rfl rfl)
abbrev cX1_ofStory : ByteArray := prog_14_method_42_code
def yX1_ofStory : MethodName := ⟨RX1, "ofStory", "(II)I"⟩
def dkwX1_ofStory_5 : List UInt8 := [4, 167, 0, 4, 3, 172, 16, 254, 172]
abbrev dktX1_ofStory_5 : List UInt8 := dkwX1_ofStory_5 ++ []
def dkwX1_ofStory_4 : List UInt8 := [46, 172, 42, 180, 0, 83, 27, 46, 172, 42, 180, 0, 95, 27, 46, 172, 42, 27, 182, 0, 191, 153, 0, 7]
abbrev dktX1_ofStory_4 : List UInt8 := dkwX1_ofStory_4 ++ dktX1_ofStory_5
def dkwX1_ofStory_3 : List UInt8 := [27, 182, 0, 184, 172, 42, 27, 4, 182, 0, 187, 172, 42, 27, 3, 182, 0, 187, 172, 42, 180, 0, 80, 27]
abbrev dktX1_ofStory_3 : List UInt8 := dkwX1_ofStory_3 ++ dktX1_ofStory_4
def dkwX1_ofStory_2 : List UInt8 := [42, 180, 0, 13, 29, 46, 154, 0, 7, 29, 167, 0, 5, 16, 247, 172, 42, 180, 0, 61, 29, 46, 172, 42]
abbrev dktX1_ofStory_2 : List UInt8 := dkwX1_ofStory_2 ++ dktX1_ofStory_3
def dkwX1_ofStory_1 : List UInt8 := [170, 0, 0, 0, 0, 128, 0, 0, 0, 0, 0, 0, 0, 8, 0, 0, 0, 50, 0, 0, 0, 66, 0, 0, 0, 73, 0, 0, 0, 79, 0, 0, 0, 86, 0, 0, 0, 93, 0, 0, 0, 100, 0, 0, 0, 107, 0, 0, 0, 114]
abbrev dktX1_ofStory_1 : List UInt8 := dkwX1_ofStory_1 ++ dktX1_ofStory_2
def dkwX1_ofStory_0 : List UInt8 := [42, 27, 182, 0, 181, 154, 0, 5, 2, 172, 42, 180, 0, 67, 27, 46, 62, 28]
abbrev dktX1_ofStory_0 : List UInt8 := dkwX1_ofStory_0 ++ dktX1_ofStory_1
theorem dksX1_ofStory_0 : cX1_ofStory.data.toList.drop 0 = dktX1_ofStory_0 := by decide +kernel
theorem dksX1_ofStory_1 : cX1_ofStory.data.toList.drop 18 = dktX1_ofStory_1 := dk_seg dksX1_ofStory_0 18 rfl rfl
theorem dksX1_ofStory_2 : cX1_ofStory.data.toList.drop 68 = dktX1_ofStory_2 := dk_seg dksX1_ofStory_1 50 rfl rfl
theorem dksX1_ofStory_3 : cX1_ofStory.data.toList.drop 92 = dktX1_ofStory_3 := dk_seg dksX1_ofStory_2 24 rfl rfl
theorem dksX1_ofStory_4 : cX1_ofStory.data.toList.drop 116 = dktX1_ofStory_4 := dk_seg dksX1_ofStory_3 24 rfl rfl
theorem dksX1_ofStory_5 : cX1_ofStory.data.toList.drop 140 = dktX1_ofStory_5 := dk_seg dksX1_ofStory_4 24 rfl rfl
theorem dX1_ofStory_0 : decode cX1_ofStory 0 = .ok (.aload_n 0, 1) := dk_42 (dk_at dksX1_ofStory_0 0 rfl rfl)
theorem dX1_ofStory_1 : decode cX1_ofStory 1 = .ok (.iload_n 1, 1) := dk_27 (dk_at dksX1_ofStory_0 1 rfl rfl)
theorem dX1_ofStory_2 : decode cX1_ofStory 2 = .ok (.invokevirtual 181, 3) := dk_182 0 181 (dk_at dksX1_ofStory_0 2 rfl rfl)
theorem dX1_ofStory_5 : decode cX1_ofStory 5 = .ok (.ifCond .ne 5, 3) := dk_154 0 5 (dk_at dksX1_ofStory_0 5 rfl rfl)
theorem dX1_ofStory_8 : decode cX1_ofStory 8 = .ok (.iconst (-1), 1) := dk_2 (dk_at dksX1_ofStory_0 8 rfl rfl)
theorem dX1_ofStory_9 : decode cX1_ofStory 9 = .ok (.ireturn, 1) := dk_172 (dk_at dksX1_ofStory_0 9 rfl rfl)
theorem dX1_ofStory_10 : decode cX1_ofStory 10 = .ok (.aload_n 0, 1) := dk_42 (dk_at dksX1_ofStory_0 10 rfl rfl)
theorem dX1_ofStory_11 : decode cX1_ofStory 11 = .ok (.getfield 67, 3) := dk_180 0 67 (dk_at dksX1_ofStory_0 11 rfl rfl)
theorem dX1_ofStory_14 : decode cX1_ofStory 14 = .ok (.iload_n 1, 1) := dk_27 (dk_at dksX1_ofStory_0 14 rfl rfl)
theorem dX1_ofStory_15 : decode cX1_ofStory 15 = .ok (.iaload, 1) := dk_46 (dk_at dksX1_ofStory_0 15 rfl rfl)
theorem dX1_ofStory_16 : decode cX1_ofStory 16 = .ok (.istore_n 3, 1) := dk_62 (dk_at dksX1_ofStory_0 16 rfl rfl)
theorem dX1_ofStory_17 : decode cX1_ofStory 17 = .ok (.iload_n 2, 1) := dk_28 (dk_at dksX1_ofStory_0 17 rfl rfl)
theorem dX1_ofStory_18 : decode cX1_ofStory 18 = .ok (.tableswitch 128 0 8 #[50, 66, 73, 79, 86, 93, 100, 107, 114], 50) := by decide +kernel
theorem dX1_ofStory_68 : decode cX1_ofStory 68 = .ok (.aload_n 0, 1) := dk_42 (dk_at dksX1_ofStory_2 0 rfl rfl)
theorem dX1_ofStory_69 : decode cX1_ofStory 69 = .ok (.getfield 13, 3) := dk_180 0 13 (dk_at dksX1_ofStory_2 1 rfl rfl)
theorem dX1_ofStory_72 : decode cX1_ofStory 72 = .ok (.iload_n 3, 1) := dk_29 (dk_at dksX1_ofStory_2 4 rfl rfl)
theorem dX1_ofStory_73 : decode cX1_ofStory 73 = .ok (.iaload, 1) := dk_46 (dk_at dksX1_ofStory_2 5 rfl rfl)
theorem dX1_ofStory_74 : decode cX1_ofStory 74 = .ok (.ifCond .ne 7, 3) := dk_154 0 7 (dk_at dksX1_ofStory_2 6 rfl rfl)
theorem dX1_ofStory_77 : decode cX1_ofStory 77 = .ok (.iload_n 3, 1) := dk_29 (dk_at dksX1_ofStory_2 9 rfl rfl)
theorem dX1_ofStory_78 : decode cX1_ofStory 78 = .ok (.goto 5, 3) := dk_167 0 5 (dk_at dksX1_ofStory_2 10 rfl rfl)
theorem dX1_ofStory_81 : decode cX1_ofStory 81 = .ok (.bipush (-9), 2) := dk_16 247 (dk_at dksX1_ofStory_2 13 rfl rfl)
theorem dX1_ofStory_83 : decode cX1_ofStory 83 = .ok (.ireturn, 1) := dk_172 (dk_at dksX1_ofStory_2 15 rfl rfl)
theorem dX1_ofStory_84 : decode cX1_ofStory 84 = .ok (.aload_n 0, 1) := dk_42 (dk_at dksX1_ofStory_2 16 rfl rfl)
theorem dX1_ofStory_85 : decode cX1_ofStory 85 = .ok (.getfield 61, 3) := dk_180 0 61 (dk_at dksX1_ofStory_2 17 rfl rfl)
theorem dX1_ofStory_88 : decode cX1_ofStory 88 = .ok (.iload_n 3, 1) := dk_29 (dk_at dksX1_ofStory_2 20 rfl rfl)
theorem dX1_ofStory_89 : decode cX1_ofStory 89 = .ok (.iaload, 1) := dk_46 (dk_at dksX1_ofStory_2 21 rfl rfl)
theorem dX1_ofStory_90 : decode cX1_ofStory 90 = .ok (.ireturn, 1) := dk_172 (dk_at dksX1_ofStory_2 22 rfl rfl)
theorem dX1_ofStory_91 : decode cX1_ofStory 91 = .ok (.aload_n 0, 1) := dk_42 (dk_at dksX1_ofStory_2 23 rfl rfl)
theorem dX1_ofStory_92 : decode cX1_ofStory 92 = .ok (.iload_n 1, 1) := dk_27 (dk_at dksX1_ofStory_3 0 rfl rfl)
theorem dX1_ofStory_93 : decode cX1_ofStory 93 = .ok (.invokevirtual 184, 3) := dk_182 0 184 (dk_at dksX1_ofStory_3 1 rfl rfl)
theorem dX1_ofStory_96 : decode cX1_ofStory 96 = .ok (.ireturn, 1) := dk_172 (dk_at dksX1_ofStory_3 4 rfl rfl)
theorem dX1_ofStory_97 : decode cX1_ofStory 97 = .ok (.aload_n 0, 1) := dk_42 (dk_at dksX1_ofStory_3 5 rfl rfl)
theorem dX1_ofStory_98 : decode cX1_ofStory 98 = .ok (.iload_n 1, 1) := dk_27 (dk_at dksX1_ofStory_3 6 rfl rfl)
theorem dX1_ofStory_99 : decode cX1_ofStory 99 = .ok (.iconst 1, 1) := dk_4 (dk_at dksX1_ofStory_3 7 rfl rfl)
theorem dX1_ofStory_100 : decode cX1_ofStory 100 = .ok (.invokevirtual 187, 3) := dk_182 0 187 (dk_at dksX1_ofStory_3 8 rfl rfl)
theorem dX1_ofStory_103 : decode cX1_ofStory 103 = .ok (.ireturn, 1) := dk_172 (dk_at dksX1_ofStory_3 11 rfl rfl)
theorem dX1_ofStory_104 : decode cX1_ofStory 104 = .ok (.aload_n 0, 1) := dk_42 (dk_at dksX1_ofStory_3 12 rfl rfl)
theorem dX1_ofStory_105 : decode cX1_ofStory 105 = .ok (.iload_n 1, 1) := dk_27 (dk_at dksX1_ofStory_3 13 rfl rfl)
theorem dX1_ofStory_106 : decode cX1_ofStory 106 = .ok (.iconst 0, 1) := dk_3 (dk_at dksX1_ofStory_3 14 rfl rfl)
theorem dX1_ofStory_107 : decode cX1_ofStory 107 = .ok (.invokevirtual 187, 3) := dk_182 0 187 (dk_at dksX1_ofStory_3 15 rfl rfl)
theorem dX1_ofStory_110 : decode cX1_ofStory 110 = .ok (.ireturn, 1) := dk_172 (dk_at dksX1_ofStory_3 18 rfl rfl)
theorem dX1_ofStory_111 : decode cX1_ofStory 111 = .ok (.aload_n 0, 1) := dk_42 (dk_at dksX1_ofStory_3 19 rfl rfl)
theorem dX1_ofStory_112 : decode cX1_ofStory 112 = .ok (.getfield 80, 3) := dk_180 0 80 (dk_at dksX1_ofStory_3 20 rfl rfl)
theorem dX1_ofStory_115 : decode cX1_ofStory 115 = .ok (.iload_n 1, 1) := dk_27 (dk_at dksX1_ofStory_3 23 rfl rfl)
theorem dX1_ofStory_116 : decode cX1_ofStory 116 = .ok (.iaload, 1) := dk_46 (dk_at dksX1_ofStory_4 0 rfl rfl)
theorem dX1_ofStory_117 : decode cX1_ofStory 117 = .ok (.ireturn, 1) := dk_172 (dk_at dksX1_ofStory_4 1 rfl rfl)
theorem dX1_ofStory_118 : decode cX1_ofStory 118 = .ok (.aload_n 0, 1) := dk_42 (dk_at dksX1_ofStory_4 2 rfl rfl)
theorem dX1_ofStory_119 : decode cX1_ofStory 119 = .ok (.getfield 83, 3) := dk_180 0 83 (dk_at dksX1_ofStory_4 3 rfl rfl)
theorem dX1_ofStory_122 : decode cX1_ofStory 122 = .ok (.iload_n 1, 1) := dk_27 (dk_at dksX1_ofStory_4 6 rfl rfl)
theorem dX1_ofStory_123 : decode cX1_ofStory 123 = .ok (.iaload, 1) := dk_46 (dk_at dksX1_ofStory_4 7 rfl rfl)
theorem dX1_ofStory_124 : decode cX1_ofStory 124 = .ok (.ireturn, 1) := dk_172 (dk_at dksX1_ofStory_4 8 rfl rfl)
theorem dX1_ofStory_125 : decode cX1_ofStory 125 = .ok (.aload_n 0, 1) := dk_42 (dk_at dksX1_ofStory_4 9 rfl rfl)
theorem dX1_ofStory_126 : decode cX1_ofStory 126 = .ok (.getfield 95, 3) := dk_180 0 95 (dk_at dksX1_ofStory_4 10 rfl rfl)
theorem dX1_ofStory_129 : decode cX1_ofStory 129 = .ok (.iload_n 1, 1) := dk_27 (dk_at dksX1_ofStory_4 13 rfl rfl)
theorem dX1_ofStory_130 : decode cX1_ofStory 130 = .ok (.iaload, 1) := dk_46 (dk_at dksX1_ofStory_4 14 rfl rfl)
theorem dX1_ofStory_131 : decode cX1_ofStory 131 = .ok (.ireturn, 1) := dk_172 (dk_at dksX1_ofStory_4 15 rfl rfl)
theorem dX1_ofStory_132 : decode cX1_ofStory 132 = .ok (.aload_n 0, 1) := dk_42 (dk_at dksX1_ofStory_4 16 rfl rfl)
theorem dX1_ofStory_133 : decode cX1_ofStory 133 = .ok (.iload_n 1, 1) := dk_27 (dk_at dksX1_ofStory_4 17 rfl rfl)
theorem dX1_ofStory_134 : decode cX1_ofStory 134 = .ok (.invokevirtual 191, 3) := dk_182 0 191 (dk_at dksX1_ofStory_4 18 rfl rfl)
theorem dX1_ofStory_137 : decode cX1_ofStory 137 = .ok (.ifCond .eq 7, 3) := dk_153 0 7 (dk_at dksX1_ofStory_4 21 rfl rfl)
theorem dX1_ofStory_140 : decode cX1_ofStory 140 = .ok (.iconst 1, 1) := dk_4 (dk_at dksX1_ofStory_5 0 rfl rfl)
theorem dX1_ofStory_141 : decode cX1_ofStory 141 = .ok (.goto 4, 3) := dk_167 0 4 (dk_at dksX1_ofStory_5 1 rfl rfl)
theorem dX1_ofStory_144 : decode cX1_ofStory 144 = .ok (.iconst 0, 1) := dk_3 (dk_at dksX1_ofStory_5 4 rfl rfl)
theorem dX1_ofStory_145 : decode cX1_ofStory 145 = .ok (.ireturn, 1) := dk_172 (dk_at dksX1_ofStory_5 5 rfl rfl)
theorem dX1_ofStory_146 : decode cX1_ofStory 146 = .ok (.bipush (-2), 2) := dk_16 254 (dk_at dksX1_ofStory_5 6 rfl rfl)
theorem dX1_ofStory_148 : decode cX1_ofStory 148 = .ok (.ireturn, 1) := dk_172 (dk_at dksX1_ofStory_5 8 rfl rfl)
abbrev cX1_isStory : ByteArray := prog_14_method_41_code
def yX1_isStory : MethodName := ⟨RX1, "isStory", "(I)Z"⟩
def dkwX1_isStory_0 : List UInt8 := [42, 182, 0, 178, 27, 3, 42, 180, 0, 153, 4, 100, 184, 0, 102, 172]
abbrev dktX1_isStory_0 : List UInt8 := dkwX1_isStory_0 ++ []
theorem dksX1_isStory_0 : cX1_isStory.data.toList.drop 0 = dktX1_isStory_0 := by decide +kernel
theorem dX1_isStory_0 : decode cX1_isStory 0 = .ok (.aload_n 0, 1) := dk_42 (dk_at dksX1_isStory_0 0 rfl rfl)
theorem dX1_isStory_1 : decode cX1_isStory 1 = .ok (.invokevirtual 178, 3) := dk_182 0 178 (dk_at dksX1_isStory_0 1 rfl rfl)
theorem dX1_isStory_4 : decode cX1_isStory 4 = .ok (.iload_n 1, 1) := dk_27 (dk_at dksX1_isStory_0 4 rfl rfl)
theorem dX1_isStory_5 : decode cX1_isStory 5 = .ok (.iconst 0, 1) := dk_3 (dk_at dksX1_isStory_0 5 rfl rfl)
theorem dX1_isStory_6 : decode cX1_isStory 6 = .ok (.aload_n 0, 1) := dk_42 (dk_at dksX1_isStory_0 6 rfl rfl)
theorem dX1_isStory_7 : decode cX1_isStory 7 = .ok (.getfield 153, 3) := dk_180 0 153 (dk_at dksX1_isStory_0 7 rfl rfl)
theorem dX1_isStory_10 : decode cX1_isStory 10 = .ok (.iconst 1, 1) := dk_4 (dk_at dksX1_isStory_0 10 rfl rfl)
theorem dX1_isStory_11 : decode cX1_isStory 11 = .ok (.isub, 1) := dk_100 (dk_at dksX1_isStory_0 11 rfl rfl)
theorem dX1_isStory_12 : decode cX1_isStory 12 = .ok (.invokestatic 102, 3) := dk_184 0 102 (dk_at dksX1_isStory_0 12 rfl rfl)
theorem dX1_isStory_15 : decode cX1_isStory 15 = .ok (.ireturn, 1) := dk_172 (dk_at dksX1_isStory_0 15 rfl rfl)
abbrev cX1_findArticles : ByteArray := prog_14_method_37_code
def yX1_findArticles : MethodName := ⟨RX1, "findArticles", "()V"⟩
def dkwX1_findArticles_9 : List UInt8 := [42, 27, 4, 182, 0, 174, 132, 1, 1, 167, 255, 228, 177]
abbrev dktX1_findArticles_9 : List UInt8 := dkwX1_findArticles_9 ++ []
def dkwX1_findArticles_8 : List UInt8 := [167, 255, 228, 3, 60, 27, 42, 180, 0, 153, 162, 0, 26, 42, 180, 0, 95, 27, 46, 16, 247, 160, 0, 9]
abbrev dktX1_findArticles_8 : List UInt8 := dkwX1_findArticles_8 ++ dktX1_findArticles_9
def dkwX1_findArticles_7 : List UInt8 := [162, 0, 26, 42, 180, 0, 83, 27, 46, 16, 247, 160, 0, 9, 42, 27, 3, 182, 0, 174, 132, 1, 1]
abbrev dktX1_findArticles_7 : List UInt8 := dkwX1_findArticles_7 ++ dktX1_findArticles_8
def dkwX1_findArticles_6 : List UInt8 := [132, 1, 1, 167, 255, 202, 42, 3, 181, 0, 162, 42, 3, 181, 0, 165, 3, 60, 27, 42, 180, 0, 153]
abbrev dktX1_findArticles_6 : List UInt8 := dkwX1_findArticles_6 ++ dktX1_findArticles_7
def dkwX1_findArticles_5 : List UInt8 := [180, 0, 83, 28, 46, 16, 247, 160, 0, 17, 42, 180, 0, 83, 28, 27, 79, 42, 180, 0, 80, 27, 28, 79]
abbrev dktX1_findArticles_5 : List UInt8 := dkwX1_findArticles_5 ++ dktX1_findArticles_6
def dkwX1_findArticles_4 : List UInt8 := [162, 0, 52, 42, 180, 0, 77, 27, 46, 61, 28, 16, 247, 159, 0, 33, 28, 27, 159, 0, 28, 42]
abbrev dktX1_findArticles_4 : List UInt8 := dkwX1_findArticles_4 ++ dktX1_findArticles_5
def dkwX1_findArticles_3 : List UInt8 := [16, 247, 79, 42, 180, 0, 95, 27, 16, 247, 79, 132, 1, 1, 167, 255, 176, 3, 60, 27, 42, 180, 0, 153]
abbrev dktX1_findArticles_3 : List UInt8 := dkwX1_findArticles_3 ++ dktX1_findArticles_4
def dkwX1_findArticles_2 : List UInt8 := [16, 247, 167, 0, 8, 42, 28, 182, 0, 171, 79, 42, 180, 0, 80, 27, 16, 247, 79, 42, 180, 0, 83, 27]
abbrev dktX1_findArticles_2 : List UInt8 := dkwX1_findArticles_2 ++ dktX1_findArticles_3
def dkwX1_findArticles_1 : List UInt8 := [27, 28, 16, 247, 159, 0, 7, 4, 167, 0, 4, 3, 84, 42, 180, 0, 77, 27, 28, 16, 247, 160, 0, 8]
abbrev dktX1_findArticles_1 : List UInt8 := dkwX1_findArticles_1 ++ dktX1_findArticles_2
def dkwX1_findArticles_0 : List UInt8 := [42, 182, 0, 159, 3, 60, 27, 42, 180, 0, 153, 162, 0, 78, 42, 27, 182, 0, 168, 61, 42, 180, 0, 73]
abbrev dktX1_findArticles_0 : List UInt8 := dkwX1_findArticles_0 ++ dktX1_findArticles_1
theorem dksX1_findArticles_0 : cX1_findArticles.data.toList.drop 0 = dktX1_findArticles_0 := by decide +kernel
theorem dksX1_findArticles_1 : cX1_findArticles.data.toList.drop 24 = dktX1_findArticles_1 := dk_seg dksX1_findArticles_0 24 rfl rfl
theorem dksX1_findArticles_2 : cX1_findArticles.data.toList.drop 48 = dktX1_findArticles_2 := dk_seg dksX1_findArticles_1 24 rfl rfl
theorem dksX1_findArticles_3 : cX1_findArticles.data.toList.drop 72 = dktX1_findArticles_3 := dk_seg dksX1_findArticles_2 24 rfl rfl
theorem dksX1_findArticles_4 : cX1_findArticles.data.toList.drop 96 = dktX1_findArticles_4 := dk_seg dksX1_findArticles_3 24 rfl rfl
theorem dksX1_findArticles_5 : cX1_findArticles.data.toList.drop 118 = dktX1_findArticles_5 := dk_seg dksX1_findArticles_4 22 rfl rfl
theorem dksX1_findArticles_6 : cX1_findArticles.data.toList.drop 142 = dktX1_findArticles_6 := dk_seg dksX1_findArticles_5 24 rfl rfl
theorem dksX1_findArticles_7 : cX1_findArticles.data.toList.drop 165 = dktX1_findArticles_7 := dk_seg dksX1_findArticles_6 23 rfl rfl
theorem dksX1_findArticles_8 : cX1_findArticles.data.toList.drop 188 = dktX1_findArticles_8 := dk_seg dksX1_findArticles_7 23 rfl rfl
theorem dksX1_findArticles_9 : cX1_findArticles.data.toList.drop 212 = dktX1_findArticles_9 := dk_seg dksX1_findArticles_8 24 rfl rfl
theorem dX1_findArticles_0 : decode cX1_findArticles 0 = .ok (.aload_n 0, 1) := dk_42 (dk_at dksX1_findArticles_0 0 rfl rfl)
theorem dX1_findArticles_1 : decode cX1_findArticles 1 = .ok (.invokevirtual 159, 3) := dk_182 0 159 (dk_at dksX1_findArticles_0 1 rfl rfl)
theorem dX1_findArticles_4 : decode cX1_findArticles 4 = .ok (.iconst 0, 1) := dk_3 (dk_at dksX1_findArticles_0 4 rfl rfl)
theorem dX1_findArticles_5 : decode cX1_findArticles 5 = .ok (.istore_n 1, 1) := dk_60 (dk_at dksX1_findArticles_0 5 rfl rfl)
theorem dX1_findArticles_6 : decode cX1_findArticles 6 = .ok (.iload_n 1, 1) := dk_27 (dk_at dksX1_findArticles_0 6 rfl rfl)
theorem dX1_findArticles_7 : decode cX1_findArticles 7 = .ok (.aload_n 0, 1) := dk_42 (dk_at dksX1_findArticles_0 7 rfl rfl)
theorem dX1_findArticles_8 : decode cX1_findArticles 8 = .ok (.getfield 153, 3) := dk_180 0 153 (dk_at dksX1_findArticles_0 8 rfl rfl)
theorem dX1_findArticles_11 : decode cX1_findArticles 11 = .ok (.if_icmp .ge 78, 3) := dk_162 0 78 (dk_at dksX1_findArticles_0 11 rfl rfl)
theorem dX1_findArticles_14 : decode cX1_findArticles 14 = .ok (.aload_n 0, 1) := dk_42 (dk_at dksX1_findArticles_0 14 rfl rfl)
theorem dX1_findArticles_15 : decode cX1_findArticles 15 = .ok (.iload_n 1, 1) := dk_27 (dk_at dksX1_findArticles_0 15 rfl rfl)
theorem dX1_findArticles_16 : decode cX1_findArticles 16 = .ok (.invokevirtual 168, 3) := dk_182 0 168 (dk_at dksX1_findArticles_0 16 rfl rfl)
theorem dX1_findArticles_19 : decode cX1_findArticles 19 = .ok (.istore_n 2, 1) := dk_61 (dk_at dksX1_findArticles_0 19 rfl rfl)
theorem dX1_findArticles_20 : decode cX1_findArticles 20 = .ok (.aload_n 0, 1) := dk_42 (dk_at dksX1_findArticles_0 20 rfl rfl)
theorem dX1_findArticles_21 : decode cX1_findArticles 21 = .ok (.getfield 73, 3) := dk_180 0 73 (dk_at dksX1_findArticles_0 21 rfl rfl)
theorem dX1_findArticles_24 : decode cX1_findArticles 24 = .ok (.iload_n 1, 1) := dk_27 (dk_at dksX1_findArticles_1 0 rfl rfl)
theorem dX1_findArticles_25 : decode cX1_findArticles 25 = .ok (.iload_n 2, 1) := dk_28 (dk_at dksX1_findArticles_1 1 rfl rfl)
theorem dX1_findArticles_26 : decode cX1_findArticles 26 = .ok (.bipush (-9), 2) := dk_16 247 (dk_at dksX1_findArticles_1 2 rfl rfl)
theorem dX1_findArticles_28 : decode cX1_findArticles 28 = .ok (.if_icmp .eq 7, 3) := dk_159 0 7 (dk_at dksX1_findArticles_1 4 rfl rfl)
theorem dX1_findArticles_31 : decode cX1_findArticles 31 = .ok (.iconst 1, 1) := dk_4 (dk_at dksX1_findArticles_1 7 rfl rfl)
theorem dX1_findArticles_32 : decode cX1_findArticles 32 = .ok (.goto 4, 3) := dk_167 0 4 (dk_at dksX1_findArticles_1 8 rfl rfl)
theorem dX1_findArticles_35 : decode cX1_findArticles 35 = .ok (.iconst 0, 1) := dk_3 (dk_at dksX1_findArticles_1 11 rfl rfl)
theorem dX1_findArticles_36 : decode cX1_findArticles 36 = .ok (.bastore, 1) := dk_84 (dk_at dksX1_findArticles_1 12 rfl rfl)
theorem dX1_findArticles_37 : decode cX1_findArticles 37 = .ok (.aload_n 0, 1) := dk_42 (dk_at dksX1_findArticles_1 13 rfl rfl)
theorem dX1_findArticles_38 : decode cX1_findArticles 38 = .ok (.getfield 77, 3) := dk_180 0 77 (dk_at dksX1_findArticles_1 14 rfl rfl)
theorem dX1_findArticles_41 : decode cX1_findArticles 41 = .ok (.iload_n 1, 1) := dk_27 (dk_at dksX1_findArticles_1 17 rfl rfl)
theorem dX1_findArticles_42 : decode cX1_findArticles 42 = .ok (.iload_n 2, 1) := dk_28 (dk_at dksX1_findArticles_1 18 rfl rfl)
theorem dX1_findArticles_43 : decode cX1_findArticles 43 = .ok (.bipush (-9), 2) := dk_16 247 (dk_at dksX1_findArticles_1 19 rfl rfl)
theorem dX1_findArticles_45 : decode cX1_findArticles 45 = .ok (.if_icmp .ne 8, 3) := dk_160 0 8 (dk_at dksX1_findArticles_1 21 rfl rfl)
theorem dX1_findArticles_48 : decode cX1_findArticles 48 = .ok (.bipush (-9), 2) := dk_16 247 (dk_at dksX1_findArticles_2 0 rfl rfl)
theorem dX1_findArticles_50 : decode cX1_findArticles 50 = .ok (.goto 8, 3) := dk_167 0 8 (dk_at dksX1_findArticles_2 2 rfl rfl)
theorem dX1_findArticles_53 : decode cX1_findArticles 53 = .ok (.aload_n 0, 1) := dk_42 (dk_at dksX1_findArticles_2 5 rfl rfl)
theorem dX1_findArticles_54 : decode cX1_findArticles 54 = .ok (.iload_n 2, 1) := dk_28 (dk_at dksX1_findArticles_2 6 rfl rfl)
theorem dX1_findArticles_55 : decode cX1_findArticles 55 = .ok (.invokevirtual 171, 3) := dk_182 0 171 (dk_at dksX1_findArticles_2 7 rfl rfl)
theorem dX1_findArticles_58 : decode cX1_findArticles 58 = .ok (.iastore, 1) := dk_79 (dk_at dksX1_findArticles_2 10 rfl rfl)
theorem dX1_findArticles_59 : decode cX1_findArticles 59 = .ok (.aload_n 0, 1) := dk_42 (dk_at dksX1_findArticles_2 11 rfl rfl)
theorem dX1_findArticles_60 : decode cX1_findArticles 60 = .ok (.getfield 80, 3) := dk_180 0 80 (dk_at dksX1_findArticles_2 12 rfl rfl)
theorem dX1_findArticles_63 : decode cX1_findArticles 63 = .ok (.iload_n 1, 1) := dk_27 (dk_at dksX1_findArticles_2 15 rfl rfl)
theorem dX1_findArticles_64 : decode cX1_findArticles 64 = .ok (.bipush (-9), 2) := dk_16 247 (dk_at dksX1_findArticles_2 16 rfl rfl)
theorem dX1_findArticles_66 : decode cX1_findArticles 66 = .ok (.iastore, 1) := dk_79 (dk_at dksX1_findArticles_2 18 rfl rfl)
theorem dX1_findArticles_67 : decode cX1_findArticles 67 = .ok (.aload_n 0, 1) := dk_42 (dk_at dksX1_findArticles_2 19 rfl rfl)
theorem dX1_findArticles_68 : decode cX1_findArticles 68 = .ok (.getfield 83, 3) := dk_180 0 83 (dk_at dksX1_findArticles_2 20 rfl rfl)
theorem dX1_findArticles_71 : decode cX1_findArticles 71 = .ok (.iload_n 1, 1) := dk_27 (dk_at dksX1_findArticles_2 23 rfl rfl)
theorem dX1_findArticles_72 : decode cX1_findArticles 72 = .ok (.bipush (-9), 2) := dk_16 247 (dk_at dksX1_findArticles_3 0 rfl rfl)
theorem dX1_findArticles_74 : decode cX1_findArticles 74 = .ok (.iastore, 1) := dk_79 (dk_at dksX1_findArticles_3 2 rfl rfl)
theorem dX1_findArticles_75 : decode cX1_findArticles 75 = .ok (.aload_n 0, 1) := dk_42 (dk_at dksX1_findArticles_3 3 rfl rfl)
theorem dX1_findArticles_76 : decode cX1_findArticles 76 = .ok (.getfield 95, 3) := dk_180 0 95 (dk_at dksX1_findArticles_3 4 rfl rfl)
theorem dX1_findArticles_79 : decode cX1_findArticles 79 = .ok (.iload_n 1, 1) := dk_27 (dk_at dksX1_findArticles_3 7 rfl rfl)
theorem dX1_findArticles_80 : decode cX1_findArticles 80 = .ok (.bipush (-9), 2) := dk_16 247 (dk_at dksX1_findArticles_3 8 rfl rfl)
theorem dX1_findArticles_82 : decode cX1_findArticles 82 = .ok (.iastore, 1) := dk_79 (dk_at dksX1_findArticles_3 10 rfl rfl)
theorem dX1_findArticles_83 : decode cX1_findArticles 83 = .ok (.iinc 1 1, 3) := dk_132 1 1 (dk_at dksX1_findArticles_3 11 rfl rfl)
theorem dX1_findArticles_86 : decode cX1_findArticles 86 = .ok (.goto (-80), 3) := dk_167 255 176 (dk_at dksX1_findArticles_3 14 rfl rfl)
theorem dX1_findArticles_89 : decode cX1_findArticles 89 = .ok (.iconst 0, 1) := dk_3 (dk_at dksX1_findArticles_3 17 rfl rfl)
theorem dX1_findArticles_90 : decode cX1_findArticles 90 = .ok (.istore_n 1, 1) := dk_60 (dk_at dksX1_findArticles_3 18 rfl rfl)
theorem dX1_findArticles_91 : decode cX1_findArticles 91 = .ok (.iload_n 1, 1) := dk_27 (dk_at dksX1_findArticles_3 19 rfl rfl)
theorem dX1_findArticles_92 : decode cX1_findArticles 92 = .ok (.aload_n 0, 1) := dk_42 (dk_at dksX1_findArticles_3 20 rfl rfl)
theorem dX1_findArticles_93 : decode cX1_findArticles 93 = .ok (.getfield 153, 3) := dk_180 0 153 (dk_at dksX1_findArticles_3 21 rfl rfl)
theorem dX1_findArticles_96 : decode cX1_findArticles 96 = .ok (.if_icmp .ge 52, 3) := dk_162 0 52 (dk_at dksX1_findArticles_4 0 rfl rfl)
theorem dX1_findArticles_99 : decode cX1_findArticles 99 = .ok (.aload_n 0, 1) := dk_42 (dk_at dksX1_findArticles_4 3 rfl rfl)
theorem dX1_findArticles_100 : decode cX1_findArticles 100 = .ok (.getfield 77, 3) := dk_180 0 77 (dk_at dksX1_findArticles_4 4 rfl rfl)
theorem dX1_findArticles_103 : decode cX1_findArticles 103 = .ok (.iload_n 1, 1) := dk_27 (dk_at dksX1_findArticles_4 7 rfl rfl)
theorem dX1_findArticles_104 : decode cX1_findArticles 104 = .ok (.iaload, 1) := dk_46 (dk_at dksX1_findArticles_4 8 rfl rfl)
theorem dX1_findArticles_105 : decode cX1_findArticles 105 = .ok (.istore_n 2, 1) := dk_61 (dk_at dksX1_findArticles_4 9 rfl rfl)
theorem dX1_findArticles_106 : decode cX1_findArticles 106 = .ok (.iload_n 2, 1) := dk_28 (dk_at dksX1_findArticles_4 10 rfl rfl)
theorem dX1_findArticles_107 : decode cX1_findArticles 107 = .ok (.bipush (-9), 2) := dk_16 247 (dk_at dksX1_findArticles_4 11 rfl rfl)
theorem dX1_findArticles_109 : decode cX1_findArticles 109 = .ok (.if_icmp .eq 33, 3) := dk_159 0 33 (dk_at dksX1_findArticles_4 13 rfl rfl)
theorem dX1_findArticles_112 : decode cX1_findArticles 112 = .ok (.iload_n 2, 1) := dk_28 (dk_at dksX1_findArticles_4 16 rfl rfl)
theorem dX1_findArticles_113 : decode cX1_findArticles 113 = .ok (.iload_n 1, 1) := dk_27 (dk_at dksX1_findArticles_4 17 rfl rfl)
theorem dX1_findArticles_114 : decode cX1_findArticles 114 = .ok (.if_icmp .eq 28, 3) := dk_159 0 28 (dk_at dksX1_findArticles_4 18 rfl rfl)
theorem dX1_findArticles_117 : decode cX1_findArticles 117 = .ok (.aload_n 0, 1) := dk_42 (dk_at dksX1_findArticles_4 21 rfl rfl)
theorem dX1_findArticles_118 : decode cX1_findArticles 118 = .ok (.getfield 83, 3) := dk_180 0 83 (dk_at dksX1_findArticles_5 0 rfl rfl)
theorem dX1_findArticles_121 : decode cX1_findArticles 121 = .ok (.iload_n 2, 1) := dk_28 (dk_at dksX1_findArticles_5 3 rfl rfl)
theorem dX1_findArticles_122 : decode cX1_findArticles 122 = .ok (.iaload, 1) := dk_46 (dk_at dksX1_findArticles_5 4 rfl rfl)
theorem dX1_findArticles_123 : decode cX1_findArticles 123 = .ok (.bipush (-9), 2) := dk_16 247 (dk_at dksX1_findArticles_5 5 rfl rfl)
theorem dX1_findArticles_125 : decode cX1_findArticles 125 = .ok (.if_icmp .ne 17, 3) := dk_160 0 17 (dk_at dksX1_findArticles_5 7 rfl rfl)
theorem dX1_findArticles_128 : decode cX1_findArticles 128 = .ok (.aload_n 0, 1) := dk_42 (dk_at dksX1_findArticles_5 10 rfl rfl)
theorem dX1_findArticles_129 : decode cX1_findArticles 129 = .ok (.getfield 83, 3) := dk_180 0 83 (dk_at dksX1_findArticles_5 11 rfl rfl)
theorem dX1_findArticles_132 : decode cX1_findArticles 132 = .ok (.iload_n 2, 1) := dk_28 (dk_at dksX1_findArticles_5 14 rfl rfl)
theorem dX1_findArticles_133 : decode cX1_findArticles 133 = .ok (.iload_n 1, 1) := dk_27 (dk_at dksX1_findArticles_5 15 rfl rfl)
theorem dX1_findArticles_134 : decode cX1_findArticles 134 = .ok (.iastore, 1) := dk_79 (dk_at dksX1_findArticles_5 16 rfl rfl)
theorem dX1_findArticles_135 : decode cX1_findArticles 135 = .ok (.aload_n 0, 1) := dk_42 (dk_at dksX1_findArticles_5 17 rfl rfl)
theorem dX1_findArticles_136 : decode cX1_findArticles 136 = .ok (.getfield 80, 3) := dk_180 0 80 (dk_at dksX1_findArticles_5 18 rfl rfl)
theorem dX1_findArticles_139 : decode cX1_findArticles 139 = .ok (.iload_n 1, 1) := dk_27 (dk_at dksX1_findArticles_5 21 rfl rfl)
theorem dX1_findArticles_140 : decode cX1_findArticles 140 = .ok (.iload_n 2, 1) := dk_28 (dk_at dksX1_findArticles_5 22 rfl rfl)
theorem dX1_findArticles_141 : decode cX1_findArticles 141 = .ok (.iastore, 1) := dk_79 (dk_at dksX1_findArticles_5 23 rfl rfl)
theorem dX1_findArticles_142 : decode cX1_findArticles 142 = .ok (.iinc 1 1, 3) := dk_132 1 1 (dk_at dksX1_findArticles_6 0 rfl rfl)
theorem dX1_findArticles_145 : decode cX1_findArticles 145 = .ok (.goto (-54), 3) := dk_167 255 202 (dk_at dksX1_findArticles_6 3 rfl rfl)
theorem dX1_findArticles_148 : decode cX1_findArticles 148 = .ok (.aload_n 0, 1) := dk_42 (dk_at dksX1_findArticles_6 6 rfl rfl)
theorem dX1_findArticles_149 : decode cX1_findArticles 149 = .ok (.iconst 0, 1) := dk_3 (dk_at dksX1_findArticles_6 7 rfl rfl)
theorem dX1_findArticles_150 : decode cX1_findArticles 150 = .ok (.putfield 162, 3) := dk_181 0 162 (dk_at dksX1_findArticles_6 8 rfl rfl)
theorem dX1_findArticles_153 : decode cX1_findArticles 153 = .ok (.aload_n 0, 1) := dk_42 (dk_at dksX1_findArticles_6 11 rfl rfl)
theorem dX1_findArticles_154 : decode cX1_findArticles 154 = .ok (.iconst 0, 1) := dk_3 (dk_at dksX1_findArticles_6 12 rfl rfl)
theorem dX1_findArticles_155 : decode cX1_findArticles 155 = .ok (.putfield 165, 3) := dk_181 0 165 (dk_at dksX1_findArticles_6 13 rfl rfl)
theorem dX1_findArticles_158 : decode cX1_findArticles 158 = .ok (.iconst 0, 1) := dk_3 (dk_at dksX1_findArticles_6 16 rfl rfl)
theorem dX1_findArticles_159 : decode cX1_findArticles 159 = .ok (.istore_n 1, 1) := dk_60 (dk_at dksX1_findArticles_6 17 rfl rfl)
theorem dX1_findArticles_160 : decode cX1_findArticles 160 = .ok (.iload_n 1, 1) := dk_27 (dk_at dksX1_findArticles_6 18 rfl rfl)
theorem dX1_findArticles_161 : decode cX1_findArticles 161 = .ok (.aload_n 0, 1) := dk_42 (dk_at dksX1_findArticles_6 19 rfl rfl)
theorem dX1_findArticles_162 : decode cX1_findArticles 162 = .ok (.getfield 153, 3) := dk_180 0 153 (dk_at dksX1_findArticles_6 20 rfl rfl)
theorem dX1_findArticles_165 : decode cX1_findArticles 165 = .ok (.if_icmp .ge 26, 3) := dk_162 0 26 (dk_at dksX1_findArticles_7 0 rfl rfl)
theorem dX1_findArticles_168 : decode cX1_findArticles 168 = .ok (.aload_n 0, 1) := dk_42 (dk_at dksX1_findArticles_7 3 rfl rfl)
theorem dX1_findArticles_169 : decode cX1_findArticles 169 = .ok (.getfield 83, 3) := dk_180 0 83 (dk_at dksX1_findArticles_7 4 rfl rfl)
theorem dX1_findArticles_172 : decode cX1_findArticles 172 = .ok (.iload_n 1, 1) := dk_27 (dk_at dksX1_findArticles_7 7 rfl rfl)
theorem dX1_findArticles_173 : decode cX1_findArticles 173 = .ok (.iaload, 1) := dk_46 (dk_at dksX1_findArticles_7 8 rfl rfl)
theorem dX1_findArticles_174 : decode cX1_findArticles 174 = .ok (.bipush (-9), 2) := dk_16 247 (dk_at dksX1_findArticles_7 9 rfl rfl)
theorem dX1_findArticles_176 : decode cX1_findArticles 176 = .ok (.if_icmp .ne 9, 3) := dk_160 0 9 (dk_at dksX1_findArticles_7 11 rfl rfl)
theorem dX1_findArticles_179 : decode cX1_findArticles 179 = .ok (.aload_n 0, 1) := dk_42 (dk_at dksX1_findArticles_7 14 rfl rfl)
theorem dX1_findArticles_180 : decode cX1_findArticles 180 = .ok (.iload_n 1, 1) := dk_27 (dk_at dksX1_findArticles_7 15 rfl rfl)
theorem dX1_findArticles_181 : decode cX1_findArticles 181 = .ok (.iconst 0, 1) := dk_3 (dk_at dksX1_findArticles_7 16 rfl rfl)
theorem dX1_findArticles_182 : decode cX1_findArticles 182 = .ok (.invokevirtual 174, 3) := dk_182 0 174 (dk_at dksX1_findArticles_7 17 rfl rfl)
theorem dX1_findArticles_185 : decode cX1_findArticles 185 = .ok (.iinc 1 1, 3) := dk_132 1 1 (dk_at dksX1_findArticles_7 20 rfl rfl)
theorem dX1_findArticles_188 : decode cX1_findArticles 188 = .ok (.goto (-28), 3) := dk_167 255 228 (dk_at dksX1_findArticles_8 0 rfl rfl)
theorem dX1_findArticles_191 : decode cX1_findArticles 191 = .ok (.iconst 0, 1) := dk_3 (dk_at dksX1_findArticles_8 3 rfl rfl)
theorem dX1_findArticles_192 : decode cX1_findArticles 192 = .ok (.istore_n 1, 1) := dk_60 (dk_at dksX1_findArticles_8 4 rfl rfl)
theorem dX1_findArticles_193 : decode cX1_findArticles 193 = .ok (.iload_n 1, 1) := dk_27 (dk_at dksX1_findArticles_8 5 rfl rfl)
theorem dX1_findArticles_194 : decode cX1_findArticles 194 = .ok (.aload_n 0, 1) := dk_42 (dk_at dksX1_findArticles_8 6 rfl rfl)
theorem dX1_findArticles_195 : decode cX1_findArticles 195 = .ok (.getfield 153, 3) := dk_180 0 153 (dk_at dksX1_findArticles_8 7 rfl rfl)
theorem dX1_findArticles_198 : decode cX1_findArticles 198 = .ok (.if_icmp .ge 26, 3) := dk_162 0 26 (dk_at dksX1_findArticles_8 10 rfl rfl)
theorem dX1_findArticles_201 : decode cX1_findArticles 201 = .ok (.aload_n 0, 1) := dk_42 (dk_at dksX1_findArticles_8 13 rfl rfl)
theorem dX1_findArticles_202 : decode cX1_findArticles 202 = .ok (.getfield 95, 3) := dk_180 0 95 (dk_at dksX1_findArticles_8 14 rfl rfl)
theorem dX1_findArticles_205 : decode cX1_findArticles 205 = .ok (.iload_n 1, 1) := dk_27 (dk_at dksX1_findArticles_8 17 rfl rfl)
theorem dX1_findArticles_206 : decode cX1_findArticles 206 = .ok (.iaload, 1) := dk_46 (dk_at dksX1_findArticles_8 18 rfl rfl)
theorem dX1_findArticles_207 : decode cX1_findArticles 207 = .ok (.bipush (-9), 2) := dk_16 247 (dk_at dksX1_findArticles_8 19 rfl rfl)
theorem dX1_findArticles_209 : decode cX1_findArticles 209 = .ok (.if_icmp .ne 9, 3) := dk_160 0 9 (dk_at dksX1_findArticles_8 21 rfl rfl)
theorem dX1_findArticles_212 : decode cX1_findArticles 212 = .ok (.aload_n 0, 1) := dk_42 (dk_at dksX1_findArticles_9 0 rfl rfl)
theorem dX1_findArticles_213 : decode cX1_findArticles 213 = .ok (.iload_n 1, 1) := dk_27 (dk_at dksX1_findArticles_9 1 rfl rfl)
theorem dX1_findArticles_214 : decode cX1_findArticles 214 = .ok (.iconst 1, 1) := dk_4 (dk_at dksX1_findArticles_9 2 rfl rfl)
theorem dX1_findArticles_215 : decode cX1_findArticles 215 = .ok (.invokevirtual 174, 3) := dk_182 0 174 (dk_at dksX1_findArticles_9 3 rfl rfl)
theorem dX1_findArticles_218 : decode cX1_findArticles 218 = .ok (.iinc 1 1, 3) := dk_132 1 1 (dk_at dksX1_findArticles_9 6 rfl rfl)
theorem dX1_findArticles_221 : decode cX1_findArticles 221 = .ok (.goto (-28), 3) := dk_167 255 228 (dk_at dksX1_findArticles_9 9 rfl rfl)
theorem dX1_findArticles_224 : decode cX1_findArticles 224 = .ok (.return_, 1) := dk_177 (dk_at dksX1_findArticles_9 12 rfl rfl)
abbrev cX1_onwardOf : ByteArray := prog_14_method_34_code
def yX1_onwardOf : MethodName := ⟨RX1, "onwardOf", "(I)I"⟩
def dkwX1_onwardOf_2 : List UInt8 := [16, 247, 160, 0, 7, 28, 167, 0, 5, 21, 5, 61, 132, 4, 1, 167, 255, 207, 28, 172]
abbrev dktX1_onwardOf_2 : List UInt8 := dkwX1_onwardOf_2 ++ []
def dkwX1_onwardOf_1 : List UInt8 := [42, 180, 0, 64, 16, 24, 29, 104, 21, 4, 96, 46, 54, 5, 42, 180, 0, 31, 5, 21, 5, 104, 46]
abbrev dktX1_onwardOf_1 : List UInt8 := dkwX1_onwardOf_1 ++ dktX1_onwardOf_2
def dkwX1_onwardOf_0 : List UInt8 := [16, 247, 61, 42, 180, 0, 67, 27, 46, 62, 3, 54, 4, 21, 4, 42, 180, 0, 61, 29, 46, 162, 0, 44]
abbrev dktX1_onwardOf_0 : List UInt8 := dkwX1_onwardOf_0 ++ dktX1_onwardOf_1
theorem dksX1_onwardOf_0 : cX1_onwardOf.data.toList.drop 0 = dktX1_onwardOf_0 := by decide +kernel
theorem dksX1_onwardOf_1 : cX1_onwardOf.data.toList.drop 24 = dktX1_onwardOf_1 := dk_seg dksX1_onwardOf_0 24 rfl rfl
theorem dksX1_onwardOf_2 : cX1_onwardOf.data.toList.drop 47 = dktX1_onwardOf_2 := dk_seg dksX1_onwardOf_1 23 rfl rfl
theorem dX1_onwardOf_0 : decode cX1_onwardOf 0 = .ok (.bipush (-9), 2) := dk_16 247 (dk_at dksX1_onwardOf_0 0 rfl rfl)
theorem dX1_onwardOf_2 : decode cX1_onwardOf 2 = .ok (.istore_n 2, 1) := dk_61 (dk_at dksX1_onwardOf_0 2 rfl rfl)
theorem dX1_onwardOf_3 : decode cX1_onwardOf 3 = .ok (.aload_n 0, 1) := dk_42 (dk_at dksX1_onwardOf_0 3 rfl rfl)
theorem dX1_onwardOf_4 : decode cX1_onwardOf 4 = .ok (.getfield 67, 3) := dk_180 0 67 (dk_at dksX1_onwardOf_0 4 rfl rfl)
theorem dX1_onwardOf_7 : decode cX1_onwardOf 7 = .ok (.iload_n 1, 1) := dk_27 (dk_at dksX1_onwardOf_0 7 rfl rfl)
theorem dX1_onwardOf_8 : decode cX1_onwardOf 8 = .ok (.iaload, 1) := dk_46 (dk_at dksX1_onwardOf_0 8 rfl rfl)
theorem dX1_onwardOf_9 : decode cX1_onwardOf 9 = .ok (.istore_n 3, 1) := dk_62 (dk_at dksX1_onwardOf_0 9 rfl rfl)
theorem dX1_onwardOf_10 : decode cX1_onwardOf 10 = .ok (.iconst 0, 1) := dk_3 (dk_at dksX1_onwardOf_0 10 rfl rfl)
theorem dX1_onwardOf_11 : decode cX1_onwardOf 11 = .ok (.istore 4, 2) := dk_54 4 (dk_at dksX1_onwardOf_0 11 rfl rfl)
theorem dX1_onwardOf_13 : decode cX1_onwardOf 13 = .ok (.iload 4, 2) := dk_21 4 (dk_at dksX1_onwardOf_0 13 rfl rfl)
theorem dX1_onwardOf_15 : decode cX1_onwardOf 15 = .ok (.aload_n 0, 1) := dk_42 (dk_at dksX1_onwardOf_0 15 rfl rfl)
theorem dX1_onwardOf_16 : decode cX1_onwardOf 16 = .ok (.getfield 61, 3) := dk_180 0 61 (dk_at dksX1_onwardOf_0 16 rfl rfl)
theorem dX1_onwardOf_19 : decode cX1_onwardOf 19 = .ok (.iload_n 3, 1) := dk_29 (dk_at dksX1_onwardOf_0 19 rfl rfl)
theorem dX1_onwardOf_20 : decode cX1_onwardOf 20 = .ok (.iaload, 1) := dk_46 (dk_at dksX1_onwardOf_0 20 rfl rfl)
theorem dX1_onwardOf_21 : decode cX1_onwardOf 21 = .ok (.if_icmp .ge 44, 3) := dk_162 0 44 (dk_at dksX1_onwardOf_0 21 rfl rfl)
theorem dX1_onwardOf_24 : decode cX1_onwardOf 24 = .ok (.aload_n 0, 1) := dk_42 (dk_at dksX1_onwardOf_1 0 rfl rfl)
theorem dX1_onwardOf_25 : decode cX1_onwardOf 25 = .ok (.getfield 64, 3) := dk_180 0 64 (dk_at dksX1_onwardOf_1 1 rfl rfl)
theorem dX1_onwardOf_28 : decode cX1_onwardOf 28 = .ok (.bipush 24, 2) := dk_16 24 (dk_at dksX1_onwardOf_1 4 rfl rfl)
theorem dX1_onwardOf_30 : decode cX1_onwardOf 30 = .ok (.iload_n 3, 1) := dk_29 (dk_at dksX1_onwardOf_1 6 rfl rfl)
theorem dX1_onwardOf_31 : decode cX1_onwardOf 31 = .ok (.imul, 1) := dk_104 (dk_at dksX1_onwardOf_1 7 rfl rfl)
theorem dX1_onwardOf_32 : decode cX1_onwardOf 32 = .ok (.iload 4, 2) := dk_21 4 (dk_at dksX1_onwardOf_1 8 rfl rfl)
theorem dX1_onwardOf_34 : decode cX1_onwardOf 34 = .ok (.iadd, 1) := dk_96 (dk_at dksX1_onwardOf_1 10 rfl rfl)
theorem dX1_onwardOf_35 : decode cX1_onwardOf 35 = .ok (.iaload, 1) := dk_46 (dk_at dksX1_onwardOf_1 11 rfl rfl)
theorem dX1_onwardOf_36 : decode cX1_onwardOf 36 = .ok (.istore 5, 2) := dk_54 5 (dk_at dksX1_onwardOf_1 12 rfl rfl)
theorem dX1_onwardOf_38 : decode cX1_onwardOf 38 = .ok (.aload_n 0, 1) := dk_42 (dk_at dksX1_onwardOf_1 14 rfl rfl)
theorem dX1_onwardOf_39 : decode cX1_onwardOf 39 = .ok (.getfield 31, 3) := dk_180 0 31 (dk_at dksX1_onwardOf_1 15 rfl rfl)
theorem dX1_onwardOf_42 : decode cX1_onwardOf 42 = .ok (.iconst 2, 1) := dk_5 (dk_at dksX1_onwardOf_1 18 rfl rfl)
theorem dX1_onwardOf_43 : decode cX1_onwardOf 43 = .ok (.iload 5, 2) := dk_21 5 (dk_at dksX1_onwardOf_1 19 rfl rfl)
theorem dX1_onwardOf_45 : decode cX1_onwardOf 45 = .ok (.imul, 1) := dk_104 (dk_at dksX1_onwardOf_1 21 rfl rfl)
theorem dX1_onwardOf_46 : decode cX1_onwardOf 46 = .ok (.iaload, 1) := dk_46 (dk_at dksX1_onwardOf_1 22 rfl rfl)
theorem dX1_onwardOf_47 : decode cX1_onwardOf 47 = .ok (.bipush (-9), 2) := dk_16 247 (dk_at dksX1_onwardOf_2 0 rfl rfl)
theorem dX1_onwardOf_49 : decode cX1_onwardOf 49 = .ok (.if_icmp .ne 7, 3) := dk_160 0 7 (dk_at dksX1_onwardOf_2 2 rfl rfl)
theorem dX1_onwardOf_52 : decode cX1_onwardOf 52 = .ok (.iload_n 2, 1) := dk_28 (dk_at dksX1_onwardOf_2 5 rfl rfl)
theorem dX1_onwardOf_53 : decode cX1_onwardOf 53 = .ok (.goto 5, 3) := dk_167 0 5 (dk_at dksX1_onwardOf_2 6 rfl rfl)
theorem dX1_onwardOf_56 : decode cX1_onwardOf 56 = .ok (.iload 5, 2) := dk_21 5 (dk_at dksX1_onwardOf_2 9 rfl rfl)
theorem dX1_onwardOf_58 : decode cX1_onwardOf 58 = .ok (.istore_n 2, 1) := dk_61 (dk_at dksX1_onwardOf_2 11 rfl rfl)
theorem dX1_onwardOf_59 : decode cX1_onwardOf 59 = .ok (.iinc 4 1, 3) := dk_132 4 1 (dk_at dksX1_onwardOf_2 12 rfl rfl)
theorem dX1_onwardOf_62 : decode cX1_onwardOf 62 = .ok (.goto (-49), 3) := dk_167 255 207 (dk_at dksX1_onwardOf_2 15 rfl rfl)
theorem dX1_onwardOf_65 : decode cX1_onwardOf 65 = .ok (.iload_n 2, 1) := dk_28 (dk_at dksX1_onwardOf_2 18 rfl rfl)
theorem dX1_onwardOf_66 : decode cX1_onwardOf 66 = .ok (.ireturn, 1) := dk_172 (dk_at dksX1_onwardOf_2 19 rfl rfl)
abbrev cX1_aimBy : ByteArray := prog_14_method_35_code
def yX1_aimBy : MethodName := ⟨RX1, "aimBy", "(I)I"⟩
def dkwX1_aimBy_4 : List UInt8 := [132, 2, 1, 167, 255, 161, 16, 247, 172]
abbrev dktX1_aimBy_4 : List UInt8 := dkwX1_aimBy_4 ++ []
def dkwX1_aimBy_3 : List UInt8 := [104, 4, 96, 46, 42, 180, 0, 34, 5, 27, 104, 46, 160, 0, 10, 42, 180, 0, 70, 28, 46, 172]
abbrev dktX1_aimBy_3 : List UInt8 := dkwX1_aimBy_3 ++ dktX1_aimBy_4
def dkwX1_aimBy_2 : List UInt8 := [180, 0, 7, 27, 46, 160, 0, 7, 4, 167, 0, 4, 3, 62, 29, 153, 0, 31, 42, 180, 0, 34, 5, 28]
abbrev dktX1_aimBy_2 : List UInt8 := dkwX1_aimBy_2 ++ dktX1_aimBy_3
def dkwX1_aimBy_1 : List UInt8 := [28, 46, 42, 180, 0, 31, 5, 27, 104, 46, 160, 0, 26, 42, 180, 0, 31, 5, 28, 104, 4, 96, 46, 42]
abbrev dktX1_aimBy_1 : List UInt8 := dkwX1_aimBy_1 ++ dktX1_aimBy_2
def dkwX1_aimBy_0 : List UInt8 := [3, 61, 28, 42, 180, 0, 98, 162, 0, 93, 42, 180, 0, 13, 28, 46, 5, 159, 0, 43, 42, 180, 0, 7]
abbrev dktX1_aimBy_0 : List UInt8 := dkwX1_aimBy_0 ++ dktX1_aimBy_1
theorem dksX1_aimBy_0 : cX1_aimBy.data.toList.drop 0 = dktX1_aimBy_0 := by decide +kernel
theorem dksX1_aimBy_1 : cX1_aimBy.data.toList.drop 24 = dktX1_aimBy_1 := dk_seg dksX1_aimBy_0 24 rfl rfl
theorem dksX1_aimBy_2 : cX1_aimBy.data.toList.drop 48 = dktX1_aimBy_2 := dk_seg dksX1_aimBy_1 24 rfl rfl
theorem dksX1_aimBy_3 : cX1_aimBy.data.toList.drop 72 = dktX1_aimBy_3 := dk_seg dksX1_aimBy_2 24 rfl rfl
theorem dksX1_aimBy_4 : cX1_aimBy.data.toList.drop 94 = dktX1_aimBy_4 := dk_seg dksX1_aimBy_3 22 rfl rfl
theorem dX1_aimBy_0 : decode cX1_aimBy 0 = .ok (.iconst 0, 1) := dk_3 (dk_at dksX1_aimBy_0 0 rfl rfl)
theorem dX1_aimBy_1 : decode cX1_aimBy 1 = .ok (.istore_n 2, 1) := dk_61 (dk_at dksX1_aimBy_0 1 rfl rfl)
theorem dX1_aimBy_2 : decode cX1_aimBy 2 = .ok (.iload_n 2, 1) := dk_28 (dk_at dksX1_aimBy_0 2 rfl rfl)
theorem dX1_aimBy_3 : decode cX1_aimBy 3 = .ok (.aload_n 0, 1) := dk_42 (dk_at dksX1_aimBy_0 3 rfl rfl)
theorem dX1_aimBy_4 : decode cX1_aimBy 4 = .ok (.getfield 98, 3) := dk_180 0 98 (dk_at dksX1_aimBy_0 4 rfl rfl)
theorem dX1_aimBy_7 : decode cX1_aimBy 7 = .ok (.if_icmp .ge 93, 3) := dk_162 0 93 (dk_at dksX1_aimBy_0 7 rfl rfl)
theorem dX1_aimBy_10 : decode cX1_aimBy 10 = .ok (.aload_n 0, 1) := dk_42 (dk_at dksX1_aimBy_0 10 rfl rfl)
theorem dX1_aimBy_11 : decode cX1_aimBy 11 = .ok (.getfield 13, 3) := dk_180 0 13 (dk_at dksX1_aimBy_0 11 rfl rfl)
theorem dX1_aimBy_14 : decode cX1_aimBy 14 = .ok (.iload_n 2, 1) := dk_28 (dk_at dksX1_aimBy_0 14 rfl rfl)
theorem dX1_aimBy_15 : decode cX1_aimBy 15 = .ok (.iaload, 1) := dk_46 (dk_at dksX1_aimBy_0 15 rfl rfl)
theorem dX1_aimBy_16 : decode cX1_aimBy 16 = .ok (.iconst 2, 1) := dk_5 (dk_at dksX1_aimBy_0 16 rfl rfl)
theorem dX1_aimBy_17 : decode cX1_aimBy 17 = .ok (.if_icmp .eq 43, 3) := dk_159 0 43 (dk_at dksX1_aimBy_0 17 rfl rfl)
theorem dX1_aimBy_20 : decode cX1_aimBy 20 = .ok (.aload_n 0, 1) := dk_42 (dk_at dksX1_aimBy_0 20 rfl rfl)
theorem dX1_aimBy_21 : decode cX1_aimBy 21 = .ok (.getfield 7, 3) := dk_180 0 7 (dk_at dksX1_aimBy_0 21 rfl rfl)
theorem dX1_aimBy_24 : decode cX1_aimBy 24 = .ok (.iload_n 2, 1) := dk_28 (dk_at dksX1_aimBy_1 0 rfl rfl)
theorem dX1_aimBy_25 : decode cX1_aimBy 25 = .ok (.iaload, 1) := dk_46 (dk_at dksX1_aimBy_1 1 rfl rfl)
theorem dX1_aimBy_26 : decode cX1_aimBy 26 = .ok (.aload_n 0, 1) := dk_42 (dk_at dksX1_aimBy_1 2 rfl rfl)
theorem dX1_aimBy_27 : decode cX1_aimBy 27 = .ok (.getfield 31, 3) := dk_180 0 31 (dk_at dksX1_aimBy_1 3 rfl rfl)
theorem dX1_aimBy_30 : decode cX1_aimBy 30 = .ok (.iconst 2, 1) := dk_5 (dk_at dksX1_aimBy_1 6 rfl rfl)
theorem dX1_aimBy_31 : decode cX1_aimBy 31 = .ok (.iload_n 1, 1) := dk_27 (dk_at dksX1_aimBy_1 7 rfl rfl)
theorem dX1_aimBy_32 : decode cX1_aimBy 32 = .ok (.imul, 1) := dk_104 (dk_at dksX1_aimBy_1 8 rfl rfl)
theorem dX1_aimBy_33 : decode cX1_aimBy 33 = .ok (.iaload, 1) := dk_46 (dk_at dksX1_aimBy_1 9 rfl rfl)
theorem dX1_aimBy_34 : decode cX1_aimBy 34 = .ok (.if_icmp .ne 26, 3) := dk_160 0 26 (dk_at dksX1_aimBy_1 10 rfl rfl)
theorem dX1_aimBy_37 : decode cX1_aimBy 37 = .ok (.aload_n 0, 1) := dk_42 (dk_at dksX1_aimBy_1 13 rfl rfl)
theorem dX1_aimBy_38 : decode cX1_aimBy 38 = .ok (.getfield 31, 3) := dk_180 0 31 (dk_at dksX1_aimBy_1 14 rfl rfl)
theorem dX1_aimBy_41 : decode cX1_aimBy 41 = .ok (.iconst 2, 1) := dk_5 (dk_at dksX1_aimBy_1 17 rfl rfl)
theorem dX1_aimBy_42 : decode cX1_aimBy 42 = .ok (.iload_n 2, 1) := dk_28 (dk_at dksX1_aimBy_1 18 rfl rfl)
theorem dX1_aimBy_43 : decode cX1_aimBy 43 = .ok (.imul, 1) := dk_104 (dk_at dksX1_aimBy_1 19 rfl rfl)
theorem dX1_aimBy_44 : decode cX1_aimBy 44 = .ok (.iconst 1, 1) := dk_4 (dk_at dksX1_aimBy_1 20 rfl rfl)
theorem dX1_aimBy_45 : decode cX1_aimBy 45 = .ok (.iadd, 1) := dk_96 (dk_at dksX1_aimBy_1 21 rfl rfl)
theorem dX1_aimBy_46 : decode cX1_aimBy 46 = .ok (.iaload, 1) := dk_46 (dk_at dksX1_aimBy_1 22 rfl rfl)
theorem dX1_aimBy_47 : decode cX1_aimBy 47 = .ok (.aload_n 0, 1) := dk_42 (dk_at dksX1_aimBy_1 23 rfl rfl)
theorem dX1_aimBy_48 : decode cX1_aimBy 48 = .ok (.getfield 7, 3) := dk_180 0 7 (dk_at dksX1_aimBy_2 0 rfl rfl)
theorem dX1_aimBy_51 : decode cX1_aimBy 51 = .ok (.iload_n 1, 1) := dk_27 (dk_at dksX1_aimBy_2 3 rfl rfl)
theorem dX1_aimBy_52 : decode cX1_aimBy 52 = .ok (.iaload, 1) := dk_46 (dk_at dksX1_aimBy_2 4 rfl rfl)
theorem dX1_aimBy_53 : decode cX1_aimBy 53 = .ok (.if_icmp .ne 7, 3) := dk_160 0 7 (dk_at dksX1_aimBy_2 5 rfl rfl)
theorem dX1_aimBy_56 : decode cX1_aimBy 56 = .ok (.iconst 1, 1) := dk_4 (dk_at dksX1_aimBy_2 8 rfl rfl)
theorem dX1_aimBy_57 : decode cX1_aimBy 57 = .ok (.goto 4, 3) := dk_167 0 4 (dk_at dksX1_aimBy_2 9 rfl rfl)
theorem dX1_aimBy_60 : decode cX1_aimBy 60 = .ok (.iconst 0, 1) := dk_3 (dk_at dksX1_aimBy_2 12 rfl rfl)
theorem dX1_aimBy_61 : decode cX1_aimBy 61 = .ok (.istore_n 3, 1) := dk_62 (dk_at dksX1_aimBy_2 13 rfl rfl)
theorem dX1_aimBy_62 : decode cX1_aimBy 62 = .ok (.iload_n 3, 1) := dk_29 (dk_at dksX1_aimBy_2 14 rfl rfl)
theorem dX1_aimBy_63 : decode cX1_aimBy 63 = .ok (.ifCond .eq 31, 3) := dk_153 0 31 (dk_at dksX1_aimBy_2 15 rfl rfl)
theorem dX1_aimBy_66 : decode cX1_aimBy 66 = .ok (.aload_n 0, 1) := dk_42 (dk_at dksX1_aimBy_2 18 rfl rfl)
theorem dX1_aimBy_67 : decode cX1_aimBy 67 = .ok (.getfield 34, 3) := dk_180 0 34 (dk_at dksX1_aimBy_2 19 rfl rfl)
theorem dX1_aimBy_70 : decode cX1_aimBy 70 = .ok (.iconst 2, 1) := dk_5 (dk_at dksX1_aimBy_2 22 rfl rfl)
theorem dX1_aimBy_71 : decode cX1_aimBy 71 = .ok (.iload_n 2, 1) := dk_28 (dk_at dksX1_aimBy_2 23 rfl rfl)
theorem dX1_aimBy_72 : decode cX1_aimBy 72 = .ok (.imul, 1) := dk_104 (dk_at dksX1_aimBy_3 0 rfl rfl)
theorem dX1_aimBy_73 : decode cX1_aimBy 73 = .ok (.iconst 1, 1) := dk_4 (dk_at dksX1_aimBy_3 1 rfl rfl)
theorem dX1_aimBy_74 : decode cX1_aimBy 74 = .ok (.iadd, 1) := dk_96 (dk_at dksX1_aimBy_3 2 rfl rfl)
theorem dX1_aimBy_75 : decode cX1_aimBy 75 = .ok (.iaload, 1) := dk_46 (dk_at dksX1_aimBy_3 3 rfl rfl)
theorem dX1_aimBy_76 : decode cX1_aimBy 76 = .ok (.aload_n 0, 1) := dk_42 (dk_at dksX1_aimBy_3 4 rfl rfl)
theorem dX1_aimBy_77 : decode cX1_aimBy 77 = .ok (.getfield 34, 3) := dk_180 0 34 (dk_at dksX1_aimBy_3 5 rfl rfl)
theorem dX1_aimBy_80 : decode cX1_aimBy 80 = .ok (.iconst 2, 1) := dk_5 (dk_at dksX1_aimBy_3 8 rfl rfl)
theorem dX1_aimBy_81 : decode cX1_aimBy 81 = .ok (.iload_n 1, 1) := dk_27 (dk_at dksX1_aimBy_3 9 rfl rfl)
theorem dX1_aimBy_82 : decode cX1_aimBy 82 = .ok (.imul, 1) := dk_104 (dk_at dksX1_aimBy_3 10 rfl rfl)
theorem dX1_aimBy_83 : decode cX1_aimBy 83 = .ok (.iaload, 1) := dk_46 (dk_at dksX1_aimBy_3 11 rfl rfl)
theorem dX1_aimBy_84 : decode cX1_aimBy 84 = .ok (.if_icmp .ne 10, 3) := dk_160 0 10 (dk_at dksX1_aimBy_3 12 rfl rfl)
theorem dX1_aimBy_87 : decode cX1_aimBy 87 = .ok (.aload_n 0, 1) := dk_42 (dk_at dksX1_aimBy_3 15 rfl rfl)
theorem dX1_aimBy_88 : decode cX1_aimBy 88 = .ok (.getfield 70, 3) := dk_180 0 70 (dk_at dksX1_aimBy_3 16 rfl rfl)
theorem dX1_aimBy_91 : decode cX1_aimBy 91 = .ok (.iload_n 2, 1) := dk_28 (dk_at dksX1_aimBy_3 19 rfl rfl)
theorem dX1_aimBy_92 : decode cX1_aimBy 92 = .ok (.iaload, 1) := dk_46 (dk_at dksX1_aimBy_3 20 rfl rfl)
theorem dX1_aimBy_93 : decode cX1_aimBy 93 = .ok (.ireturn, 1) := dk_172 (dk_at dksX1_aimBy_3 21 rfl rfl)
theorem dX1_aimBy_94 : decode cX1_aimBy 94 = .ok (.iinc 2 1, 3) := dk_132 2 1 (dk_at dksX1_aimBy_4 0 rfl rfl)
theorem dX1_aimBy_97 : decode cX1_aimBy 97 = .ok (.goto (-95), 3) := dk_167 255 161 (dk_at dksX1_aimBy_4 3 rfl rfl)
theorem dX1_aimBy_100 : decode cX1_aimBy 100 = .ok (.bipush (-9), 2) := dk_16 247 (dk_at dksX1_aimBy_4 6 rfl rfl)
theorem dX1_aimBy_102 : decode cX1_aimBy 102 = .ok (.ireturn, 1) := dk_172 (dk_at dksX1_aimBy_4 8 rfl rfl)
abbrev cX1_lays : ByteArray := prog_14_method_36_code
def yX1_lays : MethodName := ⟨RX1, "lays", "(IZ)V"⟩
def dkwX1_lays_4 : List UInt8 := [42, 180, 0, 162, 42, 180, 0, 165, 79, 177]
abbrev dktX1_lays_4 : List UInt8 := dkwX1_lays_4 ++ []
def dkwX1_lays_3 : List UInt8 := [42, 180, 0, 80, 29, 46, 62, 167, 255, 202, 42, 89, 180, 0, 162, 4, 96, 181, 0, 162, 42, 180, 0, 86]
abbrev dktX1_lays_3 : List UInt8 := dkwX1_lays_3 ++ dktX1_lays_4
def dkwX1_lays_2 : List UInt8 := [180, 0, 162, 79, 42, 180, 0, 92, 42, 180, 0, 165, 29, 79, 42, 89, 180, 0, 165, 4, 96, 181, 0, 165]
abbrev dktX1_lays_2 : List UInt8 := dkwX1_lays_2 ++ dktX1_lays_3
def dkwX1_lays_1 : List UInt8 := [62, 29, 16, 247, 159, 0, 54, 42, 180, 0, 95, 29, 46, 16, 247, 160, 0, 43, 42, 180, 0, 95, 29, 42]
abbrev dktX1_lays_1 : List UInt8 := dkwX1_lays_1 ++ dktX1_lays_2
def dkwX1_lays_0 : List UInt8 := [42, 180, 0, 86, 42, 180, 0, 162, 42, 180, 0, 165, 79, 42, 180, 0, 89, 42, 180, 0, 162, 28, 84, 27]
abbrev dktX1_lays_0 : List UInt8 := dkwX1_lays_0 ++ dktX1_lays_1
theorem dksX1_lays_0 : cX1_lays.data.toList.drop 0 = dktX1_lays_0 := by decide +kernel
theorem dksX1_lays_1 : cX1_lays.data.toList.drop 24 = dktX1_lays_1 := dk_seg dksX1_lays_0 24 rfl rfl
theorem dksX1_lays_2 : cX1_lays.data.toList.drop 48 = dktX1_lays_2 := dk_seg dksX1_lays_1 24 rfl rfl
theorem dksX1_lays_3 : cX1_lays.data.toList.drop 72 = dktX1_lays_3 := dk_seg dksX1_lays_2 24 rfl rfl
theorem dksX1_lays_4 : cX1_lays.data.toList.drop 96 = dktX1_lays_4 := dk_seg dksX1_lays_3 24 rfl rfl
theorem dX1_lays_0 : decode cX1_lays 0 = .ok (.aload_n 0, 1) := dk_42 (dk_at dksX1_lays_0 0 rfl rfl)
theorem dX1_lays_1 : decode cX1_lays 1 = .ok (.getfield 86, 3) := dk_180 0 86 (dk_at dksX1_lays_0 1 rfl rfl)
theorem dX1_lays_4 : decode cX1_lays 4 = .ok (.aload_n 0, 1) := dk_42 (dk_at dksX1_lays_0 4 rfl rfl)
theorem dX1_lays_5 : decode cX1_lays 5 = .ok (.getfield 162, 3) := dk_180 0 162 (dk_at dksX1_lays_0 5 rfl rfl)
theorem dX1_lays_8 : decode cX1_lays 8 = .ok (.aload_n 0, 1) := dk_42 (dk_at dksX1_lays_0 8 rfl rfl)
theorem dX1_lays_9 : decode cX1_lays 9 = .ok (.getfield 165, 3) := dk_180 0 165 (dk_at dksX1_lays_0 9 rfl rfl)
theorem dX1_lays_12 : decode cX1_lays 12 = .ok (.iastore, 1) := dk_79 (dk_at dksX1_lays_0 12 rfl rfl)
theorem dX1_lays_13 : decode cX1_lays 13 = .ok (.aload_n 0, 1) := dk_42 (dk_at dksX1_lays_0 13 rfl rfl)
theorem dX1_lays_14 : decode cX1_lays 14 = .ok (.getfield 89, 3) := dk_180 0 89 (dk_at dksX1_lays_0 14 rfl rfl)
theorem dX1_lays_17 : decode cX1_lays 17 = .ok (.aload_n 0, 1) := dk_42 (dk_at dksX1_lays_0 17 rfl rfl)
theorem dX1_lays_18 : decode cX1_lays 18 = .ok (.getfield 162, 3) := dk_180 0 162 (dk_at dksX1_lays_0 18 rfl rfl)
theorem dX1_lays_21 : decode cX1_lays 21 = .ok (.iload_n 2, 1) := dk_28 (dk_at dksX1_lays_0 21 rfl rfl)
theorem dX1_lays_22 : decode cX1_lays 22 = .ok (.bastore, 1) := dk_84 (dk_at dksX1_lays_0 22 rfl rfl)
theorem dX1_lays_23 : decode cX1_lays 23 = .ok (.iload_n 1, 1) := dk_27 (dk_at dksX1_lays_0 23 rfl rfl)
theorem dX1_lays_24 : decode cX1_lays 24 = .ok (.istore_n 3, 1) := dk_62 (dk_at dksX1_lays_1 0 rfl rfl)
theorem dX1_lays_25 : decode cX1_lays 25 = .ok (.iload_n 3, 1) := dk_29 (dk_at dksX1_lays_1 1 rfl rfl)
theorem dX1_lays_26 : decode cX1_lays 26 = .ok (.bipush (-9), 2) := dk_16 247 (dk_at dksX1_lays_1 2 rfl rfl)
theorem dX1_lays_28 : decode cX1_lays 28 = .ok (.if_icmp .eq 54, 3) := dk_159 0 54 (dk_at dksX1_lays_1 4 rfl rfl)
theorem dX1_lays_31 : decode cX1_lays 31 = .ok (.aload_n 0, 1) := dk_42 (dk_at dksX1_lays_1 7 rfl rfl)
theorem dX1_lays_32 : decode cX1_lays 32 = .ok (.getfield 95, 3) := dk_180 0 95 (dk_at dksX1_lays_1 8 rfl rfl)
theorem dX1_lays_35 : decode cX1_lays 35 = .ok (.iload_n 3, 1) := dk_29 (dk_at dksX1_lays_1 11 rfl rfl)
theorem dX1_lays_36 : decode cX1_lays 36 = .ok (.iaload, 1) := dk_46 (dk_at dksX1_lays_1 12 rfl rfl)
theorem dX1_lays_37 : decode cX1_lays 37 = .ok (.bipush (-9), 2) := dk_16 247 (dk_at dksX1_lays_1 13 rfl rfl)
theorem dX1_lays_39 : decode cX1_lays 39 = .ok (.if_icmp .ne 43, 3) := dk_160 0 43 (dk_at dksX1_lays_1 15 rfl rfl)
theorem dX1_lays_42 : decode cX1_lays 42 = .ok (.aload_n 0, 1) := dk_42 (dk_at dksX1_lays_1 18 rfl rfl)
theorem dX1_lays_43 : decode cX1_lays 43 = .ok (.getfield 95, 3) := dk_180 0 95 (dk_at dksX1_lays_1 19 rfl rfl)
theorem dX1_lays_46 : decode cX1_lays 46 = .ok (.iload_n 3, 1) := dk_29 (dk_at dksX1_lays_1 22 rfl rfl)
theorem dX1_lays_47 : decode cX1_lays 47 = .ok (.aload_n 0, 1) := dk_42 (dk_at dksX1_lays_1 23 rfl rfl)
theorem dX1_lays_48 : decode cX1_lays 48 = .ok (.getfield 162, 3) := dk_180 0 162 (dk_at dksX1_lays_2 0 rfl rfl)
theorem dX1_lays_51 : decode cX1_lays 51 = .ok (.iastore, 1) := dk_79 (dk_at dksX1_lays_2 3 rfl rfl)
theorem dX1_lays_52 : decode cX1_lays 52 = .ok (.aload_n 0, 1) := dk_42 (dk_at dksX1_lays_2 4 rfl rfl)
theorem dX1_lays_53 : decode cX1_lays 53 = .ok (.getfield 92, 3) := dk_180 0 92 (dk_at dksX1_lays_2 5 rfl rfl)
theorem dX1_lays_56 : decode cX1_lays 56 = .ok (.aload_n 0, 1) := dk_42 (dk_at dksX1_lays_2 8 rfl rfl)
theorem dX1_lays_57 : decode cX1_lays 57 = .ok (.getfield 165, 3) := dk_180 0 165 (dk_at dksX1_lays_2 9 rfl rfl)
theorem dX1_lays_60 : decode cX1_lays 60 = .ok (.iload_n 3, 1) := dk_29 (dk_at dksX1_lays_2 12 rfl rfl)
theorem dX1_lays_61 : decode cX1_lays 61 = .ok (.iastore, 1) := dk_79 (dk_at dksX1_lays_2 13 rfl rfl)
theorem dX1_lays_62 : decode cX1_lays 62 = .ok (.aload_n 0, 1) := dk_42 (dk_at dksX1_lays_2 14 rfl rfl)
theorem dX1_lays_63 : decode cX1_lays 63 = .ok (.dup, 1) := dk_89 (dk_at dksX1_lays_2 15 rfl rfl)
theorem dX1_lays_64 : decode cX1_lays 64 = .ok (.getfield 165, 3) := dk_180 0 165 (dk_at dksX1_lays_2 16 rfl rfl)
theorem dX1_lays_67 : decode cX1_lays 67 = .ok (.iconst 1, 1) := dk_4 (dk_at dksX1_lays_2 19 rfl rfl)
theorem dX1_lays_68 : decode cX1_lays 68 = .ok (.iadd, 1) := dk_96 (dk_at dksX1_lays_2 20 rfl rfl)
theorem dX1_lays_69 : decode cX1_lays 69 = .ok (.putfield 165, 3) := dk_181 0 165 (dk_at dksX1_lays_2 21 rfl rfl)
theorem dX1_lays_72 : decode cX1_lays 72 = .ok (.aload_n 0, 1) := dk_42 (dk_at dksX1_lays_3 0 rfl rfl)
theorem dX1_lays_73 : decode cX1_lays 73 = .ok (.getfield 80, 3) := dk_180 0 80 (dk_at dksX1_lays_3 1 rfl rfl)
theorem dX1_lays_76 : decode cX1_lays 76 = .ok (.iload_n 3, 1) := dk_29 (dk_at dksX1_lays_3 4 rfl rfl)
theorem dX1_lays_77 : decode cX1_lays 77 = .ok (.iaload, 1) := dk_46 (dk_at dksX1_lays_3 5 rfl rfl)
theorem dX1_lays_78 : decode cX1_lays 78 = .ok (.istore_n 3, 1) := dk_62 (dk_at dksX1_lays_3 6 rfl rfl)
theorem dX1_lays_79 : decode cX1_lays 79 = .ok (.goto (-54), 3) := dk_167 255 202 (dk_at dksX1_lays_3 7 rfl rfl)
theorem dX1_lays_82 : decode cX1_lays 82 = .ok (.aload_n 0, 1) := dk_42 (dk_at dksX1_lays_3 10 rfl rfl)
theorem dX1_lays_83 : decode cX1_lays 83 = .ok (.dup, 1) := dk_89 (dk_at dksX1_lays_3 11 rfl rfl)
theorem dX1_lays_84 : decode cX1_lays 84 = .ok (.getfield 162, 3) := dk_180 0 162 (dk_at dksX1_lays_3 12 rfl rfl)
theorem dX1_lays_87 : decode cX1_lays 87 = .ok (.iconst 1, 1) := dk_4 (dk_at dksX1_lays_3 15 rfl rfl)
theorem dX1_lays_88 : decode cX1_lays 88 = .ok (.iadd, 1) := dk_96 (dk_at dksX1_lays_3 16 rfl rfl)
theorem dX1_lays_89 : decode cX1_lays 89 = .ok (.putfield 162, 3) := dk_181 0 162 (dk_at dksX1_lays_3 17 rfl rfl)
theorem dX1_lays_92 : decode cX1_lays 92 = .ok (.aload_n 0, 1) := dk_42 (dk_at dksX1_lays_3 20 rfl rfl)
theorem dX1_lays_93 : decode cX1_lays 93 = .ok (.getfield 86, 3) := dk_180 0 86 (dk_at dksX1_lays_3 21 rfl rfl)
theorem dX1_lays_96 : decode cX1_lays 96 = .ok (.aload_n 0, 1) := dk_42 (dk_at dksX1_lays_4 0 rfl rfl)
theorem dX1_lays_97 : decode cX1_lays 97 = .ok (.getfield 162, 3) := dk_180 0 162 (dk_at dksX1_lays_4 1 rfl rfl)
theorem dX1_lays_100 : decode cX1_lays 100 = .ok (.aload_n 0, 1) := dk_42 (dk_at dksX1_lays_4 4 rfl rfl)
theorem dX1_lays_101 : decode cX1_lays 101 = .ok (.getfield 165, 3) := dk_180 0 165 (dk_at dksX1_lays_4 5 rfl rfl)
theorem dX1_lays_104 : decode cX1_lays 104 = .ok (.iastore, 1) := dk_79 (dk_at dksX1_lays_4 8 rfl rfl)
theorem dX1_lays_105 : decode cX1_lays 105 = .ok (.return_, 1) := dk_177 (dk_at dksX1_lays_4 9 rfl rfl)
abbrev cX1_wordsIn : ByteArray := prog_14_method_39_code
def yX1_wordsIn : MethodName := ⟨RX1, "wordsIn", "(I)I"⟩
def dkwX1_wordsIn_2 : List UInt8 := [167, 255, 222, 29, 172]
abbrev dktX1_wordsIn_2 : List UInt8 := dkwX1_wordsIn_2 ++ []
def dkwX1_wordsIn_1 : List UInt8 := [42, 180, 0, 28, 42, 180, 0, 64, 16, 24, 28, 104, 21, 4, 96, 46, 46, 96, 62, 132, 4, 1]
abbrev dktX1_wordsIn_1 : List UInt8 := dkwX1_wordsIn_1 ++ dktX1_wordsIn_2
def dkwX1_wordsIn_0 : List UInt8 := [42, 180, 0, 67, 27, 46, 61, 3, 62, 3, 54, 4, 21, 4, 42, 180, 0, 61, 28, 46, 162, 0, 29, 29]
abbrev dktX1_wordsIn_0 : List UInt8 := dkwX1_wordsIn_0 ++ dktX1_wordsIn_1
theorem dksX1_wordsIn_0 : cX1_wordsIn.data.toList.drop 0 = dktX1_wordsIn_0 := by decide +kernel
theorem dksX1_wordsIn_1 : cX1_wordsIn.data.toList.drop 24 = dktX1_wordsIn_1 := dk_seg dksX1_wordsIn_0 24 rfl rfl
theorem dksX1_wordsIn_2 : cX1_wordsIn.data.toList.drop 46 = dktX1_wordsIn_2 := dk_seg dksX1_wordsIn_1 22 rfl rfl
theorem dX1_wordsIn_0 : decode cX1_wordsIn 0 = .ok (.aload_n 0, 1) := dk_42 (dk_at dksX1_wordsIn_0 0 rfl rfl)
theorem dX1_wordsIn_1 : decode cX1_wordsIn 1 = .ok (.getfield 67, 3) := dk_180 0 67 (dk_at dksX1_wordsIn_0 1 rfl rfl)
theorem dX1_wordsIn_4 : decode cX1_wordsIn 4 = .ok (.iload_n 1, 1) := dk_27 (dk_at dksX1_wordsIn_0 4 rfl rfl)
theorem dX1_wordsIn_5 : decode cX1_wordsIn 5 = .ok (.iaload, 1) := dk_46 (dk_at dksX1_wordsIn_0 5 rfl rfl)
theorem dX1_wordsIn_6 : decode cX1_wordsIn 6 = .ok (.istore_n 2, 1) := dk_61 (dk_at dksX1_wordsIn_0 6 rfl rfl)
theorem dX1_wordsIn_7 : decode cX1_wordsIn 7 = .ok (.iconst 0, 1) := dk_3 (dk_at dksX1_wordsIn_0 7 rfl rfl)
theorem dX1_wordsIn_8 : decode cX1_wordsIn 8 = .ok (.istore_n 3, 1) := dk_62 (dk_at dksX1_wordsIn_0 8 rfl rfl)
theorem dX1_wordsIn_9 : decode cX1_wordsIn 9 = .ok (.iconst 0, 1) := dk_3 (dk_at dksX1_wordsIn_0 9 rfl rfl)
theorem dX1_wordsIn_10 : decode cX1_wordsIn 10 = .ok (.istore 4, 2) := dk_54 4 (dk_at dksX1_wordsIn_0 10 rfl rfl)
theorem dX1_wordsIn_12 : decode cX1_wordsIn 12 = .ok (.iload 4, 2) := dk_21 4 (dk_at dksX1_wordsIn_0 12 rfl rfl)
theorem dX1_wordsIn_14 : decode cX1_wordsIn 14 = .ok (.aload_n 0, 1) := dk_42 (dk_at dksX1_wordsIn_0 14 rfl rfl)
theorem dX1_wordsIn_15 : decode cX1_wordsIn 15 = .ok (.getfield 61, 3) := dk_180 0 61 (dk_at dksX1_wordsIn_0 15 rfl rfl)
theorem dX1_wordsIn_18 : decode cX1_wordsIn 18 = .ok (.iload_n 2, 1) := dk_28 (dk_at dksX1_wordsIn_0 18 rfl rfl)
theorem dX1_wordsIn_19 : decode cX1_wordsIn 19 = .ok (.iaload, 1) := dk_46 (dk_at dksX1_wordsIn_0 19 rfl rfl)
theorem dX1_wordsIn_20 : decode cX1_wordsIn 20 = .ok (.if_icmp .ge 29, 3) := dk_162 0 29 (dk_at dksX1_wordsIn_0 20 rfl rfl)
theorem dX1_wordsIn_23 : decode cX1_wordsIn 23 = .ok (.iload_n 3, 1) := dk_29 (dk_at dksX1_wordsIn_0 23 rfl rfl)
theorem dX1_wordsIn_24 : decode cX1_wordsIn 24 = .ok (.aload_n 0, 1) := dk_42 (dk_at dksX1_wordsIn_1 0 rfl rfl)
theorem dX1_wordsIn_25 : decode cX1_wordsIn 25 = .ok (.getfield 28, 3) := dk_180 0 28 (dk_at dksX1_wordsIn_1 1 rfl rfl)
theorem dX1_wordsIn_28 : decode cX1_wordsIn 28 = .ok (.aload_n 0, 1) := dk_42 (dk_at dksX1_wordsIn_1 4 rfl rfl)
theorem dX1_wordsIn_29 : decode cX1_wordsIn 29 = .ok (.getfield 64, 3) := dk_180 0 64 (dk_at dksX1_wordsIn_1 5 rfl rfl)
theorem dX1_wordsIn_32 : decode cX1_wordsIn 32 = .ok (.bipush 24, 2) := dk_16 24 (dk_at dksX1_wordsIn_1 8 rfl rfl)
theorem dX1_wordsIn_34 : decode cX1_wordsIn 34 = .ok (.iload_n 2, 1) := dk_28 (dk_at dksX1_wordsIn_1 10 rfl rfl)
theorem dX1_wordsIn_35 : decode cX1_wordsIn 35 = .ok (.imul, 1) := dk_104 (dk_at dksX1_wordsIn_1 11 rfl rfl)
theorem dX1_wordsIn_36 : decode cX1_wordsIn 36 = .ok (.iload 4, 2) := dk_21 4 (dk_at dksX1_wordsIn_1 12 rfl rfl)
theorem dX1_wordsIn_38 : decode cX1_wordsIn 38 = .ok (.iadd, 1) := dk_96 (dk_at dksX1_wordsIn_1 14 rfl rfl)
theorem dX1_wordsIn_39 : decode cX1_wordsIn 39 = .ok (.iaload, 1) := dk_46 (dk_at dksX1_wordsIn_1 15 rfl rfl)
theorem dX1_wordsIn_40 : decode cX1_wordsIn 40 = .ok (.iaload, 1) := dk_46 (dk_at dksX1_wordsIn_1 16 rfl rfl)
theorem dX1_wordsIn_41 : decode cX1_wordsIn 41 = .ok (.iadd, 1) := dk_96 (dk_at dksX1_wordsIn_1 17 rfl rfl)
theorem dX1_wordsIn_42 : decode cX1_wordsIn 42 = .ok (.istore_n 3, 1) := dk_62 (dk_at dksX1_wordsIn_1 18 rfl rfl)
theorem dX1_wordsIn_43 : decode cX1_wordsIn 43 = .ok (.iinc 4 1, 3) := dk_132 4 1 (dk_at dksX1_wordsIn_1 19 rfl rfl)
theorem dX1_wordsIn_46 : decode cX1_wordsIn 46 = .ok (.goto (-34), 3) := dk_167 255 222 (dk_at dksX1_wordsIn_2 0 rfl rfl)
theorem dX1_wordsIn_49 : decode cX1_wordsIn 49 = .ok (.iload_n 3, 1) := dk_29 (dk_at dksX1_wordsIn_2 3 rfl rfl)
theorem dX1_wordsIn_50 : decode cX1_wordsIn 50 = .ok (.ireturn, 1) := dk_172 (dk_at dksX1_wordsIn_2 4 rfl rfl)
abbrev cX1_manyIn : ByteArray := prog_14_method_40_code
def yX1_manyIn : MethodName := ⟨RX1, "manyIn", "(IZ)I"⟩
def dkwX1_manyIn_3 : List UInt8 := [160, 0, 7, 4, 167, 0, 4, 3, 96, 62, 132, 4, 1, 167, 255, 178, 29, 172]
abbrev dktX1_manyIn_3 : List UInt8 := dkwX1_manyIn_3 ++ []
def dkwX1_manyIn_2 : List UInt8 := [159, 0, 7, 4, 167, 0, 4, 3, 54, 5, 29, 21, 5, 153, 0, 18, 42, 180, 0, 70, 21, 4, 46, 27]
abbrev dktX1_manyIn_2 : List UInt8 := dkwX1_manyIn_2 ++ dktX1_manyIn_3
def dkwX1_manyIn_1 : List UInt8 := [46, 5, 160, 0, 7, 4, 167, 0, 24, 3, 167, 0, 20, 42, 180, 0, 58, 21, 4, 46, 16, 247]
abbrev dktX1_manyIn_1 : List UInt8 := dkwX1_manyIn_1 ++ dktX1_manyIn_2
def dkwX1_manyIn_0 : List UInt8 := [3, 62, 3, 54, 4, 21, 4, 42, 180, 0, 98, 162, 0, 75, 28, 153, 0, 22, 42, 180, 0, 13, 21, 4]
abbrev dktX1_manyIn_0 : List UInt8 := dkwX1_manyIn_0 ++ dktX1_manyIn_1
theorem dksX1_manyIn_0 : cX1_manyIn.data.toList.drop 0 = dktX1_manyIn_0 := by decide +kernel
theorem dksX1_manyIn_1 : cX1_manyIn.data.toList.drop 24 = dktX1_manyIn_1 := dk_seg dksX1_manyIn_0 24 rfl rfl
theorem dksX1_manyIn_2 : cX1_manyIn.data.toList.drop 46 = dktX1_manyIn_2 := dk_seg dksX1_manyIn_1 22 rfl rfl
theorem dksX1_manyIn_3 : cX1_manyIn.data.toList.drop 70 = dktX1_manyIn_3 := dk_seg dksX1_manyIn_2 24 rfl rfl
theorem dX1_manyIn_0 : decode cX1_manyIn 0 = .ok (.iconst 0, 1) := dk_3 (dk_at dksX1_manyIn_0 0 rfl rfl)
theorem dX1_manyIn_1 : decode cX1_manyIn 1 = .ok (.istore_n 3, 1) := dk_62 (dk_at dksX1_manyIn_0 1 rfl rfl)
theorem dX1_manyIn_2 : decode cX1_manyIn 2 = .ok (.iconst 0, 1) := dk_3 (dk_at dksX1_manyIn_0 2 rfl rfl)
theorem dX1_manyIn_3 : decode cX1_manyIn 3 = .ok (.istore 4, 2) := dk_54 4 (dk_at dksX1_manyIn_0 3 rfl rfl)
theorem dX1_manyIn_5 : decode cX1_manyIn 5 = .ok (.iload 4, 2) := dk_21 4 (dk_at dksX1_manyIn_0 5 rfl rfl)
theorem dX1_manyIn_7 : decode cX1_manyIn 7 = .ok (.aload_n 0, 1) := dk_42 (dk_at dksX1_manyIn_0 7 rfl rfl)
theorem dX1_manyIn_8 : decode cX1_manyIn 8 = .ok (.getfield 98, 3) := dk_180 0 98 (dk_at dksX1_manyIn_0 8 rfl rfl)
theorem dX1_manyIn_11 : decode cX1_manyIn 11 = .ok (.if_icmp .ge 75, 3) := dk_162 0 75 (dk_at dksX1_manyIn_0 11 rfl rfl)
theorem dX1_manyIn_14 : decode cX1_manyIn 14 = .ok (.iload_n 2, 1) := dk_28 (dk_at dksX1_manyIn_0 14 rfl rfl)
theorem dX1_manyIn_15 : decode cX1_manyIn 15 = .ok (.ifCond .eq 22, 3) := dk_153 0 22 (dk_at dksX1_manyIn_0 15 rfl rfl)
theorem dX1_manyIn_18 : decode cX1_manyIn 18 = .ok (.aload_n 0, 1) := dk_42 (dk_at dksX1_manyIn_0 18 rfl rfl)
theorem dX1_manyIn_19 : decode cX1_manyIn 19 = .ok (.getfield 13, 3) := dk_180 0 13 (dk_at dksX1_manyIn_0 19 rfl rfl)
theorem dX1_manyIn_22 : decode cX1_manyIn 22 = .ok (.iload 4, 2) := dk_21 4 (dk_at dksX1_manyIn_0 22 rfl rfl)
theorem dX1_manyIn_24 : decode cX1_manyIn 24 = .ok (.iaload, 1) := dk_46 (dk_at dksX1_manyIn_1 0 rfl rfl)
theorem dX1_manyIn_25 : decode cX1_manyIn 25 = .ok (.iconst 2, 1) := dk_5 (dk_at dksX1_manyIn_1 1 rfl rfl)
theorem dX1_manyIn_26 : decode cX1_manyIn 26 = .ok (.if_icmp .ne 7, 3) := dk_160 0 7 (dk_at dksX1_manyIn_1 2 rfl rfl)
theorem dX1_manyIn_29 : decode cX1_manyIn 29 = .ok (.iconst 1, 1) := dk_4 (dk_at dksX1_manyIn_1 5 rfl rfl)
theorem dX1_manyIn_30 : decode cX1_manyIn 30 = .ok (.goto 24, 3) := dk_167 0 24 (dk_at dksX1_manyIn_1 6 rfl rfl)
theorem dX1_manyIn_33 : decode cX1_manyIn 33 = .ok (.iconst 0, 1) := dk_3 (dk_at dksX1_manyIn_1 9 rfl rfl)
theorem dX1_manyIn_34 : decode cX1_manyIn 34 = .ok (.goto 20, 3) := dk_167 0 20 (dk_at dksX1_manyIn_1 10 rfl rfl)
theorem dX1_manyIn_37 : decode cX1_manyIn 37 = .ok (.aload_n 0, 1) := dk_42 (dk_at dksX1_manyIn_1 13 rfl rfl)
theorem dX1_manyIn_38 : decode cX1_manyIn 38 = .ok (.getfield 58, 3) := dk_180 0 58 (dk_at dksX1_manyIn_1 14 rfl rfl)
theorem dX1_manyIn_41 : decode cX1_manyIn 41 = .ok (.iload 4, 2) := dk_21 4 (dk_at dksX1_manyIn_1 17 rfl rfl)
theorem dX1_manyIn_43 : decode cX1_manyIn 43 = .ok (.iaload, 1) := dk_46 (dk_at dksX1_manyIn_1 19 rfl rfl)
theorem dX1_manyIn_44 : decode cX1_manyIn 44 = .ok (.bipush (-9), 2) := dk_16 247 (dk_at dksX1_manyIn_1 20 rfl rfl)
theorem dX1_manyIn_46 : decode cX1_manyIn 46 = .ok (.if_icmp .eq 7, 3) := dk_159 0 7 (dk_at dksX1_manyIn_2 0 rfl rfl)
theorem dX1_manyIn_49 : decode cX1_manyIn 49 = .ok (.iconst 1, 1) := dk_4 (dk_at dksX1_manyIn_2 3 rfl rfl)
theorem dX1_manyIn_50 : decode cX1_manyIn 50 = .ok (.goto 4, 3) := dk_167 0 4 (dk_at dksX1_manyIn_2 4 rfl rfl)
theorem dX1_manyIn_53 : decode cX1_manyIn 53 = .ok (.iconst 0, 1) := dk_3 (dk_at dksX1_manyIn_2 7 rfl rfl)
theorem dX1_manyIn_54 : decode cX1_manyIn 54 = .ok (.istore 5, 2) := dk_54 5 (dk_at dksX1_manyIn_2 8 rfl rfl)
theorem dX1_manyIn_56 : decode cX1_manyIn 56 = .ok (.iload_n 3, 1) := dk_29 (dk_at dksX1_manyIn_2 10 rfl rfl)
theorem dX1_manyIn_57 : decode cX1_manyIn 57 = .ok (.iload 5, 2) := dk_21 5 (dk_at dksX1_manyIn_2 11 rfl rfl)
theorem dX1_manyIn_59 : decode cX1_manyIn 59 = .ok (.ifCond .eq 18, 3) := dk_153 0 18 (dk_at dksX1_manyIn_2 13 rfl rfl)
theorem dX1_manyIn_62 : decode cX1_manyIn 62 = .ok (.aload_n 0, 1) := dk_42 (dk_at dksX1_manyIn_2 16 rfl rfl)
theorem dX1_manyIn_63 : decode cX1_manyIn 63 = .ok (.getfield 70, 3) := dk_180 0 70 (dk_at dksX1_manyIn_2 17 rfl rfl)
theorem dX1_manyIn_66 : decode cX1_manyIn 66 = .ok (.iload 4, 2) := dk_21 4 (dk_at dksX1_manyIn_2 20 rfl rfl)
theorem dX1_manyIn_68 : decode cX1_manyIn 68 = .ok (.iaload, 1) := dk_46 (dk_at dksX1_manyIn_2 22 rfl rfl)
theorem dX1_manyIn_69 : decode cX1_manyIn 69 = .ok (.iload_n 1, 1) := dk_27 (dk_at dksX1_manyIn_2 23 rfl rfl)
theorem dX1_manyIn_70 : decode cX1_manyIn 70 = .ok (.if_icmp .ne 7, 3) := dk_160 0 7 (dk_at dksX1_manyIn_3 0 rfl rfl)
theorem dX1_manyIn_73 : decode cX1_manyIn 73 = .ok (.iconst 1, 1) := dk_4 (dk_at dksX1_manyIn_3 3 rfl rfl)
theorem dX1_manyIn_74 : decode cX1_manyIn 74 = .ok (.goto 4, 3) := dk_167 0 4 (dk_at dksX1_manyIn_3 4 rfl rfl)
theorem dX1_manyIn_77 : decode cX1_manyIn 77 = .ok (.iconst 0, 1) := dk_3 (dk_at dksX1_manyIn_3 7 rfl rfl)
theorem dX1_manyIn_78 : decode cX1_manyIn 78 = .ok (.iadd, 1) := dk_96 (dk_at dksX1_manyIn_3 8 rfl rfl)
theorem dX1_manyIn_79 : decode cX1_manyIn 79 = .ok (.istore_n 3, 1) := dk_62 (dk_at dksX1_manyIn_3 9 rfl rfl)
theorem dX1_manyIn_80 : decode cX1_manyIn 80 = .ok (.iinc 4 1, 3) := dk_132 4 1 (dk_at dksX1_manyIn_3 10 rfl rfl)
theorem dX1_manyIn_83 : decode cX1_manyIn 83 = .ok (.goto (-78), 3) := dk_167 255 178 (dk_at dksX1_manyIn_3 13 rfl rfl)
theorem dX1_manyIn_86 : decode cX1_manyIn 86 = .ok (.iload_n 3, 1) := dk_29 (dk_at dksX1_manyIn_3 16 rfl rfl)
theorem dX1_manyIn_87 : decode cX1_manyIn 87 = .ok (.ireturn, 1) := dk_172 (dk_at dksX1_manyIn_3 17 rfl rfl)
abbrev cX1_isBroken : ByteArray := prog_14_method_38_code
def yX1_isBroken : MethodName := ⟨RX1, "isBroken", "(I)Z"⟩
def dkwX1_isBroken_1 : List UInt8 := [3, 172]
abbrev dktX1_isBroken_1 : List UInt8 := dkwX1_isBroken_1 ++ []
def dkwX1_isBroken_0 : List UInt8 := [42, 180, 0, 73, 27, 51, 153, 0, 18, 42, 180, 0, 80, 27, 46, 16, 247, 160, 0, 7, 4, 167, 0, 4]
abbrev dktX1_isBroken_0 : List UInt8 := dkwX1_isBroken_0 ++ dktX1_isBroken_1
theorem dksX1_isBroken_0 : cX1_isBroken.data.toList.drop 0 = dktX1_isBroken_0 := by decide +kernel
theorem dksX1_isBroken_1 : cX1_isBroken.data.toList.drop 24 = dktX1_isBroken_1 := dk_seg dksX1_isBroken_0 24 rfl rfl
theorem dX1_isBroken_0 : decode cX1_isBroken 0 = .ok (.aload_n 0, 1) := dk_42 (dk_at dksX1_isBroken_0 0 rfl rfl)
theorem dX1_isBroken_1 : decode cX1_isBroken 1 = .ok (.getfield 73, 3) := dk_180 0 73 (dk_at dksX1_isBroken_0 1 rfl rfl)
theorem dX1_isBroken_4 : decode cX1_isBroken 4 = .ok (.iload_n 1, 1) := dk_27 (dk_at dksX1_isBroken_0 4 rfl rfl)
theorem dX1_isBroken_5 : decode cX1_isBroken 5 = .ok (.baload, 1) := dk_51 (dk_at dksX1_isBroken_0 5 rfl rfl)
theorem dX1_isBroken_6 : decode cX1_isBroken 6 = .ok (.ifCond .eq 18, 3) := dk_153 0 18 (dk_at dksX1_isBroken_0 6 rfl rfl)
theorem dX1_isBroken_9 : decode cX1_isBroken 9 = .ok (.aload_n 0, 1) := dk_42 (dk_at dksX1_isBroken_0 9 rfl rfl)
theorem dX1_isBroken_10 : decode cX1_isBroken 10 = .ok (.getfield 80, 3) := dk_180 0 80 (dk_at dksX1_isBroken_0 10 rfl rfl)
theorem dX1_isBroken_13 : decode cX1_isBroken 13 = .ok (.iload_n 1, 1) := dk_27 (dk_at dksX1_isBroken_0 13 rfl rfl)
theorem dX1_isBroken_14 : decode cX1_isBroken 14 = .ok (.iaload, 1) := dk_46 (dk_at dksX1_isBroken_0 14 rfl rfl)
theorem dX1_isBroken_15 : decode cX1_isBroken 15 = .ok (.bipush (-9), 2) := dk_16 247 (dk_at dksX1_isBroken_0 15 rfl rfl)
theorem dX1_isBroken_17 : decode cX1_isBroken 17 = .ok (.if_icmp .ne 7, 3) := dk_160 0 7 (dk_at dksX1_isBroken_0 17 rfl rfl)
theorem dX1_isBroken_20 : decode cX1_isBroken 20 = .ok (.iconst 1, 1) := dk_4 (dk_at dksX1_isBroken_0 20 rfl rfl)
theorem dX1_isBroken_21 : decode cX1_isBroken 21 = .ok (.goto 4, 3) := dk_167 0 4 (dk_at dksX1_isBroken_0 21 rfl rfl)
theorem dX1_isBroken_24 : decode cX1_isBroken 24 = .ok (.iconst 0, 1) := dk_3 (dk_at dksX1_isBroken_1 0 rfl rfl)
theorem dX1_isBroken_25 : decode cX1_isBroken 25 = .ok (.ireturn, 1) := dk_172 (dk_at dksX1_isBroken_1 1 rfl rfl)
abbrev cX1_text : ByteArray := prog_14_method_43_code
def yX1_text : MethodName := ⟨RX1, "text", "(II)I"⟩
def dkwX1_text_2 : List UInt8 := [28, 96, 46, 167, 0, 5, 16, 247, 172]
abbrev dktX1_text_2 : List UInt8 := dkwX1_text_2 ++ []
def dkwX1_text_1 : List UInt8 := [180, 0, 67, 27, 46, 62, 28, 42, 180, 0, 61, 29, 46, 162, 0, 17, 42, 180, 0, 64, 16, 24, 29, 104]
abbrev dktX1_text_1 : List UInt8 := dkwX1_text_1 ++ dktX1_text_2
def dkwX1_text_0 : List UInt8 := [42, 27, 182, 0, 181, 154, 0, 5, 2, 172, 28, 3, 16, 23, 184, 0, 102, 154, 0, 6, 16, 254, 172, 42]
abbrev dktX1_text_0 : List UInt8 := dkwX1_text_0 ++ dktX1_text_1
theorem dksX1_text_0 : cX1_text.data.toList.drop 0 = dktX1_text_0 := by decide +kernel
theorem dksX1_text_1 : cX1_text.data.toList.drop 24 = dktX1_text_1 := dk_seg dksX1_text_0 24 rfl rfl
theorem dksX1_text_2 : cX1_text.data.toList.drop 48 = dktX1_text_2 := dk_seg dksX1_text_1 24 rfl rfl
theorem dX1_text_0 : decode cX1_text 0 = .ok (.aload_n 0, 1) := dk_42 (dk_at dksX1_text_0 0 rfl rfl)
theorem dX1_text_1 : decode cX1_text 1 = .ok (.iload_n 1, 1) := dk_27 (dk_at dksX1_text_0 1 rfl rfl)
theorem dX1_text_2 : decode cX1_text 2 = .ok (.invokevirtual 181, 3) := dk_182 0 181 (dk_at dksX1_text_0 2 rfl rfl)
theorem dX1_text_5 : decode cX1_text 5 = .ok (.ifCond .ne 5, 3) := dk_154 0 5 (dk_at dksX1_text_0 5 rfl rfl)
theorem dX1_text_8 : decode cX1_text 8 = .ok (.iconst (-1), 1) := dk_2 (dk_at dksX1_text_0 8 rfl rfl)
theorem dX1_text_9 : decode cX1_text 9 = .ok (.ireturn, 1) := dk_172 (dk_at dksX1_text_0 9 rfl rfl)
theorem dX1_text_10 : decode cX1_text 10 = .ok (.iload_n 2, 1) := dk_28 (dk_at dksX1_text_0 10 rfl rfl)
theorem dX1_text_11 : decode cX1_text 11 = .ok (.iconst 0, 1) := dk_3 (dk_at dksX1_text_0 11 rfl rfl)
theorem dX1_text_12 : decode cX1_text 12 = .ok (.bipush 23, 2) := dk_16 23 (dk_at dksX1_text_0 12 rfl rfl)
theorem dX1_text_14 : decode cX1_text 14 = .ok (.invokestatic 102, 3) := dk_184 0 102 (dk_at dksX1_text_0 14 rfl rfl)
theorem dX1_text_17 : decode cX1_text 17 = .ok (.ifCond .ne 6, 3) := dk_154 0 6 (dk_at dksX1_text_0 17 rfl rfl)
theorem dX1_text_20 : decode cX1_text 20 = .ok (.bipush (-2), 2) := dk_16 254 (dk_at dksX1_text_0 20 rfl rfl)
theorem dX1_text_22 : decode cX1_text 22 = .ok (.ireturn, 1) := dk_172 (dk_at dksX1_text_0 22 rfl rfl)
theorem dX1_text_23 : decode cX1_text 23 = .ok (.aload_n 0, 1) := dk_42 (dk_at dksX1_text_0 23 rfl rfl)
theorem dX1_text_24 : decode cX1_text 24 = .ok (.getfield 67, 3) := dk_180 0 67 (dk_at dksX1_text_1 0 rfl rfl)
theorem dX1_text_27 : decode cX1_text 27 = .ok (.iload_n 1, 1) := dk_27 (dk_at dksX1_text_1 3 rfl rfl)
theorem dX1_text_28 : decode cX1_text 28 = .ok (.iaload, 1) := dk_46 (dk_at dksX1_text_1 4 rfl rfl)
theorem dX1_text_29 : decode cX1_text 29 = .ok (.istore_n 3, 1) := dk_62 (dk_at dksX1_text_1 5 rfl rfl)
theorem dX1_text_30 : decode cX1_text 30 = .ok (.iload_n 2, 1) := dk_28 (dk_at dksX1_text_1 6 rfl rfl)
theorem dX1_text_31 : decode cX1_text 31 = .ok (.aload_n 0, 1) := dk_42 (dk_at dksX1_text_1 7 rfl rfl)
theorem dX1_text_32 : decode cX1_text 32 = .ok (.getfield 61, 3) := dk_180 0 61 (dk_at dksX1_text_1 8 rfl rfl)
theorem dX1_text_35 : decode cX1_text 35 = .ok (.iload_n 3, 1) := dk_29 (dk_at dksX1_text_1 11 rfl rfl)
theorem dX1_text_36 : decode cX1_text 36 = .ok (.iaload, 1) := dk_46 (dk_at dksX1_text_1 12 rfl rfl)
theorem dX1_text_37 : decode cX1_text 37 = .ok (.if_icmp .ge 17, 3) := dk_162 0 17 (dk_at dksX1_text_1 13 rfl rfl)
theorem dX1_text_40 : decode cX1_text 40 = .ok (.aload_n 0, 1) := dk_42 (dk_at dksX1_text_1 16 rfl rfl)
theorem dX1_text_41 : decode cX1_text 41 = .ok (.getfield 64, 3) := dk_180 0 64 (dk_at dksX1_text_1 17 rfl rfl)
theorem dX1_text_44 : decode cX1_text 44 = .ok (.bipush 24, 2) := dk_16 24 (dk_at dksX1_text_1 20 rfl rfl)
theorem dX1_text_46 : decode cX1_text 46 = .ok (.iload_n 3, 1) := dk_29 (dk_at dksX1_text_1 22 rfl rfl)
theorem dX1_text_47 : decode cX1_text 47 = .ok (.imul, 1) := dk_104 (dk_at dksX1_text_1 23 rfl rfl)
theorem dX1_text_48 : decode cX1_text 48 = .ok (.iload_n 2, 1) := dk_28 (dk_at dksX1_text_2 0 rfl rfl)
theorem dX1_text_49 : decode cX1_text 49 = .ok (.iadd, 1) := dk_96 (dk_at dksX1_text_2 1 rfl rfl)
theorem dX1_text_50 : decode cX1_text 50 = .ok (.iaload, 1) := dk_46 (dk_at dksX1_text_2 2 rfl rfl)
theorem dX1_text_51 : decode cX1_text 51 = .ok (.goto 5, 3) := dk_167 0 5 (dk_at dksX1_text_2 3 rfl rfl)
theorem dX1_text_54 : decode cX1_text 54 = .ok (.bipush (-9), 2) := dk_16 247 (dk_at dksX1_text_2 6 rfl rfl)
theorem dX1_text_56 : decode cX1_text 56 = .ok (.ireturn, 1) := dk_172 (dk_at dksX1_text_2 8 rfl rfl)
abbrev cX1_ofArticle : ByteArray := prog_14_method_47_code
def yX1_ofArticle : MethodName := ⟨RX1, "ofArticle", "(II)I"⟩
def dkwX1_ofArticle_5 : List UInt8 := [27, 4, 96, 46, 4, 100, 46, 182, 0, 191, 153, 0, 7, 4, 167, 0, 4, 3, 172, 16, 254, 172]
abbrev dktX1_ofArticle_5 : List UInt8 := dkwX1_ofArticle_5 ++ []
def dkwX1_ofArticle_4 : List UInt8 := [42, 180, 0, 89, 27, 51, 153, 0, 7, 4, 167, 0, 4, 3, 172, 42, 42, 180, 0, 92, 42, 180, 0, 86]
abbrev dktX1_ofArticle_4 : List UInt8 := dkwX1_ofArticle_4 ++ dktX1_ofArticle_5
def dkwX1_ofArticle_3 : List UInt8 := [27, 46, 100, 172, 42, 27, 3, 182, 0, 197, 172, 42, 27, 4, 182, 0, 197, 172, 42, 27, 182, 0, 200, 172]
abbrev dktX1_ofArticle_3 : List UInt8 := dkwX1_ofArticle_3 ++ dktX1_ofArticle_4
def dkwX1_ofArticle_2 : List UInt8 := [42, 180, 0, 92, 42, 180, 0, 86, 27, 46, 46, 172, 42, 180, 0, 86, 27, 4, 96, 46, 42, 180, 0, 86]
abbrev dktX1_ofArticle_2 : List UInt8 := dkwX1_ofArticle_2 ++ dktX1_ofArticle_3
def dkwX1_ofArticle_1 : List UInt8 := [170, 0, 0, 0, 132, 0, 0, 0, 0, 0, 0, 0, 6, 0, 0, 0, 41, 0, 0, 0, 53, 0, 0, 0, 69, 0, 0, 0, 76, 0, 0, 0, 83, 0, 0, 0, 89, 0, 0, 0, 104]
abbrev dktX1_ofArticle_1 : List UInt8 := dkwX1_ofArticle_1 ++ dktX1_ofArticle_2
def dkwX1_ofArticle_0 : List UInt8 := [42, 27, 182, 0, 194, 154, 0, 5, 2, 172, 28]
abbrev dktX1_ofArticle_0 : List UInt8 := dkwX1_ofArticle_0 ++ dktX1_ofArticle_1
theorem dksX1_ofArticle_0 : cX1_ofArticle.data.toList.drop 0 = dktX1_ofArticle_0 := by decide +kernel
theorem dksX1_ofArticle_1 : cX1_ofArticle.data.toList.drop 11 = dktX1_ofArticle_1 := dk_seg dksX1_ofArticle_0 11 rfl rfl
theorem dksX1_ofArticle_2 : cX1_ofArticle.data.toList.drop 52 = dktX1_ofArticle_2 := dk_seg dksX1_ofArticle_1 41 rfl rfl
theorem dksX1_ofArticle_3 : cX1_ofArticle.data.toList.drop 76 = dktX1_ofArticle_3 := dk_seg dksX1_ofArticle_2 24 rfl rfl
theorem dksX1_ofArticle_4 : cX1_ofArticle.data.toList.drop 100 = dktX1_ofArticle_4 := dk_seg dksX1_ofArticle_3 24 rfl rfl
theorem dksX1_ofArticle_5 : cX1_ofArticle.data.toList.drop 124 = dktX1_ofArticle_5 := dk_seg dksX1_ofArticle_4 24 rfl rfl
theorem dX1_ofArticle_0 : decode cX1_ofArticle 0 = .ok (.aload_n 0, 1) := dk_42 (dk_at dksX1_ofArticle_0 0 rfl rfl)
theorem dX1_ofArticle_1 : decode cX1_ofArticle 1 = .ok (.iload_n 1, 1) := dk_27 (dk_at dksX1_ofArticle_0 1 rfl rfl)
theorem dX1_ofArticle_2 : decode cX1_ofArticle 2 = .ok (.invokevirtual 194, 3) := dk_182 0 194 (dk_at dksX1_ofArticle_0 2 rfl rfl)
theorem dX1_ofArticle_5 : decode cX1_ofArticle 5 = .ok (.ifCond .ne 5, 3) := dk_154 0 5 (dk_at dksX1_ofArticle_0 5 rfl rfl)
theorem dX1_ofArticle_8 : decode cX1_ofArticle 8 = .ok (.iconst (-1), 1) := dk_2 (dk_at dksX1_ofArticle_0 8 rfl rfl)
theorem dX1_ofArticle_9 : decode cX1_ofArticle 9 = .ok (.ireturn, 1) := dk_172 (dk_at dksX1_ofArticle_0 9 rfl rfl)
theorem dX1_ofArticle_10 : decode cX1_ofArticle 10 = .ok (.iload_n 2, 1) := dk_28 (dk_at dksX1_ofArticle_0 10 rfl rfl)
theorem dX1_ofArticle_11 : decode cX1_ofArticle 11 = .ok (.tableswitch 132 0 6 #[41, 53, 69, 76, 83, 89, 104], 41) := by decide +kernel
theorem dX1_ofArticle_52 : decode cX1_ofArticle 52 = .ok (.aload_n 0, 1) := dk_42 (dk_at dksX1_ofArticle_2 0 rfl rfl)
theorem dX1_ofArticle_53 : decode cX1_ofArticle 53 = .ok (.getfield 92, 3) := dk_180 0 92 (dk_at dksX1_ofArticle_2 1 rfl rfl)
theorem dX1_ofArticle_56 : decode cX1_ofArticle 56 = .ok (.aload_n 0, 1) := dk_42 (dk_at dksX1_ofArticle_2 4 rfl rfl)
theorem dX1_ofArticle_57 : decode cX1_ofArticle 57 = .ok (.getfield 86, 3) := dk_180 0 86 (dk_at dksX1_ofArticle_2 5 rfl rfl)
theorem dX1_ofArticle_60 : decode cX1_ofArticle 60 = .ok (.iload_n 1, 1) := dk_27 (dk_at dksX1_ofArticle_2 8 rfl rfl)
theorem dX1_ofArticle_61 : decode cX1_ofArticle 61 = .ok (.iaload, 1) := dk_46 (dk_at dksX1_ofArticle_2 9 rfl rfl)
theorem dX1_ofArticle_62 : decode cX1_ofArticle 62 = .ok (.iaload, 1) := dk_46 (dk_at dksX1_ofArticle_2 10 rfl rfl)
theorem dX1_ofArticle_63 : decode cX1_ofArticle 63 = .ok (.ireturn, 1) := dk_172 (dk_at dksX1_ofArticle_2 11 rfl rfl)
theorem dX1_ofArticle_64 : decode cX1_ofArticle 64 = .ok (.aload_n 0, 1) := dk_42 (dk_at dksX1_ofArticle_2 12 rfl rfl)
theorem dX1_ofArticle_65 : decode cX1_ofArticle 65 = .ok (.getfield 86, 3) := dk_180 0 86 (dk_at dksX1_ofArticle_2 13 rfl rfl)
theorem dX1_ofArticle_68 : decode cX1_ofArticle 68 = .ok (.iload_n 1, 1) := dk_27 (dk_at dksX1_ofArticle_2 16 rfl rfl)
theorem dX1_ofArticle_69 : decode cX1_ofArticle 69 = .ok (.iconst 1, 1) := dk_4 (dk_at dksX1_ofArticle_2 17 rfl rfl)
theorem dX1_ofArticle_70 : decode cX1_ofArticle 70 = .ok (.iadd, 1) := dk_96 (dk_at dksX1_ofArticle_2 18 rfl rfl)
theorem dX1_ofArticle_71 : decode cX1_ofArticle 71 = .ok (.iaload, 1) := dk_46 (dk_at dksX1_ofArticle_2 19 rfl rfl)
theorem dX1_ofArticle_72 : decode cX1_ofArticle 72 = .ok (.aload_n 0, 1) := dk_42 (dk_at dksX1_ofArticle_2 20 rfl rfl)
theorem dX1_ofArticle_73 : decode cX1_ofArticle 73 = .ok (.getfield 86, 3) := dk_180 0 86 (dk_at dksX1_ofArticle_2 21 rfl rfl)
theorem dX1_ofArticle_76 : decode cX1_ofArticle 76 = .ok (.iload_n 1, 1) := dk_27 (dk_at dksX1_ofArticle_3 0 rfl rfl)
theorem dX1_ofArticle_77 : decode cX1_ofArticle 77 = .ok (.iaload, 1) := dk_46 (dk_at dksX1_ofArticle_3 1 rfl rfl)
theorem dX1_ofArticle_78 : decode cX1_ofArticle 78 = .ok (.isub, 1) := dk_100 (dk_at dksX1_ofArticle_3 2 rfl rfl)
theorem dX1_ofArticle_79 : decode cX1_ofArticle 79 = .ok (.ireturn, 1) := dk_172 (dk_at dksX1_ofArticle_3 3 rfl rfl)
theorem dX1_ofArticle_80 : decode cX1_ofArticle 80 = .ok (.aload_n 0, 1) := dk_42 (dk_at dksX1_ofArticle_3 4 rfl rfl)
theorem dX1_ofArticle_81 : decode cX1_ofArticle 81 = .ok (.iload_n 1, 1) := dk_27 (dk_at dksX1_ofArticle_3 5 rfl rfl)
theorem dX1_ofArticle_82 : decode cX1_ofArticle 82 = .ok (.iconst 0, 1) := dk_3 (dk_at dksX1_ofArticle_3 6 rfl rfl)
theorem dX1_ofArticle_83 : decode cX1_ofArticle 83 = .ok (.invokevirtual 197, 3) := dk_182 0 197 (dk_at dksX1_ofArticle_3 7 rfl rfl)
theorem dX1_ofArticle_86 : decode cX1_ofArticle 86 = .ok (.ireturn, 1) := dk_172 (dk_at dksX1_ofArticle_3 10 rfl rfl)
theorem dX1_ofArticle_87 : decode cX1_ofArticle 87 = .ok (.aload_n 0, 1) := dk_42 (dk_at dksX1_ofArticle_3 11 rfl rfl)
theorem dX1_ofArticle_88 : decode cX1_ofArticle 88 = .ok (.iload_n 1, 1) := dk_27 (dk_at dksX1_ofArticle_3 12 rfl rfl)
theorem dX1_ofArticle_89 : decode cX1_ofArticle 89 = .ok (.iconst 1, 1) := dk_4 (dk_at dksX1_ofArticle_3 13 rfl rfl)
theorem dX1_ofArticle_90 : decode cX1_ofArticle 90 = .ok (.invokevirtual 197, 3) := dk_182 0 197 (dk_at dksX1_ofArticle_3 14 rfl rfl)
theorem dX1_ofArticle_93 : decode cX1_ofArticle 93 = .ok (.ireturn, 1) := dk_172 (dk_at dksX1_ofArticle_3 17 rfl rfl)
theorem dX1_ofArticle_94 : decode cX1_ofArticle 94 = .ok (.aload_n 0, 1) := dk_42 (dk_at dksX1_ofArticle_3 18 rfl rfl)
theorem dX1_ofArticle_95 : decode cX1_ofArticle 95 = .ok (.iload_n 1, 1) := dk_27 (dk_at dksX1_ofArticle_3 19 rfl rfl)
theorem dX1_ofArticle_96 : decode cX1_ofArticle 96 = .ok (.invokevirtual 200, 3) := dk_182 0 200 (dk_at dksX1_ofArticle_3 20 rfl rfl)
theorem dX1_ofArticle_99 : decode cX1_ofArticle 99 = .ok (.ireturn, 1) := dk_172 (dk_at dksX1_ofArticle_3 23 rfl rfl)
theorem dX1_ofArticle_100 : decode cX1_ofArticle 100 = .ok (.aload_n 0, 1) := dk_42 (dk_at dksX1_ofArticle_4 0 rfl rfl)
theorem dX1_ofArticle_101 : decode cX1_ofArticle 101 = .ok (.getfield 89, 3) := dk_180 0 89 (dk_at dksX1_ofArticle_4 1 rfl rfl)
theorem dX1_ofArticle_104 : decode cX1_ofArticle 104 = .ok (.iload_n 1, 1) := dk_27 (dk_at dksX1_ofArticle_4 4 rfl rfl)
theorem dX1_ofArticle_105 : decode cX1_ofArticle 105 = .ok (.baload, 1) := dk_51 (dk_at dksX1_ofArticle_4 5 rfl rfl)
theorem dX1_ofArticle_106 : decode cX1_ofArticle 106 = .ok (.ifCond .eq 7, 3) := dk_153 0 7 (dk_at dksX1_ofArticle_4 6 rfl rfl)
theorem dX1_ofArticle_109 : decode cX1_ofArticle 109 = .ok (.iconst 1, 1) := dk_4 (dk_at dksX1_ofArticle_4 9 rfl rfl)
theorem dX1_ofArticle_110 : decode cX1_ofArticle 110 = .ok (.goto 4, 3) := dk_167 0 4 (dk_at dksX1_ofArticle_4 10 rfl rfl)
theorem dX1_ofArticle_113 : decode cX1_ofArticle 113 = .ok (.iconst 0, 1) := dk_3 (dk_at dksX1_ofArticle_4 13 rfl rfl)
theorem dX1_ofArticle_114 : decode cX1_ofArticle 114 = .ok (.ireturn, 1) := dk_172 (dk_at dksX1_ofArticle_4 14 rfl rfl)
theorem dX1_ofArticle_115 : decode cX1_ofArticle 115 = .ok (.aload_n 0, 1) := dk_42 (dk_at dksX1_ofArticle_4 15 rfl rfl)
theorem dX1_ofArticle_116 : decode cX1_ofArticle 116 = .ok (.aload_n 0, 1) := dk_42 (dk_at dksX1_ofArticle_4 16 rfl rfl)
theorem dX1_ofArticle_117 : decode cX1_ofArticle 117 = .ok (.getfield 92, 3) := dk_180 0 92 (dk_at dksX1_ofArticle_4 17 rfl rfl)
theorem dX1_ofArticle_120 : decode cX1_ofArticle 120 = .ok (.aload_n 0, 1) := dk_42 (dk_at dksX1_ofArticle_4 20 rfl rfl)
theorem dX1_ofArticle_121 : decode cX1_ofArticle 121 = .ok (.getfield 86, 3) := dk_180 0 86 (dk_at dksX1_ofArticle_4 21 rfl rfl)
theorem dX1_ofArticle_124 : decode cX1_ofArticle 124 = .ok (.iload_n 1, 1) := dk_27 (dk_at dksX1_ofArticle_5 0 rfl rfl)
theorem dX1_ofArticle_125 : decode cX1_ofArticle 125 = .ok (.iconst 1, 1) := dk_4 (dk_at dksX1_ofArticle_5 1 rfl rfl)
theorem dX1_ofArticle_126 : decode cX1_ofArticle 126 = .ok (.iadd, 1) := dk_96 (dk_at dksX1_ofArticle_5 2 rfl rfl)
theorem dX1_ofArticle_127 : decode cX1_ofArticle 127 = .ok (.iaload, 1) := dk_46 (dk_at dksX1_ofArticle_5 3 rfl rfl)
theorem dX1_ofArticle_128 : decode cX1_ofArticle 128 = .ok (.iconst 1, 1) := dk_4 (dk_at dksX1_ofArticle_5 4 rfl rfl)
theorem dX1_ofArticle_129 : decode cX1_ofArticle 129 = .ok (.isub, 1) := dk_100 (dk_at dksX1_ofArticle_5 5 rfl rfl)
theorem dX1_ofArticle_130 : decode cX1_ofArticle 130 = .ok (.iaload, 1) := dk_46 (dk_at dksX1_ofArticle_5 6 rfl rfl)
theorem dX1_ofArticle_131 : decode cX1_ofArticle 131 = .ok (.invokevirtual 191, 3) := dk_182 0 191 (dk_at dksX1_ofArticle_5 7 rfl rfl)
theorem dX1_ofArticle_134 : decode cX1_ofArticle 134 = .ok (.ifCond .eq 7, 3) := dk_153 0 7 (dk_at dksX1_ofArticle_5 10 rfl rfl)
theorem dX1_ofArticle_137 : decode cX1_ofArticle 137 = .ok (.iconst 1, 1) := dk_4 (dk_at dksX1_ofArticle_5 13 rfl rfl)
theorem dX1_ofArticle_138 : decode cX1_ofArticle 138 = .ok (.goto 4, 3) := dk_167 0 4 (dk_at dksX1_ofArticle_5 14 rfl rfl)
theorem dX1_ofArticle_141 : decode cX1_ofArticle 141 = .ok (.iconst 0, 1) := dk_3 (dk_at dksX1_ofArticle_5 17 rfl rfl)
theorem dX1_ofArticle_142 : decode cX1_ofArticle 142 = .ok (.ireturn, 1) := dk_172 (dk_at dksX1_ofArticle_5 18 rfl rfl)
theorem dX1_ofArticle_143 : decode cX1_ofArticle 143 = .ok (.bipush (-2), 2) := dk_16 254 (dk_at dksX1_ofArticle_5 19 rfl rfl)
theorem dX1_ofArticle_145 : decode cX1_ofArticle 145 = .ok (.ireturn, 1) := dk_172 (dk_at dksX1_ofArticle_5 21 rfl rfl)
abbrev cX1_isArticle : ByteArray := prog_14_method_44_code
def yX1_isArticle : MethodName := ⟨RX1, "isArticle", "(I)Z"⟩
def dkwX1_isArticle_0 : List UInt8 := [42, 182, 0, 178, 27, 3, 42, 180, 0, 162, 4, 100, 184, 0, 102, 172]
abbrev dktX1_isArticle_0 : List UInt8 := dkwX1_isArticle_0 ++ []
theorem dksX1_isArticle_0 : cX1_isArticle.data.toList.drop 0 = dktX1_isArticle_0 := by decide +kernel
theorem dX1_isArticle_0 : decode cX1_isArticle 0 = .ok (.aload_n 0, 1) := dk_42 (dk_at dksX1_isArticle_0 0 rfl rfl)
theorem dX1_isArticle_1 : decode cX1_isArticle 1 = .ok (.invokevirtual 178, 3) := dk_182 0 178 (dk_at dksX1_isArticle_0 1 rfl rfl)
theorem dX1_isArticle_4 : decode cX1_isArticle 4 = .ok (.iload_n 1, 1) := dk_27 (dk_at dksX1_isArticle_0 4 rfl rfl)
theorem dX1_isArticle_5 : decode cX1_isArticle 5 = .ok (.iconst 0, 1) := dk_3 (dk_at dksX1_isArticle_0 5 rfl rfl)
theorem dX1_isArticle_6 : decode cX1_isArticle 6 = .ok (.aload_n 0, 1) := dk_42 (dk_at dksX1_isArticle_0 6 rfl rfl)
theorem dX1_isArticle_7 : decode cX1_isArticle 7 = .ok (.getfield 162, 3) := dk_180 0 162 (dk_at dksX1_isArticle_0 7 rfl rfl)
theorem dX1_isArticle_10 : decode cX1_isArticle 10 = .ok (.iconst 1, 1) := dk_4 (dk_at dksX1_isArticle_0 10 rfl rfl)
theorem dX1_isArticle_11 : decode cX1_isArticle 11 = .ok (.isub, 1) := dk_100 (dk_at dksX1_isArticle_0 11 rfl rfl)
theorem dX1_isArticle_12 : decode cX1_isArticle 12 = .ok (.invokestatic 102, 3) := dk_184 0 102 (dk_at dksX1_isArticle_0 12 rfl rfl)
theorem dX1_isArticle_15 : decode cX1_isArticle 15 = .ok (.ireturn, 1) := dk_172 (dk_at dksX1_isArticle_0 15 rfl rfl)
abbrev cX1_sumOf : ByteArray := prog_14_method_45_code
def yX1_sumOf : MethodName := ⟨RX1, "sumOf", "(IZ)I"⟩
def dkwX1_sumOf_2 : List UInt8 := [180, 0, 67, 42, 180, 0, 92, 21, 4, 46, 46, 46, 96, 62, 132, 4, 1, 167, 255, 202, 29, 172]
abbrev dktX1_sumOf_2 : List UInt8 := dkwX1_sumOf_2 ++ []
def dkwX1_sumOf_1 : List UInt8 := [28, 153, 0, 17, 42, 42, 180, 0, 92, 21, 4, 46, 182, 0, 184, 167, 0, 20, 42, 180, 0, 61, 42]
abbrev dktX1_sumOf_1 : List UInt8 := dkwX1_sumOf_1 ++ dktX1_sumOf_2
def dkwX1_sumOf_0 : List UInt8 := [3, 62, 42, 180, 0, 86, 27, 46, 54, 4, 21, 4, 42, 180, 0, 86, 27, 4, 96, 46, 162, 0, 47, 29]
abbrev dktX1_sumOf_0 : List UInt8 := dkwX1_sumOf_0 ++ dktX1_sumOf_1
theorem dksX1_sumOf_0 : cX1_sumOf.data.toList.drop 0 = dktX1_sumOf_0 := by decide +kernel
theorem dksX1_sumOf_1 : cX1_sumOf.data.toList.drop 24 = dktX1_sumOf_1 := dk_seg dksX1_sumOf_0 24 rfl rfl
theorem dksX1_sumOf_2 : cX1_sumOf.data.toList.drop 47 = dktX1_sumOf_2 := dk_seg dksX1_sumOf_1 23 rfl rfl
theorem dX1_sumOf_0 : decode cX1_sumOf 0 = .ok (.iconst 0, 1) := dk_3 (dk_at dksX1_sumOf_0 0 rfl rfl)
theorem dX1_sumOf_1 : decode cX1_sumOf 1 = .ok (.istore_n 3, 1) := dk_62 (dk_at dksX1_sumOf_0 1 rfl rfl)
theorem dX1_sumOf_2 : decode cX1_sumOf 2 = .ok (.aload_n 0, 1) := dk_42 (dk_at dksX1_sumOf_0 2 rfl rfl)
theorem dX1_sumOf_3 : decode cX1_sumOf 3 = .ok (.getfield 86, 3) := dk_180 0 86 (dk_at dksX1_sumOf_0 3 rfl rfl)
theorem dX1_sumOf_6 : decode cX1_sumOf 6 = .ok (.iload_n 1, 1) := dk_27 (dk_at dksX1_sumOf_0 6 rfl rfl)
theorem dX1_sumOf_7 : decode cX1_sumOf 7 = .ok (.iaload, 1) := dk_46 (dk_at dksX1_sumOf_0 7 rfl rfl)
theorem dX1_sumOf_8 : decode cX1_sumOf 8 = .ok (.istore 4, 2) := dk_54 4 (dk_at dksX1_sumOf_0 8 rfl rfl)
theorem dX1_sumOf_10 : decode cX1_sumOf 10 = .ok (.iload 4, 2) := dk_21 4 (dk_at dksX1_sumOf_0 10 rfl rfl)
theorem dX1_sumOf_12 : decode cX1_sumOf 12 = .ok (.aload_n 0, 1) := dk_42 (dk_at dksX1_sumOf_0 12 rfl rfl)
theorem dX1_sumOf_13 : decode cX1_sumOf 13 = .ok (.getfield 86, 3) := dk_180 0 86 (dk_at dksX1_sumOf_0 13 rfl rfl)
theorem dX1_sumOf_16 : decode cX1_sumOf 16 = .ok (.iload_n 1, 1) := dk_27 (dk_at dksX1_sumOf_0 16 rfl rfl)
theorem dX1_sumOf_17 : decode cX1_sumOf 17 = .ok (.iconst 1, 1) := dk_4 (dk_at dksX1_sumOf_0 17 rfl rfl)
theorem dX1_sumOf_18 : decode cX1_sumOf 18 = .ok (.iadd, 1) := dk_96 (dk_at dksX1_sumOf_0 18 rfl rfl)
theorem dX1_sumOf_19 : decode cX1_sumOf 19 = .ok (.iaload, 1) := dk_46 (dk_at dksX1_sumOf_0 19 rfl rfl)
theorem dX1_sumOf_20 : decode cX1_sumOf 20 = .ok (.if_icmp .ge 47, 3) := dk_162 0 47 (dk_at dksX1_sumOf_0 20 rfl rfl)
theorem dX1_sumOf_23 : decode cX1_sumOf 23 = .ok (.iload_n 3, 1) := dk_29 (dk_at dksX1_sumOf_0 23 rfl rfl)
theorem dX1_sumOf_24 : decode cX1_sumOf 24 = .ok (.iload_n 2, 1) := dk_28 (dk_at dksX1_sumOf_1 0 rfl rfl)
theorem dX1_sumOf_25 : decode cX1_sumOf 25 = .ok (.ifCond .eq 17, 3) := dk_153 0 17 (dk_at dksX1_sumOf_1 1 rfl rfl)
theorem dX1_sumOf_28 : decode cX1_sumOf 28 = .ok (.aload_n 0, 1) := dk_42 (dk_at dksX1_sumOf_1 4 rfl rfl)
theorem dX1_sumOf_29 : decode cX1_sumOf 29 = .ok (.aload_n 0, 1) := dk_42 (dk_at dksX1_sumOf_1 5 rfl rfl)
theorem dX1_sumOf_30 : decode cX1_sumOf 30 = .ok (.getfield 92, 3) := dk_180 0 92 (dk_at dksX1_sumOf_1 6 rfl rfl)
theorem dX1_sumOf_33 : decode cX1_sumOf 33 = .ok (.iload 4, 2) := dk_21 4 (dk_at dksX1_sumOf_1 9 rfl rfl)
theorem dX1_sumOf_35 : decode cX1_sumOf 35 = .ok (.iaload, 1) := dk_46 (dk_at dksX1_sumOf_1 11 rfl rfl)
theorem dX1_sumOf_36 : decode cX1_sumOf 36 = .ok (.invokevirtual 184, 3) := dk_182 0 184 (dk_at dksX1_sumOf_1 12 rfl rfl)
theorem dX1_sumOf_39 : decode cX1_sumOf 39 = .ok (.goto 20, 3) := dk_167 0 20 (dk_at dksX1_sumOf_1 15 rfl rfl)
theorem dX1_sumOf_42 : decode cX1_sumOf 42 = .ok (.aload_n 0, 1) := dk_42 (dk_at dksX1_sumOf_1 18 rfl rfl)
theorem dX1_sumOf_43 : decode cX1_sumOf 43 = .ok (.getfield 61, 3) := dk_180 0 61 (dk_at dksX1_sumOf_1 19 rfl rfl)
theorem dX1_sumOf_46 : decode cX1_sumOf 46 = .ok (.aload_n 0, 1) := dk_42 (dk_at dksX1_sumOf_1 22 rfl rfl)
theorem dX1_sumOf_47 : decode cX1_sumOf 47 = .ok (.getfield 67, 3) := dk_180 0 67 (dk_at dksX1_sumOf_2 0 rfl rfl)
theorem dX1_sumOf_50 : decode cX1_sumOf 50 = .ok (.aload_n 0, 1) := dk_42 (dk_at dksX1_sumOf_2 3 rfl rfl)
theorem dX1_sumOf_51 : decode cX1_sumOf 51 = .ok (.getfield 92, 3) := dk_180 0 92 (dk_at dksX1_sumOf_2 4 rfl rfl)
theorem dX1_sumOf_54 : decode cX1_sumOf 54 = .ok (.iload 4, 2) := dk_21 4 (dk_at dksX1_sumOf_2 7 rfl rfl)
theorem dX1_sumOf_56 : decode cX1_sumOf 56 = .ok (.iaload, 1) := dk_46 (dk_at dksX1_sumOf_2 9 rfl rfl)
theorem dX1_sumOf_57 : decode cX1_sumOf 57 = .ok (.iaload, 1) := dk_46 (dk_at dksX1_sumOf_2 10 rfl rfl)
theorem dX1_sumOf_58 : decode cX1_sumOf 58 = .ok (.iaload, 1) := dk_46 (dk_at dksX1_sumOf_2 11 rfl rfl)
theorem dX1_sumOf_59 : decode cX1_sumOf 59 = .ok (.iadd, 1) := dk_96 (dk_at dksX1_sumOf_2 12 rfl rfl)
theorem dX1_sumOf_60 : decode cX1_sumOf 60 = .ok (.istore_n 3, 1) := dk_62 (dk_at dksX1_sumOf_2 13 rfl rfl)
theorem dX1_sumOf_61 : decode cX1_sumOf 61 = .ok (.iinc 4 1, 3) := dk_132 4 1 (dk_at dksX1_sumOf_2 14 rfl rfl)
theorem dX1_sumOf_64 : decode cX1_sumOf 64 = .ok (.goto (-54), 3) := dk_167 255 202 (dk_at dksX1_sumOf_2 17 rfl rfl)
theorem dX1_sumOf_67 : decode cX1_sumOf 67 = .ok (.iload_n 3, 1) := dk_29 (dk_at dksX1_sumOf_2 20 rfl rfl)
theorem dX1_sumOf_68 : decode cX1_sumOf 68 = .ok (.ireturn, 1) := dk_172 (dk_at dksX1_sumOf_2 21 rfl rfl)
abbrev cX1_pagesOf : ByteArray := prog_14_method_46_code
def yX1_pagesOf : MethodName := ⟨RX1, "pagesOf", "(I)I"⟩
def dkwX1_pagesOf_3 : List UInt8 := [172]
abbrev dktX1_pagesOf_3 : List UInt8 := dkwX1_pagesOf_3 ++ []
def dkwX1_pagesOf_2 : List UInt8 := [153, 0, 14, 4, 42, 180, 0, 7, 29, 46, 120, 167, 0, 4, 3, 128, 61, 132, 3, 1, 167, 255, 193, 28]
abbrev dktX1_pagesOf_2 : List UInt8 := dkwX1_pagesOf_2 ++ dktX1_pagesOf_3
def dkwX1_pagesOf_1 : List UInt8 := [180, 0, 95, 42, 180, 0, 70, 29, 46, 46, 27, 160, 0, 7, 4, 167, 0, 4, 3, 54, 4, 28, 21, 4]
abbrev dktX1_pagesOf_1 : List UInt8 := dkwX1_pagesOf_1 ++ dktX1_pagesOf_2
def dkwX1_pagesOf_0 : List UInt8 := [3, 61, 3, 62, 29, 42, 180, 0, 98, 162, 0, 61, 42, 180, 0, 13, 29, 46, 5, 159, 0, 22, 42]
abbrev dktX1_pagesOf_0 : List UInt8 := dkwX1_pagesOf_0 ++ dktX1_pagesOf_1
theorem dksX1_pagesOf_0 : cX1_pagesOf.data.toList.drop 0 = dktX1_pagesOf_0 := by decide +kernel
theorem dksX1_pagesOf_1 : cX1_pagesOf.data.toList.drop 23 = dktX1_pagesOf_1 := dk_seg dksX1_pagesOf_0 23 rfl rfl
theorem dksX1_pagesOf_2 : cX1_pagesOf.data.toList.drop 47 = dktX1_pagesOf_2 := dk_seg dksX1_pagesOf_1 24 rfl rfl
theorem dksX1_pagesOf_3 : cX1_pagesOf.data.toList.drop 71 = dktX1_pagesOf_3 := dk_seg dksX1_pagesOf_2 24 rfl rfl
theorem dX1_pagesOf_0 : decode cX1_pagesOf 0 = .ok (.iconst 0, 1) := dk_3 (dk_at dksX1_pagesOf_0 0 rfl rfl)
theorem dX1_pagesOf_1 : decode cX1_pagesOf 1 = .ok (.istore_n 2, 1) := dk_61 (dk_at dksX1_pagesOf_0 1 rfl rfl)
theorem dX1_pagesOf_2 : decode cX1_pagesOf 2 = .ok (.iconst 0, 1) := dk_3 (dk_at dksX1_pagesOf_0 2 rfl rfl)
theorem dX1_pagesOf_3 : decode cX1_pagesOf 3 = .ok (.istore_n 3, 1) := dk_62 (dk_at dksX1_pagesOf_0 3 rfl rfl)
theorem dX1_pagesOf_4 : decode cX1_pagesOf 4 = .ok (.iload_n 3, 1) := dk_29 (dk_at dksX1_pagesOf_0 4 rfl rfl)
theorem dX1_pagesOf_5 : decode cX1_pagesOf 5 = .ok (.aload_n 0, 1) := dk_42 (dk_at dksX1_pagesOf_0 5 rfl rfl)
theorem dX1_pagesOf_6 : decode cX1_pagesOf 6 = .ok (.getfield 98, 3) := dk_180 0 98 (dk_at dksX1_pagesOf_0 6 rfl rfl)
theorem dX1_pagesOf_9 : decode cX1_pagesOf 9 = .ok (.if_icmp .ge 61, 3) := dk_162 0 61 (dk_at dksX1_pagesOf_0 9 rfl rfl)
theorem dX1_pagesOf_12 : decode cX1_pagesOf 12 = .ok (.aload_n 0, 1) := dk_42 (dk_at dksX1_pagesOf_0 12 rfl rfl)
theorem dX1_pagesOf_13 : decode cX1_pagesOf 13 = .ok (.getfield 13, 3) := dk_180 0 13 (dk_at dksX1_pagesOf_0 13 rfl rfl)
theorem dX1_pagesOf_16 : decode cX1_pagesOf 16 = .ok (.iload_n 3, 1) := dk_29 (dk_at dksX1_pagesOf_0 16 rfl rfl)
theorem dX1_pagesOf_17 : decode cX1_pagesOf 17 = .ok (.iaload, 1) := dk_46 (dk_at dksX1_pagesOf_0 17 rfl rfl)
theorem dX1_pagesOf_18 : decode cX1_pagesOf 18 = .ok (.iconst 2, 1) := dk_5 (dk_at dksX1_pagesOf_0 18 rfl rfl)
theorem dX1_pagesOf_19 : decode cX1_pagesOf 19 = .ok (.if_icmp .eq 22, 3) := dk_159 0 22 (dk_at dksX1_pagesOf_0 19 rfl rfl)
theorem dX1_pagesOf_22 : decode cX1_pagesOf 22 = .ok (.aload_n 0, 1) := dk_42 (dk_at dksX1_pagesOf_0 22 rfl rfl)
theorem dX1_pagesOf_23 : decode cX1_pagesOf 23 = .ok (.getfield 95, 3) := dk_180 0 95 (dk_at dksX1_pagesOf_1 0 rfl rfl)
theorem dX1_pagesOf_26 : decode cX1_pagesOf 26 = .ok (.aload_n 0, 1) := dk_42 (dk_at dksX1_pagesOf_1 3 rfl rfl)
theorem dX1_pagesOf_27 : decode cX1_pagesOf 27 = .ok (.getfield 70, 3) := dk_180 0 70 (dk_at dksX1_pagesOf_1 4 rfl rfl)
theorem dX1_pagesOf_30 : decode cX1_pagesOf 30 = .ok (.iload_n 3, 1) := dk_29 (dk_at dksX1_pagesOf_1 7 rfl rfl)
theorem dX1_pagesOf_31 : decode cX1_pagesOf 31 = .ok (.iaload, 1) := dk_46 (dk_at dksX1_pagesOf_1 8 rfl rfl)
theorem dX1_pagesOf_32 : decode cX1_pagesOf 32 = .ok (.iaload, 1) := dk_46 (dk_at dksX1_pagesOf_1 9 rfl rfl)
theorem dX1_pagesOf_33 : decode cX1_pagesOf 33 = .ok (.iload_n 1, 1) := dk_27 (dk_at dksX1_pagesOf_1 10 rfl rfl)
theorem dX1_pagesOf_34 : decode cX1_pagesOf 34 = .ok (.if_icmp .ne 7, 3) := dk_160 0 7 (dk_at dksX1_pagesOf_1 11 rfl rfl)
theorem dX1_pagesOf_37 : decode cX1_pagesOf 37 = .ok (.iconst 1, 1) := dk_4 (dk_at dksX1_pagesOf_1 14 rfl rfl)
theorem dX1_pagesOf_38 : decode cX1_pagesOf 38 = .ok (.goto 4, 3) := dk_167 0 4 (dk_at dksX1_pagesOf_1 15 rfl rfl)
theorem dX1_pagesOf_41 : decode cX1_pagesOf 41 = .ok (.iconst 0, 1) := dk_3 (dk_at dksX1_pagesOf_1 18 rfl rfl)
theorem dX1_pagesOf_42 : decode cX1_pagesOf 42 = .ok (.istore 4, 2) := dk_54 4 (dk_at dksX1_pagesOf_1 19 rfl rfl)
theorem dX1_pagesOf_44 : decode cX1_pagesOf 44 = .ok (.iload_n 2, 1) := dk_28 (dk_at dksX1_pagesOf_1 21 rfl rfl)
theorem dX1_pagesOf_45 : decode cX1_pagesOf 45 = .ok (.iload 4, 2) := dk_21 4 (dk_at dksX1_pagesOf_1 22 rfl rfl)
theorem dX1_pagesOf_47 : decode cX1_pagesOf 47 = .ok (.ifCond .eq 14, 3) := dk_153 0 14 (dk_at dksX1_pagesOf_2 0 rfl rfl)
theorem dX1_pagesOf_50 : decode cX1_pagesOf 50 = .ok (.iconst 1, 1) := dk_4 (dk_at dksX1_pagesOf_2 3 rfl rfl)
theorem dX1_pagesOf_51 : decode cX1_pagesOf 51 = .ok (.aload_n 0, 1) := dk_42 (dk_at dksX1_pagesOf_2 4 rfl rfl)
theorem dX1_pagesOf_52 : decode cX1_pagesOf 52 = .ok (.getfield 7, 3) := dk_180 0 7 (dk_at dksX1_pagesOf_2 5 rfl rfl)
theorem dX1_pagesOf_55 : decode cX1_pagesOf 55 = .ok (.iload_n 3, 1) := dk_29 (dk_at dksX1_pagesOf_2 8 rfl rfl)
theorem dX1_pagesOf_56 : decode cX1_pagesOf 56 = .ok (.iaload, 1) := dk_46 (dk_at dksX1_pagesOf_2 9 rfl rfl)
theorem dX1_pagesOf_57 : decode cX1_pagesOf 57 = .ok (.ishl, 1) := dk_120 (dk_at dksX1_pagesOf_2 10 rfl rfl)
theorem dX1_pagesOf_58 : decode cX1_pagesOf 58 = .ok (.goto 4, 3) := dk_167 0 4 (dk_at dksX1_pagesOf_2 11 rfl rfl)
theorem dX1_pagesOf_61 : decode cX1_pagesOf 61 = .ok (.iconst 0, 1) := dk_3 (dk_at dksX1_pagesOf_2 14 rfl rfl)
theorem dX1_pagesOf_62 : decode cX1_pagesOf 62 = .ok (.ior, 1) := dk_128 (dk_at dksX1_pagesOf_2 15 rfl rfl)
theorem dX1_pagesOf_63 : decode cX1_pagesOf 63 = .ok (.istore_n 2, 1) := dk_61 (dk_at dksX1_pagesOf_2 16 rfl rfl)
theorem dX1_pagesOf_64 : decode cX1_pagesOf 64 = .ok (.iinc 3 1, 3) := dk_132 3 1 (dk_at dksX1_pagesOf_2 17 rfl rfl)
theorem dX1_pagesOf_67 : decode cX1_pagesOf 67 = .ok (.goto (-63), 3) := dk_167 255 193 (dk_at dksX1_pagesOf_2 20 rfl rfl)
theorem dX1_pagesOf_70 : decode cX1_pagesOf 70 = .ok (.iload_n 2, 1) := dk_28 (dk_at dksX1_pagesOf_2 23 rfl rfl)
theorem dX1_pagesOf_71 : decode cX1_pagesOf 71 = .ok (.ireturn, 1) := dk_172 (dk_at dksX1_pagesOf_3 0 rfl rfl)
abbrev cX1_read : ByteArray := prog_14_method_48_code
def yX1_read : MethodName := ⟨RX1, "read", "(II)I"⟩
def dkwX1_read_5 : List UInt8 := [180, 0, 61, 21, 5, 46, 100, 62, 132, 4, 1, 167, 255, 161, 16, 247, 172]
abbrev dktX1_read_5 : List UInt8 := dkwX1_read_5 ++ []
def dkwX1_read_4 : List UInt8 := [180, 0, 61, 21, 5, 46, 162, 0, 16, 42, 180, 0, 64, 16, 24, 21, 5, 104, 29, 96, 46, 172, 29, 42]
abbrev dktX1_read_4 : List UInt8 := dkwX1_read_4 ++ dktX1_read_5
def dkwX1_read_3 : List UInt8 := [167, 0, 4, 3, 54, 6, 29, 21, 6, 162, 0, 6, 21, 5, 172, 29, 21, 6, 100, 62, 29, 42]
abbrev dktX1_read_3 : List UInt8 := dkwX1_read_3 ++ dktX1_read_4
def dkwX1_read_2 : List UInt8 := [180, 0, 67, 42, 180, 0, 92, 21, 4, 46, 46, 54, 5, 42, 180, 0, 13, 21, 5, 46, 154, 0, 7, 4]
abbrev dktX1_read_2 : List UInt8 := dkwX1_read_2 ++ dktX1_read_3
def dkwX1_read_1 : List UInt8 := [62, 42, 180, 0, 86, 27, 46, 54, 4, 21, 4, 42, 180, 0, 86, 27, 4, 96, 46, 162, 0, 88, 42]
abbrev dktX1_read_1 : List UInt8 := dkwX1_read_1 ++ dktX1_read_2
def dkwX1_read_0 : List UInt8 := [42, 27, 182, 0, 194, 154, 0, 5, 2, 172, 28, 3, 16, 23, 184, 0, 102, 154, 0, 6, 16, 254, 172, 28]
abbrev dktX1_read_0 : List UInt8 := dkwX1_read_0 ++ dktX1_read_1
theorem dksX1_read_0 : cX1_read.data.toList.drop 0 = dktX1_read_0 := by decide +kernel
theorem dksX1_read_1 : cX1_read.data.toList.drop 24 = dktX1_read_1 := dk_seg dksX1_read_0 24 rfl rfl
theorem dksX1_read_2 : cX1_read.data.toList.drop 47 = dktX1_read_2 := dk_seg dksX1_read_1 23 rfl rfl
theorem dksX1_read_3 : cX1_read.data.toList.drop 71 = dktX1_read_3 := dk_seg dksX1_read_2 24 rfl rfl
theorem dksX1_read_4 : cX1_read.data.toList.drop 93 = dktX1_read_4 := dk_seg dksX1_read_3 22 rfl rfl
theorem dksX1_read_5 : cX1_read.data.toList.drop 117 = dktX1_read_5 := dk_seg dksX1_read_4 24 rfl rfl
theorem dX1_read_0 : decode cX1_read 0 = .ok (.aload_n 0, 1) := dk_42 (dk_at dksX1_read_0 0 rfl rfl)
theorem dX1_read_1 : decode cX1_read 1 = .ok (.iload_n 1, 1) := dk_27 (dk_at dksX1_read_0 1 rfl rfl)
theorem dX1_read_2 : decode cX1_read 2 = .ok (.invokevirtual 194, 3) := dk_182 0 194 (dk_at dksX1_read_0 2 rfl rfl)
theorem dX1_read_5 : decode cX1_read 5 = .ok (.ifCond .ne 5, 3) := dk_154 0 5 (dk_at dksX1_read_0 5 rfl rfl)
theorem dX1_read_8 : decode cX1_read 8 = .ok (.iconst (-1), 1) := dk_2 (dk_at dksX1_read_0 8 rfl rfl)
theorem dX1_read_9 : decode cX1_read 9 = .ok (.ireturn, 1) := dk_172 (dk_at dksX1_read_0 9 rfl rfl)
theorem dX1_read_10 : decode cX1_read 10 = .ok (.iload_n 2, 1) := dk_28 (dk_at dksX1_read_0 10 rfl rfl)
theorem dX1_read_11 : decode cX1_read 11 = .ok (.iconst 0, 1) := dk_3 (dk_at dksX1_read_0 11 rfl rfl)
theorem dX1_read_12 : decode cX1_read 12 = .ok (.bipush 23, 2) := dk_16 23 (dk_at dksX1_read_0 12 rfl rfl)
theorem dX1_read_14 : decode cX1_read 14 = .ok (.invokestatic 102, 3) := dk_184 0 102 (dk_at dksX1_read_0 14 rfl rfl)
theorem dX1_read_17 : decode cX1_read 17 = .ok (.ifCond .ne 6, 3) := dk_154 0 6 (dk_at dksX1_read_0 17 rfl rfl)
theorem dX1_read_20 : decode cX1_read 20 = .ok (.bipush (-2), 2) := dk_16 254 (dk_at dksX1_read_0 20 rfl rfl)
theorem dX1_read_22 : decode cX1_read 22 = .ok (.ireturn, 1) := dk_172 (dk_at dksX1_read_0 22 rfl rfl)
theorem dX1_read_23 : decode cX1_read 23 = .ok (.iload_n 2, 1) := dk_28 (dk_at dksX1_read_0 23 rfl rfl)
theorem dX1_read_24 : decode cX1_read 24 = .ok (.istore_n 3, 1) := dk_62 (dk_at dksX1_read_1 0 rfl rfl)
theorem dX1_read_25 : decode cX1_read 25 = .ok (.aload_n 0, 1) := dk_42 (dk_at dksX1_read_1 1 rfl rfl)
theorem dX1_read_26 : decode cX1_read 26 = .ok (.getfield 86, 3) := dk_180 0 86 (dk_at dksX1_read_1 2 rfl rfl)
theorem dX1_read_29 : decode cX1_read 29 = .ok (.iload_n 1, 1) := dk_27 (dk_at dksX1_read_1 5 rfl rfl)
theorem dX1_read_30 : decode cX1_read 30 = .ok (.iaload, 1) := dk_46 (dk_at dksX1_read_1 6 rfl rfl)
theorem dX1_read_31 : decode cX1_read 31 = .ok (.istore 4, 2) := dk_54 4 (dk_at dksX1_read_1 7 rfl rfl)
theorem dX1_read_33 : decode cX1_read 33 = .ok (.iload 4, 2) := dk_21 4 (dk_at dksX1_read_1 9 rfl rfl)
theorem dX1_read_35 : decode cX1_read 35 = .ok (.aload_n 0, 1) := dk_42 (dk_at dksX1_read_1 11 rfl rfl)
theorem dX1_read_36 : decode cX1_read 36 = .ok (.getfield 86, 3) := dk_180 0 86 (dk_at dksX1_read_1 12 rfl rfl)
theorem dX1_read_39 : decode cX1_read 39 = .ok (.iload_n 1, 1) := dk_27 (dk_at dksX1_read_1 15 rfl rfl)
theorem dX1_read_40 : decode cX1_read 40 = .ok (.iconst 1, 1) := dk_4 (dk_at dksX1_read_1 16 rfl rfl)
theorem dX1_read_41 : decode cX1_read 41 = .ok (.iadd, 1) := dk_96 (dk_at dksX1_read_1 17 rfl rfl)
theorem dX1_read_42 : decode cX1_read 42 = .ok (.iaload, 1) := dk_46 (dk_at dksX1_read_1 18 rfl rfl)
theorem dX1_read_43 : decode cX1_read 43 = .ok (.if_icmp .ge 88, 3) := dk_162 0 88 (dk_at dksX1_read_1 19 rfl rfl)
theorem dX1_read_46 : decode cX1_read 46 = .ok (.aload_n 0, 1) := dk_42 (dk_at dksX1_read_1 22 rfl rfl)
theorem dX1_read_47 : decode cX1_read 47 = .ok (.getfield 67, 3) := dk_180 0 67 (dk_at dksX1_read_2 0 rfl rfl)
theorem dX1_read_50 : decode cX1_read 50 = .ok (.aload_n 0, 1) := dk_42 (dk_at dksX1_read_2 3 rfl rfl)
theorem dX1_read_51 : decode cX1_read 51 = .ok (.getfield 92, 3) := dk_180 0 92 (dk_at dksX1_read_2 4 rfl rfl)
theorem dX1_read_54 : decode cX1_read 54 = .ok (.iload 4, 2) := dk_21 4 (dk_at dksX1_read_2 7 rfl rfl)
theorem dX1_read_56 : decode cX1_read 56 = .ok (.iaload, 1) := dk_46 (dk_at dksX1_read_2 9 rfl rfl)
theorem dX1_read_57 : decode cX1_read 57 = .ok (.iaload, 1) := dk_46 (dk_at dksX1_read_2 10 rfl rfl)
theorem dX1_read_58 : decode cX1_read 58 = .ok (.istore 5, 2) := dk_54 5 (dk_at dksX1_read_2 11 rfl rfl)
theorem dX1_read_60 : decode cX1_read 60 = .ok (.aload_n 0, 1) := dk_42 (dk_at dksX1_read_2 13 rfl rfl)
theorem dX1_read_61 : decode cX1_read 61 = .ok (.getfield 13, 3) := dk_180 0 13 (dk_at dksX1_read_2 14 rfl rfl)
theorem dX1_read_64 : decode cX1_read 64 = .ok (.iload 5, 2) := dk_21 5 (dk_at dksX1_read_2 17 rfl rfl)
theorem dX1_read_66 : decode cX1_read 66 = .ok (.iaload, 1) := dk_46 (dk_at dksX1_read_2 19 rfl rfl)
theorem dX1_read_67 : decode cX1_read 67 = .ok (.ifCond .ne 7, 3) := dk_154 0 7 (dk_at dksX1_read_2 20 rfl rfl)
theorem dX1_read_70 : decode cX1_read 70 = .ok (.iconst 1, 1) := dk_4 (dk_at dksX1_read_2 23 rfl rfl)
theorem dX1_read_71 : decode cX1_read 71 = .ok (.goto 4, 3) := dk_167 0 4 (dk_at dksX1_read_3 0 rfl rfl)
theorem dX1_read_74 : decode cX1_read 74 = .ok (.iconst 0, 1) := dk_3 (dk_at dksX1_read_3 3 rfl rfl)
theorem dX1_read_75 : decode cX1_read 75 = .ok (.istore 6, 2) := dk_54 6 (dk_at dksX1_read_3 4 rfl rfl)
theorem dX1_read_77 : decode cX1_read 77 = .ok (.iload_n 3, 1) := dk_29 (dk_at dksX1_read_3 6 rfl rfl)
theorem dX1_read_78 : decode cX1_read 78 = .ok (.iload 6, 2) := dk_21 6 (dk_at dksX1_read_3 7 rfl rfl)
theorem dX1_read_80 : decode cX1_read 80 = .ok (.if_icmp .ge 6, 3) := dk_162 0 6 (dk_at dksX1_read_3 9 rfl rfl)
theorem dX1_read_83 : decode cX1_read 83 = .ok (.iload 5, 2) := dk_21 5 (dk_at dksX1_read_3 12 rfl rfl)
theorem dX1_read_85 : decode cX1_read 85 = .ok (.ireturn, 1) := dk_172 (dk_at dksX1_read_3 14 rfl rfl)
theorem dX1_read_86 : decode cX1_read 86 = .ok (.iload_n 3, 1) := dk_29 (dk_at dksX1_read_3 15 rfl rfl)
theorem dX1_read_87 : decode cX1_read 87 = .ok (.iload 6, 2) := dk_21 6 (dk_at dksX1_read_3 16 rfl rfl)
theorem dX1_read_89 : decode cX1_read 89 = .ok (.isub, 1) := dk_100 (dk_at dksX1_read_3 18 rfl rfl)
theorem dX1_read_90 : decode cX1_read 90 = .ok (.istore_n 3, 1) := dk_62 (dk_at dksX1_read_3 19 rfl rfl)
theorem dX1_read_91 : decode cX1_read 91 = .ok (.iload_n 3, 1) := dk_29 (dk_at dksX1_read_3 20 rfl rfl)
theorem dX1_read_92 : decode cX1_read 92 = .ok (.aload_n 0, 1) := dk_42 (dk_at dksX1_read_3 21 rfl rfl)
theorem dX1_read_93 : decode cX1_read 93 = .ok (.getfield 61, 3) := dk_180 0 61 (dk_at dksX1_read_4 0 rfl rfl)
theorem dX1_read_96 : decode cX1_read 96 = .ok (.iload 5, 2) := dk_21 5 (dk_at dksX1_read_4 3 rfl rfl)
theorem dX1_read_98 : decode cX1_read 98 = .ok (.iaload, 1) := dk_46 (dk_at dksX1_read_4 5 rfl rfl)
theorem dX1_read_99 : decode cX1_read 99 = .ok (.if_icmp .ge 16, 3) := dk_162 0 16 (dk_at dksX1_read_4 6 rfl rfl)
theorem dX1_read_102 : decode cX1_read 102 = .ok (.aload_n 0, 1) := dk_42 (dk_at dksX1_read_4 9 rfl rfl)
theorem dX1_read_103 : decode cX1_read 103 = .ok (.getfield 64, 3) := dk_180 0 64 (dk_at dksX1_read_4 10 rfl rfl)
theorem dX1_read_106 : decode cX1_read 106 = .ok (.bipush 24, 2) := dk_16 24 (dk_at dksX1_read_4 13 rfl rfl)
theorem dX1_read_108 : decode cX1_read 108 = .ok (.iload 5, 2) := dk_21 5 (dk_at dksX1_read_4 15 rfl rfl)
theorem dX1_read_110 : decode cX1_read 110 = .ok (.imul, 1) := dk_104 (dk_at dksX1_read_4 17 rfl rfl)
theorem dX1_read_111 : decode cX1_read 111 = .ok (.iload_n 3, 1) := dk_29 (dk_at dksX1_read_4 18 rfl rfl)
theorem dX1_read_112 : decode cX1_read 112 = .ok (.iadd, 1) := dk_96 (dk_at dksX1_read_4 19 rfl rfl)
theorem dX1_read_113 : decode cX1_read 113 = .ok (.iaload, 1) := dk_46 (dk_at dksX1_read_4 20 rfl rfl)
theorem dX1_read_114 : decode cX1_read 114 = .ok (.ireturn, 1) := dk_172 (dk_at dksX1_read_4 21 rfl rfl)
theorem dX1_read_115 : decode cX1_read 115 = .ok (.iload_n 3, 1) := dk_29 (dk_at dksX1_read_4 22 rfl rfl)
theorem dX1_read_116 : decode cX1_read 116 = .ok (.aload_n 0, 1) := dk_42 (dk_at dksX1_read_4 23 rfl rfl)
theorem dX1_read_117 : decode cX1_read 117 = .ok (.getfield 61, 3) := dk_180 0 61 (dk_at dksX1_read_5 0 rfl rfl)
theorem dX1_read_120 : decode cX1_read 120 = .ok (.iload 5, 2) := dk_21 5 (dk_at dksX1_read_5 3 rfl rfl)
theorem dX1_read_122 : decode cX1_read 122 = .ok (.iaload, 1) := dk_46 (dk_at dksX1_read_5 5 rfl rfl)
theorem dX1_read_123 : decode cX1_read 123 = .ok (.isub, 1) := dk_100 (dk_at dksX1_read_5 6 rfl rfl)
theorem dX1_read_124 : decode cX1_read 124 = .ok (.istore_n 3, 1) := dk_62 (dk_at dksX1_read_5 7 rfl rfl)
theorem dX1_read_125 : decode cX1_read 125 = .ok (.iinc 4 1, 3) := dk_132 4 1 (dk_at dksX1_read_5 8 rfl rfl)
theorem dX1_read_128 : decode cX1_read 128 = .ok (.goto (-95), 3) := dk_167 255 161 (dk_at dksX1_read_5 11 rfl rfl)
theorem dX1_read_131 : decode cX1_read 131 = .ok (.bipush (-9), 2) := dk_16 247 (dk_at dksX1_read_5 14 rfl rfl)
theorem dX1_read_133 : decode cX1_read 133 = .ok (.ireturn, 1) := dk_172 (dk_at dksX1_read_5 16 rfl rfl)
abbrev cX1_many : ByteArray := prog_14_method_55_code
def yX1_many : MethodName := ⟨RX1, "many", "(I)I"⟩
def dkwX1_many_4 : List UInt8 := [182, 0, 210, 172, 42, 182, 0, 214, 172, 42, 182, 0, 217, 172, 42, 182, 0, 220, 172, 16, 254, 172]
abbrev dktX1_many_4 : List UInt8 := dkwX1_many_4 ++ []
def dkwX1_many_3 : List UInt8 := [180, 0, 153, 172, 42, 4, 182, 0, 206, 172, 42, 3, 182, 0, 206, 172, 42, 180, 0, 162, 172, 42]
abbrev dktX1_many_3 : List UInt8 := dkwX1_many_3 ++ dktX1_many_4
def dkwX1_many_2 : List UInt8 := [42, 180, 0, 98, 172, 42, 180, 0, 114, 172, 42, 3, 182, 0, 203, 172, 42, 4, 182, 0, 203, 172, 42]
abbrev dktX1_many_2 : List UInt8 := dkwX1_many_2 ++ dktX1_many_3
def dkwX1_many_1 : List UInt8 := [170, 0, 0, 0, 0, 0, 127, 0, 0, 0, 0, 0, 0, 0, 11, 0, 0, 0, 63, 0, 0, 0, 68, 0, 0, 0, 73, 0, 0, 0, 79, 0, 0, 0, 85, 0, 0, 0, 90, 0, 0, 0, 96, 0, 0, 0, 102, 0, 0, 0, 107, 0, 0, 0, 112, 0, 0, 0, 117, 0, 0, 0, 122]
abbrev dktX1_many_1 : List UInt8 := dkwX1_many_1 ++ dktX1_many_2
def dkwX1_many_0 : List UInt8 := [42, 182, 0, 178, 27]
abbrev dktX1_many_0 : List UInt8 := dkwX1_many_0 ++ dktX1_many_1
theorem dksX1_many_0 : cX1_many.data.toList.drop 0 = dktX1_many_0 := by decide +kernel
theorem dksX1_many_1 : cX1_many.data.toList.drop 5 = dktX1_many_1 := dk_seg dksX1_many_0 5 rfl rfl
theorem dksX1_many_2 : cX1_many.data.toList.drop 68 = dktX1_many_2 := dk_seg dksX1_many_1 63 rfl rfl
theorem dksX1_many_3 : cX1_many.data.toList.drop 91 = dktX1_many_3 := dk_seg dksX1_many_2 23 rfl rfl
theorem dksX1_many_4 : cX1_many.data.toList.drop 113 = dktX1_many_4 := dk_seg dksX1_many_3 22 rfl rfl
theorem dX1_many_0 : decode cX1_many 0 = .ok (.aload_n 0, 1) := dk_42 (dk_at dksX1_many_0 0 rfl rfl)
theorem dX1_many_1 : decode cX1_many 1 = .ok (.invokevirtual 178, 3) := dk_182 0 178 (dk_at dksX1_many_0 1 rfl rfl)
theorem dX1_many_4 : decode cX1_many 4 = .ok (.iload_n 1, 1) := dk_27 (dk_at dksX1_many_0 4 rfl rfl)
theorem dX1_many_5 : decode cX1_many 5 = .ok (.tableswitch 127 0 11 #[63, 68, 73, 79, 85, 90, 96, 102, 107, 112, 117, 122], 63) := by decide +kernel
theorem dX1_many_68 : decode cX1_many 68 = .ok (.aload_n 0, 1) := dk_42 (dk_at dksX1_many_2 0 rfl rfl)
theorem dX1_many_69 : decode cX1_many 69 = .ok (.getfield 98, 3) := dk_180 0 98 (dk_at dksX1_many_2 1 rfl rfl)
theorem dX1_many_72 : decode cX1_many 72 = .ok (.ireturn, 1) := dk_172 (dk_at dksX1_many_2 4 rfl rfl)
theorem dX1_many_73 : decode cX1_many 73 = .ok (.aload_n 0, 1) := dk_42 (dk_at dksX1_many_2 5 rfl rfl)
theorem dX1_many_74 : decode cX1_many 74 = .ok (.getfield 114, 3) := dk_180 0 114 (dk_at dksX1_many_2 6 rfl rfl)
theorem dX1_many_77 : decode cX1_many 77 = .ok (.ireturn, 1) := dk_172 (dk_at dksX1_many_2 9 rfl rfl)
theorem dX1_many_78 : decode cX1_many 78 = .ok (.aload_n 0, 1) := dk_42 (dk_at dksX1_many_2 10 rfl rfl)
theorem dX1_many_79 : decode cX1_many 79 = .ok (.iconst 0, 1) := dk_3 (dk_at dksX1_many_2 11 rfl rfl)
theorem dX1_many_80 : decode cX1_many 80 = .ok (.invokevirtual 203, 3) := dk_182 0 203 (dk_at dksX1_many_2 12 rfl rfl)
theorem dX1_many_83 : decode cX1_many 83 = .ok (.ireturn, 1) := dk_172 (dk_at dksX1_many_2 15 rfl rfl)
theorem dX1_many_84 : decode cX1_many 84 = .ok (.aload_n 0, 1) := dk_42 (dk_at dksX1_many_2 16 rfl rfl)
theorem dX1_many_85 : decode cX1_many 85 = .ok (.iconst 1, 1) := dk_4 (dk_at dksX1_many_2 17 rfl rfl)
theorem dX1_many_86 : decode cX1_many 86 = .ok (.invokevirtual 203, 3) := dk_182 0 203 (dk_at dksX1_many_2 18 rfl rfl)
theorem dX1_many_89 : decode cX1_many 89 = .ok (.ireturn, 1) := dk_172 (dk_at dksX1_many_2 21 rfl rfl)
theorem dX1_many_90 : decode cX1_many 90 = .ok (.aload_n 0, 1) := dk_42 (dk_at dksX1_many_2 22 rfl rfl)
theorem dX1_many_91 : decode cX1_many 91 = .ok (.getfield 153, 3) := dk_180 0 153 (dk_at dksX1_many_3 0 rfl rfl)
theorem dX1_many_94 : decode cX1_many 94 = .ok (.ireturn, 1) := dk_172 (dk_at dksX1_many_3 3 rfl rfl)
theorem dX1_many_95 : decode cX1_many 95 = .ok (.aload_n 0, 1) := dk_42 (dk_at dksX1_many_3 4 rfl rfl)
theorem dX1_many_96 : decode cX1_many 96 = .ok (.iconst 1, 1) := dk_4 (dk_at dksX1_many_3 5 rfl rfl)
theorem dX1_many_97 : decode cX1_many 97 = .ok (.invokevirtual 206, 3) := dk_182 0 206 (dk_at dksX1_many_3 6 rfl rfl)
theorem dX1_many_100 : decode cX1_many 100 = .ok (.ireturn, 1) := dk_172 (dk_at dksX1_many_3 9 rfl rfl)
theorem dX1_many_101 : decode cX1_many 101 = .ok (.aload_n 0, 1) := dk_42 (dk_at dksX1_many_3 10 rfl rfl)
theorem dX1_many_102 : decode cX1_many 102 = .ok (.iconst 0, 1) := dk_3 (dk_at dksX1_many_3 11 rfl rfl)
theorem dX1_many_103 : decode cX1_many 103 = .ok (.invokevirtual 206, 3) := dk_182 0 206 (dk_at dksX1_many_3 12 rfl rfl)
theorem dX1_many_106 : decode cX1_many 106 = .ok (.ireturn, 1) := dk_172 (dk_at dksX1_many_3 15 rfl rfl)
theorem dX1_many_107 : decode cX1_many 107 = .ok (.aload_n 0, 1) := dk_42 (dk_at dksX1_many_3 16 rfl rfl)
theorem dX1_many_108 : decode cX1_many 108 = .ok (.getfield 162, 3) := dk_180 0 162 (dk_at dksX1_many_3 17 rfl rfl)
theorem dX1_many_111 : decode cX1_many 111 = .ok (.ireturn, 1) := dk_172 (dk_at dksX1_many_3 20 rfl rfl)
theorem dX1_many_112 : decode cX1_many 112 = .ok (.aload_n 0, 1) := dk_42 (dk_at dksX1_many_3 21 rfl rfl)
theorem dX1_many_113 : decode cX1_many 113 = .ok (.invokevirtual 210, 3) := dk_182 0 210 (dk_at dksX1_many_4 0 rfl rfl)
theorem dX1_many_116 : decode cX1_many 116 = .ok (.ireturn, 1) := dk_172 (dk_at dksX1_many_4 3 rfl rfl)
theorem dX1_many_117 : decode cX1_many 117 = .ok (.aload_n 0, 1) := dk_42 (dk_at dksX1_many_4 4 rfl rfl)
theorem dX1_many_118 : decode cX1_many 118 = .ok (.invokevirtual 214, 3) := dk_182 0 214 (dk_at dksX1_many_4 5 rfl rfl)
theorem dX1_many_121 : decode cX1_many 121 = .ok (.ireturn, 1) := dk_172 (dk_at dksX1_many_4 8 rfl rfl)
theorem dX1_many_122 : decode cX1_many 122 = .ok (.aload_n 0, 1) := dk_42 (dk_at dksX1_many_4 9 rfl rfl)
theorem dX1_many_123 : decode cX1_many 123 = .ok (.invokevirtual 217, 3) := dk_182 0 217 (dk_at dksX1_many_4 10 rfl rfl)
theorem dX1_many_126 : decode cX1_many 126 = .ok (.ireturn, 1) := dk_172 (dk_at dksX1_many_4 13 rfl rfl)
theorem dX1_many_127 : decode cX1_many 127 = .ok (.aload_n 0, 1) := dk_42 (dk_at dksX1_many_4 14 rfl rfl)
theorem dX1_many_128 : decode cX1_many 128 = .ok (.invokevirtual 220, 3) := dk_182 0 220 (dk_at dksX1_many_4 15 rfl rfl)
theorem dX1_many_131 : decode cX1_many 131 = .ok (.ireturn, 1) := dk_172 (dk_at dksX1_many_4 18 rfl rfl)
theorem dX1_many_132 : decode cX1_many 132 = .ok (.bipush (-2), 2) := dk_16 254 (dk_at dksX1_many_4 19 rfl rfl)
theorem dX1_many_134 : decode cX1_many 134 = .ok (.ireturn, 1) := dk_172 (dk_at dksX1_many_4 21 rfl rfl)
abbrev cX1_manyOfKind : ByteArray := prog_14_method_49_code
def yX1_manyOfKind : MethodName := ⟨RX1, "manyOfKind", "(I)I"⟩
def dkwX1_manyOfKind_1 : List UInt8 := [167, 0, 4, 3, 96, 61, 132, 3, 1, 167, 255, 227, 28, 172]
abbrev dktX1_manyOfKind_1 : List UInt8 := dkwX1_manyOfKind_1 ++ []
def dkwX1_manyOfKind_0 : List UInt8 := [3, 61, 3, 62, 29, 42, 180, 0, 98, 162, 0, 27, 28, 42, 180, 0, 13, 29, 46, 27, 160, 0, 7, 4]
abbrev dktX1_manyOfKind_0 : List UInt8 := dkwX1_manyOfKind_0 ++ dktX1_manyOfKind_1
theorem dksX1_manyOfKind_0 : cX1_manyOfKind.data.toList.drop 0 = dktX1_manyOfKind_0 := by decide +kernel
theorem dksX1_manyOfKind_1 : cX1_manyOfKind.data.toList.drop 24 = dktX1_manyOfKind_1 := dk_seg dksX1_manyOfKind_0 24 rfl rfl
theorem dX1_manyOfKind_0 : decode cX1_manyOfKind 0 = .ok (.iconst 0, 1) := dk_3 (dk_at dksX1_manyOfKind_0 0 rfl rfl)
theorem dX1_manyOfKind_1 : decode cX1_manyOfKind 1 = .ok (.istore_n 2, 1) := dk_61 (dk_at dksX1_manyOfKind_0 1 rfl rfl)
theorem dX1_manyOfKind_2 : decode cX1_manyOfKind 2 = .ok (.iconst 0, 1) := dk_3 (dk_at dksX1_manyOfKind_0 2 rfl rfl)
theorem dX1_manyOfKind_3 : decode cX1_manyOfKind 3 = .ok (.istore_n 3, 1) := dk_62 (dk_at dksX1_manyOfKind_0 3 rfl rfl)
theorem dX1_manyOfKind_4 : decode cX1_manyOfKind 4 = .ok (.iload_n 3, 1) := dk_29 (dk_at dksX1_manyOfKind_0 4 rfl rfl)
theorem dX1_manyOfKind_5 : decode cX1_manyOfKind 5 = .ok (.aload_n 0, 1) := dk_42 (dk_at dksX1_manyOfKind_0 5 rfl rfl)
theorem dX1_manyOfKind_6 : decode cX1_manyOfKind 6 = .ok (.getfield 98, 3) := dk_180 0 98 (dk_at dksX1_manyOfKind_0 6 rfl rfl)
theorem dX1_manyOfKind_9 : decode cX1_manyOfKind 9 = .ok (.if_icmp .ge 27, 3) := dk_162 0 27 (dk_at dksX1_manyOfKind_0 9 rfl rfl)
theorem dX1_manyOfKind_12 : decode cX1_manyOfKind 12 = .ok (.iload_n 2, 1) := dk_28 (dk_at dksX1_manyOfKind_0 12 rfl rfl)
theorem dX1_manyOfKind_13 : decode cX1_manyOfKind 13 = .ok (.aload_n 0, 1) := dk_42 (dk_at dksX1_manyOfKind_0 13 rfl rfl)
theorem dX1_manyOfKind_14 : decode cX1_manyOfKind 14 = .ok (.getfield 13, 3) := dk_180 0 13 (dk_at dksX1_manyOfKind_0 14 rfl rfl)
theorem dX1_manyOfKind_17 : decode cX1_manyOfKind 17 = .ok (.iload_n 3, 1) := dk_29 (dk_at dksX1_manyOfKind_0 17 rfl rfl)
theorem dX1_manyOfKind_18 : decode cX1_manyOfKind 18 = .ok (.iaload, 1) := dk_46 (dk_at dksX1_manyOfKind_0 18 rfl rfl)
theorem dX1_manyOfKind_19 : decode cX1_manyOfKind 19 = .ok (.iload_n 1, 1) := dk_27 (dk_at dksX1_manyOfKind_0 19 rfl rfl)
theorem dX1_manyOfKind_20 : decode cX1_manyOfKind 20 = .ok (.if_icmp .ne 7, 3) := dk_160 0 7 (dk_at dksX1_manyOfKind_0 20 rfl rfl)
theorem dX1_manyOfKind_23 : decode cX1_manyOfKind 23 = .ok (.iconst 1, 1) := dk_4 (dk_at dksX1_manyOfKind_0 23 rfl rfl)
theorem dX1_manyOfKind_24 : decode cX1_manyOfKind 24 = .ok (.goto 4, 3) := dk_167 0 4 (dk_at dksX1_manyOfKind_1 0 rfl rfl)
theorem dX1_manyOfKind_27 : decode cX1_manyOfKind 27 = .ok (.iconst 0, 1) := dk_3 (dk_at dksX1_manyOfKind_1 3 rfl rfl)
theorem dX1_manyOfKind_28 : decode cX1_manyOfKind 28 = .ok (.iadd, 1) := dk_96 (dk_at dksX1_manyOfKind_1 4 rfl rfl)
theorem dX1_manyOfKind_29 : decode cX1_manyOfKind 29 = .ok (.istore_n 2, 1) := dk_61 (dk_at dksX1_manyOfKind_1 5 rfl rfl)
theorem dX1_manyOfKind_30 : decode cX1_manyOfKind 30 = .ok (.iinc 3 1, 3) := dk_132 3 1 (dk_at dksX1_manyOfKind_1 6 rfl rfl)
theorem dX1_manyOfKind_33 : decode cX1_manyOfKind 33 = .ok (.goto (-29), 3) := dk_167 255 227 (dk_at dksX1_manyOfKind_1 9 rfl rfl)
theorem dX1_manyOfKind_36 : decode cX1_manyOfKind 36 = .ok (.iload_n 2, 1) := dk_28 (dk_at dksX1_manyOfKind_1 12 rfl rfl)
theorem dX1_manyOfKind_37 : decode cX1_manyOfKind 37 = .ok (.ireturn, 1) := dk_172 (dk_at dksX1_manyOfKind_1 13 rfl rfl)
abbrev cX1_manyTexts : ByteArray := prog_14_method_50_code
def yX1_manyTexts : MethodName := ⟨RX1, "manyTexts", "(Z)I"⟩
def dkwX1_manyTexts_3 : List UInt8 := [61, 132, 3, 1, 167, 255, 186, 28, 172]
abbrev dktX1_manyTexts_3 : List UInt8 := dkwX1_manyTexts_3 ++ []
def dkwX1_manyTexts_2 : List UInt8 := [16, 247, 160, 0, 7, 4, 167, 0, 4, 3, 54, 4, 28, 21, 4, 153, 0, 7, 4, 167, 0, 4, 3, 96]
abbrev dktX1_manyTexts_2 : List UInt8 := dkwX1_manyTexts_2 ++ dktX1_manyTexts_3
def dkwX1_manyTexts_1 : List UInt8 := [153, 0, 17, 42, 180, 0, 58, 29, 46, 16, 247, 159, 0, 21, 167, 0, 14, 42, 180, 0, 55, 29, 46]
abbrev dktX1_manyTexts_1 : List UInt8 := dkwX1_manyTexts_1 ++ dktX1_manyTexts_2
def dkwX1_manyTexts_0 : List UInt8 := [3, 61, 3, 62, 29, 42, 180, 0, 98, 162, 0, 68, 42, 180, 0, 13, 29, 46, 4, 160, 0, 36, 27]
abbrev dktX1_manyTexts_0 : List UInt8 := dkwX1_manyTexts_0 ++ dktX1_manyTexts_1
theorem dksX1_manyTexts_0 : cX1_manyTexts.data.toList.drop 0 = dktX1_manyTexts_0 := by decide +kernel
theorem dksX1_manyTexts_1 : cX1_manyTexts.data.toList.drop 23 = dktX1_manyTexts_1 := dk_seg dksX1_manyTexts_0 23 rfl rfl
theorem dksX1_manyTexts_2 : cX1_manyTexts.data.toList.drop 46 = dktX1_manyTexts_2 := dk_seg dksX1_manyTexts_1 23 rfl rfl
theorem dksX1_manyTexts_3 : cX1_manyTexts.data.toList.drop 70 = dktX1_manyTexts_3 := dk_seg dksX1_manyTexts_2 24 rfl rfl
theorem dX1_manyTexts_0 : decode cX1_manyTexts 0 = .ok (.iconst 0, 1) := dk_3 (dk_at dksX1_manyTexts_0 0 rfl rfl)
theorem dX1_manyTexts_1 : decode cX1_manyTexts 1 = .ok (.istore_n 2, 1) := dk_61 (dk_at dksX1_manyTexts_0 1 rfl rfl)
theorem dX1_manyTexts_2 : decode cX1_manyTexts 2 = .ok (.iconst 0, 1) := dk_3 (dk_at dksX1_manyTexts_0 2 rfl rfl)
theorem dX1_manyTexts_3 : decode cX1_manyTexts 3 = .ok (.istore_n 3, 1) := dk_62 (dk_at dksX1_manyTexts_0 3 rfl rfl)
theorem dX1_manyTexts_4 : decode cX1_manyTexts 4 = .ok (.iload_n 3, 1) := dk_29 (dk_at dksX1_manyTexts_0 4 rfl rfl)
theorem dX1_manyTexts_5 : decode cX1_manyTexts 5 = .ok (.aload_n 0, 1) := dk_42 (dk_at dksX1_manyTexts_0 5 rfl rfl)
theorem dX1_manyTexts_6 : decode cX1_manyTexts 6 = .ok (.getfield 98, 3) := dk_180 0 98 (dk_at dksX1_manyTexts_0 6 rfl rfl)
theorem dX1_manyTexts_9 : decode cX1_manyTexts 9 = .ok (.if_icmp .ge 68, 3) := dk_162 0 68 (dk_at dksX1_manyTexts_0 9 rfl rfl)
theorem dX1_manyTexts_12 : decode cX1_manyTexts 12 = .ok (.aload_n 0, 1) := dk_42 (dk_at dksX1_manyTexts_0 12 rfl rfl)
theorem dX1_manyTexts_13 : decode cX1_manyTexts 13 = .ok (.getfield 13, 3) := dk_180 0 13 (dk_at dksX1_manyTexts_0 13 rfl rfl)
theorem dX1_manyTexts_16 : decode cX1_manyTexts 16 = .ok (.iload_n 3, 1) := dk_29 (dk_at dksX1_manyTexts_0 16 rfl rfl)
theorem dX1_manyTexts_17 : decode cX1_manyTexts 17 = .ok (.iaload, 1) := dk_46 (dk_at dksX1_manyTexts_0 17 rfl rfl)
theorem dX1_manyTexts_18 : decode cX1_manyTexts 18 = .ok (.iconst 1, 1) := dk_4 (dk_at dksX1_manyTexts_0 18 rfl rfl)
theorem dX1_manyTexts_19 : decode cX1_manyTexts 19 = .ok (.if_icmp .ne 36, 3) := dk_160 0 36 (dk_at dksX1_manyTexts_0 19 rfl rfl)
theorem dX1_manyTexts_22 : decode cX1_manyTexts 22 = .ok (.iload_n 1, 1) := dk_27 (dk_at dksX1_manyTexts_0 22 rfl rfl)
theorem dX1_manyTexts_23 : decode cX1_manyTexts 23 = .ok (.ifCond .eq 17, 3) := dk_153 0 17 (dk_at dksX1_manyTexts_1 0 rfl rfl)
theorem dX1_manyTexts_26 : decode cX1_manyTexts 26 = .ok (.aload_n 0, 1) := dk_42 (dk_at dksX1_manyTexts_1 3 rfl rfl)
theorem dX1_manyTexts_27 : decode cX1_manyTexts 27 = .ok (.getfield 58, 3) := dk_180 0 58 (dk_at dksX1_manyTexts_1 4 rfl rfl)
theorem dX1_manyTexts_30 : decode cX1_manyTexts 30 = .ok (.iload_n 3, 1) := dk_29 (dk_at dksX1_manyTexts_1 7 rfl rfl)
theorem dX1_manyTexts_31 : decode cX1_manyTexts 31 = .ok (.iaload, 1) := dk_46 (dk_at dksX1_manyTexts_1 8 rfl rfl)
theorem dX1_manyTexts_32 : decode cX1_manyTexts 32 = .ok (.bipush (-9), 2) := dk_16 247 (dk_at dksX1_manyTexts_1 9 rfl rfl)
theorem dX1_manyTexts_34 : decode cX1_manyTexts 34 = .ok (.if_icmp .eq 21, 3) := dk_159 0 21 (dk_at dksX1_manyTexts_1 11 rfl rfl)
theorem dX1_manyTexts_37 : decode cX1_manyTexts 37 = .ok (.goto 14, 3) := dk_167 0 14 (dk_at dksX1_manyTexts_1 14 rfl rfl)
theorem dX1_manyTexts_40 : decode cX1_manyTexts 40 = .ok (.aload_n 0, 1) := dk_42 (dk_at dksX1_manyTexts_1 17 rfl rfl)
theorem dX1_manyTexts_41 : decode cX1_manyTexts 41 = .ok (.getfield 55, 3) := dk_180 0 55 (dk_at dksX1_manyTexts_1 18 rfl rfl)
theorem dX1_manyTexts_44 : decode cX1_manyTexts 44 = .ok (.iload_n 3, 1) := dk_29 (dk_at dksX1_manyTexts_1 21 rfl rfl)
theorem dX1_manyTexts_45 : decode cX1_manyTexts 45 = .ok (.iaload, 1) := dk_46 (dk_at dksX1_manyTexts_1 22 rfl rfl)
theorem dX1_manyTexts_46 : decode cX1_manyTexts 46 = .ok (.bipush (-9), 2) := dk_16 247 (dk_at dksX1_manyTexts_2 0 rfl rfl)
theorem dX1_manyTexts_48 : decode cX1_manyTexts 48 = .ok (.if_icmp .ne 7, 3) := dk_160 0 7 (dk_at dksX1_manyTexts_2 2 rfl rfl)
theorem dX1_manyTexts_51 : decode cX1_manyTexts 51 = .ok (.iconst 1, 1) := dk_4 (dk_at dksX1_manyTexts_2 5 rfl rfl)
theorem dX1_manyTexts_52 : decode cX1_manyTexts 52 = .ok (.goto 4, 3) := dk_167 0 4 (dk_at dksX1_manyTexts_2 6 rfl rfl)
theorem dX1_manyTexts_55 : decode cX1_manyTexts 55 = .ok (.iconst 0, 1) := dk_3 (dk_at dksX1_manyTexts_2 9 rfl rfl)
theorem dX1_manyTexts_56 : decode cX1_manyTexts 56 = .ok (.istore 4, 2) := dk_54 4 (dk_at dksX1_manyTexts_2 10 rfl rfl)
theorem dX1_manyTexts_58 : decode cX1_manyTexts 58 = .ok (.iload_n 2, 1) := dk_28 (dk_at dksX1_manyTexts_2 12 rfl rfl)
theorem dX1_manyTexts_59 : decode cX1_manyTexts 59 = .ok (.iload 4, 2) := dk_21 4 (dk_at dksX1_manyTexts_2 13 rfl rfl)
theorem dX1_manyTexts_61 : decode cX1_manyTexts 61 = .ok (.ifCond .eq 7, 3) := dk_153 0 7 (dk_at dksX1_manyTexts_2 15 rfl rfl)
theorem dX1_manyTexts_64 : decode cX1_manyTexts 64 = .ok (.iconst 1, 1) := dk_4 (dk_at dksX1_manyTexts_2 18 rfl rfl)
theorem dX1_manyTexts_65 : decode cX1_manyTexts 65 = .ok (.goto 4, 3) := dk_167 0 4 (dk_at dksX1_manyTexts_2 19 rfl rfl)
theorem dX1_manyTexts_68 : decode cX1_manyTexts 68 = .ok (.iconst 0, 1) := dk_3 (dk_at dksX1_manyTexts_2 22 rfl rfl)
theorem dX1_manyTexts_69 : decode cX1_manyTexts 69 = .ok (.iadd, 1) := dk_96 (dk_at dksX1_manyTexts_2 23 rfl rfl)
theorem dX1_manyTexts_70 : decode cX1_manyTexts 70 = .ok (.istore_n 2, 1) := dk_61 (dk_at dksX1_manyTexts_3 0 rfl rfl)
theorem dX1_manyTexts_71 : decode cX1_manyTexts 71 = .ok (.iinc 3 1, 3) := dk_132 3 1 (dk_at dksX1_manyTexts_3 1 rfl rfl)
theorem dX1_manyTexts_74 : decode cX1_manyTexts 74 = .ok (.goto (-70), 3) := dk_167 255 186 (dk_at dksX1_manyTexts_3 4 rfl rfl)
theorem dX1_manyTexts_77 : decode cX1_manyTexts 77 = .ok (.iload_n 2, 1) := dk_28 (dk_at dksX1_manyTexts_3 7 rfl rfl)
theorem dX1_manyTexts_78 : decode cX1_manyTexts 78 = .ok (.ireturn, 1) := dk_172 (dk_at dksX1_manyTexts_3 8 rfl rfl)
abbrev cX1_manyRings : ByteArray := prog_14_method_51_code
def yX1_manyRings : MethodName := ⟨RX1, "manyRings", "()I"⟩
def dkwX1_manyRings_1 : List UInt8 := [167, 0, 4, 3, 96, 60, 132, 2, 1, 167, 255, 228, 27, 172]
abbrev dktX1_manyRings_1 : List UInt8 := dkwX1_manyRings_1 ++ []
def dkwX1_manyRings_0 : List UInt8 := [3, 60, 3, 61, 28, 42, 180, 0, 162, 162, 0, 26, 27, 42, 180, 0, 89, 28, 51, 153, 0, 7, 4]
abbrev dktX1_manyRings_0 : List UInt8 := dkwX1_manyRings_0 ++ dktX1_manyRings_1
theorem dksX1_manyRings_0 : cX1_manyRings.data.toList.drop 0 = dktX1_manyRings_0 := by decide +kernel
theorem dksX1_manyRings_1 : cX1_manyRings.data.toList.drop 23 = dktX1_manyRings_1 := dk_seg dksX1_manyRings_0 23 rfl rfl
theorem dX1_manyRings_0 : decode cX1_manyRings 0 = .ok (.iconst 0, 1) := dk_3 (dk_at dksX1_manyRings_0 0 rfl rfl)
theorem dX1_manyRings_1 : decode cX1_manyRings 1 = .ok (.istore_n 1, 1) := dk_60 (dk_at dksX1_manyRings_0 1 rfl rfl)
theorem dX1_manyRings_2 : decode cX1_manyRings 2 = .ok (.iconst 0, 1) := dk_3 (dk_at dksX1_manyRings_0 2 rfl rfl)
theorem dX1_manyRings_3 : decode cX1_manyRings 3 = .ok (.istore_n 2, 1) := dk_61 (dk_at dksX1_manyRings_0 3 rfl rfl)
theorem dX1_manyRings_4 : decode cX1_manyRings 4 = .ok (.iload_n 2, 1) := dk_28 (dk_at dksX1_manyRings_0 4 rfl rfl)
theorem dX1_manyRings_5 : decode cX1_manyRings 5 = .ok (.aload_n 0, 1) := dk_42 (dk_at dksX1_manyRings_0 5 rfl rfl)
theorem dX1_manyRings_6 : decode cX1_manyRings 6 = .ok (.getfield 162, 3) := dk_180 0 162 (dk_at dksX1_manyRings_0 6 rfl rfl)
theorem dX1_manyRings_9 : decode cX1_manyRings 9 = .ok (.if_icmp .ge 26, 3) := dk_162 0 26 (dk_at dksX1_manyRings_0 9 rfl rfl)
theorem dX1_manyRings_12 : decode cX1_manyRings 12 = .ok (.iload_n 1, 1) := dk_27 (dk_at dksX1_manyRings_0 12 rfl rfl)
theorem dX1_manyRings_13 : decode cX1_manyRings 13 = .ok (.aload_n 0, 1) := dk_42 (dk_at dksX1_manyRings_0 13 rfl rfl)
theorem dX1_manyRings_14 : decode cX1_manyRings 14 = .ok (.getfield 89, 3) := dk_180 0 89 (dk_at dksX1_manyRings_0 14 rfl rfl)
theorem dX1_manyRings_17 : decode cX1_manyRings 17 = .ok (.iload_n 2, 1) := dk_28 (dk_at dksX1_manyRings_0 17 rfl rfl)
theorem dX1_manyRings_18 : decode cX1_manyRings 18 = .ok (.baload, 1) := dk_51 (dk_at dksX1_manyRings_0 18 rfl rfl)
theorem dX1_manyRings_19 : decode cX1_manyRings 19 = .ok (.ifCond .eq 7, 3) := dk_153 0 7 (dk_at dksX1_manyRings_0 19 rfl rfl)
theorem dX1_manyRings_22 : decode cX1_manyRings 22 = .ok (.iconst 1, 1) := dk_4 (dk_at dksX1_manyRings_0 22 rfl rfl)
theorem dX1_manyRings_23 : decode cX1_manyRings 23 = .ok (.goto 4, 3) := dk_167 0 4 (dk_at dksX1_manyRings_1 0 rfl rfl)
theorem dX1_manyRings_26 : decode cX1_manyRings 26 = .ok (.iconst 0, 1) := dk_3 (dk_at dksX1_manyRings_1 3 rfl rfl)
theorem dX1_manyRings_27 : decode cX1_manyRings 27 = .ok (.iadd, 1) := dk_96 (dk_at dksX1_manyRings_1 4 rfl rfl)
theorem dX1_manyRings_28 : decode cX1_manyRings 28 = .ok (.istore_n 1, 1) := dk_60 (dk_at dksX1_manyRings_1 5 rfl rfl)
theorem dX1_manyRings_29 : decode cX1_manyRings 29 = .ok (.iinc 2 1, 3) := dk_132 2 1 (dk_at dksX1_manyRings_1 6 rfl rfl)
theorem dX1_manyRings_32 : decode cX1_manyRings 32 = .ok (.goto (-28), 3) := dk_167 255 228 (dk_at dksX1_manyRings_1 9 rfl rfl)
theorem dX1_manyRings_35 : decode cX1_manyRings 35 = .ok (.iload_n 1, 1) := dk_27 (dk_at dksX1_manyRings_1 12 rfl rfl)
theorem dX1_manyRings_36 : decode cX1_manyRings 36 = .ok (.ireturn, 1) := dk_172 (dk_at dksX1_manyRings_1 13 rfl rfl)
abbrev cX1_manyBroken : ByteArray := prog_14_method_52_code
def yX1_manyBroken : MethodName := ⟨RX1, "manyBroken", "()I"⟩
def dkwX1_manyBroken_1 : List UInt8 := [167, 0, 4, 3, 96, 60, 132, 2, 1, 167, 255, 229, 27, 172]
abbrev dktX1_manyBroken_1 : List UInt8 := dkwX1_manyBroken_1 ++ []
def dkwX1_manyBroken_0 : List UInt8 := [3, 60, 3, 61, 28, 42, 180, 0, 153, 162, 0, 25, 27, 42, 28, 182, 0, 191, 153, 0, 7, 4]
abbrev dktX1_manyBroken_0 : List UInt8 := dkwX1_manyBroken_0 ++ dktX1_manyBroken_1
theorem dksX1_manyBroken_0 : cX1_manyBroken.data.toList.drop 0 = dktX1_manyBroken_0 := by decide +kernel
theorem dksX1_manyBroken_1 : cX1_manyBroken.data.toList.drop 22 = dktX1_manyBroken_1 := dk_seg dksX1_manyBroken_0 22 rfl rfl
theorem dX1_manyBroken_0 : decode cX1_manyBroken 0 = .ok (.iconst 0, 1) := dk_3 (dk_at dksX1_manyBroken_0 0 rfl rfl)
theorem dX1_manyBroken_1 : decode cX1_manyBroken 1 = .ok (.istore_n 1, 1) := dk_60 (dk_at dksX1_manyBroken_0 1 rfl rfl)
theorem dX1_manyBroken_2 : decode cX1_manyBroken 2 = .ok (.iconst 0, 1) := dk_3 (dk_at dksX1_manyBroken_0 2 rfl rfl)
theorem dX1_manyBroken_3 : decode cX1_manyBroken 3 = .ok (.istore_n 2, 1) := dk_61 (dk_at dksX1_manyBroken_0 3 rfl rfl)
theorem dX1_manyBroken_4 : decode cX1_manyBroken 4 = .ok (.iload_n 2, 1) := dk_28 (dk_at dksX1_manyBroken_0 4 rfl rfl)
theorem dX1_manyBroken_5 : decode cX1_manyBroken 5 = .ok (.aload_n 0, 1) := dk_42 (dk_at dksX1_manyBroken_0 5 rfl rfl)
theorem dX1_manyBroken_6 : decode cX1_manyBroken 6 = .ok (.getfield 153, 3) := dk_180 0 153 (dk_at dksX1_manyBroken_0 6 rfl rfl)
theorem dX1_manyBroken_9 : decode cX1_manyBroken 9 = .ok (.if_icmp .ge 25, 3) := dk_162 0 25 (dk_at dksX1_manyBroken_0 9 rfl rfl)
theorem dX1_manyBroken_12 : decode cX1_manyBroken 12 = .ok (.iload_n 1, 1) := dk_27 (dk_at dksX1_manyBroken_0 12 rfl rfl)
theorem dX1_manyBroken_13 : decode cX1_manyBroken 13 = .ok (.aload_n 0, 1) := dk_42 (dk_at dksX1_manyBroken_0 13 rfl rfl)
theorem dX1_manyBroken_14 : decode cX1_manyBroken 14 = .ok (.iload_n 2, 1) := dk_28 (dk_at dksX1_manyBroken_0 14 rfl rfl)
theorem dX1_manyBroken_15 : decode cX1_manyBroken 15 = .ok (.invokevirtual 191, 3) := dk_182 0 191 (dk_at dksX1_manyBroken_0 15 rfl rfl)
theorem dX1_manyBroken_18 : decode cX1_manyBroken 18 = .ok (.ifCond .eq 7, 3) := dk_153 0 7 (dk_at dksX1_manyBroken_0 18 rfl rfl)
theorem dX1_manyBroken_21 : decode cX1_manyBroken 21 = .ok (.iconst 1, 1) := dk_4 (dk_at dksX1_manyBroken_0 21 rfl rfl)
theorem dX1_manyBroken_22 : decode cX1_manyBroken 22 = .ok (.goto 4, 3) := dk_167 0 4 (dk_at dksX1_manyBroken_1 0 rfl rfl)
theorem dX1_manyBroken_25 : decode cX1_manyBroken 25 = .ok (.iconst 0, 1) := dk_3 (dk_at dksX1_manyBroken_1 3 rfl rfl)
theorem dX1_manyBroken_26 : decode cX1_manyBroken 26 = .ok (.iadd, 1) := dk_96 (dk_at dksX1_manyBroken_1 4 rfl rfl)
theorem dX1_manyBroken_27 : decode cX1_manyBroken 27 = .ok (.istore_n 1, 1) := dk_60 (dk_at dksX1_manyBroken_1 5 rfl rfl)
theorem dX1_manyBroken_28 : decode cX1_manyBroken 28 = .ok (.iinc 2 1, 3) := dk_132 2 1 (dk_at dksX1_manyBroken_1 6 rfl rfl)
theorem dX1_manyBroken_31 : decode cX1_manyBroken 31 = .ok (.goto (-27), 3) := dk_167 255 229 (dk_at dksX1_manyBroken_1 9 rfl rfl)
theorem dX1_manyBroken_34 : decode cX1_manyBroken 34 = .ok (.iload_n 1, 1) := dk_27 (dk_at dksX1_manyBroken_1 12 rfl rfl)
theorem dX1_manyBroken_35 : decode cX1_manyBroken 35 = .ok (.ireturn, 1) := dk_172 (dk_at dksX1_manyBroken_1 13 rfl rfl)
abbrev cX1_manyIdle : ByteArray := prog_14_method_53_code
def yX1_manyIdle : MethodName := ⟨RX1, "manyIdle", "()I"⟩
def dkwX1_manyIdle_3 : List UInt8 := [132, 2, 1, 167, 255, 186, 27, 172]
abbrev dktX1_manyIdle_3 : List UInt8 := dkwX1_manyIdle_3 ++ []
def dkwX1_manyIdle_2 : List UInt8 := [46, 16, 247, 160, 0, 7, 4, 167, 0, 4, 3, 62, 27, 29, 153, 0, 7, 4, 167, 0, 4, 3, 96, 60]
abbrev dktX1_manyIdle_2 : List UInt8 := dkwX1_manyIdle_2 ++ dktX1_manyIdle_3
def dkwX1_manyIdle_1 : List UInt8 := [180, 0, 31, 5, 28, 104, 4, 96, 46, 16, 247, 159, 0, 23, 42, 180, 0, 83, 42, 180, 0, 70, 28, 46]
abbrev dktX1_manyIdle_1 : List UInt8 := dkwX1_manyIdle_1 ++ dktX1_manyIdle_2
def dkwX1_manyIdle_0 : List UInt8 := [3, 60, 3, 61, 28, 42, 180, 0, 98, 162, 0, 68, 42, 180, 0, 13, 28, 46, 5, 159, 0, 38, 42]
abbrev dktX1_manyIdle_0 : List UInt8 := dkwX1_manyIdle_0 ++ dktX1_manyIdle_1
theorem dksX1_manyIdle_0 : cX1_manyIdle.data.toList.drop 0 = dktX1_manyIdle_0 := by decide +kernel
theorem dksX1_manyIdle_1 : cX1_manyIdle.data.toList.drop 23 = dktX1_manyIdle_1 := dk_seg dksX1_manyIdle_0 23 rfl rfl
theorem dksX1_manyIdle_2 : cX1_manyIdle.data.toList.drop 47 = dktX1_manyIdle_2 := dk_seg dksX1_manyIdle_1 24 rfl rfl
theorem dksX1_manyIdle_3 : cX1_manyIdle.data.toList.drop 71 = dktX1_manyIdle_3 := dk_seg dksX1_manyIdle_2 24 rfl rfl
theorem dX1_manyIdle_0 : decode cX1_manyIdle 0 = .ok (.iconst 0, 1) := dk_3 (dk_at dksX1_manyIdle_0 0 rfl rfl)
theorem dX1_manyIdle_1 : decode cX1_manyIdle 1 = .ok (.istore_n 1, 1) := dk_60 (dk_at dksX1_manyIdle_0 1 rfl rfl)
theorem dX1_manyIdle_2 : decode cX1_manyIdle 2 = .ok (.iconst 0, 1) := dk_3 (dk_at dksX1_manyIdle_0 2 rfl rfl)
theorem dX1_manyIdle_3 : decode cX1_manyIdle 3 = .ok (.istore_n 2, 1) := dk_61 (dk_at dksX1_manyIdle_0 3 rfl rfl)
theorem dX1_manyIdle_4 : decode cX1_manyIdle 4 = .ok (.iload_n 2, 1) := dk_28 (dk_at dksX1_manyIdle_0 4 rfl rfl)
theorem dX1_manyIdle_5 : decode cX1_manyIdle 5 = .ok (.aload_n 0, 1) := dk_42 (dk_at dksX1_manyIdle_0 5 rfl rfl)
theorem dX1_manyIdle_6 : decode cX1_manyIdle 6 = .ok (.getfield 98, 3) := dk_180 0 98 (dk_at dksX1_manyIdle_0 6 rfl rfl)
theorem dX1_manyIdle_9 : decode cX1_manyIdle 9 = .ok (.if_icmp .ge 68, 3) := dk_162 0 68 (dk_at dksX1_manyIdle_0 9 rfl rfl)
theorem dX1_manyIdle_12 : decode cX1_manyIdle 12 = .ok (.aload_n 0, 1) := dk_42 (dk_at dksX1_manyIdle_0 12 rfl rfl)
theorem dX1_manyIdle_13 : decode cX1_manyIdle 13 = .ok (.getfield 13, 3) := dk_180 0 13 (dk_at dksX1_manyIdle_0 13 rfl rfl)
theorem dX1_manyIdle_16 : decode cX1_manyIdle 16 = .ok (.iload_n 2, 1) := dk_28 (dk_at dksX1_manyIdle_0 16 rfl rfl)
theorem dX1_manyIdle_17 : decode cX1_manyIdle 17 = .ok (.iaload, 1) := dk_46 (dk_at dksX1_manyIdle_0 17 rfl rfl)
theorem dX1_manyIdle_18 : decode cX1_manyIdle 18 = .ok (.iconst 2, 1) := dk_5 (dk_at dksX1_manyIdle_0 18 rfl rfl)
theorem dX1_manyIdle_19 : decode cX1_manyIdle 19 = .ok (.if_icmp .eq 38, 3) := dk_159 0 38 (dk_at dksX1_manyIdle_0 19 rfl rfl)
theorem dX1_manyIdle_22 : decode cX1_manyIdle 22 = .ok (.aload_n 0, 1) := dk_42 (dk_at dksX1_manyIdle_0 22 rfl rfl)
theorem dX1_manyIdle_23 : decode cX1_manyIdle 23 = .ok (.getfield 31, 3) := dk_180 0 31 (dk_at dksX1_manyIdle_1 0 rfl rfl)
theorem dX1_manyIdle_26 : decode cX1_manyIdle 26 = .ok (.iconst 2, 1) := dk_5 (dk_at dksX1_manyIdle_1 3 rfl rfl)
theorem dX1_manyIdle_27 : decode cX1_manyIdle 27 = .ok (.iload_n 2, 1) := dk_28 (dk_at dksX1_manyIdle_1 4 rfl rfl)
theorem dX1_manyIdle_28 : decode cX1_manyIdle 28 = .ok (.imul, 1) := dk_104 (dk_at dksX1_manyIdle_1 5 rfl rfl)
theorem dX1_manyIdle_29 : decode cX1_manyIdle 29 = .ok (.iconst 1, 1) := dk_4 (dk_at dksX1_manyIdle_1 6 rfl rfl)
theorem dX1_manyIdle_30 : decode cX1_manyIdle 30 = .ok (.iadd, 1) := dk_96 (dk_at dksX1_manyIdle_1 7 rfl rfl)
theorem dX1_manyIdle_31 : decode cX1_manyIdle 31 = .ok (.iaload, 1) := dk_46 (dk_at dksX1_manyIdle_1 8 rfl rfl)
theorem dX1_manyIdle_32 : decode cX1_manyIdle 32 = .ok (.bipush (-9), 2) := dk_16 247 (dk_at dksX1_manyIdle_1 9 rfl rfl)
theorem dX1_manyIdle_34 : decode cX1_manyIdle 34 = .ok (.if_icmp .eq 23, 3) := dk_159 0 23 (dk_at dksX1_manyIdle_1 11 rfl rfl)
theorem dX1_manyIdle_37 : decode cX1_manyIdle 37 = .ok (.aload_n 0, 1) := dk_42 (dk_at dksX1_manyIdle_1 14 rfl rfl)
theorem dX1_manyIdle_38 : decode cX1_manyIdle 38 = .ok (.getfield 83, 3) := dk_180 0 83 (dk_at dksX1_manyIdle_1 15 rfl rfl)
theorem dX1_manyIdle_41 : decode cX1_manyIdle 41 = .ok (.aload_n 0, 1) := dk_42 (dk_at dksX1_manyIdle_1 18 rfl rfl)
theorem dX1_manyIdle_42 : decode cX1_manyIdle 42 = .ok (.getfield 70, 3) := dk_180 0 70 (dk_at dksX1_manyIdle_1 19 rfl rfl)
theorem dX1_manyIdle_45 : decode cX1_manyIdle 45 = .ok (.iload_n 2, 1) := dk_28 (dk_at dksX1_manyIdle_1 22 rfl rfl)
theorem dX1_manyIdle_46 : decode cX1_manyIdle 46 = .ok (.iaload, 1) := dk_46 (dk_at dksX1_manyIdle_1 23 rfl rfl)
theorem dX1_manyIdle_47 : decode cX1_manyIdle 47 = .ok (.iaload, 1) := dk_46 (dk_at dksX1_manyIdle_2 0 rfl rfl)
theorem dX1_manyIdle_48 : decode cX1_manyIdle 48 = .ok (.bipush (-9), 2) := dk_16 247 (dk_at dksX1_manyIdle_2 1 rfl rfl)
theorem dX1_manyIdle_50 : decode cX1_manyIdle 50 = .ok (.if_icmp .ne 7, 3) := dk_160 0 7 (dk_at dksX1_manyIdle_2 3 rfl rfl)
theorem dX1_manyIdle_53 : decode cX1_manyIdle 53 = .ok (.iconst 1, 1) := dk_4 (dk_at dksX1_manyIdle_2 6 rfl rfl)
theorem dX1_manyIdle_54 : decode cX1_manyIdle 54 = .ok (.goto 4, 3) := dk_167 0 4 (dk_at dksX1_manyIdle_2 7 rfl rfl)
theorem dX1_manyIdle_57 : decode cX1_manyIdle 57 = .ok (.iconst 0, 1) := dk_3 (dk_at dksX1_manyIdle_2 10 rfl rfl)
theorem dX1_manyIdle_58 : decode cX1_manyIdle 58 = .ok (.istore_n 3, 1) := dk_62 (dk_at dksX1_manyIdle_2 11 rfl rfl)
theorem dX1_manyIdle_59 : decode cX1_manyIdle 59 = .ok (.iload_n 1, 1) := dk_27 (dk_at dksX1_manyIdle_2 12 rfl rfl)
theorem dX1_manyIdle_60 : decode cX1_manyIdle 60 = .ok (.iload_n 3, 1) := dk_29 (dk_at dksX1_manyIdle_2 13 rfl rfl)
theorem dX1_manyIdle_61 : decode cX1_manyIdle 61 = .ok (.ifCond .eq 7, 3) := dk_153 0 7 (dk_at dksX1_manyIdle_2 14 rfl rfl)
theorem dX1_manyIdle_64 : decode cX1_manyIdle 64 = .ok (.iconst 1, 1) := dk_4 (dk_at dksX1_manyIdle_2 17 rfl rfl)
theorem dX1_manyIdle_65 : decode cX1_manyIdle 65 = .ok (.goto 4, 3) := dk_167 0 4 (dk_at dksX1_manyIdle_2 18 rfl rfl)
theorem dX1_manyIdle_68 : decode cX1_manyIdle 68 = .ok (.iconst 0, 1) := dk_3 (dk_at dksX1_manyIdle_2 21 rfl rfl)
theorem dX1_manyIdle_69 : decode cX1_manyIdle 69 = .ok (.iadd, 1) := dk_96 (dk_at dksX1_manyIdle_2 22 rfl rfl)
theorem dX1_manyIdle_70 : decode cX1_manyIdle 70 = .ok (.istore_n 1, 1) := dk_60 (dk_at dksX1_manyIdle_2 23 rfl rfl)
theorem dX1_manyIdle_71 : decode cX1_manyIdle 71 = .ok (.iinc 2 1, 3) := dk_132 2 1 (dk_at dksX1_manyIdle_3 0 rfl rfl)
theorem dX1_manyIdle_74 : decode cX1_manyIdle 74 = .ok (.goto (-70), 3) := dk_167 255 186 (dk_at dksX1_manyIdle_3 3 rfl rfl)
theorem dX1_manyIdle_77 : decode cX1_manyIdle 77 = .ok (.iload_n 1, 1) := dk_27 (dk_at dksX1_manyIdle_3 6 rfl rfl)
theorem dX1_manyIdle_78 : decode cX1_manyIdle 78 = .ok (.ireturn, 1) := dk_172 (dk_at dksX1_manyIdle_3 7 rfl rfl)
abbrev cX1_manyLost : ByteArray := prog_14_method_54_code
def yX1_manyLost : MethodName := ⟨RX1, "manyLost", "()I"⟩
def dkwX1_manyLost_2 : List UInt8 := [172]
abbrev dktX1_manyLost_2 : List UInt8 := dkwX1_manyLost_2 ++ []
def dkwX1_manyLost_1 : List UInt8 := [180, 0, 52, 28, 46, 16, 247, 160, 0, 7, 4, 167, 0, 4, 3, 96, 60, 132, 2, 1, 167, 255, 216, 27]
abbrev dktX1_manyLost_1 : List UInt8 := dkwX1_manyLost_1 ++ dktX1_manyLost_2
def dkwX1_manyLost_0 : List UInt8 := [3, 60, 3, 61, 28, 42, 180, 0, 98, 162, 0, 38, 27, 42, 180, 0, 13, 28, 46, 5, 160, 0, 18, 42]
abbrev dktX1_manyLost_0 : List UInt8 := dkwX1_manyLost_0 ++ dktX1_manyLost_1
theorem dksX1_manyLost_0 : cX1_manyLost.data.toList.drop 0 = dktX1_manyLost_0 := by decide +kernel
theorem dksX1_manyLost_1 : cX1_manyLost.data.toList.drop 24 = dktX1_manyLost_1 := dk_seg dksX1_manyLost_0 24 rfl rfl
theorem dksX1_manyLost_2 : cX1_manyLost.data.toList.drop 48 = dktX1_manyLost_2 := dk_seg dksX1_manyLost_1 24 rfl rfl
theorem dX1_manyLost_0 : decode cX1_manyLost 0 = .ok (.iconst 0, 1) := dk_3 (dk_at dksX1_manyLost_0 0 rfl rfl)
theorem dX1_manyLost_1 : decode cX1_manyLost 1 = .ok (.istore_n 1, 1) := dk_60 (dk_at dksX1_manyLost_0 1 rfl rfl)
theorem dX1_manyLost_2 : decode cX1_manyLost 2 = .ok (.iconst 0, 1) := dk_3 (dk_at dksX1_manyLost_0 2 rfl rfl)
theorem dX1_manyLost_3 : decode cX1_manyLost 3 = .ok (.istore_n 2, 1) := dk_61 (dk_at dksX1_manyLost_0 3 rfl rfl)
theorem dX1_manyLost_4 : decode cX1_manyLost 4 = .ok (.iload_n 2, 1) := dk_28 (dk_at dksX1_manyLost_0 4 rfl rfl)
theorem dX1_manyLost_5 : decode cX1_manyLost 5 = .ok (.aload_n 0, 1) := dk_42 (dk_at dksX1_manyLost_0 5 rfl rfl)
theorem dX1_manyLost_6 : decode cX1_manyLost 6 = .ok (.getfield 98, 3) := dk_180 0 98 (dk_at dksX1_manyLost_0 6 rfl rfl)
theorem dX1_manyLost_9 : decode cX1_manyLost 9 = .ok (.if_icmp .ge 38, 3) := dk_162 0 38 (dk_at dksX1_manyLost_0 9 rfl rfl)
theorem dX1_manyLost_12 : decode cX1_manyLost 12 = .ok (.iload_n 1, 1) := dk_27 (dk_at dksX1_manyLost_0 12 rfl rfl)
theorem dX1_manyLost_13 : decode cX1_manyLost 13 = .ok (.aload_n 0, 1) := dk_42 (dk_at dksX1_manyLost_0 13 rfl rfl)
theorem dX1_manyLost_14 : decode cX1_manyLost 14 = .ok (.getfield 13, 3) := dk_180 0 13 (dk_at dksX1_manyLost_0 14 rfl rfl)
theorem dX1_manyLost_17 : decode cX1_manyLost 17 = .ok (.iload_n 2, 1) := dk_28 (dk_at dksX1_manyLost_0 17 rfl rfl)
theorem dX1_manyLost_18 : decode cX1_manyLost 18 = .ok (.iaload, 1) := dk_46 (dk_at dksX1_manyLost_0 18 rfl rfl)
theorem dX1_manyLost_19 : decode cX1_manyLost 19 = .ok (.iconst 2, 1) := dk_5 (dk_at dksX1_manyLost_0 19 rfl rfl)
theorem dX1_manyLost_20 : decode cX1_manyLost 20 = .ok (.if_icmp .ne 18, 3) := dk_160 0 18 (dk_at dksX1_manyLost_0 20 rfl rfl)
theorem dX1_manyLost_23 : decode cX1_manyLost 23 = .ok (.aload_n 0, 1) := dk_42 (dk_at dksX1_manyLost_0 23 rfl rfl)
theorem dX1_manyLost_24 : decode cX1_manyLost 24 = .ok (.getfield 52, 3) := dk_180 0 52 (dk_at dksX1_manyLost_1 0 rfl rfl)
theorem dX1_manyLost_27 : decode cX1_manyLost 27 = .ok (.iload_n 2, 1) := dk_28 (dk_at dksX1_manyLost_1 3 rfl rfl)
theorem dX1_manyLost_28 : decode cX1_manyLost 28 = .ok (.iaload, 1) := dk_46 (dk_at dksX1_manyLost_1 4 rfl rfl)
theorem dX1_manyLost_29 : decode cX1_manyLost 29 = .ok (.bipush (-9), 2) := dk_16 247 (dk_at dksX1_manyLost_1 5 rfl rfl)
theorem dX1_manyLost_31 : decode cX1_manyLost 31 = .ok (.if_icmp .ne 7, 3) := dk_160 0 7 (dk_at dksX1_manyLost_1 7 rfl rfl)
theorem dX1_manyLost_34 : decode cX1_manyLost 34 = .ok (.iconst 1, 1) := dk_4 (dk_at dksX1_manyLost_1 10 rfl rfl)
theorem dX1_manyLost_35 : decode cX1_manyLost 35 = .ok (.goto 4, 3) := dk_167 0 4 (dk_at dksX1_manyLost_1 11 rfl rfl)
theorem dX1_manyLost_38 : decode cX1_manyLost 38 = .ok (.iconst 0, 1) := dk_3 (dk_at dksX1_manyLost_1 14 rfl rfl)
theorem dX1_manyLost_39 : decode cX1_manyLost 39 = .ok (.iadd, 1) := dk_96 (dk_at dksX1_manyLost_1 15 rfl rfl)
theorem dX1_manyLost_40 : decode cX1_manyLost 40 = .ok (.istore_n 1, 1) := dk_60 (dk_at dksX1_manyLost_1 16 rfl rfl)
theorem dX1_manyLost_41 : decode cX1_manyLost 41 = .ok (.iinc 2 1, 3) := dk_132 2 1 (dk_at dksX1_manyLost_1 17 rfl rfl)
theorem dX1_manyLost_44 : decode cX1_manyLost 44 = .ok (.goto (-40), 3) := dk_167 255 216 (dk_at dksX1_manyLost_1 20 rfl rfl)
theorem dX1_manyLost_47 : decode cX1_manyLost 47 = .ok (.iload_n 1, 1) := dk_27 (dk_at dksX1_manyLost_1 23 rfl rfl)
theorem dX1_manyLost_48 : decode cX1_manyLost 48 = .ok (.ireturn, 1) := dk_172 (dk_at dksX1_manyLost_2 0 rfl rfl)
theorem q63 : (Jvm.Cond.initialized "StoryColumnsModel") ∈ lw_all := lw_g (lw_at lw_m1 5 rfl) rfl
theorem q494 : (Jvm.Cond.selects "StoryColumnsModel" ({ cls := "java/lang/Object", name := "getClass", desc := "()Ljava/lang/Class;" } : Jvm.MethodName) ({ cls := "java/lang/Object", name := "getClass", desc := "()Ljava/lang/Class;" } : Jvm.MethodName)) ∈ lw_all := lw_g (lw_at lw_m2 196 rfl) rfl
theorem q1033 : (Jvm.Cond.instantiable "StoryColumnsModel" (34 : Nat)) ∈ lw_all := lw_g (lw_at lw_m5 15 rfl) rfl
theorem q1035 : (Jvm.Cond.instanceMethod ({ cls := "StoryColumnsModel", name := "<init>", desc := "()V" } : Jvm.MethodName)) ∈ lw_all := lw_g (lw_at lw_m5 17 rfl) rfl
theorem q1036 : (Jvm.Cond.code ({ cls := "StoryColumnsModel", name := "<init>", desc := "()V" } : Jvm.MethodName) prog_14_method_1_code (1 : Nat) (Option.none : Option Jvm.ClassFile.FieldType)) ∈ lw_all := lw_g (lw_at lw_m5 18 rfl) rfl
theorem q1037 : (Jvm.Cond.methodLink "StoryColumnsModel" (1 : Nat) ({ cls := "java/lang/Object", name := "<init>", desc := "()V" } : Jvm.MethodName)) ∈ lw_all := lw_g (lw_at lw_m5 19 rfl) rfl
theorem q1038 : (Jvm.Cond.fieldLink "StoryColumnsModel" (98 : Nat) "StoryColumnsModel" "blocks" "I") ∈ lw_all := lw_g (lw_at lw_m5 20 rfl) rfl
theorem q1039 : (Jvm.Cond.fieldLink "StoryColumnsModel" (7 : Nat) "StoryColumnsModel" "pageOf" "[I") ∈ lw_all := lw_g (lw_at lw_m5 21 rfl) rfl
theorem q1040 : (Jvm.Cond.fieldLink "StoryColumnsModel" (13 : Nat) "StoryColumnsModel" "kindOf" "[I") ∈ lw_all := lw_g (lw_at lw_m5 22 rfl) rfl
theorem q1041 : (Jvm.Cond.fieldLink "StoryColumnsModel" (16 : Nat) "StoryColumnsModel" "left" "[I") ∈ lw_all := lw_g (lw_at lw_m5 23 rfl) rfl
theorem q1042 : (Jvm.Cond.fieldLink "StoryColumnsModel" (19 : Nat) "StoryColumnsModel" "right" "[I") ∈ lw_all := lw_g (lw_at lw_m5 24 rfl) rfl
theorem q1043 : (Jvm.Cond.fieldLink "StoryColumnsModel" (22 : Nat) "StoryColumnsModel" "top" "[I") ∈ lw_all := lw_g (lw_at lw_m5 25 rfl) rfl
theorem q1044 : (Jvm.Cond.fieldLink "StoryColumnsModel" (25 : Nat) "StoryColumnsModel" "bottom" "[I") ∈ lw_all := lw_g (lw_at lw_m5 26 rfl) rfl
theorem q1045 : (Jvm.Cond.fieldLink "StoryColumnsModel" (28 : Nat) "StoryColumnsModel" "wordsOf" "[I") ∈ lw_all := lw_g (lw_at lw_m5 27 rfl) rfl
theorem q1046 : (Jvm.Cond.fieldLink "StoryColumnsModel" (31 : Nat) "StoryColumnsModel" "markPage" "[I") ∈ lw_all := lw_g (lw_at lw_m5 28 rfl) rfl
theorem q1047 : (Jvm.Cond.fieldLink "StoryColumnsModel" (34 : Nat) "StoryColumnsModel" "markWord" "[I") ∈ lw_all := lw_g (lw_at lw_m5 29 rfl) rfl
theorem q1048 : (Jvm.Cond.fieldLink "StoryColumnsModel" (114 : Nat) "StoryColumnsModel" "lines" "I") ∈ lw_all := lw_g (lw_at lw_m5 30 rfl) rfl
theorem q1049 : (Jvm.Cond.fieldLink "StoryColumnsModel" (37 : Nat) "StoryColumnsModel" "linePage" "[I") ∈ lw_all := lw_g (lw_at lw_m5 31 rfl) rfl
theorem q1050 : (Jvm.Cond.fieldLink "StoryColumnsModel" (40 : Nat) "StoryColumnsModel" "lineHow" "[I") ∈ lw_all := lw_g (lw_at lw_m5 32 rfl) rfl
theorem q1051 : (Jvm.Cond.fieldLink "StoryColumnsModel" (43 : Nat) "StoryColumnsModel" "lineAt" "[I") ∈ lw_all := lw_g (lw_at lw_m5 33 rfl) rfl
theorem q1052 : (Jvm.Cond.fieldLink "StoryColumnsModel" (46 : Nat) "StoryColumnsModel" "lineFrom" "[I") ∈ lw_all := lw_g (lw_at lw_m5 34 rfl) rfl
theorem q1053 : (Jvm.Cond.fieldLink "StoryColumnsModel" (49 : Nat) "StoryColumnsModel" "lineTo" "[I") ∈ lw_all := lw_g (lw_at lw_m5 35 rfl) rfl
theorem q1054 : (Jvm.Cond.fieldLink "StoryColumnsModel" (52 : Nat) "StoryColumnsModel" "underOf" "[I") ∈ lw_all := lw_g (lw_at lw_m5 36 rfl) rfl
theorem q1055 : (Jvm.Cond.fieldLink "StoryColumnsModel" (55 : Nat) "StoryColumnsModel" "headOf" "[I") ∈ lw_all := lw_g (lw_at lw_m5 37 rfl) rfl
theorem q1056 : (Jvm.Cond.fieldLink "StoryColumnsModel" (58 : Nat) "StoryColumnsModel" "takerOf" "[I") ∈ lw_all := lw_g (lw_at lw_m5 38 rfl) rfl
theorem q1057 : (Jvm.Cond.fieldLink "StoryColumnsModel" (61 : Nat) "StoryColumnsModel" "textsOf" "[I") ∈ lw_all := lw_g (lw_at lw_m5 39 rfl) rfl
theorem q1058 : (Jvm.Cond.fieldLink "StoryColumnsModel" (64 : Nat) "StoryColumnsModel" "textAt" "[I") ∈ lw_all := lw_g (lw_at lw_m5 40 rfl) rfl
theorem q1059 : (Jvm.Cond.fieldLink "StoryColumnsModel" (153 : Nat) "StoryColumnsModel" "stories" "I") ∈ lw_all := lw_g (lw_at lw_m5 41 rfl) rfl
theorem q1060 : (Jvm.Cond.fieldLink "StoryColumnsModel" (67 : Nat) "StoryColumnsModel" "storyBlock" "[I") ∈ lw_all := lw_g (lw_at lw_m5 42 rfl) rfl
theorem q1061 : (Jvm.Cond.fieldLink "StoryColumnsModel" (70 : Nat) "StoryColumnsModel" "storyOf" "[I") ∈ lw_all := lw_g (lw_at lw_m5 43 rfl) rfl
theorem q1062 : (Jvm.Cond.fieldLink "StoryColumnsModel" (73 : Nat) "StoryColumnsModel" "goesOn" "[Z") ∈ lw_all := lw_g (lw_at lw_m5 44 rfl) rfl
theorem q1063 : (Jvm.Cond.fieldLink "StoryColumnsModel" (77 : Nat) "StoryColumnsModel" "aimOf" "[I") ∈ lw_all := lw_g (lw_at lw_m5 45 rfl) rfl
theorem q1064 : (Jvm.Cond.fieldLink "StoryColumnsModel" (80 : Nat) "StoryColumnsModel" "linkedTo" "[I") ∈ lw_all := lw_g (lw_at lw_m5 46 rfl) rfl
theorem q1065 : (Jvm.Cond.fieldLink "StoryColumnsModel" (83 : Nat) "StoryColumnsModel" "linkedFrom" "[I") ∈ lw_all := lw_g (lw_at lw_m5 47 rfl) rfl
theorem q1066 : (Jvm.Cond.fieldLink "StoryColumnsModel" (162 : Nat) "StoryColumnsModel" "articles" "I") ∈ lw_all := lw_g (lw_at lw_m5 48 rfl) rfl
theorem q1067 : (Jvm.Cond.fieldLink "StoryColumnsModel" (86 : Nat) "StoryColumnsModel" "articleAt" "[I") ∈ lw_all := lw_g (lw_at lw_m5 49 rfl) rfl
theorem q1068 : (Jvm.Cond.fieldLink "StoryColumnsModel" (89 : Nat) "StoryColumnsModel" "isRing" "[Z") ∈ lw_all := lw_g (lw_at lw_m5 50 rfl) rfl
theorem q1069 : (Jvm.Cond.fieldLink "StoryColumnsModel" (92 : Nat) "StoryColumnsModel" "inRow" "[I") ∈ lw_all := lw_g (lw_at lw_m5 51 rfl) rfl
theorem q1070 : (Jvm.Cond.fieldLink "StoryColumnsModel" (95 : Nat) "StoryColumnsModel" "articleOf" "[I") ∈ lw_all := lw_g (lw_at lw_m5 52 rfl) rfl
theorem q1071 : (Jvm.Cond.fieldLink "StoryColumnsModel" (165 : Nat) "StoryColumnsModel" "laid" "I") ∈ lw_all := lw_g (lw_at lw_m5 53 rfl) rfl
theorem q1072 : (Jvm.Cond.lays "StoryColumnsModel" "StoryColumnsModel" "blocks" "I") ∈ lw_all := lw_g (lw_at lw_m5 54 rfl) rfl
theorem q1073 : (Jvm.Cond.soleField "StoryColumnsModel" "blocks") ∈ lw_all := lw_g (lw_at lw_m5 55 rfl) rfl
theorem q1074 : (Jvm.Cond.laysFinal "StoryColumnsModel" "StoryColumnsModel" "pageOf" "[I") ∈ lw_all := lw_g (lw_at lw_m5 56 rfl) rfl
theorem q1075 : (Jvm.Cond.soleField "StoryColumnsModel" "pageOf") ∈ lw_all := lw_g (lw_at lw_m5 57 rfl) rfl
theorem q1076 : (Jvm.Cond.laysFinal "StoryColumnsModel" "StoryColumnsModel" "kindOf" "[I") ∈ lw_all := lw_g (lw_at lw_m5 58 rfl) rfl
theorem q1077 : (Jvm.Cond.soleField "StoryColumnsModel" "kindOf") ∈ lw_all := lw_g (lw_at lw_m5 59 rfl) rfl
theorem q1078 : (Jvm.Cond.laysFinal "StoryColumnsModel" "StoryColumnsModel" "left" "[I") ∈ lw_all := lw_g (lw_at lw_m5 60 rfl) rfl
theorem q1079 : (Jvm.Cond.soleField "StoryColumnsModel" "left") ∈ lw_all := lw_g (lw_at lw_m5 61 rfl) rfl
theorem q1080 : (Jvm.Cond.laysFinal "StoryColumnsModel" "StoryColumnsModel" "right" "[I") ∈ lw_all := lw_g (lw_at lw_m5 62 rfl) rfl
theorem q1081 : (Jvm.Cond.soleField "StoryColumnsModel" "right") ∈ lw_all := lw_g (lw_at lw_m5 63 rfl) rfl
theorem q1082 : (Jvm.Cond.laysFinal "StoryColumnsModel" "StoryColumnsModel" "top" "[I") ∈ lw_all := lw_g (lw_at lw_m5 64 rfl) rfl
theorem q1083 : (Jvm.Cond.soleField "StoryColumnsModel" "top") ∈ lw_all := lw_g (lw_at lw_m5 65 rfl) rfl
theorem q1084 : (Jvm.Cond.laysFinal "StoryColumnsModel" "StoryColumnsModel" "bottom" "[I") ∈ lw_all := lw_g (lw_at lw_m5 66 rfl) rfl
theorem q1085 : (Jvm.Cond.soleField "StoryColumnsModel" "bottom") ∈ lw_all := lw_g (lw_at lw_m5 67 rfl) rfl
theorem q1086 : (Jvm.Cond.laysFinal "StoryColumnsModel" "StoryColumnsModel" "wordsOf" "[I") ∈ lw_all := lw_g (lw_at lw_m5 68 rfl) rfl
theorem q1087 : (Jvm.Cond.soleField "StoryColumnsModel" "wordsOf") ∈ lw_all := lw_g (lw_at lw_m5 69 rfl) rfl
theorem q1088 : (Jvm.Cond.laysFinal "StoryColumnsModel" "StoryColumnsModel" "markPage" "[I") ∈ lw_all := lw_g (lw_at lw_m5 70 rfl) rfl
theorem q1089 : (Jvm.Cond.soleField "StoryColumnsModel" "markPage") ∈ lw_all := lw_g (lw_at lw_m5 71 rfl) rfl
theorem q1090 : (Jvm.Cond.laysFinal "StoryColumnsModel" "StoryColumnsModel" "markWord" "[I") ∈ lw_all := lw_g (lw_at lw_m5 72 rfl) rfl
theorem q1091 : (Jvm.Cond.soleField "StoryColumnsModel" "markWord") ∈ lw_all := lw_g (lw_at lw_m5 73 rfl) rfl
theorem q1092 : (Jvm.Cond.lays "StoryColumnsModel" "StoryColumnsModel" "lines" "I") ∈ lw_all := lw_g (lw_at lw_m5 74 rfl) rfl
theorem q1093 : (Jvm.Cond.soleField "StoryColumnsModel" "lines") ∈ lw_all := lw_g (lw_at lw_m5 75 rfl) rfl
theorem q1094 : (Jvm.Cond.laysFinal "StoryColumnsModel" "StoryColumnsModel" "linePage" "[I") ∈ lw_all := lw_g (lw_at lw_m5 76 rfl) rfl
theorem q1095 : (Jvm.Cond.soleField "StoryColumnsModel" "linePage") ∈ lw_all := lw_g (lw_at lw_m5 77 rfl) rfl
theorem q1096 : (Jvm.Cond.laysFinal "StoryColumnsModel" "StoryColumnsModel" "lineHow" "[I") ∈ lw_all := lw_g (lw_at lw_m5 78 rfl) rfl
theorem q1097 : (Jvm.Cond.soleField "StoryColumnsModel" "lineHow") ∈ lw_all := lw_g (lw_at lw_m5 79 rfl) rfl
theorem q1098 : (Jvm.Cond.laysFinal "StoryColumnsModel" "StoryColumnsModel" "lineAt" "[I") ∈ lw_all := lw_g (lw_at lw_m5 80 rfl) rfl
theorem q1099 : (Jvm.Cond.soleField "StoryColumnsModel" "lineAt") ∈ lw_all := lw_g (lw_at lw_m5 81 rfl) rfl
theorem q1100 : (Jvm.Cond.laysFinal "StoryColumnsModel" "StoryColumnsModel" "lineFrom" "[I") ∈ lw_all := lw_g (lw_at lw_m5 82 rfl) rfl
theorem q1101 : (Jvm.Cond.soleField "StoryColumnsModel" "lineFrom") ∈ lw_all := lw_g (lw_at lw_m5 83 rfl) rfl
theorem q1102 : (Jvm.Cond.laysFinal "StoryColumnsModel" "StoryColumnsModel" "lineTo" "[I") ∈ lw_all := lw_g (lw_at lw_m5 84 rfl) rfl
theorem q1103 : (Jvm.Cond.soleField "StoryColumnsModel" "lineTo") ∈ lw_all := lw_g (lw_at lw_m5 85 rfl) rfl
theorem q1104 : (Jvm.Cond.laysFinal "StoryColumnsModel" "StoryColumnsModel" "underOf" "[I") ∈ lw_all := lw_g (lw_at lw_m5 86 rfl) rfl
theorem q1105 : (Jvm.Cond.soleField "StoryColumnsModel" "underOf") ∈ lw_all := lw_g (lw_at lw_m5 87 rfl) rfl
theorem q1106 : (Jvm.Cond.laysFinal "StoryColumnsModel" "StoryColumnsModel" "headOf" "[I") ∈ lw_all := lw_g (lw_at lw_m5 88 rfl) rfl
theorem q1107 : (Jvm.Cond.soleField "StoryColumnsModel" "headOf") ∈ lw_all := lw_g (lw_at lw_m5 89 rfl) rfl
theorem q1108 : (Jvm.Cond.laysFinal "StoryColumnsModel" "StoryColumnsModel" "takerOf" "[I") ∈ lw_all := lw_g (lw_at lw_m5 90 rfl) rfl
theorem q1109 : (Jvm.Cond.soleField "StoryColumnsModel" "takerOf") ∈ lw_all := lw_g (lw_at lw_m5 91 rfl) rfl
theorem q1110 : (Jvm.Cond.laysFinal "StoryColumnsModel" "StoryColumnsModel" "textsOf" "[I") ∈ lw_all := lw_g (lw_at lw_m5 92 rfl) rfl
theorem q1111 : (Jvm.Cond.soleField "StoryColumnsModel" "textsOf") ∈ lw_all := lw_g (lw_at lw_m5 93 rfl) rfl
theorem q1112 : (Jvm.Cond.laysFinal "StoryColumnsModel" "StoryColumnsModel" "textAt" "[I") ∈ lw_all := lw_g (lw_at lw_m5 94 rfl) rfl
theorem q1113 : (Jvm.Cond.soleField "StoryColumnsModel" "textAt") ∈ lw_all := lw_g (lw_at lw_m5 95 rfl) rfl
theorem q1114 : (Jvm.Cond.lays "StoryColumnsModel" "StoryColumnsModel" "stories" "I") ∈ lw_all := lw_g (lw_at lw_m5 96 rfl) rfl
theorem q1115 : (Jvm.Cond.soleField "StoryColumnsModel" "stories") ∈ lw_all := lw_g (lw_at lw_m5 97 rfl) rfl
theorem q1116 : (Jvm.Cond.laysFinal "StoryColumnsModel" "StoryColumnsModel" "storyBlock" "[I") ∈ lw_all := lw_g (lw_at lw_m5 98 rfl) rfl
theorem q1117 : (Jvm.Cond.soleField "StoryColumnsModel" "storyBlock") ∈ lw_all := lw_g (lw_at lw_m5 99 rfl) rfl
theorem q1118 : (Jvm.Cond.laysFinal "StoryColumnsModel" "StoryColumnsModel" "storyOf" "[I") ∈ lw_all := lw_g (lw_at lw_m5 100 rfl) rfl
theorem q1119 : (Jvm.Cond.soleField "StoryColumnsModel" "storyOf") ∈ lw_all := lw_g (lw_at lw_m5 101 rfl) rfl
theorem q1120 : (Jvm.Cond.laysFinal "StoryColumnsModel" "StoryColumnsModel" "goesOn" "[Z") ∈ lw_all := lw_g (lw_at lw_m5 102 rfl) rfl
theorem q1121 : (Jvm.Cond.soleField "StoryColumnsModel" "goesOn") ∈ lw_all := lw_g (lw_at lw_m5 103 rfl) rfl
theorem q1122 : (Jvm.Cond.laysFinal "StoryColumnsModel" "StoryColumnsModel" "aimOf" "[I") ∈ lw_all := lw_g (lw_at lw_m5 104 rfl) rfl
theorem q1123 : (Jvm.Cond.soleField "StoryColumnsModel" "aimOf") ∈ lw_all := lw_g (lw_at lw_m5 105 rfl) rfl
theorem q1124 : (Jvm.Cond.laysFinal "StoryColumnsModel" "StoryColumnsModel" "linkedTo" "[I") ∈ lw_all := lw_g (lw_at lw_m5 106 rfl) rfl
theorem q1125 : (Jvm.Cond.soleField "StoryColumnsModel" "linkedTo") ∈ lw_all := lw_g (lw_at lw_m5 107 rfl) rfl
theorem q1126 : (Jvm.Cond.laysFinal "StoryColumnsModel" "StoryColumnsModel" "linkedFrom" "[I") ∈ lw_all := lw_g (lw_at lw_m5 108 rfl) rfl
theorem q1127 : (Jvm.Cond.soleField "StoryColumnsModel" "linkedFrom") ∈ lw_all := lw_g (lw_at lw_m5 109 rfl) rfl
theorem q1128 : (Jvm.Cond.lays "StoryColumnsModel" "StoryColumnsModel" "articles" "I") ∈ lw_all := lw_g (lw_at lw_m5 110 rfl) rfl
theorem q1129 : (Jvm.Cond.soleField "StoryColumnsModel" "articles") ∈ lw_all := lw_g (lw_at lw_m5 111 rfl) rfl
theorem q1130 : (Jvm.Cond.laysFinal "StoryColumnsModel" "StoryColumnsModel" "articleAt" "[I") ∈ lw_all := lw_g (lw_at lw_m5 112 rfl) rfl
theorem q1131 : (Jvm.Cond.soleField "StoryColumnsModel" "articleAt") ∈ lw_all := lw_g (lw_at lw_m5 113 rfl) rfl
theorem q1132 : (Jvm.Cond.laysFinal "StoryColumnsModel" "StoryColumnsModel" "isRing" "[Z") ∈ lw_all := lw_g (lw_at lw_m5 114 rfl) rfl
theorem q1133 : (Jvm.Cond.soleField "StoryColumnsModel" "isRing") ∈ lw_all := lw_g (lw_at lw_m5 115 rfl) rfl
theorem q1134 : (Jvm.Cond.laysFinal "StoryColumnsModel" "StoryColumnsModel" "inRow" "[I") ∈ lw_all := lw_g (lw_at lw_m5 116 rfl) rfl
theorem q1135 : (Jvm.Cond.soleField "StoryColumnsModel" "inRow") ∈ lw_all := lw_g (lw_at lw_m5 117 rfl) rfl
theorem q1136 : (Jvm.Cond.laysFinal "StoryColumnsModel" "StoryColumnsModel" "articleOf" "[I") ∈ lw_all := lw_g (lw_at lw_m5 118 rfl) rfl
theorem q1137 : (Jvm.Cond.soleField "StoryColumnsModel" "articleOf") ∈ lw_all := lw_g (lw_at lw_m5 119 rfl) rfl
theorem q1138 : (Jvm.Cond.lays "StoryColumnsModel" "StoryColumnsModel" "laid" "I") ∈ lw_all := lw_g (lw_at lw_m5 120 rfl) rfl
theorem q1139 : (Jvm.Cond.soleField "StoryColumnsModel" "laid") ∈ lw_all := lw_g (lw_at lw_m5 121 rfl) rfl
theorem q1140 : (Jvm.Cond.superclass "StoryColumnsModel" "java/lang/Object") ∈ lw_all := lw_g (lw_at lw_m5 122 rfl) rfl
theorem q1144 : (Jvm.Cond.instanceMethod ({ cls := "StoryColumnsModel", name := "block", desc := "(IIIIII)I" } : Jvm.MethodName)) ∈ lw_all := lw_g (lw_at lw_m5 126 rfl) rfl
theorem q1145 : (Jvm.Cond.selects "StoryColumnsModel" ({ cls := "StoryColumnsModel", name := "block", desc := "(IIIIII)I" } : Jvm.MethodName) ({ cls := "StoryColumnsModel", name := "block", desc := "(IIIIII)I" } : Jvm.MethodName)) ∈ lw_all := lw_g (lw_at lw_m5 127 rfl) rfl
theorem q1146 : (Jvm.Cond.code ({ cls := "StoryColumnsModel", name := "block", desc := "(IIIIII)I" } : Jvm.MethodName) prog_14_method_5_code (9 : Nat) (Option.some Jvm.ClassFile.FieldType.int)) ∈ lw_all := lw_g (lw_at lw_m5 128 rfl) rfl
theorem q1147 : (Jvm.Cond.methodLink "StoryColumnsModel" (102 : Nat) ({ cls := "StoryColumnsModel", name := "within", desc := "(III)Z" } : Jvm.MethodName)) ∈ lw_all := lw_g (lw_at lw_m5 129 rfl) rfl
theorem q1148 : (Jvm.Cond.static ({ cls := "StoryColumnsModel", name := "within", desc := "(III)Z" } : Jvm.MethodName)) ∈ lw_all := lw_g (lw_at lw_m5 130 rfl) rfl
theorem q1149 : (Jvm.Cond.code ({ cls := "StoryColumnsModel", name := "within", desc := "(III)Z" } : Jvm.MethodName) prog_14_method_2_code (3 : Nat) (Option.some Jvm.ClassFile.FieldType.boolean)) ∈ lw_all := lw_g (lw_at lw_m5 131 rfl) rfl
theorem q1150 : (Jvm.Cond.methodLink "StoryColumnsModel" (106 : Nat) ({ cls := "StoryColumnsModel", name := "isMeeting", desc := "(IIIII)Z" } : Jvm.MethodName)) ∈ lw_all := lw_g (lw_at lw_m5 132 rfl) rfl
theorem q1151 : (Jvm.Cond.privateMethod ({ cls := "StoryColumnsModel", name := "isMeeting", desc := "(IIIII)Z" } : Jvm.MethodName)) ∈ lw_tbl := lw_at lw_m5 133 rfl
theorem q1152 : (Jvm.Cond.instanceMethod ({ cls := "StoryColumnsModel", name := "isMeeting", desc := "(IIIII)Z" } : Jvm.MethodName)) ∈ lw_all := lw_g (lw_at lw_m5 134 rfl) rfl
theorem q1153 : (Jvm.Cond.code ({ cls := "StoryColumnsModel", name := "isMeeting", desc := "(IIIII)Z" } : Jvm.MethodName) prog_14_method_4_code (6 : Nat) (Option.some Jvm.ClassFile.FieldType.boolean)) ∈ lw_all := lw_g (lw_at lw_m5 135 rfl) rfl
theorem q1155 : (Jvm.Cond.instanceMethod ({ cls := "StoryColumnsModel", name := "words", desc := "(II)I" } : Jvm.MethodName)) ∈ lw_all := lw_g (lw_at lw_m5 137 rfl) rfl
theorem q1156 : (Jvm.Cond.selects "StoryColumnsModel" ({ cls := "StoryColumnsModel", name := "words", desc := "(II)I" } : Jvm.MethodName) ({ cls := "StoryColumnsModel", name := "words", desc := "(II)I" } : Jvm.MethodName)) ∈ lw_all := lw_g (lw_at lw_m5 138 rfl) rfl
theorem q1157 : (Jvm.Cond.code ({ cls := "StoryColumnsModel", name := "words", desc := "(II)I" } : Jvm.MethodName) prog_14_method_6_code (4 : Nat) (Option.some Jvm.ClassFile.FieldType.int)) ∈ lw_all := lw_g (lw_at lw_m5 139 rfl) rfl
theorem q1158 : (Jvm.Cond.methodLink "StoryColumnsModel" (110 : Nat) ({ cls := "StoryColumnsModel", name := "isBlock", desc := "(I)Z" } : Jvm.MethodName)) ∈ lw_all := lw_g (lw_at lw_m5 140 rfl) rfl
theorem q1159 : (Jvm.Cond.privateMethod ({ cls := "StoryColumnsModel", name := "isBlock", desc := "(I)Z" } : Jvm.MethodName)) ∈ lw_tbl := lw_at lw_m5 141 rfl
theorem q1160 : (Jvm.Cond.instanceMethod ({ cls := "StoryColumnsModel", name := "isBlock", desc := "(I)Z" } : Jvm.MethodName)) ∈ lw_all := lw_g (lw_at lw_m5 142 rfl) rfl
theorem q1161 : (Jvm.Cond.code ({ cls := "StoryColumnsModel", name := "isBlock", desc := "(I)Z" } : Jvm.MethodName) prog_14_method_3_code (2 : Nat) (Option.some Jvm.ClassFile.FieldType.boolean)) ∈ lw_all := lw_g (lw_at lw_m5 143 rfl) rfl
theorem q1163 : (Jvm.Cond.instanceMethod ({ cls := "StoryColumnsModel", name := "line", desc := "(IIIII)I" } : Jvm.MethodName)) ∈ lw_all := lw_g (lw_at lw_m5 145 rfl) rfl
theorem q1164 : (Jvm.Cond.selects "StoryColumnsModel" ({ cls := "StoryColumnsModel", name := "line", desc := "(IIIII)I" } : Jvm.MethodName) ({ cls := "StoryColumnsModel", name := "line", desc := "(IIIII)I" } : Jvm.MethodName)) ∈ lw_all := lw_g (lw_at lw_m5 146 rfl) rfl
theorem q1165 : (Jvm.Cond.code ({ cls := "StoryColumnsModel", name := "line", desc := "(IIIII)I" } : Jvm.MethodName) prog_14_method_7_code (8 : Nat) (Option.some Jvm.ClassFile.FieldType.int)) ∈ lw_all := lw_g (lw_at lw_m5 147 rfl) rfl
theorem q1167 : (Jvm.Cond.instanceMethod ({ cls := "StoryColumnsModel", name := "back", desc := "()I" } : Jvm.MethodName)) ∈ lw_all := lw_g (lw_at lw_m5 149 rfl) rfl
theorem q1168 : (Jvm.Cond.selects "StoryColumnsModel" ({ cls := "StoryColumnsModel", name := "back", desc := "()I" } : Jvm.MethodName) ({ cls := "StoryColumnsModel", name := "back", desc := "()I" } : Jvm.MethodName)) ∈ lw_all := lw_g (lw_at lw_m5 150 rfl) rfl
theorem q1169 : (Jvm.Cond.code ({ cls := "StoryColumnsModel", name := "back", desc := "()I" } : Jvm.MethodName) prog_14_method_8_code (1 : Nat) (Option.some Jvm.ClassFile.FieldType.int)) ∈ lw_all := lw_g (lw_at lw_m5 151 rfl) rfl
theorem q1171 : (Jvm.Cond.instanceMethod ({ cls := "StoryColumnsModel", name := "erase", desc := "()I" } : Jvm.MethodName)) ∈ lw_all := lw_g (lw_at lw_m5 153 rfl) rfl
theorem q1172 : (Jvm.Cond.selects "StoryColumnsModel" ({ cls := "StoryColumnsModel", name := "erase", desc := "()I" } : Jvm.MethodName) ({ cls := "StoryColumnsModel", name := "erase", desc := "()I" } : Jvm.MethodName)) ∈ lw_all := lw_g (lw_at lw_m5 154 rfl) rfl
theorem q1173 : (Jvm.Cond.code ({ cls := "StoryColumnsModel", name := "erase", desc := "()I" } : Jvm.MethodName) prog_14_method_9_code (1 : Nat) (Option.some Jvm.ClassFile.FieldType.int)) ∈ lw_all := lw_g (lw_at lw_m5 155 rfl) rfl
theorem q1175 : (Jvm.Cond.instanceMethod ({ cls := "StoryColumnsModel", name := "clear", desc := "()I" } : Jvm.MethodName)) ∈ lw_all := lw_g (lw_at lw_m5 157 rfl) rfl
theorem q1176 : (Jvm.Cond.selects "StoryColumnsModel" ({ cls := "StoryColumnsModel", name := "clear", desc := "()I" } : Jvm.MethodName) ({ cls := "StoryColumnsModel", name := "clear", desc := "()I" } : Jvm.MethodName)) ∈ lw_all := lw_g (lw_at lw_m5 158 rfl) rfl
theorem q1177 : (Jvm.Cond.code ({ cls := "StoryColumnsModel", name := "clear", desc := "()I" } : Jvm.MethodName) prog_14_method_10_code (2 : Nat) (Option.some Jvm.ClassFile.FieldType.int)) ∈ lw_all := lw_g (lw_at lw_m5 159 rfl) rfl
theorem q1179 : (Jvm.Cond.instanceMethod ({ cls := "StoryColumnsModel", name := "turn", desc := "()I" } : Jvm.MethodName)) ∈ lw_all := lw_g (lw_at lw_m5 161 rfl) rfl
theorem q1180 : (Jvm.Cond.selects "StoryColumnsModel" ({ cls := "StoryColumnsModel", name := "turn", desc := "()I" } : Jvm.MethodName) ({ cls := "StoryColumnsModel", name := "turn", desc := "()I" } : Jvm.MethodName)) ∈ lw_all := lw_g (lw_at lw_m5 162 rfl) rfl
theorem q1181 : (Jvm.Cond.code ({ cls := "StoryColumnsModel", name := "turn", desc := "()I" } : Jvm.MethodName) prog_14_method_11_code (4 : Nat) (Option.some Jvm.ClassFile.FieldType.int)) ∈ lw_all := lw_g (lw_at lw_m5 163 rfl) rfl
theorem q1183 : (Jvm.Cond.instanceMethod ({ cls := "StoryColumnsModel", name := "ofBlock", desc := "(II)I" } : Jvm.MethodName)) ∈ lw_all := lw_g (lw_at lw_m5 165 rfl) rfl
theorem q1184 : (Jvm.Cond.selects "StoryColumnsModel" ({ cls := "StoryColumnsModel", name := "ofBlock", desc := "(II)I" } : Jvm.MethodName) ({ cls := "StoryColumnsModel", name := "ofBlock", desc := "(II)I" } : Jvm.MethodName)) ∈ lw_all := lw_g (lw_at lw_m5 166 rfl) rfl
theorem q1185 : (Jvm.Cond.code ({ cls := "StoryColumnsModel", name := "ofBlock", desc := "(II)I" } : Jvm.MethodName) prog_14_method_12_code (3 : Nat) (Option.some Jvm.ClassFile.FieldType.int)) ∈ lw_all := lw_g (lw_at lw_m5 167 rfl) rfl
theorem q1187 : (Jvm.Cond.instanceMethod ({ cls := "StoryColumnsModel", name := "ofLine", desc := "(II)I" } : Jvm.MethodName)) ∈ lw_all := lw_g (lw_at lw_m5 169 rfl) rfl
theorem q1188 : (Jvm.Cond.selects "StoryColumnsModel" ({ cls := "StoryColumnsModel", name := "ofLine", desc := "(II)I" } : Jvm.MethodName) ({ cls := "StoryColumnsModel", name := "ofLine", desc := "(II)I" } : Jvm.MethodName)) ∈ lw_all := lw_g (lw_at lw_m5 170 rfl) rfl
theorem q1189 : (Jvm.Cond.code ({ cls := "StoryColumnsModel", name := "ofLine", desc := "(II)I" } : Jvm.MethodName) prog_14_method_13_code (3 : Nat) (Option.some Jvm.ClassFile.FieldType.int)) ∈ lw_all := lw_g (lw_at lw_m5 171 rfl) rfl
theorem q1191 : (Jvm.Cond.instanceMethod ({ cls := "StoryColumnsModel", name := "at", desc := "(III)I" } : Jvm.MethodName)) ∈ lw_all := lw_g (lw_at lw_m5 173 rfl) rfl
theorem q1192 : (Jvm.Cond.selects "StoryColumnsModel" ({ cls := "StoryColumnsModel", name := "at", desc := "(III)I" } : Jvm.MethodName) ({ cls := "StoryColumnsModel", name := "at", desc := "(III)I" } : Jvm.MethodName)) ∈ lw_all := lw_g (lw_at lw_m5 174 rfl) rfl
theorem q1193 : (Jvm.Cond.code ({ cls := "StoryColumnsModel", name := "at", desc := "(III)I" } : Jvm.MethodName) prog_14_method_14_code (5 : Nat) (Option.some Jvm.ClassFile.FieldType.int)) ∈ lw_all := lw_g (lw_at lw_m5 175 rfl) rfl
theorem q1195 : (Jvm.Cond.instanceMethod ({ cls := "StoryColumnsModel", name := "reach", desc := "(II)I" } : Jvm.MethodName)) ∈ lw_all := lw_g (lw_at lw_m5 177 rfl) rfl
theorem q1196 : (Jvm.Cond.selects "StoryColumnsModel" ({ cls := "StoryColumnsModel", name := "reach", desc := "(II)I" } : Jvm.MethodName) ({ cls := "StoryColumnsModel", name := "reach", desc := "(II)I" } : Jvm.MethodName)) ∈ lw_all := lw_g (lw_at lw_m5 178 rfl) rfl
theorem q1197 : (Jvm.Cond.code ({ cls := "StoryColumnsModel", name := "reach", desc := "(II)I" } : Jvm.MethodName) prog_14_method_27_code (3 : Nat) (Option.some Jvm.ClassFile.FieldType.int)) ∈ lw_all := lw_g (lw_at lw_m5 179 rfl) rfl
theorem q1198 : (Jvm.Cond.methodLink "StoryColumnsModel" (156 : Nat) ({ cls := "StoryColumnsModel", name := "isHead", desc := "(I)Z" } : Jvm.MethodName)) ∈ lw_all := lw_g (lw_at lw_m5 180 rfl) rfl
theorem q1199 : (Jvm.Cond.privateMethod ({ cls := "StoryColumnsModel", name := "isHead", desc := "(I)Z" } : Jvm.MethodName)) ∈ lw_tbl := lw_at lw_m5 181 rfl
theorem q1200 : (Jvm.Cond.instanceMethod ({ cls := "StoryColumnsModel", name := "isHead", desc := "(I)Z" } : Jvm.MethodName)) ∈ lw_all := lw_g (lw_at lw_m5 182 rfl) rfl
theorem q1201 : (Jvm.Cond.code ({ cls := "StoryColumnsModel", name := "isHead", desc := "(I)Z" } : Jvm.MethodName) prog_14_method_15_code (2 : Nat) (Option.some Jvm.ClassFile.FieldType.boolean)) ∈ lw_all := lw_g (lw_at lw_m5 183 rfl) rfl
theorem q1202 : (Jvm.Cond.methodLink "StoryColumnsModel" (125 : Nat) ({ cls := "StoryColumnsModel", name := "lastRow", desc := "(II)I" } : Jvm.MethodName)) ∈ lw_all := lw_g (lw_at lw_m5 184 rfl) rfl
theorem q1203 : (Jvm.Cond.privateMethod ({ cls := "StoryColumnsModel", name := "lastRow", desc := "(II)I" } : Jvm.MethodName)) ∈ lw_tbl := lw_at lw_m5 185 rfl
theorem q1204 : (Jvm.Cond.instanceMethod ({ cls := "StoryColumnsModel", name := "lastRow", desc := "(II)I" } : Jvm.MethodName)) ∈ lw_all := lw_g (lw_at lw_m5 186 rfl) rfl
theorem q1205 : (Jvm.Cond.code ({ cls := "StoryColumnsModel", name := "lastRow", desc := "(II)I" } : Jvm.MethodName) prog_14_method_18_code (7 : Nat) (Option.some Jvm.ClassFile.FieldType.int)) ∈ lw_all := lw_g (lw_at lw_m5 187 rfl) rfl
theorem q1206 : (Jvm.Cond.methodLink "StoryColumnsModel" (121 : Nat) ({ cls := "StoryColumnsModel", name := "reachesAcross", desc := "(II)Z" } : Jvm.MethodName)) ∈ lw_all := lw_g (lw_at lw_m5 188 rfl) rfl
theorem q1207 : (Jvm.Cond.privateMethod ({ cls := "StoryColumnsModel", name := "reachesAcross", desc := "(II)Z" } : Jvm.MethodName)) ∈ lw_tbl := lw_at lw_m5 189 rfl
theorem q1208 : (Jvm.Cond.instanceMethod ({ cls := "StoryColumnsModel", name := "reachesAcross", desc := "(II)Z" } : Jvm.MethodName)) ∈ lw_all := lw_g (lw_at lw_m5 190 rfl) rfl
theorem q1209 : (Jvm.Cond.code ({ cls := "StoryColumnsModel", name := "reachesAcross", desc := "(II)Z" } : Jvm.MethodName) prog_14_method_17_code (4 : Nat) (Option.some Jvm.ClassFile.FieldType.boolean)) ∈ lw_all := lw_g (lw_at lw_m5 191 rfl) rfl
theorem q1210 : (Jvm.Cond.methodLink "StoryColumnsModel" (117 : Nat) ({ cls := "StoryColumnsModel", name := "isUpright", desc := "(IIII)Z" } : Jvm.MethodName)) ∈ lw_all := lw_g (lw_at lw_m5 192 rfl) rfl
theorem q1211 : (Jvm.Cond.privateMethod ({ cls := "StoryColumnsModel", name := "isUpright", desc := "(IIII)Z" } : Jvm.MethodName)) ∈ lw_tbl := lw_at lw_m5 193 rfl
theorem q1212 : (Jvm.Cond.instanceMethod ({ cls := "StoryColumnsModel", name := "isUpright", desc := "(IIII)Z" } : Jvm.MethodName)) ∈ lw_all := lw_g (lw_at lw_m5 194 rfl) rfl
theorem q1213 : (Jvm.Cond.code ({ cls := "StoryColumnsModel", name := "isUpright", desc := "(IIII)Z" } : Jvm.MethodName) prog_14_method_16_code (6 : Nat) (Option.some Jvm.ClassFile.FieldType.boolean)) ∈ lw_all := lw_g (lw_at lw_m5 195 rfl) rfl
theorem q1215 : (Jvm.Cond.instanceMethod ({ cls := "StoryColumnsModel", name := "under", desc := "(I)I" } : Jvm.MethodName)) ∈ lw_all := lw_g (lw_at lw_m5 197 rfl) rfl
theorem q1216 : (Jvm.Cond.selects "StoryColumnsModel" ({ cls := "StoryColumnsModel", name := "under", desc := "(I)I" } : Jvm.MethodName) ({ cls := "StoryColumnsModel", name := "under", desc := "(I)I" } : Jvm.MethodName)) ∈ lw_all := lw_g (lw_at lw_m5 198 rfl) rfl
theorem q1217 : (Jvm.Cond.code ({ cls := "StoryColumnsModel", name := "under", desc := "(I)I" } : Jvm.MethodName) prog_14_method_28_code (2 : Nat) (Option.some Jvm.ClassFile.FieldType.int)) ∈ lw_all := lw_g (lw_at lw_m5 199 rfl) rfl
theorem q1218 : (Jvm.Cond.methodLink "StoryColumnsModel" (143 : Nat) ({ cls := "StoryColumnsModel", name := "headOver", desc := "(I)I" } : Jvm.MethodName)) ∈ lw_all := lw_g (lw_at lw_m5 200 rfl) rfl
theorem q1219 : (Jvm.Cond.privateMethod ({ cls := "StoryColumnsModel", name := "headOver", desc := "(I)I" } : Jvm.MethodName)) ∈ lw_tbl := lw_at lw_m5 201 rfl
theorem q1220 : (Jvm.Cond.instanceMethod ({ cls := "StoryColumnsModel", name := "headOver", desc := "(I)I" } : Jvm.MethodName)) ∈ lw_all := lw_g (lw_at lw_m5 202 rfl) rfl
theorem q1221 : (Jvm.Cond.code ({ cls := "StoryColumnsModel", name := "headOver", desc := "(I)I" } : Jvm.MethodName) prog_14_method_19_code (4 : Nat) (Option.some Jvm.ClassFile.FieldType.int)) ∈ lw_all := lw_g (lw_at lw_m5 203 rfl) rfl
theorem q1223 : (Jvm.Cond.instanceMethod ({ cls := "StoryColumnsModel", name := "story", desc := "(I)I" } : Jvm.MethodName)) ∈ lw_all := lw_g (lw_at lw_m5 205 rfl) rfl
theorem q1224 : (Jvm.Cond.selects "StoryColumnsModel" ({ cls := "StoryColumnsModel", name := "story", desc := "(I)I" } : Jvm.MethodName) ({ cls := "StoryColumnsModel", name := "story", desc := "(I)I" } : Jvm.MethodName)) ∈ lw_all := lw_g (lw_at lw_m5 206 rfl) rfl
theorem q1225 : (Jvm.Cond.code ({ cls := "StoryColumnsModel", name := "story", desc := "(I)I" } : Jvm.MethodName) prog_14_method_29_code (2 : Nat) (Option.some Jvm.ClassFile.FieldType.int)) ∈ lw_all := lw_g (lw_at lw_m5 207 rfl) rfl
theorem q1226 : (Jvm.Cond.methodLink "StoryColumnsModel" (159 : Nat) ({ cls := "StoryColumnsModel", name := "findStories", desc := "()V" } : Jvm.MethodName)) ∈ lw_all := lw_g (lw_at lw_m5 208 rfl) rfl
theorem q1227 : (Jvm.Cond.privateMethod ({ cls := "StoryColumnsModel", name := "findStories", desc := "()V" } : Jvm.MethodName)) ∈ lw_tbl := lw_at lw_m5 209 rfl
theorem q1228 : (Jvm.Cond.instanceMethod ({ cls := "StoryColumnsModel", name := "findStories", desc := "()V" } : Jvm.MethodName)) ∈ lw_all := lw_g (lw_at lw_m5 210 rfl) rfl
theorem q1229 : (Jvm.Cond.code ({ cls := "StoryColumnsModel", name := "findStories", desc := "()V" } : Jvm.MethodName) prog_14_method_26_code (4 : Nat) (Option.none : Option Jvm.ClassFile.FieldType)) ∈ lw_all := lw_g (lw_at lw_m5 211 rfl) rfl
theorem q1230 : (Jvm.Cond.methodLink "StoryColumnsModel" (146 : Nat) ({ cls := "StoryColumnsModel", name := "comesUnder", desc := "(II)V" } : Jvm.MethodName)) ∈ lw_all := lw_g (lw_at lw_m5 212 rfl) rfl
theorem q1231 : (Jvm.Cond.privateMethod ({ cls := "StoryColumnsModel", name := "comesUnder", desc := "(II)V" } : Jvm.MethodName)) ∈ lw_tbl := lw_at lw_m5 213 rfl
theorem q1232 : (Jvm.Cond.instanceMethod ({ cls := "StoryColumnsModel", name := "comesUnder", desc := "(II)V" } : Jvm.MethodName)) ∈ lw_all := lw_g (lw_at lw_m5 214 rfl) rfl
theorem q1233 : (Jvm.Cond.code ({ cls := "StoryColumnsModel", name := "comesUnder", desc := "(II)V" } : Jvm.MethodName) prog_14_method_22_code (4 : Nat) (Option.none : Option Jvm.ClassFile.FieldType)) ∈ lw_all := lw_g (lw_at lw_m5 215 rfl) rfl
theorem q1234 : (Jvm.Cond.methodLink "StoryColumnsModel" (129 : Nat) ({ cls := "StoryColumnsModel", name := "comesBehind", desc := "(II)V" } : Jvm.MethodName)) ∈ lw_all := lw_g (lw_at lw_m5 216 rfl) rfl
theorem q1235 : (Jvm.Cond.privateMethod ({ cls := "StoryColumnsModel", name := "comesBehind", desc := "(II)V" } : Jvm.MethodName)) ∈ lw_tbl := lw_at lw_m5 217 rfl
theorem q1236 : (Jvm.Cond.instanceMethod ({ cls := "StoryColumnsModel", name := "comesBehind", desc := "(II)V" } : Jvm.MethodName)) ∈ lw_all := lw_g (lw_at lw_m5 218 rfl) rfl
theorem q1237 : (Jvm.Cond.code ({ cls := "StoryColumnsModel", name := "comesBehind", desc := "(II)V" } : Jvm.MethodName) prog_14_method_20_code (3 : Nat) (Option.none : Option Jvm.ClassFile.FieldType)) ∈ lw_all := lw_g (lw_at lw_m5 219 rfl) rfl
theorem q1238 : (Jvm.Cond.methodLink "StoryColumnsModel" (133 : Nat) ({ cls := "StoryColumnsModel", name := "isAhead", desc := "(II)Z" } : Jvm.MethodName)) ∈ lw_all := lw_g (lw_at lw_m5 220 rfl) rfl
theorem q1239 : (Jvm.Cond.privateMethod ({ cls := "StoryColumnsModel", name := "isAhead", desc := "(II)Z" } : Jvm.MethodName)) ∈ lw_tbl := lw_at lw_m5 221 rfl
theorem q1240 : (Jvm.Cond.instanceMethod ({ cls := "StoryColumnsModel", name := "isAhead", desc := "(II)Z" } : Jvm.MethodName)) ∈ lw_all := lw_g (lw_at lw_m5 222 rfl) rfl
theorem q1241 : (Jvm.Cond.code ({ cls := "StoryColumnsModel", name := "isAhead", desc := "(II)Z" } : Jvm.MethodName) prog_14_method_21_code (3 : Nat) (Option.some Jvm.ClassFile.FieldType.boolean)) ∈ lw_all := lw_g (lw_at lw_m5 223 rfl) rfl
theorem q1242 : (Jvm.Cond.methodLink "StoryColumnsModel" (149 : Nat) ({ cls := "StoryColumnsModel", name := "joins", desc := "()Z" } : Jvm.MethodName)) ∈ lw_all := lw_g (lw_at lw_m5 224 rfl) rfl
theorem q1243 : (Jvm.Cond.privateMethod ({ cls := "StoryColumnsModel", name := "joins", desc := "()Z" } : Jvm.MethodName)) ∈ lw_tbl := lw_at lw_m5 225 rfl
theorem q1244 : (Jvm.Cond.instanceMethod ({ cls := "StoryColumnsModel", name := "joins", desc := "()Z" } : Jvm.MethodName)) ∈ lw_all := lw_g (lw_at lw_m5 226 rfl) rfl
theorem q1245 : (Jvm.Cond.code ({ cls := "StoryColumnsModel", name := "joins", desc := "()Z" } : Jvm.MethodName) prog_14_method_25_code (3 : Nat) (Option.some Jvm.ClassFile.FieldType.boolean)) ∈ lw_all := lw_g (lw_at lw_m5 227 rfl) rfl
theorem q1246 : (Jvm.Cond.methodLink "StoryColumnsModel" (139 : Nat) ({ cls := "StoryColumnsModel", name := "takerNow", desc := "(I)I" } : Jvm.MethodName)) ∈ lw_all := lw_g (lw_at lw_m5 228 rfl) rfl
theorem q1247 : (Jvm.Cond.privateMethod ({ cls := "StoryColumnsModel", name := "takerNow", desc := "(I)I" } : Jvm.MethodName)) ∈ lw_tbl := lw_at lw_m5 229 rfl
theorem q1248 : (Jvm.Cond.instanceMethod ({ cls := "StoryColumnsModel", name := "takerNow", desc := "(I)I" } : Jvm.MethodName)) ∈ lw_all := lw_g (lw_at lw_m5 230 rfl) rfl
theorem q1249 : (Jvm.Cond.code ({ cls := "StoryColumnsModel", name := "takerNow", desc := "(I)I" } : Jvm.MethodName) prog_14_method_24_code (4 : Nat) (Option.some Jvm.ClassFile.FieldType.int)) ∈ lw_all := lw_g (lw_at lw_m5 231 rfl) rfl
theorem q1250 : (Jvm.Cond.methodLink "StoryColumnsModel" (136 : Nat) ({ cls := "StoryColumnsModel", name := "takes", desc := "(II)Z" } : Jvm.MethodName)) ∈ lw_all := lw_g (lw_at lw_m5 232 rfl) rfl
theorem q1251 : (Jvm.Cond.privateMethod ({ cls := "StoryColumnsModel", name := "takes", desc := "(II)Z" } : Jvm.MethodName)) ∈ lw_tbl := lw_at lw_m5 233 rfl
theorem q1252 : (Jvm.Cond.instanceMethod ({ cls := "StoryColumnsModel", name := "takes", desc := "(II)Z" } : Jvm.MethodName)) ∈ lw_all := lw_g (lw_at lw_m5 234 rfl) rfl
theorem q1253 : (Jvm.Cond.code ({ cls := "StoryColumnsModel", name := "takes", desc := "(II)Z" } : Jvm.MethodName) prog_14_method_23_code (5 : Nat) (Option.some Jvm.ClassFile.FieldType.boolean)) ∈ lw_all := lw_g (lw_at lw_m5 235 rfl) rfl
theorem q1255 : (Jvm.Cond.instanceMethod ({ cls := "StoryColumnsModel", name := "takenBy", desc := "(I)I" } : Jvm.MethodName)) ∈ lw_all := lw_g (lw_at lw_m5 237 rfl) rfl
theorem q1256 : (Jvm.Cond.selects "StoryColumnsModel" ({ cls := "StoryColumnsModel", name := "takenBy", desc := "(I)I" } : Jvm.MethodName) ({ cls := "StoryColumnsModel", name := "takenBy", desc := "(I)I" } : Jvm.MethodName)) ∈ lw_all := lw_g (lw_at lw_m5 238 rfl) rfl
theorem q1257 : (Jvm.Cond.code ({ cls := "StoryColumnsModel", name := "takenBy", desc := "(I)I" } : Jvm.MethodName) prog_14_method_30_code (2 : Nat) (Option.some Jvm.ClassFile.FieldType.int)) ∈ lw_all := lw_g (lw_at lw_m5 239 rfl) rfl
theorem q1259 : (Jvm.Cond.instanceMethod ({ cls := "StoryColumnsModel", name := "mark", desc := "(IIII)I" } : Jvm.MethodName)) ∈ lw_all := lw_g (lw_at lw_m6 1 rfl) rfl
theorem q1260 : (Jvm.Cond.selects "StoryColumnsModel" ({ cls := "StoryColumnsModel", name := "mark", desc := "(IIII)I" } : Jvm.MethodName) ({ cls := "StoryColumnsModel", name := "mark", desc := "(IIII)I" } : Jvm.MethodName)) ∈ lw_all := lw_g (lw_at lw_m6 2 rfl) rfl
theorem q1261 : (Jvm.Cond.code ({ cls := "StoryColumnsModel", name := "mark", desc := "(IIII)I" } : Jvm.MethodName) prog_14_method_31_code (6 : Nat) (Option.some Jvm.ClassFile.FieldType.int)) ∈ lw_all := lw_g (lw_at lw_m6 3 rfl) rfl
theorem q1263 : (Jvm.Cond.instanceMethod ({ cls := "StoryColumnsModel", name := "unmark", desc := "(II)I" } : Jvm.MethodName)) ∈ lw_all := lw_g (lw_at lw_m6 5 rfl) rfl
theorem q1264 : (Jvm.Cond.selects "StoryColumnsModel" ({ cls := "StoryColumnsModel", name := "unmark", desc := "(II)I" } : Jvm.MethodName) ({ cls := "StoryColumnsModel", name := "unmark", desc := "(II)I" } : Jvm.MethodName)) ∈ lw_all := lw_g (lw_at lw_m6 6 rfl) rfl
theorem q1265 : (Jvm.Cond.code ({ cls := "StoryColumnsModel", name := "unmark", desc := "(II)I" } : Jvm.MethodName) prog_14_method_32_code (4 : Nat) (Option.some Jvm.ClassFile.FieldType.int)) ∈ lw_all := lw_g (lw_at lw_m6 7 rfl) rfl
theorem q1267 : (Jvm.Cond.instanceMethod ({ cls := "StoryColumnsModel", name := "ofMark", desc := "(III)I" } : Jvm.MethodName)) ∈ lw_all := lw_g (lw_at lw_m6 9 rfl) rfl
theorem q1268 : (Jvm.Cond.selects "StoryColumnsModel" ({ cls := "StoryColumnsModel", name := "ofMark", desc := "(III)I" } : Jvm.MethodName) ({ cls := "StoryColumnsModel", name := "ofMark", desc := "(III)I" } : Jvm.MethodName)) ∈ lw_all := lw_g (lw_at lw_m6 10 rfl) rfl
theorem q1269 : (Jvm.Cond.code ({ cls := "StoryColumnsModel", name := "ofMark", desc := "(III)I" } : Jvm.MethodName) prog_14_method_33_code (5 : Nat) (Option.some Jvm.ClassFile.FieldType.int)) ∈ lw_all := lw_g (lw_at lw_m6 11 rfl) rfl
theorem q1271 : (Jvm.Cond.instanceMethod ({ cls := "StoryColumnsModel", name := "ofStory", desc := "(II)I" } : Jvm.MethodName)) ∈ lw_all := lw_g (lw_at lw_m6 13 rfl) rfl
theorem q1272 : (Jvm.Cond.selects "StoryColumnsModel" ({ cls := "StoryColumnsModel", name := "ofStory", desc := "(II)I" } : Jvm.MethodName) ({ cls := "StoryColumnsModel", name := "ofStory", desc := "(II)I" } : Jvm.MethodName)) ∈ lw_all := lw_g (lw_at lw_m6 14 rfl) rfl
theorem q1273 : (Jvm.Cond.code ({ cls := "StoryColumnsModel", name := "ofStory", desc := "(II)I" } : Jvm.MethodName) prog_14_method_42_code (4 : Nat) (Option.some Jvm.ClassFile.FieldType.int)) ∈ lw_all := lw_g (lw_at lw_m6 15 rfl) rfl
theorem q1274 : (Jvm.Cond.methodLink "StoryColumnsModel" (181 : Nat) ({ cls := "StoryColumnsModel", name := "isStory", desc := "(I)Z" } : Jvm.MethodName)) ∈ lw_all := lw_g (lw_at lw_m6 16 rfl) rfl
theorem q1275 : (Jvm.Cond.privateMethod ({ cls := "StoryColumnsModel", name := "isStory", desc := "(I)Z" } : Jvm.MethodName)) ∈ lw_tbl := lw_at lw_m6 17 rfl
theorem q1276 : (Jvm.Cond.instanceMethod ({ cls := "StoryColumnsModel", name := "isStory", desc := "(I)Z" } : Jvm.MethodName)) ∈ lw_all := lw_g (lw_at lw_m6 18 rfl) rfl
theorem q1277 : (Jvm.Cond.code ({ cls := "StoryColumnsModel", name := "isStory", desc := "(I)Z" } : Jvm.MethodName) prog_14_method_41_code (2 : Nat) (Option.some Jvm.ClassFile.FieldType.boolean)) ∈ lw_all := lw_g (lw_at lw_m6 19 rfl) rfl
theorem q1278 : (Jvm.Cond.methodLink "StoryColumnsModel" (178 : Nat) ({ cls := "StoryColumnsModel", name := "findArticles", desc := "()V" } : Jvm.MethodName)) ∈ lw_all := lw_g (lw_at lw_m6 20 rfl) rfl
theorem q1279 : (Jvm.Cond.privateMethod ({ cls := "StoryColumnsModel", name := "findArticles", desc := "()V" } : Jvm.MethodName)) ∈ lw_tbl := lw_at lw_m6 21 rfl
theorem q1280 : (Jvm.Cond.instanceMethod ({ cls := "StoryColumnsModel", name := "findArticles", desc := "()V" } : Jvm.MethodName)) ∈ lw_all := lw_g (lw_at lw_m6 22 rfl) rfl
theorem q1281 : (Jvm.Cond.code ({ cls := "StoryColumnsModel", name := "findArticles", desc := "()V" } : Jvm.MethodName) prog_14_method_37_code (3 : Nat) (Option.none : Option Jvm.ClassFile.FieldType)) ∈ lw_all := lw_g (lw_at lw_m6 23 rfl) rfl
theorem q1282 : (Jvm.Cond.methodLink "StoryColumnsModel" (168 : Nat) ({ cls := "StoryColumnsModel", name := "onwardOf", desc := "(I)I" } : Jvm.MethodName)) ∈ lw_all := lw_g (lw_at lw_m6 24 rfl) rfl
theorem q1283 : (Jvm.Cond.privateMethod ({ cls := "StoryColumnsModel", name := "onwardOf", desc := "(I)I" } : Jvm.MethodName)) ∈ lw_tbl := lw_at lw_m6 25 rfl
theorem q1284 : (Jvm.Cond.instanceMethod ({ cls := "StoryColumnsModel", name := "onwardOf", desc := "(I)I" } : Jvm.MethodName)) ∈ lw_all := lw_g (lw_at lw_m6 26 rfl) rfl
theorem q1285 : (Jvm.Cond.code ({ cls := "StoryColumnsModel", name := "onwardOf", desc := "(I)I" } : Jvm.MethodName) prog_14_method_34_code (6 : Nat) (Option.some Jvm.ClassFile.FieldType.int)) ∈ lw_all := lw_g (lw_at lw_m6 27 rfl) rfl
theorem q1286 : (Jvm.Cond.methodLink "StoryColumnsModel" (171 : Nat) ({ cls := "StoryColumnsModel", name := "aimBy", desc := "(I)I" } : Jvm.MethodName)) ∈ lw_all := lw_g (lw_at lw_m6 28 rfl) rfl
theorem q1287 : (Jvm.Cond.privateMethod ({ cls := "StoryColumnsModel", name := "aimBy", desc := "(I)I" } : Jvm.MethodName)) ∈ lw_tbl := lw_at lw_m6 29 rfl
theorem q1288 : (Jvm.Cond.instanceMethod ({ cls := "StoryColumnsModel", name := "aimBy", desc := "(I)I" } : Jvm.MethodName)) ∈ lw_all := lw_g (lw_at lw_m6 30 rfl) rfl
theorem q1289 : (Jvm.Cond.code ({ cls := "StoryColumnsModel", name := "aimBy", desc := "(I)I" } : Jvm.MethodName) prog_14_method_35_code (4 : Nat) (Option.some Jvm.ClassFile.FieldType.int)) ∈ lw_all := lw_g (lw_at lw_m6 31 rfl) rfl
theorem q1290 : (Jvm.Cond.methodLink "StoryColumnsModel" (174 : Nat) ({ cls := "StoryColumnsModel", name := "lays", desc := "(IZ)V" } : Jvm.MethodName)) ∈ lw_all := lw_g (lw_at lw_m6 32 rfl) rfl
theorem q1291 : (Jvm.Cond.privateMethod ({ cls := "StoryColumnsModel", name := "lays", desc := "(IZ)V" } : Jvm.MethodName)) ∈ lw_tbl := lw_at lw_m6 33 rfl
theorem q1292 : (Jvm.Cond.instanceMethod ({ cls := "StoryColumnsModel", name := "lays", desc := "(IZ)V" } : Jvm.MethodName)) ∈ lw_all := lw_g (lw_at lw_m6 34 rfl) rfl
theorem q1293 : (Jvm.Cond.code ({ cls := "StoryColumnsModel", name := "lays", desc := "(IZ)V" } : Jvm.MethodName) prog_14_method_36_code (4 : Nat) (Option.none : Option Jvm.ClassFile.FieldType)) ∈ lw_all := lw_g (lw_at lw_m6 35 rfl) rfl
theorem q1294 : (Jvm.Cond.methodLink "StoryColumnsModel" (184 : Nat) ({ cls := "StoryColumnsModel", name := "wordsIn", desc := "(I)I" } : Jvm.MethodName)) ∈ lw_all := lw_g (lw_at lw_m6 36 rfl) rfl
theorem q1295 : (Jvm.Cond.privateMethod ({ cls := "StoryColumnsModel", name := "wordsIn", desc := "(I)I" } : Jvm.MethodName)) ∈ lw_tbl := lw_at lw_m6 37 rfl
theorem q1296 : (Jvm.Cond.instanceMethod ({ cls := "StoryColumnsModel", name := "wordsIn", desc := "(I)I" } : Jvm.MethodName)) ∈ lw_all := lw_g (lw_at lw_m6 38 rfl) rfl
theorem q1297 : (Jvm.Cond.code ({ cls := "StoryColumnsModel", name := "wordsIn", desc := "(I)I" } : Jvm.MethodName) prog_14_method_39_code (5 : Nat) (Option.some Jvm.ClassFile.FieldType.int)) ∈ lw_all := lw_g (lw_at lw_m6 39 rfl) rfl
theorem q1298 : (Jvm.Cond.methodLink "StoryColumnsModel" (187 : Nat) ({ cls := "StoryColumnsModel", name := "manyIn", desc := "(IZ)I" } : Jvm.MethodName)) ∈ lw_all := lw_g (lw_at lw_m6 40 rfl) rfl
theorem q1299 : (Jvm.Cond.privateMethod ({ cls := "StoryColumnsModel", name := "manyIn", desc := "(IZ)I" } : Jvm.MethodName)) ∈ lw_tbl := lw_at lw_m6 41 rfl
theorem q1300 : (Jvm.Cond.instanceMethod ({ cls := "StoryColumnsModel", name := "manyIn", desc := "(IZ)I" } : Jvm.MethodName)) ∈ lw_all := lw_g (lw_at lw_m6 42 rfl) rfl
theorem q1301 : (Jvm.Cond.code ({ cls := "StoryColumnsModel", name := "manyIn", desc := "(IZ)I" } : Jvm.MethodName) prog_14_method_40_code (6 : Nat) (Option.some Jvm.ClassFile.FieldType.int)) ∈ lw_all := lw_g (lw_at lw_m6 43 rfl) rfl
theorem q1302 : (Jvm.Cond.methodLink "StoryColumnsModel" (191 : Nat) ({ cls := "StoryColumnsModel", name := "isBroken", desc := "(I)Z" } : Jvm.MethodName)) ∈ lw_all := lw_g (lw_at lw_m6 44 rfl) rfl
theorem q1303 : (Jvm.Cond.privateMethod ({ cls := "StoryColumnsModel", name := "isBroken", desc := "(I)Z" } : Jvm.MethodName)) ∈ lw_tbl := lw_at lw_m6 45 rfl
theorem q1304 : (Jvm.Cond.instanceMethod ({ cls := "StoryColumnsModel", name := "isBroken", desc := "(I)Z" } : Jvm.MethodName)) ∈ lw_all := lw_g (lw_at lw_m6 46 rfl) rfl
theorem q1305 : (Jvm.Cond.code ({ cls := "StoryColumnsModel", name := "isBroken", desc := "(I)Z" } : Jvm.MethodName) prog_14_method_38_code (2 : Nat) (Option.some Jvm.ClassFile.FieldType.boolean)) ∈ lw_all := lw_g (lw_at lw_m6 47 rfl) rfl
theorem q1307 : (Jvm.Cond.instanceMethod ({ cls := "StoryColumnsModel", name := "text", desc := "(II)I" } : Jvm.MethodName)) ∈ lw_all := lw_g (lw_at lw_m6 49 rfl) rfl
theorem q1308 : (Jvm.Cond.selects "StoryColumnsModel" ({ cls := "StoryColumnsModel", name := "text", desc := "(II)I" } : Jvm.MethodName) ({ cls := "StoryColumnsModel", name := "text", desc := "(II)I" } : Jvm.MethodName)) ∈ lw_all := lw_g (lw_at lw_m6 50 rfl) rfl
theorem q1309 : (Jvm.Cond.code ({ cls := "StoryColumnsModel", name := "text", desc := "(II)I" } : Jvm.MethodName) prog_14_method_43_code (4 : Nat) (Option.some Jvm.ClassFile.FieldType.int)) ∈ lw_all := lw_g (lw_at lw_m6 51 rfl) rfl
theorem q1311 : (Jvm.Cond.instanceMethod ({ cls := "StoryColumnsModel", name := "ofArticle", desc := "(II)I" } : Jvm.MethodName)) ∈ lw_all := lw_g (lw_at lw_m6 53 rfl) rfl
theorem q1312 : (Jvm.Cond.selects "StoryColumnsModel" ({ cls := "StoryColumnsModel", name := "ofArticle", desc := "(II)I" } : Jvm.MethodName) ({ cls := "StoryColumnsModel", name := "ofArticle", desc := "(II)I" } : Jvm.MethodName)) ∈ lw_all := lw_g (lw_at lw_m6 54 rfl) rfl
theorem q1313 : (Jvm.Cond.code ({ cls := "StoryColumnsModel", name := "ofArticle", desc := "(II)I" } : Jvm.MethodName) prog_14_method_47_code (3 : Nat) (Option.some Jvm.ClassFile.FieldType.int)) ∈ lw_all := lw_g (lw_at lw_m6 55 rfl) rfl
theorem q1314 : (Jvm.Cond.methodLink "StoryColumnsModel" (194 : Nat) ({ cls := "StoryColumnsModel", name := "isArticle", desc := "(I)Z" } : Jvm.MethodName)) ∈ lw_all := lw_g (lw_at lw_m6 56 rfl) rfl
theorem q1315 : (Jvm.Cond.privateMethod ({ cls := "StoryColumnsModel", name := "isArticle", desc := "(I)Z" } : Jvm.MethodName)) ∈ lw_tbl := lw_at lw_m6 57 rfl
theorem q1316 : (Jvm.Cond.instanceMethod ({ cls := "StoryColumnsModel", name := "isArticle", desc := "(I)Z" } : Jvm.MethodName)) ∈ lw_all := lw_g (lw_at lw_m6 58 rfl) rfl
theorem q1317 : (Jvm.Cond.code ({ cls := "StoryColumnsModel", name := "isArticle", desc := "(I)Z" } : Jvm.MethodName) prog_14_method_44_code (2 : Nat) (Option.some Jvm.ClassFile.FieldType.boolean)) ∈ lw_all := lw_g (lw_at lw_m6 59 rfl) rfl
theorem q1318 : (Jvm.Cond.methodLink "StoryColumnsModel" (197 : Nat) ({ cls := "StoryColumnsModel", name := "sumOf", desc := "(IZ)I" } : Jvm.MethodName)) ∈ lw_all := lw_g (lw_at lw_m6 60 rfl) rfl
theorem q1319 : (Jvm.Cond.privateMethod ({ cls := "StoryColumnsModel", name := "sumOf", desc := "(IZ)I" } : Jvm.MethodName)) ∈ lw_tbl := lw_at lw_m6 61 rfl
theorem q1320 : (Jvm.Cond.instanceMethod ({ cls := "StoryColumnsModel", name := "sumOf", desc := "(IZ)I" } : Jvm.MethodName)) ∈ lw_all := lw_g (lw_at lw_m6 62 rfl) rfl
theorem q1321 : (Jvm.Cond.code ({ cls := "StoryColumnsModel", name := "sumOf", desc := "(IZ)I" } : Jvm.MethodName) prog_14_method_45_code (5 : Nat) (Option.some Jvm.ClassFile.FieldType.int)) ∈ lw_all := lw_g (lw_at lw_m6 63 rfl) rfl
theorem q1322 : (Jvm.Cond.methodLink "StoryColumnsModel" (200 : Nat) ({ cls := "StoryColumnsModel", name := "pagesOf", desc := "(I)I" } : Jvm.MethodName)) ∈ lw_all := lw_g (lw_at lw_m6 64 rfl) rfl
theorem q1323 : (Jvm.Cond.privateMethod ({ cls := "StoryColumnsModel", name := "pagesOf", desc := "(I)I" } : Jvm.MethodName)) ∈ lw_tbl := lw_at lw_m6 65 rfl
theorem q1324 : (Jvm.Cond.instanceMethod ({ cls := "StoryColumnsModel", name := "pagesOf", desc := "(I)I" } : Jvm.MethodName)) ∈ lw_all := lw_g (lw_at lw_m6 66 rfl) rfl
theorem q1325 : (Jvm.Cond.code ({ cls := "StoryColumnsModel", name := "pagesOf", desc := "(I)I" } : Jvm.MethodName) prog_14_method_46_code (5 : Nat) (Option.some Jvm.ClassFile.FieldType.int)) ∈ lw_all := lw_g (lw_at lw_m6 67 rfl) rfl
theorem q1327 : (Jvm.Cond.instanceMethod ({ cls := "StoryColumnsModel", name := "read", desc := "(II)I" } : Jvm.MethodName)) ∈ lw_all := lw_g (lw_at lw_m6 69 rfl) rfl
theorem q1328 : (Jvm.Cond.selects "StoryColumnsModel" ({ cls := "StoryColumnsModel", name := "read", desc := "(II)I" } : Jvm.MethodName) ({ cls := "StoryColumnsModel", name := "read", desc := "(II)I" } : Jvm.MethodName)) ∈ lw_all := lw_g (lw_at lw_m6 70 rfl) rfl
theorem q1329 : (Jvm.Cond.code ({ cls := "StoryColumnsModel", name := "read", desc := "(II)I" } : Jvm.MethodName) prog_14_method_48_code (7 : Nat) (Option.some Jvm.ClassFile.FieldType.int)) ∈ lw_all := lw_g (lw_at lw_m6 71 rfl) rfl
theorem q1331 : (Jvm.Cond.instanceMethod ({ cls := "StoryColumnsModel", name := "many", desc := "(I)I" } : Jvm.MethodName)) ∈ lw_all := lw_g (lw_at lw_m6 73 rfl) rfl
theorem q1332 : (Jvm.Cond.selects "StoryColumnsModel" ({ cls := "StoryColumnsModel", name := "many", desc := "(I)I" } : Jvm.MethodName) ({ cls := "StoryColumnsModel", name := "many", desc := "(I)I" } : Jvm.MethodName)) ∈ lw_all := lw_g (lw_at lw_m6 74 rfl) rfl
theorem q1333 : (Jvm.Cond.code ({ cls := "StoryColumnsModel", name := "many", desc := "(I)I" } : Jvm.MethodName) prog_14_method_55_code (2 : Nat) (Option.some Jvm.ClassFile.FieldType.int)) ∈ lw_all := lw_g (lw_at lw_m6 75 rfl) rfl
theorem q1334 : (Jvm.Cond.methodLink "StoryColumnsModel" (203 : Nat) ({ cls := "StoryColumnsModel", name := "manyOfKind", desc := "(I)I" } : Jvm.MethodName)) ∈ lw_all := lw_g (lw_at lw_m6 76 rfl) rfl
theorem q1335 : (Jvm.Cond.privateMethod ({ cls := "StoryColumnsModel", name := "manyOfKind", desc := "(I)I" } : Jvm.MethodName)) ∈ lw_tbl := lw_at lw_m6 77 rfl
theorem q1336 : (Jvm.Cond.instanceMethod ({ cls := "StoryColumnsModel", name := "manyOfKind", desc := "(I)I" } : Jvm.MethodName)) ∈ lw_all := lw_g (lw_at lw_m6 78 rfl) rfl
theorem q1337 : (Jvm.Cond.code ({ cls := "StoryColumnsModel", name := "manyOfKind", desc := "(I)I" } : Jvm.MethodName) prog_14_method_49_code (4 : Nat) (Option.some Jvm.ClassFile.FieldType.int)) ∈ lw_all := lw_g (lw_at lw_m6 79 rfl) rfl
theorem q1338 : (Jvm.Cond.methodLink "StoryColumnsModel" (206 : Nat) ({ cls := "StoryColumnsModel", name := "manyTexts", desc := "(Z)I" } : Jvm.MethodName)) ∈ lw_all := lw_g (lw_at lw_m6 80 rfl) rfl
theorem q1339 : (Jvm.Cond.privateMethod ({ cls := "StoryColumnsModel", name := "manyTexts", desc := "(Z)I" } : Jvm.MethodName)) ∈ lw_tbl := lw_at lw_m6 81 rfl
theorem q1340 : (Jvm.Cond.instanceMethod ({ cls := "StoryColumnsModel", name := "manyTexts", desc := "(Z)I" } : Jvm.MethodName)) ∈ lw_all := lw_g (lw_at lw_m6 82 rfl) rfl
theorem q1341 : (Jvm.Cond.code ({ cls := "StoryColumnsModel", name := "manyTexts", desc := "(Z)I" } : Jvm.MethodName) prog_14_method_50_code (5 : Nat) (Option.some Jvm.ClassFile.FieldType.int)) ∈ lw_all := lw_g (lw_at lw_m6 83 rfl) rfl
theorem q1342 : (Jvm.Cond.methodLink "StoryColumnsModel" (210 : Nat) ({ cls := "StoryColumnsModel", name := "manyRings", desc := "()I" } : Jvm.MethodName)) ∈ lw_all := lw_g (lw_at lw_m6 84 rfl) rfl
theorem q1343 : (Jvm.Cond.privateMethod ({ cls := "StoryColumnsModel", name := "manyRings", desc := "()I" } : Jvm.MethodName)) ∈ lw_tbl := lw_at lw_m6 85 rfl
theorem q1344 : (Jvm.Cond.instanceMethod ({ cls := "StoryColumnsModel", name := "manyRings", desc := "()I" } : Jvm.MethodName)) ∈ lw_all := lw_g (lw_at lw_m6 86 rfl) rfl
theorem q1345 : (Jvm.Cond.code ({ cls := "StoryColumnsModel", name := "manyRings", desc := "()I" } : Jvm.MethodName) prog_14_method_51_code (3 : Nat) (Option.some Jvm.ClassFile.FieldType.int)) ∈ lw_all := lw_g (lw_at lw_m6 87 rfl) rfl
theorem q1346 : (Jvm.Cond.methodLink "StoryColumnsModel" (214 : Nat) ({ cls := "StoryColumnsModel", name := "manyBroken", desc := "()I" } : Jvm.MethodName)) ∈ lw_all := lw_g (lw_at lw_m6 88 rfl) rfl
theorem q1347 : (Jvm.Cond.privateMethod ({ cls := "StoryColumnsModel", name := "manyBroken", desc := "()I" } : Jvm.MethodName)) ∈ lw_tbl := lw_at lw_m6 89 rfl
theorem q1348 : (Jvm.Cond.instanceMethod ({ cls := "StoryColumnsModel", name := "manyBroken", desc := "()I" } : Jvm.MethodName)) ∈ lw_all := lw_g (lw_at lw_m6 90 rfl) rfl
theorem q1349 : (Jvm.Cond.code ({ cls := "StoryColumnsModel", name := "manyBroken", desc := "()I" } : Jvm.MethodName) prog_14_method_52_code (3 : Nat) (Option.some Jvm.ClassFile.FieldType.int)) ∈ lw_all := lw_g (lw_at lw_m6 91 rfl) rfl
theorem q1350 : (Jvm.Cond.methodLink "StoryColumnsModel" (217 : Nat) ({ cls := "StoryColumnsModel", name := "manyIdle", desc := "()I" } : Jvm.MethodName)) ∈ lw_all := lw_g (lw_at lw_m6 92 rfl) rfl
theorem q1351 : (Jvm.Cond.privateMethod ({ cls := "StoryColumnsModel", name := "manyIdle", desc := "()I" } : Jvm.MethodName)) ∈ lw_tbl := lw_at lw_m6 93 rfl
theorem q1352 : (Jvm.Cond.instanceMethod ({ cls := "StoryColumnsModel", name := "manyIdle", desc := "()I" } : Jvm.MethodName)) ∈ lw_all := lw_g (lw_at lw_m6 94 rfl) rfl
theorem q1353 : (Jvm.Cond.code ({ cls := "StoryColumnsModel", name := "manyIdle", desc := "()I" } : Jvm.MethodName) prog_14_method_53_code (4 : Nat) (Option.some Jvm.ClassFile.FieldType.int)) ∈ lw_all := lw_g (lw_at lw_m6 95 rfl) rfl
theorem q1354 : (Jvm.Cond.methodLink "StoryColumnsModel" (220 : Nat) ({ cls := "StoryColumnsModel", name := "manyLost", desc := "()I" } : Jvm.MethodName)) ∈ lw_all := lw_g (lw_at lw_m6 96 rfl) rfl
theorem q1355 : (Jvm.Cond.privateMethod ({ cls := "StoryColumnsModel", name := "manyLost", desc := "()I" } : Jvm.MethodName)) ∈ lw_tbl := lw_at lw_m6 97 rfl
theorem q1356 : (Jvm.Cond.instanceMethod ({ cls := "StoryColumnsModel", name := "manyLost", desc := "()I" } : Jvm.MethodName)) ∈ lw_all := lw_g (lw_at lw_m6 98 rfl) rfl
theorem q1357 : (Jvm.Cond.code ({ cls := "StoryColumnsModel", name := "manyLost", desc := "()I" } : Jvm.MethodName) prog_14_method_54_code (3 : Nat) (Option.some Jvm.ClassFile.FieldType.int)) ∈ lw_all := lw_g (lw_at lw_m6 99 rfl) rfl
theorem q1363 : (Jvm.Cond.castable "StoryColumnsModel" "java/lang/Object") ∈ lw_tbl := lw_at lw_m6 105 rfl
theorem in_X1 : ∀ w ∈ wsX10, w ∈ lw_all := lw_in wsX10 [1072, 1074, 1076, 1078, 1080, 1082, 1084, 1086, 1088, 1090, 1092, 1094, 1096, 1098, 1100, 1102, 1104, 1106, 1108, 1110, 1112, 1114, 1116, 1118, 1120, 1122, 1124, 1126, 1128, 1130, 1132, 1134, 1136, 1138] (by decide +kernel) (by decide +kernel)
