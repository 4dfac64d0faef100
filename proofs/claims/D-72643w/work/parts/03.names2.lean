/-! StoryColumns -/
set_option maxRecDepth 100000
def RX0 : String := "StoryColumns"
def TX0 : u_T := fun k => match k with
  | 0 => ("StoryColumns", "blocks", "Ljava/util/List;", true)
  | 1 => ("StoryColumns", "lines", "Ljava/util/List;", true)
  | 2 => ("StoryColumns", "isKnown", "Z", false)
  | 3 => ("StoryColumns", "stories", "Ljava/util/List;", true)
  | 4 => ("StoryColumns", "articles", "Ljava/util/List;", true)
  | _ => ("StoryColumns", "plain", "I", false)
def tyX0 : Nat → FieldType := fun k => match k with
  | 0 => .object "java/util/List"
  | 1 => .object "java/util/List"
  | 2 => .boolean
  | 3 => .object "java/util/List"
  | 4 => .object "java/util/List"
  | _ => .int
abbrev wsX00 : List Cond := u_ws RX0 TX0 6
theorem nmX0 : ∀ a, a < 6 → ∀ b, b < 6 → a ≠ b → (TX0 a).2.1 ≠ (TX0 b).2.1 := by decide +kernel
theorem tyX0_ok : ∀ k, k < 6 → parseFieldDescriptor (TX0 k).2.2.1 = some (tyX0 k) := by decide +kernel
abbrev cX0_init : ByteArray := prog_1_method_2_code
def yX0_init : MethodName := ⟨RX0, "<init>", "()V"⟩
def dkwX0_init_2 : List UInt8 := [16, 24, 183, 0, 11, 181, 0, 24, 177]
abbrev dktX0_init_2 : List UInt8 := dkwX0_init_2 ++ []
def dkwX0_init_1 : List UInt8 := [183, 0, 11, 181, 0, 18, 42, 187, 0, 7, 89, 16, 24, 183, 0, 11, 181, 0, 21, 42, 187, 0, 7, 89]
abbrev dktX0_init_1 : List UInt8 := dkwX0_init_1 ++ dktX0_init_2
def dkwX0_init_0 : List UInt8 := [42, 183, 0, 1, 42, 187, 0, 7, 89, 16, 24, 183, 0, 11, 181, 0, 14, 42, 187, 0, 7, 89, 16, 12]
abbrev dktX0_init_0 : List UInt8 := dkwX0_init_0 ++ dktX0_init_1
theorem dksX0_init_0 : cX0_init.data.toList.drop 0 = dktX0_init_0 := by decide +kernel
theorem dksX0_init_1 : cX0_init.data.toList.drop 24 = dktX0_init_1 := dk_seg dksX0_init_0 24 rfl rfl
theorem dksX0_init_2 : cX0_init.data.toList.drop 48 = dktX0_init_2 := dk_seg dksX0_init_1 24 rfl rfl
theorem dX0_init_0 : decode cX0_init 0 = .ok (.aload_n 0, 1) := dk_42 (dk_at dksX0_init_0 0 rfl rfl)
theorem dX0_init_1 : decode cX0_init 1 = .ok (.invokespecial 1, 3) := dk_183 0 1 (dk_at dksX0_init_0 1 rfl rfl)
theorem dX0_init_4 : decode cX0_init 4 = .ok (.aload_n 0, 1) := dk_42 (dk_at dksX0_init_0 4 rfl rfl)
theorem dX0_init_5 : decode cX0_init 5 = .ok (.new 7, 3) := dk_187 0 7 (dk_at dksX0_init_0 5 rfl rfl)
theorem dX0_init_8 : decode cX0_init 8 = .ok (.dup, 1) := dk_89 (dk_at dksX0_init_0 8 rfl rfl)
theorem dX0_init_9 : decode cX0_init 9 = .ok (.bipush 24, 2) := dk_16 24 (dk_at dksX0_init_0 9 rfl rfl)
theorem dX0_init_11 : decode cX0_init 11 = .ok (.invokespecial 11, 3) := dk_183 0 11 (dk_at dksX0_init_0 11 rfl rfl)
theorem dX0_init_14 : decode cX0_init 14 = .ok (.putfield 14, 3) := dk_181 0 14 (dk_at dksX0_init_0 14 rfl rfl)
theorem dX0_init_17 : decode cX0_init 17 = .ok (.aload_n 0, 1) := dk_42 (dk_at dksX0_init_0 17 rfl rfl)
theorem dX0_init_18 : decode cX0_init 18 = .ok (.new 7, 3) := dk_187 0 7 (dk_at dksX0_init_0 18 rfl rfl)
theorem dX0_init_21 : decode cX0_init 21 = .ok (.dup, 1) := dk_89 (dk_at dksX0_init_0 21 rfl rfl)
theorem dX0_init_22 : decode cX0_init 22 = .ok (.bipush 12, 2) := dk_16 12 (dk_at dksX0_init_0 22 rfl rfl)
theorem dX0_init_24 : decode cX0_init 24 = .ok (.invokespecial 11, 3) := dk_183 0 11 (dk_at dksX0_init_1 0 rfl rfl)
theorem dX0_init_27 : decode cX0_init 27 = .ok (.putfield 18, 3) := dk_181 0 18 (dk_at dksX0_init_1 3 rfl rfl)
theorem dX0_init_30 : decode cX0_init 30 = .ok (.aload_n 0, 1) := dk_42 (dk_at dksX0_init_1 6 rfl rfl)
theorem dX0_init_31 : decode cX0_init 31 = .ok (.new 7, 3) := dk_187 0 7 (dk_at dksX0_init_1 7 rfl rfl)
theorem dX0_init_34 : decode cX0_init 34 = .ok (.dup, 1) := dk_89 (dk_at dksX0_init_1 10 rfl rfl)
theorem dX0_init_35 : decode cX0_init 35 = .ok (.bipush 24, 2) := dk_16 24 (dk_at dksX0_init_1 11 rfl rfl)
theorem dX0_init_37 : decode cX0_init 37 = .ok (.invokespecial 11, 3) := dk_183 0 11 (dk_at dksX0_init_1 13 rfl rfl)
theorem dX0_init_40 : decode cX0_init 40 = .ok (.putfield 21, 3) := dk_181 0 21 (dk_at dksX0_init_1 16 rfl rfl)
theorem dX0_init_43 : decode cX0_init 43 = .ok (.aload_n 0, 1) := dk_42 (dk_at dksX0_init_1 19 rfl rfl)
theorem dX0_init_44 : decode cX0_init 44 = .ok (.new 7, 3) := dk_187 0 7 (dk_at dksX0_init_1 20 rfl rfl)
theorem dX0_init_47 : decode cX0_init 47 = .ok (.dup, 1) := dk_89 (dk_at dksX0_init_1 23 rfl rfl)
theorem dX0_init_48 : decode cX0_init 48 = .ok (.bipush 24, 2) := dk_16 24 (dk_at dksX0_init_2 0 rfl rfl)
theorem dX0_init_50 : decode cX0_init 50 = .ok (.invokespecial 11, 3) := dk_183 0 11 (dk_at dksX0_init_2 2 rfl rfl)
theorem dX0_init_53 : decode cX0_init 53 = .ok (.putfield 24, 3) := dk_181 0 24 (dk_at dksX0_init_2 5 rfl rfl)
theorem dX0_init_56 : decode cX0_init 56 = .ok (.return_, 1) := dk_177 (dk_at dksX0_init_2 8 rfl rfl)
abbrev cX0_block : ByteArray := prog_1_method_7_code
def yX0_block : MethodName := ⟨RX0, "block", "(IIIIII)I"⟩
def dkwX0_block_7 : List UInt8 := [180, 0, 14, 25, 8, 185, 0, 89, 2, 0, 87, 42, 21, 7, 182, 0, 93, 172]
abbrev dktX0_block_7 : List UInt8 := dkwX0_block_7 ++ []
def dkwX0_block_6 : List UInt8 := [182, 0, 85, 153, 0, 6, 16, 253, 172, 167, 255, 221, 21, 7, 16, 24, 160, 0, 6, 16, 252, 172, 42]
abbrev dktX0_block_6 : List UInt8 := dkwX0_block_6 ++ dktX0_block_7
def dkwX0_block_5 : List UInt8 := [185, 0, 75, 1, 0, 153, 0, 31, 25, 9, 185, 0, 81, 1, 0, 192, 0, 66, 58, 10, 25, 10, 25, 8]
abbrev dktX0_block_5 : List UInt8 := dkwX0_block_5 ++ dktX0_block_6
def dkwX0_block_4 : List UInt8 := [21, 5, 21, 6, 183, 0, 68, 58, 8, 42, 180, 0, 14, 185, 0, 71, 1, 0, 58, 9, 25, 9]
abbrev dktX0_block_4 : List UInt8 := dkwX0_block_4 ++ dktX0_block_5
def dkwX0_block_3 : List UInt8 := [21, 4, 21, 5, 21, 6, 183, 0, 63, 167, 0, 22, 187, 0, 66, 89, 42, 21, 7, 27, 28, 29, 21, 4]
abbrev dktX0_block_3 : List UInt8 := dkwX0_block_3 ++ dktX0_block_4
def dkwX0_block_2 : List UInt8 := [180, 0, 14, 185, 0, 27, 1, 0, 54, 7, 28, 154, 0, 24, 187, 0, 61, 89, 42, 21, 7, 27, 29]
abbrev dktX0_block_2 : List UInt8 := dkwX0_block_2 ++ dktX0_block_3
def dkwX0_block_1 : List UInt8 := [184, 0, 58, 153, 0, 15, 21, 5, 21, 6, 16, 29, 184, 0, 58, 154, 0, 6, 16, 254, 172, 42]
abbrev dktX0_block_1 : List UInt8 := dkwX0_block_1 ++ dktX0_block_2
def dkwX0_block_0 : List UInt8 := [27, 3, 6, 184, 0, 50, 153, 0, 35, 28, 3, 5, 184, 0, 50, 153, 0, 26, 29, 21, 4, 16, 7]
abbrev dktX0_block_0 : List UInt8 := dkwX0_block_0 ++ dktX0_block_1
theorem dksX0_block_0 : cX0_block.data.toList.drop 0 = dktX0_block_0 := by decide +kernel
theorem dksX0_block_1 : cX0_block.data.toList.drop 23 = dktX0_block_1 := dk_seg dksX0_block_0 23 rfl rfl
theorem dksX0_block_2 : cX0_block.data.toList.drop 45 = dktX0_block_2 := dk_seg dksX0_block_1 22 rfl rfl
theorem dksX0_block_3 : cX0_block.data.toList.drop 68 = dktX0_block_3 := dk_seg dksX0_block_2 23 rfl rfl
theorem dksX0_block_4 : cX0_block.data.toList.drop 92 = dktX0_block_4 := dk_seg dksX0_block_3 24 rfl rfl
theorem dksX0_block_5 : cX0_block.data.toList.drop 114 = dktX0_block_5 := dk_seg dksX0_block_4 22 rfl rfl
theorem dksX0_block_6 : cX0_block.data.toList.drop 138 = dktX0_block_6 := dk_seg dksX0_block_5 24 rfl rfl
theorem dksX0_block_7 : cX0_block.data.toList.drop 161 = dktX0_block_7 := dk_seg dksX0_block_6 23 rfl rfl
theorem dX0_block_0 : decode cX0_block 0 = .ok (.iload_n 1, 1) := dk_27 (dk_at dksX0_block_0 0 rfl rfl)
theorem dX0_block_1 : decode cX0_block 1 = .ok (.iconst 0, 1) := dk_3 (dk_at dksX0_block_0 1 rfl rfl)
theorem dX0_block_2 : decode cX0_block 2 = .ok (.iconst 3, 1) := dk_6 (dk_at dksX0_block_0 2 rfl rfl)
theorem dX0_block_3 : decode cX0_block 3 = .ok (.invokestatic 50, 3) := dk_184 0 50 (dk_at dksX0_block_0 3 rfl rfl)
theorem dX0_block_6 : decode cX0_block 6 = .ok (.ifCond .eq 35, 3) := dk_153 0 35 (dk_at dksX0_block_0 6 rfl rfl)
theorem dX0_block_9 : decode cX0_block 9 = .ok (.iload_n 2, 1) := dk_28 (dk_at dksX0_block_0 9 rfl rfl)
theorem dX0_block_10 : decode cX0_block 10 = .ok (.iconst 0, 1) := dk_3 (dk_at dksX0_block_0 10 rfl rfl)
theorem dX0_block_11 : decode cX0_block 11 = .ok (.iconst 2, 1) := dk_5 (dk_at dksX0_block_0 11 rfl rfl)
theorem dX0_block_12 : decode cX0_block 12 = .ok (.invokestatic 50, 3) := dk_184 0 50 (dk_at dksX0_block_0 12 rfl rfl)
theorem dX0_block_15 : decode cX0_block 15 = .ok (.ifCond .eq 26, 3) := dk_153 0 26 (dk_at dksX0_block_0 15 rfl rfl)
theorem dX0_block_18 : decode cX0_block 18 = .ok (.iload_n 3, 1) := dk_29 (dk_at dksX0_block_0 18 rfl rfl)
theorem dX0_block_19 : decode cX0_block 19 = .ok (.iload 4, 2) := dk_21 4 (dk_at dksX0_block_0 19 rfl rfl)
theorem dX0_block_21 : decode cX0_block 21 = .ok (.bipush 7, 2) := dk_16 7 (dk_at dksX0_block_0 21 rfl rfl)
theorem dX0_block_23 : decode cX0_block 23 = .ok (.invokestatic 58, 3) := dk_184 0 58 (dk_at dksX0_block_1 0 rfl rfl)
theorem dX0_block_26 : decode cX0_block 26 = .ok (.ifCond .eq 15, 3) := dk_153 0 15 (dk_at dksX0_block_1 3 rfl rfl)
theorem dX0_block_29 : decode cX0_block 29 = .ok (.iload 5, 2) := dk_21 5 (dk_at dksX0_block_1 6 rfl rfl)
theorem dX0_block_31 : decode cX0_block 31 = .ok (.iload 6, 2) := dk_21 6 (dk_at dksX0_block_1 8 rfl rfl)
theorem dX0_block_33 : decode cX0_block 33 = .ok (.bipush 29, 2) := dk_16 29 (dk_at dksX0_block_1 10 rfl rfl)
theorem dX0_block_35 : decode cX0_block 35 = .ok (.invokestatic 58, 3) := dk_184 0 58 (dk_at dksX0_block_1 12 rfl rfl)
theorem dX0_block_38 : decode cX0_block 38 = .ok (.ifCond .ne 6, 3) := dk_154 0 6 (dk_at dksX0_block_1 15 rfl rfl)
theorem dX0_block_41 : decode cX0_block 41 = .ok (.bipush (-2), 2) := dk_16 254 (dk_at dksX0_block_1 18 rfl rfl)
theorem dX0_block_43 : decode cX0_block 43 = .ok (.ireturn, 1) := dk_172 (dk_at dksX0_block_1 20 rfl rfl)
theorem dX0_block_44 : decode cX0_block 44 = .ok (.aload_n 0, 1) := dk_42 (dk_at dksX0_block_1 21 rfl rfl)
theorem dX0_block_45 : decode cX0_block 45 = .ok (.getfield 14, 3) := dk_180 0 14 (dk_at dksX0_block_2 0 rfl rfl)
theorem dX0_block_48 : decode cX0_block 48 = .ok (.invokeinterface 27 1, 5) := by decide +kernel
theorem dX0_block_53 : decode cX0_block 53 = .ok (.istore 7, 2) := dk_54 7 (dk_at dksX0_block_2 8 rfl rfl)
theorem dX0_block_55 : decode cX0_block 55 = .ok (.iload_n 2, 1) := dk_28 (dk_at dksX0_block_2 10 rfl rfl)
theorem dX0_block_56 : decode cX0_block 56 = .ok (.ifCond .ne 24, 3) := dk_154 0 24 (dk_at dksX0_block_2 11 rfl rfl)
theorem dX0_block_59 : decode cX0_block 59 = .ok (.new 61, 3) := dk_187 0 61 (dk_at dksX0_block_2 14 rfl rfl)
theorem dX0_block_62 : decode cX0_block 62 = .ok (.dup, 1) := dk_89 (dk_at dksX0_block_2 17 rfl rfl)
theorem dX0_block_63 : decode cX0_block 63 = .ok (.aload_n 0, 1) := dk_42 (dk_at dksX0_block_2 18 rfl rfl)
theorem dX0_block_64 : decode cX0_block 64 = .ok (.iload 7, 2) := dk_21 7 (dk_at dksX0_block_2 19 rfl rfl)
theorem dX0_block_66 : decode cX0_block 66 = .ok (.iload_n 1, 1) := dk_27 (dk_at dksX0_block_2 21 rfl rfl)
theorem dX0_block_67 : decode cX0_block 67 = .ok (.iload_n 3, 1) := dk_29 (dk_at dksX0_block_2 22 rfl rfl)
theorem dX0_block_68 : decode cX0_block 68 = .ok (.iload 4, 2) := dk_21 4 (dk_at dksX0_block_3 0 rfl rfl)
theorem dX0_block_70 : decode cX0_block 70 = .ok (.iload 5, 2) := dk_21 5 (dk_at dksX0_block_3 2 rfl rfl)
theorem dX0_block_72 : decode cX0_block 72 = .ok (.iload 6, 2) := dk_21 6 (dk_at dksX0_block_3 4 rfl rfl)
theorem dX0_block_74 : decode cX0_block 74 = .ok (.invokespecial 63, 3) := dk_183 0 63 (dk_at dksX0_block_3 6 rfl rfl)
theorem dX0_block_77 : decode cX0_block 77 = .ok (.goto 22, 3) := dk_167 0 22 (dk_at dksX0_block_3 9 rfl rfl)
theorem dX0_block_80 : decode cX0_block 80 = .ok (.new 66, 3) := dk_187 0 66 (dk_at dksX0_block_3 12 rfl rfl)
theorem dX0_block_83 : decode cX0_block 83 = .ok (.dup, 1) := dk_89 (dk_at dksX0_block_3 15 rfl rfl)
theorem dX0_block_84 : decode cX0_block 84 = .ok (.aload_n 0, 1) := dk_42 (dk_at dksX0_block_3 16 rfl rfl)
theorem dX0_block_85 : decode cX0_block 85 = .ok (.iload 7, 2) := dk_21 7 (dk_at dksX0_block_3 17 rfl rfl)
theorem dX0_block_87 : decode cX0_block 87 = .ok (.iload_n 1, 1) := dk_27 (dk_at dksX0_block_3 19 rfl rfl)
theorem dX0_block_88 : decode cX0_block 88 = .ok (.iload_n 2, 1) := dk_28 (dk_at dksX0_block_3 20 rfl rfl)
theorem dX0_block_89 : decode cX0_block 89 = .ok (.iload_n 3, 1) := dk_29 (dk_at dksX0_block_3 21 rfl rfl)
theorem dX0_block_90 : decode cX0_block 90 = .ok (.iload 4, 2) := dk_21 4 (dk_at dksX0_block_3 22 rfl rfl)
theorem dX0_block_92 : decode cX0_block 92 = .ok (.iload 5, 2) := dk_21 5 (dk_at dksX0_block_4 0 rfl rfl)
theorem dX0_block_94 : decode cX0_block 94 = .ok (.iload 6, 2) := dk_21 6 (dk_at dksX0_block_4 2 rfl rfl)
theorem dX0_block_96 : decode cX0_block 96 = .ok (.invokespecial 68, 3) := dk_183 0 68 (dk_at dksX0_block_4 4 rfl rfl)
theorem dX0_block_99 : decode cX0_block 99 = .ok (.astore 8, 2) := dk_58 8 (dk_at dksX0_block_4 7 rfl rfl)
theorem dX0_block_101 : decode cX0_block 101 = .ok (.aload_n 0, 1) := dk_42 (dk_at dksX0_block_4 9 rfl rfl)
theorem dX0_block_102 : decode cX0_block 102 = .ok (.getfield 14, 3) := dk_180 0 14 (dk_at dksX0_block_4 10 rfl rfl)
theorem dX0_block_105 : decode cX0_block 105 = .ok (.invokeinterface 71 1, 5) := by decide +kernel
theorem dX0_block_110 : decode cX0_block 110 = .ok (.astore 9, 2) := dk_58 9 (dk_at dksX0_block_4 18 rfl rfl)
theorem dX0_block_112 : decode cX0_block 112 = .ok (.aload 9, 2) := dk_25 9 (dk_at dksX0_block_4 20 rfl rfl)
theorem dX0_block_114 : decode cX0_block 114 = .ok (.invokeinterface 75 1, 5) := by decide +kernel
theorem dX0_block_119 : decode cX0_block 119 = .ok (.ifCond .eq 31, 3) := dk_153 0 31 (dk_at dksX0_block_5 5 rfl rfl)
theorem dX0_block_122 : decode cX0_block 122 = .ok (.aload 9, 2) := dk_25 9 (dk_at dksX0_block_5 8 rfl rfl)
theorem dX0_block_124 : decode cX0_block 124 = .ok (.invokeinterface 81 1, 5) := by decide +kernel
theorem dX0_block_129 : decode cX0_block 129 = .ok (.checkcast 66, 3) := dk_192 0 66 (dk_at dksX0_block_5 15 rfl rfl)
theorem dX0_block_132 : decode cX0_block 132 = .ok (.astore 10, 2) := dk_58 10 (dk_at dksX0_block_5 18 rfl rfl)
theorem dX0_block_134 : decode cX0_block 134 = .ok (.aload 10, 2) := dk_25 10 (dk_at dksX0_block_5 20 rfl rfl)
theorem dX0_block_136 : decode cX0_block 136 = .ok (.aload 8, 2) := dk_25 8 (dk_at dksX0_block_5 22 rfl rfl)
theorem dX0_block_138 : decode cX0_block 138 = .ok (.invokevirtual 85, 3) := dk_182 0 85 (dk_at dksX0_block_6 0 rfl rfl)
theorem dX0_block_141 : decode cX0_block 141 = .ok (.ifCond .eq 6, 3) := dk_153 0 6 (dk_at dksX0_block_6 3 rfl rfl)
theorem dX0_block_144 : decode cX0_block 144 = .ok (.bipush (-3), 2) := dk_16 253 (dk_at dksX0_block_6 6 rfl rfl)
theorem dX0_block_146 : decode cX0_block 146 = .ok (.ireturn, 1) := dk_172 (dk_at dksX0_block_6 8 rfl rfl)
theorem dX0_block_147 : decode cX0_block 147 = .ok (.goto (-35), 3) := dk_167 255 221 (dk_at dksX0_block_6 9 rfl rfl)
theorem dX0_block_150 : decode cX0_block 150 = .ok (.iload 7, 2) := dk_21 7 (dk_at dksX0_block_6 12 rfl rfl)
theorem dX0_block_152 : decode cX0_block 152 = .ok (.bipush 24, 2) := dk_16 24 (dk_at dksX0_block_6 14 rfl rfl)
theorem dX0_block_154 : decode cX0_block 154 = .ok (.if_icmp .ne 6, 3) := dk_160 0 6 (dk_at dksX0_block_6 16 rfl rfl)
theorem dX0_block_157 : decode cX0_block 157 = .ok (.bipush (-4), 2) := dk_16 252 (dk_at dksX0_block_6 19 rfl rfl)
theorem dX0_block_159 : decode cX0_block 159 = .ok (.ireturn, 1) := dk_172 (dk_at dksX0_block_6 21 rfl rfl)
theorem dX0_block_160 : decode cX0_block 160 = .ok (.aload_n 0, 1) := dk_42 (dk_at dksX0_block_6 22 rfl rfl)
theorem dX0_block_161 : decode cX0_block 161 = .ok (.getfield 14, 3) := dk_180 0 14 (dk_at dksX0_block_7 0 rfl rfl)
theorem dX0_block_164 : decode cX0_block 164 = .ok (.aload 8, 2) := dk_25 8 (dk_at dksX0_block_7 3 rfl rfl)
theorem dX0_block_166 : decode cX0_block 166 = .ok (.invokeinterface 89 2, 5) := by decide +kernel
theorem dX0_block_171 : decode cX0_block 171 = .ok (.pop, 1) := dk_87 (dk_at dksX0_block_7 10 rfl rfl)
theorem dX0_block_172 : decode cX0_block 172 = .ok (.aload_n 0, 1) := dk_42 (dk_at dksX0_block_7 11 rfl rfl)
theorem dX0_block_173 : decode cX0_block 173 = .ok (.iload 7, 2) := dk_21 7 (dk_at dksX0_block_7 12 rfl rfl)
theorem dX0_block_175 : decode cX0_block 175 = .ok (.invokevirtual 93, 3) := dk_182 0 93 (dk_at dksX0_block_7 14 rfl rfl)
theorem dX0_block_178 : decode cX0_block 178 = .ok (.ireturn, 1) := dk_172 (dk_at dksX0_block_7 17 rfl rfl)
abbrev cX0_in : ByteArray := prog_1_method_1_code
def yX0_in : MethodName := ⟨RX0, "in", "(III)Z"⟩
def dkwX0_in_0 : List UInt8 := [26, 27, 161, 0, 12, 26, 28, 163, 0, 7, 4, 167, 0, 4, 3, 172]
abbrev dktX0_in_0 : List UInt8 := dkwX0_in_0 ++ []
theorem dksX0_in_0 : cX0_in.data.toList.drop 0 = dktX0_in_0 := by decide +kernel
theorem dX0_in_0 : decode cX0_in 0 = .ok (.iload_n 0, 1) := dk_26 (dk_at dksX0_in_0 0 rfl rfl)
theorem dX0_in_1 : decode cX0_in 1 = .ok (.iload_n 1, 1) := dk_27 (dk_at dksX0_in_0 1 rfl rfl)
theorem dX0_in_2 : decode cX0_in 2 = .ok (.if_icmp .lt 12, 3) := dk_161 0 12 (dk_at dksX0_in_0 2 rfl rfl)
theorem dX0_in_5 : decode cX0_in 5 = .ok (.iload_n 0, 1) := dk_26 (dk_at dksX0_in_0 5 rfl rfl)
theorem dX0_in_6 : decode cX0_in 6 = .ok (.iload_n 2, 1) := dk_28 (dk_at dksX0_in_0 6 rfl rfl)
theorem dX0_in_7 : decode cX0_in 7 = .ok (.if_icmp .gt 7, 3) := dk_163 0 7 (dk_at dksX0_in_0 7 rfl rfl)
theorem dX0_in_10 : decode cX0_in 10 = .ok (.iconst 1, 1) := dk_4 (dk_at dksX0_in_0 10 rfl rfl)
theorem dX0_in_11 : decode cX0_in 11 = .ok (.goto 4, 3) := dk_167 0 4 (dk_at dksX0_in_0 11 rfl rfl)
theorem dX0_in_14 : decode cX0_in 14 = .ok (.iconst 0, 1) := dk_3 (dk_at dksX0_in_0 14 rfl rfl)
theorem dX0_in_15 : decode cX0_in 15 = .ok (.ireturn, 1) := dk_172 (dk_at dksX0_in_0 15 rfl rfl)
abbrev cX0_isSpan : ByteArray := prog_1_method_6_code
def yX0_isSpan : MethodName := ⟨RX0, "isSpan", "(III)Z"⟩
def dkwX0_isSpan_0 : List UInt8 := [26, 3, 28, 184, 0, 50, 153, 0, 16, 27, 26, 28, 184, 0, 50, 153, 0, 7, 4, 167, 0, 4, 3, 172]
abbrev dktX0_isSpan_0 : List UInt8 := dkwX0_isSpan_0 ++ []
theorem dksX0_isSpan_0 : cX0_isSpan.data.toList.drop 0 = dktX0_isSpan_0 := by decide +kernel
theorem dX0_isSpan_0 : decode cX0_isSpan 0 = .ok (.iload_n 0, 1) := dk_26 (dk_at dksX0_isSpan_0 0 rfl rfl)
theorem dX0_isSpan_1 : decode cX0_isSpan 1 = .ok (.iconst 0, 1) := dk_3 (dk_at dksX0_isSpan_0 1 rfl rfl)
theorem dX0_isSpan_2 : decode cX0_isSpan 2 = .ok (.iload_n 2, 1) := dk_28 (dk_at dksX0_isSpan_0 2 rfl rfl)
theorem dX0_isSpan_3 : decode cX0_isSpan 3 = .ok (.invokestatic 50, 3) := dk_184 0 50 (dk_at dksX0_isSpan_0 3 rfl rfl)
theorem dX0_isSpan_6 : decode cX0_isSpan 6 = .ok (.ifCond .eq 16, 3) := dk_153 0 16 (dk_at dksX0_isSpan_0 6 rfl rfl)
theorem dX0_isSpan_9 : decode cX0_isSpan 9 = .ok (.iload_n 1, 1) := dk_27 (dk_at dksX0_isSpan_0 9 rfl rfl)
theorem dX0_isSpan_10 : decode cX0_isSpan 10 = .ok (.iload_n 0, 1) := dk_26 (dk_at dksX0_isSpan_0 10 rfl rfl)
theorem dX0_isSpan_11 : decode cX0_isSpan 11 = .ok (.iload_n 2, 1) := dk_28 (dk_at dksX0_isSpan_0 11 rfl rfl)
theorem dX0_isSpan_12 : decode cX0_isSpan 12 = .ok (.invokestatic 50, 3) := dk_184 0 50 (dk_at dksX0_isSpan_0 12 rfl rfl)
theorem dX0_isSpan_15 : decode cX0_isSpan 15 = .ok (.ifCond .eq 7, 3) := dk_153 0 7 (dk_at dksX0_isSpan_0 15 rfl rfl)
theorem dX0_isSpan_18 : decode cX0_isSpan 18 = .ok (.iconst 1, 1) := dk_4 (dk_at dksX0_isSpan_0 18 rfl rfl)
theorem dX0_isSpan_19 : decode cX0_isSpan 19 = .ok (.goto 4, 3) := dk_167 0 4 (dk_at dksX0_isSpan_0 19 rfl rfl)
theorem dX0_isSpan_22 : decode cX0_isSpan 22 = .ok (.iconst 0, 1) := dk_3 (dk_at dksX0_isSpan_0 22 rfl rfl)
theorem dX0_isSpan_23 : decode cX0_isSpan 23 = .ok (.ireturn, 1) := dk_172 (dk_at dksX0_isSpan_0 23 rfl rfl)
abbrev cX0_changed : ByteArray := prog_1_method_5_code
def yX0_changed : MethodName := ⟨RX0, "changed", "(I)I"⟩
def dkwX0_changed_0 : List UInt8 := [42, 3, 181, 0, 54, 27, 172]
abbrev dktX0_changed_0 : List UInt8 := dkwX0_changed_0 ++ []
theorem dksX0_changed_0 : cX0_changed.data.toList.drop 0 = dktX0_changed_0 := by decide +kernel
theorem dX0_changed_0 : decode cX0_changed 0 = .ok (.aload_n 0, 1) := dk_42 (dk_at dksX0_changed_0 0 rfl rfl)
theorem dX0_changed_1 : decode cX0_changed 1 = .ok (.iconst 0, 1) := dk_3 (dk_at dksX0_changed_0 1 rfl rfl)
theorem dX0_changed_2 : decode cX0_changed 2 = .ok (.putfield 54, 3) := dk_181 0 54 (dk_at dksX0_changed_0 2 rfl rfl)
theorem dX0_changed_5 : decode cX0_changed 5 = .ok (.iload_n 1, 1) := dk_27 (dk_at dksX0_changed_0 5 rfl rfl)
theorem dX0_changed_6 : decode cX0_changed 6 = .ok (.ireturn, 1) := dk_172 (dk_at dksX0_changed_0 6 rfl rfl)
abbrev cX0_words : ByteArray := prog_1_method_8_code
def yX0_words : MethodName := ⟨RX0, "words", "(II)I"⟩
def dkwX0_words_2 : List UInt8 := [180, 0, 104, 54, 4, 45, 28, 181, 0, 104, 21, 4, 172]
abbrev dktX0_words_2 : List UInt8 := dkwX0_words_2 ++ []
def dkwX0_words_1 : List UInt8 := [180, 0, 14, 27, 185, 0, 33, 2, 0, 192, 0, 66, 78, 45, 182, 0, 101, 154, 0, 6, 16, 253, 172, 45]
abbrev dktX0_words_1 : List UInt8 := dkwX0_words_1 ++ dktX0_words_2
def dkwX0_words_0 : List UInt8 := [42, 27, 182, 0, 97, 154, 0, 5, 2, 172, 28, 4, 16, 99, 184, 0, 50, 154, 0, 6, 16, 254, 172, 42]
abbrev dktX0_words_0 : List UInt8 := dkwX0_words_0 ++ dktX0_words_1
theorem dksX0_words_0 : cX0_words.data.toList.drop 0 = dktX0_words_0 := by decide +kernel
theorem dksX0_words_1 : cX0_words.data.toList.drop 24 = dktX0_words_1 := dk_seg dksX0_words_0 24 rfl rfl
theorem dksX0_words_2 : cX0_words.data.toList.drop 48 = dktX0_words_2 := dk_seg dksX0_words_1 24 rfl rfl
theorem dX0_words_0 : decode cX0_words 0 = .ok (.aload_n 0, 1) := dk_42 (dk_at dksX0_words_0 0 rfl rfl)
theorem dX0_words_1 : decode cX0_words 1 = .ok (.iload_n 1, 1) := dk_27 (dk_at dksX0_words_0 1 rfl rfl)
theorem dX0_words_2 : decode cX0_words 2 = .ok (.invokevirtual 97, 3) := dk_182 0 97 (dk_at dksX0_words_0 2 rfl rfl)
theorem dX0_words_5 : decode cX0_words 5 = .ok (.ifCond .ne 5, 3) := dk_154 0 5 (dk_at dksX0_words_0 5 rfl rfl)
theorem dX0_words_8 : decode cX0_words 8 = .ok (.iconst (-1), 1) := dk_2 (dk_at dksX0_words_0 8 rfl rfl)
theorem dX0_words_9 : decode cX0_words 9 = .ok (.ireturn, 1) := dk_172 (dk_at dksX0_words_0 9 rfl rfl)
theorem dX0_words_10 : decode cX0_words 10 = .ok (.iload_n 2, 1) := dk_28 (dk_at dksX0_words_0 10 rfl rfl)
theorem dX0_words_11 : decode cX0_words 11 = .ok (.iconst 1, 1) := dk_4 (dk_at dksX0_words_0 11 rfl rfl)
theorem dX0_words_12 : decode cX0_words 12 = .ok (.bipush 99, 2) := dk_16 99 (dk_at dksX0_words_0 12 rfl rfl)
theorem dX0_words_14 : decode cX0_words 14 = .ok (.invokestatic 50, 3) := dk_184 0 50 (dk_at dksX0_words_0 14 rfl rfl)
theorem dX0_words_17 : decode cX0_words 17 = .ok (.ifCond .ne 6, 3) := dk_154 0 6 (dk_at dksX0_words_0 17 rfl rfl)
theorem dX0_words_20 : decode cX0_words 20 = .ok (.bipush (-2), 2) := dk_16 254 (dk_at dksX0_words_0 20 rfl rfl)
theorem dX0_words_22 : decode cX0_words 22 = .ok (.ireturn, 1) := dk_172 (dk_at dksX0_words_0 22 rfl rfl)
theorem dX0_words_23 : decode cX0_words 23 = .ok (.aload_n 0, 1) := dk_42 (dk_at dksX0_words_0 23 rfl rfl)
theorem dX0_words_24 : decode cX0_words 24 = .ok (.getfield 14, 3) := dk_180 0 14 (dk_at dksX0_words_1 0 rfl rfl)
theorem dX0_words_27 : decode cX0_words 27 = .ok (.iload_n 1, 1) := dk_27 (dk_at dksX0_words_1 3 rfl rfl)
theorem dX0_words_28 : decode cX0_words 28 = .ok (.invokeinterface 33 2, 5) := by decide +kernel
theorem dX0_words_33 : decode cX0_words 33 = .ok (.checkcast 66, 3) := dk_192 0 66 (dk_at dksX0_words_1 9 rfl rfl)
theorem dX0_words_36 : decode cX0_words 36 = .ok (.astore_n 3, 1) := dk_78 (dk_at dksX0_words_1 12 rfl rfl)
theorem dX0_words_37 : decode cX0_words 37 = .ok (.aload_n 3, 1) := dk_45 (dk_at dksX0_words_1 13 rfl rfl)
theorem dX0_words_38 : decode cX0_words 38 = .ok (.invokevirtual 101, 3) := dk_182 0 101 (dk_at dksX0_words_1 14 rfl rfl)
theorem dX0_words_41 : decode cX0_words 41 = .ok (.ifCond .ne 6, 3) := dk_154 0 6 (dk_at dksX0_words_1 17 rfl rfl)
theorem dX0_words_44 : decode cX0_words 44 = .ok (.bipush (-3), 2) := dk_16 253 (dk_at dksX0_words_1 20 rfl rfl)
theorem dX0_words_46 : decode cX0_words 46 = .ok (.ireturn, 1) := dk_172 (dk_at dksX0_words_1 22 rfl rfl)
theorem dX0_words_47 : decode cX0_words 47 = .ok (.aload_n 3, 1) := dk_45 (dk_at dksX0_words_1 23 rfl rfl)
theorem dX0_words_48 : decode cX0_words 48 = .ok (.getfield 104, 3) := dk_180 0 104 (dk_at dksX0_words_2 0 rfl rfl)
theorem dX0_words_51 : decode cX0_words 51 = .ok (.istore 4, 2) := dk_54 4 (dk_at dksX0_words_2 3 rfl rfl)
theorem dX0_words_53 : decode cX0_words 53 = .ok (.aload_n 3, 1) := dk_45 (dk_at dksX0_words_2 5 rfl rfl)
theorem dX0_words_54 : decode cX0_words 54 = .ok (.iload_n 2, 1) := dk_28 (dk_at dksX0_words_2 6 rfl rfl)
theorem dX0_words_55 : decode cX0_words 55 = .ok (.putfield 104, 3) := dk_181 0 104 (dk_at dksX0_words_2 7 rfl rfl)
theorem dX0_words_58 : decode cX0_words 58 = .ok (.iload 4, 2) := dk_21 4 (dk_at dksX0_words_2 10 rfl rfl)
theorem dX0_words_60 : decode cX0_words 60 = .ok (.ireturn, 1) := dk_172 (dk_at dksX0_words_2 12 rfl rfl)
abbrev cX0_isBlock : ByteArray := prog_1_method_4_code
def yX0_isBlock : MethodName := ⟨RX0, "isBlock", "(I)Z"⟩
def dkwX0_isBlock_0 : List UInt8 := [27, 3, 42, 180, 0, 14, 185, 0, 27, 1, 0, 4, 100, 184, 0, 50, 172]
abbrev dktX0_isBlock_0 : List UInt8 := dkwX0_isBlock_0 ++ []
theorem dksX0_isBlock_0 : cX0_isBlock.data.toList.drop 0 = dktX0_isBlock_0 := by decide +kernel
theorem dX0_isBlock_0 : decode cX0_isBlock 0 = .ok (.iload_n 1, 1) := dk_27 (dk_at dksX0_isBlock_0 0 rfl rfl)
theorem dX0_isBlock_1 : decode cX0_isBlock 1 = .ok (.iconst 0, 1) := dk_3 (dk_at dksX0_isBlock_0 1 rfl rfl)
theorem dX0_isBlock_2 : decode cX0_isBlock 2 = .ok (.aload_n 0, 1) := dk_42 (dk_at dksX0_isBlock_0 2 rfl rfl)
theorem dX0_isBlock_3 : decode cX0_isBlock 3 = .ok (.getfield 14, 3) := dk_180 0 14 (dk_at dksX0_isBlock_0 3 rfl rfl)
theorem dX0_isBlock_6 : decode cX0_isBlock 6 = .ok (.invokeinterface 27 1, 5) := by decide +kernel
theorem dX0_isBlock_11 : decode cX0_isBlock 11 = .ok (.iconst 1, 1) := dk_4 (dk_at dksX0_isBlock_0 11 rfl rfl)
theorem dX0_isBlock_12 : decode cX0_isBlock 12 = .ok (.isub, 1) := dk_100 (dk_at dksX0_isBlock_0 12 rfl rfl)
theorem dX0_isBlock_13 : decode cX0_isBlock 13 = .ok (.invokestatic 50, 3) := dk_184 0 50 (dk_at dksX0_isBlock_0 13 rfl rfl)
theorem dX0_isBlock_16 : decode cX0_isBlock 16 = .ok (.ireturn, 1) := dk_172 (dk_at dksX0_isBlock_0 16 rfl rfl)
abbrev cX0_line : ByteArray := prog_1_method_9_code
def yX0_line : MethodName := ⟨RX0, "line", "(IIIII)I"⟩
def dkwX0_line_5 : List UInt8 := [185, 0, 27, 1, 0, 4, 100, 182, 0, 93, 172]
abbrev dktX0_line_5 : List UInt8 := dkwX0_line_5 ++ []
def dkwX0_line_4 : List UInt8 := [27, 28, 29, 21, 4, 21, 5, 183, 0, 107, 185, 0, 89, 2, 0, 87, 42, 42, 180, 0, 18]
abbrev dktX0_line_4 : List UInt8 := dkwX0_line_4 ++ dktX0_line_5
def dkwX0_line_3 : List UInt8 := [180, 0, 18, 185, 0, 27, 1, 0, 16, 12, 160, 0, 6, 16, 252, 172, 42, 180, 0, 18, 187, 0, 37, 89]
abbrev dktX0_line_3 : List UInt8 := dkwX0_line_3 ++ dktX0_line_4
def dkwX0_line_2 : List UInt8 := [21, 5, 28, 154, 0, 8, 16, 29, 167, 0, 5, 16, 7, 184, 0, 58, 154, 0, 6, 16, 254, 172, 42]
abbrev dktX0_line_2 : List UInt8 := dkwX0_line_2 ++ dktX0_line_3
def dkwX0_line_1 : List UInt8 := [154, 0, 8, 16, 7, 167, 0, 5, 16, 29, 54, 6, 29, 4, 21, 6, 184, 0, 50, 153, 0, 24, 21, 4]
abbrev dktX0_line_1 : List UInt8 := dkwX0_line_1 ++ dktX0_line_2
def dkwX0_line_0 : List UInt8 := [27, 3, 6, 184, 0, 50, 153, 0, 12, 28, 3, 4, 184, 0, 50, 154, 0, 6, 16, 254, 172, 28]
abbrev dktX0_line_0 : List UInt8 := dkwX0_line_0 ++ dktX0_line_1
theorem dksX0_line_0 : cX0_line.data.toList.drop 0 = dktX0_line_0 := by decide +kernel
theorem dksX0_line_1 : cX0_line.data.toList.drop 22 = dktX0_line_1 := dk_seg dksX0_line_0 22 rfl rfl
theorem dksX0_line_2 : cX0_line.data.toList.drop 46 = dktX0_line_2 := dk_seg dksX0_line_1 24 rfl rfl
theorem dksX0_line_3 : cX0_line.data.toList.drop 69 = dktX0_line_3 := dk_seg dksX0_line_2 23 rfl rfl
theorem dksX0_line_4 : cX0_line.data.toList.drop 93 = dktX0_line_4 := dk_seg dksX0_line_3 24 rfl rfl
theorem dksX0_line_5 : cX0_line.data.toList.drop 114 = dktX0_line_5 := dk_seg dksX0_line_4 21 rfl rfl
theorem dX0_line_0 : decode cX0_line 0 = .ok (.iload_n 1, 1) := dk_27 (dk_at dksX0_line_0 0 rfl rfl)
theorem dX0_line_1 : decode cX0_line 1 = .ok (.iconst 0, 1) := dk_3 (dk_at dksX0_line_0 1 rfl rfl)
theorem dX0_line_2 : decode cX0_line 2 = .ok (.iconst 3, 1) := dk_6 (dk_at dksX0_line_0 2 rfl rfl)
theorem dX0_line_3 : decode cX0_line 3 = .ok (.invokestatic 50, 3) := dk_184 0 50 (dk_at dksX0_line_0 3 rfl rfl)
theorem dX0_line_6 : decode cX0_line 6 = .ok (.ifCond .eq 12, 3) := dk_153 0 12 (dk_at dksX0_line_0 6 rfl rfl)
theorem dX0_line_9 : decode cX0_line 9 = .ok (.iload_n 2, 1) := dk_28 (dk_at dksX0_line_0 9 rfl rfl)
theorem dX0_line_10 : decode cX0_line 10 = .ok (.iconst 0, 1) := dk_3 (dk_at dksX0_line_0 10 rfl rfl)
theorem dX0_line_11 : decode cX0_line 11 = .ok (.iconst 1, 1) := dk_4 (dk_at dksX0_line_0 11 rfl rfl)
theorem dX0_line_12 : decode cX0_line 12 = .ok (.invokestatic 50, 3) := dk_184 0 50 (dk_at dksX0_line_0 12 rfl rfl)
theorem dX0_line_15 : decode cX0_line 15 = .ok (.ifCond .ne 6, 3) := dk_154 0 6 (dk_at dksX0_line_0 15 rfl rfl)
theorem dX0_line_18 : decode cX0_line 18 = .ok (.bipush (-2), 2) := dk_16 254 (dk_at dksX0_line_0 18 rfl rfl)
theorem dX0_line_20 : decode cX0_line 20 = .ok (.ireturn, 1) := dk_172 (dk_at dksX0_line_0 20 rfl rfl)
theorem dX0_line_21 : decode cX0_line 21 = .ok (.iload_n 2, 1) := dk_28 (dk_at dksX0_line_0 21 rfl rfl)
theorem dX0_line_22 : decode cX0_line 22 = .ok (.ifCond .ne 8, 3) := dk_154 0 8 (dk_at dksX0_line_1 0 rfl rfl)
theorem dX0_line_25 : decode cX0_line 25 = .ok (.bipush 7, 2) := dk_16 7 (dk_at dksX0_line_1 3 rfl rfl)
theorem dX0_line_27 : decode cX0_line 27 = .ok (.goto 5, 3) := dk_167 0 5 (dk_at dksX0_line_1 5 rfl rfl)
theorem dX0_line_30 : decode cX0_line 30 = .ok (.bipush 29, 2) := dk_16 29 (dk_at dksX0_line_1 8 rfl rfl)
theorem dX0_line_32 : decode cX0_line 32 = .ok (.istore 6, 2) := dk_54 6 (dk_at dksX0_line_1 10 rfl rfl)
theorem dX0_line_34 : decode cX0_line 34 = .ok (.iload_n 3, 1) := dk_29 (dk_at dksX0_line_1 12 rfl rfl)
theorem dX0_line_35 : decode cX0_line 35 = .ok (.iconst 1, 1) := dk_4 (dk_at dksX0_line_1 13 rfl rfl)
theorem dX0_line_36 : decode cX0_line 36 = .ok (.iload 6, 2) := dk_21 6 (dk_at dksX0_line_1 14 rfl rfl)
theorem dX0_line_38 : decode cX0_line 38 = .ok (.invokestatic 50, 3) := dk_184 0 50 (dk_at dksX0_line_1 16 rfl rfl)
theorem dX0_line_41 : decode cX0_line 41 = .ok (.ifCond .eq 24, 3) := dk_153 0 24 (dk_at dksX0_line_1 19 rfl rfl)
theorem dX0_line_44 : decode cX0_line 44 = .ok (.iload 4, 2) := dk_21 4 (dk_at dksX0_line_1 22 rfl rfl)
theorem dX0_line_46 : decode cX0_line 46 = .ok (.iload 5, 2) := dk_21 5 (dk_at dksX0_line_2 0 rfl rfl)
theorem dX0_line_48 : decode cX0_line 48 = .ok (.iload_n 2, 1) := dk_28 (dk_at dksX0_line_2 2 rfl rfl)
theorem dX0_line_49 : decode cX0_line 49 = .ok (.ifCond .ne 8, 3) := dk_154 0 8 (dk_at dksX0_line_2 3 rfl rfl)
theorem dX0_line_52 : decode cX0_line 52 = .ok (.bipush 29, 2) := dk_16 29 (dk_at dksX0_line_2 6 rfl rfl)
theorem dX0_line_54 : decode cX0_line 54 = .ok (.goto 5, 3) := dk_167 0 5 (dk_at dksX0_line_2 8 rfl rfl)
theorem dX0_line_57 : decode cX0_line 57 = .ok (.bipush 7, 2) := dk_16 7 (dk_at dksX0_line_2 11 rfl rfl)
theorem dX0_line_59 : decode cX0_line 59 = .ok (.invokestatic 58, 3) := dk_184 0 58 (dk_at dksX0_line_2 13 rfl rfl)
theorem dX0_line_62 : decode cX0_line 62 = .ok (.ifCond .ne 6, 3) := dk_154 0 6 (dk_at dksX0_line_2 16 rfl rfl)
theorem dX0_line_65 : decode cX0_line 65 = .ok (.bipush (-2), 2) := dk_16 254 (dk_at dksX0_line_2 19 rfl rfl)
theorem dX0_line_67 : decode cX0_line 67 = .ok (.ireturn, 1) := dk_172 (dk_at dksX0_line_2 21 rfl rfl)
theorem dX0_line_68 : decode cX0_line 68 = .ok (.aload_n 0, 1) := dk_42 (dk_at dksX0_line_2 22 rfl rfl)
theorem dX0_line_69 : decode cX0_line 69 = .ok (.getfield 18, 3) := dk_180 0 18 (dk_at dksX0_line_3 0 rfl rfl)
theorem dX0_line_72 : decode cX0_line 72 = .ok (.invokeinterface 27 1, 5) := by decide +kernel
theorem dX0_line_77 : decode cX0_line 77 = .ok (.bipush 12, 2) := dk_16 12 (dk_at dksX0_line_3 8 rfl rfl)
theorem dX0_line_79 : decode cX0_line 79 = .ok (.if_icmp .ne 6, 3) := dk_160 0 6 (dk_at dksX0_line_3 10 rfl rfl)
theorem dX0_line_82 : decode cX0_line 82 = .ok (.bipush (-4), 2) := dk_16 252 (dk_at dksX0_line_3 13 rfl rfl)
theorem dX0_line_84 : decode cX0_line 84 = .ok (.ireturn, 1) := dk_172 (dk_at dksX0_line_3 15 rfl rfl)
theorem dX0_line_85 : decode cX0_line 85 = .ok (.aload_n 0, 1) := dk_42 (dk_at dksX0_line_3 16 rfl rfl)
theorem dX0_line_86 : decode cX0_line 86 = .ok (.getfield 18, 3) := dk_180 0 18 (dk_at dksX0_line_3 17 rfl rfl)
theorem dX0_line_89 : decode cX0_line 89 = .ok (.new 37, 3) := dk_187 0 37 (dk_at dksX0_line_3 20 rfl rfl)
theorem dX0_line_92 : decode cX0_line 92 = .ok (.dup, 1) := dk_89 (dk_at dksX0_line_3 23 rfl rfl)
theorem dX0_line_93 : decode cX0_line 93 = .ok (.iload_n 1, 1) := dk_27 (dk_at dksX0_line_4 0 rfl rfl)
theorem dX0_line_94 : decode cX0_line 94 = .ok (.iload_n 2, 1) := dk_28 (dk_at dksX0_line_4 1 rfl rfl)
theorem dX0_line_95 : decode cX0_line 95 = .ok (.iload_n 3, 1) := dk_29 (dk_at dksX0_line_4 2 rfl rfl)
theorem dX0_line_96 : decode cX0_line 96 = .ok (.iload 4, 2) := dk_21 4 (dk_at dksX0_line_4 3 rfl rfl)
theorem dX0_line_98 : decode cX0_line 98 = .ok (.iload 5, 2) := dk_21 5 (dk_at dksX0_line_4 5 rfl rfl)
theorem dX0_line_100 : decode cX0_line 100 = .ok (.invokespecial 107, 3) := dk_183 0 107 (dk_at dksX0_line_4 7 rfl rfl)
theorem dX0_line_103 : decode cX0_line 103 = .ok (.invokeinterface 89 2, 5) := by decide +kernel
theorem dX0_line_108 : decode cX0_line 108 = .ok (.pop, 1) := dk_87 (dk_at dksX0_line_4 15 rfl rfl)
theorem dX0_line_109 : decode cX0_line 109 = .ok (.aload_n 0, 1) := dk_42 (dk_at dksX0_line_4 16 rfl rfl)
theorem dX0_line_110 : decode cX0_line 110 = .ok (.aload_n 0, 1) := dk_42 (dk_at dksX0_line_4 17 rfl rfl)
theorem dX0_line_111 : decode cX0_line 111 = .ok (.getfield 18, 3) := dk_180 0 18 (dk_at dksX0_line_4 18 rfl rfl)
theorem dX0_line_114 : decode cX0_line 114 = .ok (.invokeinterface 27 1, 5) := by decide +kernel
theorem dX0_line_119 : decode cX0_line 119 = .ok (.iconst 1, 1) := dk_4 (dk_at dksX0_line_5 5 rfl rfl)
theorem dX0_line_120 : decode cX0_line 120 = .ok (.isub, 1) := dk_100 (dk_at dksX0_line_5 6 rfl rfl)
theorem dX0_line_121 : decode cX0_line 121 = .ok (.invokevirtual 93, 3) := dk_182 0 93 (dk_at dksX0_line_5 7 rfl rfl)
theorem dX0_line_124 : decode cX0_line 124 = .ok (.ireturn, 1) := dk_172 (dk_at dksX0_line_5 10 rfl rfl)
abbrev cX0_back : ByteArray := prog_1_method_10_code
def yX0_back : MethodName := ⟨RX0, "back", "()I"⟩
def dkwX0_back_2 : List UInt8 := [182, 0, 93, 172]
abbrev dktX0_back_2 : List UInt8 := dkwX0_back_2 ++ []
def dkwX0_back_1 : List UInt8 := [185, 0, 27, 1, 0, 4, 100, 185, 0, 113, 2, 0, 87, 42, 42, 180, 0, 14, 185, 0, 27, 1, 0]
abbrev dktX0_back_1 : List UInt8 := dkwX0_back_1 ++ dktX0_back_2
def dkwX0_back_0 : List UInt8 := [42, 180, 0, 14, 185, 0, 110, 1, 0, 153, 0, 6, 16, 253, 172, 42, 180, 0, 14, 42, 180, 0, 14]
abbrev dktX0_back_0 : List UInt8 := dkwX0_back_0 ++ dktX0_back_1
theorem dksX0_back_0 : cX0_back.data.toList.drop 0 = dktX0_back_0 := by decide +kernel
theorem dksX0_back_1 : cX0_back.data.toList.drop 23 = dktX0_back_1 := dk_seg dksX0_back_0 23 rfl rfl
theorem dksX0_back_2 : cX0_back.data.toList.drop 46 = dktX0_back_2 := dk_seg dksX0_back_1 23 rfl rfl
theorem dX0_back_0 : decode cX0_back 0 = .ok (.aload_n 0, 1) := dk_42 (dk_at dksX0_back_0 0 rfl rfl)
theorem dX0_back_1 : decode cX0_back 1 = .ok (.getfield 14, 3) := dk_180 0 14 (dk_at dksX0_back_0 1 rfl rfl)
theorem dX0_back_4 : decode cX0_back 4 = .ok (.invokeinterface 110 1, 5) := by decide +kernel
theorem dX0_back_9 : decode cX0_back 9 = .ok (.ifCond .eq 6, 3) := dk_153 0 6 (dk_at dksX0_back_0 9 rfl rfl)
theorem dX0_back_12 : decode cX0_back 12 = .ok (.bipush (-3), 2) := dk_16 253 (dk_at dksX0_back_0 12 rfl rfl)
theorem dX0_back_14 : decode cX0_back 14 = .ok (.ireturn, 1) := dk_172 (dk_at dksX0_back_0 14 rfl rfl)
theorem dX0_back_15 : decode cX0_back 15 = .ok (.aload_n 0, 1) := dk_42 (dk_at dksX0_back_0 15 rfl rfl)
theorem dX0_back_16 : decode cX0_back 16 = .ok (.getfield 14, 3) := dk_180 0 14 (dk_at dksX0_back_0 16 rfl rfl)
theorem dX0_back_19 : decode cX0_back 19 = .ok (.aload_n 0, 1) := dk_42 (dk_at dksX0_back_0 19 rfl rfl)
theorem dX0_back_20 : decode cX0_back 20 = .ok (.getfield 14, 3) := dk_180 0 14 (dk_at dksX0_back_0 20 rfl rfl)
theorem dX0_back_23 : decode cX0_back 23 = .ok (.invokeinterface 27 1, 5) := by decide +kernel
theorem dX0_back_28 : decode cX0_back 28 = .ok (.iconst 1, 1) := dk_4 (dk_at dksX0_back_1 5 rfl rfl)
theorem dX0_back_29 : decode cX0_back 29 = .ok (.isub, 1) := dk_100 (dk_at dksX0_back_1 6 rfl rfl)
theorem dX0_back_30 : decode cX0_back 30 = .ok (.invokeinterface 113 2, 5) := by decide +kernel
theorem dX0_back_35 : decode cX0_back 35 = .ok (.pop, 1) := dk_87 (dk_at dksX0_back_1 12 rfl rfl)
theorem dX0_back_36 : decode cX0_back 36 = .ok (.aload_n 0, 1) := dk_42 (dk_at dksX0_back_1 13 rfl rfl)
theorem dX0_back_37 : decode cX0_back 37 = .ok (.aload_n 0, 1) := dk_42 (dk_at dksX0_back_1 14 rfl rfl)
theorem dX0_back_38 : decode cX0_back 38 = .ok (.getfield 14, 3) := dk_180 0 14 (dk_at dksX0_back_1 15 rfl rfl)
theorem dX0_back_41 : decode cX0_back 41 = .ok (.invokeinterface 27 1, 5) := by decide +kernel
theorem dX0_back_46 : decode cX0_back 46 = .ok (.invokevirtual 93, 3) := dk_182 0 93 (dk_at dksX0_back_2 0 rfl rfl)
theorem dX0_back_49 : decode cX0_back 49 = .ok (.ireturn, 1) := dk_172 (dk_at dksX0_back_2 3 rfl rfl)
abbrev cX0_erase : ByteArray := prog_1_method_11_code
def yX0_erase : MethodName := ⟨RX0, "erase", "()I"⟩
def dkwX0_erase_2 : List UInt8 := [182, 0, 93, 172]
abbrev dktX0_erase_2 : List UInt8 := dkwX0_erase_2 ++ []
def dkwX0_erase_1 : List UInt8 := [185, 0, 27, 1, 0, 4, 100, 185, 0, 113, 2, 0, 87, 42, 42, 180, 0, 18, 185, 0, 27, 1, 0]
abbrev dktX0_erase_1 : List UInt8 := dkwX0_erase_1 ++ dktX0_erase_2
def dkwX0_erase_0 : List UInt8 := [42, 180, 0, 18, 185, 0, 110, 1, 0, 153, 0, 6, 16, 253, 172, 42, 180, 0, 18, 42, 180, 0, 18]
abbrev dktX0_erase_0 : List UInt8 := dkwX0_erase_0 ++ dktX0_erase_1
theorem dksX0_erase_0 : cX0_erase.data.toList.drop 0 = dktX0_erase_0 := by decide +kernel
theorem dksX0_erase_1 : cX0_erase.data.toList.drop 23 = dktX0_erase_1 := dk_seg dksX0_erase_0 23 rfl rfl
theorem dksX0_erase_2 : cX0_erase.data.toList.drop 46 = dktX0_erase_2 := dk_seg dksX0_erase_1 23 rfl rfl
theorem dX0_erase_0 : decode cX0_erase 0 = .ok (.aload_n 0, 1) := dk_42 (dk_at dksX0_erase_0 0 rfl rfl)
theorem dX0_erase_1 : decode cX0_erase 1 = .ok (.getfield 18, 3) := dk_180 0 18 (dk_at dksX0_erase_0 1 rfl rfl)
theorem dX0_erase_4 : decode cX0_erase 4 = .ok (.invokeinterface 110 1, 5) := by decide +kernel
theorem dX0_erase_9 : decode cX0_erase 9 = .ok (.ifCond .eq 6, 3) := dk_153 0 6 (dk_at dksX0_erase_0 9 rfl rfl)
theorem dX0_erase_12 : decode cX0_erase 12 = .ok (.bipush (-3), 2) := dk_16 253 (dk_at dksX0_erase_0 12 rfl rfl)
theorem dX0_erase_14 : decode cX0_erase 14 = .ok (.ireturn, 1) := dk_172 (dk_at dksX0_erase_0 14 rfl rfl)
theorem dX0_erase_15 : decode cX0_erase 15 = .ok (.aload_n 0, 1) := dk_42 (dk_at dksX0_erase_0 15 rfl rfl)
theorem dX0_erase_16 : decode cX0_erase 16 = .ok (.getfield 18, 3) := dk_180 0 18 (dk_at dksX0_erase_0 16 rfl rfl)
theorem dX0_erase_19 : decode cX0_erase 19 = .ok (.aload_n 0, 1) := dk_42 (dk_at dksX0_erase_0 19 rfl rfl)
theorem dX0_erase_20 : decode cX0_erase 20 = .ok (.getfield 18, 3) := dk_180 0 18 (dk_at dksX0_erase_0 20 rfl rfl)
theorem dX0_erase_23 : decode cX0_erase 23 = .ok (.invokeinterface 27 1, 5) := by decide +kernel
theorem dX0_erase_28 : decode cX0_erase 28 = .ok (.iconst 1, 1) := dk_4 (dk_at dksX0_erase_1 5 rfl rfl)
theorem dX0_erase_29 : decode cX0_erase 29 = .ok (.isub, 1) := dk_100 (dk_at dksX0_erase_1 6 rfl rfl)
theorem dX0_erase_30 : decode cX0_erase 30 = .ok (.invokeinterface 113 2, 5) := by decide +kernel
theorem dX0_erase_35 : decode cX0_erase 35 = .ok (.pop, 1) := dk_87 (dk_at dksX0_erase_1 12 rfl rfl)
theorem dX0_erase_36 : decode cX0_erase 36 = .ok (.aload_n 0, 1) := dk_42 (dk_at dksX0_erase_1 13 rfl rfl)
theorem dX0_erase_37 : decode cX0_erase 37 = .ok (.aload_n 0, 1) := dk_42 (dk_at dksX0_erase_1 14 rfl rfl)
theorem dX0_erase_38 : decode cX0_erase 38 = .ok (.getfield 18, 3) := dk_180 0 18 (dk_at dksX0_erase_1 15 rfl rfl)
theorem dX0_erase_41 : decode cX0_erase 41 = .ok (.invokeinterface 27 1, 5) := by decide +kernel
theorem dX0_erase_46 : decode cX0_erase 46 = .ok (.invokevirtual 93, 3) := dk_182 0 93 (dk_at dksX0_erase_2 0 rfl rfl)
theorem dX0_erase_49 : decode cX0_erase 49 = .ok (.ireturn, 1) := dk_172 (dk_at dksX0_erase_2 3 rfl rfl)
abbrev cX0_clear : ByteArray := prog_1_method_12_code
def yX0_clear : MethodName := ⟨RX0, "clear", "()I"⟩
def dkwX0_clear_1 : List UInt8 := [185, 0, 116, 1, 0, 42, 27, 182, 0, 93, 172]
abbrev dktX0_clear_1 : List UInt8 := dkwX0_clear_1 ++ []
def dkwX0_clear_0 : List UInt8 := [42, 180, 0, 14, 185, 0, 27, 1, 0, 60, 42, 180, 0, 14, 185, 0, 116, 1, 0, 42, 180, 0, 18]
abbrev dktX0_clear_0 : List UInt8 := dkwX0_clear_0 ++ dktX0_clear_1
theorem dksX0_clear_0 : cX0_clear.data.toList.drop 0 = dktX0_clear_0 := by decide +kernel
theorem dksX0_clear_1 : cX0_clear.data.toList.drop 23 = dktX0_clear_1 := dk_seg dksX0_clear_0 23 rfl rfl
theorem dX0_clear_0 : decode cX0_clear 0 = .ok (.aload_n 0, 1) := dk_42 (dk_at dksX0_clear_0 0 rfl rfl)
theorem dX0_clear_1 : decode cX0_clear 1 = .ok (.getfield 14, 3) := dk_180 0 14 (dk_at dksX0_clear_0 1 rfl rfl)
theorem dX0_clear_4 : decode cX0_clear 4 = .ok (.invokeinterface 27 1, 5) := by decide +kernel
theorem dX0_clear_9 : decode cX0_clear 9 = .ok (.istore_n 1, 1) := dk_60 (dk_at dksX0_clear_0 9 rfl rfl)
theorem dX0_clear_10 : decode cX0_clear 10 = .ok (.aload_n 0, 1) := dk_42 (dk_at dksX0_clear_0 10 rfl rfl)
theorem dX0_clear_11 : decode cX0_clear 11 = .ok (.getfield 14, 3) := dk_180 0 14 (dk_at dksX0_clear_0 11 rfl rfl)
theorem dX0_clear_14 : decode cX0_clear 14 = .ok (.invokeinterface 116 1, 5) := by decide +kernel
theorem dX0_clear_19 : decode cX0_clear 19 = .ok (.aload_n 0, 1) := dk_42 (dk_at dksX0_clear_0 19 rfl rfl)
theorem dX0_clear_20 : decode cX0_clear 20 = .ok (.getfield 18, 3) := dk_180 0 18 (dk_at dksX0_clear_0 20 rfl rfl)
theorem dX0_clear_23 : decode cX0_clear 23 = .ok (.invokeinterface 116 1, 5) := by decide +kernel
theorem dX0_clear_28 : decode cX0_clear 28 = .ok (.aload_n 0, 1) := dk_42 (dk_at dksX0_clear_1 5 rfl rfl)
theorem dX0_clear_29 : decode cX0_clear 29 = .ok (.iload_n 1, 1) := dk_27 (dk_at dksX0_clear_1 6 rfl rfl)
theorem dX0_clear_30 : decode cX0_clear 30 = .ok (.invokevirtual 93, 3) := dk_182 0 93 (dk_at dksX0_clear_1 7 rfl rfl)
theorem dX0_clear_33 : decode cX0_clear 33 = .ok (.ireturn, 1) := dk_172 (dk_at dksX0_clear_1 10 rfl rfl)
abbrev cX0_turn : ByteArray := prog_1_method_13_code
def yX0_turn : MethodName := ⟨RX0, "turn", "()I"⟩
def dkwX0_turn_8 : List UInt8 := [181, 0, 128, 167, 255, 157, 42, 27, 182, 0, 93, 172]
abbrev dktX0_turn_8 : List UInt8 := dkwX0_turn_8 ++ []
def dkwX0_turn_7 : List UInt8 := [45, 45, 180, 0, 125, 4, 160, 0, 10, 45, 180, 0, 128, 167, 0, 10, 16, 8, 45, 180, 0, 128, 100]
abbrev dktX0_turn_7 : List UInt8 := dkwX0_turn_7 ++ dktX0_turn_8
def dkwX0_turn_6 : List UInt8 := [45, 45, 180, 0, 125, 4, 160, 0, 11, 16, 7, 21, 4, 100, 167, 0, 7, 45, 180, 0, 47, 181, 0, 47]
abbrev dktX0_turn_6 : List UInt8 := dkwX0_turn_6 ++ dktX0_turn_7
def dkwX0_turn_5 : List UInt8 := [45, 45, 180, 0, 125, 4, 160, 0, 13, 16, 7, 45, 180, 0, 47, 100, 167, 0, 5, 21, 4, 181, 0, 43]
abbrev dktX0_turn_5 : List UInt8 := dkwX0_turn_5 ++ dktX0_turn_6
def dkwX0_turn_4 : List UInt8 := [185, 0, 75, 1, 0, 153, 0, 96, 44, 185, 0, 81, 1, 0, 192, 0, 37, 78, 45, 180, 0, 43, 54, 4]
abbrev dktX0_turn_4 : List UInt8 := dkwX0_turn_4 ++ dktX0_turn_5
def dkwX0_turn_3 : List UInt8 := [160, 0, 7, 3, 167, 0, 4, 4, 96, 60, 167, 255, 190, 42, 180, 0, 18, 185, 0, 71, 1, 0, 77, 44]
abbrev dktX0_turn_3 : List UInt8 := dkwX0_turn_3 ++ dktX0_turn_4
def dkwX0_turn_2 : List UInt8 := [21, 5, 100, 181, 0, 119, 45, 16, 7, 21, 4, 100, 181, 0, 122, 27, 45, 180, 0, 119, 21, 4]
abbrev dktX0_turn_2 : List UInt8 := dkwX0_turn_2 ++ dktX0_turn_3
def dkwX0_turn_1 : List UInt8 := [185, 0, 81, 1, 0, 192, 0, 66, 78, 45, 180, 0, 119, 54, 4, 45, 180, 0, 122, 54, 5, 45, 16, 7]
abbrev dktX0_turn_1 : List UInt8 := dkwX0_turn_1 ++ dktX0_turn_2
def dkwX0_turn_0 : List UInt8 := [3, 60, 42, 180, 0, 14, 185, 0, 71, 1, 0, 77, 44, 185, 0, 75, 1, 0, 153, 0, 63, 44]
abbrev dktX0_turn_0 : List UInt8 := dkwX0_turn_0 ++ dktX0_turn_1
theorem dksX0_turn_0 : cX0_turn.data.toList.drop 0 = dktX0_turn_0 := by decide +kernel
theorem dksX0_turn_1 : cX0_turn.data.toList.drop 22 = dktX0_turn_1 := dk_seg dksX0_turn_0 22 rfl rfl
theorem dksX0_turn_2 : cX0_turn.data.toList.drop 46 = dktX0_turn_2 := dk_seg dksX0_turn_1 24 rfl rfl
theorem dksX0_turn_3 : cX0_turn.data.toList.drop 68 = dktX0_turn_3 := dk_seg dksX0_turn_2 22 rfl rfl
theorem dksX0_turn_4 : cX0_turn.data.toList.drop 92 = dktX0_turn_4 := dk_seg dksX0_turn_3 24 rfl rfl
theorem dksX0_turn_5 : cX0_turn.data.toList.drop 116 = dktX0_turn_5 := dk_seg dksX0_turn_4 24 rfl rfl
theorem dksX0_turn_6 : cX0_turn.data.toList.drop 140 = dktX0_turn_6 := dk_seg dksX0_turn_5 24 rfl rfl
theorem dksX0_turn_7 : cX0_turn.data.toList.drop 164 = dktX0_turn_7 := dk_seg dksX0_turn_6 24 rfl rfl
theorem dksX0_turn_8 : cX0_turn.data.toList.drop 187 = dktX0_turn_8 := dk_seg dksX0_turn_7 23 rfl rfl
theorem dX0_turn_0 : decode cX0_turn 0 = .ok (.iconst 0, 1) := dk_3 (dk_at dksX0_turn_0 0 rfl rfl)
theorem dX0_turn_1 : decode cX0_turn 1 = .ok (.istore_n 1, 1) := dk_60 (dk_at dksX0_turn_0 1 rfl rfl)
theorem dX0_turn_2 : decode cX0_turn 2 = .ok (.aload_n 0, 1) := dk_42 (dk_at dksX0_turn_0 2 rfl rfl)
theorem dX0_turn_3 : decode cX0_turn 3 = .ok (.getfield 14, 3) := dk_180 0 14 (dk_at dksX0_turn_0 3 rfl rfl)
theorem dX0_turn_6 : decode cX0_turn 6 = .ok (.invokeinterface 71 1, 5) := by decide +kernel
theorem dX0_turn_11 : decode cX0_turn 11 = .ok (.astore_n 2, 1) := dk_77 (dk_at dksX0_turn_0 11 rfl rfl)
theorem dX0_turn_12 : decode cX0_turn 12 = .ok (.aload_n 2, 1) := dk_44 (dk_at dksX0_turn_0 12 rfl rfl)
theorem dX0_turn_13 : decode cX0_turn 13 = .ok (.invokeinterface 75 1, 5) := by decide +kernel
theorem dX0_turn_18 : decode cX0_turn 18 = .ok (.ifCond .eq 63, 3) := dk_153 0 63 (dk_at dksX0_turn_0 18 rfl rfl)
theorem dX0_turn_21 : decode cX0_turn 21 = .ok (.aload_n 2, 1) := dk_44 (dk_at dksX0_turn_0 21 rfl rfl)
theorem dX0_turn_22 : decode cX0_turn 22 = .ok (.invokeinterface 81 1, 5) := by decide +kernel
theorem dX0_turn_27 : decode cX0_turn 27 = .ok (.checkcast 66, 3) := dk_192 0 66 (dk_at dksX0_turn_1 5 rfl rfl)
theorem dX0_turn_30 : decode cX0_turn 30 = .ok (.astore_n 3, 1) := dk_78 (dk_at dksX0_turn_1 8 rfl rfl)
theorem dX0_turn_31 : decode cX0_turn 31 = .ok (.aload_n 3, 1) := dk_45 (dk_at dksX0_turn_1 9 rfl rfl)
theorem dX0_turn_32 : decode cX0_turn 32 = .ok (.getfield 119, 3) := dk_180 0 119 (dk_at dksX0_turn_1 10 rfl rfl)
theorem dX0_turn_35 : decode cX0_turn 35 = .ok (.istore 4, 2) := dk_54 4 (dk_at dksX0_turn_1 13 rfl rfl)
theorem dX0_turn_37 : decode cX0_turn 37 = .ok (.aload_n 3, 1) := dk_45 (dk_at dksX0_turn_1 15 rfl rfl)
theorem dX0_turn_38 : decode cX0_turn 38 = .ok (.getfield 122, 3) := dk_180 0 122 (dk_at dksX0_turn_1 16 rfl rfl)
theorem dX0_turn_41 : decode cX0_turn 41 = .ok (.istore 5, 2) := dk_54 5 (dk_at dksX0_turn_1 19 rfl rfl)
theorem dX0_turn_43 : decode cX0_turn 43 = .ok (.aload_n 3, 1) := dk_45 (dk_at dksX0_turn_1 21 rfl rfl)
theorem dX0_turn_44 : decode cX0_turn 44 = .ok (.bipush 7, 2) := dk_16 7 (dk_at dksX0_turn_1 22 rfl rfl)
theorem dX0_turn_46 : decode cX0_turn 46 = .ok (.iload 5, 2) := dk_21 5 (dk_at dksX0_turn_2 0 rfl rfl)
theorem dX0_turn_48 : decode cX0_turn 48 = .ok (.isub, 1) := dk_100 (dk_at dksX0_turn_2 2 rfl rfl)
theorem dX0_turn_49 : decode cX0_turn 49 = .ok (.putfield 119, 3) := dk_181 0 119 (dk_at dksX0_turn_2 3 rfl rfl)
theorem dX0_turn_52 : decode cX0_turn 52 = .ok (.aload_n 3, 1) := dk_45 (dk_at dksX0_turn_2 6 rfl rfl)
theorem dX0_turn_53 : decode cX0_turn 53 = .ok (.bipush 7, 2) := dk_16 7 (dk_at dksX0_turn_2 7 rfl rfl)
theorem dX0_turn_55 : decode cX0_turn 55 = .ok (.iload 4, 2) := dk_21 4 (dk_at dksX0_turn_2 9 rfl rfl)
theorem dX0_turn_57 : decode cX0_turn 57 = .ok (.isub, 1) := dk_100 (dk_at dksX0_turn_2 11 rfl rfl)
theorem dX0_turn_58 : decode cX0_turn 58 = .ok (.putfield 122, 3) := dk_181 0 122 (dk_at dksX0_turn_2 12 rfl rfl)
theorem dX0_turn_61 : decode cX0_turn 61 = .ok (.iload_n 1, 1) := dk_27 (dk_at dksX0_turn_2 15 rfl rfl)
theorem dX0_turn_62 : decode cX0_turn 62 = .ok (.aload_n 3, 1) := dk_45 (dk_at dksX0_turn_2 16 rfl rfl)
theorem dX0_turn_63 : decode cX0_turn 63 = .ok (.getfield 119, 3) := dk_180 0 119 (dk_at dksX0_turn_2 17 rfl rfl)
theorem dX0_turn_66 : decode cX0_turn 66 = .ok (.iload 4, 2) := dk_21 4 (dk_at dksX0_turn_2 20 rfl rfl)
theorem dX0_turn_68 : decode cX0_turn 68 = .ok (.if_icmp .ne 7, 3) := dk_160 0 7 (dk_at dksX0_turn_3 0 rfl rfl)
theorem dX0_turn_71 : decode cX0_turn 71 = .ok (.iconst 0, 1) := dk_3 (dk_at dksX0_turn_3 3 rfl rfl)
theorem dX0_turn_72 : decode cX0_turn 72 = .ok (.goto 4, 3) := dk_167 0 4 (dk_at dksX0_turn_3 4 rfl rfl)
theorem dX0_turn_75 : decode cX0_turn 75 = .ok (.iconst 1, 1) := dk_4 (dk_at dksX0_turn_3 7 rfl rfl)
theorem dX0_turn_76 : decode cX0_turn 76 = .ok (.iadd, 1) := dk_96 (dk_at dksX0_turn_3 8 rfl rfl)
theorem dX0_turn_77 : decode cX0_turn 77 = .ok (.istore_n 1, 1) := dk_60 (dk_at dksX0_turn_3 9 rfl rfl)
theorem dX0_turn_78 : decode cX0_turn 78 = .ok (.goto (-66), 3) := dk_167 255 190 (dk_at dksX0_turn_3 10 rfl rfl)
theorem dX0_turn_81 : decode cX0_turn 81 = .ok (.aload_n 0, 1) := dk_42 (dk_at dksX0_turn_3 13 rfl rfl)
theorem dX0_turn_82 : decode cX0_turn 82 = .ok (.getfield 18, 3) := dk_180 0 18 (dk_at dksX0_turn_3 14 rfl rfl)
theorem dX0_turn_85 : decode cX0_turn 85 = .ok (.invokeinterface 71 1, 5) := by decide +kernel
theorem dX0_turn_90 : decode cX0_turn 90 = .ok (.astore_n 2, 1) := dk_77 (dk_at dksX0_turn_3 22 rfl rfl)
theorem dX0_turn_91 : decode cX0_turn 91 = .ok (.aload_n 2, 1) := dk_44 (dk_at dksX0_turn_3 23 rfl rfl)
theorem dX0_turn_92 : decode cX0_turn 92 = .ok (.invokeinterface 75 1, 5) := by decide +kernel
theorem dX0_turn_97 : decode cX0_turn 97 = .ok (.ifCond .eq 96, 3) := dk_153 0 96 (dk_at dksX0_turn_4 5 rfl rfl)
theorem dX0_turn_100 : decode cX0_turn 100 = .ok (.aload_n 2, 1) := dk_44 (dk_at dksX0_turn_4 8 rfl rfl)
theorem dX0_turn_101 : decode cX0_turn 101 = .ok (.invokeinterface 81 1, 5) := by decide +kernel
theorem dX0_turn_106 : decode cX0_turn 106 = .ok (.checkcast 37, 3) := dk_192 0 37 (dk_at dksX0_turn_4 14 rfl rfl)
theorem dX0_turn_109 : decode cX0_turn 109 = .ok (.astore_n 3, 1) := dk_78 (dk_at dksX0_turn_4 17 rfl rfl)
theorem dX0_turn_110 : decode cX0_turn 110 = .ok (.aload_n 3, 1) := dk_45 (dk_at dksX0_turn_4 18 rfl rfl)
theorem dX0_turn_111 : decode cX0_turn 111 = .ok (.getfield 43, 3) := dk_180 0 43 (dk_at dksX0_turn_4 19 rfl rfl)
theorem dX0_turn_114 : decode cX0_turn 114 = .ok (.istore 4, 2) := dk_54 4 (dk_at dksX0_turn_4 22 rfl rfl)
theorem dX0_turn_116 : decode cX0_turn 116 = .ok (.aload_n 3, 1) := dk_45 (dk_at dksX0_turn_5 0 rfl rfl)
theorem dX0_turn_117 : decode cX0_turn 117 = .ok (.aload_n 3, 1) := dk_45 (dk_at dksX0_turn_5 1 rfl rfl)
theorem dX0_turn_118 : decode cX0_turn 118 = .ok (.getfield 125, 3) := dk_180 0 125 (dk_at dksX0_turn_5 2 rfl rfl)
theorem dX0_turn_121 : decode cX0_turn 121 = .ok (.iconst 1, 1) := dk_4 (dk_at dksX0_turn_5 5 rfl rfl)
theorem dX0_turn_122 : decode cX0_turn 122 = .ok (.if_icmp .ne 13, 3) := dk_160 0 13 (dk_at dksX0_turn_5 6 rfl rfl)
theorem dX0_turn_125 : decode cX0_turn 125 = .ok (.bipush 7, 2) := dk_16 7 (dk_at dksX0_turn_5 9 rfl rfl)
theorem dX0_turn_127 : decode cX0_turn 127 = .ok (.aload_n 3, 1) := dk_45 (dk_at dksX0_turn_5 11 rfl rfl)
theorem dX0_turn_128 : decode cX0_turn 128 = .ok (.getfield 47, 3) := dk_180 0 47 (dk_at dksX0_turn_5 12 rfl rfl)
theorem dX0_turn_131 : decode cX0_turn 131 = .ok (.isub, 1) := dk_100 (dk_at dksX0_turn_5 15 rfl rfl)
theorem dX0_turn_132 : decode cX0_turn 132 = .ok (.goto 5, 3) := dk_167 0 5 (dk_at dksX0_turn_5 16 rfl rfl)
theorem dX0_turn_135 : decode cX0_turn 135 = .ok (.iload 4, 2) := dk_21 4 (dk_at dksX0_turn_5 19 rfl rfl)
theorem dX0_turn_137 : decode cX0_turn 137 = .ok (.putfield 43, 3) := dk_181 0 43 (dk_at dksX0_turn_5 21 rfl rfl)
theorem dX0_turn_140 : decode cX0_turn 140 = .ok (.aload_n 3, 1) := dk_45 (dk_at dksX0_turn_6 0 rfl rfl)
theorem dX0_turn_141 : decode cX0_turn 141 = .ok (.aload_n 3, 1) := dk_45 (dk_at dksX0_turn_6 1 rfl rfl)
theorem dX0_turn_142 : decode cX0_turn 142 = .ok (.getfield 125, 3) := dk_180 0 125 (dk_at dksX0_turn_6 2 rfl rfl)
theorem dX0_turn_145 : decode cX0_turn 145 = .ok (.iconst 1, 1) := dk_4 (dk_at dksX0_turn_6 5 rfl rfl)
theorem dX0_turn_146 : decode cX0_turn 146 = .ok (.if_icmp .ne 11, 3) := dk_160 0 11 (dk_at dksX0_turn_6 6 rfl rfl)
theorem dX0_turn_149 : decode cX0_turn 149 = .ok (.bipush 7, 2) := dk_16 7 (dk_at dksX0_turn_6 9 rfl rfl)
theorem dX0_turn_151 : decode cX0_turn 151 = .ok (.iload 4, 2) := dk_21 4 (dk_at dksX0_turn_6 11 rfl rfl)
theorem dX0_turn_153 : decode cX0_turn 153 = .ok (.isub, 1) := dk_100 (dk_at dksX0_turn_6 13 rfl rfl)
theorem dX0_turn_154 : decode cX0_turn 154 = .ok (.goto 7, 3) := dk_167 0 7 (dk_at dksX0_turn_6 14 rfl rfl)
theorem dX0_turn_157 : decode cX0_turn 157 = .ok (.aload_n 3, 1) := dk_45 (dk_at dksX0_turn_6 17 rfl rfl)
theorem dX0_turn_158 : decode cX0_turn 158 = .ok (.getfield 47, 3) := dk_180 0 47 (dk_at dksX0_turn_6 18 rfl rfl)
theorem dX0_turn_161 : decode cX0_turn 161 = .ok (.putfield 47, 3) := dk_181 0 47 (dk_at dksX0_turn_6 21 rfl rfl)
theorem dX0_turn_164 : decode cX0_turn 164 = .ok (.aload_n 3, 1) := dk_45 (dk_at dksX0_turn_7 0 rfl rfl)
theorem dX0_turn_165 : decode cX0_turn 165 = .ok (.aload_n 3, 1) := dk_45 (dk_at dksX0_turn_7 1 rfl rfl)
theorem dX0_turn_166 : decode cX0_turn 166 = .ok (.getfield 125, 3) := dk_180 0 125 (dk_at dksX0_turn_7 2 rfl rfl)
theorem dX0_turn_169 : decode cX0_turn 169 = .ok (.iconst 1, 1) := dk_4 (dk_at dksX0_turn_7 5 rfl rfl)
theorem dX0_turn_170 : decode cX0_turn 170 = .ok (.if_icmp .ne 10, 3) := dk_160 0 10 (dk_at dksX0_turn_7 6 rfl rfl)
theorem dX0_turn_173 : decode cX0_turn 173 = .ok (.aload_n 3, 1) := dk_45 (dk_at dksX0_turn_7 9 rfl rfl)
theorem dX0_turn_174 : decode cX0_turn 174 = .ok (.getfield 128, 3) := dk_180 0 128 (dk_at dksX0_turn_7 10 rfl rfl)
theorem dX0_turn_177 : decode cX0_turn 177 = .ok (.goto 10, 3) := dk_167 0 10 (dk_at dksX0_turn_7 13 rfl rfl)
theorem dX0_turn_180 : decode cX0_turn 180 = .ok (.bipush 8, 2) := dk_16 8 (dk_at dksX0_turn_7 16 rfl rfl)
theorem dX0_turn_182 : decode cX0_turn 182 = .ok (.aload_n 3, 1) := dk_45 (dk_at dksX0_turn_7 18 rfl rfl)
theorem dX0_turn_183 : decode cX0_turn 183 = .ok (.getfield 128, 3) := dk_180 0 128 (dk_at dksX0_turn_7 19 rfl rfl)
theorem dX0_turn_186 : decode cX0_turn 186 = .ok (.isub, 1) := dk_100 (dk_at dksX0_turn_7 22 rfl rfl)
theorem dX0_turn_187 : decode cX0_turn 187 = .ok (.putfield 128, 3) := dk_181 0 128 (dk_at dksX0_turn_8 0 rfl rfl)
theorem dX0_turn_190 : decode cX0_turn 190 = .ok (.goto (-99), 3) := dk_167 255 157 (dk_at dksX0_turn_8 3 rfl rfl)
theorem dX0_turn_193 : decode cX0_turn 193 = .ok (.aload_n 0, 1) := dk_42 (dk_at dksX0_turn_8 6 rfl rfl)
theorem dX0_turn_194 : decode cX0_turn 194 = .ok (.iload_n 1, 1) := dk_27 (dk_at dksX0_turn_8 7 rfl rfl)
theorem dX0_turn_195 : decode cX0_turn 195 = .ok (.invokevirtual 93, 3) := dk_182 0 93 (dk_at dksX0_turn_8 8 rfl rfl)
theorem dX0_turn_198 : decode cX0_turn 198 = .ok (.ireturn, 1) := dk_172 (dk_at dksX0_turn_8 11 rfl rfl)
abbrev cX0_ofBlock : ByteArray := prog_1_method_14_code
def yX0_ofBlock : MethodName := ⟨RX0, "ofBlock", "(II)I"⟩
def dkwX0_ofBlock_5 : List UInt8 := [16, 254, 172]
abbrev dktX0_ofBlock_5 : List UInt8 := dkwX0_ofBlock_5 ++ []
def dkwX0_ofBlock_4 : List UInt8 := [172, 45, 180, 0, 140, 172, 45, 182, 0, 101, 153, 0, 10, 45, 180, 0, 104, 167, 0, 5, 16, 247, 172]
abbrev dktX0_ofBlock_4 : List UInt8 := dkwX0_ofBlock_4 ++ dktX0_ofBlock_5
def dkwX0_ofBlock_3 : List UInt8 := [45, 180, 0, 131, 172, 45, 180, 0, 134, 172, 45, 180, 0, 119, 172, 45, 180, 0, 122, 172, 45, 180, 0, 137]
abbrev dktX0_ofBlock_3 : List UInt8 := dkwX0_ofBlock_3 ++ dktX0_ofBlock_4
def dkwX0_ofBlock_2 : List UInt8 := [170, 0, 0, 0, 0, 0, 90, 0, 0, 0, 0, 0, 0, 0, 6, 0, 0, 0, 43, 0, 0, 0, 48, 0, 0, 0, 53, 0, 0, 0, 58, 0, 0, 0, 63, 0, 0, 0, 68, 0, 0, 0, 73]
abbrev dktX0_ofBlock_2 : List UInt8 := dkwX0_ofBlock_2 ++ dktX0_ofBlock_3
def dkwX0_ofBlock_1 : List UInt8 := [28]
abbrev dktX0_ofBlock_1 : List UInt8 := dkwX0_ofBlock_1 ++ dktX0_ofBlock_2
def dkwX0_ofBlock_0 : List UInt8 := [42, 27, 182, 0, 97, 154, 0, 5, 2, 172, 42, 180, 0, 14, 27, 185, 0, 33, 2, 0, 192, 0, 66, 78]
abbrev dktX0_ofBlock_0 : List UInt8 := dkwX0_ofBlock_0 ++ dktX0_ofBlock_1
theorem dksX0_ofBlock_0 : cX0_ofBlock.data.toList.drop 0 = dktX0_ofBlock_0 := by decide +kernel
theorem dksX0_ofBlock_1 : cX0_ofBlock.data.toList.drop 24 = dktX0_ofBlock_1 := dk_seg dksX0_ofBlock_0 24 rfl rfl
theorem dksX0_ofBlock_2 : cX0_ofBlock.data.toList.drop 25 = dktX0_ofBlock_2 := dk_seg dksX0_ofBlock_1 1 rfl rfl
theorem dksX0_ofBlock_3 : cX0_ofBlock.data.toList.drop 68 = dktX0_ofBlock_3 := dk_seg dksX0_ofBlock_2 43 rfl rfl
theorem dksX0_ofBlock_4 : cX0_ofBlock.data.toList.drop 92 = dktX0_ofBlock_4 := dk_seg dksX0_ofBlock_3 24 rfl rfl
theorem dksX0_ofBlock_5 : cX0_ofBlock.data.toList.drop 115 = dktX0_ofBlock_5 := dk_seg dksX0_ofBlock_4 23 rfl rfl
theorem dX0_ofBlock_0 : decode cX0_ofBlock 0 = .ok (.aload_n 0, 1) := dk_42 (dk_at dksX0_ofBlock_0 0 rfl rfl)
theorem dX0_ofBlock_1 : decode cX0_ofBlock 1 = .ok (.iload_n 1, 1) := dk_27 (dk_at dksX0_ofBlock_0 1 rfl rfl)
theorem dX0_ofBlock_2 : decode cX0_ofBlock 2 = .ok (.invokevirtual 97, 3) := dk_182 0 97 (dk_at dksX0_ofBlock_0 2 rfl rfl)
theorem dX0_ofBlock_5 : decode cX0_ofBlock 5 = .ok (.ifCond .ne 5, 3) := dk_154 0 5 (dk_at dksX0_ofBlock_0 5 rfl rfl)
theorem dX0_ofBlock_8 : decode cX0_ofBlock 8 = .ok (.iconst (-1), 1) := dk_2 (dk_at dksX0_ofBlock_0 8 rfl rfl)
theorem dX0_ofBlock_9 : decode cX0_ofBlock 9 = .ok (.ireturn, 1) := dk_172 (dk_at dksX0_ofBlock_0 9 rfl rfl)
theorem dX0_ofBlock_10 : decode cX0_ofBlock 10 = .ok (.aload_n 0, 1) := dk_42 (dk_at dksX0_ofBlock_0 10 rfl rfl)
theorem dX0_ofBlock_11 : decode cX0_ofBlock 11 = .ok (.getfield 14, 3) := dk_180 0 14 (dk_at dksX0_ofBlock_0 11 rfl rfl)
theorem dX0_ofBlock_14 : decode cX0_ofBlock 14 = .ok (.iload_n 1, 1) := dk_27 (dk_at dksX0_ofBlock_0 14 rfl rfl)
theorem dX0_ofBlock_15 : decode cX0_ofBlock 15 = .ok (.invokeinterface 33 2, 5) := by decide +kernel
theorem dX0_ofBlock_20 : decode cX0_ofBlock 20 = .ok (.checkcast 66, 3) := dk_192 0 66 (dk_at dksX0_ofBlock_0 20 rfl rfl)
theorem dX0_ofBlock_23 : decode cX0_ofBlock 23 = .ok (.astore_n 3, 1) := dk_78 (dk_at dksX0_ofBlock_0 23 rfl rfl)
theorem dX0_ofBlock_24 : decode cX0_ofBlock 24 = .ok (.iload_n 2, 1) := dk_28 (dk_at dksX0_ofBlock_1 0 rfl rfl)
theorem dX0_ofBlock_25 : decode cX0_ofBlock 25 = .ok (.tableswitch 90 0 6 #[43, 48, 53, 58, 63, 68, 73], 43) := by decide +kernel
theorem dX0_ofBlock_68 : decode cX0_ofBlock 68 = .ok (.aload_n 3, 1) := dk_45 (dk_at dksX0_ofBlock_3 0 rfl rfl)
theorem dX0_ofBlock_69 : decode cX0_ofBlock 69 = .ok (.getfield 131, 3) := dk_180 0 131 (dk_at dksX0_ofBlock_3 1 rfl rfl)
theorem dX0_ofBlock_72 : decode cX0_ofBlock 72 = .ok (.ireturn, 1) := dk_172 (dk_at dksX0_ofBlock_3 4 rfl rfl)
theorem dX0_ofBlock_73 : decode cX0_ofBlock 73 = .ok (.aload_n 3, 1) := dk_45 (dk_at dksX0_ofBlock_3 5 rfl rfl)
theorem dX0_ofBlock_74 : decode cX0_ofBlock 74 = .ok (.getfield 134, 3) := dk_180 0 134 (dk_at dksX0_ofBlock_3 6 rfl rfl)
theorem dX0_ofBlock_77 : decode cX0_ofBlock 77 = .ok (.ireturn, 1) := dk_172 (dk_at dksX0_ofBlock_3 9 rfl rfl)
theorem dX0_ofBlock_78 : decode cX0_ofBlock 78 = .ok (.aload_n 3, 1) := dk_45 (dk_at dksX0_ofBlock_3 10 rfl rfl)
theorem dX0_ofBlock_79 : decode cX0_ofBlock 79 = .ok (.getfield 119, 3) := dk_180 0 119 (dk_at dksX0_ofBlock_3 11 rfl rfl)
theorem dX0_ofBlock_82 : decode cX0_ofBlock 82 = .ok (.ireturn, 1) := dk_172 (dk_at dksX0_ofBlock_3 14 rfl rfl)
theorem dX0_ofBlock_83 : decode cX0_ofBlock 83 = .ok (.aload_n 3, 1) := dk_45 (dk_at dksX0_ofBlock_3 15 rfl rfl)
theorem dX0_ofBlock_84 : decode cX0_ofBlock 84 = .ok (.getfield 122, 3) := dk_180 0 122 (dk_at dksX0_ofBlock_3 16 rfl rfl)
theorem dX0_ofBlock_87 : decode cX0_ofBlock 87 = .ok (.ireturn, 1) := dk_172 (dk_at dksX0_ofBlock_3 19 rfl rfl)
theorem dX0_ofBlock_88 : decode cX0_ofBlock 88 = .ok (.aload_n 3, 1) := dk_45 (dk_at dksX0_ofBlock_3 20 rfl rfl)
theorem dX0_ofBlock_89 : decode cX0_ofBlock 89 = .ok (.getfield 137, 3) := dk_180 0 137 (dk_at dksX0_ofBlock_3 21 rfl rfl)
theorem dX0_ofBlock_92 : decode cX0_ofBlock 92 = .ok (.ireturn, 1) := dk_172 (dk_at dksX0_ofBlock_4 0 rfl rfl)
theorem dX0_ofBlock_93 : decode cX0_ofBlock 93 = .ok (.aload_n 3, 1) := dk_45 (dk_at dksX0_ofBlock_4 1 rfl rfl)
theorem dX0_ofBlock_94 : decode cX0_ofBlock 94 = .ok (.getfield 140, 3) := dk_180 0 140 (dk_at dksX0_ofBlock_4 2 rfl rfl)
theorem dX0_ofBlock_97 : decode cX0_ofBlock 97 = .ok (.ireturn, 1) := dk_172 (dk_at dksX0_ofBlock_4 5 rfl rfl)
theorem dX0_ofBlock_98 : decode cX0_ofBlock 98 = .ok (.aload_n 3, 1) := dk_45 (dk_at dksX0_ofBlock_4 6 rfl rfl)
theorem dX0_ofBlock_99 : decode cX0_ofBlock 99 = .ok (.invokevirtual 101, 3) := dk_182 0 101 (dk_at dksX0_ofBlock_4 7 rfl rfl)
theorem dX0_ofBlock_102 : decode cX0_ofBlock 102 = .ok (.ifCond .eq 10, 3) := dk_153 0 10 (dk_at dksX0_ofBlock_4 10 rfl rfl)
theorem dX0_ofBlock_105 : decode cX0_ofBlock 105 = .ok (.aload_n 3, 1) := dk_45 (dk_at dksX0_ofBlock_4 13 rfl rfl)
theorem dX0_ofBlock_106 : decode cX0_ofBlock 106 = .ok (.getfield 104, 3) := dk_180 0 104 (dk_at dksX0_ofBlock_4 14 rfl rfl)
theorem dX0_ofBlock_109 : decode cX0_ofBlock 109 = .ok (.goto 5, 3) := dk_167 0 5 (dk_at dksX0_ofBlock_4 17 rfl rfl)
theorem dX0_ofBlock_112 : decode cX0_ofBlock 112 = .ok (.bipush (-9), 2) := dk_16 247 (dk_at dksX0_ofBlock_4 20 rfl rfl)
theorem dX0_ofBlock_114 : decode cX0_ofBlock 114 = .ok (.ireturn, 1) := dk_172 (dk_at dksX0_ofBlock_4 22 rfl rfl)
theorem dX0_ofBlock_115 : decode cX0_ofBlock 115 = .ok (.bipush (-2), 2) := dk_16 254 (dk_at dksX0_ofBlock_5 0 rfl rfl)
theorem dX0_ofBlock_117 : decode cX0_ofBlock 117 = .ok (.ireturn, 1) := dk_172 (dk_at dksX0_ofBlock_5 2 rfl rfl)
abbrev cX0_ofLine : ByteArray := prog_1_method_15_code
def yX0_ofLine : MethodName := ⟨RX0, "ofLine", "(II)I"⟩
def dkwX0_ofLine_4 : List UInt8 := [172, 16, 254, 172]
abbrev dktX0_ofLine_4 : List UInt8 := dkwX0_ofLine_4 ++ []
def dkwX0_ofLine_3 : List UInt8 := [45, 180, 0, 143, 172, 45, 180, 0, 125, 172, 45, 180, 0, 128, 172, 45, 180, 0, 43, 172, 45, 180, 0, 47]
abbrev dktX0_ofLine_3 : List UInt8 := dkwX0_ofLine_3 ++ dktX0_ofLine_4
def dkwX0_ofLine_2 : List UInt8 := [170, 0, 0, 0, 0, 0, 0, 61, 0, 0, 0, 0, 0, 0, 0, 4, 0, 0, 0, 36, 0, 0, 0, 41, 0, 0, 0, 46, 0, 0, 0, 51, 0, 0, 0, 56]
abbrev dktX0_ofLine_2 : List UInt8 := dkwX0_ofLine_2 ++ dktX0_ofLine_3
def dkwX0_ofLine_1 : List UInt8 := [180, 0, 18, 27, 185, 0, 33, 2, 0, 192, 0, 37, 78, 28]
abbrev dktX0_ofLine_1 : List UInt8 := dkwX0_ofLine_1 ++ dktX0_ofLine_2
def dkwX0_ofLine_0 : List UInt8 := [27, 3, 42, 180, 0, 18, 185, 0, 27, 1, 0, 4, 100, 184, 0, 50, 154, 0, 5, 2, 172, 42]
abbrev dktX0_ofLine_0 : List UInt8 := dkwX0_ofLine_0 ++ dktX0_ofLine_1
theorem dksX0_ofLine_0 : cX0_ofLine.data.toList.drop 0 = dktX0_ofLine_0 := by decide +kernel
theorem dksX0_ofLine_1 : cX0_ofLine.data.toList.drop 22 = dktX0_ofLine_1 := dk_seg dksX0_ofLine_0 22 rfl rfl
theorem dksX0_ofLine_2 : cX0_ofLine.data.toList.drop 36 = dktX0_ofLine_2 := dk_seg dksX0_ofLine_1 14 rfl rfl
theorem dksX0_ofLine_3 : cX0_ofLine.data.toList.drop 72 = dktX0_ofLine_3 := dk_seg dksX0_ofLine_2 36 rfl rfl
theorem dksX0_ofLine_4 : cX0_ofLine.data.toList.drop 96 = dktX0_ofLine_4 := dk_seg dksX0_ofLine_3 24 rfl rfl
theorem dX0_ofLine_0 : decode cX0_ofLine 0 = .ok (.iload_n 1, 1) := dk_27 (dk_at dksX0_ofLine_0 0 rfl rfl)
theorem dX0_ofLine_1 : decode cX0_ofLine 1 = .ok (.iconst 0, 1) := dk_3 (dk_at dksX0_ofLine_0 1 rfl rfl)
theorem dX0_ofLine_2 : decode cX0_ofLine 2 = .ok (.aload_n 0, 1) := dk_42 (dk_at dksX0_ofLine_0 2 rfl rfl)
theorem dX0_ofLine_3 : decode cX0_ofLine 3 = .ok (.getfield 18, 3) := dk_180 0 18 (dk_at dksX0_ofLine_0 3 rfl rfl)
theorem dX0_ofLine_6 : decode cX0_ofLine 6 = .ok (.invokeinterface 27 1, 5) := by decide +kernel
theorem dX0_ofLine_11 : decode cX0_ofLine 11 = .ok (.iconst 1, 1) := dk_4 (dk_at dksX0_ofLine_0 11 rfl rfl)
theorem dX0_ofLine_12 : decode cX0_ofLine 12 = .ok (.isub, 1) := dk_100 (dk_at dksX0_ofLine_0 12 rfl rfl)
theorem dX0_ofLine_13 : decode cX0_ofLine 13 = .ok (.invokestatic 50, 3) := dk_184 0 50 (dk_at dksX0_ofLine_0 13 rfl rfl)
theorem dX0_ofLine_16 : decode cX0_ofLine 16 = .ok (.ifCond .ne 5, 3) := dk_154 0 5 (dk_at dksX0_ofLine_0 16 rfl rfl)
theorem dX0_ofLine_19 : decode cX0_ofLine 19 = .ok (.iconst (-1), 1) := dk_2 (dk_at dksX0_ofLine_0 19 rfl rfl)
theorem dX0_ofLine_20 : decode cX0_ofLine 20 = .ok (.ireturn, 1) := dk_172 (dk_at dksX0_ofLine_0 20 rfl rfl)
theorem dX0_ofLine_21 : decode cX0_ofLine 21 = .ok (.aload_n 0, 1) := dk_42 (dk_at dksX0_ofLine_0 21 rfl rfl)
theorem dX0_ofLine_22 : decode cX0_ofLine 22 = .ok (.getfield 18, 3) := dk_180 0 18 (dk_at dksX0_ofLine_1 0 rfl rfl)
theorem dX0_ofLine_25 : decode cX0_ofLine 25 = .ok (.iload_n 1, 1) := dk_27 (dk_at dksX0_ofLine_1 3 rfl rfl)
theorem dX0_ofLine_26 : decode cX0_ofLine 26 = .ok (.invokeinterface 33 2, 5) := by decide +kernel
theorem dX0_ofLine_31 : decode cX0_ofLine 31 = .ok (.checkcast 37, 3) := dk_192 0 37 (dk_at dksX0_ofLine_1 9 rfl rfl)
theorem dX0_ofLine_34 : decode cX0_ofLine 34 = .ok (.astore_n 3, 1) := dk_78 (dk_at dksX0_ofLine_1 12 rfl rfl)
theorem dX0_ofLine_35 : decode cX0_ofLine 35 = .ok (.iload_n 2, 1) := dk_28 (dk_at dksX0_ofLine_1 13 rfl rfl)
theorem dX0_ofLine_36 : decode cX0_ofLine 36 = .ok (.tableswitch 61 0 4 #[36, 41, 46, 51, 56], 36) := by decide +kernel
theorem dX0_ofLine_72 : decode cX0_ofLine 72 = .ok (.aload_n 3, 1) := dk_45 (dk_at dksX0_ofLine_3 0 rfl rfl)
theorem dX0_ofLine_73 : decode cX0_ofLine 73 = .ok (.getfield 143, 3) := dk_180 0 143 (dk_at dksX0_ofLine_3 1 rfl rfl)
theorem dX0_ofLine_76 : decode cX0_ofLine 76 = .ok (.ireturn, 1) := dk_172 (dk_at dksX0_ofLine_3 4 rfl rfl)
theorem dX0_ofLine_77 : decode cX0_ofLine 77 = .ok (.aload_n 3, 1) := dk_45 (dk_at dksX0_ofLine_3 5 rfl rfl)
theorem dX0_ofLine_78 : decode cX0_ofLine 78 = .ok (.getfield 125, 3) := dk_180 0 125 (dk_at dksX0_ofLine_3 6 rfl rfl)
theorem dX0_ofLine_81 : decode cX0_ofLine 81 = .ok (.ireturn, 1) := dk_172 (dk_at dksX0_ofLine_3 9 rfl rfl)
theorem dX0_ofLine_82 : decode cX0_ofLine 82 = .ok (.aload_n 3, 1) := dk_45 (dk_at dksX0_ofLine_3 10 rfl rfl)
theorem dX0_ofLine_83 : decode cX0_ofLine 83 = .ok (.getfield 128, 3) := dk_180 0 128 (dk_at dksX0_ofLine_3 11 rfl rfl)
theorem dX0_ofLine_86 : decode cX0_ofLine 86 = .ok (.ireturn, 1) := dk_172 (dk_at dksX0_ofLine_3 14 rfl rfl)
theorem dX0_ofLine_87 : decode cX0_ofLine 87 = .ok (.aload_n 3, 1) := dk_45 (dk_at dksX0_ofLine_3 15 rfl rfl)
theorem dX0_ofLine_88 : decode cX0_ofLine 88 = .ok (.getfield 43, 3) := dk_180 0 43 (dk_at dksX0_ofLine_3 16 rfl rfl)
theorem dX0_ofLine_91 : decode cX0_ofLine 91 = .ok (.ireturn, 1) := dk_172 (dk_at dksX0_ofLine_3 19 rfl rfl)
theorem dX0_ofLine_92 : decode cX0_ofLine 92 = .ok (.aload_n 3, 1) := dk_45 (dk_at dksX0_ofLine_3 20 rfl rfl)
theorem dX0_ofLine_93 : decode cX0_ofLine 93 = .ok (.getfield 47, 3) := dk_180 0 47 (dk_at dksX0_ofLine_3 21 rfl rfl)
theorem dX0_ofLine_96 : decode cX0_ofLine 96 = .ok (.ireturn, 1) := dk_172 (dk_at dksX0_ofLine_4 0 rfl rfl)
theorem dX0_ofLine_97 : decode cX0_ofLine 97 = .ok (.bipush (-2), 2) := dk_16 254 (dk_at dksX0_ofLine_4 1 rfl rfl)
theorem dX0_ofLine_99 : decode cX0_ofLine 99 = .ok (.ireturn, 1) := dk_172 (dk_at dksX0_ofLine_4 3 rfl rfl)
abbrev cX0_at : ByteArray := prog_1_method_16_code
def yX0_at : MethodName := ⟨RX0, "at", "(III)I"⟩
def dkwX0_at_4 : List UInt8 := [153, 0, 9, 25, 5, 180, 0, 150, 172, 167, 255, 201, 16, 247, 172]
abbrev dktX0_at_4 : List UInt8 := dkwX0_at_4 ++ []
def dkwX0_at_3 : List UInt8 := [180, 0, 131, 27, 160, 0, 27, 25, 5, 28, 182, 0, 144, 153, 0, 18, 25, 5, 29, 182, 0, 147]
abbrev dktX0_at_3 : List UInt8 := dkwX0_at_3 ++ dktX0_at_4
def dkwX0_at_2 : List UInt8 := [185, 0, 75, 1, 0, 153, 0, 51, 25, 4, 185, 0, 81, 1, 0, 192, 0, 66, 58, 5, 25, 5]
abbrev dktX0_at_2 : List UInt8 := dkwX0_at_2 ++ dktX0_at_3
def dkwX0_at_1 : List UInt8 := [184, 0, 50, 154, 0, 6, 16, 254, 172, 42, 180, 0, 14, 185, 0, 71, 1, 0, 58, 4, 25, 4]
abbrev dktX0_at_1 : List UInt8 := dkwX0_at_1 ++ dktX0_at_2
def dkwX0_at_0 : List UInt8 := [27, 3, 6, 184, 0, 50, 153, 0, 23, 28, 3, 16, 7, 184, 0, 50, 153, 0, 13, 29, 3, 16, 29]
abbrev dktX0_at_0 : List UInt8 := dkwX0_at_0 ++ dktX0_at_1
theorem dksX0_at_0 : cX0_at.data.toList.drop 0 = dktX0_at_0 := by decide +kernel
theorem dksX0_at_1 : cX0_at.data.toList.drop 23 = dktX0_at_1 := dk_seg dksX0_at_0 23 rfl rfl
theorem dksX0_at_2 : cX0_at.data.toList.drop 45 = dktX0_at_2 := dk_seg dksX0_at_1 22 rfl rfl
theorem dksX0_at_3 : cX0_at.data.toList.drop 67 = dktX0_at_3 := dk_seg dksX0_at_2 22 rfl rfl
theorem dksX0_at_4 : cX0_at.data.toList.drop 89 = dktX0_at_4 := dk_seg dksX0_at_3 22 rfl rfl
theorem dX0_at_0 : decode cX0_at 0 = .ok (.iload_n 1, 1) := dk_27 (dk_at dksX0_at_0 0 rfl rfl)
theorem dX0_at_1 : decode cX0_at 1 = .ok (.iconst 0, 1) := dk_3 (dk_at dksX0_at_0 1 rfl rfl)
theorem dX0_at_2 : decode cX0_at 2 = .ok (.iconst 3, 1) := dk_6 (dk_at dksX0_at_0 2 rfl rfl)
theorem dX0_at_3 : decode cX0_at 3 = .ok (.invokestatic 50, 3) := dk_184 0 50 (dk_at dksX0_at_0 3 rfl rfl)
theorem dX0_at_6 : decode cX0_at 6 = .ok (.ifCond .eq 23, 3) := dk_153 0 23 (dk_at dksX0_at_0 6 rfl rfl)
theorem dX0_at_9 : decode cX0_at 9 = .ok (.iload_n 2, 1) := dk_28 (dk_at dksX0_at_0 9 rfl rfl)
theorem dX0_at_10 : decode cX0_at 10 = .ok (.iconst 0, 1) := dk_3 (dk_at dksX0_at_0 10 rfl rfl)
theorem dX0_at_11 : decode cX0_at 11 = .ok (.bipush 7, 2) := dk_16 7 (dk_at dksX0_at_0 11 rfl rfl)
theorem dX0_at_13 : decode cX0_at 13 = .ok (.invokestatic 50, 3) := dk_184 0 50 (dk_at dksX0_at_0 13 rfl rfl)
theorem dX0_at_16 : decode cX0_at 16 = .ok (.ifCond .eq 13, 3) := dk_153 0 13 (dk_at dksX0_at_0 16 rfl rfl)
theorem dX0_at_19 : decode cX0_at 19 = .ok (.iload_n 3, 1) := dk_29 (dk_at dksX0_at_0 19 rfl rfl)
theorem dX0_at_20 : decode cX0_at 20 = .ok (.iconst 0, 1) := dk_3 (dk_at dksX0_at_0 20 rfl rfl)
theorem dX0_at_21 : decode cX0_at 21 = .ok (.bipush 29, 2) := dk_16 29 (dk_at dksX0_at_0 21 rfl rfl)
theorem dX0_at_23 : decode cX0_at 23 = .ok (.invokestatic 50, 3) := dk_184 0 50 (dk_at dksX0_at_1 0 rfl rfl)
theorem dX0_at_26 : decode cX0_at 26 = .ok (.ifCond .ne 6, 3) := dk_154 0 6 (dk_at dksX0_at_1 3 rfl rfl)
theorem dX0_at_29 : decode cX0_at 29 = .ok (.bipush (-2), 2) := dk_16 254 (dk_at dksX0_at_1 6 rfl rfl)
theorem dX0_at_31 : decode cX0_at 31 = .ok (.ireturn, 1) := dk_172 (dk_at dksX0_at_1 8 rfl rfl)
theorem dX0_at_32 : decode cX0_at 32 = .ok (.aload_n 0, 1) := dk_42 (dk_at dksX0_at_1 9 rfl rfl)
theorem dX0_at_33 : decode cX0_at 33 = .ok (.getfield 14, 3) := dk_180 0 14 (dk_at dksX0_at_1 10 rfl rfl)
theorem dX0_at_36 : decode cX0_at 36 = .ok (.invokeinterface 71 1, 5) := by decide +kernel
theorem dX0_at_41 : decode cX0_at 41 = .ok (.astore 4, 2) := dk_58 4 (dk_at dksX0_at_1 18 rfl rfl)
theorem dX0_at_43 : decode cX0_at 43 = .ok (.aload 4, 2) := dk_25 4 (dk_at dksX0_at_1 20 rfl rfl)
theorem dX0_at_45 : decode cX0_at 45 = .ok (.invokeinterface 75 1, 5) := by decide +kernel
theorem dX0_at_50 : decode cX0_at 50 = .ok (.ifCond .eq 51, 3) := dk_153 0 51 (dk_at dksX0_at_2 5 rfl rfl)
theorem dX0_at_53 : decode cX0_at 53 = .ok (.aload 4, 2) := dk_25 4 (dk_at dksX0_at_2 8 rfl rfl)
theorem dX0_at_55 : decode cX0_at 55 = .ok (.invokeinterface 81 1, 5) := by decide +kernel
theorem dX0_at_60 : decode cX0_at 60 = .ok (.checkcast 66, 3) := dk_192 0 66 (dk_at dksX0_at_2 15 rfl rfl)
theorem dX0_at_63 : decode cX0_at 63 = .ok (.astore 5, 2) := dk_58 5 (dk_at dksX0_at_2 18 rfl rfl)
theorem dX0_at_65 : decode cX0_at 65 = .ok (.aload 5, 2) := dk_25 5 (dk_at dksX0_at_2 20 rfl rfl)
theorem dX0_at_67 : decode cX0_at 67 = .ok (.getfield 131, 3) := dk_180 0 131 (dk_at dksX0_at_3 0 rfl rfl)
theorem dX0_at_70 : decode cX0_at 70 = .ok (.iload_n 1, 1) := dk_27 (dk_at dksX0_at_3 3 rfl rfl)
theorem dX0_at_71 : decode cX0_at 71 = .ok (.if_icmp .ne 27, 3) := dk_160 0 27 (dk_at dksX0_at_3 4 rfl rfl)
theorem dX0_at_74 : decode cX0_at 74 = .ok (.aload 5, 2) := dk_25 5 (dk_at dksX0_at_3 7 rfl rfl)
theorem dX0_at_76 : decode cX0_at 76 = .ok (.iload_n 2, 1) := dk_28 (dk_at dksX0_at_3 9 rfl rfl)
theorem dX0_at_77 : decode cX0_at 77 = .ok (.invokevirtual 144, 3) := dk_182 0 144 (dk_at dksX0_at_3 10 rfl rfl)
theorem dX0_at_80 : decode cX0_at 80 = .ok (.ifCond .eq 18, 3) := dk_153 0 18 (dk_at dksX0_at_3 13 rfl rfl)
theorem dX0_at_83 : decode cX0_at 83 = .ok (.aload 5, 2) := dk_25 5 (dk_at dksX0_at_3 16 rfl rfl)
theorem dX0_at_85 : decode cX0_at 85 = .ok (.iload_n 3, 1) := dk_29 (dk_at dksX0_at_3 18 rfl rfl)
theorem dX0_at_86 : decode cX0_at 86 = .ok (.invokevirtual 147, 3) := dk_182 0 147 (dk_at dksX0_at_3 19 rfl rfl)
theorem dX0_at_89 : decode cX0_at 89 = .ok (.ifCond .eq 9, 3) := dk_153 0 9 (dk_at dksX0_at_4 0 rfl rfl)
theorem dX0_at_92 : decode cX0_at 92 = .ok (.aload 5, 2) := dk_25 5 (dk_at dksX0_at_4 3 rfl rfl)
theorem dX0_at_94 : decode cX0_at 94 = .ok (.getfield 150, 3) := dk_180 0 150 (dk_at dksX0_at_4 5 rfl rfl)
theorem dX0_at_97 : decode cX0_at 97 = .ok (.ireturn, 1) := dk_172 (dk_at dksX0_at_4 8 rfl rfl)
theorem dX0_at_98 : decode cX0_at 98 = .ok (.goto (-55), 3) := dk_167 255 201 (dk_at dksX0_at_4 9 rfl rfl)
theorem dX0_at_101 : decode cX0_at 101 = .ok (.bipush (-9), 2) := dk_16 247 (dk_at dksX0_at_4 12 rfl rfl)
theorem dX0_at_103 : decode cX0_at 103 = .ok (.ireturn, 1) := dk_172 (dk_at dksX0_at_4 14 rfl rfl)
abbrev cX0_reach : ByteArray := prog_1_method_25_code
def yX0_reach : MethodName := ⟨RX0, "reach", "(II)I"⟩
def dkwX0_reach_3 : List UInt8 := [182, 0, 230, 167, 0, 5, 16, 247, 172]
abbrev dktX0_reach_3 : List UInt8 := dkwX0_reach_3 ++ []
def dkwX0_reach_2 : List UInt8 := [185, 0, 33, 2, 0, 58, 4, 25, 4, 193, 0, 61, 153, 0, 17, 25, 4, 192, 0, 61, 78, 45, 28]
abbrev dktX0_reach_2 : List UInt8 := dkwX0_reach_2 ++ dktX0_reach_3
def dkwX0_reach_1 : List UInt8 := [153, 0, 5, 2, 172, 28, 3, 16, 7, 184, 0, 50, 154, 0, 6, 16, 254, 172, 42, 180, 0, 14, 27]
abbrev dktX0_reach_1 : List UInt8 := dkwX0_reach_1 ++ dktX0_reach_2
def dkwX0_reach_0 : List UInt8 := [42, 27, 182, 0, 97, 153, 0, 22, 42, 180, 0, 14, 27, 185, 0, 33, 2, 0, 192, 0, 66, 180, 0, 134]
abbrev dktX0_reach_0 : List UInt8 := dkwX0_reach_0 ++ dktX0_reach_1
theorem dksX0_reach_0 : cX0_reach.data.toList.drop 0 = dktX0_reach_0 := by decide +kernel
theorem dksX0_reach_1 : cX0_reach.data.toList.drop 24 = dktX0_reach_1 := dk_seg dksX0_reach_0 24 rfl rfl
theorem dksX0_reach_2 : cX0_reach.data.toList.drop 47 = dktX0_reach_2 := dk_seg dksX0_reach_1 23 rfl rfl
theorem dksX0_reach_3 : cX0_reach.data.toList.drop 70 = dktX0_reach_3 := dk_seg dksX0_reach_2 23 rfl rfl
theorem dX0_reach_0 : decode cX0_reach 0 = .ok (.aload_n 0, 1) := dk_42 (dk_at dksX0_reach_0 0 rfl rfl)
theorem dX0_reach_1 : decode cX0_reach 1 = .ok (.iload_n 1, 1) := dk_27 (dk_at dksX0_reach_0 1 rfl rfl)
theorem dX0_reach_2 : decode cX0_reach 2 = .ok (.invokevirtual 97, 3) := dk_182 0 97 (dk_at dksX0_reach_0 2 rfl rfl)
theorem dX0_reach_5 : decode cX0_reach 5 = .ok (.ifCond .eq 22, 3) := dk_153 0 22 (dk_at dksX0_reach_0 5 rfl rfl)
theorem dX0_reach_8 : decode cX0_reach 8 = .ok (.aload_n 0, 1) := dk_42 (dk_at dksX0_reach_0 8 rfl rfl)
theorem dX0_reach_9 : decode cX0_reach 9 = .ok (.getfield 14, 3) := dk_180 0 14 (dk_at dksX0_reach_0 9 rfl rfl)
theorem dX0_reach_12 : decode cX0_reach 12 = .ok (.iload_n 1, 1) := dk_27 (dk_at dksX0_reach_0 12 rfl rfl)
theorem dX0_reach_13 : decode cX0_reach 13 = .ok (.invokeinterface 33 2, 5) := by decide +kernel
theorem dX0_reach_18 : decode cX0_reach 18 = .ok (.checkcast 66, 3) := dk_192 0 66 (dk_at dksX0_reach_0 18 rfl rfl)
theorem dX0_reach_21 : decode cX0_reach 21 = .ok (.getfield 134, 3) := dk_180 0 134 (dk_at dksX0_reach_0 21 rfl rfl)
theorem dX0_reach_24 : decode cX0_reach 24 = .ok (.ifCond .eq 5, 3) := dk_153 0 5 (dk_at dksX0_reach_1 0 rfl rfl)
theorem dX0_reach_27 : decode cX0_reach 27 = .ok (.iconst (-1), 1) := dk_2 (dk_at dksX0_reach_1 3 rfl rfl)
theorem dX0_reach_28 : decode cX0_reach 28 = .ok (.ireturn, 1) := dk_172 (dk_at dksX0_reach_1 4 rfl rfl)
theorem dX0_reach_29 : decode cX0_reach 29 = .ok (.iload_n 2, 1) := dk_28 (dk_at dksX0_reach_1 5 rfl rfl)
theorem dX0_reach_30 : decode cX0_reach 30 = .ok (.iconst 0, 1) := dk_3 (dk_at dksX0_reach_1 6 rfl rfl)
theorem dX0_reach_31 : decode cX0_reach 31 = .ok (.bipush 7, 2) := dk_16 7 (dk_at dksX0_reach_1 7 rfl rfl)
theorem dX0_reach_33 : decode cX0_reach 33 = .ok (.invokestatic 50, 3) := dk_184 0 50 (dk_at dksX0_reach_1 9 rfl rfl)
theorem dX0_reach_36 : decode cX0_reach 36 = .ok (.ifCond .ne 6, 3) := dk_154 0 6 (dk_at dksX0_reach_1 12 rfl rfl)
theorem dX0_reach_39 : decode cX0_reach 39 = .ok (.bipush (-2), 2) := dk_16 254 (dk_at dksX0_reach_1 15 rfl rfl)
theorem dX0_reach_41 : decode cX0_reach 41 = .ok (.ireturn, 1) := dk_172 (dk_at dksX0_reach_1 17 rfl rfl)
theorem dX0_reach_42 : decode cX0_reach 42 = .ok (.aload_n 0, 1) := dk_42 (dk_at dksX0_reach_1 18 rfl rfl)
theorem dX0_reach_43 : decode cX0_reach 43 = .ok (.getfield 14, 3) := dk_180 0 14 (dk_at dksX0_reach_1 19 rfl rfl)
theorem dX0_reach_46 : decode cX0_reach 46 = .ok (.iload_n 1, 1) := dk_27 (dk_at dksX0_reach_1 22 rfl rfl)
theorem dX0_reach_47 : decode cX0_reach 47 = .ok (.invokeinterface 33 2, 5) := by decide +kernel
theorem dX0_reach_52 : decode cX0_reach 52 = .ok (.astore 4, 2) := dk_58 4 (dk_at dksX0_reach_2 5 rfl rfl)
theorem dX0_reach_54 : decode cX0_reach 54 = .ok (.aload 4, 2) := dk_25 4 (dk_at dksX0_reach_2 7 rfl rfl)
theorem dX0_reach_56 : decode cX0_reach 56 = .ok (.instanceof 61, 3) := dk_193 0 61 (dk_at dksX0_reach_2 9 rfl rfl)
theorem dX0_reach_59 : decode cX0_reach 59 = .ok (.ifCond .eq 17, 3) := dk_153 0 17 (dk_at dksX0_reach_2 12 rfl rfl)
theorem dX0_reach_62 : decode cX0_reach 62 = .ok (.aload 4, 2) := dk_25 4 (dk_at dksX0_reach_2 15 rfl rfl)
theorem dX0_reach_64 : decode cX0_reach 64 = .ok (.checkcast 61, 3) := dk_192 0 61 (dk_at dksX0_reach_2 17 rfl rfl)
theorem dX0_reach_67 : decode cX0_reach 67 = .ok (.astore_n 3, 1) := dk_78 (dk_at dksX0_reach_2 20 rfl rfl)
theorem dX0_reach_68 : decode cX0_reach 68 = .ok (.aload_n 3, 1) := dk_45 (dk_at dksX0_reach_2 21 rfl rfl)
theorem dX0_reach_69 : decode cX0_reach 69 = .ok (.iload_n 2, 1) := dk_28 (dk_at dksX0_reach_2 22 rfl rfl)
theorem dX0_reach_70 : decode cX0_reach 70 = .ok (.invokevirtual 230, 3) := dk_182 0 230 (dk_at dksX0_reach_3 0 rfl rfl)
theorem dX0_reach_73 : decode cX0_reach 73 = .ok (.goto 5, 3) := dk_167 0 5 (dk_at dksX0_reach_3 3 rfl rfl)
theorem dX0_reach_76 : decode cX0_reach 76 = .ok (.bipush (-9), 2) := dk_16 247 (dk_at dksX0_reach_3 6 rfl rfl)
theorem dX0_reach_78 : decode cX0_reach 78 = .ok (.ireturn, 1) := dk_172 (dk_at dksX0_reach_3 8 rfl rfl)
abbrev cX0_isBarred : ByteArray := prog_1_method_3_code
def yX0_isBarred : MethodName := ⟨RX0, "isBarred", "(IIII)Z"⟩
def dkwX0_isBarred_3 : List UInt8 := [128, 54, 5, 132, 6, 1, 167, 255, 184, 21, 5, 172]
abbrev dktX0_isBarred_3 : List UInt8 := dkwX0_isBarred_3 ++ []
def dkwX0_isBarred_2 : List UInt8 := [25, 7, 180, 0, 43, 21, 4, 163, 0, 16, 29, 25, 7, 180, 0, 47, 163, 0, 7, 4, 167, 0, 4, 3]
abbrev dktX0_isBarred_2 : List UInt8 := dkwX0_isBarred_2 ++ dktX0_isBarred_3
def dkwX0_isBarred_1 : List UInt8 := [21, 6, 185, 0, 33, 2, 0, 192, 0, 37, 58, 7, 21, 5, 25, 7, 27, 28, 182, 0, 39, 153, 0, 26]
abbrev dktX0_isBarred_1 : List UInt8 := dkwX0_isBarred_1 ++ dktX0_isBarred_2
def dkwX0_isBarred_0 : List UInt8 := [3, 54, 5, 3, 54, 6, 21, 6, 42, 180, 0, 18, 185, 0, 27, 1, 0, 162, 0, 64, 42, 180, 0, 18]
abbrev dktX0_isBarred_0 : List UInt8 := dkwX0_isBarred_0 ++ dktX0_isBarred_1
theorem dksX0_isBarred_0 : cX0_isBarred.data.toList.drop 0 = dktX0_isBarred_0 := by decide +kernel
theorem dksX0_isBarred_1 : cX0_isBarred.data.toList.drop 24 = dktX0_isBarred_1 := dk_seg dksX0_isBarred_0 24 rfl rfl
theorem dksX0_isBarred_2 : cX0_isBarred.data.toList.drop 48 = dktX0_isBarred_2 := dk_seg dksX0_isBarred_1 24 rfl rfl
theorem dksX0_isBarred_3 : cX0_isBarred.data.toList.drop 72 = dktX0_isBarred_3 := dk_seg dksX0_isBarred_2 24 rfl rfl
theorem dX0_isBarred_0 : decode cX0_isBarred 0 = .ok (.iconst 0, 1) := dk_3 (dk_at dksX0_isBarred_0 0 rfl rfl)
theorem dX0_isBarred_1 : decode cX0_isBarred 1 = .ok (.istore 5, 2) := dk_54 5 (dk_at dksX0_isBarred_0 1 rfl rfl)
theorem dX0_isBarred_3 : decode cX0_isBarred 3 = .ok (.iconst 0, 1) := dk_3 (dk_at dksX0_isBarred_0 3 rfl rfl)
theorem dX0_isBarred_4 : decode cX0_isBarred 4 = .ok (.istore 6, 2) := dk_54 6 (dk_at dksX0_isBarred_0 4 rfl rfl)
theorem dX0_isBarred_6 : decode cX0_isBarred 6 = .ok (.iload 6, 2) := dk_21 6 (dk_at dksX0_isBarred_0 6 rfl rfl)
theorem dX0_isBarred_8 : decode cX0_isBarred 8 = .ok (.aload_n 0, 1) := dk_42 (dk_at dksX0_isBarred_0 8 rfl rfl)
theorem dX0_isBarred_9 : decode cX0_isBarred 9 = .ok (.getfield 18, 3) := dk_180 0 18 (dk_at dksX0_isBarred_0 9 rfl rfl)
theorem dX0_isBarred_12 : decode cX0_isBarred 12 = .ok (.invokeinterface 27 1, 5) := by decide +kernel
theorem dX0_isBarred_17 : decode cX0_isBarred 17 = .ok (.if_icmp .ge 64, 3) := dk_162 0 64 (dk_at dksX0_isBarred_0 17 rfl rfl)
theorem dX0_isBarred_20 : decode cX0_isBarred 20 = .ok (.aload_n 0, 1) := dk_42 (dk_at dksX0_isBarred_0 20 rfl rfl)
theorem dX0_isBarred_21 : decode cX0_isBarred 21 = .ok (.getfield 18, 3) := dk_180 0 18 (dk_at dksX0_isBarred_0 21 rfl rfl)
theorem dX0_isBarred_24 : decode cX0_isBarred 24 = .ok (.iload 6, 2) := dk_21 6 (dk_at dksX0_isBarred_1 0 rfl rfl)
theorem dX0_isBarred_26 : decode cX0_isBarred 26 = .ok (.invokeinterface 33 2, 5) := by decide +kernel
theorem dX0_isBarred_31 : decode cX0_isBarred 31 = .ok (.checkcast 37, 3) := dk_192 0 37 (dk_at dksX0_isBarred_1 7 rfl rfl)
theorem dX0_isBarred_34 : decode cX0_isBarred 34 = .ok (.astore 7, 2) := dk_58 7 (dk_at dksX0_isBarred_1 10 rfl rfl)
theorem dX0_isBarred_36 : decode cX0_isBarred 36 = .ok (.iload 5, 2) := dk_21 5 (dk_at dksX0_isBarred_1 12 rfl rfl)
theorem dX0_isBarred_38 : decode cX0_isBarred 38 = .ok (.aload 7, 2) := dk_25 7 (dk_at dksX0_isBarred_1 14 rfl rfl)
theorem dX0_isBarred_40 : decode cX0_isBarred 40 = .ok (.iload_n 1, 1) := dk_27 (dk_at dksX0_isBarred_1 16 rfl rfl)
theorem dX0_isBarred_41 : decode cX0_isBarred 41 = .ok (.iload_n 2, 1) := dk_28 (dk_at dksX0_isBarred_1 17 rfl rfl)
theorem dX0_isBarred_42 : decode cX0_isBarred 42 = .ok (.invokevirtual 39, 3) := dk_182 0 39 (dk_at dksX0_isBarred_1 18 rfl rfl)
theorem dX0_isBarred_45 : decode cX0_isBarred 45 = .ok (.ifCond .eq 26, 3) := dk_153 0 26 (dk_at dksX0_isBarred_1 21 rfl rfl)
theorem dX0_isBarred_48 : decode cX0_isBarred 48 = .ok (.aload 7, 2) := dk_25 7 (dk_at dksX0_isBarred_2 0 rfl rfl)
theorem dX0_isBarred_50 : decode cX0_isBarred 50 = .ok (.getfield 43, 3) := dk_180 0 43 (dk_at dksX0_isBarred_2 2 rfl rfl)
theorem dX0_isBarred_53 : decode cX0_isBarred 53 = .ok (.iload 4, 2) := dk_21 4 (dk_at dksX0_isBarred_2 5 rfl rfl)
theorem dX0_isBarred_55 : decode cX0_isBarred 55 = .ok (.if_icmp .gt 16, 3) := dk_163 0 16 (dk_at dksX0_isBarred_2 7 rfl rfl)
theorem dX0_isBarred_58 : decode cX0_isBarred 58 = .ok (.iload_n 3, 1) := dk_29 (dk_at dksX0_isBarred_2 10 rfl rfl)
theorem dX0_isBarred_59 : decode cX0_isBarred 59 = .ok (.aload 7, 2) := dk_25 7 (dk_at dksX0_isBarred_2 11 rfl rfl)
theorem dX0_isBarred_61 : decode cX0_isBarred 61 = .ok (.getfield 47, 3) := dk_180 0 47 (dk_at dksX0_isBarred_2 13 rfl rfl)
theorem dX0_isBarred_64 : decode cX0_isBarred 64 = .ok (.if_icmp .gt 7, 3) := dk_163 0 7 (dk_at dksX0_isBarred_2 16 rfl rfl)
theorem dX0_isBarred_67 : decode cX0_isBarred 67 = .ok (.iconst 1, 1) := dk_4 (dk_at dksX0_isBarred_2 19 rfl rfl)
theorem dX0_isBarred_68 : decode cX0_isBarred 68 = .ok (.goto 4, 3) := dk_167 0 4 (dk_at dksX0_isBarred_2 20 rfl rfl)
theorem dX0_isBarred_71 : decode cX0_isBarred 71 = .ok (.iconst 0, 1) := dk_3 (dk_at dksX0_isBarred_2 23 rfl rfl)
theorem dX0_isBarred_72 : decode cX0_isBarred 72 = .ok (.ior, 1) := dk_128 (dk_at dksX0_isBarred_3 0 rfl rfl)
theorem dX0_isBarred_73 : decode cX0_isBarred 73 = .ok (.istore 5, 2) := dk_54 5 (dk_at dksX0_isBarred_3 1 rfl rfl)
theorem dX0_isBarred_75 : decode cX0_isBarred 75 = .ok (.iinc 6 1, 3) := dk_132 6 1 (dk_at dksX0_isBarred_3 3 rfl rfl)
theorem dX0_isBarred_78 : decode cX0_isBarred 78 = .ok (.goto (-72), 3) := dk_167 255 184 (dk_at dksX0_isBarred_3 6 rfl rfl)
theorem dX0_isBarred_81 : decode cX0_isBarred 81 = .ok (.iload 5, 2) := dk_21 5 (dk_at dksX0_isBarred_3 9 rfl rfl)
theorem dX0_isBarred_83 : decode cX0_isBarred 83 = .ok (.ireturn, 1) := dk_172 (dk_at dksX0_isBarred_3 11 rfl rfl)
abbrev cX0_under : ByteArray := prog_1_method_26_code
def yX0_under : MethodName := ⟨RX0, "under", "(I)I"⟩
def dkwX0_under_2 : List UInt8 := [167, 0, 10, 44, 180, 0, 172, 180, 0, 236, 172]
abbrev dktX0_under_2 : List UInt8 := dkwX0_under_2 ++ []
def dkwX0_under_1 : List UInt8 := [192, 0, 66, 77, 44, 180, 0, 134, 154, 0, 6, 16, 253, 172, 44, 180, 0, 172, 199, 0, 8, 16, 247]
abbrev dktX0_under_1 : List UInt8 := dkwX0_under_1 ++ dktX0_under_2
def dkwX0_under_0 : List UInt8 := [42, 27, 182, 0, 97, 154, 0, 5, 2, 172, 42, 182, 0, 233, 42, 180, 0, 14, 27, 185, 0, 33, 2, 0]
abbrev dktX0_under_0 : List UInt8 := dkwX0_under_0 ++ dktX0_under_1
theorem dksX0_under_0 : cX0_under.data.toList.drop 0 = dktX0_under_0 := by decide +kernel
theorem dksX0_under_1 : cX0_under.data.toList.drop 24 = dktX0_under_1 := dk_seg dksX0_under_0 24 rfl rfl
theorem dksX0_under_2 : cX0_under.data.toList.drop 47 = dktX0_under_2 := dk_seg dksX0_under_1 23 rfl rfl
theorem dX0_under_0 : decode cX0_under 0 = .ok (.aload_n 0, 1) := dk_42 (dk_at dksX0_under_0 0 rfl rfl)
theorem dX0_under_1 : decode cX0_under 1 = .ok (.iload_n 1, 1) := dk_27 (dk_at dksX0_under_0 1 rfl rfl)
theorem dX0_under_2 : decode cX0_under 2 = .ok (.invokevirtual 97, 3) := dk_182 0 97 (dk_at dksX0_under_0 2 rfl rfl)
theorem dX0_under_5 : decode cX0_under 5 = .ok (.ifCond .ne 5, 3) := dk_154 0 5 (dk_at dksX0_under_0 5 rfl rfl)
theorem dX0_under_8 : decode cX0_under 8 = .ok (.iconst (-1), 1) := dk_2 (dk_at dksX0_under_0 8 rfl rfl)
theorem dX0_under_9 : decode cX0_under 9 = .ok (.ireturn, 1) := dk_172 (dk_at dksX0_under_0 9 rfl rfl)
theorem dX0_under_10 : decode cX0_under 10 = .ok (.aload_n 0, 1) := dk_42 (dk_at dksX0_under_0 10 rfl rfl)
theorem dX0_under_11 : decode cX0_under 11 = .ok (.invokevirtual 233, 3) := dk_182 0 233 (dk_at dksX0_under_0 11 rfl rfl)
theorem dX0_under_14 : decode cX0_under 14 = .ok (.aload_n 0, 1) := dk_42 (dk_at dksX0_under_0 14 rfl rfl)
theorem dX0_under_15 : decode cX0_under 15 = .ok (.getfield 14, 3) := dk_180 0 14 (dk_at dksX0_under_0 15 rfl rfl)
theorem dX0_under_18 : decode cX0_under 18 = .ok (.iload_n 1, 1) := dk_27 (dk_at dksX0_under_0 18 rfl rfl)
theorem dX0_under_19 : decode cX0_under 19 = .ok (.invokeinterface 33 2, 5) := by decide +kernel
theorem dX0_under_24 : decode cX0_under 24 = .ok (.checkcast 66, 3) := dk_192 0 66 (dk_at dksX0_under_1 0 rfl rfl)
theorem dX0_under_27 : decode cX0_under 27 = .ok (.astore_n 2, 1) := dk_77 (dk_at dksX0_under_1 3 rfl rfl)
theorem dX0_under_28 : decode cX0_under 28 = .ok (.aload_n 2, 1) := dk_44 (dk_at dksX0_under_1 4 rfl rfl)
theorem dX0_under_29 : decode cX0_under 29 = .ok (.getfield 134, 3) := dk_180 0 134 (dk_at dksX0_under_1 5 rfl rfl)
theorem dX0_under_32 : decode cX0_under 32 = .ok (.ifCond .ne 6, 3) := dk_154 0 6 (dk_at dksX0_under_1 8 rfl rfl)
theorem dX0_under_35 : decode cX0_under 35 = .ok (.bipush (-3), 2) := dk_16 253 (dk_at dksX0_under_1 11 rfl rfl)
theorem dX0_under_37 : decode cX0_under 37 = .ok (.ireturn, 1) := dk_172 (dk_at dksX0_under_1 13 rfl rfl)
theorem dX0_under_38 : decode cX0_under 38 = .ok (.aload_n 2, 1) := dk_44 (dk_at dksX0_under_1 14 rfl rfl)
theorem dX0_under_39 : decode cX0_under 39 = .ok (.getfield 172, 3) := dk_180 0 172 (dk_at dksX0_under_1 15 rfl rfl)
theorem dX0_under_42 : decode cX0_under 42 = .ok (.ifnonnull 8, 3) := dk_199 0 8 (dk_at dksX0_under_1 18 rfl rfl)
theorem dX0_under_45 : decode cX0_under 45 = .ok (.bipush (-9), 2) := dk_16 247 (dk_at dksX0_under_1 21 rfl rfl)
theorem dX0_under_47 : decode cX0_under 47 = .ok (.goto 10, 3) := dk_167 0 10 (dk_at dksX0_under_2 0 rfl rfl)
theorem dX0_under_50 : decode cX0_under 50 = .ok (.aload_n 2, 1) := dk_44 (dk_at dksX0_under_2 3 rfl rfl)
theorem dX0_under_51 : decode cX0_under 51 = .ok (.getfield 172, 3) := dk_180 0 172 (dk_at dksX0_under_2 4 rfl rfl)
theorem dX0_under_54 : decode cX0_under 54 = .ok (.getfield 236, 3) := dk_180 0 236 (dk_at dksX0_under_2 7 rfl rfl)
theorem dX0_under_57 : decode cX0_under 57 = .ok (.ireturn, 1) := dk_172 (dk_at dksX0_under_2 10 rfl rfl)
abbrev cX0_knows : ByteArray := prog_1_method_24_code
def yX0_knows : MethodName := ⟨RX0, "knows", "()V"⟩
def dkwX0_knows_1 : List UInt8 := [182, 0, 218, 60, 167, 255, 247, 42, 182, 0, 221, 42, 182, 0, 224, 42, 182, 0, 227, 177]
abbrev dktX0_knows_1 : List UInt8 := dkwX0_knows_1 ++ []
def dkwX0_knows_0 : List UInt8 := [42, 180, 0, 54, 153, 0, 4, 177, 42, 4, 181, 0, 54, 42, 182, 0, 216, 4, 60, 27, 153, 0, 11, 42]
abbrev dktX0_knows_0 : List UInt8 := dkwX0_knows_0 ++ dktX0_knows_1
theorem dksX0_knows_0 : cX0_knows.data.toList.drop 0 = dktX0_knows_0 := by decide +kernel
theorem dksX0_knows_1 : cX0_knows.data.toList.drop 24 = dktX0_knows_1 := dk_seg dksX0_knows_0 24 rfl rfl
theorem dX0_knows_0 : decode cX0_knows 0 = .ok (.aload_n 0, 1) := dk_42 (dk_at dksX0_knows_0 0 rfl rfl)
theorem dX0_knows_1 : decode cX0_knows 1 = .ok (.getfield 54, 3) := dk_180 0 54 (dk_at dksX0_knows_0 1 rfl rfl)
theorem dX0_knows_4 : decode cX0_knows 4 = .ok (.ifCond .eq 4, 3) := dk_153 0 4 (dk_at dksX0_knows_0 4 rfl rfl)
theorem dX0_knows_7 : decode cX0_knows 7 = .ok (.return_, 1) := dk_177 (dk_at dksX0_knows_0 7 rfl rfl)
theorem dX0_knows_8 : decode cX0_knows 8 = .ok (.aload_n 0, 1) := dk_42 (dk_at dksX0_knows_0 8 rfl rfl)
theorem dX0_knows_9 : decode cX0_knows 9 = .ok (.iconst 1, 1) := dk_4 (dk_at dksX0_knows_0 9 rfl rfl)
theorem dX0_knows_10 : decode cX0_knows 10 = .ok (.putfield 54, 3) := dk_181 0 54 (dk_at dksX0_knows_0 10 rfl rfl)
theorem dX0_knows_13 : decode cX0_knows 13 = .ok (.aload_n 0, 1) := dk_42 (dk_at dksX0_knows_0 13 rfl rfl)
theorem dX0_knows_14 : decode cX0_knows 14 = .ok (.invokevirtual 216, 3) := dk_182 0 216 (dk_at dksX0_knows_0 14 rfl rfl)
theorem dX0_knows_17 : decode cX0_knows 17 = .ok (.iconst 1, 1) := dk_4 (dk_at dksX0_knows_0 17 rfl rfl)
theorem dX0_knows_18 : decode cX0_knows 18 = .ok (.istore_n 1, 1) := dk_60 (dk_at dksX0_knows_0 18 rfl rfl)
theorem dX0_knows_19 : decode cX0_knows 19 = .ok (.iload_n 1, 1) := dk_27 (dk_at dksX0_knows_0 19 rfl rfl)
theorem dX0_knows_20 : decode cX0_knows 20 = .ok (.ifCond .eq 11, 3) := dk_153 0 11 (dk_at dksX0_knows_0 20 rfl rfl)
theorem dX0_knows_23 : decode cX0_knows 23 = .ok (.aload_n 0, 1) := dk_42 (dk_at dksX0_knows_0 23 rfl rfl)
theorem dX0_knows_24 : decode cX0_knows 24 = .ok (.invokevirtual 218, 3) := dk_182 0 218 (dk_at dksX0_knows_1 0 rfl rfl)
theorem dX0_knows_27 : decode cX0_knows 27 = .ok (.istore_n 1, 1) := dk_60 (dk_at dksX0_knows_1 3 rfl rfl)
theorem dX0_knows_28 : decode cX0_knows 28 = .ok (.goto (-9), 3) := dk_167 255 247 (dk_at dksX0_knows_1 4 rfl rfl)
theorem dX0_knows_31 : decode cX0_knows 31 = .ok (.aload_n 0, 1) := dk_42 (dk_at dksX0_knows_1 7 rfl rfl)
theorem dX0_knows_32 : decode cX0_knows 32 = .ok (.invokevirtual 221, 3) := dk_182 0 221 (dk_at dksX0_knows_1 8 rfl rfl)
theorem dX0_knows_35 : decode cX0_knows 35 = .ok (.aload_n 0, 1) := dk_42 (dk_at dksX0_knows_1 11 rfl rfl)
theorem dX0_knows_36 : decode cX0_knows 36 = .ok (.invokevirtual 224, 3) := dk_182 0 224 (dk_at dksX0_knows_1 12 rfl rfl)
theorem dX0_knows_39 : decode cX0_knows 39 = .ok (.aload_n 0, 1) := dk_42 (dk_at dksX0_knows_1 15 rfl rfl)
theorem dX0_knows_40 : decode cX0_knows 40 = .ok (.invokevirtual 227, 3) := dk_182 0 227 (dk_at dksX0_knows_1 16 rfl rfl)
theorem dX0_knows_43 : decode cX0_knows 43 = .ok (.return_, 1) := dk_177 (dk_at dksX0_knows_1 19 rfl rfl)
abbrev cX0_gathers : ByteArray := prog_1_method_17_code
def yX0_gathers : MethodName := ⟨RX0, "gathers", "()V"⟩
def dkwX0_gathers_10 : List UInt8 := [177]
abbrev dktX0_gathers_10 : List UInt8 := dkwX0_gathers_10 ++ []
def dkwX0_gathers_9 : List UInt8 := [153, 0, 21, 44, 180, 0, 172, 198, 0, 14, 44, 180, 0, 172, 180, 0, 161, 44, 182, 0, 176, 167, 255, 142]
abbrev dktX0_gathers_9 : List UInt8 := dkwX0_gathers_9 ++ dktX0_gathers_10
def dkwX0_gathers_8 : List UInt8 := [44, 182, 0, 168, 153, 0, 9, 44, 25, 4, 181, 0, 172, 132, 3, 1, 167, 255, 191, 44, 182, 0, 101]
abbrev dktX0_gathers_8 : List UInt8 := dkwX0_gathers_8 ++ dktX0_gathers_9
def dkwX0_gathers_7 : List UInt8 := [185, 0, 33, 2, 0, 58, 5, 25, 5, 193, 0, 61, 153, 0, 25, 25, 5, 192, 0, 61, 58, 4, 25, 4]
abbrev dktX0_gathers_7 : List UInt8 := dkwX0_gathers_7 ++ dktX0_gathers_8
def dkwX0_gathers_6 : List UInt8 := [180, 0, 14, 185, 0, 27, 1, 0, 162, 0, 58, 44, 180, 0, 134, 153, 0, 51, 42, 180, 0, 14, 29]
abbrev dktX0_gathers_6 : List UInt8 := dkwX0_gathers_6 ++ dktX0_gathers_7
def dkwX0_gathers_5 : List UInt8 := [76, 43, 185, 0, 75, 1, 0, 153, 0, 111, 43, 185, 0, 81, 1, 0, 192, 0, 66, 77, 3, 62, 29, 42]
abbrev dktX0_gathers_5 : List UInt8 := dkwX0_gathers_5 ++ dktX0_gathers_6
def dkwX0_gathers_4 : List UInt8 := [181, 0, 161, 45, 180, 0, 161, 16, 247, 181, 0, 165, 167, 255, 203, 42, 180, 0, 14, 185, 0, 71, 1, 0]
abbrev dktX0_gathers_4 : List UInt8 := dkwX0_gathers_4 ++ dktX0_gathers_5
def dkwX0_gathers_3 : List UInt8 := [77, 44, 193, 0, 61, 153, 0, 30, 44, 192, 0, 61, 78, 45, 187, 0, 156, 89, 42, 45, 183, 0, 158]
abbrev dktX0_gathers_3 : List UInt8 := dkwX0_gathers_3 ++ dktX0_gathers_4
def dkwX0_gathers_2 : List UInt8 := [185, 0, 71, 1, 0, 76, 43, 185, 0, 75, 1, 0, 153, 0, 50, 43, 185, 0, 81, 1, 0, 192, 0, 66]
abbrev dktX0_gathers_2 : List UInt8 := dkwX0_gathers_2 ++ dktX0_gathers_3
def dkwX0_gathers_1 : List UInt8 := [185, 0, 81, 1, 0, 192, 0, 66, 77, 44, 182, 0, 153, 167, 255, 233, 42, 180, 0, 14]
abbrev dktX0_gathers_1 : List UInt8 := dkwX0_gathers_1 ++ dktX0_gathers_2
def dkwX0_gathers_0 : List UInt8 := [42, 180, 0, 14, 185, 0, 71, 1, 0, 76, 43, 185, 0, 75, 1, 0, 153, 0, 20, 43]
abbrev dktX0_gathers_0 : List UInt8 := dkwX0_gathers_0 ++ dktX0_gathers_1
theorem dksX0_gathers_0 : cX0_gathers.data.toList.drop 0 = dktX0_gathers_0 := by decide +kernel
theorem dksX0_gathers_1 : cX0_gathers.data.toList.drop 20 = dktX0_gathers_1 := dk_seg dksX0_gathers_0 20 rfl rfl
theorem dksX0_gathers_2 : cX0_gathers.data.toList.drop 40 = dktX0_gathers_2 := dk_seg dksX0_gathers_1 20 rfl rfl
theorem dksX0_gathers_3 : cX0_gathers.data.toList.drop 64 = dktX0_gathers_3 := dk_seg dksX0_gathers_2 24 rfl rfl
theorem dksX0_gathers_4 : cX0_gathers.data.toList.drop 87 = dktX0_gathers_4 := dk_seg dksX0_gathers_3 23 rfl rfl
theorem dksX0_gathers_5 : cX0_gathers.data.toList.drop 111 = dktX0_gathers_5 := dk_seg dksX0_gathers_4 24 rfl rfl
theorem dksX0_gathers_6 : cX0_gathers.data.toList.drop 135 = dktX0_gathers_6 := dk_seg dksX0_gathers_5 24 rfl rfl
theorem dksX0_gathers_7 : cX0_gathers.data.toList.drop 158 = dktX0_gathers_7 := dk_seg dksX0_gathers_6 23 rfl rfl
theorem dksX0_gathers_8 : cX0_gathers.data.toList.drop 182 = dktX0_gathers_8 := dk_seg dksX0_gathers_7 24 rfl rfl
theorem dksX0_gathers_9 : cX0_gathers.data.toList.drop 205 = dktX0_gathers_9 := dk_seg dksX0_gathers_8 23 rfl rfl
theorem dksX0_gathers_10 : cX0_gathers.data.toList.drop 229 = dktX0_gathers_10 := dk_seg dksX0_gathers_9 24 rfl rfl
theorem dX0_gathers_0 : decode cX0_gathers 0 = .ok (.aload_n 0, 1) := dk_42 (dk_at dksX0_gathers_0 0 rfl rfl)
theorem dX0_gathers_1 : decode cX0_gathers 1 = .ok (.getfield 14, 3) := dk_180 0 14 (dk_at dksX0_gathers_0 1 rfl rfl)
theorem dX0_gathers_4 : decode cX0_gathers 4 = .ok (.invokeinterface 71 1, 5) := by decide +kernel
theorem dX0_gathers_9 : decode cX0_gathers 9 = .ok (.astore_n 1, 1) := dk_76 (dk_at dksX0_gathers_0 9 rfl rfl)
theorem dX0_gathers_10 : decode cX0_gathers 10 = .ok (.aload_n 1, 1) := dk_43 (dk_at dksX0_gathers_0 10 rfl rfl)
theorem dX0_gathers_11 : decode cX0_gathers 11 = .ok (.invokeinterface 75 1, 5) := by decide +kernel
theorem dX0_gathers_16 : decode cX0_gathers 16 = .ok (.ifCond .eq 20, 3) := dk_153 0 20 (dk_at dksX0_gathers_0 16 rfl rfl)
theorem dX0_gathers_19 : decode cX0_gathers 19 = .ok (.aload_n 1, 1) := dk_43 (dk_at dksX0_gathers_0 19 rfl rfl)
theorem dX0_gathers_20 : decode cX0_gathers 20 = .ok (.invokeinterface 81 1, 5) := by decide +kernel
theorem dX0_gathers_25 : decode cX0_gathers 25 = .ok (.checkcast 66, 3) := dk_192 0 66 (dk_at dksX0_gathers_1 5 rfl rfl)
theorem dX0_gathers_28 : decode cX0_gathers 28 = .ok (.astore_n 2, 1) := dk_77 (dk_at dksX0_gathers_1 8 rfl rfl)
theorem dX0_gathers_29 : decode cX0_gathers 29 = .ok (.aload_n 2, 1) := dk_44 (dk_at dksX0_gathers_1 9 rfl rfl)
theorem dX0_gathers_30 : decode cX0_gathers 30 = .ok (.invokevirtual 153, 3) := dk_182 0 153 (dk_at dksX0_gathers_1 10 rfl rfl)
theorem dX0_gathers_33 : decode cX0_gathers 33 = .ok (.goto (-23), 3) := dk_167 255 233 (dk_at dksX0_gathers_1 13 rfl rfl)
theorem dX0_gathers_36 : decode cX0_gathers 36 = .ok (.aload_n 0, 1) := dk_42 (dk_at dksX0_gathers_1 16 rfl rfl)
theorem dX0_gathers_37 : decode cX0_gathers 37 = .ok (.getfield 14, 3) := dk_180 0 14 (dk_at dksX0_gathers_1 17 rfl rfl)
theorem dX0_gathers_40 : decode cX0_gathers 40 = .ok (.invokeinterface 71 1, 5) := by decide +kernel
theorem dX0_gathers_45 : decode cX0_gathers 45 = .ok (.astore_n 1, 1) := dk_76 (dk_at dksX0_gathers_2 5 rfl rfl)
theorem dX0_gathers_46 : decode cX0_gathers 46 = .ok (.aload_n 1, 1) := dk_43 (dk_at dksX0_gathers_2 6 rfl rfl)
theorem dX0_gathers_47 : decode cX0_gathers 47 = .ok (.invokeinterface 75 1, 5) := by decide +kernel
theorem dX0_gathers_52 : decode cX0_gathers 52 = .ok (.ifCond .eq 50, 3) := dk_153 0 50 (dk_at dksX0_gathers_2 12 rfl rfl)
theorem dX0_gathers_55 : decode cX0_gathers 55 = .ok (.aload_n 1, 1) := dk_43 (dk_at dksX0_gathers_2 15 rfl rfl)
theorem dX0_gathers_56 : decode cX0_gathers 56 = .ok (.invokeinterface 81 1, 5) := by decide +kernel
theorem dX0_gathers_61 : decode cX0_gathers 61 = .ok (.checkcast 66, 3) := dk_192 0 66 (dk_at dksX0_gathers_2 21 rfl rfl)
theorem dX0_gathers_64 : decode cX0_gathers 64 = .ok (.astore_n 2, 1) := dk_77 (dk_at dksX0_gathers_3 0 rfl rfl)
theorem dX0_gathers_65 : decode cX0_gathers 65 = .ok (.aload_n 2, 1) := dk_44 (dk_at dksX0_gathers_3 1 rfl rfl)
theorem dX0_gathers_66 : decode cX0_gathers 66 = .ok (.instanceof 61, 3) := dk_193 0 61 (dk_at dksX0_gathers_3 2 rfl rfl)
theorem dX0_gathers_69 : decode cX0_gathers 69 = .ok (.ifCond .eq 30, 3) := dk_153 0 30 (dk_at dksX0_gathers_3 5 rfl rfl)
theorem dX0_gathers_72 : decode cX0_gathers 72 = .ok (.aload_n 2, 1) := dk_44 (dk_at dksX0_gathers_3 8 rfl rfl)
theorem dX0_gathers_73 : decode cX0_gathers 73 = .ok (.checkcast 61, 3) := dk_192 0 61 (dk_at dksX0_gathers_3 9 rfl rfl)
theorem dX0_gathers_76 : decode cX0_gathers 76 = .ok (.astore_n 3, 1) := dk_78 (dk_at dksX0_gathers_3 12 rfl rfl)
theorem dX0_gathers_77 : decode cX0_gathers 77 = .ok (.aload_n 3, 1) := dk_45 (dk_at dksX0_gathers_3 13 rfl rfl)
theorem dX0_gathers_78 : decode cX0_gathers 78 = .ok (.new 156, 3) := dk_187 0 156 (dk_at dksX0_gathers_3 14 rfl rfl)
theorem dX0_gathers_81 : decode cX0_gathers 81 = .ok (.dup, 1) := dk_89 (dk_at dksX0_gathers_3 17 rfl rfl)
theorem dX0_gathers_82 : decode cX0_gathers 82 = .ok (.aload_n 0, 1) := dk_42 (dk_at dksX0_gathers_3 18 rfl rfl)
theorem dX0_gathers_83 : decode cX0_gathers 83 = .ok (.aload_n 3, 1) := dk_45 (dk_at dksX0_gathers_3 19 rfl rfl)
theorem dX0_gathers_84 : decode cX0_gathers 84 = .ok (.invokespecial 158, 3) := dk_183 0 158 (dk_at dksX0_gathers_3 20 rfl rfl)
theorem dX0_gathers_87 : decode cX0_gathers 87 = .ok (.putfield 161, 3) := dk_181 0 161 (dk_at dksX0_gathers_4 0 rfl rfl)
theorem dX0_gathers_90 : decode cX0_gathers 90 = .ok (.aload_n 3, 1) := dk_45 (dk_at dksX0_gathers_4 3 rfl rfl)
theorem dX0_gathers_91 : decode cX0_gathers 91 = .ok (.getfield 161, 3) := dk_180 0 161 (dk_at dksX0_gathers_4 4 rfl rfl)
theorem dX0_gathers_94 : decode cX0_gathers 94 = .ok (.bipush (-9), 2) := dk_16 247 (dk_at dksX0_gathers_4 7 rfl rfl)
theorem dX0_gathers_96 : decode cX0_gathers 96 = .ok (.putfield 165, 3) := dk_181 0 165 (dk_at dksX0_gathers_4 9 rfl rfl)
theorem dX0_gathers_99 : decode cX0_gathers 99 = .ok (.goto (-53), 3) := dk_167 255 203 (dk_at dksX0_gathers_4 12 rfl rfl)
theorem dX0_gathers_102 : decode cX0_gathers 102 = .ok (.aload_n 0, 1) := dk_42 (dk_at dksX0_gathers_4 15 rfl rfl)
theorem dX0_gathers_103 : decode cX0_gathers 103 = .ok (.getfield 14, 3) := dk_180 0 14 (dk_at dksX0_gathers_4 16 rfl rfl)
theorem dX0_gathers_106 : decode cX0_gathers 106 = .ok (.invokeinterface 71 1, 5) := by decide +kernel
theorem dX0_gathers_111 : decode cX0_gathers 111 = .ok (.astore_n 1, 1) := dk_76 (dk_at dksX0_gathers_5 0 rfl rfl)
theorem dX0_gathers_112 : decode cX0_gathers 112 = .ok (.aload_n 1, 1) := dk_43 (dk_at dksX0_gathers_5 1 rfl rfl)
theorem dX0_gathers_113 : decode cX0_gathers 113 = .ok (.invokeinterface 75 1, 5) := by decide +kernel
theorem dX0_gathers_118 : decode cX0_gathers 118 = .ok (.ifCond .eq 111, 3) := dk_153 0 111 (dk_at dksX0_gathers_5 7 rfl rfl)
theorem dX0_gathers_121 : decode cX0_gathers 121 = .ok (.aload_n 1, 1) := dk_43 (dk_at dksX0_gathers_5 10 rfl rfl)
theorem dX0_gathers_122 : decode cX0_gathers 122 = .ok (.invokeinterface 81 1, 5) := by decide +kernel
theorem dX0_gathers_127 : decode cX0_gathers 127 = .ok (.checkcast 66, 3) := dk_192 0 66 (dk_at dksX0_gathers_5 16 rfl rfl)
theorem dX0_gathers_130 : decode cX0_gathers 130 = .ok (.astore_n 2, 1) := dk_77 (dk_at dksX0_gathers_5 19 rfl rfl)
theorem dX0_gathers_131 : decode cX0_gathers 131 = .ok (.iconst 0, 1) := dk_3 (dk_at dksX0_gathers_5 20 rfl rfl)
theorem dX0_gathers_132 : decode cX0_gathers 132 = .ok (.istore_n 3, 1) := dk_62 (dk_at dksX0_gathers_5 21 rfl rfl)
theorem dX0_gathers_133 : decode cX0_gathers 133 = .ok (.iload_n 3, 1) := dk_29 (dk_at dksX0_gathers_5 22 rfl rfl)
theorem dX0_gathers_134 : decode cX0_gathers 134 = .ok (.aload_n 0, 1) := dk_42 (dk_at dksX0_gathers_5 23 rfl rfl)
theorem dX0_gathers_135 : decode cX0_gathers 135 = .ok (.getfield 14, 3) := dk_180 0 14 (dk_at dksX0_gathers_6 0 rfl rfl)
theorem dX0_gathers_138 : decode cX0_gathers 138 = .ok (.invokeinterface 27 1, 5) := by decide +kernel
theorem dX0_gathers_143 : decode cX0_gathers 143 = .ok (.if_icmp .ge 58, 3) := dk_162 0 58 (dk_at dksX0_gathers_6 8 rfl rfl)
theorem dX0_gathers_146 : decode cX0_gathers 146 = .ok (.aload_n 2, 1) := dk_44 (dk_at dksX0_gathers_6 11 rfl rfl)
theorem dX0_gathers_147 : decode cX0_gathers 147 = .ok (.getfield 134, 3) := dk_180 0 134 (dk_at dksX0_gathers_6 12 rfl rfl)
theorem dX0_gathers_150 : decode cX0_gathers 150 = .ok (.ifCond .eq 51, 3) := dk_153 0 51 (dk_at dksX0_gathers_6 15 rfl rfl)
theorem dX0_gathers_153 : decode cX0_gathers 153 = .ok (.aload_n 0, 1) := dk_42 (dk_at dksX0_gathers_6 18 rfl rfl)
theorem dX0_gathers_154 : decode cX0_gathers 154 = .ok (.getfield 14, 3) := dk_180 0 14 (dk_at dksX0_gathers_6 19 rfl rfl)
theorem dX0_gathers_157 : decode cX0_gathers 157 = .ok (.iload_n 3, 1) := dk_29 (dk_at dksX0_gathers_6 22 rfl rfl)
theorem dX0_gathers_158 : decode cX0_gathers 158 = .ok (.invokeinterface 33 2, 5) := by decide +kernel
theorem dX0_gathers_163 : decode cX0_gathers 163 = .ok (.astore 5, 2) := dk_58 5 (dk_at dksX0_gathers_7 5 rfl rfl)
theorem dX0_gathers_165 : decode cX0_gathers 165 = .ok (.aload 5, 2) := dk_25 5 (dk_at dksX0_gathers_7 7 rfl rfl)
theorem dX0_gathers_167 : decode cX0_gathers 167 = .ok (.instanceof 61, 3) := dk_193 0 61 (dk_at dksX0_gathers_7 9 rfl rfl)
theorem dX0_gathers_170 : decode cX0_gathers 170 = .ok (.ifCond .eq 25, 3) := dk_153 0 25 (dk_at dksX0_gathers_7 12 rfl rfl)
theorem dX0_gathers_173 : decode cX0_gathers 173 = .ok (.aload 5, 2) := dk_25 5 (dk_at dksX0_gathers_7 15 rfl rfl)
theorem dX0_gathers_175 : decode cX0_gathers 175 = .ok (.checkcast 61, 3) := dk_192 0 61 (dk_at dksX0_gathers_7 17 rfl rfl)
theorem dX0_gathers_178 : decode cX0_gathers 178 = .ok (.astore 4, 2) := dk_58 4 (dk_at dksX0_gathers_7 20 rfl rfl)
theorem dX0_gathers_180 : decode cX0_gathers 180 = .ok (.aload 4, 2) := dk_25 4 (dk_at dksX0_gathers_7 22 rfl rfl)
theorem dX0_gathers_182 : decode cX0_gathers 182 = .ok (.aload_n 2, 1) := dk_44 (dk_at dksX0_gathers_8 0 rfl rfl)
theorem dX0_gathers_183 : decode cX0_gathers 183 = .ok (.invokevirtual 168, 3) := dk_182 0 168 (dk_at dksX0_gathers_8 1 rfl rfl)
theorem dX0_gathers_186 : decode cX0_gathers 186 = .ok (.ifCond .eq 9, 3) := dk_153 0 9 (dk_at dksX0_gathers_8 4 rfl rfl)
theorem dX0_gathers_189 : decode cX0_gathers 189 = .ok (.aload_n 2, 1) := dk_44 (dk_at dksX0_gathers_8 7 rfl rfl)
theorem dX0_gathers_190 : decode cX0_gathers 190 = .ok (.aload 4, 2) := dk_25 4 (dk_at dksX0_gathers_8 8 rfl rfl)
theorem dX0_gathers_192 : decode cX0_gathers 192 = .ok (.putfield 172, 3) := dk_181 0 172 (dk_at dksX0_gathers_8 10 rfl rfl)
theorem dX0_gathers_195 : decode cX0_gathers 195 = .ok (.iinc 3 1, 3) := dk_132 3 1 (dk_at dksX0_gathers_8 13 rfl rfl)
theorem dX0_gathers_198 : decode cX0_gathers 198 = .ok (.goto (-65), 3) := dk_167 255 191 (dk_at dksX0_gathers_8 16 rfl rfl)
theorem dX0_gathers_201 : decode cX0_gathers 201 = .ok (.aload_n 2, 1) := dk_44 (dk_at dksX0_gathers_8 19 rfl rfl)
theorem dX0_gathers_202 : decode cX0_gathers 202 = .ok (.invokevirtual 101, 3) := dk_182 0 101 (dk_at dksX0_gathers_8 20 rfl rfl)
theorem dX0_gathers_205 : decode cX0_gathers 205 = .ok (.ifCond .eq 21, 3) := dk_153 0 21 (dk_at dksX0_gathers_9 0 rfl rfl)
theorem dX0_gathers_208 : decode cX0_gathers 208 = .ok (.aload_n 2, 1) := dk_44 (dk_at dksX0_gathers_9 3 rfl rfl)
theorem dX0_gathers_209 : decode cX0_gathers 209 = .ok (.getfield 172, 3) := dk_180 0 172 (dk_at dksX0_gathers_9 4 rfl rfl)
theorem dX0_gathers_212 : decode cX0_gathers 212 = .ok (.ifnull 14, 3) := dk_198 0 14 (dk_at dksX0_gathers_9 7 rfl rfl)
theorem dX0_gathers_215 : decode cX0_gathers 215 = .ok (.aload_n 2, 1) := dk_44 (dk_at dksX0_gathers_9 10 rfl rfl)
theorem dX0_gathers_216 : decode cX0_gathers 216 = .ok (.getfield 172, 3) := dk_180 0 172 (dk_at dksX0_gathers_9 11 rfl rfl)
theorem dX0_gathers_219 : decode cX0_gathers 219 = .ok (.getfield 161, 3) := dk_180 0 161 (dk_at dksX0_gathers_9 14 rfl rfl)
theorem dX0_gathers_222 : decode cX0_gathers 222 = .ok (.aload_n 2, 1) := dk_44 (dk_at dksX0_gathers_9 17 rfl rfl)
theorem dX0_gathers_223 : decode cX0_gathers 223 = .ok (.invokevirtual 176, 3) := dk_182 0 176 (dk_at dksX0_gathers_9 18 rfl rfl)
theorem dX0_gathers_226 : decode cX0_gathers 226 = .ok (.goto (-114), 3) := dk_167 255 142 (dk_at dksX0_gathers_9 21 rfl rfl)
theorem dX0_gathers_229 : decode cX0_gathers 229 = .ok (.return_, 1) := dk_177 (dk_at dksX0_gathers_10 0 rfl rfl)
abbrev cX0_joinsOne : ByteArray := prog_1_method_19_code
def yX0_joinsOne : MethodName := ⟨RX0, "joinsOne", "()Z"⟩
def dkwX0_joinsOne_3 : List UInt8 := [132, 1, 1, 167, 255, 187, 3, 172]
abbrev dktX0_joinsOne_3 : List UInt8 := dkwX0_joinsOne_3 ++ []
def dkwX0_joinsOne_2 : List UInt8 := [44, 182, 0, 184, 167, 0, 4, 1, 78, 45, 198, 0, 14, 45, 180, 0, 180, 44, 45, 182, 0, 188, 4, 172]
abbrev dktX0_joinsOne_2 : List UInt8 := dkwX0_joinsOne_2 ++ dktX0_joinsOne_3
def dkwX0_joinsOne_1 : List UInt8 := [185, 0, 33, 2, 0, 192, 0, 66, 77, 44, 182, 0, 101, 153, 0, 18, 44, 180, 0, 180, 199, 0, 11, 42]
abbrev dktX0_joinsOne_1 : List UInt8 := dkwX0_joinsOne_1 ++ dktX0_joinsOne_2
def dkwX0_joinsOne_0 : List UInt8 := [3, 60, 27, 42, 180, 0, 14, 185, 0, 27, 1, 0, 162, 0, 62, 42, 180, 0, 14, 27]
abbrev dktX0_joinsOne_0 : List UInt8 := dkwX0_joinsOne_0 ++ dktX0_joinsOne_1
theorem dksX0_joinsOne_0 : cX0_joinsOne.data.toList.drop 0 = dktX0_joinsOne_0 := by decide +kernel
theorem dksX0_joinsOne_1 : cX0_joinsOne.data.toList.drop 20 = dktX0_joinsOne_1 := dk_seg dksX0_joinsOne_0 20 rfl rfl
theorem dksX0_joinsOne_2 : cX0_joinsOne.data.toList.drop 44 = dktX0_joinsOne_2 := dk_seg dksX0_joinsOne_1 24 rfl rfl
theorem dksX0_joinsOne_3 : cX0_joinsOne.data.toList.drop 68 = dktX0_joinsOne_3 := dk_seg dksX0_joinsOne_2 24 rfl rfl
theorem dX0_joinsOne_0 : decode cX0_joinsOne 0 = .ok (.iconst 0, 1) := dk_3 (dk_at dksX0_joinsOne_0 0 rfl rfl)
theorem dX0_joinsOne_1 : decode cX0_joinsOne 1 = .ok (.istore_n 1, 1) := dk_60 (dk_at dksX0_joinsOne_0 1 rfl rfl)
theorem dX0_joinsOne_2 : decode cX0_joinsOne 2 = .ok (.iload_n 1, 1) := dk_27 (dk_at dksX0_joinsOne_0 2 rfl rfl)
theorem dX0_joinsOne_3 : decode cX0_joinsOne 3 = .ok (.aload_n 0, 1) := dk_42 (dk_at dksX0_joinsOne_0 3 rfl rfl)
theorem dX0_joinsOne_4 : decode cX0_joinsOne 4 = .ok (.getfield 14, 3) := dk_180 0 14 (dk_at dksX0_joinsOne_0 4 rfl rfl)
theorem dX0_joinsOne_7 : decode cX0_joinsOne 7 = .ok (.invokeinterface 27 1, 5) := by decide +kernel
theorem dX0_joinsOne_12 : decode cX0_joinsOne 12 = .ok (.if_icmp .ge 62, 3) := dk_162 0 62 (dk_at dksX0_joinsOne_0 12 rfl rfl)
theorem dX0_joinsOne_15 : decode cX0_joinsOne 15 = .ok (.aload_n 0, 1) := dk_42 (dk_at dksX0_joinsOne_0 15 rfl rfl)
theorem dX0_joinsOne_16 : decode cX0_joinsOne 16 = .ok (.getfield 14, 3) := dk_180 0 14 (dk_at dksX0_joinsOne_0 16 rfl rfl)
theorem dX0_joinsOne_19 : decode cX0_joinsOne 19 = .ok (.iload_n 1, 1) := dk_27 (dk_at dksX0_joinsOne_0 19 rfl rfl)
theorem dX0_joinsOne_20 : decode cX0_joinsOne 20 = .ok (.invokeinterface 33 2, 5) := by decide +kernel
theorem dX0_joinsOne_25 : decode cX0_joinsOne 25 = .ok (.checkcast 66, 3) := dk_192 0 66 (dk_at dksX0_joinsOne_1 5 rfl rfl)
theorem dX0_joinsOne_28 : decode cX0_joinsOne 28 = .ok (.astore_n 2, 1) := dk_77 (dk_at dksX0_joinsOne_1 8 rfl rfl)
theorem dX0_joinsOne_29 : decode cX0_joinsOne 29 = .ok (.aload_n 2, 1) := dk_44 (dk_at dksX0_joinsOne_1 9 rfl rfl)
theorem dX0_joinsOne_30 : decode cX0_joinsOne 30 = .ok (.invokevirtual 101, 3) := dk_182 0 101 (dk_at dksX0_joinsOne_1 10 rfl rfl)
theorem dX0_joinsOne_33 : decode cX0_joinsOne 33 = .ok (.ifCond .eq 18, 3) := dk_153 0 18 (dk_at dksX0_joinsOne_1 13 rfl rfl)
theorem dX0_joinsOne_36 : decode cX0_joinsOne 36 = .ok (.aload_n 2, 1) := dk_44 (dk_at dksX0_joinsOne_1 16 rfl rfl)
theorem dX0_joinsOne_37 : decode cX0_joinsOne 37 = .ok (.getfield 180, 3) := dk_180 0 180 (dk_at dksX0_joinsOne_1 17 rfl rfl)
theorem dX0_joinsOne_40 : decode cX0_joinsOne 40 = .ok (.ifnonnull 11, 3) := dk_199 0 11 (dk_at dksX0_joinsOne_1 20 rfl rfl)
theorem dX0_joinsOne_43 : decode cX0_joinsOne 43 = .ok (.aload_n 0, 1) := dk_42 (dk_at dksX0_joinsOne_1 23 rfl rfl)
theorem dX0_joinsOne_44 : decode cX0_joinsOne 44 = .ok (.aload_n 2, 1) := dk_44 (dk_at dksX0_joinsOne_2 0 rfl rfl)
theorem dX0_joinsOne_45 : decode cX0_joinsOne 45 = .ok (.invokevirtual 184, 3) := dk_182 0 184 (dk_at dksX0_joinsOne_2 1 rfl rfl)
theorem dX0_joinsOne_48 : decode cX0_joinsOne 48 = .ok (.goto 4, 3) := dk_167 0 4 (dk_at dksX0_joinsOne_2 4 rfl rfl)
theorem dX0_joinsOne_51 : decode cX0_joinsOne 51 = .ok (.aconst_null, 1) := dk_1 (dk_at dksX0_joinsOne_2 7 rfl rfl)
theorem dX0_joinsOne_52 : decode cX0_joinsOne 52 = .ok (.astore_n 3, 1) := dk_78 (dk_at dksX0_joinsOne_2 8 rfl rfl)
theorem dX0_joinsOne_53 : decode cX0_joinsOne 53 = .ok (.aload_n 3, 1) := dk_45 (dk_at dksX0_joinsOne_2 9 rfl rfl)
theorem dX0_joinsOne_54 : decode cX0_joinsOne 54 = .ok (.ifnull 14, 3) := dk_198 0 14 (dk_at dksX0_joinsOne_2 10 rfl rfl)
theorem dX0_joinsOne_57 : decode cX0_joinsOne 57 = .ok (.aload_n 3, 1) := dk_45 (dk_at dksX0_joinsOne_2 13 rfl rfl)
theorem dX0_joinsOne_58 : decode cX0_joinsOne 58 = .ok (.getfield 180, 3) := dk_180 0 180 (dk_at dksX0_joinsOne_2 14 rfl rfl)
theorem dX0_joinsOne_61 : decode cX0_joinsOne 61 = .ok (.aload_n 2, 1) := dk_44 (dk_at dksX0_joinsOne_2 17 rfl rfl)
theorem dX0_joinsOne_62 : decode cX0_joinsOne 62 = .ok (.aload_n 3, 1) := dk_45 (dk_at dksX0_joinsOne_2 18 rfl rfl)
theorem dX0_joinsOne_63 : decode cX0_joinsOne 63 = .ok (.invokevirtual 188, 3) := dk_182 0 188 (dk_at dksX0_joinsOne_2 19 rfl rfl)
theorem dX0_joinsOne_66 : decode cX0_joinsOne 66 = .ok (.iconst 1, 1) := dk_4 (dk_at dksX0_joinsOne_2 22 rfl rfl)
theorem dX0_joinsOne_67 : decode cX0_joinsOne 67 = .ok (.ireturn, 1) := dk_172 (dk_at dksX0_joinsOne_2 23 rfl rfl)
theorem dX0_joinsOne_68 : decode cX0_joinsOne 68 = .ok (.iinc 1 1, 3) := dk_132 1 1 (dk_at dksX0_joinsOne_3 0 rfl rfl)
theorem dX0_joinsOne_71 : decode cX0_joinsOne 71 = .ok (.goto (-69), 3) := dk_167 255 187 (dk_at dksX0_joinsOne_3 3 rfl rfl)
theorem dX0_joinsOne_74 : decode cX0_joinsOne 74 = .ok (.iconst 0, 1) := dk_3 (dk_at dksX0_joinsOne_3 6 rfl rfl)
theorem dX0_joinsOne_75 : decode cX0_joinsOne 75 = .ok (.ireturn, 1) := dk_172 (dk_at dksX0_joinsOne_3 7 rfl rfl)
abbrev cX0_takerOf : ByteArray := prog_1_method_18_code
def yX0_takerOf : MethodName := ⟨RX0, "takerOf", "(LStoryColumns$Block;)LStoryColumns$Block;"⟩
def dkwX0_takerOf_3 : List UInt8 := [44, 180, 0, 137, 162, 0, 8, 25, 4, 167, 0, 4, 44, 77, 132, 3, 1, 167, 255, 173, 44, 176]
abbrev dktX0_takerOf_3 : List UInt8 := dkwX0_takerOf_3 ++ []
def dkwX0_takerOf_2 : List UInt8 := [153, 0, 7, 4, 167, 0, 4, 3, 54, 5, 21, 5, 153, 0, 24, 44, 198, 0, 15, 25, 4, 180, 0, 137]
abbrev dktX0_takerOf_2 : List UInt8 := dkwX0_takerOf_2 ++ dktX0_takerOf_3
def dkwX0_takerOf_1 : List UInt8 := [185, 0, 33, 2, 0, 192, 0, 66, 58, 4, 25, 4, 180, 0, 180, 198, 0, 16, 25, 4, 43, 182, 0, 181]
abbrev dktX0_takerOf_1 : List UInt8 := dkwX0_takerOf_1 ++ dktX0_takerOf_2
def dkwX0_takerOf_0 : List UInt8 := [1, 77, 3, 62, 29, 42, 180, 0, 14, 185, 0, 27, 1, 0, 162, 0, 76, 42, 180, 0, 14, 29]
abbrev dktX0_takerOf_0 : List UInt8 := dkwX0_takerOf_0 ++ dktX0_takerOf_1
theorem dksX0_takerOf_0 : cX0_takerOf.data.toList.drop 0 = dktX0_takerOf_0 := by decide +kernel
theorem dksX0_takerOf_1 : cX0_takerOf.data.toList.drop 22 = dktX0_takerOf_1 := dk_seg dksX0_takerOf_0 22 rfl rfl
theorem dksX0_takerOf_2 : cX0_takerOf.data.toList.drop 46 = dktX0_takerOf_2 := dk_seg dksX0_takerOf_1 24 rfl rfl
theorem dksX0_takerOf_3 : cX0_takerOf.data.toList.drop 70 = dktX0_takerOf_3 := dk_seg dksX0_takerOf_2 24 rfl rfl
theorem dX0_takerOf_0 : decode cX0_takerOf 0 = .ok (.aconst_null, 1) := dk_1 (dk_at dksX0_takerOf_0 0 rfl rfl)
theorem dX0_takerOf_1 : decode cX0_takerOf 1 = .ok (.astore_n 2, 1) := dk_77 (dk_at dksX0_takerOf_0 1 rfl rfl)
theorem dX0_takerOf_2 : decode cX0_takerOf 2 = .ok (.iconst 0, 1) := dk_3 (dk_at dksX0_takerOf_0 2 rfl rfl)
theorem dX0_takerOf_3 : decode cX0_takerOf 3 = .ok (.istore_n 3, 1) := dk_62 (dk_at dksX0_takerOf_0 3 rfl rfl)
theorem dX0_takerOf_4 : decode cX0_takerOf 4 = .ok (.iload_n 3, 1) := dk_29 (dk_at dksX0_takerOf_0 4 rfl rfl)
theorem dX0_takerOf_5 : decode cX0_takerOf 5 = .ok (.aload_n 0, 1) := dk_42 (dk_at dksX0_takerOf_0 5 rfl rfl)
theorem dX0_takerOf_6 : decode cX0_takerOf 6 = .ok (.getfield 14, 3) := dk_180 0 14 (dk_at dksX0_takerOf_0 6 rfl rfl)
theorem dX0_takerOf_9 : decode cX0_takerOf 9 = .ok (.invokeinterface 27 1, 5) := by decide +kernel
theorem dX0_takerOf_14 : decode cX0_takerOf 14 = .ok (.if_icmp .ge 76, 3) := dk_162 0 76 (dk_at dksX0_takerOf_0 14 rfl rfl)
theorem dX0_takerOf_17 : decode cX0_takerOf 17 = .ok (.aload_n 0, 1) := dk_42 (dk_at dksX0_takerOf_0 17 rfl rfl)
theorem dX0_takerOf_18 : decode cX0_takerOf 18 = .ok (.getfield 14, 3) := dk_180 0 14 (dk_at dksX0_takerOf_0 18 rfl rfl)
theorem dX0_takerOf_21 : decode cX0_takerOf 21 = .ok (.iload_n 3, 1) := dk_29 (dk_at dksX0_takerOf_0 21 rfl rfl)
theorem dX0_takerOf_22 : decode cX0_takerOf 22 = .ok (.invokeinterface 33 2, 5) := by decide +kernel
theorem dX0_takerOf_27 : decode cX0_takerOf 27 = .ok (.checkcast 66, 3) := dk_192 0 66 (dk_at dksX0_takerOf_1 5 rfl rfl)
theorem dX0_takerOf_30 : decode cX0_takerOf 30 = .ok (.astore 4, 2) := dk_58 4 (dk_at dksX0_takerOf_1 8 rfl rfl)
theorem dX0_takerOf_32 : decode cX0_takerOf 32 = .ok (.aload 4, 2) := dk_25 4 (dk_at dksX0_takerOf_1 10 rfl rfl)
theorem dX0_takerOf_34 : decode cX0_takerOf 34 = .ok (.getfield 180, 3) := dk_180 0 180 (dk_at dksX0_takerOf_1 12 rfl rfl)
theorem dX0_takerOf_37 : decode cX0_takerOf 37 = .ok (.ifnull 16, 3) := dk_198 0 16 (dk_at dksX0_takerOf_1 15 rfl rfl)
theorem dX0_takerOf_40 : decode cX0_takerOf 40 = .ok (.aload 4, 2) := dk_25 4 (dk_at dksX0_takerOf_1 18 rfl rfl)
theorem dX0_takerOf_42 : decode cX0_takerOf 42 = .ok (.aload_n 1, 1) := dk_43 (dk_at dksX0_takerOf_1 20 rfl rfl)
theorem dX0_takerOf_43 : decode cX0_takerOf 43 = .ok (.invokevirtual 181, 3) := dk_182 0 181 (dk_at dksX0_takerOf_1 21 rfl rfl)
theorem dX0_takerOf_46 : decode cX0_takerOf 46 = .ok (.ifCond .eq 7, 3) := dk_153 0 7 (dk_at dksX0_takerOf_2 0 rfl rfl)
theorem dX0_takerOf_49 : decode cX0_takerOf 49 = .ok (.iconst 1, 1) := dk_4 (dk_at dksX0_takerOf_2 3 rfl rfl)
theorem dX0_takerOf_50 : decode cX0_takerOf 50 = .ok (.goto 4, 3) := dk_167 0 4 (dk_at dksX0_takerOf_2 4 rfl rfl)
theorem dX0_takerOf_53 : decode cX0_takerOf 53 = .ok (.iconst 0, 1) := dk_3 (dk_at dksX0_takerOf_2 7 rfl rfl)
theorem dX0_takerOf_54 : decode cX0_takerOf 54 = .ok (.istore 5, 2) := dk_54 5 (dk_at dksX0_takerOf_2 8 rfl rfl)
theorem dX0_takerOf_56 : decode cX0_takerOf 56 = .ok (.iload 5, 2) := dk_21 5 (dk_at dksX0_takerOf_2 10 rfl rfl)
theorem dX0_takerOf_58 : decode cX0_takerOf 58 = .ok (.ifCond .eq 24, 3) := dk_153 0 24 (dk_at dksX0_takerOf_2 12 rfl rfl)
theorem dX0_takerOf_61 : decode cX0_takerOf 61 = .ok (.aload_n 2, 1) := dk_44 (dk_at dksX0_takerOf_2 15 rfl rfl)
theorem dX0_takerOf_62 : decode cX0_takerOf 62 = .ok (.ifnull 15, 3) := dk_198 0 15 (dk_at dksX0_takerOf_2 16 rfl rfl)
theorem dX0_takerOf_65 : decode cX0_takerOf 65 = .ok (.aload 4, 2) := dk_25 4 (dk_at dksX0_takerOf_2 19 rfl rfl)
theorem dX0_takerOf_67 : decode cX0_takerOf 67 = .ok (.getfield 137, 3) := dk_180 0 137 (dk_at dksX0_takerOf_2 21 rfl rfl)
theorem dX0_takerOf_70 : decode cX0_takerOf 70 = .ok (.aload_n 2, 1) := dk_44 (dk_at dksX0_takerOf_3 0 rfl rfl)
theorem dX0_takerOf_71 : decode cX0_takerOf 71 = .ok (.getfield 137, 3) := dk_180 0 137 (dk_at dksX0_takerOf_3 1 rfl rfl)
theorem dX0_takerOf_74 : decode cX0_takerOf 74 = .ok (.if_icmp .ge 8, 3) := dk_162 0 8 (dk_at dksX0_takerOf_3 4 rfl rfl)
theorem dX0_takerOf_77 : decode cX0_takerOf 77 = .ok (.aload 4, 2) := dk_25 4 (dk_at dksX0_takerOf_3 7 rfl rfl)
theorem dX0_takerOf_79 : decode cX0_takerOf 79 = .ok (.goto 4, 3) := dk_167 0 4 (dk_at dksX0_takerOf_3 9 rfl rfl)
theorem dX0_takerOf_82 : decode cX0_takerOf 82 = .ok (.aload_n 2, 1) := dk_44 (dk_at dksX0_takerOf_3 12 rfl rfl)
theorem dX0_takerOf_83 : decode cX0_takerOf 83 = .ok (.astore_n 2, 1) := dk_77 (dk_at dksX0_takerOf_3 13 rfl rfl)
theorem dX0_takerOf_84 : decode cX0_takerOf 84 = .ok (.iinc 3 1, 3) := dk_132 3 1 (dk_at dksX0_takerOf_3 14 rfl rfl)
theorem dX0_takerOf_87 : decode cX0_takerOf 87 = .ok (.goto (-83), 3) := dk_167 255 173 (dk_at dksX0_takerOf_3 17 rfl rfl)
theorem dX0_takerOf_90 : decode cX0_takerOf 90 = .ok (.aload_n 2, 1) := dk_44 (dk_at dksX0_takerOf_3 20 rfl rfl)
theorem dX0_takerOf_91 : decode cX0_takerOf 91 = .ok (.areturn, 1) := dk_176 (dk_at dksX0_takerOf_3 21 rfl rfl)
abbrev cX0_laysStories : ByteArray := prog_1_method_20_code
def yX0_laysStories : MethodName := ⟨RX0, "laysStories", "()V"⟩
def dkwX0_laysStories_7 : List UInt8 := [181, 0, 165, 42, 180, 0, 21, 45, 185, 0, 89, 2, 0, 87, 167, 255, 186, 177]
abbrev dktX0_laysStories_7 : List UInt8 := dkwX0_laysStories_7 ++ []
def dkwX0_laysStories_6 : List UInt8 := [156, 0, 38, 45, 182, 0, 195, 44, 180, 0, 150, 160, 0, 27, 45, 42, 180, 0, 21, 185, 0, 27, 1, 0]
abbrev dktX0_laysStories_6 : List UInt8 := dkwX0_laysStories_6 ++ dktX0_laysStories_7
def dkwX0_laysStories_5 : List UInt8 := [185, 0, 81, 1, 0, 192, 0, 66, 77, 44, 180, 0, 180, 78, 45, 198, 0, 45, 45, 180, 0, 165]
abbrev dktX0_laysStories_5 : List UInt8 := dkwX0_laysStories_5 ++ dktX0_laysStories_6
def dkwX0_laysStories_4 : List UInt8 := [167, 255, 187, 42, 180, 0, 14, 185, 0, 71, 1, 0, 76, 43, 185, 0, 75, 1, 0, 153, 0, 67, 43]
abbrev dktX0_laysStories_4 : List UInt8 := dkwX0_laysStories_4 ++ dktX0_laysStories_5
def dkwX0_laysStories_3 : List UInt8 := [180, 0, 180, 16, 247, 181, 0, 165, 44, 180, 0, 180, 180, 0, 192, 44, 185, 0, 89, 2, 0, 87]
abbrev dktX0_laysStories_3 : List UInt8 := dkwX0_laysStories_3 ++ dktX0_laysStories_4
def dkwX0_laysStories_2 : List UInt8 := [153, 0, 46, 44, 180, 0, 180, 199, 0, 39, 44, 187, 0, 156, 89, 42, 1, 183, 0, 158, 181, 0, 180, 44]
abbrev dktX0_laysStories_2 : List UInt8 := dkwX0_laysStories_2 ++ dktX0_laysStories_3
def dkwX0_laysStories_1 : List UInt8 := [185, 0, 75, 1, 0, 153, 0, 66, 43, 185, 0, 81, 1, 0, 192, 0, 66, 77, 44, 182, 0, 101]
abbrev dktX0_laysStories_1 : List UInt8 := dkwX0_laysStories_1 ++ dktX0_laysStories_2
def dkwX0_laysStories_0 : List UInt8 := [42, 180, 0, 21, 185, 0, 116, 1, 0, 42, 180, 0, 14, 185, 0, 71, 1, 0, 76, 43]
abbrev dktX0_laysStories_0 : List UInt8 := dkwX0_laysStories_0 ++ dktX0_laysStories_1
theorem dksX0_laysStories_0 : cX0_laysStories.data.toList.drop 0 = dktX0_laysStories_0 := by decide +kernel
theorem dksX0_laysStories_1 : cX0_laysStories.data.toList.drop 20 = dktX0_laysStories_1 := dk_seg dksX0_laysStories_0 20 rfl rfl
theorem dksX0_laysStories_2 : cX0_laysStories.data.toList.drop 42 = dktX0_laysStories_2 := dk_seg dksX0_laysStories_1 22 rfl rfl
theorem dksX0_laysStories_3 : cX0_laysStories.data.toList.drop 66 = dktX0_laysStories_3 := dk_seg dksX0_laysStories_2 24 rfl rfl
theorem dksX0_laysStories_4 : cX0_laysStories.data.toList.drop 88 = dktX0_laysStories_4 := dk_seg dksX0_laysStories_3 22 rfl rfl
theorem dksX0_laysStories_5 : cX0_laysStories.data.toList.drop 111 = dktX0_laysStories_5 := dk_seg dksX0_laysStories_4 23 rfl rfl
theorem dksX0_laysStories_6 : cX0_laysStories.data.toList.drop 133 = dktX0_laysStories_6 := dk_seg dksX0_laysStories_5 22 rfl rfl
theorem dksX0_laysStories_7 : cX0_laysStories.data.toList.drop 157 = dktX0_laysStories_7 := dk_seg dksX0_laysStories_6 24 rfl rfl
theorem dX0_laysStories_0 : decode cX0_laysStories 0 = .ok (.aload_n 0, 1) := dk_42 (dk_at dksX0_laysStories_0 0 rfl rfl)
theorem dX0_laysStories_1 : decode cX0_laysStories 1 = .ok (.getfield 21, 3) := dk_180 0 21 (dk_at dksX0_laysStories_0 1 rfl rfl)
theorem dX0_laysStories_4 : decode cX0_laysStories 4 = .ok (.invokeinterface 116 1, 5) := by decide +kernel
theorem dX0_laysStories_9 : decode cX0_laysStories 9 = .ok (.aload_n 0, 1) := dk_42 (dk_at dksX0_laysStories_0 9 rfl rfl)
theorem dX0_laysStories_10 : decode cX0_laysStories 10 = .ok (.getfield 14, 3) := dk_180 0 14 (dk_at dksX0_laysStories_0 10 rfl rfl)
theorem dX0_laysStories_13 : decode cX0_laysStories 13 = .ok (.invokeinterface 71 1, 5) := by decide +kernel
theorem dX0_laysStories_18 : decode cX0_laysStories 18 = .ok (.astore_n 1, 1) := dk_76 (dk_at dksX0_laysStories_0 18 rfl rfl)
theorem dX0_laysStories_19 : decode cX0_laysStories 19 = .ok (.aload_n 1, 1) := dk_43 (dk_at dksX0_laysStories_0 19 rfl rfl)
theorem dX0_laysStories_20 : decode cX0_laysStories 20 = .ok (.invokeinterface 75 1, 5) := by decide +kernel
theorem dX0_laysStories_25 : decode cX0_laysStories 25 = .ok (.ifCond .eq 66, 3) := dk_153 0 66 (dk_at dksX0_laysStories_1 5 rfl rfl)
theorem dX0_laysStories_28 : decode cX0_laysStories 28 = .ok (.aload_n 1, 1) := dk_43 (dk_at dksX0_laysStories_1 8 rfl rfl)
theorem dX0_laysStories_29 : decode cX0_laysStories 29 = .ok (.invokeinterface 81 1, 5) := by decide +kernel
theorem dX0_laysStories_34 : decode cX0_laysStories 34 = .ok (.checkcast 66, 3) := dk_192 0 66 (dk_at dksX0_laysStories_1 14 rfl rfl)
theorem dX0_laysStories_37 : decode cX0_laysStories 37 = .ok (.astore_n 2, 1) := dk_77 (dk_at dksX0_laysStories_1 17 rfl rfl)
theorem dX0_laysStories_38 : decode cX0_laysStories 38 = .ok (.aload_n 2, 1) := dk_44 (dk_at dksX0_laysStories_1 18 rfl rfl)
theorem dX0_laysStories_39 : decode cX0_laysStories 39 = .ok (.invokevirtual 101, 3) := dk_182 0 101 (dk_at dksX0_laysStories_1 19 rfl rfl)
theorem dX0_laysStories_42 : decode cX0_laysStories 42 = .ok (.ifCond .eq 46, 3) := dk_153 0 46 (dk_at dksX0_laysStories_2 0 rfl rfl)
theorem dX0_laysStories_45 : decode cX0_laysStories 45 = .ok (.aload_n 2, 1) := dk_44 (dk_at dksX0_laysStories_2 3 rfl rfl)
theorem dX0_laysStories_46 : decode cX0_laysStories 46 = .ok (.getfield 180, 3) := dk_180 0 180 (dk_at dksX0_laysStories_2 4 rfl rfl)
theorem dX0_laysStories_49 : decode cX0_laysStories 49 = .ok (.ifnonnull 39, 3) := dk_199 0 39 (dk_at dksX0_laysStories_2 7 rfl rfl)
theorem dX0_laysStories_52 : decode cX0_laysStories 52 = .ok (.aload_n 2, 1) := dk_44 (dk_at dksX0_laysStories_2 10 rfl rfl)
theorem dX0_laysStories_53 : decode cX0_laysStories 53 = .ok (.new 156, 3) := dk_187 0 156 (dk_at dksX0_laysStories_2 11 rfl rfl)
theorem dX0_laysStories_56 : decode cX0_laysStories 56 = .ok (.dup, 1) := dk_89 (dk_at dksX0_laysStories_2 14 rfl rfl)
theorem dX0_laysStories_57 : decode cX0_laysStories 57 = .ok (.aload_n 0, 1) := dk_42 (dk_at dksX0_laysStories_2 15 rfl rfl)
theorem dX0_laysStories_58 : decode cX0_laysStories 58 = .ok (.aconst_null, 1) := dk_1 (dk_at dksX0_laysStories_2 16 rfl rfl)
theorem dX0_laysStories_59 : decode cX0_laysStories 59 = .ok (.invokespecial 158, 3) := dk_183 0 158 (dk_at dksX0_laysStories_2 17 rfl rfl)
theorem dX0_laysStories_62 : decode cX0_laysStories 62 = .ok (.putfield 180, 3) := dk_181 0 180 (dk_at dksX0_laysStories_2 20 rfl rfl)
theorem dX0_laysStories_65 : decode cX0_laysStories 65 = .ok (.aload_n 2, 1) := dk_44 (dk_at dksX0_laysStories_2 23 rfl rfl)
theorem dX0_laysStories_66 : decode cX0_laysStories 66 = .ok (.getfield 180, 3) := dk_180 0 180 (dk_at dksX0_laysStories_3 0 rfl rfl)
theorem dX0_laysStories_69 : decode cX0_laysStories 69 = .ok (.bipush (-9), 2) := dk_16 247 (dk_at dksX0_laysStories_3 3 rfl rfl)
theorem dX0_laysStories_71 : decode cX0_laysStories 71 = .ok (.putfield 165, 3) := dk_181 0 165 (dk_at dksX0_laysStories_3 5 rfl rfl)
theorem dX0_laysStories_74 : decode cX0_laysStories 74 = .ok (.aload_n 2, 1) := dk_44 (dk_at dksX0_laysStories_3 8 rfl rfl)
theorem dX0_laysStories_75 : decode cX0_laysStories 75 = .ok (.getfield 180, 3) := dk_180 0 180 (dk_at dksX0_laysStories_3 9 rfl rfl)
theorem dX0_laysStories_78 : decode cX0_laysStories 78 = .ok (.getfield 192, 3) := dk_180 0 192 (dk_at dksX0_laysStories_3 12 rfl rfl)
theorem dX0_laysStories_81 : decode cX0_laysStories 81 = .ok (.aload_n 2, 1) := dk_44 (dk_at dksX0_laysStories_3 15 rfl rfl)
theorem dX0_laysStories_82 : decode cX0_laysStories 82 = .ok (.invokeinterface 89 2, 5) := by decide +kernel
theorem dX0_laysStories_87 : decode cX0_laysStories 87 = .ok (.pop, 1) := dk_87 (dk_at dksX0_laysStories_3 21 rfl rfl)
theorem dX0_laysStories_88 : decode cX0_laysStories 88 = .ok (.goto (-69), 3) := dk_167 255 187 (dk_at dksX0_laysStories_4 0 rfl rfl)
theorem dX0_laysStories_91 : decode cX0_laysStories 91 = .ok (.aload_n 0, 1) := dk_42 (dk_at dksX0_laysStories_4 3 rfl rfl)
theorem dX0_laysStories_92 : decode cX0_laysStories 92 = .ok (.getfield 14, 3) := dk_180 0 14 (dk_at dksX0_laysStories_4 4 rfl rfl)
theorem dX0_laysStories_95 : decode cX0_laysStories 95 = .ok (.invokeinterface 71 1, 5) := by decide +kernel
theorem dX0_laysStories_100 : decode cX0_laysStories 100 = .ok (.astore_n 1, 1) := dk_76 (dk_at dksX0_laysStories_4 12 rfl rfl)
theorem dX0_laysStories_101 : decode cX0_laysStories 101 = .ok (.aload_n 1, 1) := dk_43 (dk_at dksX0_laysStories_4 13 rfl rfl)
theorem dX0_laysStories_102 : decode cX0_laysStories 102 = .ok (.invokeinterface 75 1, 5) := by decide +kernel
theorem dX0_laysStories_107 : decode cX0_laysStories 107 = .ok (.ifCond .eq 67, 3) := dk_153 0 67 (dk_at dksX0_laysStories_4 19 rfl rfl)
theorem dX0_laysStories_110 : decode cX0_laysStories 110 = .ok (.aload_n 1, 1) := dk_43 (dk_at dksX0_laysStories_4 22 rfl rfl)
theorem dX0_laysStories_111 : decode cX0_laysStories 111 = .ok (.invokeinterface 81 1, 5) := by decide +kernel
theorem dX0_laysStories_116 : decode cX0_laysStories 116 = .ok (.checkcast 66, 3) := dk_192 0 66 (dk_at dksX0_laysStories_5 5 rfl rfl)
theorem dX0_laysStories_119 : decode cX0_laysStories 119 = .ok (.astore_n 2, 1) := dk_77 (dk_at dksX0_laysStories_5 8 rfl rfl)
theorem dX0_laysStories_120 : decode cX0_laysStories 120 = .ok (.aload_n 2, 1) := dk_44 (dk_at dksX0_laysStories_5 9 rfl rfl)
theorem dX0_laysStories_121 : decode cX0_laysStories 121 = .ok (.getfield 180, 3) := dk_180 0 180 (dk_at dksX0_laysStories_5 10 rfl rfl)
theorem dX0_laysStories_124 : decode cX0_laysStories 124 = .ok (.astore_n 3, 1) := dk_78 (dk_at dksX0_laysStories_5 13 rfl rfl)
theorem dX0_laysStories_125 : decode cX0_laysStories 125 = .ok (.aload_n 3, 1) := dk_45 (dk_at dksX0_laysStories_5 14 rfl rfl)
theorem dX0_laysStories_126 : decode cX0_laysStories 126 = .ok (.ifnull 45, 3) := dk_198 0 45 (dk_at dksX0_laysStories_5 15 rfl rfl)
theorem dX0_laysStories_129 : decode cX0_laysStories 129 = .ok (.aload_n 3, 1) := dk_45 (dk_at dksX0_laysStories_5 18 rfl rfl)
theorem dX0_laysStories_130 : decode cX0_laysStories 130 = .ok (.getfield 165, 3) := dk_180 0 165 (dk_at dksX0_laysStories_5 19 rfl rfl)
theorem dX0_laysStories_133 : decode cX0_laysStories 133 = .ok (.ifCond .ge 38, 3) := dk_156 0 38 (dk_at dksX0_laysStories_6 0 rfl rfl)
theorem dX0_laysStories_136 : decode cX0_laysStories 136 = .ok (.aload_n 3, 1) := dk_45 (dk_at dksX0_laysStories_6 3 rfl rfl)
theorem dX0_laysStories_137 : decode cX0_laysStories 137 = .ok (.invokevirtual 195, 3) := dk_182 0 195 (dk_at dksX0_laysStories_6 4 rfl rfl)
theorem dX0_laysStories_140 : decode cX0_laysStories 140 = .ok (.aload_n 2, 1) := dk_44 (dk_at dksX0_laysStories_6 7 rfl rfl)
theorem dX0_laysStories_141 : decode cX0_laysStories 141 = .ok (.getfield 150, 3) := dk_180 0 150 (dk_at dksX0_laysStories_6 8 rfl rfl)
theorem dX0_laysStories_144 : decode cX0_laysStories 144 = .ok (.if_icmp .ne 27, 3) := dk_160 0 27 (dk_at dksX0_laysStories_6 11 rfl rfl)
theorem dX0_laysStories_147 : decode cX0_laysStories 147 = .ok (.aload_n 3, 1) := dk_45 (dk_at dksX0_laysStories_6 14 rfl rfl)
theorem dX0_laysStories_148 : decode cX0_laysStories 148 = .ok (.aload_n 0, 1) := dk_42 (dk_at dksX0_laysStories_6 15 rfl rfl)
theorem dX0_laysStories_149 : decode cX0_laysStories 149 = .ok (.getfield 21, 3) := dk_180 0 21 (dk_at dksX0_laysStories_6 16 rfl rfl)
theorem dX0_laysStories_152 : decode cX0_laysStories 152 = .ok (.invokeinterface 27 1, 5) := by decide +kernel
theorem dX0_laysStories_157 : decode cX0_laysStories 157 = .ok (.putfield 165, 3) := dk_181 0 165 (dk_at dksX0_laysStories_7 0 rfl rfl)
theorem dX0_laysStories_160 : decode cX0_laysStories 160 = .ok (.aload_n 0, 1) := dk_42 (dk_at dksX0_laysStories_7 3 rfl rfl)
theorem dX0_laysStories_161 : decode cX0_laysStories 161 = .ok (.getfield 21, 3) := dk_180 0 21 (dk_at dksX0_laysStories_7 4 rfl rfl)
theorem dX0_laysStories_164 : decode cX0_laysStories 164 = .ok (.aload_n 3, 1) := dk_45 (dk_at dksX0_laysStories_7 7 rfl rfl)
theorem dX0_laysStories_165 : decode cX0_laysStories 165 = .ok (.invokeinterface 89 2, 5) := by decide +kernel
theorem dX0_laysStories_170 : decode cX0_laysStories 170 = .ok (.pop, 1) := dk_87 (dk_at dksX0_laysStories_7 13 rfl rfl)
theorem dX0_laysStories_171 : decode cX0_laysStories 171 = .ok (.goto (-70), 3) := dk_167 255 186 (dk_at dksX0_laysStories_7 14 rfl rfl)
theorem dX0_laysStories_174 : decode cX0_laysStories 174 = .ok (.return_, 1) := dk_177 (dk_at dksX0_laysStories_7 17 rfl rfl)
abbrev cX0_links : ByteArray := prog_1_method_21_code
def yX0_links : MethodName := ⟨RX0, "links", "()V"⟩
def dkwX0_links_2 : List UInt8 := [180, 0, 201, 199, 0, 13, 44, 45, 181, 0, 204, 45, 44, 181, 0, 201, 167, 255, 206, 177]
abbrev dktX0_links_2 : List UInt8 := dkwX0_links_2 ++ []
def dkwX0_links_1 : List UInt8 := [185, 0, 81, 1, 0, 192, 0, 156, 77, 44, 182, 0, 197, 78, 45, 198, 0, 25, 45, 44, 165, 0, 20, 45]
abbrev dktX0_links_1 : List UInt8 := dkwX0_links_1 ++ dktX0_links_2
def dkwX0_links_0 : List UInt8 := [42, 180, 0, 21, 185, 0, 71, 1, 0, 76, 43, 185, 0, 75, 1, 0, 153, 0, 47, 43]
abbrev dktX0_links_0 : List UInt8 := dkwX0_links_0 ++ dktX0_links_1
theorem dksX0_links_0 : cX0_links.data.toList.drop 0 = dktX0_links_0 := by decide +kernel
theorem dksX0_links_1 : cX0_links.data.toList.drop 20 = dktX0_links_1 := dk_seg dksX0_links_0 20 rfl rfl
theorem dksX0_links_2 : cX0_links.data.toList.drop 44 = dktX0_links_2 := dk_seg dksX0_links_1 24 rfl rfl
theorem dX0_links_0 : decode cX0_links 0 = .ok (.aload_n 0, 1) := dk_42 (dk_at dksX0_links_0 0 rfl rfl)
theorem dX0_links_1 : decode cX0_links 1 = .ok (.getfield 21, 3) := dk_180 0 21 (dk_at dksX0_links_0 1 rfl rfl)
theorem dX0_links_4 : decode cX0_links 4 = .ok (.invokeinterface 71 1, 5) := by decide +kernel
theorem dX0_links_9 : decode cX0_links 9 = .ok (.astore_n 1, 1) := dk_76 (dk_at dksX0_links_0 9 rfl rfl)
theorem dX0_links_10 : decode cX0_links 10 = .ok (.aload_n 1, 1) := dk_43 (dk_at dksX0_links_0 10 rfl rfl)
theorem dX0_links_11 : decode cX0_links 11 = .ok (.invokeinterface 75 1, 5) := by decide +kernel
theorem dX0_links_16 : decode cX0_links 16 = .ok (.ifCond .eq 47, 3) := dk_153 0 47 (dk_at dksX0_links_0 16 rfl rfl)
theorem dX0_links_19 : decode cX0_links 19 = .ok (.aload_n 1, 1) := dk_43 (dk_at dksX0_links_0 19 rfl rfl)
theorem dX0_links_20 : decode cX0_links 20 = .ok (.invokeinterface 81 1, 5) := by decide +kernel
theorem dX0_links_25 : decode cX0_links 25 = .ok (.checkcast 156, 3) := dk_192 0 156 (dk_at dksX0_links_1 5 rfl rfl)
theorem dX0_links_28 : decode cX0_links 28 = .ok (.astore_n 2, 1) := dk_77 (dk_at dksX0_links_1 8 rfl rfl)
theorem dX0_links_29 : decode cX0_links 29 = .ok (.aload_n 2, 1) := dk_44 (dk_at dksX0_links_1 9 rfl rfl)
theorem dX0_links_30 : decode cX0_links 30 = .ok (.invokevirtual 197, 3) := dk_182 0 197 (dk_at dksX0_links_1 10 rfl rfl)
theorem dX0_links_33 : decode cX0_links 33 = .ok (.astore_n 3, 1) := dk_78 (dk_at dksX0_links_1 13 rfl rfl)
theorem dX0_links_34 : decode cX0_links 34 = .ok (.aload_n 3, 1) := dk_45 (dk_at dksX0_links_1 14 rfl rfl)
theorem dX0_links_35 : decode cX0_links 35 = .ok (.ifnull 25, 3) := dk_198 0 25 (dk_at dksX0_links_1 15 rfl rfl)
theorem dX0_links_38 : decode cX0_links 38 = .ok (.aload_n 3, 1) := dk_45 (dk_at dksX0_links_1 18 rfl rfl)
theorem dX0_links_39 : decode cX0_links 39 = .ok (.aload_n 2, 1) := dk_44 (dk_at dksX0_links_1 19 rfl rfl)
theorem dX0_links_40 : decode cX0_links 40 = .ok (.if_acmp .eq 20, 3) := dk_165 0 20 (dk_at dksX0_links_1 20 rfl rfl)
theorem dX0_links_43 : decode cX0_links 43 = .ok (.aload_n 3, 1) := dk_45 (dk_at dksX0_links_1 23 rfl rfl)
theorem dX0_links_44 : decode cX0_links 44 = .ok (.getfield 201, 3) := dk_180 0 201 (dk_at dksX0_links_2 0 rfl rfl)
theorem dX0_links_47 : decode cX0_links 47 = .ok (.ifnonnull 13, 3) := dk_199 0 13 (dk_at dksX0_links_2 3 rfl rfl)
theorem dX0_links_50 : decode cX0_links 50 = .ok (.aload_n 2, 1) := dk_44 (dk_at dksX0_links_2 6 rfl rfl)
theorem dX0_links_51 : decode cX0_links 51 = .ok (.aload_n 3, 1) := dk_45 (dk_at dksX0_links_2 7 rfl rfl)
theorem dX0_links_52 : decode cX0_links 52 = .ok (.putfield 204, 3) := dk_181 0 204 (dk_at dksX0_links_2 8 rfl rfl)
theorem dX0_links_55 : decode cX0_links 55 = .ok (.aload_n 3, 1) := dk_45 (dk_at dksX0_links_2 11 rfl rfl)
theorem dX0_links_56 : decode cX0_links 56 = .ok (.aload_n 2, 1) := dk_44 (dk_at dksX0_links_2 12 rfl rfl)
theorem dX0_links_57 : decode cX0_links 57 = .ok (.putfield 201, 3) := dk_181 0 201 (dk_at dksX0_links_2 13 rfl rfl)
theorem dX0_links_60 : decode cX0_links 60 = .ok (.goto (-50), 3) := dk_167 255 206 (dk_at dksX0_links_2 16 rfl rfl)
theorem dX0_links_63 : decode cX0_links 63 = .ok (.return_, 1) := dk_177 (dk_at dksX0_links_2 19 rfl rfl)
abbrev cX0_laysArticles : ByteArray := prog_1_method_23_code
def yX0_laysArticles : MethodName := ⟨RX0, "laysArticles", "()V"⟩
def dkwX0_laysArticles_6 : List UInt8 := [160, 0, 8, 42, 44, 182, 0, 209, 167, 255, 223, 177]
abbrev dktX0_laysArticles_6 : List UInt8 := dkwX0_laysArticles_6 ++ []
def dkwX0_laysArticles_5 : List UInt8 := [185, 0, 75, 1, 0, 153, 0, 30, 43, 185, 0, 81, 1, 0, 192, 0, 156, 77, 44, 180, 0, 206, 16, 247]
abbrev dktX0_laysArticles_5 : List UInt8 := dkwX0_laysArticles_5 ++ dktX0_laysArticles_6
def dkwX0_laysArticles_4 : List UInt8 := [42, 42, 180, 0, 24, 185, 0, 27, 1, 0, 181, 0, 213, 42, 180, 0, 21, 185, 0, 71, 1, 0, 76, 43]
abbrev dktX0_laysArticles_4 : List UInt8 := dkwX0_laysArticles_4 ++ dktX0_laysArticles_5
def dkwX0_laysArticles_3 : List UInt8 := [185, 0, 81, 1, 0, 192, 0, 156, 77, 44, 180, 0, 201, 199, 0, 8, 42, 44, 182, 0, 209, 167, 255, 225]
abbrev dktX0_laysArticles_3 : List UInt8 := dkwX0_laysArticles_3 ++ dktX0_laysArticles_4
def dkwX0_laysArticles_2 : List UInt8 := [167, 255, 231, 42, 180, 0, 21, 185, 0, 71, 1, 0, 76, 43, 185, 0, 75, 1, 0, 153, 0, 28, 43]
abbrev dktX0_laysArticles_2 : List UInt8 := dkwX0_laysArticles_2 ++ dktX0_laysArticles_3
def dkwX0_laysArticles_1 : List UInt8 := [185, 0, 75, 1, 0, 153, 0, 22, 43, 185, 0, 81, 1, 0, 192, 0, 156, 77, 44, 16, 247, 181, 0, 206]
abbrev dktX0_laysArticles_1 : List UInt8 := dkwX0_laysArticles_1 ++ dktX0_laysArticles_2
def dkwX0_laysArticles_0 : List UInt8 := [42, 180, 0, 24, 185, 0, 116, 1, 0, 42, 180, 0, 21, 185, 0, 71, 1, 0, 76, 43]
abbrev dktX0_laysArticles_0 : List UInt8 := dkwX0_laysArticles_0 ++ dktX0_laysArticles_1
theorem dksX0_laysArticles_0 : cX0_laysArticles.data.toList.drop 0 = dktX0_laysArticles_0 := by decide +kernel
theorem dksX0_laysArticles_1 : cX0_laysArticles.data.toList.drop 20 = dktX0_laysArticles_1 := dk_seg dksX0_laysArticles_0 20 rfl rfl
theorem dksX0_laysArticles_2 : cX0_laysArticles.data.toList.drop 44 = dktX0_laysArticles_2 := dk_seg dksX0_laysArticles_1 24 rfl rfl
theorem dksX0_laysArticles_3 : cX0_laysArticles.data.toList.drop 67 = dktX0_laysArticles_3 := dk_seg dksX0_laysArticles_2 23 rfl rfl
theorem dksX0_laysArticles_4 : cX0_laysArticles.data.toList.drop 91 = dktX0_laysArticles_4 := dk_seg dksX0_laysArticles_3 24 rfl rfl
theorem dksX0_laysArticles_5 : cX0_laysArticles.data.toList.drop 115 = dktX0_laysArticles_5 := dk_seg dksX0_laysArticles_4 24 rfl rfl
theorem dksX0_laysArticles_6 : cX0_laysArticles.data.toList.drop 139 = dktX0_laysArticles_6 := dk_seg dksX0_laysArticles_5 24 rfl rfl
theorem dX0_laysArticles_0 : decode cX0_laysArticles 0 = .ok (.aload_n 0, 1) := dk_42 (dk_at dksX0_laysArticles_0 0 rfl rfl)
theorem dX0_laysArticles_1 : decode cX0_laysArticles 1 = .ok (.getfield 24, 3) := dk_180 0 24 (dk_at dksX0_laysArticles_0 1 rfl rfl)
theorem dX0_laysArticles_4 : decode cX0_laysArticles 4 = .ok (.invokeinterface 116 1, 5) := by decide +kernel
theorem dX0_laysArticles_9 : decode cX0_laysArticles 9 = .ok (.aload_n 0, 1) := dk_42 (dk_at dksX0_laysArticles_0 9 rfl rfl)
theorem dX0_laysArticles_10 : decode cX0_laysArticles 10 = .ok (.getfield 21, 3) := dk_180 0 21 (dk_at dksX0_laysArticles_0 10 rfl rfl)
theorem dX0_laysArticles_13 : decode cX0_laysArticles 13 = .ok (.invokeinterface 71 1, 5) := by decide +kernel
theorem dX0_laysArticles_18 : decode cX0_laysArticles 18 = .ok (.astore_n 1, 1) := dk_76 (dk_at dksX0_laysArticles_0 18 rfl rfl)
theorem dX0_laysArticles_19 : decode cX0_laysArticles 19 = .ok (.aload_n 1, 1) := dk_43 (dk_at dksX0_laysArticles_0 19 rfl rfl)
theorem dX0_laysArticles_20 : decode cX0_laysArticles 20 = .ok (.invokeinterface 75 1, 5) := by decide +kernel
theorem dX0_laysArticles_25 : decode cX0_laysArticles 25 = .ok (.ifCond .eq 22, 3) := dk_153 0 22 (dk_at dksX0_laysArticles_1 5 rfl rfl)
theorem dX0_laysArticles_28 : decode cX0_laysArticles 28 = .ok (.aload_n 1, 1) := dk_43 (dk_at dksX0_laysArticles_1 8 rfl rfl)
theorem dX0_laysArticles_29 : decode cX0_laysArticles 29 = .ok (.invokeinterface 81 1, 5) := by decide +kernel
theorem dX0_laysArticles_34 : decode cX0_laysArticles 34 = .ok (.checkcast 156, 3) := dk_192 0 156 (dk_at dksX0_laysArticles_1 14 rfl rfl)
theorem dX0_laysArticles_37 : decode cX0_laysArticles 37 = .ok (.astore_n 2, 1) := dk_77 (dk_at dksX0_laysArticles_1 17 rfl rfl)
theorem dX0_laysArticles_38 : decode cX0_laysArticles 38 = .ok (.aload_n 2, 1) := dk_44 (dk_at dksX0_laysArticles_1 18 rfl rfl)
theorem dX0_laysArticles_39 : decode cX0_laysArticles 39 = .ok (.bipush (-9), 2) := dk_16 247 (dk_at dksX0_laysArticles_1 19 rfl rfl)
theorem dX0_laysArticles_41 : decode cX0_laysArticles 41 = .ok (.putfield 206, 3) := dk_181 0 206 (dk_at dksX0_laysArticles_1 21 rfl rfl)
theorem dX0_laysArticles_44 : decode cX0_laysArticles 44 = .ok (.goto (-25), 3) := dk_167 255 231 (dk_at dksX0_laysArticles_2 0 rfl rfl)
theorem dX0_laysArticles_47 : decode cX0_laysArticles 47 = .ok (.aload_n 0, 1) := dk_42 (dk_at dksX0_laysArticles_2 3 rfl rfl)
theorem dX0_laysArticles_48 : decode cX0_laysArticles 48 = .ok (.getfield 21, 3) := dk_180 0 21 (dk_at dksX0_laysArticles_2 4 rfl rfl)
theorem dX0_laysArticles_51 : decode cX0_laysArticles 51 = .ok (.invokeinterface 71 1, 5) := by decide +kernel
theorem dX0_laysArticles_56 : decode cX0_laysArticles 56 = .ok (.astore_n 1, 1) := dk_76 (dk_at dksX0_laysArticles_2 12 rfl rfl)
theorem dX0_laysArticles_57 : decode cX0_laysArticles 57 = .ok (.aload_n 1, 1) := dk_43 (dk_at dksX0_laysArticles_2 13 rfl rfl)
theorem dX0_laysArticles_58 : decode cX0_laysArticles 58 = .ok (.invokeinterface 75 1, 5) := by decide +kernel
theorem dX0_laysArticles_63 : decode cX0_laysArticles 63 = .ok (.ifCond .eq 28, 3) := dk_153 0 28 (dk_at dksX0_laysArticles_2 19 rfl rfl)
theorem dX0_laysArticles_66 : decode cX0_laysArticles 66 = .ok (.aload_n 1, 1) := dk_43 (dk_at dksX0_laysArticles_2 22 rfl rfl)
theorem dX0_laysArticles_67 : decode cX0_laysArticles 67 = .ok (.invokeinterface 81 1, 5) := by decide +kernel
theorem dX0_laysArticles_72 : decode cX0_laysArticles 72 = .ok (.checkcast 156, 3) := dk_192 0 156 (dk_at dksX0_laysArticles_3 5 rfl rfl)
theorem dX0_laysArticles_75 : decode cX0_laysArticles 75 = .ok (.astore_n 2, 1) := dk_77 (dk_at dksX0_laysArticles_3 8 rfl rfl)
theorem dX0_laysArticles_76 : decode cX0_laysArticles 76 = .ok (.aload_n 2, 1) := dk_44 (dk_at dksX0_laysArticles_3 9 rfl rfl)
theorem dX0_laysArticles_77 : decode cX0_laysArticles 77 = .ok (.getfield 201, 3) := dk_180 0 201 (dk_at dksX0_laysArticles_3 10 rfl rfl)
theorem dX0_laysArticles_80 : decode cX0_laysArticles 80 = .ok (.ifnonnull 8, 3) := dk_199 0 8 (dk_at dksX0_laysArticles_3 13 rfl rfl)
theorem dX0_laysArticles_83 : decode cX0_laysArticles 83 = .ok (.aload_n 0, 1) := dk_42 (dk_at dksX0_laysArticles_3 16 rfl rfl)
theorem dX0_laysArticles_84 : decode cX0_laysArticles 84 = .ok (.aload_n 2, 1) := dk_44 (dk_at dksX0_laysArticles_3 17 rfl rfl)
theorem dX0_laysArticles_85 : decode cX0_laysArticles 85 = .ok (.invokevirtual 209, 3) := dk_182 0 209 (dk_at dksX0_laysArticles_3 18 rfl rfl)
theorem dX0_laysArticles_88 : decode cX0_laysArticles 88 = .ok (.goto (-31), 3) := dk_167 255 225 (dk_at dksX0_laysArticles_3 21 rfl rfl)
theorem dX0_laysArticles_91 : decode cX0_laysArticles 91 = .ok (.aload_n 0, 1) := dk_42 (dk_at dksX0_laysArticles_4 0 rfl rfl)
theorem dX0_laysArticles_92 : decode cX0_laysArticles 92 = .ok (.aload_n 0, 1) := dk_42 (dk_at dksX0_laysArticles_4 1 rfl rfl)
theorem dX0_laysArticles_93 : decode cX0_laysArticles 93 = .ok (.getfield 24, 3) := dk_180 0 24 (dk_at dksX0_laysArticles_4 2 rfl rfl)
theorem dX0_laysArticles_96 : decode cX0_laysArticles 96 = .ok (.invokeinterface 27 1, 5) := by decide +kernel
theorem dX0_laysArticles_101 : decode cX0_laysArticles 101 = .ok (.putfield 213, 3) := dk_181 0 213 (dk_at dksX0_laysArticles_4 10 rfl rfl)
theorem dX0_laysArticles_104 : decode cX0_laysArticles 104 = .ok (.aload_n 0, 1) := dk_42 (dk_at dksX0_laysArticles_4 13 rfl rfl)
theorem dX0_laysArticles_105 : decode cX0_laysArticles 105 = .ok (.getfield 21, 3) := dk_180 0 21 (dk_at dksX0_laysArticles_4 14 rfl rfl)
theorem dX0_laysArticles_108 : decode cX0_laysArticles 108 = .ok (.invokeinterface 71 1, 5) := by decide +kernel
theorem dX0_laysArticles_113 : decode cX0_laysArticles 113 = .ok (.astore_n 1, 1) := dk_76 (dk_at dksX0_laysArticles_4 22 rfl rfl)
theorem dX0_laysArticles_114 : decode cX0_laysArticles 114 = .ok (.aload_n 1, 1) := dk_43 (dk_at dksX0_laysArticles_4 23 rfl rfl)
theorem dX0_laysArticles_115 : decode cX0_laysArticles 115 = .ok (.invokeinterface 75 1, 5) := by decide +kernel
theorem dX0_laysArticles_120 : decode cX0_laysArticles 120 = .ok (.ifCond .eq 30, 3) := dk_153 0 30 (dk_at dksX0_laysArticles_5 5 rfl rfl)
theorem dX0_laysArticles_123 : decode cX0_laysArticles 123 = .ok (.aload_n 1, 1) := dk_43 (dk_at dksX0_laysArticles_5 8 rfl rfl)
theorem dX0_laysArticles_124 : decode cX0_laysArticles 124 = .ok (.invokeinterface 81 1, 5) := by decide +kernel
theorem dX0_laysArticles_129 : decode cX0_laysArticles 129 = .ok (.checkcast 156, 3) := dk_192 0 156 (dk_at dksX0_laysArticles_5 14 rfl rfl)
theorem dX0_laysArticles_132 : decode cX0_laysArticles 132 = .ok (.astore_n 2, 1) := dk_77 (dk_at dksX0_laysArticles_5 17 rfl rfl)
theorem dX0_laysArticles_133 : decode cX0_laysArticles 133 = .ok (.aload_n 2, 1) := dk_44 (dk_at dksX0_laysArticles_5 18 rfl rfl)
theorem dX0_laysArticles_134 : decode cX0_laysArticles 134 = .ok (.getfield 206, 3) := dk_180 0 206 (dk_at dksX0_laysArticles_5 19 rfl rfl)
theorem dX0_laysArticles_137 : decode cX0_laysArticles 137 = .ok (.bipush (-9), 2) := dk_16 247 (dk_at dksX0_laysArticles_5 22 rfl rfl)
theorem dX0_laysArticles_139 : decode cX0_laysArticles 139 = .ok (.if_icmp .ne 8, 3) := dk_160 0 8 (dk_at dksX0_laysArticles_6 0 rfl rfl)
theorem dX0_laysArticles_142 : decode cX0_laysArticles 142 = .ok (.aload_n 0, 1) := dk_42 (dk_at dksX0_laysArticles_6 3 rfl rfl)
theorem dX0_laysArticles_143 : decode cX0_laysArticles 143 = .ok (.aload_n 2, 1) := dk_44 (dk_at dksX0_laysArticles_6 4 rfl rfl)
theorem dX0_laysArticles_144 : decode cX0_laysArticles 144 = .ok (.invokevirtual 209, 3) := dk_182 0 209 (dk_at dksX0_laysArticles_6 5 rfl rfl)
theorem dX0_laysArticles_147 : decode cX0_laysArticles 147 = .ok (.goto (-33), 3) := dk_167 255 223 (dk_at dksX0_laysArticles_6 8 rfl rfl)
theorem dX0_laysArticles_150 : decode cX0_laysArticles 150 = .ok (.return_, 1) := dk_177 (dk_at dksX0_laysArticles_6 11 rfl rfl)
abbrev cX0_follows : ByteArray := prog_1_method_22_code
def yX0_follows : MethodName := ⟨RX0, "follows", "(LStoryColumns$Story;)V"⟩
def dkwX0_follows_1 : List UInt8 := [29, 181, 0, 206, 44, 180, 0, 204, 77, 44, 198, 0, 8, 44, 43, 166, 255, 240, 177]
abbrev dktX0_follows_1 : List UInt8 := dkwX0_follows_1 ++ []
def dkwX0_follows_0 : List UInt8 := [43, 77, 42, 180, 0, 24, 185, 0, 27, 1, 0, 62, 42, 180, 0, 24, 43, 185, 0, 89, 2, 0, 87, 44]
abbrev dktX0_follows_0 : List UInt8 := dkwX0_follows_0 ++ dktX0_follows_1
theorem dksX0_follows_0 : cX0_follows.data.toList.drop 0 = dktX0_follows_0 := by decide +kernel
theorem dksX0_follows_1 : cX0_follows.data.toList.drop 24 = dktX0_follows_1 := dk_seg dksX0_follows_0 24 rfl rfl
theorem dX0_follows_0 : decode cX0_follows 0 = .ok (.aload_n 1, 1) := dk_43 (dk_at dksX0_follows_0 0 rfl rfl)
theorem dX0_follows_1 : decode cX0_follows 1 = .ok (.astore_n 2, 1) := dk_77 (dk_at dksX0_follows_0 1 rfl rfl)
theorem dX0_follows_2 : decode cX0_follows 2 = .ok (.aload_n 0, 1) := dk_42 (dk_at dksX0_follows_0 2 rfl rfl)
theorem dX0_follows_3 : decode cX0_follows 3 = .ok (.getfield 24, 3) := dk_180 0 24 (dk_at dksX0_follows_0 3 rfl rfl)
theorem dX0_follows_6 : decode cX0_follows 6 = .ok (.invokeinterface 27 1, 5) := by decide +kernel
theorem dX0_follows_11 : decode cX0_follows 11 = .ok (.istore_n 3, 1) := dk_62 (dk_at dksX0_follows_0 11 rfl rfl)
theorem dX0_follows_12 : decode cX0_follows 12 = .ok (.aload_n 0, 1) := dk_42 (dk_at dksX0_follows_0 12 rfl rfl)
theorem dX0_follows_13 : decode cX0_follows 13 = .ok (.getfield 24, 3) := dk_180 0 24 (dk_at dksX0_follows_0 13 rfl rfl)
theorem dX0_follows_16 : decode cX0_follows 16 = .ok (.aload_n 1, 1) := dk_43 (dk_at dksX0_follows_0 16 rfl rfl)
theorem dX0_follows_17 : decode cX0_follows 17 = .ok (.invokeinterface 89 2, 5) := by decide +kernel
theorem dX0_follows_22 : decode cX0_follows 22 = .ok (.pop, 1) := dk_87 (dk_at dksX0_follows_0 22 rfl rfl)
theorem dX0_follows_23 : decode cX0_follows 23 = .ok (.aload_n 2, 1) := dk_44 (dk_at dksX0_follows_0 23 rfl rfl)
theorem dX0_follows_24 : decode cX0_follows 24 = .ok (.iload_n 3, 1) := dk_29 (dk_at dksX0_follows_1 0 rfl rfl)
theorem dX0_follows_25 : decode cX0_follows 25 = .ok (.putfield 206, 3) := dk_181 0 206 (dk_at dksX0_follows_1 1 rfl rfl)
theorem dX0_follows_28 : decode cX0_follows 28 = .ok (.aload_n 2, 1) := dk_44 (dk_at dksX0_follows_1 4 rfl rfl)
theorem dX0_follows_29 : decode cX0_follows 29 = .ok (.getfield 204, 3) := dk_180 0 204 (dk_at dksX0_follows_1 5 rfl rfl)
theorem dX0_follows_32 : decode cX0_follows 32 = .ok (.astore_n 2, 1) := dk_77 (dk_at dksX0_follows_1 8 rfl rfl)
theorem dX0_follows_33 : decode cX0_follows 33 = .ok (.aload_n 2, 1) := dk_44 (dk_at dksX0_follows_1 9 rfl rfl)
theorem dX0_follows_34 : decode cX0_follows 34 = .ok (.ifnull 8, 3) := dk_198 0 8 (dk_at dksX0_follows_1 10 rfl rfl)
theorem dX0_follows_37 : decode cX0_follows 37 = .ok (.aload_n 2, 1) := dk_44 (dk_at dksX0_follows_1 13 rfl rfl)
theorem dX0_follows_38 : decode cX0_follows 38 = .ok (.aload_n 1, 1) := dk_43 (dk_at dksX0_follows_1 14 rfl rfl)
theorem dX0_follows_39 : decode cX0_follows 39 = .ok (.if_acmp .ne (-16), 3) := dk_166 255 240 (dk_at dksX0_follows_1 15 rfl rfl)
theorem dX0_follows_42 : decode cX0_follows 42 = .ok (.return_, 1) := dk_177 (dk_at dksX0_follows_1 18 rfl rfl)
abbrev cX0_story : ByteArray := prog_1_method_27_code
def yX0_story : MethodName := ⟨RX0, "story", "(I)I"⟩
def dkwX0_story_3 : List UInt8 := [182, 0, 195, 172]
abbrev dktX0_story_3 : List UInt8 := dkwX0_story_3 ++ []
def dkwX0_story_2 : List UInt8 := [180, 0, 172, 180, 0, 161, 167, 0, 7, 44, 180, 0, 180, 78, 45, 199, 0, 8, 16, 247, 167, 0, 7, 45]
abbrev dktX0_story_2 : List UInt8 := dkwX0_story_2 ++ dktX0_story_3
def dkwX0_story_1 : List UInt8 := [192, 0, 66, 77, 44, 180, 0, 134, 5, 160, 0, 24, 44, 180, 0, 172, 199, 0, 7, 1, 167, 0, 17, 44]
abbrev dktX0_story_1 : List UInt8 := dkwX0_story_1 ++ dktX0_story_2
def dkwX0_story_0 : List UInt8 := [42, 27, 182, 0, 97, 154, 0, 5, 2, 172, 42, 182, 0, 233, 42, 180, 0, 14, 27, 185, 0, 33, 2, 0]
abbrev dktX0_story_0 : List UInt8 := dkwX0_story_0 ++ dktX0_story_1
theorem dksX0_story_0 : cX0_story.data.toList.drop 0 = dktX0_story_0 := by decide +kernel
theorem dksX0_story_1 : cX0_story.data.toList.drop 24 = dktX0_story_1 := dk_seg dksX0_story_0 24 rfl rfl
theorem dksX0_story_2 : cX0_story.data.toList.drop 48 = dktX0_story_2 := dk_seg dksX0_story_1 24 rfl rfl
theorem dksX0_story_3 : cX0_story.data.toList.drop 72 = dktX0_story_3 := dk_seg dksX0_story_2 24 rfl rfl
theorem dX0_story_0 : decode cX0_story 0 = .ok (.aload_n 0, 1) := dk_42 (dk_at dksX0_story_0 0 rfl rfl)
theorem dX0_story_1 : decode cX0_story 1 = .ok (.iload_n 1, 1) := dk_27 (dk_at dksX0_story_0 1 rfl rfl)
theorem dX0_story_2 : decode cX0_story 2 = .ok (.invokevirtual 97, 3) := dk_182 0 97 (dk_at dksX0_story_0 2 rfl rfl)
theorem dX0_story_5 : decode cX0_story 5 = .ok (.ifCond .ne 5, 3) := dk_154 0 5 (dk_at dksX0_story_0 5 rfl rfl)
theorem dX0_story_8 : decode cX0_story 8 = .ok (.iconst (-1), 1) := dk_2 (dk_at dksX0_story_0 8 rfl rfl)
theorem dX0_story_9 : decode cX0_story 9 = .ok (.ireturn, 1) := dk_172 (dk_at dksX0_story_0 9 rfl rfl)
theorem dX0_story_10 : decode cX0_story 10 = .ok (.aload_n 0, 1) := dk_42 (dk_at dksX0_story_0 10 rfl rfl)
theorem dX0_story_11 : decode cX0_story 11 = .ok (.invokevirtual 233, 3) := dk_182 0 233 (dk_at dksX0_story_0 11 rfl rfl)
theorem dX0_story_14 : decode cX0_story 14 = .ok (.aload_n 0, 1) := dk_42 (dk_at dksX0_story_0 14 rfl rfl)
theorem dX0_story_15 : decode cX0_story 15 = .ok (.getfield 14, 3) := dk_180 0 14 (dk_at dksX0_story_0 15 rfl rfl)
theorem dX0_story_18 : decode cX0_story 18 = .ok (.iload_n 1, 1) := dk_27 (dk_at dksX0_story_0 18 rfl rfl)
theorem dX0_story_19 : decode cX0_story 19 = .ok (.invokeinterface 33 2, 5) := by decide +kernel
theorem dX0_story_24 : decode cX0_story 24 = .ok (.checkcast 66, 3) := dk_192 0 66 (dk_at dksX0_story_1 0 rfl rfl)
theorem dX0_story_27 : decode cX0_story 27 = .ok (.astore_n 2, 1) := dk_77 (dk_at dksX0_story_1 3 rfl rfl)
theorem dX0_story_28 : decode cX0_story 28 = .ok (.aload_n 2, 1) := dk_44 (dk_at dksX0_story_1 4 rfl rfl)
theorem dX0_story_29 : decode cX0_story 29 = .ok (.getfield 134, 3) := dk_180 0 134 (dk_at dksX0_story_1 5 rfl rfl)
theorem dX0_story_32 : decode cX0_story 32 = .ok (.iconst 2, 1) := dk_5 (dk_at dksX0_story_1 8 rfl rfl)
theorem dX0_story_33 : decode cX0_story 33 = .ok (.if_icmp .ne 24, 3) := dk_160 0 24 (dk_at dksX0_story_1 9 rfl rfl)
theorem dX0_story_36 : decode cX0_story 36 = .ok (.aload_n 2, 1) := dk_44 (dk_at dksX0_story_1 12 rfl rfl)
theorem dX0_story_37 : decode cX0_story 37 = .ok (.getfield 172, 3) := dk_180 0 172 (dk_at dksX0_story_1 13 rfl rfl)
theorem dX0_story_40 : decode cX0_story 40 = .ok (.ifnonnull 7, 3) := dk_199 0 7 (dk_at dksX0_story_1 16 rfl rfl)
theorem dX0_story_43 : decode cX0_story 43 = .ok (.aconst_null, 1) := dk_1 (dk_at dksX0_story_1 19 rfl rfl)
theorem dX0_story_44 : decode cX0_story 44 = .ok (.goto 17, 3) := dk_167 0 17 (dk_at dksX0_story_1 20 rfl rfl)
theorem dX0_story_47 : decode cX0_story 47 = .ok (.aload_n 2, 1) := dk_44 (dk_at dksX0_story_1 23 rfl rfl)
theorem dX0_story_48 : decode cX0_story 48 = .ok (.getfield 172, 3) := dk_180 0 172 (dk_at dksX0_story_2 0 rfl rfl)
theorem dX0_story_51 : decode cX0_story 51 = .ok (.getfield 161, 3) := dk_180 0 161 (dk_at dksX0_story_2 3 rfl rfl)
theorem dX0_story_54 : decode cX0_story 54 = .ok (.goto 7, 3) := dk_167 0 7 (dk_at dksX0_story_2 6 rfl rfl)
theorem dX0_story_57 : decode cX0_story 57 = .ok (.aload_n 2, 1) := dk_44 (dk_at dksX0_story_2 9 rfl rfl)
theorem dX0_story_58 : decode cX0_story 58 = .ok (.getfield 180, 3) := dk_180 0 180 (dk_at dksX0_story_2 10 rfl rfl)
theorem dX0_story_61 : decode cX0_story 61 = .ok (.astore_n 3, 1) := dk_78 (dk_at dksX0_story_2 13 rfl rfl)
theorem dX0_story_62 : decode cX0_story 62 = .ok (.aload_n 3, 1) := dk_45 (dk_at dksX0_story_2 14 rfl rfl)
theorem dX0_story_63 : decode cX0_story 63 = .ok (.ifnonnull 8, 3) := dk_199 0 8 (dk_at dksX0_story_2 15 rfl rfl)
theorem dX0_story_66 : decode cX0_story 66 = .ok (.bipush (-9), 2) := dk_16 247 (dk_at dksX0_story_2 18 rfl rfl)
theorem dX0_story_68 : decode cX0_story 68 = .ok (.goto 7, 3) := dk_167 0 7 (dk_at dksX0_story_2 20 rfl rfl)
theorem dX0_story_71 : decode cX0_story 71 = .ok (.aload_n 3, 1) := dk_45 (dk_at dksX0_story_2 23 rfl rfl)
theorem dX0_story_72 : decode cX0_story 72 = .ok (.invokevirtual 195, 3) := dk_182 0 195 (dk_at dksX0_story_3 0 rfl rfl)
theorem dX0_story_75 : decode cX0_story 75 = .ok (.ireturn, 1) := dk_172 (dk_at dksX0_story_3 3 rfl rfl)
abbrev cX0_takenBy : ByteArray := prog_1_method_28_code
def yX0_takenBy : MethodName := ⟨RX0, "takenBy", "(I)I"⟩
def dkwX0_takenBy_2 : List UInt8 := [167, 0, 10, 44, 180, 0, 237, 180, 0, 150, 172]
abbrev dktX0_takenBy_2 : List UInt8 := dkwX0_takenBy_2 ++ []
def dkwX0_takenBy_1 : List UInt8 := [192, 0, 66, 77, 44, 182, 0, 101, 154, 0, 6, 16, 253, 172, 44, 180, 0, 237, 199, 0, 8, 16, 247]
abbrev dktX0_takenBy_1 : List UInt8 := dkwX0_takenBy_1 ++ dktX0_takenBy_2
def dkwX0_takenBy_0 : List UInt8 := [42, 27, 182, 0, 97, 154, 0, 5, 2, 172, 42, 182, 0, 233, 42, 180, 0, 14, 27, 185, 0, 33, 2, 0]
abbrev dktX0_takenBy_0 : List UInt8 := dkwX0_takenBy_0 ++ dktX0_takenBy_1
theorem dksX0_takenBy_0 : cX0_takenBy.data.toList.drop 0 = dktX0_takenBy_0 := by decide +kernel
theorem dksX0_takenBy_1 : cX0_takenBy.data.toList.drop 24 = dktX0_takenBy_1 := dk_seg dksX0_takenBy_0 24 rfl rfl
theorem dksX0_takenBy_2 : cX0_takenBy.data.toList.drop 47 = dktX0_takenBy_2 := dk_seg dksX0_takenBy_1 23 rfl rfl
theorem dX0_takenBy_0 : decode cX0_takenBy 0 = .ok (.aload_n 0, 1) := dk_42 (dk_at dksX0_takenBy_0 0 rfl rfl)
theorem dX0_takenBy_1 : decode cX0_takenBy 1 = .ok (.iload_n 1, 1) := dk_27 (dk_at dksX0_takenBy_0 1 rfl rfl)
theorem dX0_takenBy_2 : decode cX0_takenBy 2 = .ok (.invokevirtual 97, 3) := dk_182 0 97 (dk_at dksX0_takenBy_0 2 rfl rfl)
theorem dX0_takenBy_5 : decode cX0_takenBy 5 = .ok (.ifCond .ne 5, 3) := dk_154 0 5 (dk_at dksX0_takenBy_0 5 rfl rfl)
theorem dX0_takenBy_8 : decode cX0_takenBy 8 = .ok (.iconst (-1), 1) := dk_2 (dk_at dksX0_takenBy_0 8 rfl rfl)
theorem dX0_takenBy_9 : decode cX0_takenBy 9 = .ok (.ireturn, 1) := dk_172 (dk_at dksX0_takenBy_0 9 rfl rfl)
theorem dX0_takenBy_10 : decode cX0_takenBy 10 = .ok (.aload_n 0, 1) := dk_42 (dk_at dksX0_takenBy_0 10 rfl rfl)
theorem dX0_takenBy_11 : decode cX0_takenBy 11 = .ok (.invokevirtual 233, 3) := dk_182 0 233 (dk_at dksX0_takenBy_0 11 rfl rfl)
theorem dX0_takenBy_14 : decode cX0_takenBy 14 = .ok (.aload_n 0, 1) := dk_42 (dk_at dksX0_takenBy_0 14 rfl rfl)
theorem dX0_takenBy_15 : decode cX0_takenBy 15 = .ok (.getfield 14, 3) := dk_180 0 14 (dk_at dksX0_takenBy_0 15 rfl rfl)
theorem dX0_takenBy_18 : decode cX0_takenBy 18 = .ok (.iload_n 1, 1) := dk_27 (dk_at dksX0_takenBy_0 18 rfl rfl)
theorem dX0_takenBy_19 : decode cX0_takenBy 19 = .ok (.invokeinterface 33 2, 5) := by decide +kernel
theorem dX0_takenBy_24 : decode cX0_takenBy 24 = .ok (.checkcast 66, 3) := dk_192 0 66 (dk_at dksX0_takenBy_1 0 rfl rfl)
theorem dX0_takenBy_27 : decode cX0_takenBy 27 = .ok (.astore_n 2, 1) := dk_77 (dk_at dksX0_takenBy_1 3 rfl rfl)
theorem dX0_takenBy_28 : decode cX0_takenBy 28 = .ok (.aload_n 2, 1) := dk_44 (dk_at dksX0_takenBy_1 4 rfl rfl)
theorem dX0_takenBy_29 : decode cX0_takenBy 29 = .ok (.invokevirtual 101, 3) := dk_182 0 101 (dk_at dksX0_takenBy_1 5 rfl rfl)
theorem dX0_takenBy_32 : decode cX0_takenBy 32 = .ok (.ifCond .ne 6, 3) := dk_154 0 6 (dk_at dksX0_takenBy_1 8 rfl rfl)
theorem dX0_takenBy_35 : decode cX0_takenBy 35 = .ok (.bipush (-3), 2) := dk_16 253 (dk_at dksX0_takenBy_1 11 rfl rfl)
theorem dX0_takenBy_37 : decode cX0_takenBy 37 = .ok (.ireturn, 1) := dk_172 (dk_at dksX0_takenBy_1 13 rfl rfl)
theorem dX0_takenBy_38 : decode cX0_takenBy 38 = .ok (.aload_n 2, 1) := dk_44 (dk_at dksX0_takenBy_1 14 rfl rfl)
theorem dX0_takenBy_39 : decode cX0_takenBy 39 = .ok (.getfield 237, 3) := dk_180 0 237 (dk_at dksX0_takenBy_1 15 rfl rfl)
theorem dX0_takenBy_42 : decode cX0_takenBy 42 = .ok (.ifnonnull 8, 3) := dk_199 0 8 (dk_at dksX0_takenBy_1 18 rfl rfl)
theorem dX0_takenBy_45 : decode cX0_takenBy 45 = .ok (.bipush (-9), 2) := dk_16 247 (dk_at dksX0_takenBy_1 21 rfl rfl)
theorem dX0_takenBy_47 : decode cX0_takenBy 47 = .ok (.goto 10, 3) := dk_167 0 10 (dk_at dksX0_takenBy_2 0 rfl rfl)
theorem dX0_takenBy_50 : decode cX0_takenBy 50 = .ok (.aload_n 2, 1) := dk_44 (dk_at dksX0_takenBy_2 3 rfl rfl)
theorem dX0_takenBy_51 : decode cX0_takenBy 51 = .ok (.getfield 237, 3) := dk_180 0 237 (dk_at dksX0_takenBy_2 4 rfl rfl)
theorem dX0_takenBy_54 : decode cX0_takenBy 54 = .ok (.getfield 150, 3) := dk_180 0 150 (dk_at dksX0_takenBy_2 7 rfl rfl)
theorem dX0_takenBy_57 : decode cX0_takenBy 57 = .ok (.ireturn, 1) := dk_172 (dk_at dksX0_takenBy_2 10 rfl rfl)
abbrev cX0_ofStory : ByteArray := prog_1_method_31_code
def yX0_ofStory : MethodName := ⟨RX0, "ofStory", "(II)I"⟩
def dkwX0_ofStory_6 : List UInt8 := [153, 0, 7, 4, 167, 0, 4, 3, 172, 16, 254, 172]
abbrev dktX0_ofStory_6 : List UInt8 := dkwX0_ofStory_6 ++ []
def dkwX0_ofStory_5 : List UInt8 := [180, 0, 204, 184, 0, 253, 172, 45, 180, 0, 201, 184, 0, 253, 172, 45, 180, 0, 206, 172, 45, 182, 1, 1]
abbrev dktX0_ofStory_5 : List UInt8 := dkwX0_ofStory_5 ++ dktX0_ofStory_6
def dkwX0_ofStory_4 : List UInt8 := [185, 0, 27, 1, 0, 172, 45, 182, 0, 245, 172, 45, 182, 0, 247, 172, 45, 180, 0, 250, 172, 45]
abbrev dktX0_ofStory_4 : List UInt8 := dkwX0_ofStory_4 ++ dktX0_ofStory_5
def dkwX0_ofStory_3 : List UInt8 := [45, 180, 0, 244, 199, 0, 8, 16, 247, 167, 0, 10, 45, 180, 0, 244, 180, 0, 236, 172, 45, 180, 0, 192]
abbrev dktX0_ofStory_3 : List UInt8 := dkwX0_ofStory_3 ++ dktX0_ofStory_4
def dkwX0_ofStory_2 : List UInt8 := [170, 0, 0, 0, 0, 0, 130, 0, 0, 0, 0, 0, 0, 0, 8, 0, 0, 0, 51, 0, 0, 0, 71, 0, 0, 0, 81, 0, 0, 0, 86, 0, 0, 0, 91, 0, 0, 0, 96, 0, 0, 0, 104, 0, 0, 0, 112, 0, 0, 0, 117]
abbrev dktX0_ofStory_2 : List UInt8 := dkwX0_ofStory_2 ++ dktX0_ofStory_3
def dkwX0_ofStory_1 : List UInt8 := [28]
abbrev dktX0_ofStory_1 : List UInt8 := dkwX0_ofStory_1 ++ dktX0_ofStory_2
def dkwX0_ofStory_0 : List UInt8 := [42, 27, 182, 0, 241, 154, 0, 5, 2, 172, 42, 180, 0, 21, 27, 185, 0, 33, 2, 0, 192, 0, 156, 78]
abbrev dktX0_ofStory_0 : List UInt8 := dkwX0_ofStory_0 ++ dktX0_ofStory_1
theorem dksX0_ofStory_0 : cX0_ofStory.data.toList.drop 0 = dktX0_ofStory_0 := by decide +kernel
theorem dksX0_ofStory_1 : cX0_ofStory.data.toList.drop 24 = dktX0_ofStory_1 := dk_seg dksX0_ofStory_0 24 rfl rfl
theorem dksX0_ofStory_2 : cX0_ofStory.data.toList.drop 25 = dktX0_ofStory_2 := dk_seg dksX0_ofStory_1 1 rfl rfl
theorem dksX0_ofStory_3 : cX0_ofStory.data.toList.drop 76 = dktX0_ofStory_3 := dk_seg dksX0_ofStory_2 51 rfl rfl
theorem dksX0_ofStory_4 : cX0_ofStory.data.toList.drop 100 = dktX0_ofStory_4 := dk_seg dksX0_ofStory_3 24 rfl rfl
theorem dksX0_ofStory_5 : cX0_ofStory.data.toList.drop 122 = dktX0_ofStory_5 := dk_seg dksX0_ofStory_4 22 rfl rfl
theorem dksX0_ofStory_6 : cX0_ofStory.data.toList.drop 146 = dktX0_ofStory_6 := dk_seg dksX0_ofStory_5 24 rfl rfl
theorem dX0_ofStory_0 : decode cX0_ofStory 0 = .ok (.aload_n 0, 1) := dk_42 (dk_at dksX0_ofStory_0 0 rfl rfl)
theorem dX0_ofStory_1 : decode cX0_ofStory 1 = .ok (.iload_n 1, 1) := dk_27 (dk_at dksX0_ofStory_0 1 rfl rfl)
theorem dX0_ofStory_2 : decode cX0_ofStory 2 = .ok (.invokevirtual 241, 3) := dk_182 0 241 (dk_at dksX0_ofStory_0 2 rfl rfl)
theorem dX0_ofStory_5 : decode cX0_ofStory 5 = .ok (.ifCond .ne 5, 3) := dk_154 0 5 (dk_at dksX0_ofStory_0 5 rfl rfl)
theorem dX0_ofStory_8 : decode cX0_ofStory 8 = .ok (.iconst (-1), 1) := dk_2 (dk_at dksX0_ofStory_0 8 rfl rfl)
theorem dX0_ofStory_9 : decode cX0_ofStory 9 = .ok (.ireturn, 1) := dk_172 (dk_at dksX0_ofStory_0 9 rfl rfl)
theorem dX0_ofStory_10 : decode cX0_ofStory 10 = .ok (.aload_n 0, 1) := dk_42 (dk_at dksX0_ofStory_0 10 rfl rfl)
theorem dX0_ofStory_11 : decode cX0_ofStory 11 = .ok (.getfield 21, 3) := dk_180 0 21 (dk_at dksX0_ofStory_0 11 rfl rfl)
theorem dX0_ofStory_14 : decode cX0_ofStory 14 = .ok (.iload_n 1, 1) := dk_27 (dk_at dksX0_ofStory_0 14 rfl rfl)
theorem dX0_ofStory_15 : decode cX0_ofStory 15 = .ok (.invokeinterface 33 2, 5) := by decide +kernel
theorem dX0_ofStory_20 : decode cX0_ofStory 20 = .ok (.checkcast 156, 3) := dk_192 0 156 (dk_at dksX0_ofStory_0 20 rfl rfl)
theorem dX0_ofStory_23 : decode cX0_ofStory 23 = .ok (.astore_n 3, 1) := dk_78 (dk_at dksX0_ofStory_0 23 rfl rfl)
theorem dX0_ofStory_24 : decode cX0_ofStory 24 = .ok (.iload_n 2, 1) := dk_28 (dk_at dksX0_ofStory_1 0 rfl rfl)
theorem dX0_ofStory_25 : decode cX0_ofStory 25 = .ok (.tableswitch 130 0 8 #[51, 71, 81, 86, 91, 96, 104, 112, 117], 51) := by decide +kernel
theorem dX0_ofStory_76 : decode cX0_ofStory 76 = .ok (.aload_n 3, 1) := dk_45 (dk_at dksX0_ofStory_3 0 rfl rfl)
theorem dX0_ofStory_77 : decode cX0_ofStory 77 = .ok (.getfield 244, 3) := dk_180 0 244 (dk_at dksX0_ofStory_3 1 rfl rfl)
theorem dX0_ofStory_80 : decode cX0_ofStory 80 = .ok (.ifnonnull 8, 3) := dk_199 0 8 (dk_at dksX0_ofStory_3 4 rfl rfl)
theorem dX0_ofStory_83 : decode cX0_ofStory 83 = .ok (.bipush (-9), 2) := dk_16 247 (dk_at dksX0_ofStory_3 7 rfl rfl)
theorem dX0_ofStory_85 : decode cX0_ofStory 85 = .ok (.goto 10, 3) := dk_167 0 10 (dk_at dksX0_ofStory_3 9 rfl rfl)
theorem dX0_ofStory_88 : decode cX0_ofStory 88 = .ok (.aload_n 3, 1) := dk_45 (dk_at dksX0_ofStory_3 12 rfl rfl)
theorem dX0_ofStory_89 : decode cX0_ofStory 89 = .ok (.getfield 244, 3) := dk_180 0 244 (dk_at dksX0_ofStory_3 13 rfl rfl)
theorem dX0_ofStory_92 : decode cX0_ofStory 92 = .ok (.getfield 236, 3) := dk_180 0 236 (dk_at dksX0_ofStory_3 16 rfl rfl)
theorem dX0_ofStory_95 : decode cX0_ofStory 95 = .ok (.ireturn, 1) := dk_172 (dk_at dksX0_ofStory_3 19 rfl rfl)
theorem dX0_ofStory_96 : decode cX0_ofStory 96 = .ok (.aload_n 3, 1) := dk_45 (dk_at dksX0_ofStory_3 20 rfl rfl)
theorem dX0_ofStory_97 : decode cX0_ofStory 97 = .ok (.getfield 192, 3) := dk_180 0 192 (dk_at dksX0_ofStory_3 21 rfl rfl)
theorem dX0_ofStory_100 : decode cX0_ofStory 100 = .ok (.invokeinterface 27 1, 5) := by decide +kernel
theorem dX0_ofStory_105 : decode cX0_ofStory 105 = .ok (.ireturn, 1) := dk_172 (dk_at dksX0_ofStory_4 5 rfl rfl)
theorem dX0_ofStory_106 : decode cX0_ofStory 106 = .ok (.aload_n 3, 1) := dk_45 (dk_at dksX0_ofStory_4 6 rfl rfl)
theorem dX0_ofStory_107 : decode cX0_ofStory 107 = .ok (.invokevirtual 245, 3) := dk_182 0 245 (dk_at dksX0_ofStory_4 7 rfl rfl)
theorem dX0_ofStory_110 : decode cX0_ofStory 110 = .ok (.ireturn, 1) := dk_172 (dk_at dksX0_ofStory_4 10 rfl rfl)
theorem dX0_ofStory_111 : decode cX0_ofStory 111 = .ok (.aload_n 3, 1) := dk_45 (dk_at dksX0_ofStory_4 11 rfl rfl)
theorem dX0_ofStory_112 : decode cX0_ofStory 112 = .ok (.invokevirtual 247, 3) := dk_182 0 247 (dk_at dksX0_ofStory_4 12 rfl rfl)
theorem dX0_ofStory_115 : decode cX0_ofStory 115 = .ok (.ireturn, 1) := dk_172 (dk_at dksX0_ofStory_4 15 rfl rfl)
theorem dX0_ofStory_116 : decode cX0_ofStory 116 = .ok (.aload_n 3, 1) := dk_45 (dk_at dksX0_ofStory_4 16 rfl rfl)
theorem dX0_ofStory_117 : decode cX0_ofStory 117 = .ok (.getfield 250, 3) := dk_180 0 250 (dk_at dksX0_ofStory_4 17 rfl rfl)
theorem dX0_ofStory_120 : decode cX0_ofStory 120 = .ok (.ireturn, 1) := dk_172 (dk_at dksX0_ofStory_4 20 rfl rfl)
theorem dX0_ofStory_121 : decode cX0_ofStory 121 = .ok (.aload_n 3, 1) := dk_45 (dk_at dksX0_ofStory_4 21 rfl rfl)
theorem dX0_ofStory_122 : decode cX0_ofStory 122 = .ok (.getfield 204, 3) := dk_180 0 204 (dk_at dksX0_ofStory_5 0 rfl rfl)
theorem dX0_ofStory_125 : decode cX0_ofStory 125 = .ok (.invokestatic 253, 3) := dk_184 0 253 (dk_at dksX0_ofStory_5 3 rfl rfl)
theorem dX0_ofStory_128 : decode cX0_ofStory 128 = .ok (.ireturn, 1) := dk_172 (dk_at dksX0_ofStory_5 6 rfl rfl)
theorem dX0_ofStory_129 : decode cX0_ofStory 129 = .ok (.aload_n 3, 1) := dk_45 (dk_at dksX0_ofStory_5 7 rfl rfl)
theorem dX0_ofStory_130 : decode cX0_ofStory 130 = .ok (.getfield 201, 3) := dk_180 0 201 (dk_at dksX0_ofStory_5 8 rfl rfl)
theorem dX0_ofStory_133 : decode cX0_ofStory 133 = .ok (.invokestatic 253, 3) := dk_184 0 253 (dk_at dksX0_ofStory_5 11 rfl rfl)
theorem dX0_ofStory_136 : decode cX0_ofStory 136 = .ok (.ireturn, 1) := dk_172 (dk_at dksX0_ofStory_5 14 rfl rfl)
theorem dX0_ofStory_137 : decode cX0_ofStory 137 = .ok (.aload_n 3, 1) := dk_45 (dk_at dksX0_ofStory_5 15 rfl rfl)
theorem dX0_ofStory_138 : decode cX0_ofStory 138 = .ok (.getfield 206, 3) := dk_180 0 206 (dk_at dksX0_ofStory_5 16 rfl rfl)
theorem dX0_ofStory_141 : decode cX0_ofStory 141 = .ok (.ireturn, 1) := dk_172 (dk_at dksX0_ofStory_5 19 rfl rfl)
theorem dX0_ofStory_142 : decode cX0_ofStory 142 = .ok (.aload_n 3, 1) := dk_45 (dk_at dksX0_ofStory_5 20 rfl rfl)
theorem dX0_ofStory_143 : decode cX0_ofStory 143 = .ok (.invokevirtual 257, 3) := dk_182 1 1 (dk_at dksX0_ofStory_5 21 rfl rfl)
theorem dX0_ofStory_146 : decode cX0_ofStory 146 = .ok (.ifCond .eq 7, 3) := dk_153 0 7 (dk_at dksX0_ofStory_6 0 rfl rfl)
theorem dX0_ofStory_149 : decode cX0_ofStory 149 = .ok (.iconst 1, 1) := dk_4 (dk_at dksX0_ofStory_6 3 rfl rfl)
theorem dX0_ofStory_150 : decode cX0_ofStory 150 = .ok (.goto 4, 3) := dk_167 0 4 (dk_at dksX0_ofStory_6 4 rfl rfl)
theorem dX0_ofStory_153 : decode cX0_ofStory 153 = .ok (.iconst 0, 1) := dk_3 (dk_at dksX0_ofStory_6 7 rfl rfl)
theorem dX0_ofStory_154 : decode cX0_ofStory 154 = .ok (.ireturn, 1) := dk_172 (dk_at dksX0_ofStory_6 8 rfl rfl)
theorem dX0_ofStory_155 : decode cX0_ofStory 155 = .ok (.bipush (-2), 2) := dk_16 254 (dk_at dksX0_ofStory_6 9 rfl rfl)
theorem dX0_ofStory_157 : decode cX0_ofStory 157 = .ok (.ireturn, 1) := dk_172 (dk_at dksX0_ofStory_6 11 rfl rfl)
abbrev cX0_isStory : ByteArray := prog_1_method_29_code
def yX0_isStory : MethodName := ⟨RX0, "isStory", "(I)Z"⟩
def dkwX0_isStory_0 : List UInt8 := [42, 182, 0, 233, 27, 3, 42, 180, 0, 21, 185, 0, 27, 1, 0, 4, 100, 184, 0, 50, 172]
abbrev dktX0_isStory_0 : List UInt8 := dkwX0_isStory_0 ++ []
theorem dksX0_isStory_0 : cX0_isStory.data.toList.drop 0 = dktX0_isStory_0 := by decide +kernel
theorem dX0_isStory_0 : decode cX0_isStory 0 = .ok (.aload_n 0, 1) := dk_42 (dk_at dksX0_isStory_0 0 rfl rfl)
theorem dX0_isStory_1 : decode cX0_isStory 1 = .ok (.invokevirtual 233, 3) := dk_182 0 233 (dk_at dksX0_isStory_0 1 rfl rfl)
theorem dX0_isStory_4 : decode cX0_isStory 4 = .ok (.iload_n 1, 1) := dk_27 (dk_at dksX0_isStory_0 4 rfl rfl)
theorem dX0_isStory_5 : decode cX0_isStory 5 = .ok (.iconst 0, 1) := dk_3 (dk_at dksX0_isStory_0 5 rfl rfl)
theorem dX0_isStory_6 : decode cX0_isStory 6 = .ok (.aload_n 0, 1) := dk_42 (dk_at dksX0_isStory_0 6 rfl rfl)
theorem dX0_isStory_7 : decode cX0_isStory 7 = .ok (.getfield 21, 3) := dk_180 0 21 (dk_at dksX0_isStory_0 7 rfl rfl)
theorem dX0_isStory_10 : decode cX0_isStory 10 = .ok (.invokeinterface 27 1, 5) := by decide +kernel
theorem dX0_isStory_15 : decode cX0_isStory 15 = .ok (.iconst 1, 1) := dk_4 (dk_at dksX0_isStory_0 15 rfl rfl)
theorem dX0_isStory_16 : decode cX0_isStory 16 = .ok (.isub, 1) := dk_100 (dk_at dksX0_isStory_0 16 rfl rfl)
theorem dX0_isStory_17 : decode cX0_isStory 17 = .ok (.invokestatic 50, 3) := dk_184 0 50 (dk_at dksX0_isStory_0 17 rfl rfl)
theorem dX0_isStory_20 : decode cX0_isStory 20 = .ok (.ireturn, 1) := dk_172 (dk_at dksX0_isStory_0 20 rfl rfl)
abbrev cX0_numberOf : ByteArray := prog_1_method_30_code
def yX0_numberOf : MethodName := ⟨RX0, "numberOf", "(LStoryColumns$Story;)I"⟩
def dkwX0_numberOf_0 : List UInt8 := [42, 199, 0, 8, 16, 247, 167, 0, 7, 42, 182, 0, 195, 172]
abbrev dktX0_numberOf_0 : List UInt8 := dkwX0_numberOf_0 ++ []
theorem dksX0_numberOf_0 : cX0_numberOf.data.toList.drop 0 = dktX0_numberOf_0 := by decide +kernel
theorem dX0_numberOf_0 : decode cX0_numberOf 0 = .ok (.aload_n 0, 1) := dk_42 (dk_at dksX0_numberOf_0 0 rfl rfl)
theorem dX0_numberOf_1 : decode cX0_numberOf 1 = .ok (.ifnonnull 8, 3) := dk_199 0 8 (dk_at dksX0_numberOf_0 1 rfl rfl)
theorem dX0_numberOf_4 : decode cX0_numberOf 4 = .ok (.bipush (-9), 2) := dk_16 247 (dk_at dksX0_numberOf_0 4 rfl rfl)
theorem dX0_numberOf_6 : decode cX0_numberOf 6 = .ok (.goto 7, 3) := dk_167 0 7 (dk_at dksX0_numberOf_0 6 rfl rfl)
theorem dX0_numberOf_9 : decode cX0_numberOf 9 = .ok (.aload_n 0, 1) := dk_42 (dk_at dksX0_numberOf_0 9 rfl rfl)
theorem dX0_numberOf_10 : decode cX0_numberOf 10 = .ok (.invokevirtual 195, 3) := dk_182 0 195 (dk_at dksX0_numberOf_0 10 rfl rfl)
theorem dX0_numberOf_13 : decode cX0_numberOf 13 = .ok (.ireturn, 1) := dk_172 (dk_at dksX0_numberOf_0 13 rfl rfl)
abbrev cX0_text : ByteArray := prog_1_method_32_code
def yX0_text : MethodName := ⟨RX0, "text", "(II)I"⟩
def dkwX0_text_3 : List UInt8 := [172]
abbrev dktX0_text_3 : List UInt8 := dkwX0_text_3 ++ []
def dkwX0_text_2 : List UInt8 := [162, 0, 22, 45, 180, 0, 192, 28, 185, 0, 33, 2, 0, 192, 0, 66, 180, 0, 150, 167, 0, 5, 16, 247]
abbrev dktX0_text_2 : List UInt8 := dkwX0_text_2 ++ dktX0_text_3
def dkwX0_text_1 : List UInt8 := [180, 0, 21, 27, 185, 0, 33, 2, 0, 192, 0, 156, 78, 28, 45, 180, 0, 192, 185, 0, 27, 1, 0]
abbrev dktX0_text_1 : List UInt8 := dkwX0_text_1 ++ dktX0_text_2
def dkwX0_text_0 : List UInt8 := [42, 27, 182, 0, 241, 154, 0, 5, 2, 172, 28, 3, 16, 23, 184, 0, 50, 154, 0, 6, 16, 254, 172, 42]
abbrev dktX0_text_0 : List UInt8 := dkwX0_text_0 ++ dktX0_text_1
theorem dksX0_text_0 : cX0_text.data.toList.drop 0 = dktX0_text_0 := by decide +kernel
theorem dksX0_text_1 : cX0_text.data.toList.drop 24 = dktX0_text_1 := dk_seg dksX0_text_0 24 rfl rfl
theorem dksX0_text_2 : cX0_text.data.toList.drop 47 = dktX0_text_2 := dk_seg dksX0_text_1 23 rfl rfl
theorem dksX0_text_3 : cX0_text.data.toList.drop 71 = dktX0_text_3 := dk_seg dksX0_text_2 24 rfl rfl
theorem dX0_text_0 : decode cX0_text 0 = .ok (.aload_n 0, 1) := dk_42 (dk_at dksX0_text_0 0 rfl rfl)
theorem dX0_text_1 : decode cX0_text 1 = .ok (.iload_n 1, 1) := dk_27 (dk_at dksX0_text_0 1 rfl rfl)
theorem dX0_text_2 : decode cX0_text 2 = .ok (.invokevirtual 241, 3) := dk_182 0 241 (dk_at dksX0_text_0 2 rfl rfl)
theorem dX0_text_5 : decode cX0_text 5 = .ok (.ifCond .ne 5, 3) := dk_154 0 5 (dk_at dksX0_text_0 5 rfl rfl)
theorem dX0_text_8 : decode cX0_text 8 = .ok (.iconst (-1), 1) := dk_2 (dk_at dksX0_text_0 8 rfl rfl)
theorem dX0_text_9 : decode cX0_text 9 = .ok (.ireturn, 1) := dk_172 (dk_at dksX0_text_0 9 rfl rfl)
theorem dX0_text_10 : decode cX0_text 10 = .ok (.iload_n 2, 1) := dk_28 (dk_at dksX0_text_0 10 rfl rfl)
theorem dX0_text_11 : decode cX0_text 11 = .ok (.iconst 0, 1) := dk_3 (dk_at dksX0_text_0 11 rfl rfl)
theorem dX0_text_12 : decode cX0_text 12 = .ok (.bipush 23, 2) := dk_16 23 (dk_at dksX0_text_0 12 rfl rfl)
theorem dX0_text_14 : decode cX0_text 14 = .ok (.invokestatic 50, 3) := dk_184 0 50 (dk_at dksX0_text_0 14 rfl rfl)
theorem dX0_text_17 : decode cX0_text 17 = .ok (.ifCond .ne 6, 3) := dk_154 0 6 (dk_at dksX0_text_0 17 rfl rfl)
theorem dX0_text_20 : decode cX0_text 20 = .ok (.bipush (-2), 2) := dk_16 254 (dk_at dksX0_text_0 20 rfl rfl)
theorem dX0_text_22 : decode cX0_text 22 = .ok (.ireturn, 1) := dk_172 (dk_at dksX0_text_0 22 rfl rfl)
theorem dX0_text_23 : decode cX0_text 23 = .ok (.aload_n 0, 1) := dk_42 (dk_at dksX0_text_0 23 rfl rfl)
theorem dX0_text_24 : decode cX0_text 24 = .ok (.getfield 21, 3) := dk_180 0 21 (dk_at dksX0_text_1 0 rfl rfl)
theorem dX0_text_27 : decode cX0_text 27 = .ok (.iload_n 1, 1) := dk_27 (dk_at dksX0_text_1 3 rfl rfl)
theorem dX0_text_28 : decode cX0_text 28 = .ok (.invokeinterface 33 2, 5) := by decide +kernel
theorem dX0_text_33 : decode cX0_text 33 = .ok (.checkcast 156, 3) := dk_192 0 156 (dk_at dksX0_text_1 9 rfl rfl)
theorem dX0_text_36 : decode cX0_text 36 = .ok (.astore_n 3, 1) := dk_78 (dk_at dksX0_text_1 12 rfl rfl)
theorem dX0_text_37 : decode cX0_text 37 = .ok (.iload_n 2, 1) := dk_28 (dk_at dksX0_text_1 13 rfl rfl)
theorem dX0_text_38 : decode cX0_text 38 = .ok (.aload_n 3, 1) := dk_45 (dk_at dksX0_text_1 14 rfl rfl)
theorem dX0_text_39 : decode cX0_text 39 = .ok (.getfield 192, 3) := dk_180 0 192 (dk_at dksX0_text_1 15 rfl rfl)
theorem dX0_text_42 : decode cX0_text 42 = .ok (.invokeinterface 27 1, 5) := by decide +kernel
theorem dX0_text_47 : decode cX0_text 47 = .ok (.if_icmp .ge 22, 3) := dk_162 0 22 (dk_at dksX0_text_2 0 rfl rfl)
theorem dX0_text_50 : decode cX0_text 50 = .ok (.aload_n 3, 1) := dk_45 (dk_at dksX0_text_2 3 rfl rfl)
theorem dX0_text_51 : decode cX0_text 51 = .ok (.getfield 192, 3) := dk_180 0 192 (dk_at dksX0_text_2 4 rfl rfl)
theorem dX0_text_54 : decode cX0_text 54 = .ok (.iload_n 2, 1) := dk_28 (dk_at dksX0_text_2 7 rfl rfl)
theorem dX0_text_55 : decode cX0_text 55 = .ok (.invokeinterface 33 2, 5) := by decide +kernel
theorem dX0_text_60 : decode cX0_text 60 = .ok (.checkcast 66, 3) := dk_192 0 66 (dk_at dksX0_text_2 13 rfl rfl)
theorem dX0_text_63 : decode cX0_text 63 = .ok (.getfield 150, 3) := dk_180 0 150 (dk_at dksX0_text_2 16 rfl rfl)
theorem dX0_text_66 : decode cX0_text 66 = .ok (.goto 5, 3) := dk_167 0 5 (dk_at dksX0_text_2 19 rfl rfl)
theorem dX0_text_69 : decode cX0_text 69 = .ok (.bipush (-9), 2) := dk_16 247 (dk_at dksX0_text_2 22 rfl rfl)
theorem dX0_text_71 : decode cX0_text 71 = .ok (.ireturn, 1) := dk_172 (dk_at dksX0_text_3 0 rfl rfl)
abbrev cX0_mark : ByteArray := prog_1_method_33_code
def yX0_mark : MethodName := ⟨RX0, "mark", "(IIII)I"⟩
def dkwX0_mark_5 : List UInt8 := [21, 6, 182, 0, 93, 172]
abbrev dktX0_mark_5 : List UInt8 := dkwX0_mark_5 ++ []
def dkwX0_mark_4 : List UInt8 := [167, 0, 4, 4, 54, 6, 25, 5, 180, 1, 4, 28, 187, 1, 8, 89, 29, 21, 4, 183, 1, 10, 83, 42]
abbrev dktX0_mark_4 : List UInt8 := dkwX0_mark_4 ++ dktX0_mark_5
def dkwX0_mark_3 : List UInt8 := [180, 0, 134, 154, 0, 10, 28, 154, 0, 6, 16, 253, 172, 25, 5, 180, 1, 4, 28, 50, 199, 0, 7, 3]
abbrev dktX0_mark_3 : List UInt8 := dkwX0_mark_3 ++ dktX0_mark_4
def dkwX0_mark_2 : List UInt8 := [27, 185, 0, 33, 2, 0, 192, 0, 66, 58, 5, 25, 5, 180, 0, 134, 5, 159, 0, 15, 25, 5]
abbrev dktX0_mark_2 : List UInt8 := dkwX0_mark_2 ++ dktX0_mark_3
def dkwX0_mark_1 : List UInt8 := [184, 0, 50, 153, 0, 14, 21, 4, 3, 16, 99, 184, 0, 50, 154, 0, 6, 16, 254, 172, 42, 180, 0, 14]
abbrev dktX0_mark_1 : List UInt8 := dkwX0_mark_1 ++ dktX0_mark_2
def dkwX0_mark_0 : List UInt8 := [42, 27, 182, 0, 97, 154, 0, 5, 2, 172, 28, 3, 4, 184, 0, 50, 153, 0, 23, 29, 3, 6]
abbrev dktX0_mark_0 : List UInt8 := dkwX0_mark_0 ++ dktX0_mark_1
theorem dksX0_mark_0 : cX0_mark.data.toList.drop 0 = dktX0_mark_0 := by decide +kernel
theorem dksX0_mark_1 : cX0_mark.data.toList.drop 22 = dktX0_mark_1 := dk_seg dksX0_mark_0 22 rfl rfl
theorem dksX0_mark_2 : cX0_mark.data.toList.drop 46 = dktX0_mark_2 := dk_seg dksX0_mark_1 24 rfl rfl
theorem dksX0_mark_3 : cX0_mark.data.toList.drop 68 = dktX0_mark_3 := dk_seg dksX0_mark_2 22 rfl rfl
theorem dksX0_mark_4 : cX0_mark.data.toList.drop 92 = dktX0_mark_4 := dk_seg dksX0_mark_3 24 rfl rfl
theorem dksX0_mark_5 : cX0_mark.data.toList.drop 116 = dktX0_mark_5 := dk_seg dksX0_mark_4 24 rfl rfl
theorem dX0_mark_0 : decode cX0_mark 0 = .ok (.aload_n 0, 1) := dk_42 (dk_at dksX0_mark_0 0 rfl rfl)
theorem dX0_mark_1 : decode cX0_mark 1 = .ok (.iload_n 1, 1) := dk_27 (dk_at dksX0_mark_0 1 rfl rfl)
theorem dX0_mark_2 : decode cX0_mark 2 = .ok (.invokevirtual 97, 3) := dk_182 0 97 (dk_at dksX0_mark_0 2 rfl rfl)
theorem dX0_mark_5 : decode cX0_mark 5 = .ok (.ifCond .ne 5, 3) := dk_154 0 5 (dk_at dksX0_mark_0 5 rfl rfl)
theorem dX0_mark_8 : decode cX0_mark 8 = .ok (.iconst (-1), 1) := dk_2 (dk_at dksX0_mark_0 8 rfl rfl)
theorem dX0_mark_9 : decode cX0_mark 9 = .ok (.ireturn, 1) := dk_172 (dk_at dksX0_mark_0 9 rfl rfl)
theorem dX0_mark_10 : decode cX0_mark 10 = .ok (.iload_n 2, 1) := dk_28 (dk_at dksX0_mark_0 10 rfl rfl)
theorem dX0_mark_11 : decode cX0_mark 11 = .ok (.iconst 0, 1) := dk_3 (dk_at dksX0_mark_0 11 rfl rfl)
theorem dX0_mark_12 : decode cX0_mark 12 = .ok (.iconst 1, 1) := dk_4 (dk_at dksX0_mark_0 12 rfl rfl)
theorem dX0_mark_13 : decode cX0_mark 13 = .ok (.invokestatic 50, 3) := dk_184 0 50 (dk_at dksX0_mark_0 13 rfl rfl)
theorem dX0_mark_16 : decode cX0_mark 16 = .ok (.ifCond .eq 23, 3) := dk_153 0 23 (dk_at dksX0_mark_0 16 rfl rfl)
theorem dX0_mark_19 : decode cX0_mark 19 = .ok (.iload_n 3, 1) := dk_29 (dk_at dksX0_mark_0 19 rfl rfl)
theorem dX0_mark_20 : decode cX0_mark 20 = .ok (.iconst 0, 1) := dk_3 (dk_at dksX0_mark_0 20 rfl rfl)
theorem dX0_mark_21 : decode cX0_mark 21 = .ok (.iconst 3, 1) := dk_6 (dk_at dksX0_mark_0 21 rfl rfl)
theorem dX0_mark_22 : decode cX0_mark 22 = .ok (.invokestatic 50, 3) := dk_184 0 50 (dk_at dksX0_mark_1 0 rfl rfl)
theorem dX0_mark_25 : decode cX0_mark 25 = .ok (.ifCond .eq 14, 3) := dk_153 0 14 (dk_at dksX0_mark_1 3 rfl rfl)
theorem dX0_mark_28 : decode cX0_mark 28 = .ok (.iload 4, 2) := dk_21 4 (dk_at dksX0_mark_1 6 rfl rfl)
theorem dX0_mark_30 : decode cX0_mark 30 = .ok (.iconst 0, 1) := dk_3 (dk_at dksX0_mark_1 8 rfl rfl)
theorem dX0_mark_31 : decode cX0_mark 31 = .ok (.bipush 99, 2) := dk_16 99 (dk_at dksX0_mark_1 9 rfl rfl)
theorem dX0_mark_33 : decode cX0_mark 33 = .ok (.invokestatic 50, 3) := dk_184 0 50 (dk_at dksX0_mark_1 11 rfl rfl)
theorem dX0_mark_36 : decode cX0_mark 36 = .ok (.ifCond .ne 6, 3) := dk_154 0 6 (dk_at dksX0_mark_1 14 rfl rfl)
theorem dX0_mark_39 : decode cX0_mark 39 = .ok (.bipush (-2), 2) := dk_16 254 (dk_at dksX0_mark_1 17 rfl rfl)
theorem dX0_mark_41 : decode cX0_mark 41 = .ok (.ireturn, 1) := dk_172 (dk_at dksX0_mark_1 19 rfl rfl)
theorem dX0_mark_42 : decode cX0_mark 42 = .ok (.aload_n 0, 1) := dk_42 (dk_at dksX0_mark_1 20 rfl rfl)
theorem dX0_mark_43 : decode cX0_mark 43 = .ok (.getfield 14, 3) := dk_180 0 14 (dk_at dksX0_mark_1 21 rfl rfl)
theorem dX0_mark_46 : decode cX0_mark 46 = .ok (.iload_n 1, 1) := dk_27 (dk_at dksX0_mark_2 0 rfl rfl)
theorem dX0_mark_47 : decode cX0_mark 47 = .ok (.invokeinterface 33 2, 5) := by decide +kernel
theorem dX0_mark_52 : decode cX0_mark 52 = .ok (.checkcast 66, 3) := dk_192 0 66 (dk_at dksX0_mark_2 6 rfl rfl)
theorem dX0_mark_55 : decode cX0_mark 55 = .ok (.astore 5, 2) := dk_58 5 (dk_at dksX0_mark_2 9 rfl rfl)
theorem dX0_mark_57 : decode cX0_mark 57 = .ok (.aload 5, 2) := dk_25 5 (dk_at dksX0_mark_2 11 rfl rfl)
theorem dX0_mark_59 : decode cX0_mark 59 = .ok (.getfield 134, 3) := dk_180 0 134 (dk_at dksX0_mark_2 13 rfl rfl)
theorem dX0_mark_62 : decode cX0_mark 62 = .ok (.iconst 2, 1) := dk_5 (dk_at dksX0_mark_2 16 rfl rfl)
theorem dX0_mark_63 : decode cX0_mark 63 = .ok (.if_icmp .eq 15, 3) := dk_159 0 15 (dk_at dksX0_mark_2 17 rfl rfl)
theorem dX0_mark_66 : decode cX0_mark 66 = .ok (.aload 5, 2) := dk_25 5 (dk_at dksX0_mark_2 20 rfl rfl)
theorem dX0_mark_68 : decode cX0_mark 68 = .ok (.getfield 134, 3) := dk_180 0 134 (dk_at dksX0_mark_3 0 rfl rfl)
theorem dX0_mark_71 : decode cX0_mark 71 = .ok (.ifCond .ne 10, 3) := dk_154 0 10 (dk_at dksX0_mark_3 3 rfl rfl)
theorem dX0_mark_74 : decode cX0_mark 74 = .ok (.iload_n 2, 1) := dk_28 (dk_at dksX0_mark_3 6 rfl rfl)
theorem dX0_mark_75 : decode cX0_mark 75 = .ok (.ifCond .ne 6, 3) := dk_154 0 6 (dk_at dksX0_mark_3 7 rfl rfl)
theorem dX0_mark_78 : decode cX0_mark 78 = .ok (.bipush (-3), 2) := dk_16 253 (dk_at dksX0_mark_3 10 rfl rfl)
theorem dX0_mark_80 : decode cX0_mark 80 = .ok (.ireturn, 1) := dk_172 (dk_at dksX0_mark_3 12 rfl rfl)
theorem dX0_mark_81 : decode cX0_mark 81 = .ok (.aload 5, 2) := dk_25 5 (dk_at dksX0_mark_3 13 rfl rfl)
theorem dX0_mark_83 : decode cX0_mark 83 = .ok (.getfield 260, 3) := dk_180 1 4 (dk_at dksX0_mark_3 15 rfl rfl)
theorem dX0_mark_86 : decode cX0_mark 86 = .ok (.iload_n 2, 1) := dk_28 (dk_at dksX0_mark_3 18 rfl rfl)
theorem dX0_mark_87 : decode cX0_mark 87 = .ok (.aaload, 1) := dk_50 (dk_at dksX0_mark_3 19 rfl rfl)
theorem dX0_mark_88 : decode cX0_mark 88 = .ok (.ifnonnull 7, 3) := dk_199 0 7 (dk_at dksX0_mark_3 20 rfl rfl)
theorem dX0_mark_91 : decode cX0_mark 91 = .ok (.iconst 0, 1) := dk_3 (dk_at dksX0_mark_3 23 rfl rfl)
theorem dX0_mark_92 : decode cX0_mark 92 = .ok (.goto 4, 3) := dk_167 0 4 (dk_at dksX0_mark_4 0 rfl rfl)
theorem dX0_mark_95 : decode cX0_mark 95 = .ok (.iconst 1, 1) := dk_4 (dk_at dksX0_mark_4 3 rfl rfl)
theorem dX0_mark_96 : decode cX0_mark 96 = .ok (.istore 6, 2) := dk_54 6 (dk_at dksX0_mark_4 4 rfl rfl)
theorem dX0_mark_98 : decode cX0_mark 98 = .ok (.aload 5, 2) := dk_25 5 (dk_at dksX0_mark_4 6 rfl rfl)
theorem dX0_mark_100 : decode cX0_mark 100 = .ok (.getfield 260, 3) := dk_180 1 4 (dk_at dksX0_mark_4 8 rfl rfl)
theorem dX0_mark_103 : decode cX0_mark 103 = .ok (.iload_n 2, 1) := dk_28 (dk_at dksX0_mark_4 11 rfl rfl)
theorem dX0_mark_104 : decode cX0_mark 104 = .ok (.new 264, 3) := dk_187 1 8 (dk_at dksX0_mark_4 12 rfl rfl)
theorem dX0_mark_107 : decode cX0_mark 107 = .ok (.dup, 1) := dk_89 (dk_at dksX0_mark_4 15 rfl rfl)
theorem dX0_mark_108 : decode cX0_mark 108 = .ok (.iload_n 3, 1) := dk_29 (dk_at dksX0_mark_4 16 rfl rfl)
theorem dX0_mark_109 : decode cX0_mark 109 = .ok (.iload 4, 2) := dk_21 4 (dk_at dksX0_mark_4 17 rfl rfl)
theorem dX0_mark_111 : decode cX0_mark 111 = .ok (.invokespecial 266, 3) := dk_183 1 10 (dk_at dksX0_mark_4 19 rfl rfl)
theorem dX0_mark_114 : decode cX0_mark 114 = .ok (.aastore, 1) := dk_83 (dk_at dksX0_mark_4 22 rfl rfl)
theorem dX0_mark_115 : decode cX0_mark 115 = .ok (.aload_n 0, 1) := dk_42 (dk_at dksX0_mark_4 23 rfl rfl)
theorem dX0_mark_116 : decode cX0_mark 116 = .ok (.iload 6, 2) := dk_21 6 (dk_at dksX0_mark_5 0 rfl rfl)
theorem dX0_mark_118 : decode cX0_mark 118 = .ok (.invokevirtual 93, 3) := dk_182 0 93 (dk_at dksX0_mark_5 2 rfl rfl)
theorem dX0_mark_121 : decode cX0_mark 121 = .ok (.ireturn, 1) := dk_172 (dk_at dksX0_mark_5 5 rfl rfl)
abbrev cX0_unmark : ByteArray := prog_1_method_34_code
def yX0_unmark : MethodName := ⟨RX0, "unmark", "(II)I"⟩
def dkwX0_unmark_2 : List UInt8 := [167, 0, 4, 4, 54, 4, 45, 180, 1, 4, 28, 1, 83, 42, 21, 4, 182, 0, 93, 172]
abbrev dktX0_unmark_2 : List UInt8 := dkwX0_unmark_2 ++ []
def dkwX0_unmark_1 : List UInt8 := [180, 0, 14, 27, 185, 0, 33, 2, 0, 192, 0, 66, 78, 45, 180, 1, 4, 28, 50, 199, 0, 7, 3]
abbrev dktX0_unmark_1 : List UInt8 := dkwX0_unmark_1 ++ dktX0_unmark_2
def dkwX0_unmark_0 : List UInt8 := [42, 27, 182, 0, 97, 154, 0, 5, 2, 172, 28, 3, 4, 184, 0, 50, 154, 0, 6, 16, 254, 172, 42]
abbrev dktX0_unmark_0 : List UInt8 := dkwX0_unmark_0 ++ dktX0_unmark_1
theorem dksX0_unmark_0 : cX0_unmark.data.toList.drop 0 = dktX0_unmark_0 := by decide +kernel
theorem dksX0_unmark_1 : cX0_unmark.data.toList.drop 23 = dktX0_unmark_1 := dk_seg dksX0_unmark_0 23 rfl rfl
theorem dksX0_unmark_2 : cX0_unmark.data.toList.drop 46 = dktX0_unmark_2 := dk_seg dksX0_unmark_1 23 rfl rfl
theorem dX0_unmark_0 : decode cX0_unmark 0 = .ok (.aload_n 0, 1) := dk_42 (dk_at dksX0_unmark_0 0 rfl rfl)
theorem dX0_unmark_1 : decode cX0_unmark 1 = .ok (.iload_n 1, 1) := dk_27 (dk_at dksX0_unmark_0 1 rfl rfl)
theorem dX0_unmark_2 : decode cX0_unmark 2 = .ok (.invokevirtual 97, 3) := dk_182 0 97 (dk_at dksX0_unmark_0 2 rfl rfl)
theorem dX0_unmark_5 : decode cX0_unmark 5 = .ok (.ifCond .ne 5, 3) := dk_154 0 5 (dk_at dksX0_unmark_0 5 rfl rfl)
theorem dX0_unmark_8 : decode cX0_unmark 8 = .ok (.iconst (-1), 1) := dk_2 (dk_at dksX0_unmark_0 8 rfl rfl)
theorem dX0_unmark_9 : decode cX0_unmark 9 = .ok (.ireturn, 1) := dk_172 (dk_at dksX0_unmark_0 9 rfl rfl)
theorem dX0_unmark_10 : decode cX0_unmark 10 = .ok (.iload_n 2, 1) := dk_28 (dk_at dksX0_unmark_0 10 rfl rfl)
theorem dX0_unmark_11 : decode cX0_unmark 11 = .ok (.iconst 0, 1) := dk_3 (dk_at dksX0_unmark_0 11 rfl rfl)
theorem dX0_unmark_12 : decode cX0_unmark 12 = .ok (.iconst 1, 1) := dk_4 (dk_at dksX0_unmark_0 12 rfl rfl)
theorem dX0_unmark_13 : decode cX0_unmark 13 = .ok (.invokestatic 50, 3) := dk_184 0 50 (dk_at dksX0_unmark_0 13 rfl rfl)
theorem dX0_unmark_16 : decode cX0_unmark 16 = .ok (.ifCond .ne 6, 3) := dk_154 0 6 (dk_at dksX0_unmark_0 16 rfl rfl)
theorem dX0_unmark_19 : decode cX0_unmark 19 = .ok (.bipush (-2), 2) := dk_16 254 (dk_at dksX0_unmark_0 19 rfl rfl)
theorem dX0_unmark_21 : decode cX0_unmark 21 = .ok (.ireturn, 1) := dk_172 (dk_at dksX0_unmark_0 21 rfl rfl)
theorem dX0_unmark_22 : decode cX0_unmark 22 = .ok (.aload_n 0, 1) := dk_42 (dk_at dksX0_unmark_0 22 rfl rfl)
theorem dX0_unmark_23 : decode cX0_unmark 23 = .ok (.getfield 14, 3) := dk_180 0 14 (dk_at dksX0_unmark_1 0 rfl rfl)
theorem dX0_unmark_26 : decode cX0_unmark 26 = .ok (.iload_n 1, 1) := dk_27 (dk_at dksX0_unmark_1 3 rfl rfl)
theorem dX0_unmark_27 : decode cX0_unmark 27 = .ok (.invokeinterface 33 2, 5) := by decide +kernel
theorem dX0_unmark_32 : decode cX0_unmark 32 = .ok (.checkcast 66, 3) := dk_192 0 66 (dk_at dksX0_unmark_1 9 rfl rfl)
theorem dX0_unmark_35 : decode cX0_unmark 35 = .ok (.astore_n 3, 1) := dk_78 (dk_at dksX0_unmark_1 12 rfl rfl)
theorem dX0_unmark_36 : decode cX0_unmark 36 = .ok (.aload_n 3, 1) := dk_45 (dk_at dksX0_unmark_1 13 rfl rfl)
theorem dX0_unmark_37 : decode cX0_unmark 37 = .ok (.getfield 260, 3) := dk_180 1 4 (dk_at dksX0_unmark_1 14 rfl rfl)
theorem dX0_unmark_40 : decode cX0_unmark 40 = .ok (.iload_n 2, 1) := dk_28 (dk_at dksX0_unmark_1 17 rfl rfl)
theorem dX0_unmark_41 : decode cX0_unmark 41 = .ok (.aaload, 1) := dk_50 (dk_at dksX0_unmark_1 18 rfl rfl)
theorem dX0_unmark_42 : decode cX0_unmark 42 = .ok (.ifnonnull 7, 3) := dk_199 0 7 (dk_at dksX0_unmark_1 19 rfl rfl)
theorem dX0_unmark_45 : decode cX0_unmark 45 = .ok (.iconst 0, 1) := dk_3 (dk_at dksX0_unmark_1 22 rfl rfl)
theorem dX0_unmark_46 : decode cX0_unmark 46 = .ok (.goto 4, 3) := dk_167 0 4 (dk_at dksX0_unmark_2 0 rfl rfl)
theorem dX0_unmark_49 : decode cX0_unmark 49 = .ok (.iconst 1, 1) := dk_4 (dk_at dksX0_unmark_2 3 rfl rfl)
theorem dX0_unmark_50 : decode cX0_unmark 50 = .ok (.istore 4, 2) := dk_54 4 (dk_at dksX0_unmark_2 4 rfl rfl)
theorem dX0_unmark_52 : decode cX0_unmark 52 = .ok (.aload_n 3, 1) := dk_45 (dk_at dksX0_unmark_2 6 rfl rfl)
theorem dX0_unmark_53 : decode cX0_unmark 53 = .ok (.getfield 260, 3) := dk_180 1 4 (dk_at dksX0_unmark_2 7 rfl rfl)
theorem dX0_unmark_56 : decode cX0_unmark 56 = .ok (.iload_n 2, 1) := dk_28 (dk_at dksX0_unmark_2 10 rfl rfl)
theorem dX0_unmark_57 : decode cX0_unmark 57 = .ok (.aconst_null, 1) := dk_1 (dk_at dksX0_unmark_2 11 rfl rfl)
theorem dX0_unmark_58 : decode cX0_unmark 58 = .ok (.aastore, 1) := dk_83 (dk_at dksX0_unmark_2 12 rfl rfl)
theorem dX0_unmark_59 : decode cX0_unmark 59 = .ok (.aload_n 0, 1) := dk_42 (dk_at dksX0_unmark_2 13 rfl rfl)
theorem dX0_unmark_60 : decode cX0_unmark 60 = .ok (.iload 4, 2) := dk_21 4 (dk_at dksX0_unmark_2 14 rfl rfl)
theorem dX0_unmark_62 : decode cX0_unmark 62 = .ok (.invokevirtual 93, 3) := dk_182 0 93 (dk_at dksX0_unmark_2 16 rfl rfl)
theorem dX0_unmark_65 : decode cX0_unmark 65 = .ok (.ireturn, 1) := dk_172 (dk_at dksX0_unmark_2 19 rfl rfl)
abbrev cX0_ofMark : ByteArray := prog_1_method_35_code
def yX0_ofMark : MethodName := ⟨RX0, "ofMark", "(III)I"⟩
def dkwX0_ofMark_3 : List UInt8 := [180, 1, 13, 167, 0, 8, 25, 4, 180, 1, 14, 172]
abbrev dktX0_ofMark_3 : List UInt8 := dkwX0_ofMark_3 ++ []
def dkwX0_ofMark_2 : List UInt8 := [180, 1, 4, 28, 50, 58, 4, 25, 4, 199, 0, 8, 16, 247, 167, 0, 20, 29, 154, 0, 11, 25, 4]
abbrev dktX0_ofMark_2 : List UInt8 := dkwX0_ofMark_2 ++ dktX0_ofMark_3
def dkwX0_ofMark_1 : List UInt8 := [184, 0, 50, 154, 0, 6, 16, 254, 172, 42, 180, 0, 14, 27, 185, 0, 33, 2, 0, 192, 0, 66]
abbrev dktX0_ofMark_1 : List UInt8 := dkwX0_ofMark_1 ++ dktX0_ofMark_2
def dkwX0_ofMark_0 : List UInt8 := [42, 27, 182, 0, 97, 154, 0, 5, 2, 172, 28, 3, 4, 184, 0, 50, 153, 0, 12, 29, 3, 4]
abbrev dktX0_ofMark_0 : List UInt8 := dkwX0_ofMark_0 ++ dktX0_ofMark_1
theorem dksX0_ofMark_0 : cX0_ofMark.data.toList.drop 0 = dktX0_ofMark_0 := by decide +kernel
theorem dksX0_ofMark_1 : cX0_ofMark.data.toList.drop 22 = dktX0_ofMark_1 := dk_seg dksX0_ofMark_0 22 rfl rfl
theorem dksX0_ofMark_2 : cX0_ofMark.data.toList.drop 44 = dktX0_ofMark_2 := dk_seg dksX0_ofMark_1 22 rfl rfl
theorem dksX0_ofMark_3 : cX0_ofMark.data.toList.drop 67 = dktX0_ofMark_3 := dk_seg dksX0_ofMark_2 23 rfl rfl
theorem dX0_ofMark_0 : decode cX0_ofMark 0 = .ok (.aload_n 0, 1) := dk_42 (dk_at dksX0_ofMark_0 0 rfl rfl)
theorem dX0_ofMark_1 : decode cX0_ofMark 1 = .ok (.iload_n 1, 1) := dk_27 (dk_at dksX0_ofMark_0 1 rfl rfl)
theorem dX0_ofMark_2 : decode cX0_ofMark 2 = .ok (.invokevirtual 97, 3) := dk_182 0 97 (dk_at dksX0_ofMark_0 2 rfl rfl)
theorem dX0_ofMark_5 : decode cX0_ofMark 5 = .ok (.ifCond .ne 5, 3) := dk_154 0 5 (dk_at dksX0_ofMark_0 5 rfl rfl)
theorem dX0_ofMark_8 : decode cX0_ofMark 8 = .ok (.iconst (-1), 1) := dk_2 (dk_at dksX0_ofMark_0 8 rfl rfl)
theorem dX0_ofMark_9 : decode cX0_ofMark 9 = .ok (.ireturn, 1) := dk_172 (dk_at dksX0_ofMark_0 9 rfl rfl)
theorem dX0_ofMark_10 : decode cX0_ofMark 10 = .ok (.iload_n 2, 1) := dk_28 (dk_at dksX0_ofMark_0 10 rfl rfl)
theorem dX0_ofMark_11 : decode cX0_ofMark 11 = .ok (.iconst 0, 1) := dk_3 (dk_at dksX0_ofMark_0 11 rfl rfl)
theorem dX0_ofMark_12 : decode cX0_ofMark 12 = .ok (.iconst 1, 1) := dk_4 (dk_at dksX0_ofMark_0 12 rfl rfl)
theorem dX0_ofMark_13 : decode cX0_ofMark 13 = .ok (.invokestatic 50, 3) := dk_184 0 50 (dk_at dksX0_ofMark_0 13 rfl rfl)
theorem dX0_ofMark_16 : decode cX0_ofMark 16 = .ok (.ifCond .eq 12, 3) := dk_153 0 12 (dk_at dksX0_ofMark_0 16 rfl rfl)
theorem dX0_ofMark_19 : decode cX0_ofMark 19 = .ok (.iload_n 3, 1) := dk_29 (dk_at dksX0_ofMark_0 19 rfl rfl)
theorem dX0_ofMark_20 : decode cX0_ofMark 20 = .ok (.iconst 0, 1) := dk_3 (dk_at dksX0_ofMark_0 20 rfl rfl)
theorem dX0_ofMark_21 : decode cX0_ofMark 21 = .ok (.iconst 1, 1) := dk_4 (dk_at dksX0_ofMark_0 21 rfl rfl)
theorem dX0_ofMark_22 : decode cX0_ofMark 22 = .ok (.invokestatic 50, 3) := dk_184 0 50 (dk_at dksX0_ofMark_1 0 rfl rfl)
theorem dX0_ofMark_25 : decode cX0_ofMark 25 = .ok (.ifCond .ne 6, 3) := dk_154 0 6 (dk_at dksX0_ofMark_1 3 rfl rfl)
theorem dX0_ofMark_28 : decode cX0_ofMark 28 = .ok (.bipush (-2), 2) := dk_16 254 (dk_at dksX0_ofMark_1 6 rfl rfl)
theorem dX0_ofMark_30 : decode cX0_ofMark 30 = .ok (.ireturn, 1) := dk_172 (dk_at dksX0_ofMark_1 8 rfl rfl)
theorem dX0_ofMark_31 : decode cX0_ofMark 31 = .ok (.aload_n 0, 1) := dk_42 (dk_at dksX0_ofMark_1 9 rfl rfl)
theorem dX0_ofMark_32 : decode cX0_ofMark 32 = .ok (.getfield 14, 3) := dk_180 0 14 (dk_at dksX0_ofMark_1 10 rfl rfl)
theorem dX0_ofMark_35 : decode cX0_ofMark 35 = .ok (.iload_n 1, 1) := dk_27 (dk_at dksX0_ofMark_1 13 rfl rfl)
theorem dX0_ofMark_36 : decode cX0_ofMark 36 = .ok (.invokeinterface 33 2, 5) := by decide +kernel
theorem dX0_ofMark_41 : decode cX0_ofMark 41 = .ok (.checkcast 66, 3) := dk_192 0 66 (dk_at dksX0_ofMark_1 19 rfl rfl)
theorem dX0_ofMark_44 : decode cX0_ofMark 44 = .ok (.getfield 260, 3) := dk_180 1 4 (dk_at dksX0_ofMark_2 0 rfl rfl)
theorem dX0_ofMark_47 : decode cX0_ofMark 47 = .ok (.iload_n 2, 1) := dk_28 (dk_at dksX0_ofMark_2 3 rfl rfl)
theorem dX0_ofMark_48 : decode cX0_ofMark 48 = .ok (.aaload, 1) := dk_50 (dk_at dksX0_ofMark_2 4 rfl rfl)
theorem dX0_ofMark_49 : decode cX0_ofMark 49 = .ok (.astore 4, 2) := dk_58 4 (dk_at dksX0_ofMark_2 5 rfl rfl)
theorem dX0_ofMark_51 : decode cX0_ofMark 51 = .ok (.aload 4, 2) := dk_25 4 (dk_at dksX0_ofMark_2 7 rfl rfl)
theorem dX0_ofMark_53 : decode cX0_ofMark 53 = .ok (.ifnonnull 8, 3) := dk_199 0 8 (dk_at dksX0_ofMark_2 9 rfl rfl)
theorem dX0_ofMark_56 : decode cX0_ofMark 56 = .ok (.bipush (-9), 2) := dk_16 247 (dk_at dksX0_ofMark_2 12 rfl rfl)
theorem dX0_ofMark_58 : decode cX0_ofMark 58 = .ok (.goto 20, 3) := dk_167 0 20 (dk_at dksX0_ofMark_2 14 rfl rfl)
theorem dX0_ofMark_61 : decode cX0_ofMark 61 = .ok (.iload_n 3, 1) := dk_29 (dk_at dksX0_ofMark_2 17 rfl rfl)
theorem dX0_ofMark_62 : decode cX0_ofMark 62 = .ok (.ifCond .ne 11, 3) := dk_154 0 11 (dk_at dksX0_ofMark_2 18 rfl rfl)
theorem dX0_ofMark_65 : decode cX0_ofMark 65 = .ok (.aload 4, 2) := dk_25 4 (dk_at dksX0_ofMark_2 21 rfl rfl)
theorem dX0_ofMark_67 : decode cX0_ofMark 67 = .ok (.getfield 269, 3) := dk_180 1 13 (dk_at dksX0_ofMark_3 0 rfl rfl)
theorem dX0_ofMark_70 : decode cX0_ofMark 70 = .ok (.goto 8, 3) := dk_167 0 8 (dk_at dksX0_ofMark_3 3 rfl rfl)
theorem dX0_ofMark_73 : decode cX0_ofMark 73 = .ok (.aload 4, 2) := dk_25 4 (dk_at dksX0_ofMark_3 6 rfl rfl)
theorem dX0_ofMark_75 : decode cX0_ofMark 75 = .ok (.getfield 270, 3) := dk_180 1 14 (dk_at dksX0_ofMark_3 8 rfl rfl)
theorem dX0_ofMark_78 : decode cX0_ofMark 78 = .ok (.ireturn, 1) := dk_172 (dk_at dksX0_ofMark_3 11 rfl rfl)
abbrev cX0_ofArticle : ByteArray := prog_1_method_41_code
def yX0_ofArticle : MethodName := ⟨RX0, "ofArticle", "(II)I"⟩
def dkwX0_ofArticle_5 : List UInt8 := [167, 0, 4, 3, 172, 16, 254, 172]
abbrev dktX0_ofArticle_5 : List UInt8 := dkwX0_ofArticle_5 ++ []
def dkwX0_ofArticle_4 : List UInt8 := [42, 180, 0, 213, 162, 0, 7, 3, 167, 0, 4, 4, 172, 42, 27, 182, 1, 58, 153, 0, 7, 4]
abbrev dktX0_ofArticle_4 : List UInt8 := dkwX0_ofArticle_4 ++ dktX0_ofArticle_5
def dkwX0_ofArticle_3 : List UInt8 := [172, 42, 27, 3, 4, 182, 1, 52, 172, 42, 27, 4, 3, 182, 1, 52, 172, 42, 27, 182, 1, 55, 172, 27]
abbrev dktX0_ofArticle_3 : List UInt8 := dkwX0_ofArticle_3 ++ dktX0_ofArticle_4
def dkwX0_ofArticle_2 : List UInt8 := [42, 180, 0, 24, 27, 185, 0, 33, 2, 0, 192, 0, 156, 182, 0, 195, 172, 42, 27, 3, 3, 182, 1, 52]
abbrev dktX0_ofArticle_2 : List UInt8 := dkwX0_ofArticle_2 ++ dktX0_ofArticle_3
def dkwX0_ofArticle_1 : List UInt8 := [170, 0, 0, 0, 116, 0, 0, 0, 0, 0, 0, 0, 6, 0, 0, 0, 41, 0, 0, 0, 58, 0, 0, 0, 66, 0, 0, 0, 74, 0, 0, 0, 82, 0, 0, 0, 88, 0, 0, 0, 102]
abbrev dktX0_ofArticle_1 : List UInt8 := dkwX0_ofArticle_1 ++ dktX0_ofArticle_2
def dkwX0_ofArticle_0 : List UInt8 := [42, 27, 182, 1, 49, 154, 0, 5, 2, 172, 28]
abbrev dktX0_ofArticle_0 : List UInt8 := dkwX0_ofArticle_0 ++ dktX0_ofArticle_1
theorem dksX0_ofArticle_0 : cX0_ofArticle.data.toList.drop 0 = dktX0_ofArticle_0 := by decide +kernel
theorem dksX0_ofArticle_1 : cX0_ofArticle.data.toList.drop 11 = dktX0_ofArticle_1 := dk_seg dksX0_ofArticle_0 11 rfl rfl
theorem dksX0_ofArticle_2 : cX0_ofArticle.data.toList.drop 52 = dktX0_ofArticle_2 := dk_seg dksX0_ofArticle_1 41 rfl rfl
theorem dksX0_ofArticle_3 : cX0_ofArticle.data.toList.drop 76 = dktX0_ofArticle_3 := dk_seg dksX0_ofArticle_2 24 rfl rfl
theorem dksX0_ofArticle_4 : cX0_ofArticle.data.toList.drop 100 = dktX0_ofArticle_4 := dk_seg dksX0_ofArticle_3 24 rfl rfl
theorem dksX0_ofArticle_5 : cX0_ofArticle.data.toList.drop 122 = dktX0_ofArticle_5 := dk_seg dksX0_ofArticle_4 22 rfl rfl
theorem dX0_ofArticle_0 : decode cX0_ofArticle 0 = .ok (.aload_n 0, 1) := dk_42 (dk_at dksX0_ofArticle_0 0 rfl rfl)
theorem dX0_ofArticle_1 : decode cX0_ofArticle 1 = .ok (.iload_n 1, 1) := dk_27 (dk_at dksX0_ofArticle_0 1 rfl rfl)
theorem dX0_ofArticle_2 : decode cX0_ofArticle 2 = .ok (.invokevirtual 305, 3) := dk_182 1 49 (dk_at dksX0_ofArticle_0 2 rfl rfl)
theorem dX0_ofArticle_5 : decode cX0_ofArticle 5 = .ok (.ifCond .ne 5, 3) := dk_154 0 5 (dk_at dksX0_ofArticle_0 5 rfl rfl)
theorem dX0_ofArticle_8 : decode cX0_ofArticle 8 = .ok (.iconst (-1), 1) := dk_2 (dk_at dksX0_ofArticle_0 8 rfl rfl)
theorem dX0_ofArticle_9 : decode cX0_ofArticle 9 = .ok (.ireturn, 1) := dk_172 (dk_at dksX0_ofArticle_0 9 rfl rfl)
theorem dX0_ofArticle_10 : decode cX0_ofArticle 10 = .ok (.iload_n 2, 1) := dk_28 (dk_at dksX0_ofArticle_0 10 rfl rfl)
theorem dX0_ofArticle_11 : decode cX0_ofArticle 11 = .ok (.tableswitch 116 0 6 #[41, 58, 66, 74, 82, 88, 102], 41) := by decide +kernel
theorem dX0_ofArticle_52 : decode cX0_ofArticle 52 = .ok (.aload_n 0, 1) := dk_42 (dk_at dksX0_ofArticle_2 0 rfl rfl)
theorem dX0_ofArticle_53 : decode cX0_ofArticle 53 = .ok (.getfield 24, 3) := dk_180 0 24 (dk_at dksX0_ofArticle_2 1 rfl rfl)
theorem dX0_ofArticle_56 : decode cX0_ofArticle 56 = .ok (.iload_n 1, 1) := dk_27 (dk_at dksX0_ofArticle_2 4 rfl rfl)
theorem dX0_ofArticle_57 : decode cX0_ofArticle 57 = .ok (.invokeinterface 33 2, 5) := by decide +kernel
theorem dX0_ofArticle_62 : decode cX0_ofArticle 62 = .ok (.checkcast 156, 3) := dk_192 0 156 (dk_at dksX0_ofArticle_2 10 rfl rfl)
theorem dX0_ofArticle_65 : decode cX0_ofArticle 65 = .ok (.invokevirtual 195, 3) := dk_182 0 195 (dk_at dksX0_ofArticle_2 13 rfl rfl)
theorem dX0_ofArticle_68 : decode cX0_ofArticle 68 = .ok (.ireturn, 1) := dk_172 (dk_at dksX0_ofArticle_2 16 rfl rfl)
theorem dX0_ofArticle_69 : decode cX0_ofArticle 69 = .ok (.aload_n 0, 1) := dk_42 (dk_at dksX0_ofArticle_2 17 rfl rfl)
theorem dX0_ofArticle_70 : decode cX0_ofArticle 70 = .ok (.iload_n 1, 1) := dk_27 (dk_at dksX0_ofArticle_2 18 rfl rfl)
theorem dX0_ofArticle_71 : decode cX0_ofArticle 71 = .ok (.iconst 0, 1) := dk_3 (dk_at dksX0_ofArticle_2 19 rfl rfl)
theorem dX0_ofArticle_72 : decode cX0_ofArticle 72 = .ok (.iconst 0, 1) := dk_3 (dk_at dksX0_ofArticle_2 20 rfl rfl)
theorem dX0_ofArticle_73 : decode cX0_ofArticle 73 = .ok (.invokevirtual 308, 3) := dk_182 1 52 (dk_at dksX0_ofArticle_2 21 rfl rfl)
theorem dX0_ofArticle_76 : decode cX0_ofArticle 76 = .ok (.ireturn, 1) := dk_172 (dk_at dksX0_ofArticle_3 0 rfl rfl)
theorem dX0_ofArticle_77 : decode cX0_ofArticle 77 = .ok (.aload_n 0, 1) := dk_42 (dk_at dksX0_ofArticle_3 1 rfl rfl)
theorem dX0_ofArticle_78 : decode cX0_ofArticle 78 = .ok (.iload_n 1, 1) := dk_27 (dk_at dksX0_ofArticle_3 2 rfl rfl)
theorem dX0_ofArticle_79 : decode cX0_ofArticle 79 = .ok (.iconst 0, 1) := dk_3 (dk_at dksX0_ofArticle_3 3 rfl rfl)
theorem dX0_ofArticle_80 : decode cX0_ofArticle 80 = .ok (.iconst 1, 1) := dk_4 (dk_at dksX0_ofArticle_3 4 rfl rfl)
theorem dX0_ofArticle_81 : decode cX0_ofArticle 81 = .ok (.invokevirtual 308, 3) := dk_182 1 52 (dk_at dksX0_ofArticle_3 5 rfl rfl)
theorem dX0_ofArticle_84 : decode cX0_ofArticle 84 = .ok (.ireturn, 1) := dk_172 (dk_at dksX0_ofArticle_3 8 rfl rfl)
theorem dX0_ofArticle_85 : decode cX0_ofArticle 85 = .ok (.aload_n 0, 1) := dk_42 (dk_at dksX0_ofArticle_3 9 rfl rfl)
theorem dX0_ofArticle_86 : decode cX0_ofArticle 86 = .ok (.iload_n 1, 1) := dk_27 (dk_at dksX0_ofArticle_3 10 rfl rfl)
theorem dX0_ofArticle_87 : decode cX0_ofArticle 87 = .ok (.iconst 1, 1) := dk_4 (dk_at dksX0_ofArticle_3 11 rfl rfl)
theorem dX0_ofArticle_88 : decode cX0_ofArticle 88 = .ok (.iconst 0, 1) := dk_3 (dk_at dksX0_ofArticle_3 12 rfl rfl)
theorem dX0_ofArticle_89 : decode cX0_ofArticle 89 = .ok (.invokevirtual 308, 3) := dk_182 1 52 (dk_at dksX0_ofArticle_3 13 rfl rfl)
theorem dX0_ofArticle_92 : decode cX0_ofArticle 92 = .ok (.ireturn, 1) := dk_172 (dk_at dksX0_ofArticle_3 16 rfl rfl)
theorem dX0_ofArticle_93 : decode cX0_ofArticle 93 = .ok (.aload_n 0, 1) := dk_42 (dk_at dksX0_ofArticle_3 17 rfl rfl)
theorem dX0_ofArticle_94 : decode cX0_ofArticle 94 = .ok (.iload_n 1, 1) := dk_27 (dk_at dksX0_ofArticle_3 18 rfl rfl)
theorem dX0_ofArticle_95 : decode cX0_ofArticle 95 = .ok (.invokevirtual 311, 3) := dk_182 1 55 (dk_at dksX0_ofArticle_3 19 rfl rfl)
theorem dX0_ofArticle_98 : decode cX0_ofArticle 98 = .ok (.ireturn, 1) := dk_172 (dk_at dksX0_ofArticle_3 22 rfl rfl)
theorem dX0_ofArticle_99 : decode cX0_ofArticle 99 = .ok (.iload_n 1, 1) := dk_27 (dk_at dksX0_ofArticle_3 23 rfl rfl)
theorem dX0_ofArticle_100 : decode cX0_ofArticle 100 = .ok (.aload_n 0, 1) := dk_42 (dk_at dksX0_ofArticle_4 0 rfl rfl)
theorem dX0_ofArticle_101 : decode cX0_ofArticle 101 = .ok (.getfield 213, 3) := dk_180 0 213 (dk_at dksX0_ofArticle_4 1 rfl rfl)
theorem dX0_ofArticle_104 : decode cX0_ofArticle 104 = .ok (.if_icmp .ge 7, 3) := dk_162 0 7 (dk_at dksX0_ofArticle_4 4 rfl rfl)
theorem dX0_ofArticle_107 : decode cX0_ofArticle 107 = .ok (.iconst 0, 1) := dk_3 (dk_at dksX0_ofArticle_4 7 rfl rfl)
theorem dX0_ofArticle_108 : decode cX0_ofArticle 108 = .ok (.goto 4, 3) := dk_167 0 4 (dk_at dksX0_ofArticle_4 8 rfl rfl)
theorem dX0_ofArticle_111 : decode cX0_ofArticle 111 = .ok (.iconst 1, 1) := dk_4 (dk_at dksX0_ofArticle_4 11 rfl rfl)
theorem dX0_ofArticle_112 : decode cX0_ofArticle 112 = .ok (.ireturn, 1) := dk_172 (dk_at dksX0_ofArticle_4 12 rfl rfl)
theorem dX0_ofArticle_113 : decode cX0_ofArticle 113 = .ok (.aload_n 0, 1) := dk_42 (dk_at dksX0_ofArticle_4 13 rfl rfl)
theorem dX0_ofArticle_114 : decode cX0_ofArticle 114 = .ok (.iload_n 1, 1) := dk_27 (dk_at dksX0_ofArticle_4 14 rfl rfl)
theorem dX0_ofArticle_115 : decode cX0_ofArticle 115 = .ok (.invokevirtual 314, 3) := dk_182 1 58 (dk_at dksX0_ofArticle_4 15 rfl rfl)
theorem dX0_ofArticle_118 : decode cX0_ofArticle 118 = .ok (.ifCond .eq 7, 3) := dk_153 0 7 (dk_at dksX0_ofArticle_4 18 rfl rfl)
theorem dX0_ofArticle_121 : decode cX0_ofArticle 121 = .ok (.iconst 1, 1) := dk_4 (dk_at dksX0_ofArticle_4 21 rfl rfl)
theorem dX0_ofArticle_122 : decode cX0_ofArticle 122 = .ok (.goto 4, 3) := dk_167 0 4 (dk_at dksX0_ofArticle_5 0 rfl rfl)
theorem dX0_ofArticle_125 : decode cX0_ofArticle 125 = .ok (.iconst 0, 1) := dk_3 (dk_at dksX0_ofArticle_5 3 rfl rfl)
theorem dX0_ofArticle_126 : decode cX0_ofArticle 126 = .ok (.ireturn, 1) := dk_172 (dk_at dksX0_ofArticle_5 4 rfl rfl)
theorem dX0_ofArticle_127 : decode cX0_ofArticle 127 = .ok (.bipush (-2), 2) := dk_16 254 (dk_at dksX0_ofArticle_5 5 rfl rfl)
theorem dX0_ofArticle_129 : decode cX0_ofArticle 129 = .ok (.ireturn, 1) := dk_172 (dk_at dksX0_ofArticle_5 7 rfl rfl)
abbrev cX0_isArticle : ByteArray := prog_1_method_37_code
def yX0_isArticle : MethodName := ⟨RX0, "isArticle", "(I)Z"⟩
def dkwX0_isArticle_0 : List UInt8 := [42, 182, 0, 233, 27, 3, 42, 180, 0, 24, 185, 0, 27, 1, 0, 4, 100, 184, 0, 50, 172]
abbrev dktX0_isArticle_0 : List UInt8 := dkwX0_isArticle_0 ++ []
theorem dksX0_isArticle_0 : cX0_isArticle.data.toList.drop 0 = dktX0_isArticle_0 := by decide +kernel
theorem dX0_isArticle_0 : decode cX0_isArticle 0 = .ok (.aload_n 0, 1) := dk_42 (dk_at dksX0_isArticle_0 0 rfl rfl)
theorem dX0_isArticle_1 : decode cX0_isArticle 1 = .ok (.invokevirtual 233, 3) := dk_182 0 233 (dk_at dksX0_isArticle_0 1 rfl rfl)
theorem dX0_isArticle_4 : decode cX0_isArticle 4 = .ok (.iload_n 1, 1) := dk_27 (dk_at dksX0_isArticle_0 4 rfl rfl)
theorem dX0_isArticle_5 : decode cX0_isArticle 5 = .ok (.iconst 0, 1) := dk_3 (dk_at dksX0_isArticle_0 5 rfl rfl)
theorem dX0_isArticle_6 : decode cX0_isArticle 6 = .ok (.aload_n 0, 1) := dk_42 (dk_at dksX0_isArticle_0 6 rfl rfl)
theorem dX0_isArticle_7 : decode cX0_isArticle 7 = .ok (.getfield 24, 3) := dk_180 0 24 (dk_at dksX0_isArticle_0 7 rfl rfl)
theorem dX0_isArticle_10 : decode cX0_isArticle 10 = .ok (.invokeinterface 27 1, 5) := by decide +kernel
theorem dX0_isArticle_15 : decode cX0_isArticle 15 = .ok (.iconst 1, 1) := dk_4 (dk_at dksX0_isArticle_0 15 rfl rfl)
theorem dX0_isArticle_16 : decode cX0_isArticle 16 = .ok (.isub, 1) := dk_100 (dk_at dksX0_isArticle_0 16 rfl rfl)
theorem dX0_isArticle_17 : decode cX0_isArticle 17 = .ok (.invokestatic 50, 3) := dk_184 0 50 (dk_at dksX0_isArticle_0 17 rfl rfl)
theorem dX0_isArticle_20 : decode cX0_isArticle 20 = .ok (.ireturn, 1) := dk_172 (dk_at dksX0_isArticle_0 20 rfl rfl)
abbrev cX0_sum : ByteArray := prog_1_method_38_code
def yX0_sum : MethodName := ⟨RX0, "sum", "(IZZ)I"⟩
def dkwX0_sum_2 : List UInt8 := [25, 6, 182, 1, 34, 167, 255, 227, 25, 4, 180, 1, 37, 172]
abbrev dktX0_sum_2 : List UInt8 := dkwX0_sum_2 ++ []
def dkwX0_sum_1 : List UInt8 := [25, 5, 185, 0, 75, 1, 0, 153, 0, 25, 25, 5, 185, 0, 81, 1, 0, 192, 0, 156, 58, 6, 25, 4]
abbrev dktX0_sum_1 : List UInt8 := dkwX0_sum_1 ++ dktX0_sum_2
def dkwX0_sum_0 : List UInt8 := [187, 1, 22, 89, 42, 28, 29, 183, 1, 24, 58, 4, 42, 27, 182, 1, 27, 185, 1, 31, 1, 0, 58, 5]
abbrev dktX0_sum_0 : List UInt8 := dkwX0_sum_0 ++ dktX0_sum_1
theorem dksX0_sum_0 : cX0_sum.data.toList.drop 0 = dktX0_sum_0 := by decide +kernel
theorem dksX0_sum_1 : cX0_sum.data.toList.drop 24 = dktX0_sum_1 := dk_seg dksX0_sum_0 24 rfl rfl
theorem dksX0_sum_2 : cX0_sum.data.toList.drop 48 = dktX0_sum_2 := dk_seg dksX0_sum_1 24 rfl rfl
theorem dX0_sum_0 : decode cX0_sum 0 = .ok (.new 278, 3) := dk_187 1 22 (dk_at dksX0_sum_0 0 rfl rfl)
theorem dX0_sum_3 : decode cX0_sum 3 = .ok (.dup, 1) := dk_89 (dk_at dksX0_sum_0 3 rfl rfl)
theorem dX0_sum_4 : decode cX0_sum 4 = .ok (.aload_n 0, 1) := dk_42 (dk_at dksX0_sum_0 4 rfl rfl)
theorem dX0_sum_5 : decode cX0_sum 5 = .ok (.iload_n 2, 1) := dk_28 (dk_at dksX0_sum_0 5 rfl rfl)
theorem dX0_sum_6 : decode cX0_sum 6 = .ok (.iload_n 3, 1) := dk_29 (dk_at dksX0_sum_0 6 rfl rfl)
theorem dX0_sum_7 : decode cX0_sum 7 = .ok (.invokespecial 280, 3) := dk_183 1 24 (dk_at dksX0_sum_0 7 rfl rfl)
theorem dX0_sum_10 : decode cX0_sum 10 = .ok (.astore 4, 2) := dk_58 4 (dk_at dksX0_sum_0 10 rfl rfl)
theorem dX0_sum_12 : decode cX0_sum 12 = .ok (.aload_n 0, 1) := dk_42 (dk_at dksX0_sum_0 12 rfl rfl)
theorem dX0_sum_13 : decode cX0_sum 13 = .ok (.iload_n 1, 1) := dk_27 (dk_at dksX0_sum_0 13 rfl rfl)
theorem dX0_sum_14 : decode cX0_sum 14 = .ok (.invokevirtual 283, 3) := dk_182 1 27 (dk_at dksX0_sum_0 14 rfl rfl)
theorem dX0_sum_17 : decode cX0_sum 17 = .ok (.invokeinterface 287 1, 5) := by decide +kernel
theorem dX0_sum_22 : decode cX0_sum 22 = .ok (.astore 5, 2) := dk_58 5 (dk_at dksX0_sum_0 22 rfl rfl)
theorem dX0_sum_24 : decode cX0_sum 24 = .ok (.aload 5, 2) := dk_25 5 (dk_at dksX0_sum_1 0 rfl rfl)
theorem dX0_sum_26 : decode cX0_sum 26 = .ok (.invokeinterface 75 1, 5) := by decide +kernel
theorem dX0_sum_31 : decode cX0_sum 31 = .ok (.ifCond .eq 25, 3) := dk_153 0 25 (dk_at dksX0_sum_1 7 rfl rfl)
theorem dX0_sum_34 : decode cX0_sum 34 = .ok (.aload 5, 2) := dk_25 5 (dk_at dksX0_sum_1 10 rfl rfl)
theorem dX0_sum_36 : decode cX0_sum 36 = .ok (.invokeinterface 81 1, 5) := by decide +kernel
theorem dX0_sum_41 : decode cX0_sum 41 = .ok (.checkcast 156, 3) := dk_192 0 156 (dk_at dksX0_sum_1 17 rfl rfl)
theorem dX0_sum_44 : decode cX0_sum 44 = .ok (.astore 6, 2) := dk_58 6 (dk_at dksX0_sum_1 20 rfl rfl)
theorem dX0_sum_46 : decode cX0_sum 46 = .ok (.aload 4, 2) := dk_25 4 (dk_at dksX0_sum_1 22 rfl rfl)
theorem dX0_sum_48 : decode cX0_sum 48 = .ok (.aload 6, 2) := dk_25 6 (dk_at dksX0_sum_2 0 rfl rfl)
theorem dX0_sum_50 : decode cX0_sum 50 = .ok (.invokevirtual 290, 3) := dk_182 1 34 (dk_at dksX0_sum_2 2 rfl rfl)
theorem dX0_sum_53 : decode cX0_sum 53 = .ok (.goto (-29), 3) := dk_167 255 227 (dk_at dksX0_sum_2 5 rfl rfl)
theorem dX0_sum_56 : decode cX0_sum 56 = .ok (.aload 4, 2) := dk_25 4 (dk_at dksX0_sum_2 8 rfl rfl)
theorem dX0_sum_58 : decode cX0_sum 58 = .ok (.getfield 293, 3) := dk_180 1 37 (dk_at dksX0_sum_2 10 rfl rfl)
theorem dX0_sum_61 : decode cX0_sum 61 = .ok (.ireturn, 1) := dk_172 (dk_at dksX0_sum_2 13 rfl rfl)
abbrev cX0_chain : ByteArray := prog_1_method_36_code
def yX0_chain : MethodName := ⟨RX0, "chain", "(I)Ljava/lang/Iterable;"⟩
def dkwX0_chain_0 : List UInt8 := [42, 180, 0, 24, 27, 185, 0, 33, 2, 0, 192, 0, 156, 77, 187, 1, 17, 89, 42, 44, 183, 1, 19, 176]
abbrev dktX0_chain_0 : List UInt8 := dkwX0_chain_0 ++ []
theorem dksX0_chain_0 : cX0_chain.data.toList.drop 0 = dktX0_chain_0 := by decide +kernel
theorem dX0_chain_0 : decode cX0_chain 0 = .ok (.aload_n 0, 1) := dk_42 (dk_at dksX0_chain_0 0 rfl rfl)
theorem dX0_chain_1 : decode cX0_chain 1 = .ok (.getfield 24, 3) := dk_180 0 24 (dk_at dksX0_chain_0 1 rfl rfl)
theorem dX0_chain_4 : decode cX0_chain 4 = .ok (.iload_n 1, 1) := dk_27 (dk_at dksX0_chain_0 4 rfl rfl)
theorem dX0_chain_5 : decode cX0_chain 5 = .ok (.invokeinterface 33 2, 5) := by decide +kernel
theorem dX0_chain_10 : decode cX0_chain 10 = .ok (.checkcast 156, 3) := dk_192 0 156 (dk_at dksX0_chain_0 10 rfl rfl)
theorem dX0_chain_13 : decode cX0_chain 13 = .ok (.astore_n 2, 1) := dk_77 (dk_at dksX0_chain_0 13 rfl rfl)
theorem dX0_chain_14 : decode cX0_chain 14 = .ok (.new 273, 3) := dk_187 1 17 (dk_at dksX0_chain_0 14 rfl rfl)
theorem dX0_chain_17 : decode cX0_chain 17 = .ok (.dup, 1) := dk_89 (dk_at dksX0_chain_0 17 rfl rfl)
theorem dX0_chain_18 : decode cX0_chain 18 = .ok (.aload_n 0, 1) := dk_42 (dk_at dksX0_chain_0 18 rfl rfl)
theorem dX0_chain_19 : decode cX0_chain 19 = .ok (.aload_n 2, 1) := dk_44 (dk_at dksX0_chain_0 19 rfl rfl)
theorem dX0_chain_20 : decode cX0_chain 20 = .ok (.invokespecial 275, 3) := dk_183 1 19 (dk_at dksX0_chain_0 20 rfl rfl)
theorem dX0_chain_23 : decode cX0_chain 23 = .ok (.areturn, 1) := dk_176 (dk_at dksX0_chain_0 23 rfl rfl)
abbrev cX0_pagesOf : ByteArray := prog_1_method_39_code
def yX0_pagesOf : MethodName := ⟨RX0, "pagesOf", "(I)I"⟩
def dkwX0_pagesOf_1 : List UInt8 := [182, 1, 46, 180, 0, 131, 120, 128, 61, 167, 255, 237, 28, 172]
abbrev dktX0_pagesOf_1 : List UInt8 := dkwX0_pagesOf_1 ++ []
def dkwX0_pagesOf_0 : List UInt8 := [3, 61, 187, 1, 40, 89, 42, 27, 183, 1, 42, 78, 45, 182, 1, 45, 153, 0, 18, 28, 4, 45]
abbrev dktX0_pagesOf_0 : List UInt8 := dkwX0_pagesOf_0 ++ dktX0_pagesOf_1
theorem dksX0_pagesOf_0 : cX0_pagesOf.data.toList.drop 0 = dktX0_pagesOf_0 := by decide +kernel
theorem dksX0_pagesOf_1 : cX0_pagesOf.data.toList.drop 22 = dktX0_pagesOf_1 := dk_seg dksX0_pagesOf_0 22 rfl rfl
theorem dX0_pagesOf_0 : decode cX0_pagesOf 0 = .ok (.iconst 0, 1) := dk_3 (dk_at dksX0_pagesOf_0 0 rfl rfl)
theorem dX0_pagesOf_1 : decode cX0_pagesOf 1 = .ok (.istore_n 2, 1) := dk_61 (dk_at dksX0_pagesOf_0 1 rfl rfl)
theorem dX0_pagesOf_2 : decode cX0_pagesOf 2 = .ok (.new 296, 3) := dk_187 1 40 (dk_at dksX0_pagesOf_0 2 rfl rfl)
theorem dX0_pagesOf_5 : decode cX0_pagesOf 5 = .ok (.dup, 1) := dk_89 (dk_at dksX0_pagesOf_0 5 rfl rfl)
theorem dX0_pagesOf_6 : decode cX0_pagesOf 6 = .ok (.aload_n 0, 1) := dk_42 (dk_at dksX0_pagesOf_0 6 rfl rfl)
theorem dX0_pagesOf_7 : decode cX0_pagesOf 7 = .ok (.iload_n 1, 1) := dk_27 (dk_at dksX0_pagesOf_0 7 rfl rfl)
theorem dX0_pagesOf_8 : decode cX0_pagesOf 8 = .ok (.invokespecial 298, 3) := dk_183 1 42 (dk_at dksX0_pagesOf_0 8 rfl rfl)
theorem dX0_pagesOf_11 : decode cX0_pagesOf 11 = .ok (.astore_n 3, 1) := dk_78 (dk_at dksX0_pagesOf_0 11 rfl rfl)
theorem dX0_pagesOf_12 : decode cX0_pagesOf 12 = .ok (.aload_n 3, 1) := dk_45 (dk_at dksX0_pagesOf_0 12 rfl rfl)
theorem dX0_pagesOf_13 : decode cX0_pagesOf 13 = .ok (.invokevirtual 301, 3) := dk_182 1 45 (dk_at dksX0_pagesOf_0 13 rfl rfl)
theorem dX0_pagesOf_16 : decode cX0_pagesOf 16 = .ok (.ifCond .eq 18, 3) := dk_153 0 18 (dk_at dksX0_pagesOf_0 16 rfl rfl)
theorem dX0_pagesOf_19 : decode cX0_pagesOf 19 = .ok (.iload_n 2, 1) := dk_28 (dk_at dksX0_pagesOf_0 19 rfl rfl)
theorem dX0_pagesOf_20 : decode cX0_pagesOf 20 = .ok (.iconst 1, 1) := dk_4 (dk_at dksX0_pagesOf_0 20 rfl rfl)
theorem dX0_pagesOf_21 : decode cX0_pagesOf 21 = .ok (.aload_n 3, 1) := dk_45 (dk_at dksX0_pagesOf_0 21 rfl rfl)
theorem dX0_pagesOf_22 : decode cX0_pagesOf 22 = .ok (.invokevirtual 302, 3) := dk_182 1 46 (dk_at dksX0_pagesOf_1 0 rfl rfl)
theorem dX0_pagesOf_25 : decode cX0_pagesOf 25 = .ok (.getfield 131, 3) := dk_180 0 131 (dk_at dksX0_pagesOf_1 3 rfl rfl)
theorem dX0_pagesOf_28 : decode cX0_pagesOf 28 = .ok (.ishl, 1) := dk_120 (dk_at dksX0_pagesOf_1 6 rfl rfl)
theorem dX0_pagesOf_29 : decode cX0_pagesOf 29 = .ok (.ior, 1) := dk_128 (dk_at dksX0_pagesOf_1 7 rfl rfl)
theorem dX0_pagesOf_30 : decode cX0_pagesOf 30 = .ok (.istore_n 2, 1) := dk_61 (dk_at dksX0_pagesOf_1 8 rfl rfl)
theorem dX0_pagesOf_31 : decode cX0_pagesOf 31 = .ok (.goto (-19), 3) := dk_167 255 237 (dk_at dksX0_pagesOf_1 9 rfl rfl)
theorem dX0_pagesOf_34 : decode cX0_pagesOf 34 = .ok (.iload_n 2, 1) := dk_28 (dk_at dksX0_pagesOf_1 12 rfl rfl)
theorem dX0_pagesOf_35 : decode cX0_pagesOf 35 = .ok (.ireturn, 1) := dk_172 (dk_at dksX0_pagesOf_1 13 rfl rfl)
abbrev cX0_isBrokenOff : ByteArray := prog_1_method_40_code
def yX0_isBrokenOff : MethodName := ⟨RX0, "isBrokenOff", "(I)Z"⟩
def dkwX0_isBrokenOff_2 : List UInt8 := [153, 0, 7, 4, 167, 0, 4, 3, 172]
abbrev dktX0_isBrokenOff_2 : List UInt8 := dkwX0_isBrokenOff_2 ++ []
def dkwX0_isBrokenOff_1 : List UInt8 := [185, 0, 81, 1, 0, 192, 0, 156, 58, 4, 25, 4, 77, 167, 255, 233, 44, 198, 0, 14, 44, 182, 1, 1]
abbrev dktX0_isBrokenOff_1 : List UInt8 := dkwX0_isBrokenOff_1 ++ dktX0_isBrokenOff_2
def dkwX0_isBrokenOff_0 : List UInt8 := [1, 77, 42, 27, 182, 1, 27, 185, 1, 31, 1, 0, 78, 45, 185, 0, 75, 1, 0, 153, 0, 20, 45]
abbrev dktX0_isBrokenOff_0 : List UInt8 := dkwX0_isBrokenOff_0 ++ dktX0_isBrokenOff_1
theorem dksX0_isBrokenOff_0 : cX0_isBrokenOff.data.toList.drop 0 = dktX0_isBrokenOff_0 := by decide +kernel
theorem dksX0_isBrokenOff_1 : cX0_isBrokenOff.data.toList.drop 23 = dktX0_isBrokenOff_1 := dk_seg dksX0_isBrokenOff_0 23 rfl rfl
theorem dksX0_isBrokenOff_2 : cX0_isBrokenOff.data.toList.drop 47 = dktX0_isBrokenOff_2 := dk_seg dksX0_isBrokenOff_1 24 rfl rfl
theorem dX0_isBrokenOff_0 : decode cX0_isBrokenOff 0 = .ok (.aconst_null, 1) := dk_1 (dk_at dksX0_isBrokenOff_0 0 rfl rfl)
theorem dX0_isBrokenOff_1 : decode cX0_isBrokenOff 1 = .ok (.astore_n 2, 1) := dk_77 (dk_at dksX0_isBrokenOff_0 1 rfl rfl)
theorem dX0_isBrokenOff_2 : decode cX0_isBrokenOff 2 = .ok (.aload_n 0, 1) := dk_42 (dk_at dksX0_isBrokenOff_0 2 rfl rfl)
theorem dX0_isBrokenOff_3 : decode cX0_isBrokenOff 3 = .ok (.iload_n 1, 1) := dk_27 (dk_at dksX0_isBrokenOff_0 3 rfl rfl)
theorem dX0_isBrokenOff_4 : decode cX0_isBrokenOff 4 = .ok (.invokevirtual 283, 3) := dk_182 1 27 (dk_at dksX0_isBrokenOff_0 4 rfl rfl)
theorem dX0_isBrokenOff_7 : decode cX0_isBrokenOff 7 = .ok (.invokeinterface 287 1, 5) := by decide +kernel
theorem dX0_isBrokenOff_12 : decode cX0_isBrokenOff 12 = .ok (.astore_n 3, 1) := dk_78 (dk_at dksX0_isBrokenOff_0 12 rfl rfl)
theorem dX0_isBrokenOff_13 : decode cX0_isBrokenOff 13 = .ok (.aload_n 3, 1) := dk_45 (dk_at dksX0_isBrokenOff_0 13 rfl rfl)
theorem dX0_isBrokenOff_14 : decode cX0_isBrokenOff 14 = .ok (.invokeinterface 75 1, 5) := by decide +kernel
theorem dX0_isBrokenOff_19 : decode cX0_isBrokenOff 19 = .ok (.ifCond .eq 20, 3) := dk_153 0 20 (dk_at dksX0_isBrokenOff_0 19 rfl rfl)
theorem dX0_isBrokenOff_22 : decode cX0_isBrokenOff 22 = .ok (.aload_n 3, 1) := dk_45 (dk_at dksX0_isBrokenOff_0 22 rfl rfl)
theorem dX0_isBrokenOff_23 : decode cX0_isBrokenOff 23 = .ok (.invokeinterface 81 1, 5) := by decide +kernel
theorem dX0_isBrokenOff_28 : decode cX0_isBrokenOff 28 = .ok (.checkcast 156, 3) := dk_192 0 156 (dk_at dksX0_isBrokenOff_1 5 rfl rfl)
theorem dX0_isBrokenOff_31 : decode cX0_isBrokenOff 31 = .ok (.astore 4, 2) := dk_58 4 (dk_at dksX0_isBrokenOff_1 8 rfl rfl)
theorem dX0_isBrokenOff_33 : decode cX0_isBrokenOff 33 = .ok (.aload 4, 2) := dk_25 4 (dk_at dksX0_isBrokenOff_1 10 rfl rfl)
theorem dX0_isBrokenOff_35 : decode cX0_isBrokenOff 35 = .ok (.astore_n 2, 1) := dk_77 (dk_at dksX0_isBrokenOff_1 12 rfl rfl)
theorem dX0_isBrokenOff_36 : decode cX0_isBrokenOff 36 = .ok (.goto (-23), 3) := dk_167 255 233 (dk_at dksX0_isBrokenOff_1 13 rfl rfl)
theorem dX0_isBrokenOff_39 : decode cX0_isBrokenOff 39 = .ok (.aload_n 2, 1) := dk_44 (dk_at dksX0_isBrokenOff_1 16 rfl rfl)
theorem dX0_isBrokenOff_40 : decode cX0_isBrokenOff 40 = .ok (.ifnull 14, 3) := dk_198 0 14 (dk_at dksX0_isBrokenOff_1 17 rfl rfl)
theorem dX0_isBrokenOff_43 : decode cX0_isBrokenOff 43 = .ok (.aload_n 2, 1) := dk_44 (dk_at dksX0_isBrokenOff_1 20 rfl rfl)
theorem dX0_isBrokenOff_44 : decode cX0_isBrokenOff 44 = .ok (.invokevirtual 257, 3) := dk_182 1 1 (dk_at dksX0_isBrokenOff_1 21 rfl rfl)
theorem dX0_isBrokenOff_47 : decode cX0_isBrokenOff 47 = .ok (.ifCond .eq 7, 3) := dk_153 0 7 (dk_at dksX0_isBrokenOff_2 0 rfl rfl)
theorem dX0_isBrokenOff_50 : decode cX0_isBrokenOff 50 = .ok (.iconst 1, 1) := dk_4 (dk_at dksX0_isBrokenOff_2 3 rfl rfl)
theorem dX0_isBrokenOff_51 : decode cX0_isBrokenOff 51 = .ok (.goto 4, 3) := dk_167 0 4 (dk_at dksX0_isBrokenOff_2 4 rfl rfl)
theorem dX0_isBrokenOff_54 : decode cX0_isBrokenOff 54 = .ok (.iconst 0, 1) := dk_3 (dk_at dksX0_isBrokenOff_2 7 rfl rfl)
theorem dX0_isBrokenOff_55 : decode cX0_isBrokenOff 55 = .ok (.ireturn, 1) := dk_172 (dk_at dksX0_isBrokenOff_2 8 rfl rfl)
abbrev cX0_read : ByteArray := prog_1_method_42_code
def yX0_read : MethodName := ⟨RX0, "read", "(II)I"⟩
def dkwX0_read_2 : List UInt8 := [182, 1, 46, 58, 5, 29, 154, 0, 9, 25, 5, 180, 0, 150, 172, 132, 3, 255, 167, 255, 228, 16, 247, 172]
abbrev dktX0_read_2 : List UInt8 := dkwX0_read_2 ++ []
def dkwX0_read_1 : List UInt8 := [62, 187, 1, 40, 89, 42, 27, 183, 1, 42, 58, 4, 25, 4, 182, 1, 45, 153, 0, 26, 25, 4]
abbrev dktX0_read_1 : List UInt8 := dkwX0_read_1 ++ dktX0_read_2
def dkwX0_read_0 : List UInt8 := [42, 27, 182, 1, 49, 154, 0, 5, 2, 172, 28, 3, 16, 23, 184, 0, 50, 154, 0, 6, 16, 254, 172, 28]
abbrev dktX0_read_0 : List UInt8 := dkwX0_read_0 ++ dktX0_read_1
theorem dksX0_read_0 : cX0_read.data.toList.drop 0 = dktX0_read_0 := by decide +kernel
theorem dksX0_read_1 : cX0_read.data.toList.drop 24 = dktX0_read_1 := dk_seg dksX0_read_0 24 rfl rfl
theorem dksX0_read_2 : cX0_read.data.toList.drop 46 = dktX0_read_2 := dk_seg dksX0_read_1 22 rfl rfl
theorem dX0_read_0 : decode cX0_read 0 = .ok (.aload_n 0, 1) := dk_42 (dk_at dksX0_read_0 0 rfl rfl)
theorem dX0_read_1 : decode cX0_read 1 = .ok (.iload_n 1, 1) := dk_27 (dk_at dksX0_read_0 1 rfl rfl)
theorem dX0_read_2 : decode cX0_read 2 = .ok (.invokevirtual 305, 3) := dk_182 1 49 (dk_at dksX0_read_0 2 rfl rfl)
theorem dX0_read_5 : decode cX0_read 5 = .ok (.ifCond .ne 5, 3) := dk_154 0 5 (dk_at dksX0_read_0 5 rfl rfl)
theorem dX0_read_8 : decode cX0_read 8 = .ok (.iconst (-1), 1) := dk_2 (dk_at dksX0_read_0 8 rfl rfl)
theorem dX0_read_9 : decode cX0_read 9 = .ok (.ireturn, 1) := dk_172 (dk_at dksX0_read_0 9 rfl rfl)
theorem dX0_read_10 : decode cX0_read 10 = .ok (.iload_n 2, 1) := dk_28 (dk_at dksX0_read_0 10 rfl rfl)
theorem dX0_read_11 : decode cX0_read 11 = .ok (.iconst 0, 1) := dk_3 (dk_at dksX0_read_0 11 rfl rfl)
theorem dX0_read_12 : decode cX0_read 12 = .ok (.bipush 23, 2) := dk_16 23 (dk_at dksX0_read_0 12 rfl rfl)
theorem dX0_read_14 : decode cX0_read 14 = .ok (.invokestatic 50, 3) := dk_184 0 50 (dk_at dksX0_read_0 14 rfl rfl)
theorem dX0_read_17 : decode cX0_read 17 = .ok (.ifCond .ne 6, 3) := dk_154 0 6 (dk_at dksX0_read_0 17 rfl rfl)
theorem dX0_read_20 : decode cX0_read 20 = .ok (.bipush (-2), 2) := dk_16 254 (dk_at dksX0_read_0 20 rfl rfl)
theorem dX0_read_22 : decode cX0_read 22 = .ok (.ireturn, 1) := dk_172 (dk_at dksX0_read_0 22 rfl rfl)
theorem dX0_read_23 : decode cX0_read 23 = .ok (.iload_n 2, 1) := dk_28 (dk_at dksX0_read_0 23 rfl rfl)
theorem dX0_read_24 : decode cX0_read 24 = .ok (.istore_n 3, 1) := dk_62 (dk_at dksX0_read_1 0 rfl rfl)
theorem dX0_read_25 : decode cX0_read 25 = .ok (.new 296, 3) := dk_187 1 40 (dk_at dksX0_read_1 1 rfl rfl)
theorem dX0_read_28 : decode cX0_read 28 = .ok (.dup, 1) := dk_89 (dk_at dksX0_read_1 4 rfl rfl)
theorem dX0_read_29 : decode cX0_read 29 = .ok (.aload_n 0, 1) := dk_42 (dk_at dksX0_read_1 5 rfl rfl)
theorem dX0_read_30 : decode cX0_read 30 = .ok (.iload_n 1, 1) := dk_27 (dk_at dksX0_read_1 6 rfl rfl)
theorem dX0_read_31 : decode cX0_read 31 = .ok (.invokespecial 298, 3) := dk_183 1 42 (dk_at dksX0_read_1 7 rfl rfl)
theorem dX0_read_34 : decode cX0_read 34 = .ok (.astore 4, 2) := dk_58 4 (dk_at dksX0_read_1 10 rfl rfl)
theorem dX0_read_36 : decode cX0_read 36 = .ok (.aload 4, 2) := dk_25 4 (dk_at dksX0_read_1 12 rfl rfl)
theorem dX0_read_38 : decode cX0_read 38 = .ok (.invokevirtual 301, 3) := dk_182 1 45 (dk_at dksX0_read_1 14 rfl rfl)
theorem dX0_read_41 : decode cX0_read 41 = .ok (.ifCond .eq 26, 3) := dk_153 0 26 (dk_at dksX0_read_1 17 rfl rfl)
theorem dX0_read_44 : decode cX0_read 44 = .ok (.aload 4, 2) := dk_25 4 (dk_at dksX0_read_1 20 rfl rfl)
theorem dX0_read_46 : decode cX0_read 46 = .ok (.invokevirtual 302, 3) := dk_182 1 46 (dk_at dksX0_read_2 0 rfl rfl)
theorem dX0_read_49 : decode cX0_read 49 = .ok (.astore 5, 2) := dk_58 5 (dk_at dksX0_read_2 3 rfl rfl)
theorem dX0_read_51 : decode cX0_read 51 = .ok (.iload_n 3, 1) := dk_29 (dk_at dksX0_read_2 5 rfl rfl)
theorem dX0_read_52 : decode cX0_read 52 = .ok (.ifCond .ne 9, 3) := dk_154 0 9 (dk_at dksX0_read_2 6 rfl rfl)
theorem dX0_read_55 : decode cX0_read 55 = .ok (.aload 5, 2) := dk_25 5 (dk_at dksX0_read_2 9 rfl rfl)
theorem dX0_read_57 : decode cX0_read 57 = .ok (.getfield 150, 3) := dk_180 0 150 (dk_at dksX0_read_2 11 rfl rfl)
theorem dX0_read_60 : decode cX0_read 60 = .ok (.ireturn, 1) := dk_172 (dk_at dksX0_read_2 14 rfl rfl)
theorem dX0_read_61 : decode cX0_read 61 = .ok (.iinc 3 (-1), 3) := dk_132 3 255 (dk_at dksX0_read_2 15 rfl rfl)
theorem dX0_read_64 : decode cX0_read 64 = .ok (.goto (-28), 3) := dk_167 255 228 (dk_at dksX0_read_2 18 rfl rfl)
theorem dX0_read_67 : decode cX0_read 67 = .ok (.bipush (-9), 2) := dk_16 247 (dk_at dksX0_read_2 21 rfl rfl)
theorem dX0_read_69 : decode cX0_read 69 = .ok (.ireturn, 1) := dk_172 (dk_at dksX0_read_2 23 rfl rfl)
abbrev cX0_many : ByteArray := prog_1_method_46_code
def yX0_many : MethodName := ⟨RX0, "many", "(I)I"⟩
def dkwX0_many_5 : List UInt8 := [180, 0, 213, 100, 172, 42, 182, 1, 67, 172, 16, 254, 172]
abbrev dktX0_many_5 : List UInt8 := dkwX0_many_5 ++ []
def dkwX0_many_4 : List UInt8 := [182, 1, 64, 172, 42, 180, 0, 24, 185, 0, 27, 1, 0, 172, 42, 180, 0, 24, 185, 0, 27, 1, 0, 42]
abbrev dktX0_many_4 : List UInt8 := dkwX0_many_4 ++ dktX0_many_5
def dkwX0_many_3 : List UInt8 := [182, 1, 61, 172, 42, 4, 182, 1, 61, 172, 42, 180, 0, 21, 185, 0, 27, 1, 0, 172, 42, 27]
abbrev dktX0_many_3 : List UInt8 := dkwX0_many_3 ++ dktX0_many_4
def dkwX0_many_2 : List UInt8 := [42, 180, 0, 14, 185, 0, 27, 1, 0, 172, 42, 180, 0, 18, 185, 0, 27, 1, 0, 172, 42, 3]
abbrev dktX0_many_2 : List UInt8 := dkwX0_many_2 ++ dktX0_many_3
def dkwX0_many_1 : List UInt8 := [170, 0, 0, 0, 0, 0, 141, 0, 0, 0, 0, 0, 0, 0, 11, 0, 0, 0, 63, 0, 0, 0, 73, 0, 0, 0, 83, 0, 0, 0, 89, 0, 0, 0, 95, 0, 0, 0, 105, 0, 0, 0, 105, 0, 0, 0, 111, 0, 0, 0, 121, 0, 0, 0, 136, 0, 0, 0, 105, 0, 0, 0, 105]
abbrev dktX0_many_1 : List UInt8 := dkwX0_many_1 ++ dktX0_many_2
def dkwX0_many_0 : List UInt8 := [42, 182, 0, 233, 27]
abbrev dktX0_many_0 : List UInt8 := dkwX0_many_0 ++ dktX0_many_1
theorem dksX0_many_0 : cX0_many.data.toList.drop 0 = dktX0_many_0 := by decide +kernel
theorem dksX0_many_1 : cX0_many.data.toList.drop 5 = dktX0_many_1 := dk_seg dksX0_many_0 5 rfl rfl
theorem dksX0_many_2 : cX0_many.data.toList.drop 68 = dktX0_many_2 := dk_seg dksX0_many_1 63 rfl rfl
theorem dksX0_many_3 : cX0_many.data.toList.drop 90 = dktX0_many_3 := dk_seg dksX0_many_2 22 rfl rfl
theorem dksX0_many_4 : cX0_many.data.toList.drop 112 = dktX0_many_4 := dk_seg dksX0_many_3 22 rfl rfl
theorem dksX0_many_5 : cX0_many.data.toList.drop 136 = dktX0_many_5 := dk_seg dksX0_many_4 24 rfl rfl
theorem dX0_many_0 : decode cX0_many 0 = .ok (.aload_n 0, 1) := dk_42 (dk_at dksX0_many_0 0 rfl rfl)
theorem dX0_many_1 : decode cX0_many 1 = .ok (.invokevirtual 233, 3) := dk_182 0 233 (dk_at dksX0_many_0 1 rfl rfl)
theorem dX0_many_4 : decode cX0_many 4 = .ok (.iload_n 1, 1) := dk_27 (dk_at dksX0_many_0 4 rfl rfl)
theorem dX0_many_5 : decode cX0_many 5 = .ok (.tableswitch 141 0 11 #[63, 73, 83, 89, 95, 105, 105, 111, 121, 136, 105, 105], 63) := by decide +kernel
theorem dX0_many_68 : decode cX0_many 68 = .ok (.aload_n 0, 1) := dk_42 (dk_at dksX0_many_2 0 rfl rfl)
theorem dX0_many_69 : decode cX0_many 69 = .ok (.getfield 14, 3) := dk_180 0 14 (dk_at dksX0_many_2 1 rfl rfl)
theorem dX0_many_72 : decode cX0_many 72 = .ok (.invokeinterface 27 1, 5) := by decide +kernel
theorem dX0_many_77 : decode cX0_many 77 = .ok (.ireturn, 1) := dk_172 (dk_at dksX0_many_2 9 rfl rfl)
theorem dX0_many_78 : decode cX0_many 78 = .ok (.aload_n 0, 1) := dk_42 (dk_at dksX0_many_2 10 rfl rfl)
theorem dX0_many_79 : decode cX0_many 79 = .ok (.getfield 18, 3) := dk_180 0 18 (dk_at dksX0_many_2 11 rfl rfl)
theorem dX0_many_82 : decode cX0_many 82 = .ok (.invokeinterface 27 1, 5) := by decide +kernel
theorem dX0_many_87 : decode cX0_many 87 = .ok (.ireturn, 1) := dk_172 (dk_at dksX0_many_2 19 rfl rfl)
theorem dX0_many_88 : decode cX0_many 88 = .ok (.aload_n 0, 1) := dk_42 (dk_at dksX0_many_2 20 rfl rfl)
theorem dX0_many_89 : decode cX0_many 89 = .ok (.iconst 0, 1) := dk_3 (dk_at dksX0_many_2 21 rfl rfl)
theorem dX0_many_90 : decode cX0_many 90 = .ok (.invokevirtual 317, 3) := dk_182 1 61 (dk_at dksX0_many_3 0 rfl rfl)
theorem dX0_many_93 : decode cX0_many 93 = .ok (.ireturn, 1) := dk_172 (dk_at dksX0_many_3 3 rfl rfl)
theorem dX0_many_94 : decode cX0_many 94 = .ok (.aload_n 0, 1) := dk_42 (dk_at dksX0_many_3 4 rfl rfl)
theorem dX0_many_95 : decode cX0_many 95 = .ok (.iconst 1, 1) := dk_4 (dk_at dksX0_many_3 5 rfl rfl)
theorem dX0_many_96 : decode cX0_many 96 = .ok (.invokevirtual 317, 3) := dk_182 1 61 (dk_at dksX0_many_3 6 rfl rfl)
theorem dX0_many_99 : decode cX0_many 99 = .ok (.ireturn, 1) := dk_172 (dk_at dksX0_many_3 9 rfl rfl)
theorem dX0_many_100 : decode cX0_many 100 = .ok (.aload_n 0, 1) := dk_42 (dk_at dksX0_many_3 10 rfl rfl)
theorem dX0_many_101 : decode cX0_many 101 = .ok (.getfield 21, 3) := dk_180 0 21 (dk_at dksX0_many_3 11 rfl rfl)
theorem dX0_many_104 : decode cX0_many 104 = .ok (.invokeinterface 27 1, 5) := by decide +kernel
theorem dX0_many_109 : decode cX0_many 109 = .ok (.ireturn, 1) := dk_172 (dk_at dksX0_many_3 19 rfl rfl)
theorem dX0_many_110 : decode cX0_many 110 = .ok (.aload_n 0, 1) := dk_42 (dk_at dksX0_many_3 20 rfl rfl)
theorem dX0_many_111 : decode cX0_many 111 = .ok (.iload_n 1, 1) := dk_27 (dk_at dksX0_many_3 21 rfl rfl)
theorem dX0_many_112 : decode cX0_many 112 = .ok (.invokevirtual 320, 3) := dk_182 1 64 (dk_at dksX0_many_4 0 rfl rfl)
theorem dX0_many_115 : decode cX0_many 115 = .ok (.ireturn, 1) := dk_172 (dk_at dksX0_many_4 3 rfl rfl)
theorem dX0_many_116 : decode cX0_many 116 = .ok (.aload_n 0, 1) := dk_42 (dk_at dksX0_many_4 4 rfl rfl)
theorem dX0_many_117 : decode cX0_many 117 = .ok (.getfield 24, 3) := dk_180 0 24 (dk_at dksX0_many_4 5 rfl rfl)
theorem dX0_many_120 : decode cX0_many 120 = .ok (.invokeinterface 27 1, 5) := by decide +kernel
theorem dX0_many_125 : decode cX0_many 125 = .ok (.ireturn, 1) := dk_172 (dk_at dksX0_many_4 13 rfl rfl)
theorem dX0_many_126 : decode cX0_many 126 = .ok (.aload_n 0, 1) := dk_42 (dk_at dksX0_many_4 14 rfl rfl)
theorem dX0_many_127 : decode cX0_many 127 = .ok (.getfield 24, 3) := dk_180 0 24 (dk_at dksX0_many_4 15 rfl rfl)
theorem dX0_many_130 : decode cX0_many 130 = .ok (.invokeinterface 27 1, 5) := by decide +kernel
theorem dX0_many_135 : decode cX0_many 135 = .ok (.aload_n 0, 1) := dk_42 (dk_at dksX0_many_4 23 rfl rfl)
theorem dX0_many_136 : decode cX0_many 136 = .ok (.getfield 213, 3) := dk_180 0 213 (dk_at dksX0_many_5 0 rfl rfl)
theorem dX0_many_139 : decode cX0_many 139 = .ok (.isub, 1) := dk_100 (dk_at dksX0_many_5 3 rfl rfl)
theorem dX0_many_140 : decode cX0_many 140 = .ok (.ireturn, 1) := dk_172 (dk_at dksX0_many_5 4 rfl rfl)
theorem dX0_many_141 : decode cX0_many 141 = .ok (.aload_n 0, 1) := dk_42 (dk_at dksX0_many_5 5 rfl rfl)
theorem dX0_many_142 : decode cX0_many 142 = .ok (.invokevirtual 323, 3) := dk_182 1 67 (dk_at dksX0_many_5 6 rfl rfl)
theorem dX0_many_145 : decode cX0_many 145 = .ok (.ireturn, 1) := dk_172 (dk_at dksX0_many_5 9 rfl rfl)
theorem dX0_many_146 : decode cX0_many 146 = .ok (.bipush (-2), 2) := dk_16 254 (dk_at dksX0_many_5 10 rfl rfl)
theorem dX0_many_148 : decode cX0_many 148 = .ok (.ireturn, 1) := dk_172 (dk_at dksX0_many_5 12 rfl rfl)
abbrev cX0_manyOf : ByteArray := prog_1_method_43_code
def yX0_manyOf : MethodName := ⟨RX0, "manyOf", "(I)I"⟩
def dkwX0_manyOf_2 : List UInt8 := [3, 96, 61, 167, 255, 219, 28, 172]
abbrev dktX0_manyOf_2 : List UInt8 := dkwX0_manyOf_2 ++ []
def dkwX0_manyOf_1 : List UInt8 := [185, 0, 81, 1, 0, 192, 0, 66, 58, 4, 28, 25, 4, 180, 0, 134, 27, 160, 0, 7, 4, 167, 0, 4]
abbrev dktX0_manyOf_1 : List UInt8 := dkwX0_manyOf_1 ++ dktX0_manyOf_2
def dkwX0_manyOf_0 : List UInt8 := [3, 61, 42, 180, 0, 14, 185, 0, 71, 1, 0, 78, 45, 185, 0, 75, 1, 0, 153, 0, 34, 45]
abbrev dktX0_manyOf_0 : List UInt8 := dkwX0_manyOf_0 ++ dktX0_manyOf_1
theorem dksX0_manyOf_0 : cX0_manyOf.data.toList.drop 0 = dktX0_manyOf_0 := by decide +kernel
theorem dksX0_manyOf_1 : cX0_manyOf.data.toList.drop 22 = dktX0_manyOf_1 := dk_seg dksX0_manyOf_0 22 rfl rfl
theorem dksX0_manyOf_2 : cX0_manyOf.data.toList.drop 46 = dktX0_manyOf_2 := dk_seg dksX0_manyOf_1 24 rfl rfl
theorem dX0_manyOf_0 : decode cX0_manyOf 0 = .ok (.iconst 0, 1) := dk_3 (dk_at dksX0_manyOf_0 0 rfl rfl)
theorem dX0_manyOf_1 : decode cX0_manyOf 1 = .ok (.istore_n 2, 1) := dk_61 (dk_at dksX0_manyOf_0 1 rfl rfl)
theorem dX0_manyOf_2 : decode cX0_manyOf 2 = .ok (.aload_n 0, 1) := dk_42 (dk_at dksX0_manyOf_0 2 rfl rfl)
theorem dX0_manyOf_3 : decode cX0_manyOf 3 = .ok (.getfield 14, 3) := dk_180 0 14 (dk_at dksX0_manyOf_0 3 rfl rfl)
theorem dX0_manyOf_6 : decode cX0_manyOf 6 = .ok (.invokeinterface 71 1, 5) := by decide +kernel
theorem dX0_manyOf_11 : decode cX0_manyOf 11 = .ok (.astore_n 3, 1) := dk_78 (dk_at dksX0_manyOf_0 11 rfl rfl)
theorem dX0_manyOf_12 : decode cX0_manyOf 12 = .ok (.aload_n 3, 1) := dk_45 (dk_at dksX0_manyOf_0 12 rfl rfl)
theorem dX0_manyOf_13 : decode cX0_manyOf 13 = .ok (.invokeinterface 75 1, 5) := by decide +kernel
theorem dX0_manyOf_18 : decode cX0_manyOf 18 = .ok (.ifCond .eq 34, 3) := dk_153 0 34 (dk_at dksX0_manyOf_0 18 rfl rfl)
theorem dX0_manyOf_21 : decode cX0_manyOf 21 = .ok (.aload_n 3, 1) := dk_45 (dk_at dksX0_manyOf_0 21 rfl rfl)
theorem dX0_manyOf_22 : decode cX0_manyOf 22 = .ok (.invokeinterface 81 1, 5) := by decide +kernel
theorem dX0_manyOf_27 : decode cX0_manyOf 27 = .ok (.checkcast 66, 3) := dk_192 0 66 (dk_at dksX0_manyOf_1 5 rfl rfl)
theorem dX0_manyOf_30 : decode cX0_manyOf 30 = .ok (.astore 4, 2) := dk_58 4 (dk_at dksX0_manyOf_1 8 rfl rfl)
theorem dX0_manyOf_32 : decode cX0_manyOf 32 = .ok (.iload_n 2, 1) := dk_28 (dk_at dksX0_manyOf_1 10 rfl rfl)
theorem dX0_manyOf_33 : decode cX0_manyOf 33 = .ok (.aload 4, 2) := dk_25 4 (dk_at dksX0_manyOf_1 11 rfl rfl)
theorem dX0_manyOf_35 : decode cX0_manyOf 35 = .ok (.getfield 134, 3) := dk_180 0 134 (dk_at dksX0_manyOf_1 13 rfl rfl)
theorem dX0_manyOf_38 : decode cX0_manyOf 38 = .ok (.iload_n 1, 1) := dk_27 (dk_at dksX0_manyOf_1 16 rfl rfl)
theorem dX0_manyOf_39 : decode cX0_manyOf 39 = .ok (.if_icmp .ne 7, 3) := dk_160 0 7 (dk_at dksX0_manyOf_1 17 rfl rfl)
theorem dX0_manyOf_42 : decode cX0_manyOf 42 = .ok (.iconst 1, 1) := dk_4 (dk_at dksX0_manyOf_1 20 rfl rfl)
theorem dX0_manyOf_43 : decode cX0_manyOf 43 = .ok (.goto 4, 3) := dk_167 0 4 (dk_at dksX0_manyOf_1 21 rfl rfl)
theorem dX0_manyOf_46 : decode cX0_manyOf 46 = .ok (.iconst 0, 1) := dk_3 (dk_at dksX0_manyOf_2 0 rfl rfl)
theorem dX0_manyOf_47 : decode cX0_manyOf 47 = .ok (.iadd, 1) := dk_96 (dk_at dksX0_manyOf_2 1 rfl rfl)
theorem dX0_manyOf_48 : decode cX0_manyOf 48 = .ok (.istore_n 2, 1) := dk_61 (dk_at dksX0_manyOf_2 2 rfl rfl)
theorem dX0_manyOf_49 : decode cX0_manyOf 49 = .ok (.goto (-37), 3) := dk_167 255 219 (dk_at dksX0_manyOf_2 3 rfl rfl)
theorem dX0_manyOf_52 : decode cX0_manyOf 52 = .ok (.iload_n 2, 1) := dk_28 (dk_at dksX0_manyOf_2 6 rfl rfl)
theorem dX0_manyOf_53 : decode cX0_manyOf 53 = .ok (.ireturn, 1) := dk_172 (dk_at dksX0_manyOf_2 7 rfl rfl)
abbrev cX0_manyBlocks : ByteArray := prog_1_method_45_code
def yX0_manyBlocks : MethodName := ⟨RX0, "manyBlocks", "(I)I"⟩
def dkwX0_manyBlocks_7 : List UInt8 := [172]
abbrev dktX0_manyBlocks_7 : List UInt8 := dkwX0_manyBlocks_7 ++ []
def dkwX0_manyBlocks_6 : List UInt8 := [4, 167, 0, 4, 3, 54, 5, 28, 21, 5, 153, 0, 7, 4, 167, 0, 4, 3, 96, 61, 167, 255, 110, 28]
abbrev dktX0_manyBlocks_6 : List UInt8 := dkwX0_manyBlocks_6 ++ dktX0_manyBlocks_7
def dkwX0_manyBlocks_5 : List UInt8 := [167, 0, 29, 3, 167, 0, 25, 25, 4, 180, 0, 134, 5, 160, 0, 15, 25, 4, 180, 0, 172, 199, 0, 7]
abbrev dktX0_manyBlocks_5 : List UInt8 := dkwX0_manyBlocks_5 ++ dktX0_manyBlocks_6
def dkwX0_manyBlocks_4 : List UInt8 := [25, 4, 180, 1, 4, 4, 50, 198, 0, 18, 25, 4, 180, 0, 180, 180, 0, 201, 199, 0, 7, 4]
abbrev dktX0_manyBlocks_4 : List UInt8 := dkwX0_manyBlocks_4 ++ dktX0_manyBlocks_5
def dkwX0_manyBlocks_3 : List UInt8 := [180, 0, 180, 180, 0, 244, 199, 0, 7, 4, 167, 0, 64, 3, 167, 0, 60, 27, 16, 10, 160, 0, 32]
abbrev dktX0_manyBlocks_3 : List UInt8 := dkwX0_manyBlocks_3 ++ dktX0_manyBlocks_4
def dkwX0_manyBlocks_2 : List UInt8 := [167, 0, 97, 3, 167, 0, 93, 27, 16, 6, 160, 0, 30, 25, 4, 182, 0, 101, 153, 0, 18, 25, 4]
abbrev dktX0_manyBlocks_2 : List UInt8 := dkwX0_manyBlocks_2 ++ dktX0_manyBlocks_3
def dkwX0_manyBlocks_1 : List UInt8 := [185, 0, 81, 1, 0, 192, 0, 66, 58, 4, 27, 8, 160, 0, 19, 25, 4, 180, 0, 237, 198, 0, 7, 4]
abbrev dktX0_manyBlocks_1 : List UInt8 := dkwX0_manyBlocks_1 ++ dktX0_manyBlocks_2
def dkwX0_manyBlocks_0 : List UInt8 := [3, 61, 42, 180, 0, 14, 185, 0, 71, 1, 0, 78, 45, 185, 0, 75, 1, 0, 153, 0, 143, 45]
abbrev dktX0_manyBlocks_0 : List UInt8 := dkwX0_manyBlocks_0 ++ dktX0_manyBlocks_1
theorem dksX0_manyBlocks_0 : cX0_manyBlocks.data.toList.drop 0 = dktX0_manyBlocks_0 := by decide +kernel
theorem dksX0_manyBlocks_1 : cX0_manyBlocks.data.toList.drop 22 = dktX0_manyBlocks_1 := dk_seg dksX0_manyBlocks_0 22 rfl rfl
theorem dksX0_manyBlocks_2 : cX0_manyBlocks.data.toList.drop 46 = dktX0_manyBlocks_2 := dk_seg dksX0_manyBlocks_1 24 rfl rfl
theorem dksX0_manyBlocks_3 : cX0_manyBlocks.data.toList.drop 69 = dktX0_manyBlocks_3 := dk_seg dksX0_manyBlocks_2 23 rfl rfl
theorem dksX0_manyBlocks_4 : cX0_manyBlocks.data.toList.drop 92 = dktX0_manyBlocks_4 := dk_seg dksX0_manyBlocks_3 23 rfl rfl
theorem dksX0_manyBlocks_5 : cX0_manyBlocks.data.toList.drop 114 = dktX0_manyBlocks_5 := dk_seg dksX0_manyBlocks_4 22 rfl rfl
theorem dksX0_manyBlocks_6 : cX0_manyBlocks.data.toList.drop 138 = dktX0_manyBlocks_6 := dk_seg dksX0_manyBlocks_5 24 rfl rfl
theorem dksX0_manyBlocks_7 : cX0_manyBlocks.data.toList.drop 162 = dktX0_manyBlocks_7 := dk_seg dksX0_manyBlocks_6 24 rfl rfl
theorem dX0_manyBlocks_0 : decode cX0_manyBlocks 0 = .ok (.iconst 0, 1) := dk_3 (dk_at dksX0_manyBlocks_0 0 rfl rfl)
theorem dX0_manyBlocks_1 : decode cX0_manyBlocks 1 = .ok (.istore_n 2, 1) := dk_61 (dk_at dksX0_manyBlocks_0 1 rfl rfl)
theorem dX0_manyBlocks_2 : decode cX0_manyBlocks 2 = .ok (.aload_n 0, 1) := dk_42 (dk_at dksX0_manyBlocks_0 2 rfl rfl)
theorem dX0_manyBlocks_3 : decode cX0_manyBlocks 3 = .ok (.getfield 14, 3) := dk_180 0 14 (dk_at dksX0_manyBlocks_0 3 rfl rfl)
theorem dX0_manyBlocks_6 : decode cX0_manyBlocks 6 = .ok (.invokeinterface 71 1, 5) := by decide +kernel
theorem dX0_manyBlocks_11 : decode cX0_manyBlocks 11 = .ok (.astore_n 3, 1) := dk_78 (dk_at dksX0_manyBlocks_0 11 rfl rfl)
theorem dX0_manyBlocks_12 : decode cX0_manyBlocks 12 = .ok (.aload_n 3, 1) := dk_45 (dk_at dksX0_manyBlocks_0 12 rfl rfl)
theorem dX0_manyBlocks_13 : decode cX0_manyBlocks 13 = .ok (.invokeinterface 75 1, 5) := by decide +kernel
theorem dX0_manyBlocks_18 : decode cX0_manyBlocks 18 = .ok (.ifCond .eq 143, 3) := dk_153 0 143 (dk_at dksX0_manyBlocks_0 18 rfl rfl)
theorem dX0_manyBlocks_21 : decode cX0_manyBlocks 21 = .ok (.aload_n 3, 1) := dk_45 (dk_at dksX0_manyBlocks_0 21 rfl rfl)
theorem dX0_manyBlocks_22 : decode cX0_manyBlocks 22 = .ok (.invokeinterface 81 1, 5) := by decide +kernel
theorem dX0_manyBlocks_27 : decode cX0_manyBlocks 27 = .ok (.checkcast 66, 3) := dk_192 0 66 (dk_at dksX0_manyBlocks_1 5 rfl rfl)
theorem dX0_manyBlocks_30 : decode cX0_manyBlocks 30 = .ok (.astore 4, 2) := dk_58 4 (dk_at dksX0_manyBlocks_1 8 rfl rfl)
theorem dX0_manyBlocks_32 : decode cX0_manyBlocks 32 = .ok (.iload_n 1, 1) := dk_27 (dk_at dksX0_manyBlocks_1 10 rfl rfl)
theorem dX0_manyBlocks_33 : decode cX0_manyBlocks 33 = .ok (.iconst 5, 1) := dk_8 (dk_at dksX0_manyBlocks_1 11 rfl rfl)
theorem dX0_manyBlocks_34 : decode cX0_manyBlocks 34 = .ok (.if_icmp .ne 19, 3) := dk_160 0 19 (dk_at dksX0_manyBlocks_1 12 rfl rfl)
theorem dX0_manyBlocks_37 : decode cX0_manyBlocks 37 = .ok (.aload 4, 2) := dk_25 4 (dk_at dksX0_manyBlocks_1 15 rfl rfl)
theorem dX0_manyBlocks_39 : decode cX0_manyBlocks 39 = .ok (.getfield 237, 3) := dk_180 0 237 (dk_at dksX0_manyBlocks_1 17 rfl rfl)
theorem dX0_manyBlocks_42 : decode cX0_manyBlocks 42 = .ok (.ifnull 7, 3) := dk_198 0 7 (dk_at dksX0_manyBlocks_1 20 rfl rfl)
theorem dX0_manyBlocks_45 : decode cX0_manyBlocks 45 = .ok (.iconst 1, 1) := dk_4 (dk_at dksX0_manyBlocks_1 23 rfl rfl)
theorem dX0_manyBlocks_46 : decode cX0_manyBlocks 46 = .ok (.goto 97, 3) := dk_167 0 97 (dk_at dksX0_manyBlocks_2 0 rfl rfl)
theorem dX0_manyBlocks_49 : decode cX0_manyBlocks 49 = .ok (.iconst 0, 1) := dk_3 (dk_at dksX0_manyBlocks_2 3 rfl rfl)
theorem dX0_manyBlocks_50 : decode cX0_manyBlocks 50 = .ok (.goto 93, 3) := dk_167 0 93 (dk_at dksX0_manyBlocks_2 4 rfl rfl)
theorem dX0_manyBlocks_53 : decode cX0_manyBlocks 53 = .ok (.iload_n 1, 1) := dk_27 (dk_at dksX0_manyBlocks_2 7 rfl rfl)
theorem dX0_manyBlocks_54 : decode cX0_manyBlocks 54 = .ok (.bipush 6, 2) := dk_16 6 (dk_at dksX0_manyBlocks_2 8 rfl rfl)
theorem dX0_manyBlocks_56 : decode cX0_manyBlocks 56 = .ok (.if_icmp .ne 30, 3) := dk_160 0 30 (dk_at dksX0_manyBlocks_2 10 rfl rfl)
theorem dX0_manyBlocks_59 : decode cX0_manyBlocks 59 = .ok (.aload 4, 2) := dk_25 4 (dk_at dksX0_manyBlocks_2 13 rfl rfl)
theorem dX0_manyBlocks_61 : decode cX0_manyBlocks 61 = .ok (.invokevirtual 101, 3) := dk_182 0 101 (dk_at dksX0_manyBlocks_2 15 rfl rfl)
theorem dX0_manyBlocks_64 : decode cX0_manyBlocks 64 = .ok (.ifCond .eq 18, 3) := dk_153 0 18 (dk_at dksX0_manyBlocks_2 18 rfl rfl)
theorem dX0_manyBlocks_67 : decode cX0_manyBlocks 67 = .ok (.aload 4, 2) := dk_25 4 (dk_at dksX0_manyBlocks_2 21 rfl rfl)
theorem dX0_manyBlocks_69 : decode cX0_manyBlocks 69 = .ok (.getfield 180, 3) := dk_180 0 180 (dk_at dksX0_manyBlocks_3 0 rfl rfl)
theorem dX0_manyBlocks_72 : decode cX0_manyBlocks 72 = .ok (.getfield 244, 3) := dk_180 0 244 (dk_at dksX0_manyBlocks_3 3 rfl rfl)
theorem dX0_manyBlocks_75 : decode cX0_manyBlocks 75 = .ok (.ifnonnull 7, 3) := dk_199 0 7 (dk_at dksX0_manyBlocks_3 6 rfl rfl)
theorem dX0_manyBlocks_78 : decode cX0_manyBlocks 78 = .ok (.iconst 1, 1) := dk_4 (dk_at dksX0_manyBlocks_3 9 rfl rfl)
theorem dX0_manyBlocks_79 : decode cX0_manyBlocks 79 = .ok (.goto 64, 3) := dk_167 0 64 (dk_at dksX0_manyBlocks_3 10 rfl rfl)
theorem dX0_manyBlocks_82 : decode cX0_manyBlocks 82 = .ok (.iconst 0, 1) := dk_3 (dk_at dksX0_manyBlocks_3 13 rfl rfl)
theorem dX0_manyBlocks_83 : decode cX0_manyBlocks 83 = .ok (.goto 60, 3) := dk_167 0 60 (dk_at dksX0_manyBlocks_3 14 rfl rfl)
theorem dX0_manyBlocks_86 : decode cX0_manyBlocks 86 = .ok (.iload_n 1, 1) := dk_27 (dk_at dksX0_manyBlocks_3 17 rfl rfl)
theorem dX0_manyBlocks_87 : decode cX0_manyBlocks 87 = .ok (.bipush 10, 2) := dk_16 10 (dk_at dksX0_manyBlocks_3 18 rfl rfl)
theorem dX0_manyBlocks_89 : decode cX0_manyBlocks 89 = .ok (.if_icmp .ne 32, 3) := dk_160 0 32 (dk_at dksX0_manyBlocks_3 20 rfl rfl)
theorem dX0_manyBlocks_92 : decode cX0_manyBlocks 92 = .ok (.aload 4, 2) := dk_25 4 (dk_at dksX0_manyBlocks_4 0 rfl rfl)
theorem dX0_manyBlocks_94 : decode cX0_manyBlocks 94 = .ok (.getfield 260, 3) := dk_180 1 4 (dk_at dksX0_manyBlocks_4 2 rfl rfl)
theorem dX0_manyBlocks_97 : decode cX0_manyBlocks 97 = .ok (.iconst 1, 1) := dk_4 (dk_at dksX0_manyBlocks_4 5 rfl rfl)
theorem dX0_manyBlocks_98 : decode cX0_manyBlocks 98 = .ok (.aaload, 1) := dk_50 (dk_at dksX0_manyBlocks_4 6 rfl rfl)
theorem dX0_manyBlocks_99 : decode cX0_manyBlocks 99 = .ok (.ifnull 18, 3) := dk_198 0 18 (dk_at dksX0_manyBlocks_4 7 rfl rfl)
theorem dX0_manyBlocks_102 : decode cX0_manyBlocks 102 = .ok (.aload 4, 2) := dk_25 4 (dk_at dksX0_manyBlocks_4 10 rfl rfl)
theorem dX0_manyBlocks_104 : decode cX0_manyBlocks 104 = .ok (.getfield 180, 3) := dk_180 0 180 (dk_at dksX0_manyBlocks_4 12 rfl rfl)
theorem dX0_manyBlocks_107 : decode cX0_manyBlocks 107 = .ok (.getfield 201, 3) := dk_180 0 201 (dk_at dksX0_manyBlocks_4 15 rfl rfl)
theorem dX0_manyBlocks_110 : decode cX0_manyBlocks 110 = .ok (.ifnonnull 7, 3) := dk_199 0 7 (dk_at dksX0_manyBlocks_4 18 rfl rfl)
theorem dX0_manyBlocks_113 : decode cX0_manyBlocks 113 = .ok (.iconst 1, 1) := dk_4 (dk_at dksX0_manyBlocks_4 21 rfl rfl)
theorem dX0_manyBlocks_114 : decode cX0_manyBlocks 114 = .ok (.goto 29, 3) := dk_167 0 29 (dk_at dksX0_manyBlocks_5 0 rfl rfl)
theorem dX0_manyBlocks_117 : decode cX0_manyBlocks 117 = .ok (.iconst 0, 1) := dk_3 (dk_at dksX0_manyBlocks_5 3 rfl rfl)
theorem dX0_manyBlocks_118 : decode cX0_manyBlocks 118 = .ok (.goto 25, 3) := dk_167 0 25 (dk_at dksX0_manyBlocks_5 4 rfl rfl)
theorem dX0_manyBlocks_121 : decode cX0_manyBlocks 121 = .ok (.aload 4, 2) := dk_25 4 (dk_at dksX0_manyBlocks_5 7 rfl rfl)
theorem dX0_manyBlocks_123 : decode cX0_manyBlocks 123 = .ok (.getfield 134, 3) := dk_180 0 134 (dk_at dksX0_manyBlocks_5 9 rfl rfl)
theorem dX0_manyBlocks_126 : decode cX0_manyBlocks 126 = .ok (.iconst 2, 1) := dk_5 (dk_at dksX0_manyBlocks_5 12 rfl rfl)
theorem dX0_manyBlocks_127 : decode cX0_manyBlocks 127 = .ok (.if_icmp .ne 15, 3) := dk_160 0 15 (dk_at dksX0_manyBlocks_5 13 rfl rfl)
theorem dX0_manyBlocks_130 : decode cX0_manyBlocks 130 = .ok (.aload 4, 2) := dk_25 4 (dk_at dksX0_manyBlocks_5 16 rfl rfl)
theorem dX0_manyBlocks_132 : decode cX0_manyBlocks 132 = .ok (.getfield 172, 3) := dk_180 0 172 (dk_at dksX0_manyBlocks_5 18 rfl rfl)
theorem dX0_manyBlocks_135 : decode cX0_manyBlocks 135 = .ok (.ifnonnull 7, 3) := dk_199 0 7 (dk_at dksX0_manyBlocks_5 21 rfl rfl)
theorem dX0_manyBlocks_138 : decode cX0_manyBlocks 138 = .ok (.iconst 1, 1) := dk_4 (dk_at dksX0_manyBlocks_6 0 rfl rfl)
theorem dX0_manyBlocks_139 : decode cX0_manyBlocks 139 = .ok (.goto 4, 3) := dk_167 0 4 (dk_at dksX0_manyBlocks_6 1 rfl rfl)
theorem dX0_manyBlocks_142 : decode cX0_manyBlocks 142 = .ok (.iconst 0, 1) := dk_3 (dk_at dksX0_manyBlocks_6 4 rfl rfl)
theorem dX0_manyBlocks_143 : decode cX0_manyBlocks 143 = .ok (.istore 5, 2) := dk_54 5 (dk_at dksX0_manyBlocks_6 5 rfl rfl)
theorem dX0_manyBlocks_145 : decode cX0_manyBlocks 145 = .ok (.iload_n 2, 1) := dk_28 (dk_at dksX0_manyBlocks_6 7 rfl rfl)
theorem dX0_manyBlocks_146 : decode cX0_manyBlocks 146 = .ok (.iload 5, 2) := dk_21 5 (dk_at dksX0_manyBlocks_6 8 rfl rfl)
theorem dX0_manyBlocks_148 : decode cX0_manyBlocks 148 = .ok (.ifCond .eq 7, 3) := dk_153 0 7 (dk_at dksX0_manyBlocks_6 10 rfl rfl)
theorem dX0_manyBlocks_151 : decode cX0_manyBlocks 151 = .ok (.iconst 1, 1) := dk_4 (dk_at dksX0_manyBlocks_6 13 rfl rfl)
theorem dX0_manyBlocks_152 : decode cX0_manyBlocks 152 = .ok (.goto 4, 3) := dk_167 0 4 (dk_at dksX0_manyBlocks_6 14 rfl rfl)
theorem dX0_manyBlocks_155 : decode cX0_manyBlocks 155 = .ok (.iconst 0, 1) := dk_3 (dk_at dksX0_manyBlocks_6 17 rfl rfl)
theorem dX0_manyBlocks_156 : decode cX0_manyBlocks 156 = .ok (.iadd, 1) := dk_96 (dk_at dksX0_manyBlocks_6 18 rfl rfl)
theorem dX0_manyBlocks_157 : decode cX0_manyBlocks 157 = .ok (.istore_n 2, 1) := dk_61 (dk_at dksX0_manyBlocks_6 19 rfl rfl)
theorem dX0_manyBlocks_158 : decode cX0_manyBlocks 158 = .ok (.goto (-146), 3) := dk_167 255 110 (dk_at dksX0_manyBlocks_6 20 rfl rfl)
theorem dX0_manyBlocks_161 : decode cX0_manyBlocks 161 = .ok (.iload_n 2, 1) := dk_28 (dk_at dksX0_manyBlocks_6 23 rfl rfl)
theorem dX0_manyBlocks_162 : decode cX0_manyBlocks 162 = .ok (.ireturn, 1) := dk_172 (dk_at dksX0_manyBlocks_7 0 rfl rfl)
abbrev cX0_manyBroken : ByteArray := prog_1_method_44_code
def yX0_manyBroken : MethodName := ⟨RX0, "manyBroken", "()I"⟩
def dkwX0_manyBroken_2 : List UInt8 := [167, 255, 222, 27, 172]
abbrev dktX0_manyBroken_2 : List UInt8 := dkwX0_manyBroken_2 ++ []
def dkwX0_manyBroken_1 : List UInt8 := [185, 0, 81, 1, 0, 192, 0, 156, 78, 27, 45, 182, 1, 1, 153, 0, 7, 4, 167, 0, 4, 3, 96, 60]
abbrev dktX0_manyBroken_1 : List UInt8 := dkwX0_manyBroken_1 ++ dktX0_manyBroken_2
def dkwX0_manyBroken_0 : List UInt8 := [3, 60, 42, 180, 0, 21, 185, 0, 71, 1, 0, 77, 44, 185, 0, 75, 1, 0, 153, 0, 31, 44]
abbrev dktX0_manyBroken_0 : List UInt8 := dkwX0_manyBroken_0 ++ dktX0_manyBroken_1
theorem dksX0_manyBroken_0 : cX0_manyBroken.data.toList.drop 0 = dktX0_manyBroken_0 := by decide +kernel
theorem dksX0_manyBroken_1 : cX0_manyBroken.data.toList.drop 22 = dktX0_manyBroken_1 := dk_seg dksX0_manyBroken_0 22 rfl rfl
theorem dksX0_manyBroken_2 : cX0_manyBroken.data.toList.drop 46 = dktX0_manyBroken_2 := dk_seg dksX0_manyBroken_1 24 rfl rfl
theorem dX0_manyBroken_0 : decode cX0_manyBroken 0 = .ok (.iconst 0, 1) := dk_3 (dk_at dksX0_manyBroken_0 0 rfl rfl)
theorem dX0_manyBroken_1 : decode cX0_manyBroken 1 = .ok (.istore_n 1, 1) := dk_60 (dk_at dksX0_manyBroken_0 1 rfl rfl)
theorem dX0_manyBroken_2 : decode cX0_manyBroken 2 = .ok (.aload_n 0, 1) := dk_42 (dk_at dksX0_manyBroken_0 2 rfl rfl)
theorem dX0_manyBroken_3 : decode cX0_manyBroken 3 = .ok (.getfield 21, 3) := dk_180 0 21 (dk_at dksX0_manyBroken_0 3 rfl rfl)
theorem dX0_manyBroken_6 : decode cX0_manyBroken 6 = .ok (.invokeinterface 71 1, 5) := by decide +kernel
theorem dX0_manyBroken_11 : decode cX0_manyBroken 11 = .ok (.astore_n 2, 1) := dk_77 (dk_at dksX0_manyBroken_0 11 rfl rfl)
theorem dX0_manyBroken_12 : decode cX0_manyBroken 12 = .ok (.aload_n 2, 1) := dk_44 (dk_at dksX0_manyBroken_0 12 rfl rfl)
theorem dX0_manyBroken_13 : decode cX0_manyBroken 13 = .ok (.invokeinterface 75 1, 5) := by decide +kernel
theorem dX0_manyBroken_18 : decode cX0_manyBroken 18 = .ok (.ifCond .eq 31, 3) := dk_153 0 31 (dk_at dksX0_manyBroken_0 18 rfl rfl)
theorem dX0_manyBroken_21 : decode cX0_manyBroken 21 = .ok (.aload_n 2, 1) := dk_44 (dk_at dksX0_manyBroken_0 21 rfl rfl)
theorem dX0_manyBroken_22 : decode cX0_manyBroken 22 = .ok (.invokeinterface 81 1, 5) := by decide +kernel
theorem dX0_manyBroken_27 : decode cX0_manyBroken 27 = .ok (.checkcast 156, 3) := dk_192 0 156 (dk_at dksX0_manyBroken_1 5 rfl rfl)
theorem dX0_manyBroken_30 : decode cX0_manyBroken 30 = .ok (.astore_n 3, 1) := dk_78 (dk_at dksX0_manyBroken_1 8 rfl rfl)
theorem dX0_manyBroken_31 : decode cX0_manyBroken 31 = .ok (.iload_n 1, 1) := dk_27 (dk_at dksX0_manyBroken_1 9 rfl rfl)
theorem dX0_manyBroken_32 : decode cX0_manyBroken 32 = .ok (.aload_n 3, 1) := dk_45 (dk_at dksX0_manyBroken_1 10 rfl rfl)
theorem dX0_manyBroken_33 : decode cX0_manyBroken 33 = .ok (.invokevirtual 257, 3) := dk_182 1 1 (dk_at dksX0_manyBroken_1 11 rfl rfl)
theorem dX0_manyBroken_36 : decode cX0_manyBroken 36 = .ok (.ifCond .eq 7, 3) := dk_153 0 7 (dk_at dksX0_manyBroken_1 14 rfl rfl)
theorem dX0_manyBroken_39 : decode cX0_manyBroken 39 = .ok (.iconst 1, 1) := dk_4 (dk_at dksX0_manyBroken_1 17 rfl rfl)
theorem dX0_manyBroken_40 : decode cX0_manyBroken 40 = .ok (.goto 4, 3) := dk_167 0 4 (dk_at dksX0_manyBroken_1 18 rfl rfl)
theorem dX0_manyBroken_43 : decode cX0_manyBroken 43 = .ok (.iconst 0, 1) := dk_3 (dk_at dksX0_manyBroken_1 21 rfl rfl)
theorem dX0_manyBroken_44 : decode cX0_manyBroken 44 = .ok (.iadd, 1) := dk_96 (dk_at dksX0_manyBroken_1 22 rfl rfl)
theorem dX0_manyBroken_45 : decode cX0_manyBroken 45 = .ok (.istore_n 1, 1) := dk_60 (dk_at dksX0_manyBroken_1 23 rfl rfl)
theorem dX0_manyBroken_46 : decode cX0_manyBroken 46 = .ok (.goto (-34), 3) := dk_167 255 222 (dk_at dksX0_manyBroken_2 0 rfl rfl)
theorem dX0_manyBroken_49 : decode cX0_manyBroken 49 = .ok (.iload_n 1, 1) := dk_27 (dk_at dksX0_manyBroken_2 3 rfl rfl)
theorem dX0_manyBroken_50 : decode cX0_manyBroken 50 = .ok (.ireturn, 1) := dk_172 (dk_at dksX0_manyBroken_2 4 rfl rfl)
theorem q59 : (Jvm.Cond.initialized "StoryColumns") ∈ lw_all := lw_g (lw_at lw_m1 1 rfl) rfl
theorem q81 : (Jvm.Cond.instantiable "StoryColumns" (6 : Nat)) ∈ lw_all := lw_g (lw_at lw_m1 23 rfl) rfl
theorem q83 : (Jvm.Cond.instanceMethod ({ cls := "StoryColumns", name := "<init>", desc := "()V" } : Jvm.MethodName)) ∈ lw_all := lw_g (lw_at lw_m1 25 rfl) rfl
theorem q84 : (Jvm.Cond.code ({ cls := "StoryColumns", name := "<init>", desc := "()V" } : Jvm.MethodName) prog_1_method_2_code (1 : Nat) (Option.none : Option Jvm.ClassFile.FieldType)) ∈ lw_all := lw_g (lw_at lw_m1 26 rfl) rfl
theorem q85 : (Jvm.Cond.methodLink "StoryColumns" (1 : Nat) ({ cls := "java/lang/Object", name := "<init>", desc := "()V" } : Jvm.MethodName)) ∈ lw_all := lw_g (lw_at lw_m1 27 rfl) rfl
theorem q88 : (Jvm.Cond.classLink "StoryColumns" (7 : Nat) "java/util/ArrayList") ∈ lw_all := lw_g (lw_at lw_m1 30 rfl) rfl
theorem q90 : (Jvm.Cond.methodLink "StoryColumns" (11 : Nat) ({ cls := "java/util/ArrayList", name := "<init>", desc := "(I)V" } : Jvm.MethodName)) ∈ lw_all := lw_g (lw_at lw_m1 32 rfl) rfl
theorem q119 : (Jvm.Cond.fieldLink "StoryColumns" (14 : Nat) "StoryColumns" "blocks" "Ljava/util/List;") ∈ lw_all := lw_g (lw_at lw_m1 61 rfl) rfl
theorem q122 : (Jvm.Cond.fieldLink "StoryColumns" (18 : Nat) "StoryColumns" "lines" "Ljava/util/List;") ∈ lw_all := lw_g (lw_at lw_m1 64 rfl) rfl
theorem q124 : (Jvm.Cond.fieldLink "StoryColumns" (54 : Nat) "StoryColumns" "isKnown" "Z") ∈ lw_all := lw_g (lw_at lw_m1 66 rfl) rfl
theorem q125 : (Jvm.Cond.fieldLink "StoryColumns" (21 : Nat) "StoryColumns" "stories" "Ljava/util/List;") ∈ lw_all := lw_g (lw_at lw_m1 67 rfl) rfl
theorem q126 : (Jvm.Cond.fieldLink "StoryColumns" (24 : Nat) "StoryColumns" "articles" "Ljava/util/List;") ∈ lw_all := lw_g (lw_at lw_m1 68 rfl) rfl
theorem q127 : (Jvm.Cond.fieldLink "StoryColumns" (213 : Nat) "StoryColumns" "plain" "I") ∈ lw_all := lw_g (lw_at lw_m1 69 rfl) rfl
theorem q128 : (Jvm.Cond.laysFinal "StoryColumns" "StoryColumns" "blocks" "Ljava/util/List;") ∈ lw_all := lw_g (lw_at lw_m1 70 rfl) rfl
theorem q129 : (Jvm.Cond.soleField "StoryColumns" "blocks") ∈ lw_all := lw_g (lw_at lw_m1 71 rfl) rfl
theorem q130 : (Jvm.Cond.laysFinal "StoryColumns" "StoryColumns" "lines" "Ljava/util/List;") ∈ lw_all := lw_g (lw_at lw_m1 72 rfl) rfl
theorem q131 : (Jvm.Cond.soleField "StoryColumns" "lines") ∈ lw_all := lw_g (lw_at lw_m1 73 rfl) rfl
theorem q132 : (Jvm.Cond.lays "StoryColumns" "StoryColumns" "isKnown" "Z") ∈ lw_all := lw_g (lw_at lw_m1 74 rfl) rfl
theorem q133 : (Jvm.Cond.soleField "StoryColumns" "isKnown") ∈ lw_all := lw_g (lw_at lw_m1 75 rfl) rfl
theorem q134 : (Jvm.Cond.laysFinal "StoryColumns" "StoryColumns" "stories" "Ljava/util/List;") ∈ lw_all := lw_g (lw_at lw_m1 76 rfl) rfl
theorem q135 : (Jvm.Cond.soleField "StoryColumns" "stories") ∈ lw_all := lw_g (lw_at lw_m1 77 rfl) rfl
theorem q136 : (Jvm.Cond.laysFinal "StoryColumns" "StoryColumns" "articles" "Ljava/util/List;") ∈ lw_all := lw_g (lw_at lw_m1 78 rfl) rfl
theorem q137 : (Jvm.Cond.soleField "StoryColumns" "articles") ∈ lw_all := lw_g (lw_at lw_m1 79 rfl) rfl
theorem q138 : (Jvm.Cond.lays "StoryColumns" "StoryColumns" "plain" "I") ∈ lw_all := lw_g (lw_at lw_m1 80 rfl) rfl
theorem q139 : (Jvm.Cond.soleField "StoryColumns" "plain") ∈ lw_all := lw_g (lw_at lw_m1 81 rfl) rfl
theorem q140 : (Jvm.Cond.superclass "StoryColumns" "java/lang/Object") ∈ lw_all := lw_g (lw_at lw_m1 82 rfl) rfl
theorem q142 : (Jvm.Cond.instanceMethod ({ cls := "StoryColumns", name := "block", desc := "(IIIIII)I" } : Jvm.MethodName)) ∈ lw_all := lw_g (lw_at lw_m1 84 rfl) rfl
theorem q143 : (Jvm.Cond.selects "StoryColumns" ({ cls := "StoryColumns", name := "block", desc := "(IIIIII)I" } : Jvm.MethodName) ({ cls := "StoryColumns", name := "block", desc := "(IIIIII)I" } : Jvm.MethodName)) ∈ lw_all := lw_g (lw_at lw_m1 85 rfl) rfl
theorem q144 : (Jvm.Cond.code ({ cls := "StoryColumns", name := "block", desc := "(IIIIII)I" } : Jvm.MethodName) prog_1_method_7_code (11 : Nat) (Option.some Jvm.ClassFile.FieldType.int)) ∈ lw_all := lw_g (lw_at lw_m1 86 rfl) rfl
theorem q145 : (Jvm.Cond.methodLink "StoryColumns" (50 : Nat) ({ cls := "StoryColumns", name := "in", desc := "(III)Z" } : Jvm.MethodName)) ∈ lw_all := lw_g (lw_at lw_m1 87 rfl) rfl
theorem q146 : (Jvm.Cond.static ({ cls := "StoryColumns", name := "in", desc := "(III)Z" } : Jvm.MethodName)) ∈ lw_all := lw_g (lw_at lw_m1 88 rfl) rfl
theorem q147 : (Jvm.Cond.code ({ cls := "StoryColumns", name := "in", desc := "(III)Z" } : Jvm.MethodName) prog_1_method_1_code (3 : Nat) (Option.some Jvm.ClassFile.FieldType.boolean)) ∈ lw_all := lw_g (lw_at lw_m1 89 rfl) rfl
theorem q148 : (Jvm.Cond.methodLink "StoryColumns" (58 : Nat) ({ cls := "StoryColumns", name := "isSpan", desc := "(III)Z" } : Jvm.MethodName)) ∈ lw_all := lw_g (lw_at lw_m1 90 rfl) rfl
theorem q149 : (Jvm.Cond.static ({ cls := "StoryColumns", name := "isSpan", desc := "(III)Z" } : Jvm.MethodName)) ∈ lw_all := lw_g (lw_at lw_m1 91 rfl) rfl
theorem q150 : (Jvm.Cond.code ({ cls := "StoryColumns", name := "isSpan", desc := "(III)Z" } : Jvm.MethodName) prog_1_method_6_code (3 : Nat) (Option.some Jvm.ClassFile.FieldType.boolean)) ∈ lw_all := lw_g (lw_at lw_m1 92 rfl) rfl
theorem q151 : (Jvm.Cond.interfaceEntry "StoryColumns" (27 : Nat)) ∈ lw_tbl := lw_at lw_m1 93 rfl
theorem q152 : (Jvm.Cond.methodLink "StoryColumns" (27 : Nat) ({ cls := "java/util/List", name := "size", desc := "()I" } : Jvm.MethodName)) ∈ lw_all := lw_g (lw_at lw_m1 94 rfl) rfl
theorem q161 : (Jvm.Cond.classLink "StoryColumns" (61 : Nat) "StoryColumns$Head") ∈ lw_all := lw_g (lw_at lw_m1 103 rfl) rfl
theorem q163 : (Jvm.Cond.methodLink "StoryColumns" (63 : Nat) ({ cls := "StoryColumns$Head", name := "<init>", desc := "(LStoryColumns;IIIIII)V" } : Jvm.MethodName)) ∈ lw_all := lw_g (lw_at lw_m1 105 rfl) rfl
theorem q177 : (Jvm.Cond.fieldLink "StoryColumns" (150 : Nat) "StoryColumns$Block" "number" "I") ∈ lw_all := lw_g (lw_at lw_m1 119 rfl) rfl
theorem q178 : (Jvm.Cond.fieldLink "StoryColumns" (236 : Nat) "StoryColumns$Head" "number" "I") ∈ lw_all := lw_g (lw_at lw_m1 120 rfl) rfl
theorem q184 : (Jvm.Cond.fieldLink "StoryColumns" (131 : Nat) "StoryColumns$Block" "page" "I") ∈ lw_all := lw_g (lw_at lw_m1 126 rfl) rfl
theorem q188 : (Jvm.Cond.fieldLink "StoryColumns" (134 : Nat) "StoryColumns$Block" "kind" "I") ∈ lw_all := lw_g (lw_at lw_m1 130 rfl) rfl
theorem q194 : (Jvm.Cond.fieldLink "StoryColumns" (119 : Nat) "StoryColumns$Block" "left" "I") ∈ lw_all := lw_g (lw_at lw_m1 136 rfl) rfl
theorem q196 : (Jvm.Cond.fieldLink "StoryColumns" (122 : Nat) "StoryColumns$Block" "right" "I") ∈ lw_all := lw_g (lw_at lw_m1 138 rfl) rfl
theorem q200 : (Jvm.Cond.fieldLink "StoryColumns" (137 : Nat) "StoryColumns$Block" "top" "I") ∈ lw_all := lw_g (lw_at lw_m1 142 rfl) rfl
theorem q204 : (Jvm.Cond.fieldLink "StoryColumns" (140 : Nat) "StoryColumns$Block" "bottom" "I") ∈ lw_all := lw_g (lw_at lw_m1 146 rfl) rfl
theorem q207 : (Jvm.Cond.fieldLink "StoryColumns" (104 : Nat) "StoryColumns$Block" "words" "I") ∈ lw_all := lw_g (lw_at lw_m1 149 rfl) rfl
theorem q210 : (Jvm.Cond.fieldLink "StoryColumns" (260 : Nat) "StoryColumns$Block" "marks" "[LStoryColumns$Mark;") ∈ lw_all := lw_g (lw_at lw_m1 152 rfl) rfl
theorem q213 : (Jvm.Cond.fieldLink "StoryColumns" (172 : Nat) "StoryColumns$Block" "head" "LStoryColumns$Head;") ∈ lw_all := lw_g (lw_at lw_m1 155 rfl) rfl
theorem q216 : (Jvm.Cond.fieldLink "StoryColumns" (161 : Nat) "StoryColumns$Head" "story" "LStoryColumns$Story;") ∈ lw_all := lw_g (lw_at lw_m1 158 rfl) rfl
theorem q218 : (Jvm.Cond.fieldLink "StoryColumns" (180 : Nat) "StoryColumns$Block" "story" "LStoryColumns$Story;") ∈ lw_all := lw_g (lw_at lw_m1 160 rfl) rfl
theorem q221 : (Jvm.Cond.fieldLink "StoryColumns" (237 : Nat) "StoryColumns$Block" "taker" "LStoryColumns$Block;") ∈ lw_all := lw_g (lw_at lw_m1 163 rfl) rfl
theorem q252 : (Jvm.Cond.classLink "StoryColumns" (66 : Nat) "StoryColumns$Block") ∈ lw_all := lw_g (lw_at lw_m1 194 rfl) rfl
theorem q254 : (Jvm.Cond.methodLink "StoryColumns" (68 : Nat) ({ cls := "StoryColumns$Block", name := "<init>", desc := "(LStoryColumns;IIIIIII)V" } : Jvm.MethodName)) ∈ lw_all := lw_g (lw_at lw_m1 196 rfl) rfl
theorem q269 : (Jvm.Cond.interfaceEntry "StoryColumns" (71 : Nat)) ∈ lw_tbl := lw_at lw_m1 211 rfl
theorem q270 : (Jvm.Cond.methodLink "StoryColumns" (71 : Nat) ({ cls := "java/util/List", name := "iterator", desc := "()Ljava/util/Iterator;" } : Jvm.MethodName)) ∈ lw_all := lw_g (lw_at lw_m1 212 rfl) rfl
theorem q297 : (Jvm.Cond.interfaceEntry "StoryColumns" (75 : Nat)) ∈ lw_tbl := lw_at lw_m1 239 rfl
theorem q298 : (Jvm.Cond.methodLink "StoryColumns" (75 : Nat) ({ cls := "java/util/Iterator", name := "hasNext", desc := "()Z" } : Jvm.MethodName)) ∈ lw_all := lw_g (lw_at lw_m2 0 rfl) rfl
theorem q380 : (Jvm.Cond.interfaceEntry "StoryColumns" (81 : Nat)) ∈ lw_tbl := lw_at lw_m2 82 rfl
theorem q381 : (Jvm.Cond.methodLink "StoryColumns" (81 : Nat) ({ cls := "java/util/Iterator", name := "next", desc := "()Ljava/lang/Object;" } : Jvm.MethodName)) ∈ lw_all := lw_g (lw_at lw_m2 83 rfl) rfl
theorem q445 : (Jvm.Cond.interfaceEntry "StoryColumns" (89 : Nat)) ∈ lw_tbl := lw_at lw_m2 147 rfl
theorem q446 : (Jvm.Cond.methodLink "StoryColumns" (89 : Nat) ({ cls := "java/util/List", name := "add", desc := "(Ljava/lang/Object;)Z" } : Jvm.MethodName)) ∈ lw_all := lw_g (lw_at lw_m2 148 rfl) rfl
theorem q484 : (Jvm.Cond.selects "StoryColumns" ({ cls := "java/lang/Object", name := "getClass", desc := "()Ljava/lang/Class;" } : Jvm.MethodName) ({ cls := "java/lang/Object", name := "getClass", desc := "()Ljava/lang/Class;" } : Jvm.MethodName)) ∈ lw_all := lw_g (lw_at lw_m2 186 rfl) rfl
theorem q510 : (Jvm.Cond.methodLink "StoryColumns" (93 : Nat) ({ cls := "StoryColumns", name := "changed", desc := "(I)I" } : Jvm.MethodName)) ∈ lw_all := lw_g (lw_at lw_m2 212 rfl) rfl
theorem q511 : (Jvm.Cond.privateMethod ({ cls := "StoryColumns", name := "changed", desc := "(I)I" } : Jvm.MethodName)) ∈ lw_tbl := lw_at lw_m2 213 rfl
theorem q512 : (Jvm.Cond.instanceMethod ({ cls := "StoryColumns", name := "changed", desc := "(I)I" } : Jvm.MethodName)) ∈ lw_all := lw_g (lw_at lw_m2 214 rfl) rfl
theorem q513 : (Jvm.Cond.code ({ cls := "StoryColumns", name := "changed", desc := "(I)I" } : Jvm.MethodName) prog_1_method_5_code (2 : Nat) (Option.some Jvm.ClassFile.FieldType.int)) ∈ lw_all := lw_g (lw_at lw_m2 215 rfl) rfl
theorem q515 : (Jvm.Cond.instanceMethod ({ cls := "StoryColumns", name := "words", desc := "(II)I" } : Jvm.MethodName)) ∈ lw_all := lw_g (lw_at lw_m2 217 rfl) rfl
theorem q516 : (Jvm.Cond.selects "StoryColumns" ({ cls := "StoryColumns", name := "words", desc := "(II)I" } : Jvm.MethodName) ({ cls := "StoryColumns", name := "words", desc := "(II)I" } : Jvm.MethodName)) ∈ lw_all := lw_g (lw_at lw_m2 218 rfl) rfl
theorem q517 : (Jvm.Cond.code ({ cls := "StoryColumns", name := "words", desc := "(II)I" } : Jvm.MethodName) prog_1_method_8_code (5 : Nat) (Option.some Jvm.ClassFile.FieldType.int)) ∈ lw_all := lw_g (lw_at lw_m2 219 rfl) rfl
theorem q518 : (Jvm.Cond.methodLink "StoryColumns" (97 : Nat) ({ cls := "StoryColumns", name := "isBlock", desc := "(I)Z" } : Jvm.MethodName)) ∈ lw_all := lw_g (lw_at lw_m2 220 rfl) rfl
theorem q519 : (Jvm.Cond.privateMethod ({ cls := "StoryColumns", name := "isBlock", desc := "(I)Z" } : Jvm.MethodName)) ∈ lw_tbl := lw_at lw_m2 221 rfl
theorem q520 : (Jvm.Cond.instanceMethod ({ cls := "StoryColumns", name := "isBlock", desc := "(I)Z" } : Jvm.MethodName)) ∈ lw_all := lw_g (lw_at lw_m2 222 rfl) rfl
theorem q521 : (Jvm.Cond.code ({ cls := "StoryColumns", name := "isBlock", desc := "(I)Z" } : Jvm.MethodName) prog_1_method_4_code (2 : Nat) (Option.some Jvm.ClassFile.FieldType.boolean)) ∈ lw_all := lw_g (lw_at lw_m2 223 rfl) rfl
theorem q522 : (Jvm.Cond.interfaceEntry "StoryColumns" (33 : Nat)) ∈ lw_tbl := lw_at lw_m2 224 rfl
theorem q523 : (Jvm.Cond.methodLink "StoryColumns" (33 : Nat) ({ cls := "java/util/List", name := "get", desc := "(I)Ljava/lang/Object;" } : Jvm.MethodName)) ∈ lw_all := lw_g (lw_at lw_m2 225 rfl) rfl
theorem q524 : (Jvm.Cond.methodLink "StoryColumns" (101 : Nat) ({ cls := "StoryColumns$Block", name := "isText", desc := "()Z" } : Jvm.MethodName)) ∈ lw_all := lw_g (lw_at lw_m2 226 rfl) rfl
theorem q531 : (Jvm.Cond.instanceMethod ({ cls := "StoryColumns", name := "line", desc := "(IIIII)I" } : Jvm.MethodName)) ∈ lw_all := lw_g (lw_at lw_m2 233 rfl) rfl
theorem q532 : (Jvm.Cond.selects "StoryColumns" ({ cls := "StoryColumns", name := "line", desc := "(IIIII)I" } : Jvm.MethodName) ({ cls := "StoryColumns", name := "line", desc := "(IIIII)I" } : Jvm.MethodName)) ∈ lw_all := lw_g (lw_at lw_m2 234 rfl) rfl
theorem q533 : (Jvm.Cond.code ({ cls := "StoryColumns", name := "line", desc := "(IIIII)I" } : Jvm.MethodName) prog_1_method_9_code (7 : Nat) (Option.some Jvm.ClassFile.FieldType.int)) ∈ lw_all := lw_g (lw_at lw_m2 235 rfl) rfl
theorem q534 : (Jvm.Cond.classLink "StoryColumns" (37 : Nat) "StoryColumns$Line") ∈ lw_all := lw_g (lw_at lw_m2 236 rfl) rfl
theorem q536 : (Jvm.Cond.methodLink "StoryColumns" (107 : Nat) ({ cls := "StoryColumns$Line", name := "<init>", desc := "(IIIII)V" } : Jvm.MethodName)) ∈ lw_all := lw_g (lw_at lw_m2 238 rfl) rfl
theorem q542 : (Jvm.Cond.fieldLinkNest "StoryColumns" (143 : Nat) "StoryColumns$Line" "page" "I" "StoryColumns") ∈ lw_tbl := lw_at lw_m3 4 rfl
theorem q545 : (Jvm.Cond.fieldLinkNest "StoryColumns" (125 : Nat) "StoryColumns$Line" "how" "I" "StoryColumns") ∈ lw_tbl := lw_at lw_m3 7 rfl
theorem q548 : (Jvm.Cond.fieldLinkNest "StoryColumns" (128 : Nat) "StoryColumns$Line" "at" "I" "StoryColumns") ∈ lw_tbl := lw_at lw_m3 10 rfl
theorem q550 : (Jvm.Cond.fieldLinkNest "StoryColumns" (43 : Nat) "StoryColumns$Line" "from" "I" "StoryColumns") ∈ lw_tbl := lw_at lw_m3 12 rfl
theorem q553 : (Jvm.Cond.fieldLinkNest "StoryColumns" (47 : Nat) "StoryColumns$Line" "until" "I" "StoryColumns") ∈ lw_tbl := lw_at lw_m3 15 rfl
theorem q567 : (Jvm.Cond.instanceMethod ({ cls := "StoryColumns", name := "back", desc := "()I" } : Jvm.MethodName)) ∈ lw_all := lw_g (lw_at lw_m3 29 rfl) rfl
theorem q568 : (Jvm.Cond.selects "StoryColumns" ({ cls := "StoryColumns", name := "back", desc := "()I" } : Jvm.MethodName) ({ cls := "StoryColumns", name := "back", desc := "()I" } : Jvm.MethodName)) ∈ lw_all := lw_g (lw_at lw_m3 30 rfl) rfl
theorem q569 : (Jvm.Cond.code ({ cls := "StoryColumns", name := "back", desc := "()I" } : Jvm.MethodName) prog_1_method_10_code (1 : Nat) (Option.some Jvm.ClassFile.FieldType.int)) ∈ lw_all := lw_g (lw_at lw_m3 31 rfl) rfl
theorem q570 : (Jvm.Cond.interfaceEntry "StoryColumns" (110 : Nat)) ∈ lw_tbl := lw_at lw_m3 32 rfl
theorem q571 : (Jvm.Cond.methodLink "StoryColumns" (110 : Nat) ({ cls := "java/util/List", name := "isEmpty", desc := "()Z" } : Jvm.MethodName)) ∈ lw_all := lw_g (lw_at lw_m3 33 rfl) rfl
theorem q579 : (Jvm.Cond.interfaceEntry "StoryColumns" (113 : Nat)) ∈ lw_tbl := lw_at lw_m3 41 rfl
theorem q580 : (Jvm.Cond.methodLink "StoryColumns" (113 : Nat) ({ cls := "java/util/List", name := "remove", desc := "(I)Ljava/lang/Object;" } : Jvm.MethodName)) ∈ lw_all := lw_g (lw_at lw_m3 42 rfl) rfl
theorem q594 : (Jvm.Cond.instanceMethod ({ cls := "StoryColumns", name := "erase", desc := "()I" } : Jvm.MethodName)) ∈ lw_all := lw_g (lw_at lw_m3 56 rfl) rfl
theorem q595 : (Jvm.Cond.selects "StoryColumns" ({ cls := "StoryColumns", name := "erase", desc := "()I" } : Jvm.MethodName) ({ cls := "StoryColumns", name := "erase", desc := "()I" } : Jvm.MethodName)) ∈ lw_all := lw_g (lw_at lw_m3 57 rfl) rfl
theorem q596 : (Jvm.Cond.code ({ cls := "StoryColumns", name := "erase", desc := "()I" } : Jvm.MethodName) prog_1_method_11_code (1 : Nat) (Option.some Jvm.ClassFile.FieldType.int)) ∈ lw_all := lw_g (lw_at lw_m3 58 rfl) rfl
theorem q598 : (Jvm.Cond.instanceMethod ({ cls := "StoryColumns", name := "clear", desc := "()I" } : Jvm.MethodName)) ∈ lw_all := lw_g (lw_at lw_m3 60 rfl) rfl
theorem q599 : (Jvm.Cond.selects "StoryColumns" ({ cls := "StoryColumns", name := "clear", desc := "()I" } : Jvm.MethodName) ({ cls := "StoryColumns", name := "clear", desc := "()I" } : Jvm.MethodName)) ∈ lw_all := lw_g (lw_at lw_m3 61 rfl) rfl
theorem q600 : (Jvm.Cond.code ({ cls := "StoryColumns", name := "clear", desc := "()I" } : Jvm.MethodName) prog_1_method_12_code (2 : Nat) (Option.some Jvm.ClassFile.FieldType.int)) ∈ lw_all := lw_g (lw_at lw_m3 62 rfl) rfl
theorem q601 : (Jvm.Cond.interfaceEntry "StoryColumns" (116 : Nat)) ∈ lw_tbl := lw_at lw_m3 63 rfl
theorem q602 : (Jvm.Cond.methodLink "StoryColumns" (116 : Nat) ({ cls := "java/util/List", name := "clear", desc := "()V" } : Jvm.MethodName)) ∈ lw_all := lw_g (lw_at lw_m3 64 rfl) rfl
theorem q611 : (Jvm.Cond.instanceMethod ({ cls := "StoryColumns", name := "turn", desc := "()I" } : Jvm.MethodName)) ∈ lw_all := lw_g (lw_at lw_m3 73 rfl) rfl
theorem q612 : (Jvm.Cond.selects "StoryColumns" ({ cls := "StoryColumns", name := "turn", desc := "()I" } : Jvm.MethodName) ({ cls := "StoryColumns", name := "turn", desc := "()I" } : Jvm.MethodName)) ∈ lw_all := lw_g (lw_at lw_m3 74 rfl) rfl
theorem q613 : (Jvm.Cond.code ({ cls := "StoryColumns", name := "turn", desc := "()I" } : Jvm.MethodName) prog_1_method_13_code (6 : Nat) (Option.some Jvm.ClassFile.FieldType.int)) ∈ lw_all := lw_g (lw_at lw_m3 75 rfl) rfl
theorem q615 : (Jvm.Cond.instanceMethod ({ cls := "StoryColumns", name := "ofBlock", desc := "(II)I" } : Jvm.MethodName)) ∈ lw_all := lw_g (lw_at lw_m3 77 rfl) rfl
theorem q616 : (Jvm.Cond.selects "StoryColumns" ({ cls := "StoryColumns", name := "ofBlock", desc := "(II)I" } : Jvm.MethodName) ({ cls := "StoryColumns", name := "ofBlock", desc := "(II)I" } : Jvm.MethodName)) ∈ lw_all := lw_g (lw_at lw_m3 78 rfl) rfl
theorem q617 : (Jvm.Cond.code ({ cls := "StoryColumns", name := "ofBlock", desc := "(II)I" } : Jvm.MethodName) prog_1_method_14_code (4 : Nat) (Option.some Jvm.ClassFile.FieldType.int)) ∈ lw_all := lw_g (lw_at lw_m3 79 rfl) rfl
theorem q619 : (Jvm.Cond.instanceMethod ({ cls := "StoryColumns", name := "ofLine", desc := "(II)I" } : Jvm.MethodName)) ∈ lw_all := lw_g (lw_at lw_m3 81 rfl) rfl
theorem q620 : (Jvm.Cond.selects "StoryColumns" ({ cls := "StoryColumns", name := "ofLine", desc := "(II)I" } : Jvm.MethodName) ({ cls := "StoryColumns", name := "ofLine", desc := "(II)I" } : Jvm.MethodName)) ∈ lw_all := lw_g (lw_at lw_m3 82 rfl) rfl
theorem q621 : (Jvm.Cond.code ({ cls := "StoryColumns", name := "ofLine", desc := "(II)I" } : Jvm.MethodName) prog_1_method_15_code (4 : Nat) (Option.some Jvm.ClassFile.FieldType.int)) ∈ lw_all := lw_g (lw_at lw_m3 83 rfl) rfl
theorem q623 : (Jvm.Cond.instanceMethod ({ cls := "StoryColumns", name := "at", desc := "(III)I" } : Jvm.MethodName)) ∈ lw_all := lw_g (lw_at lw_m3 85 rfl) rfl
theorem q624 : (Jvm.Cond.selects "StoryColumns" ({ cls := "StoryColumns", name := "at", desc := "(III)I" } : Jvm.MethodName) ({ cls := "StoryColumns", name := "at", desc := "(III)I" } : Jvm.MethodName)) ∈ lw_all := lw_g (lw_at lw_m3 86 rfl) rfl
theorem q625 : (Jvm.Cond.code ({ cls := "StoryColumns", name := "at", desc := "(III)I" } : Jvm.MethodName) prog_1_method_16_code (6 : Nat) (Option.some Jvm.ClassFile.FieldType.int)) ∈ lw_all := lw_g (lw_at lw_m3 87 rfl) rfl
theorem q640 : (Jvm.Cond.instanceMethod ({ cls := "StoryColumns", name := "reach", desc := "(II)I" } : Jvm.MethodName)) ∈ lw_all := lw_g (lw_at lw_m3 102 rfl) rfl
theorem q641 : (Jvm.Cond.selects "StoryColumns" ({ cls := "StoryColumns", name := "reach", desc := "(II)I" } : Jvm.MethodName) ({ cls := "StoryColumns", name := "reach", desc := "(II)I" } : Jvm.MethodName)) ∈ lw_all := lw_g (lw_at lw_m3 103 rfl) rfl
theorem q642 : (Jvm.Cond.code ({ cls := "StoryColumns", name := "reach", desc := "(II)I" } : Jvm.MethodName) prog_1_method_25_code (5 : Nat) (Option.some Jvm.ClassFile.FieldType.int)) ∈ lw_all := lw_g (lw_at lw_m3 104 rfl) rfl
theorem q643 : (Jvm.Cond.methodLink "StoryColumns" (230 : Nat) ({ cls := "StoryColumns$Head", name := "reach", desc := "(I)I" } : Jvm.MethodName)) ∈ lw_all := lw_g (lw_at lw_m3 105 rfl) rfl
theorem q652 : (Jvm.Cond.privateMethod ({ cls := "StoryColumns", name := "isBarred", desc := "(IIII)Z" } : Jvm.MethodName)) ∈ lw_tbl := lw_at lw_m3 114 rfl
theorem q653 : (Jvm.Cond.instanceMethod ({ cls := "StoryColumns", name := "isBarred", desc := "(IIII)Z" } : Jvm.MethodName)) ∈ lw_all := lw_g (lw_at lw_m3 115 rfl) rfl
theorem q654 : (Jvm.Cond.code ({ cls := "StoryColumns", name := "isBarred", desc := "(IIII)Z" } : Jvm.MethodName) prog_1_method_3_code (8 : Nat) (Option.some Jvm.ClassFile.FieldType.boolean)) ∈ lw_all := lw_g (lw_at lw_m3 116 rfl) rfl
theorem q655 : (Jvm.Cond.methodLink "StoryColumns" (39 : Nat) ({ cls := "StoryColumns$Line", name := "isUpright", desc := "(II)Z" } : Jvm.MethodName)) ∈ lw_all := lw_g (lw_at lw_m3 117 rfl) rfl
theorem q668 : (Jvm.Cond.instanceMethod ({ cls := "StoryColumns", name := "under", desc := "(I)I" } : Jvm.MethodName)) ∈ lw_all := lw_g (lw_at lw_m3 130 rfl) rfl
theorem q669 : (Jvm.Cond.selects "StoryColumns" ({ cls := "StoryColumns", name := "under", desc := "(I)I" } : Jvm.MethodName) ({ cls := "StoryColumns", name := "under", desc := "(I)I" } : Jvm.MethodName)) ∈ lw_all := lw_g (lw_at lw_m3 131 rfl) rfl
theorem q670 : (Jvm.Cond.code ({ cls := "StoryColumns", name := "under", desc := "(I)I" } : Jvm.MethodName) prog_1_method_26_code (3 : Nat) (Option.some Jvm.ClassFile.FieldType.int)) ∈ lw_all := lw_g (lw_at lw_m3 132 rfl) rfl
theorem q671 : (Jvm.Cond.methodLink "StoryColumns" (233 : Nat) ({ cls := "StoryColumns", name := "knows", desc := "()V" } : Jvm.MethodName)) ∈ lw_all := lw_g (lw_at lw_m3 133 rfl) rfl
theorem q672 : (Jvm.Cond.privateMethod ({ cls := "StoryColumns", name := "knows", desc := "()V" } : Jvm.MethodName)) ∈ lw_tbl := lw_at lw_m3 134 rfl
theorem q673 : (Jvm.Cond.instanceMethod ({ cls := "StoryColumns", name := "knows", desc := "()V" } : Jvm.MethodName)) ∈ lw_all := lw_g (lw_at lw_m3 135 rfl) rfl
theorem q674 : (Jvm.Cond.code ({ cls := "StoryColumns", name := "knows", desc := "()V" } : Jvm.MethodName) prog_1_method_24_code (2 : Nat) (Option.none : Option Jvm.ClassFile.FieldType)) ∈ lw_all := lw_g (lw_at lw_m3 136 rfl) rfl
theorem q675 : (Jvm.Cond.methodLink "StoryColumns" (216 : Nat) ({ cls := "StoryColumns", name := "gathers", desc := "()V" } : Jvm.MethodName)) ∈ lw_all := lw_g (lw_at lw_m3 137 rfl) rfl
theorem q676 : (Jvm.Cond.privateMethod ({ cls := "StoryColumns", name := "gathers", desc := "()V" } : Jvm.MethodName)) ∈ lw_tbl := lw_at lw_m3 138 rfl
theorem q677 : (Jvm.Cond.instanceMethod ({ cls := "StoryColumns", name := "gathers", desc := "()V" } : Jvm.MethodName)) ∈ lw_all := lw_g (lw_at lw_m3 139 rfl) rfl
theorem q678 : (Jvm.Cond.code ({ cls := "StoryColumns", name := "gathers", desc := "()V" } : Jvm.MethodName) prog_1_method_17_code (6 : Nat) (Option.none : Option Jvm.ClassFile.FieldType)) ∈ lw_all := lw_g (lw_at lw_m3 140 rfl) rfl
theorem q679 : (Jvm.Cond.methodLink "StoryColumns" (153 : Nat) ({ cls := "StoryColumns$Block", name := "forgets", desc := "()V" } : Jvm.MethodName)) ∈ lw_all := lw_g (lw_at lw_m3 141 rfl) rfl
theorem q685 : (Jvm.Cond.classLink "StoryColumns" (156 : Nat) "StoryColumns$Story") ∈ lw_all := lw_g (lw_at lw_m3 147 rfl) rfl
theorem q687 : (Jvm.Cond.methodLink "StoryColumns" (158 : Nat) ({ cls := "StoryColumns$Story", name := "<init>", desc := "(LStoryColumns;LStoryColumns$Head;)V" } : Jvm.MethodName)) ∈ lw_all := lw_g (lw_at lw_m3 149 rfl) rfl
theorem q695 : (Jvm.Cond.fieldLinkNest "StoryColumns" (244 : Nat) "StoryColumns$Story" "head" "LStoryColumns$Head;" "StoryColumns") ∈ lw_tbl := lw_at lw_m3 157 rfl
theorem q699 : (Jvm.Cond.fieldLinkNest "StoryColumns" (192 : Nat) "StoryColumns$Story" "texts" "Ljava/util/List;" "StoryColumns") ∈ lw_tbl := lw_at lw_m3 161 rfl
theorem q701 : (Jvm.Cond.fieldLinkNest "StoryColumns" (165 : Nat) "StoryColumns$Story" "place" "I" "StoryColumns") ∈ lw_tbl := lw_at lw_m3 163 rfl
theorem q703 : (Jvm.Cond.fieldLinkNest "StoryColumns" (250 : Nat) "StoryColumns$Story" "joined" "I" "StoryColumns") ∈ lw_tbl := lw_at lw_m3 165 rfl
theorem q706 : (Jvm.Cond.fieldLinkNest "StoryColumns" (204 : Nat) "StoryColumns$Story" "next" "LStoryColumns$Story;" "StoryColumns") ∈ lw_tbl := lw_at lw_m3 168 rfl
theorem q707 : (Jvm.Cond.fieldLinkNest "StoryColumns" (201 : Nat) "StoryColumns$Story" "before" "LStoryColumns$Story;" "StoryColumns") ∈ lw_tbl := lw_at lw_m3 169 rfl
theorem q708 : (Jvm.Cond.fieldLinkNest "StoryColumns" (206 : Nat) "StoryColumns$Story" "article" "I" "StoryColumns") ∈ lw_tbl := lw_at lw_m3 170 rfl
theorem q727 : (Jvm.Cond.methodLink "StoryColumns" (168 : Nat) ({ cls := "StoryColumns$Head", name := "isOver", desc := "(LStoryColumns$Block;)Z" } : Jvm.MethodName)) ∈ lw_all := lw_g (lw_at lw_m3 189 rfl) rfl
theorem q732 : (Jvm.Cond.methodLink "StoryColumns" (176 : Nat) ({ cls := "StoryColumns$Story", name := "gathers", desc := "(LStoryColumns$Block;)V" } : Jvm.MethodName)) ∈ lw_all := lw_g (lw_at lw_m3 194 rfl) rfl
theorem q758 : (Jvm.Cond.methodLink "StoryColumns" (218 : Nat) ({ cls := "StoryColumns", name := "joinsOne", desc := "()Z" } : Jvm.MethodName)) ∈ lw_all := lw_g (lw_at lw_m3 220 rfl) rfl
theorem q759 : (Jvm.Cond.privateMethod ({ cls := "StoryColumns", name := "joinsOne", desc := "()Z" } : Jvm.MethodName)) ∈ lw_tbl := lw_at lw_m3 221 rfl
theorem q760 : (Jvm.Cond.instanceMethod ({ cls := "StoryColumns", name := "joinsOne", desc := "()Z" } : Jvm.MethodName)) ∈ lw_all := lw_g (lw_at lw_m3 222 rfl) rfl
theorem q761 : (Jvm.Cond.code ({ cls := "StoryColumns", name := "joinsOne", desc := "()Z" } : Jvm.MethodName) prog_1_method_19_code (4 : Nat) (Option.some Jvm.ClassFile.FieldType.boolean)) ∈ lw_all := lw_g (lw_at lw_m3 223 rfl) rfl
theorem q762 : (Jvm.Cond.methodLink "StoryColumns" (184 : Nat) ({ cls := "StoryColumns", name := "takerOf", desc := "(LStoryColumns$Block;)LStoryColumns$Block;" } : Jvm.MethodName)) ∈ lw_all := lw_g (lw_at lw_m3 224 rfl) rfl
theorem q763 : (Jvm.Cond.privateMethod ({ cls := "StoryColumns", name := "takerOf", desc := "(LStoryColumns$Block;)LStoryColumns$Block;" } : Jvm.MethodName)) ∈ lw_tbl := lw_at lw_m3 225 rfl
theorem q764 : (Jvm.Cond.instanceMethod ({ cls := "StoryColumns", name := "takerOf", desc := "(LStoryColumns$Block;)LStoryColumns$Block;" } : Jvm.MethodName)) ∈ lw_all := lw_g (lw_at lw_m3 226 rfl) rfl
theorem q765 : (Jvm.Cond.code ({ cls := "StoryColumns", name := "takerOf", desc := "(LStoryColumns$Block;)LStoryColumns$Block;" } : Jvm.MethodName) prog_1_method_18_code (6 : Nat) (Option.some (Jvm.ClassFile.FieldType.object "StoryColumns$Block"))) ∈ lw_all := lw_g (lw_at lw_m3 227 rfl) rfl
theorem q766 : (Jvm.Cond.methodLink "StoryColumns" (181 : Nat) ({ cls := "StoryColumns$Block", name := "takes", desc := "(LStoryColumns$Block;)Z" } : Jvm.MethodName)) ∈ lw_all := lw_g (lw_at lw_m3 228 rfl) rfl
theorem q776 : (Jvm.Cond.methodLink "StoryColumns" (188 : Nat) ({ cls := "StoryColumns$Story", name := "joins", desc := "(LStoryColumns$Block;LStoryColumns$Block;)V" } : Jvm.MethodName)) ∈ lw_all := lw_g (lw_at lw_m3 238 rfl) rfl
theorem q782 : (Jvm.Cond.methodLink "StoryColumns" (221 : Nat) ({ cls := "StoryColumns", name := "laysStories", desc := "()V" } : Jvm.MethodName)) ∈ lw_all := lw_g (lw_at lw_m4 4 rfl) rfl
theorem q783 : (Jvm.Cond.privateMethod ({ cls := "StoryColumns", name := "laysStories", desc := "()V" } : Jvm.MethodName)) ∈ lw_tbl := lw_at lw_m4 5 rfl
theorem q784 : (Jvm.Cond.instanceMethod ({ cls := "StoryColumns", name := "laysStories", desc := "()V" } : Jvm.MethodName)) ∈ lw_all := lw_g (lw_at lw_m4 6 rfl) rfl
theorem q785 : (Jvm.Cond.code ({ cls := "StoryColumns", name := "laysStories", desc := "()V" } : Jvm.MethodName) prog_1_method_20_code (4 : Nat) (Option.none : Option Jvm.ClassFile.FieldType)) ∈ lw_all := lw_g (lw_at lw_m4 7 rfl) rfl
theorem q786 : (Jvm.Cond.methodLink "StoryColumns" (195 : Nat) ({ cls := "StoryColumns$Story", name := "number", desc := "()I" } : Jvm.MethodName)) ∈ lw_all := lw_g (lw_at lw_m4 8 rfl) rfl
theorem q805 : (Jvm.Cond.methodLink "StoryColumns" (224 : Nat) ({ cls := "StoryColumns", name := "links", desc := "()V" } : Jvm.MethodName)) ∈ lw_all := lw_g (lw_at lw_m4 27 rfl) rfl
theorem q806 : (Jvm.Cond.privateMethod ({ cls := "StoryColumns", name := "links", desc := "()V" } : Jvm.MethodName)) ∈ lw_tbl := lw_at lw_m4 28 rfl
theorem q807 : (Jvm.Cond.instanceMethod ({ cls := "StoryColumns", name := "links", desc := "()V" } : Jvm.MethodName)) ∈ lw_all := lw_g (lw_at lw_m4 29 rfl) rfl
theorem q808 : (Jvm.Cond.code ({ cls := "StoryColumns", name := "links", desc := "()V" } : Jvm.MethodName) prog_1_method_21_code (4 : Nat) (Option.none : Option Jvm.ClassFile.FieldType)) ∈ lw_all := lw_g (lw_at lw_m4 30 rfl) rfl
theorem q809 : (Jvm.Cond.methodLink "StoryColumns" (197 : Nat) ({ cls := "StoryColumns$Story", name := "aim", desc := "()LStoryColumns$Story;" } : Jvm.MethodName)) ∈ lw_all := lw_g (lw_at lw_m4 31 rfl) rfl
theorem q827 : (Jvm.Cond.methodLink "StoryColumns" (227 : Nat) ({ cls := "StoryColumns", name := "laysArticles", desc := "()V" } : Jvm.MethodName)) ∈ lw_all := lw_g (lw_at lw_m4 49 rfl) rfl
theorem q828 : (Jvm.Cond.privateMethod ({ cls := "StoryColumns", name := "laysArticles", desc := "()V" } : Jvm.MethodName)) ∈ lw_tbl := lw_at lw_m4 50 rfl
theorem q829 : (Jvm.Cond.instanceMethod ({ cls := "StoryColumns", name := "laysArticles", desc := "()V" } : Jvm.MethodName)) ∈ lw_all := lw_g (lw_at lw_m4 51 rfl) rfl
theorem q830 : (Jvm.Cond.code ({ cls := "StoryColumns", name := "laysArticles", desc := "()V" } : Jvm.MethodName) prog_1_method_23_code (3 : Nat) (Option.none : Option Jvm.ClassFile.FieldType)) ∈ lw_all := lw_g (lw_at lw_m4 52 rfl) rfl
theorem q831 : (Jvm.Cond.methodLink "StoryColumns" (209 : Nat) ({ cls := "StoryColumns", name := "follows", desc := "(LStoryColumns$Story;)V" } : Jvm.MethodName)) ∈ lw_all := lw_g (lw_at lw_m4 53 rfl) rfl
theorem q832 : (Jvm.Cond.privateMethod ({ cls := "StoryColumns", name := "follows", desc := "(LStoryColumns$Story;)V" } : Jvm.MethodName)) ∈ lw_tbl := lw_at lw_m4 54 rfl
theorem q833 : (Jvm.Cond.instanceMethod ({ cls := "StoryColumns", name := "follows", desc := "(LStoryColumns$Story;)V" } : Jvm.MethodName)) ∈ lw_all := lw_g (lw_at lw_m4 55 rfl) rfl
theorem q834 : (Jvm.Cond.code ({ cls := "StoryColumns", name := "follows", desc := "(LStoryColumns$Story;)V" } : Jvm.MethodName) prog_1_method_22_code (4 : Nat) (Option.none : Option Jvm.ClassFile.FieldType)) ∈ lw_all := lw_g (lw_at lw_m4 56 rfl) rfl
theorem q836 : (Jvm.Cond.instanceMethod ({ cls := "StoryColumns", name := "story", desc := "(I)I" } : Jvm.MethodName)) ∈ lw_all := lw_g (lw_at lw_m4 58 rfl) rfl
theorem q837 : (Jvm.Cond.selects "StoryColumns" ({ cls := "StoryColumns", name := "story", desc := "(I)I" } : Jvm.MethodName) ({ cls := "StoryColumns", name := "story", desc := "(I)I" } : Jvm.MethodName)) ∈ lw_all := lw_g (lw_at lw_m4 59 rfl) rfl
theorem q838 : (Jvm.Cond.code ({ cls := "StoryColumns", name := "story", desc := "(I)I" } : Jvm.MethodName) prog_1_method_27_code (4 : Nat) (Option.some Jvm.ClassFile.FieldType.int)) ∈ lw_all := lw_g (lw_at lw_m4 60 rfl) rfl
theorem q840 : (Jvm.Cond.instanceMethod ({ cls := "StoryColumns", name := "takenBy", desc := "(I)I" } : Jvm.MethodName)) ∈ lw_all := lw_g (lw_at lw_m4 62 rfl) rfl
theorem q841 : (Jvm.Cond.selects "StoryColumns" ({ cls := "StoryColumns", name := "takenBy", desc := "(I)I" } : Jvm.MethodName) ({ cls := "StoryColumns", name := "takenBy", desc := "(I)I" } : Jvm.MethodName)) ∈ lw_all := lw_g (lw_at lw_m4 63 rfl) rfl
theorem q842 : (Jvm.Cond.code ({ cls := "StoryColumns", name := "takenBy", desc := "(I)I" } : Jvm.MethodName) prog_1_method_28_code (3 : Nat) (Option.some Jvm.ClassFile.FieldType.int)) ∈ lw_all := lw_g (lw_at lw_m4 64 rfl) rfl
theorem q844 : (Jvm.Cond.instanceMethod ({ cls := "StoryColumns", name := "ofStory", desc := "(II)I" } : Jvm.MethodName)) ∈ lw_all := lw_g (lw_at lw_m4 66 rfl) rfl
theorem q845 : (Jvm.Cond.selects "StoryColumns" ({ cls := "StoryColumns", name := "ofStory", desc := "(II)I" } : Jvm.MethodName) ({ cls := "StoryColumns", name := "ofStory", desc := "(II)I" } : Jvm.MethodName)) ∈ lw_all := lw_g (lw_at lw_m4 67 rfl) rfl
theorem q846 : (Jvm.Cond.code ({ cls := "StoryColumns", name := "ofStory", desc := "(II)I" } : Jvm.MethodName) prog_1_method_31_code (4 : Nat) (Option.some Jvm.ClassFile.FieldType.int)) ∈ lw_all := lw_g (lw_at lw_m4 68 rfl) rfl
theorem q847 : (Jvm.Cond.methodLink "StoryColumns" (241 : Nat) ({ cls := "StoryColumns", name := "isStory", desc := "(I)Z" } : Jvm.MethodName)) ∈ lw_all := lw_g (lw_at lw_m4 69 rfl) rfl
theorem q848 : (Jvm.Cond.privateMethod ({ cls := "StoryColumns", name := "isStory", desc := "(I)Z" } : Jvm.MethodName)) ∈ lw_tbl := lw_at lw_m4 70 rfl
theorem q849 : (Jvm.Cond.instanceMethod ({ cls := "StoryColumns", name := "isStory", desc := "(I)Z" } : Jvm.MethodName)) ∈ lw_all := lw_g (lw_at lw_m4 71 rfl) rfl
theorem q850 : (Jvm.Cond.code ({ cls := "StoryColumns", name := "isStory", desc := "(I)Z" } : Jvm.MethodName) prog_1_method_29_code (2 : Nat) (Option.some Jvm.ClassFile.FieldType.boolean)) ∈ lw_all := lw_g (lw_at lw_m4 72 rfl) rfl
theorem q851 : (Jvm.Cond.methodLink "StoryColumns" (245 : Nat) ({ cls := "StoryColumns$Story", name := "words", desc := "()I" } : Jvm.MethodName)) ∈ lw_all := lw_g (lw_at lw_m4 73 rfl) rfl
theorem q855 : (Jvm.Cond.methodLink "StoryColumns" (247 : Nat) ({ cls := "StoryColumns$Story", name := "pictures", desc := "()I" } : Jvm.MethodName)) ∈ lw_all := lw_g (lw_at lw_m4 77 rfl) rfl
theorem q859 : (Jvm.Cond.methodLink "StoryColumns" (253 : Nat) ({ cls := "StoryColumns", name := "numberOf", desc := "(LStoryColumns$Story;)I" } : Jvm.MethodName)) ∈ lw_all := lw_g (lw_at lw_m4 81 rfl) rfl
theorem q860 : (Jvm.Cond.static ({ cls := "StoryColumns", name := "numberOf", desc := "(LStoryColumns$Story;)I" } : Jvm.MethodName)) ∈ lw_all := lw_g (lw_at lw_m4 82 rfl) rfl
theorem q861 : (Jvm.Cond.code ({ cls := "StoryColumns", name := "numberOf", desc := "(LStoryColumns$Story;)I" } : Jvm.MethodName) prog_1_method_30_code (1 : Nat) (Option.some Jvm.ClassFile.FieldType.int)) ∈ lw_all := lw_g (lw_at lw_m4 83 rfl) rfl
theorem q862 : (Jvm.Cond.methodLink "StoryColumns" (257 : Nat) ({ cls := "StoryColumns$Story", name := "isBroken", desc := "()Z" } : Jvm.MethodName)) ∈ lw_all := lw_g (lw_at lw_m4 84 rfl) rfl
theorem q867 : (Jvm.Cond.instanceMethod ({ cls := "StoryColumns", name := "text", desc := "(II)I" } : Jvm.MethodName)) ∈ lw_all := lw_g (lw_at lw_m4 89 rfl) rfl
theorem q868 : (Jvm.Cond.selects "StoryColumns" ({ cls := "StoryColumns", name := "text", desc := "(II)I" } : Jvm.MethodName) ({ cls := "StoryColumns", name := "text", desc := "(II)I" } : Jvm.MethodName)) ∈ lw_all := lw_g (lw_at lw_m4 90 rfl) rfl
theorem q869 : (Jvm.Cond.code ({ cls := "StoryColumns", name := "text", desc := "(II)I" } : Jvm.MethodName) prog_1_method_32_code (4 : Nat) (Option.some Jvm.ClassFile.FieldType.int)) ∈ lw_all := lw_g (lw_at lw_m4 91 rfl) rfl
theorem q871 : (Jvm.Cond.instanceMethod ({ cls := "StoryColumns", name := "mark", desc := "(IIII)I" } : Jvm.MethodName)) ∈ lw_all := lw_g (lw_at lw_m4 93 rfl) rfl
theorem q872 : (Jvm.Cond.selects "StoryColumns" ({ cls := "StoryColumns", name := "mark", desc := "(IIII)I" } : Jvm.MethodName) ({ cls := "StoryColumns", name := "mark", desc := "(IIII)I" } : Jvm.MethodName)) ∈ lw_all := lw_g (lw_at lw_m4 94 rfl) rfl
theorem q873 : (Jvm.Cond.code ({ cls := "StoryColumns", name := "mark", desc := "(IIII)I" } : Jvm.MethodName) prog_1_method_33_code (7 : Nat) (Option.some Jvm.ClassFile.FieldType.int)) ∈ lw_all := lw_g (lw_at lw_m4 95 rfl) rfl
theorem q874 : (Jvm.Cond.classLink "StoryColumns" (264 : Nat) "StoryColumns$Mark") ∈ lw_all := lw_g (lw_at lw_m4 96 rfl) rfl
theorem q876 : (Jvm.Cond.methodLink "StoryColumns" (266 : Nat) ({ cls := "StoryColumns$Mark", name := "<init>", desc := "(II)V" } : Jvm.MethodName)) ∈ lw_all := lw_g (lw_at lw_m4 98 rfl) rfl
theorem q882 : (Jvm.Cond.fieldLinkNest "StoryColumns" (269 : Nat) "StoryColumns$Mark" "page" "I" "StoryColumns") ∈ lw_tbl := lw_at lw_m4 104 rfl
theorem q885 : (Jvm.Cond.fieldLinkNest "StoryColumns" (270 : Nat) "StoryColumns$Mark" "word" "I" "StoryColumns") ∈ lw_tbl := lw_at lw_m4 107 rfl
theorem q892 : (Jvm.Cond.instanceMethod ({ cls := "StoryColumns", name := "unmark", desc := "(II)I" } : Jvm.MethodName)) ∈ lw_all := lw_g (lw_at lw_m4 114 rfl) rfl
theorem q893 : (Jvm.Cond.selects "StoryColumns" ({ cls := "StoryColumns", name := "unmark", desc := "(II)I" } : Jvm.MethodName) ({ cls := "StoryColumns", name := "unmark", desc := "(II)I" } : Jvm.MethodName)) ∈ lw_all := lw_g (lw_at lw_m4 115 rfl) rfl
theorem q894 : (Jvm.Cond.code ({ cls := "StoryColumns", name := "unmark", desc := "(II)I" } : Jvm.MethodName) prog_1_method_34_code (5 : Nat) (Option.some Jvm.ClassFile.FieldType.int)) ∈ lw_all := lw_g (lw_at lw_m4 116 rfl) rfl
theorem q896 : (Jvm.Cond.instanceMethod ({ cls := "StoryColumns", name := "ofMark", desc := "(III)I" } : Jvm.MethodName)) ∈ lw_all := lw_g (lw_at lw_m4 118 rfl) rfl
theorem q897 : (Jvm.Cond.selects "StoryColumns" ({ cls := "StoryColumns", name := "ofMark", desc := "(III)I" } : Jvm.MethodName) ({ cls := "StoryColumns", name := "ofMark", desc := "(III)I" } : Jvm.MethodName)) ∈ lw_all := lw_g (lw_at lw_m4 119 rfl) rfl
theorem q898 : (Jvm.Cond.code ({ cls := "StoryColumns", name := "ofMark", desc := "(III)I" } : Jvm.MethodName) prog_1_method_35_code (5 : Nat) (Option.some Jvm.ClassFile.FieldType.int)) ∈ lw_all := lw_g (lw_at lw_m4 120 rfl) rfl
theorem q900 : (Jvm.Cond.instanceMethod ({ cls := "StoryColumns", name := "ofArticle", desc := "(II)I" } : Jvm.MethodName)) ∈ lw_all := lw_g (lw_at lw_m4 122 rfl) rfl
theorem q901 : (Jvm.Cond.selects "StoryColumns" ({ cls := "StoryColumns", name := "ofArticle", desc := "(II)I" } : Jvm.MethodName) ({ cls := "StoryColumns", name := "ofArticle", desc := "(II)I" } : Jvm.MethodName)) ∈ lw_all := lw_g (lw_at lw_m4 123 rfl) rfl
theorem q902 : (Jvm.Cond.code ({ cls := "StoryColumns", name := "ofArticle", desc := "(II)I" } : Jvm.MethodName) prog_1_method_41_code (3 : Nat) (Option.some Jvm.ClassFile.FieldType.int)) ∈ lw_all := lw_g (lw_at lw_m4 124 rfl) rfl
theorem q903 : (Jvm.Cond.methodLink "StoryColumns" (305 : Nat) ({ cls := "StoryColumns", name := "isArticle", desc := "(I)Z" } : Jvm.MethodName)) ∈ lw_all := lw_g (lw_at lw_m4 125 rfl) rfl
theorem q904 : (Jvm.Cond.privateMethod ({ cls := "StoryColumns", name := "isArticle", desc := "(I)Z" } : Jvm.MethodName)) ∈ lw_tbl := lw_at lw_m4 126 rfl
theorem q905 : (Jvm.Cond.instanceMethod ({ cls := "StoryColumns", name := "isArticle", desc := "(I)Z" } : Jvm.MethodName)) ∈ lw_all := lw_g (lw_at lw_m4 127 rfl) rfl
theorem q906 : (Jvm.Cond.code ({ cls := "StoryColumns", name := "isArticle", desc := "(I)Z" } : Jvm.MethodName) prog_1_method_37_code (2 : Nat) (Option.some Jvm.ClassFile.FieldType.boolean)) ∈ lw_all := lw_g (lw_at lw_m4 128 rfl) rfl
theorem q907 : (Jvm.Cond.methodLink "StoryColumns" (308 : Nat) ({ cls := "StoryColumns", name := "sum", desc := "(IZZ)I" } : Jvm.MethodName)) ∈ lw_all := lw_g (lw_at lw_m4 129 rfl) rfl
theorem q908 : (Jvm.Cond.privateMethod ({ cls := "StoryColumns", name := "sum", desc := "(IZZ)I" } : Jvm.MethodName)) ∈ lw_tbl := lw_at lw_m4 130 rfl
theorem q909 : (Jvm.Cond.instanceMethod ({ cls := "StoryColumns", name := "sum", desc := "(IZZ)I" } : Jvm.MethodName)) ∈ lw_all := lw_g (lw_at lw_m4 131 rfl) rfl
theorem q910 : (Jvm.Cond.code ({ cls := "StoryColumns", name := "sum", desc := "(IZZ)I" } : Jvm.MethodName) prog_1_method_38_code (7 : Nat) (Option.some Jvm.ClassFile.FieldType.int)) ∈ lw_all := lw_g (lw_at lw_m4 132 rfl) rfl
theorem q911 : (Jvm.Cond.classLink "StoryColumns" (278 : Nat) "StoryColumns$1Adding") ∈ lw_all := lw_g (lw_at lw_m4 133 rfl) rfl
theorem q913 : (Jvm.Cond.methodLink "StoryColumns" (280 : Nat) ({ cls := "StoryColumns$1Adding", name := "<init>", desc := "(LStoryColumns;ZZ)V" } : Jvm.MethodName)) ∈ lw_all := lw_g (lw_at lw_m4 135 rfl) rfl
theorem q918 : (Jvm.Cond.fieldLinkNest "StoryColumns" (293 : Nat) "StoryColumns$1Adding" "sum" "I" "StoryColumns") ∈ lw_tbl := lw_at lw_m4 140 rfl
theorem q931 : (Jvm.Cond.methodLink "StoryColumns" (283 : Nat) ({ cls := "StoryColumns", name := "chain", desc := "(I)Ljava/lang/Iterable;" } : Jvm.MethodName)) ∈ lw_all := lw_g (lw_at lw_m4 153 rfl) rfl
theorem q932 : (Jvm.Cond.privateMethod ({ cls := "StoryColumns", name := "chain", desc := "(I)Ljava/lang/Iterable;" } : Jvm.MethodName)) ∈ lw_tbl := lw_at lw_m4 154 rfl
theorem q933 : (Jvm.Cond.instanceMethod ({ cls := "StoryColumns", name := "chain", desc := "(I)Ljava/lang/Iterable;" } : Jvm.MethodName)) ∈ lw_all := lw_g (lw_at lw_m4 155 rfl) rfl
theorem q934 : (Jvm.Cond.code ({ cls := "StoryColumns", name := "chain", desc := "(I)Ljava/lang/Iterable;" } : Jvm.MethodName) prog_1_method_36_code (3 : Nat) (Option.some (Jvm.ClassFile.FieldType.object "java/lang/Iterable"))) ∈ lw_all := lw_g (lw_at lw_m4 156 rfl) rfl
theorem q935 : (Jvm.Cond.classLink "StoryColumns" (273 : Nat) "StoryColumns$1") ∈ lw_all := lw_g (lw_at lw_m4 157 rfl) rfl
theorem q937 : (Jvm.Cond.methodLink "StoryColumns" (275 : Nat) ({ cls := "StoryColumns$1", name := "<init>", desc := "(LStoryColumns;LStoryColumns$Story;)V" } : Jvm.MethodName)) ∈ lw_all := lw_g (lw_at lw_m4 159 rfl) rfl
theorem q949 : (Jvm.Cond.interfaceEntry "StoryColumns" (287 : Nat)) ∈ lw_tbl := lw_at lw_m4 171 rfl
theorem q950 : (Jvm.Cond.methodLink "StoryColumns" (287 : Nat) ({ cls := "java/lang/Iterable", name := "iterator", desc := "()Ljava/util/Iterator;" } : Jvm.MethodName)) ∈ lw_all := lw_g (lw_at lw_m4 172 rfl) rfl
theorem q974 : (Jvm.Cond.methodLink "StoryColumns" (290 : Nat) ({ cls := "StoryColumns$1Adding", name := "adds", desc := "(LStoryColumns$Story;)V" } : Jvm.MethodName)) ∈ lw_all := lw_g (lw_at lw_m4 196 rfl) rfl
theorem q981 : (Jvm.Cond.methodLink "StoryColumns" (311 : Nat) ({ cls := "StoryColumns", name := "pagesOf", desc := "(I)I" } : Jvm.MethodName)) ∈ lw_all := lw_g (lw_at lw_m4 203 rfl) rfl
theorem q982 : (Jvm.Cond.privateMethod ({ cls := "StoryColumns", name := "pagesOf", desc := "(I)I" } : Jvm.MethodName)) ∈ lw_tbl := lw_at lw_m4 204 rfl
theorem q983 : (Jvm.Cond.instanceMethod ({ cls := "StoryColumns", name := "pagesOf", desc := "(I)I" } : Jvm.MethodName)) ∈ lw_all := lw_g (lw_at lw_m4 205 rfl) rfl
theorem q984 : (Jvm.Cond.code ({ cls := "StoryColumns", name := "pagesOf", desc := "(I)I" } : Jvm.MethodName) prog_1_method_39_code (4 : Nat) (Option.some Jvm.ClassFile.FieldType.int)) ∈ lw_all := lw_g (lw_at lw_m4 206 rfl) rfl
theorem q985 : (Jvm.Cond.classLink "StoryColumns" (296 : Nat) "StoryColumns$Reading") ∈ lw_all := lw_g (lw_at lw_m4 207 rfl) rfl
theorem q986 : (Jvm.Cond.methodLink "StoryColumns" (298 : Nat) ({ cls := "StoryColumns$Reading", name := "<init>", desc := "(LStoryColumns;I)V" } : Jvm.MethodName)) ∈ lw_all := lw_g (lw_at lw_m4 208 rfl) rfl
theorem q1006 : (Jvm.Cond.methodLink "StoryColumns" (301 : Nat) ({ cls := "StoryColumns$Reading", name := "hasNext", desc := "()Z" } : Jvm.MethodName)) ∈ lw_all := lw_g (lw_at lw_m4 228 rfl) rfl
theorem q1007 : (Jvm.Cond.methodLink "StoryColumns" (302 : Nat) ({ cls := "StoryColumns$Reading", name := "next", desc := "()LStoryColumns$Block;" } : Jvm.MethodName)) ∈ lw_all := lw_g (lw_at lw_m4 229 rfl) rfl
theorem q1008 : (Jvm.Cond.methodLink "StoryColumns" (314 : Nat) ({ cls := "StoryColumns", name := "isBrokenOff", desc := "(I)Z" } : Jvm.MethodName)) ∈ lw_all := lw_g (lw_at lw_m4 230 rfl) rfl
theorem q1009 : (Jvm.Cond.privateMethod ({ cls := "StoryColumns", name := "isBrokenOff", desc := "(I)Z" } : Jvm.MethodName)) ∈ lw_tbl := lw_at lw_m4 231 rfl
theorem q1010 : (Jvm.Cond.instanceMethod ({ cls := "StoryColumns", name := "isBrokenOff", desc := "(I)Z" } : Jvm.MethodName)) ∈ lw_all := lw_g (lw_at lw_m4 232 rfl) rfl
theorem q1011 : (Jvm.Cond.code ({ cls := "StoryColumns", name := "isBrokenOff", desc := "(I)Z" } : Jvm.MethodName) prog_1_method_40_code (5 : Nat) (Option.some Jvm.ClassFile.FieldType.boolean)) ∈ lw_all := lw_g (lw_at lw_m4 233 rfl) rfl
theorem q1013 : (Jvm.Cond.instanceMethod ({ cls := "StoryColumns", name := "read", desc := "(II)I" } : Jvm.MethodName)) ∈ lw_all := lw_g (lw_at lw_m4 235 rfl) rfl
theorem q1014 : (Jvm.Cond.selects "StoryColumns" ({ cls := "StoryColumns", name := "read", desc := "(II)I" } : Jvm.MethodName) ({ cls := "StoryColumns", name := "read", desc := "(II)I" } : Jvm.MethodName)) ∈ lw_all := lw_g (lw_at lw_m4 236 rfl) rfl
theorem q1015 : (Jvm.Cond.code ({ cls := "StoryColumns", name := "read", desc := "(II)I" } : Jvm.MethodName) prog_1_method_42_code (6 : Nat) (Option.some Jvm.ClassFile.FieldType.int)) ∈ lw_all := lw_g (lw_at lw_m4 237 rfl) rfl
theorem q1017 : (Jvm.Cond.instanceMethod ({ cls := "StoryColumns", name := "many", desc := "(I)I" } : Jvm.MethodName)) ∈ lw_all := lw_g (lw_at lw_m4 239 rfl) rfl
theorem q1018 : (Jvm.Cond.selects "StoryColumns" ({ cls := "StoryColumns", name := "many", desc := "(I)I" } : Jvm.MethodName) ({ cls := "StoryColumns", name := "many", desc := "(I)I" } : Jvm.MethodName)) ∈ lw_all := lw_g (lw_at lw_m5 0 rfl) rfl
theorem q1019 : (Jvm.Cond.code ({ cls := "StoryColumns", name := "many", desc := "(I)I" } : Jvm.MethodName) prog_1_method_46_code (2 : Nat) (Option.some Jvm.ClassFile.FieldType.int)) ∈ lw_all := lw_g (lw_at lw_m5 1 rfl) rfl
theorem q1020 : (Jvm.Cond.methodLink "StoryColumns" (317 : Nat) ({ cls := "StoryColumns", name := "manyOf", desc := "(I)I" } : Jvm.MethodName)) ∈ lw_all := lw_g (lw_at lw_m5 2 rfl) rfl
theorem q1021 : (Jvm.Cond.privateMethod ({ cls := "StoryColumns", name := "manyOf", desc := "(I)I" } : Jvm.MethodName)) ∈ lw_tbl := lw_at lw_m5 3 rfl
theorem q1022 : (Jvm.Cond.instanceMethod ({ cls := "StoryColumns", name := "manyOf", desc := "(I)I" } : Jvm.MethodName)) ∈ lw_all := lw_g (lw_at lw_m5 4 rfl) rfl
theorem q1023 : (Jvm.Cond.code ({ cls := "StoryColumns", name := "manyOf", desc := "(I)I" } : Jvm.MethodName) prog_1_method_43_code (5 : Nat) (Option.some Jvm.ClassFile.FieldType.int)) ∈ lw_all := lw_g (lw_at lw_m5 5 rfl) rfl
theorem q1024 : (Jvm.Cond.methodLink "StoryColumns" (320 : Nat) ({ cls := "StoryColumns", name := "manyBlocks", desc := "(I)I" } : Jvm.MethodName)) ∈ lw_all := lw_g (lw_at lw_m5 6 rfl) rfl
theorem q1025 : (Jvm.Cond.privateMethod ({ cls := "StoryColumns", name := "manyBlocks", desc := "(I)I" } : Jvm.MethodName)) ∈ lw_tbl := lw_at lw_m5 7 rfl
theorem q1026 : (Jvm.Cond.instanceMethod ({ cls := "StoryColumns", name := "manyBlocks", desc := "(I)I" } : Jvm.MethodName)) ∈ lw_all := lw_g (lw_at lw_m5 8 rfl) rfl
theorem q1027 : (Jvm.Cond.code ({ cls := "StoryColumns", name := "manyBlocks", desc := "(I)I" } : Jvm.MethodName) prog_1_method_45_code (6 : Nat) (Option.some Jvm.ClassFile.FieldType.int)) ∈ lw_all := lw_g (lw_at lw_m5 9 rfl) rfl
theorem q1028 : (Jvm.Cond.methodLink "StoryColumns" (323 : Nat) ({ cls := "StoryColumns", name := "manyBroken", desc := "()I" } : Jvm.MethodName)) ∈ lw_all := lw_g (lw_at lw_m5 10 rfl) rfl
theorem q1029 : (Jvm.Cond.privateMethod ({ cls := "StoryColumns", name := "manyBroken", desc := "()I" } : Jvm.MethodName)) ∈ lw_tbl := lw_at lw_m5 11 rfl
theorem q1030 : (Jvm.Cond.instanceMethod ({ cls := "StoryColumns", name := "manyBroken", desc := "()I" } : Jvm.MethodName)) ∈ lw_all := lw_g (lw_at lw_m5 12 rfl) rfl
theorem q1031 : (Jvm.Cond.code ({ cls := "StoryColumns", name := "manyBroken", desc := "()I" } : Jvm.MethodName) prog_1_method_44_code (4 : Nat) (Option.some Jvm.ClassFile.FieldType.int)) ∈ lw_all := lw_g (lw_at lw_m5 13 rfl) rfl
theorem q1361 : (Jvm.Cond.castable "StoryColumns" "java/lang/Object") ∈ lw_tbl := lw_at lw_m6 103 rfl
theorem in_X0 : ∀ w ∈ wsX00, w ∈ lw_all := lw_in wsX00 [128, 130, 132, 134, 136, 138] (by decide +kernel) (by decide +kernel)
/-! StoryColumns$Reading -/
set_option maxRecDepth 100000
def RX10 : String := "StoryColumns$Reading"
def TX10 : u_T := fun k => match k with
  | 0 => ("StoryColumns$Reading", "stories", "Ljava/util/Iterator;", true)
  | 1 => ("StoryColumns$Reading", "story", "LStoryColumns$Story;", false)
  | 2 => ("StoryColumns$Reading", "next", "I", false)
  | _ => ("StoryColumns$Reading", "this$0", "LStoryColumns;", true)
def tyX10 : Nat → FieldType := fun k => match k with
  | 0 => .object "java/util/Iterator"
  | 1 => .object "StoryColumns$Story"
  | 2 => .int
  | _ => .object "StoryColumns"
abbrev wsX100 : List Cond := u_ws RX10 TX10 4
theorem nmX10 : ∀ a, a < 4 → ∀ b, b < 4 → a ≠ b → (TX10 a).2.1 ≠ (TX10 b).2.1 := by decide +kernel
theorem tyX10_ok : ∀ k, k < 4 → parseFieldDescriptor (TX10 k).2.2.1 = some (tyX10 k) := by decide +kernel
abbrev cX10_hasNext : ByteArray := prog_11_method_3_code
def yX10_hasNext : MethodName := ⟨RX10, "hasNext", "()Z"⟩
def dkwX10_hasNext_2 : List UInt8 := [180, 0, 49, 42, 182, 0, 53, 162, 0, 7, 4, 167, 0, 4, 3, 172]
abbrev dktX10_hasNext_2 : List UInt8 := dkwX10_hasNext_2 ++ []
def dkwX10_hasNext_1 : List UInt8 := [42, 180, 0, 25, 185, 0, 60, 1, 0, 192, 0, 34, 181, 0, 29, 42, 3, 181, 0, 49, 167, 255, 212, 42]
abbrev dktX10_hasNext_1 : List UInt8 := dkwX10_hasNext_1 ++ dktX10_hasNext_2
def dkwX10_hasNext_0 : List UInt8 := [42, 180, 0, 49, 42, 182, 0, 53, 160, 0, 39, 42, 180, 0, 25, 185, 0, 54, 1, 0, 153, 0, 27, 42]
abbrev dktX10_hasNext_0 : List UInt8 := dkwX10_hasNext_0 ++ dktX10_hasNext_1
theorem dksX10_hasNext_0 : cX10_hasNext.data.toList.drop 0 = dktX10_hasNext_0 := by decide +kernel
theorem dksX10_hasNext_1 : cX10_hasNext.data.toList.drop 24 = dktX10_hasNext_1 := dk_seg dksX10_hasNext_0 24 rfl rfl
theorem dksX10_hasNext_2 : cX10_hasNext.data.toList.drop 48 = dktX10_hasNext_2 := dk_seg dksX10_hasNext_1 24 rfl rfl
theorem dX10_hasNext_0 : decode cX10_hasNext 0 = .ok (.aload_n 0, 1) := dk_42 (dk_at dksX10_hasNext_0 0 rfl rfl)
theorem dX10_hasNext_1 : decode cX10_hasNext 1 = .ok (.getfield 49, 3) := dk_180 0 49 (dk_at dksX10_hasNext_0 1 rfl rfl)
theorem dX10_hasNext_4 : decode cX10_hasNext 4 = .ok (.aload_n 0, 1) := dk_42 (dk_at dksX10_hasNext_0 4 rfl rfl)
theorem dX10_hasNext_5 : decode cX10_hasNext 5 = .ok (.invokevirtual 53, 3) := dk_182 0 53 (dk_at dksX10_hasNext_0 5 rfl rfl)
theorem dX10_hasNext_8 : decode cX10_hasNext 8 = .ok (.if_icmp .ne 39, 3) := dk_160 0 39 (dk_at dksX10_hasNext_0 8 rfl rfl)
theorem dX10_hasNext_11 : decode cX10_hasNext 11 = .ok (.aload_n 0, 1) := dk_42 (dk_at dksX10_hasNext_0 11 rfl rfl)
theorem dX10_hasNext_12 : decode cX10_hasNext 12 = .ok (.getfield 25, 3) := dk_180 0 25 (dk_at dksX10_hasNext_0 12 rfl rfl)
theorem dX10_hasNext_15 : decode cX10_hasNext 15 = .ok (.invokeinterface 54 1, 5) := by decide +kernel
theorem dX10_hasNext_20 : decode cX10_hasNext 20 = .ok (.ifCond .eq 27, 3) := dk_153 0 27 (dk_at dksX10_hasNext_0 20 rfl rfl)
theorem dX10_hasNext_23 : decode cX10_hasNext 23 = .ok (.aload_n 0, 1) := dk_42 (dk_at dksX10_hasNext_0 23 rfl rfl)
theorem dX10_hasNext_24 : decode cX10_hasNext 24 = .ok (.aload_n 0, 1) := dk_42 (dk_at dksX10_hasNext_1 0 rfl rfl)
theorem dX10_hasNext_25 : decode cX10_hasNext 25 = .ok (.getfield 25, 3) := dk_180 0 25 (dk_at dksX10_hasNext_1 1 rfl rfl)
theorem dX10_hasNext_28 : decode cX10_hasNext 28 = .ok (.invokeinterface 60 1, 5) := by decide +kernel
theorem dX10_hasNext_33 : decode cX10_hasNext 33 = .ok (.checkcast 34, 3) := dk_192 0 34 (dk_at dksX10_hasNext_1 9 rfl rfl)
theorem dX10_hasNext_36 : decode cX10_hasNext 36 = .ok (.putfield 29, 3) := dk_181 0 29 (dk_at dksX10_hasNext_1 12 rfl rfl)
theorem dX10_hasNext_39 : decode cX10_hasNext 39 = .ok (.aload_n 0, 1) := dk_42 (dk_at dksX10_hasNext_1 15 rfl rfl)
theorem dX10_hasNext_40 : decode cX10_hasNext 40 = .ok (.iconst 0, 1) := dk_3 (dk_at dksX10_hasNext_1 16 rfl rfl)
theorem dX10_hasNext_41 : decode cX10_hasNext 41 = .ok (.putfield 49, 3) := dk_181 0 49 (dk_at dksX10_hasNext_1 17 rfl rfl)
theorem dX10_hasNext_44 : decode cX10_hasNext 44 = .ok (.goto (-44), 3) := dk_167 255 212 (dk_at dksX10_hasNext_1 20 rfl rfl)
theorem dX10_hasNext_47 : decode cX10_hasNext 47 = .ok (.aload_n 0, 1) := dk_42 (dk_at dksX10_hasNext_1 23 rfl rfl)
theorem dX10_hasNext_48 : decode cX10_hasNext 48 = .ok (.getfield 49, 3) := dk_180 0 49 (dk_at dksX10_hasNext_2 0 rfl rfl)
theorem dX10_hasNext_51 : decode cX10_hasNext 51 = .ok (.aload_n 0, 1) := dk_42 (dk_at dksX10_hasNext_2 3 rfl rfl)
theorem dX10_hasNext_52 : decode cX10_hasNext 52 = .ok (.invokevirtual 53, 3) := dk_182 0 53 (dk_at dksX10_hasNext_2 4 rfl rfl)
theorem dX10_hasNext_55 : decode cX10_hasNext 55 = .ok (.if_icmp .ge 7, 3) := dk_162 0 7 (dk_at dksX10_hasNext_2 7 rfl rfl)
theorem dX10_hasNext_58 : decode cX10_hasNext 58 = .ok (.iconst 1, 1) := dk_4 (dk_at dksX10_hasNext_2 10 rfl rfl)
theorem dX10_hasNext_59 : decode cX10_hasNext 59 = .ok (.goto 4, 3) := dk_167 0 4 (dk_at dksX10_hasNext_2 11 rfl rfl)
theorem dX10_hasNext_62 : decode cX10_hasNext 62 = .ok (.iconst 0, 1) := dk_3 (dk_at dksX10_hasNext_2 14 rfl rfl)
theorem dX10_hasNext_63 : decode cX10_hasNext 63 = .ok (.ireturn, 1) := dk_172 (dk_at dksX10_hasNext_2 15 rfl rfl)
abbrev cX10_size : ByteArray := prog_11_method_2_code
def yX10_size : MethodName := ⟨RX10, "size", "()I"⟩
def dkwX10_size_1 : List UInt8 := [180, 0, 29, 180, 0, 45, 199, 0, 7, 3, 167, 0, 4, 4, 96, 172]
abbrev dktX10_size_1 : List UInt8 := dkwX10_size_1 ++ []
def dkwX10_size_0 : List UInt8 := [42, 180, 0, 29, 199, 0, 7, 3, 167, 0, 31, 42, 180, 0, 29, 180, 0, 33, 185, 0, 39, 1, 0, 42]
abbrev dktX10_size_0 : List UInt8 := dkwX10_size_0 ++ dktX10_size_1
theorem dksX10_size_0 : cX10_size.data.toList.drop 0 = dktX10_size_0 := by decide +kernel
theorem dksX10_size_1 : cX10_size.data.toList.drop 24 = dktX10_size_1 := dk_seg dksX10_size_0 24 rfl rfl
theorem dX10_size_0 : decode cX10_size 0 = .ok (.aload_n 0, 1) := dk_42 (dk_at dksX10_size_0 0 rfl rfl)
theorem dX10_size_1 : decode cX10_size 1 = .ok (.getfield 29, 3) := dk_180 0 29 (dk_at dksX10_size_0 1 rfl rfl)
theorem dX10_size_4 : decode cX10_size 4 = .ok (.ifnonnull 7, 3) := dk_199 0 7 (dk_at dksX10_size_0 4 rfl rfl)
theorem dX10_size_7 : decode cX10_size 7 = .ok (.iconst 0, 1) := dk_3 (dk_at dksX10_size_0 7 rfl rfl)
theorem dX10_size_8 : decode cX10_size 8 = .ok (.goto 31, 3) := dk_167 0 31 (dk_at dksX10_size_0 8 rfl rfl)
theorem dX10_size_11 : decode cX10_size 11 = .ok (.aload_n 0, 1) := dk_42 (dk_at dksX10_size_0 11 rfl rfl)
theorem dX10_size_12 : decode cX10_size 12 = .ok (.getfield 29, 3) := dk_180 0 29 (dk_at dksX10_size_0 12 rfl rfl)
theorem dX10_size_15 : decode cX10_size 15 = .ok (.getfield 33, 3) := dk_180 0 33 (dk_at dksX10_size_0 15 rfl rfl)
theorem dX10_size_18 : decode cX10_size 18 = .ok (.invokeinterface 39 1, 5) := by decide +kernel
theorem dX10_size_23 : decode cX10_size 23 = .ok (.aload_n 0, 1) := dk_42 (dk_at dksX10_size_0 23 rfl rfl)
theorem dX10_size_24 : decode cX10_size 24 = .ok (.getfield 29, 3) := dk_180 0 29 (dk_at dksX10_size_1 0 rfl rfl)
theorem dX10_size_27 : decode cX10_size 27 = .ok (.getfield 45, 3) := dk_180 0 45 (dk_at dksX10_size_1 3 rfl rfl)
theorem dX10_size_30 : decode cX10_size 30 = .ok (.ifnonnull 7, 3) := dk_199 0 7 (dk_at dksX10_size_1 6 rfl rfl)
theorem dX10_size_33 : decode cX10_size 33 = .ok (.iconst 0, 1) := dk_3 (dk_at dksX10_size_1 9 rfl rfl)
theorem dX10_size_34 : decode cX10_size 34 = .ok (.goto 4, 3) := dk_167 0 4 (dk_at dksX10_size_1 10 rfl rfl)
theorem dX10_size_37 : decode cX10_size 37 = .ok (.iconst 1, 1) := dk_4 (dk_at dksX10_size_1 13 rfl rfl)
theorem dX10_size_38 : decode cX10_size 38 = .ok (.iadd, 1) := dk_96 (dk_at dksX10_size_1 14 rfl rfl)
theorem dX10_size_39 : decode cX10_size 39 = .ok (.ireturn, 1) := dk_172 (dk_at dksX10_size_1 15 rfl rfl)
abbrev cX10_next : ByteArray := prog_11_method_5_code
def yX10_next : MethodName := ⟨RX10, "next", "()Ljava/lang/Object;"⟩
theorem dX10_next_0 : decode cX10_next 0 = .ok (.aload_n 0, 1) := by decide +kernel
theorem dX10_next_1 : decode cX10_next 1 = .ok (.invokevirtual 69, 3) := by decide +kernel
theorem dX10_next_4 : decode cX10_next 4 = .ok (.areturn, 1) := by decide +kernel
abbrev cX10_next_2 : ByteArray := prog_11_method_4_code
def yX10_next_2 : MethodName := ⟨RX10, "next", "()LStoryColumns$Block;"⟩
def dkwX10_next_2_3 : List UInt8 := [185, 0, 63, 2, 0, 192, 0, 67, 176]
abbrev dktX10_next_2_3 : List UInt8 := dkwX10_next_2_3 ++ []
def dkwX10_next_2_2 : List UInt8 := [154, 0, 13, 42, 180, 0, 29, 180, 0, 45, 167, 0, 21, 42, 180, 0, 29, 180, 0, 33, 27, 4, 100]
abbrev dktX10_next_2_2 : List UInt8 := dkwX10_next_2_2 ++ dktX10_next_2_3
def dkwX10_next_2_1 : List UInt8 := [199, 0, 22, 42, 180, 0, 29, 180, 0, 33, 27, 185, 0, 63, 2, 0, 192, 0, 67, 167, 0, 35, 27]
abbrev dktX10_next_2_1 : List UInt8 := dkwX10_next_2_1 ++ dktX10_next_2_2
def dkwX10_next_2_0 : List UInt8 := [42, 180, 0, 49, 60, 42, 89, 180, 0, 49, 4, 96, 181, 0, 49, 42, 180, 0, 29, 180, 0, 45]
abbrev dktX10_next_2_0 : List UInt8 := dkwX10_next_2_0 ++ dktX10_next_2_1
theorem dksX10_next_2_0 : cX10_next_2.data.toList.drop 0 = dktX10_next_2_0 := by decide +kernel
theorem dksX10_next_2_1 : cX10_next_2.data.toList.drop 22 = dktX10_next_2_1 := dk_seg dksX10_next_2_0 22 rfl rfl
theorem dksX10_next_2_2 : cX10_next_2.data.toList.drop 45 = dktX10_next_2_2 := dk_seg dksX10_next_2_1 23 rfl rfl
theorem dksX10_next_2_3 : cX10_next_2.data.toList.drop 68 = dktX10_next_2_3 := dk_seg dksX10_next_2_2 23 rfl rfl
theorem dX10_next_2_0 : decode cX10_next_2 0 = .ok (.aload_n 0, 1) := dk_42 (dk_at dksX10_next_2_0 0 rfl rfl)
theorem dX10_next_2_1 : decode cX10_next_2 1 = .ok (.getfield 49, 3) := dk_180 0 49 (dk_at dksX10_next_2_0 1 rfl rfl)
theorem dX10_next_2_4 : decode cX10_next_2 4 = .ok (.istore_n 1, 1) := dk_60 (dk_at dksX10_next_2_0 4 rfl rfl)
theorem dX10_next_2_5 : decode cX10_next_2 5 = .ok (.aload_n 0, 1) := dk_42 (dk_at dksX10_next_2_0 5 rfl rfl)
theorem dX10_next_2_6 : decode cX10_next_2 6 = .ok (.dup, 1) := dk_89 (dk_at dksX10_next_2_0 6 rfl rfl)
theorem dX10_next_2_7 : decode cX10_next_2 7 = .ok (.getfield 49, 3) := dk_180 0 49 (dk_at dksX10_next_2_0 7 rfl rfl)
theorem dX10_next_2_10 : decode cX10_next_2 10 = .ok (.iconst 1, 1) := dk_4 (dk_at dksX10_next_2_0 10 rfl rfl)
theorem dX10_next_2_11 : decode cX10_next_2 11 = .ok (.iadd, 1) := dk_96 (dk_at dksX10_next_2_0 11 rfl rfl)
theorem dX10_next_2_12 : decode cX10_next_2 12 = .ok (.putfield 49, 3) := dk_181 0 49 (dk_at dksX10_next_2_0 12 rfl rfl)
theorem dX10_next_2_15 : decode cX10_next_2 15 = .ok (.aload_n 0, 1) := dk_42 (dk_at dksX10_next_2_0 15 rfl rfl)
theorem dX10_next_2_16 : decode cX10_next_2 16 = .ok (.getfield 29, 3) := dk_180 0 29 (dk_at dksX10_next_2_0 16 rfl rfl)
theorem dX10_next_2_19 : decode cX10_next_2 19 = .ok (.getfield 45, 3) := dk_180 0 45 (dk_at dksX10_next_2_0 19 rfl rfl)
theorem dX10_next_2_22 : decode cX10_next_2 22 = .ok (.ifnonnull 22, 3) := dk_199 0 22 (dk_at dksX10_next_2_1 0 rfl rfl)
theorem dX10_next_2_25 : decode cX10_next_2 25 = .ok (.aload_n 0, 1) := dk_42 (dk_at dksX10_next_2_1 3 rfl rfl)
theorem dX10_next_2_26 : decode cX10_next_2 26 = .ok (.getfield 29, 3) := dk_180 0 29 (dk_at dksX10_next_2_1 4 rfl rfl)
theorem dX10_next_2_29 : decode cX10_next_2 29 = .ok (.getfield 33, 3) := dk_180 0 33 (dk_at dksX10_next_2_1 7 rfl rfl)
theorem dX10_next_2_32 : decode cX10_next_2 32 = .ok (.iload_n 1, 1) := dk_27 (dk_at dksX10_next_2_1 10 rfl rfl)
theorem dX10_next_2_33 : decode cX10_next_2 33 = .ok (.invokeinterface 63 2, 5) := by decide +kernel
theorem dX10_next_2_38 : decode cX10_next_2 38 = .ok (.checkcast 67, 3) := dk_192 0 67 (dk_at dksX10_next_2_1 16 rfl rfl)
theorem dX10_next_2_41 : decode cX10_next_2 41 = .ok (.goto 35, 3) := dk_167 0 35 (dk_at dksX10_next_2_1 19 rfl rfl)
theorem dX10_next_2_44 : decode cX10_next_2 44 = .ok (.iload_n 1, 1) := dk_27 (dk_at dksX10_next_2_1 22 rfl rfl)
theorem dX10_next_2_45 : decode cX10_next_2 45 = .ok (.ifCond .ne 13, 3) := dk_154 0 13 (dk_at dksX10_next_2_2 0 rfl rfl)
theorem dX10_next_2_48 : decode cX10_next_2 48 = .ok (.aload_n 0, 1) := dk_42 (dk_at dksX10_next_2_2 3 rfl rfl)
theorem dX10_next_2_49 : decode cX10_next_2 49 = .ok (.getfield 29, 3) := dk_180 0 29 (dk_at dksX10_next_2_2 4 rfl rfl)
theorem dX10_next_2_52 : decode cX10_next_2 52 = .ok (.getfield 45, 3) := dk_180 0 45 (dk_at dksX10_next_2_2 7 rfl rfl)
theorem dX10_next_2_55 : decode cX10_next_2 55 = .ok (.goto 21, 3) := dk_167 0 21 (dk_at dksX10_next_2_2 10 rfl rfl)
theorem dX10_next_2_58 : decode cX10_next_2 58 = .ok (.aload_n 0, 1) := dk_42 (dk_at dksX10_next_2_2 13 rfl rfl)
theorem dX10_next_2_59 : decode cX10_next_2 59 = .ok (.getfield 29, 3) := dk_180 0 29 (dk_at dksX10_next_2_2 14 rfl rfl)
theorem dX10_next_2_62 : decode cX10_next_2 62 = .ok (.getfield 33, 3) := dk_180 0 33 (dk_at dksX10_next_2_2 17 rfl rfl)
theorem dX10_next_2_65 : decode cX10_next_2 65 = .ok (.iload_n 1, 1) := dk_27 (dk_at dksX10_next_2_2 20 rfl rfl)
theorem dX10_next_2_66 : decode cX10_next_2 66 = .ok (.iconst 1, 1) := dk_4 (dk_at dksX10_next_2_2 21 rfl rfl)
theorem dX10_next_2_67 : decode cX10_next_2 67 = .ok (.isub, 1) := dk_100 (dk_at dksX10_next_2_2 22 rfl rfl)
theorem dX10_next_2_68 : decode cX10_next_2 68 = .ok (.invokeinterface 63 2, 5) := by decide +kernel
theorem dX10_next_2_73 : decode cX10_next_2 73 = .ok (.checkcast 67, 3) := dk_192 0 67 (dk_at dksX10_next_2_3 5 rfl rfl)
theorem dX10_next_2_76 : decode cX10_next_2 76 = .ok (.areturn, 1) := dk_176 (dk_at dksX10_next_2_3 8 rfl rfl)
abbrev cX10_init : ByteArray := prog_11_method_1_code
def yX10_init : MethodName := ⟨RX10, "<init>", "(LStoryColumns;I)V"⟩
def dkwX10_init_0 : List UInt8 := [42, 43, 181, 0, 1, 42, 183, 0, 7, 42, 43, 28, 182, 0, 13, 185, 0, 19, 1, 0, 181, 0, 25, 177]
abbrev dktX10_init_0 : List UInt8 := dkwX10_init_0 ++ []
theorem dksX10_init_0 : cX10_init.data.toList.drop 0 = dktX10_init_0 := by decide +kernel
theorem dX10_init_0 : decode cX10_init 0 = .ok (.aload_n 0, 1) := dk_42 (dk_at dksX10_init_0 0 rfl rfl)
theorem dX10_init_1 : decode cX10_init 1 = .ok (.aload_n 1, 1) := dk_43 (dk_at dksX10_init_0 1 rfl rfl)
theorem dX10_init_2 : decode cX10_init 2 = .ok (.putfield 1, 3) := dk_181 0 1 (dk_at dksX10_init_0 2 rfl rfl)
theorem dX10_init_5 : decode cX10_init 5 = .ok (.aload_n 0, 1) := dk_42 (dk_at dksX10_init_0 5 rfl rfl)
theorem dX10_init_6 : decode cX10_init 6 = .ok (.invokespecial 7, 3) := dk_183 0 7 (dk_at dksX10_init_0 6 rfl rfl)
theorem dX10_init_9 : decode cX10_init 9 = .ok (.aload_n 0, 1) := dk_42 (dk_at dksX10_init_0 9 rfl rfl)
theorem dX10_init_10 : decode cX10_init 10 = .ok (.aload_n 1, 1) := dk_43 (dk_at dksX10_init_0 10 rfl rfl)
theorem dX10_init_11 : decode cX10_init 11 = .ok (.iload_n 2, 1) := dk_28 (dk_at dksX10_init_0 11 rfl rfl)
theorem dX10_init_12 : decode cX10_init 12 = .ok (.invokevirtual 13, 3) := dk_182 0 13 (dk_at dksX10_init_0 12 rfl rfl)
theorem dX10_init_15 : decode cX10_init 15 = .ok (.invokeinterface 19 1, 5) := by decide +kernel
theorem dX10_init_20 : decode cX10_init 20 = .ok (.putfield 25, 3) := dk_181 0 25 (dk_at dksX10_init_0 20 rfl rfl)
theorem dX10_init_23 : decode cX10_init 23 = .ok (.return_, 1) := dk_177 (dk_at dksX10_init_0 23 rfl rfl)
theorem q79 : (Jvm.Cond.initialized "StoryColumns$Reading") ∈ lw_all := lw_g (lw_at lw_m1 21 rfl) rfl
theorem q307 : (Jvm.Cond.castable "StoryColumns$Reading" "java/util/Iterator") ∈ lw_tbl := lw_at lw_m2 9 rfl
theorem q308 : (Jvm.Cond.selects "StoryColumns$Reading" ({ cls := "java/util/Iterator", name := "hasNext", desc := "()Z" } : Jvm.MethodName) ({ cls := "StoryColumns$Reading", name := "hasNext", desc := "()Z" } : Jvm.MethodName)) ∈ lw_all := lw_g (lw_at lw_m2 10 rfl) rfl
theorem q309 : (Jvm.Cond.unhidden "StoryColumns$Reading" "hasNext" "()Z") ∈ lw_tbl := lw_at lw_m2 11 rfl
theorem q310 : (Jvm.Cond.instanceMethod ({ cls := "StoryColumns$Reading", name := "hasNext", desc := "()Z" } : Jvm.MethodName)) ∈ lw_all := lw_g (lw_at lw_m2 12 rfl) rfl
theorem q311 : (Jvm.Cond.publicMethod ({ cls := "StoryColumns$Reading", name := "hasNext", desc := "()Z" } : Jvm.MethodName)) ∈ lw_tbl := lw_at lw_m2 13 rfl
theorem q312 : (Jvm.Cond.code ({ cls := "StoryColumns$Reading", name := "hasNext", desc := "()Z" } : Jvm.MethodName) prog_11_method_3_code (1 : Nat) (Option.some Jvm.ClassFile.FieldType.boolean)) ∈ lw_all := lw_g (lw_at lw_m2 14 rfl) rfl
theorem q313 : (Jvm.Cond.methodLink "StoryColumns$Reading" (53 : Nat) ({ cls := "StoryColumns$Reading", name := "size", desc := "()I" } : Jvm.MethodName)) ∈ lw_all := lw_g (lw_at lw_m2 15 rfl) rfl
theorem q314 : (Jvm.Cond.privateMethod ({ cls := "StoryColumns$Reading", name := "size", desc := "()I" } : Jvm.MethodName)) ∈ lw_tbl := lw_at lw_m2 16 rfl
theorem q315 : (Jvm.Cond.instanceMethod ({ cls := "StoryColumns$Reading", name := "size", desc := "()I" } : Jvm.MethodName)) ∈ lw_all := lw_g (lw_at lw_m2 17 rfl) rfl
theorem q316 : (Jvm.Cond.instantiable "StoryColumns$Reading" (4 : Nat)) ∈ lw_all := lw_g (lw_at lw_m2 18 rfl) rfl
theorem q317 : (Jvm.Cond.code ({ cls := "StoryColumns$Reading", name := "size", desc := "()I" } : Jvm.MethodName) prog_11_method_2_code (1 : Nat) (Option.some Jvm.ClassFile.FieldType.int)) ∈ lw_all := lw_g (lw_at lw_m2 19 rfl) rfl
theorem q318 : (Jvm.Cond.interfaceEntry "StoryColumns$Reading" (39 : Nat)) ∈ lw_tbl := lw_at lw_m2 20 rfl
theorem q319 : (Jvm.Cond.methodLink "StoryColumns$Reading" (39 : Nat) ({ cls := "java/util/List", name := "size", desc := "()I" } : Jvm.MethodName)) ∈ lw_all := lw_g (lw_at lw_m2 21 rfl) rfl
theorem q320 : (Jvm.Cond.interfaceEntry "StoryColumns$Reading" (54 : Nat)) ∈ lw_tbl := lw_at lw_m2 22 rfl
theorem q321 : (Jvm.Cond.methodLink "StoryColumns$Reading" (54 : Nat) ({ cls := "java/util/Iterator", name := "hasNext", desc := "()Z" } : Jvm.MethodName)) ∈ lw_all := lw_g (lw_at lw_m2 23 rfl) rfl
theorem q328 : (Jvm.Cond.interfaceEntry "StoryColumns$Reading" (60 : Nat)) ∈ lw_tbl := lw_at lw_m2 30 rfl
theorem q329 : (Jvm.Cond.methodLink "StoryColumns$Reading" (60 : Nat) ({ cls := "java/util/Iterator", name := "next", desc := "()Ljava/lang/Object;" } : Jvm.MethodName)) ∈ lw_all := lw_g (lw_at lw_m2 31 rfl) rfl
theorem q341 : (Jvm.Cond.selects "StoryColumns$Reading" ({ cls := "java/util/Iterator", name := "next", desc := "()Ljava/lang/Object;" } : Jvm.MethodName) ({ cls := "StoryColumns$Reading", name := "next", desc := "()Ljava/lang/Object;" } : Jvm.MethodName)) ∈ lw_all := lw_g (lw_at lw_m2 43 rfl) rfl
theorem q342 : (Jvm.Cond.unhidden "StoryColumns$Reading" "next" "()Ljava/lang/Object;") ∈ lw_tbl := lw_at lw_m2 44 rfl
theorem q343 : (Jvm.Cond.instanceMethod ({ cls := "StoryColumns$Reading", name := "next", desc := "()Ljava/lang/Object;" } : Jvm.MethodName)) ∈ lw_all := lw_g (lw_at lw_m2 45 rfl) rfl
theorem q344 : (Jvm.Cond.publicMethod ({ cls := "StoryColumns$Reading", name := "next", desc := "()Ljava/lang/Object;" } : Jvm.MethodName)) ∈ lw_tbl := lw_at lw_m2 46 rfl
theorem q345 : (Jvm.Cond.code ({ cls := "StoryColumns$Reading", name := "next", desc := "()Ljava/lang/Object;" } : Jvm.MethodName) prog_11_method_5_code (1 : Nat) (Option.some (Jvm.ClassFile.FieldType.object "java/lang/Object"))) ∈ lw_all := lw_g (lw_at lw_m2 47 rfl) rfl
theorem q346 : (Jvm.Cond.methodLink "StoryColumns$Reading" (69 : Nat) ({ cls := "StoryColumns$Reading", name := "next", desc := "()LStoryColumns$Block;" } : Jvm.MethodName)) ∈ lw_all := lw_g (lw_at lw_m2 48 rfl) rfl
theorem q347 : (Jvm.Cond.instanceMethod ({ cls := "StoryColumns$Reading", name := "next", desc := "()LStoryColumns$Block;" } : Jvm.MethodName)) ∈ lw_all := lw_g (lw_at lw_m2 49 rfl) rfl
theorem q348 : (Jvm.Cond.selects "StoryColumns$Reading" ({ cls := "StoryColumns$Reading", name := "next", desc := "()LStoryColumns$Block;" } : Jvm.MethodName) ({ cls := "StoryColumns$Reading", name := "next", desc := "()LStoryColumns$Block;" } : Jvm.MethodName)) ∈ lw_all := lw_g (lw_at lw_m2 50 rfl) rfl
theorem q349 : (Jvm.Cond.code ({ cls := "StoryColumns$Reading", name := "next", desc := "()LStoryColumns$Block;" } : Jvm.MethodName) prog_11_method_4_code (2 : Nat) (Option.some (Jvm.ClassFile.FieldType.object "StoryColumns$Block"))) ∈ lw_all := lw_g (lw_at lw_m2 51 rfl) rfl
theorem q350 : (Jvm.Cond.interfaceEntry "StoryColumns$Reading" (63 : Nat)) ∈ lw_tbl := lw_at lw_m2 52 rfl
theorem q351 : (Jvm.Cond.methodLink "StoryColumns$Reading" (63 : Nat) ({ cls := "java/util/List", name := "get", desc := "(I)Ljava/lang/Object;" } : Jvm.MethodName)) ∈ lw_all := lw_g (lw_at lw_m2 53 rfl) rfl
theorem q369 : (Jvm.Cond.classLink "StoryColumns$Reading" (67 : Nat) "StoryColumns$Block") ∈ lw_all := lw_g (lw_at lw_m2 71 rfl) rfl
theorem q379 : (Jvm.Cond.classLink "StoryColumns$Reading" (34 : Nat) "StoryColumns$Story") ∈ lw_all := lw_g (lw_at lw_m2 81 rfl) rfl
theorem q492 : (Jvm.Cond.selects "StoryColumns$Reading" ({ cls := "java/lang/Object", name := "getClass", desc := "()Ljava/lang/Class;" } : Jvm.MethodName) ({ cls := "java/lang/Object", name := "getClass", desc := "()Ljava/lang/Class;" } : Jvm.MethodName)) ∈ lw_all := lw_g (lw_at lw_m2 194 rfl) rfl
theorem q694 : (Jvm.Cond.fieldLinkNest "StoryColumns$Reading" (45 : Nat) "StoryColumns$Story" "head" "LStoryColumns$Head;" "StoryColumns") ∈ lw_tbl := lw_at lw_m3 156 rfl
theorem q697 : (Jvm.Cond.fieldLinkNest "StoryColumns$Reading" (33 : Nat) "StoryColumns$Story" "texts" "Ljava/util/List;" "StoryColumns") ∈ lw_tbl := lw_at lw_m3 159 rfl
theorem q987 : (Jvm.Cond.instanceMethod ({ cls := "StoryColumns$Reading", name := "<init>", desc := "(LStoryColumns;I)V" } : Jvm.MethodName)) ∈ lw_all := lw_g (lw_at lw_m4 209 rfl) rfl
theorem q988 : (Jvm.Cond.code ({ cls := "StoryColumns$Reading", name := "<init>", desc := "(LStoryColumns;I)V" } : Jvm.MethodName) prog_11_method_1_code (3 : Nat) (Option.none : Option Jvm.ClassFile.FieldType)) ∈ lw_all := lw_g (lw_at lw_m4 210 rfl) rfl
theorem q989 : (Jvm.Cond.methodLink "StoryColumns$Reading" (7 : Nat) ({ cls := "java/lang/Object", name := "<init>", desc := "()V" } : Jvm.MethodName)) ∈ lw_all := lw_g (lw_at lw_m4 211 rfl) rfl
theorem q990 : (Jvm.Cond.methodLinkNest "StoryColumns$Reading" (13 : Nat) ({ cls := "StoryColumns", name := "chain", desc := "(I)Ljava/lang/Iterable;" } : Jvm.MethodName) "StoryColumns") ∈ lw_tbl := lw_at lw_m4 212 rfl
theorem q991 : (Jvm.Cond.interfaceEntry "StoryColumns$Reading" (19 : Nat)) ∈ lw_tbl := lw_at lw_m4 213 rfl
theorem q992 : (Jvm.Cond.methodLink "StoryColumns$Reading" (19 : Nat) ({ cls := "java/lang/Iterable", name := "iterator", desc := "()Ljava/util/Iterator;" } : Jvm.MethodName)) ∈ lw_all := lw_g (lw_at lw_m4 214 rfl) rfl
theorem q993 : (Jvm.Cond.fieldLink "StoryColumns$Reading" (25 : Nat) "StoryColumns$Reading" "stories" "Ljava/util/Iterator;") ∈ lw_all := lw_g (lw_at lw_m4 215 rfl) rfl
theorem q994 : (Jvm.Cond.fieldLink "StoryColumns$Reading" (29 : Nat) "StoryColumns$Reading" "story" "LStoryColumns$Story;") ∈ lw_all := lw_g (lw_at lw_m4 216 rfl) rfl
theorem q995 : (Jvm.Cond.fieldLink "StoryColumns$Reading" (49 : Nat) "StoryColumns$Reading" "next" "I") ∈ lw_all := lw_g (lw_at lw_m4 217 rfl) rfl
theorem q996 : (Jvm.Cond.fieldLink "StoryColumns$Reading" (1 : Nat) "StoryColumns$Reading" "this$0" "LStoryColumns;") ∈ lw_all := lw_g (lw_at lw_m4 218 rfl) rfl
theorem q997 : (Jvm.Cond.laysFinal "StoryColumns$Reading" "StoryColumns$Reading" "stories" "Ljava/util/Iterator;") ∈ lw_all := lw_g (lw_at lw_m4 219 rfl) rfl
theorem q998 : (Jvm.Cond.soleField "StoryColumns$Reading" "stories") ∈ lw_all := lw_g (lw_at lw_m4 220 rfl) rfl
theorem q999 : (Jvm.Cond.lays "StoryColumns$Reading" "StoryColumns$Reading" "story" "LStoryColumns$Story;") ∈ lw_all := lw_g (lw_at lw_m4 221 rfl) rfl
theorem q1000 : (Jvm.Cond.soleField "StoryColumns$Reading" "story") ∈ lw_all := lw_g (lw_at lw_m4 222 rfl) rfl
theorem q1001 : (Jvm.Cond.lays "StoryColumns$Reading" "StoryColumns$Reading" "next" "I") ∈ lw_all := lw_g (lw_at lw_m4 223 rfl) rfl
theorem q1002 : (Jvm.Cond.soleField "StoryColumns$Reading" "next") ∈ lw_all := lw_g (lw_at lw_m4 224 rfl) rfl
theorem q1003 : (Jvm.Cond.laysFinal "StoryColumns$Reading" "StoryColumns$Reading" "this$0" "LStoryColumns;") ∈ lw_all := lw_g (lw_at lw_m4 225 rfl) rfl
theorem q1004 : (Jvm.Cond.soleField "StoryColumns$Reading" "this$0") ∈ lw_all := lw_g (lw_at lw_m4 226 rfl) rfl
theorem q1005 : (Jvm.Cond.superclass "StoryColumns$Reading" "java/lang/Object") ∈ lw_all := lw_g (lw_at lw_m4 227 rfl) rfl
theorem q1358 : (Jvm.Cond.selects "StoryColumns$Reading" ({ cls := "StoryColumns$Reading", name := "hasNext", desc := "()Z" } : Jvm.MethodName) ({ cls := "StoryColumns$Reading", name := "hasNext", desc := "()Z" } : Jvm.MethodName)) ∈ lw_all := lw_g (lw_at lw_m6 100 rfl) rfl
theorem q1372 : (Jvm.Cond.castable "StoryColumns$Reading" "java/lang/Object") ∈ lw_tbl := lw_at lw_m6 114 rfl
theorem in_X10 : ∀ w ∈ wsX100, w ∈ lw_all := lw_in wsX100 [997, 999, 1001, 1003] (by decide +kernel) (by decide +kernel)
/-! StoryColumns$Area -/
set_option maxRecDepth 100000
def RX11 : String := "StoryColumns$Area"
abbrev cX11_meets : ByteArray := prog_5_method_8_code
def yX11_meets : MethodName := ⟨RX11, "meets", "(LStoryColumns$Area;)Z"⟩
def dkwX11_meets_3 : List UInt8 := [185, 0, 19, 1, 0, 163, 0, 7, 4, 167, 0, 4, 3, 172]
abbrev dktX11_meets_3 : List UInt8 := dkwX11_meets_3 ++ []
def dkwX11_meets_2 : List UInt8 := [185, 0, 16, 1, 0, 43, 185, 0, 19, 1, 0, 163, 0, 22, 43, 185, 0, 16, 1, 0, 42]
abbrev dktX11_meets_2 : List UInt8 := dkwX11_meets_2 ++ dktX11_meets_3
def dkwX11_meets_1 : List UInt8 := [185, 0, 7, 1, 0, 163, 0, 52, 43, 185, 0, 1, 1, 0, 42, 185, 0, 7, 1, 0, 163, 0, 37, 42]
abbrev dktX11_meets_1 : List UInt8 := dkwX11_meets_1 ++ dktX11_meets_2
def dkwX11_meets_0 : List UInt8 := [42, 185, 0, 22, 1, 0, 43, 185, 0, 22, 1, 0, 160, 0, 67, 42, 185, 0, 1, 1, 0, 43]
abbrev dktX11_meets_0 : List UInt8 := dkwX11_meets_0 ++ dktX11_meets_1
theorem dksX11_meets_0 : cX11_meets.data.toList.drop 0 = dktX11_meets_0 := by decide +kernel
theorem dksX11_meets_1 : cX11_meets.data.toList.drop 22 = dktX11_meets_1 := dk_seg dksX11_meets_0 22 rfl rfl
theorem dksX11_meets_2 : cX11_meets.data.toList.drop 46 = dktX11_meets_2 := dk_seg dksX11_meets_1 24 rfl rfl
theorem dksX11_meets_3 : cX11_meets.data.toList.drop 67 = dktX11_meets_3 := dk_seg dksX11_meets_2 21 rfl rfl
theorem dX11_meets_0 : decode cX11_meets 0 = .ok (.aload_n 0, 1) := dk_42 (dk_at dksX11_meets_0 0 rfl rfl)
theorem dX11_meets_1 : decode cX11_meets 1 = .ok (.invokeinterface 22 1, 5) := by decide +kernel
theorem dX11_meets_6 : decode cX11_meets 6 = .ok (.aload_n 1, 1) := dk_43 (dk_at dksX11_meets_0 6 rfl rfl)
theorem dX11_meets_7 : decode cX11_meets 7 = .ok (.invokeinterface 22 1, 5) := by decide +kernel
theorem dX11_meets_12 : decode cX11_meets 12 = .ok (.if_icmp .ne 67, 3) := dk_160 0 67 (dk_at dksX11_meets_0 12 rfl rfl)
theorem dX11_meets_15 : decode cX11_meets 15 = .ok (.aload_n 0, 1) := dk_42 (dk_at dksX11_meets_0 15 rfl rfl)
theorem dX11_meets_16 : decode cX11_meets 16 = .ok (.invokeinterface 1 1, 5) := by decide +kernel
theorem dX11_meets_21 : decode cX11_meets 21 = .ok (.aload_n 1, 1) := dk_43 (dk_at dksX11_meets_0 21 rfl rfl)
theorem dX11_meets_22 : decode cX11_meets 22 = .ok (.invokeinterface 7 1, 5) := by decide +kernel
theorem dX11_meets_27 : decode cX11_meets 27 = .ok (.if_icmp .gt 52, 3) := dk_163 0 52 (dk_at dksX11_meets_1 5 rfl rfl)
theorem dX11_meets_30 : decode cX11_meets 30 = .ok (.aload_n 1, 1) := dk_43 (dk_at dksX11_meets_1 8 rfl rfl)
theorem dX11_meets_31 : decode cX11_meets 31 = .ok (.invokeinterface 1 1, 5) := by decide +kernel
theorem dX11_meets_36 : decode cX11_meets 36 = .ok (.aload_n 0, 1) := dk_42 (dk_at dksX11_meets_1 14 rfl rfl)
theorem dX11_meets_37 : decode cX11_meets 37 = .ok (.invokeinterface 7 1, 5) := by decide +kernel
theorem dX11_meets_42 : decode cX11_meets 42 = .ok (.if_icmp .gt 37, 3) := dk_163 0 37 (dk_at dksX11_meets_1 20 rfl rfl)
theorem dX11_meets_45 : decode cX11_meets 45 = .ok (.aload_n 0, 1) := dk_42 (dk_at dksX11_meets_1 23 rfl rfl)
theorem dX11_meets_46 : decode cX11_meets 46 = .ok (.invokeinterface 16 1, 5) := by decide +kernel
theorem dX11_meets_51 : decode cX11_meets 51 = .ok (.aload_n 1, 1) := dk_43 (dk_at dksX11_meets_2 5 rfl rfl)
theorem dX11_meets_52 : decode cX11_meets 52 = .ok (.invokeinterface 19 1, 5) := by decide +kernel
theorem dX11_meets_57 : decode cX11_meets 57 = .ok (.if_icmp .gt 22, 3) := dk_163 0 22 (dk_at dksX11_meets_2 11 rfl rfl)
theorem dX11_meets_60 : decode cX11_meets 60 = .ok (.aload_n 1, 1) := dk_43 (dk_at dksX11_meets_2 14 rfl rfl)
theorem dX11_meets_61 : decode cX11_meets 61 = .ok (.invokeinterface 16 1, 5) := by decide +kernel
theorem dX11_meets_66 : decode cX11_meets 66 = .ok (.aload_n 0, 1) := dk_42 (dk_at dksX11_meets_2 20 rfl rfl)
theorem dX11_meets_67 : decode cX11_meets 67 = .ok (.invokeinterface 19 1, 5) := by decide +kernel
theorem dX11_meets_72 : decode cX11_meets 72 = .ok (.if_icmp .gt 7, 3) := dk_163 0 7 (dk_at dksX11_meets_3 5 rfl rfl)
theorem dX11_meets_75 : decode cX11_meets 75 = .ok (.iconst 1, 1) := dk_4 (dk_at dksX11_meets_3 8 rfl rfl)
theorem dX11_meets_76 : decode cX11_meets 76 = .ok (.goto 4, 3) := dk_167 0 4 (dk_at dksX11_meets_3 9 rfl rfl)
theorem dX11_meets_79 : decode cX11_meets 79 = .ok (.iconst 0, 1) := dk_3 (dk_at dksX11_meets_3 12 rfl rfl)
theorem dX11_meets_80 : decode cX11_meets 80 = .ok (.ireturn, 1) := dk_172 (dk_at dksX11_meets_3 13 rfl rfl)
abbrev cX11_hasColumn : ByteArray := prog_5_method_6_code
def yX11_hasColumn : MethodName := ⟨RX11, "hasColumn", "(I)Z"⟩
def dkwX11_hasColumn_0 : List UInt8 := [27, 42, 185, 0, 1, 1, 0, 42, 185, 0, 7, 1, 0, 184, 0, 10, 172]
abbrev dktX11_hasColumn_0 : List UInt8 := dkwX11_hasColumn_0 ++ []
theorem dksX11_hasColumn_0 : cX11_hasColumn.data.toList.drop 0 = dktX11_hasColumn_0 := by decide +kernel
theorem dX11_hasColumn_0 : decode cX11_hasColumn 0 = .ok (.iload_n 1, 1) := dk_27 (dk_at dksX11_hasColumn_0 0 rfl rfl)
theorem dX11_hasColumn_1 : decode cX11_hasColumn 1 = .ok (.aload_n 0, 1) := dk_42 (dk_at dksX11_hasColumn_0 1 rfl rfl)
theorem dX11_hasColumn_2 : decode cX11_hasColumn 2 = .ok (.invokeinterface 1 1, 5) := by decide +kernel
theorem dX11_hasColumn_7 : decode cX11_hasColumn 7 = .ok (.aload_n 0, 1) := dk_42 (dk_at dksX11_hasColumn_0 7 rfl rfl)
theorem dX11_hasColumn_8 : decode cX11_hasColumn 8 = .ok (.invokeinterface 7 1, 5) := by decide +kernel
theorem dX11_hasColumn_13 : decode cX11_hasColumn 13 = .ok (.invokestatic 10, 3) := dk_184 0 10 (dk_at dksX11_hasColumn_0 13 rfl rfl)
theorem dX11_hasColumn_16 : decode cX11_hasColumn 16 = .ok (.ireturn, 1) := dk_172 (dk_at dksX11_hasColumn_0 16 rfl rfl)
abbrev cX11_hasRow : ByteArray := prog_5_method_7_code
def yX11_hasRow : MethodName := ⟨RX11, "hasRow", "(I)Z"⟩
def dkwX11_hasRow_0 : List UInt8 := [27, 42, 185, 0, 16, 1, 0, 42, 185, 0, 19, 1, 0, 184, 0, 10, 172]
abbrev dktX11_hasRow_0 : List UInt8 := dkwX11_hasRow_0 ++ []
theorem dksX11_hasRow_0 : cX11_hasRow.data.toList.drop 0 = dktX11_hasRow_0 := by decide +kernel
theorem dX11_hasRow_0 : decode cX11_hasRow 0 = .ok (.iload_n 1, 1) := dk_27 (dk_at dksX11_hasRow_0 0 rfl rfl)
theorem dX11_hasRow_1 : decode cX11_hasRow 1 = .ok (.aload_n 0, 1) := dk_42 (dk_at dksX11_hasRow_0 1 rfl rfl)
theorem dX11_hasRow_2 : decode cX11_hasRow 2 = .ok (.invokeinterface 16 1, 5) := by decide +kernel
theorem dX11_hasRow_7 : decode cX11_hasRow 7 = .ok (.aload_n 0, 1) := dk_42 (dk_at dksX11_hasRow_0 7 rfl rfl)
theorem dX11_hasRow_8 : decode cX11_hasRow 8 = .ok (.invokeinterface 19 1, 5) := by decide +kernel
theorem dX11_hasRow_13 : decode cX11_hasRow 13 = .ok (.invokestatic 10, 3) := dk_184 0 10 (dk_at dksX11_hasRow_0 13 rfl rfl)
theorem dX11_hasRow_16 : decode cX11_hasRow 16 = .ok (.ireturn, 1) := dk_172 (dk_at dksX11_hasRow_0 16 rfl rfl)
theorem q382 : (Jvm.Cond.declares ({ cls := "StoryColumns$Area", name := "meets", desc := "(LStoryColumns$Area;)Z" } : Jvm.MethodName)) ∈ lw_tbl := lw_at lw_m2 84 rfl
theorem q385 : (Jvm.Cond.instanceMethod ({ cls := "StoryColumns$Area", name := "meets", desc := "(LStoryColumns$Area;)Z" } : Jvm.MethodName)) ∈ lw_all := lw_g (lw_at lw_m2 87 rfl) rfl
theorem q386 : (Jvm.Cond.publicMethod ({ cls := "StoryColumns$Area", name := "meets", desc := "(LStoryColumns$Area;)Z" } : Jvm.MethodName)) ∈ lw_tbl := lw_at lw_m2 88 rfl
theorem q387 : (Jvm.Cond.code ({ cls := "StoryColumns$Area", name := "meets", desc := "(LStoryColumns$Area;)Z" } : Jvm.MethodName) prog_5_method_8_code (2 : Nat) (Option.some Jvm.ClassFile.FieldType.boolean)) ∈ lw_all := lw_g (lw_at lw_m2 89 rfl) rfl
theorem q388 : (Jvm.Cond.interfaceEntry "StoryColumns$Area" (22 : Nat)) ∈ lw_tbl := lw_at lw_m2 90 rfl
theorem q389 : (Jvm.Cond.methodLink "StoryColumns$Area" (22 : Nat) ({ cls := "StoryColumns$Area", name := "page", desc := "()I" } : Jvm.MethodName)) ∈ lw_all := lw_g (lw_at lw_m2 91 rfl) rfl
theorem q390 : (Jvm.Cond.interfaceMethod "StoryColumns$Area" "StoryColumns$Area" "page" "()I") ∈ lw_tbl := lw_at lw_m2 92 rfl
theorem q391 : (Jvm.Cond.declares ({ cls := "StoryColumns$Area", name := "page", desc := "()I" } : Jvm.MethodName)) ∈ lw_tbl := lw_at lw_m2 93 rfl
theorem q401 : (Jvm.Cond.interfaceEntry "StoryColumns$Area" (1 : Nat)) ∈ lw_tbl := lw_at lw_m2 103 rfl
theorem q402 : (Jvm.Cond.methodLink "StoryColumns$Area" (1 : Nat) ({ cls := "StoryColumns$Area", name := "left", desc := "()I" } : Jvm.MethodName)) ∈ lw_all := lw_g (lw_at lw_m2 104 rfl) rfl
theorem q403 : (Jvm.Cond.interfaceMethod "StoryColumns$Area" "StoryColumns$Area" "left" "()I") ∈ lw_tbl := lw_at lw_m2 105 rfl
theorem q404 : (Jvm.Cond.declares ({ cls := "StoryColumns$Area", name := "left", desc := "()I" } : Jvm.MethodName)) ∈ lw_tbl := lw_at lw_m2 106 rfl
theorem q412 : (Jvm.Cond.interfaceEntry "StoryColumns$Area" (7 : Nat)) ∈ lw_tbl := lw_at lw_m2 114 rfl
theorem q413 : (Jvm.Cond.methodLink "StoryColumns$Area" (7 : Nat) ({ cls := "StoryColumns$Area", name := "right", desc := "()I" } : Jvm.MethodName)) ∈ lw_all := lw_g (lw_at lw_m2 115 rfl) rfl
theorem q414 : (Jvm.Cond.interfaceMethod "StoryColumns$Area" "StoryColumns$Area" "right" "()I") ∈ lw_tbl := lw_at lw_m2 116 rfl
theorem q415 : (Jvm.Cond.declares ({ cls := "StoryColumns$Area", name := "right", desc := "()I" } : Jvm.MethodName)) ∈ lw_tbl := lw_at lw_m2 117 rfl
theorem q423 : (Jvm.Cond.interfaceEntry "StoryColumns$Area" (16 : Nat)) ∈ lw_tbl := lw_at lw_m2 125 rfl
theorem q424 : (Jvm.Cond.methodLink "StoryColumns$Area" (16 : Nat) ({ cls := "StoryColumns$Area", name := "top", desc := "()I" } : Jvm.MethodName)) ∈ lw_all := lw_g (lw_at lw_m2 126 rfl) rfl
theorem q425 : (Jvm.Cond.interfaceMethod "StoryColumns$Area" "StoryColumns$Area" "top" "()I") ∈ lw_tbl := lw_at lw_m2 127 rfl
theorem q426 : (Jvm.Cond.declares ({ cls := "StoryColumns$Area", name := "top", desc := "()I" } : Jvm.MethodName)) ∈ lw_tbl := lw_at lw_m2 128 rfl
theorem q434 : (Jvm.Cond.interfaceEntry "StoryColumns$Area" (19 : Nat)) ∈ lw_tbl := lw_at lw_m2 136 rfl
theorem q435 : (Jvm.Cond.methodLink "StoryColumns$Area" (19 : Nat) ({ cls := "StoryColumns$Area", name := "bottom", desc := "()I" } : Jvm.MethodName)) ∈ lw_all := lw_g (lw_at lw_m2 137 rfl) rfl
theorem q436 : (Jvm.Cond.interfaceMethod "StoryColumns$Area" "StoryColumns$Area" "bottom" "()I") ∈ lw_tbl := lw_at lw_m2 138 rfl
theorem q437 : (Jvm.Cond.declares ({ cls := "StoryColumns$Area", name := "bottom", desc := "()I" } : Jvm.MethodName)) ∈ lw_tbl := lw_at lw_m2 139 rfl
theorem q626 : (Jvm.Cond.declares ({ cls := "StoryColumns$Area", name := "hasColumn", desc := "(I)Z" } : Jvm.MethodName)) ∈ lw_tbl := lw_at lw_m3 88 rfl
theorem q629 : (Jvm.Cond.instanceMethod ({ cls := "StoryColumns$Area", name := "hasColumn", desc := "(I)Z" } : Jvm.MethodName)) ∈ lw_all := lw_g (lw_at lw_m3 91 rfl) rfl
theorem q630 : (Jvm.Cond.publicMethod ({ cls := "StoryColumns$Area", name := "hasColumn", desc := "(I)Z" } : Jvm.MethodName)) ∈ lw_tbl := lw_at lw_m3 92 rfl
theorem q631 : (Jvm.Cond.code ({ cls := "StoryColumns$Area", name := "hasColumn", desc := "(I)Z" } : Jvm.MethodName) prog_5_method_6_code (2 : Nat) (Option.some Jvm.ClassFile.FieldType.boolean)) ∈ lw_all := lw_g (lw_at lw_m3 93 rfl) rfl
theorem q632 : (Jvm.Cond.methodLinkNest "StoryColumns$Area" (10 : Nat) ({ cls := "StoryColumns", name := "in", desc := "(III)Z" } : Jvm.MethodName) "StoryColumns") ∈ lw_tbl := lw_at lw_m3 94 rfl
theorem q633 : (Jvm.Cond.declares ({ cls := "StoryColumns$Area", name := "hasRow", desc := "(I)Z" } : Jvm.MethodName)) ∈ lw_tbl := lw_at lw_m3 95 rfl
theorem q636 : (Jvm.Cond.instanceMethod ({ cls := "StoryColumns$Area", name := "hasRow", desc := "(I)Z" } : Jvm.MethodName)) ∈ lw_all := lw_g (lw_at lw_m3 98 rfl) rfl
theorem q637 : (Jvm.Cond.publicMethod ({ cls := "StoryColumns$Area", name := "hasRow", desc := "(I)Z" } : Jvm.MethodName)) ∈ lw_tbl := lw_at lw_m3 99 rfl
theorem q638 : (Jvm.Cond.code ({ cls := "StoryColumns$Area", name := "hasRow", desc := "(I)Z" } : Jvm.MethodName) prog_5_method_7_code (2 : Nat) (Option.some Jvm.ClassFile.FieldType.boolean)) ∈ lw_all := lw_g (lw_at lw_m3 100 rfl) rfl
/-! StoryColumns$Numbered -/
set_option maxRecDepth 100000
def RX12 : String := "StoryColumns$Numbered"
abbrev cX12_number : ByteArray := prog_10_method_2_code
def yX12_number : MethodName := ⟨RX12, "number", "()I"⟩
theorem dX12_number_0 : decode cX12_number 0 = .ok (.aload_n 0, 1) := by decide +kernel
theorem dX12_number_1 : decode cX12_number 1 = .ok (.invokeinterface 1 1, 5) := by decide +kernel
theorem dX12_number_6 : decode cX12_number 6 = .ok (.ireturn, 1) := by decide +kernel
theorem q791 : (Jvm.Cond.interfaceMethod "StoryColumns$Numbered" "StoryColumns$Numbered" "number" "()I") ∈ lw_tbl := lw_at lw_m4 13 rfl
theorem q792 : (Jvm.Cond.declares ({ cls := "StoryColumns$Numbered", name := "number", desc := "()I" } : Jvm.MethodName)) ∈ lw_tbl := lw_at lw_m4 14 rfl
theorem q793 : (Jvm.Cond.instanceMethod ({ cls := "StoryColumns$Numbered", name := "number", desc := "()I" } : Jvm.MethodName)) ∈ lw_all := lw_g (lw_at lw_m4 15 rfl) rfl
theorem q794 : (Jvm.Cond.code ({ cls := "StoryColumns$Numbered", name := "number", desc := "()I" } : Jvm.MethodName) prog_10_method_2_code (1 : Nat) (Option.some Jvm.ClassFile.FieldType.int)) ∈ lw_all := lw_g (lw_at lw_m4 16 rfl) rfl
theorem q795 : (Jvm.Cond.interfaceEntry "StoryColumns$Numbered" (1 : Nat)) ∈ lw_tbl := lw_at lw_m4 17 rfl
theorem q796 : (Jvm.Cond.methodLink "StoryColumns$Numbered" (1 : Nat) ({ cls := "StoryColumns$Numbered", name := "first", desc := "()I" } : Jvm.MethodName)) ∈ lw_all := lw_g (lw_at lw_m4 18 rfl) rfl
theorem q797 : (Jvm.Cond.interfaceMethod "StoryColumns$Numbered" "StoryColumns$Numbered" "first" "()I") ∈ lw_tbl := lw_at lw_m4 19 rfl
theorem q798 : (Jvm.Cond.declares ({ cls := "StoryColumns$Numbered", name := "first", desc := "()I" } : Jvm.MethodName)) ∈ lw_tbl := lw_at lw_m4 20 rfl
/-! StoryColumns$Block -/
set_option maxRecDepth 100000
def RX2 : String := "StoryColumns$Block"
def TX2 : u_T := fun k => match k with
  | 0 => ("StoryColumns$Block", "number", "I", true)
  | 1 => ("StoryColumns$Block", "page", "I", true)
  | 2 => ("StoryColumns$Block", "kind", "I", true)
  | 3 => ("StoryColumns$Block", "left", "I", false)
  | 4 => ("StoryColumns$Block", "right", "I", false)
  | 5 => ("StoryColumns$Block", "top", "I", true)
  | 6 => ("StoryColumns$Block", "bottom", "I", true)
  | 7 => ("StoryColumns$Block", "words", "I", false)
  | 8 => ("StoryColumns$Block", "marks", "[LStoryColumns$Mark;", true)
  | 9 => ("StoryColumns$Block", "head", "LStoryColumns$Head;", false)
  | 10 => ("StoryColumns$Block", "story", "LStoryColumns$Story;", false)
  | 11 => ("StoryColumns$Block", "taker", "LStoryColumns$Block;", false)
  | _ => ("StoryColumns$Block", "this$0", "LStoryColumns;", true)
def tyX2 : Nat → FieldType := fun k => match k with
  | 0 => .int
  | 1 => .int
  | 2 => .int
  | 3 => .int
  | 4 => .int
  | 5 => .int
  | 6 => .int
  | 7 => .int
  | 8 => .array (.object "StoryColumns$Mark")
  | 9 => .object "StoryColumns$Head"
  | 10 => .object "StoryColumns$Story"
  | 11 => .object "StoryColumns$Block"
  | _ => .object "StoryColumns"
abbrev wsX20 : List Cond := u_ws RX2 TX2 13
set_option maxRecDepth 100000 in
theorem nmX2 : ∀ a, a < 13 → ∀ b, b < 13 → a ≠ b → (TX2 a).2.1 ≠ (TX2 b).2.1 := by decide +kernel
set_option maxRecDepth 100000 in
theorem tyX2_ok : ∀ k, k < 13 → parseFieldDescriptor (TX2 k).2.2.1 = some (tyX2 k) := by decide +kernel
abbrev cX2_init : ByteArray := prog_6_method_1_code
def yX2_init : MethodName := ⟨RX2, "<init>", "(LStoryColumns;IIIIIII)V"⟩
def dkwX2_init_2 : List UInt8 := [181, 0, 37, 42, 21, 7, 181, 0, 40, 42, 21, 8, 181, 0, 43, 177]
abbrev dktX2_init_2 : List UInt8 := dkwX2_init_2 ++ []
def dkwX2_init_1 : List UInt8 := [181, 0, 25, 42, 29, 181, 0, 28, 42, 21, 4, 181, 0, 31, 42, 21, 5, 181, 0, 34, 42, 21, 6]
abbrev dktX2_init_1 : List UInt8 := dkwX2_init_1 ++ dktX2_init_2
def dkwX2_init_0 : List UInt8 := [42, 43, 181, 0, 3, 42, 183, 0, 9, 42, 4, 181, 0, 15, 42, 5, 189, 0, 19, 181, 0, 21, 42, 28]
abbrev dktX2_init_0 : List UInt8 := dkwX2_init_0 ++ dktX2_init_1
theorem dksX2_init_0 : cX2_init.data.toList.drop 0 = dktX2_init_0 := by decide +kernel
theorem dksX2_init_1 : cX2_init.data.toList.drop 24 = dktX2_init_1 := dk_seg dksX2_init_0 24 rfl rfl
theorem dksX2_init_2 : cX2_init.data.toList.drop 47 = dktX2_init_2 := dk_seg dksX2_init_1 23 rfl rfl
theorem dX2_init_0 : decode cX2_init 0 = .ok (.aload_n 0, 1) := dk_42 (dk_at dksX2_init_0 0 rfl rfl)
theorem dX2_init_1 : decode cX2_init 1 = .ok (.aload_n 1, 1) := dk_43 (dk_at dksX2_init_0 1 rfl rfl)
theorem dX2_init_2 : decode cX2_init 2 = .ok (.putfield 3, 3) := dk_181 0 3 (dk_at dksX2_init_0 2 rfl rfl)
theorem dX2_init_5 : decode cX2_init 5 = .ok (.aload_n 0, 1) := dk_42 (dk_at dksX2_init_0 5 rfl rfl)
theorem dX2_init_6 : decode cX2_init 6 = .ok (.invokespecial 9, 3) := dk_183 0 9 (dk_at dksX2_init_0 6 rfl rfl)
theorem dX2_init_9 : decode cX2_init 9 = .ok (.aload_n 0, 1) := dk_42 (dk_at dksX2_init_0 9 rfl rfl)
theorem dX2_init_10 : decode cX2_init 10 = .ok (.iconst 1, 1) := dk_4 (dk_at dksX2_init_0 10 rfl rfl)
theorem dX2_init_11 : decode cX2_init 11 = .ok (.putfield 15, 3) := dk_181 0 15 (dk_at dksX2_init_0 11 rfl rfl)
theorem dX2_init_14 : decode cX2_init 14 = .ok (.aload_n 0, 1) := dk_42 (dk_at dksX2_init_0 14 rfl rfl)
theorem dX2_init_15 : decode cX2_init 15 = .ok (.iconst 2, 1) := dk_5 (dk_at dksX2_init_0 15 rfl rfl)
theorem dX2_init_16 : decode cX2_init 16 = .ok (.anewarray 19, 3) := dk_189 0 19 (dk_at dksX2_init_0 16 rfl rfl)
theorem dX2_init_19 : decode cX2_init 19 = .ok (.putfield 21, 3) := dk_181 0 21 (dk_at dksX2_init_0 19 rfl rfl)
theorem dX2_init_22 : decode cX2_init 22 = .ok (.aload_n 0, 1) := dk_42 (dk_at dksX2_init_0 22 rfl rfl)
theorem dX2_init_23 : decode cX2_init 23 = .ok (.iload_n 2, 1) := dk_28 (dk_at dksX2_init_0 23 rfl rfl)
theorem dX2_init_24 : decode cX2_init 24 = .ok (.putfield 25, 3) := dk_181 0 25 (dk_at dksX2_init_1 0 rfl rfl)
theorem dX2_init_27 : decode cX2_init 27 = .ok (.aload_n 0, 1) := dk_42 (dk_at dksX2_init_1 3 rfl rfl)
theorem dX2_init_28 : decode cX2_init 28 = .ok (.iload_n 3, 1) := dk_29 (dk_at dksX2_init_1 4 rfl rfl)
theorem dX2_init_29 : decode cX2_init 29 = .ok (.putfield 28, 3) := dk_181 0 28 (dk_at dksX2_init_1 5 rfl rfl)
theorem dX2_init_32 : decode cX2_init 32 = .ok (.aload_n 0, 1) := dk_42 (dk_at dksX2_init_1 8 rfl rfl)
theorem dX2_init_33 : decode cX2_init 33 = .ok (.iload 4, 2) := dk_21 4 (dk_at dksX2_init_1 9 rfl rfl)
theorem dX2_init_35 : decode cX2_init 35 = .ok (.putfield 31, 3) := dk_181 0 31 (dk_at dksX2_init_1 11 rfl rfl)
theorem dX2_init_38 : decode cX2_init 38 = .ok (.aload_n 0, 1) := dk_42 (dk_at dksX2_init_1 14 rfl rfl)
theorem dX2_init_39 : decode cX2_init 39 = .ok (.iload 5, 2) := dk_21 5 (dk_at dksX2_init_1 15 rfl rfl)
theorem dX2_init_41 : decode cX2_init 41 = .ok (.putfield 34, 3) := dk_181 0 34 (dk_at dksX2_init_1 17 rfl rfl)
theorem dX2_init_44 : decode cX2_init 44 = .ok (.aload_n 0, 1) := dk_42 (dk_at dksX2_init_1 20 rfl rfl)
theorem dX2_init_45 : decode cX2_init 45 = .ok (.iload 6, 2) := dk_21 6 (dk_at dksX2_init_1 21 rfl rfl)
theorem dX2_init_47 : decode cX2_init 47 = .ok (.putfield 37, 3) := dk_181 0 37 (dk_at dksX2_init_2 0 rfl rfl)
theorem dX2_init_50 : decode cX2_init 50 = .ok (.aload_n 0, 1) := dk_42 (dk_at dksX2_init_2 3 rfl rfl)
theorem dX2_init_51 : decode cX2_init 51 = .ok (.iload 7, 2) := dk_21 7 (dk_at dksX2_init_2 4 rfl rfl)
theorem dX2_init_53 : decode cX2_init 53 = .ok (.putfield 40, 3) := dk_181 0 40 (dk_at dksX2_init_2 6 rfl rfl)
theorem dX2_init_56 : decode cX2_init 56 = .ok (.aload_n 0, 1) := dk_42 (dk_at dksX2_init_2 9 rfl rfl)
theorem dX2_init_57 : decode cX2_init 57 = .ok (.iload 8, 2) := dk_21 8 (dk_at dksX2_init_2 10 rfl rfl)
theorem dX2_init_59 : decode cX2_init 59 = .ok (.putfield 43, 3) := dk_181 0 43 (dk_at dksX2_init_2 12 rfl rfl)
theorem dX2_init_62 : decode cX2_init 62 = .ok (.return_, 1) := dk_177 (dk_at dksX2_init_2 15 rfl rfl)
abbrev cX2_page : ByteArray := prog_6_method_2_code
def yX2_page : MethodName := ⟨RX2, "page", "()I"⟩
theorem dX2_page_0 : decode cX2_page 0 = .ok (.aload_n 0, 1) := by decide +kernel
theorem dX2_page_1 : decode cX2_page 1 = .ok (.getfield 28, 3) := by decide +kernel
theorem dX2_page_4 : decode cX2_page 4 = .ok (.ireturn, 1) := by decide +kernel
abbrev cX2_left : ByteArray := prog_6_method_3_code
def yX2_left : MethodName := ⟨RX2, "left", "()I"⟩
theorem dX2_left_0 : decode cX2_left 0 = .ok (.aload_n 0, 1) := by decide +kernel
theorem dX2_left_1 : decode cX2_left 1 = .ok (.getfield 34, 3) := by decide +kernel
theorem dX2_left_4 : decode cX2_left 4 = .ok (.ireturn, 1) := by decide +kernel
abbrev cX2_right : ByteArray := prog_6_method_4_code
def yX2_right : MethodName := ⟨RX2, "right", "()I"⟩
theorem dX2_right_0 : decode cX2_right 0 = .ok (.aload_n 0, 1) := by decide +kernel
theorem dX2_right_1 : decode cX2_right 1 = .ok (.getfield 37, 3) := by decide +kernel
theorem dX2_right_4 : decode cX2_right 4 = .ok (.ireturn, 1) := by decide +kernel
abbrev cX2_top : ByteArray := prog_6_method_5_code
def yX2_top : MethodName := ⟨RX2, "top", "()I"⟩
theorem dX2_top_0 : decode cX2_top 0 = .ok (.aload_n 0, 1) := by decide +kernel
theorem dX2_top_1 : decode cX2_top 1 = .ok (.getfield 40, 3) := by decide +kernel
theorem dX2_top_4 : decode cX2_top 4 = .ok (.ireturn, 1) := by decide +kernel
abbrev cX2_bottom : ByteArray := prog_6_method_6_code
def yX2_bottom : MethodName := ⟨RX2, "bottom", "()I"⟩
theorem dX2_bottom_0 : decode cX2_bottom 0 = .ok (.aload_n 0, 1) := by decide +kernel
theorem dX2_bottom_1 : decode cX2_bottom 1 = .ok (.getfield 43, 3) := by decide +kernel
theorem dX2_bottom_4 : decode cX2_bottom 4 = .ok (.ireturn, 1) := by decide +kernel
abbrev cX2_isText : ByteArray := prog_6_method_7_code
def yX2_isText : MethodName := ⟨RX2, "isText", "()Z"⟩
def dkwX2_isText_0 : List UInt8 := [42, 180, 0, 31, 4, 160, 0, 7, 4, 167, 0, 4, 3, 172]
abbrev dktX2_isText_0 : List UInt8 := dkwX2_isText_0 ++ []
theorem dksX2_isText_0 : cX2_isText.data.toList.drop 0 = dktX2_isText_0 := by decide +kernel
theorem dX2_isText_0 : decode cX2_isText 0 = .ok (.aload_n 0, 1) := dk_42 (dk_at dksX2_isText_0 0 rfl rfl)
theorem dX2_isText_1 : decode cX2_isText 1 = .ok (.getfield 31, 3) := dk_180 0 31 (dk_at dksX2_isText_0 1 rfl rfl)
theorem dX2_isText_4 : decode cX2_isText 4 = .ok (.iconst 1, 1) := dk_4 (dk_at dksX2_isText_0 4 rfl rfl)
theorem dX2_isText_5 : decode cX2_isText 5 = .ok (.if_icmp .ne 7, 3) := dk_160 0 7 (dk_at dksX2_isText_0 5 rfl rfl)
theorem dX2_isText_8 : decode cX2_isText 8 = .ok (.iconst 1, 1) := dk_4 (dk_at dksX2_isText_0 8 rfl rfl)
theorem dX2_isText_9 : decode cX2_isText 9 = .ok (.goto 4, 3) := dk_167 0 4 (dk_at dksX2_isText_0 9 rfl rfl)
theorem dX2_isText_12 : decode cX2_isText 12 = .ok (.iconst 0, 1) := dk_3 (dk_at dksX2_isText_0 12 rfl rfl)
theorem dX2_isText_13 : decode cX2_isText 13 = .ok (.ireturn, 1) := dk_172 (dk_at dksX2_isText_0 13 rfl rfl)
abbrev cX2_forgets : ByteArray := prog_6_method_8_code
def yX2_forgets : MethodName := ⟨RX2, "forgets", "()V"⟩
def dkwX2_forgets_0 : List UInt8 := [42, 1, 181, 0, 46, 42, 1, 181, 0, 50, 42, 1, 181, 0, 54, 177]
abbrev dktX2_forgets_0 : List UInt8 := dkwX2_forgets_0 ++ []
theorem dksX2_forgets_0 : cX2_forgets.data.toList.drop 0 = dktX2_forgets_0 := by decide +kernel
theorem dX2_forgets_0 : decode cX2_forgets 0 = .ok (.aload_n 0, 1) := dk_42 (dk_at dksX2_forgets_0 0 rfl rfl)
theorem dX2_forgets_1 : decode cX2_forgets 1 = .ok (.aconst_null, 1) := dk_1 (dk_at dksX2_forgets_0 1 rfl rfl)
theorem dX2_forgets_2 : decode cX2_forgets 2 = .ok (.putfield 46, 3) := dk_181 0 46 (dk_at dksX2_forgets_0 2 rfl rfl)
theorem dX2_forgets_5 : decode cX2_forgets 5 = .ok (.aload_n 0, 1) := dk_42 (dk_at dksX2_forgets_0 5 rfl rfl)
theorem dX2_forgets_6 : decode cX2_forgets 6 = .ok (.aconst_null, 1) := dk_1 (dk_at dksX2_forgets_0 6 rfl rfl)
theorem dX2_forgets_7 : decode cX2_forgets 7 = .ok (.putfield 50, 3) := dk_181 0 50 (dk_at dksX2_forgets_0 7 rfl rfl)
theorem dX2_forgets_10 : decode cX2_forgets 10 = .ok (.aload_n 0, 1) := dk_42 (dk_at dksX2_forgets_0 10 rfl rfl)
theorem dX2_forgets_11 : decode cX2_forgets 11 = .ok (.aconst_null, 1) := dk_1 (dk_at dksX2_forgets_0 11 rfl rfl)
theorem dX2_forgets_12 : decode cX2_forgets 12 = .ok (.putfield 54, 3) := dk_181 0 54 (dk_at dksX2_forgets_0 12 rfl rfl)
theorem dX2_forgets_15 : decode cX2_forgets 15 = .ok (.return_, 1) := dk_177 (dk_at dksX2_forgets_0 15 rfl rfl)
abbrev cX2_takes : ByteArray := prog_6_method_9_code
def yX2_takes : MethodName := ⟨RX2, "takes", "(LStoryColumns$Block;)Z"⟩
def dkwX2_takes_4 : List UInt8 := [184, 0, 68, 182, 0, 71, 154, 0, 7, 4, 167, 0, 4, 3, 172]
abbrev dktX2_takes_4 : List UInt8 := dkwX2_takes_4 ++ []
def dkwX2_takes_3 : List UInt8 := [43, 180, 0, 34, 42, 180, 0, 40, 43, 180, 0, 40, 184, 0, 62, 42, 180, 0, 43, 43, 180, 0, 43]
abbrev dktX2_takes_3 : List UInt8 := dkwX2_takes_3 ++ dktX2_takes_4
def dkwX2_takes_2 : List UInt8 := [180, 0, 43, 163, 0, 7, 4, 167, 0, 4, 3, 61, 28, 153, 0, 47, 42, 180, 0, 3, 42, 180, 0, 28]
abbrev dktX2_takes_2 : List UInt8 := dkwX2_takes_2 ++ dktX2_takes_3
def dkwX2_takes_1 : List UInt8 := [180, 0, 34, 4, 100, 160, 0, 29, 42, 180, 0, 40, 43, 180, 0, 43, 163, 0, 18, 43, 180, 0, 40, 42]
abbrev dktX2_takes_1 : List UInt8 := dkwX2_takes_1 ++ dktX2_takes_2
def dkwX2_takes_0 : List UInt8 := [42, 182, 0, 58, 153, 0, 53, 42, 180, 0, 28, 43, 180, 0, 28, 160, 0, 42, 42, 180, 0, 37, 43]
abbrev dktX2_takes_0 : List UInt8 := dkwX2_takes_0 ++ dktX2_takes_1
theorem dksX2_takes_0 : cX2_takes.data.toList.drop 0 = dktX2_takes_0 := by decide +kernel
theorem dksX2_takes_1 : cX2_takes.data.toList.drop 23 = dktX2_takes_1 := dk_seg dksX2_takes_0 23 rfl rfl
theorem dksX2_takes_2 : cX2_takes.data.toList.drop 47 = dktX2_takes_2 := dk_seg dksX2_takes_1 24 rfl rfl
theorem dksX2_takes_3 : cX2_takes.data.toList.drop 71 = dktX2_takes_3 := dk_seg dksX2_takes_2 24 rfl rfl
theorem dksX2_takes_4 : cX2_takes.data.toList.drop 94 = dktX2_takes_4 := dk_seg dksX2_takes_3 23 rfl rfl
theorem dX2_takes_0 : decode cX2_takes 0 = .ok (.aload_n 0, 1) := dk_42 (dk_at dksX2_takes_0 0 rfl rfl)
theorem dX2_takes_1 : decode cX2_takes 1 = .ok (.invokevirtual 58, 3) := dk_182 0 58 (dk_at dksX2_takes_0 1 rfl rfl)
theorem dX2_takes_4 : decode cX2_takes 4 = .ok (.ifCond .eq 53, 3) := dk_153 0 53 (dk_at dksX2_takes_0 4 rfl rfl)
theorem dX2_takes_7 : decode cX2_takes 7 = .ok (.aload_n 0, 1) := dk_42 (dk_at dksX2_takes_0 7 rfl rfl)
theorem dX2_takes_8 : decode cX2_takes 8 = .ok (.getfield 28, 3) := dk_180 0 28 (dk_at dksX2_takes_0 8 rfl rfl)
theorem dX2_takes_11 : decode cX2_takes 11 = .ok (.aload_n 1, 1) := dk_43 (dk_at dksX2_takes_0 11 rfl rfl)
theorem dX2_takes_12 : decode cX2_takes 12 = .ok (.getfield 28, 3) := dk_180 0 28 (dk_at dksX2_takes_0 12 rfl rfl)
theorem dX2_takes_15 : decode cX2_takes 15 = .ok (.if_icmp .ne 42, 3) := dk_160 0 42 (dk_at dksX2_takes_0 15 rfl rfl)
theorem dX2_takes_18 : decode cX2_takes 18 = .ok (.aload_n 0, 1) := dk_42 (dk_at dksX2_takes_0 18 rfl rfl)
theorem dX2_takes_19 : decode cX2_takes 19 = .ok (.getfield 37, 3) := dk_180 0 37 (dk_at dksX2_takes_0 19 rfl rfl)
theorem dX2_takes_22 : decode cX2_takes 22 = .ok (.aload_n 1, 1) := dk_43 (dk_at dksX2_takes_0 22 rfl rfl)
theorem dX2_takes_23 : decode cX2_takes 23 = .ok (.getfield 34, 3) := dk_180 0 34 (dk_at dksX2_takes_1 0 rfl rfl)
theorem dX2_takes_26 : decode cX2_takes 26 = .ok (.iconst 1, 1) := dk_4 (dk_at dksX2_takes_1 3 rfl rfl)
theorem dX2_takes_27 : decode cX2_takes 27 = .ok (.isub, 1) := dk_100 (dk_at dksX2_takes_1 4 rfl rfl)
theorem dX2_takes_28 : decode cX2_takes 28 = .ok (.if_icmp .ne 29, 3) := dk_160 0 29 (dk_at dksX2_takes_1 5 rfl rfl)
theorem dX2_takes_31 : decode cX2_takes 31 = .ok (.aload_n 0, 1) := dk_42 (dk_at dksX2_takes_1 8 rfl rfl)
theorem dX2_takes_32 : decode cX2_takes 32 = .ok (.getfield 40, 3) := dk_180 0 40 (dk_at dksX2_takes_1 9 rfl rfl)
theorem dX2_takes_35 : decode cX2_takes 35 = .ok (.aload_n 1, 1) := dk_43 (dk_at dksX2_takes_1 12 rfl rfl)
theorem dX2_takes_36 : decode cX2_takes 36 = .ok (.getfield 43, 3) := dk_180 0 43 (dk_at dksX2_takes_1 13 rfl rfl)
theorem dX2_takes_39 : decode cX2_takes 39 = .ok (.if_icmp .gt 18, 3) := dk_163 0 18 (dk_at dksX2_takes_1 16 rfl rfl)
theorem dX2_takes_42 : decode cX2_takes 42 = .ok (.aload_n 1, 1) := dk_43 (dk_at dksX2_takes_1 19 rfl rfl)
theorem dX2_takes_43 : decode cX2_takes 43 = .ok (.getfield 40, 3) := dk_180 0 40 (dk_at dksX2_takes_1 20 rfl rfl)
theorem dX2_takes_46 : decode cX2_takes 46 = .ok (.aload_n 0, 1) := dk_42 (dk_at dksX2_takes_1 23 rfl rfl)
theorem dX2_takes_47 : decode cX2_takes 47 = .ok (.getfield 43, 3) := dk_180 0 43 (dk_at dksX2_takes_2 0 rfl rfl)
theorem dX2_takes_50 : decode cX2_takes 50 = .ok (.if_icmp .gt 7, 3) := dk_163 0 7 (dk_at dksX2_takes_2 3 rfl rfl)
theorem dX2_takes_53 : decode cX2_takes 53 = .ok (.iconst 1, 1) := dk_4 (dk_at dksX2_takes_2 6 rfl rfl)
theorem dX2_takes_54 : decode cX2_takes 54 = .ok (.goto 4, 3) := dk_167 0 4 (dk_at dksX2_takes_2 7 rfl rfl)
theorem dX2_takes_57 : decode cX2_takes 57 = .ok (.iconst 0, 1) := dk_3 (dk_at dksX2_takes_2 10 rfl rfl)
theorem dX2_takes_58 : decode cX2_takes 58 = .ok (.istore_n 2, 1) := dk_61 (dk_at dksX2_takes_2 11 rfl rfl)
theorem dX2_takes_59 : decode cX2_takes 59 = .ok (.iload_n 2, 1) := dk_28 (dk_at dksX2_takes_2 12 rfl rfl)
theorem dX2_takes_60 : decode cX2_takes 60 = .ok (.ifCond .eq 47, 3) := dk_153 0 47 (dk_at dksX2_takes_2 13 rfl rfl)
theorem dX2_takes_63 : decode cX2_takes 63 = .ok (.aload_n 0, 1) := dk_42 (dk_at dksX2_takes_2 16 rfl rfl)
theorem dX2_takes_64 : decode cX2_takes 64 = .ok (.getfield 3, 3) := dk_180 0 3 (dk_at dksX2_takes_2 17 rfl rfl)
theorem dX2_takes_67 : decode cX2_takes 67 = .ok (.aload_n 0, 1) := dk_42 (dk_at dksX2_takes_2 20 rfl rfl)
theorem dX2_takes_68 : decode cX2_takes 68 = .ok (.getfield 28, 3) := dk_180 0 28 (dk_at dksX2_takes_2 21 rfl rfl)
theorem dX2_takes_71 : decode cX2_takes 71 = .ok (.aload_n 1, 1) := dk_43 (dk_at dksX2_takes_3 0 rfl rfl)
theorem dX2_takes_72 : decode cX2_takes 72 = .ok (.getfield 34, 3) := dk_180 0 34 (dk_at dksX2_takes_3 1 rfl rfl)
theorem dX2_takes_75 : decode cX2_takes 75 = .ok (.aload_n 0, 1) := dk_42 (dk_at dksX2_takes_3 4 rfl rfl)
theorem dX2_takes_76 : decode cX2_takes 76 = .ok (.getfield 40, 3) := dk_180 0 40 (dk_at dksX2_takes_3 5 rfl rfl)
theorem dX2_takes_79 : decode cX2_takes 79 = .ok (.aload_n 1, 1) := dk_43 (dk_at dksX2_takes_3 8 rfl rfl)
theorem dX2_takes_80 : decode cX2_takes 80 = .ok (.getfield 40, 3) := dk_180 0 40 (dk_at dksX2_takes_3 9 rfl rfl)
theorem dX2_takes_83 : decode cX2_takes 83 = .ok (.invokestatic 62, 3) := dk_184 0 62 (dk_at dksX2_takes_3 12 rfl rfl)
theorem dX2_takes_86 : decode cX2_takes 86 = .ok (.aload_n 0, 1) := dk_42 (dk_at dksX2_takes_3 15 rfl rfl)
theorem dX2_takes_87 : decode cX2_takes 87 = .ok (.getfield 43, 3) := dk_180 0 43 (dk_at dksX2_takes_3 16 rfl rfl)
theorem dX2_takes_90 : decode cX2_takes 90 = .ok (.aload_n 1, 1) := dk_43 (dk_at dksX2_takes_3 19 rfl rfl)
theorem dX2_takes_91 : decode cX2_takes 91 = .ok (.getfield 43, 3) := dk_180 0 43 (dk_at dksX2_takes_3 20 rfl rfl)
theorem dX2_takes_94 : decode cX2_takes 94 = .ok (.invokestatic 68, 3) := dk_184 0 68 (dk_at dksX2_takes_4 0 rfl rfl)
theorem dX2_takes_97 : decode cX2_takes 97 = .ok (.invokevirtual 71, 3) := dk_182 0 71 (dk_at dksX2_takes_4 3 rfl rfl)
theorem dX2_takes_100 : decode cX2_takes 100 = .ok (.ifCond .ne 7, 3) := dk_154 0 7 (dk_at dksX2_takes_4 6 rfl rfl)
theorem dX2_takes_103 : decode cX2_takes 103 = .ok (.iconst 1, 1) := dk_4 (dk_at dksX2_takes_4 9 rfl rfl)
theorem dX2_takes_104 : decode cX2_takes 104 = .ok (.goto 4, 3) := dk_167 0 4 (dk_at dksX2_takes_4 10 rfl rfl)
theorem dX2_takes_107 : decode cX2_takes 107 = .ok (.iconst 0, 1) := dk_3 (dk_at dksX2_takes_4 13 rfl rfl)
theorem dX2_takes_108 : decode cX2_takes 108 = .ok (.ireturn, 1) := dk_172 (dk_at dksX2_takes_4 14 rfl rfl)
theorem q64 : (Jvm.Cond.initialized "StoryColumns$Block") ∈ lw_all := lw_g (lw_at lw_m1 6 rfl) rfl
theorem q167 : (Jvm.Cond.instanceMethod ({ cls := "StoryColumns$Block", name := "<init>", desc := "(LStoryColumns;IIIIIII)V" } : Jvm.MethodName)) ∈ lw_all := lw_g (lw_at lw_m1 109 rfl) rfl
theorem q168 : (Jvm.Cond.code ({ cls := "StoryColumns$Block", name := "<init>", desc := "(LStoryColumns;IIIIIII)V" } : Jvm.MethodName) prog_6_method_1_code (9 : Nat) (Option.none : Option Jvm.ClassFile.FieldType)) ∈ lw_all := lw_g (lw_at lw_m1 110 rfl) rfl
theorem q169 : (Jvm.Cond.methodLink "StoryColumns$Block" (9 : Nat) ({ cls := "java/lang/Object", name := "<init>", desc := "()V" } : Jvm.MethodName)) ∈ lw_all := lw_g (lw_at lw_m1 111 rfl) rfl
theorem q170 : (Jvm.Cond.classLink "StoryColumns$Block" (19 : Nat) "StoryColumns$Mark") ∈ lw_all := lw_g (lw_at lw_m1 112 rfl) rfl
theorem q173 : (Jvm.Cond.fieldLink "StoryColumns$Block" (25 : Nat) "StoryColumns$Block" "number" "I") ∈ lw_all := lw_g (lw_at lw_m1 115 rfl) rfl
theorem q179 : (Jvm.Cond.fieldLink "StoryColumns$Block" (28 : Nat) "StoryColumns$Block" "page" "I") ∈ lw_all := lw_g (lw_at lw_m1 121 rfl) rfl
theorem q185 : (Jvm.Cond.fieldLink "StoryColumns$Block" (31 : Nat) "StoryColumns$Block" "kind" "I") ∈ lw_all := lw_g (lw_at lw_m1 127 rfl) rfl
theorem q189 : (Jvm.Cond.fieldLink "StoryColumns$Block" (34 : Nat) "StoryColumns$Block" "left" "I") ∈ lw_all := lw_g (lw_at lw_m1 131 rfl) rfl
theorem q195 : (Jvm.Cond.fieldLink "StoryColumns$Block" (37 : Nat) "StoryColumns$Block" "right" "I") ∈ lw_all := lw_g (lw_at lw_m1 137 rfl) rfl
theorem q197 : (Jvm.Cond.fieldLink "StoryColumns$Block" (40 : Nat) "StoryColumns$Block" "top" "I") ∈ lw_all := lw_g (lw_at lw_m1 139 rfl) rfl
theorem q201 : (Jvm.Cond.fieldLink "StoryColumns$Block" (43 : Nat) "StoryColumns$Block" "bottom" "I") ∈ lw_all := lw_g (lw_at lw_m1 143 rfl) rfl
theorem q205 : (Jvm.Cond.fieldLink "StoryColumns$Block" (15 : Nat) "StoryColumns$Block" "words" "I") ∈ lw_all := lw_g (lw_at lw_m1 147 rfl) rfl
theorem q208 : (Jvm.Cond.fieldLink "StoryColumns$Block" (21 : Nat) "StoryColumns$Block" "marks" "[LStoryColumns$Mark;") ∈ lw_all := lw_g (lw_at lw_m1 150 rfl) rfl
theorem q211 : (Jvm.Cond.fieldLink "StoryColumns$Block" (46 : Nat) "StoryColumns$Block" "head" "LStoryColumns$Head;") ∈ lw_all := lw_g (lw_at lw_m1 153 rfl) rfl
theorem q215 : (Jvm.Cond.fieldLink "StoryColumns$Block" (50 : Nat) "StoryColumns$Block" "story" "LStoryColumns$Story;") ∈ lw_all := lw_g (lw_at lw_m1 157 rfl) rfl
theorem q220 : (Jvm.Cond.fieldLink "StoryColumns$Block" (54 : Nat) "StoryColumns$Block" "taker" "LStoryColumns$Block;") ∈ lw_all := lw_g (lw_at lw_m1 162 rfl) rfl
theorem q222 : (Jvm.Cond.fieldLink "StoryColumns$Block" (3 : Nat) "StoryColumns$Block" "this$0" "LStoryColumns;") ∈ lw_all := lw_g (lw_at lw_m1 164 rfl) rfl
theorem q226 : (Jvm.Cond.soleField "StoryColumns$Block" "number") ∈ lw_all := lw_g (lw_at lw_m1 168 rfl) rfl
theorem q228 : (Jvm.Cond.soleField "StoryColumns$Block" "page") ∈ lw_all := lw_g (lw_at lw_m1 170 rfl) rfl
theorem q230 : (Jvm.Cond.soleField "StoryColumns$Block" "kind") ∈ lw_all := lw_g (lw_at lw_m1 172 rfl) rfl
theorem q232 : (Jvm.Cond.soleField "StoryColumns$Block" "left") ∈ lw_all := lw_g (lw_at lw_m1 174 rfl) rfl
theorem q234 : (Jvm.Cond.soleField "StoryColumns$Block" "right") ∈ lw_all := lw_g (lw_at lw_m1 176 rfl) rfl
theorem q236 : (Jvm.Cond.soleField "StoryColumns$Block" "top") ∈ lw_all := lw_g (lw_at lw_m1 178 rfl) rfl
theorem q238 : (Jvm.Cond.soleField "StoryColumns$Block" "bottom") ∈ lw_all := lw_g (lw_at lw_m1 180 rfl) rfl
theorem q240 : (Jvm.Cond.soleField "StoryColumns$Block" "words") ∈ lw_all := lw_g (lw_at lw_m1 182 rfl) rfl
theorem q242 : (Jvm.Cond.soleField "StoryColumns$Block" "marks") ∈ lw_all := lw_g (lw_at lw_m1 184 rfl) rfl
theorem q244 : (Jvm.Cond.soleField "StoryColumns$Block" "head") ∈ lw_all := lw_g (lw_at lw_m1 186 rfl) rfl
theorem q246 : (Jvm.Cond.soleField "StoryColumns$Block" "story") ∈ lw_all := lw_g (lw_at lw_m1 188 rfl) rfl
theorem q248 : (Jvm.Cond.soleField "StoryColumns$Block" "taker") ∈ lw_all := lw_g (lw_at lw_m1 190 rfl) rfl
theorem q250 : (Jvm.Cond.soleField "StoryColumns$Block" "this$0") ∈ lw_all := lw_g (lw_at lw_m1 192 rfl) rfl
theorem q253 : (Jvm.Cond.instantiable "StoryColumns$Block" (13 : Nat)) ∈ lw_all := lw_g (lw_at lw_m1 195 rfl) rfl
theorem q255 : (Jvm.Cond.laysFinal "StoryColumns$Block" "StoryColumns$Block" "number" "I") ∈ lw_all := lw_g (lw_at lw_m1 197 rfl) rfl
theorem q256 : (Jvm.Cond.laysFinal "StoryColumns$Block" "StoryColumns$Block" "page" "I") ∈ lw_all := lw_g (lw_at lw_m1 198 rfl) rfl
theorem q257 : (Jvm.Cond.laysFinal "StoryColumns$Block" "StoryColumns$Block" "kind" "I") ∈ lw_all := lw_g (lw_at lw_m1 199 rfl) rfl
theorem q258 : (Jvm.Cond.lays "StoryColumns$Block" "StoryColumns$Block" "left" "I") ∈ lw_all := lw_g (lw_at lw_m1 200 rfl) rfl
theorem q259 : (Jvm.Cond.lays "StoryColumns$Block" "StoryColumns$Block" "right" "I") ∈ lw_all := lw_g (lw_at lw_m1 201 rfl) rfl
theorem q260 : (Jvm.Cond.laysFinal "StoryColumns$Block" "StoryColumns$Block" "top" "I") ∈ lw_all := lw_g (lw_at lw_m1 202 rfl) rfl
theorem q261 : (Jvm.Cond.laysFinal "StoryColumns$Block" "StoryColumns$Block" "bottom" "I") ∈ lw_all := lw_g (lw_at lw_m1 203 rfl) rfl
theorem q262 : (Jvm.Cond.lays "StoryColumns$Block" "StoryColumns$Block" "words" "I") ∈ lw_all := lw_g (lw_at lw_m1 204 rfl) rfl
theorem q263 : (Jvm.Cond.laysFinal "StoryColumns$Block" "StoryColumns$Block" "marks" "[LStoryColumns$Mark;") ∈ lw_all := lw_g (lw_at lw_m1 205 rfl) rfl
theorem q264 : (Jvm.Cond.lays "StoryColumns$Block" "StoryColumns$Block" "head" "LStoryColumns$Head;") ∈ lw_all := lw_g (lw_at lw_m1 206 rfl) rfl
theorem q265 : (Jvm.Cond.lays "StoryColumns$Block" "StoryColumns$Block" "story" "LStoryColumns$Story;") ∈ lw_all := lw_g (lw_at lw_m1 207 rfl) rfl
theorem q266 : (Jvm.Cond.lays "StoryColumns$Block" "StoryColumns$Block" "taker" "LStoryColumns$Block;") ∈ lw_all := lw_g (lw_at lw_m1 208 rfl) rfl
theorem q267 : (Jvm.Cond.laysFinal "StoryColumns$Block" "StoryColumns$Block" "this$0" "LStoryColumns;") ∈ lw_all := lw_g (lw_at lw_m1 209 rfl) rfl
theorem q268 : (Jvm.Cond.superclass "StoryColumns$Block" "java/lang/Object") ∈ lw_all := lw_g (lw_at lw_m1 210 rfl) rfl
theorem q383 : (Jvm.Cond.unhidden "StoryColumns$Block" "meets" "(LStoryColumns$Area;)Z") ∈ lw_tbl := lw_at lw_m2 85 rfl
theorem q392 : (Jvm.Cond.castable "StoryColumns$Block" "StoryColumns$Area") ∈ lw_tbl := lw_at lw_m2 94 rfl
theorem q393 : (Jvm.Cond.selects "StoryColumns$Block" ({ cls := "StoryColumns$Area", name := "page", desc := "()I" } : Jvm.MethodName) ({ cls := "StoryColumns$Block", name := "page", desc := "()I" } : Jvm.MethodName)) ∈ lw_all := lw_g (lw_at lw_m2 95 rfl) rfl
theorem q394 : (Jvm.Cond.unhidden "StoryColumns$Block" "page" "()I") ∈ lw_tbl := lw_at lw_m2 96 rfl
theorem q395 : (Jvm.Cond.instanceMethod ({ cls := "StoryColumns$Block", name := "page", desc := "()I" } : Jvm.MethodName)) ∈ lw_all := lw_g (lw_at lw_m2 97 rfl) rfl
theorem q396 : (Jvm.Cond.publicMethod ({ cls := "StoryColumns$Block", name := "page", desc := "()I" } : Jvm.MethodName)) ∈ lw_tbl := lw_at lw_m2 98 rfl
theorem q397 : (Jvm.Cond.code ({ cls := "StoryColumns$Block", name := "page", desc := "()I" } : Jvm.MethodName) prog_6_method_2_code (1 : Nat) (Option.some Jvm.ClassFile.FieldType.int)) ∈ lw_all := lw_g (lw_at lw_m2 99 rfl) rfl
theorem q405 : (Jvm.Cond.selects "StoryColumns$Block" ({ cls := "StoryColumns$Area", name := "left", desc := "()I" } : Jvm.MethodName) ({ cls := "StoryColumns$Block", name := "left", desc := "()I" } : Jvm.MethodName)) ∈ lw_all := lw_g (lw_at lw_m2 107 rfl) rfl
theorem q406 : (Jvm.Cond.unhidden "StoryColumns$Block" "left" "()I") ∈ lw_tbl := lw_at lw_m2 108 rfl
theorem q407 : (Jvm.Cond.instanceMethod ({ cls := "StoryColumns$Block", name := "left", desc := "()I" } : Jvm.MethodName)) ∈ lw_all := lw_g (lw_at lw_m2 109 rfl) rfl
theorem q408 : (Jvm.Cond.publicMethod ({ cls := "StoryColumns$Block", name := "left", desc := "()I" } : Jvm.MethodName)) ∈ lw_tbl := lw_at lw_m2 110 rfl
theorem q409 : (Jvm.Cond.code ({ cls := "StoryColumns$Block", name := "left", desc := "()I" } : Jvm.MethodName) prog_6_method_3_code (1 : Nat) (Option.some Jvm.ClassFile.FieldType.int)) ∈ lw_all := lw_g (lw_at lw_m2 111 rfl) rfl
theorem q416 : (Jvm.Cond.selects "StoryColumns$Block" ({ cls := "StoryColumns$Area", name := "right", desc := "()I" } : Jvm.MethodName) ({ cls := "StoryColumns$Block", name := "right", desc := "()I" } : Jvm.MethodName)) ∈ lw_all := lw_g (lw_at lw_m2 118 rfl) rfl
theorem q417 : (Jvm.Cond.unhidden "StoryColumns$Block" "right" "()I") ∈ lw_tbl := lw_at lw_m2 119 rfl
theorem q418 : (Jvm.Cond.instanceMethod ({ cls := "StoryColumns$Block", name := "right", desc := "()I" } : Jvm.MethodName)) ∈ lw_all := lw_g (lw_at lw_m2 120 rfl) rfl
theorem q419 : (Jvm.Cond.publicMethod ({ cls := "StoryColumns$Block", name := "right", desc := "()I" } : Jvm.MethodName)) ∈ lw_tbl := lw_at lw_m2 121 rfl
theorem q420 : (Jvm.Cond.code ({ cls := "StoryColumns$Block", name := "right", desc := "()I" } : Jvm.MethodName) prog_6_method_4_code (1 : Nat) (Option.some Jvm.ClassFile.FieldType.int)) ∈ lw_all := lw_g (lw_at lw_m2 122 rfl) rfl
theorem q427 : (Jvm.Cond.selects "StoryColumns$Block" ({ cls := "StoryColumns$Area", name := "top", desc := "()I" } : Jvm.MethodName) ({ cls := "StoryColumns$Block", name := "top", desc := "()I" } : Jvm.MethodName)) ∈ lw_all := lw_g (lw_at lw_m2 129 rfl) rfl
theorem q428 : (Jvm.Cond.unhidden "StoryColumns$Block" "top" "()I") ∈ lw_tbl := lw_at lw_m2 130 rfl
theorem q429 : (Jvm.Cond.instanceMethod ({ cls := "StoryColumns$Block", name := "top", desc := "()I" } : Jvm.MethodName)) ∈ lw_all := lw_g (lw_at lw_m2 131 rfl) rfl
theorem q430 : (Jvm.Cond.publicMethod ({ cls := "StoryColumns$Block", name := "top", desc := "()I" } : Jvm.MethodName)) ∈ lw_tbl := lw_at lw_m2 132 rfl
theorem q431 : (Jvm.Cond.code ({ cls := "StoryColumns$Block", name := "top", desc := "()I" } : Jvm.MethodName) prog_6_method_5_code (1 : Nat) (Option.some Jvm.ClassFile.FieldType.int)) ∈ lw_all := lw_g (lw_at lw_m2 133 rfl) rfl
theorem q438 : (Jvm.Cond.selects "StoryColumns$Block" ({ cls := "StoryColumns$Area", name := "bottom", desc := "()I" } : Jvm.MethodName) ({ cls := "StoryColumns$Block", name := "bottom", desc := "()I" } : Jvm.MethodName)) ∈ lw_all := lw_g (lw_at lw_m2 140 rfl) rfl
theorem q439 : (Jvm.Cond.unhidden "StoryColumns$Block" "bottom" "()I") ∈ lw_tbl := lw_at lw_m2 141 rfl
theorem q440 : (Jvm.Cond.instanceMethod ({ cls := "StoryColumns$Block", name := "bottom", desc := "()I" } : Jvm.MethodName)) ∈ lw_all := lw_g (lw_at lw_m2 142 rfl) rfl
theorem q441 : (Jvm.Cond.publicMethod ({ cls := "StoryColumns$Block", name := "bottom", desc := "()I" } : Jvm.MethodName)) ∈ lw_tbl := lw_at lw_m2 143 rfl
theorem q442 : (Jvm.Cond.code ({ cls := "StoryColumns$Block", name := "bottom", desc := "()I" } : Jvm.MethodName) prog_6_method_6_code (1 : Nat) (Option.some Jvm.ClassFile.FieldType.int)) ∈ lw_all := lw_g (lw_at lw_m2 144 rfl) rfl
theorem q488 : (Jvm.Cond.selects "StoryColumns$Block" ({ cls := "java/lang/Object", name := "getClass", desc := "()Ljava/lang/Class;" } : Jvm.MethodName) ({ cls := "java/lang/Object", name := "getClass", desc := "()Ljava/lang/Class;" } : Jvm.MethodName)) ∈ lw_all := lw_g (lw_at lw_m2 190 rfl) rfl
theorem q525 : (Jvm.Cond.instanceMethod ({ cls := "StoryColumns$Block", name := "isText", desc := "()Z" } : Jvm.MethodName)) ∈ lw_all := lw_g (lw_at lw_m2 227 rfl) rfl
theorem q526 : (Jvm.Cond.selects "StoryColumns$Block" ({ cls := "StoryColumns$Block", name := "isText", desc := "()Z" } : Jvm.MethodName) ({ cls := "StoryColumns$Block", name := "isText", desc := "()Z" } : Jvm.MethodName)) ∈ lw_all := lw_g (lw_at lw_m2 228 rfl) rfl
theorem q527 : (Jvm.Cond.sameMethod "StoryColumns$Block" "StoryColumns$Block" "isText" "()Z") ∈ lw_all := lw_g (lw_at lw_m2 229 rfl) rfl
theorem q529 : (Jvm.Cond.code ({ cls := "StoryColumns$Block", name := "isText", desc := "()Z" } : Jvm.MethodName) prog_6_method_7_code (1 : Nat) (Option.some Jvm.ClassFile.FieldType.boolean)) ∈ lw_all := lw_g (lw_at lw_m2 231 rfl) rfl
theorem q627 : (Jvm.Cond.unhidden "StoryColumns$Block" "hasColumn" "(I)Z") ∈ lw_tbl := lw_at lw_m3 89 rfl
theorem q634 : (Jvm.Cond.unhidden "StoryColumns$Block" "hasRow" "(I)Z") ∈ lw_tbl := lw_at lw_m3 96 rfl
theorem q680 : (Jvm.Cond.instanceMethod ({ cls := "StoryColumns$Block", name := "forgets", desc := "()V" } : Jvm.MethodName)) ∈ lw_all := lw_g (lw_at lw_m3 142 rfl) rfl
theorem q681 : (Jvm.Cond.selects "StoryColumns$Block" ({ cls := "StoryColumns$Block", name := "forgets", desc := "()V" } : Jvm.MethodName) ({ cls := "StoryColumns$Block", name := "forgets", desc := "()V" } : Jvm.MethodName)) ∈ lw_all := lw_g (lw_at lw_m3 143 rfl) rfl
theorem q682 : (Jvm.Cond.sameMethod "StoryColumns$Block" "StoryColumns$Block" "forgets" "()V") ∈ lw_all := lw_g (lw_at lw_m3 144 rfl) rfl
theorem q684 : (Jvm.Cond.code ({ cls := "StoryColumns$Block", name := "forgets", desc := "()V" } : Jvm.MethodName) prog_6_method_8_code (1 : Nat) (Option.none : Option Jvm.ClassFile.FieldType)) ∈ lw_all := lw_g (lw_at lw_m3 146 rfl) rfl
theorem q767 : (Jvm.Cond.instanceMethod ({ cls := "StoryColumns$Block", name := "takes", desc := "(LStoryColumns$Block;)Z" } : Jvm.MethodName)) ∈ lw_all := lw_g (lw_at lw_m3 229 rfl) rfl
theorem q768 : (Jvm.Cond.selects "StoryColumns$Block" ({ cls := "StoryColumns$Block", name := "takes", desc := "(LStoryColumns$Block;)Z" } : Jvm.MethodName) ({ cls := "StoryColumns$Block", name := "takes", desc := "(LStoryColumns$Block;)Z" } : Jvm.MethodName)) ∈ lw_all := lw_g (lw_at lw_m3 230 rfl) rfl
theorem q769 : (Jvm.Cond.sameMethod "StoryColumns$Block" "StoryColumns$Block" "takes" "(LStoryColumns$Block;)Z") ∈ lw_all := lw_g (lw_at lw_m3 231 rfl) rfl
theorem q771 : (Jvm.Cond.code ({ cls := "StoryColumns$Block", name := "takes", desc := "(LStoryColumns$Block;)Z" } : Jvm.MethodName) prog_6_method_9_code (3 : Nat) (Option.some Jvm.ClassFile.FieldType.boolean)) ∈ lw_all := lw_g (lw_at lw_m3 233 rfl) rfl
theorem q772 : (Jvm.Cond.methodLink "StoryColumns$Block" (58 : Nat) ({ cls := "StoryColumns$Block", name := "isText", desc := "()Z" } : Jvm.MethodName)) ∈ lw_all := lw_g (lw_at lw_m3 234 rfl) rfl
theorem q773 : (Jvm.Cond.methodLink "StoryColumns$Block" (62 : Nat) ({ cls := "java/lang/Math", name := "max", desc := "(II)I" } : Jvm.MethodName)) ∈ lw_all := lw_g (lw_at lw_m3 235 rfl) rfl
theorem q774 : (Jvm.Cond.methodLink "StoryColumns$Block" (68 : Nat) ({ cls := "java/lang/Math", name := "min", desc := "(II)I" } : Jvm.MethodName)) ∈ lw_all := lw_g (lw_at lw_m3 236 rfl) rfl
theorem q775 : (Jvm.Cond.methodLinkNest "StoryColumns$Block" (71 : Nat) ({ cls := "StoryColumns", name := "isBarred", desc := "(IIII)Z" } : Jvm.MethodName) "StoryColumns") ∈ lw_tbl := lw_at lw_m3 237 rfl
theorem q1365 : (Jvm.Cond.castable "StoryColumns$Block" "java/lang/Object") ∈ lw_tbl := lw_at lw_m6 107 rfl
theorem in_X2 : ∀ w ∈ wsX20, w ∈ lw_all := lw_in wsX20 [255, 256, 257, 258, 259, 260, 261, 262, 263, 264, 265, 266, 267] (by decide +kernel) (by decide +kernel)
/-! StoryColumns$Head -/
set_option maxRecDepth 100000
def RX3 : String := "StoryColumns$Head"
def TX3 : u_T := fun k => match k with
  | 0 => ("StoryColumns$Block", "number", "I", true)
  | 1 => ("StoryColumns$Block", "page", "I", true)
  | 2 => ("StoryColumns$Block", "kind", "I", true)
  | 3 => ("StoryColumns$Block", "left", "I", false)
  | 4 => ("StoryColumns$Block", "right", "I", false)
  | 5 => ("StoryColumns$Block", "top", "I", true)
  | 6 => ("StoryColumns$Block", "bottom", "I", true)
  | 7 => ("StoryColumns$Block", "words", "I", false)
  | 8 => ("StoryColumns$Block", "marks", "[LStoryColumns$Mark;", true)
  | 9 => ("StoryColumns$Block", "head", "LStoryColumns$Head;", false)
  | 10 => ("StoryColumns$Block", "story", "LStoryColumns$Story;", false)
  | 11 => ("StoryColumns$Block", "taker", "LStoryColumns$Block;", false)
  | 12 => ("StoryColumns$Block", "this$0", "LStoryColumns;", true)
  | _ => ("StoryColumns$Head", "this$0", "LStoryColumns;", true)
def tyX3 : Nat → FieldType := fun k => match k with
  | 0 => .int
  | 1 => .int
  | 2 => .int
  | 3 => .int
  | 4 => .int
  | 5 => .int
  | 6 => .int
  | 7 => .int
  | 8 => .array (.object "StoryColumns$Mark")
  | 9 => .object "StoryColumns$Head"
  | 10 => .object "StoryColumns$Story"
  | 11 => .object "StoryColumns$Block"
  | 12 => .object "StoryColumns"
  | _ => .object "StoryColumns"
abbrev wsX30 : List Cond := u_ws RX3 TX3 14
-- two fields of one name: no nmX3
set_option maxRecDepth 100000 in
theorem tyX3_ok : ∀ k, k < 14 → parseFieldDescriptor (TX3 k).2.2.1 = some (tyX3 k) := by decide +kernel
abbrev cX3_init : ByteArray := prog_7_method_1_code
def yX3_init : MethodName := ⟨RX3, "<init>", "(LStoryColumns;IIIIII)V"⟩
def dkwX3_init_0 : List UInt8 := [42, 43, 181, 0, 3, 42, 43, 28, 29, 3, 21, 4, 21, 5, 21, 6, 21, 7, 183, 0, 9, 177]
abbrev dktX3_init_0 : List UInt8 := dkwX3_init_0 ++ []
theorem dksX3_init_0 : cX3_init.data.toList.drop 0 = dktX3_init_0 := by decide +kernel
theorem dX3_init_0 : decode cX3_init 0 = .ok (.aload_n 0, 1) := dk_42 (dk_at dksX3_init_0 0 rfl rfl)
theorem dX3_init_1 : decode cX3_init 1 = .ok (.aload_n 1, 1) := dk_43 (dk_at dksX3_init_0 1 rfl rfl)
theorem dX3_init_2 : decode cX3_init 2 = .ok (.putfield 3, 3) := dk_181 0 3 (dk_at dksX3_init_0 2 rfl rfl)
theorem dX3_init_5 : decode cX3_init 5 = .ok (.aload_n 0, 1) := dk_42 (dk_at dksX3_init_0 5 rfl rfl)
theorem dX3_init_6 : decode cX3_init 6 = .ok (.aload_n 1, 1) := dk_43 (dk_at dksX3_init_0 6 rfl rfl)
theorem dX3_init_7 : decode cX3_init 7 = .ok (.iload_n 2, 1) := dk_28 (dk_at dksX3_init_0 7 rfl rfl)
theorem dX3_init_8 : decode cX3_init 8 = .ok (.iload_n 3, 1) := dk_29 (dk_at dksX3_init_0 8 rfl rfl)
theorem dX3_init_9 : decode cX3_init 9 = .ok (.iconst 0, 1) := dk_3 (dk_at dksX3_init_0 9 rfl rfl)
theorem dX3_init_10 : decode cX3_init 10 = .ok (.iload 4, 2) := dk_21 4 (dk_at dksX3_init_0 10 rfl rfl)
theorem dX3_init_12 : decode cX3_init 12 = .ok (.iload 5, 2) := dk_21 5 (dk_at dksX3_init_0 12 rfl rfl)
theorem dX3_init_14 : decode cX3_init 14 = .ok (.iload 6, 2) := dk_21 6 (dk_at dksX3_init_0 14 rfl rfl)
theorem dX3_init_16 : decode cX3_init 16 = .ok (.iload 7, 2) := dk_21 7 (dk_at dksX3_init_0 16 rfl rfl)
theorem dX3_init_18 : decode cX3_init 18 = .ok (.invokespecial 9, 3) := dk_183 0 9 (dk_at dksX3_init_0 18 rfl rfl)
theorem dX3_init_21 : decode cX3_init 21 = .ok (.return_, 1) := dk_177 (dk_at dksX3_init_0 21 rfl rfl)
abbrev cX3_reach : ByteArray := prog_7_method_3_code
def yX3_reach : MethodName := ⟨RX3, "reach", "(I)I"⟩
def dkwX3_reach_11 : List UInt8 := [16, 247, 172]
abbrev dktX3_reach_11 : List UInt8 := dkwX3_reach_11 ++ []
def dkwX3_reach_10 : List UInt8 := [167, 0, 4, 28, 61, 132, 3, 1, 167, 255, 141, 28, 42, 180, 0, 19, 164, 0, 7, 28, 167, 0, 5]
abbrev dktX3_reach_10 : List UInt8 := dkwX3_reach_10 ++ dktX3_reach_11
def dkwX3_reach_9 : List UInt8 := [167, 0, 4, 3, 54, 5, 21, 5, 153, 0, 17, 28, 25, 4, 180, 0, 82, 4, 100, 184, 0, 57]
abbrev dktX3_reach_9 : List UInt8 := dkwX3_reach_9 ++ dktX3_reach_10
def dkwX3_reach_8 : List UInt8 := [180, 0, 75, 184, 0, 78, 153, 0, 19, 25, 4, 180, 0, 82, 42, 180, 0, 19, 164, 0, 7, 4]
abbrev dktX3_reach_8 : List UInt8 := dkwX3_reach_8 ++ dktX3_reach_9
def dkwX3_reach_7 : List UInt8 := [160, 0, 48, 25, 4, 180, 0, 71, 42, 180, 0, 26, 160, 0, 36, 27, 25, 4, 180, 0, 72, 25, 4]
abbrev dktX3_reach_7 : List UInt8 := dkwX3_reach_7 ++ dktX3_reach_8
def dkwX3_reach_6 : List UInt8 := [42, 180, 0, 3, 180, 0, 63, 29, 185, 0, 46, 2, 0, 192, 0, 66, 58, 4, 25, 4, 180, 0, 68, 4]
abbrev dktX3_reach_6 : List UInt8 := dkwX3_reach_6 ++ dktX3_reach_7
def dkwX3_reach_5 : List UInt8 := [132, 3, 1, 167, 255, 150, 3, 62, 29, 42, 180, 0, 3, 180, 0, 63, 185, 0, 40, 1, 0, 162, 0, 105]
abbrev dktX3_reach_5 : List UInt8 := dkwX3_reach_5 ++ dktX3_reach_6
def dkwX3_reach_4 : List UInt8 := [54, 5, 21, 5, 153, 0, 17, 28, 25, 4, 180, 0, 54, 4, 100, 184, 0, 57, 167, 0, 4, 28, 61]
abbrev dktX3_reach_4 : List UInt8 := dkwX3_reach_4 ++ dktX3_reach_5
def dkwX3_reach_3 : List UInt8 := [27, 182, 0, 15, 153, 0, 19, 25, 4, 180, 0, 54, 42, 180, 0, 19, 164, 0, 7, 4, 167, 0, 4, 3]
abbrev dktX3_reach_3 : List UInt8 := dkwX3_reach_3 ++ dktX3_reach_4
def dkwX3_reach_2 : List UInt8 := [58, 4, 25, 4, 180, 0, 50, 154, 0, 40, 25, 4, 180, 0, 53, 42, 180, 0, 26, 160, 0, 28, 25, 4]
abbrev dktX3_reach_2 : List UInt8 := dkwX3_reach_2 ++ dktX3_reach_3
def dkwX3_reach_1 : List UInt8 := [185, 0, 40, 1, 0, 162, 0, 96, 42, 180, 0, 3, 180, 0, 36, 29, 185, 0, 46, 2, 0, 192, 0, 10]
abbrev dktX3_reach_1 : List UInt8 := dkwX3_reach_1 ++ dktX3_reach_2
def dkwX3_reach_0 : List UInt8 := [42, 27, 182, 0, 33, 154, 0, 6, 16, 247, 172, 16, 29, 61, 3, 62, 29, 42, 180, 0, 3, 180, 0, 36]
abbrev dktX3_reach_0 : List UInt8 := dkwX3_reach_0 ++ dktX3_reach_1
theorem dksX3_reach_0 : cX3_reach.data.toList.drop 0 = dktX3_reach_0 := by decide +kernel
theorem dksX3_reach_1 : cX3_reach.data.toList.drop 24 = dktX3_reach_1 := dk_seg dksX3_reach_0 24 rfl rfl
theorem dksX3_reach_2 : cX3_reach.data.toList.drop 48 = dktX3_reach_2 := dk_seg dksX3_reach_1 24 rfl rfl
theorem dksX3_reach_3 : cX3_reach.data.toList.drop 72 = dktX3_reach_3 := dk_seg dksX3_reach_2 24 rfl rfl
theorem dksX3_reach_4 : cX3_reach.data.toList.drop 96 = dktX3_reach_4 := dk_seg dksX3_reach_3 24 rfl rfl
theorem dksX3_reach_5 : cX3_reach.data.toList.drop 119 = dktX3_reach_5 := dk_seg dksX3_reach_4 23 rfl rfl
theorem dksX3_reach_6 : cX3_reach.data.toList.drop 143 = dktX3_reach_6 := dk_seg dksX3_reach_5 24 rfl rfl
theorem dksX3_reach_7 : cX3_reach.data.toList.drop 167 = dktX3_reach_7 := dk_seg dksX3_reach_6 24 rfl rfl
theorem dksX3_reach_8 : cX3_reach.data.toList.drop 190 = dktX3_reach_8 := dk_seg dksX3_reach_7 23 rfl rfl
theorem dksX3_reach_9 : cX3_reach.data.toList.drop 212 = dktX3_reach_9 := dk_seg dksX3_reach_8 22 rfl rfl
theorem dksX3_reach_10 : cX3_reach.data.toList.drop 234 = dktX3_reach_10 := dk_seg dksX3_reach_9 22 rfl rfl
theorem dksX3_reach_11 : cX3_reach.data.toList.drop 257 = dktX3_reach_11 := dk_seg dksX3_reach_10 23 rfl rfl
theorem dX3_reach_0 : decode cX3_reach 0 = .ok (.aload_n 0, 1) := dk_42 (dk_at dksX3_reach_0 0 rfl rfl)
theorem dX3_reach_1 : decode cX3_reach 1 = .ok (.iload_n 1, 1) := dk_27 (dk_at dksX3_reach_0 1 rfl rfl)
theorem dX3_reach_2 : decode cX3_reach 2 = .ok (.invokevirtual 33, 3) := dk_182 0 33 (dk_at dksX3_reach_0 2 rfl rfl)
theorem dX3_reach_5 : decode cX3_reach 5 = .ok (.ifCond .ne 6, 3) := dk_154 0 6 (dk_at dksX3_reach_0 5 rfl rfl)
theorem dX3_reach_8 : decode cX3_reach 8 = .ok (.bipush (-9), 2) := dk_16 247 (dk_at dksX3_reach_0 8 rfl rfl)
theorem dX3_reach_10 : decode cX3_reach 10 = .ok (.ireturn, 1) := dk_172 (dk_at dksX3_reach_0 10 rfl rfl)
theorem dX3_reach_11 : decode cX3_reach 11 = .ok (.bipush 29, 2) := dk_16 29 (dk_at dksX3_reach_0 11 rfl rfl)
theorem dX3_reach_13 : decode cX3_reach 13 = .ok (.istore_n 2, 1) := dk_61 (dk_at dksX3_reach_0 13 rfl rfl)
theorem dX3_reach_14 : decode cX3_reach 14 = .ok (.iconst 0, 1) := dk_3 (dk_at dksX3_reach_0 14 rfl rfl)
theorem dX3_reach_15 : decode cX3_reach 15 = .ok (.istore_n 3, 1) := dk_62 (dk_at dksX3_reach_0 15 rfl rfl)
theorem dX3_reach_16 : decode cX3_reach 16 = .ok (.iload_n 3, 1) := dk_29 (dk_at dksX3_reach_0 16 rfl rfl)
theorem dX3_reach_17 : decode cX3_reach 17 = .ok (.aload_n 0, 1) := dk_42 (dk_at dksX3_reach_0 17 rfl rfl)
theorem dX3_reach_18 : decode cX3_reach 18 = .ok (.getfield 3, 3) := dk_180 0 3 (dk_at dksX3_reach_0 18 rfl rfl)
theorem dX3_reach_21 : decode cX3_reach 21 = .ok (.getfield 36, 3) := dk_180 0 36 (dk_at dksX3_reach_0 21 rfl rfl)
theorem dX3_reach_24 : decode cX3_reach 24 = .ok (.invokeinterface 40 1, 5) := by decide +kernel
theorem dX3_reach_29 : decode cX3_reach 29 = .ok (.if_icmp .ge 96, 3) := dk_162 0 96 (dk_at dksX3_reach_1 5 rfl rfl)
theorem dX3_reach_32 : decode cX3_reach 32 = .ok (.aload_n 0, 1) := dk_42 (dk_at dksX3_reach_1 8 rfl rfl)
theorem dX3_reach_33 : decode cX3_reach 33 = .ok (.getfield 3, 3) := dk_180 0 3 (dk_at dksX3_reach_1 9 rfl rfl)
theorem dX3_reach_36 : decode cX3_reach 36 = .ok (.getfield 36, 3) := dk_180 0 36 (dk_at dksX3_reach_1 12 rfl rfl)
theorem dX3_reach_39 : decode cX3_reach 39 = .ok (.iload_n 3, 1) := dk_29 (dk_at dksX3_reach_1 15 rfl rfl)
theorem dX3_reach_40 : decode cX3_reach 40 = .ok (.invokeinterface 46 2, 5) := by decide +kernel
theorem dX3_reach_45 : decode cX3_reach 45 = .ok (.checkcast 10, 3) := dk_192 0 10 (dk_at dksX3_reach_1 21 rfl rfl)
theorem dX3_reach_48 : decode cX3_reach 48 = .ok (.astore 4, 2) := dk_58 4 (dk_at dksX3_reach_2 0 rfl rfl)
theorem dX3_reach_50 : decode cX3_reach 50 = .ok (.aload 4, 2) := dk_25 4 (dk_at dksX3_reach_2 2 rfl rfl)
theorem dX3_reach_52 : decode cX3_reach 52 = .ok (.getfield 50, 3) := dk_180 0 50 (dk_at dksX3_reach_2 4 rfl rfl)
theorem dX3_reach_55 : decode cX3_reach 55 = .ok (.ifCond .ne 40, 3) := dk_154 0 40 (dk_at dksX3_reach_2 7 rfl rfl)
theorem dX3_reach_58 : decode cX3_reach 58 = .ok (.aload 4, 2) := dk_25 4 (dk_at dksX3_reach_2 10 rfl rfl)
theorem dX3_reach_60 : decode cX3_reach 60 = .ok (.getfield 53, 3) := dk_180 0 53 (dk_at dksX3_reach_2 12 rfl rfl)
theorem dX3_reach_63 : decode cX3_reach 63 = .ok (.aload_n 0, 1) := dk_42 (dk_at dksX3_reach_2 15 rfl rfl)
theorem dX3_reach_64 : decode cX3_reach 64 = .ok (.getfield 26, 3) := dk_180 0 26 (dk_at dksX3_reach_2 16 rfl rfl)
theorem dX3_reach_67 : decode cX3_reach 67 = .ok (.if_icmp .ne 28, 3) := dk_160 0 28 (dk_at dksX3_reach_2 19 rfl rfl)
theorem dX3_reach_70 : decode cX3_reach 70 = .ok (.aload 4, 2) := dk_25 4 (dk_at dksX3_reach_2 22 rfl rfl)
theorem dX3_reach_72 : decode cX3_reach 72 = .ok (.iload_n 1, 1) := dk_27 (dk_at dksX3_reach_3 0 rfl rfl)
theorem dX3_reach_73 : decode cX3_reach 73 = .ok (.invokevirtual 15, 3) := dk_182 0 15 (dk_at dksX3_reach_3 1 rfl rfl)
theorem dX3_reach_76 : decode cX3_reach 76 = .ok (.ifCond .eq 19, 3) := dk_153 0 19 (dk_at dksX3_reach_3 4 rfl rfl)
theorem dX3_reach_79 : decode cX3_reach 79 = .ok (.aload 4, 2) := dk_25 4 (dk_at dksX3_reach_3 7 rfl rfl)
theorem dX3_reach_81 : decode cX3_reach 81 = .ok (.getfield 54, 3) := dk_180 0 54 (dk_at dksX3_reach_3 9 rfl rfl)
theorem dX3_reach_84 : decode cX3_reach 84 = .ok (.aload_n 0, 1) := dk_42 (dk_at dksX3_reach_3 12 rfl rfl)
theorem dX3_reach_85 : decode cX3_reach 85 = .ok (.getfield 19, 3) := dk_180 0 19 (dk_at dksX3_reach_3 13 rfl rfl)
theorem dX3_reach_88 : decode cX3_reach 88 = .ok (.if_icmp .le 7, 3) := dk_164 0 7 (dk_at dksX3_reach_3 16 rfl rfl)
theorem dX3_reach_91 : decode cX3_reach 91 = .ok (.iconst 1, 1) := dk_4 (dk_at dksX3_reach_3 19 rfl rfl)
theorem dX3_reach_92 : decode cX3_reach 92 = .ok (.goto 4, 3) := dk_167 0 4 (dk_at dksX3_reach_3 20 rfl rfl)
theorem dX3_reach_95 : decode cX3_reach 95 = .ok (.iconst 0, 1) := dk_3 (dk_at dksX3_reach_3 23 rfl rfl)
theorem dX3_reach_96 : decode cX3_reach 96 = .ok (.istore 5, 2) := dk_54 5 (dk_at dksX3_reach_4 0 rfl rfl)
theorem dX3_reach_98 : decode cX3_reach 98 = .ok (.iload 5, 2) := dk_21 5 (dk_at dksX3_reach_4 2 rfl rfl)
theorem dX3_reach_100 : decode cX3_reach 100 = .ok (.ifCond .eq 17, 3) := dk_153 0 17 (dk_at dksX3_reach_4 4 rfl rfl)
theorem dX3_reach_103 : decode cX3_reach 103 = .ok (.iload_n 2, 1) := dk_28 (dk_at dksX3_reach_4 7 rfl rfl)
theorem dX3_reach_104 : decode cX3_reach 104 = .ok (.aload 4, 2) := dk_25 4 (dk_at dksX3_reach_4 8 rfl rfl)
theorem dX3_reach_106 : decode cX3_reach 106 = .ok (.getfield 54, 3) := dk_180 0 54 (dk_at dksX3_reach_4 10 rfl rfl)
theorem dX3_reach_109 : decode cX3_reach 109 = .ok (.iconst 1, 1) := dk_4 (dk_at dksX3_reach_4 13 rfl rfl)
theorem dX3_reach_110 : decode cX3_reach 110 = .ok (.isub, 1) := dk_100 (dk_at dksX3_reach_4 14 rfl rfl)
theorem dX3_reach_111 : decode cX3_reach 111 = .ok (.invokestatic 57, 3) := dk_184 0 57 (dk_at dksX3_reach_4 15 rfl rfl)
theorem dX3_reach_114 : decode cX3_reach 114 = .ok (.goto 4, 3) := dk_167 0 4 (dk_at dksX3_reach_4 18 rfl rfl)
theorem dX3_reach_117 : decode cX3_reach 117 = .ok (.iload_n 2, 1) := dk_28 (dk_at dksX3_reach_4 21 rfl rfl)
theorem dX3_reach_118 : decode cX3_reach 118 = .ok (.istore_n 2, 1) := dk_61 (dk_at dksX3_reach_4 22 rfl rfl)
theorem dX3_reach_119 : decode cX3_reach 119 = .ok (.iinc 3 1, 3) := dk_132 3 1 (dk_at dksX3_reach_5 0 rfl rfl)
theorem dX3_reach_122 : decode cX3_reach 122 = .ok (.goto (-106), 3) := dk_167 255 150 (dk_at dksX3_reach_5 3 rfl rfl)
theorem dX3_reach_125 : decode cX3_reach 125 = .ok (.iconst 0, 1) := dk_3 (dk_at dksX3_reach_5 6 rfl rfl)
theorem dX3_reach_126 : decode cX3_reach 126 = .ok (.istore_n 3, 1) := dk_62 (dk_at dksX3_reach_5 7 rfl rfl)
theorem dX3_reach_127 : decode cX3_reach 127 = .ok (.iload_n 3, 1) := dk_29 (dk_at dksX3_reach_5 8 rfl rfl)
theorem dX3_reach_128 : decode cX3_reach 128 = .ok (.aload_n 0, 1) := dk_42 (dk_at dksX3_reach_5 9 rfl rfl)
theorem dX3_reach_129 : decode cX3_reach 129 = .ok (.getfield 3, 3) := dk_180 0 3 (dk_at dksX3_reach_5 10 rfl rfl)
theorem dX3_reach_132 : decode cX3_reach 132 = .ok (.getfield 63, 3) := dk_180 0 63 (dk_at dksX3_reach_5 13 rfl rfl)
theorem dX3_reach_135 : decode cX3_reach 135 = .ok (.invokeinterface 40 1, 5) := by decide +kernel
theorem dX3_reach_140 : decode cX3_reach 140 = .ok (.if_icmp .ge 105, 3) := dk_162 0 105 (dk_at dksX3_reach_5 21 rfl rfl)
theorem dX3_reach_143 : decode cX3_reach 143 = .ok (.aload_n 0, 1) := dk_42 (dk_at dksX3_reach_6 0 rfl rfl)
theorem dX3_reach_144 : decode cX3_reach 144 = .ok (.getfield 3, 3) := dk_180 0 3 (dk_at dksX3_reach_6 1 rfl rfl)
theorem dX3_reach_147 : decode cX3_reach 147 = .ok (.getfield 63, 3) := dk_180 0 63 (dk_at dksX3_reach_6 4 rfl rfl)
theorem dX3_reach_150 : decode cX3_reach 150 = .ok (.iload_n 3, 1) := dk_29 (dk_at dksX3_reach_6 7 rfl rfl)
theorem dX3_reach_151 : decode cX3_reach 151 = .ok (.invokeinterface 46 2, 5) := by decide +kernel
theorem dX3_reach_156 : decode cX3_reach 156 = .ok (.checkcast 66, 3) := dk_192 0 66 (dk_at dksX3_reach_6 13 rfl rfl)
theorem dX3_reach_159 : decode cX3_reach 159 = .ok (.astore 4, 2) := dk_58 4 (dk_at dksX3_reach_6 16 rfl rfl)
theorem dX3_reach_161 : decode cX3_reach 161 = .ok (.aload 4, 2) := dk_25 4 (dk_at dksX3_reach_6 18 rfl rfl)
theorem dX3_reach_163 : decode cX3_reach 163 = .ok (.getfield 68, 3) := dk_180 0 68 (dk_at dksX3_reach_6 20 rfl rfl)
theorem dX3_reach_166 : decode cX3_reach 166 = .ok (.iconst 1, 1) := dk_4 (dk_at dksX3_reach_6 23 rfl rfl)
theorem dX3_reach_167 : decode cX3_reach 167 = .ok (.if_icmp .ne 48, 3) := dk_160 0 48 (dk_at dksX3_reach_7 0 rfl rfl)
theorem dX3_reach_170 : decode cX3_reach 170 = .ok (.aload 4, 2) := dk_25 4 (dk_at dksX3_reach_7 3 rfl rfl)
theorem dX3_reach_172 : decode cX3_reach 172 = .ok (.getfield 71, 3) := dk_180 0 71 (dk_at dksX3_reach_7 5 rfl rfl)
theorem dX3_reach_175 : decode cX3_reach 175 = .ok (.aload_n 0, 1) := dk_42 (dk_at dksX3_reach_7 8 rfl rfl)
theorem dX3_reach_176 : decode cX3_reach 176 = .ok (.getfield 26, 3) := dk_180 0 26 (dk_at dksX3_reach_7 9 rfl rfl)
theorem dX3_reach_179 : decode cX3_reach 179 = .ok (.if_icmp .ne 36, 3) := dk_160 0 36 (dk_at dksX3_reach_7 12 rfl rfl)
theorem dX3_reach_182 : decode cX3_reach 182 = .ok (.iload_n 1, 1) := dk_27 (dk_at dksX3_reach_7 15 rfl rfl)
theorem dX3_reach_183 : decode cX3_reach 183 = .ok (.aload 4, 2) := dk_25 4 (dk_at dksX3_reach_7 16 rfl rfl)
theorem dX3_reach_185 : decode cX3_reach 185 = .ok (.getfield 72, 3) := dk_180 0 72 (dk_at dksX3_reach_7 18 rfl rfl)
theorem dX3_reach_188 : decode cX3_reach 188 = .ok (.aload 4, 2) := dk_25 4 (dk_at dksX3_reach_7 21 rfl rfl)
theorem dX3_reach_190 : decode cX3_reach 190 = .ok (.getfield 75, 3) := dk_180 0 75 (dk_at dksX3_reach_8 0 rfl rfl)
theorem dX3_reach_193 : decode cX3_reach 193 = .ok (.invokestatic 78, 3) := dk_184 0 78 (dk_at dksX3_reach_8 3 rfl rfl)
theorem dX3_reach_196 : decode cX3_reach 196 = .ok (.ifCond .eq 19, 3) := dk_153 0 19 (dk_at dksX3_reach_8 6 rfl rfl)
theorem dX3_reach_199 : decode cX3_reach 199 = .ok (.aload 4, 2) := dk_25 4 (dk_at dksX3_reach_8 9 rfl rfl)
theorem dX3_reach_201 : decode cX3_reach 201 = .ok (.getfield 82, 3) := dk_180 0 82 (dk_at dksX3_reach_8 11 rfl rfl)
theorem dX3_reach_204 : decode cX3_reach 204 = .ok (.aload_n 0, 1) := dk_42 (dk_at dksX3_reach_8 14 rfl rfl)
theorem dX3_reach_205 : decode cX3_reach 205 = .ok (.getfield 19, 3) := dk_180 0 19 (dk_at dksX3_reach_8 15 rfl rfl)
theorem dX3_reach_208 : decode cX3_reach 208 = .ok (.if_icmp .le 7, 3) := dk_164 0 7 (dk_at dksX3_reach_8 18 rfl rfl)
theorem dX3_reach_211 : decode cX3_reach 211 = .ok (.iconst 1, 1) := dk_4 (dk_at dksX3_reach_8 21 rfl rfl)
theorem dX3_reach_212 : decode cX3_reach 212 = .ok (.goto 4, 3) := dk_167 0 4 (dk_at dksX3_reach_9 0 rfl rfl)
theorem dX3_reach_215 : decode cX3_reach 215 = .ok (.iconst 0, 1) := dk_3 (dk_at dksX3_reach_9 3 rfl rfl)
theorem dX3_reach_216 : decode cX3_reach 216 = .ok (.istore 5, 2) := dk_54 5 (dk_at dksX3_reach_9 4 rfl rfl)
theorem dX3_reach_218 : decode cX3_reach 218 = .ok (.iload 5, 2) := dk_21 5 (dk_at dksX3_reach_9 6 rfl rfl)
theorem dX3_reach_220 : decode cX3_reach 220 = .ok (.ifCond .eq 17, 3) := dk_153 0 17 (dk_at dksX3_reach_9 8 rfl rfl)
theorem dX3_reach_223 : decode cX3_reach 223 = .ok (.iload_n 2, 1) := dk_28 (dk_at dksX3_reach_9 11 rfl rfl)
theorem dX3_reach_224 : decode cX3_reach 224 = .ok (.aload 4, 2) := dk_25 4 (dk_at dksX3_reach_9 12 rfl rfl)
theorem dX3_reach_226 : decode cX3_reach 226 = .ok (.getfield 82, 3) := dk_180 0 82 (dk_at dksX3_reach_9 14 rfl rfl)
theorem dX3_reach_229 : decode cX3_reach 229 = .ok (.iconst 1, 1) := dk_4 (dk_at dksX3_reach_9 17 rfl rfl)
theorem dX3_reach_230 : decode cX3_reach 230 = .ok (.isub, 1) := dk_100 (dk_at dksX3_reach_9 18 rfl rfl)
theorem dX3_reach_231 : decode cX3_reach 231 = .ok (.invokestatic 57, 3) := dk_184 0 57 (dk_at dksX3_reach_9 19 rfl rfl)
theorem dX3_reach_234 : decode cX3_reach 234 = .ok (.goto 4, 3) := dk_167 0 4 (dk_at dksX3_reach_10 0 rfl rfl)
theorem dX3_reach_237 : decode cX3_reach 237 = .ok (.iload_n 2, 1) := dk_28 (dk_at dksX3_reach_10 3 rfl rfl)
theorem dX3_reach_238 : decode cX3_reach 238 = .ok (.istore_n 2, 1) := dk_61 (dk_at dksX3_reach_10 4 rfl rfl)
theorem dX3_reach_239 : decode cX3_reach 239 = .ok (.iinc 3 1, 3) := dk_132 3 1 (dk_at dksX3_reach_10 5 rfl rfl)
theorem dX3_reach_242 : decode cX3_reach 242 = .ok (.goto (-115), 3) := dk_167 255 141 (dk_at dksX3_reach_10 8 rfl rfl)
theorem dX3_reach_245 : decode cX3_reach 245 = .ok (.iload_n 2, 1) := dk_28 (dk_at dksX3_reach_10 11 rfl rfl)
theorem dX3_reach_246 : decode cX3_reach 246 = .ok (.aload_n 0, 1) := dk_42 (dk_at dksX3_reach_10 12 rfl rfl)
theorem dX3_reach_247 : decode cX3_reach 247 = .ok (.getfield 19, 3) := dk_180 0 19 (dk_at dksX3_reach_10 13 rfl rfl)
theorem dX3_reach_250 : decode cX3_reach 250 = .ok (.if_icmp .le 7, 3) := dk_164 0 7 (dk_at dksX3_reach_10 16 rfl rfl)
theorem dX3_reach_253 : decode cX3_reach 253 = .ok (.iload_n 2, 1) := dk_28 (dk_at dksX3_reach_10 19 rfl rfl)
theorem dX3_reach_254 : decode cX3_reach 254 = .ok (.goto 5, 3) := dk_167 0 5 (dk_at dksX3_reach_10 20 rfl rfl)
theorem dX3_reach_257 : decode cX3_reach 257 = .ok (.bipush (-9), 2) := dk_16 247 (dk_at dksX3_reach_11 0 rfl rfl)
theorem dX3_reach_259 : decode cX3_reach 259 = .ok (.ireturn, 1) := dk_172 (dk_at dksX3_reach_11 2 rfl rfl)
abbrev cX3_reachesAcross : ByteArray := prog_7_method_2_code
def yX3_reachesAcross : MethodName := ⟨RX3, "reachesAcross", "(I)Z"⟩
def dkwX3_reachesAcross_3 : List UInt8 := [132, 3, 1, 167, 255, 211, 28, 172]
abbrev dktX3_reachesAcross_3 : List UInt8 := dkwX3_reachesAcross_3 ++ []
def dkwX3_reachesAcross_2 : List UInt8 := [42, 180, 0, 19, 4, 96, 42, 180, 0, 19, 4, 96, 182, 0, 29, 154, 0, 7, 4, 167, 0, 4, 3, 61]
abbrev dktX3_reachesAcross_2 : List UInt8 := dkwX3_reachesAcross_2 ++ dktX3_reachesAcross_3
def dkwX3_reachesAcross_1 : List UInt8 := [180, 0, 23, 4, 96, 62, 29, 27, 163, 0, 46, 28, 153, 0, 42, 42, 180, 0, 3, 42, 180, 0, 26, 29]
abbrev dktX3_reachesAcross_1 : List UInt8 := dkwX3_reachesAcross_1 ++ dktX3_reachesAcross_2
def dkwX3_reachesAcross_0 : List UInt8 := [42, 27, 183, 0, 15, 153, 0, 16, 42, 180, 0, 19, 16, 29, 162, 0, 7, 4, 167, 0, 4, 3, 61, 42]
abbrev dktX3_reachesAcross_0 : List UInt8 := dkwX3_reachesAcross_0 ++ dktX3_reachesAcross_1
theorem dksX3_reachesAcross_0 : cX3_reachesAcross.data.toList.drop 0 = dktX3_reachesAcross_0 := by decide +kernel
theorem dksX3_reachesAcross_1 : cX3_reachesAcross.data.toList.drop 24 = dktX3_reachesAcross_1 := dk_seg dksX3_reachesAcross_0 24 rfl rfl
theorem dksX3_reachesAcross_2 : cX3_reachesAcross.data.toList.drop 48 = dktX3_reachesAcross_2 := dk_seg dksX3_reachesAcross_1 24 rfl rfl
theorem dksX3_reachesAcross_3 : cX3_reachesAcross.data.toList.drop 72 = dktX3_reachesAcross_3 := dk_seg dksX3_reachesAcross_2 24 rfl rfl
theorem dX3_reachesAcross_0 : decode cX3_reachesAcross 0 = .ok (.aload_n 0, 1) := dk_42 (dk_at dksX3_reachesAcross_0 0 rfl rfl)
theorem dX3_reachesAcross_1 : decode cX3_reachesAcross 1 = .ok (.iload_n 1, 1) := dk_27 (dk_at dksX3_reachesAcross_0 1 rfl rfl)
theorem dX3_reachesAcross_2 : decode cX3_reachesAcross 2 = .ok (.invokespecial 15, 3) := dk_183 0 15 (dk_at dksX3_reachesAcross_0 2 rfl rfl)
theorem dX3_reachesAcross_5 : decode cX3_reachesAcross 5 = .ok (.ifCond .eq 16, 3) := dk_153 0 16 (dk_at dksX3_reachesAcross_0 5 rfl rfl)
theorem dX3_reachesAcross_8 : decode cX3_reachesAcross 8 = .ok (.aload_n 0, 1) := dk_42 (dk_at dksX3_reachesAcross_0 8 rfl rfl)
theorem dX3_reachesAcross_9 : decode cX3_reachesAcross 9 = .ok (.getfield 19, 3) := dk_180 0 19 (dk_at dksX3_reachesAcross_0 9 rfl rfl)
theorem dX3_reachesAcross_12 : decode cX3_reachesAcross 12 = .ok (.bipush 29, 2) := dk_16 29 (dk_at dksX3_reachesAcross_0 12 rfl rfl)
theorem dX3_reachesAcross_14 : decode cX3_reachesAcross 14 = .ok (.if_icmp .ge 7, 3) := dk_162 0 7 (dk_at dksX3_reachesAcross_0 14 rfl rfl)
theorem dX3_reachesAcross_17 : decode cX3_reachesAcross 17 = .ok (.iconst 1, 1) := dk_4 (dk_at dksX3_reachesAcross_0 17 rfl rfl)
theorem dX3_reachesAcross_18 : decode cX3_reachesAcross 18 = .ok (.goto 4, 3) := dk_167 0 4 (dk_at dksX3_reachesAcross_0 18 rfl rfl)
theorem dX3_reachesAcross_21 : decode cX3_reachesAcross 21 = .ok (.iconst 0, 1) := dk_3 (dk_at dksX3_reachesAcross_0 21 rfl rfl)
theorem dX3_reachesAcross_22 : decode cX3_reachesAcross 22 = .ok (.istore_n 2, 1) := dk_61 (dk_at dksX3_reachesAcross_0 22 rfl rfl)
theorem dX3_reachesAcross_23 : decode cX3_reachesAcross 23 = .ok (.aload_n 0, 1) := dk_42 (dk_at dksX3_reachesAcross_0 23 rfl rfl)
theorem dX3_reachesAcross_24 : decode cX3_reachesAcross 24 = .ok (.getfield 23, 3) := dk_180 0 23 (dk_at dksX3_reachesAcross_1 0 rfl rfl)
theorem dX3_reachesAcross_27 : decode cX3_reachesAcross 27 = .ok (.iconst 1, 1) := dk_4 (dk_at dksX3_reachesAcross_1 3 rfl rfl)
theorem dX3_reachesAcross_28 : decode cX3_reachesAcross 28 = .ok (.iadd, 1) := dk_96 (dk_at dksX3_reachesAcross_1 4 rfl rfl)
theorem dX3_reachesAcross_29 : decode cX3_reachesAcross 29 = .ok (.istore_n 3, 1) := dk_62 (dk_at dksX3_reachesAcross_1 5 rfl rfl)
theorem dX3_reachesAcross_30 : decode cX3_reachesAcross 30 = .ok (.iload_n 3, 1) := dk_29 (dk_at dksX3_reachesAcross_1 6 rfl rfl)
theorem dX3_reachesAcross_31 : decode cX3_reachesAcross 31 = .ok (.iload_n 1, 1) := dk_27 (dk_at dksX3_reachesAcross_1 7 rfl rfl)
theorem dX3_reachesAcross_32 : decode cX3_reachesAcross 32 = .ok (.if_icmp .gt 46, 3) := dk_163 0 46 (dk_at dksX3_reachesAcross_1 8 rfl rfl)
theorem dX3_reachesAcross_35 : decode cX3_reachesAcross 35 = .ok (.iload_n 2, 1) := dk_28 (dk_at dksX3_reachesAcross_1 11 rfl rfl)
theorem dX3_reachesAcross_36 : decode cX3_reachesAcross 36 = .ok (.ifCond .eq 42, 3) := dk_153 0 42 (dk_at dksX3_reachesAcross_1 12 rfl rfl)
theorem dX3_reachesAcross_39 : decode cX3_reachesAcross 39 = .ok (.aload_n 0, 1) := dk_42 (dk_at dksX3_reachesAcross_1 15 rfl rfl)
theorem dX3_reachesAcross_40 : decode cX3_reachesAcross 40 = .ok (.getfield 3, 3) := dk_180 0 3 (dk_at dksX3_reachesAcross_1 16 rfl rfl)
theorem dX3_reachesAcross_43 : decode cX3_reachesAcross 43 = .ok (.aload_n 0, 1) := dk_42 (dk_at dksX3_reachesAcross_1 19 rfl rfl)
theorem dX3_reachesAcross_44 : decode cX3_reachesAcross 44 = .ok (.getfield 26, 3) := dk_180 0 26 (dk_at dksX3_reachesAcross_1 20 rfl rfl)
theorem dX3_reachesAcross_47 : decode cX3_reachesAcross 47 = .ok (.iload_n 3, 1) := dk_29 (dk_at dksX3_reachesAcross_1 23 rfl rfl)
theorem dX3_reachesAcross_48 : decode cX3_reachesAcross 48 = .ok (.aload_n 0, 1) := dk_42 (dk_at dksX3_reachesAcross_2 0 rfl rfl)
theorem dX3_reachesAcross_49 : decode cX3_reachesAcross 49 = .ok (.getfield 19, 3) := dk_180 0 19 (dk_at dksX3_reachesAcross_2 1 rfl rfl)
theorem dX3_reachesAcross_52 : decode cX3_reachesAcross 52 = .ok (.iconst 1, 1) := dk_4 (dk_at dksX3_reachesAcross_2 4 rfl rfl)
theorem dX3_reachesAcross_53 : decode cX3_reachesAcross 53 = .ok (.iadd, 1) := dk_96 (dk_at dksX3_reachesAcross_2 5 rfl rfl)
theorem dX3_reachesAcross_54 : decode cX3_reachesAcross 54 = .ok (.aload_n 0, 1) := dk_42 (dk_at dksX3_reachesAcross_2 6 rfl rfl)
theorem dX3_reachesAcross_55 : decode cX3_reachesAcross 55 = .ok (.getfield 19, 3) := dk_180 0 19 (dk_at dksX3_reachesAcross_2 7 rfl rfl)
theorem dX3_reachesAcross_58 : decode cX3_reachesAcross 58 = .ok (.iconst 1, 1) := dk_4 (dk_at dksX3_reachesAcross_2 10 rfl rfl)
theorem dX3_reachesAcross_59 : decode cX3_reachesAcross 59 = .ok (.iadd, 1) := dk_96 (dk_at dksX3_reachesAcross_2 11 rfl rfl)
theorem dX3_reachesAcross_60 : decode cX3_reachesAcross 60 = .ok (.invokevirtual 29, 3) := dk_182 0 29 (dk_at dksX3_reachesAcross_2 12 rfl rfl)
theorem dX3_reachesAcross_63 : decode cX3_reachesAcross 63 = .ok (.ifCond .ne 7, 3) := dk_154 0 7 (dk_at dksX3_reachesAcross_2 15 rfl rfl)
theorem dX3_reachesAcross_66 : decode cX3_reachesAcross 66 = .ok (.iconst 1, 1) := dk_4 (dk_at dksX3_reachesAcross_2 18 rfl rfl)
theorem dX3_reachesAcross_67 : decode cX3_reachesAcross 67 = .ok (.goto 4, 3) := dk_167 0 4 (dk_at dksX3_reachesAcross_2 19 rfl rfl)
theorem dX3_reachesAcross_70 : decode cX3_reachesAcross 70 = .ok (.iconst 0, 1) := dk_3 (dk_at dksX3_reachesAcross_2 22 rfl rfl)
theorem dX3_reachesAcross_71 : decode cX3_reachesAcross 71 = .ok (.istore_n 2, 1) := dk_61 (dk_at dksX3_reachesAcross_2 23 rfl rfl)
theorem dX3_reachesAcross_72 : decode cX3_reachesAcross 72 = .ok (.iinc 3 1, 3) := dk_132 3 1 (dk_at dksX3_reachesAcross_3 0 rfl rfl)
theorem dX3_reachesAcross_75 : decode cX3_reachesAcross 75 = .ok (.goto (-45), 3) := dk_167 255 211 (dk_at dksX3_reachesAcross_3 3 rfl rfl)
theorem dX3_reachesAcross_78 : decode cX3_reachesAcross 78 = .ok (.iload_n 2, 1) := dk_28 (dk_at dksX3_reachesAcross_3 6 rfl rfl)
theorem dX3_reachesAcross_79 : decode cX3_reachesAcross 79 = .ok (.ireturn, 1) := dk_172 (dk_at dksX3_reachesAcross_3 7 rfl rfl)
abbrev cX3_isOver : ByteArray := prog_7_method_4_code
def yX3_isOver : MethodName := ⟨RX3, "isOver", "(LStoryColumns$Block;)Z"⟩
def dkwX3_isOver_1 : List UInt8 := [161, 0, 18, 43, 180, 0, 54, 42, 180, 0, 19, 164, 0, 7, 4, 167, 0, 4, 3, 172]
abbrev dktX3_isOver_1 : List UInt8 := dkwX3_isOver_1 ++ []
def dkwX3_isOver_0 : List UInt8 := [43, 180, 0, 53, 42, 180, 0, 26, 160, 0, 33, 42, 43, 180, 0, 85, 182, 0, 86, 43, 180, 0, 54]
abbrev dktX3_isOver_0 : List UInt8 := dkwX3_isOver_0 ++ dktX3_isOver_1
theorem dksX3_isOver_0 : cX3_isOver.data.toList.drop 0 = dktX3_isOver_0 := by decide +kernel
theorem dksX3_isOver_1 : cX3_isOver.data.toList.drop 23 = dktX3_isOver_1 := dk_seg dksX3_isOver_0 23 rfl rfl
theorem dX3_isOver_0 : decode cX3_isOver 0 = .ok (.aload_n 1, 1) := dk_43 (dk_at dksX3_isOver_0 0 rfl rfl)
theorem dX3_isOver_1 : decode cX3_isOver 1 = .ok (.getfield 53, 3) := dk_180 0 53 (dk_at dksX3_isOver_0 1 rfl rfl)
theorem dX3_isOver_4 : decode cX3_isOver 4 = .ok (.aload_n 0, 1) := dk_42 (dk_at dksX3_isOver_0 4 rfl rfl)
theorem dX3_isOver_5 : decode cX3_isOver 5 = .ok (.getfield 26, 3) := dk_180 0 26 (dk_at dksX3_isOver_0 5 rfl rfl)
theorem dX3_isOver_8 : decode cX3_isOver 8 = .ok (.if_icmp .ne 33, 3) := dk_160 0 33 (dk_at dksX3_isOver_0 8 rfl rfl)
theorem dX3_isOver_11 : decode cX3_isOver 11 = .ok (.aload_n 0, 1) := dk_42 (dk_at dksX3_isOver_0 11 rfl rfl)
theorem dX3_isOver_12 : decode cX3_isOver 12 = .ok (.aload_n 1, 1) := dk_43 (dk_at dksX3_isOver_0 12 rfl rfl)
theorem dX3_isOver_13 : decode cX3_isOver 13 = .ok (.getfield 85, 3) := dk_180 0 85 (dk_at dksX3_isOver_0 13 rfl rfl)
theorem dX3_isOver_16 : decode cX3_isOver 16 = .ok (.invokevirtual 86, 3) := dk_182 0 86 (dk_at dksX3_isOver_0 16 rfl rfl)
theorem dX3_isOver_19 : decode cX3_isOver 19 = .ok (.aload_n 1, 1) := dk_43 (dk_at dksX3_isOver_0 19 rfl rfl)
theorem dX3_isOver_20 : decode cX3_isOver 20 = .ok (.getfield 54, 3) := dk_180 0 54 (dk_at dksX3_isOver_0 20 rfl rfl)
theorem dX3_isOver_23 : decode cX3_isOver 23 = .ok (.if_icmp .lt 18, 3) := dk_161 0 18 (dk_at dksX3_isOver_1 0 rfl rfl)
theorem dX3_isOver_26 : decode cX3_isOver 26 = .ok (.aload_n 1, 1) := dk_43 (dk_at dksX3_isOver_1 3 rfl rfl)
theorem dX3_isOver_27 : decode cX3_isOver 27 = .ok (.getfield 54, 3) := dk_180 0 54 (dk_at dksX3_isOver_1 4 rfl rfl)
theorem dX3_isOver_30 : decode cX3_isOver 30 = .ok (.aload_n 0, 1) := dk_42 (dk_at dksX3_isOver_1 7 rfl rfl)
theorem dX3_isOver_31 : decode cX3_isOver 31 = .ok (.getfield 19, 3) := dk_180 0 19 (dk_at dksX3_isOver_1 8 rfl rfl)
theorem dX3_isOver_34 : decode cX3_isOver 34 = .ok (.if_icmp .le 7, 3) := dk_164 0 7 (dk_at dksX3_isOver_1 11 rfl rfl)
theorem dX3_isOver_37 : decode cX3_isOver 37 = .ok (.iconst 1, 1) := dk_4 (dk_at dksX3_isOver_1 14 rfl rfl)
theorem dX3_isOver_38 : decode cX3_isOver 38 = .ok (.goto 4, 3) := dk_167 0 4 (dk_at dksX3_isOver_1 15 rfl rfl)
theorem dX3_isOver_41 : decode cX3_isOver 41 = .ok (.iconst 0, 1) := dk_3 (dk_at dksX3_isOver_1 18 rfl rfl)
theorem dX3_isOver_42 : decode cX3_isOver 42 = .ok (.ireturn, 1) := dk_172 (dk_at dksX3_isOver_1 19 rfl rfl)
theorem q65 : (Jvm.Cond.initialized "StoryColumns$Head") ∈ lw_all := lw_g (lw_at lw_m1 7 rfl) rfl
theorem q120 : (Jvm.Cond.fieldLinkNest "StoryColumns$Head" (36 : Nat) "StoryColumns" "blocks" "Ljava/util/List;" "StoryColumns") ∈ lw_tbl := lw_at lw_m1 62 rfl
theorem q123 : (Jvm.Cond.fieldLinkNest "StoryColumns$Head" (63 : Nat) "StoryColumns" "lines" "Ljava/util/List;" "StoryColumns") ∈ lw_tbl := lw_at lw_m1 65 rfl
theorem q162 : (Jvm.Cond.instantiable "StoryColumns$Head" (14 : Nat)) ∈ lw_all := lw_g (lw_at lw_m1 104 rfl) rfl
theorem q164 : (Jvm.Cond.instanceMethod ({ cls := "StoryColumns$Head", name := "<init>", desc := "(LStoryColumns;IIIIII)V" } : Jvm.MethodName)) ∈ lw_all := lw_g (lw_at lw_m1 106 rfl) rfl
theorem q165 : (Jvm.Cond.code ({ cls := "StoryColumns$Head", name := "<init>", desc := "(LStoryColumns;IIIIII)V" } : Jvm.MethodName) prog_7_method_1_code (8 : Nat) (Option.none : Option Jvm.ClassFile.FieldType)) ∈ lw_all := lw_g (lw_at lw_m1 107 rfl) rfl
theorem q166 : (Jvm.Cond.methodLink "StoryColumns$Head" (9 : Nat) ({ cls := "StoryColumns$Block", name := "<init>", desc := "(LStoryColumns;IIIIIII)V" } : Jvm.MethodName)) ∈ lw_all := lw_g (lw_at lw_m1 108 rfl) rfl
theorem q172 : (Jvm.Cond.fieldLink "StoryColumns$Head" (3 : Nat) "StoryColumns$Head" "this$0" "LStoryColumns;") ∈ lw_all := lw_g (lw_at lw_m1 114 rfl) rfl
theorem q176 : (Jvm.Cond.sameField "StoryColumns$Head" "StoryColumns$Block" "number" "I") ∈ lw_all := lw_g (lw_at lw_m1 118 rfl) rfl
theorem q180 : (Jvm.Cond.fieldLink "StoryColumns$Head" (26 : Nat) "StoryColumns$Head" "page" "I") ∈ lw_all := lw_g (lw_at lw_m1 122 rfl) rfl
theorem q181 : (Jvm.Cond.sameField "StoryColumns$Head" "StoryColumns$Block" "page" "I") ∈ lw_all := lw_g (lw_at lw_m1 123 rfl) rfl
theorem q182 : (Jvm.Cond.fieldLink "StoryColumns$Head" (53 : Nat) "StoryColumns$Block" "page" "I") ∈ lw_all := lw_g (lw_at lw_m1 124 rfl) rfl
theorem q186 : (Jvm.Cond.fieldLink "StoryColumns$Head" (50 : Nat) "StoryColumns$Block" "kind" "I") ∈ lw_all := lw_g (lw_at lw_m1 128 rfl) rfl
theorem q190 : (Jvm.Cond.fieldLink "StoryColumns$Head" (23 : Nat) "StoryColumns$Head" "left" "I") ∈ lw_all := lw_g (lw_at lw_m1 132 rfl) rfl
theorem q191 : (Jvm.Cond.sameField "StoryColumns$Head" "StoryColumns$Block" "left" "I") ∈ lw_all := lw_g (lw_at lw_m1 133 rfl) rfl
theorem q192 : (Jvm.Cond.fieldLink "StoryColumns$Head" (85 : Nat) "StoryColumns$Block" "left" "I") ∈ lw_all := lw_g (lw_at lw_m1 134 rfl) rfl
theorem q198 : (Jvm.Cond.fieldLink "StoryColumns$Head" (54 : Nat) "StoryColumns$Block" "top" "I") ∈ lw_all := lw_g (lw_at lw_m1 140 rfl) rfl
theorem q202 : (Jvm.Cond.fieldLink "StoryColumns$Head" (19 : Nat) "StoryColumns$Head" "bottom" "I") ∈ lw_all := lw_g (lw_at lw_m1 144 rfl) rfl
theorem q203 : (Jvm.Cond.sameField "StoryColumns$Head" "StoryColumns$Block" "bottom" "I") ∈ lw_all := lw_g (lw_at lw_m1 145 rfl) rfl
theorem q217 : (Jvm.Cond.sameField "StoryColumns$Head" "StoryColumns$Block" "story" "LStoryColumns$Story;") ∈ lw_all := lw_g (lw_at lw_m1 159 rfl) rfl
theorem q223 : (Jvm.Cond.laysFinal "StoryColumns$Head" "StoryColumns$Head" "this$0" "LStoryColumns;") ∈ lw_all := lw_g (lw_at lw_m1 165 rfl) rfl
theorem q224 : (Jvm.Cond.soleField "StoryColumns$Head" "this$0") ∈ lw_all := lw_g (lw_at lw_m1 166 rfl) rfl
theorem q225 : (Jvm.Cond.laysFinal "StoryColumns$Head" "StoryColumns$Block" "number" "I") ∈ lw_all := lw_g (lw_at lw_m1 167 rfl) rfl
theorem q227 : (Jvm.Cond.laysFinal "StoryColumns$Head" "StoryColumns$Block" "page" "I") ∈ lw_all := lw_g (lw_at lw_m1 169 rfl) rfl
theorem q229 : (Jvm.Cond.laysFinal "StoryColumns$Head" "StoryColumns$Block" "kind" "I") ∈ lw_all := lw_g (lw_at lw_m1 171 rfl) rfl
theorem q231 : (Jvm.Cond.lays "StoryColumns$Head" "StoryColumns$Block" "left" "I") ∈ lw_all := lw_g (lw_at lw_m1 173 rfl) rfl
theorem q233 : (Jvm.Cond.lays "StoryColumns$Head" "StoryColumns$Block" "right" "I") ∈ lw_all := lw_g (lw_at lw_m1 175 rfl) rfl
theorem q235 : (Jvm.Cond.laysFinal "StoryColumns$Head" "StoryColumns$Block" "top" "I") ∈ lw_all := lw_g (lw_at lw_m1 177 rfl) rfl
theorem q237 : (Jvm.Cond.laysFinal "StoryColumns$Head" "StoryColumns$Block" "bottom" "I") ∈ lw_all := lw_g (lw_at lw_m1 179 rfl) rfl
theorem q239 : (Jvm.Cond.lays "StoryColumns$Head" "StoryColumns$Block" "words" "I") ∈ lw_all := lw_g (lw_at lw_m1 181 rfl) rfl
theorem q241 : (Jvm.Cond.laysFinal "StoryColumns$Head" "StoryColumns$Block" "marks" "[LStoryColumns$Mark;") ∈ lw_all := lw_g (lw_at lw_m1 183 rfl) rfl
theorem q243 : (Jvm.Cond.lays "StoryColumns$Head" "StoryColumns$Block" "head" "LStoryColumns$Head;") ∈ lw_all := lw_g (lw_at lw_m1 185 rfl) rfl
theorem q245 : (Jvm.Cond.lays "StoryColumns$Head" "StoryColumns$Block" "story" "LStoryColumns$Story;") ∈ lw_all := lw_g (lw_at lw_m1 187 rfl) rfl
theorem q247 : (Jvm.Cond.lays "StoryColumns$Head" "StoryColumns$Block" "taker" "LStoryColumns$Block;") ∈ lw_all := lw_g (lw_at lw_m1 189 rfl) rfl
theorem q249 : (Jvm.Cond.laysFinal "StoryColumns$Head" "StoryColumns$Block" "this$0" "LStoryColumns;") ∈ lw_all := lw_g (lw_at lw_m1 191 rfl) rfl
theorem q251 : (Jvm.Cond.superclass "StoryColumns$Head" "StoryColumns$Block") ∈ lw_all := lw_g (lw_at lw_m1 193 rfl) rfl
theorem q384 : (Jvm.Cond.unhidden "StoryColumns$Head" "meets" "(LStoryColumns$Area;)Z") ∈ lw_tbl := lw_at lw_m2 86 rfl
theorem q398 : (Jvm.Cond.castable "StoryColumns$Head" "StoryColumns$Area") ∈ lw_tbl := lw_at lw_m2 100 rfl
theorem q399 : (Jvm.Cond.selects "StoryColumns$Head" ({ cls := "StoryColumns$Area", name := "page", desc := "()I" } : Jvm.MethodName) ({ cls := "StoryColumns$Block", name := "page", desc := "()I" } : Jvm.MethodName)) ∈ lw_all := lw_g (lw_at lw_m2 101 rfl) rfl
theorem q400 : (Jvm.Cond.unhidden "StoryColumns$Head" "page" "()I") ∈ lw_tbl := lw_at lw_m2 102 rfl
theorem q410 : (Jvm.Cond.selects "StoryColumns$Head" ({ cls := "StoryColumns$Area", name := "left", desc := "()I" } : Jvm.MethodName) ({ cls := "StoryColumns$Block", name := "left", desc := "()I" } : Jvm.MethodName)) ∈ lw_all := lw_g (lw_at lw_m2 112 rfl) rfl
theorem q411 : (Jvm.Cond.unhidden "StoryColumns$Head" "left" "()I") ∈ lw_tbl := lw_at lw_m2 113 rfl
theorem q421 : (Jvm.Cond.selects "StoryColumns$Head" ({ cls := "StoryColumns$Area", name := "right", desc := "()I" } : Jvm.MethodName) ({ cls := "StoryColumns$Block", name := "right", desc := "()I" } : Jvm.MethodName)) ∈ lw_all := lw_g (lw_at lw_m2 123 rfl) rfl
theorem q422 : (Jvm.Cond.unhidden "StoryColumns$Head" "right" "()I") ∈ lw_tbl := lw_at lw_m2 124 rfl
theorem q432 : (Jvm.Cond.selects "StoryColumns$Head" ({ cls := "StoryColumns$Area", name := "top", desc := "()I" } : Jvm.MethodName) ({ cls := "StoryColumns$Block", name := "top", desc := "()I" } : Jvm.MethodName)) ∈ lw_all := lw_g (lw_at lw_m2 134 rfl) rfl
theorem q433 : (Jvm.Cond.unhidden "StoryColumns$Head" "top" "()I") ∈ lw_tbl := lw_at lw_m2 135 rfl
theorem q443 : (Jvm.Cond.selects "StoryColumns$Head" ({ cls := "StoryColumns$Area", name := "bottom", desc := "()I" } : Jvm.MethodName) ({ cls := "StoryColumns$Block", name := "bottom", desc := "()I" } : Jvm.MethodName)) ∈ lw_all := lw_g (lw_at lw_m2 145 rfl) rfl
theorem q444 : (Jvm.Cond.unhidden "StoryColumns$Head" "bottom" "()I") ∈ lw_tbl := lw_at lw_m2 146 rfl
theorem q489 : (Jvm.Cond.selects "StoryColumns$Head" ({ cls := "java/lang/Object", name := "getClass", desc := "()Ljava/lang/Class;" } : Jvm.MethodName) ({ cls := "java/lang/Object", name := "getClass", desc := "()Ljava/lang/Class;" } : Jvm.MethodName)) ∈ lw_all := lw_g (lw_at lw_m2 191 rfl) rfl
theorem q528 : (Jvm.Cond.selects "StoryColumns$Head" ({ cls := "StoryColumns$Block", name := "isText", desc := "()Z" } : Jvm.MethodName) ({ cls := "StoryColumns$Block", name := "isText", desc := "()Z" } : Jvm.MethodName)) ∈ lw_all := lw_g (lw_at lw_m2 230 rfl) rfl
theorem q541 : (Jvm.Cond.fieldLinkNest "StoryColumns$Head" (71 : Nat) "StoryColumns$Line" "page" "I" "StoryColumns") ∈ lw_tbl := lw_at lw_m3 3 rfl
theorem q544 : (Jvm.Cond.fieldLinkNest "StoryColumns$Head" (68 : Nat) "StoryColumns$Line" "how" "I" "StoryColumns") ∈ lw_tbl := lw_at lw_m3 6 rfl
theorem q547 : (Jvm.Cond.fieldLinkNest "StoryColumns$Head" (82 : Nat) "StoryColumns$Line" "at" "I" "StoryColumns") ∈ lw_tbl := lw_at lw_m3 9 rfl
theorem q551 : (Jvm.Cond.fieldLinkNest "StoryColumns$Head" (72 : Nat) "StoryColumns$Line" "from" "I" "StoryColumns") ∈ lw_tbl := lw_at lw_m3 13 rfl
theorem q554 : (Jvm.Cond.fieldLinkNest "StoryColumns$Head" (75 : Nat) "StoryColumns$Line" "until" "I" "StoryColumns") ∈ lw_tbl := lw_at lw_m3 16 rfl
theorem q628 : (Jvm.Cond.unhidden "StoryColumns$Head" "hasColumn" "(I)Z") ∈ lw_tbl := lw_at lw_m3 90 rfl
theorem q635 : (Jvm.Cond.unhidden "StoryColumns$Head" "hasRow" "(I)Z") ∈ lw_tbl := lw_at lw_m3 97 rfl
theorem q644 : (Jvm.Cond.instanceMethod ({ cls := "StoryColumns$Head", name := "reach", desc := "(I)I" } : Jvm.MethodName)) ∈ lw_all := lw_g (lw_at lw_m3 106 rfl) rfl
theorem q645 : (Jvm.Cond.selects "StoryColumns$Head" ({ cls := "StoryColumns$Head", name := "reach", desc := "(I)I" } : Jvm.MethodName) ({ cls := "StoryColumns$Head", name := "reach", desc := "(I)I" } : Jvm.MethodName)) ∈ lw_all := lw_g (lw_at lw_m3 107 rfl) rfl
theorem q646 : (Jvm.Cond.code ({ cls := "StoryColumns$Head", name := "reach", desc := "(I)I" } : Jvm.MethodName) prog_7_method_3_code (6 : Nat) (Option.some Jvm.ClassFile.FieldType.int)) ∈ lw_all := lw_g (lw_at lw_m3 108 rfl) rfl
theorem q647 : (Jvm.Cond.methodLink "StoryColumns$Head" (33 : Nat) ({ cls := "StoryColumns$Head", name := "reachesAcross", desc := "(I)Z" } : Jvm.MethodName)) ∈ lw_all := lw_g (lw_at lw_m3 109 rfl) rfl
theorem q648 : (Jvm.Cond.instanceMethod ({ cls := "StoryColumns$Head", name := "reachesAcross", desc := "(I)Z" } : Jvm.MethodName)) ∈ lw_all := lw_g (lw_at lw_m3 110 rfl) rfl
theorem q649 : (Jvm.Cond.selects "StoryColumns$Head" ({ cls := "StoryColumns$Head", name := "reachesAcross", desc := "(I)Z" } : Jvm.MethodName) ({ cls := "StoryColumns$Head", name := "reachesAcross", desc := "(I)Z" } : Jvm.MethodName)) ∈ lw_all := lw_g (lw_at lw_m3 111 rfl) rfl
theorem q650 : (Jvm.Cond.code ({ cls := "StoryColumns$Head", name := "reachesAcross", desc := "(I)Z" } : Jvm.MethodName) prog_7_method_2_code (4 : Nat) (Option.some Jvm.ClassFile.FieldType.boolean)) ∈ lw_all := lw_g (lw_at lw_m3 112 rfl) rfl
theorem q651 : (Jvm.Cond.methodLinkNest "StoryColumns$Head" (29 : Nat) ({ cls := "StoryColumns", name := "isBarred", desc := "(IIII)Z" } : Jvm.MethodName) "StoryColumns") ∈ lw_tbl := lw_at lw_m3 113 rfl
theorem q659 : (Jvm.Cond.interfaceEntry "StoryColumns$Head" (40 : Nat)) ∈ lw_tbl := lw_at lw_m3 121 rfl
theorem q660 : (Jvm.Cond.methodLink "StoryColumns$Head" (40 : Nat) ({ cls := "java/util/List", name := "size", desc := "()I" } : Jvm.MethodName)) ∈ lw_all := lw_g (lw_at lw_m3 122 rfl) rfl
theorem q661 : (Jvm.Cond.interfaceEntry "StoryColumns$Head" (46 : Nat)) ∈ lw_tbl := lw_at lw_m3 123 rfl
theorem q662 : (Jvm.Cond.methodLink "StoryColumns$Head" (46 : Nat) ({ cls := "java/util/List", name := "get", desc := "(I)Ljava/lang/Object;" } : Jvm.MethodName)) ∈ lw_all := lw_g (lw_at lw_m3 124 rfl) rfl
theorem q663 : (Jvm.Cond.classLink "StoryColumns$Head" (10 : Nat) "StoryColumns$Block") ∈ lw_all := lw_g (lw_at lw_m3 125 rfl) rfl
theorem q664 : (Jvm.Cond.methodLink "StoryColumns$Head" (57 : Nat) ({ cls := "java/lang/Math", name := "min", desc := "(II)I" } : Jvm.MethodName)) ∈ lw_all := lw_g (lw_at lw_m3 126 rfl) rfl
theorem q665 : (Jvm.Cond.classLink "StoryColumns$Head" (66 : Nat) "StoryColumns$Line") ∈ lw_all := lw_g (lw_at lw_m3 127 rfl) rfl
theorem q666 : (Jvm.Cond.methodLinkNest "StoryColumns$Head" (78 : Nat) ({ cls := "StoryColumns", name := "in", desc := "(III)Z" } : Jvm.MethodName) "StoryColumns") ∈ lw_tbl := lw_at lw_m3 128 rfl
theorem q683 : (Jvm.Cond.selects "StoryColumns$Head" ({ cls := "StoryColumns$Block", name := "forgets", desc := "()V" } : Jvm.MethodName) ({ cls := "StoryColumns$Block", name := "forgets", desc := "()V" } : Jvm.MethodName)) ∈ lw_all := lw_g (lw_at lw_m3 145 rfl) rfl
theorem q728 : (Jvm.Cond.instanceMethod ({ cls := "StoryColumns$Head", name := "isOver", desc := "(LStoryColumns$Block;)Z" } : Jvm.MethodName)) ∈ lw_all := lw_g (lw_at lw_m3 190 rfl) rfl
theorem q729 : (Jvm.Cond.selects "StoryColumns$Head" ({ cls := "StoryColumns$Head", name := "isOver", desc := "(LStoryColumns$Block;)Z" } : Jvm.MethodName) ({ cls := "StoryColumns$Head", name := "isOver", desc := "(LStoryColumns$Block;)Z" } : Jvm.MethodName)) ∈ lw_all := lw_g (lw_at lw_m3 191 rfl) rfl
theorem q730 : (Jvm.Cond.code ({ cls := "StoryColumns$Head", name := "isOver", desc := "(LStoryColumns$Block;)Z" } : Jvm.MethodName) prog_7_method_4_code (2 : Nat) (Option.some Jvm.ClassFile.FieldType.boolean)) ∈ lw_all := lw_g (lw_at lw_m3 192 rfl) rfl
theorem q731 : (Jvm.Cond.methodLink "StoryColumns$Head" (86 : Nat) ({ cls := "StoryColumns$Head", name := "reach", desc := "(I)I" } : Jvm.MethodName)) ∈ lw_all := lw_g (lw_at lw_m3 193 rfl) rfl
theorem q770 : (Jvm.Cond.selects "StoryColumns$Head" ({ cls := "StoryColumns$Block", name := "takes", desc := "(LStoryColumns$Block;)Z" } : Jvm.MethodName) ({ cls := "StoryColumns$Block", name := "takes", desc := "(LStoryColumns$Block;)Z" } : Jvm.MethodName)) ∈ lw_all := lw_g (lw_at lw_m3 232 rfl) rfl
theorem q1359 : (Jvm.Cond.castable "StoryColumns$Head" "StoryColumns$Block") ∈ lw_tbl := lw_at lw_m6 101 rfl
theorem q1364 : (Jvm.Cond.castable "StoryColumns$Head" "java/lang/Object") ∈ lw_tbl := lw_at lw_m6 106 rfl
theorem in_X3 : ∀ w ∈ wsX30, w ∈ lw_all := lw_in wsX30 [225, 227, 229, 231, 233, 235, 237, 239, 241, 243, 245, 247, 249, 223] (by decide +kernel) (by decide +kernel)
/-! StoryColumns$Line -/
set_option maxRecDepth 100000
def RX4 : String := "StoryColumns$Line"
def TX4 : u_T := fun k => match k with
  | 0 => ("StoryColumns$Line", "page", "I", true)
  | 1 => ("StoryColumns$Line", "how", "I", true)
  | 2 => ("StoryColumns$Line", "at", "I", false)
  | 3 => ("StoryColumns$Line", "from", "I", false)
  | _ => ("StoryColumns$Line", "until", "I", false)
def tyX4 : Nat → FieldType := fun k => match k with
  | 0 => .int
  | 1 => .int
  | 2 => .int
  | 3 => .int
  | _ => .int
abbrev wsX40 : List Cond := u_ws RX4 TX4 5
theorem nmX4 : ∀ a, a < 5 → ∀ b, b < 5 → a ≠ b → (TX4 a).2.1 ≠ (TX4 b).2.1 := by decide +kernel
theorem tyX4_ok : ∀ k, k < 5 → parseFieldDescriptor (TX4 k).2.2.1 = some (tyX4 k) := by decide +kernel
abbrev cX4_init : ByteArray := prog_8_method_1_code
def yX4_init : MethodName := ⟨RX4, "<init>", "(IIIII)V"⟩
def dkwX4_init_1 : List UInt8 := [181, 0, 21, 42, 21, 5, 181, 0, 24, 177]
abbrev dktX4_init_1 : List UInt8 := dkwX4_init_1 ++ []
def dkwX4_init_0 : List UInt8 := [42, 183, 0, 3, 42, 27, 181, 0, 9, 42, 28, 181, 0, 15, 42, 29, 181, 0, 18, 42, 21, 4]
abbrev dktX4_init_0 : List UInt8 := dkwX4_init_0 ++ dktX4_init_1
theorem dksX4_init_0 : cX4_init.data.toList.drop 0 = dktX4_init_0 := by decide +kernel
theorem dksX4_init_1 : cX4_init.data.toList.drop 22 = dktX4_init_1 := dk_seg dksX4_init_0 22 rfl rfl
theorem dX4_init_0 : decode cX4_init 0 = .ok (.aload_n 0, 1) := dk_42 (dk_at dksX4_init_0 0 rfl rfl)
theorem dX4_init_1 : decode cX4_init 1 = .ok (.invokespecial 3, 3) := dk_183 0 3 (dk_at dksX4_init_0 1 rfl rfl)
theorem dX4_init_4 : decode cX4_init 4 = .ok (.aload_n 0, 1) := dk_42 (dk_at dksX4_init_0 4 rfl rfl)
theorem dX4_init_5 : decode cX4_init 5 = .ok (.iload_n 1, 1) := dk_27 (dk_at dksX4_init_0 5 rfl rfl)
theorem dX4_init_6 : decode cX4_init 6 = .ok (.putfield 9, 3) := dk_181 0 9 (dk_at dksX4_init_0 6 rfl rfl)
theorem dX4_init_9 : decode cX4_init 9 = .ok (.aload_n 0, 1) := dk_42 (dk_at dksX4_init_0 9 rfl rfl)
theorem dX4_init_10 : decode cX4_init 10 = .ok (.iload_n 2, 1) := dk_28 (dk_at dksX4_init_0 10 rfl rfl)
theorem dX4_init_11 : decode cX4_init 11 = .ok (.putfield 15, 3) := dk_181 0 15 (dk_at dksX4_init_0 11 rfl rfl)
theorem dX4_init_14 : decode cX4_init 14 = .ok (.aload_n 0, 1) := dk_42 (dk_at dksX4_init_0 14 rfl rfl)
theorem dX4_init_15 : decode cX4_init 15 = .ok (.iload_n 3, 1) := dk_29 (dk_at dksX4_init_0 15 rfl rfl)
theorem dX4_init_16 : decode cX4_init 16 = .ok (.putfield 18, 3) := dk_181 0 18 (dk_at dksX4_init_0 16 rfl rfl)
theorem dX4_init_19 : decode cX4_init 19 = .ok (.aload_n 0, 1) := dk_42 (dk_at dksX4_init_0 19 rfl rfl)
theorem dX4_init_20 : decode cX4_init 20 = .ok (.iload 4, 2) := dk_21 4 (dk_at dksX4_init_0 20 rfl rfl)
theorem dX4_init_22 : decode cX4_init 22 = .ok (.putfield 21, 3) := dk_181 0 21 (dk_at dksX4_init_1 0 rfl rfl)
theorem dX4_init_25 : decode cX4_init 25 = .ok (.aload_n 0, 1) := dk_42 (dk_at dksX4_init_1 3 rfl rfl)
theorem dX4_init_26 : decode cX4_init 26 = .ok (.iload 5, 2) := dk_21 5 (dk_at dksX4_init_1 4 rfl rfl)
theorem dX4_init_28 : decode cX4_init 28 = .ok (.putfield 24, 3) := dk_181 0 24 (dk_at dksX4_init_1 6 rfl rfl)
theorem dX4_init_31 : decode cX4_init 31 = .ok (.return_, 1) := dk_177 (dk_at dksX4_init_1 9 rfl rfl)
abbrev cX4_isUpright : ByteArray := prog_8_method_2_code
def yX4_isUpright : MethodName := ⟨RX4, "isUpright", "(II)Z"⟩
def dkwX4_isUpright_1 : List UInt8 := [167, 0, 4, 3, 172]
abbrev dktX4_isUpright_1 : List UInt8 := dkwX4_isUpright_1 ++ []
def dkwX4_isUpright_0 : List UInt8 := [42, 180, 0, 15, 154, 0, 23, 42, 180, 0, 9, 27, 160, 0, 15, 42, 180, 0, 18, 28, 160, 0, 7, 4]
abbrev dktX4_isUpright_0 : List UInt8 := dkwX4_isUpright_0 ++ dktX4_isUpright_1
theorem dksX4_isUpright_0 : cX4_isUpright.data.toList.drop 0 = dktX4_isUpright_0 := by decide +kernel
theorem dksX4_isUpright_1 : cX4_isUpright.data.toList.drop 24 = dktX4_isUpright_1 := dk_seg dksX4_isUpright_0 24 rfl rfl
theorem dX4_isUpright_0 : decode cX4_isUpright 0 = .ok (.aload_n 0, 1) := dk_42 (dk_at dksX4_isUpright_0 0 rfl rfl)
theorem dX4_isUpright_1 : decode cX4_isUpright 1 = .ok (.getfield 15, 3) := dk_180 0 15 (dk_at dksX4_isUpright_0 1 rfl rfl)
theorem dX4_isUpright_4 : decode cX4_isUpright 4 = .ok (.ifCond .ne 23, 3) := dk_154 0 23 (dk_at dksX4_isUpright_0 4 rfl rfl)
theorem dX4_isUpright_7 : decode cX4_isUpright 7 = .ok (.aload_n 0, 1) := dk_42 (dk_at dksX4_isUpright_0 7 rfl rfl)
theorem dX4_isUpright_8 : decode cX4_isUpright 8 = .ok (.getfield 9, 3) := dk_180 0 9 (dk_at dksX4_isUpright_0 8 rfl rfl)
theorem dX4_isUpright_11 : decode cX4_isUpright 11 = .ok (.iload_n 1, 1) := dk_27 (dk_at dksX4_isUpright_0 11 rfl rfl)
theorem dX4_isUpright_12 : decode cX4_isUpright 12 = .ok (.if_icmp .ne 15, 3) := dk_160 0 15 (dk_at dksX4_isUpright_0 12 rfl rfl)
theorem dX4_isUpright_15 : decode cX4_isUpright 15 = .ok (.aload_n 0, 1) := dk_42 (dk_at dksX4_isUpright_0 15 rfl rfl)
theorem dX4_isUpright_16 : decode cX4_isUpright 16 = .ok (.getfield 18, 3) := dk_180 0 18 (dk_at dksX4_isUpright_0 16 rfl rfl)
theorem dX4_isUpright_19 : decode cX4_isUpright 19 = .ok (.iload_n 2, 1) := dk_28 (dk_at dksX4_isUpright_0 19 rfl rfl)
theorem dX4_isUpright_20 : decode cX4_isUpright 20 = .ok (.if_icmp .ne 7, 3) := dk_160 0 7 (dk_at dksX4_isUpright_0 20 rfl rfl)
theorem dX4_isUpright_23 : decode cX4_isUpright 23 = .ok (.iconst 1, 1) := dk_4 (dk_at dksX4_isUpright_0 23 rfl rfl)
theorem dX4_isUpright_24 : decode cX4_isUpright 24 = .ok (.goto 4, 3) := dk_167 0 4 (dk_at dksX4_isUpright_1 0 rfl rfl)
theorem dX4_isUpright_27 : decode cX4_isUpright 27 = .ok (.iconst 0, 1) := dk_3 (dk_at dksX4_isUpright_1 3 rfl rfl)
theorem dX4_isUpright_28 : decode cX4_isUpright 28 = .ok (.ireturn, 1) := dk_172 (dk_at dksX4_isUpright_1 4 rfl rfl)
theorem q73 : (Jvm.Cond.initialized "StoryColumns$Line") ∈ lw_all := lw_g (lw_at lw_m1 15 rfl) rfl
theorem q490 : (Jvm.Cond.selects "StoryColumns$Line" ({ cls := "java/lang/Object", name := "getClass", desc := "()Ljava/lang/Class;" } : Jvm.MethodName) ({ cls := "java/lang/Object", name := "getClass", desc := "()Ljava/lang/Class;" } : Jvm.MethodName)) ∈ lw_all := lw_g (lw_at lw_m2 192 rfl) rfl
theorem q535 : (Jvm.Cond.instantiable "StoryColumns$Line" (5 : Nat)) ∈ lw_all := lw_g (lw_at lw_m2 237 rfl) rfl
theorem q537 : (Jvm.Cond.instanceMethod ({ cls := "StoryColumns$Line", name := "<init>", desc := "(IIIII)V" } : Jvm.MethodName)) ∈ lw_all := lw_g (lw_at lw_m2 239 rfl) rfl
theorem q538 : (Jvm.Cond.code ({ cls := "StoryColumns$Line", name := "<init>", desc := "(IIIII)V" } : Jvm.MethodName) prog_8_method_1_code (6 : Nat) (Option.none : Option Jvm.ClassFile.FieldType)) ∈ lw_all := lw_g (lw_at lw_m3 0 rfl) rfl
theorem q539 : (Jvm.Cond.methodLink "StoryColumns$Line" (3 : Nat) ({ cls := "java/lang/Object", name := "<init>", desc := "()V" } : Jvm.MethodName)) ∈ lw_all := lw_g (lw_at lw_m3 1 rfl) rfl
theorem q540 : (Jvm.Cond.fieldLink "StoryColumns$Line" (9 : Nat) "StoryColumns$Line" "page" "I") ∈ lw_all := lw_g (lw_at lw_m3 2 rfl) rfl
theorem q543 : (Jvm.Cond.fieldLink "StoryColumns$Line" (15 : Nat) "StoryColumns$Line" "how" "I") ∈ lw_all := lw_g (lw_at lw_m3 5 rfl) rfl
theorem q546 : (Jvm.Cond.fieldLink "StoryColumns$Line" (18 : Nat) "StoryColumns$Line" "at" "I") ∈ lw_all := lw_g (lw_at lw_m3 8 rfl) rfl
theorem q549 : (Jvm.Cond.fieldLink "StoryColumns$Line" (21 : Nat) "StoryColumns$Line" "from" "I") ∈ lw_all := lw_g (lw_at lw_m3 11 rfl) rfl
theorem q552 : (Jvm.Cond.fieldLink "StoryColumns$Line" (24 : Nat) "StoryColumns$Line" "until" "I") ∈ lw_all := lw_g (lw_at lw_m3 14 rfl) rfl
theorem q555 : (Jvm.Cond.laysFinal "StoryColumns$Line" "StoryColumns$Line" "page" "I") ∈ lw_all := lw_g (lw_at lw_m3 17 rfl) rfl
theorem q556 : (Jvm.Cond.soleField "StoryColumns$Line" "page") ∈ lw_all := lw_g (lw_at lw_m3 18 rfl) rfl
theorem q557 : (Jvm.Cond.laysFinal "StoryColumns$Line" "StoryColumns$Line" "how" "I") ∈ lw_all := lw_g (lw_at lw_m3 19 rfl) rfl
theorem q558 : (Jvm.Cond.soleField "StoryColumns$Line" "how") ∈ lw_all := lw_g (lw_at lw_m3 20 rfl) rfl
theorem q559 : (Jvm.Cond.lays "StoryColumns$Line" "StoryColumns$Line" "at" "I") ∈ lw_all := lw_g (lw_at lw_m3 21 rfl) rfl
theorem q560 : (Jvm.Cond.soleField "StoryColumns$Line" "at") ∈ lw_all := lw_g (lw_at lw_m3 22 rfl) rfl
theorem q561 : (Jvm.Cond.lays "StoryColumns$Line" "StoryColumns$Line" "from" "I") ∈ lw_all := lw_g (lw_at lw_m3 23 rfl) rfl
theorem q562 : (Jvm.Cond.soleField "StoryColumns$Line" "from") ∈ lw_all := lw_g (lw_at lw_m3 24 rfl) rfl
theorem q563 : (Jvm.Cond.lays "StoryColumns$Line" "StoryColumns$Line" "until" "I") ∈ lw_all := lw_g (lw_at lw_m3 25 rfl) rfl
theorem q564 : (Jvm.Cond.soleField "StoryColumns$Line" "until") ∈ lw_all := lw_g (lw_at lw_m3 26 rfl) rfl
theorem q565 : (Jvm.Cond.superclass "StoryColumns$Line" "java/lang/Object") ∈ lw_all := lw_g (lw_at lw_m3 27 rfl) rfl
theorem q656 : (Jvm.Cond.instanceMethod ({ cls := "StoryColumns$Line", name := "isUpright", desc := "(II)Z" } : Jvm.MethodName)) ∈ lw_all := lw_g (lw_at lw_m3 118 rfl) rfl
theorem q657 : (Jvm.Cond.selects "StoryColumns$Line" ({ cls := "StoryColumns$Line", name := "isUpright", desc := "(II)Z" } : Jvm.MethodName) ({ cls := "StoryColumns$Line", name := "isUpright", desc := "(II)Z" } : Jvm.MethodName)) ∈ lw_all := lw_g (lw_at lw_m3 119 rfl) rfl
theorem q658 : (Jvm.Cond.code ({ cls := "StoryColumns$Line", name := "isUpright", desc := "(II)Z" } : Jvm.MethodName) prog_8_method_2_code (3 : Nat) (Option.some Jvm.ClassFile.FieldType.boolean)) ∈ lw_all := lw_g (lw_at lw_m3 120 rfl) rfl
theorem q1367 : (Jvm.Cond.castable "StoryColumns$Line" "java/lang/Object") ∈ lw_tbl := lw_at lw_m6 109 rfl
theorem in_X4 : ∀ w ∈ wsX40, w ∈ lw_all := lw_in wsX40 [555, 557, 559, 561, 563] (by decide +kernel) (by decide +kernel)
/-! StoryColumns$Story -/
set_option maxRecDepth 100000
def RX5 : String := "StoryColumns$Story"
def TX5 : u_T := fun k => match k with
  | 0 => ("StoryColumns$Story", "head", "LStoryColumns$Head;", true)
  | 1 => ("StoryColumns$Story", "texts", "Ljava/util/List;", true)
  | 2 => ("StoryColumns$Story", "place", "I", false)
  | 3 => ("StoryColumns$Story", "joined", "I", false)
  | 4 => ("StoryColumns$Story", "next", "LStoryColumns$Story;", false)
  | 5 => ("StoryColumns$Story", "before", "LStoryColumns$Story;", false)
  | 6 => ("StoryColumns$Story", "article", "I", false)
  | _ => ("StoryColumns$Story", "this$0", "LStoryColumns;", true)
def tyX5 : Nat → FieldType := fun k => match k with
  | 0 => .object "StoryColumns$Head"
  | 1 => .object "java/util/List"
  | 2 => .int
  | 3 => .int
  | 4 => .object "StoryColumns$Story"
  | 5 => .object "StoryColumns$Story"
  | 6 => .int
  | _ => .object "StoryColumns"
abbrev wsX50 : List Cond := u_ws RX5 TX5 8
theorem nmX5 : ∀ a, a < 8 → ∀ b, b < 8 → a ≠ b → (TX5 a).2.1 ≠ (TX5 b).2.1 := by decide +kernel
theorem tyX5_ok : ∀ k, k < 8 → parseFieldDescriptor (TX5 k).2.2.1 = some (tyX5 k) := by decide +kernel
abbrev cX5_init : ByteArray := prog_12_method_1_code
def yX5_init : MethodName := ⟨RX5, "<init>", "(LStoryColumns;LStoryColumns$Head;)V"⟩
def dkwX5_init_1 : List UInt8 := [181, 0, 24, 177]
abbrev dktX5_init_1 : List UInt8 := dkwX5_init_1 ++ []
def dkwX5_init_0 : List UInt8 := [42, 43, 181, 0, 3, 42, 183, 0, 9, 42, 187, 0, 15, 89, 7, 183, 0, 17, 181, 0, 20, 42, 44]
abbrev dktX5_init_0 : List UInt8 := dkwX5_init_0 ++ dktX5_init_1
theorem dksX5_init_0 : cX5_init.data.toList.drop 0 = dktX5_init_0 := by decide +kernel
theorem dksX5_init_1 : cX5_init.data.toList.drop 23 = dktX5_init_1 := dk_seg dksX5_init_0 23 rfl rfl
theorem dX5_init_0 : decode cX5_init 0 = .ok (.aload_n 0, 1) := dk_42 (dk_at dksX5_init_0 0 rfl rfl)
theorem dX5_init_1 : decode cX5_init 1 = .ok (.aload_n 1, 1) := dk_43 (dk_at dksX5_init_0 1 rfl rfl)
theorem dX5_init_2 : decode cX5_init 2 = .ok (.putfield 3, 3) := dk_181 0 3 (dk_at dksX5_init_0 2 rfl rfl)
theorem dX5_init_5 : decode cX5_init 5 = .ok (.aload_n 0, 1) := dk_42 (dk_at dksX5_init_0 5 rfl rfl)
theorem dX5_init_6 : decode cX5_init 6 = .ok (.invokespecial 9, 3) := dk_183 0 9 (dk_at dksX5_init_0 6 rfl rfl)
theorem dX5_init_9 : decode cX5_init 9 = .ok (.aload_n 0, 1) := dk_42 (dk_at dksX5_init_0 9 rfl rfl)
theorem dX5_init_10 : decode cX5_init 10 = .ok (.new 15, 3) := dk_187 0 15 (dk_at dksX5_init_0 10 rfl rfl)
theorem dX5_init_13 : decode cX5_init 13 = .ok (.dup, 1) := dk_89 (dk_at dksX5_init_0 13 rfl rfl)
theorem dX5_init_14 : decode cX5_init 14 = .ok (.iconst 4, 1) := dk_7 (dk_at dksX5_init_0 14 rfl rfl)
theorem dX5_init_15 : decode cX5_init 15 = .ok (.invokespecial 17, 3) := dk_183 0 17 (dk_at dksX5_init_0 15 rfl rfl)
theorem dX5_init_18 : decode cX5_init 18 = .ok (.putfield 20, 3) := dk_181 0 20 (dk_at dksX5_init_0 18 rfl rfl)
theorem dX5_init_21 : decode cX5_init 21 = .ok (.aload_n 0, 1) := dk_42 (dk_at dksX5_init_0 21 rfl rfl)
theorem dX5_init_22 : decode cX5_init 22 = .ok (.aload_n 2, 1) := dk_44 (dk_at dksX5_init_0 22 rfl rfl)
theorem dX5_init_23 : decode cX5_init 23 = .ok (.putfield 24, 3) := dk_181 0 24 (dk_at dksX5_init_1 0 rfl rfl)
theorem dX5_init_26 : decode cX5_init 26 = .ok (.return_, 1) := dk_177 (dk_at dksX5_init_1 3 rfl rfl)
abbrev cX5_gathers : ByteArray := prog_12_method_4_code
def yX5_gathers : MethodName := ⟨RX5, "gathers", "(LStoryColumns$Block;)V"⟩
def dkwX5_gathers_2 : List UInt8 := [28, 43, 185, 0, 58, 3, 0, 43, 42, 181, 0, 62, 177]
abbrev dktX5_gathers_2 : List UInt8 := dkwX5_gathers_2 ++ []
def dkwX5_gathers_1 : List UInt8 := [185, 0, 28, 2, 0, 192, 0, 34, 182, 0, 54, 153, 0, 9, 132, 2, 255, 167, 255, 226, 42, 180, 0, 20]
abbrev dktX5_gathers_1 : List UInt8 := dkwX5_gathers_1 ++ dktX5_gathers_2
def dkwX5_gathers_0 : List UInt8 := [42, 180, 0, 20, 185, 0, 51, 1, 0, 61, 28, 158, 0, 32, 42, 43, 42, 180, 0, 20, 28, 4, 100]
abbrev dktX5_gathers_0 : List UInt8 := dkwX5_gathers_0 ++ dktX5_gathers_1
theorem dksX5_gathers_0 : cX5_gathers.data.toList.drop 0 = dktX5_gathers_0 := by decide +kernel
theorem dksX5_gathers_1 : cX5_gathers.data.toList.drop 23 = dktX5_gathers_1 := dk_seg dksX5_gathers_0 23 rfl rfl
theorem dksX5_gathers_2 : cX5_gathers.data.toList.drop 47 = dktX5_gathers_2 := dk_seg dksX5_gathers_1 24 rfl rfl
theorem dX5_gathers_0 : decode cX5_gathers 0 = .ok (.aload_n 0, 1) := dk_42 (dk_at dksX5_gathers_0 0 rfl rfl)
theorem dX5_gathers_1 : decode cX5_gathers 1 = .ok (.getfield 20, 3) := dk_180 0 20 (dk_at dksX5_gathers_0 1 rfl rfl)
theorem dX5_gathers_4 : decode cX5_gathers 4 = .ok (.invokeinterface 51 1, 5) := by decide +kernel
theorem dX5_gathers_9 : decode cX5_gathers 9 = .ok (.istore_n 2, 1) := dk_61 (dk_at dksX5_gathers_0 9 rfl rfl)
theorem dX5_gathers_10 : decode cX5_gathers 10 = .ok (.iload_n 2, 1) := dk_28 (dk_at dksX5_gathers_0 10 rfl rfl)
theorem dX5_gathers_11 : decode cX5_gathers 11 = .ok (.ifCond .le 32, 3) := dk_158 0 32 (dk_at dksX5_gathers_0 11 rfl rfl)
theorem dX5_gathers_14 : decode cX5_gathers 14 = .ok (.aload_n 0, 1) := dk_42 (dk_at dksX5_gathers_0 14 rfl rfl)
theorem dX5_gathers_15 : decode cX5_gathers 15 = .ok (.aload_n 1, 1) := dk_43 (dk_at dksX5_gathers_0 15 rfl rfl)
theorem dX5_gathers_16 : decode cX5_gathers 16 = .ok (.aload_n 0, 1) := dk_42 (dk_at dksX5_gathers_0 16 rfl rfl)
theorem dX5_gathers_17 : decode cX5_gathers 17 = .ok (.getfield 20, 3) := dk_180 0 20 (dk_at dksX5_gathers_0 17 rfl rfl)
theorem dX5_gathers_20 : decode cX5_gathers 20 = .ok (.iload_n 2, 1) := dk_28 (dk_at dksX5_gathers_0 20 rfl rfl)
theorem dX5_gathers_21 : decode cX5_gathers 21 = .ok (.iconst 1, 1) := dk_4 (dk_at dksX5_gathers_0 21 rfl rfl)
theorem dX5_gathers_22 : decode cX5_gathers 22 = .ok (.isub, 1) := dk_100 (dk_at dksX5_gathers_0 22 rfl rfl)
theorem dX5_gathers_23 : decode cX5_gathers 23 = .ok (.invokeinterface 28 2, 5) := by decide +kernel
theorem dX5_gathers_28 : decode cX5_gathers 28 = .ok (.checkcast 34, 3) := dk_192 0 34 (dk_at dksX5_gathers_1 5 rfl rfl)
theorem dX5_gathers_31 : decode cX5_gathers 31 = .ok (.invokevirtual 54, 3) := dk_182 0 54 (dk_at dksX5_gathers_1 8 rfl rfl)
theorem dX5_gathers_34 : decode cX5_gathers 34 = .ok (.ifCond .eq 9, 3) := dk_153 0 9 (dk_at dksX5_gathers_1 11 rfl rfl)
theorem dX5_gathers_37 : decode cX5_gathers 37 = .ok (.iinc 2 (-1), 3) := dk_132 2 255 (dk_at dksX5_gathers_1 14 rfl rfl)
theorem dX5_gathers_40 : decode cX5_gathers 40 = .ok (.goto (-30), 3) := dk_167 255 226 (dk_at dksX5_gathers_1 17 rfl rfl)
theorem dX5_gathers_43 : decode cX5_gathers 43 = .ok (.aload_n 0, 1) := dk_42 (dk_at dksX5_gathers_1 20 rfl rfl)
theorem dX5_gathers_44 : decode cX5_gathers 44 = .ok (.getfield 20, 3) := dk_180 0 20 (dk_at dksX5_gathers_1 21 rfl rfl)
theorem dX5_gathers_47 : decode cX5_gathers 47 = .ok (.iload_n 2, 1) := dk_28 (dk_at dksX5_gathers_2 0 rfl rfl)
theorem dX5_gathers_48 : decode cX5_gathers 48 = .ok (.aload_n 1, 1) := dk_43 (dk_at dksX5_gathers_2 1 rfl rfl)
theorem dX5_gathers_49 : decode cX5_gathers 49 = .ok (.invokeinterface 58 3, 5) := by decide +kernel
theorem dX5_gathers_54 : decode cX5_gathers 54 = .ok (.aload_n 1, 1) := dk_43 (dk_at dksX5_gathers_2 7 rfl rfl)
theorem dX5_gathers_55 : decode cX5_gathers 55 = .ok (.aload_n 0, 1) := dk_42 (dk_at dksX5_gathers_2 8 rfl rfl)
theorem dX5_gathers_56 : decode cX5_gathers 56 = .ok (.putfield 62, 3) := dk_181 0 62 (dk_at dksX5_gathers_2 9 rfl rfl)
theorem dX5_gathers_59 : decode cX5_gathers 59 = .ok (.return_, 1) := dk_177 (dk_at dksX5_gathers_2 12 rfl rfl)
abbrev cX5_isAhead : ByteArray := prog_12_method_5_code
def yX5_isAhead : MethodName := ⟨RX5, "isAhead", "(LStoryColumns$Block;LStoryColumns$Block;)Z"⟩
def dkwX5_isAhead_1 : List UInt8 := [167, 0, 23, 3, 167, 0, 19, 43, 180, 0, 69, 44, 180, 0, 69, 162, 0, 7, 4, 167, 0, 4, 3, 172]
abbrev dktX5_isAhead_1 : List UInt8 := dkwX5_isAhead_1 ++ []
def dkwX5_isAhead_0 : List UInt8 := [43, 180, 0, 66, 44, 180, 0, 66, 159, 0, 22, 43, 180, 0, 66, 44, 180, 0, 66, 162, 0, 7, 4]
abbrev dktX5_isAhead_0 : List UInt8 := dkwX5_isAhead_0 ++ dktX5_isAhead_1
theorem dksX5_isAhead_0 : cX5_isAhead.data.toList.drop 0 = dktX5_isAhead_0 := by decide +kernel
theorem dksX5_isAhead_1 : cX5_isAhead.data.toList.drop 23 = dktX5_isAhead_1 := dk_seg dksX5_isAhead_0 23 rfl rfl
theorem dX5_isAhead_0 : decode cX5_isAhead 0 = .ok (.aload_n 1, 1) := dk_43 (dk_at dksX5_isAhead_0 0 rfl rfl)
theorem dX5_isAhead_1 : decode cX5_isAhead 1 = .ok (.getfield 66, 3) := dk_180 0 66 (dk_at dksX5_isAhead_0 1 rfl rfl)
theorem dX5_isAhead_4 : decode cX5_isAhead 4 = .ok (.aload_n 2, 1) := dk_44 (dk_at dksX5_isAhead_0 4 rfl rfl)
theorem dX5_isAhead_5 : decode cX5_isAhead 5 = .ok (.getfield 66, 3) := dk_180 0 66 (dk_at dksX5_isAhead_0 5 rfl rfl)
theorem dX5_isAhead_8 : decode cX5_isAhead 8 = .ok (.if_icmp .eq 22, 3) := dk_159 0 22 (dk_at dksX5_isAhead_0 8 rfl rfl)
theorem dX5_isAhead_11 : decode cX5_isAhead 11 = .ok (.aload_n 1, 1) := dk_43 (dk_at dksX5_isAhead_0 11 rfl rfl)
theorem dX5_isAhead_12 : decode cX5_isAhead 12 = .ok (.getfield 66, 3) := dk_180 0 66 (dk_at dksX5_isAhead_0 12 rfl rfl)
theorem dX5_isAhead_15 : decode cX5_isAhead 15 = .ok (.aload_n 2, 1) := dk_44 (dk_at dksX5_isAhead_0 15 rfl rfl)
theorem dX5_isAhead_16 : decode cX5_isAhead 16 = .ok (.getfield 66, 3) := dk_180 0 66 (dk_at dksX5_isAhead_0 16 rfl rfl)
theorem dX5_isAhead_19 : decode cX5_isAhead 19 = .ok (.if_icmp .ge 7, 3) := dk_162 0 7 (dk_at dksX5_isAhead_0 19 rfl rfl)
theorem dX5_isAhead_22 : decode cX5_isAhead 22 = .ok (.iconst 1, 1) := dk_4 (dk_at dksX5_isAhead_0 22 rfl rfl)
theorem dX5_isAhead_23 : decode cX5_isAhead 23 = .ok (.goto 23, 3) := dk_167 0 23 (dk_at dksX5_isAhead_1 0 rfl rfl)
theorem dX5_isAhead_26 : decode cX5_isAhead 26 = .ok (.iconst 0, 1) := dk_3 (dk_at dksX5_isAhead_1 3 rfl rfl)
theorem dX5_isAhead_27 : decode cX5_isAhead 27 = .ok (.goto 19, 3) := dk_167 0 19 (dk_at dksX5_isAhead_1 4 rfl rfl)
theorem dX5_isAhead_30 : decode cX5_isAhead 30 = .ok (.aload_n 1, 1) := dk_43 (dk_at dksX5_isAhead_1 7 rfl rfl)
theorem dX5_isAhead_31 : decode cX5_isAhead 31 = .ok (.getfield 69, 3) := dk_180 0 69 (dk_at dksX5_isAhead_1 8 rfl rfl)
theorem dX5_isAhead_34 : decode cX5_isAhead 34 = .ok (.aload_n 2, 1) := dk_44 (dk_at dksX5_isAhead_1 11 rfl rfl)
theorem dX5_isAhead_35 : decode cX5_isAhead 35 = .ok (.getfield 69, 3) := dk_180 0 69 (dk_at dksX5_isAhead_1 12 rfl rfl)
theorem dX5_isAhead_38 : decode cX5_isAhead 38 = .ok (.if_icmp .ge 7, 3) := dk_162 0 7 (dk_at dksX5_isAhead_1 15 rfl rfl)
theorem dX5_isAhead_41 : decode cX5_isAhead 41 = .ok (.iconst 1, 1) := dk_4 (dk_at dksX5_isAhead_1 18 rfl rfl)
theorem dX5_isAhead_42 : decode cX5_isAhead 42 = .ok (.goto 4, 3) := dk_167 0 4 (dk_at dksX5_isAhead_1 19 rfl rfl)
theorem dX5_isAhead_45 : decode cX5_isAhead 45 = .ok (.iconst 0, 1) := dk_3 (dk_at dksX5_isAhead_1 22 rfl rfl)
theorem dX5_isAhead_46 : decode cX5_isAhead 46 = .ok (.ireturn, 1) := dk_172 (dk_at dksX5_isAhead_1 23 rfl rfl)
abbrev cX5_joins : ByteArray := prog_12_method_6_code
def yX5_joins : MethodName := ⟨RX5, "joins", "(LStoryColumns$Block;LStoryColumns$Block;)V"⟩
def dkwX5_joins_1 : List UInt8 := [181, 0, 62, 43, 44, 181, 0, 78, 177]
abbrev dktX5_joins_1 : List UInt8 := dkwX5_joins_1 ++ []
def dkwX5_joins_0 : List UInt8 := [42, 180, 0, 20, 43, 185, 0, 72, 2, 0, 87, 42, 89, 180, 0, 75, 4, 96, 181, 0, 75, 43, 42]
abbrev dktX5_joins_0 : List UInt8 := dkwX5_joins_0 ++ dktX5_joins_1
theorem dksX5_joins_0 : cX5_joins.data.toList.drop 0 = dktX5_joins_0 := by decide +kernel
theorem dksX5_joins_1 : cX5_joins.data.toList.drop 23 = dktX5_joins_1 := dk_seg dksX5_joins_0 23 rfl rfl
theorem dX5_joins_0 : decode cX5_joins 0 = .ok (.aload_n 0, 1) := dk_42 (dk_at dksX5_joins_0 0 rfl rfl)
theorem dX5_joins_1 : decode cX5_joins 1 = .ok (.getfield 20, 3) := dk_180 0 20 (dk_at dksX5_joins_0 1 rfl rfl)
theorem dX5_joins_4 : decode cX5_joins 4 = .ok (.aload_n 1, 1) := dk_43 (dk_at dksX5_joins_0 4 rfl rfl)
theorem dX5_joins_5 : decode cX5_joins 5 = .ok (.invokeinterface 72 2, 5) := by decide +kernel
theorem dX5_joins_10 : decode cX5_joins 10 = .ok (.pop, 1) := dk_87 (dk_at dksX5_joins_0 10 rfl rfl)
theorem dX5_joins_11 : decode cX5_joins 11 = .ok (.aload_n 0, 1) := dk_42 (dk_at dksX5_joins_0 11 rfl rfl)
theorem dX5_joins_12 : decode cX5_joins 12 = .ok (.dup, 1) := dk_89 (dk_at dksX5_joins_0 12 rfl rfl)
theorem dX5_joins_13 : decode cX5_joins 13 = .ok (.getfield 75, 3) := dk_180 0 75 (dk_at dksX5_joins_0 13 rfl rfl)
theorem dX5_joins_16 : decode cX5_joins 16 = .ok (.iconst 1, 1) := dk_4 (dk_at dksX5_joins_0 16 rfl rfl)
theorem dX5_joins_17 : decode cX5_joins 17 = .ok (.iadd, 1) := dk_96 (dk_at dksX5_joins_0 17 rfl rfl)
theorem dX5_joins_18 : decode cX5_joins 18 = .ok (.putfield 75, 3) := dk_181 0 75 (dk_at dksX5_joins_0 18 rfl rfl)
theorem dX5_joins_21 : decode cX5_joins 21 = .ok (.aload_n 1, 1) := dk_43 (dk_at dksX5_joins_0 21 rfl rfl)
theorem dX5_joins_22 : decode cX5_joins 22 = .ok (.aload_n 0, 1) := dk_42 (dk_at dksX5_joins_0 22 rfl rfl)
theorem dX5_joins_23 : decode cX5_joins 23 = .ok (.putfield 62, 3) := dk_181 0 62 (dk_at dksX5_joins_1 0 rfl rfl)
theorem dX5_joins_26 : decode cX5_joins 26 = .ok (.aload_n 1, 1) := dk_43 (dk_at dksX5_joins_1 3 rfl rfl)
theorem dX5_joins_27 : decode cX5_joins 27 = .ok (.aload_n 2, 1) := dk_44 (dk_at dksX5_joins_1 4 rfl rfl)
theorem dX5_joins_28 : decode cX5_joins 28 = .ok (.putfield 78, 3) := dk_181 0 78 (dk_at dksX5_joins_1 5 rfl rfl)
theorem dX5_joins_31 : decode cX5_joins 31 = .ok (.return_, 1) := dk_177 (dk_at dksX5_joins_1 8 rfl rfl)
abbrev cX5_number : ByteArray := prog_12_method_3_code
def yX5_number : MethodName := ⟨RX5, "number", "()I"⟩
def dkwX5_number_0 : List UInt8 := [42, 180, 0, 43, 156, 0, 10, 42, 183, 0, 46, 167, 0, 7, 42, 180, 0, 43, 172]
abbrev dktX5_number_0 : List UInt8 := dkwX5_number_0 ++ []
theorem dksX5_number_0 : cX5_number.data.toList.drop 0 = dktX5_number_0 := by decide +kernel
theorem dX5_number_0 : decode cX5_number 0 = .ok (.aload_n 0, 1) := dk_42 (dk_at dksX5_number_0 0 rfl rfl)
theorem dX5_number_1 : decode cX5_number 1 = .ok (.getfield 43, 3) := dk_180 0 43 (dk_at dksX5_number_0 1 rfl rfl)
theorem dX5_number_4 : decode cX5_number 4 = .ok (.ifCond .ge 10, 3) := dk_156 0 10 (dk_at dksX5_number_0 4 rfl rfl)
theorem dX5_number_7 : decode cX5_number 7 = .ok (.aload_n 0, 1) := dk_42 (dk_at dksX5_number_0 7 rfl rfl)
theorem dX5_number_8 : decode cX5_number 8 = .ok (.invokespecial 46, 3) := dk_183 0 46 (dk_at dksX5_number_0 8 rfl rfl)
theorem dX5_number_11 : decode cX5_number 11 = .ok (.goto 7, 3) := dk_167 0 7 (dk_at dksX5_number_0 11 rfl rfl)
theorem dX5_number_14 : decode cX5_number 14 = .ok (.aload_n 0, 1) := dk_42 (dk_at dksX5_number_0 14 rfl rfl)
theorem dX5_number_15 : decode cX5_number 15 = .ok (.getfield 43, 3) := dk_180 0 43 (dk_at dksX5_number_0 15 rfl rfl)
theorem dX5_number_18 : decode cX5_number 18 = .ok (.ireturn, 1) := dk_172 (dk_at dksX5_number_0 18 rfl rfl)
abbrev cX5_first : ByteArray := prog_12_method_2_code
def yX5_first : MethodName := ⟨RX5, "first", "()I"⟩
def dkwX5_first_1 : List UInt8 := [167, 0, 10, 42, 180, 0, 24, 180, 0, 40, 172]
abbrev dktX5_first_1 : List UInt8 := dkwX5_first_1 ++ []
def dkwX5_first_0 : List UInt8 := [42, 180, 0, 24, 199, 0, 22, 42, 180, 0, 20, 3, 185, 0, 28, 2, 0, 192, 0, 34, 180, 0, 36]
abbrev dktX5_first_0 : List UInt8 := dkwX5_first_0 ++ dktX5_first_1
theorem dksX5_first_0 : cX5_first.data.toList.drop 0 = dktX5_first_0 := by decide +kernel
theorem dksX5_first_1 : cX5_first.data.toList.drop 23 = dktX5_first_1 := dk_seg dksX5_first_0 23 rfl rfl
theorem dX5_first_0 : decode cX5_first 0 = .ok (.aload_n 0, 1) := dk_42 (dk_at dksX5_first_0 0 rfl rfl)
theorem dX5_first_1 : decode cX5_first 1 = .ok (.getfield 24, 3) := dk_180 0 24 (dk_at dksX5_first_0 1 rfl rfl)
theorem dX5_first_4 : decode cX5_first 4 = .ok (.ifnonnull 22, 3) := dk_199 0 22 (dk_at dksX5_first_0 4 rfl rfl)
theorem dX5_first_7 : decode cX5_first 7 = .ok (.aload_n 0, 1) := dk_42 (dk_at dksX5_first_0 7 rfl rfl)
theorem dX5_first_8 : decode cX5_first 8 = .ok (.getfield 20, 3) := dk_180 0 20 (dk_at dksX5_first_0 8 rfl rfl)
theorem dX5_first_11 : decode cX5_first 11 = .ok (.iconst 0, 1) := dk_3 (dk_at dksX5_first_0 11 rfl rfl)
theorem dX5_first_12 : decode cX5_first 12 = .ok (.invokeinterface 28 2, 5) := by decide +kernel
theorem dX5_first_17 : decode cX5_first 17 = .ok (.checkcast 34, 3) := dk_192 0 34 (dk_at dksX5_first_0 17 rfl rfl)
theorem dX5_first_20 : decode cX5_first 20 = .ok (.getfield 36, 3) := dk_180 0 36 (dk_at dksX5_first_0 20 rfl rfl)
theorem dX5_first_23 : decode cX5_first 23 = .ok (.goto 10, 3) := dk_167 0 10 (dk_at dksX5_first_1 0 rfl rfl)
theorem dX5_first_26 : decode cX5_first 26 = .ok (.aload_n 0, 1) := dk_42 (dk_at dksX5_first_1 3 rfl rfl)
theorem dX5_first_27 : decode cX5_first 27 = .ok (.getfield 24, 3) := dk_180 0 24 (dk_at dksX5_first_1 4 rfl rfl)
theorem dX5_first_30 : decode cX5_first 30 = .ok (.getfield 40, 3) := dk_180 0 40 (dk_at dksX5_first_1 7 rfl rfl)
theorem dX5_first_33 : decode cX5_first 33 = .ok (.ireturn, 1) := dk_172 (dk_at dksX5_first_1 10 rfl rfl)
abbrev cX5_aim : ByteArray := prog_12_method_10_code
def yX5_aim : MethodName := ⟨RX5, "aim", "()LStoryColumns$Story;"⟩
def dkwX5_aim_4 : List UInt8 := [45, 180, 0, 62, 176, 132, 2, 1, 167, 255, 161, 1, 176]
abbrev dktX5_aim_4 : List UInt8 := dkwX5_aim_4 ++ []
def dkwX5_aim_3 : List UInt8 := [198, 0, 29, 45, 180, 0, 106, 4, 50, 43, 180, 0, 114, 25, 4, 180, 0, 120, 182, 0, 123, 153, 0, 8]
abbrev dktX5_aim_3 : List UInt8 := dkwX5_aim_3 ++ dktX5_aim_4
def dkwX5_aim_2 : List UInt8 := [3, 50, 58, 4, 45, 180, 0, 114, 25, 4, 180, 0, 117, 160, 0, 38, 45, 180, 0, 106, 4, 50]
abbrev dktX5_aim_2 : List UInt8 := dkwX5_aim_2 ++ dktX5_aim_3
def dkwX5_aim_1 : List UInt8 := [198, 0, 81, 42, 180, 0, 3, 180, 0, 99, 28, 185, 0, 28, 2, 0, 192, 0, 34, 78, 43, 180, 0, 106]
abbrev dktX5_aim_1 : List UInt8 := dkwX5_aim_1 ++ dktX5_aim_2
def dkwX5_aim_0 : List UInt8 := [42, 182, 0, 110, 76, 3, 61, 28, 42, 180, 0, 3, 180, 0, 99, 185, 0, 51, 1, 0, 162, 0, 85, 43]
abbrev dktX5_aim_0 : List UInt8 := dkwX5_aim_0 ++ dktX5_aim_1
theorem dksX5_aim_0 : cX5_aim.data.toList.drop 0 = dktX5_aim_0 := by decide +kernel
theorem dksX5_aim_1 : cX5_aim.data.toList.drop 24 = dktX5_aim_1 := dk_seg dksX5_aim_0 24 rfl rfl
theorem dksX5_aim_2 : cX5_aim.data.toList.drop 48 = dktX5_aim_2 := dk_seg dksX5_aim_1 24 rfl rfl
theorem dksX5_aim_3 : cX5_aim.data.toList.drop 70 = dktX5_aim_3 := dk_seg dksX5_aim_2 22 rfl rfl
theorem dksX5_aim_4 : cX5_aim.data.toList.drop 94 = dktX5_aim_4 := dk_seg dksX5_aim_3 24 rfl rfl
theorem dX5_aim_0 : decode cX5_aim 0 = .ok (.aload_n 0, 1) := dk_42 (dk_at dksX5_aim_0 0 rfl rfl)
theorem dX5_aim_1 : decode cX5_aim 1 = .ok (.invokevirtual 110, 3) := dk_182 0 110 (dk_at dksX5_aim_0 1 rfl rfl)
theorem dX5_aim_4 : decode cX5_aim 4 = .ok (.astore_n 1, 1) := dk_76 (dk_at dksX5_aim_0 4 rfl rfl)
theorem dX5_aim_5 : decode cX5_aim 5 = .ok (.iconst 0, 1) := dk_3 (dk_at dksX5_aim_0 5 rfl rfl)
theorem dX5_aim_6 : decode cX5_aim 6 = .ok (.istore_n 2, 1) := dk_61 (dk_at dksX5_aim_0 6 rfl rfl)
theorem dX5_aim_7 : decode cX5_aim 7 = .ok (.iload_n 2, 1) := dk_28 (dk_at dksX5_aim_0 7 rfl rfl)
theorem dX5_aim_8 : decode cX5_aim 8 = .ok (.aload_n 0, 1) := dk_42 (dk_at dksX5_aim_0 8 rfl rfl)
theorem dX5_aim_9 : decode cX5_aim 9 = .ok (.getfield 3, 3) := dk_180 0 3 (dk_at dksX5_aim_0 9 rfl rfl)
theorem dX5_aim_12 : decode cX5_aim 12 = .ok (.getfield 99, 3) := dk_180 0 99 (dk_at dksX5_aim_0 12 rfl rfl)
theorem dX5_aim_15 : decode cX5_aim 15 = .ok (.invokeinterface 51 1, 5) := by decide +kernel
theorem dX5_aim_20 : decode cX5_aim 20 = .ok (.if_icmp .ge 85, 3) := dk_162 0 85 (dk_at dksX5_aim_0 20 rfl rfl)
theorem dX5_aim_23 : decode cX5_aim 23 = .ok (.aload_n 1, 1) := dk_43 (dk_at dksX5_aim_0 23 rfl rfl)
theorem dX5_aim_24 : decode cX5_aim 24 = .ok (.ifnull 81, 3) := dk_198 0 81 (dk_at dksX5_aim_1 0 rfl rfl)
theorem dX5_aim_27 : decode cX5_aim 27 = .ok (.aload_n 0, 1) := dk_42 (dk_at dksX5_aim_1 3 rfl rfl)
theorem dX5_aim_28 : decode cX5_aim 28 = .ok (.getfield 3, 3) := dk_180 0 3 (dk_at dksX5_aim_1 4 rfl rfl)
theorem dX5_aim_31 : decode cX5_aim 31 = .ok (.getfield 99, 3) := dk_180 0 99 (dk_at dksX5_aim_1 7 rfl rfl)
theorem dX5_aim_34 : decode cX5_aim 34 = .ok (.iload_n 2, 1) := dk_28 (dk_at dksX5_aim_1 10 rfl rfl)
theorem dX5_aim_35 : decode cX5_aim 35 = .ok (.invokeinterface 28 2, 5) := by decide +kernel
theorem dX5_aim_40 : decode cX5_aim 40 = .ok (.checkcast 34, 3) := dk_192 0 34 (dk_at dksX5_aim_1 16 rfl rfl)
theorem dX5_aim_43 : decode cX5_aim 43 = .ok (.astore_n 3, 1) := dk_78 (dk_at dksX5_aim_1 19 rfl rfl)
theorem dX5_aim_44 : decode cX5_aim 44 = .ok (.aload_n 1, 1) := dk_43 (dk_at dksX5_aim_1 20 rfl rfl)
theorem dX5_aim_45 : decode cX5_aim 45 = .ok (.getfield 106, 3) := dk_180 0 106 (dk_at dksX5_aim_1 21 rfl rfl)
theorem dX5_aim_48 : decode cX5_aim 48 = .ok (.iconst 0, 1) := dk_3 (dk_at dksX5_aim_2 0 rfl rfl)
theorem dX5_aim_49 : decode cX5_aim 49 = .ok (.aaload, 1) := dk_50 (dk_at dksX5_aim_2 1 rfl rfl)
theorem dX5_aim_50 : decode cX5_aim 50 = .ok (.astore 4, 2) := dk_58 4 (dk_at dksX5_aim_2 2 rfl rfl)
theorem dX5_aim_52 : decode cX5_aim 52 = .ok (.aload_n 3, 1) := dk_45 (dk_at dksX5_aim_2 4 rfl rfl)
theorem dX5_aim_53 : decode cX5_aim 53 = .ok (.getfield 114, 3) := dk_180 0 114 (dk_at dksX5_aim_2 5 rfl rfl)
theorem dX5_aim_56 : decode cX5_aim 56 = .ok (.aload 4, 2) := dk_25 4 (dk_at dksX5_aim_2 8 rfl rfl)
theorem dX5_aim_58 : decode cX5_aim 58 = .ok (.getfield 117, 3) := dk_180 0 117 (dk_at dksX5_aim_2 10 rfl rfl)
theorem dX5_aim_61 : decode cX5_aim 61 = .ok (.if_icmp .ne 38, 3) := dk_160 0 38 (dk_at dksX5_aim_2 13 rfl rfl)
theorem dX5_aim_64 : decode cX5_aim 64 = .ok (.aload_n 3, 1) := dk_45 (dk_at dksX5_aim_2 16 rfl rfl)
theorem dX5_aim_65 : decode cX5_aim 65 = .ok (.getfield 106, 3) := dk_180 0 106 (dk_at dksX5_aim_2 17 rfl rfl)
theorem dX5_aim_68 : decode cX5_aim 68 = .ok (.iconst 1, 1) := dk_4 (dk_at dksX5_aim_2 20 rfl rfl)
theorem dX5_aim_69 : decode cX5_aim 69 = .ok (.aaload, 1) := dk_50 (dk_at dksX5_aim_2 21 rfl rfl)
theorem dX5_aim_70 : decode cX5_aim 70 = .ok (.ifnull 29, 3) := dk_198 0 29 (dk_at dksX5_aim_3 0 rfl rfl)
theorem dX5_aim_73 : decode cX5_aim 73 = .ok (.aload_n 3, 1) := dk_45 (dk_at dksX5_aim_3 3 rfl rfl)
theorem dX5_aim_74 : decode cX5_aim 74 = .ok (.getfield 106, 3) := dk_180 0 106 (dk_at dksX5_aim_3 4 rfl rfl)
theorem dX5_aim_77 : decode cX5_aim 77 = .ok (.iconst 1, 1) := dk_4 (dk_at dksX5_aim_3 7 rfl rfl)
theorem dX5_aim_78 : decode cX5_aim 78 = .ok (.aaload, 1) := dk_50 (dk_at dksX5_aim_3 8 rfl rfl)
theorem dX5_aim_79 : decode cX5_aim 79 = .ok (.aload_n 1, 1) := dk_43 (dk_at dksX5_aim_3 9 rfl rfl)
theorem dX5_aim_80 : decode cX5_aim 80 = .ok (.getfield 114, 3) := dk_180 0 114 (dk_at dksX5_aim_3 10 rfl rfl)
theorem dX5_aim_83 : decode cX5_aim 83 = .ok (.aload 4, 2) := dk_25 4 (dk_at dksX5_aim_3 13 rfl rfl)
theorem dX5_aim_85 : decode cX5_aim 85 = .ok (.getfield 120, 3) := dk_180 0 120 (dk_at dksX5_aim_3 15 rfl rfl)
theorem dX5_aim_88 : decode cX5_aim 88 = .ok (.invokevirtual 123, 3) := dk_182 0 123 (dk_at dksX5_aim_3 18 rfl rfl)
theorem dX5_aim_91 : decode cX5_aim 91 = .ok (.ifCond .eq 8, 3) := dk_153 0 8 (dk_at dksX5_aim_3 21 rfl rfl)
theorem dX5_aim_94 : decode cX5_aim 94 = .ok (.aload_n 3, 1) := dk_45 (dk_at dksX5_aim_4 0 rfl rfl)
theorem dX5_aim_95 : decode cX5_aim 95 = .ok (.getfield 62, 3) := dk_180 0 62 (dk_at dksX5_aim_4 1 rfl rfl)
theorem dX5_aim_98 : decode cX5_aim 98 = .ok (.areturn, 1) := dk_176 (dk_at dksX5_aim_4 4 rfl rfl)
theorem dX5_aim_99 : decode cX5_aim 99 = .ok (.iinc 2 1, 3) := dk_132 2 1 (dk_at dksX5_aim_4 5 rfl rfl)
theorem dX5_aim_102 : decode cX5_aim 102 = .ok (.goto (-95), 3) := dk_167 255 161 (dk_at dksX5_aim_4 8 rfl rfl)
theorem dX5_aim_105 : decode cX5_aim 105 = .ok (.aconst_null, 1) := dk_1 (dk_at dksX5_aim_4 11 rfl rfl)
theorem dX5_aim_106 : decode cX5_aim 106 = .ok (.areturn, 1) := dk_176 (dk_at dksX5_aim_4 12 rfl rfl)
abbrev cX5_goer : ByteArray := prog_12_method_9_code
def yX5_goer : MethodName := ⟨RX5, "goer", "()LStoryColumns$Block;"⟩
def dkwX5_goer_2 : List UInt8 := [167, 255, 222, 43, 176]
abbrev dktX5_goer_2 : List UInt8 := dkwX5_goer_2 ++ []
def dkwX5_goer_1 : List UInt8 := [185, 0, 92, 1, 0, 192, 0, 34, 78, 45, 180, 0, 106, 3, 50, 199, 0, 7, 43, 167, 0, 4, 45, 76]
abbrev dktX5_goer_1 : List UInt8 := dkwX5_goer_1 ++ dktX5_goer_2
def dkwX5_goer_0 : List UInt8 := [1, 76, 42, 180, 0, 20, 185, 0, 82, 1, 0, 77, 44, 185, 0, 86, 1, 0, 153, 0, 31, 44]
abbrev dktX5_goer_0 : List UInt8 := dkwX5_goer_0 ++ dktX5_goer_1
theorem dksX5_goer_0 : cX5_goer.data.toList.drop 0 = dktX5_goer_0 := by decide +kernel
theorem dksX5_goer_1 : cX5_goer.data.toList.drop 22 = dktX5_goer_1 := dk_seg dksX5_goer_0 22 rfl rfl
theorem dksX5_goer_2 : cX5_goer.data.toList.drop 46 = dktX5_goer_2 := dk_seg dksX5_goer_1 24 rfl rfl
theorem dX5_goer_0 : decode cX5_goer 0 = .ok (.aconst_null, 1) := dk_1 (dk_at dksX5_goer_0 0 rfl rfl)
theorem dX5_goer_1 : decode cX5_goer 1 = .ok (.astore_n 1, 1) := dk_76 (dk_at dksX5_goer_0 1 rfl rfl)
theorem dX5_goer_2 : decode cX5_goer 2 = .ok (.aload_n 0, 1) := dk_42 (dk_at dksX5_goer_0 2 rfl rfl)
theorem dX5_goer_3 : decode cX5_goer 3 = .ok (.getfield 20, 3) := dk_180 0 20 (dk_at dksX5_goer_0 3 rfl rfl)
theorem dX5_goer_6 : decode cX5_goer 6 = .ok (.invokeinterface 82 1, 5) := by decide +kernel
theorem dX5_goer_11 : decode cX5_goer 11 = .ok (.astore_n 2, 1) := dk_77 (dk_at dksX5_goer_0 11 rfl rfl)
theorem dX5_goer_12 : decode cX5_goer 12 = .ok (.aload_n 2, 1) := dk_44 (dk_at dksX5_goer_0 12 rfl rfl)
theorem dX5_goer_13 : decode cX5_goer 13 = .ok (.invokeinterface 86 1, 5) := by decide +kernel
theorem dX5_goer_18 : decode cX5_goer 18 = .ok (.ifCond .eq 31, 3) := dk_153 0 31 (dk_at dksX5_goer_0 18 rfl rfl)
theorem dX5_goer_21 : decode cX5_goer 21 = .ok (.aload_n 2, 1) := dk_44 (dk_at dksX5_goer_0 21 rfl rfl)
theorem dX5_goer_22 : decode cX5_goer 22 = .ok (.invokeinterface 92 1, 5) := by decide +kernel
theorem dX5_goer_27 : decode cX5_goer 27 = .ok (.checkcast 34, 3) := dk_192 0 34 (dk_at dksX5_goer_1 5 rfl rfl)
theorem dX5_goer_30 : decode cX5_goer 30 = .ok (.astore_n 3, 1) := dk_78 (dk_at dksX5_goer_1 8 rfl rfl)
theorem dX5_goer_31 : decode cX5_goer 31 = .ok (.aload_n 3, 1) := dk_45 (dk_at dksX5_goer_1 9 rfl rfl)
theorem dX5_goer_32 : decode cX5_goer 32 = .ok (.getfield 106, 3) := dk_180 0 106 (dk_at dksX5_goer_1 10 rfl rfl)
theorem dX5_goer_35 : decode cX5_goer 35 = .ok (.iconst 0, 1) := dk_3 (dk_at dksX5_goer_1 13 rfl rfl)
theorem dX5_goer_36 : decode cX5_goer 36 = .ok (.aaload, 1) := dk_50 (dk_at dksX5_goer_1 14 rfl rfl)
theorem dX5_goer_37 : decode cX5_goer 37 = .ok (.ifnonnull 7, 3) := dk_199 0 7 (dk_at dksX5_goer_1 15 rfl rfl)
theorem dX5_goer_40 : decode cX5_goer 40 = .ok (.aload_n 1, 1) := dk_43 (dk_at dksX5_goer_1 18 rfl rfl)
theorem dX5_goer_41 : decode cX5_goer 41 = .ok (.goto 4, 3) := dk_167 0 4 (dk_at dksX5_goer_1 19 rfl rfl)
theorem dX5_goer_44 : decode cX5_goer 44 = .ok (.aload_n 3, 1) := dk_45 (dk_at dksX5_goer_1 22 rfl rfl)
theorem dX5_goer_45 : decode cX5_goer 45 = .ok (.astore_n 1, 1) := dk_76 (dk_at dksX5_goer_1 23 rfl rfl)
theorem dX5_goer_46 : decode cX5_goer 46 = .ok (.goto (-34), 3) := dk_167 255 222 (dk_at dksX5_goer_2 0 rfl rfl)
theorem dX5_goer_49 : decode cX5_goer 49 = .ok (.aload_n 1, 1) := dk_43 (dk_at dksX5_goer_2 3 rfl rfl)
theorem dX5_goer_50 : decode cX5_goer 50 = .ok (.areturn, 1) := dk_176 (dk_at dksX5_goer_2 4 rfl rfl)
abbrev cX5_words : ByteArray := prog_12_method_7_code
def yX5_words : MethodName := ⟨RX5, "words", "()I"⟩
def dkwX5_words_1 : List UInt8 := [185, 0, 92, 1, 0, 192, 0, 34, 78, 27, 45, 180, 0, 96, 96, 60, 167, 255, 230, 27, 172]
abbrev dktX5_words_1 : List UInt8 := dkwX5_words_1 ++ []
def dkwX5_words_0 : List UInt8 := [3, 60, 42, 180, 0, 20, 185, 0, 82, 1, 0, 77, 44, 185, 0, 86, 1, 0, 153, 0, 23, 44]
abbrev dktX5_words_0 : List UInt8 := dkwX5_words_0 ++ dktX5_words_1
theorem dksX5_words_0 : cX5_words.data.toList.drop 0 = dktX5_words_0 := by decide +kernel
theorem dksX5_words_1 : cX5_words.data.toList.drop 22 = dktX5_words_1 := dk_seg dksX5_words_0 22 rfl rfl
theorem dX5_words_0 : decode cX5_words 0 = .ok (.iconst 0, 1) := dk_3 (dk_at dksX5_words_0 0 rfl rfl)
theorem dX5_words_1 : decode cX5_words 1 = .ok (.istore_n 1, 1) := dk_60 (dk_at dksX5_words_0 1 rfl rfl)
theorem dX5_words_2 : decode cX5_words 2 = .ok (.aload_n 0, 1) := dk_42 (dk_at dksX5_words_0 2 rfl rfl)
theorem dX5_words_3 : decode cX5_words 3 = .ok (.getfield 20, 3) := dk_180 0 20 (dk_at dksX5_words_0 3 rfl rfl)
theorem dX5_words_6 : decode cX5_words 6 = .ok (.invokeinterface 82 1, 5) := by decide +kernel
theorem dX5_words_11 : decode cX5_words 11 = .ok (.astore_n 2, 1) := dk_77 (dk_at dksX5_words_0 11 rfl rfl)
theorem dX5_words_12 : decode cX5_words 12 = .ok (.aload_n 2, 1) := dk_44 (dk_at dksX5_words_0 12 rfl rfl)
theorem dX5_words_13 : decode cX5_words 13 = .ok (.invokeinterface 86 1, 5) := by decide +kernel
theorem dX5_words_18 : decode cX5_words 18 = .ok (.ifCond .eq 23, 3) := dk_153 0 23 (dk_at dksX5_words_0 18 rfl rfl)
theorem dX5_words_21 : decode cX5_words 21 = .ok (.aload_n 2, 1) := dk_44 (dk_at dksX5_words_0 21 rfl rfl)
theorem dX5_words_22 : decode cX5_words 22 = .ok (.invokeinterface 92 1, 5) := by decide +kernel
theorem dX5_words_27 : decode cX5_words 27 = .ok (.checkcast 34, 3) := dk_192 0 34 (dk_at dksX5_words_1 5 rfl rfl)
theorem dX5_words_30 : decode cX5_words 30 = .ok (.astore_n 3, 1) := dk_78 (dk_at dksX5_words_1 8 rfl rfl)
theorem dX5_words_31 : decode cX5_words 31 = .ok (.iload_n 1, 1) := dk_27 (dk_at dksX5_words_1 9 rfl rfl)
theorem dX5_words_32 : decode cX5_words 32 = .ok (.aload_n 3, 1) := dk_45 (dk_at dksX5_words_1 10 rfl rfl)
theorem dX5_words_33 : decode cX5_words 33 = .ok (.getfield 96, 3) := dk_180 0 96 (dk_at dksX5_words_1 11 rfl rfl)
theorem dX5_words_36 : decode cX5_words 36 = .ok (.iadd, 1) := dk_96 (dk_at dksX5_words_1 14 rfl rfl)
theorem dX5_words_37 : decode cX5_words 37 = .ok (.istore_n 1, 1) := dk_60 (dk_at dksX5_words_1 15 rfl rfl)
theorem dX5_words_38 : decode cX5_words 38 = .ok (.goto (-26), 3) := dk_167 255 230 (dk_at dksX5_words_1 16 rfl rfl)
theorem dX5_words_41 : decode cX5_words 41 = .ok (.iload_n 1, 1) := dk_27 (dk_at dksX5_words_1 19 rfl rfl)
theorem dX5_words_42 : decode cX5_words 42 = .ok (.ireturn, 1) := dk_172 (dk_at dksX5_words_1 20 rfl rfl)
abbrev cX5_pictures : ByteArray := prog_12_method_8_code
def yX5_pictures : MethodName := ⟨RX5, "pictures", "()I"⟩
def dkwX5_pictures_3 : List UInt8 := [27, 172]
abbrev dktX5_pictures_3 : List UInt8 := dkwX5_pictures_3 ++ []
def dkwX5_pictures_2 : List UInt8 := [198, 0, 18, 45, 180, 0, 105, 42, 180, 0, 24, 166, 0, 7, 4, 167, 0, 4, 3, 96, 60, 167, 255, 203]
abbrev dktX5_pictures_2 : List UInt8 := dkwX5_pictures_2 ++ dktX5_pictures_3
def dkwX5_pictures_1 : List UInt8 := [44, 185, 0, 92, 1, 0, 192, 0, 34, 78, 27, 45, 180, 0, 102, 5, 160, 0, 25, 42, 180, 0, 24]
abbrev dktX5_pictures_1 : List UInt8 := dkwX5_pictures_1 ++ dktX5_pictures_2
def dkwX5_pictures_0 : List UInt8 := [3, 60, 42, 180, 0, 3, 180, 0, 99, 185, 0, 82, 1, 0, 77, 44, 185, 0, 86, 1, 0, 153, 0, 50]
abbrev dktX5_pictures_0 : List UInt8 := dkwX5_pictures_0 ++ dktX5_pictures_1
theorem dksX5_pictures_0 : cX5_pictures.data.toList.drop 0 = dktX5_pictures_0 := by decide +kernel
theorem dksX5_pictures_1 : cX5_pictures.data.toList.drop 24 = dktX5_pictures_1 := dk_seg dksX5_pictures_0 24 rfl rfl
theorem dksX5_pictures_2 : cX5_pictures.data.toList.drop 47 = dktX5_pictures_2 := dk_seg dksX5_pictures_1 23 rfl rfl
theorem dksX5_pictures_3 : cX5_pictures.data.toList.drop 71 = dktX5_pictures_3 := dk_seg dksX5_pictures_2 24 rfl rfl
theorem dX5_pictures_0 : decode cX5_pictures 0 = .ok (.iconst 0, 1) := dk_3 (dk_at dksX5_pictures_0 0 rfl rfl)
theorem dX5_pictures_1 : decode cX5_pictures 1 = .ok (.istore_n 1, 1) := dk_60 (dk_at dksX5_pictures_0 1 rfl rfl)
theorem dX5_pictures_2 : decode cX5_pictures 2 = .ok (.aload_n 0, 1) := dk_42 (dk_at dksX5_pictures_0 2 rfl rfl)
theorem dX5_pictures_3 : decode cX5_pictures 3 = .ok (.getfield 3, 3) := dk_180 0 3 (dk_at dksX5_pictures_0 3 rfl rfl)
theorem dX5_pictures_6 : decode cX5_pictures 6 = .ok (.getfield 99, 3) := dk_180 0 99 (dk_at dksX5_pictures_0 6 rfl rfl)
theorem dX5_pictures_9 : decode cX5_pictures 9 = .ok (.invokeinterface 82 1, 5) := by decide +kernel
theorem dX5_pictures_14 : decode cX5_pictures 14 = .ok (.astore_n 2, 1) := dk_77 (dk_at dksX5_pictures_0 14 rfl rfl)
theorem dX5_pictures_15 : decode cX5_pictures 15 = .ok (.aload_n 2, 1) := dk_44 (dk_at dksX5_pictures_0 15 rfl rfl)
theorem dX5_pictures_16 : decode cX5_pictures 16 = .ok (.invokeinterface 86 1, 5) := by decide +kernel
theorem dX5_pictures_21 : decode cX5_pictures 21 = .ok (.ifCond .eq 50, 3) := dk_153 0 50 (dk_at dksX5_pictures_0 21 rfl rfl)
theorem dX5_pictures_24 : decode cX5_pictures 24 = .ok (.aload_n 2, 1) := dk_44 (dk_at dksX5_pictures_1 0 rfl rfl)
theorem dX5_pictures_25 : decode cX5_pictures 25 = .ok (.invokeinterface 92 1, 5) := by decide +kernel
theorem dX5_pictures_30 : decode cX5_pictures 30 = .ok (.checkcast 34, 3) := dk_192 0 34 (dk_at dksX5_pictures_1 6 rfl rfl)
theorem dX5_pictures_33 : decode cX5_pictures 33 = .ok (.astore_n 3, 1) := dk_78 (dk_at dksX5_pictures_1 9 rfl rfl)
theorem dX5_pictures_34 : decode cX5_pictures 34 = .ok (.iload_n 1, 1) := dk_27 (dk_at dksX5_pictures_1 10 rfl rfl)
theorem dX5_pictures_35 : decode cX5_pictures 35 = .ok (.aload_n 3, 1) := dk_45 (dk_at dksX5_pictures_1 11 rfl rfl)
theorem dX5_pictures_36 : decode cX5_pictures 36 = .ok (.getfield 102, 3) := dk_180 0 102 (dk_at dksX5_pictures_1 12 rfl rfl)
theorem dX5_pictures_39 : decode cX5_pictures 39 = .ok (.iconst 2, 1) := dk_5 (dk_at dksX5_pictures_1 15 rfl rfl)
theorem dX5_pictures_40 : decode cX5_pictures 40 = .ok (.if_icmp .ne 25, 3) := dk_160 0 25 (dk_at dksX5_pictures_1 16 rfl rfl)
theorem dX5_pictures_43 : decode cX5_pictures 43 = .ok (.aload_n 0, 1) := dk_42 (dk_at dksX5_pictures_1 19 rfl rfl)
theorem dX5_pictures_44 : decode cX5_pictures 44 = .ok (.getfield 24, 3) := dk_180 0 24 (dk_at dksX5_pictures_1 20 rfl rfl)
theorem dX5_pictures_47 : decode cX5_pictures 47 = .ok (.ifnull 18, 3) := dk_198 0 18 (dk_at dksX5_pictures_2 0 rfl rfl)
theorem dX5_pictures_50 : decode cX5_pictures 50 = .ok (.aload_n 3, 1) := dk_45 (dk_at dksX5_pictures_2 3 rfl rfl)
theorem dX5_pictures_51 : decode cX5_pictures 51 = .ok (.getfield 105, 3) := dk_180 0 105 (dk_at dksX5_pictures_2 4 rfl rfl)
theorem dX5_pictures_54 : decode cX5_pictures 54 = .ok (.aload_n 0, 1) := dk_42 (dk_at dksX5_pictures_2 7 rfl rfl)
theorem dX5_pictures_55 : decode cX5_pictures 55 = .ok (.getfield 24, 3) := dk_180 0 24 (dk_at dksX5_pictures_2 8 rfl rfl)
theorem dX5_pictures_58 : decode cX5_pictures 58 = .ok (.if_acmp .ne 7, 3) := dk_166 0 7 (dk_at dksX5_pictures_2 11 rfl rfl)
theorem dX5_pictures_61 : decode cX5_pictures 61 = .ok (.iconst 1, 1) := dk_4 (dk_at dksX5_pictures_2 14 rfl rfl)
theorem dX5_pictures_62 : decode cX5_pictures 62 = .ok (.goto 4, 3) := dk_167 0 4 (dk_at dksX5_pictures_2 15 rfl rfl)
theorem dX5_pictures_65 : decode cX5_pictures 65 = .ok (.iconst 0, 1) := dk_3 (dk_at dksX5_pictures_2 18 rfl rfl)
theorem dX5_pictures_66 : decode cX5_pictures 66 = .ok (.iadd, 1) := dk_96 (dk_at dksX5_pictures_2 19 rfl rfl)
theorem dX5_pictures_67 : decode cX5_pictures 67 = .ok (.istore_n 1, 1) := dk_60 (dk_at dksX5_pictures_2 20 rfl rfl)
theorem dX5_pictures_68 : decode cX5_pictures 68 = .ok (.goto (-53), 3) := dk_167 255 203 (dk_at dksX5_pictures_2 21 rfl rfl)
theorem dX5_pictures_71 : decode cX5_pictures 71 = .ok (.iload_n 1, 1) := dk_27 (dk_at dksX5_pictures_3 0 rfl rfl)
theorem dX5_pictures_72 : decode cX5_pictures 72 = .ok (.ireturn, 1) := dk_172 (dk_at dksX5_pictures_3 1 rfl rfl)
abbrev cX5_isBroken : ByteArray := prog_12_method_11_code
def yX5_isBroken : MethodName := ⟨RX5, "isBroken", "()Z"⟩
def dkwX5_isBroken_0 : List UInt8 := [42, 182, 0, 110, 198, 0, 14, 42, 180, 0, 127, 199, 0, 7, 4, 167, 0, 4, 3, 172]
abbrev dktX5_isBroken_0 : List UInt8 := dkwX5_isBroken_0 ++ []
theorem dksX5_isBroken_0 : cX5_isBroken.data.toList.drop 0 = dktX5_isBroken_0 := by decide +kernel
theorem dX5_isBroken_0 : decode cX5_isBroken 0 = .ok (.aload_n 0, 1) := dk_42 (dk_at dksX5_isBroken_0 0 rfl rfl)
theorem dX5_isBroken_1 : decode cX5_isBroken 1 = .ok (.invokevirtual 110, 3) := dk_182 0 110 (dk_at dksX5_isBroken_0 1 rfl rfl)
theorem dX5_isBroken_4 : decode cX5_isBroken 4 = .ok (.ifnull 14, 3) := dk_198 0 14 (dk_at dksX5_isBroken_0 4 rfl rfl)
theorem dX5_isBroken_7 : decode cX5_isBroken 7 = .ok (.aload_n 0, 1) := dk_42 (dk_at dksX5_isBroken_0 7 rfl rfl)
theorem dX5_isBroken_8 : decode cX5_isBroken 8 = .ok (.getfield 127, 3) := dk_180 0 127 (dk_at dksX5_isBroken_0 8 rfl rfl)
theorem dX5_isBroken_11 : decode cX5_isBroken 11 = .ok (.ifnonnull 7, 3) := dk_199 0 7 (dk_at dksX5_isBroken_0 11 rfl rfl)
theorem dX5_isBroken_14 : decode cX5_isBroken 14 = .ok (.iconst 1, 1) := dk_4 (dk_at dksX5_isBroken_0 14 rfl rfl)
theorem dX5_isBroken_15 : decode cX5_isBroken 15 = .ok (.goto 4, 3) := dk_167 0 4 (dk_at dksX5_isBroken_0 15 rfl rfl)
theorem dX5_isBroken_18 : decode cX5_isBroken 18 = .ok (.iconst 0, 1) := dk_3 (dk_at dksX5_isBroken_0 18 rfl rfl)
theorem dX5_isBroken_19 : decode cX5_isBroken 19 = .ok (.ireturn, 1) := dk_172 (dk_at dksX5_isBroken_0 19 rfl rfl)
theorem q74 : (Jvm.Cond.initialized "StoryColumns$Story") ∈ lw_all := lw_g (lw_at lw_m1 16 rfl) rfl
theorem q121 : (Jvm.Cond.fieldLinkNest "StoryColumns$Story" (99 : Nat) "StoryColumns" "blocks" "Ljava/util/List;" "StoryColumns") ∈ lw_tbl := lw_at lw_m1 63 rfl
theorem q174 : (Jvm.Cond.fieldLink "StoryColumns$Story" (36 : Nat) "StoryColumns$Block" "number" "I") ∈ lw_all := lw_g (lw_at lw_m1 116 rfl) rfl
theorem q175 : (Jvm.Cond.fieldLink "StoryColumns$Story" (40 : Nat) "StoryColumns$Head" "number" "I") ∈ lw_all := lw_g (lw_at lw_m1 117 rfl) rfl
theorem q183 : (Jvm.Cond.fieldLink "StoryColumns$Story" (114 : Nat) "StoryColumns$Block" "page" "I") ∈ lw_all := lw_g (lw_at lw_m1 125 rfl) rfl
theorem q187 : (Jvm.Cond.fieldLink "StoryColumns$Story" (102 : Nat) "StoryColumns$Block" "kind" "I") ∈ lw_all := lw_g (lw_at lw_m1 129 rfl) rfl
theorem q193 : (Jvm.Cond.fieldLink "StoryColumns$Story" (66 : Nat) "StoryColumns$Block" "left" "I") ∈ lw_all := lw_g (lw_at lw_m1 135 rfl) rfl
theorem q199 : (Jvm.Cond.fieldLink "StoryColumns$Story" (69 : Nat) "StoryColumns$Block" "top" "I") ∈ lw_all := lw_g (lw_at lw_m1 141 rfl) rfl
theorem q206 : (Jvm.Cond.fieldLink "StoryColumns$Story" (96 : Nat) "StoryColumns$Block" "words" "I") ∈ lw_all := lw_g (lw_at lw_m1 148 rfl) rfl
theorem q209 : (Jvm.Cond.fieldLink "StoryColumns$Story" (106 : Nat) "StoryColumns$Block" "marks" "[LStoryColumns$Mark;") ∈ lw_all := lw_g (lw_at lw_m1 151 rfl) rfl
theorem q212 : (Jvm.Cond.fieldLink "StoryColumns$Story" (105 : Nat) "StoryColumns$Block" "head" "LStoryColumns$Head;") ∈ lw_all := lw_g (lw_at lw_m1 154 rfl) rfl
theorem q214 : (Jvm.Cond.fieldLink "StoryColumns$Story" (62 : Nat) "StoryColumns$Block" "story" "LStoryColumns$Story;") ∈ lw_all := lw_g (lw_at lw_m1 156 rfl) rfl
theorem q219 : (Jvm.Cond.fieldLink "StoryColumns$Story" (78 : Nat) "StoryColumns$Block" "taker" "LStoryColumns$Block;") ∈ lw_all := lw_g (lw_at lw_m1 161 rfl) rfl
theorem q493 : (Jvm.Cond.selects "StoryColumns$Story" ({ cls := "java/lang/Object", name := "getClass", desc := "()Ljava/lang/Class;" } : Jvm.MethodName) ({ cls := "java/lang/Object", name := "getClass", desc := "()Ljava/lang/Class;" } : Jvm.MethodName)) ∈ lw_all := lw_g (lw_at lw_m2 195 rfl) rfl
theorem q686 : (Jvm.Cond.instantiable "StoryColumns$Story" (8 : Nat)) ∈ lw_all := lw_g (lw_at lw_m3 148 rfl) rfl
theorem q688 : (Jvm.Cond.instanceMethod ({ cls := "StoryColumns$Story", name := "<init>", desc := "(LStoryColumns;LStoryColumns$Head;)V" } : Jvm.MethodName)) ∈ lw_all := lw_g (lw_at lw_m3 150 rfl) rfl
theorem q689 : (Jvm.Cond.code ({ cls := "StoryColumns$Story", name := "<init>", desc := "(LStoryColumns;LStoryColumns$Head;)V" } : Jvm.MethodName) prog_12_method_1_code (3 : Nat) (Option.none : Option Jvm.ClassFile.FieldType)) ∈ lw_all := lw_g (lw_at lw_m3 151 rfl) rfl
theorem q690 : (Jvm.Cond.methodLink "StoryColumns$Story" (9 : Nat) ({ cls := "java/lang/Object", name := "<init>", desc := "()V" } : Jvm.MethodName)) ∈ lw_all := lw_g (lw_at lw_m3 152 rfl) rfl
theorem q691 : (Jvm.Cond.classLink "StoryColumns$Story" (15 : Nat) "java/util/ArrayList") ∈ lw_all := lw_g (lw_at lw_m3 153 rfl) rfl
theorem q692 : (Jvm.Cond.methodLink "StoryColumns$Story" (17 : Nat) ({ cls := "java/util/ArrayList", name := "<init>", desc := "(I)V" } : Jvm.MethodName)) ∈ lw_all := lw_g (lw_at lw_m3 154 rfl) rfl
theorem q693 : (Jvm.Cond.fieldLink "StoryColumns$Story" (24 : Nat) "StoryColumns$Story" "head" "LStoryColumns$Head;") ∈ lw_all := lw_g (lw_at lw_m3 155 rfl) rfl
theorem q696 : (Jvm.Cond.fieldLink "StoryColumns$Story" (20 : Nat) "StoryColumns$Story" "texts" "Ljava/util/List;") ∈ lw_all := lw_g (lw_at lw_m3 158 rfl) rfl
theorem q700 : (Jvm.Cond.fieldLink "StoryColumns$Story" (43 : Nat) "StoryColumns$Story" "place" "I") ∈ lw_all := lw_g (lw_at lw_m3 162 rfl) rfl
theorem q702 : (Jvm.Cond.fieldLink "StoryColumns$Story" (75 : Nat) "StoryColumns$Story" "joined" "I") ∈ lw_all := lw_g (lw_at lw_m3 164 rfl) rfl
theorem q705 : (Jvm.Cond.fieldLink "StoryColumns$Story" (127 : Nat) "StoryColumns$Story" "next" "LStoryColumns$Story;") ∈ lw_all := lw_g (lw_at lw_m3 167 rfl) rfl
theorem q709 : (Jvm.Cond.fieldLink "StoryColumns$Story" (3 : Nat) "StoryColumns$Story" "this$0" "LStoryColumns;") ∈ lw_all := lw_g (lw_at lw_m3 171 rfl) rfl
theorem q710 : (Jvm.Cond.laysFinal "StoryColumns$Story" "StoryColumns$Story" "head" "LStoryColumns$Head;") ∈ lw_all := lw_g (lw_at lw_m3 172 rfl) rfl
theorem q711 : (Jvm.Cond.soleField "StoryColumns$Story" "head") ∈ lw_all := lw_g (lw_at lw_m3 173 rfl) rfl
theorem q712 : (Jvm.Cond.laysFinal "StoryColumns$Story" "StoryColumns$Story" "texts" "Ljava/util/List;") ∈ lw_all := lw_g (lw_at lw_m3 174 rfl) rfl
theorem q713 : (Jvm.Cond.soleField "StoryColumns$Story" "texts") ∈ lw_all := lw_g (lw_at lw_m3 175 rfl) rfl
theorem q714 : (Jvm.Cond.lays "StoryColumns$Story" "StoryColumns$Story" "place" "I") ∈ lw_all := lw_g (lw_at lw_m3 176 rfl) rfl
theorem q715 : (Jvm.Cond.soleField "StoryColumns$Story" "place") ∈ lw_all := lw_g (lw_at lw_m3 177 rfl) rfl
theorem q716 : (Jvm.Cond.lays "StoryColumns$Story" "StoryColumns$Story" "joined" "I") ∈ lw_all := lw_g (lw_at lw_m3 178 rfl) rfl
theorem q717 : (Jvm.Cond.soleField "StoryColumns$Story" "joined") ∈ lw_all := lw_g (lw_at lw_m3 179 rfl) rfl
theorem q718 : (Jvm.Cond.lays "StoryColumns$Story" "StoryColumns$Story" "next" "LStoryColumns$Story;") ∈ lw_all := lw_g (lw_at lw_m3 180 rfl) rfl
theorem q719 : (Jvm.Cond.soleField "StoryColumns$Story" "next") ∈ lw_all := lw_g (lw_at lw_m3 181 rfl) rfl
theorem q720 : (Jvm.Cond.lays "StoryColumns$Story" "StoryColumns$Story" "before" "LStoryColumns$Story;") ∈ lw_all := lw_g (lw_at lw_m3 182 rfl) rfl
theorem q721 : (Jvm.Cond.soleField "StoryColumns$Story" "before") ∈ lw_all := lw_g (lw_at lw_m3 183 rfl) rfl
theorem q722 : (Jvm.Cond.lays "StoryColumns$Story" "StoryColumns$Story" "article" "I") ∈ lw_all := lw_g (lw_at lw_m3 184 rfl) rfl
theorem q723 : (Jvm.Cond.soleField "StoryColumns$Story" "article") ∈ lw_all := lw_g (lw_at lw_m3 185 rfl) rfl
theorem q724 : (Jvm.Cond.laysFinal "StoryColumns$Story" "StoryColumns$Story" "this$0" "LStoryColumns;") ∈ lw_all := lw_g (lw_at lw_m3 186 rfl) rfl
theorem q725 : (Jvm.Cond.soleField "StoryColumns$Story" "this$0") ∈ lw_all := lw_g (lw_at lw_m3 187 rfl) rfl
theorem q726 : (Jvm.Cond.superclass "StoryColumns$Story" "java/lang/Object") ∈ lw_all := lw_g (lw_at lw_m3 188 rfl) rfl
theorem q733 : (Jvm.Cond.instanceMethod ({ cls := "StoryColumns$Story", name := "gathers", desc := "(LStoryColumns$Block;)V" } : Jvm.MethodName)) ∈ lw_all := lw_g (lw_at lw_m3 195 rfl) rfl
theorem q734 : (Jvm.Cond.selects "StoryColumns$Story" ({ cls := "StoryColumns$Story", name := "gathers", desc := "(LStoryColumns$Block;)V" } : Jvm.MethodName) ({ cls := "StoryColumns$Story", name := "gathers", desc := "(LStoryColumns$Block;)V" } : Jvm.MethodName)) ∈ lw_all := lw_g (lw_at lw_m3 196 rfl) rfl
theorem q735 : (Jvm.Cond.code ({ cls := "StoryColumns$Story", name := "gathers", desc := "(LStoryColumns$Block;)V" } : Jvm.MethodName) prog_12_method_4_code (3 : Nat) (Option.none : Option Jvm.ClassFile.FieldType)) ∈ lw_all := lw_g (lw_at lw_m3 197 rfl) rfl
theorem q736 : (Jvm.Cond.interfaceEntry "StoryColumns$Story" (51 : Nat)) ∈ lw_tbl := lw_at lw_m3 198 rfl
theorem q737 : (Jvm.Cond.methodLink "StoryColumns$Story" (51 : Nat) ({ cls := "java/util/List", name := "size", desc := "()I" } : Jvm.MethodName)) ∈ lw_all := lw_g (lw_at lw_m3 199 rfl) rfl
theorem q738 : (Jvm.Cond.interfaceEntry "StoryColumns$Story" (28 : Nat)) ∈ lw_tbl := lw_at lw_m3 200 rfl
theorem q739 : (Jvm.Cond.methodLink "StoryColumns$Story" (28 : Nat) ({ cls := "java/util/List", name := "get", desc := "(I)Ljava/lang/Object;" } : Jvm.MethodName)) ∈ lw_all := lw_g (lw_at lw_m3 201 rfl) rfl
theorem q740 : (Jvm.Cond.classLink "StoryColumns$Story" (34 : Nat) "StoryColumns$Block") ∈ lw_all := lw_g (lw_at lw_m3 202 rfl) rfl
theorem q741 : (Jvm.Cond.methodLink "StoryColumns$Story" (54 : Nat) ({ cls := "StoryColumns$Story", name := "isAhead", desc := "(LStoryColumns$Block;LStoryColumns$Block;)Z" } : Jvm.MethodName)) ∈ lw_all := lw_g (lw_at lw_m3 203 rfl) rfl
theorem q742 : (Jvm.Cond.privateMethod ({ cls := "StoryColumns$Story", name := "isAhead", desc := "(LStoryColumns$Block;LStoryColumns$Block;)Z" } : Jvm.MethodName)) ∈ lw_tbl := lw_at lw_m3 204 rfl
theorem q743 : (Jvm.Cond.instanceMethod ({ cls := "StoryColumns$Story", name := "isAhead", desc := "(LStoryColumns$Block;LStoryColumns$Block;)Z" } : Jvm.MethodName)) ∈ lw_all := lw_g (lw_at lw_m3 205 rfl) rfl
theorem q744 : (Jvm.Cond.code ({ cls := "StoryColumns$Story", name := "isAhead", desc := "(LStoryColumns$Block;LStoryColumns$Block;)Z" } : Jvm.MethodName) prog_12_method_5_code (3 : Nat) (Option.some Jvm.ClassFile.FieldType.boolean)) ∈ lw_all := lw_g (lw_at lw_m3 206 rfl) rfl
theorem q745 : (Jvm.Cond.interfaceEntry "StoryColumns$Story" (58 : Nat)) ∈ lw_tbl := lw_at lw_m3 207 rfl
theorem q746 : (Jvm.Cond.methodLink "StoryColumns$Story" (58 : Nat) ({ cls := "java/util/List", name := "add", desc := "(ILjava/lang/Object;)V" } : Jvm.MethodName)) ∈ lw_all := lw_g (lw_at lw_m3 208 rfl) rfl
theorem q777 : (Jvm.Cond.instanceMethod ({ cls := "StoryColumns$Story", name := "joins", desc := "(LStoryColumns$Block;LStoryColumns$Block;)V" } : Jvm.MethodName)) ∈ lw_all := lw_g (lw_at lw_m3 239 rfl) rfl
theorem q778 : (Jvm.Cond.selects "StoryColumns$Story" ({ cls := "StoryColumns$Story", name := "joins", desc := "(LStoryColumns$Block;LStoryColumns$Block;)V" } : Jvm.MethodName) ({ cls := "StoryColumns$Story", name := "joins", desc := "(LStoryColumns$Block;LStoryColumns$Block;)V" } : Jvm.MethodName)) ∈ lw_all := lw_g (lw_at lw_m4 0 rfl) rfl
theorem q779 : (Jvm.Cond.code ({ cls := "StoryColumns$Story", name := "joins", desc := "(LStoryColumns$Block;LStoryColumns$Block;)V" } : Jvm.MethodName) prog_12_method_6_code (3 : Nat) (Option.none : Option Jvm.ClassFile.FieldType)) ∈ lw_all := lw_g (lw_at lw_m4 1 rfl) rfl
theorem q780 : (Jvm.Cond.interfaceEntry "StoryColumns$Story" (72 : Nat)) ∈ lw_tbl := lw_at lw_m4 2 rfl
theorem q781 : (Jvm.Cond.methodLink "StoryColumns$Story" (72 : Nat) ({ cls := "java/util/List", name := "add", desc := "(Ljava/lang/Object;)Z" } : Jvm.MethodName)) ∈ lw_all := lw_g (lw_at lw_m4 3 rfl) rfl
theorem q787 : (Jvm.Cond.instanceMethod ({ cls := "StoryColumns$Story", name := "number", desc := "()I" } : Jvm.MethodName)) ∈ lw_all := lw_g (lw_at lw_m4 9 rfl) rfl
theorem q788 : (Jvm.Cond.selects "StoryColumns$Story" ({ cls := "StoryColumns$Story", name := "number", desc := "()I" } : Jvm.MethodName) ({ cls := "StoryColumns$Story", name := "number", desc := "()I" } : Jvm.MethodName)) ∈ lw_all := lw_g (lw_at lw_m4 10 rfl) rfl
theorem q789 : (Jvm.Cond.code ({ cls := "StoryColumns$Story", name := "number", desc := "()I" } : Jvm.MethodName) prog_12_method_3_code (1 : Nat) (Option.some Jvm.ClassFile.FieldType.int)) ∈ lw_all := lw_g (lw_at lw_m4 11 rfl) rfl
theorem q790 : (Jvm.Cond.methodLink "StoryColumns$Story" (46 : Nat) ({ cls := "StoryColumns$Numbered", name := "number", desc := "()I" } : Jvm.MethodName)) ∈ lw_all := lw_g (lw_at lw_m4 12 rfl) rfl
theorem q799 : (Jvm.Cond.castable "StoryColumns$Story" "StoryColumns$Numbered") ∈ lw_tbl := lw_at lw_m4 21 rfl
theorem q800 : (Jvm.Cond.selects "StoryColumns$Story" ({ cls := "StoryColumns$Numbered", name := "first", desc := "()I" } : Jvm.MethodName) ({ cls := "StoryColumns$Story", name := "first", desc := "()I" } : Jvm.MethodName)) ∈ lw_all := lw_g (lw_at lw_m4 22 rfl) rfl
theorem q801 : (Jvm.Cond.unhidden "StoryColumns$Story" "first" "()I") ∈ lw_tbl := lw_at lw_m4 23 rfl
theorem q802 : (Jvm.Cond.instanceMethod ({ cls := "StoryColumns$Story", name := "first", desc := "()I" } : Jvm.MethodName)) ∈ lw_all := lw_g (lw_at lw_m4 24 rfl) rfl
theorem q803 : (Jvm.Cond.publicMethod ({ cls := "StoryColumns$Story", name := "first", desc := "()I" } : Jvm.MethodName)) ∈ lw_tbl := lw_at lw_m4 25 rfl
theorem q804 : (Jvm.Cond.code ({ cls := "StoryColumns$Story", name := "first", desc := "()I" } : Jvm.MethodName) prog_12_method_2_code (1 : Nat) (Option.some Jvm.ClassFile.FieldType.int)) ∈ lw_all := lw_g (lw_at lw_m4 26 rfl) rfl
theorem q810 : (Jvm.Cond.instanceMethod ({ cls := "StoryColumns$Story", name := "aim", desc := "()LStoryColumns$Story;" } : Jvm.MethodName)) ∈ lw_all := lw_g (lw_at lw_m4 32 rfl) rfl
theorem q811 : (Jvm.Cond.selects "StoryColumns$Story" ({ cls := "StoryColumns$Story", name := "aim", desc := "()LStoryColumns$Story;" } : Jvm.MethodName) ({ cls := "StoryColumns$Story", name := "aim", desc := "()LStoryColumns$Story;" } : Jvm.MethodName)) ∈ lw_all := lw_g (lw_at lw_m4 33 rfl) rfl
theorem q812 : (Jvm.Cond.code ({ cls := "StoryColumns$Story", name := "aim", desc := "()LStoryColumns$Story;" } : Jvm.MethodName) prog_12_method_10_code (5 : Nat) (Option.some (Jvm.ClassFile.FieldType.object "StoryColumns$Story"))) ∈ lw_all := lw_g (lw_at lw_m4 34 rfl) rfl
theorem q813 : (Jvm.Cond.methodLink "StoryColumns$Story" (110 : Nat) ({ cls := "StoryColumns$Story", name := "goer", desc := "()LStoryColumns$Block;" } : Jvm.MethodName)) ∈ lw_all := lw_g (lw_at lw_m4 35 rfl) rfl
theorem q814 : (Jvm.Cond.instanceMethod ({ cls := "StoryColumns$Story", name := "goer", desc := "()LStoryColumns$Block;" } : Jvm.MethodName)) ∈ lw_all := lw_g (lw_at lw_m4 36 rfl) rfl
theorem q815 : (Jvm.Cond.selects "StoryColumns$Story" ({ cls := "StoryColumns$Story", name := "goer", desc := "()LStoryColumns$Block;" } : Jvm.MethodName) ({ cls := "StoryColumns$Story", name := "goer", desc := "()LStoryColumns$Block;" } : Jvm.MethodName)) ∈ lw_all := lw_g (lw_at lw_m4 37 rfl) rfl
theorem q816 : (Jvm.Cond.code ({ cls := "StoryColumns$Story", name := "goer", desc := "()LStoryColumns$Block;" } : Jvm.MethodName) prog_12_method_9_code (4 : Nat) (Option.some (Jvm.ClassFile.FieldType.object "StoryColumns$Block"))) ∈ lw_all := lw_g (lw_at lw_m4 38 rfl) rfl
theorem q817 : (Jvm.Cond.interfaceEntry "StoryColumns$Story" (82 : Nat)) ∈ lw_tbl := lw_at lw_m4 39 rfl
theorem q818 : (Jvm.Cond.methodLink "StoryColumns$Story" (82 : Nat) ({ cls := "java/util/List", name := "iterator", desc := "()Ljava/util/Iterator;" } : Jvm.MethodName)) ∈ lw_all := lw_g (lw_at lw_m4 40 rfl) rfl
theorem q819 : (Jvm.Cond.interfaceEntry "StoryColumns$Story" (86 : Nat)) ∈ lw_tbl := lw_at lw_m4 41 rfl
theorem q820 : (Jvm.Cond.methodLink "StoryColumns$Story" (86 : Nat) ({ cls := "java/util/Iterator", name := "hasNext", desc := "()Z" } : Jvm.MethodName)) ∈ lw_all := lw_g (lw_at lw_m4 42 rfl) rfl
theorem q821 : (Jvm.Cond.interfaceEntry "StoryColumns$Story" (92 : Nat)) ∈ lw_tbl := lw_at lw_m4 43 rfl
theorem q822 : (Jvm.Cond.methodLink "StoryColumns$Story" (92 : Nat) ({ cls := "java/util/Iterator", name := "next", desc := "()Ljava/lang/Object;" } : Jvm.MethodName)) ∈ lw_all := lw_g (lw_at lw_m4 44 rfl) rfl
theorem q823 : (Jvm.Cond.methodLink "StoryColumns$Story" (123 : Nat) ({ cls := "StoryColumns$Mark", name := "is", desc := "(II)Z" } : Jvm.MethodName)) ∈ lw_all := lw_g (lw_at lw_m4 45 rfl) rfl
theorem q852 : (Jvm.Cond.instanceMethod ({ cls := "StoryColumns$Story", name := "words", desc := "()I" } : Jvm.MethodName)) ∈ lw_all := lw_g (lw_at lw_m4 74 rfl) rfl
theorem q853 : (Jvm.Cond.selects "StoryColumns$Story" ({ cls := "StoryColumns$Story", name := "words", desc := "()I" } : Jvm.MethodName) ({ cls := "StoryColumns$Story", name := "words", desc := "()I" } : Jvm.MethodName)) ∈ lw_all := lw_g (lw_at lw_m4 75 rfl) rfl
theorem q854 : (Jvm.Cond.code ({ cls := "StoryColumns$Story", name := "words", desc := "()I" } : Jvm.MethodName) prog_12_method_7_code (4 : Nat) (Option.some Jvm.ClassFile.FieldType.int)) ∈ lw_all := lw_g (lw_at lw_m4 76 rfl) rfl
theorem q856 : (Jvm.Cond.instanceMethod ({ cls := "StoryColumns$Story", name := "pictures", desc := "()I" } : Jvm.MethodName)) ∈ lw_all := lw_g (lw_at lw_m4 78 rfl) rfl
theorem q857 : (Jvm.Cond.selects "StoryColumns$Story" ({ cls := "StoryColumns$Story", name := "pictures", desc := "()I" } : Jvm.MethodName) ({ cls := "StoryColumns$Story", name := "pictures", desc := "()I" } : Jvm.MethodName)) ∈ lw_all := lw_g (lw_at lw_m4 79 rfl) rfl
theorem q858 : (Jvm.Cond.code ({ cls := "StoryColumns$Story", name := "pictures", desc := "()I" } : Jvm.MethodName) prog_12_method_8_code (4 : Nat) (Option.some Jvm.ClassFile.FieldType.int)) ∈ lw_all := lw_g (lw_at lw_m4 80 rfl) rfl
theorem q863 : (Jvm.Cond.instanceMethod ({ cls := "StoryColumns$Story", name := "isBroken", desc := "()Z" } : Jvm.MethodName)) ∈ lw_all := lw_g (lw_at lw_m4 85 rfl) rfl
theorem q864 : (Jvm.Cond.selects "StoryColumns$Story" ({ cls := "StoryColumns$Story", name := "isBroken", desc := "()Z" } : Jvm.MethodName) ({ cls := "StoryColumns$Story", name := "isBroken", desc := "()Z" } : Jvm.MethodName)) ∈ lw_all := lw_g (lw_at lw_m4 86 rfl) rfl
theorem q865 : (Jvm.Cond.code ({ cls := "StoryColumns$Story", name := "isBroken", desc := "()Z" } : Jvm.MethodName) prog_12_method_11_code (1 : Nat) (Option.some Jvm.ClassFile.FieldType.boolean)) ∈ lw_all := lw_g (lw_at lw_m4 87 rfl) rfl
theorem q881 : (Jvm.Cond.fieldLinkNest "StoryColumns$Story" (117 : Nat) "StoryColumns$Mark" "page" "I" "StoryColumns") ∈ lw_tbl := lw_at lw_m4 103 rfl
theorem q884 : (Jvm.Cond.fieldLinkNest "StoryColumns$Story" (120 : Nat) "StoryColumns$Mark" "word" "I" "StoryColumns") ∈ lw_tbl := lw_at lw_m4 106 rfl
theorem q1368 : (Jvm.Cond.castable "StoryColumns$Story" "java/lang/Object") ∈ lw_tbl := lw_at lw_m6 110 rfl
theorem in_X5 : ∀ w ∈ wsX50, w ∈ lw_all := lw_in wsX50 [710, 712, 714, 716, 718, 720, 722, 724] (by decide +kernel) (by decide +kernel)
/-! StoryColumns$Mark -/
set_option maxRecDepth 100000
def RX6 : String := "StoryColumns$Mark"
def TX6 : u_T := fun k => match k with
  | 0 => ("StoryColumns$Mark", "page", "I", true)
  | _ => ("StoryColumns$Mark", "word", "I", true)
def tyX6 : Nat → FieldType := fun k => match k with
  | 0 => .int
  | _ => .int
abbrev wsX60 : List Cond := u_ws RX6 TX6 2
theorem nmX6 : ∀ a, a < 2 → ∀ b, b < 2 → a ≠ b → (TX6 a).2.1 ≠ (TX6 b).2.1 := by decide +kernel
theorem tyX6_ok : ∀ k, k < 2 → parseFieldDescriptor (TX6 k).2.2.1 = some (tyX6 k) := by decide +kernel
abbrev cX6_is : ByteArray := prog_9_method_2_code
def yX6_is : MethodName := ⟨RX6, "is", "(II)Z"⟩
def dkwX6_is_0 : List UInt8 := [42, 180, 0, 7, 27, 160, 0, 15, 42, 180, 0, 13, 28, 160, 0, 7, 4, 167, 0, 4, 3, 172]
abbrev dktX6_is_0 : List UInt8 := dkwX6_is_0 ++ []
theorem dksX6_is_0 : cX6_is.data.toList.drop 0 = dktX6_is_0 := by decide +kernel
theorem dX6_is_0 : decode cX6_is 0 = .ok (.aload_n 0, 1) := dk_42 (dk_at dksX6_is_0 0 rfl rfl)
theorem dX6_is_1 : decode cX6_is 1 = .ok (.getfield 7, 3) := dk_180 0 7 (dk_at dksX6_is_0 1 rfl rfl)
theorem dX6_is_4 : decode cX6_is 4 = .ok (.iload_n 1, 1) := dk_27 (dk_at dksX6_is_0 4 rfl rfl)
theorem dX6_is_5 : decode cX6_is 5 = .ok (.if_icmp .ne 15, 3) := dk_160 0 15 (dk_at dksX6_is_0 5 rfl rfl)
theorem dX6_is_8 : decode cX6_is 8 = .ok (.aload_n 0, 1) := dk_42 (dk_at dksX6_is_0 8 rfl rfl)
theorem dX6_is_9 : decode cX6_is 9 = .ok (.getfield 13, 3) := dk_180 0 13 (dk_at dksX6_is_0 9 rfl rfl)
theorem dX6_is_12 : decode cX6_is 12 = .ok (.iload_n 2, 1) := dk_28 (dk_at dksX6_is_0 12 rfl rfl)
theorem dX6_is_13 : decode cX6_is 13 = .ok (.if_icmp .ne 7, 3) := dk_160 0 7 (dk_at dksX6_is_0 13 rfl rfl)
theorem dX6_is_16 : decode cX6_is 16 = .ok (.iconst 1, 1) := dk_4 (dk_at dksX6_is_0 16 rfl rfl)
theorem dX6_is_17 : decode cX6_is 17 = .ok (.goto 4, 3) := dk_167 0 4 (dk_at dksX6_is_0 17 rfl rfl)
theorem dX6_is_20 : decode cX6_is 20 = .ok (.iconst 0, 1) := dk_3 (dk_at dksX6_is_0 20 rfl rfl)
theorem dX6_is_21 : decode cX6_is 21 = .ok (.ireturn, 1) := dk_172 (dk_at dksX6_is_0 21 rfl rfl)
abbrev cX6_init : ByteArray := prog_9_method_1_code
def yX6_init : MethodName := ⟨RX6, "<init>", "(II)V"⟩
def dkwX6_init_0 : List UInt8 := [42, 183, 0, 1, 42, 27, 181, 0, 7, 42, 28, 181, 0, 13, 177]
abbrev dktX6_init_0 : List UInt8 := dkwX6_init_0 ++ []
theorem dksX6_init_0 : cX6_init.data.toList.drop 0 = dktX6_init_0 := by decide +kernel
theorem dX6_init_0 : decode cX6_init 0 = .ok (.aload_n 0, 1) := dk_42 (dk_at dksX6_init_0 0 rfl rfl)
theorem dX6_init_1 : decode cX6_init 1 = .ok (.invokespecial 1, 3) := dk_183 0 1 (dk_at dksX6_init_0 1 rfl rfl)
theorem dX6_init_4 : decode cX6_init 4 = .ok (.aload_n 0, 1) := dk_42 (dk_at dksX6_init_0 4 rfl rfl)
theorem dX6_init_5 : decode cX6_init 5 = .ok (.iload_n 1, 1) := dk_27 (dk_at dksX6_init_0 5 rfl rfl)
theorem dX6_init_6 : decode cX6_init 6 = .ok (.putfield 7, 3) := dk_181 0 7 (dk_at dksX6_init_0 6 rfl rfl)
theorem dX6_init_9 : decode cX6_init 9 = .ok (.aload_n 0, 1) := dk_42 (dk_at dksX6_init_0 9 rfl rfl)
theorem dX6_init_10 : decode cX6_init 10 = .ok (.iload_n 2, 1) := dk_28 (dk_at dksX6_init_0 10 rfl rfl)
theorem dX6_init_11 : decode cX6_init 11 = .ok (.putfield 13, 3) := dk_181 0 13 (dk_at dksX6_init_0 11 rfl rfl)
theorem dX6_init_14 : decode cX6_init 14 = .ok (.return_, 1) := dk_177 (dk_at dksX6_init_0 14 rfl rfl)
theorem q75 : (Jvm.Cond.initialized "StoryColumns$Mark") ∈ lw_all := lw_g (lw_at lw_m1 17 rfl) rfl
theorem q491 : (Jvm.Cond.selects "StoryColumns$Mark" ({ cls := "java/lang/Object", name := "getClass", desc := "()Ljava/lang/Class;" } : Jvm.MethodName) ({ cls := "java/lang/Object", name := "getClass", desc := "()Ljava/lang/Class;" } : Jvm.MethodName)) ∈ lw_all := lw_g (lw_at lw_m2 193 rfl) rfl
theorem q824 : (Jvm.Cond.instanceMethod ({ cls := "StoryColumns$Mark", name := "is", desc := "(II)Z" } : Jvm.MethodName)) ∈ lw_all := lw_g (lw_at lw_m4 46 rfl) rfl
theorem q825 : (Jvm.Cond.selects "StoryColumns$Mark" ({ cls := "StoryColumns$Mark", name := "is", desc := "(II)Z" } : Jvm.MethodName) ({ cls := "StoryColumns$Mark", name := "is", desc := "(II)Z" } : Jvm.MethodName)) ∈ lw_all := lw_g (lw_at lw_m4 47 rfl) rfl
theorem q826 : (Jvm.Cond.code ({ cls := "StoryColumns$Mark", name := "is", desc := "(II)Z" } : Jvm.MethodName) prog_9_method_2_code (3 : Nat) (Option.some Jvm.ClassFile.FieldType.boolean)) ∈ lw_all := lw_g (lw_at lw_m4 48 rfl) rfl
theorem q875 : (Jvm.Cond.instantiable "StoryColumns$Mark" (2 : Nat)) ∈ lw_all := lw_g (lw_at lw_m4 97 rfl) rfl
theorem q877 : (Jvm.Cond.instanceMethod ({ cls := "StoryColumns$Mark", name := "<init>", desc := "(II)V" } : Jvm.MethodName)) ∈ lw_all := lw_g (lw_at lw_m4 99 rfl) rfl
theorem q878 : (Jvm.Cond.code ({ cls := "StoryColumns$Mark", name := "<init>", desc := "(II)V" } : Jvm.MethodName) prog_9_method_1_code (3 : Nat) (Option.none : Option Jvm.ClassFile.FieldType)) ∈ lw_all := lw_g (lw_at lw_m4 100 rfl) rfl
theorem q879 : (Jvm.Cond.methodLink "StoryColumns$Mark" (1 : Nat) ({ cls := "java/lang/Object", name := "<init>", desc := "()V" } : Jvm.MethodName)) ∈ lw_all := lw_g (lw_at lw_m4 101 rfl) rfl
theorem q880 : (Jvm.Cond.fieldLink "StoryColumns$Mark" (7 : Nat) "StoryColumns$Mark" "page" "I") ∈ lw_all := lw_g (lw_at lw_m4 102 rfl) rfl
theorem q883 : (Jvm.Cond.fieldLink "StoryColumns$Mark" (13 : Nat) "StoryColumns$Mark" "word" "I") ∈ lw_all := lw_g (lw_at lw_m4 105 rfl) rfl
theorem q886 : (Jvm.Cond.laysFinal "StoryColumns$Mark" "StoryColumns$Mark" "page" "I") ∈ lw_all := lw_g (lw_at lw_m4 108 rfl) rfl
theorem q887 : (Jvm.Cond.soleField "StoryColumns$Mark" "page") ∈ lw_all := lw_g (lw_at lw_m4 109 rfl) rfl
theorem q888 : (Jvm.Cond.laysFinal "StoryColumns$Mark" "StoryColumns$Mark" "word" "I") ∈ lw_all := lw_g (lw_at lw_m4 110 rfl) rfl
theorem q889 : (Jvm.Cond.soleField "StoryColumns$Mark" "word") ∈ lw_all := lw_g (lw_at lw_m4 111 rfl) rfl
theorem q890 : (Jvm.Cond.superclass "StoryColumns$Mark" "java/lang/Object") ∈ lw_all := lw_g (lw_at lw_m4 112 rfl) rfl
theorem q1360 : (Jvm.Cond.castable "StoryColumns$Mark" "java/lang/Object") ∈ lw_tbl := lw_at lw_m6 102 rfl
theorem in_X6 : ∀ w ∈ wsX60, w ∈ lw_all := lw_in wsX60 [886, 888] (by decide +kernel) (by decide +kernel)
/-! StoryColumns$1Adding -/
set_option maxRecDepth 100000
def RX7 : String := "StoryColumns$1Adding"
def TX7 : u_T := fun k => match k with
  | 0 => ("StoryColumns$1Adding", "sum", "I", false)
  | 1 => ("StoryColumns$1Adding", "val$isOfWords", "Z", true)
  | 2 => ("StoryColumns$1Adding", "val$isOfTexts", "Z", true)
  | _ => ("StoryColumns$1Adding", "this$0", "LStoryColumns;", true)
def tyX7 : Nat → FieldType := fun k => match k with
  | 0 => .int
  | 1 => .boolean
  | 2 => .boolean
  | _ => .object "StoryColumns"
abbrev wsX70 : List Cond := u_ws RX7 TX7 4
theorem nmX7 : ∀ a, a < 4 → ∀ b, b < 4 → a ≠ b → (TX7 a).2.1 ≠ (TX7 b).2.1 := by decide +kernel
theorem tyX7_ok : ∀ k, k < 4 → parseFieldDescriptor (TX7 k).2.2.1 = some (tyX7 k) := by decide +kernel
abbrev cX7_init : ByteArray := prog_4_method_1_code
def yX7_init : MethodName := ⟨RX7, "<init>", "(LStoryColumns;ZZ)V"⟩
def dkwX7_init_0 : List UInt8 := [42, 43, 181, 0, 1, 42, 28, 181, 0, 7, 42, 29, 181, 0, 11, 42, 183, 0, 14, 177]
abbrev dktX7_init_0 : List UInt8 := dkwX7_init_0 ++ []
theorem dksX7_init_0 : cX7_init.data.toList.drop 0 = dktX7_init_0 := by decide +kernel
theorem dX7_init_0 : decode cX7_init 0 = .ok (.aload_n 0, 1) := dk_42 (dk_at dksX7_init_0 0 rfl rfl)
theorem dX7_init_1 : decode cX7_init 1 = .ok (.aload_n 1, 1) := dk_43 (dk_at dksX7_init_0 1 rfl rfl)
theorem dX7_init_2 : decode cX7_init 2 = .ok (.putfield 1, 3) := dk_181 0 1 (dk_at dksX7_init_0 2 rfl rfl)
theorem dX7_init_5 : decode cX7_init 5 = .ok (.aload_n 0, 1) := dk_42 (dk_at dksX7_init_0 5 rfl rfl)
theorem dX7_init_6 : decode cX7_init 6 = .ok (.iload_n 2, 1) := dk_28 (dk_at dksX7_init_0 6 rfl rfl)
theorem dX7_init_7 : decode cX7_init 7 = .ok (.putfield 7, 3) := dk_181 0 7 (dk_at dksX7_init_0 7 rfl rfl)
theorem dX7_init_10 : decode cX7_init 10 = .ok (.aload_n 0, 1) := dk_42 (dk_at dksX7_init_0 10 rfl rfl)
theorem dX7_init_11 : decode cX7_init 11 = .ok (.iload_n 3, 1) := dk_29 (dk_at dksX7_init_0 11 rfl rfl)
theorem dX7_init_12 : decode cX7_init 12 = .ok (.putfield 11, 3) := dk_181 0 11 (dk_at dksX7_init_0 12 rfl rfl)
theorem dX7_init_15 : decode cX7_init 15 = .ok (.aload_n 0, 1) := dk_42 (dk_at dksX7_init_0 15 rfl rfl)
theorem dX7_init_16 : decode cX7_init 16 = .ok (.invokespecial 14, 3) := dk_183 0 14 (dk_at dksX7_init_0 16 rfl rfl)
theorem dX7_init_19 : decode cX7_init 19 = .ok (.return_, 1) := dk_177 (dk_at dksX7_init_0 19 rfl rfl)
abbrev cX7_adds : ByteArray := prog_4_method_2_code
def yX7_adds : MethodName := ⟨RX7, "adds", "(LStoryColumns$Story;)V"⟩
def dkwX7_adds_1 : List UInt8 := [153, 0, 15, 43, 180, 0, 30, 185, 0, 34, 1, 0, 167, 0, 4, 4, 96, 181, 0, 20, 177]
abbrev dktX7_adds_1 : List UInt8 := dkwX7_adds_1 ++ []
def dkwX7_adds_0 : List UInt8 := [42, 89, 180, 0, 20, 42, 180, 0, 7, 153, 0, 10, 43, 182, 0, 24, 167, 0, 23, 42, 180, 0, 11]
abbrev dktX7_adds_0 : List UInt8 := dkwX7_adds_0 ++ dktX7_adds_1
theorem dksX7_adds_0 : cX7_adds.data.toList.drop 0 = dktX7_adds_0 := by decide +kernel
theorem dksX7_adds_1 : cX7_adds.data.toList.drop 23 = dktX7_adds_1 := dk_seg dksX7_adds_0 23 rfl rfl
theorem dX7_adds_0 : decode cX7_adds 0 = .ok (.aload_n 0, 1) := dk_42 (dk_at dksX7_adds_0 0 rfl rfl)
theorem dX7_adds_1 : decode cX7_adds 1 = .ok (.dup, 1) := dk_89 (dk_at dksX7_adds_0 1 rfl rfl)
theorem dX7_adds_2 : decode cX7_adds 2 = .ok (.getfield 20, 3) := dk_180 0 20 (dk_at dksX7_adds_0 2 rfl rfl)
theorem dX7_adds_5 : decode cX7_adds 5 = .ok (.aload_n 0, 1) := dk_42 (dk_at dksX7_adds_0 5 rfl rfl)
theorem dX7_adds_6 : decode cX7_adds 6 = .ok (.getfield 7, 3) := dk_180 0 7 (dk_at dksX7_adds_0 6 rfl rfl)
theorem dX7_adds_9 : decode cX7_adds 9 = .ok (.ifCond .eq 10, 3) := dk_153 0 10 (dk_at dksX7_adds_0 9 rfl rfl)
theorem dX7_adds_12 : decode cX7_adds 12 = .ok (.aload_n 1, 1) := dk_43 (dk_at dksX7_adds_0 12 rfl rfl)
theorem dX7_adds_13 : decode cX7_adds 13 = .ok (.invokevirtual 24, 3) := dk_182 0 24 (dk_at dksX7_adds_0 13 rfl rfl)
theorem dX7_adds_16 : decode cX7_adds 16 = .ok (.goto 23, 3) := dk_167 0 23 (dk_at dksX7_adds_0 16 rfl rfl)
theorem dX7_adds_19 : decode cX7_adds 19 = .ok (.aload_n 0, 1) := dk_42 (dk_at dksX7_adds_0 19 rfl rfl)
theorem dX7_adds_20 : decode cX7_adds 20 = .ok (.getfield 11, 3) := dk_180 0 11 (dk_at dksX7_adds_0 20 rfl rfl)
theorem dX7_adds_23 : decode cX7_adds 23 = .ok (.ifCond .eq 15, 3) := dk_153 0 15 (dk_at dksX7_adds_1 0 rfl rfl)
theorem dX7_adds_26 : decode cX7_adds 26 = .ok (.aload_n 1, 1) := dk_43 (dk_at dksX7_adds_1 3 rfl rfl)
theorem dX7_adds_27 : decode cX7_adds 27 = .ok (.getfield 30, 3) := dk_180 0 30 (dk_at dksX7_adds_1 4 rfl rfl)
theorem dX7_adds_30 : decode cX7_adds 30 = .ok (.invokeinterface 34 1, 5) := by decide +kernel
theorem dX7_adds_35 : decode cX7_adds 35 = .ok (.goto 4, 3) := dk_167 0 4 (dk_at dksX7_adds_1 12 rfl rfl)
theorem dX7_adds_38 : decode cX7_adds 38 = .ok (.iconst 1, 1) := dk_4 (dk_at dksX7_adds_1 15 rfl rfl)
theorem dX7_adds_39 : decode cX7_adds 39 = .ok (.iadd, 1) := dk_96 (dk_at dksX7_adds_1 16 rfl rfl)
theorem dX7_adds_40 : decode cX7_adds 40 = .ok (.putfield 20, 3) := dk_181 0 20 (dk_at dksX7_adds_1 17 rfl rfl)
theorem dX7_adds_43 : decode cX7_adds 43 = .ok (.return_, 1) := dk_177 (dk_at dksX7_adds_1 20 rfl rfl)
theorem q76 : (Jvm.Cond.initialized "StoryColumns$1Adding") ∈ lw_all := lw_g (lw_at lw_m1 18 rfl) rfl
theorem q487 : (Jvm.Cond.selects "StoryColumns$1Adding" ({ cls := "java/lang/Object", name := "getClass", desc := "()Ljava/lang/Class;" } : Jvm.MethodName) ({ cls := "java/lang/Object", name := "getClass", desc := "()Ljava/lang/Class;" } : Jvm.MethodName)) ∈ lw_all := lw_g (lw_at lw_m2 189 rfl) rfl
theorem q698 : (Jvm.Cond.fieldLinkNest "StoryColumns$1Adding" (30 : Nat) "StoryColumns$Story" "texts" "Ljava/util/List;" "StoryColumns") ∈ lw_tbl := lw_at lw_m3 160 rfl
theorem q912 : (Jvm.Cond.instantiable "StoryColumns$1Adding" (4 : Nat)) ∈ lw_all := lw_g (lw_at lw_m4 134 rfl) rfl
theorem q914 : (Jvm.Cond.instanceMethod ({ cls := "StoryColumns$1Adding", name := "<init>", desc := "(LStoryColumns;ZZ)V" } : Jvm.MethodName)) ∈ lw_all := lw_g (lw_at lw_m4 136 rfl) rfl
theorem q915 : (Jvm.Cond.code ({ cls := "StoryColumns$1Adding", name := "<init>", desc := "(LStoryColumns;ZZ)V" } : Jvm.MethodName) prog_4_method_1_code (4 : Nat) (Option.none : Option Jvm.ClassFile.FieldType)) ∈ lw_all := lw_g (lw_at lw_m4 137 rfl) rfl
theorem q916 : (Jvm.Cond.methodLink "StoryColumns$1Adding" (14 : Nat) ({ cls := "java/lang/Object", name := "<init>", desc := "()V" } : Jvm.MethodName)) ∈ lw_all := lw_g (lw_at lw_m4 138 rfl) rfl
theorem q917 : (Jvm.Cond.fieldLink "StoryColumns$1Adding" (20 : Nat) "StoryColumns$1Adding" "sum" "I") ∈ lw_all := lw_g (lw_at lw_m4 139 rfl) rfl
theorem q919 : (Jvm.Cond.fieldLink "StoryColumns$1Adding" (7 : Nat) "StoryColumns$1Adding" "val$isOfWords" "Z") ∈ lw_all := lw_g (lw_at lw_m4 141 rfl) rfl
theorem q920 : (Jvm.Cond.fieldLink "StoryColumns$1Adding" (11 : Nat) "StoryColumns$1Adding" "val$isOfTexts" "Z") ∈ lw_all := lw_g (lw_at lw_m4 142 rfl) rfl
theorem q921 : (Jvm.Cond.fieldLink "StoryColumns$1Adding" (1 : Nat) "StoryColumns$1Adding" "this$0" "LStoryColumns;") ∈ lw_all := lw_g (lw_at lw_m4 143 rfl) rfl
theorem q922 : (Jvm.Cond.lays "StoryColumns$1Adding" "StoryColumns$1Adding" "sum" "I") ∈ lw_all := lw_g (lw_at lw_m4 144 rfl) rfl
theorem q923 : (Jvm.Cond.soleField "StoryColumns$1Adding" "sum") ∈ lw_all := lw_g (lw_at lw_m4 145 rfl) rfl
theorem q924 : (Jvm.Cond.laysFinal "StoryColumns$1Adding" "StoryColumns$1Adding" "val$isOfWords" "Z") ∈ lw_all := lw_g (lw_at lw_m4 146 rfl) rfl
theorem q925 : (Jvm.Cond.soleField "StoryColumns$1Adding" "val$isOfWords") ∈ lw_all := lw_g (lw_at lw_m4 147 rfl) rfl
theorem q926 : (Jvm.Cond.laysFinal "StoryColumns$1Adding" "StoryColumns$1Adding" "val$isOfTexts" "Z") ∈ lw_all := lw_g (lw_at lw_m4 148 rfl) rfl
theorem q927 : (Jvm.Cond.soleField "StoryColumns$1Adding" "val$isOfTexts") ∈ lw_all := lw_g (lw_at lw_m4 149 rfl) rfl
theorem q928 : (Jvm.Cond.laysFinal "StoryColumns$1Adding" "StoryColumns$1Adding" "this$0" "LStoryColumns;") ∈ lw_all := lw_g (lw_at lw_m4 150 rfl) rfl
theorem q929 : (Jvm.Cond.soleField "StoryColumns$1Adding" "this$0") ∈ lw_all := lw_g (lw_at lw_m4 151 rfl) rfl
theorem q930 : (Jvm.Cond.superclass "StoryColumns$1Adding" "java/lang/Object") ∈ lw_all := lw_g (lw_at lw_m4 152 rfl) rfl
theorem q975 : (Jvm.Cond.instanceMethod ({ cls := "StoryColumns$1Adding", name := "adds", desc := "(LStoryColumns$Story;)V" } : Jvm.MethodName)) ∈ lw_all := lw_g (lw_at lw_m4 197 rfl) rfl
theorem q976 : (Jvm.Cond.selects "StoryColumns$1Adding" ({ cls := "StoryColumns$1Adding", name := "adds", desc := "(LStoryColumns$Story;)V" } : Jvm.MethodName) ({ cls := "StoryColumns$1Adding", name := "adds", desc := "(LStoryColumns$Story;)V" } : Jvm.MethodName)) ∈ lw_all := lw_g (lw_at lw_m4 198 rfl) rfl
theorem q977 : (Jvm.Cond.code ({ cls := "StoryColumns$1Adding", name := "adds", desc := "(LStoryColumns$Story;)V" } : Jvm.MethodName) prog_4_method_2_code (2 : Nat) (Option.none : Option Jvm.ClassFile.FieldType)) ∈ lw_all := lw_g (lw_at lw_m4 199 rfl) rfl
theorem q978 : (Jvm.Cond.methodLink "StoryColumns$1Adding" (24 : Nat) ({ cls := "StoryColumns$Story", name := "words", desc := "()I" } : Jvm.MethodName)) ∈ lw_all := lw_g (lw_at lw_m4 200 rfl) rfl
theorem q979 : (Jvm.Cond.interfaceEntry "StoryColumns$1Adding" (34 : Nat)) ∈ lw_tbl := lw_at lw_m4 201 rfl
theorem q980 : (Jvm.Cond.methodLink "StoryColumns$1Adding" (34 : Nat) ({ cls := "java/util/List", name := "size", desc := "()I" } : Jvm.MethodName)) ∈ lw_all := lw_g (lw_at lw_m4 202 rfl) rfl
theorem q1369 : (Jvm.Cond.castable "StoryColumns$1Adding" "java/lang/Object") ∈ lw_tbl := lw_at lw_m6 111 rfl
theorem in_X7 : ∀ w ∈ wsX70, w ∈ lw_all := lw_in wsX70 [922, 924, 926, 928] (by decide +kernel) (by decide +kernel)
/-! StoryColumns$1 -/
set_option maxRecDepth 100000
def RX8 : String := "StoryColumns$1"
def TX8 : u_T := fun k => match k with
  | 0 => ("StoryColumns$1", "val$from", "LStoryColumns$Story;", true)
  | _ => ("StoryColumns$1", "this$0", "LStoryColumns;", true)
def tyX8 : Nat → FieldType := fun k => match k with
  | 0 => .object "StoryColumns$Story"
  | _ => .object "StoryColumns"
abbrev wsX80 : List Cond := u_ws RX8 TX8 2
theorem nmX8 : ∀ a, a < 2 → ∀ b, b < 2 → a ≠ b → (TX8 a).2.1 ≠ (TX8 b).2.1 := by decide +kernel
theorem tyX8_ok : ∀ k, k < 2 → parseFieldDescriptor (TX8 k).2.2.1 = some (tyX8 k) := by decide +kernel
abbrev cX8_init : ByteArray := prog_2_method_1_code
def yX8_init : MethodName := ⟨RX8, "<init>", "(LStoryColumns;LStoryColumns$Story;)V"⟩
def dkwX8_init_0 : List UInt8 := [42, 43, 181, 0, 1, 42, 44, 181, 0, 7, 42, 183, 0, 11, 177]
abbrev dktX8_init_0 : List UInt8 := dkwX8_init_0 ++ []
theorem dksX8_init_0 : cX8_init.data.toList.drop 0 = dktX8_init_0 := by decide +kernel
theorem dX8_init_0 : decode cX8_init 0 = .ok (.aload_n 0, 1) := dk_42 (dk_at dksX8_init_0 0 rfl rfl)
theorem dX8_init_1 : decode cX8_init 1 = .ok (.aload_n 1, 1) := dk_43 (dk_at dksX8_init_0 1 rfl rfl)
theorem dX8_init_2 : decode cX8_init 2 = .ok (.putfield 1, 3) := dk_181 0 1 (dk_at dksX8_init_0 2 rfl rfl)
theorem dX8_init_5 : decode cX8_init 5 = .ok (.aload_n 0, 1) := dk_42 (dk_at dksX8_init_0 5 rfl rfl)
theorem dX8_init_6 : decode cX8_init 6 = .ok (.aload_n 2, 1) := dk_44 (dk_at dksX8_init_0 6 rfl rfl)
theorem dX8_init_7 : decode cX8_init 7 = .ok (.putfield 7, 3) := dk_181 0 7 (dk_at dksX8_init_0 7 rfl rfl)
theorem dX8_init_10 : decode cX8_init 10 = .ok (.aload_n 0, 1) := dk_42 (dk_at dksX8_init_0 10 rfl rfl)
theorem dX8_init_11 : decode cX8_init 11 = .ok (.invokespecial 11, 3) := dk_183 0 11 (dk_at dksX8_init_0 11 rfl rfl)
theorem dX8_init_14 : decode cX8_init 14 = .ok (.return_, 1) := dk_177 (dk_at dksX8_init_0 14 rfl rfl)
abbrev cX8_iterator : ByteArray := prog_2_method_2_code
def yX8_iterator : MethodName := ⟨RX8, "iterator", "()Ljava/util/Iterator;"⟩
def dkwX8_iterator_0 : List UInt8 := [187, 0, 17, 89, 42, 183, 0, 19, 176]
abbrev dktX8_iterator_0 : List UInt8 := dkwX8_iterator_0 ++ []
theorem dksX8_iterator_0 : cX8_iterator.data.toList.drop 0 = dktX8_iterator_0 := by decide +kernel
theorem dX8_iterator_0 : decode cX8_iterator 0 = .ok (.new 17, 3) := dk_187 0 17 (dk_at dksX8_iterator_0 0 rfl rfl)
theorem dX8_iterator_3 : decode cX8_iterator 3 = .ok (.dup, 1) := dk_89 (dk_at dksX8_iterator_0 3 rfl rfl)
theorem dX8_iterator_4 : decode cX8_iterator 4 = .ok (.aload_n 0, 1) := dk_42 (dk_at dksX8_iterator_0 4 rfl rfl)
theorem dX8_iterator_5 : decode cX8_iterator 5 = .ok (.invokespecial 19, 3) := dk_183 0 19 (dk_at dksX8_iterator_0 5 rfl rfl)
theorem dX8_iterator_8 : decode cX8_iterator 8 = .ok (.areturn, 1) := dk_176 (dk_at dksX8_iterator_0 8 rfl rfl)
theorem q77 : (Jvm.Cond.initialized "StoryColumns$1") ∈ lw_all := lw_g (lw_at lw_m1 19 rfl) rfl
theorem q485 : (Jvm.Cond.selects "StoryColumns$1" ({ cls := "java/lang/Object", name := "getClass", desc := "()Ljava/lang/Class;" } : Jvm.MethodName) ({ cls := "java/lang/Object", name := "getClass", desc := "()Ljava/lang/Class;" } : Jvm.MethodName)) ∈ lw_all := lw_g (lw_at lw_m2 187 rfl) rfl
theorem q936 : (Jvm.Cond.instantiable "StoryColumns$1" (2 : Nat)) ∈ lw_all := lw_g (lw_at lw_m4 158 rfl) rfl
theorem q938 : (Jvm.Cond.instanceMethod ({ cls := "StoryColumns$1", name := "<init>", desc := "(LStoryColumns;LStoryColumns$Story;)V" } : Jvm.MethodName)) ∈ lw_all := lw_g (lw_at lw_m4 160 rfl) rfl
theorem q939 : (Jvm.Cond.code ({ cls := "StoryColumns$1", name := "<init>", desc := "(LStoryColumns;LStoryColumns$Story;)V" } : Jvm.MethodName) prog_2_method_1_code (3 : Nat) (Option.none : Option Jvm.ClassFile.FieldType)) ∈ lw_all := lw_g (lw_at lw_m4 161 rfl) rfl
theorem q940 : (Jvm.Cond.methodLink "StoryColumns$1" (11 : Nat) ({ cls := "java/lang/Object", name := "<init>", desc := "()V" } : Jvm.MethodName)) ∈ lw_all := lw_g (lw_at lw_m4 162 rfl) rfl
theorem q941 : (Jvm.Cond.fieldLink "StoryColumns$1" (7 : Nat) "StoryColumns$1" "val$from" "LStoryColumns$Story;") ∈ lw_all := lw_g (lw_at lw_m4 163 rfl) rfl
theorem q943 : (Jvm.Cond.fieldLink "StoryColumns$1" (1 : Nat) "StoryColumns$1" "this$0" "LStoryColumns;") ∈ lw_all := lw_g (lw_at lw_m4 165 rfl) rfl
theorem q944 : (Jvm.Cond.laysFinal "StoryColumns$1" "StoryColumns$1" "val$from" "LStoryColumns$Story;") ∈ lw_all := lw_g (lw_at lw_m4 166 rfl) rfl
theorem q945 : (Jvm.Cond.soleField "StoryColumns$1" "val$from") ∈ lw_all := lw_g (lw_at lw_m4 167 rfl) rfl
theorem q946 : (Jvm.Cond.laysFinal "StoryColumns$1" "StoryColumns$1" "this$0" "LStoryColumns;") ∈ lw_all := lw_g (lw_at lw_m4 168 rfl) rfl
theorem q947 : (Jvm.Cond.soleField "StoryColumns$1" "this$0") ∈ lw_all := lw_g (lw_at lw_m4 169 rfl) rfl
theorem q948 : (Jvm.Cond.superclass "StoryColumns$1" "java/lang/Object") ∈ lw_all := lw_g (lw_at lw_m4 170 rfl) rfl
theorem q953 : (Jvm.Cond.castable "StoryColumns$1" "java/lang/Iterable") ∈ lw_tbl := lw_at lw_m4 175 rfl
theorem q954 : (Jvm.Cond.selects "StoryColumns$1" ({ cls := "java/lang/Iterable", name := "iterator", desc := "()Ljava/util/Iterator;" } : Jvm.MethodName) ({ cls := "StoryColumns$1", name := "iterator", desc := "()Ljava/util/Iterator;" } : Jvm.MethodName)) ∈ lw_all := lw_g (lw_at lw_m4 176 rfl) rfl
theorem q955 : (Jvm.Cond.unhidden "StoryColumns$1" "iterator" "()Ljava/util/Iterator;") ∈ lw_tbl := lw_at lw_m4 177 rfl
theorem q956 : (Jvm.Cond.instanceMethod ({ cls := "StoryColumns$1", name := "iterator", desc := "()Ljava/util/Iterator;" } : Jvm.MethodName)) ∈ lw_all := lw_g (lw_at lw_m4 178 rfl) rfl
theorem q957 : (Jvm.Cond.publicMethod ({ cls := "StoryColumns$1", name := "iterator", desc := "()Ljava/util/Iterator;" } : Jvm.MethodName)) ∈ lw_tbl := lw_at lw_m4 179 rfl
theorem q958 : (Jvm.Cond.code ({ cls := "StoryColumns$1", name := "iterator", desc := "()Ljava/util/Iterator;" } : Jvm.MethodName) prog_2_method_2_code (1 : Nat) (Option.some (Jvm.ClassFile.FieldType.object "java/util/Iterator"))) ∈ lw_all := lw_g (lw_at lw_m4 180 rfl) rfl
theorem q959 : (Jvm.Cond.classLink "StoryColumns$1" (17 : Nat) "StoryColumns$1$1") ∈ lw_all := lw_g (lw_at lw_m4 181 rfl) rfl
theorem q961 : (Jvm.Cond.methodLink "StoryColumns$1" (19 : Nat) ({ cls := "StoryColumns$1$1", name := "<init>", desc := "(LStoryColumns$1;)V" } : Jvm.MethodName)) ∈ lw_all := lw_g (lw_at lw_m4 183 rfl) rfl
theorem q1370 : (Jvm.Cond.castable "StoryColumns$1" "java/lang/Object") ∈ lw_tbl := lw_at lw_m6 112 rfl
theorem in_X8 : ∀ w ∈ wsX80, w ∈ lw_all := lw_in wsX80 [944, 946] (by decide +kernel) (by decide +kernel)
/-! StoryColumns$1$1 -/
set_option maxRecDepth 100000
def RX9 : String := "StoryColumns$1$1"
def TX9 : u_T := fun k => match k with
  | 0 => ("StoryColumns$1$1", "at", "LStoryColumns$Story;", false)
  | _ => ("StoryColumns$1$1", "this$1", "LStoryColumns$1;", true)
def tyX9 : Nat → FieldType := fun k => match k with
  | 0 => .object "StoryColumns$Story"
  | _ => .object "StoryColumns$1"
abbrev wsX90 : List Cond := u_ws RX9 TX9 2
theorem nmX9 : ∀ a, a < 2 → ∀ b, b < 2 → a ≠ b → (TX9 a).2.1 ≠ (TX9 b).2.1 := by decide +kernel
theorem tyX9_ok : ∀ k, k < 2 → parseFieldDescriptor (TX9 k).2.2.1 = some (tyX9 k) := by decide +kernel
abbrev cX9_hasNext : ByteArray := prog_3_method_2_code
def yX9_hasNext : MethodName := ⟨RX9, "hasNext", "()Z"⟩
def dkwX9_hasNext_0 : List UInt8 := [42, 180, 0, 19, 198, 0, 7, 4, 167, 0, 4, 3, 172]
abbrev dktX9_hasNext_0 : List UInt8 := dkwX9_hasNext_0 ++ []
theorem dksX9_hasNext_0 : cX9_hasNext.data.toList.drop 0 = dktX9_hasNext_0 := by decide +kernel
theorem dX9_hasNext_0 : decode cX9_hasNext 0 = .ok (.aload_n 0, 1) := dk_42 (dk_at dksX9_hasNext_0 0 rfl rfl)
theorem dX9_hasNext_1 : decode cX9_hasNext 1 = .ok (.getfield 19, 3) := dk_180 0 19 (dk_at dksX9_hasNext_0 1 rfl rfl)
theorem dX9_hasNext_4 : decode cX9_hasNext 4 = .ok (.ifnull 7, 3) := dk_198 0 7 (dk_at dksX9_hasNext_0 4 rfl rfl)
theorem dX9_hasNext_7 : decode cX9_hasNext 7 = .ok (.iconst 1, 1) := dk_4 (dk_at dksX9_hasNext_0 7 rfl rfl)
theorem dX9_hasNext_8 : decode cX9_hasNext 8 = .ok (.goto 4, 3) := dk_167 0 4 (dk_at dksX9_hasNext_0 8 rfl rfl)
theorem dX9_hasNext_11 : decode cX9_hasNext 11 = .ok (.iconst 0, 1) := dk_3 (dk_at dksX9_hasNext_0 11 rfl rfl)
theorem dX9_hasNext_12 : decode cX9_hasNext 12 = .ok (.ireturn, 1) := dk_172 (dk_at dksX9_hasNext_0 12 rfl rfl)
abbrev cX9_next : ByteArray := prog_3_method_4_code
def yX9_next : MethodName := ⟨RX9, "next", "()Ljava/lang/Object;"⟩
theorem dX9_next_0 : decode cX9_next 0 = .ok (.aload_n 0, 1) := by decide +kernel
theorem dX9_next_1 : decode cX9_next 1 = .ok (.invokevirtual 27, 3) := by decide +kernel
theorem dX9_next_4 : decode cX9_next 4 = .ok (.areturn, 1) := by decide +kernel
abbrev cX9_next_2 : ByteArray := prog_3_method_3_code
def yX9_next_2 : MethodName := ⟨RX9, "next", "()LStoryColumns$Story;"⟩
def dkwX9_next_2_1 : List UInt8 := [167, 0, 10, 42, 180, 0, 19, 180, 0, 22, 181, 0, 19, 43, 176]
abbrev dktX9_next_2_1 : List UInt8 := dkwX9_next_2_1 ++ []
def dkwX9_next_2_0 : List UInt8 := [42, 180, 0, 19, 76, 42, 42, 180, 0, 19, 180, 0, 22, 42, 180, 0, 1, 180, 0, 13, 166, 0, 7, 1]
abbrev dktX9_next_2_0 : List UInt8 := dkwX9_next_2_0 ++ dktX9_next_2_1
theorem dksX9_next_2_0 : cX9_next_2.data.toList.drop 0 = dktX9_next_2_0 := by decide +kernel
theorem dksX9_next_2_1 : cX9_next_2.data.toList.drop 24 = dktX9_next_2_1 := dk_seg dksX9_next_2_0 24 rfl rfl
theorem dX9_next_2_0 : decode cX9_next_2 0 = .ok (.aload_n 0, 1) := dk_42 (dk_at dksX9_next_2_0 0 rfl rfl)
theorem dX9_next_2_1 : decode cX9_next_2 1 = .ok (.getfield 19, 3) := dk_180 0 19 (dk_at dksX9_next_2_0 1 rfl rfl)
theorem dX9_next_2_4 : decode cX9_next_2 4 = .ok (.astore_n 1, 1) := dk_76 (dk_at dksX9_next_2_0 4 rfl rfl)
theorem dX9_next_2_5 : decode cX9_next_2 5 = .ok (.aload_n 0, 1) := dk_42 (dk_at dksX9_next_2_0 5 rfl rfl)
theorem dX9_next_2_6 : decode cX9_next_2 6 = .ok (.aload_n 0, 1) := dk_42 (dk_at dksX9_next_2_0 6 rfl rfl)
theorem dX9_next_2_7 : decode cX9_next_2 7 = .ok (.getfield 19, 3) := dk_180 0 19 (dk_at dksX9_next_2_0 7 rfl rfl)
theorem dX9_next_2_10 : decode cX9_next_2 10 = .ok (.getfield 22, 3) := dk_180 0 22 (dk_at dksX9_next_2_0 10 rfl rfl)
theorem dX9_next_2_13 : decode cX9_next_2 13 = .ok (.aload_n 0, 1) := dk_42 (dk_at dksX9_next_2_0 13 rfl rfl)
theorem dX9_next_2_14 : decode cX9_next_2 14 = .ok (.getfield 1, 3) := dk_180 0 1 (dk_at dksX9_next_2_0 14 rfl rfl)
theorem dX9_next_2_17 : decode cX9_next_2 17 = .ok (.getfield 13, 3) := dk_180 0 13 (dk_at dksX9_next_2_0 17 rfl rfl)
theorem dX9_next_2_20 : decode cX9_next_2 20 = .ok (.if_acmp .ne 7, 3) := dk_166 0 7 (dk_at dksX9_next_2_0 20 rfl rfl)
theorem dX9_next_2_23 : decode cX9_next_2 23 = .ok (.aconst_null, 1) := dk_1 (dk_at dksX9_next_2_0 23 rfl rfl)
theorem dX9_next_2_24 : decode cX9_next_2 24 = .ok (.goto 10, 3) := dk_167 0 10 (dk_at dksX9_next_2_1 0 rfl rfl)
theorem dX9_next_2_27 : decode cX9_next_2 27 = .ok (.aload_n 0, 1) := dk_42 (dk_at dksX9_next_2_1 3 rfl rfl)
theorem dX9_next_2_28 : decode cX9_next_2 28 = .ok (.getfield 19, 3) := dk_180 0 19 (dk_at dksX9_next_2_1 4 rfl rfl)
theorem dX9_next_2_31 : decode cX9_next_2 31 = .ok (.getfield 22, 3) := dk_180 0 22 (dk_at dksX9_next_2_1 7 rfl rfl)
theorem dX9_next_2_34 : decode cX9_next_2 34 = .ok (.putfield 19, 3) := dk_181 0 19 (dk_at dksX9_next_2_1 10 rfl rfl)
theorem dX9_next_2_37 : decode cX9_next_2 37 = .ok (.aload_n 1, 1) := dk_43 (dk_at dksX9_next_2_1 13 rfl rfl)
theorem dX9_next_2_38 : decode cX9_next_2 38 = .ok (.areturn, 1) := dk_176 (dk_at dksX9_next_2_1 14 rfl rfl)
abbrev cX9_init : ByteArray := prog_3_method_1_code
def yX9_init : MethodName := ⟨RX9, "<init>", "(LStoryColumns$1;)V"⟩
def dkwX9_init_0 : List UInt8 := [42, 43, 181, 0, 1, 42, 183, 0, 7, 42, 42, 180, 0, 1, 180, 0, 13, 181, 0, 19, 177]
abbrev dktX9_init_0 : List UInt8 := dkwX9_init_0 ++ []
theorem dksX9_init_0 : cX9_init.data.toList.drop 0 = dktX9_init_0 := by decide +kernel
theorem dX9_init_0 : decode cX9_init 0 = .ok (.aload_n 0, 1) := dk_42 (dk_at dksX9_init_0 0 rfl rfl)
theorem dX9_init_1 : decode cX9_init 1 = .ok (.aload_n 1, 1) := dk_43 (dk_at dksX9_init_0 1 rfl rfl)
theorem dX9_init_2 : decode cX9_init 2 = .ok (.putfield 1, 3) := dk_181 0 1 (dk_at dksX9_init_0 2 rfl rfl)
theorem dX9_init_5 : decode cX9_init 5 = .ok (.aload_n 0, 1) := dk_42 (dk_at dksX9_init_0 5 rfl rfl)
theorem dX9_init_6 : decode cX9_init 6 = .ok (.invokespecial 7, 3) := dk_183 0 7 (dk_at dksX9_init_0 6 rfl rfl)
theorem dX9_init_9 : decode cX9_init 9 = .ok (.aload_n 0, 1) := dk_42 (dk_at dksX9_init_0 9 rfl rfl)
theorem dX9_init_10 : decode cX9_init 10 = .ok (.aload_n 0, 1) := dk_42 (dk_at dksX9_init_0 10 rfl rfl)
theorem dX9_init_11 : decode cX9_init 11 = .ok (.getfield 1, 3) := dk_180 0 1 (dk_at dksX9_init_0 11 rfl rfl)
theorem dX9_init_14 : decode cX9_init 14 = .ok (.getfield 13, 3) := dk_180 0 13 (dk_at dksX9_init_0 14 rfl rfl)
theorem dX9_init_17 : decode cX9_init 17 = .ok (.putfield 19, 3) := dk_181 0 19 (dk_at dksX9_init_0 17 rfl rfl)
theorem dX9_init_20 : decode cX9_init 20 = .ok (.return_, 1) := dk_177 (dk_at dksX9_init_0 20 rfl rfl)
theorem q78 : (Jvm.Cond.initialized "StoryColumns$1$1") ∈ lw_all := lw_g (lw_at lw_m1 20 rfl) rfl
theorem q301 : (Jvm.Cond.castable "StoryColumns$1$1" "java/util/Iterator") ∈ lw_tbl := lw_at lw_m2 3 rfl
theorem q302 : (Jvm.Cond.selects "StoryColumns$1$1" ({ cls := "java/util/Iterator", name := "hasNext", desc := "()Z" } : Jvm.MethodName) ({ cls := "StoryColumns$1$1", name := "hasNext", desc := "()Z" } : Jvm.MethodName)) ∈ lw_all := lw_g (lw_at lw_m2 4 rfl) rfl
theorem q303 : (Jvm.Cond.unhidden "StoryColumns$1$1" "hasNext" "()Z") ∈ lw_tbl := lw_at lw_m2 5 rfl
theorem q304 : (Jvm.Cond.instanceMethod ({ cls := "StoryColumns$1$1", name := "hasNext", desc := "()Z" } : Jvm.MethodName)) ∈ lw_all := lw_g (lw_at lw_m2 6 rfl) rfl
theorem q305 : (Jvm.Cond.publicMethod ({ cls := "StoryColumns$1$1", name := "hasNext", desc := "()Z" } : Jvm.MethodName)) ∈ lw_tbl := lw_at lw_m2 7 rfl
theorem q306 : (Jvm.Cond.code ({ cls := "StoryColumns$1$1", name := "hasNext", desc := "()Z" } : Jvm.MethodName) prog_3_method_2_code (1 : Nat) (Option.some Jvm.ClassFile.FieldType.boolean)) ∈ lw_all := lw_g (lw_at lw_m2 8 rfl) rfl
theorem q332 : (Jvm.Cond.selects "StoryColumns$1$1" ({ cls := "java/util/Iterator", name := "next", desc := "()Ljava/lang/Object;" } : Jvm.MethodName) ({ cls := "StoryColumns$1$1", name := "next", desc := "()Ljava/lang/Object;" } : Jvm.MethodName)) ∈ lw_all := lw_g (lw_at lw_m2 34 rfl) rfl
theorem q333 : (Jvm.Cond.unhidden "StoryColumns$1$1" "next" "()Ljava/lang/Object;") ∈ lw_tbl := lw_at lw_m2 35 rfl
theorem q334 : (Jvm.Cond.instanceMethod ({ cls := "StoryColumns$1$1", name := "next", desc := "()Ljava/lang/Object;" } : Jvm.MethodName)) ∈ lw_all := lw_g (lw_at lw_m2 36 rfl) rfl
theorem q335 : (Jvm.Cond.publicMethod ({ cls := "StoryColumns$1$1", name := "next", desc := "()Ljava/lang/Object;" } : Jvm.MethodName)) ∈ lw_tbl := lw_at lw_m2 37 rfl
theorem q336 : (Jvm.Cond.code ({ cls := "StoryColumns$1$1", name := "next", desc := "()Ljava/lang/Object;" } : Jvm.MethodName) prog_3_method_4_code (1 : Nat) (Option.some (Jvm.ClassFile.FieldType.object "java/lang/Object"))) ∈ lw_all := lw_g (lw_at lw_m2 38 rfl) rfl
theorem q337 : (Jvm.Cond.methodLink "StoryColumns$1$1" (27 : Nat) ({ cls := "StoryColumns$1$1", name := "next", desc := "()LStoryColumns$Story;" } : Jvm.MethodName)) ∈ lw_all := lw_g (lw_at lw_m2 39 rfl) rfl
theorem q338 : (Jvm.Cond.instanceMethod ({ cls := "StoryColumns$1$1", name := "next", desc := "()LStoryColumns$Story;" } : Jvm.MethodName)) ∈ lw_all := lw_g (lw_at lw_m2 40 rfl) rfl
theorem q339 : (Jvm.Cond.selects "StoryColumns$1$1" ({ cls := "StoryColumns$1$1", name := "next", desc := "()LStoryColumns$Story;" } : Jvm.MethodName) ({ cls := "StoryColumns$1$1", name := "next", desc := "()LStoryColumns$Story;" } : Jvm.MethodName)) ∈ lw_all := lw_g (lw_at lw_m2 41 rfl) rfl
theorem q340 : (Jvm.Cond.code ({ cls := "StoryColumns$1$1", name := "next", desc := "()LStoryColumns$Story;" } : Jvm.MethodName) prog_3_method_3_code (2 : Nat) (Option.some (Jvm.ClassFile.FieldType.object "StoryColumns$Story"))) ∈ lw_all := lw_g (lw_at lw_m2 42 rfl) rfl
theorem q486 : (Jvm.Cond.selects "StoryColumns$1$1" ({ cls := "java/lang/Object", name := "getClass", desc := "()Ljava/lang/Class;" } : Jvm.MethodName) ({ cls := "java/lang/Object", name := "getClass", desc := "()Ljava/lang/Class;" } : Jvm.MethodName)) ∈ lw_all := lw_g (lw_at lw_m2 188 rfl) rfl
theorem q704 : (Jvm.Cond.fieldLinkNest "StoryColumns$1$1" (22 : Nat) "StoryColumns$Story" "next" "LStoryColumns$Story;" "StoryColumns") ∈ lw_tbl := lw_at lw_m3 166 rfl
theorem q942 : (Jvm.Cond.fieldLink "StoryColumns$1$1" (13 : Nat) "StoryColumns$1" "val$from" "LStoryColumns$Story;") ∈ lw_all := lw_g (lw_at lw_m4 164 rfl) rfl
theorem q960 : (Jvm.Cond.instantiable "StoryColumns$1$1" (2 : Nat)) ∈ lw_all := lw_g (lw_at lw_m4 182 rfl) rfl
theorem q962 : (Jvm.Cond.instanceMethod ({ cls := "StoryColumns$1$1", name := "<init>", desc := "(LStoryColumns$1;)V" } : Jvm.MethodName)) ∈ lw_all := lw_g (lw_at lw_m4 184 rfl) rfl
theorem q963 : (Jvm.Cond.code ({ cls := "StoryColumns$1$1", name := "<init>", desc := "(LStoryColumns$1;)V" } : Jvm.MethodName) prog_3_method_1_code (2 : Nat) (Option.none : Option Jvm.ClassFile.FieldType)) ∈ lw_all := lw_g (lw_at lw_m4 185 rfl) rfl
theorem q964 : (Jvm.Cond.methodLink "StoryColumns$1$1" (7 : Nat) ({ cls := "java/lang/Object", name := "<init>", desc := "()V" } : Jvm.MethodName)) ∈ lw_all := lw_g (lw_at lw_m4 186 rfl) rfl
theorem q965 : (Jvm.Cond.fieldLink "StoryColumns$1$1" (19 : Nat) "StoryColumns$1$1" "at" "LStoryColumns$Story;") ∈ lw_all := lw_g (lw_at lw_m4 187 rfl) rfl
theorem q966 : (Jvm.Cond.fieldLink "StoryColumns$1$1" (1 : Nat) "StoryColumns$1$1" "this$1" "LStoryColumns$1;") ∈ lw_all := lw_g (lw_at lw_m4 188 rfl) rfl
theorem q967 : (Jvm.Cond.lays "StoryColumns$1$1" "StoryColumns$1$1" "at" "LStoryColumns$Story;") ∈ lw_all := lw_g (lw_at lw_m4 189 rfl) rfl
theorem q968 : (Jvm.Cond.soleField "StoryColumns$1$1" "at") ∈ lw_all := lw_g (lw_at lw_m4 190 rfl) rfl
theorem q969 : (Jvm.Cond.laysFinal "StoryColumns$1$1" "StoryColumns$1$1" "this$1" "LStoryColumns$1;") ∈ lw_all := lw_g (lw_at lw_m4 191 rfl) rfl
theorem q970 : (Jvm.Cond.soleField "StoryColumns$1$1" "this$1") ∈ lw_all := lw_g (lw_at lw_m4 192 rfl) rfl
theorem q971 : (Jvm.Cond.superclass "StoryColumns$1$1" "java/lang/Object") ∈ lw_all := lw_g (lw_at lw_m4 193 rfl) rfl
theorem q1371 : (Jvm.Cond.castable "StoryColumns$1$1" "java/lang/Object") ∈ lw_tbl := lw_at lw_m6 113 rfl
theorem in_X9 : ∀ w ∈ wsX90, w ∈ lw_all := lw_in wsX90 [967, 969] (by decide +kernel) (by decide +kernel)
