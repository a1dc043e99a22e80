/-! NotchSticks -/
set_option maxRecDepth 100000
def RX0 : String := "NotchSticks"
def TX0 : u_T := fun k => match k with
  | 0 => ("NotchSticks", "tape", "[B", true)
  | 1 => ("NotchSticks", "taped", "I", false)
  | 2 => ("NotchSticks", "texts", "Ljava/util/ArrayList;", true)
  | 3 => ("NotchSticks", "keptTexts", "Ljava/util/ArrayList;", true)
  | 4 => ("NotchSticks", "faultKind", "I", false)
  | 5 => ("NotchSticks", "faultPlace", "I", false)
  | 6 => ("NotchSticks", "valley", "LNotchSticks$Valley;", true)
  | 7 => ("NotchSticks", "thought", "LNotchSticks$Valley;", true)
  | 8 => ("NotchSticks", "kept", "LNotchSticks$Valley;", true)
  | 9 => ("NotchSticks", "values", "[J", false)
  | 10 => ("NotchSticks", "nextValues", "[J", false)
  | 11 => ("NotchSticks", "flows", "[J", false)
  | 12 => ("NotchSticks", "nextFlows", "[J", false)
  | 13 => ("NotchSticks", "share", "J", false)
  | 14 => ("NotchSticks", "gain", "J", false)
  | 15 => ("NotchSticks", "common", "J", false)
  | 16 => ("NotchSticks", "pair", "LNotchSticks$Pair;", true)
  | 17 => ("NotchSticks", "firsts", "[[J", true)
  | _ => ("NotchSticks", "seconds", "[[J", true)
def tyX0 : Nat → FieldType := fun k => match k with
  | 0 => .array .byte
  | 1 => .int
  | 2 => .object "java/util/ArrayList"
  | 3 => .object "java/util/ArrayList"
  | 4 => .int
  | 5 => .int
  | 6 => .object "NotchSticks$Valley"
  | 7 => .object "NotchSticks$Valley"
  | 8 => .object "NotchSticks$Valley"
  | 9 => .array .long
  | 10 => .array .long
  | 11 => .array .long
  | 12 => .array .long
  | 13 => .long
  | 14 => .long
  | 15 => .long
  | 16 => .object "NotchSticks$Pair"
  | 17 => .array (.array .long)
  | _ => .array (.array .long)
abbrev wsX00 : List Cond := u_ws RX0 TX0 19
set_option maxRecDepth 100000 in
theorem nmX0 : ∀ a, a < 19 → ∀ b, b < 19 → a ≠ b → (TX0 a).2.1 ≠ (TX0 b).2.1 := by decide +kernel
set_option maxRecDepth 100000 in
theorem tyX0_ok : ∀ k, k < 19 → parseFieldDescriptor (TX0 k).2.2.1 = some (tyX0 k) := by decide +kernel
abbrev cX0_init : ByteArray := prog_1_method_1_code
def yX0_init : MethodName := ⟨RX0, "<init>", "()V"⟩
def dkwX0_init_7 : List UInt8 := [197, 0, 66, 2, 181, 0, 71, 177]
abbrev dktX0_init_7 : List UInt8 := dkwX0_init_7 ++ []
def dkwX0_init_6 : List UInt8 := [42, 183, 0, 61, 181, 0, 62, 42, 16, 14, 16, 14, 197, 0, 66, 2, 181, 0, 68, 42, 16, 14, 16, 14]
abbrev dktX0_init_6 : List UInt8 := dkwX0_init_6 ++ dktX0_init_7
def dkwX0_init_5 : List UInt8 := [181, 0, 50, 42, 16, 25, 188, 11, 181, 0, 53, 42, 16, 25, 188, 11, 181, 0, 56, 42, 187, 0, 59, 89]
abbrev dktX0_init_5 : List UInt8 := dkwX0_init_5 ++ dktX0_init_6
def dkwX0_init_4 : List UInt8 := [187, 0, 31, 89, 42, 183, 0, 33, 181, 0, 43, 42, 16, 25, 188, 11, 181, 0, 46, 42, 16, 25, 188, 11]
abbrev dktX0_init_4 : List UInt8 := dkwX0_init_4 ++ dktX0_init_5
def dkwX0_init_3 : List UInt8 := [187, 0, 31, 89, 42, 183, 0, 33, 181, 0, 36, 42, 187, 0, 31, 89, 42, 183, 0, 33, 181, 0, 40, 42]
abbrev dktX0_init_3 : List UInt8 := dkwX0_init_3 ++ dktX0_init_4
def dkwX0_init_2 : List UInt8 := [42, 180, 0, 16, 187, 0, 13, 89, 183, 0, 15, 182, 0, 27, 87, 132, 1, 1, 167, 255, 232, 42]
abbrev dktX0_init_2 : List UInt8 := dkwX0_init_2 ++ dktX0_init_3
def dkwX0_init_1 : List UInt8 := [42, 187, 0, 13, 89, 183, 0, 15, 181, 0, 20, 42, 2, 181, 0, 23, 3, 60, 27, 16, 6, 162, 0, 24]
abbrev dktX0_init_1 : List UInt8 := dkwX0_init_1 ++ dktX0_init_2
def dkwX0_init_0 : List UInt8 := [42, 183, 0, 1, 42, 17, 1, 144, 188, 8, 181, 0, 9, 42, 187, 0, 13, 89, 183, 0, 15, 181, 0, 16]
abbrev dktX0_init_0 : List UInt8 := dkwX0_init_0 ++ dktX0_init_1
theorem dksX0_init_0 : cX0_init.data.toList.drop 0 = dktX0_init_0 := by decide +kernel
theorem dksX0_init_1 : cX0_init.data.toList.drop 24 = dktX0_init_1 := dk_seg dksX0_init_0 24 rfl rfl
theorem dksX0_init_2 : cX0_init.data.toList.drop 48 = dktX0_init_2 := dk_seg dksX0_init_1 24 rfl rfl
theorem dksX0_init_3 : cX0_init.data.toList.drop 70 = dktX0_init_3 := dk_seg dksX0_init_2 22 rfl rfl
theorem dksX0_init_4 : cX0_init.data.toList.drop 94 = dktX0_init_4 := dk_seg dksX0_init_3 24 rfl rfl
theorem dksX0_init_5 : cX0_init.data.toList.drop 118 = dktX0_init_5 := dk_seg dksX0_init_4 24 rfl rfl
theorem dksX0_init_6 : cX0_init.data.toList.drop 142 = dktX0_init_6 := dk_seg dksX0_init_5 24 rfl rfl
theorem dksX0_init_7 : cX0_init.data.toList.drop 166 = dktX0_init_7 := dk_seg dksX0_init_6 24 rfl rfl
theorem dX0_init_0 : decode cX0_init 0 = .ok (.aload_n 0, 1) := dk_42 (dk_at dksX0_init_0 0 rfl rfl)
theorem dX0_init_1 : decode cX0_init 1 = .ok (.invokespecial 1, 3) := dk_183 0 1 (dk_at dksX0_init_0 1 rfl rfl)
theorem dX0_init_4 : decode cX0_init 4 = .ok (.aload_n 0, 1) := dk_42 (dk_at dksX0_init_0 4 rfl rfl)
theorem dX0_init_5 : decode cX0_init 5 = .ok (.sipush 400, 3) := dk_17 1 144 (dk_at dksX0_init_0 5 rfl rfl)
theorem dX0_init_8 : decode cX0_init 8 = .ok (.newarray .byte, 2) := dk_188_8 (dk_at dksX0_init_0 8 rfl rfl)
theorem dX0_init_10 : decode cX0_init 10 = .ok (.putfield 9, 3) := dk_181 0 9 (dk_at dksX0_init_0 10 rfl rfl)
theorem dX0_init_13 : decode cX0_init 13 = .ok (.aload_n 0, 1) := dk_42 (dk_at dksX0_init_0 13 rfl rfl)
theorem dX0_init_14 : decode cX0_init 14 = .ok (.new 13, 3) := dk_187 0 13 (dk_at dksX0_init_0 14 rfl rfl)
theorem dX0_init_17 : decode cX0_init 17 = .ok (.dup, 1) := dk_89 (dk_at dksX0_init_0 17 rfl rfl)
theorem dX0_init_18 : decode cX0_init 18 = .ok (.invokespecial 15, 3) := dk_183 0 15 (dk_at dksX0_init_0 18 rfl rfl)
theorem dX0_init_21 : decode cX0_init 21 = .ok (.putfield 16, 3) := dk_181 0 16 (dk_at dksX0_init_0 21 rfl rfl)
theorem dX0_init_24 : decode cX0_init 24 = .ok (.aload_n 0, 1) := dk_42 (dk_at dksX0_init_1 0 rfl rfl)
theorem dX0_init_25 : decode cX0_init 25 = .ok (.new 13, 3) := dk_187 0 13 (dk_at dksX0_init_1 1 rfl rfl)
theorem dX0_init_28 : decode cX0_init 28 = .ok (.dup, 1) := dk_89 (dk_at dksX0_init_1 4 rfl rfl)
theorem dX0_init_29 : decode cX0_init 29 = .ok (.invokespecial 15, 3) := dk_183 0 15 (dk_at dksX0_init_1 5 rfl rfl)
theorem dX0_init_32 : decode cX0_init 32 = .ok (.putfield 20, 3) := dk_181 0 20 (dk_at dksX0_init_1 8 rfl rfl)
theorem dX0_init_35 : decode cX0_init 35 = .ok (.aload_n 0, 1) := dk_42 (dk_at dksX0_init_1 11 rfl rfl)
theorem dX0_init_36 : decode cX0_init 36 = .ok (.iconst (-1), 1) := dk_2 (dk_at dksX0_init_1 12 rfl rfl)
theorem dX0_init_37 : decode cX0_init 37 = .ok (.putfield 23, 3) := dk_181 0 23 (dk_at dksX0_init_1 13 rfl rfl)
theorem dX0_init_40 : decode cX0_init 40 = .ok (.iconst 0, 1) := dk_3 (dk_at dksX0_init_1 16 rfl rfl)
theorem dX0_init_41 : decode cX0_init 41 = .ok (.istore_n 1, 1) := dk_60 (dk_at dksX0_init_1 17 rfl rfl)
theorem dX0_init_42 : decode cX0_init 42 = .ok (.iload_n 1, 1) := dk_27 (dk_at dksX0_init_1 18 rfl rfl)
theorem dX0_init_43 : decode cX0_init 43 = .ok (.bipush 6, 2) := dk_16 6 (dk_at dksX0_init_1 19 rfl rfl)
theorem dX0_init_45 : decode cX0_init 45 = .ok (.if_icmp .ge 24, 3) := dk_162 0 24 (dk_at dksX0_init_1 21 rfl rfl)
theorem dX0_init_48 : decode cX0_init 48 = .ok (.aload_n 0, 1) := dk_42 (dk_at dksX0_init_2 0 rfl rfl)
theorem dX0_init_49 : decode cX0_init 49 = .ok (.getfield 16, 3) := dk_180 0 16 (dk_at dksX0_init_2 1 rfl rfl)
theorem dX0_init_52 : decode cX0_init 52 = .ok (.new 13, 3) := dk_187 0 13 (dk_at dksX0_init_2 4 rfl rfl)
theorem dX0_init_55 : decode cX0_init 55 = .ok (.dup, 1) := dk_89 (dk_at dksX0_init_2 7 rfl rfl)
theorem dX0_init_56 : decode cX0_init 56 = .ok (.invokespecial 15, 3) := dk_183 0 15 (dk_at dksX0_init_2 8 rfl rfl)
theorem dX0_init_59 : decode cX0_init 59 = .ok (.invokevirtual 27, 3) := dk_182 0 27 (dk_at dksX0_init_2 11 rfl rfl)
theorem dX0_init_62 : decode cX0_init 62 = .ok (.pop, 1) := dk_87 (dk_at dksX0_init_2 14 rfl rfl)
theorem dX0_init_63 : decode cX0_init 63 = .ok (.iinc 1 1, 3) := dk_132 1 1 (dk_at dksX0_init_2 15 rfl rfl)
theorem dX0_init_66 : decode cX0_init 66 = .ok (.goto (-24), 3) := dk_167 255 232 (dk_at dksX0_init_2 18 rfl rfl)
theorem dX0_init_69 : decode cX0_init 69 = .ok (.aload_n 0, 1) := dk_42 (dk_at dksX0_init_2 21 rfl rfl)
theorem dX0_init_70 : decode cX0_init 70 = .ok (.new 31, 3) := dk_187 0 31 (dk_at dksX0_init_3 0 rfl rfl)
theorem dX0_init_73 : decode cX0_init 73 = .ok (.dup, 1) := dk_89 (dk_at dksX0_init_3 3 rfl rfl)
theorem dX0_init_74 : decode cX0_init 74 = .ok (.aload_n 0, 1) := dk_42 (dk_at dksX0_init_3 4 rfl rfl)
theorem dX0_init_75 : decode cX0_init 75 = .ok (.invokespecial 33, 3) := dk_183 0 33 (dk_at dksX0_init_3 5 rfl rfl)
theorem dX0_init_78 : decode cX0_init 78 = .ok (.putfield 36, 3) := dk_181 0 36 (dk_at dksX0_init_3 8 rfl rfl)
theorem dX0_init_81 : decode cX0_init 81 = .ok (.aload_n 0, 1) := dk_42 (dk_at dksX0_init_3 11 rfl rfl)
theorem dX0_init_82 : decode cX0_init 82 = .ok (.new 31, 3) := dk_187 0 31 (dk_at dksX0_init_3 12 rfl rfl)
theorem dX0_init_85 : decode cX0_init 85 = .ok (.dup, 1) := dk_89 (dk_at dksX0_init_3 15 rfl rfl)
theorem dX0_init_86 : decode cX0_init 86 = .ok (.aload_n 0, 1) := dk_42 (dk_at dksX0_init_3 16 rfl rfl)
theorem dX0_init_87 : decode cX0_init 87 = .ok (.invokespecial 33, 3) := dk_183 0 33 (dk_at dksX0_init_3 17 rfl rfl)
theorem dX0_init_90 : decode cX0_init 90 = .ok (.putfield 40, 3) := dk_181 0 40 (dk_at dksX0_init_3 20 rfl rfl)
theorem dX0_init_93 : decode cX0_init 93 = .ok (.aload_n 0, 1) := dk_42 (dk_at dksX0_init_3 23 rfl rfl)
theorem dX0_init_94 : decode cX0_init 94 = .ok (.new 31, 3) := dk_187 0 31 (dk_at dksX0_init_4 0 rfl rfl)
theorem dX0_init_97 : decode cX0_init 97 = .ok (.dup, 1) := dk_89 (dk_at dksX0_init_4 3 rfl rfl)
theorem dX0_init_98 : decode cX0_init 98 = .ok (.aload_n 0, 1) := dk_42 (dk_at dksX0_init_4 4 rfl rfl)
theorem dX0_init_99 : decode cX0_init 99 = .ok (.invokespecial 33, 3) := dk_183 0 33 (dk_at dksX0_init_4 5 rfl rfl)
theorem dX0_init_102 : decode cX0_init 102 = .ok (.putfield 43, 3) := dk_181 0 43 (dk_at dksX0_init_4 8 rfl rfl)
theorem dX0_init_105 : decode cX0_init 105 = .ok (.aload_n 0, 1) := dk_42 (dk_at dksX0_init_4 11 rfl rfl)
theorem dX0_init_106 : decode cX0_init 106 = .ok (.bipush 25, 2) := dk_16 25 (dk_at dksX0_init_4 12 rfl rfl)
theorem dX0_init_108 : decode cX0_init 108 = .ok (.newarray .long, 2) := dk_188_11 (dk_at dksX0_init_4 14 rfl rfl)
theorem dX0_init_110 : decode cX0_init 110 = .ok (.putfield 46, 3) := dk_181 0 46 (dk_at dksX0_init_4 16 rfl rfl)
theorem dX0_init_113 : decode cX0_init 113 = .ok (.aload_n 0, 1) := dk_42 (dk_at dksX0_init_4 19 rfl rfl)
theorem dX0_init_114 : decode cX0_init 114 = .ok (.bipush 25, 2) := dk_16 25 (dk_at dksX0_init_4 20 rfl rfl)
theorem dX0_init_116 : decode cX0_init 116 = .ok (.newarray .long, 2) := dk_188_11 (dk_at dksX0_init_4 22 rfl rfl)
theorem dX0_init_118 : decode cX0_init 118 = .ok (.putfield 50, 3) := dk_181 0 50 (dk_at dksX0_init_5 0 rfl rfl)
theorem dX0_init_121 : decode cX0_init 121 = .ok (.aload_n 0, 1) := dk_42 (dk_at dksX0_init_5 3 rfl rfl)
theorem dX0_init_122 : decode cX0_init 122 = .ok (.bipush 25, 2) := dk_16 25 (dk_at dksX0_init_5 4 rfl rfl)
theorem dX0_init_124 : decode cX0_init 124 = .ok (.newarray .long, 2) := dk_188_11 (dk_at dksX0_init_5 6 rfl rfl)
theorem dX0_init_126 : decode cX0_init 126 = .ok (.putfield 53, 3) := dk_181 0 53 (dk_at dksX0_init_5 8 rfl rfl)
theorem dX0_init_129 : decode cX0_init 129 = .ok (.aload_n 0, 1) := dk_42 (dk_at dksX0_init_5 11 rfl rfl)
theorem dX0_init_130 : decode cX0_init 130 = .ok (.bipush 25, 2) := dk_16 25 (dk_at dksX0_init_5 12 rfl rfl)
theorem dX0_init_132 : decode cX0_init 132 = .ok (.newarray .long, 2) := dk_188_11 (dk_at dksX0_init_5 14 rfl rfl)
theorem dX0_init_134 : decode cX0_init 134 = .ok (.putfield 56, 3) := dk_181 0 56 (dk_at dksX0_init_5 16 rfl rfl)
theorem dX0_init_137 : decode cX0_init 137 = .ok (.aload_n 0, 1) := dk_42 (dk_at dksX0_init_5 19 rfl rfl)
theorem dX0_init_138 : decode cX0_init 138 = .ok (.new 59, 3) := dk_187 0 59 (dk_at dksX0_init_5 20 rfl rfl)
theorem dX0_init_141 : decode cX0_init 141 = .ok (.dup, 1) := dk_89 (dk_at dksX0_init_5 23 rfl rfl)
theorem dX0_init_142 : decode cX0_init 142 = .ok (.aload_n 0, 1) := dk_42 (dk_at dksX0_init_6 0 rfl rfl)
theorem dX0_init_143 : decode cX0_init 143 = .ok (.invokespecial 61, 3) := dk_183 0 61 (dk_at dksX0_init_6 1 rfl rfl)
theorem dX0_init_146 : decode cX0_init 146 = .ok (.putfield 62, 3) := dk_181 0 62 (dk_at dksX0_init_6 4 rfl rfl)
theorem dX0_init_149 : decode cX0_init 149 = .ok (.aload_n 0, 1) := dk_42 (dk_at dksX0_init_6 7 rfl rfl)
theorem dX0_init_150 : decode cX0_init 150 = .ok (.bipush 14, 2) := dk_16 14 (dk_at dksX0_init_6 8 rfl rfl)
theorem dX0_init_152 : decode cX0_init 152 = .ok (.bipush 14, 2) := dk_16 14 (dk_at dksX0_init_6 10 rfl rfl)
theorem dX0_init_154 : decode cX0_init 154 = .ok (.multianewarray 66 2, 4) := by decide +kernel
theorem dX0_init_158 : decode cX0_init 158 = .ok (.putfield 68, 3) := dk_181 0 68 (dk_at dksX0_init_6 16 rfl rfl)
theorem dX0_init_161 : decode cX0_init 161 = .ok (.aload_n 0, 1) := dk_42 (dk_at dksX0_init_6 19 rfl rfl)
theorem dX0_init_162 : decode cX0_init 162 = .ok (.bipush 14, 2) := dk_16 14 (dk_at dksX0_init_6 20 rfl rfl)
theorem dX0_init_164 : decode cX0_init 164 = .ok (.bipush 14, 2) := dk_16 14 (dk_at dksX0_init_6 22 rfl rfl)
theorem dX0_init_166 : decode cX0_init 166 = .ok (.multianewarray 66 2, 4) := by decide +kernel
theorem dX0_init_170 : decode cX0_init 170 = .ok (.putfield 71, 3) := dk_181 0 71 (dk_at dksX0_init_7 4 rfl rfl)
theorem dX0_init_173 : decode cX0_init 173 = .ok (.return_, 1) := dk_177 (dk_at dksX0_init_7 7 rfl rfl)
abbrev cX0_feed : ByteArray := prog_1_method_3_code
def yX0_feed : MethodName := ⟨RX0, "feed", "(IIIII)I"⟩
def dkwX0_feed_2 : List UInt8 := [172]
abbrev dktX0_feed_2 : List UInt8 := dkwX0_feed_2 ++ []
def dkwX0_feed_1 : List UInt8 := [182, 0, 77, 42, 29, 182, 0, 77, 42, 21, 4, 182, 0, 77, 42, 21, 5, 182, 0, 77, 42, 180, 0, 74]
abbrev dktX0_feed_1 : List UInt8 := dkwX0_feed_1 ++ dktX0_feed_2
def dkwX0_feed_0 : List UInt8 := [42, 180, 0, 74, 16, 20, 96, 17, 1, 144, 164, 0, 5, 2, 172, 42, 27, 182, 0, 77, 42, 28]
abbrev dktX0_feed_0 : List UInt8 := dkwX0_feed_0 ++ dktX0_feed_1
theorem dksX0_feed_0 : cX0_feed.data.toList.drop 0 = dktX0_feed_0 := by decide +kernel
theorem dksX0_feed_1 : cX0_feed.data.toList.drop 22 = dktX0_feed_1 := dk_seg dksX0_feed_0 22 rfl rfl
theorem dksX0_feed_2 : cX0_feed.data.toList.drop 46 = dktX0_feed_2 := dk_seg dksX0_feed_1 24 rfl rfl
theorem dX0_feed_0 : decode cX0_feed 0 = .ok (.aload_n 0, 1) := dk_42 (dk_at dksX0_feed_0 0 rfl rfl)
theorem dX0_feed_1 : decode cX0_feed 1 = .ok (.getfield 74, 3) := dk_180 0 74 (dk_at dksX0_feed_0 1 rfl rfl)
theorem dX0_feed_4 : decode cX0_feed 4 = .ok (.bipush 20, 2) := dk_16 20 (dk_at dksX0_feed_0 4 rfl rfl)
theorem dX0_feed_6 : decode cX0_feed 6 = .ok (.iadd, 1) := dk_96 (dk_at dksX0_feed_0 6 rfl rfl)
theorem dX0_feed_7 : decode cX0_feed 7 = .ok (.sipush 400, 3) := dk_17 1 144 (dk_at dksX0_feed_0 7 rfl rfl)
theorem dX0_feed_10 : decode cX0_feed 10 = .ok (.if_icmp .le 5, 3) := dk_164 0 5 (dk_at dksX0_feed_0 10 rfl rfl)
theorem dX0_feed_13 : decode cX0_feed 13 = .ok (.iconst (-1), 1) := dk_2 (dk_at dksX0_feed_0 13 rfl rfl)
theorem dX0_feed_14 : decode cX0_feed 14 = .ok (.ireturn, 1) := dk_172 (dk_at dksX0_feed_0 14 rfl rfl)
theorem dX0_feed_15 : decode cX0_feed 15 = .ok (.aload_n 0, 1) := dk_42 (dk_at dksX0_feed_0 15 rfl rfl)
theorem dX0_feed_16 : decode cX0_feed 16 = .ok (.iload_n 1, 1) := dk_27 (dk_at dksX0_feed_0 16 rfl rfl)
theorem dX0_feed_17 : decode cX0_feed 17 = .ok (.invokevirtual 77, 3) := dk_182 0 77 (dk_at dksX0_feed_0 17 rfl rfl)
theorem dX0_feed_20 : decode cX0_feed 20 = .ok (.aload_n 0, 1) := dk_42 (dk_at dksX0_feed_0 20 rfl rfl)
theorem dX0_feed_21 : decode cX0_feed 21 = .ok (.iload_n 2, 1) := dk_28 (dk_at dksX0_feed_0 21 rfl rfl)
theorem dX0_feed_22 : decode cX0_feed 22 = .ok (.invokevirtual 77, 3) := dk_182 0 77 (dk_at dksX0_feed_1 0 rfl rfl)
theorem dX0_feed_25 : decode cX0_feed 25 = .ok (.aload_n 0, 1) := dk_42 (dk_at dksX0_feed_1 3 rfl rfl)
theorem dX0_feed_26 : decode cX0_feed 26 = .ok (.iload_n 3, 1) := dk_29 (dk_at dksX0_feed_1 4 rfl rfl)
theorem dX0_feed_27 : decode cX0_feed 27 = .ok (.invokevirtual 77, 3) := dk_182 0 77 (dk_at dksX0_feed_1 5 rfl rfl)
theorem dX0_feed_30 : decode cX0_feed 30 = .ok (.aload_n 0, 1) := dk_42 (dk_at dksX0_feed_1 8 rfl rfl)
theorem dX0_feed_31 : decode cX0_feed 31 = .ok (.iload 4, 2) := dk_21 4 (dk_at dksX0_feed_1 9 rfl rfl)
theorem dX0_feed_33 : decode cX0_feed 33 = .ok (.invokevirtual 77, 3) := dk_182 0 77 (dk_at dksX0_feed_1 11 rfl rfl)
theorem dX0_feed_36 : decode cX0_feed 36 = .ok (.aload_n 0, 1) := dk_42 (dk_at dksX0_feed_1 14 rfl rfl)
theorem dX0_feed_37 : decode cX0_feed 37 = .ok (.iload 5, 2) := dk_21 5 (dk_at dksX0_feed_1 15 rfl rfl)
theorem dX0_feed_39 : decode cX0_feed 39 = .ok (.invokevirtual 77, 3) := dk_182 0 77 (dk_at dksX0_feed_1 17 rfl rfl)
theorem dX0_feed_42 : decode cX0_feed 42 = .ok (.aload_n 0, 1) := dk_42 (dk_at dksX0_feed_1 20 rfl rfl)
theorem dX0_feed_43 : decode cX0_feed 43 = .ok (.getfield 74, 3) := dk_180 0 74 (dk_at dksX0_feed_1 21 rfl rfl)
theorem dX0_feed_46 : decode cX0_feed 46 = .ok (.ireturn, 1) := dk_172 (dk_at dksX0_feed_2 0 rfl rfl)
abbrev cX0_word : ByteArray := prog_1_method_4_code
def yX0_word : MethodName := ⟨RX0, "word", "(I)V"⟩
def dkwX0_word_1 : List UInt8 := [180, 0, 74, 4, 96, 181, 0, 74, 132, 2, 248, 167, 255, 226, 177]
abbrev dktX0_word_1 : List UInt8 := dkwX0_word_1 ++ []
def dkwX0_word_0 : List UInt8 := [16, 24, 61, 28, 155, 0, 32, 42, 180, 0, 9, 42, 180, 0, 74, 27, 28, 122, 145, 84, 42, 89]
abbrev dktX0_word_0 : List UInt8 := dkwX0_word_0 ++ dktX0_word_1
theorem dksX0_word_0 : cX0_word.data.toList.drop 0 = dktX0_word_0 := by decide +kernel
theorem dksX0_word_1 : cX0_word.data.toList.drop 22 = dktX0_word_1 := dk_seg dksX0_word_0 22 rfl rfl
theorem dX0_word_0 : decode cX0_word 0 = .ok (.bipush 24, 2) := dk_16 24 (dk_at dksX0_word_0 0 rfl rfl)
theorem dX0_word_2 : decode cX0_word 2 = .ok (.istore_n 2, 1) := dk_61 (dk_at dksX0_word_0 2 rfl rfl)
theorem dX0_word_3 : decode cX0_word 3 = .ok (.iload_n 2, 1) := dk_28 (dk_at dksX0_word_0 3 rfl rfl)
theorem dX0_word_4 : decode cX0_word 4 = .ok (.ifCond .lt 32, 3) := dk_155 0 32 (dk_at dksX0_word_0 4 rfl rfl)
theorem dX0_word_7 : decode cX0_word 7 = .ok (.aload_n 0, 1) := dk_42 (dk_at dksX0_word_0 7 rfl rfl)
theorem dX0_word_8 : decode cX0_word 8 = .ok (.getfield 9, 3) := dk_180 0 9 (dk_at dksX0_word_0 8 rfl rfl)
theorem dX0_word_11 : decode cX0_word 11 = .ok (.aload_n 0, 1) := dk_42 (dk_at dksX0_word_0 11 rfl rfl)
theorem dX0_word_12 : decode cX0_word 12 = .ok (.getfield 74, 3) := dk_180 0 74 (dk_at dksX0_word_0 12 rfl rfl)
theorem dX0_word_15 : decode cX0_word 15 = .ok (.iload_n 1, 1) := dk_27 (dk_at dksX0_word_0 15 rfl rfl)
theorem dX0_word_16 : decode cX0_word 16 = .ok (.iload_n 2, 1) := dk_28 (dk_at dksX0_word_0 16 rfl rfl)
theorem dX0_word_17 : decode cX0_word 17 = .ok (.ishr, 1) := dk_122 (dk_at dksX0_word_0 17 rfl rfl)
theorem dX0_word_18 : decode cX0_word 18 = .ok (.i2b, 1) := dk_145 (dk_at dksX0_word_0 18 rfl rfl)
theorem dX0_word_19 : decode cX0_word 19 = .ok (.bastore, 1) := dk_84 (dk_at dksX0_word_0 19 rfl rfl)
theorem dX0_word_20 : decode cX0_word 20 = .ok (.aload_n 0, 1) := dk_42 (dk_at dksX0_word_0 20 rfl rfl)
theorem dX0_word_21 : decode cX0_word 21 = .ok (.dup, 1) := dk_89 (dk_at dksX0_word_0 21 rfl rfl)
theorem dX0_word_22 : decode cX0_word 22 = .ok (.getfield 74, 3) := dk_180 0 74 (dk_at dksX0_word_1 0 rfl rfl)
theorem dX0_word_25 : decode cX0_word 25 = .ok (.iconst 1, 1) := dk_4 (dk_at dksX0_word_1 3 rfl rfl)
theorem dX0_word_26 : decode cX0_word 26 = .ok (.iadd, 1) := dk_96 (dk_at dksX0_word_1 4 rfl rfl)
theorem dX0_word_27 : decode cX0_word 27 = .ok (.putfield 74, 3) := dk_181 0 74 (dk_at dksX0_word_1 5 rfl rfl)
theorem dX0_word_30 : decode cX0_word 30 = .ok (.iinc 2 (-8), 3) := dk_132 2 248 (dk_at dksX0_word_1 8 rfl rfl)
theorem dX0_word_33 : decode cX0_word 33 = .ok (.goto (-30), 3) := dk_167 255 226 (dk_at dksX0_word_1 11 rfl rfl)
theorem dX0_word_36 : decode cX0_word 36 = .ok (.return_, 1) := dk_177 (dk_at dksX0_word_1 14 rfl rfl)
abbrev cX0_end : ByteArray := prog_1_method_5_code
def yX0_end : MethodName := ⟨RX0, "end", "(I)Z"⟩
def dkwX0_end_0 : List UInt8 := [27, 3, 42, 180, 0, 74, 184, 0, 81, 154, 0, 5, 3, 172, 42, 27, 181, 0, 74, 4, 172]
abbrev dktX0_end_0 : List UInt8 := dkwX0_end_0 ++ []
theorem dksX0_end_0 : cX0_end.data.toList.drop 0 = dktX0_end_0 := by decide +kernel
theorem dX0_end_0 : decode cX0_end 0 = .ok (.iload_n 1, 1) := dk_27 (dk_at dksX0_end_0 0 rfl rfl)
theorem dX0_end_1 : decode cX0_end 1 = .ok (.iconst 0, 1) := dk_3 (dk_at dksX0_end_0 1 rfl rfl)
theorem dX0_end_2 : decode cX0_end 2 = .ok (.aload_n 0, 1) := dk_42 (dk_at dksX0_end_0 2 rfl rfl)
theorem dX0_end_3 : decode cX0_end 3 = .ok (.getfield 74, 3) := dk_180 0 74 (dk_at dksX0_end_0 3 rfl rfl)
theorem dX0_end_6 : decode cX0_end 6 = .ok (.invokestatic 81, 3) := dk_184 0 81 (dk_at dksX0_end_0 6 rfl rfl)
theorem dX0_end_9 : decode cX0_end 9 = .ok (.ifCond .ne 5, 3) := dk_154 0 5 (dk_at dksX0_end_0 9 rfl rfl)
theorem dX0_end_12 : decode cX0_end 12 = .ok (.iconst 0, 1) := dk_3 (dk_at dksX0_end_0 12 rfl rfl)
theorem dX0_end_13 : decode cX0_end 13 = .ok (.ireturn, 1) := dk_172 (dk_at dksX0_end_0 13 rfl rfl)
theorem dX0_end_14 : decode cX0_end 14 = .ok (.aload_n 0, 1) := dk_42 (dk_at dksX0_end_0 14 rfl rfl)
theorem dX0_end_15 : decode cX0_end 15 = .ok (.iload_n 1, 1) := dk_27 (dk_at dksX0_end_0 15 rfl rfl)
theorem dX0_end_16 : decode cX0_end 16 = .ok (.putfield 74, 3) := dk_181 0 74 (dk_at dksX0_end_0 16 rfl rfl)
theorem dX0_end_19 : decode cX0_end 19 = .ok (.iconst 1, 1) := dk_4 (dk_at dksX0_end_0 19 rfl rfl)
theorem dX0_end_20 : decode cX0_end 20 = .ok (.ireturn, 1) := dk_172 (dk_at dksX0_end_0 20 rfl rfl)
abbrev cX0_isIn : ByteArray := prog_1_method_2_code
def yX0_isIn : MethodName := ⟨RX0, "isIn", "(III)Z"⟩
def dkwX0_isIn_0 : List UInt8 := [26, 27, 161, 0, 12, 26, 28, 163, 0, 7, 4, 167, 0, 4, 3, 172]
abbrev dktX0_isIn_0 : List UInt8 := dkwX0_isIn_0 ++ []
theorem dksX0_isIn_0 : cX0_isIn.data.toList.drop 0 = dktX0_isIn_0 := by decide +kernel
theorem dX0_isIn_0 : decode cX0_isIn 0 = .ok (.iload_n 0, 1) := dk_26 (dk_at dksX0_isIn_0 0 rfl rfl)
theorem dX0_isIn_1 : decode cX0_isIn 1 = .ok (.iload_n 1, 1) := dk_27 (dk_at dksX0_isIn_0 1 rfl rfl)
theorem dX0_isIn_2 : decode cX0_isIn 2 = .ok (.if_icmp .lt 12, 3) := dk_161 0 12 (dk_at dksX0_isIn_0 2 rfl rfl)
theorem dX0_isIn_5 : decode cX0_isIn 5 = .ok (.iload_n 0, 1) := dk_26 (dk_at dksX0_isIn_0 5 rfl rfl)
theorem dX0_isIn_6 : decode cX0_isIn 6 = .ok (.iload_n 2, 1) := dk_28 (dk_at dksX0_isIn_0 6 rfl rfl)
theorem dX0_isIn_7 : decode cX0_isIn 7 = .ok (.if_icmp .gt 7, 3) := dk_163 0 7 (dk_at dksX0_isIn_0 7 rfl rfl)
theorem dX0_isIn_10 : decode cX0_isIn 10 = .ok (.iconst 1, 1) := dk_4 (dk_at dksX0_isIn_0 10 rfl rfl)
theorem dX0_isIn_11 : decode cX0_isIn 11 = .ok (.goto 4, 3) := dk_167 0 4 (dk_at dksX0_isIn_0 11 rfl rfl)
theorem dX0_isIn_14 : decode cX0_isIn 14 = .ok (.iconst 0, 1) := dk_3 (dk_at dksX0_isIn_0 14 rfl rfl)
theorem dX0_isIn_15 : decode cX0_isIn 15 = .ok (.ireturn, 1) := dk_172 (dk_at dksX0_isIn_0 15 rfl rfl)
abbrev cX0_text : ByteArray := prog_1_method_6_code
def yX0_text : MethodName := ⟨RX0, "text", "(I)I"⟩
def dkwX0_text_4 : List UInt8 := [181, 0, 74, 29, 172, 58, 4, 42, 3, 181, 0, 74, 25, 4, 191]
abbrev dktX0_text_4 : List UInt8 := dkwX0_text_4 ++ []
def dkwX0_text_3 : List UInt8 := [29, 172, 77, 42, 44, 180, 0, 107, 181, 0, 85, 42, 44, 180, 0, 110, 181, 0, 23, 2, 62, 42, 3]
abbrev dktX0_text_3 : List UInt8 := dkwX0_text_3 ++ dktX0_text_4
def dkwX0_text_2 : List UInt8 := [182, 0, 93, 77, 42, 180, 0, 16, 27, 44, 182, 0, 97, 87, 44, 182, 0, 101, 62, 42, 3, 181, 0, 74]
abbrev dktX0_text_2 : List UInt8 := dkwX0_text_2 ++ dktX0_text_3
def dkwX0_text_1 : List UInt8 := [181, 0, 74, 28, 172, 187, 0, 88, 89, 42, 27, 5, 162, 0, 7, 4, 167, 0, 4, 3, 183, 0, 90]
abbrev dktX0_text_1 : List UInt8 := dkwX0_text_1 ++ dktX0_text_2
def dkwX0_text_0 : List UInt8 := [42, 3, 181, 0, 85, 42, 2, 181, 0, 23, 27, 3, 8, 184, 0, 81, 154, 0, 12, 2, 61, 42, 3]
abbrev dktX0_text_0 : List UInt8 := dkwX0_text_0 ++ dktX0_text_1
theorem dksX0_text_0 : cX0_text.data.toList.drop 0 = dktX0_text_0 := by decide +kernel
theorem dksX0_text_1 : cX0_text.data.toList.drop 23 = dktX0_text_1 := dk_seg dksX0_text_0 23 rfl rfl
theorem dksX0_text_2 : cX0_text.data.toList.drop 46 = dktX0_text_2 := dk_seg dksX0_text_1 23 rfl rfl
theorem dksX0_text_3 : cX0_text.data.toList.drop 70 = dktX0_text_3 := dk_seg dksX0_text_2 24 rfl rfl
theorem dksX0_text_4 : cX0_text.data.toList.drop 93 = dktX0_text_4 := dk_seg dksX0_text_3 23 rfl rfl
theorem dX0_text_0 : decode cX0_text 0 = .ok (.aload_n 0, 1) := dk_42 (dk_at dksX0_text_0 0 rfl rfl)
theorem dX0_text_1 : decode cX0_text 1 = .ok (.iconst 0, 1) := dk_3 (dk_at dksX0_text_0 1 rfl rfl)
theorem dX0_text_2 : decode cX0_text 2 = .ok (.putfield 85, 3) := dk_181 0 85 (dk_at dksX0_text_0 2 rfl rfl)
theorem dX0_text_5 : decode cX0_text 5 = .ok (.aload_n 0, 1) := dk_42 (dk_at dksX0_text_0 5 rfl rfl)
theorem dX0_text_6 : decode cX0_text 6 = .ok (.iconst (-1), 1) := dk_2 (dk_at dksX0_text_0 6 rfl rfl)
theorem dX0_text_7 : decode cX0_text 7 = .ok (.putfield 23, 3) := dk_181 0 23 (dk_at dksX0_text_0 7 rfl rfl)
theorem dX0_text_10 : decode cX0_text 10 = .ok (.iload_n 1, 1) := dk_27 (dk_at dksX0_text_0 10 rfl rfl)
theorem dX0_text_11 : decode cX0_text 11 = .ok (.iconst 0, 1) := dk_3 (dk_at dksX0_text_0 11 rfl rfl)
theorem dX0_text_12 : decode cX0_text 12 = .ok (.iconst 5, 1) := dk_8 (dk_at dksX0_text_0 12 rfl rfl)
theorem dX0_text_13 : decode cX0_text 13 = .ok (.invokestatic 81, 3) := dk_184 0 81 (dk_at dksX0_text_0 13 rfl rfl)
theorem dX0_text_16 : decode cX0_text 16 = .ok (.ifCond .ne 12, 3) := dk_154 0 12 (dk_at dksX0_text_0 16 rfl rfl)
theorem dX0_text_19 : decode cX0_text 19 = .ok (.iconst (-1), 1) := dk_2 (dk_at dksX0_text_0 19 rfl rfl)
theorem dX0_text_20 : decode cX0_text 20 = .ok (.istore_n 2, 1) := dk_61 (dk_at dksX0_text_0 20 rfl rfl)
theorem dX0_text_21 : decode cX0_text 21 = .ok (.aload_n 0, 1) := dk_42 (dk_at dksX0_text_0 21 rfl rfl)
theorem dX0_text_22 : decode cX0_text 22 = .ok (.iconst 0, 1) := dk_3 (dk_at dksX0_text_0 22 rfl rfl)
theorem dX0_text_23 : decode cX0_text 23 = .ok (.putfield 74, 3) := dk_181 0 74 (dk_at dksX0_text_1 0 rfl rfl)
theorem dX0_text_26 : decode cX0_text 26 = .ok (.iload_n 2, 1) := dk_28 (dk_at dksX0_text_1 3 rfl rfl)
theorem dX0_text_27 : decode cX0_text 27 = .ok (.ireturn, 1) := dk_172 (dk_at dksX0_text_1 4 rfl rfl)
theorem dX0_text_28 : decode cX0_text 28 = .ok (.new 88, 3) := dk_187 0 88 (dk_at dksX0_text_1 5 rfl rfl)
theorem dX0_text_31 : decode cX0_text 31 = .ok (.dup, 1) := dk_89 (dk_at dksX0_text_1 8 rfl rfl)
theorem dX0_text_32 : decode cX0_text 32 = .ok (.aload_n 0, 1) := dk_42 (dk_at dksX0_text_1 9 rfl rfl)
theorem dX0_text_33 : decode cX0_text 33 = .ok (.iload_n 1, 1) := dk_27 (dk_at dksX0_text_1 10 rfl rfl)
theorem dX0_text_34 : decode cX0_text 34 = .ok (.iconst 2, 1) := dk_5 (dk_at dksX0_text_1 11 rfl rfl)
theorem dX0_text_35 : decode cX0_text 35 = .ok (.if_icmp .ge 7, 3) := dk_162 0 7 (dk_at dksX0_text_1 12 rfl rfl)
theorem dX0_text_38 : decode cX0_text 38 = .ok (.iconst 1, 1) := dk_4 (dk_at dksX0_text_1 15 rfl rfl)
theorem dX0_text_39 : decode cX0_text 39 = .ok (.goto 4, 3) := dk_167 0 4 (dk_at dksX0_text_1 16 rfl rfl)
theorem dX0_text_42 : decode cX0_text 42 = .ok (.iconst 0, 1) := dk_3 (dk_at dksX0_text_1 19 rfl rfl)
theorem dX0_text_43 : decode cX0_text 43 = .ok (.invokespecial 90, 3) := dk_183 0 90 (dk_at dksX0_text_1 20 rfl rfl)
theorem dX0_text_46 : decode cX0_text 46 = .ok (.invokevirtual 93, 3) := dk_182 0 93 (dk_at dksX0_text_2 0 rfl rfl)
theorem dX0_text_49 : decode cX0_text 49 = .ok (.astore_n 2, 1) := dk_77 (dk_at dksX0_text_2 3 rfl rfl)
theorem dX0_text_50 : decode cX0_text 50 = .ok (.aload_n 0, 1) := dk_42 (dk_at dksX0_text_2 4 rfl rfl)
theorem dX0_text_51 : decode cX0_text 51 = .ok (.getfield 16, 3) := dk_180 0 16 (dk_at dksX0_text_2 5 rfl rfl)
theorem dX0_text_54 : decode cX0_text 54 = .ok (.iload_n 1, 1) := dk_27 (dk_at dksX0_text_2 8 rfl rfl)
theorem dX0_text_55 : decode cX0_text 55 = .ok (.aload_n 2, 1) := dk_44 (dk_at dksX0_text_2 9 rfl rfl)
theorem dX0_text_56 : decode cX0_text 56 = .ok (.invokevirtual 97, 3) := dk_182 0 97 (dk_at dksX0_text_2 10 rfl rfl)
theorem dX0_text_59 : decode cX0_text 59 = .ok (.pop, 1) := dk_87 (dk_at dksX0_text_2 13 rfl rfl)
theorem dX0_text_60 : decode cX0_text 60 = .ok (.aload_n 2, 1) := dk_44 (dk_at dksX0_text_2 14 rfl rfl)
theorem dX0_text_61 : decode cX0_text 61 = .ok (.invokevirtual 101, 3) := dk_182 0 101 (dk_at dksX0_text_2 15 rfl rfl)
theorem dX0_text_64 : decode cX0_text 64 = .ok (.istore_n 3, 1) := dk_62 (dk_at dksX0_text_2 18 rfl rfl)
theorem dX0_text_65 : decode cX0_text 65 = .ok (.aload_n 0, 1) := dk_42 (dk_at dksX0_text_2 19 rfl rfl)
theorem dX0_text_66 : decode cX0_text 66 = .ok (.iconst 0, 1) := dk_3 (dk_at dksX0_text_2 20 rfl rfl)
theorem dX0_text_67 : decode cX0_text 67 = .ok (.putfield 74, 3) := dk_181 0 74 (dk_at dksX0_text_2 21 rfl rfl)
theorem dX0_text_70 : decode cX0_text 70 = .ok (.iload_n 3, 1) := dk_29 (dk_at dksX0_text_3 0 rfl rfl)
theorem dX0_text_71 : decode cX0_text 71 = .ok (.ireturn, 1) := dk_172 (dk_at dksX0_text_3 1 rfl rfl)
theorem dX0_text_72 : decode cX0_text 72 = .ok (.astore_n 2, 1) := dk_77 (dk_at dksX0_text_3 2 rfl rfl)
theorem dX0_text_73 : decode cX0_text 73 = .ok (.aload_n 0, 1) := dk_42 (dk_at dksX0_text_3 3 rfl rfl)
theorem dX0_text_74 : decode cX0_text 74 = .ok (.aload_n 2, 1) := dk_44 (dk_at dksX0_text_3 4 rfl rfl)
theorem dX0_text_75 : decode cX0_text 75 = .ok (.getfield 107, 3) := dk_180 0 107 (dk_at dksX0_text_3 5 rfl rfl)
theorem dX0_text_78 : decode cX0_text 78 = .ok (.putfield 85, 3) := dk_181 0 85 (dk_at dksX0_text_3 8 rfl rfl)
theorem dX0_text_81 : decode cX0_text 81 = .ok (.aload_n 0, 1) := dk_42 (dk_at dksX0_text_3 11 rfl rfl)
theorem dX0_text_82 : decode cX0_text 82 = .ok (.aload_n 2, 1) := dk_44 (dk_at dksX0_text_3 12 rfl rfl)
theorem dX0_text_83 : decode cX0_text 83 = .ok (.getfield 110, 3) := dk_180 0 110 (dk_at dksX0_text_3 13 rfl rfl)
theorem dX0_text_86 : decode cX0_text 86 = .ok (.putfield 23, 3) := dk_181 0 23 (dk_at dksX0_text_3 16 rfl rfl)
theorem dX0_text_89 : decode cX0_text 89 = .ok (.iconst (-1), 1) := dk_2 (dk_at dksX0_text_3 19 rfl rfl)
theorem dX0_text_90 : decode cX0_text 90 = .ok (.istore_n 3, 1) := dk_62 (dk_at dksX0_text_3 20 rfl rfl)
theorem dX0_text_91 : decode cX0_text 91 = .ok (.aload_n 0, 1) := dk_42 (dk_at dksX0_text_3 21 rfl rfl)
theorem dX0_text_92 : decode cX0_text 92 = .ok (.iconst 0, 1) := dk_3 (dk_at dksX0_text_3 22 rfl rfl)
theorem dX0_text_93 : decode cX0_text 93 = .ok (.putfield 74, 3) := dk_181 0 74 (dk_at dksX0_text_4 0 rfl rfl)
theorem dX0_text_96 : decode cX0_text 96 = .ok (.iload_n 3, 1) := dk_29 (dk_at dksX0_text_4 3 rfl rfl)
theorem dX0_text_97 : decode cX0_text 97 = .ok (.ireturn, 1) := dk_172 (dk_at dksX0_text_4 4 rfl rfl)
theorem dX0_text_98 : decode cX0_text 98 = .ok (.astore 4, 2) := dk_58 4 (dk_at dksX0_text_4 5 rfl rfl)
theorem dX0_text_100 : decode cX0_text 100 = .ok (.aload_n 0, 1) := dk_42 (dk_at dksX0_text_4 7 rfl rfl)
theorem dX0_text_101 : decode cX0_text 101 = .ok (.iconst 0, 1) := dk_3 (dk_at dksX0_text_4 8 rfl rfl)
theorem dX0_text_102 : decode cX0_text 102 = .ok (.putfield 74, 3) := dk_181 0 74 (dk_at dksX0_text_4 9 rfl rfl)
theorem dX0_text_105 : decode cX0_text 105 = .ok (.aload 4, 2) := dk_25 4 (dk_at dksX0_text_4 12 rfl rfl)
theorem dX0_text_107 : decode cX0_text 107 = .ok (.athrow, 1) := dk_191 (dk_at dksX0_text_4 14 rfl rfl)
abbrev cX0_fault : ByteArray := prog_1_method_7_code
def yX0_fault : MethodName := ⟨RX0, "fault", "(I)I"⟩
def dkwX0_fault_1 : List UInt8 := [172]
abbrev dktX0_fault_1 : List UInt8 := dkwX0_fault_1 ++ []
def dkwX0_fault_0 : List UInt8 := [27, 154, 0, 10, 42, 180, 0, 85, 167, 0, 16, 27, 4, 160, 0, 10, 42, 180, 0, 23, 167, 0, 4, 2]
abbrev dktX0_fault_0 : List UInt8 := dkwX0_fault_0 ++ dktX0_fault_1
theorem dksX0_fault_0 : cX0_fault.data.toList.drop 0 = dktX0_fault_0 := by decide +kernel
theorem dksX0_fault_1 : cX0_fault.data.toList.drop 24 = dktX0_fault_1 := dk_seg dksX0_fault_0 24 rfl rfl
theorem dX0_fault_0 : decode cX0_fault 0 = .ok (.iload_n 1, 1) := dk_27 (dk_at dksX0_fault_0 0 rfl rfl)
theorem dX0_fault_1 : decode cX0_fault 1 = .ok (.ifCond .ne 10, 3) := dk_154 0 10 (dk_at dksX0_fault_0 1 rfl rfl)
theorem dX0_fault_4 : decode cX0_fault 4 = .ok (.aload_n 0, 1) := dk_42 (dk_at dksX0_fault_0 4 rfl rfl)
theorem dX0_fault_5 : decode cX0_fault 5 = .ok (.getfield 85, 3) := dk_180 0 85 (dk_at dksX0_fault_0 5 rfl rfl)
theorem dX0_fault_8 : decode cX0_fault 8 = .ok (.goto 16, 3) := dk_167 0 16 (dk_at dksX0_fault_0 8 rfl rfl)
theorem dX0_fault_11 : decode cX0_fault 11 = .ok (.iload_n 1, 1) := dk_27 (dk_at dksX0_fault_0 11 rfl rfl)
theorem dX0_fault_12 : decode cX0_fault 12 = .ok (.iconst 1, 1) := dk_4 (dk_at dksX0_fault_0 12 rfl rfl)
theorem dX0_fault_13 : decode cX0_fault 13 = .ok (.if_icmp .ne 10, 3) := dk_160 0 10 (dk_at dksX0_fault_0 13 rfl rfl)
theorem dX0_fault_16 : decode cX0_fault 16 = .ok (.aload_n 0, 1) := dk_42 (dk_at dksX0_fault_0 16 rfl rfl)
theorem dX0_fault_17 : decode cX0_fault 17 = .ok (.getfield 23, 3) := dk_180 0 23 (dk_at dksX0_fault_0 17 rfl rfl)
theorem dX0_fault_20 : decode cX0_fault 20 = .ok (.goto 4, 3) := dk_167 0 4 (dk_at dksX0_fault_0 20 rfl rfl)
theorem dX0_fault_23 : decode cX0_fault 23 = .ok (.iconst (-1), 1) := dk_2 (dk_at dksX0_fault_0 23 rfl rfl)
theorem dX0_fault_24 : decode cX0_fault 24 = .ok (.ireturn, 1) := dk_172 (dk_at dksX0_fault_1 0 rfl rfl)
abbrev cX0_state : ByteArray := prog_1_method_8_code
def yX0_state : MethodName := ⟨RX0, "state", "(I)I"⟩
def dkwX0_state_0 : List UInt8 := [42, 180, 0, 36, 180, 0, 113, 61, 42, 180, 0, 36, 27, 181, 0, 113, 28, 172]
abbrev dktX0_state_0 : List UInt8 := dkwX0_state_0 ++ []
theorem dksX0_state_0 : cX0_state.data.toList.drop 0 = dktX0_state_0 := by decide +kernel
theorem dX0_state_0 : decode cX0_state 0 = .ok (.aload_n 0, 1) := dk_42 (dk_at dksX0_state_0 0 rfl rfl)
theorem dX0_state_1 : decode cX0_state 1 = .ok (.getfield 36, 3) := dk_180 0 36 (dk_at dksX0_state_0 1 rfl rfl)
theorem dX0_state_4 : decode cX0_state 4 = .ok (.getfield 113, 3) := dk_180 0 113 (dk_at dksX0_state_0 4 rfl rfl)
theorem dX0_state_7 : decode cX0_state 7 = .ok (.istore_n 2, 1) := dk_61 (dk_at dksX0_state_0 7 rfl rfl)
theorem dX0_state_8 : decode cX0_state 8 = .ok (.aload_n 0, 1) := dk_42 (dk_at dksX0_state_0 8 rfl rfl)
theorem dX0_state_9 : decode cX0_state 9 = .ok (.getfield 36, 3) := dk_180 0 36 (dk_at dksX0_state_0 9 rfl rfl)
theorem dX0_state_12 : decode cX0_state 12 = .ok (.iload_n 1, 1) := dk_27 (dk_at dksX0_state_0 12 rfl rfl)
theorem dX0_state_13 : decode cX0_state 13 = .ok (.putfield 113, 3) := dk_181 0 113 (dk_at dksX0_state_0 13 rfl rfl)
theorem dX0_state_16 : decode cX0_state 16 = .ok (.iload_n 2, 1) := dk_28 (dk_at dksX0_state_0 16 rfl rfl)
theorem dX0_state_17 : decode cX0_state 17 = .ok (.ireturn, 1) := dk_172 (dk_at dksX0_state_0 17 rfl rfl)
abbrev cX0_one : ByteArray := prog_1_method_12_code
def yX0_one : MethodName := ⟨RX0, "one", "(II)I"⟩
def dkwX0_one_4 : List UInt8 := [42, 180, 0, 36, 180, 0, 116, 4, 100, 172]
abbrev dktX0_one_4 : List UInt8 := dkwX0_one_4 ++ []
def dkwX0_one_3 : List UInt8 := [167, 255, 241, 45, 3, 28, 79, 45, 4, 27, 79, 42, 180, 0, 36, 89, 180, 0, 116, 4, 96, 181, 0, 116]
abbrev dktX0_one_3 : List UInt8 := dkwX0_one_3 ++ dktX0_one_4
def dkwX0_one_2 : List UInt8 := [50, 180, 0, 127, 78, 3, 54, 4, 21, 4, 45, 190, 162, 0, 14, 45, 21, 4, 3, 79, 132, 4, 1]
abbrev dktX0_one_2 : List UInt8 := dkwX0_one_2 ++ dktX0_one_3
def dkwX0_one_1 : List UInt8 := [180, 0, 116, 16, 12, 160, 0, 5, 2, 172, 42, 180, 0, 36, 180, 0, 123, 42, 180, 0, 36, 180, 0, 116]
abbrev dktX0_one_1 : List UInt8 := dkwX0_one_1 ++ dktX0_one_2
def dkwX0_one_0 : List UInt8 := [27, 3, 16, 99, 184, 0, 81, 153, 0, 24, 28, 3, 7, 184, 0, 81, 153, 0, 15, 42, 180, 0, 36]
abbrev dktX0_one_0 : List UInt8 := dkwX0_one_0 ++ dktX0_one_1
theorem dksX0_one_0 : cX0_one.data.toList.drop 0 = dktX0_one_0 := by decide +kernel
theorem dksX0_one_1 : cX0_one.data.toList.drop 23 = dktX0_one_1 := dk_seg dksX0_one_0 23 rfl rfl
theorem dksX0_one_2 : cX0_one.data.toList.drop 47 = dktX0_one_2 := dk_seg dksX0_one_1 24 rfl rfl
theorem dksX0_one_3 : cX0_one.data.toList.drop 70 = dktX0_one_3 := dk_seg dksX0_one_2 23 rfl rfl
theorem dksX0_one_4 : cX0_one.data.toList.drop 94 = dktX0_one_4 := dk_seg dksX0_one_3 24 rfl rfl
theorem dX0_one_0 : decode cX0_one 0 = .ok (.iload_n 1, 1) := dk_27 (dk_at dksX0_one_0 0 rfl rfl)
theorem dX0_one_1 : decode cX0_one 1 = .ok (.iconst 0, 1) := dk_3 (dk_at dksX0_one_0 1 rfl rfl)
theorem dX0_one_2 : decode cX0_one 2 = .ok (.bipush 99, 2) := dk_16 99 (dk_at dksX0_one_0 2 rfl rfl)
theorem dX0_one_4 : decode cX0_one 4 = .ok (.invokestatic 81, 3) := dk_184 0 81 (dk_at dksX0_one_0 4 rfl rfl)
theorem dX0_one_7 : decode cX0_one 7 = .ok (.ifCond .eq 24, 3) := dk_153 0 24 (dk_at dksX0_one_0 7 rfl rfl)
theorem dX0_one_10 : decode cX0_one 10 = .ok (.iload_n 2, 1) := dk_28 (dk_at dksX0_one_0 10 rfl rfl)
theorem dX0_one_11 : decode cX0_one 11 = .ok (.iconst 0, 1) := dk_3 (dk_at dksX0_one_0 11 rfl rfl)
theorem dX0_one_12 : decode cX0_one 12 = .ok (.iconst 4, 1) := dk_7 (dk_at dksX0_one_0 12 rfl rfl)
theorem dX0_one_13 : decode cX0_one 13 = .ok (.invokestatic 81, 3) := dk_184 0 81 (dk_at dksX0_one_0 13 rfl rfl)
theorem dX0_one_16 : decode cX0_one 16 = .ok (.ifCond .eq 15, 3) := dk_153 0 15 (dk_at dksX0_one_0 16 rfl rfl)
theorem dX0_one_19 : decode cX0_one 19 = .ok (.aload_n 0, 1) := dk_42 (dk_at dksX0_one_0 19 rfl rfl)
theorem dX0_one_20 : decode cX0_one 20 = .ok (.getfield 36, 3) := dk_180 0 36 (dk_at dksX0_one_0 20 rfl rfl)
theorem dX0_one_23 : decode cX0_one 23 = .ok (.getfield 116, 3) := dk_180 0 116 (dk_at dksX0_one_1 0 rfl rfl)
theorem dX0_one_26 : decode cX0_one 26 = .ok (.bipush 12, 2) := dk_16 12 (dk_at dksX0_one_1 3 rfl rfl)
theorem dX0_one_28 : decode cX0_one 28 = .ok (.if_icmp .ne 5, 3) := dk_160 0 5 (dk_at dksX0_one_1 5 rfl rfl)
theorem dX0_one_31 : decode cX0_one 31 = .ok (.iconst (-1), 1) := dk_2 (dk_at dksX0_one_1 8 rfl rfl)
theorem dX0_one_32 : decode cX0_one 32 = .ok (.ireturn, 1) := dk_172 (dk_at dksX0_one_1 9 rfl rfl)
theorem dX0_one_33 : decode cX0_one 33 = .ok (.aload_n 0, 1) := dk_42 (dk_at dksX0_one_1 10 rfl rfl)
theorem dX0_one_34 : decode cX0_one 34 = .ok (.getfield 36, 3) := dk_180 0 36 (dk_at dksX0_one_1 11 rfl rfl)
theorem dX0_one_37 : decode cX0_one 37 = .ok (.getfield 123, 3) := dk_180 0 123 (dk_at dksX0_one_1 14 rfl rfl)
theorem dX0_one_40 : decode cX0_one 40 = .ok (.aload_n 0, 1) := dk_42 (dk_at dksX0_one_1 17 rfl rfl)
theorem dX0_one_41 : decode cX0_one 41 = .ok (.getfield 36, 3) := dk_180 0 36 (dk_at dksX0_one_1 18 rfl rfl)
theorem dX0_one_44 : decode cX0_one 44 = .ok (.getfield 116, 3) := dk_180 0 116 (dk_at dksX0_one_1 21 rfl rfl)
theorem dX0_one_47 : decode cX0_one 47 = .ok (.aaload, 1) := dk_50 (dk_at dksX0_one_2 0 rfl rfl)
theorem dX0_one_48 : decode cX0_one 48 = .ok (.getfield 127, 3) := dk_180 0 127 (dk_at dksX0_one_2 1 rfl rfl)
theorem dX0_one_51 : decode cX0_one 51 = .ok (.astore_n 3, 1) := dk_78 (dk_at dksX0_one_2 4 rfl rfl)
theorem dX0_one_52 : decode cX0_one 52 = .ok (.iconst 0, 1) := dk_3 (dk_at dksX0_one_2 5 rfl rfl)
theorem dX0_one_53 : decode cX0_one 53 = .ok (.istore 4, 2) := dk_54 4 (dk_at dksX0_one_2 6 rfl rfl)
theorem dX0_one_55 : decode cX0_one 55 = .ok (.iload 4, 2) := dk_21 4 (dk_at dksX0_one_2 8 rfl rfl)
theorem dX0_one_57 : decode cX0_one 57 = .ok (.aload_n 3, 1) := dk_45 (dk_at dksX0_one_2 10 rfl rfl)
theorem dX0_one_58 : decode cX0_one 58 = .ok (.arraylength, 1) := dk_190 (dk_at dksX0_one_2 11 rfl rfl)
theorem dX0_one_59 : decode cX0_one 59 = .ok (.if_icmp .ge 14, 3) := dk_162 0 14 (dk_at dksX0_one_2 12 rfl rfl)
theorem dX0_one_62 : decode cX0_one 62 = .ok (.aload_n 3, 1) := dk_45 (dk_at dksX0_one_2 15 rfl rfl)
theorem dX0_one_63 : decode cX0_one 63 = .ok (.iload 4, 2) := dk_21 4 (dk_at dksX0_one_2 16 rfl rfl)
theorem dX0_one_65 : decode cX0_one 65 = .ok (.iconst 0, 1) := dk_3 (dk_at dksX0_one_2 18 rfl rfl)
theorem dX0_one_66 : decode cX0_one 66 = .ok (.iastore, 1) := dk_79 (dk_at dksX0_one_2 19 rfl rfl)
theorem dX0_one_67 : decode cX0_one 67 = .ok (.iinc 4 1, 3) := dk_132 4 1 (dk_at dksX0_one_2 20 rfl rfl)
theorem dX0_one_70 : decode cX0_one 70 = .ok (.goto (-15), 3) := dk_167 255 241 (dk_at dksX0_one_3 0 rfl rfl)
theorem dX0_one_73 : decode cX0_one 73 = .ok (.aload_n 3, 1) := dk_45 (dk_at dksX0_one_3 3 rfl rfl)
theorem dX0_one_74 : decode cX0_one 74 = .ok (.iconst 0, 1) := dk_3 (dk_at dksX0_one_3 4 rfl rfl)
theorem dX0_one_75 : decode cX0_one 75 = .ok (.iload_n 2, 1) := dk_28 (dk_at dksX0_one_3 5 rfl rfl)
theorem dX0_one_76 : decode cX0_one 76 = .ok (.iastore, 1) := dk_79 (dk_at dksX0_one_3 6 rfl rfl)
theorem dX0_one_77 : decode cX0_one 77 = .ok (.aload_n 3, 1) := dk_45 (dk_at dksX0_one_3 7 rfl rfl)
theorem dX0_one_78 : decode cX0_one 78 = .ok (.iconst 1, 1) := dk_4 (dk_at dksX0_one_3 8 rfl rfl)
theorem dX0_one_79 : decode cX0_one 79 = .ok (.iload_n 1, 1) := dk_27 (dk_at dksX0_one_3 9 rfl rfl)
theorem dX0_one_80 : decode cX0_one 80 = .ok (.iastore, 1) := dk_79 (dk_at dksX0_one_3 10 rfl rfl)
theorem dX0_one_81 : decode cX0_one 81 = .ok (.aload_n 0, 1) := dk_42 (dk_at dksX0_one_3 11 rfl rfl)
theorem dX0_one_82 : decode cX0_one 82 = .ok (.getfield 36, 3) := dk_180 0 36 (dk_at dksX0_one_3 12 rfl rfl)
theorem dX0_one_85 : decode cX0_one 85 = .ok (.dup, 1) := dk_89 (dk_at dksX0_one_3 15 rfl rfl)
theorem dX0_one_86 : decode cX0_one 86 = .ok (.getfield 116, 3) := dk_180 0 116 (dk_at dksX0_one_3 16 rfl rfl)
theorem dX0_one_89 : decode cX0_one 89 = .ok (.iconst 1, 1) := dk_4 (dk_at dksX0_one_3 19 rfl rfl)
theorem dX0_one_90 : decode cX0_one 90 = .ok (.iadd, 1) := dk_96 (dk_at dksX0_one_3 20 rfl rfl)
theorem dX0_one_91 : decode cX0_one 91 = .ok (.putfield 116, 3) := dk_181 0 116 (dk_at dksX0_one_3 21 rfl rfl)
theorem dX0_one_94 : decode cX0_one 94 = .ok (.aload_n 0, 1) := dk_42 (dk_at dksX0_one_4 0 rfl rfl)
theorem dX0_one_95 : decode cX0_one 95 = .ok (.getfield 36, 3) := dk_180 0 36 (dk_at dksX0_one_4 1 rfl rfl)
theorem dX0_one_98 : decode cX0_one 98 = .ok (.getfield 116, 3) := dk_180 0 116 (dk_at dksX0_one_4 4 rfl rfl)
theorem dX0_one_101 : decode cX0_one 101 = .ok (.iconst 1, 1) := dk_4 (dk_at dksX0_one_4 7 rfl rfl)
theorem dX0_one_102 : decode cX0_one 102 = .ok (.isub, 1) := dk_100 (dk_at dksX0_one_4 8 rfl rfl)
theorem dX0_one_103 : decode cX0_one 103 = .ok (.ireturn, 1) := dk_172 (dk_at dksX0_one_4 9 rfl rfl)
abbrev cX0_stick : ByteArray := prog_1_method_13_code
def yX0_stick : MethodName := ⟨RX0, "stick", "(III)Z"⟩
def dkwX0_stick_3 : List UInt8 := [180, 0, 127, 28, 29, 79, 4, 172]
abbrev dktX0_stick_3 : List UInt8 := dkwX0_stick_3 ++ []
def dkwX0_stick_2 : List UInt8 := [167, 0, 6, 17, 39, 15, 184, 0, 81, 154, 0, 5, 3, 172, 42, 180, 0, 36, 180, 0, 123, 27, 50]
abbrev dktX0_stick_2 : List UInt8 := dkwX0_stick_2 ++ dktX0_stick_3
def dkwX0_stick_1 : List UInt8 := [7, 167, 0, 27, 28, 4, 160, 0, 8, 16, 99, 167, 0, 17, 28, 16, 6, 160, 0, 8, 16, 9]
abbrev dktX0_stick_1 : List UInt8 := dkwX0_stick_1 ++ dktX0_stick_2
def dkwX0_stick_0 : List UInt8 := [42, 27, 182, 0, 119, 153, 0, 53, 28, 3, 16, 6, 184, 0, 81, 153, 0, 43, 29, 3, 28, 154, 0, 7]
abbrev dktX0_stick_0 : List UInt8 := dkwX0_stick_0 ++ dktX0_stick_1
theorem dksX0_stick_0 : cX0_stick.data.toList.drop 0 = dktX0_stick_0 := by decide +kernel
theorem dksX0_stick_1 : cX0_stick.data.toList.drop 24 = dktX0_stick_1 := dk_seg dksX0_stick_0 24 rfl rfl
theorem dksX0_stick_2 : cX0_stick.data.toList.drop 46 = dktX0_stick_2 := dk_seg dksX0_stick_1 22 rfl rfl
theorem dksX0_stick_3 : cX0_stick.data.toList.drop 69 = dktX0_stick_3 := dk_seg dksX0_stick_2 23 rfl rfl
theorem dX0_stick_0 : decode cX0_stick 0 = .ok (.aload_n 0, 1) := dk_42 (dk_at dksX0_stick_0 0 rfl rfl)
theorem dX0_stick_1 : decode cX0_stick 1 = .ok (.iload_n 1, 1) := dk_27 (dk_at dksX0_stick_0 1 rfl rfl)
theorem dX0_stick_2 : decode cX0_stick 2 = .ok (.invokevirtual 119, 3) := dk_182 0 119 (dk_at dksX0_stick_0 2 rfl rfl)
theorem dX0_stick_5 : decode cX0_stick 5 = .ok (.ifCond .eq 53, 3) := dk_153 0 53 (dk_at dksX0_stick_0 5 rfl rfl)
theorem dX0_stick_8 : decode cX0_stick 8 = .ok (.iload_n 2, 1) := dk_28 (dk_at dksX0_stick_0 8 rfl rfl)
theorem dX0_stick_9 : decode cX0_stick 9 = .ok (.iconst 0, 1) := dk_3 (dk_at dksX0_stick_0 9 rfl rfl)
theorem dX0_stick_10 : decode cX0_stick 10 = .ok (.bipush 6, 2) := dk_16 6 (dk_at dksX0_stick_0 10 rfl rfl)
theorem dX0_stick_12 : decode cX0_stick 12 = .ok (.invokestatic 81, 3) := dk_184 0 81 (dk_at dksX0_stick_0 12 rfl rfl)
theorem dX0_stick_15 : decode cX0_stick 15 = .ok (.ifCond .eq 43, 3) := dk_153 0 43 (dk_at dksX0_stick_0 15 rfl rfl)
theorem dX0_stick_18 : decode cX0_stick 18 = .ok (.iload_n 3, 1) := dk_29 (dk_at dksX0_stick_0 18 rfl rfl)
theorem dX0_stick_19 : decode cX0_stick 19 = .ok (.iconst 0, 1) := dk_3 (dk_at dksX0_stick_0 19 rfl rfl)
theorem dX0_stick_20 : decode cX0_stick 20 = .ok (.iload_n 2, 1) := dk_28 (dk_at dksX0_stick_0 20 rfl rfl)
theorem dX0_stick_21 : decode cX0_stick 21 = .ok (.ifCond .ne 7, 3) := dk_154 0 7 (dk_at dksX0_stick_0 21 rfl rfl)
theorem dX0_stick_24 : decode cX0_stick 24 = .ok (.iconst 4, 1) := dk_7 (dk_at dksX0_stick_1 0 rfl rfl)
theorem dX0_stick_25 : decode cX0_stick 25 = .ok (.goto 27, 3) := dk_167 0 27 (dk_at dksX0_stick_1 1 rfl rfl)
theorem dX0_stick_28 : decode cX0_stick 28 = .ok (.iload_n 2, 1) := dk_28 (dk_at dksX0_stick_1 4 rfl rfl)
theorem dX0_stick_29 : decode cX0_stick 29 = .ok (.iconst 1, 1) := dk_4 (dk_at dksX0_stick_1 5 rfl rfl)
theorem dX0_stick_30 : decode cX0_stick 30 = .ok (.if_icmp .ne 8, 3) := dk_160 0 8 (dk_at dksX0_stick_1 6 rfl rfl)
theorem dX0_stick_33 : decode cX0_stick 33 = .ok (.bipush 99, 2) := dk_16 99 (dk_at dksX0_stick_1 9 rfl rfl)
theorem dX0_stick_35 : decode cX0_stick 35 = .ok (.goto 17, 3) := dk_167 0 17 (dk_at dksX0_stick_1 11 rfl rfl)
theorem dX0_stick_38 : decode cX0_stick 38 = .ok (.iload_n 2, 1) := dk_28 (dk_at dksX0_stick_1 14 rfl rfl)
theorem dX0_stick_39 : decode cX0_stick 39 = .ok (.bipush 6, 2) := dk_16 6 (dk_at dksX0_stick_1 15 rfl rfl)
theorem dX0_stick_41 : decode cX0_stick 41 = .ok (.if_icmp .ne 8, 3) := dk_160 0 8 (dk_at dksX0_stick_1 17 rfl rfl)
theorem dX0_stick_44 : decode cX0_stick 44 = .ok (.bipush 9, 2) := dk_16 9 (dk_at dksX0_stick_1 20 rfl rfl)
theorem dX0_stick_46 : decode cX0_stick 46 = .ok (.goto 6, 3) := dk_167 0 6 (dk_at dksX0_stick_2 0 rfl rfl)
theorem dX0_stick_49 : decode cX0_stick 49 = .ok (.sipush 9999, 3) := dk_17 39 15 (dk_at dksX0_stick_2 3 rfl rfl)
theorem dX0_stick_52 : decode cX0_stick 52 = .ok (.invokestatic 81, 3) := dk_184 0 81 (dk_at dksX0_stick_2 6 rfl rfl)
theorem dX0_stick_55 : decode cX0_stick 55 = .ok (.ifCond .ne 5, 3) := dk_154 0 5 (dk_at dksX0_stick_2 9 rfl rfl)
theorem dX0_stick_58 : decode cX0_stick 58 = .ok (.iconst 0, 1) := dk_3 (dk_at dksX0_stick_2 12 rfl rfl)
theorem dX0_stick_59 : decode cX0_stick 59 = .ok (.ireturn, 1) := dk_172 (dk_at dksX0_stick_2 13 rfl rfl)
theorem dX0_stick_60 : decode cX0_stick 60 = .ok (.aload_n 0, 1) := dk_42 (dk_at dksX0_stick_2 14 rfl rfl)
theorem dX0_stick_61 : decode cX0_stick 61 = .ok (.getfield 36, 3) := dk_180 0 36 (dk_at dksX0_stick_2 15 rfl rfl)
theorem dX0_stick_64 : decode cX0_stick 64 = .ok (.getfield 123, 3) := dk_180 0 123 (dk_at dksX0_stick_2 18 rfl rfl)
theorem dX0_stick_67 : decode cX0_stick 67 = .ok (.iload_n 1, 1) := dk_27 (dk_at dksX0_stick_2 21 rfl rfl)
theorem dX0_stick_68 : decode cX0_stick 68 = .ok (.aaload, 1) := dk_50 (dk_at dksX0_stick_2 22 rfl rfl)
theorem dX0_stick_69 : decode cX0_stick 69 = .ok (.getfield 127, 3) := dk_180 0 127 (dk_at dksX0_stick_3 0 rfl rfl)
theorem dX0_stick_72 : decode cX0_stick 72 = .ok (.iload_n 2, 1) := dk_28 (dk_at dksX0_stick_3 3 rfl rfl)
theorem dX0_stick_73 : decode cX0_stick 73 = .ok (.iload_n 3, 1) := dk_29 (dk_at dksX0_stick_3 4 rfl rfl)
theorem dX0_stick_74 : decode cX0_stick 74 = .ok (.iastore, 1) := dk_79 (dk_at dksX0_stick_3 5 rfl rfl)
theorem dX0_stick_75 : decode cX0_stick 75 = .ok (.iconst 1, 1) := dk_4 (dk_at dksX0_stick_3 6 rfl rfl)
theorem dX0_stick_76 : decode cX0_stick 76 = .ok (.ireturn, 1) := dk_172 (dk_at dksX0_stick_3 7 rfl rfl)
abbrev cX0_isOne : ByteArray := prog_1_method_9_code
def yX0_isOne : MethodName := ⟨RX0, "isOne", "(I)Z"⟩
def dkwX0_isOne_0 : List UInt8 := [27, 3, 42, 180, 0, 36, 180, 0, 116, 4, 100, 184, 0, 81, 172]
abbrev dktX0_isOne_0 : List UInt8 := dkwX0_isOne_0 ++ []
theorem dksX0_isOne_0 : cX0_isOne.data.toList.drop 0 = dktX0_isOne_0 := by decide +kernel
theorem dX0_isOne_0 : decode cX0_isOne 0 = .ok (.iload_n 1, 1) := dk_27 (dk_at dksX0_isOne_0 0 rfl rfl)
theorem dX0_isOne_1 : decode cX0_isOne 1 = .ok (.iconst 0, 1) := dk_3 (dk_at dksX0_isOne_0 1 rfl rfl)
theorem dX0_isOne_2 : decode cX0_isOne 2 = .ok (.aload_n 0, 1) := dk_42 (dk_at dksX0_isOne_0 2 rfl rfl)
theorem dX0_isOne_3 : decode cX0_isOne 3 = .ok (.getfield 36, 3) := dk_180 0 36 (dk_at dksX0_isOne_0 3 rfl rfl)
theorem dX0_isOne_6 : decode cX0_isOne 6 = .ok (.getfield 116, 3) := dk_180 0 116 (dk_at dksX0_isOne_0 6 rfl rfl)
theorem dX0_isOne_9 : decode cX0_isOne 9 = .ok (.iconst 1, 1) := dk_4 (dk_at dksX0_isOne_0 9 rfl rfl)
theorem dX0_isOne_10 : decode cX0_isOne 10 = .ok (.isub, 1) := dk_100 (dk_at dksX0_isOne_0 10 rfl rfl)
theorem dX0_isOne_11 : decode cX0_isOne 11 = .ok (.invokestatic 81, 3) := dk_184 0 81 (dk_at dksX0_isOne_0 11 rfl rfl)
theorem dX0_isOne_14 : decode cX0_isOne 14 = .ok (.ireturn, 1) := dk_172 (dk_at dksX0_isOne_0 14 rfl rfl)
abbrev cX0_set : ByteArray := prog_1_method_14_code
def yX0_set : MethodName := ⟨RX0, "set", "(II)Z"⟩
def dkwX0_set_3 : List UInt8 := [3, 172, 42, 180, 0, 36, 180, 0, 133, 27, 28, 79, 4, 172]
abbrev dktX0_set_3 : List UInt8 := dkwX0_set_3 ++ []
def dkwX0_set_2 : List UInt8 := [3, 16, 22, 184, 0, 81, 153, 0, 18, 27, 16, 10, 159, 0, 12, 28, 3, 29, 184, 0, 81, 154, 0, 5]
abbrev dktX0_set_2 : List UInt8 := dkwX0_set_2 ++ dktX0_set_3
def dkwX0_set_1 : List UInt8 := [16, 8, 160, 0, 8, 16, 20, 167, 0, 15, 27, 16, 9, 160, 0, 7, 4, 167, 0, 5, 16, 99, 62, 27]
abbrev dktX0_set_1 : List UInt8 := dkwX0_set_1 ++ dktX0_set_2
def dkwX0_set_0 : List UInt8 := [27, 8, 160, 0, 9, 17, 3, 232, 167, 0, 37, 27, 16, 6, 160, 0, 8, 16, 9, 167, 0, 26, 27]
abbrev dktX0_set_0 : List UInt8 := dkwX0_set_0 ++ dktX0_set_1
theorem dksX0_set_0 : cX0_set.data.toList.drop 0 = dktX0_set_0 := by decide +kernel
theorem dksX0_set_1 : cX0_set.data.toList.drop 23 = dktX0_set_1 := dk_seg dksX0_set_0 23 rfl rfl
theorem dksX0_set_2 : cX0_set.data.toList.drop 47 = dktX0_set_2 := dk_seg dksX0_set_1 24 rfl rfl
theorem dksX0_set_3 : cX0_set.data.toList.drop 71 = dktX0_set_3 := dk_seg dksX0_set_2 24 rfl rfl
theorem dX0_set_0 : decode cX0_set 0 = .ok (.iload_n 1, 1) := dk_27 (dk_at dksX0_set_0 0 rfl rfl)
theorem dX0_set_1 : decode cX0_set 1 = .ok (.iconst 5, 1) := dk_8 (dk_at dksX0_set_0 1 rfl rfl)
theorem dX0_set_2 : decode cX0_set 2 = .ok (.if_icmp .ne 9, 3) := dk_160 0 9 (dk_at dksX0_set_0 2 rfl rfl)
theorem dX0_set_5 : decode cX0_set 5 = .ok (.sipush 1000, 3) := dk_17 3 232 (dk_at dksX0_set_0 5 rfl rfl)
theorem dX0_set_8 : decode cX0_set 8 = .ok (.goto 37, 3) := dk_167 0 37 (dk_at dksX0_set_0 8 rfl rfl)
theorem dX0_set_11 : decode cX0_set 11 = .ok (.iload_n 1, 1) := dk_27 (dk_at dksX0_set_0 11 rfl rfl)
theorem dX0_set_12 : decode cX0_set 12 = .ok (.bipush 6, 2) := dk_16 6 (dk_at dksX0_set_0 12 rfl rfl)
theorem dX0_set_14 : decode cX0_set 14 = .ok (.if_icmp .ne 8, 3) := dk_160 0 8 (dk_at dksX0_set_0 14 rfl rfl)
theorem dX0_set_17 : decode cX0_set 17 = .ok (.bipush 9, 2) := dk_16 9 (dk_at dksX0_set_0 17 rfl rfl)
theorem dX0_set_19 : decode cX0_set 19 = .ok (.goto 26, 3) := dk_167 0 26 (dk_at dksX0_set_0 19 rfl rfl)
theorem dX0_set_22 : decode cX0_set 22 = .ok (.iload_n 1, 1) := dk_27 (dk_at dksX0_set_0 22 rfl rfl)
theorem dX0_set_23 : decode cX0_set 23 = .ok (.bipush 8, 2) := dk_16 8 (dk_at dksX0_set_1 0 rfl rfl)
theorem dX0_set_25 : decode cX0_set 25 = .ok (.if_icmp .ne 8, 3) := dk_160 0 8 (dk_at dksX0_set_1 2 rfl rfl)
theorem dX0_set_28 : decode cX0_set 28 = .ok (.bipush 20, 2) := dk_16 20 (dk_at dksX0_set_1 5 rfl rfl)
theorem dX0_set_30 : decode cX0_set 30 = .ok (.goto 15, 3) := dk_167 0 15 (dk_at dksX0_set_1 7 rfl rfl)
theorem dX0_set_33 : decode cX0_set 33 = .ok (.iload_n 1, 1) := dk_27 (dk_at dksX0_set_1 10 rfl rfl)
theorem dX0_set_34 : decode cX0_set 34 = .ok (.bipush 9, 2) := dk_16 9 (dk_at dksX0_set_1 11 rfl rfl)
theorem dX0_set_36 : decode cX0_set 36 = .ok (.if_icmp .ne 7, 3) := dk_160 0 7 (dk_at dksX0_set_1 13 rfl rfl)
theorem dX0_set_39 : decode cX0_set 39 = .ok (.iconst 1, 1) := dk_4 (dk_at dksX0_set_1 16 rfl rfl)
theorem dX0_set_40 : decode cX0_set 40 = .ok (.goto 5, 3) := dk_167 0 5 (dk_at dksX0_set_1 17 rfl rfl)
theorem dX0_set_43 : decode cX0_set 43 = .ok (.bipush 99, 2) := dk_16 99 (dk_at dksX0_set_1 20 rfl rfl)
theorem dX0_set_45 : decode cX0_set 45 = .ok (.istore_n 3, 1) := dk_62 (dk_at dksX0_set_1 22 rfl rfl)
theorem dX0_set_46 : decode cX0_set 46 = .ok (.iload_n 1, 1) := dk_27 (dk_at dksX0_set_1 23 rfl rfl)
theorem dX0_set_47 : decode cX0_set 47 = .ok (.iconst 0, 1) := dk_3 (dk_at dksX0_set_2 0 rfl rfl)
theorem dX0_set_48 : decode cX0_set 48 = .ok (.bipush 22, 2) := dk_16 22 (dk_at dksX0_set_2 1 rfl rfl)
theorem dX0_set_50 : decode cX0_set 50 = .ok (.invokestatic 81, 3) := dk_184 0 81 (dk_at dksX0_set_2 3 rfl rfl)
theorem dX0_set_53 : decode cX0_set 53 = .ok (.ifCond .eq 18, 3) := dk_153 0 18 (dk_at dksX0_set_2 6 rfl rfl)
theorem dX0_set_56 : decode cX0_set 56 = .ok (.iload_n 1, 1) := dk_27 (dk_at dksX0_set_2 9 rfl rfl)
theorem dX0_set_57 : decode cX0_set 57 = .ok (.bipush 10, 2) := dk_16 10 (dk_at dksX0_set_2 10 rfl rfl)
theorem dX0_set_59 : decode cX0_set 59 = .ok (.if_icmp .eq 12, 3) := dk_159 0 12 (dk_at dksX0_set_2 12 rfl rfl)
theorem dX0_set_62 : decode cX0_set 62 = .ok (.iload_n 2, 1) := dk_28 (dk_at dksX0_set_2 15 rfl rfl)
theorem dX0_set_63 : decode cX0_set 63 = .ok (.iconst 0, 1) := dk_3 (dk_at dksX0_set_2 16 rfl rfl)
theorem dX0_set_64 : decode cX0_set 64 = .ok (.iload_n 3, 1) := dk_29 (dk_at dksX0_set_2 17 rfl rfl)
theorem dX0_set_65 : decode cX0_set 65 = .ok (.invokestatic 81, 3) := dk_184 0 81 (dk_at dksX0_set_2 18 rfl rfl)
theorem dX0_set_68 : decode cX0_set 68 = .ok (.ifCond .ne 5, 3) := dk_154 0 5 (dk_at dksX0_set_2 21 rfl rfl)
theorem dX0_set_71 : decode cX0_set 71 = .ok (.iconst 0, 1) := dk_3 (dk_at dksX0_set_3 0 rfl rfl)
theorem dX0_set_72 : decode cX0_set 72 = .ok (.ireturn, 1) := dk_172 (dk_at dksX0_set_3 1 rfl rfl)
theorem dX0_set_73 : decode cX0_set 73 = .ok (.aload_n 0, 1) := dk_42 (dk_at dksX0_set_3 2 rfl rfl)
theorem dX0_set_74 : decode cX0_set 74 = .ok (.getfield 36, 3) := dk_180 0 36 (dk_at dksX0_set_3 3 rfl rfl)
theorem dX0_set_77 : decode cX0_set 77 = .ok (.getfield 133, 3) := dk_180 0 133 (dk_at dksX0_set_3 6 rfl rfl)
theorem dX0_set_80 : decode cX0_set 80 = .ok (.iload_n 1, 1) := dk_27 (dk_at dksX0_set_3 9 rfl rfl)
theorem dX0_set_81 : decode cX0_set 81 = .ok (.iload_n 2, 1) := dk_28 (dk_at dksX0_set_3 10 rfl rfl)
theorem dX0_set_82 : decode cX0_set 82 = .ok (.iastore, 1) := dk_79 (dk_at dksX0_set_3 11 rfl rfl)
theorem dX0_set_83 : decode cX0_set 83 = .ok (.iconst 1, 1) := dk_4 (dk_at dksX0_set_3 12 rfl rfl)
theorem dX0_set_84 : decode cX0_set 84 = .ok (.ireturn, 1) := dk_172 (dk_at dksX0_set_3 13 rfl rfl)
abbrev cX0_of : ByteArray := prog_1_method_15_code
def yX0_of : MethodName := ⟨RX0, "of", "(II)I"⟩
def dkwX0_of_1 : List UInt8 := [180, 0, 123, 27, 50, 180, 0, 127, 28, 46, 167, 0, 5, 18, 136, 172]
abbrev dktX0_of_1 : List UInt8 := dkwX0_of_1 ++ []
def dkwX0_of_0 : List UInt8 := [42, 27, 182, 0, 119, 153, 0, 30, 28, 3, 16, 8, 184, 0, 81, 153, 0, 20, 42, 180, 0, 36]
abbrev dktX0_of_0 : List UInt8 := dkwX0_of_0 ++ dktX0_of_1
theorem dksX0_of_0 : cX0_of.data.toList.drop 0 = dktX0_of_0 := by decide +kernel
theorem dksX0_of_1 : cX0_of.data.toList.drop 22 = dktX0_of_1 := dk_seg dksX0_of_0 22 rfl rfl
theorem dX0_of_0 : decode cX0_of 0 = .ok (.aload_n 0, 1) := dk_42 (dk_at dksX0_of_0 0 rfl rfl)
theorem dX0_of_1 : decode cX0_of 1 = .ok (.iload_n 1, 1) := dk_27 (dk_at dksX0_of_0 1 rfl rfl)
theorem dX0_of_2 : decode cX0_of 2 = .ok (.invokevirtual 119, 3) := dk_182 0 119 (dk_at dksX0_of_0 2 rfl rfl)
theorem dX0_of_5 : decode cX0_of 5 = .ok (.ifCond .eq 30, 3) := dk_153 0 30 (dk_at dksX0_of_0 5 rfl rfl)
theorem dX0_of_8 : decode cX0_of 8 = .ok (.iload_n 2, 1) := dk_28 (dk_at dksX0_of_0 8 rfl rfl)
theorem dX0_of_9 : decode cX0_of 9 = .ok (.iconst 0, 1) := dk_3 (dk_at dksX0_of_0 9 rfl rfl)
theorem dX0_of_10 : decode cX0_of 10 = .ok (.bipush 8, 2) := dk_16 8 (dk_at dksX0_of_0 10 rfl rfl)
theorem dX0_of_12 : decode cX0_of 12 = .ok (.invokestatic 81, 3) := dk_184 0 81 (dk_at dksX0_of_0 12 rfl rfl)
theorem dX0_of_15 : decode cX0_of 15 = .ok (.ifCond .eq 20, 3) := dk_153 0 20 (dk_at dksX0_of_0 15 rfl rfl)
theorem dX0_of_18 : decode cX0_of 18 = .ok (.aload_n 0, 1) := dk_42 (dk_at dksX0_of_0 18 rfl rfl)
theorem dX0_of_19 : decode cX0_of 19 = .ok (.getfield 36, 3) := dk_180 0 36 (dk_at dksX0_of_0 19 rfl rfl)
theorem dX0_of_22 : decode cX0_of 22 = .ok (.getfield 123, 3) := dk_180 0 123 (dk_at dksX0_of_1 0 rfl rfl)
theorem dX0_of_25 : decode cX0_of 25 = .ok (.iload_n 1, 1) := dk_27 (dk_at dksX0_of_1 3 rfl rfl)
theorem dX0_of_26 : decode cX0_of 26 = .ok (.aaload, 1) := dk_50 (dk_at dksX0_of_1 4 rfl rfl)
theorem dX0_of_27 : decode cX0_of 27 = .ok (.getfield 127, 3) := dk_180 0 127 (dk_at dksX0_of_1 5 rfl rfl)
theorem dX0_of_30 : decode cX0_of 30 = .ok (.iload_n 2, 1) := dk_28 (dk_at dksX0_of_1 8 rfl rfl)
theorem dX0_of_31 : decode cX0_of 31 = .ok (.iaload, 1) := dk_46 (dk_at dksX0_of_1 9 rfl rfl)
theorem dX0_of_32 : decode cX0_of 32 = .ok (.goto 5, 3) := dk_167 0 5 (dk_at dksX0_of_1 10 rfl rfl)
theorem dX0_of_35 : decode cX0_of 35 = .ok (.ldc 136, 2) := dk_18 136 (dk_at dksX0_of_1 13 rfl rfl)
theorem dX0_of_37 : decode cX0_of 37 = .ok (.ireturn, 1) := dk_172 (dk_at dksX0_of_1 15 rfl rfl)
abbrev cX0_would : ByteArray := prog_1_method_16_code
def yX0_would : MethodName := ⟨RX0, "would", "(IIII)I"⟩
def dkwX0_would_3 : List UInt8 := [29, 182, 0, 150, 54, 5, 21, 5, 153, 0, 7, 4, 167, 0, 4, 3, 172]
abbrev dktX0_would_3 : List UInt8 := dkwX0_would_3 ++ []
def dkwX0_would_2 : List UInt8 := [21, 4, 4, 160, 0, 16, 42, 180, 0, 36, 27, 28, 29, 182, 0, 147, 167, 0, 12, 42, 180, 0, 36, 27]
abbrev dktX0_would_2 : List UInt8 := dkwX0_would_2 ++ dktX0_would_3
def dkwX0_would_1 : List UInt8 := [154, 0, 5, 2, 172, 21, 4, 154, 0, 16, 42, 180, 0, 36, 27, 28, 29, 182, 0, 144, 167, 0, 31]
abbrev dktX0_would_1 : List UInt8 := dkwX0_would_1 ++ dktX0_would_2
def dkwX0_would_0 : List UInt8 := [42, 27, 28, 182, 0, 137, 153, 0, 20, 29, 184, 0, 141, 153, 0, 13, 21, 4, 3, 5, 184, 0, 81]
abbrev dktX0_would_0 : List UInt8 := dkwX0_would_0 ++ dktX0_would_1
theorem dksX0_would_0 : cX0_would.data.toList.drop 0 = dktX0_would_0 := by decide +kernel
theorem dksX0_would_1 : cX0_would.data.toList.drop 23 = dktX0_would_1 := dk_seg dksX0_would_0 23 rfl rfl
theorem dksX0_would_2 : cX0_would.data.toList.drop 46 = dktX0_would_2 := dk_seg dksX0_would_1 23 rfl rfl
theorem dksX0_would_3 : cX0_would.data.toList.drop 70 = dktX0_would_3 := dk_seg dksX0_would_2 24 rfl rfl
theorem dX0_would_0 : decode cX0_would 0 = .ok (.aload_n 0, 1) := dk_42 (dk_at dksX0_would_0 0 rfl rfl)
theorem dX0_would_1 : decode cX0_would 1 = .ok (.iload_n 1, 1) := dk_27 (dk_at dksX0_would_0 1 rfl rfl)
theorem dX0_would_2 : decode cX0_would 2 = .ok (.iload_n 2, 1) := dk_28 (dk_at dksX0_would_0 2 rfl rfl)
theorem dX0_would_3 : decode cX0_would 3 = .ok (.invokevirtual 137, 3) := dk_182 0 137 (dk_at dksX0_would_0 3 rfl rfl)
theorem dX0_would_6 : decode cX0_would 6 = .ok (.ifCond .eq 20, 3) := dk_153 0 20 (dk_at dksX0_would_0 6 rfl rfl)
theorem dX0_would_9 : decode cX0_would 9 = .ok (.iload_n 3, 1) := dk_29 (dk_at dksX0_would_0 9 rfl rfl)
theorem dX0_would_10 : decode cX0_would 10 = .ok (.invokestatic 141, 3) := dk_184 0 141 (dk_at dksX0_would_0 10 rfl rfl)
theorem dX0_would_13 : decode cX0_would 13 = .ok (.ifCond .eq 13, 3) := dk_153 0 13 (dk_at dksX0_would_0 13 rfl rfl)
theorem dX0_would_16 : decode cX0_would 16 = .ok (.iload 4, 2) := dk_21 4 (dk_at dksX0_would_0 16 rfl rfl)
theorem dX0_would_18 : decode cX0_would 18 = .ok (.iconst 0, 1) := dk_3 (dk_at dksX0_would_0 18 rfl rfl)
theorem dX0_would_19 : decode cX0_would 19 = .ok (.iconst 2, 1) := dk_5 (dk_at dksX0_would_0 19 rfl rfl)
theorem dX0_would_20 : decode cX0_would 20 = .ok (.invokestatic 81, 3) := dk_184 0 81 (dk_at dksX0_would_0 20 rfl rfl)
theorem dX0_would_23 : decode cX0_would 23 = .ok (.ifCond .ne 5, 3) := dk_154 0 5 (dk_at dksX0_would_1 0 rfl rfl)
theorem dX0_would_26 : decode cX0_would 26 = .ok (.iconst (-1), 1) := dk_2 (dk_at dksX0_would_1 3 rfl rfl)
theorem dX0_would_27 : decode cX0_would 27 = .ok (.ireturn, 1) := dk_172 (dk_at dksX0_would_1 4 rfl rfl)
theorem dX0_would_28 : decode cX0_would 28 = .ok (.iload 4, 2) := dk_21 4 (dk_at dksX0_would_1 5 rfl rfl)
theorem dX0_would_30 : decode cX0_would 30 = .ok (.ifCond .ne 16, 3) := dk_154 0 16 (dk_at dksX0_would_1 7 rfl rfl)
theorem dX0_would_33 : decode cX0_would 33 = .ok (.aload_n 0, 1) := dk_42 (dk_at dksX0_would_1 10 rfl rfl)
theorem dX0_would_34 : decode cX0_would 34 = .ok (.getfield 36, 3) := dk_180 0 36 (dk_at dksX0_would_1 11 rfl rfl)
theorem dX0_would_37 : decode cX0_would 37 = .ok (.iload_n 1, 1) := dk_27 (dk_at dksX0_would_1 14 rfl rfl)
theorem dX0_would_38 : decode cX0_would 38 = .ok (.iload_n 2, 1) := dk_28 (dk_at dksX0_would_1 15 rfl rfl)
theorem dX0_would_39 : decode cX0_would 39 = .ok (.iload_n 3, 1) := dk_29 (dk_at dksX0_would_1 16 rfl rfl)
theorem dX0_would_40 : decode cX0_would 40 = .ok (.invokevirtual 144, 3) := dk_182 0 144 (dk_at dksX0_would_1 17 rfl rfl)
theorem dX0_would_43 : decode cX0_would 43 = .ok (.goto 31, 3) := dk_167 0 31 (dk_at dksX0_would_1 20 rfl rfl)
theorem dX0_would_46 : decode cX0_would 46 = .ok (.iload 4, 2) := dk_21 4 (dk_at dksX0_would_2 0 rfl rfl)
theorem dX0_would_48 : decode cX0_would 48 = .ok (.iconst 1, 1) := dk_4 (dk_at dksX0_would_2 2 rfl rfl)
theorem dX0_would_49 : decode cX0_would 49 = .ok (.if_icmp .ne 16, 3) := dk_160 0 16 (dk_at dksX0_would_2 3 rfl rfl)
theorem dX0_would_52 : decode cX0_would 52 = .ok (.aload_n 0, 1) := dk_42 (dk_at dksX0_would_2 6 rfl rfl)
theorem dX0_would_53 : decode cX0_would 53 = .ok (.getfield 36, 3) := dk_180 0 36 (dk_at dksX0_would_2 7 rfl rfl)
theorem dX0_would_56 : decode cX0_would 56 = .ok (.iload_n 1, 1) := dk_27 (dk_at dksX0_would_2 10 rfl rfl)
theorem dX0_would_57 : decode cX0_would 57 = .ok (.iload_n 2, 1) := dk_28 (dk_at dksX0_would_2 11 rfl rfl)
theorem dX0_would_58 : decode cX0_would 58 = .ok (.iload_n 3, 1) := dk_29 (dk_at dksX0_would_2 12 rfl rfl)
theorem dX0_would_59 : decode cX0_would 59 = .ok (.invokevirtual 147, 3) := dk_182 0 147 (dk_at dksX0_would_2 13 rfl rfl)
theorem dX0_would_62 : decode cX0_would 62 = .ok (.goto 12, 3) := dk_167 0 12 (dk_at dksX0_would_2 16 rfl rfl)
theorem dX0_would_65 : decode cX0_would 65 = .ok (.aload_n 0, 1) := dk_42 (dk_at dksX0_would_2 19 rfl rfl)
theorem dX0_would_66 : decode cX0_would 66 = .ok (.getfield 36, 3) := dk_180 0 36 (dk_at dksX0_would_2 20 rfl rfl)
theorem dX0_would_69 : decode cX0_would 69 = .ok (.iload_n 1, 1) := dk_27 (dk_at dksX0_would_2 23 rfl rfl)
theorem dX0_would_70 : decode cX0_would 70 = .ok (.iload_n 3, 1) := dk_29 (dk_at dksX0_would_3 0 rfl rfl)
theorem dX0_would_71 : decode cX0_would 71 = .ok (.invokevirtual 150, 3) := dk_182 0 150 (dk_at dksX0_would_3 1 rfl rfl)
theorem dX0_would_74 : decode cX0_would 74 = .ok (.istore 5, 2) := dk_54 5 (dk_at dksX0_would_3 4 rfl rfl)
theorem dX0_would_76 : decode cX0_would 76 = .ok (.iload 5, 2) := dk_21 5 (dk_at dksX0_would_3 6 rfl rfl)
theorem dX0_would_78 : decode cX0_would 78 = .ok (.ifCond .eq 7, 3) := dk_153 0 7 (dk_at dksX0_would_3 8 rfl rfl)
theorem dX0_would_81 : decode cX0_would 81 = .ok (.iconst 1, 1) := dk_4 (dk_at dksX0_would_3 11 rfl rfl)
theorem dX0_would_82 : decode cX0_would 82 = .ok (.goto 4, 3) := dk_167 0 4 (dk_at dksX0_would_3 12 rfl rfl)
theorem dX0_would_85 : decode cX0_would 85 = .ok (.iconst 0, 1) := dk_3 (dk_at dksX0_would_3 15 rfl rfl)
theorem dX0_would_86 : decode cX0_would 86 = .ok (.ireturn, 1) := dk_172 (dk_at dksX0_would_3 16 rfl rfl)
abbrev cX0_areTwo : ByteArray := prog_1_method_11_code
def yX0_areTwo : MethodName := ⟨RX0, "areTwo", "(II)Z"⟩
def dkwX0_areTwo_1 : List UInt8 := [167, 0, 4, 3, 172]
abbrev dktX0_areTwo_1 : List UInt8 := dkwX0_areTwo_1 ++ []
def dkwX0_areTwo_0 : List UInt8 := [42, 27, 182, 0, 119, 153, 0, 20, 42, 28, 182, 0, 119, 153, 0, 12, 27, 28, 159, 0, 7, 4]
abbrev dktX0_areTwo_0 : List UInt8 := dkwX0_areTwo_0 ++ dktX0_areTwo_1
theorem dksX0_areTwo_0 : cX0_areTwo.data.toList.drop 0 = dktX0_areTwo_0 := by decide +kernel
theorem dksX0_areTwo_1 : cX0_areTwo.data.toList.drop 22 = dktX0_areTwo_1 := dk_seg dksX0_areTwo_0 22 rfl rfl
theorem dX0_areTwo_0 : decode cX0_areTwo 0 = .ok (.aload_n 0, 1) := dk_42 (dk_at dksX0_areTwo_0 0 rfl rfl)
theorem dX0_areTwo_1 : decode cX0_areTwo 1 = .ok (.iload_n 1, 1) := dk_27 (dk_at dksX0_areTwo_0 1 rfl rfl)
theorem dX0_areTwo_2 : decode cX0_areTwo 2 = .ok (.invokevirtual 119, 3) := dk_182 0 119 (dk_at dksX0_areTwo_0 2 rfl rfl)
theorem dX0_areTwo_5 : decode cX0_areTwo 5 = .ok (.ifCond .eq 20, 3) := dk_153 0 20 (dk_at dksX0_areTwo_0 5 rfl rfl)
theorem dX0_areTwo_8 : decode cX0_areTwo 8 = .ok (.aload_n 0, 1) := dk_42 (dk_at dksX0_areTwo_0 8 rfl rfl)
theorem dX0_areTwo_9 : decode cX0_areTwo 9 = .ok (.iload_n 2, 1) := dk_28 (dk_at dksX0_areTwo_0 9 rfl rfl)
theorem dX0_areTwo_10 : decode cX0_areTwo 10 = .ok (.invokevirtual 119, 3) := dk_182 0 119 (dk_at dksX0_areTwo_0 10 rfl rfl)
theorem dX0_areTwo_13 : decode cX0_areTwo 13 = .ok (.ifCond .eq 12, 3) := dk_153 0 12 (dk_at dksX0_areTwo_0 13 rfl rfl)
theorem dX0_areTwo_16 : decode cX0_areTwo 16 = .ok (.iload_n 1, 1) := dk_27 (dk_at dksX0_areTwo_0 16 rfl rfl)
theorem dX0_areTwo_17 : decode cX0_areTwo 17 = .ok (.iload_n 2, 1) := dk_28 (dk_at dksX0_areTwo_0 17 rfl rfl)
theorem dX0_areTwo_18 : decode cX0_areTwo 18 = .ok (.if_icmp .eq 7, 3) := dk_159 0 7 (dk_at dksX0_areTwo_0 18 rfl rfl)
theorem dX0_areTwo_21 : decode cX0_areTwo 21 = .ok (.iconst 1, 1) := dk_4 (dk_at dksX0_areTwo_0 21 rfl rfl)
theorem dX0_areTwo_22 : decode cX0_areTwo 22 = .ok (.goto 4, 3) := dk_167 0 4 (dk_at dksX0_areTwo_1 0 rfl rfl)
theorem dX0_areTwo_25 : decode cX0_areTwo 25 = .ok (.iconst 0, 1) := dk_3 (dk_at dksX0_areTwo_1 3 rfl rfl)
theorem dX0_areTwo_26 : decode cX0_areTwo 26 = .ok (.ireturn, 1) := dk_172 (dk_at dksX0_areTwo_1 4 rfl rfl)
abbrev cX0_isSize : ByteArray := prog_1_method_10_code
def yX0_isSize : MethodName := ⟨RX0, "isSize", "(I)Z"⟩
def dkwX0_isSize_0 : List UInt8 := [26, 4, 16, 12, 184, 0, 81, 172]
abbrev dktX0_isSize_0 : List UInt8 := dkwX0_isSize_0 ++ []
theorem dksX0_isSize_0 : cX0_isSize.data.toList.drop 0 = dktX0_isSize_0 := by decide +kernel
theorem dX0_isSize_0 : decode cX0_isSize 0 = .ok (.iload_n 0, 1) := dk_26 (dk_at dksX0_isSize_0 0 rfl rfl)
theorem dX0_isSize_1 : decode cX0_isSize 1 = .ok (.iconst 1, 1) := dk_4 (dk_at dksX0_isSize_0 1 rfl rfl)
theorem dX0_isSize_2 : decode cX0_isSize 2 = .ok (.bipush 12, 2) := dk_16 12 (dk_at dksX0_isSize_0 2 rfl rfl)
theorem dX0_isSize_4 : decode cX0_isSize 4 = .ok (.invokestatic 81, 3) := dk_184 0 81 (dk_at dksX0_isSize_0 4 rfl rfl)
theorem dX0_isSize_7 : decode cX0_isSize 7 = .ok (.ireturn, 1) := dk_172 (dk_at dksX0_isSize_0 7 rfl rfl)
abbrev cX0_deal : ByteArray := prog_1_method_17_code
def yX0_deal : MethodName := ⟨RX0, "deal", "(III)I"⟩
def dkwX0_deal_1 : List UInt8 := [182, 0, 153, 167, 0, 5, 16, 254, 172]
abbrev dktX0_deal_1 : List UInt8 := dkwX0_deal_1 ++ []
def dkwX0_deal_0 : List UInt8 := [42, 27, 28, 182, 0, 137, 153, 0, 23, 29, 184, 0, 141, 153, 0, 16, 42, 180, 0, 36, 27, 28, 29]
abbrev dktX0_deal_0 : List UInt8 := dkwX0_deal_0 ++ dktX0_deal_1
theorem dksX0_deal_0 : cX0_deal.data.toList.drop 0 = dktX0_deal_0 := by decide +kernel
theorem dksX0_deal_1 : cX0_deal.data.toList.drop 23 = dktX0_deal_1 := dk_seg dksX0_deal_0 23 rfl rfl
theorem dX0_deal_0 : decode cX0_deal 0 = .ok (.aload_n 0, 1) := dk_42 (dk_at dksX0_deal_0 0 rfl rfl)
theorem dX0_deal_1 : decode cX0_deal 1 = .ok (.iload_n 1, 1) := dk_27 (dk_at dksX0_deal_0 1 rfl rfl)
theorem dX0_deal_2 : decode cX0_deal 2 = .ok (.iload_n 2, 1) := dk_28 (dk_at dksX0_deal_0 2 rfl rfl)
theorem dX0_deal_3 : decode cX0_deal 3 = .ok (.invokevirtual 137, 3) := dk_182 0 137 (dk_at dksX0_deal_0 3 rfl rfl)
theorem dX0_deal_6 : decode cX0_deal 6 = .ok (.ifCond .eq 23, 3) := dk_153 0 23 (dk_at dksX0_deal_0 6 rfl rfl)
theorem dX0_deal_9 : decode cX0_deal 9 = .ok (.iload_n 3, 1) := dk_29 (dk_at dksX0_deal_0 9 rfl rfl)
theorem dX0_deal_10 : decode cX0_deal 10 = .ok (.invokestatic 141, 3) := dk_184 0 141 (dk_at dksX0_deal_0 10 rfl rfl)
theorem dX0_deal_13 : decode cX0_deal 13 = .ok (.ifCond .eq 16, 3) := dk_153 0 16 (dk_at dksX0_deal_0 13 rfl rfl)
theorem dX0_deal_16 : decode cX0_deal 16 = .ok (.aload_n 0, 1) := dk_42 (dk_at dksX0_deal_0 16 rfl rfl)
theorem dX0_deal_17 : decode cX0_deal 17 = .ok (.getfield 36, 3) := dk_180 0 36 (dk_at dksX0_deal_0 17 rfl rfl)
theorem dX0_deal_20 : decode cX0_deal 20 = .ok (.iload_n 1, 1) := dk_27 (dk_at dksX0_deal_0 20 rfl rfl)
theorem dX0_deal_21 : decode cX0_deal 21 = .ok (.iload_n 2, 1) := dk_28 (dk_at dksX0_deal_0 21 rfl rfl)
theorem dX0_deal_22 : decode cX0_deal 22 = .ok (.iload_n 3, 1) := dk_29 (dk_at dksX0_deal_0 22 rfl rfl)
theorem dX0_deal_23 : decode cX0_deal 23 = .ok (.invokevirtual 153, 3) := dk_182 0 153 (dk_at dksX0_deal_1 0 rfl rfl)
theorem dX0_deal_26 : decode cX0_deal 26 = .ok (.goto 5, 3) := dk_167 0 5 (dk_at dksX0_deal_1 3 rfl rfl)
theorem dX0_deal_29 : decode cX0_deal 29 = .ok (.bipush (-2), 2) := dk_16 254 (dk_at dksX0_deal_1 6 rfl rfl)
theorem dX0_deal_31 : decode cX0_deal 31 = .ok (.ireturn, 1) := dk_172 (dk_at dksX0_deal_1 8 rfl rfl)
abbrev cX0_book : ByteArray := prog_1_method_18_code
def yX0_book : MethodName := ⟨RX0, "book", "(II)I"⟩
def dkwX0_book_1 : List UInt8 := [153, 0, 20, 42, 180, 0, 36, 180, 0, 160, 27, 50, 180, 0, 164, 28, 46, 167, 0, 4, 2, 172]
abbrev dktX0_book_1 : List UInt8 := dkwX0_book_1 ++ []
def dkwX0_book_0 : List UInt8 := [27, 3, 42, 180, 0, 36, 180, 0, 157, 4, 100, 184, 0, 81, 153, 0, 30, 28, 3, 16, 7, 184, 0, 81]
abbrev dktX0_book_0 : List UInt8 := dkwX0_book_0 ++ dktX0_book_1
theorem dksX0_book_0 : cX0_book.data.toList.drop 0 = dktX0_book_0 := by decide +kernel
theorem dksX0_book_1 : cX0_book.data.toList.drop 24 = dktX0_book_1 := dk_seg dksX0_book_0 24 rfl rfl
theorem dX0_book_0 : decode cX0_book 0 = .ok (.iload_n 1, 1) := dk_27 (dk_at dksX0_book_0 0 rfl rfl)
theorem dX0_book_1 : decode cX0_book 1 = .ok (.iconst 0, 1) := dk_3 (dk_at dksX0_book_0 1 rfl rfl)
theorem dX0_book_2 : decode cX0_book 2 = .ok (.aload_n 0, 1) := dk_42 (dk_at dksX0_book_0 2 rfl rfl)
theorem dX0_book_3 : decode cX0_book 3 = .ok (.getfield 36, 3) := dk_180 0 36 (dk_at dksX0_book_0 3 rfl rfl)
theorem dX0_book_6 : decode cX0_book 6 = .ok (.getfield 157, 3) := dk_180 0 157 (dk_at dksX0_book_0 6 rfl rfl)
theorem dX0_book_9 : decode cX0_book 9 = .ok (.iconst 1, 1) := dk_4 (dk_at dksX0_book_0 9 rfl rfl)
theorem dX0_book_10 : decode cX0_book 10 = .ok (.isub, 1) := dk_100 (dk_at dksX0_book_0 10 rfl rfl)
theorem dX0_book_11 : decode cX0_book 11 = .ok (.invokestatic 81, 3) := dk_184 0 81 (dk_at dksX0_book_0 11 rfl rfl)
theorem dX0_book_14 : decode cX0_book 14 = .ok (.ifCond .eq 30, 3) := dk_153 0 30 (dk_at dksX0_book_0 14 rfl rfl)
theorem dX0_book_17 : decode cX0_book 17 = .ok (.iload_n 2, 1) := dk_28 (dk_at dksX0_book_0 17 rfl rfl)
theorem dX0_book_18 : decode cX0_book 18 = .ok (.iconst 0, 1) := dk_3 (dk_at dksX0_book_0 18 rfl rfl)
theorem dX0_book_19 : decode cX0_book 19 = .ok (.bipush 7, 2) := dk_16 7 (dk_at dksX0_book_0 19 rfl rfl)
theorem dX0_book_21 : decode cX0_book 21 = .ok (.invokestatic 81, 3) := dk_184 0 81 (dk_at dksX0_book_0 21 rfl rfl)
theorem dX0_book_24 : decode cX0_book 24 = .ok (.ifCond .eq 20, 3) := dk_153 0 20 (dk_at dksX0_book_1 0 rfl rfl)
theorem dX0_book_27 : decode cX0_book 27 = .ok (.aload_n 0, 1) := dk_42 (dk_at dksX0_book_1 3 rfl rfl)
theorem dX0_book_28 : decode cX0_book 28 = .ok (.getfield 36, 3) := dk_180 0 36 (dk_at dksX0_book_1 4 rfl rfl)
theorem dX0_book_31 : decode cX0_book 31 = .ok (.getfield 160, 3) := dk_180 0 160 (dk_at dksX0_book_1 7 rfl rfl)
theorem dX0_book_34 : decode cX0_book 34 = .ok (.iload_n 1, 1) := dk_27 (dk_at dksX0_book_1 10 rfl rfl)
theorem dX0_book_35 : decode cX0_book 35 = .ok (.aaload, 1) := dk_50 (dk_at dksX0_book_1 11 rfl rfl)
theorem dX0_book_36 : decode cX0_book 36 = .ok (.getfield 164, 3) := dk_180 0 164 (dk_at dksX0_book_1 12 rfl rfl)
theorem dX0_book_39 : decode cX0_book 39 = .ok (.iload_n 2, 1) := dk_28 (dk_at dksX0_book_1 15 rfl rfl)
theorem dX0_book_40 : decode cX0_book 40 = .ok (.iaload, 1) := dk_46 (dk_at dksX0_book_1 16 rfl rfl)
theorem dX0_book_41 : decode cX0_book 41 = .ok (.goto 4, 3) := dk_167 0 4 (dk_at dksX0_book_1 17 rfl rfl)
theorem dX0_book_44 : decode cX0_book 44 = .ok (.iconst (-1), 1) := dk_2 (dk_at dksX0_book_1 20 rfl rfl)
theorem dX0_book_45 : decode cX0_book 45 = .ok (.ireturn, 1) := dk_172 (dk_at dksX0_book_1 21 rfl rfl)
abbrev cX0_years : ByteArray := prog_1_method_19_code
def yX0_years : MethodName := ⟨RX0, "years", "(I)I"⟩
def dkwX0_years_2 : List UInt8 := [182, 0, 172, 132, 3, 1, 167, 255, 241, 42, 180, 0, 36, 180, 0, 157, 28, 100, 172]
abbrev dktX0_years_2 : List UInt8 := dkwX0_years_2 ++ []
def dkwX0_years_1 : List UInt8 := [164, 0, 5, 2, 172, 42, 180, 0, 36, 180, 0, 157, 61, 3, 62, 29, 27, 162, 0, 16, 42, 180, 0, 36]
abbrev dktX0_years_1 : List UInt8 := dkwX0_years_1 ++ dktX0_years_2
def dkwX0_years_0 : List UInt8 := [27, 4, 16, 60, 184, 0, 81, 153, 0, 18, 42, 180, 0, 36, 180, 0, 169, 27, 96, 17, 3, 231]
abbrev dktX0_years_0 : List UInt8 := dkwX0_years_0 ++ dktX0_years_1
theorem dksX0_years_0 : cX0_years.data.toList.drop 0 = dktX0_years_0 := by decide +kernel
theorem dksX0_years_1 : cX0_years.data.toList.drop 22 = dktX0_years_1 := dk_seg dksX0_years_0 22 rfl rfl
theorem dksX0_years_2 : cX0_years.data.toList.drop 46 = dktX0_years_2 := dk_seg dksX0_years_1 24 rfl rfl
theorem dX0_years_0 : decode cX0_years 0 = .ok (.iload_n 1, 1) := dk_27 (dk_at dksX0_years_0 0 rfl rfl)
theorem dX0_years_1 : decode cX0_years 1 = .ok (.iconst 1, 1) := dk_4 (dk_at dksX0_years_0 1 rfl rfl)
theorem dX0_years_2 : decode cX0_years 2 = .ok (.bipush 60, 2) := dk_16 60 (dk_at dksX0_years_0 2 rfl rfl)
theorem dX0_years_4 : decode cX0_years 4 = .ok (.invokestatic 81, 3) := dk_184 0 81 (dk_at dksX0_years_0 4 rfl rfl)
theorem dX0_years_7 : decode cX0_years 7 = .ok (.ifCond .eq 18, 3) := dk_153 0 18 (dk_at dksX0_years_0 7 rfl rfl)
theorem dX0_years_10 : decode cX0_years 10 = .ok (.aload_n 0, 1) := dk_42 (dk_at dksX0_years_0 10 rfl rfl)
theorem dX0_years_11 : decode cX0_years 11 = .ok (.getfield 36, 3) := dk_180 0 36 (dk_at dksX0_years_0 11 rfl rfl)
theorem dX0_years_14 : decode cX0_years 14 = .ok (.getfield 169, 3) := dk_180 0 169 (dk_at dksX0_years_0 14 rfl rfl)
theorem dX0_years_17 : decode cX0_years 17 = .ok (.iload_n 1, 1) := dk_27 (dk_at dksX0_years_0 17 rfl rfl)
theorem dX0_years_18 : decode cX0_years 18 = .ok (.iadd, 1) := dk_96 (dk_at dksX0_years_0 18 rfl rfl)
theorem dX0_years_19 : decode cX0_years 19 = .ok (.sipush 999, 3) := dk_17 3 231 (dk_at dksX0_years_0 19 rfl rfl)
theorem dX0_years_22 : decode cX0_years 22 = .ok (.if_icmp .le 5, 3) := dk_164 0 5 (dk_at dksX0_years_1 0 rfl rfl)
theorem dX0_years_25 : decode cX0_years 25 = .ok (.iconst (-1), 1) := dk_2 (dk_at dksX0_years_1 3 rfl rfl)
theorem dX0_years_26 : decode cX0_years 26 = .ok (.ireturn, 1) := dk_172 (dk_at dksX0_years_1 4 rfl rfl)
theorem dX0_years_27 : decode cX0_years 27 = .ok (.aload_n 0, 1) := dk_42 (dk_at dksX0_years_1 5 rfl rfl)
theorem dX0_years_28 : decode cX0_years 28 = .ok (.getfield 36, 3) := dk_180 0 36 (dk_at dksX0_years_1 6 rfl rfl)
theorem dX0_years_31 : decode cX0_years 31 = .ok (.getfield 157, 3) := dk_180 0 157 (dk_at dksX0_years_1 9 rfl rfl)
theorem dX0_years_34 : decode cX0_years 34 = .ok (.istore_n 2, 1) := dk_61 (dk_at dksX0_years_1 12 rfl rfl)
theorem dX0_years_35 : decode cX0_years 35 = .ok (.iconst 0, 1) := dk_3 (dk_at dksX0_years_1 13 rfl rfl)
theorem dX0_years_36 : decode cX0_years 36 = .ok (.istore_n 3, 1) := dk_62 (dk_at dksX0_years_1 14 rfl rfl)
theorem dX0_years_37 : decode cX0_years 37 = .ok (.iload_n 3, 1) := dk_29 (dk_at dksX0_years_1 15 rfl rfl)
theorem dX0_years_38 : decode cX0_years 38 = .ok (.iload_n 1, 1) := dk_27 (dk_at dksX0_years_1 16 rfl rfl)
theorem dX0_years_39 : decode cX0_years 39 = .ok (.if_icmp .ge 16, 3) := dk_162 0 16 (dk_at dksX0_years_1 17 rfl rfl)
theorem dX0_years_42 : decode cX0_years 42 = .ok (.aload_n 0, 1) := dk_42 (dk_at dksX0_years_1 20 rfl rfl)
theorem dX0_years_43 : decode cX0_years 43 = .ok (.getfield 36, 3) := dk_180 0 36 (dk_at dksX0_years_1 21 rfl rfl)
theorem dX0_years_46 : decode cX0_years 46 = .ok (.invokevirtual 172, 3) := dk_182 0 172 (dk_at dksX0_years_2 0 rfl rfl)
theorem dX0_years_49 : decode cX0_years 49 = .ok (.iinc 3 1, 3) := dk_132 3 1 (dk_at dksX0_years_2 3 rfl rfl)
theorem dX0_years_52 : decode cX0_years 52 = .ok (.goto (-15), 3) := dk_167 255 241 (dk_at dksX0_years_2 6 rfl rfl)
theorem dX0_years_55 : decode cX0_years 55 = .ok (.aload_n 0, 1) := dk_42 (dk_at dksX0_years_2 9 rfl rfl)
theorem dX0_years_56 : decode cX0_years 56 = .ok (.getfield 36, 3) := dk_180 0 36 (dk_at dksX0_years_2 10 rfl rfl)
theorem dX0_years_59 : decode cX0_years 59 = .ok (.getfield 157, 3) := dk_180 0 157 (dk_at dksX0_years_2 13 rfl rfl)
theorem dX0_years_62 : decode cX0_years 62 = .ok (.iload_n 2, 1) := dk_28 (dk_at dksX0_years_2 16 rfl rfl)
theorem dX0_years_63 : decode cX0_years 63 = .ok (.isub, 1) := dk_100 (dk_at dksX0_years_2 17 rfl rfl)
theorem dX0_years_64 : decode cX0_years 64 = .ok (.ireturn, 1) := dk_172 (dk_at dksX0_years_2 18 rfl rfl)
abbrev cX0_plan : ByteArray := prog_1_method_23_code
def yX0_plan : MethodName := ⟨RX0, "plan", "(IIIII)J"⟩
def dkwX0_plan_7 : List UInt8 := [21, 4, 182, 0, 185, 148, 158, 0, 7, 21, 6, 133, 173, 132, 6, 1, 167, 255, 219, 20, 0, 183, 173]
abbrev dktX0_plan_7 : List UInt8 := dkwX0_plan_7 ++ []
def dkwX0_plan_6 : List UInt8 := [54, 6, 21, 6, 16, 12, 163, 0, 36, 42, 28, 21, 6, 21, 4, 29, 182, 0, 189, 42, 28, 21, 6]
abbrev dktX0_plan_6 : List UInt8 := dkwX0_plan_6 ++ dktX0_plan_7
def dkwX0_plan_5 : List UInt8 := [173, 21, 5, 5, 160, 0, 19, 42, 180, 0, 46, 28, 4, 96, 47, 42, 180, 0, 46, 28, 47, 101, 173, 4]
abbrev dktX0_plan_5 : List UInt8 := dkwX0_plan_5 ++ dktX0_plan_6
def dkwX0_plan_4 : List UInt8 := [27, 4, 100, 167, 0, 4, 27, 21, 4, 29, 182, 0, 202, 21, 5, 154, 0, 10, 42, 180, 0, 46, 28, 47]
abbrev dktX0_plan_4 : List UInt8 := dkwX0_plan_4 ++ dktX0_plan_5
def dkwX0_plan_3 : List UInt8 := [153, 0, 13, 42, 180, 0, 36, 182, 0, 197, 154, 0, 7, 20, 0, 200, 173, 42, 21, 5, 4, 160, 0, 9]
abbrev dktX0_plan_3 : List UInt8 := dkwX0_plan_3 ++ dktX0_plan_4
def dkwX0_plan_2 : List UInt8 := [153, 0, 35, 21, 4, 3, 17, 3, 232, 184, 0, 81, 153, 0, 23, 21, 5, 3, 5, 184, 0, 81]
abbrev dktX0_plan_2 : List UInt8 := dkwX0_plan_2 ++ dktX0_plan_3
def dkwX0_plan_1 : List UInt8 := [5, 160, 0, 8, 16, 23, 167, 0, 5, 16, 24, 184, 0, 81, 153, 0, 45, 29, 4, 16, 9, 184, 0, 81]
abbrev dktX0_plan_1 : List UInt8 := dkwX0_plan_1 ++ dktX0_plan_2
def dkwX0_plan_0 : List UInt8 := [27, 21, 5, 4, 160, 0, 7, 4, 167, 0, 4, 3, 16, 60, 184, 0, 81, 153, 0, 66, 28, 3, 21, 5]
abbrev dktX0_plan_0 : List UInt8 := dkwX0_plan_0 ++ dktX0_plan_1
theorem dksX0_plan_0 : cX0_plan.data.toList.drop 0 = dktX0_plan_0 := by decide +kernel
theorem dksX0_plan_1 : cX0_plan.data.toList.drop 24 = dktX0_plan_1 := dk_seg dksX0_plan_0 24 rfl rfl
theorem dksX0_plan_2 : cX0_plan.data.toList.drop 48 = dktX0_plan_2 := dk_seg dksX0_plan_1 24 rfl rfl
theorem dksX0_plan_3 : cX0_plan.data.toList.drop 70 = dktX0_plan_3 := dk_seg dksX0_plan_2 22 rfl rfl
theorem dksX0_plan_4 : cX0_plan.data.toList.drop 94 = dktX0_plan_4 := dk_seg dksX0_plan_3 24 rfl rfl
theorem dksX0_plan_5 : cX0_plan.data.toList.drop 118 = dktX0_plan_5 := dk_seg dksX0_plan_4 24 rfl rfl
theorem dksX0_plan_6 : cX0_plan.data.toList.drop 142 = dktX0_plan_6 := dk_seg dksX0_plan_5 24 rfl rfl
theorem dksX0_plan_7 : cX0_plan.data.toList.drop 165 = dktX0_plan_7 := dk_seg dksX0_plan_6 23 rfl rfl
theorem dX0_plan_0 : decode cX0_plan 0 = .ok (.iload_n 1, 1) := dk_27 (dk_at dksX0_plan_0 0 rfl rfl)
theorem dX0_plan_1 : decode cX0_plan 1 = .ok (.iload 5, 2) := dk_21 5 (dk_at dksX0_plan_0 1 rfl rfl)
theorem dX0_plan_3 : decode cX0_plan 3 = .ok (.iconst 1, 1) := dk_4 (dk_at dksX0_plan_0 3 rfl rfl)
theorem dX0_plan_4 : decode cX0_plan 4 = .ok (.if_icmp .ne 7, 3) := dk_160 0 7 (dk_at dksX0_plan_0 4 rfl rfl)
theorem dX0_plan_7 : decode cX0_plan 7 = .ok (.iconst 1, 1) := dk_4 (dk_at dksX0_plan_0 7 rfl rfl)
theorem dX0_plan_8 : decode cX0_plan 8 = .ok (.goto 4, 3) := dk_167 0 4 (dk_at dksX0_plan_0 8 rfl rfl)
theorem dX0_plan_11 : decode cX0_plan 11 = .ok (.iconst 0, 1) := dk_3 (dk_at dksX0_plan_0 11 rfl rfl)
theorem dX0_plan_12 : decode cX0_plan 12 = .ok (.bipush 60, 2) := dk_16 60 (dk_at dksX0_plan_0 12 rfl rfl)
theorem dX0_plan_14 : decode cX0_plan 14 = .ok (.invokestatic 81, 3) := dk_184 0 81 (dk_at dksX0_plan_0 14 rfl rfl)
theorem dX0_plan_17 : decode cX0_plan 17 = .ok (.ifCond .eq 66, 3) := dk_153 0 66 (dk_at dksX0_plan_0 17 rfl rfl)
theorem dX0_plan_20 : decode cX0_plan 20 = .ok (.iload_n 2, 1) := dk_28 (dk_at dksX0_plan_0 20 rfl rfl)
theorem dX0_plan_21 : decode cX0_plan 21 = .ok (.iconst 0, 1) := dk_3 (dk_at dksX0_plan_0 21 rfl rfl)
theorem dX0_plan_22 : decode cX0_plan 22 = .ok (.iload 5, 2) := dk_21 5 (dk_at dksX0_plan_0 22 rfl rfl)
theorem dX0_plan_24 : decode cX0_plan 24 = .ok (.iconst 2, 1) := dk_5 (dk_at dksX0_plan_1 0 rfl rfl)
theorem dX0_plan_25 : decode cX0_plan 25 = .ok (.if_icmp .ne 8, 3) := dk_160 0 8 (dk_at dksX0_plan_1 1 rfl rfl)
theorem dX0_plan_28 : decode cX0_plan 28 = .ok (.bipush 23, 2) := dk_16 23 (dk_at dksX0_plan_1 4 rfl rfl)
theorem dX0_plan_30 : decode cX0_plan 30 = .ok (.goto 5, 3) := dk_167 0 5 (dk_at dksX0_plan_1 6 rfl rfl)
theorem dX0_plan_33 : decode cX0_plan 33 = .ok (.bipush 24, 2) := dk_16 24 (dk_at dksX0_plan_1 9 rfl rfl)
theorem dX0_plan_35 : decode cX0_plan 35 = .ok (.invokestatic 81, 3) := dk_184 0 81 (dk_at dksX0_plan_1 11 rfl rfl)
theorem dX0_plan_38 : decode cX0_plan 38 = .ok (.ifCond .eq 45, 3) := dk_153 0 45 (dk_at dksX0_plan_1 14 rfl rfl)
theorem dX0_plan_41 : decode cX0_plan 41 = .ok (.iload_n 3, 1) := dk_29 (dk_at dksX0_plan_1 17 rfl rfl)
theorem dX0_plan_42 : decode cX0_plan 42 = .ok (.iconst 1, 1) := dk_4 (dk_at dksX0_plan_1 18 rfl rfl)
theorem dX0_plan_43 : decode cX0_plan 43 = .ok (.bipush 9, 2) := dk_16 9 (dk_at dksX0_plan_1 19 rfl rfl)
theorem dX0_plan_45 : decode cX0_plan 45 = .ok (.invokestatic 81, 3) := dk_184 0 81 (dk_at dksX0_plan_1 21 rfl rfl)
theorem dX0_plan_48 : decode cX0_plan 48 = .ok (.ifCond .eq 35, 3) := dk_153 0 35 (dk_at dksX0_plan_2 0 rfl rfl)
theorem dX0_plan_51 : decode cX0_plan 51 = .ok (.iload 4, 2) := dk_21 4 (dk_at dksX0_plan_2 3 rfl rfl)
theorem dX0_plan_53 : decode cX0_plan 53 = .ok (.iconst 0, 1) := dk_3 (dk_at dksX0_plan_2 5 rfl rfl)
theorem dX0_plan_54 : decode cX0_plan 54 = .ok (.sipush 1000, 3) := dk_17 3 232 (dk_at dksX0_plan_2 6 rfl rfl)
theorem dX0_plan_57 : decode cX0_plan 57 = .ok (.invokestatic 81, 3) := dk_184 0 81 (dk_at dksX0_plan_2 9 rfl rfl)
theorem dX0_plan_60 : decode cX0_plan 60 = .ok (.ifCond .eq 23, 3) := dk_153 0 23 (dk_at dksX0_plan_2 12 rfl rfl)
theorem dX0_plan_63 : decode cX0_plan 63 = .ok (.iload 5, 2) := dk_21 5 (dk_at dksX0_plan_2 15 rfl rfl)
theorem dX0_plan_65 : decode cX0_plan 65 = .ok (.iconst 0, 1) := dk_3 (dk_at dksX0_plan_2 17 rfl rfl)
theorem dX0_plan_66 : decode cX0_plan 66 = .ok (.iconst 2, 1) := dk_5 (dk_at dksX0_plan_2 18 rfl rfl)
theorem dX0_plan_67 : decode cX0_plan 67 = .ok (.invokestatic 81, 3) := dk_184 0 81 (dk_at dksX0_plan_2 19 rfl rfl)
theorem dX0_plan_70 : decode cX0_plan 70 = .ok (.ifCond .eq 13, 3) := dk_153 0 13 (dk_at dksX0_plan_3 0 rfl rfl)
theorem dX0_plan_73 : decode cX0_plan 73 = .ok (.aload_n 0, 1) := dk_42 (dk_at dksX0_plan_3 3 rfl rfl)
theorem dX0_plan_74 : decode cX0_plan 74 = .ok (.getfield 36, 3) := dk_180 0 36 (dk_at dksX0_plan_3 4 rfl rfl)
theorem dX0_plan_77 : decode cX0_plan 77 = .ok (.invokevirtual 197, 3) := dk_182 0 197 (dk_at dksX0_plan_3 7 rfl rfl)
theorem dX0_plan_80 : decode cX0_plan 80 = .ok (.ifCond .ne 7, 3) := dk_154 0 7 (dk_at dksX0_plan_3 10 rfl rfl)
theorem dX0_plan_83 : decode cX0_plan 83 = .ok (.ldc2_w 200, 3) := dk_20 0 200 (dk_at dksX0_plan_3 13 rfl rfl)
theorem dX0_plan_86 : decode cX0_plan 86 = .ok (.lreturn, 1) := dk_173 (dk_at dksX0_plan_3 16 rfl rfl)
theorem dX0_plan_87 : decode cX0_plan 87 = .ok (.aload_n 0, 1) := dk_42 (dk_at dksX0_plan_3 17 rfl rfl)
theorem dX0_plan_88 : decode cX0_plan 88 = .ok (.iload 5, 2) := dk_21 5 (dk_at dksX0_plan_3 18 rfl rfl)
theorem dX0_plan_90 : decode cX0_plan 90 = .ok (.iconst 1, 1) := dk_4 (dk_at dksX0_plan_3 20 rfl rfl)
theorem dX0_plan_91 : decode cX0_plan 91 = .ok (.if_icmp .ne 9, 3) := dk_160 0 9 (dk_at dksX0_plan_3 21 rfl rfl)
theorem dX0_plan_94 : decode cX0_plan 94 = .ok (.iload_n 1, 1) := dk_27 (dk_at dksX0_plan_4 0 rfl rfl)
theorem dX0_plan_95 : decode cX0_plan 95 = .ok (.iconst 1, 1) := dk_4 (dk_at dksX0_plan_4 1 rfl rfl)
theorem dX0_plan_96 : decode cX0_plan 96 = .ok (.isub, 1) := dk_100 (dk_at dksX0_plan_4 2 rfl rfl)
theorem dX0_plan_97 : decode cX0_plan 97 = .ok (.goto 4, 3) := dk_167 0 4 (dk_at dksX0_plan_4 3 rfl rfl)
theorem dX0_plan_100 : decode cX0_plan 100 = .ok (.iload_n 1, 1) := dk_27 (dk_at dksX0_plan_4 6 rfl rfl)
theorem dX0_plan_101 : decode cX0_plan 101 = .ok (.iload 4, 2) := dk_21 4 (dk_at dksX0_plan_4 7 rfl rfl)
theorem dX0_plan_103 : decode cX0_plan 103 = .ok (.iload_n 3, 1) := dk_29 (dk_at dksX0_plan_4 9 rfl rfl)
theorem dX0_plan_104 : decode cX0_plan 104 = .ok (.invokevirtual 202, 3) := dk_182 0 202 (dk_at dksX0_plan_4 10 rfl rfl)
theorem dX0_plan_107 : decode cX0_plan 107 = .ok (.iload 5, 2) := dk_21 5 (dk_at dksX0_plan_4 13 rfl rfl)
theorem dX0_plan_109 : decode cX0_plan 109 = .ok (.ifCond .ne 10, 3) := dk_154 0 10 (dk_at dksX0_plan_4 15 rfl rfl)
theorem dX0_plan_112 : decode cX0_plan 112 = .ok (.aload_n 0, 1) := dk_42 (dk_at dksX0_plan_4 18 rfl rfl)
theorem dX0_plan_113 : decode cX0_plan 113 = .ok (.getfield 46, 3) := dk_180 0 46 (dk_at dksX0_plan_4 19 rfl rfl)
theorem dX0_plan_116 : decode cX0_plan 116 = .ok (.iload_n 2, 1) := dk_28 (dk_at dksX0_plan_4 22 rfl rfl)
theorem dX0_plan_117 : decode cX0_plan 117 = .ok (.laload, 1) := dk_47 (dk_at dksX0_plan_4 23 rfl rfl)
theorem dX0_plan_118 : decode cX0_plan 118 = .ok (.lreturn, 1) := dk_173 (dk_at dksX0_plan_5 0 rfl rfl)
theorem dX0_plan_119 : decode cX0_plan 119 = .ok (.iload 5, 2) := dk_21 5 (dk_at dksX0_plan_5 1 rfl rfl)
theorem dX0_plan_121 : decode cX0_plan 121 = .ok (.iconst 2, 1) := dk_5 (dk_at dksX0_plan_5 3 rfl rfl)
theorem dX0_plan_122 : decode cX0_plan 122 = .ok (.if_icmp .ne 19, 3) := dk_160 0 19 (dk_at dksX0_plan_5 4 rfl rfl)
theorem dX0_plan_125 : decode cX0_plan 125 = .ok (.aload_n 0, 1) := dk_42 (dk_at dksX0_plan_5 7 rfl rfl)
theorem dX0_plan_126 : decode cX0_plan 126 = .ok (.getfield 46, 3) := dk_180 0 46 (dk_at dksX0_plan_5 8 rfl rfl)
theorem dX0_plan_129 : decode cX0_plan 129 = .ok (.iload_n 2, 1) := dk_28 (dk_at dksX0_plan_5 11 rfl rfl)
theorem dX0_plan_130 : decode cX0_plan 130 = .ok (.iconst 1, 1) := dk_4 (dk_at dksX0_plan_5 12 rfl rfl)
theorem dX0_plan_131 : decode cX0_plan 131 = .ok (.iadd, 1) := dk_96 (dk_at dksX0_plan_5 13 rfl rfl)
theorem dX0_plan_132 : decode cX0_plan 132 = .ok (.laload, 1) := dk_47 (dk_at dksX0_plan_5 14 rfl rfl)
theorem dX0_plan_133 : decode cX0_plan 133 = .ok (.aload_n 0, 1) := dk_42 (dk_at dksX0_plan_5 15 rfl rfl)
theorem dX0_plan_134 : decode cX0_plan 134 = .ok (.getfield 46, 3) := dk_180 0 46 (dk_at dksX0_plan_5 16 rfl rfl)
theorem dX0_plan_137 : decode cX0_plan 137 = .ok (.iload_n 2, 1) := dk_28 (dk_at dksX0_plan_5 19 rfl rfl)
theorem dX0_plan_138 : decode cX0_plan 138 = .ok (.laload, 1) := dk_47 (dk_at dksX0_plan_5 20 rfl rfl)
theorem dX0_plan_139 : decode cX0_plan 139 = .ok (.lsub, 1) := dk_101 (dk_at dksX0_plan_5 21 rfl rfl)
theorem dX0_plan_140 : decode cX0_plan 140 = .ok (.lreturn, 1) := dk_173 (dk_at dksX0_plan_5 22 rfl rfl)
theorem dX0_plan_141 : decode cX0_plan 141 = .ok (.iconst 1, 1) := dk_4 (dk_at dksX0_plan_5 23 rfl rfl)
theorem dX0_plan_142 : decode cX0_plan 142 = .ok (.istore 6, 2) := dk_54 6 (dk_at dksX0_plan_6 0 rfl rfl)
theorem dX0_plan_144 : decode cX0_plan 144 = .ok (.iload 6, 2) := dk_21 6 (dk_at dksX0_plan_6 2 rfl rfl)
theorem dX0_plan_146 : decode cX0_plan 146 = .ok (.bipush 12, 2) := dk_16 12 (dk_at dksX0_plan_6 4 rfl rfl)
theorem dX0_plan_148 : decode cX0_plan 148 = .ok (.if_icmp .gt 36, 3) := dk_163 0 36 (dk_at dksX0_plan_6 6 rfl rfl)
theorem dX0_plan_151 : decode cX0_plan 151 = .ok (.aload_n 0, 1) := dk_42 (dk_at dksX0_plan_6 9 rfl rfl)
theorem dX0_plan_152 : decode cX0_plan 152 = .ok (.iload_n 2, 1) := dk_28 (dk_at dksX0_plan_6 10 rfl rfl)
theorem dX0_plan_153 : decode cX0_plan 153 = .ok (.iload 6, 2) := dk_21 6 (dk_at dksX0_plan_6 11 rfl rfl)
theorem dX0_plan_155 : decode cX0_plan 155 = .ok (.iload 4, 2) := dk_21 4 (dk_at dksX0_plan_6 13 rfl rfl)
theorem dX0_plan_157 : decode cX0_plan 157 = .ok (.iload_n 3, 1) := dk_29 (dk_at dksX0_plan_6 15 rfl rfl)
theorem dX0_plan_158 : decode cX0_plan 158 = .ok (.invokevirtual 189, 3) := dk_182 0 189 (dk_at dksX0_plan_6 16 rfl rfl)
theorem dX0_plan_161 : decode cX0_plan 161 = .ok (.aload_n 0, 1) := dk_42 (dk_at dksX0_plan_6 19 rfl rfl)
theorem dX0_plan_162 : decode cX0_plan 162 = .ok (.iload_n 2, 1) := dk_28 (dk_at dksX0_plan_6 20 rfl rfl)
theorem dX0_plan_163 : decode cX0_plan 163 = .ok (.iload 6, 2) := dk_21 6 (dk_at dksX0_plan_6 21 rfl rfl)
theorem dX0_plan_165 : decode cX0_plan 165 = .ok (.iload 4, 2) := dk_21 4 (dk_at dksX0_plan_7 0 rfl rfl)
theorem dX0_plan_167 : decode cX0_plan 167 = .ok (.invokevirtual 185, 3) := dk_182 0 185 (dk_at dksX0_plan_7 2 rfl rfl)
theorem dX0_plan_170 : decode cX0_plan 170 = .ok (.lcmp, 1) := dk_148 (dk_at dksX0_plan_7 5 rfl rfl)
theorem dX0_plan_171 : decode cX0_plan 171 = .ok (.ifCond .le 7, 3) := dk_158 0 7 (dk_at dksX0_plan_7 6 rfl rfl)
theorem dX0_plan_174 : decode cX0_plan 174 = .ok (.iload 6, 2) := dk_21 6 (dk_at dksX0_plan_7 9 rfl rfl)
theorem dX0_plan_176 : decode cX0_plan 176 = .ok (.i2l, 1) := dk_133 (dk_at dksX0_plan_7 11 rfl rfl)
theorem dX0_plan_177 : decode cX0_plan 177 = .ok (.lreturn, 1) := dk_173 (dk_at dksX0_plan_7 12 rfl rfl)
theorem dX0_plan_178 : decode cX0_plan 178 = .ok (.iinc 6 1, 3) := dk_132 6 1 (dk_at dksX0_plan_7 13 rfl rfl)
theorem dX0_plan_181 : decode cX0_plan 181 = .ok (.goto (-37), 3) := dk_167 255 219 (dk_at dksX0_plan_7 16 rfl rfl)
theorem dX0_plan_184 : decode cX0_plan 184 = .ok (.ldc2_w 183, 3) := dk_20 0 183 (dk_at dksX0_plan_7 19 rfl rfl)
theorem dX0_plan_187 : decode cX0_plan 187 = .ok (.lreturn, 1) := dk_173 (dk_at dksX0_plan_7 22 rfl rfl)
abbrev cX0_worths : ByteArray := prog_1_method_22_code
def yX0_worths : MethodName := ⟨RX0, "worths", "(III)V"⟩
def dkwX0_worths_6 : List UInt8 := [25, 5, 181, 0, 50, 132, 4, 1, 167, 255, 132, 177]
abbrev dktX0_worths_6 : List UInt8 := dkwX0_worths_6 ++ []
def dkwX0_worths_5 : List UInt8 := [133, 109, 80, 132, 5, 1, 167, 255, 167, 42, 180, 0, 46, 58, 5, 42, 42, 180, 0, 50, 181, 0, 46, 42]
abbrev dktX0_worths_5 : List UInt8 := dkwX0_worths_5 ++ dktX0_worths_6
def dkwX0_worths_4 : List UInt8 := [97, 55, 6, 132, 8, 1, 167, 255, 204, 42, 180, 0, 50, 21, 5, 22, 6, 42, 180, 0, 36, 182, 0, 197]
abbrev dktX0_worths_4 : List UInt8 := dkwX0_worths_4 ++ dktX0_worths_5
def dkwX0_worths_3 : List UInt8 := [133, 42, 21, 5, 21, 8, 28, 182, 0, 185, 42, 21, 5, 21, 8, 28, 29, 182, 0, 189, 184, 0, 193, 105]
abbrev dktX0_worths_3 : List UInt8 := dkwX0_worths_3 ++ dktX0_worths_4
def dkwX0_worths_2 : List UInt8 := [54, 8, 21, 8, 16, 12, 163, 0, 51, 22, 6, 42, 180, 0, 36, 180, 0, 133, 16, 10, 21, 8, 96, 46]
abbrev dktX0_worths_2 : List UInt8 := dkwX0_worths_2 ++ dktX0_worths_3
def dkwX0_worths_1 : List UInt8 := [3, 54, 4, 21, 4, 27, 162, 0, 124, 3, 54, 5, 21, 5, 16, 24, 163, 0, 88, 9, 55, 6, 4]
abbrev dktX0_worths_1 : List UInt8 := dkwX0_worths_1 ++ dktX0_worths_2
def dkwX0_worths_0 : List UInt8 := [3, 54, 4, 21, 4, 16, 24, 163, 0, 17, 42, 180, 0, 46, 21, 4, 9, 80, 132, 4, 1, 167, 255, 238]
abbrev dktX0_worths_0 : List UInt8 := dkwX0_worths_0 ++ dktX0_worths_1
theorem dksX0_worths_0 : cX0_worths.data.toList.drop 0 = dktX0_worths_0 := by decide +kernel
theorem dksX0_worths_1 : cX0_worths.data.toList.drop 24 = dktX0_worths_1 := dk_seg dksX0_worths_0 24 rfl rfl
theorem dksX0_worths_2 : cX0_worths.data.toList.drop 47 = dktX0_worths_2 := dk_seg dksX0_worths_1 23 rfl rfl
theorem dksX0_worths_3 : cX0_worths.data.toList.drop 71 = dktX0_worths_3 := dk_seg dksX0_worths_2 24 rfl rfl
theorem dksX0_worths_4 : cX0_worths.data.toList.drop 95 = dktX0_worths_4 := dk_seg dksX0_worths_3 24 rfl rfl
theorem dksX0_worths_5 : cX0_worths.data.toList.drop 119 = dktX0_worths_5 := dk_seg dksX0_worths_4 24 rfl rfl
theorem dksX0_worths_6 : cX0_worths.data.toList.drop 143 = dktX0_worths_6 := dk_seg dksX0_worths_5 24 rfl rfl
theorem dX0_worths_0 : decode cX0_worths 0 = .ok (.iconst 0, 1) := dk_3 (dk_at dksX0_worths_0 0 rfl rfl)
theorem dX0_worths_1 : decode cX0_worths 1 = .ok (.istore 4, 2) := dk_54 4 (dk_at dksX0_worths_0 1 rfl rfl)
theorem dX0_worths_3 : decode cX0_worths 3 = .ok (.iload 4, 2) := dk_21 4 (dk_at dksX0_worths_0 3 rfl rfl)
theorem dX0_worths_5 : decode cX0_worths 5 = .ok (.bipush 24, 2) := dk_16 24 (dk_at dksX0_worths_0 5 rfl rfl)
theorem dX0_worths_7 : decode cX0_worths 7 = .ok (.if_icmp .gt 17, 3) := dk_163 0 17 (dk_at dksX0_worths_0 7 rfl rfl)
theorem dX0_worths_10 : decode cX0_worths 10 = .ok (.aload_n 0, 1) := dk_42 (dk_at dksX0_worths_0 10 rfl rfl)
theorem dX0_worths_11 : decode cX0_worths 11 = .ok (.getfield 46, 3) := dk_180 0 46 (dk_at dksX0_worths_0 11 rfl rfl)
theorem dX0_worths_14 : decode cX0_worths 14 = .ok (.iload 4, 2) := dk_21 4 (dk_at dksX0_worths_0 14 rfl rfl)
theorem dX0_worths_16 : decode cX0_worths 16 = .ok (.lconst 0, 1) := dk_9 (dk_at dksX0_worths_0 16 rfl rfl)
theorem dX0_worths_17 : decode cX0_worths 17 = .ok (.lastore, 1) := dk_80 (dk_at dksX0_worths_0 17 rfl rfl)
theorem dX0_worths_18 : decode cX0_worths 18 = .ok (.iinc 4 1, 3) := dk_132 4 1 (dk_at dksX0_worths_0 18 rfl rfl)
theorem dX0_worths_21 : decode cX0_worths 21 = .ok (.goto (-18), 3) := dk_167 255 238 (dk_at dksX0_worths_0 21 rfl rfl)
theorem dX0_worths_24 : decode cX0_worths 24 = .ok (.iconst 0, 1) := dk_3 (dk_at dksX0_worths_1 0 rfl rfl)
theorem dX0_worths_25 : decode cX0_worths 25 = .ok (.istore 4, 2) := dk_54 4 (dk_at dksX0_worths_1 1 rfl rfl)
theorem dX0_worths_27 : decode cX0_worths 27 = .ok (.iload 4, 2) := dk_21 4 (dk_at dksX0_worths_1 3 rfl rfl)
theorem dX0_worths_29 : decode cX0_worths 29 = .ok (.iload_n 1, 1) := dk_27 (dk_at dksX0_worths_1 5 rfl rfl)
theorem dX0_worths_30 : decode cX0_worths 30 = .ok (.if_icmp .ge 124, 3) := dk_162 0 124 (dk_at dksX0_worths_1 6 rfl rfl)
theorem dX0_worths_33 : decode cX0_worths 33 = .ok (.iconst 0, 1) := dk_3 (dk_at dksX0_worths_1 9 rfl rfl)
theorem dX0_worths_34 : decode cX0_worths 34 = .ok (.istore 5, 2) := dk_54 5 (dk_at dksX0_worths_1 10 rfl rfl)
theorem dX0_worths_36 : decode cX0_worths 36 = .ok (.iload 5, 2) := dk_21 5 (dk_at dksX0_worths_1 12 rfl rfl)
theorem dX0_worths_38 : decode cX0_worths 38 = .ok (.bipush 24, 2) := dk_16 24 (dk_at dksX0_worths_1 14 rfl rfl)
theorem dX0_worths_40 : decode cX0_worths 40 = .ok (.if_icmp .gt 88, 3) := dk_163 0 88 (dk_at dksX0_worths_1 16 rfl rfl)
theorem dX0_worths_43 : decode cX0_worths 43 = .ok (.lconst 0, 1) := dk_9 (dk_at dksX0_worths_1 19 rfl rfl)
theorem dX0_worths_44 : decode cX0_worths 44 = .ok (.lstore 6, 2) := dk_55 6 (dk_at dksX0_worths_1 20 rfl rfl)
theorem dX0_worths_46 : decode cX0_worths 46 = .ok (.iconst 1, 1) := dk_4 (dk_at dksX0_worths_1 22 rfl rfl)
theorem dX0_worths_47 : decode cX0_worths 47 = .ok (.istore 8, 2) := dk_54 8 (dk_at dksX0_worths_2 0 rfl rfl)
theorem dX0_worths_49 : decode cX0_worths 49 = .ok (.iload 8, 2) := dk_21 8 (dk_at dksX0_worths_2 2 rfl rfl)
theorem dX0_worths_51 : decode cX0_worths 51 = .ok (.bipush 12, 2) := dk_16 12 (dk_at dksX0_worths_2 4 rfl rfl)
theorem dX0_worths_53 : decode cX0_worths 53 = .ok (.if_icmp .gt 51, 3) := dk_163 0 51 (dk_at dksX0_worths_2 6 rfl rfl)
theorem dX0_worths_56 : decode cX0_worths 56 = .ok (.lload 6, 2) := dk_22 6 (dk_at dksX0_worths_2 9 rfl rfl)
theorem dX0_worths_58 : decode cX0_worths 58 = .ok (.aload_n 0, 1) := dk_42 (dk_at dksX0_worths_2 11 rfl rfl)
theorem dX0_worths_59 : decode cX0_worths 59 = .ok (.getfield 36, 3) := dk_180 0 36 (dk_at dksX0_worths_2 12 rfl rfl)
theorem dX0_worths_62 : decode cX0_worths 62 = .ok (.getfield 133, 3) := dk_180 0 133 (dk_at dksX0_worths_2 15 rfl rfl)
theorem dX0_worths_65 : decode cX0_worths 65 = .ok (.bipush 10, 2) := dk_16 10 (dk_at dksX0_worths_2 18 rfl rfl)
theorem dX0_worths_67 : decode cX0_worths 67 = .ok (.iload 8, 2) := dk_21 8 (dk_at dksX0_worths_2 20 rfl rfl)
theorem dX0_worths_69 : decode cX0_worths 69 = .ok (.iadd, 1) := dk_96 (dk_at dksX0_worths_2 22 rfl rfl)
theorem dX0_worths_70 : decode cX0_worths 70 = .ok (.iaload, 1) := dk_46 (dk_at dksX0_worths_2 23 rfl rfl)
theorem dX0_worths_71 : decode cX0_worths 71 = .ok (.i2l, 1) := dk_133 (dk_at dksX0_worths_3 0 rfl rfl)
theorem dX0_worths_72 : decode cX0_worths 72 = .ok (.aload_n 0, 1) := dk_42 (dk_at dksX0_worths_3 1 rfl rfl)
theorem dX0_worths_73 : decode cX0_worths 73 = .ok (.iload 5, 2) := dk_21 5 (dk_at dksX0_worths_3 2 rfl rfl)
theorem dX0_worths_75 : decode cX0_worths 75 = .ok (.iload 8, 2) := dk_21 8 (dk_at dksX0_worths_3 4 rfl rfl)
theorem dX0_worths_77 : decode cX0_worths 77 = .ok (.iload_n 2, 1) := dk_28 (dk_at dksX0_worths_3 6 rfl rfl)
theorem dX0_worths_78 : decode cX0_worths 78 = .ok (.invokevirtual 185, 3) := dk_182 0 185 (dk_at dksX0_worths_3 7 rfl rfl)
theorem dX0_worths_81 : decode cX0_worths 81 = .ok (.aload_n 0, 1) := dk_42 (dk_at dksX0_worths_3 10 rfl rfl)
theorem dX0_worths_82 : decode cX0_worths 82 = .ok (.iload 5, 2) := dk_21 5 (dk_at dksX0_worths_3 11 rfl rfl)
theorem dX0_worths_84 : decode cX0_worths 84 = .ok (.iload 8, 2) := dk_21 8 (dk_at dksX0_worths_3 13 rfl rfl)
theorem dX0_worths_86 : decode cX0_worths 86 = .ok (.iload_n 2, 1) := dk_28 (dk_at dksX0_worths_3 15 rfl rfl)
theorem dX0_worths_87 : decode cX0_worths 87 = .ok (.iload_n 3, 1) := dk_29 (dk_at dksX0_worths_3 16 rfl rfl)
theorem dX0_worths_88 : decode cX0_worths 88 = .ok (.invokevirtual 189, 3) := dk_182 0 189 (dk_at dksX0_worths_3 17 rfl rfl)
theorem dX0_worths_91 : decode cX0_worths 91 = .ok (.invokestatic 193, 3) := dk_184 0 193 (dk_at dksX0_worths_3 20 rfl rfl)
theorem dX0_worths_94 : decode cX0_worths 94 = .ok (.lmul, 1) := dk_105 (dk_at dksX0_worths_3 23 rfl rfl)
theorem dX0_worths_95 : decode cX0_worths 95 = .ok (.ladd, 1) := dk_97 (dk_at dksX0_worths_4 0 rfl rfl)
theorem dX0_worths_96 : decode cX0_worths 96 = .ok (.lstore 6, 2) := dk_55 6 (dk_at dksX0_worths_4 1 rfl rfl)
theorem dX0_worths_98 : decode cX0_worths 98 = .ok (.iinc 8 1, 3) := dk_132 8 1 (dk_at dksX0_worths_4 3 rfl rfl)
theorem dX0_worths_101 : decode cX0_worths 101 = .ok (.goto (-52), 3) := dk_167 255 204 (dk_at dksX0_worths_4 6 rfl rfl)
theorem dX0_worths_104 : decode cX0_worths 104 = .ok (.aload_n 0, 1) := dk_42 (dk_at dksX0_worths_4 9 rfl rfl)
theorem dX0_worths_105 : decode cX0_worths 105 = .ok (.getfield 50, 3) := dk_180 0 50 (dk_at dksX0_worths_4 10 rfl rfl)
theorem dX0_worths_108 : decode cX0_worths 108 = .ok (.iload 5, 2) := dk_21 5 (dk_at dksX0_worths_4 13 rfl rfl)
theorem dX0_worths_110 : decode cX0_worths 110 = .ok (.lload 6, 2) := dk_22 6 (dk_at dksX0_worths_4 15 rfl rfl)
theorem dX0_worths_112 : decode cX0_worths 112 = .ok (.aload_n 0, 1) := dk_42 (dk_at dksX0_worths_4 17 rfl rfl)
theorem dX0_worths_113 : decode cX0_worths 113 = .ok (.getfield 36, 3) := dk_180 0 36 (dk_at dksX0_worths_4 18 rfl rfl)
theorem dX0_worths_116 : decode cX0_worths 116 = .ok (.invokevirtual 197, 3) := dk_182 0 197 (dk_at dksX0_worths_4 21 rfl rfl)
theorem dX0_worths_119 : decode cX0_worths 119 = .ok (.i2l, 1) := dk_133 (dk_at dksX0_worths_5 0 rfl rfl)
theorem dX0_worths_120 : decode cX0_worths 120 = .ok (.ldiv, 1) := dk_109 (dk_at dksX0_worths_5 1 rfl rfl)
theorem dX0_worths_121 : decode cX0_worths 121 = .ok (.lastore, 1) := dk_80 (dk_at dksX0_worths_5 2 rfl rfl)
theorem dX0_worths_122 : decode cX0_worths 122 = .ok (.iinc 5 1, 3) := dk_132 5 1 (dk_at dksX0_worths_5 3 rfl rfl)
theorem dX0_worths_125 : decode cX0_worths 125 = .ok (.goto (-89), 3) := dk_167 255 167 (dk_at dksX0_worths_5 6 rfl rfl)
theorem dX0_worths_128 : decode cX0_worths 128 = .ok (.aload_n 0, 1) := dk_42 (dk_at dksX0_worths_5 9 rfl rfl)
theorem dX0_worths_129 : decode cX0_worths 129 = .ok (.getfield 46, 3) := dk_180 0 46 (dk_at dksX0_worths_5 10 rfl rfl)
theorem dX0_worths_132 : decode cX0_worths 132 = .ok (.astore 5, 2) := dk_58 5 (dk_at dksX0_worths_5 13 rfl rfl)
theorem dX0_worths_134 : decode cX0_worths 134 = .ok (.aload_n 0, 1) := dk_42 (dk_at dksX0_worths_5 15 rfl rfl)
theorem dX0_worths_135 : decode cX0_worths 135 = .ok (.aload_n 0, 1) := dk_42 (dk_at dksX0_worths_5 16 rfl rfl)
theorem dX0_worths_136 : decode cX0_worths 136 = .ok (.getfield 50, 3) := dk_180 0 50 (dk_at dksX0_worths_5 17 rfl rfl)
theorem dX0_worths_139 : decode cX0_worths 139 = .ok (.putfield 46, 3) := dk_181 0 46 (dk_at dksX0_worths_5 20 rfl rfl)
theorem dX0_worths_142 : decode cX0_worths 142 = .ok (.aload_n 0, 1) := dk_42 (dk_at dksX0_worths_5 23 rfl rfl)
theorem dX0_worths_143 : decode cX0_worths 143 = .ok (.aload 5, 2) := dk_25 5 (dk_at dksX0_worths_6 0 rfl rfl)
theorem dX0_worths_145 : decode cX0_worths 145 = .ok (.putfield 50, 3) := dk_181 0 50 (dk_at dksX0_worths_6 2 rfl rfl)
theorem dX0_worths_148 : decode cX0_worths 148 = .ok (.iinc 4 1, 3) := dk_132 4 1 (dk_at dksX0_worths_6 5 rfl rfl)
theorem dX0_worths_151 : decode cX0_worths 151 = .ok (.goto (-124), 3) := dk_167 255 132 (dk_at dksX0_worths_6 8 rfl rfl)
theorem dX0_worths_154 : decode cX0_worths 154 = .ok (.return_, 1) := dk_177 (dk_at dksX0_worths_6 11 rfl rfl)
abbrev cX0_keeping : ByteArray := prog_1_method_20_code
def yX0_keeping : MethodName := ⟨RX0, "keeping", "(III)J"⟩
def dkwX0_keeping_1 : List UInt8 := [16, 24, 27, 4, 96, 184, 0, 177, 47, 105, 20, 0, 175, 109, 97, 173]
abbrev dktX0_keeping_1 : List UInt8 := dkwX0_keeping_1 ++ []
def dkwX0_keeping_0 : List UInt8 := [20, 0, 175, 42, 180, 0, 36, 180, 0, 133, 3, 46, 133, 105, 28, 133, 105, 29, 133, 42, 180, 0, 46]
abbrev dktX0_keeping_0 : List UInt8 := dkwX0_keeping_0 ++ dktX0_keeping_1
theorem dksX0_keeping_0 : cX0_keeping.data.toList.drop 0 = dktX0_keeping_0 := by decide +kernel
theorem dksX0_keeping_1 : cX0_keeping.data.toList.drop 23 = dktX0_keeping_1 := dk_seg dksX0_keeping_0 23 rfl rfl
theorem dX0_keeping_0 : decode cX0_keeping 0 = .ok (.ldc2_w 175, 3) := dk_20 0 175 (dk_at dksX0_keeping_0 0 rfl rfl)
theorem dX0_keeping_3 : decode cX0_keeping 3 = .ok (.aload_n 0, 1) := dk_42 (dk_at dksX0_keeping_0 3 rfl rfl)
theorem dX0_keeping_4 : decode cX0_keeping 4 = .ok (.getfield 36, 3) := dk_180 0 36 (dk_at dksX0_keeping_0 4 rfl rfl)
theorem dX0_keeping_7 : decode cX0_keeping 7 = .ok (.getfield 133, 3) := dk_180 0 133 (dk_at dksX0_keeping_0 7 rfl rfl)
theorem dX0_keeping_10 : decode cX0_keeping 10 = .ok (.iconst 0, 1) := dk_3 (dk_at dksX0_keeping_0 10 rfl rfl)
theorem dX0_keeping_11 : decode cX0_keeping 11 = .ok (.iaload, 1) := dk_46 (dk_at dksX0_keeping_0 11 rfl rfl)
theorem dX0_keeping_12 : decode cX0_keeping 12 = .ok (.i2l, 1) := dk_133 (dk_at dksX0_keeping_0 12 rfl rfl)
theorem dX0_keeping_13 : decode cX0_keeping 13 = .ok (.lmul, 1) := dk_105 (dk_at dksX0_keeping_0 13 rfl rfl)
theorem dX0_keeping_14 : decode cX0_keeping 14 = .ok (.iload_n 2, 1) := dk_28 (dk_at dksX0_keeping_0 14 rfl rfl)
theorem dX0_keeping_15 : decode cX0_keeping 15 = .ok (.i2l, 1) := dk_133 (dk_at dksX0_keeping_0 15 rfl rfl)
theorem dX0_keeping_16 : decode cX0_keeping 16 = .ok (.lmul, 1) := dk_105 (dk_at dksX0_keeping_0 16 rfl rfl)
theorem dX0_keeping_17 : decode cX0_keeping 17 = .ok (.iload_n 3, 1) := dk_29 (dk_at dksX0_keeping_0 17 rfl rfl)
theorem dX0_keeping_18 : decode cX0_keeping 18 = .ok (.i2l, 1) := dk_133 (dk_at dksX0_keeping_0 18 rfl rfl)
theorem dX0_keeping_19 : decode cX0_keeping 19 = .ok (.aload_n 0, 1) := dk_42 (dk_at dksX0_keeping_0 19 rfl rfl)
theorem dX0_keeping_20 : decode cX0_keeping 20 = .ok (.getfield 46, 3) := dk_180 0 46 (dk_at dksX0_keeping_0 20 rfl rfl)
theorem dX0_keeping_23 : decode cX0_keeping 23 = .ok (.bipush 24, 2) := dk_16 24 (dk_at dksX0_keeping_1 0 rfl rfl)
theorem dX0_keeping_25 : decode cX0_keeping 25 = .ok (.iload_n 1, 1) := dk_27 (dk_at dksX0_keeping_1 2 rfl rfl)
theorem dX0_keeping_26 : decode cX0_keeping 26 = .ok (.iconst 1, 1) := dk_4 (dk_at dksX0_keeping_1 3 rfl rfl)
theorem dX0_keeping_27 : decode cX0_keeping 27 = .ok (.iadd, 1) := dk_96 (dk_at dksX0_keeping_1 4 rfl rfl)
theorem dX0_keeping_28 : decode cX0_keeping 28 = .ok (.invokestatic 177, 3) := dk_184 0 177 (dk_at dksX0_keeping_1 5 rfl rfl)
theorem dX0_keeping_31 : decode cX0_keeping 31 = .ok (.laload, 1) := dk_47 (dk_at dksX0_keeping_1 8 rfl rfl)
theorem dX0_keeping_32 : decode cX0_keeping 32 = .ok (.lmul, 1) := dk_105 (dk_at dksX0_keeping_1 9 rfl rfl)
theorem dX0_keeping_33 : decode cX0_keeping 33 = .ok (.ldc2_w 175, 3) := dk_20 0 175 (dk_at dksX0_keeping_1 10 rfl rfl)
theorem dX0_keeping_36 : decode cX0_keeping 36 = .ok (.ldiv, 1) := dk_109 (dk_at dksX0_keeping_1 13 rfl rfl)
theorem dX0_keeping_37 : decode cX0_keeping 37 = .ok (.ladd, 1) := dk_97 (dk_at dksX0_keeping_1 14 rfl rfl)
theorem dX0_keeping_38 : decode cX0_keeping 38 = .ok (.lreturn, 1) := dk_173 (dk_at dksX0_keeping_1 15 rfl rfl)
abbrev cX0_breaking : ByteArray := prog_1_method_21_code
def yX0_breaking : MethodName := ⟨RX0, "breaking", "(IIII)J"⟩
def dkwX0_breaking_1 : List UInt8 := [133, 105, 28, 133, 105, 29, 133, 42, 180, 0, 46, 27, 21, 4, 100, 47, 105, 20, 0, 175, 109, 97, 173]
abbrev dktX0_breaking_1 : List UInt8 := dkwX0_breaking_1 ++ []
def dkwX0_breaking_0 : List UInt8 := [27, 21, 4, 162, 0, 9, 20, 0, 183, 167, 0, 37, 20, 0, 175, 42, 180, 0, 36, 180, 0, 133, 4, 46]
abbrev dktX0_breaking_0 : List UInt8 := dkwX0_breaking_0 ++ dktX0_breaking_1
theorem dksX0_breaking_0 : cX0_breaking.data.toList.drop 0 = dktX0_breaking_0 := by decide +kernel
theorem dksX0_breaking_1 : cX0_breaking.data.toList.drop 24 = dktX0_breaking_1 := dk_seg dksX0_breaking_0 24 rfl rfl
theorem dX0_breaking_0 : decode cX0_breaking 0 = .ok (.iload_n 1, 1) := dk_27 (dk_at dksX0_breaking_0 0 rfl rfl)
theorem dX0_breaking_1 : decode cX0_breaking 1 = .ok (.iload 4, 2) := dk_21 4 (dk_at dksX0_breaking_0 1 rfl rfl)
theorem dX0_breaking_3 : decode cX0_breaking 3 = .ok (.if_icmp .ge 9, 3) := dk_162 0 9 (dk_at dksX0_breaking_0 3 rfl rfl)
theorem dX0_breaking_6 : decode cX0_breaking 6 = .ok (.ldc2_w 183, 3) := dk_20 0 183 (dk_at dksX0_breaking_0 6 rfl rfl)
theorem dX0_breaking_9 : decode cX0_breaking 9 = .ok (.goto 37, 3) := dk_167 0 37 (dk_at dksX0_breaking_0 9 rfl rfl)
theorem dX0_breaking_12 : decode cX0_breaking 12 = .ok (.ldc2_w 175, 3) := dk_20 0 175 (dk_at dksX0_breaking_0 12 rfl rfl)
theorem dX0_breaking_15 : decode cX0_breaking 15 = .ok (.aload_n 0, 1) := dk_42 (dk_at dksX0_breaking_0 15 rfl rfl)
theorem dX0_breaking_16 : decode cX0_breaking 16 = .ok (.getfield 36, 3) := dk_180 0 36 (dk_at dksX0_breaking_0 16 rfl rfl)
theorem dX0_breaking_19 : decode cX0_breaking 19 = .ok (.getfield 133, 3) := dk_180 0 133 (dk_at dksX0_breaking_0 19 rfl rfl)
theorem dX0_breaking_22 : decode cX0_breaking 22 = .ok (.iconst 1, 1) := dk_4 (dk_at dksX0_breaking_0 22 rfl rfl)
theorem dX0_breaking_23 : decode cX0_breaking 23 = .ok (.iaload, 1) := dk_46 (dk_at dksX0_breaking_0 23 rfl rfl)
theorem dX0_breaking_24 : decode cX0_breaking 24 = .ok (.i2l, 1) := dk_133 (dk_at dksX0_breaking_1 0 rfl rfl)
theorem dX0_breaking_25 : decode cX0_breaking 25 = .ok (.lmul, 1) := dk_105 (dk_at dksX0_breaking_1 1 rfl rfl)
theorem dX0_breaking_26 : decode cX0_breaking 26 = .ok (.iload_n 2, 1) := dk_28 (dk_at dksX0_breaking_1 2 rfl rfl)
theorem dX0_breaking_27 : decode cX0_breaking 27 = .ok (.i2l, 1) := dk_133 (dk_at dksX0_breaking_1 3 rfl rfl)
theorem dX0_breaking_28 : decode cX0_breaking 28 = .ok (.lmul, 1) := dk_105 (dk_at dksX0_breaking_1 4 rfl rfl)
theorem dX0_breaking_29 : decode cX0_breaking 29 = .ok (.iload_n 3, 1) := dk_29 (dk_at dksX0_breaking_1 5 rfl rfl)
theorem dX0_breaking_30 : decode cX0_breaking 30 = .ok (.i2l, 1) := dk_133 (dk_at dksX0_breaking_1 6 rfl rfl)
theorem dX0_breaking_31 : decode cX0_breaking 31 = .ok (.aload_n 0, 1) := dk_42 (dk_at dksX0_breaking_1 7 rfl rfl)
theorem dX0_breaking_32 : decode cX0_breaking 32 = .ok (.getfield 46, 3) := dk_180 0 46 (dk_at dksX0_breaking_1 8 rfl rfl)
theorem dX0_breaking_35 : decode cX0_breaking 35 = .ok (.iload_n 1, 1) := dk_27 (dk_at dksX0_breaking_1 11 rfl rfl)
theorem dX0_breaking_36 : decode cX0_breaking 36 = .ok (.iload 4, 2) := dk_21 4 (dk_at dksX0_breaking_1 12 rfl rfl)
theorem dX0_breaking_38 : decode cX0_breaking 38 = .ok (.isub, 1) := dk_100 (dk_at dksX0_breaking_1 14 rfl rfl)
theorem dX0_breaking_39 : decode cX0_breaking 39 = .ok (.laload, 1) := dk_47 (dk_at dksX0_breaking_1 15 rfl rfl)
theorem dX0_breaking_40 : decode cX0_breaking 40 = .ok (.lmul, 1) := dk_105 (dk_at dksX0_breaking_1 16 rfl rfl)
theorem dX0_breaking_41 : decode cX0_breaking 41 = .ok (.ldc2_w 175, 3) := dk_20 0 175 (dk_at dksX0_breaking_1 17 rfl rfl)
theorem dX0_breaking_44 : decode cX0_breaking 44 = .ok (.ldiv, 1) := dk_109 (dk_at dksX0_breaking_1 20 rfl rfl)
theorem dX0_breaking_45 : decode cX0_breaking 45 = .ok (.ladd, 1) := dk_97 (dk_at dksX0_breaking_1 21 rfl rfl)
theorem dX0_breaking_46 : decode cX0_breaking 46 = .ok (.lreturn, 1) := dk_173 (dk_at dksX0_breaking_1 22 rfl rfl)
abbrev cX0_longer : ByteArray := prog_1_method_27_code
def yX0_longer : MethodName := ⟨RX0, "longer", "(IIII)J"⟩
def dkwX0_longer_6 : List UInt8 := [55, 6, 132, 8, 1, 167, 255, 215, 21, 5, 133, 173]
abbrev dktX0_longer_6 : List UInt8 := dkwX0_longer_6 ++ []
def dkwX0_longer_5 : List UInt8 := [182, 0, 230, 42, 180, 0, 215, 22, 6, 148, 157, 0, 6, 167, 0, 13, 21, 8, 54, 5, 42, 180, 0, 215]
abbrev dktX0_longer_5 : List UInt8 := dkwX0_longer_5 ++ dktX0_longer_6
def dkwX0_longer_4 : List UInt8 := [4, 54, 5, 20, 0, 183, 55, 6, 4, 54, 8, 21, 8, 16, 13, 163, 0, 40, 42, 21, 8, 28, 29]
abbrev dktX0_longer_4 : List UInt8 := dkwX0_longer_4 ++ dktX0_longer_5
def dkwX0_longer_3 : List UInt8 := [42, 27, 28, 29, 182, 0, 230, 21, 4, 154, 0, 10, 42, 180, 0, 211, 167, 0, 7, 42, 180, 0, 215, 173]
abbrev dktX0_longer_3 : List UInt8 := dkwX0_longer_3 ++ dktX0_longer_4
def dkwX0_longer_2 : List UInt8 := [27, 2, 159, 0, 17, 21, 4, 3, 4, 184, 0, 81, 154, 0, 7, 20, 0, 183, 173, 27, 2, 159, 0, 27]
abbrev dktX0_longer_2 : List UInt8 := dkwX0_longer_2 ++ dktX0_longer_3
def dkwX0_longer_1 : List UInt8 := [153, 0, 39, 29, 4, 17, 0, 200, 184, 0, 81, 153, 0, 28, 42, 180, 0, 36, 182, 0, 197, 153, 0, 18]
abbrev dktX0_longer_1 : List UInt8 := dkwX0_longer_1 ++ dktX0_longer_2
def dkwX0_longer_0 : List UInt8 := [27, 2, 159, 0, 13, 27, 4, 16, 13, 184, 0, 81, 153, 0, 49, 28, 4, 16, 9, 184, 0, 81]
abbrev dktX0_longer_0 : List UInt8 := dkwX0_longer_0 ++ dktX0_longer_1
theorem dksX0_longer_0 : cX0_longer.data.toList.drop 0 = dktX0_longer_0 := by decide +kernel
theorem dksX0_longer_1 : cX0_longer.data.toList.drop 22 = dktX0_longer_1 := dk_seg dksX0_longer_0 22 rfl rfl
theorem dksX0_longer_2 : cX0_longer.data.toList.drop 46 = dktX0_longer_2 := dk_seg dksX0_longer_1 24 rfl rfl
theorem dksX0_longer_3 : cX0_longer.data.toList.drop 70 = dktX0_longer_3 := dk_seg dksX0_longer_2 24 rfl rfl
theorem dksX0_longer_4 : cX0_longer.data.toList.drop 94 = dktX0_longer_4 := dk_seg dksX0_longer_3 24 rfl rfl
theorem dksX0_longer_5 : cX0_longer.data.toList.drop 117 = dktX0_longer_5 := dk_seg dksX0_longer_4 23 rfl rfl
theorem dksX0_longer_6 : cX0_longer.data.toList.drop 141 = dktX0_longer_6 := dk_seg dksX0_longer_5 24 rfl rfl
theorem dX0_longer_0 : decode cX0_longer 0 = .ok (.iload_n 1, 1) := dk_27 (dk_at dksX0_longer_0 0 rfl rfl)
theorem dX0_longer_1 : decode cX0_longer 1 = .ok (.iconst (-1), 1) := dk_2 (dk_at dksX0_longer_0 1 rfl rfl)
theorem dX0_longer_2 : decode cX0_longer 2 = .ok (.if_icmp .eq 13, 3) := dk_159 0 13 (dk_at dksX0_longer_0 2 rfl rfl)
theorem dX0_longer_5 : decode cX0_longer 5 = .ok (.iload_n 1, 1) := dk_27 (dk_at dksX0_longer_0 5 rfl rfl)
theorem dX0_longer_6 : decode cX0_longer 6 = .ok (.iconst 1, 1) := dk_4 (dk_at dksX0_longer_0 6 rfl rfl)
theorem dX0_longer_7 : decode cX0_longer 7 = .ok (.bipush 13, 2) := dk_16 13 (dk_at dksX0_longer_0 7 rfl rfl)
theorem dX0_longer_9 : decode cX0_longer 9 = .ok (.invokestatic 81, 3) := dk_184 0 81 (dk_at dksX0_longer_0 9 rfl rfl)
theorem dX0_longer_12 : decode cX0_longer 12 = .ok (.ifCond .eq 49, 3) := dk_153 0 49 (dk_at dksX0_longer_0 12 rfl rfl)
theorem dX0_longer_15 : decode cX0_longer 15 = .ok (.iload_n 2, 1) := dk_28 (dk_at dksX0_longer_0 15 rfl rfl)
theorem dX0_longer_16 : decode cX0_longer 16 = .ok (.iconst 1, 1) := dk_4 (dk_at dksX0_longer_0 16 rfl rfl)
theorem dX0_longer_17 : decode cX0_longer 17 = .ok (.bipush 9, 2) := dk_16 9 (dk_at dksX0_longer_0 17 rfl rfl)
theorem dX0_longer_19 : decode cX0_longer 19 = .ok (.invokestatic 81, 3) := dk_184 0 81 (dk_at dksX0_longer_0 19 rfl rfl)
theorem dX0_longer_22 : decode cX0_longer 22 = .ok (.ifCond .eq 39, 3) := dk_153 0 39 (dk_at dksX0_longer_1 0 rfl rfl)
theorem dX0_longer_25 : decode cX0_longer 25 = .ok (.iload_n 3, 1) := dk_29 (dk_at dksX0_longer_1 3 rfl rfl)
theorem dX0_longer_26 : decode cX0_longer 26 = .ok (.iconst 1, 1) := dk_4 (dk_at dksX0_longer_1 4 rfl rfl)
theorem dX0_longer_27 : decode cX0_longer 27 = .ok (.sipush 200, 3) := dk_17 0 200 (dk_at dksX0_longer_1 5 rfl rfl)
theorem dX0_longer_30 : decode cX0_longer 30 = .ok (.invokestatic 81, 3) := dk_184 0 81 (dk_at dksX0_longer_1 8 rfl rfl)
theorem dX0_longer_33 : decode cX0_longer 33 = .ok (.ifCond .eq 28, 3) := dk_153 0 28 (dk_at dksX0_longer_1 11 rfl rfl)
theorem dX0_longer_36 : decode cX0_longer 36 = .ok (.aload_n 0, 1) := dk_42 (dk_at dksX0_longer_1 14 rfl rfl)
theorem dX0_longer_37 : decode cX0_longer 37 = .ok (.getfield 36, 3) := dk_180 0 36 (dk_at dksX0_longer_1 15 rfl rfl)
theorem dX0_longer_40 : decode cX0_longer 40 = .ok (.invokevirtual 197, 3) := dk_182 0 197 (dk_at dksX0_longer_1 18 rfl rfl)
theorem dX0_longer_43 : decode cX0_longer 43 = .ok (.ifCond .eq 18, 3) := dk_153 0 18 (dk_at dksX0_longer_1 21 rfl rfl)
theorem dX0_longer_46 : decode cX0_longer 46 = .ok (.iload_n 1, 1) := dk_27 (dk_at dksX0_longer_2 0 rfl rfl)
theorem dX0_longer_47 : decode cX0_longer 47 = .ok (.iconst (-1), 1) := dk_2 (dk_at dksX0_longer_2 1 rfl rfl)
theorem dX0_longer_48 : decode cX0_longer 48 = .ok (.if_icmp .eq 17, 3) := dk_159 0 17 (dk_at dksX0_longer_2 2 rfl rfl)
theorem dX0_longer_51 : decode cX0_longer 51 = .ok (.iload 4, 2) := dk_21 4 (dk_at dksX0_longer_2 5 rfl rfl)
theorem dX0_longer_53 : decode cX0_longer 53 = .ok (.iconst 0, 1) := dk_3 (dk_at dksX0_longer_2 7 rfl rfl)
theorem dX0_longer_54 : decode cX0_longer 54 = .ok (.iconst 1, 1) := dk_4 (dk_at dksX0_longer_2 8 rfl rfl)
theorem dX0_longer_55 : decode cX0_longer 55 = .ok (.invokestatic 81, 3) := dk_184 0 81 (dk_at dksX0_longer_2 9 rfl rfl)
theorem dX0_longer_58 : decode cX0_longer 58 = .ok (.ifCond .ne 7, 3) := dk_154 0 7 (dk_at dksX0_longer_2 12 rfl rfl)
theorem dX0_longer_61 : decode cX0_longer 61 = .ok (.ldc2_w 183, 3) := dk_20 0 183 (dk_at dksX0_longer_2 15 rfl rfl)
theorem dX0_longer_64 : decode cX0_longer 64 = .ok (.lreturn, 1) := dk_173 (dk_at dksX0_longer_2 18 rfl rfl)
theorem dX0_longer_65 : decode cX0_longer 65 = .ok (.iload_n 1, 1) := dk_27 (dk_at dksX0_longer_2 19 rfl rfl)
theorem dX0_longer_66 : decode cX0_longer 66 = .ok (.iconst (-1), 1) := dk_2 (dk_at dksX0_longer_2 20 rfl rfl)
theorem dX0_longer_67 : decode cX0_longer 67 = .ok (.if_icmp .eq 27, 3) := dk_159 0 27 (dk_at dksX0_longer_2 21 rfl rfl)
theorem dX0_longer_70 : decode cX0_longer 70 = .ok (.aload_n 0, 1) := dk_42 (dk_at dksX0_longer_3 0 rfl rfl)
theorem dX0_longer_71 : decode cX0_longer 71 = .ok (.iload_n 1, 1) := dk_27 (dk_at dksX0_longer_3 1 rfl rfl)
theorem dX0_longer_72 : decode cX0_longer 72 = .ok (.iload_n 2, 1) := dk_28 (dk_at dksX0_longer_3 2 rfl rfl)
theorem dX0_longer_73 : decode cX0_longer 73 = .ok (.iload_n 3, 1) := dk_29 (dk_at dksX0_longer_3 3 rfl rfl)
theorem dX0_longer_74 : decode cX0_longer 74 = .ok (.invokevirtual 230, 3) := dk_182 0 230 (dk_at dksX0_longer_3 4 rfl rfl)
theorem dX0_longer_77 : decode cX0_longer 77 = .ok (.iload 4, 2) := dk_21 4 (dk_at dksX0_longer_3 7 rfl rfl)
theorem dX0_longer_79 : decode cX0_longer 79 = .ok (.ifCond .ne 10, 3) := dk_154 0 10 (dk_at dksX0_longer_3 9 rfl rfl)
theorem dX0_longer_82 : decode cX0_longer 82 = .ok (.aload_n 0, 1) := dk_42 (dk_at dksX0_longer_3 12 rfl rfl)
theorem dX0_longer_83 : decode cX0_longer 83 = .ok (.getfield 211, 3) := dk_180 0 211 (dk_at dksX0_longer_3 13 rfl rfl)
theorem dX0_longer_86 : decode cX0_longer 86 = .ok (.goto 7, 3) := dk_167 0 7 (dk_at dksX0_longer_3 16 rfl rfl)
theorem dX0_longer_89 : decode cX0_longer 89 = .ok (.aload_n 0, 1) := dk_42 (dk_at dksX0_longer_3 19 rfl rfl)
theorem dX0_longer_90 : decode cX0_longer 90 = .ok (.getfield 215, 3) := dk_180 0 215 (dk_at dksX0_longer_3 20 rfl rfl)
theorem dX0_longer_93 : decode cX0_longer 93 = .ok (.lreturn, 1) := dk_173 (dk_at dksX0_longer_3 23 rfl rfl)
theorem dX0_longer_94 : decode cX0_longer 94 = .ok (.iconst 1, 1) := dk_4 (dk_at dksX0_longer_4 0 rfl rfl)
theorem dX0_longer_95 : decode cX0_longer 95 = .ok (.istore 5, 2) := dk_54 5 (dk_at dksX0_longer_4 1 rfl rfl)
theorem dX0_longer_97 : decode cX0_longer 97 = .ok (.ldc2_w 183, 3) := dk_20 0 183 (dk_at dksX0_longer_4 3 rfl rfl)
theorem dX0_longer_100 : decode cX0_longer 100 = .ok (.lstore 6, 2) := dk_55 6 (dk_at dksX0_longer_4 6 rfl rfl)
theorem dX0_longer_102 : decode cX0_longer 102 = .ok (.iconst 1, 1) := dk_4 (dk_at dksX0_longer_4 8 rfl rfl)
theorem dX0_longer_103 : decode cX0_longer 103 = .ok (.istore 8, 2) := dk_54 8 (dk_at dksX0_longer_4 9 rfl rfl)
theorem dX0_longer_105 : decode cX0_longer 105 = .ok (.iload 8, 2) := dk_21 8 (dk_at dksX0_longer_4 11 rfl rfl)
theorem dX0_longer_107 : decode cX0_longer 107 = .ok (.bipush 13, 2) := dk_16 13 (dk_at dksX0_longer_4 13 rfl rfl)
theorem dX0_longer_109 : decode cX0_longer 109 = .ok (.if_icmp .gt 40, 3) := dk_163 0 40 (dk_at dksX0_longer_4 15 rfl rfl)
theorem dX0_longer_112 : decode cX0_longer 112 = .ok (.aload_n 0, 1) := dk_42 (dk_at dksX0_longer_4 18 rfl rfl)
theorem dX0_longer_113 : decode cX0_longer 113 = .ok (.iload 8, 2) := dk_21 8 (dk_at dksX0_longer_4 19 rfl rfl)
theorem dX0_longer_115 : decode cX0_longer 115 = .ok (.iload_n 2, 1) := dk_28 (dk_at dksX0_longer_4 21 rfl rfl)
theorem dX0_longer_116 : decode cX0_longer 116 = .ok (.iload_n 3, 1) := dk_29 (dk_at dksX0_longer_4 22 rfl rfl)
theorem dX0_longer_117 : decode cX0_longer 117 = .ok (.invokevirtual 230, 3) := dk_182 0 230 (dk_at dksX0_longer_5 0 rfl rfl)
theorem dX0_longer_120 : decode cX0_longer 120 = .ok (.aload_n 0, 1) := dk_42 (dk_at dksX0_longer_5 3 rfl rfl)
theorem dX0_longer_121 : decode cX0_longer 121 = .ok (.getfield 215, 3) := dk_180 0 215 (dk_at dksX0_longer_5 4 rfl rfl)
theorem dX0_longer_124 : decode cX0_longer 124 = .ok (.lload 6, 2) := dk_22 6 (dk_at dksX0_longer_5 7 rfl rfl)
theorem dX0_longer_126 : decode cX0_longer 126 = .ok (.lcmp, 1) := dk_148 (dk_at dksX0_longer_5 9 rfl rfl)
theorem dX0_longer_127 : decode cX0_longer 127 = .ok (.ifCond .gt 6, 3) := dk_157 0 6 (dk_at dksX0_longer_5 10 rfl rfl)
theorem dX0_longer_130 : decode cX0_longer 130 = .ok (.goto 13, 3) := dk_167 0 13 (dk_at dksX0_longer_5 13 rfl rfl)
theorem dX0_longer_133 : decode cX0_longer 133 = .ok (.iload 8, 2) := dk_21 8 (dk_at dksX0_longer_5 16 rfl rfl)
theorem dX0_longer_135 : decode cX0_longer 135 = .ok (.istore 5, 2) := dk_54 5 (dk_at dksX0_longer_5 18 rfl rfl)
theorem dX0_longer_137 : decode cX0_longer 137 = .ok (.aload_n 0, 1) := dk_42 (dk_at dksX0_longer_5 20 rfl rfl)
theorem dX0_longer_138 : decode cX0_longer 138 = .ok (.getfield 215, 3) := dk_180 0 215 (dk_at dksX0_longer_5 21 rfl rfl)
theorem dX0_longer_141 : decode cX0_longer 141 = .ok (.lstore 6, 2) := dk_55 6 (dk_at dksX0_longer_6 0 rfl rfl)
theorem dX0_longer_143 : decode cX0_longer 143 = .ok (.iinc 8 1, 3) := dk_132 8 1 (dk_at dksX0_longer_6 2 rfl rfl)
theorem dX0_longer_146 : decode cX0_longer 146 = .ok (.goto (-41), 3) := dk_167 255 215 (dk_at dksX0_longer_6 5 rfl rfl)
theorem dX0_longer_149 : decode cX0_longer 149 = .ok (.iload 5, 2) := dk_21 5 (dk_at dksX0_longer_6 8 rfl rfl)
theorem dX0_longer_151 : decode cX0_longer 151 = .ok (.i2l, 1) := dk_133 (dk_at dksX0_longer_6 10 rfl rfl)
theorem dX0_longer_152 : decode cX0_longer 152 = .ok (.lreturn, 1) := dk_173 (dk_at dksX0_longer_6 11 rfl rfl)
abbrev cX0_rounds : ByteArray := prog_1_method_25_code
def yX0_rounds : MethodName := ⟨RX0, "rounds", "(III)V"⟩
def dkwX0_rounds_7 : List UInt8 := [184, 0, 227, 181, 0, 218, 177]
abbrev dktX0_rounds_7 : List UInt8 := dkwX0_rounds_7 ++ []
def dkwX0_rounds_6 : List UInt8 := [167, 255, 162, 42, 89, 180, 0, 215, 20, 0, 225, 109, 181, 0, 215, 42, 42, 180, 0, 218, 20, 0, 225]
abbrev dktX0_rounds_6 : List UInt8 := dkwX0_rounds_6 ++ dktX0_rounds_7
def dkwX0_rounds_5 : List UInt8 := [180, 0, 53, 58, 6, 42, 42, 180, 0, 56, 181, 0, 53, 42, 25, 6, 181, 0, 56, 132, 5, 1]
abbrev dktX0_rounds_5 : List UInt8 := dkwX0_rounds_5 ++ dktX0_rounds_6
def dkwX0_rounds_4 : List UInt8 := [16, 24, 163, 0, 19, 42, 21, 6, 27, 28, 21, 4, 182, 0, 221, 132, 6, 1, 167, 255, 236, 42]
abbrev dktX0_rounds_4 : List UInt8 := dkwX0_rounds_4 ++ dktX0_rounds_5
def dkwX0_rounds_3 : List UInt8 := [16, 24, 163, 0, 17, 42, 180, 0, 56, 21, 6, 9, 80, 132, 6, 1, 167, 255, 238, 3, 54, 6, 21, 6]
abbrev dktX0_rounds_3 : List UInt8 := dkwX0_rounds_3 ++ dktX0_rounds_4
def dkwX0_rounds_2 : List UInt8 := [162, 0, 94, 42, 9, 181, 0, 211, 42, 9, 181, 0, 215, 42, 9, 181, 0, 218, 3, 54, 6, 21, 6]
abbrev dktX0_rounds_2 : List UInt8 := dkwX0_rounds_2 ++ dktX0_rounds_3
def dkwX0_rounds_1 : List UInt8 := [167, 0, 4, 9, 80, 132, 4, 1, 167, 255, 227, 42, 182, 0, 208, 54, 4, 3, 54, 5, 21, 5, 29]
abbrev dktX0_rounds_1 : List UInt8 := dkwX0_rounds_1 ++ dktX0_rounds_2
def dkwX0_rounds_0 : List UInt8 := [3, 54, 4, 21, 4, 16, 24, 163, 0, 28, 42, 180, 0, 53, 21, 4, 21, 4, 154, 0, 9, 20, 0, 206]
abbrev dktX0_rounds_0 : List UInt8 := dkwX0_rounds_0 ++ dktX0_rounds_1
theorem dksX0_rounds_0 : cX0_rounds.data.toList.drop 0 = dktX0_rounds_0 := by decide +kernel
theorem dksX0_rounds_1 : cX0_rounds.data.toList.drop 24 = dktX0_rounds_1 := dk_seg dksX0_rounds_0 24 rfl rfl
theorem dksX0_rounds_2 : cX0_rounds.data.toList.drop 47 = dktX0_rounds_2 := dk_seg dksX0_rounds_1 23 rfl rfl
theorem dksX0_rounds_3 : cX0_rounds.data.toList.drop 70 = dktX0_rounds_3 := dk_seg dksX0_rounds_2 23 rfl rfl
theorem dksX0_rounds_4 : cX0_rounds.data.toList.drop 94 = dktX0_rounds_4 := dk_seg dksX0_rounds_3 24 rfl rfl
theorem dksX0_rounds_5 : cX0_rounds.data.toList.drop 116 = dktX0_rounds_5 := dk_seg dksX0_rounds_4 22 rfl rfl
theorem dksX0_rounds_6 : cX0_rounds.data.toList.drop 138 = dktX0_rounds_6 := dk_seg dksX0_rounds_5 22 rfl rfl
theorem dksX0_rounds_7 : cX0_rounds.data.toList.drop 161 = dktX0_rounds_7 := dk_seg dksX0_rounds_6 23 rfl rfl
theorem dX0_rounds_0 : decode cX0_rounds 0 = .ok (.iconst 0, 1) := dk_3 (dk_at dksX0_rounds_0 0 rfl rfl)
theorem dX0_rounds_1 : decode cX0_rounds 1 = .ok (.istore 4, 2) := dk_54 4 (dk_at dksX0_rounds_0 1 rfl rfl)
theorem dX0_rounds_3 : decode cX0_rounds 3 = .ok (.iload 4, 2) := dk_21 4 (dk_at dksX0_rounds_0 3 rfl rfl)
theorem dX0_rounds_5 : decode cX0_rounds 5 = .ok (.bipush 24, 2) := dk_16 24 (dk_at dksX0_rounds_0 5 rfl rfl)
theorem dX0_rounds_7 : decode cX0_rounds 7 = .ok (.if_icmp .gt 28, 3) := dk_163 0 28 (dk_at dksX0_rounds_0 7 rfl rfl)
theorem dX0_rounds_10 : decode cX0_rounds 10 = .ok (.aload_n 0, 1) := dk_42 (dk_at dksX0_rounds_0 10 rfl rfl)
theorem dX0_rounds_11 : decode cX0_rounds 11 = .ok (.getfield 53, 3) := dk_180 0 53 (dk_at dksX0_rounds_0 11 rfl rfl)
theorem dX0_rounds_14 : decode cX0_rounds 14 = .ok (.iload 4, 2) := dk_21 4 (dk_at dksX0_rounds_0 14 rfl rfl)
theorem dX0_rounds_16 : decode cX0_rounds 16 = .ok (.iload 4, 2) := dk_21 4 (dk_at dksX0_rounds_0 16 rfl rfl)
theorem dX0_rounds_18 : decode cX0_rounds 18 = .ok (.ifCond .ne 9, 3) := dk_154 0 9 (dk_at dksX0_rounds_0 18 rfl rfl)
theorem dX0_rounds_21 : decode cX0_rounds 21 = .ok (.ldc2_w 206, 3) := dk_20 0 206 (dk_at dksX0_rounds_0 21 rfl rfl)
theorem dX0_rounds_24 : decode cX0_rounds 24 = .ok (.goto 4, 3) := dk_167 0 4 (dk_at dksX0_rounds_1 0 rfl rfl)
theorem dX0_rounds_27 : decode cX0_rounds 27 = .ok (.lconst 0, 1) := dk_9 (dk_at dksX0_rounds_1 3 rfl rfl)
theorem dX0_rounds_28 : decode cX0_rounds 28 = .ok (.lastore, 1) := dk_80 (dk_at dksX0_rounds_1 4 rfl rfl)
theorem dX0_rounds_29 : decode cX0_rounds 29 = .ok (.iinc 4 1, 3) := dk_132 4 1 (dk_at dksX0_rounds_1 5 rfl rfl)
theorem dX0_rounds_32 : decode cX0_rounds 32 = .ok (.goto (-29), 3) := dk_167 255 227 (dk_at dksX0_rounds_1 8 rfl rfl)
theorem dX0_rounds_35 : decode cX0_rounds 35 = .ok (.aload_n 0, 1) := dk_42 (dk_at dksX0_rounds_1 11 rfl rfl)
theorem dX0_rounds_36 : decode cX0_rounds 36 = .ok (.invokevirtual 208, 3) := dk_182 0 208 (dk_at dksX0_rounds_1 12 rfl rfl)
theorem dX0_rounds_39 : decode cX0_rounds 39 = .ok (.istore 4, 2) := dk_54 4 (dk_at dksX0_rounds_1 15 rfl rfl)
theorem dX0_rounds_41 : decode cX0_rounds 41 = .ok (.iconst 0, 1) := dk_3 (dk_at dksX0_rounds_1 17 rfl rfl)
theorem dX0_rounds_42 : decode cX0_rounds 42 = .ok (.istore 5, 2) := dk_54 5 (dk_at dksX0_rounds_1 18 rfl rfl)
theorem dX0_rounds_44 : decode cX0_rounds 44 = .ok (.iload 5, 2) := dk_21 5 (dk_at dksX0_rounds_1 20 rfl rfl)
theorem dX0_rounds_46 : decode cX0_rounds 46 = .ok (.iload_n 3, 1) := dk_29 (dk_at dksX0_rounds_1 22 rfl rfl)
theorem dX0_rounds_47 : decode cX0_rounds 47 = .ok (.if_icmp .ge 94, 3) := dk_162 0 94 (dk_at dksX0_rounds_2 0 rfl rfl)
theorem dX0_rounds_50 : decode cX0_rounds 50 = .ok (.aload_n 0, 1) := dk_42 (dk_at dksX0_rounds_2 3 rfl rfl)
theorem dX0_rounds_51 : decode cX0_rounds 51 = .ok (.lconst 0, 1) := dk_9 (dk_at dksX0_rounds_2 4 rfl rfl)
theorem dX0_rounds_52 : decode cX0_rounds 52 = .ok (.putfield 211, 3) := dk_181 0 211 (dk_at dksX0_rounds_2 5 rfl rfl)
theorem dX0_rounds_55 : decode cX0_rounds 55 = .ok (.aload_n 0, 1) := dk_42 (dk_at dksX0_rounds_2 8 rfl rfl)
theorem dX0_rounds_56 : decode cX0_rounds 56 = .ok (.lconst 0, 1) := dk_9 (dk_at dksX0_rounds_2 9 rfl rfl)
theorem dX0_rounds_57 : decode cX0_rounds 57 = .ok (.putfield 215, 3) := dk_181 0 215 (dk_at dksX0_rounds_2 10 rfl rfl)
theorem dX0_rounds_60 : decode cX0_rounds 60 = .ok (.aload_n 0, 1) := dk_42 (dk_at dksX0_rounds_2 13 rfl rfl)
theorem dX0_rounds_61 : decode cX0_rounds 61 = .ok (.lconst 0, 1) := dk_9 (dk_at dksX0_rounds_2 14 rfl rfl)
theorem dX0_rounds_62 : decode cX0_rounds 62 = .ok (.putfield 218, 3) := dk_181 0 218 (dk_at dksX0_rounds_2 15 rfl rfl)
theorem dX0_rounds_65 : decode cX0_rounds 65 = .ok (.iconst 0, 1) := dk_3 (dk_at dksX0_rounds_2 18 rfl rfl)
theorem dX0_rounds_66 : decode cX0_rounds 66 = .ok (.istore 6, 2) := dk_54 6 (dk_at dksX0_rounds_2 19 rfl rfl)
theorem dX0_rounds_68 : decode cX0_rounds 68 = .ok (.iload 6, 2) := dk_21 6 (dk_at dksX0_rounds_2 21 rfl rfl)
theorem dX0_rounds_70 : decode cX0_rounds 70 = .ok (.bipush 24, 2) := dk_16 24 (dk_at dksX0_rounds_3 0 rfl rfl)
theorem dX0_rounds_72 : decode cX0_rounds 72 = .ok (.if_icmp .gt 17, 3) := dk_163 0 17 (dk_at dksX0_rounds_3 2 rfl rfl)
theorem dX0_rounds_75 : decode cX0_rounds 75 = .ok (.aload_n 0, 1) := dk_42 (dk_at dksX0_rounds_3 5 rfl rfl)
theorem dX0_rounds_76 : decode cX0_rounds 76 = .ok (.getfield 56, 3) := dk_180 0 56 (dk_at dksX0_rounds_3 6 rfl rfl)
theorem dX0_rounds_79 : decode cX0_rounds 79 = .ok (.iload 6, 2) := dk_21 6 (dk_at dksX0_rounds_3 9 rfl rfl)
theorem dX0_rounds_81 : decode cX0_rounds 81 = .ok (.lconst 0, 1) := dk_9 (dk_at dksX0_rounds_3 11 rfl rfl)
theorem dX0_rounds_82 : decode cX0_rounds 82 = .ok (.lastore, 1) := dk_80 (dk_at dksX0_rounds_3 12 rfl rfl)
theorem dX0_rounds_83 : decode cX0_rounds 83 = .ok (.iinc 6 1, 3) := dk_132 6 1 (dk_at dksX0_rounds_3 13 rfl rfl)
theorem dX0_rounds_86 : decode cX0_rounds 86 = .ok (.goto (-18), 3) := dk_167 255 238 (dk_at dksX0_rounds_3 16 rfl rfl)
theorem dX0_rounds_89 : decode cX0_rounds 89 = .ok (.iconst 0, 1) := dk_3 (dk_at dksX0_rounds_3 19 rfl rfl)
theorem dX0_rounds_90 : decode cX0_rounds 90 = .ok (.istore 6, 2) := dk_54 6 (dk_at dksX0_rounds_3 20 rfl rfl)
theorem dX0_rounds_92 : decode cX0_rounds 92 = .ok (.iload 6, 2) := dk_21 6 (dk_at dksX0_rounds_3 22 rfl rfl)
theorem dX0_rounds_94 : decode cX0_rounds 94 = .ok (.bipush 24, 2) := dk_16 24 (dk_at dksX0_rounds_4 0 rfl rfl)
theorem dX0_rounds_96 : decode cX0_rounds 96 = .ok (.if_icmp .gt 19, 3) := dk_163 0 19 (dk_at dksX0_rounds_4 2 rfl rfl)
theorem dX0_rounds_99 : decode cX0_rounds 99 = .ok (.aload_n 0, 1) := dk_42 (dk_at dksX0_rounds_4 5 rfl rfl)
theorem dX0_rounds_100 : decode cX0_rounds 100 = .ok (.iload 6, 2) := dk_21 6 (dk_at dksX0_rounds_4 6 rfl rfl)
theorem dX0_rounds_102 : decode cX0_rounds 102 = .ok (.iload_n 1, 1) := dk_27 (dk_at dksX0_rounds_4 8 rfl rfl)
theorem dX0_rounds_103 : decode cX0_rounds 103 = .ok (.iload_n 2, 1) := dk_28 (dk_at dksX0_rounds_4 9 rfl rfl)
theorem dX0_rounds_104 : decode cX0_rounds 104 = .ok (.iload 4, 2) := dk_21 4 (dk_at dksX0_rounds_4 10 rfl rfl)
theorem dX0_rounds_106 : decode cX0_rounds 106 = .ok (.invokevirtual 221, 3) := dk_182 0 221 (dk_at dksX0_rounds_4 12 rfl rfl)
theorem dX0_rounds_109 : decode cX0_rounds 109 = .ok (.iinc 6 1, 3) := dk_132 6 1 (dk_at dksX0_rounds_4 15 rfl rfl)
theorem dX0_rounds_112 : decode cX0_rounds 112 = .ok (.goto (-20), 3) := dk_167 255 236 (dk_at dksX0_rounds_4 18 rfl rfl)
theorem dX0_rounds_115 : decode cX0_rounds 115 = .ok (.aload_n 0, 1) := dk_42 (dk_at dksX0_rounds_4 21 rfl rfl)
theorem dX0_rounds_116 : decode cX0_rounds 116 = .ok (.getfield 53, 3) := dk_180 0 53 (dk_at dksX0_rounds_5 0 rfl rfl)
theorem dX0_rounds_119 : decode cX0_rounds 119 = .ok (.astore 6, 2) := dk_58 6 (dk_at dksX0_rounds_5 3 rfl rfl)
theorem dX0_rounds_121 : decode cX0_rounds 121 = .ok (.aload_n 0, 1) := dk_42 (dk_at dksX0_rounds_5 5 rfl rfl)
theorem dX0_rounds_122 : decode cX0_rounds 122 = .ok (.aload_n 0, 1) := dk_42 (dk_at dksX0_rounds_5 6 rfl rfl)
theorem dX0_rounds_123 : decode cX0_rounds 123 = .ok (.getfield 56, 3) := dk_180 0 56 (dk_at dksX0_rounds_5 7 rfl rfl)
theorem dX0_rounds_126 : decode cX0_rounds 126 = .ok (.putfield 53, 3) := dk_181 0 53 (dk_at dksX0_rounds_5 10 rfl rfl)
theorem dX0_rounds_129 : decode cX0_rounds 129 = .ok (.aload_n 0, 1) := dk_42 (dk_at dksX0_rounds_5 13 rfl rfl)
theorem dX0_rounds_130 : decode cX0_rounds 130 = .ok (.aload 6, 2) := dk_25 6 (dk_at dksX0_rounds_5 14 rfl rfl)
theorem dX0_rounds_132 : decode cX0_rounds 132 = .ok (.putfield 56, 3) := dk_181 0 56 (dk_at dksX0_rounds_5 16 rfl rfl)
theorem dX0_rounds_135 : decode cX0_rounds 135 = .ok (.iinc 5 1, 3) := dk_132 5 1 (dk_at dksX0_rounds_5 19 rfl rfl)
theorem dX0_rounds_138 : decode cX0_rounds 138 = .ok (.goto (-94), 3) := dk_167 255 162 (dk_at dksX0_rounds_6 0 rfl rfl)
theorem dX0_rounds_141 : decode cX0_rounds 141 = .ok (.aload_n 0, 1) := dk_42 (dk_at dksX0_rounds_6 3 rfl rfl)
theorem dX0_rounds_142 : decode cX0_rounds 142 = .ok (.dup, 1) := dk_89 (dk_at dksX0_rounds_6 4 rfl rfl)
theorem dX0_rounds_143 : decode cX0_rounds 143 = .ok (.getfield 215, 3) := dk_180 0 215 (dk_at dksX0_rounds_6 5 rfl rfl)
theorem dX0_rounds_146 : decode cX0_rounds 146 = .ok (.ldc2_w 225, 3) := dk_20 0 225 (dk_at dksX0_rounds_6 8 rfl rfl)
theorem dX0_rounds_149 : decode cX0_rounds 149 = .ok (.ldiv, 1) := dk_109 (dk_at dksX0_rounds_6 11 rfl rfl)
theorem dX0_rounds_150 : decode cX0_rounds 150 = .ok (.putfield 215, 3) := dk_181 0 215 (dk_at dksX0_rounds_6 12 rfl rfl)
theorem dX0_rounds_153 : decode cX0_rounds 153 = .ok (.aload_n 0, 1) := dk_42 (dk_at dksX0_rounds_6 15 rfl rfl)
theorem dX0_rounds_154 : decode cX0_rounds 154 = .ok (.aload_n 0, 1) := dk_42 (dk_at dksX0_rounds_6 16 rfl rfl)
theorem dX0_rounds_155 : decode cX0_rounds 155 = .ok (.getfield 218, 3) := dk_180 0 218 (dk_at dksX0_rounds_6 17 rfl rfl)
theorem dX0_rounds_158 : decode cX0_rounds 158 = .ok (.ldc2_w 225, 3) := dk_20 0 225 (dk_at dksX0_rounds_6 20 rfl rfl)
theorem dX0_rounds_161 : decode cX0_rounds 161 = .ok (.invokestatic 227, 3) := dk_184 0 227 (dk_at dksX0_rounds_7 0 rfl rfl)
theorem dX0_rounds_164 : decode cX0_rounds 164 = .ok (.putfield 218, 3) := dk_181 0 218 (dk_at dksX0_rounds_7 3 rfl rfl)
theorem dX0_rounds_167 : decode cX0_rounds 167 = .ok (.return_, 1) := dk_177 (dk_at dksX0_rounds_7 6 rfl rfl)
abbrev cX0_greatestSize : ByteArray := prog_1_method_24_code
def yX0_greatestSize : MethodName := ⟨RX0, "greatestSize", "()I"⟩
def dkwX0_greatestSize_1 : List UInt8 := [158, 0, 7, 28, 167, 0, 4, 27, 60, 132, 2, 1, 167, 255, 226, 27, 172]
abbrev dktX0_greatestSize_1 : List UInt8 := dkwX0_greatestSize_1 ++ []
def dkwX0_greatestSize_0 : List UInt8 := [3, 60, 4, 61, 28, 16, 12, 163, 0, 30, 42, 180, 0, 36, 180, 0, 133, 16, 10, 28, 96, 46]
abbrev dktX0_greatestSize_0 : List UInt8 := dkwX0_greatestSize_0 ++ dktX0_greatestSize_1
theorem dksX0_greatestSize_0 : cX0_greatestSize.data.toList.drop 0 = dktX0_greatestSize_0 := by decide +kernel
theorem dksX0_greatestSize_1 : cX0_greatestSize.data.toList.drop 22 = dktX0_greatestSize_1 := dk_seg dksX0_greatestSize_0 22 rfl rfl
theorem dX0_greatestSize_0 : decode cX0_greatestSize 0 = .ok (.iconst 0, 1) := dk_3 (dk_at dksX0_greatestSize_0 0 rfl rfl)
theorem dX0_greatestSize_1 : decode cX0_greatestSize 1 = .ok (.istore_n 1, 1) := dk_60 (dk_at dksX0_greatestSize_0 1 rfl rfl)
theorem dX0_greatestSize_2 : decode cX0_greatestSize 2 = .ok (.iconst 1, 1) := dk_4 (dk_at dksX0_greatestSize_0 2 rfl rfl)
theorem dX0_greatestSize_3 : decode cX0_greatestSize 3 = .ok (.istore_n 2, 1) := dk_61 (dk_at dksX0_greatestSize_0 3 rfl rfl)
theorem dX0_greatestSize_4 : decode cX0_greatestSize 4 = .ok (.iload_n 2, 1) := dk_28 (dk_at dksX0_greatestSize_0 4 rfl rfl)
theorem dX0_greatestSize_5 : decode cX0_greatestSize 5 = .ok (.bipush 12, 2) := dk_16 12 (dk_at dksX0_greatestSize_0 5 rfl rfl)
theorem dX0_greatestSize_7 : decode cX0_greatestSize 7 = .ok (.if_icmp .gt 30, 3) := dk_163 0 30 (dk_at dksX0_greatestSize_0 7 rfl rfl)
theorem dX0_greatestSize_10 : decode cX0_greatestSize 10 = .ok (.aload_n 0, 1) := dk_42 (dk_at dksX0_greatestSize_0 10 rfl rfl)
theorem dX0_greatestSize_11 : decode cX0_greatestSize 11 = .ok (.getfield 36, 3) := dk_180 0 36 (dk_at dksX0_greatestSize_0 11 rfl rfl)
theorem dX0_greatestSize_14 : decode cX0_greatestSize 14 = .ok (.getfield 133, 3) := dk_180 0 133 (dk_at dksX0_greatestSize_0 14 rfl rfl)
theorem dX0_greatestSize_17 : decode cX0_greatestSize 17 = .ok (.bipush 10, 2) := dk_16 10 (dk_at dksX0_greatestSize_0 17 rfl rfl)
theorem dX0_greatestSize_19 : decode cX0_greatestSize 19 = .ok (.iload_n 2, 1) := dk_28 (dk_at dksX0_greatestSize_0 19 rfl rfl)
theorem dX0_greatestSize_20 : decode cX0_greatestSize 20 = .ok (.iadd, 1) := dk_96 (dk_at dksX0_greatestSize_0 20 rfl rfl)
theorem dX0_greatestSize_21 : decode cX0_greatestSize 21 = .ok (.iaload, 1) := dk_46 (dk_at dksX0_greatestSize_0 21 rfl rfl)
theorem dX0_greatestSize_22 : decode cX0_greatestSize 22 = .ok (.ifCond .le 7, 3) := dk_158 0 7 (dk_at dksX0_greatestSize_1 0 rfl rfl)
theorem dX0_greatestSize_25 : decode cX0_greatestSize 25 = .ok (.iload_n 2, 1) := dk_28 (dk_at dksX0_greatestSize_1 3 rfl rfl)
theorem dX0_greatestSize_26 : decode cX0_greatestSize 26 = .ok (.goto 4, 3) := dk_167 0 4 (dk_at dksX0_greatestSize_1 4 rfl rfl)
theorem dX0_greatestSize_29 : decode cX0_greatestSize 29 = .ok (.iload_n 1, 1) := dk_27 (dk_at dksX0_greatestSize_1 7 rfl rfl)
theorem dX0_greatestSize_30 : decode cX0_greatestSize 30 = .ok (.istore_n 1, 1) := dk_60 (dk_at dksX0_greatestSize_1 8 rfl rfl)
theorem dX0_greatestSize_31 : decode cX0_greatestSize 31 = .ok (.iinc 2 1, 3) := dk_132 2 1 (dk_at dksX0_greatestSize_1 9 rfl rfl)
theorem dX0_greatestSize_34 : decode cX0_greatestSize 34 = .ok (.goto (-30), 3) := dk_167 255 226 (dk_at dksX0_greatestSize_1 12 rfl rfl)
theorem dX0_greatestSize_37 : decode cX0_greatestSize 37 = .ok (.iload_n 1, 1) := dk_27 (dk_at dksX0_greatestSize_1 15 rfl rfl)
theorem dX0_greatestSize_38 : decode cX0_greatestSize 38 = .ok (.ireturn, 1) := dk_172 (dk_at dksX0_greatestSize_1 16 rfl rfl)
abbrev cX0_flowsOn : ByteArray := prog_1_method_26_code
def yX0_flowsOn : MethodName := ⟨RX0, "flowsOn", "(IIII)V"⟩
def dkwX0_flowsOn_9 : List UInt8 := [180, 0, 133, 3, 46, 104, 133, 105, 21, 7, 133, 105, 97, 181, 0, 218, 132, 7, 1, 167, 255, 38, 177]
abbrev dktX0_flowsOn_9 : List UInt8 := dkwX0_flowsOn_9 ++ []
def dkwX0_flowsOn_8 : List UInt8 := [180, 0, 133, 4, 46, 42, 180, 0, 36, 180, 0, 133, 5, 46, 100, 167, 0, 14, 5, 42, 180, 0, 36]
abbrev dktX0_flowsOn_8 : List UInt8 := dkwX0_flowsOn_8 ++ dktX0_flowsOn_9
def dkwX0_flowsOn_7 : List UInt8 := [133, 105, 97, 181, 0, 215, 42, 89, 180, 0, 218, 22, 8, 21, 10, 153, 0, 25, 42, 180, 0, 36]
abbrev dktX0_flowsOn_7 : List UInt8 := dkwX0_flowsOn_7 ++ dktX0_flowsOn_8
def dkwX0_flowsOn_6 : List UInt8 := [22, 8, 42, 180, 0, 36, 180, 0, 133, 21, 10, 153, 0, 7, 4, 167, 0, 4, 3, 46, 133, 105, 21, 7]
abbrev dktX0_flowsOn_6 : List UInt8 := dkwX0_flowsOn_6 ++ dktX0_flowsOn_7
def dkwX0_flowsOn_5 : List UInt8 := [89, 180, 0, 211, 21, 10, 153, 0, 8, 22, 8, 167, 0, 4, 9, 97, 181, 0, 211, 42, 89, 180, 0, 215]
abbrev dktX0_flowsOn_5 : List UInt8 := dkwX0_flowsOn_5 ++ dktX0_flowsOn_6
def dkwX0_flowsOn_4 : List UInt8 := [153, 0, 9, 27, 29, 100, 167, 0, 11, 16, 24, 27, 4, 96, 184, 0, 177, 92, 47, 22, 8, 97, 80, 42]
abbrev dktX0_flowsOn_4 : List UInt8 := dkwX0_flowsOn_4 ++ dktX0_flowsOn_5
def dkwX0_flowsOn_3 : List UInt8 := [21, 7, 28, 161, 0, 12, 27, 29, 161, 0, 7, 4, 167, 0, 4, 3, 54, 10, 42, 180, 0, 56, 21, 10]
abbrev dktX0_flowsOn_3 : List UInt8 := dkwX0_flowsOn_3 ++ dktX0_flowsOn_4
def dkwX0_flowsOn_2 : List UInt8 := [21, 7, 96, 46, 133, 105, 42, 180, 0, 36, 182, 0, 197, 133, 109, 55, 8, 22, 5, 22, 8, 101, 55, 5]
abbrev dktX0_flowsOn_2 : List UInt8 := dkwX0_flowsOn_2 ++ dktX0_flowsOn_3
def dkwX0_flowsOn_1 : List UInt8 := [160, 0, 8, 22, 5, 167, 0, 33, 42, 180, 0, 53, 27, 47, 42, 180, 0, 36, 180, 0, 133, 16, 10]
abbrev dktX0_flowsOn_1 : List UInt8 := dkwX0_flowsOn_1 ++ dktX0_flowsOn_2
def dkwX0_flowsOn_0 : List UInt8 := [42, 180, 0, 53, 27, 47, 55, 5, 4, 54, 7, 21, 7, 21, 4, 163, 0, 217, 21, 7, 21, 4]
abbrev dktX0_flowsOn_0 : List UInt8 := dkwX0_flowsOn_0 ++ dktX0_flowsOn_1
theorem dksX0_flowsOn_0 : cX0_flowsOn.data.toList.drop 0 = dktX0_flowsOn_0 := by decide +kernel
theorem dksX0_flowsOn_1 : cX0_flowsOn.data.toList.drop 22 = dktX0_flowsOn_1 := dk_seg dksX0_flowsOn_0 22 rfl rfl
theorem dksX0_flowsOn_2 : cX0_flowsOn.data.toList.drop 45 = dktX0_flowsOn_2 := dk_seg dksX0_flowsOn_1 23 rfl rfl
theorem dksX0_flowsOn_3 : cX0_flowsOn.data.toList.drop 69 = dktX0_flowsOn_3 := dk_seg dksX0_flowsOn_2 24 rfl rfl
theorem dksX0_flowsOn_4 : cX0_flowsOn.data.toList.drop 93 = dktX0_flowsOn_4 := dk_seg dksX0_flowsOn_3 24 rfl rfl
theorem dksX0_flowsOn_5 : cX0_flowsOn.data.toList.drop 117 = dktX0_flowsOn_5 := dk_seg dksX0_flowsOn_4 24 rfl rfl
theorem dksX0_flowsOn_6 : cX0_flowsOn.data.toList.drop 141 = dktX0_flowsOn_6 := dk_seg dksX0_flowsOn_5 24 rfl rfl
theorem dksX0_flowsOn_7 : cX0_flowsOn.data.toList.drop 165 = dktX0_flowsOn_7 := dk_seg dksX0_flowsOn_6 24 rfl rfl
theorem dksX0_flowsOn_8 : cX0_flowsOn.data.toList.drop 187 = dktX0_flowsOn_8 := dk_seg dksX0_flowsOn_7 22 rfl rfl
theorem dksX0_flowsOn_9 : cX0_flowsOn.data.toList.drop 210 = dktX0_flowsOn_9 := dk_seg dksX0_flowsOn_8 23 rfl rfl
theorem dX0_flowsOn_0 : decode cX0_flowsOn 0 = .ok (.aload_n 0, 1) := dk_42 (dk_at dksX0_flowsOn_0 0 rfl rfl)
theorem dX0_flowsOn_1 : decode cX0_flowsOn 1 = .ok (.getfield 53, 3) := dk_180 0 53 (dk_at dksX0_flowsOn_0 1 rfl rfl)
theorem dX0_flowsOn_4 : decode cX0_flowsOn 4 = .ok (.iload_n 1, 1) := dk_27 (dk_at dksX0_flowsOn_0 4 rfl rfl)
theorem dX0_flowsOn_5 : decode cX0_flowsOn 5 = .ok (.laload, 1) := dk_47 (dk_at dksX0_flowsOn_0 5 rfl rfl)
theorem dX0_flowsOn_6 : decode cX0_flowsOn 6 = .ok (.lstore 5, 2) := dk_55 5 (dk_at dksX0_flowsOn_0 6 rfl rfl)
theorem dX0_flowsOn_8 : decode cX0_flowsOn 8 = .ok (.iconst 1, 1) := dk_4 (dk_at dksX0_flowsOn_0 8 rfl rfl)
theorem dX0_flowsOn_9 : decode cX0_flowsOn 9 = .ok (.istore 7, 2) := dk_54 7 (dk_at dksX0_flowsOn_0 9 rfl rfl)
theorem dX0_flowsOn_11 : decode cX0_flowsOn 11 = .ok (.iload 7, 2) := dk_21 7 (dk_at dksX0_flowsOn_0 11 rfl rfl)
theorem dX0_flowsOn_13 : decode cX0_flowsOn 13 = .ok (.iload 4, 2) := dk_21 4 (dk_at dksX0_flowsOn_0 13 rfl rfl)
theorem dX0_flowsOn_15 : decode cX0_flowsOn 15 = .ok (.if_icmp .gt 217, 3) := dk_163 0 217 (dk_at dksX0_flowsOn_0 15 rfl rfl)
theorem dX0_flowsOn_18 : decode cX0_flowsOn 18 = .ok (.iload 7, 2) := dk_21 7 (dk_at dksX0_flowsOn_0 18 rfl rfl)
theorem dX0_flowsOn_20 : decode cX0_flowsOn 20 = .ok (.iload 4, 2) := dk_21 4 (dk_at dksX0_flowsOn_0 20 rfl rfl)
theorem dX0_flowsOn_22 : decode cX0_flowsOn 22 = .ok (.if_icmp .ne 8, 3) := dk_160 0 8 (dk_at dksX0_flowsOn_1 0 rfl rfl)
theorem dX0_flowsOn_25 : decode cX0_flowsOn 25 = .ok (.lload 5, 2) := dk_22 5 (dk_at dksX0_flowsOn_1 3 rfl rfl)
theorem dX0_flowsOn_27 : decode cX0_flowsOn 27 = .ok (.goto 33, 3) := dk_167 0 33 (dk_at dksX0_flowsOn_1 5 rfl rfl)
theorem dX0_flowsOn_30 : decode cX0_flowsOn 30 = .ok (.aload_n 0, 1) := dk_42 (dk_at dksX0_flowsOn_1 8 rfl rfl)
theorem dX0_flowsOn_31 : decode cX0_flowsOn 31 = .ok (.getfield 53, 3) := dk_180 0 53 (dk_at dksX0_flowsOn_1 9 rfl rfl)
theorem dX0_flowsOn_34 : decode cX0_flowsOn 34 = .ok (.iload_n 1, 1) := dk_27 (dk_at dksX0_flowsOn_1 12 rfl rfl)
theorem dX0_flowsOn_35 : decode cX0_flowsOn 35 = .ok (.laload, 1) := dk_47 (dk_at dksX0_flowsOn_1 13 rfl rfl)
theorem dX0_flowsOn_36 : decode cX0_flowsOn 36 = .ok (.aload_n 0, 1) := dk_42 (dk_at dksX0_flowsOn_1 14 rfl rfl)
theorem dX0_flowsOn_37 : decode cX0_flowsOn 37 = .ok (.getfield 36, 3) := dk_180 0 36 (dk_at dksX0_flowsOn_1 15 rfl rfl)
theorem dX0_flowsOn_40 : decode cX0_flowsOn 40 = .ok (.getfield 133, 3) := dk_180 0 133 (dk_at dksX0_flowsOn_1 18 rfl rfl)
theorem dX0_flowsOn_43 : decode cX0_flowsOn 43 = .ok (.bipush 10, 2) := dk_16 10 (dk_at dksX0_flowsOn_1 21 rfl rfl)
theorem dX0_flowsOn_45 : decode cX0_flowsOn 45 = .ok (.iload 7, 2) := dk_21 7 (dk_at dksX0_flowsOn_2 0 rfl rfl)
theorem dX0_flowsOn_47 : decode cX0_flowsOn 47 = .ok (.iadd, 1) := dk_96 (dk_at dksX0_flowsOn_2 2 rfl rfl)
theorem dX0_flowsOn_48 : decode cX0_flowsOn 48 = .ok (.iaload, 1) := dk_46 (dk_at dksX0_flowsOn_2 3 rfl rfl)
theorem dX0_flowsOn_49 : decode cX0_flowsOn 49 = .ok (.i2l, 1) := dk_133 (dk_at dksX0_flowsOn_2 4 rfl rfl)
theorem dX0_flowsOn_50 : decode cX0_flowsOn 50 = .ok (.lmul, 1) := dk_105 (dk_at dksX0_flowsOn_2 5 rfl rfl)
theorem dX0_flowsOn_51 : decode cX0_flowsOn 51 = .ok (.aload_n 0, 1) := dk_42 (dk_at dksX0_flowsOn_2 6 rfl rfl)
theorem dX0_flowsOn_52 : decode cX0_flowsOn 52 = .ok (.getfield 36, 3) := dk_180 0 36 (dk_at dksX0_flowsOn_2 7 rfl rfl)
theorem dX0_flowsOn_55 : decode cX0_flowsOn 55 = .ok (.invokevirtual 197, 3) := dk_182 0 197 (dk_at dksX0_flowsOn_2 10 rfl rfl)
theorem dX0_flowsOn_58 : decode cX0_flowsOn 58 = .ok (.i2l, 1) := dk_133 (dk_at dksX0_flowsOn_2 13 rfl rfl)
theorem dX0_flowsOn_59 : decode cX0_flowsOn 59 = .ok (.ldiv, 1) := dk_109 (dk_at dksX0_flowsOn_2 14 rfl rfl)
theorem dX0_flowsOn_60 : decode cX0_flowsOn 60 = .ok (.lstore 8, 2) := dk_55 8 (dk_at dksX0_flowsOn_2 15 rfl rfl)
theorem dX0_flowsOn_62 : decode cX0_flowsOn 62 = .ok (.lload 5, 2) := dk_22 5 (dk_at dksX0_flowsOn_2 17 rfl rfl)
theorem dX0_flowsOn_64 : decode cX0_flowsOn 64 = .ok (.lload 8, 2) := dk_22 8 (dk_at dksX0_flowsOn_2 19 rfl rfl)
theorem dX0_flowsOn_66 : decode cX0_flowsOn 66 = .ok (.lsub, 1) := dk_101 (dk_at dksX0_flowsOn_2 21 rfl rfl)
theorem dX0_flowsOn_67 : decode cX0_flowsOn 67 = .ok (.lstore 5, 2) := dk_55 5 (dk_at dksX0_flowsOn_2 22 rfl rfl)
theorem dX0_flowsOn_69 : decode cX0_flowsOn 69 = .ok (.iload 7, 2) := dk_21 7 (dk_at dksX0_flowsOn_3 0 rfl rfl)
theorem dX0_flowsOn_71 : decode cX0_flowsOn 71 = .ok (.iload_n 2, 1) := dk_28 (dk_at dksX0_flowsOn_3 2 rfl rfl)
theorem dX0_flowsOn_72 : decode cX0_flowsOn 72 = .ok (.if_icmp .lt 12, 3) := dk_161 0 12 (dk_at dksX0_flowsOn_3 3 rfl rfl)
theorem dX0_flowsOn_75 : decode cX0_flowsOn 75 = .ok (.iload_n 1, 1) := dk_27 (dk_at dksX0_flowsOn_3 6 rfl rfl)
theorem dX0_flowsOn_76 : decode cX0_flowsOn 76 = .ok (.iload_n 3, 1) := dk_29 (dk_at dksX0_flowsOn_3 7 rfl rfl)
theorem dX0_flowsOn_77 : decode cX0_flowsOn 77 = .ok (.if_icmp .lt 7, 3) := dk_161 0 7 (dk_at dksX0_flowsOn_3 8 rfl rfl)
theorem dX0_flowsOn_80 : decode cX0_flowsOn 80 = .ok (.iconst 1, 1) := dk_4 (dk_at dksX0_flowsOn_3 11 rfl rfl)
theorem dX0_flowsOn_81 : decode cX0_flowsOn 81 = .ok (.goto 4, 3) := dk_167 0 4 (dk_at dksX0_flowsOn_3 12 rfl rfl)
theorem dX0_flowsOn_84 : decode cX0_flowsOn 84 = .ok (.iconst 0, 1) := dk_3 (dk_at dksX0_flowsOn_3 15 rfl rfl)
theorem dX0_flowsOn_85 : decode cX0_flowsOn 85 = .ok (.istore 10, 2) := dk_54 10 (dk_at dksX0_flowsOn_3 16 rfl rfl)
theorem dX0_flowsOn_87 : decode cX0_flowsOn 87 = .ok (.aload_n 0, 1) := dk_42 (dk_at dksX0_flowsOn_3 18 rfl rfl)
theorem dX0_flowsOn_88 : decode cX0_flowsOn 88 = .ok (.getfield 56, 3) := dk_180 0 56 (dk_at dksX0_flowsOn_3 19 rfl rfl)
theorem dX0_flowsOn_91 : decode cX0_flowsOn 91 = .ok (.iload 10, 2) := dk_21 10 (dk_at dksX0_flowsOn_3 22 rfl rfl)
theorem dX0_flowsOn_93 : decode cX0_flowsOn 93 = .ok (.ifCond .eq 9, 3) := dk_153 0 9 (dk_at dksX0_flowsOn_4 0 rfl rfl)
theorem dX0_flowsOn_96 : decode cX0_flowsOn 96 = .ok (.iload_n 1, 1) := dk_27 (dk_at dksX0_flowsOn_4 3 rfl rfl)
theorem dX0_flowsOn_97 : decode cX0_flowsOn 97 = .ok (.iload_n 3, 1) := dk_29 (dk_at dksX0_flowsOn_4 4 rfl rfl)
theorem dX0_flowsOn_98 : decode cX0_flowsOn 98 = .ok (.isub, 1) := dk_100 (dk_at dksX0_flowsOn_4 5 rfl rfl)
theorem dX0_flowsOn_99 : decode cX0_flowsOn 99 = .ok (.goto 11, 3) := dk_167 0 11 (dk_at dksX0_flowsOn_4 6 rfl rfl)
theorem dX0_flowsOn_102 : decode cX0_flowsOn 102 = .ok (.bipush 24, 2) := dk_16 24 (dk_at dksX0_flowsOn_4 9 rfl rfl)
theorem dX0_flowsOn_104 : decode cX0_flowsOn 104 = .ok (.iload_n 1, 1) := dk_27 (dk_at dksX0_flowsOn_4 11 rfl rfl)
theorem dX0_flowsOn_105 : decode cX0_flowsOn 105 = .ok (.iconst 1, 1) := dk_4 (dk_at dksX0_flowsOn_4 12 rfl rfl)
theorem dX0_flowsOn_106 : decode cX0_flowsOn 106 = .ok (.iadd, 1) := dk_96 (dk_at dksX0_flowsOn_4 13 rfl rfl)
theorem dX0_flowsOn_107 : decode cX0_flowsOn 107 = .ok (.invokestatic 177, 3) := dk_184 0 177 (dk_at dksX0_flowsOn_4 14 rfl rfl)
theorem dX0_flowsOn_110 : decode cX0_flowsOn 110 = .ok (.dup2, 1) := dk_92 (dk_at dksX0_flowsOn_4 17 rfl rfl)
theorem dX0_flowsOn_111 : decode cX0_flowsOn 111 = .ok (.laload, 1) := dk_47 (dk_at dksX0_flowsOn_4 18 rfl rfl)
theorem dX0_flowsOn_112 : decode cX0_flowsOn 112 = .ok (.lload 8, 2) := dk_22 8 (dk_at dksX0_flowsOn_4 19 rfl rfl)
theorem dX0_flowsOn_114 : decode cX0_flowsOn 114 = .ok (.ladd, 1) := dk_97 (dk_at dksX0_flowsOn_4 21 rfl rfl)
theorem dX0_flowsOn_115 : decode cX0_flowsOn 115 = .ok (.lastore, 1) := dk_80 (dk_at dksX0_flowsOn_4 22 rfl rfl)
theorem dX0_flowsOn_116 : decode cX0_flowsOn 116 = .ok (.aload_n 0, 1) := dk_42 (dk_at dksX0_flowsOn_4 23 rfl rfl)
theorem dX0_flowsOn_117 : decode cX0_flowsOn 117 = .ok (.dup, 1) := dk_89 (dk_at dksX0_flowsOn_5 0 rfl rfl)
theorem dX0_flowsOn_118 : decode cX0_flowsOn 118 = .ok (.getfield 211, 3) := dk_180 0 211 (dk_at dksX0_flowsOn_5 1 rfl rfl)
theorem dX0_flowsOn_121 : decode cX0_flowsOn 121 = .ok (.iload 10, 2) := dk_21 10 (dk_at dksX0_flowsOn_5 4 rfl rfl)
theorem dX0_flowsOn_123 : decode cX0_flowsOn 123 = .ok (.ifCond .eq 8, 3) := dk_153 0 8 (dk_at dksX0_flowsOn_5 6 rfl rfl)
theorem dX0_flowsOn_126 : decode cX0_flowsOn 126 = .ok (.lload 8, 2) := dk_22 8 (dk_at dksX0_flowsOn_5 9 rfl rfl)
theorem dX0_flowsOn_128 : decode cX0_flowsOn 128 = .ok (.goto 4, 3) := dk_167 0 4 (dk_at dksX0_flowsOn_5 11 rfl rfl)
theorem dX0_flowsOn_131 : decode cX0_flowsOn 131 = .ok (.lconst 0, 1) := dk_9 (dk_at dksX0_flowsOn_5 14 rfl rfl)
theorem dX0_flowsOn_132 : decode cX0_flowsOn 132 = .ok (.ladd, 1) := dk_97 (dk_at dksX0_flowsOn_5 15 rfl rfl)
theorem dX0_flowsOn_133 : decode cX0_flowsOn 133 = .ok (.putfield 211, 3) := dk_181 0 211 (dk_at dksX0_flowsOn_5 16 rfl rfl)
theorem dX0_flowsOn_136 : decode cX0_flowsOn 136 = .ok (.aload_n 0, 1) := dk_42 (dk_at dksX0_flowsOn_5 19 rfl rfl)
theorem dX0_flowsOn_137 : decode cX0_flowsOn 137 = .ok (.dup, 1) := dk_89 (dk_at dksX0_flowsOn_5 20 rfl rfl)
theorem dX0_flowsOn_138 : decode cX0_flowsOn 138 = .ok (.getfield 215, 3) := dk_180 0 215 (dk_at dksX0_flowsOn_5 21 rfl rfl)
theorem dX0_flowsOn_141 : decode cX0_flowsOn 141 = .ok (.lload 8, 2) := dk_22 8 (dk_at dksX0_flowsOn_6 0 rfl rfl)
theorem dX0_flowsOn_143 : decode cX0_flowsOn 143 = .ok (.aload_n 0, 1) := dk_42 (dk_at dksX0_flowsOn_6 2 rfl rfl)
theorem dX0_flowsOn_144 : decode cX0_flowsOn 144 = .ok (.getfield 36, 3) := dk_180 0 36 (dk_at dksX0_flowsOn_6 3 rfl rfl)
theorem dX0_flowsOn_147 : decode cX0_flowsOn 147 = .ok (.getfield 133, 3) := dk_180 0 133 (dk_at dksX0_flowsOn_6 6 rfl rfl)
theorem dX0_flowsOn_150 : decode cX0_flowsOn 150 = .ok (.iload 10, 2) := dk_21 10 (dk_at dksX0_flowsOn_6 9 rfl rfl)
theorem dX0_flowsOn_152 : decode cX0_flowsOn 152 = .ok (.ifCond .eq 7, 3) := dk_153 0 7 (dk_at dksX0_flowsOn_6 11 rfl rfl)
theorem dX0_flowsOn_155 : decode cX0_flowsOn 155 = .ok (.iconst 1, 1) := dk_4 (dk_at dksX0_flowsOn_6 14 rfl rfl)
theorem dX0_flowsOn_156 : decode cX0_flowsOn 156 = .ok (.goto 4, 3) := dk_167 0 4 (dk_at dksX0_flowsOn_6 15 rfl rfl)
theorem dX0_flowsOn_159 : decode cX0_flowsOn 159 = .ok (.iconst 0, 1) := dk_3 (dk_at dksX0_flowsOn_6 18 rfl rfl)
theorem dX0_flowsOn_160 : decode cX0_flowsOn 160 = .ok (.iaload, 1) := dk_46 (dk_at dksX0_flowsOn_6 19 rfl rfl)
theorem dX0_flowsOn_161 : decode cX0_flowsOn 161 = .ok (.i2l, 1) := dk_133 (dk_at dksX0_flowsOn_6 20 rfl rfl)
theorem dX0_flowsOn_162 : decode cX0_flowsOn 162 = .ok (.lmul, 1) := dk_105 (dk_at dksX0_flowsOn_6 21 rfl rfl)
theorem dX0_flowsOn_163 : decode cX0_flowsOn 163 = .ok (.iload 7, 2) := dk_21 7 (dk_at dksX0_flowsOn_6 22 rfl rfl)
theorem dX0_flowsOn_165 : decode cX0_flowsOn 165 = .ok (.i2l, 1) := dk_133 (dk_at dksX0_flowsOn_7 0 rfl rfl)
theorem dX0_flowsOn_166 : decode cX0_flowsOn 166 = .ok (.lmul, 1) := dk_105 (dk_at dksX0_flowsOn_7 1 rfl rfl)
theorem dX0_flowsOn_167 : decode cX0_flowsOn 167 = .ok (.ladd, 1) := dk_97 (dk_at dksX0_flowsOn_7 2 rfl rfl)
theorem dX0_flowsOn_168 : decode cX0_flowsOn 168 = .ok (.putfield 215, 3) := dk_181 0 215 (dk_at dksX0_flowsOn_7 3 rfl rfl)
theorem dX0_flowsOn_171 : decode cX0_flowsOn 171 = .ok (.aload_n 0, 1) := dk_42 (dk_at dksX0_flowsOn_7 6 rfl rfl)
theorem dX0_flowsOn_172 : decode cX0_flowsOn 172 = .ok (.dup, 1) := dk_89 (dk_at dksX0_flowsOn_7 7 rfl rfl)
theorem dX0_flowsOn_173 : decode cX0_flowsOn 173 = .ok (.getfield 218, 3) := dk_180 0 218 (dk_at dksX0_flowsOn_7 8 rfl rfl)
theorem dX0_flowsOn_176 : decode cX0_flowsOn 176 = .ok (.lload 8, 2) := dk_22 8 (dk_at dksX0_flowsOn_7 11 rfl rfl)
theorem dX0_flowsOn_178 : decode cX0_flowsOn 178 = .ok (.iload 10, 2) := dk_21 10 (dk_at dksX0_flowsOn_7 13 rfl rfl)
theorem dX0_flowsOn_180 : decode cX0_flowsOn 180 = .ok (.ifCond .eq 25, 3) := dk_153 0 25 (dk_at dksX0_flowsOn_7 15 rfl rfl)
theorem dX0_flowsOn_183 : decode cX0_flowsOn 183 = .ok (.aload_n 0, 1) := dk_42 (dk_at dksX0_flowsOn_7 18 rfl rfl)
theorem dX0_flowsOn_184 : decode cX0_flowsOn 184 = .ok (.getfield 36, 3) := dk_180 0 36 (dk_at dksX0_flowsOn_7 19 rfl rfl)
theorem dX0_flowsOn_187 : decode cX0_flowsOn 187 = .ok (.getfield 133, 3) := dk_180 0 133 (dk_at dksX0_flowsOn_8 0 rfl rfl)
theorem dX0_flowsOn_190 : decode cX0_flowsOn 190 = .ok (.iconst 1, 1) := dk_4 (dk_at dksX0_flowsOn_8 3 rfl rfl)
theorem dX0_flowsOn_191 : decode cX0_flowsOn 191 = .ok (.iaload, 1) := dk_46 (dk_at dksX0_flowsOn_8 4 rfl rfl)
theorem dX0_flowsOn_192 : decode cX0_flowsOn 192 = .ok (.aload_n 0, 1) := dk_42 (dk_at dksX0_flowsOn_8 5 rfl rfl)
theorem dX0_flowsOn_193 : decode cX0_flowsOn 193 = .ok (.getfield 36, 3) := dk_180 0 36 (dk_at dksX0_flowsOn_8 6 rfl rfl)
theorem dX0_flowsOn_196 : decode cX0_flowsOn 196 = .ok (.getfield 133, 3) := dk_180 0 133 (dk_at dksX0_flowsOn_8 9 rfl rfl)
theorem dX0_flowsOn_199 : decode cX0_flowsOn 199 = .ok (.iconst 2, 1) := dk_5 (dk_at dksX0_flowsOn_8 12 rfl rfl)
theorem dX0_flowsOn_200 : decode cX0_flowsOn 200 = .ok (.iaload, 1) := dk_46 (dk_at dksX0_flowsOn_8 13 rfl rfl)
theorem dX0_flowsOn_201 : decode cX0_flowsOn 201 = .ok (.isub, 1) := dk_100 (dk_at dksX0_flowsOn_8 14 rfl rfl)
theorem dX0_flowsOn_202 : decode cX0_flowsOn 202 = .ok (.goto 14, 3) := dk_167 0 14 (dk_at dksX0_flowsOn_8 15 rfl rfl)
theorem dX0_flowsOn_205 : decode cX0_flowsOn 205 = .ok (.iconst 2, 1) := dk_5 (dk_at dksX0_flowsOn_8 18 rfl rfl)
theorem dX0_flowsOn_206 : decode cX0_flowsOn 206 = .ok (.aload_n 0, 1) := dk_42 (dk_at dksX0_flowsOn_8 19 rfl rfl)
theorem dX0_flowsOn_207 : decode cX0_flowsOn 207 = .ok (.getfield 36, 3) := dk_180 0 36 (dk_at dksX0_flowsOn_8 20 rfl rfl)
theorem dX0_flowsOn_210 : decode cX0_flowsOn 210 = .ok (.getfield 133, 3) := dk_180 0 133 (dk_at dksX0_flowsOn_9 0 rfl rfl)
theorem dX0_flowsOn_213 : decode cX0_flowsOn 213 = .ok (.iconst 0, 1) := dk_3 (dk_at dksX0_flowsOn_9 3 rfl rfl)
theorem dX0_flowsOn_214 : decode cX0_flowsOn 214 = .ok (.iaload, 1) := dk_46 (dk_at dksX0_flowsOn_9 4 rfl rfl)
theorem dX0_flowsOn_215 : decode cX0_flowsOn 215 = .ok (.imul, 1) := dk_104 (dk_at dksX0_flowsOn_9 5 rfl rfl)
theorem dX0_flowsOn_216 : decode cX0_flowsOn 216 = .ok (.i2l, 1) := dk_133 (dk_at dksX0_flowsOn_9 6 rfl rfl)
theorem dX0_flowsOn_217 : decode cX0_flowsOn 217 = .ok (.lmul, 1) := dk_105 (dk_at dksX0_flowsOn_9 7 rfl rfl)
theorem dX0_flowsOn_218 : decode cX0_flowsOn 218 = .ok (.iload 7, 2) := dk_21 7 (dk_at dksX0_flowsOn_9 8 rfl rfl)
theorem dX0_flowsOn_220 : decode cX0_flowsOn 220 = .ok (.i2l, 1) := dk_133 (dk_at dksX0_flowsOn_9 10 rfl rfl)
theorem dX0_flowsOn_221 : decode cX0_flowsOn 221 = .ok (.lmul, 1) := dk_105 (dk_at dksX0_flowsOn_9 11 rfl rfl)
theorem dX0_flowsOn_222 : decode cX0_flowsOn 222 = .ok (.ladd, 1) := dk_97 (dk_at dksX0_flowsOn_9 12 rfl rfl)
theorem dX0_flowsOn_223 : decode cX0_flowsOn 223 = .ok (.putfield 218, 3) := dk_181 0 218 (dk_at dksX0_flowsOn_9 13 rfl rfl)
theorem dX0_flowsOn_226 : decode cX0_flowsOn 226 = .ok (.iinc 7 1, 3) := dk_132 7 1 (dk_at dksX0_flowsOn_9 16 rfl rfl)
theorem dX0_flowsOn_229 : decode cX0_flowsOn 229 = .ok (.goto (-218), 3) := dk_167 255 38 (dk_at dksX0_flowsOn_9 19 rfl rfl)
theorem dX0_flowsOn_232 : decode cX0_flowsOn 232 = .ok (.return_, 1) := dk_177 (dk_at dksX0_flowsOn_9 22 rfl rfl)
abbrev cX0_common : ByteArray := prog_1_method_28_code
def yX0_common : MethodName := ⟨RX0, "common", "(III)J"⟩
def dkwX0_common_5 : List UInt8 := [55, 5, 132, 7, 1, 167, 255, 209, 21, 4, 133, 173]
abbrev dktX0_common_5 : List UInt8 := dkwX0_common_5 ++ []
def dkwX0_common_4 : List UInt8 := [159, 0, 16, 42, 180, 0, 218, 22, 5, 148, 157, 0, 6, 167, 0, 13, 21, 7, 54, 4, 42, 180, 0, 218]
abbrev dktX0_common_4 : List UInt8 := dkwX0_common_4 ++ dktX0_common_5
def dkwX0_common_3 : List UInt8 := [9, 55, 5, 4, 54, 7, 21, 7, 16, 10, 162, 0, 46, 42, 27, 21, 7, 29, 182, 0, 230, 21, 4, 2]
abbrev dktX0_common_3 : List UInt8 := dkwX0_common_3 ++ dktX0_common_4
def dkwX0_common_2 : List UInt8 := [20, 0, 200, 173, 28, 2, 159, 0, 15, 42, 27, 28, 29, 182, 0, 230, 42, 180, 0, 218, 173, 2, 54, 4]
abbrev dktX0_common_2 : List UInt8 := dkwX0_common_2 ++ dktX0_common_3
def dkwX0_common_1 : List UInt8 := [153, 0, 24, 29, 4, 17, 0, 200, 184, 0, 81, 153, 0, 13, 42, 180, 0, 36, 182, 0, 197, 154, 0, 7]
abbrev dktX0_common_1 : List UInt8 := dkwX0_common_1 ++ dktX0_common_2
def dkwX0_common_0 : List UInt8 := [27, 4, 16, 13, 184, 0, 81, 153, 0, 39, 28, 2, 159, 0, 13, 28, 4, 16, 9, 184, 0, 81]
abbrev dktX0_common_0 : List UInt8 := dkwX0_common_0 ++ dktX0_common_1
theorem dksX0_common_0 : cX0_common.data.toList.drop 0 = dktX0_common_0 := by decide +kernel
theorem dksX0_common_1 : cX0_common.data.toList.drop 22 = dktX0_common_1 := dk_seg dksX0_common_0 22 rfl rfl
theorem dksX0_common_2 : cX0_common.data.toList.drop 46 = dktX0_common_2 := dk_seg dksX0_common_1 24 rfl rfl
theorem dksX0_common_3 : cX0_common.data.toList.drop 70 = dktX0_common_3 := dk_seg dksX0_common_2 24 rfl rfl
theorem dksX0_common_4 : cX0_common.data.toList.drop 94 = dktX0_common_4 := dk_seg dksX0_common_3 24 rfl rfl
theorem dksX0_common_5 : cX0_common.data.toList.drop 118 = dktX0_common_5 := dk_seg dksX0_common_4 24 rfl rfl
theorem dX0_common_0 : decode cX0_common 0 = .ok (.iload_n 1, 1) := dk_27 (dk_at dksX0_common_0 0 rfl rfl)
theorem dX0_common_1 : decode cX0_common 1 = .ok (.iconst 1, 1) := dk_4 (dk_at dksX0_common_0 1 rfl rfl)
theorem dX0_common_2 : decode cX0_common 2 = .ok (.bipush 13, 2) := dk_16 13 (dk_at dksX0_common_0 2 rfl rfl)
theorem dX0_common_4 : decode cX0_common 4 = .ok (.invokestatic 81, 3) := dk_184 0 81 (dk_at dksX0_common_0 4 rfl rfl)
theorem dX0_common_7 : decode cX0_common 7 = .ok (.ifCond .eq 39, 3) := dk_153 0 39 (dk_at dksX0_common_0 7 rfl rfl)
theorem dX0_common_10 : decode cX0_common 10 = .ok (.iload_n 2, 1) := dk_28 (dk_at dksX0_common_0 10 rfl rfl)
theorem dX0_common_11 : decode cX0_common 11 = .ok (.iconst (-1), 1) := dk_2 (dk_at dksX0_common_0 11 rfl rfl)
theorem dX0_common_12 : decode cX0_common 12 = .ok (.if_icmp .eq 13, 3) := dk_159 0 13 (dk_at dksX0_common_0 12 rfl rfl)
theorem dX0_common_15 : decode cX0_common 15 = .ok (.iload_n 2, 1) := dk_28 (dk_at dksX0_common_0 15 rfl rfl)
theorem dX0_common_16 : decode cX0_common 16 = .ok (.iconst 1, 1) := dk_4 (dk_at dksX0_common_0 16 rfl rfl)
theorem dX0_common_17 : decode cX0_common 17 = .ok (.bipush 9, 2) := dk_16 9 (dk_at dksX0_common_0 17 rfl rfl)
theorem dX0_common_19 : decode cX0_common 19 = .ok (.invokestatic 81, 3) := dk_184 0 81 (dk_at dksX0_common_0 19 rfl rfl)
theorem dX0_common_22 : decode cX0_common 22 = .ok (.ifCond .eq 24, 3) := dk_153 0 24 (dk_at dksX0_common_1 0 rfl rfl)
theorem dX0_common_25 : decode cX0_common 25 = .ok (.iload_n 3, 1) := dk_29 (dk_at dksX0_common_1 3 rfl rfl)
theorem dX0_common_26 : decode cX0_common 26 = .ok (.iconst 1, 1) := dk_4 (dk_at dksX0_common_1 4 rfl rfl)
theorem dX0_common_27 : decode cX0_common 27 = .ok (.sipush 200, 3) := dk_17 0 200 (dk_at dksX0_common_1 5 rfl rfl)
theorem dX0_common_30 : decode cX0_common 30 = .ok (.invokestatic 81, 3) := dk_184 0 81 (dk_at dksX0_common_1 8 rfl rfl)
theorem dX0_common_33 : decode cX0_common 33 = .ok (.ifCond .eq 13, 3) := dk_153 0 13 (dk_at dksX0_common_1 11 rfl rfl)
theorem dX0_common_36 : decode cX0_common 36 = .ok (.aload_n 0, 1) := dk_42 (dk_at dksX0_common_1 14 rfl rfl)
theorem dX0_common_37 : decode cX0_common 37 = .ok (.getfield 36, 3) := dk_180 0 36 (dk_at dksX0_common_1 15 rfl rfl)
theorem dX0_common_40 : decode cX0_common 40 = .ok (.invokevirtual 197, 3) := dk_182 0 197 (dk_at dksX0_common_1 18 rfl rfl)
theorem dX0_common_43 : decode cX0_common 43 = .ok (.ifCond .ne 7, 3) := dk_154 0 7 (dk_at dksX0_common_1 21 rfl rfl)
theorem dX0_common_46 : decode cX0_common 46 = .ok (.ldc2_w 200, 3) := dk_20 0 200 (dk_at dksX0_common_2 0 rfl rfl)
theorem dX0_common_49 : decode cX0_common 49 = .ok (.lreturn, 1) := dk_173 (dk_at dksX0_common_2 3 rfl rfl)
theorem dX0_common_50 : decode cX0_common 50 = .ok (.iload_n 2, 1) := dk_28 (dk_at dksX0_common_2 4 rfl rfl)
theorem dX0_common_51 : decode cX0_common 51 = .ok (.iconst (-1), 1) := dk_2 (dk_at dksX0_common_2 5 rfl rfl)
theorem dX0_common_52 : decode cX0_common 52 = .ok (.if_icmp .eq 15, 3) := dk_159 0 15 (dk_at dksX0_common_2 6 rfl rfl)
theorem dX0_common_55 : decode cX0_common 55 = .ok (.aload_n 0, 1) := dk_42 (dk_at dksX0_common_2 9 rfl rfl)
theorem dX0_common_56 : decode cX0_common 56 = .ok (.iload_n 1, 1) := dk_27 (dk_at dksX0_common_2 10 rfl rfl)
theorem dX0_common_57 : decode cX0_common 57 = .ok (.iload_n 2, 1) := dk_28 (dk_at dksX0_common_2 11 rfl rfl)
theorem dX0_common_58 : decode cX0_common 58 = .ok (.iload_n 3, 1) := dk_29 (dk_at dksX0_common_2 12 rfl rfl)
theorem dX0_common_59 : decode cX0_common 59 = .ok (.invokevirtual 230, 3) := dk_182 0 230 (dk_at dksX0_common_2 13 rfl rfl)
theorem dX0_common_62 : decode cX0_common 62 = .ok (.aload_n 0, 1) := dk_42 (dk_at dksX0_common_2 16 rfl rfl)
theorem dX0_common_63 : decode cX0_common 63 = .ok (.getfield 218, 3) := dk_180 0 218 (dk_at dksX0_common_2 17 rfl rfl)
theorem dX0_common_66 : decode cX0_common 66 = .ok (.lreturn, 1) := dk_173 (dk_at dksX0_common_2 20 rfl rfl)
theorem dX0_common_67 : decode cX0_common 67 = .ok (.iconst (-1), 1) := dk_2 (dk_at dksX0_common_2 21 rfl rfl)
theorem dX0_common_68 : decode cX0_common 68 = .ok (.istore 4, 2) := dk_54 4 (dk_at dksX0_common_2 22 rfl rfl)
theorem dX0_common_70 : decode cX0_common 70 = .ok (.lconst 0, 1) := dk_9 (dk_at dksX0_common_3 0 rfl rfl)
theorem dX0_common_71 : decode cX0_common 71 = .ok (.lstore 5, 2) := dk_55 5 (dk_at dksX0_common_3 1 rfl rfl)
theorem dX0_common_73 : decode cX0_common 73 = .ok (.iconst 1, 1) := dk_4 (dk_at dksX0_common_3 3 rfl rfl)
theorem dX0_common_74 : decode cX0_common 74 = .ok (.istore 7, 2) := dk_54 7 (dk_at dksX0_common_3 4 rfl rfl)
theorem dX0_common_76 : decode cX0_common 76 = .ok (.iload 7, 2) := dk_21 7 (dk_at dksX0_common_3 6 rfl rfl)
theorem dX0_common_78 : decode cX0_common 78 = .ok (.bipush 10, 2) := dk_16 10 (dk_at dksX0_common_3 8 rfl rfl)
theorem dX0_common_80 : decode cX0_common 80 = .ok (.if_icmp .ge 46, 3) := dk_162 0 46 (dk_at dksX0_common_3 10 rfl rfl)
theorem dX0_common_83 : decode cX0_common 83 = .ok (.aload_n 0, 1) := dk_42 (dk_at dksX0_common_3 13 rfl rfl)
theorem dX0_common_84 : decode cX0_common 84 = .ok (.iload_n 1, 1) := dk_27 (dk_at dksX0_common_3 14 rfl rfl)
theorem dX0_common_85 : decode cX0_common 85 = .ok (.iload 7, 2) := dk_21 7 (dk_at dksX0_common_3 15 rfl rfl)
theorem dX0_common_87 : decode cX0_common 87 = .ok (.iload_n 3, 1) := dk_29 (dk_at dksX0_common_3 17 rfl rfl)
theorem dX0_common_88 : decode cX0_common 88 = .ok (.invokevirtual 230, 3) := dk_182 0 230 (dk_at dksX0_common_3 18 rfl rfl)
theorem dX0_common_91 : decode cX0_common 91 = .ok (.iload 4, 2) := dk_21 4 (dk_at dksX0_common_3 21 rfl rfl)
theorem dX0_common_93 : decode cX0_common 93 = .ok (.iconst (-1), 1) := dk_2 (dk_at dksX0_common_3 23 rfl rfl)
theorem dX0_common_94 : decode cX0_common 94 = .ok (.if_icmp .eq 16, 3) := dk_159 0 16 (dk_at dksX0_common_4 0 rfl rfl)
theorem dX0_common_97 : decode cX0_common 97 = .ok (.aload_n 0, 1) := dk_42 (dk_at dksX0_common_4 3 rfl rfl)
theorem dX0_common_98 : decode cX0_common 98 = .ok (.getfield 218, 3) := dk_180 0 218 (dk_at dksX0_common_4 4 rfl rfl)
theorem dX0_common_101 : decode cX0_common 101 = .ok (.lload 5, 2) := dk_22 5 (dk_at dksX0_common_4 7 rfl rfl)
theorem dX0_common_103 : decode cX0_common 103 = .ok (.lcmp, 1) := dk_148 (dk_at dksX0_common_4 9 rfl rfl)
theorem dX0_common_104 : decode cX0_common 104 = .ok (.ifCond .gt 6, 3) := dk_157 0 6 (dk_at dksX0_common_4 10 rfl rfl)
theorem dX0_common_107 : decode cX0_common 107 = .ok (.goto 13, 3) := dk_167 0 13 (dk_at dksX0_common_4 13 rfl rfl)
theorem dX0_common_110 : decode cX0_common 110 = .ok (.iload 7, 2) := dk_21 7 (dk_at dksX0_common_4 16 rfl rfl)
theorem dX0_common_112 : decode cX0_common 112 = .ok (.istore 4, 2) := dk_54 4 (dk_at dksX0_common_4 18 rfl rfl)
theorem dX0_common_114 : decode cX0_common 114 = .ok (.aload_n 0, 1) := dk_42 (dk_at dksX0_common_4 20 rfl rfl)
theorem dX0_common_115 : decode cX0_common 115 = .ok (.getfield 218, 3) := dk_180 0 218 (dk_at dksX0_common_4 21 rfl rfl)
theorem dX0_common_118 : decode cX0_common 118 = .ok (.lstore 5, 2) := dk_55 5 (dk_at dksX0_common_5 0 rfl rfl)
theorem dX0_common_120 : decode cX0_common 120 = .ok (.iinc 7 1, 3) := dk_132 7 1 (dk_at dksX0_common_5 2 rfl rfl)
theorem dX0_common_123 : decode cX0_common 123 = .ok (.goto (-47), 3) := dk_167 255 209 (dk_at dksX0_common_5 5 rfl rfl)
theorem dX0_common_126 : decode cX0_common 126 = .ok (.iload 4, 2) := dk_21 4 (dk_at dksX0_common_5 8 rfl rfl)
theorem dX0_common_128 : decode cX0_common 128 = .ok (.i2l, 1) := dk_133 (dk_at dksX0_common_5 10 rfl rfl)
theorem dX0_common_129 : decode cX0_common 129 = .ok (.lreturn, 1) := dk_173 (dk_at dksX0_common_5 11 rfl rfl)
abbrev cX0_pair : ByteArray := prog_1_method_30_code
def yX0_pair : MethodName := ⟨RX0, "pair", "(IIIIIII)J"⟩
def dkwX0_pair_3 : List UInt8 := [21, 7, 47, 173]
abbrev dktX0_pair_3 : List UInt8 := dkwX0_pair_3 ++ []
def dkwX0_pair_2 : List UInt8 := [173, 42, 180, 0, 62, 27, 28, 29, 21, 4, 21, 5, 21, 6, 182, 0, 237, 42, 180, 0, 62, 180, 0, 241]
abbrev dktX0_pair_2 : List UInt8 := dkwX0_pair_2 ++ dktX0_pair_3
def dkwX0_pair_1 : List UInt8 := [21, 6, 4, 16, 13, 184, 0, 81, 153, 0, 13, 21, 7, 3, 4, 184, 0, 81, 154, 0, 7, 20, 0, 200]
abbrev dktX0_pair_1 : List UInt8 := dkwX0_pair_1 ++ dktX0_pair_2
def dkwX0_pair_0 : List UInt8 := [42, 27, 28, 29, 21, 4, 182, 0, 233, 153, 0, 35, 21, 5, 4, 16, 13, 184, 0, 81, 153, 0, 24]
abbrev dktX0_pair_0 : List UInt8 := dkwX0_pair_0 ++ dktX0_pair_1
theorem dksX0_pair_0 : cX0_pair.data.toList.drop 0 = dktX0_pair_0 := by decide +kernel
theorem dksX0_pair_1 : cX0_pair.data.toList.drop 23 = dktX0_pair_1 := dk_seg dksX0_pair_0 23 rfl rfl
theorem dksX0_pair_2 : cX0_pair.data.toList.drop 47 = dktX0_pair_2 := dk_seg dksX0_pair_1 24 rfl rfl
theorem dksX0_pair_3 : cX0_pair.data.toList.drop 71 = dktX0_pair_3 := dk_seg dksX0_pair_2 24 rfl rfl
theorem dX0_pair_0 : decode cX0_pair 0 = .ok (.aload_n 0, 1) := dk_42 (dk_at dksX0_pair_0 0 rfl rfl)
theorem dX0_pair_1 : decode cX0_pair 1 = .ok (.iload_n 1, 1) := dk_27 (dk_at dksX0_pair_0 1 rfl rfl)
theorem dX0_pair_2 : decode cX0_pair 2 = .ok (.iload_n 2, 1) := dk_28 (dk_at dksX0_pair_0 2 rfl rfl)
theorem dX0_pair_3 : decode cX0_pair 3 = .ok (.iload_n 3, 1) := dk_29 (dk_at dksX0_pair_0 3 rfl rfl)
theorem dX0_pair_4 : decode cX0_pair 4 = .ok (.iload 4, 2) := dk_21 4 (dk_at dksX0_pair_0 4 rfl rfl)
theorem dX0_pair_6 : decode cX0_pair 6 = .ok (.invokevirtual 233, 3) := dk_182 0 233 (dk_at dksX0_pair_0 6 rfl rfl)
theorem dX0_pair_9 : decode cX0_pair 9 = .ok (.ifCond .eq 35, 3) := dk_153 0 35 (dk_at dksX0_pair_0 9 rfl rfl)
theorem dX0_pair_12 : decode cX0_pair 12 = .ok (.iload 5, 2) := dk_21 5 (dk_at dksX0_pair_0 12 rfl rfl)
theorem dX0_pair_14 : decode cX0_pair 14 = .ok (.iconst 1, 1) := dk_4 (dk_at dksX0_pair_0 14 rfl rfl)
theorem dX0_pair_15 : decode cX0_pair 15 = .ok (.bipush 13, 2) := dk_16 13 (dk_at dksX0_pair_0 15 rfl rfl)
theorem dX0_pair_17 : decode cX0_pair 17 = .ok (.invokestatic 81, 3) := dk_184 0 81 (dk_at dksX0_pair_0 17 rfl rfl)
theorem dX0_pair_20 : decode cX0_pair 20 = .ok (.ifCond .eq 24, 3) := dk_153 0 24 (dk_at dksX0_pair_0 20 rfl rfl)
theorem dX0_pair_23 : decode cX0_pair 23 = .ok (.iload 6, 2) := dk_21 6 (dk_at dksX0_pair_1 0 rfl rfl)
theorem dX0_pair_25 : decode cX0_pair 25 = .ok (.iconst 1, 1) := dk_4 (dk_at dksX0_pair_1 2 rfl rfl)
theorem dX0_pair_26 : decode cX0_pair 26 = .ok (.bipush 13, 2) := dk_16 13 (dk_at dksX0_pair_1 3 rfl rfl)
theorem dX0_pair_28 : decode cX0_pair 28 = .ok (.invokestatic 81, 3) := dk_184 0 81 (dk_at dksX0_pair_1 5 rfl rfl)
theorem dX0_pair_31 : decode cX0_pair 31 = .ok (.ifCond .eq 13, 3) := dk_153 0 13 (dk_at dksX0_pair_1 8 rfl rfl)
theorem dX0_pair_34 : decode cX0_pair 34 = .ok (.iload 7, 2) := dk_21 7 (dk_at dksX0_pair_1 11 rfl rfl)
theorem dX0_pair_36 : decode cX0_pair 36 = .ok (.iconst 0, 1) := dk_3 (dk_at dksX0_pair_1 13 rfl rfl)
theorem dX0_pair_37 : decode cX0_pair 37 = .ok (.iconst 1, 1) := dk_4 (dk_at dksX0_pair_1 14 rfl rfl)
theorem dX0_pair_38 : decode cX0_pair 38 = .ok (.invokestatic 81, 3) := dk_184 0 81 (dk_at dksX0_pair_1 15 rfl rfl)
theorem dX0_pair_41 : decode cX0_pair 41 = .ok (.ifCond .ne 7, 3) := dk_154 0 7 (dk_at dksX0_pair_1 18 rfl rfl)
theorem dX0_pair_44 : decode cX0_pair 44 = .ok (.ldc2_w 200, 3) := dk_20 0 200 (dk_at dksX0_pair_1 21 rfl rfl)
theorem dX0_pair_47 : decode cX0_pair 47 = .ok (.lreturn, 1) := dk_173 (dk_at dksX0_pair_2 0 rfl rfl)
theorem dX0_pair_48 : decode cX0_pair 48 = .ok (.aload_n 0, 1) := dk_42 (dk_at dksX0_pair_2 1 rfl rfl)
theorem dX0_pair_49 : decode cX0_pair 49 = .ok (.getfield 62, 3) := dk_180 0 62 (dk_at dksX0_pair_2 2 rfl rfl)
theorem dX0_pair_52 : decode cX0_pair 52 = .ok (.iload_n 1, 1) := dk_27 (dk_at dksX0_pair_2 5 rfl rfl)
theorem dX0_pair_53 : decode cX0_pair 53 = .ok (.iload_n 2, 1) := dk_28 (dk_at dksX0_pair_2 6 rfl rfl)
theorem dX0_pair_54 : decode cX0_pair 54 = .ok (.iload_n 3, 1) := dk_29 (dk_at dksX0_pair_2 7 rfl rfl)
theorem dX0_pair_55 : decode cX0_pair 55 = .ok (.iload 4, 2) := dk_21 4 (dk_at dksX0_pair_2 8 rfl rfl)
theorem dX0_pair_57 : decode cX0_pair 57 = .ok (.iload 5, 2) := dk_21 5 (dk_at dksX0_pair_2 10 rfl rfl)
theorem dX0_pair_59 : decode cX0_pair 59 = .ok (.iload 6, 2) := dk_21 6 (dk_at dksX0_pair_2 12 rfl rfl)
theorem dX0_pair_61 : decode cX0_pair 61 = .ok (.invokevirtual 237, 3) := dk_182 0 237 (dk_at dksX0_pair_2 14 rfl rfl)
theorem dX0_pair_64 : decode cX0_pair 64 = .ok (.aload_n 0, 1) := dk_42 (dk_at dksX0_pair_2 17 rfl rfl)
theorem dX0_pair_65 : decode cX0_pair 65 = .ok (.getfield 62, 3) := dk_180 0 62 (dk_at dksX0_pair_2 18 rfl rfl)
theorem dX0_pair_68 : decode cX0_pair 68 = .ok (.getfield 241, 3) := dk_180 0 241 (dk_at dksX0_pair_2 21 rfl rfl)
theorem dX0_pair_71 : decode cX0_pair 71 = .ok (.iload 7, 2) := dk_21 7 (dk_at dksX0_pair_3 0 rfl rfl)
theorem dX0_pair_73 : decode cX0_pair 73 = .ok (.laload, 1) := dk_47 (dk_at dksX0_pair_3 2 rfl rfl)
theorem dX0_pair_74 : decode cX0_pair 74 = .ok (.lreturn, 1) := dk_173 (dk_at dksX0_pair_3 3 rfl rfl)
abbrev cX0_isPair : ByteArray := prog_1_method_29_code
def yX0_isPair : MethodName := ⟨RX0, "isPair", "(IIII)Z"⟩
def dkwX0_isPair_2 : List UInt8 := [158, 0, 7, 4, 167, 0, 4, 3, 172]
abbrev dktX0_isPair_2 : List UInt8 := dkwX0_isPair_2 ++ []
def dkwX0_isPair_1 : List UInt8 := [184, 0, 81, 153, 0, 28, 21, 4, 4, 16, 9, 184, 0, 81, 153, 0, 17, 42, 180, 0, 36, 182, 0, 197]
abbrev dktX0_isPair_1 : List UInt8 := dkwX0_isPair_1 ++ dktX0_isPair_2
def dkwX0_isPair_0 : List UInt8 := [27, 4, 16, 20, 184, 0, 81, 153, 0, 48, 28, 3, 16, 8, 184, 0, 81, 153, 0, 38, 29, 3, 16, 8]
abbrev dktX0_isPair_0 : List UInt8 := dkwX0_isPair_0 ++ dktX0_isPair_1
theorem dksX0_isPair_0 : cX0_isPair.data.toList.drop 0 = dktX0_isPair_0 := by decide +kernel
theorem dksX0_isPair_1 : cX0_isPair.data.toList.drop 24 = dktX0_isPair_1 := dk_seg dksX0_isPair_0 24 rfl rfl
theorem dksX0_isPair_2 : cX0_isPair.data.toList.drop 48 = dktX0_isPair_2 := dk_seg dksX0_isPair_1 24 rfl rfl
theorem dX0_isPair_0 : decode cX0_isPair 0 = .ok (.iload_n 1, 1) := dk_27 (dk_at dksX0_isPair_0 0 rfl rfl)
theorem dX0_isPair_1 : decode cX0_isPair 1 = .ok (.iconst 1, 1) := dk_4 (dk_at dksX0_isPair_0 1 rfl rfl)
theorem dX0_isPair_2 : decode cX0_isPair 2 = .ok (.bipush 20, 2) := dk_16 20 (dk_at dksX0_isPair_0 2 rfl rfl)
theorem dX0_isPair_4 : decode cX0_isPair 4 = .ok (.invokestatic 81, 3) := dk_184 0 81 (dk_at dksX0_isPair_0 4 rfl rfl)
theorem dX0_isPair_7 : decode cX0_isPair 7 = .ok (.ifCond .eq 48, 3) := dk_153 0 48 (dk_at dksX0_isPair_0 7 rfl rfl)
theorem dX0_isPair_10 : decode cX0_isPair 10 = .ok (.iload_n 2, 1) := dk_28 (dk_at dksX0_isPair_0 10 rfl rfl)
theorem dX0_isPair_11 : decode cX0_isPair 11 = .ok (.iconst 0, 1) := dk_3 (dk_at dksX0_isPair_0 11 rfl rfl)
theorem dX0_isPair_12 : decode cX0_isPair 12 = .ok (.bipush 8, 2) := dk_16 8 (dk_at dksX0_isPair_0 12 rfl rfl)
theorem dX0_isPair_14 : decode cX0_isPair 14 = .ok (.invokestatic 81, 3) := dk_184 0 81 (dk_at dksX0_isPair_0 14 rfl rfl)
theorem dX0_isPair_17 : decode cX0_isPair 17 = .ok (.ifCond .eq 38, 3) := dk_153 0 38 (dk_at dksX0_isPair_0 17 rfl rfl)
theorem dX0_isPair_20 : decode cX0_isPair 20 = .ok (.iload_n 3, 1) := dk_29 (dk_at dksX0_isPair_0 20 rfl rfl)
theorem dX0_isPair_21 : decode cX0_isPair 21 = .ok (.iconst 0, 1) := dk_3 (dk_at dksX0_isPair_0 21 rfl rfl)
theorem dX0_isPair_22 : decode cX0_isPair 22 = .ok (.bipush 8, 2) := dk_16 8 (dk_at dksX0_isPair_0 22 rfl rfl)
theorem dX0_isPair_24 : decode cX0_isPair 24 = .ok (.invokestatic 81, 3) := dk_184 0 81 (dk_at dksX0_isPair_1 0 rfl rfl)
theorem dX0_isPair_27 : decode cX0_isPair 27 = .ok (.ifCond .eq 28, 3) := dk_153 0 28 (dk_at dksX0_isPair_1 3 rfl rfl)
theorem dX0_isPair_30 : decode cX0_isPair 30 = .ok (.iload 4, 2) := dk_21 4 (dk_at dksX0_isPair_1 6 rfl rfl)
theorem dX0_isPair_32 : decode cX0_isPair 32 = .ok (.iconst 1, 1) := dk_4 (dk_at dksX0_isPair_1 8 rfl rfl)
theorem dX0_isPair_33 : decode cX0_isPair 33 = .ok (.bipush 9, 2) := dk_16 9 (dk_at dksX0_isPair_1 9 rfl rfl)
theorem dX0_isPair_35 : decode cX0_isPair 35 = .ok (.invokestatic 81, 3) := dk_184 0 81 (dk_at dksX0_isPair_1 11 rfl rfl)
theorem dX0_isPair_38 : decode cX0_isPair 38 = .ok (.ifCond .eq 17, 3) := dk_153 0 17 (dk_at dksX0_isPair_1 14 rfl rfl)
theorem dX0_isPair_41 : decode cX0_isPair 41 = .ok (.aload_n 0, 1) := dk_42 (dk_at dksX0_isPair_1 17 rfl rfl)
theorem dX0_isPair_42 : decode cX0_isPair 42 = .ok (.getfield 36, 3) := dk_180 0 36 (dk_at dksX0_isPair_1 18 rfl rfl)
theorem dX0_isPair_45 : decode cX0_isPair 45 = .ok (.invokevirtual 197, 3) := dk_182 0 197 (dk_at dksX0_isPair_1 21 rfl rfl)
theorem dX0_isPair_48 : decode cX0_isPair 48 = .ok (.ifCond .le 7, 3) := dk_158 0 7 (dk_at dksX0_isPair_2 0 rfl rfl)
theorem dX0_isPair_51 : decode cX0_isPair 51 = .ok (.iconst 1, 1) := dk_4 (dk_at dksX0_isPair_2 3 rfl rfl)
theorem dX0_isPair_52 : decode cX0_isPair 52 = .ok (.goto 4, 3) := dk_167 0 4 (dk_at dksX0_isPair_2 4 rfl rfl)
theorem dX0_isPair_55 : decode cX0_isPair 55 = .ok (.iconst 0, 1) := dk_3 (dk_at dksX0_isPair_2 7 rfl rfl)
theorem dX0_isPair_56 : decode cX0_isPair 56 = .ok (.ireturn, 1) := dk_172 (dk_at dksX0_isPair_2 8 rfl rfl)
abbrev cX0_holds : ByteArray := prog_1_method_32_code
def yX0_holds : MethodName := ⟨RX0, "holds", "(IIIII)I"⟩
def dkwX0_holds_11 : List UInt8 := [21, 5, 4, 160, 0, 8, 21, 7, 167, 0, 5, 21, 8, 172]
abbrev dktX0_holds_11 : List UInt8 := dkwX0_holds_11 ++ []
def dkwX0_holds_10 : List UInt8 := [55, 9, 132, 12, 1, 167, 255, 154, 132, 11, 1, 167, 255, 138, 21, 5, 154, 0, 8, 21, 6, 167, 0, 16]
abbrev dktX0_holds_10 : List UInt8 := dkwX0_holds_10 ++ dktX0_holds_11
def dkwX0_holds_9 : List UInt8 := [22, 13, 22, 9, 148, 157, 0, 6, 167, 0, 17, 16, 20, 21, 11, 104, 21, 12, 96, 54, 8, 22, 13]
abbrev dktX0_holds_9 : List UInt8 := dkwX0_holds_9 ++ dktX0_holds_10
def dkwX0_holds_8 : List UInt8 := [50, 21, 12, 47, 42, 180, 0, 71, 21, 11, 50, 21, 12, 47, 97, 55, 13, 21, 8, 2, 159, 0, 14]
abbrev dktX0_holds_8 : List UInt8 := dkwX0_holds_8 ++ dktX0_holds_9
def dkwX0_holds_7 : List UInt8 := [160, 0, 14, 16, 20, 21, 11, 104, 21, 12, 96, 167, 0, 5, 21, 7, 54, 7, 42, 180, 0, 68, 21, 11]
abbrev dktX0_holds_7 : List UInt8 := dkwX0_holds_7 ++ dktX0_holds_8
def dkwX0_holds_6 : List UInt8 := [163, 0, 101, 42, 21, 11, 21, 12, 182, 0, 244, 154, 0, 6, 167, 0, 81, 132, 6, 1, 21, 7, 2]
abbrev dktX0_holds_6 : List UInt8 := dkwX0_holds_6 ++ dktX0_holds_7
def dkwX0_holds_5 : List UInt8 := [2, 54, 8, 9, 55, 9, 4, 54, 11, 21, 11, 16, 13, 163, 0, 117, 4, 54, 12, 21, 12, 16, 13]
abbrev dktX0_holds_5 : List UInt8 := dkwX0_holds_5 ++ dktX0_holds_6
def dkwX0_holds_4 : List UInt8 := [180, 0, 241, 4, 47, 80, 132, 7, 1, 167, 255, 192, 132, 6, 1, 167, 255, 176, 3, 54, 6, 2, 54, 7]
abbrev dktX0_holds_4 : List UInt8 := dkwX0_holds_4 ++ dktX0_holds_5
def dkwX0_holds_3 : List UInt8 := [180, 0, 62, 180, 0, 241, 3, 47, 80, 42, 180, 0, 71, 21, 6, 50, 21, 7, 42, 180, 0, 62]
abbrev dktX0_holds_3 : List UInt8 := dkwX0_holds_3 ++ dktX0_holds_4
def dkwX0_holds_2 : List UInt8 := [27, 28, 29, 21, 4, 21, 6, 21, 7, 182, 0, 237, 42, 180, 0, 68, 21, 6, 50, 21, 7, 42]
abbrev dktX0_holds_2 : List UInt8 := dkwX0_holds_2 ++ dktX0_holds_3
def dkwX0_holds_1 : List UInt8 := [4, 54, 6, 21, 6, 16, 13, 163, 0, 79, 4, 54, 7, 21, 7, 16, 13, 163, 0, 63, 42, 180, 0, 62]
abbrev dktX0_holds_1 : List UInt8 := dkwX0_holds_1 ++ dktX0_holds_2
def dkwX0_holds_0 : List UInt8 := [42, 27, 28, 29, 21, 4, 182, 0, 233, 153, 0, 13, 21, 5, 3, 5, 184, 0, 81, 154, 0, 5, 2, 172]
abbrev dktX0_holds_0 : List UInt8 := dkwX0_holds_0 ++ dktX0_holds_1
theorem dksX0_holds_0 : cX0_holds.data.toList.drop 0 = dktX0_holds_0 := by decide +kernel
theorem dksX0_holds_1 : cX0_holds.data.toList.drop 24 = dktX0_holds_1 := dk_seg dksX0_holds_0 24 rfl rfl
theorem dksX0_holds_2 : cX0_holds.data.toList.drop 48 = dktX0_holds_2 := dk_seg dksX0_holds_1 24 rfl rfl
theorem dksX0_holds_3 : cX0_holds.data.toList.drop 70 = dktX0_holds_3 := dk_seg dksX0_holds_2 22 rfl rfl
theorem dksX0_holds_4 : cX0_holds.data.toList.drop 92 = dktX0_holds_4 := dk_seg dksX0_holds_3 22 rfl rfl
theorem dksX0_holds_5 : cX0_holds.data.toList.drop 116 = dktX0_holds_5 := dk_seg dksX0_holds_4 24 rfl rfl
theorem dksX0_holds_6 : cX0_holds.data.toList.drop 139 = dktX0_holds_6 := dk_seg dksX0_holds_5 23 rfl rfl
theorem dksX0_holds_7 : cX0_holds.data.toList.drop 162 = dktX0_holds_7 := dk_seg dksX0_holds_6 23 rfl rfl
theorem dksX0_holds_8 : cX0_holds.data.toList.drop 186 = dktX0_holds_8 := dk_seg dksX0_holds_7 24 rfl rfl
theorem dksX0_holds_9 : cX0_holds.data.toList.drop 209 = dktX0_holds_9 := dk_seg dksX0_holds_8 23 rfl rfl
theorem dksX0_holds_10 : cX0_holds.data.toList.drop 232 = dktX0_holds_10 := dk_seg dksX0_holds_9 23 rfl rfl
theorem dksX0_holds_11 : cX0_holds.data.toList.drop 256 = dktX0_holds_11 := dk_seg dksX0_holds_10 24 rfl rfl
theorem dX0_holds_0 : decode cX0_holds 0 = .ok (.aload_n 0, 1) := dk_42 (dk_at dksX0_holds_0 0 rfl rfl)
theorem dX0_holds_1 : decode cX0_holds 1 = .ok (.iload_n 1, 1) := dk_27 (dk_at dksX0_holds_0 1 rfl rfl)
theorem dX0_holds_2 : decode cX0_holds 2 = .ok (.iload_n 2, 1) := dk_28 (dk_at dksX0_holds_0 2 rfl rfl)
theorem dX0_holds_3 : decode cX0_holds 3 = .ok (.iload_n 3, 1) := dk_29 (dk_at dksX0_holds_0 3 rfl rfl)
theorem dX0_holds_4 : decode cX0_holds 4 = .ok (.iload 4, 2) := dk_21 4 (dk_at dksX0_holds_0 4 rfl rfl)
theorem dX0_holds_6 : decode cX0_holds 6 = .ok (.invokevirtual 233, 3) := dk_182 0 233 (dk_at dksX0_holds_0 6 rfl rfl)
theorem dX0_holds_9 : decode cX0_holds 9 = .ok (.ifCond .eq 13, 3) := dk_153 0 13 (dk_at dksX0_holds_0 9 rfl rfl)
theorem dX0_holds_12 : decode cX0_holds 12 = .ok (.iload 5, 2) := dk_21 5 (dk_at dksX0_holds_0 12 rfl rfl)
theorem dX0_holds_14 : decode cX0_holds 14 = .ok (.iconst 0, 1) := dk_3 (dk_at dksX0_holds_0 14 rfl rfl)
theorem dX0_holds_15 : decode cX0_holds 15 = .ok (.iconst 2, 1) := dk_5 (dk_at dksX0_holds_0 15 rfl rfl)
theorem dX0_holds_16 : decode cX0_holds 16 = .ok (.invokestatic 81, 3) := dk_184 0 81 (dk_at dksX0_holds_0 16 rfl rfl)
theorem dX0_holds_19 : decode cX0_holds 19 = .ok (.ifCond .ne 5, 3) := dk_154 0 5 (dk_at dksX0_holds_0 19 rfl rfl)
theorem dX0_holds_22 : decode cX0_holds 22 = .ok (.iconst (-1), 1) := dk_2 (dk_at dksX0_holds_0 22 rfl rfl)
theorem dX0_holds_23 : decode cX0_holds 23 = .ok (.ireturn, 1) := dk_172 (dk_at dksX0_holds_0 23 rfl rfl)
theorem dX0_holds_24 : decode cX0_holds 24 = .ok (.iconst 1, 1) := dk_4 (dk_at dksX0_holds_1 0 rfl rfl)
theorem dX0_holds_25 : decode cX0_holds 25 = .ok (.istore 6, 2) := dk_54 6 (dk_at dksX0_holds_1 1 rfl rfl)
theorem dX0_holds_27 : decode cX0_holds 27 = .ok (.iload 6, 2) := dk_21 6 (dk_at dksX0_holds_1 3 rfl rfl)
theorem dX0_holds_29 : decode cX0_holds 29 = .ok (.bipush 13, 2) := dk_16 13 (dk_at dksX0_holds_1 5 rfl rfl)
theorem dX0_holds_31 : decode cX0_holds 31 = .ok (.if_icmp .gt 79, 3) := dk_163 0 79 (dk_at dksX0_holds_1 7 rfl rfl)
theorem dX0_holds_34 : decode cX0_holds 34 = .ok (.iconst 1, 1) := dk_4 (dk_at dksX0_holds_1 10 rfl rfl)
theorem dX0_holds_35 : decode cX0_holds 35 = .ok (.istore 7, 2) := dk_54 7 (dk_at dksX0_holds_1 11 rfl rfl)
theorem dX0_holds_37 : decode cX0_holds 37 = .ok (.iload 7, 2) := dk_21 7 (dk_at dksX0_holds_1 13 rfl rfl)
theorem dX0_holds_39 : decode cX0_holds 39 = .ok (.bipush 13, 2) := dk_16 13 (dk_at dksX0_holds_1 15 rfl rfl)
theorem dX0_holds_41 : decode cX0_holds 41 = .ok (.if_icmp .gt 63, 3) := dk_163 0 63 (dk_at dksX0_holds_1 17 rfl rfl)
theorem dX0_holds_44 : decode cX0_holds 44 = .ok (.aload_n 0, 1) := dk_42 (dk_at dksX0_holds_1 20 rfl rfl)
theorem dX0_holds_45 : decode cX0_holds 45 = .ok (.getfield 62, 3) := dk_180 0 62 (dk_at dksX0_holds_1 21 rfl rfl)
theorem dX0_holds_48 : decode cX0_holds 48 = .ok (.iload_n 1, 1) := dk_27 (dk_at dksX0_holds_2 0 rfl rfl)
theorem dX0_holds_49 : decode cX0_holds 49 = .ok (.iload_n 2, 1) := dk_28 (dk_at dksX0_holds_2 1 rfl rfl)
theorem dX0_holds_50 : decode cX0_holds 50 = .ok (.iload_n 3, 1) := dk_29 (dk_at dksX0_holds_2 2 rfl rfl)
theorem dX0_holds_51 : decode cX0_holds 51 = .ok (.iload 4, 2) := dk_21 4 (dk_at dksX0_holds_2 3 rfl rfl)
theorem dX0_holds_53 : decode cX0_holds 53 = .ok (.iload 6, 2) := dk_21 6 (dk_at dksX0_holds_2 5 rfl rfl)
theorem dX0_holds_55 : decode cX0_holds 55 = .ok (.iload 7, 2) := dk_21 7 (dk_at dksX0_holds_2 7 rfl rfl)
theorem dX0_holds_57 : decode cX0_holds 57 = .ok (.invokevirtual 237, 3) := dk_182 0 237 (dk_at dksX0_holds_2 9 rfl rfl)
theorem dX0_holds_60 : decode cX0_holds 60 = .ok (.aload_n 0, 1) := dk_42 (dk_at dksX0_holds_2 12 rfl rfl)
theorem dX0_holds_61 : decode cX0_holds 61 = .ok (.getfield 68, 3) := dk_180 0 68 (dk_at dksX0_holds_2 13 rfl rfl)
theorem dX0_holds_64 : decode cX0_holds 64 = .ok (.iload 6, 2) := dk_21 6 (dk_at dksX0_holds_2 16 rfl rfl)
theorem dX0_holds_66 : decode cX0_holds 66 = .ok (.aaload, 1) := dk_50 (dk_at dksX0_holds_2 18 rfl rfl)
theorem dX0_holds_67 : decode cX0_holds 67 = .ok (.iload 7, 2) := dk_21 7 (dk_at dksX0_holds_2 19 rfl rfl)
theorem dX0_holds_69 : decode cX0_holds 69 = .ok (.aload_n 0, 1) := dk_42 (dk_at dksX0_holds_2 21 rfl rfl)
theorem dX0_holds_70 : decode cX0_holds 70 = .ok (.getfield 62, 3) := dk_180 0 62 (dk_at dksX0_holds_3 0 rfl rfl)
theorem dX0_holds_73 : decode cX0_holds 73 = .ok (.getfield 241, 3) := dk_180 0 241 (dk_at dksX0_holds_3 3 rfl rfl)
theorem dX0_holds_76 : decode cX0_holds 76 = .ok (.iconst 0, 1) := dk_3 (dk_at dksX0_holds_3 6 rfl rfl)
theorem dX0_holds_77 : decode cX0_holds 77 = .ok (.laload, 1) := dk_47 (dk_at dksX0_holds_3 7 rfl rfl)
theorem dX0_holds_78 : decode cX0_holds 78 = .ok (.lastore, 1) := dk_80 (dk_at dksX0_holds_3 8 rfl rfl)
theorem dX0_holds_79 : decode cX0_holds 79 = .ok (.aload_n 0, 1) := dk_42 (dk_at dksX0_holds_3 9 rfl rfl)
theorem dX0_holds_80 : decode cX0_holds 80 = .ok (.getfield 71, 3) := dk_180 0 71 (dk_at dksX0_holds_3 10 rfl rfl)
theorem dX0_holds_83 : decode cX0_holds 83 = .ok (.iload 6, 2) := dk_21 6 (dk_at dksX0_holds_3 13 rfl rfl)
theorem dX0_holds_85 : decode cX0_holds 85 = .ok (.aaload, 1) := dk_50 (dk_at dksX0_holds_3 15 rfl rfl)
theorem dX0_holds_86 : decode cX0_holds 86 = .ok (.iload 7, 2) := dk_21 7 (dk_at dksX0_holds_3 16 rfl rfl)
theorem dX0_holds_88 : decode cX0_holds 88 = .ok (.aload_n 0, 1) := dk_42 (dk_at dksX0_holds_3 18 rfl rfl)
theorem dX0_holds_89 : decode cX0_holds 89 = .ok (.getfield 62, 3) := dk_180 0 62 (dk_at dksX0_holds_3 19 rfl rfl)
theorem dX0_holds_92 : decode cX0_holds 92 = .ok (.getfield 241, 3) := dk_180 0 241 (dk_at dksX0_holds_4 0 rfl rfl)
theorem dX0_holds_95 : decode cX0_holds 95 = .ok (.iconst 1, 1) := dk_4 (dk_at dksX0_holds_4 3 rfl rfl)
theorem dX0_holds_96 : decode cX0_holds 96 = .ok (.laload, 1) := dk_47 (dk_at dksX0_holds_4 4 rfl rfl)
theorem dX0_holds_97 : decode cX0_holds 97 = .ok (.lastore, 1) := dk_80 (dk_at dksX0_holds_4 5 rfl rfl)
theorem dX0_holds_98 : decode cX0_holds 98 = .ok (.iinc 7 1, 3) := dk_132 7 1 (dk_at dksX0_holds_4 6 rfl rfl)
theorem dX0_holds_101 : decode cX0_holds 101 = .ok (.goto (-64), 3) := dk_167 255 192 (dk_at dksX0_holds_4 9 rfl rfl)
theorem dX0_holds_104 : decode cX0_holds 104 = .ok (.iinc 6 1, 3) := dk_132 6 1 (dk_at dksX0_holds_4 12 rfl rfl)
theorem dX0_holds_107 : decode cX0_holds 107 = .ok (.goto (-80), 3) := dk_167 255 176 (dk_at dksX0_holds_4 15 rfl rfl)
theorem dX0_holds_110 : decode cX0_holds 110 = .ok (.iconst 0, 1) := dk_3 (dk_at dksX0_holds_4 18 rfl rfl)
theorem dX0_holds_111 : decode cX0_holds 111 = .ok (.istore 6, 2) := dk_54 6 (dk_at dksX0_holds_4 19 rfl rfl)
theorem dX0_holds_113 : decode cX0_holds 113 = .ok (.iconst (-1), 1) := dk_2 (dk_at dksX0_holds_4 21 rfl rfl)
theorem dX0_holds_114 : decode cX0_holds 114 = .ok (.istore 7, 2) := dk_54 7 (dk_at dksX0_holds_4 22 rfl rfl)
theorem dX0_holds_116 : decode cX0_holds 116 = .ok (.iconst (-1), 1) := dk_2 (dk_at dksX0_holds_5 0 rfl rfl)
theorem dX0_holds_117 : decode cX0_holds 117 = .ok (.istore 8, 2) := dk_54 8 (dk_at dksX0_holds_5 1 rfl rfl)
theorem dX0_holds_119 : decode cX0_holds 119 = .ok (.lconst 0, 1) := dk_9 (dk_at dksX0_holds_5 3 rfl rfl)
theorem dX0_holds_120 : decode cX0_holds 120 = .ok (.lstore 9, 2) := dk_55 9 (dk_at dksX0_holds_5 4 rfl rfl)
theorem dX0_holds_122 : decode cX0_holds 122 = .ok (.iconst 1, 1) := dk_4 (dk_at dksX0_holds_5 6 rfl rfl)
theorem dX0_holds_123 : decode cX0_holds 123 = .ok (.istore 11, 2) := dk_54 11 (dk_at dksX0_holds_5 7 rfl rfl)
theorem dX0_holds_125 : decode cX0_holds 125 = .ok (.iload 11, 2) := dk_21 11 (dk_at dksX0_holds_5 9 rfl rfl)
theorem dX0_holds_127 : decode cX0_holds 127 = .ok (.bipush 13, 2) := dk_16 13 (dk_at dksX0_holds_5 11 rfl rfl)
theorem dX0_holds_129 : decode cX0_holds 129 = .ok (.if_icmp .gt 117, 3) := dk_163 0 117 (dk_at dksX0_holds_5 13 rfl rfl)
theorem dX0_holds_132 : decode cX0_holds 132 = .ok (.iconst 1, 1) := dk_4 (dk_at dksX0_holds_5 16 rfl rfl)
theorem dX0_holds_133 : decode cX0_holds 133 = .ok (.istore 12, 2) := dk_54 12 (dk_at dksX0_holds_5 17 rfl rfl)
theorem dX0_holds_135 : decode cX0_holds 135 = .ok (.iload 12, 2) := dk_21 12 (dk_at dksX0_holds_5 19 rfl rfl)
theorem dX0_holds_137 : decode cX0_holds 137 = .ok (.bipush 13, 2) := dk_16 13 (dk_at dksX0_holds_5 21 rfl rfl)
theorem dX0_holds_139 : decode cX0_holds 139 = .ok (.if_icmp .gt 101, 3) := dk_163 0 101 (dk_at dksX0_holds_6 0 rfl rfl)
theorem dX0_holds_142 : decode cX0_holds 142 = .ok (.aload_n 0, 1) := dk_42 (dk_at dksX0_holds_6 3 rfl rfl)
theorem dX0_holds_143 : decode cX0_holds 143 = .ok (.iload 11, 2) := dk_21 11 (dk_at dksX0_holds_6 4 rfl rfl)
theorem dX0_holds_145 : decode cX0_holds 145 = .ok (.iload 12, 2) := dk_21 12 (dk_at dksX0_holds_6 6 rfl rfl)
theorem dX0_holds_147 : decode cX0_holds 147 = .ok (.invokevirtual 244, 3) := dk_182 0 244 (dk_at dksX0_holds_6 8 rfl rfl)
theorem dX0_holds_150 : decode cX0_holds 150 = .ok (.ifCond .ne 6, 3) := dk_154 0 6 (dk_at dksX0_holds_6 11 rfl rfl)
theorem dX0_holds_153 : decode cX0_holds 153 = .ok (.goto 81, 3) := dk_167 0 81 (dk_at dksX0_holds_6 14 rfl rfl)
theorem dX0_holds_156 : decode cX0_holds 156 = .ok (.iinc 6 1, 3) := dk_132 6 1 (dk_at dksX0_holds_6 17 rfl rfl)
theorem dX0_holds_159 : decode cX0_holds 159 = .ok (.iload 7, 2) := dk_21 7 (dk_at dksX0_holds_6 20 rfl rfl)
theorem dX0_holds_161 : decode cX0_holds 161 = .ok (.iconst (-1), 1) := dk_2 (dk_at dksX0_holds_6 22 rfl rfl)
theorem dX0_holds_162 : decode cX0_holds 162 = .ok (.if_icmp .ne 14, 3) := dk_160 0 14 (dk_at dksX0_holds_7 0 rfl rfl)
theorem dX0_holds_165 : decode cX0_holds 165 = .ok (.bipush 20, 2) := dk_16 20 (dk_at dksX0_holds_7 3 rfl rfl)
theorem dX0_holds_167 : decode cX0_holds 167 = .ok (.iload 11, 2) := dk_21 11 (dk_at dksX0_holds_7 5 rfl rfl)
theorem dX0_holds_169 : decode cX0_holds 169 = .ok (.imul, 1) := dk_104 (dk_at dksX0_holds_7 7 rfl rfl)
theorem dX0_holds_170 : decode cX0_holds 170 = .ok (.iload 12, 2) := dk_21 12 (dk_at dksX0_holds_7 8 rfl rfl)
theorem dX0_holds_172 : decode cX0_holds 172 = .ok (.iadd, 1) := dk_96 (dk_at dksX0_holds_7 10 rfl rfl)
theorem dX0_holds_173 : decode cX0_holds 173 = .ok (.goto 5, 3) := dk_167 0 5 (dk_at dksX0_holds_7 11 rfl rfl)
theorem dX0_holds_176 : decode cX0_holds 176 = .ok (.iload 7, 2) := dk_21 7 (dk_at dksX0_holds_7 14 rfl rfl)
theorem dX0_holds_178 : decode cX0_holds 178 = .ok (.istore 7, 2) := dk_54 7 (dk_at dksX0_holds_7 16 rfl rfl)
theorem dX0_holds_180 : decode cX0_holds 180 = .ok (.aload_n 0, 1) := dk_42 (dk_at dksX0_holds_7 18 rfl rfl)
theorem dX0_holds_181 : decode cX0_holds 181 = .ok (.getfield 68, 3) := dk_180 0 68 (dk_at dksX0_holds_7 19 rfl rfl)
theorem dX0_holds_184 : decode cX0_holds 184 = .ok (.iload 11, 2) := dk_21 11 (dk_at dksX0_holds_7 22 rfl rfl)
theorem dX0_holds_186 : decode cX0_holds 186 = .ok (.aaload, 1) := dk_50 (dk_at dksX0_holds_8 0 rfl rfl)
theorem dX0_holds_187 : decode cX0_holds 187 = .ok (.iload 12, 2) := dk_21 12 (dk_at dksX0_holds_8 1 rfl rfl)
theorem dX0_holds_189 : decode cX0_holds 189 = .ok (.laload, 1) := dk_47 (dk_at dksX0_holds_8 3 rfl rfl)
theorem dX0_holds_190 : decode cX0_holds 190 = .ok (.aload_n 0, 1) := dk_42 (dk_at dksX0_holds_8 4 rfl rfl)
theorem dX0_holds_191 : decode cX0_holds 191 = .ok (.getfield 71, 3) := dk_180 0 71 (dk_at dksX0_holds_8 5 rfl rfl)
theorem dX0_holds_194 : decode cX0_holds 194 = .ok (.iload 11, 2) := dk_21 11 (dk_at dksX0_holds_8 8 rfl rfl)
theorem dX0_holds_196 : decode cX0_holds 196 = .ok (.aaload, 1) := dk_50 (dk_at dksX0_holds_8 10 rfl rfl)
theorem dX0_holds_197 : decode cX0_holds 197 = .ok (.iload 12, 2) := dk_21 12 (dk_at dksX0_holds_8 11 rfl rfl)
theorem dX0_holds_199 : decode cX0_holds 199 = .ok (.laload, 1) := dk_47 (dk_at dksX0_holds_8 13 rfl rfl)
theorem dX0_holds_200 : decode cX0_holds 200 = .ok (.ladd, 1) := dk_97 (dk_at dksX0_holds_8 14 rfl rfl)
theorem dX0_holds_201 : decode cX0_holds 201 = .ok (.lstore 13, 2) := dk_55 13 (dk_at dksX0_holds_8 15 rfl rfl)
theorem dX0_holds_203 : decode cX0_holds 203 = .ok (.iload 8, 2) := dk_21 8 (dk_at dksX0_holds_8 17 rfl rfl)
theorem dX0_holds_205 : decode cX0_holds 205 = .ok (.iconst (-1), 1) := dk_2 (dk_at dksX0_holds_8 19 rfl rfl)
theorem dX0_holds_206 : decode cX0_holds 206 = .ok (.if_icmp .eq 14, 3) := dk_159 0 14 (dk_at dksX0_holds_8 20 rfl rfl)
theorem dX0_holds_209 : decode cX0_holds 209 = .ok (.lload 13, 2) := dk_22 13 (dk_at dksX0_holds_9 0 rfl rfl)
theorem dX0_holds_211 : decode cX0_holds 211 = .ok (.lload 9, 2) := dk_22 9 (dk_at dksX0_holds_9 2 rfl rfl)
theorem dX0_holds_213 : decode cX0_holds 213 = .ok (.lcmp, 1) := dk_148 (dk_at dksX0_holds_9 4 rfl rfl)
theorem dX0_holds_214 : decode cX0_holds 214 = .ok (.ifCond .gt 6, 3) := dk_157 0 6 (dk_at dksX0_holds_9 5 rfl rfl)
theorem dX0_holds_217 : decode cX0_holds 217 = .ok (.goto 17, 3) := dk_167 0 17 (dk_at dksX0_holds_9 8 rfl rfl)
theorem dX0_holds_220 : decode cX0_holds 220 = .ok (.bipush 20, 2) := dk_16 20 (dk_at dksX0_holds_9 11 rfl rfl)
theorem dX0_holds_222 : decode cX0_holds 222 = .ok (.iload 11, 2) := dk_21 11 (dk_at dksX0_holds_9 13 rfl rfl)
theorem dX0_holds_224 : decode cX0_holds 224 = .ok (.imul, 1) := dk_104 (dk_at dksX0_holds_9 15 rfl rfl)
theorem dX0_holds_225 : decode cX0_holds 225 = .ok (.iload 12, 2) := dk_21 12 (dk_at dksX0_holds_9 16 rfl rfl)
theorem dX0_holds_227 : decode cX0_holds 227 = .ok (.iadd, 1) := dk_96 (dk_at dksX0_holds_9 18 rfl rfl)
theorem dX0_holds_228 : decode cX0_holds 228 = .ok (.istore 8, 2) := dk_54 8 (dk_at dksX0_holds_9 19 rfl rfl)
theorem dX0_holds_230 : decode cX0_holds 230 = .ok (.lload 13, 2) := dk_22 13 (dk_at dksX0_holds_9 21 rfl rfl)
theorem dX0_holds_232 : decode cX0_holds 232 = .ok (.lstore 9, 2) := dk_55 9 (dk_at dksX0_holds_10 0 rfl rfl)
theorem dX0_holds_234 : decode cX0_holds 234 = .ok (.iinc 12 1, 3) := dk_132 12 1 (dk_at dksX0_holds_10 2 rfl rfl)
theorem dX0_holds_237 : decode cX0_holds 237 = .ok (.goto (-102), 3) := dk_167 255 154 (dk_at dksX0_holds_10 5 rfl rfl)
theorem dX0_holds_240 : decode cX0_holds 240 = .ok (.iinc 11 1, 3) := dk_132 11 1 (dk_at dksX0_holds_10 8 rfl rfl)
theorem dX0_holds_243 : decode cX0_holds 243 = .ok (.goto (-118), 3) := dk_167 255 138 (dk_at dksX0_holds_10 11 rfl rfl)
theorem dX0_holds_246 : decode cX0_holds 246 = .ok (.iload 5, 2) := dk_21 5 (dk_at dksX0_holds_10 14 rfl rfl)
theorem dX0_holds_248 : decode cX0_holds 248 = .ok (.ifCond .ne 8, 3) := dk_154 0 8 (dk_at dksX0_holds_10 16 rfl rfl)
theorem dX0_holds_251 : decode cX0_holds 251 = .ok (.iload 6, 2) := dk_21 6 (dk_at dksX0_holds_10 19 rfl rfl)
theorem dX0_holds_253 : decode cX0_holds 253 = .ok (.goto 16, 3) := dk_167 0 16 (dk_at dksX0_holds_10 21 rfl rfl)
theorem dX0_holds_256 : decode cX0_holds 256 = .ok (.iload 5, 2) := dk_21 5 (dk_at dksX0_holds_11 0 rfl rfl)
theorem dX0_holds_258 : decode cX0_holds 258 = .ok (.iconst 1, 1) := dk_4 (dk_at dksX0_holds_11 2 rfl rfl)
theorem dX0_holds_259 : decode cX0_holds 259 = .ok (.if_icmp .ne 8, 3) := dk_160 0 8 (dk_at dksX0_holds_11 3 rfl rfl)
theorem dX0_holds_262 : decode cX0_holds 262 = .ok (.iload 7, 2) := dk_21 7 (dk_at dksX0_holds_11 6 rfl rfl)
theorem dX0_holds_264 : decode cX0_holds 264 = .ok (.goto 5, 3) := dk_167 0 5 (dk_at dksX0_holds_11 8 rfl rfl)
theorem dX0_holds_267 : decode cX0_holds 267 = .ok (.iload 8, 2) := dk_21 8 (dk_at dksX0_holds_11 11 rfl rfl)
theorem dX0_holds_269 : decode cX0_holds 269 = .ok (.ireturn, 1) := dk_172 (dk_at dksX0_holds_11 13 rfl rfl)
abbrev cX0_doesHold : ByteArray := prog_1_method_31_code
def yX0_doesHold : MethodName := ⟨RX0, "doesHold", "(II)Z"⟩
def dkwX0_doesHold_2 : List UInt8 := [3, 172, 132, 3, 1, 167, 255, 205, 4, 172]
abbrev dktX0_doesHold_2 : List UInt8 := dkwX0_doesHold_2 ++ []
def dkwX0_doesHold_1 : List UInt8 := [148, 157, 0, 23, 42, 180, 0, 71, 27, 50, 29, 47, 42, 180, 0, 71, 27, 50, 28, 47, 148, 158, 0, 5]
abbrev dktX0_doesHold_1 : List UInt8 := dkwX0_doesHold_1 ++ dktX0_doesHold_2
def dkwX0_doesHold_0 : List UInt8 := [4, 62, 29, 16, 13, 163, 0, 51, 42, 180, 0, 68, 29, 50, 28, 47, 42, 180, 0, 68, 27, 50, 28, 47]
abbrev dktX0_doesHold_0 : List UInt8 := dkwX0_doesHold_0 ++ dktX0_doesHold_1
theorem dksX0_doesHold_0 : cX0_doesHold.data.toList.drop 0 = dktX0_doesHold_0 := by decide +kernel
theorem dksX0_doesHold_1 : cX0_doesHold.data.toList.drop 24 = dktX0_doesHold_1 := dk_seg dksX0_doesHold_0 24 rfl rfl
theorem dksX0_doesHold_2 : cX0_doesHold.data.toList.drop 48 = dktX0_doesHold_2 := dk_seg dksX0_doesHold_1 24 rfl rfl
theorem dX0_doesHold_0 : decode cX0_doesHold 0 = .ok (.iconst 1, 1) := dk_4 (dk_at dksX0_doesHold_0 0 rfl rfl)
theorem dX0_doesHold_1 : decode cX0_doesHold 1 = .ok (.istore_n 3, 1) := dk_62 (dk_at dksX0_doesHold_0 1 rfl rfl)
theorem dX0_doesHold_2 : decode cX0_doesHold 2 = .ok (.iload_n 3, 1) := dk_29 (dk_at dksX0_doesHold_0 2 rfl rfl)
theorem dX0_doesHold_3 : decode cX0_doesHold 3 = .ok (.bipush 13, 2) := dk_16 13 (dk_at dksX0_doesHold_0 3 rfl rfl)
theorem dX0_doesHold_5 : decode cX0_doesHold 5 = .ok (.if_icmp .gt 51, 3) := dk_163 0 51 (dk_at dksX0_doesHold_0 5 rfl rfl)
theorem dX0_doesHold_8 : decode cX0_doesHold 8 = .ok (.aload_n 0, 1) := dk_42 (dk_at dksX0_doesHold_0 8 rfl rfl)
theorem dX0_doesHold_9 : decode cX0_doesHold 9 = .ok (.getfield 68, 3) := dk_180 0 68 (dk_at dksX0_doesHold_0 9 rfl rfl)
theorem dX0_doesHold_12 : decode cX0_doesHold 12 = .ok (.iload_n 3, 1) := dk_29 (dk_at dksX0_doesHold_0 12 rfl rfl)
theorem dX0_doesHold_13 : decode cX0_doesHold 13 = .ok (.aaload, 1) := dk_50 (dk_at dksX0_doesHold_0 13 rfl rfl)
theorem dX0_doesHold_14 : decode cX0_doesHold 14 = .ok (.iload_n 2, 1) := dk_28 (dk_at dksX0_doesHold_0 14 rfl rfl)
theorem dX0_doesHold_15 : decode cX0_doesHold 15 = .ok (.laload, 1) := dk_47 (dk_at dksX0_doesHold_0 15 rfl rfl)
theorem dX0_doesHold_16 : decode cX0_doesHold 16 = .ok (.aload_n 0, 1) := dk_42 (dk_at dksX0_doesHold_0 16 rfl rfl)
theorem dX0_doesHold_17 : decode cX0_doesHold 17 = .ok (.getfield 68, 3) := dk_180 0 68 (dk_at dksX0_doesHold_0 17 rfl rfl)
theorem dX0_doesHold_20 : decode cX0_doesHold 20 = .ok (.iload_n 1, 1) := dk_27 (dk_at dksX0_doesHold_0 20 rfl rfl)
theorem dX0_doesHold_21 : decode cX0_doesHold 21 = .ok (.aaload, 1) := dk_50 (dk_at dksX0_doesHold_0 21 rfl rfl)
theorem dX0_doesHold_22 : decode cX0_doesHold 22 = .ok (.iload_n 2, 1) := dk_28 (dk_at dksX0_doesHold_0 22 rfl rfl)
theorem dX0_doesHold_23 : decode cX0_doesHold 23 = .ok (.laload, 1) := dk_47 (dk_at dksX0_doesHold_0 23 rfl rfl)
theorem dX0_doesHold_24 : decode cX0_doesHold 24 = .ok (.lcmp, 1) := dk_148 (dk_at dksX0_doesHold_1 0 rfl rfl)
theorem dX0_doesHold_25 : decode cX0_doesHold 25 = .ok (.ifCond .gt 23, 3) := dk_157 0 23 (dk_at dksX0_doesHold_1 1 rfl rfl)
theorem dX0_doesHold_28 : decode cX0_doesHold 28 = .ok (.aload_n 0, 1) := dk_42 (dk_at dksX0_doesHold_1 4 rfl rfl)
theorem dX0_doesHold_29 : decode cX0_doesHold 29 = .ok (.getfield 71, 3) := dk_180 0 71 (dk_at dksX0_doesHold_1 5 rfl rfl)
theorem dX0_doesHold_32 : decode cX0_doesHold 32 = .ok (.iload_n 1, 1) := dk_27 (dk_at dksX0_doesHold_1 8 rfl rfl)
theorem dX0_doesHold_33 : decode cX0_doesHold 33 = .ok (.aaload, 1) := dk_50 (dk_at dksX0_doesHold_1 9 rfl rfl)
theorem dX0_doesHold_34 : decode cX0_doesHold 34 = .ok (.iload_n 3, 1) := dk_29 (dk_at dksX0_doesHold_1 10 rfl rfl)
theorem dX0_doesHold_35 : decode cX0_doesHold 35 = .ok (.laload, 1) := dk_47 (dk_at dksX0_doesHold_1 11 rfl rfl)
theorem dX0_doesHold_36 : decode cX0_doesHold 36 = .ok (.aload_n 0, 1) := dk_42 (dk_at dksX0_doesHold_1 12 rfl rfl)
theorem dX0_doesHold_37 : decode cX0_doesHold 37 = .ok (.getfield 71, 3) := dk_180 0 71 (dk_at dksX0_doesHold_1 13 rfl rfl)
theorem dX0_doesHold_40 : decode cX0_doesHold 40 = .ok (.iload_n 1, 1) := dk_27 (dk_at dksX0_doesHold_1 16 rfl rfl)
theorem dX0_doesHold_41 : decode cX0_doesHold 41 = .ok (.aaload, 1) := dk_50 (dk_at dksX0_doesHold_1 17 rfl rfl)
theorem dX0_doesHold_42 : decode cX0_doesHold 42 = .ok (.iload_n 2, 1) := dk_28 (dk_at dksX0_doesHold_1 18 rfl rfl)
theorem dX0_doesHold_43 : decode cX0_doesHold 43 = .ok (.laload, 1) := dk_47 (dk_at dksX0_doesHold_1 19 rfl rfl)
theorem dX0_doesHold_44 : decode cX0_doesHold 44 = .ok (.lcmp, 1) := dk_148 (dk_at dksX0_doesHold_1 20 rfl rfl)
theorem dX0_doesHold_45 : decode cX0_doesHold 45 = .ok (.ifCond .le 5, 3) := dk_158 0 5 (dk_at dksX0_doesHold_1 21 rfl rfl)
theorem dX0_doesHold_48 : decode cX0_doesHold 48 = .ok (.iconst 0, 1) := dk_3 (dk_at dksX0_doesHold_2 0 rfl rfl)
theorem dX0_doesHold_49 : decode cX0_doesHold 49 = .ok (.ireturn, 1) := dk_172 (dk_at dksX0_doesHold_2 1 rfl rfl)
theorem dX0_doesHold_50 : decode cX0_doesHold 50 = .ok (.iinc 3 1, 3) := dk_132 3 1 (dk_at dksX0_doesHold_2 2 rfl rfl)
theorem dX0_doesHold_53 : decode cX0_doesHold 53 = .ok (.goto (-51), 3) := dk_167 255 205 (dk_at dksX0_doesHold_2 5 rfl rfl)
theorem dX0_doesHold_56 : decode cX0_doesHold 56 = .ok (.iconst 1, 1) := dk_4 (dk_at dksX0_doesHold_2 8 rfl rfl)
theorem dX0_doesHold_57 : decode cX0_doesHold 57 = .ok (.ireturn, 1) := dk_172 (dk_at dksX0_doesHold_2 9 rfl rfl)
abbrev cX0_rests : ByteArray := prog_1_method_34_code
def yX0_rests : MethodName := ⟨RX0, "rests", "(III)I"⟩
def dkwX0_rests_7 : List UInt8 := [132, 8, 1, 167, 255, 144, 132, 7, 1, 167, 255, 129, 21, 6, 172]
abbrev dktX0_rests_7 : List UInt8 := dkwX0_rests_7 ++ []
def dkwX0_rests_6 : List UInt8 := [21, 6, 21, 9, 153, 0, 15, 4, 6, 21, 7, 104, 21, 8, 96, 120, 167, 0, 4, 3, 128, 54, 6]
abbrev dktX0_rests_6 : List UInt8 := dkwX0_rests_6 ++ dktX0_rests_7
def dkwX0_rests_5 : List UInt8 := [21, 7, 29, 21, 5, 182, 0, 251, 163, 0, 7, 4, 167, 0, 4, 3, 54, 9, 132, 10, 1, 167, 255, 185]
abbrev dktX0_rests_5 : List UInt8 := dkwX0_rests_5 ++ dktX0_rests_6
def dkwX0_rests_4 : List UInt8 := [29, 21, 4, 182, 0, 251, 163, 0, 32, 42, 21, 10, 21, 7, 29, 21, 5, 182, 0, 251, 42, 21, 8]
abbrev dktX0_rests_4 : List UInt8 := dkwX0_rests_4 ++ dktX0_rests_5
def dkwX0_rests_3 : List UInt8 := [162, 0, 71, 21, 9, 153, 0, 57, 42, 21, 10, 21, 8, 29, 21, 4, 182, 0, 251, 42, 21, 7, 21, 8]
abbrev dktX0_rests_3 : List UInt8 := dkwX0_rests_3 ++ dktX0_rests_4
def dkwX0_rests_2 : List UInt8 := [6, 162, 0, 127, 3, 54, 8, 21, 8, 6, 162, 0, 112, 4, 54, 9, 3, 54, 10, 21, 10, 6]
abbrev dktX0_rests_2 : List UInt8 := dkwX0_rests_2 ++ dktX0_rests_3
def dkwX0_rests_1 : List UInt8 := [182, 0, 150, 54, 4, 42, 180, 0, 36, 28, 29, 182, 0, 150, 54, 5, 3, 54, 6, 3, 54, 7, 21, 7]
abbrev dktX0_rests_1 : List UInt8 := dkwX0_rests_1 ++ dktX0_rests_2
def dkwX0_rests_0 : List UInt8 := [42, 27, 28, 182, 0, 137, 153, 0, 10, 29, 184, 0, 141, 154, 0, 5, 2, 172, 42, 180, 0, 36, 27, 29]
abbrev dktX0_rests_0 : List UInt8 := dkwX0_rests_0 ++ dktX0_rests_1
theorem dksX0_rests_0 : cX0_rests.data.toList.drop 0 = dktX0_rests_0 := by decide +kernel
theorem dksX0_rests_1 : cX0_rests.data.toList.drop 24 = dktX0_rests_1 := dk_seg dksX0_rests_0 24 rfl rfl
theorem dksX0_rests_2 : cX0_rests.data.toList.drop 48 = dktX0_rests_2 := dk_seg dksX0_rests_1 24 rfl rfl
theorem dksX0_rests_3 : cX0_rests.data.toList.drop 70 = dktX0_rests_3 := dk_seg dksX0_rests_2 22 rfl rfl
theorem dksX0_rests_4 : cX0_rests.data.toList.drop 94 = dktX0_rests_4 := dk_seg dksX0_rests_3 24 rfl rfl
theorem dksX0_rests_5 : cX0_rests.data.toList.drop 117 = dktX0_rests_5 := dk_seg dksX0_rests_4 23 rfl rfl
theorem dksX0_rests_6 : cX0_rests.data.toList.drop 141 = dktX0_rests_6 := dk_seg dksX0_rests_5 24 rfl rfl
theorem dksX0_rests_7 : cX0_rests.data.toList.drop 164 = dktX0_rests_7 := dk_seg dksX0_rests_6 23 rfl rfl
theorem dX0_rests_0 : decode cX0_rests 0 = .ok (.aload_n 0, 1) := dk_42 (dk_at dksX0_rests_0 0 rfl rfl)
theorem dX0_rests_1 : decode cX0_rests 1 = .ok (.iload_n 1, 1) := dk_27 (dk_at dksX0_rests_0 1 rfl rfl)
theorem dX0_rests_2 : decode cX0_rests 2 = .ok (.iload_n 2, 1) := dk_28 (dk_at dksX0_rests_0 2 rfl rfl)
theorem dX0_rests_3 : decode cX0_rests 3 = .ok (.invokevirtual 137, 3) := dk_182 0 137 (dk_at dksX0_rests_0 3 rfl rfl)
theorem dX0_rests_6 : decode cX0_rests 6 = .ok (.ifCond .eq 10, 3) := dk_153 0 10 (dk_at dksX0_rests_0 6 rfl rfl)
theorem dX0_rests_9 : decode cX0_rests 9 = .ok (.iload_n 3, 1) := dk_29 (dk_at dksX0_rests_0 9 rfl rfl)
theorem dX0_rests_10 : decode cX0_rests 10 = .ok (.invokestatic 141, 3) := dk_184 0 141 (dk_at dksX0_rests_0 10 rfl rfl)
theorem dX0_rests_13 : decode cX0_rests 13 = .ok (.ifCond .ne 5, 3) := dk_154 0 5 (dk_at dksX0_rests_0 13 rfl rfl)
theorem dX0_rests_16 : decode cX0_rests 16 = .ok (.iconst (-1), 1) := dk_2 (dk_at dksX0_rests_0 16 rfl rfl)
theorem dX0_rests_17 : decode cX0_rests 17 = .ok (.ireturn, 1) := dk_172 (dk_at dksX0_rests_0 17 rfl rfl)
theorem dX0_rests_18 : decode cX0_rests 18 = .ok (.aload_n 0, 1) := dk_42 (dk_at dksX0_rests_0 18 rfl rfl)
theorem dX0_rests_19 : decode cX0_rests 19 = .ok (.getfield 36, 3) := dk_180 0 36 (dk_at dksX0_rests_0 19 rfl rfl)
theorem dX0_rests_22 : decode cX0_rests 22 = .ok (.iload_n 1, 1) := dk_27 (dk_at dksX0_rests_0 22 rfl rfl)
theorem dX0_rests_23 : decode cX0_rests 23 = .ok (.iload_n 3, 1) := dk_29 (dk_at dksX0_rests_0 23 rfl rfl)
theorem dX0_rests_24 : decode cX0_rests 24 = .ok (.invokevirtual 150, 3) := dk_182 0 150 (dk_at dksX0_rests_1 0 rfl rfl)
theorem dX0_rests_27 : decode cX0_rests 27 = .ok (.istore 4, 2) := dk_54 4 (dk_at dksX0_rests_1 3 rfl rfl)
theorem dX0_rests_29 : decode cX0_rests 29 = .ok (.aload_n 0, 1) := dk_42 (dk_at dksX0_rests_1 5 rfl rfl)
theorem dX0_rests_30 : decode cX0_rests 30 = .ok (.getfield 36, 3) := dk_180 0 36 (dk_at dksX0_rests_1 6 rfl rfl)
theorem dX0_rests_33 : decode cX0_rests 33 = .ok (.iload_n 2, 1) := dk_28 (dk_at dksX0_rests_1 9 rfl rfl)
theorem dX0_rests_34 : decode cX0_rests 34 = .ok (.iload_n 3, 1) := dk_29 (dk_at dksX0_rests_1 10 rfl rfl)
theorem dX0_rests_35 : decode cX0_rests 35 = .ok (.invokevirtual 150, 3) := dk_182 0 150 (dk_at dksX0_rests_1 11 rfl rfl)
theorem dX0_rests_38 : decode cX0_rests 38 = .ok (.istore 5, 2) := dk_54 5 (dk_at dksX0_rests_1 14 rfl rfl)
theorem dX0_rests_40 : decode cX0_rests 40 = .ok (.iconst 0, 1) := dk_3 (dk_at dksX0_rests_1 16 rfl rfl)
theorem dX0_rests_41 : decode cX0_rests 41 = .ok (.istore 6, 2) := dk_54 6 (dk_at dksX0_rests_1 17 rfl rfl)
theorem dX0_rests_43 : decode cX0_rests 43 = .ok (.iconst 0, 1) := dk_3 (dk_at dksX0_rests_1 19 rfl rfl)
theorem dX0_rests_44 : decode cX0_rests 44 = .ok (.istore 7, 2) := dk_54 7 (dk_at dksX0_rests_1 20 rfl rfl)
theorem dX0_rests_46 : decode cX0_rests 46 = .ok (.iload 7, 2) := dk_21 7 (dk_at dksX0_rests_1 22 rfl rfl)
theorem dX0_rests_48 : decode cX0_rests 48 = .ok (.iconst 3, 1) := dk_6 (dk_at dksX0_rests_2 0 rfl rfl)
theorem dX0_rests_49 : decode cX0_rests 49 = .ok (.if_icmp .ge 127, 3) := dk_162 0 127 (dk_at dksX0_rests_2 1 rfl rfl)
theorem dX0_rests_52 : decode cX0_rests 52 = .ok (.iconst 0, 1) := dk_3 (dk_at dksX0_rests_2 4 rfl rfl)
theorem dX0_rests_53 : decode cX0_rests 53 = .ok (.istore 8, 2) := dk_54 8 (dk_at dksX0_rests_2 5 rfl rfl)
theorem dX0_rests_55 : decode cX0_rests 55 = .ok (.iload 8, 2) := dk_21 8 (dk_at dksX0_rests_2 7 rfl rfl)
theorem dX0_rests_57 : decode cX0_rests 57 = .ok (.iconst 3, 1) := dk_6 (dk_at dksX0_rests_2 9 rfl rfl)
theorem dX0_rests_58 : decode cX0_rests 58 = .ok (.if_icmp .ge 112, 3) := dk_162 0 112 (dk_at dksX0_rests_2 10 rfl rfl)
theorem dX0_rests_61 : decode cX0_rests 61 = .ok (.iconst 1, 1) := dk_4 (dk_at dksX0_rests_2 13 rfl rfl)
theorem dX0_rests_62 : decode cX0_rests 62 = .ok (.istore 9, 2) := dk_54 9 (dk_at dksX0_rests_2 14 rfl rfl)
theorem dX0_rests_64 : decode cX0_rests 64 = .ok (.iconst 0, 1) := dk_3 (dk_at dksX0_rests_2 16 rfl rfl)
theorem dX0_rests_65 : decode cX0_rests 65 = .ok (.istore 10, 2) := dk_54 10 (dk_at dksX0_rests_2 17 rfl rfl)
theorem dX0_rests_67 : decode cX0_rests 67 = .ok (.iload 10, 2) := dk_21 10 (dk_at dksX0_rests_2 19 rfl rfl)
theorem dX0_rests_69 : decode cX0_rests 69 = .ok (.iconst 3, 1) := dk_6 (dk_at dksX0_rests_2 21 rfl rfl)
theorem dX0_rests_70 : decode cX0_rests 70 = .ok (.if_icmp .ge 71, 3) := dk_162 0 71 (dk_at dksX0_rests_3 0 rfl rfl)
theorem dX0_rests_73 : decode cX0_rests 73 = .ok (.iload 9, 2) := dk_21 9 (dk_at dksX0_rests_3 3 rfl rfl)
theorem dX0_rests_75 : decode cX0_rests 75 = .ok (.ifCond .eq 57, 3) := dk_153 0 57 (dk_at dksX0_rests_3 5 rfl rfl)
theorem dX0_rests_78 : decode cX0_rests 78 = .ok (.aload_n 0, 1) := dk_42 (dk_at dksX0_rests_3 8 rfl rfl)
theorem dX0_rests_79 : decode cX0_rests 79 = .ok (.iload 10, 2) := dk_21 10 (dk_at dksX0_rests_3 9 rfl rfl)
theorem dX0_rests_81 : decode cX0_rests 81 = .ok (.iload 8, 2) := dk_21 8 (dk_at dksX0_rests_3 11 rfl rfl)
theorem dX0_rests_83 : decode cX0_rests 83 = .ok (.iload_n 3, 1) := dk_29 (dk_at dksX0_rests_3 13 rfl rfl)
theorem dX0_rests_84 : decode cX0_rests 84 = .ok (.iload 4, 2) := dk_21 4 (dk_at dksX0_rests_3 14 rfl rfl)
theorem dX0_rests_86 : decode cX0_rests 86 = .ok (.invokevirtual 251, 3) := dk_182 0 251 (dk_at dksX0_rests_3 16 rfl rfl)
theorem dX0_rests_89 : decode cX0_rests 89 = .ok (.aload_n 0, 1) := dk_42 (dk_at dksX0_rests_3 19 rfl rfl)
theorem dX0_rests_90 : decode cX0_rests 90 = .ok (.iload 7, 2) := dk_21 7 (dk_at dksX0_rests_3 20 rfl rfl)
theorem dX0_rests_92 : decode cX0_rests 92 = .ok (.iload 8, 2) := dk_21 8 (dk_at dksX0_rests_3 22 rfl rfl)
theorem dX0_rests_94 : decode cX0_rests 94 = .ok (.iload_n 3, 1) := dk_29 (dk_at dksX0_rests_4 0 rfl rfl)
theorem dX0_rests_95 : decode cX0_rests 95 = .ok (.iload 4, 2) := dk_21 4 (dk_at dksX0_rests_4 1 rfl rfl)
theorem dX0_rests_97 : decode cX0_rests 97 = .ok (.invokevirtual 251, 3) := dk_182 0 251 (dk_at dksX0_rests_4 3 rfl rfl)
theorem dX0_rests_100 : decode cX0_rests 100 = .ok (.if_icmp .gt 32, 3) := dk_163 0 32 (dk_at dksX0_rests_4 6 rfl rfl)
theorem dX0_rests_103 : decode cX0_rests 103 = .ok (.aload_n 0, 1) := dk_42 (dk_at dksX0_rests_4 9 rfl rfl)
theorem dX0_rests_104 : decode cX0_rests 104 = .ok (.iload 10, 2) := dk_21 10 (dk_at dksX0_rests_4 10 rfl rfl)
theorem dX0_rests_106 : decode cX0_rests 106 = .ok (.iload 7, 2) := dk_21 7 (dk_at dksX0_rests_4 12 rfl rfl)
theorem dX0_rests_108 : decode cX0_rests 108 = .ok (.iload_n 3, 1) := dk_29 (dk_at dksX0_rests_4 14 rfl rfl)
theorem dX0_rests_109 : decode cX0_rests 109 = .ok (.iload 5, 2) := dk_21 5 (dk_at dksX0_rests_4 15 rfl rfl)
theorem dX0_rests_111 : decode cX0_rests 111 = .ok (.invokevirtual 251, 3) := dk_182 0 251 (dk_at dksX0_rests_4 17 rfl rfl)
theorem dX0_rests_114 : decode cX0_rests 114 = .ok (.aload_n 0, 1) := dk_42 (dk_at dksX0_rests_4 20 rfl rfl)
theorem dX0_rests_115 : decode cX0_rests 115 = .ok (.iload 8, 2) := dk_21 8 (dk_at dksX0_rests_4 21 rfl rfl)
theorem dX0_rests_117 : decode cX0_rests 117 = .ok (.iload 7, 2) := dk_21 7 (dk_at dksX0_rests_5 0 rfl rfl)
theorem dX0_rests_119 : decode cX0_rests 119 = .ok (.iload_n 3, 1) := dk_29 (dk_at dksX0_rests_5 2 rfl rfl)
theorem dX0_rests_120 : decode cX0_rests 120 = .ok (.iload 5, 2) := dk_21 5 (dk_at dksX0_rests_5 3 rfl rfl)
theorem dX0_rests_122 : decode cX0_rests 122 = .ok (.invokevirtual 251, 3) := dk_182 0 251 (dk_at dksX0_rests_5 5 rfl rfl)
theorem dX0_rests_125 : decode cX0_rests 125 = .ok (.if_icmp .gt 7, 3) := dk_163 0 7 (dk_at dksX0_rests_5 8 rfl rfl)
theorem dX0_rests_128 : decode cX0_rests 128 = .ok (.iconst 1, 1) := dk_4 (dk_at dksX0_rests_5 11 rfl rfl)
theorem dX0_rests_129 : decode cX0_rests 129 = .ok (.goto 4, 3) := dk_167 0 4 (dk_at dksX0_rests_5 12 rfl rfl)
theorem dX0_rests_132 : decode cX0_rests 132 = .ok (.iconst 0, 1) := dk_3 (dk_at dksX0_rests_5 15 rfl rfl)
theorem dX0_rests_133 : decode cX0_rests 133 = .ok (.istore 9, 2) := dk_54 9 (dk_at dksX0_rests_5 16 rfl rfl)
theorem dX0_rests_135 : decode cX0_rests 135 = .ok (.iinc 10 1, 3) := dk_132 10 1 (dk_at dksX0_rests_5 18 rfl rfl)
theorem dX0_rests_138 : decode cX0_rests 138 = .ok (.goto (-71), 3) := dk_167 255 185 (dk_at dksX0_rests_5 21 rfl rfl)
theorem dX0_rests_141 : decode cX0_rests 141 = .ok (.iload 6, 2) := dk_21 6 (dk_at dksX0_rests_6 0 rfl rfl)
theorem dX0_rests_143 : decode cX0_rests 143 = .ok (.iload 9, 2) := dk_21 9 (dk_at dksX0_rests_6 2 rfl rfl)
theorem dX0_rests_145 : decode cX0_rests 145 = .ok (.ifCond .eq 15, 3) := dk_153 0 15 (dk_at dksX0_rests_6 4 rfl rfl)
theorem dX0_rests_148 : decode cX0_rests 148 = .ok (.iconst 1, 1) := dk_4 (dk_at dksX0_rests_6 7 rfl rfl)
theorem dX0_rests_149 : decode cX0_rests 149 = .ok (.iconst 3, 1) := dk_6 (dk_at dksX0_rests_6 8 rfl rfl)
theorem dX0_rests_150 : decode cX0_rests 150 = .ok (.iload 7, 2) := dk_21 7 (dk_at dksX0_rests_6 9 rfl rfl)
theorem dX0_rests_152 : decode cX0_rests 152 = .ok (.imul, 1) := dk_104 (dk_at dksX0_rests_6 11 rfl rfl)
theorem dX0_rests_153 : decode cX0_rests 153 = .ok (.iload 8, 2) := dk_21 8 (dk_at dksX0_rests_6 12 rfl rfl)
theorem dX0_rests_155 : decode cX0_rests 155 = .ok (.iadd, 1) := dk_96 (dk_at dksX0_rests_6 14 rfl rfl)
theorem dX0_rests_156 : decode cX0_rests 156 = .ok (.ishl, 1) := dk_120 (dk_at dksX0_rests_6 15 rfl rfl)
theorem dX0_rests_157 : decode cX0_rests 157 = .ok (.goto 4, 3) := dk_167 0 4 (dk_at dksX0_rests_6 16 rfl rfl)
theorem dX0_rests_160 : decode cX0_rests 160 = .ok (.iconst 0, 1) := dk_3 (dk_at dksX0_rests_6 19 rfl rfl)
theorem dX0_rests_161 : decode cX0_rests 161 = .ok (.ior, 1) := dk_128 (dk_at dksX0_rests_6 20 rfl rfl)
theorem dX0_rests_162 : decode cX0_rests 162 = .ok (.istore 6, 2) := dk_54 6 (dk_at dksX0_rests_6 21 rfl rfl)
theorem dX0_rests_164 : decode cX0_rests 164 = .ok (.iinc 8 1, 3) := dk_132 8 1 (dk_at dksX0_rests_7 0 rfl rfl)
theorem dX0_rests_167 : decode cX0_rests 167 = .ok (.goto (-112), 3) := dk_167 255 144 (dk_at dksX0_rests_7 3 rfl rfl)
theorem dX0_rests_170 : decode cX0_rests 170 = .ok (.iinc 7 1, 3) := dk_132 7 1 (dk_at dksX0_rests_7 6 rfl rfl)
theorem dX0_rests_173 : decode cX0_rests 173 = .ok (.goto (-127), 3) := dk_167 255 129 (dk_at dksX0_rests_7 9 rfl rfl)
theorem dX0_rests_176 : decode cX0_rests 176 = .ok (.iload 6, 2) := dk_21 6 (dk_at dksX0_rests_7 12 rfl rfl)
theorem dX0_rests_178 : decode cX0_rests 178 = .ok (.ireturn, 1) := dk_172 (dk_at dksX0_rests_7 14 rfl rfl)
abbrev cX0_value : ByteArray := prog_1_method_33_code
def yX0_value : MethodName := ⟨RX0, "value", "(IIIZ)I"⟩
def dkwX0_value_3 : List UInt8 := [180, 0, 133, 7, 46, 104, 29, 104, 100, 167, 0, 5, 21, 5, 172]
abbrev dktX0_value_3 : List UInt8 := dkwX0_value_3 ++ []
def dkwX0_value_2 : List UInt8 := [160, 0, 35, 21, 4, 154, 0, 30, 21, 5, 42, 180, 0, 36, 180, 0, 133, 8, 46, 42, 180, 0, 36]
abbrev dktX0_value_2 : List UInt8 := dkwX0_value_2 ++ dktX0_value_3
def dkwX0_value_1 : List UInt8 := [167, 0, 4, 3, 28, 5, 160, 0, 7, 4, 167, 0, 4, 3, 182, 0, 247, 104, 29, 104, 54, 5, 27, 5]
abbrev dktX0_value_1 : List UInt8 := dkwX0_value_1 ++ dktX0_value_2
def dkwX0_value_0 : List UInt8 := [27, 153, 0, 7, 28, 154, 0, 5, 3, 172, 17, 3, 232, 42, 180, 0, 36, 27, 5, 160, 0, 7, 4]
abbrev dktX0_value_0 : List UInt8 := dkwX0_value_0 ++ dktX0_value_1
theorem dksX0_value_0 : cX0_value.data.toList.drop 0 = dktX0_value_0 := by decide +kernel
theorem dksX0_value_1 : cX0_value.data.toList.drop 23 = dktX0_value_1 := dk_seg dksX0_value_0 23 rfl rfl
theorem dksX0_value_2 : cX0_value.data.toList.drop 47 = dktX0_value_2 := dk_seg dksX0_value_1 24 rfl rfl
theorem dksX0_value_3 : cX0_value.data.toList.drop 70 = dktX0_value_3 := dk_seg dksX0_value_2 23 rfl rfl
theorem dX0_value_0 : decode cX0_value 0 = .ok (.iload_n 1, 1) := dk_27 (dk_at dksX0_value_0 0 rfl rfl)
theorem dX0_value_1 : decode cX0_value 1 = .ok (.ifCond .eq 7, 3) := dk_153 0 7 (dk_at dksX0_value_0 1 rfl rfl)
theorem dX0_value_4 : decode cX0_value 4 = .ok (.iload_n 2, 1) := dk_28 (dk_at dksX0_value_0 4 rfl rfl)
theorem dX0_value_5 : decode cX0_value 5 = .ok (.ifCond .ne 5, 3) := dk_154 0 5 (dk_at dksX0_value_0 5 rfl rfl)
theorem dX0_value_8 : decode cX0_value 8 = .ok (.iconst 0, 1) := dk_3 (dk_at dksX0_value_0 8 rfl rfl)
theorem dX0_value_9 : decode cX0_value 9 = .ok (.ireturn, 1) := dk_172 (dk_at dksX0_value_0 9 rfl rfl)
theorem dX0_value_10 : decode cX0_value 10 = .ok (.sipush 1000, 3) := dk_17 3 232 (dk_at dksX0_value_0 10 rfl rfl)
theorem dX0_value_13 : decode cX0_value 13 = .ok (.aload_n 0, 1) := dk_42 (dk_at dksX0_value_0 13 rfl rfl)
theorem dX0_value_14 : decode cX0_value 14 = .ok (.getfield 36, 3) := dk_180 0 36 (dk_at dksX0_value_0 14 rfl rfl)
theorem dX0_value_17 : decode cX0_value 17 = .ok (.iload_n 1, 1) := dk_27 (dk_at dksX0_value_0 17 rfl rfl)
theorem dX0_value_18 : decode cX0_value 18 = .ok (.iconst 2, 1) := dk_5 (dk_at dksX0_value_0 18 rfl rfl)
theorem dX0_value_19 : decode cX0_value 19 = .ok (.if_icmp .ne 7, 3) := dk_160 0 7 (dk_at dksX0_value_0 19 rfl rfl)
theorem dX0_value_22 : decode cX0_value 22 = .ok (.iconst 1, 1) := dk_4 (dk_at dksX0_value_0 22 rfl rfl)
theorem dX0_value_23 : decode cX0_value 23 = .ok (.goto 4, 3) := dk_167 0 4 (dk_at dksX0_value_1 0 rfl rfl)
theorem dX0_value_26 : decode cX0_value 26 = .ok (.iconst 0, 1) := dk_3 (dk_at dksX0_value_1 3 rfl rfl)
theorem dX0_value_27 : decode cX0_value 27 = .ok (.iload_n 2, 1) := dk_28 (dk_at dksX0_value_1 4 rfl rfl)
theorem dX0_value_28 : decode cX0_value 28 = .ok (.iconst 2, 1) := dk_5 (dk_at dksX0_value_1 5 rfl rfl)
theorem dX0_value_29 : decode cX0_value 29 = .ok (.if_icmp .ne 7, 3) := dk_160 0 7 (dk_at dksX0_value_1 6 rfl rfl)
theorem dX0_value_32 : decode cX0_value 32 = .ok (.iconst 1, 1) := dk_4 (dk_at dksX0_value_1 9 rfl rfl)
theorem dX0_value_33 : decode cX0_value 33 = .ok (.goto 4, 3) := dk_167 0 4 (dk_at dksX0_value_1 10 rfl rfl)
theorem dX0_value_36 : decode cX0_value 36 = .ok (.iconst 0, 1) := dk_3 (dk_at dksX0_value_1 13 rfl rfl)
theorem dX0_value_37 : decode cX0_value 37 = .ok (.invokevirtual 247, 3) := dk_182 0 247 (dk_at dksX0_value_1 14 rfl rfl)
theorem dX0_value_40 : decode cX0_value 40 = .ok (.imul, 1) := dk_104 (dk_at dksX0_value_1 17 rfl rfl)
theorem dX0_value_41 : decode cX0_value 41 = .ok (.iload_n 3, 1) := dk_29 (dk_at dksX0_value_1 18 rfl rfl)
theorem dX0_value_42 : decode cX0_value 42 = .ok (.imul, 1) := dk_104 (dk_at dksX0_value_1 19 rfl rfl)
theorem dX0_value_43 : decode cX0_value 43 = .ok (.istore 5, 2) := dk_54 5 (dk_at dksX0_value_1 20 rfl rfl)
theorem dX0_value_45 : decode cX0_value 45 = .ok (.iload_n 1, 1) := dk_27 (dk_at dksX0_value_1 22 rfl rfl)
theorem dX0_value_46 : decode cX0_value 46 = .ok (.iconst 2, 1) := dk_5 (dk_at dksX0_value_1 23 rfl rfl)
theorem dX0_value_47 : decode cX0_value 47 = .ok (.if_icmp .ne 35, 3) := dk_160 0 35 (dk_at dksX0_value_2 0 rfl rfl)
theorem dX0_value_50 : decode cX0_value 50 = .ok (.iload 4, 2) := dk_21 4 (dk_at dksX0_value_2 3 rfl rfl)
theorem dX0_value_52 : decode cX0_value 52 = .ok (.ifCond .ne 30, 3) := dk_154 0 30 (dk_at dksX0_value_2 5 rfl rfl)
theorem dX0_value_55 : decode cX0_value 55 = .ok (.iload 5, 2) := dk_21 5 (dk_at dksX0_value_2 8 rfl rfl)
theorem dX0_value_57 : decode cX0_value 57 = .ok (.aload_n 0, 1) := dk_42 (dk_at dksX0_value_2 10 rfl rfl)
theorem dX0_value_58 : decode cX0_value 58 = .ok (.getfield 36, 3) := dk_180 0 36 (dk_at dksX0_value_2 11 rfl rfl)
theorem dX0_value_61 : decode cX0_value 61 = .ok (.getfield 133, 3) := dk_180 0 133 (dk_at dksX0_value_2 14 rfl rfl)
theorem dX0_value_64 : decode cX0_value 64 = .ok (.iconst 5, 1) := dk_8 (dk_at dksX0_value_2 17 rfl rfl)
theorem dX0_value_65 : decode cX0_value 65 = .ok (.iaload, 1) := dk_46 (dk_at dksX0_value_2 18 rfl rfl)
theorem dX0_value_66 : decode cX0_value 66 = .ok (.aload_n 0, 1) := dk_42 (dk_at dksX0_value_2 19 rfl rfl)
theorem dX0_value_67 : decode cX0_value 67 = .ok (.getfield 36, 3) := dk_180 0 36 (dk_at dksX0_value_2 20 rfl rfl)
theorem dX0_value_70 : decode cX0_value 70 = .ok (.getfield 133, 3) := dk_180 0 133 (dk_at dksX0_value_3 0 rfl rfl)
theorem dX0_value_73 : decode cX0_value 73 = .ok (.iconst 4, 1) := dk_7 (dk_at dksX0_value_3 3 rfl rfl)
theorem dX0_value_74 : decode cX0_value 74 = .ok (.iaload, 1) := dk_46 (dk_at dksX0_value_3 4 rfl rfl)
theorem dX0_value_75 : decode cX0_value 75 = .ok (.imul, 1) := dk_104 (dk_at dksX0_value_3 5 rfl rfl)
theorem dX0_value_76 : decode cX0_value 76 = .ok (.iload_n 3, 1) := dk_29 (dk_at dksX0_value_3 6 rfl rfl)
theorem dX0_value_77 : decode cX0_value 77 = .ok (.imul, 1) := dk_104 (dk_at dksX0_value_3 7 rfl rfl)
theorem dX0_value_78 : decode cX0_value 78 = .ok (.isub, 1) := dk_100 (dk_at dksX0_value_3 8 rfl rfl)
theorem dX0_value_79 : decode cX0_value 79 = .ok (.goto 5, 3) := dk_167 0 5 (dk_at dksX0_value_3 9 rfl rfl)
theorem dX0_value_82 : decode cX0_value 82 = .ok (.iload 5, 2) := dk_21 5 (dk_at dksX0_value_3 12 rfl rfl)
theorem dX0_value_84 : decode cX0_value 84 = .ok (.ireturn, 1) := dk_172 (dk_at dksX0_value_3 14 rfl rfl)
abbrev cX0_whom : ByteArray := prog_1_method_35_code
def yX0_whom : MethodName := ⟨RX0, "whom", "(II)I"⟩
def dkwX0_whom_6 : List UInt8 := [29, 172]
abbrev dktX0_whom_6 : List UInt8 := dkwX0_whom_6 ++ []
def dkwX0_whom_5 : List UInt8 := [180, 0, 36, 180, 0, 123, 29, 50, 3, 182, 1, 2, 164, 0, 6, 21, 4, 62, 132, 4, 1, 167, 255, 140]
abbrev dktX0_whom_5 : List UInt8 := dkwX0_whom_5 ++ dktX0_whom_6
def dkwX0_whom_4 : List UInt8 := [167, 0, 41, 29, 2, 159, 0, 33, 42, 180, 0, 36, 180, 0, 123, 21, 4, 50, 3, 182, 1, 2, 42]
abbrev dktX0_whom_4 : List UInt8 := dkwX0_whom_4 ++ dktX0_whom_5
def dkwX0_whom_3 : List UInt8 := [21, 4, 27, 28, 182, 0, 144, 153, 0, 58, 42, 180, 0, 36, 21, 4, 27, 28, 182, 0, 147, 153, 0, 6]
abbrev dktX0_whom_3 : List UInt8 := dkwX0_whom_3 ++ dktX0_whom_4
def dkwX0_whom_2 : List UInt8 := [182, 0, 255, 154, 0, 86, 42, 180, 0, 36, 27, 21, 4, 28, 182, 0, 144, 153, 0, 72, 42, 180, 0, 36]
abbrev dktX0_whom_2 : List UInt8 := dkwX0_whom_2 ++ dktX0_whom_3
def dkwX0_whom_1 : List UInt8 := [42, 180, 0, 36, 180, 0, 116, 162, 0, 110, 21, 4, 27, 159, 0, 98, 42, 180, 0, 36, 21, 4]
abbrev dktX0_whom_1 : List UInt8 := dkwX0_whom_1 ++ dktX0_whom_2
def dkwX0_whom_0 : List UInt8 := [42, 27, 182, 0, 119, 153, 0, 10, 28, 184, 0, 141, 154, 0, 5, 2, 172, 2, 62, 3, 54, 4, 21, 4]
abbrev dktX0_whom_0 : List UInt8 := dkwX0_whom_0 ++ dktX0_whom_1
theorem dksX0_whom_0 : cX0_whom.data.toList.drop 0 = dktX0_whom_0 := by decide +kernel
theorem dksX0_whom_1 : cX0_whom.data.toList.drop 24 = dktX0_whom_1 := dk_seg dksX0_whom_0 24 rfl rfl
theorem dksX0_whom_2 : cX0_whom.data.toList.drop 46 = dktX0_whom_2 := dk_seg dksX0_whom_1 22 rfl rfl
theorem dksX0_whom_3 : cX0_whom.data.toList.drop 70 = dktX0_whom_3 := dk_seg dksX0_whom_2 24 rfl rfl
theorem dksX0_whom_4 : cX0_whom.data.toList.drop 94 = dktX0_whom_4 := dk_seg dksX0_whom_3 24 rfl rfl
theorem dksX0_whom_5 : cX0_whom.data.toList.drop 117 = dktX0_whom_5 := dk_seg dksX0_whom_4 23 rfl rfl
theorem dksX0_whom_6 : cX0_whom.data.toList.drop 141 = dktX0_whom_6 := dk_seg dksX0_whom_5 24 rfl rfl
theorem dX0_whom_0 : decode cX0_whom 0 = .ok (.aload_n 0, 1) := dk_42 (dk_at dksX0_whom_0 0 rfl rfl)
theorem dX0_whom_1 : decode cX0_whom 1 = .ok (.iload_n 1, 1) := dk_27 (dk_at dksX0_whom_0 1 rfl rfl)
theorem dX0_whom_2 : decode cX0_whom 2 = .ok (.invokevirtual 119, 3) := dk_182 0 119 (dk_at dksX0_whom_0 2 rfl rfl)
theorem dX0_whom_5 : decode cX0_whom 5 = .ok (.ifCond .eq 10, 3) := dk_153 0 10 (dk_at dksX0_whom_0 5 rfl rfl)
theorem dX0_whom_8 : decode cX0_whom 8 = .ok (.iload_n 2, 1) := dk_28 (dk_at dksX0_whom_0 8 rfl rfl)
theorem dX0_whom_9 : decode cX0_whom 9 = .ok (.invokestatic 141, 3) := dk_184 0 141 (dk_at dksX0_whom_0 9 rfl rfl)
theorem dX0_whom_12 : decode cX0_whom 12 = .ok (.ifCond .ne 5, 3) := dk_154 0 5 (dk_at dksX0_whom_0 12 rfl rfl)
theorem dX0_whom_15 : decode cX0_whom 15 = .ok (.iconst (-1), 1) := dk_2 (dk_at dksX0_whom_0 15 rfl rfl)
theorem dX0_whom_16 : decode cX0_whom 16 = .ok (.ireturn, 1) := dk_172 (dk_at dksX0_whom_0 16 rfl rfl)
theorem dX0_whom_17 : decode cX0_whom 17 = .ok (.iconst (-1), 1) := dk_2 (dk_at dksX0_whom_0 17 rfl rfl)
theorem dX0_whom_18 : decode cX0_whom 18 = .ok (.istore_n 3, 1) := dk_62 (dk_at dksX0_whom_0 18 rfl rfl)
theorem dX0_whom_19 : decode cX0_whom 19 = .ok (.iconst 0, 1) := dk_3 (dk_at dksX0_whom_0 19 rfl rfl)
theorem dX0_whom_20 : decode cX0_whom 20 = .ok (.istore 4, 2) := dk_54 4 (dk_at dksX0_whom_0 20 rfl rfl)
theorem dX0_whom_22 : decode cX0_whom 22 = .ok (.iload 4, 2) := dk_21 4 (dk_at dksX0_whom_0 22 rfl rfl)
theorem dX0_whom_24 : decode cX0_whom 24 = .ok (.aload_n 0, 1) := dk_42 (dk_at dksX0_whom_1 0 rfl rfl)
theorem dX0_whom_25 : decode cX0_whom 25 = .ok (.getfield 36, 3) := dk_180 0 36 (dk_at dksX0_whom_1 1 rfl rfl)
theorem dX0_whom_28 : decode cX0_whom 28 = .ok (.getfield 116, 3) := dk_180 0 116 (dk_at dksX0_whom_1 4 rfl rfl)
theorem dX0_whom_31 : decode cX0_whom 31 = .ok (.if_icmp .ge 110, 3) := dk_162 0 110 (dk_at dksX0_whom_1 7 rfl rfl)
theorem dX0_whom_34 : decode cX0_whom 34 = .ok (.iload 4, 2) := dk_21 4 (dk_at dksX0_whom_1 10 rfl rfl)
theorem dX0_whom_36 : decode cX0_whom 36 = .ok (.iload_n 1, 1) := dk_27 (dk_at dksX0_whom_1 12 rfl rfl)
theorem dX0_whom_37 : decode cX0_whom 37 = .ok (.if_icmp .eq 98, 3) := dk_159 0 98 (dk_at dksX0_whom_1 13 rfl rfl)
theorem dX0_whom_40 : decode cX0_whom 40 = .ok (.aload_n 0, 1) := dk_42 (dk_at dksX0_whom_1 16 rfl rfl)
theorem dX0_whom_41 : decode cX0_whom 41 = .ok (.getfield 36, 3) := dk_180 0 36 (dk_at dksX0_whom_1 17 rfl rfl)
theorem dX0_whom_44 : decode cX0_whom 44 = .ok (.iload 4, 2) := dk_21 4 (dk_at dksX0_whom_1 20 rfl rfl)
theorem dX0_whom_46 : decode cX0_whom 46 = .ok (.invokevirtual 255, 3) := dk_182 0 255 (dk_at dksX0_whom_2 0 rfl rfl)
theorem dX0_whom_49 : decode cX0_whom 49 = .ok (.ifCond .ne 86, 3) := dk_154 0 86 (dk_at dksX0_whom_2 3 rfl rfl)
theorem dX0_whom_52 : decode cX0_whom 52 = .ok (.aload_n 0, 1) := dk_42 (dk_at dksX0_whom_2 6 rfl rfl)
theorem dX0_whom_53 : decode cX0_whom 53 = .ok (.getfield 36, 3) := dk_180 0 36 (dk_at dksX0_whom_2 7 rfl rfl)
theorem dX0_whom_56 : decode cX0_whom 56 = .ok (.iload_n 1, 1) := dk_27 (dk_at dksX0_whom_2 10 rfl rfl)
theorem dX0_whom_57 : decode cX0_whom 57 = .ok (.iload 4, 2) := dk_21 4 (dk_at dksX0_whom_2 11 rfl rfl)
theorem dX0_whom_59 : decode cX0_whom 59 = .ok (.iload_n 2, 1) := dk_28 (dk_at dksX0_whom_2 13 rfl rfl)
theorem dX0_whom_60 : decode cX0_whom 60 = .ok (.invokevirtual 144, 3) := dk_182 0 144 (dk_at dksX0_whom_2 14 rfl rfl)
theorem dX0_whom_63 : decode cX0_whom 63 = .ok (.ifCond .eq 72, 3) := dk_153 0 72 (dk_at dksX0_whom_2 17 rfl rfl)
theorem dX0_whom_66 : decode cX0_whom 66 = .ok (.aload_n 0, 1) := dk_42 (dk_at dksX0_whom_2 20 rfl rfl)
theorem dX0_whom_67 : decode cX0_whom 67 = .ok (.getfield 36, 3) := dk_180 0 36 (dk_at dksX0_whom_2 21 rfl rfl)
theorem dX0_whom_70 : decode cX0_whom 70 = .ok (.iload 4, 2) := dk_21 4 (dk_at dksX0_whom_3 0 rfl rfl)
theorem dX0_whom_72 : decode cX0_whom 72 = .ok (.iload_n 1, 1) := dk_27 (dk_at dksX0_whom_3 2 rfl rfl)
theorem dX0_whom_73 : decode cX0_whom 73 = .ok (.iload_n 2, 1) := dk_28 (dk_at dksX0_whom_3 3 rfl rfl)
theorem dX0_whom_74 : decode cX0_whom 74 = .ok (.invokevirtual 144, 3) := dk_182 0 144 (dk_at dksX0_whom_3 4 rfl rfl)
theorem dX0_whom_77 : decode cX0_whom 77 = .ok (.ifCond .eq 58, 3) := dk_153 0 58 (dk_at dksX0_whom_3 7 rfl rfl)
theorem dX0_whom_80 : decode cX0_whom 80 = .ok (.aload_n 0, 1) := dk_42 (dk_at dksX0_whom_3 10 rfl rfl)
theorem dX0_whom_81 : decode cX0_whom 81 = .ok (.getfield 36, 3) := dk_180 0 36 (dk_at dksX0_whom_3 11 rfl rfl)
theorem dX0_whom_84 : decode cX0_whom 84 = .ok (.iload 4, 2) := dk_21 4 (dk_at dksX0_whom_3 14 rfl rfl)
theorem dX0_whom_86 : decode cX0_whom 86 = .ok (.iload_n 1, 1) := dk_27 (dk_at dksX0_whom_3 16 rfl rfl)
theorem dX0_whom_87 : decode cX0_whom 87 = .ok (.iload_n 2, 1) := dk_28 (dk_at dksX0_whom_3 17 rfl rfl)
theorem dX0_whom_88 : decode cX0_whom 88 = .ok (.invokevirtual 147, 3) := dk_182 0 147 (dk_at dksX0_whom_3 18 rfl rfl)
theorem dX0_whom_91 : decode cX0_whom 91 = .ok (.ifCond .eq 6, 3) := dk_153 0 6 (dk_at dksX0_whom_3 21 rfl rfl)
theorem dX0_whom_94 : decode cX0_whom 94 = .ok (.goto 41, 3) := dk_167 0 41 (dk_at dksX0_whom_4 0 rfl rfl)
theorem dX0_whom_97 : decode cX0_whom 97 = .ok (.iload_n 3, 1) := dk_29 (dk_at dksX0_whom_4 3 rfl rfl)
theorem dX0_whom_98 : decode cX0_whom 98 = .ok (.iconst (-1), 1) := dk_2 (dk_at dksX0_whom_4 4 rfl rfl)
theorem dX0_whom_99 : decode cX0_whom 99 = .ok (.if_icmp .eq 33, 3) := dk_159 0 33 (dk_at dksX0_whom_4 5 rfl rfl)
theorem dX0_whom_102 : decode cX0_whom 102 = .ok (.aload_n 0, 1) := dk_42 (dk_at dksX0_whom_4 8 rfl rfl)
theorem dX0_whom_103 : decode cX0_whom 103 = .ok (.getfield 36, 3) := dk_180 0 36 (dk_at dksX0_whom_4 9 rfl rfl)
theorem dX0_whom_106 : decode cX0_whom 106 = .ok (.getfield 123, 3) := dk_180 0 123 (dk_at dksX0_whom_4 12 rfl rfl)
theorem dX0_whom_109 : decode cX0_whom 109 = .ok (.iload 4, 2) := dk_21 4 (dk_at dksX0_whom_4 15 rfl rfl)
theorem dX0_whom_111 : decode cX0_whom 111 = .ok (.aaload, 1) := dk_50 (dk_at dksX0_whom_4 17 rfl rfl)
theorem dX0_whom_112 : decode cX0_whom 112 = .ok (.iconst 0, 1) := dk_3 (dk_at dksX0_whom_4 18 rfl rfl)
theorem dX0_whom_113 : decode cX0_whom 113 = .ok (.invokevirtual 258, 3) := dk_182 1 2 (dk_at dksX0_whom_4 19 rfl rfl)
theorem dX0_whom_116 : decode cX0_whom 116 = .ok (.aload_n 0, 1) := dk_42 (dk_at dksX0_whom_4 22 rfl rfl)
theorem dX0_whom_117 : decode cX0_whom 117 = .ok (.getfield 36, 3) := dk_180 0 36 (dk_at dksX0_whom_5 0 rfl rfl)
theorem dX0_whom_120 : decode cX0_whom 120 = .ok (.getfield 123, 3) := dk_180 0 123 (dk_at dksX0_whom_5 3 rfl rfl)
theorem dX0_whom_123 : decode cX0_whom 123 = .ok (.iload_n 3, 1) := dk_29 (dk_at dksX0_whom_5 6 rfl rfl)
theorem dX0_whom_124 : decode cX0_whom 124 = .ok (.aaload, 1) := dk_50 (dk_at dksX0_whom_5 7 rfl rfl)
theorem dX0_whom_125 : decode cX0_whom 125 = .ok (.iconst 0, 1) := dk_3 (dk_at dksX0_whom_5 8 rfl rfl)
theorem dX0_whom_126 : decode cX0_whom 126 = .ok (.invokevirtual 258, 3) := dk_182 1 2 (dk_at dksX0_whom_5 9 rfl rfl)
theorem dX0_whom_129 : decode cX0_whom 129 = .ok (.if_icmp .le 6, 3) := dk_164 0 6 (dk_at dksX0_whom_5 12 rfl rfl)
theorem dX0_whom_132 : decode cX0_whom 132 = .ok (.iload 4, 2) := dk_21 4 (dk_at dksX0_whom_5 15 rfl rfl)
theorem dX0_whom_134 : decode cX0_whom 134 = .ok (.istore_n 3, 1) := dk_62 (dk_at dksX0_whom_5 17 rfl rfl)
theorem dX0_whom_135 : decode cX0_whom 135 = .ok (.iinc 4 1, 3) := dk_132 4 1 (dk_at dksX0_whom_5 18 rfl rfl)
theorem dX0_whom_138 : decode cX0_whom 138 = .ok (.goto (-116), 3) := dk_167 255 140 (dk_at dksX0_whom_5 21 rfl rfl)
theorem dX0_whom_141 : decode cX0_whom 141 = .ok (.iload_n 3, 1) := dk_29 (dk_at dksX0_whom_6 0 rfl rfl)
theorem dX0_whom_142 : decode cX0_whom 142 = .ok (.ireturn, 1) := dk_172 (dk_at dksX0_whom_6 1 rfl rfl)
abbrev cX0_safe : ByteArray := prog_1_method_37_code
def yX0_safe : MethodName := ⟨RX0, "safe", "()I"⟩
def dkwX0_safe_1 : List UInt8 := [4, 28, 120, 167, 0, 4, 3, 128, 60, 132, 2, 1, 167, 255, 224, 27, 172]
abbrev dktX0_safe_1 : List UInt8 := dkwX0_safe_1 ++ []
def dkwX0_safe_0 : List UInt8 := [3, 60, 3, 61, 28, 42, 180, 0, 36, 180, 0, 116, 162, 0, 27, 27, 42, 28, 182, 1, 6, 153, 0, 9]
abbrev dktX0_safe_0 : List UInt8 := dkwX0_safe_0 ++ dktX0_safe_1
theorem dksX0_safe_0 : cX0_safe.data.toList.drop 0 = dktX0_safe_0 := by decide +kernel
theorem dksX0_safe_1 : cX0_safe.data.toList.drop 24 = dktX0_safe_1 := dk_seg dksX0_safe_0 24 rfl rfl
theorem dX0_safe_0 : decode cX0_safe 0 = .ok (.iconst 0, 1) := dk_3 (dk_at dksX0_safe_0 0 rfl rfl)
theorem dX0_safe_1 : decode cX0_safe 1 = .ok (.istore_n 1, 1) := dk_60 (dk_at dksX0_safe_0 1 rfl rfl)
theorem dX0_safe_2 : decode cX0_safe 2 = .ok (.iconst 0, 1) := dk_3 (dk_at dksX0_safe_0 2 rfl rfl)
theorem dX0_safe_3 : decode cX0_safe 3 = .ok (.istore_n 2, 1) := dk_61 (dk_at dksX0_safe_0 3 rfl rfl)
theorem dX0_safe_4 : decode cX0_safe 4 = .ok (.iload_n 2, 1) := dk_28 (dk_at dksX0_safe_0 4 rfl rfl)
theorem dX0_safe_5 : decode cX0_safe 5 = .ok (.aload_n 0, 1) := dk_42 (dk_at dksX0_safe_0 5 rfl rfl)
theorem dX0_safe_6 : decode cX0_safe 6 = .ok (.getfield 36, 3) := dk_180 0 36 (dk_at dksX0_safe_0 6 rfl rfl)
theorem dX0_safe_9 : decode cX0_safe 9 = .ok (.getfield 116, 3) := dk_180 0 116 (dk_at dksX0_safe_0 9 rfl rfl)
theorem dX0_safe_12 : decode cX0_safe 12 = .ok (.if_icmp .ge 27, 3) := dk_162 0 27 (dk_at dksX0_safe_0 12 rfl rfl)
theorem dX0_safe_15 : decode cX0_safe 15 = .ok (.iload_n 1, 1) := dk_27 (dk_at dksX0_safe_0 15 rfl rfl)
theorem dX0_safe_16 : decode cX0_safe 16 = .ok (.aload_n 0, 1) := dk_42 (dk_at dksX0_safe_0 16 rfl rfl)
theorem dX0_safe_17 : decode cX0_safe 17 = .ok (.iload_n 2, 1) := dk_28 (dk_at dksX0_safe_0 17 rfl rfl)
theorem dX0_safe_18 : decode cX0_safe 18 = .ok (.invokevirtual 262, 3) := dk_182 1 6 (dk_at dksX0_safe_0 18 rfl rfl)
theorem dX0_safe_21 : decode cX0_safe 21 = .ok (.ifCond .eq 9, 3) := dk_153 0 9 (dk_at dksX0_safe_0 21 rfl rfl)
theorem dX0_safe_24 : decode cX0_safe 24 = .ok (.iconst 1, 1) := dk_4 (dk_at dksX0_safe_1 0 rfl rfl)
theorem dX0_safe_25 : decode cX0_safe 25 = .ok (.iload_n 2, 1) := dk_28 (dk_at dksX0_safe_1 1 rfl rfl)
theorem dX0_safe_26 : decode cX0_safe 26 = .ok (.ishl, 1) := dk_120 (dk_at dksX0_safe_1 2 rfl rfl)
theorem dX0_safe_27 : decode cX0_safe 27 = .ok (.goto 4, 3) := dk_167 0 4 (dk_at dksX0_safe_1 3 rfl rfl)
theorem dX0_safe_30 : decode cX0_safe 30 = .ok (.iconst 0, 1) := dk_3 (dk_at dksX0_safe_1 6 rfl rfl)
theorem dX0_safe_31 : decode cX0_safe 31 = .ok (.ior, 1) := dk_128 (dk_at dksX0_safe_1 7 rfl rfl)
theorem dX0_safe_32 : decode cX0_safe 32 = .ok (.istore_n 1, 1) := dk_60 (dk_at dksX0_safe_1 8 rfl rfl)
theorem dX0_safe_33 : decode cX0_safe 33 = .ok (.iinc 2 1, 3) := dk_132 2 1 (dk_at dksX0_safe_1 9 rfl rfl)
theorem dX0_safe_36 : decode cX0_safe 36 = .ok (.goto (-32), 3) := dk_167 255 224 (dk_at dksX0_safe_1 12 rfl rfl)
theorem dX0_safe_39 : decode cX0_safe 39 = .ok (.iload_n 1, 1) := dk_27 (dk_at dksX0_safe_1 15 rfl rfl)
theorem dX0_safe_40 : decode cX0_safe 40 = .ok (.ireturn, 1) := dk_172 (dk_at dksX0_safe_1 16 rfl rfl)
abbrev cX0_isSafe : ByteArray := prog_1_method_36_code
def yX0_isSafe : MethodName := ⟨RX0, "isSafe", "(I)Z"⟩
def dkwX0_isSafe_1 : List UInt8 := [132, 2, 1, 167, 255, 233, 4, 172]
abbrev dktX0_isSafe_1 : List UInt8 := dkwX0_isSafe_1 ++ []
def dkwX0_isSafe_0 : List UInt8 := [4, 61, 28, 16, 12, 163, 0, 23, 42, 180, 0, 36, 27, 28, 182, 0, 150, 153, 0, 5, 3, 172]
abbrev dktX0_isSafe_0 : List UInt8 := dkwX0_isSafe_0 ++ dktX0_isSafe_1
theorem dksX0_isSafe_0 : cX0_isSafe.data.toList.drop 0 = dktX0_isSafe_0 := by decide +kernel
theorem dksX0_isSafe_1 : cX0_isSafe.data.toList.drop 22 = dktX0_isSafe_1 := dk_seg dksX0_isSafe_0 22 rfl rfl
theorem dX0_isSafe_0 : decode cX0_isSafe 0 = .ok (.iconst 1, 1) := dk_4 (dk_at dksX0_isSafe_0 0 rfl rfl)
theorem dX0_isSafe_1 : decode cX0_isSafe 1 = .ok (.istore_n 2, 1) := dk_61 (dk_at dksX0_isSafe_0 1 rfl rfl)
theorem dX0_isSafe_2 : decode cX0_isSafe 2 = .ok (.iload_n 2, 1) := dk_28 (dk_at dksX0_isSafe_0 2 rfl rfl)
theorem dX0_isSafe_3 : decode cX0_isSafe 3 = .ok (.bipush 12, 2) := dk_16 12 (dk_at dksX0_isSafe_0 3 rfl rfl)
theorem dX0_isSafe_5 : decode cX0_isSafe 5 = .ok (.if_icmp .gt 23, 3) := dk_163 0 23 (dk_at dksX0_isSafe_0 5 rfl rfl)
theorem dX0_isSafe_8 : decode cX0_isSafe 8 = .ok (.aload_n 0, 1) := dk_42 (dk_at dksX0_isSafe_0 8 rfl rfl)
theorem dX0_isSafe_9 : decode cX0_isSafe 9 = .ok (.getfield 36, 3) := dk_180 0 36 (dk_at dksX0_isSafe_0 9 rfl rfl)
theorem dX0_isSafe_12 : decode cX0_isSafe 12 = .ok (.iload_n 1, 1) := dk_27 (dk_at dksX0_isSafe_0 12 rfl rfl)
theorem dX0_isSafe_13 : decode cX0_isSafe 13 = .ok (.iload_n 2, 1) := dk_28 (dk_at dksX0_isSafe_0 13 rfl rfl)
theorem dX0_isSafe_14 : decode cX0_isSafe 14 = .ok (.invokevirtual 150, 3) := dk_182 0 150 (dk_at dksX0_isSafe_0 14 rfl rfl)
theorem dX0_isSafe_17 : decode cX0_isSafe 17 = .ok (.ifCond .eq 5, 3) := dk_153 0 5 (dk_at dksX0_isSafe_0 17 rfl rfl)
theorem dX0_isSafe_20 : decode cX0_isSafe 20 = .ok (.iconst 0, 1) := dk_3 (dk_at dksX0_isSafe_0 20 rfl rfl)
theorem dX0_isSafe_21 : decode cX0_isSafe 21 = .ok (.ireturn, 1) := dk_172 (dk_at dksX0_isSafe_0 21 rfl rfl)
theorem dX0_isSafe_22 : decode cX0_isSafe 22 = .ok (.iinc 2 1, 3) := dk_132 2 1 (dk_at dksX0_isSafe_1 0 rfl rfl)
theorem dX0_isSafe_25 : decode cX0_isSafe 25 = .ok (.goto (-23), 3) := dk_167 255 233 (dk_at dksX0_isSafe_1 3 rfl rfl)
theorem dX0_isSafe_28 : decode cX0_isSafe 28 = .ok (.iconst 1, 1) := dk_4 (dk_at dksX0_isSafe_1 6 rfl rfl)
theorem dX0_isSafe_29 : decode cX0_isSafe 29 = .ok (.ireturn, 1) := dk_172 (dk_at dksX0_isSafe_1 7 rfl rfl)
abbrev cX0_named : ByteArray := prog_1_method_39_code
def yX0_named : MethodName := ⟨RX0, "named", "(I)I"⟩
def dkwX0_named_3 : List UInt8 := [167, 255, 188, 2, 172]
abbrev dktX0_named_3 : List UInt8 := dkwX0_named_3 ++ []
def dkwX0_named_2 : List UInt8 := [167, 0, 4, 3, 96, 62, 132, 4, 1, 167, 255, 217, 29, 27, 160, 0, 5, 28, 172, 132, 2, 1]
abbrev dktX0_named_2 : List UInt8 := dkwX0_named_2 ++ dktX0_named_3
def dkwX0_named_1 : List UInt8 := [180, 0, 116, 162, 0, 33, 29, 21, 4, 28, 159, 0, 17, 42, 21, 4, 28, 182, 1, 9, 153, 0, 7, 4]
abbrev dktX0_named_1 : List UInt8 := dkwX0_named_1 ++ dktX0_named_2
def dkwX0_named_0 : List UInt8 := [3, 61, 28, 42, 180, 0, 36, 180, 0, 116, 162, 0, 63, 3, 62, 3, 54, 4, 21, 4, 42, 180, 0, 36]
abbrev dktX0_named_0 : List UInt8 := dkwX0_named_0 ++ dktX0_named_1
theorem dksX0_named_0 : cX0_named.data.toList.drop 0 = dktX0_named_0 := by decide +kernel
theorem dksX0_named_1 : cX0_named.data.toList.drop 24 = dktX0_named_1 := dk_seg dksX0_named_0 24 rfl rfl
theorem dksX0_named_2 : cX0_named.data.toList.drop 48 = dktX0_named_2 := dk_seg dksX0_named_1 24 rfl rfl
theorem dksX0_named_3 : cX0_named.data.toList.drop 70 = dktX0_named_3 := dk_seg dksX0_named_2 22 rfl rfl
theorem dX0_named_0 : decode cX0_named 0 = .ok (.iconst 0, 1) := dk_3 (dk_at dksX0_named_0 0 rfl rfl)
theorem dX0_named_1 : decode cX0_named 1 = .ok (.istore_n 2, 1) := dk_61 (dk_at dksX0_named_0 1 rfl rfl)
theorem dX0_named_2 : decode cX0_named 2 = .ok (.iload_n 2, 1) := dk_28 (dk_at dksX0_named_0 2 rfl rfl)
theorem dX0_named_3 : decode cX0_named 3 = .ok (.aload_n 0, 1) := dk_42 (dk_at dksX0_named_0 3 rfl rfl)
theorem dX0_named_4 : decode cX0_named 4 = .ok (.getfield 36, 3) := dk_180 0 36 (dk_at dksX0_named_0 4 rfl rfl)
theorem dX0_named_7 : decode cX0_named 7 = .ok (.getfield 116, 3) := dk_180 0 116 (dk_at dksX0_named_0 7 rfl rfl)
theorem dX0_named_10 : decode cX0_named 10 = .ok (.if_icmp .ge 63, 3) := dk_162 0 63 (dk_at dksX0_named_0 10 rfl rfl)
theorem dX0_named_13 : decode cX0_named 13 = .ok (.iconst 0, 1) := dk_3 (dk_at dksX0_named_0 13 rfl rfl)
theorem dX0_named_14 : decode cX0_named 14 = .ok (.istore_n 3, 1) := dk_62 (dk_at dksX0_named_0 14 rfl rfl)
theorem dX0_named_15 : decode cX0_named 15 = .ok (.iconst 0, 1) := dk_3 (dk_at dksX0_named_0 15 rfl rfl)
theorem dX0_named_16 : decode cX0_named 16 = .ok (.istore 4, 2) := dk_54 4 (dk_at dksX0_named_0 16 rfl rfl)
theorem dX0_named_18 : decode cX0_named 18 = .ok (.iload 4, 2) := dk_21 4 (dk_at dksX0_named_0 18 rfl rfl)
theorem dX0_named_20 : decode cX0_named 20 = .ok (.aload_n 0, 1) := dk_42 (dk_at dksX0_named_0 20 rfl rfl)
theorem dX0_named_21 : decode cX0_named 21 = .ok (.getfield 36, 3) := dk_180 0 36 (dk_at dksX0_named_0 21 rfl rfl)
theorem dX0_named_24 : decode cX0_named 24 = .ok (.getfield 116, 3) := dk_180 0 116 (dk_at dksX0_named_1 0 rfl rfl)
theorem dX0_named_27 : decode cX0_named 27 = .ok (.if_icmp .ge 33, 3) := dk_162 0 33 (dk_at dksX0_named_1 3 rfl rfl)
theorem dX0_named_30 : decode cX0_named 30 = .ok (.iload_n 3, 1) := dk_29 (dk_at dksX0_named_1 6 rfl rfl)
theorem dX0_named_31 : decode cX0_named 31 = .ok (.iload 4, 2) := dk_21 4 (dk_at dksX0_named_1 7 rfl rfl)
theorem dX0_named_33 : decode cX0_named 33 = .ok (.iload_n 2, 1) := dk_28 (dk_at dksX0_named_1 9 rfl rfl)
theorem dX0_named_34 : decode cX0_named 34 = .ok (.if_icmp .eq 17, 3) := dk_159 0 17 (dk_at dksX0_named_1 10 rfl rfl)
theorem dX0_named_37 : decode cX0_named 37 = .ok (.aload_n 0, 1) := dk_42 (dk_at dksX0_named_1 13 rfl rfl)
theorem dX0_named_38 : decode cX0_named 38 = .ok (.iload 4, 2) := dk_21 4 (dk_at dksX0_named_1 14 rfl rfl)
theorem dX0_named_40 : decode cX0_named 40 = .ok (.iload_n 2, 1) := dk_28 (dk_at dksX0_named_1 16 rfl rfl)
theorem dX0_named_41 : decode cX0_named 41 = .ok (.invokevirtual 265, 3) := dk_182 1 9 (dk_at dksX0_named_1 17 rfl rfl)
theorem dX0_named_44 : decode cX0_named 44 = .ok (.ifCond .eq 7, 3) := dk_153 0 7 (dk_at dksX0_named_1 20 rfl rfl)
theorem dX0_named_47 : decode cX0_named 47 = .ok (.iconst 1, 1) := dk_4 (dk_at dksX0_named_1 23 rfl rfl)
theorem dX0_named_48 : decode cX0_named 48 = .ok (.goto 4, 3) := dk_167 0 4 (dk_at dksX0_named_2 0 rfl rfl)
theorem dX0_named_51 : decode cX0_named 51 = .ok (.iconst 0, 1) := dk_3 (dk_at dksX0_named_2 3 rfl rfl)
theorem dX0_named_52 : decode cX0_named 52 = .ok (.iadd, 1) := dk_96 (dk_at dksX0_named_2 4 rfl rfl)
theorem dX0_named_53 : decode cX0_named 53 = .ok (.istore_n 3, 1) := dk_62 (dk_at dksX0_named_2 5 rfl rfl)
theorem dX0_named_54 : decode cX0_named 54 = .ok (.iinc 4 1, 3) := dk_132 4 1 (dk_at dksX0_named_2 6 rfl rfl)
theorem dX0_named_57 : decode cX0_named 57 = .ok (.goto (-39), 3) := dk_167 255 217 (dk_at dksX0_named_2 9 rfl rfl)
theorem dX0_named_60 : decode cX0_named 60 = .ok (.iload_n 3, 1) := dk_29 (dk_at dksX0_named_2 12 rfl rfl)
theorem dX0_named_61 : decode cX0_named 61 = .ok (.iload_n 1, 1) := dk_27 (dk_at dksX0_named_2 13 rfl rfl)
theorem dX0_named_62 : decode cX0_named 62 = .ok (.if_icmp .ne 5, 3) := dk_160 0 5 (dk_at dksX0_named_2 14 rfl rfl)
theorem dX0_named_65 : decode cX0_named 65 = .ok (.iload_n 2, 1) := dk_28 (dk_at dksX0_named_2 17 rfl rfl)
theorem dX0_named_66 : decode cX0_named 66 = .ok (.ireturn, 1) := dk_172 (dk_at dksX0_named_2 18 rfl rfl)
theorem dX0_named_67 : decode cX0_named 67 = .ok (.iinc 2 1, 3) := dk_132 2 1 (dk_at dksX0_named_2 19 rfl rfl)
theorem dX0_named_70 : decode cX0_named 70 = .ok (.goto (-68), 3) := dk_167 255 188 (dk_at dksX0_named_3 0 rfl rfl)
theorem dX0_named_73 : decode cX0_named 73 = .ok (.iconst (-1), 1) := dk_2 (dk_at dksX0_named_3 3 rfl rfl)
theorem dX0_named_74 : decode cX0_named 74 = .ok (.ireturn, 1) := dk_172 (dk_at dksX0_named_3 4 rfl rfl)
abbrev cX0_isAhead : ByteArray := prog_1_method_38_code
def yX0_isAhead : MethodName := ⟨RX0, "isAhead", "(II)Z"⟩
def dkwX0_isAhead_4 : List UInt8 := [164, 0, 7, 4, 167, 0, 17, 3, 167, 0, 13, 27, 28, 162, 0, 7, 4, 167, 0, 4, 3, 172]
abbrev dktX0_isAhead_4 : List UInt8 := dkwX0_isAhead_4 ++ []
def dkwX0_isAhead_3 : List UInt8 := [182, 1, 2, 25, 4, 5, 182, 1, 2, 159, 0, 25, 45, 5, 182, 1, 2, 25, 4, 5, 182, 1, 2]
abbrev dktX0_isAhead_3 : List UInt8 := dkwX0_isAhead_3 ++ dktX0_isAhead_4
def dkwX0_isAhead_2 : List UInt8 := [54, 6, 21, 5, 21, 6, 159, 0, 16, 21, 5, 21, 6, 164, 0, 7, 4, 167, 0, 4, 3, 172, 45, 5]
abbrev dktX0_isAhead_2 : List UInt8 := dkwX0_isAhead_2 ++ dktX0_isAhead_3
def dkwX0_isAhead_1 : List UInt8 := [182, 1, 2, 45, 4, 182, 1, 2, 100, 54, 5, 25, 4, 3, 182, 1, 2, 25, 4, 4, 182, 1, 2, 100]
abbrev dktX0_isAhead_1 : List UInt8 := dkwX0_isAhead_1 ++ dktX0_isAhead_2
def dkwX0_isAhead_0 : List UInt8 := [42, 180, 0, 36, 180, 0, 123, 27, 50, 78, 42, 180, 0, 36, 180, 0, 123, 28, 50, 58, 4, 45, 3]
abbrev dktX0_isAhead_0 : List UInt8 := dkwX0_isAhead_0 ++ dktX0_isAhead_1
theorem dksX0_isAhead_0 : cX0_isAhead.data.toList.drop 0 = dktX0_isAhead_0 := by decide +kernel
theorem dksX0_isAhead_1 : cX0_isAhead.data.toList.drop 23 = dktX0_isAhead_1 := dk_seg dksX0_isAhead_0 23 rfl rfl
theorem dksX0_isAhead_2 : cX0_isAhead.data.toList.drop 47 = dktX0_isAhead_2 := dk_seg dksX0_isAhead_1 24 rfl rfl
theorem dksX0_isAhead_3 : cX0_isAhead.data.toList.drop 71 = dktX0_isAhead_3 := dk_seg dksX0_isAhead_2 24 rfl rfl
theorem dksX0_isAhead_4 : cX0_isAhead.data.toList.drop 94 = dktX0_isAhead_4 := dk_seg dksX0_isAhead_3 23 rfl rfl
theorem dX0_isAhead_0 : decode cX0_isAhead 0 = .ok (.aload_n 0, 1) := dk_42 (dk_at dksX0_isAhead_0 0 rfl rfl)
theorem dX0_isAhead_1 : decode cX0_isAhead 1 = .ok (.getfield 36, 3) := dk_180 0 36 (dk_at dksX0_isAhead_0 1 rfl rfl)
theorem dX0_isAhead_4 : decode cX0_isAhead 4 = .ok (.getfield 123, 3) := dk_180 0 123 (dk_at dksX0_isAhead_0 4 rfl rfl)
theorem dX0_isAhead_7 : decode cX0_isAhead 7 = .ok (.iload_n 1, 1) := dk_27 (dk_at dksX0_isAhead_0 7 rfl rfl)
theorem dX0_isAhead_8 : decode cX0_isAhead 8 = .ok (.aaload, 1) := dk_50 (dk_at dksX0_isAhead_0 8 rfl rfl)
theorem dX0_isAhead_9 : decode cX0_isAhead 9 = .ok (.astore_n 3, 1) := dk_78 (dk_at dksX0_isAhead_0 9 rfl rfl)
theorem dX0_isAhead_10 : decode cX0_isAhead 10 = .ok (.aload_n 0, 1) := dk_42 (dk_at dksX0_isAhead_0 10 rfl rfl)
theorem dX0_isAhead_11 : decode cX0_isAhead 11 = .ok (.getfield 36, 3) := dk_180 0 36 (dk_at dksX0_isAhead_0 11 rfl rfl)
theorem dX0_isAhead_14 : decode cX0_isAhead 14 = .ok (.getfield 123, 3) := dk_180 0 123 (dk_at dksX0_isAhead_0 14 rfl rfl)
theorem dX0_isAhead_17 : decode cX0_isAhead 17 = .ok (.iload_n 2, 1) := dk_28 (dk_at dksX0_isAhead_0 17 rfl rfl)
theorem dX0_isAhead_18 : decode cX0_isAhead 18 = .ok (.aaload, 1) := dk_50 (dk_at dksX0_isAhead_0 18 rfl rfl)
theorem dX0_isAhead_19 : decode cX0_isAhead 19 = .ok (.astore 4, 2) := dk_58 4 (dk_at dksX0_isAhead_0 19 rfl rfl)
theorem dX0_isAhead_21 : decode cX0_isAhead 21 = .ok (.aload_n 3, 1) := dk_45 (dk_at dksX0_isAhead_0 21 rfl rfl)
theorem dX0_isAhead_22 : decode cX0_isAhead 22 = .ok (.iconst 0, 1) := dk_3 (dk_at dksX0_isAhead_0 22 rfl rfl)
theorem dX0_isAhead_23 : decode cX0_isAhead 23 = .ok (.invokevirtual 258, 3) := dk_182 1 2 (dk_at dksX0_isAhead_1 0 rfl rfl)
theorem dX0_isAhead_26 : decode cX0_isAhead 26 = .ok (.aload_n 3, 1) := dk_45 (dk_at dksX0_isAhead_1 3 rfl rfl)
theorem dX0_isAhead_27 : decode cX0_isAhead 27 = .ok (.iconst 1, 1) := dk_4 (dk_at dksX0_isAhead_1 4 rfl rfl)
theorem dX0_isAhead_28 : decode cX0_isAhead 28 = .ok (.invokevirtual 258, 3) := dk_182 1 2 (dk_at dksX0_isAhead_1 5 rfl rfl)
theorem dX0_isAhead_31 : decode cX0_isAhead 31 = .ok (.isub, 1) := dk_100 (dk_at dksX0_isAhead_1 8 rfl rfl)
theorem dX0_isAhead_32 : decode cX0_isAhead 32 = .ok (.istore 5, 2) := dk_54 5 (dk_at dksX0_isAhead_1 9 rfl rfl)
theorem dX0_isAhead_34 : decode cX0_isAhead 34 = .ok (.aload 4, 2) := dk_25 4 (dk_at dksX0_isAhead_1 11 rfl rfl)
theorem dX0_isAhead_36 : decode cX0_isAhead 36 = .ok (.iconst 0, 1) := dk_3 (dk_at dksX0_isAhead_1 13 rfl rfl)
theorem dX0_isAhead_37 : decode cX0_isAhead 37 = .ok (.invokevirtual 258, 3) := dk_182 1 2 (dk_at dksX0_isAhead_1 14 rfl rfl)
theorem dX0_isAhead_40 : decode cX0_isAhead 40 = .ok (.aload 4, 2) := dk_25 4 (dk_at dksX0_isAhead_1 17 rfl rfl)
theorem dX0_isAhead_42 : decode cX0_isAhead 42 = .ok (.iconst 1, 1) := dk_4 (dk_at dksX0_isAhead_1 19 rfl rfl)
theorem dX0_isAhead_43 : decode cX0_isAhead 43 = .ok (.invokevirtual 258, 3) := dk_182 1 2 (dk_at dksX0_isAhead_1 20 rfl rfl)
theorem dX0_isAhead_46 : decode cX0_isAhead 46 = .ok (.isub, 1) := dk_100 (dk_at dksX0_isAhead_1 23 rfl rfl)
theorem dX0_isAhead_47 : decode cX0_isAhead 47 = .ok (.istore 6, 2) := dk_54 6 (dk_at dksX0_isAhead_2 0 rfl rfl)
theorem dX0_isAhead_49 : decode cX0_isAhead 49 = .ok (.iload 5, 2) := dk_21 5 (dk_at dksX0_isAhead_2 2 rfl rfl)
theorem dX0_isAhead_51 : decode cX0_isAhead 51 = .ok (.iload 6, 2) := dk_21 6 (dk_at dksX0_isAhead_2 4 rfl rfl)
theorem dX0_isAhead_53 : decode cX0_isAhead 53 = .ok (.if_icmp .eq 16, 3) := dk_159 0 16 (dk_at dksX0_isAhead_2 6 rfl rfl)
theorem dX0_isAhead_56 : decode cX0_isAhead 56 = .ok (.iload 5, 2) := dk_21 5 (dk_at dksX0_isAhead_2 9 rfl rfl)
theorem dX0_isAhead_58 : decode cX0_isAhead 58 = .ok (.iload 6, 2) := dk_21 6 (dk_at dksX0_isAhead_2 11 rfl rfl)
theorem dX0_isAhead_60 : decode cX0_isAhead 60 = .ok (.if_icmp .le 7, 3) := dk_164 0 7 (dk_at dksX0_isAhead_2 13 rfl rfl)
theorem dX0_isAhead_63 : decode cX0_isAhead 63 = .ok (.iconst 1, 1) := dk_4 (dk_at dksX0_isAhead_2 16 rfl rfl)
theorem dX0_isAhead_64 : decode cX0_isAhead 64 = .ok (.goto 4, 3) := dk_167 0 4 (dk_at dksX0_isAhead_2 17 rfl rfl)
theorem dX0_isAhead_67 : decode cX0_isAhead 67 = .ok (.iconst 0, 1) := dk_3 (dk_at dksX0_isAhead_2 20 rfl rfl)
theorem dX0_isAhead_68 : decode cX0_isAhead 68 = .ok (.ireturn, 1) := dk_172 (dk_at dksX0_isAhead_2 21 rfl rfl)
theorem dX0_isAhead_69 : decode cX0_isAhead 69 = .ok (.aload_n 3, 1) := dk_45 (dk_at dksX0_isAhead_2 22 rfl rfl)
theorem dX0_isAhead_70 : decode cX0_isAhead 70 = .ok (.iconst 2, 1) := dk_5 (dk_at dksX0_isAhead_2 23 rfl rfl)
theorem dX0_isAhead_71 : decode cX0_isAhead 71 = .ok (.invokevirtual 258, 3) := dk_182 1 2 (dk_at dksX0_isAhead_3 0 rfl rfl)
theorem dX0_isAhead_74 : decode cX0_isAhead 74 = .ok (.aload 4, 2) := dk_25 4 (dk_at dksX0_isAhead_3 3 rfl rfl)
theorem dX0_isAhead_76 : decode cX0_isAhead 76 = .ok (.iconst 2, 1) := dk_5 (dk_at dksX0_isAhead_3 5 rfl rfl)
theorem dX0_isAhead_77 : decode cX0_isAhead 77 = .ok (.invokevirtual 258, 3) := dk_182 1 2 (dk_at dksX0_isAhead_3 6 rfl rfl)
theorem dX0_isAhead_80 : decode cX0_isAhead 80 = .ok (.if_icmp .eq 25, 3) := dk_159 0 25 (dk_at dksX0_isAhead_3 9 rfl rfl)
theorem dX0_isAhead_83 : decode cX0_isAhead 83 = .ok (.aload_n 3, 1) := dk_45 (dk_at dksX0_isAhead_3 12 rfl rfl)
theorem dX0_isAhead_84 : decode cX0_isAhead 84 = .ok (.iconst 2, 1) := dk_5 (dk_at dksX0_isAhead_3 13 rfl rfl)
theorem dX0_isAhead_85 : decode cX0_isAhead 85 = .ok (.invokevirtual 258, 3) := dk_182 1 2 (dk_at dksX0_isAhead_3 14 rfl rfl)
theorem dX0_isAhead_88 : decode cX0_isAhead 88 = .ok (.aload 4, 2) := dk_25 4 (dk_at dksX0_isAhead_3 17 rfl rfl)
theorem dX0_isAhead_90 : decode cX0_isAhead 90 = .ok (.iconst 2, 1) := dk_5 (dk_at dksX0_isAhead_3 19 rfl rfl)
theorem dX0_isAhead_91 : decode cX0_isAhead 91 = .ok (.invokevirtual 258, 3) := dk_182 1 2 (dk_at dksX0_isAhead_3 20 rfl rfl)
theorem dX0_isAhead_94 : decode cX0_isAhead 94 = .ok (.if_icmp .le 7, 3) := dk_164 0 7 (dk_at dksX0_isAhead_4 0 rfl rfl)
theorem dX0_isAhead_97 : decode cX0_isAhead 97 = .ok (.iconst 1, 1) := dk_4 (dk_at dksX0_isAhead_4 3 rfl rfl)
theorem dX0_isAhead_98 : decode cX0_isAhead 98 = .ok (.goto 17, 3) := dk_167 0 17 (dk_at dksX0_isAhead_4 4 rfl rfl)
theorem dX0_isAhead_101 : decode cX0_isAhead 101 = .ok (.iconst 0, 1) := dk_3 (dk_at dksX0_isAhead_4 7 rfl rfl)
theorem dX0_isAhead_102 : decode cX0_isAhead 102 = .ok (.goto 13, 3) := dk_167 0 13 (dk_at dksX0_isAhead_4 8 rfl rfl)
theorem dX0_isAhead_105 : decode cX0_isAhead 105 = .ok (.iload_n 1, 1) := dk_27 (dk_at dksX0_isAhead_4 11 rfl rfl)
theorem dX0_isAhead_106 : decode cX0_isAhead 106 = .ok (.iload_n 2, 1) := dk_28 (dk_at dksX0_isAhead_4 12 rfl rfl)
theorem dX0_isAhead_107 : decode cX0_isAhead 107 = .ok (.if_icmp .ge 7, 3) := dk_162 0 7 (dk_at dksX0_isAhead_4 13 rfl rfl)
theorem dX0_isAhead_110 : decode cX0_isAhead 110 = .ok (.iconst 1, 1) := dk_4 (dk_at dksX0_isAhead_4 16 rfl rfl)
theorem dX0_isAhead_111 : decode cX0_isAhead 111 = .ok (.goto 4, 3) := dk_167 0 4 (dk_at dksX0_isAhead_4 17 rfl rfl)
theorem dX0_isAhead_114 : decode cX0_isAhead 114 = .ok (.iconst 0, 1) := dk_3 (dk_at dksX0_isAhead_4 20 rfl rfl)
theorem dX0_isAhead_115 : decode cX0_isAhead 115 = .ok (.ireturn, 1) := dk_172 (dk_at dksX0_isAhead_4 21 rfl rfl)
abbrev cX0_annals : ByteArray := prog_1_method_40_code
def yX0_annals : MethodName := ⟨RX0, "annals", "(II)I"⟩
def dkwX0_annals_6 : List UInt8 := [21, 6, 167, 0, 5, 21, 7, 96, 62, 132, 4, 1, 167, 255, 129, 29, 172]
abbrev dktX0_annals_6 : List UInt8 := dkwX0_annals_6 ++ []
def dkwX0_annals_5 : List UInt8 := [184, 1, 15, 167, 0, 29, 29, 167, 0, 25, 29, 28, 154, 0, 7, 4, 167, 0, 15, 28, 4, 160, 0, 8]
abbrev dktX0_annals_5 : List UInt8 := dkwX0_annals_5 ++ dktX0_annals_6
def dkwX0_annals_4 : List UInt8 := [158, 0, 7, 4, 167, 0, 4, 3, 96, 54, 7, 28, 6, 160, 0, 21, 21, 7, 158, 0, 12, 29, 21, 6]
abbrev dktX0_annals_4 : List UInt8 := dkwX0_annals_4 ++ dktX0_annals_5
def dkwX0_annals_3 : List UInt8 := [54, 6, 25, 5, 3, 182, 1, 12, 158, 0, 7, 4, 167, 0, 4, 3, 25, 5, 4, 182, 1, 12]
abbrev dktX0_annals_3 : List UInt8 := dkwX0_annals_3 ++ dktX0_annals_4
def dkwX0_annals_2 : List UInt8 := [50, 58, 5, 25, 5, 180, 0, 164, 3, 46, 27, 159, 0, 6, 167, 0, 89, 25, 5, 180, 0, 164, 6, 46]
abbrev dktX0_annals_2 : List UInt8 := dkwX0_annals_2 ++ dktX0_annals_3
def dkwX0_annals_1 : List UInt8 := [3, 54, 4, 21, 4, 42, 180, 0, 36, 180, 0, 157, 162, 0, 121, 42, 180, 0, 36, 180, 0, 160, 21, 4]
abbrev dktX0_annals_1 : List UInt8 := dkwX0_annals_1 ++ dktX0_annals_2
def dkwX0_annals_0 : List UInt8 := [27, 3, 17, 3, 231, 184, 0, 81, 153, 0, 12, 28, 3, 6, 184, 0, 81, 154, 0, 5, 2, 172, 3, 62]
abbrev dktX0_annals_0 : List UInt8 := dkwX0_annals_0 ++ dktX0_annals_1
theorem dksX0_annals_0 : cX0_annals.data.toList.drop 0 = dktX0_annals_0 := by decide +kernel
theorem dksX0_annals_1 : cX0_annals.data.toList.drop 24 = dktX0_annals_1 := dk_seg dksX0_annals_0 24 rfl rfl
theorem dksX0_annals_2 : cX0_annals.data.toList.drop 48 = dktX0_annals_2 := dk_seg dksX0_annals_1 24 rfl rfl
theorem dksX0_annals_3 : cX0_annals.data.toList.drop 72 = dktX0_annals_3 := dk_seg dksX0_annals_2 24 rfl rfl
theorem dksX0_annals_4 : cX0_annals.data.toList.drop 94 = dktX0_annals_4 := dk_seg dksX0_annals_3 22 rfl rfl
theorem dksX0_annals_5 : cX0_annals.data.toList.drop 118 = dktX0_annals_5 := dk_seg dksX0_annals_4 24 rfl rfl
theorem dksX0_annals_6 : cX0_annals.data.toList.drop 142 = dktX0_annals_6 := dk_seg dksX0_annals_5 24 rfl rfl
theorem dX0_annals_0 : decode cX0_annals 0 = .ok (.iload_n 1, 1) := dk_27 (dk_at dksX0_annals_0 0 rfl rfl)
theorem dX0_annals_1 : decode cX0_annals 1 = .ok (.iconst 0, 1) := dk_3 (dk_at dksX0_annals_0 1 rfl rfl)
theorem dX0_annals_2 : decode cX0_annals 2 = .ok (.sipush 999, 3) := dk_17 3 231 (dk_at dksX0_annals_0 2 rfl rfl)
theorem dX0_annals_5 : decode cX0_annals 5 = .ok (.invokestatic 81, 3) := dk_184 0 81 (dk_at dksX0_annals_0 5 rfl rfl)
theorem dX0_annals_8 : decode cX0_annals 8 = .ok (.ifCond .eq 12, 3) := dk_153 0 12 (dk_at dksX0_annals_0 8 rfl rfl)
theorem dX0_annals_11 : decode cX0_annals 11 = .ok (.iload_n 2, 1) := dk_28 (dk_at dksX0_annals_0 11 rfl rfl)
theorem dX0_annals_12 : decode cX0_annals 12 = .ok (.iconst 0, 1) := dk_3 (dk_at dksX0_annals_0 12 rfl rfl)
theorem dX0_annals_13 : decode cX0_annals 13 = .ok (.iconst 3, 1) := dk_6 (dk_at dksX0_annals_0 13 rfl rfl)
theorem dX0_annals_14 : decode cX0_annals 14 = .ok (.invokestatic 81, 3) := dk_184 0 81 (dk_at dksX0_annals_0 14 rfl rfl)
theorem dX0_annals_17 : decode cX0_annals 17 = .ok (.ifCond .ne 5, 3) := dk_154 0 5 (dk_at dksX0_annals_0 17 rfl rfl)
theorem dX0_annals_20 : decode cX0_annals 20 = .ok (.iconst (-1), 1) := dk_2 (dk_at dksX0_annals_0 20 rfl rfl)
theorem dX0_annals_21 : decode cX0_annals 21 = .ok (.ireturn, 1) := dk_172 (dk_at dksX0_annals_0 21 rfl rfl)
theorem dX0_annals_22 : decode cX0_annals 22 = .ok (.iconst 0, 1) := dk_3 (dk_at dksX0_annals_0 22 rfl rfl)
theorem dX0_annals_23 : decode cX0_annals 23 = .ok (.istore_n 3, 1) := dk_62 (dk_at dksX0_annals_0 23 rfl rfl)
theorem dX0_annals_24 : decode cX0_annals 24 = .ok (.iconst 0, 1) := dk_3 (dk_at dksX0_annals_1 0 rfl rfl)
theorem dX0_annals_25 : decode cX0_annals 25 = .ok (.istore 4, 2) := dk_54 4 (dk_at dksX0_annals_1 1 rfl rfl)
theorem dX0_annals_27 : decode cX0_annals 27 = .ok (.iload 4, 2) := dk_21 4 (dk_at dksX0_annals_1 3 rfl rfl)
theorem dX0_annals_29 : decode cX0_annals 29 = .ok (.aload_n 0, 1) := dk_42 (dk_at dksX0_annals_1 5 rfl rfl)
theorem dX0_annals_30 : decode cX0_annals 30 = .ok (.getfield 36, 3) := dk_180 0 36 (dk_at dksX0_annals_1 6 rfl rfl)
theorem dX0_annals_33 : decode cX0_annals 33 = .ok (.getfield 157, 3) := dk_180 0 157 (dk_at dksX0_annals_1 9 rfl rfl)
theorem dX0_annals_36 : decode cX0_annals 36 = .ok (.if_icmp .ge 121, 3) := dk_162 0 121 (dk_at dksX0_annals_1 12 rfl rfl)
theorem dX0_annals_39 : decode cX0_annals 39 = .ok (.aload_n 0, 1) := dk_42 (dk_at dksX0_annals_1 15 rfl rfl)
theorem dX0_annals_40 : decode cX0_annals 40 = .ok (.getfield 36, 3) := dk_180 0 36 (dk_at dksX0_annals_1 16 rfl rfl)
theorem dX0_annals_43 : decode cX0_annals 43 = .ok (.getfield 160, 3) := dk_180 0 160 (dk_at dksX0_annals_1 19 rfl rfl)
theorem dX0_annals_46 : decode cX0_annals 46 = .ok (.iload 4, 2) := dk_21 4 (dk_at dksX0_annals_1 22 rfl rfl)
theorem dX0_annals_48 : decode cX0_annals 48 = .ok (.aaload, 1) := dk_50 (dk_at dksX0_annals_2 0 rfl rfl)
theorem dX0_annals_49 : decode cX0_annals 49 = .ok (.astore 5, 2) := dk_58 5 (dk_at dksX0_annals_2 1 rfl rfl)
theorem dX0_annals_51 : decode cX0_annals 51 = .ok (.aload 5, 2) := dk_25 5 (dk_at dksX0_annals_2 3 rfl rfl)
theorem dX0_annals_53 : decode cX0_annals 53 = .ok (.getfield 164, 3) := dk_180 0 164 (dk_at dksX0_annals_2 5 rfl rfl)
theorem dX0_annals_56 : decode cX0_annals 56 = .ok (.iconst 0, 1) := dk_3 (dk_at dksX0_annals_2 8 rfl rfl)
theorem dX0_annals_57 : decode cX0_annals 57 = .ok (.iaload, 1) := dk_46 (dk_at dksX0_annals_2 9 rfl rfl)
theorem dX0_annals_58 : decode cX0_annals 58 = .ok (.iload_n 1, 1) := dk_27 (dk_at dksX0_annals_2 10 rfl rfl)
theorem dX0_annals_59 : decode cX0_annals 59 = .ok (.if_icmp .eq 6, 3) := dk_159 0 6 (dk_at dksX0_annals_2 11 rfl rfl)
theorem dX0_annals_62 : decode cX0_annals 62 = .ok (.goto 89, 3) := dk_167 0 89 (dk_at dksX0_annals_2 14 rfl rfl)
theorem dX0_annals_65 : decode cX0_annals 65 = .ok (.aload 5, 2) := dk_25 5 (dk_at dksX0_annals_2 17 rfl rfl)
theorem dX0_annals_67 : decode cX0_annals 67 = .ok (.getfield 164, 3) := dk_180 0 164 (dk_at dksX0_annals_2 19 rfl rfl)
theorem dX0_annals_70 : decode cX0_annals 70 = .ok (.iconst 3, 1) := dk_6 (dk_at dksX0_annals_2 22 rfl rfl)
theorem dX0_annals_71 : decode cX0_annals 71 = .ok (.iaload, 1) := dk_46 (dk_at dksX0_annals_2 23 rfl rfl)
theorem dX0_annals_72 : decode cX0_annals 72 = .ok (.istore 6, 2) := dk_54 6 (dk_at dksX0_annals_3 0 rfl rfl)
theorem dX0_annals_74 : decode cX0_annals 74 = .ok (.aload 5, 2) := dk_25 5 (dk_at dksX0_annals_3 2 rfl rfl)
theorem dX0_annals_76 : decode cX0_annals 76 = .ok (.iconst 0, 1) := dk_3 (dk_at dksX0_annals_3 4 rfl rfl)
theorem dX0_annals_77 : decode cX0_annals 77 = .ok (.invokevirtual 268, 3) := dk_182 1 12 (dk_at dksX0_annals_3 5 rfl rfl)
theorem dX0_annals_80 : decode cX0_annals 80 = .ok (.ifCond .le 7, 3) := dk_158 0 7 (dk_at dksX0_annals_3 8 rfl rfl)
theorem dX0_annals_83 : decode cX0_annals 83 = .ok (.iconst 1, 1) := dk_4 (dk_at dksX0_annals_3 11 rfl rfl)
theorem dX0_annals_84 : decode cX0_annals 84 = .ok (.goto 4, 3) := dk_167 0 4 (dk_at dksX0_annals_3 12 rfl rfl)
theorem dX0_annals_87 : decode cX0_annals 87 = .ok (.iconst 0, 1) := dk_3 (dk_at dksX0_annals_3 15 rfl rfl)
theorem dX0_annals_88 : decode cX0_annals 88 = .ok (.aload 5, 2) := dk_25 5 (dk_at dksX0_annals_3 16 rfl rfl)
theorem dX0_annals_90 : decode cX0_annals 90 = .ok (.iconst 1, 1) := dk_4 (dk_at dksX0_annals_3 18 rfl rfl)
theorem dX0_annals_91 : decode cX0_annals 91 = .ok (.invokevirtual 268, 3) := dk_182 1 12 (dk_at dksX0_annals_3 19 rfl rfl)
theorem dX0_annals_94 : decode cX0_annals 94 = .ok (.ifCond .le 7, 3) := dk_158 0 7 (dk_at dksX0_annals_4 0 rfl rfl)
theorem dX0_annals_97 : decode cX0_annals 97 = .ok (.iconst 1, 1) := dk_4 (dk_at dksX0_annals_4 3 rfl rfl)
theorem dX0_annals_98 : decode cX0_annals 98 = .ok (.goto 4, 3) := dk_167 0 4 (dk_at dksX0_annals_4 4 rfl rfl)
theorem dX0_annals_101 : decode cX0_annals 101 = .ok (.iconst 0, 1) := dk_3 (dk_at dksX0_annals_4 7 rfl rfl)
theorem dX0_annals_102 : decode cX0_annals 102 = .ok (.iadd, 1) := dk_96 (dk_at dksX0_annals_4 8 rfl rfl)
theorem dX0_annals_103 : decode cX0_annals 103 = .ok (.istore 7, 2) := dk_54 7 (dk_at dksX0_annals_4 9 rfl rfl)
theorem dX0_annals_105 : decode cX0_annals 105 = .ok (.iload_n 2, 1) := dk_28 (dk_at dksX0_annals_4 11 rfl rfl)
theorem dX0_annals_106 : decode cX0_annals 106 = .ok (.iconst 3, 1) := dk_6 (dk_at dksX0_annals_4 12 rfl rfl)
theorem dX0_annals_107 : decode cX0_annals 107 = .ok (.if_icmp .ne 21, 3) := dk_160 0 21 (dk_at dksX0_annals_4 13 rfl rfl)
theorem dX0_annals_110 : decode cX0_annals 110 = .ok (.iload 7, 2) := dk_21 7 (dk_at dksX0_annals_4 16 rfl rfl)
theorem dX0_annals_112 : decode cX0_annals 112 = .ok (.ifCond .le 12, 3) := dk_158 0 12 (dk_at dksX0_annals_4 18 rfl rfl)
theorem dX0_annals_115 : decode cX0_annals 115 = .ok (.iload_n 3, 1) := dk_29 (dk_at dksX0_annals_4 21 rfl rfl)
theorem dX0_annals_116 : decode cX0_annals 116 = .ok (.iload 6, 2) := dk_21 6 (dk_at dksX0_annals_4 22 rfl rfl)
theorem dX0_annals_118 : decode cX0_annals 118 = .ok (.invokestatic 271, 3) := dk_184 1 15 (dk_at dksX0_annals_5 0 rfl rfl)
theorem dX0_annals_121 : decode cX0_annals 121 = .ok (.goto 29, 3) := dk_167 0 29 (dk_at dksX0_annals_5 3 rfl rfl)
theorem dX0_annals_124 : decode cX0_annals 124 = .ok (.iload_n 3, 1) := dk_29 (dk_at dksX0_annals_5 6 rfl rfl)
theorem dX0_annals_125 : decode cX0_annals 125 = .ok (.goto 25, 3) := dk_167 0 25 (dk_at dksX0_annals_5 7 rfl rfl)
theorem dX0_annals_128 : decode cX0_annals 128 = .ok (.iload_n 3, 1) := dk_29 (dk_at dksX0_annals_5 10 rfl rfl)
theorem dX0_annals_129 : decode cX0_annals 129 = .ok (.iload_n 2, 1) := dk_28 (dk_at dksX0_annals_5 11 rfl rfl)
theorem dX0_annals_130 : decode cX0_annals 130 = .ok (.ifCond .ne 7, 3) := dk_154 0 7 (dk_at dksX0_annals_5 12 rfl rfl)
theorem dX0_annals_133 : decode cX0_annals 133 = .ok (.iconst 1, 1) := dk_4 (dk_at dksX0_annals_5 15 rfl rfl)
theorem dX0_annals_134 : decode cX0_annals 134 = .ok (.goto 15, 3) := dk_167 0 15 (dk_at dksX0_annals_5 16 rfl rfl)
theorem dX0_annals_137 : decode cX0_annals 137 = .ok (.iload_n 2, 1) := dk_28 (dk_at dksX0_annals_5 19 rfl rfl)
theorem dX0_annals_138 : decode cX0_annals 138 = .ok (.iconst 1, 1) := dk_4 (dk_at dksX0_annals_5 20 rfl rfl)
theorem dX0_annals_139 : decode cX0_annals 139 = .ok (.if_icmp .ne 8, 3) := dk_160 0 8 (dk_at dksX0_annals_5 21 rfl rfl)
theorem dX0_annals_142 : decode cX0_annals 142 = .ok (.iload 6, 2) := dk_21 6 (dk_at dksX0_annals_6 0 rfl rfl)
theorem dX0_annals_144 : decode cX0_annals 144 = .ok (.goto 5, 3) := dk_167 0 5 (dk_at dksX0_annals_6 2 rfl rfl)
theorem dX0_annals_147 : decode cX0_annals 147 = .ok (.iload 7, 2) := dk_21 7 (dk_at dksX0_annals_6 5 rfl rfl)
theorem dX0_annals_149 : decode cX0_annals 149 = .ok (.iadd, 1) := dk_96 (dk_at dksX0_annals_6 7 rfl rfl)
theorem dX0_annals_150 : decode cX0_annals 150 = .ok (.istore_n 3, 1) := dk_62 (dk_at dksX0_annals_6 8 rfl rfl)
theorem dX0_annals_151 : decode cX0_annals 151 = .ok (.iinc 4 1, 3) := dk_132 4 1 (dk_at dksX0_annals_6 9 rfl rfl)
theorem dX0_annals_154 : decode cX0_annals 154 = .ok (.goto (-127), 3) := dk_167 255 129 (dk_at dksX0_annals_6 12 rfl rfl)
theorem dX0_annals_157 : decode cX0_annals 157 = .ok (.iload_n 3, 1) := dk_29 (dk_at dksX0_annals_6 15 rfl rfl)
theorem dX0_annals_158 : decode cX0_annals 158 = .ok (.ireturn, 1) := dk_172 (dk_at dksX0_annals_6 16 rfl rfl)
abbrev cX0_trust : ByteArray := prog_1_method_41_code
def yX0_trust : MethodName := ⟨RX0, "trust", "(II)I"⟩
def dkwX0_trust_5 : List UInt8 := [167, 255, 180, 132, 4, 1, 167, 255, 159, 29, 172]
abbrev dktX0_trust_5 : List UInt8 := dkwX0_trust_5 ++ []
def dkwX0_trust_4 : List UInt8 := [159, 0, 14, 25, 6, 21, 5, 182, 1, 12, 6, 162, 0, 7, 4, 167, 0, 4, 3, 96, 62, 132, 5, 1]
abbrev dktX0_trust_4 : List UInt8 := dkwX0_trust_4 ++ dktX0_trust_5
def dkwX0_trust_3 : List UInt8 := [159, 0, 6, 167, 0, 41, 29, 28, 153, 0, 29, 25, 6, 21, 5, 182, 1, 12, 158, 0, 23, 28, 4]
abbrev dktX0_trust_3 : List UInt8 := dkwX0_trust_3 ++ dktX0_trust_4
def dkwX0_trust_2 : List UInt8 := [180, 0, 36, 180, 0, 160, 21, 4, 50, 58, 6, 25, 6, 21, 5, 182, 1, 17, 16, 10, 108, 27]
abbrev dktX0_trust_2 : List UInt8 := dkwX0_trust_2 ++ dktX0_trust_3
def dkwX0_trust_1 : List UInt8 := [54, 4, 21, 4, 42, 180, 0, 36, 180, 0, 157, 162, 0, 91, 3, 54, 5, 21, 5, 5, 162, 0, 76, 42]
abbrev dktX0_trust_1 : List UInt8 := dkwX0_trust_1 ++ dktX0_trust_2
def dkwX0_trust_0 : List UInt8 := [27, 3, 16, 9, 184, 0, 81, 153, 0, 12, 28, 3, 5, 184, 0, 81, 154, 0, 5, 2, 172, 3, 62, 3]
abbrev dktX0_trust_0 : List UInt8 := dkwX0_trust_0 ++ dktX0_trust_1
theorem dksX0_trust_0 : cX0_trust.data.toList.drop 0 = dktX0_trust_0 := by decide +kernel
theorem dksX0_trust_1 : cX0_trust.data.toList.drop 24 = dktX0_trust_1 := dk_seg dksX0_trust_0 24 rfl rfl
theorem dksX0_trust_2 : cX0_trust.data.toList.drop 48 = dktX0_trust_2 := dk_seg dksX0_trust_1 24 rfl rfl
theorem dksX0_trust_3 : cX0_trust.data.toList.drop 70 = dktX0_trust_3 := dk_seg dksX0_trust_2 22 rfl rfl
theorem dksX0_trust_4 : cX0_trust.data.toList.drop 93 = dktX0_trust_4 := dk_seg dksX0_trust_3 23 rfl rfl
theorem dksX0_trust_5 : cX0_trust.data.toList.drop 117 = dktX0_trust_5 := dk_seg dksX0_trust_4 24 rfl rfl
theorem dX0_trust_0 : decode cX0_trust 0 = .ok (.iload_n 1, 1) := dk_27 (dk_at dksX0_trust_0 0 rfl rfl)
theorem dX0_trust_1 : decode cX0_trust 1 = .ok (.iconst 0, 1) := dk_3 (dk_at dksX0_trust_0 1 rfl rfl)
theorem dX0_trust_2 : decode cX0_trust 2 = .ok (.bipush 9, 2) := dk_16 9 (dk_at dksX0_trust_0 2 rfl rfl)
theorem dX0_trust_4 : decode cX0_trust 4 = .ok (.invokestatic 81, 3) := dk_184 0 81 (dk_at dksX0_trust_0 4 rfl rfl)
theorem dX0_trust_7 : decode cX0_trust 7 = .ok (.ifCond .eq 12, 3) := dk_153 0 12 (dk_at dksX0_trust_0 7 rfl rfl)
theorem dX0_trust_10 : decode cX0_trust 10 = .ok (.iload_n 2, 1) := dk_28 (dk_at dksX0_trust_0 10 rfl rfl)
theorem dX0_trust_11 : decode cX0_trust 11 = .ok (.iconst 0, 1) := dk_3 (dk_at dksX0_trust_0 11 rfl rfl)
theorem dX0_trust_12 : decode cX0_trust 12 = .ok (.iconst 2, 1) := dk_5 (dk_at dksX0_trust_0 12 rfl rfl)
theorem dX0_trust_13 : decode cX0_trust 13 = .ok (.invokestatic 81, 3) := dk_184 0 81 (dk_at dksX0_trust_0 13 rfl rfl)
theorem dX0_trust_16 : decode cX0_trust 16 = .ok (.ifCond .ne 5, 3) := dk_154 0 5 (dk_at dksX0_trust_0 16 rfl rfl)
theorem dX0_trust_19 : decode cX0_trust 19 = .ok (.iconst (-1), 1) := dk_2 (dk_at dksX0_trust_0 19 rfl rfl)
theorem dX0_trust_20 : decode cX0_trust 20 = .ok (.ireturn, 1) := dk_172 (dk_at dksX0_trust_0 20 rfl rfl)
theorem dX0_trust_21 : decode cX0_trust 21 = .ok (.iconst 0, 1) := dk_3 (dk_at dksX0_trust_0 21 rfl rfl)
theorem dX0_trust_22 : decode cX0_trust 22 = .ok (.istore_n 3, 1) := dk_62 (dk_at dksX0_trust_0 22 rfl rfl)
theorem dX0_trust_23 : decode cX0_trust 23 = .ok (.iconst 0, 1) := dk_3 (dk_at dksX0_trust_0 23 rfl rfl)
theorem dX0_trust_24 : decode cX0_trust 24 = .ok (.istore 4, 2) := dk_54 4 (dk_at dksX0_trust_1 0 rfl rfl)
theorem dX0_trust_26 : decode cX0_trust 26 = .ok (.iload 4, 2) := dk_21 4 (dk_at dksX0_trust_1 2 rfl rfl)
theorem dX0_trust_28 : decode cX0_trust 28 = .ok (.aload_n 0, 1) := dk_42 (dk_at dksX0_trust_1 4 rfl rfl)
theorem dX0_trust_29 : decode cX0_trust 29 = .ok (.getfield 36, 3) := dk_180 0 36 (dk_at dksX0_trust_1 5 rfl rfl)
theorem dX0_trust_32 : decode cX0_trust 32 = .ok (.getfield 157, 3) := dk_180 0 157 (dk_at dksX0_trust_1 8 rfl rfl)
theorem dX0_trust_35 : decode cX0_trust 35 = .ok (.if_icmp .ge 91, 3) := dk_162 0 91 (dk_at dksX0_trust_1 11 rfl rfl)
theorem dX0_trust_38 : decode cX0_trust 38 = .ok (.iconst 0, 1) := dk_3 (dk_at dksX0_trust_1 14 rfl rfl)
theorem dX0_trust_39 : decode cX0_trust 39 = .ok (.istore 5, 2) := dk_54 5 (dk_at dksX0_trust_1 15 rfl rfl)
theorem dX0_trust_41 : decode cX0_trust 41 = .ok (.iload 5, 2) := dk_21 5 (dk_at dksX0_trust_1 17 rfl rfl)
theorem dX0_trust_43 : decode cX0_trust 43 = .ok (.iconst 2, 1) := dk_5 (dk_at dksX0_trust_1 19 rfl rfl)
theorem dX0_trust_44 : decode cX0_trust 44 = .ok (.if_icmp .ge 76, 3) := dk_162 0 76 (dk_at dksX0_trust_1 20 rfl rfl)
theorem dX0_trust_47 : decode cX0_trust 47 = .ok (.aload_n 0, 1) := dk_42 (dk_at dksX0_trust_1 23 rfl rfl)
theorem dX0_trust_48 : decode cX0_trust 48 = .ok (.getfield 36, 3) := dk_180 0 36 (dk_at dksX0_trust_2 0 rfl rfl)
theorem dX0_trust_51 : decode cX0_trust 51 = .ok (.getfield 160, 3) := dk_180 0 160 (dk_at dksX0_trust_2 3 rfl rfl)
theorem dX0_trust_54 : decode cX0_trust 54 = .ok (.iload 4, 2) := dk_21 4 (dk_at dksX0_trust_2 6 rfl rfl)
theorem dX0_trust_56 : decode cX0_trust 56 = .ok (.aaload, 1) := dk_50 (dk_at dksX0_trust_2 8 rfl rfl)
theorem dX0_trust_57 : decode cX0_trust 57 = .ok (.astore 6, 2) := dk_58 6 (dk_at dksX0_trust_2 9 rfl rfl)
theorem dX0_trust_59 : decode cX0_trust 59 = .ok (.aload 6, 2) := dk_25 6 (dk_at dksX0_trust_2 11 rfl rfl)
theorem dX0_trust_61 : decode cX0_trust 61 = .ok (.iload 5, 2) := dk_21 5 (dk_at dksX0_trust_2 13 rfl rfl)
theorem dX0_trust_63 : decode cX0_trust 63 = .ok (.invokevirtual 273, 3) := dk_182 1 17 (dk_at dksX0_trust_2 15 rfl rfl)
theorem dX0_trust_66 : decode cX0_trust 66 = .ok (.bipush 10, 2) := dk_16 10 (dk_at dksX0_trust_2 18 rfl rfl)
theorem dX0_trust_68 : decode cX0_trust 68 = .ok (.idiv, 1) := dk_108 (dk_at dksX0_trust_2 20 rfl rfl)
theorem dX0_trust_69 : decode cX0_trust 69 = .ok (.iload_n 1, 1) := dk_27 (dk_at dksX0_trust_2 21 rfl rfl)
theorem dX0_trust_70 : decode cX0_trust 70 = .ok (.if_icmp .eq 6, 3) := dk_159 0 6 (dk_at dksX0_trust_3 0 rfl rfl)
theorem dX0_trust_73 : decode cX0_trust 73 = .ok (.goto 41, 3) := dk_167 0 41 (dk_at dksX0_trust_3 3 rfl rfl)
theorem dX0_trust_76 : decode cX0_trust 76 = .ok (.iload_n 3, 1) := dk_29 (dk_at dksX0_trust_3 6 rfl rfl)
theorem dX0_trust_77 : decode cX0_trust 77 = .ok (.iload_n 2, 1) := dk_28 (dk_at dksX0_trust_3 7 rfl rfl)
theorem dX0_trust_78 : decode cX0_trust 78 = .ok (.ifCond .eq 29, 3) := dk_153 0 29 (dk_at dksX0_trust_3 8 rfl rfl)
theorem dX0_trust_81 : decode cX0_trust 81 = .ok (.aload 6, 2) := dk_25 6 (dk_at dksX0_trust_3 11 rfl rfl)
theorem dX0_trust_83 : decode cX0_trust 83 = .ok (.iload 5, 2) := dk_21 5 (dk_at dksX0_trust_3 13 rfl rfl)
theorem dX0_trust_85 : decode cX0_trust 85 = .ok (.invokevirtual 268, 3) := dk_182 1 12 (dk_at dksX0_trust_3 15 rfl rfl)
theorem dX0_trust_88 : decode cX0_trust 88 = .ok (.ifCond .le 23, 3) := dk_158 0 23 (dk_at dksX0_trust_3 18 rfl rfl)
theorem dX0_trust_91 : decode cX0_trust 91 = .ok (.iload_n 2, 1) := dk_28 (dk_at dksX0_trust_3 21 rfl rfl)
theorem dX0_trust_92 : decode cX0_trust 92 = .ok (.iconst 1, 1) := dk_4 (dk_at dksX0_trust_3 22 rfl rfl)
theorem dX0_trust_93 : decode cX0_trust 93 = .ok (.if_icmp .eq 14, 3) := dk_159 0 14 (dk_at dksX0_trust_4 0 rfl rfl)
theorem dX0_trust_96 : decode cX0_trust 96 = .ok (.aload 6, 2) := dk_25 6 (dk_at dksX0_trust_4 3 rfl rfl)
theorem dX0_trust_98 : decode cX0_trust 98 = .ok (.iload 5, 2) := dk_21 5 (dk_at dksX0_trust_4 5 rfl rfl)
theorem dX0_trust_100 : decode cX0_trust 100 = .ok (.invokevirtual 268, 3) := dk_182 1 12 (dk_at dksX0_trust_4 7 rfl rfl)
theorem dX0_trust_103 : decode cX0_trust 103 = .ok (.iconst 3, 1) := dk_6 (dk_at dksX0_trust_4 10 rfl rfl)
theorem dX0_trust_104 : decode cX0_trust 104 = .ok (.if_icmp .ge 7, 3) := dk_162 0 7 (dk_at dksX0_trust_4 11 rfl rfl)
theorem dX0_trust_107 : decode cX0_trust 107 = .ok (.iconst 1, 1) := dk_4 (dk_at dksX0_trust_4 14 rfl rfl)
theorem dX0_trust_108 : decode cX0_trust 108 = .ok (.goto 4, 3) := dk_167 0 4 (dk_at dksX0_trust_4 15 rfl rfl)
theorem dX0_trust_111 : decode cX0_trust 111 = .ok (.iconst 0, 1) := dk_3 (dk_at dksX0_trust_4 18 rfl rfl)
theorem dX0_trust_112 : decode cX0_trust 112 = .ok (.iadd, 1) := dk_96 (dk_at dksX0_trust_4 19 rfl rfl)
theorem dX0_trust_113 : decode cX0_trust 113 = .ok (.istore_n 3, 1) := dk_62 (dk_at dksX0_trust_4 20 rfl rfl)
theorem dX0_trust_114 : decode cX0_trust 114 = .ok (.iinc 5 1, 3) := dk_132 5 1 (dk_at dksX0_trust_4 21 rfl rfl)
theorem dX0_trust_117 : decode cX0_trust 117 = .ok (.goto (-76), 3) := dk_167 255 180 (dk_at dksX0_trust_5 0 rfl rfl)
theorem dX0_trust_120 : decode cX0_trust 120 = .ok (.iinc 4 1, 3) := dk_132 4 1 (dk_at dksX0_trust_5 3 rfl rfl)
theorem dX0_trust_123 : decode cX0_trust 123 = .ok (.goto (-97), 3) := dk_167 255 159 (dk_at dksX0_trust_5 6 rfl rfl)
theorem dX0_trust_126 : decode cX0_trust 126 = .ok (.iload_n 3, 1) := dk_29 (dk_at dksX0_trust_5 9 rfl rfl)
theorem dX0_trust_127 : decode cX0_trust 127 = .ok (.ireturn, 1) := dk_172 (dk_at dksX0_trust_5 10 rfl rfl)
abbrev cX0_held : ByteArray := prog_1_method_42_code
def yX0_held : MethodName := ⟨RX0, "held", "(II)I"⟩
def dkwX0_held_6 : List UInt8 := [182, 1, 2, 29, 100, 172]
abbrev dktX0_held_6 : List UInt8 := dkwX0_held_6 ++ []
def dkwX0_held_5 : List UInt8 := [132, 5, 1, 167, 255, 178, 132, 4, 1, 167, 255, 157, 42, 180, 0, 36, 180, 0, 123, 27, 50, 28]
abbrev dktX0_held_5 : List UInt8 := dkwX0_held_5 ++ dktX0_held_6
def dkwX0_held_4 : List UInt8 := [3, 167, 0, 19, 25, 6, 21, 5, 182, 1, 12, 4, 160, 0, 7, 4, 167, 0, 4, 3, 96, 62]
abbrev dktX0_held_4 : List UInt8 := dkwX0_held_4 ++ dktX0_held_5
def dkwX0_held_3 : List UInt8 := [167, 0, 46, 29, 28, 154, 0, 23, 25, 6, 21, 5, 182, 1, 12, 6, 112, 154, 0, 7, 4, 167, 0, 23]
abbrev dktX0_held_3 : List UInt8 := dkwX0_held_3 ++ dktX0_held_4
def dkwX0_held_2 : List UInt8 := [180, 0, 36, 180, 0, 160, 21, 4, 50, 58, 6, 25, 6, 21, 5, 182, 1, 20, 27, 159, 0, 6]
abbrev dktX0_held_2 : List UInt8 := dkwX0_held_2 ++ dktX0_held_3
def dkwX0_held_1 : List UInt8 := [54, 4, 21, 4, 42, 180, 0, 36, 180, 0, 157, 162, 0, 93, 3, 54, 5, 21, 5, 5, 162, 0, 78, 42]
abbrev dktX0_held_1 : List UInt8 := dkwX0_held_1 ++ dktX0_held_2
def dkwX0_held_0 : List UInt8 := [42, 27, 182, 0, 119, 153, 0, 12, 28, 3, 4, 184, 0, 81, 154, 0, 6, 18, 136, 172, 3, 62, 3]
abbrev dktX0_held_0 : List UInt8 := dkwX0_held_0 ++ dktX0_held_1
theorem dksX0_held_0 : cX0_held.data.toList.drop 0 = dktX0_held_0 := by decide +kernel
theorem dksX0_held_1 : cX0_held.data.toList.drop 23 = dktX0_held_1 := dk_seg dksX0_held_0 23 rfl rfl
theorem dksX0_held_2 : cX0_held.data.toList.drop 47 = dktX0_held_2 := dk_seg dksX0_held_1 24 rfl rfl
theorem dksX0_held_3 : cX0_held.data.toList.drop 69 = dktX0_held_3 := dk_seg dksX0_held_2 22 rfl rfl
theorem dksX0_held_4 : cX0_held.data.toList.drop 93 = dktX0_held_4 := dk_seg dksX0_held_3 24 rfl rfl
theorem dksX0_held_5 : cX0_held.data.toList.drop 115 = dktX0_held_5 := dk_seg dksX0_held_4 22 rfl rfl
theorem dksX0_held_6 : cX0_held.data.toList.drop 137 = dktX0_held_6 := dk_seg dksX0_held_5 22 rfl rfl
theorem dX0_held_0 : decode cX0_held 0 = .ok (.aload_n 0, 1) := dk_42 (dk_at dksX0_held_0 0 rfl rfl)
theorem dX0_held_1 : decode cX0_held 1 = .ok (.iload_n 1, 1) := dk_27 (dk_at dksX0_held_0 1 rfl rfl)
theorem dX0_held_2 : decode cX0_held 2 = .ok (.invokevirtual 119, 3) := dk_182 0 119 (dk_at dksX0_held_0 2 rfl rfl)
theorem dX0_held_5 : decode cX0_held 5 = .ok (.ifCond .eq 12, 3) := dk_153 0 12 (dk_at dksX0_held_0 5 rfl rfl)
theorem dX0_held_8 : decode cX0_held 8 = .ok (.iload_n 2, 1) := dk_28 (dk_at dksX0_held_0 8 rfl rfl)
theorem dX0_held_9 : decode cX0_held 9 = .ok (.iconst 0, 1) := dk_3 (dk_at dksX0_held_0 9 rfl rfl)
theorem dX0_held_10 : decode cX0_held 10 = .ok (.iconst 1, 1) := dk_4 (dk_at dksX0_held_0 10 rfl rfl)
theorem dX0_held_11 : decode cX0_held 11 = .ok (.invokestatic 81, 3) := dk_184 0 81 (dk_at dksX0_held_0 11 rfl rfl)
theorem dX0_held_14 : decode cX0_held 14 = .ok (.ifCond .ne 6, 3) := dk_154 0 6 (dk_at dksX0_held_0 14 rfl rfl)
theorem dX0_held_17 : decode cX0_held 17 = .ok (.ldc 136, 2) := dk_18 136 (dk_at dksX0_held_0 17 rfl rfl)
theorem dX0_held_19 : decode cX0_held 19 = .ok (.ireturn, 1) := dk_172 (dk_at dksX0_held_0 19 rfl rfl)
theorem dX0_held_20 : decode cX0_held 20 = .ok (.iconst 0, 1) := dk_3 (dk_at dksX0_held_0 20 rfl rfl)
theorem dX0_held_21 : decode cX0_held 21 = .ok (.istore_n 3, 1) := dk_62 (dk_at dksX0_held_0 21 rfl rfl)
theorem dX0_held_22 : decode cX0_held 22 = .ok (.iconst 0, 1) := dk_3 (dk_at dksX0_held_0 22 rfl rfl)
theorem dX0_held_23 : decode cX0_held 23 = .ok (.istore 4, 2) := dk_54 4 (dk_at dksX0_held_1 0 rfl rfl)
theorem dX0_held_25 : decode cX0_held 25 = .ok (.iload 4, 2) := dk_21 4 (dk_at dksX0_held_1 2 rfl rfl)
theorem dX0_held_27 : decode cX0_held 27 = .ok (.aload_n 0, 1) := dk_42 (dk_at dksX0_held_1 4 rfl rfl)
theorem dX0_held_28 : decode cX0_held 28 = .ok (.getfield 36, 3) := dk_180 0 36 (dk_at dksX0_held_1 5 rfl rfl)
theorem dX0_held_31 : decode cX0_held 31 = .ok (.getfield 157, 3) := dk_180 0 157 (dk_at dksX0_held_1 8 rfl rfl)
theorem dX0_held_34 : decode cX0_held 34 = .ok (.if_icmp .ge 93, 3) := dk_162 0 93 (dk_at dksX0_held_1 11 rfl rfl)
theorem dX0_held_37 : decode cX0_held 37 = .ok (.iconst 0, 1) := dk_3 (dk_at dksX0_held_1 14 rfl rfl)
theorem dX0_held_38 : decode cX0_held 38 = .ok (.istore 5, 2) := dk_54 5 (dk_at dksX0_held_1 15 rfl rfl)
theorem dX0_held_40 : decode cX0_held 40 = .ok (.iload 5, 2) := dk_21 5 (dk_at dksX0_held_1 17 rfl rfl)
theorem dX0_held_42 : decode cX0_held 42 = .ok (.iconst 2, 1) := dk_5 (dk_at dksX0_held_1 19 rfl rfl)
theorem dX0_held_43 : decode cX0_held 43 = .ok (.if_icmp .ge 78, 3) := dk_162 0 78 (dk_at dksX0_held_1 20 rfl rfl)
theorem dX0_held_46 : decode cX0_held 46 = .ok (.aload_n 0, 1) := dk_42 (dk_at dksX0_held_1 23 rfl rfl)
theorem dX0_held_47 : decode cX0_held 47 = .ok (.getfield 36, 3) := dk_180 0 36 (dk_at dksX0_held_2 0 rfl rfl)
theorem dX0_held_50 : decode cX0_held 50 = .ok (.getfield 160, 3) := dk_180 0 160 (dk_at dksX0_held_2 3 rfl rfl)
theorem dX0_held_53 : decode cX0_held 53 = .ok (.iload 4, 2) := dk_21 4 (dk_at dksX0_held_2 6 rfl rfl)
theorem dX0_held_55 : decode cX0_held 55 = .ok (.aaload, 1) := dk_50 (dk_at dksX0_held_2 8 rfl rfl)
theorem dX0_held_56 : decode cX0_held 56 = .ok (.astore 6, 2) := dk_58 6 (dk_at dksX0_held_2 9 rfl rfl)
theorem dX0_held_58 : decode cX0_held 58 = .ok (.aload 6, 2) := dk_25 6 (dk_at dksX0_held_2 11 rfl rfl)
theorem dX0_held_60 : decode cX0_held 60 = .ok (.iload 5, 2) := dk_21 5 (dk_at dksX0_held_2 13 rfl rfl)
theorem dX0_held_62 : decode cX0_held 62 = .ok (.invokevirtual 276, 3) := dk_182 1 20 (dk_at dksX0_held_2 15 rfl rfl)
theorem dX0_held_65 : decode cX0_held 65 = .ok (.iload_n 1, 1) := dk_27 (dk_at dksX0_held_2 18 rfl rfl)
theorem dX0_held_66 : decode cX0_held 66 = .ok (.if_icmp .eq 6, 3) := dk_159 0 6 (dk_at dksX0_held_2 19 rfl rfl)
theorem dX0_held_69 : decode cX0_held 69 = .ok (.goto 46, 3) := dk_167 0 46 (dk_at dksX0_held_3 0 rfl rfl)
theorem dX0_held_72 : decode cX0_held 72 = .ok (.iload_n 3, 1) := dk_29 (dk_at dksX0_held_3 3 rfl rfl)
theorem dX0_held_73 : decode cX0_held 73 = .ok (.iload_n 2, 1) := dk_28 (dk_at dksX0_held_3 4 rfl rfl)
theorem dX0_held_74 : decode cX0_held 74 = .ok (.ifCond .ne 23, 3) := dk_154 0 23 (dk_at dksX0_held_3 5 rfl rfl)
theorem dX0_held_77 : decode cX0_held 77 = .ok (.aload 6, 2) := dk_25 6 (dk_at dksX0_held_3 8 rfl rfl)
theorem dX0_held_79 : decode cX0_held 79 = .ok (.iload 5, 2) := dk_21 5 (dk_at dksX0_held_3 10 rfl rfl)
theorem dX0_held_81 : decode cX0_held 81 = .ok (.invokevirtual 268, 3) := dk_182 1 12 (dk_at dksX0_held_3 12 rfl rfl)
theorem dX0_held_84 : decode cX0_held 84 = .ok (.iconst 3, 1) := dk_6 (dk_at dksX0_held_3 15 rfl rfl)
theorem dX0_held_85 : decode cX0_held 85 = .ok (.irem, 1) := dk_112 (dk_at dksX0_held_3 16 rfl rfl)
theorem dX0_held_86 : decode cX0_held 86 = .ok (.ifCond .ne 7, 3) := dk_154 0 7 (dk_at dksX0_held_3 17 rfl rfl)
theorem dX0_held_89 : decode cX0_held 89 = .ok (.iconst 1, 1) := dk_4 (dk_at dksX0_held_3 20 rfl rfl)
theorem dX0_held_90 : decode cX0_held 90 = .ok (.goto 23, 3) := dk_167 0 23 (dk_at dksX0_held_3 21 rfl rfl)
theorem dX0_held_93 : decode cX0_held 93 = .ok (.iconst 0, 1) := dk_3 (dk_at dksX0_held_4 0 rfl rfl)
theorem dX0_held_94 : decode cX0_held 94 = .ok (.goto 19, 3) := dk_167 0 19 (dk_at dksX0_held_4 1 rfl rfl)
theorem dX0_held_97 : decode cX0_held 97 = .ok (.aload 6, 2) := dk_25 6 (dk_at dksX0_held_4 4 rfl rfl)
theorem dX0_held_99 : decode cX0_held 99 = .ok (.iload 5, 2) := dk_21 5 (dk_at dksX0_held_4 6 rfl rfl)
theorem dX0_held_101 : decode cX0_held 101 = .ok (.invokevirtual 268, 3) := dk_182 1 12 (dk_at dksX0_held_4 8 rfl rfl)
theorem dX0_held_104 : decode cX0_held 104 = .ok (.iconst 1, 1) := dk_4 (dk_at dksX0_held_4 11 rfl rfl)
theorem dX0_held_105 : decode cX0_held 105 = .ok (.if_icmp .ne 7, 3) := dk_160 0 7 (dk_at dksX0_held_4 12 rfl rfl)
theorem dX0_held_108 : decode cX0_held 108 = .ok (.iconst 1, 1) := dk_4 (dk_at dksX0_held_4 15 rfl rfl)
theorem dX0_held_109 : decode cX0_held 109 = .ok (.goto 4, 3) := dk_167 0 4 (dk_at dksX0_held_4 16 rfl rfl)
theorem dX0_held_112 : decode cX0_held 112 = .ok (.iconst 0, 1) := dk_3 (dk_at dksX0_held_4 19 rfl rfl)
theorem dX0_held_113 : decode cX0_held 113 = .ok (.iadd, 1) := dk_96 (dk_at dksX0_held_4 20 rfl rfl)
theorem dX0_held_114 : decode cX0_held 114 = .ok (.istore_n 3, 1) := dk_62 (dk_at dksX0_held_4 21 rfl rfl)
theorem dX0_held_115 : decode cX0_held 115 = .ok (.iinc 5 1, 3) := dk_132 5 1 (dk_at dksX0_held_5 0 rfl rfl)
theorem dX0_held_118 : decode cX0_held 118 = .ok (.goto (-78), 3) := dk_167 255 178 (dk_at dksX0_held_5 3 rfl rfl)
theorem dX0_held_121 : decode cX0_held 121 = .ok (.iinc 4 1, 3) := dk_132 4 1 (dk_at dksX0_held_5 6 rfl rfl)
theorem dX0_held_124 : decode cX0_held 124 = .ok (.goto (-99), 3) := dk_167 255 157 (dk_at dksX0_held_5 9 rfl rfl)
theorem dX0_held_127 : decode cX0_held 127 = .ok (.aload_n 0, 1) := dk_42 (dk_at dksX0_held_5 12 rfl rfl)
theorem dX0_held_128 : decode cX0_held 128 = .ok (.getfield 36, 3) := dk_180 0 36 (dk_at dksX0_held_5 13 rfl rfl)
theorem dX0_held_131 : decode cX0_held 131 = .ok (.getfield 123, 3) := dk_180 0 123 (dk_at dksX0_held_5 16 rfl rfl)
theorem dX0_held_134 : decode cX0_held 134 = .ok (.iload_n 1, 1) := dk_27 (dk_at dksX0_held_5 19 rfl rfl)
theorem dX0_held_135 : decode cX0_held 135 = .ok (.aaload, 1) := dk_50 (dk_at dksX0_held_5 20 rfl rfl)
theorem dX0_held_136 : decode cX0_held 136 = .ok (.iload_n 2, 1) := dk_28 (dk_at dksX0_held_5 21 rfl rfl)
theorem dX0_held_137 : decode cX0_held 137 = .ok (.invokevirtual 258, 3) := dk_182 1 2 (dk_at dksX0_held_6 0 rfl rfl)
theorem dX0_held_140 : decode cX0_held 140 = .ok (.iload_n 3, 1) := dk_29 (dk_at dksX0_held_6 3 rfl rfl)
theorem dX0_held_141 : decode cX0_held 141 = .ok (.isub, 1) := dk_100 (dk_at dksX0_held_6 4 rfl rfl)
theorem dX0_held_142 : decode cX0_held 142 = .ok (.ireturn, 1) := dk_172 (dk_at dksX0_held_6 5 rfl rfl)
abbrev cX0_lend : ByteArray := prog_1_method_43_code
def yX0_lend : MethodName := ⟨RX0, "lend", "(IIII)Z"⟩
def dkwX0_lend_5 : List UInt8 := [100, 79, 4, 172]
abbrev dktX0_lend_5 : List UInt8 := dkwX0_lend_5 ++ []
def dkwX0_lend_4 : List UInt8 := [5, 92, 46, 29, 96, 79, 25, 5, 16, 7, 92, 46, 21, 4, 96, 79, 25, 6, 16, 7, 92, 46, 21, 4]
abbrev dktX0_lend_4 : List UInt8 := dkwX0_lend_4 ++ dktX0_lend_5
def dkwX0_lend_3 : List UInt8 := [25, 6, 5, 46, 29, 96, 17, 39, 15, 164, 0, 5, 3, 172, 25, 5, 5, 92, 46, 29, 100, 79, 25, 6]
abbrev dktX0_lend_3 : List UInt8 := dkwX0_lend_3 ++ dktX0_lend_4
def dkwX0_lend_2 : List UInt8 := [58, 5, 42, 180, 0, 36, 180, 0, 123, 28, 50, 180, 0, 127, 58, 6, 25, 5, 5, 46, 29, 161, 0, 15]
abbrev dktX0_lend_2 : List UInt8 := dkwX0_lend_2 ++ dktX0_lend_3
def dkwX0_lend_1 : List UInt8 := [17, 39, 15, 184, 0, 81, 154, 0, 5, 3, 172, 42, 180, 0, 36, 180, 0, 123, 27, 50, 180, 0, 127]
abbrev dktX0_lend_1 : List UInt8 := dkwX0_lend_1 ++ dktX0_lend_2
def dkwX0_lend_0 : List UInt8 := [42, 27, 28, 182, 0, 137, 153, 0, 25, 29, 4, 16, 99, 184, 0, 81, 153, 0, 15, 21, 4, 3]
abbrev dktX0_lend_0 : List UInt8 := dkwX0_lend_0 ++ dktX0_lend_1
theorem dksX0_lend_0 : cX0_lend.data.toList.drop 0 = dktX0_lend_0 := by decide +kernel
theorem dksX0_lend_1 : cX0_lend.data.toList.drop 22 = dktX0_lend_1 := dk_seg dksX0_lend_0 22 rfl rfl
theorem dksX0_lend_2 : cX0_lend.data.toList.drop 45 = dktX0_lend_2 := dk_seg dksX0_lend_1 23 rfl rfl
theorem dksX0_lend_3 : cX0_lend.data.toList.drop 69 = dktX0_lend_3 := dk_seg dksX0_lend_2 24 rfl rfl
theorem dksX0_lend_4 : cX0_lend.data.toList.drop 93 = dktX0_lend_4 := dk_seg dksX0_lend_3 24 rfl rfl
theorem dksX0_lend_5 : cX0_lend.data.toList.drop 117 = dktX0_lend_5 := dk_seg dksX0_lend_4 24 rfl rfl
theorem dX0_lend_0 : decode cX0_lend 0 = .ok (.aload_n 0, 1) := dk_42 (dk_at dksX0_lend_0 0 rfl rfl)
theorem dX0_lend_1 : decode cX0_lend 1 = .ok (.iload_n 1, 1) := dk_27 (dk_at dksX0_lend_0 1 rfl rfl)
theorem dX0_lend_2 : decode cX0_lend 2 = .ok (.iload_n 2, 1) := dk_28 (dk_at dksX0_lend_0 2 rfl rfl)
theorem dX0_lend_3 : decode cX0_lend 3 = .ok (.invokevirtual 137, 3) := dk_182 0 137 (dk_at dksX0_lend_0 3 rfl rfl)
theorem dX0_lend_6 : decode cX0_lend 6 = .ok (.ifCond .eq 25, 3) := dk_153 0 25 (dk_at dksX0_lend_0 6 rfl rfl)
theorem dX0_lend_9 : decode cX0_lend 9 = .ok (.iload_n 3, 1) := dk_29 (dk_at dksX0_lend_0 9 rfl rfl)
theorem dX0_lend_10 : decode cX0_lend 10 = .ok (.iconst 1, 1) := dk_4 (dk_at dksX0_lend_0 10 rfl rfl)
theorem dX0_lend_11 : decode cX0_lend 11 = .ok (.bipush 99, 2) := dk_16 99 (dk_at dksX0_lend_0 11 rfl rfl)
theorem dX0_lend_13 : decode cX0_lend 13 = .ok (.invokestatic 81, 3) := dk_184 0 81 (dk_at dksX0_lend_0 13 rfl rfl)
theorem dX0_lend_16 : decode cX0_lend 16 = .ok (.ifCond .eq 15, 3) := dk_153 0 15 (dk_at dksX0_lend_0 16 rfl rfl)
theorem dX0_lend_19 : decode cX0_lend 19 = .ok (.iload 4, 2) := dk_21 4 (dk_at dksX0_lend_0 19 rfl rfl)
theorem dX0_lend_21 : decode cX0_lend 21 = .ok (.iconst 0, 1) := dk_3 (dk_at dksX0_lend_0 21 rfl rfl)
theorem dX0_lend_22 : decode cX0_lend 22 = .ok (.sipush 9999, 3) := dk_17 39 15 (dk_at dksX0_lend_1 0 rfl rfl)
theorem dX0_lend_25 : decode cX0_lend 25 = .ok (.invokestatic 81, 3) := dk_184 0 81 (dk_at dksX0_lend_1 3 rfl rfl)
theorem dX0_lend_28 : decode cX0_lend 28 = .ok (.ifCond .ne 5, 3) := dk_154 0 5 (dk_at dksX0_lend_1 6 rfl rfl)
theorem dX0_lend_31 : decode cX0_lend 31 = .ok (.iconst 0, 1) := dk_3 (dk_at dksX0_lend_1 9 rfl rfl)
theorem dX0_lend_32 : decode cX0_lend 32 = .ok (.ireturn, 1) := dk_172 (dk_at dksX0_lend_1 10 rfl rfl)
theorem dX0_lend_33 : decode cX0_lend 33 = .ok (.aload_n 0, 1) := dk_42 (dk_at dksX0_lend_1 11 rfl rfl)
theorem dX0_lend_34 : decode cX0_lend 34 = .ok (.getfield 36, 3) := dk_180 0 36 (dk_at dksX0_lend_1 12 rfl rfl)
theorem dX0_lend_37 : decode cX0_lend 37 = .ok (.getfield 123, 3) := dk_180 0 123 (dk_at dksX0_lend_1 15 rfl rfl)
theorem dX0_lend_40 : decode cX0_lend 40 = .ok (.iload_n 1, 1) := dk_27 (dk_at dksX0_lend_1 18 rfl rfl)
theorem dX0_lend_41 : decode cX0_lend 41 = .ok (.aaload, 1) := dk_50 (dk_at dksX0_lend_1 19 rfl rfl)
theorem dX0_lend_42 : decode cX0_lend 42 = .ok (.getfield 127, 3) := dk_180 0 127 (dk_at dksX0_lend_1 20 rfl rfl)
theorem dX0_lend_45 : decode cX0_lend 45 = .ok (.astore 5, 2) := dk_58 5 (dk_at dksX0_lend_2 0 rfl rfl)
theorem dX0_lend_47 : decode cX0_lend 47 = .ok (.aload_n 0, 1) := dk_42 (dk_at dksX0_lend_2 2 rfl rfl)
theorem dX0_lend_48 : decode cX0_lend 48 = .ok (.getfield 36, 3) := dk_180 0 36 (dk_at dksX0_lend_2 3 rfl rfl)
theorem dX0_lend_51 : decode cX0_lend 51 = .ok (.getfield 123, 3) := dk_180 0 123 (dk_at dksX0_lend_2 6 rfl rfl)
theorem dX0_lend_54 : decode cX0_lend 54 = .ok (.iload_n 2, 1) := dk_28 (dk_at dksX0_lend_2 9 rfl rfl)
theorem dX0_lend_55 : decode cX0_lend 55 = .ok (.aaload, 1) := dk_50 (dk_at dksX0_lend_2 10 rfl rfl)
theorem dX0_lend_56 : decode cX0_lend 56 = .ok (.getfield 127, 3) := dk_180 0 127 (dk_at dksX0_lend_2 11 rfl rfl)
theorem dX0_lend_59 : decode cX0_lend 59 = .ok (.astore 6, 2) := dk_58 6 (dk_at dksX0_lend_2 14 rfl rfl)
theorem dX0_lend_61 : decode cX0_lend 61 = .ok (.aload 5, 2) := dk_25 5 (dk_at dksX0_lend_2 16 rfl rfl)
theorem dX0_lend_63 : decode cX0_lend 63 = .ok (.iconst 2, 1) := dk_5 (dk_at dksX0_lend_2 18 rfl rfl)
theorem dX0_lend_64 : decode cX0_lend 64 = .ok (.iaload, 1) := dk_46 (dk_at dksX0_lend_2 19 rfl rfl)
theorem dX0_lend_65 : decode cX0_lend 65 = .ok (.iload_n 3, 1) := dk_29 (dk_at dksX0_lend_2 20 rfl rfl)
theorem dX0_lend_66 : decode cX0_lend 66 = .ok (.if_icmp .lt 15, 3) := dk_161 0 15 (dk_at dksX0_lend_2 21 rfl rfl)
theorem dX0_lend_69 : decode cX0_lend 69 = .ok (.aload 6, 2) := dk_25 6 (dk_at dksX0_lend_3 0 rfl rfl)
theorem dX0_lend_71 : decode cX0_lend 71 = .ok (.iconst 2, 1) := dk_5 (dk_at dksX0_lend_3 2 rfl rfl)
theorem dX0_lend_72 : decode cX0_lend 72 = .ok (.iaload, 1) := dk_46 (dk_at dksX0_lend_3 3 rfl rfl)
theorem dX0_lend_73 : decode cX0_lend 73 = .ok (.iload_n 3, 1) := dk_29 (dk_at dksX0_lend_3 4 rfl rfl)
theorem dX0_lend_74 : decode cX0_lend 74 = .ok (.iadd, 1) := dk_96 (dk_at dksX0_lend_3 5 rfl rfl)
theorem dX0_lend_75 : decode cX0_lend 75 = .ok (.sipush 9999, 3) := dk_17 39 15 (dk_at dksX0_lend_3 6 rfl rfl)
theorem dX0_lend_78 : decode cX0_lend 78 = .ok (.if_icmp .le 5, 3) := dk_164 0 5 (dk_at dksX0_lend_3 9 rfl rfl)
theorem dX0_lend_81 : decode cX0_lend 81 = .ok (.iconst 0, 1) := dk_3 (dk_at dksX0_lend_3 12 rfl rfl)
theorem dX0_lend_82 : decode cX0_lend 82 = .ok (.ireturn, 1) := dk_172 (dk_at dksX0_lend_3 13 rfl rfl)
theorem dX0_lend_83 : decode cX0_lend 83 = .ok (.aload 5, 2) := dk_25 5 (dk_at dksX0_lend_3 14 rfl rfl)
theorem dX0_lend_85 : decode cX0_lend 85 = .ok (.iconst 2, 1) := dk_5 (dk_at dksX0_lend_3 16 rfl rfl)
theorem dX0_lend_86 : decode cX0_lend 86 = .ok (.dup2, 1) := dk_92 (dk_at dksX0_lend_3 17 rfl rfl)
theorem dX0_lend_87 : decode cX0_lend 87 = .ok (.iaload, 1) := dk_46 (dk_at dksX0_lend_3 18 rfl rfl)
theorem dX0_lend_88 : decode cX0_lend 88 = .ok (.iload_n 3, 1) := dk_29 (dk_at dksX0_lend_3 19 rfl rfl)
theorem dX0_lend_89 : decode cX0_lend 89 = .ok (.isub, 1) := dk_100 (dk_at dksX0_lend_3 20 rfl rfl)
theorem dX0_lend_90 : decode cX0_lend 90 = .ok (.iastore, 1) := dk_79 (dk_at dksX0_lend_3 21 rfl rfl)
theorem dX0_lend_91 : decode cX0_lend 91 = .ok (.aload 6, 2) := dk_25 6 (dk_at dksX0_lend_3 22 rfl rfl)
theorem dX0_lend_93 : decode cX0_lend 93 = .ok (.iconst 2, 1) := dk_5 (dk_at dksX0_lend_4 0 rfl rfl)
theorem dX0_lend_94 : decode cX0_lend 94 = .ok (.dup2, 1) := dk_92 (dk_at dksX0_lend_4 1 rfl rfl)
theorem dX0_lend_95 : decode cX0_lend 95 = .ok (.iaload, 1) := dk_46 (dk_at dksX0_lend_4 2 rfl rfl)
theorem dX0_lend_96 : decode cX0_lend 96 = .ok (.iload_n 3, 1) := dk_29 (dk_at dksX0_lend_4 3 rfl rfl)
theorem dX0_lend_97 : decode cX0_lend 97 = .ok (.iadd, 1) := dk_96 (dk_at dksX0_lend_4 4 rfl rfl)
theorem dX0_lend_98 : decode cX0_lend 98 = .ok (.iastore, 1) := dk_79 (dk_at dksX0_lend_4 5 rfl rfl)
theorem dX0_lend_99 : decode cX0_lend 99 = .ok (.aload 5, 2) := dk_25 5 (dk_at dksX0_lend_4 6 rfl rfl)
theorem dX0_lend_101 : decode cX0_lend 101 = .ok (.bipush 7, 2) := dk_16 7 (dk_at dksX0_lend_4 8 rfl rfl)
theorem dX0_lend_103 : decode cX0_lend 103 = .ok (.dup2, 1) := dk_92 (dk_at dksX0_lend_4 10 rfl rfl)
theorem dX0_lend_104 : decode cX0_lend 104 = .ok (.iaload, 1) := dk_46 (dk_at dksX0_lend_4 11 rfl rfl)
theorem dX0_lend_105 : decode cX0_lend 105 = .ok (.iload 4, 2) := dk_21 4 (dk_at dksX0_lend_4 12 rfl rfl)
theorem dX0_lend_107 : decode cX0_lend 107 = .ok (.iadd, 1) := dk_96 (dk_at dksX0_lend_4 14 rfl rfl)
theorem dX0_lend_108 : decode cX0_lend 108 = .ok (.iastore, 1) := dk_79 (dk_at dksX0_lend_4 15 rfl rfl)
theorem dX0_lend_109 : decode cX0_lend 109 = .ok (.aload 6, 2) := dk_25 6 (dk_at dksX0_lend_4 16 rfl rfl)
theorem dX0_lend_111 : decode cX0_lend 111 = .ok (.bipush 7, 2) := dk_16 7 (dk_at dksX0_lend_4 18 rfl rfl)
theorem dX0_lend_113 : decode cX0_lend 113 = .ok (.dup2, 1) := dk_92 (dk_at dksX0_lend_4 20 rfl rfl)
theorem dX0_lend_114 : decode cX0_lend 114 = .ok (.iaload, 1) := dk_46 (dk_at dksX0_lend_4 21 rfl rfl)
theorem dX0_lend_115 : decode cX0_lend 115 = .ok (.iload 4, 2) := dk_21 4 (dk_at dksX0_lend_4 22 rfl rfl)
theorem dX0_lend_117 : decode cX0_lend 117 = .ok (.isub, 1) := dk_100 (dk_at dksX0_lend_5 0 rfl rfl)
theorem dX0_lend_118 : decode cX0_lend 118 = .ok (.iastore, 1) := dk_79 (dk_at dksX0_lend_5 1 rfl rfl)
theorem dX0_lend_119 : decode cX0_lend 119 = .ok (.iconst 1, 1) := dk_4 (dk_at dksX0_lend_5 2 rfl rfl)
theorem dX0_lend_120 : decode cX0_lend 120 = .ok (.ireturn, 1) := dk_172 (dk_at dksX0_lend_5 3 rfl rfl)
abbrev cX0_thought : ByteArray := prog_1_method_46_code
def yX0_thought : MethodName := ⟨RX0, "thought", "(III)I"⟩
def dkwX0_thought_7 : List UInt8 := [172]
abbrev dktX0_thought_7 : List UInt8 := dkwX0_thought_7 ++ []
def dkwX0_thought_6 : List UInt8 := [182, 1, 36, 100, 172, 42, 180, 0, 40, 16, 8, 182, 1, 30, 42, 180, 0, 36, 16, 8, 182, 1, 30, 100]
abbrev dktX0_thought_6 : List UInt8 := dkwX0_thought_6 ++ dktX0_thought_7
def dkwX0_thought_5 : List UInt8 := [180, 0, 157, 42, 180, 0, 36, 180, 0, 157, 100, 172, 42, 180, 0, 40, 182, 1, 36, 42, 180, 0, 36]
abbrev dktX0_thought_5 : List UInt8 := dkwX0_thought_5 ++ dktX0_thought_6
def dkwX0_thought_4 : List UInt8 := [42, 180, 0, 40, 16, 7, 182, 1, 30, 42, 180, 0, 36, 16, 7, 182, 1, 30, 100, 172, 42, 180, 0, 40]
abbrev dktX0_thought_4 : List UInt8 := dkwX0_thought_4 ++ dktX0_thought_5
def dkwX0_thought_3 : List UInt8 := [170, 0, 0, 0, 0, 0, 79, 0, 0, 0, 0, 0, 0, 0, 2, 0, 0, 0, 27, 0, 0, 0, 47, 0, 0, 0, 63]
abbrev dktX0_thought_3 : List UInt8 := dkwX0_thought_3 ++ dktX0_thought_4
def dkwX0_thought_2 : List UInt8 := [27, 3, 182, 1, 33, 164, 0, 7, 4, 167, 0, 4, 3, 172, 42, 27, 28, 182, 1, 27, 29]
abbrev dktX0_thought_2 : List UInt8 := dkwX0_thought_2 ++ dktX0_thought_3
def dkwX0_thought_1 : List UInt8 := [29, 3, 6, 184, 0, 81, 154, 0, 6, 18, 136, 172, 28, 2, 160, 0, 24, 42, 27, 4, 182, 1, 33, 42]
abbrev dktX0_thought_1 : List UInt8 := dkwX0_thought_1 ++ dktX0_thought_2
def dkwX0_thought_0 : List UInt8 := [27, 4, 16, 30, 184, 0, 81, 153, 0, 26, 28, 2, 4, 184, 0, 81, 153, 0, 17, 28, 2, 159, 0, 15]
abbrev dktX0_thought_0 : List UInt8 := dkwX0_thought_0 ++ dktX0_thought_1
theorem dksX0_thought_0 : cX0_thought.data.toList.drop 0 = dktX0_thought_0 := by decide +kernel
theorem dksX0_thought_1 : cX0_thought.data.toList.drop 24 = dktX0_thought_1 := dk_seg dksX0_thought_0 24 rfl rfl
theorem dksX0_thought_2 : cX0_thought.data.toList.drop 48 = dktX0_thought_2 := dk_seg dksX0_thought_1 24 rfl rfl
theorem dksX0_thought_3 : cX0_thought.data.toList.drop 69 = dktX0_thought_3 := dk_seg dksX0_thought_2 21 rfl rfl
theorem dksX0_thought_4 : cX0_thought.data.toList.drop 96 = dktX0_thought_4 := dk_seg dksX0_thought_3 27 rfl rfl
theorem dksX0_thought_5 : cX0_thought.data.toList.drop 120 = dktX0_thought_5 := dk_seg dksX0_thought_4 24 rfl rfl
theorem dksX0_thought_6 : cX0_thought.data.toList.drop 143 = dktX0_thought_6 := dk_seg dksX0_thought_5 23 rfl rfl
theorem dksX0_thought_7 : cX0_thought.data.toList.drop 167 = dktX0_thought_7 := dk_seg dksX0_thought_6 24 rfl rfl
theorem dX0_thought_0 : decode cX0_thought 0 = .ok (.iload_n 1, 1) := dk_27 (dk_at dksX0_thought_0 0 rfl rfl)
theorem dX0_thought_1 : decode cX0_thought 1 = .ok (.iconst 1, 1) := dk_4 (dk_at dksX0_thought_0 1 rfl rfl)
theorem dX0_thought_2 : decode cX0_thought 2 = .ok (.bipush 30, 2) := dk_16 30 (dk_at dksX0_thought_0 2 rfl rfl)
theorem dX0_thought_4 : decode cX0_thought 4 = .ok (.invokestatic 81, 3) := dk_184 0 81 (dk_at dksX0_thought_0 4 rfl rfl)
theorem dX0_thought_7 : decode cX0_thought 7 = .ok (.ifCond .eq 26, 3) := dk_153 0 26 (dk_at dksX0_thought_0 7 rfl rfl)
theorem dX0_thought_10 : decode cX0_thought 10 = .ok (.iload_n 2, 1) := dk_28 (dk_at dksX0_thought_0 10 rfl rfl)
theorem dX0_thought_11 : decode cX0_thought 11 = .ok (.iconst (-1), 1) := dk_2 (dk_at dksX0_thought_0 11 rfl rfl)
theorem dX0_thought_12 : decode cX0_thought 12 = .ok (.iconst 1, 1) := dk_4 (dk_at dksX0_thought_0 12 rfl rfl)
theorem dX0_thought_13 : decode cX0_thought 13 = .ok (.invokestatic 81, 3) := dk_184 0 81 (dk_at dksX0_thought_0 13 rfl rfl)
theorem dX0_thought_16 : decode cX0_thought 16 = .ok (.ifCond .eq 17, 3) := dk_153 0 17 (dk_at dksX0_thought_0 16 rfl rfl)
theorem dX0_thought_19 : decode cX0_thought 19 = .ok (.iload_n 2, 1) := dk_28 (dk_at dksX0_thought_0 19 rfl rfl)
theorem dX0_thought_20 : decode cX0_thought 20 = .ok (.iconst (-1), 1) := dk_2 (dk_at dksX0_thought_0 20 rfl rfl)
theorem dX0_thought_21 : decode cX0_thought 21 = .ok (.if_icmp .eq 15, 3) := dk_159 0 15 (dk_at dksX0_thought_0 21 rfl rfl)
theorem dX0_thought_24 : decode cX0_thought 24 = .ok (.iload_n 3, 1) := dk_29 (dk_at dksX0_thought_1 0 rfl rfl)
theorem dX0_thought_25 : decode cX0_thought 25 = .ok (.iconst 0, 1) := dk_3 (dk_at dksX0_thought_1 1 rfl rfl)
theorem dX0_thought_26 : decode cX0_thought 26 = .ok (.iconst 3, 1) := dk_6 (dk_at dksX0_thought_1 2 rfl rfl)
theorem dX0_thought_27 : decode cX0_thought 27 = .ok (.invokestatic 81, 3) := dk_184 0 81 (dk_at dksX0_thought_1 3 rfl rfl)
theorem dX0_thought_30 : decode cX0_thought 30 = .ok (.ifCond .ne 6, 3) := dk_154 0 6 (dk_at dksX0_thought_1 6 rfl rfl)
theorem dX0_thought_33 : decode cX0_thought 33 = .ok (.ldc 136, 2) := dk_18 136 (dk_at dksX0_thought_1 9 rfl rfl)
theorem dX0_thought_35 : decode cX0_thought 35 = .ok (.ireturn, 1) := dk_172 (dk_at dksX0_thought_1 11 rfl rfl)
theorem dX0_thought_36 : decode cX0_thought 36 = .ok (.iload_n 2, 1) := dk_28 (dk_at dksX0_thought_1 12 rfl rfl)
theorem dX0_thought_37 : decode cX0_thought 37 = .ok (.iconst (-1), 1) := dk_2 (dk_at dksX0_thought_1 13 rfl rfl)
theorem dX0_thought_38 : decode cX0_thought 38 = .ok (.if_icmp .ne 24, 3) := dk_160 0 24 (dk_at dksX0_thought_1 14 rfl rfl)
theorem dX0_thought_41 : decode cX0_thought 41 = .ok (.aload_n 0, 1) := dk_42 (dk_at dksX0_thought_1 17 rfl rfl)
theorem dX0_thought_42 : decode cX0_thought 42 = .ok (.iload_n 1, 1) := dk_27 (dk_at dksX0_thought_1 18 rfl rfl)
theorem dX0_thought_43 : decode cX0_thought 43 = .ok (.iconst 1, 1) := dk_4 (dk_at dksX0_thought_1 19 rfl rfl)
theorem dX0_thought_44 : decode cX0_thought 44 = .ok (.invokevirtual 289, 3) := dk_182 1 33 (dk_at dksX0_thought_1 20 rfl rfl)
theorem dX0_thought_47 : decode cX0_thought 47 = .ok (.aload_n 0, 1) := dk_42 (dk_at dksX0_thought_1 23 rfl rfl)
theorem dX0_thought_48 : decode cX0_thought 48 = .ok (.iload_n 1, 1) := dk_27 (dk_at dksX0_thought_2 0 rfl rfl)
theorem dX0_thought_49 : decode cX0_thought 49 = .ok (.iconst 0, 1) := dk_3 (dk_at dksX0_thought_2 1 rfl rfl)
theorem dX0_thought_50 : decode cX0_thought 50 = .ok (.invokevirtual 289, 3) := dk_182 1 33 (dk_at dksX0_thought_2 2 rfl rfl)
theorem dX0_thought_53 : decode cX0_thought 53 = .ok (.if_icmp .le 7, 3) := dk_164 0 7 (dk_at dksX0_thought_2 5 rfl rfl)
theorem dX0_thought_56 : decode cX0_thought 56 = .ok (.iconst 1, 1) := dk_4 (dk_at dksX0_thought_2 8 rfl rfl)
theorem dX0_thought_57 : decode cX0_thought 57 = .ok (.goto 4, 3) := dk_167 0 4 (dk_at dksX0_thought_2 9 rfl rfl)
theorem dX0_thought_60 : decode cX0_thought 60 = .ok (.iconst 0, 1) := dk_3 (dk_at dksX0_thought_2 12 rfl rfl)
theorem dX0_thought_61 : decode cX0_thought 61 = .ok (.ireturn, 1) := dk_172 (dk_at dksX0_thought_2 13 rfl rfl)
theorem dX0_thought_62 : decode cX0_thought 62 = .ok (.aload_n 0, 1) := dk_42 (dk_at dksX0_thought_2 14 rfl rfl)
theorem dX0_thought_63 : decode cX0_thought 63 = .ok (.iload_n 1, 1) := dk_27 (dk_at dksX0_thought_2 15 rfl rfl)
theorem dX0_thought_64 : decode cX0_thought 64 = .ok (.iload_n 2, 1) := dk_28 (dk_at dksX0_thought_2 16 rfl rfl)
theorem dX0_thought_65 : decode cX0_thought 65 = .ok (.invokevirtual 283, 3) := dk_182 1 27 (dk_at dksX0_thought_2 17 rfl rfl)
theorem dX0_thought_68 : decode cX0_thought 68 = .ok (.iload_n 3, 1) := dk_29 (dk_at dksX0_thought_2 20 rfl rfl)
theorem dX0_thought_69 : decode cX0_thought 69 = .ok (.tableswitch 79 0 2 #[27, 47, 63], 27) := by decide +kernel
theorem dX0_thought_96 : decode cX0_thought 96 = .ok (.aload_n 0, 1) := dk_42 (dk_at dksX0_thought_4 0 rfl rfl)
theorem dX0_thought_97 : decode cX0_thought 97 = .ok (.getfield 40, 3) := dk_180 0 40 (dk_at dksX0_thought_4 1 rfl rfl)
theorem dX0_thought_100 : decode cX0_thought 100 = .ok (.bipush 7, 2) := dk_16 7 (dk_at dksX0_thought_4 4 rfl rfl)
theorem dX0_thought_102 : decode cX0_thought 102 = .ok (.invokevirtual 286, 3) := dk_182 1 30 (dk_at dksX0_thought_4 6 rfl rfl)
theorem dX0_thought_105 : decode cX0_thought 105 = .ok (.aload_n 0, 1) := dk_42 (dk_at dksX0_thought_4 9 rfl rfl)
theorem dX0_thought_106 : decode cX0_thought 106 = .ok (.getfield 36, 3) := dk_180 0 36 (dk_at dksX0_thought_4 10 rfl rfl)
theorem dX0_thought_109 : decode cX0_thought 109 = .ok (.bipush 7, 2) := dk_16 7 (dk_at dksX0_thought_4 13 rfl rfl)
theorem dX0_thought_111 : decode cX0_thought 111 = .ok (.invokevirtual 286, 3) := dk_182 1 30 (dk_at dksX0_thought_4 15 rfl rfl)
theorem dX0_thought_114 : decode cX0_thought 114 = .ok (.isub, 1) := dk_100 (dk_at dksX0_thought_4 18 rfl rfl)
theorem dX0_thought_115 : decode cX0_thought 115 = .ok (.ireturn, 1) := dk_172 (dk_at dksX0_thought_4 19 rfl rfl)
theorem dX0_thought_116 : decode cX0_thought 116 = .ok (.aload_n 0, 1) := dk_42 (dk_at dksX0_thought_4 20 rfl rfl)
theorem dX0_thought_117 : decode cX0_thought 117 = .ok (.getfield 40, 3) := dk_180 0 40 (dk_at dksX0_thought_4 21 rfl rfl)
theorem dX0_thought_120 : decode cX0_thought 120 = .ok (.getfield 157, 3) := dk_180 0 157 (dk_at dksX0_thought_5 0 rfl rfl)
theorem dX0_thought_123 : decode cX0_thought 123 = .ok (.aload_n 0, 1) := dk_42 (dk_at dksX0_thought_5 3 rfl rfl)
theorem dX0_thought_124 : decode cX0_thought 124 = .ok (.getfield 36, 3) := dk_180 0 36 (dk_at dksX0_thought_5 4 rfl rfl)
theorem dX0_thought_127 : decode cX0_thought 127 = .ok (.getfield 157, 3) := dk_180 0 157 (dk_at dksX0_thought_5 7 rfl rfl)
theorem dX0_thought_130 : decode cX0_thought 130 = .ok (.isub, 1) := dk_100 (dk_at dksX0_thought_5 10 rfl rfl)
theorem dX0_thought_131 : decode cX0_thought 131 = .ok (.ireturn, 1) := dk_172 (dk_at dksX0_thought_5 11 rfl rfl)
theorem dX0_thought_132 : decode cX0_thought 132 = .ok (.aload_n 0, 1) := dk_42 (dk_at dksX0_thought_5 12 rfl rfl)
theorem dX0_thought_133 : decode cX0_thought 133 = .ok (.getfield 40, 3) := dk_180 0 40 (dk_at dksX0_thought_5 13 rfl rfl)
theorem dX0_thought_136 : decode cX0_thought 136 = .ok (.invokevirtual 292, 3) := dk_182 1 36 (dk_at dksX0_thought_5 16 rfl rfl)
theorem dX0_thought_139 : decode cX0_thought 139 = .ok (.aload_n 0, 1) := dk_42 (dk_at dksX0_thought_5 19 rfl rfl)
theorem dX0_thought_140 : decode cX0_thought 140 = .ok (.getfield 36, 3) := dk_180 0 36 (dk_at dksX0_thought_5 20 rfl rfl)
theorem dX0_thought_143 : decode cX0_thought 143 = .ok (.invokevirtual 292, 3) := dk_182 1 36 (dk_at dksX0_thought_6 0 rfl rfl)
theorem dX0_thought_146 : decode cX0_thought 146 = .ok (.isub, 1) := dk_100 (dk_at dksX0_thought_6 3 rfl rfl)
theorem dX0_thought_147 : decode cX0_thought 147 = .ok (.ireturn, 1) := dk_172 (dk_at dksX0_thought_6 4 rfl rfl)
theorem dX0_thought_148 : decode cX0_thought 148 = .ok (.aload_n 0, 1) := dk_42 (dk_at dksX0_thought_6 5 rfl rfl)
theorem dX0_thought_149 : decode cX0_thought 149 = .ok (.getfield 40, 3) := dk_180 0 40 (dk_at dksX0_thought_6 6 rfl rfl)
theorem dX0_thought_152 : decode cX0_thought 152 = .ok (.bipush 8, 2) := dk_16 8 (dk_at dksX0_thought_6 9 rfl rfl)
theorem dX0_thought_154 : decode cX0_thought 154 = .ok (.invokevirtual 286, 3) := dk_182 1 30 (dk_at dksX0_thought_6 11 rfl rfl)
theorem dX0_thought_157 : decode cX0_thought 157 = .ok (.aload_n 0, 1) := dk_42 (dk_at dksX0_thought_6 14 rfl rfl)
theorem dX0_thought_158 : decode cX0_thought 158 = .ok (.getfield 36, 3) := dk_180 0 36 (dk_at dksX0_thought_6 15 rfl rfl)
theorem dX0_thought_161 : decode cX0_thought 161 = .ok (.bipush 8, 2) := dk_16 8 (dk_at dksX0_thought_6 18 rfl rfl)
theorem dX0_thought_163 : decode cX0_thought 163 = .ok (.invokevirtual 286, 3) := dk_182 1 30 (dk_at dksX0_thought_6 20 rfl rfl)
theorem dX0_thought_166 : decode cX0_thought 166 = .ok (.isub, 1) := dk_100 (dk_at dksX0_thought_6 23 rfl rfl)
theorem dX0_thought_167 : decode cX0_thought 167 = .ok (.ireturn, 1) := dk_172 (dk_at dksX0_thought_7 0 rfl rfl)
abbrev cX0_came : ByteArray := prog_1_method_45_code
def yX0_came : MethodName := ⟨RX0, "came", "(II)I"⟩
def dkwX0_came_1 : List UInt8 := [100, 172]
abbrev dktX0_came_1 : List UInt8 := dkwX0_came_1 ++ []
def dkwX0_came_0 : List UInt8 := [42, 27, 28, 182, 1, 27, 42, 180, 0, 40, 16, 7, 182, 1, 30, 42, 180, 0, 36, 16, 7, 182, 1, 30]
abbrev dktX0_came_0 : List UInt8 := dkwX0_came_0 ++ dktX0_came_1
theorem dksX0_came_0 : cX0_came.data.toList.drop 0 = dktX0_came_0 := by decide +kernel
theorem dksX0_came_1 : cX0_came.data.toList.drop 24 = dktX0_came_1 := dk_seg dksX0_came_0 24 rfl rfl
theorem dX0_came_0 : decode cX0_came 0 = .ok (.aload_n 0, 1) := dk_42 (dk_at dksX0_came_0 0 rfl rfl)
theorem dX0_came_1 : decode cX0_came 1 = .ok (.iload_n 1, 1) := dk_27 (dk_at dksX0_came_0 1 rfl rfl)
theorem dX0_came_2 : decode cX0_came 2 = .ok (.iload_n 2, 1) := dk_28 (dk_at dksX0_came_0 2 rfl rfl)
theorem dX0_came_3 : decode cX0_came 3 = .ok (.invokevirtual 283, 3) := dk_182 1 27 (dk_at dksX0_came_0 3 rfl rfl)
theorem dX0_came_6 : decode cX0_came 6 = .ok (.aload_n 0, 1) := dk_42 (dk_at dksX0_came_0 6 rfl rfl)
theorem dX0_came_7 : decode cX0_came 7 = .ok (.getfield 40, 3) := dk_180 0 40 (dk_at dksX0_came_0 7 rfl rfl)
theorem dX0_came_10 : decode cX0_came 10 = .ok (.bipush 7, 2) := dk_16 7 (dk_at dksX0_came_0 10 rfl rfl)
theorem dX0_came_12 : decode cX0_came 12 = .ok (.invokevirtual 286, 3) := dk_182 1 30 (dk_at dksX0_came_0 12 rfl rfl)
theorem dX0_came_15 : decode cX0_came 15 = .ok (.aload_n 0, 1) := dk_42 (dk_at dksX0_came_0 15 rfl rfl)
theorem dX0_came_16 : decode cX0_came 16 = .ok (.getfield 36, 3) := dk_180 0 36 (dk_at dksX0_came_0 16 rfl rfl)
theorem dX0_came_19 : decode cX0_came 19 = .ok (.bipush 7, 2) := dk_16 7 (dk_at dksX0_came_0 19 rfl rfl)
theorem dX0_came_21 : decode cX0_came 21 = .ok (.invokevirtual 286, 3) := dk_182 1 30 (dk_at dksX0_came_0 21 rfl rfl)
theorem dX0_came_24 : decode cX0_came 24 = .ok (.isub, 1) := dk_100 (dk_at dksX0_came_1 0 rfl rfl)
theorem dX0_came_25 : decode cX0_came 25 = .ok (.ireturn, 1) := dk_172 (dk_at dksX0_came_1 1 rfl rfl)
abbrev cX0_leads : ByteArray := prog_1_method_44_code
def yX0_leads : MethodName := ⟨RX0, "leads", "(II)V"⟩
def dkwX0_leads_1 : List UInt8 := [62, 29, 27, 162, 0, 16, 42, 180, 0, 40, 182, 0, 172, 132, 3, 1, 167, 255, 241, 177]
abbrev dktX0_leads_1 : List UInt8 := dkwX0_leads_1 ++ []
def dkwX0_leads_0 : List UInt8 := [42, 180, 0, 40, 42, 180, 0, 36, 182, 1, 23, 87, 42, 180, 0, 40, 180, 0, 133, 16, 9, 28, 79, 3]
abbrev dktX0_leads_0 : List UInt8 := dkwX0_leads_0 ++ dktX0_leads_1
theorem dksX0_leads_0 : cX0_leads.data.toList.drop 0 = dktX0_leads_0 := by decide +kernel
theorem dksX0_leads_1 : cX0_leads.data.toList.drop 24 = dktX0_leads_1 := dk_seg dksX0_leads_0 24 rfl rfl
theorem dX0_leads_0 : decode cX0_leads 0 = .ok (.aload_n 0, 1) := dk_42 (dk_at dksX0_leads_0 0 rfl rfl)
theorem dX0_leads_1 : decode cX0_leads 1 = .ok (.getfield 40, 3) := dk_180 0 40 (dk_at dksX0_leads_0 1 rfl rfl)
theorem dX0_leads_4 : decode cX0_leads 4 = .ok (.aload_n 0, 1) := dk_42 (dk_at dksX0_leads_0 4 rfl rfl)
theorem dX0_leads_5 : decode cX0_leads 5 = .ok (.getfield 36, 3) := dk_180 0 36 (dk_at dksX0_leads_0 5 rfl rfl)
theorem dX0_leads_8 : decode cX0_leads 8 = .ok (.invokevirtual 279, 3) := dk_182 1 23 (dk_at dksX0_leads_0 8 rfl rfl)
theorem dX0_leads_11 : decode cX0_leads 11 = .ok (.pop, 1) := dk_87 (dk_at dksX0_leads_0 11 rfl rfl)
theorem dX0_leads_12 : decode cX0_leads 12 = .ok (.aload_n 0, 1) := dk_42 (dk_at dksX0_leads_0 12 rfl rfl)
theorem dX0_leads_13 : decode cX0_leads 13 = .ok (.getfield 40, 3) := dk_180 0 40 (dk_at dksX0_leads_0 13 rfl rfl)
theorem dX0_leads_16 : decode cX0_leads 16 = .ok (.getfield 133, 3) := dk_180 0 133 (dk_at dksX0_leads_0 16 rfl rfl)
theorem dX0_leads_19 : decode cX0_leads 19 = .ok (.bipush 9, 2) := dk_16 9 (dk_at dksX0_leads_0 19 rfl rfl)
theorem dX0_leads_21 : decode cX0_leads 21 = .ok (.iload_n 2, 1) := dk_28 (dk_at dksX0_leads_0 21 rfl rfl)
theorem dX0_leads_22 : decode cX0_leads 22 = .ok (.iastore, 1) := dk_79 (dk_at dksX0_leads_0 22 rfl rfl)
theorem dX0_leads_23 : decode cX0_leads 23 = .ok (.iconst 0, 1) := dk_3 (dk_at dksX0_leads_0 23 rfl rfl)
theorem dX0_leads_24 : decode cX0_leads 24 = .ok (.istore_n 3, 1) := dk_62 (dk_at dksX0_leads_1 0 rfl rfl)
theorem dX0_leads_25 : decode cX0_leads 25 = .ok (.iload_n 3, 1) := dk_29 (dk_at dksX0_leads_1 1 rfl rfl)
theorem dX0_leads_26 : decode cX0_leads 26 = .ok (.iload_n 1, 1) := dk_27 (dk_at dksX0_leads_1 2 rfl rfl)
theorem dX0_leads_27 : decode cX0_leads 27 = .ok (.if_icmp .ge 16, 3) := dk_162 0 16 (dk_at dksX0_leads_1 3 rfl rfl)
theorem dX0_leads_30 : decode cX0_leads 30 = .ok (.aload_n 0, 1) := dk_42 (dk_at dksX0_leads_1 6 rfl rfl)
theorem dX0_leads_31 : decode cX0_leads 31 = .ok (.getfield 40, 3) := dk_180 0 40 (dk_at dksX0_leads_1 7 rfl rfl)
theorem dX0_leads_34 : decode cX0_leads 34 = .ok (.invokevirtual 172, 3) := dk_182 0 172 (dk_at dksX0_leads_1 10 rfl rfl)
theorem dX0_leads_37 : decode cX0_leads 37 = .ok (.iinc 3 1, 3) := dk_132 3 1 (dk_at dksX0_leads_1 13 rfl rfl)
theorem dX0_leads_40 : decode cX0_leads 40 = .ok (.goto (-15), 3) := dk_167 255 241 (dk_at dksX0_leads_1 16 rfl rfl)
theorem dX0_leads_43 : decode cX0_leads 43 = .ok (.return_, 1) := dk_177 (dk_at dksX0_leads_1 19 rfl rfl)
abbrev cX0_told : ByteArray := prog_1_method_47_code
def yX0_told : MethodName := ⟨RX0, "told", "(III)I"⟩
def dkwX0_told_3 : List UInt8 := [16, 156, 172]
abbrev dktX0_told_3 : List UInt8 := dkwX0_told_3 ++ []
def dkwX0_told_2 : List UInt8 := [153, 0, 17, 29, 154, 0, 8, 21, 4, 167, 0, 7, 21, 4, 28, 100, 172, 132, 4, 1, 167, 255, 219]
abbrev dktX0_told_2 : List UInt8 := dkwX0_told_2 ++ dktX0_told_3
def dkwX0_told_1 : List UInt8 := [16, 156, 172, 4, 54, 4, 21, 4, 16, 12, 163, 0, 36, 42, 180, 0, 36, 27, 21, 4, 182, 0, 150]
abbrev dktX0_told_1 : List UInt8 := dkwX0_told_1 ++ dktX0_told_2
def dkwX0_told_0 : List UInt8 := [42, 27, 182, 0, 119, 153, 0, 19, 28, 184, 0, 141, 153, 0, 12, 29, 3, 4, 184, 0, 81, 154, 0, 6]
abbrev dktX0_told_0 : List UInt8 := dkwX0_told_0 ++ dktX0_told_1
theorem dksX0_told_0 : cX0_told.data.toList.drop 0 = dktX0_told_0 := by decide +kernel
theorem dksX0_told_1 : cX0_told.data.toList.drop 24 = dktX0_told_1 := dk_seg dksX0_told_0 24 rfl rfl
theorem dksX0_told_2 : cX0_told.data.toList.drop 47 = dktX0_told_2 := dk_seg dksX0_told_1 23 rfl rfl
theorem dksX0_told_3 : cX0_told.data.toList.drop 70 = dktX0_told_3 := dk_seg dksX0_told_2 23 rfl rfl
theorem dX0_told_0 : decode cX0_told 0 = .ok (.aload_n 0, 1) := dk_42 (dk_at dksX0_told_0 0 rfl rfl)
theorem dX0_told_1 : decode cX0_told 1 = .ok (.iload_n 1, 1) := dk_27 (dk_at dksX0_told_0 1 rfl rfl)
theorem dX0_told_2 : decode cX0_told 2 = .ok (.invokevirtual 119, 3) := dk_182 0 119 (dk_at dksX0_told_0 2 rfl rfl)
theorem dX0_told_5 : decode cX0_told 5 = .ok (.ifCond .eq 19, 3) := dk_153 0 19 (dk_at dksX0_told_0 5 rfl rfl)
theorem dX0_told_8 : decode cX0_told 8 = .ok (.iload_n 2, 1) := dk_28 (dk_at dksX0_told_0 8 rfl rfl)
theorem dX0_told_9 : decode cX0_told 9 = .ok (.invokestatic 141, 3) := dk_184 0 141 (dk_at dksX0_told_0 9 rfl rfl)
theorem dX0_told_12 : decode cX0_told 12 = .ok (.ifCond .eq 12, 3) := dk_153 0 12 (dk_at dksX0_told_0 12 rfl rfl)
theorem dX0_told_15 : decode cX0_told 15 = .ok (.iload_n 3, 1) := dk_29 (dk_at dksX0_told_0 15 rfl rfl)
theorem dX0_told_16 : decode cX0_told 16 = .ok (.iconst 0, 1) := dk_3 (dk_at dksX0_told_0 16 rfl rfl)
theorem dX0_told_17 : decode cX0_told 17 = .ok (.iconst 1, 1) := dk_4 (dk_at dksX0_told_0 17 rfl rfl)
theorem dX0_told_18 : decode cX0_told 18 = .ok (.invokestatic 81, 3) := dk_184 0 81 (dk_at dksX0_told_0 18 rfl rfl)
theorem dX0_told_21 : decode cX0_told 21 = .ok (.ifCond .ne 6, 3) := dk_154 0 6 (dk_at dksX0_told_0 21 rfl rfl)
theorem dX0_told_24 : decode cX0_told 24 = .ok (.bipush (-100), 2) := dk_16 156 (dk_at dksX0_told_1 0 rfl rfl)
theorem dX0_told_26 : decode cX0_told 26 = .ok (.ireturn, 1) := dk_172 (dk_at dksX0_told_1 2 rfl rfl)
theorem dX0_told_27 : decode cX0_told 27 = .ok (.iconst 1, 1) := dk_4 (dk_at dksX0_told_1 3 rfl rfl)
theorem dX0_told_28 : decode cX0_told 28 = .ok (.istore 4, 2) := dk_54 4 (dk_at dksX0_told_1 4 rfl rfl)
theorem dX0_told_30 : decode cX0_told 30 = .ok (.iload 4, 2) := dk_21 4 (dk_at dksX0_told_1 6 rfl rfl)
theorem dX0_told_32 : decode cX0_told 32 = .ok (.bipush 12, 2) := dk_16 12 (dk_at dksX0_told_1 8 rfl rfl)
theorem dX0_told_34 : decode cX0_told 34 = .ok (.if_icmp .gt 36, 3) := dk_163 0 36 (dk_at dksX0_told_1 10 rfl rfl)
theorem dX0_told_37 : decode cX0_told 37 = .ok (.aload_n 0, 1) := dk_42 (dk_at dksX0_told_1 13 rfl rfl)
theorem dX0_told_38 : decode cX0_told 38 = .ok (.getfield 36, 3) := dk_180 0 36 (dk_at dksX0_told_1 14 rfl rfl)
theorem dX0_told_41 : decode cX0_told 41 = .ok (.iload_n 1, 1) := dk_27 (dk_at dksX0_told_1 17 rfl rfl)
theorem dX0_told_42 : decode cX0_told 42 = .ok (.iload 4, 2) := dk_21 4 (dk_at dksX0_told_1 18 rfl rfl)
theorem dX0_told_44 : decode cX0_told 44 = .ok (.invokevirtual 150, 3) := dk_182 0 150 (dk_at dksX0_told_1 20 rfl rfl)
theorem dX0_told_47 : decode cX0_told 47 = .ok (.ifCond .eq 17, 3) := dk_153 0 17 (dk_at dksX0_told_2 0 rfl rfl)
theorem dX0_told_50 : decode cX0_told 50 = .ok (.iload_n 3, 1) := dk_29 (dk_at dksX0_told_2 3 rfl rfl)
theorem dX0_told_51 : decode cX0_told 51 = .ok (.ifCond .ne 8, 3) := dk_154 0 8 (dk_at dksX0_told_2 4 rfl rfl)
theorem dX0_told_54 : decode cX0_told 54 = .ok (.iload 4, 2) := dk_21 4 (dk_at dksX0_told_2 7 rfl rfl)
theorem dX0_told_56 : decode cX0_told 56 = .ok (.goto 7, 3) := dk_167 0 7 (dk_at dksX0_told_2 9 rfl rfl)
theorem dX0_told_59 : decode cX0_told 59 = .ok (.iload 4, 2) := dk_21 4 (dk_at dksX0_told_2 12 rfl rfl)
theorem dX0_told_61 : decode cX0_told 61 = .ok (.iload_n 2, 1) := dk_28 (dk_at dksX0_told_2 14 rfl rfl)
theorem dX0_told_62 : decode cX0_told 62 = .ok (.isub, 1) := dk_100 (dk_at dksX0_told_2 15 rfl rfl)
theorem dX0_told_63 : decode cX0_told 63 = .ok (.ireturn, 1) := dk_172 (dk_at dksX0_told_2 16 rfl rfl)
theorem dX0_told_64 : decode cX0_told 64 = .ok (.iinc 4 1, 3) := dk_132 4 1 (dk_at dksX0_told_2 17 rfl rfl)
theorem dX0_told_67 : decode cX0_told 67 = .ok (.goto (-37), 3) := dk_167 255 219 (dk_at dksX0_told_2 20 rfl rfl)
theorem dX0_told_70 : decode cX0_told 70 = .ok (.bipush (-100), 2) := dk_16 156 (dk_at dksX0_told_3 0 rfl rfl)
theorem dX0_told_72 : decode cX0_told 72 = .ok (.ireturn, 1) := dk_172 (dk_at dksX0_told_3 2 rfl rfl)
abbrev cX0_image : ByteArray := prog_1_method_49_code
def yX0_image : MethodName := ⟨RX0, "image", "(Z)Z"⟩
def dkwX0_image_3 : List UInt8 := [180, 0, 36, 42, 180, 0, 43, 182, 1, 23, 87, 4, 172]
abbrev dktX0_image_3 : List UInt8 := dkwX0_image_3 ++ []
def dkwX0_image_2 : List UInt8 := [184, 1, 50, 27, 153, 0, 18, 42, 180, 0, 43, 42, 180, 0, 36, 182, 1, 23, 87, 167, 0, 15, 42]
abbrev dktX0_image_2 : List UInt8 := dkwX0_image_2 ++ dktX0_image_3
def dkwX0_image_1 : List UInt8 := [167, 0, 7, 42, 180, 0, 16, 27, 153, 0, 10, 42, 180, 0, 16, 167, 0, 7, 42, 180, 0, 20]
abbrev dktX0_image_1 : List UInt8 := dkwX0_image_1 ++ dktX0_image_2
def dkwX0_image_0 : List UInt8 := [27, 154, 0, 15, 42, 180, 0, 20, 182, 1, 46, 153, 0, 5, 3, 172, 27, 153, 0, 10, 42, 180, 0, 20]
abbrev dktX0_image_0 : List UInt8 := dkwX0_image_0 ++ dktX0_image_1
theorem dksX0_image_0 : cX0_image.data.toList.drop 0 = dktX0_image_0 := by decide +kernel
theorem dksX0_image_1 : cX0_image.data.toList.drop 24 = dktX0_image_1 := dk_seg dksX0_image_0 24 rfl rfl
theorem dksX0_image_2 : cX0_image.data.toList.drop 46 = dktX0_image_2 := dk_seg dksX0_image_1 22 rfl rfl
theorem dksX0_image_3 : cX0_image.data.toList.drop 69 = dktX0_image_3 := dk_seg dksX0_image_2 23 rfl rfl
theorem dX0_image_0 : decode cX0_image 0 = .ok (.iload_n 1, 1) := dk_27 (dk_at dksX0_image_0 0 rfl rfl)
theorem dX0_image_1 : decode cX0_image 1 = .ok (.ifCond .ne 15, 3) := dk_154 0 15 (dk_at dksX0_image_0 1 rfl rfl)
theorem dX0_image_4 : decode cX0_image 4 = .ok (.aload_n 0, 1) := dk_42 (dk_at dksX0_image_0 4 rfl rfl)
theorem dX0_image_5 : decode cX0_image 5 = .ok (.getfield 20, 3) := dk_180 0 20 (dk_at dksX0_image_0 5 rfl rfl)
theorem dX0_image_8 : decode cX0_image 8 = .ok (.invokevirtual 302, 3) := dk_182 1 46 (dk_at dksX0_image_0 8 rfl rfl)
theorem dX0_image_11 : decode cX0_image 11 = .ok (.ifCond .eq 5, 3) := dk_153 0 5 (dk_at dksX0_image_0 11 rfl rfl)
theorem dX0_image_14 : decode cX0_image 14 = .ok (.iconst 0, 1) := dk_3 (dk_at dksX0_image_0 14 rfl rfl)
theorem dX0_image_15 : decode cX0_image 15 = .ok (.ireturn, 1) := dk_172 (dk_at dksX0_image_0 15 rfl rfl)
theorem dX0_image_16 : decode cX0_image 16 = .ok (.iload_n 1, 1) := dk_27 (dk_at dksX0_image_0 16 rfl rfl)
theorem dX0_image_17 : decode cX0_image 17 = .ok (.ifCond .eq 10, 3) := dk_153 0 10 (dk_at dksX0_image_0 17 rfl rfl)
theorem dX0_image_20 : decode cX0_image 20 = .ok (.aload_n 0, 1) := dk_42 (dk_at dksX0_image_0 20 rfl rfl)
theorem dX0_image_21 : decode cX0_image 21 = .ok (.getfield 20, 3) := dk_180 0 20 (dk_at dksX0_image_0 21 rfl rfl)
theorem dX0_image_24 : decode cX0_image 24 = .ok (.goto 7, 3) := dk_167 0 7 (dk_at dksX0_image_1 0 rfl rfl)
theorem dX0_image_27 : decode cX0_image 27 = .ok (.aload_n 0, 1) := dk_42 (dk_at dksX0_image_1 3 rfl rfl)
theorem dX0_image_28 : decode cX0_image 28 = .ok (.getfield 16, 3) := dk_180 0 16 (dk_at dksX0_image_1 4 rfl rfl)
theorem dX0_image_31 : decode cX0_image 31 = .ok (.iload_n 1, 1) := dk_27 (dk_at dksX0_image_1 7 rfl rfl)
theorem dX0_image_32 : decode cX0_image 32 = .ok (.ifCond .eq 10, 3) := dk_153 0 10 (dk_at dksX0_image_1 8 rfl rfl)
theorem dX0_image_35 : decode cX0_image 35 = .ok (.aload_n 0, 1) := dk_42 (dk_at dksX0_image_1 11 rfl rfl)
theorem dX0_image_36 : decode cX0_image 36 = .ok (.getfield 16, 3) := dk_180 0 16 (dk_at dksX0_image_1 12 rfl rfl)
theorem dX0_image_39 : decode cX0_image 39 = .ok (.goto 7, 3) := dk_167 0 7 (dk_at dksX0_image_1 15 rfl rfl)
theorem dX0_image_42 : decode cX0_image 42 = .ok (.aload_n 0, 1) := dk_42 (dk_at dksX0_image_1 18 rfl rfl)
theorem dX0_image_43 : decode cX0_image 43 = .ok (.getfield 20, 3) := dk_180 0 20 (dk_at dksX0_image_1 19 rfl rfl)
theorem dX0_image_46 : decode cX0_image 46 = .ok (.invokestatic 306, 3) := dk_184 1 50 (dk_at dksX0_image_2 0 rfl rfl)
theorem dX0_image_49 : decode cX0_image 49 = .ok (.iload_n 1, 1) := dk_27 (dk_at dksX0_image_2 3 rfl rfl)
theorem dX0_image_50 : decode cX0_image 50 = .ok (.ifCond .eq 18, 3) := dk_153 0 18 (dk_at dksX0_image_2 4 rfl rfl)
theorem dX0_image_53 : decode cX0_image 53 = .ok (.aload_n 0, 1) := dk_42 (dk_at dksX0_image_2 7 rfl rfl)
theorem dX0_image_54 : decode cX0_image 54 = .ok (.getfield 43, 3) := dk_180 0 43 (dk_at dksX0_image_2 8 rfl rfl)
theorem dX0_image_57 : decode cX0_image 57 = .ok (.aload_n 0, 1) := dk_42 (dk_at dksX0_image_2 11 rfl rfl)
theorem dX0_image_58 : decode cX0_image 58 = .ok (.getfield 36, 3) := dk_180 0 36 (dk_at dksX0_image_2 12 rfl rfl)
theorem dX0_image_61 : decode cX0_image 61 = .ok (.invokevirtual 279, 3) := dk_182 1 23 (dk_at dksX0_image_2 15 rfl rfl)
theorem dX0_image_64 : decode cX0_image 64 = .ok (.pop, 1) := dk_87 (dk_at dksX0_image_2 18 rfl rfl)
theorem dX0_image_65 : decode cX0_image 65 = .ok (.goto 15, 3) := dk_167 0 15 (dk_at dksX0_image_2 19 rfl rfl)
theorem dX0_image_68 : decode cX0_image 68 = .ok (.aload_n 0, 1) := dk_42 (dk_at dksX0_image_2 22 rfl rfl)
theorem dX0_image_69 : decode cX0_image 69 = .ok (.getfield 36, 3) := dk_180 0 36 (dk_at dksX0_image_3 0 rfl rfl)
theorem dX0_image_72 : decode cX0_image 72 = .ok (.aload_n 0, 1) := dk_42 (dk_at dksX0_image_3 3 rfl rfl)
theorem dX0_image_73 : decode cX0_image 73 = .ok (.getfield 43, 3) := dk_180 0 43 (dk_at dksX0_image_3 4 rfl rfl)
theorem dX0_image_76 : decode cX0_image 76 = .ok (.invokevirtual 279, 3) := dk_182 1 23 (dk_at dksX0_image_3 7 rfl rfl)
theorem dX0_image_79 : decode cX0_image 79 = .ok (.pop, 1) := dk_87 (dk_at dksX0_image_3 10 rfl rfl)
theorem dX0_image_80 : decode cX0_image 80 = .ok (.iconst 1, 1) := dk_4 (dk_at dksX0_image_3 11 rfl rfl)
theorem dX0_image_81 : decode cX0_image 81 = .ok (.ireturn, 1) := dk_172 (dk_at dksX0_image_3 12 rfl rfl)
abbrev cX0_takes : ByteArray := prog_1_method_48_code
def yX0_takes : MethodName := ⟨RX0, "takes", "(Ljava/util/ArrayList;Ljava/util/ArrayList;)V"⟩
def dkwX0_takes_1 : List UInt8 := [182, 0, 27, 87, 132, 2, 1, 167, 255, 232, 177]
abbrev dktX0_takes_1 : List UInt8 := dkwX0_takes_1 ++ []
def dkwX0_takes_0 : List UInt8 := [42, 182, 1, 39, 3, 61, 28, 43, 182, 0, 101, 162, 0, 22, 42, 43, 28, 182, 1, 42, 192, 0, 13]
abbrev dktX0_takes_0 : List UInt8 := dkwX0_takes_0 ++ dktX0_takes_1
theorem dksX0_takes_0 : cX0_takes.data.toList.drop 0 = dktX0_takes_0 := by decide +kernel
theorem dksX0_takes_1 : cX0_takes.data.toList.drop 23 = dktX0_takes_1 := dk_seg dksX0_takes_0 23 rfl rfl
theorem dX0_takes_0 : decode cX0_takes 0 = .ok (.aload_n 0, 1) := dk_42 (dk_at dksX0_takes_0 0 rfl rfl)
theorem dX0_takes_1 : decode cX0_takes 1 = .ok (.invokevirtual 295, 3) := dk_182 1 39 (dk_at dksX0_takes_0 1 rfl rfl)
theorem dX0_takes_4 : decode cX0_takes 4 = .ok (.iconst 0, 1) := dk_3 (dk_at dksX0_takes_0 4 rfl rfl)
theorem dX0_takes_5 : decode cX0_takes 5 = .ok (.istore_n 2, 1) := dk_61 (dk_at dksX0_takes_0 5 rfl rfl)
theorem dX0_takes_6 : decode cX0_takes 6 = .ok (.iload_n 2, 1) := dk_28 (dk_at dksX0_takes_0 6 rfl rfl)
theorem dX0_takes_7 : decode cX0_takes 7 = .ok (.aload_n 1, 1) := dk_43 (dk_at dksX0_takes_0 7 rfl rfl)
theorem dX0_takes_8 : decode cX0_takes 8 = .ok (.invokevirtual 101, 3) := dk_182 0 101 (dk_at dksX0_takes_0 8 rfl rfl)
theorem dX0_takes_11 : decode cX0_takes 11 = .ok (.if_icmp .ge 22, 3) := dk_162 0 22 (dk_at dksX0_takes_0 11 rfl rfl)
theorem dX0_takes_14 : decode cX0_takes 14 = .ok (.aload_n 0, 1) := dk_42 (dk_at dksX0_takes_0 14 rfl rfl)
theorem dX0_takes_15 : decode cX0_takes 15 = .ok (.aload_n 1, 1) := dk_43 (dk_at dksX0_takes_0 15 rfl rfl)
theorem dX0_takes_16 : decode cX0_takes 16 = .ok (.iload_n 2, 1) := dk_28 (dk_at dksX0_takes_0 16 rfl rfl)
theorem dX0_takes_17 : decode cX0_takes 17 = .ok (.invokevirtual 298, 3) := dk_182 1 42 (dk_at dksX0_takes_0 17 rfl rfl)
theorem dX0_takes_20 : decode cX0_takes 20 = .ok (.checkcast 13, 3) := dk_192 0 13 (dk_at dksX0_takes_0 20 rfl rfl)
theorem dX0_takes_23 : decode cX0_takes 23 = .ok (.invokevirtual 27, 3) := dk_182 0 27 (dk_at dksX0_takes_1 0 rfl rfl)
theorem dX0_takes_26 : decode cX0_takes 26 = .ok (.pop, 1) := dk_87 (dk_at dksX0_takes_1 3 rfl rfl)
theorem dX0_takes_27 : decode cX0_takes 27 = .ok (.iinc 2 1, 3) := dk_132 2 1 (dk_at dksX0_takes_1 4 rfl rfl)
theorem dX0_takes_30 : decode cX0_takes 30 = .ok (.goto (-24), 3) := dk_167 255 232 (dk_at dksX0_takes_1 7 rfl rfl)
theorem dX0_takes_33 : decode cX0_takes 33 = .ok (.return_, 1) := dk_177 (dk_at dksX0_takes_1 10 rfl rfl)
abbrev cX0_look : ByteArray := prog_1_method_50_code
def yX0_look : MethodName := ⟨RX0, "look", "(I)I"⟩
def dkwX0_look_4 : List UInt8 := [159, 0, 18, 42, 180, 0, 36, 180, 0, 133, 27, 16, 10, 100, 46, 167, 0, 4, 2, 172]
abbrev dktX0_look_4 : List UInt8 := dkwX0_look_4 ++ []
def dkwX0_look_3 : List UInt8 := [42, 180, 0, 36, 182, 0, 197, 172, 27, 16, 10, 16, 32, 184, 0, 81, 153, 0, 24, 27, 16, 20]
abbrev dktX0_look_3 : List UInt8 := dkwX0_look_3 ++ dktX0_look_4
def dkwX0_look_2 : List UInt8 := [42, 180, 0, 36, 180, 0, 116, 172, 42, 180, 0, 36, 180, 0, 169, 172, 42, 180, 0, 36, 180, 0, 157, 172]
abbrev dktX0_look_2 : List UInt8 := dkwX0_look_2 ++ dktX0_look_3
def dkwX0_look_1 : List UInt8 := [170, 0, 0, 0, 0, 0, 63, 0, 0, 0, 0, 0, 0, 0, 3, 0, 0, 0, 31, 0, 0, 0, 39, 0, 0, 0, 47, 0, 0, 0, 55]
abbrev dktX0_look_1 : List UInt8 := dkwX0_look_1 ++ dktX0_look_2
def dkwX0_look_0 : List UInt8 := [27]
abbrev dktX0_look_0 : List UInt8 := dkwX0_look_0 ++ dktX0_look_1
theorem dksX0_look_0 : cX0_look.data.toList.drop 0 = dktX0_look_0 := by decide +kernel
theorem dksX0_look_1 : cX0_look.data.toList.drop 1 = dktX0_look_1 := dk_seg dksX0_look_0 1 rfl rfl
theorem dksX0_look_2 : cX0_look.data.toList.drop 32 = dktX0_look_2 := dk_seg dksX0_look_1 31 rfl rfl
theorem dksX0_look_3 : cX0_look.data.toList.drop 56 = dktX0_look_3 := dk_seg dksX0_look_2 24 rfl rfl
theorem dksX0_look_4 : cX0_look.data.toList.drop 78 = dktX0_look_4 := dk_seg dksX0_look_3 22 rfl rfl
theorem dX0_look_0 : decode cX0_look 0 = .ok (.iload_n 1, 1) := dk_27 (dk_at dksX0_look_0 0 rfl rfl)
theorem dX0_look_1 : decode cX0_look 1 = .ok (.tableswitch 63 0 3 #[31, 39, 47, 55], 31) := by decide +kernel
theorem dX0_look_32 : decode cX0_look 32 = .ok (.aload_n 0, 1) := dk_42 (dk_at dksX0_look_2 0 rfl rfl)
theorem dX0_look_33 : decode cX0_look 33 = .ok (.getfield 36, 3) := dk_180 0 36 (dk_at dksX0_look_2 1 rfl rfl)
theorem dX0_look_36 : decode cX0_look 36 = .ok (.getfield 116, 3) := dk_180 0 116 (dk_at dksX0_look_2 4 rfl rfl)
theorem dX0_look_39 : decode cX0_look 39 = .ok (.ireturn, 1) := dk_172 (dk_at dksX0_look_2 7 rfl rfl)
theorem dX0_look_40 : decode cX0_look 40 = .ok (.aload_n 0, 1) := dk_42 (dk_at dksX0_look_2 8 rfl rfl)
theorem dX0_look_41 : decode cX0_look 41 = .ok (.getfield 36, 3) := dk_180 0 36 (dk_at dksX0_look_2 9 rfl rfl)
theorem dX0_look_44 : decode cX0_look 44 = .ok (.getfield 169, 3) := dk_180 0 169 (dk_at dksX0_look_2 12 rfl rfl)
theorem dX0_look_47 : decode cX0_look 47 = .ok (.ireturn, 1) := dk_172 (dk_at dksX0_look_2 15 rfl rfl)
theorem dX0_look_48 : decode cX0_look 48 = .ok (.aload_n 0, 1) := dk_42 (dk_at dksX0_look_2 16 rfl rfl)
theorem dX0_look_49 : decode cX0_look 49 = .ok (.getfield 36, 3) := dk_180 0 36 (dk_at dksX0_look_2 17 rfl rfl)
theorem dX0_look_52 : decode cX0_look 52 = .ok (.getfield 157, 3) := dk_180 0 157 (dk_at dksX0_look_2 20 rfl rfl)
theorem dX0_look_55 : decode cX0_look 55 = .ok (.ireturn, 1) := dk_172 (dk_at dksX0_look_2 23 rfl rfl)
theorem dX0_look_56 : decode cX0_look 56 = .ok (.aload_n 0, 1) := dk_42 (dk_at dksX0_look_3 0 rfl rfl)
theorem dX0_look_57 : decode cX0_look 57 = .ok (.getfield 36, 3) := dk_180 0 36 (dk_at dksX0_look_3 1 rfl rfl)
theorem dX0_look_60 : decode cX0_look 60 = .ok (.invokevirtual 197, 3) := dk_182 0 197 (dk_at dksX0_look_3 4 rfl rfl)
theorem dX0_look_63 : decode cX0_look 63 = .ok (.ireturn, 1) := dk_172 (dk_at dksX0_look_3 7 rfl rfl)
theorem dX0_look_64 : decode cX0_look 64 = .ok (.iload_n 1, 1) := dk_27 (dk_at dksX0_look_3 8 rfl rfl)
theorem dX0_look_65 : decode cX0_look 65 = .ok (.bipush 10, 2) := dk_16 10 (dk_at dksX0_look_3 9 rfl rfl)
theorem dX0_look_67 : decode cX0_look 67 = .ok (.bipush 32, 2) := dk_16 32 (dk_at dksX0_look_3 11 rfl rfl)
theorem dX0_look_69 : decode cX0_look 69 = .ok (.invokestatic 81, 3) := dk_184 0 81 (dk_at dksX0_look_3 13 rfl rfl)
theorem dX0_look_72 : decode cX0_look 72 = .ok (.ifCond .eq 24, 3) := dk_153 0 24 (dk_at dksX0_look_3 16 rfl rfl)
theorem dX0_look_75 : decode cX0_look 75 = .ok (.iload_n 1, 1) := dk_27 (dk_at dksX0_look_3 19 rfl rfl)
theorem dX0_look_76 : decode cX0_look 76 = .ok (.bipush 20, 2) := dk_16 20 (dk_at dksX0_look_3 20 rfl rfl)
theorem dX0_look_78 : decode cX0_look 78 = .ok (.if_icmp .eq 18, 3) := dk_159 0 18 (dk_at dksX0_look_4 0 rfl rfl)
theorem dX0_look_81 : decode cX0_look 81 = .ok (.aload_n 0, 1) := dk_42 (dk_at dksX0_look_4 3 rfl rfl)
theorem dX0_look_82 : decode cX0_look 82 = .ok (.getfield 36, 3) := dk_180 0 36 (dk_at dksX0_look_4 4 rfl rfl)
theorem dX0_look_85 : decode cX0_look 85 = .ok (.getfield 133, 3) := dk_180 0 133 (dk_at dksX0_look_4 7 rfl rfl)
theorem dX0_look_88 : decode cX0_look 88 = .ok (.iload_n 1, 1) := dk_27 (dk_at dksX0_look_4 10 rfl rfl)
theorem dX0_look_89 : decode cX0_look 89 = .ok (.bipush 10, 2) := dk_16 10 (dk_at dksX0_look_4 11 rfl rfl)
theorem dX0_look_91 : decode cX0_look 91 = .ok (.isub, 1) := dk_100 (dk_at dksX0_look_4 13 rfl rfl)
theorem dX0_look_92 : decode cX0_look 92 = .ok (.iaload, 1) := dk_46 (dk_at dksX0_look_4 14 rfl rfl)
theorem dX0_look_93 : decode cX0_look 93 = .ok (.goto 4, 3) := dk_167 0 4 (dk_at dksX0_look_4 15 rfl rfl)
theorem dX0_look_96 : decode cX0_look 96 = .ok (.iconst (-1), 1) := dk_2 (dk_at dksX0_look_4 18 rfl rfl)
theorem dX0_look_97 : decode cX0_look 97 = .ok (.ireturn, 1) := dk_172 (dk_at dksX0_look_4 19 rfl rfl)
theorem q111 : (Jvm.Cond.initialized "NotchSticks") ∈ lw_all := lw_g (lw_at lw_m1 1 rfl) rfl
theorem q141 : (Jvm.Cond.instantiable "NotchSticks" (19 : Nat)) ∈ lw_all := lw_g (lw_at lw_m1 31 rfl) rfl
theorem q143 : (Jvm.Cond.instanceMethod ({ cls := "NotchSticks", name := "<init>", desc := "()V" } : Jvm.MethodName)) ∈ lw_all := lw_g (lw_at lw_m1 33 rfl) rfl
theorem q144 : (Jvm.Cond.code ({ cls := "NotchSticks", name := "<init>", desc := "()V" } : Jvm.MethodName) prog_1_method_1_code (2 : Nat) (Option.none : Option Jvm.ClassFile.FieldType)) ∈ lw_all := lw_g (lw_at lw_m1 34 rfl) rfl
theorem q145 : (Jvm.Cond.methodLink "NotchSticks" (1 : Nat) ({ cls := "java/lang/Object", name := "<init>", desc := "()V" } : Jvm.MethodName)) ∈ lw_all := lw_g (lw_at lw_m1 35 rfl) rfl
theorem q148 : (Jvm.Cond.classLink "NotchSticks" (13 : Nat) "java/util/ArrayList") ∈ lw_all := lw_g (lw_at lw_m1 38 rfl) rfl
theorem q150 : (Jvm.Cond.methodLink "NotchSticks" (15 : Nat) ({ cls := "java/util/ArrayList", name := "<init>", desc := "()V" } : Jvm.MethodName)) ∈ lw_all := lw_g (lw_at lw_m1 40 rfl) rfl
theorem q175 : (Jvm.Cond.methodLink "NotchSticks" (27 : Nat) ({ cls := "java/util/ArrayList", name := "add", desc := "(Ljava/lang/Object;)Z" } : Jvm.MethodName)) ∈ lw_all := lw_g (lw_at lw_m1 65 rfl) rfl
theorem q207 : (Jvm.Cond.selects "NotchSticks" ({ cls := "java/lang/Object", name := "getClass", desc := "()Ljava/lang/Class;" } : Jvm.MethodName) ({ cls := "java/lang/Object", name := "getClass", desc := "()Ljava/lang/Class;" } : Jvm.MethodName)) ∈ lw_all := lw_g (lw_at lw_m1 97 rfl) rfl
theorem q237 : (Jvm.Cond.classLink "NotchSticks" (31 : Nat) "NotchSticks$Valley") ∈ lw_all := lw_g (lw_at lw_m1 127 rfl) rfl
theorem q239 : (Jvm.Cond.methodLink "NotchSticks" (33 : Nat) ({ cls := "NotchSticks$Valley", name := "<init>", desc := "(LNotchSticks;)V" } : Jvm.MethodName)) ∈ lw_all := lw_g (lw_at lw_m1 129 rfl) rfl
theorem q278 : (Jvm.Cond.fieldLinkNest "NotchSticks" (127 : Nat) "NotchSticks$Person" "own" "[I" "NotchSticks") ∈ lw_tbl := lw_at lw_m1 168 rfl
theorem q289 : (Jvm.Cond.fieldLinkNest "NotchSticks" (164 : Nat) "NotchSticks$Entry" "fields" "[I" "NotchSticks") ∈ lw_tbl := lw_at lw_m1 179 rfl
theorem q295 : (Jvm.Cond.fieldLinkNest "NotchSticks" (123 : Nat) "NotchSticks$Valley" "people" "[LNotchSticks$Person;" "NotchSticks") ∈ lw_tbl := lw_at lw_m1 185 rfl
theorem q297 : (Jvm.Cond.fieldLinkNest "NotchSticks" (160 : Nat) "NotchSticks$Valley" "book" "[LNotchSticks$Entry;" "NotchSticks") ∈ lw_tbl := lw_at lw_m1 187 rfl
theorem q300 : (Jvm.Cond.fieldLinkNest "NotchSticks" (133 : Nat) "NotchSticks$Valley" "told" "[I" "NotchSticks") ∈ lw_tbl := lw_at lw_m1 190 rfl
theorem q304 : (Jvm.Cond.fieldLinkNest "NotchSticks" (116 : Nat) "NotchSticks$Valley" "n" "I" "NotchSticks") ∈ lw_tbl := lw_at lw_m1 194 rfl
theorem q306 : (Jvm.Cond.fieldLinkNest "NotchSticks" (157 : Nat) "NotchSticks$Valley" "entries" "I" "NotchSticks") ∈ lw_tbl := lw_at lw_m1 196 rfl
theorem q309 : (Jvm.Cond.fieldLinkNest "NotchSticks" (169 : Nat) "NotchSticks$Valley" "year" "I" "NotchSticks") ∈ lw_tbl := lw_at lw_m1 199 rfl
theorem q311 : (Jvm.Cond.fieldLinkNest "NotchSticks" (113 : Nat) "NotchSticks$Valley" "state" "I" "NotchSticks") ∈ lw_tbl := lw_at lw_m1 201 rfl
theorem q334 : (Jvm.Cond.classLink "NotchSticks" (59 : Nat) "NotchSticks$Pair") ∈ lw_all := lw_g (lw_at lw_m1 224 rfl) rfl
theorem q336 : (Jvm.Cond.methodLinkNest "NotchSticks" (61 : Nat) ({ cls := "NotchSticks$Pair", name := "<init>", desc := "(LNotchSticks;)V" } : Jvm.MethodName) "NotchSticks") ∈ lw_tbl := lw_at lw_m1 226 rfl
theorem q346 : (Jvm.Cond.fieldLinkNest "NotchSticks" (241 : Nat) "NotchSticks$Pair" "gains" "[J" "NotchSticks") ∈ lw_tbl := lw_at lw_m1 236 rfl
theorem q369 : (Jvm.Cond.classLink "NotchSticks" (66 : Nat) "[[J") ∈ lw_all := lw_g (lw_at lw_m2 19 rfl) rfl
theorem q370 : (Jvm.Cond.fieldLink "NotchSticks" (9 : Nat) "NotchSticks" "tape" "[B") ∈ lw_all := lw_g (lw_at lw_m2 20 rfl) rfl
theorem q373 : (Jvm.Cond.fieldLink "NotchSticks" (74 : Nat) "NotchSticks" "taped" "I") ∈ lw_all := lw_g (lw_at lw_m2 23 rfl) rfl
theorem q374 : (Jvm.Cond.fieldLink "NotchSticks" (16 : Nat) "NotchSticks" "texts" "Ljava/util/ArrayList;") ∈ lw_all := lw_g (lw_at lw_m2 24 rfl) rfl
theorem q376 : (Jvm.Cond.fieldLink "NotchSticks" (20 : Nat) "NotchSticks" "keptTexts" "Ljava/util/ArrayList;") ∈ lw_all := lw_g (lw_at lw_m2 26 rfl) rfl
theorem q377 : (Jvm.Cond.fieldLink "NotchSticks" (85 : Nat) "NotchSticks" "faultKind" "I") ∈ lw_all := lw_g (lw_at lw_m2 27 rfl) rfl
theorem q378 : (Jvm.Cond.fieldLink "NotchSticks" (23 : Nat) "NotchSticks" "faultPlace" "I") ∈ lw_all := lw_g (lw_at lw_m2 28 rfl) rfl
theorem q379 : (Jvm.Cond.fieldLink "NotchSticks" (36 : Nat) "NotchSticks" "valley" "LNotchSticks$Valley;") ∈ lw_all := lw_g (lw_at lw_m2 29 rfl) rfl
theorem q381 : (Jvm.Cond.fieldLink "NotchSticks" (40 : Nat) "NotchSticks" "thought" "LNotchSticks$Valley;") ∈ lw_all := lw_g (lw_at lw_m2 31 rfl) rfl
theorem q382 : (Jvm.Cond.fieldLink "NotchSticks" (43 : Nat) "NotchSticks" "kept" "LNotchSticks$Valley;") ∈ lw_all := lw_g (lw_at lw_m2 32 rfl) rfl
theorem q383 : (Jvm.Cond.fieldLink "NotchSticks" (46 : Nat) "NotchSticks" "values" "[J") ∈ lw_all := lw_g (lw_at lw_m2 33 rfl) rfl
theorem q384 : (Jvm.Cond.fieldLink "NotchSticks" (50 : Nat) "NotchSticks" "nextValues" "[J") ∈ lw_all := lw_g (lw_at lw_m2 34 rfl) rfl
theorem q385 : (Jvm.Cond.fieldLink "NotchSticks" (53 : Nat) "NotchSticks" "flows" "[J") ∈ lw_all := lw_g (lw_at lw_m2 35 rfl) rfl
theorem q386 : (Jvm.Cond.fieldLink "NotchSticks" (56 : Nat) "NotchSticks" "nextFlows" "[J") ∈ lw_all := lw_g (lw_at lw_m2 36 rfl) rfl
theorem q387 : (Jvm.Cond.fieldLink "NotchSticks" (211 : Nat) "NotchSticks" "share" "J") ∈ lw_all := lw_g (lw_at lw_m2 37 rfl) rfl
theorem q388 : (Jvm.Cond.fieldLink "NotchSticks" (215 : Nat) "NotchSticks" "gain" "J") ∈ lw_all := lw_g (lw_at lw_m2 38 rfl) rfl
theorem q389 : (Jvm.Cond.fieldLink "NotchSticks" (218 : Nat) "NotchSticks" "common" "J") ∈ lw_all := lw_g (lw_at lw_m2 39 rfl) rfl
theorem q390 : (Jvm.Cond.fieldLink "NotchSticks" (62 : Nat) "NotchSticks" "pair" "LNotchSticks$Pair;") ∈ lw_all := lw_g (lw_at lw_m2 40 rfl) rfl
theorem q391 : (Jvm.Cond.fieldLink "NotchSticks" (68 : Nat) "NotchSticks" "firsts" "[[J") ∈ lw_all := lw_g (lw_at lw_m2 41 rfl) rfl
theorem q392 : (Jvm.Cond.fieldLink "NotchSticks" (71 : Nat) "NotchSticks" "seconds" "[[J") ∈ lw_all := lw_g (lw_at lw_m2 42 rfl) rfl
theorem q393 : (Jvm.Cond.laysFinal "NotchSticks" "NotchSticks" "tape" "[B") ∈ lw_all := lw_g (lw_at lw_m2 43 rfl) rfl
theorem q394 : (Jvm.Cond.soleField "NotchSticks" "tape") ∈ lw_all := lw_g (lw_at lw_m2 44 rfl) rfl
theorem q395 : (Jvm.Cond.lays "NotchSticks" "NotchSticks" "taped" "I") ∈ lw_all := lw_g (lw_at lw_m2 45 rfl) rfl
theorem q396 : (Jvm.Cond.soleField "NotchSticks" "taped") ∈ lw_all := lw_g (lw_at lw_m2 46 rfl) rfl
theorem q397 : (Jvm.Cond.laysFinal "NotchSticks" "NotchSticks" "texts" "Ljava/util/ArrayList;") ∈ lw_all := lw_g (lw_at lw_m2 47 rfl) rfl
theorem q398 : (Jvm.Cond.soleField "NotchSticks" "texts") ∈ lw_all := lw_g (lw_at lw_m2 48 rfl) rfl
theorem q399 : (Jvm.Cond.laysFinal "NotchSticks" "NotchSticks" "keptTexts" "Ljava/util/ArrayList;") ∈ lw_all := lw_g (lw_at lw_m2 49 rfl) rfl
theorem q400 : (Jvm.Cond.soleField "NotchSticks" "keptTexts") ∈ lw_all := lw_g (lw_at lw_m2 50 rfl) rfl
theorem q401 : (Jvm.Cond.lays "NotchSticks" "NotchSticks" "faultKind" "I") ∈ lw_all := lw_g (lw_at lw_m2 51 rfl) rfl
theorem q402 : (Jvm.Cond.soleField "NotchSticks" "faultKind") ∈ lw_all := lw_g (lw_at lw_m2 52 rfl) rfl
theorem q403 : (Jvm.Cond.lays "NotchSticks" "NotchSticks" "faultPlace" "I") ∈ lw_all := lw_g (lw_at lw_m2 53 rfl) rfl
theorem q404 : (Jvm.Cond.soleField "NotchSticks" "faultPlace") ∈ lw_all := lw_g (lw_at lw_m2 54 rfl) rfl
theorem q405 : (Jvm.Cond.laysFinal "NotchSticks" "NotchSticks" "valley" "LNotchSticks$Valley;") ∈ lw_all := lw_g (lw_at lw_m2 55 rfl) rfl
theorem q406 : (Jvm.Cond.soleField "NotchSticks" "valley") ∈ lw_all := lw_g (lw_at lw_m2 56 rfl) rfl
theorem q407 : (Jvm.Cond.laysFinal "NotchSticks" "NotchSticks" "thought" "LNotchSticks$Valley;") ∈ lw_all := lw_g (lw_at lw_m2 57 rfl) rfl
theorem q408 : (Jvm.Cond.soleField "NotchSticks" "thought") ∈ lw_all := lw_g (lw_at lw_m2 58 rfl) rfl
theorem q409 : (Jvm.Cond.laysFinal "NotchSticks" "NotchSticks" "kept" "LNotchSticks$Valley;") ∈ lw_all := lw_g (lw_at lw_m2 59 rfl) rfl
theorem q410 : (Jvm.Cond.soleField "NotchSticks" "kept") ∈ lw_all := lw_g (lw_at lw_m2 60 rfl) rfl
theorem q411 : (Jvm.Cond.lays "NotchSticks" "NotchSticks" "values" "[J") ∈ lw_all := lw_g (lw_at lw_m2 61 rfl) rfl
theorem q412 : (Jvm.Cond.soleField "NotchSticks" "values") ∈ lw_all := lw_g (lw_at lw_m2 62 rfl) rfl
theorem q413 : (Jvm.Cond.lays "NotchSticks" "NotchSticks" "nextValues" "[J") ∈ lw_all := lw_g (lw_at lw_m2 63 rfl) rfl
theorem q414 : (Jvm.Cond.soleField "NotchSticks" "nextValues") ∈ lw_all := lw_g (lw_at lw_m2 64 rfl) rfl
theorem q415 : (Jvm.Cond.lays "NotchSticks" "NotchSticks" "flows" "[J") ∈ lw_all := lw_g (lw_at lw_m2 65 rfl) rfl
theorem q416 : (Jvm.Cond.soleField "NotchSticks" "flows") ∈ lw_all := lw_g (lw_at lw_m2 66 rfl) rfl
theorem q417 : (Jvm.Cond.lays "NotchSticks" "NotchSticks" "nextFlows" "[J") ∈ lw_all := lw_g (lw_at lw_m2 67 rfl) rfl
theorem q418 : (Jvm.Cond.soleField "NotchSticks" "nextFlows") ∈ lw_all := lw_g (lw_at lw_m2 68 rfl) rfl
theorem q419 : (Jvm.Cond.lays "NotchSticks" "NotchSticks" "share" "J") ∈ lw_all := lw_g (lw_at lw_m2 69 rfl) rfl
theorem q420 : (Jvm.Cond.soleField "NotchSticks" "share") ∈ lw_all := lw_g (lw_at lw_m2 70 rfl) rfl
theorem q421 : (Jvm.Cond.lays "NotchSticks" "NotchSticks" "gain" "J") ∈ lw_all := lw_g (lw_at lw_m2 71 rfl) rfl
theorem q422 : (Jvm.Cond.soleField "NotchSticks" "gain") ∈ lw_all := lw_g (lw_at lw_m2 72 rfl) rfl
theorem q423 : (Jvm.Cond.lays "NotchSticks" "NotchSticks" "common" "J") ∈ lw_all := lw_g (lw_at lw_m2 73 rfl) rfl
theorem q424 : (Jvm.Cond.soleField "NotchSticks" "common") ∈ lw_all := lw_g (lw_at lw_m2 74 rfl) rfl
theorem q425 : (Jvm.Cond.laysFinal "NotchSticks" "NotchSticks" "pair" "LNotchSticks$Pair;") ∈ lw_all := lw_g (lw_at lw_m2 75 rfl) rfl
theorem q426 : (Jvm.Cond.soleField "NotchSticks" "pair") ∈ lw_all := lw_g (lw_at lw_m2 76 rfl) rfl
theorem q427 : (Jvm.Cond.laysFinal "NotchSticks" "NotchSticks" "firsts" "[[J") ∈ lw_all := lw_g (lw_at lw_m2 77 rfl) rfl
theorem q428 : (Jvm.Cond.soleField "NotchSticks" "firsts") ∈ lw_all := lw_g (lw_at lw_m2 78 rfl) rfl
theorem q429 : (Jvm.Cond.laysFinal "NotchSticks" "NotchSticks" "seconds" "[[J") ∈ lw_all := lw_g (lw_at lw_m2 79 rfl) rfl
theorem q430 : (Jvm.Cond.soleField "NotchSticks" "seconds") ∈ lw_all := lw_g (lw_at lw_m2 80 rfl) rfl
theorem q431 : (Jvm.Cond.superclass "NotchSticks" "java/lang/Object") ∈ lw_all := lw_g (lw_at lw_m2 81 rfl) rfl
theorem q433 : (Jvm.Cond.instanceMethod ({ cls := "NotchSticks", name := "feed", desc := "(IIIII)I" } : Jvm.MethodName)) ∈ lw_all := lw_g (lw_at lw_m2 83 rfl) rfl
theorem q434 : (Jvm.Cond.selects "NotchSticks" ({ cls := "NotchSticks", name := "feed", desc := "(IIIII)I" } : Jvm.MethodName) ({ cls := "NotchSticks", name := "feed", desc := "(IIIII)I" } : Jvm.MethodName)) ∈ lw_all := lw_g (lw_at lw_m2 84 rfl) rfl
theorem q435 : (Jvm.Cond.code ({ cls := "NotchSticks", name := "feed", desc := "(IIIII)I" } : Jvm.MethodName) prog_1_method_3_code (6 : Nat) (Option.some Jvm.ClassFile.FieldType.int)) ∈ lw_all := lw_g (lw_at lw_m2 85 rfl) rfl
theorem q436 : (Jvm.Cond.methodLink "NotchSticks" (77 : Nat) ({ cls := "NotchSticks", name := "word", desc := "(I)V" } : Jvm.MethodName)) ∈ lw_all := lw_g (lw_at lw_m2 86 rfl) rfl
theorem q437 : (Jvm.Cond.privateMethod ({ cls := "NotchSticks", name := "word", desc := "(I)V" } : Jvm.MethodName)) ∈ lw_tbl := lw_at lw_m2 87 rfl
theorem q438 : (Jvm.Cond.instanceMethod ({ cls := "NotchSticks", name := "word", desc := "(I)V" } : Jvm.MethodName)) ∈ lw_all := lw_g (lw_at lw_m2 88 rfl) rfl
theorem q439 : (Jvm.Cond.code ({ cls := "NotchSticks", name := "word", desc := "(I)V" } : Jvm.MethodName) prog_1_method_4_code (3 : Nat) (Option.none : Option Jvm.ClassFile.FieldType)) ∈ lw_all := lw_g (lw_at lw_m2 89 rfl) rfl
theorem q441 : (Jvm.Cond.instanceMethod ({ cls := "NotchSticks", name := "end", desc := "(I)Z" } : Jvm.MethodName)) ∈ lw_all := lw_g (lw_at lw_m2 91 rfl) rfl
theorem q442 : (Jvm.Cond.selects "NotchSticks" ({ cls := "NotchSticks", name := "end", desc := "(I)Z" } : Jvm.MethodName) ({ cls := "NotchSticks", name := "end", desc := "(I)Z" } : Jvm.MethodName)) ∈ lw_all := lw_g (lw_at lw_m2 92 rfl) rfl
theorem q443 : (Jvm.Cond.code ({ cls := "NotchSticks", name := "end", desc := "(I)Z" } : Jvm.MethodName) prog_1_method_5_code (2 : Nat) (Option.some Jvm.ClassFile.FieldType.boolean)) ∈ lw_all := lw_g (lw_at lw_m2 93 rfl) rfl
theorem q444 : (Jvm.Cond.methodLink "NotchSticks" (81 : Nat) ({ cls := "NotchSticks", name := "isIn", desc := "(III)Z" } : Jvm.MethodName)) ∈ lw_all := lw_g (lw_at lw_m2 94 rfl) rfl
theorem q445 : (Jvm.Cond.static ({ cls := "NotchSticks", name := "isIn", desc := "(III)Z" } : Jvm.MethodName)) ∈ lw_all := lw_g (lw_at lw_m2 95 rfl) rfl
theorem q446 : (Jvm.Cond.code ({ cls := "NotchSticks", name := "isIn", desc := "(III)Z" } : Jvm.MethodName) prog_1_method_2_code (3 : Nat) (Option.some Jvm.ClassFile.FieldType.boolean)) ∈ lw_all := lw_g (lw_at lw_m2 96 rfl) rfl
theorem q448 : (Jvm.Cond.instanceMethod ({ cls := "NotchSticks", name := "text", desc := "(I)I" } : Jvm.MethodName)) ∈ lw_all := lw_g (lw_at lw_m2 98 rfl) rfl
theorem q449 : (Jvm.Cond.selects "NotchSticks" ({ cls := "NotchSticks", name := "text", desc := "(I)I" } : Jvm.MethodName) ({ cls := "NotchSticks", name := "text", desc := "(I)I" } : Jvm.MethodName)) ∈ lw_all := lw_g (lw_at lw_m2 99 rfl) rfl
theorem q450 : (Jvm.Cond.codeWith ({ cls := "NotchSticks", name := "text", desc := "(I)I" } : Jvm.MethodName) prog_1_method_6_code (5 : Nat) (Option.some Jvm.ClassFile.FieldType.int) [((10 : Nat), (21 : Nat), (72 : Nat), (105 : Nat)), ((28 : Nat), (65 : Nat), (72 : Nat), (105 : Nat)), ((10 : Nat), (21 : Nat), (98 : Nat), (0 : Nat)), ((28 : Nat), (65 : Nat), (98 : Nat), (0 : Nat)), ((72 : Nat), (91 : Nat), (98 : Nat), (0 : Nat)), ((98 : Nat), (100 : Nat), (98 : Nat), (0 : Nat))]) ∈ lw_all := lw_g (lw_at lw_m2 100 rfl) rfl
theorem q451 : (Jvm.Cond.classLink "NotchSticks" (105 : Nat) "NotchSticks$Fault") ∈ lw_all := lw_g (lw_at lw_m2 101 rfl) rfl
theorem q452 : (Jvm.Cond.classLink "NotchSticks" (88 : Nat) "NotchSticks$Reader") ∈ lw_all := lw_g (lw_at lw_m2 102 rfl) rfl
theorem q454 : (Jvm.Cond.methodLink "NotchSticks" (90 : Nat) ({ cls := "NotchSticks$Reader", name := "<init>", desc := "(LNotchSticks;Z)V" } : Jvm.MethodName)) ∈ lw_all := lw_g (lw_at lw_m2 104 rfl) rfl
theorem q480 : (Jvm.Cond.methodLink "NotchSticks" (93 : Nat) ({ cls := "NotchSticks$Reader", name := "read", desc := "()Ljava/util/ArrayList;" } : Jvm.MethodName)) ∈ lw_all := lw_g (lw_at lw_m2 130 rfl) rfl
theorem q638 : (Jvm.Cond.fieldLinkNest "NotchSticks" (107 : Nat) "NotchSticks$Fault" "kind" "I" "NotchSticks") ∈ lw_tbl := lw_at lw_m3 48 rfl
theorem q640 : (Jvm.Cond.fieldLinkNest "NotchSticks" (110 : Nat) "NotchSticks$Fault" "place" "I" "NotchSticks") ∈ lw_tbl := lw_at lw_m3 50 rfl
theorem q762 : (Jvm.Cond.methodLink "NotchSticks" (97 : Nat) ({ cls := "java/util/ArrayList", name := "set", desc := "(ILjava/lang/Object;)Ljava/lang/Object;" } : Jvm.MethodName)) ∈ lw_all := lw_g (lw_at lw_m3 172 rfl) rfl
theorem q774 : (Jvm.Cond.methodLink "NotchSticks" (101 : Nat) ({ cls := "java/util/ArrayList", name := "size", desc := "()I" } : Jvm.MethodName)) ∈ lw_all := lw_g (lw_at lw_m3 184 rfl) rfl
theorem q776 : (Jvm.Cond.instanceMethod ({ cls := "NotchSticks", name := "fault", desc := "(I)I" } : Jvm.MethodName)) ∈ lw_all := lw_g (lw_at lw_m3 186 rfl) rfl
theorem q777 : (Jvm.Cond.selects "NotchSticks" ({ cls := "NotchSticks", name := "fault", desc := "(I)I" } : Jvm.MethodName) ({ cls := "NotchSticks", name := "fault", desc := "(I)I" } : Jvm.MethodName)) ∈ lw_all := lw_g (lw_at lw_m3 187 rfl) rfl
theorem q778 : (Jvm.Cond.code ({ cls := "NotchSticks", name := "fault", desc := "(I)I" } : Jvm.MethodName) prog_1_method_7_code (2 : Nat) (Option.some Jvm.ClassFile.FieldType.int)) ∈ lw_all := lw_g (lw_at lw_m3 188 rfl) rfl
theorem q780 : (Jvm.Cond.instanceMethod ({ cls := "NotchSticks", name := "state", desc := "(I)I" } : Jvm.MethodName)) ∈ lw_all := lw_g (lw_at lw_m3 190 rfl) rfl
theorem q781 : (Jvm.Cond.selects "NotchSticks" ({ cls := "NotchSticks", name := "state", desc := "(I)I" } : Jvm.MethodName) ({ cls := "NotchSticks", name := "state", desc := "(I)I" } : Jvm.MethodName)) ∈ lw_all := lw_g (lw_at lw_m3 191 rfl) rfl
theorem q782 : (Jvm.Cond.code ({ cls := "NotchSticks", name := "state", desc := "(I)I" } : Jvm.MethodName) prog_1_method_8_code (3 : Nat) (Option.some Jvm.ClassFile.FieldType.int)) ∈ lw_all := lw_g (lw_at lw_m3 192 rfl) rfl
theorem q784 : (Jvm.Cond.instanceMethod ({ cls := "NotchSticks", name := "one", desc := "(II)I" } : Jvm.MethodName)) ∈ lw_all := lw_g (lw_at lw_m3 194 rfl) rfl
theorem q785 : (Jvm.Cond.selects "NotchSticks" ({ cls := "NotchSticks", name := "one", desc := "(II)I" } : Jvm.MethodName) ({ cls := "NotchSticks", name := "one", desc := "(II)I" } : Jvm.MethodName)) ∈ lw_all := lw_g (lw_at lw_m3 195 rfl) rfl
theorem q786 : (Jvm.Cond.code ({ cls := "NotchSticks", name := "one", desc := "(II)I" } : Jvm.MethodName) prog_1_method_12_code (5 : Nat) (Option.some Jvm.ClassFile.FieldType.int)) ∈ lw_all := lw_g (lw_at lw_m3 196 rfl) rfl
theorem q788 : (Jvm.Cond.instanceMethod ({ cls := "NotchSticks", name := "stick", desc := "(III)Z" } : Jvm.MethodName)) ∈ lw_all := lw_g (lw_at lw_m3 198 rfl) rfl
theorem q789 : (Jvm.Cond.selects "NotchSticks" ({ cls := "NotchSticks", name := "stick", desc := "(III)Z" } : Jvm.MethodName) ({ cls := "NotchSticks", name := "stick", desc := "(III)Z" } : Jvm.MethodName)) ∈ lw_all := lw_g (lw_at lw_m3 199 rfl) rfl
theorem q790 : (Jvm.Cond.code ({ cls := "NotchSticks", name := "stick", desc := "(III)Z" } : Jvm.MethodName) prog_1_method_13_code (4 : Nat) (Option.some Jvm.ClassFile.FieldType.boolean)) ∈ lw_all := lw_g (lw_at lw_m3 200 rfl) rfl
theorem q791 : (Jvm.Cond.methodLink "NotchSticks" (119 : Nat) ({ cls := "NotchSticks", name := "isOne", desc := "(I)Z" } : Jvm.MethodName)) ∈ lw_all := lw_g (lw_at lw_m3 201 rfl) rfl
theorem q792 : (Jvm.Cond.privateMethod ({ cls := "NotchSticks", name := "isOne", desc := "(I)Z" } : Jvm.MethodName)) ∈ lw_tbl := lw_at lw_m3 202 rfl
theorem q793 : (Jvm.Cond.instanceMethod ({ cls := "NotchSticks", name := "isOne", desc := "(I)Z" } : Jvm.MethodName)) ∈ lw_all := lw_g (lw_at lw_m3 203 rfl) rfl
theorem q794 : (Jvm.Cond.code ({ cls := "NotchSticks", name := "isOne", desc := "(I)Z" } : Jvm.MethodName) prog_1_method_9_code (2 : Nat) (Option.some Jvm.ClassFile.FieldType.boolean)) ∈ lw_all := lw_g (lw_at lw_m3 204 rfl) rfl
theorem q796 : (Jvm.Cond.instanceMethod ({ cls := "NotchSticks", name := "set", desc := "(II)Z" } : Jvm.MethodName)) ∈ lw_all := lw_g (lw_at lw_m3 206 rfl) rfl
theorem q797 : (Jvm.Cond.selects "NotchSticks" ({ cls := "NotchSticks", name := "set", desc := "(II)Z" } : Jvm.MethodName) ({ cls := "NotchSticks", name := "set", desc := "(II)Z" } : Jvm.MethodName)) ∈ lw_all := lw_g (lw_at lw_m3 207 rfl) rfl
theorem q798 : (Jvm.Cond.code ({ cls := "NotchSticks", name := "set", desc := "(II)Z" } : Jvm.MethodName) prog_1_method_14_code (4 : Nat) (Option.some Jvm.ClassFile.FieldType.boolean)) ∈ lw_all := lw_g (lw_at lw_m3 208 rfl) rfl
theorem q800 : (Jvm.Cond.instanceMethod ({ cls := "NotchSticks", name := "of", desc := "(II)I" } : Jvm.MethodName)) ∈ lw_all := lw_g (lw_at lw_m3 210 rfl) rfl
theorem q801 : (Jvm.Cond.selects "NotchSticks" ({ cls := "NotchSticks", name := "of", desc := "(II)I" } : Jvm.MethodName) ({ cls := "NotchSticks", name := "of", desc := "(II)I" } : Jvm.MethodName)) ∈ lw_all := lw_g (lw_at lw_m3 211 rfl) rfl
theorem q802 : (Jvm.Cond.code ({ cls := "NotchSticks", name := "of", desc := "(II)I" } : Jvm.MethodName) prog_1_method_15_code (3 : Nat) (Option.some Jvm.ClassFile.FieldType.int)) ∈ lw_all := lw_g (lw_at lw_m3 212 rfl) rfl
theorem q803 : (Jvm.Cond.constant "NotchSticks" (136 : Nat) (-10000000 : Int32)) ∈ lw_all := lw_g (lw_at lw_m3 213 rfl) rfl
theorem q805 : (Jvm.Cond.instanceMethod ({ cls := "NotchSticks", name := "would", desc := "(IIII)I" } : Jvm.MethodName)) ∈ lw_all := lw_g (lw_at lw_m3 215 rfl) rfl
theorem q806 : (Jvm.Cond.selects "NotchSticks" ({ cls := "NotchSticks", name := "would", desc := "(IIII)I" } : Jvm.MethodName) ({ cls := "NotchSticks", name := "would", desc := "(IIII)I" } : Jvm.MethodName)) ∈ lw_all := lw_g (lw_at lw_m3 216 rfl) rfl
theorem q807 : (Jvm.Cond.code ({ cls := "NotchSticks", name := "would", desc := "(IIII)I" } : Jvm.MethodName) prog_1_method_16_code (6 : Nat) (Option.some Jvm.ClassFile.FieldType.int)) ∈ lw_all := lw_g (lw_at lw_m3 217 rfl) rfl
theorem q808 : (Jvm.Cond.methodLink "NotchSticks" (137 : Nat) ({ cls := "NotchSticks", name := "areTwo", desc := "(II)Z" } : Jvm.MethodName)) ∈ lw_all := lw_g (lw_at lw_m3 218 rfl) rfl
theorem q809 : (Jvm.Cond.privateMethod ({ cls := "NotchSticks", name := "areTwo", desc := "(II)Z" } : Jvm.MethodName)) ∈ lw_tbl := lw_at lw_m3 219 rfl
theorem q810 : (Jvm.Cond.instanceMethod ({ cls := "NotchSticks", name := "areTwo", desc := "(II)Z" } : Jvm.MethodName)) ∈ lw_all := lw_g (lw_at lw_m3 220 rfl) rfl
theorem q811 : (Jvm.Cond.code ({ cls := "NotchSticks", name := "areTwo", desc := "(II)Z" } : Jvm.MethodName) prog_1_method_11_code (3 : Nat) (Option.some Jvm.ClassFile.FieldType.boolean)) ∈ lw_all := lw_g (lw_at lw_m3 221 rfl) rfl
theorem q812 : (Jvm.Cond.methodLink "NotchSticks" (141 : Nat) ({ cls := "NotchSticks", name := "isSize", desc := "(I)Z" } : Jvm.MethodName)) ∈ lw_all := lw_g (lw_at lw_m3 222 rfl) rfl
theorem q813 : (Jvm.Cond.static ({ cls := "NotchSticks", name := "isSize", desc := "(I)Z" } : Jvm.MethodName)) ∈ lw_all := lw_g (lw_at lw_m3 223 rfl) rfl
theorem q814 : (Jvm.Cond.code ({ cls := "NotchSticks", name := "isSize", desc := "(I)Z" } : Jvm.MethodName) prog_1_method_10_code (1 : Nat) (Option.some Jvm.ClassFile.FieldType.boolean)) ∈ lw_all := lw_g (lw_at lw_m3 224 rfl) rfl
theorem q815 : (Jvm.Cond.methodLink "NotchSticks" (144 : Nat) ({ cls := "NotchSticks$Valley", name := "deals", desc := "(III)Z" } : Jvm.MethodName)) ∈ lw_all := lw_g (lw_at lw_m3 225 rfl) rfl
theorem q869 : (Jvm.Cond.methodLink "NotchSticks" (147 : Nat) ({ cls := "NotchSticks$Valley", name := "breaks", desc := "(III)Z" } : Jvm.MethodName)) ∈ lw_all := lw_g (lw_at lw_m4 39 rfl) rfl
theorem q873 : (Jvm.Cond.methodLink "NotchSticks" (150 : Nat) ({ cls := "NotchSticks$Valley", name := "isLawful", desc := "(II)Z" } : Jvm.MethodName)) ∈ lw_all := lw_g (lw_at lw_m4 43 rfl) rfl
theorem q875 : (Jvm.Cond.instanceMethod ({ cls := "NotchSticks", name := "deal", desc := "(III)I" } : Jvm.MethodName)) ∈ lw_all := lw_g (lw_at lw_m4 45 rfl) rfl
theorem q876 : (Jvm.Cond.selects "NotchSticks" ({ cls := "NotchSticks", name := "deal", desc := "(III)I" } : Jvm.MethodName) ({ cls := "NotchSticks", name := "deal", desc := "(III)I" } : Jvm.MethodName)) ∈ lw_all := lw_g (lw_at lw_m4 46 rfl) rfl
theorem q877 : (Jvm.Cond.code ({ cls := "NotchSticks", name := "deal", desc := "(III)I" } : Jvm.MethodName) prog_1_method_17_code (4 : Nat) (Option.some Jvm.ClassFile.FieldType.int)) ∈ lw_all := lw_g (lw_at lw_m4 47 rfl) rfl
theorem q878 : (Jvm.Cond.methodLink "NotchSticks" (153 : Nat) ({ cls := "NotchSticks$Valley", name := "deal", desc := "(III)I" } : Jvm.MethodName)) ∈ lw_all := lw_g (lw_at lw_m4 48 rfl) rfl
theorem q913 : (Jvm.Cond.instanceMethod ({ cls := "NotchSticks", name := "book", desc := "(II)I" } : Jvm.MethodName)) ∈ lw_all := lw_g (lw_at lw_m4 83 rfl) rfl
theorem q914 : (Jvm.Cond.selects "NotchSticks" ({ cls := "NotchSticks", name := "book", desc := "(II)I" } : Jvm.MethodName) ({ cls := "NotchSticks", name := "book", desc := "(II)I" } : Jvm.MethodName)) ∈ lw_all := lw_g (lw_at lw_m4 84 rfl) rfl
theorem q915 : (Jvm.Cond.code ({ cls := "NotchSticks", name := "book", desc := "(II)I" } : Jvm.MethodName) prog_1_method_18_code (3 : Nat) (Option.some Jvm.ClassFile.FieldType.int)) ∈ lw_all := lw_g (lw_at lw_m4 85 rfl) rfl
theorem q917 : (Jvm.Cond.instanceMethod ({ cls := "NotchSticks", name := "years", desc := "(I)I" } : Jvm.MethodName)) ∈ lw_all := lw_g (lw_at lw_m4 87 rfl) rfl
theorem q918 : (Jvm.Cond.selects "NotchSticks" ({ cls := "NotchSticks", name := "years", desc := "(I)I" } : Jvm.MethodName) ({ cls := "NotchSticks", name := "years", desc := "(I)I" } : Jvm.MethodName)) ∈ lw_all := lw_g (lw_at lw_m4 88 rfl) rfl
theorem q919 : (Jvm.Cond.code ({ cls := "NotchSticks", name := "years", desc := "(I)I" } : Jvm.MethodName) prog_1_method_19_code (4 : Nat) (Option.some Jvm.ClassFile.FieldType.int)) ∈ lw_all := lw_g (lw_at lw_m4 89 rfl) rfl
theorem q920 : (Jvm.Cond.methodLink "NotchSticks" (172 : Nat) ({ cls := "NotchSticks$Valley", name := "goesBy", desc := "()V" } : Jvm.MethodName)) ∈ lw_all := lw_g (lw_at lw_m4 90 rfl) rfl
theorem q940 : (Jvm.Cond.instanceMethod ({ cls := "NotchSticks", name := "plan", desc := "(IIIII)J" } : Jvm.MethodName)) ∈ lw_all := lw_g (lw_at lw_m4 110 rfl) rfl
theorem q941 : (Jvm.Cond.selects "NotchSticks" ({ cls := "NotchSticks", name := "plan", desc := "(IIIII)J" } : Jvm.MethodName) ({ cls := "NotchSticks", name := "plan", desc := "(IIIII)J" } : Jvm.MethodName)) ∈ lw_all := lw_g (lw_at lw_m4 111 rfl) rfl
theorem q942 : (Jvm.Cond.code ({ cls := "NotchSticks", name := "plan", desc := "(IIIII)J" } : Jvm.MethodName) prog_1_method_23_code (7 : Nat) (Option.some Jvm.ClassFile.FieldType.long)) ∈ lw_all := lw_g (lw_at lw_m4 112 rfl) rfl
theorem q943 : (Jvm.Cond.methodLink "NotchSticks" (197 : Nat) ({ cls := "NotchSticks$Valley", name := "weights", desc := "()I" } : Jvm.MethodName)) ∈ lw_all := lw_g (lw_at lw_m4 113 rfl) rfl
theorem q944 : (Jvm.Cond.constantLong "NotchSticks" (200 : Nat) (-1000000000 : Int64)) ∈ lw_all := lw_g (lw_at lw_m4 114 rfl) rfl
theorem q945 : (Jvm.Cond.methodLink "NotchSticks" (202 : Nat) ({ cls := "NotchSticks", name := "worths", desc := "(III)V" } : Jvm.MethodName)) ∈ lw_all := lw_g (lw_at lw_m4 115 rfl) rfl
theorem q946 : (Jvm.Cond.privateMethod ({ cls := "NotchSticks", name := "worths", desc := "(III)V" } : Jvm.MethodName)) ∈ lw_tbl := lw_at lw_m4 116 rfl
theorem q947 : (Jvm.Cond.instanceMethod ({ cls := "NotchSticks", name := "worths", desc := "(III)V" } : Jvm.MethodName)) ∈ lw_all := lw_g (lw_at lw_m4 117 rfl) rfl
theorem q948 : (Jvm.Cond.code ({ cls := "NotchSticks", name := "worths", desc := "(III)V" } : Jvm.MethodName) prog_1_method_22_code (9 : Nat) (Option.none : Option Jvm.ClassFile.FieldType)) ∈ lw_all := lw_g (lw_at lw_m4 118 rfl) rfl
theorem q949 : (Jvm.Cond.methodLink "NotchSticks" (185 : Nat) ({ cls := "NotchSticks", name := "keeping", desc := "(III)J" } : Jvm.MethodName)) ∈ lw_all := lw_g (lw_at lw_m4 119 rfl) rfl
theorem q950 : (Jvm.Cond.privateMethod ({ cls := "NotchSticks", name := "keeping", desc := "(III)J" } : Jvm.MethodName)) ∈ lw_tbl := lw_at lw_m4 120 rfl
theorem q951 : (Jvm.Cond.instanceMethod ({ cls := "NotchSticks", name := "keeping", desc := "(III)J" } : Jvm.MethodName)) ∈ lw_all := lw_g (lw_at lw_m4 121 rfl) rfl
theorem q952 : (Jvm.Cond.code ({ cls := "NotchSticks", name := "keeping", desc := "(III)J" } : Jvm.MethodName) prog_1_method_20_code (4 : Nat) (Option.some Jvm.ClassFile.FieldType.long)) ∈ lw_all := lw_g (lw_at lw_m4 122 rfl) rfl
theorem q953 : (Jvm.Cond.constantLong "NotchSticks" (175 : Nat) (1000 : Int64)) ∈ lw_all := lw_g (lw_at lw_m4 123 rfl) rfl
theorem q954 : (Jvm.Cond.methodLink "NotchSticks" (177 : Nat) ({ cls := "java/lang/Math", name := "min", desc := "(II)I" } : Jvm.MethodName)) ∈ lw_all := lw_g (lw_at lw_m4 124 rfl) rfl
theorem q955 : (Jvm.Cond.methodLink "NotchSticks" (189 : Nat) ({ cls := "NotchSticks", name := "breaking", desc := "(IIII)J" } : Jvm.MethodName)) ∈ lw_all := lw_g (lw_at lw_m4 125 rfl) rfl
theorem q956 : (Jvm.Cond.privateMethod ({ cls := "NotchSticks", name := "breaking", desc := "(IIII)J" } : Jvm.MethodName)) ∈ lw_tbl := lw_at lw_m4 126 rfl
theorem q957 : (Jvm.Cond.instanceMethod ({ cls := "NotchSticks", name := "breaking", desc := "(IIII)J" } : Jvm.MethodName)) ∈ lw_all := lw_g (lw_at lw_m4 127 rfl) rfl
theorem q958 : (Jvm.Cond.code ({ cls := "NotchSticks", name := "breaking", desc := "(IIII)J" } : Jvm.MethodName) prog_1_method_21_code (5 : Nat) (Option.some Jvm.ClassFile.FieldType.long)) ∈ lw_all := lw_g (lw_at lw_m4 128 rfl) rfl
theorem q959 : (Jvm.Cond.constantLong "NotchSticks" (183 : Nat) (-1 : Int64)) ∈ lw_all := lw_g (lw_at lw_m4 129 rfl) rfl
theorem q960 : (Jvm.Cond.methodLink "NotchSticks" (193 : Nat) ({ cls := "java/lang/Math", name := "max", desc := "(JJ)J" } : Jvm.MethodName)) ∈ lw_all := lw_g (lw_at lw_m4 130 rfl) rfl
theorem q964 : (Jvm.Cond.instanceMethod ({ cls := "NotchSticks", name := "longer", desc := "(IIII)J" } : Jvm.MethodName)) ∈ lw_all := lw_g (lw_at lw_m4 134 rfl) rfl
theorem q965 : (Jvm.Cond.selects "NotchSticks" ({ cls := "NotchSticks", name := "longer", desc := "(IIII)J" } : Jvm.MethodName) ({ cls := "NotchSticks", name := "longer", desc := "(IIII)J" } : Jvm.MethodName)) ∈ lw_all := lw_g (lw_at lw_m4 135 rfl) rfl
theorem q966 : (Jvm.Cond.code ({ cls := "NotchSticks", name := "longer", desc := "(IIII)J" } : Jvm.MethodName) prog_1_method_27_code (9 : Nat) (Option.some Jvm.ClassFile.FieldType.long)) ∈ lw_all := lw_g (lw_at lw_m4 136 rfl) rfl
theorem q967 : (Jvm.Cond.methodLink "NotchSticks" (230 : Nat) ({ cls := "NotchSticks", name := "rounds", desc := "(III)V" } : Jvm.MethodName)) ∈ lw_all := lw_g (lw_at lw_m4 137 rfl) rfl
theorem q968 : (Jvm.Cond.privateMethod ({ cls := "NotchSticks", name := "rounds", desc := "(III)V" } : Jvm.MethodName)) ∈ lw_tbl := lw_at lw_m4 138 rfl
theorem q969 : (Jvm.Cond.instanceMethod ({ cls := "NotchSticks", name := "rounds", desc := "(III)V" } : Jvm.MethodName)) ∈ lw_all := lw_g (lw_at lw_m4 139 rfl) rfl
theorem q970 : (Jvm.Cond.code ({ cls := "NotchSticks", name := "rounds", desc := "(III)V" } : Jvm.MethodName) prog_1_method_25_code (7 : Nat) (Option.none : Option Jvm.ClassFile.FieldType)) ∈ lw_all := lw_g (lw_at lw_m4 140 rfl) rfl
theorem q971 : (Jvm.Cond.constantLong "NotchSticks" (206 : Nat) (1000000000 : Int64)) ∈ lw_all := lw_g (lw_at lw_m4 141 rfl) rfl
theorem q972 : (Jvm.Cond.methodLink "NotchSticks" (208 : Nat) ({ cls := "NotchSticks", name := "greatestSize", desc := "()I" } : Jvm.MethodName)) ∈ lw_all := lw_g (lw_at lw_m4 142 rfl) rfl
theorem q973 : (Jvm.Cond.privateMethod ({ cls := "NotchSticks", name := "greatestSize", desc := "()I" } : Jvm.MethodName)) ∈ lw_tbl := lw_at lw_m4 143 rfl
theorem q974 : (Jvm.Cond.instanceMethod ({ cls := "NotchSticks", name := "greatestSize", desc := "()I" } : Jvm.MethodName)) ∈ lw_all := lw_g (lw_at lw_m4 144 rfl) rfl
theorem q975 : (Jvm.Cond.code ({ cls := "NotchSticks", name := "greatestSize", desc := "()I" } : Jvm.MethodName) prog_1_method_24_code (3 : Nat) (Option.some Jvm.ClassFile.FieldType.int)) ∈ lw_all := lw_g (lw_at lw_m4 145 rfl) rfl
theorem q976 : (Jvm.Cond.methodLink "NotchSticks" (221 : Nat) ({ cls := "NotchSticks", name := "flowsOn", desc := "(IIII)V" } : Jvm.MethodName)) ∈ lw_all := lw_g (lw_at lw_m4 146 rfl) rfl
theorem q977 : (Jvm.Cond.privateMethod ({ cls := "NotchSticks", name := "flowsOn", desc := "(IIII)V" } : Jvm.MethodName)) ∈ lw_tbl := lw_at lw_m4 147 rfl
theorem q978 : (Jvm.Cond.instanceMethod ({ cls := "NotchSticks", name := "flowsOn", desc := "(IIII)V" } : Jvm.MethodName)) ∈ lw_all := lw_g (lw_at lw_m4 148 rfl) rfl
theorem q979 : (Jvm.Cond.code ({ cls := "NotchSticks", name := "flowsOn", desc := "(IIII)V" } : Jvm.MethodName) prog_1_method_26_code (11 : Nat) (Option.none : Option Jvm.ClassFile.FieldType)) ∈ lw_all := lw_g (lw_at lw_m4 149 rfl) rfl
theorem q980 : (Jvm.Cond.constantLong "NotchSticks" (225 : Nat) (1000000 : Int64)) ∈ lw_all := lw_g (lw_at lw_m4 150 rfl) rfl
theorem q981 : (Jvm.Cond.methodLink "NotchSticks" (227 : Nat) ({ cls := "java/lang/Math", name := "floorDiv", desc := "(JJ)J" } : Jvm.MethodName)) ∈ lw_all := lw_g (lw_at lw_m4 151 rfl) rfl
theorem q985 : (Jvm.Cond.instanceMethod ({ cls := "NotchSticks", name := "common", desc := "(III)J" } : Jvm.MethodName)) ∈ lw_all := lw_g (lw_at lw_m4 155 rfl) rfl
theorem q986 : (Jvm.Cond.selects "NotchSticks" ({ cls := "NotchSticks", name := "common", desc := "(III)J" } : Jvm.MethodName) ({ cls := "NotchSticks", name := "common", desc := "(III)J" } : Jvm.MethodName)) ∈ lw_all := lw_g (lw_at lw_m4 156 rfl) rfl
theorem q987 : (Jvm.Cond.code ({ cls := "NotchSticks", name := "common", desc := "(III)J" } : Jvm.MethodName) prog_1_method_28_code (8 : Nat) (Option.some Jvm.ClassFile.FieldType.long)) ∈ lw_all := lw_g (lw_at lw_m4 157 rfl) rfl
theorem q989 : (Jvm.Cond.instanceMethod ({ cls := "NotchSticks", name := "pair", desc := "(IIIIIII)J" } : Jvm.MethodName)) ∈ lw_all := lw_g (lw_at lw_m4 159 rfl) rfl
theorem q990 : (Jvm.Cond.selects "NotchSticks" ({ cls := "NotchSticks", name := "pair", desc := "(IIIIIII)J" } : Jvm.MethodName) ({ cls := "NotchSticks", name := "pair", desc := "(IIIIIII)J" } : Jvm.MethodName)) ∈ lw_all := lw_g (lw_at lw_m4 160 rfl) rfl
theorem q991 : (Jvm.Cond.code ({ cls := "NotchSticks", name := "pair", desc := "(IIIIIII)J" } : Jvm.MethodName) prog_1_method_30_code (8 : Nat) (Option.some Jvm.ClassFile.FieldType.long)) ∈ lw_all := lw_g (lw_at lw_m4 161 rfl) rfl
theorem q992 : (Jvm.Cond.methodLink "NotchSticks" (233 : Nat) ({ cls := "NotchSticks", name := "isPair", desc := "(IIII)Z" } : Jvm.MethodName)) ∈ lw_all := lw_g (lw_at lw_m4 162 rfl) rfl
theorem q993 : (Jvm.Cond.privateMethod ({ cls := "NotchSticks", name := "isPair", desc := "(IIII)Z" } : Jvm.MethodName)) ∈ lw_tbl := lw_at lw_m4 163 rfl
theorem q994 : (Jvm.Cond.instanceMethod ({ cls := "NotchSticks", name := "isPair", desc := "(IIII)Z" } : Jvm.MethodName)) ∈ lw_all := lw_g (lw_at lw_m4 164 rfl) rfl
theorem q995 : (Jvm.Cond.code ({ cls := "NotchSticks", name := "isPair", desc := "(IIII)Z" } : Jvm.MethodName) prog_1_method_29_code (5 : Nat) (Option.some Jvm.ClassFile.FieldType.boolean)) ∈ lw_all := lw_g (lw_at lw_m4 165 rfl) rfl
theorem q996 : (Jvm.Cond.methodLink "NotchSticks" (237 : Nat) ({ cls := "NotchSticks$Pair", name := "leads", desc := "(IIIIII)V" } : Jvm.MethodName)) ∈ lw_all := lw_g (lw_at lw_m4 166 rfl) rfl
theorem q1020 : (Jvm.Cond.instanceMethod ({ cls := "NotchSticks", name := "holds", desc := "(IIIII)I" } : Jvm.MethodName)) ∈ lw_all := lw_g (lw_at lw_m4 190 rfl) rfl
theorem q1021 : (Jvm.Cond.selects "NotchSticks" ({ cls := "NotchSticks", name := "holds", desc := "(IIIII)I" } : Jvm.MethodName) ({ cls := "NotchSticks", name := "holds", desc := "(IIIII)I" } : Jvm.MethodName)) ∈ lw_all := lw_g (lw_at lw_m4 191 rfl) rfl
theorem q1022 : (Jvm.Cond.code ({ cls := "NotchSticks", name := "holds", desc := "(IIIII)I" } : Jvm.MethodName) prog_1_method_32_code (15 : Nat) (Option.some Jvm.ClassFile.FieldType.int)) ∈ lw_all := lw_g (lw_at lw_m4 192 rfl) rfl
theorem q1023 : (Jvm.Cond.methodLink "NotchSticks" (244 : Nat) ({ cls := "NotchSticks", name := "doesHold", desc := "(II)Z" } : Jvm.MethodName)) ∈ lw_all := lw_g (lw_at lw_m4 193 rfl) rfl
theorem q1024 : (Jvm.Cond.privateMethod ({ cls := "NotchSticks", name := "doesHold", desc := "(II)Z" } : Jvm.MethodName)) ∈ lw_tbl := lw_at lw_m4 194 rfl
theorem q1025 : (Jvm.Cond.instanceMethod ({ cls := "NotchSticks", name := "doesHold", desc := "(II)Z" } : Jvm.MethodName)) ∈ lw_all := lw_g (lw_at lw_m4 195 rfl) rfl
theorem q1026 : (Jvm.Cond.code ({ cls := "NotchSticks", name := "doesHold", desc := "(II)Z" } : Jvm.MethodName) prog_1_method_31_code (4 : Nat) (Option.some Jvm.ClassFile.FieldType.boolean)) ∈ lw_all := lw_g (lw_at lw_m4 196 rfl) rfl
theorem q1028 : (Jvm.Cond.instanceMethod ({ cls := "NotchSticks", name := "rests", desc := "(III)I" } : Jvm.MethodName)) ∈ lw_all := lw_g (lw_at lw_m4 198 rfl) rfl
theorem q1029 : (Jvm.Cond.selects "NotchSticks" ({ cls := "NotchSticks", name := "rests", desc := "(III)I" } : Jvm.MethodName) ({ cls := "NotchSticks", name := "rests", desc := "(III)I" } : Jvm.MethodName)) ∈ lw_all := lw_g (lw_at lw_m4 199 rfl) rfl
theorem q1030 : (Jvm.Cond.code ({ cls := "NotchSticks", name := "rests", desc := "(III)I" } : Jvm.MethodName) prog_1_method_34_code (11 : Nat) (Option.some Jvm.ClassFile.FieldType.int)) ∈ lw_all := lw_g (lw_at lw_m4 200 rfl) rfl
theorem q1031 : (Jvm.Cond.methodLink "NotchSticks" (251 : Nat) ({ cls := "NotchSticks", name := "value", desc := "(IIIZ)I" } : Jvm.MethodName)) ∈ lw_all := lw_g (lw_at lw_m4 201 rfl) rfl
theorem q1032 : (Jvm.Cond.privateMethod ({ cls := "NotchSticks", name := "value", desc := "(IIIZ)I" } : Jvm.MethodName)) ∈ lw_tbl := lw_at lw_m4 202 rfl
theorem q1033 : (Jvm.Cond.instanceMethod ({ cls := "NotchSticks", name := "value", desc := "(IIIZ)I" } : Jvm.MethodName)) ∈ lw_all := lw_g (lw_at lw_m4 203 rfl) rfl
theorem q1034 : (Jvm.Cond.code ({ cls := "NotchSticks", name := "value", desc := "(IIIZ)I" } : Jvm.MethodName) prog_1_method_33_code (6 : Nat) (Option.some Jvm.ClassFile.FieldType.int)) ∈ lw_all := lw_g (lw_at lw_m4 204 rfl) rfl
theorem q1035 : (Jvm.Cond.methodLink "NotchSticks" (247 : Nat) ({ cls := "NotchSticks$Valley", name := "worth", desc := "(ZZ)I" } : Jvm.MethodName)) ∈ lw_all := lw_g (lw_at lw_m4 205 rfl) rfl
theorem q1037 : (Jvm.Cond.instanceMethod ({ cls := "NotchSticks", name := "whom", desc := "(II)I" } : Jvm.MethodName)) ∈ lw_all := lw_g (lw_at lw_m4 207 rfl) rfl
theorem q1038 : (Jvm.Cond.selects "NotchSticks" ({ cls := "NotchSticks", name := "whom", desc := "(II)I" } : Jvm.MethodName) ({ cls := "NotchSticks", name := "whom", desc := "(II)I" } : Jvm.MethodName)) ∈ lw_all := lw_g (lw_at lw_m4 208 rfl) rfl
theorem q1039 : (Jvm.Cond.code ({ cls := "NotchSticks", name := "whom", desc := "(II)I" } : Jvm.MethodName) prog_1_method_35_code (5 : Nat) (Option.some Jvm.ClassFile.FieldType.int)) ∈ lw_all := lw_g (lw_at lw_m4 209 rfl) rfl
theorem q1040 : (Jvm.Cond.methodLink "NotchSticks" (255 : Nat) ({ cls := "NotchSticks$Valley", name := "isOut", desc := "(I)Z" } : Jvm.MethodName)) ∈ lw_all := lw_g (lw_at lw_m4 210 rfl) rfl
theorem q1041 : (Jvm.Cond.methodLink "NotchSticks" (258 : Nat) ({ cls := "NotchSticks$Person", name := "notch", desc := "(I)I" } : Jvm.MethodName)) ∈ lw_all := lw_g (lw_at lw_m4 211 rfl) rfl
theorem q1043 : (Jvm.Cond.instanceMethod ({ cls := "NotchSticks", name := "safe", desc := "()I" } : Jvm.MethodName)) ∈ lw_all := lw_g (lw_at lw_m4 213 rfl) rfl
theorem q1044 : (Jvm.Cond.selects "NotchSticks" ({ cls := "NotchSticks", name := "safe", desc := "()I" } : Jvm.MethodName) ({ cls := "NotchSticks", name := "safe", desc := "()I" } : Jvm.MethodName)) ∈ lw_all := lw_g (lw_at lw_m4 214 rfl) rfl
theorem q1045 : (Jvm.Cond.code ({ cls := "NotchSticks", name := "safe", desc := "()I" } : Jvm.MethodName) prog_1_method_37_code (3 : Nat) (Option.some Jvm.ClassFile.FieldType.int)) ∈ lw_all := lw_g (lw_at lw_m4 215 rfl) rfl
theorem q1046 : (Jvm.Cond.methodLink "NotchSticks" (262 : Nat) ({ cls := "NotchSticks", name := "isSafe", desc := "(I)Z" } : Jvm.MethodName)) ∈ lw_all := lw_g (lw_at lw_m4 216 rfl) rfl
theorem q1047 : (Jvm.Cond.privateMethod ({ cls := "NotchSticks", name := "isSafe", desc := "(I)Z" } : Jvm.MethodName)) ∈ lw_tbl := lw_at lw_m4 217 rfl
theorem q1048 : (Jvm.Cond.instanceMethod ({ cls := "NotchSticks", name := "isSafe", desc := "(I)Z" } : Jvm.MethodName)) ∈ lw_all := lw_g (lw_at lw_m4 218 rfl) rfl
theorem q1049 : (Jvm.Cond.code ({ cls := "NotchSticks", name := "isSafe", desc := "(I)Z" } : Jvm.MethodName) prog_1_method_36_code (3 : Nat) (Option.some Jvm.ClassFile.FieldType.boolean)) ∈ lw_all := lw_g (lw_at lw_m4 219 rfl) rfl
theorem q1051 : (Jvm.Cond.instanceMethod ({ cls := "NotchSticks", name := "named", desc := "(I)I" } : Jvm.MethodName)) ∈ lw_all := lw_g (lw_at lw_m4 221 rfl) rfl
theorem q1052 : (Jvm.Cond.selects "NotchSticks" ({ cls := "NotchSticks", name := "named", desc := "(I)I" } : Jvm.MethodName) ({ cls := "NotchSticks", name := "named", desc := "(I)I" } : Jvm.MethodName)) ∈ lw_all := lw_g (lw_at lw_m4 222 rfl) rfl
theorem q1053 : (Jvm.Cond.code ({ cls := "NotchSticks", name := "named", desc := "(I)I" } : Jvm.MethodName) prog_1_method_39_code (5 : Nat) (Option.some Jvm.ClassFile.FieldType.int)) ∈ lw_all := lw_g (lw_at lw_m4 223 rfl) rfl
theorem q1054 : (Jvm.Cond.methodLink "NotchSticks" (265 : Nat) ({ cls := "NotchSticks", name := "isAhead", desc := "(II)Z" } : Jvm.MethodName)) ∈ lw_all := lw_g (lw_at lw_m4 224 rfl) rfl
theorem q1055 : (Jvm.Cond.privateMethod ({ cls := "NotchSticks", name := "isAhead", desc := "(II)Z" } : Jvm.MethodName)) ∈ lw_tbl := lw_at lw_m4 225 rfl
theorem q1056 : (Jvm.Cond.instanceMethod ({ cls := "NotchSticks", name := "isAhead", desc := "(II)Z" } : Jvm.MethodName)) ∈ lw_all := lw_g (lw_at lw_m4 226 rfl) rfl
theorem q1057 : (Jvm.Cond.code ({ cls := "NotchSticks", name := "isAhead", desc := "(II)Z" } : Jvm.MethodName) prog_1_method_38_code (7 : Nat) (Option.some Jvm.ClassFile.FieldType.boolean)) ∈ lw_all := lw_g (lw_at lw_m4 227 rfl) rfl
theorem q1059 : (Jvm.Cond.instanceMethod ({ cls := "NotchSticks", name := "annals", desc := "(II)I" } : Jvm.MethodName)) ∈ lw_all := lw_g (lw_at lw_m4 229 rfl) rfl
theorem q1060 : (Jvm.Cond.selects "NotchSticks" ({ cls := "NotchSticks", name := "annals", desc := "(II)I" } : Jvm.MethodName) ({ cls := "NotchSticks", name := "annals", desc := "(II)I" } : Jvm.MethodName)) ∈ lw_all := lw_g (lw_at lw_m4 230 rfl) rfl
theorem q1061 : (Jvm.Cond.code ({ cls := "NotchSticks", name := "annals", desc := "(II)I" } : Jvm.MethodName) prog_1_method_40_code (8 : Nat) (Option.some Jvm.ClassFile.FieldType.int)) ∈ lw_all := lw_g (lw_at lw_m4 231 rfl) rfl
theorem q1062 : (Jvm.Cond.methodLink "NotchSticks" (268 : Nat) ({ cls := "NotchSticks$Entry", name := "did", desc := "(I)I" } : Jvm.MethodName)) ∈ lw_all := lw_g (lw_at lw_m4 232 rfl) rfl
theorem q1066 : (Jvm.Cond.methodLink "NotchSticks" (271 : Nat) ({ cls := "java/lang/Math", name := "max", desc := "(II)I" } : Jvm.MethodName)) ∈ lw_all := lw_g (lw_at lw_m4 236 rfl) rfl
theorem q1068 : (Jvm.Cond.instanceMethod ({ cls := "NotchSticks", name := "trust", desc := "(II)I" } : Jvm.MethodName)) ∈ lw_all := lw_g (lw_at lw_m4 238 rfl) rfl
theorem q1069 : (Jvm.Cond.selects "NotchSticks" ({ cls := "NotchSticks", name := "trust", desc := "(II)I" } : Jvm.MethodName) ({ cls := "NotchSticks", name := "trust", desc := "(II)I" } : Jvm.MethodName)) ∈ lw_all := lw_g (lw_at lw_m4 239 rfl) rfl
theorem q1070 : (Jvm.Cond.code ({ cls := "NotchSticks", name := "trust", desc := "(II)I" } : Jvm.MethodName) prog_1_method_41_code (7 : Nat) (Option.some Jvm.ClassFile.FieldType.int)) ∈ lw_all := lw_g (lw_at lw_m5 0 rfl) rfl
theorem q1071 : (Jvm.Cond.methodLink "NotchSticks" (273 : Nat) ({ cls := "NotchSticks$Entry", name := "age", desc := "(I)I" } : Jvm.MethodName)) ∈ lw_all := lw_g (lw_at lw_m5 1 rfl) rfl
theorem q1076 : (Jvm.Cond.instanceMethod ({ cls := "NotchSticks", name := "held", desc := "(II)I" } : Jvm.MethodName)) ∈ lw_all := lw_g (lw_at lw_m5 6 rfl) rfl
theorem q1077 : (Jvm.Cond.selects "NotchSticks" ({ cls := "NotchSticks", name := "held", desc := "(II)I" } : Jvm.MethodName) ({ cls := "NotchSticks", name := "held", desc := "(II)I" } : Jvm.MethodName)) ∈ lw_all := lw_g (lw_at lw_m5 7 rfl) rfl
theorem q1078 : (Jvm.Cond.code ({ cls := "NotchSticks", name := "held", desc := "(II)I" } : Jvm.MethodName) prog_1_method_42_code (7 : Nat) (Option.some Jvm.ClassFile.FieldType.int)) ∈ lw_all := lw_g (lw_at lw_m5 8 rfl) rfl
theorem q1079 : (Jvm.Cond.methodLink "NotchSticks" (276 : Nat) ({ cls := "NotchSticks$Entry", name := "who", desc := "(I)I" } : Jvm.MethodName)) ∈ lw_all := lw_g (lw_at lw_m5 9 rfl) rfl
theorem q1084 : (Jvm.Cond.instanceMethod ({ cls := "NotchSticks", name := "lend", desc := "(IIII)Z" } : Jvm.MethodName)) ∈ lw_all := lw_g (lw_at lw_m5 14 rfl) rfl
theorem q1085 : (Jvm.Cond.selects "NotchSticks" ({ cls := "NotchSticks", name := "lend", desc := "(IIII)Z" } : Jvm.MethodName) ({ cls := "NotchSticks", name := "lend", desc := "(IIII)Z" } : Jvm.MethodName)) ∈ lw_all := lw_g (lw_at lw_m5 15 rfl) rfl
theorem q1086 : (Jvm.Cond.code ({ cls := "NotchSticks", name := "lend", desc := "(IIII)Z" } : Jvm.MethodName) prog_1_method_43_code (7 : Nat) (Option.some Jvm.ClassFile.FieldType.boolean)) ∈ lw_all := lw_g (lw_at lw_m5 16 rfl) rfl
theorem q1088 : (Jvm.Cond.instanceMethod ({ cls := "NotchSticks", name := "thought", desc := "(III)I" } : Jvm.MethodName)) ∈ lw_all := lw_g (lw_at lw_m5 18 rfl) rfl
theorem q1089 : (Jvm.Cond.selects "NotchSticks" ({ cls := "NotchSticks", name := "thought", desc := "(III)I" } : Jvm.MethodName) ({ cls := "NotchSticks", name := "thought", desc := "(III)I" } : Jvm.MethodName)) ∈ lw_all := lw_g (lw_at lw_m5 19 rfl) rfl
theorem q1090 : (Jvm.Cond.code ({ cls := "NotchSticks", name := "thought", desc := "(III)I" } : Jvm.MethodName) prog_1_method_46_code (4 : Nat) (Option.some Jvm.ClassFile.FieldType.int)) ∈ lw_all := lw_g (lw_at lw_m5 20 rfl) rfl
theorem q1091 : (Jvm.Cond.methodLink "NotchSticks" (289 : Nat) ({ cls := "NotchSticks", name := "came", desc := "(II)I" } : Jvm.MethodName)) ∈ lw_all := lw_g (lw_at lw_m5 21 rfl) rfl
theorem q1092 : (Jvm.Cond.privateMethod ({ cls := "NotchSticks", name := "came", desc := "(II)I" } : Jvm.MethodName)) ∈ lw_tbl := lw_at lw_m5 22 rfl
theorem q1093 : (Jvm.Cond.instanceMethod ({ cls := "NotchSticks", name := "came", desc := "(II)I" } : Jvm.MethodName)) ∈ lw_all := lw_g (lw_at lw_m5 23 rfl) rfl
theorem q1094 : (Jvm.Cond.code ({ cls := "NotchSticks", name := "came", desc := "(II)I" } : Jvm.MethodName) prog_1_method_45_code (3 : Nat) (Option.some Jvm.ClassFile.FieldType.int)) ∈ lw_all := lw_g (lw_at lw_m5 24 rfl) rfl
theorem q1095 : (Jvm.Cond.methodLink "NotchSticks" (283 : Nat) ({ cls := "NotchSticks", name := "leads", desc := "(II)V" } : Jvm.MethodName)) ∈ lw_all := lw_g (lw_at lw_m5 25 rfl) rfl
theorem q1096 : (Jvm.Cond.privateMethod ({ cls := "NotchSticks", name := "leads", desc := "(II)V" } : Jvm.MethodName)) ∈ lw_tbl := lw_at lw_m5 26 rfl
theorem q1097 : (Jvm.Cond.instanceMethod ({ cls := "NotchSticks", name := "leads", desc := "(II)V" } : Jvm.MethodName)) ∈ lw_all := lw_g (lw_at lw_m5 27 rfl) rfl
theorem q1098 : (Jvm.Cond.code ({ cls := "NotchSticks", name := "leads", desc := "(II)V" } : Jvm.MethodName) prog_1_method_44_code (4 : Nat) (Option.none : Option Jvm.ClassFile.FieldType)) ∈ lw_all := lw_g (lw_at lw_m5 28 rfl) rfl
theorem q1099 : (Jvm.Cond.methodLink "NotchSticks" (279 : Nat) ({ cls := "NotchSticks$Valley", name := "takes", desc := "(LNotchSticks$Valley;)LNotchSticks$Valley;" } : Jvm.MethodName)) ∈ lw_all := lw_g (lw_at lw_m5 29 rfl) rfl
theorem q1111 : (Jvm.Cond.methodLink "NotchSticks" (286 : Nat) ({ cls := "NotchSticks$Valley", name := "sum", desc := "(I)I" } : Jvm.MethodName)) ∈ lw_all := lw_g (lw_at lw_m5 41 rfl) rfl
theorem q1115 : (Jvm.Cond.methodLink "NotchSticks" (292 : Nat) ({ cls := "NotchSticks$Valley", name := "broken", desc := "()I" } : Jvm.MethodName)) ∈ lw_all := lw_g (lw_at lw_m5 45 rfl) rfl
theorem q1121 : (Jvm.Cond.instanceMethod ({ cls := "NotchSticks", name := "told", desc := "(III)I" } : Jvm.MethodName)) ∈ lw_all := lw_g (lw_at lw_m5 51 rfl) rfl
theorem q1122 : (Jvm.Cond.selects "NotchSticks" ({ cls := "NotchSticks", name := "told", desc := "(III)I" } : Jvm.MethodName) ({ cls := "NotchSticks", name := "told", desc := "(III)I" } : Jvm.MethodName)) ∈ lw_all := lw_g (lw_at lw_m5 52 rfl) rfl
theorem q1123 : (Jvm.Cond.code ({ cls := "NotchSticks", name := "told", desc := "(III)I" } : Jvm.MethodName) prog_1_method_47_code (5 : Nat) (Option.some Jvm.ClassFile.FieldType.int)) ∈ lw_all := lw_g (lw_at lw_m5 53 rfl) rfl
theorem q1125 : (Jvm.Cond.instanceMethod ({ cls := "NotchSticks", name := "image", desc := "(Z)Z" } : Jvm.MethodName)) ∈ lw_all := lw_g (lw_at lw_m5 55 rfl) rfl
theorem q1126 : (Jvm.Cond.selects "NotchSticks" ({ cls := "NotchSticks", name := "image", desc := "(Z)Z" } : Jvm.MethodName) ({ cls := "NotchSticks", name := "image", desc := "(Z)Z" } : Jvm.MethodName)) ∈ lw_all := lw_g (lw_at lw_m5 56 rfl) rfl
theorem q1127 : (Jvm.Cond.code ({ cls := "NotchSticks", name := "image", desc := "(Z)Z" } : Jvm.MethodName) prog_1_method_49_code (2 : Nat) (Option.some Jvm.ClassFile.FieldType.boolean)) ∈ lw_all := lw_g (lw_at lw_m5 57 rfl) rfl
theorem q1128 : (Jvm.Cond.methodLink "NotchSticks" (302 : Nat) ({ cls := "java/util/ArrayList", name := "isEmpty", desc := "()Z" } : Jvm.MethodName)) ∈ lw_all := lw_g (lw_at lw_m5 58 rfl) rfl
theorem q1132 : (Jvm.Cond.methodLink "NotchSticks" (306 : Nat) ({ cls := "NotchSticks", name := "takes", desc := "(Ljava/util/ArrayList;Ljava/util/ArrayList;)V" } : Jvm.MethodName)) ∈ lw_all := lw_g (lw_at lw_m5 62 rfl) rfl
theorem q1133 : (Jvm.Cond.static ({ cls := "NotchSticks", name := "takes", desc := "(Ljava/util/ArrayList;Ljava/util/ArrayList;)V" } : Jvm.MethodName)) ∈ lw_all := lw_g (lw_at lw_m5 63 rfl) rfl
theorem q1134 : (Jvm.Cond.code ({ cls := "NotchSticks", name := "takes", desc := "(Ljava/util/ArrayList;Ljava/util/ArrayList;)V" } : Jvm.MethodName) prog_1_method_48_code (3 : Nat) (Option.none : Option Jvm.ClassFile.FieldType)) ∈ lw_all := lw_g (lw_at lw_m5 64 rfl) rfl
theorem q1135 : (Jvm.Cond.methodLink "NotchSticks" (295 : Nat) ({ cls := "java/util/ArrayList", name := "clear", desc := "()V" } : Jvm.MethodName)) ∈ lw_all := lw_g (lw_at lw_m5 65 rfl) rfl
theorem q1139 : (Jvm.Cond.methodLink "NotchSticks" (298 : Nat) ({ cls := "java/util/ArrayList", name := "get", desc := "(I)Ljava/lang/Object;" } : Jvm.MethodName)) ∈ lw_all := lw_g (lw_at lw_m5 69 rfl) rfl
theorem q1141 : (Jvm.Cond.instanceMethod ({ cls := "NotchSticks", name := "look", desc := "(I)I" } : Jvm.MethodName)) ∈ lw_all := lw_g (lw_at lw_m5 71 rfl) rfl
theorem q1142 : (Jvm.Cond.selects "NotchSticks" ({ cls := "NotchSticks", name := "look", desc := "(I)I" } : Jvm.MethodName) ({ cls := "NotchSticks", name := "look", desc := "(I)I" } : Jvm.MethodName)) ∈ lw_all := lw_g (lw_at lw_m5 72 rfl) rfl
theorem q1143 : (Jvm.Cond.code ({ cls := "NotchSticks", name := "look", desc := "(I)I" } : Jvm.MethodName) prog_1_method_50_code (2 : Nat) (Option.some Jvm.ClassFile.FieldType.int)) ∈ lw_all := lw_g (lw_at lw_m5 73 rfl) rfl
theorem q1711 : (Jvm.Cond.castable "NotchSticks" "java/lang/Object") ∈ lw_tbl := lw_at lw_m7 161 rfl
theorem in_X0 : ∀ w ∈ wsX00, w ∈ lw_all := lw_in wsX00 [393, 395, 397, 399, 401, 403, 405, 407, 409, 411, 413, 415, 417, 419, 421, 423, 425, 427, 429] (by decide +kernel) (by decide +kernel)
/-! NotchSticks$Valley -/
set_option maxRecDepth 100000
def RX1 : String := "NotchSticks$Valley"
def TX1 : u_T := fun k => match k with
  | 0 => ("NotchSticks$Valley", "people", "[LNotchSticks$Person;", true)
  | 1 => ("NotchSticks$Valley", "book", "[LNotchSticks$Entry;", true)
  | 2 => ("NotchSticks$Valley", "told", "[I", true)
  | 3 => ("NotchSticks$Valley", "law", "LNotchSticks$Case;", true)
  | 4 => ("NotchSticks$Valley", "rule", "LNotchSticks$Case;", true)
  | 5 => ("NotchSticks$Valley", "n", "I", false)
  | 6 => ("NotchSticks$Valley", "entries", "I", false)
  | 7 => ("NotchSticks$Valley", "year", "I", false)
  | 8 => ("NotchSticks$Valley", "state", "I", false)
  | _ => ("NotchSticks$Valley", "this$0", "LNotchSticks;", true)
def tyX1 : Nat → FieldType := fun k => match k with
  | 0 => .array (.object "NotchSticks$Person")
  | 1 => .array (.object "NotchSticks$Entry")
  | 2 => .array .int
  | 3 => .object "NotchSticks$Case"
  | 4 => .object "NotchSticks$Case"
  | 5 => .int
  | 6 => .int
  | 7 => .int
  | 8 => .int
  | _ => .object "NotchSticks"
abbrev wsX10 : List Cond := u_ws RX1 TX1 10
theorem nmX1 : ∀ a, a < 10 → ∀ b, b < 10 → a ≠ b → (TX1 a).2.1 ≠ (TX1 b).2.1 := by decide +kernel
theorem tyX1_ok : ∀ k, k < 10 → parseFieldDescriptor (TX1 k).2.2.1 = some (tyX1 k) := by decide +kernel
abbrev cX1_init : ByteArray := prog_15_method_1_code
def yX1_init : MethodName := ⟨RX1, "<init>", "(LNotchSticks;)V"⟩
def dkwX1_init_9 : List UInt8 := [162, 0, 22, 42, 180, 0, 23, 28, 187, 0, 21, 89, 183, 0, 44, 83, 132, 2, 1, 167, 255, 233, 177]
abbrev dktX1_init_9 : List UInt8 := dkwX1_init_9 ++ []
def dkwX1_init_8 : List UInt8 := [180, 0, 17, 28, 187, 0, 15, 89, 183, 0, 43, 83, 132, 2, 1, 167, 255, 234, 3, 61, 28, 17, 1, 44]
abbrev dktX1_init_8 : List UInt8 := dkwX1_init_8 ++ dktX1_init_9
def dkwX1_init_7 : List UInt8 := [187, 0, 31, 89, 42, 180, 0, 3, 183, 0, 33, 181, 0, 40, 3, 61, 28, 16, 12, 162, 0, 22, 42]
abbrev dktX1_init_7 : List UInt8 := dkwX1_init_7 ++ dktX1_init_8
def dkwX1_init_6 : List UInt8 := [16, 22, 3, 79, 181, 0, 27, 42, 187, 0, 31, 89, 42, 180, 0, 3, 183, 0, 33, 181, 0, 36, 42]
abbrev dktX1_init_6 : List UInt8 := dkwX1_init_6 ++ dktX1_init_7
def dkwX1_init_5 : List UInt8 := [3, 79, 89, 16, 18, 3, 79, 89, 16, 19, 3, 79, 89, 16, 20, 3, 79, 89, 16, 21, 3, 79, 89]
abbrev dktX1_init_5 : List UInt8 := dkwX1_init_5 ++ dktX1_init_6
def dkwX1_init_4 : List UInt8 := [79, 89, 16, 13, 3, 79, 89, 16, 14, 3, 79, 89, 16, 15, 3, 79, 89, 16, 16, 3, 79, 89, 16, 17]
abbrev dktX1_init_4 : List UInt8 := dkwX1_init_4 ++ dktX1_init_5
def dkwX1_init_3 : List UInt8 := [89, 16, 8, 7, 79, 89, 16, 9, 3, 79, 89, 16, 10, 3, 79, 89, 16, 11, 4, 79, 89, 16, 12, 3]
abbrev dktX1_init_3 : List UInt8 := dkwX1_init_3 ++ dktX1_init_4
def dkwX1_init_2 : List UInt8 := [6, 4, 79, 89, 7, 16, 6, 79, 89, 8, 17, 3, 232, 79, 89, 16, 6, 4, 79, 89, 16, 7, 3, 79]
abbrev dktX1_init_2 : List UInt8 := dkwX1_init_2 ++ dktX1_init_3
def dkwX1_init_1 : List UInt8 := [189, 0, 21, 181, 0, 23, 42, 16, 23, 188, 10, 89, 3, 6, 79, 89, 4, 8, 79, 89, 5, 7, 79, 89]
abbrev dktX1_init_1 : List UInt8 := dkwX1_init_1 ++ dktX1_init_2
def dkwX1_init_0 : List UInt8 := [42, 43, 181, 0, 3, 42, 183, 0, 9, 42, 16, 12, 189, 0, 15, 181, 0, 17, 42, 17, 1, 44]
abbrev dktX1_init_0 : List UInt8 := dkwX1_init_0 ++ dktX1_init_1
theorem dksX1_init_0 : cX1_init.data.toList.drop 0 = dktX1_init_0 := by decide +kernel
theorem dksX1_init_1 : cX1_init.data.toList.drop 22 = dktX1_init_1 := dk_seg dksX1_init_0 22 rfl rfl
theorem dksX1_init_2 : cX1_init.data.toList.drop 46 = dktX1_init_2 := dk_seg dksX1_init_1 24 rfl rfl
theorem dksX1_init_3 : cX1_init.data.toList.drop 70 = dktX1_init_3 := dk_seg dksX1_init_2 24 rfl rfl
theorem dksX1_init_4 : cX1_init.data.toList.drop 94 = dktX1_init_4 := dk_seg dksX1_init_3 24 rfl rfl
theorem dksX1_init_5 : cX1_init.data.toList.drop 118 = dktX1_init_5 := dk_seg dksX1_init_4 24 rfl rfl
theorem dksX1_init_6 : cX1_init.data.toList.drop 141 = dktX1_init_6 := dk_seg dksX1_init_5 23 rfl rfl
theorem dksX1_init_7 : cX1_init.data.toList.drop 164 = dktX1_init_7 := dk_seg dksX1_init_6 23 rfl rfl
theorem dksX1_init_8 : cX1_init.data.toList.drop 187 = dktX1_init_8 := dk_seg dksX1_init_7 23 rfl rfl
theorem dksX1_init_9 : cX1_init.data.toList.drop 211 = dktX1_init_9 := dk_seg dksX1_init_8 24 rfl rfl
theorem dX1_init_0 : decode cX1_init 0 = .ok (.aload_n 0, 1) := dk_42 (dk_at dksX1_init_0 0 rfl rfl)
theorem dX1_init_1 : decode cX1_init 1 = .ok (.aload_n 1, 1) := dk_43 (dk_at dksX1_init_0 1 rfl rfl)
theorem dX1_init_2 : decode cX1_init 2 = .ok (.putfield 3, 3) := dk_181 0 3 (dk_at dksX1_init_0 2 rfl rfl)
theorem dX1_init_5 : decode cX1_init 5 = .ok (.aload_n 0, 1) := dk_42 (dk_at dksX1_init_0 5 rfl rfl)
theorem dX1_init_6 : decode cX1_init 6 = .ok (.invokespecial 9, 3) := dk_183 0 9 (dk_at dksX1_init_0 6 rfl rfl)
theorem dX1_init_9 : decode cX1_init 9 = .ok (.aload_n 0, 1) := dk_42 (dk_at dksX1_init_0 9 rfl rfl)
theorem dX1_init_10 : decode cX1_init 10 = .ok (.bipush 12, 2) := dk_16 12 (dk_at dksX1_init_0 10 rfl rfl)
theorem dX1_init_12 : decode cX1_init 12 = .ok (.anewarray 15, 3) := dk_189 0 15 (dk_at dksX1_init_0 12 rfl rfl)
theorem dX1_init_15 : decode cX1_init 15 = .ok (.putfield 17, 3) := dk_181 0 17 (dk_at dksX1_init_0 15 rfl rfl)
theorem dX1_init_18 : decode cX1_init 18 = .ok (.aload_n 0, 1) := dk_42 (dk_at dksX1_init_0 18 rfl rfl)
theorem dX1_init_19 : decode cX1_init 19 = .ok (.sipush 300, 3) := dk_17 1 44 (dk_at dksX1_init_0 19 rfl rfl)
theorem dX1_init_22 : decode cX1_init 22 = .ok (.anewarray 21, 3) := dk_189 0 21 (dk_at dksX1_init_1 0 rfl rfl)
theorem dX1_init_25 : decode cX1_init 25 = .ok (.putfield 23, 3) := dk_181 0 23 (dk_at dksX1_init_1 3 rfl rfl)
theorem dX1_init_28 : decode cX1_init 28 = .ok (.aload_n 0, 1) := dk_42 (dk_at dksX1_init_1 6 rfl rfl)
theorem dX1_init_29 : decode cX1_init 29 = .ok (.bipush 23, 2) := dk_16 23 (dk_at dksX1_init_1 7 rfl rfl)
theorem dX1_init_31 : decode cX1_init 31 = .ok (.newarray .int, 2) := dk_188_10 (dk_at dksX1_init_1 9 rfl rfl)
theorem dX1_init_33 : decode cX1_init 33 = .ok (.dup, 1) := dk_89 (dk_at dksX1_init_1 11 rfl rfl)
theorem dX1_init_34 : decode cX1_init 34 = .ok (.iconst 0, 1) := dk_3 (dk_at dksX1_init_1 12 rfl rfl)
theorem dX1_init_35 : decode cX1_init 35 = .ok (.iconst 3, 1) := dk_6 (dk_at dksX1_init_1 13 rfl rfl)
theorem dX1_init_36 : decode cX1_init 36 = .ok (.iastore, 1) := dk_79 (dk_at dksX1_init_1 14 rfl rfl)
theorem dX1_init_37 : decode cX1_init 37 = .ok (.dup, 1) := dk_89 (dk_at dksX1_init_1 15 rfl rfl)
theorem dX1_init_38 : decode cX1_init 38 = .ok (.iconst 1, 1) := dk_4 (dk_at dksX1_init_1 16 rfl rfl)
theorem dX1_init_39 : decode cX1_init 39 = .ok (.iconst 5, 1) := dk_8 (dk_at dksX1_init_1 17 rfl rfl)
theorem dX1_init_40 : decode cX1_init 40 = .ok (.iastore, 1) := dk_79 (dk_at dksX1_init_1 18 rfl rfl)
theorem dX1_init_41 : decode cX1_init 41 = .ok (.dup, 1) := dk_89 (dk_at dksX1_init_1 19 rfl rfl)
theorem dX1_init_42 : decode cX1_init 42 = .ok (.iconst 2, 1) := dk_5 (dk_at dksX1_init_1 20 rfl rfl)
theorem dX1_init_43 : decode cX1_init 43 = .ok (.iconst 4, 1) := dk_7 (dk_at dksX1_init_1 21 rfl rfl)
theorem dX1_init_44 : decode cX1_init 44 = .ok (.iastore, 1) := dk_79 (dk_at dksX1_init_1 22 rfl rfl)
theorem dX1_init_45 : decode cX1_init 45 = .ok (.dup, 1) := dk_89 (dk_at dksX1_init_1 23 rfl rfl)
theorem dX1_init_46 : decode cX1_init 46 = .ok (.iconst 3, 1) := dk_6 (dk_at dksX1_init_2 0 rfl rfl)
theorem dX1_init_47 : decode cX1_init 47 = .ok (.iconst 1, 1) := dk_4 (dk_at dksX1_init_2 1 rfl rfl)
theorem dX1_init_48 : decode cX1_init 48 = .ok (.iastore, 1) := dk_79 (dk_at dksX1_init_2 2 rfl rfl)
theorem dX1_init_49 : decode cX1_init 49 = .ok (.dup, 1) := dk_89 (dk_at dksX1_init_2 3 rfl rfl)
theorem dX1_init_50 : decode cX1_init 50 = .ok (.iconst 4, 1) := dk_7 (dk_at dksX1_init_2 4 rfl rfl)
theorem dX1_init_51 : decode cX1_init 51 = .ok (.bipush 6, 2) := dk_16 6 (dk_at dksX1_init_2 5 rfl rfl)
theorem dX1_init_53 : decode cX1_init 53 = .ok (.iastore, 1) := dk_79 (dk_at dksX1_init_2 7 rfl rfl)
theorem dX1_init_54 : decode cX1_init 54 = .ok (.dup, 1) := dk_89 (dk_at dksX1_init_2 8 rfl rfl)
theorem dX1_init_55 : decode cX1_init 55 = .ok (.iconst 5, 1) := dk_8 (dk_at dksX1_init_2 9 rfl rfl)
theorem dX1_init_56 : decode cX1_init 56 = .ok (.sipush 1000, 3) := dk_17 3 232 (dk_at dksX1_init_2 10 rfl rfl)
theorem dX1_init_59 : decode cX1_init 59 = .ok (.iastore, 1) := dk_79 (dk_at dksX1_init_2 13 rfl rfl)
theorem dX1_init_60 : decode cX1_init 60 = .ok (.dup, 1) := dk_89 (dk_at dksX1_init_2 14 rfl rfl)
theorem dX1_init_61 : decode cX1_init 61 = .ok (.bipush 6, 2) := dk_16 6 (dk_at dksX1_init_2 15 rfl rfl)
theorem dX1_init_63 : decode cX1_init 63 = .ok (.iconst 1, 1) := dk_4 (dk_at dksX1_init_2 17 rfl rfl)
theorem dX1_init_64 : decode cX1_init 64 = .ok (.iastore, 1) := dk_79 (dk_at dksX1_init_2 18 rfl rfl)
theorem dX1_init_65 : decode cX1_init 65 = .ok (.dup, 1) := dk_89 (dk_at dksX1_init_2 19 rfl rfl)
theorem dX1_init_66 : decode cX1_init 66 = .ok (.bipush 7, 2) := dk_16 7 (dk_at dksX1_init_2 20 rfl rfl)
theorem dX1_init_68 : decode cX1_init 68 = .ok (.iconst 0, 1) := dk_3 (dk_at dksX1_init_2 22 rfl rfl)
theorem dX1_init_69 : decode cX1_init 69 = .ok (.iastore, 1) := dk_79 (dk_at dksX1_init_2 23 rfl rfl)
theorem dX1_init_70 : decode cX1_init 70 = .ok (.dup, 1) := dk_89 (dk_at dksX1_init_3 0 rfl rfl)
theorem dX1_init_71 : decode cX1_init 71 = .ok (.bipush 8, 2) := dk_16 8 (dk_at dksX1_init_3 1 rfl rfl)
theorem dX1_init_73 : decode cX1_init 73 = .ok (.iconst 4, 1) := dk_7 (dk_at dksX1_init_3 3 rfl rfl)
theorem dX1_init_74 : decode cX1_init 74 = .ok (.iastore, 1) := dk_79 (dk_at dksX1_init_3 4 rfl rfl)
theorem dX1_init_75 : decode cX1_init 75 = .ok (.dup, 1) := dk_89 (dk_at dksX1_init_3 5 rfl rfl)
theorem dX1_init_76 : decode cX1_init 76 = .ok (.bipush 9, 2) := dk_16 9 (dk_at dksX1_init_3 6 rfl rfl)
theorem dX1_init_78 : decode cX1_init 78 = .ok (.iconst 0, 1) := dk_3 (dk_at dksX1_init_3 8 rfl rfl)
theorem dX1_init_79 : decode cX1_init 79 = .ok (.iastore, 1) := dk_79 (dk_at dksX1_init_3 9 rfl rfl)
theorem dX1_init_80 : decode cX1_init 80 = .ok (.dup, 1) := dk_89 (dk_at dksX1_init_3 10 rfl rfl)
theorem dX1_init_81 : decode cX1_init 81 = .ok (.bipush 10, 2) := dk_16 10 (dk_at dksX1_init_3 11 rfl rfl)
theorem dX1_init_83 : decode cX1_init 83 = .ok (.iconst 0, 1) := dk_3 (dk_at dksX1_init_3 13 rfl rfl)
theorem dX1_init_84 : decode cX1_init 84 = .ok (.iastore, 1) := dk_79 (dk_at dksX1_init_3 14 rfl rfl)
theorem dX1_init_85 : decode cX1_init 85 = .ok (.dup, 1) := dk_89 (dk_at dksX1_init_3 15 rfl rfl)
theorem dX1_init_86 : decode cX1_init 86 = .ok (.bipush 11, 2) := dk_16 11 (dk_at dksX1_init_3 16 rfl rfl)
theorem dX1_init_88 : decode cX1_init 88 = .ok (.iconst 1, 1) := dk_4 (dk_at dksX1_init_3 18 rfl rfl)
theorem dX1_init_89 : decode cX1_init 89 = .ok (.iastore, 1) := dk_79 (dk_at dksX1_init_3 19 rfl rfl)
theorem dX1_init_90 : decode cX1_init 90 = .ok (.dup, 1) := dk_89 (dk_at dksX1_init_3 20 rfl rfl)
theorem dX1_init_91 : decode cX1_init 91 = .ok (.bipush 12, 2) := dk_16 12 (dk_at dksX1_init_3 21 rfl rfl)
theorem dX1_init_93 : decode cX1_init 93 = .ok (.iconst 0, 1) := dk_3 (dk_at dksX1_init_3 23 rfl rfl)
theorem dX1_init_94 : decode cX1_init 94 = .ok (.iastore, 1) := dk_79 (dk_at dksX1_init_4 0 rfl rfl)
theorem dX1_init_95 : decode cX1_init 95 = .ok (.dup, 1) := dk_89 (dk_at dksX1_init_4 1 rfl rfl)
theorem dX1_init_96 : decode cX1_init 96 = .ok (.bipush 13, 2) := dk_16 13 (dk_at dksX1_init_4 2 rfl rfl)
theorem dX1_init_98 : decode cX1_init 98 = .ok (.iconst 0, 1) := dk_3 (dk_at dksX1_init_4 4 rfl rfl)
theorem dX1_init_99 : decode cX1_init 99 = .ok (.iastore, 1) := dk_79 (dk_at dksX1_init_4 5 rfl rfl)
theorem dX1_init_100 : decode cX1_init 100 = .ok (.dup, 1) := dk_89 (dk_at dksX1_init_4 6 rfl rfl)
theorem dX1_init_101 : decode cX1_init 101 = .ok (.bipush 14, 2) := dk_16 14 (dk_at dksX1_init_4 7 rfl rfl)
theorem dX1_init_103 : decode cX1_init 103 = .ok (.iconst 0, 1) := dk_3 (dk_at dksX1_init_4 9 rfl rfl)
theorem dX1_init_104 : decode cX1_init 104 = .ok (.iastore, 1) := dk_79 (dk_at dksX1_init_4 10 rfl rfl)
theorem dX1_init_105 : decode cX1_init 105 = .ok (.dup, 1) := dk_89 (dk_at dksX1_init_4 11 rfl rfl)
theorem dX1_init_106 : decode cX1_init 106 = .ok (.bipush 15, 2) := dk_16 15 (dk_at dksX1_init_4 12 rfl rfl)
theorem dX1_init_108 : decode cX1_init 108 = .ok (.iconst 0, 1) := dk_3 (dk_at dksX1_init_4 14 rfl rfl)
theorem dX1_init_109 : decode cX1_init 109 = .ok (.iastore, 1) := dk_79 (dk_at dksX1_init_4 15 rfl rfl)
theorem dX1_init_110 : decode cX1_init 110 = .ok (.dup, 1) := dk_89 (dk_at dksX1_init_4 16 rfl rfl)
theorem dX1_init_111 : decode cX1_init 111 = .ok (.bipush 16, 2) := dk_16 16 (dk_at dksX1_init_4 17 rfl rfl)
theorem dX1_init_113 : decode cX1_init 113 = .ok (.iconst 0, 1) := dk_3 (dk_at dksX1_init_4 19 rfl rfl)
theorem dX1_init_114 : decode cX1_init 114 = .ok (.iastore, 1) := dk_79 (dk_at dksX1_init_4 20 rfl rfl)
theorem dX1_init_115 : decode cX1_init 115 = .ok (.dup, 1) := dk_89 (dk_at dksX1_init_4 21 rfl rfl)
theorem dX1_init_116 : decode cX1_init 116 = .ok (.bipush 17, 2) := dk_16 17 (dk_at dksX1_init_4 22 rfl rfl)
theorem dX1_init_118 : decode cX1_init 118 = .ok (.iconst 0, 1) := dk_3 (dk_at dksX1_init_5 0 rfl rfl)
theorem dX1_init_119 : decode cX1_init 119 = .ok (.iastore, 1) := dk_79 (dk_at dksX1_init_5 1 rfl rfl)
theorem dX1_init_120 : decode cX1_init 120 = .ok (.dup, 1) := dk_89 (dk_at dksX1_init_5 2 rfl rfl)
theorem dX1_init_121 : decode cX1_init 121 = .ok (.bipush 18, 2) := dk_16 18 (dk_at dksX1_init_5 3 rfl rfl)
theorem dX1_init_123 : decode cX1_init 123 = .ok (.iconst 0, 1) := dk_3 (dk_at dksX1_init_5 5 rfl rfl)
theorem dX1_init_124 : decode cX1_init 124 = .ok (.iastore, 1) := dk_79 (dk_at dksX1_init_5 6 rfl rfl)
theorem dX1_init_125 : decode cX1_init 125 = .ok (.dup, 1) := dk_89 (dk_at dksX1_init_5 7 rfl rfl)
theorem dX1_init_126 : decode cX1_init 126 = .ok (.bipush 19, 2) := dk_16 19 (dk_at dksX1_init_5 8 rfl rfl)
theorem dX1_init_128 : decode cX1_init 128 = .ok (.iconst 0, 1) := dk_3 (dk_at dksX1_init_5 10 rfl rfl)
theorem dX1_init_129 : decode cX1_init 129 = .ok (.iastore, 1) := dk_79 (dk_at dksX1_init_5 11 rfl rfl)
theorem dX1_init_130 : decode cX1_init 130 = .ok (.dup, 1) := dk_89 (dk_at dksX1_init_5 12 rfl rfl)
theorem dX1_init_131 : decode cX1_init 131 = .ok (.bipush 20, 2) := dk_16 20 (dk_at dksX1_init_5 13 rfl rfl)
theorem dX1_init_133 : decode cX1_init 133 = .ok (.iconst 0, 1) := dk_3 (dk_at dksX1_init_5 15 rfl rfl)
theorem dX1_init_134 : decode cX1_init 134 = .ok (.iastore, 1) := dk_79 (dk_at dksX1_init_5 16 rfl rfl)
theorem dX1_init_135 : decode cX1_init 135 = .ok (.dup, 1) := dk_89 (dk_at dksX1_init_5 17 rfl rfl)
theorem dX1_init_136 : decode cX1_init 136 = .ok (.bipush 21, 2) := dk_16 21 (dk_at dksX1_init_5 18 rfl rfl)
theorem dX1_init_138 : decode cX1_init 138 = .ok (.iconst 0, 1) := dk_3 (dk_at dksX1_init_5 20 rfl rfl)
theorem dX1_init_139 : decode cX1_init 139 = .ok (.iastore, 1) := dk_79 (dk_at dksX1_init_5 21 rfl rfl)
theorem dX1_init_140 : decode cX1_init 140 = .ok (.dup, 1) := dk_89 (dk_at dksX1_init_5 22 rfl rfl)
theorem dX1_init_141 : decode cX1_init 141 = .ok (.bipush 22, 2) := dk_16 22 (dk_at dksX1_init_6 0 rfl rfl)
theorem dX1_init_143 : decode cX1_init 143 = .ok (.iconst 0, 1) := dk_3 (dk_at dksX1_init_6 2 rfl rfl)
theorem dX1_init_144 : decode cX1_init 144 = .ok (.iastore, 1) := dk_79 (dk_at dksX1_init_6 3 rfl rfl)
theorem dX1_init_145 : decode cX1_init 145 = .ok (.putfield 27, 3) := dk_181 0 27 (dk_at dksX1_init_6 4 rfl rfl)
theorem dX1_init_148 : decode cX1_init 148 = .ok (.aload_n 0, 1) := dk_42 (dk_at dksX1_init_6 7 rfl rfl)
theorem dX1_init_149 : decode cX1_init 149 = .ok (.new 31, 3) := dk_187 0 31 (dk_at dksX1_init_6 8 rfl rfl)
theorem dX1_init_152 : decode cX1_init 152 = .ok (.dup, 1) := dk_89 (dk_at dksX1_init_6 11 rfl rfl)
theorem dX1_init_153 : decode cX1_init 153 = .ok (.aload_n 0, 1) := dk_42 (dk_at dksX1_init_6 12 rfl rfl)
theorem dX1_init_154 : decode cX1_init 154 = .ok (.getfield 3, 3) := dk_180 0 3 (dk_at dksX1_init_6 13 rfl rfl)
theorem dX1_init_157 : decode cX1_init 157 = .ok (.invokespecial 33, 3) := dk_183 0 33 (dk_at dksX1_init_6 16 rfl rfl)
theorem dX1_init_160 : decode cX1_init 160 = .ok (.putfield 36, 3) := dk_181 0 36 (dk_at dksX1_init_6 19 rfl rfl)
theorem dX1_init_163 : decode cX1_init 163 = .ok (.aload_n 0, 1) := dk_42 (dk_at dksX1_init_6 22 rfl rfl)
theorem dX1_init_164 : decode cX1_init 164 = .ok (.new 31, 3) := dk_187 0 31 (dk_at dksX1_init_7 0 rfl rfl)
theorem dX1_init_167 : decode cX1_init 167 = .ok (.dup, 1) := dk_89 (dk_at dksX1_init_7 3 rfl rfl)
theorem dX1_init_168 : decode cX1_init 168 = .ok (.aload_n 0, 1) := dk_42 (dk_at dksX1_init_7 4 rfl rfl)
theorem dX1_init_169 : decode cX1_init 169 = .ok (.getfield 3, 3) := dk_180 0 3 (dk_at dksX1_init_7 5 rfl rfl)
theorem dX1_init_172 : decode cX1_init 172 = .ok (.invokespecial 33, 3) := dk_183 0 33 (dk_at dksX1_init_7 8 rfl rfl)
theorem dX1_init_175 : decode cX1_init 175 = .ok (.putfield 40, 3) := dk_181 0 40 (dk_at dksX1_init_7 11 rfl rfl)
theorem dX1_init_178 : decode cX1_init 178 = .ok (.iconst 0, 1) := dk_3 (dk_at dksX1_init_7 14 rfl rfl)
theorem dX1_init_179 : decode cX1_init 179 = .ok (.istore_n 2, 1) := dk_61 (dk_at dksX1_init_7 15 rfl rfl)
theorem dX1_init_180 : decode cX1_init 180 = .ok (.iload_n 2, 1) := dk_28 (dk_at dksX1_init_7 16 rfl rfl)
theorem dX1_init_181 : decode cX1_init 181 = .ok (.bipush 12, 2) := dk_16 12 (dk_at dksX1_init_7 17 rfl rfl)
theorem dX1_init_183 : decode cX1_init 183 = .ok (.if_icmp .ge 22, 3) := dk_162 0 22 (dk_at dksX1_init_7 19 rfl rfl)
theorem dX1_init_186 : decode cX1_init 186 = .ok (.aload_n 0, 1) := dk_42 (dk_at dksX1_init_7 22 rfl rfl)
theorem dX1_init_187 : decode cX1_init 187 = .ok (.getfield 17, 3) := dk_180 0 17 (dk_at dksX1_init_8 0 rfl rfl)
theorem dX1_init_190 : decode cX1_init 190 = .ok (.iload_n 2, 1) := dk_28 (dk_at dksX1_init_8 3 rfl rfl)
theorem dX1_init_191 : decode cX1_init 191 = .ok (.new 15, 3) := dk_187 0 15 (dk_at dksX1_init_8 4 rfl rfl)
theorem dX1_init_194 : decode cX1_init 194 = .ok (.dup, 1) := dk_89 (dk_at dksX1_init_8 7 rfl rfl)
theorem dX1_init_195 : decode cX1_init 195 = .ok (.invokespecial 43, 3) := dk_183 0 43 (dk_at dksX1_init_8 8 rfl rfl)
theorem dX1_init_198 : decode cX1_init 198 = .ok (.aastore, 1) := dk_83 (dk_at dksX1_init_8 11 rfl rfl)
theorem dX1_init_199 : decode cX1_init 199 = .ok (.iinc 2 1, 3) := dk_132 2 1 (dk_at dksX1_init_8 12 rfl rfl)
theorem dX1_init_202 : decode cX1_init 202 = .ok (.goto (-22), 3) := dk_167 255 234 (dk_at dksX1_init_8 15 rfl rfl)
theorem dX1_init_205 : decode cX1_init 205 = .ok (.iconst 0, 1) := dk_3 (dk_at dksX1_init_8 18 rfl rfl)
theorem dX1_init_206 : decode cX1_init 206 = .ok (.istore_n 2, 1) := dk_61 (dk_at dksX1_init_8 19 rfl rfl)
theorem dX1_init_207 : decode cX1_init 207 = .ok (.iload_n 2, 1) := dk_28 (dk_at dksX1_init_8 20 rfl rfl)
theorem dX1_init_208 : decode cX1_init 208 = .ok (.sipush 300, 3) := dk_17 1 44 (dk_at dksX1_init_8 21 rfl rfl)
theorem dX1_init_211 : decode cX1_init 211 = .ok (.if_icmp .ge 22, 3) := dk_162 0 22 (dk_at dksX1_init_9 0 rfl rfl)
theorem dX1_init_214 : decode cX1_init 214 = .ok (.aload_n 0, 1) := dk_42 (dk_at dksX1_init_9 3 rfl rfl)
theorem dX1_init_215 : decode cX1_init 215 = .ok (.getfield 23, 3) := dk_180 0 23 (dk_at dksX1_init_9 4 rfl rfl)
theorem dX1_init_218 : decode cX1_init 218 = .ok (.iload_n 2, 1) := dk_28 (dk_at dksX1_init_9 7 rfl rfl)
theorem dX1_init_219 : decode cX1_init 219 = .ok (.new 21, 3) := dk_187 0 21 (dk_at dksX1_init_9 8 rfl rfl)
theorem dX1_init_222 : decode cX1_init 222 = .ok (.dup, 1) := dk_89 (dk_at dksX1_init_9 11 rfl rfl)
theorem dX1_init_223 : decode cX1_init 223 = .ok (.invokespecial 44, 3) := dk_183 0 44 (dk_at dksX1_init_9 12 rfl rfl)
theorem dX1_init_226 : decode cX1_init 226 = .ok (.aastore, 1) := dk_83 (dk_at dksX1_init_9 15 rfl rfl)
theorem dX1_init_227 : decode cX1_init 227 = .ok (.iinc 2 1, 3) := dk_132 2 1 (dk_at dksX1_init_9 16 rfl rfl)
theorem dX1_init_230 : decode cX1_init 230 = .ok (.goto (-23), 3) := dk_167 255 233 (dk_at dksX1_init_9 19 rfl rfl)
theorem dX1_init_233 : decode cX1_init 233 = .ok (.return_, 1) := dk_177 (dk_at dksX1_init_9 22 rfl rfl)
abbrev cX1_deals : ByteArray := prog_15_method_7_code
def yX1_deals : MethodName := ⟨RX1, "deals", "(III)Z"⟩
def dkwX1_deals_0 : List UInt8 := [42, 27, 28, 29, 4, 4, 182, 0, 102, 172]
abbrev dktX1_deals_0 : List UInt8 := dkwX1_deals_0 ++ []
theorem dksX1_deals_0 : cX1_deals.data.toList.drop 0 = dktX1_deals_0 := by decide +kernel
theorem dX1_deals_0 : decode cX1_deals 0 = .ok (.aload_n 0, 1) := dk_42 (dk_at dksX1_deals_0 0 rfl rfl)
theorem dX1_deals_1 : decode cX1_deals 1 = .ok (.iload_n 1, 1) := dk_27 (dk_at dksX1_deals_0 1 rfl rfl)
theorem dX1_deals_2 : decode cX1_deals 2 = .ok (.iload_n 2, 1) := dk_28 (dk_at dksX1_deals_0 2 rfl rfl)
theorem dX1_deals_3 : decode cX1_deals 3 = .ok (.iload_n 3, 1) := dk_29 (dk_at dksX1_deals_0 3 rfl rfl)
theorem dX1_deals_4 : decode cX1_deals 4 = .ok (.iconst 1, 1) := dk_4 (dk_at dksX1_deals_0 4 rfl rfl)
theorem dX1_deals_5 : decode cX1_deals 5 = .ok (.iconst 1, 1) := dk_4 (dk_at dksX1_deals_0 5 rfl rfl)
theorem dX1_deals_6 : decode cX1_deals 6 = .ok (.invokevirtual 102, 3) := dk_182 0 102 (dk_at dksX1_deals_0 6 rfl rfl)
theorem dX1_deals_9 : decode cX1_deals 9 = .ok (.ireturn, 1) := dk_172 (dk_at dksX1_deals_0 9 rfl rfl)
abbrev cX1_tells : ByteArray := prog_15_method_6_code
def yX1_tells : MethodName := ⟨RX1, "tells", "(IIIIZ)Z"⟩
def dkwX1_tells_6 : List UInt8 := [4, 167, 0, 4, 3, 172]
abbrev dktX1_tells_6 : List UInt8 := dkwX1_tells_6 ++ []
def dkwX1_tells_5 : List UInt8 := [160, 0, 5, 4, 172, 3, 54, 7, 132, 8, 1, 167, 255, 193, 21, 7, 153, 0, 12, 21, 5, 153, 0, 7]
abbrev dktX1_tells_5 : List UInt8 := dkwX1_tells_5 ++ dktX1_tells_6
def dkwX1_tells_4 : List UInt8 := [167, 0, 32, 25, 6, 21, 8, 182, 0, 71, 192, 0, 85, 180, 0, 87, 42, 180, 0, 40, 182, 0, 91, 4]
abbrev dktX1_tells_4 : List UInt8 := dkwX1_tells_4 ++ dktX1_tells_5
def dkwX1_tells_3 : List UInt8 := [182, 0, 81, 162, 0, 59, 25, 6, 21, 8, 182, 0, 71, 192, 0, 85, 180, 0, 99, 21, 4, 159, 0, 6]
abbrev dktX1_tells_3 : List UInt8 := dkwX1_tells_3 ++ dktX1_tells_4
def dkwX1_tells_2 : List UInt8 := [4, 54, 7, 42, 180, 0, 40, 42, 27, 28, 29, 182, 0, 77, 87, 3, 54, 8, 21, 8, 25, 6]
abbrev dktX1_tells_2 : List UInt8 := dkwX1_tells_2 ++ dktX1_tells_3
def dkwX1_tells_1 : List UInt8 := [180, 0, 67, 5, 42, 180, 0, 17, 27, 50, 180, 0, 96, 3, 46, 96, 182, 0, 71, 192, 0, 72, 58, 6]
abbrev dktX1_tells_1 : List UInt8 := dkwX1_tells_1 ++ dktX1_tells_2
def dkwX1_tells_0 : List UInt8 := [42, 180, 0, 17, 27, 50, 180, 0, 96, 3, 46, 7, 160, 0, 6, 21, 5, 172, 42, 180, 0, 3]
abbrev dktX1_tells_0 : List UInt8 := dkwX1_tells_0 ++ dktX1_tells_1
theorem dksX1_tells_0 : cX1_tells.data.toList.drop 0 = dktX1_tells_0 := by decide +kernel
theorem dksX1_tells_1 : cX1_tells.data.toList.drop 22 = dktX1_tells_1 := dk_seg dksX1_tells_0 22 rfl rfl
theorem dksX1_tells_2 : cX1_tells.data.toList.drop 46 = dktX1_tells_2 := dk_seg dksX1_tells_1 24 rfl rfl
theorem dksX1_tells_3 : cX1_tells.data.toList.drop 68 = dktX1_tells_3 := dk_seg dksX1_tells_2 22 rfl rfl
theorem dksX1_tells_4 : cX1_tells.data.toList.drop 92 = dktX1_tells_4 := dk_seg dksX1_tells_3 24 rfl rfl
theorem dksX1_tells_5 : cX1_tells.data.toList.drop 116 = dktX1_tells_5 := dk_seg dksX1_tells_4 24 rfl rfl
theorem dksX1_tells_6 : cX1_tells.data.toList.drop 140 = dktX1_tells_6 := dk_seg dksX1_tells_5 24 rfl rfl
theorem dX1_tells_0 : decode cX1_tells 0 = .ok (.aload_n 0, 1) := dk_42 (dk_at dksX1_tells_0 0 rfl rfl)
theorem dX1_tells_1 : decode cX1_tells 1 = .ok (.getfield 17, 3) := dk_180 0 17 (dk_at dksX1_tells_0 1 rfl rfl)
theorem dX1_tells_4 : decode cX1_tells 4 = .ok (.iload_n 1, 1) := dk_27 (dk_at dksX1_tells_0 4 rfl rfl)
theorem dX1_tells_5 : decode cX1_tells 5 = .ok (.aaload, 1) := dk_50 (dk_at dksX1_tells_0 5 rfl rfl)
theorem dX1_tells_6 : decode cX1_tells 6 = .ok (.getfield 96, 3) := dk_180 0 96 (dk_at dksX1_tells_0 6 rfl rfl)
theorem dX1_tells_9 : decode cX1_tells 9 = .ok (.iconst 0, 1) := dk_3 (dk_at dksX1_tells_0 9 rfl rfl)
theorem dX1_tells_10 : decode cX1_tells 10 = .ok (.iaload, 1) := dk_46 (dk_at dksX1_tells_0 10 rfl rfl)
theorem dX1_tells_11 : decode cX1_tells 11 = .ok (.iconst 4, 1) := dk_7 (dk_at dksX1_tells_0 11 rfl rfl)
theorem dX1_tells_12 : decode cX1_tells 12 = .ok (.if_icmp .ne 6, 3) := dk_160 0 6 (dk_at dksX1_tells_0 12 rfl rfl)
theorem dX1_tells_15 : decode cX1_tells 15 = .ok (.iload 5, 2) := dk_21 5 (dk_at dksX1_tells_0 15 rfl rfl)
theorem dX1_tells_17 : decode cX1_tells 17 = .ok (.ireturn, 1) := dk_172 (dk_at dksX1_tells_0 17 rfl rfl)
theorem dX1_tells_18 : decode cX1_tells 18 = .ok (.aload_n 0, 1) := dk_42 (dk_at dksX1_tells_0 18 rfl rfl)
theorem dX1_tells_19 : decode cX1_tells 19 = .ok (.getfield 3, 3) := dk_180 0 3 (dk_at dksX1_tells_0 19 rfl rfl)
theorem dX1_tells_22 : decode cX1_tells 22 = .ok (.getfield 67, 3) := dk_180 0 67 (dk_at dksX1_tells_1 0 rfl rfl)
theorem dX1_tells_25 : decode cX1_tells 25 = .ok (.iconst 2, 1) := dk_5 (dk_at dksX1_tells_1 3 rfl rfl)
theorem dX1_tells_26 : decode cX1_tells 26 = .ok (.aload_n 0, 1) := dk_42 (dk_at dksX1_tells_1 4 rfl rfl)
theorem dX1_tells_27 : decode cX1_tells 27 = .ok (.getfield 17, 3) := dk_180 0 17 (dk_at dksX1_tells_1 5 rfl rfl)
theorem dX1_tells_30 : decode cX1_tells 30 = .ok (.iload_n 1, 1) := dk_27 (dk_at dksX1_tells_1 8 rfl rfl)
theorem dX1_tells_31 : decode cX1_tells 31 = .ok (.aaload, 1) := dk_50 (dk_at dksX1_tells_1 9 rfl rfl)
theorem dX1_tells_32 : decode cX1_tells 32 = .ok (.getfield 96, 3) := dk_180 0 96 (dk_at dksX1_tells_1 10 rfl rfl)
theorem dX1_tells_35 : decode cX1_tells 35 = .ok (.iconst 0, 1) := dk_3 (dk_at dksX1_tells_1 13 rfl rfl)
theorem dX1_tells_36 : decode cX1_tells 36 = .ok (.iaload, 1) := dk_46 (dk_at dksX1_tells_1 14 rfl rfl)
theorem dX1_tells_37 : decode cX1_tells 37 = .ok (.iadd, 1) := dk_96 (dk_at dksX1_tells_1 15 rfl rfl)
theorem dX1_tells_38 : decode cX1_tells 38 = .ok (.invokevirtual 71, 3) := dk_182 0 71 (dk_at dksX1_tells_1 16 rfl rfl)
theorem dX1_tells_41 : decode cX1_tells 41 = .ok (.checkcast 72, 3) := dk_192 0 72 (dk_at dksX1_tells_1 19 rfl rfl)
theorem dX1_tells_44 : decode cX1_tells 44 = .ok (.astore 6, 2) := dk_58 6 (dk_at dksX1_tells_1 22 rfl rfl)
theorem dX1_tells_46 : decode cX1_tells 46 = .ok (.iconst 1, 1) := dk_4 (dk_at dksX1_tells_2 0 rfl rfl)
theorem dX1_tells_47 : decode cX1_tells 47 = .ok (.istore 7, 2) := dk_54 7 (dk_at dksX1_tells_2 1 rfl rfl)
theorem dX1_tells_49 : decode cX1_tells 49 = .ok (.aload_n 0, 1) := dk_42 (dk_at dksX1_tells_2 3 rfl rfl)
theorem dX1_tells_50 : decode cX1_tells 50 = .ok (.getfield 40, 3) := dk_180 0 40 (dk_at dksX1_tells_2 4 rfl rfl)
theorem dX1_tells_53 : decode cX1_tells 53 = .ok (.aload_n 0, 1) := dk_42 (dk_at dksX1_tells_2 7 rfl rfl)
theorem dX1_tells_54 : decode cX1_tells 54 = .ok (.iload_n 1, 1) := dk_27 (dk_at dksX1_tells_2 8 rfl rfl)
theorem dX1_tells_55 : decode cX1_tells 55 = .ok (.iload_n 2, 1) := dk_28 (dk_at dksX1_tells_2 9 rfl rfl)
theorem dX1_tells_56 : decode cX1_tells 56 = .ok (.iload_n 3, 1) := dk_29 (dk_at dksX1_tells_2 10 rfl rfl)
theorem dX1_tells_57 : decode cX1_tells 57 = .ok (.invokevirtual 77, 3) := dk_182 0 77 (dk_at dksX1_tells_2 11 rfl rfl)
theorem dX1_tells_60 : decode cX1_tells 60 = .ok (.pop, 1) := dk_87 (dk_at dksX1_tells_2 14 rfl rfl)
theorem dX1_tells_61 : decode cX1_tells 61 = .ok (.iconst 0, 1) := dk_3 (dk_at dksX1_tells_2 15 rfl rfl)
theorem dX1_tells_62 : decode cX1_tells 62 = .ok (.istore 8, 2) := dk_54 8 (dk_at dksX1_tells_2 16 rfl rfl)
theorem dX1_tells_64 : decode cX1_tells 64 = .ok (.iload 8, 2) := dk_21 8 (dk_at dksX1_tells_2 18 rfl rfl)
theorem dX1_tells_66 : decode cX1_tells 66 = .ok (.aload 6, 2) := dk_25 6 (dk_at dksX1_tells_2 20 rfl rfl)
theorem dX1_tells_68 : decode cX1_tells 68 = .ok (.invokevirtual 81, 3) := dk_182 0 81 (dk_at dksX1_tells_3 0 rfl rfl)
theorem dX1_tells_71 : decode cX1_tells 71 = .ok (.if_icmp .ge 59, 3) := dk_162 0 59 (dk_at dksX1_tells_3 3 rfl rfl)
theorem dX1_tells_74 : decode cX1_tells 74 = .ok (.aload 6, 2) := dk_25 6 (dk_at dksX1_tells_3 6 rfl rfl)
theorem dX1_tells_76 : decode cX1_tells 76 = .ok (.iload 8, 2) := dk_21 8 (dk_at dksX1_tells_3 8 rfl rfl)
theorem dX1_tells_78 : decode cX1_tells 78 = .ok (.invokevirtual 71, 3) := dk_182 0 71 (dk_at dksX1_tells_3 10 rfl rfl)
theorem dX1_tells_81 : decode cX1_tells 81 = .ok (.checkcast 85, 3) := dk_192 0 85 (dk_at dksX1_tells_3 13 rfl rfl)
theorem dX1_tells_84 : decode cX1_tells 84 = .ok (.getfield 99, 3) := dk_180 0 99 (dk_at dksX1_tells_3 16 rfl rfl)
theorem dX1_tells_87 : decode cX1_tells 87 = .ok (.iload 4, 2) := dk_21 4 (dk_at dksX1_tells_3 19 rfl rfl)
theorem dX1_tells_89 : decode cX1_tells 89 = .ok (.if_icmp .eq 6, 3) := dk_159 0 6 (dk_at dksX1_tells_3 21 rfl rfl)
theorem dX1_tells_92 : decode cX1_tells 92 = .ok (.goto 32, 3) := dk_167 0 32 (dk_at dksX1_tells_4 0 rfl rfl)
theorem dX1_tells_95 : decode cX1_tells 95 = .ok (.aload 6, 2) := dk_25 6 (dk_at dksX1_tells_4 3 rfl rfl)
theorem dX1_tells_97 : decode cX1_tells 97 = .ok (.iload 8, 2) := dk_21 8 (dk_at dksX1_tells_4 5 rfl rfl)
theorem dX1_tells_99 : decode cX1_tells 99 = .ok (.invokevirtual 71, 3) := dk_182 0 71 (dk_at dksX1_tells_4 7 rfl rfl)
theorem dX1_tells_102 : decode cX1_tells 102 = .ok (.checkcast 85, 3) := dk_192 0 85 (dk_at dksX1_tells_4 10 rfl rfl)
theorem dX1_tells_105 : decode cX1_tells 105 = .ok (.getfield 87, 3) := dk_180 0 87 (dk_at dksX1_tells_4 13 rfl rfl)
theorem dX1_tells_108 : decode cX1_tells 108 = .ok (.aload_n 0, 1) := dk_42 (dk_at dksX1_tells_4 16 rfl rfl)
theorem dX1_tells_109 : decode cX1_tells 109 = .ok (.getfield 40, 3) := dk_180 0 40 (dk_at dksX1_tells_4 17 rfl rfl)
theorem dX1_tells_112 : decode cX1_tells 112 = .ok (.invokevirtual 91, 3) := dk_182 0 91 (dk_at dksX1_tells_4 20 rfl rfl)
theorem dX1_tells_115 : decode cX1_tells 115 = .ok (.iconst 1, 1) := dk_4 (dk_at dksX1_tells_4 23 rfl rfl)
theorem dX1_tells_116 : decode cX1_tells 116 = .ok (.if_icmp .ne 5, 3) := dk_160 0 5 (dk_at dksX1_tells_5 0 rfl rfl)
theorem dX1_tells_119 : decode cX1_tells 119 = .ok (.iconst 1, 1) := dk_4 (dk_at dksX1_tells_5 3 rfl rfl)
theorem dX1_tells_120 : decode cX1_tells 120 = .ok (.ireturn, 1) := dk_172 (dk_at dksX1_tells_5 4 rfl rfl)
theorem dX1_tells_121 : decode cX1_tells 121 = .ok (.iconst 0, 1) := dk_3 (dk_at dksX1_tells_5 5 rfl rfl)
theorem dX1_tells_122 : decode cX1_tells 122 = .ok (.istore 7, 2) := dk_54 7 (dk_at dksX1_tells_5 6 rfl rfl)
theorem dX1_tells_124 : decode cX1_tells 124 = .ok (.iinc 8 1, 3) := dk_132 8 1 (dk_at dksX1_tells_5 8 rfl rfl)
theorem dX1_tells_127 : decode cX1_tells 127 = .ok (.goto (-63), 3) := dk_167 255 193 (dk_at dksX1_tells_5 11 rfl rfl)
theorem dX1_tells_130 : decode cX1_tells 130 = .ok (.iload 7, 2) := dk_21 7 (dk_at dksX1_tells_5 14 rfl rfl)
theorem dX1_tells_132 : decode cX1_tells 132 = .ok (.ifCond .eq 12, 3) := dk_153 0 12 (dk_at dksX1_tells_5 16 rfl rfl)
theorem dX1_tells_135 : decode cX1_tells 135 = .ok (.iload 5, 2) := dk_21 5 (dk_at dksX1_tells_5 19 rfl rfl)
theorem dX1_tells_137 : decode cX1_tells 137 = .ok (.ifCond .eq 7, 3) := dk_153 0 7 (dk_at dksX1_tells_5 21 rfl rfl)
theorem dX1_tells_140 : decode cX1_tells 140 = .ok (.iconst 1, 1) := dk_4 (dk_at dksX1_tells_6 0 rfl rfl)
theorem dX1_tells_141 : decode cX1_tells 141 = .ok (.goto 4, 3) := dk_167 0 4 (dk_at dksX1_tells_6 1 rfl rfl)
theorem dX1_tells_144 : decode cX1_tells 144 = .ok (.iconst 0, 1) := dk_3 (dk_at dksX1_tells_6 4 rfl rfl)
theorem dX1_tells_145 : decode cX1_tells 145 = .ok (.ireturn, 1) := dk_172 (dk_at dksX1_tells_6 5 rfl rfl)
abbrev cX1_isLawful : ByteArray := prog_15_method_5_code
def yX1_isLawful : MethodName := ⟨RX1, "isLawful", "(II)Z"⟩
def dkwX1_isLawful_3 : List UInt8 := [132, 4, 1, 167, 255, 219, 3, 172]
abbrev dktX1_isLawful_3 : List UInt8 := dkwX1_isLawful_3 ++ []
def dkwX1_isLawful_2 : List UInt8 := [21, 4, 182, 0, 71, 192, 0, 85, 180, 0, 87, 42, 180, 0, 36, 182, 0, 91, 4, 160, 0, 5, 4, 172]
abbrev dktX1_isLawful_2 : List UInt8 := dkwX1_isLawful_2 ++ dktX1_isLawful_3
def dkwX1_isLawful_1 : List UInt8 := [180, 0, 36, 42, 27, 27, 28, 182, 0, 77, 87, 3, 54, 4, 21, 4, 45, 182, 0, 81, 162, 0, 34, 45]
abbrev dktX1_isLawful_1 : List UInt8 := dkwX1_isLawful_1 ++ dktX1_isLawful_2
def dkwX1_isLawful_0 : List UInt8 := [42, 180, 0, 3, 180, 0, 67, 42, 180, 0, 27, 16, 9, 46, 182, 0, 71, 192, 0, 72, 78, 42]
abbrev dktX1_isLawful_0 : List UInt8 := dkwX1_isLawful_0 ++ dktX1_isLawful_1
theorem dksX1_isLawful_0 : cX1_isLawful.data.toList.drop 0 = dktX1_isLawful_0 := by decide +kernel
theorem dksX1_isLawful_1 : cX1_isLawful.data.toList.drop 22 = dktX1_isLawful_1 := dk_seg dksX1_isLawful_0 22 rfl rfl
theorem dksX1_isLawful_2 : cX1_isLawful.data.toList.drop 46 = dktX1_isLawful_2 := dk_seg dksX1_isLawful_1 24 rfl rfl
theorem dksX1_isLawful_3 : cX1_isLawful.data.toList.drop 70 = dktX1_isLawful_3 := dk_seg dksX1_isLawful_2 24 rfl rfl
theorem dX1_isLawful_0 : decode cX1_isLawful 0 = .ok (.aload_n 0, 1) := dk_42 (dk_at dksX1_isLawful_0 0 rfl rfl)
theorem dX1_isLawful_1 : decode cX1_isLawful 1 = .ok (.getfield 3, 3) := dk_180 0 3 (dk_at dksX1_isLawful_0 1 rfl rfl)
theorem dX1_isLawful_4 : decode cX1_isLawful 4 = .ok (.getfield 67, 3) := dk_180 0 67 (dk_at dksX1_isLawful_0 4 rfl rfl)
theorem dX1_isLawful_7 : decode cX1_isLawful 7 = .ok (.aload_n 0, 1) := dk_42 (dk_at dksX1_isLawful_0 7 rfl rfl)
theorem dX1_isLawful_8 : decode cX1_isLawful 8 = .ok (.getfield 27, 3) := dk_180 0 27 (dk_at dksX1_isLawful_0 8 rfl rfl)
theorem dX1_isLawful_11 : decode cX1_isLawful 11 = .ok (.bipush 9, 2) := dk_16 9 (dk_at dksX1_isLawful_0 11 rfl rfl)
theorem dX1_isLawful_13 : decode cX1_isLawful 13 = .ok (.iaload, 1) := dk_46 (dk_at dksX1_isLawful_0 13 rfl rfl)
theorem dX1_isLawful_14 : decode cX1_isLawful 14 = .ok (.invokevirtual 71, 3) := dk_182 0 71 (dk_at dksX1_isLawful_0 14 rfl rfl)
theorem dX1_isLawful_17 : decode cX1_isLawful 17 = .ok (.checkcast 72, 3) := dk_192 0 72 (dk_at dksX1_isLawful_0 17 rfl rfl)
theorem dX1_isLawful_20 : decode cX1_isLawful 20 = .ok (.astore_n 3, 1) := dk_78 (dk_at dksX1_isLawful_0 20 rfl rfl)
theorem dX1_isLawful_21 : decode cX1_isLawful 21 = .ok (.aload_n 0, 1) := dk_42 (dk_at dksX1_isLawful_0 21 rfl rfl)
theorem dX1_isLawful_22 : decode cX1_isLawful 22 = .ok (.getfield 36, 3) := dk_180 0 36 (dk_at dksX1_isLawful_1 0 rfl rfl)
theorem dX1_isLawful_25 : decode cX1_isLawful 25 = .ok (.aload_n 0, 1) := dk_42 (dk_at dksX1_isLawful_1 3 rfl rfl)
theorem dX1_isLawful_26 : decode cX1_isLawful 26 = .ok (.iload_n 1, 1) := dk_27 (dk_at dksX1_isLawful_1 4 rfl rfl)
theorem dX1_isLawful_27 : decode cX1_isLawful 27 = .ok (.iload_n 1, 1) := dk_27 (dk_at dksX1_isLawful_1 5 rfl rfl)
theorem dX1_isLawful_28 : decode cX1_isLawful 28 = .ok (.iload_n 2, 1) := dk_28 (dk_at dksX1_isLawful_1 6 rfl rfl)
theorem dX1_isLawful_29 : decode cX1_isLawful 29 = .ok (.invokevirtual 77, 3) := dk_182 0 77 (dk_at dksX1_isLawful_1 7 rfl rfl)
theorem dX1_isLawful_32 : decode cX1_isLawful 32 = .ok (.pop, 1) := dk_87 (dk_at dksX1_isLawful_1 10 rfl rfl)
theorem dX1_isLawful_33 : decode cX1_isLawful 33 = .ok (.iconst 0, 1) := dk_3 (dk_at dksX1_isLawful_1 11 rfl rfl)
theorem dX1_isLawful_34 : decode cX1_isLawful 34 = .ok (.istore 4, 2) := dk_54 4 (dk_at dksX1_isLawful_1 12 rfl rfl)
theorem dX1_isLawful_36 : decode cX1_isLawful 36 = .ok (.iload 4, 2) := dk_21 4 (dk_at dksX1_isLawful_1 14 rfl rfl)
theorem dX1_isLawful_38 : decode cX1_isLawful 38 = .ok (.aload_n 3, 1) := dk_45 (dk_at dksX1_isLawful_1 16 rfl rfl)
theorem dX1_isLawful_39 : decode cX1_isLawful 39 = .ok (.invokevirtual 81, 3) := dk_182 0 81 (dk_at dksX1_isLawful_1 17 rfl rfl)
theorem dX1_isLawful_42 : decode cX1_isLawful 42 = .ok (.if_icmp .ge 34, 3) := dk_162 0 34 (dk_at dksX1_isLawful_1 20 rfl rfl)
theorem dX1_isLawful_45 : decode cX1_isLawful 45 = .ok (.aload_n 3, 1) := dk_45 (dk_at dksX1_isLawful_1 23 rfl rfl)
theorem dX1_isLawful_46 : decode cX1_isLawful 46 = .ok (.iload 4, 2) := dk_21 4 (dk_at dksX1_isLawful_2 0 rfl rfl)
theorem dX1_isLawful_48 : decode cX1_isLawful 48 = .ok (.invokevirtual 71, 3) := dk_182 0 71 (dk_at dksX1_isLawful_2 2 rfl rfl)
theorem dX1_isLawful_51 : decode cX1_isLawful 51 = .ok (.checkcast 85, 3) := dk_192 0 85 (dk_at dksX1_isLawful_2 5 rfl rfl)
theorem dX1_isLawful_54 : decode cX1_isLawful 54 = .ok (.getfield 87, 3) := dk_180 0 87 (dk_at dksX1_isLawful_2 8 rfl rfl)
theorem dX1_isLawful_57 : decode cX1_isLawful 57 = .ok (.aload_n 0, 1) := dk_42 (dk_at dksX1_isLawful_2 11 rfl rfl)
theorem dX1_isLawful_58 : decode cX1_isLawful 58 = .ok (.getfield 36, 3) := dk_180 0 36 (dk_at dksX1_isLawful_2 12 rfl rfl)
theorem dX1_isLawful_61 : decode cX1_isLawful 61 = .ok (.invokevirtual 91, 3) := dk_182 0 91 (dk_at dksX1_isLawful_2 15 rfl rfl)
theorem dX1_isLawful_64 : decode cX1_isLawful 64 = .ok (.iconst 1, 1) := dk_4 (dk_at dksX1_isLawful_2 18 rfl rfl)
theorem dX1_isLawful_65 : decode cX1_isLawful 65 = .ok (.if_icmp .ne 5, 3) := dk_160 0 5 (dk_at dksX1_isLawful_2 19 rfl rfl)
theorem dX1_isLawful_68 : decode cX1_isLawful 68 = .ok (.iconst 1, 1) := dk_4 (dk_at dksX1_isLawful_2 22 rfl rfl)
theorem dX1_isLawful_69 : decode cX1_isLawful 69 = .ok (.ireturn, 1) := dk_172 (dk_at dksX1_isLawful_2 23 rfl rfl)
theorem dX1_isLawful_70 : decode cX1_isLawful 70 = .ok (.iinc 4 1, 3) := dk_132 4 1 (dk_at dksX1_isLawful_3 0 rfl rfl)
theorem dX1_isLawful_73 : decode cX1_isLawful 73 = .ok (.goto (-37), 3) := dk_167 255 219 (dk_at dksX1_isLawful_3 3 rfl rfl)
theorem dX1_isLawful_76 : decode cX1_isLawful 76 = .ok (.iconst 0, 1) := dk_3 (dk_at dksX1_isLawful_3 6 rfl rfl)
theorem dX1_isLawful_77 : decode cX1_isLawful 77 = .ok (.ireturn, 1) := dk_172 (dk_at dksX1_isLawful_3 7 rfl rfl)
abbrev cX1_breaks : ByteArray := prog_15_method_8_code
def yX1_breaks : MethodName := ⟨RX1, "breaks", "(III)Z"⟩
def dkwX1_breaks_0 : List UInt8 := [42, 27, 28, 29, 5, 3, 182, 0, 102, 172]
abbrev dktX1_breaks_0 : List UInt8 := dkwX1_breaks_0 ++ []
theorem dksX1_breaks_0 : cX1_breaks.data.toList.drop 0 = dktX1_breaks_0 := by decide +kernel
theorem dX1_breaks_0 : decode cX1_breaks 0 = .ok (.aload_n 0, 1) := dk_42 (dk_at dksX1_breaks_0 0 rfl rfl)
theorem dX1_breaks_1 : decode cX1_breaks 1 = .ok (.iload_n 1, 1) := dk_27 (dk_at dksX1_breaks_0 1 rfl rfl)
theorem dX1_breaks_2 : decode cX1_breaks 2 = .ok (.iload_n 2, 1) := dk_28 (dk_at dksX1_breaks_0 2 rfl rfl)
theorem dX1_breaks_3 : decode cX1_breaks 3 = .ok (.iload_n 3, 1) := dk_29 (dk_at dksX1_breaks_0 3 rfl rfl)
theorem dX1_breaks_4 : decode cX1_breaks 4 = .ok (.iconst 2, 1) := dk_5 (dk_at dksX1_breaks_0 4 rfl rfl)
theorem dX1_breaks_5 : decode cX1_breaks 5 = .ok (.iconst 0, 1) := dk_3 (dk_at dksX1_breaks_0 5 rfl rfl)
theorem dX1_breaks_6 : decode cX1_breaks 6 = .ok (.invokevirtual 102, 3) := dk_182 0 102 (dk_at dksX1_breaks_0 6 rfl rfl)
theorem dX1_breaks_9 : decode cX1_breaks 9 = .ok (.ireturn, 1) := dk_172 (dk_at dksX1_breaks_0 9 rfl rfl)
abbrev cX1_deal : ByteArray := prog_15_method_12_code
def yX1_deal : MethodName := ⟨RX1, "deal", "(III)I"⟩
def dkwX1_deal_11 : List UInt8 := [181, 0, 49, 42, 180, 0, 49, 4, 100, 172]
abbrev dktX1_deal_11 : List UInt8 := dkwX1_deal_11 ++ []
def dkwX1_deal_10 : List UInt8 := [42, 180, 0, 17, 28, 50, 21, 6, 21, 8, 29, 182, 0, 138, 79, 42, 89, 180, 0, 49, 4, 96]
abbrev dktX1_deal_10 : List UInt8 := dkwX1_deal_10 ++ dktX1_deal_11
def dkwX1_deal_9 : List UInt8 := [79, 25, 9, 7, 42, 42, 180, 0, 17, 27, 50, 21, 5, 21, 7, 29, 182, 0, 138, 79, 25, 9, 8, 42]
abbrev dktX1_deal_9 : List UInt8 := dkwX1_deal_9 ++ dktX1_deal_10
def dkwX1_deal_8 : List UInt8 := [42, 180, 0, 17, 28, 50, 180, 0, 96, 16, 7, 92, 46, 42, 21, 6, 21, 5, 182, 0, 134, 29, 104, 96]
abbrev dktX1_deal_8 : List UInt8 := dkwX1_deal_8 ++ dktX1_deal_9
def dkwX1_deal_7 : List UInt8 := [180, 0, 17, 27, 50, 180, 0, 96, 16, 7, 92, 46, 42, 21, 5, 21, 6, 182, 0, 134, 29, 104, 96, 79]
abbrev dktX1_deal_7 : List UInt8 := dkwX1_deal_7 ++ dktX1_deal_8
def dkwX1_deal_6 : List UInt8 := [180, 0, 96, 4, 46, 79, 25, 9, 16, 7, 42, 180, 0, 17, 28, 50, 180, 0, 96, 4, 46, 79, 42]
abbrev dktX1_deal_6 : List UInt8 := dkwX1_deal_6 ++ dktX1_deal_7
def dkwX1_deal_5 : List UInt8 := [27, 79, 25, 9, 5, 28, 79, 25, 9, 6, 29, 79, 25, 9, 16, 6, 42, 180, 0, 17, 27, 50]
abbrev dktX1_deal_5 : List UInt8 := dkwX1_deal_5 ++ dktX1_deal_6
def dkwX1_deal_4 : List UInt8 := [180, 0, 23, 42, 180, 0, 49, 50, 180, 0, 131, 58, 9, 25, 9, 3, 42, 180, 0, 52, 79, 25, 9, 4]
abbrev dktX1_deal_4 : List UInt8 := dkwX1_deal_4 ++ dktX1_deal_5
def dkwX1_deal_3 : List UInt8 := [154, 0, 21, 42, 28, 182, 0, 127, 154, 0, 13, 42, 180, 0, 49, 17, 1, 44, 160, 0, 5, 2, 172, 42]
abbrev dktX1_deal_3 : List UInt8 := dkwX1_deal_3 ++ dktX1_deal_4
def dkwX1_deal_2 : List UInt8 := [182, 0, 123, 54, 7, 42, 28, 29, 182, 0, 123, 54, 8, 21, 4, 153, 0, 29, 42, 27, 182, 0, 127]
abbrev dktX1_deal_2 : List UInt8 := dkwX1_deal_2 ++ dktX1_deal_3
def dkwX1_deal_1 : List UInt8 := [3, 54, 4, 42, 27, 28, 29, 182, 0, 121, 54, 5, 42, 28, 27, 29, 182, 0, 121, 54, 6, 42, 27, 29]
abbrev dktX1_deal_1 : List UInt8 := dkwX1_deal_1 ++ dktX1_deal_2
def dkwX1_deal_0 : List UInt8 := [42, 27, 28, 29, 182, 0, 117, 153, 0, 17, 42, 28, 27, 29, 182, 0, 117, 153, 0, 7, 4, 167, 0, 4]
abbrev dktX1_deal_0 : List UInt8 := dkwX1_deal_0 ++ dktX1_deal_1
theorem dksX1_deal_0 : cX1_deal.data.toList.drop 0 = dktX1_deal_0 := by decide +kernel
theorem dksX1_deal_1 : cX1_deal.data.toList.drop 24 = dktX1_deal_1 := dk_seg dksX1_deal_0 24 rfl rfl
theorem dksX1_deal_2 : cX1_deal.data.toList.drop 48 = dktX1_deal_2 := dk_seg dksX1_deal_1 24 rfl rfl
theorem dksX1_deal_3 : cX1_deal.data.toList.drop 71 = dktX1_deal_3 := dk_seg dksX1_deal_2 23 rfl rfl
theorem dksX1_deal_4 : cX1_deal.data.toList.drop 95 = dktX1_deal_4 := dk_seg dksX1_deal_3 24 rfl rfl
theorem dksX1_deal_5 : cX1_deal.data.toList.drop 119 = dktX1_deal_5 := dk_seg dksX1_deal_4 24 rfl rfl
theorem dksX1_deal_6 : cX1_deal.data.toList.drop 141 = dktX1_deal_6 := dk_seg dksX1_deal_5 22 rfl rfl
theorem dksX1_deal_7 : cX1_deal.data.toList.drop 164 = dktX1_deal_7 := dk_seg dksX1_deal_6 23 rfl rfl
theorem dksX1_deal_8 : cX1_deal.data.toList.drop 188 = dktX1_deal_8 := dk_seg dksX1_deal_7 24 rfl rfl
theorem dksX1_deal_9 : cX1_deal.data.toList.drop 212 = dktX1_deal_9 := dk_seg dksX1_deal_8 24 rfl rfl
theorem dksX1_deal_10 : cX1_deal.data.toList.drop 236 = dktX1_deal_10 := dk_seg dksX1_deal_9 24 rfl rfl
theorem dksX1_deal_11 : cX1_deal.data.toList.drop 258 = dktX1_deal_11 := dk_seg dksX1_deal_10 22 rfl rfl
theorem dX1_deal_0 : decode cX1_deal 0 = .ok (.aload_n 0, 1) := dk_42 (dk_at dksX1_deal_0 0 rfl rfl)
theorem dX1_deal_1 : decode cX1_deal 1 = .ok (.iload_n 1, 1) := dk_27 (dk_at dksX1_deal_0 1 rfl rfl)
theorem dX1_deal_2 : decode cX1_deal 2 = .ok (.iload_n 2, 1) := dk_28 (dk_at dksX1_deal_0 2 rfl rfl)
theorem dX1_deal_3 : decode cX1_deal 3 = .ok (.iload_n 3, 1) := dk_29 (dk_at dksX1_deal_0 3 rfl rfl)
theorem dX1_deal_4 : decode cX1_deal 4 = .ok (.invokevirtual 117, 3) := dk_182 0 117 (dk_at dksX1_deal_0 4 rfl rfl)
theorem dX1_deal_7 : decode cX1_deal 7 = .ok (.ifCond .eq 17, 3) := dk_153 0 17 (dk_at dksX1_deal_0 7 rfl rfl)
theorem dX1_deal_10 : decode cX1_deal 10 = .ok (.aload_n 0, 1) := dk_42 (dk_at dksX1_deal_0 10 rfl rfl)
theorem dX1_deal_11 : decode cX1_deal 11 = .ok (.iload_n 2, 1) := dk_28 (dk_at dksX1_deal_0 11 rfl rfl)
theorem dX1_deal_12 : decode cX1_deal 12 = .ok (.iload_n 1, 1) := dk_27 (dk_at dksX1_deal_0 12 rfl rfl)
theorem dX1_deal_13 : decode cX1_deal 13 = .ok (.iload_n 3, 1) := dk_29 (dk_at dksX1_deal_0 13 rfl rfl)
theorem dX1_deal_14 : decode cX1_deal 14 = .ok (.invokevirtual 117, 3) := dk_182 0 117 (dk_at dksX1_deal_0 14 rfl rfl)
theorem dX1_deal_17 : decode cX1_deal 17 = .ok (.ifCond .eq 7, 3) := dk_153 0 7 (dk_at dksX1_deal_0 17 rfl rfl)
theorem dX1_deal_20 : decode cX1_deal 20 = .ok (.iconst 1, 1) := dk_4 (dk_at dksX1_deal_0 20 rfl rfl)
theorem dX1_deal_21 : decode cX1_deal 21 = .ok (.goto 4, 3) := dk_167 0 4 (dk_at dksX1_deal_0 21 rfl rfl)
theorem dX1_deal_24 : decode cX1_deal 24 = .ok (.iconst 0, 1) := dk_3 (dk_at dksX1_deal_1 0 rfl rfl)
theorem dX1_deal_25 : decode cX1_deal 25 = .ok (.istore 4, 2) := dk_54 4 (dk_at dksX1_deal_1 1 rfl rfl)
theorem dX1_deal_27 : decode cX1_deal 27 = .ok (.aload_n 0, 1) := dk_42 (dk_at dksX1_deal_1 3 rfl rfl)
theorem dX1_deal_28 : decode cX1_deal 28 = .ok (.iload_n 1, 1) := dk_27 (dk_at dksX1_deal_1 4 rfl rfl)
theorem dX1_deal_29 : decode cX1_deal 29 = .ok (.iload_n 2, 1) := dk_28 (dk_at dksX1_deal_1 5 rfl rfl)
theorem dX1_deal_30 : decode cX1_deal 30 = .ok (.iload_n 3, 1) := dk_29 (dk_at dksX1_deal_1 6 rfl rfl)
theorem dX1_deal_31 : decode cX1_deal 31 = .ok (.invokevirtual 121, 3) := dk_182 0 121 (dk_at dksX1_deal_1 7 rfl rfl)
theorem dX1_deal_34 : decode cX1_deal 34 = .ok (.istore 5, 2) := dk_54 5 (dk_at dksX1_deal_1 10 rfl rfl)
theorem dX1_deal_36 : decode cX1_deal 36 = .ok (.aload_n 0, 1) := dk_42 (dk_at dksX1_deal_1 12 rfl rfl)
theorem dX1_deal_37 : decode cX1_deal 37 = .ok (.iload_n 2, 1) := dk_28 (dk_at dksX1_deal_1 13 rfl rfl)
theorem dX1_deal_38 : decode cX1_deal 38 = .ok (.iload_n 1, 1) := dk_27 (dk_at dksX1_deal_1 14 rfl rfl)
theorem dX1_deal_39 : decode cX1_deal 39 = .ok (.iload_n 3, 1) := dk_29 (dk_at dksX1_deal_1 15 rfl rfl)
theorem dX1_deal_40 : decode cX1_deal 40 = .ok (.invokevirtual 121, 3) := dk_182 0 121 (dk_at dksX1_deal_1 16 rfl rfl)
theorem dX1_deal_43 : decode cX1_deal 43 = .ok (.istore 6, 2) := dk_54 6 (dk_at dksX1_deal_1 19 rfl rfl)
theorem dX1_deal_45 : decode cX1_deal 45 = .ok (.aload_n 0, 1) := dk_42 (dk_at dksX1_deal_1 21 rfl rfl)
theorem dX1_deal_46 : decode cX1_deal 46 = .ok (.iload_n 1, 1) := dk_27 (dk_at dksX1_deal_1 22 rfl rfl)
theorem dX1_deal_47 : decode cX1_deal 47 = .ok (.iload_n 3, 1) := dk_29 (dk_at dksX1_deal_1 23 rfl rfl)
theorem dX1_deal_48 : decode cX1_deal 48 = .ok (.invokevirtual 123, 3) := dk_182 0 123 (dk_at dksX1_deal_2 0 rfl rfl)
theorem dX1_deal_51 : decode cX1_deal 51 = .ok (.istore 7, 2) := dk_54 7 (dk_at dksX1_deal_2 3 rfl rfl)
theorem dX1_deal_53 : decode cX1_deal 53 = .ok (.aload_n 0, 1) := dk_42 (dk_at dksX1_deal_2 5 rfl rfl)
theorem dX1_deal_54 : decode cX1_deal 54 = .ok (.iload_n 2, 1) := dk_28 (dk_at dksX1_deal_2 6 rfl rfl)
theorem dX1_deal_55 : decode cX1_deal 55 = .ok (.iload_n 3, 1) := dk_29 (dk_at dksX1_deal_2 7 rfl rfl)
theorem dX1_deal_56 : decode cX1_deal 56 = .ok (.invokevirtual 123, 3) := dk_182 0 123 (dk_at dksX1_deal_2 8 rfl rfl)
theorem dX1_deal_59 : decode cX1_deal 59 = .ok (.istore 8, 2) := dk_54 8 (dk_at dksX1_deal_2 11 rfl rfl)
theorem dX1_deal_61 : decode cX1_deal 61 = .ok (.iload 4, 2) := dk_21 4 (dk_at dksX1_deal_2 13 rfl rfl)
theorem dX1_deal_63 : decode cX1_deal 63 = .ok (.ifCond .eq 29, 3) := dk_153 0 29 (dk_at dksX1_deal_2 15 rfl rfl)
theorem dX1_deal_66 : decode cX1_deal 66 = .ok (.aload_n 0, 1) := dk_42 (dk_at dksX1_deal_2 18 rfl rfl)
theorem dX1_deal_67 : decode cX1_deal 67 = .ok (.iload_n 1, 1) := dk_27 (dk_at dksX1_deal_2 19 rfl rfl)
theorem dX1_deal_68 : decode cX1_deal 68 = .ok (.invokevirtual 127, 3) := dk_182 0 127 (dk_at dksX1_deal_2 20 rfl rfl)
theorem dX1_deal_71 : decode cX1_deal 71 = .ok (.ifCond .ne 21, 3) := dk_154 0 21 (dk_at dksX1_deal_3 0 rfl rfl)
theorem dX1_deal_74 : decode cX1_deal 74 = .ok (.aload_n 0, 1) := dk_42 (dk_at dksX1_deal_3 3 rfl rfl)
theorem dX1_deal_75 : decode cX1_deal 75 = .ok (.iload_n 2, 1) := dk_28 (dk_at dksX1_deal_3 4 rfl rfl)
theorem dX1_deal_76 : decode cX1_deal 76 = .ok (.invokevirtual 127, 3) := dk_182 0 127 (dk_at dksX1_deal_3 5 rfl rfl)
theorem dX1_deal_79 : decode cX1_deal 79 = .ok (.ifCond .ne 13, 3) := dk_154 0 13 (dk_at dksX1_deal_3 8 rfl rfl)
theorem dX1_deal_82 : decode cX1_deal 82 = .ok (.aload_n 0, 1) := dk_42 (dk_at dksX1_deal_3 11 rfl rfl)
theorem dX1_deal_83 : decode cX1_deal 83 = .ok (.getfield 49, 3) := dk_180 0 49 (dk_at dksX1_deal_3 12 rfl rfl)
theorem dX1_deal_86 : decode cX1_deal 86 = .ok (.sipush 300, 3) := dk_17 1 44 (dk_at dksX1_deal_3 15 rfl rfl)
theorem dX1_deal_89 : decode cX1_deal 89 = .ok (.if_icmp .ne 5, 3) := dk_160 0 5 (dk_at dksX1_deal_3 18 rfl rfl)
theorem dX1_deal_92 : decode cX1_deal 92 = .ok (.iconst (-1), 1) := dk_2 (dk_at dksX1_deal_3 21 rfl rfl)
theorem dX1_deal_93 : decode cX1_deal 93 = .ok (.ireturn, 1) := dk_172 (dk_at dksX1_deal_3 22 rfl rfl)
theorem dX1_deal_94 : decode cX1_deal 94 = .ok (.aload_n 0, 1) := dk_42 (dk_at dksX1_deal_3 23 rfl rfl)
theorem dX1_deal_95 : decode cX1_deal 95 = .ok (.getfield 23, 3) := dk_180 0 23 (dk_at dksX1_deal_4 0 rfl rfl)
theorem dX1_deal_98 : decode cX1_deal 98 = .ok (.aload_n 0, 1) := dk_42 (dk_at dksX1_deal_4 3 rfl rfl)
theorem dX1_deal_99 : decode cX1_deal 99 = .ok (.getfield 49, 3) := dk_180 0 49 (dk_at dksX1_deal_4 4 rfl rfl)
theorem dX1_deal_102 : decode cX1_deal 102 = .ok (.aaload, 1) := dk_50 (dk_at dksX1_deal_4 7 rfl rfl)
theorem dX1_deal_103 : decode cX1_deal 103 = .ok (.getfield 131, 3) := dk_180 0 131 (dk_at dksX1_deal_4 8 rfl rfl)
theorem dX1_deal_106 : decode cX1_deal 106 = .ok (.astore 9, 2) := dk_58 9 (dk_at dksX1_deal_4 11 rfl rfl)
theorem dX1_deal_108 : decode cX1_deal 108 = .ok (.aload 9, 2) := dk_25 9 (dk_at dksX1_deal_4 13 rfl rfl)
theorem dX1_deal_110 : decode cX1_deal 110 = .ok (.iconst 0, 1) := dk_3 (dk_at dksX1_deal_4 15 rfl rfl)
theorem dX1_deal_111 : decode cX1_deal 111 = .ok (.aload_n 0, 1) := dk_42 (dk_at dksX1_deal_4 16 rfl rfl)
theorem dX1_deal_112 : decode cX1_deal 112 = .ok (.getfield 52, 3) := dk_180 0 52 (dk_at dksX1_deal_4 17 rfl rfl)
theorem dX1_deal_115 : decode cX1_deal 115 = .ok (.iastore, 1) := dk_79 (dk_at dksX1_deal_4 20 rfl rfl)
theorem dX1_deal_116 : decode cX1_deal 116 = .ok (.aload 9, 2) := dk_25 9 (dk_at dksX1_deal_4 21 rfl rfl)
theorem dX1_deal_118 : decode cX1_deal 118 = .ok (.iconst 1, 1) := dk_4 (dk_at dksX1_deal_4 23 rfl rfl)
theorem dX1_deal_119 : decode cX1_deal 119 = .ok (.iload_n 1, 1) := dk_27 (dk_at dksX1_deal_5 0 rfl rfl)
theorem dX1_deal_120 : decode cX1_deal 120 = .ok (.iastore, 1) := dk_79 (dk_at dksX1_deal_5 1 rfl rfl)
theorem dX1_deal_121 : decode cX1_deal 121 = .ok (.aload 9, 2) := dk_25 9 (dk_at dksX1_deal_5 2 rfl rfl)
theorem dX1_deal_123 : decode cX1_deal 123 = .ok (.iconst 2, 1) := dk_5 (dk_at dksX1_deal_5 4 rfl rfl)
theorem dX1_deal_124 : decode cX1_deal 124 = .ok (.iload_n 2, 1) := dk_28 (dk_at dksX1_deal_5 5 rfl rfl)
theorem dX1_deal_125 : decode cX1_deal 125 = .ok (.iastore, 1) := dk_79 (dk_at dksX1_deal_5 6 rfl rfl)
theorem dX1_deal_126 : decode cX1_deal 126 = .ok (.aload 9, 2) := dk_25 9 (dk_at dksX1_deal_5 7 rfl rfl)
theorem dX1_deal_128 : decode cX1_deal 128 = .ok (.iconst 3, 1) := dk_6 (dk_at dksX1_deal_5 9 rfl rfl)
theorem dX1_deal_129 : decode cX1_deal 129 = .ok (.iload_n 3, 1) := dk_29 (dk_at dksX1_deal_5 10 rfl rfl)
theorem dX1_deal_130 : decode cX1_deal 130 = .ok (.iastore, 1) := dk_79 (dk_at dksX1_deal_5 11 rfl rfl)
theorem dX1_deal_131 : decode cX1_deal 131 = .ok (.aload 9, 2) := dk_25 9 (dk_at dksX1_deal_5 12 rfl rfl)
theorem dX1_deal_133 : decode cX1_deal 133 = .ok (.bipush 6, 2) := dk_16 6 (dk_at dksX1_deal_5 14 rfl rfl)
theorem dX1_deal_135 : decode cX1_deal 135 = .ok (.aload_n 0, 1) := dk_42 (dk_at dksX1_deal_5 16 rfl rfl)
theorem dX1_deal_136 : decode cX1_deal 136 = .ok (.getfield 17, 3) := dk_180 0 17 (dk_at dksX1_deal_5 17 rfl rfl)
theorem dX1_deal_139 : decode cX1_deal 139 = .ok (.iload_n 1, 1) := dk_27 (dk_at dksX1_deal_5 20 rfl rfl)
theorem dX1_deal_140 : decode cX1_deal 140 = .ok (.aaload, 1) := dk_50 (dk_at dksX1_deal_5 21 rfl rfl)
theorem dX1_deal_141 : decode cX1_deal 141 = .ok (.getfield 96, 3) := dk_180 0 96 (dk_at dksX1_deal_6 0 rfl rfl)
theorem dX1_deal_144 : decode cX1_deal 144 = .ok (.iconst 1, 1) := dk_4 (dk_at dksX1_deal_6 3 rfl rfl)
theorem dX1_deal_145 : decode cX1_deal 145 = .ok (.iaload, 1) := dk_46 (dk_at dksX1_deal_6 4 rfl rfl)
theorem dX1_deal_146 : decode cX1_deal 146 = .ok (.iastore, 1) := dk_79 (dk_at dksX1_deal_6 5 rfl rfl)
theorem dX1_deal_147 : decode cX1_deal 147 = .ok (.aload 9, 2) := dk_25 9 (dk_at dksX1_deal_6 6 rfl rfl)
theorem dX1_deal_149 : decode cX1_deal 149 = .ok (.bipush 7, 2) := dk_16 7 (dk_at dksX1_deal_6 8 rfl rfl)
theorem dX1_deal_151 : decode cX1_deal 151 = .ok (.aload_n 0, 1) := dk_42 (dk_at dksX1_deal_6 10 rfl rfl)
theorem dX1_deal_152 : decode cX1_deal 152 = .ok (.getfield 17, 3) := dk_180 0 17 (dk_at dksX1_deal_6 11 rfl rfl)
theorem dX1_deal_155 : decode cX1_deal 155 = .ok (.iload_n 2, 1) := dk_28 (dk_at dksX1_deal_6 14 rfl rfl)
theorem dX1_deal_156 : decode cX1_deal 156 = .ok (.aaload, 1) := dk_50 (dk_at dksX1_deal_6 15 rfl rfl)
theorem dX1_deal_157 : decode cX1_deal 157 = .ok (.getfield 96, 3) := dk_180 0 96 (dk_at dksX1_deal_6 16 rfl rfl)
theorem dX1_deal_160 : decode cX1_deal 160 = .ok (.iconst 1, 1) := dk_4 (dk_at dksX1_deal_6 19 rfl rfl)
theorem dX1_deal_161 : decode cX1_deal 161 = .ok (.iaload, 1) := dk_46 (dk_at dksX1_deal_6 20 rfl rfl)
theorem dX1_deal_162 : decode cX1_deal 162 = .ok (.iastore, 1) := dk_79 (dk_at dksX1_deal_6 21 rfl rfl)
theorem dX1_deal_163 : decode cX1_deal 163 = .ok (.aload_n 0, 1) := dk_42 (dk_at dksX1_deal_6 22 rfl rfl)
theorem dX1_deal_164 : decode cX1_deal 164 = .ok (.getfield 17, 3) := dk_180 0 17 (dk_at dksX1_deal_7 0 rfl rfl)
theorem dX1_deal_167 : decode cX1_deal 167 = .ok (.iload_n 1, 1) := dk_27 (dk_at dksX1_deal_7 3 rfl rfl)
theorem dX1_deal_168 : decode cX1_deal 168 = .ok (.aaload, 1) := dk_50 (dk_at dksX1_deal_7 4 rfl rfl)
theorem dX1_deal_169 : decode cX1_deal 169 = .ok (.getfield 96, 3) := dk_180 0 96 (dk_at dksX1_deal_7 5 rfl rfl)
theorem dX1_deal_172 : decode cX1_deal 172 = .ok (.bipush 7, 2) := dk_16 7 (dk_at dksX1_deal_7 8 rfl rfl)
theorem dX1_deal_174 : decode cX1_deal 174 = .ok (.dup2, 1) := dk_92 (dk_at dksX1_deal_7 10 rfl rfl)
theorem dX1_deal_175 : decode cX1_deal 175 = .ok (.iaload, 1) := dk_46 (dk_at dksX1_deal_7 11 rfl rfl)
theorem dX1_deal_176 : decode cX1_deal 176 = .ok (.aload_n 0, 1) := dk_42 (dk_at dksX1_deal_7 12 rfl rfl)
theorem dX1_deal_177 : decode cX1_deal 177 = .ok (.iload 5, 2) := dk_21 5 (dk_at dksX1_deal_7 13 rfl rfl)
theorem dX1_deal_179 : decode cX1_deal 179 = .ok (.iload 6, 2) := dk_21 6 (dk_at dksX1_deal_7 15 rfl rfl)
theorem dX1_deal_181 : decode cX1_deal 181 = .ok (.invokevirtual 134, 3) := dk_182 0 134 (dk_at dksX1_deal_7 17 rfl rfl)
theorem dX1_deal_184 : decode cX1_deal 184 = .ok (.iload_n 3, 1) := dk_29 (dk_at dksX1_deal_7 20 rfl rfl)
theorem dX1_deal_185 : decode cX1_deal 185 = .ok (.imul, 1) := dk_104 (dk_at dksX1_deal_7 21 rfl rfl)
theorem dX1_deal_186 : decode cX1_deal 186 = .ok (.iadd, 1) := dk_96 (dk_at dksX1_deal_7 22 rfl rfl)
theorem dX1_deal_187 : decode cX1_deal 187 = .ok (.iastore, 1) := dk_79 (dk_at dksX1_deal_7 23 rfl rfl)
theorem dX1_deal_188 : decode cX1_deal 188 = .ok (.aload_n 0, 1) := dk_42 (dk_at dksX1_deal_8 0 rfl rfl)
theorem dX1_deal_189 : decode cX1_deal 189 = .ok (.getfield 17, 3) := dk_180 0 17 (dk_at dksX1_deal_8 1 rfl rfl)
theorem dX1_deal_192 : decode cX1_deal 192 = .ok (.iload_n 2, 1) := dk_28 (dk_at dksX1_deal_8 4 rfl rfl)
theorem dX1_deal_193 : decode cX1_deal 193 = .ok (.aaload, 1) := dk_50 (dk_at dksX1_deal_8 5 rfl rfl)
theorem dX1_deal_194 : decode cX1_deal 194 = .ok (.getfield 96, 3) := dk_180 0 96 (dk_at dksX1_deal_8 6 rfl rfl)
theorem dX1_deal_197 : decode cX1_deal 197 = .ok (.bipush 7, 2) := dk_16 7 (dk_at dksX1_deal_8 9 rfl rfl)
theorem dX1_deal_199 : decode cX1_deal 199 = .ok (.dup2, 1) := dk_92 (dk_at dksX1_deal_8 11 rfl rfl)
theorem dX1_deal_200 : decode cX1_deal 200 = .ok (.iaload, 1) := dk_46 (dk_at dksX1_deal_8 12 rfl rfl)
theorem dX1_deal_201 : decode cX1_deal 201 = .ok (.aload_n 0, 1) := dk_42 (dk_at dksX1_deal_8 13 rfl rfl)
theorem dX1_deal_202 : decode cX1_deal 202 = .ok (.iload 6, 2) := dk_21 6 (dk_at dksX1_deal_8 14 rfl rfl)
theorem dX1_deal_204 : decode cX1_deal 204 = .ok (.iload 5, 2) := dk_21 5 (dk_at dksX1_deal_8 16 rfl rfl)
theorem dX1_deal_206 : decode cX1_deal 206 = .ok (.invokevirtual 134, 3) := dk_182 0 134 (dk_at dksX1_deal_8 18 rfl rfl)
theorem dX1_deal_209 : decode cX1_deal 209 = .ok (.iload_n 3, 1) := dk_29 (dk_at dksX1_deal_8 21 rfl rfl)
theorem dX1_deal_210 : decode cX1_deal 210 = .ok (.imul, 1) := dk_104 (dk_at dksX1_deal_8 22 rfl rfl)
theorem dX1_deal_211 : decode cX1_deal 211 = .ok (.iadd, 1) := dk_96 (dk_at dksX1_deal_8 23 rfl rfl)
theorem dX1_deal_212 : decode cX1_deal 212 = .ok (.iastore, 1) := dk_79 (dk_at dksX1_deal_9 0 rfl rfl)
theorem dX1_deal_213 : decode cX1_deal 213 = .ok (.aload 9, 2) := dk_25 9 (dk_at dksX1_deal_9 1 rfl rfl)
theorem dX1_deal_215 : decode cX1_deal 215 = .ok (.iconst 4, 1) := dk_7 (dk_at dksX1_deal_9 3 rfl rfl)
theorem dX1_deal_216 : decode cX1_deal 216 = .ok (.aload_n 0, 1) := dk_42 (dk_at dksX1_deal_9 4 rfl rfl)
theorem dX1_deal_217 : decode cX1_deal 217 = .ok (.aload_n 0, 1) := dk_42 (dk_at dksX1_deal_9 5 rfl rfl)
theorem dX1_deal_218 : decode cX1_deal 218 = .ok (.getfield 17, 3) := dk_180 0 17 (dk_at dksX1_deal_9 6 rfl rfl)
theorem dX1_deal_221 : decode cX1_deal 221 = .ok (.iload_n 1, 1) := dk_27 (dk_at dksX1_deal_9 9 rfl rfl)
theorem dX1_deal_222 : decode cX1_deal 222 = .ok (.aaload, 1) := dk_50 (dk_at dksX1_deal_9 10 rfl rfl)
theorem dX1_deal_223 : decode cX1_deal 223 = .ok (.iload 5, 2) := dk_21 5 (dk_at dksX1_deal_9 11 rfl rfl)
theorem dX1_deal_225 : decode cX1_deal 225 = .ok (.iload 7, 2) := dk_21 7 (dk_at dksX1_deal_9 13 rfl rfl)
theorem dX1_deal_227 : decode cX1_deal 227 = .ok (.iload_n 3, 1) := dk_29 (dk_at dksX1_deal_9 15 rfl rfl)
theorem dX1_deal_228 : decode cX1_deal 228 = .ok (.invokevirtual 138, 3) := dk_182 0 138 (dk_at dksX1_deal_9 16 rfl rfl)
theorem dX1_deal_231 : decode cX1_deal 231 = .ok (.iastore, 1) := dk_79 (dk_at dksX1_deal_9 19 rfl rfl)
theorem dX1_deal_232 : decode cX1_deal 232 = .ok (.aload 9, 2) := dk_25 9 (dk_at dksX1_deal_9 20 rfl rfl)
theorem dX1_deal_234 : decode cX1_deal 234 = .ok (.iconst 5, 1) := dk_8 (dk_at dksX1_deal_9 22 rfl rfl)
theorem dX1_deal_235 : decode cX1_deal 235 = .ok (.aload_n 0, 1) := dk_42 (dk_at dksX1_deal_9 23 rfl rfl)
theorem dX1_deal_236 : decode cX1_deal 236 = .ok (.aload_n 0, 1) := dk_42 (dk_at dksX1_deal_10 0 rfl rfl)
theorem dX1_deal_237 : decode cX1_deal 237 = .ok (.getfield 17, 3) := dk_180 0 17 (dk_at dksX1_deal_10 1 rfl rfl)
theorem dX1_deal_240 : decode cX1_deal 240 = .ok (.iload_n 2, 1) := dk_28 (dk_at dksX1_deal_10 4 rfl rfl)
theorem dX1_deal_241 : decode cX1_deal 241 = .ok (.aaload, 1) := dk_50 (dk_at dksX1_deal_10 5 rfl rfl)
theorem dX1_deal_242 : decode cX1_deal 242 = .ok (.iload 6, 2) := dk_21 6 (dk_at dksX1_deal_10 6 rfl rfl)
theorem dX1_deal_244 : decode cX1_deal 244 = .ok (.iload 8, 2) := dk_21 8 (dk_at dksX1_deal_10 8 rfl rfl)
theorem dX1_deal_246 : decode cX1_deal 246 = .ok (.iload_n 3, 1) := dk_29 (dk_at dksX1_deal_10 10 rfl rfl)
theorem dX1_deal_247 : decode cX1_deal 247 = .ok (.invokevirtual 138, 3) := dk_182 0 138 (dk_at dksX1_deal_10 11 rfl rfl)
theorem dX1_deal_250 : decode cX1_deal 250 = .ok (.iastore, 1) := dk_79 (dk_at dksX1_deal_10 14 rfl rfl)
theorem dX1_deal_251 : decode cX1_deal 251 = .ok (.aload_n 0, 1) := dk_42 (dk_at dksX1_deal_10 15 rfl rfl)
theorem dX1_deal_252 : decode cX1_deal 252 = .ok (.dup, 1) := dk_89 (dk_at dksX1_deal_10 16 rfl rfl)
theorem dX1_deal_253 : decode cX1_deal 253 = .ok (.getfield 49, 3) := dk_180 0 49 (dk_at dksX1_deal_10 17 rfl rfl)
theorem dX1_deal_256 : decode cX1_deal 256 = .ok (.iconst 1, 1) := dk_4 (dk_at dksX1_deal_10 20 rfl rfl)
theorem dX1_deal_257 : decode cX1_deal 257 = .ok (.iadd, 1) := dk_96 (dk_at dksX1_deal_10 21 rfl rfl)
theorem dX1_deal_258 : decode cX1_deal 258 = .ok (.putfield 49, 3) := dk_181 0 49 (dk_at dksX1_deal_11 0 rfl rfl)
theorem dX1_deal_261 : decode cX1_deal 261 = .ok (.aload_n 0, 1) := dk_42 (dk_at dksX1_deal_11 3 rfl rfl)
theorem dX1_deal_262 : decode cX1_deal 262 = .ok (.getfield 49, 3) := dk_180 0 49 (dk_at dksX1_deal_11 4 rfl rfl)
theorem dX1_deal_265 : decode cX1_deal 265 = .ok (.iconst 1, 1) := dk_4 (dk_at dksX1_deal_11 7 rfl rfl)
theorem dX1_deal_266 : decode cX1_deal 266 = .ok (.isub, 1) := dk_100 (dk_at dksX1_deal_11 8 rfl rfl)
theorem dX1_deal_267 : decode cX1_deal 267 = .ok (.ireturn, 1) := dk_172 (dk_at dksX1_deal_11 9 rfl rfl)
abbrev cX1_isOut : ByteArray := prog_15_method_9_code
def yX1_isOut : MethodName := ⟨RX1, "isOut", "(I)Z"⟩
def dkwX1_isOut_0 : List UInt8 := [42, 180, 0, 17, 27, 50, 180, 0, 96, 16, 6, 46, 158, 0, 7, 4, 167, 0, 4, 3, 172]
abbrev dktX1_isOut_0 : List UInt8 := dkwX1_isOut_0 ++ []
theorem dksX1_isOut_0 : cX1_isOut.data.toList.drop 0 = dktX1_isOut_0 := by decide +kernel
theorem dX1_isOut_0 : decode cX1_isOut 0 = .ok (.aload_n 0, 1) := dk_42 (dk_at dksX1_isOut_0 0 rfl rfl)
theorem dX1_isOut_1 : decode cX1_isOut 1 = .ok (.getfield 17, 3) := dk_180 0 17 (dk_at dksX1_isOut_0 1 rfl rfl)
theorem dX1_isOut_4 : decode cX1_isOut 4 = .ok (.iload_n 1, 1) := dk_27 (dk_at dksX1_isOut_0 4 rfl rfl)
theorem dX1_isOut_5 : decode cX1_isOut 5 = .ok (.aaload, 1) := dk_50 (dk_at dksX1_isOut_0 5 rfl rfl)
theorem dX1_isOut_6 : decode cX1_isOut 6 = .ok (.getfield 96, 3) := dk_180 0 96 (dk_at dksX1_isOut_0 6 rfl rfl)
theorem dX1_isOut_9 : decode cX1_isOut 9 = .ok (.bipush 6, 2) := dk_16 6 (dk_at dksX1_isOut_0 9 rfl rfl)
theorem dX1_isOut_11 : decode cX1_isOut 11 = .ok (.iaload, 1) := dk_46 (dk_at dksX1_isOut_0 11 rfl rfl)
theorem dX1_isOut_12 : decode cX1_isOut 12 = .ok (.ifCond .le 7, 3) := dk_158 0 7 (dk_at dksX1_isOut_0 12 rfl rfl)
theorem dX1_isOut_15 : decode cX1_isOut 15 = .ok (.iconst 1, 1) := dk_4 (dk_at dksX1_isOut_0 15 rfl rfl)
theorem dX1_isOut_16 : decode cX1_isOut 16 = .ok (.goto 4, 3) := dk_167 0 4 (dk_at dksX1_isOut_0 16 rfl rfl)
theorem dX1_isOut_19 : decode cX1_isOut 19 = .ok (.iconst 0, 1) := dk_3 (dk_at dksX1_isOut_0 19 rfl rfl)
theorem dX1_isOut_20 : decode cX1_isOut 20 = .ok (.ireturn, 1) := dk_172 (dk_at dksX1_isOut_0 20 rfl rfl)
abbrev cX1_worth : ByteArray := prog_15_method_10_code
def yX1_worth : MethodName := ⟨RX1, "worth", "(ZZ)I"⟩
def dkwX1_worth_1 : List UInt8 := [167, 0, 23, 28, 153, 0, 13, 42, 180, 0, 27, 5, 46, 116, 167, 0, 9, 42, 180, 0, 27, 3, 46, 172]
abbrev dktX1_worth_1 : List UInt8 := dkwX1_worth_1 ++ []
def dkwX1_worth_0 : List UInt8 := [27, 153, 0, 26, 28, 153, 0, 13, 42, 180, 0, 27, 6, 46, 116, 167, 0, 32, 42, 180, 0, 27, 4, 46]
abbrev dktX1_worth_0 : List UInt8 := dkwX1_worth_0 ++ dktX1_worth_1
theorem dksX1_worth_0 : cX1_worth.data.toList.drop 0 = dktX1_worth_0 := by decide +kernel
theorem dksX1_worth_1 : cX1_worth.data.toList.drop 24 = dktX1_worth_1 := dk_seg dksX1_worth_0 24 rfl rfl
theorem dX1_worth_0 : decode cX1_worth 0 = .ok (.iload_n 1, 1) := dk_27 (dk_at dksX1_worth_0 0 rfl rfl)
theorem dX1_worth_1 : decode cX1_worth 1 = .ok (.ifCond .eq 26, 3) := dk_153 0 26 (dk_at dksX1_worth_0 1 rfl rfl)
theorem dX1_worth_4 : decode cX1_worth 4 = .ok (.iload_n 2, 1) := dk_28 (dk_at dksX1_worth_0 4 rfl rfl)
theorem dX1_worth_5 : decode cX1_worth 5 = .ok (.ifCond .eq 13, 3) := dk_153 0 13 (dk_at dksX1_worth_0 5 rfl rfl)
theorem dX1_worth_8 : decode cX1_worth 8 = .ok (.aload_n 0, 1) := dk_42 (dk_at dksX1_worth_0 8 rfl rfl)
theorem dX1_worth_9 : decode cX1_worth 9 = .ok (.getfield 27, 3) := dk_180 0 27 (dk_at dksX1_worth_0 9 rfl rfl)
theorem dX1_worth_12 : decode cX1_worth 12 = .ok (.iconst 3, 1) := dk_6 (dk_at dksX1_worth_0 12 rfl rfl)
theorem dX1_worth_13 : decode cX1_worth 13 = .ok (.iaload, 1) := dk_46 (dk_at dksX1_worth_0 13 rfl rfl)
theorem dX1_worth_14 : decode cX1_worth 14 = .ok (.ineg, 1) := dk_116 (dk_at dksX1_worth_0 14 rfl rfl)
theorem dX1_worth_15 : decode cX1_worth 15 = .ok (.goto 32, 3) := dk_167 0 32 (dk_at dksX1_worth_0 15 rfl rfl)
theorem dX1_worth_18 : decode cX1_worth 18 = .ok (.aload_n 0, 1) := dk_42 (dk_at dksX1_worth_0 18 rfl rfl)
theorem dX1_worth_19 : decode cX1_worth 19 = .ok (.getfield 27, 3) := dk_180 0 27 (dk_at dksX1_worth_0 19 rfl rfl)
theorem dX1_worth_22 : decode cX1_worth 22 = .ok (.iconst 1, 1) := dk_4 (dk_at dksX1_worth_0 22 rfl rfl)
theorem dX1_worth_23 : decode cX1_worth 23 = .ok (.iaload, 1) := dk_46 (dk_at dksX1_worth_0 23 rfl rfl)
theorem dX1_worth_24 : decode cX1_worth 24 = .ok (.goto 23, 3) := dk_167 0 23 (dk_at dksX1_worth_1 0 rfl rfl)
theorem dX1_worth_27 : decode cX1_worth 27 = .ok (.iload_n 2, 1) := dk_28 (dk_at dksX1_worth_1 3 rfl rfl)
theorem dX1_worth_28 : decode cX1_worth 28 = .ok (.ifCond .eq 13, 3) := dk_153 0 13 (dk_at dksX1_worth_1 4 rfl rfl)
theorem dX1_worth_31 : decode cX1_worth 31 = .ok (.aload_n 0, 1) := dk_42 (dk_at dksX1_worth_1 7 rfl rfl)
theorem dX1_worth_32 : decode cX1_worth 32 = .ok (.getfield 27, 3) := dk_180 0 27 (dk_at dksX1_worth_1 8 rfl rfl)
theorem dX1_worth_35 : decode cX1_worth 35 = .ok (.iconst 2, 1) := dk_5 (dk_at dksX1_worth_1 11 rfl rfl)
theorem dX1_worth_36 : decode cX1_worth 36 = .ok (.iaload, 1) := dk_46 (dk_at dksX1_worth_1 12 rfl rfl)
theorem dX1_worth_37 : decode cX1_worth 37 = .ok (.ineg, 1) := dk_116 (dk_at dksX1_worth_1 13 rfl rfl)
theorem dX1_worth_38 : decode cX1_worth 38 = .ok (.goto 9, 3) := dk_167 0 9 (dk_at dksX1_worth_1 14 rfl rfl)
theorem dX1_worth_41 : decode cX1_worth 41 = .ok (.aload_n 0, 1) := dk_42 (dk_at dksX1_worth_1 17 rfl rfl)
theorem dX1_worth_42 : decode cX1_worth 42 = .ok (.getfield 27, 3) := dk_180 0 27 (dk_at dksX1_worth_1 18 rfl rfl)
theorem dX1_worth_45 : decode cX1_worth 45 = .ok (.iconst 0, 1) := dk_3 (dk_at dksX1_worth_1 21 rfl rfl)
theorem dX1_worth_46 : decode cX1_worth 46 = .ok (.iaload, 1) := dk_46 (dk_at dksX1_worth_1 22 rfl rfl)
theorem dX1_worth_47 : decode cX1_worth 47 = .ok (.ireturn, 1) := dk_172 (dk_at dksX1_worth_1 23 rfl rfl)
abbrev cX1_notches : ByteArray := prog_15_method_11_code
def yX1_notches : MethodName := ⟨RX1, "notches", "(LNotchSticks$Person;ZZI)I"⟩
def dkwX1_notches_4 : List UInt8 := [46, 79, 43, 180, 0, 96, 16, 7, 92, 46, 42, 180, 0, 27, 7, 46, 21, 4, 104, 100, 79, 5, 172]
abbrev dktX1_notches_4 : List UInt8 := dkwX1_notches_4 ++ []
def dkwX1_notches_3 : List UInt8 := [172, 43, 180, 0, 96, 16, 8, 92, 46, 4, 96, 79, 43, 180, 0, 96, 16, 6, 42, 180, 0, 27, 16, 6]
abbrev dktX1_notches_3 : List UInt8 := dkwX1_notches_3 ++ dktX1_notches_4
def dkwX1_notches_2 : List UInt8 := [182, 0, 110, 28, 153, 0, 7, 6, 167, 0, 4, 3, 172, 29, 153, 0, 11, 43, 21, 4, 182, 0, 114, 4]
abbrev dktX1_notches_2 : List UInt8 := dkwX1_notches_2 ++ dktX1_notches_3
def dkwX1_notches_1 : List UInt8 := [180, 0, 27, 8, 46, 162, 0, 7, 4, 167, 0, 4, 3, 54, 5, 21, 5, 154, 0, 19, 43, 21, 4]
abbrev dktX1_notches_1 : List UInt8 := dkwX1_notches_1 ++ dktX1_notches_2
def dkwX1_notches_0 : List UInt8 := [28, 153, 0, 35, 42, 180, 0, 27, 8, 46, 17, 3, 232, 159, 0, 19, 42, 17, 3, 232, 182, 0, 106, 42]
abbrev dktX1_notches_0 : List UInt8 := dkwX1_notches_0 ++ dktX1_notches_1
theorem dksX1_notches_0 : cX1_notches.data.toList.drop 0 = dktX1_notches_0 := by decide +kernel
theorem dksX1_notches_1 : cX1_notches.data.toList.drop 24 = dktX1_notches_1 := dk_seg dksX1_notches_0 24 rfl rfl
theorem dksX1_notches_2 : cX1_notches.data.toList.drop 47 = dktX1_notches_2 := dk_seg dksX1_notches_1 23 rfl rfl
theorem dksX1_notches_3 : cX1_notches.data.toList.drop 71 = dktX1_notches_3 := dk_seg dksX1_notches_2 24 rfl rfl
theorem dksX1_notches_4 : cX1_notches.data.toList.drop 95 = dktX1_notches_4 := dk_seg dksX1_notches_3 24 rfl rfl
theorem dX1_notches_0 : decode cX1_notches 0 = .ok (.iload_n 2, 1) := dk_28 (dk_at dksX1_notches_0 0 rfl rfl)
theorem dX1_notches_1 : decode cX1_notches 1 = .ok (.ifCond .eq 35, 3) := dk_153 0 35 (dk_at dksX1_notches_0 1 rfl rfl)
theorem dX1_notches_4 : decode cX1_notches 4 = .ok (.aload_n 0, 1) := dk_42 (dk_at dksX1_notches_0 4 rfl rfl)
theorem dX1_notches_5 : decode cX1_notches 5 = .ok (.getfield 27, 3) := dk_180 0 27 (dk_at dksX1_notches_0 5 rfl rfl)
theorem dX1_notches_8 : decode cX1_notches 8 = .ok (.iconst 5, 1) := dk_8 (dk_at dksX1_notches_0 8 rfl rfl)
theorem dX1_notches_9 : decode cX1_notches 9 = .ok (.iaload, 1) := dk_46 (dk_at dksX1_notches_0 9 rfl rfl)
theorem dX1_notches_10 : decode cX1_notches 10 = .ok (.sipush 1000, 3) := dk_17 3 232 (dk_at dksX1_notches_0 10 rfl rfl)
theorem dX1_notches_13 : decode cX1_notches 13 = .ok (.if_icmp .eq 19, 3) := dk_159 0 19 (dk_at dksX1_notches_0 13 rfl rfl)
theorem dX1_notches_16 : decode cX1_notches 16 = .ok (.aload_n 0, 1) := dk_42 (dk_at dksX1_notches_0 16 rfl rfl)
theorem dX1_notches_17 : decode cX1_notches 17 = .ok (.sipush 1000, 3) := dk_17 3 232 (dk_at dksX1_notches_0 17 rfl rfl)
theorem dX1_notches_20 : decode cX1_notches 20 = .ok (.invokevirtual 106, 3) := dk_182 0 106 (dk_at dksX1_notches_0 20 rfl rfl)
theorem dX1_notches_23 : decode cX1_notches 23 = .ok (.aload_n 0, 1) := dk_42 (dk_at dksX1_notches_0 23 rfl rfl)
theorem dX1_notches_24 : decode cX1_notches 24 = .ok (.getfield 27, 3) := dk_180 0 27 (dk_at dksX1_notches_1 0 rfl rfl)
theorem dX1_notches_27 : decode cX1_notches 27 = .ok (.iconst 5, 1) := dk_8 (dk_at dksX1_notches_1 3 rfl rfl)
theorem dX1_notches_28 : decode cX1_notches 28 = .ok (.iaload, 1) := dk_46 (dk_at dksX1_notches_1 4 rfl rfl)
theorem dX1_notches_29 : decode cX1_notches 29 = .ok (.if_icmp .ge 7, 3) := dk_162 0 7 (dk_at dksX1_notches_1 5 rfl rfl)
theorem dX1_notches_32 : decode cX1_notches 32 = .ok (.iconst 1, 1) := dk_4 (dk_at dksX1_notches_1 8 rfl rfl)
theorem dX1_notches_33 : decode cX1_notches 33 = .ok (.goto 4, 3) := dk_167 0 4 (dk_at dksX1_notches_1 9 rfl rfl)
theorem dX1_notches_36 : decode cX1_notches 36 = .ok (.iconst 0, 1) := dk_3 (dk_at dksX1_notches_1 12 rfl rfl)
theorem dX1_notches_37 : decode cX1_notches 37 = .ok (.istore 5, 2) := dk_54 5 (dk_at dksX1_notches_1 13 rfl rfl)
theorem dX1_notches_39 : decode cX1_notches 39 = .ok (.iload 5, 2) := dk_21 5 (dk_at dksX1_notches_1 15 rfl rfl)
theorem dX1_notches_41 : decode cX1_notches 41 = .ok (.ifCond .ne 19, 3) := dk_154 0 19 (dk_at dksX1_notches_1 17 rfl rfl)
theorem dX1_notches_44 : decode cX1_notches 44 = .ok (.aload_n 1, 1) := dk_43 (dk_at dksX1_notches_1 20 rfl rfl)
theorem dX1_notches_45 : decode cX1_notches 45 = .ok (.iload 4, 2) := dk_21 4 (dk_at dksX1_notches_1 21 rfl rfl)
theorem dX1_notches_47 : decode cX1_notches 47 = .ok (.invokevirtual 110, 3) := dk_182 0 110 (dk_at dksX1_notches_2 0 rfl rfl)
theorem dX1_notches_50 : decode cX1_notches 50 = .ok (.iload_n 2, 1) := dk_28 (dk_at dksX1_notches_2 3 rfl rfl)
theorem dX1_notches_51 : decode cX1_notches 51 = .ok (.ifCond .eq 7, 3) := dk_153 0 7 (dk_at dksX1_notches_2 4 rfl rfl)
theorem dX1_notches_54 : decode cX1_notches 54 = .ok (.iconst 3, 1) := dk_6 (dk_at dksX1_notches_2 7 rfl rfl)
theorem dX1_notches_55 : decode cX1_notches 55 = .ok (.goto 4, 3) := dk_167 0 4 (dk_at dksX1_notches_2 8 rfl rfl)
theorem dX1_notches_58 : decode cX1_notches 58 = .ok (.iconst 0, 1) := dk_3 (dk_at dksX1_notches_2 11 rfl rfl)
theorem dX1_notches_59 : decode cX1_notches 59 = .ok (.ireturn, 1) := dk_172 (dk_at dksX1_notches_2 12 rfl rfl)
theorem dX1_notches_60 : decode cX1_notches 60 = .ok (.iload_n 3, 1) := dk_29 (dk_at dksX1_notches_2 13 rfl rfl)
theorem dX1_notches_61 : decode cX1_notches 61 = .ok (.ifCond .eq 11, 3) := dk_153 0 11 (dk_at dksX1_notches_2 14 rfl rfl)
theorem dX1_notches_64 : decode cX1_notches 64 = .ok (.aload_n 1, 1) := dk_43 (dk_at dksX1_notches_2 17 rfl rfl)
theorem dX1_notches_65 : decode cX1_notches 65 = .ok (.iload 4, 2) := dk_21 4 (dk_at dksX1_notches_2 18 rfl rfl)
theorem dX1_notches_67 : decode cX1_notches 67 = .ok (.invokevirtual 114, 3) := dk_182 0 114 (dk_at dksX1_notches_2 20 rfl rfl)
theorem dX1_notches_70 : decode cX1_notches 70 = .ok (.iconst 1, 1) := dk_4 (dk_at dksX1_notches_2 23 rfl rfl)
theorem dX1_notches_71 : decode cX1_notches 71 = .ok (.ireturn, 1) := dk_172 (dk_at dksX1_notches_3 0 rfl rfl)
theorem dX1_notches_72 : decode cX1_notches 72 = .ok (.aload_n 1, 1) := dk_43 (dk_at dksX1_notches_3 1 rfl rfl)
theorem dX1_notches_73 : decode cX1_notches 73 = .ok (.getfield 96, 3) := dk_180 0 96 (dk_at dksX1_notches_3 2 rfl rfl)
theorem dX1_notches_76 : decode cX1_notches 76 = .ok (.bipush 8, 2) := dk_16 8 (dk_at dksX1_notches_3 5 rfl rfl)
theorem dX1_notches_78 : decode cX1_notches 78 = .ok (.dup2, 1) := dk_92 (dk_at dksX1_notches_3 7 rfl rfl)
theorem dX1_notches_79 : decode cX1_notches 79 = .ok (.iaload, 1) := dk_46 (dk_at dksX1_notches_3 8 rfl rfl)
theorem dX1_notches_80 : decode cX1_notches 80 = .ok (.iconst 1, 1) := dk_4 (dk_at dksX1_notches_3 9 rfl rfl)
theorem dX1_notches_81 : decode cX1_notches 81 = .ok (.iadd, 1) := dk_96 (dk_at dksX1_notches_3 10 rfl rfl)
theorem dX1_notches_82 : decode cX1_notches 82 = .ok (.iastore, 1) := dk_79 (dk_at dksX1_notches_3 11 rfl rfl)
theorem dX1_notches_83 : decode cX1_notches 83 = .ok (.aload_n 1, 1) := dk_43 (dk_at dksX1_notches_3 12 rfl rfl)
theorem dX1_notches_84 : decode cX1_notches 84 = .ok (.getfield 96, 3) := dk_180 0 96 (dk_at dksX1_notches_3 13 rfl rfl)
theorem dX1_notches_87 : decode cX1_notches 87 = .ok (.bipush 6, 2) := dk_16 6 (dk_at dksX1_notches_3 16 rfl rfl)
theorem dX1_notches_89 : decode cX1_notches 89 = .ok (.aload_n 0, 1) := dk_42 (dk_at dksX1_notches_3 18 rfl rfl)
theorem dX1_notches_90 : decode cX1_notches 90 = .ok (.getfield 27, 3) := dk_180 0 27 (dk_at dksX1_notches_3 19 rfl rfl)
theorem dX1_notches_93 : decode cX1_notches 93 = .ok (.bipush 6, 2) := dk_16 6 (dk_at dksX1_notches_3 22 rfl rfl)
theorem dX1_notches_95 : decode cX1_notches 95 = .ok (.iaload, 1) := dk_46 (dk_at dksX1_notches_4 0 rfl rfl)
theorem dX1_notches_96 : decode cX1_notches 96 = .ok (.iastore, 1) := dk_79 (dk_at dksX1_notches_4 1 rfl rfl)
theorem dX1_notches_97 : decode cX1_notches 97 = .ok (.aload_n 1, 1) := dk_43 (dk_at dksX1_notches_4 2 rfl rfl)
theorem dX1_notches_98 : decode cX1_notches 98 = .ok (.getfield 96, 3) := dk_180 0 96 (dk_at dksX1_notches_4 3 rfl rfl)
theorem dX1_notches_101 : decode cX1_notches 101 = .ok (.bipush 7, 2) := dk_16 7 (dk_at dksX1_notches_4 6 rfl rfl)
theorem dX1_notches_103 : decode cX1_notches 103 = .ok (.dup2, 1) := dk_92 (dk_at dksX1_notches_4 8 rfl rfl)
theorem dX1_notches_104 : decode cX1_notches 104 = .ok (.iaload, 1) := dk_46 (dk_at dksX1_notches_4 9 rfl rfl)
theorem dX1_notches_105 : decode cX1_notches 105 = .ok (.aload_n 0, 1) := dk_42 (dk_at dksX1_notches_4 10 rfl rfl)
theorem dX1_notches_106 : decode cX1_notches 106 = .ok (.getfield 27, 3) := dk_180 0 27 (dk_at dksX1_notches_4 11 rfl rfl)
theorem dX1_notches_109 : decode cX1_notches 109 = .ok (.iconst 4, 1) := dk_7 (dk_at dksX1_notches_4 14 rfl rfl)
theorem dX1_notches_110 : decode cX1_notches 110 = .ok (.iaload, 1) := dk_46 (dk_at dksX1_notches_4 15 rfl rfl)
theorem dX1_notches_111 : decode cX1_notches 111 = .ok (.iload 4, 2) := dk_21 4 (dk_at dksX1_notches_4 16 rfl rfl)
theorem dX1_notches_113 : decode cX1_notches 113 = .ok (.imul, 1) := dk_104 (dk_at dksX1_notches_4 18 rfl rfl)
theorem dX1_notches_114 : decode cX1_notches 114 = .ok (.isub, 1) := dk_100 (dk_at dksX1_notches_4 19 rfl rfl)
theorem dX1_notches_115 : decode cX1_notches 115 = .ok (.iastore, 1) := dk_79 (dk_at dksX1_notches_4 20 rfl rfl)
theorem dX1_notches_116 : decode cX1_notches 116 = .ok (.iconst 2, 1) := dk_5 (dk_at dksX1_notches_4 21 rfl rfl)
theorem dX1_notches_117 : decode cX1_notches 117 = .ok (.ireturn, 1) := dk_172 (dk_at dksX1_notches_4 22 rfl rfl)
abbrev cX1_draw : ByteArray := prog_15_method_3_code
def yX1_draw : MethodName := ⟨RX1, "draw", "(I)I"⟩
def dkwX1_draw_0 : List UInt8 := [42, 18, 65, 42, 180, 0, 55, 104, 18, 66, 96, 181, 0, 55, 42, 180, 0, 55, 16, 8, 124, 27, 112, 172]
abbrev dktX1_draw_0 : List UInt8 := dkwX1_draw_0 ++ []
theorem dksX1_draw_0 : cX1_draw.data.toList.drop 0 = dktX1_draw_0 := by decide +kernel
theorem dX1_draw_0 : decode cX1_draw 0 = .ok (.aload_n 0, 1) := dk_42 (dk_at dksX1_draw_0 0 rfl rfl)
theorem dX1_draw_1 : decode cX1_draw 1 = .ok (.ldc 65, 2) := dk_18 65 (dk_at dksX1_draw_0 1 rfl rfl)
theorem dX1_draw_3 : decode cX1_draw 3 = .ok (.aload_n 0, 1) := dk_42 (dk_at dksX1_draw_0 3 rfl rfl)
theorem dX1_draw_4 : decode cX1_draw 4 = .ok (.getfield 55, 3) := dk_180 0 55 (dk_at dksX1_draw_0 4 rfl rfl)
theorem dX1_draw_7 : decode cX1_draw 7 = .ok (.imul, 1) := dk_104 (dk_at dksX1_draw_0 7 rfl rfl)
theorem dX1_draw_8 : decode cX1_draw 8 = .ok (.ldc 66, 2) := dk_18 66 (dk_at dksX1_draw_0 8 rfl rfl)
theorem dX1_draw_10 : decode cX1_draw 10 = .ok (.iadd, 1) := dk_96 (dk_at dksX1_draw_0 10 rfl rfl)
theorem dX1_draw_11 : decode cX1_draw 11 = .ok (.putfield 55, 3) := dk_181 0 55 (dk_at dksX1_draw_0 11 rfl rfl)
theorem dX1_draw_14 : decode cX1_draw 14 = .ok (.aload_n 0, 1) := dk_42 (dk_at dksX1_draw_0 14 rfl rfl)
theorem dX1_draw_15 : decode cX1_draw 15 = .ok (.getfield 55, 3) := dk_180 0 55 (dk_at dksX1_draw_0 15 rfl rfl)
theorem dX1_draw_18 : decode cX1_draw 18 = .ok (.bipush 8, 2) := dk_16 8 (dk_at dksX1_draw_0 18 rfl rfl)
theorem dX1_draw_20 : decode cX1_draw 20 = .ok (.iushr, 1) := dk_124 (dk_at dksX1_draw_0 20 rfl rfl)
theorem dX1_draw_21 : decode cX1_draw 21 = .ok (.iload_n 1, 1) := dk_27 (dk_at dksX1_draw_0 21 rfl rfl)
theorem dX1_draw_22 : decode cX1_draw 22 = .ok (.irem, 1) := dk_112 (dk_at dksX1_draw_0 22 rfl rfl)
theorem dX1_draw_23 : decode cX1_draw 23 = .ok (.ireturn, 1) := dk_172 (dk_at dksX1_draw_0 23 rfl rfl)
abbrev cX1_goesBy : ByteArray := prog_15_method_14_code
def yX1_goesBy : MethodName := ⟨RX1, "goesBy", "()V"⟩
def dkwX1_goesBy_7 : List UInt8 := [167, 255, 176, 42, 89, 180, 0, 52, 4, 96, 181, 0, 52, 177]
abbrev dktX1_goesBy_7 : List UInt8 := dkwX1_goesBy_7 ++ []
def dkwX1_goesBy_6 : List UInt8 := [46, 42, 180, 0, 27, 16, 7, 46, 160, 0, 12, 42, 180, 0, 17, 27, 50, 182, 0, 161, 132, 1, 1]
abbrev dktX1_goesBy_6 : List UInt8 := dkwX1_goesBy_6 ++ dktX1_goesBy_7
def dkwX1_goesBy_5 : List UInt8 := [4, 16, 99, 44, 4, 46, 4, 96, 184, 0, 158, 79, 42, 180, 0, 27, 16, 7, 46, 158, 0, 25, 44, 4]
abbrev dktX1_goesBy_5 : List UInt8 := dkwX1_goesBy_5 ++ dktX1_goesBy_6
def dkwX1_goesBy_4 : List UInt8 := [180, 0, 17, 27, 50, 180, 0, 96, 77, 44, 16, 6, 3, 44, 16, 6, 46, 4, 100, 184, 0, 152, 79, 44]
abbrev dktX1_goesBy_4 : List UInt8 := dkwX1_goesBy_4 ++ dktX1_goesBy_5
def dkwX1_goesBy_3 : List UInt8 := [182, 0, 148, 54, 5, 132, 1, 1, 167, 255, 183, 3, 60, 27, 42, 180, 0, 45, 162, 0, 78, 42]
abbrev dktX1_goesBy_3 : List UInt8 := dkwX1_goesBy_3 ++ dktX1_goesBy_4
def dkwX1_goesBy_2 : List UInt8 := [182, 0, 106, 62, 29, 28, 161, 0, 6, 132, 3, 1, 42, 182, 0, 145, 54, 4, 42, 28, 29, 21, 4]
abbrev dktX1_goesBy_2 : List UInt8 := dkwX1_goesBy_2 ++ dktX1_goesBy_3
def dkwX1_goesBy_1 : List UInt8 := [182, 0, 142, 158, 0, 53, 42, 42, 180, 0, 45, 182, 0, 106, 61, 42, 42, 180, 0, 45, 4, 100]
abbrev dktX1_goesBy_1 : List UInt8 := dkwX1_goesBy_1 ++ dktX1_goesBy_2
def dkwX1_goesBy_0 : List UInt8 := [3, 60, 27, 42, 180, 0, 27, 16, 8, 46, 162, 0, 68, 42, 180, 0, 45, 4, 164, 0, 60, 42]
abbrev dktX1_goesBy_0 : List UInt8 := dkwX1_goesBy_0 ++ dktX1_goesBy_1
theorem dksX1_goesBy_0 : cX1_goesBy.data.toList.drop 0 = dktX1_goesBy_0 := by decide +kernel
theorem dksX1_goesBy_1 : cX1_goesBy.data.toList.drop 22 = dktX1_goesBy_1 := dk_seg dksX1_goesBy_0 22 rfl rfl
theorem dksX1_goesBy_2 : cX1_goesBy.data.toList.drop 44 = dktX1_goesBy_2 := dk_seg dksX1_goesBy_1 22 rfl rfl
theorem dksX1_goesBy_3 : cX1_goesBy.data.toList.drop 67 = dktX1_goesBy_3 := dk_seg dksX1_goesBy_2 23 rfl rfl
theorem dksX1_goesBy_4 : cX1_goesBy.data.toList.drop 89 = dktX1_goesBy_4 := dk_seg dksX1_goesBy_3 22 rfl rfl
theorem dksX1_goesBy_5 : cX1_goesBy.data.toList.drop 113 = dktX1_goesBy_5 := dk_seg dksX1_goesBy_4 24 rfl rfl
theorem dksX1_goesBy_6 : cX1_goesBy.data.toList.drop 137 = dktX1_goesBy_6 := dk_seg dksX1_goesBy_5 24 rfl rfl
theorem dksX1_goesBy_7 : cX1_goesBy.data.toList.drop 160 = dktX1_goesBy_7 := dk_seg dksX1_goesBy_6 23 rfl rfl
theorem dX1_goesBy_0 : decode cX1_goesBy 0 = .ok (.iconst 0, 1) := dk_3 (dk_at dksX1_goesBy_0 0 rfl rfl)
theorem dX1_goesBy_1 : decode cX1_goesBy 1 = .ok (.istore_n 1, 1) := dk_60 (dk_at dksX1_goesBy_0 1 rfl rfl)
theorem dX1_goesBy_2 : decode cX1_goesBy 2 = .ok (.iload_n 1, 1) := dk_27 (dk_at dksX1_goesBy_0 2 rfl rfl)
theorem dX1_goesBy_3 : decode cX1_goesBy 3 = .ok (.aload_n 0, 1) := dk_42 (dk_at dksX1_goesBy_0 3 rfl rfl)
theorem dX1_goesBy_4 : decode cX1_goesBy 4 = .ok (.getfield 27, 3) := dk_180 0 27 (dk_at dksX1_goesBy_0 4 rfl rfl)
theorem dX1_goesBy_7 : decode cX1_goesBy 7 = .ok (.bipush 8, 2) := dk_16 8 (dk_at dksX1_goesBy_0 7 rfl rfl)
theorem dX1_goesBy_9 : decode cX1_goesBy 9 = .ok (.iaload, 1) := dk_46 (dk_at dksX1_goesBy_0 9 rfl rfl)
theorem dX1_goesBy_10 : decode cX1_goesBy 10 = .ok (.if_icmp .ge 68, 3) := dk_162 0 68 (dk_at dksX1_goesBy_0 10 rfl rfl)
theorem dX1_goesBy_13 : decode cX1_goesBy 13 = .ok (.aload_n 0, 1) := dk_42 (dk_at dksX1_goesBy_0 13 rfl rfl)
theorem dX1_goesBy_14 : decode cX1_goesBy 14 = .ok (.getfield 45, 3) := dk_180 0 45 (dk_at dksX1_goesBy_0 14 rfl rfl)
theorem dX1_goesBy_17 : decode cX1_goesBy 17 = .ok (.iconst 1, 1) := dk_4 (dk_at dksX1_goesBy_0 17 rfl rfl)
theorem dX1_goesBy_18 : decode cX1_goesBy 18 = .ok (.if_icmp .le 60, 3) := dk_164 0 60 (dk_at dksX1_goesBy_0 18 rfl rfl)
theorem dX1_goesBy_21 : decode cX1_goesBy 21 = .ok (.aload_n 0, 1) := dk_42 (dk_at dksX1_goesBy_0 21 rfl rfl)
theorem dX1_goesBy_22 : decode cX1_goesBy 22 = .ok (.invokevirtual 142, 3) := dk_182 0 142 (dk_at dksX1_goesBy_1 0 rfl rfl)
theorem dX1_goesBy_25 : decode cX1_goesBy 25 = .ok (.ifCond .le 53, 3) := dk_158 0 53 (dk_at dksX1_goesBy_1 3 rfl rfl)
theorem dX1_goesBy_28 : decode cX1_goesBy 28 = .ok (.aload_n 0, 1) := dk_42 (dk_at dksX1_goesBy_1 6 rfl rfl)
theorem dX1_goesBy_29 : decode cX1_goesBy 29 = .ok (.aload_n 0, 1) := dk_42 (dk_at dksX1_goesBy_1 7 rfl rfl)
theorem dX1_goesBy_30 : decode cX1_goesBy 30 = .ok (.getfield 45, 3) := dk_180 0 45 (dk_at dksX1_goesBy_1 8 rfl rfl)
theorem dX1_goesBy_33 : decode cX1_goesBy 33 = .ok (.invokevirtual 106, 3) := dk_182 0 106 (dk_at dksX1_goesBy_1 11 rfl rfl)
theorem dX1_goesBy_36 : decode cX1_goesBy 36 = .ok (.istore_n 2, 1) := dk_61 (dk_at dksX1_goesBy_1 14 rfl rfl)
theorem dX1_goesBy_37 : decode cX1_goesBy 37 = .ok (.aload_n 0, 1) := dk_42 (dk_at dksX1_goesBy_1 15 rfl rfl)
theorem dX1_goesBy_38 : decode cX1_goesBy 38 = .ok (.aload_n 0, 1) := dk_42 (dk_at dksX1_goesBy_1 16 rfl rfl)
theorem dX1_goesBy_39 : decode cX1_goesBy 39 = .ok (.getfield 45, 3) := dk_180 0 45 (dk_at dksX1_goesBy_1 17 rfl rfl)
theorem dX1_goesBy_42 : decode cX1_goesBy 42 = .ok (.iconst 1, 1) := dk_4 (dk_at dksX1_goesBy_1 20 rfl rfl)
theorem dX1_goesBy_43 : decode cX1_goesBy 43 = .ok (.isub, 1) := dk_100 (dk_at dksX1_goesBy_1 21 rfl rfl)
theorem dX1_goesBy_44 : decode cX1_goesBy 44 = .ok (.invokevirtual 106, 3) := dk_182 0 106 (dk_at dksX1_goesBy_2 0 rfl rfl)
theorem dX1_goesBy_47 : decode cX1_goesBy 47 = .ok (.istore_n 3, 1) := dk_62 (dk_at dksX1_goesBy_2 3 rfl rfl)
theorem dX1_goesBy_48 : decode cX1_goesBy 48 = .ok (.iload_n 3, 1) := dk_29 (dk_at dksX1_goesBy_2 4 rfl rfl)
theorem dX1_goesBy_49 : decode cX1_goesBy 49 = .ok (.iload_n 2, 1) := dk_28 (dk_at dksX1_goesBy_2 5 rfl rfl)
theorem dX1_goesBy_50 : decode cX1_goesBy 50 = .ok (.if_icmp .lt 6, 3) := dk_161 0 6 (dk_at dksX1_goesBy_2 6 rfl rfl)
theorem dX1_goesBy_53 : decode cX1_goesBy 53 = .ok (.iinc 3 1, 3) := dk_132 3 1 (dk_at dksX1_goesBy_2 9 rfl rfl)
theorem dX1_goesBy_56 : decode cX1_goesBy 56 = .ok (.aload_n 0, 1) := dk_42 (dk_at dksX1_goesBy_2 12 rfl rfl)
theorem dX1_goesBy_57 : decode cX1_goesBy 57 = .ok (.invokevirtual 145, 3) := dk_182 0 145 (dk_at dksX1_goesBy_2 13 rfl rfl)
theorem dX1_goesBy_60 : decode cX1_goesBy 60 = .ok (.istore 4, 2) := dk_54 4 (dk_at dksX1_goesBy_2 16 rfl rfl)
theorem dX1_goesBy_62 : decode cX1_goesBy 62 = .ok (.aload_n 0, 1) := dk_42 (dk_at dksX1_goesBy_2 18 rfl rfl)
theorem dX1_goesBy_63 : decode cX1_goesBy 63 = .ok (.iload_n 2, 1) := dk_28 (dk_at dksX1_goesBy_2 19 rfl rfl)
theorem dX1_goesBy_64 : decode cX1_goesBy 64 = .ok (.iload_n 3, 1) := dk_29 (dk_at dksX1_goesBy_2 20 rfl rfl)
theorem dX1_goesBy_65 : decode cX1_goesBy 65 = .ok (.iload 4, 2) := dk_21 4 (dk_at dksX1_goesBy_2 21 rfl rfl)
theorem dX1_goesBy_67 : decode cX1_goesBy 67 = .ok (.invokevirtual 148, 3) := dk_182 0 148 (dk_at dksX1_goesBy_3 0 rfl rfl)
theorem dX1_goesBy_70 : decode cX1_goesBy 70 = .ok (.istore 5, 2) := dk_54 5 (dk_at dksX1_goesBy_3 3 rfl rfl)
theorem dX1_goesBy_72 : decode cX1_goesBy 72 = .ok (.iinc 1 1, 3) := dk_132 1 1 (dk_at dksX1_goesBy_3 5 rfl rfl)
theorem dX1_goesBy_75 : decode cX1_goesBy 75 = .ok (.goto (-73), 3) := dk_167 255 183 (dk_at dksX1_goesBy_3 8 rfl rfl)
theorem dX1_goesBy_78 : decode cX1_goesBy 78 = .ok (.iconst 0, 1) := dk_3 (dk_at dksX1_goesBy_3 11 rfl rfl)
theorem dX1_goesBy_79 : decode cX1_goesBy 79 = .ok (.istore_n 1, 1) := dk_60 (dk_at dksX1_goesBy_3 12 rfl rfl)
theorem dX1_goesBy_80 : decode cX1_goesBy 80 = .ok (.iload_n 1, 1) := dk_27 (dk_at dksX1_goesBy_3 13 rfl rfl)
theorem dX1_goesBy_81 : decode cX1_goesBy 81 = .ok (.aload_n 0, 1) := dk_42 (dk_at dksX1_goesBy_3 14 rfl rfl)
theorem dX1_goesBy_82 : decode cX1_goesBy 82 = .ok (.getfield 45, 3) := dk_180 0 45 (dk_at dksX1_goesBy_3 15 rfl rfl)
theorem dX1_goesBy_85 : decode cX1_goesBy 85 = .ok (.if_icmp .ge 78, 3) := dk_162 0 78 (dk_at dksX1_goesBy_3 18 rfl rfl)
theorem dX1_goesBy_88 : decode cX1_goesBy 88 = .ok (.aload_n 0, 1) := dk_42 (dk_at dksX1_goesBy_3 21 rfl rfl)
theorem dX1_goesBy_89 : decode cX1_goesBy 89 = .ok (.getfield 17, 3) := dk_180 0 17 (dk_at dksX1_goesBy_4 0 rfl rfl)
theorem dX1_goesBy_92 : decode cX1_goesBy 92 = .ok (.iload_n 1, 1) := dk_27 (dk_at dksX1_goesBy_4 3 rfl rfl)
theorem dX1_goesBy_93 : decode cX1_goesBy 93 = .ok (.aaload, 1) := dk_50 (dk_at dksX1_goesBy_4 4 rfl rfl)
theorem dX1_goesBy_94 : decode cX1_goesBy 94 = .ok (.getfield 96, 3) := dk_180 0 96 (dk_at dksX1_goesBy_4 5 rfl rfl)
theorem dX1_goesBy_97 : decode cX1_goesBy 97 = .ok (.astore_n 2, 1) := dk_77 (dk_at dksX1_goesBy_4 8 rfl rfl)
theorem dX1_goesBy_98 : decode cX1_goesBy 98 = .ok (.aload_n 2, 1) := dk_44 (dk_at dksX1_goesBy_4 9 rfl rfl)
theorem dX1_goesBy_99 : decode cX1_goesBy 99 = .ok (.bipush 6, 2) := dk_16 6 (dk_at dksX1_goesBy_4 10 rfl rfl)
theorem dX1_goesBy_101 : decode cX1_goesBy 101 = .ok (.iconst 0, 1) := dk_3 (dk_at dksX1_goesBy_4 12 rfl rfl)
theorem dX1_goesBy_102 : decode cX1_goesBy 102 = .ok (.aload_n 2, 1) := dk_44 (dk_at dksX1_goesBy_4 13 rfl rfl)
theorem dX1_goesBy_103 : decode cX1_goesBy 103 = .ok (.bipush 6, 2) := dk_16 6 (dk_at dksX1_goesBy_4 14 rfl rfl)
theorem dX1_goesBy_105 : decode cX1_goesBy 105 = .ok (.iaload, 1) := dk_46 (dk_at dksX1_goesBy_4 16 rfl rfl)
theorem dX1_goesBy_106 : decode cX1_goesBy 106 = .ok (.iconst 1, 1) := dk_4 (dk_at dksX1_goesBy_4 17 rfl rfl)
theorem dX1_goesBy_107 : decode cX1_goesBy 107 = .ok (.isub, 1) := dk_100 (dk_at dksX1_goesBy_4 18 rfl rfl)
theorem dX1_goesBy_108 : decode cX1_goesBy 108 = .ok (.invokestatic 152, 3) := dk_184 0 152 (dk_at dksX1_goesBy_4 19 rfl rfl)
theorem dX1_goesBy_111 : decode cX1_goesBy 111 = .ok (.iastore, 1) := dk_79 (dk_at dksX1_goesBy_4 22 rfl rfl)
theorem dX1_goesBy_112 : decode cX1_goesBy 112 = .ok (.aload_n 2, 1) := dk_44 (dk_at dksX1_goesBy_4 23 rfl rfl)
theorem dX1_goesBy_113 : decode cX1_goesBy 113 = .ok (.iconst 1, 1) := dk_4 (dk_at dksX1_goesBy_5 0 rfl rfl)
theorem dX1_goesBy_114 : decode cX1_goesBy 114 = .ok (.bipush 99, 2) := dk_16 99 (dk_at dksX1_goesBy_5 1 rfl rfl)
theorem dX1_goesBy_116 : decode cX1_goesBy 116 = .ok (.aload_n 2, 1) := dk_44 (dk_at dksX1_goesBy_5 3 rfl rfl)
theorem dX1_goesBy_117 : decode cX1_goesBy 117 = .ok (.iconst 1, 1) := dk_4 (dk_at dksX1_goesBy_5 4 rfl rfl)
theorem dX1_goesBy_118 : decode cX1_goesBy 118 = .ok (.iaload, 1) := dk_46 (dk_at dksX1_goesBy_5 5 rfl rfl)
theorem dX1_goesBy_119 : decode cX1_goesBy 119 = .ok (.iconst 1, 1) := dk_4 (dk_at dksX1_goesBy_5 6 rfl rfl)
theorem dX1_goesBy_120 : decode cX1_goesBy 120 = .ok (.iadd, 1) := dk_96 (dk_at dksX1_goesBy_5 7 rfl rfl)
theorem dX1_goesBy_121 : decode cX1_goesBy 121 = .ok (.invokestatic 158, 3) := dk_184 0 158 (dk_at dksX1_goesBy_5 8 rfl rfl)
theorem dX1_goesBy_124 : decode cX1_goesBy 124 = .ok (.iastore, 1) := dk_79 (dk_at dksX1_goesBy_5 11 rfl rfl)
theorem dX1_goesBy_125 : decode cX1_goesBy 125 = .ok (.aload_n 0, 1) := dk_42 (dk_at dksX1_goesBy_5 12 rfl rfl)
theorem dX1_goesBy_126 : decode cX1_goesBy 126 = .ok (.getfield 27, 3) := dk_180 0 27 (dk_at dksX1_goesBy_5 13 rfl rfl)
theorem dX1_goesBy_129 : decode cX1_goesBy 129 = .ok (.bipush 7, 2) := dk_16 7 (dk_at dksX1_goesBy_5 16 rfl rfl)
theorem dX1_goesBy_131 : decode cX1_goesBy 131 = .ok (.iaload, 1) := dk_46 (dk_at dksX1_goesBy_5 18 rfl rfl)
theorem dX1_goesBy_132 : decode cX1_goesBy 132 = .ok (.ifCond .le 25, 3) := dk_158 0 25 (dk_at dksX1_goesBy_5 19 rfl rfl)
theorem dX1_goesBy_135 : decode cX1_goesBy 135 = .ok (.aload_n 2, 1) := dk_44 (dk_at dksX1_goesBy_5 22 rfl rfl)
theorem dX1_goesBy_136 : decode cX1_goesBy 136 = .ok (.iconst 1, 1) := dk_4 (dk_at dksX1_goesBy_5 23 rfl rfl)
theorem dX1_goesBy_137 : decode cX1_goesBy 137 = .ok (.iaload, 1) := dk_46 (dk_at dksX1_goesBy_6 0 rfl rfl)
theorem dX1_goesBy_138 : decode cX1_goesBy 138 = .ok (.aload_n 0, 1) := dk_42 (dk_at dksX1_goesBy_6 1 rfl rfl)
theorem dX1_goesBy_139 : decode cX1_goesBy 139 = .ok (.getfield 27, 3) := dk_180 0 27 (dk_at dksX1_goesBy_6 2 rfl rfl)
theorem dX1_goesBy_142 : decode cX1_goesBy 142 = .ok (.bipush 7, 2) := dk_16 7 (dk_at dksX1_goesBy_6 5 rfl rfl)
theorem dX1_goesBy_144 : decode cX1_goesBy 144 = .ok (.iaload, 1) := dk_46 (dk_at dksX1_goesBy_6 7 rfl rfl)
theorem dX1_goesBy_145 : decode cX1_goesBy 145 = .ok (.if_icmp .ne 12, 3) := dk_160 0 12 (dk_at dksX1_goesBy_6 8 rfl rfl)
theorem dX1_goesBy_148 : decode cX1_goesBy 148 = .ok (.aload_n 0, 1) := dk_42 (dk_at dksX1_goesBy_6 11 rfl rfl)
theorem dX1_goesBy_149 : decode cX1_goesBy 149 = .ok (.getfield 17, 3) := dk_180 0 17 (dk_at dksX1_goesBy_6 12 rfl rfl)
theorem dX1_goesBy_152 : decode cX1_goesBy 152 = .ok (.iload_n 1, 1) := dk_27 (dk_at dksX1_goesBy_6 15 rfl rfl)
theorem dX1_goesBy_153 : decode cX1_goesBy 153 = .ok (.aaload, 1) := dk_50 (dk_at dksX1_goesBy_6 16 rfl rfl)
theorem dX1_goesBy_154 : decode cX1_goesBy 154 = .ok (.invokevirtual 161, 3) := dk_182 0 161 (dk_at dksX1_goesBy_6 17 rfl rfl)
theorem dX1_goesBy_157 : decode cX1_goesBy 157 = .ok (.iinc 1 1, 3) := dk_132 1 1 (dk_at dksX1_goesBy_6 20 rfl rfl)
theorem dX1_goesBy_160 : decode cX1_goesBy 160 = .ok (.goto (-80), 3) := dk_167 255 176 (dk_at dksX1_goesBy_7 0 rfl rfl)
theorem dX1_goesBy_163 : decode cX1_goesBy 163 = .ok (.aload_n 0, 1) := dk_42 (dk_at dksX1_goesBy_7 3 rfl rfl)
theorem dX1_goesBy_164 : decode cX1_goesBy 164 = .ok (.dup, 1) := dk_89 (dk_at dksX1_goesBy_7 4 rfl rfl)
theorem dX1_goesBy_165 : decode cX1_goesBy 165 = .ok (.getfield 52, 3) := dk_180 0 52 (dk_at dksX1_goesBy_7 5 rfl rfl)
theorem dX1_goesBy_168 : decode cX1_goesBy 168 = .ok (.iconst 1, 1) := dk_4 (dk_at dksX1_goesBy_7 8 rfl rfl)
theorem dX1_goesBy_169 : decode cX1_goesBy 169 = .ok (.iadd, 1) := dk_96 (dk_at dksX1_goesBy_7 9 rfl rfl)
theorem dX1_goesBy_170 : decode cX1_goesBy 170 = .ok (.putfield 52, 3) := dk_181 0 52 (dk_at dksX1_goesBy_7 10 rfl rfl)
theorem dX1_goesBy_173 : decode cX1_goesBy 173 = .ok (.return_, 1) := dk_177 (dk_at dksX1_goesBy_7 13 rfl rfl)
abbrev cX1_weights : ByteArray := prog_15_method_4_code
def yX1_weights : MethodName := ⟨RX1, "weights", "()I"⟩
def dkwX1_weights_1 : List UInt8 := [132, 2, 1, 167, 255, 235, 27, 172]
abbrev dktX1_weights_1 : List UInt8 := dkwX1_weights_1 ++ []
def dkwX1_weights_0 : List UInt8 := [3, 60, 4, 61, 28, 16, 12, 163, 0, 21, 27, 42, 180, 0, 27, 16, 10, 28, 96, 46, 96, 60]
abbrev dktX1_weights_0 : List UInt8 := dkwX1_weights_0 ++ dktX1_weights_1
theorem dksX1_weights_0 : cX1_weights.data.toList.drop 0 = dktX1_weights_0 := by decide +kernel
theorem dksX1_weights_1 : cX1_weights.data.toList.drop 22 = dktX1_weights_1 := dk_seg dksX1_weights_0 22 rfl rfl
theorem dX1_weights_0 : decode cX1_weights 0 = .ok (.iconst 0, 1) := dk_3 (dk_at dksX1_weights_0 0 rfl rfl)
theorem dX1_weights_1 : decode cX1_weights 1 = .ok (.istore_n 1, 1) := dk_60 (dk_at dksX1_weights_0 1 rfl rfl)
theorem dX1_weights_2 : decode cX1_weights 2 = .ok (.iconst 1, 1) := dk_4 (dk_at dksX1_weights_0 2 rfl rfl)
theorem dX1_weights_3 : decode cX1_weights 3 = .ok (.istore_n 2, 1) := dk_61 (dk_at dksX1_weights_0 3 rfl rfl)
theorem dX1_weights_4 : decode cX1_weights 4 = .ok (.iload_n 2, 1) := dk_28 (dk_at dksX1_weights_0 4 rfl rfl)
theorem dX1_weights_5 : decode cX1_weights 5 = .ok (.bipush 12, 2) := dk_16 12 (dk_at dksX1_weights_0 5 rfl rfl)
theorem dX1_weights_7 : decode cX1_weights 7 = .ok (.if_icmp .gt 21, 3) := dk_163 0 21 (dk_at dksX1_weights_0 7 rfl rfl)
theorem dX1_weights_10 : decode cX1_weights 10 = .ok (.iload_n 1, 1) := dk_27 (dk_at dksX1_weights_0 10 rfl rfl)
theorem dX1_weights_11 : decode cX1_weights 11 = .ok (.aload_n 0, 1) := dk_42 (dk_at dksX1_weights_0 11 rfl rfl)
theorem dX1_weights_12 : decode cX1_weights 12 = .ok (.getfield 27, 3) := dk_180 0 27 (dk_at dksX1_weights_0 12 rfl rfl)
theorem dX1_weights_15 : decode cX1_weights 15 = .ok (.bipush 10, 2) := dk_16 10 (dk_at dksX1_weights_0 15 rfl rfl)
theorem dX1_weights_17 : decode cX1_weights 17 = .ok (.iload_n 2, 1) := dk_28 (dk_at dksX1_weights_0 17 rfl rfl)
theorem dX1_weights_18 : decode cX1_weights 18 = .ok (.iadd, 1) := dk_96 (dk_at dksX1_weights_0 18 rfl rfl)
theorem dX1_weights_19 : decode cX1_weights 19 = .ok (.iaload, 1) := dk_46 (dk_at dksX1_weights_0 19 rfl rfl)
theorem dX1_weights_20 : decode cX1_weights 20 = .ok (.iadd, 1) := dk_96 (dk_at dksX1_weights_0 20 rfl rfl)
theorem dX1_weights_21 : decode cX1_weights 21 = .ok (.istore_n 1, 1) := dk_60 (dk_at dksX1_weights_0 21 rfl rfl)
theorem dX1_weights_22 : decode cX1_weights 22 = .ok (.iinc 2 1, 3) := dk_132 2 1 (dk_at dksX1_weights_1 0 rfl rfl)
theorem dX1_weights_25 : decode cX1_weights 25 = .ok (.goto (-21), 3) := dk_167 255 235 (dk_at dksX1_weights_1 3 rfl rfl)
theorem dX1_weights_28 : decode cX1_weights 28 = .ok (.iload_n 1, 1) := dk_27 (dk_at dksX1_weights_1 6 rfl rfl)
theorem dX1_weights_29 : decode cX1_weights 29 = .ok (.ireturn, 1) := dk_172 (dk_at dksX1_weights_1 7 rfl rfl)
abbrev cX1_drawnSize : ByteArray := prog_15_method_13_code
def yX1_drawnSize : MethodName := ⟨RX1, "drawnSize", "()I"⟩
def dkwX1_drawnSize_1 : List UInt8 := [27, 42, 180, 0, 27, 16, 10, 28, 96, 46, 100, 60, 132, 2, 1, 167, 255, 228, 28, 172]
abbrev dktX1_drawnSize_1 : List UInt8 := dkwX1_drawnSize_1 ++ []
def dkwX1_drawnSize_0 : List UInt8 := [42, 42, 182, 0, 142, 182, 0, 106, 60, 4, 61, 27, 42, 180, 0, 27, 16, 10, 28, 96, 46, 161, 0, 21]
abbrev dktX1_drawnSize_0 : List UInt8 := dkwX1_drawnSize_0 ++ dktX1_drawnSize_1
theorem dksX1_drawnSize_0 : cX1_drawnSize.data.toList.drop 0 = dktX1_drawnSize_0 := by decide +kernel
theorem dksX1_drawnSize_1 : cX1_drawnSize.data.toList.drop 24 = dktX1_drawnSize_1 := dk_seg dksX1_drawnSize_0 24 rfl rfl
theorem dX1_drawnSize_0 : decode cX1_drawnSize 0 = .ok (.aload_n 0, 1) := dk_42 (dk_at dksX1_drawnSize_0 0 rfl rfl)
theorem dX1_drawnSize_1 : decode cX1_drawnSize 1 = .ok (.aload_n 0, 1) := dk_42 (dk_at dksX1_drawnSize_0 1 rfl rfl)
theorem dX1_drawnSize_2 : decode cX1_drawnSize 2 = .ok (.invokevirtual 142, 3) := dk_182 0 142 (dk_at dksX1_drawnSize_0 2 rfl rfl)
theorem dX1_drawnSize_5 : decode cX1_drawnSize 5 = .ok (.invokevirtual 106, 3) := dk_182 0 106 (dk_at dksX1_drawnSize_0 5 rfl rfl)
theorem dX1_drawnSize_8 : decode cX1_drawnSize 8 = .ok (.istore_n 1, 1) := dk_60 (dk_at dksX1_drawnSize_0 8 rfl rfl)
theorem dX1_drawnSize_9 : decode cX1_drawnSize 9 = .ok (.iconst 1, 1) := dk_4 (dk_at dksX1_drawnSize_0 9 rfl rfl)
theorem dX1_drawnSize_10 : decode cX1_drawnSize 10 = .ok (.istore_n 2, 1) := dk_61 (dk_at dksX1_drawnSize_0 10 rfl rfl)
theorem dX1_drawnSize_11 : decode cX1_drawnSize 11 = .ok (.iload_n 1, 1) := dk_27 (dk_at dksX1_drawnSize_0 11 rfl rfl)
theorem dX1_drawnSize_12 : decode cX1_drawnSize 12 = .ok (.aload_n 0, 1) := dk_42 (dk_at dksX1_drawnSize_0 12 rfl rfl)
theorem dX1_drawnSize_13 : decode cX1_drawnSize 13 = .ok (.getfield 27, 3) := dk_180 0 27 (dk_at dksX1_drawnSize_0 13 rfl rfl)
theorem dX1_drawnSize_16 : decode cX1_drawnSize 16 = .ok (.bipush 10, 2) := dk_16 10 (dk_at dksX1_drawnSize_0 16 rfl rfl)
theorem dX1_drawnSize_18 : decode cX1_drawnSize 18 = .ok (.iload_n 2, 1) := dk_28 (dk_at dksX1_drawnSize_0 18 rfl rfl)
theorem dX1_drawnSize_19 : decode cX1_drawnSize 19 = .ok (.iadd, 1) := dk_96 (dk_at dksX1_drawnSize_0 19 rfl rfl)
theorem dX1_drawnSize_20 : decode cX1_drawnSize 20 = .ok (.iaload, 1) := dk_46 (dk_at dksX1_drawnSize_0 20 rfl rfl)
theorem dX1_drawnSize_21 : decode cX1_drawnSize 21 = .ok (.if_icmp .lt 21, 3) := dk_161 0 21 (dk_at dksX1_drawnSize_0 21 rfl rfl)
theorem dX1_drawnSize_24 : decode cX1_drawnSize 24 = .ok (.iload_n 1, 1) := dk_27 (dk_at dksX1_drawnSize_1 0 rfl rfl)
theorem dX1_drawnSize_25 : decode cX1_drawnSize 25 = .ok (.aload_n 0, 1) := dk_42 (dk_at dksX1_drawnSize_1 1 rfl rfl)
theorem dX1_drawnSize_26 : decode cX1_drawnSize 26 = .ok (.getfield 27, 3) := dk_180 0 27 (dk_at dksX1_drawnSize_1 2 rfl rfl)
theorem dX1_drawnSize_29 : decode cX1_drawnSize 29 = .ok (.bipush 10, 2) := dk_16 10 (dk_at dksX1_drawnSize_1 5 rfl rfl)
theorem dX1_drawnSize_31 : decode cX1_drawnSize 31 = .ok (.iload_n 2, 1) := dk_28 (dk_at dksX1_drawnSize_1 7 rfl rfl)
theorem dX1_drawnSize_32 : decode cX1_drawnSize 32 = .ok (.iadd, 1) := dk_96 (dk_at dksX1_drawnSize_1 8 rfl rfl)
theorem dX1_drawnSize_33 : decode cX1_drawnSize 33 = .ok (.iaload, 1) := dk_46 (dk_at dksX1_drawnSize_1 9 rfl rfl)
theorem dX1_drawnSize_34 : decode cX1_drawnSize 34 = .ok (.isub, 1) := dk_100 (dk_at dksX1_drawnSize_1 10 rfl rfl)
theorem dX1_drawnSize_35 : decode cX1_drawnSize 35 = .ok (.istore_n 1, 1) := dk_60 (dk_at dksX1_drawnSize_1 11 rfl rfl)
theorem dX1_drawnSize_36 : decode cX1_drawnSize 36 = .ok (.iinc 2 1, 3) := dk_132 2 1 (dk_at dksX1_drawnSize_1 12 rfl rfl)
theorem dX1_drawnSize_39 : decode cX1_drawnSize 39 = .ok (.goto (-28), 3) := dk_167 255 228 (dk_at dksX1_drawnSize_1 15 rfl rfl)
theorem dX1_drawnSize_42 : decode cX1_drawnSize 42 = .ok (.iload_n 2, 1) := dk_28 (dk_at dksX1_drawnSize_1 18 rfl rfl)
theorem dX1_drawnSize_43 : decode cX1_drawnSize 43 = .ok (.ireturn, 1) := dk_172 (dk_at dksX1_drawnSize_1 19 rfl rfl)
abbrev cX1_takes : ByteArray := prog_15_method_2_code
def yX1_takes : MethodName := ⟨RX1, "takes", "(LNotchSticks$Valley;)LNotchSticks$Valley;"⟩
def dkwX1_takes_5 : List UInt8 := [167, 255, 232, 42, 176]
abbrev dktX1_takes_5 : List UInt8 := dkwX1_takes_5 ++ []
def dkwX1_takes_4 : List UInt8 := [42, 180, 0, 27, 190, 162, 0, 21, 42, 180, 0, 27, 28, 43, 180, 0, 27, 28, 46, 79, 132, 2, 1]
abbrev dktX1_takes_4 : List UInt8 := dkwX1_takes_4 ++ dktX1_takes_5
def dkwX1_takes_3 : List UInt8 := [42, 180, 0, 23, 28, 50, 43, 180, 0, 23, 28, 50, 182, 0, 62, 132, 2, 1, 167, 255, 230, 3, 61, 28]
abbrev dktX1_takes_3 : List UInt8 := dkwX1_takes_3 ++ dktX1_takes_4
def dkwX1_takes_2 : List UInt8 := [180, 0, 17, 28, 50, 182, 0, 58, 132, 2, 1, 167, 255, 232, 3, 61, 28, 42, 180, 0, 49, 162, 0, 24]
abbrev dktX1_takes_2 : List UInt8 := dkwX1_takes_2 ++ dktX1_takes_3
def dkwX1_takes_1 : List UInt8 := [42, 43, 180, 0, 55, 181, 0, 55, 3, 61, 28, 16, 12, 162, 0, 24, 42, 180, 0, 17, 28, 50, 43]
abbrev dktX1_takes_1 : List UInt8 := dkwX1_takes_1 ++ dktX1_takes_2
def dkwX1_takes_0 : List UInt8 := [42, 43, 180, 0, 45, 181, 0, 45, 42, 43, 180, 0, 49, 181, 0, 49, 42, 43, 180, 0, 52, 181, 0, 52]
abbrev dktX1_takes_0 : List UInt8 := dkwX1_takes_0 ++ dktX1_takes_1
theorem dksX1_takes_0 : cX1_takes.data.toList.drop 0 = dktX1_takes_0 := by decide +kernel
theorem dksX1_takes_1 : cX1_takes.data.toList.drop 24 = dktX1_takes_1 := dk_seg dksX1_takes_0 24 rfl rfl
theorem dksX1_takes_2 : cX1_takes.data.toList.drop 47 = dktX1_takes_2 := dk_seg dksX1_takes_1 23 rfl rfl
theorem dksX1_takes_3 : cX1_takes.data.toList.drop 71 = dktX1_takes_3 := dk_seg dksX1_takes_2 24 rfl rfl
theorem dksX1_takes_4 : cX1_takes.data.toList.drop 95 = dktX1_takes_4 := dk_seg dksX1_takes_3 24 rfl rfl
theorem dksX1_takes_5 : cX1_takes.data.toList.drop 118 = dktX1_takes_5 := dk_seg dksX1_takes_4 23 rfl rfl
theorem dX1_takes_0 : decode cX1_takes 0 = .ok (.aload_n 0, 1) := dk_42 (dk_at dksX1_takes_0 0 rfl rfl)
theorem dX1_takes_1 : decode cX1_takes 1 = .ok (.aload_n 1, 1) := dk_43 (dk_at dksX1_takes_0 1 rfl rfl)
theorem dX1_takes_2 : decode cX1_takes 2 = .ok (.getfield 45, 3) := dk_180 0 45 (dk_at dksX1_takes_0 2 rfl rfl)
theorem dX1_takes_5 : decode cX1_takes 5 = .ok (.putfield 45, 3) := dk_181 0 45 (dk_at dksX1_takes_0 5 rfl rfl)
theorem dX1_takes_8 : decode cX1_takes 8 = .ok (.aload_n 0, 1) := dk_42 (dk_at dksX1_takes_0 8 rfl rfl)
theorem dX1_takes_9 : decode cX1_takes 9 = .ok (.aload_n 1, 1) := dk_43 (dk_at dksX1_takes_0 9 rfl rfl)
theorem dX1_takes_10 : decode cX1_takes 10 = .ok (.getfield 49, 3) := dk_180 0 49 (dk_at dksX1_takes_0 10 rfl rfl)
theorem dX1_takes_13 : decode cX1_takes 13 = .ok (.putfield 49, 3) := dk_181 0 49 (dk_at dksX1_takes_0 13 rfl rfl)
theorem dX1_takes_16 : decode cX1_takes 16 = .ok (.aload_n 0, 1) := dk_42 (dk_at dksX1_takes_0 16 rfl rfl)
theorem dX1_takes_17 : decode cX1_takes 17 = .ok (.aload_n 1, 1) := dk_43 (dk_at dksX1_takes_0 17 rfl rfl)
theorem dX1_takes_18 : decode cX1_takes 18 = .ok (.getfield 52, 3) := dk_180 0 52 (dk_at dksX1_takes_0 18 rfl rfl)
theorem dX1_takes_21 : decode cX1_takes 21 = .ok (.putfield 52, 3) := dk_181 0 52 (dk_at dksX1_takes_0 21 rfl rfl)
theorem dX1_takes_24 : decode cX1_takes 24 = .ok (.aload_n 0, 1) := dk_42 (dk_at dksX1_takes_1 0 rfl rfl)
theorem dX1_takes_25 : decode cX1_takes 25 = .ok (.aload_n 1, 1) := dk_43 (dk_at dksX1_takes_1 1 rfl rfl)
theorem dX1_takes_26 : decode cX1_takes 26 = .ok (.getfield 55, 3) := dk_180 0 55 (dk_at dksX1_takes_1 2 rfl rfl)
theorem dX1_takes_29 : decode cX1_takes 29 = .ok (.putfield 55, 3) := dk_181 0 55 (dk_at dksX1_takes_1 5 rfl rfl)
theorem dX1_takes_32 : decode cX1_takes 32 = .ok (.iconst 0, 1) := dk_3 (dk_at dksX1_takes_1 8 rfl rfl)
theorem dX1_takes_33 : decode cX1_takes 33 = .ok (.istore_n 2, 1) := dk_61 (dk_at dksX1_takes_1 9 rfl rfl)
theorem dX1_takes_34 : decode cX1_takes 34 = .ok (.iload_n 2, 1) := dk_28 (dk_at dksX1_takes_1 10 rfl rfl)
theorem dX1_takes_35 : decode cX1_takes 35 = .ok (.bipush 12, 2) := dk_16 12 (dk_at dksX1_takes_1 11 rfl rfl)
theorem dX1_takes_37 : decode cX1_takes 37 = .ok (.if_icmp .ge 24, 3) := dk_162 0 24 (dk_at dksX1_takes_1 13 rfl rfl)
theorem dX1_takes_40 : decode cX1_takes 40 = .ok (.aload_n 0, 1) := dk_42 (dk_at dksX1_takes_1 16 rfl rfl)
theorem dX1_takes_41 : decode cX1_takes 41 = .ok (.getfield 17, 3) := dk_180 0 17 (dk_at dksX1_takes_1 17 rfl rfl)
theorem dX1_takes_44 : decode cX1_takes 44 = .ok (.iload_n 2, 1) := dk_28 (dk_at dksX1_takes_1 20 rfl rfl)
theorem dX1_takes_45 : decode cX1_takes 45 = .ok (.aaload, 1) := dk_50 (dk_at dksX1_takes_1 21 rfl rfl)
theorem dX1_takes_46 : decode cX1_takes 46 = .ok (.aload_n 1, 1) := dk_43 (dk_at dksX1_takes_1 22 rfl rfl)
theorem dX1_takes_47 : decode cX1_takes 47 = .ok (.getfield 17, 3) := dk_180 0 17 (dk_at dksX1_takes_2 0 rfl rfl)
theorem dX1_takes_50 : decode cX1_takes 50 = .ok (.iload_n 2, 1) := dk_28 (dk_at dksX1_takes_2 3 rfl rfl)
theorem dX1_takes_51 : decode cX1_takes 51 = .ok (.aaload, 1) := dk_50 (dk_at dksX1_takes_2 4 rfl rfl)
theorem dX1_takes_52 : decode cX1_takes 52 = .ok (.invokevirtual 58, 3) := dk_182 0 58 (dk_at dksX1_takes_2 5 rfl rfl)
theorem dX1_takes_55 : decode cX1_takes 55 = .ok (.iinc 2 1, 3) := dk_132 2 1 (dk_at dksX1_takes_2 8 rfl rfl)
theorem dX1_takes_58 : decode cX1_takes 58 = .ok (.goto (-24), 3) := dk_167 255 232 (dk_at dksX1_takes_2 11 rfl rfl)
theorem dX1_takes_61 : decode cX1_takes 61 = .ok (.iconst 0, 1) := dk_3 (dk_at dksX1_takes_2 14 rfl rfl)
theorem dX1_takes_62 : decode cX1_takes 62 = .ok (.istore_n 2, 1) := dk_61 (dk_at dksX1_takes_2 15 rfl rfl)
theorem dX1_takes_63 : decode cX1_takes 63 = .ok (.iload_n 2, 1) := dk_28 (dk_at dksX1_takes_2 16 rfl rfl)
theorem dX1_takes_64 : decode cX1_takes 64 = .ok (.aload_n 0, 1) := dk_42 (dk_at dksX1_takes_2 17 rfl rfl)
theorem dX1_takes_65 : decode cX1_takes 65 = .ok (.getfield 49, 3) := dk_180 0 49 (dk_at dksX1_takes_2 18 rfl rfl)
theorem dX1_takes_68 : decode cX1_takes 68 = .ok (.if_icmp .ge 24, 3) := dk_162 0 24 (dk_at dksX1_takes_2 21 rfl rfl)
theorem dX1_takes_71 : decode cX1_takes 71 = .ok (.aload_n 0, 1) := dk_42 (dk_at dksX1_takes_3 0 rfl rfl)
theorem dX1_takes_72 : decode cX1_takes 72 = .ok (.getfield 23, 3) := dk_180 0 23 (dk_at dksX1_takes_3 1 rfl rfl)
theorem dX1_takes_75 : decode cX1_takes 75 = .ok (.iload_n 2, 1) := dk_28 (dk_at dksX1_takes_3 4 rfl rfl)
theorem dX1_takes_76 : decode cX1_takes 76 = .ok (.aaload, 1) := dk_50 (dk_at dksX1_takes_3 5 rfl rfl)
theorem dX1_takes_77 : decode cX1_takes 77 = .ok (.aload_n 1, 1) := dk_43 (dk_at dksX1_takes_3 6 rfl rfl)
theorem dX1_takes_78 : decode cX1_takes 78 = .ok (.getfield 23, 3) := dk_180 0 23 (dk_at dksX1_takes_3 7 rfl rfl)
theorem dX1_takes_81 : decode cX1_takes 81 = .ok (.iload_n 2, 1) := dk_28 (dk_at dksX1_takes_3 10 rfl rfl)
theorem dX1_takes_82 : decode cX1_takes 82 = .ok (.aaload, 1) := dk_50 (dk_at dksX1_takes_3 11 rfl rfl)
theorem dX1_takes_83 : decode cX1_takes 83 = .ok (.invokevirtual 62, 3) := dk_182 0 62 (dk_at dksX1_takes_3 12 rfl rfl)
theorem dX1_takes_86 : decode cX1_takes 86 = .ok (.iinc 2 1, 3) := dk_132 2 1 (dk_at dksX1_takes_3 15 rfl rfl)
theorem dX1_takes_89 : decode cX1_takes 89 = .ok (.goto (-26), 3) := dk_167 255 230 (dk_at dksX1_takes_3 18 rfl rfl)
theorem dX1_takes_92 : decode cX1_takes 92 = .ok (.iconst 0, 1) := dk_3 (dk_at dksX1_takes_3 21 rfl rfl)
theorem dX1_takes_93 : decode cX1_takes 93 = .ok (.istore_n 2, 1) := dk_61 (dk_at dksX1_takes_3 22 rfl rfl)
theorem dX1_takes_94 : decode cX1_takes 94 = .ok (.iload_n 2, 1) := dk_28 (dk_at dksX1_takes_3 23 rfl rfl)
theorem dX1_takes_95 : decode cX1_takes 95 = .ok (.aload_n 0, 1) := dk_42 (dk_at dksX1_takes_4 0 rfl rfl)
theorem dX1_takes_96 : decode cX1_takes 96 = .ok (.getfield 27, 3) := dk_180 0 27 (dk_at dksX1_takes_4 1 rfl rfl)
theorem dX1_takes_99 : decode cX1_takes 99 = .ok (.arraylength, 1) := dk_190 (dk_at dksX1_takes_4 4 rfl rfl)
theorem dX1_takes_100 : decode cX1_takes 100 = .ok (.if_icmp .ge 21, 3) := dk_162 0 21 (dk_at dksX1_takes_4 5 rfl rfl)
theorem dX1_takes_103 : decode cX1_takes 103 = .ok (.aload_n 0, 1) := dk_42 (dk_at dksX1_takes_4 8 rfl rfl)
theorem dX1_takes_104 : decode cX1_takes 104 = .ok (.getfield 27, 3) := dk_180 0 27 (dk_at dksX1_takes_4 9 rfl rfl)
theorem dX1_takes_107 : decode cX1_takes 107 = .ok (.iload_n 2, 1) := dk_28 (dk_at dksX1_takes_4 12 rfl rfl)
theorem dX1_takes_108 : decode cX1_takes 108 = .ok (.aload_n 1, 1) := dk_43 (dk_at dksX1_takes_4 13 rfl rfl)
theorem dX1_takes_109 : decode cX1_takes 109 = .ok (.getfield 27, 3) := dk_180 0 27 (dk_at dksX1_takes_4 14 rfl rfl)
theorem dX1_takes_112 : decode cX1_takes 112 = .ok (.iload_n 2, 1) := dk_28 (dk_at dksX1_takes_4 17 rfl rfl)
theorem dX1_takes_113 : decode cX1_takes 113 = .ok (.iaload, 1) := dk_46 (dk_at dksX1_takes_4 18 rfl rfl)
theorem dX1_takes_114 : decode cX1_takes 114 = .ok (.iastore, 1) := dk_79 (dk_at dksX1_takes_4 19 rfl rfl)
theorem dX1_takes_115 : decode cX1_takes 115 = .ok (.iinc 2 1, 3) := dk_132 2 1 (dk_at dksX1_takes_4 20 rfl rfl)
theorem dX1_takes_118 : decode cX1_takes 118 = .ok (.goto (-24), 3) := dk_167 255 232 (dk_at dksX1_takes_5 0 rfl rfl)
theorem dX1_takes_121 : decode cX1_takes 121 = .ok (.aload_n 0, 1) := dk_42 (dk_at dksX1_takes_5 3 rfl rfl)
theorem dX1_takes_122 : decode cX1_takes 122 = .ok (.areturn, 1) := dk_176 (dk_at dksX1_takes_5 4 rfl rfl)
abbrev cX1_sum : ByteArray := prog_15_method_15_code
def yX1_sum : MethodName := ⟨RX1, "sum", "(I)I"⟩
def dkwX1_sum_1 : List UInt8 := [96, 61, 132, 3, 1, 167, 255, 231, 28, 172]
abbrev dktX1_sum_1 : List UInt8 := dkwX1_sum_1 ++ []
def dkwX1_sum_0 : List UInt8 := [3, 61, 3, 62, 29, 42, 180, 0, 45, 162, 0, 23, 28, 42, 180, 0, 17, 29, 50, 180, 0, 96, 27, 46]
abbrev dktX1_sum_0 : List UInt8 := dkwX1_sum_0 ++ dktX1_sum_1
theorem dksX1_sum_0 : cX1_sum.data.toList.drop 0 = dktX1_sum_0 := by decide +kernel
theorem dksX1_sum_1 : cX1_sum.data.toList.drop 24 = dktX1_sum_1 := dk_seg dksX1_sum_0 24 rfl rfl
theorem dX1_sum_0 : decode cX1_sum 0 = .ok (.iconst 0, 1) := dk_3 (dk_at dksX1_sum_0 0 rfl rfl)
theorem dX1_sum_1 : decode cX1_sum 1 = .ok (.istore_n 2, 1) := dk_61 (dk_at dksX1_sum_0 1 rfl rfl)
theorem dX1_sum_2 : decode cX1_sum 2 = .ok (.iconst 0, 1) := dk_3 (dk_at dksX1_sum_0 2 rfl rfl)
theorem dX1_sum_3 : decode cX1_sum 3 = .ok (.istore_n 3, 1) := dk_62 (dk_at dksX1_sum_0 3 rfl rfl)
theorem dX1_sum_4 : decode cX1_sum 4 = .ok (.iload_n 3, 1) := dk_29 (dk_at dksX1_sum_0 4 rfl rfl)
theorem dX1_sum_5 : decode cX1_sum 5 = .ok (.aload_n 0, 1) := dk_42 (dk_at dksX1_sum_0 5 rfl rfl)
theorem dX1_sum_6 : decode cX1_sum 6 = .ok (.getfield 45, 3) := dk_180 0 45 (dk_at dksX1_sum_0 6 rfl rfl)
theorem dX1_sum_9 : decode cX1_sum 9 = .ok (.if_icmp .ge 23, 3) := dk_162 0 23 (dk_at dksX1_sum_0 9 rfl rfl)
theorem dX1_sum_12 : decode cX1_sum 12 = .ok (.iload_n 2, 1) := dk_28 (dk_at dksX1_sum_0 12 rfl rfl)
theorem dX1_sum_13 : decode cX1_sum 13 = .ok (.aload_n 0, 1) := dk_42 (dk_at dksX1_sum_0 13 rfl rfl)
theorem dX1_sum_14 : decode cX1_sum 14 = .ok (.getfield 17, 3) := dk_180 0 17 (dk_at dksX1_sum_0 14 rfl rfl)
theorem dX1_sum_17 : decode cX1_sum 17 = .ok (.iload_n 3, 1) := dk_29 (dk_at dksX1_sum_0 17 rfl rfl)
theorem dX1_sum_18 : decode cX1_sum 18 = .ok (.aaload, 1) := dk_50 (dk_at dksX1_sum_0 18 rfl rfl)
theorem dX1_sum_19 : decode cX1_sum 19 = .ok (.getfield 96, 3) := dk_180 0 96 (dk_at dksX1_sum_0 19 rfl rfl)
theorem dX1_sum_22 : decode cX1_sum 22 = .ok (.iload_n 1, 1) := dk_27 (dk_at dksX1_sum_0 22 rfl rfl)
theorem dX1_sum_23 : decode cX1_sum 23 = .ok (.iaload, 1) := dk_46 (dk_at dksX1_sum_0 23 rfl rfl)
theorem dX1_sum_24 : decode cX1_sum 24 = .ok (.iadd, 1) := dk_96 (dk_at dksX1_sum_1 0 rfl rfl)
theorem dX1_sum_25 : decode cX1_sum 25 = .ok (.istore_n 2, 1) := dk_61 (dk_at dksX1_sum_1 1 rfl rfl)
theorem dX1_sum_26 : decode cX1_sum 26 = .ok (.iinc 3 1, 3) := dk_132 3 1 (dk_at dksX1_sum_1 2 rfl rfl)
theorem dX1_sum_29 : decode cX1_sum 29 = .ok (.goto (-25), 3) := dk_167 255 231 (dk_at dksX1_sum_1 5 rfl rfl)
theorem dX1_sum_32 : decode cX1_sum 32 = .ok (.iload_n 2, 1) := dk_28 (dk_at dksX1_sum_1 8 rfl rfl)
theorem dX1_sum_33 : decode cX1_sum 33 = .ok (.ireturn, 1) := dk_172 (dk_at dksX1_sum_1 9 rfl rfl)
abbrev cX1_broken : ByteArray := prog_15_method_16_code
def yX1_broken : MethodName := ⟨RX1, "broken", "()I"⟩
def dkwX1_broken_2 : List UInt8 := [132, 2, 1, 167, 255, 211, 27, 172]
abbrev dktX1_broken_2 : List UInt8 := dkwX1_broken_2 ++ []
def dkwX1_broken_1 : List UInt8 := [28, 50, 29, 182, 0, 164, 158, 0, 7, 4, 167, 0, 4, 3, 96, 60, 132, 3, 1, 167, 255, 227]
abbrev dktX1_broken_1 : List UInt8 := dkwX1_broken_1 ++ dktX1_broken_2
def dkwX1_broken_0 : List UInt8 := [3, 60, 3, 61, 28, 42, 180, 0, 49, 162, 0, 43, 3, 62, 29, 5, 162, 0, 30, 27, 42, 180, 0, 23]
abbrev dktX1_broken_0 : List UInt8 := dkwX1_broken_0 ++ dktX1_broken_1
theorem dksX1_broken_0 : cX1_broken.data.toList.drop 0 = dktX1_broken_0 := by decide +kernel
theorem dksX1_broken_1 : cX1_broken.data.toList.drop 24 = dktX1_broken_1 := dk_seg dksX1_broken_0 24 rfl rfl
theorem dksX1_broken_2 : cX1_broken.data.toList.drop 46 = dktX1_broken_2 := dk_seg dksX1_broken_1 22 rfl rfl
theorem dX1_broken_0 : decode cX1_broken 0 = .ok (.iconst 0, 1) := dk_3 (dk_at dksX1_broken_0 0 rfl rfl)
theorem dX1_broken_1 : decode cX1_broken 1 = .ok (.istore_n 1, 1) := dk_60 (dk_at dksX1_broken_0 1 rfl rfl)
theorem dX1_broken_2 : decode cX1_broken 2 = .ok (.iconst 0, 1) := dk_3 (dk_at dksX1_broken_0 2 rfl rfl)
theorem dX1_broken_3 : decode cX1_broken 3 = .ok (.istore_n 2, 1) := dk_61 (dk_at dksX1_broken_0 3 rfl rfl)
theorem dX1_broken_4 : decode cX1_broken 4 = .ok (.iload_n 2, 1) := dk_28 (dk_at dksX1_broken_0 4 rfl rfl)
theorem dX1_broken_5 : decode cX1_broken 5 = .ok (.aload_n 0, 1) := dk_42 (dk_at dksX1_broken_0 5 rfl rfl)
theorem dX1_broken_6 : decode cX1_broken 6 = .ok (.getfield 49, 3) := dk_180 0 49 (dk_at dksX1_broken_0 6 rfl rfl)
theorem dX1_broken_9 : decode cX1_broken 9 = .ok (.if_icmp .ge 43, 3) := dk_162 0 43 (dk_at dksX1_broken_0 9 rfl rfl)
theorem dX1_broken_12 : decode cX1_broken 12 = .ok (.iconst 0, 1) := dk_3 (dk_at dksX1_broken_0 12 rfl rfl)
theorem dX1_broken_13 : decode cX1_broken 13 = .ok (.istore_n 3, 1) := dk_62 (dk_at dksX1_broken_0 13 rfl rfl)
theorem dX1_broken_14 : decode cX1_broken 14 = .ok (.iload_n 3, 1) := dk_29 (dk_at dksX1_broken_0 14 rfl rfl)
theorem dX1_broken_15 : decode cX1_broken 15 = .ok (.iconst 2, 1) := dk_5 (dk_at dksX1_broken_0 15 rfl rfl)
theorem dX1_broken_16 : decode cX1_broken 16 = .ok (.if_icmp .ge 30, 3) := dk_162 0 30 (dk_at dksX1_broken_0 16 rfl rfl)
theorem dX1_broken_19 : decode cX1_broken 19 = .ok (.iload_n 1, 1) := dk_27 (dk_at dksX1_broken_0 19 rfl rfl)
theorem dX1_broken_20 : decode cX1_broken 20 = .ok (.aload_n 0, 1) := dk_42 (dk_at dksX1_broken_0 20 rfl rfl)
theorem dX1_broken_21 : decode cX1_broken 21 = .ok (.getfield 23, 3) := dk_180 0 23 (dk_at dksX1_broken_0 21 rfl rfl)
theorem dX1_broken_24 : decode cX1_broken 24 = .ok (.iload_n 2, 1) := dk_28 (dk_at dksX1_broken_1 0 rfl rfl)
theorem dX1_broken_25 : decode cX1_broken 25 = .ok (.aaload, 1) := dk_50 (dk_at dksX1_broken_1 1 rfl rfl)
theorem dX1_broken_26 : decode cX1_broken 26 = .ok (.iload_n 3, 1) := dk_29 (dk_at dksX1_broken_1 2 rfl rfl)
theorem dX1_broken_27 : decode cX1_broken 27 = .ok (.invokevirtual 164, 3) := dk_182 0 164 (dk_at dksX1_broken_1 3 rfl rfl)
theorem dX1_broken_30 : decode cX1_broken 30 = .ok (.ifCond .le 7, 3) := dk_158 0 7 (dk_at dksX1_broken_1 6 rfl rfl)
theorem dX1_broken_33 : decode cX1_broken 33 = .ok (.iconst 1, 1) := dk_4 (dk_at dksX1_broken_1 9 rfl rfl)
theorem dX1_broken_34 : decode cX1_broken 34 = .ok (.goto 4, 3) := dk_167 0 4 (dk_at dksX1_broken_1 10 rfl rfl)
theorem dX1_broken_37 : decode cX1_broken 37 = .ok (.iconst 0, 1) := dk_3 (dk_at dksX1_broken_1 13 rfl rfl)
theorem dX1_broken_38 : decode cX1_broken 38 = .ok (.iadd, 1) := dk_96 (dk_at dksX1_broken_1 14 rfl rfl)
theorem dX1_broken_39 : decode cX1_broken 39 = .ok (.istore_n 1, 1) := dk_60 (dk_at dksX1_broken_1 15 rfl rfl)
theorem dX1_broken_40 : decode cX1_broken 40 = .ok (.iinc 3 1, 3) := dk_132 3 1 (dk_at dksX1_broken_1 16 rfl rfl)
theorem dX1_broken_43 : decode cX1_broken 43 = .ok (.goto (-29), 3) := dk_167 255 227 (dk_at dksX1_broken_1 19 rfl rfl)
theorem dX1_broken_46 : decode cX1_broken 46 = .ok (.iinc 2 1, 3) := dk_132 2 1 (dk_at dksX1_broken_2 0 rfl rfl)
theorem dX1_broken_49 : decode cX1_broken 49 = .ok (.goto (-45), 3) := dk_167 255 211 (dk_at dksX1_broken_2 3 rfl rfl)
theorem dX1_broken_52 : decode cX1_broken 52 = .ok (.iload_n 1, 1) := dk_27 (dk_at dksX1_broken_2 6 rfl rfl)
theorem dX1_broken_53 : decode cX1_broken 53 = .ok (.ireturn, 1) := dk_172 (dk_at dksX1_broken_2 7 rfl rfl)
theorem q119 : (Jvm.Cond.initialized "NotchSticks$Valley") ∈ lw_all := lw_g (lw_at lw_m1 9 rfl) rfl
theorem q219 : (Jvm.Cond.selects "NotchSticks$Valley" ({ cls := "java/lang/Object", name := "getClass", desc := "()Ljava/lang/Class;" } : Jvm.MethodName) ({ cls := "java/lang/Object", name := "getClass", desc := "()Ljava/lang/Class;" } : Jvm.MethodName)) ∈ lw_all := lw_g (lw_at lw_m1 109 rfl) rfl
theorem q238 : (Jvm.Cond.instantiable "NotchSticks$Valley" (10 : Nat)) ∈ lw_all := lw_g (lw_at lw_m1 128 rfl) rfl
theorem q240 : (Jvm.Cond.instanceMethod ({ cls := "NotchSticks$Valley", name := "<init>", desc := "(LNotchSticks;)V" } : Jvm.MethodName)) ∈ lw_all := lw_g (lw_at lw_m1 130 rfl) rfl
theorem q241 : (Jvm.Cond.code ({ cls := "NotchSticks$Valley", name := "<init>", desc := "(LNotchSticks;)V" } : Jvm.MethodName) prog_15_method_1_code (3 : Nat) (Option.none : Option Jvm.ClassFile.FieldType)) ∈ lw_all := lw_g (lw_at lw_m1 131 rfl) rfl
theorem q242 : (Jvm.Cond.methodLink "NotchSticks$Valley" (9 : Nat) ({ cls := "java/lang/Object", name := "<init>", desc := "()V" } : Jvm.MethodName)) ∈ lw_all := lw_g (lw_at lw_m1 132 rfl) rfl
theorem q243 : (Jvm.Cond.classLink "NotchSticks$Valley" (15 : Nat) "NotchSticks$Person") ∈ lw_all := lw_g (lw_at lw_m1 133 rfl) rfl
theorem q245 : (Jvm.Cond.classLink "NotchSticks$Valley" (21 : Nat) "NotchSticks$Entry") ∈ lw_all := lw_g (lw_at lw_m1 135 rfl) rfl
theorem q247 : (Jvm.Cond.classLink "NotchSticks$Valley" (31 : Nat) "NotchSticks$Case") ∈ lw_all := lw_g (lw_at lw_m1 137 rfl) rfl
theorem q249 : (Jvm.Cond.methodLinkNest "NotchSticks$Valley" (33 : Nat) ({ cls := "NotchSticks$Case", name := "<init>", desc := "(LNotchSticks;)V" } : Jvm.MethodName) "NotchSticks") ∈ lw_tbl := lw_at lw_m1 139 rfl
theorem q271 : (Jvm.Cond.methodLinkNest "NotchSticks$Valley" (43 : Nat) ({ cls := "NotchSticks$Person", name := "<init>", desc := "()V" } : Jvm.MethodName) "NotchSticks") ∈ lw_tbl := lw_at lw_m1 161 rfl
theorem q277 : (Jvm.Cond.fieldLinkNest "NotchSticks$Valley" (96 : Nat) "NotchSticks$Person" "own" "[I" "NotchSticks") ∈ lw_tbl := lw_at lw_m1 167 rfl
theorem q283 : (Jvm.Cond.methodLinkNest "NotchSticks$Valley" (44 : Nat) ({ cls := "NotchSticks$Entry", name := "<init>", desc := "()V" } : Jvm.MethodName) "NotchSticks") ∈ lw_tbl := lw_at lw_m1 173 rfl
theorem q288 : (Jvm.Cond.fieldLinkNest "NotchSticks$Valley" (131 : Nat) "NotchSticks$Entry" "fields" "[I" "NotchSticks") ∈ lw_tbl := lw_at lw_m1 178 rfl
theorem q293 : (Jvm.Cond.fieldLink "NotchSticks$Valley" (17 : Nat) "NotchSticks$Valley" "people" "[LNotchSticks$Person;") ∈ lw_all := lw_g (lw_at lw_m1 183 rfl) rfl
theorem q296 : (Jvm.Cond.fieldLink "NotchSticks$Valley" (23 : Nat) "NotchSticks$Valley" "book" "[LNotchSticks$Entry;") ∈ lw_all := lw_g (lw_at lw_m1 186 rfl) rfl
theorem q298 : (Jvm.Cond.fieldLink "NotchSticks$Valley" (27 : Nat) "NotchSticks$Valley" "told" "[I") ∈ lw_all := lw_g (lw_at lw_m1 188 rfl) rfl
theorem q301 : (Jvm.Cond.fieldLink "NotchSticks$Valley" (36 : Nat) "NotchSticks$Valley" "law" "LNotchSticks$Case;") ∈ lw_all := lw_g (lw_at lw_m1 191 rfl) rfl
theorem q302 : (Jvm.Cond.fieldLink "NotchSticks$Valley" (40 : Nat) "NotchSticks$Valley" "rule" "LNotchSticks$Case;") ∈ lw_all := lw_g (lw_at lw_m1 192 rfl) rfl
theorem q303 : (Jvm.Cond.fieldLink "NotchSticks$Valley" (45 : Nat) "NotchSticks$Valley" "n" "I") ∈ lw_all := lw_g (lw_at lw_m1 193 rfl) rfl
theorem q305 : (Jvm.Cond.fieldLink "NotchSticks$Valley" (49 : Nat) "NotchSticks$Valley" "entries" "I") ∈ lw_all := lw_g (lw_at lw_m1 195 rfl) rfl
theorem q307 : (Jvm.Cond.fieldLink "NotchSticks$Valley" (52 : Nat) "NotchSticks$Valley" "year" "I") ∈ lw_all := lw_g (lw_at lw_m1 197 rfl) rfl
theorem q310 : (Jvm.Cond.fieldLink "NotchSticks$Valley" (55 : Nat) "NotchSticks$Valley" "state" "I") ∈ lw_all := lw_g (lw_at lw_m1 200 rfl) rfl
theorem q312 : (Jvm.Cond.fieldLink "NotchSticks$Valley" (3 : Nat) "NotchSticks$Valley" "this$0" "LNotchSticks;") ∈ lw_all := lw_g (lw_at lw_m1 202 rfl) rfl
theorem q313 : (Jvm.Cond.laysFinal "NotchSticks$Valley" "NotchSticks$Valley" "people" "[LNotchSticks$Person;") ∈ lw_all := lw_g (lw_at lw_m1 203 rfl) rfl
theorem q314 : (Jvm.Cond.soleField "NotchSticks$Valley" "people") ∈ lw_all := lw_g (lw_at lw_m1 204 rfl) rfl
theorem q315 : (Jvm.Cond.laysFinal "NotchSticks$Valley" "NotchSticks$Valley" "book" "[LNotchSticks$Entry;") ∈ lw_all := lw_g (lw_at lw_m1 205 rfl) rfl
theorem q316 : (Jvm.Cond.soleField "NotchSticks$Valley" "book") ∈ lw_all := lw_g (lw_at lw_m1 206 rfl) rfl
theorem q317 : (Jvm.Cond.laysFinal "NotchSticks$Valley" "NotchSticks$Valley" "told" "[I") ∈ lw_all := lw_g (lw_at lw_m1 207 rfl) rfl
theorem q318 : (Jvm.Cond.soleField "NotchSticks$Valley" "told") ∈ lw_all := lw_g (lw_at lw_m1 208 rfl) rfl
theorem q319 : (Jvm.Cond.laysFinal "NotchSticks$Valley" "NotchSticks$Valley" "law" "LNotchSticks$Case;") ∈ lw_all := lw_g (lw_at lw_m1 209 rfl) rfl
theorem q320 : (Jvm.Cond.soleField "NotchSticks$Valley" "law") ∈ lw_all := lw_g (lw_at lw_m1 210 rfl) rfl
theorem q321 : (Jvm.Cond.laysFinal "NotchSticks$Valley" "NotchSticks$Valley" "rule" "LNotchSticks$Case;") ∈ lw_all := lw_g (lw_at lw_m1 211 rfl) rfl
theorem q322 : (Jvm.Cond.soleField "NotchSticks$Valley" "rule") ∈ lw_all := lw_g (lw_at lw_m1 212 rfl) rfl
theorem q323 : (Jvm.Cond.lays "NotchSticks$Valley" "NotchSticks$Valley" "n" "I") ∈ lw_all := lw_g (lw_at lw_m1 213 rfl) rfl
theorem q324 : (Jvm.Cond.soleField "NotchSticks$Valley" "n") ∈ lw_all := lw_g (lw_at lw_m1 214 rfl) rfl
theorem q325 : (Jvm.Cond.lays "NotchSticks$Valley" "NotchSticks$Valley" "entries" "I") ∈ lw_all := lw_g (lw_at lw_m1 215 rfl) rfl
theorem q326 : (Jvm.Cond.soleField "NotchSticks$Valley" "entries") ∈ lw_all := lw_g (lw_at lw_m1 216 rfl) rfl
theorem q327 : (Jvm.Cond.lays "NotchSticks$Valley" "NotchSticks$Valley" "year" "I") ∈ lw_all := lw_g (lw_at lw_m1 217 rfl) rfl
theorem q328 : (Jvm.Cond.soleField "NotchSticks$Valley" "year") ∈ lw_all := lw_g (lw_at lw_m1 218 rfl) rfl
theorem q329 : (Jvm.Cond.lays "NotchSticks$Valley" "NotchSticks$Valley" "state" "I") ∈ lw_all := lw_g (lw_at lw_m1 219 rfl) rfl
theorem q330 : (Jvm.Cond.soleField "NotchSticks$Valley" "state") ∈ lw_all := lw_g (lw_at lw_m1 220 rfl) rfl
theorem q331 : (Jvm.Cond.laysFinal "NotchSticks$Valley" "NotchSticks$Valley" "this$0" "LNotchSticks;") ∈ lw_all := lw_g (lw_at lw_m1 221 rfl) rfl
theorem q332 : (Jvm.Cond.soleField "NotchSticks$Valley" "this$0") ∈ lw_all := lw_g (lw_at lw_m1 222 rfl) rfl
theorem q333 : (Jvm.Cond.superclass "NotchSticks$Valley" "java/lang/Object") ∈ lw_all := lw_g (lw_at lw_m1 223 rfl) rfl
theorem q375 : (Jvm.Cond.fieldLinkNest "NotchSticks$Valley" (67 : Nat) "NotchSticks" "texts" "Ljava/util/ArrayList;" "NotchSticks") ∈ lw_tbl := lw_at lw_m2 25 rfl
theorem q753 : (Jvm.Cond.fieldLinkNest "NotchSticks$Valley" (99 : Nat) "NotchSticks$Line" "word" "I" "NotchSticks") ∈ lw_tbl := lw_at lw_m3 163 rfl
theorem q755 : (Jvm.Cond.fieldLinkNest "NotchSticks$Valley" (87 : Nat) "NotchSticks$Line" "when" "LNotchSticks$Term;" "NotchSticks") ∈ lw_tbl := lw_at lw_m3 165 rfl
theorem q816 : (Jvm.Cond.instanceMethod ({ cls := "NotchSticks$Valley", name := "deals", desc := "(III)Z" } : Jvm.MethodName)) ∈ lw_all := lw_g (lw_at lw_m3 226 rfl) rfl
theorem q817 : (Jvm.Cond.selects "NotchSticks$Valley" ({ cls := "NotchSticks$Valley", name := "deals", desc := "(III)Z" } : Jvm.MethodName) ({ cls := "NotchSticks$Valley", name := "deals", desc := "(III)Z" } : Jvm.MethodName)) ∈ lw_all := lw_g (lw_at lw_m3 227 rfl) rfl
theorem q818 : (Jvm.Cond.code ({ cls := "NotchSticks$Valley", name := "deals", desc := "(III)Z" } : Jvm.MethodName) prog_15_method_7_code (4 : Nat) (Option.some Jvm.ClassFile.FieldType.boolean)) ∈ lw_all := lw_g (lw_at lw_m3 228 rfl) rfl
theorem q819 : (Jvm.Cond.methodLink "NotchSticks$Valley" (102 : Nat) ({ cls := "NotchSticks$Valley", name := "tells", desc := "(IIIIZ)Z" } : Jvm.MethodName)) ∈ lw_all := lw_g (lw_at lw_m3 229 rfl) rfl
theorem q820 : (Jvm.Cond.privateMethod ({ cls := "NotchSticks$Valley", name := "tells", desc := "(IIIIZ)Z" } : Jvm.MethodName)) ∈ lw_tbl := lw_at lw_m3 230 rfl
theorem q821 : (Jvm.Cond.instanceMethod ({ cls := "NotchSticks$Valley", name := "tells", desc := "(IIIIZ)Z" } : Jvm.MethodName)) ∈ lw_all := lw_g (lw_at lw_m3 231 rfl) rfl
theorem q822 : (Jvm.Cond.code ({ cls := "NotchSticks$Valley", name := "tells", desc := "(IIIIZ)Z" } : Jvm.MethodName) prog_15_method_6_code (9 : Nat) (Option.some Jvm.ClassFile.FieldType.boolean)) ∈ lw_all := lw_g (lw_at lw_m3 232 rfl) rfl
theorem q823 : (Jvm.Cond.methodLink "NotchSticks$Valley" (71 : Nat) ({ cls := "java/util/ArrayList", name := "get", desc := "(I)Ljava/lang/Object;" } : Jvm.MethodName)) ∈ lw_all := lw_g (lw_at lw_m3 233 rfl) rfl
theorem q827 : (Jvm.Cond.classLink "NotchSticks$Valley" (72 : Nat) "java/util/ArrayList") ∈ lw_all := lw_g (lw_at lw_m3 237 rfl) rfl
theorem q828 : (Jvm.Cond.methodLink "NotchSticks$Valley" (77 : Nat) ({ cls := "NotchSticks$Case", name := "of", desc := "(LNotchSticks$Valley;III)LNotchSticks$Case;" } : Jvm.MethodName)) ∈ lw_all := lw_g (lw_at lw_m3 238 rfl) rfl
theorem q832 : (Jvm.Cond.methodLink "NotchSticks$Valley" (81 : Nat) ({ cls := "java/util/ArrayList", name := "size", desc := "()I" } : Jvm.MethodName)) ∈ lw_all := lw_g (lw_at lw_m4 2 rfl) rfl
theorem q833 : (Jvm.Cond.classLink "NotchSticks$Valley" (85 : Nat) "NotchSticks$Line") ∈ lw_all := lw_g (lw_at lw_m4 3 rfl) rfl
theorem q834 : (Jvm.Cond.methodLink "NotchSticks$Valley" (91 : Nat) ({ cls := "NotchSticks$Term", name := "of", desc := "(LNotchSticks$Asker;)I" } : Jvm.MethodName)) ∈ lw_all := lw_g (lw_at lw_m4 4 rfl) rfl
theorem q855 : (Jvm.Cond.instanceMethod ({ cls := "NotchSticks$Valley", name := "isLawful", desc := "(II)Z" } : Jvm.MethodName)) ∈ lw_all := lw_g (lw_at lw_m4 25 rfl) rfl
theorem q856 : (Jvm.Cond.selects "NotchSticks$Valley" ({ cls := "NotchSticks$Valley", name := "isLawful", desc := "(II)Z" } : Jvm.MethodName) ({ cls := "NotchSticks$Valley", name := "isLawful", desc := "(II)Z" } : Jvm.MethodName)) ∈ lw_all := lw_g (lw_at lw_m4 26 rfl) rfl
theorem q857 : (Jvm.Cond.code ({ cls := "NotchSticks$Valley", name := "isLawful", desc := "(II)Z" } : Jvm.MethodName) prog_15_method_5_code (5 : Nat) (Option.some Jvm.ClassFile.FieldType.boolean)) ∈ lw_all := lw_g (lw_at lw_m4 27 rfl) rfl
theorem q870 : (Jvm.Cond.instanceMethod ({ cls := "NotchSticks$Valley", name := "breaks", desc := "(III)Z" } : Jvm.MethodName)) ∈ lw_all := lw_g (lw_at lw_m4 40 rfl) rfl
theorem q871 : (Jvm.Cond.selects "NotchSticks$Valley" ({ cls := "NotchSticks$Valley", name := "breaks", desc := "(III)Z" } : Jvm.MethodName) ({ cls := "NotchSticks$Valley", name := "breaks", desc := "(III)Z" } : Jvm.MethodName)) ∈ lw_all := lw_g (lw_at lw_m4 41 rfl) rfl
theorem q872 : (Jvm.Cond.code ({ cls := "NotchSticks$Valley", name := "breaks", desc := "(III)Z" } : Jvm.MethodName) prog_15_method_8_code (4 : Nat) (Option.some Jvm.ClassFile.FieldType.boolean)) ∈ lw_all := lw_g (lw_at lw_m4 42 rfl) rfl
theorem q879 : (Jvm.Cond.instanceMethod ({ cls := "NotchSticks$Valley", name := "deal", desc := "(III)I" } : Jvm.MethodName)) ∈ lw_all := lw_g (lw_at lw_m4 49 rfl) rfl
theorem q880 : (Jvm.Cond.selects "NotchSticks$Valley" ({ cls := "NotchSticks$Valley", name := "deal", desc := "(III)I" } : Jvm.MethodName) ({ cls := "NotchSticks$Valley", name := "deal", desc := "(III)I" } : Jvm.MethodName)) ∈ lw_all := lw_g (lw_at lw_m4 50 rfl) rfl
theorem q881 : (Jvm.Cond.code ({ cls := "NotchSticks$Valley", name := "deal", desc := "(III)I" } : Jvm.MethodName) prog_15_method_12_code (10 : Nat) (Option.some Jvm.ClassFile.FieldType.int)) ∈ lw_all := lw_g (lw_at lw_m4 51 rfl) rfl
theorem q882 : (Jvm.Cond.methodLink "NotchSticks$Valley" (117 : Nat) ({ cls := "NotchSticks$Valley", name := "deals", desc := "(III)Z" } : Jvm.MethodName)) ∈ lw_all := lw_g (lw_at lw_m4 52 rfl) rfl
theorem q883 : (Jvm.Cond.methodLink "NotchSticks$Valley" (121 : Nat) ({ cls := "NotchSticks$Valley", name := "breaks", desc := "(III)Z" } : Jvm.MethodName)) ∈ lw_all := lw_g (lw_at lw_m4 53 rfl) rfl
theorem q884 : (Jvm.Cond.methodLink "NotchSticks$Valley" (123 : Nat) ({ cls := "NotchSticks$Valley", name := "isLawful", desc := "(II)Z" } : Jvm.MethodName)) ∈ lw_all := lw_g (lw_at lw_m4 54 rfl) rfl
theorem q885 : (Jvm.Cond.methodLink "NotchSticks$Valley" (127 : Nat) ({ cls := "NotchSticks$Valley", name := "isOut", desc := "(I)Z" } : Jvm.MethodName)) ∈ lw_all := lw_g (lw_at lw_m4 55 rfl) rfl
theorem q886 : (Jvm.Cond.instanceMethod ({ cls := "NotchSticks$Valley", name := "isOut", desc := "(I)Z" } : Jvm.MethodName)) ∈ lw_all := lw_g (lw_at lw_m4 56 rfl) rfl
theorem q887 : (Jvm.Cond.selects "NotchSticks$Valley" ({ cls := "NotchSticks$Valley", name := "isOut", desc := "(I)Z" } : Jvm.MethodName) ({ cls := "NotchSticks$Valley", name := "isOut", desc := "(I)Z" } : Jvm.MethodName)) ∈ lw_all := lw_g (lw_at lw_m4 57 rfl) rfl
theorem q888 : (Jvm.Cond.code ({ cls := "NotchSticks$Valley", name := "isOut", desc := "(I)Z" } : Jvm.MethodName) prog_15_method_9_code (2 : Nat) (Option.some Jvm.ClassFile.FieldType.boolean)) ∈ lw_all := lw_g (lw_at lw_m4 58 rfl) rfl
theorem q889 : (Jvm.Cond.methodLink "NotchSticks$Valley" (134 : Nat) ({ cls := "NotchSticks$Valley", name := "worth", desc := "(ZZ)I" } : Jvm.MethodName)) ∈ lw_all := lw_g (lw_at lw_m4 59 rfl) rfl
theorem q890 : (Jvm.Cond.instanceMethod ({ cls := "NotchSticks$Valley", name := "worth", desc := "(ZZ)I" } : Jvm.MethodName)) ∈ lw_all := lw_g (lw_at lw_m4 60 rfl) rfl
theorem q891 : (Jvm.Cond.selects "NotchSticks$Valley" ({ cls := "NotchSticks$Valley", name := "worth", desc := "(ZZ)I" } : Jvm.MethodName) ({ cls := "NotchSticks$Valley", name := "worth", desc := "(ZZ)I" } : Jvm.MethodName)) ∈ lw_all := lw_g (lw_at lw_m4 61 rfl) rfl
theorem q892 : (Jvm.Cond.code ({ cls := "NotchSticks$Valley", name := "worth", desc := "(ZZ)I" } : Jvm.MethodName) prog_15_method_10_code (3 : Nat) (Option.some Jvm.ClassFile.FieldType.int)) ∈ lw_all := lw_g (lw_at lw_m4 62 rfl) rfl
theorem q893 : (Jvm.Cond.methodLink "NotchSticks$Valley" (138 : Nat) ({ cls := "NotchSticks$Valley", name := "notches", desc := "(LNotchSticks$Person;ZZI)I" } : Jvm.MethodName)) ∈ lw_all := lw_g (lw_at lw_m4 63 rfl) rfl
theorem q894 : (Jvm.Cond.privateMethod ({ cls := "NotchSticks$Valley", name := "notches", desc := "(LNotchSticks$Person;ZZI)I" } : Jvm.MethodName)) ∈ lw_tbl := lw_at lw_m4 64 rfl
theorem q895 : (Jvm.Cond.instanceMethod ({ cls := "NotchSticks$Valley", name := "notches", desc := "(LNotchSticks$Person;ZZI)I" } : Jvm.MethodName)) ∈ lw_all := lw_g (lw_at lw_m4 65 rfl) rfl
theorem q896 : (Jvm.Cond.code ({ cls := "NotchSticks$Valley", name := "notches", desc := "(LNotchSticks$Person;ZZI)I" } : Jvm.MethodName) prog_15_method_11_code (6 : Nat) (Option.some Jvm.ClassFile.FieldType.int)) ∈ lw_all := lw_g (lw_at lw_m4 66 rfl) rfl
theorem q897 : (Jvm.Cond.methodLink "NotchSticks$Valley" (106 : Nat) ({ cls := "NotchSticks$Valley", name := "draw", desc := "(I)I" } : Jvm.MethodName)) ∈ lw_all := lw_g (lw_at lw_m4 67 rfl) rfl
theorem q898 : (Jvm.Cond.privateMethod ({ cls := "NotchSticks$Valley", name := "draw", desc := "(I)I" } : Jvm.MethodName)) ∈ lw_tbl := lw_at lw_m4 68 rfl
theorem q899 : (Jvm.Cond.instanceMethod ({ cls := "NotchSticks$Valley", name := "draw", desc := "(I)I" } : Jvm.MethodName)) ∈ lw_all := lw_g (lw_at lw_m4 69 rfl) rfl
theorem q900 : (Jvm.Cond.code ({ cls := "NotchSticks$Valley", name := "draw", desc := "(I)I" } : Jvm.MethodName) prog_15_method_3_code (2 : Nat) (Option.some Jvm.ClassFile.FieldType.int)) ∈ lw_all := lw_g (lw_at lw_m4 70 rfl) rfl
theorem q901 : (Jvm.Cond.constant "NotchSticks$Valley" (65 : Nat) (1664525 : Int32)) ∈ lw_all := lw_g (lw_at lw_m4 71 rfl) rfl
theorem q902 : (Jvm.Cond.constant "NotchSticks$Valley" (66 : Nat) (1013904223 : Int32)) ∈ lw_all := lw_g (lw_at lw_m4 72 rfl) rfl
theorem q903 : (Jvm.Cond.methodLink "NotchSticks$Valley" (110 : Nat) ({ cls := "NotchSticks$Person", name := "keeps", desc := "(I)V" } : Jvm.MethodName)) ∈ lw_all := lw_g (lw_at lw_m4 73 rfl) rfl
theorem q908 : (Jvm.Cond.methodLink "NotchSticks$Valley" (114 : Nat) ({ cls := "NotchSticks$Person", name := "breaks", desc := "(I)V" } : Jvm.MethodName)) ∈ lw_all := lw_g (lw_at lw_m4 78 rfl) rfl
theorem q921 : (Jvm.Cond.instanceMethod ({ cls := "NotchSticks$Valley", name := "goesBy", desc := "()V" } : Jvm.MethodName)) ∈ lw_all := lw_g (lw_at lw_m4 91 rfl) rfl
theorem q922 : (Jvm.Cond.selects "NotchSticks$Valley" ({ cls := "NotchSticks$Valley", name := "goesBy", desc := "()V" } : Jvm.MethodName) ({ cls := "NotchSticks$Valley", name := "goesBy", desc := "()V" } : Jvm.MethodName)) ∈ lw_all := lw_g (lw_at lw_m4 92 rfl) rfl
theorem q923 : (Jvm.Cond.code ({ cls := "NotchSticks$Valley", name := "goesBy", desc := "()V" } : Jvm.MethodName) prog_15_method_14_code (6 : Nat) (Option.none : Option Jvm.ClassFile.FieldType)) ∈ lw_all := lw_g (lw_at lw_m4 93 rfl) rfl
theorem q924 : (Jvm.Cond.methodLink "NotchSticks$Valley" (142 : Nat) ({ cls := "NotchSticks$Valley", name := "weights", desc := "()I" } : Jvm.MethodName)) ∈ lw_all := lw_g (lw_at lw_m4 94 rfl) rfl
theorem q925 : (Jvm.Cond.instanceMethod ({ cls := "NotchSticks$Valley", name := "weights", desc := "()I" } : Jvm.MethodName)) ∈ lw_all := lw_g (lw_at lw_m4 95 rfl) rfl
theorem q926 : (Jvm.Cond.selects "NotchSticks$Valley" ({ cls := "NotchSticks$Valley", name := "weights", desc := "()I" } : Jvm.MethodName) ({ cls := "NotchSticks$Valley", name := "weights", desc := "()I" } : Jvm.MethodName)) ∈ lw_all := lw_g (lw_at lw_m4 96 rfl) rfl
theorem q927 : (Jvm.Cond.code ({ cls := "NotchSticks$Valley", name := "weights", desc := "()I" } : Jvm.MethodName) prog_15_method_4_code (3 : Nat) (Option.some Jvm.ClassFile.FieldType.int)) ∈ lw_all := lw_g (lw_at lw_m4 97 rfl) rfl
theorem q928 : (Jvm.Cond.methodLink "NotchSticks$Valley" (145 : Nat) ({ cls := "NotchSticks$Valley", name := "drawnSize", desc := "()I" } : Jvm.MethodName)) ∈ lw_all := lw_g (lw_at lw_m4 98 rfl) rfl
theorem q929 : (Jvm.Cond.privateMethod ({ cls := "NotchSticks$Valley", name := "drawnSize", desc := "()I" } : Jvm.MethodName)) ∈ lw_tbl := lw_at lw_m4 99 rfl
theorem q930 : (Jvm.Cond.instanceMethod ({ cls := "NotchSticks$Valley", name := "drawnSize", desc := "()I" } : Jvm.MethodName)) ∈ lw_all := lw_g (lw_at lw_m4 100 rfl) rfl
theorem q931 : (Jvm.Cond.code ({ cls := "NotchSticks$Valley", name := "drawnSize", desc := "()I" } : Jvm.MethodName) prog_15_method_13_code (3 : Nat) (Option.some Jvm.ClassFile.FieldType.int)) ∈ lw_all := lw_g (lw_at lw_m4 101 rfl) rfl
theorem q932 : (Jvm.Cond.methodLink "NotchSticks$Valley" (148 : Nat) ({ cls := "NotchSticks$Valley", name := "deal", desc := "(III)I" } : Jvm.MethodName)) ∈ lw_all := lw_g (lw_at lw_m4 102 rfl) rfl
theorem q933 : (Jvm.Cond.methodLink "NotchSticks$Valley" (152 : Nat) ({ cls := "java/lang/Math", name := "max", desc := "(II)I" } : Jvm.MethodName)) ∈ lw_all := lw_g (lw_at lw_m4 103 rfl) rfl
theorem q934 : (Jvm.Cond.methodLink "NotchSticks$Valley" (158 : Nat) ({ cls := "java/lang/Math", name := "min", desc := "(II)I" } : Jvm.MethodName)) ∈ lw_all := lw_g (lw_at lw_m4 104 rfl) rfl
theorem q935 : (Jvm.Cond.methodLink "NotchSticks$Valley" (161 : Nat) ({ cls := "NotchSticks$Person", name := "cuts", desc := "()V" } : Jvm.MethodName)) ∈ lw_all := lw_g (lw_at lw_m4 105 rfl) rfl
theorem q1100 : (Jvm.Cond.instanceMethod ({ cls := "NotchSticks$Valley", name := "takes", desc := "(LNotchSticks$Valley;)LNotchSticks$Valley;" } : Jvm.MethodName)) ∈ lw_all := lw_g (lw_at lw_m5 30 rfl) rfl
theorem q1101 : (Jvm.Cond.selects "NotchSticks$Valley" ({ cls := "NotchSticks$Valley", name := "takes", desc := "(LNotchSticks$Valley;)LNotchSticks$Valley;" } : Jvm.MethodName) ({ cls := "NotchSticks$Valley", name := "takes", desc := "(LNotchSticks$Valley;)LNotchSticks$Valley;" } : Jvm.MethodName)) ∈ lw_all := lw_g (lw_at lw_m5 31 rfl) rfl
theorem q1102 : (Jvm.Cond.code ({ cls := "NotchSticks$Valley", name := "takes", desc := "(LNotchSticks$Valley;)LNotchSticks$Valley;" } : Jvm.MethodName) prog_15_method_2_code (3 : Nat) (Option.some (Jvm.ClassFile.FieldType.object "NotchSticks$Valley"))) ∈ lw_all := lw_g (lw_at lw_m5 32 rfl) rfl
theorem q1103 : (Jvm.Cond.methodLink "NotchSticks$Valley" (58 : Nat) ({ cls := "NotchSticks$Person", name := "takes", desc := "(LNotchSticks$Person;)V" } : Jvm.MethodName)) ∈ lw_all := lw_g (lw_at lw_m5 33 rfl) rfl
theorem q1107 : (Jvm.Cond.methodLink "NotchSticks$Valley" (62 : Nat) ({ cls := "NotchSticks$Entry", name := "takes", desc := "(LNotchSticks$Entry;)V" } : Jvm.MethodName)) ∈ lw_all := lw_g (lw_at lw_m5 37 rfl) rfl
theorem q1112 : (Jvm.Cond.instanceMethod ({ cls := "NotchSticks$Valley", name := "sum", desc := "(I)I" } : Jvm.MethodName)) ∈ lw_all := lw_g (lw_at lw_m5 42 rfl) rfl
theorem q1113 : (Jvm.Cond.selects "NotchSticks$Valley" ({ cls := "NotchSticks$Valley", name := "sum", desc := "(I)I" } : Jvm.MethodName) ({ cls := "NotchSticks$Valley", name := "sum", desc := "(I)I" } : Jvm.MethodName)) ∈ lw_all := lw_g (lw_at lw_m5 43 rfl) rfl
theorem q1114 : (Jvm.Cond.code ({ cls := "NotchSticks$Valley", name := "sum", desc := "(I)I" } : Jvm.MethodName) prog_15_method_15_code (4 : Nat) (Option.some Jvm.ClassFile.FieldType.int)) ∈ lw_all := lw_g (lw_at lw_m5 44 rfl) rfl
theorem q1116 : (Jvm.Cond.instanceMethod ({ cls := "NotchSticks$Valley", name := "broken", desc := "()I" } : Jvm.MethodName)) ∈ lw_all := lw_g (lw_at lw_m5 46 rfl) rfl
theorem q1117 : (Jvm.Cond.selects "NotchSticks$Valley" ({ cls := "NotchSticks$Valley", name := "broken", desc := "()I" } : Jvm.MethodName) ({ cls := "NotchSticks$Valley", name := "broken", desc := "()I" } : Jvm.MethodName)) ∈ lw_all := lw_g (lw_at lw_m5 47 rfl) rfl
theorem q1118 : (Jvm.Cond.code ({ cls := "NotchSticks$Valley", name := "broken", desc := "()I" } : Jvm.MethodName) prog_15_method_16_code (4 : Nat) (Option.some Jvm.ClassFile.FieldType.int)) ∈ lw_all := lw_g (lw_at lw_m5 48 rfl) rfl
theorem q1119 : (Jvm.Cond.methodLink "NotchSticks$Valley" (164 : Nat) ({ cls := "NotchSticks$Entry", name := "did", desc := "(I)I" } : Jvm.MethodName)) ∈ lw_all := lw_g (lw_at lw_m5 49 rfl) rfl
theorem q1713 : (Jvm.Cond.castable "NotchSticks$Valley" "java/lang/Object") ∈ lw_tbl := lw_at lw_m7 163 rfl
theorem in_X1 : ∀ w ∈ wsX10, w ∈ lw_all := lw_in wsX10 [313, 315, 317, 319, 321, 323, 325, 327, 329, 331] (by decide +kernel) (by decide +kernel)
/-! NotchSticks$Case -/
set_option maxRecDepth 100000
def RX2 : String := "NotchSticks$Case"
def TX2 : u_T := fun k => match k with
  | 0 => ("NotchSticks$Case", "v", "LNotchSticks$Valley;", false)
  | 1 => ("NotchSticks$Case", "who", "I", false)
  | 2 => ("NotchSticks$Case", "other", "I", false)
  | 3 => ("NotchSticks$Case", "size", "I", false)
  | _ => ("NotchSticks$Case", "this$0", "LNotchSticks;", true)
def tyX2 : Nat → FieldType := fun k => match k with
  | 0 => .object "NotchSticks$Valley"
  | 1 => .int
  | 2 => .int
  | 3 => .int
  | _ => .object "NotchSticks"
abbrev wsX20 : List Cond := u_ws RX2 TX2 5
theorem nmX2 : ∀ a, a < 5 → ∀ b, b < 5 → a ≠ b → (TX2 a).2.1 ≠ (TX2 b).2.1 := by decide +kernel
theorem tyX2_ok : ∀ k, k < 5 → parseFieldDescriptor (TX2 k).2.2.1 = some (tyX2 k) := by decide +kernel
abbrev cX2_init : ByteArray := prog_3_method_1_code
def yX2_init : MethodName := ⟨RX2, "<init>", "(LNotchSticks;)V"⟩
def dkwX2_init_0 : List UInt8 := [42, 43, 181, 0, 3, 42, 183, 0, 9, 177]
abbrev dktX2_init_0 : List UInt8 := dkwX2_init_0 ++ []
theorem dksX2_init_0 : cX2_init.data.toList.drop 0 = dktX2_init_0 := by decide +kernel
theorem dX2_init_0 : decode cX2_init 0 = .ok (.aload_n 0, 1) := dk_42 (dk_at dksX2_init_0 0 rfl rfl)
theorem dX2_init_1 : decode cX2_init 1 = .ok (.aload_n 1, 1) := dk_43 (dk_at dksX2_init_0 1 rfl rfl)
theorem dX2_init_2 : decode cX2_init 2 = .ok (.putfield 3, 3) := dk_181 0 3 (dk_at dksX2_init_0 2 rfl rfl)
theorem dX2_init_5 : decode cX2_init 5 = .ok (.aload_n 0, 1) := dk_42 (dk_at dksX2_init_0 5 rfl rfl)
theorem dX2_init_6 : decode cX2_init 6 = .ok (.invokespecial 9, 3) := dk_183 0 9 (dk_at dksX2_init_0 6 rfl rfl)
theorem dX2_init_9 : decode cX2_init 9 = .ok (.return_, 1) := dk_177 (dk_at dksX2_init_0 9 rfl rfl)
abbrev cX2_of : ByteArray := prog_3_method_2_code
def yX2_of : MethodName := ⟨RX2, "of", "(LNotchSticks$Valley;III)LNotchSticks$Case;"⟩
def dkwX2_of_0 : List UInt8 := [42, 43, 181, 0, 15, 42, 28, 181, 0, 19, 42, 29, 181, 0, 23, 42, 21, 4, 181, 0, 26, 42, 176]
abbrev dktX2_of_0 : List UInt8 := dkwX2_of_0 ++ []
theorem dksX2_of_0 : cX2_of.data.toList.drop 0 = dktX2_of_0 := by decide +kernel
theorem dX2_of_0 : decode cX2_of 0 = .ok (.aload_n 0, 1) := dk_42 (dk_at dksX2_of_0 0 rfl rfl)
theorem dX2_of_1 : decode cX2_of 1 = .ok (.aload_n 1, 1) := dk_43 (dk_at dksX2_of_0 1 rfl rfl)
theorem dX2_of_2 : decode cX2_of 2 = .ok (.putfield 15, 3) := dk_181 0 15 (dk_at dksX2_of_0 2 rfl rfl)
theorem dX2_of_5 : decode cX2_of 5 = .ok (.aload_n 0, 1) := dk_42 (dk_at dksX2_of_0 5 rfl rfl)
theorem dX2_of_6 : decode cX2_of 6 = .ok (.iload_n 2, 1) := dk_28 (dk_at dksX2_of_0 6 rfl rfl)
theorem dX2_of_7 : decode cX2_of 7 = .ok (.putfield 19, 3) := dk_181 0 19 (dk_at dksX2_of_0 7 rfl rfl)
theorem dX2_of_10 : decode cX2_of 10 = .ok (.aload_n 0, 1) := dk_42 (dk_at dksX2_of_0 10 rfl rfl)
theorem dX2_of_11 : decode cX2_of 11 = .ok (.iload_n 3, 1) := dk_29 (dk_at dksX2_of_0 11 rfl rfl)
theorem dX2_of_12 : decode cX2_of 12 = .ok (.putfield 23, 3) := dk_181 0 23 (dk_at dksX2_of_0 12 rfl rfl)
theorem dX2_of_15 : decode cX2_of 15 = .ok (.aload_n 0, 1) := dk_42 (dk_at dksX2_of_0 15 rfl rfl)
theorem dX2_of_16 : decode cX2_of 16 = .ok (.iload 4, 2) := dk_21 4 (dk_at dksX2_of_0 16 rfl rfl)
theorem dX2_of_18 : decode cX2_of 18 = .ok (.putfield 26, 3) := dk_181 0 26 (dk_at dksX2_of_0 18 rfl rfl)
theorem dX2_of_21 : decode cX2_of 21 = .ok (.aload_n 0, 1) := dk_42 (dk_at dksX2_of_0 21 rfl rfl)
theorem dX2_of_22 : decode cX2_of 22 = .ok (.areturn, 1) := dk_176 (dk_at dksX2_of_0 22 rfl rfl)
abbrev cX2_fact : ByteArray := prog_3_method_3_code
def yX2_fact : MethodName := ⟨RX2, "fact", "(I)I"⟩
def dkwX2_fact_7 : List UInt8 := [182, 0, 35, 172]
abbrev dktX2_fact_7 : List UInt8 := dkwX2_fact_7 ++ []
def dkwX2_fact_6 : List UInt8 := [180, 0, 41, 16, 7, 46, 172, 42, 180, 0, 15, 180, 0, 29, 42, 180, 0, 23, 50, 27, 16, 7, 100]
abbrev dktX2_fact_6 : List UInt8 := dkwX2_fact_6 ++ dktX2_fact_7
def dkwX2_fact_5 : List UInt8 := [180, 0, 15, 42, 180, 0, 23, 42, 180, 0, 26, 182, 0, 48, 153, 0, 7, 4, 167, 0, 4, 3, 172, 44]
abbrev dktX2_fact_5 : List UInt8 := dkwX2_fact_5 ++ dktX2_fact_6
def dkwX2_fact_4 : List UInt8 := [180, 0, 15, 42, 180, 0, 19, 42, 180, 0, 26, 182, 0, 48, 153, 0, 7, 4, 167, 0, 4, 3, 172, 42]
abbrev dktX2_fact_4 : List UInt8 := dkwX2_fact_4 ++ dktX2_fact_5
def dkwX2_fact_3 : List UInt8 := [180, 0, 45, 172, 42, 180, 0, 15, 180, 0, 29, 42, 180, 0, 23, 50, 180, 0, 41, 4, 46, 172, 42]
abbrev dktX2_fact_3 : List UInt8 := dkwX2_fact_3 ++ dktX2_fact_4
def dkwX2_fact_2 : List UInt8 := [44, 27, 182, 0, 35, 172, 42, 180, 0, 26, 172, 44, 180, 0, 41, 4, 46, 172, 42, 180, 0, 15]
abbrev dktX2_fact_2 : List UInt8 := dkwX2_fact_2 ++ dktX2_fact_3
def dkwX2_fact_1 : List UInt8 := [170, 0, 0, 0, 0, 174, 0, 0, 0, 0, 0, 0, 0, 14, 0, 0, 0, 74, 0, 0, 0, 74, 0, 0, 0, 74, 0, 0, 0, 74, 0, 0, 0, 80, 0, 0, 0, 85, 0, 0, 0, 92, 0, 0, 0, 174, 0, 0, 0, 174, 0, 0, 0, 174, 0, 0, 0, 174, 0, 0, 0, 100, 0, 0, 0, 118, 0, 0, 0, 142, 0, 0, 0, 166]
abbrev dktX2_fact_1 : List UInt8 := dkwX2_fact_1 ++ dktX2_fact_2
def dkwX2_fact_0 : List UInt8 := [42, 180, 0, 15, 180, 0, 29, 42, 180, 0, 19, 50, 77, 27]
abbrev dktX2_fact_0 : List UInt8 := dkwX2_fact_0 ++ dktX2_fact_1
theorem dksX2_fact_0 : cX2_fact.data.toList.drop 0 = dktX2_fact_0 := by decide +kernel
theorem dksX2_fact_1 : cX2_fact.data.toList.drop 14 = dktX2_fact_1 := dk_seg dksX2_fact_0 14 rfl rfl
theorem dksX2_fact_2 : cX2_fact.data.toList.drop 88 = dktX2_fact_2 := dk_seg dksX2_fact_1 74 rfl rfl
theorem dksX2_fact_3 : cX2_fact.data.toList.drop 110 = dktX2_fact_3 := dk_seg dksX2_fact_2 22 rfl rfl
theorem dksX2_fact_4 : cX2_fact.data.toList.drop 133 = dktX2_fact_4 := dk_seg dksX2_fact_3 23 rfl rfl
theorem dksX2_fact_5 : cX2_fact.data.toList.drop 157 = dktX2_fact_5 := dk_seg dksX2_fact_4 24 rfl rfl
theorem dksX2_fact_6 : cX2_fact.data.toList.drop 181 = dktX2_fact_6 := dk_seg dksX2_fact_5 24 rfl rfl
theorem dksX2_fact_7 : cX2_fact.data.toList.drop 204 = dktX2_fact_7 := dk_seg dksX2_fact_6 23 rfl rfl
theorem dX2_fact_0 : decode cX2_fact 0 = .ok (.aload_n 0, 1) := dk_42 (dk_at dksX2_fact_0 0 rfl rfl)
theorem dX2_fact_1 : decode cX2_fact 1 = .ok (.getfield 15, 3) := dk_180 0 15 (dk_at dksX2_fact_0 1 rfl rfl)
theorem dX2_fact_4 : decode cX2_fact 4 = .ok (.getfield 29, 3) := dk_180 0 29 (dk_at dksX2_fact_0 4 rfl rfl)
theorem dX2_fact_7 : decode cX2_fact 7 = .ok (.aload_n 0, 1) := dk_42 (dk_at dksX2_fact_0 7 rfl rfl)
theorem dX2_fact_8 : decode cX2_fact 8 = .ok (.getfield 19, 3) := dk_180 0 19 (dk_at dksX2_fact_0 8 rfl rfl)
theorem dX2_fact_11 : decode cX2_fact 11 = .ok (.aaload, 1) := dk_50 (dk_at dksX2_fact_0 11 rfl rfl)
theorem dX2_fact_12 : decode cX2_fact 12 = .ok (.astore_n 2, 1) := dk_77 (dk_at dksX2_fact_0 12 rfl rfl)
theorem dX2_fact_13 : decode cX2_fact 13 = .ok (.iload_n 1, 1) := dk_27 (dk_at dksX2_fact_0 13 rfl rfl)
theorem dX2_fact_14 : decode cX2_fact 14 = .ok (.tableswitch 174 0 14 #[74, 74, 74, 74, 80, 85, 92, 174, 174, 174, 174, 100, 118, 142, 166], 74) := by decide +kernel
theorem dX2_fact_88 : decode cX2_fact 88 = .ok (.aload_n 2, 1) := dk_44 (dk_at dksX2_fact_2 0 rfl rfl)
theorem dX2_fact_89 : decode cX2_fact 89 = .ok (.iload_n 1, 1) := dk_27 (dk_at dksX2_fact_2 1 rfl rfl)
theorem dX2_fact_90 : decode cX2_fact 90 = .ok (.invokevirtual 35, 3) := dk_182 0 35 (dk_at dksX2_fact_2 2 rfl rfl)
theorem dX2_fact_93 : decode cX2_fact 93 = .ok (.ireturn, 1) := dk_172 (dk_at dksX2_fact_2 5 rfl rfl)
theorem dX2_fact_94 : decode cX2_fact 94 = .ok (.aload_n 0, 1) := dk_42 (dk_at dksX2_fact_2 6 rfl rfl)
theorem dX2_fact_95 : decode cX2_fact 95 = .ok (.getfield 26, 3) := dk_180 0 26 (dk_at dksX2_fact_2 7 rfl rfl)
theorem dX2_fact_98 : decode cX2_fact 98 = .ok (.ireturn, 1) := dk_172 (dk_at dksX2_fact_2 10 rfl rfl)
theorem dX2_fact_99 : decode cX2_fact 99 = .ok (.aload_n 2, 1) := dk_44 (dk_at dksX2_fact_2 11 rfl rfl)
theorem dX2_fact_100 : decode cX2_fact 100 = .ok (.getfield 41, 3) := dk_180 0 41 (dk_at dksX2_fact_2 12 rfl rfl)
theorem dX2_fact_103 : decode cX2_fact 103 = .ok (.iconst 1, 1) := dk_4 (dk_at dksX2_fact_2 15 rfl rfl)
theorem dX2_fact_104 : decode cX2_fact 104 = .ok (.iaload, 1) := dk_46 (dk_at dksX2_fact_2 16 rfl rfl)
theorem dX2_fact_105 : decode cX2_fact 105 = .ok (.ireturn, 1) := dk_172 (dk_at dksX2_fact_2 17 rfl rfl)
theorem dX2_fact_106 : decode cX2_fact 106 = .ok (.aload_n 0, 1) := dk_42 (dk_at dksX2_fact_2 18 rfl rfl)
theorem dX2_fact_107 : decode cX2_fact 107 = .ok (.getfield 15, 3) := dk_180 0 15 (dk_at dksX2_fact_2 19 rfl rfl)
theorem dX2_fact_110 : decode cX2_fact 110 = .ok (.getfield 45, 3) := dk_180 0 45 (dk_at dksX2_fact_3 0 rfl rfl)
theorem dX2_fact_113 : decode cX2_fact 113 = .ok (.ireturn, 1) := dk_172 (dk_at dksX2_fact_3 3 rfl rfl)
theorem dX2_fact_114 : decode cX2_fact 114 = .ok (.aload_n 0, 1) := dk_42 (dk_at dksX2_fact_3 4 rfl rfl)
theorem dX2_fact_115 : decode cX2_fact 115 = .ok (.getfield 15, 3) := dk_180 0 15 (dk_at dksX2_fact_3 5 rfl rfl)
theorem dX2_fact_118 : decode cX2_fact 118 = .ok (.getfield 29, 3) := dk_180 0 29 (dk_at dksX2_fact_3 8 rfl rfl)
theorem dX2_fact_121 : decode cX2_fact 121 = .ok (.aload_n 0, 1) := dk_42 (dk_at dksX2_fact_3 11 rfl rfl)
theorem dX2_fact_122 : decode cX2_fact 122 = .ok (.getfield 23, 3) := dk_180 0 23 (dk_at dksX2_fact_3 12 rfl rfl)
theorem dX2_fact_125 : decode cX2_fact 125 = .ok (.aaload, 1) := dk_50 (dk_at dksX2_fact_3 15 rfl rfl)
theorem dX2_fact_126 : decode cX2_fact 126 = .ok (.getfield 41, 3) := dk_180 0 41 (dk_at dksX2_fact_3 16 rfl rfl)
theorem dX2_fact_129 : decode cX2_fact 129 = .ok (.iconst 1, 1) := dk_4 (dk_at dksX2_fact_3 19 rfl rfl)
theorem dX2_fact_130 : decode cX2_fact 130 = .ok (.iaload, 1) := dk_46 (dk_at dksX2_fact_3 20 rfl rfl)
theorem dX2_fact_131 : decode cX2_fact 131 = .ok (.ireturn, 1) := dk_172 (dk_at dksX2_fact_3 21 rfl rfl)
theorem dX2_fact_132 : decode cX2_fact 132 = .ok (.aload_n 0, 1) := dk_42 (dk_at dksX2_fact_3 22 rfl rfl)
theorem dX2_fact_133 : decode cX2_fact 133 = .ok (.getfield 15, 3) := dk_180 0 15 (dk_at dksX2_fact_4 0 rfl rfl)
theorem dX2_fact_136 : decode cX2_fact 136 = .ok (.aload_n 0, 1) := dk_42 (dk_at dksX2_fact_4 3 rfl rfl)
theorem dX2_fact_137 : decode cX2_fact 137 = .ok (.getfield 19, 3) := dk_180 0 19 (dk_at dksX2_fact_4 4 rfl rfl)
theorem dX2_fact_140 : decode cX2_fact 140 = .ok (.aload_n 0, 1) := dk_42 (dk_at dksX2_fact_4 7 rfl rfl)
theorem dX2_fact_141 : decode cX2_fact 141 = .ok (.getfield 26, 3) := dk_180 0 26 (dk_at dksX2_fact_4 8 rfl rfl)
theorem dX2_fact_144 : decode cX2_fact 144 = .ok (.invokevirtual 48, 3) := dk_182 0 48 (dk_at dksX2_fact_4 11 rfl rfl)
theorem dX2_fact_147 : decode cX2_fact 147 = .ok (.ifCond .eq 7, 3) := dk_153 0 7 (dk_at dksX2_fact_4 14 rfl rfl)
theorem dX2_fact_150 : decode cX2_fact 150 = .ok (.iconst 1, 1) := dk_4 (dk_at dksX2_fact_4 17 rfl rfl)
theorem dX2_fact_151 : decode cX2_fact 151 = .ok (.goto 4, 3) := dk_167 0 4 (dk_at dksX2_fact_4 18 rfl rfl)
theorem dX2_fact_154 : decode cX2_fact 154 = .ok (.iconst 0, 1) := dk_3 (dk_at dksX2_fact_4 21 rfl rfl)
theorem dX2_fact_155 : decode cX2_fact 155 = .ok (.ireturn, 1) := dk_172 (dk_at dksX2_fact_4 22 rfl rfl)
theorem dX2_fact_156 : decode cX2_fact 156 = .ok (.aload_n 0, 1) := dk_42 (dk_at dksX2_fact_4 23 rfl rfl)
theorem dX2_fact_157 : decode cX2_fact 157 = .ok (.getfield 15, 3) := dk_180 0 15 (dk_at dksX2_fact_5 0 rfl rfl)
theorem dX2_fact_160 : decode cX2_fact 160 = .ok (.aload_n 0, 1) := dk_42 (dk_at dksX2_fact_5 3 rfl rfl)
theorem dX2_fact_161 : decode cX2_fact 161 = .ok (.getfield 23, 3) := dk_180 0 23 (dk_at dksX2_fact_5 4 rfl rfl)
theorem dX2_fact_164 : decode cX2_fact 164 = .ok (.aload_n 0, 1) := dk_42 (dk_at dksX2_fact_5 7 rfl rfl)
theorem dX2_fact_165 : decode cX2_fact 165 = .ok (.getfield 26, 3) := dk_180 0 26 (dk_at dksX2_fact_5 8 rfl rfl)
theorem dX2_fact_168 : decode cX2_fact 168 = .ok (.invokevirtual 48, 3) := dk_182 0 48 (dk_at dksX2_fact_5 11 rfl rfl)
theorem dX2_fact_171 : decode cX2_fact 171 = .ok (.ifCond .eq 7, 3) := dk_153 0 7 (dk_at dksX2_fact_5 14 rfl rfl)
theorem dX2_fact_174 : decode cX2_fact 174 = .ok (.iconst 1, 1) := dk_4 (dk_at dksX2_fact_5 17 rfl rfl)
theorem dX2_fact_175 : decode cX2_fact 175 = .ok (.goto 4, 3) := dk_167 0 4 (dk_at dksX2_fact_5 18 rfl rfl)
theorem dX2_fact_178 : decode cX2_fact 178 = .ok (.iconst 0, 1) := dk_3 (dk_at dksX2_fact_5 21 rfl rfl)
theorem dX2_fact_179 : decode cX2_fact 179 = .ok (.ireturn, 1) := dk_172 (dk_at dksX2_fact_5 22 rfl rfl)
theorem dX2_fact_180 : decode cX2_fact 180 = .ok (.aload_n 2, 1) := dk_44 (dk_at dksX2_fact_5 23 rfl rfl)
theorem dX2_fact_181 : decode cX2_fact 181 = .ok (.getfield 41, 3) := dk_180 0 41 (dk_at dksX2_fact_6 0 rfl rfl)
theorem dX2_fact_184 : decode cX2_fact 184 = .ok (.bipush 7, 2) := dk_16 7 (dk_at dksX2_fact_6 3 rfl rfl)
theorem dX2_fact_186 : decode cX2_fact 186 = .ok (.iaload, 1) := dk_46 (dk_at dksX2_fact_6 5 rfl rfl)
theorem dX2_fact_187 : decode cX2_fact 187 = .ok (.ireturn, 1) := dk_172 (dk_at dksX2_fact_6 6 rfl rfl)
theorem dX2_fact_188 : decode cX2_fact 188 = .ok (.aload_n 0, 1) := dk_42 (dk_at dksX2_fact_6 7 rfl rfl)
theorem dX2_fact_189 : decode cX2_fact 189 = .ok (.getfield 15, 3) := dk_180 0 15 (dk_at dksX2_fact_6 8 rfl rfl)
theorem dX2_fact_192 : decode cX2_fact 192 = .ok (.getfield 29, 3) := dk_180 0 29 (dk_at dksX2_fact_6 11 rfl rfl)
theorem dX2_fact_195 : decode cX2_fact 195 = .ok (.aload_n 0, 1) := dk_42 (dk_at dksX2_fact_6 14 rfl rfl)
theorem dX2_fact_196 : decode cX2_fact 196 = .ok (.getfield 23, 3) := dk_180 0 23 (dk_at dksX2_fact_6 15 rfl rfl)
theorem dX2_fact_199 : decode cX2_fact 199 = .ok (.aaload, 1) := dk_50 (dk_at dksX2_fact_6 18 rfl rfl)
theorem dX2_fact_200 : decode cX2_fact 200 = .ok (.iload_n 1, 1) := dk_27 (dk_at dksX2_fact_6 19 rfl rfl)
theorem dX2_fact_201 : decode cX2_fact 201 = .ok (.bipush 7, 2) := dk_16 7 (dk_at dksX2_fact_6 20 rfl rfl)
theorem dX2_fact_203 : decode cX2_fact 203 = .ok (.isub, 1) := dk_100 (dk_at dksX2_fact_6 22 rfl rfl)
theorem dX2_fact_204 : decode cX2_fact 204 = .ok (.invokevirtual 35, 3) := dk_182 0 35 (dk_at dksX2_fact_7 0 rfl rfl)
theorem dX2_fact_207 : decode cX2_fact 207 = .ok (.ireturn, 1) := dk_172 (dk_at dksX2_fact_7 3 rfl rfl)
theorem q120 : (Jvm.Cond.initialized "NotchSticks$Case") ∈ lw_all := lw_g (lw_at lw_m1 10 rfl) rfl
theorem q208 : (Jvm.Cond.selects "NotchSticks$Case" ({ cls := "java/lang/Object", name := "getClass", desc := "()Ljava/lang/Class;" } : Jvm.MethodName) ({ cls := "java/lang/Object", name := "getClass", desc := "()Ljava/lang/Class;" } : Jvm.MethodName)) ∈ lw_all := lw_g (lw_at lw_m1 98 rfl) rfl
theorem q248 : (Jvm.Cond.instantiable "NotchSticks$Case" (5 : Nat)) ∈ lw_all := lw_g (lw_at lw_m1 138 rfl) rfl
theorem q250 : (Jvm.Cond.instanceMethod ({ cls := "NotchSticks$Case", name := "<init>", desc := "(LNotchSticks;)V" } : Jvm.MethodName)) ∈ lw_all := lw_g (lw_at lw_m1 140 rfl) rfl
theorem q251 : (Jvm.Cond.code ({ cls := "NotchSticks$Case", name := "<init>", desc := "(LNotchSticks;)V" } : Jvm.MethodName) prog_3_method_1_code (2 : Nat) (Option.none : Option Jvm.ClassFile.FieldType)) ∈ lw_all := lw_g (lw_at lw_m1 141 rfl) rfl
theorem q252 : (Jvm.Cond.methodLink "NotchSticks$Case" (9 : Nat) ({ cls := "java/lang/Object", name := "<init>", desc := "()V" } : Jvm.MethodName)) ∈ lw_all := lw_g (lw_at lw_m1 142 rfl) rfl
theorem q253 : (Jvm.Cond.fieldLink "NotchSticks$Case" (15 : Nat) "NotchSticks$Case" "v" "LNotchSticks$Valley;") ∈ lw_all := lw_g (lw_at lw_m1 143 rfl) rfl
theorem q254 : (Jvm.Cond.fieldLink "NotchSticks$Case" (19 : Nat) "NotchSticks$Case" "who" "I") ∈ lw_all := lw_g (lw_at lw_m1 144 rfl) rfl
theorem q255 : (Jvm.Cond.fieldLink "NotchSticks$Case" (23 : Nat) "NotchSticks$Case" "other" "I") ∈ lw_all := lw_g (lw_at lw_m1 145 rfl) rfl
theorem q256 : (Jvm.Cond.fieldLink "NotchSticks$Case" (26 : Nat) "NotchSticks$Case" "size" "I") ∈ lw_all := lw_g (lw_at lw_m1 146 rfl) rfl
theorem q257 : (Jvm.Cond.fieldLink "NotchSticks$Case" (3 : Nat) "NotchSticks$Case" "this$0" "LNotchSticks;") ∈ lw_all := lw_g (lw_at lw_m1 147 rfl) rfl
theorem q258 : (Jvm.Cond.lays "NotchSticks$Case" "NotchSticks$Case" "v" "LNotchSticks$Valley;") ∈ lw_all := lw_g (lw_at lw_m1 148 rfl) rfl
theorem q259 : (Jvm.Cond.soleField "NotchSticks$Case" "v") ∈ lw_all := lw_g (lw_at lw_m1 149 rfl) rfl
theorem q260 : (Jvm.Cond.lays "NotchSticks$Case" "NotchSticks$Case" "who" "I") ∈ lw_all := lw_g (lw_at lw_m1 150 rfl) rfl
theorem q261 : (Jvm.Cond.soleField "NotchSticks$Case" "who") ∈ lw_all := lw_g (lw_at lw_m1 151 rfl) rfl
theorem q262 : (Jvm.Cond.lays "NotchSticks$Case" "NotchSticks$Case" "other" "I") ∈ lw_all := lw_g (lw_at lw_m1 152 rfl) rfl
theorem q263 : (Jvm.Cond.soleField "NotchSticks$Case" "other") ∈ lw_all := lw_g (lw_at lw_m1 153 rfl) rfl
theorem q264 : (Jvm.Cond.lays "NotchSticks$Case" "NotchSticks$Case" "size" "I") ∈ lw_all := lw_g (lw_at lw_m1 154 rfl) rfl
theorem q265 : (Jvm.Cond.soleField "NotchSticks$Case" "size") ∈ lw_all := lw_g (lw_at lw_m1 155 rfl) rfl
theorem q266 : (Jvm.Cond.laysFinal "NotchSticks$Case" "NotchSticks$Case" "this$0" "LNotchSticks;") ∈ lw_all := lw_g (lw_at lw_m1 156 rfl) rfl
theorem q267 : (Jvm.Cond.soleField "NotchSticks$Case" "this$0") ∈ lw_all := lw_g (lw_at lw_m1 157 rfl) rfl
theorem q268 : (Jvm.Cond.superclass "NotchSticks$Case" "java/lang/Object") ∈ lw_all := lw_g (lw_at lw_m1 158 rfl) rfl
theorem q276 : (Jvm.Cond.fieldLinkNest "NotchSticks$Case" (41 : Nat) "NotchSticks$Person" "own" "[I" "NotchSticks") ∈ lw_tbl := lw_at lw_m1 166 rfl
theorem q294 : (Jvm.Cond.fieldLinkNest "NotchSticks$Case" (29 : Nat) "NotchSticks$Valley" "people" "[LNotchSticks$Person;" "NotchSticks") ∈ lw_tbl := lw_at lw_m1 184 rfl
theorem q308 : (Jvm.Cond.fieldLinkNest "NotchSticks$Case" (45 : Nat) "NotchSticks$Valley" "year" "I" "NotchSticks") ∈ lw_tbl := lw_at lw_m1 198 rfl
theorem q829 : (Jvm.Cond.instanceMethod ({ cls := "NotchSticks$Case", name := "of", desc := "(LNotchSticks$Valley;III)LNotchSticks$Case;" } : Jvm.MethodName)) ∈ lw_all := lw_g (lw_at lw_m3 239 rfl) rfl
theorem q830 : (Jvm.Cond.selects "NotchSticks$Case" ({ cls := "NotchSticks$Case", name := "of", desc := "(LNotchSticks$Valley;III)LNotchSticks$Case;" } : Jvm.MethodName) ({ cls := "NotchSticks$Case", name := "of", desc := "(LNotchSticks$Valley;III)LNotchSticks$Case;" } : Jvm.MethodName)) ∈ lw_all := lw_g (lw_at lw_m4 0 rfl) rfl
theorem q831 : (Jvm.Cond.code ({ cls := "NotchSticks$Case", name := "of", desc := "(LNotchSticks$Valley;III)LNotchSticks$Case;" } : Jvm.MethodName) prog_3_method_2_code (5 : Nat) (Option.some (Jvm.ClassFile.FieldType.object "NotchSticks$Case"))) ∈ lw_all := lw_g (lw_at lw_m4 1 rfl) rfl
theorem q844 : (Jvm.Cond.castable "NotchSticks$Case" "NotchSticks$Asker") ∈ lw_tbl := lw_at lw_m4 14 rfl
theorem q845 : (Jvm.Cond.selects "NotchSticks$Case" ({ cls := "NotchSticks$Asker", name := "fact", desc := "(I)I" } : Jvm.MethodName) ({ cls := "NotchSticks$Case", name := "fact", desc := "(I)I" } : Jvm.MethodName)) ∈ lw_all := lw_g (lw_at lw_m4 15 rfl) rfl
theorem q846 : (Jvm.Cond.unhidden "NotchSticks$Case" "fact" "(I)I") ∈ lw_tbl := lw_at lw_m4 16 rfl
theorem q847 : (Jvm.Cond.instanceMethod ({ cls := "NotchSticks$Case", name := "fact", desc := "(I)I" } : Jvm.MethodName)) ∈ lw_all := lw_g (lw_at lw_m4 17 rfl) rfl
theorem q848 : (Jvm.Cond.publicMethod ({ cls := "NotchSticks$Case", name := "fact", desc := "(I)I" } : Jvm.MethodName)) ∈ lw_tbl := lw_at lw_m4 18 rfl
theorem q849 : (Jvm.Cond.code ({ cls := "NotchSticks$Case", name := "fact", desc := "(I)I" } : Jvm.MethodName) prog_3_method_3_code (3 : Nat) (Option.some Jvm.ClassFile.FieldType.int)) ∈ lw_all := lw_g (lw_at lw_m4 19 rfl) rfl
theorem q850 : (Jvm.Cond.methodLink "NotchSticks$Case" (35 : Nat) ({ cls := "NotchSticks$Person", name := "notch", desc := "(I)I" } : Jvm.MethodName)) ∈ lw_all := lw_g (lw_at lw_m4 20 rfl) rfl
theorem q854 : (Jvm.Cond.methodLink "NotchSticks$Case" (48 : Nat) ({ cls := "NotchSticks$Valley", name := "isLawful", desc := "(II)Z" } : Jvm.MethodName)) ∈ lw_all := lw_g (lw_at lw_m4 24 rfl) rfl
theorem q1714 : (Jvm.Cond.castable "NotchSticks$Case" "java/lang/Object") ∈ lw_tbl := lw_at lw_m7 164 rfl
theorem in_X2 : ∀ w ∈ wsX20, w ∈ lw_all := lw_in wsX20 [258, 260, 262, 264, 266] (by decide +kernel) (by decide +kernel)
/-! NotchSticks$Person -/
set_option maxRecDepth 100000
def RX3 : String := "NotchSticks$Person"
def TX3 : u_T := fun k => match k with
  | _ => ("NotchSticks$Person", "own", "[I", true)
def tyX3 : Nat → FieldType := fun k => match k with
  | _ => .array .int
abbrev wsX30 : List Cond := u_ws RX3 TX3 1
theorem nmX3 : ∀ a, a < 1 → ∀ b, b < 1 → a ≠ b → (TX3 a).2.1 ≠ (TX3 b).2.1 := by decide +kernel
theorem tyX3_ok : ∀ k, k < 1 → parseFieldDescriptor (TX3 k).2.2.1 = some (tyX3 k) := by decide +kernel
abbrev cX3_init : ByteArray := prog_12_method_1_code
def yX3_init : MethodName := ⟨RX3, "<init>", "()V"⟩
def dkwX3_init_0 : List UInt8 := [42, 183, 0, 3, 42, 16, 9, 188, 10, 181, 0, 9, 177]
abbrev dktX3_init_0 : List UInt8 := dkwX3_init_0 ++ []
theorem dksX3_init_0 : cX3_init.data.toList.drop 0 = dktX3_init_0 := by decide +kernel
theorem dX3_init_0 : decode cX3_init 0 = .ok (.aload_n 0, 1) := dk_42 (dk_at dksX3_init_0 0 rfl rfl)
theorem dX3_init_1 : decode cX3_init 1 = .ok (.invokespecial 3, 3) := dk_183 0 3 (dk_at dksX3_init_0 1 rfl rfl)
theorem dX3_init_4 : decode cX3_init 4 = .ok (.aload_n 0, 1) := dk_42 (dk_at dksX3_init_0 4 rfl rfl)
theorem dX3_init_5 : decode cX3_init 5 = .ok (.bipush 9, 2) := dk_16 9 (dk_at dksX3_init_0 5 rfl rfl)
theorem dX3_init_7 : decode cX3_init 7 = .ok (.newarray .int, 2) := dk_188_10 (dk_at dksX3_init_0 7 rfl rfl)
theorem dX3_init_9 : decode cX3_init 9 = .ok (.putfield 9, 3) := dk_181 0 9 (dk_at dksX3_init_0 9 rfl rfl)
theorem dX3_init_12 : decode cX3_init 12 = .ok (.return_, 1) := dk_177 (dk_at dksX3_init_0 12 rfl rfl)
abbrev cX3_notch : ByteArray := prog_12_method_3_code
def yX3_notch : MethodName := ⟨RX3, "notch", "(I)I"⟩
def dkwX3_notch_0 : List UInt8 := [42, 180, 0, 9, 5, 27, 96, 46, 172]
abbrev dktX3_notch_0 : List UInt8 := dkwX3_notch_0 ++ []
theorem dksX3_notch_0 : cX3_notch.data.toList.drop 0 = dktX3_notch_0 := by decide +kernel
theorem dX3_notch_0 : decode cX3_notch 0 = .ok (.aload_n 0, 1) := dk_42 (dk_at dksX3_notch_0 0 rfl rfl)
theorem dX3_notch_1 : decode cX3_notch 1 = .ok (.getfield 9, 3) := dk_180 0 9 (dk_at dksX3_notch_0 1 rfl rfl)
theorem dX3_notch_4 : decode cX3_notch 4 = .ok (.iconst 2, 1) := dk_5 (dk_at dksX3_notch_0 4 rfl rfl)
theorem dX3_notch_5 : decode cX3_notch 5 = .ok (.iload_n 1, 1) := dk_27 (dk_at dksX3_notch_0 5 rfl rfl)
theorem dX3_notch_6 : decode cX3_notch 6 = .ok (.iadd, 1) := dk_96 (dk_at dksX3_notch_0 6 rfl rfl)
theorem dX3_notch_7 : decode cX3_notch 7 = .ok (.iaload, 1) := dk_46 (dk_at dksX3_notch_0 7 rfl rfl)
theorem dX3_notch_8 : decode cX3_notch 8 = .ok (.ireturn, 1) := dk_172 (dk_at dksX3_notch_0 8 rfl rfl)
abbrev cX3_keeps : ByteArray := prog_12_method_4_code
def yX3_keeps : MethodName := ⟨RX3, "keeps", "(I)V"⟩
def dkwX3_keeps_1 : List UInt8 := [7, 17, 39, 15, 42, 180, 0, 9, 7, 46, 27, 96, 184, 0, 15, 79, 177]
abbrev dktX3_keeps_1 : List UInt8 := dkwX3_keeps_1 ++ []
def dkwX3_keeps_0 : List UInt8 := [42, 180, 0, 9, 5, 17, 39, 15, 42, 180, 0, 9, 5, 46, 4, 96, 184, 0, 15, 79, 42, 180, 0, 9]
abbrev dktX3_keeps_0 : List UInt8 := dkwX3_keeps_0 ++ dktX3_keeps_1
theorem dksX3_keeps_0 : cX3_keeps.data.toList.drop 0 = dktX3_keeps_0 := by decide +kernel
theorem dksX3_keeps_1 : cX3_keeps.data.toList.drop 24 = dktX3_keeps_1 := dk_seg dksX3_keeps_0 24 rfl rfl
theorem dX3_keeps_0 : decode cX3_keeps 0 = .ok (.aload_n 0, 1) := dk_42 (dk_at dksX3_keeps_0 0 rfl rfl)
theorem dX3_keeps_1 : decode cX3_keeps 1 = .ok (.getfield 9, 3) := dk_180 0 9 (dk_at dksX3_keeps_0 1 rfl rfl)
theorem dX3_keeps_4 : decode cX3_keeps 4 = .ok (.iconst 2, 1) := dk_5 (dk_at dksX3_keeps_0 4 rfl rfl)
theorem dX3_keeps_5 : decode cX3_keeps 5 = .ok (.sipush 9999, 3) := dk_17 39 15 (dk_at dksX3_keeps_0 5 rfl rfl)
theorem dX3_keeps_8 : decode cX3_keeps 8 = .ok (.aload_n 0, 1) := dk_42 (dk_at dksX3_keeps_0 8 rfl rfl)
theorem dX3_keeps_9 : decode cX3_keeps 9 = .ok (.getfield 9, 3) := dk_180 0 9 (dk_at dksX3_keeps_0 9 rfl rfl)
theorem dX3_keeps_12 : decode cX3_keeps 12 = .ok (.iconst 2, 1) := dk_5 (dk_at dksX3_keeps_0 12 rfl rfl)
theorem dX3_keeps_13 : decode cX3_keeps 13 = .ok (.iaload, 1) := dk_46 (dk_at dksX3_keeps_0 13 rfl rfl)
theorem dX3_keeps_14 : decode cX3_keeps 14 = .ok (.iconst 1, 1) := dk_4 (dk_at dksX3_keeps_0 14 rfl rfl)
theorem dX3_keeps_15 : decode cX3_keeps 15 = .ok (.iadd, 1) := dk_96 (dk_at dksX3_keeps_0 15 rfl rfl)
theorem dX3_keeps_16 : decode cX3_keeps 16 = .ok (.invokestatic 15, 3) := dk_184 0 15 (dk_at dksX3_keeps_0 16 rfl rfl)
theorem dX3_keeps_19 : decode cX3_keeps 19 = .ok (.iastore, 1) := dk_79 (dk_at dksX3_keeps_0 19 rfl rfl)
theorem dX3_keeps_20 : decode cX3_keeps 20 = .ok (.aload_n 0, 1) := dk_42 (dk_at dksX3_keeps_0 20 rfl rfl)
theorem dX3_keeps_21 : decode cX3_keeps 21 = .ok (.getfield 9, 3) := dk_180 0 9 (dk_at dksX3_keeps_0 21 rfl rfl)
theorem dX3_keeps_24 : decode cX3_keeps 24 = .ok (.iconst 4, 1) := dk_7 (dk_at dksX3_keeps_1 0 rfl rfl)
theorem dX3_keeps_25 : decode cX3_keeps 25 = .ok (.sipush 9999, 3) := dk_17 39 15 (dk_at dksX3_keeps_1 1 rfl rfl)
theorem dX3_keeps_28 : decode cX3_keeps 28 = .ok (.aload_n 0, 1) := dk_42 (dk_at dksX3_keeps_1 4 rfl rfl)
theorem dX3_keeps_29 : decode cX3_keeps 29 = .ok (.getfield 9, 3) := dk_180 0 9 (dk_at dksX3_keeps_1 5 rfl rfl)
theorem dX3_keeps_32 : decode cX3_keeps 32 = .ok (.iconst 4, 1) := dk_7 (dk_at dksX3_keeps_1 8 rfl rfl)
theorem dX3_keeps_33 : decode cX3_keeps 33 = .ok (.iaload, 1) := dk_46 (dk_at dksX3_keeps_1 9 rfl rfl)
theorem dX3_keeps_34 : decode cX3_keeps 34 = .ok (.iload_n 1, 1) := dk_27 (dk_at dksX3_keeps_1 10 rfl rfl)
theorem dX3_keeps_35 : decode cX3_keeps 35 = .ok (.iadd, 1) := dk_96 (dk_at dksX3_keeps_1 11 rfl rfl)
theorem dX3_keeps_36 : decode cX3_keeps 36 = .ok (.invokestatic 15, 3) := dk_184 0 15 (dk_at dksX3_keeps_1 12 rfl rfl)
theorem dX3_keeps_39 : decode cX3_keeps 39 = .ok (.iastore, 1) := dk_79 (dk_at dksX3_keeps_1 15 rfl rfl)
theorem dX3_keeps_40 : decode cX3_keeps 40 = .ok (.return_, 1) := dk_177 (dk_at dksX3_keeps_1 16 rfl rfl)
abbrev cX3_breaks : ByteArray := prog_12_method_5_code
def yX3_breaks : MethodName := ⟨RX3, "breaks", "(I)V"⟩
def dkwX3_breaks_1 : List UInt8 := [8, 17, 39, 15, 42, 180, 0, 9, 8, 46, 27, 96, 184, 0, 15, 79, 177]
abbrev dktX3_breaks_1 : List UInt8 := dkwX3_breaks_1 ++ []
def dkwX3_breaks_0 : List UInt8 := [42, 180, 0, 9, 6, 17, 39, 15, 42, 180, 0, 9, 6, 46, 4, 96, 184, 0, 15, 79, 42, 180, 0, 9]
abbrev dktX3_breaks_0 : List UInt8 := dkwX3_breaks_0 ++ dktX3_breaks_1
theorem dksX3_breaks_0 : cX3_breaks.data.toList.drop 0 = dktX3_breaks_0 := by decide +kernel
theorem dksX3_breaks_1 : cX3_breaks.data.toList.drop 24 = dktX3_breaks_1 := dk_seg dksX3_breaks_0 24 rfl rfl
theorem dX3_breaks_0 : decode cX3_breaks 0 = .ok (.aload_n 0, 1) := dk_42 (dk_at dksX3_breaks_0 0 rfl rfl)
theorem dX3_breaks_1 : decode cX3_breaks 1 = .ok (.getfield 9, 3) := dk_180 0 9 (dk_at dksX3_breaks_0 1 rfl rfl)
theorem dX3_breaks_4 : decode cX3_breaks 4 = .ok (.iconst 3, 1) := dk_6 (dk_at dksX3_breaks_0 4 rfl rfl)
theorem dX3_breaks_5 : decode cX3_breaks 5 = .ok (.sipush 9999, 3) := dk_17 39 15 (dk_at dksX3_breaks_0 5 rfl rfl)
theorem dX3_breaks_8 : decode cX3_breaks 8 = .ok (.aload_n 0, 1) := dk_42 (dk_at dksX3_breaks_0 8 rfl rfl)
theorem dX3_breaks_9 : decode cX3_breaks 9 = .ok (.getfield 9, 3) := dk_180 0 9 (dk_at dksX3_breaks_0 9 rfl rfl)
theorem dX3_breaks_12 : decode cX3_breaks 12 = .ok (.iconst 3, 1) := dk_6 (dk_at dksX3_breaks_0 12 rfl rfl)
theorem dX3_breaks_13 : decode cX3_breaks 13 = .ok (.iaload, 1) := dk_46 (dk_at dksX3_breaks_0 13 rfl rfl)
theorem dX3_breaks_14 : decode cX3_breaks 14 = .ok (.iconst 1, 1) := dk_4 (dk_at dksX3_breaks_0 14 rfl rfl)
theorem dX3_breaks_15 : decode cX3_breaks 15 = .ok (.iadd, 1) := dk_96 (dk_at dksX3_breaks_0 15 rfl rfl)
theorem dX3_breaks_16 : decode cX3_breaks 16 = .ok (.invokestatic 15, 3) := dk_184 0 15 (dk_at dksX3_breaks_0 16 rfl rfl)
theorem dX3_breaks_19 : decode cX3_breaks 19 = .ok (.iastore, 1) := dk_79 (dk_at dksX3_breaks_0 19 rfl rfl)
theorem dX3_breaks_20 : decode cX3_breaks 20 = .ok (.aload_n 0, 1) := dk_42 (dk_at dksX3_breaks_0 20 rfl rfl)
theorem dX3_breaks_21 : decode cX3_breaks 21 = .ok (.getfield 9, 3) := dk_180 0 9 (dk_at dksX3_breaks_0 21 rfl rfl)
theorem dX3_breaks_24 : decode cX3_breaks 24 = .ok (.iconst 5, 1) := dk_8 (dk_at dksX3_breaks_1 0 rfl rfl)
theorem dX3_breaks_25 : decode cX3_breaks 25 = .ok (.sipush 9999, 3) := dk_17 39 15 (dk_at dksX3_breaks_1 1 rfl rfl)
theorem dX3_breaks_28 : decode cX3_breaks 28 = .ok (.aload_n 0, 1) := dk_42 (dk_at dksX3_breaks_1 4 rfl rfl)
theorem dX3_breaks_29 : decode cX3_breaks 29 = .ok (.getfield 9, 3) := dk_180 0 9 (dk_at dksX3_breaks_1 5 rfl rfl)
theorem dX3_breaks_32 : decode cX3_breaks 32 = .ok (.iconst 5, 1) := dk_8 (dk_at dksX3_breaks_1 8 rfl rfl)
theorem dX3_breaks_33 : decode cX3_breaks 33 = .ok (.iaload, 1) := dk_46 (dk_at dksX3_breaks_1 9 rfl rfl)
theorem dX3_breaks_34 : decode cX3_breaks 34 = .ok (.iload_n 1, 1) := dk_27 (dk_at dksX3_breaks_1 10 rfl rfl)
theorem dX3_breaks_35 : decode cX3_breaks 35 = .ok (.iadd, 1) := dk_96 (dk_at dksX3_breaks_1 11 rfl rfl)
theorem dX3_breaks_36 : decode cX3_breaks 36 = .ok (.invokestatic 15, 3) := dk_184 0 15 (dk_at dksX3_breaks_1 12 rfl rfl)
theorem dX3_breaks_39 : decode cX3_breaks 39 = .ok (.iastore, 1) := dk_79 (dk_at dksX3_breaks_1 15 rfl rfl)
theorem dX3_breaks_40 : decode cX3_breaks 40 = .ok (.return_, 1) := dk_177 (dk_at dksX3_breaks_1 16 rfl rfl)
abbrev cX3_cuts : ByteArray := prog_12_method_6_code
def yX3_cuts : MethodName := ⟨RX3, "cuts", "()V"⟩
def dkwX3_cuts_0 : List UInt8 := [3, 60, 27, 7, 162, 0, 18, 42, 180, 0, 9, 5, 27, 96, 3, 79, 132, 1, 1, 167, 255, 239, 177]
abbrev dktX3_cuts_0 : List UInt8 := dkwX3_cuts_0 ++ []
theorem dksX3_cuts_0 : cX3_cuts.data.toList.drop 0 = dktX3_cuts_0 := by decide +kernel
theorem dX3_cuts_0 : decode cX3_cuts 0 = .ok (.iconst 0, 1) := dk_3 (dk_at dksX3_cuts_0 0 rfl rfl)
theorem dX3_cuts_1 : decode cX3_cuts 1 = .ok (.istore_n 1, 1) := dk_60 (dk_at dksX3_cuts_0 1 rfl rfl)
theorem dX3_cuts_2 : decode cX3_cuts 2 = .ok (.iload_n 1, 1) := dk_27 (dk_at dksX3_cuts_0 2 rfl rfl)
theorem dX3_cuts_3 : decode cX3_cuts 3 = .ok (.iconst 4, 1) := dk_7 (dk_at dksX3_cuts_0 3 rfl rfl)
theorem dX3_cuts_4 : decode cX3_cuts 4 = .ok (.if_icmp .ge 18, 3) := dk_162 0 18 (dk_at dksX3_cuts_0 4 rfl rfl)
theorem dX3_cuts_7 : decode cX3_cuts 7 = .ok (.aload_n 0, 1) := dk_42 (dk_at dksX3_cuts_0 7 rfl rfl)
theorem dX3_cuts_8 : decode cX3_cuts 8 = .ok (.getfield 9, 3) := dk_180 0 9 (dk_at dksX3_cuts_0 8 rfl rfl)
theorem dX3_cuts_11 : decode cX3_cuts 11 = .ok (.iconst 2, 1) := dk_5 (dk_at dksX3_cuts_0 11 rfl rfl)
theorem dX3_cuts_12 : decode cX3_cuts 12 = .ok (.iload_n 1, 1) := dk_27 (dk_at dksX3_cuts_0 12 rfl rfl)
theorem dX3_cuts_13 : decode cX3_cuts 13 = .ok (.iadd, 1) := dk_96 (dk_at dksX3_cuts_0 13 rfl rfl)
theorem dX3_cuts_14 : decode cX3_cuts 14 = .ok (.iconst 0, 1) := dk_3 (dk_at dksX3_cuts_0 14 rfl rfl)
theorem dX3_cuts_15 : decode cX3_cuts 15 = .ok (.iastore, 1) := dk_79 (dk_at dksX3_cuts_0 15 rfl rfl)
theorem dX3_cuts_16 : decode cX3_cuts 16 = .ok (.iinc 1 1, 3) := dk_132 1 1 (dk_at dksX3_cuts_0 16 rfl rfl)
theorem dX3_cuts_19 : decode cX3_cuts 19 = .ok (.goto (-17), 3) := dk_167 255 239 (dk_at dksX3_cuts_0 19 rfl rfl)
theorem dX3_cuts_22 : decode cX3_cuts 22 = .ok (.return_, 1) := dk_177 (dk_at dksX3_cuts_0 22 rfl rfl)
abbrev cX3_takes : ByteArray := prog_12_method_2_code
def yX3_takes : MethodName := ⟨RX3, "takes", "(LNotchSticks$Person;)V"⟩
def dkwX3_takes_1 : List UInt8 := [132, 2, 1, 167, 255, 232, 177]
abbrev dktX3_takes_1 : List UInt8 := dkwX3_takes_1 ++ []
def dkwX3_takes_0 : List UInt8 := [3, 61, 28, 42, 180, 0, 9, 190, 162, 0, 21, 42, 180, 0, 9, 28, 43, 180, 0, 9, 28, 46, 79]
abbrev dktX3_takes_0 : List UInt8 := dkwX3_takes_0 ++ dktX3_takes_1
theorem dksX3_takes_0 : cX3_takes.data.toList.drop 0 = dktX3_takes_0 := by decide +kernel
theorem dksX3_takes_1 : cX3_takes.data.toList.drop 23 = dktX3_takes_1 := dk_seg dksX3_takes_0 23 rfl rfl
theorem dX3_takes_0 : decode cX3_takes 0 = .ok (.iconst 0, 1) := dk_3 (dk_at dksX3_takes_0 0 rfl rfl)
theorem dX3_takes_1 : decode cX3_takes 1 = .ok (.istore_n 2, 1) := dk_61 (dk_at dksX3_takes_0 1 rfl rfl)
theorem dX3_takes_2 : decode cX3_takes 2 = .ok (.iload_n 2, 1) := dk_28 (dk_at dksX3_takes_0 2 rfl rfl)
theorem dX3_takes_3 : decode cX3_takes 3 = .ok (.aload_n 0, 1) := dk_42 (dk_at dksX3_takes_0 3 rfl rfl)
theorem dX3_takes_4 : decode cX3_takes 4 = .ok (.getfield 9, 3) := dk_180 0 9 (dk_at dksX3_takes_0 4 rfl rfl)
theorem dX3_takes_7 : decode cX3_takes 7 = .ok (.arraylength, 1) := dk_190 (dk_at dksX3_takes_0 7 rfl rfl)
theorem dX3_takes_8 : decode cX3_takes 8 = .ok (.if_icmp .ge 21, 3) := dk_162 0 21 (dk_at dksX3_takes_0 8 rfl rfl)
theorem dX3_takes_11 : decode cX3_takes 11 = .ok (.aload_n 0, 1) := dk_42 (dk_at dksX3_takes_0 11 rfl rfl)
theorem dX3_takes_12 : decode cX3_takes 12 = .ok (.getfield 9, 3) := dk_180 0 9 (dk_at dksX3_takes_0 12 rfl rfl)
theorem dX3_takes_15 : decode cX3_takes 15 = .ok (.iload_n 2, 1) := dk_28 (dk_at dksX3_takes_0 15 rfl rfl)
theorem dX3_takes_16 : decode cX3_takes 16 = .ok (.aload_n 1, 1) := dk_43 (dk_at dksX3_takes_0 16 rfl rfl)
theorem dX3_takes_17 : decode cX3_takes 17 = .ok (.getfield 9, 3) := dk_180 0 9 (dk_at dksX3_takes_0 17 rfl rfl)
theorem dX3_takes_20 : decode cX3_takes 20 = .ok (.iload_n 2, 1) := dk_28 (dk_at dksX3_takes_0 20 rfl rfl)
theorem dX3_takes_21 : decode cX3_takes 21 = .ok (.iaload, 1) := dk_46 (dk_at dksX3_takes_0 21 rfl rfl)
theorem dX3_takes_22 : decode cX3_takes 22 = .ok (.iastore, 1) := dk_79 (dk_at dksX3_takes_0 22 rfl rfl)
theorem dX3_takes_23 : decode cX3_takes 23 = .ok (.iinc 2 1, 3) := dk_132 2 1 (dk_at dksX3_takes_1 0 rfl rfl)
theorem dX3_takes_26 : decode cX3_takes 26 = .ok (.goto (-24), 3) := dk_167 255 232 (dk_at dksX3_takes_1 3 rfl rfl)
theorem dX3_takes_29 : decode cX3_takes 29 = .ok (.return_, 1) := dk_177 (dk_at dksX3_takes_1 6 rfl rfl)
theorem q121 : (Jvm.Cond.initialized "NotchSticks$Person") ∈ lw_all := lw_g (lw_at lw_m1 11 rfl) rfl
theorem q217 : (Jvm.Cond.selects "NotchSticks$Person" ({ cls := "java/lang/Object", name := "getClass", desc := "()Ljava/lang/Class;" } : Jvm.MethodName) ({ cls := "java/lang/Object", name := "getClass", desc := "()Ljava/lang/Class;" } : Jvm.MethodName)) ∈ lw_all := lw_g (lw_at lw_m1 107 rfl) rfl
theorem q270 : (Jvm.Cond.instantiable "NotchSticks$Person" (1 : Nat)) ∈ lw_all := lw_g (lw_at lw_m1 160 rfl) rfl
theorem q272 : (Jvm.Cond.instanceMethod ({ cls := "NotchSticks$Person", name := "<init>", desc := "()V" } : Jvm.MethodName)) ∈ lw_all := lw_g (lw_at lw_m1 162 rfl) rfl
theorem q273 : (Jvm.Cond.code ({ cls := "NotchSticks$Person", name := "<init>", desc := "()V" } : Jvm.MethodName) prog_12_method_1_code (1 : Nat) (Option.none : Option Jvm.ClassFile.FieldType)) ∈ lw_all := lw_g (lw_at lw_m1 163 rfl) rfl
theorem q274 : (Jvm.Cond.methodLink "NotchSticks$Person" (3 : Nat) ({ cls := "java/lang/Object", name := "<init>", desc := "()V" } : Jvm.MethodName)) ∈ lw_all := lw_g (lw_at lw_m1 164 rfl) rfl
theorem q275 : (Jvm.Cond.fieldLink "NotchSticks$Person" (9 : Nat) "NotchSticks$Person" "own" "[I") ∈ lw_all := lw_g (lw_at lw_m1 165 rfl) rfl
theorem q279 : (Jvm.Cond.laysFinal "NotchSticks$Person" "NotchSticks$Person" "own" "[I") ∈ lw_all := lw_g (lw_at lw_m1 169 rfl) rfl
theorem q280 : (Jvm.Cond.soleField "NotchSticks$Person" "own") ∈ lw_all := lw_g (lw_at lw_m1 170 rfl) rfl
theorem q281 : (Jvm.Cond.superclass "NotchSticks$Person" "java/lang/Object") ∈ lw_all := lw_g (lw_at lw_m1 171 rfl) rfl
theorem q851 : (Jvm.Cond.instanceMethod ({ cls := "NotchSticks$Person", name := "notch", desc := "(I)I" } : Jvm.MethodName)) ∈ lw_all := lw_g (lw_at lw_m4 21 rfl) rfl
theorem q852 : (Jvm.Cond.selects "NotchSticks$Person" ({ cls := "NotchSticks$Person", name := "notch", desc := "(I)I" } : Jvm.MethodName) ({ cls := "NotchSticks$Person", name := "notch", desc := "(I)I" } : Jvm.MethodName)) ∈ lw_all := lw_g (lw_at lw_m4 22 rfl) rfl
theorem q853 : (Jvm.Cond.code ({ cls := "NotchSticks$Person", name := "notch", desc := "(I)I" } : Jvm.MethodName) prog_12_method_3_code (2 : Nat) (Option.some Jvm.ClassFile.FieldType.int)) ∈ lw_all := lw_g (lw_at lw_m4 23 rfl) rfl
theorem q904 : (Jvm.Cond.instanceMethod ({ cls := "NotchSticks$Person", name := "keeps", desc := "(I)V" } : Jvm.MethodName)) ∈ lw_all := lw_g (lw_at lw_m4 74 rfl) rfl
theorem q905 : (Jvm.Cond.selects "NotchSticks$Person" ({ cls := "NotchSticks$Person", name := "keeps", desc := "(I)V" } : Jvm.MethodName) ({ cls := "NotchSticks$Person", name := "keeps", desc := "(I)V" } : Jvm.MethodName)) ∈ lw_all := lw_g (lw_at lw_m4 75 rfl) rfl
theorem q906 : (Jvm.Cond.code ({ cls := "NotchSticks$Person", name := "keeps", desc := "(I)V" } : Jvm.MethodName) prog_12_method_4_code (2 : Nat) (Option.none : Option Jvm.ClassFile.FieldType)) ∈ lw_all := lw_g (lw_at lw_m4 76 rfl) rfl
theorem q907 : (Jvm.Cond.methodLink "NotchSticks$Person" (15 : Nat) ({ cls := "java/lang/Math", name := "min", desc := "(II)I" } : Jvm.MethodName)) ∈ lw_all := lw_g (lw_at lw_m4 77 rfl) rfl
theorem q909 : (Jvm.Cond.instanceMethod ({ cls := "NotchSticks$Person", name := "breaks", desc := "(I)V" } : Jvm.MethodName)) ∈ lw_all := lw_g (lw_at lw_m4 79 rfl) rfl
theorem q910 : (Jvm.Cond.selects "NotchSticks$Person" ({ cls := "NotchSticks$Person", name := "breaks", desc := "(I)V" } : Jvm.MethodName) ({ cls := "NotchSticks$Person", name := "breaks", desc := "(I)V" } : Jvm.MethodName)) ∈ lw_all := lw_g (lw_at lw_m4 80 rfl) rfl
theorem q911 : (Jvm.Cond.code ({ cls := "NotchSticks$Person", name := "breaks", desc := "(I)V" } : Jvm.MethodName) prog_12_method_5_code (2 : Nat) (Option.none : Option Jvm.ClassFile.FieldType)) ∈ lw_all := lw_g (lw_at lw_m4 81 rfl) rfl
theorem q936 : (Jvm.Cond.instanceMethod ({ cls := "NotchSticks$Person", name := "cuts", desc := "()V" } : Jvm.MethodName)) ∈ lw_all := lw_g (lw_at lw_m4 106 rfl) rfl
theorem q937 : (Jvm.Cond.selects "NotchSticks$Person" ({ cls := "NotchSticks$Person", name := "cuts", desc := "()V" } : Jvm.MethodName) ({ cls := "NotchSticks$Person", name := "cuts", desc := "()V" } : Jvm.MethodName)) ∈ lw_all := lw_g (lw_at lw_m4 107 rfl) rfl
theorem q938 : (Jvm.Cond.code ({ cls := "NotchSticks$Person", name := "cuts", desc := "()V" } : Jvm.MethodName) prog_12_method_6_code (2 : Nat) (Option.none : Option Jvm.ClassFile.FieldType)) ∈ lw_all := lw_g (lw_at lw_m4 108 rfl) rfl
theorem q1104 : (Jvm.Cond.instanceMethod ({ cls := "NotchSticks$Person", name := "takes", desc := "(LNotchSticks$Person;)V" } : Jvm.MethodName)) ∈ lw_all := lw_g (lw_at lw_m5 34 rfl) rfl
theorem q1105 : (Jvm.Cond.selects "NotchSticks$Person" ({ cls := "NotchSticks$Person", name := "takes", desc := "(LNotchSticks$Person;)V" } : Jvm.MethodName) ({ cls := "NotchSticks$Person", name := "takes", desc := "(LNotchSticks$Person;)V" } : Jvm.MethodName)) ∈ lw_all := lw_g (lw_at lw_m5 35 rfl) rfl
theorem q1106 : (Jvm.Cond.code ({ cls := "NotchSticks$Person", name := "takes", desc := "(LNotchSticks$Person;)V" } : Jvm.MethodName) prog_12_method_2_code (3 : Nat) (Option.none : Option Jvm.ClassFile.FieldType)) ∈ lw_all := lw_g (lw_at lw_m5 36 rfl) rfl
theorem q1709 : (Jvm.Cond.castable "NotchSticks$Person" "java/lang/Object") ∈ lw_tbl := lw_at lw_m7 159 rfl
theorem in_X3 : ∀ w ∈ wsX30, w ∈ lw_all := lw_in wsX30 [279] (by decide +kernel) (by decide +kernel)
/-! NotchSticks$Entry -/
set_option maxRecDepth 100000
def RX4 : String := "NotchSticks$Entry"
def TX4 : u_T := fun k => match k with
  | _ => ("NotchSticks$Entry", "fields", "[I", true)
def tyX4 : Nat → FieldType := fun k => match k with
  | _ => .array .int
abbrev wsX40 : List Cond := u_ws RX4 TX4 1
theorem nmX4 : ∀ a, a < 1 → ∀ b, b < 1 → a ≠ b → (TX4 a).2.1 ≠ (TX4 b).2.1 := by decide +kernel
theorem tyX4_ok : ∀ k, k < 1 → parseFieldDescriptor (TX4 k).2.2.1 = some (tyX4 k) := by decide +kernel
abbrev cX4_init : ByteArray := prog_4_method_1_code
def yX4_init : MethodName := ⟨RX4, "<init>", "()V"⟩
def dkwX4_init_0 : List UInt8 := [42, 183, 0, 1, 42, 16, 8, 188, 10, 181, 0, 7, 177]
abbrev dktX4_init_0 : List UInt8 := dkwX4_init_0 ++ []
theorem dksX4_init_0 : cX4_init.data.toList.drop 0 = dktX4_init_0 := by decide +kernel
theorem dX4_init_0 : decode cX4_init 0 = .ok (.aload_n 0, 1) := dk_42 (dk_at dksX4_init_0 0 rfl rfl)
theorem dX4_init_1 : decode cX4_init 1 = .ok (.invokespecial 1, 3) := dk_183 0 1 (dk_at dksX4_init_0 1 rfl rfl)
theorem dX4_init_4 : decode cX4_init 4 = .ok (.aload_n 0, 1) := dk_42 (dk_at dksX4_init_0 4 rfl rfl)
theorem dX4_init_5 : decode cX4_init 5 = .ok (.bipush 8, 2) := dk_16 8 (dk_at dksX4_init_0 5 rfl rfl)
theorem dX4_init_7 : decode cX4_init 7 = .ok (.newarray .int, 2) := dk_188_10 (dk_at dksX4_init_0 7 rfl rfl)
theorem dX4_init_9 : decode cX4_init 9 = .ok (.putfield 7, 3) := dk_181 0 7 (dk_at dksX4_init_0 9 rfl rfl)
theorem dX4_init_12 : decode cX4_init 12 = .ok (.return_, 1) := dk_177 (dk_at dksX4_init_0 12 rfl rfl)
abbrev cX4_did : ByteArray := prog_4_method_4_code
def yX4_did : MethodName := ⟨RX4, "did", "(I)I"⟩
def dkwX4_did_0 : List UInt8 := [42, 180, 0, 7, 7, 27, 96, 46, 172]
abbrev dktX4_did_0 : List UInt8 := dkwX4_did_0 ++ []
theorem dksX4_did_0 : cX4_did.data.toList.drop 0 = dktX4_did_0 := by decide +kernel
theorem dX4_did_0 : decode cX4_did 0 = .ok (.aload_n 0, 1) := dk_42 (dk_at dksX4_did_0 0 rfl rfl)
theorem dX4_did_1 : decode cX4_did 1 = .ok (.getfield 7, 3) := dk_180 0 7 (dk_at dksX4_did_0 1 rfl rfl)
theorem dX4_did_4 : decode cX4_did 4 = .ok (.iconst 4, 1) := dk_7 (dk_at dksX4_did_0 4 rfl rfl)
theorem dX4_did_5 : decode cX4_did 5 = .ok (.iload_n 1, 1) := dk_27 (dk_at dksX4_did_0 5 rfl rfl)
theorem dX4_did_6 : decode cX4_did 6 = .ok (.iadd, 1) := dk_96 (dk_at dksX4_did_0 6 rfl rfl)
theorem dX4_did_7 : decode cX4_did 7 = .ok (.iaload, 1) := dk_46 (dk_at dksX4_did_0 7 rfl rfl)
theorem dX4_did_8 : decode cX4_did 8 = .ok (.ireturn, 1) := dk_172 (dk_at dksX4_did_0 8 rfl rfl)
abbrev cX4_age : ByteArray := prog_4_method_5_code
def yX4_age : MethodName := ⟨RX4, "age", "(I)I"⟩
def dkwX4_age_0 : List UInt8 := [42, 180, 0, 7, 16, 6, 27, 96, 46, 172]
abbrev dktX4_age_0 : List UInt8 := dkwX4_age_0 ++ []
theorem dksX4_age_0 : cX4_age.data.toList.drop 0 = dktX4_age_0 := by decide +kernel
theorem dX4_age_0 : decode cX4_age 0 = .ok (.aload_n 0, 1) := dk_42 (dk_at dksX4_age_0 0 rfl rfl)
theorem dX4_age_1 : decode cX4_age 1 = .ok (.getfield 7, 3) := dk_180 0 7 (dk_at dksX4_age_0 1 rfl rfl)
theorem dX4_age_4 : decode cX4_age 4 = .ok (.bipush 6, 2) := dk_16 6 (dk_at dksX4_age_0 4 rfl rfl)
theorem dX4_age_6 : decode cX4_age 6 = .ok (.iload_n 1, 1) := dk_27 (dk_at dksX4_age_0 6 rfl rfl)
theorem dX4_age_7 : decode cX4_age 7 = .ok (.iadd, 1) := dk_96 (dk_at dksX4_age_0 7 rfl rfl)
theorem dX4_age_8 : decode cX4_age 8 = .ok (.iaload, 1) := dk_46 (dk_at dksX4_age_0 8 rfl rfl)
theorem dX4_age_9 : decode cX4_age 9 = .ok (.ireturn, 1) := dk_172 (dk_at dksX4_age_0 9 rfl rfl)
abbrev cX4_who : ByteArray := prog_4_method_3_code
def yX4_who : MethodName := ⟨RX4, "who", "(I)I"⟩
def dkwX4_who_0 : List UInt8 := [42, 180, 0, 7, 4, 27, 96, 46, 172]
abbrev dktX4_who_0 : List UInt8 := dkwX4_who_0 ++ []
theorem dksX4_who_0 : cX4_who.data.toList.drop 0 = dktX4_who_0 := by decide +kernel
theorem dX4_who_0 : decode cX4_who 0 = .ok (.aload_n 0, 1) := dk_42 (dk_at dksX4_who_0 0 rfl rfl)
theorem dX4_who_1 : decode cX4_who 1 = .ok (.getfield 7, 3) := dk_180 0 7 (dk_at dksX4_who_0 1 rfl rfl)
theorem dX4_who_4 : decode cX4_who 4 = .ok (.iconst 1, 1) := dk_4 (dk_at dksX4_who_0 4 rfl rfl)
theorem dX4_who_5 : decode cX4_who 5 = .ok (.iload_n 1, 1) := dk_27 (dk_at dksX4_who_0 5 rfl rfl)
theorem dX4_who_6 : decode cX4_who 6 = .ok (.iadd, 1) := dk_96 (dk_at dksX4_who_0 6 rfl rfl)
theorem dX4_who_7 : decode cX4_who 7 = .ok (.iaload, 1) := dk_46 (dk_at dksX4_who_0 7 rfl rfl)
theorem dX4_who_8 : decode cX4_who 8 = .ok (.ireturn, 1) := dk_172 (dk_at dksX4_who_0 8 rfl rfl)
abbrev cX4_takes : ByteArray := prog_4_method_2_code
def yX4_takes : MethodName := ⟨RX4, "takes", "(LNotchSticks$Entry;)V"⟩
def dkwX4_takes_1 : List UInt8 := [132, 2, 1, 167, 255, 232, 177]
abbrev dktX4_takes_1 : List UInt8 := dkwX4_takes_1 ++ []
def dkwX4_takes_0 : List UInt8 := [3, 61, 28, 42, 180, 0, 7, 190, 162, 0, 21, 42, 180, 0, 7, 28, 43, 180, 0, 7, 28, 46, 79]
abbrev dktX4_takes_0 : List UInt8 := dkwX4_takes_0 ++ dktX4_takes_1
theorem dksX4_takes_0 : cX4_takes.data.toList.drop 0 = dktX4_takes_0 := by decide +kernel
theorem dksX4_takes_1 : cX4_takes.data.toList.drop 23 = dktX4_takes_1 := dk_seg dksX4_takes_0 23 rfl rfl
theorem dX4_takes_0 : decode cX4_takes 0 = .ok (.iconst 0, 1) := dk_3 (dk_at dksX4_takes_0 0 rfl rfl)
theorem dX4_takes_1 : decode cX4_takes 1 = .ok (.istore_n 2, 1) := dk_61 (dk_at dksX4_takes_0 1 rfl rfl)
theorem dX4_takes_2 : decode cX4_takes 2 = .ok (.iload_n 2, 1) := dk_28 (dk_at dksX4_takes_0 2 rfl rfl)
theorem dX4_takes_3 : decode cX4_takes 3 = .ok (.aload_n 0, 1) := dk_42 (dk_at dksX4_takes_0 3 rfl rfl)
theorem dX4_takes_4 : decode cX4_takes 4 = .ok (.getfield 7, 3) := dk_180 0 7 (dk_at dksX4_takes_0 4 rfl rfl)
theorem dX4_takes_7 : decode cX4_takes 7 = .ok (.arraylength, 1) := dk_190 (dk_at dksX4_takes_0 7 rfl rfl)
theorem dX4_takes_8 : decode cX4_takes 8 = .ok (.if_icmp .ge 21, 3) := dk_162 0 21 (dk_at dksX4_takes_0 8 rfl rfl)
theorem dX4_takes_11 : decode cX4_takes 11 = .ok (.aload_n 0, 1) := dk_42 (dk_at dksX4_takes_0 11 rfl rfl)
theorem dX4_takes_12 : decode cX4_takes 12 = .ok (.getfield 7, 3) := dk_180 0 7 (dk_at dksX4_takes_0 12 rfl rfl)
theorem dX4_takes_15 : decode cX4_takes 15 = .ok (.iload_n 2, 1) := dk_28 (dk_at dksX4_takes_0 15 rfl rfl)
theorem dX4_takes_16 : decode cX4_takes 16 = .ok (.aload_n 1, 1) := dk_43 (dk_at dksX4_takes_0 16 rfl rfl)
theorem dX4_takes_17 : decode cX4_takes 17 = .ok (.getfield 7, 3) := dk_180 0 7 (dk_at dksX4_takes_0 17 rfl rfl)
theorem dX4_takes_20 : decode cX4_takes 20 = .ok (.iload_n 2, 1) := dk_28 (dk_at dksX4_takes_0 20 rfl rfl)
theorem dX4_takes_21 : decode cX4_takes 21 = .ok (.iaload, 1) := dk_46 (dk_at dksX4_takes_0 21 rfl rfl)
theorem dX4_takes_22 : decode cX4_takes 22 = .ok (.iastore, 1) := dk_79 (dk_at dksX4_takes_0 22 rfl rfl)
theorem dX4_takes_23 : decode cX4_takes 23 = .ok (.iinc 2 1, 3) := dk_132 2 1 (dk_at dksX4_takes_1 0 rfl rfl)
theorem dX4_takes_26 : decode cX4_takes 26 = .ok (.goto (-24), 3) := dk_167 255 232 (dk_at dksX4_takes_1 3 rfl rfl)
theorem dX4_takes_29 : decode cX4_takes 29 = .ok (.return_, 1) := dk_177 (dk_at dksX4_takes_1 6 rfl rfl)
theorem q122 : (Jvm.Cond.initialized "NotchSticks$Entry") ∈ lw_all := lw_g (lw_at lw_m1 12 rfl) rfl
theorem q209 : (Jvm.Cond.selects "NotchSticks$Entry" ({ cls := "java/lang/Object", name := "getClass", desc := "()Ljava/lang/Class;" } : Jvm.MethodName) ({ cls := "java/lang/Object", name := "getClass", desc := "()Ljava/lang/Class;" } : Jvm.MethodName)) ∈ lw_all := lw_g (lw_at lw_m1 99 rfl) rfl
theorem q282 : (Jvm.Cond.instantiable "NotchSticks$Entry" (1 : Nat)) ∈ lw_all := lw_g (lw_at lw_m1 172 rfl) rfl
theorem q284 : (Jvm.Cond.instanceMethod ({ cls := "NotchSticks$Entry", name := "<init>", desc := "()V" } : Jvm.MethodName)) ∈ lw_all := lw_g (lw_at lw_m1 174 rfl) rfl
theorem q285 : (Jvm.Cond.code ({ cls := "NotchSticks$Entry", name := "<init>", desc := "()V" } : Jvm.MethodName) prog_4_method_1_code (1 : Nat) (Option.none : Option Jvm.ClassFile.FieldType)) ∈ lw_all := lw_g (lw_at lw_m1 175 rfl) rfl
theorem q286 : (Jvm.Cond.methodLink "NotchSticks$Entry" (1 : Nat) ({ cls := "java/lang/Object", name := "<init>", desc := "()V" } : Jvm.MethodName)) ∈ lw_all := lw_g (lw_at lw_m1 176 rfl) rfl
theorem q287 : (Jvm.Cond.fieldLink "NotchSticks$Entry" (7 : Nat) "NotchSticks$Entry" "fields" "[I") ∈ lw_all := lw_g (lw_at lw_m1 177 rfl) rfl
theorem q290 : (Jvm.Cond.laysFinal "NotchSticks$Entry" "NotchSticks$Entry" "fields" "[I") ∈ lw_all := lw_g (lw_at lw_m1 180 rfl) rfl
theorem q291 : (Jvm.Cond.soleField "NotchSticks$Entry" "fields") ∈ lw_all := lw_g (lw_at lw_m1 181 rfl) rfl
theorem q292 : (Jvm.Cond.superclass "NotchSticks$Entry" "java/lang/Object") ∈ lw_all := lw_g (lw_at lw_m1 182 rfl) rfl
theorem q1063 : (Jvm.Cond.instanceMethod ({ cls := "NotchSticks$Entry", name := "did", desc := "(I)I" } : Jvm.MethodName)) ∈ lw_all := lw_g (lw_at lw_m4 233 rfl) rfl
theorem q1064 : (Jvm.Cond.selects "NotchSticks$Entry" ({ cls := "NotchSticks$Entry", name := "did", desc := "(I)I" } : Jvm.MethodName) ({ cls := "NotchSticks$Entry", name := "did", desc := "(I)I" } : Jvm.MethodName)) ∈ lw_all := lw_g (lw_at lw_m4 234 rfl) rfl
theorem q1065 : (Jvm.Cond.code ({ cls := "NotchSticks$Entry", name := "did", desc := "(I)I" } : Jvm.MethodName) prog_4_method_4_code (2 : Nat) (Option.some Jvm.ClassFile.FieldType.int)) ∈ lw_all := lw_g (lw_at lw_m4 235 rfl) rfl
theorem q1072 : (Jvm.Cond.instanceMethod ({ cls := "NotchSticks$Entry", name := "age", desc := "(I)I" } : Jvm.MethodName)) ∈ lw_all := lw_g (lw_at lw_m5 2 rfl) rfl
theorem q1073 : (Jvm.Cond.selects "NotchSticks$Entry" ({ cls := "NotchSticks$Entry", name := "age", desc := "(I)I" } : Jvm.MethodName) ({ cls := "NotchSticks$Entry", name := "age", desc := "(I)I" } : Jvm.MethodName)) ∈ lw_all := lw_g (lw_at lw_m5 3 rfl) rfl
theorem q1074 : (Jvm.Cond.code ({ cls := "NotchSticks$Entry", name := "age", desc := "(I)I" } : Jvm.MethodName) prog_4_method_5_code (2 : Nat) (Option.some Jvm.ClassFile.FieldType.int)) ∈ lw_all := lw_g (lw_at lw_m5 4 rfl) rfl
theorem q1080 : (Jvm.Cond.instanceMethod ({ cls := "NotchSticks$Entry", name := "who", desc := "(I)I" } : Jvm.MethodName)) ∈ lw_all := lw_g (lw_at lw_m5 10 rfl) rfl
theorem q1081 : (Jvm.Cond.selects "NotchSticks$Entry" ({ cls := "NotchSticks$Entry", name := "who", desc := "(I)I" } : Jvm.MethodName) ({ cls := "NotchSticks$Entry", name := "who", desc := "(I)I" } : Jvm.MethodName)) ∈ lw_all := lw_g (lw_at lw_m5 11 rfl) rfl
theorem q1082 : (Jvm.Cond.code ({ cls := "NotchSticks$Entry", name := "who", desc := "(I)I" } : Jvm.MethodName) prog_4_method_3_code (2 : Nat) (Option.some Jvm.ClassFile.FieldType.int)) ∈ lw_all := lw_g (lw_at lw_m5 12 rfl) rfl
theorem q1108 : (Jvm.Cond.instanceMethod ({ cls := "NotchSticks$Entry", name := "takes", desc := "(LNotchSticks$Entry;)V" } : Jvm.MethodName)) ∈ lw_all := lw_g (lw_at lw_m5 38 rfl) rfl
theorem q1109 : (Jvm.Cond.selects "NotchSticks$Entry" ({ cls := "NotchSticks$Entry", name := "takes", desc := "(LNotchSticks$Entry;)V" } : Jvm.MethodName) ({ cls := "NotchSticks$Entry", name := "takes", desc := "(LNotchSticks$Entry;)V" } : Jvm.MethodName)) ∈ lw_all := lw_g (lw_at lw_m5 39 rfl) rfl
theorem q1110 : (Jvm.Cond.code ({ cls := "NotchSticks$Entry", name := "takes", desc := "(LNotchSticks$Entry;)V" } : Jvm.MethodName) prog_4_method_2_code (3 : Nat) (Option.none : Option Jvm.ClassFile.FieldType)) ∈ lw_all := lw_g (lw_at lw_m5 40 rfl) rfl
theorem q1710 : (Jvm.Cond.castable "NotchSticks$Entry" "java/lang/Object") ∈ lw_tbl := lw_at lw_m7 160 rfl
theorem in_X4 : ∀ w ∈ wsX40, w ∈ lw_all := lw_in wsX40 [290] (by decide +kernel) (by decide +kernel)
/-! NotchSticks$Pair -/
set_option maxRecDepth 100000
def RX5 : String := "NotchSticks$Pair"
def TX5 : u_T := fun k => match k with
  | 0 => ("NotchSticks$Pair", "weight", "[[J", false)
  | 1 => ("NotchSticks$Pair", "next", "[[J", false)
  | 2 => ("NotchSticks$Pair", "came", "[J", true)
  | 3 => ("NotchSticks$Pair", "gains", "[J", true)
  | 4 => ("NotchSticks$Pair", "need", "I", false)
  | 5 => ("NotchSticks$Pair", "mine", "I", false)
  | 6 => ("NotchSticks$Pair", "others", "I", false)
  | _ => ("NotchSticks$Pair", "this$0", "LNotchSticks;", true)
def tyX5 : Nat → FieldType := fun k => match k with
  | 0 => .array (.array .long)
  | 1 => .array (.array .long)
  | 2 => .array .long
  | 3 => .array .long
  | 4 => .int
  | 5 => .int
  | 6 => .int
  | _ => .object "NotchSticks"
abbrev wsX50 : List Cond := u_ws RX5 TX5 8
theorem nmX5 : ∀ a, a < 8 → ∀ b, b < 8 → a ≠ b → (TX5 a).2.1 ≠ (TX5 b).2.1 := by decide +kernel
theorem tyX5_ok : ∀ k, k < 8 → parseFieldDescriptor (TX5 k).2.2.1 = some (tyX5 k) := by decide +kernel
abbrev cX5_init : ByteArray := prog_11_method_1_code
def yX5_init : MethodName := ⟨RX5, "<init>", "(LNotchSticks;)V"⟩
def dkwX5_init_1 : List UInt8 := [16, 9, 197, 0, 15, 2, 181, 0, 20, 42, 5, 188, 11, 181, 0, 23, 42, 5, 188, 11, 181, 0, 27, 177]
abbrev dktX5_init_1 : List UInt8 := dkwX5_init_1 ++ []
def dkwX5_init_0 : List UInt8 := [42, 43, 181, 0, 3, 42, 183, 0, 9, 42, 16, 9, 16, 9, 197, 0, 15, 2, 181, 0, 17, 42, 16, 9]
abbrev dktX5_init_0 : List UInt8 := dkwX5_init_0 ++ dktX5_init_1
theorem dksX5_init_0 : cX5_init.data.toList.drop 0 = dktX5_init_0 := by decide +kernel
theorem dksX5_init_1 : cX5_init.data.toList.drop 24 = dktX5_init_1 := dk_seg dksX5_init_0 24 rfl rfl
theorem dX5_init_0 : decode cX5_init 0 = .ok (.aload_n 0, 1) := dk_42 (dk_at dksX5_init_0 0 rfl rfl)
theorem dX5_init_1 : decode cX5_init 1 = .ok (.aload_n 1, 1) := dk_43 (dk_at dksX5_init_0 1 rfl rfl)
theorem dX5_init_2 : decode cX5_init 2 = .ok (.putfield 3, 3) := dk_181 0 3 (dk_at dksX5_init_0 2 rfl rfl)
theorem dX5_init_5 : decode cX5_init 5 = .ok (.aload_n 0, 1) := dk_42 (dk_at dksX5_init_0 5 rfl rfl)
theorem dX5_init_6 : decode cX5_init 6 = .ok (.invokespecial 9, 3) := dk_183 0 9 (dk_at dksX5_init_0 6 rfl rfl)
theorem dX5_init_9 : decode cX5_init 9 = .ok (.aload_n 0, 1) := dk_42 (dk_at dksX5_init_0 9 rfl rfl)
theorem dX5_init_10 : decode cX5_init 10 = .ok (.bipush 9, 2) := dk_16 9 (dk_at dksX5_init_0 10 rfl rfl)
theorem dX5_init_12 : decode cX5_init 12 = .ok (.bipush 9, 2) := dk_16 9 (dk_at dksX5_init_0 12 rfl rfl)
theorem dX5_init_14 : decode cX5_init 14 = .ok (.multianewarray 15 2, 4) := by decide +kernel
theorem dX5_init_18 : decode cX5_init 18 = .ok (.putfield 17, 3) := dk_181 0 17 (dk_at dksX5_init_0 18 rfl rfl)
theorem dX5_init_21 : decode cX5_init 21 = .ok (.aload_n 0, 1) := dk_42 (dk_at dksX5_init_0 21 rfl rfl)
theorem dX5_init_22 : decode cX5_init 22 = .ok (.bipush 9, 2) := dk_16 9 (dk_at dksX5_init_0 22 rfl rfl)
theorem dX5_init_24 : decode cX5_init 24 = .ok (.bipush 9, 2) := dk_16 9 (dk_at dksX5_init_1 0 rfl rfl)
theorem dX5_init_26 : decode cX5_init 26 = .ok (.multianewarray 15 2, 4) := by decide +kernel
theorem dX5_init_30 : decode cX5_init 30 = .ok (.putfield 20, 3) := dk_181 0 20 (dk_at dksX5_init_1 6 rfl rfl)
theorem dX5_init_33 : decode cX5_init 33 = .ok (.aload_n 0, 1) := dk_42 (dk_at dksX5_init_1 9 rfl rfl)
theorem dX5_init_34 : decode cX5_init 34 = .ok (.iconst 2, 1) := dk_5 (dk_at dksX5_init_1 10 rfl rfl)
theorem dX5_init_35 : decode cX5_init 35 = .ok (.newarray .long, 2) := dk_188_11 (dk_at dksX5_init_1 11 rfl rfl)
theorem dX5_init_37 : decode cX5_init 37 = .ok (.putfield 23, 3) := dk_181 0 23 (dk_at dksX5_init_1 13 rfl rfl)
theorem dX5_init_40 : decode cX5_init 40 = .ok (.aload_n 0, 1) := dk_42 (dk_at dksX5_init_1 16 rfl rfl)
theorem dX5_init_41 : decode cX5_init 41 = .ok (.iconst 2, 1) := dk_5 (dk_at dksX5_init_1 17 rfl rfl)
theorem dX5_init_42 : decode cX5_init 42 = .ok (.newarray .long, 2) := dk_188_11 (dk_at dksX5_init_1 18 rfl rfl)
theorem dX5_init_44 : decode cX5_init 44 = .ok (.putfield 27, 3) := dk_181 0 27 (dk_at dksX5_init_1 20 rfl rfl)
theorem dX5_init_47 : decode cX5_init 47 = .ok (.return_, 1) := dk_177 (dk_at dksX5_init_1 23 rfl rfl)
abbrev cX5_leads : ByteArray := prog_11_method_2_code
def yX5_leads : MethodName := ⟨RX5, "leads", "(IIIIII)V"⟩
def dkwX5_leads_4 : List UInt8 := [54, 7, 21, 7, 27, 162, 0, 13, 42, 182, 0, 42, 132, 7, 1, 167, 255, 243, 177]
abbrev dktX5_leads_4 : List UInt8 := dkwX5_leads_4 ++ []
def dkwX5_leads_3 : List UInt8 := [167, 255, 217, 132, 7, 1, 167, 255, 201, 42, 180, 0, 27, 3, 9, 80, 42, 180, 0, 27, 4, 9, 80, 3]
abbrev dktX5_leads_3 : List UInt8 := dkwX5_leads_3 ++ dktX5_leads_4
def dkwX5_leads_2 : List UInt8 := [21, 7, 28, 160, 0, 15, 21, 8, 29, 160, 0, 9, 20, 0, 40, 167, 0, 4, 9, 80, 132, 8, 1]
abbrev dktX5_leads_2 : List UInt8 := dkwX5_leads_2 ++ dktX5_leads_3
def dkwX5_leads_1 : List UInt8 := [16, 8, 163, 0, 54, 3, 54, 8, 21, 8, 16, 8, 163, 0, 38, 42, 180, 0, 17, 21, 7, 50, 21, 8]
abbrev dktX5_leads_1 : List UInt8 := dkwX5_leads_1 ++ dktX5_leads_2
def dkwX5_leads_0 : List UInt8 := [42, 21, 4, 181, 0, 30, 42, 21, 5, 181, 0, 34, 42, 21, 6, 181, 0, 37, 3, 54, 7, 21, 7]
abbrev dktX5_leads_0 : List UInt8 := dkwX5_leads_0 ++ dktX5_leads_1
theorem dksX5_leads_0 : cX5_leads.data.toList.drop 0 = dktX5_leads_0 := by decide +kernel
theorem dksX5_leads_1 : cX5_leads.data.toList.drop 23 = dktX5_leads_1 := dk_seg dksX5_leads_0 23 rfl rfl
theorem dksX5_leads_2 : cX5_leads.data.toList.drop 47 = dktX5_leads_2 := dk_seg dksX5_leads_1 24 rfl rfl
theorem dksX5_leads_3 : cX5_leads.data.toList.drop 70 = dktX5_leads_3 := dk_seg dksX5_leads_2 23 rfl rfl
theorem dksX5_leads_4 : cX5_leads.data.toList.drop 94 = dktX5_leads_4 := dk_seg dksX5_leads_3 24 rfl rfl
theorem dX5_leads_0 : decode cX5_leads 0 = .ok (.aload_n 0, 1) := dk_42 (dk_at dksX5_leads_0 0 rfl rfl)
theorem dX5_leads_1 : decode cX5_leads 1 = .ok (.iload 4, 2) := dk_21 4 (dk_at dksX5_leads_0 1 rfl rfl)
theorem dX5_leads_3 : decode cX5_leads 3 = .ok (.putfield 30, 3) := dk_181 0 30 (dk_at dksX5_leads_0 3 rfl rfl)
theorem dX5_leads_6 : decode cX5_leads 6 = .ok (.aload_n 0, 1) := dk_42 (dk_at dksX5_leads_0 6 rfl rfl)
theorem dX5_leads_7 : decode cX5_leads 7 = .ok (.iload 5, 2) := dk_21 5 (dk_at dksX5_leads_0 7 rfl rfl)
theorem dX5_leads_9 : decode cX5_leads 9 = .ok (.putfield 34, 3) := dk_181 0 34 (dk_at dksX5_leads_0 9 rfl rfl)
theorem dX5_leads_12 : decode cX5_leads 12 = .ok (.aload_n 0, 1) := dk_42 (dk_at dksX5_leads_0 12 rfl rfl)
theorem dX5_leads_13 : decode cX5_leads 13 = .ok (.iload 6, 2) := dk_21 6 (dk_at dksX5_leads_0 13 rfl rfl)
theorem dX5_leads_15 : decode cX5_leads 15 = .ok (.putfield 37, 3) := dk_181 0 37 (dk_at dksX5_leads_0 15 rfl rfl)
theorem dX5_leads_18 : decode cX5_leads 18 = .ok (.iconst 0, 1) := dk_3 (dk_at dksX5_leads_0 18 rfl rfl)
theorem dX5_leads_19 : decode cX5_leads 19 = .ok (.istore 7, 2) := dk_54 7 (dk_at dksX5_leads_0 19 rfl rfl)
theorem dX5_leads_21 : decode cX5_leads 21 = .ok (.iload 7, 2) := dk_21 7 (dk_at dksX5_leads_0 21 rfl rfl)
theorem dX5_leads_23 : decode cX5_leads 23 = .ok (.bipush 8, 2) := dk_16 8 (dk_at dksX5_leads_1 0 rfl rfl)
theorem dX5_leads_25 : decode cX5_leads 25 = .ok (.if_icmp .gt 54, 3) := dk_163 0 54 (dk_at dksX5_leads_1 2 rfl rfl)
theorem dX5_leads_28 : decode cX5_leads 28 = .ok (.iconst 0, 1) := dk_3 (dk_at dksX5_leads_1 5 rfl rfl)
theorem dX5_leads_29 : decode cX5_leads 29 = .ok (.istore 8, 2) := dk_54 8 (dk_at dksX5_leads_1 6 rfl rfl)
theorem dX5_leads_31 : decode cX5_leads 31 = .ok (.iload 8, 2) := dk_21 8 (dk_at dksX5_leads_1 8 rfl rfl)
theorem dX5_leads_33 : decode cX5_leads 33 = .ok (.bipush 8, 2) := dk_16 8 (dk_at dksX5_leads_1 10 rfl rfl)
theorem dX5_leads_35 : decode cX5_leads 35 = .ok (.if_icmp .gt 38, 3) := dk_163 0 38 (dk_at dksX5_leads_1 12 rfl rfl)
theorem dX5_leads_38 : decode cX5_leads 38 = .ok (.aload_n 0, 1) := dk_42 (dk_at dksX5_leads_1 15 rfl rfl)
theorem dX5_leads_39 : decode cX5_leads 39 = .ok (.getfield 17, 3) := dk_180 0 17 (dk_at dksX5_leads_1 16 rfl rfl)
theorem dX5_leads_42 : decode cX5_leads 42 = .ok (.iload 7, 2) := dk_21 7 (dk_at dksX5_leads_1 19 rfl rfl)
theorem dX5_leads_44 : decode cX5_leads 44 = .ok (.aaload, 1) := dk_50 (dk_at dksX5_leads_1 21 rfl rfl)
theorem dX5_leads_45 : decode cX5_leads 45 = .ok (.iload 8, 2) := dk_21 8 (dk_at dksX5_leads_1 22 rfl rfl)
theorem dX5_leads_47 : decode cX5_leads 47 = .ok (.iload 7, 2) := dk_21 7 (dk_at dksX5_leads_2 0 rfl rfl)
theorem dX5_leads_49 : decode cX5_leads 49 = .ok (.iload_n 2, 1) := dk_28 (dk_at dksX5_leads_2 2 rfl rfl)
theorem dX5_leads_50 : decode cX5_leads 50 = .ok (.if_icmp .ne 15, 3) := dk_160 0 15 (dk_at dksX5_leads_2 3 rfl rfl)
theorem dX5_leads_53 : decode cX5_leads 53 = .ok (.iload 8, 2) := dk_21 8 (dk_at dksX5_leads_2 6 rfl rfl)
theorem dX5_leads_55 : decode cX5_leads 55 = .ok (.iload_n 3, 1) := dk_29 (dk_at dksX5_leads_2 8 rfl rfl)
theorem dX5_leads_56 : decode cX5_leads 56 = .ok (.if_icmp .ne 9, 3) := dk_160 0 9 (dk_at dksX5_leads_2 9 rfl rfl)
theorem dX5_leads_59 : decode cX5_leads 59 = .ok (.ldc2_w 40, 3) := dk_20 0 40 (dk_at dksX5_leads_2 12 rfl rfl)
theorem dX5_leads_62 : decode cX5_leads 62 = .ok (.goto 4, 3) := dk_167 0 4 (dk_at dksX5_leads_2 15 rfl rfl)
theorem dX5_leads_65 : decode cX5_leads 65 = .ok (.lconst 0, 1) := dk_9 (dk_at dksX5_leads_2 18 rfl rfl)
theorem dX5_leads_66 : decode cX5_leads 66 = .ok (.lastore, 1) := dk_80 (dk_at dksX5_leads_2 19 rfl rfl)
theorem dX5_leads_67 : decode cX5_leads 67 = .ok (.iinc 8 1, 3) := dk_132 8 1 (dk_at dksX5_leads_2 20 rfl rfl)
theorem dX5_leads_70 : decode cX5_leads 70 = .ok (.goto (-39), 3) := dk_167 255 217 (dk_at dksX5_leads_3 0 rfl rfl)
theorem dX5_leads_73 : decode cX5_leads 73 = .ok (.iinc 7 1, 3) := dk_132 7 1 (dk_at dksX5_leads_3 3 rfl rfl)
theorem dX5_leads_76 : decode cX5_leads 76 = .ok (.goto (-55), 3) := dk_167 255 201 (dk_at dksX5_leads_3 6 rfl rfl)
theorem dX5_leads_79 : decode cX5_leads 79 = .ok (.aload_n 0, 1) := dk_42 (dk_at dksX5_leads_3 9 rfl rfl)
theorem dX5_leads_80 : decode cX5_leads 80 = .ok (.getfield 27, 3) := dk_180 0 27 (dk_at dksX5_leads_3 10 rfl rfl)
theorem dX5_leads_83 : decode cX5_leads 83 = .ok (.iconst 0, 1) := dk_3 (dk_at dksX5_leads_3 13 rfl rfl)
theorem dX5_leads_84 : decode cX5_leads 84 = .ok (.lconst 0, 1) := dk_9 (dk_at dksX5_leads_3 14 rfl rfl)
theorem dX5_leads_85 : decode cX5_leads 85 = .ok (.lastore, 1) := dk_80 (dk_at dksX5_leads_3 15 rfl rfl)
theorem dX5_leads_86 : decode cX5_leads 86 = .ok (.aload_n 0, 1) := dk_42 (dk_at dksX5_leads_3 16 rfl rfl)
theorem dX5_leads_87 : decode cX5_leads 87 = .ok (.getfield 27, 3) := dk_180 0 27 (dk_at dksX5_leads_3 17 rfl rfl)
theorem dX5_leads_90 : decode cX5_leads 90 = .ok (.iconst 1, 1) := dk_4 (dk_at dksX5_leads_3 20 rfl rfl)
theorem dX5_leads_91 : decode cX5_leads 91 = .ok (.lconst 0, 1) := dk_9 (dk_at dksX5_leads_3 21 rfl rfl)
theorem dX5_leads_92 : decode cX5_leads 92 = .ok (.lastore, 1) := dk_80 (dk_at dksX5_leads_3 22 rfl rfl)
theorem dX5_leads_93 : decode cX5_leads 93 = .ok (.iconst 0, 1) := dk_3 (dk_at dksX5_leads_3 23 rfl rfl)
theorem dX5_leads_94 : decode cX5_leads 94 = .ok (.istore 7, 2) := dk_54 7 (dk_at dksX5_leads_4 0 rfl rfl)
theorem dX5_leads_96 : decode cX5_leads 96 = .ok (.iload 7, 2) := dk_21 7 (dk_at dksX5_leads_4 2 rfl rfl)
theorem dX5_leads_98 : decode cX5_leads 98 = .ok (.iload_n 1, 1) := dk_27 (dk_at dksX5_leads_4 4 rfl rfl)
theorem dX5_leads_99 : decode cX5_leads 99 = .ok (.if_icmp .ge 13, 3) := dk_162 0 13 (dk_at dksX5_leads_4 5 rfl rfl)
theorem dX5_leads_102 : decode cX5_leads 102 = .ok (.aload_n 0, 1) := dk_42 (dk_at dksX5_leads_4 8 rfl rfl)
theorem dX5_leads_103 : decode cX5_leads 103 = .ok (.invokevirtual 42, 3) := dk_182 0 42 (dk_at dksX5_leads_4 9 rfl rfl)
theorem dX5_leads_106 : decode cX5_leads 106 = .ok (.iinc 7 1, 3) := dk_132 7 1 (dk_at dksX5_leads_4 12 rfl rfl)
theorem dX5_leads_109 : decode cX5_leads 109 = .ok (.goto (-13), 3) := dk_167 255 243 (dk_at dksX5_leads_4 15 rfl rfl)
theorem dX5_leads_112 : decode cX5_leads 112 = .ok (.return_, 1) := dk_177 (dk_at dksX5_leads_4 18 rfl rfl)
abbrev cX5_once : ByteArray := prog_11_method_3_code
def yX5_once : MethodName := ⟨RX5, "once", "()V"⟩
def dkwX5_once_6 : List UInt8 := [80, 132, 2, 1, 167, 255, 227, 177]
abbrev dktX5_once_6 : List UInt8 := dkwX5_once_6 ++ []
def dkwX5_once_5 : List UInt8 := [5, 162, 0, 30, 42, 180, 0, 27, 28, 92, 47, 42, 180, 0, 23, 28, 47, 20, 0, 49, 184, 0, 51, 97]
abbrev dktX5_once_5 : List UInt8 := dkwX5_once_5 ++ dktX5_once_6
def dkwX5_once_4 : List UInt8 := [167, 255, 214, 42, 180, 0, 17, 76, 42, 42, 180, 0, 20, 181, 0, 17, 42, 43, 181, 0, 20, 3, 61, 28]
abbrev dktX5_once_4 : List UInt8 := dkwX5_once_4 ++ dktX5_once_5
def dkwX5_once_3 : List UInt8 := [50, 28, 47, 9, 148, 158, 0, 9, 42, 27, 28, 182, 0, 45, 132, 2, 1, 167, 255, 228, 132, 1, 1]
abbrev dktX5_once_3 : List UInt8 := dkwX5_once_3 ++ dktX5_once_4
def dkwX5_once_2 : List UInt8 := [167, 255, 224, 3, 60, 27, 16, 8, 163, 0, 42, 3, 61, 28, 16, 8, 163, 0, 28, 42, 180, 0, 17, 27]
abbrev dktX5_once_2 : List UInt8 := dkwX5_once_2 ++ dktX5_once_3
def dkwX5_once_1 : List UInt8 := [28, 16, 8, 163, 0, 18, 42, 180, 0, 20, 27, 50, 28, 9, 80, 132, 2, 1, 167, 255, 238, 132, 1, 1]
abbrev dktX5_once_1 : List UInt8 := dkwX5_once_1 ++ dktX5_once_2
def dkwX5_once_0 : List UInt8 := [42, 180, 0, 23, 3, 9, 80, 42, 180, 0, 23, 4, 9, 80, 3, 60, 27, 16, 8, 163, 0, 32, 3, 61]
abbrev dktX5_once_0 : List UInt8 := dkwX5_once_0 ++ dktX5_once_1
theorem dksX5_once_0 : cX5_once.data.toList.drop 0 = dktX5_once_0 := by decide +kernel
theorem dksX5_once_1 : cX5_once.data.toList.drop 24 = dktX5_once_1 := dk_seg dksX5_once_0 24 rfl rfl
theorem dksX5_once_2 : cX5_once.data.toList.drop 48 = dktX5_once_2 := dk_seg dksX5_once_1 24 rfl rfl
theorem dksX5_once_3 : cX5_once.data.toList.drop 72 = dktX5_once_3 := dk_seg dksX5_once_2 24 rfl rfl
theorem dksX5_once_4 : cX5_once.data.toList.drop 95 = dktX5_once_4 := dk_seg dksX5_once_3 23 rfl rfl
theorem dksX5_once_5 : cX5_once.data.toList.drop 119 = dktX5_once_5 := dk_seg dksX5_once_4 24 rfl rfl
theorem dksX5_once_6 : cX5_once.data.toList.drop 143 = dktX5_once_6 := dk_seg dksX5_once_5 24 rfl rfl
theorem dX5_once_0 : decode cX5_once 0 = .ok (.aload_n 0, 1) := dk_42 (dk_at dksX5_once_0 0 rfl rfl)
theorem dX5_once_1 : decode cX5_once 1 = .ok (.getfield 23, 3) := dk_180 0 23 (dk_at dksX5_once_0 1 rfl rfl)
theorem dX5_once_4 : decode cX5_once 4 = .ok (.iconst 0, 1) := dk_3 (dk_at dksX5_once_0 4 rfl rfl)
theorem dX5_once_5 : decode cX5_once 5 = .ok (.lconst 0, 1) := dk_9 (dk_at dksX5_once_0 5 rfl rfl)
theorem dX5_once_6 : decode cX5_once 6 = .ok (.lastore, 1) := dk_80 (dk_at dksX5_once_0 6 rfl rfl)
theorem dX5_once_7 : decode cX5_once 7 = .ok (.aload_n 0, 1) := dk_42 (dk_at dksX5_once_0 7 rfl rfl)
theorem dX5_once_8 : decode cX5_once 8 = .ok (.getfield 23, 3) := dk_180 0 23 (dk_at dksX5_once_0 8 rfl rfl)
theorem dX5_once_11 : decode cX5_once 11 = .ok (.iconst 1, 1) := dk_4 (dk_at dksX5_once_0 11 rfl rfl)
theorem dX5_once_12 : decode cX5_once 12 = .ok (.lconst 0, 1) := dk_9 (dk_at dksX5_once_0 12 rfl rfl)
theorem dX5_once_13 : decode cX5_once 13 = .ok (.lastore, 1) := dk_80 (dk_at dksX5_once_0 13 rfl rfl)
theorem dX5_once_14 : decode cX5_once 14 = .ok (.iconst 0, 1) := dk_3 (dk_at dksX5_once_0 14 rfl rfl)
theorem dX5_once_15 : decode cX5_once 15 = .ok (.istore_n 1, 1) := dk_60 (dk_at dksX5_once_0 15 rfl rfl)
theorem dX5_once_16 : decode cX5_once 16 = .ok (.iload_n 1, 1) := dk_27 (dk_at dksX5_once_0 16 rfl rfl)
theorem dX5_once_17 : decode cX5_once 17 = .ok (.bipush 8, 2) := dk_16 8 (dk_at dksX5_once_0 17 rfl rfl)
theorem dX5_once_19 : decode cX5_once 19 = .ok (.if_icmp .gt 32, 3) := dk_163 0 32 (dk_at dksX5_once_0 19 rfl rfl)
theorem dX5_once_22 : decode cX5_once 22 = .ok (.iconst 0, 1) := dk_3 (dk_at dksX5_once_0 22 rfl rfl)
theorem dX5_once_23 : decode cX5_once 23 = .ok (.istore_n 2, 1) := dk_61 (dk_at dksX5_once_0 23 rfl rfl)
theorem dX5_once_24 : decode cX5_once 24 = .ok (.iload_n 2, 1) := dk_28 (dk_at dksX5_once_1 0 rfl rfl)
theorem dX5_once_25 : decode cX5_once 25 = .ok (.bipush 8, 2) := dk_16 8 (dk_at dksX5_once_1 1 rfl rfl)
theorem dX5_once_27 : decode cX5_once 27 = .ok (.if_icmp .gt 18, 3) := dk_163 0 18 (dk_at dksX5_once_1 3 rfl rfl)
theorem dX5_once_30 : decode cX5_once 30 = .ok (.aload_n 0, 1) := dk_42 (dk_at dksX5_once_1 6 rfl rfl)
theorem dX5_once_31 : decode cX5_once 31 = .ok (.getfield 20, 3) := dk_180 0 20 (dk_at dksX5_once_1 7 rfl rfl)
theorem dX5_once_34 : decode cX5_once 34 = .ok (.iload_n 1, 1) := dk_27 (dk_at dksX5_once_1 10 rfl rfl)
theorem dX5_once_35 : decode cX5_once 35 = .ok (.aaload, 1) := dk_50 (dk_at dksX5_once_1 11 rfl rfl)
theorem dX5_once_36 : decode cX5_once 36 = .ok (.iload_n 2, 1) := dk_28 (dk_at dksX5_once_1 12 rfl rfl)
theorem dX5_once_37 : decode cX5_once 37 = .ok (.lconst 0, 1) := dk_9 (dk_at dksX5_once_1 13 rfl rfl)
theorem dX5_once_38 : decode cX5_once 38 = .ok (.lastore, 1) := dk_80 (dk_at dksX5_once_1 14 rfl rfl)
theorem dX5_once_39 : decode cX5_once 39 = .ok (.iinc 2 1, 3) := dk_132 2 1 (dk_at dksX5_once_1 15 rfl rfl)
theorem dX5_once_42 : decode cX5_once 42 = .ok (.goto (-18), 3) := dk_167 255 238 (dk_at dksX5_once_1 18 rfl rfl)
theorem dX5_once_45 : decode cX5_once 45 = .ok (.iinc 1 1, 3) := dk_132 1 1 (dk_at dksX5_once_1 21 rfl rfl)
theorem dX5_once_48 : decode cX5_once 48 = .ok (.goto (-32), 3) := dk_167 255 224 (dk_at dksX5_once_2 0 rfl rfl)
theorem dX5_once_51 : decode cX5_once 51 = .ok (.iconst 0, 1) := dk_3 (dk_at dksX5_once_2 3 rfl rfl)
theorem dX5_once_52 : decode cX5_once 52 = .ok (.istore_n 1, 1) := dk_60 (dk_at dksX5_once_2 4 rfl rfl)
theorem dX5_once_53 : decode cX5_once 53 = .ok (.iload_n 1, 1) := dk_27 (dk_at dksX5_once_2 5 rfl rfl)
theorem dX5_once_54 : decode cX5_once 54 = .ok (.bipush 8, 2) := dk_16 8 (dk_at dksX5_once_2 6 rfl rfl)
theorem dX5_once_56 : decode cX5_once 56 = .ok (.if_icmp .gt 42, 3) := dk_163 0 42 (dk_at dksX5_once_2 8 rfl rfl)
theorem dX5_once_59 : decode cX5_once 59 = .ok (.iconst 0, 1) := dk_3 (dk_at dksX5_once_2 11 rfl rfl)
theorem dX5_once_60 : decode cX5_once 60 = .ok (.istore_n 2, 1) := dk_61 (dk_at dksX5_once_2 12 rfl rfl)
theorem dX5_once_61 : decode cX5_once 61 = .ok (.iload_n 2, 1) := dk_28 (dk_at dksX5_once_2 13 rfl rfl)
theorem dX5_once_62 : decode cX5_once 62 = .ok (.bipush 8, 2) := dk_16 8 (dk_at dksX5_once_2 14 rfl rfl)
theorem dX5_once_64 : decode cX5_once 64 = .ok (.if_icmp .gt 28, 3) := dk_163 0 28 (dk_at dksX5_once_2 16 rfl rfl)
theorem dX5_once_67 : decode cX5_once 67 = .ok (.aload_n 0, 1) := dk_42 (dk_at dksX5_once_2 19 rfl rfl)
theorem dX5_once_68 : decode cX5_once 68 = .ok (.getfield 17, 3) := dk_180 0 17 (dk_at dksX5_once_2 20 rfl rfl)
theorem dX5_once_71 : decode cX5_once 71 = .ok (.iload_n 1, 1) := dk_27 (dk_at dksX5_once_2 23 rfl rfl)
theorem dX5_once_72 : decode cX5_once 72 = .ok (.aaload, 1) := dk_50 (dk_at dksX5_once_3 0 rfl rfl)
theorem dX5_once_73 : decode cX5_once 73 = .ok (.iload_n 2, 1) := dk_28 (dk_at dksX5_once_3 1 rfl rfl)
theorem dX5_once_74 : decode cX5_once 74 = .ok (.laload, 1) := dk_47 (dk_at dksX5_once_3 2 rfl rfl)
theorem dX5_once_75 : decode cX5_once 75 = .ok (.lconst 0, 1) := dk_9 (dk_at dksX5_once_3 3 rfl rfl)
theorem dX5_once_76 : decode cX5_once 76 = .ok (.lcmp, 1) := dk_148 (dk_at dksX5_once_3 4 rfl rfl)
theorem dX5_once_77 : decode cX5_once 77 = .ok (.ifCond .le 9, 3) := dk_158 0 9 (dk_at dksX5_once_3 5 rfl rfl)
theorem dX5_once_80 : decode cX5_once 80 = .ok (.aload_n 0, 1) := dk_42 (dk_at dksX5_once_3 8 rfl rfl)
theorem dX5_once_81 : decode cX5_once 81 = .ok (.iload_n 1, 1) := dk_27 (dk_at dksX5_once_3 9 rfl rfl)
theorem dX5_once_82 : decode cX5_once 82 = .ok (.iload_n 2, 1) := dk_28 (dk_at dksX5_once_3 10 rfl rfl)
theorem dX5_once_83 : decode cX5_once 83 = .ok (.invokevirtual 45, 3) := dk_182 0 45 (dk_at dksX5_once_3 11 rfl rfl)
theorem dX5_once_86 : decode cX5_once 86 = .ok (.iinc 2 1, 3) := dk_132 2 1 (dk_at dksX5_once_3 14 rfl rfl)
theorem dX5_once_89 : decode cX5_once 89 = .ok (.goto (-28), 3) := dk_167 255 228 (dk_at dksX5_once_3 17 rfl rfl)
theorem dX5_once_92 : decode cX5_once 92 = .ok (.iinc 1 1, 3) := dk_132 1 1 (dk_at dksX5_once_3 20 rfl rfl)
theorem dX5_once_95 : decode cX5_once 95 = .ok (.goto (-42), 3) := dk_167 255 214 (dk_at dksX5_once_4 0 rfl rfl)
theorem dX5_once_98 : decode cX5_once 98 = .ok (.aload_n 0, 1) := dk_42 (dk_at dksX5_once_4 3 rfl rfl)
theorem dX5_once_99 : decode cX5_once 99 = .ok (.getfield 17, 3) := dk_180 0 17 (dk_at dksX5_once_4 4 rfl rfl)
theorem dX5_once_102 : decode cX5_once 102 = .ok (.astore_n 1, 1) := dk_76 (dk_at dksX5_once_4 7 rfl rfl)
theorem dX5_once_103 : decode cX5_once 103 = .ok (.aload_n 0, 1) := dk_42 (dk_at dksX5_once_4 8 rfl rfl)
theorem dX5_once_104 : decode cX5_once 104 = .ok (.aload_n 0, 1) := dk_42 (dk_at dksX5_once_4 9 rfl rfl)
theorem dX5_once_105 : decode cX5_once 105 = .ok (.getfield 20, 3) := dk_180 0 20 (dk_at dksX5_once_4 10 rfl rfl)
theorem dX5_once_108 : decode cX5_once 108 = .ok (.putfield 17, 3) := dk_181 0 17 (dk_at dksX5_once_4 13 rfl rfl)
theorem dX5_once_111 : decode cX5_once 111 = .ok (.aload_n 0, 1) := dk_42 (dk_at dksX5_once_4 16 rfl rfl)
theorem dX5_once_112 : decode cX5_once 112 = .ok (.aload_n 1, 1) := dk_43 (dk_at dksX5_once_4 17 rfl rfl)
theorem dX5_once_113 : decode cX5_once 113 = .ok (.putfield 20, 3) := dk_181 0 20 (dk_at dksX5_once_4 18 rfl rfl)
theorem dX5_once_116 : decode cX5_once 116 = .ok (.iconst 0, 1) := dk_3 (dk_at dksX5_once_4 21 rfl rfl)
theorem dX5_once_117 : decode cX5_once 117 = .ok (.istore_n 2, 1) := dk_61 (dk_at dksX5_once_4 22 rfl rfl)
theorem dX5_once_118 : decode cX5_once 118 = .ok (.iload_n 2, 1) := dk_28 (dk_at dksX5_once_4 23 rfl rfl)
theorem dX5_once_119 : decode cX5_once 119 = .ok (.iconst 2, 1) := dk_5 (dk_at dksX5_once_5 0 rfl rfl)
theorem dX5_once_120 : decode cX5_once 120 = .ok (.if_icmp .ge 30, 3) := dk_162 0 30 (dk_at dksX5_once_5 1 rfl rfl)
theorem dX5_once_123 : decode cX5_once 123 = .ok (.aload_n 0, 1) := dk_42 (dk_at dksX5_once_5 4 rfl rfl)
theorem dX5_once_124 : decode cX5_once 124 = .ok (.getfield 27, 3) := dk_180 0 27 (dk_at dksX5_once_5 5 rfl rfl)
theorem dX5_once_127 : decode cX5_once 127 = .ok (.iload_n 2, 1) := dk_28 (dk_at dksX5_once_5 8 rfl rfl)
theorem dX5_once_128 : decode cX5_once 128 = .ok (.dup2, 1) := dk_92 (dk_at dksX5_once_5 9 rfl rfl)
theorem dX5_once_129 : decode cX5_once 129 = .ok (.laload, 1) := dk_47 (dk_at dksX5_once_5 10 rfl rfl)
theorem dX5_once_130 : decode cX5_once 130 = .ok (.aload_n 0, 1) := dk_42 (dk_at dksX5_once_5 11 rfl rfl)
theorem dX5_once_131 : decode cX5_once 131 = .ok (.getfield 23, 3) := dk_180 0 23 (dk_at dksX5_once_5 12 rfl rfl)
theorem dX5_once_134 : decode cX5_once 134 = .ok (.iload_n 2, 1) := dk_28 (dk_at dksX5_once_5 15 rfl rfl)
theorem dX5_once_135 : decode cX5_once 135 = .ok (.laload, 1) := dk_47 (dk_at dksX5_once_5 16 rfl rfl)
theorem dX5_once_136 : decode cX5_once 136 = .ok (.ldc2_w 49, 3) := dk_20 0 49 (dk_at dksX5_once_5 17 rfl rfl)
theorem dX5_once_139 : decode cX5_once 139 = .ok (.invokestatic 51, 3) := dk_184 0 51 (dk_at dksX5_once_5 20 rfl rfl)
theorem dX5_once_142 : decode cX5_once 142 = .ok (.ladd, 1) := dk_97 (dk_at dksX5_once_5 23 rfl rfl)
theorem dX5_once_143 : decode cX5_once 143 = .ok (.lastore, 1) := dk_80 (dk_at dksX5_once_6 0 rfl rfl)
theorem dX5_once_144 : decode cX5_once 144 = .ok (.iinc 2 1, 3) := dk_132 2 1 (dk_at dksX5_once_6 1 rfl rfl)
theorem dX5_once_147 : decode cX5_once 147 = .ok (.goto (-29), 3) := dk_167 255 227 (dk_at dksX5_once_6 4 rfl rfl)
theorem dX5_once_150 : decode cX5_once 150 = .ok (.return_, 1) := dk_177 (dk_at dksX5_once_6 7 rfl rfl)
abbrev cX5_splits : ByteArray := prog_11_method_5_code
def yX5_splits : MethodName := ⟨RX5, "splits", "(II)V"⟩
def dkwX5_splits_9 : List UInt8 := [105, 21, 6, 133, 105, 97, 80, 132, 6, 1, 167, 255, 54, 177]
abbrev dktX5_splits_9 : List UInt8 := dkwX5_splits_9 ++ []
def dkwX5_splits_8 : List UInt8 := [42, 180, 0, 23, 4, 92, 47, 22, 7, 42, 180, 0, 3, 180, 0, 65, 21, 10, 21, 9, 182, 0, 82, 133]
abbrev dktX5_splits_8 : List UInt8 := dkwX5_splits_8 ++ dktX5_splits_9
def dkwX5_splits_7 : List UInt8 := [22, 7, 42, 180, 0, 3, 180, 0, 65, 21, 9, 21, 10, 182, 0, 82, 133, 105, 21, 6, 133, 105, 97, 80]
abbrev dktX5_splits_7 : List UInt8 := dkwX5_splits_7 ++ dktX5_splits_8
def dkwX5_splits_6 : List UInt8 := [182, 0, 78, 50, 42, 28, 21, 10, 182, 0, 78, 92, 47, 22, 7, 97, 80, 42, 180, 0, 23, 3, 92, 47]
abbrev dktX5_splits_6 : List UInt8 := dkwX5_splits_6 ++ dktX5_splits_7
def dkwX5_splits_5 : List UInt8 := [42, 180, 0, 30, 161, 0, 7, 4, 167, 0, 4, 3, 54, 10, 42, 180, 0, 20, 42, 27, 21, 9]
abbrev dktX5_splits_5 : List UInt8 := dkwX5_splits_5 ++ dktX5_splits_6
def dkwX5_splits_4 : List UInt8 := [42, 180, 0, 30, 161, 0, 7, 4, 167, 0, 4, 3, 54, 9, 21, 6, 42, 180, 0, 37, 161, 0, 15, 28]
abbrev dktX5_splits_4 : List UInt8 := dkwX5_splits_4 ++ dktX5_splits_5
def dkwX5_splits_3 : List UInt8 := [182, 0, 75, 133, 109, 55, 7, 22, 4, 22, 7, 101, 55, 4, 21, 6, 42, 180, 0, 34, 161, 0, 15, 27]
abbrev dktX5_splits_3 : List UInt8 := dkwX5_splits_3 ++ dktX5_splits_4
def dkwX5_splits_2 : List UInt8 := [180, 0, 3, 180, 0, 65, 180, 0, 69, 16, 10, 21, 6, 96, 46, 133, 105, 42, 180, 0, 3, 180, 0, 65]
abbrev dktX5_splits_2 : List UInt8 := dkwX5_splits_2 ++ dktX5_splits_3
def dkwX5_splits_1 : List UInt8 := [163, 0, 202, 21, 6, 29, 160, 0, 8, 22, 4, 167, 0, 41, 42, 180, 0, 17, 27, 50, 28, 47, 42]
abbrev dktX5_splits_1 : List UInt8 := dkwX5_splits_1 ++ dktX5_splits_2
def dkwX5_splits_0 : List UInt8 := [42, 180, 0, 3, 182, 0, 61, 62, 42, 180, 0, 17, 27, 50, 28, 47, 55, 4, 4, 54, 6, 21, 6, 29]
abbrev dktX5_splits_0 : List UInt8 := dkwX5_splits_0 ++ dktX5_splits_1
theorem dksX5_splits_0 : cX5_splits.data.toList.drop 0 = dktX5_splits_0 := by decide +kernel
theorem dksX5_splits_1 : cX5_splits.data.toList.drop 24 = dktX5_splits_1 := dk_seg dksX5_splits_0 24 rfl rfl
theorem dksX5_splits_2 : cX5_splits.data.toList.drop 47 = dktX5_splits_2 := dk_seg dksX5_splits_1 23 rfl rfl
theorem dksX5_splits_3 : cX5_splits.data.toList.drop 71 = dktX5_splits_3 := dk_seg dksX5_splits_2 24 rfl rfl
theorem dksX5_splits_4 : cX5_splits.data.toList.drop 95 = dktX5_splits_4 := dk_seg dksX5_splits_3 24 rfl rfl
theorem dksX5_splits_5 : cX5_splits.data.toList.drop 119 = dktX5_splits_5 := dk_seg dksX5_splits_4 24 rfl rfl
theorem dksX5_splits_6 : cX5_splits.data.toList.drop 141 = dktX5_splits_6 := dk_seg dksX5_splits_5 22 rfl rfl
theorem dksX5_splits_7 : cX5_splits.data.toList.drop 165 = dktX5_splits_7 := dk_seg dksX5_splits_6 24 rfl rfl
theorem dksX5_splits_8 : cX5_splits.data.toList.drop 189 = dktX5_splits_8 := dk_seg dksX5_splits_7 24 rfl rfl
theorem dksX5_splits_9 : cX5_splits.data.toList.drop 213 = dktX5_splits_9 := dk_seg dksX5_splits_8 24 rfl rfl
theorem dX5_splits_0 : decode cX5_splits 0 = .ok (.aload_n 0, 1) := dk_42 (dk_at dksX5_splits_0 0 rfl rfl)
theorem dX5_splits_1 : decode cX5_splits 1 = .ok (.getfield 3, 3) := dk_180 0 3 (dk_at dksX5_splits_0 1 rfl rfl)
theorem dX5_splits_4 : decode cX5_splits 4 = .ok (.invokevirtual 61, 3) := dk_182 0 61 (dk_at dksX5_splits_0 4 rfl rfl)
theorem dX5_splits_7 : decode cX5_splits 7 = .ok (.istore_n 3, 1) := dk_62 (dk_at dksX5_splits_0 7 rfl rfl)
theorem dX5_splits_8 : decode cX5_splits 8 = .ok (.aload_n 0, 1) := dk_42 (dk_at dksX5_splits_0 8 rfl rfl)
theorem dX5_splits_9 : decode cX5_splits 9 = .ok (.getfield 17, 3) := dk_180 0 17 (dk_at dksX5_splits_0 9 rfl rfl)
theorem dX5_splits_12 : decode cX5_splits 12 = .ok (.iload_n 1, 1) := dk_27 (dk_at dksX5_splits_0 12 rfl rfl)
theorem dX5_splits_13 : decode cX5_splits 13 = .ok (.aaload, 1) := dk_50 (dk_at dksX5_splits_0 13 rfl rfl)
theorem dX5_splits_14 : decode cX5_splits 14 = .ok (.iload_n 2, 1) := dk_28 (dk_at dksX5_splits_0 14 rfl rfl)
theorem dX5_splits_15 : decode cX5_splits 15 = .ok (.laload, 1) := dk_47 (dk_at dksX5_splits_0 15 rfl rfl)
theorem dX5_splits_16 : decode cX5_splits 16 = .ok (.lstore 4, 2) := dk_55 4 (dk_at dksX5_splits_0 16 rfl rfl)
theorem dX5_splits_18 : decode cX5_splits 18 = .ok (.iconst 1, 1) := dk_4 (dk_at dksX5_splits_0 18 rfl rfl)
theorem dX5_splits_19 : decode cX5_splits 19 = .ok (.istore 6, 2) := dk_54 6 (dk_at dksX5_splits_0 19 rfl rfl)
theorem dX5_splits_21 : decode cX5_splits 21 = .ok (.iload 6, 2) := dk_21 6 (dk_at dksX5_splits_0 21 rfl rfl)
theorem dX5_splits_23 : decode cX5_splits 23 = .ok (.iload_n 3, 1) := dk_29 (dk_at dksX5_splits_0 23 rfl rfl)
theorem dX5_splits_24 : decode cX5_splits 24 = .ok (.if_icmp .gt 202, 3) := dk_163 0 202 (dk_at dksX5_splits_1 0 rfl rfl)
theorem dX5_splits_27 : decode cX5_splits 27 = .ok (.iload 6, 2) := dk_21 6 (dk_at dksX5_splits_1 3 rfl rfl)
theorem dX5_splits_29 : decode cX5_splits 29 = .ok (.iload_n 3, 1) := dk_29 (dk_at dksX5_splits_1 5 rfl rfl)
theorem dX5_splits_30 : decode cX5_splits 30 = .ok (.if_icmp .ne 8, 3) := dk_160 0 8 (dk_at dksX5_splits_1 6 rfl rfl)
theorem dX5_splits_33 : decode cX5_splits 33 = .ok (.lload 4, 2) := dk_22 4 (dk_at dksX5_splits_1 9 rfl rfl)
theorem dX5_splits_35 : decode cX5_splits 35 = .ok (.goto 41, 3) := dk_167 0 41 (dk_at dksX5_splits_1 11 rfl rfl)
theorem dX5_splits_38 : decode cX5_splits 38 = .ok (.aload_n 0, 1) := dk_42 (dk_at dksX5_splits_1 14 rfl rfl)
theorem dX5_splits_39 : decode cX5_splits 39 = .ok (.getfield 17, 3) := dk_180 0 17 (dk_at dksX5_splits_1 15 rfl rfl)
theorem dX5_splits_42 : decode cX5_splits 42 = .ok (.iload_n 1, 1) := dk_27 (dk_at dksX5_splits_1 18 rfl rfl)
theorem dX5_splits_43 : decode cX5_splits 43 = .ok (.aaload, 1) := dk_50 (dk_at dksX5_splits_1 19 rfl rfl)
theorem dX5_splits_44 : decode cX5_splits 44 = .ok (.iload_n 2, 1) := dk_28 (dk_at dksX5_splits_1 20 rfl rfl)
theorem dX5_splits_45 : decode cX5_splits 45 = .ok (.laload, 1) := dk_47 (dk_at dksX5_splits_1 21 rfl rfl)
theorem dX5_splits_46 : decode cX5_splits 46 = .ok (.aload_n 0, 1) := dk_42 (dk_at dksX5_splits_1 22 rfl rfl)
theorem dX5_splits_47 : decode cX5_splits 47 = .ok (.getfield 3, 3) := dk_180 0 3 (dk_at dksX5_splits_2 0 rfl rfl)
theorem dX5_splits_50 : decode cX5_splits 50 = .ok (.getfield 65, 3) := dk_180 0 65 (dk_at dksX5_splits_2 3 rfl rfl)
theorem dX5_splits_53 : decode cX5_splits 53 = .ok (.getfield 69, 3) := dk_180 0 69 (dk_at dksX5_splits_2 6 rfl rfl)
theorem dX5_splits_56 : decode cX5_splits 56 = .ok (.bipush 10, 2) := dk_16 10 (dk_at dksX5_splits_2 9 rfl rfl)
theorem dX5_splits_58 : decode cX5_splits 58 = .ok (.iload 6, 2) := dk_21 6 (dk_at dksX5_splits_2 11 rfl rfl)
theorem dX5_splits_60 : decode cX5_splits 60 = .ok (.iadd, 1) := dk_96 (dk_at dksX5_splits_2 13 rfl rfl)
theorem dX5_splits_61 : decode cX5_splits 61 = .ok (.iaload, 1) := dk_46 (dk_at dksX5_splits_2 14 rfl rfl)
theorem dX5_splits_62 : decode cX5_splits 62 = .ok (.i2l, 1) := dk_133 (dk_at dksX5_splits_2 15 rfl rfl)
theorem dX5_splits_63 : decode cX5_splits 63 = .ok (.lmul, 1) := dk_105 (dk_at dksX5_splits_2 16 rfl rfl)
theorem dX5_splits_64 : decode cX5_splits 64 = .ok (.aload_n 0, 1) := dk_42 (dk_at dksX5_splits_2 17 rfl rfl)
theorem dX5_splits_65 : decode cX5_splits 65 = .ok (.getfield 3, 3) := dk_180 0 3 (dk_at dksX5_splits_2 18 rfl rfl)
theorem dX5_splits_68 : decode cX5_splits 68 = .ok (.getfield 65, 3) := dk_180 0 65 (dk_at dksX5_splits_2 21 rfl rfl)
theorem dX5_splits_71 : decode cX5_splits 71 = .ok (.invokevirtual 75, 3) := dk_182 0 75 (dk_at dksX5_splits_3 0 rfl rfl)
theorem dX5_splits_74 : decode cX5_splits 74 = .ok (.i2l, 1) := dk_133 (dk_at dksX5_splits_3 3 rfl rfl)
theorem dX5_splits_75 : decode cX5_splits 75 = .ok (.ldiv, 1) := dk_109 (dk_at dksX5_splits_3 4 rfl rfl)
theorem dX5_splits_76 : decode cX5_splits 76 = .ok (.lstore 7, 2) := dk_55 7 (dk_at dksX5_splits_3 5 rfl rfl)
theorem dX5_splits_78 : decode cX5_splits 78 = .ok (.lload 4, 2) := dk_22 4 (dk_at dksX5_splits_3 7 rfl rfl)
theorem dX5_splits_80 : decode cX5_splits 80 = .ok (.lload 7, 2) := dk_22 7 (dk_at dksX5_splits_3 9 rfl rfl)
theorem dX5_splits_82 : decode cX5_splits 82 = .ok (.lsub, 1) := dk_101 (dk_at dksX5_splits_3 11 rfl rfl)
theorem dX5_splits_83 : decode cX5_splits 83 = .ok (.lstore 4, 2) := dk_55 4 (dk_at dksX5_splits_3 12 rfl rfl)
theorem dX5_splits_85 : decode cX5_splits 85 = .ok (.iload 6, 2) := dk_21 6 (dk_at dksX5_splits_3 14 rfl rfl)
theorem dX5_splits_87 : decode cX5_splits 87 = .ok (.aload_n 0, 1) := dk_42 (dk_at dksX5_splits_3 16 rfl rfl)
theorem dX5_splits_88 : decode cX5_splits 88 = .ok (.getfield 34, 3) := dk_180 0 34 (dk_at dksX5_splits_3 17 rfl rfl)
theorem dX5_splits_91 : decode cX5_splits 91 = .ok (.if_icmp .lt 15, 3) := dk_161 0 15 (dk_at dksX5_splits_3 20 rfl rfl)
theorem dX5_splits_94 : decode cX5_splits 94 = .ok (.iload_n 1, 1) := dk_27 (dk_at dksX5_splits_3 23 rfl rfl)
theorem dX5_splits_95 : decode cX5_splits 95 = .ok (.aload_n 0, 1) := dk_42 (dk_at dksX5_splits_4 0 rfl rfl)
theorem dX5_splits_96 : decode cX5_splits 96 = .ok (.getfield 30, 3) := dk_180 0 30 (dk_at dksX5_splits_4 1 rfl rfl)
theorem dX5_splits_99 : decode cX5_splits 99 = .ok (.if_icmp .lt 7, 3) := dk_161 0 7 (dk_at dksX5_splits_4 4 rfl rfl)
theorem dX5_splits_102 : decode cX5_splits 102 = .ok (.iconst 1, 1) := dk_4 (dk_at dksX5_splits_4 7 rfl rfl)
theorem dX5_splits_103 : decode cX5_splits 103 = .ok (.goto 4, 3) := dk_167 0 4 (dk_at dksX5_splits_4 8 rfl rfl)
theorem dX5_splits_106 : decode cX5_splits 106 = .ok (.iconst 0, 1) := dk_3 (dk_at dksX5_splits_4 11 rfl rfl)
theorem dX5_splits_107 : decode cX5_splits 107 = .ok (.istore 9, 2) := dk_54 9 (dk_at dksX5_splits_4 12 rfl rfl)
theorem dX5_splits_109 : decode cX5_splits 109 = .ok (.iload 6, 2) := dk_21 6 (dk_at dksX5_splits_4 14 rfl rfl)
theorem dX5_splits_111 : decode cX5_splits 111 = .ok (.aload_n 0, 1) := dk_42 (dk_at dksX5_splits_4 16 rfl rfl)
theorem dX5_splits_112 : decode cX5_splits 112 = .ok (.getfield 37, 3) := dk_180 0 37 (dk_at dksX5_splits_4 17 rfl rfl)
theorem dX5_splits_115 : decode cX5_splits 115 = .ok (.if_icmp .lt 15, 3) := dk_161 0 15 (dk_at dksX5_splits_4 20 rfl rfl)
theorem dX5_splits_118 : decode cX5_splits 118 = .ok (.iload_n 2, 1) := dk_28 (dk_at dksX5_splits_4 23 rfl rfl)
theorem dX5_splits_119 : decode cX5_splits 119 = .ok (.aload_n 0, 1) := dk_42 (dk_at dksX5_splits_5 0 rfl rfl)
theorem dX5_splits_120 : decode cX5_splits 120 = .ok (.getfield 30, 3) := dk_180 0 30 (dk_at dksX5_splits_5 1 rfl rfl)
theorem dX5_splits_123 : decode cX5_splits 123 = .ok (.if_icmp .lt 7, 3) := dk_161 0 7 (dk_at dksX5_splits_5 4 rfl rfl)
theorem dX5_splits_126 : decode cX5_splits 126 = .ok (.iconst 1, 1) := dk_4 (dk_at dksX5_splits_5 7 rfl rfl)
theorem dX5_splits_127 : decode cX5_splits 127 = .ok (.goto 4, 3) := dk_167 0 4 (dk_at dksX5_splits_5 8 rfl rfl)
theorem dX5_splits_130 : decode cX5_splits 130 = .ok (.iconst 0, 1) := dk_3 (dk_at dksX5_splits_5 11 rfl rfl)
theorem dX5_splits_131 : decode cX5_splits 131 = .ok (.istore 10, 2) := dk_54 10 (dk_at dksX5_splits_5 12 rfl rfl)
theorem dX5_splits_133 : decode cX5_splits 133 = .ok (.aload_n 0, 1) := dk_42 (dk_at dksX5_splits_5 14 rfl rfl)
theorem dX5_splits_134 : decode cX5_splits 134 = .ok (.getfield 20, 3) := dk_180 0 20 (dk_at dksX5_splits_5 15 rfl rfl)
theorem dX5_splits_137 : decode cX5_splits 137 = .ok (.aload_n 0, 1) := dk_42 (dk_at dksX5_splits_5 18 rfl rfl)
theorem dX5_splits_138 : decode cX5_splits 138 = .ok (.iload_n 1, 1) := dk_27 (dk_at dksX5_splits_5 19 rfl rfl)
theorem dX5_splits_139 : decode cX5_splits 139 = .ok (.iload 9, 2) := dk_21 9 (dk_at dksX5_splits_5 20 rfl rfl)
theorem dX5_splits_141 : decode cX5_splits 141 = .ok (.invokevirtual 78, 3) := dk_182 0 78 (dk_at dksX5_splits_6 0 rfl rfl)
theorem dX5_splits_144 : decode cX5_splits 144 = .ok (.aaload, 1) := dk_50 (dk_at dksX5_splits_6 3 rfl rfl)
theorem dX5_splits_145 : decode cX5_splits 145 = .ok (.aload_n 0, 1) := dk_42 (dk_at dksX5_splits_6 4 rfl rfl)
theorem dX5_splits_146 : decode cX5_splits 146 = .ok (.iload_n 2, 1) := dk_28 (dk_at dksX5_splits_6 5 rfl rfl)
theorem dX5_splits_147 : decode cX5_splits 147 = .ok (.iload 10, 2) := dk_21 10 (dk_at dksX5_splits_6 6 rfl rfl)
theorem dX5_splits_149 : decode cX5_splits 149 = .ok (.invokevirtual 78, 3) := dk_182 0 78 (dk_at dksX5_splits_6 8 rfl rfl)
theorem dX5_splits_152 : decode cX5_splits 152 = .ok (.dup2, 1) := dk_92 (dk_at dksX5_splits_6 11 rfl rfl)
theorem dX5_splits_153 : decode cX5_splits 153 = .ok (.laload, 1) := dk_47 (dk_at dksX5_splits_6 12 rfl rfl)
theorem dX5_splits_154 : decode cX5_splits 154 = .ok (.lload 7, 2) := dk_22 7 (dk_at dksX5_splits_6 13 rfl rfl)
theorem dX5_splits_156 : decode cX5_splits 156 = .ok (.ladd, 1) := dk_97 (dk_at dksX5_splits_6 15 rfl rfl)
theorem dX5_splits_157 : decode cX5_splits 157 = .ok (.lastore, 1) := dk_80 (dk_at dksX5_splits_6 16 rfl rfl)
theorem dX5_splits_158 : decode cX5_splits 158 = .ok (.aload_n 0, 1) := dk_42 (dk_at dksX5_splits_6 17 rfl rfl)
theorem dX5_splits_159 : decode cX5_splits 159 = .ok (.getfield 23, 3) := dk_180 0 23 (dk_at dksX5_splits_6 18 rfl rfl)
theorem dX5_splits_162 : decode cX5_splits 162 = .ok (.iconst 0, 1) := dk_3 (dk_at dksX5_splits_6 21 rfl rfl)
theorem dX5_splits_163 : decode cX5_splits 163 = .ok (.dup2, 1) := dk_92 (dk_at dksX5_splits_6 22 rfl rfl)
theorem dX5_splits_164 : decode cX5_splits 164 = .ok (.laload, 1) := dk_47 (dk_at dksX5_splits_6 23 rfl rfl)
theorem dX5_splits_165 : decode cX5_splits 165 = .ok (.lload 7, 2) := dk_22 7 (dk_at dksX5_splits_7 0 rfl rfl)
theorem dX5_splits_167 : decode cX5_splits 167 = .ok (.aload_n 0, 1) := dk_42 (dk_at dksX5_splits_7 2 rfl rfl)
theorem dX5_splits_168 : decode cX5_splits 168 = .ok (.getfield 3, 3) := dk_180 0 3 (dk_at dksX5_splits_7 3 rfl rfl)
theorem dX5_splits_171 : decode cX5_splits 171 = .ok (.getfield 65, 3) := dk_180 0 65 (dk_at dksX5_splits_7 6 rfl rfl)
theorem dX5_splits_174 : decode cX5_splits 174 = .ok (.iload 9, 2) := dk_21 9 (dk_at dksX5_splits_7 9 rfl rfl)
theorem dX5_splits_176 : decode cX5_splits 176 = .ok (.iload 10, 2) := dk_21 10 (dk_at dksX5_splits_7 11 rfl rfl)
theorem dX5_splits_178 : decode cX5_splits 178 = .ok (.invokevirtual 82, 3) := dk_182 0 82 (dk_at dksX5_splits_7 13 rfl rfl)
theorem dX5_splits_181 : decode cX5_splits 181 = .ok (.i2l, 1) := dk_133 (dk_at dksX5_splits_7 16 rfl rfl)
theorem dX5_splits_182 : decode cX5_splits 182 = .ok (.lmul, 1) := dk_105 (dk_at dksX5_splits_7 17 rfl rfl)
theorem dX5_splits_183 : decode cX5_splits 183 = .ok (.iload 6, 2) := dk_21 6 (dk_at dksX5_splits_7 18 rfl rfl)
theorem dX5_splits_185 : decode cX5_splits 185 = .ok (.i2l, 1) := dk_133 (dk_at dksX5_splits_7 20 rfl rfl)
theorem dX5_splits_186 : decode cX5_splits 186 = .ok (.lmul, 1) := dk_105 (dk_at dksX5_splits_7 21 rfl rfl)
theorem dX5_splits_187 : decode cX5_splits 187 = .ok (.ladd, 1) := dk_97 (dk_at dksX5_splits_7 22 rfl rfl)
theorem dX5_splits_188 : decode cX5_splits 188 = .ok (.lastore, 1) := dk_80 (dk_at dksX5_splits_7 23 rfl rfl)
theorem dX5_splits_189 : decode cX5_splits 189 = .ok (.aload_n 0, 1) := dk_42 (dk_at dksX5_splits_8 0 rfl rfl)
theorem dX5_splits_190 : decode cX5_splits 190 = .ok (.getfield 23, 3) := dk_180 0 23 (dk_at dksX5_splits_8 1 rfl rfl)
theorem dX5_splits_193 : decode cX5_splits 193 = .ok (.iconst 1, 1) := dk_4 (dk_at dksX5_splits_8 4 rfl rfl)
theorem dX5_splits_194 : decode cX5_splits 194 = .ok (.dup2, 1) := dk_92 (dk_at dksX5_splits_8 5 rfl rfl)
theorem dX5_splits_195 : decode cX5_splits 195 = .ok (.laload, 1) := dk_47 (dk_at dksX5_splits_8 6 rfl rfl)
theorem dX5_splits_196 : decode cX5_splits 196 = .ok (.lload 7, 2) := dk_22 7 (dk_at dksX5_splits_8 7 rfl rfl)
theorem dX5_splits_198 : decode cX5_splits 198 = .ok (.aload_n 0, 1) := dk_42 (dk_at dksX5_splits_8 9 rfl rfl)
theorem dX5_splits_199 : decode cX5_splits 199 = .ok (.getfield 3, 3) := dk_180 0 3 (dk_at dksX5_splits_8 10 rfl rfl)
theorem dX5_splits_202 : decode cX5_splits 202 = .ok (.getfield 65, 3) := dk_180 0 65 (dk_at dksX5_splits_8 13 rfl rfl)
theorem dX5_splits_205 : decode cX5_splits 205 = .ok (.iload 10, 2) := dk_21 10 (dk_at dksX5_splits_8 16 rfl rfl)
theorem dX5_splits_207 : decode cX5_splits 207 = .ok (.iload 9, 2) := dk_21 9 (dk_at dksX5_splits_8 18 rfl rfl)
theorem dX5_splits_209 : decode cX5_splits 209 = .ok (.invokevirtual 82, 3) := dk_182 0 82 (dk_at dksX5_splits_8 20 rfl rfl)
theorem dX5_splits_212 : decode cX5_splits 212 = .ok (.i2l, 1) := dk_133 (dk_at dksX5_splits_8 23 rfl rfl)
theorem dX5_splits_213 : decode cX5_splits 213 = .ok (.lmul, 1) := dk_105 (dk_at dksX5_splits_9 0 rfl rfl)
theorem dX5_splits_214 : decode cX5_splits 214 = .ok (.iload 6, 2) := dk_21 6 (dk_at dksX5_splits_9 1 rfl rfl)
theorem dX5_splits_216 : decode cX5_splits 216 = .ok (.i2l, 1) := dk_133 (dk_at dksX5_splits_9 3 rfl rfl)
theorem dX5_splits_217 : decode cX5_splits 217 = .ok (.lmul, 1) := dk_105 (dk_at dksX5_splits_9 4 rfl rfl)
theorem dX5_splits_218 : decode cX5_splits 218 = .ok (.ladd, 1) := dk_97 (dk_at dksX5_splits_9 5 rfl rfl)
theorem dX5_splits_219 : decode cX5_splits 219 = .ok (.lastore, 1) := dk_80 (dk_at dksX5_splits_9 6 rfl rfl)
theorem dX5_splits_220 : decode cX5_splits 220 = .ok (.iinc 6 1, 3) := dk_132 6 1 (dk_at dksX5_splits_9 7 rfl rfl)
theorem dX5_splits_223 : decode cX5_splits 223 = .ok (.goto (-202), 3) := dk_167 255 54 (dk_at dksX5_splits_9 10 rfl rfl)
theorem dX5_splits_226 : decode cX5_splits 226 = .ok (.return_, 1) := dk_177 (dk_at dksX5_splits_9 13 rfl rfl)
abbrev cX5_on : ByteArray := prog_11_method_4_code
def yX5_on : MethodName := ⟨RX5, "on", "(IZ)I"⟩
def dkwX5_on_0 : List UInt8 := [28, 153, 0, 12, 27, 42, 180, 0, 30, 100, 167, 0, 11, 16, 8, 27, 4, 96, 184, 0, 57, 172]
abbrev dktX5_on_0 : List UInt8 := dkwX5_on_0 ++ []
theorem dksX5_on_0 : cX5_on.data.toList.drop 0 = dktX5_on_0 := by decide +kernel
theorem dX5_on_0 : decode cX5_on 0 = .ok (.iload_n 2, 1) := dk_28 (dk_at dksX5_on_0 0 rfl rfl)
theorem dX5_on_1 : decode cX5_on 1 = .ok (.ifCond .eq 12, 3) := dk_153 0 12 (dk_at dksX5_on_0 1 rfl rfl)
theorem dX5_on_4 : decode cX5_on 4 = .ok (.iload_n 1, 1) := dk_27 (dk_at dksX5_on_0 4 rfl rfl)
theorem dX5_on_5 : decode cX5_on 5 = .ok (.aload_n 0, 1) := dk_42 (dk_at dksX5_on_0 5 rfl rfl)
theorem dX5_on_6 : decode cX5_on 6 = .ok (.getfield 30, 3) := dk_180 0 30 (dk_at dksX5_on_0 6 rfl rfl)
theorem dX5_on_9 : decode cX5_on 9 = .ok (.isub, 1) := dk_100 (dk_at dksX5_on_0 9 rfl rfl)
theorem dX5_on_10 : decode cX5_on 10 = .ok (.goto 11, 3) := dk_167 0 11 (dk_at dksX5_on_0 10 rfl rfl)
theorem dX5_on_13 : decode cX5_on 13 = .ok (.bipush 8, 2) := dk_16 8 (dk_at dksX5_on_0 13 rfl rfl)
theorem dX5_on_15 : decode cX5_on 15 = .ok (.iload_n 1, 1) := dk_27 (dk_at dksX5_on_0 15 rfl rfl)
theorem dX5_on_16 : decode cX5_on 16 = .ok (.iconst 1, 1) := dk_4 (dk_at dksX5_on_0 16 rfl rfl)
theorem dX5_on_17 : decode cX5_on 17 = .ok (.iadd, 1) := dk_96 (dk_at dksX5_on_0 17 rfl rfl)
theorem dX5_on_18 : decode cX5_on 18 = .ok (.invokestatic 57, 3) := dk_184 0 57 (dk_at dksX5_on_0 18 rfl rfl)
theorem dX5_on_21 : decode cX5_on 21 = .ok (.ireturn, 1) := dk_172 (dk_at dksX5_on_0 21 rfl rfl)
theorem q123 : (Jvm.Cond.initialized "NotchSticks$Pair") ∈ lw_all := lw_g (lw_at lw_m1 13 rfl) rfl
theorem q216 : (Jvm.Cond.selects "NotchSticks$Pair" ({ cls := "java/lang/Object", name := "getClass", desc := "()Ljava/lang/Class;" } : Jvm.MethodName) ({ cls := "java/lang/Object", name := "getClass", desc := "()Ljava/lang/Class;" } : Jvm.MethodName)) ∈ lw_all := lw_g (lw_at lw_m1 106 rfl) rfl
theorem q299 : (Jvm.Cond.fieldLinkNest "NotchSticks$Pair" (69 : Nat) "NotchSticks$Valley" "told" "[I" "NotchSticks") ∈ lw_tbl := lw_at lw_m1 189 rfl
theorem q335 : (Jvm.Cond.instantiable "NotchSticks$Pair" (8 : Nat)) ∈ lw_all := lw_g (lw_at lw_m1 225 rfl) rfl
theorem q337 : (Jvm.Cond.instanceMethod ({ cls := "NotchSticks$Pair", name := "<init>", desc := "(LNotchSticks;)V" } : Jvm.MethodName)) ∈ lw_all := lw_g (lw_at lw_m1 227 rfl) rfl
theorem q338 : (Jvm.Cond.code ({ cls := "NotchSticks$Pair", name := "<init>", desc := "(LNotchSticks;)V" } : Jvm.MethodName) prog_11_method_1_code (2 : Nat) (Option.none : Option Jvm.ClassFile.FieldType)) ∈ lw_all := lw_g (lw_at lw_m1 228 rfl) rfl
theorem q339 : (Jvm.Cond.methodLink "NotchSticks$Pair" (9 : Nat) ({ cls := "java/lang/Object", name := "<init>", desc := "()V" } : Jvm.MethodName)) ∈ lw_all := lw_g (lw_at lw_m1 229 rfl) rfl
theorem q340 : (Jvm.Cond.classLink "NotchSticks$Pair" (15 : Nat) "[[J") ∈ lw_all := lw_g (lw_at lw_m1 230 rfl) rfl
theorem q342 : (Jvm.Cond.fieldLink "NotchSticks$Pair" (17 : Nat) "NotchSticks$Pair" "weight" "[[J") ∈ lw_all := lw_g (lw_at lw_m1 232 rfl) rfl
theorem q343 : (Jvm.Cond.fieldLink "NotchSticks$Pair" (20 : Nat) "NotchSticks$Pair" "next" "[[J") ∈ lw_all := lw_g (lw_at lw_m1 233 rfl) rfl
theorem q344 : (Jvm.Cond.fieldLink "NotchSticks$Pair" (23 : Nat) "NotchSticks$Pair" "came" "[J") ∈ lw_all := lw_g (lw_at lw_m1 234 rfl) rfl
theorem q345 : (Jvm.Cond.fieldLink "NotchSticks$Pair" (27 : Nat) "NotchSticks$Pair" "gains" "[J") ∈ lw_all := lw_g (lw_at lw_m1 235 rfl) rfl
theorem q347 : (Jvm.Cond.fieldLink "NotchSticks$Pair" (30 : Nat) "NotchSticks$Pair" "need" "I") ∈ lw_all := lw_g (lw_at lw_m1 237 rfl) rfl
theorem q348 : (Jvm.Cond.fieldLink "NotchSticks$Pair" (34 : Nat) "NotchSticks$Pair" "mine" "I") ∈ lw_all := lw_g (lw_at lw_m1 238 rfl) rfl
theorem q349 : (Jvm.Cond.fieldLink "NotchSticks$Pair" (37 : Nat) "NotchSticks$Pair" "others" "I") ∈ lw_all := lw_g (lw_at lw_m1 239 rfl) rfl
theorem q350 : (Jvm.Cond.fieldLink "NotchSticks$Pair" (3 : Nat) "NotchSticks$Pair" "this$0" "LNotchSticks;") ∈ lw_all := lw_g (lw_at lw_m2 0 rfl) rfl
theorem q351 : (Jvm.Cond.lays "NotchSticks$Pair" "NotchSticks$Pair" "weight" "[[J") ∈ lw_all := lw_g (lw_at lw_m2 1 rfl) rfl
theorem q352 : (Jvm.Cond.soleField "NotchSticks$Pair" "weight") ∈ lw_all := lw_g (lw_at lw_m2 2 rfl) rfl
theorem q353 : (Jvm.Cond.lays "NotchSticks$Pair" "NotchSticks$Pair" "next" "[[J") ∈ lw_all := lw_g (lw_at lw_m2 3 rfl) rfl
theorem q354 : (Jvm.Cond.soleField "NotchSticks$Pair" "next") ∈ lw_all := lw_g (lw_at lw_m2 4 rfl) rfl
theorem q355 : (Jvm.Cond.laysFinal "NotchSticks$Pair" "NotchSticks$Pair" "came" "[J") ∈ lw_all := lw_g (lw_at lw_m2 5 rfl) rfl
theorem q356 : (Jvm.Cond.soleField "NotchSticks$Pair" "came") ∈ lw_all := lw_g (lw_at lw_m2 6 rfl) rfl
theorem q357 : (Jvm.Cond.laysFinal "NotchSticks$Pair" "NotchSticks$Pair" "gains" "[J") ∈ lw_all := lw_g (lw_at lw_m2 7 rfl) rfl
theorem q358 : (Jvm.Cond.soleField "NotchSticks$Pair" "gains") ∈ lw_all := lw_g (lw_at lw_m2 8 rfl) rfl
theorem q359 : (Jvm.Cond.lays "NotchSticks$Pair" "NotchSticks$Pair" "need" "I") ∈ lw_all := lw_g (lw_at lw_m2 9 rfl) rfl
theorem q360 : (Jvm.Cond.soleField "NotchSticks$Pair" "need") ∈ lw_all := lw_g (lw_at lw_m2 10 rfl) rfl
theorem q361 : (Jvm.Cond.lays "NotchSticks$Pair" "NotchSticks$Pair" "mine" "I") ∈ lw_all := lw_g (lw_at lw_m2 11 rfl) rfl
theorem q362 : (Jvm.Cond.soleField "NotchSticks$Pair" "mine") ∈ lw_all := lw_g (lw_at lw_m2 12 rfl) rfl
theorem q363 : (Jvm.Cond.lays "NotchSticks$Pair" "NotchSticks$Pair" "others" "I") ∈ lw_all := lw_g (lw_at lw_m2 13 rfl) rfl
theorem q364 : (Jvm.Cond.soleField "NotchSticks$Pair" "others") ∈ lw_all := lw_g (lw_at lw_m2 14 rfl) rfl
theorem q365 : (Jvm.Cond.laysFinal "NotchSticks$Pair" "NotchSticks$Pair" "this$0" "LNotchSticks;") ∈ lw_all := lw_g (lw_at lw_m2 15 rfl) rfl
theorem q366 : (Jvm.Cond.soleField "NotchSticks$Pair" "this$0") ∈ lw_all := lw_g (lw_at lw_m2 16 rfl) rfl
theorem q367 : (Jvm.Cond.superclass "NotchSticks$Pair" "java/lang/Object") ∈ lw_all := lw_g (lw_at lw_m2 17 rfl) rfl
theorem q380 : (Jvm.Cond.fieldLinkNest "NotchSticks$Pair" (65 : Nat) "NotchSticks" "valley" "LNotchSticks$Valley;" "NotchSticks") ∈ lw_tbl := lw_at lw_m2 30 rfl
theorem q997 : (Jvm.Cond.instanceMethod ({ cls := "NotchSticks$Pair", name := "leads", desc := "(IIIIII)V" } : Jvm.MethodName)) ∈ lw_all := lw_g (lw_at lw_m4 167 rfl) rfl
theorem q998 : (Jvm.Cond.selects "NotchSticks$Pair" ({ cls := "NotchSticks$Pair", name := "leads", desc := "(IIIIII)V" } : Jvm.MethodName) ({ cls := "NotchSticks$Pair", name := "leads", desc := "(IIIIII)V" } : Jvm.MethodName)) ∈ lw_all := lw_g (lw_at lw_m4 168 rfl) rfl
theorem q999 : (Jvm.Cond.code ({ cls := "NotchSticks$Pair", name := "leads", desc := "(IIIIII)V" } : Jvm.MethodName) prog_11_method_2_code (9 : Nat) (Option.none : Option Jvm.ClassFile.FieldType)) ∈ lw_all := lw_g (lw_at lw_m4 169 rfl) rfl
theorem q1000 : (Jvm.Cond.constantLong "NotchSticks$Pair" (40 : Nat) (1000000000 : Int64)) ∈ lw_all := lw_g (lw_at lw_m4 170 rfl) rfl
theorem q1001 : (Jvm.Cond.methodLink "NotchSticks$Pair" (42 : Nat) ({ cls := "NotchSticks$Pair", name := "once", desc := "()V" } : Jvm.MethodName)) ∈ lw_all := lw_g (lw_at lw_m4 171 rfl) rfl
theorem q1002 : (Jvm.Cond.privateMethod ({ cls := "NotchSticks$Pair", name := "once", desc := "()V" } : Jvm.MethodName)) ∈ lw_tbl := lw_at lw_m4 172 rfl
theorem q1003 : (Jvm.Cond.instanceMethod ({ cls := "NotchSticks$Pair", name := "once", desc := "()V" } : Jvm.MethodName)) ∈ lw_all := lw_g (lw_at lw_m4 173 rfl) rfl
theorem q1004 : (Jvm.Cond.code ({ cls := "NotchSticks$Pair", name := "once", desc := "()V" } : Jvm.MethodName) prog_11_method_3_code (3 : Nat) (Option.none : Option Jvm.ClassFile.FieldType)) ∈ lw_all := lw_g (lw_at lw_m4 174 rfl) rfl
theorem q1005 : (Jvm.Cond.methodLink "NotchSticks$Pair" (45 : Nat) ({ cls := "NotchSticks$Pair", name := "splits", desc := "(II)V" } : Jvm.MethodName)) ∈ lw_all := lw_g (lw_at lw_m4 175 rfl) rfl
theorem q1006 : (Jvm.Cond.privateMethod ({ cls := "NotchSticks$Pair", name := "splits", desc := "(II)V" } : Jvm.MethodName)) ∈ lw_tbl := lw_at lw_m4 176 rfl
theorem q1007 : (Jvm.Cond.instanceMethod ({ cls := "NotchSticks$Pair", name := "splits", desc := "(II)V" } : Jvm.MethodName)) ∈ lw_all := lw_g (lw_at lw_m4 177 rfl) rfl
theorem q1008 : (Jvm.Cond.code ({ cls := "NotchSticks$Pair", name := "splits", desc := "(II)V" } : Jvm.MethodName) prog_11_method_5_code (11 : Nat) (Option.none : Option Jvm.ClassFile.FieldType)) ∈ lw_all := lw_g (lw_at lw_m4 178 rfl) rfl
theorem q1009 : (Jvm.Cond.methodLinkNest "NotchSticks$Pair" (61 : Nat) ({ cls := "NotchSticks", name := "greatestSize", desc := "()I" } : Jvm.MethodName) "NotchSticks") ∈ lw_tbl := lw_at lw_m4 179 rfl
theorem q1010 : (Jvm.Cond.methodLink "NotchSticks$Pair" (75 : Nat) ({ cls := "NotchSticks$Valley", name := "weights", desc := "()I" } : Jvm.MethodName)) ∈ lw_all := lw_g (lw_at lw_m4 180 rfl) rfl
theorem q1011 : (Jvm.Cond.methodLink "NotchSticks$Pair" (78 : Nat) ({ cls := "NotchSticks$Pair", name := "on", desc := "(IZ)I" } : Jvm.MethodName)) ∈ lw_all := lw_g (lw_at lw_m4 181 rfl) rfl
theorem q1012 : (Jvm.Cond.privateMethod ({ cls := "NotchSticks$Pair", name := "on", desc := "(IZ)I" } : Jvm.MethodName)) ∈ lw_tbl := lw_at lw_m4 182 rfl
theorem q1013 : (Jvm.Cond.instanceMethod ({ cls := "NotchSticks$Pair", name := "on", desc := "(IZ)I" } : Jvm.MethodName)) ∈ lw_all := lw_g (lw_at lw_m4 183 rfl) rfl
theorem q1014 : (Jvm.Cond.code ({ cls := "NotchSticks$Pair", name := "on", desc := "(IZ)I" } : Jvm.MethodName) prog_11_method_4_code (3 : Nat) (Option.some Jvm.ClassFile.FieldType.int)) ∈ lw_all := lw_g (lw_at lw_m4 184 rfl) rfl
theorem q1015 : (Jvm.Cond.methodLink "NotchSticks$Pair" (57 : Nat) ({ cls := "java/lang/Math", name := "min", desc := "(II)I" } : Jvm.MethodName)) ∈ lw_all := lw_g (lw_at lw_m4 185 rfl) rfl
theorem q1016 : (Jvm.Cond.methodLink "NotchSticks$Pair" (82 : Nat) ({ cls := "NotchSticks$Valley", name := "worth", desc := "(ZZ)I" } : Jvm.MethodName)) ∈ lw_all := lw_g (lw_at lw_m4 186 rfl) rfl
theorem q1017 : (Jvm.Cond.constantLong "NotchSticks$Pair" (49 : Nat) (1000000 : Int64)) ∈ lw_all := lw_g (lw_at lw_m4 187 rfl) rfl
theorem q1018 : (Jvm.Cond.methodLink "NotchSticks$Pair" (51 : Nat) ({ cls := "java/lang/Math", name := "floorDiv", desc := "(JJ)J" } : Jvm.MethodName)) ∈ lw_all := lw_g (lw_at lw_m4 188 rfl) rfl
theorem q1715 : (Jvm.Cond.castable "NotchSticks$Pair" "java/lang/Object") ∈ lw_tbl := lw_at lw_m7 165 rfl
theorem in_X5 : ∀ w ∈ wsX50, w ∈ lw_all := lw_in wsX50 [351, 353, 355, 357, 359, 361, 363, 365] (by decide +kernel) (by decide +kernel)
/-! NotchSticks$Reader -/
set_option maxRecDepth 100000
def RX7 : String := "NotchSticks$Reader"
def TX7 : u_T := fun k => match k with
  | 0 => ("NotchSticks$Reader", "isLaw", "Z", true)
  | 1 => ("NotchSticks$Reader", "at", "I", false)
  | 2 => ("NotchSticks$Reader", "start", "I", false)
  | 3 => ("NotchSticks$Reader", "token", "I", false)
  | 4 => ("NotchSticks$Reader", "value", "I", false)
  | 5 => ("NotchSticks$Reader", "open", "I", false)
  | _ => ("NotchSticks$Reader", "this$0", "LNotchSticks;", true)
def tyX7 : Nat → FieldType := fun k => match k with
  | 0 => .boolean
  | 1 => .int
  | 2 => .int
  | 3 => .int
  | 4 => .int
  | 5 => .int
  | _ => .object "NotchSticks"
abbrev wsX70 : List Cond := u_ws RX7 TX7 7
theorem nmX7 : ∀ a, a < 7 → ∀ b, b < 7 → a ≠ b → (TX7 a).2.1 ≠ (TX7 b).2.1 := by decide +kernel
theorem tyX7_ok : ∀ k, k < 7 → parseFieldDescriptor (TX7 k).2.2.1 = some (tyX7 k) := by decide +kernel
abbrev cX7_init : ByteArray := prog_13_method_1_code
def yX7_init : MethodName := ⟨RX7, "<init>", "(LNotchSticks;Z)V"⟩
def dkwX7_init_0 : List UInt8 := [42, 43, 181, 0, 3, 42, 183, 0, 9, 42, 28, 181, 0, 15, 177]
abbrev dktX7_init_0 : List UInt8 := dkwX7_init_0 ++ []
theorem dksX7_init_0 : cX7_init.data.toList.drop 0 = dktX7_init_0 := by decide +kernel
theorem dX7_init_0 : decode cX7_init 0 = .ok (.aload_n 0, 1) := dk_42 (dk_at dksX7_init_0 0 rfl rfl)
theorem dX7_init_1 : decode cX7_init 1 = .ok (.aload_n 1, 1) := dk_43 (dk_at dksX7_init_0 1 rfl rfl)
theorem dX7_init_2 : decode cX7_init 2 = .ok (.putfield 3, 3) := dk_181 0 3 (dk_at dksX7_init_0 2 rfl rfl)
theorem dX7_init_5 : decode cX7_init 5 = .ok (.aload_n 0, 1) := dk_42 (dk_at dksX7_init_0 5 rfl rfl)
theorem dX7_init_6 : decode cX7_init 6 = .ok (.invokespecial 9, 3) := dk_183 0 9 (dk_at dksX7_init_0 6 rfl rfl)
theorem dX7_init_9 : decode cX7_init 9 = .ok (.aload_n 0, 1) := dk_42 (dk_at dksX7_init_0 9 rfl rfl)
theorem dX7_init_10 : decode cX7_init 10 = .ok (.iload_n 2, 1) := dk_28 (dk_at dksX7_init_0 10 rfl rfl)
theorem dX7_init_11 : decode cX7_init 11 = .ok (.putfield 15, 3) := dk_181 0 15 (dk_at dksX7_init_0 11 rfl rfl)
theorem dX7_init_14 : decode cX7_init 14 = .ok (.return_, 1) := dk_177 (dk_at dksX7_init_0 14 rfl rfl)
abbrev cX7_read : ByteArray := prog_13_method_20_code
def yX7_read : MethodName := ⟨RX7, "read", "()Ljava/util/ArrayList;"⟩
def dkwX7_read_5 : List UInt8 := [167, 255, 150, 43, 176]
abbrev dktX7_read_5 : List UInt8 := dkwX7_read_5 ++ []
def dkwX7_read_4 : List UInt8 := [182, 0, 173, 78, 42, 16, 59, 182, 0, 176, 43, 187, 0, 187, 89, 28, 45, 183, 0, 189, 182, 0, 192, 87]
abbrev dktX7_read_4 : List UInt8 := dkwX7_read_4 ++ dktX7_read_5
def dkwX7_read_3 : List UInt8 := [180, 0, 104, 17, 1, 44, 100, 61, 42, 3, 181, 0, 132, 42, 182, 0, 129, 42, 6, 182, 0, 176, 42]
abbrev dktX7_read_3 : List UInt8 := dkwX7_read_3 ++ dktX7_read_4
def dkwX7_read_2 : List UInt8 := [191, 43, 182, 0, 185, 16, 16, 160, 0, 16, 187, 0, 124, 89, 6, 42, 180, 0, 38, 183, 0, 126, 191, 42]
abbrev dktX7_read_2 : List UInt8 := dkwX7_read_2 ++ dktX7_read_3
def dkwX7_read_1 : List UInt8 := [17, 1, 44, 17, 1, 46, 184, 0, 34, 154, 0, 16, 187, 0, 124, 89, 4, 42, 180, 0, 38, 183, 0, 126]
abbrev dktX7_read_1 : List UInt8 := dkwX7_read_1 ++ dktX7_read_2
def dkwX7_read_0 : List UInt8 := [187, 0, 182, 89, 183, 0, 184, 76, 42, 182, 0, 129, 42, 180, 0, 104, 153, 0, 105, 42, 180, 0, 104]
abbrev dktX7_read_0 : List UInt8 := dkwX7_read_0 ++ dktX7_read_1
theorem dksX7_read_0 : cX7_read.data.toList.drop 0 = dktX7_read_0 := by decide +kernel
theorem dksX7_read_1 : cX7_read.data.toList.drop 23 = dktX7_read_1 := dk_seg dksX7_read_0 23 rfl rfl
theorem dksX7_read_2 : cX7_read.data.toList.drop 47 = dktX7_read_2 := dk_seg dksX7_read_1 24 rfl rfl
theorem dksX7_read_3 : cX7_read.data.toList.drop 71 = dktX7_read_3 := dk_seg dksX7_read_2 24 rfl rfl
theorem dksX7_read_4 : cX7_read.data.toList.drop 94 = dktX7_read_4 := dk_seg dksX7_read_3 23 rfl rfl
theorem dksX7_read_5 : cX7_read.data.toList.drop 118 = dktX7_read_5 := dk_seg dksX7_read_4 24 rfl rfl
theorem dX7_read_0 : decode cX7_read 0 = .ok (.new 182, 3) := dk_187 0 182 (dk_at dksX7_read_0 0 rfl rfl)
theorem dX7_read_3 : decode cX7_read 3 = .ok (.dup, 1) := dk_89 (dk_at dksX7_read_0 3 rfl rfl)
theorem dX7_read_4 : decode cX7_read 4 = .ok (.invokespecial 184, 3) := dk_183 0 184 (dk_at dksX7_read_0 4 rfl rfl)
theorem dX7_read_7 : decode cX7_read 7 = .ok (.astore_n 1, 1) := dk_76 (dk_at dksX7_read_0 7 rfl rfl)
theorem dX7_read_8 : decode cX7_read 8 = .ok (.aload_n 0, 1) := dk_42 (dk_at dksX7_read_0 8 rfl rfl)
theorem dX7_read_9 : decode cX7_read 9 = .ok (.invokevirtual 129, 3) := dk_182 0 129 (dk_at dksX7_read_0 9 rfl rfl)
theorem dX7_read_12 : decode cX7_read 12 = .ok (.aload_n 0, 1) := dk_42 (dk_at dksX7_read_0 12 rfl rfl)
theorem dX7_read_13 : decode cX7_read 13 = .ok (.getfield 104, 3) := dk_180 0 104 (dk_at dksX7_read_0 13 rfl rfl)
theorem dX7_read_16 : decode cX7_read 16 = .ok (.ifCond .eq 105, 3) := dk_153 0 105 (dk_at dksX7_read_0 16 rfl rfl)
theorem dX7_read_19 : decode cX7_read 19 = .ok (.aload_n 0, 1) := dk_42 (dk_at dksX7_read_0 19 rfl rfl)
theorem dX7_read_20 : decode cX7_read 20 = .ok (.getfield 104, 3) := dk_180 0 104 (dk_at dksX7_read_0 20 rfl rfl)
theorem dX7_read_23 : decode cX7_read 23 = .ok (.sipush 300, 3) := dk_17 1 44 (dk_at dksX7_read_1 0 rfl rfl)
theorem dX7_read_26 : decode cX7_read 26 = .ok (.sipush 302, 3) := dk_17 1 46 (dk_at dksX7_read_1 3 rfl rfl)
theorem dX7_read_29 : decode cX7_read 29 = .ok (.invokestatic 34, 3) := dk_184 0 34 (dk_at dksX7_read_1 6 rfl rfl)
theorem dX7_read_32 : decode cX7_read 32 = .ok (.ifCond .ne 16, 3) := dk_154 0 16 (dk_at dksX7_read_1 9 rfl rfl)
theorem dX7_read_35 : decode cX7_read 35 = .ok (.new 124, 3) := dk_187 0 124 (dk_at dksX7_read_1 12 rfl rfl)
theorem dX7_read_38 : decode cX7_read 38 = .ok (.dup, 1) := dk_89 (dk_at dksX7_read_1 15 rfl rfl)
theorem dX7_read_39 : decode cX7_read 39 = .ok (.iconst 1, 1) := dk_4 (dk_at dksX7_read_1 16 rfl rfl)
theorem dX7_read_40 : decode cX7_read 40 = .ok (.aload_n 0, 1) := dk_42 (dk_at dksX7_read_1 17 rfl rfl)
theorem dX7_read_41 : decode cX7_read 41 = .ok (.getfield 38, 3) := dk_180 0 38 (dk_at dksX7_read_1 18 rfl rfl)
theorem dX7_read_44 : decode cX7_read 44 = .ok (.invokespecial 126, 3) := dk_183 0 126 (dk_at dksX7_read_1 21 rfl rfl)
theorem dX7_read_47 : decode cX7_read 47 = .ok (.athrow, 1) := dk_191 (dk_at dksX7_read_2 0 rfl rfl)
theorem dX7_read_48 : decode cX7_read 48 = .ok (.aload_n 1, 1) := dk_43 (dk_at dksX7_read_2 1 rfl rfl)
theorem dX7_read_49 : decode cX7_read 49 = .ok (.invokevirtual 185, 3) := dk_182 0 185 (dk_at dksX7_read_2 2 rfl rfl)
theorem dX7_read_52 : decode cX7_read 52 = .ok (.bipush 16, 2) := dk_16 16 (dk_at dksX7_read_2 5 rfl rfl)
theorem dX7_read_54 : decode cX7_read 54 = .ok (.if_icmp .ne 16, 3) := dk_160 0 16 (dk_at dksX7_read_2 7 rfl rfl)
theorem dX7_read_57 : decode cX7_read 57 = .ok (.new 124, 3) := dk_187 0 124 (dk_at dksX7_read_2 10 rfl rfl)
theorem dX7_read_60 : decode cX7_read 60 = .ok (.dup, 1) := dk_89 (dk_at dksX7_read_2 13 rfl rfl)
theorem dX7_read_61 : decode cX7_read 61 = .ok (.iconst 3, 1) := dk_6 (dk_at dksX7_read_2 14 rfl rfl)
theorem dX7_read_62 : decode cX7_read 62 = .ok (.aload_n 0, 1) := dk_42 (dk_at dksX7_read_2 15 rfl rfl)
theorem dX7_read_63 : decode cX7_read 63 = .ok (.getfield 38, 3) := dk_180 0 38 (dk_at dksX7_read_2 16 rfl rfl)
theorem dX7_read_66 : decode cX7_read 66 = .ok (.invokespecial 126, 3) := dk_183 0 126 (dk_at dksX7_read_2 19 rfl rfl)
theorem dX7_read_69 : decode cX7_read 69 = .ok (.athrow, 1) := dk_191 (dk_at dksX7_read_2 22 rfl rfl)
theorem dX7_read_70 : decode cX7_read 70 = .ok (.aload_n 0, 1) := dk_42 (dk_at dksX7_read_2 23 rfl rfl)
theorem dX7_read_71 : decode cX7_read 71 = .ok (.getfield 104, 3) := dk_180 0 104 (dk_at dksX7_read_3 0 rfl rfl)
theorem dX7_read_74 : decode cX7_read 74 = .ok (.sipush 300, 3) := dk_17 1 44 (dk_at dksX7_read_3 3 rfl rfl)
theorem dX7_read_77 : decode cX7_read 77 = .ok (.isub, 1) := dk_100 (dk_at dksX7_read_3 6 rfl rfl)
theorem dX7_read_78 : decode cX7_read 78 = .ok (.istore_n 2, 1) := dk_61 (dk_at dksX7_read_3 7 rfl rfl)
theorem dX7_read_79 : decode cX7_read 79 = .ok (.aload_n 0, 1) := dk_42 (dk_at dksX7_read_3 8 rfl rfl)
theorem dX7_read_80 : decode cX7_read 80 = .ok (.iconst 0, 1) := dk_3 (dk_at dksX7_read_3 9 rfl rfl)
theorem dX7_read_81 : decode cX7_read 81 = .ok (.putfield 132, 3) := dk_181 0 132 (dk_at dksX7_read_3 10 rfl rfl)
theorem dX7_read_84 : decode cX7_read 84 = .ok (.aload_n 0, 1) := dk_42 (dk_at dksX7_read_3 13 rfl rfl)
theorem dX7_read_85 : decode cX7_read 85 = .ok (.invokevirtual 129, 3) := dk_182 0 129 (dk_at dksX7_read_3 14 rfl rfl)
theorem dX7_read_88 : decode cX7_read 88 = .ok (.aload_n 0, 1) := dk_42 (dk_at dksX7_read_3 17 rfl rfl)
theorem dX7_read_89 : decode cX7_read 89 = .ok (.iconst 3, 1) := dk_6 (dk_at dksX7_read_3 18 rfl rfl)
theorem dX7_read_90 : decode cX7_read 90 = .ok (.invokevirtual 176, 3) := dk_182 0 176 (dk_at dksX7_read_3 19 rfl rfl)
theorem dX7_read_93 : decode cX7_read 93 = .ok (.aload_n 0, 1) := dk_42 (dk_at dksX7_read_3 22 rfl rfl)
theorem dX7_read_94 : decode cX7_read 94 = .ok (.invokevirtual 173, 3) := dk_182 0 173 (dk_at dksX7_read_4 0 rfl rfl)
theorem dX7_read_97 : decode cX7_read 97 = .ok (.astore_n 3, 1) := dk_78 (dk_at dksX7_read_4 3 rfl rfl)
theorem dX7_read_98 : decode cX7_read 98 = .ok (.aload_n 0, 1) := dk_42 (dk_at dksX7_read_4 4 rfl rfl)
theorem dX7_read_99 : decode cX7_read 99 = .ok (.bipush 59, 2) := dk_16 59 (dk_at dksX7_read_4 5 rfl rfl)
theorem dX7_read_101 : decode cX7_read 101 = .ok (.invokevirtual 176, 3) := dk_182 0 176 (dk_at dksX7_read_4 7 rfl rfl)
theorem dX7_read_104 : decode cX7_read 104 = .ok (.aload_n 1, 1) := dk_43 (dk_at dksX7_read_4 10 rfl rfl)
theorem dX7_read_105 : decode cX7_read 105 = .ok (.new 187, 3) := dk_187 0 187 (dk_at dksX7_read_4 11 rfl rfl)
theorem dX7_read_108 : decode cX7_read 108 = .ok (.dup, 1) := dk_89 (dk_at dksX7_read_4 14 rfl rfl)
theorem dX7_read_109 : decode cX7_read 109 = .ok (.iload_n 2, 1) := dk_28 (dk_at dksX7_read_4 15 rfl rfl)
theorem dX7_read_110 : decode cX7_read 110 = .ok (.aload_n 3, 1) := dk_45 (dk_at dksX7_read_4 16 rfl rfl)
theorem dX7_read_111 : decode cX7_read 111 = .ok (.invokespecial 189, 3) := dk_183 0 189 (dk_at dksX7_read_4 17 rfl rfl)
theorem dX7_read_114 : decode cX7_read 114 = .ok (.invokevirtual 192, 3) := dk_182 0 192 (dk_at dksX7_read_4 20 rfl rfl)
theorem dX7_read_117 : decode cX7_read 117 = .ok (.pop, 1) := dk_87 (dk_at dksX7_read_4 23 rfl rfl)
theorem dX7_read_118 : decode cX7_read 118 = .ok (.goto (-106), 3) := dk_167 255 150 (dk_at dksX7_read_5 0 rfl rfl)
theorem dX7_read_121 : decode cX7_read 121 = .ok (.aload_n 1, 1) := dk_43 (dk_at dksX7_read_5 3 rfl rfl)
theorem dX7_read_122 : decode cX7_read 122 = .ok (.areturn, 1) := dk_176 (dk_at dksX7_read_5 4 rfl rfl)
abbrev cX7_next : ByteArray := prog_13_method_10_code
def yX7_next : MethodName := ⟨RX7, "next", "()V"⟩
def dkwX7_next_9 : List UInt8 := [180, 0, 19, 4, 96, 181, 0, 19, 177]
abbrev dktX7_next_9 : List UInt8 := dkwX7_next_9 ++ []
def dkwX7_next_8 : List UInt8 := [182, 0, 30, 182, 0, 120, 153, 0, 10, 42, 182, 0, 30, 167, 0, 4, 4, 181, 0, 104, 42, 89]
abbrev dktX7_next_8 : List UInt8 := dkwX7_next_8 ++ dktX7_next_9
def dkwX7_next_7 : List UInt8 := [180, 0, 38, 100, 8, 162, 0, 7, 5, 167, 0, 4, 4, 181, 0, 104, 167, 0, 36, 42, 42, 42]
abbrev dktX7_next_7 : List UInt8 := dkwX7_next_7 ++ dktX7_next_8
def dkwX7_next_6 : List UInt8 := [181, 0, 117, 42, 89, 180, 0, 19, 4, 96, 181, 0, 19, 167, 255, 207, 42, 42, 180, 0, 19, 42]
abbrev dktX7_next_6 : List UInt8 := dkwX7_next_6 ++ dktX7_next_7
def dkwX7_next_5 : List UInt8 := [180, 0, 38, 7, 96, 162, 0, 22, 42, 16, 10, 42, 180, 0, 117, 104, 42, 182, 0, 30, 96, 16, 48, 100]
abbrev dktX7_next_5 : List UInt8 := dkwX7_next_5 ++ dktX7_next_6
def dkwX7_next_4 : List UInt8 := [182, 0, 114, 153, 0, 85, 42, 3, 181, 0, 117, 42, 182, 0, 114, 153, 0, 48, 42, 180, 0, 19, 42]
abbrev dktX7_next_4 : List UInt8 := dkwX7_next_4 ++ dktX7_next_5
def dkwX7_next_3 : List UInt8 := [180, 0, 19, 4, 96, 181, 0, 19, 167, 255, 239, 42, 42, 182, 0, 111, 181, 0, 104, 167, 0, 125, 42]
abbrev dktX7_next_3 : List UInt8 := dkwX7_next_3 ++ dktX7_next_4
def dkwX7_next_2 : List UInt8 := [3, 181, 0, 104, 167, 0, 163, 42, 182, 0, 107, 153, 0, 34, 42, 182, 0, 107, 153, 0, 16, 42, 89]
abbrev dktX7_next_2 : List UInt8 := dkwX7_next_2 ++ dktX7_next_3
def dkwX7_next_1 : List UInt8 := [96, 181, 0, 19, 167, 255, 228, 42, 42, 180, 0, 19, 181, 0, 38, 42, 182, 0, 30, 2, 160, 0, 11, 42]
abbrev dktX7_next_1 : List UInt8 := dkwX7_next_1 ++ dktX7_next_2
def dkwX7_next_0 : List UInt8 := [42, 182, 0, 30, 16, 32, 159, 0, 12, 42, 182, 0, 30, 16, 10, 160, 0, 16, 42, 89, 180, 0, 19, 4]
abbrev dktX7_next_0 : List UInt8 := dkwX7_next_0 ++ dktX7_next_1
theorem dksX7_next_0 : cX7_next.data.toList.drop 0 = dktX7_next_0 := by decide +kernel
theorem dksX7_next_1 : cX7_next.data.toList.drop 24 = dktX7_next_1 := dk_seg dksX7_next_0 24 rfl rfl
theorem dksX7_next_2 : cX7_next.data.toList.drop 48 = dktX7_next_2 := dk_seg dksX7_next_1 24 rfl rfl
theorem dksX7_next_3 : cX7_next.data.toList.drop 71 = dktX7_next_3 := dk_seg dksX7_next_2 23 rfl rfl
theorem dksX7_next_4 : cX7_next.data.toList.drop 94 = dktX7_next_4 := dk_seg dksX7_next_3 23 rfl rfl
theorem dksX7_next_5 : cX7_next.data.toList.drop 117 = dktX7_next_5 := dk_seg dksX7_next_4 23 rfl rfl
theorem dksX7_next_6 : cX7_next.data.toList.drop 141 = dktX7_next_6 := dk_seg dksX7_next_5 24 rfl rfl
theorem dksX7_next_7 : cX7_next.data.toList.drop 163 = dktX7_next_7 := dk_seg dksX7_next_6 22 rfl rfl
theorem dksX7_next_8 : cX7_next.data.toList.drop 185 = dktX7_next_8 := dk_seg dksX7_next_7 22 rfl rfl
theorem dksX7_next_9 : cX7_next.data.toList.drop 207 = dktX7_next_9 := dk_seg dksX7_next_8 22 rfl rfl
theorem dX7_next_0 : decode cX7_next 0 = .ok (.aload_n 0, 1) := dk_42 (dk_at dksX7_next_0 0 rfl rfl)
theorem dX7_next_1 : decode cX7_next 1 = .ok (.invokevirtual 30, 3) := dk_182 0 30 (dk_at dksX7_next_0 1 rfl rfl)
theorem dX7_next_4 : decode cX7_next 4 = .ok (.bipush 32, 2) := dk_16 32 (dk_at dksX7_next_0 4 rfl rfl)
theorem dX7_next_6 : decode cX7_next 6 = .ok (.if_icmp .eq 12, 3) := dk_159 0 12 (dk_at dksX7_next_0 6 rfl rfl)
theorem dX7_next_9 : decode cX7_next 9 = .ok (.aload_n 0, 1) := dk_42 (dk_at dksX7_next_0 9 rfl rfl)
theorem dX7_next_10 : decode cX7_next 10 = .ok (.invokevirtual 30, 3) := dk_182 0 30 (dk_at dksX7_next_0 10 rfl rfl)
theorem dX7_next_13 : decode cX7_next 13 = .ok (.bipush 10, 2) := dk_16 10 (dk_at dksX7_next_0 13 rfl rfl)
theorem dX7_next_15 : decode cX7_next 15 = .ok (.if_icmp .ne 16, 3) := dk_160 0 16 (dk_at dksX7_next_0 15 rfl rfl)
theorem dX7_next_18 : decode cX7_next 18 = .ok (.aload_n 0, 1) := dk_42 (dk_at dksX7_next_0 18 rfl rfl)
theorem dX7_next_19 : decode cX7_next 19 = .ok (.dup, 1) := dk_89 (dk_at dksX7_next_0 19 rfl rfl)
theorem dX7_next_20 : decode cX7_next 20 = .ok (.getfield 19, 3) := dk_180 0 19 (dk_at dksX7_next_0 20 rfl rfl)
theorem dX7_next_23 : decode cX7_next 23 = .ok (.iconst 1, 1) := dk_4 (dk_at dksX7_next_0 23 rfl rfl)
theorem dX7_next_24 : decode cX7_next 24 = .ok (.iadd, 1) := dk_96 (dk_at dksX7_next_1 0 rfl rfl)
theorem dX7_next_25 : decode cX7_next 25 = .ok (.putfield 19, 3) := dk_181 0 19 (dk_at dksX7_next_1 1 rfl rfl)
theorem dX7_next_28 : decode cX7_next 28 = .ok (.goto (-28), 3) := dk_167 255 228 (dk_at dksX7_next_1 4 rfl rfl)
theorem dX7_next_31 : decode cX7_next 31 = .ok (.aload_n 0, 1) := dk_42 (dk_at dksX7_next_1 7 rfl rfl)
theorem dX7_next_32 : decode cX7_next 32 = .ok (.aload_n 0, 1) := dk_42 (dk_at dksX7_next_1 8 rfl rfl)
theorem dX7_next_33 : decode cX7_next 33 = .ok (.getfield 19, 3) := dk_180 0 19 (dk_at dksX7_next_1 9 rfl rfl)
theorem dX7_next_36 : decode cX7_next 36 = .ok (.putfield 38, 3) := dk_181 0 38 (dk_at dksX7_next_1 12 rfl rfl)
theorem dX7_next_39 : decode cX7_next 39 = .ok (.aload_n 0, 1) := dk_42 (dk_at dksX7_next_1 15 rfl rfl)
theorem dX7_next_40 : decode cX7_next 40 = .ok (.invokevirtual 30, 3) := dk_182 0 30 (dk_at dksX7_next_1 16 rfl rfl)
theorem dX7_next_43 : decode cX7_next 43 = .ok (.iconst (-1), 1) := dk_2 (dk_at dksX7_next_1 19 rfl rfl)
theorem dX7_next_44 : decode cX7_next 44 = .ok (.if_icmp .ne 11, 3) := dk_160 0 11 (dk_at dksX7_next_1 20 rfl rfl)
theorem dX7_next_47 : decode cX7_next 47 = .ok (.aload_n 0, 1) := dk_42 (dk_at dksX7_next_1 23 rfl rfl)
theorem dX7_next_48 : decode cX7_next 48 = .ok (.iconst 0, 1) := dk_3 (dk_at dksX7_next_2 0 rfl rfl)
theorem dX7_next_49 : decode cX7_next 49 = .ok (.putfield 104, 3) := dk_181 0 104 (dk_at dksX7_next_2 1 rfl rfl)
theorem dX7_next_52 : decode cX7_next 52 = .ok (.goto 163, 3) := dk_167 0 163 (dk_at dksX7_next_2 4 rfl rfl)
theorem dX7_next_55 : decode cX7_next 55 = .ok (.aload_n 0, 1) := dk_42 (dk_at dksX7_next_2 7 rfl rfl)
theorem dX7_next_56 : decode cX7_next 56 = .ok (.invokevirtual 107, 3) := dk_182 0 107 (dk_at dksX7_next_2 8 rfl rfl)
theorem dX7_next_59 : decode cX7_next 59 = .ok (.ifCond .eq 34, 3) := dk_153 0 34 (dk_at dksX7_next_2 11 rfl rfl)
theorem dX7_next_62 : decode cX7_next 62 = .ok (.aload_n 0, 1) := dk_42 (dk_at dksX7_next_2 14 rfl rfl)
theorem dX7_next_63 : decode cX7_next 63 = .ok (.invokevirtual 107, 3) := dk_182 0 107 (dk_at dksX7_next_2 15 rfl rfl)
theorem dX7_next_66 : decode cX7_next 66 = .ok (.ifCond .eq 16, 3) := dk_153 0 16 (dk_at dksX7_next_2 18 rfl rfl)
theorem dX7_next_69 : decode cX7_next 69 = .ok (.aload_n 0, 1) := dk_42 (dk_at dksX7_next_2 21 rfl rfl)
theorem dX7_next_70 : decode cX7_next 70 = .ok (.dup, 1) := dk_89 (dk_at dksX7_next_2 22 rfl rfl)
theorem dX7_next_71 : decode cX7_next 71 = .ok (.getfield 19, 3) := dk_180 0 19 (dk_at dksX7_next_3 0 rfl rfl)
theorem dX7_next_74 : decode cX7_next 74 = .ok (.iconst 1, 1) := dk_4 (dk_at dksX7_next_3 3 rfl rfl)
theorem dX7_next_75 : decode cX7_next 75 = .ok (.iadd, 1) := dk_96 (dk_at dksX7_next_3 4 rfl rfl)
theorem dX7_next_76 : decode cX7_next 76 = .ok (.putfield 19, 3) := dk_181 0 19 (dk_at dksX7_next_3 5 rfl rfl)
theorem dX7_next_79 : decode cX7_next 79 = .ok (.goto (-17), 3) := dk_167 255 239 (dk_at dksX7_next_3 8 rfl rfl)
theorem dX7_next_82 : decode cX7_next 82 = .ok (.aload_n 0, 1) := dk_42 (dk_at dksX7_next_3 11 rfl rfl)
theorem dX7_next_83 : decode cX7_next 83 = .ok (.aload_n 0, 1) := dk_42 (dk_at dksX7_next_3 12 rfl rfl)
theorem dX7_next_84 : decode cX7_next 84 = .ok (.invokevirtual 111, 3) := dk_182 0 111 (dk_at dksX7_next_3 13 rfl rfl)
theorem dX7_next_87 : decode cX7_next 87 = .ok (.putfield 104, 3) := dk_181 0 104 (dk_at dksX7_next_3 16 rfl rfl)
theorem dX7_next_90 : decode cX7_next 90 = .ok (.goto 125, 3) := dk_167 0 125 (dk_at dksX7_next_3 19 rfl rfl)
theorem dX7_next_93 : decode cX7_next 93 = .ok (.aload_n 0, 1) := dk_42 (dk_at dksX7_next_3 22 rfl rfl)
theorem dX7_next_94 : decode cX7_next 94 = .ok (.invokevirtual 114, 3) := dk_182 0 114 (dk_at dksX7_next_4 0 rfl rfl)
theorem dX7_next_97 : decode cX7_next 97 = .ok (.ifCond .eq 85, 3) := dk_153 0 85 (dk_at dksX7_next_4 3 rfl rfl)
theorem dX7_next_100 : decode cX7_next 100 = .ok (.aload_n 0, 1) := dk_42 (dk_at dksX7_next_4 6 rfl rfl)
theorem dX7_next_101 : decode cX7_next 101 = .ok (.iconst 0, 1) := dk_3 (dk_at dksX7_next_4 7 rfl rfl)
theorem dX7_next_102 : decode cX7_next 102 = .ok (.putfield 117, 3) := dk_181 0 117 (dk_at dksX7_next_4 8 rfl rfl)
theorem dX7_next_105 : decode cX7_next 105 = .ok (.aload_n 0, 1) := dk_42 (dk_at dksX7_next_4 11 rfl rfl)
theorem dX7_next_106 : decode cX7_next 106 = .ok (.invokevirtual 114, 3) := dk_182 0 114 (dk_at dksX7_next_4 12 rfl rfl)
theorem dX7_next_109 : decode cX7_next 109 = .ok (.ifCond .eq 48, 3) := dk_153 0 48 (dk_at dksX7_next_4 15 rfl rfl)
theorem dX7_next_112 : decode cX7_next 112 = .ok (.aload_n 0, 1) := dk_42 (dk_at dksX7_next_4 18 rfl rfl)
theorem dX7_next_113 : decode cX7_next 113 = .ok (.getfield 19, 3) := dk_180 0 19 (dk_at dksX7_next_4 19 rfl rfl)
theorem dX7_next_116 : decode cX7_next 116 = .ok (.aload_n 0, 1) := dk_42 (dk_at dksX7_next_4 22 rfl rfl)
theorem dX7_next_117 : decode cX7_next 117 = .ok (.getfield 38, 3) := dk_180 0 38 (dk_at dksX7_next_5 0 rfl rfl)
theorem dX7_next_120 : decode cX7_next 120 = .ok (.iconst 4, 1) := dk_7 (dk_at dksX7_next_5 3 rfl rfl)
theorem dX7_next_121 : decode cX7_next 121 = .ok (.iadd, 1) := dk_96 (dk_at dksX7_next_5 4 rfl rfl)
theorem dX7_next_122 : decode cX7_next 122 = .ok (.if_icmp .ge 22, 3) := dk_162 0 22 (dk_at dksX7_next_5 5 rfl rfl)
theorem dX7_next_125 : decode cX7_next 125 = .ok (.aload_n 0, 1) := dk_42 (dk_at dksX7_next_5 8 rfl rfl)
theorem dX7_next_126 : decode cX7_next 126 = .ok (.bipush 10, 2) := dk_16 10 (dk_at dksX7_next_5 9 rfl rfl)
theorem dX7_next_128 : decode cX7_next 128 = .ok (.aload_n 0, 1) := dk_42 (dk_at dksX7_next_5 11 rfl rfl)
theorem dX7_next_129 : decode cX7_next 129 = .ok (.getfield 117, 3) := dk_180 0 117 (dk_at dksX7_next_5 12 rfl rfl)
theorem dX7_next_132 : decode cX7_next 132 = .ok (.imul, 1) := dk_104 (dk_at dksX7_next_5 15 rfl rfl)
theorem dX7_next_133 : decode cX7_next 133 = .ok (.aload_n 0, 1) := dk_42 (dk_at dksX7_next_5 16 rfl rfl)
theorem dX7_next_134 : decode cX7_next 134 = .ok (.invokevirtual 30, 3) := dk_182 0 30 (dk_at dksX7_next_5 17 rfl rfl)
theorem dX7_next_137 : decode cX7_next 137 = .ok (.iadd, 1) := dk_96 (dk_at dksX7_next_5 20 rfl rfl)
theorem dX7_next_138 : decode cX7_next 138 = .ok (.bipush 48, 2) := dk_16 48 (dk_at dksX7_next_5 21 rfl rfl)
theorem dX7_next_140 : decode cX7_next 140 = .ok (.isub, 1) := dk_100 (dk_at dksX7_next_5 23 rfl rfl)
theorem dX7_next_141 : decode cX7_next 141 = .ok (.putfield 117, 3) := dk_181 0 117 (dk_at dksX7_next_6 0 rfl rfl)
theorem dX7_next_144 : decode cX7_next 144 = .ok (.aload_n 0, 1) := dk_42 (dk_at dksX7_next_6 3 rfl rfl)
theorem dX7_next_145 : decode cX7_next 145 = .ok (.dup, 1) := dk_89 (dk_at dksX7_next_6 4 rfl rfl)
theorem dX7_next_146 : decode cX7_next 146 = .ok (.getfield 19, 3) := dk_180 0 19 (dk_at dksX7_next_6 5 rfl rfl)
theorem dX7_next_149 : decode cX7_next 149 = .ok (.iconst 1, 1) := dk_4 (dk_at dksX7_next_6 8 rfl rfl)
theorem dX7_next_150 : decode cX7_next 150 = .ok (.iadd, 1) := dk_96 (dk_at dksX7_next_6 9 rfl rfl)
theorem dX7_next_151 : decode cX7_next 151 = .ok (.putfield 19, 3) := dk_181 0 19 (dk_at dksX7_next_6 10 rfl rfl)
theorem dX7_next_154 : decode cX7_next 154 = .ok (.goto (-49), 3) := dk_167 255 207 (dk_at dksX7_next_6 13 rfl rfl)
theorem dX7_next_157 : decode cX7_next 157 = .ok (.aload_n 0, 1) := dk_42 (dk_at dksX7_next_6 16 rfl rfl)
theorem dX7_next_158 : decode cX7_next 158 = .ok (.aload_n 0, 1) := dk_42 (dk_at dksX7_next_6 17 rfl rfl)
theorem dX7_next_159 : decode cX7_next 159 = .ok (.getfield 19, 3) := dk_180 0 19 (dk_at dksX7_next_6 18 rfl rfl)
theorem dX7_next_162 : decode cX7_next 162 = .ok (.aload_n 0, 1) := dk_42 (dk_at dksX7_next_6 21 rfl rfl)
theorem dX7_next_163 : decode cX7_next 163 = .ok (.getfield 38, 3) := dk_180 0 38 (dk_at dksX7_next_7 0 rfl rfl)
theorem dX7_next_166 : decode cX7_next 166 = .ok (.isub, 1) := dk_100 (dk_at dksX7_next_7 3 rfl rfl)
theorem dX7_next_167 : decode cX7_next 167 = .ok (.iconst 5, 1) := dk_8 (dk_at dksX7_next_7 4 rfl rfl)
theorem dX7_next_168 : decode cX7_next 168 = .ok (.if_icmp .ge 7, 3) := dk_162 0 7 (dk_at dksX7_next_7 5 rfl rfl)
theorem dX7_next_171 : decode cX7_next 171 = .ok (.iconst 2, 1) := dk_5 (dk_at dksX7_next_7 8 rfl rfl)
theorem dX7_next_172 : decode cX7_next 172 = .ok (.goto 4, 3) := dk_167 0 4 (dk_at dksX7_next_7 9 rfl rfl)
theorem dX7_next_175 : decode cX7_next 175 = .ok (.iconst 1, 1) := dk_4 (dk_at dksX7_next_7 12 rfl rfl)
theorem dX7_next_176 : decode cX7_next 176 = .ok (.putfield 104, 3) := dk_181 0 104 (dk_at dksX7_next_7 13 rfl rfl)
theorem dX7_next_179 : decode cX7_next 179 = .ok (.goto 36, 3) := dk_167 0 36 (dk_at dksX7_next_7 16 rfl rfl)
theorem dX7_next_182 : decode cX7_next 182 = .ok (.aload_n 0, 1) := dk_42 (dk_at dksX7_next_7 19 rfl rfl)
theorem dX7_next_183 : decode cX7_next 183 = .ok (.aload_n 0, 1) := dk_42 (dk_at dksX7_next_7 20 rfl rfl)
theorem dX7_next_184 : decode cX7_next 184 = .ok (.aload_n 0, 1) := dk_42 (dk_at dksX7_next_7 21 rfl rfl)
theorem dX7_next_185 : decode cX7_next 185 = .ok (.invokevirtual 30, 3) := dk_182 0 30 (dk_at dksX7_next_8 0 rfl rfl)
theorem dX7_next_188 : decode cX7_next 188 = .ok (.invokevirtual 120, 3) := dk_182 0 120 (dk_at dksX7_next_8 3 rfl rfl)
theorem dX7_next_191 : decode cX7_next 191 = .ok (.ifCond .eq 10, 3) := dk_153 0 10 (dk_at dksX7_next_8 6 rfl rfl)
theorem dX7_next_194 : decode cX7_next 194 = .ok (.aload_n 0, 1) := dk_42 (dk_at dksX7_next_8 9 rfl rfl)
theorem dX7_next_195 : decode cX7_next 195 = .ok (.invokevirtual 30, 3) := dk_182 0 30 (dk_at dksX7_next_8 10 rfl rfl)
theorem dX7_next_198 : decode cX7_next 198 = .ok (.goto 4, 3) := dk_167 0 4 (dk_at dksX7_next_8 13 rfl rfl)
theorem dX7_next_201 : decode cX7_next 201 = .ok (.iconst 1, 1) := dk_4 (dk_at dksX7_next_8 16 rfl rfl)
theorem dX7_next_202 : decode cX7_next 202 = .ok (.putfield 104, 3) := dk_181 0 104 (dk_at dksX7_next_8 17 rfl rfl)
theorem dX7_next_205 : decode cX7_next 205 = .ok (.aload_n 0, 1) := dk_42 (dk_at dksX7_next_8 20 rfl rfl)
theorem dX7_next_206 : decode cX7_next 206 = .ok (.dup, 1) := dk_89 (dk_at dksX7_next_8 21 rfl rfl)
theorem dX7_next_207 : decode cX7_next 207 = .ok (.getfield 19, 3) := dk_180 0 19 (dk_at dksX7_next_9 0 rfl rfl)
theorem dX7_next_210 : decode cX7_next 210 = .ok (.iconst 1, 1) := dk_4 (dk_at dksX7_next_9 3 rfl rfl)
theorem dX7_next_211 : decode cX7_next 211 = .ok (.iadd, 1) := dk_96 (dk_at dksX7_next_9 4 rfl rfl)
theorem dX7_next_212 : decode cX7_next 212 = .ok (.putfield 19, 3) := dk_181 0 19 (dk_at dksX7_next_9 5 rfl rfl)
theorem dX7_next_215 : decode cX7_next 215 = .ok (.return_, 1) := dk_177 (dk_at dksX7_next_9 8 rfl rfl)
abbrev cX7_see : ByteArray := prog_13_method_2_code
def yX7_see : MethodName := ⟨RX7, "see", "()I"⟩
def dkwX7_see_1 : List UInt8 := [180, 0, 19, 51, 17, 0, 255, 126, 167, 0, 4, 2, 172]
abbrev dktX7_see_1 : List UInt8 := dkwX7_see_1 ++ []
def dkwX7_see_0 : List UInt8 := [42, 180, 0, 19, 42, 180, 0, 3, 180, 0, 23, 162, 0, 22, 42, 180, 0, 3, 180, 0, 26, 42]
abbrev dktX7_see_0 : List UInt8 := dkwX7_see_0 ++ dktX7_see_1
theorem dksX7_see_0 : cX7_see.data.toList.drop 0 = dktX7_see_0 := by decide +kernel
theorem dksX7_see_1 : cX7_see.data.toList.drop 22 = dktX7_see_1 := dk_seg dksX7_see_0 22 rfl rfl
theorem dX7_see_0 : decode cX7_see 0 = .ok (.aload_n 0, 1) := dk_42 (dk_at dksX7_see_0 0 rfl rfl)
theorem dX7_see_1 : decode cX7_see 1 = .ok (.getfield 19, 3) := dk_180 0 19 (dk_at dksX7_see_0 1 rfl rfl)
theorem dX7_see_4 : decode cX7_see 4 = .ok (.aload_n 0, 1) := dk_42 (dk_at dksX7_see_0 4 rfl rfl)
theorem dX7_see_5 : decode cX7_see 5 = .ok (.getfield 3, 3) := dk_180 0 3 (dk_at dksX7_see_0 5 rfl rfl)
theorem dX7_see_8 : decode cX7_see 8 = .ok (.getfield 23, 3) := dk_180 0 23 (dk_at dksX7_see_0 8 rfl rfl)
theorem dX7_see_11 : decode cX7_see 11 = .ok (.if_icmp .ge 22, 3) := dk_162 0 22 (dk_at dksX7_see_0 11 rfl rfl)
theorem dX7_see_14 : decode cX7_see 14 = .ok (.aload_n 0, 1) := dk_42 (dk_at dksX7_see_0 14 rfl rfl)
theorem dX7_see_15 : decode cX7_see 15 = .ok (.getfield 3, 3) := dk_180 0 3 (dk_at dksX7_see_0 15 rfl rfl)
theorem dX7_see_18 : decode cX7_see 18 = .ok (.getfield 26, 3) := dk_180 0 26 (dk_at dksX7_see_0 18 rfl rfl)
theorem dX7_see_21 : decode cX7_see 21 = .ok (.aload_n 0, 1) := dk_42 (dk_at dksX7_see_0 21 rfl rfl)
theorem dX7_see_22 : decode cX7_see 22 = .ok (.getfield 19, 3) := dk_180 0 19 (dk_at dksX7_see_1 0 rfl rfl)
theorem dX7_see_25 : decode cX7_see 25 = .ok (.baload, 1) := dk_51 (dk_at dksX7_see_1 3 rfl rfl)
theorem dX7_see_26 : decode cX7_see 26 = .ok (.sipush 255, 3) := dk_17 0 255 (dk_at dksX7_see_1 4 rfl rfl)
theorem dX7_see_29 : decode cX7_see 29 = .ok (.iand, 1) := dk_126 (dk_at dksX7_see_1 7 rfl rfl)
theorem dX7_see_30 : decode cX7_see 30 = .ok (.goto 4, 3) := dk_167 0 4 (dk_at dksX7_see_1 8 rfl rfl)
theorem dX7_see_33 : decode cX7_see 33 = .ok (.iconst (-1), 1) := dk_2 (dk_at dksX7_see_1 11 rfl rfl)
theorem dX7_see_34 : decode cX7_see 34 = .ok (.ireturn, 1) := dk_172 (dk_at dksX7_see_1 12 rfl rfl)
abbrev cX7_isLetter : ByteArray := prog_13_method_3_code
def yX7_isLetter : MethodName := ⟨RX7, "isLetter", "()Z"⟩
def dkwX7_isLetter_1 : List UInt8 := [184, 0, 34, 153, 0, 7, 4, 167, 0, 4, 3, 172]
abbrev dktX7_isLetter_1 : List UInt8 := dkwX7_isLetter_1 ++ []
def dkwX7_isLetter_0 : List UInt8 := [42, 182, 0, 30, 16, 97, 16, 122, 184, 0, 34, 154, 0, 17, 42, 182, 0, 30, 16, 65, 16, 90]
abbrev dktX7_isLetter_0 : List UInt8 := dkwX7_isLetter_0 ++ dktX7_isLetter_1
theorem dksX7_isLetter_0 : cX7_isLetter.data.toList.drop 0 = dktX7_isLetter_0 := by decide +kernel
theorem dksX7_isLetter_1 : cX7_isLetter.data.toList.drop 22 = dktX7_isLetter_1 := dk_seg dksX7_isLetter_0 22 rfl rfl
theorem dX7_isLetter_0 : decode cX7_isLetter 0 = .ok (.aload_n 0, 1) := dk_42 (dk_at dksX7_isLetter_0 0 rfl rfl)
theorem dX7_isLetter_1 : decode cX7_isLetter 1 = .ok (.invokevirtual 30, 3) := dk_182 0 30 (dk_at dksX7_isLetter_0 1 rfl rfl)
theorem dX7_isLetter_4 : decode cX7_isLetter 4 = .ok (.bipush 97, 2) := dk_16 97 (dk_at dksX7_isLetter_0 4 rfl rfl)
theorem dX7_isLetter_6 : decode cX7_isLetter 6 = .ok (.bipush 122, 2) := dk_16 122 (dk_at dksX7_isLetter_0 6 rfl rfl)
theorem dX7_isLetter_8 : decode cX7_isLetter 8 = .ok (.invokestatic 34, 3) := dk_184 0 34 (dk_at dksX7_isLetter_0 8 rfl rfl)
theorem dX7_isLetter_11 : decode cX7_isLetter 11 = .ok (.ifCond .ne 17, 3) := dk_154 0 17 (dk_at dksX7_isLetter_0 11 rfl rfl)
theorem dX7_isLetter_14 : decode cX7_isLetter 14 = .ok (.aload_n 0, 1) := dk_42 (dk_at dksX7_isLetter_0 14 rfl rfl)
theorem dX7_isLetter_15 : decode cX7_isLetter 15 = .ok (.invokevirtual 30, 3) := dk_182 0 30 (dk_at dksX7_isLetter_0 15 rfl rfl)
theorem dX7_isLetter_18 : decode cX7_isLetter 18 = .ok (.bipush 65, 2) := dk_16 65 (dk_at dksX7_isLetter_0 18 rfl rfl)
theorem dX7_isLetter_20 : decode cX7_isLetter 20 = .ok (.bipush 90, 2) := dk_16 90 (dk_at dksX7_isLetter_0 20 rfl rfl)
theorem dX7_isLetter_22 : decode cX7_isLetter 22 = .ok (.invokestatic 34, 3) := dk_184 0 34 (dk_at dksX7_isLetter_1 0 rfl rfl)
theorem dX7_isLetter_25 : decode cX7_isLetter 25 = .ok (.ifCond .eq 7, 3) := dk_153 0 7 (dk_at dksX7_isLetter_1 3 rfl rfl)
theorem dX7_isLetter_28 : decode cX7_isLetter 28 = .ok (.iconst 1, 1) := dk_4 (dk_at dksX7_isLetter_1 6 rfl rfl)
theorem dX7_isLetter_29 : decode cX7_isLetter 29 = .ok (.goto 4, 3) := dk_167 0 4 (dk_at dksX7_isLetter_1 7 rfl rfl)
theorem dX7_isLetter_32 : decode cX7_isLetter 32 = .ok (.iconst 0, 1) := dk_3 (dk_at dksX7_isLetter_1 10 rfl rfl)
theorem dX7_isLetter_33 : decode cX7_isLetter 33 = .ok (.ireturn, 1) := dk_172 (dk_at dksX7_isLetter_1 11 rfl rfl)
abbrev cX7_keyword : ByteArray := prog_13_method_8_code
def yX7_keyword : MethodName := ⟨RX7, "keyword", "()I"⟩
def dkwX7_keyword_1 : List UInt8 := [182, 0, 99, 167, 0, 19, 42, 18, 102, 182, 0, 52, 153, 0, 9, 17, 1, 44, 167, 0, 4, 4, 172]
abbrev dktX7_keyword_1 : List UInt8 := dkwX7_keyword_1 ++ []
def dkwX7_keyword_0 : List UInt8 := [42, 182, 0, 96, 60, 27, 4, 159, 0, 7, 27, 167, 0, 33, 42, 180, 0, 15, 154, 0, 10, 42]
abbrev dktX7_keyword_0 : List UInt8 := dkwX7_keyword_0 ++ dktX7_keyword_1
theorem dksX7_keyword_0 : cX7_keyword.data.toList.drop 0 = dktX7_keyword_0 := by decide +kernel
theorem dksX7_keyword_1 : cX7_keyword.data.toList.drop 22 = dktX7_keyword_1 := dk_seg dksX7_keyword_0 22 rfl rfl
theorem dX7_keyword_0 : decode cX7_keyword 0 = .ok (.aload_n 0, 1) := dk_42 (dk_at dksX7_keyword_0 0 rfl rfl)
theorem dX7_keyword_1 : decode cX7_keyword 1 = .ok (.invokevirtual 96, 3) := dk_182 0 96 (dk_at dksX7_keyword_0 1 rfl rfl)
theorem dX7_keyword_4 : decode cX7_keyword 4 = .ok (.istore_n 1, 1) := dk_60 (dk_at dksX7_keyword_0 4 rfl rfl)
theorem dX7_keyword_5 : decode cX7_keyword 5 = .ok (.iload_n 1, 1) := dk_27 (dk_at dksX7_keyword_0 5 rfl rfl)
theorem dX7_keyword_6 : decode cX7_keyword 6 = .ok (.iconst 1, 1) := dk_4 (dk_at dksX7_keyword_0 6 rfl rfl)
theorem dX7_keyword_7 : decode cX7_keyword 7 = .ok (.if_icmp .eq 7, 3) := dk_159 0 7 (dk_at dksX7_keyword_0 7 rfl rfl)
theorem dX7_keyword_10 : decode cX7_keyword 10 = .ok (.iload_n 1, 1) := dk_27 (dk_at dksX7_keyword_0 10 rfl rfl)
theorem dX7_keyword_11 : decode cX7_keyword 11 = .ok (.goto 33, 3) := dk_167 0 33 (dk_at dksX7_keyword_0 11 rfl rfl)
theorem dX7_keyword_14 : decode cX7_keyword 14 = .ok (.aload_n 0, 1) := dk_42 (dk_at dksX7_keyword_0 14 rfl rfl)
theorem dX7_keyword_15 : decode cX7_keyword 15 = .ok (.getfield 15, 3) := dk_180 0 15 (dk_at dksX7_keyword_0 15 rfl rfl)
theorem dX7_keyword_18 : decode cX7_keyword 18 = .ok (.ifCond .ne 10, 3) := dk_154 0 10 (dk_at dksX7_keyword_0 18 rfl rfl)
theorem dX7_keyword_21 : decode cX7_keyword 21 = .ok (.aload_n 0, 1) := dk_42 (dk_at dksX7_keyword_0 21 rfl rfl)
theorem dX7_keyword_22 : decode cX7_keyword 22 = .ok (.invokevirtual 99, 3) := dk_182 0 99 (dk_at dksX7_keyword_1 0 rfl rfl)
theorem dX7_keyword_25 : decode cX7_keyword 25 = .ok (.goto 19, 3) := dk_167 0 19 (dk_at dksX7_keyword_1 3 rfl rfl)
theorem dX7_keyword_28 : decode cX7_keyword 28 = .ok (.aload_n 0, 1) := dk_42 (dk_at dksX7_keyword_1 6 rfl rfl)
theorem dX7_keyword_29 : decode cX7_keyword 29 = .ok (.ldc 102, 2) := dk_18 102 (dk_at dksX7_keyword_1 7 rfl rfl)
theorem dX7_keyword_31 : decode cX7_keyword 31 = .ok (.invokevirtual 52, 3) := dk_182 0 52 (dk_at dksX7_keyword_1 9 rfl rfl)
theorem dX7_keyword_34 : decode cX7_keyword 34 = .ok (.ifCond .eq 9, 3) := dk_153 0 9 (dk_at dksX7_keyword_1 12 rfl rfl)
theorem dX7_keyword_37 : decode cX7_keyword 37 = .ok (.sipush 300, 3) := dk_17 1 44 (dk_at dksX7_keyword_1 15 rfl rfl)
theorem dX7_keyword_40 : decode cX7_keyword 40 = .ok (.goto 4, 3) := dk_167 0 4 (dk_at dksX7_keyword_1 18 rfl rfl)
theorem dX7_keyword_43 : decode cX7_keyword 43 = .ok (.iconst 1, 1) := dk_4 (dk_at dksX7_keyword_1 21 rfl rfl)
theorem dX7_keyword_44 : decode cX7_keyword 44 = .ok (.ireturn, 1) := dk_172 (dk_at dksX7_keyword_1 22 rfl rfl)
abbrev cX7_both : ByteArray := prog_13_method_6_code
def yX7_both : MethodName := ⟨RX7, "both", "()I"⟩
def dkwX7_both_5 : List UInt8 := [153, 0, 7, 17, 1, 149, 172, 42, 18, 74, 182, 0, 52, 153, 0, 9, 17, 1, 150, 167, 0, 4, 4, 172]
abbrev dktX7_both_5 : List UInt8 := dkwX7_both_5 ++ []
def dkwX7_both_4 : List UInt8 := [17, 1, 147, 172, 42, 18, 70, 182, 0, 52, 153, 0, 7, 17, 1, 148, 172, 42, 18, 72, 182, 0, 52]
abbrev dktX7_both_4 : List UInt8 := dkwX7_both_4 ++ dktX7_both_5
def dkwX7_both_3 : List UInt8 := [172, 42, 18, 66, 182, 0, 52, 153, 0, 7, 17, 1, 146, 172, 42, 18, 68, 182, 0, 52, 153, 0, 7]
abbrev dktX7_both_3 : List UInt8 := dkwX7_both_3 ++ dktX7_both_4
def dkwX7_both_2 : List UInt8 := [18, 62, 182, 0, 52, 153, 0, 7, 17, 1, 144, 172, 42, 18, 64, 182, 0, 52, 153, 0, 7, 17, 1, 145]
abbrev dktX7_both_2 : List UInt8 := dkwX7_both_2 ++ dktX7_both_3
def dkwX7_both_1 : List UInt8 := [18, 58, 182, 0, 52, 153, 0, 5, 8, 172, 42, 18, 60, 182, 0, 52, 153, 0, 6, 16, 6, 172, 42]
abbrev dktX7_both_1 : List UInt8 := dkwX7_both_1 ++ dktX7_both_2
def dkwX7_both_0 : List UInt8 := [42, 18, 50, 182, 0, 52, 153, 0, 5, 6, 172, 42, 18, 56, 182, 0, 52, 153, 0, 5, 7, 172, 42]
abbrev dktX7_both_0 : List UInt8 := dkwX7_both_0 ++ dktX7_both_1
theorem dksX7_both_0 : cX7_both.data.toList.drop 0 = dktX7_both_0 := by decide +kernel
theorem dksX7_both_1 : cX7_both.data.toList.drop 23 = dktX7_both_1 := dk_seg dksX7_both_0 23 rfl rfl
theorem dksX7_both_2 : cX7_both.data.toList.drop 46 = dktX7_both_2 := dk_seg dksX7_both_1 23 rfl rfl
theorem dksX7_both_3 : cX7_both.data.toList.drop 70 = dktX7_both_3 := dk_seg dksX7_both_2 24 rfl rfl
theorem dksX7_both_4 : cX7_both.data.toList.drop 93 = dktX7_both_4 := dk_seg dksX7_both_3 23 rfl rfl
theorem dksX7_both_5 : cX7_both.data.toList.drop 116 = dktX7_both_5 := dk_seg dksX7_both_4 23 rfl rfl
theorem dX7_both_0 : decode cX7_both 0 = .ok (.aload_n 0, 1) := dk_42 (dk_at dksX7_both_0 0 rfl rfl)
theorem dX7_both_1 : decode cX7_both 1 = .ok (.ldc 50, 2) := dk_18 50 (dk_at dksX7_both_0 1 rfl rfl)
theorem dX7_both_3 : decode cX7_both 3 = .ok (.invokevirtual 52, 3) := dk_182 0 52 (dk_at dksX7_both_0 3 rfl rfl)
theorem dX7_both_6 : decode cX7_both 6 = .ok (.ifCond .eq 5, 3) := dk_153 0 5 (dk_at dksX7_both_0 6 rfl rfl)
theorem dX7_both_9 : decode cX7_both 9 = .ok (.iconst 3, 1) := dk_6 (dk_at dksX7_both_0 9 rfl rfl)
theorem dX7_both_10 : decode cX7_both 10 = .ok (.ireturn, 1) := dk_172 (dk_at dksX7_both_0 10 rfl rfl)
theorem dX7_both_11 : decode cX7_both 11 = .ok (.aload_n 0, 1) := dk_42 (dk_at dksX7_both_0 11 rfl rfl)
theorem dX7_both_12 : decode cX7_both 12 = .ok (.ldc 56, 2) := dk_18 56 (dk_at dksX7_both_0 12 rfl rfl)
theorem dX7_both_14 : decode cX7_both 14 = .ok (.invokevirtual 52, 3) := dk_182 0 52 (dk_at dksX7_both_0 14 rfl rfl)
theorem dX7_both_17 : decode cX7_both 17 = .ok (.ifCond .eq 5, 3) := dk_153 0 5 (dk_at dksX7_both_0 17 rfl rfl)
theorem dX7_both_20 : decode cX7_both 20 = .ok (.iconst 4, 1) := dk_7 (dk_at dksX7_both_0 20 rfl rfl)
theorem dX7_both_21 : decode cX7_both 21 = .ok (.ireturn, 1) := dk_172 (dk_at dksX7_both_0 21 rfl rfl)
theorem dX7_both_22 : decode cX7_both 22 = .ok (.aload_n 0, 1) := dk_42 (dk_at dksX7_both_0 22 rfl rfl)
theorem dX7_both_23 : decode cX7_both 23 = .ok (.ldc 58, 2) := dk_18 58 (dk_at dksX7_both_1 0 rfl rfl)
theorem dX7_both_25 : decode cX7_both 25 = .ok (.invokevirtual 52, 3) := dk_182 0 52 (dk_at dksX7_both_1 2 rfl rfl)
theorem dX7_both_28 : decode cX7_both 28 = .ok (.ifCond .eq 5, 3) := dk_153 0 5 (dk_at dksX7_both_1 5 rfl rfl)
theorem dX7_both_31 : decode cX7_both 31 = .ok (.iconst 5, 1) := dk_8 (dk_at dksX7_both_1 8 rfl rfl)
theorem dX7_both_32 : decode cX7_both 32 = .ok (.ireturn, 1) := dk_172 (dk_at dksX7_both_1 9 rfl rfl)
theorem dX7_both_33 : decode cX7_both 33 = .ok (.aload_n 0, 1) := dk_42 (dk_at dksX7_both_1 10 rfl rfl)
theorem dX7_both_34 : decode cX7_both 34 = .ok (.ldc 60, 2) := dk_18 60 (dk_at dksX7_both_1 11 rfl rfl)
theorem dX7_both_36 : decode cX7_both 36 = .ok (.invokevirtual 52, 3) := dk_182 0 52 (dk_at dksX7_both_1 13 rfl rfl)
theorem dX7_both_39 : decode cX7_both 39 = .ok (.ifCond .eq 6, 3) := dk_153 0 6 (dk_at dksX7_both_1 16 rfl rfl)
theorem dX7_both_42 : decode cX7_both 42 = .ok (.bipush 6, 2) := dk_16 6 (dk_at dksX7_both_1 19 rfl rfl)
theorem dX7_both_44 : decode cX7_both 44 = .ok (.ireturn, 1) := dk_172 (dk_at dksX7_both_1 21 rfl rfl)
theorem dX7_both_45 : decode cX7_both 45 = .ok (.aload_n 0, 1) := dk_42 (dk_at dksX7_both_1 22 rfl rfl)
theorem dX7_both_46 : decode cX7_both 46 = .ok (.ldc 62, 2) := dk_18 62 (dk_at dksX7_both_2 0 rfl rfl)
theorem dX7_both_48 : decode cX7_both 48 = .ok (.invokevirtual 52, 3) := dk_182 0 52 (dk_at dksX7_both_2 2 rfl rfl)
theorem dX7_both_51 : decode cX7_both 51 = .ok (.ifCond .eq 7, 3) := dk_153 0 7 (dk_at dksX7_both_2 5 rfl rfl)
theorem dX7_both_54 : decode cX7_both 54 = .ok (.sipush 400, 3) := dk_17 1 144 (dk_at dksX7_both_2 8 rfl rfl)
theorem dX7_both_57 : decode cX7_both 57 = .ok (.ireturn, 1) := dk_172 (dk_at dksX7_both_2 11 rfl rfl)
theorem dX7_both_58 : decode cX7_both 58 = .ok (.aload_n 0, 1) := dk_42 (dk_at dksX7_both_2 12 rfl rfl)
theorem dX7_both_59 : decode cX7_both 59 = .ok (.ldc 64, 2) := dk_18 64 (dk_at dksX7_both_2 13 rfl rfl)
theorem dX7_both_61 : decode cX7_both 61 = .ok (.invokevirtual 52, 3) := dk_182 0 52 (dk_at dksX7_both_2 15 rfl rfl)
theorem dX7_both_64 : decode cX7_both 64 = .ok (.ifCond .eq 7, 3) := dk_153 0 7 (dk_at dksX7_both_2 18 rfl rfl)
theorem dX7_both_67 : decode cX7_both 67 = .ok (.sipush 401, 3) := dk_17 1 145 (dk_at dksX7_both_2 21 rfl rfl)
theorem dX7_both_70 : decode cX7_both 70 = .ok (.ireturn, 1) := dk_172 (dk_at dksX7_both_3 0 rfl rfl)
theorem dX7_both_71 : decode cX7_both 71 = .ok (.aload_n 0, 1) := dk_42 (dk_at dksX7_both_3 1 rfl rfl)
theorem dX7_both_72 : decode cX7_both 72 = .ok (.ldc 66, 2) := dk_18 66 (dk_at dksX7_both_3 2 rfl rfl)
theorem dX7_both_74 : decode cX7_both 74 = .ok (.invokevirtual 52, 3) := dk_182 0 52 (dk_at dksX7_both_3 4 rfl rfl)
theorem dX7_both_77 : decode cX7_both 77 = .ok (.ifCond .eq 7, 3) := dk_153 0 7 (dk_at dksX7_both_3 7 rfl rfl)
theorem dX7_both_80 : decode cX7_both 80 = .ok (.sipush 402, 3) := dk_17 1 146 (dk_at dksX7_both_3 10 rfl rfl)
theorem dX7_both_83 : decode cX7_both 83 = .ok (.ireturn, 1) := dk_172 (dk_at dksX7_both_3 13 rfl rfl)
theorem dX7_both_84 : decode cX7_both 84 = .ok (.aload_n 0, 1) := dk_42 (dk_at dksX7_both_3 14 rfl rfl)
theorem dX7_both_85 : decode cX7_both 85 = .ok (.ldc 68, 2) := dk_18 68 (dk_at dksX7_both_3 15 rfl rfl)
theorem dX7_both_87 : decode cX7_both 87 = .ok (.invokevirtual 52, 3) := dk_182 0 52 (dk_at dksX7_both_3 17 rfl rfl)
theorem dX7_both_90 : decode cX7_both 90 = .ok (.ifCond .eq 7, 3) := dk_153 0 7 (dk_at dksX7_both_3 20 rfl rfl)
theorem dX7_both_93 : decode cX7_both 93 = .ok (.sipush 403, 3) := dk_17 1 147 (dk_at dksX7_both_4 0 rfl rfl)
theorem dX7_both_96 : decode cX7_both 96 = .ok (.ireturn, 1) := dk_172 (dk_at dksX7_both_4 3 rfl rfl)
theorem dX7_both_97 : decode cX7_both 97 = .ok (.aload_n 0, 1) := dk_42 (dk_at dksX7_both_4 4 rfl rfl)
theorem dX7_both_98 : decode cX7_both 98 = .ok (.ldc 70, 2) := dk_18 70 (dk_at dksX7_both_4 5 rfl rfl)
theorem dX7_both_100 : decode cX7_both 100 = .ok (.invokevirtual 52, 3) := dk_182 0 52 (dk_at dksX7_both_4 7 rfl rfl)
theorem dX7_both_103 : decode cX7_both 103 = .ok (.ifCond .eq 7, 3) := dk_153 0 7 (dk_at dksX7_both_4 10 rfl rfl)
theorem dX7_both_106 : decode cX7_both 106 = .ok (.sipush 404, 3) := dk_17 1 148 (dk_at dksX7_both_4 13 rfl rfl)
theorem dX7_both_109 : decode cX7_both 109 = .ok (.ireturn, 1) := dk_172 (dk_at dksX7_both_4 16 rfl rfl)
theorem dX7_both_110 : decode cX7_both 110 = .ok (.aload_n 0, 1) := dk_42 (dk_at dksX7_both_4 17 rfl rfl)
theorem dX7_both_111 : decode cX7_both 111 = .ok (.ldc 72, 2) := dk_18 72 (dk_at dksX7_both_4 18 rfl rfl)
theorem dX7_both_113 : decode cX7_both 113 = .ok (.invokevirtual 52, 3) := dk_182 0 52 (dk_at dksX7_both_4 20 rfl rfl)
theorem dX7_both_116 : decode cX7_both 116 = .ok (.ifCond .eq 7, 3) := dk_153 0 7 (dk_at dksX7_both_5 0 rfl rfl)
theorem dX7_both_119 : decode cX7_both 119 = .ok (.sipush 405, 3) := dk_17 1 149 (dk_at dksX7_both_5 3 rfl rfl)
theorem dX7_both_122 : decode cX7_both 122 = .ok (.ireturn, 1) := dk_172 (dk_at dksX7_both_5 6 rfl rfl)
theorem dX7_both_123 : decode cX7_both 123 = .ok (.aload_n 0, 1) := dk_42 (dk_at dksX7_both_5 7 rfl rfl)
theorem dX7_both_124 : decode cX7_both 124 = .ok (.ldc 74, 2) := dk_18 74 (dk_at dksX7_both_5 8 rfl rfl)
theorem dX7_both_126 : decode cX7_both 126 = .ok (.invokevirtual 52, 3) := dk_182 0 52 (dk_at dksX7_both_5 10 rfl rfl)
theorem dX7_both_129 : decode cX7_both 129 = .ok (.ifCond .eq 9, 3) := dk_153 0 9 (dk_at dksX7_both_5 13 rfl rfl)
theorem dX7_both_132 : decode cX7_both 132 = .ok (.sipush 406, 3) := dk_17 1 150 (dk_at dksX7_both_5 16 rfl rfl)
theorem dX7_both_135 : decode cX7_both 135 = .ok (.goto 4, 3) := dk_167 0 4 (dk_at dksX7_both_5 19 rfl rfl)
theorem dX7_both_138 : decode cX7_both 138 = .ok (.iconst 1, 1) := dk_4 (dk_at dksX7_both_5 22 rfl rfl)
theorem dX7_both_139 : decode cX7_both 139 = .ok (.ireturn, 1) := dk_172 (dk_at dksX7_both_5 23 rfl rfl)
abbrev cX7_is : ByteArray := prog_13_method_5_code
def yX7_is : MethodName := ⟨RX7, "is", "(Ljava/lang/String;)Z"⟩
def dkwX7_is_2 : List UInt8 := [96, 51, 43, 29, 182, 0, 46, 160, 0, 7, 4, 167, 0, 4, 3, 61, 132, 3, 1, 167, 255, 213, 28, 172]
abbrev dktX7_is_2 : List UInt8 := dkwX7_is_2 ++ []
def dkwX7_is_1 : List UInt8 := [29, 43, 182, 0, 41, 162, 0, 41, 28, 153, 0, 37, 42, 180, 0, 3, 180, 0, 26, 42, 180, 0, 38, 29]
abbrev dktX7_is_1 : List UInt8 := dkwX7_is_1 ++ dktX7_is_2
def dkwX7_is_0 : List UInt8 := [42, 180, 0, 19, 42, 180, 0, 38, 100, 43, 182, 0, 41, 160, 0, 7, 4, 167, 0, 4, 3, 61, 3, 62]
abbrev dktX7_is_0 : List UInt8 := dkwX7_is_0 ++ dktX7_is_1
theorem dksX7_is_0 : cX7_is.data.toList.drop 0 = dktX7_is_0 := by decide +kernel
theorem dksX7_is_1 : cX7_is.data.toList.drop 24 = dktX7_is_1 := dk_seg dksX7_is_0 24 rfl rfl
theorem dksX7_is_2 : cX7_is.data.toList.drop 48 = dktX7_is_2 := dk_seg dksX7_is_1 24 rfl rfl
theorem dX7_is_0 : decode cX7_is 0 = .ok (.aload_n 0, 1) := dk_42 (dk_at dksX7_is_0 0 rfl rfl)
theorem dX7_is_1 : decode cX7_is 1 = .ok (.getfield 19, 3) := dk_180 0 19 (dk_at dksX7_is_0 1 rfl rfl)
theorem dX7_is_4 : decode cX7_is 4 = .ok (.aload_n 0, 1) := dk_42 (dk_at dksX7_is_0 4 rfl rfl)
theorem dX7_is_5 : decode cX7_is 5 = .ok (.getfield 38, 3) := dk_180 0 38 (dk_at dksX7_is_0 5 rfl rfl)
theorem dX7_is_8 : decode cX7_is 8 = .ok (.isub, 1) := dk_100 (dk_at dksX7_is_0 8 rfl rfl)
theorem dX7_is_9 : decode cX7_is 9 = .ok (.aload_n 1, 1) := dk_43 (dk_at dksX7_is_0 9 rfl rfl)
theorem dX7_is_10 : decode cX7_is 10 = .ok (.invokevirtual 41, 3) := dk_182 0 41 (dk_at dksX7_is_0 10 rfl rfl)
theorem dX7_is_13 : decode cX7_is 13 = .ok (.if_icmp .ne 7, 3) := dk_160 0 7 (dk_at dksX7_is_0 13 rfl rfl)
theorem dX7_is_16 : decode cX7_is 16 = .ok (.iconst 1, 1) := dk_4 (dk_at dksX7_is_0 16 rfl rfl)
theorem dX7_is_17 : decode cX7_is 17 = .ok (.goto 4, 3) := dk_167 0 4 (dk_at dksX7_is_0 17 rfl rfl)
theorem dX7_is_20 : decode cX7_is 20 = .ok (.iconst 0, 1) := dk_3 (dk_at dksX7_is_0 20 rfl rfl)
theorem dX7_is_21 : decode cX7_is 21 = .ok (.istore_n 2, 1) := dk_61 (dk_at dksX7_is_0 21 rfl rfl)
theorem dX7_is_22 : decode cX7_is 22 = .ok (.iconst 0, 1) := dk_3 (dk_at dksX7_is_0 22 rfl rfl)
theorem dX7_is_23 : decode cX7_is 23 = .ok (.istore_n 3, 1) := dk_62 (dk_at dksX7_is_0 23 rfl rfl)
theorem dX7_is_24 : decode cX7_is 24 = .ok (.iload_n 3, 1) := dk_29 (dk_at dksX7_is_1 0 rfl rfl)
theorem dX7_is_25 : decode cX7_is 25 = .ok (.aload_n 1, 1) := dk_43 (dk_at dksX7_is_1 1 rfl rfl)
theorem dX7_is_26 : decode cX7_is 26 = .ok (.invokevirtual 41, 3) := dk_182 0 41 (dk_at dksX7_is_1 2 rfl rfl)
theorem dX7_is_29 : decode cX7_is 29 = .ok (.if_icmp .ge 41, 3) := dk_162 0 41 (dk_at dksX7_is_1 5 rfl rfl)
theorem dX7_is_32 : decode cX7_is 32 = .ok (.iload_n 2, 1) := dk_28 (dk_at dksX7_is_1 8 rfl rfl)
theorem dX7_is_33 : decode cX7_is 33 = .ok (.ifCond .eq 37, 3) := dk_153 0 37 (dk_at dksX7_is_1 9 rfl rfl)
theorem dX7_is_36 : decode cX7_is 36 = .ok (.aload_n 0, 1) := dk_42 (dk_at dksX7_is_1 12 rfl rfl)
theorem dX7_is_37 : decode cX7_is 37 = .ok (.getfield 3, 3) := dk_180 0 3 (dk_at dksX7_is_1 13 rfl rfl)
theorem dX7_is_40 : decode cX7_is 40 = .ok (.getfield 26, 3) := dk_180 0 26 (dk_at dksX7_is_1 16 rfl rfl)
theorem dX7_is_43 : decode cX7_is 43 = .ok (.aload_n 0, 1) := dk_42 (dk_at dksX7_is_1 19 rfl rfl)
theorem dX7_is_44 : decode cX7_is 44 = .ok (.getfield 38, 3) := dk_180 0 38 (dk_at dksX7_is_1 20 rfl rfl)
theorem dX7_is_47 : decode cX7_is 47 = .ok (.iload_n 3, 1) := dk_29 (dk_at dksX7_is_1 23 rfl rfl)
theorem dX7_is_48 : decode cX7_is 48 = .ok (.iadd, 1) := dk_96 (dk_at dksX7_is_2 0 rfl rfl)
theorem dX7_is_49 : decode cX7_is 49 = .ok (.baload, 1) := dk_51 (dk_at dksX7_is_2 1 rfl rfl)
theorem dX7_is_50 : decode cX7_is 50 = .ok (.aload_n 1, 1) := dk_43 (dk_at dksX7_is_2 2 rfl rfl)
theorem dX7_is_51 : decode cX7_is 51 = .ok (.iload_n 3, 1) := dk_29 (dk_at dksX7_is_2 3 rfl rfl)
theorem dX7_is_52 : decode cX7_is 52 = .ok (.invokevirtual 46, 3) := dk_182 0 46 (dk_at dksX7_is_2 4 rfl rfl)
theorem dX7_is_55 : decode cX7_is 55 = .ok (.if_icmp .ne 7, 3) := dk_160 0 7 (dk_at dksX7_is_2 7 rfl rfl)
theorem dX7_is_58 : decode cX7_is 58 = .ok (.iconst 1, 1) := dk_4 (dk_at dksX7_is_2 10 rfl rfl)
theorem dX7_is_59 : decode cX7_is 59 = .ok (.goto 4, 3) := dk_167 0 4 (dk_at dksX7_is_2 11 rfl rfl)
theorem dX7_is_62 : decode cX7_is 62 = .ok (.iconst 0, 1) := dk_3 (dk_at dksX7_is_2 14 rfl rfl)
theorem dX7_is_63 : decode cX7_is 63 = .ok (.istore_n 2, 1) := dk_61 (dk_at dksX7_is_2 15 rfl rfl)
theorem dX7_is_64 : decode cX7_is 64 = .ok (.iinc 3 1, 3) := dk_132 3 1 (dk_at dksX7_is_2 16 rfl rfl)
theorem dX7_is_67 : decode cX7_is 67 = .ok (.goto (-43), 3) := dk_167 255 213 (dk_at dksX7_is_2 19 rfl rfl)
theorem dX7_is_70 : decode cX7_is 70 = .ok (.iload_n 2, 1) := dk_28 (dk_at dksX7_is_2 22 rfl rfl)
theorem dX7_is_71 : decode cX7_is 71 = .ok (.ireturn, 1) := dk_172 (dk_at dksX7_is_2 23 rfl rfl)
abbrev cX7_ofRules : ByteArray := prog_13_method_7_code
def yX7_ofRules : MethodName := ⟨RX7, "ofRules", "()I"⟩
def dkwX7_ofRules_5 : List UInt8 := [172, 42, 18, 94, 182, 0, 52, 153, 0, 9, 17, 1, 158, 167, 0, 4, 4, 172]
abbrev dktX7_ofRules_5 : List UInt8 := dkwX7_ofRules_5 ++ []
def dkwX7_ofRules_4 : List UInt8 := [18, 90, 182, 0, 52, 153, 0, 7, 17, 1, 156, 172, 42, 18, 92, 182, 0, 52, 153, 0, 7, 17, 1, 157]
abbrev dktX7_ofRules_4 : List UInt8 := dkwX7_ofRules_4 ++ dktX7_ofRules_5
def dkwX7_ofRules_3 : List UInt8 := [182, 0, 52, 153, 0, 7, 17, 1, 154, 172, 42, 18, 88, 182, 0, 52, 153, 0, 7, 17, 1, 155, 172, 42]
abbrev dktX7_ofRules_3 : List UInt8 := dkwX7_ofRules_3 ++ dktX7_ofRules_4
def dkwX7_ofRules_2 : List UInt8 := [153, 0, 7, 17, 1, 152, 172, 42, 18, 84, 182, 0, 52, 153, 0, 7, 17, 1, 153, 172, 42, 18, 86]
abbrev dktX7_ofRules_2 : List UInt8 := dkwX7_ofRules_2 ++ dktX7_ofRules_3
def dkwX7_ofRules_1 : List UInt8 := [17, 1, 46, 172, 42, 18, 80, 182, 0, 52, 153, 0, 7, 17, 1, 151, 172, 42, 18, 82, 182, 0, 52]
abbrev dktX7_ofRules_1 : List UInt8 := dkwX7_ofRules_1 ++ dktX7_ofRules_2
def dkwX7_ofRules_0 : List UInt8 := [42, 18, 76, 182, 0, 52, 153, 0, 7, 17, 1, 45, 172, 42, 18, 78, 182, 0, 52, 153, 0, 7]
abbrev dktX7_ofRules_0 : List UInt8 := dkwX7_ofRules_0 ++ dktX7_ofRules_1
theorem dksX7_ofRules_0 : cX7_ofRules.data.toList.drop 0 = dktX7_ofRules_0 := by decide +kernel
theorem dksX7_ofRules_1 : cX7_ofRules.data.toList.drop 22 = dktX7_ofRules_1 := dk_seg dksX7_ofRules_0 22 rfl rfl
theorem dksX7_ofRules_2 : cX7_ofRules.data.toList.drop 45 = dktX7_ofRules_2 := dk_seg dksX7_ofRules_1 23 rfl rfl
theorem dksX7_ofRules_3 : cX7_ofRules.data.toList.drop 68 = dktX7_ofRules_3 := dk_seg dksX7_ofRules_2 23 rfl rfl
theorem dksX7_ofRules_4 : cX7_ofRules.data.toList.drop 92 = dktX7_ofRules_4 := dk_seg dksX7_ofRules_3 24 rfl rfl
theorem dksX7_ofRules_5 : cX7_ofRules.data.toList.drop 116 = dktX7_ofRules_5 := dk_seg dksX7_ofRules_4 24 rfl rfl
theorem dX7_ofRules_0 : decode cX7_ofRules 0 = .ok (.aload_n 0, 1) := dk_42 (dk_at dksX7_ofRules_0 0 rfl rfl)
theorem dX7_ofRules_1 : decode cX7_ofRules 1 = .ok (.ldc 76, 2) := dk_18 76 (dk_at dksX7_ofRules_0 1 rfl rfl)
theorem dX7_ofRules_3 : decode cX7_ofRules 3 = .ok (.invokevirtual 52, 3) := dk_182 0 52 (dk_at dksX7_ofRules_0 3 rfl rfl)
theorem dX7_ofRules_6 : decode cX7_ofRules 6 = .ok (.ifCond .eq 7, 3) := dk_153 0 7 (dk_at dksX7_ofRules_0 6 rfl rfl)
theorem dX7_ofRules_9 : decode cX7_ofRules 9 = .ok (.sipush 301, 3) := dk_17 1 45 (dk_at dksX7_ofRules_0 9 rfl rfl)
theorem dX7_ofRules_12 : decode cX7_ofRules 12 = .ok (.ireturn, 1) := dk_172 (dk_at dksX7_ofRules_0 12 rfl rfl)
theorem dX7_ofRules_13 : decode cX7_ofRules 13 = .ok (.aload_n 0, 1) := dk_42 (dk_at dksX7_ofRules_0 13 rfl rfl)
theorem dX7_ofRules_14 : decode cX7_ofRules 14 = .ok (.ldc 78, 2) := dk_18 78 (dk_at dksX7_ofRules_0 14 rfl rfl)
theorem dX7_ofRules_16 : decode cX7_ofRules 16 = .ok (.invokevirtual 52, 3) := dk_182 0 52 (dk_at dksX7_ofRules_0 16 rfl rfl)
theorem dX7_ofRules_19 : decode cX7_ofRules 19 = .ok (.ifCond .eq 7, 3) := dk_153 0 7 (dk_at dksX7_ofRules_0 19 rfl rfl)
theorem dX7_ofRules_22 : decode cX7_ofRules 22 = .ok (.sipush 302, 3) := dk_17 1 46 (dk_at dksX7_ofRules_1 0 rfl rfl)
theorem dX7_ofRules_25 : decode cX7_ofRules 25 = .ok (.ireturn, 1) := dk_172 (dk_at dksX7_ofRules_1 3 rfl rfl)
theorem dX7_ofRules_26 : decode cX7_ofRules 26 = .ok (.aload_n 0, 1) := dk_42 (dk_at dksX7_ofRules_1 4 rfl rfl)
theorem dX7_ofRules_27 : decode cX7_ofRules 27 = .ok (.ldc 80, 2) := dk_18 80 (dk_at dksX7_ofRules_1 5 rfl rfl)
theorem dX7_ofRules_29 : decode cX7_ofRules 29 = .ok (.invokevirtual 52, 3) := dk_182 0 52 (dk_at dksX7_ofRules_1 7 rfl rfl)
theorem dX7_ofRules_32 : decode cX7_ofRules 32 = .ok (.ifCond .eq 7, 3) := dk_153 0 7 (dk_at dksX7_ofRules_1 10 rfl rfl)
theorem dX7_ofRules_35 : decode cX7_ofRules 35 = .ok (.sipush 407, 3) := dk_17 1 151 (dk_at dksX7_ofRules_1 13 rfl rfl)
theorem dX7_ofRules_38 : decode cX7_ofRules 38 = .ok (.ireturn, 1) := dk_172 (dk_at dksX7_ofRules_1 16 rfl rfl)
theorem dX7_ofRules_39 : decode cX7_ofRules 39 = .ok (.aload_n 0, 1) := dk_42 (dk_at dksX7_ofRules_1 17 rfl rfl)
theorem dX7_ofRules_40 : decode cX7_ofRules 40 = .ok (.ldc 82, 2) := dk_18 82 (dk_at dksX7_ofRules_1 18 rfl rfl)
theorem dX7_ofRules_42 : decode cX7_ofRules 42 = .ok (.invokevirtual 52, 3) := dk_182 0 52 (dk_at dksX7_ofRules_1 20 rfl rfl)
theorem dX7_ofRules_45 : decode cX7_ofRules 45 = .ok (.ifCond .eq 7, 3) := dk_153 0 7 (dk_at dksX7_ofRules_2 0 rfl rfl)
theorem dX7_ofRules_48 : decode cX7_ofRules 48 = .ok (.sipush 408, 3) := dk_17 1 152 (dk_at dksX7_ofRules_2 3 rfl rfl)
theorem dX7_ofRules_51 : decode cX7_ofRules 51 = .ok (.ireturn, 1) := dk_172 (dk_at dksX7_ofRules_2 6 rfl rfl)
theorem dX7_ofRules_52 : decode cX7_ofRules 52 = .ok (.aload_n 0, 1) := dk_42 (dk_at dksX7_ofRules_2 7 rfl rfl)
theorem dX7_ofRules_53 : decode cX7_ofRules 53 = .ok (.ldc 84, 2) := dk_18 84 (dk_at dksX7_ofRules_2 8 rfl rfl)
theorem dX7_ofRules_55 : decode cX7_ofRules 55 = .ok (.invokevirtual 52, 3) := dk_182 0 52 (dk_at dksX7_ofRules_2 10 rfl rfl)
theorem dX7_ofRules_58 : decode cX7_ofRules 58 = .ok (.ifCond .eq 7, 3) := dk_153 0 7 (dk_at dksX7_ofRules_2 13 rfl rfl)
theorem dX7_ofRules_61 : decode cX7_ofRules 61 = .ok (.sipush 409, 3) := dk_17 1 153 (dk_at dksX7_ofRules_2 16 rfl rfl)
theorem dX7_ofRules_64 : decode cX7_ofRules 64 = .ok (.ireturn, 1) := dk_172 (dk_at dksX7_ofRules_2 19 rfl rfl)
theorem dX7_ofRules_65 : decode cX7_ofRules 65 = .ok (.aload_n 0, 1) := dk_42 (dk_at dksX7_ofRules_2 20 rfl rfl)
theorem dX7_ofRules_66 : decode cX7_ofRules 66 = .ok (.ldc 86, 2) := dk_18 86 (dk_at dksX7_ofRules_2 21 rfl rfl)
theorem dX7_ofRules_68 : decode cX7_ofRules 68 = .ok (.invokevirtual 52, 3) := dk_182 0 52 (dk_at dksX7_ofRules_3 0 rfl rfl)
theorem dX7_ofRules_71 : decode cX7_ofRules 71 = .ok (.ifCond .eq 7, 3) := dk_153 0 7 (dk_at dksX7_ofRules_3 3 rfl rfl)
theorem dX7_ofRules_74 : decode cX7_ofRules 74 = .ok (.sipush 410, 3) := dk_17 1 154 (dk_at dksX7_ofRules_3 6 rfl rfl)
theorem dX7_ofRules_77 : decode cX7_ofRules 77 = .ok (.ireturn, 1) := dk_172 (dk_at dksX7_ofRules_3 9 rfl rfl)
theorem dX7_ofRules_78 : decode cX7_ofRules 78 = .ok (.aload_n 0, 1) := dk_42 (dk_at dksX7_ofRules_3 10 rfl rfl)
theorem dX7_ofRules_79 : decode cX7_ofRules 79 = .ok (.ldc 88, 2) := dk_18 88 (dk_at dksX7_ofRules_3 11 rfl rfl)
theorem dX7_ofRules_81 : decode cX7_ofRules 81 = .ok (.invokevirtual 52, 3) := dk_182 0 52 (dk_at dksX7_ofRules_3 13 rfl rfl)
theorem dX7_ofRules_84 : decode cX7_ofRules 84 = .ok (.ifCond .eq 7, 3) := dk_153 0 7 (dk_at dksX7_ofRules_3 16 rfl rfl)
theorem dX7_ofRules_87 : decode cX7_ofRules 87 = .ok (.sipush 411, 3) := dk_17 1 155 (dk_at dksX7_ofRules_3 19 rfl rfl)
theorem dX7_ofRules_90 : decode cX7_ofRules 90 = .ok (.ireturn, 1) := dk_172 (dk_at dksX7_ofRules_3 22 rfl rfl)
theorem dX7_ofRules_91 : decode cX7_ofRules 91 = .ok (.aload_n 0, 1) := dk_42 (dk_at dksX7_ofRules_3 23 rfl rfl)
theorem dX7_ofRules_92 : decode cX7_ofRules 92 = .ok (.ldc 90, 2) := dk_18 90 (dk_at dksX7_ofRules_4 0 rfl rfl)
theorem dX7_ofRules_94 : decode cX7_ofRules 94 = .ok (.invokevirtual 52, 3) := dk_182 0 52 (dk_at dksX7_ofRules_4 2 rfl rfl)
theorem dX7_ofRules_97 : decode cX7_ofRules 97 = .ok (.ifCond .eq 7, 3) := dk_153 0 7 (dk_at dksX7_ofRules_4 5 rfl rfl)
theorem dX7_ofRules_100 : decode cX7_ofRules 100 = .ok (.sipush 412, 3) := dk_17 1 156 (dk_at dksX7_ofRules_4 8 rfl rfl)
theorem dX7_ofRules_103 : decode cX7_ofRules 103 = .ok (.ireturn, 1) := dk_172 (dk_at dksX7_ofRules_4 11 rfl rfl)
theorem dX7_ofRules_104 : decode cX7_ofRules 104 = .ok (.aload_n 0, 1) := dk_42 (dk_at dksX7_ofRules_4 12 rfl rfl)
theorem dX7_ofRules_105 : decode cX7_ofRules 105 = .ok (.ldc 92, 2) := dk_18 92 (dk_at dksX7_ofRules_4 13 rfl rfl)
theorem dX7_ofRules_107 : decode cX7_ofRules 107 = .ok (.invokevirtual 52, 3) := dk_182 0 52 (dk_at dksX7_ofRules_4 15 rfl rfl)
theorem dX7_ofRules_110 : decode cX7_ofRules 110 = .ok (.ifCond .eq 7, 3) := dk_153 0 7 (dk_at dksX7_ofRules_4 18 rfl rfl)
theorem dX7_ofRules_113 : decode cX7_ofRules 113 = .ok (.sipush 413, 3) := dk_17 1 157 (dk_at dksX7_ofRules_4 21 rfl rfl)
theorem dX7_ofRules_116 : decode cX7_ofRules 116 = .ok (.ireturn, 1) := dk_172 (dk_at dksX7_ofRules_5 0 rfl rfl)
theorem dX7_ofRules_117 : decode cX7_ofRules 117 = .ok (.aload_n 0, 1) := dk_42 (dk_at dksX7_ofRules_5 1 rfl rfl)
theorem dX7_ofRules_118 : decode cX7_ofRules 118 = .ok (.ldc 94, 2) := dk_18 94 (dk_at dksX7_ofRules_5 2 rfl rfl)
theorem dX7_ofRules_120 : decode cX7_ofRules 120 = .ok (.invokevirtual 52, 3) := dk_182 0 52 (dk_at dksX7_ofRules_5 4 rfl rfl)
theorem dX7_ofRules_123 : decode cX7_ofRules 123 = .ok (.ifCond .eq 9, 3) := dk_153 0 9 (dk_at dksX7_ofRules_5 7 rfl rfl)
theorem dX7_ofRules_126 : decode cX7_ofRules 126 = .ok (.sipush 414, 3) := dk_17 1 158 (dk_at dksX7_ofRules_5 10 rfl rfl)
theorem dX7_ofRules_129 : decode cX7_ofRules 129 = .ok (.goto 4, 3) := dk_167 0 4 (dk_at dksX7_ofRules_5 13 rfl rfl)
theorem dX7_ofRules_132 : decode cX7_ofRules 132 = .ok (.iconst 1, 1) := dk_4 (dk_at dksX7_ofRules_5 16 rfl rfl)
theorem dX7_ofRules_133 : decode cX7_ofRules 133 = .ok (.ireturn, 1) := dk_172 (dk_at dksX7_ofRules_5 17 rfl rfl)
abbrev cX7_isDigit : ByteArray := prog_13_method_4_code
def yX7_isDigit : MethodName := ⟨RX7, "isDigit", "()Z"⟩
def dkwX7_isDigit_0 : List UInt8 := [42, 182, 0, 30, 16, 48, 16, 57, 184, 0, 34, 172]
abbrev dktX7_isDigit_0 : List UInt8 := dkwX7_isDigit_0 ++ []
theorem dksX7_isDigit_0 : cX7_isDigit.data.toList.drop 0 = dktX7_isDigit_0 := by decide +kernel
theorem dX7_isDigit_0 : decode cX7_isDigit 0 = .ok (.aload_n 0, 1) := dk_42 (dk_at dksX7_isDigit_0 0 rfl rfl)
theorem dX7_isDigit_1 : decode cX7_isDigit 1 = .ok (.invokevirtual 30, 3) := dk_182 0 30 (dk_at dksX7_isDigit_0 1 rfl rfl)
theorem dX7_isDigit_4 : decode cX7_isDigit 4 = .ok (.bipush 48, 2) := dk_16 48 (dk_at dksX7_isDigit_0 4 rfl rfl)
theorem dX7_isDigit_6 : decode cX7_isDigit 6 = .ok (.bipush 57, 2) := dk_16 57 (dk_at dksX7_isDigit_0 6 rfl rfl)
theorem dX7_isDigit_8 : decode cX7_isDigit 8 = .ok (.invokestatic 34, 3) := dk_184 0 34 (dk_at dksX7_isDigit_0 8 rfl rfl)
theorem dX7_isDigit_11 : decode cX7_isDigit 11 = .ok (.ireturn, 1) := dk_172 (dk_at dksX7_isDigit_0 11 rfl rfl)
abbrev cX7_isMark : ByteArray := prog_13_method_9_code
def yX7_isMark : MethodName := ⟨RX7, "isMark", "(I)Z"⟩
def dkwX7_isMark_2 : List UInt8 := [27, 16, 61, 159, 0, 9, 27, 16, 62, 160, 0, 7, 4, 167, 0, 4, 3, 172]
abbrev dktX7_isMark_2 : List UInt8 := dkwX7_isMark_2 ++ []
def dkwX7_isMark_1 : List UInt8 := [27, 16, 47, 159, 0, 33, 27, 16, 40, 159, 0, 27, 27, 16, 41, 159, 0, 21, 27, 16, 60, 159, 0, 15]
abbrev dktX7_isMark_1 : List UInt8 := dkwX7_isMark_1 ++ dktX7_isMark_2
def dkwX7_isMark_0 : List UInt8 := [27, 16, 59, 159, 0, 57, 27, 16, 43, 159, 0, 51, 27, 16, 45, 159, 0, 45, 27, 16, 42, 159, 0, 39]
abbrev dktX7_isMark_0 : List UInt8 := dkwX7_isMark_0 ++ dktX7_isMark_1
theorem dksX7_isMark_0 : cX7_isMark.data.toList.drop 0 = dktX7_isMark_0 := by decide +kernel
theorem dksX7_isMark_1 : cX7_isMark.data.toList.drop 24 = dktX7_isMark_1 := dk_seg dksX7_isMark_0 24 rfl rfl
theorem dksX7_isMark_2 : cX7_isMark.data.toList.drop 48 = dktX7_isMark_2 := dk_seg dksX7_isMark_1 24 rfl rfl
theorem dX7_isMark_0 : decode cX7_isMark 0 = .ok (.iload_n 1, 1) := dk_27 (dk_at dksX7_isMark_0 0 rfl rfl)
theorem dX7_isMark_1 : decode cX7_isMark 1 = .ok (.bipush 59, 2) := dk_16 59 (dk_at dksX7_isMark_0 1 rfl rfl)
theorem dX7_isMark_3 : decode cX7_isMark 3 = .ok (.if_icmp .eq 57, 3) := dk_159 0 57 (dk_at dksX7_isMark_0 3 rfl rfl)
theorem dX7_isMark_6 : decode cX7_isMark 6 = .ok (.iload_n 1, 1) := dk_27 (dk_at dksX7_isMark_0 6 rfl rfl)
theorem dX7_isMark_7 : decode cX7_isMark 7 = .ok (.bipush 43, 2) := dk_16 43 (dk_at dksX7_isMark_0 7 rfl rfl)
theorem dX7_isMark_9 : decode cX7_isMark 9 = .ok (.if_icmp .eq 51, 3) := dk_159 0 51 (dk_at dksX7_isMark_0 9 rfl rfl)
theorem dX7_isMark_12 : decode cX7_isMark 12 = .ok (.iload_n 1, 1) := dk_27 (dk_at dksX7_isMark_0 12 rfl rfl)
theorem dX7_isMark_13 : decode cX7_isMark 13 = .ok (.bipush 45, 2) := dk_16 45 (dk_at dksX7_isMark_0 13 rfl rfl)
theorem dX7_isMark_15 : decode cX7_isMark 15 = .ok (.if_icmp .eq 45, 3) := dk_159 0 45 (dk_at dksX7_isMark_0 15 rfl rfl)
theorem dX7_isMark_18 : decode cX7_isMark 18 = .ok (.iload_n 1, 1) := dk_27 (dk_at dksX7_isMark_0 18 rfl rfl)
theorem dX7_isMark_19 : decode cX7_isMark 19 = .ok (.bipush 42, 2) := dk_16 42 (dk_at dksX7_isMark_0 19 rfl rfl)
theorem dX7_isMark_21 : decode cX7_isMark 21 = .ok (.if_icmp .eq 39, 3) := dk_159 0 39 (dk_at dksX7_isMark_0 21 rfl rfl)
theorem dX7_isMark_24 : decode cX7_isMark 24 = .ok (.iload_n 1, 1) := dk_27 (dk_at dksX7_isMark_1 0 rfl rfl)
theorem dX7_isMark_25 : decode cX7_isMark 25 = .ok (.bipush 47, 2) := dk_16 47 (dk_at dksX7_isMark_1 1 rfl rfl)
theorem dX7_isMark_27 : decode cX7_isMark 27 = .ok (.if_icmp .eq 33, 3) := dk_159 0 33 (dk_at dksX7_isMark_1 3 rfl rfl)
theorem dX7_isMark_30 : decode cX7_isMark 30 = .ok (.iload_n 1, 1) := dk_27 (dk_at dksX7_isMark_1 6 rfl rfl)
theorem dX7_isMark_31 : decode cX7_isMark 31 = .ok (.bipush 40, 2) := dk_16 40 (dk_at dksX7_isMark_1 7 rfl rfl)
theorem dX7_isMark_33 : decode cX7_isMark 33 = .ok (.if_icmp .eq 27, 3) := dk_159 0 27 (dk_at dksX7_isMark_1 9 rfl rfl)
theorem dX7_isMark_36 : decode cX7_isMark 36 = .ok (.iload_n 1, 1) := dk_27 (dk_at dksX7_isMark_1 12 rfl rfl)
theorem dX7_isMark_37 : decode cX7_isMark 37 = .ok (.bipush 41, 2) := dk_16 41 (dk_at dksX7_isMark_1 13 rfl rfl)
theorem dX7_isMark_39 : decode cX7_isMark 39 = .ok (.if_icmp .eq 21, 3) := dk_159 0 21 (dk_at dksX7_isMark_1 15 rfl rfl)
theorem dX7_isMark_42 : decode cX7_isMark 42 = .ok (.iload_n 1, 1) := dk_27 (dk_at dksX7_isMark_1 18 rfl rfl)
theorem dX7_isMark_43 : decode cX7_isMark 43 = .ok (.bipush 60, 2) := dk_16 60 (dk_at dksX7_isMark_1 19 rfl rfl)
theorem dX7_isMark_45 : decode cX7_isMark 45 = .ok (.if_icmp .eq 15, 3) := dk_159 0 15 (dk_at dksX7_isMark_1 21 rfl rfl)
theorem dX7_isMark_48 : decode cX7_isMark 48 = .ok (.iload_n 1, 1) := dk_27 (dk_at dksX7_isMark_2 0 rfl rfl)
theorem dX7_isMark_49 : decode cX7_isMark 49 = .ok (.bipush 61, 2) := dk_16 61 (dk_at dksX7_isMark_2 1 rfl rfl)
theorem dX7_isMark_51 : decode cX7_isMark 51 = .ok (.if_icmp .eq 9, 3) := dk_159 0 9 (dk_at dksX7_isMark_2 3 rfl rfl)
theorem dX7_isMark_54 : decode cX7_isMark 54 = .ok (.iload_n 1, 1) := dk_27 (dk_at dksX7_isMark_2 6 rfl rfl)
theorem dX7_isMark_55 : decode cX7_isMark 55 = .ok (.bipush 62, 2) := dk_16 62 (dk_at dksX7_isMark_2 7 rfl rfl)
theorem dX7_isMark_57 : decode cX7_isMark 57 = .ok (.if_icmp .ne 7, 3) := dk_160 0 7 (dk_at dksX7_isMark_2 9 rfl rfl)
theorem dX7_isMark_60 : decode cX7_isMark 60 = .ok (.iconst 1, 1) := dk_4 (dk_at dksX7_isMark_2 12 rfl rfl)
theorem dX7_isMark_61 : decode cX7_isMark 61 = .ok (.goto 4, 3) := dk_167 0 4 (dk_at dksX7_isMark_2 13 rfl rfl)
theorem dX7_isMark_64 : decode cX7_isMark 64 = .ok (.iconst 0, 1) := dk_3 (dk_at dksX7_isMark_2 16 rfl rfl)
theorem dX7_isMark_65 : decode cX7_isMark 65 = .ok (.ireturn, 1) := dk_172 (dk_at dksX7_isMark_2 17 rfl rfl)
abbrev cX7_must : ByteArray := prog_13_method_11_code
def yX7_must : MethodName := ⟨RX7, "must", "(I)V"⟩
def dkwX7_must_1 : List UInt8 := [182, 0, 129, 177]
abbrev dktX7_must_1 : List UInt8 := dkwX7_must_1 ++ []
def dkwX7_must_0 : List UInt8 := [42, 180, 0, 104, 27, 159, 0, 16, 187, 0, 124, 89, 4, 42, 180, 0, 38, 183, 0, 126, 191, 42]
abbrev dktX7_must_0 : List UInt8 := dkwX7_must_0 ++ dktX7_must_1
theorem dksX7_must_0 : cX7_must.data.toList.drop 0 = dktX7_must_0 := by decide +kernel
theorem dksX7_must_1 : cX7_must.data.toList.drop 22 = dktX7_must_1 := dk_seg dksX7_must_0 22 rfl rfl
theorem dX7_must_0 : decode cX7_must 0 = .ok (.aload_n 0, 1) := dk_42 (dk_at dksX7_must_0 0 rfl rfl)
theorem dX7_must_1 : decode cX7_must 1 = .ok (.getfield 104, 3) := dk_180 0 104 (dk_at dksX7_must_0 1 rfl rfl)
theorem dX7_must_4 : decode cX7_must 4 = .ok (.iload_n 1, 1) := dk_27 (dk_at dksX7_must_0 4 rfl rfl)
theorem dX7_must_5 : decode cX7_must 5 = .ok (.if_icmp .eq 16, 3) := dk_159 0 16 (dk_at dksX7_must_0 5 rfl rfl)
theorem dX7_must_8 : decode cX7_must 8 = .ok (.new 124, 3) := dk_187 0 124 (dk_at dksX7_must_0 8 rfl rfl)
theorem dX7_must_11 : decode cX7_must 11 = .ok (.dup, 1) := dk_89 (dk_at dksX7_must_0 11 rfl rfl)
theorem dX7_must_12 : decode cX7_must 12 = .ok (.iconst 1, 1) := dk_4 (dk_at dksX7_must_0 12 rfl rfl)
theorem dX7_must_13 : decode cX7_must 13 = .ok (.aload_n 0, 1) := dk_42 (dk_at dksX7_must_0 13 rfl rfl)
theorem dX7_must_14 : decode cX7_must 14 = .ok (.getfield 38, 3) := dk_180 0 38 (dk_at dksX7_must_0 14 rfl rfl)
theorem dX7_must_17 : decode cX7_must 17 = .ok (.invokespecial 126, 3) := dk_183 0 126 (dk_at dksX7_must_0 17 rfl rfl)
theorem dX7_must_20 : decode cX7_must 20 = .ok (.athrow, 1) := dk_191 (dk_at dksX7_must_0 20 rfl rfl)
theorem dX7_must_21 : decode cX7_must 21 = .ok (.aload_n 0, 1) := dk_42 (dk_at dksX7_must_0 21 rfl rfl)
theorem dX7_must_22 : decode cX7_must 22 = .ok (.invokevirtual 129, 3) := dk_182 0 129 (dk_at dksX7_must_1 0 rfl rfl)
theorem dX7_must_25 : decode cX7_must 25 = .ok (.return_, 1) := dk_177 (dk_at dksX7_must_1 3 rfl rfl)
abbrev cX7_any : ByteArray := prog_13_method_17_code
def yX7_any : MethodName := ⟨RX7, "any", "()LNotchSticks$Term;"⟩
def dkwX7_any_1 : List UInt8 := [182, 0, 159, 183, 0, 141, 76, 167, 255, 230, 43, 176]
abbrev dktX7_any_1 : List UInt8 := dkwX7_any_1 ++ []
def dkwX7_any_0 : List UInt8 := [42, 182, 0, 159, 76, 42, 180, 0, 104, 7, 160, 0, 24, 42, 182, 0, 129, 187, 0, 139, 89, 43, 7, 42]
abbrev dktX7_any_0 : List UInt8 := dkwX7_any_0 ++ dktX7_any_1
theorem dksX7_any_0 : cX7_any.data.toList.drop 0 = dktX7_any_0 := by decide +kernel
theorem dksX7_any_1 : cX7_any.data.toList.drop 24 = dktX7_any_1 := dk_seg dksX7_any_0 24 rfl rfl
theorem dX7_any_0 : decode cX7_any 0 = .ok (.aload_n 0, 1) := dk_42 (dk_at dksX7_any_0 0 rfl rfl)
theorem dX7_any_1 : decode cX7_any 1 = .ok (.invokevirtual 159, 3) := dk_182 0 159 (dk_at dksX7_any_0 1 rfl rfl)
theorem dX7_any_4 : decode cX7_any 4 = .ok (.astore_n 1, 1) := dk_76 (dk_at dksX7_any_0 4 rfl rfl)
theorem dX7_any_5 : decode cX7_any 5 = .ok (.aload_n 0, 1) := dk_42 (dk_at dksX7_any_0 5 rfl rfl)
theorem dX7_any_6 : decode cX7_any 6 = .ok (.getfield 104, 3) := dk_180 0 104 (dk_at dksX7_any_0 6 rfl rfl)
theorem dX7_any_9 : decode cX7_any 9 = .ok (.iconst 4, 1) := dk_7 (dk_at dksX7_any_0 9 rfl rfl)
theorem dX7_any_10 : decode cX7_any 10 = .ok (.if_icmp .ne 24, 3) := dk_160 0 24 (dk_at dksX7_any_0 10 rfl rfl)
theorem dX7_any_13 : decode cX7_any 13 = .ok (.aload_n 0, 1) := dk_42 (dk_at dksX7_any_0 13 rfl rfl)
theorem dX7_any_14 : decode cX7_any 14 = .ok (.invokevirtual 129, 3) := dk_182 0 129 (dk_at dksX7_any_0 14 rfl rfl)
theorem dX7_any_17 : decode cX7_any 17 = .ok (.new 139, 3) := dk_187 0 139 (dk_at dksX7_any_0 17 rfl rfl)
theorem dX7_any_20 : decode cX7_any 20 = .ok (.dup, 1) := dk_89 (dk_at dksX7_any_0 20 rfl rfl)
theorem dX7_any_21 : decode cX7_any 21 = .ok (.aload_n 1, 1) := dk_43 (dk_at dksX7_any_0 21 rfl rfl)
theorem dX7_any_22 : decode cX7_any 22 = .ok (.iconst 4, 1) := dk_7 (dk_at dksX7_any_0 22 rfl rfl)
theorem dX7_any_23 : decode cX7_any 23 = .ok (.aload_n 0, 1) := dk_42 (dk_at dksX7_any_0 23 rfl rfl)
theorem dX7_any_24 : decode cX7_any 24 = .ok (.invokevirtual 159, 3) := dk_182 0 159 (dk_at dksX7_any_1 0 rfl rfl)
theorem dX7_any_27 : decode cX7_any 27 = .ok (.invokespecial 141, 3) := dk_183 0 141 (dk_at dksX7_any_1 3 rfl rfl)
theorem dX7_any_30 : decode cX7_any 30 = .ok (.astore_n 1, 1) := dk_76 (dk_at dksX7_any_1 6 rfl rfl)
theorem dX7_any_31 : decode cX7_any 31 = .ok (.goto (-26), 3) := dk_167 255 230 (dk_at dksX7_any_1 7 rfl rfl)
theorem dX7_any_34 : decode cX7_any 34 = .ok (.aload_n 1, 1) := dk_43 (dk_at dksX7_any_1 10 rfl rfl)
theorem dX7_any_35 : decode cX7_any 35 = .ok (.areturn, 1) := dk_176 (dk_at dksX7_any_1 11 rfl rfl)
abbrev cX7_all : ByteArray := prog_13_method_18_code
def yX7_all : MethodName := ⟨RX7, "all", "()LNotchSticks$Term;"⟩
def dkwX7_all_1 : List UInt8 := [182, 0, 162, 183, 0, 141, 76, 167, 255, 230, 43, 176]
abbrev dktX7_all_1 : List UInt8 := dkwX7_all_1 ++ []
def dkwX7_all_0 : List UInt8 := [42, 182, 0, 162, 76, 42, 180, 0, 104, 8, 160, 0, 24, 42, 182, 0, 129, 187, 0, 139, 89, 43, 8, 42]
abbrev dktX7_all_0 : List UInt8 := dkwX7_all_0 ++ dktX7_all_1
theorem dksX7_all_0 : cX7_all.data.toList.drop 0 = dktX7_all_0 := by decide +kernel
theorem dksX7_all_1 : cX7_all.data.toList.drop 24 = dktX7_all_1 := dk_seg dksX7_all_0 24 rfl rfl
theorem dX7_all_0 : decode cX7_all 0 = .ok (.aload_n 0, 1) := dk_42 (dk_at dksX7_all_0 0 rfl rfl)
theorem dX7_all_1 : decode cX7_all 1 = .ok (.invokevirtual 162, 3) := dk_182 0 162 (dk_at dksX7_all_0 1 rfl rfl)
theorem dX7_all_4 : decode cX7_all 4 = .ok (.astore_n 1, 1) := dk_76 (dk_at dksX7_all_0 4 rfl rfl)
theorem dX7_all_5 : decode cX7_all 5 = .ok (.aload_n 0, 1) := dk_42 (dk_at dksX7_all_0 5 rfl rfl)
theorem dX7_all_6 : decode cX7_all 6 = .ok (.getfield 104, 3) := dk_180 0 104 (dk_at dksX7_all_0 6 rfl rfl)
theorem dX7_all_9 : decode cX7_all 9 = .ok (.iconst 5, 1) := dk_8 (dk_at dksX7_all_0 9 rfl rfl)
theorem dX7_all_10 : decode cX7_all 10 = .ok (.if_icmp .ne 24, 3) := dk_160 0 24 (dk_at dksX7_all_0 10 rfl rfl)
theorem dX7_all_13 : decode cX7_all 13 = .ok (.aload_n 0, 1) := dk_42 (dk_at dksX7_all_0 13 rfl rfl)
theorem dX7_all_14 : decode cX7_all 14 = .ok (.invokevirtual 129, 3) := dk_182 0 129 (dk_at dksX7_all_0 14 rfl rfl)
theorem dX7_all_17 : decode cX7_all 17 = .ok (.new 139, 3) := dk_187 0 139 (dk_at dksX7_all_0 17 rfl rfl)
theorem dX7_all_20 : decode cX7_all 20 = .ok (.dup, 1) := dk_89 (dk_at dksX7_all_0 20 rfl rfl)
theorem dX7_all_21 : decode cX7_all 21 = .ok (.aload_n 1, 1) := dk_43 (dk_at dksX7_all_0 21 rfl rfl)
theorem dX7_all_22 : decode cX7_all 22 = .ok (.iconst 5, 1) := dk_8 (dk_at dksX7_all_0 22 rfl rfl)
theorem dX7_all_23 : decode cX7_all 23 = .ok (.aload_n 0, 1) := dk_42 (dk_at dksX7_all_0 23 rfl rfl)
theorem dX7_all_24 : decode cX7_all 24 = .ok (.invokevirtual 162, 3) := dk_182 0 162 (dk_at dksX7_all_1 0 rfl rfl)
theorem dX7_all_27 : decode cX7_all 27 = .ok (.invokespecial 141, 3) := dk_183 0 141 (dk_at dksX7_all_1 3 rfl rfl)
theorem dX7_all_30 : decode cX7_all 30 = .ok (.astore_n 1, 1) := dk_76 (dk_at dksX7_all_1 6 rfl rfl)
theorem dX7_all_31 : decode cX7_all 31 = .ok (.goto (-26), 3) := dk_167 255 230 (dk_at dksX7_all_1 7 rfl rfl)
theorem dX7_all_34 : decode cX7_all 34 = .ok (.aload_n 1, 1) := dk_43 (dk_at dksX7_all_1 10 rfl rfl)
theorem dX7_all_35 : decode cX7_all 35 = .ok (.areturn, 1) := dk_176 (dk_at dksX7_all_1 11 rfl rfl)
abbrev cX7_one : ByteArray := prog_13_method_19_code
def yX7_one : MethodName := ⟨RX7, "one", "()LNotchSticks$Term;"⟩
def dkwX7_one_6 : List UInt8 := [176]
abbrev dktX7_one_6 : List UInt8 := dkwX7_one_6 ++ []
def dkwX7_one_5 : List UInt8 := [180, 0, 38, 183, 0, 126, 191, 42, 182, 0, 129, 187, 0, 139, 89, 43, 28, 42, 182, 0, 179, 183, 0, 141]
abbrev dktX7_one_5 : List UInt8 := dkwX7_one_5 ++ dktX7_one_6
def dkwX7_one_4 : List UInt8 := [16, 60, 159, 0, 28, 28, 16, 61, 159, 0, 22, 28, 16, 62, 159, 0, 16, 187, 0, 124, 89, 4, 42]
abbrev dktX7_one_4 : List UInt8 := dkwX7_one_4 ++ dktX7_one_5
def dkwX7_one_3 : List UInt8 := [42, 89, 180, 0, 132, 4, 100, 181, 0, 132, 44, 176, 42, 182, 0, 179, 76, 42, 180, 0, 104, 61, 28]
abbrev dktX7_one_3 : List UInt8 := dkwX7_one_3 ++ dktX7_one_4
def dkwX7_one_2 : List UInt8 := [182, 0, 162, 183, 0, 170, 167, 0, 7, 42, 182, 0, 173, 77, 27, 154, 0, 9, 42, 16, 41, 182, 0, 176]
abbrev dktX7_one_2 : List UInt8 := dkwX7_one_2 ++ dktX7_one_3
def dkwX7_one_1 : List UInt8 := [160, 0, 7, 4, 167, 0, 4, 3, 60, 42, 182, 0, 165, 27, 153, 0, 17, 187, 0, 168, 89, 42]
abbrev dktX7_one_1 : List UInt8 := dkwX7_one_1 ++ dktX7_one_2
def dkwX7_one_0 : List UInt8 := [42, 180, 0, 104, 16, 6, 159, 0, 12, 42, 180, 0, 104, 16, 40, 160, 0, 67, 42, 180, 0, 104, 16, 6]
abbrev dktX7_one_0 : List UInt8 := dkwX7_one_0 ++ dktX7_one_1
theorem dksX7_one_0 : cX7_one.data.toList.drop 0 = dktX7_one_0 := by decide +kernel
theorem dksX7_one_1 : cX7_one.data.toList.drop 24 = dktX7_one_1 := dk_seg dksX7_one_0 24 rfl rfl
theorem dksX7_one_2 : cX7_one.data.toList.drop 46 = dktX7_one_2 := dk_seg dksX7_one_1 22 rfl rfl
theorem dksX7_one_3 : cX7_one.data.toList.drop 70 = dktX7_one_3 := dk_seg dksX7_one_2 24 rfl rfl
theorem dksX7_one_4 : cX7_one.data.toList.drop 93 = dktX7_one_4 := dk_seg dksX7_one_3 23 rfl rfl
theorem dksX7_one_5 : cX7_one.data.toList.drop 116 = dktX7_one_5 := dk_seg dksX7_one_4 23 rfl rfl
theorem dksX7_one_6 : cX7_one.data.toList.drop 140 = dktX7_one_6 := dk_seg dksX7_one_5 24 rfl rfl
theorem dX7_one_0 : decode cX7_one 0 = .ok (.aload_n 0, 1) := dk_42 (dk_at dksX7_one_0 0 rfl rfl)
theorem dX7_one_1 : decode cX7_one 1 = .ok (.getfield 104, 3) := dk_180 0 104 (dk_at dksX7_one_0 1 rfl rfl)
theorem dX7_one_4 : decode cX7_one 4 = .ok (.bipush 6, 2) := dk_16 6 (dk_at dksX7_one_0 4 rfl rfl)
theorem dX7_one_6 : decode cX7_one 6 = .ok (.if_icmp .eq 12, 3) := dk_159 0 12 (dk_at dksX7_one_0 6 rfl rfl)
theorem dX7_one_9 : decode cX7_one 9 = .ok (.aload_n 0, 1) := dk_42 (dk_at dksX7_one_0 9 rfl rfl)
theorem dX7_one_10 : decode cX7_one 10 = .ok (.getfield 104, 3) := dk_180 0 104 (dk_at dksX7_one_0 10 rfl rfl)
theorem dX7_one_13 : decode cX7_one 13 = .ok (.bipush 40, 2) := dk_16 40 (dk_at dksX7_one_0 13 rfl rfl)
theorem dX7_one_15 : decode cX7_one 15 = .ok (.if_icmp .ne 67, 3) := dk_160 0 67 (dk_at dksX7_one_0 15 rfl rfl)
theorem dX7_one_18 : decode cX7_one 18 = .ok (.aload_n 0, 1) := dk_42 (dk_at dksX7_one_0 18 rfl rfl)
theorem dX7_one_19 : decode cX7_one 19 = .ok (.getfield 104, 3) := dk_180 0 104 (dk_at dksX7_one_0 19 rfl rfl)
theorem dX7_one_22 : decode cX7_one 22 = .ok (.bipush 6, 2) := dk_16 6 (dk_at dksX7_one_0 22 rfl rfl)
theorem dX7_one_24 : decode cX7_one 24 = .ok (.if_icmp .ne 7, 3) := dk_160 0 7 (dk_at dksX7_one_1 0 rfl rfl)
theorem dX7_one_27 : decode cX7_one 27 = .ok (.iconst 1, 1) := dk_4 (dk_at dksX7_one_1 3 rfl rfl)
theorem dX7_one_28 : decode cX7_one 28 = .ok (.goto 4, 3) := dk_167 0 4 (dk_at dksX7_one_1 4 rfl rfl)
theorem dX7_one_31 : decode cX7_one 31 = .ok (.iconst 0, 1) := dk_3 (dk_at dksX7_one_1 7 rfl rfl)
theorem dX7_one_32 : decode cX7_one 32 = .ok (.istore_n 1, 1) := dk_60 (dk_at dksX7_one_1 8 rfl rfl)
theorem dX7_one_33 : decode cX7_one 33 = .ok (.aload_n 0, 1) := dk_42 (dk_at dksX7_one_1 9 rfl rfl)
theorem dX7_one_34 : decode cX7_one 34 = .ok (.invokevirtual 165, 3) := dk_182 0 165 (dk_at dksX7_one_1 10 rfl rfl)
theorem dX7_one_37 : decode cX7_one 37 = .ok (.iload_n 1, 1) := dk_27 (dk_at dksX7_one_1 13 rfl rfl)
theorem dX7_one_38 : decode cX7_one 38 = .ok (.ifCond .eq 17, 3) := dk_153 0 17 (dk_at dksX7_one_1 14 rfl rfl)
theorem dX7_one_41 : decode cX7_one 41 = .ok (.new 168, 3) := dk_187 0 168 (dk_at dksX7_one_1 17 rfl rfl)
theorem dX7_one_44 : decode cX7_one 44 = .ok (.dup, 1) := dk_89 (dk_at dksX7_one_1 20 rfl rfl)
theorem dX7_one_45 : decode cX7_one 45 = .ok (.aload_n 0, 1) := dk_42 (dk_at dksX7_one_1 21 rfl rfl)
theorem dX7_one_46 : decode cX7_one 46 = .ok (.invokevirtual 162, 3) := dk_182 0 162 (dk_at dksX7_one_2 0 rfl rfl)
theorem dX7_one_49 : decode cX7_one 49 = .ok (.invokespecial 170, 3) := dk_183 0 170 (dk_at dksX7_one_2 3 rfl rfl)
theorem dX7_one_52 : decode cX7_one 52 = .ok (.goto 7, 3) := dk_167 0 7 (dk_at dksX7_one_2 6 rfl rfl)
theorem dX7_one_55 : decode cX7_one 55 = .ok (.aload_n 0, 1) := dk_42 (dk_at dksX7_one_2 9 rfl rfl)
theorem dX7_one_56 : decode cX7_one 56 = .ok (.invokevirtual 173, 3) := dk_182 0 173 (dk_at dksX7_one_2 10 rfl rfl)
theorem dX7_one_59 : decode cX7_one 59 = .ok (.astore_n 2, 1) := dk_77 (dk_at dksX7_one_2 13 rfl rfl)
theorem dX7_one_60 : decode cX7_one 60 = .ok (.iload_n 1, 1) := dk_27 (dk_at dksX7_one_2 14 rfl rfl)
theorem dX7_one_61 : decode cX7_one 61 = .ok (.ifCond .ne 9, 3) := dk_154 0 9 (dk_at dksX7_one_2 15 rfl rfl)
theorem dX7_one_64 : decode cX7_one 64 = .ok (.aload_n 0, 1) := dk_42 (dk_at dksX7_one_2 18 rfl rfl)
theorem dX7_one_65 : decode cX7_one 65 = .ok (.bipush 41, 2) := dk_16 41 (dk_at dksX7_one_2 19 rfl rfl)
theorem dX7_one_67 : decode cX7_one 67 = .ok (.invokevirtual 176, 3) := dk_182 0 176 (dk_at dksX7_one_2 21 rfl rfl)
theorem dX7_one_70 : decode cX7_one 70 = .ok (.aload_n 0, 1) := dk_42 (dk_at dksX7_one_3 0 rfl rfl)
theorem dX7_one_71 : decode cX7_one 71 = .ok (.dup, 1) := dk_89 (dk_at dksX7_one_3 1 rfl rfl)
theorem dX7_one_72 : decode cX7_one 72 = .ok (.getfield 132, 3) := dk_180 0 132 (dk_at dksX7_one_3 2 rfl rfl)
theorem dX7_one_75 : decode cX7_one 75 = .ok (.iconst 1, 1) := dk_4 (dk_at dksX7_one_3 5 rfl rfl)
theorem dX7_one_76 : decode cX7_one 76 = .ok (.isub, 1) := dk_100 (dk_at dksX7_one_3 6 rfl rfl)
theorem dX7_one_77 : decode cX7_one 77 = .ok (.putfield 132, 3) := dk_181 0 132 (dk_at dksX7_one_3 7 rfl rfl)
theorem dX7_one_80 : decode cX7_one 80 = .ok (.aload_n 2, 1) := dk_44 (dk_at dksX7_one_3 10 rfl rfl)
theorem dX7_one_81 : decode cX7_one 81 = .ok (.areturn, 1) := dk_176 (dk_at dksX7_one_3 11 rfl rfl)
theorem dX7_one_82 : decode cX7_one 82 = .ok (.aload_n 0, 1) := dk_42 (dk_at dksX7_one_3 12 rfl rfl)
theorem dX7_one_83 : decode cX7_one 83 = .ok (.invokevirtual 179, 3) := dk_182 0 179 (dk_at dksX7_one_3 13 rfl rfl)
theorem dX7_one_86 : decode cX7_one 86 = .ok (.astore_n 1, 1) := dk_76 (dk_at dksX7_one_3 16 rfl rfl)
theorem dX7_one_87 : decode cX7_one 87 = .ok (.aload_n 0, 1) := dk_42 (dk_at dksX7_one_3 17 rfl rfl)
theorem dX7_one_88 : decode cX7_one 88 = .ok (.getfield 104, 3) := dk_180 0 104 (dk_at dksX7_one_3 18 rfl rfl)
theorem dX7_one_91 : decode cX7_one 91 = .ok (.istore_n 2, 1) := dk_61 (dk_at dksX7_one_3 21 rfl rfl)
theorem dX7_one_92 : decode cX7_one 92 = .ok (.iload_n 2, 1) := dk_28 (dk_at dksX7_one_3 22 rfl rfl)
theorem dX7_one_93 : decode cX7_one 93 = .ok (.bipush 60, 2) := dk_16 60 (dk_at dksX7_one_4 0 rfl rfl)
theorem dX7_one_95 : decode cX7_one 95 = .ok (.if_icmp .eq 28, 3) := dk_159 0 28 (dk_at dksX7_one_4 2 rfl rfl)
theorem dX7_one_98 : decode cX7_one 98 = .ok (.iload_n 2, 1) := dk_28 (dk_at dksX7_one_4 5 rfl rfl)
theorem dX7_one_99 : decode cX7_one 99 = .ok (.bipush 61, 2) := dk_16 61 (dk_at dksX7_one_4 6 rfl rfl)
theorem dX7_one_101 : decode cX7_one 101 = .ok (.if_icmp .eq 22, 3) := dk_159 0 22 (dk_at dksX7_one_4 8 rfl rfl)
theorem dX7_one_104 : decode cX7_one 104 = .ok (.iload_n 2, 1) := dk_28 (dk_at dksX7_one_4 11 rfl rfl)
theorem dX7_one_105 : decode cX7_one 105 = .ok (.bipush 62, 2) := dk_16 62 (dk_at dksX7_one_4 12 rfl rfl)
theorem dX7_one_107 : decode cX7_one 107 = .ok (.if_icmp .eq 16, 3) := dk_159 0 16 (dk_at dksX7_one_4 14 rfl rfl)
theorem dX7_one_110 : decode cX7_one 110 = .ok (.new 124, 3) := dk_187 0 124 (dk_at dksX7_one_4 17 rfl rfl)
theorem dX7_one_113 : decode cX7_one 113 = .ok (.dup, 1) := dk_89 (dk_at dksX7_one_4 20 rfl rfl)
theorem dX7_one_114 : decode cX7_one 114 = .ok (.iconst 1, 1) := dk_4 (dk_at dksX7_one_4 21 rfl rfl)
theorem dX7_one_115 : decode cX7_one 115 = .ok (.aload_n 0, 1) := dk_42 (dk_at dksX7_one_4 22 rfl rfl)
theorem dX7_one_116 : decode cX7_one 116 = .ok (.getfield 38, 3) := dk_180 0 38 (dk_at dksX7_one_5 0 rfl rfl)
theorem dX7_one_119 : decode cX7_one 119 = .ok (.invokespecial 126, 3) := dk_183 0 126 (dk_at dksX7_one_5 3 rfl rfl)
theorem dX7_one_122 : decode cX7_one 122 = .ok (.athrow, 1) := dk_191 (dk_at dksX7_one_5 6 rfl rfl)
theorem dX7_one_123 : decode cX7_one 123 = .ok (.aload_n 0, 1) := dk_42 (dk_at dksX7_one_5 7 rfl rfl)
theorem dX7_one_124 : decode cX7_one 124 = .ok (.invokevirtual 129, 3) := dk_182 0 129 (dk_at dksX7_one_5 8 rfl rfl)
theorem dX7_one_127 : decode cX7_one 127 = .ok (.new 139, 3) := dk_187 0 139 (dk_at dksX7_one_5 11 rfl rfl)
theorem dX7_one_130 : decode cX7_one 130 = .ok (.dup, 1) := dk_89 (dk_at dksX7_one_5 14 rfl rfl)
theorem dX7_one_131 : decode cX7_one 131 = .ok (.aload_n 1, 1) := dk_43 (dk_at dksX7_one_5 15 rfl rfl)
theorem dX7_one_132 : decode cX7_one 132 = .ok (.iload_n 2, 1) := dk_28 (dk_at dksX7_one_5 16 rfl rfl)
theorem dX7_one_133 : decode cX7_one 133 = .ok (.aload_n 0, 1) := dk_42 (dk_at dksX7_one_5 17 rfl rfl)
theorem dX7_one_134 : decode cX7_one 134 = .ok (.invokevirtual 179, 3) := dk_182 0 179 (dk_at dksX7_one_5 18 rfl rfl)
theorem dX7_one_137 : decode cX7_one 137 = .ok (.invokespecial 141, 3) := dk_183 0 141 (dk_at dksX7_one_5 21 rfl rfl)
theorem dX7_one_140 : decode cX7_one 140 = .ok (.areturn, 1) := dk_176 (dk_at dksX7_one_6 0 rfl rfl)
abbrev cX7_opens : ByteArray := prog_13_method_13_code
def yX7_opens : MethodName := ⟨RX7, "opens", "()V"⟩
def dkwX7_opens_1 : List UInt8 := [180, 0, 132, 4, 96, 181, 0, 132, 42, 182, 0, 129, 177]
abbrev dktX7_opens_1 : List UInt8 := dkwX7_opens_1 ++ []
def dkwX7_opens_0 : List UInt8 := [42, 180, 0, 132, 16, 8, 160, 0, 16, 187, 0, 124, 89, 6, 42, 180, 0, 38, 183, 0, 126, 191, 42, 89]
abbrev dktX7_opens_0 : List UInt8 := dkwX7_opens_0 ++ dktX7_opens_1
theorem dksX7_opens_0 : cX7_opens.data.toList.drop 0 = dktX7_opens_0 := by decide +kernel
theorem dksX7_opens_1 : cX7_opens.data.toList.drop 24 = dktX7_opens_1 := dk_seg dksX7_opens_0 24 rfl rfl
theorem dX7_opens_0 : decode cX7_opens 0 = .ok (.aload_n 0, 1) := dk_42 (dk_at dksX7_opens_0 0 rfl rfl)
theorem dX7_opens_1 : decode cX7_opens 1 = .ok (.getfield 132, 3) := dk_180 0 132 (dk_at dksX7_opens_0 1 rfl rfl)
theorem dX7_opens_4 : decode cX7_opens 4 = .ok (.bipush 8, 2) := dk_16 8 (dk_at dksX7_opens_0 4 rfl rfl)
theorem dX7_opens_6 : decode cX7_opens 6 = .ok (.if_icmp .ne 16, 3) := dk_160 0 16 (dk_at dksX7_opens_0 6 rfl rfl)
theorem dX7_opens_9 : decode cX7_opens 9 = .ok (.new 124, 3) := dk_187 0 124 (dk_at dksX7_opens_0 9 rfl rfl)
theorem dX7_opens_12 : decode cX7_opens 12 = .ok (.dup, 1) := dk_89 (dk_at dksX7_opens_0 12 rfl rfl)
theorem dX7_opens_13 : decode cX7_opens 13 = .ok (.iconst 3, 1) := dk_6 (dk_at dksX7_opens_0 13 rfl rfl)
theorem dX7_opens_14 : decode cX7_opens 14 = .ok (.aload_n 0, 1) := dk_42 (dk_at dksX7_opens_0 14 rfl rfl)
theorem dX7_opens_15 : decode cX7_opens 15 = .ok (.getfield 38, 3) := dk_180 0 38 (dk_at dksX7_opens_0 15 rfl rfl)
theorem dX7_opens_18 : decode cX7_opens 18 = .ok (.invokespecial 126, 3) := dk_183 0 126 (dk_at dksX7_opens_0 18 rfl rfl)
theorem dX7_opens_21 : decode cX7_opens 21 = .ok (.athrow, 1) := dk_191 (dk_at dksX7_opens_0 21 rfl rfl)
theorem dX7_opens_22 : decode cX7_opens 22 = .ok (.aload_n 0, 1) := dk_42 (dk_at dksX7_opens_0 22 rfl rfl)
theorem dX7_opens_23 : decode cX7_opens 23 = .ok (.dup, 1) := dk_89 (dk_at dksX7_opens_0 23 rfl rfl)
theorem dX7_opens_24 : decode cX7_opens 24 = .ok (.getfield 132, 3) := dk_180 0 132 (dk_at dksX7_opens_1 0 rfl rfl)
theorem dX7_opens_27 : decode cX7_opens 27 = .ok (.iconst 1, 1) := dk_4 (dk_at dksX7_opens_1 3 rfl rfl)
theorem dX7_opens_28 : decode cX7_opens 28 = .ok (.iadd, 1) := dk_96 (dk_at dksX7_opens_1 4 rfl rfl)
theorem dX7_opens_29 : decode cX7_opens 29 = .ok (.putfield 132, 3) := dk_181 0 132 (dk_at dksX7_opens_1 5 rfl rfl)
theorem dX7_opens_32 : decode cX7_opens 32 = .ok (.aload_n 0, 1) := dk_42 (dk_at dksX7_opens_1 8 rfl rfl)
theorem dX7_opens_33 : decode cX7_opens 33 = .ok (.invokevirtual 129, 3) := dk_182 0 129 (dk_at dksX7_opens_1 9 rfl rfl)
theorem dX7_opens_36 : decode cX7_opens 36 = .ok (.return_, 1) := dk_177 (dk_at dksX7_opens_1 12 rfl rfl)
abbrev cX7_sum : ByteArray := prog_13_method_14_code
def yX7_sum : MethodName := ⟨RX7, "sum", "()LNotchSticks$Term;"⟩
def dkwX7_sum_2 : List UInt8 := [167, 255, 215, 43, 176]
abbrev dktX7_sum_2 : List UInt8 := dkwX7_sum_2 ++ []
def dkwX7_sum_1 : List UInt8 := [180, 0, 104, 61, 42, 182, 0, 129, 187, 0, 139, 89, 43, 28, 42, 182, 0, 135, 183, 0, 141, 76]
abbrev dktX7_sum_1 : List UInt8 := dkwX7_sum_1 ++ dktX7_sum_2
def dkwX7_sum_0 : List UInt8 := [42, 182, 0, 135, 76, 42, 180, 0, 104, 16, 43, 159, 0, 12, 42, 180, 0, 104, 16, 45, 160, 0, 29, 42]
abbrev dktX7_sum_0 : List UInt8 := dkwX7_sum_0 ++ dktX7_sum_1
theorem dksX7_sum_0 : cX7_sum.data.toList.drop 0 = dktX7_sum_0 := by decide +kernel
theorem dksX7_sum_1 : cX7_sum.data.toList.drop 24 = dktX7_sum_1 := dk_seg dksX7_sum_0 24 rfl rfl
theorem dksX7_sum_2 : cX7_sum.data.toList.drop 46 = dktX7_sum_2 := dk_seg dksX7_sum_1 22 rfl rfl
theorem dX7_sum_0 : decode cX7_sum 0 = .ok (.aload_n 0, 1) := dk_42 (dk_at dksX7_sum_0 0 rfl rfl)
theorem dX7_sum_1 : decode cX7_sum 1 = .ok (.invokevirtual 135, 3) := dk_182 0 135 (dk_at dksX7_sum_0 1 rfl rfl)
theorem dX7_sum_4 : decode cX7_sum 4 = .ok (.astore_n 1, 1) := dk_76 (dk_at dksX7_sum_0 4 rfl rfl)
theorem dX7_sum_5 : decode cX7_sum 5 = .ok (.aload_n 0, 1) := dk_42 (dk_at dksX7_sum_0 5 rfl rfl)
theorem dX7_sum_6 : decode cX7_sum 6 = .ok (.getfield 104, 3) := dk_180 0 104 (dk_at dksX7_sum_0 6 rfl rfl)
theorem dX7_sum_9 : decode cX7_sum 9 = .ok (.bipush 43, 2) := dk_16 43 (dk_at dksX7_sum_0 9 rfl rfl)
theorem dX7_sum_11 : decode cX7_sum 11 = .ok (.if_icmp .eq 12, 3) := dk_159 0 12 (dk_at dksX7_sum_0 11 rfl rfl)
theorem dX7_sum_14 : decode cX7_sum 14 = .ok (.aload_n 0, 1) := dk_42 (dk_at dksX7_sum_0 14 rfl rfl)
theorem dX7_sum_15 : decode cX7_sum 15 = .ok (.getfield 104, 3) := dk_180 0 104 (dk_at dksX7_sum_0 15 rfl rfl)
theorem dX7_sum_18 : decode cX7_sum 18 = .ok (.bipush 45, 2) := dk_16 45 (dk_at dksX7_sum_0 18 rfl rfl)
theorem dX7_sum_20 : decode cX7_sum 20 = .ok (.if_icmp .ne 29, 3) := dk_160 0 29 (dk_at dksX7_sum_0 20 rfl rfl)
theorem dX7_sum_23 : decode cX7_sum 23 = .ok (.aload_n 0, 1) := dk_42 (dk_at dksX7_sum_0 23 rfl rfl)
theorem dX7_sum_24 : decode cX7_sum 24 = .ok (.getfield 104, 3) := dk_180 0 104 (dk_at dksX7_sum_1 0 rfl rfl)
theorem dX7_sum_27 : decode cX7_sum 27 = .ok (.istore_n 2, 1) := dk_61 (dk_at dksX7_sum_1 3 rfl rfl)
theorem dX7_sum_28 : decode cX7_sum 28 = .ok (.aload_n 0, 1) := dk_42 (dk_at dksX7_sum_1 4 rfl rfl)
theorem dX7_sum_29 : decode cX7_sum 29 = .ok (.invokevirtual 129, 3) := dk_182 0 129 (dk_at dksX7_sum_1 5 rfl rfl)
theorem dX7_sum_32 : decode cX7_sum 32 = .ok (.new 139, 3) := dk_187 0 139 (dk_at dksX7_sum_1 8 rfl rfl)
theorem dX7_sum_35 : decode cX7_sum 35 = .ok (.dup, 1) := dk_89 (dk_at dksX7_sum_1 11 rfl rfl)
theorem dX7_sum_36 : decode cX7_sum 36 = .ok (.aload_n 1, 1) := dk_43 (dk_at dksX7_sum_1 12 rfl rfl)
theorem dX7_sum_37 : decode cX7_sum 37 = .ok (.iload_n 2, 1) := dk_28 (dk_at dksX7_sum_1 13 rfl rfl)
theorem dX7_sum_38 : decode cX7_sum 38 = .ok (.aload_n 0, 1) := dk_42 (dk_at dksX7_sum_1 14 rfl rfl)
theorem dX7_sum_39 : decode cX7_sum 39 = .ok (.invokevirtual 135, 3) := dk_182 0 135 (dk_at dksX7_sum_1 15 rfl rfl)
theorem dX7_sum_42 : decode cX7_sum 42 = .ok (.invokespecial 141, 3) := dk_183 0 141 (dk_at dksX7_sum_1 18 rfl rfl)
theorem dX7_sum_45 : decode cX7_sum 45 = .ok (.astore_n 1, 1) := dk_76 (dk_at dksX7_sum_1 21 rfl rfl)
theorem dX7_sum_46 : decode cX7_sum 46 = .ok (.goto (-41), 3) := dk_167 255 215 (dk_at dksX7_sum_2 0 rfl rfl)
theorem dX7_sum_49 : decode cX7_sum 49 = .ok (.aload_n 1, 1) := dk_43 (dk_at dksX7_sum_2 3 rfl rfl)
theorem dX7_sum_50 : decode cX7_sum 50 = .ok (.areturn, 1) := dk_176 (dk_at dksX7_sum_2 4 rfl rfl)
abbrev cX7_product : ByteArray := prog_13_method_15_code
def yX7_product : MethodName := ⟨RX7, "product", "()LNotchSticks$Term;"⟩
def dkwX7_product_2 : List UInt8 := [42, 4, 182, 0, 149, 183, 0, 153, 167, 0, 7, 42, 182, 0, 144, 183, 0, 141, 76, 167, 255, 194, 43, 176]
abbrev dktX7_product_2 : List UInt8 := dkwX7_product_2 ++ []
def dkwX7_product_1 : List UInt8 := [180, 0, 104, 61, 42, 182, 0, 129, 187, 0, 139, 89, 43, 28, 28, 16, 47, 160, 0, 18, 187, 0, 147, 89]
abbrev dktX7_product_1 : List UInt8 := dkwX7_product_1 ++ dktX7_product_2
def dkwX7_product_0 : List UInt8 := [42, 182, 0, 144, 76, 42, 180, 0, 104, 16, 42, 159, 0, 12, 42, 180, 0, 104, 16, 47, 160, 0, 50, 42]
abbrev dktX7_product_0 : List UInt8 := dkwX7_product_0 ++ dktX7_product_1
theorem dksX7_product_0 : cX7_product.data.toList.drop 0 = dktX7_product_0 := by decide +kernel
theorem dksX7_product_1 : cX7_product.data.toList.drop 24 = dktX7_product_1 := dk_seg dksX7_product_0 24 rfl rfl
theorem dksX7_product_2 : cX7_product.data.toList.drop 48 = dktX7_product_2 := dk_seg dksX7_product_1 24 rfl rfl
theorem dX7_product_0 : decode cX7_product 0 = .ok (.aload_n 0, 1) := dk_42 (dk_at dksX7_product_0 0 rfl rfl)
theorem dX7_product_1 : decode cX7_product 1 = .ok (.invokevirtual 144, 3) := dk_182 0 144 (dk_at dksX7_product_0 1 rfl rfl)
theorem dX7_product_4 : decode cX7_product 4 = .ok (.astore_n 1, 1) := dk_76 (dk_at dksX7_product_0 4 rfl rfl)
theorem dX7_product_5 : decode cX7_product 5 = .ok (.aload_n 0, 1) := dk_42 (dk_at dksX7_product_0 5 rfl rfl)
theorem dX7_product_6 : decode cX7_product 6 = .ok (.getfield 104, 3) := dk_180 0 104 (dk_at dksX7_product_0 6 rfl rfl)
theorem dX7_product_9 : decode cX7_product 9 = .ok (.bipush 42, 2) := dk_16 42 (dk_at dksX7_product_0 9 rfl rfl)
theorem dX7_product_11 : decode cX7_product 11 = .ok (.if_icmp .eq 12, 3) := dk_159 0 12 (dk_at dksX7_product_0 11 rfl rfl)
theorem dX7_product_14 : decode cX7_product 14 = .ok (.aload_n 0, 1) := dk_42 (dk_at dksX7_product_0 14 rfl rfl)
theorem dX7_product_15 : decode cX7_product 15 = .ok (.getfield 104, 3) := dk_180 0 104 (dk_at dksX7_product_0 15 rfl rfl)
theorem dX7_product_18 : decode cX7_product 18 = .ok (.bipush 47, 2) := dk_16 47 (dk_at dksX7_product_0 18 rfl rfl)
theorem dX7_product_20 : decode cX7_product 20 = .ok (.if_icmp .ne 50, 3) := dk_160 0 50 (dk_at dksX7_product_0 20 rfl rfl)
theorem dX7_product_23 : decode cX7_product 23 = .ok (.aload_n 0, 1) := dk_42 (dk_at dksX7_product_0 23 rfl rfl)
theorem dX7_product_24 : decode cX7_product 24 = .ok (.getfield 104, 3) := dk_180 0 104 (dk_at dksX7_product_1 0 rfl rfl)
theorem dX7_product_27 : decode cX7_product 27 = .ok (.istore_n 2, 1) := dk_61 (dk_at dksX7_product_1 3 rfl rfl)
theorem dX7_product_28 : decode cX7_product 28 = .ok (.aload_n 0, 1) := dk_42 (dk_at dksX7_product_1 4 rfl rfl)
theorem dX7_product_29 : decode cX7_product 29 = .ok (.invokevirtual 129, 3) := dk_182 0 129 (dk_at dksX7_product_1 5 rfl rfl)
theorem dX7_product_32 : decode cX7_product 32 = .ok (.new 139, 3) := dk_187 0 139 (dk_at dksX7_product_1 8 rfl rfl)
theorem dX7_product_35 : decode cX7_product 35 = .ok (.dup, 1) := dk_89 (dk_at dksX7_product_1 11 rfl rfl)
theorem dX7_product_36 : decode cX7_product 36 = .ok (.aload_n 1, 1) := dk_43 (dk_at dksX7_product_1 12 rfl rfl)
theorem dX7_product_37 : decode cX7_product 37 = .ok (.iload_n 2, 1) := dk_28 (dk_at dksX7_product_1 13 rfl rfl)
theorem dX7_product_38 : decode cX7_product 38 = .ok (.iload_n 2, 1) := dk_28 (dk_at dksX7_product_1 14 rfl rfl)
theorem dX7_product_39 : decode cX7_product 39 = .ok (.bipush 47, 2) := dk_16 47 (dk_at dksX7_product_1 15 rfl rfl)
theorem dX7_product_41 : decode cX7_product 41 = .ok (.if_icmp .ne 18, 3) := dk_160 0 18 (dk_at dksX7_product_1 17 rfl rfl)
theorem dX7_product_44 : decode cX7_product 44 = .ok (.new 147, 3) := dk_187 0 147 (dk_at dksX7_product_1 20 rfl rfl)
theorem dX7_product_47 : decode cX7_product 47 = .ok (.dup, 1) := dk_89 (dk_at dksX7_product_1 23 rfl rfl)
theorem dX7_product_48 : decode cX7_product 48 = .ok (.aload_n 0, 1) := dk_42 (dk_at dksX7_product_2 0 rfl rfl)
theorem dX7_product_49 : decode cX7_product 49 = .ok (.iconst 1, 1) := dk_4 (dk_at dksX7_product_2 1 rfl rfl)
theorem dX7_product_50 : decode cX7_product 50 = .ok (.invokevirtual 149, 3) := dk_182 0 149 (dk_at dksX7_product_2 2 rfl rfl)
theorem dX7_product_53 : decode cX7_product 53 = .ok (.invokespecial 153, 3) := dk_183 0 153 (dk_at dksX7_product_2 5 rfl rfl)
theorem dX7_product_56 : decode cX7_product 56 = .ok (.goto 7, 3) := dk_167 0 7 (dk_at dksX7_product_2 8 rfl rfl)
theorem dX7_product_59 : decode cX7_product 59 = .ok (.aload_n 0, 1) := dk_42 (dk_at dksX7_product_2 11 rfl rfl)
theorem dX7_product_60 : decode cX7_product 60 = .ok (.invokevirtual 144, 3) := dk_182 0 144 (dk_at dksX7_product_2 12 rfl rfl)
theorem dX7_product_63 : decode cX7_product 63 = .ok (.invokespecial 141, 3) := dk_183 0 141 (dk_at dksX7_product_2 15 rfl rfl)
theorem dX7_product_66 : decode cX7_product 66 = .ok (.astore_n 1, 1) := dk_76 (dk_at dksX7_product_2 18 rfl rfl)
theorem dX7_product_67 : decode cX7_product 67 = .ok (.goto (-62), 3) := dk_167 255 194 (dk_at dksX7_product_2 19 rfl rfl)
theorem dX7_product_70 : decode cX7_product 70 = .ok (.aload_n 1, 1) := dk_43 (dk_at dksX7_product_2 22 rfl rfl)
theorem dX7_product_71 : decode cX7_product 71 = .ok (.areturn, 1) := dk_176 (dk_at dksX7_product_2 23 rfl rfl)
abbrev cX7_unit : ByteArray := prog_13_method_16_code
def yX7_unit : MethodName := ⟨RX7, "unit", "()LNotchSticks$Term;"⟩
def dkwX7_unit_3 : List UInt8 := [183, 0, 158, 176]
abbrev dktX7_unit_3 : List UInt8 := dkwX7_unit_3 ++ []
def dkwX7_unit_2 : List UInt8 := [183, 0, 126, 191, 42, 180, 0, 104, 17, 1, 144, 100, 60, 42, 182, 0, 129, 187, 0, 156, 89, 27]
abbrev dktX7_unit_2 : List UInt8 := dkwX7_unit_2 ++ dktX7_unit_3
def dkwX7_unit_1 : List UInt8 := [180, 0, 104, 17, 1, 144, 17, 1, 158, 184, 0, 34, 154, 0, 16, 187, 0, 124, 89, 4, 42, 180, 0, 38]
abbrev dktX7_unit_1 : List UInt8 := dkwX7_unit_1 ++ dktX7_unit_2
def dkwX7_unit_0 : List UInt8 := [42, 180, 0, 104, 5, 160, 0, 16, 187, 0, 147, 89, 42, 3, 182, 0, 149, 183, 0, 153, 176, 42]
abbrev dktX7_unit_0 : List UInt8 := dkwX7_unit_0 ++ dktX7_unit_1
theorem dksX7_unit_0 : cX7_unit.data.toList.drop 0 = dktX7_unit_0 := by decide +kernel
theorem dksX7_unit_1 : cX7_unit.data.toList.drop 22 = dktX7_unit_1 := dk_seg dksX7_unit_0 22 rfl rfl
theorem dksX7_unit_2 : cX7_unit.data.toList.drop 46 = dktX7_unit_2 := dk_seg dksX7_unit_1 24 rfl rfl
theorem dksX7_unit_3 : cX7_unit.data.toList.drop 68 = dktX7_unit_3 := dk_seg dksX7_unit_2 22 rfl rfl
theorem dX7_unit_0 : decode cX7_unit 0 = .ok (.aload_n 0, 1) := dk_42 (dk_at dksX7_unit_0 0 rfl rfl)
theorem dX7_unit_1 : decode cX7_unit 1 = .ok (.getfield 104, 3) := dk_180 0 104 (dk_at dksX7_unit_0 1 rfl rfl)
theorem dX7_unit_4 : decode cX7_unit 4 = .ok (.iconst 2, 1) := dk_5 (dk_at dksX7_unit_0 4 rfl rfl)
theorem dX7_unit_5 : decode cX7_unit 5 = .ok (.if_icmp .ne 16, 3) := dk_160 0 16 (dk_at dksX7_unit_0 5 rfl rfl)
theorem dX7_unit_8 : decode cX7_unit 8 = .ok (.new 147, 3) := dk_187 0 147 (dk_at dksX7_unit_0 8 rfl rfl)
theorem dX7_unit_11 : decode cX7_unit 11 = .ok (.dup, 1) := dk_89 (dk_at dksX7_unit_0 11 rfl rfl)
theorem dX7_unit_12 : decode cX7_unit 12 = .ok (.aload_n 0, 1) := dk_42 (dk_at dksX7_unit_0 12 rfl rfl)
theorem dX7_unit_13 : decode cX7_unit 13 = .ok (.iconst 0, 1) := dk_3 (dk_at dksX7_unit_0 13 rfl rfl)
theorem dX7_unit_14 : decode cX7_unit 14 = .ok (.invokevirtual 149, 3) := dk_182 0 149 (dk_at dksX7_unit_0 14 rfl rfl)
theorem dX7_unit_17 : decode cX7_unit 17 = .ok (.invokespecial 153, 3) := dk_183 0 153 (dk_at dksX7_unit_0 17 rfl rfl)
theorem dX7_unit_20 : decode cX7_unit 20 = .ok (.areturn, 1) := dk_176 (dk_at dksX7_unit_0 20 rfl rfl)
theorem dX7_unit_21 : decode cX7_unit 21 = .ok (.aload_n 0, 1) := dk_42 (dk_at dksX7_unit_0 21 rfl rfl)
theorem dX7_unit_22 : decode cX7_unit 22 = .ok (.getfield 104, 3) := dk_180 0 104 (dk_at dksX7_unit_1 0 rfl rfl)
theorem dX7_unit_25 : decode cX7_unit 25 = .ok (.sipush 400, 3) := dk_17 1 144 (dk_at dksX7_unit_1 3 rfl rfl)
theorem dX7_unit_28 : decode cX7_unit 28 = .ok (.sipush 414, 3) := dk_17 1 158 (dk_at dksX7_unit_1 6 rfl rfl)
theorem dX7_unit_31 : decode cX7_unit 31 = .ok (.invokestatic 34, 3) := dk_184 0 34 (dk_at dksX7_unit_1 9 rfl rfl)
theorem dX7_unit_34 : decode cX7_unit 34 = .ok (.ifCond .ne 16, 3) := dk_154 0 16 (dk_at dksX7_unit_1 12 rfl rfl)
theorem dX7_unit_37 : decode cX7_unit 37 = .ok (.new 124, 3) := dk_187 0 124 (dk_at dksX7_unit_1 15 rfl rfl)
theorem dX7_unit_40 : decode cX7_unit 40 = .ok (.dup, 1) := dk_89 (dk_at dksX7_unit_1 18 rfl rfl)
theorem dX7_unit_41 : decode cX7_unit 41 = .ok (.iconst 1, 1) := dk_4 (dk_at dksX7_unit_1 19 rfl rfl)
theorem dX7_unit_42 : decode cX7_unit 42 = .ok (.aload_n 0, 1) := dk_42 (dk_at dksX7_unit_1 20 rfl rfl)
theorem dX7_unit_43 : decode cX7_unit 43 = .ok (.getfield 38, 3) := dk_180 0 38 (dk_at dksX7_unit_1 21 rfl rfl)
theorem dX7_unit_46 : decode cX7_unit 46 = .ok (.invokespecial 126, 3) := dk_183 0 126 (dk_at dksX7_unit_2 0 rfl rfl)
theorem dX7_unit_49 : decode cX7_unit 49 = .ok (.athrow, 1) := dk_191 (dk_at dksX7_unit_2 3 rfl rfl)
theorem dX7_unit_50 : decode cX7_unit 50 = .ok (.aload_n 0, 1) := dk_42 (dk_at dksX7_unit_2 4 rfl rfl)
theorem dX7_unit_51 : decode cX7_unit 51 = .ok (.getfield 104, 3) := dk_180 0 104 (dk_at dksX7_unit_2 5 rfl rfl)
theorem dX7_unit_54 : decode cX7_unit 54 = .ok (.sipush 400, 3) := dk_17 1 144 (dk_at dksX7_unit_2 8 rfl rfl)
theorem dX7_unit_57 : decode cX7_unit 57 = .ok (.isub, 1) := dk_100 (dk_at dksX7_unit_2 11 rfl rfl)
theorem dX7_unit_58 : decode cX7_unit 58 = .ok (.istore_n 1, 1) := dk_60 (dk_at dksX7_unit_2 12 rfl rfl)
theorem dX7_unit_59 : decode cX7_unit 59 = .ok (.aload_n 0, 1) := dk_42 (dk_at dksX7_unit_2 13 rfl rfl)
theorem dX7_unit_60 : decode cX7_unit 60 = .ok (.invokevirtual 129, 3) := dk_182 0 129 (dk_at dksX7_unit_2 14 rfl rfl)
theorem dX7_unit_63 : decode cX7_unit 63 = .ok (.new 156, 3) := dk_187 0 156 (dk_at dksX7_unit_2 17 rfl rfl)
theorem dX7_unit_66 : decode cX7_unit 66 = .ok (.dup, 1) := dk_89 (dk_at dksX7_unit_2 20 rfl rfl)
theorem dX7_unit_67 : decode cX7_unit 67 = .ok (.iload_n 1, 1) := dk_27 (dk_at dksX7_unit_2 21 rfl rfl)
theorem dX7_unit_68 : decode cX7_unit 68 = .ok (.invokespecial 158, 3) := dk_183 0 158 (dk_at dksX7_unit_3 0 rfl rfl)
theorem dX7_unit_71 : decode cX7_unit 71 = .ok (.areturn, 1) := dk_176 (dk_at dksX7_unit_3 3 rfl rfl)
abbrev cX7_number : ByteArray := prog_13_method_12_code
def yX7_number : MethodName := ⟨RX7, "number", "(I)I"⟩
def dkwX7_number_2 : List UInt8 := [61, 42, 182, 0, 129, 28, 172]
abbrev dktX7_number_2 : List UInt8 := dkwX7_number_2 ++ []
def dkwX7_number_1 : List UInt8 := [180, 0, 117, 27, 162, 0, 16, 187, 0, 124, 89, 5, 42, 180, 0, 38, 183, 0, 126, 191, 42, 180, 0, 117]
abbrev dktX7_number_1 : List UInt8 := dkwX7_number_1 ++ dktX7_number_2
def dkwX7_number_0 : List UInt8 := [42, 180, 0, 104, 5, 159, 0, 16, 187, 0, 124, 89, 4, 42, 180, 0, 38, 183, 0, 126, 191, 42]
abbrev dktX7_number_0 : List UInt8 := dkwX7_number_0 ++ dktX7_number_1
theorem dksX7_number_0 : cX7_number.data.toList.drop 0 = dktX7_number_0 := by decide +kernel
theorem dksX7_number_1 : cX7_number.data.toList.drop 22 = dktX7_number_1 := dk_seg dksX7_number_0 22 rfl rfl
theorem dksX7_number_2 : cX7_number.data.toList.drop 46 = dktX7_number_2 := dk_seg dksX7_number_1 24 rfl rfl
theorem dX7_number_0 : decode cX7_number 0 = .ok (.aload_n 0, 1) := dk_42 (dk_at dksX7_number_0 0 rfl rfl)
theorem dX7_number_1 : decode cX7_number 1 = .ok (.getfield 104, 3) := dk_180 0 104 (dk_at dksX7_number_0 1 rfl rfl)
theorem dX7_number_4 : decode cX7_number 4 = .ok (.iconst 2, 1) := dk_5 (dk_at dksX7_number_0 4 rfl rfl)
theorem dX7_number_5 : decode cX7_number 5 = .ok (.if_icmp .eq 16, 3) := dk_159 0 16 (dk_at dksX7_number_0 5 rfl rfl)
theorem dX7_number_8 : decode cX7_number 8 = .ok (.new 124, 3) := dk_187 0 124 (dk_at dksX7_number_0 8 rfl rfl)
theorem dX7_number_11 : decode cX7_number 11 = .ok (.dup, 1) := dk_89 (dk_at dksX7_number_0 11 rfl rfl)
theorem dX7_number_12 : decode cX7_number 12 = .ok (.iconst 1, 1) := dk_4 (dk_at dksX7_number_0 12 rfl rfl)
theorem dX7_number_13 : decode cX7_number 13 = .ok (.aload_n 0, 1) := dk_42 (dk_at dksX7_number_0 13 rfl rfl)
theorem dX7_number_14 : decode cX7_number 14 = .ok (.getfield 38, 3) := dk_180 0 38 (dk_at dksX7_number_0 14 rfl rfl)
theorem dX7_number_17 : decode cX7_number 17 = .ok (.invokespecial 126, 3) := dk_183 0 126 (dk_at dksX7_number_0 17 rfl rfl)
theorem dX7_number_20 : decode cX7_number 20 = .ok (.athrow, 1) := dk_191 (dk_at dksX7_number_0 20 rfl rfl)
theorem dX7_number_21 : decode cX7_number 21 = .ok (.aload_n 0, 1) := dk_42 (dk_at dksX7_number_0 21 rfl rfl)
theorem dX7_number_22 : decode cX7_number 22 = .ok (.getfield 117, 3) := dk_180 0 117 (dk_at dksX7_number_1 0 rfl rfl)
theorem dX7_number_25 : decode cX7_number 25 = .ok (.iload_n 1, 1) := dk_27 (dk_at dksX7_number_1 3 rfl rfl)
theorem dX7_number_26 : decode cX7_number 26 = .ok (.if_icmp .ge 16, 3) := dk_162 0 16 (dk_at dksX7_number_1 4 rfl rfl)
theorem dX7_number_29 : decode cX7_number 29 = .ok (.new 124, 3) := dk_187 0 124 (dk_at dksX7_number_1 7 rfl rfl)
theorem dX7_number_32 : decode cX7_number 32 = .ok (.dup, 1) := dk_89 (dk_at dksX7_number_1 10 rfl rfl)
theorem dX7_number_33 : decode cX7_number 33 = .ok (.iconst 2, 1) := dk_5 (dk_at dksX7_number_1 11 rfl rfl)
theorem dX7_number_34 : decode cX7_number 34 = .ok (.aload_n 0, 1) := dk_42 (dk_at dksX7_number_1 12 rfl rfl)
theorem dX7_number_35 : decode cX7_number 35 = .ok (.getfield 38, 3) := dk_180 0 38 (dk_at dksX7_number_1 13 rfl rfl)
theorem dX7_number_38 : decode cX7_number 38 = .ok (.invokespecial 126, 3) := dk_183 0 126 (dk_at dksX7_number_1 16 rfl rfl)
theorem dX7_number_41 : decode cX7_number 41 = .ok (.athrow, 1) := dk_191 (dk_at dksX7_number_1 19 rfl rfl)
theorem dX7_number_42 : decode cX7_number 42 = .ok (.aload_n 0, 1) := dk_42 (dk_at dksX7_number_1 20 rfl rfl)
theorem dX7_number_43 : decode cX7_number 43 = .ok (.getfield 117, 3) := dk_180 0 117 (dk_at dksX7_number_1 21 rfl rfl)
theorem dX7_number_46 : decode cX7_number 46 = .ok (.istore_n 2, 1) := dk_61 (dk_at dksX7_number_2 0 rfl rfl)
theorem dX7_number_47 : decode cX7_number 47 = .ok (.aload_n 0, 1) := dk_42 (dk_at dksX7_number_2 1 rfl rfl)
theorem dX7_number_48 : decode cX7_number 48 = .ok (.invokevirtual 129, 3) := dk_182 0 129 (dk_at dksX7_number_2 2 rfl rfl)
theorem dX7_number_51 : decode cX7_number 51 = .ok (.iload_n 2, 1) := dk_28 (dk_at dksX7_number_2 5 rfl rfl)
theorem dX7_number_52 : decode cX7_number 52 = .ok (.ireturn, 1) := dk_172 (dk_at dksX7_number_2 6 rfl rfl)
theorem q125 : (Jvm.Cond.initialized "NotchSticks$Reader") ∈ lw_all := lw_g (lw_at lw_m1 15 rfl) rfl
theorem q218 : (Jvm.Cond.selects "NotchSticks$Reader" ({ cls := "java/lang/Object", name := "getClass", desc := "()Ljava/lang/Class;" } : Jvm.MethodName) ({ cls := "java/lang/Object", name := "getClass", desc := "()Ljava/lang/Class;" } : Jvm.MethodName)) ∈ lw_all := lw_g (lw_at lw_m1 108 rfl) rfl
theorem q371 : (Jvm.Cond.fieldLinkNest "NotchSticks$Reader" (26 : Nat) "NotchSticks" "tape" "[B" "NotchSticks") ∈ lw_tbl := lw_at lw_m2 21 rfl
theorem q372 : (Jvm.Cond.fieldLinkNest "NotchSticks$Reader" (23 : Nat) "NotchSticks" "taped" "I" "NotchSticks") ∈ lw_tbl := lw_at lw_m2 22 rfl
theorem q453 : (Jvm.Cond.instantiable "NotchSticks$Reader" (7 : Nat)) ∈ lw_all := lw_g (lw_at lw_m2 103 rfl) rfl
theorem q455 : (Jvm.Cond.instanceMethod ({ cls := "NotchSticks$Reader", name := "<init>", desc := "(LNotchSticks;Z)V" } : Jvm.MethodName)) ∈ lw_all := lw_g (lw_at lw_m2 105 rfl) rfl
theorem q456 : (Jvm.Cond.code ({ cls := "NotchSticks$Reader", name := "<init>", desc := "(LNotchSticks;Z)V" } : Jvm.MethodName) prog_13_method_1_code (3 : Nat) (Option.none : Option Jvm.ClassFile.FieldType)) ∈ lw_all := lw_g (lw_at lw_m2 106 rfl) rfl
theorem q457 : (Jvm.Cond.methodLink "NotchSticks$Reader" (9 : Nat) ({ cls := "java/lang/Object", name := "<init>", desc := "()V" } : Jvm.MethodName)) ∈ lw_all := lw_g (lw_at lw_m2 107 rfl) rfl
theorem q458 : (Jvm.Cond.fieldLink "NotchSticks$Reader" (15 : Nat) "NotchSticks$Reader" "isLaw" "Z") ∈ lw_all := lw_g (lw_at lw_m2 108 rfl) rfl
theorem q459 : (Jvm.Cond.fieldLink "NotchSticks$Reader" (19 : Nat) "NotchSticks$Reader" "at" "I") ∈ lw_all := lw_g (lw_at lw_m2 109 rfl) rfl
theorem q460 : (Jvm.Cond.fieldLink "NotchSticks$Reader" (38 : Nat) "NotchSticks$Reader" "start" "I") ∈ lw_all := lw_g (lw_at lw_m2 110 rfl) rfl
theorem q461 : (Jvm.Cond.fieldLink "NotchSticks$Reader" (104 : Nat) "NotchSticks$Reader" "token" "I") ∈ lw_all := lw_g (lw_at lw_m2 111 rfl) rfl
theorem q462 : (Jvm.Cond.fieldLink "NotchSticks$Reader" (117 : Nat) "NotchSticks$Reader" "value" "I") ∈ lw_all := lw_g (lw_at lw_m2 112 rfl) rfl
theorem q463 : (Jvm.Cond.fieldLink "NotchSticks$Reader" (132 : Nat) "NotchSticks$Reader" "open" "I") ∈ lw_all := lw_g (lw_at lw_m2 113 rfl) rfl
theorem q464 : (Jvm.Cond.fieldLink "NotchSticks$Reader" (3 : Nat) "NotchSticks$Reader" "this$0" "LNotchSticks;") ∈ lw_all := lw_g (lw_at lw_m2 114 rfl) rfl
theorem q465 : (Jvm.Cond.laysFinal "NotchSticks$Reader" "NotchSticks$Reader" "isLaw" "Z") ∈ lw_all := lw_g (lw_at lw_m2 115 rfl) rfl
theorem q466 : (Jvm.Cond.soleField "NotchSticks$Reader" "isLaw") ∈ lw_all := lw_g (lw_at lw_m2 116 rfl) rfl
theorem q467 : (Jvm.Cond.lays "NotchSticks$Reader" "NotchSticks$Reader" "at" "I") ∈ lw_all := lw_g (lw_at lw_m2 117 rfl) rfl
theorem q468 : (Jvm.Cond.soleField "NotchSticks$Reader" "at") ∈ lw_all := lw_g (lw_at lw_m2 118 rfl) rfl
theorem q469 : (Jvm.Cond.lays "NotchSticks$Reader" "NotchSticks$Reader" "start" "I") ∈ lw_all := lw_g (lw_at lw_m2 119 rfl) rfl
theorem q470 : (Jvm.Cond.soleField "NotchSticks$Reader" "start") ∈ lw_all := lw_g (lw_at lw_m2 120 rfl) rfl
theorem q471 : (Jvm.Cond.lays "NotchSticks$Reader" "NotchSticks$Reader" "token" "I") ∈ lw_all := lw_g (lw_at lw_m2 121 rfl) rfl
theorem q472 : (Jvm.Cond.soleField "NotchSticks$Reader" "token") ∈ lw_all := lw_g (lw_at lw_m2 122 rfl) rfl
theorem q473 : (Jvm.Cond.lays "NotchSticks$Reader" "NotchSticks$Reader" "value" "I") ∈ lw_all := lw_g (lw_at lw_m2 123 rfl) rfl
theorem q474 : (Jvm.Cond.soleField "NotchSticks$Reader" "value") ∈ lw_all := lw_g (lw_at lw_m2 124 rfl) rfl
theorem q475 : (Jvm.Cond.lays "NotchSticks$Reader" "NotchSticks$Reader" "open" "I") ∈ lw_all := lw_g (lw_at lw_m2 125 rfl) rfl
theorem q476 : (Jvm.Cond.soleField "NotchSticks$Reader" "open") ∈ lw_all := lw_g (lw_at lw_m2 126 rfl) rfl
theorem q477 : (Jvm.Cond.laysFinal "NotchSticks$Reader" "NotchSticks$Reader" "this$0" "LNotchSticks;") ∈ lw_all := lw_g (lw_at lw_m2 127 rfl) rfl
theorem q478 : (Jvm.Cond.soleField "NotchSticks$Reader" "this$0") ∈ lw_all := lw_g (lw_at lw_m2 128 rfl) rfl
theorem q479 : (Jvm.Cond.superclass "NotchSticks$Reader" "java/lang/Object") ∈ lw_all := lw_g (lw_at lw_m2 129 rfl) rfl
theorem q481 : (Jvm.Cond.instanceMethod ({ cls := "NotchSticks$Reader", name := "read", desc := "()Ljava/util/ArrayList;" } : Jvm.MethodName)) ∈ lw_all := lw_g (lw_at lw_m2 131 rfl) rfl
theorem q482 : (Jvm.Cond.selects "NotchSticks$Reader" ({ cls := "NotchSticks$Reader", name := "read", desc := "()Ljava/util/ArrayList;" } : Jvm.MethodName) ({ cls := "NotchSticks$Reader", name := "read", desc := "()Ljava/util/ArrayList;" } : Jvm.MethodName)) ∈ lw_all := lw_g (lw_at lw_m2 132 rfl) rfl
theorem q483 : (Jvm.Cond.code ({ cls := "NotchSticks$Reader", name := "read", desc := "()Ljava/util/ArrayList;" } : Jvm.MethodName) prog_13_method_20_code (4 : Nat) (Option.some (Jvm.ClassFile.FieldType.object "java/util/ArrayList"))) ∈ lw_all := lw_g (lw_at lw_m2 133 rfl) rfl
theorem q484 : (Jvm.Cond.classLink "NotchSticks$Reader" (182 : Nat) "java/util/ArrayList") ∈ lw_all := lw_g (lw_at lw_m2 134 rfl) rfl
theorem q485 : (Jvm.Cond.methodLink "NotchSticks$Reader" (184 : Nat) ({ cls := "java/util/ArrayList", name := "<init>", desc := "()V" } : Jvm.MethodName)) ∈ lw_all := lw_g (lw_at lw_m2 135 rfl) rfl
theorem q486 : (Jvm.Cond.methodLink "NotchSticks$Reader" (129 : Nat) ({ cls := "NotchSticks$Reader", name := "next", desc := "()V" } : Jvm.MethodName)) ∈ lw_all := lw_g (lw_at lw_m2 136 rfl) rfl
theorem q487 : (Jvm.Cond.privateMethod ({ cls := "NotchSticks$Reader", name := "next", desc := "()V" } : Jvm.MethodName)) ∈ lw_tbl := lw_at lw_m2 137 rfl
theorem q488 : (Jvm.Cond.instanceMethod ({ cls := "NotchSticks$Reader", name := "next", desc := "()V" } : Jvm.MethodName)) ∈ lw_all := lw_g (lw_at lw_m2 138 rfl) rfl
theorem q489 : (Jvm.Cond.code ({ cls := "NotchSticks$Reader", name := "next", desc := "()V" } : Jvm.MethodName) prog_13_method_10_code (1 : Nat) (Option.none : Option Jvm.ClassFile.FieldType)) ∈ lw_all := lw_g (lw_at lw_m2 139 rfl) rfl
theorem q490 : (Jvm.Cond.methodLink "NotchSticks$Reader" (30 : Nat) ({ cls := "NotchSticks$Reader", name := "see", desc := "()I" } : Jvm.MethodName)) ∈ lw_all := lw_g (lw_at lw_m2 140 rfl) rfl
theorem q491 : (Jvm.Cond.privateMethod ({ cls := "NotchSticks$Reader", name := "see", desc := "()I" } : Jvm.MethodName)) ∈ lw_tbl := lw_at lw_m2 141 rfl
theorem q492 : (Jvm.Cond.instanceMethod ({ cls := "NotchSticks$Reader", name := "see", desc := "()I" } : Jvm.MethodName)) ∈ lw_all := lw_g (lw_at lw_m2 142 rfl) rfl
theorem q493 : (Jvm.Cond.code ({ cls := "NotchSticks$Reader", name := "see", desc := "()I" } : Jvm.MethodName) prog_13_method_2_code (1 : Nat) (Option.some Jvm.ClassFile.FieldType.int)) ∈ lw_all := lw_g (lw_at lw_m2 143 rfl) rfl
theorem q494 : (Jvm.Cond.methodLink "NotchSticks$Reader" (107 : Nat) ({ cls := "NotchSticks$Reader", name := "isLetter", desc := "()Z" } : Jvm.MethodName)) ∈ lw_all := lw_g (lw_at lw_m2 144 rfl) rfl
theorem q495 : (Jvm.Cond.privateMethod ({ cls := "NotchSticks$Reader", name := "isLetter", desc := "()Z" } : Jvm.MethodName)) ∈ lw_tbl := lw_at lw_m2 145 rfl
theorem q496 : (Jvm.Cond.instanceMethod ({ cls := "NotchSticks$Reader", name := "isLetter", desc := "()Z" } : Jvm.MethodName)) ∈ lw_all := lw_g (lw_at lw_m2 146 rfl) rfl
theorem q497 : (Jvm.Cond.code ({ cls := "NotchSticks$Reader", name := "isLetter", desc := "()Z" } : Jvm.MethodName) prog_13_method_3_code (1 : Nat) (Option.some Jvm.ClassFile.FieldType.boolean)) ∈ lw_all := lw_g (lw_at lw_m2 147 rfl) rfl
theorem q498 : (Jvm.Cond.methodLinkNest "NotchSticks$Reader" (34 : Nat) ({ cls := "NotchSticks", name := "isIn", desc := "(III)Z" } : Jvm.MethodName) "NotchSticks") ∈ lw_tbl := lw_at lw_m2 148 rfl
theorem q499 : (Jvm.Cond.methodLink "NotchSticks$Reader" (111 : Nat) ({ cls := "NotchSticks$Reader", name := "keyword", desc := "()I" } : Jvm.MethodName)) ∈ lw_all := lw_g (lw_at lw_m2 149 rfl) rfl
theorem q500 : (Jvm.Cond.privateMethod ({ cls := "NotchSticks$Reader", name := "keyword", desc := "()I" } : Jvm.MethodName)) ∈ lw_tbl := lw_at lw_m2 150 rfl
theorem q501 : (Jvm.Cond.instanceMethod ({ cls := "NotchSticks$Reader", name := "keyword", desc := "()I" } : Jvm.MethodName)) ∈ lw_all := lw_g (lw_at lw_m2 151 rfl) rfl
theorem q502 : (Jvm.Cond.code ({ cls := "NotchSticks$Reader", name := "keyword", desc := "()I" } : Jvm.MethodName) prog_13_method_8_code (2 : Nat) (Option.some Jvm.ClassFile.FieldType.int)) ∈ lw_all := lw_g (lw_at lw_m2 152 rfl) rfl
theorem q503 : (Jvm.Cond.methodLink "NotchSticks$Reader" (96 : Nat) ({ cls := "NotchSticks$Reader", name := "both", desc := "()I" } : Jvm.MethodName)) ∈ lw_all := lw_g (lw_at lw_m2 153 rfl) rfl
theorem q504 : (Jvm.Cond.privateMethod ({ cls := "NotchSticks$Reader", name := "both", desc := "()I" } : Jvm.MethodName)) ∈ lw_tbl := lw_at lw_m2 154 rfl
theorem q505 : (Jvm.Cond.instanceMethod ({ cls := "NotchSticks$Reader", name := "both", desc := "()I" } : Jvm.MethodName)) ∈ lw_all := lw_g (lw_at lw_m2 155 rfl) rfl
theorem q506 : (Jvm.Cond.code ({ cls := "NotchSticks$Reader", name := "both", desc := "()I" } : Jvm.MethodName) prog_13_method_6_code (1 : Nat) (Option.some Jvm.ClassFile.FieldType.int)) ∈ lw_all := lw_g (lw_at lw_m2 156 rfl) rfl
theorem q507 : (Jvm.Cond.stringRef "NotchSticks$Reader" (50 : Nat) "when") ∈ lw_tbl := lw_at lw_m2 157 rfl
theorem q508 : (Jvm.Cond.methodLink "NotchSticks$Reader" (52 : Nat) ({ cls := "NotchSticks$Reader", name := "is", desc := "(Ljava/lang/String;)Z" } : Jvm.MethodName)) ∈ lw_all := lw_g (lw_at lw_m2 158 rfl) rfl
theorem q509 : (Jvm.Cond.privateMethod ({ cls := "NotchSticks$Reader", name := "is", desc := "(Ljava/lang/String;)Z" } : Jvm.MethodName)) ∈ lw_tbl := lw_at lw_m2 159 rfl
theorem q510 : (Jvm.Cond.instanceMethod ({ cls := "NotchSticks$Reader", name := "is", desc := "(Ljava/lang/String;)Z" } : Jvm.MethodName)) ∈ lw_all := lw_g (lw_at lw_m2 160 rfl) rfl
theorem q511 : (Jvm.Cond.code ({ cls := "NotchSticks$Reader", name := "is", desc := "(Ljava/lang/String;)Z" } : Jvm.MethodName) prog_13_method_5_code (4 : Nat) (Option.some Jvm.ClassFile.FieldType.boolean)) ∈ lw_all := lw_g (lw_at lw_m2 161 rfl) rfl
theorem q512 : (Jvm.Cond.methodLink "NotchSticks$Reader" (41 : Nat) ({ cls := "java/lang/String", name := "length", desc := "()I" } : Jvm.MethodName)) ∈ lw_all := lw_g (lw_at lw_m2 162 rfl) rfl
theorem q522 : (Jvm.Cond.methodLink "NotchSticks$Reader" (46 : Nat) ({ cls := "java/lang/String", name := "charAt", desc := "(I)C" } : Jvm.MethodName)) ∈ lw_all := lw_g (lw_at lw_m2 172 rfl) rfl
theorem q560 : (Jvm.Cond.stringRef "NotchSticks$Reader" (56 : Nat) "or") ∈ lw_tbl := lw_at lw_m2 210 rfl
theorem q561 : (Jvm.Cond.stringRef "NotchSticks$Reader" (58 : Nat) "and") ∈ lw_tbl := lw_at lw_m2 211 rfl
theorem q562 : (Jvm.Cond.stringRef "NotchSticks$Reader" (60 : Nat) "not") ∈ lw_tbl := lw_at lw_m2 212 rfl
theorem q563 : (Jvm.Cond.stringRef "NotchSticks$Reader" (62 : Nat) "kept") ∈ lw_tbl := lw_at lw_m2 213 rfl
theorem q564 : (Jvm.Cond.stringRef "NotchSticks$Reader" (64 : Nat) "broken") ∈ lw_tbl := lw_at lw_m2 214 rfl
theorem q565 : (Jvm.Cond.stringRef "NotchSticks$Reader" (66 : Nat) "large") ∈ lw_tbl := lw_at lw_m2 215 rfl
theorem q566 : (Jvm.Cond.stringRef "NotchSticks$Reader" (68 : Nat) "lost") ∈ lw_tbl := lw_at lw_m2 216 rfl
theorem q567 : (Jvm.Cond.stringRef "NotchSticks$Reader" (70 : Nat) "size") ∈ lw_tbl := lw_at lw_m2 217 rfl
theorem q568 : (Jvm.Cond.stringRef "NotchSticks$Reader" (72 : Nat) "age") ∈ lw_tbl := lw_at lw_m2 218 rfl
theorem q569 : (Jvm.Cond.stringRef "NotchSticks$Reader" (74 : Nat) "year") ∈ lw_tbl := lw_at lw_m2 219 rfl
theorem q570 : (Jvm.Cond.methodLink "NotchSticks$Reader" (99 : Nat) ({ cls := "NotchSticks$Reader", name := "ofRules", desc := "()I" } : Jvm.MethodName)) ∈ lw_all := lw_g (lw_at lw_m2 220 rfl) rfl
theorem q571 : (Jvm.Cond.privateMethod ({ cls := "NotchSticks$Reader", name := "ofRules", desc := "()I" } : Jvm.MethodName)) ∈ lw_tbl := lw_at lw_m2 221 rfl
theorem q572 : (Jvm.Cond.instanceMethod ({ cls := "NotchSticks$Reader", name := "ofRules", desc := "()I" } : Jvm.MethodName)) ∈ lw_all := lw_g (lw_at lw_m2 222 rfl) rfl
theorem q573 : (Jvm.Cond.code ({ cls := "NotchSticks$Reader", name := "ofRules", desc := "()I" } : Jvm.MethodName) prog_13_method_7_code (1 : Nat) (Option.some Jvm.ClassFile.FieldType.int)) ∈ lw_all := lw_g (lw_at lw_m2 223 rfl) rfl
theorem q574 : (Jvm.Cond.stringRef "NotchSticks$Reader" (76 : Nat) "deal") ∈ lw_tbl := lw_at lw_m2 224 rfl
theorem q575 : (Jvm.Cond.stringRef "NotchSticks$Reader" (78 : Nat) "break") ∈ lw_tbl := lw_at lw_m2 225 rfl
theorem q576 : (Jvm.Cond.stringRef "NotchSticks$Reader" (80 : Nat) "okept") ∈ lw_tbl := lw_at lw_m2 226 rfl
theorem q577 : (Jvm.Cond.stringRef "NotchSticks$Reader" (82 : Nat) "obroken") ∈ lw_tbl := lw_at lw_m2 227 rfl
theorem q578 : (Jvm.Cond.stringRef "NotchSticks$Reader" (84 : Nat) "olarge") ∈ lw_tbl := lw_at lw_m2 228 rfl
theorem q579 : (Jvm.Cond.stringRef "NotchSticks$Reader" (86 : Nat) "olost") ∈ lw_tbl := lw_at lw_m2 229 rfl
theorem q580 : (Jvm.Cond.stringRef "NotchSticks$Reader" (88 : Nat) "oage") ∈ lw_tbl := lw_at lw_m2 230 rfl
theorem q581 : (Jvm.Cond.stringRef "NotchSticks$Reader" (90 : Nat) "lawful") ∈ lw_tbl := lw_at lw_m2 231 rfl
theorem q582 : (Jvm.Cond.stringRef "NotchSticks$Reader" (92 : Nat) "olawful") ∈ lw_tbl := lw_at lw_m2 232 rfl
theorem q583 : (Jvm.Cond.stringRef "NotchSticks$Reader" (94 : Nat) "purse") ∈ lw_tbl := lw_at lw_m2 233 rfl
theorem q584 : (Jvm.Cond.stringRef "NotchSticks$Reader" (102 : Nat) "may") ∈ lw_tbl := lw_at lw_m2 234 rfl
theorem q585 : (Jvm.Cond.methodLink "NotchSticks$Reader" (114 : Nat) ({ cls := "NotchSticks$Reader", name := "isDigit", desc := "()Z" } : Jvm.MethodName)) ∈ lw_all := lw_g (lw_at lw_m2 235 rfl) rfl
theorem q586 : (Jvm.Cond.privateMethod ({ cls := "NotchSticks$Reader", name := "isDigit", desc := "()Z" } : Jvm.MethodName)) ∈ lw_tbl := lw_at lw_m2 236 rfl
theorem q587 : (Jvm.Cond.instanceMethod ({ cls := "NotchSticks$Reader", name := "isDigit", desc := "()Z" } : Jvm.MethodName)) ∈ lw_all := lw_g (lw_at lw_m2 237 rfl) rfl
theorem q588 : (Jvm.Cond.code ({ cls := "NotchSticks$Reader", name := "isDigit", desc := "()Z" } : Jvm.MethodName) prog_13_method_4_code (1 : Nat) (Option.some Jvm.ClassFile.FieldType.boolean)) ∈ lw_all := lw_g (lw_at lw_m2 238 rfl) rfl
theorem q589 : (Jvm.Cond.methodLink "NotchSticks$Reader" (120 : Nat) ({ cls := "NotchSticks$Reader", name := "isMark", desc := "(I)Z" } : Jvm.MethodName)) ∈ lw_all := lw_g (lw_at lw_m2 239 rfl) rfl
theorem q590 : (Jvm.Cond.privateMethod ({ cls := "NotchSticks$Reader", name := "isMark", desc := "(I)Z" } : Jvm.MethodName)) ∈ lw_tbl := lw_at lw_m3 0 rfl
theorem q591 : (Jvm.Cond.instanceMethod ({ cls := "NotchSticks$Reader", name := "isMark", desc := "(I)Z" } : Jvm.MethodName)) ∈ lw_all := lw_g (lw_at lw_m3 1 rfl) rfl
theorem q592 : (Jvm.Cond.code ({ cls := "NotchSticks$Reader", name := "isMark", desc := "(I)Z" } : Jvm.MethodName) prog_13_method_9_code (2 : Nat) (Option.some Jvm.ClassFile.FieldType.boolean)) ∈ lw_all := lw_g (lw_at lw_m3 2 rfl) rfl
theorem q593 : (Jvm.Cond.classLink "NotchSticks$Reader" (124 : Nat) "NotchSticks$Fault") ∈ lw_all := lw_g (lw_at lw_m3 3 rfl) rfl
theorem q630 : (Jvm.Cond.methodLink "NotchSticks$Reader" (126 : Nat) ({ cls := "NotchSticks$Fault", name := "<init>", desc := "(II)V" } : Jvm.MethodName)) ∈ lw_all := lw_g (lw_at lw_m3 40 rfl) rfl
theorem q657 : (Jvm.Cond.methodLink "NotchSticks$Reader" (185 : Nat) ({ cls := "java/util/ArrayList", name := "size", desc := "()I" } : Jvm.MethodName)) ∈ lw_all := lw_g (lw_at lw_m3 67 rfl) rfl
theorem q661 : (Jvm.Cond.methodLink "NotchSticks$Reader" (176 : Nat) ({ cls := "NotchSticks$Reader", name := "must", desc := "(I)V" } : Jvm.MethodName)) ∈ lw_all := lw_g (lw_at lw_m3 71 rfl) rfl
theorem q662 : (Jvm.Cond.privateMethod ({ cls := "NotchSticks$Reader", name := "must", desc := "(I)V" } : Jvm.MethodName)) ∈ lw_tbl := lw_at lw_m3 72 rfl
theorem q663 : (Jvm.Cond.instanceMethod ({ cls := "NotchSticks$Reader", name := "must", desc := "(I)V" } : Jvm.MethodName)) ∈ lw_all := lw_g (lw_at lw_m3 73 rfl) rfl
theorem q664 : (Jvm.Cond.code ({ cls := "NotchSticks$Reader", name := "must", desc := "(I)V" } : Jvm.MethodName) prog_13_method_11_code (2 : Nat) (Option.none : Option Jvm.ClassFile.FieldType)) ∈ lw_all := lw_g (lw_at lw_m3 74 rfl) rfl
theorem q665 : (Jvm.Cond.methodLink "NotchSticks$Reader" (173 : Nat) ({ cls := "NotchSticks$Reader", name := "any", desc := "()LNotchSticks$Term;" } : Jvm.MethodName)) ∈ lw_all := lw_g (lw_at lw_m3 75 rfl) rfl
theorem q666 : (Jvm.Cond.privateMethod ({ cls := "NotchSticks$Reader", name := "any", desc := "()LNotchSticks$Term;" } : Jvm.MethodName)) ∈ lw_tbl := lw_at lw_m3 76 rfl
theorem q667 : (Jvm.Cond.instanceMethod ({ cls := "NotchSticks$Reader", name := "any", desc := "()LNotchSticks$Term;" } : Jvm.MethodName)) ∈ lw_all := lw_g (lw_at lw_m3 77 rfl) rfl
theorem q668 : (Jvm.Cond.code ({ cls := "NotchSticks$Reader", name := "any", desc := "()LNotchSticks$Term;" } : Jvm.MethodName) prog_13_method_17_code (2 : Nat) (Option.some (Jvm.ClassFile.FieldType.object "NotchSticks$Term"))) ∈ lw_all := lw_g (lw_at lw_m3 78 rfl) rfl
theorem q669 : (Jvm.Cond.methodLink "NotchSticks$Reader" (159 : Nat) ({ cls := "NotchSticks$Reader", name := "all", desc := "()LNotchSticks$Term;" } : Jvm.MethodName)) ∈ lw_all := lw_g (lw_at lw_m3 79 rfl) rfl
theorem q670 : (Jvm.Cond.privateMethod ({ cls := "NotchSticks$Reader", name := "all", desc := "()LNotchSticks$Term;" } : Jvm.MethodName)) ∈ lw_tbl := lw_at lw_m3 80 rfl
theorem q671 : (Jvm.Cond.instanceMethod ({ cls := "NotchSticks$Reader", name := "all", desc := "()LNotchSticks$Term;" } : Jvm.MethodName)) ∈ lw_all := lw_g (lw_at lw_m3 81 rfl) rfl
theorem q672 : (Jvm.Cond.code ({ cls := "NotchSticks$Reader", name := "all", desc := "()LNotchSticks$Term;" } : Jvm.MethodName) prog_13_method_18_code (2 : Nat) (Option.some (Jvm.ClassFile.FieldType.object "NotchSticks$Term"))) ∈ lw_all := lw_g (lw_at lw_m3 82 rfl) rfl
theorem q673 : (Jvm.Cond.methodLink "NotchSticks$Reader" (162 : Nat) ({ cls := "NotchSticks$Reader", name := "one", desc := "()LNotchSticks$Term;" } : Jvm.MethodName)) ∈ lw_all := lw_g (lw_at lw_m3 83 rfl) rfl
theorem q674 : (Jvm.Cond.privateMethod ({ cls := "NotchSticks$Reader", name := "one", desc := "()LNotchSticks$Term;" } : Jvm.MethodName)) ∈ lw_tbl := lw_at lw_m3 84 rfl
theorem q675 : (Jvm.Cond.instanceMethod ({ cls := "NotchSticks$Reader", name := "one", desc := "()LNotchSticks$Term;" } : Jvm.MethodName)) ∈ lw_all := lw_g (lw_at lw_m3 85 rfl) rfl
theorem q676 : (Jvm.Cond.code ({ cls := "NotchSticks$Reader", name := "one", desc := "()LNotchSticks$Term;" } : Jvm.MethodName) prog_13_method_19_code (3 : Nat) (Option.some (Jvm.ClassFile.FieldType.object "NotchSticks$Term"))) ∈ lw_all := lw_g (lw_at lw_m3 86 rfl) rfl
theorem q677 : (Jvm.Cond.methodLink "NotchSticks$Reader" (165 : Nat) ({ cls := "NotchSticks$Reader", name := "opens", desc := "()V" } : Jvm.MethodName)) ∈ lw_all := lw_g (lw_at lw_m3 87 rfl) rfl
theorem q678 : (Jvm.Cond.privateMethod ({ cls := "NotchSticks$Reader", name := "opens", desc := "()V" } : Jvm.MethodName)) ∈ lw_tbl := lw_at lw_m3 88 rfl
theorem q679 : (Jvm.Cond.instanceMethod ({ cls := "NotchSticks$Reader", name := "opens", desc := "()V" } : Jvm.MethodName)) ∈ lw_all := lw_g (lw_at lw_m3 89 rfl) rfl
theorem q680 : (Jvm.Cond.code ({ cls := "NotchSticks$Reader", name := "opens", desc := "()V" } : Jvm.MethodName) prog_13_method_13_code (1 : Nat) (Option.none : Option Jvm.ClassFile.FieldType)) ∈ lw_all := lw_g (lw_at lw_m3 90 rfl) rfl
theorem q681 : (Jvm.Cond.classLink "NotchSticks$Reader" (168 : Nat) "NotchSticks$Not") ∈ lw_all := lw_g (lw_at lw_m3 91 rfl) rfl
theorem q683 : (Jvm.Cond.methodLink "NotchSticks$Reader" (170 : Nat) ({ cls := "NotchSticks$Not", name := "<init>", desc := "(LNotchSticks$Term;)V" } : Jvm.MethodName)) ∈ lw_all := lw_g (lw_at lw_m3 93 rfl) rfl
theorem q694 : (Jvm.Cond.methodLink "NotchSticks$Reader" (179 : Nat) ({ cls := "NotchSticks$Reader", name := "sum", desc := "()LNotchSticks$Term;" } : Jvm.MethodName)) ∈ lw_all := lw_g (lw_at lw_m3 104 rfl) rfl
theorem q695 : (Jvm.Cond.privateMethod ({ cls := "NotchSticks$Reader", name := "sum", desc := "()LNotchSticks$Term;" } : Jvm.MethodName)) ∈ lw_tbl := lw_at lw_m3 105 rfl
theorem q696 : (Jvm.Cond.instanceMethod ({ cls := "NotchSticks$Reader", name := "sum", desc := "()LNotchSticks$Term;" } : Jvm.MethodName)) ∈ lw_all := lw_g (lw_at lw_m3 106 rfl) rfl
theorem q697 : (Jvm.Cond.code ({ cls := "NotchSticks$Reader", name := "sum", desc := "()LNotchSticks$Term;" } : Jvm.MethodName) prog_13_method_14_code (3 : Nat) (Option.some (Jvm.ClassFile.FieldType.object "NotchSticks$Term"))) ∈ lw_all := lw_g (lw_at lw_m3 107 rfl) rfl
theorem q698 : (Jvm.Cond.methodLink "NotchSticks$Reader" (135 : Nat) ({ cls := "NotchSticks$Reader", name := "product", desc := "()LNotchSticks$Term;" } : Jvm.MethodName)) ∈ lw_all := lw_g (lw_at lw_m3 108 rfl) rfl
theorem q699 : (Jvm.Cond.privateMethod ({ cls := "NotchSticks$Reader", name := "product", desc := "()LNotchSticks$Term;" } : Jvm.MethodName)) ∈ lw_tbl := lw_at lw_m3 109 rfl
theorem q700 : (Jvm.Cond.instanceMethod ({ cls := "NotchSticks$Reader", name := "product", desc := "()LNotchSticks$Term;" } : Jvm.MethodName)) ∈ lw_all := lw_g (lw_at lw_m3 110 rfl) rfl
theorem q701 : (Jvm.Cond.code ({ cls := "NotchSticks$Reader", name := "product", desc := "()LNotchSticks$Term;" } : Jvm.MethodName) prog_13_method_15_code (3 : Nat) (Option.some (Jvm.ClassFile.FieldType.object "NotchSticks$Term"))) ∈ lw_all := lw_g (lw_at lw_m3 111 rfl) rfl
theorem q702 : (Jvm.Cond.methodLink "NotchSticks$Reader" (144 : Nat) ({ cls := "NotchSticks$Reader", name := "unit", desc := "()LNotchSticks$Term;" } : Jvm.MethodName)) ∈ lw_all := lw_g (lw_at lw_m3 112 rfl) rfl
theorem q703 : (Jvm.Cond.privateMethod ({ cls := "NotchSticks$Reader", name := "unit", desc := "()LNotchSticks$Term;" } : Jvm.MethodName)) ∈ lw_tbl := lw_at lw_m3 113 rfl
theorem q704 : (Jvm.Cond.instanceMethod ({ cls := "NotchSticks$Reader", name := "unit", desc := "()LNotchSticks$Term;" } : Jvm.MethodName)) ∈ lw_all := lw_g (lw_at lw_m3 114 rfl) rfl
theorem q705 : (Jvm.Cond.code ({ cls := "NotchSticks$Reader", name := "unit", desc := "()LNotchSticks$Term;" } : Jvm.MethodName) prog_13_method_16_code (2 : Nat) (Option.some (Jvm.ClassFile.FieldType.object "NotchSticks$Term"))) ∈ lw_all := lw_g (lw_at lw_m3 115 rfl) rfl
theorem q706 : (Jvm.Cond.classLink "NotchSticks$Reader" (147 : Nat) "NotchSticks$Fixed") ∈ lw_all := lw_g (lw_at lw_m3 116 rfl) rfl
theorem q708 : (Jvm.Cond.methodLink "NotchSticks$Reader" (149 : Nat) ({ cls := "NotchSticks$Reader", name := "number", desc := "(I)I" } : Jvm.MethodName)) ∈ lw_all := lw_g (lw_at lw_m3 118 rfl) rfl
theorem q709 : (Jvm.Cond.privateMethod ({ cls := "NotchSticks$Reader", name := "number", desc := "(I)I" } : Jvm.MethodName)) ∈ lw_tbl := lw_at lw_m3 119 rfl
theorem q710 : (Jvm.Cond.instanceMethod ({ cls := "NotchSticks$Reader", name := "number", desc := "(I)I" } : Jvm.MethodName)) ∈ lw_all := lw_g (lw_at lw_m3 120 rfl) rfl
theorem q711 : (Jvm.Cond.code ({ cls := "NotchSticks$Reader", name := "number", desc := "(I)I" } : Jvm.MethodName) prog_13_method_12_code (3 : Nat) (Option.some Jvm.ClassFile.FieldType.int)) ∈ lw_all := lw_g (lw_at lw_m3 121 rfl) rfl
theorem q712 : (Jvm.Cond.methodLink "NotchSticks$Reader" (153 : Nat) ({ cls := "NotchSticks$Fixed", name := "<init>", desc := "(I)V" } : Jvm.MethodName)) ∈ lw_all := lw_g (lw_at lw_m3 122 rfl) rfl
theorem q720 : (Jvm.Cond.classLink "NotchSticks$Reader" (156 : Nat) "NotchSticks$Fact") ∈ lw_all := lw_g (lw_at lw_m3 130 rfl) rfl
theorem q722 : (Jvm.Cond.methodLink "NotchSticks$Reader" (158 : Nat) ({ cls := "NotchSticks$Fact", name := "<init>", desc := "(I)V" } : Jvm.MethodName)) ∈ lw_all := lw_g (lw_at lw_m3 132 rfl) rfl
theorem q730 : (Jvm.Cond.classLink "NotchSticks$Reader" (139 : Nat) "NotchSticks$Joined") ∈ lw_all := lw_g (lw_at lw_m3 140 rfl) rfl
theorem q732 : (Jvm.Cond.methodLink "NotchSticks$Reader" (141 : Nat) ({ cls := "NotchSticks$Joined", name := "<init>", desc := "(LNotchSticks$Term;ILNotchSticks$Term;)V" } : Jvm.MethodName)) ∈ lw_all := lw_g (lw_at lw_m3 142 rfl) rfl
theorem q746 : (Jvm.Cond.classLink "NotchSticks$Reader" (187 : Nat) "NotchSticks$Line") ∈ lw_all := lw_g (lw_at lw_m3 156 rfl) rfl
theorem q748 : (Jvm.Cond.methodLink "NotchSticks$Reader" (189 : Nat) ({ cls := "NotchSticks$Line", name := "<init>", desc := "(ILNotchSticks$Term;)V" } : Jvm.MethodName)) ∈ lw_all := lw_g (lw_at lw_m3 158 rfl) rfl
theorem q761 : (Jvm.Cond.methodLink "NotchSticks$Reader" (192 : Nat) ({ cls := "java/util/ArrayList", name := "add", desc := "(Ljava/lang/Object;)Z" } : Jvm.MethodName)) ∈ lw_all := lw_g (lw_at lw_m3 171 rfl) rfl
theorem q1717 : (Jvm.Cond.castable "NotchSticks$Reader" "java/lang/Object") ∈ lw_tbl := lw_at lw_m7 167 rfl
theorem in_X7 : ∀ w ∈ wsX70, w ∈ lw_all := lw_in wsX70 [465, 467, 469, 471, 473, 475, 477] (by decide +kernel) (by decide +kernel)
/-! NotchSticks$Fault -/
set_option maxRecDepth 100000
def RX8 : String := "NotchSticks$Fault"
def TX8 : u_T := fun k => match k with
  | 0 => ("java/lang/Throwable", "cause", "Ljava/lang/Throwable;", false)
  | 1 => ("java/lang/Throwable", "stackTrace", "[Ljava/lang/StackTraceElement;", false)
  | 2 => ("java/lang/Throwable", "suppressedExceptions", "Ljava/util/List;", false)
  | 3 => ("java/lang/Throwable", "detailMessage", "Ljava/lang/String;", false)
  | 4 => ("java/lang/Throwable", "backtrace", "Ljava/lang/Object;", false)
  | 5 => ("java/lang/Throwable", "depth", "I", false)
  | 6 => ("NotchSticks$Fault", "kind", "I", true)
  | _ => ("NotchSticks$Fault", "place", "I", true)
def tyX8 : Nat → FieldType := fun k => match k with
  | 0 => .object "java/lang/Throwable"
  | 1 => .array (.object "java/lang/StackTraceElement")
  | 2 => .object "java/util/List"
  | 3 => .object "java/lang/String"
  | 4 => .object "java/lang/Object"
  | 5 => .int
  | 6 => .int
  | _ => .int
abbrev wsX80 : List Cond := u_ws RX8 TX8 8
theorem nmX8 : ∀ a, a < 8 → ∀ b, b < 8 → a ≠ b → (TX8 a).2.1 ≠ (TX8 b).2.1 := by decide +kernel
theorem tyX8_ok : ∀ k, k < 8 → parseFieldDescriptor (TX8 k).2.2.1 = some (tyX8 k) := by decide +kernel
abbrev cX8_init : ByteArray := prog_6_method_1_code
def yX8_init : MethodName := ⟨RX8, "<init>", "(II)V"⟩
def dkwX8_init_0 : List UInt8 := [42, 183, 0, 1, 42, 27, 181, 0, 7, 42, 28, 181, 0, 13, 177]
abbrev dktX8_init_0 : List UInt8 := dkwX8_init_0 ++ []
theorem dksX8_init_0 : cX8_init.data.toList.drop 0 = dktX8_init_0 := by decide +kernel
theorem dX8_init_0 : decode cX8_init 0 = .ok (.aload_n 0, 1) := dk_42 (dk_at dksX8_init_0 0 rfl rfl)
theorem dX8_init_1 : decode cX8_init 1 = .ok (.invokespecial 1, 3) := dk_183 0 1 (dk_at dksX8_init_0 1 rfl rfl)
theorem dX8_init_4 : decode cX8_init 4 = .ok (.aload_n 0, 1) := dk_42 (dk_at dksX8_init_0 4 rfl rfl)
theorem dX8_init_5 : decode cX8_init 5 = .ok (.iload_n 1, 1) := dk_27 (dk_at dksX8_init_0 5 rfl rfl)
theorem dX8_init_6 : decode cX8_init 6 = .ok (.putfield 7, 3) := dk_181 0 7 (dk_at dksX8_init_0 6 rfl rfl)
theorem dX8_init_9 : decode cX8_init 9 = .ok (.aload_n 0, 1) := dk_42 (dk_at dksX8_init_0 9 rfl rfl)
theorem dX8_init_10 : decode cX8_init 10 = .ok (.iload_n 2, 1) := dk_28 (dk_at dksX8_init_0 10 rfl rfl)
theorem dX8_init_11 : decode cX8_init 11 = .ok (.putfield 13, 3) := dk_181 0 13 (dk_at dksX8_init_0 11 rfl rfl)
theorem dX8_init_14 : decode cX8_init 14 = .ok (.return_, 1) := dk_177 (dk_at dksX8_init_0 14 rfl rfl)
theorem q132 : (Jvm.Cond.initialized "NotchSticks$Fault") ∈ lw_all := lw_g (lw_at lw_m1 22 rfl) rfl
theorem q211 : (Jvm.Cond.selects "NotchSticks$Fault" ({ cls := "java/lang/Object", name := "getClass", desc := "()Ljava/lang/Class;" } : Jvm.MethodName) ({ cls := "java/lang/Object", name := "getClass", desc := "()Ljava/lang/Class;" } : Jvm.MethodName)) ∈ lw_all := lw_g (lw_at lw_m1 101 rfl) rfl
theorem q594 : (Jvm.Cond.instantiable "NotchSticks$Fault" (8 : Nat)) ∈ lw_all := lw_g (lw_at lw_m3 4 rfl) rfl
theorem q595 : (Jvm.Cond.castable "NotchSticks$Fault" "NotchSticks$Fault") ∈ lw_tbl := lw_at lw_m3 5 rfl
theorem q600 : (Jvm.Cond.selects "NotchSticks$Fault" ({ cls := "java/lang/Throwable", name := "fillInStackTrace", desc := "(I)Ljava/lang/Throwable;" } : Jvm.MethodName) ({ cls := "java/lang/Throwable", name := "fillInStackTrace", desc := "(I)Ljava/lang/Throwable;" } : Jvm.MethodName)) ∈ lw_all := lw_g (lw_at lw_m3 10 rfl) rfl
theorem q601 : (Jvm.Cond.selects "NotchSticks$Fault" ({ cls := "java/lang/Throwable", name := "fillInStackTrace", desc := "()Ljava/lang/Throwable;" } : Jvm.MethodName) ({ cls := "java/lang/Throwable", name := "fillInStackTrace", desc := "()Ljava/lang/Throwable;" } : Jvm.MethodName)) ∈ lw_all := lw_g (lw_at lw_m3 11 rfl) rfl
theorem q602 : (Jvm.Cond.lays "NotchSticks$Fault" "java/lang/Throwable" "cause" "Ljava/lang/Throwable;") ∈ lw_all := lw_g (lw_at lw_m3 12 rfl) rfl
theorem q604 : (Jvm.Cond.lays "NotchSticks$Fault" "java/lang/Throwable" "stackTrace" "[Ljava/lang/StackTraceElement;") ∈ lw_all := lw_g (lw_at lw_m3 14 rfl) rfl
theorem q606 : (Jvm.Cond.lays "NotchSticks$Fault" "java/lang/Throwable" "suppressedExceptions" "Ljava/util/List;") ∈ lw_all := lw_g (lw_at lw_m3 16 rfl) rfl
theorem q608 : (Jvm.Cond.lays "NotchSticks$Fault" "java/lang/Throwable" "detailMessage" "Ljava/lang/String;") ∈ lw_all := lw_g (lw_at lw_m3 18 rfl) rfl
theorem q610 : (Jvm.Cond.lays "NotchSticks$Fault" "java/lang/Throwable" "backtrace" "Ljava/lang/Object;") ∈ lw_all := lw_g (lw_at lw_m3 20 rfl) rfl
theorem q631 : (Jvm.Cond.instanceMethod ({ cls := "NotchSticks$Fault", name := "<init>", desc := "(II)V" } : Jvm.MethodName)) ∈ lw_all := lw_g (lw_at lw_m3 41 rfl) rfl
theorem q632 : (Jvm.Cond.code ({ cls := "NotchSticks$Fault", name := "<init>", desc := "(II)V" } : Jvm.MethodName) prog_6_method_1_code (3 : Nat) (Option.none : Option Jvm.ClassFile.FieldType)) ∈ lw_all := lw_g (lw_at lw_m3 42 rfl) rfl
theorem q633 : (Jvm.Cond.methodLink "NotchSticks$Fault" (1 : Nat) ({ cls := "java/lang/Exception", name := "<init>", desc := "()V" } : Jvm.MethodName)) ∈ lw_all := lw_g (lw_at lw_m3 43 rfl) rfl
theorem q637 : (Jvm.Cond.fieldLink "NotchSticks$Fault" (7 : Nat) "NotchSticks$Fault" "kind" "I") ∈ lw_all := lw_g (lw_at lw_m3 47 rfl) rfl
theorem q639 : (Jvm.Cond.fieldLink "NotchSticks$Fault" (13 : Nat) "NotchSticks$Fault" "place" "I") ∈ lw_all := lw_g (lw_at lw_m3 49 rfl) rfl
theorem q645 : (Jvm.Cond.laysFinal "NotchSticks$Fault" "NotchSticks$Fault" "kind" "I") ∈ lw_all := lw_g (lw_at lw_m3 55 rfl) rfl
theorem q646 : (Jvm.Cond.soleField "NotchSticks$Fault" "kind") ∈ lw_all := lw_g (lw_at lw_m3 56 rfl) rfl
theorem q647 : (Jvm.Cond.laysFinal "NotchSticks$Fault" "NotchSticks$Fault" "place" "I") ∈ lw_all := lw_g (lw_at lw_m3 57 rfl) rfl
theorem q648 : (Jvm.Cond.soleField "NotchSticks$Fault" "place") ∈ lw_all := lw_g (lw_at lw_m3 58 rfl) rfl
theorem q653 : (Jvm.Cond.lays "NotchSticks$Fault" "java/lang/Throwable" "depth" "I") ∈ lw_all := lw_g (lw_at lw_m3 63 rfl) rfl
theorem q656 : (Jvm.Cond.superclass "NotchSticks$Fault" "java/lang/Exception") ∈ lw_all := lw_g (lw_at lw_m3 66 rfl) rfl
theorem q1718 : (Jvm.Cond.castable "NotchSticks$Fault" "java/lang/Object") ∈ lw_tbl := lw_at lw_m7 168 rfl
theorem in_X8 : ∀ w ∈ wsX80, w ∈ lw_all := lw_in wsX80 [602, 604, 606, 608, 610, 653, 645, 647] (by decide +kernel) (by decide +kernel)
/-! NotchSticks$Term -/
set_option maxRecDepth 100000
def RX9 : String := "NotchSticks$Term"
abbrev cX9_init : ByteArray := prog_14_method_1_code
def yX9_init : MethodName := ⟨RX9, "<init>", "()V"⟩
theorem dX9_init_0 : decode cX9_init 0 = .ok (.aload_n 0, 1) := by decide +kernel
theorem dX9_init_1 : decode cX9_init 1 = .ok (.invokespecial 1, 3) := by decide +kernel
theorem dX9_init_4 : decode cX9_init 4 = .ok (.return_, 1) := by decide +kernel
theorem q133 : (Jvm.Cond.initialized "NotchSticks$Term") ∈ lw_all := lw_g (lw_at lw_m1 23 rfl) rfl
theorem q687 : (Jvm.Cond.instanceMethod ({ cls := "NotchSticks$Term", name := "<init>", desc := "()V" } : Jvm.MethodName)) ∈ lw_all := lw_g (lw_at lw_m3 97 rfl) rfl
theorem q688 : (Jvm.Cond.code ({ cls := "NotchSticks$Term", name := "<init>", desc := "()V" } : Jvm.MethodName) prog_14_method_1_code (1 : Nat) (Option.none : Option Jvm.ClassFile.FieldType)) ∈ lw_all := lw_g (lw_at lw_m3 98 rfl) rfl
theorem q689 : (Jvm.Cond.methodLink "NotchSticks$Term" (1 : Nat) ({ cls := "java/lang/Object", name := "<init>", desc := "()V" } : Jvm.MethodName)) ∈ lw_all := lw_g (lw_at lw_m3 99 rfl) rfl
theorem q835 : (Jvm.Cond.declares ({ cls := "NotchSticks$Term", name := "of", desc := "(LNotchSticks$Asker;)I" } : Jvm.MethodName)) ∈ lw_tbl := lw_at lw_m4 5 rfl
theorem q836 : (Jvm.Cond.sameMethod "NotchSticks$Term" "NotchSticks$Term" "of" "(LNotchSticks$Asker;)I") ∈ lw_all := lw_g (lw_at lw_m4 6 rfl) rfl
/-! NotchSticks$Not -/
set_option maxRecDepth 100000
def RX10 : String := "NotchSticks$Not"
def TX10 : u_T := fun k => match k with
  | _ => ("NotchSticks$Not", "term", "LNotchSticks$Term;", true)
def tyX10 : Nat → FieldType := fun k => match k with
  | _ => .object "NotchSticks$Term"
abbrev wsX100 : List Cond := u_ws RX10 TX10 1
theorem nmX10 : ∀ a, a < 1 → ∀ b, b < 1 → a ≠ b → (TX10 a).2.1 ≠ (TX10 b).2.1 := by decide +kernel
theorem tyX10_ok : ∀ k, k < 1 → parseFieldDescriptor (TX10 k).2.2.1 = some (tyX10 k) := by decide +kernel
abbrev cX10_init : ByteArray := prog_10_method_1_code
def yX10_init : MethodName := ⟨RX10, "<init>", "(LNotchSticks$Term;)V"⟩
def dkwX10_init_0 : List UInt8 := [42, 183, 0, 1, 42, 43, 181, 0, 7, 177]
abbrev dktX10_init_0 : List UInt8 := dkwX10_init_0 ++ []
theorem dksX10_init_0 : cX10_init.data.toList.drop 0 = dktX10_init_0 := by decide +kernel
theorem dX10_init_0 : decode cX10_init 0 = .ok (.aload_n 0, 1) := dk_42 (dk_at dksX10_init_0 0 rfl rfl)
theorem dX10_init_1 : decode cX10_init 1 = .ok (.invokespecial 1, 3) := dk_183 0 1 (dk_at dksX10_init_0 1 rfl rfl)
theorem dX10_init_4 : decode cX10_init 4 = .ok (.aload_n 0, 1) := dk_42 (dk_at dksX10_init_0 4 rfl rfl)
theorem dX10_init_5 : decode cX10_init 5 = .ok (.aload_n 1, 1) := dk_43 (dk_at dksX10_init_0 5 rfl rfl)
theorem dX10_init_6 : decode cX10_init 6 = .ok (.putfield 7, 3) := dk_181 0 7 (dk_at dksX10_init_0 6 rfl rfl)
theorem dX10_init_9 : decode cX10_init 9 = .ok (.return_, 1) := dk_177 (dk_at dksX10_init_0 9 rfl rfl)
abbrev cX10_of : ByteArray := prog_10_method_2_code
def yX10_of : MethodName := ⟨RX10, "of", "(LNotchSticks$Asker;)I"⟩
def dkwX10_of_0 : List UInt8 := [4, 42, 180, 0, 7, 43, 182, 0, 13, 100, 172]
abbrev dktX10_of_0 : List UInt8 := dkwX10_of_0 ++ []
theorem dksX10_of_0 : cX10_of.data.toList.drop 0 = dktX10_of_0 := by decide +kernel
theorem dX10_of_0 : decode cX10_of 0 = .ok (.iconst 1, 1) := dk_4 (dk_at dksX10_of_0 0 rfl rfl)
theorem dX10_of_1 : decode cX10_of 1 = .ok (.aload_n 0, 1) := dk_42 (dk_at dksX10_of_0 1 rfl rfl)
theorem dX10_of_2 : decode cX10_of 2 = .ok (.getfield 7, 3) := dk_180 0 7 (dk_at dksX10_of_0 2 rfl rfl)
theorem dX10_of_5 : decode cX10_of 5 = .ok (.aload_n 1, 1) := dk_43 (dk_at dksX10_of_0 5 rfl rfl)
theorem dX10_of_6 : decode cX10_of 6 = .ok (.invokevirtual 13, 3) := dk_182 0 13 (dk_at dksX10_of_0 6 rfl rfl)
theorem dX10_of_9 : decode cX10_of 9 = .ok (.isub, 1) := dk_100 (dk_at dksX10_of_0 9 rfl rfl)
theorem dX10_of_10 : decode cX10_of 10 = .ok (.ireturn, 1) := dk_172 (dk_at dksX10_of_0 10 rfl rfl)
theorem q134 : (Jvm.Cond.initialized "NotchSticks$Not") ∈ lw_all := lw_g (lw_at lw_m1 24 rfl) rfl
theorem q215 : (Jvm.Cond.selects "NotchSticks$Not" ({ cls := "java/lang/Object", name := "getClass", desc := "()Ljava/lang/Class;" } : Jvm.MethodName) ({ cls := "java/lang/Object", name := "getClass", desc := "()Ljava/lang/Class;" } : Jvm.MethodName)) ∈ lw_all := lw_g (lw_at lw_m1 105 rfl) rfl
theorem q682 : (Jvm.Cond.instantiable "NotchSticks$Not" (1 : Nat)) ∈ lw_all := lw_g (lw_at lw_m3 92 rfl) rfl
theorem q684 : (Jvm.Cond.instanceMethod ({ cls := "NotchSticks$Not", name := "<init>", desc := "(LNotchSticks$Term;)V" } : Jvm.MethodName)) ∈ lw_all := lw_g (lw_at lw_m3 94 rfl) rfl
theorem q685 : (Jvm.Cond.code ({ cls := "NotchSticks$Not", name := "<init>", desc := "(LNotchSticks$Term;)V" } : Jvm.MethodName) prog_10_method_1_code (2 : Nat) (Option.none : Option Jvm.ClassFile.FieldType)) ∈ lw_all := lw_g (lw_at lw_m3 95 rfl) rfl
theorem q686 : (Jvm.Cond.methodLinkNest "NotchSticks$Not" (1 : Nat) ({ cls := "NotchSticks$Term", name := "<init>", desc := "()V" } : Jvm.MethodName) "NotchSticks") ∈ lw_tbl := lw_at lw_m3 96 rfl
theorem q690 : (Jvm.Cond.fieldLink "NotchSticks$Not" (7 : Nat) "NotchSticks$Not" "term" "LNotchSticks$Term;") ∈ lw_all := lw_g (lw_at lw_m3 100 rfl) rfl
theorem q691 : (Jvm.Cond.laysFinal "NotchSticks$Not" "NotchSticks$Not" "term" "LNotchSticks$Term;") ∈ lw_all := lw_g (lw_at lw_m3 101 rfl) rfl
theorem q692 : (Jvm.Cond.soleField "NotchSticks$Not" "term") ∈ lw_all := lw_g (lw_at lw_m3 102 rfl) rfl
theorem q693 : (Jvm.Cond.superclass "NotchSticks$Not" "NotchSticks$Term") ∈ lw_all := lw_g (lw_at lw_m3 103 rfl) rfl
theorem q863 : (Jvm.Cond.instanceMethod ({ cls := "NotchSticks$Not", name := "of", desc := "(LNotchSticks$Asker;)I" } : Jvm.MethodName)) ∈ lw_all := lw_g (lw_at lw_m4 33 rfl) rfl
theorem q864 : (Jvm.Cond.code ({ cls := "NotchSticks$Not", name := "of", desc := "(LNotchSticks$Asker;)I" } : Jvm.MethodName) prog_10_method_2_code (2 : Nat) (Option.some Jvm.ClassFile.FieldType.int)) ∈ lw_all := lw_g (lw_at lw_m4 34 rfl) rfl
theorem q865 : (Jvm.Cond.methodLink "NotchSticks$Not" (13 : Nat) ({ cls := "NotchSticks$Term", name := "of", desc := "(LNotchSticks$Asker;)I" } : Jvm.MethodName)) ∈ lw_all := lw_g (lw_at lw_m4 35 rfl) rfl
theorem q868 : (Jvm.Cond.selects "NotchSticks$Not" ({ cls := "NotchSticks$Term", name := "of", desc := "(LNotchSticks$Asker;)I" } : Jvm.MethodName) ({ cls := "NotchSticks$Not", name := "of", desc := "(LNotchSticks$Asker;)I" } : Jvm.MethodName)) ∈ lw_all := lw_g (lw_at lw_m4 38 rfl) rfl
theorem q1719 : (Jvm.Cond.castable "NotchSticks$Not" "java/lang/Object") ∈ lw_tbl := lw_at lw_m7 169 rfl
theorem in_X10 : ∀ w ∈ wsX100, w ∈ lw_all := lw_in wsX100 [691] (by decide +kernel) (by decide +kernel)
/-! NotchSticks$Fixed -/
set_option maxRecDepth 100000
def RX11 : String := "NotchSticks$Fixed"
def TX11 : u_T := fun k => match k with
  | _ => ("NotchSticks$Fixed", "value", "I", true)
def tyX11 : Nat → FieldType := fun k => match k with
  | _ => .int
abbrev wsX110 : List Cond := u_ws RX11 TX11 1
theorem nmX11 : ∀ a, a < 1 → ∀ b, b < 1 → a ≠ b → (TX11 a).2.1 ≠ (TX11 b).2.1 := by decide +kernel
theorem tyX11_ok : ∀ k, k < 1 → parseFieldDescriptor (TX11 k).2.2.1 = some (tyX11 k) := by decide +kernel
abbrev cX11_init : ByteArray := prog_7_method_1_code
def yX11_init : MethodName := ⟨RX11, "<init>", "(I)V"⟩
def dkwX11_init_0 : List UInt8 := [42, 183, 0, 1, 42, 27, 181, 0, 7, 177]
abbrev dktX11_init_0 : List UInt8 := dkwX11_init_0 ++ []
theorem dksX11_init_0 : cX11_init.data.toList.drop 0 = dktX11_init_0 := by decide +kernel
theorem dX11_init_0 : decode cX11_init 0 = .ok (.aload_n 0, 1) := dk_42 (dk_at dksX11_init_0 0 rfl rfl)
theorem dX11_init_1 : decode cX11_init 1 = .ok (.invokespecial 1, 3) := dk_183 0 1 (dk_at dksX11_init_0 1 rfl rfl)
theorem dX11_init_4 : decode cX11_init 4 = .ok (.aload_n 0, 1) := dk_42 (dk_at dksX11_init_0 4 rfl rfl)
theorem dX11_init_5 : decode cX11_init 5 = .ok (.iload_n 1, 1) := dk_27 (dk_at dksX11_init_0 5 rfl rfl)
theorem dX11_init_6 : decode cX11_init 6 = .ok (.putfield 7, 3) := dk_181 0 7 (dk_at dksX11_init_0 6 rfl rfl)
theorem dX11_init_9 : decode cX11_init 9 = .ok (.return_, 1) := dk_177 (dk_at dksX11_init_0 9 rfl rfl)
abbrev cX11_of : ByteArray := prog_7_method_2_code
def yX11_of : MethodName := ⟨RX11, "of", "(LNotchSticks$Asker;)I"⟩
theorem dX11_of_0 : decode cX11_of 0 = .ok (.aload_n 0, 1) := by decide +kernel
theorem dX11_of_1 : decode cX11_of 1 = .ok (.getfield 7, 3) := by decide +kernel
theorem dX11_of_4 : decode cX11_of 4 = .ok (.ireturn, 1) := by decide +kernel
theorem q135 : (Jvm.Cond.initialized "NotchSticks$Fixed") ∈ lw_all := lw_g (lw_at lw_m1 25 rfl) rfl
theorem q212 : (Jvm.Cond.selects "NotchSticks$Fixed" ({ cls := "java/lang/Object", name := "getClass", desc := "()Ljava/lang/Class;" } : Jvm.MethodName) ({ cls := "java/lang/Object", name := "getClass", desc := "()Ljava/lang/Class;" } : Jvm.MethodName)) ∈ lw_all := lw_g (lw_at lw_m1 102 rfl) rfl
theorem q707 : (Jvm.Cond.instantiable "NotchSticks$Fixed" (1 : Nat)) ∈ lw_all := lw_g (lw_at lw_m3 117 rfl) rfl
theorem q713 : (Jvm.Cond.instanceMethod ({ cls := "NotchSticks$Fixed", name := "<init>", desc := "(I)V" } : Jvm.MethodName)) ∈ lw_all := lw_g (lw_at lw_m3 123 rfl) rfl
theorem q714 : (Jvm.Cond.code ({ cls := "NotchSticks$Fixed", name := "<init>", desc := "(I)V" } : Jvm.MethodName) prog_7_method_1_code (2 : Nat) (Option.none : Option Jvm.ClassFile.FieldType)) ∈ lw_all := lw_g (lw_at lw_m3 124 rfl) rfl
theorem q715 : (Jvm.Cond.methodLinkNest "NotchSticks$Fixed" (1 : Nat) ({ cls := "NotchSticks$Term", name := "<init>", desc := "()V" } : Jvm.MethodName) "NotchSticks") ∈ lw_tbl := lw_at lw_m3 125 rfl
theorem q716 : (Jvm.Cond.fieldLink "NotchSticks$Fixed" (7 : Nat) "NotchSticks$Fixed" "value" "I") ∈ lw_all := lw_g (lw_at lw_m3 126 rfl) rfl
theorem q717 : (Jvm.Cond.laysFinal "NotchSticks$Fixed" "NotchSticks$Fixed" "value" "I") ∈ lw_all := lw_g (lw_at lw_m3 127 rfl) rfl
theorem q718 : (Jvm.Cond.soleField "NotchSticks$Fixed" "value") ∈ lw_all := lw_g (lw_at lw_m3 128 rfl) rfl
theorem q719 : (Jvm.Cond.superclass "NotchSticks$Fixed" "NotchSticks$Term") ∈ lw_all := lw_g (lw_at lw_m3 129 rfl) rfl
theorem q858 : (Jvm.Cond.instanceMethod ({ cls := "NotchSticks$Fixed", name := "of", desc := "(LNotchSticks$Asker;)I" } : Jvm.MethodName)) ∈ lw_all := lw_g (lw_at lw_m4 28 rfl) rfl
theorem q859 : (Jvm.Cond.code ({ cls := "NotchSticks$Fixed", name := "of", desc := "(LNotchSticks$Asker;)I" } : Jvm.MethodName) prog_7_method_2_code (2 : Nat) (Option.some Jvm.ClassFile.FieldType.int)) ∈ lw_all := lw_g (lw_at lw_m4 29 rfl) rfl
theorem q866 : (Jvm.Cond.selects "NotchSticks$Fixed" ({ cls := "NotchSticks$Term", name := "of", desc := "(LNotchSticks$Asker;)I" } : Jvm.MethodName) ({ cls := "NotchSticks$Fixed", name := "of", desc := "(LNotchSticks$Asker;)I" } : Jvm.MethodName)) ∈ lw_all := lw_g (lw_at lw_m4 36 rfl) rfl
theorem q1720 : (Jvm.Cond.castable "NotchSticks$Fixed" "java/lang/Object") ∈ lw_tbl := lw_at lw_m7 170 rfl
theorem in_X11 : ∀ w ∈ wsX110, w ∈ lw_all := lw_in wsX110 [717] (by decide +kernel) (by decide +kernel)
/-! NotchSticks$Fact -/
set_option maxRecDepth 100000
def RX12 : String := "NotchSticks$Fact"
def TX12 : u_T := fun k => match k with
  | _ => ("NotchSticks$Fact", "what", "I", true)
def tyX12 : Nat → FieldType := fun k => match k with
  | _ => .int
abbrev wsX120 : List Cond := u_ws RX12 TX12 1
theorem nmX12 : ∀ a, a < 1 → ∀ b, b < 1 → a ≠ b → (TX12 a).2.1 ≠ (TX12 b).2.1 := by decide +kernel
theorem tyX12_ok : ∀ k, k < 1 → parseFieldDescriptor (TX12 k).2.2.1 = some (tyX12 k) := by decide +kernel
abbrev cX12_init : ByteArray := prog_5_method_1_code
def yX12_init : MethodName := ⟨RX12, "<init>", "(I)V"⟩
def dkwX12_init_0 : List UInt8 := [42, 183, 0, 1, 42, 27, 181, 0, 7, 177]
abbrev dktX12_init_0 : List UInt8 := dkwX12_init_0 ++ []
theorem dksX12_init_0 : cX12_init.data.toList.drop 0 = dktX12_init_0 := by decide +kernel
theorem dX12_init_0 : decode cX12_init 0 = .ok (.aload_n 0, 1) := dk_42 (dk_at dksX12_init_0 0 rfl rfl)
theorem dX12_init_1 : decode cX12_init 1 = .ok (.invokespecial 1, 3) := dk_183 0 1 (dk_at dksX12_init_0 1 rfl rfl)
theorem dX12_init_4 : decode cX12_init 4 = .ok (.aload_n 0, 1) := dk_42 (dk_at dksX12_init_0 4 rfl rfl)
theorem dX12_init_5 : decode cX12_init 5 = .ok (.iload_n 1, 1) := dk_27 (dk_at dksX12_init_0 5 rfl rfl)
theorem dX12_init_6 : decode cX12_init 6 = .ok (.putfield 7, 3) := dk_181 0 7 (dk_at dksX12_init_0 6 rfl rfl)
theorem dX12_init_9 : decode cX12_init 9 = .ok (.return_, 1) := dk_177 (dk_at dksX12_init_0 9 rfl rfl)
abbrev cX12_of : ByteArray := prog_5_method_2_code
def yX12_of : MethodName := ⟨RX12, "of", "(LNotchSticks$Asker;)I"⟩
def dkwX12_of_0 : List UInt8 := [43, 42, 180, 0, 7, 185, 0, 13, 2, 0, 172]
abbrev dktX12_of_0 : List UInt8 := dkwX12_of_0 ++ []
theorem dksX12_of_0 : cX12_of.data.toList.drop 0 = dktX12_of_0 := by decide +kernel
theorem dX12_of_0 : decode cX12_of 0 = .ok (.aload_n 1, 1) := dk_43 (dk_at dksX12_of_0 0 rfl rfl)
theorem dX12_of_1 : decode cX12_of 1 = .ok (.aload_n 0, 1) := dk_42 (dk_at dksX12_of_0 1 rfl rfl)
theorem dX12_of_2 : decode cX12_of 2 = .ok (.getfield 7, 3) := dk_180 0 7 (dk_at dksX12_of_0 2 rfl rfl)
theorem dX12_of_5 : decode cX12_of 5 = .ok (.invokeinterface 13 2, 5) := by decide +kernel
theorem dX12_of_10 : decode cX12_of 10 = .ok (.ireturn, 1) := dk_172 (dk_at dksX12_of_0 10 rfl rfl)
theorem q136 : (Jvm.Cond.initialized "NotchSticks$Fact") ∈ lw_all := lw_g (lw_at lw_m1 26 rfl) rfl
theorem q210 : (Jvm.Cond.selects "NotchSticks$Fact" ({ cls := "java/lang/Object", name := "getClass", desc := "()Ljava/lang/Class;" } : Jvm.MethodName) ({ cls := "java/lang/Object", name := "getClass", desc := "()Ljava/lang/Class;" } : Jvm.MethodName)) ∈ lw_all := lw_g (lw_at lw_m1 100 rfl) rfl
theorem q721 : (Jvm.Cond.instantiable "NotchSticks$Fact" (1 : Nat)) ∈ lw_all := lw_g (lw_at lw_m3 131 rfl) rfl
theorem q723 : (Jvm.Cond.instanceMethod ({ cls := "NotchSticks$Fact", name := "<init>", desc := "(I)V" } : Jvm.MethodName)) ∈ lw_all := lw_g (lw_at lw_m3 133 rfl) rfl
theorem q724 : (Jvm.Cond.code ({ cls := "NotchSticks$Fact", name := "<init>", desc := "(I)V" } : Jvm.MethodName) prog_5_method_1_code (2 : Nat) (Option.none : Option Jvm.ClassFile.FieldType)) ∈ lw_all := lw_g (lw_at lw_m3 134 rfl) rfl
theorem q725 : (Jvm.Cond.methodLinkNest "NotchSticks$Fact" (1 : Nat) ({ cls := "NotchSticks$Term", name := "<init>", desc := "()V" } : Jvm.MethodName) "NotchSticks") ∈ lw_tbl := lw_at lw_m3 135 rfl
theorem q726 : (Jvm.Cond.fieldLink "NotchSticks$Fact" (7 : Nat) "NotchSticks$Fact" "what" "I") ∈ lw_all := lw_g (lw_at lw_m3 136 rfl) rfl
theorem q727 : (Jvm.Cond.laysFinal "NotchSticks$Fact" "NotchSticks$Fact" "what" "I") ∈ lw_all := lw_g (lw_at lw_m3 137 rfl) rfl
theorem q728 : (Jvm.Cond.soleField "NotchSticks$Fact" "what") ∈ lw_all := lw_g (lw_at lw_m3 138 rfl) rfl
theorem q729 : (Jvm.Cond.superclass "NotchSticks$Fact" "NotchSticks$Term") ∈ lw_all := lw_g (lw_at lw_m3 139 rfl) rfl
theorem q837 : (Jvm.Cond.selects "NotchSticks$Fact" ({ cls := "NotchSticks$Term", name := "of", desc := "(LNotchSticks$Asker;)I" } : Jvm.MethodName) ({ cls := "NotchSticks$Fact", name := "of", desc := "(LNotchSticks$Asker;)I" } : Jvm.MethodName)) ∈ lw_all := lw_g (lw_at lw_m4 7 rfl) rfl
theorem q838 : (Jvm.Cond.instanceMethod ({ cls := "NotchSticks$Fact", name := "of", desc := "(LNotchSticks$Asker;)I" } : Jvm.MethodName)) ∈ lw_all := lw_g (lw_at lw_m4 8 rfl) rfl
theorem q839 : (Jvm.Cond.code ({ cls := "NotchSticks$Fact", name := "of", desc := "(LNotchSticks$Asker;)I" } : Jvm.MethodName) prog_5_method_2_code (2 : Nat) (Option.some Jvm.ClassFile.FieldType.int)) ∈ lw_all := lw_g (lw_at lw_m4 9 rfl) rfl
theorem q840 : (Jvm.Cond.interfaceEntry "NotchSticks$Fact" (13 : Nat)) ∈ lw_tbl := lw_at lw_m4 10 rfl
theorem q841 : (Jvm.Cond.methodLink "NotchSticks$Fact" (13 : Nat) ({ cls := "NotchSticks$Asker", name := "fact", desc := "(I)I" } : Jvm.MethodName)) ∈ lw_all := lw_g (lw_at lw_m4 11 rfl) rfl
theorem q1721 : (Jvm.Cond.castable "NotchSticks$Fact" "java/lang/Object") ∈ lw_tbl := lw_at lw_m7 171 rfl
theorem in_X12 : ∀ w ∈ wsX120, w ∈ lw_all := lw_in wsX120 [727] (by decide +kernel) (by decide +kernel)
/-! NotchSticks$Joined -/
set_option maxRecDepth 100000
def RX13 : String := "NotchSticks$Joined"
def TX13 : u_T := fun k => match k with
  | 0 => ("NotchSticks$Joined", "left", "LNotchSticks$Term;", true)
  | 1 => ("NotchSticks$Joined", "right", "LNotchSticks$Term;", true)
  | _ => ("NotchSticks$Joined", "how", "I", true)
def tyX13 : Nat → FieldType := fun k => match k with
  | 0 => .object "NotchSticks$Term"
  | 1 => .object "NotchSticks$Term"
  | _ => .int
abbrev wsX130 : List Cond := u_ws RX13 TX13 3
theorem nmX13 : ∀ a, a < 3 → ∀ b, b < 3 → a ≠ b → (TX13 a).2.1 ≠ (TX13 b).2.1 := by decide +kernel
theorem tyX13_ok : ∀ k, k < 3 → parseFieldDescriptor (TX13 k).2.2.1 = some (tyX13 k) := by decide +kernel
abbrev cX13_init : ByteArray := prog_8_method_1_code
def yX13_init : MethodName := ⟨RX13, "<init>", "(LNotchSticks$Term;ILNotchSticks$Term;)V"⟩
def dkwX13_init_0 : List UInt8 := [42, 183, 0, 3, 42, 43, 181, 0, 9, 42, 28, 181, 0, 15, 42, 45, 181, 0, 19, 177]
abbrev dktX13_init_0 : List UInt8 := dkwX13_init_0 ++ []
theorem dksX13_init_0 : cX13_init.data.toList.drop 0 = dktX13_init_0 := by decide +kernel
theorem dX13_init_0 : decode cX13_init 0 = .ok (.aload_n 0, 1) := dk_42 (dk_at dksX13_init_0 0 rfl rfl)
theorem dX13_init_1 : decode cX13_init 1 = .ok (.invokespecial 3, 3) := dk_183 0 3 (dk_at dksX13_init_0 1 rfl rfl)
theorem dX13_init_4 : decode cX13_init 4 = .ok (.aload_n 0, 1) := dk_42 (dk_at dksX13_init_0 4 rfl rfl)
theorem dX13_init_5 : decode cX13_init 5 = .ok (.aload_n 1, 1) := dk_43 (dk_at dksX13_init_0 5 rfl rfl)
theorem dX13_init_6 : decode cX13_init 6 = .ok (.putfield 9, 3) := dk_181 0 9 (dk_at dksX13_init_0 6 rfl rfl)
theorem dX13_init_9 : decode cX13_init 9 = .ok (.aload_n 0, 1) := dk_42 (dk_at dksX13_init_0 9 rfl rfl)
theorem dX13_init_10 : decode cX13_init 10 = .ok (.iload_n 2, 1) := dk_28 (dk_at dksX13_init_0 10 rfl rfl)
theorem dX13_init_11 : decode cX13_init 11 = .ok (.putfield 15, 3) := dk_181 0 15 (dk_at dksX13_init_0 11 rfl rfl)
theorem dX13_init_14 : decode cX13_init 14 = .ok (.aload_n 0, 1) := dk_42 (dk_at dksX13_init_0 14 rfl rfl)
theorem dX13_init_15 : decode cX13_init 15 = .ok (.aload_n 3, 1) := dk_45 (dk_at dksX13_init_0 15 rfl rfl)
theorem dX13_init_16 : decode cX13_init 16 = .ok (.putfield 19, 3) := dk_181 0 19 (dk_at dksX13_init_0 16 rfl rfl)
theorem dX13_init_19 : decode cX13_init 19 = .ok (.return_, 1) := dk_177 (dk_at dksX13_init_0 19 rfl rfl)
abbrev cX13_of : ByteArray := prog_8_method_2_code
def yX13_of : MethodName := ⟨RX13, "of", "(LNotchSticks$Asker;)I"⟩
def dkwX13_of_4 : List UInt8 := [167, 0, 4, 3, 172, 28, 29, 126, 172, 28, 29, 128, 172]
abbrev dktX13_of_4 : List UInt8 := dkwX13_of_4 ++ []
def dkwX13_of_3 : List UInt8 := [167, 0, 4, 3, 172, 28, 29, 160, 0, 7, 4, 167, 0, 4, 3, 172, 28, 29, 164, 0, 7, 4]
abbrev dktX13_of_3 : List UInt8 := dkwX13_of_3 ++ dktX13_of_4
def dkwX13_of_2 : List UInt8 := [28, 29, 96, 172, 28, 29, 100, 172, 28, 29, 104, 172, 28, 29, 108, 172, 28, 29, 162, 0, 7, 4]
abbrev dktX13_of_2 : List UInt8 := dkwX13_of_2 ++ dktX13_of_3
def dkwX13_of_1 : List UInt8 := [171, 0, 0, 0, 0, 127, 0, 0, 0, 8, 0, 0, 0, 5, 0, 0, 0, 123, 0, 0, 0, 42, 0, 0, 0, 82, 0, 0, 0, 43, 0, 0, 0, 74, 0, 0, 0, 45, 0, 0, 0, 78, 0, 0, 0, 47, 0, 0, 0, 86, 0, 0, 0, 60, 0, 0, 0, 90, 0, 0, 0, 61, 0, 0, 0, 101, 0, 0, 0, 62, 0, 0, 0, 112]
abbrev dktX13_of_1 : List UInt8 := dkwX13_of_1 ++ dktX13_of_2
def dkwX13_of_0 : List UInt8 := [42, 180, 0, 9, 43, 182, 0, 22, 61, 42, 180, 0, 19, 43, 182, 0, 22, 62, 42, 180, 0, 15]
abbrev dktX13_of_0 : List UInt8 := dkwX13_of_0 ++ dktX13_of_1
theorem dksX13_of_0 : cX13_of.data.toList.drop 0 = dktX13_of_0 := by decide +kernel
theorem dksX13_of_1 : cX13_of.data.toList.drop 22 = dktX13_of_1 := dk_seg dksX13_of_0 22 rfl rfl
theorem dksX13_of_2 : cX13_of.data.toList.drop 96 = dktX13_of_2 := dk_seg dksX13_of_1 74 rfl rfl
theorem dksX13_of_3 : cX13_of.data.toList.drop 118 = dktX13_of_3 := dk_seg dksX13_of_2 22 rfl rfl
theorem dksX13_of_4 : cX13_of.data.toList.drop 140 = dktX13_of_4 := dk_seg dksX13_of_3 22 rfl rfl
theorem dX13_of_0 : decode cX13_of 0 = .ok (.aload_n 0, 1) := dk_42 (dk_at dksX13_of_0 0 rfl rfl)
theorem dX13_of_1 : decode cX13_of 1 = .ok (.getfield 9, 3) := dk_180 0 9 (dk_at dksX13_of_0 1 rfl rfl)
theorem dX13_of_4 : decode cX13_of 4 = .ok (.aload_n 1, 1) := dk_43 (dk_at dksX13_of_0 4 rfl rfl)
theorem dX13_of_5 : decode cX13_of 5 = .ok (.invokevirtual 22, 3) := dk_182 0 22 (dk_at dksX13_of_0 5 rfl rfl)
theorem dX13_of_8 : decode cX13_of 8 = .ok (.istore_n 2, 1) := dk_61 (dk_at dksX13_of_0 8 rfl rfl)
theorem dX13_of_9 : decode cX13_of 9 = .ok (.aload_n 0, 1) := dk_42 (dk_at dksX13_of_0 9 rfl rfl)
theorem dX13_of_10 : decode cX13_of 10 = .ok (.getfield 19, 3) := dk_180 0 19 (dk_at dksX13_of_0 10 rfl rfl)
theorem dX13_of_13 : decode cX13_of 13 = .ok (.aload_n 1, 1) := dk_43 (dk_at dksX13_of_0 13 rfl rfl)
theorem dX13_of_14 : decode cX13_of 14 = .ok (.invokevirtual 22, 3) := dk_182 0 22 (dk_at dksX13_of_0 14 rfl rfl)
theorem dX13_of_17 : decode cX13_of 17 = .ok (.istore_n 3, 1) := dk_62 (dk_at dksX13_of_0 17 rfl rfl)
theorem dX13_of_18 : decode cX13_of 18 = .ok (.aload_n 0, 1) := dk_42 (dk_at dksX13_of_0 18 rfl rfl)
theorem dX13_of_19 : decode cX13_of 19 = .ok (.getfield 15, 3) := dk_180 0 15 (dk_at dksX13_of_0 19 rfl rfl)
theorem dX13_of_22 : decode cX13_of 22 = .ok (.lookupswitch 127 #[(5, 123), (42, 82), (43, 74), (45, 78), (47, 86), (60, 90), (61, 101), (62, 112)], 74) := by decide +kernel
theorem dX13_of_96 : decode cX13_of 96 = .ok (.iload_n 2, 1) := dk_28 (dk_at dksX13_of_2 0 rfl rfl)
theorem dX13_of_97 : decode cX13_of 97 = .ok (.iload_n 3, 1) := dk_29 (dk_at dksX13_of_2 1 rfl rfl)
theorem dX13_of_98 : decode cX13_of 98 = .ok (.iadd, 1) := dk_96 (dk_at dksX13_of_2 2 rfl rfl)
theorem dX13_of_99 : decode cX13_of 99 = .ok (.ireturn, 1) := dk_172 (dk_at dksX13_of_2 3 rfl rfl)
theorem dX13_of_100 : decode cX13_of 100 = .ok (.iload_n 2, 1) := dk_28 (dk_at dksX13_of_2 4 rfl rfl)
theorem dX13_of_101 : decode cX13_of 101 = .ok (.iload_n 3, 1) := dk_29 (dk_at dksX13_of_2 5 rfl rfl)
theorem dX13_of_102 : decode cX13_of 102 = .ok (.isub, 1) := dk_100 (dk_at dksX13_of_2 6 rfl rfl)
theorem dX13_of_103 : decode cX13_of 103 = .ok (.ireturn, 1) := dk_172 (dk_at dksX13_of_2 7 rfl rfl)
theorem dX13_of_104 : decode cX13_of 104 = .ok (.iload_n 2, 1) := dk_28 (dk_at dksX13_of_2 8 rfl rfl)
theorem dX13_of_105 : decode cX13_of 105 = .ok (.iload_n 3, 1) := dk_29 (dk_at dksX13_of_2 9 rfl rfl)
theorem dX13_of_106 : decode cX13_of 106 = .ok (.imul, 1) := dk_104 (dk_at dksX13_of_2 10 rfl rfl)
theorem dX13_of_107 : decode cX13_of 107 = .ok (.ireturn, 1) := dk_172 (dk_at dksX13_of_2 11 rfl rfl)
theorem dX13_of_108 : decode cX13_of 108 = .ok (.iload_n 2, 1) := dk_28 (dk_at dksX13_of_2 12 rfl rfl)
theorem dX13_of_109 : decode cX13_of 109 = .ok (.iload_n 3, 1) := dk_29 (dk_at dksX13_of_2 13 rfl rfl)
theorem dX13_of_110 : decode cX13_of 110 = .ok (.idiv, 1) := dk_108 (dk_at dksX13_of_2 14 rfl rfl)
theorem dX13_of_111 : decode cX13_of 111 = .ok (.ireturn, 1) := dk_172 (dk_at dksX13_of_2 15 rfl rfl)
theorem dX13_of_112 : decode cX13_of 112 = .ok (.iload_n 2, 1) := dk_28 (dk_at dksX13_of_2 16 rfl rfl)
theorem dX13_of_113 : decode cX13_of 113 = .ok (.iload_n 3, 1) := dk_29 (dk_at dksX13_of_2 17 rfl rfl)
theorem dX13_of_114 : decode cX13_of 114 = .ok (.if_icmp .ge 7, 3) := dk_162 0 7 (dk_at dksX13_of_2 18 rfl rfl)
theorem dX13_of_117 : decode cX13_of 117 = .ok (.iconst 1, 1) := dk_4 (dk_at dksX13_of_2 21 rfl rfl)
theorem dX13_of_118 : decode cX13_of 118 = .ok (.goto 4, 3) := dk_167 0 4 (dk_at dksX13_of_3 0 rfl rfl)
theorem dX13_of_121 : decode cX13_of 121 = .ok (.iconst 0, 1) := dk_3 (dk_at dksX13_of_3 3 rfl rfl)
theorem dX13_of_122 : decode cX13_of 122 = .ok (.ireturn, 1) := dk_172 (dk_at dksX13_of_3 4 rfl rfl)
theorem dX13_of_123 : decode cX13_of 123 = .ok (.iload_n 2, 1) := dk_28 (dk_at dksX13_of_3 5 rfl rfl)
theorem dX13_of_124 : decode cX13_of 124 = .ok (.iload_n 3, 1) := dk_29 (dk_at dksX13_of_3 6 rfl rfl)
theorem dX13_of_125 : decode cX13_of 125 = .ok (.if_icmp .ne 7, 3) := dk_160 0 7 (dk_at dksX13_of_3 7 rfl rfl)
theorem dX13_of_128 : decode cX13_of 128 = .ok (.iconst 1, 1) := dk_4 (dk_at dksX13_of_3 10 rfl rfl)
theorem dX13_of_129 : decode cX13_of 129 = .ok (.goto 4, 3) := dk_167 0 4 (dk_at dksX13_of_3 11 rfl rfl)
theorem dX13_of_132 : decode cX13_of 132 = .ok (.iconst 0, 1) := dk_3 (dk_at dksX13_of_3 14 rfl rfl)
theorem dX13_of_133 : decode cX13_of 133 = .ok (.ireturn, 1) := dk_172 (dk_at dksX13_of_3 15 rfl rfl)
theorem dX13_of_134 : decode cX13_of 134 = .ok (.iload_n 2, 1) := dk_28 (dk_at dksX13_of_3 16 rfl rfl)
theorem dX13_of_135 : decode cX13_of 135 = .ok (.iload_n 3, 1) := dk_29 (dk_at dksX13_of_3 17 rfl rfl)
theorem dX13_of_136 : decode cX13_of 136 = .ok (.if_icmp .le 7, 3) := dk_164 0 7 (dk_at dksX13_of_3 18 rfl rfl)
theorem dX13_of_139 : decode cX13_of 139 = .ok (.iconst 1, 1) := dk_4 (dk_at dksX13_of_3 21 rfl rfl)
theorem dX13_of_140 : decode cX13_of 140 = .ok (.goto 4, 3) := dk_167 0 4 (dk_at dksX13_of_4 0 rfl rfl)
theorem dX13_of_143 : decode cX13_of 143 = .ok (.iconst 0, 1) := dk_3 (dk_at dksX13_of_4 3 rfl rfl)
theorem dX13_of_144 : decode cX13_of 144 = .ok (.ireturn, 1) := dk_172 (dk_at dksX13_of_4 4 rfl rfl)
theorem dX13_of_145 : decode cX13_of 145 = .ok (.iload_n 2, 1) := dk_28 (dk_at dksX13_of_4 5 rfl rfl)
theorem dX13_of_146 : decode cX13_of 146 = .ok (.iload_n 3, 1) := dk_29 (dk_at dksX13_of_4 6 rfl rfl)
theorem dX13_of_147 : decode cX13_of 147 = .ok (.iand, 1) := dk_126 (dk_at dksX13_of_4 7 rfl rfl)
theorem dX13_of_148 : decode cX13_of 148 = .ok (.ireturn, 1) := dk_172 (dk_at dksX13_of_4 8 rfl rfl)
theorem dX13_of_149 : decode cX13_of 149 = .ok (.iload_n 2, 1) := dk_28 (dk_at dksX13_of_4 9 rfl rfl)
theorem dX13_of_150 : decode cX13_of 150 = .ok (.iload_n 3, 1) := dk_29 (dk_at dksX13_of_4 10 rfl rfl)
theorem dX13_of_151 : decode cX13_of 151 = .ok (.ior, 1) := dk_128 (dk_at dksX13_of_4 11 rfl rfl)
theorem dX13_of_152 : decode cX13_of 152 = .ok (.ireturn, 1) := dk_172 (dk_at dksX13_of_4 12 rfl rfl)
theorem q137 : (Jvm.Cond.initialized "NotchSticks$Joined") ∈ lw_all := lw_g (lw_at lw_m1 27 rfl) rfl
theorem q213 : (Jvm.Cond.selects "NotchSticks$Joined" ({ cls := "java/lang/Object", name := "getClass", desc := "()Ljava/lang/Class;" } : Jvm.MethodName) ({ cls := "java/lang/Object", name := "getClass", desc := "()Ljava/lang/Class;" } : Jvm.MethodName)) ∈ lw_all := lw_g (lw_at lw_m1 103 rfl) rfl
theorem q731 : (Jvm.Cond.instantiable "NotchSticks$Joined" (3 : Nat)) ∈ lw_all := lw_g (lw_at lw_m3 141 rfl) rfl
theorem q733 : (Jvm.Cond.instanceMethod ({ cls := "NotchSticks$Joined", name := "<init>", desc := "(LNotchSticks$Term;ILNotchSticks$Term;)V" } : Jvm.MethodName)) ∈ lw_all := lw_g (lw_at lw_m3 143 rfl) rfl
theorem q734 : (Jvm.Cond.code ({ cls := "NotchSticks$Joined", name := "<init>", desc := "(LNotchSticks$Term;ILNotchSticks$Term;)V" } : Jvm.MethodName) prog_8_method_1_code (4 : Nat) (Option.none : Option Jvm.ClassFile.FieldType)) ∈ lw_all := lw_g (lw_at lw_m3 144 rfl) rfl
theorem q735 : (Jvm.Cond.methodLinkNest "NotchSticks$Joined" (3 : Nat) ({ cls := "NotchSticks$Term", name := "<init>", desc := "()V" } : Jvm.MethodName) "NotchSticks") ∈ lw_tbl := lw_at lw_m3 145 rfl
theorem q736 : (Jvm.Cond.fieldLink "NotchSticks$Joined" (9 : Nat) "NotchSticks$Joined" "left" "LNotchSticks$Term;") ∈ lw_all := lw_g (lw_at lw_m3 146 rfl) rfl
theorem q737 : (Jvm.Cond.fieldLink "NotchSticks$Joined" (19 : Nat) "NotchSticks$Joined" "right" "LNotchSticks$Term;") ∈ lw_all := lw_g (lw_at lw_m3 147 rfl) rfl
theorem q738 : (Jvm.Cond.fieldLink "NotchSticks$Joined" (15 : Nat) "NotchSticks$Joined" "how" "I") ∈ lw_all := lw_g (lw_at lw_m3 148 rfl) rfl
theorem q739 : (Jvm.Cond.laysFinal "NotchSticks$Joined" "NotchSticks$Joined" "left" "LNotchSticks$Term;") ∈ lw_all := lw_g (lw_at lw_m3 149 rfl) rfl
theorem q740 : (Jvm.Cond.soleField "NotchSticks$Joined" "left") ∈ lw_all := lw_g (lw_at lw_m3 150 rfl) rfl
theorem q741 : (Jvm.Cond.laysFinal "NotchSticks$Joined" "NotchSticks$Joined" "right" "LNotchSticks$Term;") ∈ lw_all := lw_g (lw_at lw_m3 151 rfl) rfl
theorem q742 : (Jvm.Cond.soleField "NotchSticks$Joined" "right") ∈ lw_all := lw_g (lw_at lw_m3 152 rfl) rfl
theorem q743 : (Jvm.Cond.laysFinal "NotchSticks$Joined" "NotchSticks$Joined" "how" "I") ∈ lw_all := lw_g (lw_at lw_m3 153 rfl) rfl
theorem q744 : (Jvm.Cond.soleField "NotchSticks$Joined" "how") ∈ lw_all := lw_g (lw_at lw_m3 154 rfl) rfl
theorem q745 : (Jvm.Cond.superclass "NotchSticks$Joined" "NotchSticks$Term") ∈ lw_all := lw_g (lw_at lw_m3 155 rfl) rfl
theorem q860 : (Jvm.Cond.instanceMethod ({ cls := "NotchSticks$Joined", name := "of", desc := "(LNotchSticks$Asker;)I" } : Jvm.MethodName)) ∈ lw_all := lw_g (lw_at lw_m4 30 rfl) rfl
theorem q861 : (Jvm.Cond.code ({ cls := "NotchSticks$Joined", name := "of", desc := "(LNotchSticks$Asker;)I" } : Jvm.MethodName) prog_8_method_2_code (4 : Nat) (Option.some Jvm.ClassFile.FieldType.int)) ∈ lw_all := lw_g (lw_at lw_m4 31 rfl) rfl
theorem q862 : (Jvm.Cond.methodLink "NotchSticks$Joined" (22 : Nat) ({ cls := "NotchSticks$Term", name := "of", desc := "(LNotchSticks$Asker;)I" } : Jvm.MethodName)) ∈ lw_all := lw_g (lw_at lw_m4 32 rfl) rfl
theorem q867 : (Jvm.Cond.selects "NotchSticks$Joined" ({ cls := "NotchSticks$Term", name := "of", desc := "(LNotchSticks$Asker;)I" } : Jvm.MethodName) ({ cls := "NotchSticks$Joined", name := "of", desc := "(LNotchSticks$Asker;)I" } : Jvm.MethodName)) ∈ lw_all := lw_g (lw_at lw_m4 37 rfl) rfl
theorem q1722 : (Jvm.Cond.castable "NotchSticks$Joined" "java/lang/Object") ∈ lw_tbl := lw_at lw_m7 172 rfl
theorem in_X13 : ∀ w ∈ wsX130, w ∈ lw_all := lw_in wsX130 [739, 741, 743] (by decide +kernel) (by decide +kernel)
/-! NotchSticks$Line -/
set_option maxRecDepth 100000
def RX14 : String := "NotchSticks$Line"
def TX14 : u_T := fun k => match k with
  | 0 => ("NotchSticks$Line", "word", "I", true)
  | _ => ("NotchSticks$Line", "when", "LNotchSticks$Term;", true)
def tyX14 : Nat → FieldType := fun k => match k with
  | 0 => .int
  | _ => .object "NotchSticks$Term"
abbrev wsX140 : List Cond := u_ws RX14 TX14 2
theorem nmX14 : ∀ a, a < 2 → ∀ b, b < 2 → a ≠ b → (TX14 a).2.1 ≠ (TX14 b).2.1 := by decide +kernel
theorem tyX14_ok : ∀ k, k < 2 → parseFieldDescriptor (TX14 k).2.2.1 = some (tyX14 k) := by decide +kernel
abbrev cX14_init : ByteArray := prog_9_method_1_code
def yX14_init : MethodName := ⟨RX14, "<init>", "(ILNotchSticks$Term;)V"⟩
def dkwX14_init_0 : List UInt8 := [42, 183, 0, 1, 42, 27, 181, 0, 7, 42, 44, 181, 0, 13, 177]
abbrev dktX14_init_0 : List UInt8 := dkwX14_init_0 ++ []
theorem dksX14_init_0 : cX14_init.data.toList.drop 0 = dktX14_init_0 := by decide +kernel
theorem dX14_init_0 : decode cX14_init 0 = .ok (.aload_n 0, 1) := dk_42 (dk_at dksX14_init_0 0 rfl rfl)
theorem dX14_init_1 : decode cX14_init 1 = .ok (.invokespecial 1, 3) := dk_183 0 1 (dk_at dksX14_init_0 1 rfl rfl)
theorem dX14_init_4 : decode cX14_init 4 = .ok (.aload_n 0, 1) := dk_42 (dk_at dksX14_init_0 4 rfl rfl)
theorem dX14_init_5 : decode cX14_init 5 = .ok (.iload_n 1, 1) := dk_27 (dk_at dksX14_init_0 5 rfl rfl)
theorem dX14_init_6 : decode cX14_init 6 = .ok (.putfield 7, 3) := dk_181 0 7 (dk_at dksX14_init_0 6 rfl rfl)
theorem dX14_init_9 : decode cX14_init 9 = .ok (.aload_n 0, 1) := dk_42 (dk_at dksX14_init_0 9 rfl rfl)
theorem dX14_init_10 : decode cX14_init 10 = .ok (.aload_n 2, 1) := dk_44 (dk_at dksX14_init_0 10 rfl rfl)
theorem dX14_init_11 : decode cX14_init 11 = .ok (.putfield 13, 3) := dk_181 0 13 (dk_at dksX14_init_0 11 rfl rfl)
theorem dX14_init_14 : decode cX14_init 14 = .ok (.return_, 1) := dk_177 (dk_at dksX14_init_0 14 rfl rfl)
theorem q138 : (Jvm.Cond.initialized "NotchSticks$Line") ∈ lw_all := lw_g (lw_at lw_m1 28 rfl) rfl
theorem q214 : (Jvm.Cond.selects "NotchSticks$Line" ({ cls := "java/lang/Object", name := "getClass", desc := "()Ljava/lang/Class;" } : Jvm.MethodName) ({ cls := "java/lang/Object", name := "getClass", desc := "()Ljava/lang/Class;" } : Jvm.MethodName)) ∈ lw_all := lw_g (lw_at lw_m1 104 rfl) rfl
theorem q747 : (Jvm.Cond.instantiable "NotchSticks$Line" (2 : Nat)) ∈ lw_all := lw_g (lw_at lw_m3 157 rfl) rfl
theorem q749 : (Jvm.Cond.instanceMethod ({ cls := "NotchSticks$Line", name := "<init>", desc := "(ILNotchSticks$Term;)V" } : Jvm.MethodName)) ∈ lw_all := lw_g (lw_at lw_m3 159 rfl) rfl
theorem q750 : (Jvm.Cond.code ({ cls := "NotchSticks$Line", name := "<init>", desc := "(ILNotchSticks$Term;)V" } : Jvm.MethodName) prog_9_method_1_code (3 : Nat) (Option.none : Option Jvm.ClassFile.FieldType)) ∈ lw_all := lw_g (lw_at lw_m3 160 rfl) rfl
theorem q751 : (Jvm.Cond.methodLink "NotchSticks$Line" (1 : Nat) ({ cls := "java/lang/Object", name := "<init>", desc := "()V" } : Jvm.MethodName)) ∈ lw_all := lw_g (lw_at lw_m3 161 rfl) rfl
theorem q752 : (Jvm.Cond.fieldLink "NotchSticks$Line" (7 : Nat) "NotchSticks$Line" "word" "I") ∈ lw_all := lw_g (lw_at lw_m3 162 rfl) rfl
theorem q754 : (Jvm.Cond.fieldLink "NotchSticks$Line" (13 : Nat) "NotchSticks$Line" "when" "LNotchSticks$Term;") ∈ lw_all := lw_g (lw_at lw_m3 164 rfl) rfl
theorem q756 : (Jvm.Cond.laysFinal "NotchSticks$Line" "NotchSticks$Line" "word" "I") ∈ lw_all := lw_g (lw_at lw_m3 166 rfl) rfl
theorem q757 : (Jvm.Cond.soleField "NotchSticks$Line" "word") ∈ lw_all := lw_g (lw_at lw_m3 167 rfl) rfl
theorem q758 : (Jvm.Cond.laysFinal "NotchSticks$Line" "NotchSticks$Line" "when" "LNotchSticks$Term;") ∈ lw_all := lw_g (lw_at lw_m3 168 rfl) rfl
theorem q759 : (Jvm.Cond.soleField "NotchSticks$Line" "when") ∈ lw_all := lw_g (lw_at lw_m3 169 rfl) rfl
theorem q760 : (Jvm.Cond.superclass "NotchSticks$Line" "java/lang/Object") ∈ lw_all := lw_g (lw_at lw_m3 170 rfl) rfl
theorem q1723 : (Jvm.Cond.castable "NotchSticks$Line" "java/lang/Object") ∈ lw_tbl := lw_at lw_m7 173 rfl
theorem in_X14 : ∀ w ∈ wsX140, w ∈ lw_all := lw_in wsX140 [756, 758] (by decide +kernel) (by decide +kernel)
