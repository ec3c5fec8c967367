/-! FeatherYardModel -/
set_option maxRecDepth 100000
def RX8 : String := "FeatherYardModel"
def TX8 : u_T := fun k => match k with
  | 0 => ("FeatherYardModel", "thrown", "I", false)
  | 1 => ("FeatherYardModel", "world", "[I", true)
  | 2 => ("FeatherYardModel", "image", "[I", true)
  | 3 => ("FeatherYardModel", "before", "[I", true)
  | 4 => ("FeatherYardModel", "trial", "[I", true)
  | 5 => ("FeatherYardModel", "acts", "[I", true)
  | 6 => ("FeatherYardModel", "hasImage", "Z", false)
  | 7 => ("FeatherYardModel", "remembered", "I", false)
  | 8 => ("FeatherYardModel", "tape", "[B", true)
  | 9 => ("FeatherYardModel", "taped", "I", false)
  | 10 => ("FeatherYardModel", "point", "I", false)
  | 11 => ("FeatherYardModel", "end", "I", false)
  | 12 => ("FeatherYardModel", "begin", "I", false)
  | 13 => ("FeatherYardModel", "deep", "I", false)
  | 14 => ("FeatherYardModel", "faultAt", "I", false)
  | 15 => ("FeatherYardModel", "five", "[I", true)
  | 16 => ("FeatherYardModel", "steps", "I", false)
  | 17 => ("FeatherYardModel", "value", "[I", true)
  | 18 => ("FeatherYardModel", "its", "I", false)
  | 19 => ("FeatherYardModel", "itsLevel", "I", false)
  | 20 => ("FeatherYardModel", "itsColumn", "I", false)
  | 21 => ("FeatherYardModel", "itsBreath", "I", false)
  | 22 => ("FeatherYardModel", "here", "[I", true)
  | 23 => ("FeatherYardModel", "then", "[I", true)
  | 24 => ("FeatherYardModel", "landed", "[I", true)
  | 25 => ("FeatherYardModel", "blown", "I", false)
  | 26 => ("FeatherYardModel", "inAir", "I", false)
  | 27 => ("FeatherYardModel", "fly", "[I", true)
  | 28 => ("FeatherYardModel", "flier", "[I", true)
  | _ => ("FeatherYardModel", "goods", "[I", true)
def tyX8 : Nat → FieldType := fun k => match k with
  | 0 => .int
  | 1 => .array .int
  | 2 => .array .int
  | 3 => .array .int
  | 4 => .array .int
  | 5 => .array .int
  | 6 => .boolean
  | 7 => .int
  | 8 => .array .byte
  | 9 => .int
  | 10 => .int
  | 11 => .int
  | 12 => .int
  | 13 => .int
  | 14 => .int
  | 15 => .array .int
  | 16 => .int
  | 17 => .array .int
  | 18 => .int
  | 19 => .int
  | 20 => .int
  | 21 => .int
  | 22 => .array .int
  | 23 => .array .int
  | 24 => .array .int
  | 25 => .int
  | 26 => .int
  | 27 => .array .int
  | 28 => .array .int
  | _ => .array .int
abbrev wsX80 : List Cond := u_ws RX8 TX8 30
set_option maxRecDepth 100000 in
theorem nmX8 : ∀ a, a < 30 → ∀ b, b < 30 → a ≠ b → (TX8 a).2.1 ≠ (TX8 b).2.1 := by decide +kernel
set_option maxRecDepth 100000 in
theorem tyX8_ok : ∀ k, k < 30 → parseFieldDescriptor (TX8 k).2.2.1 = some (tyX8 k) := by decide +kernel
abbrev cX8_thrown : ByteArray := prog_18_method_1_code
def yX8_thrown : MethodName := ⟨RX8, "thrown", "()I"⟩
theorem dX8_thrown_0 : decode cX8_thrown 0 = .ok (.aload_n 0, 1) := by decide +kernel
theorem dX8_thrown_1 : decode cX8_thrown 1 = .ok (.getfield 3, 3) := by decide +kernel
theorem dX8_thrown_4 : decode cX8_thrown 4 = .ok (.ireturn, 1) := by decide +kernel
abbrev cX8_init : ByteArray := prog_18_method_5_code
def yX8_init : MethodName := ⟨RX8, "<init>", "()V"⟩
def dkwX8_init_7 : List UInt8 := [180, 0, 13, 16, 10, 16, 9, 79, 42, 180, 0, 13, 16, 12, 4, 79, 177]
abbrev dktX8_init_7 : List UInt8 := dkwX8_init_7 ++ []
def dkwX8_init_6 : List UInt8 := [16, 7, 16, 7, 79, 42, 180, 0, 13, 16, 8, 16, 8, 79, 42, 180, 0, 13, 16, 9, 8, 79, 42]
abbrev dktX8_init_6 : List UInt8 := dkwX8_init_6 ++ dktX8_init_7
def dkwX8_init_5 : List UInt8 := [181, 0, 54, 42, 16, 54, 188, 10, 181, 0, 57, 42, 180, 0, 13, 16, 6, 16, 12, 79, 42, 180, 0, 13]
abbrev dktX8_init_5 : List UInt8 := dkwX8_init_5 ++ dktX8_init_6
def dkwX8_init_4 : List UInt8 := [181, 0, 45, 42, 17, 0, 144, 188, 10, 181, 0, 48, 42, 16, 8, 188, 10, 181, 0, 51, 42, 5, 188, 10]
abbrev dktX8_init_4 : List UInt8 := dkwX8_init_4 ++ dktX8_init_5
def dkwX8_init_3 : List UInt8 := [42, 17, 1, 144, 188, 10, 181, 0, 39, 42, 17, 0, 208, 188, 10, 181, 0, 42, 42, 17, 0, 208, 188, 10]
abbrev dktX8_init_3 : List UInt8 := dkwX8_init_3 ++ dktX8_init_4
def dkwX8_init_2 : List UInt8 := [181, 0, 26, 42, 17, 1, 144, 188, 8, 181, 0, 29, 42, 2, 181, 0, 33, 42, 8, 188, 10, 181, 0, 36]
abbrev dktX8_init_2 : List UInt8 := dkwX8_init_2 ++ dktX8_init_3
def dkwX8_init_1 : List UInt8 := [17, 5, 51, 188, 10, 181, 0, 20, 42, 17, 1, 226, 188, 10, 181, 0, 23, 42, 17, 22, 152, 188, 10]
abbrev dktX8_init_1 : List UInt8 := dkwX8_init_1 ++ dktX8_init_2
def dkwX8_init_0 : List UInt8 := [42, 183, 0, 7, 42, 17, 8, 132, 188, 10, 181, 0, 13, 42, 17, 5, 51, 188, 10, 181, 0, 17, 42]
abbrev dktX8_init_0 : List UInt8 := dkwX8_init_0 ++ dktX8_init_1
theorem dksX8_init_0 : cX8_init.data.toList.drop 0 = dktX8_init_0 := by decide +kernel
theorem dksX8_init_1 : cX8_init.data.toList.drop 23 = dktX8_init_1 := dk_seg dksX8_init_0 23 rfl rfl
theorem dksX8_init_2 : cX8_init.data.toList.drop 46 = dktX8_init_2 := dk_seg dksX8_init_1 23 rfl rfl
theorem dksX8_init_3 : cX8_init.data.toList.drop 70 = dktX8_init_3 := dk_seg dksX8_init_2 24 rfl rfl
theorem dksX8_init_4 : cX8_init.data.toList.drop 94 = dktX8_init_4 := dk_seg dksX8_init_3 24 rfl rfl
theorem dksX8_init_5 : cX8_init.data.toList.drop 118 = dktX8_init_5 := dk_seg dksX8_init_4 24 rfl rfl
theorem dksX8_init_6 : cX8_init.data.toList.drop 142 = dktX8_init_6 := dk_seg dksX8_init_5 24 rfl rfl
theorem dksX8_init_7 : cX8_init.data.toList.drop 165 = dktX8_init_7 := dk_seg dksX8_init_6 23 rfl rfl
theorem dX8_init_0 : decode cX8_init 0 = .ok (.aload_n 0, 1) := dk_42 (dk_at dksX8_init_0 0 rfl rfl)
theorem dX8_init_1 : decode cX8_init 1 = .ok (.invokespecial 7, 3) := dk_183 0 7 (dk_at dksX8_init_0 1 rfl rfl)
theorem dX8_init_4 : decode cX8_init 4 = .ok (.aload_n 0, 1) := dk_42 (dk_at dksX8_init_0 4 rfl rfl)
theorem dX8_init_5 : decode cX8_init 5 = .ok (.sipush 2180, 3) := dk_17 8 132 (dk_at dksX8_init_0 5 rfl rfl)
theorem dX8_init_8 : decode cX8_init 8 = .ok (.newarray .int, 2) := dk_188_10 (dk_at dksX8_init_0 8 rfl rfl)
theorem dX8_init_10 : decode cX8_init 10 = .ok (.putfield 13, 3) := dk_181 0 13 (dk_at dksX8_init_0 10 rfl rfl)
theorem dX8_init_13 : decode cX8_init 13 = .ok (.aload_n 0, 1) := dk_42 (dk_at dksX8_init_0 13 rfl rfl)
theorem dX8_init_14 : decode cX8_init 14 = .ok (.sipush 1331, 3) := dk_17 5 51 (dk_at dksX8_init_0 14 rfl rfl)
theorem dX8_init_17 : decode cX8_init 17 = .ok (.newarray .int, 2) := dk_188_10 (dk_at dksX8_init_0 17 rfl rfl)
theorem dX8_init_19 : decode cX8_init 19 = .ok (.putfield 17, 3) := dk_181 0 17 (dk_at dksX8_init_0 19 rfl rfl)
theorem dX8_init_22 : decode cX8_init 22 = .ok (.aload_n 0, 1) := dk_42 (dk_at dksX8_init_0 22 rfl rfl)
theorem dX8_init_23 : decode cX8_init 23 = .ok (.sipush 1331, 3) := dk_17 5 51 (dk_at dksX8_init_1 0 rfl rfl)
theorem dX8_init_26 : decode cX8_init 26 = .ok (.newarray .int, 2) := dk_188_10 (dk_at dksX8_init_1 3 rfl rfl)
theorem dX8_init_28 : decode cX8_init 28 = .ok (.putfield 20, 3) := dk_181 0 20 (dk_at dksX8_init_1 5 rfl rfl)
theorem dX8_init_31 : decode cX8_init 31 = .ok (.aload_n 0, 1) := dk_42 (dk_at dksX8_init_1 8 rfl rfl)
theorem dX8_init_32 : decode cX8_init 32 = .ok (.sipush 482, 3) := dk_17 1 226 (dk_at dksX8_init_1 9 rfl rfl)
theorem dX8_init_35 : decode cX8_init 35 = .ok (.newarray .int, 2) := dk_188_10 (dk_at dksX8_init_1 12 rfl rfl)
theorem dX8_init_37 : decode cX8_init 37 = .ok (.putfield 23, 3) := dk_181 0 23 (dk_at dksX8_init_1 14 rfl rfl)
theorem dX8_init_40 : decode cX8_init 40 = .ok (.aload_n 0, 1) := dk_42 (dk_at dksX8_init_1 17 rfl rfl)
theorem dX8_init_41 : decode cX8_init 41 = .ok (.sipush 5784, 3) := dk_17 22 152 (dk_at dksX8_init_1 18 rfl rfl)
theorem dX8_init_44 : decode cX8_init 44 = .ok (.newarray .int, 2) := dk_188_10 (dk_at dksX8_init_1 21 rfl rfl)
theorem dX8_init_46 : decode cX8_init 46 = .ok (.putfield 26, 3) := dk_181 0 26 (dk_at dksX8_init_2 0 rfl rfl)
theorem dX8_init_49 : decode cX8_init 49 = .ok (.aload_n 0, 1) := dk_42 (dk_at dksX8_init_2 3 rfl rfl)
theorem dX8_init_50 : decode cX8_init 50 = .ok (.sipush 400, 3) := dk_17 1 144 (dk_at dksX8_init_2 4 rfl rfl)
theorem dX8_init_53 : decode cX8_init 53 = .ok (.newarray .byte, 2) := dk_188_8 (dk_at dksX8_init_2 7 rfl rfl)
theorem dX8_init_55 : decode cX8_init 55 = .ok (.putfield 29, 3) := dk_181 0 29 (dk_at dksX8_init_2 9 rfl rfl)
theorem dX8_init_58 : decode cX8_init 58 = .ok (.aload_n 0, 1) := dk_42 (dk_at dksX8_init_2 12 rfl rfl)
theorem dX8_init_59 : decode cX8_init 59 = .ok (.iconst (-1), 1) := dk_2 (dk_at dksX8_init_2 13 rfl rfl)
theorem dX8_init_60 : decode cX8_init 60 = .ok (.putfield 33, 3) := dk_181 0 33 (dk_at dksX8_init_2 14 rfl rfl)
theorem dX8_init_63 : decode cX8_init 63 = .ok (.aload_n 0, 1) := dk_42 (dk_at dksX8_init_2 17 rfl rfl)
theorem dX8_init_64 : decode cX8_init 64 = .ok (.iconst 5, 1) := dk_8 (dk_at dksX8_init_2 18 rfl rfl)
theorem dX8_init_65 : decode cX8_init 65 = .ok (.newarray .int, 2) := dk_188_10 (dk_at dksX8_init_2 19 rfl rfl)
theorem dX8_init_67 : decode cX8_init 67 = .ok (.putfield 36, 3) := dk_181 0 36 (dk_at dksX8_init_2 21 rfl rfl)
theorem dX8_init_70 : decode cX8_init 70 = .ok (.aload_n 0, 1) := dk_42 (dk_at dksX8_init_3 0 rfl rfl)
theorem dX8_init_71 : decode cX8_init 71 = .ok (.sipush 400, 3) := dk_17 1 144 (dk_at dksX8_init_3 1 rfl rfl)
theorem dX8_init_74 : decode cX8_init 74 = .ok (.newarray .int, 2) := dk_188_10 (dk_at dksX8_init_3 4 rfl rfl)
theorem dX8_init_76 : decode cX8_init 76 = .ok (.putfield 39, 3) := dk_181 0 39 (dk_at dksX8_init_3 6 rfl rfl)
theorem dX8_init_79 : decode cX8_init 79 = .ok (.aload_n 0, 1) := dk_42 (dk_at dksX8_init_3 9 rfl rfl)
theorem dX8_init_80 : decode cX8_init 80 = .ok (.sipush 208, 3) := dk_17 0 208 (dk_at dksX8_init_3 10 rfl rfl)
theorem dX8_init_83 : decode cX8_init 83 = .ok (.newarray .int, 2) := dk_188_10 (dk_at dksX8_init_3 13 rfl rfl)
theorem dX8_init_85 : decode cX8_init 85 = .ok (.putfield 42, 3) := dk_181 0 42 (dk_at dksX8_init_3 15 rfl rfl)
theorem dX8_init_88 : decode cX8_init 88 = .ok (.aload_n 0, 1) := dk_42 (dk_at dksX8_init_3 18 rfl rfl)
theorem dX8_init_89 : decode cX8_init 89 = .ok (.sipush 208, 3) := dk_17 0 208 (dk_at dksX8_init_3 19 rfl rfl)
theorem dX8_init_92 : decode cX8_init 92 = .ok (.newarray .int, 2) := dk_188_10 (dk_at dksX8_init_3 22 rfl rfl)
theorem dX8_init_94 : decode cX8_init 94 = .ok (.putfield 45, 3) := dk_181 0 45 (dk_at dksX8_init_4 0 rfl rfl)
theorem dX8_init_97 : decode cX8_init 97 = .ok (.aload_n 0, 1) := dk_42 (dk_at dksX8_init_4 3 rfl rfl)
theorem dX8_init_98 : decode cX8_init 98 = .ok (.sipush 144, 3) := dk_17 0 144 (dk_at dksX8_init_4 4 rfl rfl)
theorem dX8_init_101 : decode cX8_init 101 = .ok (.newarray .int, 2) := dk_188_10 (dk_at dksX8_init_4 7 rfl rfl)
theorem dX8_init_103 : decode cX8_init 103 = .ok (.putfield 48, 3) := dk_181 0 48 (dk_at dksX8_init_4 9 rfl rfl)
theorem dX8_init_106 : decode cX8_init 106 = .ok (.aload_n 0, 1) := dk_42 (dk_at dksX8_init_4 12 rfl rfl)
theorem dX8_init_107 : decode cX8_init 107 = .ok (.bipush 8, 2) := dk_16 8 (dk_at dksX8_init_4 13 rfl rfl)
theorem dX8_init_109 : decode cX8_init 109 = .ok (.newarray .int, 2) := dk_188_10 (dk_at dksX8_init_4 15 rfl rfl)
theorem dX8_init_111 : decode cX8_init 111 = .ok (.putfield 51, 3) := dk_181 0 51 (dk_at dksX8_init_4 17 rfl rfl)
theorem dX8_init_114 : decode cX8_init 114 = .ok (.aload_n 0, 1) := dk_42 (dk_at dksX8_init_4 20 rfl rfl)
theorem dX8_init_115 : decode cX8_init 115 = .ok (.iconst 2, 1) := dk_5 (dk_at dksX8_init_4 21 rfl rfl)
theorem dX8_init_116 : decode cX8_init 116 = .ok (.newarray .int, 2) := dk_188_10 (dk_at dksX8_init_4 22 rfl rfl)
theorem dX8_init_118 : decode cX8_init 118 = .ok (.putfield 54, 3) := dk_181 0 54 (dk_at dksX8_init_5 0 rfl rfl)
theorem dX8_init_121 : decode cX8_init 121 = .ok (.aload_n 0, 1) := dk_42 (dk_at dksX8_init_5 3 rfl rfl)
theorem dX8_init_122 : decode cX8_init 122 = .ok (.bipush 54, 2) := dk_16 54 (dk_at dksX8_init_5 4 rfl rfl)
theorem dX8_init_124 : decode cX8_init 124 = .ok (.newarray .int, 2) := dk_188_10 (dk_at dksX8_init_5 6 rfl rfl)
theorem dX8_init_126 : decode cX8_init 126 = .ok (.putfield 57, 3) := dk_181 0 57 (dk_at dksX8_init_5 8 rfl rfl)
theorem dX8_init_129 : decode cX8_init 129 = .ok (.aload_n 0, 1) := dk_42 (dk_at dksX8_init_5 11 rfl rfl)
theorem dX8_init_130 : decode cX8_init 130 = .ok (.getfield 13, 3) := dk_180 0 13 (dk_at dksX8_init_5 12 rfl rfl)
theorem dX8_init_133 : decode cX8_init 133 = .ok (.bipush 6, 2) := dk_16 6 (dk_at dksX8_init_5 15 rfl rfl)
theorem dX8_init_135 : decode cX8_init 135 = .ok (.bipush 12, 2) := dk_16 12 (dk_at dksX8_init_5 17 rfl rfl)
theorem dX8_init_137 : decode cX8_init 137 = .ok (.iastore, 1) := dk_79 (dk_at dksX8_init_5 19 rfl rfl)
theorem dX8_init_138 : decode cX8_init 138 = .ok (.aload_n 0, 1) := dk_42 (dk_at dksX8_init_5 20 rfl rfl)
theorem dX8_init_139 : decode cX8_init 139 = .ok (.getfield 13, 3) := dk_180 0 13 (dk_at dksX8_init_5 21 rfl rfl)
theorem dX8_init_142 : decode cX8_init 142 = .ok (.bipush 7, 2) := dk_16 7 (dk_at dksX8_init_6 0 rfl rfl)
theorem dX8_init_144 : decode cX8_init 144 = .ok (.bipush 7, 2) := dk_16 7 (dk_at dksX8_init_6 2 rfl rfl)
theorem dX8_init_146 : decode cX8_init 146 = .ok (.iastore, 1) := dk_79 (dk_at dksX8_init_6 4 rfl rfl)
theorem dX8_init_147 : decode cX8_init 147 = .ok (.aload_n 0, 1) := dk_42 (dk_at dksX8_init_6 5 rfl rfl)
theorem dX8_init_148 : decode cX8_init 148 = .ok (.getfield 13, 3) := dk_180 0 13 (dk_at dksX8_init_6 6 rfl rfl)
theorem dX8_init_151 : decode cX8_init 151 = .ok (.bipush 8, 2) := dk_16 8 (dk_at dksX8_init_6 9 rfl rfl)
theorem dX8_init_153 : decode cX8_init 153 = .ok (.bipush 8, 2) := dk_16 8 (dk_at dksX8_init_6 11 rfl rfl)
theorem dX8_init_155 : decode cX8_init 155 = .ok (.iastore, 1) := dk_79 (dk_at dksX8_init_6 13 rfl rfl)
theorem dX8_init_156 : decode cX8_init 156 = .ok (.aload_n 0, 1) := dk_42 (dk_at dksX8_init_6 14 rfl rfl)
theorem dX8_init_157 : decode cX8_init 157 = .ok (.getfield 13, 3) := dk_180 0 13 (dk_at dksX8_init_6 15 rfl rfl)
theorem dX8_init_160 : decode cX8_init 160 = .ok (.bipush 9, 2) := dk_16 9 (dk_at dksX8_init_6 18 rfl rfl)
theorem dX8_init_162 : decode cX8_init 162 = .ok (.iconst 5, 1) := dk_8 (dk_at dksX8_init_6 20 rfl rfl)
theorem dX8_init_163 : decode cX8_init 163 = .ok (.iastore, 1) := dk_79 (dk_at dksX8_init_6 21 rfl rfl)
theorem dX8_init_164 : decode cX8_init 164 = .ok (.aload_n 0, 1) := dk_42 (dk_at dksX8_init_6 22 rfl rfl)
theorem dX8_init_165 : decode cX8_init 165 = .ok (.getfield 13, 3) := dk_180 0 13 (dk_at dksX8_init_7 0 rfl rfl)
theorem dX8_init_168 : decode cX8_init 168 = .ok (.bipush 10, 2) := dk_16 10 (dk_at dksX8_init_7 3 rfl rfl)
theorem dX8_init_170 : decode cX8_init 170 = .ok (.bipush 9, 2) := dk_16 9 (dk_at dksX8_init_7 5 rfl rfl)
theorem dX8_init_172 : decode cX8_init 172 = .ok (.iastore, 1) := dk_79 (dk_at dksX8_init_7 7 rfl rfl)
theorem dX8_init_173 : decode cX8_init 173 = .ok (.aload_n 0, 1) := dk_42 (dk_at dksX8_init_7 8 rfl rfl)
theorem dX8_init_174 : decode cX8_init 174 = .ok (.getfield 13, 3) := dk_180 0 13 (dk_at dksX8_init_7 9 rfl rfl)
theorem dX8_init_177 : decode cX8_init 177 = .ok (.bipush 12, 2) := dk_16 12 (dk_at dksX8_init_7 12 rfl rfl)
theorem dX8_init_179 : decode cX8_init 179 = .ok (.iconst 1, 1) := dk_4 (dk_at dksX8_init_7 14 rfl rfl)
theorem dX8_init_180 : decode cX8_init 180 = .ok (.iastore, 1) := dk_79 (dk_at dksX8_init_7 15 rfl rfl)
theorem dX8_init_181 : decode cX8_init 181 = .ok (.return_, 1) := dk_177 (dk_at dksX8_init_7 16 rfl rfl)
abbrev cX8_image : ByteArray := prog_18_method_6_code
def yX8_image : MethodName := ⟨RX8, "image", "()V"⟩
def dkwX8_image_1 : List UInt8 := [46, 79, 132, 1, 1, 167, 255, 234, 42, 4, 181, 0, 60, 177]
abbrev dktX8_image_1 : List UInt8 := dkwX8_image_1 ++ []
def dkwX8_image_0 : List UInt8 := [42, 3, 181, 0, 3, 3, 60, 27, 17, 5, 51, 162, 0, 21, 42, 180, 0, 17, 27, 42, 180, 0, 13, 27]
abbrev dktX8_image_0 : List UInt8 := dkwX8_image_0 ++ dktX8_image_1
theorem dksX8_image_0 : cX8_image.data.toList.drop 0 = dktX8_image_0 := by decide +kernel
theorem dksX8_image_1 : cX8_image.data.toList.drop 24 = dktX8_image_1 := dk_seg dksX8_image_0 24 rfl rfl
theorem dX8_image_0 : decode cX8_image 0 = .ok (.aload_n 0, 1) := dk_42 (dk_at dksX8_image_0 0 rfl rfl)
theorem dX8_image_1 : decode cX8_image 1 = .ok (.iconst 0, 1) := dk_3 (dk_at dksX8_image_0 1 rfl rfl)
theorem dX8_image_2 : decode cX8_image 2 = .ok (.putfield 3, 3) := dk_181 0 3 (dk_at dksX8_image_0 2 rfl rfl)
theorem dX8_image_5 : decode cX8_image 5 = .ok (.iconst 0, 1) := dk_3 (dk_at dksX8_image_0 5 rfl rfl)
theorem dX8_image_6 : decode cX8_image 6 = .ok (.istore_n 1, 1) := dk_60 (dk_at dksX8_image_0 6 rfl rfl)
theorem dX8_image_7 : decode cX8_image 7 = .ok (.iload_n 1, 1) := dk_27 (dk_at dksX8_image_0 7 rfl rfl)
theorem dX8_image_8 : decode cX8_image 8 = .ok (.sipush 1331, 3) := dk_17 5 51 (dk_at dksX8_image_0 8 rfl rfl)
theorem dX8_image_11 : decode cX8_image 11 = .ok (.if_icmp .ge 21, 3) := dk_162 0 21 (dk_at dksX8_image_0 11 rfl rfl)
theorem dX8_image_14 : decode cX8_image 14 = .ok (.aload_n 0, 1) := dk_42 (dk_at dksX8_image_0 14 rfl rfl)
theorem dX8_image_15 : decode cX8_image 15 = .ok (.getfield 17, 3) := dk_180 0 17 (dk_at dksX8_image_0 15 rfl rfl)
theorem dX8_image_18 : decode cX8_image 18 = .ok (.iload_n 1, 1) := dk_27 (dk_at dksX8_image_0 18 rfl rfl)
theorem dX8_image_19 : decode cX8_image 19 = .ok (.aload_n 0, 1) := dk_42 (dk_at dksX8_image_0 19 rfl rfl)
theorem dX8_image_20 : decode cX8_image 20 = .ok (.getfield 13, 3) := dk_180 0 13 (dk_at dksX8_image_0 20 rfl rfl)
theorem dX8_image_23 : decode cX8_image 23 = .ok (.iload_n 1, 1) := dk_27 (dk_at dksX8_image_0 23 rfl rfl)
theorem dX8_image_24 : decode cX8_image 24 = .ok (.iaload, 1) := dk_46 (dk_at dksX8_image_1 0 rfl rfl)
theorem dX8_image_25 : decode cX8_image 25 = .ok (.iastore, 1) := dk_79 (dk_at dksX8_image_1 1 rfl rfl)
theorem dX8_image_26 : decode cX8_image 26 = .ok (.iinc 1 1, 3) := dk_132 1 1 (dk_at dksX8_image_1 2 rfl rfl)
theorem dX8_image_29 : decode cX8_image 29 = .ok (.goto (-22), 3) := dk_167 255 234 (dk_at dksX8_image_1 5 rfl rfl)
theorem dX8_image_32 : decode cX8_image 32 = .ok (.aload_n 0, 1) := dk_42 (dk_at dksX8_image_1 8 rfl rfl)
theorem dX8_image_33 : decode cX8_image 33 = .ok (.iconst 1, 1) := dk_4 (dk_at dksX8_image_1 9 rfl rfl)
theorem dX8_image_34 : decode cX8_image 34 = .ok (.putfield 60, 3) := dk_181 0 60 (dk_at dksX8_image_1 10 rfl rfl)
theorem dX8_image_37 : decode cX8_image 37 = .ok (.return_, 1) := dk_177 (dk_at dksX8_image_1 13 rfl rfl)
abbrev cX8_back : ByteArray := prog_18_method_7_code
def yX8_back : MethodName := ⟨RX8, "back", "()Z"⟩
def dkwX8_back_1 : List UInt8 := [180, 0, 13, 27, 42, 180, 0, 17, 27, 46, 79, 132, 1, 1, 167, 255, 234, 42, 3, 181, 0, 64, 4, 172]
abbrev dktX8_back_1 : List UInt8 := dkwX8_back_1 ++ []
def dkwX8_back_0 : List UInt8 := [42, 3, 181, 0, 3, 42, 180, 0, 60, 154, 0, 5, 3, 172, 3, 60, 27, 17, 5, 51, 162, 0, 21, 42]
abbrev dktX8_back_0 : List UInt8 := dkwX8_back_0 ++ dktX8_back_1
theorem dksX8_back_0 : cX8_back.data.toList.drop 0 = dktX8_back_0 := by decide +kernel
theorem dksX8_back_1 : cX8_back.data.toList.drop 24 = dktX8_back_1 := dk_seg dksX8_back_0 24 rfl rfl
theorem dX8_back_0 : decode cX8_back 0 = .ok (.aload_n 0, 1) := dk_42 (dk_at dksX8_back_0 0 rfl rfl)
theorem dX8_back_1 : decode cX8_back 1 = .ok (.iconst 0, 1) := dk_3 (dk_at dksX8_back_0 1 rfl rfl)
theorem dX8_back_2 : decode cX8_back 2 = .ok (.putfield 3, 3) := dk_181 0 3 (dk_at dksX8_back_0 2 rfl rfl)
theorem dX8_back_5 : decode cX8_back 5 = .ok (.aload_n 0, 1) := dk_42 (dk_at dksX8_back_0 5 rfl rfl)
theorem dX8_back_6 : decode cX8_back 6 = .ok (.getfield 60, 3) := dk_180 0 60 (dk_at dksX8_back_0 6 rfl rfl)
theorem dX8_back_9 : decode cX8_back 9 = .ok (.ifCond .ne 5, 3) := dk_154 0 5 (dk_at dksX8_back_0 9 rfl rfl)
theorem dX8_back_12 : decode cX8_back 12 = .ok (.iconst 0, 1) := dk_3 (dk_at dksX8_back_0 12 rfl rfl)
theorem dX8_back_13 : decode cX8_back 13 = .ok (.ireturn, 1) := dk_172 (dk_at dksX8_back_0 13 rfl rfl)
theorem dX8_back_14 : decode cX8_back 14 = .ok (.iconst 0, 1) := dk_3 (dk_at dksX8_back_0 14 rfl rfl)
theorem dX8_back_15 : decode cX8_back 15 = .ok (.istore_n 1, 1) := dk_60 (dk_at dksX8_back_0 15 rfl rfl)
theorem dX8_back_16 : decode cX8_back 16 = .ok (.iload_n 1, 1) := dk_27 (dk_at dksX8_back_0 16 rfl rfl)
theorem dX8_back_17 : decode cX8_back 17 = .ok (.sipush 1331, 3) := dk_17 5 51 (dk_at dksX8_back_0 17 rfl rfl)
theorem dX8_back_20 : decode cX8_back 20 = .ok (.if_icmp .ge 21, 3) := dk_162 0 21 (dk_at dksX8_back_0 20 rfl rfl)
theorem dX8_back_23 : decode cX8_back 23 = .ok (.aload_n 0, 1) := dk_42 (dk_at dksX8_back_0 23 rfl rfl)
theorem dX8_back_24 : decode cX8_back 24 = .ok (.getfield 13, 3) := dk_180 0 13 (dk_at dksX8_back_1 0 rfl rfl)
theorem dX8_back_27 : decode cX8_back 27 = .ok (.iload_n 1, 1) := dk_27 (dk_at dksX8_back_1 3 rfl rfl)
theorem dX8_back_28 : decode cX8_back 28 = .ok (.aload_n 0, 1) := dk_42 (dk_at dksX8_back_1 4 rfl rfl)
theorem dX8_back_29 : decode cX8_back 29 = .ok (.getfield 17, 3) := dk_180 0 17 (dk_at dksX8_back_1 5 rfl rfl)
theorem dX8_back_32 : decode cX8_back 32 = .ok (.iload_n 1, 1) := dk_27 (dk_at dksX8_back_1 8 rfl rfl)
theorem dX8_back_33 : decode cX8_back 33 = .ok (.iaload, 1) := dk_46 (dk_at dksX8_back_1 9 rfl rfl)
theorem dX8_back_34 : decode cX8_back 34 = .ok (.iastore, 1) := dk_79 (dk_at dksX8_back_1 10 rfl rfl)
theorem dX8_back_35 : decode cX8_back 35 = .ok (.iinc 1 1, 3) := dk_132 1 1 (dk_at dksX8_back_1 11 rfl rfl)
theorem dX8_back_38 : decode cX8_back 38 = .ok (.goto (-22), 3) := dk_167 255 234 (dk_at dksX8_back_1 14 rfl rfl)
theorem dX8_back_41 : decode cX8_back 41 = .ok (.aload_n 0, 1) := dk_42 (dk_at dksX8_back_1 17 rfl rfl)
theorem dX8_back_42 : decode cX8_back 42 = .ok (.iconst 0, 1) := dk_3 (dk_at dksX8_back_1 18 rfl rfl)
theorem dX8_back_43 : decode cX8_back 43 = .ok (.putfield 64, 3) := dk_181 0 64 (dk_at dksX8_back_1 19 rfl rfl)
theorem dX8_back_46 : decode cX8_back 46 = .ok (.iconst 1, 1) := dk_4 (dk_at dksX8_back_1 22 rfl rfl)
theorem dX8_back_47 : decode cX8_back 47 = .ok (.ireturn, 1) := dk_172 (dk_at dksX8_back_1 23 rfl rfl)
abbrev cX8_undo : ByteArray := prog_18_method_9_code
def yX8_undo : MethodName := ⟨RX8, "undo", "()Z"⟩
def dkwX8_undo_2 : List UInt8 := [180, 0, 64, 104, 27, 96, 46, 79, 132, 1, 1, 167, 255, 225, 4, 172]
abbrev dktX8_undo_2 : List UInt8 := dkwX8_undo_2 ++ []
def dkwX8_undo_1 : List UInt8 := [3, 60, 27, 17, 1, 226, 162, 0, 30, 42, 180, 0, 13, 27, 42, 180, 0, 26, 17, 1, 226, 42]
abbrev dktX8_undo_1 : List UInt8 := dkwX8_undo_1 ++ dktX8_undo_2
def dkwX8_undo_0 : List UInt8 := [42, 3, 181, 0, 3, 42, 180, 0, 64, 154, 0, 5, 3, 172, 42, 89, 180, 0, 64, 4, 100, 181, 0, 64]
abbrev dktX8_undo_0 : List UInt8 := dkwX8_undo_0 ++ dktX8_undo_1
theorem dksX8_undo_0 : cX8_undo.data.toList.drop 0 = dktX8_undo_0 := by decide +kernel
theorem dksX8_undo_1 : cX8_undo.data.toList.drop 24 = dktX8_undo_1 := dk_seg dksX8_undo_0 24 rfl rfl
theorem dksX8_undo_2 : cX8_undo.data.toList.drop 46 = dktX8_undo_2 := dk_seg dksX8_undo_1 22 rfl rfl
theorem dX8_undo_0 : decode cX8_undo 0 = .ok (.aload_n 0, 1) := dk_42 (dk_at dksX8_undo_0 0 rfl rfl)
theorem dX8_undo_1 : decode cX8_undo 1 = .ok (.iconst 0, 1) := dk_3 (dk_at dksX8_undo_0 1 rfl rfl)
theorem dX8_undo_2 : decode cX8_undo 2 = .ok (.putfield 3, 3) := dk_181 0 3 (dk_at dksX8_undo_0 2 rfl rfl)
theorem dX8_undo_5 : decode cX8_undo 5 = .ok (.aload_n 0, 1) := dk_42 (dk_at dksX8_undo_0 5 rfl rfl)
theorem dX8_undo_6 : decode cX8_undo 6 = .ok (.getfield 64, 3) := dk_180 0 64 (dk_at dksX8_undo_0 6 rfl rfl)
theorem dX8_undo_9 : decode cX8_undo 9 = .ok (.ifCond .ne 5, 3) := dk_154 0 5 (dk_at dksX8_undo_0 9 rfl rfl)
theorem dX8_undo_12 : decode cX8_undo 12 = .ok (.iconst 0, 1) := dk_3 (dk_at dksX8_undo_0 12 rfl rfl)
theorem dX8_undo_13 : decode cX8_undo 13 = .ok (.ireturn, 1) := dk_172 (dk_at dksX8_undo_0 13 rfl rfl)
theorem dX8_undo_14 : decode cX8_undo 14 = .ok (.aload_n 0, 1) := dk_42 (dk_at dksX8_undo_0 14 rfl rfl)
theorem dX8_undo_15 : decode cX8_undo 15 = .ok (.dup, 1) := dk_89 (dk_at dksX8_undo_0 15 rfl rfl)
theorem dX8_undo_16 : decode cX8_undo 16 = .ok (.getfield 64, 3) := dk_180 0 64 (dk_at dksX8_undo_0 16 rfl rfl)
theorem dX8_undo_19 : decode cX8_undo 19 = .ok (.iconst 1, 1) := dk_4 (dk_at dksX8_undo_0 19 rfl rfl)
theorem dX8_undo_20 : decode cX8_undo 20 = .ok (.isub, 1) := dk_100 (dk_at dksX8_undo_0 20 rfl rfl)
theorem dX8_undo_21 : decode cX8_undo 21 = .ok (.putfield 64, 3) := dk_181 0 64 (dk_at dksX8_undo_0 21 rfl rfl)
theorem dX8_undo_24 : decode cX8_undo 24 = .ok (.iconst 0, 1) := dk_3 (dk_at dksX8_undo_1 0 rfl rfl)
theorem dX8_undo_25 : decode cX8_undo 25 = .ok (.istore_n 1, 1) := dk_60 (dk_at dksX8_undo_1 1 rfl rfl)
theorem dX8_undo_26 : decode cX8_undo 26 = .ok (.iload_n 1, 1) := dk_27 (dk_at dksX8_undo_1 2 rfl rfl)
theorem dX8_undo_27 : decode cX8_undo 27 = .ok (.sipush 482, 3) := dk_17 1 226 (dk_at dksX8_undo_1 3 rfl rfl)
theorem dX8_undo_30 : decode cX8_undo 30 = .ok (.if_icmp .ge 30, 3) := dk_162 0 30 (dk_at dksX8_undo_1 6 rfl rfl)
theorem dX8_undo_33 : decode cX8_undo 33 = .ok (.aload_n 0, 1) := dk_42 (dk_at dksX8_undo_1 9 rfl rfl)
theorem dX8_undo_34 : decode cX8_undo 34 = .ok (.getfield 13, 3) := dk_180 0 13 (dk_at dksX8_undo_1 10 rfl rfl)
theorem dX8_undo_37 : decode cX8_undo 37 = .ok (.iload_n 1, 1) := dk_27 (dk_at dksX8_undo_1 13 rfl rfl)
theorem dX8_undo_38 : decode cX8_undo 38 = .ok (.aload_n 0, 1) := dk_42 (dk_at dksX8_undo_1 14 rfl rfl)
theorem dX8_undo_39 : decode cX8_undo 39 = .ok (.getfield 26, 3) := dk_180 0 26 (dk_at dksX8_undo_1 15 rfl rfl)
theorem dX8_undo_42 : decode cX8_undo 42 = .ok (.sipush 482, 3) := dk_17 1 226 (dk_at dksX8_undo_1 18 rfl rfl)
theorem dX8_undo_45 : decode cX8_undo 45 = .ok (.aload_n 0, 1) := dk_42 (dk_at dksX8_undo_1 21 rfl rfl)
theorem dX8_undo_46 : decode cX8_undo 46 = .ok (.getfield 64, 3) := dk_180 0 64 (dk_at dksX8_undo_2 0 rfl rfl)
theorem dX8_undo_49 : decode cX8_undo 49 = .ok (.imul, 1) := dk_104 (dk_at dksX8_undo_2 3 rfl rfl)
theorem dX8_undo_50 : decode cX8_undo 50 = .ok (.iload_n 1, 1) := dk_27 (dk_at dksX8_undo_2 4 rfl rfl)
theorem dX8_undo_51 : decode cX8_undo 51 = .ok (.iadd, 1) := dk_96 (dk_at dksX8_undo_2 5 rfl rfl)
theorem dX8_undo_52 : decode cX8_undo 52 = .ok (.iaload, 1) := dk_46 (dk_at dksX8_undo_2 6 rfl rfl)
theorem dX8_undo_53 : decode cX8_undo 53 = .ok (.iastore, 1) := dk_79 (dk_at dksX8_undo_2 7 rfl rfl)
theorem dX8_undo_54 : decode cX8_undo 54 = .ok (.iinc 1 1, 3) := dk_132 1 1 (dk_at dksX8_undo_2 8 rfl rfl)
theorem dX8_undo_57 : decode cX8_undo 57 = .ok (.goto (-31), 3) := dk_167 255 225 (dk_at dksX8_undo_2 11 rfl rfl)
theorem dX8_undo_60 : decode cX8_undo 60 = .ok (.iconst 1, 1) := dk_4 (dk_at dksX8_undo_2 14 rfl rfl)
theorem dX8_undo_61 : decode cX8_undo 61 = .ok (.ireturn, 1) := dk_172 (dk_at dksX8_undo_2 15 rfl rfl)
abbrev cX8_feed : ByteArray := prog_18_method_24_code
def yX8_feed : MethodName := ⟨RX8, "feed", "(IIIII)I"⟩
def dkwX8_feed_5 : List UInt8 := [180, 0, 89, 172]
abbrev dktX8_feed_5 : List UInt8 := dkwX8_feed_5 ++ []
def dkwX8_feed_4 : List UInt8 := [100, 122, 145, 84, 132, 6, 1, 167, 255, 213, 42, 89, 180, 0, 89, 16, 20, 96, 181, 0, 89, 42]
abbrev dktX8_feed_4 : List UInt8 := dkwX8_feed_4 ++ dktX8_feed_5
def dkwX8_feed_3 : List UInt8 := [180, 0, 89, 21, 6, 96, 42, 180, 0, 36, 21, 6, 7, 108, 46, 16, 24, 16, 8, 21, 6, 7, 112, 104]
abbrev dktX8_feed_3 : List UInt8 := dkwX8_feed_3 ++ dktX8_feed_4
def dkwX8_feed_2 : List UInt8 := [79, 42, 180, 0, 36, 7, 21, 5, 79, 3, 54, 6, 21, 6, 16, 20, 162, 0, 42, 42, 180, 0, 29, 42]
abbrev dktX8_feed_2 : List UInt8 := dkwX8_feed_2 ++ dktX8_feed_3
def dkwX8_feed_1 : List UInt8 := [3, 27, 79, 42, 180, 0, 36, 4, 28, 79, 42, 180, 0, 36, 5, 29, 79, 42, 180, 0, 36, 6, 21, 4]
abbrev dktX8_feed_1 : List UInt8 := dkwX8_feed_1 ++ dktX8_feed_2
def dkwX8_feed_0 : List UInt8 := [42, 3, 181, 0, 3, 42, 180, 0, 89, 16, 20, 96, 17, 1, 144, 164, 0, 5, 2, 172, 42, 180, 0, 36]
abbrev dktX8_feed_0 : List UInt8 := dkwX8_feed_0 ++ dktX8_feed_1
theorem dksX8_feed_0 : cX8_feed.data.toList.drop 0 = dktX8_feed_0 := by decide +kernel
theorem dksX8_feed_1 : cX8_feed.data.toList.drop 24 = dktX8_feed_1 := dk_seg dksX8_feed_0 24 rfl rfl
theorem dksX8_feed_2 : cX8_feed.data.toList.drop 48 = dktX8_feed_2 := dk_seg dksX8_feed_1 24 rfl rfl
theorem dksX8_feed_3 : cX8_feed.data.toList.drop 72 = dktX8_feed_3 := dk_seg dksX8_feed_2 24 rfl rfl
theorem dksX8_feed_4 : cX8_feed.data.toList.drop 96 = dktX8_feed_4 := dk_seg dksX8_feed_3 24 rfl rfl
theorem dksX8_feed_5 : cX8_feed.data.toList.drop 118 = dktX8_feed_5 := dk_seg dksX8_feed_4 22 rfl rfl
theorem dX8_feed_0 : decode cX8_feed 0 = .ok (.aload_n 0, 1) := dk_42 (dk_at dksX8_feed_0 0 rfl rfl)
theorem dX8_feed_1 : decode cX8_feed 1 = .ok (.iconst 0, 1) := dk_3 (dk_at dksX8_feed_0 1 rfl rfl)
theorem dX8_feed_2 : decode cX8_feed 2 = .ok (.putfield 3, 3) := dk_181 0 3 (dk_at dksX8_feed_0 2 rfl rfl)
theorem dX8_feed_5 : decode cX8_feed 5 = .ok (.aload_n 0, 1) := dk_42 (dk_at dksX8_feed_0 5 rfl rfl)
theorem dX8_feed_6 : decode cX8_feed 6 = .ok (.getfield 89, 3) := dk_180 0 89 (dk_at dksX8_feed_0 6 rfl rfl)
theorem dX8_feed_9 : decode cX8_feed 9 = .ok (.bipush 20, 2) := dk_16 20 (dk_at dksX8_feed_0 9 rfl rfl)
theorem dX8_feed_11 : decode cX8_feed 11 = .ok (.iadd, 1) := dk_96 (dk_at dksX8_feed_0 11 rfl rfl)
theorem dX8_feed_12 : decode cX8_feed 12 = .ok (.sipush 400, 3) := dk_17 1 144 (dk_at dksX8_feed_0 12 rfl rfl)
theorem dX8_feed_15 : decode cX8_feed 15 = .ok (.if_icmp .le 5, 3) := dk_164 0 5 (dk_at dksX8_feed_0 15 rfl rfl)
theorem dX8_feed_18 : decode cX8_feed 18 = .ok (.iconst (-1), 1) := dk_2 (dk_at dksX8_feed_0 18 rfl rfl)
theorem dX8_feed_19 : decode cX8_feed 19 = .ok (.ireturn, 1) := dk_172 (dk_at dksX8_feed_0 19 rfl rfl)
theorem dX8_feed_20 : decode cX8_feed 20 = .ok (.aload_n 0, 1) := dk_42 (dk_at dksX8_feed_0 20 rfl rfl)
theorem dX8_feed_21 : decode cX8_feed 21 = .ok (.getfield 36, 3) := dk_180 0 36 (dk_at dksX8_feed_0 21 rfl rfl)
theorem dX8_feed_24 : decode cX8_feed 24 = .ok (.iconst 0, 1) := dk_3 (dk_at dksX8_feed_1 0 rfl rfl)
theorem dX8_feed_25 : decode cX8_feed 25 = .ok (.iload_n 1, 1) := dk_27 (dk_at dksX8_feed_1 1 rfl rfl)
theorem dX8_feed_26 : decode cX8_feed 26 = .ok (.iastore, 1) := dk_79 (dk_at dksX8_feed_1 2 rfl rfl)
theorem dX8_feed_27 : decode cX8_feed 27 = .ok (.aload_n 0, 1) := dk_42 (dk_at dksX8_feed_1 3 rfl rfl)
theorem dX8_feed_28 : decode cX8_feed 28 = .ok (.getfield 36, 3) := dk_180 0 36 (dk_at dksX8_feed_1 4 rfl rfl)
theorem dX8_feed_31 : decode cX8_feed 31 = .ok (.iconst 1, 1) := dk_4 (dk_at dksX8_feed_1 7 rfl rfl)
theorem dX8_feed_32 : decode cX8_feed 32 = .ok (.iload_n 2, 1) := dk_28 (dk_at dksX8_feed_1 8 rfl rfl)
theorem dX8_feed_33 : decode cX8_feed 33 = .ok (.iastore, 1) := dk_79 (dk_at dksX8_feed_1 9 rfl rfl)
theorem dX8_feed_34 : decode cX8_feed 34 = .ok (.aload_n 0, 1) := dk_42 (dk_at dksX8_feed_1 10 rfl rfl)
theorem dX8_feed_35 : decode cX8_feed 35 = .ok (.getfield 36, 3) := dk_180 0 36 (dk_at dksX8_feed_1 11 rfl rfl)
theorem dX8_feed_38 : decode cX8_feed 38 = .ok (.iconst 2, 1) := dk_5 (dk_at dksX8_feed_1 14 rfl rfl)
theorem dX8_feed_39 : decode cX8_feed 39 = .ok (.iload_n 3, 1) := dk_29 (dk_at dksX8_feed_1 15 rfl rfl)
theorem dX8_feed_40 : decode cX8_feed 40 = .ok (.iastore, 1) := dk_79 (dk_at dksX8_feed_1 16 rfl rfl)
theorem dX8_feed_41 : decode cX8_feed 41 = .ok (.aload_n 0, 1) := dk_42 (dk_at dksX8_feed_1 17 rfl rfl)
theorem dX8_feed_42 : decode cX8_feed 42 = .ok (.getfield 36, 3) := dk_180 0 36 (dk_at dksX8_feed_1 18 rfl rfl)
theorem dX8_feed_45 : decode cX8_feed 45 = .ok (.iconst 3, 1) := dk_6 (dk_at dksX8_feed_1 21 rfl rfl)
theorem dX8_feed_46 : decode cX8_feed 46 = .ok (.iload 4, 2) := dk_21 4 (dk_at dksX8_feed_1 22 rfl rfl)
theorem dX8_feed_48 : decode cX8_feed 48 = .ok (.iastore, 1) := dk_79 (dk_at dksX8_feed_2 0 rfl rfl)
theorem dX8_feed_49 : decode cX8_feed 49 = .ok (.aload_n 0, 1) := dk_42 (dk_at dksX8_feed_2 1 rfl rfl)
theorem dX8_feed_50 : decode cX8_feed 50 = .ok (.getfield 36, 3) := dk_180 0 36 (dk_at dksX8_feed_2 2 rfl rfl)
theorem dX8_feed_53 : decode cX8_feed 53 = .ok (.iconst 4, 1) := dk_7 (dk_at dksX8_feed_2 5 rfl rfl)
theorem dX8_feed_54 : decode cX8_feed 54 = .ok (.iload 5, 2) := dk_21 5 (dk_at dksX8_feed_2 6 rfl rfl)
theorem dX8_feed_56 : decode cX8_feed 56 = .ok (.iastore, 1) := dk_79 (dk_at dksX8_feed_2 8 rfl rfl)
theorem dX8_feed_57 : decode cX8_feed 57 = .ok (.iconst 0, 1) := dk_3 (dk_at dksX8_feed_2 9 rfl rfl)
theorem dX8_feed_58 : decode cX8_feed 58 = .ok (.istore 6, 2) := dk_54 6 (dk_at dksX8_feed_2 10 rfl rfl)
theorem dX8_feed_60 : decode cX8_feed 60 = .ok (.iload 6, 2) := dk_21 6 (dk_at dksX8_feed_2 12 rfl rfl)
theorem dX8_feed_62 : decode cX8_feed 62 = .ok (.bipush 20, 2) := dk_16 20 (dk_at dksX8_feed_2 14 rfl rfl)
theorem dX8_feed_64 : decode cX8_feed 64 = .ok (.if_icmp .ge 42, 3) := dk_162 0 42 (dk_at dksX8_feed_2 16 rfl rfl)
theorem dX8_feed_67 : decode cX8_feed 67 = .ok (.aload_n 0, 1) := dk_42 (dk_at dksX8_feed_2 19 rfl rfl)
theorem dX8_feed_68 : decode cX8_feed 68 = .ok (.getfield 29, 3) := dk_180 0 29 (dk_at dksX8_feed_2 20 rfl rfl)
theorem dX8_feed_71 : decode cX8_feed 71 = .ok (.aload_n 0, 1) := dk_42 (dk_at dksX8_feed_2 23 rfl rfl)
theorem dX8_feed_72 : decode cX8_feed 72 = .ok (.getfield 89, 3) := dk_180 0 89 (dk_at dksX8_feed_3 0 rfl rfl)
theorem dX8_feed_75 : decode cX8_feed 75 = .ok (.iload 6, 2) := dk_21 6 (dk_at dksX8_feed_3 3 rfl rfl)
theorem dX8_feed_77 : decode cX8_feed 77 = .ok (.iadd, 1) := dk_96 (dk_at dksX8_feed_3 5 rfl rfl)
theorem dX8_feed_78 : decode cX8_feed 78 = .ok (.aload_n 0, 1) := dk_42 (dk_at dksX8_feed_3 6 rfl rfl)
theorem dX8_feed_79 : decode cX8_feed 79 = .ok (.getfield 36, 3) := dk_180 0 36 (dk_at dksX8_feed_3 7 rfl rfl)
theorem dX8_feed_82 : decode cX8_feed 82 = .ok (.iload 6, 2) := dk_21 6 (dk_at dksX8_feed_3 10 rfl rfl)
theorem dX8_feed_84 : decode cX8_feed 84 = .ok (.iconst 4, 1) := dk_7 (dk_at dksX8_feed_3 12 rfl rfl)
theorem dX8_feed_85 : decode cX8_feed 85 = .ok (.idiv, 1) := dk_108 (dk_at dksX8_feed_3 13 rfl rfl)
theorem dX8_feed_86 : decode cX8_feed 86 = .ok (.iaload, 1) := dk_46 (dk_at dksX8_feed_3 14 rfl rfl)
theorem dX8_feed_87 : decode cX8_feed 87 = .ok (.bipush 24, 2) := dk_16 24 (dk_at dksX8_feed_3 15 rfl rfl)
theorem dX8_feed_89 : decode cX8_feed 89 = .ok (.bipush 8, 2) := dk_16 8 (dk_at dksX8_feed_3 17 rfl rfl)
theorem dX8_feed_91 : decode cX8_feed 91 = .ok (.iload 6, 2) := dk_21 6 (dk_at dksX8_feed_3 19 rfl rfl)
theorem dX8_feed_93 : decode cX8_feed 93 = .ok (.iconst 4, 1) := dk_7 (dk_at dksX8_feed_3 21 rfl rfl)
theorem dX8_feed_94 : decode cX8_feed 94 = .ok (.irem, 1) := dk_112 (dk_at dksX8_feed_3 22 rfl rfl)
theorem dX8_feed_95 : decode cX8_feed 95 = .ok (.imul, 1) := dk_104 (dk_at dksX8_feed_3 23 rfl rfl)
theorem dX8_feed_96 : decode cX8_feed 96 = .ok (.isub, 1) := dk_100 (dk_at dksX8_feed_4 0 rfl rfl)
theorem dX8_feed_97 : decode cX8_feed 97 = .ok (.ishr, 1) := dk_122 (dk_at dksX8_feed_4 1 rfl rfl)
theorem dX8_feed_98 : decode cX8_feed 98 = .ok (.i2b, 1) := dk_145 (dk_at dksX8_feed_4 2 rfl rfl)
theorem dX8_feed_99 : decode cX8_feed 99 = .ok (.bastore, 1) := dk_84 (dk_at dksX8_feed_4 3 rfl rfl)
theorem dX8_feed_100 : decode cX8_feed 100 = .ok (.iinc 6 1, 3) := dk_132 6 1 (dk_at dksX8_feed_4 4 rfl rfl)
theorem dX8_feed_103 : decode cX8_feed 103 = .ok (.goto (-43), 3) := dk_167 255 213 (dk_at dksX8_feed_4 7 rfl rfl)
theorem dX8_feed_106 : decode cX8_feed 106 = .ok (.aload_n 0, 1) := dk_42 (dk_at dksX8_feed_4 10 rfl rfl)
theorem dX8_feed_107 : decode cX8_feed 107 = .ok (.dup, 1) := dk_89 (dk_at dksX8_feed_4 11 rfl rfl)
theorem dX8_feed_108 : decode cX8_feed 108 = .ok (.getfield 89, 3) := dk_180 0 89 (dk_at dksX8_feed_4 12 rfl rfl)
theorem dX8_feed_111 : decode cX8_feed 111 = .ok (.bipush 20, 2) := dk_16 20 (dk_at dksX8_feed_4 15 rfl rfl)
theorem dX8_feed_113 : decode cX8_feed 113 = .ok (.iadd, 1) := dk_96 (dk_at dksX8_feed_4 17 rfl rfl)
theorem dX8_feed_114 : decode cX8_feed 114 = .ok (.putfield 89, 3) := dk_181 0 89 (dk_at dksX8_feed_4 18 rfl rfl)
theorem dX8_feed_117 : decode cX8_feed 117 = .ok (.aload_n 0, 1) := dk_42 (dk_at dksX8_feed_4 21 rfl rfl)
theorem dX8_feed_118 : decode cX8_feed 118 = .ok (.getfield 89, 3) := dk_180 0 89 (dk_at dksX8_feed_5 0 rfl rfl)
theorem dX8_feed_121 : decode cX8_feed 121 = .ok (.ireturn, 1) := dk_172 (dk_at dksX8_feed_5 3 rfl rfl)
abbrev cX8_end : ByteArray := prog_18_method_25_code
def yX8_end : MethodName := ⟨RX8, "end", "(I)Z"⟩
def dkwX8_end_1 : List UInt8 := [4, 172]
abbrev dktX8_end_1 : List UInt8 := dkwX8_end_1 ++ []
def dkwX8_end_0 : List UInt8 := [42, 3, 181, 0, 3, 27, 155, 0, 11, 27, 42, 180, 0, 89, 164, 0, 5, 3, 172, 42, 27, 181, 0, 89]
abbrev dktX8_end_0 : List UInt8 := dkwX8_end_0 ++ dktX8_end_1
theorem dksX8_end_0 : cX8_end.data.toList.drop 0 = dktX8_end_0 := by decide +kernel
theorem dksX8_end_1 : cX8_end.data.toList.drop 24 = dktX8_end_1 := dk_seg dksX8_end_0 24 rfl rfl
theorem dX8_end_0 : decode cX8_end 0 = .ok (.aload_n 0, 1) := dk_42 (dk_at dksX8_end_0 0 rfl rfl)
theorem dX8_end_1 : decode cX8_end 1 = .ok (.iconst 0, 1) := dk_3 (dk_at dksX8_end_0 1 rfl rfl)
theorem dX8_end_2 : decode cX8_end 2 = .ok (.putfield 3, 3) := dk_181 0 3 (dk_at dksX8_end_0 2 rfl rfl)
theorem dX8_end_5 : decode cX8_end 5 = .ok (.iload_n 1, 1) := dk_27 (dk_at dksX8_end_0 5 rfl rfl)
theorem dX8_end_6 : decode cX8_end 6 = .ok (.ifCond .lt 11, 3) := dk_155 0 11 (dk_at dksX8_end_0 6 rfl rfl)
theorem dX8_end_9 : decode cX8_end 9 = .ok (.iload_n 1, 1) := dk_27 (dk_at dksX8_end_0 9 rfl rfl)
theorem dX8_end_10 : decode cX8_end 10 = .ok (.aload_n 0, 1) := dk_42 (dk_at dksX8_end_0 10 rfl rfl)
theorem dX8_end_11 : decode cX8_end 11 = .ok (.getfield 89, 3) := dk_180 0 89 (dk_at dksX8_end_0 11 rfl rfl)
theorem dX8_end_14 : decode cX8_end 14 = .ok (.if_icmp .le 5, 3) := dk_164 0 5 (dk_at dksX8_end_0 14 rfl rfl)
theorem dX8_end_17 : decode cX8_end 17 = .ok (.iconst 0, 1) := dk_3 (dk_at dksX8_end_0 17 rfl rfl)
theorem dX8_end_18 : decode cX8_end 18 = .ok (.ireturn, 1) := dk_172 (dk_at dksX8_end_0 18 rfl rfl)
theorem dX8_end_19 : decode cX8_end 19 = .ok (.aload_n 0, 1) := dk_42 (dk_at dksX8_end_0 19 rfl rfl)
theorem dX8_end_20 : decode cX8_end 20 = .ok (.iload_n 1, 1) := dk_27 (dk_at dksX8_end_0 20 rfl rfl)
theorem dX8_end_21 : decode cX8_end 21 = .ok (.putfield 89, 3) := dk_181 0 89 (dk_at dksX8_end_0 21 rfl rfl)
theorem dX8_end_24 : decode cX8_end 24 = .ok (.iconst 1, 1) := dk_4 (dk_at dksX8_end_1 0 rfl rfl)
theorem dX8_end_25 : decode cX8_end 25 = .ok (.ireturn, 1) := dk_172 (dk_at dksX8_end_1 1 rfl rfl)
abbrev cX8_fault : ByteArray := prog_18_method_34_code
def yX8_fault : MethodName := ⟨RX8, "fault", "()I"⟩
def dkwX8_fault_0 : List UInt8 := [42, 3, 181, 0, 3, 42, 180, 0, 33, 172]
abbrev dktX8_fault_0 : List UInt8 := dkwX8_fault_0 ++ []
theorem dksX8_fault_0 : cX8_fault.data.toList.drop 0 = dktX8_fault_0 := by decide +kernel
theorem dX8_fault_0 : decode cX8_fault 0 = .ok (.aload_n 0, 1) := dk_42 (dk_at dksX8_fault_0 0 rfl rfl)
theorem dX8_fault_1 : decode cX8_fault 1 = .ok (.iconst 0, 1) := dk_3 (dk_at dksX8_fault_0 1 rfl rfl)
theorem dX8_fault_2 : decode cX8_fault 2 = .ok (.putfield 3, 3) := dk_181 0 3 (dk_at dksX8_fault_0 2 rfl rfl)
theorem dX8_fault_5 : decode cX8_fault 5 = .ok (.aload_n 0, 1) := dk_42 (dk_at dksX8_fault_0 5 rfl rfl)
theorem dX8_fault_6 : decode cX8_fault 6 = .ok (.getfield 33, 3) := dk_180 0 33 (dk_at dksX8_fault_0 6 rfl rfl)
theorem dX8_fault_9 : decode cX8_fault 9 = .ok (.ireturn, 1) := dk_172 (dk_at dksX8_fault_0 9 rfl rfl)
abbrev cX8_court : ByteArray := prog_18_method_55_code
def yX8_court : MethodName := ⟨RX8, "court", "()I"⟩
def dkwX8_court_6 : List UInt8 := [6, 46, 172]
abbrev dktX8_court_6 : List UInt8 := dkwX8_court_6 ++ []
def dkwX8_court_5 : List UInt8 := [167, 255, 234, 3, 172, 42, 180, 0, 13, 6, 92, 46, 4, 96, 79, 42, 3, 181, 0, 64, 42, 180, 0, 13]
abbrev dktX8_court_5 : List UInt8 := dkwX8_court_5 ++ dktX8_court_6
def dkwX8_court_4 : List UInt8 := [28, 17, 5, 51, 162, 0, 21, 42, 180, 0, 13, 28, 42, 180, 0, 20, 28, 46, 79, 132, 2, 1]
abbrev dktX8_court_4 : List UInt8 := dkwX8_court_4 ++ dktX8_court_5
def dkwX8_court_3 : List UInt8 := [180, 0, 13, 6, 46, 16, 12, 160, 0, 7, 4, 167, 0, 4, 3, 5, 182, 1, 9, 153, 0, 32, 3, 61]
abbrev dktX8_court_3 : List UInt8 := dkwX8_court_3 ++ dktX8_court_4
def dkwX8_court_2 : List UInt8 := [181, 0, 33, 42, 27, 156, 0, 7, 4, 167, 0, 4, 3, 4, 182, 1, 9, 154, 0, 27, 42, 42]
abbrev dktX8_court_2 : List UInt8 := dkwX8_court_2 ++ dktX8_court_3
def dkwX8_court_1 : List UInt8 := [167, 255, 234, 42, 4, 182, 1, 5, 60, 42, 27, 156, 0, 10, 42, 180, 0, 102, 167, 0, 4, 2]
abbrev dktX8_court_1 : List UInt8 := dkwX8_court_1 ++ dktX8_court_2
def dkwX8_court_0 : List UInt8 := [3, 60, 27, 17, 5, 51, 162, 0, 21, 42, 180, 0, 20, 27, 42, 180, 0, 13, 27, 46, 79, 132, 1, 1]
abbrev dktX8_court_0 : List UInt8 := dkwX8_court_0 ++ dktX8_court_1
theorem dksX8_court_0 : cX8_court.data.toList.drop 0 = dktX8_court_0 := by decide +kernel
theorem dksX8_court_1 : cX8_court.data.toList.drop 24 = dktX8_court_1 := dk_seg dksX8_court_0 24 rfl rfl
theorem dksX8_court_2 : cX8_court.data.toList.drop 46 = dktX8_court_2 := dk_seg dksX8_court_1 22 rfl rfl
theorem dksX8_court_3 : cX8_court.data.toList.drop 68 = dktX8_court_3 := dk_seg dksX8_court_2 22 rfl rfl
theorem dksX8_court_4 : cX8_court.data.toList.drop 92 = dktX8_court_4 := dk_seg dksX8_court_3 24 rfl rfl
theorem dksX8_court_5 : cX8_court.data.toList.drop 114 = dktX8_court_5 := dk_seg dksX8_court_4 22 rfl rfl
theorem dksX8_court_6 : cX8_court.data.toList.drop 138 = dktX8_court_6 := dk_seg dksX8_court_5 24 rfl rfl
theorem dX8_court_0 : decode cX8_court 0 = .ok (.iconst 0, 1) := dk_3 (dk_at dksX8_court_0 0 rfl rfl)
theorem dX8_court_1 : decode cX8_court 1 = .ok (.istore_n 1, 1) := dk_60 (dk_at dksX8_court_0 1 rfl rfl)
theorem dX8_court_2 : decode cX8_court 2 = .ok (.iload_n 1, 1) := dk_27 (dk_at dksX8_court_0 2 rfl rfl)
theorem dX8_court_3 : decode cX8_court 3 = .ok (.sipush 1331, 3) := dk_17 5 51 (dk_at dksX8_court_0 3 rfl rfl)
theorem dX8_court_6 : decode cX8_court 6 = .ok (.if_icmp .ge 21, 3) := dk_162 0 21 (dk_at dksX8_court_0 6 rfl rfl)
theorem dX8_court_9 : decode cX8_court 9 = .ok (.aload_n 0, 1) := dk_42 (dk_at dksX8_court_0 9 rfl rfl)
theorem dX8_court_10 : decode cX8_court 10 = .ok (.getfield 20, 3) := dk_180 0 20 (dk_at dksX8_court_0 10 rfl rfl)
theorem dX8_court_13 : decode cX8_court 13 = .ok (.iload_n 1, 1) := dk_27 (dk_at dksX8_court_0 13 rfl rfl)
theorem dX8_court_14 : decode cX8_court 14 = .ok (.aload_n 0, 1) := dk_42 (dk_at dksX8_court_0 14 rfl rfl)
theorem dX8_court_15 : decode cX8_court 15 = .ok (.getfield 13, 3) := dk_180 0 13 (dk_at dksX8_court_0 15 rfl rfl)
theorem dX8_court_18 : decode cX8_court 18 = .ok (.iload_n 1, 1) := dk_27 (dk_at dksX8_court_0 18 rfl rfl)
theorem dX8_court_19 : decode cX8_court 19 = .ok (.iaload, 1) := dk_46 (dk_at dksX8_court_0 19 rfl rfl)
theorem dX8_court_20 : decode cX8_court 20 = .ok (.iastore, 1) := dk_79 (dk_at dksX8_court_0 20 rfl rfl)
theorem dX8_court_21 : decode cX8_court 21 = .ok (.iinc 1 1, 3) := dk_132 1 1 (dk_at dksX8_court_0 21 rfl rfl)
theorem dX8_court_24 : decode cX8_court 24 = .ok (.goto (-22), 3) := dk_167 255 234 (dk_at dksX8_court_1 0 rfl rfl)
theorem dX8_court_27 : decode cX8_court 27 = .ok (.aload_n 0, 1) := dk_42 (dk_at dksX8_court_1 3 rfl rfl)
theorem dX8_court_28 : decode cX8_court 28 = .ok (.iconst 1, 1) := dk_4 (dk_at dksX8_court_1 4 rfl rfl)
theorem dX8_court_29 : decode cX8_court 29 = .ok (.invokevirtual 261, 3) := dk_182 1 5 (dk_at dksX8_court_1 5 rfl rfl)
theorem dX8_court_32 : decode cX8_court 32 = .ok (.istore_n 1, 1) := dk_60 (dk_at dksX8_court_1 8 rfl rfl)
theorem dX8_court_33 : decode cX8_court 33 = .ok (.aload_n 0, 1) := dk_42 (dk_at dksX8_court_1 9 rfl rfl)
theorem dX8_court_34 : decode cX8_court 34 = .ok (.iload_n 1, 1) := dk_27 (dk_at dksX8_court_1 10 rfl rfl)
theorem dX8_court_35 : decode cX8_court 35 = .ok (.ifCond .ge 10, 3) := dk_156 0 10 (dk_at dksX8_court_1 11 rfl rfl)
theorem dX8_court_38 : decode cX8_court 38 = .ok (.aload_n 0, 1) := dk_42 (dk_at dksX8_court_1 14 rfl rfl)
theorem dX8_court_39 : decode cX8_court 39 = .ok (.getfield 102, 3) := dk_180 0 102 (dk_at dksX8_court_1 15 rfl rfl)
theorem dX8_court_42 : decode cX8_court 42 = .ok (.goto 4, 3) := dk_167 0 4 (dk_at dksX8_court_1 18 rfl rfl)
theorem dX8_court_45 : decode cX8_court 45 = .ok (.iconst (-1), 1) := dk_2 (dk_at dksX8_court_1 21 rfl rfl)
theorem dX8_court_46 : decode cX8_court 46 = .ok (.putfield 33, 3) := dk_181 0 33 (dk_at dksX8_court_2 0 rfl rfl)
theorem dX8_court_49 : decode cX8_court 49 = .ok (.aload_n 0, 1) := dk_42 (dk_at dksX8_court_2 3 rfl rfl)
theorem dX8_court_50 : decode cX8_court 50 = .ok (.iload_n 1, 1) := dk_27 (dk_at dksX8_court_2 4 rfl rfl)
theorem dX8_court_51 : decode cX8_court 51 = .ok (.ifCond .ge 7, 3) := dk_156 0 7 (dk_at dksX8_court_2 5 rfl rfl)
theorem dX8_court_54 : decode cX8_court 54 = .ok (.iconst 1, 1) := dk_4 (dk_at dksX8_court_2 8 rfl rfl)
theorem dX8_court_55 : decode cX8_court 55 = .ok (.goto 4, 3) := dk_167 0 4 (dk_at dksX8_court_2 9 rfl rfl)
theorem dX8_court_58 : decode cX8_court 58 = .ok (.iconst 0, 1) := dk_3 (dk_at dksX8_court_2 12 rfl rfl)
theorem dX8_court_59 : decode cX8_court 59 = .ok (.iconst 1, 1) := dk_4 (dk_at dksX8_court_2 13 rfl rfl)
theorem dX8_court_60 : decode cX8_court 60 = .ok (.invokevirtual 265, 3) := dk_182 1 9 (dk_at dksX8_court_2 14 rfl rfl)
theorem dX8_court_63 : decode cX8_court 63 = .ok (.ifCond .ne 27, 3) := dk_154 0 27 (dk_at dksX8_court_2 17 rfl rfl)
theorem dX8_court_66 : decode cX8_court 66 = .ok (.aload_n 0, 1) := dk_42 (dk_at dksX8_court_2 20 rfl rfl)
theorem dX8_court_67 : decode cX8_court 67 = .ok (.aload_n 0, 1) := dk_42 (dk_at dksX8_court_2 21 rfl rfl)
theorem dX8_court_68 : decode cX8_court 68 = .ok (.getfield 13, 3) := dk_180 0 13 (dk_at dksX8_court_3 0 rfl rfl)
theorem dX8_court_71 : decode cX8_court 71 = .ok (.iconst 3, 1) := dk_6 (dk_at dksX8_court_3 3 rfl rfl)
theorem dX8_court_72 : decode cX8_court 72 = .ok (.iaload, 1) := dk_46 (dk_at dksX8_court_3 4 rfl rfl)
theorem dX8_court_73 : decode cX8_court 73 = .ok (.bipush 12, 2) := dk_16 12 (dk_at dksX8_court_3 5 rfl rfl)
theorem dX8_court_75 : decode cX8_court 75 = .ok (.if_icmp .ne 7, 3) := dk_160 0 7 (dk_at dksX8_court_3 7 rfl rfl)
theorem dX8_court_78 : decode cX8_court 78 = .ok (.iconst 1, 1) := dk_4 (dk_at dksX8_court_3 10 rfl rfl)
theorem dX8_court_79 : decode cX8_court 79 = .ok (.goto 4, 3) := dk_167 0 4 (dk_at dksX8_court_3 11 rfl rfl)
theorem dX8_court_82 : decode cX8_court 82 = .ok (.iconst 0, 1) := dk_3 (dk_at dksX8_court_3 14 rfl rfl)
theorem dX8_court_83 : decode cX8_court 83 = .ok (.iconst 2, 1) := dk_5 (dk_at dksX8_court_3 15 rfl rfl)
theorem dX8_court_84 : decode cX8_court 84 = .ok (.invokevirtual 265, 3) := dk_182 1 9 (dk_at dksX8_court_3 16 rfl rfl)
theorem dX8_court_87 : decode cX8_court 87 = .ok (.ifCond .eq 32, 3) := dk_153 0 32 (dk_at dksX8_court_3 19 rfl rfl)
theorem dX8_court_90 : decode cX8_court 90 = .ok (.iconst 0, 1) := dk_3 (dk_at dksX8_court_3 22 rfl rfl)
theorem dX8_court_91 : decode cX8_court 91 = .ok (.istore_n 2, 1) := dk_61 (dk_at dksX8_court_3 23 rfl rfl)
theorem dX8_court_92 : decode cX8_court 92 = .ok (.iload_n 2, 1) := dk_28 (dk_at dksX8_court_4 0 rfl rfl)
theorem dX8_court_93 : decode cX8_court 93 = .ok (.sipush 1331, 3) := dk_17 5 51 (dk_at dksX8_court_4 1 rfl rfl)
theorem dX8_court_96 : decode cX8_court 96 = .ok (.if_icmp .ge 21, 3) := dk_162 0 21 (dk_at dksX8_court_4 4 rfl rfl)
theorem dX8_court_99 : decode cX8_court 99 = .ok (.aload_n 0, 1) := dk_42 (dk_at dksX8_court_4 7 rfl rfl)
theorem dX8_court_100 : decode cX8_court 100 = .ok (.getfield 13, 3) := dk_180 0 13 (dk_at dksX8_court_4 8 rfl rfl)
theorem dX8_court_103 : decode cX8_court 103 = .ok (.iload_n 2, 1) := dk_28 (dk_at dksX8_court_4 11 rfl rfl)
theorem dX8_court_104 : decode cX8_court 104 = .ok (.aload_n 0, 1) := dk_42 (dk_at dksX8_court_4 12 rfl rfl)
theorem dX8_court_105 : decode cX8_court 105 = .ok (.getfield 20, 3) := dk_180 0 20 (dk_at dksX8_court_4 13 rfl rfl)
theorem dX8_court_108 : decode cX8_court 108 = .ok (.iload_n 2, 1) := dk_28 (dk_at dksX8_court_4 16 rfl rfl)
theorem dX8_court_109 : decode cX8_court 109 = .ok (.iaload, 1) := dk_46 (dk_at dksX8_court_4 17 rfl rfl)
theorem dX8_court_110 : decode cX8_court 110 = .ok (.iastore, 1) := dk_79 (dk_at dksX8_court_4 18 rfl rfl)
theorem dX8_court_111 : decode cX8_court 111 = .ok (.iinc 2 1, 3) := dk_132 2 1 (dk_at dksX8_court_4 19 rfl rfl)
theorem dX8_court_114 : decode cX8_court 114 = .ok (.goto (-22), 3) := dk_167 255 234 (dk_at dksX8_court_5 0 rfl rfl)
theorem dX8_court_117 : decode cX8_court 117 = .ok (.iconst 0, 1) := dk_3 (dk_at dksX8_court_5 3 rfl rfl)
theorem dX8_court_118 : decode cX8_court 118 = .ok (.ireturn, 1) := dk_172 (dk_at dksX8_court_5 4 rfl rfl)
theorem dX8_court_119 : decode cX8_court 119 = .ok (.aload_n 0, 1) := dk_42 (dk_at dksX8_court_5 5 rfl rfl)
theorem dX8_court_120 : decode cX8_court 120 = .ok (.getfield 13, 3) := dk_180 0 13 (dk_at dksX8_court_5 6 rfl rfl)
theorem dX8_court_123 : decode cX8_court 123 = .ok (.iconst 3, 1) := dk_6 (dk_at dksX8_court_5 9 rfl rfl)
theorem dX8_court_124 : decode cX8_court 124 = .ok (.dup2, 1) := dk_92 (dk_at dksX8_court_5 10 rfl rfl)
theorem dX8_court_125 : decode cX8_court 125 = .ok (.iaload, 1) := dk_46 (dk_at dksX8_court_5 11 rfl rfl)
theorem dX8_court_126 : decode cX8_court 126 = .ok (.iconst 1, 1) := dk_4 (dk_at dksX8_court_5 12 rfl rfl)
theorem dX8_court_127 : decode cX8_court 127 = .ok (.iadd, 1) := dk_96 (dk_at dksX8_court_5 13 rfl rfl)
theorem dX8_court_128 : decode cX8_court 128 = .ok (.iastore, 1) := dk_79 (dk_at dksX8_court_5 14 rfl rfl)
theorem dX8_court_129 : decode cX8_court 129 = .ok (.aload_n 0, 1) := dk_42 (dk_at dksX8_court_5 15 rfl rfl)
theorem dX8_court_130 : decode cX8_court 130 = .ok (.iconst 0, 1) := dk_3 (dk_at dksX8_court_5 16 rfl rfl)
theorem dX8_court_131 : decode cX8_court 131 = .ok (.putfield 64, 3) := dk_181 0 64 (dk_at dksX8_court_5 17 rfl rfl)
theorem dX8_court_134 : decode cX8_court 134 = .ok (.aload_n 0, 1) := dk_42 (dk_at dksX8_court_5 20 rfl rfl)
theorem dX8_court_135 : decode cX8_court 135 = .ok (.getfield 13, 3) := dk_180 0 13 (dk_at dksX8_court_5 21 rfl rfl)
theorem dX8_court_138 : decode cX8_court 138 = .ok (.iconst 3, 1) := dk_6 (dk_at dksX8_court_6 0 rfl rfl)
theorem dX8_court_139 : decode cX8_court 139 = .ok (.iaload, 1) := dk_46 (dk_at dksX8_court_6 1 rfl rfl)
theorem dX8_court_140 : decode cX8_court 140 = .ok (.ireturn, 1) := dk_172 (dk_at dksX8_court_6 2 rfl rfl)
abbrev cX8_readAll : ByteArray := prog_18_method_54_code
def yX8_readAll : MethodName := ⟨RX8, "readAll", "(Z)I"⟩
def dkwX8_readAll_3 : List UInt8 := [89, 180, 0, 92, 4, 96, 181, 0, 92, 132, 2, 1, 167, 255, 200]
abbrev dktX8_readAll_3 : List UInt8 := dkwX8_readAll_3 ++ []
def dkwX8_readAll_2 : List UInt8 := [180, 0, 95, 160, 0, 7, 28, 4, 96, 172, 42, 16, 59, 16, 59, 182, 0, 98, 154, 0, 5, 2, 172, 42]
abbrev dktX8_readAll_2 : List UInt8 := dkwX8_readAll_2 ++ dktX8_readAll_3
def dkwX8_readAll_1 : List UInt8 := [3, 172, 3, 61, 42, 27, 28, 182, 1, 1, 154, 0, 5, 2, 172, 42, 182, 0, 105, 42, 180, 0, 92, 42]
abbrev dktX8_readAll_1 : List UInt8 := dkwX8_readAll_1 ++ dktX8_readAll_2
def dkwX8_readAll_0 : List UInt8 := [42, 182, 0, 254, 42, 3, 181, 0, 191, 42, 182, 0, 105, 42, 180, 0, 92, 42, 180, 0, 95, 160, 0, 5]
abbrev dktX8_readAll_0 : List UInt8 := dkwX8_readAll_0 ++ dktX8_readAll_1
theorem dksX8_readAll_0 : cX8_readAll.data.toList.drop 0 = dktX8_readAll_0 := by decide +kernel
theorem dksX8_readAll_1 : cX8_readAll.data.toList.drop 24 = dktX8_readAll_1 := dk_seg dksX8_readAll_0 24 rfl rfl
theorem dksX8_readAll_2 : cX8_readAll.data.toList.drop 48 = dktX8_readAll_2 := dk_seg dksX8_readAll_1 24 rfl rfl
theorem dksX8_readAll_3 : cX8_readAll.data.toList.drop 72 = dktX8_readAll_3 := dk_seg dksX8_readAll_2 24 rfl rfl
theorem dX8_readAll_0 : decode cX8_readAll 0 = .ok (.aload_n 0, 1) := dk_42 (dk_at dksX8_readAll_0 0 rfl rfl)
theorem dX8_readAll_1 : decode cX8_readAll 1 = .ok (.invokevirtual 254, 3) := dk_182 0 254 (dk_at dksX8_readAll_0 1 rfl rfl)
theorem dX8_readAll_4 : decode cX8_readAll 4 = .ok (.aload_n 0, 1) := dk_42 (dk_at dksX8_readAll_0 4 rfl rfl)
theorem dX8_readAll_5 : decode cX8_readAll 5 = .ok (.iconst 0, 1) := dk_3 (dk_at dksX8_readAll_0 5 rfl rfl)
theorem dX8_readAll_6 : decode cX8_readAll 6 = .ok (.putfield 191, 3) := dk_181 0 191 (dk_at dksX8_readAll_0 6 rfl rfl)
theorem dX8_readAll_9 : decode cX8_readAll 9 = .ok (.aload_n 0, 1) := dk_42 (dk_at dksX8_readAll_0 9 rfl rfl)
theorem dX8_readAll_10 : decode cX8_readAll 10 = .ok (.invokevirtual 105, 3) := dk_182 0 105 (dk_at dksX8_readAll_0 10 rfl rfl)
theorem dX8_readAll_13 : decode cX8_readAll 13 = .ok (.aload_n 0, 1) := dk_42 (dk_at dksX8_readAll_0 13 rfl rfl)
theorem dX8_readAll_14 : decode cX8_readAll 14 = .ok (.getfield 92, 3) := dk_180 0 92 (dk_at dksX8_readAll_0 14 rfl rfl)
theorem dX8_readAll_17 : decode cX8_readAll 17 = .ok (.aload_n 0, 1) := dk_42 (dk_at dksX8_readAll_0 17 rfl rfl)
theorem dX8_readAll_18 : decode cX8_readAll 18 = .ok (.getfield 95, 3) := dk_180 0 95 (dk_at dksX8_readAll_0 18 rfl rfl)
theorem dX8_readAll_21 : decode cX8_readAll 21 = .ok (.if_icmp .ne 5, 3) := dk_160 0 5 (dk_at dksX8_readAll_0 21 rfl rfl)
theorem dX8_readAll_24 : decode cX8_readAll 24 = .ok (.iconst 0, 1) := dk_3 (dk_at dksX8_readAll_1 0 rfl rfl)
theorem dX8_readAll_25 : decode cX8_readAll 25 = .ok (.ireturn, 1) := dk_172 (dk_at dksX8_readAll_1 1 rfl rfl)
theorem dX8_readAll_26 : decode cX8_readAll 26 = .ok (.iconst 0, 1) := dk_3 (dk_at dksX8_readAll_1 2 rfl rfl)
theorem dX8_readAll_27 : decode cX8_readAll 27 = .ok (.istore_n 2, 1) := dk_61 (dk_at dksX8_readAll_1 3 rfl rfl)
theorem dX8_readAll_28 : decode cX8_readAll 28 = .ok (.aload_n 0, 1) := dk_42 (dk_at dksX8_readAll_1 4 rfl rfl)
theorem dX8_readAll_29 : decode cX8_readAll 29 = .ok (.iload_n 1, 1) := dk_27 (dk_at dksX8_readAll_1 5 rfl rfl)
theorem dX8_readAll_30 : decode cX8_readAll 30 = .ok (.iload_n 2, 1) := dk_28 (dk_at dksX8_readAll_1 6 rfl rfl)
theorem dX8_readAll_31 : decode cX8_readAll 31 = .ok (.invokevirtual 257, 3) := dk_182 1 1 (dk_at dksX8_readAll_1 7 rfl rfl)
theorem dX8_readAll_34 : decode cX8_readAll 34 = .ok (.ifCond .ne 5, 3) := dk_154 0 5 (dk_at dksX8_readAll_1 10 rfl rfl)
theorem dX8_readAll_37 : decode cX8_readAll 37 = .ok (.iconst (-1), 1) := dk_2 (dk_at dksX8_readAll_1 13 rfl rfl)
theorem dX8_readAll_38 : decode cX8_readAll 38 = .ok (.ireturn, 1) := dk_172 (dk_at dksX8_readAll_1 14 rfl rfl)
theorem dX8_readAll_39 : decode cX8_readAll 39 = .ok (.aload_n 0, 1) := dk_42 (dk_at dksX8_readAll_1 15 rfl rfl)
theorem dX8_readAll_40 : decode cX8_readAll 40 = .ok (.invokevirtual 105, 3) := dk_182 0 105 (dk_at dksX8_readAll_1 16 rfl rfl)
theorem dX8_readAll_43 : decode cX8_readAll 43 = .ok (.aload_n 0, 1) := dk_42 (dk_at dksX8_readAll_1 19 rfl rfl)
theorem dX8_readAll_44 : decode cX8_readAll 44 = .ok (.getfield 92, 3) := dk_180 0 92 (dk_at dksX8_readAll_1 20 rfl rfl)
theorem dX8_readAll_47 : decode cX8_readAll 47 = .ok (.aload_n 0, 1) := dk_42 (dk_at dksX8_readAll_1 23 rfl rfl)
theorem dX8_readAll_48 : decode cX8_readAll 48 = .ok (.getfield 95, 3) := dk_180 0 95 (dk_at dksX8_readAll_2 0 rfl rfl)
theorem dX8_readAll_51 : decode cX8_readAll 51 = .ok (.if_icmp .ne 7, 3) := dk_160 0 7 (dk_at dksX8_readAll_2 3 rfl rfl)
theorem dX8_readAll_54 : decode cX8_readAll 54 = .ok (.iload_n 2, 1) := dk_28 (dk_at dksX8_readAll_2 6 rfl rfl)
theorem dX8_readAll_55 : decode cX8_readAll 55 = .ok (.iconst 1, 1) := dk_4 (dk_at dksX8_readAll_2 7 rfl rfl)
theorem dX8_readAll_56 : decode cX8_readAll 56 = .ok (.iadd, 1) := dk_96 (dk_at dksX8_readAll_2 8 rfl rfl)
theorem dX8_readAll_57 : decode cX8_readAll 57 = .ok (.ireturn, 1) := dk_172 (dk_at dksX8_readAll_2 9 rfl rfl)
theorem dX8_readAll_58 : decode cX8_readAll 58 = .ok (.aload_n 0, 1) := dk_42 (dk_at dksX8_readAll_2 10 rfl rfl)
theorem dX8_readAll_59 : decode cX8_readAll 59 = .ok (.bipush 59, 2) := dk_16 59 (dk_at dksX8_readAll_2 11 rfl rfl)
theorem dX8_readAll_61 : decode cX8_readAll 61 = .ok (.bipush 59, 2) := dk_16 59 (dk_at dksX8_readAll_2 13 rfl rfl)
theorem dX8_readAll_63 : decode cX8_readAll 63 = .ok (.invokevirtual 98, 3) := dk_182 0 98 (dk_at dksX8_readAll_2 15 rfl rfl)
theorem dX8_readAll_66 : decode cX8_readAll 66 = .ok (.ifCond .ne 5, 3) := dk_154 0 5 (dk_at dksX8_readAll_2 18 rfl rfl)
theorem dX8_readAll_69 : decode cX8_readAll 69 = .ok (.iconst (-1), 1) := dk_2 (dk_at dksX8_readAll_2 21 rfl rfl)
theorem dX8_readAll_70 : decode cX8_readAll 70 = .ok (.ireturn, 1) := dk_172 (dk_at dksX8_readAll_2 22 rfl rfl)
theorem dX8_readAll_71 : decode cX8_readAll 71 = .ok (.aload_n 0, 1) := dk_42 (dk_at dksX8_readAll_2 23 rfl rfl)
theorem dX8_readAll_72 : decode cX8_readAll 72 = .ok (.dup, 1) := dk_89 (dk_at dksX8_readAll_3 0 rfl rfl)
theorem dX8_readAll_73 : decode cX8_readAll 73 = .ok (.getfield 92, 3) := dk_180 0 92 (dk_at dksX8_readAll_3 1 rfl rfl)
theorem dX8_readAll_76 : decode cX8_readAll 76 = .ok (.iconst 1, 1) := dk_4 (dk_at dksX8_readAll_3 4 rfl rfl)
theorem dX8_readAll_77 : decode cX8_readAll 77 = .ok (.iadd, 1) := dk_96 (dk_at dksX8_readAll_3 5 rfl rfl)
theorem dX8_readAll_78 : decode cX8_readAll 78 = .ok (.putfield 92, 3) := dk_181 0 92 (dk_at dksX8_readAll_3 6 rfl rfl)
theorem dX8_readAll_81 : decode cX8_readAll 81 = .ok (.iinc 2 1, 3) := dk_132 2 1 (dk_at dksX8_readAll_3 9 rfl rfl)
theorem dX8_readAll_84 : decode cX8_readAll 84 = .ok (.goto (-56), 3) := dk_167 255 200 (dk_at dksX8_readAll_3 12 rfl rfl)
abbrev cX8_uses : ByteArray := prog_18_method_35_code
def yX8_uses : MethodName := ⟨RX8, "uses", "()V"⟩
def dkwX8_uses_0 : List UInt8 := [42, 3, 181, 0, 3, 42, 42, 180, 0, 89, 181, 0, 95, 42, 3, 181, 0, 89, 42, 3, 181, 0, 92, 177]
abbrev dktX8_uses_0 : List UInt8 := dkwX8_uses_0 ++ []
theorem dksX8_uses_0 : cX8_uses.data.toList.drop 0 = dktX8_uses_0 := by decide +kernel
theorem dX8_uses_0 : decode cX8_uses 0 = .ok (.aload_n 0, 1) := dk_42 (dk_at dksX8_uses_0 0 rfl rfl)
theorem dX8_uses_1 : decode cX8_uses 1 = .ok (.iconst 0, 1) := dk_3 (dk_at dksX8_uses_0 1 rfl rfl)
theorem dX8_uses_2 : decode cX8_uses 2 = .ok (.putfield 3, 3) := dk_181 0 3 (dk_at dksX8_uses_0 2 rfl rfl)
theorem dX8_uses_5 : decode cX8_uses 5 = .ok (.aload_n 0, 1) := dk_42 (dk_at dksX8_uses_0 5 rfl rfl)
theorem dX8_uses_6 : decode cX8_uses 6 = .ok (.aload_n 0, 1) := dk_42 (dk_at dksX8_uses_0 6 rfl rfl)
theorem dX8_uses_7 : decode cX8_uses 7 = .ok (.getfield 89, 3) := dk_180 0 89 (dk_at dksX8_uses_0 7 rfl rfl)
theorem dX8_uses_10 : decode cX8_uses 10 = .ok (.putfield 95, 3) := dk_181 0 95 (dk_at dksX8_uses_0 10 rfl rfl)
theorem dX8_uses_13 : decode cX8_uses 13 = .ok (.aload_n 0, 1) := dk_42 (dk_at dksX8_uses_0 13 rfl rfl)
theorem dX8_uses_14 : decode cX8_uses 14 = .ok (.iconst 0, 1) := dk_3 (dk_at dksX8_uses_0 14 rfl rfl)
theorem dX8_uses_15 : decode cX8_uses 15 = .ok (.putfield 89, 3) := dk_181 0 89 (dk_at dksX8_uses_0 15 rfl rfl)
theorem dX8_uses_18 : decode cX8_uses 18 = .ok (.aload_n 0, 1) := dk_42 (dk_at dksX8_uses_0 18 rfl rfl)
theorem dX8_uses_19 : decode cX8_uses 19 = .ok (.iconst 0, 1) := dk_3 (dk_at dksX8_uses_0 19 rfl rfl)
theorem dX8_uses_20 : decode cX8_uses 20 = .ok (.putfield 92, 3) := dk_181 0 92 (dk_at dksX8_uses_0 20 rfl rfl)
theorem dX8_uses_23 : decode cX8_uses 23 = .ok (.return_, 1) := dk_177 (dk_at dksX8_uses_0 23 rfl rfl)
abbrev cX8_blanks : ByteArray := prog_18_method_27_code
def yX8_blanks : MethodName := ⟨RX8, "blanks", "()V"⟩
def dkwX8_blanks_1 : List UInt8 := [42, 42, 180, 0, 92, 181, 0, 102, 177]
abbrev dktX8_blanks_1 : List UInt8 := dkwX8_blanks_1 ++ []
def dkwX8_blanks_0 : List UInt8 := [42, 16, 32, 16, 32, 182, 0, 98, 153, 0, 16, 42, 89, 180, 0, 92, 4, 96, 181, 0, 92, 167, 255, 235]
abbrev dktX8_blanks_0 : List UInt8 := dkwX8_blanks_0 ++ dktX8_blanks_1
theorem dksX8_blanks_0 : cX8_blanks.data.toList.drop 0 = dktX8_blanks_0 := by decide +kernel
theorem dksX8_blanks_1 : cX8_blanks.data.toList.drop 24 = dktX8_blanks_1 := dk_seg dksX8_blanks_0 24 rfl rfl
theorem dX8_blanks_0 : decode cX8_blanks 0 = .ok (.aload_n 0, 1) := dk_42 (dk_at dksX8_blanks_0 0 rfl rfl)
theorem dX8_blanks_1 : decode cX8_blanks 1 = .ok (.bipush 32, 2) := dk_16 32 (dk_at dksX8_blanks_0 1 rfl rfl)
theorem dX8_blanks_3 : decode cX8_blanks 3 = .ok (.bipush 32, 2) := dk_16 32 (dk_at dksX8_blanks_0 3 rfl rfl)
theorem dX8_blanks_5 : decode cX8_blanks 5 = .ok (.invokevirtual 98, 3) := dk_182 0 98 (dk_at dksX8_blanks_0 5 rfl rfl)
theorem dX8_blanks_8 : decode cX8_blanks 8 = .ok (.ifCond .eq 16, 3) := dk_153 0 16 (dk_at dksX8_blanks_0 8 rfl rfl)
theorem dX8_blanks_11 : decode cX8_blanks 11 = .ok (.aload_n 0, 1) := dk_42 (dk_at dksX8_blanks_0 11 rfl rfl)
theorem dX8_blanks_12 : decode cX8_blanks 12 = .ok (.dup, 1) := dk_89 (dk_at dksX8_blanks_0 12 rfl rfl)
theorem dX8_blanks_13 : decode cX8_blanks 13 = .ok (.getfield 92, 3) := dk_180 0 92 (dk_at dksX8_blanks_0 13 rfl rfl)
theorem dX8_blanks_16 : decode cX8_blanks 16 = .ok (.iconst 1, 1) := dk_4 (dk_at dksX8_blanks_0 16 rfl rfl)
theorem dX8_blanks_17 : decode cX8_blanks 17 = .ok (.iadd, 1) := dk_96 (dk_at dksX8_blanks_0 17 rfl rfl)
theorem dX8_blanks_18 : decode cX8_blanks 18 = .ok (.putfield 92, 3) := dk_181 0 92 (dk_at dksX8_blanks_0 18 rfl rfl)
theorem dX8_blanks_21 : decode cX8_blanks 21 = .ok (.goto (-21), 3) := dk_167 255 235 (dk_at dksX8_blanks_0 21 rfl rfl)
theorem dX8_blanks_24 : decode cX8_blanks 24 = .ok (.aload_n 0, 1) := dk_42 (dk_at dksX8_blanks_1 0 rfl rfl)
theorem dX8_blanks_25 : decode cX8_blanks 25 = .ok (.aload_n 0, 1) := dk_42 (dk_at dksX8_blanks_1 1 rfl rfl)
theorem dX8_blanks_26 : decode cX8_blanks 26 = .ok (.getfield 92, 3) := dk_180 0 92 (dk_at dksX8_blanks_1 2 rfl rfl)
theorem dX8_blanks_29 : decode cX8_blanks 29 = .ok (.putfield 102, 3) := dk_181 0 102 (dk_at dksX8_blanks_1 5 rfl rfl)
theorem dX8_blanks_32 : decode cX8_blanks 32 = .ok (.return_, 1) := dk_177 (dk_at dksX8_blanks_1 8 rfl rfl)
abbrev cX8_isAt : ByteArray := prog_18_method_26_code
def yX8_isAt : MethodName := ⟨RX8, "isAt", "(II)Z"⟩
def dkwX8_isAt_1 : List UInt8 := [42, 180, 0, 29, 42, 180, 0, 92, 51, 28, 163, 0, 7, 4, 167, 0, 4, 3, 172]
abbrev dktX8_isAt_1 : List UInt8 := dkwX8_isAt_1 ++ []
def dkwX8_isAt_0 : List UInt8 := [42, 180, 0, 92, 42, 180, 0, 95, 162, 0, 33, 42, 180, 0, 29, 42, 180, 0, 92, 51, 27, 161, 0, 20]
abbrev dktX8_isAt_0 : List UInt8 := dkwX8_isAt_0 ++ dktX8_isAt_1
theorem dksX8_isAt_0 : cX8_isAt.data.toList.drop 0 = dktX8_isAt_0 := by decide +kernel
theorem dksX8_isAt_1 : cX8_isAt.data.toList.drop 24 = dktX8_isAt_1 := dk_seg dksX8_isAt_0 24 rfl rfl
theorem dX8_isAt_0 : decode cX8_isAt 0 = .ok (.aload_n 0, 1) := dk_42 (dk_at dksX8_isAt_0 0 rfl rfl)
theorem dX8_isAt_1 : decode cX8_isAt 1 = .ok (.getfield 92, 3) := dk_180 0 92 (dk_at dksX8_isAt_0 1 rfl rfl)
theorem dX8_isAt_4 : decode cX8_isAt 4 = .ok (.aload_n 0, 1) := dk_42 (dk_at dksX8_isAt_0 4 rfl rfl)
theorem dX8_isAt_5 : decode cX8_isAt 5 = .ok (.getfield 95, 3) := dk_180 0 95 (dk_at dksX8_isAt_0 5 rfl rfl)
theorem dX8_isAt_8 : decode cX8_isAt 8 = .ok (.if_icmp .ge 33, 3) := dk_162 0 33 (dk_at dksX8_isAt_0 8 rfl rfl)
theorem dX8_isAt_11 : decode cX8_isAt 11 = .ok (.aload_n 0, 1) := dk_42 (dk_at dksX8_isAt_0 11 rfl rfl)
theorem dX8_isAt_12 : decode cX8_isAt 12 = .ok (.getfield 29, 3) := dk_180 0 29 (dk_at dksX8_isAt_0 12 rfl rfl)
theorem dX8_isAt_15 : decode cX8_isAt 15 = .ok (.aload_n 0, 1) := dk_42 (dk_at dksX8_isAt_0 15 rfl rfl)
theorem dX8_isAt_16 : decode cX8_isAt 16 = .ok (.getfield 92, 3) := dk_180 0 92 (dk_at dksX8_isAt_0 16 rfl rfl)
theorem dX8_isAt_19 : decode cX8_isAt 19 = .ok (.baload, 1) := dk_51 (dk_at dksX8_isAt_0 19 rfl rfl)
theorem dX8_isAt_20 : decode cX8_isAt 20 = .ok (.iload_n 1, 1) := dk_27 (dk_at dksX8_isAt_0 20 rfl rfl)
theorem dX8_isAt_21 : decode cX8_isAt 21 = .ok (.if_icmp .lt 20, 3) := dk_161 0 20 (dk_at dksX8_isAt_0 21 rfl rfl)
theorem dX8_isAt_24 : decode cX8_isAt 24 = .ok (.aload_n 0, 1) := dk_42 (dk_at dksX8_isAt_1 0 rfl rfl)
theorem dX8_isAt_25 : decode cX8_isAt 25 = .ok (.getfield 29, 3) := dk_180 0 29 (dk_at dksX8_isAt_1 1 rfl rfl)
theorem dX8_isAt_28 : decode cX8_isAt 28 = .ok (.aload_n 0, 1) := dk_42 (dk_at dksX8_isAt_1 4 rfl rfl)
theorem dX8_isAt_29 : decode cX8_isAt 29 = .ok (.getfield 92, 3) := dk_180 0 92 (dk_at dksX8_isAt_1 5 rfl rfl)
theorem dX8_isAt_32 : decode cX8_isAt 32 = .ok (.baload, 1) := dk_51 (dk_at dksX8_isAt_1 8 rfl rfl)
theorem dX8_isAt_33 : decode cX8_isAt 33 = .ok (.iload_n 2, 1) := dk_28 (dk_at dksX8_isAt_1 9 rfl rfl)
theorem dX8_isAt_34 : decode cX8_isAt 34 = .ok (.if_icmp .gt 7, 3) := dk_163 0 7 (dk_at dksX8_isAt_1 10 rfl rfl)
theorem dX8_isAt_37 : decode cX8_isAt 37 = .ok (.iconst 1, 1) := dk_4 (dk_at dksX8_isAt_1 13 rfl rfl)
theorem dX8_isAt_38 : decode cX8_isAt 38 = .ok (.goto 4, 3) := dk_167 0 4 (dk_at dksX8_isAt_1 14 rfl rfl)
theorem dX8_isAt_41 : decode cX8_isAt 41 = .ok (.iconst 0, 1) := dk_3 (dk_at dksX8_isAt_1 17 rfl rfl)
theorem dX8_isAt_42 : decode cX8_isAt 42 = .ok (.ireturn, 1) := dk_172 (dk_at dksX8_isAt_1 18 rfl rfl)
abbrev cX8_readLine : ByteArray := prog_18_method_53_code
def yX8_readLine : MethodName := ⟨RX8, "readLine", "(ZI)Z"⟩
def dkwX8_readLine_1 : List UInt8 := [182, 0, 248, 153, 0, 18, 167, 0, 11, 42, 28, 182, 0, 251, 153, 0, 7, 4, 167, 0, 4, 3, 172]
abbrev dktX8_readLine_1 : List UInt8 := dkwX8_readLine_1 ++ []
def dkwX8_readLine_0 : List UInt8 := [42, 182, 0, 117, 28, 27, 153, 0, 8, 16, 14, 167, 0, 5, 16, 12, 162, 0, 29, 27, 153, 0, 13, 42]
abbrev dktX8_readLine_0 : List UInt8 := dkwX8_readLine_0 ++ dktX8_readLine_1
theorem dksX8_readLine_0 : cX8_readLine.data.toList.drop 0 = dktX8_readLine_0 := by decide +kernel
theorem dksX8_readLine_1 : cX8_readLine.data.toList.drop 24 = dktX8_readLine_1 := dk_seg dksX8_readLine_0 24 rfl rfl
theorem dX8_readLine_0 : decode cX8_readLine 0 = .ok (.aload_n 0, 1) := dk_42 (dk_at dksX8_readLine_0 0 rfl rfl)
theorem dX8_readLine_1 : decode cX8_readLine 1 = .ok (.invokevirtual 117, 3) := dk_182 0 117 (dk_at dksX8_readLine_0 1 rfl rfl)
theorem dX8_readLine_4 : decode cX8_readLine 4 = .ok (.iload_n 2, 1) := dk_28 (dk_at dksX8_readLine_0 4 rfl rfl)
theorem dX8_readLine_5 : decode cX8_readLine 5 = .ok (.iload_n 1, 1) := dk_27 (dk_at dksX8_readLine_0 5 rfl rfl)
theorem dX8_readLine_6 : decode cX8_readLine 6 = .ok (.ifCond .eq 8, 3) := dk_153 0 8 (dk_at dksX8_readLine_0 6 rfl rfl)
theorem dX8_readLine_9 : decode cX8_readLine 9 = .ok (.bipush 14, 2) := dk_16 14 (dk_at dksX8_readLine_0 9 rfl rfl)
theorem dX8_readLine_11 : decode cX8_readLine 11 = .ok (.goto 5, 3) := dk_167 0 5 (dk_at dksX8_readLine_0 11 rfl rfl)
theorem dX8_readLine_14 : decode cX8_readLine 14 = .ok (.bipush 12, 2) := dk_16 12 (dk_at dksX8_readLine_0 14 rfl rfl)
theorem dX8_readLine_16 : decode cX8_readLine 16 = .ok (.if_icmp .ge 29, 3) := dk_162 0 29 (dk_at dksX8_readLine_0 16 rfl rfl)
theorem dX8_readLine_19 : decode cX8_readLine 19 = .ok (.iload_n 1, 1) := dk_27 (dk_at dksX8_readLine_0 19 rfl rfl)
theorem dX8_readLine_20 : decode cX8_readLine 20 = .ok (.ifCond .eq 13, 3) := dk_153 0 13 (dk_at dksX8_readLine_0 20 rfl rfl)
theorem dX8_readLine_23 : decode cX8_readLine 23 = .ok (.aload_n 0, 1) := dk_42 (dk_at dksX8_readLine_0 23 rfl rfl)
theorem dX8_readLine_24 : decode cX8_readLine 24 = .ok (.invokevirtual 248, 3) := dk_182 0 248 (dk_at dksX8_readLine_1 0 rfl rfl)
theorem dX8_readLine_27 : decode cX8_readLine 27 = .ok (.ifCond .eq 18, 3) := dk_153 0 18 (dk_at dksX8_readLine_1 3 rfl rfl)
theorem dX8_readLine_30 : decode cX8_readLine 30 = .ok (.goto 11, 3) := dk_167 0 11 (dk_at dksX8_readLine_1 6 rfl rfl)
theorem dX8_readLine_33 : decode cX8_readLine 33 = .ok (.aload_n 0, 1) := dk_42 (dk_at dksX8_readLine_1 9 rfl rfl)
theorem dX8_readLine_34 : decode cX8_readLine 34 = .ok (.iload_n 2, 1) := dk_28 (dk_at dksX8_readLine_1 10 rfl rfl)
theorem dX8_readLine_35 : decode cX8_readLine 35 = .ok (.invokevirtual 251, 3) := dk_182 0 251 (dk_at dksX8_readLine_1 11 rfl rfl)
theorem dX8_readLine_38 : decode cX8_readLine 38 = .ok (.ifCond .eq 7, 3) := dk_153 0 7 (dk_at dksX8_readLine_1 14 rfl rfl)
theorem dX8_readLine_41 : decode cX8_readLine 41 = .ok (.iconst 1, 1) := dk_4 (dk_at dksX8_readLine_1 17 rfl rfl)
theorem dX8_readLine_42 : decode cX8_readLine 42 = .ok (.goto 4, 3) := dk_167 0 4 (dk_at dksX8_readLine_1 18 rfl rfl)
theorem dX8_readLine_45 : decode cX8_readLine 45 = .ok (.iconst 0, 1) := dk_3 (dk_at dksX8_readLine_1 21 rfl rfl)
theorem dX8_readLine_46 : decode cX8_readLine 46 = .ok (.ireturn, 1) := dk_172 (dk_at dksX8_readLine_1 22 rfl rfl)
abbrev cX8_letters : ByteArray := prog_18_method_28_code
def yX8_letters : MethodName := ⟨RX8, "letters", "()V"⟩
def dkwX8_letters_1 : List UInt8 := [181, 0, 92, 167, 255, 235, 177]
abbrev dktX8_letters_1 : List UInt8 := dkwX8_letters_1 ++ []
def dkwX8_letters_0 : List UInt8 := [42, 182, 0, 105, 42, 16, 97, 16, 122, 182, 0, 98, 153, 0, 16, 42, 89, 180, 0, 92, 4, 96]
abbrev dktX8_letters_0 : List UInt8 := dkwX8_letters_0 ++ dktX8_letters_1
theorem dksX8_letters_0 : cX8_letters.data.toList.drop 0 = dktX8_letters_0 := by decide +kernel
theorem dksX8_letters_1 : cX8_letters.data.toList.drop 22 = dktX8_letters_1 := dk_seg dksX8_letters_0 22 rfl rfl
theorem dX8_letters_0 : decode cX8_letters 0 = .ok (.aload_n 0, 1) := dk_42 (dk_at dksX8_letters_0 0 rfl rfl)
theorem dX8_letters_1 : decode cX8_letters 1 = .ok (.invokevirtual 105, 3) := dk_182 0 105 (dk_at dksX8_letters_0 1 rfl rfl)
theorem dX8_letters_4 : decode cX8_letters 4 = .ok (.aload_n 0, 1) := dk_42 (dk_at dksX8_letters_0 4 rfl rfl)
theorem dX8_letters_5 : decode cX8_letters 5 = .ok (.bipush 97, 2) := dk_16 97 (dk_at dksX8_letters_0 5 rfl rfl)
theorem dX8_letters_7 : decode cX8_letters 7 = .ok (.bipush 122, 2) := dk_16 122 (dk_at dksX8_letters_0 7 rfl rfl)
theorem dX8_letters_9 : decode cX8_letters 9 = .ok (.invokevirtual 98, 3) := dk_182 0 98 (dk_at dksX8_letters_0 9 rfl rfl)
theorem dX8_letters_12 : decode cX8_letters 12 = .ok (.ifCond .eq 16, 3) := dk_153 0 16 (dk_at dksX8_letters_0 12 rfl rfl)
theorem dX8_letters_15 : decode cX8_letters 15 = .ok (.aload_n 0, 1) := dk_42 (dk_at dksX8_letters_0 15 rfl rfl)
theorem dX8_letters_16 : decode cX8_letters 16 = .ok (.dup, 1) := dk_89 (dk_at dksX8_letters_0 16 rfl rfl)
theorem dX8_letters_17 : decode cX8_letters 17 = .ok (.getfield 92, 3) := dk_180 0 92 (dk_at dksX8_letters_0 17 rfl rfl)
theorem dX8_letters_20 : decode cX8_letters 20 = .ok (.iconst 1, 1) := dk_4 (dk_at dksX8_letters_0 20 rfl rfl)
theorem dX8_letters_21 : decode cX8_letters 21 = .ok (.iadd, 1) := dk_96 (dk_at dksX8_letters_0 21 rfl rfl)
theorem dX8_letters_22 : decode cX8_letters 22 = .ok (.putfield 92, 3) := dk_181 0 92 (dk_at dksX8_letters_1 0 rfl rfl)
theorem dX8_letters_25 : decode cX8_letters 25 = .ok (.goto (-21), 3) := dk_167 255 235 (dk_at dksX8_letters_1 3 rfl rfl)
theorem dX8_letters_28 : decode cX8_letters 28 = .ok (.return_, 1) := dk_177 (dk_at dksX8_letters_1 6 rfl rfl)
abbrev cX8_readCourtLine : ByteArray := prog_18_method_44_code
def yX8_readCourtLine : MethodName := ⟨RX8, "readCourtLine", "()Z"⟩
def dkwX8_readCourtLine_4 : List UInt8 := [182, 0, 188, 153, 0, 7, 4, 167, 0, 4, 3, 172]
abbrev dktX8_readCourtLine_4 : List UInt8 := dkwX8_readCourtLine_4 ++ []
def dkwX8_readCourtLine_3 : List UInt8 := [18, 181, 182, 0, 120, 153, 0, 8, 42, 182, 0, 183, 172, 42, 18, 186, 182, 0, 120, 153, 0, 14, 42]
abbrev dktX8_readCourtLine_3 : List UInt8 := dkwX8_readCourtLine_3 ++ dktX8_readCourtLine_4
def dkwX8_readCourtLine_2 : List UInt8 := [153, 0, 8, 42, 182, 0, 173, 172, 42, 18, 176, 182, 0, 120, 153, 0, 8, 42, 182, 0, 178, 172, 42]
abbrev dktX8_readCourtLine_2 : List UInt8 := dkwX8_readCourtLine_2 ++ dktX8_readCourtLine_3
def dkwX8_readCourtLine_1 : List UInt8 := [182, 0, 163, 172, 42, 18, 166, 182, 0, 120, 153, 0, 8, 42, 182, 0, 168, 172, 42, 18, 171, 182, 0, 120]
abbrev dktX8_readCourtLine_1 : List UInt8 := dkwX8_readCourtLine_1 ++ dktX8_readCourtLine_2
def dkwX8_readCourtLine_0 : List UInt8 := [42, 18, 156, 182, 0, 120, 153, 0, 8, 42, 182, 0, 158, 172, 42, 18, 162, 182, 0, 120, 153, 0, 8, 42]
abbrev dktX8_readCourtLine_0 : List UInt8 := dkwX8_readCourtLine_0 ++ dktX8_readCourtLine_1
theorem dksX8_readCourtLine_0 : cX8_readCourtLine.data.toList.drop 0 = dktX8_readCourtLine_0 := by decide +kernel
theorem dksX8_readCourtLine_1 : cX8_readCourtLine.data.toList.drop 24 = dktX8_readCourtLine_1 := dk_seg dksX8_readCourtLine_0 24 rfl rfl
theorem dksX8_readCourtLine_2 : cX8_readCourtLine.data.toList.drop 48 = dktX8_readCourtLine_2 := dk_seg dksX8_readCourtLine_1 24 rfl rfl
theorem dksX8_readCourtLine_3 : cX8_readCourtLine.data.toList.drop 71 = dktX8_readCourtLine_3 := dk_seg dksX8_readCourtLine_2 23 rfl rfl
theorem dksX8_readCourtLine_4 : cX8_readCourtLine.data.toList.drop 94 = dktX8_readCourtLine_4 := dk_seg dksX8_readCourtLine_3 23 rfl rfl
theorem dX8_readCourtLine_0 : decode cX8_readCourtLine 0 = .ok (.aload_n 0, 1) := dk_42 (dk_at dksX8_readCourtLine_0 0 rfl rfl)
theorem dX8_readCourtLine_1 : decode cX8_readCourtLine 1 = .ok (.ldc 156, 2) := dk_18 156 (dk_at dksX8_readCourtLine_0 1 rfl rfl)
theorem dX8_readCourtLine_3 : decode cX8_readCourtLine 3 = .ok (.invokevirtual 120, 3) := dk_182 0 120 (dk_at dksX8_readCourtLine_0 3 rfl rfl)
theorem dX8_readCourtLine_6 : decode cX8_readCourtLine 6 = .ok (.ifCond .eq 8, 3) := dk_153 0 8 (dk_at dksX8_readCourtLine_0 6 rfl rfl)
theorem dX8_readCourtLine_9 : decode cX8_readCourtLine 9 = .ok (.aload_n 0, 1) := dk_42 (dk_at dksX8_readCourtLine_0 9 rfl rfl)
theorem dX8_readCourtLine_10 : decode cX8_readCourtLine 10 = .ok (.invokevirtual 158, 3) := dk_182 0 158 (dk_at dksX8_readCourtLine_0 10 rfl rfl)
theorem dX8_readCourtLine_13 : decode cX8_readCourtLine 13 = .ok (.ireturn, 1) := dk_172 (dk_at dksX8_readCourtLine_0 13 rfl rfl)
theorem dX8_readCourtLine_14 : decode cX8_readCourtLine 14 = .ok (.aload_n 0, 1) := dk_42 (dk_at dksX8_readCourtLine_0 14 rfl rfl)
theorem dX8_readCourtLine_15 : decode cX8_readCourtLine 15 = .ok (.ldc 162, 2) := dk_18 162 (dk_at dksX8_readCourtLine_0 15 rfl rfl)
theorem dX8_readCourtLine_17 : decode cX8_readCourtLine 17 = .ok (.invokevirtual 120, 3) := dk_182 0 120 (dk_at dksX8_readCourtLine_0 17 rfl rfl)
theorem dX8_readCourtLine_20 : decode cX8_readCourtLine 20 = .ok (.ifCond .eq 8, 3) := dk_153 0 8 (dk_at dksX8_readCourtLine_0 20 rfl rfl)
theorem dX8_readCourtLine_23 : decode cX8_readCourtLine 23 = .ok (.aload_n 0, 1) := dk_42 (dk_at dksX8_readCourtLine_0 23 rfl rfl)
theorem dX8_readCourtLine_24 : decode cX8_readCourtLine 24 = .ok (.invokevirtual 163, 3) := dk_182 0 163 (dk_at dksX8_readCourtLine_1 0 rfl rfl)
theorem dX8_readCourtLine_27 : decode cX8_readCourtLine 27 = .ok (.ireturn, 1) := dk_172 (dk_at dksX8_readCourtLine_1 3 rfl rfl)
theorem dX8_readCourtLine_28 : decode cX8_readCourtLine 28 = .ok (.aload_n 0, 1) := dk_42 (dk_at dksX8_readCourtLine_1 4 rfl rfl)
theorem dX8_readCourtLine_29 : decode cX8_readCourtLine 29 = .ok (.ldc 166, 2) := dk_18 166 (dk_at dksX8_readCourtLine_1 5 rfl rfl)
theorem dX8_readCourtLine_31 : decode cX8_readCourtLine 31 = .ok (.invokevirtual 120, 3) := dk_182 0 120 (dk_at dksX8_readCourtLine_1 7 rfl rfl)
theorem dX8_readCourtLine_34 : decode cX8_readCourtLine 34 = .ok (.ifCond .eq 8, 3) := dk_153 0 8 (dk_at dksX8_readCourtLine_1 10 rfl rfl)
theorem dX8_readCourtLine_37 : decode cX8_readCourtLine 37 = .ok (.aload_n 0, 1) := dk_42 (dk_at dksX8_readCourtLine_1 13 rfl rfl)
theorem dX8_readCourtLine_38 : decode cX8_readCourtLine 38 = .ok (.invokevirtual 168, 3) := dk_182 0 168 (dk_at dksX8_readCourtLine_1 14 rfl rfl)
theorem dX8_readCourtLine_41 : decode cX8_readCourtLine 41 = .ok (.ireturn, 1) := dk_172 (dk_at dksX8_readCourtLine_1 17 rfl rfl)
theorem dX8_readCourtLine_42 : decode cX8_readCourtLine 42 = .ok (.aload_n 0, 1) := dk_42 (dk_at dksX8_readCourtLine_1 18 rfl rfl)
theorem dX8_readCourtLine_43 : decode cX8_readCourtLine 43 = .ok (.ldc 171, 2) := dk_18 171 (dk_at dksX8_readCourtLine_1 19 rfl rfl)
theorem dX8_readCourtLine_45 : decode cX8_readCourtLine 45 = .ok (.invokevirtual 120, 3) := dk_182 0 120 (dk_at dksX8_readCourtLine_1 21 rfl rfl)
theorem dX8_readCourtLine_48 : decode cX8_readCourtLine 48 = .ok (.ifCond .eq 8, 3) := dk_153 0 8 (dk_at dksX8_readCourtLine_2 0 rfl rfl)
theorem dX8_readCourtLine_51 : decode cX8_readCourtLine 51 = .ok (.aload_n 0, 1) := dk_42 (dk_at dksX8_readCourtLine_2 3 rfl rfl)
theorem dX8_readCourtLine_52 : decode cX8_readCourtLine 52 = .ok (.invokevirtual 173, 3) := dk_182 0 173 (dk_at dksX8_readCourtLine_2 4 rfl rfl)
theorem dX8_readCourtLine_55 : decode cX8_readCourtLine 55 = .ok (.ireturn, 1) := dk_172 (dk_at dksX8_readCourtLine_2 7 rfl rfl)
theorem dX8_readCourtLine_56 : decode cX8_readCourtLine 56 = .ok (.aload_n 0, 1) := dk_42 (dk_at dksX8_readCourtLine_2 8 rfl rfl)
theorem dX8_readCourtLine_57 : decode cX8_readCourtLine 57 = .ok (.ldc 176, 2) := dk_18 176 (dk_at dksX8_readCourtLine_2 9 rfl rfl)
theorem dX8_readCourtLine_59 : decode cX8_readCourtLine 59 = .ok (.invokevirtual 120, 3) := dk_182 0 120 (dk_at dksX8_readCourtLine_2 11 rfl rfl)
theorem dX8_readCourtLine_62 : decode cX8_readCourtLine 62 = .ok (.ifCond .eq 8, 3) := dk_153 0 8 (dk_at dksX8_readCourtLine_2 14 rfl rfl)
theorem dX8_readCourtLine_65 : decode cX8_readCourtLine 65 = .ok (.aload_n 0, 1) := dk_42 (dk_at dksX8_readCourtLine_2 17 rfl rfl)
theorem dX8_readCourtLine_66 : decode cX8_readCourtLine 66 = .ok (.invokevirtual 178, 3) := dk_182 0 178 (dk_at dksX8_readCourtLine_2 18 rfl rfl)
theorem dX8_readCourtLine_69 : decode cX8_readCourtLine 69 = .ok (.ireturn, 1) := dk_172 (dk_at dksX8_readCourtLine_2 21 rfl rfl)
theorem dX8_readCourtLine_70 : decode cX8_readCourtLine 70 = .ok (.aload_n 0, 1) := dk_42 (dk_at dksX8_readCourtLine_2 22 rfl rfl)
theorem dX8_readCourtLine_71 : decode cX8_readCourtLine 71 = .ok (.ldc 181, 2) := dk_18 181 (dk_at dksX8_readCourtLine_3 0 rfl rfl)
theorem dX8_readCourtLine_73 : decode cX8_readCourtLine 73 = .ok (.invokevirtual 120, 3) := dk_182 0 120 (dk_at dksX8_readCourtLine_3 2 rfl rfl)
theorem dX8_readCourtLine_76 : decode cX8_readCourtLine 76 = .ok (.ifCond .eq 8, 3) := dk_153 0 8 (dk_at dksX8_readCourtLine_3 5 rfl rfl)
theorem dX8_readCourtLine_79 : decode cX8_readCourtLine 79 = .ok (.aload_n 0, 1) := dk_42 (dk_at dksX8_readCourtLine_3 8 rfl rfl)
theorem dX8_readCourtLine_80 : decode cX8_readCourtLine 80 = .ok (.invokevirtual 183, 3) := dk_182 0 183 (dk_at dksX8_readCourtLine_3 9 rfl rfl)
theorem dX8_readCourtLine_83 : decode cX8_readCourtLine 83 = .ok (.ireturn, 1) := dk_172 (dk_at dksX8_readCourtLine_3 12 rfl rfl)
theorem dX8_readCourtLine_84 : decode cX8_readCourtLine 84 = .ok (.aload_n 0, 1) := dk_42 (dk_at dksX8_readCourtLine_3 13 rfl rfl)
theorem dX8_readCourtLine_85 : decode cX8_readCourtLine 85 = .ok (.ldc 186, 2) := dk_18 186 (dk_at dksX8_readCourtLine_3 14 rfl rfl)
theorem dX8_readCourtLine_87 : decode cX8_readCourtLine 87 = .ok (.invokevirtual 120, 3) := dk_182 0 120 (dk_at dksX8_readCourtLine_3 16 rfl rfl)
theorem dX8_readCourtLine_90 : decode cX8_readCourtLine 90 = .ok (.ifCond .eq 14, 3) := dk_153 0 14 (dk_at dksX8_readCourtLine_3 19 rfl rfl)
theorem dX8_readCourtLine_93 : decode cX8_readCourtLine 93 = .ok (.aload_n 0, 1) := dk_42 (dk_at dksX8_readCourtLine_3 22 rfl rfl)
theorem dX8_readCourtLine_94 : decode cX8_readCourtLine 94 = .ok (.invokevirtual 188, 3) := dk_182 0 188 (dk_at dksX8_readCourtLine_4 0 rfl rfl)
theorem dX8_readCourtLine_97 : decode cX8_readCourtLine 97 = .ok (.ifCond .eq 7, 3) := dk_153 0 7 (dk_at dksX8_readCourtLine_4 3 rfl rfl)
theorem dX8_readCourtLine_100 : decode cX8_readCourtLine 100 = .ok (.iconst 1, 1) := dk_4 (dk_at dksX8_readCourtLine_4 6 rfl rfl)
theorem dX8_readCourtLine_101 : decode cX8_readCourtLine 101 = .ok (.goto 4, 3) := dk_167 0 4 (dk_at dksX8_readCourtLine_4 7 rfl rfl)
theorem dX8_readCourtLine_104 : decode cX8_readCourtLine 104 = .ok (.iconst 0, 1) := dk_3 (dk_at dksX8_readCourtLine_4 10 rfl rfl)
theorem dX8_readCourtLine_105 : decode cX8_readCourtLine 105 = .ok (.ireturn, 1) := dk_172 (dk_at dksX8_readCourtLine_4 11 rfl rfl)
abbrev cX8_isWord : ByteArray := prog_18_method_29_code
def yX8_isWord : MethodName := ⟨RX8, "isWord", "(Ljava/lang/String;)Z"⟩
def dkwX8_isWord_2 : List UInt8 := [29, 182, 0, 113, 160, 0, 7, 4, 167, 0, 4, 3, 61, 132, 3, 1, 167, 255, 216, 28, 172]
abbrev dktX8_isWord_2 : List UInt8 := dkwX8_isWord_2 ++ []
def dkwX8_isWord_1 : List UInt8 := [28, 153, 0, 42, 29, 43, 182, 0, 108, 162, 0, 34, 42, 180, 0, 29, 42, 180, 0, 102, 29, 96, 51, 43]
abbrev dktX8_isWord_1 : List UInt8 := dkwX8_isWord_1 ++ dktX8_isWord_2
def dkwX8_isWord_0 : List UInt8 := [42, 180, 0, 92, 42, 180, 0, 102, 100, 43, 182, 0, 108, 160, 0, 7, 4, 167, 0, 4, 3, 61, 3, 62]
abbrev dktX8_isWord_0 : List UInt8 := dkwX8_isWord_0 ++ dktX8_isWord_1
theorem dksX8_isWord_0 : cX8_isWord.data.toList.drop 0 = dktX8_isWord_0 := by decide +kernel
theorem dksX8_isWord_1 : cX8_isWord.data.toList.drop 24 = dktX8_isWord_1 := dk_seg dksX8_isWord_0 24 rfl rfl
theorem dksX8_isWord_2 : cX8_isWord.data.toList.drop 48 = dktX8_isWord_2 := dk_seg dksX8_isWord_1 24 rfl rfl
theorem dX8_isWord_0 : decode cX8_isWord 0 = .ok (.aload_n 0, 1) := dk_42 (dk_at dksX8_isWord_0 0 rfl rfl)
theorem dX8_isWord_1 : decode cX8_isWord 1 = .ok (.getfield 92, 3) := dk_180 0 92 (dk_at dksX8_isWord_0 1 rfl rfl)
theorem dX8_isWord_4 : decode cX8_isWord 4 = .ok (.aload_n 0, 1) := dk_42 (dk_at dksX8_isWord_0 4 rfl rfl)
theorem dX8_isWord_5 : decode cX8_isWord 5 = .ok (.getfield 102, 3) := dk_180 0 102 (dk_at dksX8_isWord_0 5 rfl rfl)
theorem dX8_isWord_8 : decode cX8_isWord 8 = .ok (.isub, 1) := dk_100 (dk_at dksX8_isWord_0 8 rfl rfl)
theorem dX8_isWord_9 : decode cX8_isWord 9 = .ok (.aload_n 1, 1) := dk_43 (dk_at dksX8_isWord_0 9 rfl rfl)
theorem dX8_isWord_10 : decode cX8_isWord 10 = .ok (.invokevirtual 108, 3) := dk_182 0 108 (dk_at dksX8_isWord_0 10 rfl rfl)
theorem dX8_isWord_13 : decode cX8_isWord 13 = .ok (.if_icmp .ne 7, 3) := dk_160 0 7 (dk_at dksX8_isWord_0 13 rfl rfl)
theorem dX8_isWord_16 : decode cX8_isWord 16 = .ok (.iconst 1, 1) := dk_4 (dk_at dksX8_isWord_0 16 rfl rfl)
theorem dX8_isWord_17 : decode cX8_isWord 17 = .ok (.goto 4, 3) := dk_167 0 4 (dk_at dksX8_isWord_0 17 rfl rfl)
theorem dX8_isWord_20 : decode cX8_isWord 20 = .ok (.iconst 0, 1) := dk_3 (dk_at dksX8_isWord_0 20 rfl rfl)
theorem dX8_isWord_21 : decode cX8_isWord 21 = .ok (.istore_n 2, 1) := dk_61 (dk_at dksX8_isWord_0 21 rfl rfl)
theorem dX8_isWord_22 : decode cX8_isWord 22 = .ok (.iconst 0, 1) := dk_3 (dk_at dksX8_isWord_0 22 rfl rfl)
theorem dX8_isWord_23 : decode cX8_isWord 23 = .ok (.istore_n 3, 1) := dk_62 (dk_at dksX8_isWord_0 23 rfl rfl)
theorem dX8_isWord_24 : decode cX8_isWord 24 = .ok (.iload_n 2, 1) := dk_28 (dk_at dksX8_isWord_1 0 rfl rfl)
theorem dX8_isWord_25 : decode cX8_isWord 25 = .ok (.ifCond .eq 42, 3) := dk_153 0 42 (dk_at dksX8_isWord_1 1 rfl rfl)
theorem dX8_isWord_28 : decode cX8_isWord 28 = .ok (.iload_n 3, 1) := dk_29 (dk_at dksX8_isWord_1 4 rfl rfl)
theorem dX8_isWord_29 : decode cX8_isWord 29 = .ok (.aload_n 1, 1) := dk_43 (dk_at dksX8_isWord_1 5 rfl rfl)
theorem dX8_isWord_30 : decode cX8_isWord 30 = .ok (.invokevirtual 108, 3) := dk_182 0 108 (dk_at dksX8_isWord_1 6 rfl rfl)
theorem dX8_isWord_33 : decode cX8_isWord 33 = .ok (.if_icmp .ge 34, 3) := dk_162 0 34 (dk_at dksX8_isWord_1 9 rfl rfl)
theorem dX8_isWord_36 : decode cX8_isWord 36 = .ok (.aload_n 0, 1) := dk_42 (dk_at dksX8_isWord_1 12 rfl rfl)
theorem dX8_isWord_37 : decode cX8_isWord 37 = .ok (.getfield 29, 3) := dk_180 0 29 (dk_at dksX8_isWord_1 13 rfl rfl)
theorem dX8_isWord_40 : decode cX8_isWord 40 = .ok (.aload_n 0, 1) := dk_42 (dk_at dksX8_isWord_1 16 rfl rfl)
theorem dX8_isWord_41 : decode cX8_isWord 41 = .ok (.getfield 102, 3) := dk_180 0 102 (dk_at dksX8_isWord_1 17 rfl rfl)
theorem dX8_isWord_44 : decode cX8_isWord 44 = .ok (.iload_n 3, 1) := dk_29 (dk_at dksX8_isWord_1 20 rfl rfl)
theorem dX8_isWord_45 : decode cX8_isWord 45 = .ok (.iadd, 1) := dk_96 (dk_at dksX8_isWord_1 21 rfl rfl)
theorem dX8_isWord_46 : decode cX8_isWord 46 = .ok (.baload, 1) := dk_51 (dk_at dksX8_isWord_1 22 rfl rfl)
theorem dX8_isWord_47 : decode cX8_isWord 47 = .ok (.aload_n 1, 1) := dk_43 (dk_at dksX8_isWord_1 23 rfl rfl)
theorem dX8_isWord_48 : decode cX8_isWord 48 = .ok (.iload_n 3, 1) := dk_29 (dk_at dksX8_isWord_2 0 rfl rfl)
theorem dX8_isWord_49 : decode cX8_isWord 49 = .ok (.invokevirtual 113, 3) := dk_182 0 113 (dk_at dksX8_isWord_2 1 rfl rfl)
theorem dX8_isWord_52 : decode cX8_isWord 52 = .ok (.if_icmp .ne 7, 3) := dk_160 0 7 (dk_at dksX8_isWord_2 4 rfl rfl)
theorem dX8_isWord_55 : decode cX8_isWord 55 = .ok (.iconst 1, 1) := dk_4 (dk_at dksX8_isWord_2 7 rfl rfl)
theorem dX8_isWord_56 : decode cX8_isWord 56 = .ok (.goto 4, 3) := dk_167 0 4 (dk_at dksX8_isWord_2 8 rfl rfl)
theorem dX8_isWord_59 : decode cX8_isWord 59 = .ok (.iconst 0, 1) := dk_3 (dk_at dksX8_isWord_2 11 rfl rfl)
theorem dX8_isWord_60 : decode cX8_isWord 60 = .ok (.istore_n 2, 1) := dk_61 (dk_at dksX8_isWord_2 12 rfl rfl)
theorem dX8_isWord_61 : decode cX8_isWord 61 = .ok (.iinc 3 1, 3) := dk_132 3 1 (dk_at dksX8_isWord_2 13 rfl rfl)
theorem dX8_isWord_64 : decode cX8_isWord 64 = .ok (.goto (-40), 3) := dk_167 255 216 (dk_at dksX8_isWord_2 16 rfl rfl)
theorem dX8_isWord_67 : decode cX8_isWord 67 = .ok (.iload_n 2, 1) := dk_28 (dk_at dksX8_isWord_2 19 rfl rfl)
theorem dX8_isWord_68 : decode cX8_isWord 68 = .ok (.ireturn, 1) := dk_172 (dk_at dksX8_isWord_2 20 rfl rfl)
abbrev cX8_readBird : ByteArray := prog_18_method_37_code
def yX8_readBird : MethodName := ⟨RX8, "readBird", "()Z"⟩
def dkwX8_readBird_8 : List UInt8 := [42, 180, 0, 13, 3, 92, 46, 4, 96, 79, 4, 172]
abbrev dktX8_readBird_8 : List UInt8 := dkwX8_readBird_8 ++ []
def dkwX8_readBird_7 : List UInt8 := [21, 7, 7, 162, 0, 21, 42, 180, 0, 13, 21, 7, 27, 184, 0, 67, 3, 79, 132, 7, 1, 167, 255, 235]
abbrev dktX8_readBird_7 : List UInt8 := dkwX8_readBird_7 ++ dktX8_readBird_8
def dkwX8_readBird_6 : List UInt8 := [180, 0, 13, 21, 6, 5, 96, 21, 4, 79, 42, 180, 0, 13, 21, 6, 6, 96, 21, 5, 79, 3, 54, 7]
abbrev dktX8_readBird_6 : List UInt8 := dkwX8_readBird_6 ++ dktX8_readBird_7
def dkwX8_readBird_5 : List UInt8 := [54, 6, 42, 180, 0, 13, 21, 6, 3, 96, 28, 79, 42, 180, 0, 13, 21, 6, 4, 96, 29, 79, 42]
abbrev dktX8_readBird_5 : List UInt8 := dkwX8_readBird_5 ++ dktX8_readBird_6
def dkwX8_readBird_4 : List UInt8 := [42, 18, 144, 3, 8, 182, 0, 134, 54, 5, 21, 5, 156, 0, 5, 3, 172, 16, 26, 7, 27, 104, 96]
abbrev dktX8_readBird_4 : List UInt8 := dkwX8_readBird_4 ++ dktX8_readBird_5
def dkwX8_readBird_3 : List UInt8 := [153, 0, 12, 42, 16, 6, 182, 0, 140, 167, 0, 4, 2, 54, 4, 21, 4, 156, 0, 7, 2, 167, 0, 11]
abbrev dktX8_readBird_3 : List UInt8 := dkwX8_readBird_3 ++ dktX8_readBird_4
def dkwX8_readBird_2 : List UInt8 := [18, 132, 3, 6, 182, 0, 134, 62, 29, 156, 0, 5, 3, 172, 42, 182, 0, 117, 42, 18, 138, 182, 0, 120]
abbrev dktX8_readBird_2 : List UInt8 := dkwX8_readBird_2 ++ dktX8_readBird_3
def dkwX8_readBird_1 : List UInt8 := [153, 0, 12, 42, 3, 7, 182, 0, 124, 167, 0, 4, 2, 61, 28, 156, 0, 7, 2, 167, 0, 11, 42]
abbrev dktX8_readBird_1 : List UInt8 := dkwX8_readBird_1 ++ dktX8_readBird_2
def dkwX8_readBird_0 : List UInt8 := [42, 182, 0, 74, 60, 27, 16, 6, 160, 0, 5, 3, 172, 42, 182, 0, 117, 42, 18, 130, 182, 0, 120]
abbrev dktX8_readBird_0 : List UInt8 := dkwX8_readBird_0 ++ dktX8_readBird_1
theorem dksX8_readBird_0 : cX8_readBird.data.toList.drop 0 = dktX8_readBird_0 := by decide +kernel
theorem dksX8_readBird_1 : cX8_readBird.data.toList.drop 23 = dktX8_readBird_1 := dk_seg dksX8_readBird_0 23 rfl rfl
theorem dksX8_readBird_2 : cX8_readBird.data.toList.drop 46 = dktX8_readBird_2 := dk_seg dksX8_readBird_1 23 rfl rfl
theorem dksX8_readBird_3 : cX8_readBird.data.toList.drop 70 = dktX8_readBird_3 := dk_seg dksX8_readBird_2 24 rfl rfl
theorem dksX8_readBird_4 : cX8_readBird.data.toList.drop 94 = dktX8_readBird_4 := dk_seg dksX8_readBird_3 24 rfl rfl
theorem dksX8_readBird_5 : cX8_readBird.data.toList.drop 117 = dktX8_readBird_5 := dk_seg dksX8_readBird_4 23 rfl rfl
theorem dksX8_readBird_6 : cX8_readBird.data.toList.drop 140 = dktX8_readBird_6 := dk_seg dksX8_readBird_5 23 rfl rfl
theorem dksX8_readBird_7 : cX8_readBird.data.toList.drop 164 = dktX8_readBird_7 := dk_seg dksX8_readBird_6 24 rfl rfl
theorem dksX8_readBird_8 : cX8_readBird.data.toList.drop 188 = dktX8_readBird_8 := dk_seg dksX8_readBird_7 24 rfl rfl
theorem dX8_readBird_0 : decode cX8_readBird 0 = .ok (.aload_n 0, 1) := dk_42 (dk_at dksX8_readBird_0 0 rfl rfl)
theorem dX8_readBird_1 : decode cX8_readBird 1 = .ok (.invokevirtual 74, 3) := dk_182 0 74 (dk_at dksX8_readBird_0 1 rfl rfl)
theorem dX8_readBird_4 : decode cX8_readBird 4 = .ok (.istore_n 1, 1) := dk_60 (dk_at dksX8_readBird_0 4 rfl rfl)
theorem dX8_readBird_5 : decode cX8_readBird 5 = .ok (.iload_n 1, 1) := dk_27 (dk_at dksX8_readBird_0 5 rfl rfl)
theorem dX8_readBird_6 : decode cX8_readBird 6 = .ok (.bipush 6, 2) := dk_16 6 (dk_at dksX8_readBird_0 6 rfl rfl)
theorem dX8_readBird_8 : decode cX8_readBird 8 = .ok (.if_icmp .ne 5, 3) := dk_160 0 5 (dk_at dksX8_readBird_0 8 rfl rfl)
theorem dX8_readBird_11 : decode cX8_readBird 11 = .ok (.iconst 0, 1) := dk_3 (dk_at dksX8_readBird_0 11 rfl rfl)
theorem dX8_readBird_12 : decode cX8_readBird 12 = .ok (.ireturn, 1) := dk_172 (dk_at dksX8_readBird_0 12 rfl rfl)
theorem dX8_readBird_13 : decode cX8_readBird 13 = .ok (.aload_n 0, 1) := dk_42 (dk_at dksX8_readBird_0 13 rfl rfl)
theorem dX8_readBird_14 : decode cX8_readBird 14 = .ok (.invokevirtual 117, 3) := dk_182 0 117 (dk_at dksX8_readBird_0 14 rfl rfl)
theorem dX8_readBird_17 : decode cX8_readBird 17 = .ok (.aload_n 0, 1) := dk_42 (dk_at dksX8_readBird_0 17 rfl rfl)
theorem dX8_readBird_18 : decode cX8_readBird 18 = .ok (.ldc 130, 2) := dk_18 130 (dk_at dksX8_readBird_0 18 rfl rfl)
theorem dX8_readBird_20 : decode cX8_readBird 20 = .ok (.invokevirtual 120, 3) := dk_182 0 120 (dk_at dksX8_readBird_0 20 rfl rfl)
theorem dX8_readBird_23 : decode cX8_readBird 23 = .ok (.ifCond .eq 12, 3) := dk_153 0 12 (dk_at dksX8_readBird_1 0 rfl rfl)
theorem dX8_readBird_26 : decode cX8_readBird 26 = .ok (.aload_n 0, 1) := dk_42 (dk_at dksX8_readBird_1 3 rfl rfl)
theorem dX8_readBird_27 : decode cX8_readBird 27 = .ok (.iconst 0, 1) := dk_3 (dk_at dksX8_readBird_1 4 rfl rfl)
theorem dX8_readBird_28 : decode cX8_readBird 28 = .ok (.iconst 4, 1) := dk_7 (dk_at dksX8_readBird_1 5 rfl rfl)
theorem dX8_readBird_29 : decode cX8_readBird 29 = .ok (.invokevirtual 124, 3) := dk_182 0 124 (dk_at dksX8_readBird_1 6 rfl rfl)
theorem dX8_readBird_32 : decode cX8_readBird 32 = .ok (.goto 4, 3) := dk_167 0 4 (dk_at dksX8_readBird_1 9 rfl rfl)
theorem dX8_readBird_35 : decode cX8_readBird 35 = .ok (.iconst (-1), 1) := dk_2 (dk_at dksX8_readBird_1 12 rfl rfl)
theorem dX8_readBird_36 : decode cX8_readBird 36 = .ok (.istore_n 2, 1) := dk_61 (dk_at dksX8_readBird_1 13 rfl rfl)
theorem dX8_readBird_37 : decode cX8_readBird 37 = .ok (.iload_n 2, 1) := dk_28 (dk_at dksX8_readBird_1 14 rfl rfl)
theorem dX8_readBird_38 : decode cX8_readBird 38 = .ok (.ifCond .ge 7, 3) := dk_156 0 7 (dk_at dksX8_readBird_1 15 rfl rfl)
theorem dX8_readBird_41 : decode cX8_readBird 41 = .ok (.iconst (-1), 1) := dk_2 (dk_at dksX8_readBird_1 18 rfl rfl)
theorem dX8_readBird_42 : decode cX8_readBird 42 = .ok (.goto 11, 3) := dk_167 0 11 (dk_at dksX8_readBird_1 19 rfl rfl)
theorem dX8_readBird_45 : decode cX8_readBird 45 = .ok (.aload_n 0, 1) := dk_42 (dk_at dksX8_readBird_1 22 rfl rfl)
theorem dX8_readBird_46 : decode cX8_readBird 46 = .ok (.ldc 132, 2) := dk_18 132 (dk_at dksX8_readBird_2 0 rfl rfl)
theorem dX8_readBird_48 : decode cX8_readBird 48 = .ok (.iconst 0, 1) := dk_3 (dk_at dksX8_readBird_2 2 rfl rfl)
theorem dX8_readBird_49 : decode cX8_readBird 49 = .ok (.iconst 3, 1) := dk_6 (dk_at dksX8_readBird_2 3 rfl rfl)
theorem dX8_readBird_50 : decode cX8_readBird 50 = .ok (.invokevirtual 134, 3) := dk_182 0 134 (dk_at dksX8_readBird_2 4 rfl rfl)
theorem dX8_readBird_53 : decode cX8_readBird 53 = .ok (.istore_n 3, 1) := dk_62 (dk_at dksX8_readBird_2 7 rfl rfl)
theorem dX8_readBird_54 : decode cX8_readBird 54 = .ok (.iload_n 3, 1) := dk_29 (dk_at dksX8_readBird_2 8 rfl rfl)
theorem dX8_readBird_55 : decode cX8_readBird 55 = .ok (.ifCond .ge 5, 3) := dk_156 0 5 (dk_at dksX8_readBird_2 9 rfl rfl)
theorem dX8_readBird_58 : decode cX8_readBird 58 = .ok (.iconst 0, 1) := dk_3 (dk_at dksX8_readBird_2 12 rfl rfl)
theorem dX8_readBird_59 : decode cX8_readBird 59 = .ok (.ireturn, 1) := dk_172 (dk_at dksX8_readBird_2 13 rfl rfl)
theorem dX8_readBird_60 : decode cX8_readBird 60 = .ok (.aload_n 0, 1) := dk_42 (dk_at dksX8_readBird_2 14 rfl rfl)
theorem dX8_readBird_61 : decode cX8_readBird 61 = .ok (.invokevirtual 117, 3) := dk_182 0 117 (dk_at dksX8_readBird_2 15 rfl rfl)
theorem dX8_readBird_64 : decode cX8_readBird 64 = .ok (.aload_n 0, 1) := dk_42 (dk_at dksX8_readBird_2 18 rfl rfl)
theorem dX8_readBird_65 : decode cX8_readBird 65 = .ok (.ldc 138, 2) := dk_18 138 (dk_at dksX8_readBird_2 19 rfl rfl)
theorem dX8_readBird_67 : decode cX8_readBird 67 = .ok (.invokevirtual 120, 3) := dk_182 0 120 (dk_at dksX8_readBird_2 21 rfl rfl)
theorem dX8_readBird_70 : decode cX8_readBird 70 = .ok (.ifCond .eq 12, 3) := dk_153 0 12 (dk_at dksX8_readBird_3 0 rfl rfl)
theorem dX8_readBird_73 : decode cX8_readBird 73 = .ok (.aload_n 0, 1) := dk_42 (dk_at dksX8_readBird_3 3 rfl rfl)
theorem dX8_readBird_74 : decode cX8_readBird 74 = .ok (.bipush 6, 2) := dk_16 6 (dk_at dksX8_readBird_3 4 rfl rfl)
theorem dX8_readBird_76 : decode cX8_readBird 76 = .ok (.invokevirtual 140, 3) := dk_182 0 140 (dk_at dksX8_readBird_3 6 rfl rfl)
theorem dX8_readBird_79 : decode cX8_readBird 79 = .ok (.goto 4, 3) := dk_167 0 4 (dk_at dksX8_readBird_3 9 rfl rfl)
theorem dX8_readBird_82 : decode cX8_readBird 82 = .ok (.iconst (-1), 1) := dk_2 (dk_at dksX8_readBird_3 12 rfl rfl)
theorem dX8_readBird_83 : decode cX8_readBird 83 = .ok (.istore 4, 2) := dk_54 4 (dk_at dksX8_readBird_3 13 rfl rfl)
theorem dX8_readBird_85 : decode cX8_readBird 85 = .ok (.iload 4, 2) := dk_21 4 (dk_at dksX8_readBird_3 15 rfl rfl)
theorem dX8_readBird_87 : decode cX8_readBird 87 = .ok (.ifCond .ge 7, 3) := dk_156 0 7 (dk_at dksX8_readBird_3 17 rfl rfl)
theorem dX8_readBird_90 : decode cX8_readBird 90 = .ok (.iconst (-1), 1) := dk_2 (dk_at dksX8_readBird_3 20 rfl rfl)
theorem dX8_readBird_91 : decode cX8_readBird 91 = .ok (.goto 11, 3) := dk_167 0 11 (dk_at dksX8_readBird_3 21 rfl rfl)
theorem dX8_readBird_94 : decode cX8_readBird 94 = .ok (.aload_n 0, 1) := dk_42 (dk_at dksX8_readBird_4 0 rfl rfl)
theorem dX8_readBird_95 : decode cX8_readBird 95 = .ok (.ldc 144, 2) := dk_18 144 (dk_at dksX8_readBird_4 1 rfl rfl)
theorem dX8_readBird_97 : decode cX8_readBird 97 = .ok (.iconst 0, 1) := dk_3 (dk_at dksX8_readBird_4 3 rfl rfl)
theorem dX8_readBird_98 : decode cX8_readBird 98 = .ok (.iconst 5, 1) := dk_8 (dk_at dksX8_readBird_4 4 rfl rfl)
theorem dX8_readBird_99 : decode cX8_readBird 99 = .ok (.invokevirtual 134, 3) := dk_182 0 134 (dk_at dksX8_readBird_4 5 rfl rfl)
theorem dX8_readBird_102 : decode cX8_readBird 102 = .ok (.istore 5, 2) := dk_54 5 (dk_at dksX8_readBird_4 8 rfl rfl)
theorem dX8_readBird_104 : decode cX8_readBird 104 = .ok (.iload 5, 2) := dk_21 5 (dk_at dksX8_readBird_4 10 rfl rfl)
theorem dX8_readBird_106 : decode cX8_readBird 106 = .ok (.ifCond .ge 5, 3) := dk_156 0 5 (dk_at dksX8_readBird_4 12 rfl rfl)
theorem dX8_readBird_109 : decode cX8_readBird 109 = .ok (.iconst 0, 1) := dk_3 (dk_at dksX8_readBird_4 15 rfl rfl)
theorem dX8_readBird_110 : decode cX8_readBird 110 = .ok (.ireturn, 1) := dk_172 (dk_at dksX8_readBird_4 16 rfl rfl)
theorem dX8_readBird_111 : decode cX8_readBird 111 = .ok (.bipush 26, 2) := dk_16 26 (dk_at dksX8_readBird_4 17 rfl rfl)
theorem dX8_readBird_113 : decode cX8_readBird 113 = .ok (.iconst 4, 1) := dk_7 (dk_at dksX8_readBird_4 19 rfl rfl)
theorem dX8_readBird_114 : decode cX8_readBird 114 = .ok (.iload_n 1, 1) := dk_27 (dk_at dksX8_readBird_4 20 rfl rfl)
theorem dX8_readBird_115 : decode cX8_readBird 115 = .ok (.imul, 1) := dk_104 (dk_at dksX8_readBird_4 21 rfl rfl)
theorem dX8_readBird_116 : decode cX8_readBird 116 = .ok (.iadd, 1) := dk_96 (dk_at dksX8_readBird_4 22 rfl rfl)
theorem dX8_readBird_117 : decode cX8_readBird 117 = .ok (.istore 6, 2) := dk_54 6 (dk_at dksX8_readBird_5 0 rfl rfl)
theorem dX8_readBird_119 : decode cX8_readBird 119 = .ok (.aload_n 0, 1) := dk_42 (dk_at dksX8_readBird_5 2 rfl rfl)
theorem dX8_readBird_120 : decode cX8_readBird 120 = .ok (.getfield 13, 3) := dk_180 0 13 (dk_at dksX8_readBird_5 3 rfl rfl)
theorem dX8_readBird_123 : decode cX8_readBird 123 = .ok (.iload 6, 2) := dk_21 6 (dk_at dksX8_readBird_5 6 rfl rfl)
theorem dX8_readBird_125 : decode cX8_readBird 125 = .ok (.iconst 0, 1) := dk_3 (dk_at dksX8_readBird_5 8 rfl rfl)
theorem dX8_readBird_126 : decode cX8_readBird 126 = .ok (.iadd, 1) := dk_96 (dk_at dksX8_readBird_5 9 rfl rfl)
theorem dX8_readBird_127 : decode cX8_readBird 127 = .ok (.iload_n 2, 1) := dk_28 (dk_at dksX8_readBird_5 10 rfl rfl)
theorem dX8_readBird_128 : decode cX8_readBird 128 = .ok (.iastore, 1) := dk_79 (dk_at dksX8_readBird_5 11 rfl rfl)
theorem dX8_readBird_129 : decode cX8_readBird 129 = .ok (.aload_n 0, 1) := dk_42 (dk_at dksX8_readBird_5 12 rfl rfl)
theorem dX8_readBird_130 : decode cX8_readBird 130 = .ok (.getfield 13, 3) := dk_180 0 13 (dk_at dksX8_readBird_5 13 rfl rfl)
theorem dX8_readBird_133 : decode cX8_readBird 133 = .ok (.iload 6, 2) := dk_21 6 (dk_at dksX8_readBird_5 16 rfl rfl)
theorem dX8_readBird_135 : decode cX8_readBird 135 = .ok (.iconst 1, 1) := dk_4 (dk_at dksX8_readBird_5 18 rfl rfl)
theorem dX8_readBird_136 : decode cX8_readBird 136 = .ok (.iadd, 1) := dk_96 (dk_at dksX8_readBird_5 19 rfl rfl)
theorem dX8_readBird_137 : decode cX8_readBird 137 = .ok (.iload_n 3, 1) := dk_29 (dk_at dksX8_readBird_5 20 rfl rfl)
theorem dX8_readBird_138 : decode cX8_readBird 138 = .ok (.iastore, 1) := dk_79 (dk_at dksX8_readBird_5 21 rfl rfl)
theorem dX8_readBird_139 : decode cX8_readBird 139 = .ok (.aload_n 0, 1) := dk_42 (dk_at dksX8_readBird_5 22 rfl rfl)
theorem dX8_readBird_140 : decode cX8_readBird 140 = .ok (.getfield 13, 3) := dk_180 0 13 (dk_at dksX8_readBird_6 0 rfl rfl)
theorem dX8_readBird_143 : decode cX8_readBird 143 = .ok (.iload 6, 2) := dk_21 6 (dk_at dksX8_readBird_6 3 rfl rfl)
theorem dX8_readBird_145 : decode cX8_readBird 145 = .ok (.iconst 2, 1) := dk_5 (dk_at dksX8_readBird_6 5 rfl rfl)
theorem dX8_readBird_146 : decode cX8_readBird 146 = .ok (.iadd, 1) := dk_96 (dk_at dksX8_readBird_6 6 rfl rfl)
theorem dX8_readBird_147 : decode cX8_readBird 147 = .ok (.iload 4, 2) := dk_21 4 (dk_at dksX8_readBird_6 7 rfl rfl)
theorem dX8_readBird_149 : decode cX8_readBird 149 = .ok (.iastore, 1) := dk_79 (dk_at dksX8_readBird_6 9 rfl rfl)
theorem dX8_readBird_150 : decode cX8_readBird 150 = .ok (.aload_n 0, 1) := dk_42 (dk_at dksX8_readBird_6 10 rfl rfl)
theorem dX8_readBird_151 : decode cX8_readBird 151 = .ok (.getfield 13, 3) := dk_180 0 13 (dk_at dksX8_readBird_6 11 rfl rfl)
theorem dX8_readBird_154 : decode cX8_readBird 154 = .ok (.iload 6, 2) := dk_21 6 (dk_at dksX8_readBird_6 14 rfl rfl)
theorem dX8_readBird_156 : decode cX8_readBird 156 = .ok (.iconst 3, 1) := dk_6 (dk_at dksX8_readBird_6 16 rfl rfl)
theorem dX8_readBird_157 : decode cX8_readBird 157 = .ok (.iadd, 1) := dk_96 (dk_at dksX8_readBird_6 17 rfl rfl)
theorem dX8_readBird_158 : decode cX8_readBird 158 = .ok (.iload 5, 2) := dk_21 5 (dk_at dksX8_readBird_6 18 rfl rfl)
theorem dX8_readBird_160 : decode cX8_readBird 160 = .ok (.iastore, 1) := dk_79 (dk_at dksX8_readBird_6 20 rfl rfl)
theorem dX8_readBird_161 : decode cX8_readBird 161 = .ok (.iconst 0, 1) := dk_3 (dk_at dksX8_readBird_6 21 rfl rfl)
theorem dX8_readBird_162 : decode cX8_readBird 162 = .ok (.istore 7, 2) := dk_54 7 (dk_at dksX8_readBird_6 22 rfl rfl)
theorem dX8_readBird_164 : decode cX8_readBird 164 = .ok (.iload 7, 2) := dk_21 7 (dk_at dksX8_readBird_7 0 rfl rfl)
theorem dX8_readBird_166 : decode cX8_readBird 166 = .ok (.iconst 4, 1) := dk_7 (dk_at dksX8_readBird_7 2 rfl rfl)
theorem dX8_readBird_167 : decode cX8_readBird 167 = .ok (.if_icmp .ge 21, 3) := dk_162 0 21 (dk_at dksX8_readBird_7 3 rfl rfl)
theorem dX8_readBird_170 : decode cX8_readBird 170 = .ok (.aload_n 0, 1) := dk_42 (dk_at dksX8_readBird_7 6 rfl rfl)
theorem dX8_readBird_171 : decode cX8_readBird 171 = .ok (.getfield 13, 3) := dk_180 0 13 (dk_at dksX8_readBird_7 7 rfl rfl)
theorem dX8_readBird_174 : decode cX8_readBird 174 = .ok (.iload 7, 2) := dk_21 7 (dk_at dksX8_readBird_7 10 rfl rfl)
theorem dX8_readBird_176 : decode cX8_readBird 176 = .ok (.iload_n 1, 1) := dk_27 (dk_at dksX8_readBird_7 12 rfl rfl)
theorem dX8_readBird_177 : decode cX8_readBird 177 = .ok (.invokestatic 67, 3) := dk_184 0 67 (dk_at dksX8_readBird_7 13 rfl rfl)
theorem dX8_readBird_180 : decode cX8_readBird 180 = .ok (.iconst 0, 1) := dk_3 (dk_at dksX8_readBird_7 16 rfl rfl)
theorem dX8_readBird_181 : decode cX8_readBird 181 = .ok (.iastore, 1) := dk_79 (dk_at dksX8_readBird_7 17 rfl rfl)
theorem dX8_readBird_182 : decode cX8_readBird 182 = .ok (.iinc 7 1, 3) := dk_132 7 1 (dk_at dksX8_readBird_7 18 rfl rfl)
theorem dX8_readBird_185 : decode cX8_readBird 185 = .ok (.goto (-21), 3) := dk_167 255 235 (dk_at dksX8_readBird_7 21 rfl rfl)
theorem dX8_readBird_188 : decode cX8_readBird 188 = .ok (.aload_n 0, 1) := dk_42 (dk_at dksX8_readBird_8 0 rfl rfl)
theorem dX8_readBird_189 : decode cX8_readBird 189 = .ok (.getfield 13, 3) := dk_180 0 13 (dk_at dksX8_readBird_8 1 rfl rfl)
theorem dX8_readBird_192 : decode cX8_readBird 192 = .ok (.iconst 0, 1) := dk_3 (dk_at dksX8_readBird_8 4 rfl rfl)
theorem dX8_readBird_193 : decode cX8_readBird 193 = .ok (.dup2, 1) := dk_92 (dk_at dksX8_readBird_8 5 rfl rfl)
theorem dX8_readBird_194 : decode cX8_readBird 194 = .ok (.iaload, 1) := dk_46 (dk_at dksX8_readBird_8 6 rfl rfl)
theorem dX8_readBird_195 : decode cX8_readBird 195 = .ok (.iconst 1, 1) := dk_4 (dk_at dksX8_readBird_8 7 rfl rfl)
theorem dX8_readBird_196 : decode cX8_readBird 196 = .ok (.iadd, 1) := dk_96 (dk_at dksX8_readBird_8 8 rfl rfl)
theorem dX8_readBird_197 : decode cX8_readBird 197 = .ok (.iastore, 1) := dk_79 (dk_at dksX8_readBird_8 9 rfl rfl)
theorem dX8_readBird_198 : decode cX8_readBird 198 = .ok (.iconst 1, 1) := dk_4 (dk_at dksX8_readBird_8 10 rfl rfl)
theorem dX8_readBird_199 : decode cX8_readBird 199 = .ok (.ireturn, 1) := dk_172 (dk_at dksX8_readBird_8 11 rfl rfl)
abbrev cX8_birds : ByteArray := prog_18_method_10_code
def yX8_birds : MethodName := ⟨RX8, "birds", "()I"⟩
def dkwX8_birds_0 : List UInt8 := [42, 180, 0, 13, 3, 46, 172]
abbrev dktX8_birds_0 : List UInt8 := dkwX8_birds_0 ++ []
theorem dksX8_birds_0 : cX8_birds.data.toList.drop 0 = dktX8_birds_0 := by decide +kernel
theorem dX8_birds_0 : decode cX8_birds 0 = .ok (.aload_n 0, 1) := dk_42 (dk_at dksX8_birds_0 0 rfl rfl)
theorem dX8_birds_1 : decode cX8_birds 1 = .ok (.getfield 13, 3) := dk_180 0 13 (dk_at dksX8_birds_0 1 rfl rfl)
theorem dX8_birds_4 : decode cX8_birds 4 = .ok (.iconst 0, 1) := dk_3 (dk_at dksX8_birds_0 4 rfl rfl)
theorem dX8_birds_5 : decode cX8_birds 5 = .ok (.iaload, 1) := dk_46 (dk_at dksX8_birds_0 5 rfl rfl)
theorem dX8_birds_6 : decode cX8_birds 6 = .ok (.ireturn, 1) := dk_172 (dk_at dksX8_birds_0 6 rfl rfl)
abbrev cX8_number : ByteArray := prog_18_method_32_code
def yX8_number : MethodName := ⟨RX8, "number", "(II)I"⟩
def dkwX8_number_4 : List UInt8 := [29, 28, 164, 0, 7, 2, 167, 0, 4, 29, 172]
abbrev dktX8_number_4 : List UInt8 := dkwX8_number_4 ++ []
def dkwX8_number_3 : List UInt8 := [180, 0, 102, 159, 0, 26, 42, 180, 0, 92, 42, 180, 0, 102, 100, 6, 163, 0, 13, 29, 27, 161, 0, 8]
abbrev dktX8_number_3 : List UInt8 := dkwX8_number_3 ++ dktX8_number_4
def dkwX8_number_2 : List UInt8 := [100, 167, 0, 4, 29, 62, 42, 89, 180, 0, 92, 4, 96, 181, 0, 92, 167, 255, 200, 42, 180, 0, 92, 42]
abbrev dktX8_number_2 : List UInt8 := dkwX8_number_2 ++ dktX8_number_3
def dkwX8_number_1 : List UInt8 := [180, 0, 102, 100, 6, 162, 0, 23, 16, 10, 29, 104, 42, 180, 0, 29, 42, 180, 0, 92, 51, 96, 16, 48]
abbrev dktX8_number_1 : List UInt8 := dkwX8_number_1 ++ dktX8_number_2
def dkwX8_number_0 : List UInt8 := [42, 182, 0, 105, 3, 62, 42, 16, 48, 16, 57, 182, 0, 98, 153, 0, 51, 42, 180, 0, 92, 42]
abbrev dktX8_number_0 : List UInt8 := dkwX8_number_0 ++ dktX8_number_1
theorem dksX8_number_0 : cX8_number.data.toList.drop 0 = dktX8_number_0 := by decide +kernel
theorem dksX8_number_1 : cX8_number.data.toList.drop 22 = dktX8_number_1 := dk_seg dksX8_number_0 22 rfl rfl
theorem dksX8_number_2 : cX8_number.data.toList.drop 46 = dktX8_number_2 := dk_seg dksX8_number_1 24 rfl rfl
theorem dksX8_number_3 : cX8_number.data.toList.drop 70 = dktX8_number_3 := dk_seg dksX8_number_2 24 rfl rfl
theorem dksX8_number_4 : cX8_number.data.toList.drop 94 = dktX8_number_4 := dk_seg dksX8_number_3 24 rfl rfl
theorem dX8_number_0 : decode cX8_number 0 = .ok (.aload_n 0, 1) := dk_42 (dk_at dksX8_number_0 0 rfl rfl)
theorem dX8_number_1 : decode cX8_number 1 = .ok (.invokevirtual 105, 3) := dk_182 0 105 (dk_at dksX8_number_0 1 rfl rfl)
theorem dX8_number_4 : decode cX8_number 4 = .ok (.iconst 0, 1) := dk_3 (dk_at dksX8_number_0 4 rfl rfl)
theorem dX8_number_5 : decode cX8_number 5 = .ok (.istore_n 3, 1) := dk_62 (dk_at dksX8_number_0 5 rfl rfl)
theorem dX8_number_6 : decode cX8_number 6 = .ok (.aload_n 0, 1) := dk_42 (dk_at dksX8_number_0 6 rfl rfl)
theorem dX8_number_7 : decode cX8_number 7 = .ok (.bipush 48, 2) := dk_16 48 (dk_at dksX8_number_0 7 rfl rfl)
theorem dX8_number_9 : decode cX8_number 9 = .ok (.bipush 57, 2) := dk_16 57 (dk_at dksX8_number_0 9 rfl rfl)
theorem dX8_number_11 : decode cX8_number 11 = .ok (.invokevirtual 98, 3) := dk_182 0 98 (dk_at dksX8_number_0 11 rfl rfl)
theorem dX8_number_14 : decode cX8_number 14 = .ok (.ifCond .eq 51, 3) := dk_153 0 51 (dk_at dksX8_number_0 14 rfl rfl)
theorem dX8_number_17 : decode cX8_number 17 = .ok (.aload_n 0, 1) := dk_42 (dk_at dksX8_number_0 17 rfl rfl)
theorem dX8_number_18 : decode cX8_number 18 = .ok (.getfield 92, 3) := dk_180 0 92 (dk_at dksX8_number_0 18 rfl rfl)
theorem dX8_number_21 : decode cX8_number 21 = .ok (.aload_n 0, 1) := dk_42 (dk_at dksX8_number_0 21 rfl rfl)
theorem dX8_number_22 : decode cX8_number 22 = .ok (.getfield 102, 3) := dk_180 0 102 (dk_at dksX8_number_1 0 rfl rfl)
theorem dX8_number_25 : decode cX8_number 25 = .ok (.isub, 1) := dk_100 (dk_at dksX8_number_1 3 rfl rfl)
theorem dX8_number_26 : decode cX8_number 26 = .ok (.iconst 3, 1) := dk_6 (dk_at dksX8_number_1 4 rfl rfl)
theorem dX8_number_27 : decode cX8_number 27 = .ok (.if_icmp .ge 23, 3) := dk_162 0 23 (dk_at dksX8_number_1 5 rfl rfl)
theorem dX8_number_30 : decode cX8_number 30 = .ok (.bipush 10, 2) := dk_16 10 (dk_at dksX8_number_1 8 rfl rfl)
theorem dX8_number_32 : decode cX8_number 32 = .ok (.iload_n 3, 1) := dk_29 (dk_at dksX8_number_1 10 rfl rfl)
theorem dX8_number_33 : decode cX8_number 33 = .ok (.imul, 1) := dk_104 (dk_at dksX8_number_1 11 rfl rfl)
theorem dX8_number_34 : decode cX8_number 34 = .ok (.aload_n 0, 1) := dk_42 (dk_at dksX8_number_1 12 rfl rfl)
theorem dX8_number_35 : decode cX8_number 35 = .ok (.getfield 29, 3) := dk_180 0 29 (dk_at dksX8_number_1 13 rfl rfl)
theorem dX8_number_38 : decode cX8_number 38 = .ok (.aload_n 0, 1) := dk_42 (dk_at dksX8_number_1 16 rfl rfl)
theorem dX8_number_39 : decode cX8_number 39 = .ok (.getfield 92, 3) := dk_180 0 92 (dk_at dksX8_number_1 17 rfl rfl)
theorem dX8_number_42 : decode cX8_number 42 = .ok (.baload, 1) := dk_51 (dk_at dksX8_number_1 20 rfl rfl)
theorem dX8_number_43 : decode cX8_number 43 = .ok (.iadd, 1) := dk_96 (dk_at dksX8_number_1 21 rfl rfl)
theorem dX8_number_44 : decode cX8_number 44 = .ok (.bipush 48, 2) := dk_16 48 (dk_at dksX8_number_1 22 rfl rfl)
theorem dX8_number_46 : decode cX8_number 46 = .ok (.isub, 1) := dk_100 (dk_at dksX8_number_2 0 rfl rfl)
theorem dX8_number_47 : decode cX8_number 47 = .ok (.goto 4, 3) := dk_167 0 4 (dk_at dksX8_number_2 1 rfl rfl)
theorem dX8_number_50 : decode cX8_number 50 = .ok (.iload_n 3, 1) := dk_29 (dk_at dksX8_number_2 4 rfl rfl)
theorem dX8_number_51 : decode cX8_number 51 = .ok (.istore_n 3, 1) := dk_62 (dk_at dksX8_number_2 5 rfl rfl)
theorem dX8_number_52 : decode cX8_number 52 = .ok (.aload_n 0, 1) := dk_42 (dk_at dksX8_number_2 6 rfl rfl)
theorem dX8_number_53 : decode cX8_number 53 = .ok (.dup, 1) := dk_89 (dk_at dksX8_number_2 7 rfl rfl)
theorem dX8_number_54 : decode cX8_number 54 = .ok (.getfield 92, 3) := dk_180 0 92 (dk_at dksX8_number_2 8 rfl rfl)
theorem dX8_number_57 : decode cX8_number 57 = .ok (.iconst 1, 1) := dk_4 (dk_at dksX8_number_2 11 rfl rfl)
theorem dX8_number_58 : decode cX8_number 58 = .ok (.iadd, 1) := dk_96 (dk_at dksX8_number_2 12 rfl rfl)
theorem dX8_number_59 : decode cX8_number 59 = .ok (.putfield 92, 3) := dk_181 0 92 (dk_at dksX8_number_2 13 rfl rfl)
theorem dX8_number_62 : decode cX8_number 62 = .ok (.goto (-56), 3) := dk_167 255 200 (dk_at dksX8_number_2 16 rfl rfl)
theorem dX8_number_65 : decode cX8_number 65 = .ok (.aload_n 0, 1) := dk_42 (dk_at dksX8_number_2 19 rfl rfl)
theorem dX8_number_66 : decode cX8_number 66 = .ok (.getfield 92, 3) := dk_180 0 92 (dk_at dksX8_number_2 20 rfl rfl)
theorem dX8_number_69 : decode cX8_number 69 = .ok (.aload_n 0, 1) := dk_42 (dk_at dksX8_number_2 23 rfl rfl)
theorem dX8_number_70 : decode cX8_number 70 = .ok (.getfield 102, 3) := dk_180 0 102 (dk_at dksX8_number_3 0 rfl rfl)
theorem dX8_number_73 : decode cX8_number 73 = .ok (.if_icmp .eq 26, 3) := dk_159 0 26 (dk_at dksX8_number_3 3 rfl rfl)
theorem dX8_number_76 : decode cX8_number 76 = .ok (.aload_n 0, 1) := dk_42 (dk_at dksX8_number_3 6 rfl rfl)
theorem dX8_number_77 : decode cX8_number 77 = .ok (.getfield 92, 3) := dk_180 0 92 (dk_at dksX8_number_3 7 rfl rfl)
theorem dX8_number_80 : decode cX8_number 80 = .ok (.aload_n 0, 1) := dk_42 (dk_at dksX8_number_3 10 rfl rfl)
theorem dX8_number_81 : decode cX8_number 81 = .ok (.getfield 102, 3) := dk_180 0 102 (dk_at dksX8_number_3 11 rfl rfl)
theorem dX8_number_84 : decode cX8_number 84 = .ok (.isub, 1) := dk_100 (dk_at dksX8_number_3 14 rfl rfl)
theorem dX8_number_85 : decode cX8_number 85 = .ok (.iconst 3, 1) := dk_6 (dk_at dksX8_number_3 15 rfl rfl)
theorem dX8_number_86 : decode cX8_number 86 = .ok (.if_icmp .gt 13, 3) := dk_163 0 13 (dk_at dksX8_number_3 16 rfl rfl)
theorem dX8_number_89 : decode cX8_number 89 = .ok (.iload_n 3, 1) := dk_29 (dk_at dksX8_number_3 19 rfl rfl)
theorem dX8_number_90 : decode cX8_number 90 = .ok (.iload_n 1, 1) := dk_27 (dk_at dksX8_number_3 20 rfl rfl)
theorem dX8_number_91 : decode cX8_number 91 = .ok (.if_icmp .lt 8, 3) := dk_161 0 8 (dk_at dksX8_number_3 21 rfl rfl)
theorem dX8_number_94 : decode cX8_number 94 = .ok (.iload_n 3, 1) := dk_29 (dk_at dksX8_number_4 0 rfl rfl)
theorem dX8_number_95 : decode cX8_number 95 = .ok (.iload_n 2, 1) := dk_28 (dk_at dksX8_number_4 1 rfl rfl)
theorem dX8_number_96 : decode cX8_number 96 = .ok (.if_icmp .le 7, 3) := dk_164 0 7 (dk_at dksX8_number_4 2 rfl rfl)
theorem dX8_number_99 : decode cX8_number 99 = .ok (.iconst (-1), 1) := dk_2 (dk_at dksX8_number_4 5 rfl rfl)
theorem dX8_number_100 : decode cX8_number 100 = .ok (.goto 4, 3) := dk_167 0 4 (dk_at dksX8_number_4 6 rfl rfl)
theorem dX8_number_103 : decode cX8_number 103 = .ok (.iload_n 3, 1) := dk_29 (dk_at dksX8_number_4 9 rfl rfl)
theorem dX8_number_104 : decode cX8_number 104 = .ok (.ireturn, 1) := dk_172 (dk_at dksX8_number_4 10 rfl rfl)
abbrev cX8_after : ByteArray := prog_18_method_33_code
def yX8_after : MethodName := ⟨RX8, "after", "(Ljava/lang/String;II)I"⟩
def dkwX8_after_0 : List UInt8 := [42, 182, 0, 117, 42, 43, 182, 0, 120, 153, 0, 12, 42, 28, 29, 182, 0, 124, 167, 0, 4, 2, 172]
abbrev dktX8_after_0 : List UInt8 := dkwX8_after_0 ++ []
theorem dksX8_after_0 : cX8_after.data.toList.drop 0 = dktX8_after_0 := by decide +kernel
theorem dX8_after_0 : decode cX8_after 0 = .ok (.aload_n 0, 1) := dk_42 (dk_at dksX8_after_0 0 rfl rfl)
theorem dX8_after_1 : decode cX8_after 1 = .ok (.invokevirtual 117, 3) := dk_182 0 117 (dk_at dksX8_after_0 1 rfl rfl)
theorem dX8_after_4 : decode cX8_after 4 = .ok (.aload_n 0, 1) := dk_42 (dk_at dksX8_after_0 4 rfl rfl)
theorem dX8_after_5 : decode cX8_after 5 = .ok (.aload_n 1, 1) := dk_43 (dk_at dksX8_after_0 5 rfl rfl)
theorem dX8_after_6 : decode cX8_after 6 = .ok (.invokevirtual 120, 3) := dk_182 0 120 (dk_at dksX8_after_0 6 rfl rfl)
theorem dX8_after_9 : decode cX8_after 9 = .ok (.ifCond .eq 12, 3) := dk_153 0 12 (dk_at dksX8_after_0 9 rfl rfl)
theorem dX8_after_12 : decode cX8_after 12 = .ok (.aload_n 0, 1) := dk_42 (dk_at dksX8_after_0 12 rfl rfl)
theorem dX8_after_13 : decode cX8_after 13 = .ok (.iload_n 2, 1) := dk_28 (dk_at dksX8_after_0 13 rfl rfl)
theorem dX8_after_14 : decode cX8_after 14 = .ok (.iload_n 3, 1) := dk_29 (dk_at dksX8_after_0 14 rfl rfl)
theorem dX8_after_15 : decode cX8_after 15 = .ok (.invokevirtual 124, 3) := dk_182 0 124 (dk_at dksX8_after_0 15 rfl rfl)
theorem dX8_after_18 : decode cX8_after 18 = .ok (.goto 4, 3) := dk_167 0 4 (dk_at dksX8_after_0 18 rfl rfl)
theorem dX8_after_21 : decode cX8_after 21 = .ok (.iconst (-1), 1) := dk_2 (dk_at dksX8_after_0 21 rfl rfl)
theorem dX8_after_22 : decode cX8_after 22 = .ok (.ireturn, 1) := dk_172 (dk_at dksX8_after_0 22 rfl rfl)
abbrev cX8_lettersTold : ByteArray := prog_18_method_36_code
def yX8_lettersTold : MethodName := ⟨RX8, "lettersTold", "(I)I"⟩
def dkwX8_lettersTold_4 : List UInt8 := [132, 4, 1, 167, 255, 186, 29, 153, 0, 7, 28, 167, 0, 4, 2, 172]
abbrev dktX8_lettersTold_4 : List UInt8 := dkwX8_lettersTold_4 ++ []
def dkwX8_lettersTold_3 : List UInt8 := [154, 0, 7, 4, 167, 0, 4, 3, 62, 28, 29, 153, 0, 10, 4, 21, 5, 120, 167, 0, 4, 3, 128, 61]
abbrev dktX8_lettersTold_3 : List UInt8 := dkwX8_lettersTold_3 ++ dktX8_lettersTold_4
def dkwX8_lettersTold_2 : List UInt8 := [51, 16, 97, 100, 54, 5, 21, 5, 3, 27, 4, 100, 184, 0, 78, 153, 0, 16, 28, 21, 5, 184, 0, 127]
abbrev dktX8_lettersTold_2 : List UInt8 := dkwX8_lettersTold_2 ++ dktX8_lettersTold_3
def dkwX8_lettersTold_1 : List UInt8 := [180, 0, 102, 54, 4, 21, 4, 42, 180, 0, 92, 162, 0, 67, 29, 153, 0, 63, 42, 180, 0, 29, 21, 4]
abbrev dktX8_lettersTold_1 : List UInt8 := dkwX8_lettersTold_1 ++ dktX8_lettersTold_2
def dkwX8_lettersTold_0 : List UInt8 := [42, 182, 0, 117, 3, 61, 42, 180, 0, 92, 42, 180, 0, 102, 164, 0, 7, 4, 167, 0, 4, 3, 62, 42]
abbrev dktX8_lettersTold_0 : List UInt8 := dkwX8_lettersTold_0 ++ dktX8_lettersTold_1
theorem dksX8_lettersTold_0 : cX8_lettersTold.data.toList.drop 0 = dktX8_lettersTold_0 := by decide +kernel
theorem dksX8_lettersTold_1 : cX8_lettersTold.data.toList.drop 24 = dktX8_lettersTold_1 := dk_seg dksX8_lettersTold_0 24 rfl rfl
theorem dksX8_lettersTold_2 : cX8_lettersTold.data.toList.drop 48 = dktX8_lettersTold_2 := dk_seg dksX8_lettersTold_1 24 rfl rfl
theorem dksX8_lettersTold_3 : cX8_lettersTold.data.toList.drop 72 = dktX8_lettersTold_3 := dk_seg dksX8_lettersTold_2 24 rfl rfl
theorem dksX8_lettersTold_4 : cX8_lettersTold.data.toList.drop 96 = dktX8_lettersTold_4 := dk_seg dksX8_lettersTold_3 24 rfl rfl
theorem dX8_lettersTold_0 : decode cX8_lettersTold 0 = .ok (.aload_n 0, 1) := dk_42 (dk_at dksX8_lettersTold_0 0 rfl rfl)
theorem dX8_lettersTold_1 : decode cX8_lettersTold 1 = .ok (.invokevirtual 117, 3) := dk_182 0 117 (dk_at dksX8_lettersTold_0 1 rfl rfl)
theorem dX8_lettersTold_4 : decode cX8_lettersTold 4 = .ok (.iconst 0, 1) := dk_3 (dk_at dksX8_lettersTold_0 4 rfl rfl)
theorem dX8_lettersTold_5 : decode cX8_lettersTold 5 = .ok (.istore_n 2, 1) := dk_61 (dk_at dksX8_lettersTold_0 5 rfl rfl)
theorem dX8_lettersTold_6 : decode cX8_lettersTold 6 = .ok (.aload_n 0, 1) := dk_42 (dk_at dksX8_lettersTold_0 6 rfl rfl)
theorem dX8_lettersTold_7 : decode cX8_lettersTold 7 = .ok (.getfield 92, 3) := dk_180 0 92 (dk_at dksX8_lettersTold_0 7 rfl rfl)
theorem dX8_lettersTold_10 : decode cX8_lettersTold 10 = .ok (.aload_n 0, 1) := dk_42 (dk_at dksX8_lettersTold_0 10 rfl rfl)
theorem dX8_lettersTold_11 : decode cX8_lettersTold 11 = .ok (.getfield 102, 3) := dk_180 0 102 (dk_at dksX8_lettersTold_0 11 rfl rfl)
theorem dX8_lettersTold_14 : decode cX8_lettersTold 14 = .ok (.if_icmp .le 7, 3) := dk_164 0 7 (dk_at dksX8_lettersTold_0 14 rfl rfl)
theorem dX8_lettersTold_17 : decode cX8_lettersTold 17 = .ok (.iconst 1, 1) := dk_4 (dk_at dksX8_lettersTold_0 17 rfl rfl)
theorem dX8_lettersTold_18 : decode cX8_lettersTold 18 = .ok (.goto 4, 3) := dk_167 0 4 (dk_at dksX8_lettersTold_0 18 rfl rfl)
theorem dX8_lettersTold_21 : decode cX8_lettersTold 21 = .ok (.iconst 0, 1) := dk_3 (dk_at dksX8_lettersTold_0 21 rfl rfl)
theorem dX8_lettersTold_22 : decode cX8_lettersTold 22 = .ok (.istore_n 3, 1) := dk_62 (dk_at dksX8_lettersTold_0 22 rfl rfl)
theorem dX8_lettersTold_23 : decode cX8_lettersTold 23 = .ok (.aload_n 0, 1) := dk_42 (dk_at dksX8_lettersTold_0 23 rfl rfl)
theorem dX8_lettersTold_24 : decode cX8_lettersTold 24 = .ok (.getfield 102, 3) := dk_180 0 102 (dk_at dksX8_lettersTold_1 0 rfl rfl)
theorem dX8_lettersTold_27 : decode cX8_lettersTold 27 = .ok (.istore 4, 2) := dk_54 4 (dk_at dksX8_lettersTold_1 3 rfl rfl)
theorem dX8_lettersTold_29 : decode cX8_lettersTold 29 = .ok (.iload 4, 2) := dk_21 4 (dk_at dksX8_lettersTold_1 5 rfl rfl)
theorem dX8_lettersTold_31 : decode cX8_lettersTold 31 = .ok (.aload_n 0, 1) := dk_42 (dk_at dksX8_lettersTold_1 7 rfl rfl)
theorem dX8_lettersTold_32 : decode cX8_lettersTold 32 = .ok (.getfield 92, 3) := dk_180 0 92 (dk_at dksX8_lettersTold_1 8 rfl rfl)
theorem dX8_lettersTold_35 : decode cX8_lettersTold 35 = .ok (.if_icmp .ge 67, 3) := dk_162 0 67 (dk_at dksX8_lettersTold_1 11 rfl rfl)
theorem dX8_lettersTold_38 : decode cX8_lettersTold 38 = .ok (.iload_n 3, 1) := dk_29 (dk_at dksX8_lettersTold_1 14 rfl rfl)
theorem dX8_lettersTold_39 : decode cX8_lettersTold 39 = .ok (.ifCond .eq 63, 3) := dk_153 0 63 (dk_at dksX8_lettersTold_1 15 rfl rfl)
theorem dX8_lettersTold_42 : decode cX8_lettersTold 42 = .ok (.aload_n 0, 1) := dk_42 (dk_at dksX8_lettersTold_1 18 rfl rfl)
theorem dX8_lettersTold_43 : decode cX8_lettersTold 43 = .ok (.getfield 29, 3) := dk_180 0 29 (dk_at dksX8_lettersTold_1 19 rfl rfl)
theorem dX8_lettersTold_46 : decode cX8_lettersTold 46 = .ok (.iload 4, 2) := dk_21 4 (dk_at dksX8_lettersTold_1 22 rfl rfl)
theorem dX8_lettersTold_48 : decode cX8_lettersTold 48 = .ok (.baload, 1) := dk_51 (dk_at dksX8_lettersTold_2 0 rfl rfl)
theorem dX8_lettersTold_49 : decode cX8_lettersTold 49 = .ok (.bipush 97, 2) := dk_16 97 (dk_at dksX8_lettersTold_2 1 rfl rfl)
theorem dX8_lettersTold_51 : decode cX8_lettersTold 51 = .ok (.isub, 1) := dk_100 (dk_at dksX8_lettersTold_2 3 rfl rfl)
theorem dX8_lettersTold_52 : decode cX8_lettersTold 52 = .ok (.istore 5, 2) := dk_54 5 (dk_at dksX8_lettersTold_2 4 rfl rfl)
theorem dX8_lettersTold_54 : decode cX8_lettersTold 54 = .ok (.iload 5, 2) := dk_21 5 (dk_at dksX8_lettersTold_2 6 rfl rfl)
theorem dX8_lettersTold_56 : decode cX8_lettersTold 56 = .ok (.iconst 0, 1) := dk_3 (dk_at dksX8_lettersTold_2 8 rfl rfl)
theorem dX8_lettersTold_57 : decode cX8_lettersTold 57 = .ok (.iload_n 1, 1) := dk_27 (dk_at dksX8_lettersTold_2 9 rfl rfl)
theorem dX8_lettersTold_58 : decode cX8_lettersTold 58 = .ok (.iconst 1, 1) := dk_4 (dk_at dksX8_lettersTold_2 10 rfl rfl)
theorem dX8_lettersTold_59 : decode cX8_lettersTold 59 = .ok (.isub, 1) := dk_100 (dk_at dksX8_lettersTold_2 11 rfl rfl)
theorem dX8_lettersTold_60 : decode cX8_lettersTold 60 = .ok (.invokestatic 78, 3) := dk_184 0 78 (dk_at dksX8_lettersTold_2 12 rfl rfl)
theorem dX8_lettersTold_63 : decode cX8_lettersTold 63 = .ok (.ifCond .eq 16, 3) := dk_153 0 16 (dk_at dksX8_lettersTold_2 15 rfl rfl)
theorem dX8_lettersTold_66 : decode cX8_lettersTold 66 = .ok (.iload_n 2, 1) := dk_28 (dk_at dksX8_lettersTold_2 18 rfl rfl)
theorem dX8_lettersTold_67 : decode cX8_lettersTold 67 = .ok (.iload 5, 2) := dk_21 5 (dk_at dksX8_lettersTold_2 19 rfl rfl)
theorem dX8_lettersTold_69 : decode cX8_lettersTold 69 = .ok (.invokestatic 127, 3) := dk_184 0 127 (dk_at dksX8_lettersTold_2 21 rfl rfl)
theorem dX8_lettersTold_72 : decode cX8_lettersTold 72 = .ok (.ifCond .ne 7, 3) := dk_154 0 7 (dk_at dksX8_lettersTold_3 0 rfl rfl)
theorem dX8_lettersTold_75 : decode cX8_lettersTold 75 = .ok (.iconst 1, 1) := dk_4 (dk_at dksX8_lettersTold_3 3 rfl rfl)
theorem dX8_lettersTold_76 : decode cX8_lettersTold 76 = .ok (.goto 4, 3) := dk_167 0 4 (dk_at dksX8_lettersTold_3 4 rfl rfl)
theorem dX8_lettersTold_79 : decode cX8_lettersTold 79 = .ok (.iconst 0, 1) := dk_3 (dk_at dksX8_lettersTold_3 7 rfl rfl)
theorem dX8_lettersTold_80 : decode cX8_lettersTold 80 = .ok (.istore_n 3, 1) := dk_62 (dk_at dksX8_lettersTold_3 8 rfl rfl)
theorem dX8_lettersTold_81 : decode cX8_lettersTold 81 = .ok (.iload_n 2, 1) := dk_28 (dk_at dksX8_lettersTold_3 9 rfl rfl)
theorem dX8_lettersTold_82 : decode cX8_lettersTold 82 = .ok (.iload_n 3, 1) := dk_29 (dk_at dksX8_lettersTold_3 10 rfl rfl)
theorem dX8_lettersTold_83 : decode cX8_lettersTold 83 = .ok (.ifCond .eq 10, 3) := dk_153 0 10 (dk_at dksX8_lettersTold_3 11 rfl rfl)
theorem dX8_lettersTold_86 : decode cX8_lettersTold 86 = .ok (.iconst 1, 1) := dk_4 (dk_at dksX8_lettersTold_3 14 rfl rfl)
theorem dX8_lettersTold_87 : decode cX8_lettersTold 87 = .ok (.iload 5, 2) := dk_21 5 (dk_at dksX8_lettersTold_3 15 rfl rfl)
theorem dX8_lettersTold_89 : decode cX8_lettersTold 89 = .ok (.ishl, 1) := dk_120 (dk_at dksX8_lettersTold_3 17 rfl rfl)
theorem dX8_lettersTold_90 : decode cX8_lettersTold 90 = .ok (.goto 4, 3) := dk_167 0 4 (dk_at dksX8_lettersTold_3 18 rfl rfl)
theorem dX8_lettersTold_93 : decode cX8_lettersTold 93 = .ok (.iconst 0, 1) := dk_3 (dk_at dksX8_lettersTold_3 21 rfl rfl)
theorem dX8_lettersTold_94 : decode cX8_lettersTold 94 = .ok (.ior, 1) := dk_128 (dk_at dksX8_lettersTold_3 22 rfl rfl)
theorem dX8_lettersTold_95 : decode cX8_lettersTold 95 = .ok (.istore_n 2, 1) := dk_61 (dk_at dksX8_lettersTold_3 23 rfl rfl)
theorem dX8_lettersTold_96 : decode cX8_lettersTold 96 = .ok (.iinc 4 1, 3) := dk_132 4 1 (dk_at dksX8_lettersTold_4 0 rfl rfl)
theorem dX8_lettersTold_99 : decode cX8_lettersTold 99 = .ok (.goto (-70), 3) := dk_167 255 186 (dk_at dksX8_lettersTold_4 3 rfl rfl)
theorem dX8_lettersTold_102 : decode cX8_lettersTold 102 = .ok (.iload_n 3, 1) := dk_29 (dk_at dksX8_lettersTold_4 6 rfl rfl)
theorem dX8_lettersTold_103 : decode cX8_lettersTold 103 = .ok (.ifCond .eq 7, 3) := dk_153 0 7 (dk_at dksX8_lettersTold_4 7 rfl rfl)
theorem dX8_lettersTold_106 : decode cX8_lettersTold 106 = .ok (.iload_n 2, 1) := dk_28 (dk_at dksX8_lettersTold_4 10 rfl rfl)
theorem dX8_lettersTold_107 : decode cX8_lettersTold 107 = .ok (.goto 4, 3) := dk_167 0 4 (dk_at dksX8_lettersTold_4 11 rfl rfl)
theorem dX8_lettersTold_110 : decode cX8_lettersTold 110 = .ok (.iconst (-1), 1) := dk_2 (dk_at dksX8_lettersTold_4 14 rfl rfl)
theorem dX8_lettersTold_111 : decode cX8_lettersTold 111 = .ok (.ireturn, 1) := dk_172 (dk_at dksX8_lettersTold_4 15 rfl rfl)
abbrev cX8_in : ByteArray := prog_18_method_3_code
def yX8_in : MethodName := ⟨RX8, "in", "(III)Z"⟩
def dkwX8_in_0 : List UInt8 := [26, 27, 161, 0, 12, 26, 28, 163, 0, 7, 4, 167, 0, 4, 3, 172]
abbrev dktX8_in_0 : List UInt8 := dkwX8_in_0 ++ []
theorem dksX8_in_0 : cX8_in.data.toList.drop 0 = dktX8_in_0 := by decide +kernel
theorem dX8_in_0 : decode cX8_in 0 = .ok (.iload_n 0, 1) := dk_26 (dk_at dksX8_in_0 0 rfl rfl)
theorem dX8_in_1 : decode cX8_in 1 = .ok (.iload_n 1, 1) := dk_27 (dk_at dksX8_in_0 1 rfl rfl)
theorem dX8_in_2 : decode cX8_in 2 = .ok (.if_icmp .lt 12, 3) := dk_161 0 12 (dk_at dksX8_in_0 2 rfl rfl)
theorem dX8_in_5 : decode cX8_in 5 = .ok (.iload_n 0, 1) := dk_26 (dk_at dksX8_in_0 5 rfl rfl)
theorem dX8_in_6 : decode cX8_in 6 = .ok (.iload_n 2, 1) := dk_28 (dk_at dksX8_in_0 6 rfl rfl)
theorem dX8_in_7 : decode cX8_in 7 = .ok (.if_icmp .gt 7, 3) := dk_163 0 7 (dk_at dksX8_in_0 7 rfl rfl)
theorem dX8_in_10 : decode cX8_in 10 = .ok (.iconst 1, 1) := dk_4 (dk_at dksX8_in_0 10 rfl rfl)
theorem dX8_in_11 : decode cX8_in 11 = .ok (.goto 4, 3) := dk_167 0 4 (dk_at dksX8_in_0 11 rfl rfl)
theorem dX8_in_14 : decode cX8_in 14 = .ok (.iconst 0, 1) := dk_3 (dk_at dksX8_in_0 14 rfl rfl)
theorem dX8_in_15 : decode cX8_in 15 = .ok (.ireturn, 1) := dk_172 (dk_at dksX8_in_0 15 rfl rfl)
abbrev cX8_has : ByteArray := prog_18_method_4_code
def yX8_has : MethodName := ⟨RX8, "has", "(II)Z"⟩
def dkwX8_has_0 : List UInt8 := [26, 27, 122, 4, 126, 4, 160, 0, 7, 4, 167, 0, 4, 3, 172]
abbrev dktX8_has_0 : List UInt8 := dkwX8_has_0 ++ []
theorem dksX8_has_0 : cX8_has.data.toList.drop 0 = dktX8_has_0 := by decide +kernel
theorem dX8_has_0 : decode cX8_has 0 = .ok (.iload_n 0, 1) := dk_26 (dk_at dksX8_has_0 0 rfl rfl)
theorem dX8_has_1 : decode cX8_has 1 = .ok (.iload_n 1, 1) := dk_27 (dk_at dksX8_has_0 1 rfl rfl)
theorem dX8_has_2 : decode cX8_has 2 = .ok (.ishr, 1) := dk_122 (dk_at dksX8_has_0 2 rfl rfl)
theorem dX8_has_3 : decode cX8_has 3 = .ok (.iconst 1, 1) := dk_4 (dk_at dksX8_has_0 3 rfl rfl)
theorem dX8_has_4 : decode cX8_has 4 = .ok (.iand, 1) := dk_126 (dk_at dksX8_has_0 4 rfl rfl)
theorem dX8_has_5 : decode cX8_has 5 = .ok (.iconst 1, 1) := dk_4 (dk_at dksX8_has_0 5 rfl rfl)
theorem dX8_has_6 : decode cX8_has 6 = .ok (.if_icmp .ne 7, 3) := dk_160 0 7 (dk_at dksX8_has_0 6 rfl rfl)
theorem dX8_has_9 : decode cX8_has 9 = .ok (.iconst 1, 1) := dk_4 (dk_at dksX8_has_0 9 rfl rfl)
theorem dX8_has_10 : decode cX8_has 10 = .ok (.goto 4, 3) := dk_167 0 4 (dk_at dksX8_has_0 10 rfl rfl)
theorem dX8_has_13 : decode cX8_has 13 = .ok (.iconst 0, 1) := dk_3 (dk_at dksX8_has_0 13 rfl rfl)
theorem dX8_has_14 : decode cX8_has 14 = .ok (.ireturn, 1) := dk_172 (dk_at dksX8_has_0 14 rfl rfl)
abbrev cX8_stockAt : ByteArray := prog_18_method_14_code
def yX8_stockAt : MethodName := ⟨RX8, "stockAt", "(II)I"⟩
def dkwX8_stockAt_0 : List UInt8 := [16, 50, 16, 6, 26, 104, 96, 27, 96, 172]
abbrev dktX8_stockAt_0 : List UInt8 := dkwX8_stockAt_0 ++ []
theorem dksX8_stockAt_0 : cX8_stockAt.data.toList.drop 0 = dktX8_stockAt_0 := by decide +kernel
theorem dX8_stockAt_0 : decode cX8_stockAt 0 = .ok (.bipush 50, 2) := dk_16 50 (dk_at dksX8_stockAt_0 0 rfl rfl)
theorem dX8_stockAt_2 : decode cX8_stockAt 2 = .ok (.bipush 6, 2) := dk_16 6 (dk_at dksX8_stockAt_0 2 rfl rfl)
theorem dX8_stockAt_4 : decode cX8_stockAt 4 = .ok (.iload_n 0, 1) := dk_26 (dk_at dksX8_stockAt_0 4 rfl rfl)
theorem dX8_stockAt_5 : decode cX8_stockAt 5 = .ok (.imul, 1) := dk_104 (dk_at dksX8_stockAt_0 5 rfl rfl)
theorem dX8_stockAt_6 : decode cX8_stockAt 6 = .ok (.iadd, 1) := dk_96 (dk_at dksX8_stockAt_0 6 rfl rfl)
theorem dX8_stockAt_7 : decode cX8_stockAt 7 = .ok (.iload_n 1, 1) := dk_27 (dk_at dksX8_stockAt_0 7 rfl rfl)
theorem dX8_stockAt_8 : decode cX8_stockAt 8 = .ok (.iadd, 1) := dk_96 (dk_at dksX8_stockAt_0 8 rfl rfl)
theorem dX8_stockAt_9 : decode cX8_stockAt 9 = .ok (.ireturn, 1) := dk_172 (dk_at dksX8_stockAt_0 9 rfl rfl)
abbrev cX8_readCounsel : ByteArray := prog_18_method_38_code
def yX8_readCounsel : MethodName := ⟨RX8, "readCounsel", "()Z"⟩
def dkwX8_readCounsel_4 : List UInt8 := [4, 92, 46, 4, 96, 79, 4, 172]
abbrev dktX8_readCounsel_4 : List UInt8 := dkwX8_readCounsel_4 ++ []
def dkwX8_readCounsel_3 : List UInt8 := [181, 0, 92, 167, 255, 202, 28, 153, 0, 11, 28, 42, 182, 0, 74, 159, 0, 5, 3, 172, 42, 180, 0, 13]
abbrev dktX8_readCounsel_3 : List UInt8 := dkwX8_readCounsel_3 ++ dktX8_readCounsel_4
def dkwX8_readCounsel_2 : List UInt8 := [180, 0, 29, 42, 180, 0, 92, 51, 16, 48, 100, 79, 132, 2, 1, 42, 89, 180, 0, 92, 4, 96]
abbrev dktX8_readCounsel_2 : List UInt8 := dkwX8_readCounsel_2 ++ dktX8_readCounsel_3
def dkwX8_readCounsel_1 : List UInt8 := [182, 0, 98, 153, 0, 49, 28, 42, 182, 0, 74, 162, 0, 25, 42, 180, 0, 13, 27, 28, 184, 0, 67, 42]
abbrev dktX8_readCounsel_1 : List UInt8 := dkwX8_readCounsel_1 ++ dktX8_readCounsel_2
def dkwX8_readCounsel_0 : List UInt8 := [42, 182, 0, 82, 60, 27, 7, 160, 0, 5, 3, 172, 42, 182, 0, 105, 3, 61, 42, 16, 48, 16, 57]
abbrev dktX8_readCounsel_0 : List UInt8 := dkwX8_readCounsel_0 ++ dktX8_readCounsel_1
theorem dksX8_readCounsel_0 : cX8_readCounsel.data.toList.drop 0 = dktX8_readCounsel_0 := by decide +kernel
theorem dksX8_readCounsel_1 : cX8_readCounsel.data.toList.drop 23 = dktX8_readCounsel_1 := dk_seg dksX8_readCounsel_0 23 rfl rfl
theorem dksX8_readCounsel_2 : cX8_readCounsel.data.toList.drop 47 = dktX8_readCounsel_2 := dk_seg dksX8_readCounsel_1 24 rfl rfl
theorem dksX8_readCounsel_3 : cX8_readCounsel.data.toList.drop 69 = dktX8_readCounsel_3 := dk_seg dksX8_readCounsel_2 22 rfl rfl
theorem dksX8_readCounsel_4 : cX8_readCounsel.data.toList.drop 93 = dktX8_readCounsel_4 := dk_seg dksX8_readCounsel_3 24 rfl rfl
theorem dX8_readCounsel_0 : decode cX8_readCounsel 0 = .ok (.aload_n 0, 1) := dk_42 (dk_at dksX8_readCounsel_0 0 rfl rfl)
theorem dX8_readCounsel_1 : decode cX8_readCounsel 1 = .ok (.invokevirtual 82, 3) := dk_182 0 82 (dk_at dksX8_readCounsel_0 1 rfl rfl)
theorem dX8_readCounsel_4 : decode cX8_readCounsel 4 = .ok (.istore_n 1, 1) := dk_60 (dk_at dksX8_readCounsel_0 4 rfl rfl)
theorem dX8_readCounsel_5 : decode cX8_readCounsel 5 = .ok (.iload_n 1, 1) := dk_27 (dk_at dksX8_readCounsel_0 5 rfl rfl)
theorem dX8_readCounsel_6 : decode cX8_readCounsel 6 = .ok (.iconst 4, 1) := dk_7 (dk_at dksX8_readCounsel_0 6 rfl rfl)
theorem dX8_readCounsel_7 : decode cX8_readCounsel 7 = .ok (.if_icmp .ne 5, 3) := dk_160 0 5 (dk_at dksX8_readCounsel_0 7 rfl rfl)
theorem dX8_readCounsel_10 : decode cX8_readCounsel 10 = .ok (.iconst 0, 1) := dk_3 (dk_at dksX8_readCounsel_0 10 rfl rfl)
theorem dX8_readCounsel_11 : decode cX8_readCounsel 11 = .ok (.ireturn, 1) := dk_172 (dk_at dksX8_readCounsel_0 11 rfl rfl)
theorem dX8_readCounsel_12 : decode cX8_readCounsel 12 = .ok (.aload_n 0, 1) := dk_42 (dk_at dksX8_readCounsel_0 12 rfl rfl)
theorem dX8_readCounsel_13 : decode cX8_readCounsel 13 = .ok (.invokevirtual 105, 3) := dk_182 0 105 (dk_at dksX8_readCounsel_0 13 rfl rfl)
theorem dX8_readCounsel_16 : decode cX8_readCounsel 16 = .ok (.iconst 0, 1) := dk_3 (dk_at dksX8_readCounsel_0 16 rfl rfl)
theorem dX8_readCounsel_17 : decode cX8_readCounsel 17 = .ok (.istore_n 2, 1) := dk_61 (dk_at dksX8_readCounsel_0 17 rfl rfl)
theorem dX8_readCounsel_18 : decode cX8_readCounsel 18 = .ok (.aload_n 0, 1) := dk_42 (dk_at dksX8_readCounsel_0 18 rfl rfl)
theorem dX8_readCounsel_19 : decode cX8_readCounsel 19 = .ok (.bipush 48, 2) := dk_16 48 (dk_at dksX8_readCounsel_0 19 rfl rfl)
theorem dX8_readCounsel_21 : decode cX8_readCounsel 21 = .ok (.bipush 57, 2) := dk_16 57 (dk_at dksX8_readCounsel_0 21 rfl rfl)
theorem dX8_readCounsel_23 : decode cX8_readCounsel 23 = .ok (.invokevirtual 98, 3) := dk_182 0 98 (dk_at dksX8_readCounsel_1 0 rfl rfl)
theorem dX8_readCounsel_26 : decode cX8_readCounsel 26 = .ok (.ifCond .eq 49, 3) := dk_153 0 49 (dk_at dksX8_readCounsel_1 3 rfl rfl)
theorem dX8_readCounsel_29 : decode cX8_readCounsel 29 = .ok (.iload_n 2, 1) := dk_28 (dk_at dksX8_readCounsel_1 6 rfl rfl)
theorem dX8_readCounsel_30 : decode cX8_readCounsel 30 = .ok (.aload_n 0, 1) := dk_42 (dk_at dksX8_readCounsel_1 7 rfl rfl)
theorem dX8_readCounsel_31 : decode cX8_readCounsel 31 = .ok (.invokevirtual 74, 3) := dk_182 0 74 (dk_at dksX8_readCounsel_1 8 rfl rfl)
theorem dX8_readCounsel_34 : decode cX8_readCounsel 34 = .ok (.if_icmp .ge 25, 3) := dk_162 0 25 (dk_at dksX8_readCounsel_1 11 rfl rfl)
theorem dX8_readCounsel_37 : decode cX8_readCounsel 37 = .ok (.aload_n 0, 1) := dk_42 (dk_at dksX8_readCounsel_1 14 rfl rfl)
theorem dX8_readCounsel_38 : decode cX8_readCounsel 38 = .ok (.getfield 13, 3) := dk_180 0 13 (dk_at dksX8_readCounsel_1 15 rfl rfl)
theorem dX8_readCounsel_41 : decode cX8_readCounsel 41 = .ok (.iload_n 1, 1) := dk_27 (dk_at dksX8_readCounsel_1 18 rfl rfl)
theorem dX8_readCounsel_42 : decode cX8_readCounsel 42 = .ok (.iload_n 2, 1) := dk_28 (dk_at dksX8_readCounsel_1 19 rfl rfl)
theorem dX8_readCounsel_43 : decode cX8_readCounsel 43 = .ok (.invokestatic 67, 3) := dk_184 0 67 (dk_at dksX8_readCounsel_1 20 rfl rfl)
theorem dX8_readCounsel_46 : decode cX8_readCounsel 46 = .ok (.aload_n 0, 1) := dk_42 (dk_at dksX8_readCounsel_1 23 rfl rfl)
theorem dX8_readCounsel_47 : decode cX8_readCounsel 47 = .ok (.getfield 29, 3) := dk_180 0 29 (dk_at dksX8_readCounsel_2 0 rfl rfl)
theorem dX8_readCounsel_50 : decode cX8_readCounsel 50 = .ok (.aload_n 0, 1) := dk_42 (dk_at dksX8_readCounsel_2 3 rfl rfl)
theorem dX8_readCounsel_51 : decode cX8_readCounsel 51 = .ok (.getfield 92, 3) := dk_180 0 92 (dk_at dksX8_readCounsel_2 4 rfl rfl)
theorem dX8_readCounsel_54 : decode cX8_readCounsel 54 = .ok (.baload, 1) := dk_51 (dk_at dksX8_readCounsel_2 7 rfl rfl)
theorem dX8_readCounsel_55 : decode cX8_readCounsel 55 = .ok (.bipush 48, 2) := dk_16 48 (dk_at dksX8_readCounsel_2 8 rfl rfl)
theorem dX8_readCounsel_57 : decode cX8_readCounsel 57 = .ok (.isub, 1) := dk_100 (dk_at dksX8_readCounsel_2 10 rfl rfl)
theorem dX8_readCounsel_58 : decode cX8_readCounsel 58 = .ok (.iastore, 1) := dk_79 (dk_at dksX8_readCounsel_2 11 rfl rfl)
theorem dX8_readCounsel_59 : decode cX8_readCounsel 59 = .ok (.iinc 2 1, 3) := dk_132 2 1 (dk_at dksX8_readCounsel_2 12 rfl rfl)
theorem dX8_readCounsel_62 : decode cX8_readCounsel 62 = .ok (.aload_n 0, 1) := dk_42 (dk_at dksX8_readCounsel_2 15 rfl rfl)
theorem dX8_readCounsel_63 : decode cX8_readCounsel 63 = .ok (.dup, 1) := dk_89 (dk_at dksX8_readCounsel_2 16 rfl rfl)
theorem dX8_readCounsel_64 : decode cX8_readCounsel 64 = .ok (.getfield 92, 3) := dk_180 0 92 (dk_at dksX8_readCounsel_2 17 rfl rfl)
theorem dX8_readCounsel_67 : decode cX8_readCounsel 67 = .ok (.iconst 1, 1) := dk_4 (dk_at dksX8_readCounsel_2 20 rfl rfl)
theorem dX8_readCounsel_68 : decode cX8_readCounsel 68 = .ok (.iadd, 1) := dk_96 (dk_at dksX8_readCounsel_2 21 rfl rfl)
theorem dX8_readCounsel_69 : decode cX8_readCounsel 69 = .ok (.putfield 92, 3) := dk_181 0 92 (dk_at dksX8_readCounsel_3 0 rfl rfl)
theorem dX8_readCounsel_72 : decode cX8_readCounsel 72 = .ok (.goto (-54), 3) := dk_167 255 202 (dk_at dksX8_readCounsel_3 3 rfl rfl)
theorem dX8_readCounsel_75 : decode cX8_readCounsel 75 = .ok (.iload_n 2, 1) := dk_28 (dk_at dksX8_readCounsel_3 6 rfl rfl)
theorem dX8_readCounsel_76 : decode cX8_readCounsel 76 = .ok (.ifCond .eq 11, 3) := dk_153 0 11 (dk_at dksX8_readCounsel_3 7 rfl rfl)
theorem dX8_readCounsel_79 : decode cX8_readCounsel 79 = .ok (.iload_n 2, 1) := dk_28 (dk_at dksX8_readCounsel_3 10 rfl rfl)
theorem dX8_readCounsel_80 : decode cX8_readCounsel 80 = .ok (.aload_n 0, 1) := dk_42 (dk_at dksX8_readCounsel_3 11 rfl rfl)
theorem dX8_readCounsel_81 : decode cX8_readCounsel 81 = .ok (.invokevirtual 74, 3) := dk_182 0 74 (dk_at dksX8_readCounsel_3 12 rfl rfl)
theorem dX8_readCounsel_84 : decode cX8_readCounsel 84 = .ok (.if_icmp .eq 5, 3) := dk_159 0 5 (dk_at dksX8_readCounsel_3 15 rfl rfl)
theorem dX8_readCounsel_87 : decode cX8_readCounsel 87 = .ok (.iconst 0, 1) := dk_3 (dk_at dksX8_readCounsel_3 18 rfl rfl)
theorem dX8_readCounsel_88 : decode cX8_readCounsel 88 = .ok (.ireturn, 1) := dk_172 (dk_at dksX8_readCounsel_3 19 rfl rfl)
theorem dX8_readCounsel_89 : decode cX8_readCounsel 89 = .ok (.aload_n 0, 1) := dk_42 (dk_at dksX8_readCounsel_3 20 rfl rfl)
theorem dX8_readCounsel_90 : decode cX8_readCounsel 90 = .ok (.getfield 13, 3) := dk_180 0 13 (dk_at dksX8_readCounsel_3 21 rfl rfl)
theorem dX8_readCounsel_93 : decode cX8_readCounsel 93 = .ok (.iconst 1, 1) := dk_4 (dk_at dksX8_readCounsel_4 0 rfl rfl)
theorem dX8_readCounsel_94 : decode cX8_readCounsel 94 = .ok (.dup2, 1) := dk_92 (dk_at dksX8_readCounsel_4 1 rfl rfl)
theorem dX8_readCounsel_95 : decode cX8_readCounsel 95 = .ok (.iaload, 1) := dk_46 (dk_at dksX8_readCounsel_4 2 rfl rfl)
theorem dX8_readCounsel_96 : decode cX8_readCounsel 96 = .ok (.iconst 1, 1) := dk_4 (dk_at dksX8_readCounsel_4 3 rfl rfl)
theorem dX8_readCounsel_97 : decode cX8_readCounsel 97 = .ok (.iadd, 1) := dk_96 (dk_at dksX8_readCounsel_4 4 rfl rfl)
theorem dX8_readCounsel_98 : decode cX8_readCounsel 98 = .ok (.iastore, 1) := dk_79 (dk_at dksX8_readCounsel_4 5 rfl rfl)
theorem dX8_readCounsel_99 : decode cX8_readCounsel 99 = .ok (.iconst 1, 1) := dk_4 (dk_at dksX8_readCounsel_4 6 rfl rfl)
theorem dX8_readCounsel_100 : decode cX8_readCounsel 100 = .ok (.ireturn, 1) := dk_172 (dk_at dksX8_readCounsel_4 7 rfl rfl)
abbrev cX8_counsel : ByteArray := prog_18_method_11_code
def yX8_counsel : MethodName := ⟨RX8, "counsel", "()I"⟩
def dkwX8_counsel_0 : List UInt8 := [42, 180, 0, 13, 4, 46, 172]
abbrev dktX8_counsel_0 : List UInt8 := dkwX8_counsel_0 ++ []
theorem dksX8_counsel_0 : cX8_counsel.data.toList.drop 0 = dktX8_counsel_0 := by decide +kernel
theorem dX8_counsel_0 : decode cX8_counsel 0 = .ok (.aload_n 0, 1) := dk_42 (dk_at dksX8_counsel_0 0 rfl rfl)
theorem dX8_counsel_1 : decode cX8_counsel 1 = .ok (.getfield 13, 3) := dk_180 0 13 (dk_at dksX8_counsel_0 1 rfl rfl)
theorem dX8_counsel_4 : decode cX8_counsel 4 = .ok (.iconst 1, 1) := dk_4 (dk_at dksX8_counsel_0 4 rfl rfl)
theorem dX8_counsel_5 : decode cX8_counsel 5 = .ok (.iaload, 1) := dk_46 (dk_at dksX8_counsel_0 5 rfl rfl)
theorem dX8_counsel_6 : decode cX8_counsel 6 = .ok (.ireturn, 1) := dk_172 (dk_at dksX8_counsel_0 6 rfl rfl)
abbrev cX8_readCase : ByteArray := prog_18_method_39_code
def yX8_readCase : MethodName := ⟨RX8, "readCase", "()Z"⟩
def dkwX8_readCase_6 : List UInt8 := [4, 96, 79, 4, 172]
abbrev dktX8_readCase_6 : List UInt8 := dkwX8_readCase_6 ++ []
def dkwX8_readCase_5 : List UInt8 := [184, 0, 71, 21, 4, 79, 42, 180, 0, 13, 27, 6, 184, 0, 71, 3, 79, 42, 180, 0, 13, 5, 92, 46]
abbrev dktX8_readCase_5 : List UInt8 := dkwX8_readCase_5 ++ dktX8_readCase_6
def dkwX8_readCase_4 : List UInt8 := [27, 3, 184, 0, 71, 28, 79, 42, 180, 0, 13, 27, 4, 184, 0, 71, 29, 79, 42, 180, 0, 13, 27, 5]
abbrev dktX8_readCase_4 : List UInt8 := dkwX8_readCase_4 ++ dktX8_readCase_5
def dkwX8_readCase_3 : List UInt8 := [42, 182, 0, 74, 182, 0, 140, 167, 0, 4, 2, 54, 4, 21, 4, 156, 0, 5, 3, 172, 42, 180, 0, 13]
abbrev dktX8_readCase_3 : List UInt8 := dkwX8_readCase_3 ++ dktX8_readCase_4
def dkwX8_readCase_2 : List UInt8 := [155, 0, 8, 29, 28, 160, 0, 5, 3, 172, 42, 182, 0, 117, 42, 18, 146, 182, 0, 120, 153, 0, 14, 42]
abbrev dktX8_readCase_2 : List UInt8 := dkwX8_readCase_2 ++ dktX8_readCase_3
def dkwX8_readCase_1 : List UInt8 := [61, 28, 156, 0, 7, 2, 167, 0, 14, 42, 3, 42, 182, 0, 82, 4, 100, 182, 0, 124, 62, 29]
abbrev dktX8_readCase_1 : List UInt8 := dkwX8_readCase_1 ++ dktX8_readCase_2
def dkwX8_readCase_0 : List UInt8 := [42, 182, 0, 85, 60, 27, 16, 12, 160, 0, 5, 3, 172, 42, 3, 42, 182, 0, 82, 4, 100, 182, 0, 124]
abbrev dktX8_readCase_0 : List UInt8 := dkwX8_readCase_0 ++ dktX8_readCase_1
theorem dksX8_readCase_0 : cX8_readCase.data.toList.drop 0 = dktX8_readCase_0 := by decide +kernel
theorem dksX8_readCase_1 : cX8_readCase.data.toList.drop 24 = dktX8_readCase_1 := dk_seg dksX8_readCase_0 24 rfl rfl
theorem dksX8_readCase_2 : cX8_readCase.data.toList.drop 46 = dktX8_readCase_2 := dk_seg dksX8_readCase_1 22 rfl rfl
theorem dksX8_readCase_3 : cX8_readCase.data.toList.drop 70 = dktX8_readCase_3 := dk_seg dksX8_readCase_2 24 rfl rfl
theorem dksX8_readCase_4 : cX8_readCase.data.toList.drop 94 = dktX8_readCase_4 := dk_seg dksX8_readCase_3 24 rfl rfl
theorem dksX8_readCase_5 : cX8_readCase.data.toList.drop 118 = dktX8_readCase_5 := dk_seg dksX8_readCase_4 24 rfl rfl
theorem dksX8_readCase_6 : cX8_readCase.data.toList.drop 142 = dktX8_readCase_6 := dk_seg dksX8_readCase_5 24 rfl rfl
theorem dX8_readCase_0 : decode cX8_readCase 0 = .ok (.aload_n 0, 1) := dk_42 (dk_at dksX8_readCase_0 0 rfl rfl)
theorem dX8_readCase_1 : decode cX8_readCase 1 = .ok (.invokevirtual 85, 3) := dk_182 0 85 (dk_at dksX8_readCase_0 1 rfl rfl)
theorem dX8_readCase_4 : decode cX8_readCase 4 = .ok (.istore_n 1, 1) := dk_60 (dk_at dksX8_readCase_0 4 rfl rfl)
theorem dX8_readCase_5 : decode cX8_readCase 5 = .ok (.iload_n 1, 1) := dk_27 (dk_at dksX8_readCase_0 5 rfl rfl)
theorem dX8_readCase_6 : decode cX8_readCase 6 = .ok (.bipush 12, 2) := dk_16 12 (dk_at dksX8_readCase_0 6 rfl rfl)
theorem dX8_readCase_8 : decode cX8_readCase 8 = .ok (.if_icmp .ne 5, 3) := dk_160 0 5 (dk_at dksX8_readCase_0 8 rfl rfl)
theorem dX8_readCase_11 : decode cX8_readCase 11 = .ok (.iconst 0, 1) := dk_3 (dk_at dksX8_readCase_0 11 rfl rfl)
theorem dX8_readCase_12 : decode cX8_readCase 12 = .ok (.ireturn, 1) := dk_172 (dk_at dksX8_readCase_0 12 rfl rfl)
theorem dX8_readCase_13 : decode cX8_readCase 13 = .ok (.aload_n 0, 1) := dk_42 (dk_at dksX8_readCase_0 13 rfl rfl)
theorem dX8_readCase_14 : decode cX8_readCase 14 = .ok (.iconst 0, 1) := dk_3 (dk_at dksX8_readCase_0 14 rfl rfl)
theorem dX8_readCase_15 : decode cX8_readCase 15 = .ok (.aload_n 0, 1) := dk_42 (dk_at dksX8_readCase_0 15 rfl rfl)
theorem dX8_readCase_16 : decode cX8_readCase 16 = .ok (.invokevirtual 82, 3) := dk_182 0 82 (dk_at dksX8_readCase_0 16 rfl rfl)
theorem dX8_readCase_19 : decode cX8_readCase 19 = .ok (.iconst 1, 1) := dk_4 (dk_at dksX8_readCase_0 19 rfl rfl)
theorem dX8_readCase_20 : decode cX8_readCase 20 = .ok (.isub, 1) := dk_100 (dk_at dksX8_readCase_0 20 rfl rfl)
theorem dX8_readCase_21 : decode cX8_readCase 21 = .ok (.invokevirtual 124, 3) := dk_182 0 124 (dk_at dksX8_readCase_0 21 rfl rfl)
theorem dX8_readCase_24 : decode cX8_readCase 24 = .ok (.istore_n 2, 1) := dk_61 (dk_at dksX8_readCase_1 0 rfl rfl)
theorem dX8_readCase_25 : decode cX8_readCase 25 = .ok (.iload_n 2, 1) := dk_28 (dk_at dksX8_readCase_1 1 rfl rfl)
theorem dX8_readCase_26 : decode cX8_readCase 26 = .ok (.ifCond .ge 7, 3) := dk_156 0 7 (dk_at dksX8_readCase_1 2 rfl rfl)
theorem dX8_readCase_29 : decode cX8_readCase 29 = .ok (.iconst (-1), 1) := dk_2 (dk_at dksX8_readCase_1 5 rfl rfl)
theorem dX8_readCase_30 : decode cX8_readCase 30 = .ok (.goto 14, 3) := dk_167 0 14 (dk_at dksX8_readCase_1 6 rfl rfl)
theorem dX8_readCase_33 : decode cX8_readCase 33 = .ok (.aload_n 0, 1) := dk_42 (dk_at dksX8_readCase_1 9 rfl rfl)
theorem dX8_readCase_34 : decode cX8_readCase 34 = .ok (.iconst 0, 1) := dk_3 (dk_at dksX8_readCase_1 10 rfl rfl)
theorem dX8_readCase_35 : decode cX8_readCase 35 = .ok (.aload_n 0, 1) := dk_42 (dk_at dksX8_readCase_1 11 rfl rfl)
theorem dX8_readCase_36 : decode cX8_readCase 36 = .ok (.invokevirtual 82, 3) := dk_182 0 82 (dk_at dksX8_readCase_1 12 rfl rfl)
theorem dX8_readCase_39 : decode cX8_readCase 39 = .ok (.iconst 1, 1) := dk_4 (dk_at dksX8_readCase_1 15 rfl rfl)
theorem dX8_readCase_40 : decode cX8_readCase 40 = .ok (.isub, 1) := dk_100 (dk_at dksX8_readCase_1 16 rfl rfl)
theorem dX8_readCase_41 : decode cX8_readCase 41 = .ok (.invokevirtual 124, 3) := dk_182 0 124 (dk_at dksX8_readCase_1 17 rfl rfl)
theorem dX8_readCase_44 : decode cX8_readCase 44 = .ok (.istore_n 3, 1) := dk_62 (dk_at dksX8_readCase_1 20 rfl rfl)
theorem dX8_readCase_45 : decode cX8_readCase 45 = .ok (.iload_n 3, 1) := dk_29 (dk_at dksX8_readCase_1 21 rfl rfl)
theorem dX8_readCase_46 : decode cX8_readCase 46 = .ok (.ifCond .lt 8, 3) := dk_155 0 8 (dk_at dksX8_readCase_2 0 rfl rfl)
theorem dX8_readCase_49 : decode cX8_readCase 49 = .ok (.iload_n 3, 1) := dk_29 (dk_at dksX8_readCase_2 3 rfl rfl)
theorem dX8_readCase_50 : decode cX8_readCase 50 = .ok (.iload_n 2, 1) := dk_28 (dk_at dksX8_readCase_2 4 rfl rfl)
theorem dX8_readCase_51 : decode cX8_readCase 51 = .ok (.if_icmp .ne 5, 3) := dk_160 0 5 (dk_at dksX8_readCase_2 5 rfl rfl)
theorem dX8_readCase_54 : decode cX8_readCase 54 = .ok (.iconst 0, 1) := dk_3 (dk_at dksX8_readCase_2 8 rfl rfl)
theorem dX8_readCase_55 : decode cX8_readCase 55 = .ok (.ireturn, 1) := dk_172 (dk_at dksX8_readCase_2 9 rfl rfl)
theorem dX8_readCase_56 : decode cX8_readCase 56 = .ok (.aload_n 0, 1) := dk_42 (dk_at dksX8_readCase_2 10 rfl rfl)
theorem dX8_readCase_57 : decode cX8_readCase 57 = .ok (.invokevirtual 117, 3) := dk_182 0 117 (dk_at dksX8_readCase_2 11 rfl rfl)
theorem dX8_readCase_60 : decode cX8_readCase 60 = .ok (.aload_n 0, 1) := dk_42 (dk_at dksX8_readCase_2 14 rfl rfl)
theorem dX8_readCase_61 : decode cX8_readCase 61 = .ok (.ldc 146, 2) := dk_18 146 (dk_at dksX8_readCase_2 15 rfl rfl)
theorem dX8_readCase_63 : decode cX8_readCase 63 = .ok (.invokevirtual 120, 3) := dk_182 0 120 (dk_at dksX8_readCase_2 17 rfl rfl)
theorem dX8_readCase_66 : decode cX8_readCase 66 = .ok (.ifCond .eq 14, 3) := dk_153 0 14 (dk_at dksX8_readCase_2 20 rfl rfl)
theorem dX8_readCase_69 : decode cX8_readCase 69 = .ok (.aload_n 0, 1) := dk_42 (dk_at dksX8_readCase_2 23 rfl rfl)
theorem dX8_readCase_70 : decode cX8_readCase 70 = .ok (.aload_n 0, 1) := dk_42 (dk_at dksX8_readCase_3 0 rfl rfl)
theorem dX8_readCase_71 : decode cX8_readCase 71 = .ok (.invokevirtual 74, 3) := dk_182 0 74 (dk_at dksX8_readCase_3 1 rfl rfl)
theorem dX8_readCase_74 : decode cX8_readCase 74 = .ok (.invokevirtual 140, 3) := dk_182 0 140 (dk_at dksX8_readCase_3 4 rfl rfl)
theorem dX8_readCase_77 : decode cX8_readCase 77 = .ok (.goto 4, 3) := dk_167 0 4 (dk_at dksX8_readCase_3 7 rfl rfl)
theorem dX8_readCase_80 : decode cX8_readCase 80 = .ok (.iconst (-1), 1) := dk_2 (dk_at dksX8_readCase_3 10 rfl rfl)
theorem dX8_readCase_81 : decode cX8_readCase 81 = .ok (.istore 4, 2) := dk_54 4 (dk_at dksX8_readCase_3 11 rfl rfl)
theorem dX8_readCase_83 : decode cX8_readCase 83 = .ok (.iload 4, 2) := dk_21 4 (dk_at dksX8_readCase_3 13 rfl rfl)
theorem dX8_readCase_85 : decode cX8_readCase 85 = .ok (.ifCond .ge 5, 3) := dk_156 0 5 (dk_at dksX8_readCase_3 15 rfl rfl)
theorem dX8_readCase_88 : decode cX8_readCase 88 = .ok (.iconst 0, 1) := dk_3 (dk_at dksX8_readCase_3 18 rfl rfl)
theorem dX8_readCase_89 : decode cX8_readCase 89 = .ok (.ireturn, 1) := dk_172 (dk_at dksX8_readCase_3 19 rfl rfl)
theorem dX8_readCase_90 : decode cX8_readCase 90 = .ok (.aload_n 0, 1) := dk_42 (dk_at dksX8_readCase_3 20 rfl rfl)
theorem dX8_readCase_91 : decode cX8_readCase 91 = .ok (.getfield 13, 3) := dk_180 0 13 (dk_at dksX8_readCase_3 21 rfl rfl)
theorem dX8_readCase_94 : decode cX8_readCase 94 = .ok (.iload_n 1, 1) := dk_27 (dk_at dksX8_readCase_4 0 rfl rfl)
theorem dX8_readCase_95 : decode cX8_readCase 95 = .ok (.iconst 0, 1) := dk_3 (dk_at dksX8_readCase_4 1 rfl rfl)
theorem dX8_readCase_96 : decode cX8_readCase 96 = .ok (.invokestatic 71, 3) := dk_184 0 71 (dk_at dksX8_readCase_4 2 rfl rfl)
theorem dX8_readCase_99 : decode cX8_readCase 99 = .ok (.iload_n 2, 1) := dk_28 (dk_at dksX8_readCase_4 5 rfl rfl)
theorem dX8_readCase_100 : decode cX8_readCase 100 = .ok (.iastore, 1) := dk_79 (dk_at dksX8_readCase_4 6 rfl rfl)
theorem dX8_readCase_101 : decode cX8_readCase 101 = .ok (.aload_n 0, 1) := dk_42 (dk_at dksX8_readCase_4 7 rfl rfl)
theorem dX8_readCase_102 : decode cX8_readCase 102 = .ok (.getfield 13, 3) := dk_180 0 13 (dk_at dksX8_readCase_4 8 rfl rfl)
theorem dX8_readCase_105 : decode cX8_readCase 105 = .ok (.iload_n 1, 1) := dk_27 (dk_at dksX8_readCase_4 11 rfl rfl)
theorem dX8_readCase_106 : decode cX8_readCase 106 = .ok (.iconst 1, 1) := dk_4 (dk_at dksX8_readCase_4 12 rfl rfl)
theorem dX8_readCase_107 : decode cX8_readCase 107 = .ok (.invokestatic 71, 3) := dk_184 0 71 (dk_at dksX8_readCase_4 13 rfl rfl)
theorem dX8_readCase_110 : decode cX8_readCase 110 = .ok (.iload_n 3, 1) := dk_29 (dk_at dksX8_readCase_4 16 rfl rfl)
theorem dX8_readCase_111 : decode cX8_readCase 111 = .ok (.iastore, 1) := dk_79 (dk_at dksX8_readCase_4 17 rfl rfl)
theorem dX8_readCase_112 : decode cX8_readCase 112 = .ok (.aload_n 0, 1) := dk_42 (dk_at dksX8_readCase_4 18 rfl rfl)
theorem dX8_readCase_113 : decode cX8_readCase 113 = .ok (.getfield 13, 3) := dk_180 0 13 (dk_at dksX8_readCase_4 19 rfl rfl)
theorem dX8_readCase_116 : decode cX8_readCase 116 = .ok (.iload_n 1, 1) := dk_27 (dk_at dksX8_readCase_4 22 rfl rfl)
theorem dX8_readCase_117 : decode cX8_readCase 117 = .ok (.iconst 2, 1) := dk_5 (dk_at dksX8_readCase_4 23 rfl rfl)
theorem dX8_readCase_118 : decode cX8_readCase 118 = .ok (.invokestatic 71, 3) := dk_184 0 71 (dk_at dksX8_readCase_5 0 rfl rfl)
theorem dX8_readCase_121 : decode cX8_readCase 121 = .ok (.iload 4, 2) := dk_21 4 (dk_at dksX8_readCase_5 3 rfl rfl)
theorem dX8_readCase_123 : decode cX8_readCase 123 = .ok (.iastore, 1) := dk_79 (dk_at dksX8_readCase_5 5 rfl rfl)
theorem dX8_readCase_124 : decode cX8_readCase 124 = .ok (.aload_n 0, 1) := dk_42 (dk_at dksX8_readCase_5 6 rfl rfl)
theorem dX8_readCase_125 : decode cX8_readCase 125 = .ok (.getfield 13, 3) := dk_180 0 13 (dk_at dksX8_readCase_5 7 rfl rfl)
theorem dX8_readCase_128 : decode cX8_readCase 128 = .ok (.iload_n 1, 1) := dk_27 (dk_at dksX8_readCase_5 10 rfl rfl)
theorem dX8_readCase_129 : decode cX8_readCase 129 = .ok (.iconst 3, 1) := dk_6 (dk_at dksX8_readCase_5 11 rfl rfl)
theorem dX8_readCase_130 : decode cX8_readCase 130 = .ok (.invokestatic 71, 3) := dk_184 0 71 (dk_at dksX8_readCase_5 12 rfl rfl)
theorem dX8_readCase_133 : decode cX8_readCase 133 = .ok (.iconst 0, 1) := dk_3 (dk_at dksX8_readCase_5 15 rfl rfl)
theorem dX8_readCase_134 : decode cX8_readCase 134 = .ok (.iastore, 1) := dk_79 (dk_at dksX8_readCase_5 16 rfl rfl)
theorem dX8_readCase_135 : decode cX8_readCase 135 = .ok (.aload_n 0, 1) := dk_42 (dk_at dksX8_readCase_5 17 rfl rfl)
theorem dX8_readCase_136 : decode cX8_readCase 136 = .ok (.getfield 13, 3) := dk_180 0 13 (dk_at dksX8_readCase_5 18 rfl rfl)
theorem dX8_readCase_139 : decode cX8_readCase 139 = .ok (.iconst 2, 1) := dk_5 (dk_at dksX8_readCase_5 21 rfl rfl)
theorem dX8_readCase_140 : decode cX8_readCase 140 = .ok (.dup2, 1) := dk_92 (dk_at dksX8_readCase_5 22 rfl rfl)
theorem dX8_readCase_141 : decode cX8_readCase 141 = .ok (.iaload, 1) := dk_46 (dk_at dksX8_readCase_5 23 rfl rfl)
theorem dX8_readCase_142 : decode cX8_readCase 142 = .ok (.iconst 1, 1) := dk_4 (dk_at dksX8_readCase_6 0 rfl rfl)
theorem dX8_readCase_143 : decode cX8_readCase 143 = .ok (.iadd, 1) := dk_96 (dk_at dksX8_readCase_6 1 rfl rfl)
theorem dX8_readCase_144 : decode cX8_readCase 144 = .ok (.iastore, 1) := dk_79 (dk_at dksX8_readCase_6 2 rfl rfl)
theorem dX8_readCase_145 : decode cX8_readCase 145 = .ok (.iconst 1, 1) := dk_4 (dk_at dksX8_readCase_6 3 rfl rfl)
theorem dX8_readCase_146 : decode cX8_readCase 146 = .ok (.ireturn, 1) := dk_172 (dk_at dksX8_readCase_6 4 rfl rfl)
abbrev cX8_cases : ByteArray := prog_18_method_12_code
def yX8_cases : MethodName := ⟨RX8, "cases", "()I"⟩
def dkwX8_cases_0 : List UInt8 := [42, 180, 0, 13, 5, 46, 172]
abbrev dktX8_cases_0 : List UInt8 := dkwX8_cases_0 ++ []
theorem dksX8_cases_0 : cX8_cases.data.toList.drop 0 = dktX8_cases_0 := by decide +kernel
theorem dX8_cases_0 : decode cX8_cases 0 = .ok (.aload_n 0, 1) := dk_42 (dk_at dksX8_cases_0 0 rfl rfl)
theorem dX8_cases_1 : decode cX8_cases 1 = .ok (.getfield 13, 3) := dk_180 0 13 (dk_at dksX8_cases_0 1 rfl rfl)
theorem dX8_cases_4 : decode cX8_cases 4 = .ok (.iconst 2, 1) := dk_5 (dk_at dksX8_cases_0 4 rfl rfl)
theorem dX8_cases_5 : decode cX8_cases 5 = .ok (.iaload, 1) := dk_46 (dk_at dksX8_cases_0 5 rfl rfl)
theorem dX8_cases_6 : decode cX8_cases 6 = .ok (.ireturn, 1) := dk_172 (dk_at dksX8_cases_0 6 rfl rfl)
abbrev cX8_caseAt : ByteArray := prog_18_method_16_code
def yX8_caseAt : MethodName := ⟨RX8, "caseAt", "(II)I"⟩
def dkwX8_caseAt_0 : List UInt8 := [16, 74, 7, 26, 104, 96, 27, 96, 172]
abbrev dktX8_caseAt_0 : List UInt8 := dkwX8_caseAt_0 ++ []
theorem dksX8_caseAt_0 : cX8_caseAt.data.toList.drop 0 = dktX8_caseAt_0 := by decide +kernel
theorem dX8_caseAt_0 : decode cX8_caseAt 0 = .ok (.bipush 74, 2) := dk_16 74 (dk_at dksX8_caseAt_0 0 rfl rfl)
theorem dX8_caseAt_2 : decode cX8_caseAt 2 = .ok (.iconst 4, 1) := dk_7 (dk_at dksX8_caseAt_0 2 rfl rfl)
theorem dX8_caseAt_3 : decode cX8_caseAt 3 = .ok (.iload_n 0, 1) := dk_26 (dk_at dksX8_caseAt_0 3 rfl rfl)
theorem dX8_caseAt_4 : decode cX8_caseAt 4 = .ok (.imul, 1) := dk_104 (dk_at dksX8_caseAt_0 4 rfl rfl)
theorem dX8_caseAt_5 : decode cX8_caseAt 5 = .ok (.iadd, 1) := dk_96 (dk_at dksX8_caseAt_0 5 rfl rfl)
theorem dX8_caseAt_6 : decode cX8_caseAt 6 = .ok (.iload_n 1, 1) := dk_27 (dk_at dksX8_caseAt_0 6 rfl rfl)
theorem dX8_caseAt_7 : decode cX8_caseAt 7 = .ok (.iadd, 1) := dk_96 (dk_at dksX8_caseAt_0 7 rfl rfl)
theorem dX8_caseAt_8 : decode cX8_caseAt 8 = .ok (.ireturn, 1) := dk_172 (dk_at dksX8_caseAt_0 8 rfl rfl)
abbrev cX8_readTower : ByteArray := prog_18_method_40_code
def yX8_readTower : MethodName := ⟨RX8, "readTower", "()Z"⟩
def dkwX8_readTower_2 : List UInt8 := [28, 79, 4, 172]
abbrev dktX8_readTower_2 : List UInt8 := dkwX8_readTower_2 ++ []
def dkwX8_readTower_1 : List UInt8 := [182, 0, 134, 61, 28, 156, 0, 5, 3, 172, 42, 180, 0, 13, 16, 7, 27, 79, 42, 180, 0, 13, 16, 8]
abbrev dktX8_readTower_1 : List UInt8 := dkwX8_readTower_1 ++ dktX8_readTower_2
def dkwX8_readTower_0 : List UInt8 := [42, 3, 16, 15, 182, 0, 124, 60, 27, 156, 0, 7, 2, 167, 0, 12, 42, 18, 148, 4, 16, 12]
abbrev dktX8_readTower_0 : List UInt8 := dkwX8_readTower_0 ++ dktX8_readTower_1
theorem dksX8_readTower_0 : cX8_readTower.data.toList.drop 0 = dktX8_readTower_0 := by decide +kernel
theorem dksX8_readTower_1 : cX8_readTower.data.toList.drop 22 = dktX8_readTower_1 := dk_seg dksX8_readTower_0 22 rfl rfl
theorem dksX8_readTower_2 : cX8_readTower.data.toList.drop 46 = dktX8_readTower_2 := dk_seg dksX8_readTower_1 24 rfl rfl
theorem dX8_readTower_0 : decode cX8_readTower 0 = .ok (.aload_n 0, 1) := dk_42 (dk_at dksX8_readTower_0 0 rfl rfl)
theorem dX8_readTower_1 : decode cX8_readTower 1 = .ok (.iconst 0, 1) := dk_3 (dk_at dksX8_readTower_0 1 rfl rfl)
theorem dX8_readTower_2 : decode cX8_readTower 2 = .ok (.bipush 15, 2) := dk_16 15 (dk_at dksX8_readTower_0 2 rfl rfl)
theorem dX8_readTower_4 : decode cX8_readTower 4 = .ok (.invokevirtual 124, 3) := dk_182 0 124 (dk_at dksX8_readTower_0 4 rfl rfl)
theorem dX8_readTower_7 : decode cX8_readTower 7 = .ok (.istore_n 1, 1) := dk_60 (dk_at dksX8_readTower_0 7 rfl rfl)
theorem dX8_readTower_8 : decode cX8_readTower 8 = .ok (.iload_n 1, 1) := dk_27 (dk_at dksX8_readTower_0 8 rfl rfl)
theorem dX8_readTower_9 : decode cX8_readTower 9 = .ok (.ifCond .ge 7, 3) := dk_156 0 7 (dk_at dksX8_readTower_0 9 rfl rfl)
theorem dX8_readTower_12 : decode cX8_readTower 12 = .ok (.iconst (-1), 1) := dk_2 (dk_at dksX8_readTower_0 12 rfl rfl)
theorem dX8_readTower_13 : decode cX8_readTower 13 = .ok (.goto 12, 3) := dk_167 0 12 (dk_at dksX8_readTower_0 13 rfl rfl)
theorem dX8_readTower_16 : decode cX8_readTower 16 = .ok (.aload_n 0, 1) := dk_42 (dk_at dksX8_readTower_0 16 rfl rfl)
theorem dX8_readTower_17 : decode cX8_readTower 17 = .ok (.ldc 148, 2) := dk_18 148 (dk_at dksX8_readTower_0 17 rfl rfl)
theorem dX8_readTower_19 : decode cX8_readTower 19 = .ok (.iconst 1, 1) := dk_4 (dk_at dksX8_readTower_0 19 rfl rfl)
theorem dX8_readTower_20 : decode cX8_readTower 20 = .ok (.bipush 12, 2) := dk_16 12 (dk_at dksX8_readTower_0 20 rfl rfl)
theorem dX8_readTower_22 : decode cX8_readTower 22 = .ok (.invokevirtual 134, 3) := dk_182 0 134 (dk_at dksX8_readTower_1 0 rfl rfl)
theorem dX8_readTower_25 : decode cX8_readTower 25 = .ok (.istore_n 2, 1) := dk_61 (dk_at dksX8_readTower_1 3 rfl rfl)
theorem dX8_readTower_26 : decode cX8_readTower 26 = .ok (.iload_n 2, 1) := dk_28 (dk_at dksX8_readTower_1 4 rfl rfl)
theorem dX8_readTower_27 : decode cX8_readTower 27 = .ok (.ifCond .ge 5, 3) := dk_156 0 5 (dk_at dksX8_readTower_1 5 rfl rfl)
theorem dX8_readTower_30 : decode cX8_readTower 30 = .ok (.iconst 0, 1) := dk_3 (dk_at dksX8_readTower_1 8 rfl rfl)
theorem dX8_readTower_31 : decode cX8_readTower 31 = .ok (.ireturn, 1) := dk_172 (dk_at dksX8_readTower_1 9 rfl rfl)
theorem dX8_readTower_32 : decode cX8_readTower 32 = .ok (.aload_n 0, 1) := dk_42 (dk_at dksX8_readTower_1 10 rfl rfl)
theorem dX8_readTower_33 : decode cX8_readTower 33 = .ok (.getfield 13, 3) := dk_180 0 13 (dk_at dksX8_readTower_1 11 rfl rfl)
theorem dX8_readTower_36 : decode cX8_readTower 36 = .ok (.bipush 7, 2) := dk_16 7 (dk_at dksX8_readTower_1 14 rfl rfl)
theorem dX8_readTower_38 : decode cX8_readTower 38 = .ok (.iload_n 1, 1) := dk_27 (dk_at dksX8_readTower_1 16 rfl rfl)
theorem dX8_readTower_39 : decode cX8_readTower 39 = .ok (.iastore, 1) := dk_79 (dk_at dksX8_readTower_1 17 rfl rfl)
theorem dX8_readTower_40 : decode cX8_readTower 40 = .ok (.aload_n 0, 1) := dk_42 (dk_at dksX8_readTower_1 18 rfl rfl)
theorem dX8_readTower_41 : decode cX8_readTower 41 = .ok (.getfield 13, 3) := dk_180 0 13 (dk_at dksX8_readTower_1 19 rfl rfl)
theorem dX8_readTower_44 : decode cX8_readTower 44 = .ok (.bipush 8, 2) := dk_16 8 (dk_at dksX8_readTower_1 22 rfl rfl)
theorem dX8_readTower_46 : decode cX8_readTower 46 = .ok (.iload_n 2, 1) := dk_28 (dk_at dksX8_readTower_2 0 rfl rfl)
theorem dX8_readTower_47 : decode cX8_readTower 47 = .ok (.iastore, 1) := dk_79 (dk_at dksX8_readTower_2 1 rfl rfl)
theorem dX8_readTower_48 : decode cX8_readTower 48 = .ok (.iconst 1, 1) := dk_4 (dk_at dksX8_readTower_2 2 rfl rfl)
theorem dX8_readTower_49 : decode cX8_readTower 49 = .ok (.ireturn, 1) := dk_172 (dk_at dksX8_readTower_2 3 rfl rfl)
abbrev cX8_readYard : ByteArray := prog_18_method_41_code
def yX8_readYard : MethodName := ⟨RX8, "readYard", "()Z"⟩
def dkwX8_readYard_2 : List UInt8 := [28, 79, 4, 172]
abbrev dktX8_readYard_2 : List UInt8 := dkwX8_readYard_2 ++ []
def dkwX8_readYard_1 : List UInt8 := [182, 0, 134, 61, 28, 156, 0, 5, 3, 172, 42, 180, 0, 13, 16, 9, 27, 79, 42, 180, 0, 13, 16, 10]
abbrev dktX8_readYard_1 : List UInt8 := dkwX8_readYard_1 ++ dktX8_readYard_2
def dkwX8_readYard_0 : List UInt8 := [42, 3, 16, 15, 182, 0, 124, 60, 27, 156, 0, 7, 2, 167, 0, 12, 42, 18, 150, 27, 16, 15]
abbrev dktX8_readYard_0 : List UInt8 := dkwX8_readYard_0 ++ dktX8_readYard_1
theorem dksX8_readYard_0 : cX8_readYard.data.toList.drop 0 = dktX8_readYard_0 := by decide +kernel
theorem dksX8_readYard_1 : cX8_readYard.data.toList.drop 22 = dktX8_readYard_1 := dk_seg dksX8_readYard_0 22 rfl rfl
theorem dksX8_readYard_2 : cX8_readYard.data.toList.drop 46 = dktX8_readYard_2 := dk_seg dksX8_readYard_1 24 rfl rfl
theorem dX8_readYard_0 : decode cX8_readYard 0 = .ok (.aload_n 0, 1) := dk_42 (dk_at dksX8_readYard_0 0 rfl rfl)
theorem dX8_readYard_1 : decode cX8_readYard 1 = .ok (.iconst 0, 1) := dk_3 (dk_at dksX8_readYard_0 1 rfl rfl)
theorem dX8_readYard_2 : decode cX8_readYard 2 = .ok (.bipush 15, 2) := dk_16 15 (dk_at dksX8_readYard_0 2 rfl rfl)
theorem dX8_readYard_4 : decode cX8_readYard 4 = .ok (.invokevirtual 124, 3) := dk_182 0 124 (dk_at dksX8_readYard_0 4 rfl rfl)
theorem dX8_readYard_7 : decode cX8_readYard 7 = .ok (.istore_n 1, 1) := dk_60 (dk_at dksX8_readYard_0 7 rfl rfl)
theorem dX8_readYard_8 : decode cX8_readYard 8 = .ok (.iload_n 1, 1) := dk_27 (dk_at dksX8_readYard_0 8 rfl rfl)
theorem dX8_readYard_9 : decode cX8_readYard 9 = .ok (.ifCond .ge 7, 3) := dk_156 0 7 (dk_at dksX8_readYard_0 9 rfl rfl)
theorem dX8_readYard_12 : decode cX8_readYard 12 = .ok (.iconst (-1), 1) := dk_2 (dk_at dksX8_readYard_0 12 rfl rfl)
theorem dX8_readYard_13 : decode cX8_readYard 13 = .ok (.goto 12, 3) := dk_167 0 12 (dk_at dksX8_readYard_0 13 rfl rfl)
theorem dX8_readYard_16 : decode cX8_readYard 16 = .ok (.aload_n 0, 1) := dk_42 (dk_at dksX8_readYard_0 16 rfl rfl)
theorem dX8_readYard_17 : decode cX8_readYard 17 = .ok (.ldc 150, 2) := dk_18 150 (dk_at dksX8_readYard_0 17 rfl rfl)
theorem dX8_readYard_19 : decode cX8_readYard 19 = .ok (.iload_n 1, 1) := dk_27 (dk_at dksX8_readYard_0 19 rfl rfl)
theorem dX8_readYard_20 : decode cX8_readYard 20 = .ok (.bipush 15, 2) := dk_16 15 (dk_at dksX8_readYard_0 20 rfl rfl)
theorem dX8_readYard_22 : decode cX8_readYard 22 = .ok (.invokevirtual 134, 3) := dk_182 0 134 (dk_at dksX8_readYard_1 0 rfl rfl)
theorem dX8_readYard_25 : decode cX8_readYard 25 = .ok (.istore_n 2, 1) := dk_61 (dk_at dksX8_readYard_1 3 rfl rfl)
theorem dX8_readYard_26 : decode cX8_readYard 26 = .ok (.iload_n 2, 1) := dk_28 (dk_at dksX8_readYard_1 4 rfl rfl)
theorem dX8_readYard_27 : decode cX8_readYard 27 = .ok (.ifCond .ge 5, 3) := dk_156 0 5 (dk_at dksX8_readYard_1 5 rfl rfl)
theorem dX8_readYard_30 : decode cX8_readYard 30 = .ok (.iconst 0, 1) := dk_3 (dk_at dksX8_readYard_1 8 rfl rfl)
theorem dX8_readYard_31 : decode cX8_readYard 31 = .ok (.ireturn, 1) := dk_172 (dk_at dksX8_readYard_1 9 rfl rfl)
theorem dX8_readYard_32 : decode cX8_readYard 32 = .ok (.aload_n 0, 1) := dk_42 (dk_at dksX8_readYard_1 10 rfl rfl)
theorem dX8_readYard_33 : decode cX8_readYard 33 = .ok (.getfield 13, 3) := dk_180 0 13 (dk_at dksX8_readYard_1 11 rfl rfl)
theorem dX8_readYard_36 : decode cX8_readYard 36 = .ok (.bipush 9, 2) := dk_16 9 (dk_at dksX8_readYard_1 14 rfl rfl)
theorem dX8_readYard_38 : decode cX8_readYard 38 = .ok (.iload_n 1, 1) := dk_27 (dk_at dksX8_readYard_1 16 rfl rfl)
theorem dX8_readYard_39 : decode cX8_readYard 39 = .ok (.iastore, 1) := dk_79 (dk_at dksX8_readYard_1 17 rfl rfl)
theorem dX8_readYard_40 : decode cX8_readYard 40 = .ok (.aload_n 0, 1) := dk_42 (dk_at dksX8_readYard_1 18 rfl rfl)
theorem dX8_readYard_41 : decode cX8_readYard 41 = .ok (.getfield 13, 3) := dk_180 0 13 (dk_at dksX8_readYard_1 19 rfl rfl)
theorem dX8_readYard_44 : decode cX8_readYard 44 = .ok (.bipush 10, 2) := dk_16 10 (dk_at dksX8_readYard_1 22 rfl rfl)
theorem dX8_readYard_46 : decode cX8_readYard 46 = .ok (.iload_n 2, 1) := dk_28 (dk_at dksX8_readYard_2 0 rfl rfl)
theorem dX8_readYard_47 : decode cX8_readYard 47 = .ok (.iastore, 1) := dk_79 (dk_at dksX8_readYard_2 1 rfl rfl)
theorem dX8_readYard_48 : decode cX8_readYard 48 = .ok (.iconst 1, 1) := dk_4 (dk_at dksX8_readYard_2 2 rfl rfl)
theorem dX8_readYard_49 : decode cX8_readYard 49 = .ok (.ireturn, 1) := dk_172 (dk_at dksX8_readYard_2 3 rfl rfl)
abbrev cX8_readWind : ByteArray := prog_18_method_42_code
def yX8_readWind : MethodName := ⟨RX8, "readWind", "()Z"⟩
def dkwX8_readWind_3 : List UInt8 := [29, 79, 4, 172]
abbrev dktX8_readWind_3 : List UInt8 := dkwX8_readWind_3 ++ []
def dkwX8_readWind_2 : List UInt8 := [62, 29, 156, 0, 5, 3, 172, 42, 180, 0, 13, 16, 13, 27, 96, 28, 153, 0, 8, 29, 116, 167, 0, 4]
abbrev dktX8_readWind_2 : List UInt8 := dkwX8_readWind_2 ++ dktX8_readWind_3
def dkwX8_readWind_1 : List UInt8 := [61, 28, 154, 0, 12, 42, 18, 154, 182, 0, 120, 153, 0, 12, 42, 3, 6, 182, 0, 124, 167, 0, 4, 2]
abbrev dktX8_readWind_1 : List UInt8 := dkwX8_readWind_1 ++ dktX8_readWind_2
def dkwX8_readWind_0 : List UInt8 := [42, 3, 16, 12, 182, 0, 124, 60, 27, 156, 0, 5, 3, 172, 42, 182, 0, 117, 42, 18, 152, 182, 0, 120]
abbrev dktX8_readWind_0 : List UInt8 := dkwX8_readWind_0 ++ dktX8_readWind_1
theorem dksX8_readWind_0 : cX8_readWind.data.toList.drop 0 = dktX8_readWind_0 := by decide +kernel
theorem dksX8_readWind_1 : cX8_readWind.data.toList.drop 24 = dktX8_readWind_1 := dk_seg dksX8_readWind_0 24 rfl rfl
theorem dksX8_readWind_2 : cX8_readWind.data.toList.drop 48 = dktX8_readWind_2 := dk_seg dksX8_readWind_1 24 rfl rfl
theorem dksX8_readWind_3 : cX8_readWind.data.toList.drop 72 = dktX8_readWind_3 := dk_seg dksX8_readWind_2 24 rfl rfl
theorem dX8_readWind_0 : decode cX8_readWind 0 = .ok (.aload_n 0, 1) := dk_42 (dk_at dksX8_readWind_0 0 rfl rfl)
theorem dX8_readWind_1 : decode cX8_readWind 1 = .ok (.iconst 0, 1) := dk_3 (dk_at dksX8_readWind_0 1 rfl rfl)
theorem dX8_readWind_2 : decode cX8_readWind 2 = .ok (.bipush 12, 2) := dk_16 12 (dk_at dksX8_readWind_0 2 rfl rfl)
theorem dX8_readWind_4 : decode cX8_readWind 4 = .ok (.invokevirtual 124, 3) := dk_182 0 124 (dk_at dksX8_readWind_0 4 rfl rfl)
theorem dX8_readWind_7 : decode cX8_readWind 7 = .ok (.istore_n 1, 1) := dk_60 (dk_at dksX8_readWind_0 7 rfl rfl)
theorem dX8_readWind_8 : decode cX8_readWind 8 = .ok (.iload_n 1, 1) := dk_27 (dk_at dksX8_readWind_0 8 rfl rfl)
theorem dX8_readWind_9 : decode cX8_readWind 9 = .ok (.ifCond .ge 5, 3) := dk_156 0 5 (dk_at dksX8_readWind_0 9 rfl rfl)
theorem dX8_readWind_12 : decode cX8_readWind 12 = .ok (.iconst 0, 1) := dk_3 (dk_at dksX8_readWind_0 12 rfl rfl)
theorem dX8_readWind_13 : decode cX8_readWind 13 = .ok (.ireturn, 1) := dk_172 (dk_at dksX8_readWind_0 13 rfl rfl)
theorem dX8_readWind_14 : decode cX8_readWind 14 = .ok (.aload_n 0, 1) := dk_42 (dk_at dksX8_readWind_0 14 rfl rfl)
theorem dX8_readWind_15 : decode cX8_readWind 15 = .ok (.invokevirtual 117, 3) := dk_182 0 117 (dk_at dksX8_readWind_0 15 rfl rfl)
theorem dX8_readWind_18 : decode cX8_readWind 18 = .ok (.aload_n 0, 1) := dk_42 (dk_at dksX8_readWind_0 18 rfl rfl)
theorem dX8_readWind_19 : decode cX8_readWind 19 = .ok (.ldc 152, 2) := dk_18 152 (dk_at dksX8_readWind_0 19 rfl rfl)
theorem dX8_readWind_21 : decode cX8_readWind 21 = .ok (.invokevirtual 120, 3) := dk_182 0 120 (dk_at dksX8_readWind_0 21 rfl rfl)
theorem dX8_readWind_24 : decode cX8_readWind 24 = .ok (.istore_n 2, 1) := dk_61 (dk_at dksX8_readWind_1 0 rfl rfl)
theorem dX8_readWind_25 : decode cX8_readWind 25 = .ok (.iload_n 2, 1) := dk_28 (dk_at dksX8_readWind_1 1 rfl rfl)
theorem dX8_readWind_26 : decode cX8_readWind 26 = .ok (.ifCond .ne 12, 3) := dk_154 0 12 (dk_at dksX8_readWind_1 2 rfl rfl)
theorem dX8_readWind_29 : decode cX8_readWind 29 = .ok (.aload_n 0, 1) := dk_42 (dk_at dksX8_readWind_1 5 rfl rfl)
theorem dX8_readWind_30 : decode cX8_readWind 30 = .ok (.ldc 154, 2) := dk_18 154 (dk_at dksX8_readWind_1 6 rfl rfl)
theorem dX8_readWind_32 : decode cX8_readWind 32 = .ok (.invokevirtual 120, 3) := dk_182 0 120 (dk_at dksX8_readWind_1 8 rfl rfl)
theorem dX8_readWind_35 : decode cX8_readWind 35 = .ok (.ifCond .eq 12, 3) := dk_153 0 12 (dk_at dksX8_readWind_1 11 rfl rfl)
theorem dX8_readWind_38 : decode cX8_readWind 38 = .ok (.aload_n 0, 1) := dk_42 (dk_at dksX8_readWind_1 14 rfl rfl)
theorem dX8_readWind_39 : decode cX8_readWind 39 = .ok (.iconst 0, 1) := dk_3 (dk_at dksX8_readWind_1 15 rfl rfl)
theorem dX8_readWind_40 : decode cX8_readWind 40 = .ok (.iconst 3, 1) := dk_6 (dk_at dksX8_readWind_1 16 rfl rfl)
theorem dX8_readWind_41 : decode cX8_readWind 41 = .ok (.invokevirtual 124, 3) := dk_182 0 124 (dk_at dksX8_readWind_1 17 rfl rfl)
theorem dX8_readWind_44 : decode cX8_readWind 44 = .ok (.goto 4, 3) := dk_167 0 4 (dk_at dksX8_readWind_1 20 rfl rfl)
theorem dX8_readWind_47 : decode cX8_readWind 47 = .ok (.iconst (-1), 1) := dk_2 (dk_at dksX8_readWind_1 23 rfl rfl)
theorem dX8_readWind_48 : decode cX8_readWind 48 = .ok (.istore_n 3, 1) := dk_62 (dk_at dksX8_readWind_2 0 rfl rfl)
theorem dX8_readWind_49 : decode cX8_readWind 49 = .ok (.iload_n 3, 1) := dk_29 (dk_at dksX8_readWind_2 1 rfl rfl)
theorem dX8_readWind_50 : decode cX8_readWind 50 = .ok (.ifCond .ge 5, 3) := dk_156 0 5 (dk_at dksX8_readWind_2 2 rfl rfl)
theorem dX8_readWind_53 : decode cX8_readWind 53 = .ok (.iconst 0, 1) := dk_3 (dk_at dksX8_readWind_2 5 rfl rfl)
theorem dX8_readWind_54 : decode cX8_readWind 54 = .ok (.ireturn, 1) := dk_172 (dk_at dksX8_readWind_2 6 rfl rfl)
theorem dX8_readWind_55 : decode cX8_readWind 55 = .ok (.aload_n 0, 1) := dk_42 (dk_at dksX8_readWind_2 7 rfl rfl)
theorem dX8_readWind_56 : decode cX8_readWind 56 = .ok (.getfield 13, 3) := dk_180 0 13 (dk_at dksX8_readWind_2 8 rfl rfl)
theorem dX8_readWind_59 : decode cX8_readWind 59 = .ok (.bipush 13, 2) := dk_16 13 (dk_at dksX8_readWind_2 11 rfl rfl)
theorem dX8_readWind_61 : decode cX8_readWind 61 = .ok (.iload_n 1, 1) := dk_27 (dk_at dksX8_readWind_2 13 rfl rfl)
theorem dX8_readWind_62 : decode cX8_readWind 62 = .ok (.iadd, 1) := dk_96 (dk_at dksX8_readWind_2 14 rfl rfl)
theorem dX8_readWind_63 : decode cX8_readWind 63 = .ok (.iload_n 2, 1) := dk_28 (dk_at dksX8_readWind_2 15 rfl rfl)
theorem dX8_readWind_64 : decode cX8_readWind 64 = .ok (.ifCond .eq 8, 3) := dk_153 0 8 (dk_at dksX8_readWind_2 16 rfl rfl)
theorem dX8_readWind_67 : decode cX8_readWind 67 = .ok (.iload_n 3, 1) := dk_29 (dk_at dksX8_readWind_2 19 rfl rfl)
theorem dX8_readWind_68 : decode cX8_readWind 68 = .ok (.ineg, 1) := dk_116 (dk_at dksX8_readWind_2 20 rfl rfl)
theorem dX8_readWind_69 : decode cX8_readWind 69 = .ok (.goto 4, 3) := dk_167 0 4 (dk_at dksX8_readWind_2 21 rfl rfl)
theorem dX8_readWind_72 : decode cX8_readWind 72 = .ok (.iload_n 3, 1) := dk_29 (dk_at dksX8_readWind_3 0 rfl rfl)
theorem dX8_readWind_73 : decode cX8_readWind 73 = .ok (.iastore, 1) := dk_79 (dk_at dksX8_readWind_3 1 rfl rfl)
theorem dX8_readWind_74 : decode cX8_readWind 74 = .ok (.iconst 1, 1) := dk_4 (dk_at dksX8_readWind_3 2 rfl rfl)
theorem dX8_readWind_75 : decode cX8_readWind 75 = .ok (.ireturn, 1) := dk_172 (dk_at dksX8_readWind_3 3 rfl rfl)
abbrev cX8_readHour : ByteArray := prog_18_method_43_code
def yX8_readHour : MethodName := ⟨RX8, "readHour", "()Z"⟩
def dkwX8_readHour_1 : List UInt8 := [4, 167, 0, 4, 3, 172]
abbrev dktX8_readHour_1 : List UInt8 := dkwX8_readHour_1 ++ []
def dkwX8_readHour_0 : List UInt8 := [42, 3, 16, 23, 182, 0, 124, 60, 27, 155, 0, 11, 42, 180, 0, 13, 16, 6, 27, 79, 27, 155, 0, 7]
abbrev dktX8_readHour_0 : List UInt8 := dkwX8_readHour_0 ++ dktX8_readHour_1
theorem dksX8_readHour_0 : cX8_readHour.data.toList.drop 0 = dktX8_readHour_0 := by decide +kernel
theorem dksX8_readHour_1 : cX8_readHour.data.toList.drop 24 = dktX8_readHour_1 := dk_seg dksX8_readHour_0 24 rfl rfl
theorem dX8_readHour_0 : decode cX8_readHour 0 = .ok (.aload_n 0, 1) := dk_42 (dk_at dksX8_readHour_0 0 rfl rfl)
theorem dX8_readHour_1 : decode cX8_readHour 1 = .ok (.iconst 0, 1) := dk_3 (dk_at dksX8_readHour_0 1 rfl rfl)
theorem dX8_readHour_2 : decode cX8_readHour 2 = .ok (.bipush 23, 2) := dk_16 23 (dk_at dksX8_readHour_0 2 rfl rfl)
theorem dX8_readHour_4 : decode cX8_readHour 4 = .ok (.invokevirtual 124, 3) := dk_182 0 124 (dk_at dksX8_readHour_0 4 rfl rfl)
theorem dX8_readHour_7 : decode cX8_readHour 7 = .ok (.istore_n 1, 1) := dk_60 (dk_at dksX8_readHour_0 7 rfl rfl)
theorem dX8_readHour_8 : decode cX8_readHour 8 = .ok (.iload_n 1, 1) := dk_27 (dk_at dksX8_readHour_0 8 rfl rfl)
theorem dX8_readHour_9 : decode cX8_readHour 9 = .ok (.ifCond .lt 11, 3) := dk_155 0 11 (dk_at dksX8_readHour_0 9 rfl rfl)
theorem dX8_readHour_12 : decode cX8_readHour 12 = .ok (.aload_n 0, 1) := dk_42 (dk_at dksX8_readHour_0 12 rfl rfl)
theorem dX8_readHour_13 : decode cX8_readHour 13 = .ok (.getfield 13, 3) := dk_180 0 13 (dk_at dksX8_readHour_0 13 rfl rfl)
theorem dX8_readHour_16 : decode cX8_readHour 16 = .ok (.bipush 6, 2) := dk_16 6 (dk_at dksX8_readHour_0 16 rfl rfl)
theorem dX8_readHour_18 : decode cX8_readHour 18 = .ok (.iload_n 1, 1) := dk_27 (dk_at dksX8_readHour_0 18 rfl rfl)
theorem dX8_readHour_19 : decode cX8_readHour 19 = .ok (.iastore, 1) := dk_79 (dk_at dksX8_readHour_0 19 rfl rfl)
theorem dX8_readHour_20 : decode cX8_readHour 20 = .ok (.iload_n 1, 1) := dk_27 (dk_at dksX8_readHour_0 20 rfl rfl)
theorem dX8_readHour_21 : decode cX8_readHour 21 = .ok (.ifCond .lt 7, 3) := dk_155 0 7 (dk_at dksX8_readHour_0 21 rfl rfl)
theorem dX8_readHour_24 : decode cX8_readHour 24 = .ok (.iconst 1, 1) := dk_4 (dk_at dksX8_readHour_1 0 rfl rfl)
theorem dX8_readHour_25 : decode cX8_readHour 25 = .ok (.goto 4, 3) := dk_167 0 4 (dk_at dksX8_readHour_1 1 rfl rfl)
theorem dX8_readHour_28 : decode cX8_readHour 28 = .ok (.iconst 0, 1) := dk_3 (dk_at dksX8_readHour_1 4 rfl rfl)
theorem dX8_readHour_29 : decode cX8_readHour 29 = .ok (.ireturn, 1) := dk_172 (dk_at dksX8_readHour_1 5 rfl rfl)
abbrev cX8_readLawLine : ByteArray := prog_18_method_52_code
def yX8_readLawLine : MethodName := ⟨RX8, "readLawLine", "(I)Z"⟩
def dkwX8_readLawLine_6 : List UInt8 := [154, 0, 5, 3, 172, 42, 180, 0, 13, 28, 6, 96, 42, 180, 0, 191, 79, 4, 172]
abbrev dktX8_readLawLine_6 : List UInt8 := dkwX8_readLawLine_6 ++ []
def dkwX8_readLawLine_5 : List UInt8 := [180, 0, 191, 79, 42, 3, 181, 0, 215, 42, 18, 246, 182, 0, 223, 153, 0, 12, 42, 182, 0, 218]
abbrev dktX8_readLawLine_5 : List UInt8 := dkwX8_readLawLine_5 ++ dktX8_readLawLine_6
def dkwX8_readLawLine_4 : List UInt8 := [79, 42, 180, 0, 13, 28, 4, 96, 46, 156, 0, 5, 3, 172, 42, 180, 0, 13, 28, 5, 96, 42]
abbrev dktX8_readLawLine_4 : List UInt8 := dkwX8_readLawLine_4 ++ dktX8_readLawLine_5
def dkwX8_readLawLine_3 : List UInt8 := [180, 0, 13, 28, 46, 156, 0, 5, 3, 172, 42, 180, 0, 13, 28, 4, 96, 42, 3, 16, 9, 182, 0, 124]
abbrev dktX8_readLawLine_3 : List UInt8 := dkwX8_readLawLine_3 ++ dktX8_readLawLine_4
def dkwX8_readLawLine_2 : List UInt8 := [153, 0, 7, 5, 167, 0, 17, 42, 18, 152, 182, 0, 120, 153, 0, 7, 6, 167, 0, 4, 2, 79, 42]
abbrev dktX8_readLawLine_2 : List UInt8 := dkwX8_readLawLine_2 ++ dktX8_readLawLine_3
def dkwX8_readLawLine_1 : List UInt8 := [167, 0, 43, 42, 18, 244, 182, 0, 120, 153, 0, 7, 4, 167, 0, 30, 42, 18, 154, 182, 0, 120]
abbrev dktX8_readLawLine_1 : List UInt8 := dkwX8_readLawLine_1 ++ dktX8_readLawLine_2
def dkwX8_readLawLine_0 : List UInt8 := [17, 5, 52, 7, 27, 104, 96, 61, 42, 180, 0, 13, 28, 42, 18, 242, 182, 0, 120, 153, 0, 7, 3]
abbrev dktX8_readLawLine_0 : List UInt8 := dkwX8_readLawLine_0 ++ dktX8_readLawLine_1
theorem dksX8_readLawLine_0 : cX8_readLawLine.data.toList.drop 0 = dktX8_readLawLine_0 := by decide +kernel
theorem dksX8_readLawLine_1 : cX8_readLawLine.data.toList.drop 23 = dktX8_readLawLine_1 := dk_seg dksX8_readLawLine_0 23 rfl rfl
theorem dksX8_readLawLine_2 : cX8_readLawLine.data.toList.drop 45 = dktX8_readLawLine_2 := dk_seg dksX8_readLawLine_1 22 rfl rfl
theorem dksX8_readLawLine_3 : cX8_readLawLine.data.toList.drop 68 = dktX8_readLawLine_3 := dk_seg dksX8_readLawLine_2 23 rfl rfl
theorem dksX8_readLawLine_4 : cX8_readLawLine.data.toList.drop 92 = dktX8_readLawLine_4 := dk_seg dksX8_readLawLine_3 24 rfl rfl
theorem dksX8_readLawLine_5 : cX8_readLawLine.data.toList.drop 114 = dktX8_readLawLine_5 := dk_seg dksX8_readLawLine_4 22 rfl rfl
theorem dksX8_readLawLine_6 : cX8_readLawLine.data.toList.drop 136 = dktX8_readLawLine_6 := dk_seg dksX8_readLawLine_5 22 rfl rfl
theorem dX8_readLawLine_0 : decode cX8_readLawLine 0 = .ok (.sipush 1332, 3) := dk_17 5 52 (dk_at dksX8_readLawLine_0 0 rfl rfl)
theorem dX8_readLawLine_3 : decode cX8_readLawLine 3 = .ok (.iconst 4, 1) := dk_7 (dk_at dksX8_readLawLine_0 3 rfl rfl)
theorem dX8_readLawLine_4 : decode cX8_readLawLine 4 = .ok (.iload_n 1, 1) := dk_27 (dk_at dksX8_readLawLine_0 4 rfl rfl)
theorem dX8_readLawLine_5 : decode cX8_readLawLine 5 = .ok (.imul, 1) := dk_104 (dk_at dksX8_readLawLine_0 5 rfl rfl)
theorem dX8_readLawLine_6 : decode cX8_readLawLine 6 = .ok (.iadd, 1) := dk_96 (dk_at dksX8_readLawLine_0 6 rfl rfl)
theorem dX8_readLawLine_7 : decode cX8_readLawLine 7 = .ok (.istore_n 2, 1) := dk_61 (dk_at dksX8_readLawLine_0 7 rfl rfl)
theorem dX8_readLawLine_8 : decode cX8_readLawLine 8 = .ok (.aload_n 0, 1) := dk_42 (dk_at dksX8_readLawLine_0 8 rfl rfl)
theorem dX8_readLawLine_9 : decode cX8_readLawLine 9 = .ok (.getfield 13, 3) := dk_180 0 13 (dk_at dksX8_readLawLine_0 9 rfl rfl)
theorem dX8_readLawLine_12 : decode cX8_readLawLine 12 = .ok (.iload_n 2, 1) := dk_28 (dk_at dksX8_readLawLine_0 12 rfl rfl)
theorem dX8_readLawLine_13 : decode cX8_readLawLine 13 = .ok (.aload_n 0, 1) := dk_42 (dk_at dksX8_readLawLine_0 13 rfl rfl)
theorem dX8_readLawLine_14 : decode cX8_readLawLine 14 = .ok (.ldc 242, 2) := dk_18 242 (dk_at dksX8_readLawLine_0 14 rfl rfl)
theorem dX8_readLawLine_16 : decode cX8_readLawLine 16 = .ok (.invokevirtual 120, 3) := dk_182 0 120 (dk_at dksX8_readLawLine_0 16 rfl rfl)
theorem dX8_readLawLine_19 : decode cX8_readLawLine 19 = .ok (.ifCond .eq 7, 3) := dk_153 0 7 (dk_at dksX8_readLawLine_0 19 rfl rfl)
theorem dX8_readLawLine_22 : decode cX8_readLawLine 22 = .ok (.iconst 0, 1) := dk_3 (dk_at dksX8_readLawLine_0 22 rfl rfl)
theorem dX8_readLawLine_23 : decode cX8_readLawLine 23 = .ok (.goto 43, 3) := dk_167 0 43 (dk_at dksX8_readLawLine_1 0 rfl rfl)
theorem dX8_readLawLine_26 : decode cX8_readLawLine 26 = .ok (.aload_n 0, 1) := dk_42 (dk_at dksX8_readLawLine_1 3 rfl rfl)
theorem dX8_readLawLine_27 : decode cX8_readLawLine 27 = .ok (.ldc 244, 2) := dk_18 244 (dk_at dksX8_readLawLine_1 4 rfl rfl)
theorem dX8_readLawLine_29 : decode cX8_readLawLine 29 = .ok (.invokevirtual 120, 3) := dk_182 0 120 (dk_at dksX8_readLawLine_1 6 rfl rfl)
theorem dX8_readLawLine_32 : decode cX8_readLawLine 32 = .ok (.ifCond .eq 7, 3) := dk_153 0 7 (dk_at dksX8_readLawLine_1 9 rfl rfl)
theorem dX8_readLawLine_35 : decode cX8_readLawLine 35 = .ok (.iconst 1, 1) := dk_4 (dk_at dksX8_readLawLine_1 12 rfl rfl)
theorem dX8_readLawLine_36 : decode cX8_readLawLine 36 = .ok (.goto 30, 3) := dk_167 0 30 (dk_at dksX8_readLawLine_1 13 rfl rfl)
theorem dX8_readLawLine_39 : decode cX8_readLawLine 39 = .ok (.aload_n 0, 1) := dk_42 (dk_at dksX8_readLawLine_1 16 rfl rfl)
theorem dX8_readLawLine_40 : decode cX8_readLawLine 40 = .ok (.ldc 154, 2) := dk_18 154 (dk_at dksX8_readLawLine_1 17 rfl rfl)
theorem dX8_readLawLine_42 : decode cX8_readLawLine 42 = .ok (.invokevirtual 120, 3) := dk_182 0 120 (dk_at dksX8_readLawLine_1 19 rfl rfl)
theorem dX8_readLawLine_45 : decode cX8_readLawLine 45 = .ok (.ifCond .eq 7, 3) := dk_153 0 7 (dk_at dksX8_readLawLine_2 0 rfl rfl)
theorem dX8_readLawLine_48 : decode cX8_readLawLine 48 = .ok (.iconst 2, 1) := dk_5 (dk_at dksX8_readLawLine_2 3 rfl rfl)
theorem dX8_readLawLine_49 : decode cX8_readLawLine 49 = .ok (.goto 17, 3) := dk_167 0 17 (dk_at dksX8_readLawLine_2 4 rfl rfl)
theorem dX8_readLawLine_52 : decode cX8_readLawLine 52 = .ok (.aload_n 0, 1) := dk_42 (dk_at dksX8_readLawLine_2 7 rfl rfl)
theorem dX8_readLawLine_53 : decode cX8_readLawLine 53 = .ok (.ldc 152, 2) := dk_18 152 (dk_at dksX8_readLawLine_2 8 rfl rfl)
theorem dX8_readLawLine_55 : decode cX8_readLawLine 55 = .ok (.invokevirtual 120, 3) := dk_182 0 120 (dk_at dksX8_readLawLine_2 10 rfl rfl)
theorem dX8_readLawLine_58 : decode cX8_readLawLine 58 = .ok (.ifCond .eq 7, 3) := dk_153 0 7 (dk_at dksX8_readLawLine_2 13 rfl rfl)
theorem dX8_readLawLine_61 : decode cX8_readLawLine 61 = .ok (.iconst 3, 1) := dk_6 (dk_at dksX8_readLawLine_2 16 rfl rfl)
theorem dX8_readLawLine_62 : decode cX8_readLawLine 62 = .ok (.goto 4, 3) := dk_167 0 4 (dk_at dksX8_readLawLine_2 17 rfl rfl)
theorem dX8_readLawLine_65 : decode cX8_readLawLine 65 = .ok (.iconst (-1), 1) := dk_2 (dk_at dksX8_readLawLine_2 20 rfl rfl)
theorem dX8_readLawLine_66 : decode cX8_readLawLine 66 = .ok (.iastore, 1) := dk_79 (dk_at dksX8_readLawLine_2 21 rfl rfl)
theorem dX8_readLawLine_67 : decode cX8_readLawLine 67 = .ok (.aload_n 0, 1) := dk_42 (dk_at dksX8_readLawLine_2 22 rfl rfl)
theorem dX8_readLawLine_68 : decode cX8_readLawLine 68 = .ok (.getfield 13, 3) := dk_180 0 13 (dk_at dksX8_readLawLine_3 0 rfl rfl)
theorem dX8_readLawLine_71 : decode cX8_readLawLine 71 = .ok (.iload_n 2, 1) := dk_28 (dk_at dksX8_readLawLine_3 3 rfl rfl)
theorem dX8_readLawLine_72 : decode cX8_readLawLine 72 = .ok (.iaload, 1) := dk_46 (dk_at dksX8_readLawLine_3 4 rfl rfl)
theorem dX8_readLawLine_73 : decode cX8_readLawLine 73 = .ok (.ifCond .ge 5, 3) := dk_156 0 5 (dk_at dksX8_readLawLine_3 5 rfl rfl)
theorem dX8_readLawLine_76 : decode cX8_readLawLine 76 = .ok (.iconst 0, 1) := dk_3 (dk_at dksX8_readLawLine_3 8 rfl rfl)
theorem dX8_readLawLine_77 : decode cX8_readLawLine 77 = .ok (.ireturn, 1) := dk_172 (dk_at dksX8_readLawLine_3 9 rfl rfl)
theorem dX8_readLawLine_78 : decode cX8_readLawLine 78 = .ok (.aload_n 0, 1) := dk_42 (dk_at dksX8_readLawLine_3 10 rfl rfl)
theorem dX8_readLawLine_79 : decode cX8_readLawLine 79 = .ok (.getfield 13, 3) := dk_180 0 13 (dk_at dksX8_readLawLine_3 11 rfl rfl)
theorem dX8_readLawLine_82 : decode cX8_readLawLine 82 = .ok (.iload_n 2, 1) := dk_28 (dk_at dksX8_readLawLine_3 14 rfl rfl)
theorem dX8_readLawLine_83 : decode cX8_readLawLine 83 = .ok (.iconst 1, 1) := dk_4 (dk_at dksX8_readLawLine_3 15 rfl rfl)
theorem dX8_readLawLine_84 : decode cX8_readLawLine 84 = .ok (.iadd, 1) := dk_96 (dk_at dksX8_readLawLine_3 16 rfl rfl)
theorem dX8_readLawLine_85 : decode cX8_readLawLine 85 = .ok (.aload_n 0, 1) := dk_42 (dk_at dksX8_readLawLine_3 17 rfl rfl)
theorem dX8_readLawLine_86 : decode cX8_readLawLine 86 = .ok (.iconst 0, 1) := dk_3 (dk_at dksX8_readLawLine_3 18 rfl rfl)
theorem dX8_readLawLine_87 : decode cX8_readLawLine 87 = .ok (.bipush 9, 2) := dk_16 9 (dk_at dksX8_readLawLine_3 19 rfl rfl)
theorem dX8_readLawLine_89 : decode cX8_readLawLine 89 = .ok (.invokevirtual 124, 3) := dk_182 0 124 (dk_at dksX8_readLawLine_3 21 rfl rfl)
theorem dX8_readLawLine_92 : decode cX8_readLawLine 92 = .ok (.iastore, 1) := dk_79 (dk_at dksX8_readLawLine_4 0 rfl rfl)
theorem dX8_readLawLine_93 : decode cX8_readLawLine 93 = .ok (.aload_n 0, 1) := dk_42 (dk_at dksX8_readLawLine_4 1 rfl rfl)
theorem dX8_readLawLine_94 : decode cX8_readLawLine 94 = .ok (.getfield 13, 3) := dk_180 0 13 (dk_at dksX8_readLawLine_4 2 rfl rfl)
theorem dX8_readLawLine_97 : decode cX8_readLawLine 97 = .ok (.iload_n 2, 1) := dk_28 (dk_at dksX8_readLawLine_4 5 rfl rfl)
theorem dX8_readLawLine_98 : decode cX8_readLawLine 98 = .ok (.iconst 1, 1) := dk_4 (dk_at dksX8_readLawLine_4 6 rfl rfl)
theorem dX8_readLawLine_99 : decode cX8_readLawLine 99 = .ok (.iadd, 1) := dk_96 (dk_at dksX8_readLawLine_4 7 rfl rfl)
theorem dX8_readLawLine_100 : decode cX8_readLawLine 100 = .ok (.iaload, 1) := dk_46 (dk_at dksX8_readLawLine_4 8 rfl rfl)
theorem dX8_readLawLine_101 : decode cX8_readLawLine 101 = .ok (.ifCond .ge 5, 3) := dk_156 0 5 (dk_at dksX8_readLawLine_4 9 rfl rfl)
theorem dX8_readLawLine_104 : decode cX8_readLawLine 104 = .ok (.iconst 0, 1) := dk_3 (dk_at dksX8_readLawLine_4 12 rfl rfl)
theorem dX8_readLawLine_105 : decode cX8_readLawLine 105 = .ok (.ireturn, 1) := dk_172 (dk_at dksX8_readLawLine_4 13 rfl rfl)
theorem dX8_readLawLine_106 : decode cX8_readLawLine 106 = .ok (.aload_n 0, 1) := dk_42 (dk_at dksX8_readLawLine_4 14 rfl rfl)
theorem dX8_readLawLine_107 : decode cX8_readLawLine 107 = .ok (.getfield 13, 3) := dk_180 0 13 (dk_at dksX8_readLawLine_4 15 rfl rfl)
theorem dX8_readLawLine_110 : decode cX8_readLawLine 110 = .ok (.iload_n 2, 1) := dk_28 (dk_at dksX8_readLawLine_4 18 rfl rfl)
theorem dX8_readLawLine_111 : decode cX8_readLawLine 111 = .ok (.iconst 2, 1) := dk_5 (dk_at dksX8_readLawLine_4 19 rfl rfl)
theorem dX8_readLawLine_112 : decode cX8_readLawLine 112 = .ok (.iadd, 1) := dk_96 (dk_at dksX8_readLawLine_4 20 rfl rfl)
theorem dX8_readLawLine_113 : decode cX8_readLawLine 113 = .ok (.aload_n 0, 1) := dk_42 (dk_at dksX8_readLawLine_4 21 rfl rfl)
theorem dX8_readLawLine_114 : decode cX8_readLawLine 114 = .ok (.getfield 191, 3) := dk_180 0 191 (dk_at dksX8_readLawLine_5 0 rfl rfl)
theorem dX8_readLawLine_117 : decode cX8_readLawLine 117 = .ok (.iastore, 1) := dk_79 (dk_at dksX8_readLawLine_5 3 rfl rfl)
theorem dX8_readLawLine_118 : decode cX8_readLawLine 118 = .ok (.aload_n 0, 1) := dk_42 (dk_at dksX8_readLawLine_5 4 rfl rfl)
theorem dX8_readLawLine_119 : decode cX8_readLawLine 119 = .ok (.iconst 0, 1) := dk_3 (dk_at dksX8_readLawLine_5 5 rfl rfl)
theorem dX8_readLawLine_120 : decode cX8_readLawLine 120 = .ok (.putfield 215, 3) := dk_181 0 215 (dk_at dksX8_readLawLine_5 6 rfl rfl)
theorem dX8_readLawLine_123 : decode cX8_readLawLine 123 = .ok (.aload_n 0, 1) := dk_42 (dk_at dksX8_readLawLine_5 9 rfl rfl)
theorem dX8_readLawLine_124 : decode cX8_readLawLine 124 = .ok (.ldc 246, 2) := dk_18 246 (dk_at dksX8_readLawLine_5 10 rfl rfl)
theorem dX8_readLawLine_126 : decode cX8_readLawLine 126 = .ok (.invokevirtual 223, 3) := dk_182 0 223 (dk_at dksX8_readLawLine_5 12 rfl rfl)
theorem dX8_readLawLine_129 : decode cX8_readLawLine 129 = .ok (.ifCond .eq 12, 3) := dk_153 0 12 (dk_at dksX8_readLawLine_5 15 rfl rfl)
theorem dX8_readLawLine_132 : decode cX8_readLawLine 132 = .ok (.aload_n 0, 1) := dk_42 (dk_at dksX8_readLawLine_5 18 rfl rfl)
theorem dX8_readLawLine_133 : decode cX8_readLawLine 133 = .ok (.invokevirtual 218, 3) := dk_182 0 218 (dk_at dksX8_readLawLine_5 19 rfl rfl)
theorem dX8_readLawLine_136 : decode cX8_readLawLine 136 = .ok (.ifCond .ne 5, 3) := dk_154 0 5 (dk_at dksX8_readLawLine_6 0 rfl rfl)
theorem dX8_readLawLine_139 : decode cX8_readLawLine 139 = .ok (.iconst 0, 1) := dk_3 (dk_at dksX8_readLawLine_6 3 rfl rfl)
theorem dX8_readLawLine_140 : decode cX8_readLawLine 140 = .ok (.ireturn, 1) := dk_172 (dk_at dksX8_readLawLine_6 4 rfl rfl)
theorem dX8_readLawLine_141 : decode cX8_readLawLine 141 = .ok (.aload_n 0, 1) := dk_42 (dk_at dksX8_readLawLine_6 5 rfl rfl)
theorem dX8_readLawLine_142 : decode cX8_readLawLine 142 = .ok (.getfield 13, 3) := dk_180 0 13 (dk_at dksX8_readLawLine_6 6 rfl rfl)
theorem dX8_readLawLine_145 : decode cX8_readLawLine 145 = .ok (.iload_n 2, 1) := dk_28 (dk_at dksX8_readLawLine_6 9 rfl rfl)
theorem dX8_readLawLine_146 : decode cX8_readLawLine 146 = .ok (.iconst 3, 1) := dk_6 (dk_at dksX8_readLawLine_6 10 rfl rfl)
theorem dX8_readLawLine_147 : decode cX8_readLawLine 147 = .ok (.iadd, 1) := dk_96 (dk_at dksX8_readLawLine_6 11 rfl rfl)
theorem dX8_readLawLine_148 : decode cX8_readLawLine 148 = .ok (.aload_n 0, 1) := dk_42 (dk_at dksX8_readLawLine_6 12 rfl rfl)
theorem dX8_readLawLine_149 : decode cX8_readLawLine 149 = .ok (.getfield 191, 3) := dk_180 0 191 (dk_at dksX8_readLawLine_6 13 rfl rfl)
theorem dX8_readLawLine_152 : decode cX8_readLawLine 152 = .ok (.iastore, 1) := dk_79 (dk_at dksX8_readLawLine_6 16 rfl rfl)
theorem dX8_readLawLine_153 : decode cX8_readLawLine 153 = .ok (.iconst 1, 1) := dk_4 (dk_at dksX8_readLawLine_6 17 rfl rfl)
theorem dX8_readLawLine_154 : decode cX8_readLawLine 154 = .ok (.ireturn, 1) := dk_172 (dk_at dksX8_readLawLine_6 18 rfl rfl)
abbrev cX8_passes : ByteArray := prog_18_method_30_code
def yX8_passes : MethodName := ⟨RX8, "passes", "(Ljava/lang/String;)Z"⟩
def dkwX8_passes_0 : List UInt8 := [42, 182, 0, 117, 42, 43, 182, 0, 120, 153, 0, 5, 4, 172, 42, 42, 180, 0, 102, 181, 0, 92, 3, 172]
abbrev dktX8_passes_0 : List UInt8 := dkwX8_passes_0 ++ []
theorem dksX8_passes_0 : cX8_passes.data.toList.drop 0 = dktX8_passes_0 := by decide +kernel
theorem dX8_passes_0 : decode cX8_passes 0 = .ok (.aload_n 0, 1) := dk_42 (dk_at dksX8_passes_0 0 rfl rfl)
theorem dX8_passes_1 : decode cX8_passes 1 = .ok (.invokevirtual 117, 3) := dk_182 0 117 (dk_at dksX8_passes_0 1 rfl rfl)
theorem dX8_passes_4 : decode cX8_passes 4 = .ok (.aload_n 0, 1) := dk_42 (dk_at dksX8_passes_0 4 rfl rfl)
theorem dX8_passes_5 : decode cX8_passes 5 = .ok (.aload_n 1, 1) := dk_43 (dk_at dksX8_passes_0 5 rfl rfl)
theorem dX8_passes_6 : decode cX8_passes 6 = .ok (.invokevirtual 120, 3) := dk_182 0 120 (dk_at dksX8_passes_0 6 rfl rfl)
theorem dX8_passes_9 : decode cX8_passes 9 = .ok (.ifCond .eq 5, 3) := dk_153 0 5 (dk_at dksX8_passes_0 9 rfl rfl)
theorem dX8_passes_12 : decode cX8_passes 12 = .ok (.iconst 1, 1) := dk_4 (dk_at dksX8_passes_0 12 rfl rfl)
theorem dX8_passes_13 : decode cX8_passes 13 = .ok (.ireturn, 1) := dk_172 (dk_at dksX8_passes_0 13 rfl rfl)
theorem dX8_passes_14 : decode cX8_passes 14 = .ok (.aload_n 0, 1) := dk_42 (dk_at dksX8_passes_0 14 rfl rfl)
theorem dX8_passes_15 : decode cX8_passes 15 = .ok (.aload_n 0, 1) := dk_42 (dk_at dksX8_passes_0 15 rfl rfl)
theorem dX8_passes_16 : decode cX8_passes 16 = .ok (.getfield 102, 3) := dk_180 0 102 (dk_at dksX8_passes_0 16 rfl rfl)
theorem dX8_passes_19 : decode cX8_passes 19 = .ok (.putfield 92, 3) := dk_181 0 92 (dk_at dksX8_passes_0 19 rfl rfl)
theorem dX8_passes_22 : decode cX8_passes 22 = .ok (.iconst 0, 1) := dk_3 (dk_at dksX8_passes_0 22 rfl rfl)
theorem dX8_passes_23 : decode cX8_passes 23 = .ok (.ireturn, 1) := dk_172 (dk_at dksX8_passes_0 23 rfl rfl)
abbrev cX8_readCond : ByteArray := prog_18_method_51_code
def yX8_readCond : MethodName := ⟨RX8, "readCond", "()Z"⟩
def dkwX8_readCond_1 : List UInt8 := [154, 0, 5, 3, 172, 42, 16, 14, 3, 182, 0, 194, 167, 255, 231, 4, 172]
abbrev dktX8_readCond_1 : List UInt8 := dkwX8_readCond_1 ++ []
def dkwX8_readCond_0 : List UInt8 := [42, 182, 0, 237, 154, 0, 5, 3, 172, 42, 18, 240, 182, 0, 223, 153, 0, 22, 42, 182, 0, 237]
abbrev dktX8_readCond_0 : List UInt8 := dkwX8_readCond_0 ++ dktX8_readCond_1
theorem dksX8_readCond_0 : cX8_readCond.data.toList.drop 0 = dktX8_readCond_0 := by decide +kernel
theorem dksX8_readCond_1 : cX8_readCond.data.toList.drop 22 = dktX8_readCond_1 := dk_seg dksX8_readCond_0 22 rfl rfl
theorem dX8_readCond_0 : decode cX8_readCond 0 = .ok (.aload_n 0, 1) := dk_42 (dk_at dksX8_readCond_0 0 rfl rfl)
theorem dX8_readCond_1 : decode cX8_readCond 1 = .ok (.invokevirtual 237, 3) := dk_182 0 237 (dk_at dksX8_readCond_0 1 rfl rfl)
theorem dX8_readCond_4 : decode cX8_readCond 4 = .ok (.ifCond .ne 5, 3) := dk_154 0 5 (dk_at dksX8_readCond_0 4 rfl rfl)
theorem dX8_readCond_7 : decode cX8_readCond 7 = .ok (.iconst 0, 1) := dk_3 (dk_at dksX8_readCond_0 7 rfl rfl)
theorem dX8_readCond_8 : decode cX8_readCond 8 = .ok (.ireturn, 1) := dk_172 (dk_at dksX8_readCond_0 8 rfl rfl)
theorem dX8_readCond_9 : decode cX8_readCond 9 = .ok (.aload_n 0, 1) := dk_42 (dk_at dksX8_readCond_0 9 rfl rfl)
theorem dX8_readCond_10 : decode cX8_readCond 10 = .ok (.ldc 240, 2) := dk_18 240 (dk_at dksX8_readCond_0 10 rfl rfl)
theorem dX8_readCond_12 : decode cX8_readCond 12 = .ok (.invokevirtual 223, 3) := dk_182 0 223 (dk_at dksX8_readCond_0 12 rfl rfl)
theorem dX8_readCond_15 : decode cX8_readCond 15 = .ok (.ifCond .eq 22, 3) := dk_153 0 22 (dk_at dksX8_readCond_0 15 rfl rfl)
theorem dX8_readCond_18 : decode cX8_readCond 18 = .ok (.aload_n 0, 1) := dk_42 (dk_at dksX8_readCond_0 18 rfl rfl)
theorem dX8_readCond_19 : decode cX8_readCond 19 = .ok (.invokevirtual 237, 3) := dk_182 0 237 (dk_at dksX8_readCond_0 19 rfl rfl)
theorem dX8_readCond_22 : decode cX8_readCond 22 = .ok (.ifCond .ne 5, 3) := dk_154 0 5 (dk_at dksX8_readCond_1 0 rfl rfl)
theorem dX8_readCond_25 : decode cX8_readCond 25 = .ok (.iconst 0, 1) := dk_3 (dk_at dksX8_readCond_1 3 rfl rfl)
theorem dX8_readCond_26 : decode cX8_readCond 26 = .ok (.ireturn, 1) := dk_172 (dk_at dksX8_readCond_1 4 rfl rfl)
theorem dX8_readCond_27 : decode cX8_readCond 27 = .ok (.aload_n 0, 1) := dk_42 (dk_at dksX8_readCond_1 5 rfl rfl)
theorem dX8_readCond_28 : decode cX8_readCond 28 = .ok (.bipush 14, 2) := dk_16 14 (dk_at dksX8_readCond_1 6 rfl rfl)
theorem dX8_readCond_30 : decode cX8_readCond 30 = .ok (.iconst 0, 1) := dk_3 (dk_at dksX8_readCond_1 8 rfl rfl)
theorem dX8_readCond_31 : decode cX8_readCond 31 = .ok (.invokevirtual 194, 3) := dk_182 0 194 (dk_at dksX8_readCond_1 9 rfl rfl)
theorem dX8_readCond_34 : decode cX8_readCond 34 = .ok (.goto (-25), 3) := dk_167 255 231 (dk_at dksX8_readCond_1 12 rfl rfl)
theorem dX8_readCond_37 : decode cX8_readCond 37 = .ok (.iconst 1, 1) := dk_4 (dk_at dksX8_readCond_1 15 rfl rfl)
theorem dX8_readCond_38 : decode cX8_readCond 38 = .ok (.ireturn, 1) := dk_172 (dk_at dksX8_readCond_1 16 rfl rfl)
abbrev cX8_readAllOf : ByteArray := prog_18_method_50_code
def yX8_readAllOf : MethodName := ⟨RX8, "readAllOf", "()Z"⟩
def dkwX8_readAllOf_1 : List UInt8 := [154, 0, 5, 3, 172, 42, 16, 13, 3, 182, 0, 194, 167, 255, 231, 4, 172]
abbrev dktX8_readAllOf_1 : List UInt8 := dkwX8_readAllOf_1 ++ []
def dkwX8_readAllOf_0 : List UInt8 := [42, 182, 0, 226, 154, 0, 5, 3, 172, 42, 18, 235, 182, 0, 223, 153, 0, 22, 42, 182, 0, 226]
abbrev dktX8_readAllOf_0 : List UInt8 := dkwX8_readAllOf_0 ++ dktX8_readAllOf_1
theorem dksX8_readAllOf_0 : cX8_readAllOf.data.toList.drop 0 = dktX8_readAllOf_0 := by decide +kernel
theorem dksX8_readAllOf_1 : cX8_readAllOf.data.toList.drop 22 = dktX8_readAllOf_1 := dk_seg dksX8_readAllOf_0 22 rfl rfl
theorem dX8_readAllOf_0 : decode cX8_readAllOf 0 = .ok (.aload_n 0, 1) := dk_42 (dk_at dksX8_readAllOf_0 0 rfl rfl)
theorem dX8_readAllOf_1 : decode cX8_readAllOf 1 = .ok (.invokevirtual 226, 3) := dk_182 0 226 (dk_at dksX8_readAllOf_0 1 rfl rfl)
theorem dX8_readAllOf_4 : decode cX8_readAllOf 4 = .ok (.ifCond .ne 5, 3) := dk_154 0 5 (dk_at dksX8_readAllOf_0 4 rfl rfl)
theorem dX8_readAllOf_7 : decode cX8_readAllOf 7 = .ok (.iconst 0, 1) := dk_3 (dk_at dksX8_readAllOf_0 7 rfl rfl)
theorem dX8_readAllOf_8 : decode cX8_readAllOf 8 = .ok (.ireturn, 1) := dk_172 (dk_at dksX8_readAllOf_0 8 rfl rfl)
theorem dX8_readAllOf_9 : decode cX8_readAllOf 9 = .ok (.aload_n 0, 1) := dk_42 (dk_at dksX8_readAllOf_0 9 rfl rfl)
theorem dX8_readAllOf_10 : decode cX8_readAllOf 10 = .ok (.ldc 235, 2) := dk_18 235 (dk_at dksX8_readAllOf_0 10 rfl rfl)
theorem dX8_readAllOf_12 : decode cX8_readAllOf 12 = .ok (.invokevirtual 223, 3) := dk_182 0 223 (dk_at dksX8_readAllOf_0 12 rfl rfl)
theorem dX8_readAllOf_15 : decode cX8_readAllOf 15 = .ok (.ifCond .eq 22, 3) := dk_153 0 22 (dk_at dksX8_readAllOf_0 15 rfl rfl)
theorem dX8_readAllOf_18 : decode cX8_readAllOf 18 = .ok (.aload_n 0, 1) := dk_42 (dk_at dksX8_readAllOf_0 18 rfl rfl)
theorem dX8_readAllOf_19 : decode cX8_readAllOf 19 = .ok (.invokevirtual 226, 3) := dk_182 0 226 (dk_at dksX8_readAllOf_0 19 rfl rfl)
theorem dX8_readAllOf_22 : decode cX8_readAllOf 22 = .ok (.ifCond .ne 5, 3) := dk_154 0 5 (dk_at dksX8_readAllOf_1 0 rfl rfl)
theorem dX8_readAllOf_25 : decode cX8_readAllOf 25 = .ok (.iconst 0, 1) := dk_3 (dk_at dksX8_readAllOf_1 3 rfl rfl)
theorem dX8_readAllOf_26 : decode cX8_readAllOf 26 = .ok (.ireturn, 1) := dk_172 (dk_at dksX8_readAllOf_1 4 rfl rfl)
theorem dX8_readAllOf_27 : decode cX8_readAllOf 27 = .ok (.aload_n 0, 1) := dk_42 (dk_at dksX8_readAllOf_1 5 rfl rfl)
theorem dX8_readAllOf_28 : decode cX8_readAllOf 28 = .ok (.bipush 13, 2) := dk_16 13 (dk_at dksX8_readAllOf_1 6 rfl rfl)
theorem dX8_readAllOf_30 : decode cX8_readAllOf 30 = .ok (.iconst 0, 1) := dk_3 (dk_at dksX8_readAllOf_1 8 rfl rfl)
theorem dX8_readAllOf_31 : decode cX8_readAllOf 31 = .ok (.invokevirtual 194, 3) := dk_182 0 194 (dk_at dksX8_readAllOf_1 9 rfl rfl)
theorem dX8_readAllOf_34 : decode cX8_readAllOf 34 = .ok (.goto (-25), 3) := dk_167 255 231 (dk_at dksX8_readAllOf_1 12 rfl rfl)
theorem dX8_readAllOf_37 : decode cX8_readAllOf 37 = .ok (.iconst 1, 1) := dk_4 (dk_at dksX8_readAllOf_1 15 rfl rfl)
theorem dX8_readAllOf_38 : decode cX8_readAllOf 38 = .ok (.ireturn, 1) := dk_172 (dk_at dksX8_readAllOf_1 16 rfl rfl)
abbrev cX8_readAtom : ByteArray := prog_18_method_49_code
def yX8_readAtom : MethodName := ⟨RX8, "readAtom", "()Z"⟩
def dkwX8_readAtom_7 : List UInt8 := [153, 0, 8, 16, 10, 167, 0, 5, 16, 11, 3, 182, 0, 194, 4, 172]
abbrev dktX8_readAtom_7 : List UInt8 := dkwX8_readAtom_7 ++ []
def dkwX8_readAtom_6 : List UInt8 := [27, 154, 0, 12, 42, 16, 62, 182, 0, 207, 153, 0, 10, 42, 182, 0, 232, 154, 0, 5, 3, 172, 42, 27]
abbrev dktX8_readAtom_6 : List UInt8 := dkwX8_readAtom_6 ++ dktX8_readAtom_7
def dkwX8_readAtom_5 : List UInt8 := [182, 0, 229, 153, 0, 5, 4, 172, 42, 182, 0, 232, 154, 0, 5, 3, 172, 42, 16, 60, 182, 0, 207, 60]
abbrev dktX8_readAtom_5 : List UInt8 := dkwX8_readAtom_5 ++ dktX8_readAtom_6
def dkwX8_readAtom_4 : List UInt8 := [3, 172, 42, 89, 180, 0, 215, 4, 100, 181, 0, 215, 42, 16, 12, 3, 182, 0, 194, 4, 172, 42]
abbrev dktX8_readAtom_4 : List UInt8 := dkwX8_readAtom_4 ++ dktX8_readAtom_5
def dkwX8_readAtom_3 : List UInt8 := [16, 6, 160, 0, 5, 3, 172, 42, 89, 180, 0, 215, 4, 96, 181, 0, 215, 42, 182, 0, 226, 154, 0, 5]
abbrev dktX8_readAtom_3 : List UInt8 := dkwX8_readAtom_3 ++ dktX8_readAtom_4
def dkwX8_readAtom_2 : List UInt8 := [181, 0, 215, 42, 16, 41, 182, 0, 207, 172, 42, 18, 221, 182, 0, 223, 153, 0, 52, 42, 180, 0, 215]
abbrev dktX8_readAtom_2 : List UInt8 := dkwX8_readAtom_2 ++ dktX8_readAtom_3
def dkwX8_readAtom_1 : List UInt8 := [180, 0, 215, 4, 96, 181, 0, 215, 42, 182, 0, 218, 154, 0, 5, 3, 172, 42, 89, 180, 0, 215, 4, 100]
abbrev dktX8_readAtom_1 : List UInt8 := dkwX8_readAtom_1 ++ dktX8_readAtom_2
def dkwX8_readAtom_0 : List UInt8 := [42, 16, 40, 182, 0, 207, 153, 0, 50, 42, 180, 0, 215, 16, 6, 160, 0, 5, 3, 172, 42, 89]
abbrev dktX8_readAtom_0 : List UInt8 := dkwX8_readAtom_0 ++ dktX8_readAtom_1
theorem dksX8_readAtom_0 : cX8_readAtom.data.toList.drop 0 = dktX8_readAtom_0 := by decide +kernel
theorem dksX8_readAtom_1 : cX8_readAtom.data.toList.drop 22 = dktX8_readAtom_1 := dk_seg dksX8_readAtom_0 22 rfl rfl
theorem dksX8_readAtom_2 : cX8_readAtom.data.toList.drop 46 = dktX8_readAtom_2 := dk_seg dksX8_readAtom_1 24 rfl rfl
theorem dksX8_readAtom_3 : cX8_readAtom.data.toList.drop 69 = dktX8_readAtom_3 := dk_seg dksX8_readAtom_2 23 rfl rfl
theorem dksX8_readAtom_4 : cX8_readAtom.data.toList.drop 93 = dktX8_readAtom_4 := dk_seg dksX8_readAtom_3 24 rfl rfl
theorem dksX8_readAtom_5 : cX8_readAtom.data.toList.drop 115 = dktX8_readAtom_5 := dk_seg dksX8_readAtom_4 22 rfl rfl
theorem dksX8_readAtom_6 : cX8_readAtom.data.toList.drop 139 = dktX8_readAtom_6 := dk_seg dksX8_readAtom_5 24 rfl rfl
theorem dksX8_readAtom_7 : cX8_readAtom.data.toList.drop 163 = dktX8_readAtom_7 := dk_seg dksX8_readAtom_6 24 rfl rfl
theorem dX8_readAtom_0 : decode cX8_readAtom 0 = .ok (.aload_n 0, 1) := dk_42 (dk_at dksX8_readAtom_0 0 rfl rfl)
theorem dX8_readAtom_1 : decode cX8_readAtom 1 = .ok (.bipush 40, 2) := dk_16 40 (dk_at dksX8_readAtom_0 1 rfl rfl)
theorem dX8_readAtom_3 : decode cX8_readAtom 3 = .ok (.invokevirtual 207, 3) := dk_182 0 207 (dk_at dksX8_readAtom_0 3 rfl rfl)
theorem dX8_readAtom_6 : decode cX8_readAtom 6 = .ok (.ifCond .eq 50, 3) := dk_153 0 50 (dk_at dksX8_readAtom_0 6 rfl rfl)
theorem dX8_readAtom_9 : decode cX8_readAtom 9 = .ok (.aload_n 0, 1) := dk_42 (dk_at dksX8_readAtom_0 9 rfl rfl)
theorem dX8_readAtom_10 : decode cX8_readAtom 10 = .ok (.getfield 215, 3) := dk_180 0 215 (dk_at dksX8_readAtom_0 10 rfl rfl)
theorem dX8_readAtom_13 : decode cX8_readAtom 13 = .ok (.bipush 6, 2) := dk_16 6 (dk_at dksX8_readAtom_0 13 rfl rfl)
theorem dX8_readAtom_15 : decode cX8_readAtom 15 = .ok (.if_icmp .ne 5, 3) := dk_160 0 5 (dk_at dksX8_readAtom_0 15 rfl rfl)
theorem dX8_readAtom_18 : decode cX8_readAtom 18 = .ok (.iconst 0, 1) := dk_3 (dk_at dksX8_readAtom_0 18 rfl rfl)
theorem dX8_readAtom_19 : decode cX8_readAtom 19 = .ok (.ireturn, 1) := dk_172 (dk_at dksX8_readAtom_0 19 rfl rfl)
theorem dX8_readAtom_20 : decode cX8_readAtom 20 = .ok (.aload_n 0, 1) := dk_42 (dk_at dksX8_readAtom_0 20 rfl rfl)
theorem dX8_readAtom_21 : decode cX8_readAtom 21 = .ok (.dup, 1) := dk_89 (dk_at dksX8_readAtom_0 21 rfl rfl)
theorem dX8_readAtom_22 : decode cX8_readAtom 22 = .ok (.getfield 215, 3) := dk_180 0 215 (dk_at dksX8_readAtom_1 0 rfl rfl)
theorem dX8_readAtom_25 : decode cX8_readAtom 25 = .ok (.iconst 1, 1) := dk_4 (dk_at dksX8_readAtom_1 3 rfl rfl)
theorem dX8_readAtom_26 : decode cX8_readAtom 26 = .ok (.iadd, 1) := dk_96 (dk_at dksX8_readAtom_1 4 rfl rfl)
theorem dX8_readAtom_27 : decode cX8_readAtom 27 = .ok (.putfield 215, 3) := dk_181 0 215 (dk_at dksX8_readAtom_1 5 rfl rfl)
theorem dX8_readAtom_30 : decode cX8_readAtom 30 = .ok (.aload_n 0, 1) := dk_42 (dk_at dksX8_readAtom_1 8 rfl rfl)
theorem dX8_readAtom_31 : decode cX8_readAtom 31 = .ok (.invokevirtual 218, 3) := dk_182 0 218 (dk_at dksX8_readAtom_1 9 rfl rfl)
theorem dX8_readAtom_34 : decode cX8_readAtom 34 = .ok (.ifCond .ne 5, 3) := dk_154 0 5 (dk_at dksX8_readAtom_1 12 rfl rfl)
theorem dX8_readAtom_37 : decode cX8_readAtom 37 = .ok (.iconst 0, 1) := dk_3 (dk_at dksX8_readAtom_1 15 rfl rfl)
theorem dX8_readAtom_38 : decode cX8_readAtom 38 = .ok (.ireturn, 1) := dk_172 (dk_at dksX8_readAtom_1 16 rfl rfl)
theorem dX8_readAtom_39 : decode cX8_readAtom 39 = .ok (.aload_n 0, 1) := dk_42 (dk_at dksX8_readAtom_1 17 rfl rfl)
theorem dX8_readAtom_40 : decode cX8_readAtom 40 = .ok (.dup, 1) := dk_89 (dk_at dksX8_readAtom_1 18 rfl rfl)
theorem dX8_readAtom_41 : decode cX8_readAtom 41 = .ok (.getfield 215, 3) := dk_180 0 215 (dk_at dksX8_readAtom_1 19 rfl rfl)
theorem dX8_readAtom_44 : decode cX8_readAtom 44 = .ok (.iconst 1, 1) := dk_4 (dk_at dksX8_readAtom_1 22 rfl rfl)
theorem dX8_readAtom_45 : decode cX8_readAtom 45 = .ok (.isub, 1) := dk_100 (dk_at dksX8_readAtom_1 23 rfl rfl)
theorem dX8_readAtom_46 : decode cX8_readAtom 46 = .ok (.putfield 215, 3) := dk_181 0 215 (dk_at dksX8_readAtom_2 0 rfl rfl)
theorem dX8_readAtom_49 : decode cX8_readAtom 49 = .ok (.aload_n 0, 1) := dk_42 (dk_at dksX8_readAtom_2 3 rfl rfl)
theorem dX8_readAtom_50 : decode cX8_readAtom 50 = .ok (.bipush 41, 2) := dk_16 41 (dk_at dksX8_readAtom_2 4 rfl rfl)
theorem dX8_readAtom_52 : decode cX8_readAtom 52 = .ok (.invokevirtual 207, 3) := dk_182 0 207 (dk_at dksX8_readAtom_2 6 rfl rfl)
theorem dX8_readAtom_55 : decode cX8_readAtom 55 = .ok (.ireturn, 1) := dk_172 (dk_at dksX8_readAtom_2 9 rfl rfl)
theorem dX8_readAtom_56 : decode cX8_readAtom 56 = .ok (.aload_n 0, 1) := dk_42 (dk_at dksX8_readAtom_2 10 rfl rfl)
theorem dX8_readAtom_57 : decode cX8_readAtom 57 = .ok (.ldc 221, 2) := dk_18 221 (dk_at dksX8_readAtom_2 11 rfl rfl)
theorem dX8_readAtom_59 : decode cX8_readAtom 59 = .ok (.invokevirtual 223, 3) := dk_182 0 223 (dk_at dksX8_readAtom_2 13 rfl rfl)
theorem dX8_readAtom_62 : decode cX8_readAtom 62 = .ok (.ifCond .eq 52, 3) := dk_153 0 52 (dk_at dksX8_readAtom_2 16 rfl rfl)
theorem dX8_readAtom_65 : decode cX8_readAtom 65 = .ok (.aload_n 0, 1) := dk_42 (dk_at dksX8_readAtom_2 19 rfl rfl)
theorem dX8_readAtom_66 : decode cX8_readAtom 66 = .ok (.getfield 215, 3) := dk_180 0 215 (dk_at dksX8_readAtom_2 20 rfl rfl)
theorem dX8_readAtom_69 : decode cX8_readAtom 69 = .ok (.bipush 6, 2) := dk_16 6 (dk_at dksX8_readAtom_3 0 rfl rfl)
theorem dX8_readAtom_71 : decode cX8_readAtom 71 = .ok (.if_icmp .ne 5, 3) := dk_160 0 5 (dk_at dksX8_readAtom_3 2 rfl rfl)
theorem dX8_readAtom_74 : decode cX8_readAtom 74 = .ok (.iconst 0, 1) := dk_3 (dk_at dksX8_readAtom_3 5 rfl rfl)
theorem dX8_readAtom_75 : decode cX8_readAtom 75 = .ok (.ireturn, 1) := dk_172 (dk_at dksX8_readAtom_3 6 rfl rfl)
theorem dX8_readAtom_76 : decode cX8_readAtom 76 = .ok (.aload_n 0, 1) := dk_42 (dk_at dksX8_readAtom_3 7 rfl rfl)
theorem dX8_readAtom_77 : decode cX8_readAtom 77 = .ok (.dup, 1) := dk_89 (dk_at dksX8_readAtom_3 8 rfl rfl)
theorem dX8_readAtom_78 : decode cX8_readAtom 78 = .ok (.getfield 215, 3) := dk_180 0 215 (dk_at dksX8_readAtom_3 9 rfl rfl)
theorem dX8_readAtom_81 : decode cX8_readAtom 81 = .ok (.iconst 1, 1) := dk_4 (dk_at dksX8_readAtom_3 12 rfl rfl)
theorem dX8_readAtom_82 : decode cX8_readAtom 82 = .ok (.iadd, 1) := dk_96 (dk_at dksX8_readAtom_3 13 rfl rfl)
theorem dX8_readAtom_83 : decode cX8_readAtom 83 = .ok (.putfield 215, 3) := dk_181 0 215 (dk_at dksX8_readAtom_3 14 rfl rfl)
theorem dX8_readAtom_86 : decode cX8_readAtom 86 = .ok (.aload_n 0, 1) := dk_42 (dk_at dksX8_readAtom_3 17 rfl rfl)
theorem dX8_readAtom_87 : decode cX8_readAtom 87 = .ok (.invokevirtual 226, 3) := dk_182 0 226 (dk_at dksX8_readAtom_3 18 rfl rfl)
theorem dX8_readAtom_90 : decode cX8_readAtom 90 = .ok (.ifCond .ne 5, 3) := dk_154 0 5 (dk_at dksX8_readAtom_3 21 rfl rfl)
theorem dX8_readAtom_93 : decode cX8_readAtom 93 = .ok (.iconst 0, 1) := dk_3 (dk_at dksX8_readAtom_4 0 rfl rfl)
theorem dX8_readAtom_94 : decode cX8_readAtom 94 = .ok (.ireturn, 1) := dk_172 (dk_at dksX8_readAtom_4 1 rfl rfl)
theorem dX8_readAtom_95 : decode cX8_readAtom 95 = .ok (.aload_n 0, 1) := dk_42 (dk_at dksX8_readAtom_4 2 rfl rfl)
theorem dX8_readAtom_96 : decode cX8_readAtom 96 = .ok (.dup, 1) := dk_89 (dk_at dksX8_readAtom_4 3 rfl rfl)
theorem dX8_readAtom_97 : decode cX8_readAtom 97 = .ok (.getfield 215, 3) := dk_180 0 215 (dk_at dksX8_readAtom_4 4 rfl rfl)
theorem dX8_readAtom_100 : decode cX8_readAtom 100 = .ok (.iconst 1, 1) := dk_4 (dk_at dksX8_readAtom_4 7 rfl rfl)
theorem dX8_readAtom_101 : decode cX8_readAtom 101 = .ok (.isub, 1) := dk_100 (dk_at dksX8_readAtom_4 8 rfl rfl)
theorem dX8_readAtom_102 : decode cX8_readAtom 102 = .ok (.putfield 215, 3) := dk_181 0 215 (dk_at dksX8_readAtom_4 9 rfl rfl)
theorem dX8_readAtom_105 : decode cX8_readAtom 105 = .ok (.aload_n 0, 1) := dk_42 (dk_at dksX8_readAtom_4 12 rfl rfl)
theorem dX8_readAtom_106 : decode cX8_readAtom 106 = .ok (.bipush 12, 2) := dk_16 12 (dk_at dksX8_readAtom_4 13 rfl rfl)
theorem dX8_readAtom_108 : decode cX8_readAtom 108 = .ok (.iconst 0, 1) := dk_3 (dk_at dksX8_readAtom_4 15 rfl rfl)
theorem dX8_readAtom_109 : decode cX8_readAtom 109 = .ok (.invokevirtual 194, 3) := dk_182 0 194 (dk_at dksX8_readAtom_4 16 rfl rfl)
theorem dX8_readAtom_112 : decode cX8_readAtom 112 = .ok (.iconst 1, 1) := dk_4 (dk_at dksX8_readAtom_4 19 rfl rfl)
theorem dX8_readAtom_113 : decode cX8_readAtom 113 = .ok (.ireturn, 1) := dk_172 (dk_at dksX8_readAtom_4 20 rfl rfl)
theorem dX8_readAtom_114 : decode cX8_readAtom 114 = .ok (.aload_n 0, 1) := dk_42 (dk_at dksX8_readAtom_4 21 rfl rfl)
theorem dX8_readAtom_115 : decode cX8_readAtom 115 = .ok (.invokevirtual 229, 3) := dk_182 0 229 (dk_at dksX8_readAtom_5 0 rfl rfl)
theorem dX8_readAtom_118 : decode cX8_readAtom 118 = .ok (.ifCond .eq 5, 3) := dk_153 0 5 (dk_at dksX8_readAtom_5 3 rfl rfl)
theorem dX8_readAtom_121 : decode cX8_readAtom 121 = .ok (.iconst 1, 1) := dk_4 (dk_at dksX8_readAtom_5 6 rfl rfl)
theorem dX8_readAtom_122 : decode cX8_readAtom 122 = .ok (.ireturn, 1) := dk_172 (dk_at dksX8_readAtom_5 7 rfl rfl)
theorem dX8_readAtom_123 : decode cX8_readAtom 123 = .ok (.aload_n 0, 1) := dk_42 (dk_at dksX8_readAtom_5 8 rfl rfl)
theorem dX8_readAtom_124 : decode cX8_readAtom 124 = .ok (.invokevirtual 232, 3) := dk_182 0 232 (dk_at dksX8_readAtom_5 9 rfl rfl)
theorem dX8_readAtom_127 : decode cX8_readAtom 127 = .ok (.ifCond .ne 5, 3) := dk_154 0 5 (dk_at dksX8_readAtom_5 12 rfl rfl)
theorem dX8_readAtom_130 : decode cX8_readAtom 130 = .ok (.iconst 0, 1) := dk_3 (dk_at dksX8_readAtom_5 15 rfl rfl)
theorem dX8_readAtom_131 : decode cX8_readAtom 131 = .ok (.ireturn, 1) := dk_172 (dk_at dksX8_readAtom_5 16 rfl rfl)
theorem dX8_readAtom_132 : decode cX8_readAtom 132 = .ok (.aload_n 0, 1) := dk_42 (dk_at dksX8_readAtom_5 17 rfl rfl)
theorem dX8_readAtom_133 : decode cX8_readAtom 133 = .ok (.bipush 60, 2) := dk_16 60 (dk_at dksX8_readAtom_5 18 rfl rfl)
theorem dX8_readAtom_135 : decode cX8_readAtom 135 = .ok (.invokevirtual 207, 3) := dk_182 0 207 (dk_at dksX8_readAtom_5 20 rfl rfl)
theorem dX8_readAtom_138 : decode cX8_readAtom 138 = .ok (.istore_n 1, 1) := dk_60 (dk_at dksX8_readAtom_5 23 rfl rfl)
theorem dX8_readAtom_139 : decode cX8_readAtom 139 = .ok (.iload_n 1, 1) := dk_27 (dk_at dksX8_readAtom_6 0 rfl rfl)
theorem dX8_readAtom_140 : decode cX8_readAtom 140 = .ok (.ifCond .ne 12, 3) := dk_154 0 12 (dk_at dksX8_readAtom_6 1 rfl rfl)
theorem dX8_readAtom_143 : decode cX8_readAtom 143 = .ok (.aload_n 0, 1) := dk_42 (dk_at dksX8_readAtom_6 4 rfl rfl)
theorem dX8_readAtom_144 : decode cX8_readAtom 144 = .ok (.bipush 62, 2) := dk_16 62 (dk_at dksX8_readAtom_6 5 rfl rfl)
theorem dX8_readAtom_146 : decode cX8_readAtom 146 = .ok (.invokevirtual 207, 3) := dk_182 0 207 (dk_at dksX8_readAtom_6 7 rfl rfl)
theorem dX8_readAtom_149 : decode cX8_readAtom 149 = .ok (.ifCond .eq 10, 3) := dk_153 0 10 (dk_at dksX8_readAtom_6 10 rfl rfl)
theorem dX8_readAtom_152 : decode cX8_readAtom 152 = .ok (.aload_n 0, 1) := dk_42 (dk_at dksX8_readAtom_6 13 rfl rfl)
theorem dX8_readAtom_153 : decode cX8_readAtom 153 = .ok (.invokevirtual 232, 3) := dk_182 0 232 (dk_at dksX8_readAtom_6 14 rfl rfl)
theorem dX8_readAtom_156 : decode cX8_readAtom 156 = .ok (.ifCond .ne 5, 3) := dk_154 0 5 (dk_at dksX8_readAtom_6 17 rfl rfl)
theorem dX8_readAtom_159 : decode cX8_readAtom 159 = .ok (.iconst 0, 1) := dk_3 (dk_at dksX8_readAtom_6 20 rfl rfl)
theorem dX8_readAtom_160 : decode cX8_readAtom 160 = .ok (.ireturn, 1) := dk_172 (dk_at dksX8_readAtom_6 21 rfl rfl)
theorem dX8_readAtom_161 : decode cX8_readAtom 161 = .ok (.aload_n 0, 1) := dk_42 (dk_at dksX8_readAtom_6 22 rfl rfl)
theorem dX8_readAtom_162 : decode cX8_readAtom 162 = .ok (.iload_n 1, 1) := dk_27 (dk_at dksX8_readAtom_6 23 rfl rfl)
theorem dX8_readAtom_163 : decode cX8_readAtom 163 = .ok (.ifCond .eq 8, 3) := dk_153 0 8 (dk_at dksX8_readAtom_7 0 rfl rfl)
theorem dX8_readAtom_166 : decode cX8_readAtom 166 = .ok (.bipush 10, 2) := dk_16 10 (dk_at dksX8_readAtom_7 3 rfl rfl)
theorem dX8_readAtom_168 : decode cX8_readAtom 168 = .ok (.goto 5, 3) := dk_167 0 5 (dk_at dksX8_readAtom_7 5 rfl rfl)
theorem dX8_readAtom_171 : decode cX8_readAtom 171 = .ok (.bipush 11, 2) := dk_16 11 (dk_at dksX8_readAtom_7 8 rfl rfl)
theorem dX8_readAtom_173 : decode cX8_readAtom 173 = .ok (.iconst 0, 1) := dk_3 (dk_at dksX8_readAtom_7 10 rfl rfl)
theorem dX8_readAtom_174 : decode cX8_readAtom 174 = .ok (.invokevirtual 194, 3) := dk_182 0 194 (dk_at dksX8_readAtom_7 11 rfl rfl)
theorem dX8_readAtom_177 : decode cX8_readAtom 177 = .ok (.iconst 1, 1) := dk_4 (dk_at dksX8_readAtom_7 14 rfl rfl)
theorem dX8_readAtom_178 : decode cX8_readAtom 178 = .ok (.ireturn, 1) := dk_172 (dk_at dksX8_readAtom_7 15 rfl rfl)
abbrev cX8_sign : ByteArray := prog_18_method_31_code
def yX8_sign : MethodName := ⟨RX8, "sign", "(I)Z"⟩
def dkwX8_sign_1 : List UInt8 := [181, 0, 92, 4, 172]
abbrev dktX8_sign_1 : List UInt8 := dkwX8_sign_1 ++ []
def dkwX8_sign_0 : List UInt8 := [42, 182, 0, 105, 42, 27, 27, 182, 0, 98, 154, 0, 5, 3, 172, 42, 89, 180, 0, 92, 4, 96]
abbrev dktX8_sign_0 : List UInt8 := dkwX8_sign_0 ++ dktX8_sign_1
theorem dksX8_sign_0 : cX8_sign.data.toList.drop 0 = dktX8_sign_0 := by decide +kernel
theorem dksX8_sign_1 : cX8_sign.data.toList.drop 22 = dktX8_sign_1 := dk_seg dksX8_sign_0 22 rfl rfl
theorem dX8_sign_0 : decode cX8_sign 0 = .ok (.aload_n 0, 1) := dk_42 (dk_at dksX8_sign_0 0 rfl rfl)
theorem dX8_sign_1 : decode cX8_sign 1 = .ok (.invokevirtual 105, 3) := dk_182 0 105 (dk_at dksX8_sign_0 1 rfl rfl)
theorem dX8_sign_4 : decode cX8_sign 4 = .ok (.aload_n 0, 1) := dk_42 (dk_at dksX8_sign_0 4 rfl rfl)
theorem dX8_sign_5 : decode cX8_sign 5 = .ok (.iload_n 1, 1) := dk_27 (dk_at dksX8_sign_0 5 rfl rfl)
theorem dX8_sign_6 : decode cX8_sign 6 = .ok (.iload_n 1, 1) := dk_27 (dk_at dksX8_sign_0 6 rfl rfl)
theorem dX8_sign_7 : decode cX8_sign 7 = .ok (.invokevirtual 98, 3) := dk_182 0 98 (dk_at dksX8_sign_0 7 rfl rfl)
theorem dX8_sign_10 : decode cX8_sign 10 = .ok (.ifCond .ne 5, 3) := dk_154 0 5 (dk_at dksX8_sign_0 10 rfl rfl)
theorem dX8_sign_13 : decode cX8_sign 13 = .ok (.iconst 0, 1) := dk_3 (dk_at dksX8_sign_0 13 rfl rfl)
theorem dX8_sign_14 : decode cX8_sign 14 = .ok (.ireturn, 1) := dk_172 (dk_at dksX8_sign_0 14 rfl rfl)
theorem dX8_sign_15 : decode cX8_sign 15 = .ok (.aload_n 0, 1) := dk_42 (dk_at dksX8_sign_0 15 rfl rfl)
theorem dX8_sign_16 : decode cX8_sign 16 = .ok (.dup, 1) := dk_89 (dk_at dksX8_sign_0 16 rfl rfl)
theorem dX8_sign_17 : decode cX8_sign 17 = .ok (.getfield 92, 3) := dk_180 0 92 (dk_at dksX8_sign_0 17 rfl rfl)
theorem dX8_sign_20 : decode cX8_sign 20 = .ok (.iconst 1, 1) := dk_4 (dk_at dksX8_sign_0 20 rfl rfl)
theorem dX8_sign_21 : decode cX8_sign 21 = .ok (.iadd, 1) := dk_96 (dk_at dksX8_sign_0 21 rfl rfl)
theorem dX8_sign_22 : decode cX8_sign 22 = .ok (.putfield 92, 3) := dk_181 0 92 (dk_at dksX8_sign_1 0 rfl rfl)
theorem dX8_sign_25 : decode cX8_sign 25 = .ok (.iconst 1, 1) := dk_4 (dk_at dksX8_sign_1 3 rfl rfl)
theorem dX8_sign_26 : decode cX8_sign 26 = .ok (.ireturn, 1) := dk_172 (dk_at dksX8_sign_1 4 rfl rfl)
abbrev cX8_emits : ByteArray := prog_18_method_45_code
def yX8_emits : MethodName := ⟨RX8, "emits", "(II)V"⟩
def dkwX8_emits_1 : List UInt8 := [42, 180, 0, 191, 104, 96, 4, 96, 28, 79, 42, 89, 180, 0, 191, 4, 96, 181, 0, 191, 177]
abbrev dktX8_emits_1 : List UInt8 := dkwX8_emits_1 ++ []
def dkwX8_emits_0 : List UInt8 := [42, 180, 0, 13, 17, 5, 100, 5, 42, 180, 0, 191, 104, 96, 27, 79, 42, 180, 0, 13, 17, 5, 100, 5]
abbrev dktX8_emits_0 : List UInt8 := dkwX8_emits_0 ++ dktX8_emits_1
theorem dksX8_emits_0 : cX8_emits.data.toList.drop 0 = dktX8_emits_0 := by decide +kernel
theorem dksX8_emits_1 : cX8_emits.data.toList.drop 24 = dktX8_emits_1 := dk_seg dksX8_emits_0 24 rfl rfl
theorem dX8_emits_0 : decode cX8_emits 0 = .ok (.aload_n 0, 1) := dk_42 (dk_at dksX8_emits_0 0 rfl rfl)
theorem dX8_emits_1 : decode cX8_emits 1 = .ok (.getfield 13, 3) := dk_180 0 13 (dk_at dksX8_emits_0 1 rfl rfl)
theorem dX8_emits_4 : decode cX8_emits 4 = .ok (.sipush 1380, 3) := dk_17 5 100 (dk_at dksX8_emits_0 4 rfl rfl)
theorem dX8_emits_7 : decode cX8_emits 7 = .ok (.iconst 2, 1) := dk_5 (dk_at dksX8_emits_0 7 rfl rfl)
theorem dX8_emits_8 : decode cX8_emits 8 = .ok (.aload_n 0, 1) := dk_42 (dk_at dksX8_emits_0 8 rfl rfl)
theorem dX8_emits_9 : decode cX8_emits 9 = .ok (.getfield 191, 3) := dk_180 0 191 (dk_at dksX8_emits_0 9 rfl rfl)
theorem dX8_emits_12 : decode cX8_emits 12 = .ok (.imul, 1) := dk_104 (dk_at dksX8_emits_0 12 rfl rfl)
theorem dX8_emits_13 : decode cX8_emits 13 = .ok (.iadd, 1) := dk_96 (dk_at dksX8_emits_0 13 rfl rfl)
theorem dX8_emits_14 : decode cX8_emits 14 = .ok (.iload_n 1, 1) := dk_27 (dk_at dksX8_emits_0 14 rfl rfl)
theorem dX8_emits_15 : decode cX8_emits 15 = .ok (.iastore, 1) := dk_79 (dk_at dksX8_emits_0 15 rfl rfl)
theorem dX8_emits_16 : decode cX8_emits 16 = .ok (.aload_n 0, 1) := dk_42 (dk_at dksX8_emits_0 16 rfl rfl)
theorem dX8_emits_17 : decode cX8_emits 17 = .ok (.getfield 13, 3) := dk_180 0 13 (dk_at dksX8_emits_0 17 rfl rfl)
theorem dX8_emits_20 : decode cX8_emits 20 = .ok (.sipush 1380, 3) := dk_17 5 100 (dk_at dksX8_emits_0 20 rfl rfl)
theorem dX8_emits_23 : decode cX8_emits 23 = .ok (.iconst 2, 1) := dk_5 (dk_at dksX8_emits_0 23 rfl rfl)
theorem dX8_emits_24 : decode cX8_emits 24 = .ok (.aload_n 0, 1) := dk_42 (dk_at dksX8_emits_1 0 rfl rfl)
theorem dX8_emits_25 : decode cX8_emits 25 = .ok (.getfield 191, 3) := dk_180 0 191 (dk_at dksX8_emits_1 1 rfl rfl)
theorem dX8_emits_28 : decode cX8_emits 28 = .ok (.imul, 1) := dk_104 (dk_at dksX8_emits_1 4 rfl rfl)
theorem dX8_emits_29 : decode cX8_emits 29 = .ok (.iadd, 1) := dk_96 (dk_at dksX8_emits_1 5 rfl rfl)
theorem dX8_emits_30 : decode cX8_emits 30 = .ok (.iconst 1, 1) := dk_4 (dk_at dksX8_emits_1 6 rfl rfl)
theorem dX8_emits_31 : decode cX8_emits 31 = .ok (.iadd, 1) := dk_96 (dk_at dksX8_emits_1 7 rfl rfl)
theorem dX8_emits_32 : decode cX8_emits 32 = .ok (.iload_n 2, 1) := dk_28 (dk_at dksX8_emits_1 8 rfl rfl)
theorem dX8_emits_33 : decode cX8_emits 33 = .ok (.iastore, 1) := dk_79 (dk_at dksX8_emits_1 9 rfl rfl)
theorem dX8_emits_34 : decode cX8_emits 34 = .ok (.aload_n 0, 1) := dk_42 (dk_at dksX8_emits_1 10 rfl rfl)
theorem dX8_emits_35 : decode cX8_emits 35 = .ok (.dup, 1) := dk_89 (dk_at dksX8_emits_1 11 rfl rfl)
theorem dX8_emits_36 : decode cX8_emits 36 = .ok (.getfield 191, 3) := dk_180 0 191 (dk_at dksX8_emits_1 12 rfl rfl)
theorem dX8_emits_39 : decode cX8_emits 39 = .ok (.iconst 1, 1) := dk_4 (dk_at dksX8_emits_1 15 rfl rfl)
theorem dX8_emits_40 : decode cX8_emits 40 = .ok (.iadd, 1) := dk_96 (dk_at dksX8_emits_1 16 rfl rfl)
theorem dX8_emits_41 : decode cX8_emits 41 = .ok (.putfield 191, 3) := dk_181 0 191 (dk_at dksX8_emits_1 17 rfl rfl)
theorem dX8_emits_44 : decode cX8_emits 44 = .ok (.return_, 1) := dk_177 (dk_at dksX8_emits_1 20 rfl rfl)
abbrev cX8_readTag : ByteArray := prog_18_method_48_code
def yX8_readTag : MethodName := ⟨RX8, "readTag", "()Z"⟩
def dkwX8_readTag_2 : List UInt8 := [42, 180, 0, 102, 181, 0, 92, 27, 155, 0, 7, 4, 167, 0, 4, 3, 172]
abbrev dktX8_readTag_2 : List UInt8 := dkwX8_readTag_2 ++ []
def dkwX8_readTag_1 : List UInt8 := [153, 0, 8, 16, 7, 167, 0, 4, 2, 60, 27, 155, 0, 12, 42, 27, 3, 182, 0, 194, 167, 0, 11, 42]
abbrev dktX8_readTag_1 : List UInt8 := dkwX8_readTag_1 ++ dktX8_readTag_2
def dkwX8_readTag_0 : List UInt8 := [42, 182, 0, 117, 42, 18, 211, 182, 0, 120, 153, 0, 8, 16, 6, 167, 0, 18, 42, 18, 213, 182, 0, 120]
abbrev dktX8_readTag_0 : List UInt8 := dkwX8_readTag_0 ++ dktX8_readTag_1
theorem dksX8_readTag_0 : cX8_readTag.data.toList.drop 0 = dktX8_readTag_0 := by decide +kernel
theorem dksX8_readTag_1 : cX8_readTag.data.toList.drop 24 = dktX8_readTag_1 := dk_seg dksX8_readTag_0 24 rfl rfl
theorem dksX8_readTag_2 : cX8_readTag.data.toList.drop 48 = dktX8_readTag_2 := dk_seg dksX8_readTag_1 24 rfl rfl
theorem dX8_readTag_0 : decode cX8_readTag 0 = .ok (.aload_n 0, 1) := dk_42 (dk_at dksX8_readTag_0 0 rfl rfl)
theorem dX8_readTag_1 : decode cX8_readTag 1 = .ok (.invokevirtual 117, 3) := dk_182 0 117 (dk_at dksX8_readTag_0 1 rfl rfl)
theorem dX8_readTag_4 : decode cX8_readTag 4 = .ok (.aload_n 0, 1) := dk_42 (dk_at dksX8_readTag_0 4 rfl rfl)
theorem dX8_readTag_5 : decode cX8_readTag 5 = .ok (.ldc 211, 2) := dk_18 211 (dk_at dksX8_readTag_0 5 rfl rfl)
theorem dX8_readTag_7 : decode cX8_readTag 7 = .ok (.invokevirtual 120, 3) := dk_182 0 120 (dk_at dksX8_readTag_0 7 rfl rfl)
theorem dX8_readTag_10 : decode cX8_readTag 10 = .ok (.ifCond .eq 8, 3) := dk_153 0 8 (dk_at dksX8_readTag_0 10 rfl rfl)
theorem dX8_readTag_13 : decode cX8_readTag 13 = .ok (.bipush 6, 2) := dk_16 6 (dk_at dksX8_readTag_0 13 rfl rfl)
theorem dX8_readTag_15 : decode cX8_readTag 15 = .ok (.goto 18, 3) := dk_167 0 18 (dk_at dksX8_readTag_0 15 rfl rfl)
theorem dX8_readTag_18 : decode cX8_readTag 18 = .ok (.aload_n 0, 1) := dk_42 (dk_at dksX8_readTag_0 18 rfl rfl)
theorem dX8_readTag_19 : decode cX8_readTag 19 = .ok (.ldc 213, 2) := dk_18 213 (dk_at dksX8_readTag_0 19 rfl rfl)
theorem dX8_readTag_21 : decode cX8_readTag 21 = .ok (.invokevirtual 120, 3) := dk_182 0 120 (dk_at dksX8_readTag_0 21 rfl rfl)
theorem dX8_readTag_24 : decode cX8_readTag 24 = .ok (.ifCond .eq 8, 3) := dk_153 0 8 (dk_at dksX8_readTag_1 0 rfl rfl)
theorem dX8_readTag_27 : decode cX8_readTag 27 = .ok (.bipush 7, 2) := dk_16 7 (dk_at dksX8_readTag_1 3 rfl rfl)
theorem dX8_readTag_29 : decode cX8_readTag 29 = .ok (.goto 4, 3) := dk_167 0 4 (dk_at dksX8_readTag_1 5 rfl rfl)
theorem dX8_readTag_32 : decode cX8_readTag 32 = .ok (.iconst (-1), 1) := dk_2 (dk_at dksX8_readTag_1 8 rfl rfl)
theorem dX8_readTag_33 : decode cX8_readTag 33 = .ok (.istore_n 1, 1) := dk_60 (dk_at dksX8_readTag_1 9 rfl rfl)
theorem dX8_readTag_34 : decode cX8_readTag 34 = .ok (.iload_n 1, 1) := dk_27 (dk_at dksX8_readTag_1 10 rfl rfl)
theorem dX8_readTag_35 : decode cX8_readTag 35 = .ok (.ifCond .lt 12, 3) := dk_155 0 12 (dk_at dksX8_readTag_1 11 rfl rfl)
theorem dX8_readTag_38 : decode cX8_readTag 38 = .ok (.aload_n 0, 1) := dk_42 (dk_at dksX8_readTag_1 14 rfl rfl)
theorem dX8_readTag_39 : decode cX8_readTag 39 = .ok (.iload_n 1, 1) := dk_27 (dk_at dksX8_readTag_1 15 rfl rfl)
theorem dX8_readTag_40 : decode cX8_readTag 40 = .ok (.iconst 0, 1) := dk_3 (dk_at dksX8_readTag_1 16 rfl rfl)
theorem dX8_readTag_41 : decode cX8_readTag 41 = .ok (.invokevirtual 194, 3) := dk_182 0 194 (dk_at dksX8_readTag_1 17 rfl rfl)
theorem dX8_readTag_44 : decode cX8_readTag 44 = .ok (.goto 11, 3) := dk_167 0 11 (dk_at dksX8_readTag_1 20 rfl rfl)
theorem dX8_readTag_47 : decode cX8_readTag 47 = .ok (.aload_n 0, 1) := dk_42 (dk_at dksX8_readTag_1 23 rfl rfl)
theorem dX8_readTag_48 : decode cX8_readTag 48 = .ok (.aload_n 0, 1) := dk_42 (dk_at dksX8_readTag_2 0 rfl rfl)
theorem dX8_readTag_49 : decode cX8_readTag 49 = .ok (.getfield 102, 3) := dk_180 0 102 (dk_at dksX8_readTag_2 1 rfl rfl)
theorem dX8_readTag_52 : decode cX8_readTag 52 = .ok (.putfield 92, 3) := dk_181 0 92 (dk_at dksX8_readTag_2 4 rfl rfl)
theorem dX8_readTag_55 : decode cX8_readTag 55 = .ok (.iload_n 1, 1) := dk_27 (dk_at dksX8_readTag_2 7 rfl rfl)
theorem dX8_readTag_56 : decode cX8_readTag 56 = .ok (.ifCond .lt 7, 3) := dk_155 0 7 (dk_at dksX8_readTag_2 8 rfl rfl)
theorem dX8_readTag_59 : decode cX8_readTag 59 = .ok (.iconst 1, 1) := dk_4 (dk_at dksX8_readTag_2 11 rfl rfl)
theorem dX8_readTag_60 : decode cX8_readTag 60 = .ok (.goto 4, 3) := dk_167 0 4 (dk_at dksX8_readTag_2 12 rfl rfl)
theorem dX8_readTag_63 : decode cX8_readTag 63 = .ok (.iconst 0, 1) := dk_3 (dk_at dksX8_readTag_2 15 rfl rfl)
theorem dX8_readTag_64 : decode cX8_readTag 64 = .ok (.ireturn, 1) := dk_172 (dk_at dksX8_readTag_2 16 rfl rfl)
abbrev cX8_readSum : ByteArray := prog_18_method_47_code
def yX8_readSum : MethodName := ⟨RX8, "readSum", "()Z"⟩
def dkwX8_readSum_1 : List UInt8 := [154, 0, 5, 3, 172, 42, 16, 9, 3, 182, 0, 194, 167, 255, 231, 4, 172]
abbrev dktX8_readSum_1 : List UInt8 := dkwX8_readSum_1 ++ []
def dkwX8_readSum_0 : List UInt8 := [42, 182, 0, 204, 154, 0, 5, 3, 172, 42, 16, 43, 182, 0, 207, 153, 0, 22, 42, 182, 0, 204]
abbrev dktX8_readSum_0 : List UInt8 := dkwX8_readSum_0 ++ dktX8_readSum_1
theorem dksX8_readSum_0 : cX8_readSum.data.toList.drop 0 = dktX8_readSum_0 := by decide +kernel
theorem dksX8_readSum_1 : cX8_readSum.data.toList.drop 22 = dktX8_readSum_1 := dk_seg dksX8_readSum_0 22 rfl rfl
theorem dX8_readSum_0 : decode cX8_readSum 0 = .ok (.aload_n 0, 1) := dk_42 (dk_at dksX8_readSum_0 0 rfl rfl)
theorem dX8_readSum_1 : decode cX8_readSum 1 = .ok (.invokevirtual 204, 3) := dk_182 0 204 (dk_at dksX8_readSum_0 1 rfl rfl)
theorem dX8_readSum_4 : decode cX8_readSum 4 = .ok (.ifCond .ne 5, 3) := dk_154 0 5 (dk_at dksX8_readSum_0 4 rfl rfl)
theorem dX8_readSum_7 : decode cX8_readSum 7 = .ok (.iconst 0, 1) := dk_3 (dk_at dksX8_readSum_0 7 rfl rfl)
theorem dX8_readSum_8 : decode cX8_readSum 8 = .ok (.ireturn, 1) := dk_172 (dk_at dksX8_readSum_0 8 rfl rfl)
theorem dX8_readSum_9 : decode cX8_readSum 9 = .ok (.aload_n 0, 1) := dk_42 (dk_at dksX8_readSum_0 9 rfl rfl)
theorem dX8_readSum_10 : decode cX8_readSum 10 = .ok (.bipush 43, 2) := dk_16 43 (dk_at dksX8_readSum_0 10 rfl rfl)
theorem dX8_readSum_12 : decode cX8_readSum 12 = .ok (.invokevirtual 207, 3) := dk_182 0 207 (dk_at dksX8_readSum_0 12 rfl rfl)
theorem dX8_readSum_15 : decode cX8_readSum 15 = .ok (.ifCond .eq 22, 3) := dk_153 0 22 (dk_at dksX8_readSum_0 15 rfl rfl)
theorem dX8_readSum_18 : decode cX8_readSum 18 = .ok (.aload_n 0, 1) := dk_42 (dk_at dksX8_readSum_0 18 rfl rfl)
theorem dX8_readSum_19 : decode cX8_readSum 19 = .ok (.invokevirtual 204, 3) := dk_182 0 204 (dk_at dksX8_readSum_0 19 rfl rfl)
theorem dX8_readSum_22 : decode cX8_readSum 22 = .ok (.ifCond .ne 5, 3) := dk_154 0 5 (dk_at dksX8_readSum_1 0 rfl rfl)
theorem dX8_readSum_25 : decode cX8_readSum 25 = .ok (.iconst 0, 1) := dk_3 (dk_at dksX8_readSum_1 3 rfl rfl)
theorem dX8_readSum_26 : decode cX8_readSum 26 = .ok (.ireturn, 1) := dk_172 (dk_at dksX8_readSum_1 4 rfl rfl)
theorem dX8_readSum_27 : decode cX8_readSum 27 = .ok (.aload_n 0, 1) := dk_42 (dk_at dksX8_readSum_1 5 rfl rfl)
theorem dX8_readSum_28 : decode cX8_readSum 28 = .ok (.bipush 9, 2) := dk_16 9 (dk_at dksX8_readSum_1 6 rfl rfl)
theorem dX8_readSum_30 : decode cX8_readSum 30 = .ok (.iconst 0, 1) := dk_3 (dk_at dksX8_readSum_1 8 rfl rfl)
theorem dX8_readSum_31 : decode cX8_readSum 31 = .ok (.invokevirtual 194, 3) := dk_182 0 194 (dk_at dksX8_readSum_1 9 rfl rfl)
theorem dX8_readSum_34 : decode cX8_readSum 34 = .ok (.goto (-25), 3) := dk_167 255 231 (dk_at dksX8_readSum_1 12 rfl rfl)
theorem dX8_readSum_37 : decode cX8_readSum 37 = .ok (.iconst 1, 1) := dk_4 (dk_at dksX8_readSum_1 15 rfl rfl)
theorem dX8_readSum_38 : decode cX8_readSum 38 = .ok (.ireturn, 1) := dk_172 (dk_at dksX8_readSum_1 16 rfl rfl)
abbrev cX8_readPart : ByteArray := prog_18_method_46_code
def yX8_readPart : MethodName := ⟨RX8, "readPart", "()Z"⟩
def dkwX8_readPart_5 : List UInt8 := [3, 182, 0, 194, 27, 155, 0, 7, 4, 167, 0, 4, 3, 172]
abbrev dktX8_readPart_5 : List UInt8 := dkwX8_readPart_5 ++ []
def dkwX8_readPart_4 : List UInt8 := [153, 0, 7, 7, 167, 0, 17, 42, 18, 202, 182, 0, 120, 153, 0, 7, 8, 167, 0, 4, 2, 60, 42, 27]
abbrev dktX8_readPart_4 : List UInt8 := dkwX8_readPart_4 ++ dktX8_readPart_5
def dkwX8_readPart_3 : List UInt8 := [167, 0, 43, 42, 18, 132, 182, 0, 120, 153, 0, 7, 6, 167, 0, 30, 42, 18, 186, 182, 0, 120]
abbrev dktX8_readPart_3 : List UInt8 := dkwX8_readPart_3 ++ dktX8_readPart_4
def dkwX8_readPart_2 : List UInt8 := [18, 198, 182, 0, 120, 153, 0, 7, 4, 167, 0, 56, 42, 18, 200, 182, 0, 120, 153, 0, 7, 5]
abbrev dktX8_readPart_2 : List UInt8 := dkwX8_readPart_2 ++ dktX8_readPart_3
def dkwX8_readPart_1 : List UInt8 := [42, 16, 8, 27, 182, 0, 194, 167, 0, 89, 42, 18, 156, 182, 0, 120, 153, 0, 7, 3, 167, 0, 69, 42]
abbrev dktX8_readPart_1 : List UInt8 := dkwX8_readPart_1 ++ dktX8_readPart_2
def dkwX8_readPart_0 : List UInt8 := [42, 182, 0, 117, 42, 180, 0, 92, 42, 180, 0, 102, 160, 0, 22, 42, 3, 17, 3, 231, 182, 0, 124, 60]
abbrev dktX8_readPart_0 : List UInt8 := dkwX8_readPart_0 ++ dktX8_readPart_1
theorem dksX8_readPart_0 : cX8_readPart.data.toList.drop 0 = dktX8_readPart_0 := by decide +kernel
theorem dksX8_readPart_1 : cX8_readPart.data.toList.drop 24 = dktX8_readPart_1 := dk_seg dksX8_readPart_0 24 rfl rfl
theorem dksX8_readPart_2 : cX8_readPart.data.toList.drop 48 = dktX8_readPart_2 := dk_seg dksX8_readPart_1 24 rfl rfl
theorem dksX8_readPart_3 : cX8_readPart.data.toList.drop 70 = dktX8_readPart_3 := dk_seg dksX8_readPart_2 22 rfl rfl
theorem dksX8_readPart_4 : cX8_readPart.data.toList.drop 92 = dktX8_readPart_4 := dk_seg dksX8_readPart_3 22 rfl rfl
theorem dksX8_readPart_5 : cX8_readPart.data.toList.drop 116 = dktX8_readPart_5 := dk_seg dksX8_readPart_4 24 rfl rfl
theorem dX8_readPart_0 : decode cX8_readPart 0 = .ok (.aload_n 0, 1) := dk_42 (dk_at dksX8_readPart_0 0 rfl rfl)
theorem dX8_readPart_1 : decode cX8_readPart 1 = .ok (.invokevirtual 117, 3) := dk_182 0 117 (dk_at dksX8_readPart_0 1 rfl rfl)
theorem dX8_readPart_4 : decode cX8_readPart 4 = .ok (.aload_n 0, 1) := dk_42 (dk_at dksX8_readPart_0 4 rfl rfl)
theorem dX8_readPart_5 : decode cX8_readPart 5 = .ok (.getfield 92, 3) := dk_180 0 92 (dk_at dksX8_readPart_0 5 rfl rfl)
theorem dX8_readPart_8 : decode cX8_readPart 8 = .ok (.aload_n 0, 1) := dk_42 (dk_at dksX8_readPart_0 8 rfl rfl)
theorem dX8_readPart_9 : decode cX8_readPart 9 = .ok (.getfield 102, 3) := dk_180 0 102 (dk_at dksX8_readPart_0 9 rfl rfl)
theorem dX8_readPart_12 : decode cX8_readPart 12 = .ok (.if_icmp .ne 22, 3) := dk_160 0 22 (dk_at dksX8_readPart_0 12 rfl rfl)
theorem dX8_readPart_15 : decode cX8_readPart 15 = .ok (.aload_n 0, 1) := dk_42 (dk_at dksX8_readPart_0 15 rfl rfl)
theorem dX8_readPart_16 : decode cX8_readPart 16 = .ok (.iconst 0, 1) := dk_3 (dk_at dksX8_readPart_0 16 rfl rfl)
theorem dX8_readPart_17 : decode cX8_readPart 17 = .ok (.sipush 999, 3) := dk_17 3 231 (dk_at dksX8_readPart_0 17 rfl rfl)
theorem dX8_readPart_20 : decode cX8_readPart 20 = .ok (.invokevirtual 124, 3) := dk_182 0 124 (dk_at dksX8_readPart_0 20 rfl rfl)
theorem dX8_readPart_23 : decode cX8_readPart 23 = .ok (.istore_n 1, 1) := dk_60 (dk_at dksX8_readPart_0 23 rfl rfl)
theorem dX8_readPart_24 : decode cX8_readPart 24 = .ok (.aload_n 0, 1) := dk_42 (dk_at dksX8_readPart_1 0 rfl rfl)
theorem dX8_readPart_25 : decode cX8_readPart 25 = .ok (.bipush 8, 2) := dk_16 8 (dk_at dksX8_readPart_1 1 rfl rfl)
theorem dX8_readPart_27 : decode cX8_readPart 27 = .ok (.iload_n 1, 1) := dk_27 (dk_at dksX8_readPart_1 3 rfl rfl)
theorem dX8_readPart_28 : decode cX8_readPart 28 = .ok (.invokevirtual 194, 3) := dk_182 0 194 (dk_at dksX8_readPart_1 4 rfl rfl)
theorem dX8_readPart_31 : decode cX8_readPart 31 = .ok (.goto 89, 3) := dk_167 0 89 (dk_at dksX8_readPart_1 7 rfl rfl)
theorem dX8_readPart_34 : decode cX8_readPart 34 = .ok (.aload_n 0, 1) := dk_42 (dk_at dksX8_readPart_1 10 rfl rfl)
theorem dX8_readPart_35 : decode cX8_readPart 35 = .ok (.ldc 156, 2) := dk_18 156 (dk_at dksX8_readPart_1 11 rfl rfl)
theorem dX8_readPart_37 : decode cX8_readPart 37 = .ok (.invokevirtual 120, 3) := dk_182 0 120 (dk_at dksX8_readPart_1 13 rfl rfl)
theorem dX8_readPart_40 : decode cX8_readPart 40 = .ok (.ifCond .eq 7, 3) := dk_153 0 7 (dk_at dksX8_readPart_1 16 rfl rfl)
theorem dX8_readPart_43 : decode cX8_readPart 43 = .ok (.iconst 0, 1) := dk_3 (dk_at dksX8_readPart_1 19 rfl rfl)
theorem dX8_readPart_44 : decode cX8_readPart 44 = .ok (.goto 69, 3) := dk_167 0 69 (dk_at dksX8_readPart_1 20 rfl rfl)
theorem dX8_readPart_47 : decode cX8_readPart 47 = .ok (.aload_n 0, 1) := dk_42 (dk_at dksX8_readPart_1 23 rfl rfl)
theorem dX8_readPart_48 : decode cX8_readPart 48 = .ok (.ldc 198, 2) := dk_18 198 (dk_at dksX8_readPart_2 0 rfl rfl)
theorem dX8_readPart_50 : decode cX8_readPart 50 = .ok (.invokevirtual 120, 3) := dk_182 0 120 (dk_at dksX8_readPart_2 2 rfl rfl)
theorem dX8_readPart_53 : decode cX8_readPart 53 = .ok (.ifCond .eq 7, 3) := dk_153 0 7 (dk_at dksX8_readPart_2 5 rfl rfl)
theorem dX8_readPart_56 : decode cX8_readPart 56 = .ok (.iconst 1, 1) := dk_4 (dk_at dksX8_readPart_2 8 rfl rfl)
theorem dX8_readPart_57 : decode cX8_readPart 57 = .ok (.goto 56, 3) := dk_167 0 56 (dk_at dksX8_readPart_2 9 rfl rfl)
theorem dX8_readPart_60 : decode cX8_readPart 60 = .ok (.aload_n 0, 1) := dk_42 (dk_at dksX8_readPart_2 12 rfl rfl)
theorem dX8_readPart_61 : decode cX8_readPart 61 = .ok (.ldc 200, 2) := dk_18 200 (dk_at dksX8_readPart_2 13 rfl rfl)
theorem dX8_readPart_63 : decode cX8_readPart 63 = .ok (.invokevirtual 120, 3) := dk_182 0 120 (dk_at dksX8_readPart_2 15 rfl rfl)
theorem dX8_readPart_66 : decode cX8_readPart 66 = .ok (.ifCond .eq 7, 3) := dk_153 0 7 (dk_at dksX8_readPart_2 18 rfl rfl)
theorem dX8_readPart_69 : decode cX8_readPart 69 = .ok (.iconst 2, 1) := dk_5 (dk_at dksX8_readPart_2 21 rfl rfl)
theorem dX8_readPart_70 : decode cX8_readPart 70 = .ok (.goto 43, 3) := dk_167 0 43 (dk_at dksX8_readPart_3 0 rfl rfl)
theorem dX8_readPart_73 : decode cX8_readPart 73 = .ok (.aload_n 0, 1) := dk_42 (dk_at dksX8_readPart_3 3 rfl rfl)
theorem dX8_readPart_74 : decode cX8_readPart 74 = .ok (.ldc 132, 2) := dk_18 132 (dk_at dksX8_readPart_3 4 rfl rfl)
theorem dX8_readPart_76 : decode cX8_readPart 76 = .ok (.invokevirtual 120, 3) := dk_182 0 120 (dk_at dksX8_readPart_3 6 rfl rfl)
theorem dX8_readPart_79 : decode cX8_readPart 79 = .ok (.ifCond .eq 7, 3) := dk_153 0 7 (dk_at dksX8_readPart_3 9 rfl rfl)
theorem dX8_readPart_82 : decode cX8_readPart 82 = .ok (.iconst 3, 1) := dk_6 (dk_at dksX8_readPart_3 12 rfl rfl)
theorem dX8_readPart_83 : decode cX8_readPart 83 = .ok (.goto 30, 3) := dk_167 0 30 (dk_at dksX8_readPart_3 13 rfl rfl)
theorem dX8_readPart_86 : decode cX8_readPart 86 = .ok (.aload_n 0, 1) := dk_42 (dk_at dksX8_readPart_3 16 rfl rfl)
theorem dX8_readPart_87 : decode cX8_readPart 87 = .ok (.ldc 186, 2) := dk_18 186 (dk_at dksX8_readPart_3 17 rfl rfl)
theorem dX8_readPart_89 : decode cX8_readPart 89 = .ok (.invokevirtual 120, 3) := dk_182 0 120 (dk_at dksX8_readPart_3 19 rfl rfl)
theorem dX8_readPart_92 : decode cX8_readPart 92 = .ok (.ifCond .eq 7, 3) := dk_153 0 7 (dk_at dksX8_readPart_4 0 rfl rfl)
theorem dX8_readPart_95 : decode cX8_readPart 95 = .ok (.iconst 4, 1) := dk_7 (dk_at dksX8_readPart_4 3 rfl rfl)
theorem dX8_readPart_96 : decode cX8_readPart 96 = .ok (.goto 17, 3) := dk_167 0 17 (dk_at dksX8_readPart_4 4 rfl rfl)
theorem dX8_readPart_99 : decode cX8_readPart 99 = .ok (.aload_n 0, 1) := dk_42 (dk_at dksX8_readPart_4 7 rfl rfl)
theorem dX8_readPart_100 : decode cX8_readPart 100 = .ok (.ldc 202, 2) := dk_18 202 (dk_at dksX8_readPart_4 8 rfl rfl)
theorem dX8_readPart_102 : decode cX8_readPart 102 = .ok (.invokevirtual 120, 3) := dk_182 0 120 (dk_at dksX8_readPart_4 10 rfl rfl)
theorem dX8_readPart_105 : decode cX8_readPart 105 = .ok (.ifCond .eq 7, 3) := dk_153 0 7 (dk_at dksX8_readPart_4 13 rfl rfl)
theorem dX8_readPart_108 : decode cX8_readPart 108 = .ok (.iconst 5, 1) := dk_8 (dk_at dksX8_readPart_4 16 rfl rfl)
theorem dX8_readPart_109 : decode cX8_readPart 109 = .ok (.goto 4, 3) := dk_167 0 4 (dk_at dksX8_readPart_4 17 rfl rfl)
theorem dX8_readPart_112 : decode cX8_readPart 112 = .ok (.iconst (-1), 1) := dk_2 (dk_at dksX8_readPart_4 20 rfl rfl)
theorem dX8_readPart_113 : decode cX8_readPart 113 = .ok (.istore_n 1, 1) := dk_60 (dk_at dksX8_readPart_4 21 rfl rfl)
theorem dX8_readPart_114 : decode cX8_readPart 114 = .ok (.aload_n 0, 1) := dk_42 (dk_at dksX8_readPart_4 22 rfl rfl)
theorem dX8_readPart_115 : decode cX8_readPart 115 = .ok (.iload_n 1, 1) := dk_27 (dk_at dksX8_readPart_4 23 rfl rfl)
theorem dX8_readPart_116 : decode cX8_readPart 116 = .ok (.iconst 0, 1) := dk_3 (dk_at dksX8_readPart_5 0 rfl rfl)
theorem dX8_readPart_117 : decode cX8_readPart 117 = .ok (.invokevirtual 194, 3) := dk_182 0 194 (dk_at dksX8_readPart_5 1 rfl rfl)
theorem dX8_readPart_120 : decode cX8_readPart 120 = .ok (.iload_n 1, 1) := dk_27 (dk_at dksX8_readPart_5 4 rfl rfl)
theorem dX8_readPart_121 : decode cX8_readPart 121 = .ok (.ifCond .lt 7, 3) := dk_155 0 7 (dk_at dksX8_readPart_5 5 rfl rfl)
theorem dX8_readPart_124 : decode cX8_readPart 124 = .ok (.iconst 1, 1) := dk_4 (dk_at dksX8_readPart_5 8 rfl rfl)
theorem dX8_readPart_125 : decode cX8_readPart 125 = .ok (.goto 4, 3) := dk_167 0 4 (dk_at dksX8_readPart_5 9 rfl rfl)
theorem dX8_readPart_128 : decode cX8_readPart 128 = .ok (.iconst 0, 1) := dk_3 (dk_at dksX8_readPart_5 12 rfl rfl)
theorem dX8_readPart_129 : decode cX8_readPart 129 = .ok (.ireturn, 1) := dk_172 (dk_at dksX8_readPart_5 13 rfl rfl)
abbrev cX8_throwsIf : ByteArray := prog_18_method_2_code
def yX8_throwsIf : MethodName := ⟨RX8, "throwsIf", "(ZI)Z"⟩
def dkwX8_throwsIf_0 : List UInt8 := [27, 153, 0, 8, 42, 28, 181, 0, 3, 27, 172]
abbrev dktX8_throwsIf_0 : List UInt8 := dkwX8_throwsIf_0 ++ []
theorem dksX8_throwsIf_0 : cX8_throwsIf.data.toList.drop 0 = dktX8_throwsIf_0 := by decide +kernel
theorem dX8_throwsIf_0 : decode cX8_throwsIf 0 = .ok (.iload_n 1, 1) := dk_27 (dk_at dksX8_throwsIf_0 0 rfl rfl)
theorem dX8_throwsIf_1 : decode cX8_throwsIf 1 = .ok (.ifCond .eq 8, 3) := dk_153 0 8 (dk_at dksX8_throwsIf_0 1 rfl rfl)
theorem dX8_throwsIf_4 : decode cX8_throwsIf 4 = .ok (.aload_n 0, 1) := dk_42 (dk_at dksX8_throwsIf_0 4 rfl rfl)
theorem dX8_throwsIf_5 : decode cX8_throwsIf 5 = .ok (.iload_n 2, 1) := dk_28 (dk_at dksX8_throwsIf_0 5 rfl rfl)
theorem dX8_throwsIf_6 : decode cX8_throwsIf 6 = .ok (.putfield 3, 3) := dk_181 0 3 (dk_at dksX8_throwsIf_0 6 rfl rfl)
theorem dX8_throwsIf_9 : decode cX8_throwsIf 9 = .ok (.iload_n 1, 1) := dk_27 (dk_at dksX8_throwsIf_0 9 rfl rfl)
theorem dX8_throwsIf_10 : decode cX8_throwsIf 10 = .ok (.ireturn, 1) := dk_172 (dk_at dksX8_throwsIf_0 10 rfl rfl)
abbrev cX8_law : ByteArray := prog_18_method_56_code
def yX8_law : MethodName := ⟨RX8, "law", "()I"⟩
def dkwX8_law_4 : List UInt8 := [181, 0, 64, 27, 172]
abbrev dktX8_law_4 : List UInt8 := dkwX8_law_4 ++ []
def dkwX8_law_3 : List UInt8 := [17, 5, 51, 28, 96, 46, 79, 132, 2, 1, 167, 255, 226, 42, 180, 0, 13, 7, 4, 79, 42, 3]
abbrev dktX8_law_3 : List UInt8 := dkwX8_law_3 ++ dktX8_law_4
def dkwX8_law_2 : List UInt8 := [27, 79, 3, 61, 28, 17, 3, 81, 162, 0, 29, 42, 180, 0, 13, 17, 1, 226, 28, 96, 42, 180, 0, 13]
abbrev dktX8_law_2 : List UInt8 := dkwX8_law_2 ++ dktX8_law_3
def dkwX8_law_1 : List UInt8 := [156, 0, 7, 4, 167, 0, 4, 3, 4, 182, 1, 9, 153, 0, 5, 3, 172, 42, 180, 0, 13, 17, 5, 51]
abbrev dktX8_law_1 : List UInt8 := dkwX8_law_1 ++ dktX8_law_2
def dkwX8_law_0 : List UInt8 := [42, 3, 182, 1, 5, 60, 42, 27, 156, 0, 10, 42, 180, 0, 102, 167, 0, 4, 2, 181, 0, 33, 42, 27]
abbrev dktX8_law_0 : List UInt8 := dkwX8_law_0 ++ dktX8_law_1
theorem dksX8_law_0 : cX8_law.data.toList.drop 0 = dktX8_law_0 := by decide +kernel
theorem dksX8_law_1 : cX8_law.data.toList.drop 24 = dktX8_law_1 := dk_seg dksX8_law_0 24 rfl rfl
theorem dksX8_law_2 : cX8_law.data.toList.drop 48 = dktX8_law_2 := dk_seg dksX8_law_1 24 rfl rfl
theorem dksX8_law_3 : cX8_law.data.toList.drop 72 = dktX8_law_3 := dk_seg dksX8_law_2 24 rfl rfl
theorem dksX8_law_4 : cX8_law.data.toList.drop 94 = dktX8_law_4 := dk_seg dksX8_law_3 22 rfl rfl
theorem dX8_law_0 : decode cX8_law 0 = .ok (.aload_n 0, 1) := dk_42 (dk_at dksX8_law_0 0 rfl rfl)
theorem dX8_law_1 : decode cX8_law 1 = .ok (.iconst 0, 1) := dk_3 (dk_at dksX8_law_0 1 rfl rfl)
theorem dX8_law_2 : decode cX8_law 2 = .ok (.invokevirtual 261, 3) := dk_182 1 5 (dk_at dksX8_law_0 2 rfl rfl)
theorem dX8_law_5 : decode cX8_law 5 = .ok (.istore_n 1, 1) := dk_60 (dk_at dksX8_law_0 5 rfl rfl)
theorem dX8_law_6 : decode cX8_law 6 = .ok (.aload_n 0, 1) := dk_42 (dk_at dksX8_law_0 6 rfl rfl)
theorem dX8_law_7 : decode cX8_law 7 = .ok (.iload_n 1, 1) := dk_27 (dk_at dksX8_law_0 7 rfl rfl)
theorem dX8_law_8 : decode cX8_law 8 = .ok (.ifCond .ge 10, 3) := dk_156 0 10 (dk_at dksX8_law_0 8 rfl rfl)
theorem dX8_law_11 : decode cX8_law 11 = .ok (.aload_n 0, 1) := dk_42 (dk_at dksX8_law_0 11 rfl rfl)
theorem dX8_law_12 : decode cX8_law 12 = .ok (.getfield 102, 3) := dk_180 0 102 (dk_at dksX8_law_0 12 rfl rfl)
theorem dX8_law_15 : decode cX8_law 15 = .ok (.goto 4, 3) := dk_167 0 4 (dk_at dksX8_law_0 15 rfl rfl)
theorem dX8_law_18 : decode cX8_law 18 = .ok (.iconst (-1), 1) := dk_2 (dk_at dksX8_law_0 18 rfl rfl)
theorem dX8_law_19 : decode cX8_law 19 = .ok (.putfield 33, 3) := dk_181 0 33 (dk_at dksX8_law_0 19 rfl rfl)
theorem dX8_law_22 : decode cX8_law 22 = .ok (.aload_n 0, 1) := dk_42 (dk_at dksX8_law_0 22 rfl rfl)
theorem dX8_law_23 : decode cX8_law 23 = .ok (.iload_n 1, 1) := dk_27 (dk_at dksX8_law_0 23 rfl rfl)
theorem dX8_law_24 : decode cX8_law 24 = .ok (.ifCond .ge 7, 3) := dk_156 0 7 (dk_at dksX8_law_1 0 rfl rfl)
theorem dX8_law_27 : decode cX8_law 27 = .ok (.iconst 1, 1) := dk_4 (dk_at dksX8_law_1 3 rfl rfl)
theorem dX8_law_28 : decode cX8_law 28 = .ok (.goto 4, 3) := dk_167 0 4 (dk_at dksX8_law_1 4 rfl rfl)
theorem dX8_law_31 : decode cX8_law 31 = .ok (.iconst 0, 1) := dk_3 (dk_at dksX8_law_1 7 rfl rfl)
theorem dX8_law_32 : decode cX8_law 32 = .ok (.iconst 1, 1) := dk_4 (dk_at dksX8_law_1 8 rfl rfl)
theorem dX8_law_33 : decode cX8_law 33 = .ok (.invokevirtual 265, 3) := dk_182 1 9 (dk_at dksX8_law_1 9 rfl rfl)
theorem dX8_law_36 : decode cX8_law 36 = .ok (.ifCond .eq 5, 3) := dk_153 0 5 (dk_at dksX8_law_1 12 rfl rfl)
theorem dX8_law_39 : decode cX8_law 39 = .ok (.iconst 0, 1) := dk_3 (dk_at dksX8_law_1 15 rfl rfl)
theorem dX8_law_40 : decode cX8_law 40 = .ok (.ireturn, 1) := dk_172 (dk_at dksX8_law_1 16 rfl rfl)
theorem dX8_law_41 : decode cX8_law 41 = .ok (.aload_n 0, 1) := dk_42 (dk_at dksX8_law_1 17 rfl rfl)
theorem dX8_law_42 : decode cX8_law 42 = .ok (.getfield 13, 3) := dk_180 0 13 (dk_at dksX8_law_1 18 rfl rfl)
theorem dX8_law_45 : decode cX8_law 45 = .ok (.sipush 1331, 3) := dk_17 5 51 (dk_at dksX8_law_1 21 rfl rfl)
theorem dX8_law_48 : decode cX8_law 48 = .ok (.iload_n 1, 1) := dk_27 (dk_at dksX8_law_2 0 rfl rfl)
theorem dX8_law_49 : decode cX8_law 49 = .ok (.iastore, 1) := dk_79 (dk_at dksX8_law_2 1 rfl rfl)
theorem dX8_law_50 : decode cX8_law 50 = .ok (.iconst 0, 1) := dk_3 (dk_at dksX8_law_2 2 rfl rfl)
theorem dX8_law_51 : decode cX8_law 51 = .ok (.istore_n 2, 1) := dk_61 (dk_at dksX8_law_2 3 rfl rfl)
theorem dX8_law_52 : decode cX8_law 52 = .ok (.iload_n 2, 1) := dk_28 (dk_at dksX8_law_2 4 rfl rfl)
theorem dX8_law_53 : decode cX8_law 53 = .ok (.sipush 849, 3) := dk_17 3 81 (dk_at dksX8_law_2 5 rfl rfl)
theorem dX8_law_56 : decode cX8_law 56 = .ok (.if_icmp .ge 29, 3) := dk_162 0 29 (dk_at dksX8_law_2 8 rfl rfl)
theorem dX8_law_59 : decode cX8_law 59 = .ok (.aload_n 0, 1) := dk_42 (dk_at dksX8_law_2 11 rfl rfl)
theorem dX8_law_60 : decode cX8_law 60 = .ok (.getfield 13, 3) := dk_180 0 13 (dk_at dksX8_law_2 12 rfl rfl)
theorem dX8_law_63 : decode cX8_law 63 = .ok (.sipush 482, 3) := dk_17 1 226 (dk_at dksX8_law_2 15 rfl rfl)
theorem dX8_law_66 : decode cX8_law 66 = .ok (.iload_n 2, 1) := dk_28 (dk_at dksX8_law_2 18 rfl rfl)
theorem dX8_law_67 : decode cX8_law 67 = .ok (.iadd, 1) := dk_96 (dk_at dksX8_law_2 19 rfl rfl)
theorem dX8_law_68 : decode cX8_law 68 = .ok (.aload_n 0, 1) := dk_42 (dk_at dksX8_law_2 20 rfl rfl)
theorem dX8_law_69 : decode cX8_law 69 = .ok (.getfield 13, 3) := dk_180 0 13 (dk_at dksX8_law_2 21 rfl rfl)
theorem dX8_law_72 : decode cX8_law 72 = .ok (.sipush 1331, 3) := dk_17 5 51 (dk_at dksX8_law_3 0 rfl rfl)
theorem dX8_law_75 : decode cX8_law 75 = .ok (.iload_n 2, 1) := dk_28 (dk_at dksX8_law_3 3 rfl rfl)
theorem dX8_law_76 : decode cX8_law 76 = .ok (.iadd, 1) := dk_96 (dk_at dksX8_law_3 4 rfl rfl)
theorem dX8_law_77 : decode cX8_law 77 = .ok (.iaload, 1) := dk_46 (dk_at dksX8_law_3 5 rfl rfl)
theorem dX8_law_78 : decode cX8_law 78 = .ok (.iastore, 1) := dk_79 (dk_at dksX8_law_3 6 rfl rfl)
theorem dX8_law_79 : decode cX8_law 79 = .ok (.iinc 2 1, 3) := dk_132 2 1 (dk_at dksX8_law_3 7 rfl rfl)
theorem dX8_law_82 : decode cX8_law 82 = .ok (.goto (-30), 3) := dk_167 255 226 (dk_at dksX8_law_3 10 rfl rfl)
theorem dX8_law_85 : decode cX8_law 85 = .ok (.aload_n 0, 1) := dk_42 (dk_at dksX8_law_3 13 rfl rfl)
theorem dX8_law_86 : decode cX8_law 86 = .ok (.getfield 13, 3) := dk_180 0 13 (dk_at dksX8_law_3 14 rfl rfl)
theorem dX8_law_89 : decode cX8_law 89 = .ok (.iconst 4, 1) := dk_7 (dk_at dksX8_law_3 17 rfl rfl)
theorem dX8_law_90 : decode cX8_law 90 = .ok (.iconst 1, 1) := dk_4 (dk_at dksX8_law_3 18 rfl rfl)
theorem dX8_law_91 : decode cX8_law 91 = .ok (.iastore, 1) := dk_79 (dk_at dksX8_law_3 19 rfl rfl)
theorem dX8_law_92 : decode cX8_law 92 = .ok (.aload_n 0, 1) := dk_42 (dk_at dksX8_law_3 20 rfl rfl)
theorem dX8_law_93 : decode cX8_law 93 = .ok (.iconst 0, 1) := dk_3 (dk_at dksX8_law_3 21 rfl rfl)
theorem dX8_law_94 : decode cX8_law 94 = .ok (.putfield 64, 3) := dk_181 0 64 (dk_at dksX8_law_4 0 rfl rfl)
theorem dX8_law_97 : decode cX8_law 97 = .ok (.iload_n 1, 1) := dk_27 (dk_at dksX8_law_4 3 rfl rfl)
theorem dX8_law_98 : decode cX8_law 98 = .ok (.ireturn, 1) := dk_172 (dk_at dksX8_law_4 4 rfl rfl)
abbrev cX8_moves : ByteArray := prog_18_method_65_code
def yX8_moves : MethodName := ⟨RX8, "moves", "(IIIIZ)I"⟩
def dkwX8_moves_4 : List UInt8 := [182, 1, 63, 172]
abbrev dktX8_moves_4 : List UInt8 := dkwX8_moves_4 ++ []
def dkwX8_moves_3 : List UInt8 := [172, 42, 27, 28, 29, 21, 4, 182, 1, 56, 21, 5, 153, 0, 10, 42, 182, 1, 60, 167, 0, 7, 42]
abbrev dktX8_moves_3 : List UInt8 := dkwX8_moves_3 ++ dktX8_moves_4
def dkwX8_moves_2 : List UInt8 := [21, 4, 3, 16, 7, 184, 0, 78, 154, 0, 7, 4, 167, 0, 4, 3, 5, 182, 1, 9, 153, 0, 5, 3]
abbrev dktX8_moves_2 : List UInt8 := dkwX8_moves_2 ++ dktX8_moves_3
def dkwX8_moves_1 : List UInt8 := [153, 0, 10, 29, 184, 1, 53, 153, 0, 7, 4, 167, 0, 4, 3, 4, 182, 1, 9, 154, 0, 27, 42]
abbrev dktX8_moves_1 : List UInt8 := dkwX8_moves_1 ++ dktX8_moves_2
def dkwX8_moves_0 : List UInt8 := [42, 3, 181, 0, 3, 42, 42, 27, 182, 1, 47, 154, 0, 21, 28, 184, 1, 50, 154, 0, 14, 28]
abbrev dktX8_moves_0 : List UInt8 := dkwX8_moves_0 ++ dktX8_moves_1
theorem dksX8_moves_0 : cX8_moves.data.toList.drop 0 = dktX8_moves_0 := by decide +kernel
theorem dksX8_moves_1 : cX8_moves.data.toList.drop 22 = dktX8_moves_1 := dk_seg dksX8_moves_0 22 rfl rfl
theorem dksX8_moves_2 : cX8_moves.data.toList.drop 45 = dktX8_moves_2 := dk_seg dksX8_moves_1 23 rfl rfl
theorem dksX8_moves_3 : cX8_moves.data.toList.drop 69 = dktX8_moves_3 := dk_seg dksX8_moves_2 24 rfl rfl
theorem dksX8_moves_4 : cX8_moves.data.toList.drop 92 = dktX8_moves_4 := dk_seg dksX8_moves_3 23 rfl rfl
theorem dX8_moves_0 : decode cX8_moves 0 = .ok (.aload_n 0, 1) := dk_42 (dk_at dksX8_moves_0 0 rfl rfl)
theorem dX8_moves_1 : decode cX8_moves 1 = .ok (.iconst 0, 1) := dk_3 (dk_at dksX8_moves_0 1 rfl rfl)
theorem dX8_moves_2 : decode cX8_moves 2 = .ok (.putfield 3, 3) := dk_181 0 3 (dk_at dksX8_moves_0 2 rfl rfl)
theorem dX8_moves_5 : decode cX8_moves 5 = .ok (.aload_n 0, 1) := dk_42 (dk_at dksX8_moves_0 5 rfl rfl)
theorem dX8_moves_6 : decode cX8_moves 6 = .ok (.aload_n 0, 1) := dk_42 (dk_at dksX8_moves_0 6 rfl rfl)
theorem dX8_moves_7 : decode cX8_moves 7 = .ok (.iload_n 1, 1) := dk_27 (dk_at dksX8_moves_0 7 rfl rfl)
theorem dX8_moves_8 : decode cX8_moves 8 = .ok (.invokevirtual 303, 3) := dk_182 1 47 (dk_at dksX8_moves_0 8 rfl rfl)
theorem dX8_moves_11 : decode cX8_moves 11 = .ok (.ifCond .ne 21, 3) := dk_154 0 21 (dk_at dksX8_moves_0 11 rfl rfl)
theorem dX8_moves_14 : decode cX8_moves 14 = .ok (.iload_n 2, 1) := dk_28 (dk_at dksX8_moves_0 14 rfl rfl)
theorem dX8_moves_15 : decode cX8_moves 15 = .ok (.invokestatic 306, 3) := dk_184 1 50 (dk_at dksX8_moves_0 15 rfl rfl)
theorem dX8_moves_18 : decode cX8_moves 18 = .ok (.ifCond .ne 14, 3) := dk_154 0 14 (dk_at dksX8_moves_0 18 rfl rfl)
theorem dX8_moves_21 : decode cX8_moves 21 = .ok (.iload_n 2, 1) := dk_28 (dk_at dksX8_moves_0 21 rfl rfl)
theorem dX8_moves_22 : decode cX8_moves 22 = .ok (.ifCond .eq 10, 3) := dk_153 0 10 (dk_at dksX8_moves_1 0 rfl rfl)
theorem dX8_moves_25 : decode cX8_moves 25 = .ok (.iload_n 3, 1) := dk_29 (dk_at dksX8_moves_1 3 rfl rfl)
theorem dX8_moves_26 : decode cX8_moves 26 = .ok (.invokestatic 309, 3) := dk_184 1 53 (dk_at dksX8_moves_1 4 rfl rfl)
theorem dX8_moves_29 : decode cX8_moves 29 = .ok (.ifCond .eq 7, 3) := dk_153 0 7 (dk_at dksX8_moves_1 7 rfl rfl)
theorem dX8_moves_32 : decode cX8_moves 32 = .ok (.iconst 1, 1) := dk_4 (dk_at dksX8_moves_1 10 rfl rfl)
theorem dX8_moves_33 : decode cX8_moves 33 = .ok (.goto 4, 3) := dk_167 0 4 (dk_at dksX8_moves_1 11 rfl rfl)
theorem dX8_moves_36 : decode cX8_moves 36 = .ok (.iconst 0, 1) := dk_3 (dk_at dksX8_moves_1 14 rfl rfl)
theorem dX8_moves_37 : decode cX8_moves 37 = .ok (.iconst 1, 1) := dk_4 (dk_at dksX8_moves_1 15 rfl rfl)
theorem dX8_moves_38 : decode cX8_moves 38 = .ok (.invokevirtual 265, 3) := dk_182 1 9 (dk_at dksX8_moves_1 16 rfl rfl)
theorem dX8_moves_41 : decode cX8_moves 41 = .ok (.ifCond .ne 27, 3) := dk_154 0 27 (dk_at dksX8_moves_1 19 rfl rfl)
theorem dX8_moves_44 : decode cX8_moves 44 = .ok (.aload_n 0, 1) := dk_42 (dk_at dksX8_moves_1 22 rfl rfl)
theorem dX8_moves_45 : decode cX8_moves 45 = .ok (.iload 4, 2) := dk_21 4 (dk_at dksX8_moves_2 0 rfl rfl)
theorem dX8_moves_47 : decode cX8_moves 47 = .ok (.iconst 0, 1) := dk_3 (dk_at dksX8_moves_2 2 rfl rfl)
theorem dX8_moves_48 : decode cX8_moves 48 = .ok (.bipush 7, 2) := dk_16 7 (dk_at dksX8_moves_2 3 rfl rfl)
theorem dX8_moves_50 : decode cX8_moves 50 = .ok (.invokestatic 78, 3) := dk_184 0 78 (dk_at dksX8_moves_2 5 rfl rfl)
theorem dX8_moves_53 : decode cX8_moves 53 = .ok (.ifCond .ne 7, 3) := dk_154 0 7 (dk_at dksX8_moves_2 8 rfl rfl)
theorem dX8_moves_56 : decode cX8_moves 56 = .ok (.iconst 1, 1) := dk_4 (dk_at dksX8_moves_2 11 rfl rfl)
theorem dX8_moves_57 : decode cX8_moves 57 = .ok (.goto 4, 3) := dk_167 0 4 (dk_at dksX8_moves_2 12 rfl rfl)
theorem dX8_moves_60 : decode cX8_moves 60 = .ok (.iconst 0, 1) := dk_3 (dk_at dksX8_moves_2 15 rfl rfl)
theorem dX8_moves_61 : decode cX8_moves 61 = .ok (.iconst 2, 1) := dk_5 (dk_at dksX8_moves_2 16 rfl rfl)
theorem dX8_moves_62 : decode cX8_moves 62 = .ok (.invokevirtual 265, 3) := dk_182 1 9 (dk_at dksX8_moves_2 17 rfl rfl)
theorem dX8_moves_65 : decode cX8_moves 65 = .ok (.ifCond .eq 5, 3) := dk_153 0 5 (dk_at dksX8_moves_2 20 rfl rfl)
theorem dX8_moves_68 : decode cX8_moves 68 = .ok (.iconst 0, 1) := dk_3 (dk_at dksX8_moves_2 23 rfl rfl)
theorem dX8_moves_69 : decode cX8_moves 69 = .ok (.ireturn, 1) := dk_172 (dk_at dksX8_moves_3 0 rfl rfl)
theorem dX8_moves_70 : decode cX8_moves 70 = .ok (.aload_n 0, 1) := dk_42 (dk_at dksX8_moves_3 1 rfl rfl)
theorem dX8_moves_71 : decode cX8_moves 71 = .ok (.iload_n 1, 1) := dk_27 (dk_at dksX8_moves_3 2 rfl rfl)
theorem dX8_moves_72 : decode cX8_moves 72 = .ok (.iload_n 2, 1) := dk_28 (dk_at dksX8_moves_3 3 rfl rfl)
theorem dX8_moves_73 : decode cX8_moves 73 = .ok (.iload_n 3, 1) := dk_29 (dk_at dksX8_moves_3 4 rfl rfl)
theorem dX8_moves_74 : decode cX8_moves 74 = .ok (.iload 4, 2) := dk_21 4 (dk_at dksX8_moves_3 5 rfl rfl)
theorem dX8_moves_76 : decode cX8_moves 76 = .ok (.invokevirtual 312, 3) := dk_182 1 56 (dk_at dksX8_moves_3 7 rfl rfl)
theorem dX8_moves_79 : decode cX8_moves 79 = .ok (.iload 5, 2) := dk_21 5 (dk_at dksX8_moves_3 10 rfl rfl)
theorem dX8_moves_81 : decode cX8_moves 81 = .ok (.ifCond .eq 10, 3) := dk_153 0 10 (dk_at dksX8_moves_3 12 rfl rfl)
theorem dX8_moves_84 : decode cX8_moves 84 = .ok (.aload_n 0, 1) := dk_42 (dk_at dksX8_moves_3 15 rfl rfl)
theorem dX8_moves_85 : decode cX8_moves 85 = .ok (.invokevirtual 316, 3) := dk_182 1 60 (dk_at dksX8_moves_3 16 rfl rfl)
theorem dX8_moves_88 : decode cX8_moves 88 = .ok (.goto 7, 3) := dk_167 0 7 (dk_at dksX8_moves_3 19 rfl rfl)
theorem dX8_moves_91 : decode cX8_moves 91 = .ok (.aload_n 0, 1) := dk_42 (dk_at dksX8_moves_3 22 rfl rfl)
theorem dX8_moves_92 : decode cX8_moves 92 = .ok (.invokevirtual 319, 3) := dk_182 1 63 (dk_at dksX8_moves_4 0 rfl rfl)
theorem dX8_moves_95 : decode cX8_moves 95 = .ok (.ireturn, 1) := dk_172 (dk_at dksX8_moves_4 3 rfl rfl)
abbrev cX8_noBird : ByteArray := prog_18_method_18_code
def yX8_noBird : MethodName := ⟨RX8, "noBird", "(I)Z"⟩
def dkwX8_noBird_0 : List UInt8 := [27, 3, 42, 182, 0, 74, 4, 100, 184, 0, 78, 154, 0, 7, 4, 167, 0, 4, 3, 172]
abbrev dktX8_noBird_0 : List UInt8 := dkwX8_noBird_0 ++ []
theorem dksX8_noBird_0 : cX8_noBird.data.toList.drop 0 = dktX8_noBird_0 := by decide +kernel
theorem dX8_noBird_0 : decode cX8_noBird 0 = .ok (.iload_n 1, 1) := dk_27 (dk_at dksX8_noBird_0 0 rfl rfl)
theorem dX8_noBird_1 : decode cX8_noBird 1 = .ok (.iconst 0, 1) := dk_3 (dk_at dksX8_noBird_0 1 rfl rfl)
theorem dX8_noBird_2 : decode cX8_noBird 2 = .ok (.aload_n 0, 1) := dk_42 (dk_at dksX8_noBird_0 2 rfl rfl)
theorem dX8_noBird_3 : decode cX8_noBird 3 = .ok (.invokevirtual 74, 3) := dk_182 0 74 (dk_at dksX8_noBird_0 3 rfl rfl)
theorem dX8_noBird_6 : decode cX8_noBird 6 = .ok (.iconst 1, 1) := dk_4 (dk_at dksX8_noBird_0 6 rfl rfl)
theorem dX8_noBird_7 : decode cX8_noBird 7 = .ok (.isub, 1) := dk_100 (dk_at dksX8_noBird_0 7 rfl rfl)
theorem dX8_noBird_8 : decode cX8_noBird 8 = .ok (.invokestatic 78, 3) := dk_184 0 78 (dk_at dksX8_noBird_0 8 rfl rfl)
theorem dX8_noBird_11 : decode cX8_noBird 11 = .ok (.ifCond .ne 7, 3) := dk_154 0 7 (dk_at dksX8_noBird_0 11 rfl rfl)
theorem dX8_noBird_14 : decode cX8_noBird 14 = .ok (.iconst 1, 1) := dk_4 (dk_at dksX8_noBird_0 14 rfl rfl)
theorem dX8_noBird_15 : decode cX8_noBird 15 = .ok (.goto 4, 3) := dk_167 0 4 (dk_at dksX8_noBird_0 15 rfl rfl)
theorem dX8_noBird_18 : decode cX8_noBird 18 = .ok (.iconst 0, 1) := dk_3 (dk_at dksX8_noBird_0 18 rfl rfl)
theorem dX8_noBird_19 : decode cX8_noBird 19 = .ok (.ireturn, 1) := dk_172 (dk_at dksX8_noBird_0 19 rfl rfl)
abbrev cX8_noLevel : ByteArray := prog_18_method_21_code
def yX8_noLevel : MethodName := ⟨RX8, "noLevel", "(I)Z"⟩
def dkwX8_noLevel_0 : List UInt8 := [26, 3, 16, 12, 184, 0, 78, 154, 0, 7, 4, 167, 0, 4, 3, 172]
abbrev dktX8_noLevel_0 : List UInt8 := dkwX8_noLevel_0 ++ []
theorem dksX8_noLevel_0 : cX8_noLevel.data.toList.drop 0 = dktX8_noLevel_0 := by decide +kernel
theorem dX8_noLevel_0 : decode cX8_noLevel 0 = .ok (.iload_n 0, 1) := dk_26 (dk_at dksX8_noLevel_0 0 rfl rfl)
theorem dX8_noLevel_1 : decode cX8_noLevel 1 = .ok (.iconst 0, 1) := dk_3 (dk_at dksX8_noLevel_0 1 rfl rfl)
theorem dX8_noLevel_2 : decode cX8_noLevel 2 = .ok (.bipush 12, 2) := dk_16 12 (dk_at dksX8_noLevel_0 2 rfl rfl)
theorem dX8_noLevel_4 : decode cX8_noLevel 4 = .ok (.invokestatic 78, 3) := dk_184 0 78 (dk_at dksX8_noLevel_0 4 rfl rfl)
theorem dX8_noLevel_7 : decode cX8_noLevel 7 = .ok (.ifCond .ne 7, 3) := dk_154 0 7 (dk_at dksX8_noLevel_0 7 rfl rfl)
theorem dX8_noLevel_10 : decode cX8_noLevel 10 = .ok (.iconst 1, 1) := dk_4 (dk_at dksX8_noLevel_0 10 rfl rfl)
theorem dX8_noLevel_11 : decode cX8_noLevel 11 = .ok (.goto 4, 3) := dk_167 0 4 (dk_at dksX8_noLevel_0 11 rfl rfl)
theorem dX8_noLevel_14 : decode cX8_noLevel 14 = .ok (.iconst 0, 1) := dk_3 (dk_at dksX8_noLevel_0 14 rfl rfl)
theorem dX8_noLevel_15 : decode cX8_noLevel 15 = .ok (.ireturn, 1) := dk_172 (dk_at dksX8_noLevel_0 15 rfl rfl)
abbrev cX8_noColumn : ByteArray := prog_18_method_22_code
def yX8_noColumn : MethodName := ⟨RX8, "noColumn", "(I)Z"⟩
def dkwX8_noColumn_0 : List UInt8 := [26, 3, 16, 15, 184, 0, 78, 154, 0, 7, 4, 167, 0, 4, 3, 172]
abbrev dktX8_noColumn_0 : List UInt8 := dkwX8_noColumn_0 ++ []
theorem dksX8_noColumn_0 : cX8_noColumn.data.toList.drop 0 = dktX8_noColumn_0 := by decide +kernel
theorem dX8_noColumn_0 : decode cX8_noColumn 0 = .ok (.iload_n 0, 1) := dk_26 (dk_at dksX8_noColumn_0 0 rfl rfl)
theorem dX8_noColumn_1 : decode cX8_noColumn 1 = .ok (.iconst 0, 1) := dk_3 (dk_at dksX8_noColumn_0 1 rfl rfl)
theorem dX8_noColumn_2 : decode cX8_noColumn 2 = .ok (.bipush 15, 2) := dk_16 15 (dk_at dksX8_noColumn_0 2 rfl rfl)
theorem dX8_noColumn_4 : decode cX8_noColumn 4 = .ok (.invokestatic 78, 3) := dk_184 0 78 (dk_at dksX8_noColumn_0 4 rfl rfl)
theorem dX8_noColumn_7 : decode cX8_noColumn 7 = .ok (.ifCond .ne 7, 3) := dk_154 0 7 (dk_at dksX8_noColumn_0 7 rfl rfl)
theorem dX8_noColumn_10 : decode cX8_noColumn 10 = .ok (.iconst 1, 1) := dk_4 (dk_at dksX8_noColumn_0 10 rfl rfl)
theorem dX8_noColumn_11 : decode cX8_noColumn 11 = .ok (.goto 4, 3) := dk_167 0 4 (dk_at dksX8_noColumn_0 11 rfl rfl)
theorem dX8_noColumn_14 : decode cX8_noColumn 14 = .ok (.iconst 0, 1) := dk_3 (dk_at dksX8_noColumn_0 14 rfl rfl)
theorem dX8_noColumn_15 : decode cX8_noColumn 15 = .ok (.ireturn, 1) := dk_172 (dk_at dksX8_noColumn_0 15 rfl rfl)
abbrev cX8_looks : ByteArray := prog_18_method_61_code
def yX8_looks : MethodName := ⟨RX8, "looks", "(IIII)V"⟩
def dkwX8_looks_0 : List UInt8 := [42, 27, 181, 1, 12, 42, 28, 181, 1, 15, 42, 29, 181, 1, 18, 42, 21, 4, 181, 1, 24, 177]
abbrev dktX8_looks_0 : List UInt8 := dkwX8_looks_0 ++ []
theorem dksX8_looks_0 : cX8_looks.data.toList.drop 0 = dktX8_looks_0 := by decide +kernel
theorem dX8_looks_0 : decode cX8_looks 0 = .ok (.aload_n 0, 1) := dk_42 (dk_at dksX8_looks_0 0 rfl rfl)
theorem dX8_looks_1 : decode cX8_looks 1 = .ok (.iload_n 1, 1) := dk_27 (dk_at dksX8_looks_0 1 rfl rfl)
theorem dX8_looks_2 : decode cX8_looks 2 = .ok (.putfield 268, 3) := dk_181 1 12 (dk_at dksX8_looks_0 2 rfl rfl)
theorem dX8_looks_5 : decode cX8_looks 5 = .ok (.aload_n 0, 1) := dk_42 (dk_at dksX8_looks_0 5 rfl rfl)
theorem dX8_looks_6 : decode cX8_looks 6 = .ok (.iload_n 2, 1) := dk_28 (dk_at dksX8_looks_0 6 rfl rfl)
theorem dX8_looks_7 : decode cX8_looks 7 = .ok (.putfield 271, 3) := dk_181 1 15 (dk_at dksX8_looks_0 7 rfl rfl)
theorem dX8_looks_10 : decode cX8_looks 10 = .ok (.aload_n 0, 1) := dk_42 (dk_at dksX8_looks_0 10 rfl rfl)
theorem dX8_looks_11 : decode cX8_looks 11 = .ok (.iload_n 3, 1) := dk_29 (dk_at dksX8_looks_0 11 rfl rfl)
theorem dX8_looks_12 : decode cX8_looks 12 = .ok (.putfield 274, 3) := dk_181 1 18 (dk_at dksX8_looks_0 12 rfl rfl)
theorem dX8_looks_15 : decode cX8_looks 15 = .ok (.aload_n 0, 1) := dk_42 (dk_at dksX8_looks_0 15 rfl rfl)
theorem dX8_looks_16 : decode cX8_looks 16 = .ok (.iload 4, 2) := dk_21 4 (dk_at dksX8_looks_0 16 rfl rfl)
theorem dX8_looks_18 : decode cX8_looks 18 = .ok (.putfield 280, 3) := dk_181 1 24 (dk_at dksX8_looks_0 18 rfl rfl)
theorem dX8_looks_21 : decode cX8_looks 21 = .ok (.return_, 1) := dk_177 (dk_at dksX8_looks_0 21 rfl rfl)
abbrev cX8_carries : ByteArray := prog_18_method_63_code
def yX8_carries : MethodName := ⟨RX8, "carries", "()I"⟩
def dkwX8_carries_1 : List UInt8 := [182, 1, 36, 96, 42, 6, 182, 1, 36, 100, 172]
abbrev dktX8_carries_1 : List UInt8 := dkwX8_carries_1 ++ []
def dkwX8_carries_0 : List UInt8 := [42, 180, 0, 13, 16, 13, 42, 180, 1, 15, 96, 46, 42, 42, 180, 1, 12, 4, 182, 1, 21, 104, 42, 5]
abbrev dktX8_carries_0 : List UInt8 := dkwX8_carries_0 ++ dktX8_carries_1
theorem dksX8_carries_0 : cX8_carries.data.toList.drop 0 = dktX8_carries_0 := by decide +kernel
theorem dksX8_carries_1 : cX8_carries.data.toList.drop 24 = dktX8_carries_1 := dk_seg dksX8_carries_0 24 rfl rfl
theorem dX8_carries_0 : decode cX8_carries 0 = .ok (.aload_n 0, 1) := dk_42 (dk_at dksX8_carries_0 0 rfl rfl)
theorem dX8_carries_1 : decode cX8_carries 1 = .ok (.getfield 13, 3) := dk_180 0 13 (dk_at dksX8_carries_0 1 rfl rfl)
theorem dX8_carries_4 : decode cX8_carries 4 = .ok (.bipush 13, 2) := dk_16 13 (dk_at dksX8_carries_0 4 rfl rfl)
theorem dX8_carries_6 : decode cX8_carries 6 = .ok (.aload_n 0, 1) := dk_42 (dk_at dksX8_carries_0 6 rfl rfl)
theorem dX8_carries_7 : decode cX8_carries 7 = .ok (.getfield 271, 3) := dk_180 1 15 (dk_at dksX8_carries_0 7 rfl rfl)
theorem dX8_carries_10 : decode cX8_carries 10 = .ok (.iadd, 1) := dk_96 (dk_at dksX8_carries_0 10 rfl rfl)
theorem dX8_carries_11 : decode cX8_carries 11 = .ok (.iaload, 1) := dk_46 (dk_at dksX8_carries_0 11 rfl rfl)
theorem dX8_carries_12 : decode cX8_carries 12 = .ok (.aload_n 0, 1) := dk_42 (dk_at dksX8_carries_0 12 rfl rfl)
theorem dX8_carries_13 : decode cX8_carries 13 = .ok (.aload_n 0, 1) := dk_42 (dk_at dksX8_carries_0 13 rfl rfl)
theorem dX8_carries_14 : decode cX8_carries 14 = .ok (.getfield 268, 3) := dk_180 1 12 (dk_at dksX8_carries_0 14 rfl rfl)
theorem dX8_carries_17 : decode cX8_carries 17 = .ok (.iconst 1, 1) := dk_4 (dk_at dksX8_carries_0 17 rfl rfl)
theorem dX8_carries_18 : decode cX8_carries 18 = .ok (.invokevirtual 277, 3) := dk_182 1 21 (dk_at dksX8_carries_0 18 rfl rfl)
theorem dX8_carries_21 : decode cX8_carries 21 = .ok (.imul, 1) := dk_104 (dk_at dksX8_carries_0 21 rfl rfl)
theorem dX8_carries_22 : decode cX8_carries 22 = .ok (.aload_n 0, 1) := dk_42 (dk_at dksX8_carries_0 22 rfl rfl)
theorem dX8_carries_23 : decode cX8_carries 23 = .ok (.iconst 2, 1) := dk_5 (dk_at dksX8_carries_0 23 rfl rfl)
theorem dX8_carries_24 : decode cX8_carries 24 = .ok (.invokevirtual 292, 3) := dk_182 1 36 (dk_at dksX8_carries_1 0 rfl rfl)
theorem dX8_carries_27 : decode cX8_carries 27 = .ok (.iadd, 1) := dk_96 (dk_at dksX8_carries_1 3 rfl rfl)
theorem dX8_carries_28 : decode cX8_carries 28 = .ok (.aload_n 0, 1) := dk_42 (dk_at dksX8_carries_1 4 rfl rfl)
theorem dX8_carries_29 : decode cX8_carries 29 = .ok (.iconst 3, 1) := dk_6 (dk_at dksX8_carries_1 5 rfl rfl)
theorem dX8_carries_30 : decode cX8_carries 30 = .ok (.invokevirtual 292, 3) := dk_182 1 36 (dk_at dksX8_carries_1 6 rfl rfl)
theorem dX8_carries_33 : decode cX8_carries 33 = .ok (.isub, 1) := dk_100 (dk_at dksX8_carries_1 9 rfl rfl)
theorem dX8_carries_34 : decode cX8_carries 34 = .ok (.ireturn, 1) := dk_172 (dk_at dksX8_carries_1 10 rfl rfl)
abbrev cX8_ofBird : ByteArray := prog_18_method_13_code
def yX8_ofBird : MethodName := ⟨RX8, "ofBird", "(II)I"⟩
def dkwX8_ofBird_0 : List UInt8 := [42, 180, 0, 13, 16, 26, 7, 27, 104, 96, 28, 96, 46, 172]
abbrev dktX8_ofBird_0 : List UInt8 := dkwX8_ofBird_0 ++ []
theorem dksX8_ofBird_0 : cX8_ofBird.data.toList.drop 0 = dktX8_ofBird_0 := by decide +kernel
theorem dX8_ofBird_0 : decode cX8_ofBird 0 = .ok (.aload_n 0, 1) := dk_42 (dk_at dksX8_ofBird_0 0 rfl rfl)
theorem dX8_ofBird_1 : decode cX8_ofBird 1 = .ok (.getfield 13, 3) := dk_180 0 13 (dk_at dksX8_ofBird_0 1 rfl rfl)
theorem dX8_ofBird_4 : decode cX8_ofBird 4 = .ok (.bipush 26, 2) := dk_16 26 (dk_at dksX8_ofBird_0 4 rfl rfl)
theorem dX8_ofBird_6 : decode cX8_ofBird 6 = .ok (.iconst 4, 1) := dk_7 (dk_at dksX8_ofBird_0 6 rfl rfl)
theorem dX8_ofBird_7 : decode cX8_ofBird 7 = .ok (.iload_n 1, 1) := dk_27 (dk_at dksX8_ofBird_0 7 rfl rfl)
theorem dX8_ofBird_8 : decode cX8_ofBird 8 = .ok (.imul, 1) := dk_104 (dk_at dksX8_ofBird_0 8 rfl rfl)
theorem dX8_ofBird_9 : decode cX8_ofBird 9 = .ok (.iadd, 1) := dk_96 (dk_at dksX8_ofBird_0 9 rfl rfl)
theorem dX8_ofBird_10 : decode cX8_ofBird 10 = .ok (.iload_n 2, 1) := dk_28 (dk_at dksX8_ofBird_0 10 rfl rfl)
theorem dX8_ofBird_11 : decode cX8_ofBird 11 = .ok (.iadd, 1) := dk_96 (dk_at dksX8_ofBird_0 11 rfl rfl)
theorem dX8_ofBird_12 : decode cX8_ofBird 12 = .ok (.iaload, 1) := dk_46 (dk_at dksX8_ofBird_0 12 rfl rfl)
theorem dX8_ofBird_13 : decode cX8_ofBird 13 = .ok (.ireturn, 1) := dk_172 (dk_at dksX8_ofBird_0 13 rfl rfl)
abbrev cX8_sumOf : ByteArray := prog_18_method_60_code
def yX8_sumOf : MethodName := ⟨RX8, "sumOf", "(I)I"⟩
def dkwX8_sumOf_3 : List UInt8 := [167, 255, 190, 28, 172]
abbrev dktX8_sumOf_3 : List UInt8 := dkwX8_sumOf_3 ++ []
def dkwX8_sumOf_2 : List UInt8 := [153, 0, 20, 28, 42, 180, 0, 13, 17, 1, 227, 7, 29, 104, 96, 4, 96, 46, 96, 61, 132, 3, 1]
abbrev dktX8_sumOf_2 : List UInt8 := dkwX8_sumOf_2 ++ dktX8_sumOf_3
def dkwX8_sumOf_1 : List UInt8 := [162, 0, 50, 42, 180, 0, 13, 17, 1, 227, 7, 29, 104, 96, 46, 27, 160, 0, 28, 42, 29, 182, 1, 33]
abbrev dktX8_sumOf_1 : List UInt8 := dkwX8_sumOf_1 ++ dktX8_sumOf_2
def dkwX8_sumOf_0 : List UInt8 := [3, 61, 3, 62, 42, 180, 0, 13, 7, 46, 4, 160, 0, 62, 29, 42, 180, 0, 13, 17, 1, 226, 46]
abbrev dktX8_sumOf_0 : List UInt8 := dkwX8_sumOf_0 ++ dktX8_sumOf_1
theorem dksX8_sumOf_0 : cX8_sumOf.data.toList.drop 0 = dktX8_sumOf_0 := by decide +kernel
theorem dksX8_sumOf_1 : cX8_sumOf.data.toList.drop 23 = dktX8_sumOf_1 := dk_seg dksX8_sumOf_0 23 rfl rfl
theorem dksX8_sumOf_2 : cX8_sumOf.data.toList.drop 47 = dktX8_sumOf_2 := dk_seg dksX8_sumOf_1 24 rfl rfl
theorem dksX8_sumOf_3 : cX8_sumOf.data.toList.drop 70 = dktX8_sumOf_3 := dk_seg dksX8_sumOf_2 23 rfl rfl
theorem dX8_sumOf_0 : decode cX8_sumOf 0 = .ok (.iconst 0, 1) := dk_3 (dk_at dksX8_sumOf_0 0 rfl rfl)
theorem dX8_sumOf_1 : decode cX8_sumOf 1 = .ok (.istore_n 2, 1) := dk_61 (dk_at dksX8_sumOf_0 1 rfl rfl)
theorem dX8_sumOf_2 : decode cX8_sumOf 2 = .ok (.iconst 0, 1) := dk_3 (dk_at dksX8_sumOf_0 2 rfl rfl)
theorem dX8_sumOf_3 : decode cX8_sumOf 3 = .ok (.istore_n 3, 1) := dk_62 (dk_at dksX8_sumOf_0 3 rfl rfl)
theorem dX8_sumOf_4 : decode cX8_sumOf 4 = .ok (.aload_n 0, 1) := dk_42 (dk_at dksX8_sumOf_0 4 rfl rfl)
theorem dX8_sumOf_5 : decode cX8_sumOf 5 = .ok (.getfield 13, 3) := dk_180 0 13 (dk_at dksX8_sumOf_0 5 rfl rfl)
theorem dX8_sumOf_8 : decode cX8_sumOf 8 = .ok (.iconst 4, 1) := dk_7 (dk_at dksX8_sumOf_0 8 rfl rfl)
theorem dX8_sumOf_9 : decode cX8_sumOf 9 = .ok (.iaload, 1) := dk_46 (dk_at dksX8_sumOf_0 9 rfl rfl)
theorem dX8_sumOf_10 : decode cX8_sumOf 10 = .ok (.iconst 1, 1) := dk_4 (dk_at dksX8_sumOf_0 10 rfl rfl)
theorem dX8_sumOf_11 : decode cX8_sumOf 11 = .ok (.if_icmp .ne 62, 3) := dk_160 0 62 (dk_at dksX8_sumOf_0 11 rfl rfl)
theorem dX8_sumOf_14 : decode cX8_sumOf 14 = .ok (.iload_n 3, 1) := dk_29 (dk_at dksX8_sumOf_0 14 rfl rfl)
theorem dX8_sumOf_15 : decode cX8_sumOf 15 = .ok (.aload_n 0, 1) := dk_42 (dk_at dksX8_sumOf_0 15 rfl rfl)
theorem dX8_sumOf_16 : decode cX8_sumOf 16 = .ok (.getfield 13, 3) := dk_180 0 13 (dk_at dksX8_sumOf_0 16 rfl rfl)
theorem dX8_sumOf_19 : decode cX8_sumOf 19 = .ok (.sipush 482, 3) := dk_17 1 226 (dk_at dksX8_sumOf_0 19 rfl rfl)
theorem dX8_sumOf_22 : decode cX8_sumOf 22 = .ok (.iaload, 1) := dk_46 (dk_at dksX8_sumOf_0 22 rfl rfl)
theorem dX8_sumOf_23 : decode cX8_sumOf 23 = .ok (.if_icmp .ge 50, 3) := dk_162 0 50 (dk_at dksX8_sumOf_1 0 rfl rfl)
theorem dX8_sumOf_26 : decode cX8_sumOf 26 = .ok (.aload_n 0, 1) := dk_42 (dk_at dksX8_sumOf_1 3 rfl rfl)
theorem dX8_sumOf_27 : decode cX8_sumOf 27 = .ok (.getfield 13, 3) := dk_180 0 13 (dk_at dksX8_sumOf_1 4 rfl rfl)
theorem dX8_sumOf_30 : decode cX8_sumOf 30 = .ok (.sipush 483, 3) := dk_17 1 227 (dk_at dksX8_sumOf_1 7 rfl rfl)
theorem dX8_sumOf_33 : decode cX8_sumOf 33 = .ok (.iconst 4, 1) := dk_7 (dk_at dksX8_sumOf_1 10 rfl rfl)
theorem dX8_sumOf_34 : decode cX8_sumOf 34 = .ok (.iload_n 3, 1) := dk_29 (dk_at dksX8_sumOf_1 11 rfl rfl)
theorem dX8_sumOf_35 : decode cX8_sumOf 35 = .ok (.imul, 1) := dk_104 (dk_at dksX8_sumOf_1 12 rfl rfl)
theorem dX8_sumOf_36 : decode cX8_sumOf 36 = .ok (.iadd, 1) := dk_96 (dk_at dksX8_sumOf_1 13 rfl rfl)
theorem dX8_sumOf_37 : decode cX8_sumOf 37 = .ok (.iaload, 1) := dk_46 (dk_at dksX8_sumOf_1 14 rfl rfl)
theorem dX8_sumOf_38 : decode cX8_sumOf 38 = .ok (.iload_n 1, 1) := dk_27 (dk_at dksX8_sumOf_1 15 rfl rfl)
theorem dX8_sumOf_39 : decode cX8_sumOf 39 = .ok (.if_icmp .ne 28, 3) := dk_160 0 28 (dk_at dksX8_sumOf_1 16 rfl rfl)
theorem dX8_sumOf_42 : decode cX8_sumOf 42 = .ok (.aload_n 0, 1) := dk_42 (dk_at dksX8_sumOf_1 19 rfl rfl)
theorem dX8_sumOf_43 : decode cX8_sumOf 43 = .ok (.iload_n 3, 1) := dk_29 (dk_at dksX8_sumOf_1 20 rfl rfl)
theorem dX8_sumOf_44 : decode cX8_sumOf 44 = .ok (.invokevirtual 289, 3) := dk_182 1 33 (dk_at dksX8_sumOf_1 21 rfl rfl)
theorem dX8_sumOf_47 : decode cX8_sumOf 47 = .ok (.ifCond .eq 20, 3) := dk_153 0 20 (dk_at dksX8_sumOf_2 0 rfl rfl)
theorem dX8_sumOf_50 : decode cX8_sumOf 50 = .ok (.iload_n 2, 1) := dk_28 (dk_at dksX8_sumOf_2 3 rfl rfl)
theorem dX8_sumOf_51 : decode cX8_sumOf 51 = .ok (.aload_n 0, 1) := dk_42 (dk_at dksX8_sumOf_2 4 rfl rfl)
theorem dX8_sumOf_52 : decode cX8_sumOf 52 = .ok (.getfield 13, 3) := dk_180 0 13 (dk_at dksX8_sumOf_2 5 rfl rfl)
theorem dX8_sumOf_55 : decode cX8_sumOf 55 = .ok (.sipush 483, 3) := dk_17 1 227 (dk_at dksX8_sumOf_2 8 rfl rfl)
theorem dX8_sumOf_58 : decode cX8_sumOf 58 = .ok (.iconst 4, 1) := dk_7 (dk_at dksX8_sumOf_2 11 rfl rfl)
theorem dX8_sumOf_59 : decode cX8_sumOf 59 = .ok (.iload_n 3, 1) := dk_29 (dk_at dksX8_sumOf_2 12 rfl rfl)
theorem dX8_sumOf_60 : decode cX8_sumOf 60 = .ok (.imul, 1) := dk_104 (dk_at dksX8_sumOf_2 13 rfl rfl)
theorem dX8_sumOf_61 : decode cX8_sumOf 61 = .ok (.iadd, 1) := dk_96 (dk_at dksX8_sumOf_2 14 rfl rfl)
theorem dX8_sumOf_62 : decode cX8_sumOf 62 = .ok (.iconst 1, 1) := dk_4 (dk_at dksX8_sumOf_2 15 rfl rfl)
theorem dX8_sumOf_63 : decode cX8_sumOf 63 = .ok (.iadd, 1) := dk_96 (dk_at dksX8_sumOf_2 16 rfl rfl)
theorem dX8_sumOf_64 : decode cX8_sumOf 64 = .ok (.iaload, 1) := dk_46 (dk_at dksX8_sumOf_2 17 rfl rfl)
theorem dX8_sumOf_65 : decode cX8_sumOf 65 = .ok (.iadd, 1) := dk_96 (dk_at dksX8_sumOf_2 18 rfl rfl)
theorem dX8_sumOf_66 : decode cX8_sumOf 66 = .ok (.istore_n 2, 1) := dk_61 (dk_at dksX8_sumOf_2 19 rfl rfl)
theorem dX8_sumOf_67 : decode cX8_sumOf 67 = .ok (.iinc 3 1, 3) := dk_132 3 1 (dk_at dksX8_sumOf_2 20 rfl rfl)
theorem dX8_sumOf_70 : decode cX8_sumOf 70 = .ok (.goto (-66), 3) := dk_167 255 190 (dk_at dksX8_sumOf_3 0 rfl rfl)
theorem dX8_sumOf_73 : decode cX8_sumOf 73 = .ok (.iload_n 2, 1) := dk_28 (dk_at dksX8_sumOf_3 3 rfl rfl)
theorem dX8_sumOf_74 : decode cX8_sumOf 74 = .ok (.ireturn, 1) := dk_172 (dk_at dksX8_sumOf_3 4 rfl rfl)
abbrev cX8_holdsLine : ByteArray := prog_18_method_59_code
def yX8_holdsLine : MethodName := ⟨RX8, "holdsLine", "(I)Z"⟩
def dkwX8_holdsLine_12 : List UInt8 := [3, 172]
abbrev dktX8_holdsLine_12 : List UInt8 := dkwX8_holdsLine_12 ++ []
def dkwX8_holdsLine_11 : List UInt8 := [132, 4, 1, 167, 255, 20, 28, 153, 0, 13, 42, 180, 0, 39, 3, 46, 4, 160, 0, 7, 4, 167, 0, 4]
abbrev dktX8_holdsLine_11 : List UInt8 := dkwX8_holdsLine_11 ++ dktX8_holdsLine_12
def dkwX8_holdsLine_10 : List UInt8 := [160, 0, 11, 21, 6, 21, 7, 96, 167, 0, 13, 21, 8, 153, 0, 7, 4, 167, 0, 4, 3, 79]
abbrev dktX8_holdsLine_10 : List UInt8 := dkwX8_holdsLine_10 ++ dktX8_holdsLine_11
def dkwX8_holdsLine_9 : List UInt8 := [96, 158, 0, 7, 4, 167, 0, 4, 3, 54, 8, 42, 180, 0, 39, 28, 4, 100, 21, 5, 16, 9]
abbrev dktX8_holdsLine_9 : List UInt8 := dkwX8_holdsLine_9 ++ dktX8_holdsLine_10
def dkwX8_holdsLine_8 : List UInt8 := [160, 0, 20, 21, 6, 21, 7, 96, 5, 160, 0, 7, 4, 167, 0, 20, 3, 167, 0, 16, 21, 6, 21, 7]
abbrev dktX8_holdsLine_8 : List UInt8 := dkwX8_holdsLine_8 ++ dktX8_holdsLine_9
def dkwX8_holdsLine_7 : List UInt8 := [160, 0, 18, 21, 6, 21, 7, 164, 0, 7, 4, 167, 0, 44, 3, 167, 0, 40, 21, 5, 16, 13]
abbrev dktX8_holdsLine_7 : List UInt8 := dkwX8_holdsLine_7 ++ dktX8_holdsLine_8
def dkwX8_holdsLine_6 : List UInt8 := [16, 10, 160, 0, 18, 21, 6, 21, 7, 162, 0, 7, 4, 167, 0, 66, 3, 167, 0, 62, 21, 5, 16, 11]
abbrev dktX8_holdsLine_6 : List UInt8 := dkwX8_holdsLine_6 ++ dktX8_holdsLine_7
def dkwX8_holdsLine_5 : List UInt8 := [132, 2, 255, 42, 180, 0, 39, 28, 4, 100, 46, 54, 6, 42, 180, 0, 39, 28, 46, 54, 7, 21, 5]
abbrev dktX8_holdsLine_5 : List UInt8 := dkwX8_holdsLine_5 ++ dktX8_holdsLine_6
def dkwX8_holdsLine_4 : List UInt8 := [160, 0, 24, 42, 180, 0, 39, 28, 4, 100, 4, 42, 180, 0, 39, 28, 4, 100, 46, 100, 79, 167, 0, 140]
abbrev dktX8_holdsLine_4 : List UInt8 := dkwX8_holdsLine_4 ++ dktX8_holdsLine_5
def dkwX8_holdsLine_3 : List UInt8 := [5, 21, 4, 104, 96, 4, 96, 46, 182, 1, 30, 79, 132, 2, 1, 167, 0, 168, 21, 5, 16, 12]
abbrev dktX8_holdsLine_3 : List UInt8 := dkwX8_holdsLine_3 ++ dktX8_holdsLine_4
def dkwX8_holdsLine_2 : List UInt8 := [54, 5, 21, 5, 16, 8, 163, 0, 36, 42, 180, 0, 39, 28, 42, 21, 5, 42, 180, 0, 13, 17, 2, 19]
abbrev dktX8_holdsLine_2 : List UInt8 := dkwX8_holdsLine_2 ++ dktX8_holdsLine_3
def dkwX8_holdsLine_1 : List UInt8 := [180, 0, 13, 29, 6, 96, 46, 162, 0, 229, 42, 180, 0, 13, 17, 2, 19, 5, 21, 4, 104, 96, 46]
abbrev dktX8_holdsLine_1 : List UInt8 := dkwX8_holdsLine_1 ++ dktX8_holdsLine_2
def dkwX8_holdsLine_0 : List UInt8 := [3, 61, 17, 1, 227, 7, 27, 104, 96, 62, 42, 180, 0, 13, 29, 5, 96, 46, 54, 4, 21, 4, 42]
abbrev dktX8_holdsLine_0 : List UInt8 := dkwX8_holdsLine_0 ++ dktX8_holdsLine_1
theorem dksX8_holdsLine_0 : cX8_holdsLine.data.toList.drop 0 = dktX8_holdsLine_0 := by decide +kernel
theorem dksX8_holdsLine_1 : cX8_holdsLine.data.toList.drop 23 = dktX8_holdsLine_1 := dk_seg dksX8_holdsLine_0 23 rfl rfl
theorem dksX8_holdsLine_2 : cX8_holdsLine.data.toList.drop 46 = dktX8_holdsLine_2 := dk_seg dksX8_holdsLine_1 23 rfl rfl
theorem dksX8_holdsLine_3 : cX8_holdsLine.data.toList.drop 70 = dktX8_holdsLine_3 := dk_seg dksX8_holdsLine_2 24 rfl rfl
theorem dksX8_holdsLine_4 : cX8_holdsLine.data.toList.drop 92 = dktX8_holdsLine_4 := dk_seg dksX8_holdsLine_3 22 rfl rfl
theorem dksX8_holdsLine_5 : cX8_holdsLine.data.toList.drop 116 = dktX8_holdsLine_5 := dk_seg dksX8_holdsLine_4 24 rfl rfl
theorem dksX8_holdsLine_6 : cX8_holdsLine.data.toList.drop 139 = dktX8_holdsLine_6 := dk_seg dksX8_holdsLine_5 23 rfl rfl
theorem dksX8_holdsLine_7 : cX8_holdsLine.data.toList.drop 163 = dktX8_holdsLine_7 := dk_seg dksX8_holdsLine_6 24 rfl rfl
theorem dksX8_holdsLine_8 : cX8_holdsLine.data.toList.drop 185 = dktX8_holdsLine_8 := dk_seg dksX8_holdsLine_7 22 rfl rfl
theorem dksX8_holdsLine_9 : cX8_holdsLine.data.toList.drop 209 = dktX8_holdsLine_9 := dk_seg dksX8_holdsLine_8 24 rfl rfl
theorem dksX8_holdsLine_10 : cX8_holdsLine.data.toList.drop 231 = dktX8_holdsLine_10 := dk_seg dksX8_holdsLine_9 22 rfl rfl
theorem dksX8_holdsLine_11 : cX8_holdsLine.data.toList.drop 253 = dktX8_holdsLine_11 := dk_seg dksX8_holdsLine_10 22 rfl rfl
theorem dksX8_holdsLine_12 : cX8_holdsLine.data.toList.drop 277 = dktX8_holdsLine_12 := dk_seg dksX8_holdsLine_11 24 rfl rfl
theorem dX8_holdsLine_0 : decode cX8_holdsLine 0 = .ok (.iconst 0, 1) := dk_3 (dk_at dksX8_holdsLine_0 0 rfl rfl)
theorem dX8_holdsLine_1 : decode cX8_holdsLine 1 = .ok (.istore_n 2, 1) := dk_61 (dk_at dksX8_holdsLine_0 1 rfl rfl)
theorem dX8_holdsLine_2 : decode cX8_holdsLine 2 = .ok (.sipush 483, 3) := dk_17 1 227 (dk_at dksX8_holdsLine_0 2 rfl rfl)
theorem dX8_holdsLine_5 : decode cX8_holdsLine 5 = .ok (.iconst 4, 1) := dk_7 (dk_at dksX8_holdsLine_0 5 rfl rfl)
theorem dX8_holdsLine_6 : decode cX8_holdsLine 6 = .ok (.iload_n 1, 1) := dk_27 (dk_at dksX8_holdsLine_0 6 rfl rfl)
theorem dX8_holdsLine_7 : decode cX8_holdsLine 7 = .ok (.imul, 1) := dk_104 (dk_at dksX8_holdsLine_0 7 rfl rfl)
theorem dX8_holdsLine_8 : decode cX8_holdsLine 8 = .ok (.iadd, 1) := dk_96 (dk_at dksX8_holdsLine_0 8 rfl rfl)
theorem dX8_holdsLine_9 : decode cX8_holdsLine 9 = .ok (.istore_n 3, 1) := dk_62 (dk_at dksX8_holdsLine_0 9 rfl rfl)
theorem dX8_holdsLine_10 : decode cX8_holdsLine 10 = .ok (.aload_n 0, 1) := dk_42 (dk_at dksX8_holdsLine_0 10 rfl rfl)
theorem dX8_holdsLine_11 : decode cX8_holdsLine 11 = .ok (.getfield 13, 3) := dk_180 0 13 (dk_at dksX8_holdsLine_0 11 rfl rfl)
theorem dX8_holdsLine_14 : decode cX8_holdsLine 14 = .ok (.iload_n 3, 1) := dk_29 (dk_at dksX8_holdsLine_0 14 rfl rfl)
theorem dX8_holdsLine_15 : decode cX8_holdsLine 15 = .ok (.iconst 2, 1) := dk_5 (dk_at dksX8_holdsLine_0 15 rfl rfl)
theorem dX8_holdsLine_16 : decode cX8_holdsLine 16 = .ok (.iadd, 1) := dk_96 (dk_at dksX8_holdsLine_0 16 rfl rfl)
theorem dX8_holdsLine_17 : decode cX8_holdsLine 17 = .ok (.iaload, 1) := dk_46 (dk_at dksX8_holdsLine_0 17 rfl rfl)
theorem dX8_holdsLine_18 : decode cX8_holdsLine 18 = .ok (.istore 4, 2) := dk_54 4 (dk_at dksX8_holdsLine_0 18 rfl rfl)
theorem dX8_holdsLine_20 : decode cX8_holdsLine 20 = .ok (.iload 4, 2) := dk_21 4 (dk_at dksX8_holdsLine_0 20 rfl rfl)
theorem dX8_holdsLine_22 : decode cX8_holdsLine 22 = .ok (.aload_n 0, 1) := dk_42 (dk_at dksX8_holdsLine_0 22 rfl rfl)
theorem dX8_holdsLine_23 : decode cX8_holdsLine 23 = .ok (.getfield 13, 3) := dk_180 0 13 (dk_at dksX8_holdsLine_1 0 rfl rfl)
theorem dX8_holdsLine_26 : decode cX8_holdsLine 26 = .ok (.iload_n 3, 1) := dk_29 (dk_at dksX8_holdsLine_1 3 rfl rfl)
theorem dX8_holdsLine_27 : decode cX8_holdsLine 27 = .ok (.iconst 3, 1) := dk_6 (dk_at dksX8_holdsLine_1 4 rfl rfl)
theorem dX8_holdsLine_28 : decode cX8_holdsLine 28 = .ok (.iadd, 1) := dk_96 (dk_at dksX8_holdsLine_1 5 rfl rfl)
theorem dX8_holdsLine_29 : decode cX8_holdsLine 29 = .ok (.iaload, 1) := dk_46 (dk_at dksX8_holdsLine_1 6 rfl rfl)
theorem dX8_holdsLine_30 : decode cX8_holdsLine 30 = .ok (.if_icmp .ge 229, 3) := dk_162 0 229 (dk_at dksX8_holdsLine_1 7 rfl rfl)
theorem dX8_holdsLine_33 : decode cX8_holdsLine 33 = .ok (.aload_n 0, 1) := dk_42 (dk_at dksX8_holdsLine_1 10 rfl rfl)
theorem dX8_holdsLine_34 : decode cX8_holdsLine 34 = .ok (.getfield 13, 3) := dk_180 0 13 (dk_at dksX8_holdsLine_1 11 rfl rfl)
theorem dX8_holdsLine_37 : decode cX8_holdsLine 37 = .ok (.sipush 531, 3) := dk_17 2 19 (dk_at dksX8_holdsLine_1 14 rfl rfl)
theorem dX8_holdsLine_40 : decode cX8_holdsLine 40 = .ok (.iconst 2, 1) := dk_5 (dk_at dksX8_holdsLine_1 17 rfl rfl)
theorem dX8_holdsLine_41 : decode cX8_holdsLine 41 = .ok (.iload 4, 2) := dk_21 4 (dk_at dksX8_holdsLine_1 18 rfl rfl)
theorem dX8_holdsLine_43 : decode cX8_holdsLine 43 = .ok (.imul, 1) := dk_104 (dk_at dksX8_holdsLine_1 20 rfl rfl)
theorem dX8_holdsLine_44 : decode cX8_holdsLine 44 = .ok (.iadd, 1) := dk_96 (dk_at dksX8_holdsLine_1 21 rfl rfl)
theorem dX8_holdsLine_45 : decode cX8_holdsLine 45 = .ok (.iaload, 1) := dk_46 (dk_at dksX8_holdsLine_1 22 rfl rfl)
theorem dX8_holdsLine_46 : decode cX8_holdsLine 46 = .ok (.istore 5, 2) := dk_54 5 (dk_at dksX8_holdsLine_2 0 rfl rfl)
theorem dX8_holdsLine_48 : decode cX8_holdsLine 48 = .ok (.iload 5, 2) := dk_21 5 (dk_at dksX8_holdsLine_2 2 rfl rfl)
theorem dX8_holdsLine_50 : decode cX8_holdsLine 50 = .ok (.bipush 8, 2) := dk_16 8 (dk_at dksX8_holdsLine_2 4 rfl rfl)
theorem dX8_holdsLine_52 : decode cX8_holdsLine 52 = .ok (.if_icmp .gt 36, 3) := dk_163 0 36 (dk_at dksX8_holdsLine_2 6 rfl rfl)
theorem dX8_holdsLine_55 : decode cX8_holdsLine 55 = .ok (.aload_n 0, 1) := dk_42 (dk_at dksX8_holdsLine_2 9 rfl rfl)
theorem dX8_holdsLine_56 : decode cX8_holdsLine 56 = .ok (.getfield 39, 3) := dk_180 0 39 (dk_at dksX8_holdsLine_2 10 rfl rfl)
theorem dX8_holdsLine_59 : decode cX8_holdsLine 59 = .ok (.iload_n 2, 1) := dk_28 (dk_at dksX8_holdsLine_2 13 rfl rfl)
theorem dX8_holdsLine_60 : decode cX8_holdsLine 60 = .ok (.aload_n 0, 1) := dk_42 (dk_at dksX8_holdsLine_2 14 rfl rfl)
theorem dX8_holdsLine_61 : decode cX8_holdsLine 61 = .ok (.iload 5, 2) := dk_21 5 (dk_at dksX8_holdsLine_2 15 rfl rfl)
theorem dX8_holdsLine_63 : decode cX8_holdsLine 63 = .ok (.aload_n 0, 1) := dk_42 (dk_at dksX8_holdsLine_2 17 rfl rfl)
theorem dX8_holdsLine_64 : decode cX8_holdsLine 64 = .ok (.getfield 13, 3) := dk_180 0 13 (dk_at dksX8_holdsLine_2 18 rfl rfl)
theorem dX8_holdsLine_67 : decode cX8_holdsLine 67 = .ok (.sipush 531, 3) := dk_17 2 19 (dk_at dksX8_holdsLine_2 21 rfl rfl)
theorem dX8_holdsLine_70 : decode cX8_holdsLine 70 = .ok (.iconst 2, 1) := dk_5 (dk_at dksX8_holdsLine_3 0 rfl rfl)
theorem dX8_holdsLine_71 : decode cX8_holdsLine 71 = .ok (.iload 4, 2) := dk_21 4 (dk_at dksX8_holdsLine_3 1 rfl rfl)
theorem dX8_holdsLine_73 : decode cX8_holdsLine 73 = .ok (.imul, 1) := dk_104 (dk_at dksX8_holdsLine_3 3 rfl rfl)
theorem dX8_holdsLine_74 : decode cX8_holdsLine 74 = .ok (.iadd, 1) := dk_96 (dk_at dksX8_holdsLine_3 4 rfl rfl)
theorem dX8_holdsLine_75 : decode cX8_holdsLine 75 = .ok (.iconst 1, 1) := dk_4 (dk_at dksX8_holdsLine_3 5 rfl rfl)
theorem dX8_holdsLine_76 : decode cX8_holdsLine 76 = .ok (.iadd, 1) := dk_96 (dk_at dksX8_holdsLine_3 6 rfl rfl)
theorem dX8_holdsLine_77 : decode cX8_holdsLine 77 = .ok (.iaload, 1) := dk_46 (dk_at dksX8_holdsLine_3 7 rfl rfl)
theorem dX8_holdsLine_78 : decode cX8_holdsLine 78 = .ok (.invokevirtual 286, 3) := dk_182 1 30 (dk_at dksX8_holdsLine_3 8 rfl rfl)
theorem dX8_holdsLine_81 : decode cX8_holdsLine 81 = .ok (.iastore, 1) := dk_79 (dk_at dksX8_holdsLine_3 11 rfl rfl)
theorem dX8_holdsLine_82 : decode cX8_holdsLine 82 = .ok (.iinc 2 1, 3) := dk_132 2 1 (dk_at dksX8_holdsLine_3 12 rfl rfl)
theorem dX8_holdsLine_85 : decode cX8_holdsLine 85 = .ok (.goto 168, 3) := dk_167 0 168 (dk_at dksX8_holdsLine_3 15 rfl rfl)
theorem dX8_holdsLine_88 : decode cX8_holdsLine 88 = .ok (.iload 5, 2) := dk_21 5 (dk_at dksX8_holdsLine_3 18 rfl rfl)
theorem dX8_holdsLine_90 : decode cX8_holdsLine 90 = .ok (.bipush 12, 2) := dk_16 12 (dk_at dksX8_holdsLine_3 20 rfl rfl)
theorem dX8_holdsLine_92 : decode cX8_holdsLine 92 = .ok (.if_icmp .ne 24, 3) := dk_160 0 24 (dk_at dksX8_holdsLine_4 0 rfl rfl)
theorem dX8_holdsLine_95 : decode cX8_holdsLine 95 = .ok (.aload_n 0, 1) := dk_42 (dk_at dksX8_holdsLine_4 3 rfl rfl)
theorem dX8_holdsLine_96 : decode cX8_holdsLine 96 = .ok (.getfield 39, 3) := dk_180 0 39 (dk_at dksX8_holdsLine_4 4 rfl rfl)
theorem dX8_holdsLine_99 : decode cX8_holdsLine 99 = .ok (.iload_n 2, 1) := dk_28 (dk_at dksX8_holdsLine_4 7 rfl rfl)
theorem dX8_holdsLine_100 : decode cX8_holdsLine 100 = .ok (.iconst 1, 1) := dk_4 (dk_at dksX8_holdsLine_4 8 rfl rfl)
theorem dX8_holdsLine_101 : decode cX8_holdsLine 101 = .ok (.isub, 1) := dk_100 (dk_at dksX8_holdsLine_4 9 rfl rfl)
theorem dX8_holdsLine_102 : decode cX8_holdsLine 102 = .ok (.iconst 1, 1) := dk_4 (dk_at dksX8_holdsLine_4 10 rfl rfl)
theorem dX8_holdsLine_103 : decode cX8_holdsLine 103 = .ok (.aload_n 0, 1) := dk_42 (dk_at dksX8_holdsLine_4 11 rfl rfl)
theorem dX8_holdsLine_104 : decode cX8_holdsLine 104 = .ok (.getfield 39, 3) := dk_180 0 39 (dk_at dksX8_holdsLine_4 12 rfl rfl)
theorem dX8_holdsLine_107 : decode cX8_holdsLine 107 = .ok (.iload_n 2, 1) := dk_28 (dk_at dksX8_holdsLine_4 15 rfl rfl)
theorem dX8_holdsLine_108 : decode cX8_holdsLine 108 = .ok (.iconst 1, 1) := dk_4 (dk_at dksX8_holdsLine_4 16 rfl rfl)
theorem dX8_holdsLine_109 : decode cX8_holdsLine 109 = .ok (.isub, 1) := dk_100 (dk_at dksX8_holdsLine_4 17 rfl rfl)
theorem dX8_holdsLine_110 : decode cX8_holdsLine 110 = .ok (.iaload, 1) := dk_46 (dk_at dksX8_holdsLine_4 18 rfl rfl)
theorem dX8_holdsLine_111 : decode cX8_holdsLine 111 = .ok (.isub, 1) := dk_100 (dk_at dksX8_holdsLine_4 19 rfl rfl)
theorem dX8_holdsLine_112 : decode cX8_holdsLine 112 = .ok (.iastore, 1) := dk_79 (dk_at dksX8_holdsLine_4 20 rfl rfl)
theorem dX8_holdsLine_113 : decode cX8_holdsLine 113 = .ok (.goto 140, 3) := dk_167 0 140 (dk_at dksX8_holdsLine_4 21 rfl rfl)
theorem dX8_holdsLine_116 : decode cX8_holdsLine 116 = .ok (.iinc 2 (-1), 3) := dk_132 2 255 (dk_at dksX8_holdsLine_5 0 rfl rfl)
theorem dX8_holdsLine_119 : decode cX8_holdsLine 119 = .ok (.aload_n 0, 1) := dk_42 (dk_at dksX8_holdsLine_5 3 rfl rfl)
theorem dX8_holdsLine_120 : decode cX8_holdsLine 120 = .ok (.getfield 39, 3) := dk_180 0 39 (dk_at dksX8_holdsLine_5 4 rfl rfl)
theorem dX8_holdsLine_123 : decode cX8_holdsLine 123 = .ok (.iload_n 2, 1) := dk_28 (dk_at dksX8_holdsLine_5 7 rfl rfl)
theorem dX8_holdsLine_124 : decode cX8_holdsLine 124 = .ok (.iconst 1, 1) := dk_4 (dk_at dksX8_holdsLine_5 8 rfl rfl)
theorem dX8_holdsLine_125 : decode cX8_holdsLine 125 = .ok (.isub, 1) := dk_100 (dk_at dksX8_holdsLine_5 9 rfl rfl)
theorem dX8_holdsLine_126 : decode cX8_holdsLine 126 = .ok (.iaload, 1) := dk_46 (dk_at dksX8_holdsLine_5 10 rfl rfl)
theorem dX8_holdsLine_127 : decode cX8_holdsLine 127 = .ok (.istore 6, 2) := dk_54 6 (dk_at dksX8_holdsLine_5 11 rfl rfl)
theorem dX8_holdsLine_129 : decode cX8_holdsLine 129 = .ok (.aload_n 0, 1) := dk_42 (dk_at dksX8_holdsLine_5 13 rfl rfl)
theorem dX8_holdsLine_130 : decode cX8_holdsLine 130 = .ok (.getfield 39, 3) := dk_180 0 39 (dk_at dksX8_holdsLine_5 14 rfl rfl)
theorem dX8_holdsLine_133 : decode cX8_holdsLine 133 = .ok (.iload_n 2, 1) := dk_28 (dk_at dksX8_holdsLine_5 17 rfl rfl)
theorem dX8_holdsLine_134 : decode cX8_holdsLine 134 = .ok (.iaload, 1) := dk_46 (dk_at dksX8_holdsLine_5 18 rfl rfl)
theorem dX8_holdsLine_135 : decode cX8_holdsLine 135 = .ok (.istore 7, 2) := dk_54 7 (dk_at dksX8_holdsLine_5 19 rfl rfl)
theorem dX8_holdsLine_137 : decode cX8_holdsLine 137 = .ok (.iload 5, 2) := dk_21 5 (dk_at dksX8_holdsLine_5 21 rfl rfl)
theorem dX8_holdsLine_139 : decode cX8_holdsLine 139 = .ok (.bipush 10, 2) := dk_16 10 (dk_at dksX8_holdsLine_6 0 rfl rfl)
theorem dX8_holdsLine_141 : decode cX8_holdsLine 141 = .ok (.if_icmp .ne 18, 3) := dk_160 0 18 (dk_at dksX8_holdsLine_6 2 rfl rfl)
theorem dX8_holdsLine_144 : decode cX8_holdsLine 144 = .ok (.iload 6, 2) := dk_21 6 (dk_at dksX8_holdsLine_6 5 rfl rfl)
theorem dX8_holdsLine_146 : decode cX8_holdsLine 146 = .ok (.iload 7, 2) := dk_21 7 (dk_at dksX8_holdsLine_6 7 rfl rfl)
theorem dX8_holdsLine_148 : decode cX8_holdsLine 148 = .ok (.if_icmp .ge 7, 3) := dk_162 0 7 (dk_at dksX8_holdsLine_6 9 rfl rfl)
theorem dX8_holdsLine_151 : decode cX8_holdsLine 151 = .ok (.iconst 1, 1) := dk_4 (dk_at dksX8_holdsLine_6 12 rfl rfl)
theorem dX8_holdsLine_152 : decode cX8_holdsLine 152 = .ok (.goto 66, 3) := dk_167 0 66 (dk_at dksX8_holdsLine_6 13 rfl rfl)
theorem dX8_holdsLine_155 : decode cX8_holdsLine 155 = .ok (.iconst 0, 1) := dk_3 (dk_at dksX8_holdsLine_6 16 rfl rfl)
theorem dX8_holdsLine_156 : decode cX8_holdsLine 156 = .ok (.goto 62, 3) := dk_167 0 62 (dk_at dksX8_holdsLine_6 17 rfl rfl)
theorem dX8_holdsLine_159 : decode cX8_holdsLine 159 = .ok (.iload 5, 2) := dk_21 5 (dk_at dksX8_holdsLine_6 20 rfl rfl)
theorem dX8_holdsLine_161 : decode cX8_holdsLine 161 = .ok (.bipush 11, 2) := dk_16 11 (dk_at dksX8_holdsLine_6 22 rfl rfl)
theorem dX8_holdsLine_163 : decode cX8_holdsLine 163 = .ok (.if_icmp .ne 18, 3) := dk_160 0 18 (dk_at dksX8_holdsLine_7 0 rfl rfl)
theorem dX8_holdsLine_166 : decode cX8_holdsLine 166 = .ok (.iload 6, 2) := dk_21 6 (dk_at dksX8_holdsLine_7 3 rfl rfl)
theorem dX8_holdsLine_168 : decode cX8_holdsLine 168 = .ok (.iload 7, 2) := dk_21 7 (dk_at dksX8_holdsLine_7 5 rfl rfl)
theorem dX8_holdsLine_170 : decode cX8_holdsLine 170 = .ok (.if_icmp .le 7, 3) := dk_164 0 7 (dk_at dksX8_holdsLine_7 7 rfl rfl)
theorem dX8_holdsLine_173 : decode cX8_holdsLine 173 = .ok (.iconst 1, 1) := dk_4 (dk_at dksX8_holdsLine_7 10 rfl rfl)
theorem dX8_holdsLine_174 : decode cX8_holdsLine 174 = .ok (.goto 44, 3) := dk_167 0 44 (dk_at dksX8_holdsLine_7 11 rfl rfl)
theorem dX8_holdsLine_177 : decode cX8_holdsLine 177 = .ok (.iconst 0, 1) := dk_3 (dk_at dksX8_holdsLine_7 14 rfl rfl)
theorem dX8_holdsLine_178 : decode cX8_holdsLine 178 = .ok (.goto 40, 3) := dk_167 0 40 (dk_at dksX8_holdsLine_7 15 rfl rfl)
theorem dX8_holdsLine_181 : decode cX8_holdsLine 181 = .ok (.iload 5, 2) := dk_21 5 (dk_at dksX8_holdsLine_7 18 rfl rfl)
theorem dX8_holdsLine_183 : decode cX8_holdsLine 183 = .ok (.bipush 13, 2) := dk_16 13 (dk_at dksX8_holdsLine_7 20 rfl rfl)
theorem dX8_holdsLine_185 : decode cX8_holdsLine 185 = .ok (.if_icmp .ne 20, 3) := dk_160 0 20 (dk_at dksX8_holdsLine_8 0 rfl rfl)
theorem dX8_holdsLine_188 : decode cX8_holdsLine 188 = .ok (.iload 6, 2) := dk_21 6 (dk_at dksX8_holdsLine_8 3 rfl rfl)
theorem dX8_holdsLine_190 : decode cX8_holdsLine 190 = .ok (.iload 7, 2) := dk_21 7 (dk_at dksX8_holdsLine_8 5 rfl rfl)
theorem dX8_holdsLine_192 : decode cX8_holdsLine 192 = .ok (.iadd, 1) := dk_96 (dk_at dksX8_holdsLine_8 7 rfl rfl)
theorem dX8_holdsLine_193 : decode cX8_holdsLine 193 = .ok (.iconst 2, 1) := dk_5 (dk_at dksX8_holdsLine_8 8 rfl rfl)
theorem dX8_holdsLine_194 : decode cX8_holdsLine 194 = .ok (.if_icmp .ne 7, 3) := dk_160 0 7 (dk_at dksX8_holdsLine_8 9 rfl rfl)
theorem dX8_holdsLine_197 : decode cX8_holdsLine 197 = .ok (.iconst 1, 1) := dk_4 (dk_at dksX8_holdsLine_8 12 rfl rfl)
theorem dX8_holdsLine_198 : decode cX8_holdsLine 198 = .ok (.goto 20, 3) := dk_167 0 20 (dk_at dksX8_holdsLine_8 13 rfl rfl)
theorem dX8_holdsLine_201 : decode cX8_holdsLine 201 = .ok (.iconst 0, 1) := dk_3 (dk_at dksX8_holdsLine_8 16 rfl rfl)
theorem dX8_holdsLine_202 : decode cX8_holdsLine 202 = .ok (.goto 16, 3) := dk_167 0 16 (dk_at dksX8_holdsLine_8 17 rfl rfl)
theorem dX8_holdsLine_205 : decode cX8_holdsLine 205 = .ok (.iload 6, 2) := dk_21 6 (dk_at dksX8_holdsLine_8 20 rfl rfl)
theorem dX8_holdsLine_207 : decode cX8_holdsLine 207 = .ok (.iload 7, 2) := dk_21 7 (dk_at dksX8_holdsLine_8 22 rfl rfl)
theorem dX8_holdsLine_209 : decode cX8_holdsLine 209 = .ok (.iadd, 1) := dk_96 (dk_at dksX8_holdsLine_9 0 rfl rfl)
theorem dX8_holdsLine_210 : decode cX8_holdsLine 210 = .ok (.ifCond .le 7, 3) := dk_158 0 7 (dk_at dksX8_holdsLine_9 1 rfl rfl)
theorem dX8_holdsLine_213 : decode cX8_holdsLine 213 = .ok (.iconst 1, 1) := dk_4 (dk_at dksX8_holdsLine_9 4 rfl rfl)
theorem dX8_holdsLine_214 : decode cX8_holdsLine 214 = .ok (.goto 4, 3) := dk_167 0 4 (dk_at dksX8_holdsLine_9 5 rfl rfl)
theorem dX8_holdsLine_217 : decode cX8_holdsLine 217 = .ok (.iconst 0, 1) := dk_3 (dk_at dksX8_holdsLine_9 8 rfl rfl)
theorem dX8_holdsLine_218 : decode cX8_holdsLine 218 = .ok (.istore 8, 2) := dk_54 8 (dk_at dksX8_holdsLine_9 9 rfl rfl)
theorem dX8_holdsLine_220 : decode cX8_holdsLine 220 = .ok (.aload_n 0, 1) := dk_42 (dk_at dksX8_holdsLine_9 11 rfl rfl)
theorem dX8_holdsLine_221 : decode cX8_holdsLine 221 = .ok (.getfield 39, 3) := dk_180 0 39 (dk_at dksX8_holdsLine_9 12 rfl rfl)
theorem dX8_holdsLine_224 : decode cX8_holdsLine 224 = .ok (.iload_n 2, 1) := dk_28 (dk_at dksX8_holdsLine_9 15 rfl rfl)
theorem dX8_holdsLine_225 : decode cX8_holdsLine 225 = .ok (.iconst 1, 1) := dk_4 (dk_at dksX8_holdsLine_9 16 rfl rfl)
theorem dX8_holdsLine_226 : decode cX8_holdsLine 226 = .ok (.isub, 1) := dk_100 (dk_at dksX8_holdsLine_9 17 rfl rfl)
theorem dX8_holdsLine_227 : decode cX8_holdsLine 227 = .ok (.iload 5, 2) := dk_21 5 (dk_at dksX8_holdsLine_9 18 rfl rfl)
theorem dX8_holdsLine_229 : decode cX8_holdsLine 229 = .ok (.bipush 9, 2) := dk_16 9 (dk_at dksX8_holdsLine_9 20 rfl rfl)
theorem dX8_holdsLine_231 : decode cX8_holdsLine 231 = .ok (.if_icmp .ne 11, 3) := dk_160 0 11 (dk_at dksX8_holdsLine_10 0 rfl rfl)
theorem dX8_holdsLine_234 : decode cX8_holdsLine 234 = .ok (.iload 6, 2) := dk_21 6 (dk_at dksX8_holdsLine_10 3 rfl rfl)
theorem dX8_holdsLine_236 : decode cX8_holdsLine 236 = .ok (.iload 7, 2) := dk_21 7 (dk_at dksX8_holdsLine_10 5 rfl rfl)
theorem dX8_holdsLine_238 : decode cX8_holdsLine 238 = .ok (.iadd, 1) := dk_96 (dk_at dksX8_holdsLine_10 7 rfl rfl)
theorem dX8_holdsLine_239 : decode cX8_holdsLine 239 = .ok (.goto 13, 3) := dk_167 0 13 (dk_at dksX8_holdsLine_10 8 rfl rfl)
theorem dX8_holdsLine_242 : decode cX8_holdsLine 242 = .ok (.iload 8, 2) := dk_21 8 (dk_at dksX8_holdsLine_10 11 rfl rfl)
theorem dX8_holdsLine_244 : decode cX8_holdsLine 244 = .ok (.ifCond .eq 7, 3) := dk_153 0 7 (dk_at dksX8_holdsLine_10 13 rfl rfl)
theorem dX8_holdsLine_247 : decode cX8_holdsLine 247 = .ok (.iconst 1, 1) := dk_4 (dk_at dksX8_holdsLine_10 16 rfl rfl)
theorem dX8_holdsLine_248 : decode cX8_holdsLine 248 = .ok (.goto 4, 3) := dk_167 0 4 (dk_at dksX8_holdsLine_10 17 rfl rfl)
theorem dX8_holdsLine_251 : decode cX8_holdsLine 251 = .ok (.iconst 0, 1) := dk_3 (dk_at dksX8_holdsLine_10 20 rfl rfl)
theorem dX8_holdsLine_252 : decode cX8_holdsLine 252 = .ok (.iastore, 1) := dk_79 (dk_at dksX8_holdsLine_10 21 rfl rfl)
theorem dX8_holdsLine_253 : decode cX8_holdsLine 253 = .ok (.iinc 4 1, 3) := dk_132 4 1 (dk_at dksX8_holdsLine_11 0 rfl rfl)
theorem dX8_holdsLine_256 : decode cX8_holdsLine 256 = .ok (.goto (-236), 3) := dk_167 255 20 (dk_at dksX8_holdsLine_11 3 rfl rfl)
theorem dX8_holdsLine_259 : decode cX8_holdsLine 259 = .ok (.iload_n 2, 1) := dk_28 (dk_at dksX8_holdsLine_11 6 rfl rfl)
theorem dX8_holdsLine_260 : decode cX8_holdsLine 260 = .ok (.ifCond .eq 13, 3) := dk_153 0 13 (dk_at dksX8_holdsLine_11 7 rfl rfl)
theorem dX8_holdsLine_263 : decode cX8_holdsLine 263 = .ok (.aload_n 0, 1) := dk_42 (dk_at dksX8_holdsLine_11 10 rfl rfl)
theorem dX8_holdsLine_264 : decode cX8_holdsLine 264 = .ok (.getfield 39, 3) := dk_180 0 39 (dk_at dksX8_holdsLine_11 11 rfl rfl)
theorem dX8_holdsLine_267 : decode cX8_holdsLine 267 = .ok (.iconst 0, 1) := dk_3 (dk_at dksX8_holdsLine_11 14 rfl rfl)
theorem dX8_holdsLine_268 : decode cX8_holdsLine 268 = .ok (.iaload, 1) := dk_46 (dk_at dksX8_holdsLine_11 15 rfl rfl)
theorem dX8_holdsLine_269 : decode cX8_holdsLine 269 = .ok (.iconst 1, 1) := dk_4 (dk_at dksX8_holdsLine_11 16 rfl rfl)
theorem dX8_holdsLine_270 : decode cX8_holdsLine 270 = .ok (.if_icmp .ne 7, 3) := dk_160 0 7 (dk_at dksX8_holdsLine_11 17 rfl rfl)
theorem dX8_holdsLine_273 : decode cX8_holdsLine 273 = .ok (.iconst 1, 1) := dk_4 (dk_at dksX8_holdsLine_11 20 rfl rfl)
theorem dX8_holdsLine_274 : decode cX8_holdsLine 274 = .ok (.goto 4, 3) := dk_167 0 4 (dk_at dksX8_holdsLine_11 21 rfl rfl)
theorem dX8_holdsLine_277 : decode cX8_holdsLine 277 = .ok (.iconst 0, 1) := dk_3 (dk_at dksX8_holdsLine_12 0 rfl rfl)
theorem dX8_holdsLine_278 : decode cX8_holdsLine 278 = .ok (.ireturn, 1) := dk_172 (dk_at dksX8_holdsLine_12 1 rfl rfl)
abbrev cX8_factOf : ByteArray := prog_18_method_58_code
def yX8_factOf : MethodName := ⟨RX8, "factOf", "(II)I"⟩
def dkwX8_factOf_5 : List UInt8 := [167, 0, 4, 3, 172, 28, 172]
abbrev dktX8_factOf_5 : List UInt8 := dkwX8_factOf_5 ++ []
def dkwX8_factOf_4 : List UInt8 := [46, 5, 108, 164, 0, 7, 4, 167, 0, 4, 3, 172, 42, 42, 180, 1, 18, 182, 1, 27, 153, 0, 7, 4]
abbrev dktX8_factOf_4 : List UInt8 := dkwX8_factOf_4 ++ dktX8_factOf_5
def dkwX8_factOf_3 : List UInt8 := [172, 42, 180, 0, 13, 16, 6, 46, 172, 42, 180, 1, 24, 172, 42, 180, 1, 15, 42, 180, 0, 13, 16, 8]
abbrev dktX8_factOf_3 : List UInt8 := dkwX8_factOf_3 ++ dktX8_factOf_4
def dkwX8_factOf_2 : List UInt8 := [42, 180, 1, 12, 172, 42, 180, 1, 15, 172, 42, 180, 1, 18, 172, 42, 42, 180, 1, 12, 4, 182, 1, 21]
abbrev dktX8_factOf_2 : List UInt8 := dkwX8_factOf_2 ++ dktX8_factOf_3
def dkwX8_factOf_1 : List UInt8 := [170, 0, 0, 0, 0, 0, 124, 0, 0, 0, 0, 0, 0, 0, 7, 0, 0, 0, 47, 0, 0, 0, 52, 0, 0, 0, 57, 0, 0, 0, 62, 0, 0, 0, 72, 0, 0, 0, 80, 0, 0, 0, 85, 0, 0, 0, 107]
abbrev dktX8_factOf_1 : List UInt8 := dkwX8_factOf_1 ++ dktX8_factOf_2
def dkwX8_factOf_0 : List UInt8 := [27]
abbrev dktX8_factOf_0 : List UInt8 := dkwX8_factOf_0 ++ dktX8_factOf_1
theorem dksX8_factOf_0 : cX8_factOf.data.toList.drop 0 = dktX8_factOf_0 := by decide +kernel
theorem dksX8_factOf_1 : cX8_factOf.data.toList.drop 1 = dktX8_factOf_1 := dk_seg dksX8_factOf_0 1 rfl rfl
theorem dksX8_factOf_2 : cX8_factOf.data.toList.drop 48 = dktX8_factOf_2 := dk_seg dksX8_factOf_1 47 rfl rfl
theorem dksX8_factOf_3 : cX8_factOf.data.toList.drop 72 = dktX8_factOf_3 := dk_seg dksX8_factOf_2 24 rfl rfl
theorem dksX8_factOf_4 : cX8_factOf.data.toList.drop 96 = dktX8_factOf_4 := dk_seg dksX8_factOf_3 24 rfl rfl
theorem dksX8_factOf_5 : cX8_factOf.data.toList.drop 120 = dktX8_factOf_5 := dk_seg dksX8_factOf_4 24 rfl rfl
theorem dX8_factOf_0 : decode cX8_factOf 0 = .ok (.iload_n 1, 1) := dk_27 (dk_at dksX8_factOf_0 0 rfl rfl)
theorem dX8_factOf_1 : decode cX8_factOf 1 = .ok (.tableswitch 124 0 7 #[47, 52, 57, 62, 72, 80, 85, 107], 47) := by decide +kernel
theorem dX8_factOf_48 : decode cX8_factOf 48 = .ok (.aload_n 0, 1) := dk_42 (dk_at dksX8_factOf_2 0 rfl rfl)
theorem dX8_factOf_49 : decode cX8_factOf 49 = .ok (.getfield 268, 3) := dk_180 1 12 (dk_at dksX8_factOf_2 1 rfl rfl)
theorem dX8_factOf_52 : decode cX8_factOf 52 = .ok (.ireturn, 1) := dk_172 (dk_at dksX8_factOf_2 4 rfl rfl)
theorem dX8_factOf_53 : decode cX8_factOf 53 = .ok (.aload_n 0, 1) := dk_42 (dk_at dksX8_factOf_2 5 rfl rfl)
theorem dX8_factOf_54 : decode cX8_factOf 54 = .ok (.getfield 271, 3) := dk_180 1 15 (dk_at dksX8_factOf_2 6 rfl rfl)
theorem dX8_factOf_57 : decode cX8_factOf 57 = .ok (.ireturn, 1) := dk_172 (dk_at dksX8_factOf_2 9 rfl rfl)
theorem dX8_factOf_58 : decode cX8_factOf 58 = .ok (.aload_n 0, 1) := dk_42 (dk_at dksX8_factOf_2 10 rfl rfl)
theorem dX8_factOf_59 : decode cX8_factOf 59 = .ok (.getfield 274, 3) := dk_180 1 18 (dk_at dksX8_factOf_2 11 rfl rfl)
theorem dX8_factOf_62 : decode cX8_factOf 62 = .ok (.ireturn, 1) := dk_172 (dk_at dksX8_factOf_2 14 rfl rfl)
theorem dX8_factOf_63 : decode cX8_factOf 63 = .ok (.aload_n 0, 1) := dk_42 (dk_at dksX8_factOf_2 15 rfl rfl)
theorem dX8_factOf_64 : decode cX8_factOf 64 = .ok (.aload_n 0, 1) := dk_42 (dk_at dksX8_factOf_2 16 rfl rfl)
theorem dX8_factOf_65 : decode cX8_factOf 65 = .ok (.getfield 268, 3) := dk_180 1 12 (dk_at dksX8_factOf_2 17 rfl rfl)
theorem dX8_factOf_68 : decode cX8_factOf 68 = .ok (.iconst 1, 1) := dk_4 (dk_at dksX8_factOf_2 20 rfl rfl)
theorem dX8_factOf_69 : decode cX8_factOf 69 = .ok (.invokevirtual 277, 3) := dk_182 1 21 (dk_at dksX8_factOf_2 21 rfl rfl)
theorem dX8_factOf_72 : decode cX8_factOf 72 = .ok (.ireturn, 1) := dk_172 (dk_at dksX8_factOf_3 0 rfl rfl)
theorem dX8_factOf_73 : decode cX8_factOf 73 = .ok (.aload_n 0, 1) := dk_42 (dk_at dksX8_factOf_3 1 rfl rfl)
theorem dX8_factOf_74 : decode cX8_factOf 74 = .ok (.getfield 13, 3) := dk_180 0 13 (dk_at dksX8_factOf_3 2 rfl rfl)
theorem dX8_factOf_77 : decode cX8_factOf 77 = .ok (.bipush 6, 2) := dk_16 6 (dk_at dksX8_factOf_3 5 rfl rfl)
theorem dX8_factOf_79 : decode cX8_factOf 79 = .ok (.iaload, 1) := dk_46 (dk_at dksX8_factOf_3 7 rfl rfl)
theorem dX8_factOf_80 : decode cX8_factOf 80 = .ok (.ireturn, 1) := dk_172 (dk_at dksX8_factOf_3 8 rfl rfl)
theorem dX8_factOf_81 : decode cX8_factOf 81 = .ok (.aload_n 0, 1) := dk_42 (dk_at dksX8_factOf_3 9 rfl rfl)
theorem dX8_factOf_82 : decode cX8_factOf 82 = .ok (.getfield 280, 3) := dk_180 1 24 (dk_at dksX8_factOf_3 10 rfl rfl)
theorem dX8_factOf_85 : decode cX8_factOf 85 = .ok (.ireturn, 1) := dk_172 (dk_at dksX8_factOf_3 13 rfl rfl)
theorem dX8_factOf_86 : decode cX8_factOf 86 = .ok (.aload_n 0, 1) := dk_42 (dk_at dksX8_factOf_3 14 rfl rfl)
theorem dX8_factOf_87 : decode cX8_factOf 87 = .ok (.getfield 271, 3) := dk_180 1 15 (dk_at dksX8_factOf_3 15 rfl rfl)
theorem dX8_factOf_90 : decode cX8_factOf 90 = .ok (.aload_n 0, 1) := dk_42 (dk_at dksX8_factOf_3 18 rfl rfl)
theorem dX8_factOf_91 : decode cX8_factOf 91 = .ok (.getfield 13, 3) := dk_180 0 13 (dk_at dksX8_factOf_3 19 rfl rfl)
theorem dX8_factOf_94 : decode cX8_factOf 94 = .ok (.bipush 8, 2) := dk_16 8 (dk_at dksX8_factOf_3 22 rfl rfl)
theorem dX8_factOf_96 : decode cX8_factOf 96 = .ok (.iaload, 1) := dk_46 (dk_at dksX8_factOf_4 0 rfl rfl)
theorem dX8_factOf_97 : decode cX8_factOf 97 = .ok (.iconst 2, 1) := dk_5 (dk_at dksX8_factOf_4 1 rfl rfl)
theorem dX8_factOf_98 : decode cX8_factOf 98 = .ok (.idiv, 1) := dk_108 (dk_at dksX8_factOf_4 2 rfl rfl)
theorem dX8_factOf_99 : decode cX8_factOf 99 = .ok (.if_icmp .le 7, 3) := dk_164 0 7 (dk_at dksX8_factOf_4 3 rfl rfl)
theorem dX8_factOf_102 : decode cX8_factOf 102 = .ok (.iconst 1, 1) := dk_4 (dk_at dksX8_factOf_4 6 rfl rfl)
theorem dX8_factOf_103 : decode cX8_factOf 103 = .ok (.goto 4, 3) := dk_167 0 4 (dk_at dksX8_factOf_4 7 rfl rfl)
theorem dX8_factOf_106 : decode cX8_factOf 106 = .ok (.iconst 0, 1) := dk_3 (dk_at dksX8_factOf_4 10 rfl rfl)
theorem dX8_factOf_107 : decode cX8_factOf 107 = .ok (.ireturn, 1) := dk_172 (dk_at dksX8_factOf_4 11 rfl rfl)
theorem dX8_factOf_108 : decode cX8_factOf 108 = .ok (.aload_n 0, 1) := dk_42 (dk_at dksX8_factOf_4 12 rfl rfl)
theorem dX8_factOf_109 : decode cX8_factOf 109 = .ok (.aload_n 0, 1) := dk_42 (dk_at dksX8_factOf_4 13 rfl rfl)
theorem dX8_factOf_110 : decode cX8_factOf 110 = .ok (.getfield 274, 3) := dk_180 1 18 (dk_at dksX8_factOf_4 14 rfl rfl)
theorem dX8_factOf_113 : decode cX8_factOf 113 = .ok (.invokevirtual 283, 3) := dk_182 1 27 (dk_at dksX8_factOf_4 17 rfl rfl)
theorem dX8_factOf_116 : decode cX8_factOf 116 = .ok (.ifCond .eq 7, 3) := dk_153 0 7 (dk_at dksX8_factOf_4 20 rfl rfl)
theorem dX8_factOf_119 : decode cX8_factOf 119 = .ok (.iconst 1, 1) := dk_4 (dk_at dksX8_factOf_4 23 rfl rfl)
theorem dX8_factOf_120 : decode cX8_factOf 120 = .ok (.goto 4, 3) := dk_167 0 4 (dk_at dksX8_factOf_5 0 rfl rfl)
theorem dX8_factOf_123 : decode cX8_factOf 123 = .ok (.iconst 0, 1) := dk_3 (dk_at dksX8_factOf_5 3 rfl rfl)
theorem dX8_factOf_124 : decode cX8_factOf 124 = .ok (.ireturn, 1) := dk_172 (dk_at dksX8_factOf_5 4 rfl rfl)
theorem dX8_factOf_125 : decode cX8_factOf 125 = .ok (.iload_n 2, 1) := dk_28 (dk_at dksX8_factOf_5 5 rfl rfl)
theorem dX8_factOf_126 : decode cX8_factOf 126 = .ok (.ireturn, 1) := dk_172 (dk_at dksX8_factOf_5 6 rfl rfl)
abbrev cX8_isOver : ByteArray := prog_18_method_57_code
def yX8_isOver : MethodName := ⟨RX8, "isOver", "(I)Z"⟩
def dkwX8_isOver_0 : List UInt8 := [27, 42, 180, 0, 13, 16, 9, 46, 42, 180, 0, 13, 16, 10, 46, 184, 0, 78, 172]
abbrev dktX8_isOver_0 : List UInt8 := dkwX8_isOver_0 ++ []
theorem dksX8_isOver_0 : cX8_isOver.data.toList.drop 0 = dktX8_isOver_0 := by decide +kernel
theorem dX8_isOver_0 : decode cX8_isOver 0 = .ok (.iload_n 1, 1) := dk_27 (dk_at dksX8_isOver_0 0 rfl rfl)
theorem dX8_isOver_1 : decode cX8_isOver 1 = .ok (.aload_n 0, 1) := dk_42 (dk_at dksX8_isOver_0 1 rfl rfl)
theorem dX8_isOver_2 : decode cX8_isOver 2 = .ok (.getfield 13, 3) := dk_180 0 13 (dk_at dksX8_isOver_0 2 rfl rfl)
theorem dX8_isOver_5 : decode cX8_isOver 5 = .ok (.bipush 9, 2) := dk_16 9 (dk_at dksX8_isOver_0 5 rfl rfl)
theorem dX8_isOver_7 : decode cX8_isOver 7 = .ok (.iaload, 1) := dk_46 (dk_at dksX8_isOver_0 7 rfl rfl)
theorem dX8_isOver_8 : decode cX8_isOver 8 = .ok (.aload_n 0, 1) := dk_42 (dk_at dksX8_isOver_0 8 rfl rfl)
theorem dX8_isOver_9 : decode cX8_isOver 9 = .ok (.getfield 13, 3) := dk_180 0 13 (dk_at dksX8_isOver_0 9 rfl rfl)
theorem dX8_isOver_12 : decode cX8_isOver 12 = .ok (.bipush 10, 2) := dk_16 10 (dk_at dksX8_isOver_0 12 rfl rfl)
theorem dX8_isOver_14 : decode cX8_isOver 14 = .ok (.iaload, 1) := dk_46 (dk_at dksX8_isOver_0 14 rfl rfl)
theorem dX8_isOver_15 : decode cX8_isOver 15 = .ok (.invokestatic 78, 3) := dk_184 0 78 (dk_at dksX8_isOver_0 15 rfl rfl)
theorem dX8_isOver_18 : decode cX8_isOver 18 = .ok (.ireturn, 1) := dk_172 (dk_at dksX8_isOver_0 18 rfl rfl)
abbrev cX8_sinks : ByteArray := prog_18_method_62_code
def yX8_sinks : MethodName := ⟨RX8, "sinks", "()I"⟩
def dkwX8_sinks_1 : List UInt8 := [16, 12, 27, 184, 1, 39, 184, 1, 44, 172]
abbrev dktX8_sinks_1 : List UInt8 := dkwX8_sinks_1 ++ []
def dkwX8_sinks_0 : List UInt8 := [42, 42, 180, 1, 12, 3, 182, 1, 21, 42, 3, 182, 1, 36, 96, 42, 4, 182, 1, 36, 100, 60, 3]
abbrev dktX8_sinks_0 : List UInt8 := dkwX8_sinks_0 ++ dktX8_sinks_1
theorem dksX8_sinks_0 : cX8_sinks.data.toList.drop 0 = dktX8_sinks_0 := by decide +kernel
theorem dksX8_sinks_1 : cX8_sinks.data.toList.drop 23 = dktX8_sinks_1 := dk_seg dksX8_sinks_0 23 rfl rfl
theorem dX8_sinks_0 : decode cX8_sinks 0 = .ok (.aload_n 0, 1) := dk_42 (dk_at dksX8_sinks_0 0 rfl rfl)
theorem dX8_sinks_1 : decode cX8_sinks 1 = .ok (.aload_n 0, 1) := dk_42 (dk_at dksX8_sinks_0 1 rfl rfl)
theorem dX8_sinks_2 : decode cX8_sinks 2 = .ok (.getfield 268, 3) := dk_180 1 12 (dk_at dksX8_sinks_0 2 rfl rfl)
theorem dX8_sinks_5 : decode cX8_sinks 5 = .ok (.iconst 0, 1) := dk_3 (dk_at dksX8_sinks_0 5 rfl rfl)
theorem dX8_sinks_6 : decode cX8_sinks 6 = .ok (.invokevirtual 277, 3) := dk_182 1 21 (dk_at dksX8_sinks_0 6 rfl rfl)
theorem dX8_sinks_9 : decode cX8_sinks 9 = .ok (.aload_n 0, 1) := dk_42 (dk_at dksX8_sinks_0 9 rfl rfl)
theorem dX8_sinks_10 : decode cX8_sinks 10 = .ok (.iconst 0, 1) := dk_3 (dk_at dksX8_sinks_0 10 rfl rfl)
theorem dX8_sinks_11 : decode cX8_sinks 11 = .ok (.invokevirtual 292, 3) := dk_182 1 36 (dk_at dksX8_sinks_0 11 rfl rfl)
theorem dX8_sinks_14 : decode cX8_sinks 14 = .ok (.iadd, 1) := dk_96 (dk_at dksX8_sinks_0 14 rfl rfl)
theorem dX8_sinks_15 : decode cX8_sinks 15 = .ok (.aload_n 0, 1) := dk_42 (dk_at dksX8_sinks_0 15 rfl rfl)
theorem dX8_sinks_16 : decode cX8_sinks 16 = .ok (.iconst 1, 1) := dk_4 (dk_at dksX8_sinks_0 16 rfl rfl)
theorem dX8_sinks_17 : decode cX8_sinks 17 = .ok (.invokevirtual 292, 3) := dk_182 1 36 (dk_at dksX8_sinks_0 17 rfl rfl)
theorem dX8_sinks_20 : decode cX8_sinks 20 = .ok (.isub, 1) := dk_100 (dk_at dksX8_sinks_0 20 rfl rfl)
theorem dX8_sinks_21 : decode cX8_sinks 21 = .ok (.istore_n 1, 1) := dk_60 (dk_at dksX8_sinks_0 21 rfl rfl)
theorem dX8_sinks_22 : decode cX8_sinks 22 = .ok (.iconst 0, 1) := dk_3 (dk_at dksX8_sinks_0 22 rfl rfl)
theorem dX8_sinks_23 : decode cX8_sinks 23 = .ok (.bipush 12, 2) := dk_16 12 (dk_at dksX8_sinks_1 0 rfl rfl)
theorem dX8_sinks_25 : decode cX8_sinks 25 = .ok (.iload_n 1, 1) := dk_27 (dk_at dksX8_sinks_1 2 rfl rfl)
theorem dX8_sinks_26 : decode cX8_sinks 26 = .ok (.invokestatic 295, 3) := dk_184 1 39 (dk_at dksX8_sinks_1 3 rfl rfl)
theorem dX8_sinks_29 : decode cX8_sinks 29 = .ok (.invokestatic 300, 3) := dk_184 1 44 (dk_at dksX8_sinks_1 6 rfl rfl)
theorem dX8_sinks_32 : decode cX8_sinks 32 = .ok (.ireturn, 1) := dk_172 (dk_at dksX8_sinks_1 9 rfl rfl)
abbrev cX8_ways : ByteArray := prog_18_method_73_code
def yX8_ways : MethodName := ⟨RX8, "ways", "(II)I"⟩
def dkwX8_ways_4 : List UInt8 := [180, 1, 72, 100, 42, 180, 1, 78, 100, 172]
abbrev dktX8_ways_4 : List UInt8 := dkwX8_ways_4 ++ []
def dkwX8_ways_3 : List UInt8 := [180, 1, 72, 167, 0, 30, 28, 5, 160, 0, 10, 42, 180, 1, 78, 167, 0, 18, 17, 25, 161, 29, 100, 42]
abbrev dktX8_ways_3 : List UInt8 := dkwX8_ways_3 ++ dktX8_ways_4
def dkwX8_ways_2 : List UInt8 := [182, 1, 91, 42, 182, 1, 95, 62, 28, 154, 0, 7, 29, 167, 0, 42, 28, 4, 160, 0, 10, 42]
abbrev dktX8_ways_2 : List UInt8 := dkwX8_ways_2 ++ dktX8_ways_3
def dkwX8_ways_1 : List UInt8 := [184, 0, 78, 154, 0, 7, 4, 167, 0, 4, 3, 5, 182, 1, 9, 153, 0, 5, 3, 172, 42, 27]
abbrev dktX8_ways_1 : List UInt8 := dkwX8_ways_1 ++ dktX8_ways_2
def dkwX8_ways_0 : List UInt8 := [42, 3, 181, 0, 3, 42, 42, 27, 182, 1, 47, 4, 182, 1, 9, 154, 0, 25, 42, 28, 3, 6]
abbrev dktX8_ways_0 : List UInt8 := dkwX8_ways_0 ++ dktX8_ways_1
theorem dksX8_ways_0 : cX8_ways.data.toList.drop 0 = dktX8_ways_0 := by decide +kernel
theorem dksX8_ways_1 : cX8_ways.data.toList.drop 22 = dktX8_ways_1 := dk_seg dksX8_ways_0 22 rfl rfl
theorem dksX8_ways_2 : cX8_ways.data.toList.drop 44 = dktX8_ways_2 := dk_seg dksX8_ways_1 22 rfl rfl
theorem dksX8_ways_3 : cX8_ways.data.toList.drop 66 = dktX8_ways_3 := dk_seg dksX8_ways_2 22 rfl rfl
theorem dksX8_ways_4 : cX8_ways.data.toList.drop 90 = dktX8_ways_4 := dk_seg dksX8_ways_3 24 rfl rfl
theorem dX8_ways_0 : decode cX8_ways 0 = .ok (.aload_n 0, 1) := dk_42 (dk_at dksX8_ways_0 0 rfl rfl)
theorem dX8_ways_1 : decode cX8_ways 1 = .ok (.iconst 0, 1) := dk_3 (dk_at dksX8_ways_0 1 rfl rfl)
theorem dX8_ways_2 : decode cX8_ways 2 = .ok (.putfield 3, 3) := dk_181 0 3 (dk_at dksX8_ways_0 2 rfl rfl)
theorem dX8_ways_5 : decode cX8_ways 5 = .ok (.aload_n 0, 1) := dk_42 (dk_at dksX8_ways_0 5 rfl rfl)
theorem dX8_ways_6 : decode cX8_ways 6 = .ok (.aload_n 0, 1) := dk_42 (dk_at dksX8_ways_0 6 rfl rfl)
theorem dX8_ways_7 : decode cX8_ways 7 = .ok (.iload_n 1, 1) := dk_27 (dk_at dksX8_ways_0 7 rfl rfl)
theorem dX8_ways_8 : decode cX8_ways 8 = .ok (.invokevirtual 303, 3) := dk_182 1 47 (dk_at dksX8_ways_0 8 rfl rfl)
theorem dX8_ways_11 : decode cX8_ways 11 = .ok (.iconst 1, 1) := dk_4 (dk_at dksX8_ways_0 11 rfl rfl)
theorem dX8_ways_12 : decode cX8_ways 12 = .ok (.invokevirtual 265, 3) := dk_182 1 9 (dk_at dksX8_ways_0 12 rfl rfl)
theorem dX8_ways_15 : decode cX8_ways 15 = .ok (.ifCond .ne 25, 3) := dk_154 0 25 (dk_at dksX8_ways_0 15 rfl rfl)
theorem dX8_ways_18 : decode cX8_ways 18 = .ok (.aload_n 0, 1) := dk_42 (dk_at dksX8_ways_0 18 rfl rfl)
theorem dX8_ways_19 : decode cX8_ways 19 = .ok (.iload_n 2, 1) := dk_28 (dk_at dksX8_ways_0 19 rfl rfl)
theorem dX8_ways_20 : decode cX8_ways 20 = .ok (.iconst 0, 1) := dk_3 (dk_at dksX8_ways_0 20 rfl rfl)
theorem dX8_ways_21 : decode cX8_ways 21 = .ok (.iconst 3, 1) := dk_6 (dk_at dksX8_ways_0 21 rfl rfl)
theorem dX8_ways_22 : decode cX8_ways 22 = .ok (.invokestatic 78, 3) := dk_184 0 78 (dk_at dksX8_ways_1 0 rfl rfl)
theorem dX8_ways_25 : decode cX8_ways 25 = .ok (.ifCond .ne 7, 3) := dk_154 0 7 (dk_at dksX8_ways_1 3 rfl rfl)
theorem dX8_ways_28 : decode cX8_ways 28 = .ok (.iconst 1, 1) := dk_4 (dk_at dksX8_ways_1 6 rfl rfl)
theorem dX8_ways_29 : decode cX8_ways 29 = .ok (.goto 4, 3) := dk_167 0 4 (dk_at dksX8_ways_1 7 rfl rfl)
theorem dX8_ways_32 : decode cX8_ways 32 = .ok (.iconst 0, 1) := dk_3 (dk_at dksX8_ways_1 10 rfl rfl)
theorem dX8_ways_33 : decode cX8_ways 33 = .ok (.iconst 2, 1) := dk_5 (dk_at dksX8_ways_1 11 rfl rfl)
theorem dX8_ways_34 : decode cX8_ways 34 = .ok (.invokevirtual 265, 3) := dk_182 1 9 (dk_at dksX8_ways_1 12 rfl rfl)
theorem dX8_ways_37 : decode cX8_ways 37 = .ok (.ifCond .eq 5, 3) := dk_153 0 5 (dk_at dksX8_ways_1 15 rfl rfl)
theorem dX8_ways_40 : decode cX8_ways 40 = .ok (.iconst 0, 1) := dk_3 (dk_at dksX8_ways_1 18 rfl rfl)
theorem dX8_ways_41 : decode cX8_ways 41 = .ok (.ireturn, 1) := dk_172 (dk_at dksX8_ways_1 19 rfl rfl)
theorem dX8_ways_42 : decode cX8_ways 42 = .ok (.aload_n 0, 1) := dk_42 (dk_at dksX8_ways_1 20 rfl rfl)
theorem dX8_ways_43 : decode cX8_ways 43 = .ok (.iload_n 1, 1) := dk_27 (dk_at dksX8_ways_1 21 rfl rfl)
theorem dX8_ways_44 : decode cX8_ways 44 = .ok (.invokevirtual 347, 3) := dk_182 1 91 (dk_at dksX8_ways_2 0 rfl rfl)
theorem dX8_ways_47 : decode cX8_ways 47 = .ok (.aload_n 0, 1) := dk_42 (dk_at dksX8_ways_2 3 rfl rfl)
theorem dX8_ways_48 : decode cX8_ways 48 = .ok (.invokevirtual 351, 3) := dk_182 1 95 (dk_at dksX8_ways_2 4 rfl rfl)
theorem dX8_ways_51 : decode cX8_ways 51 = .ok (.istore_n 3, 1) := dk_62 (dk_at dksX8_ways_2 7 rfl rfl)
theorem dX8_ways_52 : decode cX8_ways 52 = .ok (.iload_n 2, 1) := dk_28 (dk_at dksX8_ways_2 8 rfl rfl)
theorem dX8_ways_53 : decode cX8_ways 53 = .ok (.ifCond .ne 7, 3) := dk_154 0 7 (dk_at dksX8_ways_2 9 rfl rfl)
theorem dX8_ways_56 : decode cX8_ways 56 = .ok (.iload_n 3, 1) := dk_29 (dk_at dksX8_ways_2 12 rfl rfl)
theorem dX8_ways_57 : decode cX8_ways 57 = .ok (.goto 42, 3) := dk_167 0 42 (dk_at dksX8_ways_2 13 rfl rfl)
theorem dX8_ways_60 : decode cX8_ways 60 = .ok (.iload_n 2, 1) := dk_28 (dk_at dksX8_ways_2 16 rfl rfl)
theorem dX8_ways_61 : decode cX8_ways 61 = .ok (.iconst 1, 1) := dk_4 (dk_at dksX8_ways_2 17 rfl rfl)
theorem dX8_ways_62 : decode cX8_ways 62 = .ok (.if_icmp .ne 10, 3) := dk_160 0 10 (dk_at dksX8_ways_2 18 rfl rfl)
theorem dX8_ways_65 : decode cX8_ways 65 = .ok (.aload_n 0, 1) := dk_42 (dk_at dksX8_ways_2 21 rfl rfl)
theorem dX8_ways_66 : decode cX8_ways 66 = .ok (.getfield 328, 3) := dk_180 1 72 (dk_at dksX8_ways_3 0 rfl rfl)
theorem dX8_ways_69 : decode cX8_ways 69 = .ok (.goto 30, 3) := dk_167 0 30 (dk_at dksX8_ways_3 3 rfl rfl)
theorem dX8_ways_72 : decode cX8_ways 72 = .ok (.iload_n 2, 1) := dk_28 (dk_at dksX8_ways_3 6 rfl rfl)
theorem dX8_ways_73 : decode cX8_ways 73 = .ok (.iconst 2, 1) := dk_5 (dk_at dksX8_ways_3 7 rfl rfl)
theorem dX8_ways_74 : decode cX8_ways 74 = .ok (.if_icmp .ne 10, 3) := dk_160 0 10 (dk_at dksX8_ways_3 8 rfl rfl)
theorem dX8_ways_77 : decode cX8_ways 77 = .ok (.aload_n 0, 1) := dk_42 (dk_at dksX8_ways_3 11 rfl rfl)
theorem dX8_ways_78 : decode cX8_ways 78 = .ok (.getfield 334, 3) := dk_180 1 78 (dk_at dksX8_ways_3 12 rfl rfl)
theorem dX8_ways_81 : decode cX8_ways 81 = .ok (.goto 18, 3) := dk_167 0 18 (dk_at dksX8_ways_3 15 rfl rfl)
theorem dX8_ways_84 : decode cX8_ways 84 = .ok (.sipush 6561, 3) := dk_17 25 161 (dk_at dksX8_ways_3 18 rfl rfl)
theorem dX8_ways_87 : decode cX8_ways 87 = .ok (.iload_n 3, 1) := dk_29 (dk_at dksX8_ways_3 21 rfl rfl)
theorem dX8_ways_88 : decode cX8_ways 88 = .ok (.isub, 1) := dk_100 (dk_at dksX8_ways_3 22 rfl rfl)
theorem dX8_ways_89 : decode cX8_ways 89 = .ok (.aload_n 0, 1) := dk_42 (dk_at dksX8_ways_3 23 rfl rfl)
theorem dX8_ways_90 : decode cX8_ways 90 = .ok (.getfield 328, 3) := dk_180 1 72 (dk_at dksX8_ways_4 0 rfl rfl)
theorem dX8_ways_93 : decode cX8_ways 93 = .ok (.isub, 1) := dk_100 (dk_at dksX8_ways_4 3 rfl rfl)
theorem dX8_ways_94 : decode cX8_ways 94 = .ok (.aload_n 0, 1) := dk_42 (dk_at dksX8_ways_4 4 rfl rfl)
theorem dX8_ways_95 : decode cX8_ways 95 = .ok (.getfield 334, 3) := dk_180 1 78 (dk_at dksX8_ways_4 5 rfl rfl)
theorem dX8_ways_98 : decode cX8_ways 98 = .ok (.isub, 1) := dk_100 (dk_at dksX8_ways_4 8 rfl rfl)
theorem dX8_ways_99 : decode cX8_ways 99 = .ok (.ireturn, 1) := dk_172 (dk_at dksX8_ways_4 9 rfl rfl)
abbrev cX8_laysWays : ByteArray := prog_18_method_69_code
def yX8_laysWays : MethodName := ⟨RX8, "laysWays", "(I)V"⟩
def dkwX8_laysWays_9 : List UInt8 := [180, 0, 42, 28, 46, 96, 181, 1, 78, 132, 2, 1, 167, 255, 231, 177]
abbrev dktX8_laysWays_9 : List UInt8 := dkwX8_laysWays_9 ++ []
def dkwX8_laysWays_8 : List UInt8 := [167, 255, 234, 132, 2, 1, 167, 255, 146, 3, 61, 28, 17, 0, 208, 162, 0, 24, 42, 89, 180, 1, 78, 42]
abbrev dktX8_laysWays_8 : List UInt8 := dkwX8_laysWays_8 ++ dktX8_laysWays_9
def dkwX8_laysWays_7 : List UInt8 := [62, 29, 17, 0, 208, 162, 0, 21, 42, 180, 0, 42, 29, 42, 180, 0, 45, 29, 46, 79, 132, 3, 1]
abbrev dktX8_laysWays_7 : List UInt8 := dkwX8_laysWays_7 ++ dktX8_laysWays_8
def dkwX8_laysWays_6 : List UInt8 := [158, 0, 11, 42, 29, 21, 4, 28, 182, 1, 81, 132, 4, 1, 167, 255, 224, 132, 3, 1, 167, 255, 209, 3]
abbrev dktX8_laysWays_6 : List UInt8 := dkwX8_laysWays_6 ++ dktX8_laysWays_7
def dkwX8_laysWays_5 : List UInt8 := [162, 0, 47, 3, 54, 4, 21, 4, 16, 16, 162, 0, 31, 42, 180, 0, 42, 29, 21, 4, 184, 1, 66, 46]
abbrev dktX8_laysWays_5 : List UInt8 := dkwX8_laysWays_5 ++ dktX8_laysWays_6
def dkwX8_laysWays_4 : List UInt8 := [17, 0, 208, 162, 0, 16, 42, 180, 0, 45, 29, 3, 79, 132, 3, 1, 167, 255, 239, 4, 62, 29, 16, 13]
abbrev dktX8_laysWays_4 : List UInt8 := dkwX8_laysWays_4 ++ dktX8_laysWays_5
def dkwX8_laysWays_3 : List UInt8 := [180, 0, 13, 16, 7, 46, 184, 1, 66, 4, 79, 3, 61, 28, 16, 8, 162, 0, 110, 3, 62, 29]
abbrev dktX8_laysWays_3 : List UInt8 := dkwX8_laysWays_3 ++ dktX8_laysWays_4
def dkwX8_laysWays_2 : List UInt8 := [180, 0, 48, 28, 3, 79, 132, 2, 1, 167, 255, 239, 42, 180, 0, 42, 42, 180, 0, 13, 16, 8, 46, 42]
abbrev dktX8_laysWays_2 : List UInt8 := dkwX8_laysWays_2 ++ dktX8_laysWays_3
def dkwX8_laysWays_1 : List UInt8 := [42, 180, 0, 42, 28, 3, 79, 132, 2, 1, 167, 255, 239, 3, 61, 28, 17, 0, 144, 162, 0, 16, 42]
abbrev dktX8_laysWays_1 : List UInt8 := dkwX8_laysWays_1 ++ dktX8_laysWays_2
def dkwX8_laysWays_0 : List UInt8 := [42, 27, 181, 1, 12, 42, 3, 181, 1, 72, 42, 3, 181, 1, 78, 3, 61, 28, 17, 0, 208, 162, 0, 16]
abbrev dktX8_laysWays_0 : List UInt8 := dkwX8_laysWays_0 ++ dktX8_laysWays_1
theorem dksX8_laysWays_0 : cX8_laysWays.data.toList.drop 0 = dktX8_laysWays_0 := by decide +kernel
theorem dksX8_laysWays_1 : cX8_laysWays.data.toList.drop 24 = dktX8_laysWays_1 := dk_seg dksX8_laysWays_0 24 rfl rfl
theorem dksX8_laysWays_2 : cX8_laysWays.data.toList.drop 47 = dktX8_laysWays_2 := dk_seg dksX8_laysWays_1 23 rfl rfl
theorem dksX8_laysWays_3 : cX8_laysWays.data.toList.drop 71 = dktX8_laysWays_3 := dk_seg dksX8_laysWays_2 24 rfl rfl
theorem dksX8_laysWays_4 : cX8_laysWays.data.toList.drop 93 = dktX8_laysWays_4 := dk_seg dksX8_laysWays_3 22 rfl rfl
theorem dksX8_laysWays_5 : cX8_laysWays.data.toList.drop 117 = dktX8_laysWays_5 := dk_seg dksX8_laysWays_4 24 rfl rfl
theorem dksX8_laysWays_6 : cX8_laysWays.data.toList.drop 141 = dktX8_laysWays_6 := dk_seg dksX8_laysWays_5 24 rfl rfl
theorem dksX8_laysWays_7 : cX8_laysWays.data.toList.drop 165 = dktX8_laysWays_7 := dk_seg dksX8_laysWays_6 24 rfl rfl
theorem dksX8_laysWays_8 : cX8_laysWays.data.toList.drop 188 = dktX8_laysWays_8 := dk_seg dksX8_laysWays_7 23 rfl rfl
theorem dksX8_laysWays_9 : cX8_laysWays.data.toList.drop 212 = dktX8_laysWays_9 := dk_seg dksX8_laysWays_8 24 rfl rfl
theorem dX8_laysWays_0 : decode cX8_laysWays 0 = .ok (.aload_n 0, 1) := dk_42 (dk_at dksX8_laysWays_0 0 rfl rfl)
theorem dX8_laysWays_1 : decode cX8_laysWays 1 = .ok (.iload_n 1, 1) := dk_27 (dk_at dksX8_laysWays_0 1 rfl rfl)
theorem dX8_laysWays_2 : decode cX8_laysWays 2 = .ok (.putfield 268, 3) := dk_181 1 12 (dk_at dksX8_laysWays_0 2 rfl rfl)
theorem dX8_laysWays_5 : decode cX8_laysWays 5 = .ok (.aload_n 0, 1) := dk_42 (dk_at dksX8_laysWays_0 5 rfl rfl)
theorem dX8_laysWays_6 : decode cX8_laysWays 6 = .ok (.iconst 0, 1) := dk_3 (dk_at dksX8_laysWays_0 6 rfl rfl)
theorem dX8_laysWays_7 : decode cX8_laysWays 7 = .ok (.putfield 328, 3) := dk_181 1 72 (dk_at dksX8_laysWays_0 7 rfl rfl)
theorem dX8_laysWays_10 : decode cX8_laysWays 10 = .ok (.aload_n 0, 1) := dk_42 (dk_at dksX8_laysWays_0 10 rfl rfl)
theorem dX8_laysWays_11 : decode cX8_laysWays 11 = .ok (.iconst 0, 1) := dk_3 (dk_at dksX8_laysWays_0 11 rfl rfl)
theorem dX8_laysWays_12 : decode cX8_laysWays 12 = .ok (.putfield 334, 3) := dk_181 1 78 (dk_at dksX8_laysWays_0 12 rfl rfl)
theorem dX8_laysWays_15 : decode cX8_laysWays 15 = .ok (.iconst 0, 1) := dk_3 (dk_at dksX8_laysWays_0 15 rfl rfl)
theorem dX8_laysWays_16 : decode cX8_laysWays 16 = .ok (.istore_n 2, 1) := dk_61 (dk_at dksX8_laysWays_0 16 rfl rfl)
theorem dX8_laysWays_17 : decode cX8_laysWays 17 = .ok (.iload_n 2, 1) := dk_28 (dk_at dksX8_laysWays_0 17 rfl rfl)
theorem dX8_laysWays_18 : decode cX8_laysWays 18 = .ok (.sipush 208, 3) := dk_17 0 208 (dk_at dksX8_laysWays_0 18 rfl rfl)
theorem dX8_laysWays_21 : decode cX8_laysWays 21 = .ok (.if_icmp .ge 16, 3) := dk_162 0 16 (dk_at dksX8_laysWays_0 21 rfl rfl)
theorem dX8_laysWays_24 : decode cX8_laysWays 24 = .ok (.aload_n 0, 1) := dk_42 (dk_at dksX8_laysWays_1 0 rfl rfl)
theorem dX8_laysWays_25 : decode cX8_laysWays 25 = .ok (.getfield 42, 3) := dk_180 0 42 (dk_at dksX8_laysWays_1 1 rfl rfl)
theorem dX8_laysWays_28 : decode cX8_laysWays 28 = .ok (.iload_n 2, 1) := dk_28 (dk_at dksX8_laysWays_1 4 rfl rfl)
theorem dX8_laysWays_29 : decode cX8_laysWays 29 = .ok (.iconst 0, 1) := dk_3 (dk_at dksX8_laysWays_1 5 rfl rfl)
theorem dX8_laysWays_30 : decode cX8_laysWays 30 = .ok (.iastore, 1) := dk_79 (dk_at dksX8_laysWays_1 6 rfl rfl)
theorem dX8_laysWays_31 : decode cX8_laysWays 31 = .ok (.iinc 2 1, 3) := dk_132 2 1 (dk_at dksX8_laysWays_1 7 rfl rfl)
theorem dX8_laysWays_34 : decode cX8_laysWays 34 = .ok (.goto (-17), 3) := dk_167 255 239 (dk_at dksX8_laysWays_1 10 rfl rfl)
theorem dX8_laysWays_37 : decode cX8_laysWays 37 = .ok (.iconst 0, 1) := dk_3 (dk_at dksX8_laysWays_1 13 rfl rfl)
theorem dX8_laysWays_38 : decode cX8_laysWays 38 = .ok (.istore_n 2, 1) := dk_61 (dk_at dksX8_laysWays_1 14 rfl rfl)
theorem dX8_laysWays_39 : decode cX8_laysWays 39 = .ok (.iload_n 2, 1) := dk_28 (dk_at dksX8_laysWays_1 15 rfl rfl)
theorem dX8_laysWays_40 : decode cX8_laysWays 40 = .ok (.sipush 144, 3) := dk_17 0 144 (dk_at dksX8_laysWays_1 16 rfl rfl)
theorem dX8_laysWays_43 : decode cX8_laysWays 43 = .ok (.if_icmp .ge 16, 3) := dk_162 0 16 (dk_at dksX8_laysWays_1 19 rfl rfl)
theorem dX8_laysWays_46 : decode cX8_laysWays 46 = .ok (.aload_n 0, 1) := dk_42 (dk_at dksX8_laysWays_1 22 rfl rfl)
theorem dX8_laysWays_47 : decode cX8_laysWays 47 = .ok (.getfield 48, 3) := dk_180 0 48 (dk_at dksX8_laysWays_2 0 rfl rfl)
theorem dX8_laysWays_50 : decode cX8_laysWays 50 = .ok (.iload_n 2, 1) := dk_28 (dk_at dksX8_laysWays_2 3 rfl rfl)
theorem dX8_laysWays_51 : decode cX8_laysWays 51 = .ok (.iconst 0, 1) := dk_3 (dk_at dksX8_laysWays_2 4 rfl rfl)
theorem dX8_laysWays_52 : decode cX8_laysWays 52 = .ok (.iastore, 1) := dk_79 (dk_at dksX8_laysWays_2 5 rfl rfl)
theorem dX8_laysWays_53 : decode cX8_laysWays 53 = .ok (.iinc 2 1, 3) := dk_132 2 1 (dk_at dksX8_laysWays_2 6 rfl rfl)
theorem dX8_laysWays_56 : decode cX8_laysWays 56 = .ok (.goto (-17), 3) := dk_167 255 239 (dk_at dksX8_laysWays_2 9 rfl rfl)
theorem dX8_laysWays_59 : decode cX8_laysWays 59 = .ok (.aload_n 0, 1) := dk_42 (dk_at dksX8_laysWays_2 12 rfl rfl)
theorem dX8_laysWays_60 : decode cX8_laysWays 60 = .ok (.getfield 42, 3) := dk_180 0 42 (dk_at dksX8_laysWays_2 13 rfl rfl)
theorem dX8_laysWays_63 : decode cX8_laysWays 63 = .ok (.aload_n 0, 1) := dk_42 (dk_at dksX8_laysWays_2 16 rfl rfl)
theorem dX8_laysWays_64 : decode cX8_laysWays 64 = .ok (.getfield 13, 3) := dk_180 0 13 (dk_at dksX8_laysWays_2 17 rfl rfl)
theorem dX8_laysWays_67 : decode cX8_laysWays 67 = .ok (.bipush 8, 2) := dk_16 8 (dk_at dksX8_laysWays_2 20 rfl rfl)
theorem dX8_laysWays_69 : decode cX8_laysWays 69 = .ok (.iaload, 1) := dk_46 (dk_at dksX8_laysWays_2 22 rfl rfl)
theorem dX8_laysWays_70 : decode cX8_laysWays 70 = .ok (.aload_n 0, 1) := dk_42 (dk_at dksX8_laysWays_2 23 rfl rfl)
theorem dX8_laysWays_71 : decode cX8_laysWays 71 = .ok (.getfield 13, 3) := dk_180 0 13 (dk_at dksX8_laysWays_3 0 rfl rfl)
theorem dX8_laysWays_74 : decode cX8_laysWays 74 = .ok (.bipush 7, 2) := dk_16 7 (dk_at dksX8_laysWays_3 3 rfl rfl)
theorem dX8_laysWays_76 : decode cX8_laysWays 76 = .ok (.iaload, 1) := dk_46 (dk_at dksX8_laysWays_3 5 rfl rfl)
theorem dX8_laysWays_77 : decode cX8_laysWays 77 = .ok (.invokestatic 322, 3) := dk_184 1 66 (dk_at dksX8_laysWays_3 6 rfl rfl)
theorem dX8_laysWays_80 : decode cX8_laysWays 80 = .ok (.iconst 1, 1) := dk_4 (dk_at dksX8_laysWays_3 9 rfl rfl)
theorem dX8_laysWays_81 : decode cX8_laysWays 81 = .ok (.iastore, 1) := dk_79 (dk_at dksX8_laysWays_3 10 rfl rfl)
theorem dX8_laysWays_82 : decode cX8_laysWays 82 = .ok (.iconst 0, 1) := dk_3 (dk_at dksX8_laysWays_3 11 rfl rfl)
theorem dX8_laysWays_83 : decode cX8_laysWays 83 = .ok (.istore_n 2, 1) := dk_61 (dk_at dksX8_laysWays_3 12 rfl rfl)
theorem dX8_laysWays_84 : decode cX8_laysWays 84 = .ok (.iload_n 2, 1) := dk_28 (dk_at dksX8_laysWays_3 13 rfl rfl)
theorem dX8_laysWays_85 : decode cX8_laysWays 85 = .ok (.bipush 8, 2) := dk_16 8 (dk_at dksX8_laysWays_3 14 rfl rfl)
theorem dX8_laysWays_87 : decode cX8_laysWays 87 = .ok (.if_icmp .ge 110, 3) := dk_162 0 110 (dk_at dksX8_laysWays_3 16 rfl rfl)
theorem dX8_laysWays_90 : decode cX8_laysWays 90 = .ok (.iconst 0, 1) := dk_3 (dk_at dksX8_laysWays_3 19 rfl rfl)
theorem dX8_laysWays_91 : decode cX8_laysWays 91 = .ok (.istore_n 3, 1) := dk_62 (dk_at dksX8_laysWays_3 20 rfl rfl)
theorem dX8_laysWays_92 : decode cX8_laysWays 92 = .ok (.iload_n 3, 1) := dk_29 (dk_at dksX8_laysWays_3 21 rfl rfl)
theorem dX8_laysWays_93 : decode cX8_laysWays 93 = .ok (.sipush 208, 3) := dk_17 0 208 (dk_at dksX8_laysWays_4 0 rfl rfl)
theorem dX8_laysWays_96 : decode cX8_laysWays 96 = .ok (.if_icmp .ge 16, 3) := dk_162 0 16 (dk_at dksX8_laysWays_4 3 rfl rfl)
theorem dX8_laysWays_99 : decode cX8_laysWays 99 = .ok (.aload_n 0, 1) := dk_42 (dk_at dksX8_laysWays_4 6 rfl rfl)
theorem dX8_laysWays_100 : decode cX8_laysWays 100 = .ok (.getfield 45, 3) := dk_180 0 45 (dk_at dksX8_laysWays_4 7 rfl rfl)
theorem dX8_laysWays_103 : decode cX8_laysWays 103 = .ok (.iload_n 3, 1) := dk_29 (dk_at dksX8_laysWays_4 10 rfl rfl)
theorem dX8_laysWays_104 : decode cX8_laysWays 104 = .ok (.iconst 0, 1) := dk_3 (dk_at dksX8_laysWays_4 11 rfl rfl)
theorem dX8_laysWays_105 : decode cX8_laysWays 105 = .ok (.iastore, 1) := dk_79 (dk_at dksX8_laysWays_4 12 rfl rfl)
theorem dX8_laysWays_106 : decode cX8_laysWays 106 = .ok (.iinc 3 1, 3) := dk_132 3 1 (dk_at dksX8_laysWays_4 13 rfl rfl)
theorem dX8_laysWays_109 : decode cX8_laysWays 109 = .ok (.goto (-17), 3) := dk_167 255 239 (dk_at dksX8_laysWays_4 16 rfl rfl)
theorem dX8_laysWays_112 : decode cX8_laysWays 112 = .ok (.iconst 1, 1) := dk_4 (dk_at dksX8_laysWays_4 19 rfl rfl)
theorem dX8_laysWays_113 : decode cX8_laysWays 113 = .ok (.istore_n 3, 1) := dk_62 (dk_at dksX8_laysWays_4 20 rfl rfl)
theorem dX8_laysWays_114 : decode cX8_laysWays 114 = .ok (.iload_n 3, 1) := dk_29 (dk_at dksX8_laysWays_4 21 rfl rfl)
theorem dX8_laysWays_115 : decode cX8_laysWays 115 = .ok (.bipush 13, 2) := dk_16 13 (dk_at dksX8_laysWays_4 22 rfl rfl)
theorem dX8_laysWays_117 : decode cX8_laysWays 117 = .ok (.if_icmp .ge 47, 3) := dk_162 0 47 (dk_at dksX8_laysWays_5 0 rfl rfl)
theorem dX8_laysWays_120 : decode cX8_laysWays 120 = .ok (.iconst 0, 1) := dk_3 (dk_at dksX8_laysWays_5 3 rfl rfl)
theorem dX8_laysWays_121 : decode cX8_laysWays 121 = .ok (.istore 4, 2) := dk_54 4 (dk_at dksX8_laysWays_5 4 rfl rfl)
theorem dX8_laysWays_123 : decode cX8_laysWays 123 = .ok (.iload 4, 2) := dk_21 4 (dk_at dksX8_laysWays_5 6 rfl rfl)
theorem dX8_laysWays_125 : decode cX8_laysWays 125 = .ok (.bipush 16, 2) := dk_16 16 (dk_at dksX8_laysWays_5 8 rfl rfl)
theorem dX8_laysWays_127 : decode cX8_laysWays 127 = .ok (.if_icmp .ge 31, 3) := dk_162 0 31 (dk_at dksX8_laysWays_5 10 rfl rfl)
theorem dX8_laysWays_130 : decode cX8_laysWays 130 = .ok (.aload_n 0, 1) := dk_42 (dk_at dksX8_laysWays_5 13 rfl rfl)
theorem dX8_laysWays_131 : decode cX8_laysWays 131 = .ok (.getfield 42, 3) := dk_180 0 42 (dk_at dksX8_laysWays_5 14 rfl rfl)
theorem dX8_laysWays_134 : decode cX8_laysWays 134 = .ok (.iload_n 3, 1) := dk_29 (dk_at dksX8_laysWays_5 17 rfl rfl)
theorem dX8_laysWays_135 : decode cX8_laysWays 135 = .ok (.iload 4, 2) := dk_21 4 (dk_at dksX8_laysWays_5 18 rfl rfl)
theorem dX8_laysWays_137 : decode cX8_laysWays 137 = .ok (.invokestatic 322, 3) := dk_184 1 66 (dk_at dksX8_laysWays_5 20 rfl rfl)
theorem dX8_laysWays_140 : decode cX8_laysWays 140 = .ok (.iaload, 1) := dk_46 (dk_at dksX8_laysWays_5 23 rfl rfl)
theorem dX8_laysWays_141 : decode cX8_laysWays 141 = .ok (.ifCond .le 11, 3) := dk_158 0 11 (dk_at dksX8_laysWays_6 0 rfl rfl)
theorem dX8_laysWays_144 : decode cX8_laysWays 144 = .ok (.aload_n 0, 1) := dk_42 (dk_at dksX8_laysWays_6 3 rfl rfl)
theorem dX8_laysWays_145 : decode cX8_laysWays 145 = .ok (.iload_n 3, 1) := dk_29 (dk_at dksX8_laysWays_6 4 rfl rfl)
theorem dX8_laysWays_146 : decode cX8_laysWays 146 = .ok (.iload 4, 2) := dk_21 4 (dk_at dksX8_laysWays_6 5 rfl rfl)
theorem dX8_laysWays_148 : decode cX8_laysWays 148 = .ok (.iload_n 2, 1) := dk_28 (dk_at dksX8_laysWays_6 7 rfl rfl)
theorem dX8_laysWays_149 : decode cX8_laysWays 149 = .ok (.invokevirtual 337, 3) := dk_182 1 81 (dk_at dksX8_laysWays_6 8 rfl rfl)
theorem dX8_laysWays_152 : decode cX8_laysWays 152 = .ok (.iinc 4 1, 3) := dk_132 4 1 (dk_at dksX8_laysWays_6 11 rfl rfl)
theorem dX8_laysWays_155 : decode cX8_laysWays 155 = .ok (.goto (-32), 3) := dk_167 255 224 (dk_at dksX8_laysWays_6 14 rfl rfl)
theorem dX8_laysWays_158 : decode cX8_laysWays 158 = .ok (.iinc 3 1, 3) := dk_132 3 1 (dk_at dksX8_laysWays_6 17 rfl rfl)
theorem dX8_laysWays_161 : decode cX8_laysWays 161 = .ok (.goto (-47), 3) := dk_167 255 209 (dk_at dksX8_laysWays_6 20 rfl rfl)
theorem dX8_laysWays_164 : decode cX8_laysWays 164 = .ok (.iconst 0, 1) := dk_3 (dk_at dksX8_laysWays_6 23 rfl rfl)
theorem dX8_laysWays_165 : decode cX8_laysWays 165 = .ok (.istore_n 3, 1) := dk_62 (dk_at dksX8_laysWays_7 0 rfl rfl)
theorem dX8_laysWays_166 : decode cX8_laysWays 166 = .ok (.iload_n 3, 1) := dk_29 (dk_at dksX8_laysWays_7 1 rfl rfl)
theorem dX8_laysWays_167 : decode cX8_laysWays 167 = .ok (.sipush 208, 3) := dk_17 0 208 (dk_at dksX8_laysWays_7 2 rfl rfl)
theorem dX8_laysWays_170 : decode cX8_laysWays 170 = .ok (.if_icmp .ge 21, 3) := dk_162 0 21 (dk_at dksX8_laysWays_7 5 rfl rfl)
theorem dX8_laysWays_173 : decode cX8_laysWays 173 = .ok (.aload_n 0, 1) := dk_42 (dk_at dksX8_laysWays_7 8 rfl rfl)
theorem dX8_laysWays_174 : decode cX8_laysWays 174 = .ok (.getfield 42, 3) := dk_180 0 42 (dk_at dksX8_laysWays_7 9 rfl rfl)
theorem dX8_laysWays_177 : decode cX8_laysWays 177 = .ok (.iload_n 3, 1) := dk_29 (dk_at dksX8_laysWays_7 12 rfl rfl)
theorem dX8_laysWays_178 : decode cX8_laysWays 178 = .ok (.aload_n 0, 1) := dk_42 (dk_at dksX8_laysWays_7 13 rfl rfl)
theorem dX8_laysWays_179 : decode cX8_laysWays 179 = .ok (.getfield 45, 3) := dk_180 0 45 (dk_at dksX8_laysWays_7 14 rfl rfl)
theorem dX8_laysWays_182 : decode cX8_laysWays 182 = .ok (.iload_n 3, 1) := dk_29 (dk_at dksX8_laysWays_7 17 rfl rfl)
theorem dX8_laysWays_183 : decode cX8_laysWays 183 = .ok (.iaload, 1) := dk_46 (dk_at dksX8_laysWays_7 18 rfl rfl)
theorem dX8_laysWays_184 : decode cX8_laysWays 184 = .ok (.iastore, 1) := dk_79 (dk_at dksX8_laysWays_7 19 rfl rfl)
theorem dX8_laysWays_185 : decode cX8_laysWays 185 = .ok (.iinc 3 1, 3) := dk_132 3 1 (dk_at dksX8_laysWays_7 20 rfl rfl)
theorem dX8_laysWays_188 : decode cX8_laysWays 188 = .ok (.goto (-22), 3) := dk_167 255 234 (dk_at dksX8_laysWays_8 0 rfl rfl)
theorem dX8_laysWays_191 : decode cX8_laysWays 191 = .ok (.iinc 2 1, 3) := dk_132 2 1 (dk_at dksX8_laysWays_8 3 rfl rfl)
theorem dX8_laysWays_194 : decode cX8_laysWays 194 = .ok (.goto (-110), 3) := dk_167 255 146 (dk_at dksX8_laysWays_8 6 rfl rfl)
theorem dX8_laysWays_197 : decode cX8_laysWays 197 = .ok (.iconst 0, 1) := dk_3 (dk_at dksX8_laysWays_8 9 rfl rfl)
theorem dX8_laysWays_198 : decode cX8_laysWays 198 = .ok (.istore_n 2, 1) := dk_61 (dk_at dksX8_laysWays_8 10 rfl rfl)
theorem dX8_laysWays_199 : decode cX8_laysWays 199 = .ok (.iload_n 2, 1) := dk_28 (dk_at dksX8_laysWays_8 11 rfl rfl)
theorem dX8_laysWays_200 : decode cX8_laysWays 200 = .ok (.sipush 208, 3) := dk_17 0 208 (dk_at dksX8_laysWays_8 12 rfl rfl)
theorem dX8_laysWays_203 : decode cX8_laysWays 203 = .ok (.if_icmp .ge 24, 3) := dk_162 0 24 (dk_at dksX8_laysWays_8 15 rfl rfl)
theorem dX8_laysWays_206 : decode cX8_laysWays 206 = .ok (.aload_n 0, 1) := dk_42 (dk_at dksX8_laysWays_8 18 rfl rfl)
theorem dX8_laysWays_207 : decode cX8_laysWays 207 = .ok (.dup, 1) := dk_89 (dk_at dksX8_laysWays_8 19 rfl rfl)
theorem dX8_laysWays_208 : decode cX8_laysWays 208 = .ok (.getfield 334, 3) := dk_180 1 78 (dk_at dksX8_laysWays_8 20 rfl rfl)
theorem dX8_laysWays_211 : decode cX8_laysWays 211 = .ok (.aload_n 0, 1) := dk_42 (dk_at dksX8_laysWays_8 23 rfl rfl)
theorem dX8_laysWays_212 : decode cX8_laysWays 212 = .ok (.getfield 42, 3) := dk_180 0 42 (dk_at dksX8_laysWays_9 0 rfl rfl)
theorem dX8_laysWays_215 : decode cX8_laysWays 215 = .ok (.iload_n 2, 1) := dk_28 (dk_at dksX8_laysWays_9 3 rfl rfl)
theorem dX8_laysWays_216 : decode cX8_laysWays 216 = .ok (.iaload, 1) := dk_46 (dk_at dksX8_laysWays_9 4 rfl rfl)
theorem dX8_laysWays_217 : decode cX8_laysWays 217 = .ok (.iadd, 1) := dk_96 (dk_at dksX8_laysWays_9 5 rfl rfl)
theorem dX8_laysWays_218 : decode cX8_laysWays 218 = .ok (.putfield 334, 3) := dk_181 1 78 (dk_at dksX8_laysWays_9 6 rfl rfl)
theorem dX8_laysWays_221 : decode cX8_laysWays 221 = .ok (.iinc 2 1, 3) := dk_132 2 1 (dk_at dksX8_laysWays_9 9 rfl rfl)
theorem dX8_laysWays_224 : decode cX8_laysWays 224 = .ok (.goto (-25), 3) := dk_167 255 231 (dk_at dksX8_laysWays_9 12 rfl rfl)
theorem dX8_laysWays_227 : decode cX8_laysWays 227 = .ok (.return_, 1) := dk_177 (dk_at dksX8_laysWays_9 15 rfl rfl)
abbrev cX8_at : ByteArray := prog_18_method_66_code
def yX8_at : MethodName := ⟨RX8, "at", "(II)I"⟩
def dkwX8_at_0 : List UInt8 := [16, 16, 26, 104, 27, 96, 172]
abbrev dktX8_at_0 : List UInt8 := dkwX8_at_0 ++ []
theorem dksX8_at_0 : cX8_at.data.toList.drop 0 = dktX8_at_0 := by decide +kernel
theorem dX8_at_0 : decode cX8_at 0 = .ok (.bipush 16, 2) := dk_16 16 (dk_at dksX8_at_0 0 rfl rfl)
theorem dX8_at_2 : decode cX8_at 2 = .ok (.iload_n 0, 1) := dk_26 (dk_at dksX8_at_0 2 rfl rfl)
theorem dX8_at_3 : decode cX8_at 3 = .ok (.imul, 1) := dk_104 (dk_at dksX8_at_0 3 rfl rfl)
theorem dX8_at_4 : decode cX8_at 4 = .ok (.iload_n 1, 1) := dk_27 (dk_at dksX8_at_0 4 rfl rfl)
theorem dX8_at_5 : decode cX8_at 5 = .ok (.iadd, 1) := dk_96 (dk_at dksX8_at_0 5 rfl rfl)
theorem dX8_at_6 : decode cX8_at 6 = .ok (.ireturn, 1) := dk_172 (dk_at dksX8_at_0 6 rfl rfl)
abbrev cX8_goesOn : ByteArray := prog_18_method_68_code
def yX8_goesOn : MethodName := ⟨RX8, "goesOn", "(III)V"⟩
def dkwX8_goesOn_6 : List UInt8 := [96, 79, 132, 7, 1, 167, 255, 150, 177]
abbrev dktX8_goesOn_6 : List UInt8 := dkwX8_goesOn_6 ++ []
def dkwX8_goesOn_5 : List UInt8 := [184, 1, 75, 104, 96, 79, 167, 0, 20, 42, 180, 0, 45, 21, 5, 21, 8, 184, 1, 66, 92, 46, 21, 4]
abbrev dktX8_goesOn_5 : List UInt8 := dkwX8_goesOn_5 ++ dktX8_goesOn_6
def dkwX8_goesOn_4 : List UInt8 := [157, 0, 32, 42, 180, 0, 48, 16, 16, 29, 4, 96, 104, 21, 8, 96, 92, 46, 21, 4, 29, 4, 96]
abbrev dktX8_goesOn_4 : List UInt8 := dkwX8_goesOn_4 ++ dktX8_goesOn_5
def dkwX8_goesOn_3 : List UInt8 := [42, 89, 180, 1, 72, 21, 4, 29, 4, 96, 184, 1, 75, 104, 96, 181, 1, 72, 167, 0, 54, 21, 5]
abbrev dktX8_goesOn_3 : List UInt8 := dkwX8_goesOn_3 ++ dktX8_goesOn_4
def dkwX8_goesOn_2 : List UInt8 := [21, 6, 96, 42, 42, 180, 1, 12, 21, 7, 182, 1, 69, 96, 54, 8, 21, 8, 184, 1, 53, 153, 0, 24]
abbrev dktX8_goesOn_2 : List UInt8 := dkwX8_goesOn_2 ++ dktX8_goesOn_3
def dkwX8_goesOn_1 : List UInt8 := [42, 182, 1, 63, 100, 54, 5, 42, 182, 1, 60, 54, 6, 2, 54, 7, 21, 7, 4, 163, 0, 106, 28]
abbrev dktX8_goesOn_1 : List UInt8 := dkwX8_goesOn_1 ++ dktX8_goesOn_2
def dkwX8_goesOn_0 : List UInt8 := [42, 180, 0, 42, 27, 28, 184, 1, 66, 46, 54, 4, 42, 42, 180, 1, 12, 27, 28, 29, 182, 1, 56, 27]
abbrev dktX8_goesOn_0 : List UInt8 := dkwX8_goesOn_0 ++ dktX8_goesOn_1
theorem dksX8_goesOn_0 : cX8_goesOn.data.toList.drop 0 = dktX8_goesOn_0 := by decide +kernel
theorem dksX8_goesOn_1 : cX8_goesOn.data.toList.drop 24 = dktX8_goesOn_1 := dk_seg dksX8_goesOn_0 24 rfl rfl
theorem dksX8_goesOn_2 : cX8_goesOn.data.toList.drop 47 = dktX8_goesOn_2 := dk_seg dksX8_goesOn_1 23 rfl rfl
theorem dksX8_goesOn_3 : cX8_goesOn.data.toList.drop 71 = dktX8_goesOn_3 := dk_seg dksX8_goesOn_2 24 rfl rfl
theorem dksX8_goesOn_4 : cX8_goesOn.data.toList.drop 94 = dktX8_goesOn_4 := dk_seg dksX8_goesOn_3 23 rfl rfl
theorem dksX8_goesOn_5 : cX8_goesOn.data.toList.drop 117 = dktX8_goesOn_5 := dk_seg dksX8_goesOn_4 23 rfl rfl
theorem dksX8_goesOn_6 : cX8_goesOn.data.toList.drop 141 = dktX8_goesOn_6 := dk_seg dksX8_goesOn_5 24 rfl rfl
theorem dX8_goesOn_0 : decode cX8_goesOn 0 = .ok (.aload_n 0, 1) := dk_42 (dk_at dksX8_goesOn_0 0 rfl rfl)
theorem dX8_goesOn_1 : decode cX8_goesOn 1 = .ok (.getfield 42, 3) := dk_180 0 42 (dk_at dksX8_goesOn_0 1 rfl rfl)
theorem dX8_goesOn_4 : decode cX8_goesOn 4 = .ok (.iload_n 1, 1) := dk_27 (dk_at dksX8_goesOn_0 4 rfl rfl)
theorem dX8_goesOn_5 : decode cX8_goesOn 5 = .ok (.iload_n 2, 1) := dk_28 (dk_at dksX8_goesOn_0 5 rfl rfl)
theorem dX8_goesOn_6 : decode cX8_goesOn 6 = .ok (.invokestatic 322, 3) := dk_184 1 66 (dk_at dksX8_goesOn_0 6 rfl rfl)
theorem dX8_goesOn_9 : decode cX8_goesOn 9 = .ok (.iaload, 1) := dk_46 (dk_at dksX8_goesOn_0 9 rfl rfl)
theorem dX8_goesOn_10 : decode cX8_goesOn 10 = .ok (.istore 4, 2) := dk_54 4 (dk_at dksX8_goesOn_0 10 rfl rfl)
theorem dX8_goesOn_12 : decode cX8_goesOn 12 = .ok (.aload_n 0, 1) := dk_42 (dk_at dksX8_goesOn_0 12 rfl rfl)
theorem dX8_goesOn_13 : decode cX8_goesOn 13 = .ok (.aload_n 0, 1) := dk_42 (dk_at dksX8_goesOn_0 13 rfl rfl)
theorem dX8_goesOn_14 : decode cX8_goesOn 14 = .ok (.getfield 268, 3) := dk_180 1 12 (dk_at dksX8_goesOn_0 14 rfl rfl)
theorem dX8_goesOn_17 : decode cX8_goesOn 17 = .ok (.iload_n 1, 1) := dk_27 (dk_at dksX8_goesOn_0 17 rfl rfl)
theorem dX8_goesOn_18 : decode cX8_goesOn 18 = .ok (.iload_n 2, 1) := dk_28 (dk_at dksX8_goesOn_0 18 rfl rfl)
theorem dX8_goesOn_19 : decode cX8_goesOn 19 = .ok (.iload_n 3, 1) := dk_29 (dk_at dksX8_goesOn_0 19 rfl rfl)
theorem dX8_goesOn_20 : decode cX8_goesOn 20 = .ok (.invokevirtual 312, 3) := dk_182 1 56 (dk_at dksX8_goesOn_0 20 rfl rfl)
theorem dX8_goesOn_23 : decode cX8_goesOn 23 = .ok (.iload_n 1, 1) := dk_27 (dk_at dksX8_goesOn_0 23 rfl rfl)
theorem dX8_goesOn_24 : decode cX8_goesOn 24 = .ok (.aload_n 0, 1) := dk_42 (dk_at dksX8_goesOn_1 0 rfl rfl)
theorem dX8_goesOn_25 : decode cX8_goesOn 25 = .ok (.invokevirtual 319, 3) := dk_182 1 63 (dk_at dksX8_goesOn_1 1 rfl rfl)
theorem dX8_goesOn_28 : decode cX8_goesOn 28 = .ok (.isub, 1) := dk_100 (dk_at dksX8_goesOn_1 4 rfl rfl)
theorem dX8_goesOn_29 : decode cX8_goesOn 29 = .ok (.istore 5, 2) := dk_54 5 (dk_at dksX8_goesOn_1 5 rfl rfl)
theorem dX8_goesOn_31 : decode cX8_goesOn 31 = .ok (.aload_n 0, 1) := dk_42 (dk_at dksX8_goesOn_1 7 rfl rfl)
theorem dX8_goesOn_32 : decode cX8_goesOn 32 = .ok (.invokevirtual 316, 3) := dk_182 1 60 (dk_at dksX8_goesOn_1 8 rfl rfl)
theorem dX8_goesOn_35 : decode cX8_goesOn 35 = .ok (.istore 6, 2) := dk_54 6 (dk_at dksX8_goesOn_1 11 rfl rfl)
theorem dX8_goesOn_37 : decode cX8_goesOn 37 = .ok (.iconst (-1), 1) := dk_2 (dk_at dksX8_goesOn_1 13 rfl rfl)
theorem dX8_goesOn_38 : decode cX8_goesOn 38 = .ok (.istore 7, 2) := dk_54 7 (dk_at dksX8_goesOn_1 14 rfl rfl)
theorem dX8_goesOn_40 : decode cX8_goesOn 40 = .ok (.iload 7, 2) := dk_21 7 (dk_at dksX8_goesOn_1 16 rfl rfl)
theorem dX8_goesOn_42 : decode cX8_goesOn 42 = .ok (.iconst 1, 1) := dk_4 (dk_at dksX8_goesOn_1 18 rfl rfl)
theorem dX8_goesOn_43 : decode cX8_goesOn 43 = .ok (.if_icmp .gt 106, 3) := dk_163 0 106 (dk_at dksX8_goesOn_1 19 rfl rfl)
theorem dX8_goesOn_46 : decode cX8_goesOn 46 = .ok (.iload_n 2, 1) := dk_28 (dk_at dksX8_goesOn_1 22 rfl rfl)
theorem dX8_goesOn_47 : decode cX8_goesOn 47 = .ok (.iload 6, 2) := dk_21 6 (dk_at dksX8_goesOn_2 0 rfl rfl)
theorem dX8_goesOn_49 : decode cX8_goesOn 49 = .ok (.iadd, 1) := dk_96 (dk_at dksX8_goesOn_2 2 rfl rfl)
theorem dX8_goesOn_50 : decode cX8_goesOn 50 = .ok (.aload_n 0, 1) := dk_42 (dk_at dksX8_goesOn_2 3 rfl rfl)
theorem dX8_goesOn_51 : decode cX8_goesOn 51 = .ok (.aload_n 0, 1) := dk_42 (dk_at dksX8_goesOn_2 4 rfl rfl)
theorem dX8_goesOn_52 : decode cX8_goesOn 52 = .ok (.getfield 268, 3) := dk_180 1 12 (dk_at dksX8_goesOn_2 5 rfl rfl)
theorem dX8_goesOn_55 : decode cX8_goesOn 55 = .ok (.iload 7, 2) := dk_21 7 (dk_at dksX8_goesOn_2 8 rfl rfl)
theorem dX8_goesOn_57 : decode cX8_goesOn 57 = .ok (.invokevirtual 325, 3) := dk_182 1 69 (dk_at dksX8_goesOn_2 10 rfl rfl)
theorem dX8_goesOn_60 : decode cX8_goesOn 60 = .ok (.iadd, 1) := dk_96 (dk_at dksX8_goesOn_2 13 rfl rfl)
theorem dX8_goesOn_61 : decode cX8_goesOn 61 = .ok (.istore 8, 2) := dk_54 8 (dk_at dksX8_goesOn_2 14 rfl rfl)
theorem dX8_goesOn_63 : decode cX8_goesOn 63 = .ok (.iload 8, 2) := dk_21 8 (dk_at dksX8_goesOn_2 16 rfl rfl)
theorem dX8_goesOn_65 : decode cX8_goesOn 65 = .ok (.invokestatic 309, 3) := dk_184 1 53 (dk_at dksX8_goesOn_2 18 rfl rfl)
theorem dX8_goesOn_68 : decode cX8_goesOn 68 = .ok (.ifCond .eq 24, 3) := dk_153 0 24 (dk_at dksX8_goesOn_2 21 rfl rfl)
theorem dX8_goesOn_71 : decode cX8_goesOn 71 = .ok (.aload_n 0, 1) := dk_42 (dk_at dksX8_goesOn_3 0 rfl rfl)
theorem dX8_goesOn_72 : decode cX8_goesOn 72 = .ok (.dup, 1) := dk_89 (dk_at dksX8_goesOn_3 1 rfl rfl)
theorem dX8_goesOn_73 : decode cX8_goesOn 73 = .ok (.getfield 328, 3) := dk_180 1 72 (dk_at dksX8_goesOn_3 2 rfl rfl)
theorem dX8_goesOn_76 : decode cX8_goesOn 76 = .ok (.iload 4, 2) := dk_21 4 (dk_at dksX8_goesOn_3 5 rfl rfl)
theorem dX8_goesOn_78 : decode cX8_goesOn 78 = .ok (.iload_n 3, 1) := dk_29 (dk_at dksX8_goesOn_3 7 rfl rfl)
theorem dX8_goesOn_79 : decode cX8_goesOn 79 = .ok (.iconst 1, 1) := dk_4 (dk_at dksX8_goesOn_3 8 rfl rfl)
theorem dX8_goesOn_80 : decode cX8_goesOn 80 = .ok (.iadd, 1) := dk_96 (dk_at dksX8_goesOn_3 9 rfl rfl)
theorem dX8_goesOn_81 : decode cX8_goesOn 81 = .ok (.invokestatic 331, 3) := dk_184 1 75 (dk_at dksX8_goesOn_3 10 rfl rfl)
theorem dX8_goesOn_84 : decode cX8_goesOn 84 = .ok (.imul, 1) := dk_104 (dk_at dksX8_goesOn_3 13 rfl rfl)
theorem dX8_goesOn_85 : decode cX8_goesOn 85 = .ok (.iadd, 1) := dk_96 (dk_at dksX8_goesOn_3 14 rfl rfl)
theorem dX8_goesOn_86 : decode cX8_goesOn 86 = .ok (.putfield 328, 3) := dk_181 1 72 (dk_at dksX8_goesOn_3 15 rfl rfl)
theorem dX8_goesOn_89 : decode cX8_goesOn 89 = .ok (.goto 54, 3) := dk_167 0 54 (dk_at dksX8_goesOn_3 18 rfl rfl)
theorem dX8_goesOn_92 : decode cX8_goesOn 92 = .ok (.iload 5, 2) := dk_21 5 (dk_at dksX8_goesOn_3 21 rfl rfl)
theorem dX8_goesOn_94 : decode cX8_goesOn 94 = .ok (.ifCond .gt 32, 3) := dk_157 0 32 (dk_at dksX8_goesOn_4 0 rfl rfl)
theorem dX8_goesOn_97 : decode cX8_goesOn 97 = .ok (.aload_n 0, 1) := dk_42 (dk_at dksX8_goesOn_4 3 rfl rfl)
theorem dX8_goesOn_98 : decode cX8_goesOn 98 = .ok (.getfield 48, 3) := dk_180 0 48 (dk_at dksX8_goesOn_4 4 rfl rfl)
theorem dX8_goesOn_101 : decode cX8_goesOn 101 = .ok (.bipush 16, 2) := dk_16 16 (dk_at dksX8_goesOn_4 7 rfl rfl)
theorem dX8_goesOn_103 : decode cX8_goesOn 103 = .ok (.iload_n 3, 1) := dk_29 (dk_at dksX8_goesOn_4 9 rfl rfl)
theorem dX8_goesOn_104 : decode cX8_goesOn 104 = .ok (.iconst 1, 1) := dk_4 (dk_at dksX8_goesOn_4 10 rfl rfl)
theorem dX8_goesOn_105 : decode cX8_goesOn 105 = .ok (.iadd, 1) := dk_96 (dk_at dksX8_goesOn_4 11 rfl rfl)
theorem dX8_goesOn_106 : decode cX8_goesOn 106 = .ok (.imul, 1) := dk_104 (dk_at dksX8_goesOn_4 12 rfl rfl)
theorem dX8_goesOn_107 : decode cX8_goesOn 107 = .ok (.iload 8, 2) := dk_21 8 (dk_at dksX8_goesOn_4 13 rfl rfl)
theorem dX8_goesOn_109 : decode cX8_goesOn 109 = .ok (.iadd, 1) := dk_96 (dk_at dksX8_goesOn_4 15 rfl rfl)
theorem dX8_goesOn_110 : decode cX8_goesOn 110 = .ok (.dup2, 1) := dk_92 (dk_at dksX8_goesOn_4 16 rfl rfl)
theorem dX8_goesOn_111 : decode cX8_goesOn 111 = .ok (.iaload, 1) := dk_46 (dk_at dksX8_goesOn_4 17 rfl rfl)
theorem dX8_goesOn_112 : decode cX8_goesOn 112 = .ok (.iload 4, 2) := dk_21 4 (dk_at dksX8_goesOn_4 18 rfl rfl)
theorem dX8_goesOn_114 : decode cX8_goesOn 114 = .ok (.iload_n 3, 1) := dk_29 (dk_at dksX8_goesOn_4 20 rfl rfl)
theorem dX8_goesOn_115 : decode cX8_goesOn 115 = .ok (.iconst 1, 1) := dk_4 (dk_at dksX8_goesOn_4 21 rfl rfl)
theorem dX8_goesOn_116 : decode cX8_goesOn 116 = .ok (.iadd, 1) := dk_96 (dk_at dksX8_goesOn_4 22 rfl rfl)
theorem dX8_goesOn_117 : decode cX8_goesOn 117 = .ok (.invokestatic 331, 3) := dk_184 1 75 (dk_at dksX8_goesOn_5 0 rfl rfl)
theorem dX8_goesOn_120 : decode cX8_goesOn 120 = .ok (.imul, 1) := dk_104 (dk_at dksX8_goesOn_5 3 rfl rfl)
theorem dX8_goesOn_121 : decode cX8_goesOn 121 = .ok (.iadd, 1) := dk_96 (dk_at dksX8_goesOn_5 4 rfl rfl)
theorem dX8_goesOn_122 : decode cX8_goesOn 122 = .ok (.iastore, 1) := dk_79 (dk_at dksX8_goesOn_5 5 rfl rfl)
theorem dX8_goesOn_123 : decode cX8_goesOn 123 = .ok (.goto 20, 3) := dk_167 0 20 (dk_at dksX8_goesOn_5 6 rfl rfl)
theorem dX8_goesOn_126 : decode cX8_goesOn 126 = .ok (.aload_n 0, 1) := dk_42 (dk_at dksX8_goesOn_5 9 rfl rfl)
theorem dX8_goesOn_127 : decode cX8_goesOn 127 = .ok (.getfield 45, 3) := dk_180 0 45 (dk_at dksX8_goesOn_5 10 rfl rfl)
theorem dX8_goesOn_130 : decode cX8_goesOn 130 = .ok (.iload 5, 2) := dk_21 5 (dk_at dksX8_goesOn_5 13 rfl rfl)
theorem dX8_goesOn_132 : decode cX8_goesOn 132 = .ok (.iload 8, 2) := dk_21 8 (dk_at dksX8_goesOn_5 15 rfl rfl)
theorem dX8_goesOn_134 : decode cX8_goesOn 134 = .ok (.invokestatic 322, 3) := dk_184 1 66 (dk_at dksX8_goesOn_5 17 rfl rfl)
theorem dX8_goesOn_137 : decode cX8_goesOn 137 = .ok (.dup2, 1) := dk_92 (dk_at dksX8_goesOn_5 20 rfl rfl)
theorem dX8_goesOn_138 : decode cX8_goesOn 138 = .ok (.iaload, 1) := dk_46 (dk_at dksX8_goesOn_5 21 rfl rfl)
theorem dX8_goesOn_139 : decode cX8_goesOn 139 = .ok (.iload 4, 2) := dk_21 4 (dk_at dksX8_goesOn_5 22 rfl rfl)
theorem dX8_goesOn_141 : decode cX8_goesOn 141 = .ok (.iadd, 1) := dk_96 (dk_at dksX8_goesOn_6 0 rfl rfl)
theorem dX8_goesOn_142 : decode cX8_goesOn 142 = .ok (.iastore, 1) := dk_79 (dk_at dksX8_goesOn_6 1 rfl rfl)
theorem dX8_goesOn_143 : decode cX8_goesOn 143 = .ok (.iinc 7 1, 3) := dk_132 7 1 (dk_at dksX8_goesOn_6 2 rfl rfl)
theorem dX8_goesOn_146 : decode cX8_goesOn 146 = .ok (.goto (-106), 3) := dk_167 255 150 (dk_at dksX8_goesOn_6 5 rfl rfl)
theorem dX8_goesOn_149 : decode cX8_goesOn 149 = .ok (.return_, 1) := dk_177 (dk_at dksX8_goesOn_6 8 rfl rfl)
abbrev cX8_driftOf : ByteArray := prog_18_method_64_code
def yX8_driftOf : MethodName := ⟨RX8, "driftOf", "(II)I"⟩
def dkwX8_driftOf_0 : List UInt8 := [42, 27, 4, 182, 1, 21, 158, 0, 7, 28, 167, 0, 4, 3, 172]
abbrev dktX8_driftOf_0 : List UInt8 := dkwX8_driftOf_0 ++ []
theorem dksX8_driftOf_0 : cX8_driftOf.data.toList.drop 0 = dktX8_driftOf_0 := by decide +kernel
theorem dX8_driftOf_0 : decode cX8_driftOf 0 = .ok (.aload_n 0, 1) := dk_42 (dk_at dksX8_driftOf_0 0 rfl rfl)
theorem dX8_driftOf_1 : decode cX8_driftOf 1 = .ok (.iload_n 1, 1) := dk_27 (dk_at dksX8_driftOf_0 1 rfl rfl)
theorem dX8_driftOf_2 : decode cX8_driftOf 2 = .ok (.iconst 1, 1) := dk_4 (dk_at dksX8_driftOf_0 2 rfl rfl)
theorem dX8_driftOf_3 : decode cX8_driftOf 3 = .ok (.invokevirtual 277, 3) := dk_182 1 21 (dk_at dksX8_driftOf_0 3 rfl rfl)
theorem dX8_driftOf_6 : decode cX8_driftOf 6 = .ok (.ifCond .le 7, 3) := dk_158 0 7 (dk_at dksX8_driftOf_0 6 rfl rfl)
theorem dX8_driftOf_9 : decode cX8_driftOf 9 = .ok (.iload_n 2, 1) := dk_28 (dk_at dksX8_driftOf_0 9 rfl rfl)
theorem dX8_driftOf_10 : decode cX8_driftOf 10 = .ok (.goto 4, 3) := dk_167 0 4 (dk_at dksX8_driftOf_0 10 rfl rfl)
theorem dX8_driftOf_13 : decode cX8_driftOf 13 = .ok (.iconst 0, 1) := dk_3 (dk_at dksX8_driftOf_0 13 rfl rfl)
theorem dX8_driftOf_14 : decode cX8_driftOf 14 = .ok (.ireturn, 1) := dk_172 (dk_at dksX8_driftOf_0 14 rfl rfl)
abbrev cX8_waysLeft : ByteArray := prog_18_method_67_code
def yX8_waysLeft : MethodName := ⟨RX8, "waysLeft", "(I)I"⟩
def dkwX8_waysLeft_0 : List UInt8 := [4, 60, 26, 61, 28, 16, 8, 162, 0, 13, 27, 6, 104, 60, 132, 2, 1, 167, 255, 243, 27, 172]
abbrev dktX8_waysLeft_0 : List UInt8 := dkwX8_waysLeft_0 ++ []
theorem dksX8_waysLeft_0 : cX8_waysLeft.data.toList.drop 0 = dktX8_waysLeft_0 := by decide +kernel
theorem dX8_waysLeft_0 : decode cX8_waysLeft 0 = .ok (.iconst 1, 1) := dk_4 (dk_at dksX8_waysLeft_0 0 rfl rfl)
theorem dX8_waysLeft_1 : decode cX8_waysLeft 1 = .ok (.istore_n 1, 1) := dk_60 (dk_at dksX8_waysLeft_0 1 rfl rfl)
theorem dX8_waysLeft_2 : decode cX8_waysLeft 2 = .ok (.iload_n 0, 1) := dk_26 (dk_at dksX8_waysLeft_0 2 rfl rfl)
theorem dX8_waysLeft_3 : decode cX8_waysLeft 3 = .ok (.istore_n 2, 1) := dk_61 (dk_at dksX8_waysLeft_0 3 rfl rfl)
theorem dX8_waysLeft_4 : decode cX8_waysLeft 4 = .ok (.iload_n 2, 1) := dk_28 (dk_at dksX8_waysLeft_0 4 rfl rfl)
theorem dX8_waysLeft_5 : decode cX8_waysLeft 5 = .ok (.bipush 8, 2) := dk_16 8 (dk_at dksX8_waysLeft_0 5 rfl rfl)
theorem dX8_waysLeft_7 : decode cX8_waysLeft 7 = .ok (.if_icmp .ge 13, 3) := dk_162 0 13 (dk_at dksX8_waysLeft_0 7 rfl rfl)
theorem dX8_waysLeft_10 : decode cX8_waysLeft 10 = .ok (.iload_n 1, 1) := dk_27 (dk_at dksX8_waysLeft_0 10 rfl rfl)
theorem dX8_waysLeft_11 : decode cX8_waysLeft 11 = .ok (.iconst 3, 1) := dk_6 (dk_at dksX8_waysLeft_0 11 rfl rfl)
theorem dX8_waysLeft_12 : decode cX8_waysLeft 12 = .ok (.imul, 1) := dk_104 (dk_at dksX8_waysLeft_0 12 rfl rfl)
theorem dX8_waysLeft_13 : decode cX8_waysLeft 13 = .ok (.istore_n 1, 1) := dk_60 (dk_at dksX8_waysLeft_0 13 rfl rfl)
theorem dX8_waysLeft_14 : decode cX8_waysLeft 14 = .ok (.iinc 2 1, 3) := dk_132 2 1 (dk_at dksX8_waysLeft_0 14 rfl rfl)
theorem dX8_waysLeft_17 : decode cX8_waysLeft 17 = .ok (.goto (-13), 3) := dk_167 255 243 (dk_at dksX8_waysLeft_0 17 rfl rfl)
theorem dX8_waysLeft_20 : decode cX8_waysLeft 20 = .ok (.iload_n 1, 1) := dk_27 (dk_at dksX8_waysLeft_0 20 rfl rfl)
theorem dX8_waysLeft_21 : decode cX8_waysLeft 21 = .ok (.ireturn, 1) := dk_172 (dk_at dksX8_waysLeft_0 21 rfl rfl)
abbrev cX8_goodAll : ByteArray := prog_18_method_72_code
def yX8_goodAll : MethodName := ⟨RX8, "goodAll", "()I"⟩
def dkwX8_goodAll_1 : List UInt8 := [27, 172]
abbrev dktX8_goodAll_1 : List UInt8 := dkwX8_goodAll_1 ++ []
def dkwX8_goodAll_0 : List UInt8 := [3, 60, 4, 61, 28, 16, 8, 163, 0, 17, 27, 42, 28, 182, 1, 88, 96, 60, 132, 2, 1, 167, 255, 239]
abbrev dktX8_goodAll_0 : List UInt8 := dkwX8_goodAll_0 ++ dktX8_goodAll_1
theorem dksX8_goodAll_0 : cX8_goodAll.data.toList.drop 0 = dktX8_goodAll_0 := by decide +kernel
theorem dksX8_goodAll_1 : cX8_goodAll.data.toList.drop 24 = dktX8_goodAll_1 := dk_seg dksX8_goodAll_0 24 rfl rfl
theorem dX8_goodAll_0 : decode cX8_goodAll 0 = .ok (.iconst 0, 1) := dk_3 (dk_at dksX8_goodAll_0 0 rfl rfl)
theorem dX8_goodAll_1 : decode cX8_goodAll 1 = .ok (.istore_n 1, 1) := dk_60 (dk_at dksX8_goodAll_0 1 rfl rfl)
theorem dX8_goodAll_2 : decode cX8_goodAll 2 = .ok (.iconst 1, 1) := dk_4 (dk_at dksX8_goodAll_0 2 rfl rfl)
theorem dX8_goodAll_3 : decode cX8_goodAll 3 = .ok (.istore_n 2, 1) := dk_61 (dk_at dksX8_goodAll_0 3 rfl rfl)
theorem dX8_goodAll_4 : decode cX8_goodAll 4 = .ok (.iload_n 2, 1) := dk_28 (dk_at dksX8_goodAll_0 4 rfl rfl)
theorem dX8_goodAll_5 : decode cX8_goodAll 5 = .ok (.bipush 8, 2) := dk_16 8 (dk_at dksX8_goodAll_0 5 rfl rfl)
theorem dX8_goodAll_7 : decode cX8_goodAll 7 = .ok (.if_icmp .gt 17, 3) := dk_163 0 17 (dk_at dksX8_goodAll_0 7 rfl rfl)
theorem dX8_goodAll_10 : decode cX8_goodAll 10 = .ok (.iload_n 1, 1) := dk_27 (dk_at dksX8_goodAll_0 10 rfl rfl)
theorem dX8_goodAll_11 : decode cX8_goodAll 11 = .ok (.aload_n 0, 1) := dk_42 (dk_at dksX8_goodAll_0 11 rfl rfl)
theorem dX8_goodAll_12 : decode cX8_goodAll 12 = .ok (.iload_n 2, 1) := dk_28 (dk_at dksX8_goodAll_0 12 rfl rfl)
theorem dX8_goodAll_13 : decode cX8_goodAll 13 = .ok (.invokevirtual 344, 3) := dk_182 1 88 (dk_at dksX8_goodAll_0 13 rfl rfl)
theorem dX8_goodAll_16 : decode cX8_goodAll 16 = .ok (.iadd, 1) := dk_96 (dk_at dksX8_goodAll_0 16 rfl rfl)
theorem dX8_goodAll_17 : decode cX8_goodAll 17 = .ok (.istore_n 1, 1) := dk_60 (dk_at dksX8_goodAll_0 17 rfl rfl)
theorem dX8_goodAll_18 : decode cX8_goodAll 18 = .ok (.iinc 2 1, 3) := dk_132 2 1 (dk_at dksX8_goodAll_0 18 rfl rfl)
theorem dX8_goodAll_21 : decode cX8_goodAll 21 = .ok (.goto (-17), 3) := dk_167 255 239 (dk_at dksX8_goodAll_0 21 rfl rfl)
theorem dX8_goodAll_24 : decode cX8_goodAll 24 = .ok (.iload_n 1, 1) := dk_27 (dk_at dksX8_goodAll_1 0 rfl rfl)
theorem dX8_goodAll_25 : decode cX8_goodAll 25 = .ok (.ireturn, 1) := dk_172 (dk_at dksX8_goodAll_1 1 rfl rfl)
abbrev cX8_goodAt : ByteArray := prog_18_method_71_code
def yX8_goodAt : MethodName := ⟨RX8, "goodAt", "(I)I"⟩
def dkwX8_goodAt_1 : List UInt8 := [29, 182, 1, 85, 96, 61, 132, 3, 1, 167, 255, 233, 28, 172]
abbrev dktX8_goodAt_1 : List UInt8 := dkwX8_goodAt_1 ++ []
def dkwX8_goodAt_0 : List UInt8 := [3, 61, 42, 180, 0, 13, 16, 9, 46, 62, 29, 42, 180, 0, 13, 16, 10, 46, 163, 0, 18, 28, 42, 27]
abbrev dktX8_goodAt_0 : List UInt8 := dkwX8_goodAt_0 ++ dktX8_goodAt_1
theorem dksX8_goodAt_0 : cX8_goodAt.data.toList.drop 0 = dktX8_goodAt_0 := by decide +kernel
theorem dksX8_goodAt_1 : cX8_goodAt.data.toList.drop 24 = dktX8_goodAt_1 := dk_seg dksX8_goodAt_0 24 rfl rfl
theorem dX8_goodAt_0 : decode cX8_goodAt 0 = .ok (.iconst 0, 1) := dk_3 (dk_at dksX8_goodAt_0 0 rfl rfl)
theorem dX8_goodAt_1 : decode cX8_goodAt 1 = .ok (.istore_n 2, 1) := dk_61 (dk_at dksX8_goodAt_0 1 rfl rfl)
theorem dX8_goodAt_2 : decode cX8_goodAt 2 = .ok (.aload_n 0, 1) := dk_42 (dk_at dksX8_goodAt_0 2 rfl rfl)
theorem dX8_goodAt_3 : decode cX8_goodAt 3 = .ok (.getfield 13, 3) := dk_180 0 13 (dk_at dksX8_goodAt_0 3 rfl rfl)
theorem dX8_goodAt_6 : decode cX8_goodAt 6 = .ok (.bipush 9, 2) := dk_16 9 (dk_at dksX8_goodAt_0 6 rfl rfl)
theorem dX8_goodAt_8 : decode cX8_goodAt 8 = .ok (.iaload, 1) := dk_46 (dk_at dksX8_goodAt_0 8 rfl rfl)
theorem dX8_goodAt_9 : decode cX8_goodAt 9 = .ok (.istore_n 3, 1) := dk_62 (dk_at dksX8_goodAt_0 9 rfl rfl)
theorem dX8_goodAt_10 : decode cX8_goodAt 10 = .ok (.iload_n 3, 1) := dk_29 (dk_at dksX8_goodAt_0 10 rfl rfl)
theorem dX8_goodAt_11 : decode cX8_goodAt 11 = .ok (.aload_n 0, 1) := dk_42 (dk_at dksX8_goodAt_0 11 rfl rfl)
theorem dX8_goodAt_12 : decode cX8_goodAt 12 = .ok (.getfield 13, 3) := dk_180 0 13 (dk_at dksX8_goodAt_0 12 rfl rfl)
theorem dX8_goodAt_15 : decode cX8_goodAt 15 = .ok (.bipush 10, 2) := dk_16 10 (dk_at dksX8_goodAt_0 15 rfl rfl)
theorem dX8_goodAt_17 : decode cX8_goodAt 17 = .ok (.iaload, 1) := dk_46 (dk_at dksX8_goodAt_0 17 rfl rfl)
theorem dX8_goodAt_18 : decode cX8_goodAt 18 = .ok (.if_icmp .gt 18, 3) := dk_163 0 18 (dk_at dksX8_goodAt_0 18 rfl rfl)
theorem dX8_goodAt_21 : decode cX8_goodAt 21 = .ok (.iload_n 2, 1) := dk_28 (dk_at dksX8_goodAt_0 21 rfl rfl)
theorem dX8_goodAt_22 : decode cX8_goodAt 22 = .ok (.aload_n 0, 1) := dk_42 (dk_at dksX8_goodAt_0 22 rfl rfl)
theorem dX8_goodAt_23 : decode cX8_goodAt 23 = .ok (.iload_n 1, 1) := dk_27 (dk_at dksX8_goodAt_0 23 rfl rfl)
theorem dX8_goodAt_24 : decode cX8_goodAt 24 = .ok (.iload_n 3, 1) := dk_29 (dk_at dksX8_goodAt_1 0 rfl rfl)
theorem dX8_goodAt_25 : decode cX8_goodAt 25 = .ok (.invokevirtual 341, 3) := dk_182 1 85 (dk_at dksX8_goodAt_1 1 rfl rfl)
theorem dX8_goodAt_28 : decode cX8_goodAt 28 = .ok (.iadd, 1) := dk_96 (dk_at dksX8_goodAt_1 4 rfl rfl)
theorem dX8_goodAt_29 : decode cX8_goodAt 29 = .ok (.istore_n 2, 1) := dk_61 (dk_at dksX8_goodAt_1 5 rfl rfl)
theorem dX8_goodAt_30 : decode cX8_goodAt 30 = .ok (.iinc 3 1, 3) := dk_132 3 1 (dk_at dksX8_goodAt_1 6 rfl rfl)
theorem dX8_goodAt_33 : decode cX8_goodAt 33 = .ok (.goto (-23), 3) := dk_167 255 233 (dk_at dksX8_goodAt_1 9 rfl rfl)
theorem dX8_goodAt_36 : decode cX8_goodAt 36 = .ok (.iload_n 2, 1) := dk_28 (dk_at dksX8_goodAt_1 12 rfl rfl)
theorem dX8_goodAt_37 : decode cX8_goodAt 37 = .ok (.ireturn, 1) := dk_172 (dk_at dksX8_goodAt_1 13 rfl rfl)
abbrev cX8_landedAt : ByteArray := prog_18_method_70_code
def yX8_landedAt : MethodName := ⟨RX8, "landedAt", "(II)I"⟩
def dkwX8_landedAt_0 : List UInt8 := [42, 180, 0, 48, 16, 16, 27, 104, 28, 96, 46, 172]
abbrev dktX8_landedAt_0 : List UInt8 := dkwX8_landedAt_0 ++ []
theorem dksX8_landedAt_0 : cX8_landedAt.data.toList.drop 0 = dktX8_landedAt_0 := by decide +kernel
theorem dX8_landedAt_0 : decode cX8_landedAt 0 = .ok (.aload_n 0, 1) := dk_42 (dk_at dksX8_landedAt_0 0 rfl rfl)
theorem dX8_landedAt_1 : decode cX8_landedAt 1 = .ok (.getfield 48, 3) := dk_180 0 48 (dk_at dksX8_landedAt_0 1 rfl rfl)
theorem dX8_landedAt_4 : decode cX8_landedAt 4 = .ok (.bipush 16, 2) := dk_16 16 (dk_at dksX8_landedAt_0 4 rfl rfl)
theorem dX8_landedAt_6 : decode cX8_landedAt 6 = .ok (.iload_n 1, 1) := dk_27 (dk_at dksX8_landedAt_0 6 rfl rfl)
theorem dX8_landedAt_7 : decode cX8_landedAt 7 = .ok (.imul, 1) := dk_104 (dk_at dksX8_landedAt_0 7 rfl rfl)
theorem dX8_landedAt_8 : decode cX8_landedAt 8 = .ok (.iload_n 2, 1) := dk_28 (dk_at dksX8_landedAt_0 8 rfl rfl)
theorem dX8_landedAt_9 : decode cX8_landedAt 9 = .ok (.iadd, 1) := dk_96 (dk_at dksX8_landedAt_0 9 rfl rfl)
theorem dX8_landedAt_10 : decode cX8_landedAt 10 = .ok (.iaload, 1) := dk_46 (dk_at dksX8_landedAt_0 10 rfl rfl)
theorem dX8_landedAt_11 : decode cX8_landedAt 11 = .ok (.ireturn, 1) := dk_172 (dk_at dksX8_landedAt_0 11 rfl rfl)
abbrev cX8_lands : ByteArray := prog_18_method_74_code
def yX8_lands : MethodName := ⟨RX8, "lands", "(II)I"⟩
def dkwX8_lands_3 : List UInt8 := [172]
abbrev dktX8_lands_3 : List UInt8 := dkwX8_lands_3 ++ []
def dkwX8_lands_2 : List UInt8 := [21, 4, 16, 8, 163, 0, 19, 29, 42, 21, 4, 28, 182, 1, 85, 96, 62, 132, 4, 1, 167, 255, 236, 29]
abbrev dktX8_lands_2 : List UInt8 := dkwX8_lands_2 ++ dktX8_lands_3
def dkwX8_lands_1 : List UInt8 := [167, 0, 4, 3, 4, 182, 1, 9, 153, 0, 5, 3, 172, 42, 27, 182, 1, 91, 3, 62, 4, 54, 4]
abbrev dktX8_lands_1 : List UInt8 := dkwX8_lands_1 ++ dktX8_lands_2
def dkwX8_lands_0 : List UInt8 := [42, 3, 181, 0, 3, 42, 42, 27, 182, 1, 47, 154, 0, 10, 28, 184, 1, 53, 153, 0, 7, 4]
abbrev dktX8_lands_0 : List UInt8 := dkwX8_lands_0 ++ dktX8_lands_1
theorem dksX8_lands_0 : cX8_lands.data.toList.drop 0 = dktX8_lands_0 := by decide +kernel
theorem dksX8_lands_1 : cX8_lands.data.toList.drop 22 = dktX8_lands_1 := dk_seg dksX8_lands_0 22 rfl rfl
theorem dksX8_lands_2 : cX8_lands.data.toList.drop 45 = dktX8_lands_2 := dk_seg dksX8_lands_1 23 rfl rfl
theorem dksX8_lands_3 : cX8_lands.data.toList.drop 69 = dktX8_lands_3 := dk_seg dksX8_lands_2 24 rfl rfl
theorem dX8_lands_0 : decode cX8_lands 0 = .ok (.aload_n 0, 1) := dk_42 (dk_at dksX8_lands_0 0 rfl rfl)
theorem dX8_lands_1 : decode cX8_lands 1 = .ok (.iconst 0, 1) := dk_3 (dk_at dksX8_lands_0 1 rfl rfl)
theorem dX8_lands_2 : decode cX8_lands 2 = .ok (.putfield 3, 3) := dk_181 0 3 (dk_at dksX8_lands_0 2 rfl rfl)
theorem dX8_lands_5 : decode cX8_lands 5 = .ok (.aload_n 0, 1) := dk_42 (dk_at dksX8_lands_0 5 rfl rfl)
theorem dX8_lands_6 : decode cX8_lands 6 = .ok (.aload_n 0, 1) := dk_42 (dk_at dksX8_lands_0 6 rfl rfl)
theorem dX8_lands_7 : decode cX8_lands 7 = .ok (.iload_n 1, 1) := dk_27 (dk_at dksX8_lands_0 7 rfl rfl)
theorem dX8_lands_8 : decode cX8_lands 8 = .ok (.invokevirtual 303, 3) := dk_182 1 47 (dk_at dksX8_lands_0 8 rfl rfl)
theorem dX8_lands_11 : decode cX8_lands 11 = .ok (.ifCond .ne 10, 3) := dk_154 0 10 (dk_at dksX8_lands_0 11 rfl rfl)
theorem dX8_lands_14 : decode cX8_lands 14 = .ok (.iload_n 2, 1) := dk_28 (dk_at dksX8_lands_0 14 rfl rfl)
theorem dX8_lands_15 : decode cX8_lands 15 = .ok (.invokestatic 309, 3) := dk_184 1 53 (dk_at dksX8_lands_0 15 rfl rfl)
theorem dX8_lands_18 : decode cX8_lands 18 = .ok (.ifCond .eq 7, 3) := dk_153 0 7 (dk_at dksX8_lands_0 18 rfl rfl)
theorem dX8_lands_21 : decode cX8_lands 21 = .ok (.iconst 1, 1) := dk_4 (dk_at dksX8_lands_0 21 rfl rfl)
theorem dX8_lands_22 : decode cX8_lands 22 = .ok (.goto 4, 3) := dk_167 0 4 (dk_at dksX8_lands_1 0 rfl rfl)
theorem dX8_lands_25 : decode cX8_lands 25 = .ok (.iconst 0, 1) := dk_3 (dk_at dksX8_lands_1 3 rfl rfl)
theorem dX8_lands_26 : decode cX8_lands 26 = .ok (.iconst 1, 1) := dk_4 (dk_at dksX8_lands_1 4 rfl rfl)
theorem dX8_lands_27 : decode cX8_lands 27 = .ok (.invokevirtual 265, 3) := dk_182 1 9 (dk_at dksX8_lands_1 5 rfl rfl)
theorem dX8_lands_30 : decode cX8_lands 30 = .ok (.ifCond .eq 5, 3) := dk_153 0 5 (dk_at dksX8_lands_1 8 rfl rfl)
theorem dX8_lands_33 : decode cX8_lands 33 = .ok (.iconst 0, 1) := dk_3 (dk_at dksX8_lands_1 11 rfl rfl)
theorem dX8_lands_34 : decode cX8_lands 34 = .ok (.ireturn, 1) := dk_172 (dk_at dksX8_lands_1 12 rfl rfl)
theorem dX8_lands_35 : decode cX8_lands 35 = .ok (.aload_n 0, 1) := dk_42 (dk_at dksX8_lands_1 13 rfl rfl)
theorem dX8_lands_36 : decode cX8_lands 36 = .ok (.iload_n 1, 1) := dk_27 (dk_at dksX8_lands_1 14 rfl rfl)
theorem dX8_lands_37 : decode cX8_lands 37 = .ok (.invokevirtual 347, 3) := dk_182 1 91 (dk_at dksX8_lands_1 15 rfl rfl)
theorem dX8_lands_40 : decode cX8_lands 40 = .ok (.iconst 0, 1) := dk_3 (dk_at dksX8_lands_1 18 rfl rfl)
theorem dX8_lands_41 : decode cX8_lands 41 = .ok (.istore_n 3, 1) := dk_62 (dk_at dksX8_lands_1 19 rfl rfl)
theorem dX8_lands_42 : decode cX8_lands 42 = .ok (.iconst 1, 1) := dk_4 (dk_at dksX8_lands_1 20 rfl rfl)
theorem dX8_lands_43 : decode cX8_lands 43 = .ok (.istore 4, 2) := dk_54 4 (dk_at dksX8_lands_1 21 rfl rfl)
theorem dX8_lands_45 : decode cX8_lands 45 = .ok (.iload 4, 2) := dk_21 4 (dk_at dksX8_lands_2 0 rfl rfl)
theorem dX8_lands_47 : decode cX8_lands 47 = .ok (.bipush 8, 2) := dk_16 8 (dk_at dksX8_lands_2 2 rfl rfl)
theorem dX8_lands_49 : decode cX8_lands 49 = .ok (.if_icmp .gt 19, 3) := dk_163 0 19 (dk_at dksX8_lands_2 4 rfl rfl)
theorem dX8_lands_52 : decode cX8_lands 52 = .ok (.iload_n 3, 1) := dk_29 (dk_at dksX8_lands_2 7 rfl rfl)
theorem dX8_lands_53 : decode cX8_lands 53 = .ok (.aload_n 0, 1) := dk_42 (dk_at dksX8_lands_2 8 rfl rfl)
theorem dX8_lands_54 : decode cX8_lands 54 = .ok (.iload 4, 2) := dk_21 4 (dk_at dksX8_lands_2 9 rfl rfl)
theorem dX8_lands_56 : decode cX8_lands 56 = .ok (.iload_n 2, 1) := dk_28 (dk_at dksX8_lands_2 11 rfl rfl)
theorem dX8_lands_57 : decode cX8_lands 57 = .ok (.invokevirtual 341, 3) := dk_182 1 85 (dk_at dksX8_lands_2 12 rfl rfl)
theorem dX8_lands_60 : decode cX8_lands 60 = .ok (.iadd, 1) := dk_96 (dk_at dksX8_lands_2 15 rfl rfl)
theorem dX8_lands_61 : decode cX8_lands 61 = .ok (.istore_n 3, 1) := dk_62 (dk_at dksX8_lands_2 16 rfl rfl)
theorem dX8_lands_62 : decode cX8_lands 62 = .ok (.iinc 4 1, 3) := dk_132 4 1 (dk_at dksX8_lands_2 17 rfl rfl)
theorem dX8_lands_65 : decode cX8_lands 65 = .ok (.goto (-20), 3) := dk_167 255 236 (dk_at dksX8_lands_2 20 rfl rfl)
theorem dX8_lands_68 : decode cX8_lands 68 = .ok (.iload_n 3, 1) := dk_29 (dk_at dksX8_lands_2 23 rfl rfl)
theorem dX8_lands_69 : decode cX8_lands 69 = .ok (.ireturn, 1) := dk_172 (dk_at dksX8_lands_3 0 rfl rfl)
abbrev cX8_good : ByteArray := prog_18_method_75_code
def yX8_good : MethodName := ⟨RX8, "good", "(II)I"⟩
def dkwX8_good_2 : List UInt8 := [182, 1, 91, 42, 28, 182, 1, 88, 172]
abbrev dktX8_good_2 : List UInt8 := dkwX8_good_2 ++ []
def dkwX8_good_1 : List UInt8 := [184, 0, 78, 154, 0, 7, 4, 167, 0, 4, 3, 5, 182, 1, 9, 153, 0, 5, 3, 172, 42, 27]
abbrev dktX8_good_1 : List UInt8 := dkwX8_good_1 ++ dktX8_good_2
def dkwX8_good_0 : List UInt8 := [42, 3, 181, 0, 3, 42, 42, 27, 182, 1, 47, 4, 182, 1, 9, 154, 0, 26, 42, 28, 4, 16, 8]
abbrev dktX8_good_0 : List UInt8 := dkwX8_good_0 ++ dktX8_good_1
theorem dksX8_good_0 : cX8_good.data.toList.drop 0 = dktX8_good_0 := by decide +kernel
theorem dksX8_good_1 : cX8_good.data.toList.drop 23 = dktX8_good_1 := dk_seg dksX8_good_0 23 rfl rfl
theorem dksX8_good_2 : cX8_good.data.toList.drop 45 = dktX8_good_2 := dk_seg dksX8_good_1 22 rfl rfl
theorem dX8_good_0 : decode cX8_good 0 = .ok (.aload_n 0, 1) := dk_42 (dk_at dksX8_good_0 0 rfl rfl)
theorem dX8_good_1 : decode cX8_good 1 = .ok (.iconst 0, 1) := dk_3 (dk_at dksX8_good_0 1 rfl rfl)
theorem dX8_good_2 : decode cX8_good 2 = .ok (.putfield 3, 3) := dk_181 0 3 (dk_at dksX8_good_0 2 rfl rfl)
theorem dX8_good_5 : decode cX8_good 5 = .ok (.aload_n 0, 1) := dk_42 (dk_at dksX8_good_0 5 rfl rfl)
theorem dX8_good_6 : decode cX8_good 6 = .ok (.aload_n 0, 1) := dk_42 (dk_at dksX8_good_0 6 rfl rfl)
theorem dX8_good_7 : decode cX8_good 7 = .ok (.iload_n 1, 1) := dk_27 (dk_at dksX8_good_0 7 rfl rfl)
theorem dX8_good_8 : decode cX8_good 8 = .ok (.invokevirtual 303, 3) := dk_182 1 47 (dk_at dksX8_good_0 8 rfl rfl)
theorem dX8_good_11 : decode cX8_good 11 = .ok (.iconst 1, 1) := dk_4 (dk_at dksX8_good_0 11 rfl rfl)
theorem dX8_good_12 : decode cX8_good 12 = .ok (.invokevirtual 265, 3) := dk_182 1 9 (dk_at dksX8_good_0 12 rfl rfl)
theorem dX8_good_15 : decode cX8_good 15 = .ok (.ifCond .ne 26, 3) := dk_154 0 26 (dk_at dksX8_good_0 15 rfl rfl)
theorem dX8_good_18 : decode cX8_good 18 = .ok (.aload_n 0, 1) := dk_42 (dk_at dksX8_good_0 18 rfl rfl)
theorem dX8_good_19 : decode cX8_good 19 = .ok (.iload_n 2, 1) := dk_28 (dk_at dksX8_good_0 19 rfl rfl)
theorem dX8_good_20 : decode cX8_good 20 = .ok (.iconst 1, 1) := dk_4 (dk_at dksX8_good_0 20 rfl rfl)
theorem dX8_good_21 : decode cX8_good 21 = .ok (.bipush 8, 2) := dk_16 8 (dk_at dksX8_good_0 21 rfl rfl)
theorem dX8_good_23 : decode cX8_good 23 = .ok (.invokestatic 78, 3) := dk_184 0 78 (dk_at dksX8_good_1 0 rfl rfl)
theorem dX8_good_26 : decode cX8_good 26 = .ok (.ifCond .ne 7, 3) := dk_154 0 7 (dk_at dksX8_good_1 3 rfl rfl)
theorem dX8_good_29 : decode cX8_good 29 = .ok (.iconst 1, 1) := dk_4 (dk_at dksX8_good_1 6 rfl rfl)
theorem dX8_good_30 : decode cX8_good 30 = .ok (.goto 4, 3) := dk_167 0 4 (dk_at dksX8_good_1 7 rfl rfl)
theorem dX8_good_33 : decode cX8_good 33 = .ok (.iconst 0, 1) := dk_3 (dk_at dksX8_good_1 10 rfl rfl)
theorem dX8_good_34 : decode cX8_good 34 = .ok (.iconst 2, 1) := dk_5 (dk_at dksX8_good_1 11 rfl rfl)
theorem dX8_good_35 : decode cX8_good 35 = .ok (.invokevirtual 265, 3) := dk_182 1 9 (dk_at dksX8_good_1 12 rfl rfl)
theorem dX8_good_38 : decode cX8_good 38 = .ok (.ifCond .eq 5, 3) := dk_153 0 5 (dk_at dksX8_good_1 15 rfl rfl)
theorem dX8_good_41 : decode cX8_good 41 = .ok (.iconst 0, 1) := dk_3 (dk_at dksX8_good_1 18 rfl rfl)
theorem dX8_good_42 : decode cX8_good 42 = .ok (.ireturn, 1) := dk_172 (dk_at dksX8_good_1 19 rfl rfl)
theorem dX8_good_43 : decode cX8_good 43 = .ok (.aload_n 0, 1) := dk_42 (dk_at dksX8_good_1 20 rfl rfl)
theorem dX8_good_44 : decode cX8_good 44 = .ok (.iload_n 1, 1) := dk_27 (dk_at dksX8_good_1 21 rfl rfl)
theorem dX8_good_45 : decode cX8_good 45 = .ok (.invokevirtual 347, 3) := dk_182 1 91 (dk_at dksX8_good_2 0 rfl rfl)
theorem dX8_good_48 : decode cX8_good 48 = .ok (.aload_n 0, 1) := dk_42 (dk_at dksX8_good_2 3 rfl rfl)
theorem dX8_good_49 : decode cX8_good 49 = .ok (.iload_n 2, 1) := dk_28 (dk_at dksX8_good_2 4 rfl rfl)
theorem dX8_good_50 : decode cX8_good 50 = .ok (.invokevirtual 344, 3) := dk_182 1 88 (dk_at dksX8_good_2 5 rfl rfl)
theorem dX8_good_53 : decode cX8_good 53 = .ok (.ireturn, 1) := dk_172 (dk_at dksX8_good_2 8 rfl rfl)
abbrev cX8_tell : ByteArray := prog_18_method_76_code
def yX8_tell : MethodName := ⟨RX8, "tell", "(II)I"⟩
def dkwX8_tell_3 : List UInt8 := [158, 0, 10, 4, 21, 4, 120, 167, 0, 4, 3, 128, 62, 132, 4, 1, 167, 255, 218, 29, 172]
abbrev dktX8_tell_3 : List UInt8 := dkwX8_tell_3 ++ []
def dkwX8_tell_2 : List UInt8 := [54, 4, 21, 4, 42, 182, 0, 74, 162, 0, 35, 42, 21, 4, 182, 1, 91, 29, 42, 28, 27, 182, 1, 85]
abbrev dktX8_tell_2 : List UInt8 := dkwX8_tell_2 ++ dktX8_tell_3
def dkwX8_tell_1 : List UInt8 := [184, 0, 78, 154, 0, 7, 4, 167, 0, 4, 3, 5, 182, 1, 9, 153, 0, 5, 3, 172, 3, 62, 3]
abbrev dktX8_tell_1 : List UInt8 := dkwX8_tell_1 ++ dktX8_tell_2
def dkwX8_tell_0 : List UInt8 := [42, 3, 181, 0, 3, 42, 27, 184, 1, 53, 4, 182, 1, 9, 154, 0, 26, 42, 28, 4, 16, 8]
abbrev dktX8_tell_0 : List UInt8 := dkwX8_tell_0 ++ dktX8_tell_1
theorem dksX8_tell_0 : cX8_tell.data.toList.drop 0 = dktX8_tell_0 := by decide +kernel
theorem dksX8_tell_1 : cX8_tell.data.toList.drop 22 = dktX8_tell_1 := dk_seg dksX8_tell_0 22 rfl rfl
theorem dksX8_tell_2 : cX8_tell.data.toList.drop 45 = dktX8_tell_2 := dk_seg dksX8_tell_1 23 rfl rfl
theorem dksX8_tell_3 : cX8_tell.data.toList.drop 69 = dktX8_tell_3 := dk_seg dksX8_tell_2 24 rfl rfl
theorem dX8_tell_0 : decode cX8_tell 0 = .ok (.aload_n 0, 1) := dk_42 (dk_at dksX8_tell_0 0 rfl rfl)
theorem dX8_tell_1 : decode cX8_tell 1 = .ok (.iconst 0, 1) := dk_3 (dk_at dksX8_tell_0 1 rfl rfl)
theorem dX8_tell_2 : decode cX8_tell 2 = .ok (.putfield 3, 3) := dk_181 0 3 (dk_at dksX8_tell_0 2 rfl rfl)
theorem dX8_tell_5 : decode cX8_tell 5 = .ok (.aload_n 0, 1) := dk_42 (dk_at dksX8_tell_0 5 rfl rfl)
theorem dX8_tell_6 : decode cX8_tell 6 = .ok (.iload_n 1, 1) := dk_27 (dk_at dksX8_tell_0 6 rfl rfl)
theorem dX8_tell_7 : decode cX8_tell 7 = .ok (.invokestatic 309, 3) := dk_184 1 53 (dk_at dksX8_tell_0 7 rfl rfl)
theorem dX8_tell_10 : decode cX8_tell 10 = .ok (.iconst 1, 1) := dk_4 (dk_at dksX8_tell_0 10 rfl rfl)
theorem dX8_tell_11 : decode cX8_tell 11 = .ok (.invokevirtual 265, 3) := dk_182 1 9 (dk_at dksX8_tell_0 11 rfl rfl)
theorem dX8_tell_14 : decode cX8_tell 14 = .ok (.ifCond .ne 26, 3) := dk_154 0 26 (dk_at dksX8_tell_0 14 rfl rfl)
theorem dX8_tell_17 : decode cX8_tell 17 = .ok (.aload_n 0, 1) := dk_42 (dk_at dksX8_tell_0 17 rfl rfl)
theorem dX8_tell_18 : decode cX8_tell 18 = .ok (.iload_n 2, 1) := dk_28 (dk_at dksX8_tell_0 18 rfl rfl)
theorem dX8_tell_19 : decode cX8_tell 19 = .ok (.iconst 1, 1) := dk_4 (dk_at dksX8_tell_0 19 rfl rfl)
theorem dX8_tell_20 : decode cX8_tell 20 = .ok (.bipush 8, 2) := dk_16 8 (dk_at dksX8_tell_0 20 rfl rfl)
theorem dX8_tell_22 : decode cX8_tell 22 = .ok (.invokestatic 78, 3) := dk_184 0 78 (dk_at dksX8_tell_1 0 rfl rfl)
theorem dX8_tell_25 : decode cX8_tell 25 = .ok (.ifCond .ne 7, 3) := dk_154 0 7 (dk_at dksX8_tell_1 3 rfl rfl)
theorem dX8_tell_28 : decode cX8_tell 28 = .ok (.iconst 1, 1) := dk_4 (dk_at dksX8_tell_1 6 rfl rfl)
theorem dX8_tell_29 : decode cX8_tell 29 = .ok (.goto 4, 3) := dk_167 0 4 (dk_at dksX8_tell_1 7 rfl rfl)
theorem dX8_tell_32 : decode cX8_tell 32 = .ok (.iconst 0, 1) := dk_3 (dk_at dksX8_tell_1 10 rfl rfl)
theorem dX8_tell_33 : decode cX8_tell 33 = .ok (.iconst 2, 1) := dk_5 (dk_at dksX8_tell_1 11 rfl rfl)
theorem dX8_tell_34 : decode cX8_tell 34 = .ok (.invokevirtual 265, 3) := dk_182 1 9 (dk_at dksX8_tell_1 12 rfl rfl)
theorem dX8_tell_37 : decode cX8_tell 37 = .ok (.ifCond .eq 5, 3) := dk_153 0 5 (dk_at dksX8_tell_1 15 rfl rfl)
theorem dX8_tell_40 : decode cX8_tell 40 = .ok (.iconst 0, 1) := dk_3 (dk_at dksX8_tell_1 18 rfl rfl)
theorem dX8_tell_41 : decode cX8_tell 41 = .ok (.ireturn, 1) := dk_172 (dk_at dksX8_tell_1 19 rfl rfl)
theorem dX8_tell_42 : decode cX8_tell 42 = .ok (.iconst 0, 1) := dk_3 (dk_at dksX8_tell_1 20 rfl rfl)
theorem dX8_tell_43 : decode cX8_tell 43 = .ok (.istore_n 3, 1) := dk_62 (dk_at dksX8_tell_1 21 rfl rfl)
theorem dX8_tell_44 : decode cX8_tell 44 = .ok (.iconst 0, 1) := dk_3 (dk_at dksX8_tell_1 22 rfl rfl)
theorem dX8_tell_45 : decode cX8_tell 45 = .ok (.istore 4, 2) := dk_54 4 (dk_at dksX8_tell_2 0 rfl rfl)
theorem dX8_tell_47 : decode cX8_tell 47 = .ok (.iload 4, 2) := dk_21 4 (dk_at dksX8_tell_2 2 rfl rfl)
theorem dX8_tell_49 : decode cX8_tell 49 = .ok (.aload_n 0, 1) := dk_42 (dk_at dksX8_tell_2 4 rfl rfl)
theorem dX8_tell_50 : decode cX8_tell 50 = .ok (.invokevirtual 74, 3) := dk_182 0 74 (dk_at dksX8_tell_2 5 rfl rfl)
theorem dX8_tell_53 : decode cX8_tell 53 = .ok (.if_icmp .ge 35, 3) := dk_162 0 35 (dk_at dksX8_tell_2 8 rfl rfl)
theorem dX8_tell_56 : decode cX8_tell 56 = .ok (.aload_n 0, 1) := dk_42 (dk_at dksX8_tell_2 11 rfl rfl)
theorem dX8_tell_57 : decode cX8_tell 57 = .ok (.iload 4, 2) := dk_21 4 (dk_at dksX8_tell_2 12 rfl rfl)
theorem dX8_tell_59 : decode cX8_tell 59 = .ok (.invokevirtual 347, 3) := dk_182 1 91 (dk_at dksX8_tell_2 14 rfl rfl)
theorem dX8_tell_62 : decode cX8_tell 62 = .ok (.iload_n 3, 1) := dk_29 (dk_at dksX8_tell_2 17 rfl rfl)
theorem dX8_tell_63 : decode cX8_tell 63 = .ok (.aload_n 0, 1) := dk_42 (dk_at dksX8_tell_2 18 rfl rfl)
theorem dX8_tell_64 : decode cX8_tell 64 = .ok (.iload_n 2, 1) := dk_28 (dk_at dksX8_tell_2 19 rfl rfl)
theorem dX8_tell_65 : decode cX8_tell 65 = .ok (.iload_n 1, 1) := dk_27 (dk_at dksX8_tell_2 20 rfl rfl)
theorem dX8_tell_66 : decode cX8_tell 66 = .ok (.invokevirtual 341, 3) := dk_182 1 85 (dk_at dksX8_tell_2 21 rfl rfl)
theorem dX8_tell_69 : decode cX8_tell 69 = .ok (.ifCond .le 10, 3) := dk_158 0 10 (dk_at dksX8_tell_3 0 rfl rfl)
theorem dX8_tell_72 : decode cX8_tell 72 = .ok (.iconst 1, 1) := dk_4 (dk_at dksX8_tell_3 3 rfl rfl)
theorem dX8_tell_73 : decode cX8_tell 73 = .ok (.iload 4, 2) := dk_21 4 (dk_at dksX8_tell_3 4 rfl rfl)
theorem dX8_tell_75 : decode cX8_tell 75 = .ok (.ishl, 1) := dk_120 (dk_at dksX8_tell_3 6 rfl rfl)
theorem dX8_tell_76 : decode cX8_tell 76 = .ok (.goto 4, 3) := dk_167 0 4 (dk_at dksX8_tell_3 7 rfl rfl)
theorem dX8_tell_79 : decode cX8_tell 79 = .ok (.iconst 0, 1) := dk_3 (dk_at dksX8_tell_3 10 rfl rfl)
theorem dX8_tell_80 : decode cX8_tell 80 = .ok (.ior, 1) := dk_128 (dk_at dksX8_tell_3 11 rfl rfl)
theorem dX8_tell_81 : decode cX8_tell 81 = .ok (.istore_n 3, 1) := dk_62 (dk_at dksX8_tell_3 12 rfl rfl)
theorem dX8_tell_82 : decode cX8_tell 82 = .ok (.iinc 4 1, 3) := dk_132 4 1 (dk_at dksX8_tell_3 13 rfl rfl)
theorem dX8_tell_85 : decode cX8_tell 85 = .ok (.goto (-38), 3) := dk_167 255 218 (dk_at dksX8_tell_3 16 rfl rfl)
theorem dX8_tell_88 : decode cX8_tell 88 = .ok (.iload_n 3, 1) := dk_29 (dk_at dksX8_tell_3 19 rfl rfl)
theorem dX8_tell_89 : decode cX8_tell 89 = .ok (.ireturn, 1) := dk_172 (dk_at dksX8_tell_3 20 rfl rfl)
abbrev cX8_widest : ByteArray := prog_18_method_77_code
def yX8_widest : MethodName := ⟨RX8, "widest", "(I)I"⟩
def dkwX8_widest_5 : List UInt8 := [42, 180, 0, 13, 16, 9, 28, 79, 42, 180, 0, 13, 16, 10, 28, 29, 96, 79, 21, 4, 172]
abbrev dktX8_widest_5 : List UInt8 := dkwX8_widest_5 ++ []
def dkwX8_widest_4 : List UInt8 := [21, 6, 167, 0, 5, 21, 4, 54, 4, 21, 5, 21, 7, 184, 1, 44, 54, 5, 132, 6, 1, 167, 255, 188]
abbrev dktX8_widest_4 : List UInt8 := dkwX8_widest_4 ++ dktX8_widest_5
def dkwX8_widest_3 : List UInt8 := [21, 6, 29, 96, 79, 42, 27, 182, 1, 91, 42, 182, 1, 95, 54, 7, 21, 7, 21, 5, 164, 0, 8]
abbrev dktX8_widest_3 : List UInt8 := dkwX8_widest_3 ++ dktX8_widest_4
def dkwX8_widest_2 : List UInt8 := [21, 6, 29, 96, 16, 16, 162, 0, 65, 42, 180, 0, 13, 16, 9, 21, 6, 79, 42, 180, 0, 13, 16, 10]
abbrev dktX8_widest_2 : List UInt8 := dkwX8_widest_2 ++ dktX8_widest_3
def dkwX8_widest_1 : List UInt8 := [16, 9, 46, 61, 42, 180, 0, 13, 16, 10, 46, 28, 100, 62, 3, 54, 4, 2, 54, 5, 3, 54, 6]
abbrev dktX8_widest_1 : List UInt8 := dkwX8_widest_1 ++ dktX8_widest_2
def dkwX8_widest_0 : List UInt8 := [42, 3, 181, 0, 3, 42, 42, 27, 182, 1, 47, 4, 182, 1, 9, 153, 0, 5, 3, 172, 42, 180, 0, 13]
abbrev dktX8_widest_0 : List UInt8 := dkwX8_widest_0 ++ dktX8_widest_1
theorem dksX8_widest_0 : cX8_widest.data.toList.drop 0 = dktX8_widest_0 := by decide +kernel
theorem dksX8_widest_1 : cX8_widest.data.toList.drop 24 = dktX8_widest_1 := dk_seg dksX8_widest_0 24 rfl rfl
theorem dksX8_widest_2 : cX8_widest.data.toList.drop 47 = dktX8_widest_2 := dk_seg dksX8_widest_1 23 rfl rfl
theorem dksX8_widest_3 : cX8_widest.data.toList.drop 71 = dktX8_widest_3 := dk_seg dksX8_widest_2 24 rfl rfl
theorem dksX8_widest_4 : cX8_widest.data.toList.drop 94 = dktX8_widest_4 := dk_seg dksX8_widest_3 23 rfl rfl
theorem dksX8_widest_5 : cX8_widest.data.toList.drop 118 = dktX8_widest_5 := dk_seg dksX8_widest_4 24 rfl rfl
theorem dX8_widest_0 : decode cX8_widest 0 = .ok (.aload_n 0, 1) := dk_42 (dk_at dksX8_widest_0 0 rfl rfl)
theorem dX8_widest_1 : decode cX8_widest 1 = .ok (.iconst 0, 1) := dk_3 (dk_at dksX8_widest_0 1 rfl rfl)
theorem dX8_widest_2 : decode cX8_widest 2 = .ok (.putfield 3, 3) := dk_181 0 3 (dk_at dksX8_widest_0 2 rfl rfl)
theorem dX8_widest_5 : decode cX8_widest 5 = .ok (.aload_n 0, 1) := dk_42 (dk_at dksX8_widest_0 5 rfl rfl)
theorem dX8_widest_6 : decode cX8_widest 6 = .ok (.aload_n 0, 1) := dk_42 (dk_at dksX8_widest_0 6 rfl rfl)
theorem dX8_widest_7 : decode cX8_widest 7 = .ok (.iload_n 1, 1) := dk_27 (dk_at dksX8_widest_0 7 rfl rfl)
theorem dX8_widest_8 : decode cX8_widest 8 = .ok (.invokevirtual 303, 3) := dk_182 1 47 (dk_at dksX8_widest_0 8 rfl rfl)
theorem dX8_widest_11 : decode cX8_widest 11 = .ok (.iconst 1, 1) := dk_4 (dk_at dksX8_widest_0 11 rfl rfl)
theorem dX8_widest_12 : decode cX8_widest 12 = .ok (.invokevirtual 265, 3) := dk_182 1 9 (dk_at dksX8_widest_0 12 rfl rfl)
theorem dX8_widest_15 : decode cX8_widest 15 = .ok (.ifCond .eq 5, 3) := dk_153 0 5 (dk_at dksX8_widest_0 15 rfl rfl)
theorem dX8_widest_18 : decode cX8_widest 18 = .ok (.iconst 0, 1) := dk_3 (dk_at dksX8_widest_0 18 rfl rfl)
theorem dX8_widest_19 : decode cX8_widest 19 = .ok (.ireturn, 1) := dk_172 (dk_at dksX8_widest_0 19 rfl rfl)
theorem dX8_widest_20 : decode cX8_widest 20 = .ok (.aload_n 0, 1) := dk_42 (dk_at dksX8_widest_0 20 rfl rfl)
theorem dX8_widest_21 : decode cX8_widest 21 = .ok (.getfield 13, 3) := dk_180 0 13 (dk_at dksX8_widest_0 21 rfl rfl)
theorem dX8_widest_24 : decode cX8_widest 24 = .ok (.bipush 9, 2) := dk_16 9 (dk_at dksX8_widest_1 0 rfl rfl)
theorem dX8_widest_26 : decode cX8_widest 26 = .ok (.iaload, 1) := dk_46 (dk_at dksX8_widest_1 2 rfl rfl)
theorem dX8_widest_27 : decode cX8_widest 27 = .ok (.istore_n 2, 1) := dk_61 (dk_at dksX8_widest_1 3 rfl rfl)
theorem dX8_widest_28 : decode cX8_widest 28 = .ok (.aload_n 0, 1) := dk_42 (dk_at dksX8_widest_1 4 rfl rfl)
theorem dX8_widest_29 : decode cX8_widest 29 = .ok (.getfield 13, 3) := dk_180 0 13 (dk_at dksX8_widest_1 5 rfl rfl)
theorem dX8_widest_32 : decode cX8_widest 32 = .ok (.bipush 10, 2) := dk_16 10 (dk_at dksX8_widest_1 8 rfl rfl)
theorem dX8_widest_34 : decode cX8_widest 34 = .ok (.iaload, 1) := dk_46 (dk_at dksX8_widest_1 10 rfl rfl)
theorem dX8_widest_35 : decode cX8_widest 35 = .ok (.iload_n 2, 1) := dk_28 (dk_at dksX8_widest_1 11 rfl rfl)
theorem dX8_widest_36 : decode cX8_widest 36 = .ok (.isub, 1) := dk_100 (dk_at dksX8_widest_1 12 rfl rfl)
theorem dX8_widest_37 : decode cX8_widest 37 = .ok (.istore_n 3, 1) := dk_62 (dk_at dksX8_widest_1 13 rfl rfl)
theorem dX8_widest_38 : decode cX8_widest 38 = .ok (.iconst 0, 1) := dk_3 (dk_at dksX8_widest_1 14 rfl rfl)
theorem dX8_widest_39 : decode cX8_widest 39 = .ok (.istore 4, 2) := dk_54 4 (dk_at dksX8_widest_1 15 rfl rfl)
theorem dX8_widest_41 : decode cX8_widest 41 = .ok (.iconst (-1), 1) := dk_2 (dk_at dksX8_widest_1 17 rfl rfl)
theorem dX8_widest_42 : decode cX8_widest 42 = .ok (.istore 5, 2) := dk_54 5 (dk_at dksX8_widest_1 18 rfl rfl)
theorem dX8_widest_44 : decode cX8_widest 44 = .ok (.iconst 0, 1) := dk_3 (dk_at dksX8_widest_1 20 rfl rfl)
theorem dX8_widest_45 : decode cX8_widest 45 = .ok (.istore 6, 2) := dk_54 6 (dk_at dksX8_widest_1 21 rfl rfl)
theorem dX8_widest_47 : decode cX8_widest 47 = .ok (.iload 6, 2) := dk_21 6 (dk_at dksX8_widest_2 0 rfl rfl)
theorem dX8_widest_49 : decode cX8_widest 49 = .ok (.iload_n 3, 1) := dk_29 (dk_at dksX8_widest_2 2 rfl rfl)
theorem dX8_widest_50 : decode cX8_widest 50 = .ok (.iadd, 1) := dk_96 (dk_at dksX8_widest_2 3 rfl rfl)
theorem dX8_widest_51 : decode cX8_widest 51 = .ok (.bipush 16, 2) := dk_16 16 (dk_at dksX8_widest_2 4 rfl rfl)
theorem dX8_widest_53 : decode cX8_widest 53 = .ok (.if_icmp .ge 65, 3) := dk_162 0 65 (dk_at dksX8_widest_2 6 rfl rfl)
theorem dX8_widest_56 : decode cX8_widest 56 = .ok (.aload_n 0, 1) := dk_42 (dk_at dksX8_widest_2 9 rfl rfl)
theorem dX8_widest_57 : decode cX8_widest 57 = .ok (.getfield 13, 3) := dk_180 0 13 (dk_at dksX8_widest_2 10 rfl rfl)
theorem dX8_widest_60 : decode cX8_widest 60 = .ok (.bipush 9, 2) := dk_16 9 (dk_at dksX8_widest_2 13 rfl rfl)
theorem dX8_widest_62 : decode cX8_widest 62 = .ok (.iload 6, 2) := dk_21 6 (dk_at dksX8_widest_2 15 rfl rfl)
theorem dX8_widest_64 : decode cX8_widest 64 = .ok (.iastore, 1) := dk_79 (dk_at dksX8_widest_2 17 rfl rfl)
theorem dX8_widest_65 : decode cX8_widest 65 = .ok (.aload_n 0, 1) := dk_42 (dk_at dksX8_widest_2 18 rfl rfl)
theorem dX8_widest_66 : decode cX8_widest 66 = .ok (.getfield 13, 3) := dk_180 0 13 (dk_at dksX8_widest_2 19 rfl rfl)
theorem dX8_widest_69 : decode cX8_widest 69 = .ok (.bipush 10, 2) := dk_16 10 (dk_at dksX8_widest_2 22 rfl rfl)
theorem dX8_widest_71 : decode cX8_widest 71 = .ok (.iload 6, 2) := dk_21 6 (dk_at dksX8_widest_3 0 rfl rfl)
theorem dX8_widest_73 : decode cX8_widest 73 = .ok (.iload_n 3, 1) := dk_29 (dk_at dksX8_widest_3 2 rfl rfl)
theorem dX8_widest_74 : decode cX8_widest 74 = .ok (.iadd, 1) := dk_96 (dk_at dksX8_widest_3 3 rfl rfl)
theorem dX8_widest_75 : decode cX8_widest 75 = .ok (.iastore, 1) := dk_79 (dk_at dksX8_widest_3 4 rfl rfl)
theorem dX8_widest_76 : decode cX8_widest 76 = .ok (.aload_n 0, 1) := dk_42 (dk_at dksX8_widest_3 5 rfl rfl)
theorem dX8_widest_77 : decode cX8_widest 77 = .ok (.iload_n 1, 1) := dk_27 (dk_at dksX8_widest_3 6 rfl rfl)
theorem dX8_widest_78 : decode cX8_widest 78 = .ok (.invokevirtual 347, 3) := dk_182 1 91 (dk_at dksX8_widest_3 7 rfl rfl)
theorem dX8_widest_81 : decode cX8_widest 81 = .ok (.aload_n 0, 1) := dk_42 (dk_at dksX8_widest_3 10 rfl rfl)
theorem dX8_widest_82 : decode cX8_widest 82 = .ok (.invokevirtual 351, 3) := dk_182 1 95 (dk_at dksX8_widest_3 11 rfl rfl)
theorem dX8_widest_85 : decode cX8_widest 85 = .ok (.istore 7, 2) := dk_54 7 (dk_at dksX8_widest_3 14 rfl rfl)
theorem dX8_widest_87 : decode cX8_widest 87 = .ok (.iload 7, 2) := dk_21 7 (dk_at dksX8_widest_3 16 rfl rfl)
theorem dX8_widest_89 : decode cX8_widest 89 = .ok (.iload 5, 2) := dk_21 5 (dk_at dksX8_widest_3 18 rfl rfl)
theorem dX8_widest_91 : decode cX8_widest 91 = .ok (.if_icmp .le 8, 3) := dk_164 0 8 (dk_at dksX8_widest_3 20 rfl rfl)
theorem dX8_widest_94 : decode cX8_widest 94 = .ok (.iload 6, 2) := dk_21 6 (dk_at dksX8_widest_4 0 rfl rfl)
theorem dX8_widest_96 : decode cX8_widest 96 = .ok (.goto 5, 3) := dk_167 0 5 (dk_at dksX8_widest_4 2 rfl rfl)
theorem dX8_widest_99 : decode cX8_widest 99 = .ok (.iload 4, 2) := dk_21 4 (dk_at dksX8_widest_4 5 rfl rfl)
theorem dX8_widest_101 : decode cX8_widest 101 = .ok (.istore 4, 2) := dk_54 4 (dk_at dksX8_widest_4 7 rfl rfl)
theorem dX8_widest_103 : decode cX8_widest 103 = .ok (.iload 5, 2) := dk_21 5 (dk_at dksX8_widest_4 9 rfl rfl)
theorem dX8_widest_105 : decode cX8_widest 105 = .ok (.iload 7, 2) := dk_21 7 (dk_at dksX8_widest_4 11 rfl rfl)
theorem dX8_widest_107 : decode cX8_widest 107 = .ok (.invokestatic 300, 3) := dk_184 1 44 (dk_at dksX8_widest_4 13 rfl rfl)
theorem dX8_widest_110 : decode cX8_widest 110 = .ok (.istore 5, 2) := dk_54 5 (dk_at dksX8_widest_4 16 rfl rfl)
theorem dX8_widest_112 : decode cX8_widest 112 = .ok (.iinc 6 1, 3) := dk_132 6 1 (dk_at dksX8_widest_4 18 rfl rfl)
theorem dX8_widest_115 : decode cX8_widest 115 = .ok (.goto (-68), 3) := dk_167 255 188 (dk_at dksX8_widest_4 21 rfl rfl)
theorem dX8_widest_118 : decode cX8_widest 118 = .ok (.aload_n 0, 1) := dk_42 (dk_at dksX8_widest_5 0 rfl rfl)
theorem dX8_widest_119 : decode cX8_widest 119 = .ok (.getfield 13, 3) := dk_180 0 13 (dk_at dksX8_widest_5 1 rfl rfl)
theorem dX8_widest_122 : decode cX8_widest 122 = .ok (.bipush 9, 2) := dk_16 9 (dk_at dksX8_widest_5 4 rfl rfl)
theorem dX8_widest_124 : decode cX8_widest 124 = .ok (.iload_n 2, 1) := dk_28 (dk_at dksX8_widest_5 6 rfl rfl)
theorem dX8_widest_125 : decode cX8_widest 125 = .ok (.iastore, 1) := dk_79 (dk_at dksX8_widest_5 7 rfl rfl)
theorem dX8_widest_126 : decode cX8_widest 126 = .ok (.aload_n 0, 1) := dk_42 (dk_at dksX8_widest_5 8 rfl rfl)
theorem dX8_widest_127 : decode cX8_widest 127 = .ok (.getfield 13, 3) := dk_180 0 13 (dk_at dksX8_widest_5 9 rfl rfl)
theorem dX8_widest_130 : decode cX8_widest 130 = .ok (.bipush 10, 2) := dk_16 10 (dk_at dksX8_widest_5 12 rfl rfl)
theorem dX8_widest_132 : decode cX8_widest 132 = .ok (.iload_n 2, 1) := dk_28 (dk_at dksX8_widest_5 14 rfl rfl)
theorem dX8_widest_133 : decode cX8_widest 133 = .ok (.iload_n 3, 1) := dk_29 (dk_at dksX8_widest_5 15 rfl rfl)
theorem dX8_widest_134 : decode cX8_widest 134 = .ok (.iadd, 1) := dk_96 (dk_at dksX8_widest_5 16 rfl rfl)
theorem dX8_widest_135 : decode cX8_widest 135 = .ok (.iastore, 1) := dk_79 (dk_at dksX8_widest_5 17 rfl rfl)
theorem dX8_widest_136 : decode cX8_widest 136 = .ok (.iload 4, 2) := dk_21 4 (dk_at dksX8_widest_5 18 rfl rfl)
theorem dX8_widest_138 : decode cX8_widest 138 = .ok (.ireturn, 1) := dk_172 (dk_at dksX8_widest_5 20 rfl rfl)
abbrev cX8_straight : ByteArray := prog_18_method_82_code
def yX8_straight : MethodName := ⟨RX8, "straight", "(IZ)I"⟩
def dkwX8_straight_3 : List UInt8 := [184, 1, 53, 153, 0, 5, 2, 172, 28, 153, 0, 7, 29, 167, 0, 9, 42, 180, 0, 51, 4, 46, 172]
abbrev dktX8_straight_3 : List UInt8 := dkwX8_straight_3 ++ []
def dkwX8_straight_2 : List UInt8 := [182, 1, 104, 132, 3, 1, 167, 255, 232, 42, 3, 182, 1, 101, 154, 0, 15, 42, 180, 0, 51, 4, 46]
abbrev dktX8_straight_2 : List UInt8 := dkwX8_straight_2 ++ dktX8_straight_3
def dkwX8_straight_1 : List UInt8 := [182, 1, 98, 3, 62, 29, 16, 8, 162, 0, 24, 42, 3, 182, 1, 101, 153, 0, 16, 42, 3, 3, 29]
abbrev dktX8_straight_1 : List UInt8 := dkwX8_straight_1 ++ dktX8_straight_2
def dkwX8_straight_0 : List UInt8 := [42, 3, 181, 0, 3, 42, 42, 27, 182, 1, 47, 4, 182, 1, 9, 153, 0, 5, 3, 172, 42, 3, 27]
abbrev dktX8_straight_0 : List UInt8 := dkwX8_straight_0 ++ dktX8_straight_1
theorem dksX8_straight_0 : cX8_straight.data.toList.drop 0 = dktX8_straight_0 := by decide +kernel
theorem dksX8_straight_1 : cX8_straight.data.toList.drop 23 = dktX8_straight_1 := dk_seg dksX8_straight_0 23 rfl rfl
theorem dksX8_straight_2 : cX8_straight.data.toList.drop 46 = dktX8_straight_2 := dk_seg dksX8_straight_1 23 rfl rfl
theorem dksX8_straight_3 : cX8_straight.data.toList.drop 69 = dktX8_straight_3 := dk_seg dksX8_straight_2 23 rfl rfl
theorem dX8_straight_0 : decode cX8_straight 0 = .ok (.aload_n 0, 1) := dk_42 (dk_at dksX8_straight_0 0 rfl rfl)
theorem dX8_straight_1 : decode cX8_straight 1 = .ok (.iconst 0, 1) := dk_3 (dk_at dksX8_straight_0 1 rfl rfl)
theorem dX8_straight_2 : decode cX8_straight 2 = .ok (.putfield 3, 3) := dk_181 0 3 (dk_at dksX8_straight_0 2 rfl rfl)
theorem dX8_straight_5 : decode cX8_straight 5 = .ok (.aload_n 0, 1) := dk_42 (dk_at dksX8_straight_0 5 rfl rfl)
theorem dX8_straight_6 : decode cX8_straight 6 = .ok (.aload_n 0, 1) := dk_42 (dk_at dksX8_straight_0 6 rfl rfl)
theorem dX8_straight_7 : decode cX8_straight 7 = .ok (.iload_n 1, 1) := dk_27 (dk_at dksX8_straight_0 7 rfl rfl)
theorem dX8_straight_8 : decode cX8_straight 8 = .ok (.invokevirtual 303, 3) := dk_182 1 47 (dk_at dksX8_straight_0 8 rfl rfl)
theorem dX8_straight_11 : decode cX8_straight 11 = .ok (.iconst 1, 1) := dk_4 (dk_at dksX8_straight_0 11 rfl rfl)
theorem dX8_straight_12 : decode cX8_straight 12 = .ok (.invokevirtual 265, 3) := dk_182 1 9 (dk_at dksX8_straight_0 12 rfl rfl)
theorem dX8_straight_15 : decode cX8_straight 15 = .ok (.ifCond .eq 5, 3) := dk_153 0 5 (dk_at dksX8_straight_0 15 rfl rfl)
theorem dX8_straight_18 : decode cX8_straight 18 = .ok (.iconst 0, 1) := dk_3 (dk_at dksX8_straight_0 18 rfl rfl)
theorem dX8_straight_19 : decode cX8_straight 19 = .ok (.ireturn, 1) := dk_172 (dk_at dksX8_straight_0 19 rfl rfl)
theorem dX8_straight_20 : decode cX8_straight 20 = .ok (.aload_n 0, 1) := dk_42 (dk_at dksX8_straight_0 20 rfl rfl)
theorem dX8_straight_21 : decode cX8_straight 21 = .ok (.iconst 0, 1) := dk_3 (dk_at dksX8_straight_0 21 rfl rfl)
theorem dX8_straight_22 : decode cX8_straight 22 = .ok (.iload_n 1, 1) := dk_27 (dk_at dksX8_straight_0 22 rfl rfl)
theorem dX8_straight_23 : decode cX8_straight 23 = .ok (.invokevirtual 354, 3) := dk_182 1 98 (dk_at dksX8_straight_1 0 rfl rfl)
theorem dX8_straight_26 : decode cX8_straight 26 = .ok (.iconst 0, 1) := dk_3 (dk_at dksX8_straight_1 3 rfl rfl)
theorem dX8_straight_27 : decode cX8_straight 27 = .ok (.istore_n 3, 1) := dk_62 (dk_at dksX8_straight_1 4 rfl rfl)
theorem dX8_straight_28 : decode cX8_straight 28 = .ok (.iload_n 3, 1) := dk_29 (dk_at dksX8_straight_1 5 rfl rfl)
theorem dX8_straight_29 : decode cX8_straight 29 = .ok (.bipush 8, 2) := dk_16 8 (dk_at dksX8_straight_1 6 rfl rfl)
theorem dX8_straight_31 : decode cX8_straight 31 = .ok (.if_icmp .ge 24, 3) := dk_162 0 24 (dk_at dksX8_straight_1 8 rfl rfl)
theorem dX8_straight_34 : decode cX8_straight 34 = .ok (.aload_n 0, 1) := dk_42 (dk_at dksX8_straight_1 11 rfl rfl)
theorem dX8_straight_35 : decode cX8_straight 35 = .ok (.iconst 0, 1) := dk_3 (dk_at dksX8_straight_1 12 rfl rfl)
theorem dX8_straight_36 : decode cX8_straight 36 = .ok (.invokevirtual 357, 3) := dk_182 1 101 (dk_at dksX8_straight_1 13 rfl rfl)
theorem dX8_straight_39 : decode cX8_straight 39 = .ok (.ifCond .eq 16, 3) := dk_153 0 16 (dk_at dksX8_straight_1 16 rfl rfl)
theorem dX8_straight_42 : decode cX8_straight 42 = .ok (.aload_n 0, 1) := dk_42 (dk_at dksX8_straight_1 19 rfl rfl)
theorem dX8_straight_43 : decode cX8_straight 43 = .ok (.iconst 0, 1) := dk_3 (dk_at dksX8_straight_1 20 rfl rfl)
theorem dX8_straight_44 : decode cX8_straight 44 = .ok (.iconst 0, 1) := dk_3 (dk_at dksX8_straight_1 21 rfl rfl)
theorem dX8_straight_45 : decode cX8_straight 45 = .ok (.iload_n 3, 1) := dk_29 (dk_at dksX8_straight_1 22 rfl rfl)
theorem dX8_straight_46 : decode cX8_straight 46 = .ok (.invokevirtual 360, 3) := dk_182 1 104 (dk_at dksX8_straight_2 0 rfl rfl)
theorem dX8_straight_49 : decode cX8_straight 49 = .ok (.iinc 3 1, 3) := dk_132 3 1 (dk_at dksX8_straight_2 3 rfl rfl)
theorem dX8_straight_52 : decode cX8_straight 52 = .ok (.goto (-24), 3) := dk_167 255 232 (dk_at dksX8_straight_2 6 rfl rfl)
theorem dX8_straight_55 : decode cX8_straight 55 = .ok (.aload_n 0, 1) := dk_42 (dk_at dksX8_straight_2 9 rfl rfl)
theorem dX8_straight_56 : decode cX8_straight 56 = .ok (.iconst 0, 1) := dk_3 (dk_at dksX8_straight_2 10 rfl rfl)
theorem dX8_straight_57 : decode cX8_straight 57 = .ok (.invokevirtual 357, 3) := dk_182 1 101 (dk_at dksX8_straight_2 11 rfl rfl)
theorem dX8_straight_60 : decode cX8_straight 60 = .ok (.ifCond .ne 15, 3) := dk_154 0 15 (dk_at dksX8_straight_2 14 rfl rfl)
theorem dX8_straight_63 : decode cX8_straight 63 = .ok (.aload_n 0, 1) := dk_42 (dk_at dksX8_straight_2 17 rfl rfl)
theorem dX8_straight_64 : decode cX8_straight 64 = .ok (.getfield 51, 3) := dk_180 0 51 (dk_at dksX8_straight_2 18 rfl rfl)
theorem dX8_straight_67 : decode cX8_straight 67 = .ok (.iconst 1, 1) := dk_4 (dk_at dksX8_straight_2 21 rfl rfl)
theorem dX8_straight_68 : decode cX8_straight 68 = .ok (.iaload, 1) := dk_46 (dk_at dksX8_straight_2 22 rfl rfl)
theorem dX8_straight_69 : decode cX8_straight 69 = .ok (.invokestatic 309, 3) := dk_184 1 53 (dk_at dksX8_straight_3 0 rfl rfl)
theorem dX8_straight_72 : decode cX8_straight 72 = .ok (.ifCond .eq 5, 3) := dk_153 0 5 (dk_at dksX8_straight_3 3 rfl rfl)
theorem dX8_straight_75 : decode cX8_straight 75 = .ok (.iconst (-1), 1) := dk_2 (dk_at dksX8_straight_3 6 rfl rfl)
theorem dX8_straight_76 : decode cX8_straight 76 = .ok (.ireturn, 1) := dk_172 (dk_at dksX8_straight_3 7 rfl rfl)
theorem dX8_straight_77 : decode cX8_straight 77 = .ok (.iload_n 2, 1) := dk_28 (dk_at dksX8_straight_3 8 rfl rfl)
theorem dX8_straight_78 : decode cX8_straight 78 = .ok (.ifCond .eq 7, 3) := dk_153 0 7 (dk_at dksX8_straight_3 9 rfl rfl)
theorem dX8_straight_81 : decode cX8_straight 81 = .ok (.iload_n 3, 1) := dk_29 (dk_at dksX8_straight_3 12 rfl rfl)
theorem dX8_straight_82 : decode cX8_straight 82 = .ok (.goto 9, 3) := dk_167 0 9 (dk_at dksX8_straight_3 13 rfl rfl)
theorem dX8_straight_85 : decode cX8_straight 85 = .ok (.aload_n 0, 1) := dk_42 (dk_at dksX8_straight_3 16 rfl rfl)
theorem dX8_straight_86 : decode cX8_straight 86 = .ok (.getfield 51, 3) := dk_180 0 51 (dk_at dksX8_straight_3 17 rfl rfl)
theorem dX8_straight_89 : decode cX8_straight 89 = .ok (.iconst 1, 1) := dk_4 (dk_at dksX8_straight_3 20 rfl rfl)
theorem dX8_straight_90 : decode cX8_straight 90 = .ok (.iaload, 1) := dk_46 (dk_at dksX8_straight_3 21 rfl rfl)
theorem dX8_straight_91 : decode cX8_straight 91 = .ok (.ireturn, 1) := dk_172 (dk_at dksX8_straight_3 22 rfl rfl)
abbrev cX8_begins : ByteArray := prog_18_method_78_code
def yX8_begins : MethodName := ⟨RX8, "begins", "(II)V"⟩
def dkwX8_begins_2 : List UInt8 := [96, 4, 79, 42, 180, 0, 51, 7, 27, 104, 6, 96, 3, 79, 177]
abbrev dktX8_begins_2 : List UInt8 := dkwX8_begins_2 ++ []
def dkwX8_begins_1 : List UInt8 := [180, 0, 51, 7, 27, 104, 4, 96, 42, 180, 0, 13, 16, 7, 46, 79, 42, 180, 0, 51, 7, 27, 104, 5]
abbrev dktX8_begins_1 : List UInt8 := dkwX8_begins_1 ++ dktX8_begins_2
def dkwX8_begins_0 : List UInt8 := [42, 180, 0, 54, 27, 28, 79, 42, 180, 0, 51, 7, 27, 104, 42, 180, 0, 13, 16, 8, 46, 79, 42]
abbrev dktX8_begins_0 : List UInt8 := dkwX8_begins_0 ++ dktX8_begins_1
theorem dksX8_begins_0 : cX8_begins.data.toList.drop 0 = dktX8_begins_0 := by decide +kernel
theorem dksX8_begins_1 : cX8_begins.data.toList.drop 23 = dktX8_begins_1 := dk_seg dksX8_begins_0 23 rfl rfl
theorem dksX8_begins_2 : cX8_begins.data.toList.drop 47 = dktX8_begins_2 := dk_seg dksX8_begins_1 24 rfl rfl
theorem dX8_begins_0 : decode cX8_begins 0 = .ok (.aload_n 0, 1) := dk_42 (dk_at dksX8_begins_0 0 rfl rfl)
theorem dX8_begins_1 : decode cX8_begins 1 = .ok (.getfield 54, 3) := dk_180 0 54 (dk_at dksX8_begins_0 1 rfl rfl)
theorem dX8_begins_4 : decode cX8_begins 4 = .ok (.iload_n 1, 1) := dk_27 (dk_at dksX8_begins_0 4 rfl rfl)
theorem dX8_begins_5 : decode cX8_begins 5 = .ok (.iload_n 2, 1) := dk_28 (dk_at dksX8_begins_0 5 rfl rfl)
theorem dX8_begins_6 : decode cX8_begins 6 = .ok (.iastore, 1) := dk_79 (dk_at dksX8_begins_0 6 rfl rfl)
theorem dX8_begins_7 : decode cX8_begins 7 = .ok (.aload_n 0, 1) := dk_42 (dk_at dksX8_begins_0 7 rfl rfl)
theorem dX8_begins_8 : decode cX8_begins 8 = .ok (.getfield 51, 3) := dk_180 0 51 (dk_at dksX8_begins_0 8 rfl rfl)
theorem dX8_begins_11 : decode cX8_begins 11 = .ok (.iconst 4, 1) := dk_7 (dk_at dksX8_begins_0 11 rfl rfl)
theorem dX8_begins_12 : decode cX8_begins 12 = .ok (.iload_n 1, 1) := dk_27 (dk_at dksX8_begins_0 12 rfl rfl)
theorem dX8_begins_13 : decode cX8_begins 13 = .ok (.imul, 1) := dk_104 (dk_at dksX8_begins_0 13 rfl rfl)
theorem dX8_begins_14 : decode cX8_begins 14 = .ok (.aload_n 0, 1) := dk_42 (dk_at dksX8_begins_0 14 rfl rfl)
theorem dX8_begins_15 : decode cX8_begins 15 = .ok (.getfield 13, 3) := dk_180 0 13 (dk_at dksX8_begins_0 15 rfl rfl)
theorem dX8_begins_18 : decode cX8_begins 18 = .ok (.bipush 8, 2) := dk_16 8 (dk_at dksX8_begins_0 18 rfl rfl)
theorem dX8_begins_20 : decode cX8_begins 20 = .ok (.iaload, 1) := dk_46 (dk_at dksX8_begins_0 20 rfl rfl)
theorem dX8_begins_21 : decode cX8_begins 21 = .ok (.iastore, 1) := dk_79 (dk_at dksX8_begins_0 21 rfl rfl)
theorem dX8_begins_22 : decode cX8_begins 22 = .ok (.aload_n 0, 1) := dk_42 (dk_at dksX8_begins_0 22 rfl rfl)
theorem dX8_begins_23 : decode cX8_begins 23 = .ok (.getfield 51, 3) := dk_180 0 51 (dk_at dksX8_begins_1 0 rfl rfl)
theorem dX8_begins_26 : decode cX8_begins 26 = .ok (.iconst 4, 1) := dk_7 (dk_at dksX8_begins_1 3 rfl rfl)
theorem dX8_begins_27 : decode cX8_begins 27 = .ok (.iload_n 1, 1) := dk_27 (dk_at dksX8_begins_1 4 rfl rfl)
theorem dX8_begins_28 : decode cX8_begins 28 = .ok (.imul, 1) := dk_104 (dk_at dksX8_begins_1 5 rfl rfl)
theorem dX8_begins_29 : decode cX8_begins 29 = .ok (.iconst 1, 1) := dk_4 (dk_at dksX8_begins_1 6 rfl rfl)
theorem dX8_begins_30 : decode cX8_begins 30 = .ok (.iadd, 1) := dk_96 (dk_at dksX8_begins_1 7 rfl rfl)
theorem dX8_begins_31 : decode cX8_begins 31 = .ok (.aload_n 0, 1) := dk_42 (dk_at dksX8_begins_1 8 rfl rfl)
theorem dX8_begins_32 : decode cX8_begins 32 = .ok (.getfield 13, 3) := dk_180 0 13 (dk_at dksX8_begins_1 9 rfl rfl)
theorem dX8_begins_35 : decode cX8_begins 35 = .ok (.bipush 7, 2) := dk_16 7 (dk_at dksX8_begins_1 12 rfl rfl)
theorem dX8_begins_37 : decode cX8_begins 37 = .ok (.iaload, 1) := dk_46 (dk_at dksX8_begins_1 14 rfl rfl)
theorem dX8_begins_38 : decode cX8_begins 38 = .ok (.iastore, 1) := dk_79 (dk_at dksX8_begins_1 15 rfl rfl)
theorem dX8_begins_39 : decode cX8_begins 39 = .ok (.aload_n 0, 1) := dk_42 (dk_at dksX8_begins_1 16 rfl rfl)
theorem dX8_begins_40 : decode cX8_begins 40 = .ok (.getfield 51, 3) := dk_180 0 51 (dk_at dksX8_begins_1 17 rfl rfl)
theorem dX8_begins_43 : decode cX8_begins 43 = .ok (.iconst 4, 1) := dk_7 (dk_at dksX8_begins_1 20 rfl rfl)
theorem dX8_begins_44 : decode cX8_begins 44 = .ok (.iload_n 1, 1) := dk_27 (dk_at dksX8_begins_1 21 rfl rfl)
theorem dX8_begins_45 : decode cX8_begins 45 = .ok (.imul, 1) := dk_104 (dk_at dksX8_begins_1 22 rfl rfl)
theorem dX8_begins_46 : decode cX8_begins 46 = .ok (.iconst 2, 1) := dk_5 (dk_at dksX8_begins_1 23 rfl rfl)
theorem dX8_begins_47 : decode cX8_begins 47 = .ok (.iadd, 1) := dk_96 (dk_at dksX8_begins_2 0 rfl rfl)
theorem dX8_begins_48 : decode cX8_begins 48 = .ok (.iconst 1, 1) := dk_4 (dk_at dksX8_begins_2 1 rfl rfl)
theorem dX8_begins_49 : decode cX8_begins 49 = .ok (.iastore, 1) := dk_79 (dk_at dksX8_begins_2 2 rfl rfl)
theorem dX8_begins_50 : decode cX8_begins 50 = .ok (.aload_n 0, 1) := dk_42 (dk_at dksX8_begins_2 3 rfl rfl)
theorem dX8_begins_51 : decode cX8_begins 51 = .ok (.getfield 51, 3) := dk_180 0 51 (dk_at dksX8_begins_2 4 rfl rfl)
theorem dX8_begins_54 : decode cX8_begins 54 = .ok (.iconst 4, 1) := dk_7 (dk_at dksX8_begins_2 7 rfl rfl)
theorem dX8_begins_55 : decode cX8_begins 55 = .ok (.iload_n 1, 1) := dk_27 (dk_at dksX8_begins_2 8 rfl rfl)
theorem dX8_begins_56 : decode cX8_begins 56 = .ok (.imul, 1) := dk_104 (dk_at dksX8_begins_2 9 rfl rfl)
theorem dX8_begins_57 : decode cX8_begins 57 = .ok (.iconst 3, 1) := dk_6 (dk_at dksX8_begins_2 10 rfl rfl)
theorem dX8_begins_58 : decode cX8_begins 58 = .ok (.iadd, 1) := dk_96 (dk_at dksX8_begins_2 11 rfl rfl)
theorem dX8_begins_59 : decode cX8_begins 59 = .ok (.iconst 0, 1) := dk_3 (dk_at dksX8_begins_2 12 rfl rfl)
theorem dX8_begins_60 : decode cX8_begins 60 = .ok (.iastore, 1) := dk_79 (dk_at dksX8_begins_2 13 rfl rfl)
theorem dX8_begins_61 : decode cX8_begins 61 = .ok (.return_, 1) := dk_177 (dk_at dksX8_begins_2 14 rfl rfl)
abbrev cX8_isFlying : ByteArray := prog_18_method_79_code
def yX8_isFlying : MethodName := ⟨RX8, "isFlying", "(I)Z"⟩
def dkwX8_isFlying_0 : List UInt8 := [42, 180, 0, 51, 7, 27, 104, 5, 96, 46, 4, 160, 0, 7, 4, 167, 0, 4, 3, 172]
abbrev dktX8_isFlying_0 : List UInt8 := dkwX8_isFlying_0 ++ []
theorem dksX8_isFlying_0 : cX8_isFlying.data.toList.drop 0 = dktX8_isFlying_0 := by decide +kernel
theorem dX8_isFlying_0 : decode cX8_isFlying 0 = .ok (.aload_n 0, 1) := dk_42 (dk_at dksX8_isFlying_0 0 rfl rfl)
theorem dX8_isFlying_1 : decode cX8_isFlying 1 = .ok (.getfield 51, 3) := dk_180 0 51 (dk_at dksX8_isFlying_0 1 rfl rfl)
theorem dX8_isFlying_4 : decode cX8_isFlying 4 = .ok (.iconst 4, 1) := dk_7 (dk_at dksX8_isFlying_0 4 rfl rfl)
theorem dX8_isFlying_5 : decode cX8_isFlying 5 = .ok (.iload_n 1, 1) := dk_27 (dk_at dksX8_isFlying_0 5 rfl rfl)
theorem dX8_isFlying_6 : decode cX8_isFlying 6 = .ok (.imul, 1) := dk_104 (dk_at dksX8_isFlying_0 6 rfl rfl)
theorem dX8_isFlying_7 : decode cX8_isFlying 7 = .ok (.iconst 2, 1) := dk_5 (dk_at dksX8_isFlying_0 7 rfl rfl)
theorem dX8_isFlying_8 : decode cX8_isFlying 8 = .ok (.iadd, 1) := dk_96 (dk_at dksX8_isFlying_0 8 rfl rfl)
theorem dX8_isFlying_9 : decode cX8_isFlying 9 = .ok (.iaload, 1) := dk_46 (dk_at dksX8_isFlying_0 9 rfl rfl)
theorem dX8_isFlying_10 : decode cX8_isFlying 10 = .ok (.iconst 1, 1) := dk_4 (dk_at dksX8_isFlying_0 10 rfl rfl)
theorem dX8_isFlying_11 : decode cX8_isFlying 11 = .ok (.if_icmp .ne 7, 3) := dk_160 0 7 (dk_at dksX8_isFlying_0 11 rfl rfl)
theorem dX8_isFlying_14 : decode cX8_isFlying 14 = .ok (.iconst 1, 1) := dk_4 (dk_at dksX8_isFlying_0 14 rfl rfl)
theorem dX8_isFlying_15 : decode cX8_isFlying 15 = .ok (.goto 4, 3) := dk_167 0 4 (dk_at dksX8_isFlying_0 15 rfl rfl)
theorem dX8_isFlying_18 : decode cX8_isFlying 18 = .ok (.iconst 0, 1) := dk_3 (dk_at dksX8_isFlying_0 18 rfl rfl)
theorem dX8_isFlying_19 : decode cX8_isFlying 19 = .ok (.ireturn, 1) := dk_172 (dk_at dksX8_isFlying_0 19 rfl rfl)
abbrev cX8_breathes : ByteArray := prog_18_method_81_code
def yX8_breathes : MethodName := ⟨RX8, "breathes", "(III)V"⟩
def dkwX8_breathes_5 : List UInt8 := [184, 1, 53, 154, 0, 18, 42, 21, 5, 182, 1, 27, 153, 0, 9, 29, 4, 96, 167, 0, 4, 3, 79, 177]
abbrev dktX8_breathes_5 : List UInt8 := dkwX8_breathes_5 ++ []
def dkwX8_breathes_4 : List UInt8 := [177, 42, 180, 0, 51, 7, 27, 104, 5, 96, 3, 79, 42, 180, 0, 51, 7, 27, 104, 6, 96, 21, 5]
abbrev dktX8_breathes_4 : List UInt8 := dkwX8_breathes_4 ++ dktX8_breathes_5
def dkwX8_breathes_3 : List UInt8 := [180, 0, 51, 7, 27, 104, 4, 96, 21, 5, 79, 21, 5, 184, 1, 53, 154, 0, 9, 21, 4, 158, 0, 4]
abbrev dktX8_breathes_3 : List UInt8 := dkwX8_breathes_3 ++ dktX8_breathes_4
def dkwX8_breathes_2 : List UInt8 := [96, 42, 42, 180, 1, 12, 28, 182, 1, 69, 96, 54, 5, 42, 180, 0, 51, 7, 27, 104, 21, 4, 79, 42]
abbrev dktX8_breathes_2 : List UInt8 := dkwX8_breathes_2 ++ dktX8_breathes_3
def dkwX8_breathes_1 : List UInt8 := [46, 29, 182, 1, 56, 42, 180, 1, 15, 42, 182, 1, 63, 100, 54, 4, 42, 180, 1, 18, 42, 182, 1, 60]
abbrev dktX8_breathes_1 : List UInt8 := dkwX8_breathes_1 ++ dktX8_breathes_2
def dkwX8_breathes_0 : List UInt8 := [42, 42, 180, 0, 54, 27, 46, 42, 180, 0, 51, 7, 27, 104, 46, 42, 180, 0, 51, 7, 27, 104, 4, 96]
abbrev dktX8_breathes_0 : List UInt8 := dkwX8_breathes_0 ++ dktX8_breathes_1
theorem dksX8_breathes_0 : cX8_breathes.data.toList.drop 0 = dktX8_breathes_0 := by decide +kernel
theorem dksX8_breathes_1 : cX8_breathes.data.toList.drop 24 = dktX8_breathes_1 := dk_seg dksX8_breathes_0 24 rfl rfl
theorem dksX8_breathes_2 : cX8_breathes.data.toList.drop 48 = dktX8_breathes_2 := dk_seg dksX8_breathes_1 24 rfl rfl
theorem dksX8_breathes_3 : cX8_breathes.data.toList.drop 72 = dktX8_breathes_3 := dk_seg dksX8_breathes_2 24 rfl rfl
theorem dksX8_breathes_4 : cX8_breathes.data.toList.drop 96 = dktX8_breathes_4 := dk_seg dksX8_breathes_3 24 rfl rfl
theorem dksX8_breathes_5 : cX8_breathes.data.toList.drop 119 = dktX8_breathes_5 := dk_seg dksX8_breathes_4 23 rfl rfl
theorem dX8_breathes_0 : decode cX8_breathes 0 = .ok (.aload_n 0, 1) := dk_42 (dk_at dksX8_breathes_0 0 rfl rfl)
theorem dX8_breathes_1 : decode cX8_breathes 1 = .ok (.aload_n 0, 1) := dk_42 (dk_at dksX8_breathes_0 1 rfl rfl)
theorem dX8_breathes_2 : decode cX8_breathes 2 = .ok (.getfield 54, 3) := dk_180 0 54 (dk_at dksX8_breathes_0 2 rfl rfl)
theorem dX8_breathes_5 : decode cX8_breathes 5 = .ok (.iload_n 1, 1) := dk_27 (dk_at dksX8_breathes_0 5 rfl rfl)
theorem dX8_breathes_6 : decode cX8_breathes 6 = .ok (.iaload, 1) := dk_46 (dk_at dksX8_breathes_0 6 rfl rfl)
theorem dX8_breathes_7 : decode cX8_breathes 7 = .ok (.aload_n 0, 1) := dk_42 (dk_at dksX8_breathes_0 7 rfl rfl)
theorem dX8_breathes_8 : decode cX8_breathes 8 = .ok (.getfield 51, 3) := dk_180 0 51 (dk_at dksX8_breathes_0 8 rfl rfl)
theorem dX8_breathes_11 : decode cX8_breathes 11 = .ok (.iconst 4, 1) := dk_7 (dk_at dksX8_breathes_0 11 rfl rfl)
theorem dX8_breathes_12 : decode cX8_breathes 12 = .ok (.iload_n 1, 1) := dk_27 (dk_at dksX8_breathes_0 12 rfl rfl)
theorem dX8_breathes_13 : decode cX8_breathes 13 = .ok (.imul, 1) := dk_104 (dk_at dksX8_breathes_0 13 rfl rfl)
theorem dX8_breathes_14 : decode cX8_breathes 14 = .ok (.iaload, 1) := dk_46 (dk_at dksX8_breathes_0 14 rfl rfl)
theorem dX8_breathes_15 : decode cX8_breathes 15 = .ok (.aload_n 0, 1) := dk_42 (dk_at dksX8_breathes_0 15 rfl rfl)
theorem dX8_breathes_16 : decode cX8_breathes 16 = .ok (.getfield 51, 3) := dk_180 0 51 (dk_at dksX8_breathes_0 16 rfl rfl)
theorem dX8_breathes_19 : decode cX8_breathes 19 = .ok (.iconst 4, 1) := dk_7 (dk_at dksX8_breathes_0 19 rfl rfl)
theorem dX8_breathes_20 : decode cX8_breathes 20 = .ok (.iload_n 1, 1) := dk_27 (dk_at dksX8_breathes_0 20 rfl rfl)
theorem dX8_breathes_21 : decode cX8_breathes 21 = .ok (.imul, 1) := dk_104 (dk_at dksX8_breathes_0 21 rfl rfl)
theorem dX8_breathes_22 : decode cX8_breathes 22 = .ok (.iconst 1, 1) := dk_4 (dk_at dksX8_breathes_0 22 rfl rfl)
theorem dX8_breathes_23 : decode cX8_breathes 23 = .ok (.iadd, 1) := dk_96 (dk_at dksX8_breathes_0 23 rfl rfl)
theorem dX8_breathes_24 : decode cX8_breathes 24 = .ok (.iaload, 1) := dk_46 (dk_at dksX8_breathes_1 0 rfl rfl)
theorem dX8_breathes_25 : decode cX8_breathes 25 = .ok (.iload_n 3, 1) := dk_29 (dk_at dksX8_breathes_1 1 rfl rfl)
theorem dX8_breathes_26 : decode cX8_breathes 26 = .ok (.invokevirtual 312, 3) := dk_182 1 56 (dk_at dksX8_breathes_1 2 rfl rfl)
theorem dX8_breathes_29 : decode cX8_breathes 29 = .ok (.aload_n 0, 1) := dk_42 (dk_at dksX8_breathes_1 5 rfl rfl)
theorem dX8_breathes_30 : decode cX8_breathes 30 = .ok (.getfield 271, 3) := dk_180 1 15 (dk_at dksX8_breathes_1 6 rfl rfl)
theorem dX8_breathes_33 : decode cX8_breathes 33 = .ok (.aload_n 0, 1) := dk_42 (dk_at dksX8_breathes_1 9 rfl rfl)
theorem dX8_breathes_34 : decode cX8_breathes 34 = .ok (.invokevirtual 319, 3) := dk_182 1 63 (dk_at dksX8_breathes_1 10 rfl rfl)
theorem dX8_breathes_37 : decode cX8_breathes 37 = .ok (.isub, 1) := dk_100 (dk_at dksX8_breathes_1 13 rfl rfl)
theorem dX8_breathes_38 : decode cX8_breathes 38 = .ok (.istore 4, 2) := dk_54 4 (dk_at dksX8_breathes_1 14 rfl rfl)
theorem dX8_breathes_40 : decode cX8_breathes 40 = .ok (.aload_n 0, 1) := dk_42 (dk_at dksX8_breathes_1 16 rfl rfl)
theorem dX8_breathes_41 : decode cX8_breathes 41 = .ok (.getfield 274, 3) := dk_180 1 18 (dk_at dksX8_breathes_1 17 rfl rfl)
theorem dX8_breathes_44 : decode cX8_breathes 44 = .ok (.aload_n 0, 1) := dk_42 (dk_at dksX8_breathes_1 20 rfl rfl)
theorem dX8_breathes_45 : decode cX8_breathes 45 = .ok (.invokevirtual 316, 3) := dk_182 1 60 (dk_at dksX8_breathes_1 21 rfl rfl)
theorem dX8_breathes_48 : decode cX8_breathes 48 = .ok (.iadd, 1) := dk_96 (dk_at dksX8_breathes_2 0 rfl rfl)
theorem dX8_breathes_49 : decode cX8_breathes 49 = .ok (.aload_n 0, 1) := dk_42 (dk_at dksX8_breathes_2 1 rfl rfl)
theorem dX8_breathes_50 : decode cX8_breathes 50 = .ok (.aload_n 0, 1) := dk_42 (dk_at dksX8_breathes_2 2 rfl rfl)
theorem dX8_breathes_51 : decode cX8_breathes 51 = .ok (.getfield 268, 3) := dk_180 1 12 (dk_at dksX8_breathes_2 3 rfl rfl)
theorem dX8_breathes_54 : decode cX8_breathes 54 = .ok (.iload_n 2, 1) := dk_28 (dk_at dksX8_breathes_2 6 rfl rfl)
theorem dX8_breathes_55 : decode cX8_breathes 55 = .ok (.invokevirtual 325, 3) := dk_182 1 69 (dk_at dksX8_breathes_2 7 rfl rfl)
theorem dX8_breathes_58 : decode cX8_breathes 58 = .ok (.iadd, 1) := dk_96 (dk_at dksX8_breathes_2 10 rfl rfl)
theorem dX8_breathes_59 : decode cX8_breathes 59 = .ok (.istore 5, 2) := dk_54 5 (dk_at dksX8_breathes_2 11 rfl rfl)
theorem dX8_breathes_61 : decode cX8_breathes 61 = .ok (.aload_n 0, 1) := dk_42 (dk_at dksX8_breathes_2 13 rfl rfl)
theorem dX8_breathes_62 : decode cX8_breathes 62 = .ok (.getfield 51, 3) := dk_180 0 51 (dk_at dksX8_breathes_2 14 rfl rfl)
theorem dX8_breathes_65 : decode cX8_breathes 65 = .ok (.iconst 4, 1) := dk_7 (dk_at dksX8_breathes_2 17 rfl rfl)
theorem dX8_breathes_66 : decode cX8_breathes 66 = .ok (.iload_n 1, 1) := dk_27 (dk_at dksX8_breathes_2 18 rfl rfl)
theorem dX8_breathes_67 : decode cX8_breathes 67 = .ok (.imul, 1) := dk_104 (dk_at dksX8_breathes_2 19 rfl rfl)
theorem dX8_breathes_68 : decode cX8_breathes 68 = .ok (.iload 4, 2) := dk_21 4 (dk_at dksX8_breathes_2 20 rfl rfl)
theorem dX8_breathes_70 : decode cX8_breathes 70 = .ok (.iastore, 1) := dk_79 (dk_at dksX8_breathes_2 22 rfl rfl)
theorem dX8_breathes_71 : decode cX8_breathes 71 = .ok (.aload_n 0, 1) := dk_42 (dk_at dksX8_breathes_2 23 rfl rfl)
theorem dX8_breathes_72 : decode cX8_breathes 72 = .ok (.getfield 51, 3) := dk_180 0 51 (dk_at dksX8_breathes_3 0 rfl rfl)
theorem dX8_breathes_75 : decode cX8_breathes 75 = .ok (.iconst 4, 1) := dk_7 (dk_at dksX8_breathes_3 3 rfl rfl)
theorem dX8_breathes_76 : decode cX8_breathes 76 = .ok (.iload_n 1, 1) := dk_27 (dk_at dksX8_breathes_3 4 rfl rfl)
theorem dX8_breathes_77 : decode cX8_breathes 77 = .ok (.imul, 1) := dk_104 (dk_at dksX8_breathes_3 5 rfl rfl)
theorem dX8_breathes_78 : decode cX8_breathes 78 = .ok (.iconst 1, 1) := dk_4 (dk_at dksX8_breathes_3 6 rfl rfl)
theorem dX8_breathes_79 : decode cX8_breathes 79 = .ok (.iadd, 1) := dk_96 (dk_at dksX8_breathes_3 7 rfl rfl)
theorem dX8_breathes_80 : decode cX8_breathes 80 = .ok (.iload 5, 2) := dk_21 5 (dk_at dksX8_breathes_3 8 rfl rfl)
theorem dX8_breathes_82 : decode cX8_breathes 82 = .ok (.iastore, 1) := dk_79 (dk_at dksX8_breathes_3 10 rfl rfl)
theorem dX8_breathes_83 : decode cX8_breathes 83 = .ok (.iload 5, 2) := dk_21 5 (dk_at dksX8_breathes_3 11 rfl rfl)
theorem dX8_breathes_85 : decode cX8_breathes 85 = .ok (.invokestatic 309, 3) := dk_184 1 53 (dk_at dksX8_breathes_3 13 rfl rfl)
theorem dX8_breathes_88 : decode cX8_breathes 88 = .ok (.ifCond .ne 9, 3) := dk_154 0 9 (dk_at dksX8_breathes_3 16 rfl rfl)
theorem dX8_breathes_91 : decode cX8_breathes 91 = .ok (.iload 4, 2) := dk_21 4 (dk_at dksX8_breathes_3 19 rfl rfl)
theorem dX8_breathes_93 : decode cX8_breathes 93 = .ok (.ifCond .le 4, 3) := dk_158 0 4 (dk_at dksX8_breathes_3 21 rfl rfl)
theorem dX8_breathes_96 : decode cX8_breathes 96 = .ok (.return_, 1) := dk_177 (dk_at dksX8_breathes_4 0 rfl rfl)
theorem dX8_breathes_97 : decode cX8_breathes 97 = .ok (.aload_n 0, 1) := dk_42 (dk_at dksX8_breathes_4 1 rfl rfl)
theorem dX8_breathes_98 : decode cX8_breathes 98 = .ok (.getfield 51, 3) := dk_180 0 51 (dk_at dksX8_breathes_4 2 rfl rfl)
theorem dX8_breathes_101 : decode cX8_breathes 101 = .ok (.iconst 4, 1) := dk_7 (dk_at dksX8_breathes_4 5 rfl rfl)
theorem dX8_breathes_102 : decode cX8_breathes 102 = .ok (.iload_n 1, 1) := dk_27 (dk_at dksX8_breathes_4 6 rfl rfl)
theorem dX8_breathes_103 : decode cX8_breathes 103 = .ok (.imul, 1) := dk_104 (dk_at dksX8_breathes_4 7 rfl rfl)
theorem dX8_breathes_104 : decode cX8_breathes 104 = .ok (.iconst 2, 1) := dk_5 (dk_at dksX8_breathes_4 8 rfl rfl)
theorem dX8_breathes_105 : decode cX8_breathes 105 = .ok (.iadd, 1) := dk_96 (dk_at dksX8_breathes_4 9 rfl rfl)
theorem dX8_breathes_106 : decode cX8_breathes 106 = .ok (.iconst 0, 1) := dk_3 (dk_at dksX8_breathes_4 10 rfl rfl)
theorem dX8_breathes_107 : decode cX8_breathes 107 = .ok (.iastore, 1) := dk_79 (dk_at dksX8_breathes_4 11 rfl rfl)
theorem dX8_breathes_108 : decode cX8_breathes 108 = .ok (.aload_n 0, 1) := dk_42 (dk_at dksX8_breathes_4 12 rfl rfl)
theorem dX8_breathes_109 : decode cX8_breathes 109 = .ok (.getfield 51, 3) := dk_180 0 51 (dk_at dksX8_breathes_4 13 rfl rfl)
theorem dX8_breathes_112 : decode cX8_breathes 112 = .ok (.iconst 4, 1) := dk_7 (dk_at dksX8_breathes_4 16 rfl rfl)
theorem dX8_breathes_113 : decode cX8_breathes 113 = .ok (.iload_n 1, 1) := dk_27 (dk_at dksX8_breathes_4 17 rfl rfl)
theorem dX8_breathes_114 : decode cX8_breathes 114 = .ok (.imul, 1) := dk_104 (dk_at dksX8_breathes_4 18 rfl rfl)
theorem dX8_breathes_115 : decode cX8_breathes 115 = .ok (.iconst 3, 1) := dk_6 (dk_at dksX8_breathes_4 19 rfl rfl)
theorem dX8_breathes_116 : decode cX8_breathes 116 = .ok (.iadd, 1) := dk_96 (dk_at dksX8_breathes_4 20 rfl rfl)
theorem dX8_breathes_117 : decode cX8_breathes 117 = .ok (.iload 5, 2) := dk_21 5 (dk_at dksX8_breathes_4 21 rfl rfl)
theorem dX8_breathes_119 : decode cX8_breathes 119 = .ok (.invokestatic 309, 3) := dk_184 1 53 (dk_at dksX8_breathes_5 0 rfl rfl)
theorem dX8_breathes_122 : decode cX8_breathes 122 = .ok (.ifCond .ne 18, 3) := dk_154 0 18 (dk_at dksX8_breathes_5 3 rfl rfl)
theorem dX8_breathes_125 : decode cX8_breathes 125 = .ok (.aload_n 0, 1) := dk_42 (dk_at dksX8_breathes_5 6 rfl rfl)
theorem dX8_breathes_126 : decode cX8_breathes 126 = .ok (.iload 5, 2) := dk_21 5 (dk_at dksX8_breathes_5 7 rfl rfl)
theorem dX8_breathes_128 : decode cX8_breathes 128 = .ok (.invokevirtual 283, 3) := dk_182 1 27 (dk_at dksX8_breathes_5 9 rfl rfl)
theorem dX8_breathes_131 : decode cX8_breathes 131 = .ok (.ifCond .eq 9, 3) := dk_153 0 9 (dk_at dksX8_breathes_5 12 rfl rfl)
theorem dX8_breathes_134 : decode cX8_breathes 134 = .ok (.iload_n 3, 1) := dk_29 (dk_at dksX8_breathes_5 15 rfl rfl)
theorem dX8_breathes_135 : decode cX8_breathes 135 = .ok (.iconst 1, 1) := dk_4 (dk_at dksX8_breathes_5 16 rfl rfl)
theorem dX8_breathes_136 : decode cX8_breathes 136 = .ok (.iadd, 1) := dk_96 (dk_at dksX8_breathes_5 17 rfl rfl)
theorem dX8_breathes_137 : decode cX8_breathes 137 = .ok (.goto 4, 3) := dk_167 0 4 (dk_at dksX8_breathes_5 18 rfl rfl)
theorem dX8_breathes_140 : decode cX8_breathes 140 = .ok (.iconst 0, 1) := dk_3 (dk_at dksX8_breathes_5 21 rfl rfl)
theorem dX8_breathes_141 : decode cX8_breathes 141 = .ok (.iastore, 1) := dk_79 (dk_at dksX8_breathes_5 22 rfl rfl)
theorem dX8_breathes_142 : decode cX8_breathes 142 = .ok (.return_, 1) := dk_177 (dk_at dksX8_breathes_5 23 rfl rfl)
abbrev cX8_odds : ByteArray := prog_18_method_91_code
def yX8_odds : MethodName := ⟨RX8, "odds", "(III)I"⟩
def dkwX8_odds_5 : List UInt8 := [182, 1, 119, 104, 172]
abbrev dktX8_odds_5 : List UInt8 := dkwX8_odds_5 ++ []
def dkwX8_odds_4 : List UInt8 := [160, 0, 12, 42, 27, 28, 182, 1, 128, 167, 0, 18, 42, 27, 16, 8, 182, 1, 119, 42, 28, 16, 8]
abbrev dktX8_odds_4 : List UInt8 := dkwX8_odds_4 ++ dktX8_odds_5
def dkwX8_odds_3 : List UInt8 := [182, 1, 125, 167, 0, 46, 29, 4, 160, 0, 12, 42, 28, 27, 182, 1, 125, 167, 0, 32, 29, 5]
abbrev dktX8_odds_3 : List UInt8 := dkwX8_odds_3 ++ dktX8_odds_4
def dkwX8_odds_2 : List UInt8 := [167, 0, 4, 3, 5, 182, 1, 9, 153, 0, 5, 3, 172, 42, 182, 1, 122, 29, 154, 0, 12, 42, 27, 28]
abbrev dktX8_odds_2 : List UInt8 := dkwX8_odds_2 ++ dktX8_odds_3
def dkwX8_odds_1 : List UInt8 := [167, 0, 4, 3, 4, 182, 1, 9, 154, 0, 25, 42, 29, 3, 6, 184, 0, 78, 154, 0, 7, 4]
abbrev dktX8_odds_1 : List UInt8 := dkwX8_odds_1 ++ dktX8_odds_2
def dkwX8_odds_0 : List UInt8 := [42, 3, 181, 0, 3, 42, 42, 27, 182, 1, 47, 154, 0, 11, 42, 28, 182, 1, 47, 153, 0, 7, 4]
abbrev dktX8_odds_0 : List UInt8 := dkwX8_odds_0 ++ dktX8_odds_1
theorem dksX8_odds_0 : cX8_odds.data.toList.drop 0 = dktX8_odds_0 := by decide +kernel
theorem dksX8_odds_1 : cX8_odds.data.toList.drop 23 = dktX8_odds_1 := dk_seg dksX8_odds_0 23 rfl rfl
theorem dksX8_odds_2 : cX8_odds.data.toList.drop 45 = dktX8_odds_2 := dk_seg dksX8_odds_1 22 rfl rfl
theorem dksX8_odds_3 : cX8_odds.data.toList.drop 69 = dktX8_odds_3 := dk_seg dksX8_odds_2 24 rfl rfl
theorem dksX8_odds_4 : cX8_odds.data.toList.drop 91 = dktX8_odds_4 := dk_seg dksX8_odds_3 22 rfl rfl
theorem dksX8_odds_5 : cX8_odds.data.toList.drop 114 = dktX8_odds_5 := dk_seg dksX8_odds_4 23 rfl rfl
theorem dX8_odds_0 : decode cX8_odds 0 = .ok (.aload_n 0, 1) := dk_42 (dk_at dksX8_odds_0 0 rfl rfl)
theorem dX8_odds_1 : decode cX8_odds 1 = .ok (.iconst 0, 1) := dk_3 (dk_at dksX8_odds_0 1 rfl rfl)
theorem dX8_odds_2 : decode cX8_odds 2 = .ok (.putfield 3, 3) := dk_181 0 3 (dk_at dksX8_odds_0 2 rfl rfl)
theorem dX8_odds_5 : decode cX8_odds 5 = .ok (.aload_n 0, 1) := dk_42 (dk_at dksX8_odds_0 5 rfl rfl)
theorem dX8_odds_6 : decode cX8_odds 6 = .ok (.aload_n 0, 1) := dk_42 (dk_at dksX8_odds_0 6 rfl rfl)
theorem dX8_odds_7 : decode cX8_odds 7 = .ok (.iload_n 1, 1) := dk_27 (dk_at dksX8_odds_0 7 rfl rfl)
theorem dX8_odds_8 : decode cX8_odds 8 = .ok (.invokevirtual 303, 3) := dk_182 1 47 (dk_at dksX8_odds_0 8 rfl rfl)
theorem dX8_odds_11 : decode cX8_odds 11 = .ok (.ifCond .ne 11, 3) := dk_154 0 11 (dk_at dksX8_odds_0 11 rfl rfl)
theorem dX8_odds_14 : decode cX8_odds 14 = .ok (.aload_n 0, 1) := dk_42 (dk_at dksX8_odds_0 14 rfl rfl)
theorem dX8_odds_15 : decode cX8_odds 15 = .ok (.iload_n 2, 1) := dk_28 (dk_at dksX8_odds_0 15 rfl rfl)
theorem dX8_odds_16 : decode cX8_odds 16 = .ok (.invokevirtual 303, 3) := dk_182 1 47 (dk_at dksX8_odds_0 16 rfl rfl)
theorem dX8_odds_19 : decode cX8_odds 19 = .ok (.ifCond .eq 7, 3) := dk_153 0 7 (dk_at dksX8_odds_0 19 rfl rfl)
theorem dX8_odds_22 : decode cX8_odds 22 = .ok (.iconst 1, 1) := dk_4 (dk_at dksX8_odds_0 22 rfl rfl)
theorem dX8_odds_23 : decode cX8_odds 23 = .ok (.goto 4, 3) := dk_167 0 4 (dk_at dksX8_odds_1 0 rfl rfl)
theorem dX8_odds_26 : decode cX8_odds 26 = .ok (.iconst 0, 1) := dk_3 (dk_at dksX8_odds_1 3 rfl rfl)
theorem dX8_odds_27 : decode cX8_odds 27 = .ok (.iconst 1, 1) := dk_4 (dk_at dksX8_odds_1 4 rfl rfl)
theorem dX8_odds_28 : decode cX8_odds 28 = .ok (.invokevirtual 265, 3) := dk_182 1 9 (dk_at dksX8_odds_1 5 rfl rfl)
theorem dX8_odds_31 : decode cX8_odds 31 = .ok (.ifCond .ne 25, 3) := dk_154 0 25 (dk_at dksX8_odds_1 8 rfl rfl)
theorem dX8_odds_34 : decode cX8_odds 34 = .ok (.aload_n 0, 1) := dk_42 (dk_at dksX8_odds_1 11 rfl rfl)
theorem dX8_odds_35 : decode cX8_odds 35 = .ok (.iload_n 3, 1) := dk_29 (dk_at dksX8_odds_1 12 rfl rfl)
theorem dX8_odds_36 : decode cX8_odds 36 = .ok (.iconst 0, 1) := dk_3 (dk_at dksX8_odds_1 13 rfl rfl)
theorem dX8_odds_37 : decode cX8_odds 37 = .ok (.iconst 3, 1) := dk_6 (dk_at dksX8_odds_1 14 rfl rfl)
theorem dX8_odds_38 : decode cX8_odds 38 = .ok (.invokestatic 78, 3) := dk_184 0 78 (dk_at dksX8_odds_1 15 rfl rfl)
theorem dX8_odds_41 : decode cX8_odds 41 = .ok (.ifCond .ne 7, 3) := dk_154 0 7 (dk_at dksX8_odds_1 18 rfl rfl)
theorem dX8_odds_44 : decode cX8_odds 44 = .ok (.iconst 1, 1) := dk_4 (dk_at dksX8_odds_1 21 rfl rfl)
theorem dX8_odds_45 : decode cX8_odds 45 = .ok (.goto 4, 3) := dk_167 0 4 (dk_at dksX8_odds_2 0 rfl rfl)
theorem dX8_odds_48 : decode cX8_odds 48 = .ok (.iconst 0, 1) := dk_3 (dk_at dksX8_odds_2 3 rfl rfl)
theorem dX8_odds_49 : decode cX8_odds 49 = .ok (.iconst 2, 1) := dk_5 (dk_at dksX8_odds_2 4 rfl rfl)
theorem dX8_odds_50 : decode cX8_odds 50 = .ok (.invokevirtual 265, 3) := dk_182 1 9 (dk_at dksX8_odds_2 5 rfl rfl)
theorem dX8_odds_53 : decode cX8_odds 53 = .ok (.ifCond .eq 5, 3) := dk_153 0 5 (dk_at dksX8_odds_2 8 rfl rfl)
theorem dX8_odds_56 : decode cX8_odds 56 = .ok (.iconst 0, 1) := dk_3 (dk_at dksX8_odds_2 11 rfl rfl)
theorem dX8_odds_57 : decode cX8_odds 57 = .ok (.ireturn, 1) := dk_172 (dk_at dksX8_odds_2 12 rfl rfl)
theorem dX8_odds_58 : decode cX8_odds 58 = .ok (.aload_n 0, 1) := dk_42 (dk_at dksX8_odds_2 13 rfl rfl)
theorem dX8_odds_59 : decode cX8_odds 59 = .ok (.invokevirtual 378, 3) := dk_182 1 122 (dk_at dksX8_odds_2 14 rfl rfl)
theorem dX8_odds_62 : decode cX8_odds 62 = .ok (.iload_n 3, 1) := dk_29 (dk_at dksX8_odds_2 17 rfl rfl)
theorem dX8_odds_63 : decode cX8_odds 63 = .ok (.ifCond .ne 12, 3) := dk_154 0 12 (dk_at dksX8_odds_2 18 rfl rfl)
theorem dX8_odds_66 : decode cX8_odds 66 = .ok (.aload_n 0, 1) := dk_42 (dk_at dksX8_odds_2 21 rfl rfl)
theorem dX8_odds_67 : decode cX8_odds 67 = .ok (.iload_n 1, 1) := dk_27 (dk_at dksX8_odds_2 22 rfl rfl)
theorem dX8_odds_68 : decode cX8_odds 68 = .ok (.iload_n 2, 1) := dk_28 (dk_at dksX8_odds_2 23 rfl rfl)
theorem dX8_odds_69 : decode cX8_odds 69 = .ok (.invokevirtual 381, 3) := dk_182 1 125 (dk_at dksX8_odds_3 0 rfl rfl)
theorem dX8_odds_72 : decode cX8_odds 72 = .ok (.goto 46, 3) := dk_167 0 46 (dk_at dksX8_odds_3 3 rfl rfl)
theorem dX8_odds_75 : decode cX8_odds 75 = .ok (.iload_n 3, 1) := dk_29 (dk_at dksX8_odds_3 6 rfl rfl)
theorem dX8_odds_76 : decode cX8_odds 76 = .ok (.iconst 1, 1) := dk_4 (dk_at dksX8_odds_3 7 rfl rfl)
theorem dX8_odds_77 : decode cX8_odds 77 = .ok (.if_icmp .ne 12, 3) := dk_160 0 12 (dk_at dksX8_odds_3 8 rfl rfl)
theorem dX8_odds_80 : decode cX8_odds 80 = .ok (.aload_n 0, 1) := dk_42 (dk_at dksX8_odds_3 11 rfl rfl)
theorem dX8_odds_81 : decode cX8_odds 81 = .ok (.iload_n 2, 1) := dk_28 (dk_at dksX8_odds_3 12 rfl rfl)
theorem dX8_odds_82 : decode cX8_odds 82 = .ok (.iload_n 1, 1) := dk_27 (dk_at dksX8_odds_3 13 rfl rfl)
theorem dX8_odds_83 : decode cX8_odds 83 = .ok (.invokevirtual 381, 3) := dk_182 1 125 (dk_at dksX8_odds_3 14 rfl rfl)
theorem dX8_odds_86 : decode cX8_odds 86 = .ok (.goto 32, 3) := dk_167 0 32 (dk_at dksX8_odds_3 17 rfl rfl)
theorem dX8_odds_89 : decode cX8_odds 89 = .ok (.iload_n 3, 1) := dk_29 (dk_at dksX8_odds_3 20 rfl rfl)
theorem dX8_odds_90 : decode cX8_odds 90 = .ok (.iconst 2, 1) := dk_5 (dk_at dksX8_odds_3 21 rfl rfl)
theorem dX8_odds_91 : decode cX8_odds 91 = .ok (.if_icmp .ne 12, 3) := dk_160 0 12 (dk_at dksX8_odds_4 0 rfl rfl)
theorem dX8_odds_94 : decode cX8_odds 94 = .ok (.aload_n 0, 1) := dk_42 (dk_at dksX8_odds_4 3 rfl rfl)
theorem dX8_odds_95 : decode cX8_odds 95 = .ok (.iload_n 1, 1) := dk_27 (dk_at dksX8_odds_4 4 rfl rfl)
theorem dX8_odds_96 : decode cX8_odds 96 = .ok (.iload_n 2, 1) := dk_28 (dk_at dksX8_odds_4 5 rfl rfl)
theorem dX8_odds_97 : decode cX8_odds 97 = .ok (.invokevirtual 384, 3) := dk_182 1 128 (dk_at dksX8_odds_4 6 rfl rfl)
theorem dX8_odds_100 : decode cX8_odds 100 = .ok (.goto 18, 3) := dk_167 0 18 (dk_at dksX8_odds_4 9 rfl rfl)
theorem dX8_odds_103 : decode cX8_odds 103 = .ok (.aload_n 0, 1) := dk_42 (dk_at dksX8_odds_4 12 rfl rfl)
theorem dX8_odds_104 : decode cX8_odds 104 = .ok (.iload_n 1, 1) := dk_27 (dk_at dksX8_odds_4 13 rfl rfl)
theorem dX8_odds_105 : decode cX8_odds 105 = .ok (.bipush 8, 2) := dk_16 8 (dk_at dksX8_odds_4 14 rfl rfl)
theorem dX8_odds_107 : decode cX8_odds 107 = .ok (.invokevirtual 375, 3) := dk_182 1 119 (dk_at dksX8_odds_4 16 rfl rfl)
theorem dX8_odds_110 : decode cX8_odds 110 = .ok (.aload_n 0, 1) := dk_42 (dk_at dksX8_odds_4 19 rfl rfl)
theorem dX8_odds_111 : decode cX8_odds 111 = .ok (.iload_n 2, 1) := dk_28 (dk_at dksX8_odds_4 20 rfl rfl)
theorem dX8_odds_112 : decode cX8_odds 112 = .ok (.bipush 8, 2) := dk_16 8 (dk_at dksX8_odds_4 21 rfl rfl)
theorem dX8_odds_114 : decode cX8_odds 114 = .ok (.invokevirtual 375, 3) := dk_182 1 119 (dk_at dksX8_odds_5 0 rfl rfl)
theorem dX8_odds_117 : decode cX8_odds 117 = .ok (.imul, 1) := dk_104 (dk_at dksX8_odds_5 3 rfl rfl)
theorem dX8_odds_118 : decode cX8_odds 118 = .ok (.ireturn, 1) := dk_172 (dk_at dksX8_odds_5 4 rfl rfl)
abbrev cX8_laysAllGoods : ByteArray := prog_18_method_86_code
def yX8_laysAllGoods : MethodName := ⟨RX8, "laysAllGoods", "()V"⟩
def dkwX8_laysAllGoods_0 : List UInt8 := [3, 60, 27, 42, 182, 0, 74, 162, 0, 14, 42, 27, 182, 1, 113, 132, 1, 1, 167, 255, 240, 177]
abbrev dktX8_laysAllGoods_0 : List UInt8 := dkwX8_laysAllGoods_0 ++ []
theorem dksX8_laysAllGoods_0 : cX8_laysAllGoods.data.toList.drop 0 = dktX8_laysAllGoods_0 := by decide +kernel
theorem dX8_laysAllGoods_0 : decode cX8_laysAllGoods 0 = .ok (.iconst 0, 1) := dk_3 (dk_at dksX8_laysAllGoods_0 0 rfl rfl)
theorem dX8_laysAllGoods_1 : decode cX8_laysAllGoods 1 = .ok (.istore_n 1, 1) := dk_60 (dk_at dksX8_laysAllGoods_0 1 rfl rfl)
theorem dX8_laysAllGoods_2 : decode cX8_laysAllGoods 2 = .ok (.iload_n 1, 1) := dk_27 (dk_at dksX8_laysAllGoods_0 2 rfl rfl)
theorem dX8_laysAllGoods_3 : decode cX8_laysAllGoods 3 = .ok (.aload_n 0, 1) := dk_42 (dk_at dksX8_laysAllGoods_0 3 rfl rfl)
theorem dX8_laysAllGoods_4 : decode cX8_laysAllGoods 4 = .ok (.invokevirtual 74, 3) := dk_182 0 74 (dk_at dksX8_laysAllGoods_0 4 rfl rfl)
theorem dX8_laysAllGoods_7 : decode cX8_laysAllGoods 7 = .ok (.if_icmp .ge 14, 3) := dk_162 0 14 (dk_at dksX8_laysAllGoods_0 7 rfl rfl)
theorem dX8_laysAllGoods_10 : decode cX8_laysAllGoods 10 = .ok (.aload_n 0, 1) := dk_42 (dk_at dksX8_laysAllGoods_0 10 rfl rfl)
theorem dX8_laysAllGoods_11 : decode cX8_laysAllGoods 11 = .ok (.iload_n 1, 1) := dk_27 (dk_at dksX8_laysAllGoods_0 11 rfl rfl)
theorem dX8_laysAllGoods_12 : decode cX8_laysAllGoods 12 = .ok (.invokevirtual 369, 3) := dk_182 1 113 (dk_at dksX8_laysAllGoods_0 12 rfl rfl)
theorem dX8_laysAllGoods_15 : decode cX8_laysAllGoods 15 = .ok (.iinc 1 1, 3) := dk_132 1 1 (dk_at dksX8_laysAllGoods_0 15 rfl rfl)
theorem dX8_laysAllGoods_18 : decode cX8_laysAllGoods 18 = .ok (.goto (-16), 3) := dk_167 255 240 (dk_at dksX8_laysAllGoods_0 18 rfl rfl)
theorem dX8_laysAllGoods_21 : decode cX8_laysAllGoods 21 = .ok (.return_, 1) := dk_177 (dk_at dksX8_laysAllGoods_0 21 rfl rfl)
abbrev cX8_laysGoods : ByteArray := prog_18_method_85_code
def yX8_laysGoods : MethodName := ⟨RX8, "laysGoods", "(I)V"⟩
def dkwX8_laysGoods_1 : List UInt8 := [28, 182, 1, 88, 79, 132, 2, 1, 167, 255, 231, 177]
abbrev dktX8_laysGoods_1 : List UInt8 := dkwX8_laysGoods_1 ++ []
def dkwX8_laysGoods_0 : List UInt8 := [42, 27, 182, 1, 91, 4, 61, 28, 16, 8, 163, 0, 25, 42, 180, 0, 57, 16, 9, 27, 104, 28, 96, 42]
abbrev dktX8_laysGoods_0 : List UInt8 := dkwX8_laysGoods_0 ++ dktX8_laysGoods_1
theorem dksX8_laysGoods_0 : cX8_laysGoods.data.toList.drop 0 = dktX8_laysGoods_0 := by decide +kernel
theorem dksX8_laysGoods_1 : cX8_laysGoods.data.toList.drop 24 = dktX8_laysGoods_1 := dk_seg dksX8_laysGoods_0 24 rfl rfl
theorem dX8_laysGoods_0 : decode cX8_laysGoods 0 = .ok (.aload_n 0, 1) := dk_42 (dk_at dksX8_laysGoods_0 0 rfl rfl)
theorem dX8_laysGoods_1 : decode cX8_laysGoods 1 = .ok (.iload_n 1, 1) := dk_27 (dk_at dksX8_laysGoods_0 1 rfl rfl)
theorem dX8_laysGoods_2 : decode cX8_laysGoods 2 = .ok (.invokevirtual 347, 3) := dk_182 1 91 (dk_at dksX8_laysGoods_0 2 rfl rfl)
theorem dX8_laysGoods_5 : decode cX8_laysGoods 5 = .ok (.iconst 1, 1) := dk_4 (dk_at dksX8_laysGoods_0 5 rfl rfl)
theorem dX8_laysGoods_6 : decode cX8_laysGoods 6 = .ok (.istore_n 2, 1) := dk_61 (dk_at dksX8_laysGoods_0 6 rfl rfl)
theorem dX8_laysGoods_7 : decode cX8_laysGoods 7 = .ok (.iload_n 2, 1) := dk_28 (dk_at dksX8_laysGoods_0 7 rfl rfl)
theorem dX8_laysGoods_8 : decode cX8_laysGoods 8 = .ok (.bipush 8, 2) := dk_16 8 (dk_at dksX8_laysGoods_0 8 rfl rfl)
theorem dX8_laysGoods_10 : decode cX8_laysGoods 10 = .ok (.if_icmp .gt 25, 3) := dk_163 0 25 (dk_at dksX8_laysGoods_0 10 rfl rfl)
theorem dX8_laysGoods_13 : decode cX8_laysGoods 13 = .ok (.aload_n 0, 1) := dk_42 (dk_at dksX8_laysGoods_0 13 rfl rfl)
theorem dX8_laysGoods_14 : decode cX8_laysGoods 14 = .ok (.getfield 57, 3) := dk_180 0 57 (dk_at dksX8_laysGoods_0 14 rfl rfl)
theorem dX8_laysGoods_17 : decode cX8_laysGoods 17 = .ok (.bipush 9, 2) := dk_16 9 (dk_at dksX8_laysGoods_0 17 rfl rfl)
theorem dX8_laysGoods_19 : decode cX8_laysGoods 19 = .ok (.iload_n 1, 1) := dk_27 (dk_at dksX8_laysGoods_0 19 rfl rfl)
theorem dX8_laysGoods_20 : decode cX8_laysGoods 20 = .ok (.imul, 1) := dk_104 (dk_at dksX8_laysGoods_0 20 rfl rfl)
theorem dX8_laysGoods_21 : decode cX8_laysGoods 21 = .ok (.iload_n 2, 1) := dk_28 (dk_at dksX8_laysGoods_0 21 rfl rfl)
theorem dX8_laysGoods_22 : decode cX8_laysGoods 22 = .ok (.iadd, 1) := dk_96 (dk_at dksX8_laysGoods_0 22 rfl rfl)
theorem dX8_laysGoods_23 : decode cX8_laysGoods 23 = .ok (.aload_n 0, 1) := dk_42 (dk_at dksX8_laysGoods_0 23 rfl rfl)
theorem dX8_laysGoods_24 : decode cX8_laysGoods 24 = .ok (.iload_n 2, 1) := dk_28 (dk_at dksX8_laysGoods_1 0 rfl rfl)
theorem dX8_laysGoods_25 : decode cX8_laysGoods 25 = .ok (.invokevirtual 344, 3) := dk_182 1 88 (dk_at dksX8_laysGoods_1 1 rfl rfl)
theorem dX8_laysGoods_28 : decode cX8_laysGoods 28 = .ok (.iastore, 1) := dk_79 (dk_at dksX8_laysGoods_1 4 rfl rfl)
theorem dX8_laysGoods_29 : decode cX8_laysGoods 29 = .ok (.iinc 2 1, 3) := dk_132 2 1 (dk_at dksX8_laysGoods_1 5 rfl rfl)
theorem dX8_laysGoods_32 : decode cX8_laysGoods 32 = .ok (.goto (-25), 3) := dk_167 255 231 (dk_at dksX8_laysGoods_1 8 rfl rfl)
theorem dX8_laysGoods_35 : decode cX8_laysGoods 35 = .ok (.return_, 1) := dk_177 (dk_at dksX8_laysGoods_1 11 rfl rfl)
abbrev cX8_firstHas : ByteArray := prog_18_method_89_code
def yX8_firstHas : MethodName := ⟨RX8, "firstHas", "(II)I"⟩
def dkwX8_firstHas_1 : List UInt8 := [182, 1, 119, 104, 96, 62, 132, 4, 1, 167, 255, 228, 29, 172]
abbrev dktX8_firstHas_1 : List UInt8 := dkwX8_firstHas_1 ++ []
def dkwX8_firstHas_0 : List UInt8 := [3, 62, 4, 54, 4, 21, 4, 16, 8, 163, 0, 27, 29, 42, 27, 21, 4, 182, 1, 116, 42, 28, 21, 4]
abbrev dktX8_firstHas_0 : List UInt8 := dkwX8_firstHas_0 ++ dktX8_firstHas_1
theorem dksX8_firstHas_0 : cX8_firstHas.data.toList.drop 0 = dktX8_firstHas_0 := by decide +kernel
theorem dksX8_firstHas_1 : cX8_firstHas.data.toList.drop 24 = dktX8_firstHas_1 := dk_seg dksX8_firstHas_0 24 rfl rfl
theorem dX8_firstHas_0 : decode cX8_firstHas 0 = .ok (.iconst 0, 1) := dk_3 (dk_at dksX8_firstHas_0 0 rfl rfl)
theorem dX8_firstHas_1 : decode cX8_firstHas 1 = .ok (.istore_n 3, 1) := dk_62 (dk_at dksX8_firstHas_0 1 rfl rfl)
theorem dX8_firstHas_2 : decode cX8_firstHas 2 = .ok (.iconst 1, 1) := dk_4 (dk_at dksX8_firstHas_0 2 rfl rfl)
theorem dX8_firstHas_3 : decode cX8_firstHas 3 = .ok (.istore 4, 2) := dk_54 4 (dk_at dksX8_firstHas_0 3 rfl rfl)
theorem dX8_firstHas_5 : decode cX8_firstHas 5 = .ok (.iload 4, 2) := dk_21 4 (dk_at dksX8_firstHas_0 5 rfl rfl)
theorem dX8_firstHas_7 : decode cX8_firstHas 7 = .ok (.bipush 8, 2) := dk_16 8 (dk_at dksX8_firstHas_0 7 rfl rfl)
theorem dX8_firstHas_9 : decode cX8_firstHas 9 = .ok (.if_icmp .gt 27, 3) := dk_163 0 27 (dk_at dksX8_firstHas_0 9 rfl rfl)
theorem dX8_firstHas_12 : decode cX8_firstHas 12 = .ok (.iload_n 3, 1) := dk_29 (dk_at dksX8_firstHas_0 12 rfl rfl)
theorem dX8_firstHas_13 : decode cX8_firstHas 13 = .ok (.aload_n 0, 1) := dk_42 (dk_at dksX8_firstHas_0 13 rfl rfl)
theorem dX8_firstHas_14 : decode cX8_firstHas 14 = .ok (.iload_n 1, 1) := dk_27 (dk_at dksX8_firstHas_0 14 rfl rfl)
theorem dX8_firstHas_15 : decode cX8_firstHas 15 = .ok (.iload 4, 2) := dk_21 4 (dk_at dksX8_firstHas_0 15 rfl rfl)
theorem dX8_firstHas_17 : decode cX8_firstHas 17 = .ok (.invokevirtual 372, 3) := dk_182 1 116 (dk_at dksX8_firstHas_0 17 rfl rfl)
theorem dX8_firstHas_20 : decode cX8_firstHas 20 = .ok (.aload_n 0, 1) := dk_42 (dk_at dksX8_firstHas_0 20 rfl rfl)
theorem dX8_firstHas_21 : decode cX8_firstHas 21 = .ok (.iload_n 2, 1) := dk_28 (dk_at dksX8_firstHas_0 21 rfl rfl)
theorem dX8_firstHas_22 : decode cX8_firstHas 22 = .ok (.iload 4, 2) := dk_21 4 (dk_at dksX8_firstHas_0 22 rfl rfl)
theorem dX8_firstHas_24 : decode cX8_firstHas 24 = .ok (.invokevirtual 375, 3) := dk_182 1 119 (dk_at dksX8_firstHas_1 0 rfl rfl)
theorem dX8_firstHas_27 : decode cX8_firstHas 27 = .ok (.imul, 1) := dk_104 (dk_at dksX8_firstHas_1 3 rfl rfl)
theorem dX8_firstHas_28 : decode cX8_firstHas 28 = .ok (.iadd, 1) := dk_96 (dk_at dksX8_firstHas_1 4 rfl rfl)
theorem dX8_firstHas_29 : decode cX8_firstHas 29 = .ok (.istore_n 3, 1) := dk_62 (dk_at dksX8_firstHas_1 5 rfl rfl)
theorem dX8_firstHas_30 : decode cX8_firstHas 30 = .ok (.iinc 4 1, 3) := dk_132 4 1 (dk_at dksX8_firstHas_1 6 rfl rfl)
theorem dX8_firstHas_33 : decode cX8_firstHas 33 = .ok (.goto (-28), 3) := dk_167 255 228 (dk_at dksX8_firstHas_1 9 rfl rfl)
theorem dX8_firstHas_36 : decode cX8_firstHas 36 = .ok (.iload_n 3, 1) := dk_29 (dk_at dksX8_firstHas_1 12 rfl rfl)
theorem dX8_firstHas_37 : decode cX8_firstHas 37 = .ok (.ireturn, 1) := dk_172 (dk_at dksX8_firstHas_1 13 rfl rfl)
abbrev cX8_goodOf : ByteArray := prog_18_method_87_code
def yX8_goodOf : MethodName := ⟨RX8, "goodOf", "(II)I"⟩
def dkwX8_goodOf_0 : List UInt8 := [42, 180, 0, 57, 16, 9, 27, 104, 28, 96, 46, 172]
abbrev dktX8_goodOf_0 : List UInt8 := dkwX8_goodOf_0 ++ []
theorem dksX8_goodOf_0 : cX8_goodOf.data.toList.drop 0 = dktX8_goodOf_0 := by decide +kernel
theorem dX8_goodOf_0 : decode cX8_goodOf 0 = .ok (.aload_n 0, 1) := dk_42 (dk_at dksX8_goodOf_0 0 rfl rfl)
theorem dX8_goodOf_1 : decode cX8_goodOf 1 = .ok (.getfield 57, 3) := dk_180 0 57 (dk_at dksX8_goodOf_0 1 rfl rfl)
theorem dX8_goodOf_4 : decode cX8_goodOf 4 = .ok (.bipush 9, 2) := dk_16 9 (dk_at dksX8_goodOf_0 4 rfl rfl)
theorem dX8_goodOf_6 : decode cX8_goodOf 6 = .ok (.iload_n 1, 1) := dk_27 (dk_at dksX8_goodOf_0 6 rfl rfl)
theorem dX8_goodOf_7 : decode cX8_goodOf 7 = .ok (.imul, 1) := dk_104 (dk_at dksX8_goodOf_0 7 rfl rfl)
theorem dX8_goodOf_8 : decode cX8_goodOf 8 = .ok (.iload_n 2, 1) := dk_28 (dk_at dksX8_goodOf_0 8 rfl rfl)
theorem dX8_goodOf_9 : decode cX8_goodOf 9 = .ok (.iadd, 1) := dk_96 (dk_at dksX8_goodOf_0 9 rfl rfl)
theorem dX8_goodOf_10 : decode cX8_goodOf 10 = .ok (.iaload, 1) := dk_46 (dk_at dksX8_goodOf_0 10 rfl rfl)
theorem dX8_goodOf_11 : decode cX8_goodOf 11 = .ok (.ireturn, 1) := dk_172 (dk_at dksX8_goodOf_0 11 rfl rfl)
abbrev cX8_notGood : ByteArray := prog_18_method_88_code
def yX8_notGood : MethodName := ⟨RX8, "notGood", "(II)I"⟩
def dkwX8_notGood_1 : List UInt8 := [132, 4, 1, 167, 255, 237, 29, 172]
abbrev dktX8_notGood_1 : List UInt8 := dkwX8_notGood_1 ++ []
def dkwX8_notGood_0 : List UInt8 := [17, 25, 161, 62, 4, 54, 4, 21, 4, 28, 163, 0, 19, 29, 42, 27, 21, 4, 182, 1, 116, 100, 62]
abbrev dktX8_notGood_0 : List UInt8 := dkwX8_notGood_0 ++ dktX8_notGood_1
theorem dksX8_notGood_0 : cX8_notGood.data.toList.drop 0 = dktX8_notGood_0 := by decide +kernel
theorem dksX8_notGood_1 : cX8_notGood.data.toList.drop 23 = dktX8_notGood_1 := dk_seg dksX8_notGood_0 23 rfl rfl
theorem dX8_notGood_0 : decode cX8_notGood 0 = .ok (.sipush 6561, 3) := dk_17 25 161 (dk_at dksX8_notGood_0 0 rfl rfl)
theorem dX8_notGood_3 : decode cX8_notGood 3 = .ok (.istore_n 3, 1) := dk_62 (dk_at dksX8_notGood_0 3 rfl rfl)
theorem dX8_notGood_4 : decode cX8_notGood 4 = .ok (.iconst 1, 1) := dk_4 (dk_at dksX8_notGood_0 4 rfl rfl)
theorem dX8_notGood_5 : decode cX8_notGood 5 = .ok (.istore 4, 2) := dk_54 4 (dk_at dksX8_notGood_0 5 rfl rfl)
theorem dX8_notGood_7 : decode cX8_notGood 7 = .ok (.iload 4, 2) := dk_21 4 (dk_at dksX8_notGood_0 7 rfl rfl)
theorem dX8_notGood_9 : decode cX8_notGood 9 = .ok (.iload_n 2, 1) := dk_28 (dk_at dksX8_notGood_0 9 rfl rfl)
theorem dX8_notGood_10 : decode cX8_notGood 10 = .ok (.if_icmp .gt 19, 3) := dk_163 0 19 (dk_at dksX8_notGood_0 10 rfl rfl)
theorem dX8_notGood_13 : decode cX8_notGood 13 = .ok (.iload_n 3, 1) := dk_29 (dk_at dksX8_notGood_0 13 rfl rfl)
theorem dX8_notGood_14 : decode cX8_notGood 14 = .ok (.aload_n 0, 1) := dk_42 (dk_at dksX8_notGood_0 14 rfl rfl)
theorem dX8_notGood_15 : decode cX8_notGood 15 = .ok (.iload_n 1, 1) := dk_27 (dk_at dksX8_notGood_0 15 rfl rfl)
theorem dX8_notGood_16 : decode cX8_notGood 16 = .ok (.iload 4, 2) := dk_21 4 (dk_at dksX8_notGood_0 16 rfl rfl)
theorem dX8_notGood_18 : decode cX8_notGood 18 = .ok (.invokevirtual 372, 3) := dk_182 1 116 (dk_at dksX8_notGood_0 18 rfl rfl)
theorem dX8_notGood_21 : decode cX8_notGood 21 = .ok (.isub, 1) := dk_100 (dk_at dksX8_notGood_0 21 rfl rfl)
theorem dX8_notGood_22 : decode cX8_notGood 22 = .ok (.istore_n 3, 1) := dk_62 (dk_at dksX8_notGood_0 22 rfl rfl)
theorem dX8_notGood_23 : decode cX8_notGood 23 = .ok (.iinc 4 1, 3) := dk_132 4 1 (dk_at dksX8_notGood_1 0 rfl rfl)
theorem dX8_notGood_26 : decode cX8_notGood 26 = .ok (.goto (-19), 3) := dk_167 255 237 (dk_at dksX8_notGood_1 3 rfl rfl)
theorem dX8_notGood_29 : decode cX8_notGood 29 = .ok (.iload_n 3, 1) := dk_29 (dk_at dksX8_notGood_1 6 rfl rfl)
theorem dX8_notGood_30 : decode cX8_notGood 30 = .ok (.ireturn, 1) := dk_172 (dk_at dksX8_notGood_1 7 rfl rfl)
abbrev cX8_bothHave : ByteArray := prog_18_method_90_code
def yX8_bothHave : MethodName := ⟨RX8, "bothHave", "(II)I"⟩
def dkwX8_bothHave_1 : List UInt8 := [182, 1, 116, 104, 96, 62, 132, 4, 1, 167, 255, 228, 29, 172]
abbrev dktX8_bothHave_1 : List UInt8 := dkwX8_bothHave_1 ++ []
def dkwX8_bothHave_0 : List UInt8 := [3, 62, 4, 54, 4, 21, 4, 16, 8, 163, 0, 27, 29, 42, 27, 21, 4, 182, 1, 116, 42, 28, 21, 4]
abbrev dktX8_bothHave_0 : List UInt8 := dkwX8_bothHave_0 ++ dktX8_bothHave_1
theorem dksX8_bothHave_0 : cX8_bothHave.data.toList.drop 0 = dktX8_bothHave_0 := by decide +kernel
theorem dksX8_bothHave_1 : cX8_bothHave.data.toList.drop 24 = dktX8_bothHave_1 := dk_seg dksX8_bothHave_0 24 rfl rfl
theorem dX8_bothHave_0 : decode cX8_bothHave 0 = .ok (.iconst 0, 1) := dk_3 (dk_at dksX8_bothHave_0 0 rfl rfl)
theorem dX8_bothHave_1 : decode cX8_bothHave 1 = .ok (.istore_n 3, 1) := dk_62 (dk_at dksX8_bothHave_0 1 rfl rfl)
theorem dX8_bothHave_2 : decode cX8_bothHave 2 = .ok (.iconst 1, 1) := dk_4 (dk_at dksX8_bothHave_0 2 rfl rfl)
theorem dX8_bothHave_3 : decode cX8_bothHave 3 = .ok (.istore 4, 2) := dk_54 4 (dk_at dksX8_bothHave_0 3 rfl rfl)
theorem dX8_bothHave_5 : decode cX8_bothHave 5 = .ok (.iload 4, 2) := dk_21 4 (dk_at dksX8_bothHave_0 5 rfl rfl)
theorem dX8_bothHave_7 : decode cX8_bothHave 7 = .ok (.bipush 8, 2) := dk_16 8 (dk_at dksX8_bothHave_0 7 rfl rfl)
theorem dX8_bothHave_9 : decode cX8_bothHave 9 = .ok (.if_icmp .gt 27, 3) := dk_163 0 27 (dk_at dksX8_bothHave_0 9 rfl rfl)
theorem dX8_bothHave_12 : decode cX8_bothHave 12 = .ok (.iload_n 3, 1) := dk_29 (dk_at dksX8_bothHave_0 12 rfl rfl)
theorem dX8_bothHave_13 : decode cX8_bothHave 13 = .ok (.aload_n 0, 1) := dk_42 (dk_at dksX8_bothHave_0 13 rfl rfl)
theorem dX8_bothHave_14 : decode cX8_bothHave 14 = .ok (.iload_n 1, 1) := dk_27 (dk_at dksX8_bothHave_0 14 rfl rfl)
theorem dX8_bothHave_15 : decode cX8_bothHave 15 = .ok (.iload 4, 2) := dk_21 4 (dk_at dksX8_bothHave_0 15 rfl rfl)
theorem dX8_bothHave_17 : decode cX8_bothHave 17 = .ok (.invokevirtual 372, 3) := dk_182 1 116 (dk_at dksX8_bothHave_0 17 rfl rfl)
theorem dX8_bothHave_20 : decode cX8_bothHave 20 = .ok (.aload_n 0, 1) := dk_42 (dk_at dksX8_bothHave_0 20 rfl rfl)
theorem dX8_bothHave_21 : decode cX8_bothHave 21 = .ok (.iload_n 2, 1) := dk_28 (dk_at dksX8_bothHave_0 21 rfl rfl)
theorem dX8_bothHave_22 : decode cX8_bothHave 22 = .ok (.iload 4, 2) := dk_21 4 (dk_at dksX8_bothHave_0 22 rfl rfl)
theorem dX8_bothHave_24 : decode cX8_bothHave 24 = .ok (.invokevirtual 372, 3) := dk_182 1 116 (dk_at dksX8_bothHave_1 0 rfl rfl)
theorem dX8_bothHave_27 : decode cX8_bothHave 27 = .ok (.imul, 1) := dk_104 (dk_at dksX8_bothHave_1 3 rfl rfl)
theorem dX8_bothHave_28 : decode cX8_bothHave 28 = .ok (.iadd, 1) := dk_96 (dk_at dksX8_bothHave_1 4 rfl rfl)
theorem dX8_bothHave_29 : decode cX8_bothHave 29 = .ok (.istore_n 3, 1) := dk_62 (dk_at dksX8_bothHave_1 5 rfl rfl)
theorem dX8_bothHave_30 : decode cX8_bothHave 30 = .ok (.iinc 4 1, 3) := dk_132 4 1 (dk_at dksX8_bothHave_1 6 rfl rfl)
theorem dX8_bothHave_33 : decode cX8_bothHave 33 = .ok (.goto (-28), 3) := dk_167 255 228 (dk_at dksX8_bothHave_1 9 rfl rfl)
theorem dX8_bothHave_36 : decode cX8_bothHave 36 = .ok (.iload_n 3, 1) := dk_29 (dk_at dksX8_bothHave_1 12 rfl rfl)
theorem dX8_bothHave_37 : decode cX8_bothHave 37 = .ok (.ireturn, 1) := dk_172 (dk_at dksX8_bothHave_1 13 rfl rfl)
abbrev cX8_best : ByteArray := prog_18_method_92_code
def yX8_best : MethodName := ⟨RX8, "best", "(II)I"⟩
def dkwX8_best_3 : List UInt8 := [132, 4, 1, 167, 255, 212, 29, 172]
abbrev dktX8_best_3 : List UInt8 := dkwX8_best_3 ++ []
def dkwX8_best_2 : List UInt8 := [155, 0, 19, 42, 21, 4, 27, 182, 1, 125, 42, 29, 27, 182, 1, 125, 164, 0, 6, 21, 4, 62]
abbrev dktX8_best_2 : List UInt8 := dkwX8_best_2 ++ dktX8_best_3
def dkwX8_best_1 : List UInt8 := [2, 62, 3, 54, 4, 21, 4, 42, 182, 0, 74, 162, 0, 41, 28, 21, 4, 184, 0, 127, 153, 0, 26, 29]
abbrev dktX8_best_1 : List UInt8 := dkwX8_best_1 ++ dktX8_best_2
def dkwX8_best_0 : List UInt8 := [42, 3, 181, 0, 3, 42, 42, 27, 182, 1, 47, 4, 182, 1, 9, 153, 0, 5, 3, 172, 42, 182, 1, 122]
abbrev dktX8_best_0 : List UInt8 := dkwX8_best_0 ++ dktX8_best_1
theorem dksX8_best_0 : cX8_best.data.toList.drop 0 = dktX8_best_0 := by decide +kernel
theorem dksX8_best_1 : cX8_best.data.toList.drop 24 = dktX8_best_1 := dk_seg dksX8_best_0 24 rfl rfl
theorem dksX8_best_2 : cX8_best.data.toList.drop 48 = dktX8_best_2 := dk_seg dksX8_best_1 24 rfl rfl
theorem dksX8_best_3 : cX8_best.data.toList.drop 70 = dktX8_best_3 := dk_seg dksX8_best_2 22 rfl rfl
theorem dX8_best_0 : decode cX8_best 0 = .ok (.aload_n 0, 1) := dk_42 (dk_at dksX8_best_0 0 rfl rfl)
theorem dX8_best_1 : decode cX8_best 1 = .ok (.iconst 0, 1) := dk_3 (dk_at dksX8_best_0 1 rfl rfl)
theorem dX8_best_2 : decode cX8_best 2 = .ok (.putfield 3, 3) := dk_181 0 3 (dk_at dksX8_best_0 2 rfl rfl)
theorem dX8_best_5 : decode cX8_best 5 = .ok (.aload_n 0, 1) := dk_42 (dk_at dksX8_best_0 5 rfl rfl)
theorem dX8_best_6 : decode cX8_best 6 = .ok (.aload_n 0, 1) := dk_42 (dk_at dksX8_best_0 6 rfl rfl)
theorem dX8_best_7 : decode cX8_best 7 = .ok (.iload_n 1, 1) := dk_27 (dk_at dksX8_best_0 7 rfl rfl)
theorem dX8_best_8 : decode cX8_best 8 = .ok (.invokevirtual 303, 3) := dk_182 1 47 (dk_at dksX8_best_0 8 rfl rfl)
theorem dX8_best_11 : decode cX8_best 11 = .ok (.iconst 1, 1) := dk_4 (dk_at dksX8_best_0 11 rfl rfl)
theorem dX8_best_12 : decode cX8_best 12 = .ok (.invokevirtual 265, 3) := dk_182 1 9 (dk_at dksX8_best_0 12 rfl rfl)
theorem dX8_best_15 : decode cX8_best 15 = .ok (.ifCond .eq 5, 3) := dk_153 0 5 (dk_at dksX8_best_0 15 rfl rfl)
theorem dX8_best_18 : decode cX8_best 18 = .ok (.iconst 0, 1) := dk_3 (dk_at dksX8_best_0 18 rfl rfl)
theorem dX8_best_19 : decode cX8_best 19 = .ok (.ireturn, 1) := dk_172 (dk_at dksX8_best_0 19 rfl rfl)
theorem dX8_best_20 : decode cX8_best 20 = .ok (.aload_n 0, 1) := dk_42 (dk_at dksX8_best_0 20 rfl rfl)
theorem dX8_best_21 : decode cX8_best 21 = .ok (.invokevirtual 378, 3) := dk_182 1 122 (dk_at dksX8_best_0 21 rfl rfl)
theorem dX8_best_24 : decode cX8_best 24 = .ok (.iconst (-1), 1) := dk_2 (dk_at dksX8_best_1 0 rfl rfl)
theorem dX8_best_25 : decode cX8_best 25 = .ok (.istore_n 3, 1) := dk_62 (dk_at dksX8_best_1 1 rfl rfl)
theorem dX8_best_26 : decode cX8_best 26 = .ok (.iconst 0, 1) := dk_3 (dk_at dksX8_best_1 2 rfl rfl)
theorem dX8_best_27 : decode cX8_best 27 = .ok (.istore 4, 2) := dk_54 4 (dk_at dksX8_best_1 3 rfl rfl)
theorem dX8_best_29 : decode cX8_best 29 = .ok (.iload 4, 2) := dk_21 4 (dk_at dksX8_best_1 5 rfl rfl)
theorem dX8_best_31 : decode cX8_best 31 = .ok (.aload_n 0, 1) := dk_42 (dk_at dksX8_best_1 7 rfl rfl)
theorem dX8_best_32 : decode cX8_best 32 = .ok (.invokevirtual 74, 3) := dk_182 0 74 (dk_at dksX8_best_1 8 rfl rfl)
theorem dX8_best_35 : decode cX8_best 35 = .ok (.if_icmp .ge 41, 3) := dk_162 0 41 (dk_at dksX8_best_1 11 rfl rfl)
theorem dX8_best_38 : decode cX8_best 38 = .ok (.iload_n 2, 1) := dk_28 (dk_at dksX8_best_1 14 rfl rfl)
theorem dX8_best_39 : decode cX8_best 39 = .ok (.iload 4, 2) := dk_21 4 (dk_at dksX8_best_1 15 rfl rfl)
theorem dX8_best_41 : decode cX8_best 41 = .ok (.invokestatic 127, 3) := dk_184 0 127 (dk_at dksX8_best_1 17 rfl rfl)
theorem dX8_best_44 : decode cX8_best 44 = .ok (.ifCond .eq 26, 3) := dk_153 0 26 (dk_at dksX8_best_1 20 rfl rfl)
theorem dX8_best_47 : decode cX8_best 47 = .ok (.iload_n 3, 1) := dk_29 (dk_at dksX8_best_1 23 rfl rfl)
theorem dX8_best_48 : decode cX8_best 48 = .ok (.ifCond .lt 19, 3) := dk_155 0 19 (dk_at dksX8_best_2 0 rfl rfl)
theorem dX8_best_51 : decode cX8_best 51 = .ok (.aload_n 0, 1) := dk_42 (dk_at dksX8_best_2 3 rfl rfl)
theorem dX8_best_52 : decode cX8_best 52 = .ok (.iload 4, 2) := dk_21 4 (dk_at dksX8_best_2 4 rfl rfl)
theorem dX8_best_54 : decode cX8_best 54 = .ok (.iload_n 1, 1) := dk_27 (dk_at dksX8_best_2 6 rfl rfl)
theorem dX8_best_55 : decode cX8_best 55 = .ok (.invokevirtual 381, 3) := dk_182 1 125 (dk_at dksX8_best_2 7 rfl rfl)
theorem dX8_best_58 : decode cX8_best 58 = .ok (.aload_n 0, 1) := dk_42 (dk_at dksX8_best_2 10 rfl rfl)
theorem dX8_best_59 : decode cX8_best 59 = .ok (.iload_n 3, 1) := dk_29 (dk_at dksX8_best_2 11 rfl rfl)
theorem dX8_best_60 : decode cX8_best 60 = .ok (.iload_n 1, 1) := dk_27 (dk_at dksX8_best_2 12 rfl rfl)
theorem dX8_best_61 : decode cX8_best 61 = .ok (.invokevirtual 381, 3) := dk_182 1 125 (dk_at dksX8_best_2 13 rfl rfl)
theorem dX8_best_64 : decode cX8_best 64 = .ok (.if_icmp .le 6, 3) := dk_164 0 6 (dk_at dksX8_best_2 16 rfl rfl)
theorem dX8_best_67 : decode cX8_best 67 = .ok (.iload 4, 2) := dk_21 4 (dk_at dksX8_best_2 19 rfl rfl)
theorem dX8_best_69 : decode cX8_best 69 = .ok (.istore_n 3, 1) := dk_62 (dk_at dksX8_best_2 21 rfl rfl)
theorem dX8_best_70 : decode cX8_best 70 = .ok (.iinc 4 1, 3) := dk_132 4 1 (dk_at dksX8_best_3 0 rfl rfl)
theorem dX8_best_73 : decode cX8_best 73 = .ok (.goto (-44), 3) := dk_167 255 212 (dk_at dksX8_best_3 3 rfl rfl)
theorem dX8_best_76 : decode cX8_best 76 = .ok (.iload_n 3, 1) := dk_29 (dk_at dksX8_best_3 6 rfl rfl)
theorem dX8_best_77 : decode cX8_best 77 = .ok (.ireturn, 1) := dk_172 (dk_at dksX8_best_3 7 rfl rfl)
abbrev cX8_when : ByteArray := prog_18_method_93_code
def yX8_when : MethodName := ⟨RX8, "when", "(II)I"⟩
def dkwX8_when_5 : List UInt8 := [42, 180, 0, 13, 16, 6, 29, 79, 21, 4, 172]
abbrev dktX8_when_5 : List UInt8 := dkwX8_when_5 ++ []
def dkwX8_when_4 : List UInt8 := [21, 6, 167, 0, 5, 21, 4, 54, 4, 21, 5, 21, 7, 184, 1, 44, 54, 5, 132, 6, 1, 167, 255, 194]
abbrev dktX8_when_4 : List UInt8 := dkwX8_when_4 ++ dktX8_when_5
def dkwX8_when_3 : List UInt8 := [182, 1, 113, 42, 28, 182, 1, 113, 42, 27, 28, 182, 1, 125, 54, 7, 21, 7, 21, 5, 164, 0, 8]
abbrev dktX8_when_3 : List UInt8 := dkwX8_when_3 ++ dktX8_when_4
def dkwX8_when_2 : List UInt8 := [2, 54, 5, 3, 54, 6, 21, 6, 16, 24, 162, 0, 61, 42, 180, 0, 13, 16, 6, 21, 6, 79, 42, 27]
abbrev dktX8_when_2 : List UInt8 := dkwX8_when_2 ++ dktX8_when_3
def dkwX8_when_1 : List UInt8 := [167, 0, 4, 3, 4, 182, 1, 9, 153, 0, 5, 3, 172, 42, 180, 0, 13, 16, 6, 46, 62, 3, 54, 4]
abbrev dktX8_when_1 : List UInt8 := dkwX8_when_1 ++ dktX8_when_2
def dkwX8_when_0 : List UInt8 := [42, 3, 181, 0, 3, 42, 42, 27, 182, 1, 47, 154, 0, 11, 42, 28, 182, 1, 47, 153, 0, 7, 4]
abbrev dktX8_when_0 : List UInt8 := dkwX8_when_0 ++ dktX8_when_1
theorem dksX8_when_0 : cX8_when.data.toList.drop 0 = dktX8_when_0 := by decide +kernel
theorem dksX8_when_1 : cX8_when.data.toList.drop 23 = dktX8_when_1 := dk_seg dksX8_when_0 23 rfl rfl
theorem dksX8_when_2 : cX8_when.data.toList.drop 47 = dktX8_when_2 := dk_seg dksX8_when_1 24 rfl rfl
theorem dksX8_when_3 : cX8_when.data.toList.drop 71 = dktX8_when_3 := dk_seg dksX8_when_2 24 rfl rfl
theorem dksX8_when_4 : cX8_when.data.toList.drop 94 = dktX8_when_4 := dk_seg dksX8_when_3 23 rfl rfl
theorem dksX8_when_5 : cX8_when.data.toList.drop 118 = dktX8_when_5 := dk_seg dksX8_when_4 24 rfl rfl
theorem dX8_when_0 : decode cX8_when 0 = .ok (.aload_n 0, 1) := dk_42 (dk_at dksX8_when_0 0 rfl rfl)
theorem dX8_when_1 : decode cX8_when 1 = .ok (.iconst 0, 1) := dk_3 (dk_at dksX8_when_0 1 rfl rfl)
theorem dX8_when_2 : decode cX8_when 2 = .ok (.putfield 3, 3) := dk_181 0 3 (dk_at dksX8_when_0 2 rfl rfl)
theorem dX8_when_5 : decode cX8_when 5 = .ok (.aload_n 0, 1) := dk_42 (dk_at dksX8_when_0 5 rfl rfl)
theorem dX8_when_6 : decode cX8_when 6 = .ok (.aload_n 0, 1) := dk_42 (dk_at dksX8_when_0 6 rfl rfl)
theorem dX8_when_7 : decode cX8_when 7 = .ok (.iload_n 1, 1) := dk_27 (dk_at dksX8_when_0 7 rfl rfl)
theorem dX8_when_8 : decode cX8_when 8 = .ok (.invokevirtual 303, 3) := dk_182 1 47 (dk_at dksX8_when_0 8 rfl rfl)
theorem dX8_when_11 : decode cX8_when 11 = .ok (.ifCond .ne 11, 3) := dk_154 0 11 (dk_at dksX8_when_0 11 rfl rfl)
theorem dX8_when_14 : decode cX8_when 14 = .ok (.aload_n 0, 1) := dk_42 (dk_at dksX8_when_0 14 rfl rfl)
theorem dX8_when_15 : decode cX8_when 15 = .ok (.iload_n 2, 1) := dk_28 (dk_at dksX8_when_0 15 rfl rfl)
theorem dX8_when_16 : decode cX8_when 16 = .ok (.invokevirtual 303, 3) := dk_182 1 47 (dk_at dksX8_when_0 16 rfl rfl)
theorem dX8_when_19 : decode cX8_when 19 = .ok (.ifCond .eq 7, 3) := dk_153 0 7 (dk_at dksX8_when_0 19 rfl rfl)
theorem dX8_when_22 : decode cX8_when 22 = .ok (.iconst 1, 1) := dk_4 (dk_at dksX8_when_0 22 rfl rfl)
theorem dX8_when_23 : decode cX8_when 23 = .ok (.goto 4, 3) := dk_167 0 4 (dk_at dksX8_when_1 0 rfl rfl)
theorem dX8_when_26 : decode cX8_when 26 = .ok (.iconst 0, 1) := dk_3 (dk_at dksX8_when_1 3 rfl rfl)
theorem dX8_when_27 : decode cX8_when 27 = .ok (.iconst 1, 1) := dk_4 (dk_at dksX8_when_1 4 rfl rfl)
theorem dX8_when_28 : decode cX8_when 28 = .ok (.invokevirtual 265, 3) := dk_182 1 9 (dk_at dksX8_when_1 5 rfl rfl)
theorem dX8_when_31 : decode cX8_when 31 = .ok (.ifCond .eq 5, 3) := dk_153 0 5 (dk_at dksX8_when_1 8 rfl rfl)
theorem dX8_when_34 : decode cX8_when 34 = .ok (.iconst 0, 1) := dk_3 (dk_at dksX8_when_1 11 rfl rfl)
theorem dX8_when_35 : decode cX8_when 35 = .ok (.ireturn, 1) := dk_172 (dk_at dksX8_when_1 12 rfl rfl)
theorem dX8_when_36 : decode cX8_when 36 = .ok (.aload_n 0, 1) := dk_42 (dk_at dksX8_when_1 13 rfl rfl)
theorem dX8_when_37 : decode cX8_when 37 = .ok (.getfield 13, 3) := dk_180 0 13 (dk_at dksX8_when_1 14 rfl rfl)
theorem dX8_when_40 : decode cX8_when 40 = .ok (.bipush 6, 2) := dk_16 6 (dk_at dksX8_when_1 17 rfl rfl)
theorem dX8_when_42 : decode cX8_when 42 = .ok (.iaload, 1) := dk_46 (dk_at dksX8_when_1 19 rfl rfl)
theorem dX8_when_43 : decode cX8_when 43 = .ok (.istore_n 3, 1) := dk_62 (dk_at dksX8_when_1 20 rfl rfl)
theorem dX8_when_44 : decode cX8_when 44 = .ok (.iconst 0, 1) := dk_3 (dk_at dksX8_when_1 21 rfl rfl)
theorem dX8_when_45 : decode cX8_when 45 = .ok (.istore 4, 2) := dk_54 4 (dk_at dksX8_when_1 22 rfl rfl)
theorem dX8_when_47 : decode cX8_when 47 = .ok (.iconst (-1), 1) := dk_2 (dk_at dksX8_when_2 0 rfl rfl)
theorem dX8_when_48 : decode cX8_when 48 = .ok (.istore 5, 2) := dk_54 5 (dk_at dksX8_when_2 1 rfl rfl)
theorem dX8_when_50 : decode cX8_when 50 = .ok (.iconst 0, 1) := dk_3 (dk_at dksX8_when_2 3 rfl rfl)
theorem dX8_when_51 : decode cX8_when 51 = .ok (.istore 6, 2) := dk_54 6 (dk_at dksX8_when_2 4 rfl rfl)
theorem dX8_when_53 : decode cX8_when 53 = .ok (.iload 6, 2) := dk_21 6 (dk_at dksX8_when_2 6 rfl rfl)
theorem dX8_when_55 : decode cX8_when 55 = .ok (.bipush 24, 2) := dk_16 24 (dk_at dksX8_when_2 8 rfl rfl)
theorem dX8_when_57 : decode cX8_when 57 = .ok (.if_icmp .ge 61, 3) := dk_162 0 61 (dk_at dksX8_when_2 10 rfl rfl)
theorem dX8_when_60 : decode cX8_when 60 = .ok (.aload_n 0, 1) := dk_42 (dk_at dksX8_when_2 13 rfl rfl)
theorem dX8_when_61 : decode cX8_when 61 = .ok (.getfield 13, 3) := dk_180 0 13 (dk_at dksX8_when_2 14 rfl rfl)
theorem dX8_when_64 : decode cX8_when 64 = .ok (.bipush 6, 2) := dk_16 6 (dk_at dksX8_when_2 17 rfl rfl)
theorem dX8_when_66 : decode cX8_when 66 = .ok (.iload 6, 2) := dk_21 6 (dk_at dksX8_when_2 19 rfl rfl)
theorem dX8_when_68 : decode cX8_when 68 = .ok (.iastore, 1) := dk_79 (dk_at dksX8_when_2 21 rfl rfl)
theorem dX8_when_69 : decode cX8_when 69 = .ok (.aload_n 0, 1) := dk_42 (dk_at dksX8_when_2 22 rfl rfl)
theorem dX8_when_70 : decode cX8_when 70 = .ok (.iload_n 1, 1) := dk_27 (dk_at dksX8_when_2 23 rfl rfl)
theorem dX8_when_71 : decode cX8_when 71 = .ok (.invokevirtual 369, 3) := dk_182 1 113 (dk_at dksX8_when_3 0 rfl rfl)
theorem dX8_when_74 : decode cX8_when 74 = .ok (.aload_n 0, 1) := dk_42 (dk_at dksX8_when_3 3 rfl rfl)
theorem dX8_when_75 : decode cX8_when 75 = .ok (.iload_n 2, 1) := dk_28 (dk_at dksX8_when_3 4 rfl rfl)
theorem dX8_when_76 : decode cX8_when 76 = .ok (.invokevirtual 369, 3) := dk_182 1 113 (dk_at dksX8_when_3 5 rfl rfl)
theorem dX8_when_79 : decode cX8_when 79 = .ok (.aload_n 0, 1) := dk_42 (dk_at dksX8_when_3 8 rfl rfl)
theorem dX8_when_80 : decode cX8_when 80 = .ok (.iload_n 1, 1) := dk_27 (dk_at dksX8_when_3 9 rfl rfl)
theorem dX8_when_81 : decode cX8_when 81 = .ok (.iload_n 2, 1) := dk_28 (dk_at dksX8_when_3 10 rfl rfl)
theorem dX8_when_82 : decode cX8_when 82 = .ok (.invokevirtual 381, 3) := dk_182 1 125 (dk_at dksX8_when_3 11 rfl rfl)
theorem dX8_when_85 : decode cX8_when 85 = .ok (.istore 7, 2) := dk_54 7 (dk_at dksX8_when_3 14 rfl rfl)
theorem dX8_when_87 : decode cX8_when 87 = .ok (.iload 7, 2) := dk_21 7 (dk_at dksX8_when_3 16 rfl rfl)
theorem dX8_when_89 : decode cX8_when 89 = .ok (.iload 5, 2) := dk_21 5 (dk_at dksX8_when_3 18 rfl rfl)
theorem dX8_when_91 : decode cX8_when 91 = .ok (.if_icmp .le 8, 3) := dk_164 0 8 (dk_at dksX8_when_3 20 rfl rfl)
theorem dX8_when_94 : decode cX8_when 94 = .ok (.iload 6, 2) := dk_21 6 (dk_at dksX8_when_4 0 rfl rfl)
theorem dX8_when_96 : decode cX8_when 96 = .ok (.goto 5, 3) := dk_167 0 5 (dk_at dksX8_when_4 2 rfl rfl)
theorem dX8_when_99 : decode cX8_when 99 = .ok (.iload 4, 2) := dk_21 4 (dk_at dksX8_when_4 5 rfl rfl)
theorem dX8_when_101 : decode cX8_when 101 = .ok (.istore 4, 2) := dk_54 4 (dk_at dksX8_when_4 7 rfl rfl)
theorem dX8_when_103 : decode cX8_when 103 = .ok (.iload 5, 2) := dk_21 5 (dk_at dksX8_when_4 9 rfl rfl)
theorem dX8_when_105 : decode cX8_when 105 = .ok (.iload 7, 2) := dk_21 7 (dk_at dksX8_when_4 11 rfl rfl)
theorem dX8_when_107 : decode cX8_when 107 = .ok (.invokestatic 300, 3) := dk_184 1 44 (dk_at dksX8_when_4 13 rfl rfl)
theorem dX8_when_110 : decode cX8_when 110 = .ok (.istore 5, 2) := dk_54 5 (dk_at dksX8_when_4 16 rfl rfl)
theorem dX8_when_112 : decode cX8_when 112 = .ok (.iinc 6 1, 3) := dk_132 6 1 (dk_at dksX8_when_4 18 rfl rfl)
theorem dX8_when_115 : decode cX8_when 115 = .ok (.goto (-62), 3) := dk_167 255 194 (dk_at dksX8_when_4 21 rfl rfl)
theorem dX8_when_118 : decode cX8_when 118 = .ok (.aload_n 0, 1) := dk_42 (dk_at dksX8_when_5 0 rfl rfl)
theorem dX8_when_119 : decode cX8_when 119 = .ok (.getfield 13, 3) := dk_180 0 13 (dk_at dksX8_when_5 1 rfl rfl)
theorem dX8_when_122 : decode cX8_when 122 = .ok (.bipush 6, 2) := dk_16 6 (dk_at dksX8_when_5 4 rfl rfl)
theorem dX8_when_124 : decode cX8_when 124 = .ok (.iload_n 3, 1) := dk_29 (dk_at dksX8_when_5 6 rfl rfl)
theorem dX8_when_125 : decode cX8_when 125 = .ok (.iastore, 1) := dk_79 (dk_at dksX8_when_5 7 rfl rfl)
theorem dX8_when_126 : decode cX8_when 126 = .ok (.iload 4, 2) := dk_21 4 (dk_at dksX8_when_5 8 rfl rfl)
theorem dX8_when_128 : decode cX8_when 128 = .ok (.ireturn, 1) := dk_172 (dk_at dksX8_when_5 10 rfl rfl)
abbrev cX8_alike : ByteArray := prog_18_method_94_code
def yX8_alike : MethodName := ⟨RX8, "alike", "()I"⟩
def dkwX8_alike_4 : List UInt8 := [167, 255, 187, 132, 2, 1, 167, 255, 171, 27, 172]
abbrev dktX8_alike_4 : List UInt8 := dkwX8_alike_4 ++ []
def dkwX8_alike_3 : List UInt8 := [132, 5, 1, 167, 255, 217, 27, 21, 4, 153, 0, 7, 4, 167, 0, 4, 3, 96, 60, 132, 3, 1]
abbrev dktX8_alike_3 : List UInt8 := dkwX8_alike_3 ++ dktX8_alike_4
def dkwX8_alike_2 : List UInt8 := [21, 5, 182, 1, 116, 42, 29, 21, 5, 182, 1, 116, 160, 0, 7, 4, 167, 0, 4, 3, 54, 4]
abbrev dktX8_alike_2 : List UInt8 := dkwX8_alike_2 ++ dktX8_alike_3
def dkwX8_alike_1 : List UInt8 := [28, 162, 0, 70, 4, 54, 4, 4, 54, 5, 21, 5, 16, 8, 163, 0, 38, 21, 4, 153, 0, 24, 42, 28]
abbrev dktX8_alike_1 : List UInt8 := dkwX8_alike_1 ++ dktX8_alike_2
def dkwX8_alike_0 : List UInt8 := [42, 3, 181, 0, 3, 42, 182, 1, 122, 3, 60, 3, 61, 28, 42, 182, 0, 74, 162, 0, 83, 3, 62, 29]
abbrev dktX8_alike_0 : List UInt8 := dkwX8_alike_0 ++ dktX8_alike_1
theorem dksX8_alike_0 : cX8_alike.data.toList.drop 0 = dktX8_alike_0 := by decide +kernel
theorem dksX8_alike_1 : cX8_alike.data.toList.drop 24 = dktX8_alike_1 := dk_seg dksX8_alike_0 24 rfl rfl
theorem dksX8_alike_2 : cX8_alike.data.toList.drop 48 = dktX8_alike_2 := dk_seg dksX8_alike_1 24 rfl rfl
theorem dksX8_alike_3 : cX8_alike.data.toList.drop 70 = dktX8_alike_3 := dk_seg dksX8_alike_2 22 rfl rfl
theorem dksX8_alike_4 : cX8_alike.data.toList.drop 92 = dktX8_alike_4 := dk_seg dksX8_alike_3 22 rfl rfl
theorem dX8_alike_0 : decode cX8_alike 0 = .ok (.aload_n 0, 1) := dk_42 (dk_at dksX8_alike_0 0 rfl rfl)
theorem dX8_alike_1 : decode cX8_alike 1 = .ok (.iconst 0, 1) := dk_3 (dk_at dksX8_alike_0 1 rfl rfl)
theorem dX8_alike_2 : decode cX8_alike 2 = .ok (.putfield 3, 3) := dk_181 0 3 (dk_at dksX8_alike_0 2 rfl rfl)
theorem dX8_alike_5 : decode cX8_alike 5 = .ok (.aload_n 0, 1) := dk_42 (dk_at dksX8_alike_0 5 rfl rfl)
theorem dX8_alike_6 : decode cX8_alike 6 = .ok (.invokevirtual 378, 3) := dk_182 1 122 (dk_at dksX8_alike_0 6 rfl rfl)
theorem dX8_alike_9 : decode cX8_alike 9 = .ok (.iconst 0, 1) := dk_3 (dk_at dksX8_alike_0 9 rfl rfl)
theorem dX8_alike_10 : decode cX8_alike 10 = .ok (.istore_n 1, 1) := dk_60 (dk_at dksX8_alike_0 10 rfl rfl)
theorem dX8_alike_11 : decode cX8_alike 11 = .ok (.iconst 0, 1) := dk_3 (dk_at dksX8_alike_0 11 rfl rfl)
theorem dX8_alike_12 : decode cX8_alike 12 = .ok (.istore_n 2, 1) := dk_61 (dk_at dksX8_alike_0 12 rfl rfl)
theorem dX8_alike_13 : decode cX8_alike 13 = .ok (.iload_n 2, 1) := dk_28 (dk_at dksX8_alike_0 13 rfl rfl)
theorem dX8_alike_14 : decode cX8_alike 14 = .ok (.aload_n 0, 1) := dk_42 (dk_at dksX8_alike_0 14 rfl rfl)
theorem dX8_alike_15 : decode cX8_alike 15 = .ok (.invokevirtual 74, 3) := dk_182 0 74 (dk_at dksX8_alike_0 15 rfl rfl)
theorem dX8_alike_18 : decode cX8_alike 18 = .ok (.if_icmp .ge 83, 3) := dk_162 0 83 (dk_at dksX8_alike_0 18 rfl rfl)
theorem dX8_alike_21 : decode cX8_alike 21 = .ok (.iconst 0, 1) := dk_3 (dk_at dksX8_alike_0 21 rfl rfl)
theorem dX8_alike_22 : decode cX8_alike 22 = .ok (.istore_n 3, 1) := dk_62 (dk_at dksX8_alike_0 22 rfl rfl)
theorem dX8_alike_23 : decode cX8_alike 23 = .ok (.iload_n 3, 1) := dk_29 (dk_at dksX8_alike_0 23 rfl rfl)
theorem dX8_alike_24 : decode cX8_alike 24 = .ok (.iload_n 2, 1) := dk_28 (dk_at dksX8_alike_1 0 rfl rfl)
theorem dX8_alike_25 : decode cX8_alike 25 = .ok (.if_icmp .ge 70, 3) := dk_162 0 70 (dk_at dksX8_alike_1 1 rfl rfl)
theorem dX8_alike_28 : decode cX8_alike 28 = .ok (.iconst 1, 1) := dk_4 (dk_at dksX8_alike_1 4 rfl rfl)
theorem dX8_alike_29 : decode cX8_alike 29 = .ok (.istore 4, 2) := dk_54 4 (dk_at dksX8_alike_1 5 rfl rfl)
theorem dX8_alike_31 : decode cX8_alike 31 = .ok (.iconst 1, 1) := dk_4 (dk_at dksX8_alike_1 7 rfl rfl)
theorem dX8_alike_32 : decode cX8_alike 32 = .ok (.istore 5, 2) := dk_54 5 (dk_at dksX8_alike_1 8 rfl rfl)
theorem dX8_alike_34 : decode cX8_alike 34 = .ok (.iload 5, 2) := dk_21 5 (dk_at dksX8_alike_1 10 rfl rfl)
theorem dX8_alike_36 : decode cX8_alike 36 = .ok (.bipush 8, 2) := dk_16 8 (dk_at dksX8_alike_1 12 rfl rfl)
theorem dX8_alike_38 : decode cX8_alike 38 = .ok (.if_icmp .gt 38, 3) := dk_163 0 38 (dk_at dksX8_alike_1 14 rfl rfl)
theorem dX8_alike_41 : decode cX8_alike 41 = .ok (.iload 4, 2) := dk_21 4 (dk_at dksX8_alike_1 17 rfl rfl)
theorem dX8_alike_43 : decode cX8_alike 43 = .ok (.ifCond .eq 24, 3) := dk_153 0 24 (dk_at dksX8_alike_1 19 rfl rfl)
theorem dX8_alike_46 : decode cX8_alike 46 = .ok (.aload_n 0, 1) := dk_42 (dk_at dksX8_alike_1 22 rfl rfl)
theorem dX8_alike_47 : decode cX8_alike 47 = .ok (.iload_n 2, 1) := dk_28 (dk_at dksX8_alike_1 23 rfl rfl)
theorem dX8_alike_48 : decode cX8_alike 48 = .ok (.iload 5, 2) := dk_21 5 (dk_at dksX8_alike_2 0 rfl rfl)
theorem dX8_alike_50 : decode cX8_alike 50 = .ok (.invokevirtual 372, 3) := dk_182 1 116 (dk_at dksX8_alike_2 2 rfl rfl)
theorem dX8_alike_53 : decode cX8_alike 53 = .ok (.aload_n 0, 1) := dk_42 (dk_at dksX8_alike_2 5 rfl rfl)
theorem dX8_alike_54 : decode cX8_alike 54 = .ok (.iload_n 3, 1) := dk_29 (dk_at dksX8_alike_2 6 rfl rfl)
theorem dX8_alike_55 : decode cX8_alike 55 = .ok (.iload 5, 2) := dk_21 5 (dk_at dksX8_alike_2 7 rfl rfl)
theorem dX8_alike_57 : decode cX8_alike 57 = .ok (.invokevirtual 372, 3) := dk_182 1 116 (dk_at dksX8_alike_2 9 rfl rfl)
theorem dX8_alike_60 : decode cX8_alike 60 = .ok (.if_icmp .ne 7, 3) := dk_160 0 7 (dk_at dksX8_alike_2 12 rfl rfl)
theorem dX8_alike_63 : decode cX8_alike 63 = .ok (.iconst 1, 1) := dk_4 (dk_at dksX8_alike_2 15 rfl rfl)
theorem dX8_alike_64 : decode cX8_alike 64 = .ok (.goto 4, 3) := dk_167 0 4 (dk_at dksX8_alike_2 16 rfl rfl)
theorem dX8_alike_67 : decode cX8_alike 67 = .ok (.iconst 0, 1) := dk_3 (dk_at dksX8_alike_2 19 rfl rfl)
theorem dX8_alike_68 : decode cX8_alike 68 = .ok (.istore 4, 2) := dk_54 4 (dk_at dksX8_alike_2 20 rfl rfl)
theorem dX8_alike_70 : decode cX8_alike 70 = .ok (.iinc 5 1, 3) := dk_132 5 1 (dk_at dksX8_alike_3 0 rfl rfl)
theorem dX8_alike_73 : decode cX8_alike 73 = .ok (.goto (-39), 3) := dk_167 255 217 (dk_at dksX8_alike_3 3 rfl rfl)
theorem dX8_alike_76 : decode cX8_alike 76 = .ok (.iload_n 1, 1) := dk_27 (dk_at dksX8_alike_3 6 rfl rfl)
theorem dX8_alike_77 : decode cX8_alike 77 = .ok (.iload 4, 2) := dk_21 4 (dk_at dksX8_alike_3 7 rfl rfl)
theorem dX8_alike_79 : decode cX8_alike 79 = .ok (.ifCond .eq 7, 3) := dk_153 0 7 (dk_at dksX8_alike_3 9 rfl rfl)
theorem dX8_alike_82 : decode cX8_alike 82 = .ok (.iconst 1, 1) := dk_4 (dk_at dksX8_alike_3 12 rfl rfl)
theorem dX8_alike_83 : decode cX8_alike 83 = .ok (.goto 4, 3) := dk_167 0 4 (dk_at dksX8_alike_3 13 rfl rfl)
theorem dX8_alike_86 : decode cX8_alike 86 = .ok (.iconst 0, 1) := dk_3 (dk_at dksX8_alike_3 16 rfl rfl)
theorem dX8_alike_87 : decode cX8_alike 87 = .ok (.iadd, 1) := dk_96 (dk_at dksX8_alike_3 17 rfl rfl)
theorem dX8_alike_88 : decode cX8_alike 88 = .ok (.istore_n 1, 1) := dk_60 (dk_at dksX8_alike_3 18 rfl rfl)
theorem dX8_alike_89 : decode cX8_alike 89 = .ok (.iinc 3 1, 3) := dk_132 3 1 (dk_at dksX8_alike_3 19 rfl rfl)
theorem dX8_alike_92 : decode cX8_alike 92 = .ok (.goto (-69), 3) := dk_167 255 187 (dk_at dksX8_alike_4 0 rfl rfl)
theorem dX8_alike_95 : decode cX8_alike 95 = .ok (.iinc 2 1, 3) := dk_132 2 1 (dk_at dksX8_alike_4 3 rfl rfl)
theorem dX8_alike_98 : decode cX8_alike 98 = .ok (.goto (-85), 3) := dk_167 255 171 (dk_at dksX8_alike_4 6 rfl rfl)
theorem dX8_alike_101 : decode cX8_alike 101 = .ok (.iload_n 1, 1) := dk_27 (dk_at dksX8_alike_4 9 rfl rfl)
theorem dX8_alike_102 : decode cX8_alike 102 = .ok (.ireturn, 1) := dk_172 (dk_at dksX8_alike_4 10 rfl rfl)
abbrev cX8_bird : ByteArray := prog_18_method_97_code
def yX8_bird : MethodName := ⟨RX8, "bird", "(II)I"⟩
def dkwX8_bird_2 : List UInt8 := [182, 1, 21, 172]
abbrev dktX8_bird_2 : List UInt8 := dkwX8_bird_2 ++ []
def dkwX8_bird_1 : List UInt8 := [184, 0, 78, 154, 0, 7, 4, 167, 0, 4, 3, 5, 182, 1, 9, 153, 0, 5, 3, 172, 42, 27, 28]
abbrev dktX8_bird_1 : List UInt8 := dkwX8_bird_1 ++ dktX8_bird_2
def dkwX8_bird_0 : List UInt8 := [42, 3, 181, 0, 3, 42, 42, 27, 182, 1, 47, 4, 182, 1, 9, 154, 0, 25, 42, 28, 3, 6]
abbrev dktX8_bird_0 : List UInt8 := dkwX8_bird_0 ++ dktX8_bird_1
theorem dksX8_bird_0 : cX8_bird.data.toList.drop 0 = dktX8_bird_0 := by decide +kernel
theorem dksX8_bird_1 : cX8_bird.data.toList.drop 22 = dktX8_bird_1 := dk_seg dksX8_bird_0 22 rfl rfl
theorem dksX8_bird_2 : cX8_bird.data.toList.drop 45 = dktX8_bird_2 := dk_seg dksX8_bird_1 23 rfl rfl
theorem dX8_bird_0 : decode cX8_bird 0 = .ok (.aload_n 0, 1) := dk_42 (dk_at dksX8_bird_0 0 rfl rfl)
theorem dX8_bird_1 : decode cX8_bird 1 = .ok (.iconst 0, 1) := dk_3 (dk_at dksX8_bird_0 1 rfl rfl)
theorem dX8_bird_2 : decode cX8_bird 2 = .ok (.putfield 3, 3) := dk_181 0 3 (dk_at dksX8_bird_0 2 rfl rfl)
theorem dX8_bird_5 : decode cX8_bird 5 = .ok (.aload_n 0, 1) := dk_42 (dk_at dksX8_bird_0 5 rfl rfl)
theorem dX8_bird_6 : decode cX8_bird 6 = .ok (.aload_n 0, 1) := dk_42 (dk_at dksX8_bird_0 6 rfl rfl)
theorem dX8_bird_7 : decode cX8_bird 7 = .ok (.iload_n 1, 1) := dk_27 (dk_at dksX8_bird_0 7 rfl rfl)
theorem dX8_bird_8 : decode cX8_bird 8 = .ok (.invokevirtual 303, 3) := dk_182 1 47 (dk_at dksX8_bird_0 8 rfl rfl)
theorem dX8_bird_11 : decode cX8_bird 11 = .ok (.iconst 1, 1) := dk_4 (dk_at dksX8_bird_0 11 rfl rfl)
theorem dX8_bird_12 : decode cX8_bird 12 = .ok (.invokevirtual 265, 3) := dk_182 1 9 (dk_at dksX8_bird_0 12 rfl rfl)
theorem dX8_bird_15 : decode cX8_bird 15 = .ok (.ifCond .ne 25, 3) := dk_154 0 25 (dk_at dksX8_bird_0 15 rfl rfl)
theorem dX8_bird_18 : decode cX8_bird 18 = .ok (.aload_n 0, 1) := dk_42 (dk_at dksX8_bird_0 18 rfl rfl)
theorem dX8_bird_19 : decode cX8_bird 19 = .ok (.iload_n 2, 1) := dk_28 (dk_at dksX8_bird_0 19 rfl rfl)
theorem dX8_bird_20 : decode cX8_bird 20 = .ok (.iconst 0, 1) := dk_3 (dk_at dksX8_bird_0 20 rfl rfl)
theorem dX8_bird_21 : decode cX8_bird 21 = .ok (.iconst 3, 1) := dk_6 (dk_at dksX8_bird_0 21 rfl rfl)
theorem dX8_bird_22 : decode cX8_bird 22 = .ok (.invokestatic 78, 3) := dk_184 0 78 (dk_at dksX8_bird_1 0 rfl rfl)
theorem dX8_bird_25 : decode cX8_bird 25 = .ok (.ifCond .ne 7, 3) := dk_154 0 7 (dk_at dksX8_bird_1 3 rfl rfl)
theorem dX8_bird_28 : decode cX8_bird 28 = .ok (.iconst 1, 1) := dk_4 (dk_at dksX8_bird_1 6 rfl rfl)
theorem dX8_bird_29 : decode cX8_bird 29 = .ok (.goto 4, 3) := dk_167 0 4 (dk_at dksX8_bird_1 7 rfl rfl)
theorem dX8_bird_32 : decode cX8_bird 32 = .ok (.iconst 0, 1) := dk_3 (dk_at dksX8_bird_1 10 rfl rfl)
theorem dX8_bird_33 : decode cX8_bird 33 = .ok (.iconst 2, 1) := dk_5 (dk_at dksX8_bird_1 11 rfl rfl)
theorem dX8_bird_34 : decode cX8_bird 34 = .ok (.invokevirtual 265, 3) := dk_182 1 9 (dk_at dksX8_bird_1 12 rfl rfl)
theorem dX8_bird_37 : decode cX8_bird 37 = .ok (.ifCond .eq 5, 3) := dk_153 0 5 (dk_at dksX8_bird_1 15 rfl rfl)
theorem dX8_bird_40 : decode cX8_bird 40 = .ok (.iconst 0, 1) := dk_3 (dk_at dksX8_bird_1 18 rfl rfl)
theorem dX8_bird_41 : decode cX8_bird 41 = .ok (.ireturn, 1) := dk_172 (dk_at dksX8_bird_1 19 rfl rfl)
theorem dX8_bird_42 : decode cX8_bird 42 = .ok (.aload_n 0, 1) := dk_42 (dk_at dksX8_bird_1 20 rfl rfl)
theorem dX8_bird_43 : decode cX8_bird 43 = .ok (.iload_n 1, 1) := dk_27 (dk_at dksX8_bird_1 21 rfl rfl)
theorem dX8_bird_44 : decode cX8_bird 44 = .ok (.iload_n 2, 1) := dk_28 (dk_at dksX8_bird_1 22 rfl rfl)
theorem dX8_bird_45 : decode cX8_bird 45 = .ok (.invokevirtual 277, 3) := dk_182 1 21 (dk_at dksX8_bird_2 0 rfl rfl)
theorem dX8_bird_48 : decode cX8_bird 48 = .ok (.ireturn, 1) := dk_172 (dk_at dksX8_bird_2 3 rfl rfl)
abbrev cX8_stock : ByteArray := prog_18_method_98_code
def yX8_stock : MethodName := ⟨RX8, "stock", "(II)I"⟩
def dkwX8_stock_1 : List UInt8 := [167, 0, 4, 3, 4, 182, 1, 9, 153, 0, 7, 3, 167, 0, 9, 42, 27, 28, 182, 1, 134, 172]
abbrev dktX8_stock_1 : List UInt8 := dkwX8_stock_1 ++ []
def dkwX8_stock_0 : List UInt8 := [42, 3, 181, 0, 3, 42, 42, 27, 182, 1, 137, 154, 0, 11, 42, 28, 182, 1, 47, 153, 0, 7, 4]
abbrev dktX8_stock_0 : List UInt8 := dkwX8_stock_0 ++ dktX8_stock_1
theorem dksX8_stock_0 : cX8_stock.data.toList.drop 0 = dktX8_stock_0 := by decide +kernel
theorem dksX8_stock_1 : cX8_stock.data.toList.drop 23 = dktX8_stock_1 := dk_seg dksX8_stock_0 23 rfl rfl
theorem dX8_stock_0 : decode cX8_stock 0 = .ok (.aload_n 0, 1) := dk_42 (dk_at dksX8_stock_0 0 rfl rfl)
theorem dX8_stock_1 : decode cX8_stock 1 = .ok (.iconst 0, 1) := dk_3 (dk_at dksX8_stock_0 1 rfl rfl)
theorem dX8_stock_2 : decode cX8_stock 2 = .ok (.putfield 3, 3) := dk_181 0 3 (dk_at dksX8_stock_0 2 rfl rfl)
theorem dX8_stock_5 : decode cX8_stock 5 = .ok (.aload_n 0, 1) := dk_42 (dk_at dksX8_stock_0 5 rfl rfl)
theorem dX8_stock_6 : decode cX8_stock 6 = .ok (.aload_n 0, 1) := dk_42 (dk_at dksX8_stock_0 6 rfl rfl)
theorem dX8_stock_7 : decode cX8_stock 7 = .ok (.iload_n 1, 1) := dk_27 (dk_at dksX8_stock_0 7 rfl rfl)
theorem dX8_stock_8 : decode cX8_stock 8 = .ok (.invokevirtual 393, 3) := dk_182 1 137 (dk_at dksX8_stock_0 8 rfl rfl)
theorem dX8_stock_11 : decode cX8_stock 11 = .ok (.ifCond .ne 11, 3) := dk_154 0 11 (dk_at dksX8_stock_0 11 rfl rfl)
theorem dX8_stock_14 : decode cX8_stock 14 = .ok (.aload_n 0, 1) := dk_42 (dk_at dksX8_stock_0 14 rfl rfl)
theorem dX8_stock_15 : decode cX8_stock 15 = .ok (.iload_n 2, 1) := dk_28 (dk_at dksX8_stock_0 15 rfl rfl)
theorem dX8_stock_16 : decode cX8_stock 16 = .ok (.invokevirtual 303, 3) := dk_182 1 47 (dk_at dksX8_stock_0 16 rfl rfl)
theorem dX8_stock_19 : decode cX8_stock 19 = .ok (.ifCond .eq 7, 3) := dk_153 0 7 (dk_at dksX8_stock_0 19 rfl rfl)
theorem dX8_stock_22 : decode cX8_stock 22 = .ok (.iconst 1, 1) := dk_4 (dk_at dksX8_stock_0 22 rfl rfl)
theorem dX8_stock_23 : decode cX8_stock 23 = .ok (.goto 4, 3) := dk_167 0 4 (dk_at dksX8_stock_1 0 rfl rfl)
theorem dX8_stock_26 : decode cX8_stock 26 = .ok (.iconst 0, 1) := dk_3 (dk_at dksX8_stock_1 3 rfl rfl)
theorem dX8_stock_27 : decode cX8_stock 27 = .ok (.iconst 1, 1) := dk_4 (dk_at dksX8_stock_1 4 rfl rfl)
theorem dX8_stock_28 : decode cX8_stock 28 = .ok (.invokevirtual 265, 3) := dk_182 1 9 (dk_at dksX8_stock_1 5 rfl rfl)
theorem dX8_stock_31 : decode cX8_stock 31 = .ok (.ifCond .eq 7, 3) := dk_153 0 7 (dk_at dksX8_stock_1 8 rfl rfl)
theorem dX8_stock_34 : decode cX8_stock 34 = .ok (.iconst 0, 1) := dk_3 (dk_at dksX8_stock_1 11 rfl rfl)
theorem dX8_stock_35 : decode cX8_stock 35 = .ok (.goto 9, 3) := dk_167 0 9 (dk_at dksX8_stock_1 12 rfl rfl)
theorem dX8_stock_38 : decode cX8_stock 38 = .ok (.aload_n 0, 1) := dk_42 (dk_at dksX8_stock_1 15 rfl rfl)
theorem dX8_stock_39 : decode cX8_stock 39 = .ok (.iload_n 1, 1) := dk_27 (dk_at dksX8_stock_1 16 rfl rfl)
theorem dX8_stock_40 : decode cX8_stock 40 = .ok (.iload_n 2, 1) := dk_28 (dk_at dksX8_stock_1 17 rfl rfl)
theorem dX8_stock_41 : decode cX8_stock 41 = .ok (.invokevirtual 390, 3) := dk_182 1 134 (dk_at dksX8_stock_1 18 rfl rfl)
theorem dX8_stock_44 : decode cX8_stock 44 = .ok (.ireturn, 1) := dk_172 (dk_at dksX8_stock_1 21 rfl rfl)
abbrev cX8_noCounsel : ByteArray := prog_18_method_19_code
def yX8_noCounsel : MethodName := ⟨RX8, "noCounsel", "(I)Z"⟩
def dkwX8_noCounsel_0 : List UInt8 := [27, 3, 42, 182, 0, 82, 4, 100, 184, 0, 78, 154, 0, 7, 4, 167, 0, 4, 3, 172]
abbrev dktX8_noCounsel_0 : List UInt8 := dkwX8_noCounsel_0 ++ []
theorem dksX8_noCounsel_0 : cX8_noCounsel.data.toList.drop 0 = dktX8_noCounsel_0 := by decide +kernel
theorem dX8_noCounsel_0 : decode cX8_noCounsel 0 = .ok (.iload_n 1, 1) := dk_27 (dk_at dksX8_noCounsel_0 0 rfl rfl)
theorem dX8_noCounsel_1 : decode cX8_noCounsel 1 = .ok (.iconst 0, 1) := dk_3 (dk_at dksX8_noCounsel_0 1 rfl rfl)
theorem dX8_noCounsel_2 : decode cX8_noCounsel 2 = .ok (.aload_n 0, 1) := dk_42 (dk_at dksX8_noCounsel_0 2 rfl rfl)
theorem dX8_noCounsel_3 : decode cX8_noCounsel 3 = .ok (.invokevirtual 82, 3) := dk_182 0 82 (dk_at dksX8_noCounsel_0 3 rfl rfl)
theorem dX8_noCounsel_6 : decode cX8_noCounsel 6 = .ok (.iconst 1, 1) := dk_4 (dk_at dksX8_noCounsel_0 6 rfl rfl)
theorem dX8_noCounsel_7 : decode cX8_noCounsel 7 = .ok (.isub, 1) := dk_100 (dk_at dksX8_noCounsel_0 7 rfl rfl)
theorem dX8_noCounsel_8 : decode cX8_noCounsel 8 = .ok (.invokestatic 78, 3) := dk_184 0 78 (dk_at dksX8_noCounsel_0 8 rfl rfl)
theorem dX8_noCounsel_11 : decode cX8_noCounsel 11 = .ok (.ifCond .ne 7, 3) := dk_154 0 7 (dk_at dksX8_noCounsel_0 11 rfl rfl)
theorem dX8_noCounsel_14 : decode cX8_noCounsel 14 = .ok (.iconst 1, 1) := dk_4 (dk_at dksX8_noCounsel_0 14 rfl rfl)
theorem dX8_noCounsel_15 : decode cX8_noCounsel 15 = .ok (.goto 4, 3) := dk_167 0 4 (dk_at dksX8_noCounsel_0 15 rfl rfl)
theorem dX8_noCounsel_18 : decode cX8_noCounsel 18 = .ok (.iconst 0, 1) := dk_3 (dk_at dksX8_noCounsel_0 18 rfl rfl)
theorem dX8_noCounsel_19 : decode cX8_noCounsel 19 = .ok (.ireturn, 1) := dk_172 (dk_at dksX8_noCounsel_0 19 rfl rfl)
abbrev cX8_stockOf : ByteArray := prog_18_method_15_code
def yX8_stockOf : MethodName := ⟨RX8, "stockOf", "(II)I"⟩
def dkwX8_stockOf_0 : List UInt8 := [42, 180, 0, 13, 27, 28, 184, 0, 67, 46, 172]
abbrev dktX8_stockOf_0 : List UInt8 := dkwX8_stockOf_0 ++ []
theorem dksX8_stockOf_0 : cX8_stockOf.data.toList.drop 0 = dktX8_stockOf_0 := by decide +kernel
theorem dX8_stockOf_0 : decode cX8_stockOf 0 = .ok (.aload_n 0, 1) := dk_42 (dk_at dksX8_stockOf_0 0 rfl rfl)
theorem dX8_stockOf_1 : decode cX8_stockOf 1 = .ok (.getfield 13, 3) := dk_180 0 13 (dk_at dksX8_stockOf_0 1 rfl rfl)
theorem dX8_stockOf_4 : decode cX8_stockOf 4 = .ok (.iload_n 1, 1) := dk_27 (dk_at dksX8_stockOf_0 4 rfl rfl)
theorem dX8_stockOf_5 : decode cX8_stockOf 5 = .ok (.iload_n 2, 1) := dk_28 (dk_at dksX8_stockOf_0 5 rfl rfl)
theorem dX8_stockOf_6 : decode cX8_stockOf 6 = .ok (.invokestatic 67, 3) := dk_184 0 67 (dk_at dksX8_stockOf_0 6 rfl rfl)
theorem dX8_stockOf_9 : decode cX8_stockOf 9 = .ok (.iaload, 1) := dk_46 (dk_at dksX8_stockOf_0 9 rfl rfl)
theorem dX8_stockOf_10 : decode cX8_stockOf 10 = .ok (.ireturn, 1) := dk_172 (dk_at dksX8_stockOf_0 10 rfl rfl)
abbrev cX8_matter : ByteArray := prog_18_method_99_code
def yX8_matter : MethodName := ⟨RX8, "matter", "(II)I"⟩
def dkwX8_matter_2 : List UInt8 := [162, 0, 12, 42, 27, 28, 182, 1, 131, 167, 0, 11, 42, 27, 28, 7, 100, 182, 1, 143, 172]
abbrev dktX8_matter_2 : List UInt8 := dkwX8_matter_2 ++ []
def dkwX8_matter_1 : List UInt8 := [184, 0, 78, 154, 0, 7, 4, 167, 0, 4, 3, 5, 182, 1, 9, 153, 0, 5, 3, 172, 28, 7]
abbrev dktX8_matter_1 : List UInt8 := dkwX8_matter_1 ++ dktX8_matter_2
def dkwX8_matter_0 : List UInt8 := [42, 3, 181, 0, 3, 42, 42, 27, 182, 1, 140, 4, 182, 1, 9, 154, 0, 25, 42, 28, 3, 8]
abbrev dktX8_matter_0 : List UInt8 := dkwX8_matter_0 ++ dktX8_matter_1
theorem dksX8_matter_0 : cX8_matter.data.toList.drop 0 = dktX8_matter_0 := by decide +kernel
theorem dksX8_matter_1 : cX8_matter.data.toList.drop 22 = dktX8_matter_1 := dk_seg dksX8_matter_0 22 rfl rfl
theorem dksX8_matter_2 : cX8_matter.data.toList.drop 44 = dktX8_matter_2 := dk_seg dksX8_matter_1 22 rfl rfl
theorem dX8_matter_0 : decode cX8_matter 0 = .ok (.aload_n 0, 1) := dk_42 (dk_at dksX8_matter_0 0 rfl rfl)
theorem dX8_matter_1 : decode cX8_matter 1 = .ok (.iconst 0, 1) := dk_3 (dk_at dksX8_matter_0 1 rfl rfl)
theorem dX8_matter_2 : decode cX8_matter 2 = .ok (.putfield 3, 3) := dk_181 0 3 (dk_at dksX8_matter_0 2 rfl rfl)
theorem dX8_matter_5 : decode cX8_matter 5 = .ok (.aload_n 0, 1) := dk_42 (dk_at dksX8_matter_0 5 rfl rfl)
theorem dX8_matter_6 : decode cX8_matter 6 = .ok (.aload_n 0, 1) := dk_42 (dk_at dksX8_matter_0 6 rfl rfl)
theorem dX8_matter_7 : decode cX8_matter 7 = .ok (.iload_n 1, 1) := dk_27 (dk_at dksX8_matter_0 7 rfl rfl)
theorem dX8_matter_8 : decode cX8_matter 8 = .ok (.invokevirtual 396, 3) := dk_182 1 140 (dk_at dksX8_matter_0 8 rfl rfl)
theorem dX8_matter_11 : decode cX8_matter 11 = .ok (.iconst 1, 1) := dk_4 (dk_at dksX8_matter_0 11 rfl rfl)
theorem dX8_matter_12 : decode cX8_matter 12 = .ok (.invokevirtual 265, 3) := dk_182 1 9 (dk_at dksX8_matter_0 12 rfl rfl)
theorem dX8_matter_15 : decode cX8_matter 15 = .ok (.ifCond .ne 25, 3) := dk_154 0 25 (dk_at dksX8_matter_0 15 rfl rfl)
theorem dX8_matter_18 : decode cX8_matter 18 = .ok (.aload_n 0, 1) := dk_42 (dk_at dksX8_matter_0 18 rfl rfl)
theorem dX8_matter_19 : decode cX8_matter 19 = .ok (.iload_n 2, 1) := dk_28 (dk_at dksX8_matter_0 19 rfl rfl)
theorem dX8_matter_20 : decode cX8_matter 20 = .ok (.iconst 0, 1) := dk_3 (dk_at dksX8_matter_0 20 rfl rfl)
theorem dX8_matter_21 : decode cX8_matter 21 = .ok (.iconst 5, 1) := dk_8 (dk_at dksX8_matter_0 21 rfl rfl)
theorem dX8_matter_22 : decode cX8_matter 22 = .ok (.invokestatic 78, 3) := dk_184 0 78 (dk_at dksX8_matter_1 0 rfl rfl)
theorem dX8_matter_25 : decode cX8_matter 25 = .ok (.ifCond .ne 7, 3) := dk_154 0 7 (dk_at dksX8_matter_1 3 rfl rfl)
theorem dX8_matter_28 : decode cX8_matter 28 = .ok (.iconst 1, 1) := dk_4 (dk_at dksX8_matter_1 6 rfl rfl)
theorem dX8_matter_29 : decode cX8_matter 29 = .ok (.goto 4, 3) := dk_167 0 4 (dk_at dksX8_matter_1 7 rfl rfl)
theorem dX8_matter_32 : decode cX8_matter 32 = .ok (.iconst 0, 1) := dk_3 (dk_at dksX8_matter_1 10 rfl rfl)
theorem dX8_matter_33 : decode cX8_matter 33 = .ok (.iconst 2, 1) := dk_5 (dk_at dksX8_matter_1 11 rfl rfl)
theorem dX8_matter_34 : decode cX8_matter 34 = .ok (.invokevirtual 265, 3) := dk_182 1 9 (dk_at dksX8_matter_1 12 rfl rfl)
theorem dX8_matter_37 : decode cX8_matter 37 = .ok (.ifCond .eq 5, 3) := dk_153 0 5 (dk_at dksX8_matter_1 15 rfl rfl)
theorem dX8_matter_40 : decode cX8_matter 40 = .ok (.iconst 0, 1) := dk_3 (dk_at dksX8_matter_1 18 rfl rfl)
theorem dX8_matter_41 : decode cX8_matter 41 = .ok (.ireturn, 1) := dk_172 (dk_at dksX8_matter_1 19 rfl rfl)
theorem dX8_matter_42 : decode cX8_matter 42 = .ok (.iload_n 2, 1) := dk_28 (dk_at dksX8_matter_1 20 rfl rfl)
theorem dX8_matter_43 : decode cX8_matter 43 = .ok (.iconst 4, 1) := dk_7 (dk_at dksX8_matter_1 21 rfl rfl)
theorem dX8_matter_44 : decode cX8_matter 44 = .ok (.if_icmp .ge 12, 3) := dk_162 0 12 (dk_at dksX8_matter_2 0 rfl rfl)
theorem dX8_matter_47 : decode cX8_matter 47 = .ok (.aload_n 0, 1) := dk_42 (dk_at dksX8_matter_2 3 rfl rfl)
theorem dX8_matter_48 : decode cX8_matter 48 = .ok (.iload_n 1, 1) := dk_27 (dk_at dksX8_matter_2 4 rfl rfl)
theorem dX8_matter_49 : decode cX8_matter 49 = .ok (.iload_n 2, 1) := dk_28 (dk_at dksX8_matter_2 5 rfl rfl)
theorem dX8_matter_50 : decode cX8_matter 50 = .ok (.invokevirtual 387, 3) := dk_182 1 131 (dk_at dksX8_matter_2 6 rfl rfl)
theorem dX8_matter_53 : decode cX8_matter 53 = .ok (.goto 11, 3) := dk_167 0 11 (dk_at dksX8_matter_2 9 rfl rfl)
theorem dX8_matter_56 : decode cX8_matter 56 = .ok (.aload_n 0, 1) := dk_42 (dk_at dksX8_matter_2 12 rfl rfl)
theorem dX8_matter_57 : decode cX8_matter 57 = .ok (.iload_n 1, 1) := dk_27 (dk_at dksX8_matter_2 13 rfl rfl)
theorem dX8_matter_58 : decode cX8_matter 58 = .ok (.iload_n 2, 1) := dk_28 (dk_at dksX8_matter_2 14 rfl rfl)
theorem dX8_matter_59 : decode cX8_matter 59 = .ok (.iconst 4, 1) := dk_7 (dk_at dksX8_matter_2 15 rfl rfl)
theorem dX8_matter_60 : decode cX8_matter 60 = .ok (.isub, 1) := dk_100 (dk_at dksX8_matter_2 16 rfl rfl)
theorem dX8_matter_61 : decode cX8_matter 61 = .ok (.invokevirtual 399, 3) := dk_182 1 143 (dk_at dksX8_matter_2 17 rfl rfl)
theorem dX8_matter_64 : decode cX8_matter 64 = .ok (.ireturn, 1) := dk_172 (dk_at dksX8_matter_2 20 rfl rfl)
abbrev cX8_noCase : ByteArray := prog_18_method_20_code
def yX8_noCase : MethodName := ⟨RX8, "noCase", "(I)Z"⟩
def dkwX8_noCase_0 : List UInt8 := [27, 3, 42, 182, 0, 85, 4, 100, 184, 0, 78, 154, 0, 7, 4, 167, 0, 4, 3, 172]
abbrev dktX8_noCase_0 : List UInt8 := dkwX8_noCase_0 ++ []
theorem dksX8_noCase_0 : cX8_noCase.data.toList.drop 0 = dktX8_noCase_0 := by decide +kernel
theorem dX8_noCase_0 : decode cX8_noCase 0 = .ok (.iload_n 1, 1) := dk_27 (dk_at dksX8_noCase_0 0 rfl rfl)
theorem dX8_noCase_1 : decode cX8_noCase 1 = .ok (.iconst 0, 1) := dk_3 (dk_at dksX8_noCase_0 1 rfl rfl)
theorem dX8_noCase_2 : decode cX8_noCase 2 = .ok (.aload_n 0, 1) := dk_42 (dk_at dksX8_noCase_0 2 rfl rfl)
theorem dX8_noCase_3 : decode cX8_noCase 3 = .ok (.invokevirtual 85, 3) := dk_182 0 85 (dk_at dksX8_noCase_0 3 rfl rfl)
theorem dX8_noCase_6 : decode cX8_noCase 6 = .ok (.iconst 1, 1) := dk_4 (dk_at dksX8_noCase_0 6 rfl rfl)
theorem dX8_noCase_7 : decode cX8_noCase 7 = .ok (.isub, 1) := dk_100 (dk_at dksX8_noCase_0 7 rfl rfl)
theorem dX8_noCase_8 : decode cX8_noCase 8 = .ok (.invokestatic 78, 3) := dk_184 0 78 (dk_at dksX8_noCase_0 8 rfl rfl)
theorem dX8_noCase_11 : decode cX8_noCase 11 = .ok (.ifCond .ne 7, 3) := dk_154 0 7 (dk_at dksX8_noCase_0 11 rfl rfl)
theorem dX8_noCase_14 : decode cX8_noCase 14 = .ok (.iconst 1, 1) := dk_4 (dk_at dksX8_noCase_0 14 rfl rfl)
theorem dX8_noCase_15 : decode cX8_noCase 15 = .ok (.goto 4, 3) := dk_167 0 4 (dk_at dksX8_noCase_0 15 rfl rfl)
theorem dX8_noCase_18 : decode cX8_noCase 18 = .ok (.iconst 0, 1) := dk_3 (dk_at dksX8_noCase_0 18 rfl rfl)
theorem dX8_noCase_19 : decode cX8_noCase 19 = .ok (.ireturn, 1) := dk_172 (dk_at dksX8_noCase_0 19 rfl rfl)
abbrev cX8_ofCase : ByteArray := prog_18_method_17_code
def yX8_ofCase : MethodName := ⟨RX8, "ofCase", "(II)I"⟩
def dkwX8_ofCase_0 : List UInt8 := [42, 180, 0, 13, 27, 28, 184, 0, 71, 46, 172]
abbrev dktX8_ofCase_0 : List UInt8 := dkwX8_ofCase_0 ++ []
theorem dksX8_ofCase_0 : cX8_ofCase.data.toList.drop 0 = dktX8_ofCase_0 := by decide +kernel
theorem dX8_ofCase_0 : decode cX8_ofCase 0 = .ok (.aload_n 0, 1) := dk_42 (dk_at dksX8_ofCase_0 0 rfl rfl)
theorem dX8_ofCase_1 : decode cX8_ofCase 1 = .ok (.getfield 13, 3) := dk_180 0 13 (dk_at dksX8_ofCase_0 1 rfl rfl)
theorem dX8_ofCase_4 : decode cX8_ofCase 4 = .ok (.iload_n 1, 1) := dk_27 (dk_at dksX8_ofCase_0 4 rfl rfl)
theorem dX8_ofCase_5 : decode cX8_ofCase 5 = .ok (.iload_n 2, 1) := dk_28 (dk_at dksX8_ofCase_0 5 rfl rfl)
theorem dX8_ofCase_6 : decode cX8_ofCase 6 = .ok (.invokestatic 71, 3) := dk_184 0 71 (dk_at dksX8_ofCase_0 6 rfl rfl)
theorem dX8_ofCase_9 : decode cX8_ofCase 9 = .ok (.iaload, 1) := dk_46 (dk_at dksX8_ofCase_0 9 rfl rfl)
theorem dX8_ofCase_10 : decode cX8_ofCase 10 = .ok (.ireturn, 1) := dk_172 (dk_at dksX8_ofCase_0 10 rfl rfl)
abbrev cX8_choices : ByteArray := prog_18_method_96_code
def yX8_choices : MethodName := ⟨RX8, "choices", "(II)I"⟩
def dkwX8_choices_2 : List UInt8 := [120, 167, 0, 4, 3, 128, 62, 132, 4, 1, 167, 255, 204, 29, 172]
abbrev dktX8_choices_2 : List UInt8 := dkwX8_choices_2 ++ []
def dkwX8_choices_1 : List UInt8 := [184, 0, 127, 153, 0, 25, 42, 42, 27, 28, 182, 1, 131, 21, 4, 182, 1, 134, 158, 0, 10, 4, 21, 4]
abbrev dktX8_choices_1 : List UInt8 := dkwX8_choices_1 ++ dktX8_choices_2
def dkwX8_choices_0 : List UInt8 := [3, 62, 3, 54, 4, 21, 4, 42, 182, 0, 74, 162, 0, 49, 29, 42, 27, 5, 182, 1, 131, 21, 4]
abbrev dktX8_choices_0 : List UInt8 := dkwX8_choices_0 ++ dktX8_choices_1
theorem dksX8_choices_0 : cX8_choices.data.toList.drop 0 = dktX8_choices_0 := by decide +kernel
theorem dksX8_choices_1 : cX8_choices.data.toList.drop 23 = dktX8_choices_1 := dk_seg dksX8_choices_0 23 rfl rfl
theorem dksX8_choices_2 : cX8_choices.data.toList.drop 47 = dktX8_choices_2 := dk_seg dksX8_choices_1 24 rfl rfl
theorem dX8_choices_0 : decode cX8_choices 0 = .ok (.iconst 0, 1) := dk_3 (dk_at dksX8_choices_0 0 rfl rfl)
theorem dX8_choices_1 : decode cX8_choices 1 = .ok (.istore_n 3, 1) := dk_62 (dk_at dksX8_choices_0 1 rfl rfl)
theorem dX8_choices_2 : decode cX8_choices 2 = .ok (.iconst 0, 1) := dk_3 (dk_at dksX8_choices_0 2 rfl rfl)
theorem dX8_choices_3 : decode cX8_choices 3 = .ok (.istore 4, 2) := dk_54 4 (dk_at dksX8_choices_0 3 rfl rfl)
theorem dX8_choices_5 : decode cX8_choices 5 = .ok (.iload 4, 2) := dk_21 4 (dk_at dksX8_choices_0 5 rfl rfl)
theorem dX8_choices_7 : decode cX8_choices 7 = .ok (.aload_n 0, 1) := dk_42 (dk_at dksX8_choices_0 7 rfl rfl)
theorem dX8_choices_8 : decode cX8_choices 8 = .ok (.invokevirtual 74, 3) := dk_182 0 74 (dk_at dksX8_choices_0 8 rfl rfl)
theorem dX8_choices_11 : decode cX8_choices 11 = .ok (.if_icmp .ge 49, 3) := dk_162 0 49 (dk_at dksX8_choices_0 11 rfl rfl)
theorem dX8_choices_14 : decode cX8_choices 14 = .ok (.iload_n 3, 1) := dk_29 (dk_at dksX8_choices_0 14 rfl rfl)
theorem dX8_choices_15 : decode cX8_choices 15 = .ok (.aload_n 0, 1) := dk_42 (dk_at dksX8_choices_0 15 rfl rfl)
theorem dX8_choices_16 : decode cX8_choices 16 = .ok (.iload_n 1, 1) := dk_27 (dk_at dksX8_choices_0 16 rfl rfl)
theorem dX8_choices_17 : decode cX8_choices 17 = .ok (.iconst 2, 1) := dk_5 (dk_at dksX8_choices_0 17 rfl rfl)
theorem dX8_choices_18 : decode cX8_choices 18 = .ok (.invokevirtual 387, 3) := dk_182 1 131 (dk_at dksX8_choices_0 18 rfl rfl)
theorem dX8_choices_21 : decode cX8_choices 21 = .ok (.iload 4, 2) := dk_21 4 (dk_at dksX8_choices_0 21 rfl rfl)
theorem dX8_choices_23 : decode cX8_choices 23 = .ok (.invokestatic 127, 3) := dk_184 0 127 (dk_at dksX8_choices_1 0 rfl rfl)
theorem dX8_choices_26 : decode cX8_choices 26 = .ok (.ifCond .eq 25, 3) := dk_153 0 25 (dk_at dksX8_choices_1 3 rfl rfl)
theorem dX8_choices_29 : decode cX8_choices 29 = .ok (.aload_n 0, 1) := dk_42 (dk_at dksX8_choices_1 6 rfl rfl)
theorem dX8_choices_30 : decode cX8_choices 30 = .ok (.aload_n 0, 1) := dk_42 (dk_at dksX8_choices_1 7 rfl rfl)
theorem dX8_choices_31 : decode cX8_choices 31 = .ok (.iload_n 1, 1) := dk_27 (dk_at dksX8_choices_1 8 rfl rfl)
theorem dX8_choices_32 : decode cX8_choices 32 = .ok (.iload_n 2, 1) := dk_28 (dk_at dksX8_choices_1 9 rfl rfl)
theorem dX8_choices_33 : decode cX8_choices 33 = .ok (.invokevirtual 387, 3) := dk_182 1 131 (dk_at dksX8_choices_1 10 rfl rfl)
theorem dX8_choices_36 : decode cX8_choices 36 = .ok (.iload 4, 2) := dk_21 4 (dk_at dksX8_choices_1 13 rfl rfl)
theorem dX8_choices_38 : decode cX8_choices 38 = .ok (.invokevirtual 390, 3) := dk_182 1 134 (dk_at dksX8_choices_1 15 rfl rfl)
theorem dX8_choices_41 : decode cX8_choices 41 = .ok (.ifCond .le 10, 3) := dk_158 0 10 (dk_at dksX8_choices_1 18 rfl rfl)
theorem dX8_choices_44 : decode cX8_choices 44 = .ok (.iconst 1, 1) := dk_4 (dk_at dksX8_choices_1 21 rfl rfl)
theorem dX8_choices_45 : decode cX8_choices 45 = .ok (.iload 4, 2) := dk_21 4 (dk_at dksX8_choices_1 22 rfl rfl)
theorem dX8_choices_47 : decode cX8_choices 47 = .ok (.ishl, 1) := dk_120 (dk_at dksX8_choices_2 0 rfl rfl)
theorem dX8_choices_48 : decode cX8_choices 48 = .ok (.goto 4, 3) := dk_167 0 4 (dk_at dksX8_choices_2 1 rfl rfl)
theorem dX8_choices_51 : decode cX8_choices 51 = .ok (.iconst 0, 1) := dk_3 (dk_at dksX8_choices_2 4 rfl rfl)
theorem dX8_choices_52 : decode cX8_choices 52 = .ok (.ior, 1) := dk_128 (dk_at dksX8_choices_2 5 rfl rfl)
theorem dX8_choices_53 : decode cX8_choices 53 = .ok (.istore_n 3, 1) := dk_62 (dk_at dksX8_choices_2 6 rfl rfl)
theorem dX8_choices_54 : decode cX8_choices 54 = .ok (.iinc 4 1, 3) := dk_132 4 1 (dk_at dksX8_choices_2 7 rfl rfl)
theorem dX8_choices_57 : decode cX8_choices 57 = .ok (.goto (-52), 3) := dk_167 255 204 (dk_at dksX8_choices_2 10 rfl rfl)
theorem dX8_choices_60 : decode cX8_choices 60 = .ok (.iload_n 3, 1) := dk_29 (dk_at dksX8_choices_2 13 rfl rfl)
theorem dX8_choices_61 : decode cX8_choices 61 = .ok (.ireturn, 1) := dk_172 (dk_at dksX8_choices_2 14 rfl rfl)
abbrev cX8_wind : ByteArray := prog_18_method_100_code
def yX8_wind : MethodName := ⟨RX8, "wind", "(I)I"⟩
def dkwX8_wind_1 : List UInt8 := [180, 0, 13, 16, 13, 27, 96, 46, 172]
abbrev dktX8_wind_1 : List UInt8 := dkwX8_wind_1 ++ []
def dkwX8_wind_0 : List UInt8 := [42, 3, 181, 0, 3, 42, 27, 184, 1, 50, 4, 182, 1, 9, 153, 0, 7, 3, 167, 0, 12, 42]
abbrev dktX8_wind_0 : List UInt8 := dkwX8_wind_0 ++ dktX8_wind_1
theorem dksX8_wind_0 : cX8_wind.data.toList.drop 0 = dktX8_wind_0 := by decide +kernel
theorem dksX8_wind_1 : cX8_wind.data.toList.drop 22 = dktX8_wind_1 := dk_seg dksX8_wind_0 22 rfl rfl
theorem dX8_wind_0 : decode cX8_wind 0 = .ok (.aload_n 0, 1) := dk_42 (dk_at dksX8_wind_0 0 rfl rfl)
theorem dX8_wind_1 : decode cX8_wind 1 = .ok (.iconst 0, 1) := dk_3 (dk_at dksX8_wind_0 1 rfl rfl)
theorem dX8_wind_2 : decode cX8_wind 2 = .ok (.putfield 3, 3) := dk_181 0 3 (dk_at dksX8_wind_0 2 rfl rfl)
theorem dX8_wind_5 : decode cX8_wind 5 = .ok (.aload_n 0, 1) := dk_42 (dk_at dksX8_wind_0 5 rfl rfl)
theorem dX8_wind_6 : decode cX8_wind 6 = .ok (.iload_n 1, 1) := dk_27 (dk_at dksX8_wind_0 6 rfl rfl)
theorem dX8_wind_7 : decode cX8_wind 7 = .ok (.invokestatic 306, 3) := dk_184 1 50 (dk_at dksX8_wind_0 7 rfl rfl)
theorem dX8_wind_10 : decode cX8_wind 10 = .ok (.iconst 1, 1) := dk_4 (dk_at dksX8_wind_0 10 rfl rfl)
theorem dX8_wind_11 : decode cX8_wind 11 = .ok (.invokevirtual 265, 3) := dk_182 1 9 (dk_at dksX8_wind_0 11 rfl rfl)
theorem dX8_wind_14 : decode cX8_wind 14 = .ok (.ifCond .eq 7, 3) := dk_153 0 7 (dk_at dksX8_wind_0 14 rfl rfl)
theorem dX8_wind_17 : decode cX8_wind 17 = .ok (.iconst 0, 1) := dk_3 (dk_at dksX8_wind_0 17 rfl rfl)
theorem dX8_wind_18 : decode cX8_wind 18 = .ok (.goto 12, 3) := dk_167 0 12 (dk_at dksX8_wind_0 18 rfl rfl)
theorem dX8_wind_21 : decode cX8_wind 21 = .ok (.aload_n 0, 1) := dk_42 (dk_at dksX8_wind_0 21 rfl rfl)
theorem dX8_wind_22 : decode cX8_wind 22 = .ok (.getfield 13, 3) := dk_180 0 13 (dk_at dksX8_wind_1 0 rfl rfl)
theorem dX8_wind_25 : decode cX8_wind 25 = .ok (.bipush 13, 2) := dk_16 13 (dk_at dksX8_wind_1 3 rfl rfl)
theorem dX8_wind_27 : decode cX8_wind 27 = .ok (.iload_n 1, 1) := dk_27 (dk_at dksX8_wind_1 5 rfl rfl)
theorem dX8_wind_28 : decode cX8_wind 28 = .ok (.iadd, 1) := dk_96 (dk_at dksX8_wind_1 6 rfl rfl)
theorem dX8_wind_29 : decode cX8_wind 29 = .ok (.iaload, 1) := dk_46 (dk_at dksX8_wind_1 7 rfl rfl)
theorem dX8_wind_30 : decode cX8_wind 30 = .ok (.ireturn, 1) := dk_172 (dk_at dksX8_wind_1 8 rfl rfl)
abbrev cX8_surest : ByteArray := prog_18_method_102_code
def yX8_surest : MethodName := ⟨RX8, "surest", "(IZZ)I"⟩
def dkwX8_surest_6 : List UInt8 := [182, 1, 154, 54, 7, 132, 8, 1, 167, 255, 204, 29, 153, 0, 8, 21, 7, 167, 0, 5, 21, 6, 172]
abbrev dktX8_surest_6 : List UInt8 := dkwX8_surest_6 ++ []
def dkwX8_surest_5 : List UInt8 := [21, 8, 21, 5, 182, 1, 154, 21, 7, 163, 0, 6, 167, 0, 17, 21, 8, 54, 6, 42, 21, 8, 21, 5]
abbrev dktX8_surest_5 : List UInt8 := dkwX8_surest_5 ++ dktX8_surest_6
def dkwX8_surest_4 : List UInt8 := [3, 54, 8, 21, 8, 42, 182, 0, 74, 162, 0, 49, 21, 4, 21, 8, 184, 0, 127, 153, 0, 33, 42]
abbrev dktX8_surest_4 : List UInt8 := dkwX8_surest_4 ++ dktX8_surest_5
def dkwX8_surest_3 : List UInt8 := [54, 5, 21, 4, 153, 0, 8, 21, 5, 154, 0, 5, 2, 172, 42, 182, 1, 122, 2, 54, 6, 2, 54, 7]
abbrev dktX8_surest_3 : List UInt8 := dkwX8_surest_3 ++ dktX8_surest_4
def dkwX8_surest_2 : List UInt8 := [167, 0, 4, 3, 182, 1, 143, 54, 4, 42, 27, 28, 153, 0, 7, 3, 167, 0, 4, 4, 182, 1, 143]
abbrev dktX8_surest_2 : List UInt8 := dkwX8_surest_2 ++ dktX8_surest_3
def dkwX8_surest_1 : List UInt8 := [154, 0, 7, 4, 167, 0, 4, 3, 5, 182, 1, 9, 153, 0, 5, 3, 172, 42, 27, 28, 153, 0, 7, 4]
abbrev dktX8_surest_1 : List UInt8 := dkwX8_surest_1 ++ dktX8_surest_2
def dkwX8_surest_0 : List UInt8 := [42, 3, 181, 0, 3, 42, 42, 27, 182, 1, 140, 4, 182, 1, 9, 154, 0, 24, 42, 42, 27, 182, 1, 151]
abbrev dktX8_surest_0 : List UInt8 := dkwX8_surest_0 ++ dktX8_surest_1
theorem dksX8_surest_0 : cX8_surest.data.toList.drop 0 = dktX8_surest_0 := by decide +kernel
theorem dksX8_surest_1 : cX8_surest.data.toList.drop 24 = dktX8_surest_1 := dk_seg dksX8_surest_0 24 rfl rfl
theorem dksX8_surest_2 : cX8_surest.data.toList.drop 48 = dktX8_surest_2 := dk_seg dksX8_surest_1 24 rfl rfl
theorem dksX8_surest_3 : cX8_surest.data.toList.drop 71 = dktX8_surest_3 := dk_seg dksX8_surest_2 23 rfl rfl
theorem dksX8_surest_4 : cX8_surest.data.toList.drop 95 = dktX8_surest_4 := dk_seg dksX8_surest_3 24 rfl rfl
theorem dksX8_surest_5 : cX8_surest.data.toList.drop 118 = dktX8_surest_5 := dk_seg dksX8_surest_4 23 rfl rfl
theorem dksX8_surest_6 : cX8_surest.data.toList.drop 142 = dktX8_surest_6 := dk_seg dksX8_surest_5 24 rfl rfl
theorem dX8_surest_0 : decode cX8_surest 0 = .ok (.aload_n 0, 1) := dk_42 (dk_at dksX8_surest_0 0 rfl rfl)
theorem dX8_surest_1 : decode cX8_surest 1 = .ok (.iconst 0, 1) := dk_3 (dk_at dksX8_surest_0 1 rfl rfl)
theorem dX8_surest_2 : decode cX8_surest 2 = .ok (.putfield 3, 3) := dk_181 0 3 (dk_at dksX8_surest_0 2 rfl rfl)
theorem dX8_surest_5 : decode cX8_surest 5 = .ok (.aload_n 0, 1) := dk_42 (dk_at dksX8_surest_0 5 rfl rfl)
theorem dX8_surest_6 : decode cX8_surest 6 = .ok (.aload_n 0, 1) := dk_42 (dk_at dksX8_surest_0 6 rfl rfl)
theorem dX8_surest_7 : decode cX8_surest 7 = .ok (.iload_n 1, 1) := dk_27 (dk_at dksX8_surest_0 7 rfl rfl)
theorem dX8_surest_8 : decode cX8_surest 8 = .ok (.invokevirtual 396, 3) := dk_182 1 140 (dk_at dksX8_surest_0 8 rfl rfl)
theorem dX8_surest_11 : decode cX8_surest 11 = .ok (.iconst 1, 1) := dk_4 (dk_at dksX8_surest_0 11 rfl rfl)
theorem dX8_surest_12 : decode cX8_surest 12 = .ok (.invokevirtual 265, 3) := dk_182 1 9 (dk_at dksX8_surest_0 12 rfl rfl)
theorem dX8_surest_15 : decode cX8_surest 15 = .ok (.ifCond .ne 24, 3) := dk_154 0 24 (dk_at dksX8_surest_0 15 rfl rfl)
theorem dX8_surest_18 : decode cX8_surest 18 = .ok (.aload_n 0, 1) := dk_42 (dk_at dksX8_surest_0 18 rfl rfl)
theorem dX8_surest_19 : decode cX8_surest 19 = .ok (.aload_n 0, 1) := dk_42 (dk_at dksX8_surest_0 19 rfl rfl)
theorem dX8_surest_20 : decode cX8_surest 20 = .ok (.iload_n 1, 1) := dk_27 (dk_at dksX8_surest_0 20 rfl rfl)
theorem dX8_surest_21 : decode cX8_surest 21 = .ok (.invokevirtual 407, 3) := dk_182 1 151 (dk_at dksX8_surest_0 21 rfl rfl)
theorem dX8_surest_24 : decode cX8_surest 24 = .ok (.ifCond .ne 7, 3) := dk_154 0 7 (dk_at dksX8_surest_1 0 rfl rfl)
theorem dX8_surest_27 : decode cX8_surest 27 = .ok (.iconst 1, 1) := dk_4 (dk_at dksX8_surest_1 3 rfl rfl)
theorem dX8_surest_28 : decode cX8_surest 28 = .ok (.goto 4, 3) := dk_167 0 4 (dk_at dksX8_surest_1 4 rfl rfl)
theorem dX8_surest_31 : decode cX8_surest 31 = .ok (.iconst 0, 1) := dk_3 (dk_at dksX8_surest_1 7 rfl rfl)
theorem dX8_surest_32 : decode cX8_surest 32 = .ok (.iconst 2, 1) := dk_5 (dk_at dksX8_surest_1 8 rfl rfl)
theorem dX8_surest_33 : decode cX8_surest 33 = .ok (.invokevirtual 265, 3) := dk_182 1 9 (dk_at dksX8_surest_1 9 rfl rfl)
theorem dX8_surest_36 : decode cX8_surest 36 = .ok (.ifCond .eq 5, 3) := dk_153 0 5 (dk_at dksX8_surest_1 12 rfl rfl)
theorem dX8_surest_39 : decode cX8_surest 39 = .ok (.iconst 0, 1) := dk_3 (dk_at dksX8_surest_1 15 rfl rfl)
theorem dX8_surest_40 : decode cX8_surest 40 = .ok (.ireturn, 1) := dk_172 (dk_at dksX8_surest_1 16 rfl rfl)
theorem dX8_surest_41 : decode cX8_surest 41 = .ok (.aload_n 0, 1) := dk_42 (dk_at dksX8_surest_1 17 rfl rfl)
theorem dX8_surest_42 : decode cX8_surest 42 = .ok (.iload_n 1, 1) := dk_27 (dk_at dksX8_surest_1 18 rfl rfl)
theorem dX8_surest_43 : decode cX8_surest 43 = .ok (.iload_n 2, 1) := dk_28 (dk_at dksX8_surest_1 19 rfl rfl)
theorem dX8_surest_44 : decode cX8_surest 44 = .ok (.ifCond .eq 7, 3) := dk_153 0 7 (dk_at dksX8_surest_1 20 rfl rfl)
theorem dX8_surest_47 : decode cX8_surest 47 = .ok (.iconst 1, 1) := dk_4 (dk_at dksX8_surest_1 23 rfl rfl)
theorem dX8_surest_48 : decode cX8_surest 48 = .ok (.goto 4, 3) := dk_167 0 4 (dk_at dksX8_surest_2 0 rfl rfl)
theorem dX8_surest_51 : decode cX8_surest 51 = .ok (.iconst 0, 1) := dk_3 (dk_at dksX8_surest_2 3 rfl rfl)
theorem dX8_surest_52 : decode cX8_surest 52 = .ok (.invokevirtual 399, 3) := dk_182 1 143 (dk_at dksX8_surest_2 4 rfl rfl)
theorem dX8_surest_55 : decode cX8_surest 55 = .ok (.istore 4, 2) := dk_54 4 (dk_at dksX8_surest_2 7 rfl rfl)
theorem dX8_surest_57 : decode cX8_surest 57 = .ok (.aload_n 0, 1) := dk_42 (dk_at dksX8_surest_2 9 rfl rfl)
theorem dX8_surest_58 : decode cX8_surest 58 = .ok (.iload_n 1, 1) := dk_27 (dk_at dksX8_surest_2 10 rfl rfl)
theorem dX8_surest_59 : decode cX8_surest 59 = .ok (.iload_n 2, 1) := dk_28 (dk_at dksX8_surest_2 11 rfl rfl)
theorem dX8_surest_60 : decode cX8_surest 60 = .ok (.ifCond .eq 7, 3) := dk_153 0 7 (dk_at dksX8_surest_2 12 rfl rfl)
theorem dX8_surest_63 : decode cX8_surest 63 = .ok (.iconst 0, 1) := dk_3 (dk_at dksX8_surest_2 15 rfl rfl)
theorem dX8_surest_64 : decode cX8_surest 64 = .ok (.goto 4, 3) := dk_167 0 4 (dk_at dksX8_surest_2 16 rfl rfl)
theorem dX8_surest_67 : decode cX8_surest 67 = .ok (.iconst 1, 1) := dk_4 (dk_at dksX8_surest_2 19 rfl rfl)
theorem dX8_surest_68 : decode cX8_surest 68 = .ok (.invokevirtual 399, 3) := dk_182 1 143 (dk_at dksX8_surest_2 20 rfl rfl)
theorem dX8_surest_71 : decode cX8_surest 71 = .ok (.istore 5, 2) := dk_54 5 (dk_at dksX8_surest_3 0 rfl rfl)
theorem dX8_surest_73 : decode cX8_surest 73 = .ok (.iload 4, 2) := dk_21 4 (dk_at dksX8_surest_3 2 rfl rfl)
theorem dX8_surest_75 : decode cX8_surest 75 = .ok (.ifCond .eq 8, 3) := dk_153 0 8 (dk_at dksX8_surest_3 4 rfl rfl)
theorem dX8_surest_78 : decode cX8_surest 78 = .ok (.iload 5, 2) := dk_21 5 (dk_at dksX8_surest_3 7 rfl rfl)
theorem dX8_surest_80 : decode cX8_surest 80 = .ok (.ifCond .ne 5, 3) := dk_154 0 5 (dk_at dksX8_surest_3 9 rfl rfl)
theorem dX8_surest_83 : decode cX8_surest 83 = .ok (.iconst (-1), 1) := dk_2 (dk_at dksX8_surest_3 12 rfl rfl)
theorem dX8_surest_84 : decode cX8_surest 84 = .ok (.ireturn, 1) := dk_172 (dk_at dksX8_surest_3 13 rfl rfl)
theorem dX8_surest_85 : decode cX8_surest 85 = .ok (.aload_n 0, 1) := dk_42 (dk_at dksX8_surest_3 14 rfl rfl)
theorem dX8_surest_86 : decode cX8_surest 86 = .ok (.invokevirtual 378, 3) := dk_182 1 122 (dk_at dksX8_surest_3 15 rfl rfl)
theorem dX8_surest_89 : decode cX8_surest 89 = .ok (.iconst (-1), 1) := dk_2 (dk_at dksX8_surest_3 18 rfl rfl)
theorem dX8_surest_90 : decode cX8_surest 90 = .ok (.istore 6, 2) := dk_54 6 (dk_at dksX8_surest_3 19 rfl rfl)
theorem dX8_surest_92 : decode cX8_surest 92 = .ok (.iconst (-1), 1) := dk_2 (dk_at dksX8_surest_3 21 rfl rfl)
theorem dX8_surest_93 : decode cX8_surest 93 = .ok (.istore 7, 2) := dk_54 7 (dk_at dksX8_surest_3 22 rfl rfl)
theorem dX8_surest_95 : decode cX8_surest 95 = .ok (.iconst 0, 1) := dk_3 (dk_at dksX8_surest_4 0 rfl rfl)
theorem dX8_surest_96 : decode cX8_surest 96 = .ok (.istore 8, 2) := dk_54 8 (dk_at dksX8_surest_4 1 rfl rfl)
theorem dX8_surest_98 : decode cX8_surest 98 = .ok (.iload 8, 2) := dk_21 8 (dk_at dksX8_surest_4 3 rfl rfl)
theorem dX8_surest_100 : decode cX8_surest 100 = .ok (.aload_n 0, 1) := dk_42 (dk_at dksX8_surest_4 5 rfl rfl)
theorem dX8_surest_101 : decode cX8_surest 101 = .ok (.invokevirtual 74, 3) := dk_182 0 74 (dk_at dksX8_surest_4 6 rfl rfl)
theorem dX8_surest_104 : decode cX8_surest 104 = .ok (.if_icmp .ge 49, 3) := dk_162 0 49 (dk_at dksX8_surest_4 9 rfl rfl)
theorem dX8_surest_107 : decode cX8_surest 107 = .ok (.iload 4, 2) := dk_21 4 (dk_at dksX8_surest_4 12 rfl rfl)
theorem dX8_surest_109 : decode cX8_surest 109 = .ok (.iload 8, 2) := dk_21 8 (dk_at dksX8_surest_4 14 rfl rfl)
theorem dX8_surest_111 : decode cX8_surest 111 = .ok (.invokestatic 127, 3) := dk_184 0 127 (dk_at dksX8_surest_4 16 rfl rfl)
theorem dX8_surest_114 : decode cX8_surest 114 = .ok (.ifCond .eq 33, 3) := dk_153 0 33 (dk_at dksX8_surest_4 19 rfl rfl)
theorem dX8_surest_117 : decode cX8_surest 117 = .ok (.aload_n 0, 1) := dk_42 (dk_at dksX8_surest_4 22 rfl rfl)
theorem dX8_surest_118 : decode cX8_surest 118 = .ok (.iload 8, 2) := dk_21 8 (dk_at dksX8_surest_5 0 rfl rfl)
theorem dX8_surest_120 : decode cX8_surest 120 = .ok (.iload 5, 2) := dk_21 5 (dk_at dksX8_surest_5 2 rfl rfl)
theorem dX8_surest_122 : decode cX8_surest 122 = .ok (.invokevirtual 410, 3) := dk_182 1 154 (dk_at dksX8_surest_5 4 rfl rfl)
theorem dX8_surest_125 : decode cX8_surest 125 = .ok (.iload 7, 2) := dk_21 7 (dk_at dksX8_surest_5 7 rfl rfl)
theorem dX8_surest_127 : decode cX8_surest 127 = .ok (.if_icmp .gt 6, 3) := dk_163 0 6 (dk_at dksX8_surest_5 9 rfl rfl)
theorem dX8_surest_130 : decode cX8_surest 130 = .ok (.goto 17, 3) := dk_167 0 17 (dk_at dksX8_surest_5 12 rfl rfl)
theorem dX8_surest_133 : decode cX8_surest 133 = .ok (.iload 8, 2) := dk_21 8 (dk_at dksX8_surest_5 15 rfl rfl)
theorem dX8_surest_135 : decode cX8_surest 135 = .ok (.istore 6, 2) := dk_54 6 (dk_at dksX8_surest_5 17 rfl rfl)
theorem dX8_surest_137 : decode cX8_surest 137 = .ok (.aload_n 0, 1) := dk_42 (dk_at dksX8_surest_5 19 rfl rfl)
theorem dX8_surest_138 : decode cX8_surest 138 = .ok (.iload 8, 2) := dk_21 8 (dk_at dksX8_surest_5 20 rfl rfl)
theorem dX8_surest_140 : decode cX8_surest 140 = .ok (.iload 5, 2) := dk_21 5 (dk_at dksX8_surest_5 22 rfl rfl)
theorem dX8_surest_142 : decode cX8_surest 142 = .ok (.invokevirtual 410, 3) := dk_182 1 154 (dk_at dksX8_surest_6 0 rfl rfl)
theorem dX8_surest_145 : decode cX8_surest 145 = .ok (.istore 7, 2) := dk_54 7 (dk_at dksX8_surest_6 3 rfl rfl)
theorem dX8_surest_147 : decode cX8_surest 147 = .ok (.iinc 8 1, 3) := dk_132 8 1 (dk_at dksX8_surest_6 5 rfl rfl)
theorem dX8_surest_150 : decode cX8_surest 150 = .ok (.goto (-52), 3) := dk_167 255 204 (dk_at dksX8_surest_6 8 rfl rfl)
theorem dX8_surest_153 : decode cX8_surest 153 = .ok (.iload_n 3, 1) := dk_29 (dk_at dksX8_surest_6 11 rfl rfl)
theorem dX8_surest_154 : decode cX8_surest 154 = .ok (.ifCond .eq 8, 3) := dk_153 0 8 (dk_at dksX8_surest_6 12 rfl rfl)
theorem dX8_surest_157 : decode cX8_surest 157 = .ok (.iload 7, 2) := dk_21 7 (dk_at dksX8_surest_6 15 rfl rfl)
theorem dX8_surest_159 : decode cX8_surest 159 = .ok (.goto 5, 3) := dk_167 0 5 (dk_at dksX8_surest_6 17 rfl rfl)
theorem dX8_surest_162 : decode cX8_surest 162 = .ok (.iload 6, 2) := dk_21 6 (dk_at dksX8_surest_6 20 rfl rfl)
theorem dX8_surest_164 : decode cX8_surest 164 = .ok (.ireturn, 1) := dk_172 (dk_at dksX8_surest_6 22 rfl rfl)
abbrev cX8_isOpen : ByteArray := prog_18_method_95_code
def yX8_isOpen : MethodName := ⟨RX8, "isOpen", "(I)Z"⟩
def dkwX8_isOpen_0 : List UInt8 := [42, 27, 6, 182, 1, 131, 154, 0, 7, 4, 167, 0, 4, 3, 172]
abbrev dktX8_isOpen_0 : List UInt8 := dkwX8_isOpen_0 ++ []
theorem dksX8_isOpen_0 : cX8_isOpen.data.toList.drop 0 = dktX8_isOpen_0 := by decide +kernel
theorem dX8_isOpen_0 : decode cX8_isOpen 0 = .ok (.aload_n 0, 1) := dk_42 (dk_at dksX8_isOpen_0 0 rfl rfl)
theorem dX8_isOpen_1 : decode cX8_isOpen 1 = .ok (.iload_n 1, 1) := dk_27 (dk_at dksX8_isOpen_0 1 rfl rfl)
theorem dX8_isOpen_2 : decode cX8_isOpen 2 = .ok (.iconst 3, 1) := dk_6 (dk_at dksX8_isOpen_0 2 rfl rfl)
theorem dX8_isOpen_3 : decode cX8_isOpen 3 = .ok (.invokevirtual 387, 3) := dk_182 1 131 (dk_at dksX8_isOpen_0 3 rfl rfl)
theorem dX8_isOpen_6 : decode cX8_isOpen 6 = .ok (.ifCond .ne 7, 3) := dk_154 0 7 (dk_at dksX8_isOpen_0 6 rfl rfl)
theorem dX8_isOpen_9 : decode cX8_isOpen 9 = .ok (.iconst 1, 1) := dk_4 (dk_at dksX8_isOpen_0 9 rfl rfl)
theorem dX8_isOpen_10 : decode cX8_isOpen 10 = .ok (.goto 4, 3) := dk_167 0 4 (dk_at dksX8_isOpen_0 10 rfl rfl)
theorem dX8_isOpen_13 : decode cX8_isOpen 13 = .ok (.iconst 0, 1) := dk_3 (dk_at dksX8_isOpen_0 13 rfl rfl)
theorem dX8_isOpen_14 : decode cX8_isOpen 14 = .ok (.ireturn, 1) := dk_172 (dk_at dksX8_isOpen_0 14 rfl rfl)
abbrev cX8_leastBy : ByteArray := prog_18_method_101_code
def yX8_leastBy : MethodName := ⟨RX8, "leastBy", "(II)I"⟩
def dkwX8_leastBy_2 : List UInt8 := [167, 255, 219, 20, 1, 147, 29, 133, 105, 20, 1, 149, 109, 136, 172]
abbrev dktX8_leastBy_2 : List UInt8 := dkwX8_leastBy_2 ++ []
def dkwX8_leastBy_1 : List UInt8 := [153, 0, 17, 29, 42, 27, 21, 4, 182, 1, 125, 184, 1, 39, 167, 0, 4, 29, 62, 132, 4, 1]
abbrev dktX8_leastBy_1 : List UInt8 := dkwX8_leastBy_1 ++ dktX8_leastBy_2
def dkwX8_leastBy_0 : List UInt8 := [19, 1, 146, 62, 3, 54, 4, 21, 4, 42, 182, 0, 74, 162, 0, 34, 28, 21, 4, 184, 0, 127]
abbrev dktX8_leastBy_0 : List UInt8 := dkwX8_leastBy_0 ++ dktX8_leastBy_1
theorem dksX8_leastBy_0 : cX8_leastBy.data.toList.drop 0 = dktX8_leastBy_0 := by decide +kernel
theorem dksX8_leastBy_1 : cX8_leastBy.data.toList.drop 22 = dktX8_leastBy_1 := dk_seg dksX8_leastBy_0 22 rfl rfl
theorem dksX8_leastBy_2 : cX8_leastBy.data.toList.drop 44 = dktX8_leastBy_2 := dk_seg dksX8_leastBy_1 22 rfl rfl
theorem dX8_leastBy_0 : decode cX8_leastBy 0 = .ok (.ldc_w 402, 3) := dk_19 1 146 (dk_at dksX8_leastBy_0 0 rfl rfl)
theorem dX8_leastBy_3 : decode cX8_leastBy 3 = .ok (.istore_n 3, 1) := dk_62 (dk_at dksX8_leastBy_0 3 rfl rfl)
theorem dX8_leastBy_4 : decode cX8_leastBy 4 = .ok (.iconst 0, 1) := dk_3 (dk_at dksX8_leastBy_0 4 rfl rfl)
theorem dX8_leastBy_5 : decode cX8_leastBy 5 = .ok (.istore 4, 2) := dk_54 4 (dk_at dksX8_leastBy_0 5 rfl rfl)
theorem dX8_leastBy_7 : decode cX8_leastBy 7 = .ok (.iload 4, 2) := dk_21 4 (dk_at dksX8_leastBy_0 7 rfl rfl)
theorem dX8_leastBy_9 : decode cX8_leastBy 9 = .ok (.aload_n 0, 1) := dk_42 (dk_at dksX8_leastBy_0 9 rfl rfl)
theorem dX8_leastBy_10 : decode cX8_leastBy 10 = .ok (.invokevirtual 74, 3) := dk_182 0 74 (dk_at dksX8_leastBy_0 10 rfl rfl)
theorem dX8_leastBy_13 : decode cX8_leastBy 13 = .ok (.if_icmp .ge 34, 3) := dk_162 0 34 (dk_at dksX8_leastBy_0 13 rfl rfl)
theorem dX8_leastBy_16 : decode cX8_leastBy 16 = .ok (.iload_n 2, 1) := dk_28 (dk_at dksX8_leastBy_0 16 rfl rfl)
theorem dX8_leastBy_17 : decode cX8_leastBy 17 = .ok (.iload 4, 2) := dk_21 4 (dk_at dksX8_leastBy_0 17 rfl rfl)
theorem dX8_leastBy_19 : decode cX8_leastBy 19 = .ok (.invokestatic 127, 3) := dk_184 0 127 (dk_at dksX8_leastBy_0 19 rfl rfl)
theorem dX8_leastBy_22 : decode cX8_leastBy 22 = .ok (.ifCond .eq 17, 3) := dk_153 0 17 (dk_at dksX8_leastBy_1 0 rfl rfl)
theorem dX8_leastBy_25 : decode cX8_leastBy 25 = .ok (.iload_n 3, 1) := dk_29 (dk_at dksX8_leastBy_1 3 rfl rfl)
theorem dX8_leastBy_26 : decode cX8_leastBy 26 = .ok (.aload_n 0, 1) := dk_42 (dk_at dksX8_leastBy_1 4 rfl rfl)
theorem dX8_leastBy_27 : decode cX8_leastBy 27 = .ok (.iload_n 1, 1) := dk_27 (dk_at dksX8_leastBy_1 5 rfl rfl)
theorem dX8_leastBy_28 : decode cX8_leastBy 28 = .ok (.iload 4, 2) := dk_21 4 (dk_at dksX8_leastBy_1 6 rfl rfl)
theorem dX8_leastBy_30 : decode cX8_leastBy 30 = .ok (.invokevirtual 381, 3) := dk_182 1 125 (dk_at dksX8_leastBy_1 8 rfl rfl)
theorem dX8_leastBy_33 : decode cX8_leastBy 33 = .ok (.invokestatic 295, 3) := dk_184 1 39 (dk_at dksX8_leastBy_1 11 rfl rfl)
theorem dX8_leastBy_36 : decode cX8_leastBy 36 = .ok (.goto 4, 3) := dk_167 0 4 (dk_at dksX8_leastBy_1 14 rfl rfl)
theorem dX8_leastBy_39 : decode cX8_leastBy 39 = .ok (.iload_n 3, 1) := dk_29 (dk_at dksX8_leastBy_1 17 rfl rfl)
theorem dX8_leastBy_40 : decode cX8_leastBy 40 = .ok (.istore_n 3, 1) := dk_62 (dk_at dksX8_leastBy_1 18 rfl rfl)
theorem dX8_leastBy_41 : decode cX8_leastBy 41 = .ok (.iinc 4 1, 3) := dk_132 4 1 (dk_at dksX8_leastBy_1 19 rfl rfl)
theorem dX8_leastBy_44 : decode cX8_leastBy 44 = .ok (.goto (-37), 3) := dk_167 255 219 (dk_at dksX8_leastBy_2 0 rfl rfl)
theorem dX8_leastBy_47 : decode cX8_leastBy 47 = .ok (.ldc2_w 403, 3) := dk_20 1 147 (dk_at dksX8_leastBy_2 3 rfl rfl)
theorem dX8_leastBy_50 : decode cX8_leastBy 50 = .ok (.iload_n 3, 1) := dk_29 (dk_at dksX8_leastBy_2 6 rfl rfl)
theorem dX8_leastBy_51 : decode cX8_leastBy 51 = .ok (.i2l, 1) := dk_133 (dk_at dksX8_leastBy_2 7 rfl rfl)
theorem dX8_leastBy_52 : decode cX8_leastBy 52 = .ok (.lmul, 1) := dk_105 (dk_at dksX8_leastBy_2 8 rfl rfl)
theorem dX8_leastBy_53 : decode cX8_leastBy 53 = .ok (.ldc2_w 405, 3) := dk_20 1 149 (dk_at dksX8_leastBy_2 9 rfl rfl)
theorem dX8_leastBy_56 : decode cX8_leastBy 56 = .ok (.ldiv, 1) := dk_109 (dk_at dksX8_leastBy_2 12 rfl rfl)
theorem dX8_leastBy_57 : decode cX8_leastBy 57 = .ok (.l2i, 1) := dk_136 (dk_at dksX8_leastBy_2 13 rfl rfl)
theorem dX8_leastBy_58 : decode cX8_leastBy 58 = .ok (.ireturn, 1) := dk_172 (dk_at dksX8_leastBy_2 14 rfl rfl)
abbrev cX8_rests : ByteArray := prog_18_method_104_code
def yX8_rests : MethodName := ⟨RX8, "rests", "(IZ)I"⟩
def dkwX8_rests_7 : List UInt8 := [21, 5, 172]
abbrev dktX8_rests_7 : List UInt8 := dkwX8_rests_7 ++ []
def dkwX8_rests_6 : List UInt8 := [21, 8, 104, 21, 9, 96, 54, 6, 132, 7, 255, 167, 255, 174, 28, 153, 0, 8, 21, 6, 167, 0, 5]
abbrev dktX8_rests_6 : List UInt8 := dkwX8_rests_6 ++ dktX8_rests_7
def dkwX8_rests_5 : List UInt8 := [153, 0, 32, 42, 21, 9, 21, 8, 21, 4, 182, 1, 157, 154, 0, 6, 167, 0, 16, 132, 5, 1, 16, 10]
abbrev dktX8_rests_5 : List UInt8 := dkwX8_rests_5 ++ dktX8_rests_6
def dkwX8_rests_4 : List UInt8 := [153, 0, 54, 21, 4, 21, 9, 184, 0, 127, 153, 0, 44, 42, 21, 8, 21, 9, 29, 182, 1, 157]
abbrev dktX8_rests_4 : List UInt8 := dkwX8_rests_4 ++ dktX8_rests_5
def dkwX8_rests_3 : List UInt8 := [155, 0, 83, 21, 7, 16, 6, 108, 54, 8, 21, 7, 16, 6, 112, 54, 9, 29, 21, 8, 184, 0, 127]
abbrev dktX8_rests_3 : List UInt8 := dkwX8_rests_3 ++ dktX8_rests_4
def dkwX8_rests_2 : List UInt8 := [182, 1, 143, 62, 42, 27, 4, 182, 1, 143, 54, 4, 3, 54, 5, 2, 54, 6, 16, 35, 54, 7, 21, 7]
abbrev dktX8_rests_2 : List UInt8 := dkwX8_rests_2 ++ dktX8_rests_3
def dkwX8_rests_1 : List UInt8 := [154, 0, 7, 4, 167, 0, 4, 3, 5, 182, 1, 9, 153, 0, 5, 3, 172, 42, 182, 1, 122, 42, 27, 3]
abbrev dktX8_rests_1 : List UInt8 := dkwX8_rests_1 ++ dktX8_rests_2
def dkwX8_rests_0 : List UInt8 := [42, 3, 181, 0, 3, 42, 42, 27, 182, 1, 140, 4, 182, 1, 9, 154, 0, 24, 42, 42, 27, 182, 1, 151]
abbrev dktX8_rests_0 : List UInt8 := dkwX8_rests_0 ++ dktX8_rests_1
theorem dksX8_rests_0 : cX8_rests.data.toList.drop 0 = dktX8_rests_0 := by decide +kernel
theorem dksX8_rests_1 : cX8_rests.data.toList.drop 24 = dktX8_rests_1 := dk_seg dksX8_rests_0 24 rfl rfl
theorem dksX8_rests_2 : cX8_rests.data.toList.drop 48 = dktX8_rests_2 := dk_seg dksX8_rests_1 24 rfl rfl
theorem dksX8_rests_3 : cX8_rests.data.toList.drop 72 = dktX8_rests_3 := dk_seg dksX8_rests_2 24 rfl rfl
theorem dksX8_rests_4 : cX8_rests.data.toList.drop 95 = dktX8_rests_4 := dk_seg dksX8_rests_3 23 rfl rfl
theorem dksX8_rests_5 : cX8_rests.data.toList.drop 117 = dktX8_rests_5 := dk_seg dksX8_rests_4 22 rfl rfl
theorem dksX8_rests_6 : cX8_rests.data.toList.drop 141 = dktX8_rests_6 := dk_seg dksX8_rests_5 24 rfl rfl
theorem dksX8_rests_7 : cX8_rests.data.toList.drop 164 = dktX8_rests_7 := dk_seg dksX8_rests_6 23 rfl rfl
theorem dX8_rests_0 : decode cX8_rests 0 = .ok (.aload_n 0, 1) := dk_42 (dk_at dksX8_rests_0 0 rfl rfl)
theorem dX8_rests_1 : decode cX8_rests 1 = .ok (.iconst 0, 1) := dk_3 (dk_at dksX8_rests_0 1 rfl rfl)
theorem dX8_rests_2 : decode cX8_rests 2 = .ok (.putfield 3, 3) := dk_181 0 3 (dk_at dksX8_rests_0 2 rfl rfl)
theorem dX8_rests_5 : decode cX8_rests 5 = .ok (.aload_n 0, 1) := dk_42 (dk_at dksX8_rests_0 5 rfl rfl)
theorem dX8_rests_6 : decode cX8_rests 6 = .ok (.aload_n 0, 1) := dk_42 (dk_at dksX8_rests_0 6 rfl rfl)
theorem dX8_rests_7 : decode cX8_rests 7 = .ok (.iload_n 1, 1) := dk_27 (dk_at dksX8_rests_0 7 rfl rfl)
theorem dX8_rests_8 : decode cX8_rests 8 = .ok (.invokevirtual 396, 3) := dk_182 1 140 (dk_at dksX8_rests_0 8 rfl rfl)
theorem dX8_rests_11 : decode cX8_rests 11 = .ok (.iconst 1, 1) := dk_4 (dk_at dksX8_rests_0 11 rfl rfl)
theorem dX8_rests_12 : decode cX8_rests 12 = .ok (.invokevirtual 265, 3) := dk_182 1 9 (dk_at dksX8_rests_0 12 rfl rfl)
theorem dX8_rests_15 : decode cX8_rests 15 = .ok (.ifCond .ne 24, 3) := dk_154 0 24 (dk_at dksX8_rests_0 15 rfl rfl)
theorem dX8_rests_18 : decode cX8_rests 18 = .ok (.aload_n 0, 1) := dk_42 (dk_at dksX8_rests_0 18 rfl rfl)
theorem dX8_rests_19 : decode cX8_rests 19 = .ok (.aload_n 0, 1) := dk_42 (dk_at dksX8_rests_0 19 rfl rfl)
theorem dX8_rests_20 : decode cX8_rests 20 = .ok (.iload_n 1, 1) := dk_27 (dk_at dksX8_rests_0 20 rfl rfl)
theorem dX8_rests_21 : decode cX8_rests 21 = .ok (.invokevirtual 407, 3) := dk_182 1 151 (dk_at dksX8_rests_0 21 rfl rfl)
theorem dX8_rests_24 : decode cX8_rests 24 = .ok (.ifCond .ne 7, 3) := dk_154 0 7 (dk_at dksX8_rests_1 0 rfl rfl)
theorem dX8_rests_27 : decode cX8_rests 27 = .ok (.iconst 1, 1) := dk_4 (dk_at dksX8_rests_1 3 rfl rfl)
theorem dX8_rests_28 : decode cX8_rests 28 = .ok (.goto 4, 3) := dk_167 0 4 (dk_at dksX8_rests_1 4 rfl rfl)
theorem dX8_rests_31 : decode cX8_rests 31 = .ok (.iconst 0, 1) := dk_3 (dk_at dksX8_rests_1 7 rfl rfl)
theorem dX8_rests_32 : decode cX8_rests 32 = .ok (.iconst 2, 1) := dk_5 (dk_at dksX8_rests_1 8 rfl rfl)
theorem dX8_rests_33 : decode cX8_rests 33 = .ok (.invokevirtual 265, 3) := dk_182 1 9 (dk_at dksX8_rests_1 9 rfl rfl)
theorem dX8_rests_36 : decode cX8_rests 36 = .ok (.ifCond .eq 5, 3) := dk_153 0 5 (dk_at dksX8_rests_1 12 rfl rfl)
theorem dX8_rests_39 : decode cX8_rests 39 = .ok (.iconst 0, 1) := dk_3 (dk_at dksX8_rests_1 15 rfl rfl)
theorem dX8_rests_40 : decode cX8_rests 40 = .ok (.ireturn, 1) := dk_172 (dk_at dksX8_rests_1 16 rfl rfl)
theorem dX8_rests_41 : decode cX8_rests 41 = .ok (.aload_n 0, 1) := dk_42 (dk_at dksX8_rests_1 17 rfl rfl)
theorem dX8_rests_42 : decode cX8_rests 42 = .ok (.invokevirtual 378, 3) := dk_182 1 122 (dk_at dksX8_rests_1 18 rfl rfl)
theorem dX8_rests_45 : decode cX8_rests 45 = .ok (.aload_n 0, 1) := dk_42 (dk_at dksX8_rests_1 21 rfl rfl)
theorem dX8_rests_46 : decode cX8_rests 46 = .ok (.iload_n 1, 1) := dk_27 (dk_at dksX8_rests_1 22 rfl rfl)
theorem dX8_rests_47 : decode cX8_rests 47 = .ok (.iconst 0, 1) := dk_3 (dk_at dksX8_rests_1 23 rfl rfl)
theorem dX8_rests_48 : decode cX8_rests 48 = .ok (.invokevirtual 399, 3) := dk_182 1 143 (dk_at dksX8_rests_2 0 rfl rfl)
theorem dX8_rests_51 : decode cX8_rests 51 = .ok (.istore_n 3, 1) := dk_62 (dk_at dksX8_rests_2 3 rfl rfl)
theorem dX8_rests_52 : decode cX8_rests 52 = .ok (.aload_n 0, 1) := dk_42 (dk_at dksX8_rests_2 4 rfl rfl)
theorem dX8_rests_53 : decode cX8_rests 53 = .ok (.iload_n 1, 1) := dk_27 (dk_at dksX8_rests_2 5 rfl rfl)
theorem dX8_rests_54 : decode cX8_rests 54 = .ok (.iconst 1, 1) := dk_4 (dk_at dksX8_rests_2 6 rfl rfl)
theorem dX8_rests_55 : decode cX8_rests 55 = .ok (.invokevirtual 399, 3) := dk_182 1 143 (dk_at dksX8_rests_2 7 rfl rfl)
theorem dX8_rests_58 : decode cX8_rests 58 = .ok (.istore 4, 2) := dk_54 4 (dk_at dksX8_rests_2 10 rfl rfl)
theorem dX8_rests_60 : decode cX8_rests 60 = .ok (.iconst 0, 1) := dk_3 (dk_at dksX8_rests_2 12 rfl rfl)
theorem dX8_rests_61 : decode cX8_rests 61 = .ok (.istore 5, 2) := dk_54 5 (dk_at dksX8_rests_2 13 rfl rfl)
theorem dX8_rests_63 : decode cX8_rests 63 = .ok (.iconst (-1), 1) := dk_2 (dk_at dksX8_rests_2 15 rfl rfl)
theorem dX8_rests_64 : decode cX8_rests 64 = .ok (.istore 6, 2) := dk_54 6 (dk_at dksX8_rests_2 16 rfl rfl)
theorem dX8_rests_66 : decode cX8_rests 66 = .ok (.bipush 35, 2) := dk_16 35 (dk_at dksX8_rests_2 18 rfl rfl)
theorem dX8_rests_68 : decode cX8_rests 68 = .ok (.istore 7, 2) := dk_54 7 (dk_at dksX8_rests_2 20 rfl rfl)
theorem dX8_rests_70 : decode cX8_rests 70 = .ok (.iload 7, 2) := dk_21 7 (dk_at dksX8_rests_2 22 rfl rfl)
theorem dX8_rests_72 : decode cX8_rests 72 = .ok (.ifCond .lt 83, 3) := dk_155 0 83 (dk_at dksX8_rests_3 0 rfl rfl)
theorem dX8_rests_75 : decode cX8_rests 75 = .ok (.iload 7, 2) := dk_21 7 (dk_at dksX8_rests_3 3 rfl rfl)
theorem dX8_rests_77 : decode cX8_rests 77 = .ok (.bipush 6, 2) := dk_16 6 (dk_at dksX8_rests_3 5 rfl rfl)
theorem dX8_rests_79 : decode cX8_rests 79 = .ok (.idiv, 1) := dk_108 (dk_at dksX8_rests_3 7 rfl rfl)
theorem dX8_rests_80 : decode cX8_rests 80 = .ok (.istore 8, 2) := dk_54 8 (dk_at dksX8_rests_3 8 rfl rfl)
theorem dX8_rests_82 : decode cX8_rests 82 = .ok (.iload 7, 2) := dk_21 7 (dk_at dksX8_rests_3 10 rfl rfl)
theorem dX8_rests_84 : decode cX8_rests 84 = .ok (.bipush 6, 2) := dk_16 6 (dk_at dksX8_rests_3 12 rfl rfl)
theorem dX8_rests_86 : decode cX8_rests 86 = .ok (.irem, 1) := dk_112 (dk_at dksX8_rests_3 14 rfl rfl)
theorem dX8_rests_87 : decode cX8_rests 87 = .ok (.istore 9, 2) := dk_54 9 (dk_at dksX8_rests_3 15 rfl rfl)
theorem dX8_rests_89 : decode cX8_rests 89 = .ok (.iload_n 3, 1) := dk_29 (dk_at dksX8_rests_3 17 rfl rfl)
theorem dX8_rests_90 : decode cX8_rests 90 = .ok (.iload 8, 2) := dk_21 8 (dk_at dksX8_rests_3 18 rfl rfl)
theorem dX8_rests_92 : decode cX8_rests 92 = .ok (.invokestatic 127, 3) := dk_184 0 127 (dk_at dksX8_rests_3 20 rfl rfl)
theorem dX8_rests_95 : decode cX8_rests 95 = .ok (.ifCond .eq 54, 3) := dk_153 0 54 (dk_at dksX8_rests_4 0 rfl rfl)
theorem dX8_rests_98 : decode cX8_rests 98 = .ok (.iload 4, 2) := dk_21 4 (dk_at dksX8_rests_4 3 rfl rfl)
theorem dX8_rests_100 : decode cX8_rests 100 = .ok (.iload 9, 2) := dk_21 9 (dk_at dksX8_rests_4 5 rfl rfl)
theorem dX8_rests_102 : decode cX8_rests 102 = .ok (.invokestatic 127, 3) := dk_184 0 127 (dk_at dksX8_rests_4 7 rfl rfl)
theorem dX8_rests_105 : decode cX8_rests 105 = .ok (.ifCond .eq 44, 3) := dk_153 0 44 (dk_at dksX8_rests_4 10 rfl rfl)
theorem dX8_rests_108 : decode cX8_rests 108 = .ok (.aload_n 0, 1) := dk_42 (dk_at dksX8_rests_4 13 rfl rfl)
theorem dX8_rests_109 : decode cX8_rests 109 = .ok (.iload 8, 2) := dk_21 8 (dk_at dksX8_rests_4 14 rfl rfl)
theorem dX8_rests_111 : decode cX8_rests 111 = .ok (.iload 9, 2) := dk_21 9 (dk_at dksX8_rests_4 16 rfl rfl)
theorem dX8_rests_113 : decode cX8_rests 113 = .ok (.iload_n 3, 1) := dk_29 (dk_at dksX8_rests_4 18 rfl rfl)
theorem dX8_rests_114 : decode cX8_rests 114 = .ok (.invokevirtual 413, 3) := dk_182 1 157 (dk_at dksX8_rests_4 19 rfl rfl)
theorem dX8_rests_117 : decode cX8_rests 117 = .ok (.ifCond .eq 32, 3) := dk_153 0 32 (dk_at dksX8_rests_5 0 rfl rfl)
theorem dX8_rests_120 : decode cX8_rests 120 = .ok (.aload_n 0, 1) := dk_42 (dk_at dksX8_rests_5 3 rfl rfl)
theorem dX8_rests_121 : decode cX8_rests 121 = .ok (.iload 9, 2) := dk_21 9 (dk_at dksX8_rests_5 4 rfl rfl)
theorem dX8_rests_123 : decode cX8_rests 123 = .ok (.iload 8, 2) := dk_21 8 (dk_at dksX8_rests_5 6 rfl rfl)
theorem dX8_rests_125 : decode cX8_rests 125 = .ok (.iload 4, 2) := dk_21 4 (dk_at dksX8_rests_5 8 rfl rfl)
theorem dX8_rests_127 : decode cX8_rests 127 = .ok (.invokevirtual 413, 3) := dk_182 1 157 (dk_at dksX8_rests_5 10 rfl rfl)
theorem dX8_rests_130 : decode cX8_rests 130 = .ok (.ifCond .ne 6, 3) := dk_154 0 6 (dk_at dksX8_rests_5 13 rfl rfl)
theorem dX8_rests_133 : decode cX8_rests 133 = .ok (.goto 16, 3) := dk_167 0 16 (dk_at dksX8_rests_5 16 rfl rfl)
theorem dX8_rests_136 : decode cX8_rests 136 = .ok (.iinc 5 1, 3) := dk_132 5 1 (dk_at dksX8_rests_5 19 rfl rfl)
theorem dX8_rests_139 : decode cX8_rests 139 = .ok (.bipush 10, 2) := dk_16 10 (dk_at dksX8_rests_5 22 rfl rfl)
theorem dX8_rests_141 : decode cX8_rests 141 = .ok (.iload 8, 2) := dk_21 8 (dk_at dksX8_rests_6 0 rfl rfl)
theorem dX8_rests_143 : decode cX8_rests 143 = .ok (.imul, 1) := dk_104 (dk_at dksX8_rests_6 2 rfl rfl)
theorem dX8_rests_144 : decode cX8_rests 144 = .ok (.iload 9, 2) := dk_21 9 (dk_at dksX8_rests_6 3 rfl rfl)
theorem dX8_rests_146 : decode cX8_rests 146 = .ok (.iadd, 1) := dk_96 (dk_at dksX8_rests_6 5 rfl rfl)
theorem dX8_rests_147 : decode cX8_rests 147 = .ok (.istore 6, 2) := dk_54 6 (dk_at dksX8_rests_6 6 rfl rfl)
theorem dX8_rests_149 : decode cX8_rests 149 = .ok (.iinc 7 (-1), 3) := dk_132 7 255 (dk_at dksX8_rests_6 8 rfl rfl)
theorem dX8_rests_152 : decode cX8_rests 152 = .ok (.goto (-82), 3) := dk_167 255 174 (dk_at dksX8_rests_6 11 rfl rfl)
theorem dX8_rests_155 : decode cX8_rests 155 = .ok (.iload_n 2, 1) := dk_28 (dk_at dksX8_rests_6 14 rfl rfl)
theorem dX8_rests_156 : decode cX8_rests 156 = .ok (.ifCond .eq 8, 3) := dk_153 0 8 (dk_at dksX8_rests_6 15 rfl rfl)
theorem dX8_rests_159 : decode cX8_rests 159 = .ok (.iload 6, 2) := dk_21 6 (dk_at dksX8_rests_6 18 rfl rfl)
theorem dX8_rests_161 : decode cX8_rests 161 = .ok (.goto 5, 3) := dk_167 0 5 (dk_at dksX8_rests_6 20 rfl rfl)
theorem dX8_rests_164 : decode cX8_rests 164 = .ok (.iload 5, 2) := dk_21 5 (dk_at dksX8_rests_7 0 rfl rfl)
theorem dX8_rests_166 : decode cX8_rests 166 = .ok (.ireturn, 1) := dk_172 (dk_at dksX8_rests_7 2 rfl rfl)
abbrev cX8_isBestOf : ByteArray := prog_18_method_103_code
def yX8_isBestOf : MethodName := ⟨RX8, "isBestOf", "(III)Z"⟩
def dkwX8_isBestOf_1 : List UInt8 := [28, 182, 1, 125, 42, 27, 28, 182, 1, 125, 164, 0, 5, 3, 172, 132, 4, 1, 167, 255, 217, 4, 172]
abbrev dktX8_isBestOf_1 : List UInt8 := dkwX8_isBestOf_1 ++ []
def dkwX8_isBestOf_0 : List UInt8 := [3, 54, 4, 21, 4, 42, 182, 0, 74, 162, 0, 36, 29, 21, 4, 184, 0, 127, 153, 0, 21, 42, 21, 4]
abbrev dktX8_isBestOf_0 : List UInt8 := dkwX8_isBestOf_0 ++ dktX8_isBestOf_1
theorem dksX8_isBestOf_0 : cX8_isBestOf.data.toList.drop 0 = dktX8_isBestOf_0 := by decide +kernel
theorem dksX8_isBestOf_1 : cX8_isBestOf.data.toList.drop 24 = dktX8_isBestOf_1 := dk_seg dksX8_isBestOf_0 24 rfl rfl
theorem dX8_isBestOf_0 : decode cX8_isBestOf 0 = .ok (.iconst 0, 1) := dk_3 (dk_at dksX8_isBestOf_0 0 rfl rfl)
theorem dX8_isBestOf_1 : decode cX8_isBestOf 1 = .ok (.istore 4, 2) := dk_54 4 (dk_at dksX8_isBestOf_0 1 rfl rfl)
theorem dX8_isBestOf_3 : decode cX8_isBestOf 3 = .ok (.iload 4, 2) := dk_21 4 (dk_at dksX8_isBestOf_0 3 rfl rfl)
theorem dX8_isBestOf_5 : decode cX8_isBestOf 5 = .ok (.aload_n 0, 1) := dk_42 (dk_at dksX8_isBestOf_0 5 rfl rfl)
theorem dX8_isBestOf_6 : decode cX8_isBestOf 6 = .ok (.invokevirtual 74, 3) := dk_182 0 74 (dk_at dksX8_isBestOf_0 6 rfl rfl)
theorem dX8_isBestOf_9 : decode cX8_isBestOf 9 = .ok (.if_icmp .ge 36, 3) := dk_162 0 36 (dk_at dksX8_isBestOf_0 9 rfl rfl)
theorem dX8_isBestOf_12 : decode cX8_isBestOf 12 = .ok (.iload_n 3, 1) := dk_29 (dk_at dksX8_isBestOf_0 12 rfl rfl)
theorem dX8_isBestOf_13 : decode cX8_isBestOf 13 = .ok (.iload 4, 2) := dk_21 4 (dk_at dksX8_isBestOf_0 13 rfl rfl)
theorem dX8_isBestOf_15 : decode cX8_isBestOf 15 = .ok (.invokestatic 127, 3) := dk_184 0 127 (dk_at dksX8_isBestOf_0 15 rfl rfl)
theorem dX8_isBestOf_18 : decode cX8_isBestOf 18 = .ok (.ifCond .eq 21, 3) := dk_153 0 21 (dk_at dksX8_isBestOf_0 18 rfl rfl)
theorem dX8_isBestOf_21 : decode cX8_isBestOf 21 = .ok (.aload_n 0, 1) := dk_42 (dk_at dksX8_isBestOf_0 21 rfl rfl)
theorem dX8_isBestOf_22 : decode cX8_isBestOf 22 = .ok (.iload 4, 2) := dk_21 4 (dk_at dksX8_isBestOf_0 22 rfl rfl)
theorem dX8_isBestOf_24 : decode cX8_isBestOf 24 = .ok (.iload_n 2, 1) := dk_28 (dk_at dksX8_isBestOf_1 0 rfl rfl)
theorem dX8_isBestOf_25 : decode cX8_isBestOf 25 = .ok (.invokevirtual 381, 3) := dk_182 1 125 (dk_at dksX8_isBestOf_1 1 rfl rfl)
theorem dX8_isBestOf_28 : decode cX8_isBestOf 28 = .ok (.aload_n 0, 1) := dk_42 (dk_at dksX8_isBestOf_1 4 rfl rfl)
theorem dX8_isBestOf_29 : decode cX8_isBestOf 29 = .ok (.iload_n 1, 1) := dk_27 (dk_at dksX8_isBestOf_1 5 rfl rfl)
theorem dX8_isBestOf_30 : decode cX8_isBestOf 30 = .ok (.iload_n 2, 1) := dk_28 (dk_at dksX8_isBestOf_1 6 rfl rfl)
theorem dX8_isBestOf_31 : decode cX8_isBestOf 31 = .ok (.invokevirtual 381, 3) := dk_182 1 125 (dk_at dksX8_isBestOf_1 7 rfl rfl)
theorem dX8_isBestOf_34 : decode cX8_isBestOf 34 = .ok (.if_icmp .le 5, 3) := dk_164 0 5 (dk_at dksX8_isBestOf_1 10 rfl rfl)
theorem dX8_isBestOf_37 : decode cX8_isBestOf 37 = .ok (.iconst 0, 1) := dk_3 (dk_at dksX8_isBestOf_1 13 rfl rfl)
theorem dX8_isBestOf_38 : decode cX8_isBestOf 38 = .ok (.ireturn, 1) := dk_172 (dk_at dksX8_isBestOf_1 14 rfl rfl)
theorem dX8_isBestOf_39 : decode cX8_isBestOf 39 = .ok (.iinc 4 1, 3) := dk_132 4 1 (dk_at dksX8_isBestOf_1 15 rfl rfl)
theorem dX8_isBestOf_42 : decode cX8_isBestOf 42 = .ok (.goto (-39), 3) := dk_167 255 217 (dk_at dksX8_isBestOf_1 18 rfl rfl)
theorem dX8_isBestOf_45 : decode cX8_isBestOf 45 = .ok (.iconst 1, 1) := dk_4 (dk_at dksX8_isBestOf_1 21 rfl rfl)
theorem dX8_isBestOf_46 : decode cX8_isBestOf 46 = .ok (.ireturn, 1) := dk_172 (dk_at dksX8_isBestOf_1 22 rfl rfl)
abbrev cX8_fair : ByteArray := prog_18_method_105_code
def yX8_fair : MethodName := ⟨RX8, "fair", "(I)I"⟩
def dkwX8_fair_6 : List UInt8 := [21, 4, 104, 21, 5, 96, 61, 21, 6, 62, 132, 5, 1, 167, 255, 170, 132, 4, 1, 167, 255, 152, 28, 172]
abbrev dktX8_fair_6 : List UInt8 := dkwX8_fair_6 ++ []
def dkwX8_fair_5 : List UInt8 := [21, 5, 21, 4, 182, 1, 125, 100, 184, 1, 161, 54, 6, 21, 6, 29, 161, 0, 6, 167, 0, 15, 16, 10]
abbrev dktX8_fair_5 : List UInt8 := dkwX8_fair_5 ++ dktX8_fair_6
def dkwX8_fair_4 : List UInt8 := [182, 1, 143, 21, 5, 184, 0, 127, 154, 0, 6, 167, 0, 46, 42, 21, 4, 21, 5, 182, 1, 125, 42]
abbrev dktX8_fair_4 : List UInt8 := dkwX8_fair_4 ++ dktX8_fair_5
def dkwX8_fair_3 : List UInt8 := [182, 0, 74, 162, 0, 83, 42, 27, 3, 182, 1, 143, 21, 4, 184, 0, 127, 153, 0, 63, 42, 27, 4]
abbrev dktX8_fair_3 : List UInt8 := dkwX8_fair_3 ++ dktX8_fair_4
def dkwX8_fair_2 : List UInt8 := [19, 1, 160, 62, 3, 54, 4, 21, 4, 42, 182, 0, 74, 162, 0, 101, 3, 54, 5, 21, 5, 42]
abbrev dktX8_fair_2 : List UInt8 := dkwX8_fair_2 ++ dktX8_fair_3
def dkwX8_fair_1 : List UInt8 := [154, 0, 7, 4, 167, 0, 4, 3, 5, 182, 1, 9, 153, 0, 5, 3, 172, 42, 182, 1, 122, 2, 61]
abbrev dktX8_fair_1 : List UInt8 := dkwX8_fair_1 ++ dktX8_fair_2
def dkwX8_fair_0 : List UInt8 := [42, 3, 181, 0, 3, 42, 42, 27, 182, 1, 140, 4, 182, 1, 9, 154, 0, 24, 42, 42, 27, 182, 1, 151]
abbrev dktX8_fair_0 : List UInt8 := dkwX8_fair_0 ++ dktX8_fair_1
theorem dksX8_fair_0 : cX8_fair.data.toList.drop 0 = dktX8_fair_0 := by decide +kernel
theorem dksX8_fair_1 : cX8_fair.data.toList.drop 24 = dktX8_fair_1 := dk_seg dksX8_fair_0 24 rfl rfl
theorem dksX8_fair_2 : cX8_fair.data.toList.drop 47 = dktX8_fair_2 := dk_seg dksX8_fair_1 23 rfl rfl
theorem dksX8_fair_3 : cX8_fair.data.toList.drop 69 = dktX8_fair_3 := dk_seg dksX8_fair_2 22 rfl rfl
theorem dksX8_fair_4 : cX8_fair.data.toList.drop 92 = dktX8_fair_4 := dk_seg dksX8_fair_3 23 rfl rfl
theorem dksX8_fair_5 : cX8_fair.data.toList.drop 115 = dktX8_fair_5 := dk_seg dksX8_fair_4 23 rfl rfl
theorem dksX8_fair_6 : cX8_fair.data.toList.drop 139 = dktX8_fair_6 := dk_seg dksX8_fair_5 24 rfl rfl
theorem dX8_fair_0 : decode cX8_fair 0 = .ok (.aload_n 0, 1) := dk_42 (dk_at dksX8_fair_0 0 rfl rfl)
theorem dX8_fair_1 : decode cX8_fair 1 = .ok (.iconst 0, 1) := dk_3 (dk_at dksX8_fair_0 1 rfl rfl)
theorem dX8_fair_2 : decode cX8_fair 2 = .ok (.putfield 3, 3) := dk_181 0 3 (dk_at dksX8_fair_0 2 rfl rfl)
theorem dX8_fair_5 : decode cX8_fair 5 = .ok (.aload_n 0, 1) := dk_42 (dk_at dksX8_fair_0 5 rfl rfl)
theorem dX8_fair_6 : decode cX8_fair 6 = .ok (.aload_n 0, 1) := dk_42 (dk_at dksX8_fair_0 6 rfl rfl)
theorem dX8_fair_7 : decode cX8_fair 7 = .ok (.iload_n 1, 1) := dk_27 (dk_at dksX8_fair_0 7 rfl rfl)
theorem dX8_fair_8 : decode cX8_fair 8 = .ok (.invokevirtual 396, 3) := dk_182 1 140 (dk_at dksX8_fair_0 8 rfl rfl)
theorem dX8_fair_11 : decode cX8_fair 11 = .ok (.iconst 1, 1) := dk_4 (dk_at dksX8_fair_0 11 rfl rfl)
theorem dX8_fair_12 : decode cX8_fair 12 = .ok (.invokevirtual 265, 3) := dk_182 1 9 (dk_at dksX8_fair_0 12 rfl rfl)
theorem dX8_fair_15 : decode cX8_fair 15 = .ok (.ifCond .ne 24, 3) := dk_154 0 24 (dk_at dksX8_fair_0 15 rfl rfl)
theorem dX8_fair_18 : decode cX8_fair 18 = .ok (.aload_n 0, 1) := dk_42 (dk_at dksX8_fair_0 18 rfl rfl)
theorem dX8_fair_19 : decode cX8_fair 19 = .ok (.aload_n 0, 1) := dk_42 (dk_at dksX8_fair_0 19 rfl rfl)
theorem dX8_fair_20 : decode cX8_fair 20 = .ok (.iload_n 1, 1) := dk_27 (dk_at dksX8_fair_0 20 rfl rfl)
theorem dX8_fair_21 : decode cX8_fair 21 = .ok (.invokevirtual 407, 3) := dk_182 1 151 (dk_at dksX8_fair_0 21 rfl rfl)
theorem dX8_fair_24 : decode cX8_fair 24 = .ok (.ifCond .ne 7, 3) := dk_154 0 7 (dk_at dksX8_fair_1 0 rfl rfl)
theorem dX8_fair_27 : decode cX8_fair 27 = .ok (.iconst 1, 1) := dk_4 (dk_at dksX8_fair_1 3 rfl rfl)
theorem dX8_fair_28 : decode cX8_fair 28 = .ok (.goto 4, 3) := dk_167 0 4 (dk_at dksX8_fair_1 4 rfl rfl)
theorem dX8_fair_31 : decode cX8_fair 31 = .ok (.iconst 0, 1) := dk_3 (dk_at dksX8_fair_1 7 rfl rfl)
theorem dX8_fair_32 : decode cX8_fair 32 = .ok (.iconst 2, 1) := dk_5 (dk_at dksX8_fair_1 8 rfl rfl)
theorem dX8_fair_33 : decode cX8_fair 33 = .ok (.invokevirtual 265, 3) := dk_182 1 9 (dk_at dksX8_fair_1 9 rfl rfl)
theorem dX8_fair_36 : decode cX8_fair 36 = .ok (.ifCond .eq 5, 3) := dk_153 0 5 (dk_at dksX8_fair_1 12 rfl rfl)
theorem dX8_fair_39 : decode cX8_fair 39 = .ok (.iconst 0, 1) := dk_3 (dk_at dksX8_fair_1 15 rfl rfl)
theorem dX8_fair_40 : decode cX8_fair 40 = .ok (.ireturn, 1) := dk_172 (dk_at dksX8_fair_1 16 rfl rfl)
theorem dX8_fair_41 : decode cX8_fair 41 = .ok (.aload_n 0, 1) := dk_42 (dk_at dksX8_fair_1 17 rfl rfl)
theorem dX8_fair_42 : decode cX8_fair 42 = .ok (.invokevirtual 378, 3) := dk_182 1 122 (dk_at dksX8_fair_1 18 rfl rfl)
theorem dX8_fair_45 : decode cX8_fair 45 = .ok (.iconst (-1), 1) := dk_2 (dk_at dksX8_fair_1 21 rfl rfl)
theorem dX8_fair_46 : decode cX8_fair 46 = .ok (.istore_n 2, 1) := dk_61 (dk_at dksX8_fair_1 22 rfl rfl)
theorem dX8_fair_47 : decode cX8_fair 47 = .ok (.ldc_w 416, 3) := dk_19 1 160 (dk_at dksX8_fair_2 0 rfl rfl)
theorem dX8_fair_50 : decode cX8_fair 50 = .ok (.istore_n 3, 1) := dk_62 (dk_at dksX8_fair_2 3 rfl rfl)
theorem dX8_fair_51 : decode cX8_fair 51 = .ok (.iconst 0, 1) := dk_3 (dk_at dksX8_fair_2 4 rfl rfl)
theorem dX8_fair_52 : decode cX8_fair 52 = .ok (.istore 4, 2) := dk_54 4 (dk_at dksX8_fair_2 5 rfl rfl)
theorem dX8_fair_54 : decode cX8_fair 54 = .ok (.iload 4, 2) := dk_21 4 (dk_at dksX8_fair_2 7 rfl rfl)
theorem dX8_fair_56 : decode cX8_fair 56 = .ok (.aload_n 0, 1) := dk_42 (dk_at dksX8_fair_2 9 rfl rfl)
theorem dX8_fair_57 : decode cX8_fair 57 = .ok (.invokevirtual 74, 3) := dk_182 0 74 (dk_at dksX8_fair_2 10 rfl rfl)
theorem dX8_fair_60 : decode cX8_fair 60 = .ok (.if_icmp .ge 101, 3) := dk_162 0 101 (dk_at dksX8_fair_2 13 rfl rfl)
theorem dX8_fair_63 : decode cX8_fair 63 = .ok (.iconst 0, 1) := dk_3 (dk_at dksX8_fair_2 16 rfl rfl)
theorem dX8_fair_64 : decode cX8_fair 64 = .ok (.istore 5, 2) := dk_54 5 (dk_at dksX8_fair_2 17 rfl rfl)
theorem dX8_fair_66 : decode cX8_fair 66 = .ok (.iload 5, 2) := dk_21 5 (dk_at dksX8_fair_2 19 rfl rfl)
theorem dX8_fair_68 : decode cX8_fair 68 = .ok (.aload_n 0, 1) := dk_42 (dk_at dksX8_fair_2 21 rfl rfl)
theorem dX8_fair_69 : decode cX8_fair 69 = .ok (.invokevirtual 74, 3) := dk_182 0 74 (dk_at dksX8_fair_3 0 rfl rfl)
theorem dX8_fair_72 : decode cX8_fair 72 = .ok (.if_icmp .ge 83, 3) := dk_162 0 83 (dk_at dksX8_fair_3 3 rfl rfl)
theorem dX8_fair_75 : decode cX8_fair 75 = .ok (.aload_n 0, 1) := dk_42 (dk_at dksX8_fair_3 6 rfl rfl)
theorem dX8_fair_76 : decode cX8_fair 76 = .ok (.iload_n 1, 1) := dk_27 (dk_at dksX8_fair_3 7 rfl rfl)
theorem dX8_fair_77 : decode cX8_fair 77 = .ok (.iconst 0, 1) := dk_3 (dk_at dksX8_fair_3 8 rfl rfl)
theorem dX8_fair_78 : decode cX8_fair 78 = .ok (.invokevirtual 399, 3) := dk_182 1 143 (dk_at dksX8_fair_3 9 rfl rfl)
theorem dX8_fair_81 : decode cX8_fair 81 = .ok (.iload 4, 2) := dk_21 4 (dk_at dksX8_fair_3 12 rfl rfl)
theorem dX8_fair_83 : decode cX8_fair 83 = .ok (.invokestatic 127, 3) := dk_184 0 127 (dk_at dksX8_fair_3 14 rfl rfl)
theorem dX8_fair_86 : decode cX8_fair 86 = .ok (.ifCond .eq 63, 3) := dk_153 0 63 (dk_at dksX8_fair_3 17 rfl rfl)
theorem dX8_fair_89 : decode cX8_fair 89 = .ok (.aload_n 0, 1) := dk_42 (dk_at dksX8_fair_3 20 rfl rfl)
theorem dX8_fair_90 : decode cX8_fair 90 = .ok (.iload_n 1, 1) := dk_27 (dk_at dksX8_fair_3 21 rfl rfl)
theorem dX8_fair_91 : decode cX8_fair 91 = .ok (.iconst 1, 1) := dk_4 (dk_at dksX8_fair_3 22 rfl rfl)
theorem dX8_fair_92 : decode cX8_fair 92 = .ok (.invokevirtual 399, 3) := dk_182 1 143 (dk_at dksX8_fair_4 0 rfl rfl)
theorem dX8_fair_95 : decode cX8_fair 95 = .ok (.iload 5, 2) := dk_21 5 (dk_at dksX8_fair_4 3 rfl rfl)
theorem dX8_fair_97 : decode cX8_fair 97 = .ok (.invokestatic 127, 3) := dk_184 0 127 (dk_at dksX8_fair_4 5 rfl rfl)
theorem dX8_fair_100 : decode cX8_fair 100 = .ok (.ifCond .ne 6, 3) := dk_154 0 6 (dk_at dksX8_fair_4 8 rfl rfl)
theorem dX8_fair_103 : decode cX8_fair 103 = .ok (.goto 46, 3) := dk_167 0 46 (dk_at dksX8_fair_4 11 rfl rfl)
theorem dX8_fair_106 : decode cX8_fair 106 = .ok (.aload_n 0, 1) := dk_42 (dk_at dksX8_fair_4 14 rfl rfl)
theorem dX8_fair_107 : decode cX8_fair 107 = .ok (.iload 4, 2) := dk_21 4 (dk_at dksX8_fair_4 15 rfl rfl)
theorem dX8_fair_109 : decode cX8_fair 109 = .ok (.iload 5, 2) := dk_21 5 (dk_at dksX8_fair_4 17 rfl rfl)
theorem dX8_fair_111 : decode cX8_fair 111 = .ok (.invokevirtual 381, 3) := dk_182 1 125 (dk_at dksX8_fair_4 19 rfl rfl)
theorem dX8_fair_114 : decode cX8_fair 114 = .ok (.aload_n 0, 1) := dk_42 (dk_at dksX8_fair_4 22 rfl rfl)
theorem dX8_fair_115 : decode cX8_fair 115 = .ok (.iload 5, 2) := dk_21 5 (dk_at dksX8_fair_5 0 rfl rfl)
theorem dX8_fair_117 : decode cX8_fair 117 = .ok (.iload 4, 2) := dk_21 4 (dk_at dksX8_fair_5 2 rfl rfl)
theorem dX8_fair_119 : decode cX8_fair 119 = .ok (.invokevirtual 381, 3) := dk_182 1 125 (dk_at dksX8_fair_5 4 rfl rfl)
theorem dX8_fair_122 : decode cX8_fair 122 = .ok (.isub, 1) := dk_100 (dk_at dksX8_fair_5 7 rfl rfl)
theorem dX8_fair_123 : decode cX8_fair 123 = .ok (.invokestatic 417, 3) := dk_184 1 161 (dk_at dksX8_fair_5 8 rfl rfl)
theorem dX8_fair_126 : decode cX8_fair 126 = .ok (.istore 6, 2) := dk_54 6 (dk_at dksX8_fair_5 11 rfl rfl)
theorem dX8_fair_128 : decode cX8_fair 128 = .ok (.iload 6, 2) := dk_21 6 (dk_at dksX8_fair_5 13 rfl rfl)
theorem dX8_fair_130 : decode cX8_fair 130 = .ok (.iload_n 3, 1) := dk_29 (dk_at dksX8_fair_5 15 rfl rfl)
theorem dX8_fair_131 : decode cX8_fair 131 = .ok (.if_icmp .lt 6, 3) := dk_161 0 6 (dk_at dksX8_fair_5 16 rfl rfl)
theorem dX8_fair_134 : decode cX8_fair 134 = .ok (.goto 15, 3) := dk_167 0 15 (dk_at dksX8_fair_5 19 rfl rfl)
theorem dX8_fair_137 : decode cX8_fair 137 = .ok (.bipush 10, 2) := dk_16 10 (dk_at dksX8_fair_5 22 rfl rfl)
theorem dX8_fair_139 : decode cX8_fair 139 = .ok (.iload 4, 2) := dk_21 4 (dk_at dksX8_fair_6 0 rfl rfl)
theorem dX8_fair_141 : decode cX8_fair 141 = .ok (.imul, 1) := dk_104 (dk_at dksX8_fair_6 2 rfl rfl)
theorem dX8_fair_142 : decode cX8_fair 142 = .ok (.iload 5, 2) := dk_21 5 (dk_at dksX8_fair_6 3 rfl rfl)
theorem dX8_fair_144 : decode cX8_fair 144 = .ok (.iadd, 1) := dk_96 (dk_at dksX8_fair_6 5 rfl rfl)
theorem dX8_fair_145 : decode cX8_fair 145 = .ok (.istore_n 2, 1) := dk_61 (dk_at dksX8_fair_6 6 rfl rfl)
theorem dX8_fair_146 : decode cX8_fair 146 = .ok (.iload 6, 2) := dk_21 6 (dk_at dksX8_fair_6 7 rfl rfl)
theorem dX8_fair_148 : decode cX8_fair 148 = .ok (.istore_n 3, 1) := dk_62 (dk_at dksX8_fair_6 9 rfl rfl)
theorem dX8_fair_149 : decode cX8_fair 149 = .ok (.iinc 5 1, 3) := dk_132 5 1 (dk_at dksX8_fair_6 10 rfl rfl)
theorem dX8_fair_152 : decode cX8_fair 152 = .ok (.goto (-86), 3) := dk_167 255 170 (dk_at dksX8_fair_6 13 rfl rfl)
theorem dX8_fair_155 : decode cX8_fair 155 = .ok (.iinc 4 1, 3) := dk_132 4 1 (dk_at dksX8_fair_6 16 rfl rfl)
theorem dX8_fair_158 : decode cX8_fair 158 = .ok (.goto (-104), 3) := dk_167 255 152 (dk_at dksX8_fair_6 19 rfl rfl)
theorem dX8_fair_161 : decode cX8_fair 161 = .ok (.iload_n 2, 1) := dk_28 (dk_at dksX8_fair_6 22 rfl rfl)
theorem dX8_fair_162 : decode cX8_fair 162 = .ok (.ireturn, 1) := dk_172 (dk_at dksX8_fair_6 23 rfl rfl)
abbrev cX8_call : ByteArray := prog_18_method_107_code
def yX8_call : MethodName := ⟨RX8, "call", "(III)I"⟩
def dkwX8_call_6 : List UInt8 := [180, 0, 13, 27, 6, 184, 0, 71, 21, 4, 79, 42, 27, 28, 29, 21, 4, 182, 1, 173, 21, 4, 172]
abbrev dktX8_call_6 : List UInt8 := dkwX8_call_6 ++ []
def dkwX8_call_5 : List UInt8 := [27, 4, 182, 1, 131, 29, 184, 0, 67, 92, 46, 4, 100, 79, 42, 28, 29, 182, 1, 170, 54, 4, 42]
abbrev dktX8_call_5 : List UInt8 := dkwX8_call_5 ++ dktX8_call_6
def dkwX8_call_4 : List UInt8 := [42, 180, 0, 13, 42, 27, 3, 182, 1, 131, 28, 184, 0, 67, 92, 46, 4, 100, 79, 42, 180, 0, 13, 42]
abbrev dktX8_call_4 : List UInt8 := dkwX8_call_4 ++ dktX8_call_5
def dkwX8_call_3 : List UInt8 := [184, 0, 127, 154, 0, 7, 4, 167, 0, 4, 3, 5, 182, 1, 9, 153, 0, 5, 3, 172, 42, 182, 1, 167]
abbrev dktX8_call_3 : List UInt8 := dkwX8_call_3 ++ dktX8_call_4
def dkwX8_call_2 : List UInt8 := [153, 0, 29, 42, 27, 3, 182, 1, 143, 28, 184, 0, 127, 153, 0, 16, 42, 27, 4, 182, 1, 143, 29]
abbrev dktX8_call_2 : List UInt8 := dkwX8_call_2 ++ dktX8_call_3
def dkwX8_call_1 : List UInt8 := [182, 1, 47, 153, 0, 7, 4, 167, 0, 4, 3, 4, 182, 1, 9, 154, 0, 50, 42, 42, 27, 182, 1, 151]
abbrev dktX8_call_1 : List UInt8 := dkwX8_call_1 ++ dktX8_call_2
def dkwX8_call_0 : List UInt8 := [42, 3, 181, 0, 3, 42, 42, 27, 182, 1, 140, 154, 0, 19, 42, 28, 182, 1, 47, 154, 0, 11, 42, 29]
abbrev dktX8_call_0 : List UInt8 := dkwX8_call_0 ++ dktX8_call_1
theorem dksX8_call_0 : cX8_call.data.toList.drop 0 = dktX8_call_0 := by decide +kernel
theorem dksX8_call_1 : cX8_call.data.toList.drop 24 = dktX8_call_1 := dk_seg dksX8_call_0 24 rfl rfl
theorem dksX8_call_2 : cX8_call.data.toList.drop 48 = dktX8_call_2 := dk_seg dksX8_call_1 24 rfl rfl
theorem dksX8_call_3 : cX8_call.data.toList.drop 71 = dktX8_call_3 := dk_seg dksX8_call_2 23 rfl rfl
theorem dksX8_call_4 : cX8_call.data.toList.drop 95 = dktX8_call_4 := dk_seg dksX8_call_3 24 rfl rfl
theorem dksX8_call_5 : cX8_call.data.toList.drop 119 = dktX8_call_5 := dk_seg dksX8_call_4 24 rfl rfl
theorem dksX8_call_6 : cX8_call.data.toList.drop 142 = dktX8_call_6 := dk_seg dksX8_call_5 23 rfl rfl
theorem dX8_call_0 : decode cX8_call 0 = .ok (.aload_n 0, 1) := dk_42 (dk_at dksX8_call_0 0 rfl rfl)
theorem dX8_call_1 : decode cX8_call 1 = .ok (.iconst 0, 1) := dk_3 (dk_at dksX8_call_0 1 rfl rfl)
theorem dX8_call_2 : decode cX8_call 2 = .ok (.putfield 3, 3) := dk_181 0 3 (dk_at dksX8_call_0 2 rfl rfl)
theorem dX8_call_5 : decode cX8_call 5 = .ok (.aload_n 0, 1) := dk_42 (dk_at dksX8_call_0 5 rfl rfl)
theorem dX8_call_6 : decode cX8_call 6 = .ok (.aload_n 0, 1) := dk_42 (dk_at dksX8_call_0 6 rfl rfl)
theorem dX8_call_7 : decode cX8_call 7 = .ok (.iload_n 1, 1) := dk_27 (dk_at dksX8_call_0 7 rfl rfl)
theorem dX8_call_8 : decode cX8_call 8 = .ok (.invokevirtual 396, 3) := dk_182 1 140 (dk_at dksX8_call_0 8 rfl rfl)
theorem dX8_call_11 : decode cX8_call 11 = .ok (.ifCond .ne 19, 3) := dk_154 0 19 (dk_at dksX8_call_0 11 rfl rfl)
theorem dX8_call_14 : decode cX8_call 14 = .ok (.aload_n 0, 1) := dk_42 (dk_at dksX8_call_0 14 rfl rfl)
theorem dX8_call_15 : decode cX8_call 15 = .ok (.iload_n 2, 1) := dk_28 (dk_at dksX8_call_0 15 rfl rfl)
theorem dX8_call_16 : decode cX8_call 16 = .ok (.invokevirtual 303, 3) := dk_182 1 47 (dk_at dksX8_call_0 16 rfl rfl)
theorem dX8_call_19 : decode cX8_call 19 = .ok (.ifCond .ne 11, 3) := dk_154 0 11 (dk_at dksX8_call_0 19 rfl rfl)
theorem dX8_call_22 : decode cX8_call 22 = .ok (.aload_n 0, 1) := dk_42 (dk_at dksX8_call_0 22 rfl rfl)
theorem dX8_call_23 : decode cX8_call 23 = .ok (.iload_n 3, 1) := dk_29 (dk_at dksX8_call_0 23 rfl rfl)
theorem dX8_call_24 : decode cX8_call 24 = .ok (.invokevirtual 303, 3) := dk_182 1 47 (dk_at dksX8_call_1 0 rfl rfl)
theorem dX8_call_27 : decode cX8_call 27 = .ok (.ifCond .eq 7, 3) := dk_153 0 7 (dk_at dksX8_call_1 3 rfl rfl)
theorem dX8_call_30 : decode cX8_call 30 = .ok (.iconst 1, 1) := dk_4 (dk_at dksX8_call_1 6 rfl rfl)
theorem dX8_call_31 : decode cX8_call 31 = .ok (.goto 4, 3) := dk_167 0 4 (dk_at dksX8_call_1 7 rfl rfl)
theorem dX8_call_34 : decode cX8_call 34 = .ok (.iconst 0, 1) := dk_3 (dk_at dksX8_call_1 10 rfl rfl)
theorem dX8_call_35 : decode cX8_call 35 = .ok (.iconst 1, 1) := dk_4 (dk_at dksX8_call_1 11 rfl rfl)
theorem dX8_call_36 : decode cX8_call 36 = .ok (.invokevirtual 265, 3) := dk_182 1 9 (dk_at dksX8_call_1 12 rfl rfl)
theorem dX8_call_39 : decode cX8_call 39 = .ok (.ifCond .ne 50, 3) := dk_154 0 50 (dk_at dksX8_call_1 15 rfl rfl)
theorem dX8_call_42 : decode cX8_call 42 = .ok (.aload_n 0, 1) := dk_42 (dk_at dksX8_call_1 18 rfl rfl)
theorem dX8_call_43 : decode cX8_call 43 = .ok (.aload_n 0, 1) := dk_42 (dk_at dksX8_call_1 19 rfl rfl)
theorem dX8_call_44 : decode cX8_call 44 = .ok (.iload_n 1, 1) := dk_27 (dk_at dksX8_call_1 20 rfl rfl)
theorem dX8_call_45 : decode cX8_call 45 = .ok (.invokevirtual 407, 3) := dk_182 1 151 (dk_at dksX8_call_1 21 rfl rfl)
theorem dX8_call_48 : decode cX8_call 48 = .ok (.ifCond .eq 29, 3) := dk_153 0 29 (dk_at dksX8_call_2 0 rfl rfl)
theorem dX8_call_51 : decode cX8_call 51 = .ok (.aload_n 0, 1) := dk_42 (dk_at dksX8_call_2 3 rfl rfl)
theorem dX8_call_52 : decode cX8_call 52 = .ok (.iload_n 1, 1) := dk_27 (dk_at dksX8_call_2 4 rfl rfl)
theorem dX8_call_53 : decode cX8_call 53 = .ok (.iconst 0, 1) := dk_3 (dk_at dksX8_call_2 5 rfl rfl)
theorem dX8_call_54 : decode cX8_call 54 = .ok (.invokevirtual 399, 3) := dk_182 1 143 (dk_at dksX8_call_2 6 rfl rfl)
theorem dX8_call_57 : decode cX8_call 57 = .ok (.iload_n 2, 1) := dk_28 (dk_at dksX8_call_2 9 rfl rfl)
theorem dX8_call_58 : decode cX8_call 58 = .ok (.invokestatic 127, 3) := dk_184 0 127 (dk_at dksX8_call_2 10 rfl rfl)
theorem dX8_call_61 : decode cX8_call 61 = .ok (.ifCond .eq 16, 3) := dk_153 0 16 (dk_at dksX8_call_2 13 rfl rfl)
theorem dX8_call_64 : decode cX8_call 64 = .ok (.aload_n 0, 1) := dk_42 (dk_at dksX8_call_2 16 rfl rfl)
theorem dX8_call_65 : decode cX8_call 65 = .ok (.iload_n 1, 1) := dk_27 (dk_at dksX8_call_2 17 rfl rfl)
theorem dX8_call_66 : decode cX8_call 66 = .ok (.iconst 1, 1) := dk_4 (dk_at dksX8_call_2 18 rfl rfl)
theorem dX8_call_67 : decode cX8_call 67 = .ok (.invokevirtual 399, 3) := dk_182 1 143 (dk_at dksX8_call_2 19 rfl rfl)
theorem dX8_call_70 : decode cX8_call 70 = .ok (.iload_n 3, 1) := dk_29 (dk_at dksX8_call_2 22 rfl rfl)
theorem dX8_call_71 : decode cX8_call 71 = .ok (.invokestatic 127, 3) := dk_184 0 127 (dk_at dksX8_call_3 0 rfl rfl)
theorem dX8_call_74 : decode cX8_call 74 = .ok (.ifCond .ne 7, 3) := dk_154 0 7 (dk_at dksX8_call_3 3 rfl rfl)
theorem dX8_call_77 : decode cX8_call 77 = .ok (.iconst 1, 1) := dk_4 (dk_at dksX8_call_3 6 rfl rfl)
theorem dX8_call_78 : decode cX8_call 78 = .ok (.goto 4, 3) := dk_167 0 4 (dk_at dksX8_call_3 7 rfl rfl)
theorem dX8_call_81 : decode cX8_call 81 = .ok (.iconst 0, 1) := dk_3 (dk_at dksX8_call_3 10 rfl rfl)
theorem dX8_call_82 : decode cX8_call 82 = .ok (.iconst 2, 1) := dk_5 (dk_at dksX8_call_3 11 rfl rfl)
theorem dX8_call_83 : decode cX8_call 83 = .ok (.invokevirtual 265, 3) := dk_182 1 9 (dk_at dksX8_call_3 12 rfl rfl)
theorem dX8_call_86 : decode cX8_call 86 = .ok (.ifCond .eq 5, 3) := dk_153 0 5 (dk_at dksX8_call_3 15 rfl rfl)
theorem dX8_call_89 : decode cX8_call 89 = .ok (.iconst 0, 1) := dk_3 (dk_at dksX8_call_3 18 rfl rfl)
theorem dX8_call_90 : decode cX8_call 90 = .ok (.ireturn, 1) := dk_172 (dk_at dksX8_call_3 19 rfl rfl)
theorem dX8_call_91 : decode cX8_call 91 = .ok (.aload_n 0, 1) := dk_42 (dk_at dksX8_call_3 20 rfl rfl)
theorem dX8_call_92 : decode cX8_call 92 = .ok (.invokevirtual 423, 3) := dk_182 1 167 (dk_at dksX8_call_3 21 rfl rfl)
theorem dX8_call_95 : decode cX8_call 95 = .ok (.aload_n 0, 1) := dk_42 (dk_at dksX8_call_4 0 rfl rfl)
theorem dX8_call_96 : decode cX8_call 96 = .ok (.getfield 13, 3) := dk_180 0 13 (dk_at dksX8_call_4 1 rfl rfl)
theorem dX8_call_99 : decode cX8_call 99 = .ok (.aload_n 0, 1) := dk_42 (dk_at dksX8_call_4 4 rfl rfl)
theorem dX8_call_100 : decode cX8_call 100 = .ok (.iload_n 1, 1) := dk_27 (dk_at dksX8_call_4 5 rfl rfl)
theorem dX8_call_101 : decode cX8_call 101 = .ok (.iconst 0, 1) := dk_3 (dk_at dksX8_call_4 6 rfl rfl)
theorem dX8_call_102 : decode cX8_call 102 = .ok (.invokevirtual 387, 3) := dk_182 1 131 (dk_at dksX8_call_4 7 rfl rfl)
theorem dX8_call_105 : decode cX8_call 105 = .ok (.iload_n 2, 1) := dk_28 (dk_at dksX8_call_4 10 rfl rfl)
theorem dX8_call_106 : decode cX8_call 106 = .ok (.invokestatic 67, 3) := dk_184 0 67 (dk_at dksX8_call_4 11 rfl rfl)
theorem dX8_call_109 : decode cX8_call 109 = .ok (.dup2, 1) := dk_92 (dk_at dksX8_call_4 14 rfl rfl)
theorem dX8_call_110 : decode cX8_call 110 = .ok (.iaload, 1) := dk_46 (dk_at dksX8_call_4 15 rfl rfl)
theorem dX8_call_111 : decode cX8_call 111 = .ok (.iconst 1, 1) := dk_4 (dk_at dksX8_call_4 16 rfl rfl)
theorem dX8_call_112 : decode cX8_call 112 = .ok (.isub, 1) := dk_100 (dk_at dksX8_call_4 17 rfl rfl)
theorem dX8_call_113 : decode cX8_call 113 = .ok (.iastore, 1) := dk_79 (dk_at dksX8_call_4 18 rfl rfl)
theorem dX8_call_114 : decode cX8_call 114 = .ok (.aload_n 0, 1) := dk_42 (dk_at dksX8_call_4 19 rfl rfl)
theorem dX8_call_115 : decode cX8_call 115 = .ok (.getfield 13, 3) := dk_180 0 13 (dk_at dksX8_call_4 20 rfl rfl)
theorem dX8_call_118 : decode cX8_call 118 = .ok (.aload_n 0, 1) := dk_42 (dk_at dksX8_call_4 23 rfl rfl)
theorem dX8_call_119 : decode cX8_call 119 = .ok (.iload_n 1, 1) := dk_27 (dk_at dksX8_call_5 0 rfl rfl)
theorem dX8_call_120 : decode cX8_call 120 = .ok (.iconst 1, 1) := dk_4 (dk_at dksX8_call_5 1 rfl rfl)
theorem dX8_call_121 : decode cX8_call 121 = .ok (.invokevirtual 387, 3) := dk_182 1 131 (dk_at dksX8_call_5 2 rfl rfl)
theorem dX8_call_124 : decode cX8_call 124 = .ok (.iload_n 3, 1) := dk_29 (dk_at dksX8_call_5 5 rfl rfl)
theorem dX8_call_125 : decode cX8_call 125 = .ok (.invokestatic 67, 3) := dk_184 0 67 (dk_at dksX8_call_5 6 rfl rfl)
theorem dX8_call_128 : decode cX8_call 128 = .ok (.dup2, 1) := dk_92 (dk_at dksX8_call_5 9 rfl rfl)
theorem dX8_call_129 : decode cX8_call 129 = .ok (.iaload, 1) := dk_46 (dk_at dksX8_call_5 10 rfl rfl)
theorem dX8_call_130 : decode cX8_call 130 = .ok (.iconst 1, 1) := dk_4 (dk_at dksX8_call_5 11 rfl rfl)
theorem dX8_call_131 : decode cX8_call 131 = .ok (.isub, 1) := dk_100 (dk_at dksX8_call_5 12 rfl rfl)
theorem dX8_call_132 : decode cX8_call 132 = .ok (.iastore, 1) := dk_79 (dk_at dksX8_call_5 13 rfl rfl)
theorem dX8_call_133 : decode cX8_call 133 = .ok (.aload_n 0, 1) := dk_42 (dk_at dksX8_call_5 14 rfl rfl)
theorem dX8_call_134 : decode cX8_call 134 = .ok (.iload_n 2, 1) := dk_28 (dk_at dksX8_call_5 15 rfl rfl)
theorem dX8_call_135 : decode cX8_call 135 = .ok (.iload_n 3, 1) := dk_29 (dk_at dksX8_call_5 16 rfl rfl)
theorem dX8_call_136 : decode cX8_call 136 = .ok (.invokevirtual 426, 3) := dk_182 1 170 (dk_at dksX8_call_5 17 rfl rfl)
theorem dX8_call_139 : decode cX8_call 139 = .ok (.istore 4, 2) := dk_54 4 (dk_at dksX8_call_5 20 rfl rfl)
theorem dX8_call_141 : decode cX8_call 141 = .ok (.aload_n 0, 1) := dk_42 (dk_at dksX8_call_5 22 rfl rfl)
theorem dX8_call_142 : decode cX8_call 142 = .ok (.getfield 13, 3) := dk_180 0 13 (dk_at dksX8_call_6 0 rfl rfl)
theorem dX8_call_145 : decode cX8_call 145 = .ok (.iload_n 1, 1) := dk_27 (dk_at dksX8_call_6 3 rfl rfl)
theorem dX8_call_146 : decode cX8_call 146 = .ok (.iconst 3, 1) := dk_6 (dk_at dksX8_call_6 4 rfl rfl)
theorem dX8_call_147 : decode cX8_call 147 = .ok (.invokestatic 71, 3) := dk_184 0 71 (dk_at dksX8_call_6 5 rfl rfl)
theorem dX8_call_150 : decode cX8_call 150 = .ok (.iload 4, 2) := dk_21 4 (dk_at dksX8_call_6 8 rfl rfl)
theorem dX8_call_152 : decode cX8_call 152 = .ok (.iastore, 1) := dk_79 (dk_at dksX8_call_6 10 rfl rfl)
theorem dX8_call_153 : decode cX8_call 153 = .ok (.aload_n 0, 1) := dk_42 (dk_at dksX8_call_6 11 rfl rfl)
theorem dX8_call_154 : decode cX8_call 154 = .ok (.iload_n 1, 1) := dk_27 (dk_at dksX8_call_6 12 rfl rfl)
theorem dX8_call_155 : decode cX8_call 155 = .ok (.iload_n 2, 1) := dk_28 (dk_at dksX8_call_6 13 rfl rfl)
theorem dX8_call_156 : decode cX8_call 156 = .ok (.iload_n 3, 1) := dk_29 (dk_at dksX8_call_6 14 rfl rfl)
theorem dX8_call_157 : decode cX8_call 157 = .ok (.iload 4, 2) := dk_21 4 (dk_at dksX8_call_6 15 rfl rfl)
theorem dX8_call_159 : decode cX8_call 159 = .ok (.invokevirtual 429, 3) := dk_182 1 173 (dk_at dksX8_call_6 17 rfl rfl)
theorem dX8_call_162 : decode cX8_call 162 = .ok (.iload 4, 2) := dk_21 4 (dk_at dksX8_call_6 20 rfl rfl)
theorem dX8_call_164 : decode cX8_call 164 = .ok (.ireturn, 1) := dk_172 (dk_at dksX8_call_6 22 rfl rfl)
abbrev cX8_remembers : ByteArray := prog_18_method_8_code
def yX8_remembers : MethodName := ⟨RX8, "remembers", "()V"⟩
def dkwX8_remembers_3 : List UInt8 := [180, 0, 64, 4, 100, 104, 27, 96, 42, 180, 0, 13, 27, 46, 79, 132, 1, 1, 167, 255, 223, 177]
abbrev dktX8_remembers_3 : List UInt8 := dkwX8_remembers_3 ++ []
def dkwX8_remembers_2 : List UInt8 := [4, 96, 181, 0, 64, 3, 60, 27, 17, 1, 226, 162, 0, 32, 42, 180, 0, 26, 17, 1, 226, 42]
abbrev dktX8_remembers_2 : List UInt8 := dkwX8_remembers_2 ++ dktX8_remembers_3
def dkwX8_remembers_1 : List UInt8 := [180, 0, 26, 27, 17, 1, 226, 96, 46, 79, 132, 1, 1, 167, 255, 230, 167, 0, 13, 42, 89, 180, 0, 64]
abbrev dktX8_remembers_1 : List UInt8 := dkwX8_remembers_1 ++ dktX8_remembers_2
def dkwX8_remembers_0 : List UInt8 := [42, 180, 0, 64, 16, 12, 160, 0, 37, 3, 60, 27, 17, 20, 182, 162, 0, 25, 42, 180, 0, 26, 27, 42]
abbrev dktX8_remembers_0 : List UInt8 := dkwX8_remembers_0 ++ dktX8_remembers_1
theorem dksX8_remembers_0 : cX8_remembers.data.toList.drop 0 = dktX8_remembers_0 := by decide +kernel
theorem dksX8_remembers_1 : cX8_remembers.data.toList.drop 24 = dktX8_remembers_1 := dk_seg dksX8_remembers_0 24 rfl rfl
theorem dksX8_remembers_2 : cX8_remembers.data.toList.drop 48 = dktX8_remembers_2 := dk_seg dksX8_remembers_1 24 rfl rfl
theorem dksX8_remembers_3 : cX8_remembers.data.toList.drop 70 = dktX8_remembers_3 := dk_seg dksX8_remembers_2 22 rfl rfl
theorem dX8_remembers_0 : decode cX8_remembers 0 = .ok (.aload_n 0, 1) := dk_42 (dk_at dksX8_remembers_0 0 rfl rfl)
theorem dX8_remembers_1 : decode cX8_remembers 1 = .ok (.getfield 64, 3) := dk_180 0 64 (dk_at dksX8_remembers_0 1 rfl rfl)
theorem dX8_remembers_4 : decode cX8_remembers 4 = .ok (.bipush 12, 2) := dk_16 12 (dk_at dksX8_remembers_0 4 rfl rfl)
theorem dX8_remembers_6 : decode cX8_remembers 6 = .ok (.if_icmp .ne 37, 3) := dk_160 0 37 (dk_at dksX8_remembers_0 6 rfl rfl)
theorem dX8_remembers_9 : decode cX8_remembers 9 = .ok (.iconst 0, 1) := dk_3 (dk_at dksX8_remembers_0 9 rfl rfl)
theorem dX8_remembers_10 : decode cX8_remembers 10 = .ok (.istore_n 1, 1) := dk_60 (dk_at dksX8_remembers_0 10 rfl rfl)
theorem dX8_remembers_11 : decode cX8_remembers 11 = .ok (.iload_n 1, 1) := dk_27 (dk_at dksX8_remembers_0 11 rfl rfl)
theorem dX8_remembers_12 : decode cX8_remembers 12 = .ok (.sipush 5302, 3) := dk_17 20 182 (dk_at dksX8_remembers_0 12 rfl rfl)
theorem dX8_remembers_15 : decode cX8_remembers 15 = .ok (.if_icmp .ge 25, 3) := dk_162 0 25 (dk_at dksX8_remembers_0 15 rfl rfl)
theorem dX8_remembers_18 : decode cX8_remembers 18 = .ok (.aload_n 0, 1) := dk_42 (dk_at dksX8_remembers_0 18 rfl rfl)
theorem dX8_remembers_19 : decode cX8_remembers 19 = .ok (.getfield 26, 3) := dk_180 0 26 (dk_at dksX8_remembers_0 19 rfl rfl)
theorem dX8_remembers_22 : decode cX8_remembers 22 = .ok (.iload_n 1, 1) := dk_27 (dk_at dksX8_remembers_0 22 rfl rfl)
theorem dX8_remembers_23 : decode cX8_remembers 23 = .ok (.aload_n 0, 1) := dk_42 (dk_at dksX8_remembers_0 23 rfl rfl)
theorem dX8_remembers_24 : decode cX8_remembers 24 = .ok (.getfield 26, 3) := dk_180 0 26 (dk_at dksX8_remembers_1 0 rfl rfl)
theorem dX8_remembers_27 : decode cX8_remembers 27 = .ok (.iload_n 1, 1) := dk_27 (dk_at dksX8_remembers_1 3 rfl rfl)
theorem dX8_remembers_28 : decode cX8_remembers 28 = .ok (.sipush 482, 3) := dk_17 1 226 (dk_at dksX8_remembers_1 4 rfl rfl)
theorem dX8_remembers_31 : decode cX8_remembers 31 = .ok (.iadd, 1) := dk_96 (dk_at dksX8_remembers_1 7 rfl rfl)
theorem dX8_remembers_32 : decode cX8_remembers 32 = .ok (.iaload, 1) := dk_46 (dk_at dksX8_remembers_1 8 rfl rfl)
theorem dX8_remembers_33 : decode cX8_remembers 33 = .ok (.iastore, 1) := dk_79 (dk_at dksX8_remembers_1 9 rfl rfl)
theorem dX8_remembers_34 : decode cX8_remembers 34 = .ok (.iinc 1 1, 3) := dk_132 1 1 (dk_at dksX8_remembers_1 10 rfl rfl)
theorem dX8_remembers_37 : decode cX8_remembers 37 = .ok (.goto (-26), 3) := dk_167 255 230 (dk_at dksX8_remembers_1 13 rfl rfl)
theorem dX8_remembers_40 : decode cX8_remembers 40 = .ok (.goto 13, 3) := dk_167 0 13 (dk_at dksX8_remembers_1 16 rfl rfl)
theorem dX8_remembers_43 : decode cX8_remembers 43 = .ok (.aload_n 0, 1) := dk_42 (dk_at dksX8_remembers_1 19 rfl rfl)
theorem dX8_remembers_44 : decode cX8_remembers 44 = .ok (.dup, 1) := dk_89 (dk_at dksX8_remembers_1 20 rfl rfl)
theorem dX8_remembers_45 : decode cX8_remembers 45 = .ok (.getfield 64, 3) := dk_180 0 64 (dk_at dksX8_remembers_1 21 rfl rfl)
theorem dX8_remembers_48 : decode cX8_remembers 48 = .ok (.iconst 1, 1) := dk_4 (dk_at dksX8_remembers_2 0 rfl rfl)
theorem dX8_remembers_49 : decode cX8_remembers 49 = .ok (.iadd, 1) := dk_96 (dk_at dksX8_remembers_2 1 rfl rfl)
theorem dX8_remembers_50 : decode cX8_remembers 50 = .ok (.putfield 64, 3) := dk_181 0 64 (dk_at dksX8_remembers_2 2 rfl rfl)
theorem dX8_remembers_53 : decode cX8_remembers 53 = .ok (.iconst 0, 1) := dk_3 (dk_at dksX8_remembers_2 5 rfl rfl)
theorem dX8_remembers_54 : decode cX8_remembers 54 = .ok (.istore_n 1, 1) := dk_60 (dk_at dksX8_remembers_2 6 rfl rfl)
theorem dX8_remembers_55 : decode cX8_remembers 55 = .ok (.iload_n 1, 1) := dk_27 (dk_at dksX8_remembers_2 7 rfl rfl)
theorem dX8_remembers_56 : decode cX8_remembers 56 = .ok (.sipush 482, 3) := dk_17 1 226 (dk_at dksX8_remembers_2 8 rfl rfl)
theorem dX8_remembers_59 : decode cX8_remembers 59 = .ok (.if_icmp .ge 32, 3) := dk_162 0 32 (dk_at dksX8_remembers_2 11 rfl rfl)
theorem dX8_remembers_62 : decode cX8_remembers 62 = .ok (.aload_n 0, 1) := dk_42 (dk_at dksX8_remembers_2 14 rfl rfl)
theorem dX8_remembers_63 : decode cX8_remembers 63 = .ok (.getfield 26, 3) := dk_180 0 26 (dk_at dksX8_remembers_2 15 rfl rfl)
theorem dX8_remembers_66 : decode cX8_remembers 66 = .ok (.sipush 482, 3) := dk_17 1 226 (dk_at dksX8_remembers_2 18 rfl rfl)
theorem dX8_remembers_69 : decode cX8_remembers 69 = .ok (.aload_n 0, 1) := dk_42 (dk_at dksX8_remembers_2 21 rfl rfl)
theorem dX8_remembers_70 : decode cX8_remembers 70 = .ok (.getfield 64, 3) := dk_180 0 64 (dk_at dksX8_remembers_3 0 rfl rfl)
theorem dX8_remembers_73 : decode cX8_remembers 73 = .ok (.iconst 1, 1) := dk_4 (dk_at dksX8_remembers_3 3 rfl rfl)
theorem dX8_remembers_74 : decode cX8_remembers 74 = .ok (.isub, 1) := dk_100 (dk_at dksX8_remembers_3 4 rfl rfl)
theorem dX8_remembers_75 : decode cX8_remembers 75 = .ok (.imul, 1) := dk_104 (dk_at dksX8_remembers_3 5 rfl rfl)
theorem dX8_remembers_76 : decode cX8_remembers 76 = .ok (.iload_n 1, 1) := dk_27 (dk_at dksX8_remembers_3 6 rfl rfl)
theorem dX8_remembers_77 : decode cX8_remembers 77 = .ok (.iadd, 1) := dk_96 (dk_at dksX8_remembers_3 7 rfl rfl)
theorem dX8_remembers_78 : decode cX8_remembers 78 = .ok (.aload_n 0, 1) := dk_42 (dk_at dksX8_remembers_3 8 rfl rfl)
theorem dX8_remembers_79 : decode cX8_remembers 79 = .ok (.getfield 13, 3) := dk_180 0 13 (dk_at dksX8_remembers_3 9 rfl rfl)
theorem dX8_remembers_82 : decode cX8_remembers 82 = .ok (.iload_n 1, 1) := dk_27 (dk_at dksX8_remembers_3 12 rfl rfl)
theorem dX8_remembers_83 : decode cX8_remembers 83 = .ok (.iaload, 1) := dk_46 (dk_at dksX8_remembers_3 13 rfl rfl)
theorem dX8_remembers_84 : decode cX8_remembers 84 = .ok (.iastore, 1) := dk_79 (dk_at dksX8_remembers_3 14 rfl rfl)
theorem dX8_remembers_85 : decode cX8_remembers 85 = .ok (.iinc 1 1, 3) := dk_132 1 1 (dk_at dksX8_remembers_3 15 rfl rfl)
theorem dX8_remembers_88 : decode cX8_remembers 88 = .ok (.goto (-33), 3) := dk_167 255 223 (dk_at dksX8_remembers_3 18 rfl rfl)
theorem dX8_remembers_91 : decode cX8_remembers 91 = .ok (.return_, 1) := dk_177 (dk_at dksX8_remembers_3 21 rfl rfl)
abbrev cX8_called : ByteArray := prog_18_method_83_code
def yX8_called : MethodName := ⟨RX8, "called", "(II)I"⟩
def dkwX8_called_4 : List UInt8 := [172, 21, 4, 153, 0, 13, 29, 158, 0, 13, 29, 21, 4, 162, 0, 7, 4, 167, 0, 4, 5, 172]
abbrev dktX8_called_4 : List UInt8 := dkwX8_called_4 ++ []
def dkwX8_called_3 : List UInt8 := [4, 182, 1, 110, 54, 4, 29, 154, 0, 10, 21, 4, 154, 0, 5, 7, 172, 29, 21, 4, 160, 0, 5, 6]
abbrev dktX8_called_3 : List UInt8 := dkwX8_called_3 ++ dktX8_called_4
def dkwX8_called_2 : List UInt8 := [100, 29, 182, 1, 104, 132, 4, 1, 167, 255, 224, 132, 3, 1, 167, 255, 209, 42, 3, 182, 1, 110, 62, 42]
abbrev dktX8_called_2 : List UInt8 := dkwX8_called_2 ++ dktX8_called_3
def dkwX8_called_1 : List UInt8 := [21, 4, 5, 162, 0, 32, 42, 21, 4, 182, 1, 101, 153, 0, 17, 42, 21, 4, 42, 6, 182, 1, 107, 4]
abbrev dktX8_called_1 : List UInt8 := dkwX8_called_1 ++ dktX8_called_2
def dkwX8_called_0 : List UInt8 := [42, 3, 27, 182, 1, 98, 42, 4, 28, 182, 1, 98, 3, 62, 29, 16, 8, 162, 0, 47, 3, 54, 4]
abbrev dktX8_called_0 : List UInt8 := dkwX8_called_0 ++ dktX8_called_1
theorem dksX8_called_0 : cX8_called.data.toList.drop 0 = dktX8_called_0 := by decide +kernel
theorem dksX8_called_1 : cX8_called.data.toList.drop 23 = dktX8_called_1 := dk_seg dksX8_called_0 23 rfl rfl
theorem dksX8_called_2 : cX8_called.data.toList.drop 47 = dktX8_called_2 := dk_seg dksX8_called_1 24 rfl rfl
theorem dksX8_called_3 : cX8_called.data.toList.drop 71 = dktX8_called_3 := dk_seg dksX8_called_2 24 rfl rfl
theorem dksX8_called_4 : cX8_called.data.toList.drop 95 = dktX8_called_4 := dk_seg dksX8_called_3 24 rfl rfl
theorem dX8_called_0 : decode cX8_called 0 = .ok (.aload_n 0, 1) := dk_42 (dk_at dksX8_called_0 0 rfl rfl)
theorem dX8_called_1 : decode cX8_called 1 = .ok (.iconst 0, 1) := dk_3 (dk_at dksX8_called_0 1 rfl rfl)
theorem dX8_called_2 : decode cX8_called 2 = .ok (.iload_n 1, 1) := dk_27 (dk_at dksX8_called_0 2 rfl rfl)
theorem dX8_called_3 : decode cX8_called 3 = .ok (.invokevirtual 354, 3) := dk_182 1 98 (dk_at dksX8_called_0 3 rfl rfl)
theorem dX8_called_6 : decode cX8_called 6 = .ok (.aload_n 0, 1) := dk_42 (dk_at dksX8_called_0 6 rfl rfl)
theorem dX8_called_7 : decode cX8_called 7 = .ok (.iconst 1, 1) := dk_4 (dk_at dksX8_called_0 7 rfl rfl)
theorem dX8_called_8 : decode cX8_called 8 = .ok (.iload_n 2, 1) := dk_28 (dk_at dksX8_called_0 8 rfl rfl)
theorem dX8_called_9 : decode cX8_called 9 = .ok (.invokevirtual 354, 3) := dk_182 1 98 (dk_at dksX8_called_0 9 rfl rfl)
theorem dX8_called_12 : decode cX8_called 12 = .ok (.iconst 0, 1) := dk_3 (dk_at dksX8_called_0 12 rfl rfl)
theorem dX8_called_13 : decode cX8_called 13 = .ok (.istore_n 3, 1) := dk_62 (dk_at dksX8_called_0 13 rfl rfl)
theorem dX8_called_14 : decode cX8_called 14 = .ok (.iload_n 3, 1) := dk_29 (dk_at dksX8_called_0 14 rfl rfl)
theorem dX8_called_15 : decode cX8_called 15 = .ok (.bipush 8, 2) := dk_16 8 (dk_at dksX8_called_0 15 rfl rfl)
theorem dX8_called_17 : decode cX8_called 17 = .ok (.if_icmp .ge 47, 3) := dk_162 0 47 (dk_at dksX8_called_0 17 rfl rfl)
theorem dX8_called_20 : decode cX8_called 20 = .ok (.iconst 0, 1) := dk_3 (dk_at dksX8_called_0 20 rfl rfl)
theorem dX8_called_21 : decode cX8_called 21 = .ok (.istore 4, 2) := dk_54 4 (dk_at dksX8_called_0 21 rfl rfl)
theorem dX8_called_23 : decode cX8_called 23 = .ok (.iload 4, 2) := dk_21 4 (dk_at dksX8_called_1 0 rfl rfl)
theorem dX8_called_25 : decode cX8_called 25 = .ok (.iconst 2, 1) := dk_5 (dk_at dksX8_called_1 2 rfl rfl)
theorem dX8_called_26 : decode cX8_called 26 = .ok (.if_icmp .ge 32, 3) := dk_162 0 32 (dk_at dksX8_called_1 3 rfl rfl)
theorem dX8_called_29 : decode cX8_called 29 = .ok (.aload_n 0, 1) := dk_42 (dk_at dksX8_called_1 6 rfl rfl)
theorem dX8_called_30 : decode cX8_called 30 = .ok (.iload 4, 2) := dk_21 4 (dk_at dksX8_called_1 7 rfl rfl)
theorem dX8_called_32 : decode cX8_called 32 = .ok (.invokevirtual 357, 3) := dk_182 1 101 (dk_at dksX8_called_1 9 rfl rfl)
theorem dX8_called_35 : decode cX8_called 35 = .ok (.ifCond .eq 17, 3) := dk_153 0 17 (dk_at dksX8_called_1 12 rfl rfl)
theorem dX8_called_38 : decode cX8_called 38 = .ok (.aload_n 0, 1) := dk_42 (dk_at dksX8_called_1 15 rfl rfl)
theorem dX8_called_39 : decode cX8_called 39 = .ok (.iload 4, 2) := dk_21 4 (dk_at dksX8_called_1 16 rfl rfl)
theorem dX8_called_41 : decode cX8_called 41 = .ok (.aload_n 0, 1) := dk_42 (dk_at dksX8_called_1 18 rfl rfl)
theorem dX8_called_42 : decode cX8_called 42 = .ok (.iconst 3, 1) := dk_6 (dk_at dksX8_called_1 19 rfl rfl)
theorem dX8_called_43 : decode cX8_called 43 = .ok (.invokevirtual 363, 3) := dk_182 1 107 (dk_at dksX8_called_1 20 rfl rfl)
theorem dX8_called_46 : decode cX8_called 46 = .ok (.iconst 1, 1) := dk_4 (dk_at dksX8_called_1 23 rfl rfl)
theorem dX8_called_47 : decode cX8_called 47 = .ok (.isub, 1) := dk_100 (dk_at dksX8_called_2 0 rfl rfl)
theorem dX8_called_48 : decode cX8_called 48 = .ok (.iload_n 3, 1) := dk_29 (dk_at dksX8_called_2 1 rfl rfl)
theorem dX8_called_49 : decode cX8_called 49 = .ok (.invokevirtual 360, 3) := dk_182 1 104 (dk_at dksX8_called_2 2 rfl rfl)
theorem dX8_called_52 : decode cX8_called 52 = .ok (.iinc 4 1, 3) := dk_132 4 1 (dk_at dksX8_called_2 5 rfl rfl)
theorem dX8_called_55 : decode cX8_called 55 = .ok (.goto (-32), 3) := dk_167 255 224 (dk_at dksX8_called_2 8 rfl rfl)
theorem dX8_called_58 : decode cX8_called 58 = .ok (.iinc 3 1, 3) := dk_132 3 1 (dk_at dksX8_called_2 11 rfl rfl)
theorem dX8_called_61 : decode cX8_called 61 = .ok (.goto (-47), 3) := dk_167 255 209 (dk_at dksX8_called_2 14 rfl rfl)
theorem dX8_called_64 : decode cX8_called 64 = .ok (.aload_n 0, 1) := dk_42 (dk_at dksX8_called_2 17 rfl rfl)
theorem dX8_called_65 : decode cX8_called 65 = .ok (.iconst 0, 1) := dk_3 (dk_at dksX8_called_2 18 rfl rfl)
theorem dX8_called_66 : decode cX8_called 66 = .ok (.invokevirtual 366, 3) := dk_182 1 110 (dk_at dksX8_called_2 19 rfl rfl)
theorem dX8_called_69 : decode cX8_called 69 = .ok (.istore_n 3, 1) := dk_62 (dk_at dksX8_called_2 22 rfl rfl)
theorem dX8_called_70 : decode cX8_called 70 = .ok (.aload_n 0, 1) := dk_42 (dk_at dksX8_called_2 23 rfl rfl)
theorem dX8_called_71 : decode cX8_called 71 = .ok (.iconst 1, 1) := dk_4 (dk_at dksX8_called_3 0 rfl rfl)
theorem dX8_called_72 : decode cX8_called 72 = .ok (.invokevirtual 366, 3) := dk_182 1 110 (dk_at dksX8_called_3 1 rfl rfl)
theorem dX8_called_75 : decode cX8_called 75 = .ok (.istore 4, 2) := dk_54 4 (dk_at dksX8_called_3 4 rfl rfl)
theorem dX8_called_77 : decode cX8_called 77 = .ok (.iload_n 3, 1) := dk_29 (dk_at dksX8_called_3 6 rfl rfl)
theorem dX8_called_78 : decode cX8_called 78 = .ok (.ifCond .ne 10, 3) := dk_154 0 10 (dk_at dksX8_called_3 7 rfl rfl)
theorem dX8_called_81 : decode cX8_called 81 = .ok (.iload 4, 2) := dk_21 4 (dk_at dksX8_called_3 10 rfl rfl)
theorem dX8_called_83 : decode cX8_called 83 = .ok (.ifCond .ne 5, 3) := dk_154 0 5 (dk_at dksX8_called_3 12 rfl rfl)
theorem dX8_called_86 : decode cX8_called 86 = .ok (.iconst 4, 1) := dk_7 (dk_at dksX8_called_3 15 rfl rfl)
theorem dX8_called_87 : decode cX8_called 87 = .ok (.ireturn, 1) := dk_172 (dk_at dksX8_called_3 16 rfl rfl)
theorem dX8_called_88 : decode cX8_called 88 = .ok (.iload_n 3, 1) := dk_29 (dk_at dksX8_called_3 17 rfl rfl)
theorem dX8_called_89 : decode cX8_called 89 = .ok (.iload 4, 2) := dk_21 4 (dk_at dksX8_called_3 18 rfl rfl)
theorem dX8_called_91 : decode cX8_called 91 = .ok (.if_icmp .ne 5, 3) := dk_160 0 5 (dk_at dksX8_called_3 20 rfl rfl)
theorem dX8_called_94 : decode cX8_called 94 = .ok (.iconst 3, 1) := dk_6 (dk_at dksX8_called_3 23 rfl rfl)
theorem dX8_called_95 : decode cX8_called 95 = .ok (.ireturn, 1) := dk_172 (dk_at dksX8_called_4 0 rfl rfl)
theorem dX8_called_96 : decode cX8_called 96 = .ok (.iload 4, 2) := dk_21 4 (dk_at dksX8_called_4 1 rfl rfl)
theorem dX8_called_98 : decode cX8_called 98 = .ok (.ifCond .eq 13, 3) := dk_153 0 13 (dk_at dksX8_called_4 3 rfl rfl)
theorem dX8_called_101 : decode cX8_called 101 = .ok (.iload_n 3, 1) := dk_29 (dk_at dksX8_called_4 6 rfl rfl)
theorem dX8_called_102 : decode cX8_called 102 = .ok (.ifCond .le 13, 3) := dk_158 0 13 (dk_at dksX8_called_4 7 rfl rfl)
theorem dX8_called_105 : decode cX8_called 105 = .ok (.iload_n 3, 1) := dk_29 (dk_at dksX8_called_4 10 rfl rfl)
theorem dX8_called_106 : decode cX8_called 106 = .ok (.iload 4, 2) := dk_21 4 (dk_at dksX8_called_4 11 rfl rfl)
theorem dX8_called_108 : decode cX8_called 108 = .ok (.if_icmp .ge 7, 3) := dk_162 0 7 (dk_at dksX8_called_4 13 rfl rfl)
theorem dX8_called_111 : decode cX8_called 111 = .ok (.iconst 1, 1) := dk_4 (dk_at dksX8_called_4 16 rfl rfl)
theorem dX8_called_112 : decode cX8_called 112 = .ok (.goto 4, 3) := dk_167 0 4 (dk_at dksX8_called_4 17 rfl rfl)
theorem dX8_called_115 : decode cX8_called 115 = .ok (.iconst 2, 1) := dk_5 (dk_at dksX8_called_4 20 rfl rfl)
theorem dX8_called_116 : decode cX8_called 116 = .ok (.ireturn, 1) := dk_172 (dk_at dksX8_called_4 21 rfl rfl)
abbrev cX8_drawn : ByteArray := prog_18_method_23_code
def yX8_drawn : MethodName := ⟨RX8, "drawn", "(I)I"⟩
def dkwX8_drawn_1 : List UInt8 := [180, 0, 13, 16, 12, 46, 16, 16, 122, 17, 127, 255, 126, 27, 112, 172]
abbrev dktX8_drawn_1 : List UInt8 := dkwX8_drawn_1 ++ []
def dkwX8_drawn_0 : List UInt8 := [42, 180, 0, 13, 16, 12, 18, 88, 42, 180, 0, 13, 16, 12, 46, 104, 17, 48, 57, 96, 79, 42]
abbrev dktX8_drawn_0 : List UInt8 := dkwX8_drawn_0 ++ dktX8_drawn_1
theorem dksX8_drawn_0 : cX8_drawn.data.toList.drop 0 = dktX8_drawn_0 := by decide +kernel
theorem dksX8_drawn_1 : cX8_drawn.data.toList.drop 22 = dktX8_drawn_1 := dk_seg dksX8_drawn_0 22 rfl rfl
theorem dX8_drawn_0 : decode cX8_drawn 0 = .ok (.aload_n 0, 1) := dk_42 (dk_at dksX8_drawn_0 0 rfl rfl)
theorem dX8_drawn_1 : decode cX8_drawn 1 = .ok (.getfield 13, 3) := dk_180 0 13 (dk_at dksX8_drawn_0 1 rfl rfl)
theorem dX8_drawn_4 : decode cX8_drawn 4 = .ok (.bipush 12, 2) := dk_16 12 (dk_at dksX8_drawn_0 4 rfl rfl)
theorem dX8_drawn_6 : decode cX8_drawn 6 = .ok (.ldc 88, 2) := dk_18 88 (dk_at dksX8_drawn_0 6 rfl rfl)
theorem dX8_drawn_8 : decode cX8_drawn 8 = .ok (.aload_n 0, 1) := dk_42 (dk_at dksX8_drawn_0 8 rfl rfl)
theorem dX8_drawn_9 : decode cX8_drawn 9 = .ok (.getfield 13, 3) := dk_180 0 13 (dk_at dksX8_drawn_0 9 rfl rfl)
theorem dX8_drawn_12 : decode cX8_drawn 12 = .ok (.bipush 12, 2) := dk_16 12 (dk_at dksX8_drawn_0 12 rfl rfl)
theorem dX8_drawn_14 : decode cX8_drawn 14 = .ok (.iaload, 1) := dk_46 (dk_at dksX8_drawn_0 14 rfl rfl)
theorem dX8_drawn_15 : decode cX8_drawn 15 = .ok (.imul, 1) := dk_104 (dk_at dksX8_drawn_0 15 rfl rfl)
theorem dX8_drawn_16 : decode cX8_drawn 16 = .ok (.sipush 12345, 3) := dk_17 48 57 (dk_at dksX8_drawn_0 16 rfl rfl)
theorem dX8_drawn_19 : decode cX8_drawn 19 = .ok (.iadd, 1) := dk_96 (dk_at dksX8_drawn_0 19 rfl rfl)
theorem dX8_drawn_20 : decode cX8_drawn 20 = .ok (.iastore, 1) := dk_79 (dk_at dksX8_drawn_0 20 rfl rfl)
theorem dX8_drawn_21 : decode cX8_drawn 21 = .ok (.aload_n 0, 1) := dk_42 (dk_at dksX8_drawn_0 21 rfl rfl)
theorem dX8_drawn_22 : decode cX8_drawn 22 = .ok (.getfield 13, 3) := dk_180 0 13 (dk_at dksX8_drawn_1 0 rfl rfl)
theorem dX8_drawn_25 : decode cX8_drawn 25 = .ok (.bipush 12, 2) := dk_16 12 (dk_at dksX8_drawn_1 3 rfl rfl)
theorem dX8_drawn_27 : decode cX8_drawn 27 = .ok (.iaload, 1) := dk_46 (dk_at dksX8_drawn_1 5 rfl rfl)
theorem dX8_drawn_28 : decode cX8_drawn 28 = .ok (.bipush 16, 2) := dk_16 16 (dk_at dksX8_drawn_1 6 rfl rfl)
theorem dX8_drawn_30 : decode cX8_drawn 30 = .ok (.ishr, 1) := dk_122 (dk_at dksX8_drawn_1 8 rfl rfl)
theorem dX8_drawn_31 : decode cX8_drawn 31 = .ok (.sipush 32767, 3) := dk_17 127 255 (dk_at dksX8_drawn_1 9 rfl rfl)
theorem dX8_drawn_34 : decode cX8_drawn 34 = .ok (.iand, 1) := dk_126 (dk_at dksX8_drawn_1 12 rfl rfl)
theorem dX8_drawn_35 : decode cX8_drawn 35 = .ok (.iload_n 1, 1) := dk_27 (dk_at dksX8_drawn_1 13 rfl rfl)
theorem dX8_drawn_36 : decode cX8_drawn 36 = .ok (.irem, 1) := dk_112 (dk_at dksX8_drawn_1 14 rfl rfl)
theorem dX8_drawn_37 : decode cX8_drawn 37 = .ok (.ireturn, 1) := dk_172 (dk_at dksX8_drawn_1 15 rfl rfl)
abbrev cX8_goodIn : ByteArray := prog_18_method_80_code
def yX8_goodIn : MethodName := ⟨RX8, "goodIn", "(I)I"⟩
def dkwX8_goodIn_0 : List UInt8 := [42, 180, 0, 51, 7, 27, 104, 6, 96, 46, 172]
abbrev dktX8_goodIn_0 : List UInt8 := dkwX8_goodIn_0 ++ []
theorem dksX8_goodIn_0 : cX8_goodIn.data.toList.drop 0 = dktX8_goodIn_0 := by decide +kernel
theorem dX8_goodIn_0 : decode cX8_goodIn 0 = .ok (.aload_n 0, 1) := dk_42 (dk_at dksX8_goodIn_0 0 rfl rfl)
theorem dX8_goodIn_1 : decode cX8_goodIn 1 = .ok (.getfield 51, 3) := dk_180 0 51 (dk_at dksX8_goodIn_0 1 rfl rfl)
theorem dX8_goodIn_4 : decode cX8_goodIn 4 = .ok (.iconst 4, 1) := dk_7 (dk_at dksX8_goodIn_0 4 rfl rfl)
theorem dX8_goodIn_5 : decode cX8_goodIn 5 = .ok (.iload_n 1, 1) := dk_27 (dk_at dksX8_goodIn_0 5 rfl rfl)
theorem dX8_goodIn_6 : decode cX8_goodIn 6 = .ok (.imul, 1) := dk_104 (dk_at dksX8_goodIn_0 6 rfl rfl)
theorem dX8_goodIn_7 : decode cX8_goodIn 7 = .ok (.iconst 3, 1) := dk_6 (dk_at dksX8_goodIn_0 7 rfl rfl)
theorem dX8_goodIn_8 : decode cX8_goodIn 8 = .ok (.iadd, 1) := dk_96 (dk_at dksX8_goodIn_0 8 rfl rfl)
theorem dX8_goodIn_9 : decode cX8_goodIn 9 = .ok (.iaload, 1) := dk_46 (dk_at dksX8_goodIn_0 9 rfl rfl)
theorem dX8_goodIn_10 : decode cX8_goodIn 10 = .ok (.ireturn, 1) := dk_172 (dk_at dksX8_goodIn_0 10 rfl rfl)
abbrev cX8_tells : ByteArray := prog_18_method_106_code
def yX8_tells : MethodName := ⟨RX8, "tells", "(IIII)V"⟩
def dkwX8_tells_5 : List UInt8 := [184, 1, 39, 79, 177]
abbrev dktX8_tells_5 : List UInt8 := dkwX8_tells_5 ++ []
def dkwX8_tells_4 : List UInt8 := [42, 182, 1, 164, 79, 42, 180, 0, 13, 16, 11, 16, 60, 42, 180, 0, 13, 16, 11, 46, 4, 96]
abbrev dktX8_tells_4 : List UInt8 := dkwX8_tells_4 ++ dktX8_tells_5
def dkwX8_tells_3 : List UInt8 := [79, 42, 180, 0, 13, 16, 125, 29, 79, 42, 180, 0, 13, 16, 126, 21, 4, 79, 42, 180, 0, 13, 16, 127]
abbrev dktX8_tells_3 : List UInt8 := dkwX8_tells_3 ++ dktX8_tells_4
def dkwX8_tells_2 : List UInt8 := [16, 122, 42, 180, 0, 13, 8, 46, 79, 42, 180, 0, 13, 16, 123, 27, 79, 42, 180, 0, 13, 16, 124, 28]
abbrev dktX8_tells_2 : List UInt8 := dkwX8_tells_2 ++ dktX8_tells_3
def dkwX8_tells_1 : List UInt8 := [180, 0, 13, 16, 122, 21, 5, 96, 16, 6, 100, 46, 79, 132, 5, 255, 167, 255, 223, 42, 180, 0, 13]
abbrev dktX8_tells_1 : List UInt8 := dkwX8_tells_1 ++ dktX8_tells_2
def dkwX8_tells_0 : List UInt8 := [17, 1, 103, 54, 5, 21, 5, 16, 6, 161, 0, 32, 42, 180, 0, 13, 16, 122, 21, 5, 96, 42]
abbrev dktX8_tells_0 : List UInt8 := dkwX8_tells_0 ++ dktX8_tells_1
theorem dksX8_tells_0 : cX8_tells.data.toList.drop 0 = dktX8_tells_0 := by decide +kernel
theorem dksX8_tells_1 : cX8_tells.data.toList.drop 22 = dktX8_tells_1 := dk_seg dksX8_tells_0 22 rfl rfl
theorem dksX8_tells_2 : cX8_tells.data.toList.drop 45 = dktX8_tells_2 := dk_seg dksX8_tells_1 23 rfl rfl
theorem dksX8_tells_3 : cX8_tells.data.toList.drop 69 = dktX8_tells_3 := dk_seg dksX8_tells_2 24 rfl rfl
theorem dksX8_tells_4 : cX8_tells.data.toList.drop 93 = dktX8_tells_4 := dk_seg dksX8_tells_3 24 rfl rfl
theorem dksX8_tells_5 : cX8_tells.data.toList.drop 115 = dktX8_tells_5 := dk_seg dksX8_tells_4 22 rfl rfl
theorem dX8_tells_0 : decode cX8_tells 0 = .ok (.sipush 359, 3) := dk_17 1 103 (dk_at dksX8_tells_0 0 rfl rfl)
theorem dX8_tells_3 : decode cX8_tells 3 = .ok (.istore 5, 2) := dk_54 5 (dk_at dksX8_tells_0 3 rfl rfl)
theorem dX8_tells_5 : decode cX8_tells 5 = .ok (.iload 5, 2) := dk_21 5 (dk_at dksX8_tells_0 5 rfl rfl)
theorem dX8_tells_7 : decode cX8_tells 7 = .ok (.bipush 6, 2) := dk_16 6 (dk_at dksX8_tells_0 7 rfl rfl)
theorem dX8_tells_9 : decode cX8_tells 9 = .ok (.if_icmp .lt 32, 3) := dk_161 0 32 (dk_at dksX8_tells_0 9 rfl rfl)
theorem dX8_tells_12 : decode cX8_tells 12 = .ok (.aload_n 0, 1) := dk_42 (dk_at dksX8_tells_0 12 rfl rfl)
theorem dX8_tells_13 : decode cX8_tells 13 = .ok (.getfield 13, 3) := dk_180 0 13 (dk_at dksX8_tells_0 13 rfl rfl)
theorem dX8_tells_16 : decode cX8_tells 16 = .ok (.bipush 122, 2) := dk_16 122 (dk_at dksX8_tells_0 16 rfl rfl)
theorem dX8_tells_18 : decode cX8_tells 18 = .ok (.iload 5, 2) := dk_21 5 (dk_at dksX8_tells_0 18 rfl rfl)
theorem dX8_tells_20 : decode cX8_tells 20 = .ok (.iadd, 1) := dk_96 (dk_at dksX8_tells_0 20 rfl rfl)
theorem dX8_tells_21 : decode cX8_tells 21 = .ok (.aload_n 0, 1) := dk_42 (dk_at dksX8_tells_0 21 rfl rfl)
theorem dX8_tells_22 : decode cX8_tells 22 = .ok (.getfield 13, 3) := dk_180 0 13 (dk_at dksX8_tells_1 0 rfl rfl)
theorem dX8_tells_25 : decode cX8_tells 25 = .ok (.bipush 122, 2) := dk_16 122 (dk_at dksX8_tells_1 3 rfl rfl)
theorem dX8_tells_27 : decode cX8_tells 27 = .ok (.iload 5, 2) := dk_21 5 (dk_at dksX8_tells_1 5 rfl rfl)
theorem dX8_tells_29 : decode cX8_tells 29 = .ok (.iadd, 1) := dk_96 (dk_at dksX8_tells_1 7 rfl rfl)
theorem dX8_tells_30 : decode cX8_tells 30 = .ok (.bipush 6, 2) := dk_16 6 (dk_at dksX8_tells_1 8 rfl rfl)
theorem dX8_tells_32 : decode cX8_tells 32 = .ok (.isub, 1) := dk_100 (dk_at dksX8_tells_1 10 rfl rfl)
theorem dX8_tells_33 : decode cX8_tells 33 = .ok (.iaload, 1) := dk_46 (dk_at dksX8_tells_1 11 rfl rfl)
theorem dX8_tells_34 : decode cX8_tells 34 = .ok (.iastore, 1) := dk_79 (dk_at dksX8_tells_1 12 rfl rfl)
theorem dX8_tells_35 : decode cX8_tells 35 = .ok (.iinc 5 (-1), 3) := dk_132 5 255 (dk_at dksX8_tells_1 13 rfl rfl)
theorem dX8_tells_38 : decode cX8_tells 38 = .ok (.goto (-33), 3) := dk_167 255 223 (dk_at dksX8_tells_1 16 rfl rfl)
theorem dX8_tells_41 : decode cX8_tells 41 = .ok (.aload_n 0, 1) := dk_42 (dk_at dksX8_tells_1 19 rfl rfl)
theorem dX8_tells_42 : decode cX8_tells 42 = .ok (.getfield 13, 3) := dk_180 0 13 (dk_at dksX8_tells_1 20 rfl rfl)
theorem dX8_tells_45 : decode cX8_tells 45 = .ok (.bipush 122, 2) := dk_16 122 (dk_at dksX8_tells_2 0 rfl rfl)
theorem dX8_tells_47 : decode cX8_tells 47 = .ok (.aload_n 0, 1) := dk_42 (dk_at dksX8_tells_2 2 rfl rfl)
theorem dX8_tells_48 : decode cX8_tells 48 = .ok (.getfield 13, 3) := dk_180 0 13 (dk_at dksX8_tells_2 3 rfl rfl)
theorem dX8_tells_51 : decode cX8_tells 51 = .ok (.iconst 5, 1) := dk_8 (dk_at dksX8_tells_2 6 rfl rfl)
theorem dX8_tells_52 : decode cX8_tells 52 = .ok (.iaload, 1) := dk_46 (dk_at dksX8_tells_2 7 rfl rfl)
theorem dX8_tells_53 : decode cX8_tells 53 = .ok (.iastore, 1) := dk_79 (dk_at dksX8_tells_2 8 rfl rfl)
theorem dX8_tells_54 : decode cX8_tells 54 = .ok (.aload_n 0, 1) := dk_42 (dk_at dksX8_tells_2 9 rfl rfl)
theorem dX8_tells_55 : decode cX8_tells 55 = .ok (.getfield 13, 3) := dk_180 0 13 (dk_at dksX8_tells_2 10 rfl rfl)
theorem dX8_tells_58 : decode cX8_tells 58 = .ok (.bipush 123, 2) := dk_16 123 (dk_at dksX8_tells_2 13 rfl rfl)
theorem dX8_tells_60 : decode cX8_tells 60 = .ok (.iload_n 1, 1) := dk_27 (dk_at dksX8_tells_2 15 rfl rfl)
theorem dX8_tells_61 : decode cX8_tells 61 = .ok (.iastore, 1) := dk_79 (dk_at dksX8_tells_2 16 rfl rfl)
theorem dX8_tells_62 : decode cX8_tells 62 = .ok (.aload_n 0, 1) := dk_42 (dk_at dksX8_tells_2 17 rfl rfl)
theorem dX8_tells_63 : decode cX8_tells 63 = .ok (.getfield 13, 3) := dk_180 0 13 (dk_at dksX8_tells_2 18 rfl rfl)
theorem dX8_tells_66 : decode cX8_tells 66 = .ok (.bipush 124, 2) := dk_16 124 (dk_at dksX8_tells_2 21 rfl rfl)
theorem dX8_tells_68 : decode cX8_tells 68 = .ok (.iload_n 2, 1) := dk_28 (dk_at dksX8_tells_2 23 rfl rfl)
theorem dX8_tells_69 : decode cX8_tells 69 = .ok (.iastore, 1) := dk_79 (dk_at dksX8_tells_3 0 rfl rfl)
theorem dX8_tells_70 : decode cX8_tells 70 = .ok (.aload_n 0, 1) := dk_42 (dk_at dksX8_tells_3 1 rfl rfl)
theorem dX8_tells_71 : decode cX8_tells 71 = .ok (.getfield 13, 3) := dk_180 0 13 (dk_at dksX8_tells_3 2 rfl rfl)
theorem dX8_tells_74 : decode cX8_tells 74 = .ok (.bipush 125, 2) := dk_16 125 (dk_at dksX8_tells_3 5 rfl rfl)
theorem dX8_tells_76 : decode cX8_tells 76 = .ok (.iload_n 3, 1) := dk_29 (dk_at dksX8_tells_3 7 rfl rfl)
theorem dX8_tells_77 : decode cX8_tells 77 = .ok (.iastore, 1) := dk_79 (dk_at dksX8_tells_3 8 rfl rfl)
theorem dX8_tells_78 : decode cX8_tells 78 = .ok (.aload_n 0, 1) := dk_42 (dk_at dksX8_tells_3 9 rfl rfl)
theorem dX8_tells_79 : decode cX8_tells 79 = .ok (.getfield 13, 3) := dk_180 0 13 (dk_at dksX8_tells_3 10 rfl rfl)
theorem dX8_tells_82 : decode cX8_tells 82 = .ok (.bipush 126, 2) := dk_16 126 (dk_at dksX8_tells_3 13 rfl rfl)
theorem dX8_tells_84 : decode cX8_tells 84 = .ok (.iload 4, 2) := dk_21 4 (dk_at dksX8_tells_3 15 rfl rfl)
theorem dX8_tells_86 : decode cX8_tells 86 = .ok (.iastore, 1) := dk_79 (dk_at dksX8_tells_3 17 rfl rfl)
theorem dX8_tells_87 : decode cX8_tells 87 = .ok (.aload_n 0, 1) := dk_42 (dk_at dksX8_tells_3 18 rfl rfl)
theorem dX8_tells_88 : decode cX8_tells 88 = .ok (.getfield 13, 3) := dk_180 0 13 (dk_at dksX8_tells_3 19 rfl rfl)
theorem dX8_tells_91 : decode cX8_tells 91 = .ok (.bipush 127, 2) := dk_16 127 (dk_at dksX8_tells_3 22 rfl rfl)
theorem dX8_tells_93 : decode cX8_tells 93 = .ok (.aload_n 0, 1) := dk_42 (dk_at dksX8_tells_4 0 rfl rfl)
theorem dX8_tells_94 : decode cX8_tells 94 = .ok (.invokevirtual 420, 3) := dk_182 1 164 (dk_at dksX8_tells_4 1 rfl rfl)
theorem dX8_tells_97 : decode cX8_tells 97 = .ok (.iastore, 1) := dk_79 (dk_at dksX8_tells_4 4 rfl rfl)
theorem dX8_tells_98 : decode cX8_tells 98 = .ok (.aload_n 0, 1) := dk_42 (dk_at dksX8_tells_4 5 rfl rfl)
theorem dX8_tells_99 : decode cX8_tells 99 = .ok (.getfield 13, 3) := dk_180 0 13 (dk_at dksX8_tells_4 6 rfl rfl)
theorem dX8_tells_102 : decode cX8_tells 102 = .ok (.bipush 11, 2) := dk_16 11 (dk_at dksX8_tells_4 9 rfl rfl)
theorem dX8_tells_104 : decode cX8_tells 104 = .ok (.bipush 60, 2) := dk_16 60 (dk_at dksX8_tells_4 11 rfl rfl)
theorem dX8_tells_106 : decode cX8_tells 106 = .ok (.aload_n 0, 1) := dk_42 (dk_at dksX8_tells_4 13 rfl rfl)
theorem dX8_tells_107 : decode cX8_tells 107 = .ok (.getfield 13, 3) := dk_180 0 13 (dk_at dksX8_tells_4 14 rfl rfl)
theorem dX8_tells_110 : decode cX8_tells 110 = .ok (.bipush 11, 2) := dk_16 11 (dk_at dksX8_tells_4 17 rfl rfl)
theorem dX8_tells_112 : decode cX8_tells 112 = .ok (.iaload, 1) := dk_46 (dk_at dksX8_tells_4 19 rfl rfl)
theorem dX8_tells_113 : decode cX8_tells 113 = .ok (.iconst 1, 1) := dk_4 (dk_at dksX8_tells_4 20 rfl rfl)
theorem dX8_tells_114 : decode cX8_tells 114 = .ok (.iadd, 1) := dk_96 (dk_at dksX8_tells_4 21 rfl rfl)
theorem dX8_tells_115 : decode cX8_tells 115 = .ok (.invokestatic 295, 3) := dk_184 1 39 (dk_at dksX8_tells_5 0 rfl rfl)
theorem dX8_tells_118 : decode cX8_tells 118 = .ok (.iastore, 1) := dk_79 (dk_at dksX8_tells_5 3 rfl rfl)
theorem dX8_tells_119 : decode cX8_tells 119 = .ok (.return_, 1) := dk_177 (dk_at dksX8_tells_5 4 rfl rfl)
abbrev cX8_goodFirst : ByteArray := prog_18_method_84_code
def yX8_goodFirst : MethodName := ⟨RX8, "goodFirst", "()I"⟩
def dkwX8_goodFirst_1 : List UInt8 := [27, 167, 0, 8, 27, 28, 184, 1, 39, 172]
abbrev dktX8_goodFirst_1 : List UInt8 := dkwX8_goodFirst_1 ++ []
def dkwX8_goodFirst_0 : List UInt8 := [42, 3, 182, 1, 110, 60, 42, 4, 182, 1, 110, 61, 27, 154, 0, 7, 28, 167, 0, 16, 28, 154, 0, 7]
abbrev dktX8_goodFirst_0 : List UInt8 := dkwX8_goodFirst_0 ++ dktX8_goodFirst_1
theorem dksX8_goodFirst_0 : cX8_goodFirst.data.toList.drop 0 = dktX8_goodFirst_0 := by decide +kernel
theorem dksX8_goodFirst_1 : cX8_goodFirst.data.toList.drop 24 = dktX8_goodFirst_1 := dk_seg dksX8_goodFirst_0 24 rfl rfl
theorem dX8_goodFirst_0 : decode cX8_goodFirst 0 = .ok (.aload_n 0, 1) := dk_42 (dk_at dksX8_goodFirst_0 0 rfl rfl)
theorem dX8_goodFirst_1 : decode cX8_goodFirst 1 = .ok (.iconst 0, 1) := dk_3 (dk_at dksX8_goodFirst_0 1 rfl rfl)
theorem dX8_goodFirst_2 : decode cX8_goodFirst 2 = .ok (.invokevirtual 366, 3) := dk_182 1 110 (dk_at dksX8_goodFirst_0 2 rfl rfl)
theorem dX8_goodFirst_5 : decode cX8_goodFirst 5 = .ok (.istore_n 1, 1) := dk_60 (dk_at dksX8_goodFirst_0 5 rfl rfl)
theorem dX8_goodFirst_6 : decode cX8_goodFirst 6 = .ok (.aload_n 0, 1) := dk_42 (dk_at dksX8_goodFirst_0 6 rfl rfl)
theorem dX8_goodFirst_7 : decode cX8_goodFirst 7 = .ok (.iconst 1, 1) := dk_4 (dk_at dksX8_goodFirst_0 7 rfl rfl)
theorem dX8_goodFirst_8 : decode cX8_goodFirst 8 = .ok (.invokevirtual 366, 3) := dk_182 1 110 (dk_at dksX8_goodFirst_0 8 rfl rfl)
theorem dX8_goodFirst_11 : decode cX8_goodFirst 11 = .ok (.istore_n 2, 1) := dk_61 (dk_at dksX8_goodFirst_0 11 rfl rfl)
theorem dX8_goodFirst_12 : decode cX8_goodFirst 12 = .ok (.iload_n 1, 1) := dk_27 (dk_at dksX8_goodFirst_0 12 rfl rfl)
theorem dX8_goodFirst_13 : decode cX8_goodFirst 13 = .ok (.ifCond .ne 7, 3) := dk_154 0 7 (dk_at dksX8_goodFirst_0 13 rfl rfl)
theorem dX8_goodFirst_16 : decode cX8_goodFirst 16 = .ok (.iload_n 2, 1) := dk_28 (dk_at dksX8_goodFirst_0 16 rfl rfl)
theorem dX8_goodFirst_17 : decode cX8_goodFirst 17 = .ok (.goto 16, 3) := dk_167 0 16 (dk_at dksX8_goodFirst_0 17 rfl rfl)
theorem dX8_goodFirst_20 : decode cX8_goodFirst 20 = .ok (.iload_n 2, 1) := dk_28 (dk_at dksX8_goodFirst_0 20 rfl rfl)
theorem dX8_goodFirst_21 : decode cX8_goodFirst 21 = .ok (.ifCond .ne 7, 3) := dk_154 0 7 (dk_at dksX8_goodFirst_0 21 rfl rfl)
theorem dX8_goodFirst_24 : decode cX8_goodFirst 24 = .ok (.iload_n 1, 1) := dk_27 (dk_at dksX8_goodFirst_1 0 rfl rfl)
theorem dX8_goodFirst_25 : decode cX8_goodFirst 25 = .ok (.goto 8, 3) := dk_167 0 8 (dk_at dksX8_goodFirst_1 1 rfl rfl)
theorem dX8_goodFirst_28 : decode cX8_goodFirst 28 = .ok (.iload_n 1, 1) := dk_27 (dk_at dksX8_goodFirst_1 4 rfl rfl)
theorem dX8_goodFirst_29 : decode cX8_goodFirst 29 = .ok (.iload_n 2, 1) := dk_28 (dk_at dksX8_goodFirst_1 5 rfl rfl)
theorem dX8_goodFirst_30 : decode cX8_goodFirst 30 = .ok (.invokestatic 295, 3) := dk_184 1 39 (dk_at dksX8_goodFirst_1 6 rfl rfl)
theorem dX8_goodFirst_33 : decode cX8_goodFirst 33 = .ok (.ireturn, 1) := dk_172 (dk_at dksX8_goodFirst_1 9 rfl rfl)
abbrev cX8_hour : ByteArray := prog_18_method_108_code
def yX8_hour : MethodName := ⟨RX8, "hour", "(I)I"⟩
def dkwX8_hour_2 : List UInt8 := [16, 6, 27, 79, 28, 172]
abbrev dktX8_hour_2 : List UInt8 := dkwX8_hour_2 ++ []
def dkwX8_hour_1 : List UInt8 := [182, 1, 9, 153, 0, 5, 3, 172, 42, 182, 1, 167, 42, 180, 0, 13, 16, 6, 46, 61, 42, 180, 0, 13]
abbrev dktX8_hour_1 : List UInt8 := dkwX8_hour_1 ++ dktX8_hour_2
def dkwX8_hour_0 : List UInt8 := [42, 3, 181, 0, 3, 42, 27, 3, 16, 23, 184, 0, 78, 154, 0, 7, 4, 167, 0, 4, 3, 4]
abbrev dktX8_hour_0 : List UInt8 := dkwX8_hour_0 ++ dktX8_hour_1
theorem dksX8_hour_0 : cX8_hour.data.toList.drop 0 = dktX8_hour_0 := by decide +kernel
theorem dksX8_hour_1 : cX8_hour.data.toList.drop 22 = dktX8_hour_1 := dk_seg dksX8_hour_0 22 rfl rfl
theorem dksX8_hour_2 : cX8_hour.data.toList.drop 46 = dktX8_hour_2 := dk_seg dksX8_hour_1 24 rfl rfl
theorem dX8_hour_0 : decode cX8_hour 0 = .ok (.aload_n 0, 1) := dk_42 (dk_at dksX8_hour_0 0 rfl rfl)
theorem dX8_hour_1 : decode cX8_hour 1 = .ok (.iconst 0, 1) := dk_3 (dk_at dksX8_hour_0 1 rfl rfl)
theorem dX8_hour_2 : decode cX8_hour 2 = .ok (.putfield 3, 3) := dk_181 0 3 (dk_at dksX8_hour_0 2 rfl rfl)
theorem dX8_hour_5 : decode cX8_hour 5 = .ok (.aload_n 0, 1) := dk_42 (dk_at dksX8_hour_0 5 rfl rfl)
theorem dX8_hour_6 : decode cX8_hour 6 = .ok (.iload_n 1, 1) := dk_27 (dk_at dksX8_hour_0 6 rfl rfl)
theorem dX8_hour_7 : decode cX8_hour 7 = .ok (.iconst 0, 1) := dk_3 (dk_at dksX8_hour_0 7 rfl rfl)
theorem dX8_hour_8 : decode cX8_hour 8 = .ok (.bipush 23, 2) := dk_16 23 (dk_at dksX8_hour_0 8 rfl rfl)
theorem dX8_hour_10 : decode cX8_hour 10 = .ok (.invokestatic 78, 3) := dk_184 0 78 (dk_at dksX8_hour_0 10 rfl rfl)
theorem dX8_hour_13 : decode cX8_hour 13 = .ok (.ifCond .ne 7, 3) := dk_154 0 7 (dk_at dksX8_hour_0 13 rfl rfl)
theorem dX8_hour_16 : decode cX8_hour 16 = .ok (.iconst 1, 1) := dk_4 (dk_at dksX8_hour_0 16 rfl rfl)
theorem dX8_hour_17 : decode cX8_hour 17 = .ok (.goto 4, 3) := dk_167 0 4 (dk_at dksX8_hour_0 17 rfl rfl)
theorem dX8_hour_20 : decode cX8_hour 20 = .ok (.iconst 0, 1) := dk_3 (dk_at dksX8_hour_0 20 rfl rfl)
theorem dX8_hour_21 : decode cX8_hour 21 = .ok (.iconst 1, 1) := dk_4 (dk_at dksX8_hour_0 21 rfl rfl)
theorem dX8_hour_22 : decode cX8_hour 22 = .ok (.invokevirtual 265, 3) := dk_182 1 9 (dk_at dksX8_hour_1 0 rfl rfl)
theorem dX8_hour_25 : decode cX8_hour 25 = .ok (.ifCond .eq 5, 3) := dk_153 0 5 (dk_at dksX8_hour_1 3 rfl rfl)
theorem dX8_hour_28 : decode cX8_hour 28 = .ok (.iconst 0, 1) := dk_3 (dk_at dksX8_hour_1 6 rfl rfl)
theorem dX8_hour_29 : decode cX8_hour 29 = .ok (.ireturn, 1) := dk_172 (dk_at dksX8_hour_1 7 rfl rfl)
theorem dX8_hour_30 : decode cX8_hour 30 = .ok (.aload_n 0, 1) := dk_42 (dk_at dksX8_hour_1 8 rfl rfl)
theorem dX8_hour_31 : decode cX8_hour 31 = .ok (.invokevirtual 423, 3) := dk_182 1 167 (dk_at dksX8_hour_1 9 rfl rfl)
theorem dX8_hour_34 : decode cX8_hour 34 = .ok (.aload_n 0, 1) := dk_42 (dk_at dksX8_hour_1 12 rfl rfl)
theorem dX8_hour_35 : decode cX8_hour 35 = .ok (.getfield 13, 3) := dk_180 0 13 (dk_at dksX8_hour_1 13 rfl rfl)
theorem dX8_hour_38 : decode cX8_hour 38 = .ok (.bipush 6, 2) := dk_16 6 (dk_at dksX8_hour_1 16 rfl rfl)
theorem dX8_hour_40 : decode cX8_hour 40 = .ok (.iaload, 1) := dk_46 (dk_at dksX8_hour_1 18 rfl rfl)
theorem dX8_hour_41 : decode cX8_hour 41 = .ok (.istore_n 2, 1) := dk_61 (dk_at dksX8_hour_1 19 rfl rfl)
theorem dX8_hour_42 : decode cX8_hour 42 = .ok (.aload_n 0, 1) := dk_42 (dk_at dksX8_hour_1 20 rfl rfl)
theorem dX8_hour_43 : decode cX8_hour 43 = .ok (.getfield 13, 3) := dk_180 0 13 (dk_at dksX8_hour_1 21 rfl rfl)
theorem dX8_hour_46 : decode cX8_hour 46 = .ok (.bipush 6, 2) := dk_16 6 (dk_at dksX8_hour_2 0 rfl rfl)
theorem dX8_hour_48 : decode cX8_hour 48 = .ok (.iload_n 1, 1) := dk_27 (dk_at dksX8_hour_2 2 rfl rfl)
theorem dX8_hour_49 : decode cX8_hour 49 = .ok (.iastore, 1) := dk_79 (dk_at dksX8_hour_2 3 rfl rfl)
theorem dX8_hour_50 : decode cX8_hour 50 = .ok (.iload_n 2, 1) := dk_28 (dk_at dksX8_hour_2 4 rfl rfl)
theorem dX8_hour_51 : decode cX8_hour 51 = .ok (.ireturn, 1) := dk_172 (dk_at dksX8_hour_2 5 rfl rfl)
abbrev cX8_blow : ByteArray := prog_18_method_109_code
def yX8_blow : MethodName := ⟨RX8, "blow", "(II)I"⟩
def dkwX8_blow_2 : List UInt8 := [42, 180, 0, 13, 16, 13, 27, 96, 46, 62, 42, 180, 0, 13, 16, 13, 27, 96, 28, 79, 29, 172]
abbrev dktX8_blow_2 : List UInt8 := dkwX8_blow_2 ++ []
def dkwX8_blow_1 : List UInt8 := [184, 0, 78, 154, 0, 7, 4, 167, 0, 4, 3, 5, 182, 1, 9, 153, 0, 5, 3, 172, 42, 182, 1, 167]
abbrev dktX8_blow_1 : List UInt8 := dkwX8_blow_1 ++ dktX8_blow_2
def dkwX8_blow_0 : List UInt8 := [42, 3, 181, 0, 3, 42, 27, 184, 1, 50, 4, 182, 1, 9, 154, 0, 26, 42, 28, 16, 253, 6]
abbrev dktX8_blow_0 : List UInt8 := dkwX8_blow_0 ++ dktX8_blow_1
theorem dksX8_blow_0 : cX8_blow.data.toList.drop 0 = dktX8_blow_0 := by decide +kernel
theorem dksX8_blow_1 : cX8_blow.data.toList.drop 22 = dktX8_blow_1 := dk_seg dksX8_blow_0 22 rfl rfl
theorem dksX8_blow_2 : cX8_blow.data.toList.drop 46 = dktX8_blow_2 := dk_seg dksX8_blow_1 24 rfl rfl
theorem dX8_blow_0 : decode cX8_blow 0 = .ok (.aload_n 0, 1) := dk_42 (dk_at dksX8_blow_0 0 rfl rfl)
theorem dX8_blow_1 : decode cX8_blow 1 = .ok (.iconst 0, 1) := dk_3 (dk_at dksX8_blow_0 1 rfl rfl)
theorem dX8_blow_2 : decode cX8_blow 2 = .ok (.putfield 3, 3) := dk_181 0 3 (dk_at dksX8_blow_0 2 rfl rfl)
theorem dX8_blow_5 : decode cX8_blow 5 = .ok (.aload_n 0, 1) := dk_42 (dk_at dksX8_blow_0 5 rfl rfl)
theorem dX8_blow_6 : decode cX8_blow 6 = .ok (.iload_n 1, 1) := dk_27 (dk_at dksX8_blow_0 6 rfl rfl)
theorem dX8_blow_7 : decode cX8_blow 7 = .ok (.invokestatic 306, 3) := dk_184 1 50 (dk_at dksX8_blow_0 7 rfl rfl)
theorem dX8_blow_10 : decode cX8_blow 10 = .ok (.iconst 1, 1) := dk_4 (dk_at dksX8_blow_0 10 rfl rfl)
theorem dX8_blow_11 : decode cX8_blow 11 = .ok (.invokevirtual 265, 3) := dk_182 1 9 (dk_at dksX8_blow_0 11 rfl rfl)
theorem dX8_blow_14 : decode cX8_blow 14 = .ok (.ifCond .ne 26, 3) := dk_154 0 26 (dk_at dksX8_blow_0 14 rfl rfl)
theorem dX8_blow_17 : decode cX8_blow 17 = .ok (.aload_n 0, 1) := dk_42 (dk_at dksX8_blow_0 17 rfl rfl)
theorem dX8_blow_18 : decode cX8_blow 18 = .ok (.iload_n 2, 1) := dk_28 (dk_at dksX8_blow_0 18 rfl rfl)
theorem dX8_blow_19 : decode cX8_blow 19 = .ok (.bipush (-3), 2) := dk_16 253 (dk_at dksX8_blow_0 19 rfl rfl)
theorem dX8_blow_21 : decode cX8_blow 21 = .ok (.iconst 3, 1) := dk_6 (dk_at dksX8_blow_0 21 rfl rfl)
theorem dX8_blow_22 : decode cX8_blow 22 = .ok (.invokestatic 78, 3) := dk_184 0 78 (dk_at dksX8_blow_1 0 rfl rfl)
theorem dX8_blow_25 : decode cX8_blow 25 = .ok (.ifCond .ne 7, 3) := dk_154 0 7 (dk_at dksX8_blow_1 3 rfl rfl)
theorem dX8_blow_28 : decode cX8_blow 28 = .ok (.iconst 1, 1) := dk_4 (dk_at dksX8_blow_1 6 rfl rfl)
theorem dX8_blow_29 : decode cX8_blow 29 = .ok (.goto 4, 3) := dk_167 0 4 (dk_at dksX8_blow_1 7 rfl rfl)
theorem dX8_blow_32 : decode cX8_blow 32 = .ok (.iconst 0, 1) := dk_3 (dk_at dksX8_blow_1 10 rfl rfl)
theorem dX8_blow_33 : decode cX8_blow 33 = .ok (.iconst 2, 1) := dk_5 (dk_at dksX8_blow_1 11 rfl rfl)
theorem dX8_blow_34 : decode cX8_blow 34 = .ok (.invokevirtual 265, 3) := dk_182 1 9 (dk_at dksX8_blow_1 12 rfl rfl)
theorem dX8_blow_37 : decode cX8_blow 37 = .ok (.ifCond .eq 5, 3) := dk_153 0 5 (dk_at dksX8_blow_1 15 rfl rfl)
theorem dX8_blow_40 : decode cX8_blow 40 = .ok (.iconst 0, 1) := dk_3 (dk_at dksX8_blow_1 18 rfl rfl)
theorem dX8_blow_41 : decode cX8_blow 41 = .ok (.ireturn, 1) := dk_172 (dk_at dksX8_blow_1 19 rfl rfl)
theorem dX8_blow_42 : decode cX8_blow 42 = .ok (.aload_n 0, 1) := dk_42 (dk_at dksX8_blow_1 20 rfl rfl)
theorem dX8_blow_43 : decode cX8_blow 43 = .ok (.invokevirtual 423, 3) := dk_182 1 167 (dk_at dksX8_blow_1 21 rfl rfl)
theorem dX8_blow_46 : decode cX8_blow 46 = .ok (.aload_n 0, 1) := dk_42 (dk_at dksX8_blow_2 0 rfl rfl)
theorem dX8_blow_47 : decode cX8_blow 47 = .ok (.getfield 13, 3) := dk_180 0 13 (dk_at dksX8_blow_2 1 rfl rfl)
theorem dX8_blow_50 : decode cX8_blow 50 = .ok (.bipush 13, 2) := dk_16 13 (dk_at dksX8_blow_2 4 rfl rfl)
theorem dX8_blow_52 : decode cX8_blow 52 = .ok (.iload_n 1, 1) := dk_27 (dk_at dksX8_blow_2 6 rfl rfl)
theorem dX8_blow_53 : decode cX8_blow 53 = .ok (.iadd, 1) := dk_96 (dk_at dksX8_blow_2 7 rfl rfl)
theorem dX8_blow_54 : decode cX8_blow 54 = .ok (.iaload, 1) := dk_46 (dk_at dksX8_blow_2 8 rfl rfl)
theorem dX8_blow_55 : decode cX8_blow 55 = .ok (.istore_n 3, 1) := dk_62 (dk_at dksX8_blow_2 9 rfl rfl)
theorem dX8_blow_56 : decode cX8_blow 56 = .ok (.aload_n 0, 1) := dk_42 (dk_at dksX8_blow_2 10 rfl rfl)
theorem dX8_blow_57 : decode cX8_blow 57 = .ok (.getfield 13, 3) := dk_180 0 13 (dk_at dksX8_blow_2 11 rfl rfl)
theorem dX8_blow_60 : decode cX8_blow 60 = .ok (.bipush 13, 2) := dk_16 13 (dk_at dksX8_blow_2 14 rfl rfl)
theorem dX8_blow_62 : decode cX8_blow 62 = .ok (.iload_n 1, 1) := dk_27 (dk_at dksX8_blow_2 16 rfl rfl)
theorem dX8_blow_63 : decode cX8_blow 63 = .ok (.iadd, 1) := dk_96 (dk_at dksX8_blow_2 17 rfl rfl)
theorem dX8_blow_64 : decode cX8_blow 64 = .ok (.iload_n 2, 1) := dk_28 (dk_at dksX8_blow_2 18 rfl rfl)
theorem dX8_blow_65 : decode cX8_blow 65 = .ok (.iastore, 1) := dk_79 (dk_at dksX8_blow_2 19 rfl rfl)
theorem dX8_blow_66 : decode cX8_blow 66 = .ok (.iload_n 3, 1) := dk_29 (dk_at dksX8_blow_2 20 rfl rfl)
theorem dX8_blow_67 : decode cX8_blow 67 = .ok (.ireturn, 1) := dk_172 (dk_at dksX8_blow_2 21 rfl rfl)
abbrev cX8_give : ByteArray := prog_18_method_110_code
def yX8_give : MethodName := ⟨RX8, "give", "(IIII)I"⟩
def dkwX8_give_5 : List UInt8 := [42, 28, 29, 182, 1, 134, 172]
abbrev dktX8_give_5 : List UInt8 := dkwX8_give_5 ++ []
def dkwX8_give_4 : List UInt8 := [42, 180, 0, 13, 28, 29, 184, 0, 67, 16, 99, 42, 28, 29, 182, 1, 134, 21, 4, 96, 184, 1, 39, 79]
abbrev dktX8_give_4 : List UInt8 := dkwX8_give_4 ++ dktX8_give_5
def dkwX8_give_3 : List UInt8 := [153, 0, 5, 3, 172, 42, 182, 1, 167, 42, 180, 0, 13, 27, 29, 184, 0, 67, 92, 46, 21, 4, 100, 79]
abbrev dktX8_give_3 : List UInt8 := dkwX8_give_3 ++ dktX8_give_4
def dkwX8_give_2 : List UInt8 := [21, 4, 4, 42, 27, 29, 182, 1, 134, 184, 0, 78, 154, 0, 7, 4, 167, 0, 4, 3, 5, 182, 1, 9]
abbrev dktX8_give_2 : List UInt8 := dkwX8_give_2 ++ dktX8_give_3
def dkwX8_give_1 : List UInt8 := [182, 1, 47, 153, 0, 7, 4, 167, 0, 4, 3, 4, 182, 1, 9, 154, 0, 36, 42, 27, 28, 159, 0, 18]
abbrev dktX8_give_1 : List UInt8 := dkwX8_give_1 ++ dktX8_give_2
def dkwX8_give_0 : List UInt8 := [42, 3, 181, 0, 3, 42, 42, 27, 182, 1, 137, 154, 0, 19, 42, 28, 182, 1, 137, 154, 0, 11, 42, 29]
abbrev dktX8_give_0 : List UInt8 := dkwX8_give_0 ++ dktX8_give_1
theorem dksX8_give_0 : cX8_give.data.toList.drop 0 = dktX8_give_0 := by decide +kernel
theorem dksX8_give_1 : cX8_give.data.toList.drop 24 = dktX8_give_1 := dk_seg dksX8_give_0 24 rfl rfl
theorem dksX8_give_2 : cX8_give.data.toList.drop 48 = dktX8_give_2 := dk_seg dksX8_give_1 24 rfl rfl
theorem dksX8_give_3 : cX8_give.data.toList.drop 72 = dktX8_give_3 := dk_seg dksX8_give_2 24 rfl rfl
theorem dksX8_give_4 : cX8_give.data.toList.drop 96 = dktX8_give_4 := dk_seg dksX8_give_3 24 rfl rfl
theorem dksX8_give_5 : cX8_give.data.toList.drop 120 = dktX8_give_5 := dk_seg dksX8_give_4 24 rfl rfl
theorem dX8_give_0 : decode cX8_give 0 = .ok (.aload_n 0, 1) := dk_42 (dk_at dksX8_give_0 0 rfl rfl)
theorem dX8_give_1 : decode cX8_give 1 = .ok (.iconst 0, 1) := dk_3 (dk_at dksX8_give_0 1 rfl rfl)
theorem dX8_give_2 : decode cX8_give 2 = .ok (.putfield 3, 3) := dk_181 0 3 (dk_at dksX8_give_0 2 rfl rfl)
theorem dX8_give_5 : decode cX8_give 5 = .ok (.aload_n 0, 1) := dk_42 (dk_at dksX8_give_0 5 rfl rfl)
theorem dX8_give_6 : decode cX8_give 6 = .ok (.aload_n 0, 1) := dk_42 (dk_at dksX8_give_0 6 rfl rfl)
theorem dX8_give_7 : decode cX8_give 7 = .ok (.iload_n 1, 1) := dk_27 (dk_at dksX8_give_0 7 rfl rfl)
theorem dX8_give_8 : decode cX8_give 8 = .ok (.invokevirtual 393, 3) := dk_182 1 137 (dk_at dksX8_give_0 8 rfl rfl)
theorem dX8_give_11 : decode cX8_give 11 = .ok (.ifCond .ne 19, 3) := dk_154 0 19 (dk_at dksX8_give_0 11 rfl rfl)
theorem dX8_give_14 : decode cX8_give 14 = .ok (.aload_n 0, 1) := dk_42 (dk_at dksX8_give_0 14 rfl rfl)
theorem dX8_give_15 : decode cX8_give 15 = .ok (.iload_n 2, 1) := dk_28 (dk_at dksX8_give_0 15 rfl rfl)
theorem dX8_give_16 : decode cX8_give 16 = .ok (.invokevirtual 393, 3) := dk_182 1 137 (dk_at dksX8_give_0 16 rfl rfl)
theorem dX8_give_19 : decode cX8_give 19 = .ok (.ifCond .ne 11, 3) := dk_154 0 11 (dk_at dksX8_give_0 19 rfl rfl)
theorem dX8_give_22 : decode cX8_give 22 = .ok (.aload_n 0, 1) := dk_42 (dk_at dksX8_give_0 22 rfl rfl)
theorem dX8_give_23 : decode cX8_give 23 = .ok (.iload_n 3, 1) := dk_29 (dk_at dksX8_give_0 23 rfl rfl)
theorem dX8_give_24 : decode cX8_give 24 = .ok (.invokevirtual 303, 3) := dk_182 1 47 (dk_at dksX8_give_1 0 rfl rfl)
theorem dX8_give_27 : decode cX8_give 27 = .ok (.ifCond .eq 7, 3) := dk_153 0 7 (dk_at dksX8_give_1 3 rfl rfl)
theorem dX8_give_30 : decode cX8_give 30 = .ok (.iconst 1, 1) := dk_4 (dk_at dksX8_give_1 6 rfl rfl)
theorem dX8_give_31 : decode cX8_give 31 = .ok (.goto 4, 3) := dk_167 0 4 (dk_at dksX8_give_1 7 rfl rfl)
theorem dX8_give_34 : decode cX8_give 34 = .ok (.iconst 0, 1) := dk_3 (dk_at dksX8_give_1 10 rfl rfl)
theorem dX8_give_35 : decode cX8_give 35 = .ok (.iconst 1, 1) := dk_4 (dk_at dksX8_give_1 11 rfl rfl)
theorem dX8_give_36 : decode cX8_give 36 = .ok (.invokevirtual 265, 3) := dk_182 1 9 (dk_at dksX8_give_1 12 rfl rfl)
theorem dX8_give_39 : decode cX8_give 39 = .ok (.ifCond .ne 36, 3) := dk_154 0 36 (dk_at dksX8_give_1 15 rfl rfl)
theorem dX8_give_42 : decode cX8_give 42 = .ok (.aload_n 0, 1) := dk_42 (dk_at dksX8_give_1 18 rfl rfl)
theorem dX8_give_43 : decode cX8_give 43 = .ok (.iload_n 1, 1) := dk_27 (dk_at dksX8_give_1 19 rfl rfl)
theorem dX8_give_44 : decode cX8_give 44 = .ok (.iload_n 2, 1) := dk_28 (dk_at dksX8_give_1 20 rfl rfl)
theorem dX8_give_45 : decode cX8_give 45 = .ok (.if_icmp .eq 18, 3) := dk_159 0 18 (dk_at dksX8_give_1 21 rfl rfl)
theorem dX8_give_48 : decode cX8_give 48 = .ok (.iload 4, 2) := dk_21 4 (dk_at dksX8_give_2 0 rfl rfl)
theorem dX8_give_50 : decode cX8_give 50 = .ok (.iconst 1, 1) := dk_4 (dk_at dksX8_give_2 2 rfl rfl)
theorem dX8_give_51 : decode cX8_give 51 = .ok (.aload_n 0, 1) := dk_42 (dk_at dksX8_give_2 3 rfl rfl)
theorem dX8_give_52 : decode cX8_give 52 = .ok (.iload_n 1, 1) := dk_27 (dk_at dksX8_give_2 4 rfl rfl)
theorem dX8_give_53 : decode cX8_give 53 = .ok (.iload_n 3, 1) := dk_29 (dk_at dksX8_give_2 5 rfl rfl)
theorem dX8_give_54 : decode cX8_give 54 = .ok (.invokevirtual 390, 3) := dk_182 1 134 (dk_at dksX8_give_2 6 rfl rfl)
theorem dX8_give_57 : decode cX8_give 57 = .ok (.invokestatic 78, 3) := dk_184 0 78 (dk_at dksX8_give_2 9 rfl rfl)
theorem dX8_give_60 : decode cX8_give 60 = .ok (.ifCond .ne 7, 3) := dk_154 0 7 (dk_at dksX8_give_2 12 rfl rfl)
theorem dX8_give_63 : decode cX8_give 63 = .ok (.iconst 1, 1) := dk_4 (dk_at dksX8_give_2 15 rfl rfl)
theorem dX8_give_64 : decode cX8_give 64 = .ok (.goto 4, 3) := dk_167 0 4 (dk_at dksX8_give_2 16 rfl rfl)
theorem dX8_give_67 : decode cX8_give 67 = .ok (.iconst 0, 1) := dk_3 (dk_at dksX8_give_2 19 rfl rfl)
theorem dX8_give_68 : decode cX8_give 68 = .ok (.iconst 2, 1) := dk_5 (dk_at dksX8_give_2 20 rfl rfl)
theorem dX8_give_69 : decode cX8_give 69 = .ok (.invokevirtual 265, 3) := dk_182 1 9 (dk_at dksX8_give_2 21 rfl rfl)
theorem dX8_give_72 : decode cX8_give 72 = .ok (.ifCond .eq 5, 3) := dk_153 0 5 (dk_at dksX8_give_3 0 rfl rfl)
theorem dX8_give_75 : decode cX8_give 75 = .ok (.iconst 0, 1) := dk_3 (dk_at dksX8_give_3 3 rfl rfl)
theorem dX8_give_76 : decode cX8_give 76 = .ok (.ireturn, 1) := dk_172 (dk_at dksX8_give_3 4 rfl rfl)
theorem dX8_give_77 : decode cX8_give 77 = .ok (.aload_n 0, 1) := dk_42 (dk_at dksX8_give_3 5 rfl rfl)
theorem dX8_give_78 : decode cX8_give 78 = .ok (.invokevirtual 423, 3) := dk_182 1 167 (dk_at dksX8_give_3 6 rfl rfl)
theorem dX8_give_81 : decode cX8_give 81 = .ok (.aload_n 0, 1) := dk_42 (dk_at dksX8_give_3 9 rfl rfl)
theorem dX8_give_82 : decode cX8_give 82 = .ok (.getfield 13, 3) := dk_180 0 13 (dk_at dksX8_give_3 10 rfl rfl)
theorem dX8_give_85 : decode cX8_give 85 = .ok (.iload_n 1, 1) := dk_27 (dk_at dksX8_give_3 13 rfl rfl)
theorem dX8_give_86 : decode cX8_give 86 = .ok (.iload_n 3, 1) := dk_29 (dk_at dksX8_give_3 14 rfl rfl)
theorem dX8_give_87 : decode cX8_give 87 = .ok (.invokestatic 67, 3) := dk_184 0 67 (dk_at dksX8_give_3 15 rfl rfl)
theorem dX8_give_90 : decode cX8_give 90 = .ok (.dup2, 1) := dk_92 (dk_at dksX8_give_3 18 rfl rfl)
theorem dX8_give_91 : decode cX8_give 91 = .ok (.iaload, 1) := dk_46 (dk_at dksX8_give_3 19 rfl rfl)
theorem dX8_give_92 : decode cX8_give 92 = .ok (.iload 4, 2) := dk_21 4 (dk_at dksX8_give_3 20 rfl rfl)
theorem dX8_give_94 : decode cX8_give 94 = .ok (.isub, 1) := dk_100 (dk_at dksX8_give_3 22 rfl rfl)
theorem dX8_give_95 : decode cX8_give 95 = .ok (.iastore, 1) := dk_79 (dk_at dksX8_give_3 23 rfl rfl)
theorem dX8_give_96 : decode cX8_give 96 = .ok (.aload_n 0, 1) := dk_42 (dk_at dksX8_give_4 0 rfl rfl)
theorem dX8_give_97 : decode cX8_give 97 = .ok (.getfield 13, 3) := dk_180 0 13 (dk_at dksX8_give_4 1 rfl rfl)
theorem dX8_give_100 : decode cX8_give 100 = .ok (.iload_n 2, 1) := dk_28 (dk_at dksX8_give_4 4 rfl rfl)
theorem dX8_give_101 : decode cX8_give 101 = .ok (.iload_n 3, 1) := dk_29 (dk_at dksX8_give_4 5 rfl rfl)
theorem dX8_give_102 : decode cX8_give 102 = .ok (.invokestatic 67, 3) := dk_184 0 67 (dk_at dksX8_give_4 6 rfl rfl)
theorem dX8_give_105 : decode cX8_give 105 = .ok (.bipush 99, 2) := dk_16 99 (dk_at dksX8_give_4 9 rfl rfl)
theorem dX8_give_107 : decode cX8_give 107 = .ok (.aload_n 0, 1) := dk_42 (dk_at dksX8_give_4 11 rfl rfl)
theorem dX8_give_108 : decode cX8_give 108 = .ok (.iload_n 2, 1) := dk_28 (dk_at dksX8_give_4 12 rfl rfl)
theorem dX8_give_109 : decode cX8_give 109 = .ok (.iload_n 3, 1) := dk_29 (dk_at dksX8_give_4 13 rfl rfl)
theorem dX8_give_110 : decode cX8_give 110 = .ok (.invokevirtual 390, 3) := dk_182 1 134 (dk_at dksX8_give_4 14 rfl rfl)
theorem dX8_give_113 : decode cX8_give 113 = .ok (.iload 4, 2) := dk_21 4 (dk_at dksX8_give_4 17 rfl rfl)
theorem dX8_give_115 : decode cX8_give 115 = .ok (.iadd, 1) := dk_96 (dk_at dksX8_give_4 19 rfl rfl)
theorem dX8_give_116 : decode cX8_give 116 = .ok (.invokestatic 295, 3) := dk_184 1 39 (dk_at dksX8_give_4 20 rfl rfl)
theorem dX8_give_119 : decode cX8_give 119 = .ok (.iastore, 1) := dk_79 (dk_at dksX8_give_4 23 rfl rfl)
theorem dX8_give_120 : decode cX8_give 120 = .ok (.aload_n 0, 1) := dk_42 (dk_at dksX8_give_5 0 rfl rfl)
theorem dX8_give_121 : decode cX8_give 121 = .ok (.iload_n 2, 1) := dk_28 (dk_at dksX8_give_5 1 rfl rfl)
theorem dX8_give_122 : decode cX8_give 122 = .ok (.iload_n 3, 1) := dk_29 (dk_at dksX8_give_5 2 rfl rfl)
theorem dX8_give_123 : decode cX8_give 123 = .ok (.invokevirtual 390, 3) := dk_182 1 134 (dk_at dksX8_give_5 3 rfl rfl)
theorem dX8_give_126 : decode cX8_give 126 = .ok (.ireturn, 1) := dk_172 (dk_at dksX8_give_5 6 rfl rfl)
abbrev cX8_appeal : ByteArray := prog_18_method_111_code
def yX8_appeal : MethodName := ⟨RX8, "appeal", "(I)I"⟩
def dkwX8_appeal_2 : List UInt8 := [27, 6, 184, 0, 71, 3, 79, 28, 172]
abbrev dktX8_appeal_2 : List UInt8 := dkwX8_appeal_2 ++ []
def dkwX8_appeal_1 : List UInt8 := [5, 182, 1, 9, 153, 0, 5, 3, 172, 42, 182, 1, 167, 42, 27, 6, 182, 1, 131, 61, 42, 180, 0, 13]
abbrev dktX8_appeal_1 : List UInt8 := dkwX8_appeal_1 ++ dktX8_appeal_2
def dkwX8_appeal_0 : List UInt8 := [42, 3, 181, 0, 3, 42, 42, 27, 182, 1, 140, 4, 182, 1, 9, 154, 0, 16, 42, 42, 27, 182, 1, 151]
abbrev dktX8_appeal_0 : List UInt8 := dkwX8_appeal_0 ++ dktX8_appeal_1
theorem dksX8_appeal_0 : cX8_appeal.data.toList.drop 0 = dktX8_appeal_0 := by decide +kernel
theorem dksX8_appeal_1 : cX8_appeal.data.toList.drop 24 = dktX8_appeal_1 := dk_seg dksX8_appeal_0 24 rfl rfl
theorem dksX8_appeal_2 : cX8_appeal.data.toList.drop 48 = dktX8_appeal_2 := dk_seg dksX8_appeal_1 24 rfl rfl
theorem dX8_appeal_0 : decode cX8_appeal 0 = .ok (.aload_n 0, 1) := dk_42 (dk_at dksX8_appeal_0 0 rfl rfl)
theorem dX8_appeal_1 : decode cX8_appeal 1 = .ok (.iconst 0, 1) := dk_3 (dk_at dksX8_appeal_0 1 rfl rfl)
theorem dX8_appeal_2 : decode cX8_appeal 2 = .ok (.putfield 3, 3) := dk_181 0 3 (dk_at dksX8_appeal_0 2 rfl rfl)
theorem dX8_appeal_5 : decode cX8_appeal 5 = .ok (.aload_n 0, 1) := dk_42 (dk_at dksX8_appeal_0 5 rfl rfl)
theorem dX8_appeal_6 : decode cX8_appeal 6 = .ok (.aload_n 0, 1) := dk_42 (dk_at dksX8_appeal_0 6 rfl rfl)
theorem dX8_appeal_7 : decode cX8_appeal 7 = .ok (.iload_n 1, 1) := dk_27 (dk_at dksX8_appeal_0 7 rfl rfl)
theorem dX8_appeal_8 : decode cX8_appeal 8 = .ok (.invokevirtual 396, 3) := dk_182 1 140 (dk_at dksX8_appeal_0 8 rfl rfl)
theorem dX8_appeal_11 : decode cX8_appeal 11 = .ok (.iconst 1, 1) := dk_4 (dk_at dksX8_appeal_0 11 rfl rfl)
theorem dX8_appeal_12 : decode cX8_appeal 12 = .ok (.invokevirtual 265, 3) := dk_182 1 9 (dk_at dksX8_appeal_0 12 rfl rfl)
theorem dX8_appeal_15 : decode cX8_appeal 15 = .ok (.ifCond .ne 16, 3) := dk_154 0 16 (dk_at dksX8_appeal_0 15 rfl rfl)
theorem dX8_appeal_18 : decode cX8_appeal 18 = .ok (.aload_n 0, 1) := dk_42 (dk_at dksX8_appeal_0 18 rfl rfl)
theorem dX8_appeal_19 : decode cX8_appeal 19 = .ok (.aload_n 0, 1) := dk_42 (dk_at dksX8_appeal_0 19 rfl rfl)
theorem dX8_appeal_20 : decode cX8_appeal 20 = .ok (.iload_n 1, 1) := dk_27 (dk_at dksX8_appeal_0 20 rfl rfl)
theorem dX8_appeal_21 : decode cX8_appeal 21 = .ok (.invokevirtual 407, 3) := dk_182 1 151 (dk_at dksX8_appeal_0 21 rfl rfl)
theorem dX8_appeal_24 : decode cX8_appeal 24 = .ok (.iconst 2, 1) := dk_5 (dk_at dksX8_appeal_1 0 rfl rfl)
theorem dX8_appeal_25 : decode cX8_appeal 25 = .ok (.invokevirtual 265, 3) := dk_182 1 9 (dk_at dksX8_appeal_1 1 rfl rfl)
theorem dX8_appeal_28 : decode cX8_appeal 28 = .ok (.ifCond .eq 5, 3) := dk_153 0 5 (dk_at dksX8_appeal_1 4 rfl rfl)
theorem dX8_appeal_31 : decode cX8_appeal 31 = .ok (.iconst 0, 1) := dk_3 (dk_at dksX8_appeal_1 7 rfl rfl)
theorem dX8_appeal_32 : decode cX8_appeal 32 = .ok (.ireturn, 1) := dk_172 (dk_at dksX8_appeal_1 8 rfl rfl)
theorem dX8_appeal_33 : decode cX8_appeal 33 = .ok (.aload_n 0, 1) := dk_42 (dk_at dksX8_appeal_1 9 rfl rfl)
theorem dX8_appeal_34 : decode cX8_appeal 34 = .ok (.invokevirtual 423, 3) := dk_182 1 167 (dk_at dksX8_appeal_1 10 rfl rfl)
theorem dX8_appeal_37 : decode cX8_appeal 37 = .ok (.aload_n 0, 1) := dk_42 (dk_at dksX8_appeal_1 13 rfl rfl)
theorem dX8_appeal_38 : decode cX8_appeal 38 = .ok (.iload_n 1, 1) := dk_27 (dk_at dksX8_appeal_1 14 rfl rfl)
theorem dX8_appeal_39 : decode cX8_appeal 39 = .ok (.iconst 3, 1) := dk_6 (dk_at dksX8_appeal_1 15 rfl rfl)
theorem dX8_appeal_40 : decode cX8_appeal 40 = .ok (.invokevirtual 387, 3) := dk_182 1 131 (dk_at dksX8_appeal_1 16 rfl rfl)
theorem dX8_appeal_43 : decode cX8_appeal 43 = .ok (.istore_n 2, 1) := dk_61 (dk_at dksX8_appeal_1 19 rfl rfl)
theorem dX8_appeal_44 : decode cX8_appeal 44 = .ok (.aload_n 0, 1) := dk_42 (dk_at dksX8_appeal_1 20 rfl rfl)
theorem dX8_appeal_45 : decode cX8_appeal 45 = .ok (.getfield 13, 3) := dk_180 0 13 (dk_at dksX8_appeal_1 21 rfl rfl)
theorem dX8_appeal_48 : decode cX8_appeal 48 = .ok (.iload_n 1, 1) := dk_27 (dk_at dksX8_appeal_2 0 rfl rfl)
theorem dX8_appeal_49 : decode cX8_appeal 49 = .ok (.iconst 3, 1) := dk_6 (dk_at dksX8_appeal_2 1 rfl rfl)
theorem dX8_appeal_50 : decode cX8_appeal 50 = .ok (.invokestatic 71, 3) := dk_184 0 71 (dk_at dksX8_appeal_2 2 rfl rfl)
theorem dX8_appeal_53 : decode cX8_appeal 53 = .ok (.iconst 0, 1) := dk_3 (dk_at dksX8_appeal_2 5 rfl rfl)
theorem dX8_appeal_54 : decode cX8_appeal 54 = .ok (.iastore, 1) := dk_79 (dk_at dksX8_appeal_2 6 rfl rfl)
theorem dX8_appeal_55 : decode cX8_appeal 55 = .ok (.iload_n 2, 1) := dk_28 (dk_at dksX8_appeal_2 7 rfl rfl)
theorem dX8_appeal_56 : decode cX8_appeal 56 = .ok (.ireturn, 1) := dk_172 (dk_at dksX8_appeal_2 8 rfl rfl)
abbrev cX8_weeks : ByteArray := prog_18_method_113_code
def yX8_weeks : MethodName := ⟨RX8, "weeks", "(I)I"⟩
def dkwX8_weeks_2 : List UInt8 := [182, 1, 176, 96, 61, 132, 3, 1, 167, 255, 241, 28, 172]
abbrev dktX8_weeks_2 : List UInt8 := dkwX8_weeks_2 ++ []
def dkwX8_weeks_1 : List UInt8 := [182, 1, 9, 153, 0, 5, 3, 172, 42, 182, 1, 167, 3, 61, 3, 62, 29, 27, 162, 0, 16, 28, 42]
abbrev dktX8_weeks_1 : List UInt8 := dkwX8_weeks_1 ++ dktX8_weeks_2
def dkwX8_weeks_0 : List UInt8 := [42, 3, 181, 0, 3, 42, 27, 4, 16, 60, 184, 0, 78, 154, 0, 7, 4, 167, 0, 4, 3, 4]
abbrev dktX8_weeks_0 : List UInt8 := dkwX8_weeks_0 ++ dktX8_weeks_1
theorem dksX8_weeks_0 : cX8_weeks.data.toList.drop 0 = dktX8_weeks_0 := by decide +kernel
theorem dksX8_weeks_1 : cX8_weeks.data.toList.drop 22 = dktX8_weeks_1 := dk_seg dksX8_weeks_0 22 rfl rfl
theorem dksX8_weeks_2 : cX8_weeks.data.toList.drop 45 = dktX8_weeks_2 := dk_seg dksX8_weeks_1 23 rfl rfl
theorem dX8_weeks_0 : decode cX8_weeks 0 = .ok (.aload_n 0, 1) := dk_42 (dk_at dksX8_weeks_0 0 rfl rfl)
theorem dX8_weeks_1 : decode cX8_weeks 1 = .ok (.iconst 0, 1) := dk_3 (dk_at dksX8_weeks_0 1 rfl rfl)
theorem dX8_weeks_2 : decode cX8_weeks 2 = .ok (.putfield 3, 3) := dk_181 0 3 (dk_at dksX8_weeks_0 2 rfl rfl)
theorem dX8_weeks_5 : decode cX8_weeks 5 = .ok (.aload_n 0, 1) := dk_42 (dk_at dksX8_weeks_0 5 rfl rfl)
theorem dX8_weeks_6 : decode cX8_weeks 6 = .ok (.iload_n 1, 1) := dk_27 (dk_at dksX8_weeks_0 6 rfl rfl)
theorem dX8_weeks_7 : decode cX8_weeks 7 = .ok (.iconst 1, 1) := dk_4 (dk_at dksX8_weeks_0 7 rfl rfl)
theorem dX8_weeks_8 : decode cX8_weeks 8 = .ok (.bipush 60, 2) := dk_16 60 (dk_at dksX8_weeks_0 8 rfl rfl)
theorem dX8_weeks_10 : decode cX8_weeks 10 = .ok (.invokestatic 78, 3) := dk_184 0 78 (dk_at dksX8_weeks_0 10 rfl rfl)
theorem dX8_weeks_13 : decode cX8_weeks 13 = .ok (.ifCond .ne 7, 3) := dk_154 0 7 (dk_at dksX8_weeks_0 13 rfl rfl)
theorem dX8_weeks_16 : decode cX8_weeks 16 = .ok (.iconst 1, 1) := dk_4 (dk_at dksX8_weeks_0 16 rfl rfl)
theorem dX8_weeks_17 : decode cX8_weeks 17 = .ok (.goto 4, 3) := dk_167 0 4 (dk_at dksX8_weeks_0 17 rfl rfl)
theorem dX8_weeks_20 : decode cX8_weeks 20 = .ok (.iconst 0, 1) := dk_3 (dk_at dksX8_weeks_0 20 rfl rfl)
theorem dX8_weeks_21 : decode cX8_weeks 21 = .ok (.iconst 1, 1) := dk_4 (dk_at dksX8_weeks_0 21 rfl rfl)
theorem dX8_weeks_22 : decode cX8_weeks 22 = .ok (.invokevirtual 265, 3) := dk_182 1 9 (dk_at dksX8_weeks_1 0 rfl rfl)
theorem dX8_weeks_25 : decode cX8_weeks 25 = .ok (.ifCond .eq 5, 3) := dk_153 0 5 (dk_at dksX8_weeks_1 3 rfl rfl)
theorem dX8_weeks_28 : decode cX8_weeks 28 = .ok (.iconst 0, 1) := dk_3 (dk_at dksX8_weeks_1 6 rfl rfl)
theorem dX8_weeks_29 : decode cX8_weeks 29 = .ok (.ireturn, 1) := dk_172 (dk_at dksX8_weeks_1 7 rfl rfl)
theorem dX8_weeks_30 : decode cX8_weeks 30 = .ok (.aload_n 0, 1) := dk_42 (dk_at dksX8_weeks_1 8 rfl rfl)
theorem dX8_weeks_31 : decode cX8_weeks 31 = .ok (.invokevirtual 423, 3) := dk_182 1 167 (dk_at dksX8_weeks_1 9 rfl rfl)
theorem dX8_weeks_34 : decode cX8_weeks 34 = .ok (.iconst 0, 1) := dk_3 (dk_at dksX8_weeks_1 12 rfl rfl)
theorem dX8_weeks_35 : decode cX8_weeks 35 = .ok (.istore_n 2, 1) := dk_61 (dk_at dksX8_weeks_1 13 rfl rfl)
theorem dX8_weeks_36 : decode cX8_weeks 36 = .ok (.iconst 0, 1) := dk_3 (dk_at dksX8_weeks_1 14 rfl rfl)
theorem dX8_weeks_37 : decode cX8_weeks 37 = .ok (.istore_n 3, 1) := dk_62 (dk_at dksX8_weeks_1 15 rfl rfl)
theorem dX8_weeks_38 : decode cX8_weeks 38 = .ok (.iload_n 3, 1) := dk_29 (dk_at dksX8_weeks_1 16 rfl rfl)
theorem dX8_weeks_39 : decode cX8_weeks 39 = .ok (.iload_n 1, 1) := dk_27 (dk_at dksX8_weeks_1 17 rfl rfl)
theorem dX8_weeks_40 : decode cX8_weeks 40 = .ok (.if_icmp .ge 16, 3) := dk_162 0 16 (dk_at dksX8_weeks_1 18 rfl rfl)
theorem dX8_weeks_43 : decode cX8_weeks 43 = .ok (.iload_n 2, 1) := dk_28 (dk_at dksX8_weeks_1 21 rfl rfl)
theorem dX8_weeks_44 : decode cX8_weeks 44 = .ok (.aload_n 0, 1) := dk_42 (dk_at dksX8_weeks_1 22 rfl rfl)
theorem dX8_weeks_45 : decode cX8_weeks 45 = .ok (.invokevirtual 432, 3) := dk_182 1 176 (dk_at dksX8_weeks_2 0 rfl rfl)
theorem dX8_weeks_48 : decode cX8_weeks 48 = .ok (.iadd, 1) := dk_96 (dk_at dksX8_weeks_2 3 rfl rfl)
theorem dX8_weeks_49 : decode cX8_weeks 49 = .ok (.istore_n 2, 1) := dk_61 (dk_at dksX8_weeks_2 4 rfl rfl)
theorem dX8_weeks_50 : decode cX8_weeks 50 = .ok (.iinc 3 1, 3) := dk_132 3 1 (dk_at dksX8_weeks_2 5 rfl rfl)
theorem dX8_weeks_53 : decode cX8_weeks 53 = .ok (.goto (-15), 3) := dk_167 255 241 (dk_at dksX8_weeks_2 8 rfl rfl)
theorem dX8_weeks_56 : decode cX8_weeks 56 = .ok (.iload_n 2, 1) := dk_28 (dk_at dksX8_weeks_2 11 rfl rfl)
theorem dX8_weeks_57 : decode cX8_weeks 57 = .ok (.ireturn, 1) := dk_172 (dk_at dksX8_weeks_2 12 rfl rfl)
abbrev cX8_oneWeek : ByteArray := prog_18_method_112_code
def yX8_oneWeek : MethodName := ⟨RX8, "oneWeek", "()I"⟩
def dkwX8_oneWeek_4 : List UInt8 := [172]
abbrev dktX8_oneWeek_4 : List UInt8 := dkwX8_oneWeek_4 ++ []
def dkwX8_oneWeek_3 : List UInt8 := [167, 255, 189, 42, 180, 0, 13, 8, 17, 39, 15, 42, 180, 0, 13, 8, 46, 4, 96, 184, 1, 39, 79, 27]
abbrev dktX8_oneWeek_3 : List UInt8 := dkwX8_oneWeek_3 ++ dktX8_oneWeek_4
def dkwX8_oneWeek_2 : List UInt8 := [184, 0, 67, 92, 46, 21, 4, 96, 79, 27, 21, 4, 96, 60, 132, 3, 1, 167, 255, 205, 132, 2, 1]
abbrev dktX8_oneWeek_2 : List UInt8 := dkwX8_oneWeek_2 ++ dktX8_oneWeek_3
def dkwX8_oneWeek_1 : List UInt8 := [6, 182, 1, 21, 16, 99, 42, 28, 29, 182, 1, 134, 100, 184, 1, 39, 54, 4, 42, 180, 0, 13, 28, 29]
abbrev dktX8_oneWeek_1 : List UInt8 := dkwX8_oneWeek_1 ++ dktX8_oneWeek_2
def dkwX8_oneWeek_0 : List UInt8 := [3, 60, 3, 61, 28, 42, 182, 0, 82, 162, 0, 65, 3, 62, 29, 42, 182, 0, 74, 162, 0, 49, 42, 29]
abbrev dktX8_oneWeek_0 : List UInt8 := dkwX8_oneWeek_0 ++ dktX8_oneWeek_1
theorem dksX8_oneWeek_0 : cX8_oneWeek.data.toList.drop 0 = dktX8_oneWeek_0 := by decide +kernel
theorem dksX8_oneWeek_1 : cX8_oneWeek.data.toList.drop 24 = dktX8_oneWeek_1 := dk_seg dksX8_oneWeek_0 24 rfl rfl
theorem dksX8_oneWeek_2 : cX8_oneWeek.data.toList.drop 48 = dktX8_oneWeek_2 := dk_seg dksX8_oneWeek_1 24 rfl rfl
theorem dksX8_oneWeek_3 : cX8_oneWeek.data.toList.drop 71 = dktX8_oneWeek_3 := dk_seg dksX8_oneWeek_2 23 rfl rfl
theorem dksX8_oneWeek_4 : cX8_oneWeek.data.toList.drop 95 = dktX8_oneWeek_4 := dk_seg dksX8_oneWeek_3 24 rfl rfl
theorem dX8_oneWeek_0 : decode cX8_oneWeek 0 = .ok (.iconst 0, 1) := dk_3 (dk_at dksX8_oneWeek_0 0 rfl rfl)
theorem dX8_oneWeek_1 : decode cX8_oneWeek 1 = .ok (.istore_n 1, 1) := dk_60 (dk_at dksX8_oneWeek_0 1 rfl rfl)
theorem dX8_oneWeek_2 : decode cX8_oneWeek 2 = .ok (.iconst 0, 1) := dk_3 (dk_at dksX8_oneWeek_0 2 rfl rfl)
theorem dX8_oneWeek_3 : decode cX8_oneWeek 3 = .ok (.istore_n 2, 1) := dk_61 (dk_at dksX8_oneWeek_0 3 rfl rfl)
theorem dX8_oneWeek_4 : decode cX8_oneWeek 4 = .ok (.iload_n 2, 1) := dk_28 (dk_at dksX8_oneWeek_0 4 rfl rfl)
theorem dX8_oneWeek_5 : decode cX8_oneWeek 5 = .ok (.aload_n 0, 1) := dk_42 (dk_at dksX8_oneWeek_0 5 rfl rfl)
theorem dX8_oneWeek_6 : decode cX8_oneWeek 6 = .ok (.invokevirtual 82, 3) := dk_182 0 82 (dk_at dksX8_oneWeek_0 6 rfl rfl)
theorem dX8_oneWeek_9 : decode cX8_oneWeek 9 = .ok (.if_icmp .ge 65, 3) := dk_162 0 65 (dk_at dksX8_oneWeek_0 9 rfl rfl)
theorem dX8_oneWeek_12 : decode cX8_oneWeek 12 = .ok (.iconst 0, 1) := dk_3 (dk_at dksX8_oneWeek_0 12 rfl rfl)
theorem dX8_oneWeek_13 : decode cX8_oneWeek 13 = .ok (.istore_n 3, 1) := dk_62 (dk_at dksX8_oneWeek_0 13 rfl rfl)
theorem dX8_oneWeek_14 : decode cX8_oneWeek 14 = .ok (.iload_n 3, 1) := dk_29 (dk_at dksX8_oneWeek_0 14 rfl rfl)
theorem dX8_oneWeek_15 : decode cX8_oneWeek 15 = .ok (.aload_n 0, 1) := dk_42 (dk_at dksX8_oneWeek_0 15 rfl rfl)
theorem dX8_oneWeek_16 : decode cX8_oneWeek 16 = .ok (.invokevirtual 74, 3) := dk_182 0 74 (dk_at dksX8_oneWeek_0 16 rfl rfl)
theorem dX8_oneWeek_19 : decode cX8_oneWeek 19 = .ok (.if_icmp .ge 49, 3) := dk_162 0 49 (dk_at dksX8_oneWeek_0 19 rfl rfl)
theorem dX8_oneWeek_22 : decode cX8_oneWeek 22 = .ok (.aload_n 0, 1) := dk_42 (dk_at dksX8_oneWeek_0 22 rfl rfl)
theorem dX8_oneWeek_23 : decode cX8_oneWeek 23 = .ok (.iload_n 3, 1) := dk_29 (dk_at dksX8_oneWeek_0 23 rfl rfl)
theorem dX8_oneWeek_24 : decode cX8_oneWeek 24 = .ok (.iconst 3, 1) := dk_6 (dk_at dksX8_oneWeek_1 0 rfl rfl)
theorem dX8_oneWeek_25 : decode cX8_oneWeek 25 = .ok (.invokevirtual 277, 3) := dk_182 1 21 (dk_at dksX8_oneWeek_1 1 rfl rfl)
theorem dX8_oneWeek_28 : decode cX8_oneWeek 28 = .ok (.bipush 99, 2) := dk_16 99 (dk_at dksX8_oneWeek_1 4 rfl rfl)
theorem dX8_oneWeek_30 : decode cX8_oneWeek 30 = .ok (.aload_n 0, 1) := dk_42 (dk_at dksX8_oneWeek_1 6 rfl rfl)
theorem dX8_oneWeek_31 : decode cX8_oneWeek 31 = .ok (.iload_n 2, 1) := dk_28 (dk_at dksX8_oneWeek_1 7 rfl rfl)
theorem dX8_oneWeek_32 : decode cX8_oneWeek 32 = .ok (.iload_n 3, 1) := dk_29 (dk_at dksX8_oneWeek_1 8 rfl rfl)
theorem dX8_oneWeek_33 : decode cX8_oneWeek 33 = .ok (.invokevirtual 390, 3) := dk_182 1 134 (dk_at dksX8_oneWeek_1 9 rfl rfl)
theorem dX8_oneWeek_36 : decode cX8_oneWeek 36 = .ok (.isub, 1) := dk_100 (dk_at dksX8_oneWeek_1 12 rfl rfl)
theorem dX8_oneWeek_37 : decode cX8_oneWeek 37 = .ok (.invokestatic 295, 3) := dk_184 1 39 (dk_at dksX8_oneWeek_1 13 rfl rfl)
theorem dX8_oneWeek_40 : decode cX8_oneWeek 40 = .ok (.istore 4, 2) := dk_54 4 (dk_at dksX8_oneWeek_1 16 rfl rfl)
theorem dX8_oneWeek_42 : decode cX8_oneWeek 42 = .ok (.aload_n 0, 1) := dk_42 (dk_at dksX8_oneWeek_1 18 rfl rfl)
theorem dX8_oneWeek_43 : decode cX8_oneWeek 43 = .ok (.getfield 13, 3) := dk_180 0 13 (dk_at dksX8_oneWeek_1 19 rfl rfl)
theorem dX8_oneWeek_46 : decode cX8_oneWeek 46 = .ok (.iload_n 2, 1) := dk_28 (dk_at dksX8_oneWeek_1 22 rfl rfl)
theorem dX8_oneWeek_47 : decode cX8_oneWeek 47 = .ok (.iload_n 3, 1) := dk_29 (dk_at dksX8_oneWeek_1 23 rfl rfl)
theorem dX8_oneWeek_48 : decode cX8_oneWeek 48 = .ok (.invokestatic 67, 3) := dk_184 0 67 (dk_at dksX8_oneWeek_2 0 rfl rfl)
theorem dX8_oneWeek_51 : decode cX8_oneWeek 51 = .ok (.dup2, 1) := dk_92 (dk_at dksX8_oneWeek_2 3 rfl rfl)
theorem dX8_oneWeek_52 : decode cX8_oneWeek 52 = .ok (.iaload, 1) := dk_46 (dk_at dksX8_oneWeek_2 4 rfl rfl)
theorem dX8_oneWeek_53 : decode cX8_oneWeek 53 = .ok (.iload 4, 2) := dk_21 4 (dk_at dksX8_oneWeek_2 5 rfl rfl)
theorem dX8_oneWeek_55 : decode cX8_oneWeek 55 = .ok (.iadd, 1) := dk_96 (dk_at dksX8_oneWeek_2 7 rfl rfl)
theorem dX8_oneWeek_56 : decode cX8_oneWeek 56 = .ok (.iastore, 1) := dk_79 (dk_at dksX8_oneWeek_2 8 rfl rfl)
theorem dX8_oneWeek_57 : decode cX8_oneWeek 57 = .ok (.iload_n 1, 1) := dk_27 (dk_at dksX8_oneWeek_2 9 rfl rfl)
theorem dX8_oneWeek_58 : decode cX8_oneWeek 58 = .ok (.iload 4, 2) := dk_21 4 (dk_at dksX8_oneWeek_2 10 rfl rfl)
theorem dX8_oneWeek_60 : decode cX8_oneWeek 60 = .ok (.iadd, 1) := dk_96 (dk_at dksX8_oneWeek_2 12 rfl rfl)
theorem dX8_oneWeek_61 : decode cX8_oneWeek 61 = .ok (.istore_n 1, 1) := dk_60 (dk_at dksX8_oneWeek_2 13 rfl rfl)
theorem dX8_oneWeek_62 : decode cX8_oneWeek 62 = .ok (.iinc 3 1, 3) := dk_132 3 1 (dk_at dksX8_oneWeek_2 14 rfl rfl)
theorem dX8_oneWeek_65 : decode cX8_oneWeek 65 = .ok (.goto (-51), 3) := dk_167 255 205 (dk_at dksX8_oneWeek_2 17 rfl rfl)
theorem dX8_oneWeek_68 : decode cX8_oneWeek 68 = .ok (.iinc 2 1, 3) := dk_132 2 1 (dk_at dksX8_oneWeek_2 20 rfl rfl)
theorem dX8_oneWeek_71 : decode cX8_oneWeek 71 = .ok (.goto (-67), 3) := dk_167 255 189 (dk_at dksX8_oneWeek_3 0 rfl rfl)
theorem dX8_oneWeek_74 : decode cX8_oneWeek 74 = .ok (.aload_n 0, 1) := dk_42 (dk_at dksX8_oneWeek_3 3 rfl rfl)
theorem dX8_oneWeek_75 : decode cX8_oneWeek 75 = .ok (.getfield 13, 3) := dk_180 0 13 (dk_at dksX8_oneWeek_3 4 rfl rfl)
theorem dX8_oneWeek_78 : decode cX8_oneWeek 78 = .ok (.iconst 5, 1) := dk_8 (dk_at dksX8_oneWeek_3 7 rfl rfl)
theorem dX8_oneWeek_79 : decode cX8_oneWeek 79 = .ok (.sipush 9999, 3) := dk_17 39 15 (dk_at dksX8_oneWeek_3 8 rfl rfl)
theorem dX8_oneWeek_82 : decode cX8_oneWeek 82 = .ok (.aload_n 0, 1) := dk_42 (dk_at dksX8_oneWeek_3 11 rfl rfl)
theorem dX8_oneWeek_83 : decode cX8_oneWeek 83 = .ok (.getfield 13, 3) := dk_180 0 13 (dk_at dksX8_oneWeek_3 12 rfl rfl)
theorem dX8_oneWeek_86 : decode cX8_oneWeek 86 = .ok (.iconst 5, 1) := dk_8 (dk_at dksX8_oneWeek_3 15 rfl rfl)
theorem dX8_oneWeek_87 : decode cX8_oneWeek 87 = .ok (.iaload, 1) := dk_46 (dk_at dksX8_oneWeek_3 16 rfl rfl)
theorem dX8_oneWeek_88 : decode cX8_oneWeek 88 = .ok (.iconst 1, 1) := dk_4 (dk_at dksX8_oneWeek_3 17 rfl rfl)
theorem dX8_oneWeek_89 : decode cX8_oneWeek 89 = .ok (.iadd, 1) := dk_96 (dk_at dksX8_oneWeek_3 18 rfl rfl)
theorem dX8_oneWeek_90 : decode cX8_oneWeek 90 = .ok (.invokestatic 295, 3) := dk_184 1 39 (dk_at dksX8_oneWeek_3 19 rfl rfl)
theorem dX8_oneWeek_93 : decode cX8_oneWeek 93 = .ok (.iastore, 1) := dk_79 (dk_at dksX8_oneWeek_3 22 rfl rfl)
theorem dX8_oneWeek_94 : decode cX8_oneWeek 94 = .ok (.iload_n 1, 1) := dk_27 (dk_at dksX8_oneWeek_3 23 rfl rfl)
theorem dX8_oneWeek_95 : decode cX8_oneWeek 95 = .ok (.ireturn, 1) := dk_172 (dk_at dksX8_oneWeek_4 0 rfl rfl)
abbrev cX8_songs : ByteArray := prog_18_method_117_code
def yX8_songs : MethodName := ⟨RX8, "songs", "(Z)I"⟩
def dkwX8_songs_3 : List UInt8 := [132, 4, 1, 167, 255, 222, 27, 154, 0, 7, 28, 167, 0, 12, 28, 154, 0, 7, 3, 167, 0, 4, 29, 172]
abbrev dktX8_songs_3 : List UInt8 := dkwX8_songs_3 ++ []
def dkwX8_songs_2 : List UInt8 := [162, 0, 29, 42, 21, 4, 182, 1, 185, 154, 0, 6, 167, 0, 11, 132, 2, 1, 29, 21, 4, 126, 62]
abbrev dktX8_songs_2 : List UInt8 := dkwX8_songs_2 ++ dktX8_songs_3
def dkwX8_songs_1 : List UInt8 := [3, 172, 3, 61, 4, 42, 182, 0, 74, 120, 4, 100, 62, 3, 54, 4, 21, 4, 4, 42, 182, 0, 74, 120]
abbrev dktX8_songs_1 : List UInt8 := dkwX8_songs_1 ++ dktX8_songs_2
def dkwX8_songs_0 : List UInt8 := [42, 182, 0, 254, 42, 42, 182, 1, 182, 154, 0, 7, 4, 167, 0, 4, 3, 4, 182, 1, 9, 153, 0, 5]
abbrev dktX8_songs_0 : List UInt8 := dkwX8_songs_0 ++ dktX8_songs_1
theorem dksX8_songs_0 : cX8_songs.data.toList.drop 0 = dktX8_songs_0 := by decide +kernel
theorem dksX8_songs_1 : cX8_songs.data.toList.drop 24 = dktX8_songs_1 := dk_seg dksX8_songs_0 24 rfl rfl
theorem dksX8_songs_2 : cX8_songs.data.toList.drop 48 = dktX8_songs_2 := dk_seg dksX8_songs_1 24 rfl rfl
theorem dksX8_songs_3 : cX8_songs.data.toList.drop 71 = dktX8_songs_3 := dk_seg dksX8_songs_2 23 rfl rfl
theorem dX8_songs_0 : decode cX8_songs 0 = .ok (.aload_n 0, 1) := dk_42 (dk_at dksX8_songs_0 0 rfl rfl)
theorem dX8_songs_1 : decode cX8_songs 1 = .ok (.invokevirtual 254, 3) := dk_182 0 254 (dk_at dksX8_songs_0 1 rfl rfl)
theorem dX8_songs_4 : decode cX8_songs 4 = .ok (.aload_n 0, 1) := dk_42 (dk_at dksX8_songs_0 4 rfl rfl)
theorem dX8_songs_5 : decode cX8_songs 5 = .ok (.aload_n 0, 1) := dk_42 (dk_at dksX8_songs_0 5 rfl rfl)
theorem dX8_songs_6 : decode cX8_songs 6 = .ok (.invokevirtual 438, 3) := dk_182 1 182 (dk_at dksX8_songs_0 6 rfl rfl)
theorem dX8_songs_9 : decode cX8_songs 9 = .ok (.ifCond .ne 7, 3) := dk_154 0 7 (dk_at dksX8_songs_0 9 rfl rfl)
theorem dX8_songs_12 : decode cX8_songs 12 = .ok (.iconst 1, 1) := dk_4 (dk_at dksX8_songs_0 12 rfl rfl)
theorem dX8_songs_13 : decode cX8_songs 13 = .ok (.goto 4, 3) := dk_167 0 4 (dk_at dksX8_songs_0 13 rfl rfl)
theorem dX8_songs_16 : decode cX8_songs 16 = .ok (.iconst 0, 1) := dk_3 (dk_at dksX8_songs_0 16 rfl rfl)
theorem dX8_songs_17 : decode cX8_songs 17 = .ok (.iconst 1, 1) := dk_4 (dk_at dksX8_songs_0 17 rfl rfl)
theorem dX8_songs_18 : decode cX8_songs 18 = .ok (.invokevirtual 265, 3) := dk_182 1 9 (dk_at dksX8_songs_0 18 rfl rfl)
theorem dX8_songs_21 : decode cX8_songs 21 = .ok (.ifCond .eq 5, 3) := dk_153 0 5 (dk_at dksX8_songs_0 21 rfl rfl)
theorem dX8_songs_24 : decode cX8_songs 24 = .ok (.iconst 0, 1) := dk_3 (dk_at dksX8_songs_1 0 rfl rfl)
theorem dX8_songs_25 : decode cX8_songs 25 = .ok (.ireturn, 1) := dk_172 (dk_at dksX8_songs_1 1 rfl rfl)
theorem dX8_songs_26 : decode cX8_songs 26 = .ok (.iconst 0, 1) := dk_3 (dk_at dksX8_songs_1 2 rfl rfl)
theorem dX8_songs_27 : decode cX8_songs 27 = .ok (.istore_n 2, 1) := dk_61 (dk_at dksX8_songs_1 3 rfl rfl)
theorem dX8_songs_28 : decode cX8_songs 28 = .ok (.iconst 1, 1) := dk_4 (dk_at dksX8_songs_1 4 rfl rfl)
theorem dX8_songs_29 : decode cX8_songs 29 = .ok (.aload_n 0, 1) := dk_42 (dk_at dksX8_songs_1 5 rfl rfl)
theorem dX8_songs_30 : decode cX8_songs 30 = .ok (.invokevirtual 74, 3) := dk_182 0 74 (dk_at dksX8_songs_1 6 rfl rfl)
theorem dX8_songs_33 : decode cX8_songs 33 = .ok (.ishl, 1) := dk_120 (dk_at dksX8_songs_1 9 rfl rfl)
theorem dX8_songs_34 : decode cX8_songs 34 = .ok (.iconst 1, 1) := dk_4 (dk_at dksX8_songs_1 10 rfl rfl)
theorem dX8_songs_35 : decode cX8_songs 35 = .ok (.isub, 1) := dk_100 (dk_at dksX8_songs_1 11 rfl rfl)
theorem dX8_songs_36 : decode cX8_songs 36 = .ok (.istore_n 3, 1) := dk_62 (dk_at dksX8_songs_1 12 rfl rfl)
theorem dX8_songs_37 : decode cX8_songs 37 = .ok (.iconst 0, 1) := dk_3 (dk_at dksX8_songs_1 13 rfl rfl)
theorem dX8_songs_38 : decode cX8_songs 38 = .ok (.istore 4, 2) := dk_54 4 (dk_at dksX8_songs_1 14 rfl rfl)
theorem dX8_songs_40 : decode cX8_songs 40 = .ok (.iload 4, 2) := dk_21 4 (dk_at dksX8_songs_1 16 rfl rfl)
theorem dX8_songs_42 : decode cX8_songs 42 = .ok (.iconst 1, 1) := dk_4 (dk_at dksX8_songs_1 18 rfl rfl)
theorem dX8_songs_43 : decode cX8_songs 43 = .ok (.aload_n 0, 1) := dk_42 (dk_at dksX8_songs_1 19 rfl rfl)
theorem dX8_songs_44 : decode cX8_songs 44 = .ok (.invokevirtual 74, 3) := dk_182 0 74 (dk_at dksX8_songs_1 20 rfl rfl)
theorem dX8_songs_47 : decode cX8_songs 47 = .ok (.ishl, 1) := dk_120 (dk_at dksX8_songs_1 23 rfl rfl)
theorem dX8_songs_48 : decode cX8_songs 48 = .ok (.if_icmp .ge 29, 3) := dk_162 0 29 (dk_at dksX8_songs_2 0 rfl rfl)
theorem dX8_songs_51 : decode cX8_songs 51 = .ok (.aload_n 0, 1) := dk_42 (dk_at dksX8_songs_2 3 rfl rfl)
theorem dX8_songs_52 : decode cX8_songs 52 = .ok (.iload 4, 2) := dk_21 4 (dk_at dksX8_songs_2 4 rfl rfl)
theorem dX8_songs_54 : decode cX8_songs 54 = .ok (.invokevirtual 441, 3) := dk_182 1 185 (dk_at dksX8_songs_2 6 rfl rfl)
theorem dX8_songs_57 : decode cX8_songs 57 = .ok (.ifCond .ne 6, 3) := dk_154 0 6 (dk_at dksX8_songs_2 9 rfl rfl)
theorem dX8_songs_60 : decode cX8_songs 60 = .ok (.goto 11, 3) := dk_167 0 11 (dk_at dksX8_songs_2 12 rfl rfl)
theorem dX8_songs_63 : decode cX8_songs 63 = .ok (.iinc 2 1, 3) := dk_132 2 1 (dk_at dksX8_songs_2 15 rfl rfl)
theorem dX8_songs_66 : decode cX8_songs 66 = .ok (.iload_n 3, 1) := dk_29 (dk_at dksX8_songs_2 18 rfl rfl)
theorem dX8_songs_67 : decode cX8_songs 67 = .ok (.iload 4, 2) := dk_21 4 (dk_at dksX8_songs_2 19 rfl rfl)
theorem dX8_songs_69 : decode cX8_songs 69 = .ok (.iand, 1) := dk_126 (dk_at dksX8_songs_2 21 rfl rfl)
theorem dX8_songs_70 : decode cX8_songs 70 = .ok (.istore_n 3, 1) := dk_62 (dk_at dksX8_songs_2 22 rfl rfl)
theorem dX8_songs_71 : decode cX8_songs 71 = .ok (.iinc 4 1, 3) := dk_132 4 1 (dk_at dksX8_songs_3 0 rfl rfl)
theorem dX8_songs_74 : decode cX8_songs 74 = .ok (.goto (-34), 3) := dk_167 255 222 (dk_at dksX8_songs_3 3 rfl rfl)
theorem dX8_songs_77 : decode cX8_songs 77 = .ok (.iload_n 1, 1) := dk_27 (dk_at dksX8_songs_3 6 rfl rfl)
theorem dX8_songs_78 : decode cX8_songs 78 = .ok (.ifCond .ne 7, 3) := dk_154 0 7 (dk_at dksX8_songs_3 7 rfl rfl)
theorem dX8_songs_81 : decode cX8_songs 81 = .ok (.iload_n 2, 1) := dk_28 (dk_at dksX8_songs_3 10 rfl rfl)
theorem dX8_songs_82 : decode cX8_songs 82 = .ok (.goto 12, 3) := dk_167 0 12 (dk_at dksX8_songs_3 11 rfl rfl)
theorem dX8_songs_85 : decode cX8_songs 85 = .ok (.iload_n 2, 1) := dk_28 (dk_at dksX8_songs_3 14 rfl rfl)
theorem dX8_songs_86 : decode cX8_songs 86 = .ok (.ifCond .ne 7, 3) := dk_154 0 7 (dk_at dksX8_songs_3 15 rfl rfl)
theorem dX8_songs_89 : decode cX8_songs 89 = .ok (.iconst 0, 1) := dk_3 (dk_at dksX8_songs_3 18 rfl rfl)
theorem dX8_songs_90 : decode cX8_songs 90 = .ok (.goto 4, 3) := dk_167 0 4 (dk_at dksX8_songs_3 19 rfl rfl)
theorem dX8_songs_93 : decode cX8_songs 93 = .ok (.iload_n 3, 1) := dk_29 (dk_at dksX8_songs_3 22 rfl rfl)
theorem dX8_songs_94 : decode cX8_songs 94 = .ok (.ireturn, 1) := dk_172 (dk_at dksX8_songs_3 23 rfl rfl)
abbrev cX8_isTold : ByteArray := prog_18_method_114_code
def yX8_isTold : MethodName := ⟨RX8, "isTold", "()Z"⟩
def dkwX8_isTold_3 : List UInt8 := [167, 0, 4, 3, 60, 132, 2, 2, 167, 255, 205, 27, 172]
abbrev dktX8_isTold_3 : List UInt8 := dkwX8_isTold_3 ++ []
def dkwX8_isTold_2 : List UInt8 := [184, 0, 78, 153, 0, 23, 42, 180, 0, 29, 28, 4, 96, 51, 3, 4, 184, 0, 78, 153, 0, 7, 4]
abbrev dktX8_isTold_2 : List UInt8 := dkwX8_isTold_2 ++ dktX8_isTold_3
def dkwX8_isTold_1 : List UInt8 := [3, 61, 28, 42, 180, 0, 95, 162, 0, 49, 27, 153, 0, 45, 42, 180, 0, 29, 28, 51, 3, 8]
abbrev dktX8_isTold_1 : List UInt8 := dkwX8_isTold_1 ++ dktX8_isTold_2
def dkwX8_isTold_0 : List UInt8 := [42, 180, 0, 95, 5, 112, 154, 0, 16, 42, 180, 0, 95, 16, 40, 163, 0, 7, 4, 167, 0, 4, 3, 60]
abbrev dktX8_isTold_0 : List UInt8 := dkwX8_isTold_0 ++ dktX8_isTold_1
theorem dksX8_isTold_0 : cX8_isTold.data.toList.drop 0 = dktX8_isTold_0 := by decide +kernel
theorem dksX8_isTold_1 : cX8_isTold.data.toList.drop 24 = dktX8_isTold_1 := dk_seg dksX8_isTold_0 24 rfl rfl
theorem dksX8_isTold_2 : cX8_isTold.data.toList.drop 46 = dktX8_isTold_2 := dk_seg dksX8_isTold_1 22 rfl rfl
theorem dksX8_isTold_3 : cX8_isTold.data.toList.drop 69 = dktX8_isTold_3 := dk_seg dksX8_isTold_2 23 rfl rfl
theorem dX8_isTold_0 : decode cX8_isTold 0 = .ok (.aload_n 0, 1) := dk_42 (dk_at dksX8_isTold_0 0 rfl rfl)
theorem dX8_isTold_1 : decode cX8_isTold 1 = .ok (.getfield 95, 3) := dk_180 0 95 (dk_at dksX8_isTold_0 1 rfl rfl)
theorem dX8_isTold_4 : decode cX8_isTold 4 = .ok (.iconst 2, 1) := dk_5 (dk_at dksX8_isTold_0 4 rfl rfl)
theorem dX8_isTold_5 : decode cX8_isTold 5 = .ok (.irem, 1) := dk_112 (dk_at dksX8_isTold_0 5 rfl rfl)
theorem dX8_isTold_6 : decode cX8_isTold 6 = .ok (.ifCond .ne 16, 3) := dk_154 0 16 (dk_at dksX8_isTold_0 6 rfl rfl)
theorem dX8_isTold_9 : decode cX8_isTold 9 = .ok (.aload_n 0, 1) := dk_42 (dk_at dksX8_isTold_0 9 rfl rfl)
theorem dX8_isTold_10 : decode cX8_isTold 10 = .ok (.getfield 95, 3) := dk_180 0 95 (dk_at dksX8_isTold_0 10 rfl rfl)
theorem dX8_isTold_13 : decode cX8_isTold 13 = .ok (.bipush 40, 2) := dk_16 40 (dk_at dksX8_isTold_0 13 rfl rfl)
theorem dX8_isTold_15 : decode cX8_isTold 15 = .ok (.if_icmp .gt 7, 3) := dk_163 0 7 (dk_at dksX8_isTold_0 15 rfl rfl)
theorem dX8_isTold_18 : decode cX8_isTold 18 = .ok (.iconst 1, 1) := dk_4 (dk_at dksX8_isTold_0 18 rfl rfl)
theorem dX8_isTold_19 : decode cX8_isTold 19 = .ok (.goto 4, 3) := dk_167 0 4 (dk_at dksX8_isTold_0 19 rfl rfl)
theorem dX8_isTold_22 : decode cX8_isTold 22 = .ok (.iconst 0, 1) := dk_3 (dk_at dksX8_isTold_0 22 rfl rfl)
theorem dX8_isTold_23 : decode cX8_isTold 23 = .ok (.istore_n 1, 1) := dk_60 (dk_at dksX8_isTold_0 23 rfl rfl)
theorem dX8_isTold_24 : decode cX8_isTold 24 = .ok (.iconst 0, 1) := dk_3 (dk_at dksX8_isTold_1 0 rfl rfl)
theorem dX8_isTold_25 : decode cX8_isTold 25 = .ok (.istore_n 2, 1) := dk_61 (dk_at dksX8_isTold_1 1 rfl rfl)
theorem dX8_isTold_26 : decode cX8_isTold 26 = .ok (.iload_n 2, 1) := dk_28 (dk_at dksX8_isTold_1 2 rfl rfl)
theorem dX8_isTold_27 : decode cX8_isTold 27 = .ok (.aload_n 0, 1) := dk_42 (dk_at dksX8_isTold_1 3 rfl rfl)
theorem dX8_isTold_28 : decode cX8_isTold 28 = .ok (.getfield 95, 3) := dk_180 0 95 (dk_at dksX8_isTold_1 4 rfl rfl)
theorem dX8_isTold_31 : decode cX8_isTold 31 = .ok (.if_icmp .ge 49, 3) := dk_162 0 49 (dk_at dksX8_isTold_1 7 rfl rfl)
theorem dX8_isTold_34 : decode cX8_isTold 34 = .ok (.iload_n 1, 1) := dk_27 (dk_at dksX8_isTold_1 10 rfl rfl)
theorem dX8_isTold_35 : decode cX8_isTold 35 = .ok (.ifCond .eq 45, 3) := dk_153 0 45 (dk_at dksX8_isTold_1 11 rfl rfl)
theorem dX8_isTold_38 : decode cX8_isTold 38 = .ok (.aload_n 0, 1) := dk_42 (dk_at dksX8_isTold_1 14 rfl rfl)
theorem dX8_isTold_39 : decode cX8_isTold 39 = .ok (.getfield 29, 3) := dk_180 0 29 (dk_at dksX8_isTold_1 15 rfl rfl)
theorem dX8_isTold_42 : decode cX8_isTold 42 = .ok (.iload_n 2, 1) := dk_28 (dk_at dksX8_isTold_1 18 rfl rfl)
theorem dX8_isTold_43 : decode cX8_isTold 43 = .ok (.baload, 1) := dk_51 (dk_at dksX8_isTold_1 19 rfl rfl)
theorem dX8_isTold_44 : decode cX8_isTold 44 = .ok (.iconst 0, 1) := dk_3 (dk_at dksX8_isTold_1 20 rfl rfl)
theorem dX8_isTold_45 : decode cX8_isTold 45 = .ok (.iconst 5, 1) := dk_8 (dk_at dksX8_isTold_1 21 rfl rfl)
theorem dX8_isTold_46 : decode cX8_isTold 46 = .ok (.invokestatic 78, 3) := dk_184 0 78 (dk_at dksX8_isTold_2 0 rfl rfl)
theorem dX8_isTold_49 : decode cX8_isTold 49 = .ok (.ifCond .eq 23, 3) := dk_153 0 23 (dk_at dksX8_isTold_2 3 rfl rfl)
theorem dX8_isTold_52 : decode cX8_isTold 52 = .ok (.aload_n 0, 1) := dk_42 (dk_at dksX8_isTold_2 6 rfl rfl)
theorem dX8_isTold_53 : decode cX8_isTold 53 = .ok (.getfield 29, 3) := dk_180 0 29 (dk_at dksX8_isTold_2 7 rfl rfl)
theorem dX8_isTold_56 : decode cX8_isTold 56 = .ok (.iload_n 2, 1) := dk_28 (dk_at dksX8_isTold_2 10 rfl rfl)
theorem dX8_isTold_57 : decode cX8_isTold 57 = .ok (.iconst 1, 1) := dk_4 (dk_at dksX8_isTold_2 11 rfl rfl)
theorem dX8_isTold_58 : decode cX8_isTold 58 = .ok (.iadd, 1) := dk_96 (dk_at dksX8_isTold_2 12 rfl rfl)
theorem dX8_isTold_59 : decode cX8_isTold 59 = .ok (.baload, 1) := dk_51 (dk_at dksX8_isTold_2 13 rfl rfl)
theorem dX8_isTold_60 : decode cX8_isTold 60 = .ok (.iconst 0, 1) := dk_3 (dk_at dksX8_isTold_2 14 rfl rfl)
theorem dX8_isTold_61 : decode cX8_isTold 61 = .ok (.iconst 1, 1) := dk_4 (dk_at dksX8_isTold_2 15 rfl rfl)
theorem dX8_isTold_62 : decode cX8_isTold 62 = .ok (.invokestatic 78, 3) := dk_184 0 78 (dk_at dksX8_isTold_2 16 rfl rfl)
theorem dX8_isTold_65 : decode cX8_isTold 65 = .ok (.ifCond .eq 7, 3) := dk_153 0 7 (dk_at dksX8_isTold_2 19 rfl rfl)
theorem dX8_isTold_68 : decode cX8_isTold 68 = .ok (.iconst 1, 1) := dk_4 (dk_at dksX8_isTold_2 22 rfl rfl)
theorem dX8_isTold_69 : decode cX8_isTold 69 = .ok (.goto 4, 3) := dk_167 0 4 (dk_at dksX8_isTold_3 0 rfl rfl)
theorem dX8_isTold_72 : decode cX8_isTold 72 = .ok (.iconst 0, 1) := dk_3 (dk_at dksX8_isTold_3 3 rfl rfl)
theorem dX8_isTold_73 : decode cX8_isTold 73 = .ok (.istore_n 1, 1) := dk_60 (dk_at dksX8_isTold_3 4 rfl rfl)
theorem dX8_isTold_74 : decode cX8_isTold 74 = .ok (.iinc 2 2, 3) := dk_132 2 2 (dk_at dksX8_isTold_3 5 rfl rfl)
theorem dX8_isTold_77 : decode cX8_isTold 77 = .ok (.goto (-51), 3) := dk_167 255 205 (dk_at dksX8_isTold_3 8 rfl rfl)
theorem dX8_isTold_80 : decode cX8_isTold 80 = .ok (.iload_n 1, 1) := dk_27 (dk_at dksX8_isTold_3 11 rfl rfl)
theorem dX8_isTold_81 : decode cX8_isTold 81 = .ok (.ireturn, 1) := dk_172 (dk_at dksX8_isTold_3 12 rfl rfl)
abbrev cX8_fits : ByteArray := prog_18_method_116_code
def yX8_fits : MethodName := ⟨RX8, "fits", "(I)Z"⟩
def dkwX8_fits_2 : List UInt8 := [4, 167, 0, 4, 3, 160, 0, 7, 4, 167, 0, 4, 3, 62, 132, 4, 2, 167, 255, 202, 29, 172]
abbrev dktX8_fits_2 : List UInt8 := dkwX8_fits_2 ++ []
def dkwX8_fits_1 : List UInt8 := [28, 42, 180, 0, 29, 21, 4, 51, 184, 0, 127, 42, 180, 0, 29, 21, 4, 4, 96, 51, 4, 160, 0, 7]
abbrev dktX8_fits_1 : List UInt8 := dkwX8_fits_1 ++ dktX8_fits_2
def dkwX8_fits_0 : List UInt8 := [42, 27, 182, 1, 179, 61, 4, 62, 3, 54, 4, 21, 4, 42, 180, 0, 95, 162, 0, 51, 29, 153, 0, 39]
abbrev dktX8_fits_0 : List UInt8 := dkwX8_fits_0 ++ dktX8_fits_1
theorem dksX8_fits_0 : cX8_fits.data.toList.drop 0 = dktX8_fits_0 := by decide +kernel
theorem dksX8_fits_1 : cX8_fits.data.toList.drop 24 = dktX8_fits_1 := dk_seg dksX8_fits_0 24 rfl rfl
theorem dksX8_fits_2 : cX8_fits.data.toList.drop 48 = dktX8_fits_2 := dk_seg dksX8_fits_1 24 rfl rfl
theorem dX8_fits_0 : decode cX8_fits 0 = .ok (.aload_n 0, 1) := dk_42 (dk_at dksX8_fits_0 0 rfl rfl)
theorem dX8_fits_1 : decode cX8_fits 1 = .ok (.iload_n 1, 1) := dk_27 (dk_at dksX8_fits_0 1 rfl rfl)
theorem dX8_fits_2 : decode cX8_fits 2 = .ok (.invokevirtual 435, 3) := dk_182 1 179 (dk_at dksX8_fits_0 2 rfl rfl)
theorem dX8_fits_5 : decode cX8_fits 5 = .ok (.istore_n 2, 1) := dk_61 (dk_at dksX8_fits_0 5 rfl rfl)
theorem dX8_fits_6 : decode cX8_fits 6 = .ok (.iconst 1, 1) := dk_4 (dk_at dksX8_fits_0 6 rfl rfl)
theorem dX8_fits_7 : decode cX8_fits 7 = .ok (.istore_n 3, 1) := dk_62 (dk_at dksX8_fits_0 7 rfl rfl)
theorem dX8_fits_8 : decode cX8_fits 8 = .ok (.iconst 0, 1) := dk_3 (dk_at dksX8_fits_0 8 rfl rfl)
theorem dX8_fits_9 : decode cX8_fits 9 = .ok (.istore 4, 2) := dk_54 4 (dk_at dksX8_fits_0 9 rfl rfl)
theorem dX8_fits_11 : decode cX8_fits 11 = .ok (.iload 4, 2) := dk_21 4 (dk_at dksX8_fits_0 11 rfl rfl)
theorem dX8_fits_13 : decode cX8_fits 13 = .ok (.aload_n 0, 1) := dk_42 (dk_at dksX8_fits_0 13 rfl rfl)
theorem dX8_fits_14 : decode cX8_fits 14 = .ok (.getfield 95, 3) := dk_180 0 95 (dk_at dksX8_fits_0 14 rfl rfl)
theorem dX8_fits_17 : decode cX8_fits 17 = .ok (.if_icmp .ge 51, 3) := dk_162 0 51 (dk_at dksX8_fits_0 17 rfl rfl)
theorem dX8_fits_20 : decode cX8_fits 20 = .ok (.iload_n 3, 1) := dk_29 (dk_at dksX8_fits_0 20 rfl rfl)
theorem dX8_fits_21 : decode cX8_fits 21 = .ok (.ifCond .eq 39, 3) := dk_153 0 39 (dk_at dksX8_fits_0 21 rfl rfl)
theorem dX8_fits_24 : decode cX8_fits 24 = .ok (.iload_n 2, 1) := dk_28 (dk_at dksX8_fits_1 0 rfl rfl)
theorem dX8_fits_25 : decode cX8_fits 25 = .ok (.aload_n 0, 1) := dk_42 (dk_at dksX8_fits_1 1 rfl rfl)
theorem dX8_fits_26 : decode cX8_fits 26 = .ok (.getfield 29, 3) := dk_180 0 29 (dk_at dksX8_fits_1 2 rfl rfl)
theorem dX8_fits_29 : decode cX8_fits 29 = .ok (.iload 4, 2) := dk_21 4 (dk_at dksX8_fits_1 5 rfl rfl)
theorem dX8_fits_31 : decode cX8_fits 31 = .ok (.baload, 1) := dk_51 (dk_at dksX8_fits_1 7 rfl rfl)
theorem dX8_fits_32 : decode cX8_fits 32 = .ok (.invokestatic 127, 3) := dk_184 0 127 (dk_at dksX8_fits_1 8 rfl rfl)
theorem dX8_fits_35 : decode cX8_fits 35 = .ok (.aload_n 0, 1) := dk_42 (dk_at dksX8_fits_1 11 rfl rfl)
theorem dX8_fits_36 : decode cX8_fits 36 = .ok (.getfield 29, 3) := dk_180 0 29 (dk_at dksX8_fits_1 12 rfl rfl)
theorem dX8_fits_39 : decode cX8_fits 39 = .ok (.iload 4, 2) := dk_21 4 (dk_at dksX8_fits_1 15 rfl rfl)
theorem dX8_fits_41 : decode cX8_fits 41 = .ok (.iconst 1, 1) := dk_4 (dk_at dksX8_fits_1 17 rfl rfl)
theorem dX8_fits_42 : decode cX8_fits 42 = .ok (.iadd, 1) := dk_96 (dk_at dksX8_fits_1 18 rfl rfl)
theorem dX8_fits_43 : decode cX8_fits 43 = .ok (.baload, 1) := dk_51 (dk_at dksX8_fits_1 19 rfl rfl)
theorem dX8_fits_44 : decode cX8_fits 44 = .ok (.iconst 1, 1) := dk_4 (dk_at dksX8_fits_1 20 rfl rfl)
theorem dX8_fits_45 : decode cX8_fits 45 = .ok (.if_icmp .ne 7, 3) := dk_160 0 7 (dk_at dksX8_fits_1 21 rfl rfl)
theorem dX8_fits_48 : decode cX8_fits 48 = .ok (.iconst 1, 1) := dk_4 (dk_at dksX8_fits_2 0 rfl rfl)
theorem dX8_fits_49 : decode cX8_fits 49 = .ok (.goto 4, 3) := dk_167 0 4 (dk_at dksX8_fits_2 1 rfl rfl)
theorem dX8_fits_52 : decode cX8_fits 52 = .ok (.iconst 0, 1) := dk_3 (dk_at dksX8_fits_2 4 rfl rfl)
theorem dX8_fits_53 : decode cX8_fits 53 = .ok (.if_icmp .ne 7, 3) := dk_160 0 7 (dk_at dksX8_fits_2 5 rfl rfl)
theorem dX8_fits_56 : decode cX8_fits 56 = .ok (.iconst 1, 1) := dk_4 (dk_at dksX8_fits_2 8 rfl rfl)
theorem dX8_fits_57 : decode cX8_fits 57 = .ok (.goto 4, 3) := dk_167 0 4 (dk_at dksX8_fits_2 9 rfl rfl)
theorem dX8_fits_60 : decode cX8_fits 60 = .ok (.iconst 0, 1) := dk_3 (dk_at dksX8_fits_2 12 rfl rfl)
theorem dX8_fits_61 : decode cX8_fits 61 = .ok (.istore_n 3, 1) := dk_62 (dk_at dksX8_fits_2 13 rfl rfl)
theorem dX8_fits_62 : decode cX8_fits 62 = .ok (.iinc 4 2, 3) := dk_132 4 2 (dk_at dksX8_fits_2 14 rfl rfl)
theorem dX8_fits_65 : decode cX8_fits 65 = .ok (.goto (-54), 3) := dk_167 255 202 (dk_at dksX8_fits_2 17 rfl rfl)
theorem dX8_fits_68 : decode cX8_fits 68 = .ok (.iload_n 3, 1) := dk_29 (dk_at dksX8_fits_2 20 rfl rfl)
theorem dX8_fits_69 : decode cX8_fits 69 = .ok (.ireturn, 1) := dk_172 (dk_at dksX8_fits_2 21 rfl rfl)
abbrev cX8_songsOf : ByteArray := prog_18_method_115_code
def yX8_songsOf : MethodName := ⟨RX8, "songsOf", "(I)I"⟩
def dkwX8_songsOf_1 : List UInt8 := [182, 1, 21, 167, 0, 4, 3, 128, 61, 132, 3, 1, 167, 255, 224, 28, 172]
abbrev dktX8_songsOf_1 : List UInt8 := dkwX8_songsOf_1 ++ []
def dkwX8_songsOf_0 : List UInt8 := [3, 61, 3, 62, 29, 42, 182, 0, 74, 162, 0, 30, 28, 27, 29, 184, 0, 127, 153, 0, 12, 42, 29, 5]
abbrev dktX8_songsOf_0 : List UInt8 := dkwX8_songsOf_0 ++ dktX8_songsOf_1
theorem dksX8_songsOf_0 : cX8_songsOf.data.toList.drop 0 = dktX8_songsOf_0 := by decide +kernel
theorem dksX8_songsOf_1 : cX8_songsOf.data.toList.drop 24 = dktX8_songsOf_1 := dk_seg dksX8_songsOf_0 24 rfl rfl
theorem dX8_songsOf_0 : decode cX8_songsOf 0 = .ok (.iconst 0, 1) := dk_3 (dk_at dksX8_songsOf_0 0 rfl rfl)
theorem dX8_songsOf_1 : decode cX8_songsOf 1 = .ok (.istore_n 2, 1) := dk_61 (dk_at dksX8_songsOf_0 1 rfl rfl)
theorem dX8_songsOf_2 : decode cX8_songsOf 2 = .ok (.iconst 0, 1) := dk_3 (dk_at dksX8_songsOf_0 2 rfl rfl)
theorem dX8_songsOf_3 : decode cX8_songsOf 3 = .ok (.istore_n 3, 1) := dk_62 (dk_at dksX8_songsOf_0 3 rfl rfl)
theorem dX8_songsOf_4 : decode cX8_songsOf 4 = .ok (.iload_n 3, 1) := dk_29 (dk_at dksX8_songsOf_0 4 rfl rfl)
theorem dX8_songsOf_5 : decode cX8_songsOf 5 = .ok (.aload_n 0, 1) := dk_42 (dk_at dksX8_songsOf_0 5 rfl rfl)
theorem dX8_songsOf_6 : decode cX8_songsOf 6 = .ok (.invokevirtual 74, 3) := dk_182 0 74 (dk_at dksX8_songsOf_0 6 rfl rfl)
theorem dX8_songsOf_9 : decode cX8_songsOf 9 = .ok (.if_icmp .ge 30, 3) := dk_162 0 30 (dk_at dksX8_songsOf_0 9 rfl rfl)
theorem dX8_songsOf_12 : decode cX8_songsOf 12 = .ok (.iload_n 2, 1) := dk_28 (dk_at dksX8_songsOf_0 12 rfl rfl)
theorem dX8_songsOf_13 : decode cX8_songsOf 13 = .ok (.iload_n 1, 1) := dk_27 (dk_at dksX8_songsOf_0 13 rfl rfl)
theorem dX8_songsOf_14 : decode cX8_songsOf 14 = .ok (.iload_n 3, 1) := dk_29 (dk_at dksX8_songsOf_0 14 rfl rfl)
theorem dX8_songsOf_15 : decode cX8_songsOf 15 = .ok (.invokestatic 127, 3) := dk_184 0 127 (dk_at dksX8_songsOf_0 15 rfl rfl)
theorem dX8_songsOf_18 : decode cX8_songsOf 18 = .ok (.ifCond .eq 12, 3) := dk_153 0 12 (dk_at dksX8_songsOf_0 18 rfl rfl)
theorem dX8_songsOf_21 : decode cX8_songsOf 21 = .ok (.aload_n 0, 1) := dk_42 (dk_at dksX8_songsOf_0 21 rfl rfl)
theorem dX8_songsOf_22 : decode cX8_songsOf 22 = .ok (.iload_n 3, 1) := dk_29 (dk_at dksX8_songsOf_0 22 rfl rfl)
theorem dX8_songsOf_23 : decode cX8_songsOf 23 = .ok (.iconst 2, 1) := dk_5 (dk_at dksX8_songsOf_0 23 rfl rfl)
theorem dX8_songsOf_24 : decode cX8_songsOf 24 = .ok (.invokevirtual 277, 3) := dk_182 1 21 (dk_at dksX8_songsOf_1 0 rfl rfl)
theorem dX8_songsOf_27 : decode cX8_songsOf 27 = .ok (.goto 4, 3) := dk_167 0 4 (dk_at dksX8_songsOf_1 3 rfl rfl)
theorem dX8_songsOf_30 : decode cX8_songsOf 30 = .ok (.iconst 0, 1) := dk_3 (dk_at dksX8_songsOf_1 6 rfl rfl)
theorem dX8_songsOf_31 : decode cX8_songsOf 31 = .ok (.ior, 1) := dk_128 (dk_at dksX8_songsOf_1 7 rfl rfl)
theorem dX8_songsOf_32 : decode cX8_songsOf 32 = .ok (.istore_n 2, 1) := dk_61 (dk_at dksX8_songsOf_1 8 rfl rfl)
theorem dX8_songsOf_33 : decode cX8_songsOf 33 = .ok (.iinc 3 1, 3) := dk_132 3 1 (dk_at dksX8_songsOf_1 9 rfl rfl)
theorem dX8_songsOf_36 : decode cX8_songsOf 36 = .ok (.goto (-32), 3) := dk_167 255 224 (dk_at dksX8_songsOf_1 12 rfl rfl)
theorem dX8_songsOf_39 : decode cX8_songsOf 39 = .ok (.iload_n 2, 1) := dk_28 (dk_at dksX8_songsOf_1 15 rfl rfl)
theorem dX8_songsOf_40 : decode cX8_songsOf 40 = .ok (.ireturn, 1) := dk_172 (dk_at dksX8_songsOf_1 16 rfl rfl)
abbrev cX8_ask : ByteArray := prog_18_method_118_code
def yX8_ask : MethodName := ⟨RX8, "ask", "()I"⟩
def dkwX8_ask_5 : List UInt8 := [161, 0, 6, 167, 0, 8, 29, 60, 21, 6, 61, 132, 3, 1, 167, 255, 159, 27, 172]
abbrev dktX8_ask_5 : List UInt8 := dkwX8_ask_5 ++ []
def dkwX8_ask_4 : List UInt8 := [167, 255, 212, 21, 5, 21, 4, 21, 5, 100, 184, 1, 44, 54, 6, 21, 4, 5, 161, 0, 17, 21, 6, 28]
abbrev dktX8_ask_4 : List UInt8 := dkwX8_ask_4 ++ dktX8_ask_5
def dkwX8_ask_3 : List UInt8 := [167, 0, 21, 132, 4, 1, 21, 5, 42, 21, 6, 182, 1, 179, 29, 122, 4, 126, 96, 54, 5, 132, 6, 1]
abbrev dktX8_ask_3 : List UInt8 := dkwX8_ask_3 ++ dktX8_ask_4
def dkwX8_ask_2 : List UInt8 := [54, 6, 21, 6, 4, 42, 182, 0, 74, 120, 162, 0, 39, 42, 21, 6, 182, 1, 185, 154, 0, 6]
abbrev dktX8_ask_2 : List UInt8 := dkwX8_ask_2 ++ dktX8_ask_3
def dkwX8_ask_1 : List UInt8 := [3, 172, 2, 60, 17, 3, 231, 61, 3, 62, 29, 16, 6, 162, 0, 97, 3, 54, 4, 3, 54, 5, 3]
abbrev dktX8_ask_1 : List UInt8 := dkwX8_ask_1 ++ dktX8_ask_2
def dkwX8_ask_0 : List UInt8 := [42, 182, 0, 254, 42, 42, 182, 1, 182, 154, 0, 7, 4, 167, 0, 4, 3, 4, 182, 1, 9, 153, 0, 5]
abbrev dktX8_ask_0 : List UInt8 := dkwX8_ask_0 ++ dktX8_ask_1
theorem dksX8_ask_0 : cX8_ask.data.toList.drop 0 = dktX8_ask_0 := by decide +kernel
theorem dksX8_ask_1 : cX8_ask.data.toList.drop 24 = dktX8_ask_1 := dk_seg dksX8_ask_0 24 rfl rfl
theorem dksX8_ask_2 : cX8_ask.data.toList.drop 47 = dktX8_ask_2 := dk_seg dksX8_ask_1 23 rfl rfl
theorem dksX8_ask_3 : cX8_ask.data.toList.drop 69 = dktX8_ask_3 := dk_seg dksX8_ask_2 22 rfl rfl
theorem dksX8_ask_4 : cX8_ask.data.toList.drop 93 = dktX8_ask_4 := dk_seg dksX8_ask_3 24 rfl rfl
theorem dksX8_ask_5 : cX8_ask.data.toList.drop 117 = dktX8_ask_5 := dk_seg dksX8_ask_4 24 rfl rfl
theorem dX8_ask_0 : decode cX8_ask 0 = .ok (.aload_n 0, 1) := dk_42 (dk_at dksX8_ask_0 0 rfl rfl)
theorem dX8_ask_1 : decode cX8_ask 1 = .ok (.invokevirtual 254, 3) := dk_182 0 254 (dk_at dksX8_ask_0 1 rfl rfl)
theorem dX8_ask_4 : decode cX8_ask 4 = .ok (.aload_n 0, 1) := dk_42 (dk_at dksX8_ask_0 4 rfl rfl)
theorem dX8_ask_5 : decode cX8_ask 5 = .ok (.aload_n 0, 1) := dk_42 (dk_at dksX8_ask_0 5 rfl rfl)
theorem dX8_ask_6 : decode cX8_ask 6 = .ok (.invokevirtual 438, 3) := dk_182 1 182 (dk_at dksX8_ask_0 6 rfl rfl)
theorem dX8_ask_9 : decode cX8_ask 9 = .ok (.ifCond .ne 7, 3) := dk_154 0 7 (dk_at dksX8_ask_0 9 rfl rfl)
theorem dX8_ask_12 : decode cX8_ask 12 = .ok (.iconst 1, 1) := dk_4 (dk_at dksX8_ask_0 12 rfl rfl)
theorem dX8_ask_13 : decode cX8_ask 13 = .ok (.goto 4, 3) := dk_167 0 4 (dk_at dksX8_ask_0 13 rfl rfl)
theorem dX8_ask_16 : decode cX8_ask 16 = .ok (.iconst 0, 1) := dk_3 (dk_at dksX8_ask_0 16 rfl rfl)
theorem dX8_ask_17 : decode cX8_ask 17 = .ok (.iconst 1, 1) := dk_4 (dk_at dksX8_ask_0 17 rfl rfl)
theorem dX8_ask_18 : decode cX8_ask 18 = .ok (.invokevirtual 265, 3) := dk_182 1 9 (dk_at dksX8_ask_0 18 rfl rfl)
theorem dX8_ask_21 : decode cX8_ask 21 = .ok (.ifCond .eq 5, 3) := dk_153 0 5 (dk_at dksX8_ask_0 21 rfl rfl)
theorem dX8_ask_24 : decode cX8_ask 24 = .ok (.iconst 0, 1) := dk_3 (dk_at dksX8_ask_1 0 rfl rfl)
theorem dX8_ask_25 : decode cX8_ask 25 = .ok (.ireturn, 1) := dk_172 (dk_at dksX8_ask_1 1 rfl rfl)
theorem dX8_ask_26 : decode cX8_ask 26 = .ok (.iconst (-1), 1) := dk_2 (dk_at dksX8_ask_1 2 rfl rfl)
theorem dX8_ask_27 : decode cX8_ask 27 = .ok (.istore_n 1, 1) := dk_60 (dk_at dksX8_ask_1 3 rfl rfl)
theorem dX8_ask_28 : decode cX8_ask 28 = .ok (.sipush 999, 3) := dk_17 3 231 (dk_at dksX8_ask_1 4 rfl rfl)
theorem dX8_ask_31 : decode cX8_ask 31 = .ok (.istore_n 2, 1) := dk_61 (dk_at dksX8_ask_1 7 rfl rfl)
theorem dX8_ask_32 : decode cX8_ask 32 = .ok (.iconst 0, 1) := dk_3 (dk_at dksX8_ask_1 8 rfl rfl)
theorem dX8_ask_33 : decode cX8_ask 33 = .ok (.istore_n 3, 1) := dk_62 (dk_at dksX8_ask_1 9 rfl rfl)
theorem dX8_ask_34 : decode cX8_ask 34 = .ok (.iload_n 3, 1) := dk_29 (dk_at dksX8_ask_1 10 rfl rfl)
theorem dX8_ask_35 : decode cX8_ask 35 = .ok (.bipush 6, 2) := dk_16 6 (dk_at dksX8_ask_1 11 rfl rfl)
theorem dX8_ask_37 : decode cX8_ask 37 = .ok (.if_icmp .ge 97, 3) := dk_162 0 97 (dk_at dksX8_ask_1 13 rfl rfl)
theorem dX8_ask_40 : decode cX8_ask 40 = .ok (.iconst 0, 1) := dk_3 (dk_at dksX8_ask_1 16 rfl rfl)
theorem dX8_ask_41 : decode cX8_ask 41 = .ok (.istore 4, 2) := dk_54 4 (dk_at dksX8_ask_1 17 rfl rfl)
theorem dX8_ask_43 : decode cX8_ask 43 = .ok (.iconst 0, 1) := dk_3 (dk_at dksX8_ask_1 19 rfl rfl)
theorem dX8_ask_44 : decode cX8_ask 44 = .ok (.istore 5, 2) := dk_54 5 (dk_at dksX8_ask_1 20 rfl rfl)
theorem dX8_ask_46 : decode cX8_ask 46 = .ok (.iconst 0, 1) := dk_3 (dk_at dksX8_ask_1 22 rfl rfl)
theorem dX8_ask_47 : decode cX8_ask 47 = .ok (.istore 6, 2) := dk_54 6 (dk_at dksX8_ask_2 0 rfl rfl)
theorem dX8_ask_49 : decode cX8_ask 49 = .ok (.iload 6, 2) := dk_21 6 (dk_at dksX8_ask_2 2 rfl rfl)
theorem dX8_ask_51 : decode cX8_ask 51 = .ok (.iconst 1, 1) := dk_4 (dk_at dksX8_ask_2 4 rfl rfl)
theorem dX8_ask_52 : decode cX8_ask 52 = .ok (.aload_n 0, 1) := dk_42 (dk_at dksX8_ask_2 5 rfl rfl)
theorem dX8_ask_53 : decode cX8_ask 53 = .ok (.invokevirtual 74, 3) := dk_182 0 74 (dk_at dksX8_ask_2 6 rfl rfl)
theorem dX8_ask_56 : decode cX8_ask 56 = .ok (.ishl, 1) := dk_120 (dk_at dksX8_ask_2 9 rfl rfl)
theorem dX8_ask_57 : decode cX8_ask 57 = .ok (.if_icmp .ge 39, 3) := dk_162 0 39 (dk_at dksX8_ask_2 10 rfl rfl)
theorem dX8_ask_60 : decode cX8_ask 60 = .ok (.aload_n 0, 1) := dk_42 (dk_at dksX8_ask_2 13 rfl rfl)
theorem dX8_ask_61 : decode cX8_ask 61 = .ok (.iload 6, 2) := dk_21 6 (dk_at dksX8_ask_2 14 rfl rfl)
theorem dX8_ask_63 : decode cX8_ask 63 = .ok (.invokevirtual 441, 3) := dk_182 1 185 (dk_at dksX8_ask_2 16 rfl rfl)
theorem dX8_ask_66 : decode cX8_ask 66 = .ok (.ifCond .ne 6, 3) := dk_154 0 6 (dk_at dksX8_ask_2 19 rfl rfl)
theorem dX8_ask_69 : decode cX8_ask 69 = .ok (.goto 21, 3) := dk_167 0 21 (dk_at dksX8_ask_3 0 rfl rfl)
theorem dX8_ask_72 : decode cX8_ask 72 = .ok (.iinc 4 1, 3) := dk_132 4 1 (dk_at dksX8_ask_3 3 rfl rfl)
theorem dX8_ask_75 : decode cX8_ask 75 = .ok (.iload 5, 2) := dk_21 5 (dk_at dksX8_ask_3 6 rfl rfl)
theorem dX8_ask_77 : decode cX8_ask 77 = .ok (.aload_n 0, 1) := dk_42 (dk_at dksX8_ask_3 8 rfl rfl)
theorem dX8_ask_78 : decode cX8_ask 78 = .ok (.iload 6, 2) := dk_21 6 (dk_at dksX8_ask_3 9 rfl rfl)
theorem dX8_ask_80 : decode cX8_ask 80 = .ok (.invokevirtual 435, 3) := dk_182 1 179 (dk_at dksX8_ask_3 11 rfl rfl)
theorem dX8_ask_83 : decode cX8_ask 83 = .ok (.iload_n 3, 1) := dk_29 (dk_at dksX8_ask_3 14 rfl rfl)
theorem dX8_ask_84 : decode cX8_ask 84 = .ok (.ishr, 1) := dk_122 (dk_at dksX8_ask_3 15 rfl rfl)
theorem dX8_ask_85 : decode cX8_ask 85 = .ok (.iconst 1, 1) := dk_4 (dk_at dksX8_ask_3 16 rfl rfl)
theorem dX8_ask_86 : decode cX8_ask 86 = .ok (.iand, 1) := dk_126 (dk_at dksX8_ask_3 17 rfl rfl)
theorem dX8_ask_87 : decode cX8_ask 87 = .ok (.iadd, 1) := dk_96 (dk_at dksX8_ask_3 18 rfl rfl)
theorem dX8_ask_88 : decode cX8_ask 88 = .ok (.istore 5, 2) := dk_54 5 (dk_at dksX8_ask_3 19 rfl rfl)
theorem dX8_ask_90 : decode cX8_ask 90 = .ok (.iinc 6 1, 3) := dk_132 6 1 (dk_at dksX8_ask_3 21 rfl rfl)
theorem dX8_ask_93 : decode cX8_ask 93 = .ok (.goto (-44), 3) := dk_167 255 212 (dk_at dksX8_ask_4 0 rfl rfl)
theorem dX8_ask_96 : decode cX8_ask 96 = .ok (.iload 5, 2) := dk_21 5 (dk_at dksX8_ask_4 3 rfl rfl)
theorem dX8_ask_98 : decode cX8_ask 98 = .ok (.iload 4, 2) := dk_21 4 (dk_at dksX8_ask_4 5 rfl rfl)
theorem dX8_ask_100 : decode cX8_ask 100 = .ok (.iload 5, 2) := dk_21 5 (dk_at dksX8_ask_4 7 rfl rfl)
theorem dX8_ask_102 : decode cX8_ask 102 = .ok (.isub, 1) := dk_100 (dk_at dksX8_ask_4 9 rfl rfl)
theorem dX8_ask_103 : decode cX8_ask 103 = .ok (.invokestatic 300, 3) := dk_184 1 44 (dk_at dksX8_ask_4 10 rfl rfl)
theorem dX8_ask_106 : decode cX8_ask 106 = .ok (.istore 6, 2) := dk_54 6 (dk_at dksX8_ask_4 13 rfl rfl)
theorem dX8_ask_108 : decode cX8_ask 108 = .ok (.iload 4, 2) := dk_21 4 (dk_at dksX8_ask_4 15 rfl rfl)
theorem dX8_ask_110 : decode cX8_ask 110 = .ok (.iconst 2, 1) := dk_5 (dk_at dksX8_ask_4 17 rfl rfl)
theorem dX8_ask_111 : decode cX8_ask 111 = .ok (.if_icmp .lt 17, 3) := dk_161 0 17 (dk_at dksX8_ask_4 18 rfl rfl)
theorem dX8_ask_114 : decode cX8_ask 114 = .ok (.iload 6, 2) := dk_21 6 (dk_at dksX8_ask_4 21 rfl rfl)
theorem dX8_ask_116 : decode cX8_ask 116 = .ok (.iload_n 2, 1) := dk_28 (dk_at dksX8_ask_4 23 rfl rfl)
theorem dX8_ask_117 : decode cX8_ask 117 = .ok (.if_icmp .lt 6, 3) := dk_161 0 6 (dk_at dksX8_ask_5 0 rfl rfl)
theorem dX8_ask_120 : decode cX8_ask 120 = .ok (.goto 8, 3) := dk_167 0 8 (dk_at dksX8_ask_5 3 rfl rfl)
theorem dX8_ask_123 : decode cX8_ask 123 = .ok (.iload_n 3, 1) := dk_29 (dk_at dksX8_ask_5 6 rfl rfl)
theorem dX8_ask_124 : decode cX8_ask 124 = .ok (.istore_n 1, 1) := dk_60 (dk_at dksX8_ask_5 7 rfl rfl)
theorem dX8_ask_125 : decode cX8_ask 125 = .ok (.iload 6, 2) := dk_21 6 (dk_at dksX8_ask_5 8 rfl rfl)
theorem dX8_ask_127 : decode cX8_ask 127 = .ok (.istore_n 2, 1) := dk_61 (dk_at dksX8_ask_5 10 rfl rfl)
theorem dX8_ask_128 : decode cX8_ask 128 = .ok (.iinc 3 1, 3) := dk_132 3 1 (dk_at dksX8_ask_5 11 rfl rfl)
theorem dX8_ask_131 : decode cX8_ask 131 = .ok (.goto (-97), 3) := dk_167 255 159 (dk_at dksX8_ask_5 14 rfl rfl)
theorem dX8_ask_134 : decode cX8_ask 134 = .ok (.iload_n 1, 1) := dk_27 (dk_at dksX8_ask_5 17 rfl rfl)
theorem dX8_ask_135 : decode cX8_ask 135 = .ok (.ireturn, 1) := dk_172 (dk_at dksX8_ask_5 18 rfl rfl)
abbrev cX8_lasts : ByteArray := prog_18_method_119_code
def yX8_lasts : MethodName := ⟨RX8, "lasts", "(III)I"⟩
def dkwX8_lasts_4 : List UInt8 := [167, 0, 13, 21, 4, 21, 5, 96, 4, 100, 21, 5, 108, 172]
abbrev dktX8_lasts_4 : List UInt8 := dkwX8_lasts_4 ++ []
def dkwX8_lasts_3 : List UInt8 := [28, 6, 182, 1, 21, 54, 5, 21, 4, 157, 0, 7, 3, 167, 0, 22, 21, 5, 154, 0, 7, 2]
abbrev dktX8_lasts_3 : List UInt8 := dkwX8_lasts_3 ++ dktX8_lasts_4
def dkwX8_lasts_2 : List UInt8 := [167, 0, 4, 3, 5, 182, 1, 9, 153, 0, 5, 3, 172, 29, 42, 27, 28, 182, 1, 134, 100, 54, 4, 42]
abbrev dktX8_lasts_2 : List UInt8 := dkwX8_lasts_2 ++ dktX8_lasts_3
def dkwX8_lasts_1 : List UInt8 := [167, 0, 4, 3, 4, 182, 1, 9, 154, 0, 26, 42, 29, 4, 16, 99, 184, 0, 78, 154, 0, 7, 4]
abbrev dktX8_lasts_1 : List UInt8 := dkwX8_lasts_1 ++ dktX8_lasts_2
def dkwX8_lasts_0 : List UInt8 := [42, 3, 181, 0, 3, 42, 42, 27, 182, 1, 137, 154, 0, 11, 42, 28, 182, 1, 47, 153, 0, 7, 4]
abbrev dktX8_lasts_0 : List UInt8 := dkwX8_lasts_0 ++ dktX8_lasts_1
theorem dksX8_lasts_0 : cX8_lasts.data.toList.drop 0 = dktX8_lasts_0 := by decide +kernel
theorem dksX8_lasts_1 : cX8_lasts.data.toList.drop 23 = dktX8_lasts_1 := dk_seg dksX8_lasts_0 23 rfl rfl
theorem dksX8_lasts_2 : cX8_lasts.data.toList.drop 46 = dktX8_lasts_2 := dk_seg dksX8_lasts_1 23 rfl rfl
theorem dksX8_lasts_3 : cX8_lasts.data.toList.drop 70 = dktX8_lasts_3 := dk_seg dksX8_lasts_2 24 rfl rfl
theorem dksX8_lasts_4 : cX8_lasts.data.toList.drop 92 = dktX8_lasts_4 := dk_seg dksX8_lasts_3 22 rfl rfl
theorem dX8_lasts_0 : decode cX8_lasts 0 = .ok (.aload_n 0, 1) := dk_42 (dk_at dksX8_lasts_0 0 rfl rfl)
theorem dX8_lasts_1 : decode cX8_lasts 1 = .ok (.iconst 0, 1) := dk_3 (dk_at dksX8_lasts_0 1 rfl rfl)
theorem dX8_lasts_2 : decode cX8_lasts 2 = .ok (.putfield 3, 3) := dk_181 0 3 (dk_at dksX8_lasts_0 2 rfl rfl)
theorem dX8_lasts_5 : decode cX8_lasts 5 = .ok (.aload_n 0, 1) := dk_42 (dk_at dksX8_lasts_0 5 rfl rfl)
theorem dX8_lasts_6 : decode cX8_lasts 6 = .ok (.aload_n 0, 1) := dk_42 (dk_at dksX8_lasts_0 6 rfl rfl)
theorem dX8_lasts_7 : decode cX8_lasts 7 = .ok (.iload_n 1, 1) := dk_27 (dk_at dksX8_lasts_0 7 rfl rfl)
theorem dX8_lasts_8 : decode cX8_lasts 8 = .ok (.invokevirtual 393, 3) := dk_182 1 137 (dk_at dksX8_lasts_0 8 rfl rfl)
theorem dX8_lasts_11 : decode cX8_lasts 11 = .ok (.ifCond .ne 11, 3) := dk_154 0 11 (dk_at dksX8_lasts_0 11 rfl rfl)
theorem dX8_lasts_14 : decode cX8_lasts 14 = .ok (.aload_n 0, 1) := dk_42 (dk_at dksX8_lasts_0 14 rfl rfl)
theorem dX8_lasts_15 : decode cX8_lasts 15 = .ok (.iload_n 2, 1) := dk_28 (dk_at dksX8_lasts_0 15 rfl rfl)
theorem dX8_lasts_16 : decode cX8_lasts 16 = .ok (.invokevirtual 303, 3) := dk_182 1 47 (dk_at dksX8_lasts_0 16 rfl rfl)
theorem dX8_lasts_19 : decode cX8_lasts 19 = .ok (.ifCond .eq 7, 3) := dk_153 0 7 (dk_at dksX8_lasts_0 19 rfl rfl)
theorem dX8_lasts_22 : decode cX8_lasts 22 = .ok (.iconst 1, 1) := dk_4 (dk_at dksX8_lasts_0 22 rfl rfl)
theorem dX8_lasts_23 : decode cX8_lasts 23 = .ok (.goto 4, 3) := dk_167 0 4 (dk_at dksX8_lasts_1 0 rfl rfl)
theorem dX8_lasts_26 : decode cX8_lasts 26 = .ok (.iconst 0, 1) := dk_3 (dk_at dksX8_lasts_1 3 rfl rfl)
theorem dX8_lasts_27 : decode cX8_lasts 27 = .ok (.iconst 1, 1) := dk_4 (dk_at dksX8_lasts_1 4 rfl rfl)
theorem dX8_lasts_28 : decode cX8_lasts 28 = .ok (.invokevirtual 265, 3) := dk_182 1 9 (dk_at dksX8_lasts_1 5 rfl rfl)
theorem dX8_lasts_31 : decode cX8_lasts 31 = .ok (.ifCond .ne 26, 3) := dk_154 0 26 (dk_at dksX8_lasts_1 8 rfl rfl)
theorem dX8_lasts_34 : decode cX8_lasts 34 = .ok (.aload_n 0, 1) := dk_42 (dk_at dksX8_lasts_1 11 rfl rfl)
theorem dX8_lasts_35 : decode cX8_lasts 35 = .ok (.iload_n 3, 1) := dk_29 (dk_at dksX8_lasts_1 12 rfl rfl)
theorem dX8_lasts_36 : decode cX8_lasts 36 = .ok (.iconst 1, 1) := dk_4 (dk_at dksX8_lasts_1 13 rfl rfl)
theorem dX8_lasts_37 : decode cX8_lasts 37 = .ok (.bipush 99, 2) := dk_16 99 (dk_at dksX8_lasts_1 14 rfl rfl)
theorem dX8_lasts_39 : decode cX8_lasts 39 = .ok (.invokestatic 78, 3) := dk_184 0 78 (dk_at dksX8_lasts_1 16 rfl rfl)
theorem dX8_lasts_42 : decode cX8_lasts 42 = .ok (.ifCond .ne 7, 3) := dk_154 0 7 (dk_at dksX8_lasts_1 19 rfl rfl)
theorem dX8_lasts_45 : decode cX8_lasts 45 = .ok (.iconst 1, 1) := dk_4 (dk_at dksX8_lasts_1 22 rfl rfl)
theorem dX8_lasts_46 : decode cX8_lasts 46 = .ok (.goto 4, 3) := dk_167 0 4 (dk_at dksX8_lasts_2 0 rfl rfl)
theorem dX8_lasts_49 : decode cX8_lasts 49 = .ok (.iconst 0, 1) := dk_3 (dk_at dksX8_lasts_2 3 rfl rfl)
theorem dX8_lasts_50 : decode cX8_lasts 50 = .ok (.iconst 2, 1) := dk_5 (dk_at dksX8_lasts_2 4 rfl rfl)
theorem dX8_lasts_51 : decode cX8_lasts 51 = .ok (.invokevirtual 265, 3) := dk_182 1 9 (dk_at dksX8_lasts_2 5 rfl rfl)
theorem dX8_lasts_54 : decode cX8_lasts 54 = .ok (.ifCond .eq 5, 3) := dk_153 0 5 (dk_at dksX8_lasts_2 8 rfl rfl)
theorem dX8_lasts_57 : decode cX8_lasts 57 = .ok (.iconst 0, 1) := dk_3 (dk_at dksX8_lasts_2 11 rfl rfl)
theorem dX8_lasts_58 : decode cX8_lasts 58 = .ok (.ireturn, 1) := dk_172 (dk_at dksX8_lasts_2 12 rfl rfl)
theorem dX8_lasts_59 : decode cX8_lasts 59 = .ok (.iload_n 3, 1) := dk_29 (dk_at dksX8_lasts_2 13 rfl rfl)
theorem dX8_lasts_60 : decode cX8_lasts 60 = .ok (.aload_n 0, 1) := dk_42 (dk_at dksX8_lasts_2 14 rfl rfl)
theorem dX8_lasts_61 : decode cX8_lasts 61 = .ok (.iload_n 1, 1) := dk_27 (dk_at dksX8_lasts_2 15 rfl rfl)
theorem dX8_lasts_62 : decode cX8_lasts 62 = .ok (.iload_n 2, 1) := dk_28 (dk_at dksX8_lasts_2 16 rfl rfl)
theorem dX8_lasts_63 : decode cX8_lasts 63 = .ok (.invokevirtual 390, 3) := dk_182 1 134 (dk_at dksX8_lasts_2 17 rfl rfl)
theorem dX8_lasts_66 : decode cX8_lasts 66 = .ok (.isub, 1) := dk_100 (dk_at dksX8_lasts_2 20 rfl rfl)
theorem dX8_lasts_67 : decode cX8_lasts 67 = .ok (.istore 4, 2) := dk_54 4 (dk_at dksX8_lasts_2 21 rfl rfl)
theorem dX8_lasts_69 : decode cX8_lasts 69 = .ok (.aload_n 0, 1) := dk_42 (dk_at dksX8_lasts_2 23 rfl rfl)
theorem dX8_lasts_70 : decode cX8_lasts 70 = .ok (.iload_n 2, 1) := dk_28 (dk_at dksX8_lasts_3 0 rfl rfl)
theorem dX8_lasts_71 : decode cX8_lasts 71 = .ok (.iconst 3, 1) := dk_6 (dk_at dksX8_lasts_3 1 rfl rfl)
theorem dX8_lasts_72 : decode cX8_lasts 72 = .ok (.invokevirtual 277, 3) := dk_182 1 21 (dk_at dksX8_lasts_3 2 rfl rfl)
theorem dX8_lasts_75 : decode cX8_lasts 75 = .ok (.istore 5, 2) := dk_54 5 (dk_at dksX8_lasts_3 5 rfl rfl)
theorem dX8_lasts_77 : decode cX8_lasts 77 = .ok (.iload 4, 2) := dk_21 4 (dk_at dksX8_lasts_3 7 rfl rfl)
theorem dX8_lasts_79 : decode cX8_lasts 79 = .ok (.ifCond .gt 7, 3) := dk_157 0 7 (dk_at dksX8_lasts_3 9 rfl rfl)
theorem dX8_lasts_82 : decode cX8_lasts 82 = .ok (.iconst 0, 1) := dk_3 (dk_at dksX8_lasts_3 12 rfl rfl)
theorem dX8_lasts_83 : decode cX8_lasts 83 = .ok (.goto 22, 3) := dk_167 0 22 (dk_at dksX8_lasts_3 13 rfl rfl)
theorem dX8_lasts_86 : decode cX8_lasts 86 = .ok (.iload 5, 2) := dk_21 5 (dk_at dksX8_lasts_3 16 rfl rfl)
theorem dX8_lasts_88 : decode cX8_lasts 88 = .ok (.ifCond .ne 7, 3) := dk_154 0 7 (dk_at dksX8_lasts_3 18 rfl rfl)
theorem dX8_lasts_91 : decode cX8_lasts 91 = .ok (.iconst (-1), 1) := dk_2 (dk_at dksX8_lasts_3 21 rfl rfl)
theorem dX8_lasts_92 : decode cX8_lasts 92 = .ok (.goto 13, 3) := dk_167 0 13 (dk_at dksX8_lasts_4 0 rfl rfl)
theorem dX8_lasts_95 : decode cX8_lasts 95 = .ok (.iload 4, 2) := dk_21 4 (dk_at dksX8_lasts_4 3 rfl rfl)
theorem dX8_lasts_97 : decode cX8_lasts 97 = .ok (.iload 5, 2) := dk_21 5 (dk_at dksX8_lasts_4 5 rfl rfl)
theorem dX8_lasts_99 : decode cX8_lasts 99 = .ok (.iadd, 1) := dk_96 (dk_at dksX8_lasts_4 7 rfl rfl)
theorem dX8_lasts_100 : decode cX8_lasts 100 = .ok (.iconst 1, 1) := dk_4 (dk_at dksX8_lasts_4 8 rfl rfl)
theorem dX8_lasts_101 : decode cX8_lasts 101 = .ok (.isub, 1) := dk_100 (dk_at dksX8_lasts_4 9 rfl rfl)
theorem dX8_lasts_102 : decode cX8_lasts 102 = .ok (.iload 5, 2) := dk_21 5 (dk_at dksX8_lasts_4 10 rfl rfl)
theorem dX8_lasts_104 : decode cX8_lasts 104 = .ok (.idiv, 1) := dk_108 (dk_at dksX8_lasts_4 12 rfl rfl)
theorem dX8_lasts_105 : decode cX8_lasts 105 = .ok (.ireturn, 1) := dk_172 (dk_at dksX8_lasts_4 13 rfl rfl)
abbrev cX8_rich : ByteArray := prog_18_method_121_code
def yX8_rich : MethodName := ⟨RX8, "rich", "()I"⟩
def dkwX8_rich_1 : List UInt8 := [182, 1, 188, 42, 27, 182, 1, 188, 164, 0, 5, 28, 60, 132, 2, 1, 167, 255, 226, 27, 172]
abbrev dktX8_rich_1 : List UInt8 := dkwX8_rich_1 ++ []
def dkwX8_rich_0 : List UInt8 := [42, 3, 181, 0, 3, 2, 60, 3, 61, 28, 42, 182, 0, 82, 162, 0, 28, 27, 155, 0, 16, 42, 28]
abbrev dktX8_rich_0 : List UInt8 := dkwX8_rich_0 ++ dktX8_rich_1
theorem dksX8_rich_0 : cX8_rich.data.toList.drop 0 = dktX8_rich_0 := by decide +kernel
theorem dksX8_rich_1 : cX8_rich.data.toList.drop 23 = dktX8_rich_1 := dk_seg dksX8_rich_0 23 rfl rfl
theorem dX8_rich_0 : decode cX8_rich 0 = .ok (.aload_n 0, 1) := dk_42 (dk_at dksX8_rich_0 0 rfl rfl)
theorem dX8_rich_1 : decode cX8_rich 1 = .ok (.iconst 0, 1) := dk_3 (dk_at dksX8_rich_0 1 rfl rfl)
theorem dX8_rich_2 : decode cX8_rich 2 = .ok (.putfield 3, 3) := dk_181 0 3 (dk_at dksX8_rich_0 2 rfl rfl)
theorem dX8_rich_5 : decode cX8_rich 5 = .ok (.iconst (-1), 1) := dk_2 (dk_at dksX8_rich_0 5 rfl rfl)
theorem dX8_rich_6 : decode cX8_rich 6 = .ok (.istore_n 1, 1) := dk_60 (dk_at dksX8_rich_0 6 rfl rfl)
theorem dX8_rich_7 : decode cX8_rich 7 = .ok (.iconst 0, 1) := dk_3 (dk_at dksX8_rich_0 7 rfl rfl)
theorem dX8_rich_8 : decode cX8_rich 8 = .ok (.istore_n 2, 1) := dk_61 (dk_at dksX8_rich_0 8 rfl rfl)
theorem dX8_rich_9 : decode cX8_rich 9 = .ok (.iload_n 2, 1) := dk_28 (dk_at dksX8_rich_0 9 rfl rfl)
theorem dX8_rich_10 : decode cX8_rich 10 = .ok (.aload_n 0, 1) := dk_42 (dk_at dksX8_rich_0 10 rfl rfl)
theorem dX8_rich_11 : decode cX8_rich 11 = .ok (.invokevirtual 82, 3) := dk_182 0 82 (dk_at dksX8_rich_0 11 rfl rfl)
theorem dX8_rich_14 : decode cX8_rich 14 = .ok (.if_icmp .ge 28, 3) := dk_162 0 28 (dk_at dksX8_rich_0 14 rfl rfl)
theorem dX8_rich_17 : decode cX8_rich 17 = .ok (.iload_n 1, 1) := dk_27 (dk_at dksX8_rich_0 17 rfl rfl)
theorem dX8_rich_18 : decode cX8_rich 18 = .ok (.ifCond .lt 16, 3) := dk_155 0 16 (dk_at dksX8_rich_0 18 rfl rfl)
theorem dX8_rich_21 : decode cX8_rich 21 = .ok (.aload_n 0, 1) := dk_42 (dk_at dksX8_rich_0 21 rfl rfl)
theorem dX8_rich_22 : decode cX8_rich 22 = .ok (.iload_n 2, 1) := dk_28 (dk_at dksX8_rich_0 22 rfl rfl)
theorem dX8_rich_23 : decode cX8_rich 23 = .ok (.invokevirtual 444, 3) := dk_182 1 188 (dk_at dksX8_rich_1 0 rfl rfl)
theorem dX8_rich_26 : decode cX8_rich 26 = .ok (.aload_n 0, 1) := dk_42 (dk_at dksX8_rich_1 3 rfl rfl)
theorem dX8_rich_27 : decode cX8_rich 27 = .ok (.iload_n 1, 1) := dk_27 (dk_at dksX8_rich_1 4 rfl rfl)
theorem dX8_rich_28 : decode cX8_rich 28 = .ok (.invokevirtual 444, 3) := dk_182 1 188 (dk_at dksX8_rich_1 5 rfl rfl)
theorem dX8_rich_31 : decode cX8_rich 31 = .ok (.if_icmp .le 5, 3) := dk_164 0 5 (dk_at dksX8_rich_1 8 rfl rfl)
theorem dX8_rich_34 : decode cX8_rich 34 = .ok (.iload_n 2, 1) := dk_28 (dk_at dksX8_rich_1 11 rfl rfl)
theorem dX8_rich_35 : decode cX8_rich 35 = .ok (.istore_n 1, 1) := dk_60 (dk_at dksX8_rich_1 12 rfl rfl)
theorem dX8_rich_36 : decode cX8_rich 36 = .ok (.iinc 2 1, 3) := dk_132 2 1 (dk_at dksX8_rich_1 13 rfl rfl)
theorem dX8_rich_39 : decode cX8_rich 39 = .ok (.goto (-30), 3) := dk_167 255 226 (dk_at dksX8_rich_1 16 rfl rfl)
theorem dX8_rich_42 : decode cX8_rich 42 = .ok (.iload_n 1, 1) := dk_27 (dk_at dksX8_rich_1 19 rfl rfl)
theorem dX8_rich_43 : decode cX8_rich 43 = .ok (.ireturn, 1) := dk_172 (dk_at dksX8_rich_1 20 rfl rfl)
abbrev cX8_allOf : ByteArray := prog_18_method_120_code
def yX8_allOf : MethodName := ⟨RX8, "allOf", "(I)I"⟩
def dkwX8_allOf_1 : List UInt8 := [167, 255, 236, 28, 172]
abbrev dktX8_allOf_1 : List UInt8 := dkwX8_allOf_1 ++ []
def dkwX8_allOf_0 : List UInt8 := [3, 61, 3, 62, 29, 42, 182, 0, 74, 162, 0, 18, 28, 42, 27, 29, 182, 1, 134, 96, 61, 132, 3, 1]
abbrev dktX8_allOf_0 : List UInt8 := dkwX8_allOf_0 ++ dktX8_allOf_1
theorem dksX8_allOf_0 : cX8_allOf.data.toList.drop 0 = dktX8_allOf_0 := by decide +kernel
theorem dksX8_allOf_1 : cX8_allOf.data.toList.drop 24 = dktX8_allOf_1 := dk_seg dksX8_allOf_0 24 rfl rfl
theorem dX8_allOf_0 : decode cX8_allOf 0 = .ok (.iconst 0, 1) := dk_3 (dk_at dksX8_allOf_0 0 rfl rfl)
theorem dX8_allOf_1 : decode cX8_allOf 1 = .ok (.istore_n 2, 1) := dk_61 (dk_at dksX8_allOf_0 1 rfl rfl)
theorem dX8_allOf_2 : decode cX8_allOf 2 = .ok (.iconst 0, 1) := dk_3 (dk_at dksX8_allOf_0 2 rfl rfl)
theorem dX8_allOf_3 : decode cX8_allOf 3 = .ok (.istore_n 3, 1) := dk_62 (dk_at dksX8_allOf_0 3 rfl rfl)
theorem dX8_allOf_4 : decode cX8_allOf 4 = .ok (.iload_n 3, 1) := dk_29 (dk_at dksX8_allOf_0 4 rfl rfl)
theorem dX8_allOf_5 : decode cX8_allOf 5 = .ok (.aload_n 0, 1) := dk_42 (dk_at dksX8_allOf_0 5 rfl rfl)
theorem dX8_allOf_6 : decode cX8_allOf 6 = .ok (.invokevirtual 74, 3) := dk_182 0 74 (dk_at dksX8_allOf_0 6 rfl rfl)
theorem dX8_allOf_9 : decode cX8_allOf 9 = .ok (.if_icmp .ge 18, 3) := dk_162 0 18 (dk_at dksX8_allOf_0 9 rfl rfl)
theorem dX8_allOf_12 : decode cX8_allOf 12 = .ok (.iload_n 2, 1) := dk_28 (dk_at dksX8_allOf_0 12 rfl rfl)
theorem dX8_allOf_13 : decode cX8_allOf 13 = .ok (.aload_n 0, 1) := dk_42 (dk_at dksX8_allOf_0 13 rfl rfl)
theorem dX8_allOf_14 : decode cX8_allOf 14 = .ok (.iload_n 1, 1) := dk_27 (dk_at dksX8_allOf_0 14 rfl rfl)
theorem dX8_allOf_15 : decode cX8_allOf 15 = .ok (.iload_n 3, 1) := dk_29 (dk_at dksX8_allOf_0 15 rfl rfl)
theorem dX8_allOf_16 : decode cX8_allOf 16 = .ok (.invokevirtual 390, 3) := dk_182 1 134 (dk_at dksX8_allOf_0 16 rfl rfl)
theorem dX8_allOf_19 : decode cX8_allOf 19 = .ok (.iadd, 1) := dk_96 (dk_at dksX8_allOf_0 19 rfl rfl)
theorem dX8_allOf_20 : decode cX8_allOf 20 = .ok (.istore_n 2, 1) := dk_61 (dk_at dksX8_allOf_0 20 rfl rfl)
theorem dX8_allOf_21 : decode cX8_allOf 21 = .ok (.iinc 3 1, 3) := dk_132 3 1 (dk_at dksX8_allOf_0 21 rfl rfl)
theorem dX8_allOf_24 : decode cX8_allOf 24 = .ok (.goto (-20), 3) := dk_167 255 236 (dk_at dksX8_allOf_1 0 rfl rfl)
theorem dX8_allOf_27 : decode cX8_allOf 27 = .ok (.iload_n 2, 1) := dk_28 (dk_at dksX8_allOf_1 3 rfl rfl)
theorem dX8_allOf_28 : decode cX8_allOf 28 = .ok (.ireturn, 1) := dk_172 (dk_at dksX8_allOf_1 4 rfl rfl)
abbrev cX8_won : ByteArray := prog_18_method_122_code
def yX8_won : MethodName := ⟨RX8, "won", "(IZ)I"⟩
def dkwX8_won_4 : List UInt8 := [4, 167, 0, 4, 5, 160, 0, 7, 4, 167, 0, 4, 3, 96, 62, 132, 4, 1, 167, 255, 169, 29, 172]
abbrev dktX8_won_4 : List UInt8 := dkwX8_won_4 ++ []
def dkwX8_won_3 : List UInt8 := [167, 0, 4, 3, 96, 62, 42, 21, 4, 4, 182, 1, 131, 27, 160, 0, 25, 29, 21, 5, 28, 153, 0, 7]
abbrev dktX8_won_3 : List UInt8 := dkwX8_won_3 ++ dktX8_won_4
def dkwX8_won_2 : List UInt8 := [182, 1, 131, 27, 160, 0, 25, 29, 21, 5, 28, 153, 0, 7, 5, 167, 0, 4, 4, 160, 0, 7, 4]
abbrev dktX8_won_2 : List UInt8 := dkwX8_won_2 ++ dktX8_won_3
def dkwX8_won_1 : List UInt8 := [54, 4, 21, 4, 42, 182, 0, 85, 162, 0, 84, 42, 21, 4, 6, 182, 1, 131, 54, 5, 42, 21, 4, 3]
abbrev dktX8_won_1 : List UInt8 := dkwX8_won_1 ++ dktX8_won_2
def dkwX8_won_0 : List UInt8 := [42, 3, 181, 0, 3, 42, 42, 27, 182, 1, 137, 4, 182, 1, 9, 153, 0, 5, 3, 172, 3, 62, 3]
abbrev dktX8_won_0 : List UInt8 := dkwX8_won_0 ++ dktX8_won_1
theorem dksX8_won_0 : cX8_won.data.toList.drop 0 = dktX8_won_0 := by decide +kernel
theorem dksX8_won_1 : cX8_won.data.toList.drop 23 = dktX8_won_1 := dk_seg dksX8_won_0 23 rfl rfl
theorem dksX8_won_2 : cX8_won.data.toList.drop 47 = dktX8_won_2 := dk_seg dksX8_won_1 24 rfl rfl
theorem dksX8_won_3 : cX8_won.data.toList.drop 70 = dktX8_won_3 := dk_seg dksX8_won_2 23 rfl rfl
theorem dksX8_won_4 : cX8_won.data.toList.drop 94 = dktX8_won_4 := dk_seg dksX8_won_3 24 rfl rfl
theorem dX8_won_0 : decode cX8_won 0 = .ok (.aload_n 0, 1) := dk_42 (dk_at dksX8_won_0 0 rfl rfl)
theorem dX8_won_1 : decode cX8_won 1 = .ok (.iconst 0, 1) := dk_3 (dk_at dksX8_won_0 1 rfl rfl)
theorem dX8_won_2 : decode cX8_won 2 = .ok (.putfield 3, 3) := dk_181 0 3 (dk_at dksX8_won_0 2 rfl rfl)
theorem dX8_won_5 : decode cX8_won 5 = .ok (.aload_n 0, 1) := dk_42 (dk_at dksX8_won_0 5 rfl rfl)
theorem dX8_won_6 : decode cX8_won 6 = .ok (.aload_n 0, 1) := dk_42 (dk_at dksX8_won_0 6 rfl rfl)
theorem dX8_won_7 : decode cX8_won 7 = .ok (.iload_n 1, 1) := dk_27 (dk_at dksX8_won_0 7 rfl rfl)
theorem dX8_won_8 : decode cX8_won 8 = .ok (.invokevirtual 393, 3) := dk_182 1 137 (dk_at dksX8_won_0 8 rfl rfl)
theorem dX8_won_11 : decode cX8_won 11 = .ok (.iconst 1, 1) := dk_4 (dk_at dksX8_won_0 11 rfl rfl)
theorem dX8_won_12 : decode cX8_won 12 = .ok (.invokevirtual 265, 3) := dk_182 1 9 (dk_at dksX8_won_0 12 rfl rfl)
theorem dX8_won_15 : decode cX8_won 15 = .ok (.ifCond .eq 5, 3) := dk_153 0 5 (dk_at dksX8_won_0 15 rfl rfl)
theorem dX8_won_18 : decode cX8_won 18 = .ok (.iconst 0, 1) := dk_3 (dk_at dksX8_won_0 18 rfl rfl)
theorem dX8_won_19 : decode cX8_won 19 = .ok (.ireturn, 1) := dk_172 (dk_at dksX8_won_0 19 rfl rfl)
theorem dX8_won_20 : decode cX8_won 20 = .ok (.iconst 0, 1) := dk_3 (dk_at dksX8_won_0 20 rfl rfl)
theorem dX8_won_21 : decode cX8_won 21 = .ok (.istore_n 3, 1) := dk_62 (dk_at dksX8_won_0 21 rfl rfl)
theorem dX8_won_22 : decode cX8_won 22 = .ok (.iconst 0, 1) := dk_3 (dk_at dksX8_won_0 22 rfl rfl)
theorem dX8_won_23 : decode cX8_won 23 = .ok (.istore 4, 2) := dk_54 4 (dk_at dksX8_won_1 0 rfl rfl)
theorem dX8_won_25 : decode cX8_won 25 = .ok (.iload 4, 2) := dk_21 4 (dk_at dksX8_won_1 2 rfl rfl)
theorem dX8_won_27 : decode cX8_won 27 = .ok (.aload_n 0, 1) := dk_42 (dk_at dksX8_won_1 4 rfl rfl)
theorem dX8_won_28 : decode cX8_won 28 = .ok (.invokevirtual 85, 3) := dk_182 0 85 (dk_at dksX8_won_1 5 rfl rfl)
theorem dX8_won_31 : decode cX8_won 31 = .ok (.if_icmp .ge 84, 3) := dk_162 0 84 (dk_at dksX8_won_1 8 rfl rfl)
theorem dX8_won_34 : decode cX8_won 34 = .ok (.aload_n 0, 1) := dk_42 (dk_at dksX8_won_1 11 rfl rfl)
theorem dX8_won_35 : decode cX8_won 35 = .ok (.iload 4, 2) := dk_21 4 (dk_at dksX8_won_1 12 rfl rfl)
theorem dX8_won_37 : decode cX8_won 37 = .ok (.iconst 3, 1) := dk_6 (dk_at dksX8_won_1 14 rfl rfl)
theorem dX8_won_38 : decode cX8_won 38 = .ok (.invokevirtual 387, 3) := dk_182 1 131 (dk_at dksX8_won_1 15 rfl rfl)
theorem dX8_won_41 : decode cX8_won 41 = .ok (.istore 5, 2) := dk_54 5 (dk_at dksX8_won_1 18 rfl rfl)
theorem dX8_won_43 : decode cX8_won 43 = .ok (.aload_n 0, 1) := dk_42 (dk_at dksX8_won_1 20 rfl rfl)
theorem dX8_won_44 : decode cX8_won 44 = .ok (.iload 4, 2) := dk_21 4 (dk_at dksX8_won_1 21 rfl rfl)
theorem dX8_won_46 : decode cX8_won 46 = .ok (.iconst 0, 1) := dk_3 (dk_at dksX8_won_1 23 rfl rfl)
theorem dX8_won_47 : decode cX8_won 47 = .ok (.invokevirtual 387, 3) := dk_182 1 131 (dk_at dksX8_won_2 0 rfl rfl)
theorem dX8_won_50 : decode cX8_won 50 = .ok (.iload_n 1, 1) := dk_27 (dk_at dksX8_won_2 3 rfl rfl)
theorem dX8_won_51 : decode cX8_won 51 = .ok (.if_icmp .ne 25, 3) := dk_160 0 25 (dk_at dksX8_won_2 4 rfl rfl)
theorem dX8_won_54 : decode cX8_won 54 = .ok (.iload_n 3, 1) := dk_29 (dk_at dksX8_won_2 7 rfl rfl)
theorem dX8_won_55 : decode cX8_won 55 = .ok (.iload 5, 2) := dk_21 5 (dk_at dksX8_won_2 8 rfl rfl)
theorem dX8_won_57 : decode cX8_won 57 = .ok (.iload_n 2, 1) := dk_28 (dk_at dksX8_won_2 10 rfl rfl)
theorem dX8_won_58 : decode cX8_won 58 = .ok (.ifCond .eq 7, 3) := dk_153 0 7 (dk_at dksX8_won_2 11 rfl rfl)
theorem dX8_won_61 : decode cX8_won 61 = .ok (.iconst 2, 1) := dk_5 (dk_at dksX8_won_2 14 rfl rfl)
theorem dX8_won_62 : decode cX8_won 62 = .ok (.goto 4, 3) := dk_167 0 4 (dk_at dksX8_won_2 15 rfl rfl)
theorem dX8_won_65 : decode cX8_won 65 = .ok (.iconst 1, 1) := dk_4 (dk_at dksX8_won_2 18 rfl rfl)
theorem dX8_won_66 : decode cX8_won 66 = .ok (.if_icmp .ne 7, 3) := dk_160 0 7 (dk_at dksX8_won_2 19 rfl rfl)
theorem dX8_won_69 : decode cX8_won 69 = .ok (.iconst 1, 1) := dk_4 (dk_at dksX8_won_2 22 rfl rfl)
theorem dX8_won_70 : decode cX8_won 70 = .ok (.goto 4, 3) := dk_167 0 4 (dk_at dksX8_won_3 0 rfl rfl)
theorem dX8_won_73 : decode cX8_won 73 = .ok (.iconst 0, 1) := dk_3 (dk_at dksX8_won_3 3 rfl rfl)
theorem dX8_won_74 : decode cX8_won 74 = .ok (.iadd, 1) := dk_96 (dk_at dksX8_won_3 4 rfl rfl)
theorem dX8_won_75 : decode cX8_won 75 = .ok (.istore_n 3, 1) := dk_62 (dk_at dksX8_won_3 5 rfl rfl)
theorem dX8_won_76 : decode cX8_won 76 = .ok (.aload_n 0, 1) := dk_42 (dk_at dksX8_won_3 6 rfl rfl)
theorem dX8_won_77 : decode cX8_won 77 = .ok (.iload 4, 2) := dk_21 4 (dk_at dksX8_won_3 7 rfl rfl)
theorem dX8_won_79 : decode cX8_won 79 = .ok (.iconst 1, 1) := dk_4 (dk_at dksX8_won_3 9 rfl rfl)
theorem dX8_won_80 : decode cX8_won 80 = .ok (.invokevirtual 387, 3) := dk_182 1 131 (dk_at dksX8_won_3 10 rfl rfl)
theorem dX8_won_83 : decode cX8_won 83 = .ok (.iload_n 1, 1) := dk_27 (dk_at dksX8_won_3 13 rfl rfl)
theorem dX8_won_84 : decode cX8_won 84 = .ok (.if_icmp .ne 25, 3) := dk_160 0 25 (dk_at dksX8_won_3 14 rfl rfl)
theorem dX8_won_87 : decode cX8_won 87 = .ok (.iload_n 3, 1) := dk_29 (dk_at dksX8_won_3 17 rfl rfl)
theorem dX8_won_88 : decode cX8_won 88 = .ok (.iload 5, 2) := dk_21 5 (dk_at dksX8_won_3 18 rfl rfl)
theorem dX8_won_90 : decode cX8_won 90 = .ok (.iload_n 2, 1) := dk_28 (dk_at dksX8_won_3 20 rfl rfl)
theorem dX8_won_91 : decode cX8_won 91 = .ok (.ifCond .eq 7, 3) := dk_153 0 7 (dk_at dksX8_won_3 21 rfl rfl)
theorem dX8_won_94 : decode cX8_won 94 = .ok (.iconst 1, 1) := dk_4 (dk_at dksX8_won_4 0 rfl rfl)
theorem dX8_won_95 : decode cX8_won 95 = .ok (.goto 4, 3) := dk_167 0 4 (dk_at dksX8_won_4 1 rfl rfl)
theorem dX8_won_98 : decode cX8_won 98 = .ok (.iconst 2, 1) := dk_5 (dk_at dksX8_won_4 4 rfl rfl)
theorem dX8_won_99 : decode cX8_won 99 = .ok (.if_icmp .ne 7, 3) := dk_160 0 7 (dk_at dksX8_won_4 5 rfl rfl)
theorem dX8_won_102 : decode cX8_won 102 = .ok (.iconst 1, 1) := dk_4 (dk_at dksX8_won_4 8 rfl rfl)
theorem dX8_won_103 : decode cX8_won 103 = .ok (.goto 4, 3) := dk_167 0 4 (dk_at dksX8_won_4 9 rfl rfl)
theorem dX8_won_106 : decode cX8_won 106 = .ok (.iconst 0, 1) := dk_3 (dk_at dksX8_won_4 12 rfl rfl)
theorem dX8_won_107 : decode cX8_won 107 = .ok (.iadd, 1) := dk_96 (dk_at dksX8_won_4 13 rfl rfl)
theorem dX8_won_108 : decode cX8_won 108 = .ok (.istore_n 3, 1) := dk_62 (dk_at dksX8_won_4 14 rfl rfl)
theorem dX8_won_109 : decode cX8_won 109 = .ok (.iinc 4 1, 3) := dk_132 4 1 (dk_at dksX8_won_4 15 rfl rfl)
theorem dX8_won_112 : decode cX8_won 112 = .ok (.goto (-87), 3) := dk_167 255 169 (dk_at dksX8_won_4 18 rfl rfl)
theorem dX8_won_115 : decode cX8_won 115 = .ok (.iload_n 3, 1) := dk_29 (dk_at dksX8_won_4 21 rfl rfl)
theorem dX8_won_116 : decode cX8_won 116 = .ok (.ireturn, 1) := dk_172 (dk_at dksX8_won_4 22 rfl rfl)
abbrev cX8_cover : ByteArray := prog_18_method_124_code
def yX8_cover : MethodName := ⟨RX8, "cover", "()I"⟩
def dkwX8_cover_2 : List UInt8 := [167, 255, 218, 27, 172]
abbrev dktX8_cover_2 : List UInt8 := dkwX8_cover_2 ++ []
def dkwX8_cover_1 : List UInt8 := [153, 0, 20, 27, 155, 0, 14, 28, 184, 1, 194, 27, 184, 1, 194, 162, 0, 5, 28, 60, 132, 2, 1]
abbrev dktX8_cover_1 : List UInt8 := dkwX8_cover_1 ++ dktX8_cover_2
def dkwX8_cover_0 : List UInt8 := [42, 3, 181, 0, 3, 2, 60, 3, 61, 28, 4, 42, 182, 0, 74, 120, 162, 0, 34, 42, 28, 182, 1, 191]
abbrev dktX8_cover_0 : List UInt8 := dkwX8_cover_0 ++ dktX8_cover_1
theorem dksX8_cover_0 : cX8_cover.data.toList.drop 0 = dktX8_cover_0 := by decide +kernel
theorem dksX8_cover_1 : cX8_cover.data.toList.drop 24 = dktX8_cover_1 := dk_seg dksX8_cover_0 24 rfl rfl
theorem dksX8_cover_2 : cX8_cover.data.toList.drop 47 = dktX8_cover_2 := dk_seg dksX8_cover_1 23 rfl rfl
theorem dX8_cover_0 : decode cX8_cover 0 = .ok (.aload_n 0, 1) := dk_42 (dk_at dksX8_cover_0 0 rfl rfl)
theorem dX8_cover_1 : decode cX8_cover 1 = .ok (.iconst 0, 1) := dk_3 (dk_at dksX8_cover_0 1 rfl rfl)
theorem dX8_cover_2 : decode cX8_cover 2 = .ok (.putfield 3, 3) := dk_181 0 3 (dk_at dksX8_cover_0 2 rfl rfl)
theorem dX8_cover_5 : decode cX8_cover 5 = .ok (.iconst (-1), 1) := dk_2 (dk_at dksX8_cover_0 5 rfl rfl)
theorem dX8_cover_6 : decode cX8_cover 6 = .ok (.istore_n 1, 1) := dk_60 (dk_at dksX8_cover_0 6 rfl rfl)
theorem dX8_cover_7 : decode cX8_cover 7 = .ok (.iconst 0, 1) := dk_3 (dk_at dksX8_cover_0 7 rfl rfl)
theorem dX8_cover_8 : decode cX8_cover 8 = .ok (.istore_n 2, 1) := dk_61 (dk_at dksX8_cover_0 8 rfl rfl)
theorem dX8_cover_9 : decode cX8_cover 9 = .ok (.iload_n 2, 1) := dk_28 (dk_at dksX8_cover_0 9 rfl rfl)
theorem dX8_cover_10 : decode cX8_cover 10 = .ok (.iconst 1, 1) := dk_4 (dk_at dksX8_cover_0 10 rfl rfl)
theorem dX8_cover_11 : decode cX8_cover 11 = .ok (.aload_n 0, 1) := dk_42 (dk_at dksX8_cover_0 11 rfl rfl)
theorem dX8_cover_12 : decode cX8_cover 12 = .ok (.invokevirtual 74, 3) := dk_182 0 74 (dk_at dksX8_cover_0 12 rfl rfl)
theorem dX8_cover_15 : decode cX8_cover 15 = .ok (.ishl, 1) := dk_120 (dk_at dksX8_cover_0 15 rfl rfl)
theorem dX8_cover_16 : decode cX8_cover 16 = .ok (.if_icmp .ge 34, 3) := dk_162 0 34 (dk_at dksX8_cover_0 16 rfl rfl)
theorem dX8_cover_19 : decode cX8_cover 19 = .ok (.aload_n 0, 1) := dk_42 (dk_at dksX8_cover_0 19 rfl rfl)
theorem dX8_cover_20 : decode cX8_cover 20 = .ok (.iload_n 2, 1) := dk_28 (dk_at dksX8_cover_0 20 rfl rfl)
theorem dX8_cover_21 : decode cX8_cover 21 = .ok (.invokevirtual 447, 3) := dk_182 1 191 (dk_at dksX8_cover_0 21 rfl rfl)
theorem dX8_cover_24 : decode cX8_cover 24 = .ok (.ifCond .eq 20, 3) := dk_153 0 20 (dk_at dksX8_cover_1 0 rfl rfl)
theorem dX8_cover_27 : decode cX8_cover 27 = .ok (.iload_n 1, 1) := dk_27 (dk_at dksX8_cover_1 3 rfl rfl)
theorem dX8_cover_28 : decode cX8_cover 28 = .ok (.ifCond .lt 14, 3) := dk_155 0 14 (dk_at dksX8_cover_1 4 rfl rfl)
theorem dX8_cover_31 : decode cX8_cover 31 = .ok (.iload_n 2, 1) := dk_28 (dk_at dksX8_cover_1 7 rfl rfl)
theorem dX8_cover_32 : decode cX8_cover 32 = .ok (.invokestatic 450, 3) := dk_184 1 194 (dk_at dksX8_cover_1 8 rfl rfl)
theorem dX8_cover_35 : decode cX8_cover 35 = .ok (.iload_n 1, 1) := dk_27 (dk_at dksX8_cover_1 11 rfl rfl)
theorem dX8_cover_36 : decode cX8_cover 36 = .ok (.invokestatic 450, 3) := dk_184 1 194 (dk_at dksX8_cover_1 12 rfl rfl)
theorem dX8_cover_39 : decode cX8_cover 39 = .ok (.if_icmp .ge 5, 3) := dk_162 0 5 (dk_at dksX8_cover_1 15 rfl rfl)
theorem dX8_cover_42 : decode cX8_cover 42 = .ok (.iload_n 2, 1) := dk_28 (dk_at dksX8_cover_1 18 rfl rfl)
theorem dX8_cover_43 : decode cX8_cover 43 = .ok (.istore_n 1, 1) := dk_60 (dk_at dksX8_cover_1 19 rfl rfl)
theorem dX8_cover_44 : decode cX8_cover 44 = .ok (.iinc 2 1, 3) := dk_132 2 1 (dk_at dksX8_cover_1 20 rfl rfl)
theorem dX8_cover_47 : decode cX8_cover 47 = .ok (.goto (-38), 3) := dk_167 255 218 (dk_at dksX8_cover_2 0 rfl rfl)
theorem dX8_cover_50 : decode cX8_cover 50 = .ok (.iload_n 1, 1) := dk_27 (dk_at dksX8_cover_2 3 rfl rfl)
theorem dX8_cover_51 : decode cX8_cover 51 = .ok (.ireturn, 1) := dk_172 (dk_at dksX8_cover_2 4 rfl rfl)
abbrev cX8_covers : ByteArray := prog_18_method_123_code
def yX8_covers : MethodName := ⟨RX8, "covers", "(I)Z"⟩
def dkwX8_covers_1 : List UInt8 := [27, 126, 154, 0, 5, 3, 172, 132, 2, 1, 167, 255, 224, 4, 172]
abbrev dktX8_covers_1 : List UInt8 := dkwX8_covers_1 ++ []
def dkwX8_covers_0 : List UInt8 := [3, 61, 28, 42, 182, 0, 85, 162, 0, 30, 42, 28, 182, 1, 151, 153, 0, 16, 42, 28, 5, 182, 1, 131]
abbrev dktX8_covers_0 : List UInt8 := dkwX8_covers_0 ++ dktX8_covers_1
theorem dksX8_covers_0 : cX8_covers.data.toList.drop 0 = dktX8_covers_0 := by decide +kernel
theorem dksX8_covers_1 : cX8_covers.data.toList.drop 24 = dktX8_covers_1 := dk_seg dksX8_covers_0 24 rfl rfl
theorem dX8_covers_0 : decode cX8_covers 0 = .ok (.iconst 0, 1) := dk_3 (dk_at dksX8_covers_0 0 rfl rfl)
theorem dX8_covers_1 : decode cX8_covers 1 = .ok (.istore_n 2, 1) := dk_61 (dk_at dksX8_covers_0 1 rfl rfl)
theorem dX8_covers_2 : decode cX8_covers 2 = .ok (.iload_n 2, 1) := dk_28 (dk_at dksX8_covers_0 2 rfl rfl)
theorem dX8_covers_3 : decode cX8_covers 3 = .ok (.aload_n 0, 1) := dk_42 (dk_at dksX8_covers_0 3 rfl rfl)
theorem dX8_covers_4 : decode cX8_covers 4 = .ok (.invokevirtual 85, 3) := dk_182 0 85 (dk_at dksX8_covers_0 4 rfl rfl)
theorem dX8_covers_7 : decode cX8_covers 7 = .ok (.if_icmp .ge 30, 3) := dk_162 0 30 (dk_at dksX8_covers_0 7 rfl rfl)
theorem dX8_covers_10 : decode cX8_covers 10 = .ok (.aload_n 0, 1) := dk_42 (dk_at dksX8_covers_0 10 rfl rfl)
theorem dX8_covers_11 : decode cX8_covers 11 = .ok (.iload_n 2, 1) := dk_28 (dk_at dksX8_covers_0 11 rfl rfl)
theorem dX8_covers_12 : decode cX8_covers 12 = .ok (.invokevirtual 407, 3) := dk_182 1 151 (dk_at dksX8_covers_0 12 rfl rfl)
theorem dX8_covers_15 : decode cX8_covers 15 = .ok (.ifCond .eq 16, 3) := dk_153 0 16 (dk_at dksX8_covers_0 15 rfl rfl)
theorem dX8_covers_18 : decode cX8_covers 18 = .ok (.aload_n 0, 1) := dk_42 (dk_at dksX8_covers_0 18 rfl rfl)
theorem dX8_covers_19 : decode cX8_covers 19 = .ok (.iload_n 2, 1) := dk_28 (dk_at dksX8_covers_0 19 rfl rfl)
theorem dX8_covers_20 : decode cX8_covers 20 = .ok (.iconst 2, 1) := dk_5 (dk_at dksX8_covers_0 20 rfl rfl)
theorem dX8_covers_21 : decode cX8_covers 21 = .ok (.invokevirtual 387, 3) := dk_182 1 131 (dk_at dksX8_covers_0 21 rfl rfl)
theorem dX8_covers_24 : decode cX8_covers 24 = .ok (.iload_n 1, 1) := dk_27 (dk_at dksX8_covers_1 0 rfl rfl)
theorem dX8_covers_25 : decode cX8_covers 25 = .ok (.iand, 1) := dk_126 (dk_at dksX8_covers_1 1 rfl rfl)
theorem dX8_covers_26 : decode cX8_covers 26 = .ok (.ifCond .ne 5, 3) := dk_154 0 5 (dk_at dksX8_covers_1 2 rfl rfl)
theorem dX8_covers_29 : decode cX8_covers 29 = .ok (.iconst 0, 1) := dk_3 (dk_at dksX8_covers_1 5 rfl rfl)
theorem dX8_covers_30 : decode cX8_covers 30 = .ok (.ireturn, 1) := dk_172 (dk_at dksX8_covers_1 6 rfl rfl)
theorem dX8_covers_31 : decode cX8_covers 31 = .ok (.iinc 2 1, 3) := dk_132 2 1 (dk_at dksX8_covers_1 7 rfl rfl)
theorem dX8_covers_34 : decode cX8_covers 34 = .ok (.goto (-32), 3) := dk_167 255 224 (dk_at dksX8_covers_1 10 rfl rfl)
theorem dX8_covers_37 : decode cX8_covers 37 = .ok (.iconst 1, 1) := dk_4 (dk_at dksX8_covers_1 13 rfl rfl)
theorem dX8_covers_38 : decode cX8_covers 38 = .ok (.ireturn, 1) := dk_172 (dk_at dksX8_covers_1 14 rfl rfl)
abbrev cX8_trial : ByteArray := prog_18_method_126_code
def yX8_trial : MethodName := ⟨RX8, "trial", "(III)I"⟩
def dkwX8_trial_3 : List UInt8 := [28, 29, 182, 1, 199, 54, 5, 42, 180, 0, 13, 16, 12, 21, 4, 79, 21, 5, 172]
abbrev dktX8_trial_3 : List UInt8 := dkwX8_trial_3 ++ []
def dkwX8_trial_2 : List UInt8 := [167, 0, 4, 3, 5, 182, 1, 9, 153, 0, 5, 3, 172, 42, 180, 0, 13, 16, 12, 46, 54, 4, 42, 27]
abbrev dktX8_trial_2 : List UInt8 := dkwX8_trial_2 ++ dktX8_trial_3
def dkwX8_trial_1 : List UInt8 := [167, 0, 4, 3, 4, 182, 1, 9, 154, 0, 26, 42, 29, 3, 16, 40, 184, 0, 78, 154, 0, 7, 4]
abbrev dktX8_trial_1 : List UInt8 := dkwX8_trial_1 ++ dktX8_trial_2
def dkwX8_trial_0 : List UInt8 := [42, 3, 181, 0, 3, 42, 42, 27, 182, 1, 47, 154, 0, 11, 42, 28, 182, 1, 47, 153, 0, 7, 4]
abbrev dktX8_trial_0 : List UInt8 := dkwX8_trial_0 ++ dktX8_trial_1
theorem dksX8_trial_0 : cX8_trial.data.toList.drop 0 = dktX8_trial_0 := by decide +kernel
theorem dksX8_trial_1 : cX8_trial.data.toList.drop 23 = dktX8_trial_1 := dk_seg dksX8_trial_0 23 rfl rfl
theorem dksX8_trial_2 : cX8_trial.data.toList.drop 46 = dktX8_trial_2 := dk_seg dksX8_trial_1 23 rfl rfl
theorem dksX8_trial_3 : cX8_trial.data.toList.drop 70 = dktX8_trial_3 := dk_seg dksX8_trial_2 24 rfl rfl
theorem dX8_trial_0 : decode cX8_trial 0 = .ok (.aload_n 0, 1) := dk_42 (dk_at dksX8_trial_0 0 rfl rfl)
theorem dX8_trial_1 : decode cX8_trial 1 = .ok (.iconst 0, 1) := dk_3 (dk_at dksX8_trial_0 1 rfl rfl)
theorem dX8_trial_2 : decode cX8_trial 2 = .ok (.putfield 3, 3) := dk_181 0 3 (dk_at dksX8_trial_0 2 rfl rfl)
theorem dX8_trial_5 : decode cX8_trial 5 = .ok (.aload_n 0, 1) := dk_42 (dk_at dksX8_trial_0 5 rfl rfl)
theorem dX8_trial_6 : decode cX8_trial 6 = .ok (.aload_n 0, 1) := dk_42 (dk_at dksX8_trial_0 6 rfl rfl)
theorem dX8_trial_7 : decode cX8_trial 7 = .ok (.iload_n 1, 1) := dk_27 (dk_at dksX8_trial_0 7 rfl rfl)
theorem dX8_trial_8 : decode cX8_trial 8 = .ok (.invokevirtual 303, 3) := dk_182 1 47 (dk_at dksX8_trial_0 8 rfl rfl)
theorem dX8_trial_11 : decode cX8_trial 11 = .ok (.ifCond .ne 11, 3) := dk_154 0 11 (dk_at dksX8_trial_0 11 rfl rfl)
theorem dX8_trial_14 : decode cX8_trial 14 = .ok (.aload_n 0, 1) := dk_42 (dk_at dksX8_trial_0 14 rfl rfl)
theorem dX8_trial_15 : decode cX8_trial 15 = .ok (.iload_n 2, 1) := dk_28 (dk_at dksX8_trial_0 15 rfl rfl)
theorem dX8_trial_16 : decode cX8_trial 16 = .ok (.invokevirtual 303, 3) := dk_182 1 47 (dk_at dksX8_trial_0 16 rfl rfl)
theorem dX8_trial_19 : decode cX8_trial 19 = .ok (.ifCond .eq 7, 3) := dk_153 0 7 (dk_at dksX8_trial_0 19 rfl rfl)
theorem dX8_trial_22 : decode cX8_trial 22 = .ok (.iconst 1, 1) := dk_4 (dk_at dksX8_trial_0 22 rfl rfl)
theorem dX8_trial_23 : decode cX8_trial 23 = .ok (.goto 4, 3) := dk_167 0 4 (dk_at dksX8_trial_1 0 rfl rfl)
theorem dX8_trial_26 : decode cX8_trial 26 = .ok (.iconst 0, 1) := dk_3 (dk_at dksX8_trial_1 3 rfl rfl)
theorem dX8_trial_27 : decode cX8_trial 27 = .ok (.iconst 1, 1) := dk_4 (dk_at dksX8_trial_1 4 rfl rfl)
theorem dX8_trial_28 : decode cX8_trial 28 = .ok (.invokevirtual 265, 3) := dk_182 1 9 (dk_at dksX8_trial_1 5 rfl rfl)
theorem dX8_trial_31 : decode cX8_trial 31 = .ok (.ifCond .ne 26, 3) := dk_154 0 26 (dk_at dksX8_trial_1 8 rfl rfl)
theorem dX8_trial_34 : decode cX8_trial 34 = .ok (.aload_n 0, 1) := dk_42 (dk_at dksX8_trial_1 11 rfl rfl)
theorem dX8_trial_35 : decode cX8_trial 35 = .ok (.iload_n 3, 1) := dk_29 (dk_at dksX8_trial_1 12 rfl rfl)
theorem dX8_trial_36 : decode cX8_trial 36 = .ok (.iconst 0, 1) := dk_3 (dk_at dksX8_trial_1 13 rfl rfl)
theorem dX8_trial_37 : decode cX8_trial 37 = .ok (.bipush 40, 2) := dk_16 40 (dk_at dksX8_trial_1 14 rfl rfl)
theorem dX8_trial_39 : decode cX8_trial 39 = .ok (.invokestatic 78, 3) := dk_184 0 78 (dk_at dksX8_trial_1 16 rfl rfl)
theorem dX8_trial_42 : decode cX8_trial 42 = .ok (.ifCond .ne 7, 3) := dk_154 0 7 (dk_at dksX8_trial_1 19 rfl rfl)
theorem dX8_trial_45 : decode cX8_trial 45 = .ok (.iconst 1, 1) := dk_4 (dk_at dksX8_trial_1 22 rfl rfl)
theorem dX8_trial_46 : decode cX8_trial 46 = .ok (.goto 4, 3) := dk_167 0 4 (dk_at dksX8_trial_2 0 rfl rfl)
theorem dX8_trial_49 : decode cX8_trial 49 = .ok (.iconst 0, 1) := dk_3 (dk_at dksX8_trial_2 3 rfl rfl)
theorem dX8_trial_50 : decode cX8_trial 50 = .ok (.iconst 2, 1) := dk_5 (dk_at dksX8_trial_2 4 rfl rfl)
theorem dX8_trial_51 : decode cX8_trial 51 = .ok (.invokevirtual 265, 3) := dk_182 1 9 (dk_at dksX8_trial_2 5 rfl rfl)
theorem dX8_trial_54 : decode cX8_trial 54 = .ok (.ifCond .eq 5, 3) := dk_153 0 5 (dk_at dksX8_trial_2 8 rfl rfl)
theorem dX8_trial_57 : decode cX8_trial 57 = .ok (.iconst 0, 1) := dk_3 (dk_at dksX8_trial_2 11 rfl rfl)
theorem dX8_trial_58 : decode cX8_trial 58 = .ok (.ireturn, 1) := dk_172 (dk_at dksX8_trial_2 12 rfl rfl)
theorem dX8_trial_59 : decode cX8_trial 59 = .ok (.aload_n 0, 1) := dk_42 (dk_at dksX8_trial_2 13 rfl rfl)
theorem dX8_trial_60 : decode cX8_trial 60 = .ok (.getfield 13, 3) := dk_180 0 13 (dk_at dksX8_trial_2 14 rfl rfl)
theorem dX8_trial_63 : decode cX8_trial 63 = .ok (.bipush 12, 2) := dk_16 12 (dk_at dksX8_trial_2 17 rfl rfl)
theorem dX8_trial_65 : decode cX8_trial 65 = .ok (.iaload, 1) := dk_46 (dk_at dksX8_trial_2 19 rfl rfl)
theorem dX8_trial_66 : decode cX8_trial 66 = .ok (.istore 4, 2) := dk_54 4 (dk_at dksX8_trial_2 20 rfl rfl)
theorem dX8_trial_68 : decode cX8_trial 68 = .ok (.aload_n 0, 1) := dk_42 (dk_at dksX8_trial_2 22 rfl rfl)
theorem dX8_trial_69 : decode cX8_trial 69 = .ok (.iload_n 1, 1) := dk_27 (dk_at dksX8_trial_2 23 rfl rfl)
theorem dX8_trial_70 : decode cX8_trial 70 = .ok (.iload_n 2, 1) := dk_28 (dk_at dksX8_trial_3 0 rfl rfl)
theorem dX8_trial_71 : decode cX8_trial 71 = .ok (.iload_n 3, 1) := dk_29 (dk_at dksX8_trial_3 1 rfl rfl)
theorem dX8_trial_72 : decode cX8_trial 72 = .ok (.invokevirtual 455, 3) := dk_182 1 199 (dk_at dksX8_trial_3 2 rfl rfl)
theorem dX8_trial_75 : decode cX8_trial 75 = .ok (.istore 5, 2) := dk_54 5 (dk_at dksX8_trial_3 5 rfl rfl)
theorem dX8_trial_77 : decode cX8_trial 77 = .ok (.aload_n 0, 1) := dk_42 (dk_at dksX8_trial_3 7 rfl rfl)
theorem dX8_trial_78 : decode cX8_trial 78 = .ok (.getfield 13, 3) := dk_180 0 13 (dk_at dksX8_trial_3 8 rfl rfl)
theorem dX8_trial_81 : decode cX8_trial 81 = .ok (.bipush 12, 2) := dk_16 12 (dk_at dksX8_trial_3 11 rfl rfl)
theorem dX8_trial_83 : decode cX8_trial 83 = .ok (.iload 4, 2) := dk_21 4 (dk_at dksX8_trial_3 13 rfl rfl)
theorem dX8_trial_85 : decode cX8_trial 85 = .ok (.iastore, 1) := dk_79 (dk_at dksX8_trial_3 15 rfl rfl)
theorem dX8_trial_86 : decode cX8_trial 86 = .ok (.iload 5, 2) := dk_21 5 (dk_at dksX8_trial_3 16 rfl rfl)
theorem dX8_trial_88 : decode cX8_trial 88 = .ok (.ireturn, 1) := dk_172 (dk_at dksX8_trial_3 18 rfl rfl)
abbrev cX8_tries : ByteArray := prog_18_method_125_code
def yX8_tries : MethodName := ⟨RX8, "tries", "(III)I"⟩
def dkwX8_tries_1 : List UInt8 := [4, 167, 0, 4, 3, 96, 54, 4, 132, 5, 1, 167, 255, 227, 21, 4, 172]
abbrev dktX8_tries_1 : List UInt8 := dkwX8_tries_1 ++ []
def dkwX8_tries_0 : List UInt8 := [3, 54, 4, 3, 54, 5, 21, 5, 29, 162, 0, 29, 21, 4, 42, 27, 28, 182, 1, 170, 4, 160, 0, 7]
abbrev dktX8_tries_0 : List UInt8 := dkwX8_tries_0 ++ dktX8_tries_1
theorem dksX8_tries_0 : cX8_tries.data.toList.drop 0 = dktX8_tries_0 := by decide +kernel
theorem dksX8_tries_1 : cX8_tries.data.toList.drop 24 = dktX8_tries_1 := dk_seg dksX8_tries_0 24 rfl rfl
theorem dX8_tries_0 : decode cX8_tries 0 = .ok (.iconst 0, 1) := dk_3 (dk_at dksX8_tries_0 0 rfl rfl)
theorem dX8_tries_1 : decode cX8_tries 1 = .ok (.istore 4, 2) := dk_54 4 (dk_at dksX8_tries_0 1 rfl rfl)
theorem dX8_tries_3 : decode cX8_tries 3 = .ok (.iconst 0, 1) := dk_3 (dk_at dksX8_tries_0 3 rfl rfl)
theorem dX8_tries_4 : decode cX8_tries 4 = .ok (.istore 5, 2) := dk_54 5 (dk_at dksX8_tries_0 4 rfl rfl)
theorem dX8_tries_6 : decode cX8_tries 6 = .ok (.iload 5, 2) := dk_21 5 (dk_at dksX8_tries_0 6 rfl rfl)
theorem dX8_tries_8 : decode cX8_tries 8 = .ok (.iload_n 3, 1) := dk_29 (dk_at dksX8_tries_0 8 rfl rfl)
theorem dX8_tries_9 : decode cX8_tries 9 = .ok (.if_icmp .ge 29, 3) := dk_162 0 29 (dk_at dksX8_tries_0 9 rfl rfl)
theorem dX8_tries_12 : decode cX8_tries 12 = .ok (.iload 4, 2) := dk_21 4 (dk_at dksX8_tries_0 12 rfl rfl)
theorem dX8_tries_14 : decode cX8_tries 14 = .ok (.aload_n 0, 1) := dk_42 (dk_at dksX8_tries_0 14 rfl rfl)
theorem dX8_tries_15 : decode cX8_tries 15 = .ok (.iload_n 1, 1) := dk_27 (dk_at dksX8_tries_0 15 rfl rfl)
theorem dX8_tries_16 : decode cX8_tries 16 = .ok (.iload_n 2, 1) := dk_28 (dk_at dksX8_tries_0 16 rfl rfl)
theorem dX8_tries_17 : decode cX8_tries 17 = .ok (.invokevirtual 426, 3) := dk_182 1 170 (dk_at dksX8_tries_0 17 rfl rfl)
theorem dX8_tries_20 : decode cX8_tries 20 = .ok (.iconst 1, 1) := dk_4 (dk_at dksX8_tries_0 20 rfl rfl)
theorem dX8_tries_21 : decode cX8_tries 21 = .ok (.if_icmp .ne 7, 3) := dk_160 0 7 (dk_at dksX8_tries_0 21 rfl rfl)
theorem dX8_tries_24 : decode cX8_tries 24 = .ok (.iconst 1, 1) := dk_4 (dk_at dksX8_tries_1 0 rfl rfl)
theorem dX8_tries_25 : decode cX8_tries 25 = .ok (.goto 4, 3) := dk_167 0 4 (dk_at dksX8_tries_1 1 rfl rfl)
theorem dX8_tries_28 : decode cX8_tries 28 = .ok (.iconst 0, 1) := dk_3 (dk_at dksX8_tries_1 4 rfl rfl)
theorem dX8_tries_29 : decode cX8_tries 29 = .ok (.iadd, 1) := dk_96 (dk_at dksX8_tries_1 5 rfl rfl)
theorem dX8_tries_30 : decode cX8_tries 30 = .ok (.istore 4, 2) := dk_54 4 (dk_at dksX8_tries_1 6 rfl rfl)
theorem dX8_tries_32 : decode cX8_tries 32 = .ok (.iinc 5 1, 3) := dk_132 5 1 (dk_at dksX8_tries_1 8 rfl rfl)
theorem dX8_tries_35 : decode cX8_tries 35 = .ok (.goto (-29), 3) := dk_167 255 227 (dk_at dksX8_tries_1 11 rfl rfl)
theorem dX8_tries_38 : decode cX8_tries 38 = .ok (.iload 4, 2) := dk_21 4 (dk_at dksX8_tries_1 14 rfl rfl)
theorem dX8_tries_40 : decode cX8_tries 40 = .ok (.ireturn, 1) := dk_172 (dk_at dksX8_tries_1 16 rfl rfl)
abbrev cX8_span : ByteArray := prog_18_method_127_code
def yX8_span : MethodName := ⟨RX8, "span", "(IIIZ)I"⟩
def dkwX8_span_6 : List UInt8 := [180, 0, 13, 16, 12, 21, 5, 79, 21, 6, 172]
abbrev dktX8_span_6 : List UInt8 := dkwX8_span_6 ++ []
def dkwX8_span_5 : List UInt8 := [21, 8, 184, 1, 44, 167, 0, 10, 21, 6, 21, 8, 184, 1, 39, 54, 6, 132, 7, 1, 167, 255, 194, 42]
abbrev dktX8_span_5 : List UInt8 := dkwX8_span_5 ++ dktX8_span_6
def dkwX8_span_4 : List UInt8 := [29, 182, 1, 199, 54, 8, 21, 6, 156, 0, 8, 21, 8, 167, 0, 25, 21, 4, 153, 0, 13, 21, 6]
abbrev dktX8_span_4 : List UInt8 := dkwX8_span_4 ++ dktX8_span_5
def dkwX8_span_3 : List UInt8 := [54, 6, 4, 54, 7, 21, 7, 16, 6, 163, 0, 61, 42, 180, 0, 13, 16, 12, 21, 7, 79, 42, 27, 28]
abbrev dktX8_span_3 : List UInt8 := dkwX8_span_3 ++ dktX8_span_4
def dkwX8_span_2 : List UInt8 := [167, 0, 4, 3, 5, 182, 1, 9, 153, 0, 5, 3, 172, 42, 180, 0, 13, 16, 12, 46, 54, 5, 2]
abbrev dktX8_span_2 : List UInt8 := dkwX8_span_2 ++ dktX8_span_3
def dkwX8_span_1 : List UInt8 := [167, 0, 4, 3, 4, 182, 1, 9, 154, 0, 26, 42, 29, 3, 16, 40, 184, 0, 78, 154, 0, 7, 4]
abbrev dktX8_span_1 : List UInt8 := dkwX8_span_1 ++ dktX8_span_2
def dkwX8_span_0 : List UInt8 := [42, 3, 181, 0, 3, 42, 42, 27, 182, 1, 47, 154, 0, 11, 42, 28, 182, 1, 47, 153, 0, 7, 4]
abbrev dktX8_span_0 : List UInt8 := dkwX8_span_0 ++ dktX8_span_1
theorem dksX8_span_0 : cX8_span.data.toList.drop 0 = dktX8_span_0 := by decide +kernel
theorem dksX8_span_1 : cX8_span.data.toList.drop 23 = dktX8_span_1 := dk_seg dksX8_span_0 23 rfl rfl
theorem dksX8_span_2 : cX8_span.data.toList.drop 46 = dktX8_span_2 := dk_seg dksX8_span_1 23 rfl rfl
theorem dksX8_span_3 : cX8_span.data.toList.drop 69 = dktX8_span_3 := dk_seg dksX8_span_2 23 rfl rfl
theorem dksX8_span_4 : cX8_span.data.toList.drop 93 = dktX8_span_4 := dk_seg dksX8_span_3 24 rfl rfl
theorem dksX8_span_5 : cX8_span.data.toList.drop 116 = dktX8_span_5 := dk_seg dksX8_span_4 23 rfl rfl
theorem dksX8_span_6 : cX8_span.data.toList.drop 140 = dktX8_span_6 := dk_seg dksX8_span_5 24 rfl rfl
theorem dX8_span_0 : decode cX8_span 0 = .ok (.aload_n 0, 1) := dk_42 (dk_at dksX8_span_0 0 rfl rfl)
theorem dX8_span_1 : decode cX8_span 1 = .ok (.iconst 0, 1) := dk_3 (dk_at dksX8_span_0 1 rfl rfl)
theorem dX8_span_2 : decode cX8_span 2 = .ok (.putfield 3, 3) := dk_181 0 3 (dk_at dksX8_span_0 2 rfl rfl)
theorem dX8_span_5 : decode cX8_span 5 = .ok (.aload_n 0, 1) := dk_42 (dk_at dksX8_span_0 5 rfl rfl)
theorem dX8_span_6 : decode cX8_span 6 = .ok (.aload_n 0, 1) := dk_42 (dk_at dksX8_span_0 6 rfl rfl)
theorem dX8_span_7 : decode cX8_span 7 = .ok (.iload_n 1, 1) := dk_27 (dk_at dksX8_span_0 7 rfl rfl)
theorem dX8_span_8 : decode cX8_span 8 = .ok (.invokevirtual 303, 3) := dk_182 1 47 (dk_at dksX8_span_0 8 rfl rfl)
theorem dX8_span_11 : decode cX8_span 11 = .ok (.ifCond .ne 11, 3) := dk_154 0 11 (dk_at dksX8_span_0 11 rfl rfl)
theorem dX8_span_14 : decode cX8_span 14 = .ok (.aload_n 0, 1) := dk_42 (dk_at dksX8_span_0 14 rfl rfl)
theorem dX8_span_15 : decode cX8_span 15 = .ok (.iload_n 2, 1) := dk_28 (dk_at dksX8_span_0 15 rfl rfl)
theorem dX8_span_16 : decode cX8_span 16 = .ok (.invokevirtual 303, 3) := dk_182 1 47 (dk_at dksX8_span_0 16 rfl rfl)
theorem dX8_span_19 : decode cX8_span 19 = .ok (.ifCond .eq 7, 3) := dk_153 0 7 (dk_at dksX8_span_0 19 rfl rfl)
theorem dX8_span_22 : decode cX8_span 22 = .ok (.iconst 1, 1) := dk_4 (dk_at dksX8_span_0 22 rfl rfl)
theorem dX8_span_23 : decode cX8_span 23 = .ok (.goto 4, 3) := dk_167 0 4 (dk_at dksX8_span_1 0 rfl rfl)
theorem dX8_span_26 : decode cX8_span 26 = .ok (.iconst 0, 1) := dk_3 (dk_at dksX8_span_1 3 rfl rfl)
theorem dX8_span_27 : decode cX8_span 27 = .ok (.iconst 1, 1) := dk_4 (dk_at dksX8_span_1 4 rfl rfl)
theorem dX8_span_28 : decode cX8_span 28 = .ok (.invokevirtual 265, 3) := dk_182 1 9 (dk_at dksX8_span_1 5 rfl rfl)
theorem dX8_span_31 : decode cX8_span 31 = .ok (.ifCond .ne 26, 3) := dk_154 0 26 (dk_at dksX8_span_1 8 rfl rfl)
theorem dX8_span_34 : decode cX8_span 34 = .ok (.aload_n 0, 1) := dk_42 (dk_at dksX8_span_1 11 rfl rfl)
theorem dX8_span_35 : decode cX8_span 35 = .ok (.iload_n 3, 1) := dk_29 (dk_at dksX8_span_1 12 rfl rfl)
theorem dX8_span_36 : decode cX8_span 36 = .ok (.iconst 0, 1) := dk_3 (dk_at dksX8_span_1 13 rfl rfl)
theorem dX8_span_37 : decode cX8_span 37 = .ok (.bipush 40, 2) := dk_16 40 (dk_at dksX8_span_1 14 rfl rfl)
theorem dX8_span_39 : decode cX8_span 39 = .ok (.invokestatic 78, 3) := dk_184 0 78 (dk_at dksX8_span_1 16 rfl rfl)
theorem dX8_span_42 : decode cX8_span 42 = .ok (.ifCond .ne 7, 3) := dk_154 0 7 (dk_at dksX8_span_1 19 rfl rfl)
theorem dX8_span_45 : decode cX8_span 45 = .ok (.iconst 1, 1) := dk_4 (dk_at dksX8_span_1 22 rfl rfl)
theorem dX8_span_46 : decode cX8_span 46 = .ok (.goto 4, 3) := dk_167 0 4 (dk_at dksX8_span_2 0 rfl rfl)
theorem dX8_span_49 : decode cX8_span 49 = .ok (.iconst 0, 1) := dk_3 (dk_at dksX8_span_2 3 rfl rfl)
theorem dX8_span_50 : decode cX8_span 50 = .ok (.iconst 2, 1) := dk_5 (dk_at dksX8_span_2 4 rfl rfl)
theorem dX8_span_51 : decode cX8_span 51 = .ok (.invokevirtual 265, 3) := dk_182 1 9 (dk_at dksX8_span_2 5 rfl rfl)
theorem dX8_span_54 : decode cX8_span 54 = .ok (.ifCond .eq 5, 3) := dk_153 0 5 (dk_at dksX8_span_2 8 rfl rfl)
theorem dX8_span_57 : decode cX8_span 57 = .ok (.iconst 0, 1) := dk_3 (dk_at dksX8_span_2 11 rfl rfl)
theorem dX8_span_58 : decode cX8_span 58 = .ok (.ireturn, 1) := dk_172 (dk_at dksX8_span_2 12 rfl rfl)
theorem dX8_span_59 : decode cX8_span 59 = .ok (.aload_n 0, 1) := dk_42 (dk_at dksX8_span_2 13 rfl rfl)
theorem dX8_span_60 : decode cX8_span 60 = .ok (.getfield 13, 3) := dk_180 0 13 (dk_at dksX8_span_2 14 rfl rfl)
theorem dX8_span_63 : decode cX8_span 63 = .ok (.bipush 12, 2) := dk_16 12 (dk_at dksX8_span_2 17 rfl rfl)
theorem dX8_span_65 : decode cX8_span 65 = .ok (.iaload, 1) := dk_46 (dk_at dksX8_span_2 19 rfl rfl)
theorem dX8_span_66 : decode cX8_span 66 = .ok (.istore 5, 2) := dk_54 5 (dk_at dksX8_span_2 20 rfl rfl)
theorem dX8_span_68 : decode cX8_span 68 = .ok (.iconst (-1), 1) := dk_2 (dk_at dksX8_span_2 22 rfl rfl)
theorem dX8_span_69 : decode cX8_span 69 = .ok (.istore 6, 2) := dk_54 6 (dk_at dksX8_span_3 0 rfl rfl)
theorem dX8_span_71 : decode cX8_span 71 = .ok (.iconst 1, 1) := dk_4 (dk_at dksX8_span_3 2 rfl rfl)
theorem dX8_span_72 : decode cX8_span 72 = .ok (.istore 7, 2) := dk_54 7 (dk_at dksX8_span_3 3 rfl rfl)
theorem dX8_span_74 : decode cX8_span 74 = .ok (.iload 7, 2) := dk_21 7 (dk_at dksX8_span_3 5 rfl rfl)
theorem dX8_span_76 : decode cX8_span 76 = .ok (.bipush 6, 2) := dk_16 6 (dk_at dksX8_span_3 7 rfl rfl)
theorem dX8_span_78 : decode cX8_span 78 = .ok (.if_icmp .gt 61, 3) := dk_163 0 61 (dk_at dksX8_span_3 9 rfl rfl)
theorem dX8_span_81 : decode cX8_span 81 = .ok (.aload_n 0, 1) := dk_42 (dk_at dksX8_span_3 12 rfl rfl)
theorem dX8_span_82 : decode cX8_span 82 = .ok (.getfield 13, 3) := dk_180 0 13 (dk_at dksX8_span_3 13 rfl rfl)
theorem dX8_span_85 : decode cX8_span 85 = .ok (.bipush 12, 2) := dk_16 12 (dk_at dksX8_span_3 16 rfl rfl)
theorem dX8_span_87 : decode cX8_span 87 = .ok (.iload 7, 2) := dk_21 7 (dk_at dksX8_span_3 18 rfl rfl)
theorem dX8_span_89 : decode cX8_span 89 = .ok (.iastore, 1) := dk_79 (dk_at dksX8_span_3 20 rfl rfl)
theorem dX8_span_90 : decode cX8_span 90 = .ok (.aload_n 0, 1) := dk_42 (dk_at dksX8_span_3 21 rfl rfl)
theorem dX8_span_91 : decode cX8_span 91 = .ok (.iload_n 1, 1) := dk_27 (dk_at dksX8_span_3 22 rfl rfl)
theorem dX8_span_92 : decode cX8_span 92 = .ok (.iload_n 2, 1) := dk_28 (dk_at dksX8_span_3 23 rfl rfl)
theorem dX8_span_93 : decode cX8_span 93 = .ok (.iload_n 3, 1) := dk_29 (dk_at dksX8_span_4 0 rfl rfl)
theorem dX8_span_94 : decode cX8_span 94 = .ok (.invokevirtual 455, 3) := dk_182 1 199 (dk_at dksX8_span_4 1 rfl rfl)
theorem dX8_span_97 : decode cX8_span 97 = .ok (.istore 8, 2) := dk_54 8 (dk_at dksX8_span_4 4 rfl rfl)
theorem dX8_span_99 : decode cX8_span 99 = .ok (.iload 6, 2) := dk_21 6 (dk_at dksX8_span_4 6 rfl rfl)
theorem dX8_span_101 : decode cX8_span 101 = .ok (.ifCond .ge 8, 3) := dk_156 0 8 (dk_at dksX8_span_4 8 rfl rfl)
theorem dX8_span_104 : decode cX8_span 104 = .ok (.iload 8, 2) := dk_21 8 (dk_at dksX8_span_4 11 rfl rfl)
theorem dX8_span_106 : decode cX8_span 106 = .ok (.goto 25, 3) := dk_167 0 25 (dk_at dksX8_span_4 13 rfl rfl)
theorem dX8_span_109 : decode cX8_span 109 = .ok (.iload 4, 2) := dk_21 4 (dk_at dksX8_span_4 16 rfl rfl)
theorem dX8_span_111 : decode cX8_span 111 = .ok (.ifCond .eq 13, 3) := dk_153 0 13 (dk_at dksX8_span_4 18 rfl rfl)
theorem dX8_span_114 : decode cX8_span 114 = .ok (.iload 6, 2) := dk_21 6 (dk_at dksX8_span_4 21 rfl rfl)
theorem dX8_span_116 : decode cX8_span 116 = .ok (.iload 8, 2) := dk_21 8 (dk_at dksX8_span_5 0 rfl rfl)
theorem dX8_span_118 : decode cX8_span 118 = .ok (.invokestatic 300, 3) := dk_184 1 44 (dk_at dksX8_span_5 2 rfl rfl)
theorem dX8_span_121 : decode cX8_span 121 = .ok (.goto 10, 3) := dk_167 0 10 (dk_at dksX8_span_5 5 rfl rfl)
theorem dX8_span_124 : decode cX8_span 124 = .ok (.iload 6, 2) := dk_21 6 (dk_at dksX8_span_5 8 rfl rfl)
theorem dX8_span_126 : decode cX8_span 126 = .ok (.iload 8, 2) := dk_21 8 (dk_at dksX8_span_5 10 rfl rfl)
theorem dX8_span_128 : decode cX8_span 128 = .ok (.invokestatic 295, 3) := dk_184 1 39 (dk_at dksX8_span_5 12 rfl rfl)
theorem dX8_span_131 : decode cX8_span 131 = .ok (.istore 6, 2) := dk_54 6 (dk_at dksX8_span_5 15 rfl rfl)
theorem dX8_span_133 : decode cX8_span 133 = .ok (.iinc 7 1, 3) := dk_132 7 1 (dk_at dksX8_span_5 17 rfl rfl)
theorem dX8_span_136 : decode cX8_span 136 = .ok (.goto (-62), 3) := dk_167 255 194 (dk_at dksX8_span_5 20 rfl rfl)
theorem dX8_span_139 : decode cX8_span 139 = .ok (.aload_n 0, 1) := dk_42 (dk_at dksX8_span_5 23 rfl rfl)
theorem dX8_span_140 : decode cX8_span 140 = .ok (.getfield 13, 3) := dk_180 0 13 (dk_at dksX8_span_6 0 rfl rfl)
theorem dX8_span_143 : decode cX8_span 143 = .ok (.bipush 12, 2) := dk_16 12 (dk_at dksX8_span_6 3 rfl rfl)
theorem dX8_span_145 : decode cX8_span 145 = .ok (.iload 5, 2) := dk_21 5 (dk_at dksX8_span_6 5 rfl rfl)
theorem dX8_span_147 : decode cX8_span 147 = .ok (.iastore, 1) := dk_79 (dk_at dksX8_span_6 7 rfl rfl)
theorem dX8_span_148 : decode cX8_span 148 = .ok (.iload 6, 2) := dk_21 6 (dk_at dksX8_span_6 8 rfl rfl)
theorem dX8_span_150 : decode cX8_span 150 = .ok (.ireturn, 1) := dk_172 (dk_at dksX8_span_6 10 rfl rfl)
abbrev cX8_led : ByteArray := prog_18_method_129_code
def yX8_led : MethodName := ⟨RX8, "led", "(IZ)I"⟩
def dkwX8_led_6 : List UInt8 := [153, 0, 7, 4, 167, 0, 4, 3, 96, 62, 132, 4, 1, 167, 255, 131, 29, 172]
abbrev dktX8_led_6 : List UInt8 := dkwX8_led_6 ++ []
def dkwX8_led_5 : List UInt8 := [153, 0, 16, 21, 7, 153, 0, 7, 4, 167, 0, 22, 3, 167, 0, 18, 21, 5, 154, 0, 8, 21, 6]
abbrev dktX8_led_5 : List UInt8 := dkwX8_led_5 ++ dktX8_led_6
def dkwX8_led_4 : List UInt8 := [153, 0, 18, 42, 21, 4, 7, 182, 1, 203, 5, 160, 0, 7, 4, 167, 0, 4, 3, 54, 7, 29, 28]
abbrev dktX8_led_4 : List UInt8 := dkwX8_led_4 ++ dktX8_led_5
def dkwX8_led_3 : List UInt8 := [167, 0, 4, 3, 54, 6, 21, 5, 153, 0, 14, 42, 21, 4, 7, 182, 1, 203, 4, 159, 0, 19, 21, 6]
abbrev dktX8_led_3 : List UInt8 := dkwX8_led_3 ++ dktX8_led_4
def dkwX8_led_2 : List UInt8 := [160, 0, 7, 4, 167, 0, 4, 3, 54, 5, 42, 21, 4, 6, 182, 1, 203, 27, 160, 0, 7, 4]
abbrev dktX8_led_2 : List UInt8 := dkwX8_led_2 ++ dktX8_led_3
def dkwX8_led_1 : List UInt8 := [54, 4, 21, 4, 42, 180, 0, 13, 16, 11, 46, 162, 0, 119, 42, 21, 4, 5, 182, 1, 203, 27]
abbrev dktX8_led_1 : List UInt8 := dkwX8_led_1 ++ dktX8_led_2
def dkwX8_led_0 : List UInt8 := [42, 3, 181, 0, 3, 42, 42, 27, 182, 1, 47, 4, 182, 1, 9, 153, 0, 5, 3, 172, 3, 62, 3]
abbrev dktX8_led_0 : List UInt8 := dkwX8_led_0 ++ dktX8_led_1
theorem dksX8_led_0 : cX8_led.data.toList.drop 0 = dktX8_led_0 := by decide +kernel
theorem dksX8_led_1 : cX8_led.data.toList.drop 23 = dktX8_led_1 := dk_seg dksX8_led_0 23 rfl rfl
theorem dksX8_led_2 : cX8_led.data.toList.drop 45 = dktX8_led_2 := dk_seg dksX8_led_1 22 rfl rfl
theorem dksX8_led_3 : cX8_led.data.toList.drop 67 = dktX8_led_3 := dk_seg dksX8_led_2 22 rfl rfl
theorem dksX8_led_4 : cX8_led.data.toList.drop 91 = dktX8_led_4 := dk_seg dksX8_led_3 24 rfl rfl
theorem dksX8_led_5 : cX8_led.data.toList.drop 114 = dktX8_led_5 := dk_seg dksX8_led_4 23 rfl rfl
theorem dksX8_led_6 : cX8_led.data.toList.drop 137 = dktX8_led_6 := dk_seg dksX8_led_5 23 rfl rfl
theorem dX8_led_0 : decode cX8_led 0 = .ok (.aload_n 0, 1) := dk_42 (dk_at dksX8_led_0 0 rfl rfl)
theorem dX8_led_1 : decode cX8_led 1 = .ok (.iconst 0, 1) := dk_3 (dk_at dksX8_led_0 1 rfl rfl)
theorem dX8_led_2 : decode cX8_led 2 = .ok (.putfield 3, 3) := dk_181 0 3 (dk_at dksX8_led_0 2 rfl rfl)
theorem dX8_led_5 : decode cX8_led 5 = .ok (.aload_n 0, 1) := dk_42 (dk_at dksX8_led_0 5 rfl rfl)
theorem dX8_led_6 : decode cX8_led 6 = .ok (.aload_n 0, 1) := dk_42 (dk_at dksX8_led_0 6 rfl rfl)
theorem dX8_led_7 : decode cX8_led 7 = .ok (.iload_n 1, 1) := dk_27 (dk_at dksX8_led_0 7 rfl rfl)
theorem dX8_led_8 : decode cX8_led 8 = .ok (.invokevirtual 303, 3) := dk_182 1 47 (dk_at dksX8_led_0 8 rfl rfl)
theorem dX8_led_11 : decode cX8_led 11 = .ok (.iconst 1, 1) := dk_4 (dk_at dksX8_led_0 11 rfl rfl)
theorem dX8_led_12 : decode cX8_led 12 = .ok (.invokevirtual 265, 3) := dk_182 1 9 (dk_at dksX8_led_0 12 rfl rfl)
theorem dX8_led_15 : decode cX8_led 15 = .ok (.ifCond .eq 5, 3) := dk_153 0 5 (dk_at dksX8_led_0 15 rfl rfl)
theorem dX8_led_18 : decode cX8_led 18 = .ok (.iconst 0, 1) := dk_3 (dk_at dksX8_led_0 18 rfl rfl)
theorem dX8_led_19 : decode cX8_led 19 = .ok (.ireturn, 1) := dk_172 (dk_at dksX8_led_0 19 rfl rfl)
theorem dX8_led_20 : decode cX8_led 20 = .ok (.iconst 0, 1) := dk_3 (dk_at dksX8_led_0 20 rfl rfl)
theorem dX8_led_21 : decode cX8_led 21 = .ok (.istore_n 3, 1) := dk_62 (dk_at dksX8_led_0 21 rfl rfl)
theorem dX8_led_22 : decode cX8_led 22 = .ok (.iconst 0, 1) := dk_3 (dk_at dksX8_led_0 22 rfl rfl)
theorem dX8_led_23 : decode cX8_led 23 = .ok (.istore 4, 2) := dk_54 4 (dk_at dksX8_led_1 0 rfl rfl)
theorem dX8_led_25 : decode cX8_led 25 = .ok (.iload 4, 2) := dk_21 4 (dk_at dksX8_led_1 2 rfl rfl)
theorem dX8_led_27 : decode cX8_led 27 = .ok (.aload_n 0, 1) := dk_42 (dk_at dksX8_led_1 4 rfl rfl)
theorem dX8_led_28 : decode cX8_led 28 = .ok (.getfield 13, 3) := dk_180 0 13 (dk_at dksX8_led_1 5 rfl rfl)
theorem dX8_led_31 : decode cX8_led 31 = .ok (.bipush 11, 2) := dk_16 11 (dk_at dksX8_led_1 8 rfl rfl)
theorem dX8_led_33 : decode cX8_led 33 = .ok (.iaload, 1) := dk_46 (dk_at dksX8_led_1 10 rfl rfl)
theorem dX8_led_34 : decode cX8_led 34 = .ok (.if_icmp .ge 119, 3) := dk_162 0 119 (dk_at dksX8_led_1 11 rfl rfl)
theorem dX8_led_37 : decode cX8_led 37 = .ok (.aload_n 0, 1) := dk_42 (dk_at dksX8_led_1 14 rfl rfl)
theorem dX8_led_38 : decode cX8_led 38 = .ok (.iload 4, 2) := dk_21 4 (dk_at dksX8_led_1 15 rfl rfl)
theorem dX8_led_40 : decode cX8_led 40 = .ok (.iconst 2, 1) := dk_5 (dk_at dksX8_led_1 17 rfl rfl)
theorem dX8_led_41 : decode cX8_led 41 = .ok (.invokevirtual 459, 3) := dk_182 1 203 (dk_at dksX8_led_1 18 rfl rfl)
theorem dX8_led_44 : decode cX8_led 44 = .ok (.iload_n 1, 1) := dk_27 (dk_at dksX8_led_1 21 rfl rfl)
theorem dX8_led_45 : decode cX8_led 45 = .ok (.if_icmp .ne 7, 3) := dk_160 0 7 (dk_at dksX8_led_2 0 rfl rfl)
theorem dX8_led_48 : decode cX8_led 48 = .ok (.iconst 1, 1) := dk_4 (dk_at dksX8_led_2 3 rfl rfl)
theorem dX8_led_49 : decode cX8_led 49 = .ok (.goto 4, 3) := dk_167 0 4 (dk_at dksX8_led_2 4 rfl rfl)
theorem dX8_led_52 : decode cX8_led 52 = .ok (.iconst 0, 1) := dk_3 (dk_at dksX8_led_2 7 rfl rfl)
theorem dX8_led_53 : decode cX8_led 53 = .ok (.istore 5, 2) := dk_54 5 (dk_at dksX8_led_2 8 rfl rfl)
theorem dX8_led_55 : decode cX8_led 55 = .ok (.aload_n 0, 1) := dk_42 (dk_at dksX8_led_2 10 rfl rfl)
theorem dX8_led_56 : decode cX8_led 56 = .ok (.iload 4, 2) := dk_21 4 (dk_at dksX8_led_2 11 rfl rfl)
theorem dX8_led_58 : decode cX8_led 58 = .ok (.iconst 3, 1) := dk_6 (dk_at dksX8_led_2 13 rfl rfl)
theorem dX8_led_59 : decode cX8_led 59 = .ok (.invokevirtual 459, 3) := dk_182 1 203 (dk_at dksX8_led_2 14 rfl rfl)
theorem dX8_led_62 : decode cX8_led 62 = .ok (.iload_n 1, 1) := dk_27 (dk_at dksX8_led_2 17 rfl rfl)
theorem dX8_led_63 : decode cX8_led 63 = .ok (.if_icmp .ne 7, 3) := dk_160 0 7 (dk_at dksX8_led_2 18 rfl rfl)
theorem dX8_led_66 : decode cX8_led 66 = .ok (.iconst 1, 1) := dk_4 (dk_at dksX8_led_2 21 rfl rfl)
theorem dX8_led_67 : decode cX8_led 67 = .ok (.goto 4, 3) := dk_167 0 4 (dk_at dksX8_led_3 0 rfl rfl)
theorem dX8_led_70 : decode cX8_led 70 = .ok (.iconst 0, 1) := dk_3 (dk_at dksX8_led_3 3 rfl rfl)
theorem dX8_led_71 : decode cX8_led 71 = .ok (.istore 6, 2) := dk_54 6 (dk_at dksX8_led_3 4 rfl rfl)
theorem dX8_led_73 : decode cX8_led 73 = .ok (.iload 5, 2) := dk_21 5 (dk_at dksX8_led_3 6 rfl rfl)
theorem dX8_led_75 : decode cX8_led 75 = .ok (.ifCond .eq 14, 3) := dk_153 0 14 (dk_at dksX8_led_3 8 rfl rfl)
theorem dX8_led_78 : decode cX8_led 78 = .ok (.aload_n 0, 1) := dk_42 (dk_at dksX8_led_3 11 rfl rfl)
theorem dX8_led_79 : decode cX8_led 79 = .ok (.iload 4, 2) := dk_21 4 (dk_at dksX8_led_3 12 rfl rfl)
theorem dX8_led_81 : decode cX8_led 81 = .ok (.iconst 4, 1) := dk_7 (dk_at dksX8_led_3 14 rfl rfl)
theorem dX8_led_82 : decode cX8_led 82 = .ok (.invokevirtual 459, 3) := dk_182 1 203 (dk_at dksX8_led_3 15 rfl rfl)
theorem dX8_led_85 : decode cX8_led 85 = .ok (.iconst 1, 1) := dk_4 (dk_at dksX8_led_3 18 rfl rfl)
theorem dX8_led_86 : decode cX8_led 86 = .ok (.if_icmp .eq 19, 3) := dk_159 0 19 (dk_at dksX8_led_3 19 rfl rfl)
theorem dX8_led_89 : decode cX8_led 89 = .ok (.iload 6, 2) := dk_21 6 (dk_at dksX8_led_3 22 rfl rfl)
theorem dX8_led_91 : decode cX8_led 91 = .ok (.ifCond .eq 18, 3) := dk_153 0 18 (dk_at dksX8_led_4 0 rfl rfl)
theorem dX8_led_94 : decode cX8_led 94 = .ok (.aload_n 0, 1) := dk_42 (dk_at dksX8_led_4 3 rfl rfl)
theorem dX8_led_95 : decode cX8_led 95 = .ok (.iload 4, 2) := dk_21 4 (dk_at dksX8_led_4 4 rfl rfl)
theorem dX8_led_97 : decode cX8_led 97 = .ok (.iconst 4, 1) := dk_7 (dk_at dksX8_led_4 6 rfl rfl)
theorem dX8_led_98 : decode cX8_led 98 = .ok (.invokevirtual 459, 3) := dk_182 1 203 (dk_at dksX8_led_4 7 rfl rfl)
theorem dX8_led_101 : decode cX8_led 101 = .ok (.iconst 2, 1) := dk_5 (dk_at dksX8_led_4 10 rfl rfl)
theorem dX8_led_102 : decode cX8_led 102 = .ok (.if_icmp .ne 7, 3) := dk_160 0 7 (dk_at dksX8_led_4 11 rfl rfl)
theorem dX8_led_105 : decode cX8_led 105 = .ok (.iconst 1, 1) := dk_4 (dk_at dksX8_led_4 14 rfl rfl)
theorem dX8_led_106 : decode cX8_led 106 = .ok (.goto 4, 3) := dk_167 0 4 (dk_at dksX8_led_4 15 rfl rfl)
theorem dX8_led_109 : decode cX8_led 109 = .ok (.iconst 0, 1) := dk_3 (dk_at dksX8_led_4 18 rfl rfl)
theorem dX8_led_110 : decode cX8_led 110 = .ok (.istore 7, 2) := dk_54 7 (dk_at dksX8_led_4 19 rfl rfl)
theorem dX8_led_112 : decode cX8_led 112 = .ok (.iload_n 3, 1) := dk_29 (dk_at dksX8_led_4 21 rfl rfl)
theorem dX8_led_113 : decode cX8_led 113 = .ok (.iload_n 2, 1) := dk_28 (dk_at dksX8_led_4 22 rfl rfl)
theorem dX8_led_114 : decode cX8_led 114 = .ok (.ifCond .eq 16, 3) := dk_153 0 16 (dk_at dksX8_led_5 0 rfl rfl)
theorem dX8_led_117 : decode cX8_led 117 = .ok (.iload 7, 2) := dk_21 7 (dk_at dksX8_led_5 3 rfl rfl)
theorem dX8_led_119 : decode cX8_led 119 = .ok (.ifCond .eq 7, 3) := dk_153 0 7 (dk_at dksX8_led_5 5 rfl rfl)
theorem dX8_led_122 : decode cX8_led 122 = .ok (.iconst 1, 1) := dk_4 (dk_at dksX8_led_5 8 rfl rfl)
theorem dX8_led_123 : decode cX8_led 123 = .ok (.goto 22, 3) := dk_167 0 22 (dk_at dksX8_led_5 9 rfl rfl)
theorem dX8_led_126 : decode cX8_led 126 = .ok (.iconst 0, 1) := dk_3 (dk_at dksX8_led_5 12 rfl rfl)
theorem dX8_led_127 : decode cX8_led 127 = .ok (.goto 18, 3) := dk_167 0 18 (dk_at dksX8_led_5 13 rfl rfl)
theorem dX8_led_130 : decode cX8_led 130 = .ok (.iload 5, 2) := dk_21 5 (dk_at dksX8_led_5 16 rfl rfl)
theorem dX8_led_132 : decode cX8_led 132 = .ok (.ifCond .ne 8, 3) := dk_154 0 8 (dk_at dksX8_led_5 18 rfl rfl)
theorem dX8_led_135 : decode cX8_led 135 = .ok (.iload 6, 2) := dk_21 6 (dk_at dksX8_led_5 21 rfl rfl)
theorem dX8_led_137 : decode cX8_led 137 = .ok (.ifCond .eq 7, 3) := dk_153 0 7 (dk_at dksX8_led_6 0 rfl rfl)
theorem dX8_led_140 : decode cX8_led 140 = .ok (.iconst 1, 1) := dk_4 (dk_at dksX8_led_6 3 rfl rfl)
theorem dX8_led_141 : decode cX8_led 141 = .ok (.goto 4, 3) := dk_167 0 4 (dk_at dksX8_led_6 4 rfl rfl)
theorem dX8_led_144 : decode cX8_led 144 = .ok (.iconst 0, 1) := dk_3 (dk_at dksX8_led_6 7 rfl rfl)
theorem dX8_led_145 : decode cX8_led 145 = .ok (.iadd, 1) := dk_96 (dk_at dksX8_led_6 8 rfl rfl)
theorem dX8_led_146 : decode cX8_led 146 = .ok (.istore_n 3, 1) := dk_62 (dk_at dksX8_led_6 9 rfl rfl)
theorem dX8_led_147 : decode cX8_led 147 = .ok (.iinc 4 1, 3) := dk_132 4 1 (dk_at dksX8_led_6 10 rfl rfl)
theorem dX8_led_150 : decode cX8_led 150 = .ok (.goto (-125), 3) := dk_167 255 131 (dk_at dksX8_led_6 13 rfl rfl)
theorem dX8_led_153 : decode cX8_led 153 = .ok (.iload_n 3, 1) := dk_29 (dk_at dksX8_led_6 16 rfl rfl)
theorem dX8_led_154 : decode cX8_led 154 = .ok (.ireturn, 1) := dk_172 (dk_at dksX8_led_6 17 rfl rfl)
abbrev cX8_ofLog : ByteArray := prog_18_method_128_code
def yX8_ofLog : MethodName := ⟨RX8, "ofLog", "(II)I"⟩
def dkwX8_ofLog_0 : List UInt8 := [42, 180, 0, 13, 16, 122, 16, 6, 27, 104, 96, 28, 96, 46, 172]
abbrev dktX8_ofLog_0 : List UInt8 := dkwX8_ofLog_0 ++ []
theorem dksX8_ofLog_0 : cX8_ofLog.data.toList.drop 0 = dktX8_ofLog_0 := by decide +kernel
theorem dX8_ofLog_0 : decode cX8_ofLog 0 = .ok (.aload_n 0, 1) := dk_42 (dk_at dksX8_ofLog_0 0 rfl rfl)
theorem dX8_ofLog_1 : decode cX8_ofLog 1 = .ok (.getfield 13, 3) := dk_180 0 13 (dk_at dksX8_ofLog_0 1 rfl rfl)
theorem dX8_ofLog_4 : decode cX8_ofLog 4 = .ok (.bipush 122, 2) := dk_16 122 (dk_at dksX8_ofLog_0 4 rfl rfl)
theorem dX8_ofLog_6 : decode cX8_ofLog 6 = .ok (.bipush 6, 2) := dk_16 6 (dk_at dksX8_ofLog_0 6 rfl rfl)
theorem dX8_ofLog_8 : decode cX8_ofLog 8 = .ok (.iload_n 1, 1) := dk_27 (dk_at dksX8_ofLog_0 8 rfl rfl)
theorem dX8_ofLog_9 : decode cX8_ofLog 9 = .ok (.imul, 1) := dk_104 (dk_at dksX8_ofLog_0 9 rfl rfl)
theorem dX8_ofLog_10 : decode cX8_ofLog 10 = .ok (.iadd, 1) := dk_96 (dk_at dksX8_ofLog_0 10 rfl rfl)
theorem dX8_ofLog_11 : decode cX8_ofLog 11 = .ok (.iload_n 2, 1) := dk_28 (dk_at dksX8_ofLog_0 11 rfl rfl)
theorem dX8_ofLog_12 : decode cX8_ofLog 12 = .ok (.iadd, 1) := dk_96 (dk_at dksX8_ofLog_0 12 rfl rfl)
theorem dX8_ofLog_13 : decode cX8_ofLog 13 = .ok (.iaload, 1) := dk_46 (dk_at dksX8_ofLog_0 13 rfl rfl)
theorem dX8_ofLog_14 : decode cX8_ofLog 14 = .ok (.ireturn, 1) := dk_172 (dk_at dksX8_ofLog_0 14 rfl rfl)
abbrev cX8_log : ByteArray := prog_18_method_130_code
def yX8_log : MethodName := ⟨RX8, "log", "(II)I"⟩
def dkwX8_log_2 : List UInt8 := [28, 182, 1, 203, 167, 0, 4, 2, 172]
abbrev dktX8_log_2 : List UInt8 := dkwX8_log_2 ++ []
def dkwX8_log_1 : List UInt8 := [153, 0, 5, 3, 172, 27, 3, 42, 180, 0, 13, 16, 11, 46, 4, 100, 184, 0, 78, 153, 0, 12, 42, 27]
abbrev dktX8_log_1 : List UInt8 := dkwX8_log_1 ++ dktX8_log_2
def dkwX8_log_0 : List UInt8 := [42, 3, 181, 0, 3, 42, 28, 3, 8, 184, 0, 78, 154, 0, 7, 4, 167, 0, 4, 3, 4, 182, 1, 9]
abbrev dktX8_log_0 : List UInt8 := dkwX8_log_0 ++ dktX8_log_1
theorem dksX8_log_0 : cX8_log.data.toList.drop 0 = dktX8_log_0 := by decide +kernel
theorem dksX8_log_1 : cX8_log.data.toList.drop 24 = dktX8_log_1 := dk_seg dksX8_log_0 24 rfl rfl
theorem dksX8_log_2 : cX8_log.data.toList.drop 48 = dktX8_log_2 := dk_seg dksX8_log_1 24 rfl rfl
theorem dX8_log_0 : decode cX8_log 0 = .ok (.aload_n 0, 1) := dk_42 (dk_at dksX8_log_0 0 rfl rfl)
theorem dX8_log_1 : decode cX8_log 1 = .ok (.iconst 0, 1) := dk_3 (dk_at dksX8_log_0 1 rfl rfl)
theorem dX8_log_2 : decode cX8_log 2 = .ok (.putfield 3, 3) := dk_181 0 3 (dk_at dksX8_log_0 2 rfl rfl)
theorem dX8_log_5 : decode cX8_log 5 = .ok (.aload_n 0, 1) := dk_42 (dk_at dksX8_log_0 5 rfl rfl)
theorem dX8_log_6 : decode cX8_log 6 = .ok (.iload_n 2, 1) := dk_28 (dk_at dksX8_log_0 6 rfl rfl)
theorem dX8_log_7 : decode cX8_log 7 = .ok (.iconst 0, 1) := dk_3 (dk_at dksX8_log_0 7 rfl rfl)
theorem dX8_log_8 : decode cX8_log 8 = .ok (.iconst 5, 1) := dk_8 (dk_at dksX8_log_0 8 rfl rfl)
theorem dX8_log_9 : decode cX8_log 9 = .ok (.invokestatic 78, 3) := dk_184 0 78 (dk_at dksX8_log_0 9 rfl rfl)
theorem dX8_log_12 : decode cX8_log 12 = .ok (.ifCond .ne 7, 3) := dk_154 0 7 (dk_at dksX8_log_0 12 rfl rfl)
theorem dX8_log_15 : decode cX8_log 15 = .ok (.iconst 1, 1) := dk_4 (dk_at dksX8_log_0 15 rfl rfl)
theorem dX8_log_16 : decode cX8_log 16 = .ok (.goto 4, 3) := dk_167 0 4 (dk_at dksX8_log_0 16 rfl rfl)
theorem dX8_log_19 : decode cX8_log 19 = .ok (.iconst 0, 1) := dk_3 (dk_at dksX8_log_0 19 rfl rfl)
theorem dX8_log_20 : decode cX8_log 20 = .ok (.iconst 1, 1) := dk_4 (dk_at dksX8_log_0 20 rfl rfl)
theorem dX8_log_21 : decode cX8_log 21 = .ok (.invokevirtual 265, 3) := dk_182 1 9 (dk_at dksX8_log_0 21 rfl rfl)
theorem dX8_log_24 : decode cX8_log 24 = .ok (.ifCond .eq 5, 3) := dk_153 0 5 (dk_at dksX8_log_1 0 rfl rfl)
theorem dX8_log_27 : decode cX8_log 27 = .ok (.iconst 0, 1) := dk_3 (dk_at dksX8_log_1 3 rfl rfl)
theorem dX8_log_28 : decode cX8_log 28 = .ok (.ireturn, 1) := dk_172 (dk_at dksX8_log_1 4 rfl rfl)
theorem dX8_log_29 : decode cX8_log 29 = .ok (.iload_n 1, 1) := dk_27 (dk_at dksX8_log_1 5 rfl rfl)
theorem dX8_log_30 : decode cX8_log 30 = .ok (.iconst 0, 1) := dk_3 (dk_at dksX8_log_1 6 rfl rfl)
theorem dX8_log_31 : decode cX8_log 31 = .ok (.aload_n 0, 1) := dk_42 (dk_at dksX8_log_1 7 rfl rfl)
theorem dX8_log_32 : decode cX8_log 32 = .ok (.getfield 13, 3) := dk_180 0 13 (dk_at dksX8_log_1 8 rfl rfl)
theorem dX8_log_35 : decode cX8_log 35 = .ok (.bipush 11, 2) := dk_16 11 (dk_at dksX8_log_1 11 rfl rfl)
theorem dX8_log_37 : decode cX8_log 37 = .ok (.iaload, 1) := dk_46 (dk_at dksX8_log_1 13 rfl rfl)
theorem dX8_log_38 : decode cX8_log 38 = .ok (.iconst 1, 1) := dk_4 (dk_at dksX8_log_1 14 rfl rfl)
theorem dX8_log_39 : decode cX8_log 39 = .ok (.isub, 1) := dk_100 (dk_at dksX8_log_1 15 rfl rfl)
theorem dX8_log_40 : decode cX8_log 40 = .ok (.invokestatic 78, 3) := dk_184 0 78 (dk_at dksX8_log_1 16 rfl rfl)
theorem dX8_log_43 : decode cX8_log 43 = .ok (.ifCond .eq 12, 3) := dk_153 0 12 (dk_at dksX8_log_1 19 rfl rfl)
theorem dX8_log_46 : decode cX8_log 46 = .ok (.aload_n 0, 1) := dk_42 (dk_at dksX8_log_1 22 rfl rfl)
theorem dX8_log_47 : decode cX8_log 47 = .ok (.iload_n 1, 1) := dk_27 (dk_at dksX8_log_1 23 rfl rfl)
theorem dX8_log_48 : decode cX8_log 48 = .ok (.iload_n 2, 1) := dk_28 (dk_at dksX8_log_2 0 rfl rfl)
theorem dX8_log_49 : decode cX8_log 49 = .ok (.invokevirtual 459, 3) := dk_182 1 203 (dk_at dksX8_log_2 1 rfl rfl)
theorem dX8_log_52 : decode cX8_log 52 = .ok (.goto 4, 3) := dk_167 0 4 (dk_at dksX8_log_2 4 rfl rfl)
theorem dX8_log_55 : decode cX8_log 55 = .ok (.iconst (-1), 1) := dk_2 (dk_at dksX8_log_2 7 rfl rfl)
theorem dX8_log_56 : decode cX8_log 56 = .ok (.ireturn, 1) := dk_172 (dk_at dksX8_log_2 8 rfl rfl)
abbrev cX8_seed : ByteArray := prog_18_method_131_code
def yX8_seed : MethodName := ⟨RX8, "seed", "(I)I"⟩
def dkwX8_seed_0 : List UInt8 := [42, 3, 181, 0, 3, 42, 180, 0, 13, 16, 12, 46, 61, 42, 180, 0, 13, 16, 12, 27, 79, 28, 172]
abbrev dktX8_seed_0 : List UInt8 := dkwX8_seed_0 ++ []
theorem dksX8_seed_0 : cX8_seed.data.toList.drop 0 = dktX8_seed_0 := by decide +kernel
theorem dX8_seed_0 : decode cX8_seed 0 = .ok (.aload_n 0, 1) := dk_42 (dk_at dksX8_seed_0 0 rfl rfl)
theorem dX8_seed_1 : decode cX8_seed 1 = .ok (.iconst 0, 1) := dk_3 (dk_at dksX8_seed_0 1 rfl rfl)
theorem dX8_seed_2 : decode cX8_seed 2 = .ok (.putfield 3, 3) := dk_181 0 3 (dk_at dksX8_seed_0 2 rfl rfl)
theorem dX8_seed_5 : decode cX8_seed 5 = .ok (.aload_n 0, 1) := dk_42 (dk_at dksX8_seed_0 5 rfl rfl)
theorem dX8_seed_6 : decode cX8_seed 6 = .ok (.getfield 13, 3) := dk_180 0 13 (dk_at dksX8_seed_0 6 rfl rfl)
theorem dX8_seed_9 : decode cX8_seed 9 = .ok (.bipush 12, 2) := dk_16 12 (dk_at dksX8_seed_0 9 rfl rfl)
theorem dX8_seed_11 : decode cX8_seed 11 = .ok (.iaload, 1) := dk_46 (dk_at dksX8_seed_0 11 rfl rfl)
theorem dX8_seed_12 : decode cX8_seed 12 = .ok (.istore_n 2, 1) := dk_61 (dk_at dksX8_seed_0 12 rfl rfl)
theorem dX8_seed_13 : decode cX8_seed 13 = .ok (.aload_n 0, 1) := dk_42 (dk_at dksX8_seed_0 13 rfl rfl)
theorem dX8_seed_14 : decode cX8_seed 14 = .ok (.getfield 13, 3) := dk_180 0 13 (dk_at dksX8_seed_0 14 rfl rfl)
theorem dX8_seed_17 : decode cX8_seed 17 = .ok (.bipush 12, 2) := dk_16 12 (dk_at dksX8_seed_0 17 rfl rfl)
theorem dX8_seed_19 : decode cX8_seed 19 = .ok (.iload_n 1, 1) := dk_27 (dk_at dksX8_seed_0 19 rfl rfl)
theorem dX8_seed_20 : decode cX8_seed 20 = .ok (.iastore, 1) := dk_79 (dk_at dksX8_seed_0 20 rfl rfl)
theorem dX8_seed_21 : decode cX8_seed 21 = .ok (.iload_n 2, 1) := dk_28 (dk_at dksX8_seed_0 21 rfl rfl)
theorem dX8_seed_22 : decode cX8_seed 22 = .ok (.ireturn, 1) := dk_172 (dk_at dksX8_seed_0 22 rfl rfl)
abbrev cX8_count : ByteArray := prog_18_method_134_code
def yX8_count : MethodName := ⟨RX8, "count", "(I)I"⟩
def dkwX8_count_6 : List UInt8 := [167, 0, 4, 2, 172]
abbrev dktX8_count_6 : List UInt8 := dkwX8_count_6 ++ []
def dkwX8_count_5 : List UInt8 := [172, 42, 180, 0, 64, 172, 27, 8, 16, 10, 184, 0, 78, 153, 0, 12, 42, 180, 0, 13, 27, 46]
abbrev dktX8_count_5 : List UInt8 := dkwX8_count_5 ++ dktX8_count_6
def dkwX8_count_4 : List UInt8 := [182, 1, 206, 172, 42, 182, 1, 209, 153, 0, 7, 4, 167, 0, 4, 3, 172, 42, 180, 0, 13, 16, 11, 46]
abbrev dktX8_count_4 : List UInt8 := dkwX8_count_4 ++ dktX8_count_5
def dkwX8_count_3 : List UInt8 := [180, 0, 13, 7, 46, 4, 160, 0, 14, 42, 180, 0, 13, 17, 1, 226, 46, 167, 0, 4, 2, 172, 42]
abbrev dktX8_count_3 : List UInt8 := dkwX8_count_3 ++ dktX8_count_4
def dkwX8_count_2 : List UInt8 := [42, 182, 0, 74, 172, 42, 182, 0, 82, 172, 42, 182, 0, 85, 172, 42, 180, 0, 13, 6, 46, 172, 42]
abbrev dktX8_count_2 : List UInt8 := dkwX8_count_2 ++ dktX8_count_3
def dkwX8_count_1 : List UInt8 := [170, 0, 0, 0, 0, 150, 0, 0, 0, 0, 0, 0, 0, 14, 0, 0, 0, 74, 0, 0, 0, 79, 0, 0, 0, 84, 0, 0, 0, 89, 0, 0, 0, 96, 0, 0, 0, 150, 0, 0, 0, 150, 0, 0, 0, 150, 0, 0, 0, 150, 0, 0, 0, 150, 0, 0, 0, 150, 0, 0, 0, 119, 0, 0, 0, 124, 0, 0, 0, 137, 0, 0, 0, 145]
abbrev dktX8_count_1 : List UInt8 := dkwX8_count_1 ++ dktX8_count_2
def dkwX8_count_0 : List UInt8 := [42, 3, 181, 0, 3, 27]
abbrev dktX8_count_0 : List UInt8 := dkwX8_count_0 ++ dktX8_count_1
theorem dksX8_count_0 : cX8_count.data.toList.drop 0 = dktX8_count_0 := by decide +kernel
theorem dksX8_count_1 : cX8_count.data.toList.drop 6 = dktX8_count_1 := dk_seg dksX8_count_0 6 rfl rfl
theorem dksX8_count_2 : cX8_count.data.toList.drop 80 = dktX8_count_2 := dk_seg dksX8_count_1 74 rfl rfl
theorem dksX8_count_3 : cX8_count.data.toList.drop 103 = dktX8_count_3 := dk_seg dksX8_count_2 23 rfl rfl
theorem dksX8_count_4 : cX8_count.data.toList.drop 126 = dktX8_count_4 := dk_seg dksX8_count_3 23 rfl rfl
theorem dksX8_count_5 : cX8_count.data.toList.drop 150 = dktX8_count_5 := dk_seg dksX8_count_4 24 rfl rfl
theorem dksX8_count_6 : cX8_count.data.toList.drop 172 = dktX8_count_6 := dk_seg dksX8_count_5 22 rfl rfl
theorem dX8_count_0 : decode cX8_count 0 = .ok (.aload_n 0, 1) := dk_42 (dk_at dksX8_count_0 0 rfl rfl)
theorem dX8_count_1 : decode cX8_count 1 = .ok (.iconst 0, 1) := dk_3 (dk_at dksX8_count_0 1 rfl rfl)
theorem dX8_count_2 : decode cX8_count 2 = .ok (.putfield 3, 3) := dk_181 0 3 (dk_at dksX8_count_0 2 rfl rfl)
theorem dX8_count_5 : decode cX8_count 5 = .ok (.iload_n 1, 1) := dk_27 (dk_at dksX8_count_0 5 rfl rfl)
theorem dX8_count_6 : decode cX8_count 6 = .ok (.tableswitch 150 0 14 #[74, 79, 84, 89, 96, 150, 150, 150, 150, 150, 150, 119, 124, 137, 145], 74) := by decide +kernel
theorem dX8_count_80 : decode cX8_count 80 = .ok (.aload_n 0, 1) := dk_42 (dk_at dksX8_count_2 0 rfl rfl)
theorem dX8_count_81 : decode cX8_count 81 = .ok (.invokevirtual 74, 3) := dk_182 0 74 (dk_at dksX8_count_2 1 rfl rfl)
theorem dX8_count_84 : decode cX8_count 84 = .ok (.ireturn, 1) := dk_172 (dk_at dksX8_count_2 4 rfl rfl)
theorem dX8_count_85 : decode cX8_count 85 = .ok (.aload_n 0, 1) := dk_42 (dk_at dksX8_count_2 5 rfl rfl)
theorem dX8_count_86 : decode cX8_count 86 = .ok (.invokevirtual 82, 3) := dk_182 0 82 (dk_at dksX8_count_2 6 rfl rfl)
theorem dX8_count_89 : decode cX8_count 89 = .ok (.ireturn, 1) := dk_172 (dk_at dksX8_count_2 9 rfl rfl)
theorem dX8_count_90 : decode cX8_count 90 = .ok (.aload_n 0, 1) := dk_42 (dk_at dksX8_count_2 10 rfl rfl)
theorem dX8_count_91 : decode cX8_count 91 = .ok (.invokevirtual 85, 3) := dk_182 0 85 (dk_at dksX8_count_2 11 rfl rfl)
theorem dX8_count_94 : decode cX8_count 94 = .ok (.ireturn, 1) := dk_172 (dk_at dksX8_count_2 14 rfl rfl)
theorem dX8_count_95 : decode cX8_count 95 = .ok (.aload_n 0, 1) := dk_42 (dk_at dksX8_count_2 15 rfl rfl)
theorem dX8_count_96 : decode cX8_count 96 = .ok (.getfield 13, 3) := dk_180 0 13 (dk_at dksX8_count_2 16 rfl rfl)
theorem dX8_count_99 : decode cX8_count 99 = .ok (.iconst 3, 1) := dk_6 (dk_at dksX8_count_2 19 rfl rfl)
theorem dX8_count_100 : decode cX8_count 100 = .ok (.iaload, 1) := dk_46 (dk_at dksX8_count_2 20 rfl rfl)
theorem dX8_count_101 : decode cX8_count 101 = .ok (.ireturn, 1) := dk_172 (dk_at dksX8_count_2 21 rfl rfl)
theorem dX8_count_102 : decode cX8_count 102 = .ok (.aload_n 0, 1) := dk_42 (dk_at dksX8_count_2 22 rfl rfl)
theorem dX8_count_103 : decode cX8_count 103 = .ok (.getfield 13, 3) := dk_180 0 13 (dk_at dksX8_count_3 0 rfl rfl)
theorem dX8_count_106 : decode cX8_count 106 = .ok (.iconst 4, 1) := dk_7 (dk_at dksX8_count_3 3 rfl rfl)
theorem dX8_count_107 : decode cX8_count 107 = .ok (.iaload, 1) := dk_46 (dk_at dksX8_count_3 4 rfl rfl)
theorem dX8_count_108 : decode cX8_count 108 = .ok (.iconst 1, 1) := dk_4 (dk_at dksX8_count_3 5 rfl rfl)
theorem dX8_count_109 : decode cX8_count 109 = .ok (.if_icmp .ne 14, 3) := dk_160 0 14 (dk_at dksX8_count_3 6 rfl rfl)
theorem dX8_count_112 : decode cX8_count 112 = .ok (.aload_n 0, 1) := dk_42 (dk_at dksX8_count_3 9 rfl rfl)
theorem dX8_count_113 : decode cX8_count 113 = .ok (.getfield 13, 3) := dk_180 0 13 (dk_at dksX8_count_3 10 rfl rfl)
theorem dX8_count_116 : decode cX8_count 116 = .ok (.sipush 482, 3) := dk_17 1 226 (dk_at dksX8_count_3 13 rfl rfl)
theorem dX8_count_119 : decode cX8_count 119 = .ok (.iaload, 1) := dk_46 (dk_at dksX8_count_3 16 rfl rfl)
theorem dX8_count_120 : decode cX8_count 120 = .ok (.goto 4, 3) := dk_167 0 4 (dk_at dksX8_count_3 17 rfl rfl)
theorem dX8_count_123 : decode cX8_count 123 = .ok (.iconst (-1), 1) := dk_2 (dk_at dksX8_count_3 20 rfl rfl)
theorem dX8_count_124 : decode cX8_count 124 = .ok (.ireturn, 1) := dk_172 (dk_at dksX8_count_3 21 rfl rfl)
theorem dX8_count_125 : decode cX8_count 125 = .ok (.aload_n 0, 1) := dk_42 (dk_at dksX8_count_3 22 rfl rfl)
theorem dX8_count_126 : decode cX8_count 126 = .ok (.invokevirtual 462, 3) := dk_182 1 206 (dk_at dksX8_count_4 0 rfl rfl)
theorem dX8_count_129 : decode cX8_count 129 = .ok (.ireturn, 1) := dk_172 (dk_at dksX8_count_4 3 rfl rfl)
theorem dX8_count_130 : decode cX8_count 130 = .ok (.aload_n 0, 1) := dk_42 (dk_at dksX8_count_4 4 rfl rfl)
theorem dX8_count_131 : decode cX8_count 131 = .ok (.invokevirtual 465, 3) := dk_182 1 209 (dk_at dksX8_count_4 5 rfl rfl)
theorem dX8_count_134 : decode cX8_count 134 = .ok (.ifCond .eq 7, 3) := dk_153 0 7 (dk_at dksX8_count_4 8 rfl rfl)
theorem dX8_count_137 : decode cX8_count 137 = .ok (.iconst 1, 1) := dk_4 (dk_at dksX8_count_4 11 rfl rfl)
theorem dX8_count_138 : decode cX8_count 138 = .ok (.goto 4, 3) := dk_167 0 4 (dk_at dksX8_count_4 12 rfl rfl)
theorem dX8_count_141 : decode cX8_count 141 = .ok (.iconst 0, 1) := dk_3 (dk_at dksX8_count_4 15 rfl rfl)
theorem dX8_count_142 : decode cX8_count 142 = .ok (.ireturn, 1) := dk_172 (dk_at dksX8_count_4 16 rfl rfl)
theorem dX8_count_143 : decode cX8_count 143 = .ok (.aload_n 0, 1) := dk_42 (dk_at dksX8_count_4 17 rfl rfl)
theorem dX8_count_144 : decode cX8_count 144 = .ok (.getfield 13, 3) := dk_180 0 13 (dk_at dksX8_count_4 18 rfl rfl)
theorem dX8_count_147 : decode cX8_count 147 = .ok (.bipush 11, 2) := dk_16 11 (dk_at dksX8_count_4 21 rfl rfl)
theorem dX8_count_149 : decode cX8_count 149 = .ok (.iaload, 1) := dk_46 (dk_at dksX8_count_4 23 rfl rfl)
theorem dX8_count_150 : decode cX8_count 150 = .ok (.ireturn, 1) := dk_172 (dk_at dksX8_count_5 0 rfl rfl)
theorem dX8_count_151 : decode cX8_count 151 = .ok (.aload_n 0, 1) := dk_42 (dk_at dksX8_count_5 1 rfl rfl)
theorem dX8_count_152 : decode cX8_count 152 = .ok (.getfield 64, 3) := dk_180 0 64 (dk_at dksX8_count_5 2 rfl rfl)
theorem dX8_count_155 : decode cX8_count 155 = .ok (.ireturn, 1) := dk_172 (dk_at dksX8_count_5 5 rfl rfl)
theorem dX8_count_156 : decode cX8_count 156 = .ok (.iload_n 1, 1) := dk_27 (dk_at dksX8_count_5 6 rfl rfl)
theorem dX8_count_157 : decode cX8_count 157 = .ok (.iconst 5, 1) := dk_8 (dk_at dksX8_count_5 7 rfl rfl)
theorem dX8_count_158 : decode cX8_count 158 = .ok (.bipush 10, 2) := dk_16 10 (dk_at dksX8_count_5 8 rfl rfl)
theorem dX8_count_160 : decode cX8_count 160 = .ok (.invokestatic 78, 3) := dk_184 0 78 (dk_at dksX8_count_5 10 rfl rfl)
theorem dX8_count_163 : decode cX8_count 163 = .ok (.ifCond .eq 12, 3) := dk_153 0 12 (dk_at dksX8_count_5 13 rfl rfl)
theorem dX8_count_166 : decode cX8_count 166 = .ok (.aload_n 0, 1) := dk_42 (dk_at dksX8_count_5 16 rfl rfl)
theorem dX8_count_167 : decode cX8_count 167 = .ok (.getfield 13, 3) := dk_180 0 13 (dk_at dksX8_count_5 17 rfl rfl)
theorem dX8_count_170 : decode cX8_count 170 = .ok (.iload_n 1, 1) := dk_27 (dk_at dksX8_count_5 20 rfl rfl)
theorem dX8_count_171 : decode cX8_count 171 = .ok (.iaload, 1) := dk_46 (dk_at dksX8_count_5 21 rfl rfl)
theorem dX8_count_172 : decode cX8_count 172 = .ok (.goto 4, 3) := dk_167 0 4 (dk_at dksX8_count_6 0 rfl rfl)
theorem dX8_count_175 : decode cX8_count 175 = .ok (.iconst (-1), 1) := dk_2 (dk_at dksX8_count_6 3 rfl rfl)
theorem dX8_count_176 : decode cX8_count 176 = .ok (.ireturn, 1) := dk_172 (dk_at dksX8_count_6 4 rfl rfl)
abbrev cX8_openOnes : ByteArray := prog_18_method_132_code
def yX8_openOnes : MethodName := ⟨RX8, "openOnes", "()I"⟩
def dkwX8_openOnes_1 : List UInt8 := [167, 0, 4, 3, 128, 60, 132, 2, 1, 167, 255, 227, 27, 172]
abbrev dktX8_openOnes_1 : List UInt8 := dkwX8_openOnes_1 ++ []
def dkwX8_openOnes_0 : List UInt8 := [3, 60, 3, 61, 28, 42, 182, 0, 85, 162, 0, 27, 27, 42, 28, 182, 1, 151, 153, 0, 9, 4, 28, 120]
abbrev dktX8_openOnes_0 : List UInt8 := dkwX8_openOnes_0 ++ dktX8_openOnes_1
theorem dksX8_openOnes_0 : cX8_openOnes.data.toList.drop 0 = dktX8_openOnes_0 := by decide +kernel
theorem dksX8_openOnes_1 : cX8_openOnes.data.toList.drop 24 = dktX8_openOnes_1 := dk_seg dksX8_openOnes_0 24 rfl rfl
theorem dX8_openOnes_0 : decode cX8_openOnes 0 = .ok (.iconst 0, 1) := dk_3 (dk_at dksX8_openOnes_0 0 rfl rfl)
theorem dX8_openOnes_1 : decode cX8_openOnes 1 = .ok (.istore_n 1, 1) := dk_60 (dk_at dksX8_openOnes_0 1 rfl rfl)
theorem dX8_openOnes_2 : decode cX8_openOnes 2 = .ok (.iconst 0, 1) := dk_3 (dk_at dksX8_openOnes_0 2 rfl rfl)
theorem dX8_openOnes_3 : decode cX8_openOnes 3 = .ok (.istore_n 2, 1) := dk_61 (dk_at dksX8_openOnes_0 3 rfl rfl)
theorem dX8_openOnes_4 : decode cX8_openOnes 4 = .ok (.iload_n 2, 1) := dk_28 (dk_at dksX8_openOnes_0 4 rfl rfl)
theorem dX8_openOnes_5 : decode cX8_openOnes 5 = .ok (.aload_n 0, 1) := dk_42 (dk_at dksX8_openOnes_0 5 rfl rfl)
theorem dX8_openOnes_6 : decode cX8_openOnes 6 = .ok (.invokevirtual 85, 3) := dk_182 0 85 (dk_at dksX8_openOnes_0 6 rfl rfl)
theorem dX8_openOnes_9 : decode cX8_openOnes 9 = .ok (.if_icmp .ge 27, 3) := dk_162 0 27 (dk_at dksX8_openOnes_0 9 rfl rfl)
theorem dX8_openOnes_12 : decode cX8_openOnes 12 = .ok (.iload_n 1, 1) := dk_27 (dk_at dksX8_openOnes_0 12 rfl rfl)
theorem dX8_openOnes_13 : decode cX8_openOnes 13 = .ok (.aload_n 0, 1) := dk_42 (dk_at dksX8_openOnes_0 13 rfl rfl)
theorem dX8_openOnes_14 : decode cX8_openOnes 14 = .ok (.iload_n 2, 1) := dk_28 (dk_at dksX8_openOnes_0 14 rfl rfl)
theorem dX8_openOnes_15 : decode cX8_openOnes 15 = .ok (.invokevirtual 407, 3) := dk_182 1 151 (dk_at dksX8_openOnes_0 15 rfl rfl)
theorem dX8_openOnes_18 : decode cX8_openOnes 18 = .ok (.ifCond .eq 9, 3) := dk_153 0 9 (dk_at dksX8_openOnes_0 18 rfl rfl)
theorem dX8_openOnes_21 : decode cX8_openOnes 21 = .ok (.iconst 1, 1) := dk_4 (dk_at dksX8_openOnes_0 21 rfl rfl)
theorem dX8_openOnes_22 : decode cX8_openOnes 22 = .ok (.iload_n 2, 1) := dk_28 (dk_at dksX8_openOnes_0 22 rfl rfl)
theorem dX8_openOnes_23 : decode cX8_openOnes 23 = .ok (.ishl, 1) := dk_120 (dk_at dksX8_openOnes_0 23 rfl rfl)
theorem dX8_openOnes_24 : decode cX8_openOnes 24 = .ok (.goto 4, 3) := dk_167 0 4 (dk_at dksX8_openOnes_1 0 rfl rfl)
theorem dX8_openOnes_27 : decode cX8_openOnes 27 = .ok (.iconst 0, 1) := dk_3 (dk_at dksX8_openOnes_1 3 rfl rfl)
theorem dX8_openOnes_28 : decode cX8_openOnes 28 = .ok (.ior, 1) := dk_128 (dk_at dksX8_openOnes_1 4 rfl rfl)
theorem dX8_openOnes_29 : decode cX8_openOnes 29 = .ok (.istore_n 1, 1) := dk_60 (dk_at dksX8_openOnes_1 5 rfl rfl)
theorem dX8_openOnes_30 : decode cX8_openOnes 30 = .ok (.iinc 2 1, 3) := dk_132 2 1 (dk_at dksX8_openOnes_1 6 rfl rfl)
theorem dX8_openOnes_33 : decode cX8_openOnes 33 = .ok (.goto (-29), 3) := dk_167 255 227 (dk_at dksX8_openOnes_1 9 rfl rfl)
theorem dX8_openOnes_36 : decode cX8_openOnes 36 = .ok (.iload_n 1, 1) := dk_27 (dk_at dksX8_openOnes_1 12 rfl rfl)
theorem dX8_openOnes_37 : decode cX8_openOnes 37 = .ok (.ireturn, 1) := dk_172 (dk_at dksX8_openOnes_1 13 rfl rfl)
abbrev cX8_isCalm : ByteArray := prog_18_method_133_code
def yX8_isCalm : MethodName := ⟨RX8, "isCalm", "()Z"⟩
def dkwX8_isCalm_1 : List UInt8 := [154, 0, 7, 4, 167, 0, 4, 3, 60, 132, 2, 1, 167, 255, 225, 27, 172]
abbrev dktX8_isCalm_1 : List UInt8 := dkwX8_isCalm_1 ++ []
def dkwX8_isCalm_0 : List UInt8 := [4, 60, 3, 61, 28, 16, 13, 162, 0, 31, 27, 153, 0, 19, 42, 180, 0, 13, 16, 13, 28, 96, 46]
abbrev dktX8_isCalm_0 : List UInt8 := dkwX8_isCalm_0 ++ dktX8_isCalm_1
theorem dksX8_isCalm_0 : cX8_isCalm.data.toList.drop 0 = dktX8_isCalm_0 := by decide +kernel
theorem dksX8_isCalm_1 : cX8_isCalm.data.toList.drop 23 = dktX8_isCalm_1 := dk_seg dksX8_isCalm_0 23 rfl rfl
theorem dX8_isCalm_0 : decode cX8_isCalm 0 = .ok (.iconst 1, 1) := dk_4 (dk_at dksX8_isCalm_0 0 rfl rfl)
theorem dX8_isCalm_1 : decode cX8_isCalm 1 = .ok (.istore_n 1, 1) := dk_60 (dk_at dksX8_isCalm_0 1 rfl rfl)
theorem dX8_isCalm_2 : decode cX8_isCalm 2 = .ok (.iconst 0, 1) := dk_3 (dk_at dksX8_isCalm_0 2 rfl rfl)
theorem dX8_isCalm_3 : decode cX8_isCalm 3 = .ok (.istore_n 2, 1) := dk_61 (dk_at dksX8_isCalm_0 3 rfl rfl)
theorem dX8_isCalm_4 : decode cX8_isCalm 4 = .ok (.iload_n 2, 1) := dk_28 (dk_at dksX8_isCalm_0 4 rfl rfl)
theorem dX8_isCalm_5 : decode cX8_isCalm 5 = .ok (.bipush 13, 2) := dk_16 13 (dk_at dksX8_isCalm_0 5 rfl rfl)
theorem dX8_isCalm_7 : decode cX8_isCalm 7 = .ok (.if_icmp .ge 31, 3) := dk_162 0 31 (dk_at dksX8_isCalm_0 7 rfl rfl)
theorem dX8_isCalm_10 : decode cX8_isCalm 10 = .ok (.iload_n 1, 1) := dk_27 (dk_at dksX8_isCalm_0 10 rfl rfl)
theorem dX8_isCalm_11 : decode cX8_isCalm 11 = .ok (.ifCond .eq 19, 3) := dk_153 0 19 (dk_at dksX8_isCalm_0 11 rfl rfl)
theorem dX8_isCalm_14 : decode cX8_isCalm 14 = .ok (.aload_n 0, 1) := dk_42 (dk_at dksX8_isCalm_0 14 rfl rfl)
theorem dX8_isCalm_15 : decode cX8_isCalm 15 = .ok (.getfield 13, 3) := dk_180 0 13 (dk_at dksX8_isCalm_0 15 rfl rfl)
theorem dX8_isCalm_18 : decode cX8_isCalm 18 = .ok (.bipush 13, 2) := dk_16 13 (dk_at dksX8_isCalm_0 18 rfl rfl)
theorem dX8_isCalm_20 : decode cX8_isCalm 20 = .ok (.iload_n 2, 1) := dk_28 (dk_at dksX8_isCalm_0 20 rfl rfl)
theorem dX8_isCalm_21 : decode cX8_isCalm 21 = .ok (.iadd, 1) := dk_96 (dk_at dksX8_isCalm_0 21 rfl rfl)
theorem dX8_isCalm_22 : decode cX8_isCalm 22 = .ok (.iaload, 1) := dk_46 (dk_at dksX8_isCalm_0 22 rfl rfl)
theorem dX8_isCalm_23 : decode cX8_isCalm 23 = .ok (.ifCond .ne 7, 3) := dk_154 0 7 (dk_at dksX8_isCalm_1 0 rfl rfl)
theorem dX8_isCalm_26 : decode cX8_isCalm 26 = .ok (.iconst 1, 1) := dk_4 (dk_at dksX8_isCalm_1 3 rfl rfl)
theorem dX8_isCalm_27 : decode cX8_isCalm 27 = .ok (.goto 4, 3) := dk_167 0 4 (dk_at dksX8_isCalm_1 4 rfl rfl)
theorem dX8_isCalm_30 : decode cX8_isCalm 30 = .ok (.iconst 0, 1) := dk_3 (dk_at dksX8_isCalm_1 7 rfl rfl)
theorem dX8_isCalm_31 : decode cX8_isCalm 31 = .ok (.istore_n 1, 1) := dk_60 (dk_at dksX8_isCalm_1 8 rfl rfl)
theorem dX8_isCalm_32 : decode cX8_isCalm 32 = .ok (.iinc 2 1, 3) := dk_132 2 1 (dk_at dksX8_isCalm_1 9 rfl rfl)
theorem dX8_isCalm_35 : decode cX8_isCalm 35 = .ok (.goto (-31), 3) := dk_167 255 225 (dk_at dksX8_isCalm_1 12 rfl rfl)
theorem dX8_isCalm_38 : decode cX8_isCalm 38 = .ok (.iload_n 1, 1) := dk_27 (dk_at dksX8_isCalm_1 15 rfl rfl)
theorem dX8_isCalm_39 : decode cX8_isCalm 39 = .ok (.ireturn, 1) := dk_172 (dk_at dksX8_isCalm_1 16 rfl rfl)
theorem q136 : (Jvm.Cond.initialized "FeatherYardModel") ∈ lw_all := lw_g (lw_at lw_m1 11 rfl) rfl
theorem q1455 : (Jvm.Cond.instanceMethod ({ cls := "FeatherYardModel", name := "thrown", desc := "()I" } : Jvm.MethodName)) ∈ lw_all := lw_g (lw_at lw_m6 130 rfl) rfl
theorem q1456 : (Jvm.Cond.selects "FeatherYardModel" ({ cls := "FeatherYardModel", name := "thrown", desc := "()I" } : Jvm.MethodName) ({ cls := "FeatherYardModel", name := "thrown", desc := "()I" } : Jvm.MethodName)) ∈ lw_all := lw_g (lw_at lw_m6 131 rfl) rfl
theorem q1457 : (Jvm.Cond.code ({ cls := "FeatherYardModel", name := "thrown", desc := "()I" } : Jvm.MethodName) prog_18_method_1_code (1 : Nat) (Option.some Jvm.ClassFile.FieldType.int)) ∈ lw_all := lw_g (lw_at lw_m6 132 rfl) rfl
theorem q1459 : (Jvm.Cond.instantiable "FeatherYardModel" (30 : Nat)) ∈ lw_all := lw_g (lw_at lw_m6 134 rfl) rfl
theorem q1461 : (Jvm.Cond.instanceMethod ({ cls := "FeatherYardModel", name := "<init>", desc := "()V" } : Jvm.MethodName)) ∈ lw_all := lw_g (lw_at lw_m6 136 rfl) rfl
theorem q1462 : (Jvm.Cond.code ({ cls := "FeatherYardModel", name := "<init>", desc := "()V" } : Jvm.MethodName) prog_18_method_5_code (1 : Nat) (Option.none : Option Jvm.ClassFile.FieldType)) ∈ lw_all := lw_g (lw_at lw_m6 137 rfl) rfl
theorem q1463 : (Jvm.Cond.methodLink "FeatherYardModel" (7 : Nat) ({ cls := "java/lang/Object", name := "<init>", desc := "()V" } : Jvm.MethodName)) ∈ lw_all := lw_g (lw_at lw_m6 138 rfl) rfl
theorem q1464 : (Jvm.Cond.fieldLink "FeatherYardModel" (3 : Nat) "FeatherYardModel" "thrown" "I") ∈ lw_all := lw_g (lw_at lw_m6 139 rfl) rfl
theorem q1465 : (Jvm.Cond.fieldLink "FeatherYardModel" (13 : Nat) "FeatherYardModel" "world" "[I") ∈ lw_all := lw_g (lw_at lw_m6 140 rfl) rfl
theorem q1466 : (Jvm.Cond.fieldLink "FeatherYardModel" (17 : Nat) "FeatherYardModel" "image" "[I") ∈ lw_all := lw_g (lw_at lw_m6 141 rfl) rfl
theorem q1467 : (Jvm.Cond.fieldLink "FeatherYardModel" (20 : Nat) "FeatherYardModel" "before" "[I") ∈ lw_all := lw_g (lw_at lw_m6 142 rfl) rfl
theorem q1468 : (Jvm.Cond.fieldLink "FeatherYardModel" (23 : Nat) "FeatherYardModel" "trial" "[I") ∈ lw_all := lw_g (lw_at lw_m6 143 rfl) rfl
theorem q1469 : (Jvm.Cond.fieldLink "FeatherYardModel" (26 : Nat) "FeatherYardModel" "acts" "[I") ∈ lw_all := lw_g (lw_at lw_m6 144 rfl) rfl
theorem q1470 : (Jvm.Cond.fieldLink "FeatherYardModel" (60 : Nat) "FeatherYardModel" "hasImage" "Z") ∈ lw_all := lw_g (lw_at lw_m6 145 rfl) rfl
theorem q1471 : (Jvm.Cond.fieldLink "FeatherYardModel" (64 : Nat) "FeatherYardModel" "remembered" "I") ∈ lw_all := lw_g (lw_at lw_m6 146 rfl) rfl
theorem q1472 : (Jvm.Cond.fieldLink "FeatherYardModel" (29 : Nat) "FeatherYardModel" "tape" "[B") ∈ lw_all := lw_g (lw_at lw_m6 147 rfl) rfl
theorem q1473 : (Jvm.Cond.fieldLink "FeatherYardModel" (89 : Nat) "FeatherYardModel" "taped" "I") ∈ lw_all := lw_g (lw_at lw_m6 148 rfl) rfl
theorem q1474 : (Jvm.Cond.fieldLink "FeatherYardModel" (92 : Nat) "FeatherYardModel" "point" "I") ∈ lw_all := lw_g (lw_at lw_m6 149 rfl) rfl
theorem q1475 : (Jvm.Cond.fieldLink "FeatherYardModel" (95 : Nat) "FeatherYardModel" "end" "I") ∈ lw_all := lw_g (lw_at lw_m6 150 rfl) rfl
theorem q1476 : (Jvm.Cond.fieldLink "FeatherYardModel" (102 : Nat) "FeatherYardModel" "begin" "I") ∈ lw_all := lw_g (lw_at lw_m6 151 rfl) rfl
theorem q1477 : (Jvm.Cond.fieldLink "FeatherYardModel" (215 : Nat) "FeatherYardModel" "deep" "I") ∈ lw_all := lw_g (lw_at lw_m6 152 rfl) rfl
theorem q1478 : (Jvm.Cond.fieldLink "FeatherYardModel" (33 : Nat) "FeatherYardModel" "faultAt" "I") ∈ lw_all := lw_g (lw_at lw_m6 153 rfl) rfl
theorem q1479 : (Jvm.Cond.fieldLink "FeatherYardModel" (36 : Nat) "FeatherYardModel" "five" "[I") ∈ lw_all := lw_g (lw_at lw_m6 154 rfl) rfl
theorem q1480 : (Jvm.Cond.fieldLink "FeatherYardModel" (191 : Nat) "FeatherYardModel" "steps" "I") ∈ lw_all := lw_g (lw_at lw_m6 155 rfl) rfl
theorem q1481 : (Jvm.Cond.fieldLink "FeatherYardModel" (39 : Nat) "FeatherYardModel" "value" "[I") ∈ lw_all := lw_g (lw_at lw_m6 156 rfl) rfl
theorem q1482 : (Jvm.Cond.fieldLink "FeatherYardModel" (268 : Nat) "FeatherYardModel" "its" "I") ∈ lw_all := lw_g (lw_at lw_m6 157 rfl) rfl
theorem q1483 : (Jvm.Cond.fieldLink "FeatherYardModel" (271 : Nat) "FeatherYardModel" "itsLevel" "I") ∈ lw_all := lw_g (lw_at lw_m6 158 rfl) rfl
theorem q1484 : (Jvm.Cond.fieldLink "FeatherYardModel" (274 : Nat) "FeatherYardModel" "itsColumn" "I") ∈ lw_all := lw_g (lw_at lw_m6 159 rfl) rfl
theorem q1485 : (Jvm.Cond.fieldLink "FeatherYardModel" (280 : Nat) "FeatherYardModel" "itsBreath" "I") ∈ lw_all := lw_g (lw_at lw_m6 160 rfl) rfl
theorem q1486 : (Jvm.Cond.fieldLink "FeatherYardModel" (42 : Nat) "FeatherYardModel" "here" "[I") ∈ lw_all := lw_g (lw_at lw_m6 161 rfl) rfl
theorem q1487 : (Jvm.Cond.fieldLink "FeatherYardModel" (45 : Nat) "FeatherYardModel" "then" "[I") ∈ lw_all := lw_g (lw_at lw_m6 162 rfl) rfl
theorem q1488 : (Jvm.Cond.fieldLink "FeatherYardModel" (48 : Nat) "FeatherYardModel" "landed" "[I") ∈ lw_all := lw_g (lw_at lw_m6 163 rfl) rfl
theorem q1489 : (Jvm.Cond.fieldLink "FeatherYardModel" (328 : Nat) "FeatherYardModel" "blown" "I") ∈ lw_all := lw_g (lw_at lw_m6 164 rfl) rfl
theorem q1490 : (Jvm.Cond.fieldLink "FeatherYardModel" (334 : Nat) "FeatherYardModel" "inAir" "I") ∈ lw_all := lw_g (lw_at lw_m6 165 rfl) rfl
theorem q1491 : (Jvm.Cond.fieldLink "FeatherYardModel" (51 : Nat) "FeatherYardModel" "fly" "[I") ∈ lw_all := lw_g (lw_at lw_m6 166 rfl) rfl
theorem q1492 : (Jvm.Cond.fieldLink "FeatherYardModel" (54 : Nat) "FeatherYardModel" "flier" "[I") ∈ lw_all := lw_g (lw_at lw_m6 167 rfl) rfl
theorem q1493 : (Jvm.Cond.fieldLink "FeatherYardModel" (57 : Nat) "FeatherYardModel" "goods" "[I") ∈ lw_all := lw_g (lw_at lw_m6 168 rfl) rfl
theorem q1494 : (Jvm.Cond.lays "FeatherYardModel" "FeatherYardModel" "thrown" "I") ∈ lw_all := lw_g (lw_at lw_m6 169 rfl) rfl
theorem q1495 : (Jvm.Cond.soleField "FeatherYardModel" "thrown") ∈ lw_all := lw_g (lw_at lw_m6 170 rfl) rfl
theorem q1496 : (Jvm.Cond.laysFinal "FeatherYardModel" "FeatherYardModel" "world" "[I") ∈ lw_all := lw_g (lw_at lw_m6 171 rfl) rfl
theorem q1497 : (Jvm.Cond.soleField "FeatherYardModel" "world") ∈ lw_all := lw_g (lw_at lw_m6 172 rfl) rfl
theorem q1498 : (Jvm.Cond.laysFinal "FeatherYardModel" "FeatherYardModel" "image" "[I") ∈ lw_all := lw_g (lw_at lw_m6 173 rfl) rfl
theorem q1499 : (Jvm.Cond.soleField "FeatherYardModel" "image") ∈ lw_all := lw_g (lw_at lw_m6 174 rfl) rfl
theorem q1500 : (Jvm.Cond.laysFinal "FeatherYardModel" "FeatherYardModel" "before" "[I") ∈ lw_all := lw_g (lw_at lw_m6 175 rfl) rfl
theorem q1501 : (Jvm.Cond.soleField "FeatherYardModel" "before") ∈ lw_all := lw_g (lw_at lw_m6 176 rfl) rfl
theorem q1502 : (Jvm.Cond.laysFinal "FeatherYardModel" "FeatherYardModel" "trial" "[I") ∈ lw_all := lw_g (lw_at lw_m6 177 rfl) rfl
theorem q1503 : (Jvm.Cond.soleField "FeatherYardModel" "trial") ∈ lw_all := lw_g (lw_at lw_m6 178 rfl) rfl
theorem q1504 : (Jvm.Cond.laysFinal "FeatherYardModel" "FeatherYardModel" "acts" "[I") ∈ lw_all := lw_g (lw_at lw_m6 179 rfl) rfl
theorem q1505 : (Jvm.Cond.soleField "FeatherYardModel" "acts") ∈ lw_all := lw_g (lw_at lw_m6 180 rfl) rfl
theorem q1506 : (Jvm.Cond.lays "FeatherYardModel" "FeatherYardModel" "hasImage" "Z") ∈ lw_all := lw_g (lw_at lw_m6 181 rfl) rfl
theorem q1507 : (Jvm.Cond.soleField "FeatherYardModel" "hasImage") ∈ lw_all := lw_g (lw_at lw_m6 182 rfl) rfl
theorem q1508 : (Jvm.Cond.lays "FeatherYardModel" "FeatherYardModel" "remembered" "I") ∈ lw_all := lw_g (lw_at lw_m6 183 rfl) rfl
theorem q1509 : (Jvm.Cond.soleField "FeatherYardModel" "remembered") ∈ lw_all := lw_g (lw_at lw_m6 184 rfl) rfl
theorem q1510 : (Jvm.Cond.laysFinal "FeatherYardModel" "FeatherYardModel" "tape" "[B") ∈ lw_all := lw_g (lw_at lw_m6 185 rfl) rfl
theorem q1511 : (Jvm.Cond.soleField "FeatherYardModel" "tape") ∈ lw_all := lw_g (lw_at lw_m6 186 rfl) rfl
theorem q1512 : (Jvm.Cond.lays "FeatherYardModel" "FeatherYardModel" "taped" "I") ∈ lw_all := lw_g (lw_at lw_m6 187 rfl) rfl
theorem q1513 : (Jvm.Cond.soleField "FeatherYardModel" "taped") ∈ lw_all := lw_g (lw_at lw_m6 188 rfl) rfl
theorem q1514 : (Jvm.Cond.lays "FeatherYardModel" "FeatherYardModel" "point" "I") ∈ lw_all := lw_g (lw_at lw_m6 189 rfl) rfl
theorem q1515 : (Jvm.Cond.soleField "FeatherYardModel" "point") ∈ lw_all := lw_g (lw_at lw_m6 190 rfl) rfl
theorem q1516 : (Jvm.Cond.lays "FeatherYardModel" "FeatherYardModel" "end" "I") ∈ lw_all := lw_g (lw_at lw_m6 191 rfl) rfl
theorem q1517 : (Jvm.Cond.soleField "FeatherYardModel" "end") ∈ lw_all := lw_g (lw_at lw_m6 192 rfl) rfl
theorem q1518 : (Jvm.Cond.lays "FeatherYardModel" "FeatherYardModel" "begin" "I") ∈ lw_all := lw_g (lw_at lw_m6 193 rfl) rfl
theorem q1519 : (Jvm.Cond.soleField "FeatherYardModel" "begin") ∈ lw_all := lw_g (lw_at lw_m6 194 rfl) rfl
theorem q1520 : (Jvm.Cond.lays "FeatherYardModel" "FeatherYardModel" "deep" "I") ∈ lw_all := lw_g (lw_at lw_m6 195 rfl) rfl
theorem q1521 : (Jvm.Cond.soleField "FeatherYardModel" "deep") ∈ lw_all := lw_g (lw_at lw_m6 196 rfl) rfl
theorem q1522 : (Jvm.Cond.lays "FeatherYardModel" "FeatherYardModel" "faultAt" "I") ∈ lw_all := lw_g (lw_at lw_m6 197 rfl) rfl
theorem q1523 : (Jvm.Cond.soleField "FeatherYardModel" "faultAt") ∈ lw_all := lw_g (lw_at lw_m6 198 rfl) rfl
theorem q1524 : (Jvm.Cond.laysFinal "FeatherYardModel" "FeatherYardModel" "five" "[I") ∈ lw_all := lw_g (lw_at lw_m6 199 rfl) rfl
theorem q1525 : (Jvm.Cond.soleField "FeatherYardModel" "five") ∈ lw_all := lw_g (lw_at lw_m6 200 rfl) rfl
theorem q1526 : (Jvm.Cond.lays "FeatherYardModel" "FeatherYardModel" "steps" "I") ∈ lw_all := lw_g (lw_at lw_m6 201 rfl) rfl
theorem q1527 : (Jvm.Cond.soleField "FeatherYardModel" "steps") ∈ lw_all := lw_g (lw_at lw_m6 202 rfl) rfl
theorem q1528 : (Jvm.Cond.laysFinal "FeatherYardModel" "FeatherYardModel" "value" "[I") ∈ lw_all := lw_g (lw_at lw_m6 203 rfl) rfl
theorem q1529 : (Jvm.Cond.soleField "FeatherYardModel" "value") ∈ lw_all := lw_g (lw_at lw_m6 204 rfl) rfl
theorem q1530 : (Jvm.Cond.lays "FeatherYardModel" "FeatherYardModel" "its" "I") ∈ lw_all := lw_g (lw_at lw_m6 205 rfl) rfl
theorem q1531 : (Jvm.Cond.soleField "FeatherYardModel" "its") ∈ lw_all := lw_g (lw_at lw_m6 206 rfl) rfl
theorem q1532 : (Jvm.Cond.lays "FeatherYardModel" "FeatherYardModel" "itsLevel" "I") ∈ lw_all := lw_g (lw_at lw_m6 207 rfl) rfl
theorem q1533 : (Jvm.Cond.soleField "FeatherYardModel" "itsLevel") ∈ lw_all := lw_g (lw_at lw_m6 208 rfl) rfl
theorem q1534 : (Jvm.Cond.lays "FeatherYardModel" "FeatherYardModel" "itsColumn" "I") ∈ lw_all := lw_g (lw_at lw_m6 209 rfl) rfl
theorem q1535 : (Jvm.Cond.soleField "FeatherYardModel" "itsColumn") ∈ lw_all := lw_g (lw_at lw_m6 210 rfl) rfl
theorem q1536 : (Jvm.Cond.lays "FeatherYardModel" "FeatherYardModel" "itsBreath" "I") ∈ lw_all := lw_g (lw_at lw_m6 211 rfl) rfl
theorem q1537 : (Jvm.Cond.soleField "FeatherYardModel" "itsBreath") ∈ lw_all := lw_g (lw_at lw_m6 212 rfl) rfl
theorem q1538 : (Jvm.Cond.laysFinal "FeatherYardModel" "FeatherYardModel" "here" "[I") ∈ lw_all := lw_g (lw_at lw_m6 213 rfl) rfl
theorem q1539 : (Jvm.Cond.soleField "FeatherYardModel" "here") ∈ lw_all := lw_g (lw_at lw_m6 214 rfl) rfl
theorem q1540 : (Jvm.Cond.laysFinal "FeatherYardModel" "FeatherYardModel" "then" "[I") ∈ lw_all := lw_g (lw_at lw_m6 215 rfl) rfl
theorem q1541 : (Jvm.Cond.soleField "FeatherYardModel" "then") ∈ lw_all := lw_g (lw_at lw_m6 216 rfl) rfl
theorem q1542 : (Jvm.Cond.laysFinal "FeatherYardModel" "FeatherYardModel" "landed" "[I") ∈ lw_all := lw_g (lw_at lw_m6 217 rfl) rfl
theorem q1543 : (Jvm.Cond.soleField "FeatherYardModel" "landed") ∈ lw_all := lw_g (lw_at lw_m6 218 rfl) rfl
theorem q1544 : (Jvm.Cond.lays "FeatherYardModel" "FeatherYardModel" "blown" "I") ∈ lw_all := lw_g (lw_at lw_m6 219 rfl) rfl
theorem q1545 : (Jvm.Cond.soleField "FeatherYardModel" "blown") ∈ lw_all := lw_g (lw_at lw_m6 220 rfl) rfl
theorem q1546 : (Jvm.Cond.lays "FeatherYardModel" "FeatherYardModel" "inAir" "I") ∈ lw_all := lw_g (lw_at lw_m6 221 rfl) rfl
theorem q1547 : (Jvm.Cond.soleField "FeatherYardModel" "inAir") ∈ lw_all := lw_g (lw_at lw_m6 222 rfl) rfl
theorem q1548 : (Jvm.Cond.laysFinal "FeatherYardModel" "FeatherYardModel" "fly" "[I") ∈ lw_all := lw_g (lw_at lw_m6 223 rfl) rfl
theorem q1549 : (Jvm.Cond.soleField "FeatherYardModel" "fly") ∈ lw_all := lw_g (lw_at lw_m6 224 rfl) rfl
theorem q1550 : (Jvm.Cond.laysFinal "FeatherYardModel" "FeatherYardModel" "flier" "[I") ∈ lw_all := lw_g (lw_at lw_m6 225 rfl) rfl
theorem q1551 : (Jvm.Cond.soleField "FeatherYardModel" "flier") ∈ lw_all := lw_g (lw_at lw_m6 226 rfl) rfl
theorem q1552 : (Jvm.Cond.laysFinal "FeatherYardModel" "FeatherYardModel" "goods" "[I") ∈ lw_all := lw_g (lw_at lw_m6 227 rfl) rfl
theorem q1553 : (Jvm.Cond.soleField "FeatherYardModel" "goods") ∈ lw_all := lw_g (lw_at lw_m6 228 rfl) rfl
theorem q1554 : (Jvm.Cond.superclass "FeatherYardModel" "java/lang/Object") ∈ lw_all := lw_g (lw_at lw_m6 229 rfl) rfl
theorem q1556 : (Jvm.Cond.instanceMethod ({ cls := "FeatherYardModel", name := "image", desc := "()V" } : Jvm.MethodName)) ∈ lw_all := lw_g (lw_at lw_m6 231 rfl) rfl
theorem q1557 : (Jvm.Cond.selects "FeatherYardModel" ({ cls := "FeatherYardModel", name := "image", desc := "()V" } : Jvm.MethodName) ({ cls := "FeatherYardModel", name := "image", desc := "()V" } : Jvm.MethodName)) ∈ lw_all := lw_g (lw_at lw_m6 232 rfl) rfl
theorem q1558 : (Jvm.Cond.code ({ cls := "FeatherYardModel", name := "image", desc := "()V" } : Jvm.MethodName) prog_18_method_6_code (2 : Nat) (Option.none : Option Jvm.ClassFile.FieldType)) ∈ lw_all := lw_g (lw_at lw_m6 233 rfl) rfl
theorem q1560 : (Jvm.Cond.instanceMethod ({ cls := "FeatherYardModel", name := "back", desc := "()Z" } : Jvm.MethodName)) ∈ lw_all := lw_g (lw_at lw_m6 235 rfl) rfl
theorem q1561 : (Jvm.Cond.selects "FeatherYardModel" ({ cls := "FeatherYardModel", name := "back", desc := "()Z" } : Jvm.MethodName) ({ cls := "FeatherYardModel", name := "back", desc := "()Z" } : Jvm.MethodName)) ∈ lw_all := lw_g (lw_at lw_m6 236 rfl) rfl
theorem q1562 : (Jvm.Cond.code ({ cls := "FeatherYardModel", name := "back", desc := "()Z" } : Jvm.MethodName) prog_18_method_7_code (2 : Nat) (Option.some Jvm.ClassFile.FieldType.boolean)) ∈ lw_all := lw_g (lw_at lw_m6 237 rfl) rfl
theorem q1564 : (Jvm.Cond.instanceMethod ({ cls := "FeatherYardModel", name := "undo", desc := "()Z" } : Jvm.MethodName)) ∈ lw_all := lw_g (lw_at lw_m6 239 rfl) rfl
theorem q1565 : (Jvm.Cond.selects "FeatherYardModel" ({ cls := "FeatherYardModel", name := "undo", desc := "()Z" } : Jvm.MethodName) ({ cls := "FeatherYardModel", name := "undo", desc := "()Z" } : Jvm.MethodName)) ∈ lw_all := lw_g (lw_at lw_m7 0 rfl) rfl
theorem q1566 : (Jvm.Cond.code ({ cls := "FeatherYardModel", name := "undo", desc := "()Z" } : Jvm.MethodName) prog_18_method_9_code (2 : Nat) (Option.some Jvm.ClassFile.FieldType.boolean)) ∈ lw_all := lw_g (lw_at lw_m7 1 rfl) rfl
theorem q1568 : (Jvm.Cond.instanceMethod ({ cls := "FeatherYardModel", name := "feed", desc := "(IIIII)I" } : Jvm.MethodName)) ∈ lw_all := lw_g (lw_at lw_m7 3 rfl) rfl
theorem q1569 : (Jvm.Cond.selects "FeatherYardModel" ({ cls := "FeatherYardModel", name := "feed", desc := "(IIIII)I" } : Jvm.MethodName) ({ cls := "FeatherYardModel", name := "feed", desc := "(IIIII)I" } : Jvm.MethodName)) ∈ lw_all := lw_g (lw_at lw_m7 4 rfl) rfl
theorem q1570 : (Jvm.Cond.code ({ cls := "FeatherYardModel", name := "feed", desc := "(IIIII)I" } : Jvm.MethodName) prog_18_method_24_code (7 : Nat) (Option.some Jvm.ClassFile.FieldType.int)) ∈ lw_all := lw_g (lw_at lw_m7 5 rfl) rfl
theorem q1572 : (Jvm.Cond.instanceMethod ({ cls := "FeatherYardModel", name := "end", desc := "(I)Z" } : Jvm.MethodName)) ∈ lw_all := lw_g (lw_at lw_m7 7 rfl) rfl
theorem q1573 : (Jvm.Cond.selects "FeatherYardModel" ({ cls := "FeatherYardModel", name := "end", desc := "(I)Z" } : Jvm.MethodName) ({ cls := "FeatherYardModel", name := "end", desc := "(I)Z" } : Jvm.MethodName)) ∈ lw_all := lw_g (lw_at lw_m7 8 rfl) rfl
theorem q1574 : (Jvm.Cond.code ({ cls := "FeatherYardModel", name := "end", desc := "(I)Z" } : Jvm.MethodName) prog_18_method_25_code (2 : Nat) (Option.some Jvm.ClassFile.FieldType.boolean)) ∈ lw_all := lw_g (lw_at lw_m7 9 rfl) rfl
theorem q1576 : (Jvm.Cond.instanceMethod ({ cls := "FeatherYardModel", name := "fault", desc := "()I" } : Jvm.MethodName)) ∈ lw_all := lw_g (lw_at lw_m7 11 rfl) rfl
theorem q1577 : (Jvm.Cond.selects "FeatherYardModel" ({ cls := "FeatherYardModel", name := "fault", desc := "()I" } : Jvm.MethodName) ({ cls := "FeatherYardModel", name := "fault", desc := "()I" } : Jvm.MethodName)) ∈ lw_all := lw_g (lw_at lw_m7 12 rfl) rfl
theorem q1578 : (Jvm.Cond.code ({ cls := "FeatherYardModel", name := "fault", desc := "()I" } : Jvm.MethodName) prog_18_method_34_code (1 : Nat) (Option.some Jvm.ClassFile.FieldType.int)) ∈ lw_all := lw_g (lw_at lw_m7 13 rfl) rfl
theorem q1580 : (Jvm.Cond.instanceMethod ({ cls := "FeatherYardModel", name := "court", desc := "()I" } : Jvm.MethodName)) ∈ lw_all := lw_g (lw_at lw_m7 15 rfl) rfl
theorem q1581 : (Jvm.Cond.selects "FeatherYardModel" ({ cls := "FeatherYardModel", name := "court", desc := "()I" } : Jvm.MethodName) ({ cls := "FeatherYardModel", name := "court", desc := "()I" } : Jvm.MethodName)) ∈ lw_all := lw_g (lw_at lw_m7 16 rfl) rfl
theorem q1582 : (Jvm.Cond.code ({ cls := "FeatherYardModel", name := "court", desc := "()I" } : Jvm.MethodName) prog_18_method_55_code (3 : Nat) (Option.some Jvm.ClassFile.FieldType.int)) ∈ lw_all := lw_g (lw_at lw_m7 17 rfl) rfl
theorem q1583 : (Jvm.Cond.methodLink "FeatherYardModel" (261 : Nat) ({ cls := "FeatherYardModel", name := "readAll", desc := "(Z)I" } : Jvm.MethodName)) ∈ lw_all := lw_g (lw_at lw_m7 18 rfl) rfl
theorem q1584 : (Jvm.Cond.privateMethod ({ cls := "FeatherYardModel", name := "readAll", desc := "(Z)I" } : Jvm.MethodName)) ∈ lw_tbl := lw_at lw_m7 19 rfl
theorem q1585 : (Jvm.Cond.instanceMethod ({ cls := "FeatherYardModel", name := "readAll", desc := "(Z)I" } : Jvm.MethodName)) ∈ lw_all := lw_g (lw_at lw_m7 20 rfl) rfl
theorem q1586 : (Jvm.Cond.code ({ cls := "FeatherYardModel", name := "readAll", desc := "(Z)I" } : Jvm.MethodName) prog_18_method_54_code (3 : Nat) (Option.some Jvm.ClassFile.FieldType.int)) ∈ lw_all := lw_g (lw_at lw_m7 21 rfl) rfl
theorem q1587 : (Jvm.Cond.methodLink "FeatherYardModel" (254 : Nat) ({ cls := "FeatherYardModel", name := "uses", desc := "()V" } : Jvm.MethodName)) ∈ lw_all := lw_g (lw_at lw_m7 22 rfl) rfl
theorem q1588 : (Jvm.Cond.privateMethod ({ cls := "FeatherYardModel", name := "uses", desc := "()V" } : Jvm.MethodName)) ∈ lw_tbl := lw_at lw_m7 23 rfl
theorem q1589 : (Jvm.Cond.instanceMethod ({ cls := "FeatherYardModel", name := "uses", desc := "()V" } : Jvm.MethodName)) ∈ lw_all := lw_g (lw_at lw_m7 24 rfl) rfl
theorem q1590 : (Jvm.Cond.code ({ cls := "FeatherYardModel", name := "uses", desc := "()V" } : Jvm.MethodName) prog_18_method_35_code (1 : Nat) (Option.none : Option Jvm.ClassFile.FieldType)) ∈ lw_all := lw_g (lw_at lw_m7 25 rfl) rfl
theorem q1591 : (Jvm.Cond.methodLink "FeatherYardModel" (105 : Nat) ({ cls := "FeatherYardModel", name := "blanks", desc := "()V" } : Jvm.MethodName)) ∈ lw_all := lw_g (lw_at lw_m7 26 rfl) rfl
theorem q1592 : (Jvm.Cond.privateMethod ({ cls := "FeatherYardModel", name := "blanks", desc := "()V" } : Jvm.MethodName)) ∈ lw_tbl := lw_at lw_m7 27 rfl
theorem q1593 : (Jvm.Cond.instanceMethod ({ cls := "FeatherYardModel", name := "blanks", desc := "()V" } : Jvm.MethodName)) ∈ lw_all := lw_g (lw_at lw_m7 28 rfl) rfl
theorem q1594 : (Jvm.Cond.code ({ cls := "FeatherYardModel", name := "blanks", desc := "()V" } : Jvm.MethodName) prog_18_method_27_code (1 : Nat) (Option.none : Option Jvm.ClassFile.FieldType)) ∈ lw_all := lw_g (lw_at lw_m7 29 rfl) rfl
theorem q1595 : (Jvm.Cond.methodLink "FeatherYardModel" (98 : Nat) ({ cls := "FeatherYardModel", name := "isAt", desc := "(II)Z" } : Jvm.MethodName)) ∈ lw_all := lw_g (lw_at lw_m7 30 rfl) rfl
theorem q1596 : (Jvm.Cond.privateMethod ({ cls := "FeatherYardModel", name := "isAt", desc := "(II)Z" } : Jvm.MethodName)) ∈ lw_tbl := lw_at lw_m7 31 rfl
theorem q1597 : (Jvm.Cond.instanceMethod ({ cls := "FeatherYardModel", name := "isAt", desc := "(II)Z" } : Jvm.MethodName)) ∈ lw_all := lw_g (lw_at lw_m7 32 rfl) rfl
theorem q1598 : (Jvm.Cond.code ({ cls := "FeatherYardModel", name := "isAt", desc := "(II)Z" } : Jvm.MethodName) prog_18_method_26_code (3 : Nat) (Option.some Jvm.ClassFile.FieldType.boolean)) ∈ lw_all := lw_g (lw_at lw_m7 33 rfl) rfl
theorem q1599 : (Jvm.Cond.methodLink "FeatherYardModel" (257 : Nat) ({ cls := "FeatherYardModel", name := "readLine", desc := "(ZI)Z" } : Jvm.MethodName)) ∈ lw_all := lw_g (lw_at lw_m7 34 rfl) rfl
theorem q1600 : (Jvm.Cond.privateMethod ({ cls := "FeatherYardModel", name := "readLine", desc := "(ZI)Z" } : Jvm.MethodName)) ∈ lw_tbl := lw_at lw_m7 35 rfl
theorem q1601 : (Jvm.Cond.instanceMethod ({ cls := "FeatherYardModel", name := "readLine", desc := "(ZI)Z" } : Jvm.MethodName)) ∈ lw_all := lw_g (lw_at lw_m7 36 rfl) rfl
theorem q1602 : (Jvm.Cond.code ({ cls := "FeatherYardModel", name := "readLine", desc := "(ZI)Z" } : Jvm.MethodName) prog_18_method_53_code (3 : Nat) (Option.some Jvm.ClassFile.FieldType.boolean)) ∈ lw_all := lw_g (lw_at lw_m7 37 rfl) rfl
theorem q1603 : (Jvm.Cond.methodLink "FeatherYardModel" (117 : Nat) ({ cls := "FeatherYardModel", name := "letters", desc := "()V" } : Jvm.MethodName)) ∈ lw_all := lw_g (lw_at lw_m7 38 rfl) rfl
theorem q1604 : (Jvm.Cond.privateMethod ({ cls := "FeatherYardModel", name := "letters", desc := "()V" } : Jvm.MethodName)) ∈ lw_tbl := lw_at lw_m7 39 rfl
theorem q1605 : (Jvm.Cond.instanceMethod ({ cls := "FeatherYardModel", name := "letters", desc := "()V" } : Jvm.MethodName)) ∈ lw_all := lw_g (lw_at lw_m7 40 rfl) rfl
theorem q1606 : (Jvm.Cond.code ({ cls := "FeatherYardModel", name := "letters", desc := "()V" } : Jvm.MethodName) prog_18_method_28_code (1 : Nat) (Option.none : Option Jvm.ClassFile.FieldType)) ∈ lw_all := lw_g (lw_at lw_m7 41 rfl) rfl
theorem q1607 : (Jvm.Cond.methodLink "FeatherYardModel" (248 : Nat) ({ cls := "FeatherYardModel", name := "readCourtLine", desc := "()Z" } : Jvm.MethodName)) ∈ lw_all := lw_g (lw_at lw_m7 42 rfl) rfl
theorem q1608 : (Jvm.Cond.privateMethod ({ cls := "FeatherYardModel", name := "readCourtLine", desc := "()Z" } : Jvm.MethodName)) ∈ lw_tbl := lw_at lw_m7 43 rfl
theorem q1609 : (Jvm.Cond.instanceMethod ({ cls := "FeatherYardModel", name := "readCourtLine", desc := "()Z" } : Jvm.MethodName)) ∈ lw_all := lw_g (lw_at lw_m7 44 rfl) rfl
theorem q1610 : (Jvm.Cond.code ({ cls := "FeatherYardModel", name := "readCourtLine", desc := "()Z" } : Jvm.MethodName) prog_18_method_44_code (1 : Nat) (Option.some Jvm.ClassFile.FieldType.boolean)) ∈ lw_all := lw_g (lw_at lw_m7 45 rfl) rfl
theorem q1611 : (Jvm.Cond.stringRef "FeatherYardModel" (156 : Nat) "bird") ∈ lw_tbl := lw_at lw_m7 46 rfl
theorem q1612 : (Jvm.Cond.methodLink "FeatherYardModel" (120 : Nat) ({ cls := "FeatherYardModel", name := "isWord", desc := "(Ljava/lang/String;)Z" } : Jvm.MethodName)) ∈ lw_all := lw_g (lw_at lw_m7 47 rfl) rfl
theorem q1613 : (Jvm.Cond.privateMethod ({ cls := "FeatherYardModel", name := "isWord", desc := "(Ljava/lang/String;)Z" } : Jvm.MethodName)) ∈ lw_tbl := lw_at lw_m7 48 rfl
theorem q1614 : (Jvm.Cond.instanceMethod ({ cls := "FeatherYardModel", name := "isWord", desc := "(Ljava/lang/String;)Z" } : Jvm.MethodName)) ∈ lw_all := lw_g (lw_at lw_m7 49 rfl) rfl
theorem q1615 : (Jvm.Cond.code ({ cls := "FeatherYardModel", name := "isWord", desc := "(Ljava/lang/String;)Z" } : Jvm.MethodName) prog_18_method_29_code (4 : Nat) (Option.some Jvm.ClassFile.FieldType.boolean)) ∈ lw_all := lw_g (lw_at lw_m7 50 rfl) rfl
theorem q1616 : (Jvm.Cond.methodLink "FeatherYardModel" (108 : Nat) ({ cls := "java/lang/String", name := "length", desc := "()I" } : Jvm.MethodName)) ∈ lw_all := lw_g (lw_at lw_m7 51 rfl) rfl
theorem q1617 : (Jvm.Cond.methodLink "FeatherYardModel" (113 : Nat) ({ cls := "java/lang/String", name := "charAt", desc := "(I)C" } : Jvm.MethodName)) ∈ lw_all := lw_g (lw_at lw_m7 52 rfl) rfl
theorem q1618 : (Jvm.Cond.methodLink "FeatherYardModel" (158 : Nat) ({ cls := "FeatherYardModel", name := "readBird", desc := "()Z" } : Jvm.MethodName)) ∈ lw_all := lw_g (lw_at lw_m7 53 rfl) rfl
theorem q1619 : (Jvm.Cond.privateMethod ({ cls := "FeatherYardModel", name := "readBird", desc := "()Z" } : Jvm.MethodName)) ∈ lw_tbl := lw_at lw_m7 54 rfl
theorem q1620 : (Jvm.Cond.instanceMethod ({ cls := "FeatherYardModel", name := "readBird", desc := "()Z" } : Jvm.MethodName)) ∈ lw_all := lw_g (lw_at lw_m7 55 rfl) rfl
theorem q1621 : (Jvm.Cond.code ({ cls := "FeatherYardModel", name := "readBird", desc := "()Z" } : Jvm.MethodName) prog_18_method_37_code (8 : Nat) (Option.some Jvm.ClassFile.FieldType.boolean)) ∈ lw_all := lw_g (lw_at lw_m7 56 rfl) rfl
theorem q1622 : (Jvm.Cond.methodLink "FeatherYardModel" (74 : Nat) ({ cls := "FeatherYardModel", name := "birds", desc := "()I" } : Jvm.MethodName)) ∈ lw_all := lw_g (lw_at lw_m7 57 rfl) rfl
theorem q1623 : (Jvm.Cond.privateMethod ({ cls := "FeatherYardModel", name := "birds", desc := "()I" } : Jvm.MethodName)) ∈ lw_tbl := lw_at lw_m7 58 rfl
theorem q1624 : (Jvm.Cond.instanceMethod ({ cls := "FeatherYardModel", name := "birds", desc := "()I" } : Jvm.MethodName)) ∈ lw_all := lw_g (lw_at lw_m7 59 rfl) rfl
theorem q1625 : (Jvm.Cond.code ({ cls := "FeatherYardModel", name := "birds", desc := "()I" } : Jvm.MethodName) prog_18_method_10_code (1 : Nat) (Option.some Jvm.ClassFile.FieldType.int)) ∈ lw_all := lw_g (lw_at lw_m7 60 rfl) rfl
theorem q1626 : (Jvm.Cond.stringRef "FeatherYardModel" (130 : Nat) "falls") ∈ lw_tbl := lw_at lw_m7 61 rfl
theorem q1627 : (Jvm.Cond.methodLink "FeatherYardModel" (124 : Nat) ({ cls := "FeatherYardModel", name := "number", desc := "(II)I" } : Jvm.MethodName)) ∈ lw_all := lw_g (lw_at lw_m7 62 rfl) rfl
theorem q1628 : (Jvm.Cond.privateMethod ({ cls := "FeatherYardModel", name := "number", desc := "(II)I" } : Jvm.MethodName)) ∈ lw_tbl := lw_at lw_m7 63 rfl
theorem q1629 : (Jvm.Cond.instanceMethod ({ cls := "FeatherYardModel", name := "number", desc := "(II)I" } : Jvm.MethodName)) ∈ lw_all := lw_g (lw_at lw_m7 64 rfl) rfl
theorem q1630 : (Jvm.Cond.code ({ cls := "FeatherYardModel", name := "number", desc := "(II)I" } : Jvm.MethodName) prog_18_method_32_code (4 : Nat) (Option.some Jvm.ClassFile.FieldType.int)) ∈ lw_all := lw_g (lw_at lw_m7 65 rfl) rfl
theorem q1631 : (Jvm.Cond.stringRef "FeatherYardModel" (132 : Nat) "light") ∈ lw_tbl := lw_at lw_m7 66 rfl
theorem q1632 : (Jvm.Cond.methodLink "FeatherYardModel" (134 : Nat) ({ cls := "FeatherYardModel", name := "after", desc := "(Ljava/lang/String;II)I" } : Jvm.MethodName)) ∈ lw_all := lw_g (lw_at lw_m7 67 rfl) rfl
theorem q1633 : (Jvm.Cond.privateMethod ({ cls := "FeatherYardModel", name := "after", desc := "(Ljava/lang/String;II)I" } : Jvm.MethodName)) ∈ lw_tbl := lw_at lw_m7 68 rfl
theorem q1634 : (Jvm.Cond.instanceMethod ({ cls := "FeatherYardModel", name := "after", desc := "(Ljava/lang/String;II)I" } : Jvm.MethodName)) ∈ lw_all := lw_g (lw_at lw_m7 69 rfl) rfl
theorem q1635 : (Jvm.Cond.code ({ cls := "FeatherYardModel", name := "after", desc := "(Ljava/lang/String;II)I" } : Jvm.MethodName) prog_18_method_33_code (4 : Nat) (Option.some Jvm.ClassFile.FieldType.int)) ∈ lw_all := lw_g (lw_at lw_m7 70 rfl) rfl
theorem q1636 : (Jvm.Cond.stringRef "FeatherYardModel" (138 : Nat) "songs") ∈ lw_tbl := lw_at lw_m7 71 rfl
theorem q1637 : (Jvm.Cond.methodLink "FeatherYardModel" (140 : Nat) ({ cls := "FeatherYardModel", name := "lettersTold", desc := "(I)I" } : Jvm.MethodName)) ∈ lw_all := lw_g (lw_at lw_m7 72 rfl) rfl
theorem q1638 : (Jvm.Cond.privateMethod ({ cls := "FeatherYardModel", name := "lettersTold", desc := "(I)I" } : Jvm.MethodName)) ∈ lw_tbl := lw_at lw_m7 73 rfl
theorem q1639 : (Jvm.Cond.instanceMethod ({ cls := "FeatherYardModel", name := "lettersTold", desc := "(I)I" } : Jvm.MethodName)) ∈ lw_all := lw_g (lw_at lw_m7 74 rfl) rfl
theorem q1640 : (Jvm.Cond.code ({ cls := "FeatherYardModel", name := "lettersTold", desc := "(I)I" } : Jvm.MethodName) prog_18_method_36_code (6 : Nat) (Option.some Jvm.ClassFile.FieldType.int)) ∈ lw_all := lw_g (lw_at lw_m7 75 rfl) rfl
theorem q1641 : (Jvm.Cond.methodLink "FeatherYardModel" (78 : Nat) ({ cls := "FeatherYardModel", name := "in", desc := "(III)Z" } : Jvm.MethodName)) ∈ lw_all := lw_g (lw_at lw_m7 76 rfl) rfl
theorem q1642 : (Jvm.Cond.static ({ cls := "FeatherYardModel", name := "in", desc := "(III)Z" } : Jvm.MethodName)) ∈ lw_all := lw_g (lw_at lw_m7 77 rfl) rfl
theorem q1643 : (Jvm.Cond.code ({ cls := "FeatherYardModel", name := "in", desc := "(III)Z" } : Jvm.MethodName) prog_18_method_3_code (3 : Nat) (Option.some Jvm.ClassFile.FieldType.boolean)) ∈ lw_all := lw_g (lw_at lw_m7 78 rfl) rfl
theorem q1644 : (Jvm.Cond.methodLink "FeatherYardModel" (127 : Nat) ({ cls := "FeatherYardModel", name := "has", desc := "(II)Z" } : Jvm.MethodName)) ∈ lw_all := lw_g (lw_at lw_m7 79 rfl) rfl
theorem q1645 : (Jvm.Cond.static ({ cls := "FeatherYardModel", name := "has", desc := "(II)Z" } : Jvm.MethodName)) ∈ lw_all := lw_g (lw_at lw_m7 80 rfl) rfl
theorem q1646 : (Jvm.Cond.code ({ cls := "FeatherYardModel", name := "has", desc := "(II)Z" } : Jvm.MethodName) prog_18_method_4_code (2 : Nat) (Option.some Jvm.ClassFile.FieldType.boolean)) ∈ lw_all := lw_g (lw_at lw_m7 81 rfl) rfl
theorem q1647 : (Jvm.Cond.stringRef "FeatherYardModel" (144 : Nat) "moults") ∈ lw_tbl := lw_at lw_m7 82 rfl
theorem q1648 : (Jvm.Cond.methodLink "FeatherYardModel" (67 : Nat) ({ cls := "FeatherYardModel", name := "stockAt", desc := "(II)I" } : Jvm.MethodName)) ∈ lw_all := lw_g (lw_at lw_m7 83 rfl) rfl
theorem q1649 : (Jvm.Cond.static ({ cls := "FeatherYardModel", name := "stockAt", desc := "(II)I" } : Jvm.MethodName)) ∈ lw_all := lw_g (lw_at lw_m7 84 rfl) rfl
theorem q1650 : (Jvm.Cond.code ({ cls := "FeatherYardModel", name := "stockAt", desc := "(II)I" } : Jvm.MethodName) prog_18_method_14_code (2 : Nat) (Option.some Jvm.ClassFile.FieldType.int)) ∈ lw_all := lw_g (lw_at lw_m7 85 rfl) rfl
theorem q1651 : (Jvm.Cond.stringRef "FeatherYardModel" (162 : Nat) "counsel") ∈ lw_tbl := lw_at lw_m7 86 rfl
theorem q1652 : (Jvm.Cond.methodLink "FeatherYardModel" (163 : Nat) ({ cls := "FeatherYardModel", name := "readCounsel", desc := "()Z" } : Jvm.MethodName)) ∈ lw_all := lw_g (lw_at lw_m7 87 rfl) rfl
theorem q1653 : (Jvm.Cond.privateMethod ({ cls := "FeatherYardModel", name := "readCounsel", desc := "()Z" } : Jvm.MethodName)) ∈ lw_tbl := lw_at lw_m7 88 rfl
theorem q1654 : (Jvm.Cond.instanceMethod ({ cls := "FeatherYardModel", name := "readCounsel", desc := "()Z" } : Jvm.MethodName)) ∈ lw_all := lw_g (lw_at lw_m7 89 rfl) rfl
theorem q1655 : (Jvm.Cond.code ({ cls := "FeatherYardModel", name := "readCounsel", desc := "()Z" } : Jvm.MethodName) prog_18_method_38_code (3 : Nat) (Option.some Jvm.ClassFile.FieldType.boolean)) ∈ lw_all := lw_g (lw_at lw_m7 90 rfl) rfl
theorem q1656 : (Jvm.Cond.methodLink "FeatherYardModel" (82 : Nat) ({ cls := "FeatherYardModel", name := "counsel", desc := "()I" } : Jvm.MethodName)) ∈ lw_all := lw_g (lw_at lw_m7 91 rfl) rfl
theorem q1657 : (Jvm.Cond.privateMethod ({ cls := "FeatherYardModel", name := "counsel", desc := "()I" } : Jvm.MethodName)) ∈ lw_tbl := lw_at lw_m7 92 rfl
theorem q1658 : (Jvm.Cond.instanceMethod ({ cls := "FeatherYardModel", name := "counsel", desc := "()I" } : Jvm.MethodName)) ∈ lw_all := lw_g (lw_at lw_m7 93 rfl) rfl
theorem q1659 : (Jvm.Cond.code ({ cls := "FeatherYardModel", name := "counsel", desc := "()I" } : Jvm.MethodName) prog_18_method_11_code (1 : Nat) (Option.some Jvm.ClassFile.FieldType.int)) ∈ lw_all := lw_g (lw_at lw_m7 94 rfl) rfl
theorem q1660 : (Jvm.Cond.stringRef "FeatherYardModel" (166 : Nat) "case") ∈ lw_tbl := lw_at lw_m7 95 rfl
theorem q1661 : (Jvm.Cond.methodLink "FeatherYardModel" (168 : Nat) ({ cls := "FeatherYardModel", name := "readCase", desc := "()Z" } : Jvm.MethodName)) ∈ lw_all := lw_g (lw_at lw_m7 96 rfl) rfl
theorem q1662 : (Jvm.Cond.privateMethod ({ cls := "FeatherYardModel", name := "readCase", desc := "()Z" } : Jvm.MethodName)) ∈ lw_tbl := lw_at lw_m7 97 rfl
theorem q1663 : (Jvm.Cond.instanceMethod ({ cls := "FeatherYardModel", name := "readCase", desc := "()Z" } : Jvm.MethodName)) ∈ lw_all := lw_g (lw_at lw_m7 98 rfl) rfl
theorem q1664 : (Jvm.Cond.code ({ cls := "FeatherYardModel", name := "readCase", desc := "()Z" } : Jvm.MethodName) prog_18_method_39_code (5 : Nat) (Option.some Jvm.ClassFile.FieldType.boolean)) ∈ lw_all := lw_g (lw_at lw_m7 99 rfl) rfl
theorem q1665 : (Jvm.Cond.methodLink "FeatherYardModel" (85 : Nat) ({ cls := "FeatherYardModel", name := "cases", desc := "()I" } : Jvm.MethodName)) ∈ lw_all := lw_g (lw_at lw_m7 100 rfl) rfl
theorem q1666 : (Jvm.Cond.privateMethod ({ cls := "FeatherYardModel", name := "cases", desc := "()I" } : Jvm.MethodName)) ∈ lw_tbl := lw_at lw_m7 101 rfl
theorem q1667 : (Jvm.Cond.instanceMethod ({ cls := "FeatherYardModel", name := "cases", desc := "()I" } : Jvm.MethodName)) ∈ lw_all := lw_g (lw_at lw_m7 102 rfl) rfl
theorem q1668 : (Jvm.Cond.code ({ cls := "FeatherYardModel", name := "cases", desc := "()I" } : Jvm.MethodName) prog_18_method_12_code (1 : Nat) (Option.some Jvm.ClassFile.FieldType.int)) ∈ lw_all := lw_g (lw_at lw_m7 103 rfl) rfl
theorem q1669 : (Jvm.Cond.stringRef "FeatherYardModel" (146 : Nat) "present") ∈ lw_tbl := lw_at lw_m7 104 rfl
theorem q1670 : (Jvm.Cond.methodLink "FeatherYardModel" (71 : Nat) ({ cls := "FeatherYardModel", name := "caseAt", desc := "(II)I" } : Jvm.MethodName)) ∈ lw_all := lw_g (lw_at lw_m7 105 rfl) rfl
theorem q1671 : (Jvm.Cond.static ({ cls := "FeatherYardModel", name := "caseAt", desc := "(II)I" } : Jvm.MethodName)) ∈ lw_all := lw_g (lw_at lw_m7 106 rfl) rfl
theorem q1672 : (Jvm.Cond.code ({ cls := "FeatherYardModel", name := "caseAt", desc := "(II)I" } : Jvm.MethodName) prog_18_method_16_code (2 : Nat) (Option.some Jvm.ClassFile.FieldType.int)) ∈ lw_all := lw_g (lw_at lw_m7 107 rfl) rfl
theorem q1673 : (Jvm.Cond.stringRef "FeatherYardModel" (171 : Nat) "tower") ∈ lw_tbl := lw_at lw_m7 108 rfl
theorem q1674 : (Jvm.Cond.methodLink "FeatherYardModel" (173 : Nat) ({ cls := "FeatherYardModel", name := "readTower", desc := "()Z" } : Jvm.MethodName)) ∈ lw_all := lw_g (lw_at lw_m7 109 rfl) rfl
theorem q1675 : (Jvm.Cond.privateMethod ({ cls := "FeatherYardModel", name := "readTower", desc := "()Z" } : Jvm.MethodName)) ∈ lw_tbl := lw_at lw_m7 110 rfl
theorem q1676 : (Jvm.Cond.instanceMethod ({ cls := "FeatherYardModel", name := "readTower", desc := "()Z" } : Jvm.MethodName)) ∈ lw_all := lw_g (lw_at lw_m7 111 rfl) rfl
theorem q1677 : (Jvm.Cond.code ({ cls := "FeatherYardModel", name := "readTower", desc := "()Z" } : Jvm.MethodName) prog_18_method_40_code (3 : Nat) (Option.some Jvm.ClassFile.FieldType.boolean)) ∈ lw_all := lw_g (lw_at lw_m7 112 rfl) rfl
theorem q1678 : (Jvm.Cond.stringRef "FeatherYardModel" (148 : Nat) "top") ∈ lw_tbl := lw_at lw_m7 113 rfl
theorem q1679 : (Jvm.Cond.stringRef "FeatherYardModel" (176 : Nat) "yard") ∈ lw_tbl := lw_at lw_m7 114 rfl
theorem q1680 : (Jvm.Cond.methodLink "FeatherYardModel" (178 : Nat) ({ cls := "FeatherYardModel", name := "readYard", desc := "()Z" } : Jvm.MethodName)) ∈ lw_all := lw_g (lw_at lw_m7 115 rfl) rfl
theorem q1681 : (Jvm.Cond.privateMethod ({ cls := "FeatherYardModel", name := "readYard", desc := "()Z" } : Jvm.MethodName)) ∈ lw_tbl := lw_at lw_m7 116 rfl
theorem q1682 : (Jvm.Cond.instanceMethod ({ cls := "FeatherYardModel", name := "readYard", desc := "()Z" } : Jvm.MethodName)) ∈ lw_all := lw_g (lw_at lw_m7 117 rfl) rfl
theorem q1683 : (Jvm.Cond.code ({ cls := "FeatherYardModel", name := "readYard", desc := "()Z" } : Jvm.MethodName) prog_18_method_41_code (3 : Nat) (Option.some Jvm.ClassFile.FieldType.boolean)) ∈ lw_all := lw_g (lw_at lw_m7 118 rfl) rfl
theorem q1684 : (Jvm.Cond.stringRef "FeatherYardModel" (150 : Nat) "to") ∈ lw_tbl := lw_at lw_m7 119 rfl
theorem q1685 : (Jvm.Cond.stringRef "FeatherYardModel" (181 : Nat) "wind") ∈ lw_tbl := lw_at lw_m7 120 rfl
theorem q1686 : (Jvm.Cond.methodLink "FeatherYardModel" (183 : Nat) ({ cls := "FeatherYardModel", name := "readWind", desc := "()Z" } : Jvm.MethodName)) ∈ lw_all := lw_g (lw_at lw_m7 121 rfl) rfl
theorem q1687 : (Jvm.Cond.privateMethod ({ cls := "FeatherYardModel", name := "readWind", desc := "()Z" } : Jvm.MethodName)) ∈ lw_tbl := lw_at lw_m7 122 rfl
theorem q1688 : (Jvm.Cond.instanceMethod ({ cls := "FeatherYardModel", name := "readWind", desc := "()Z" } : Jvm.MethodName)) ∈ lw_all := lw_g (lw_at lw_m7 123 rfl) rfl
theorem q1689 : (Jvm.Cond.code ({ cls := "FeatherYardModel", name := "readWind", desc := "()Z" } : Jvm.MethodName) prog_18_method_42_code (4 : Nat) (Option.some Jvm.ClassFile.FieldType.boolean)) ∈ lw_all := lw_g (lw_at lw_m7 124 rfl) rfl
theorem q1690 : (Jvm.Cond.stringRef "FeatherYardModel" (152 : Nat) "west") ∈ lw_tbl := lw_at lw_m7 125 rfl
theorem q1691 : (Jvm.Cond.stringRef "FeatherYardModel" (154 : Nat) "east") ∈ lw_tbl := lw_at lw_m7 126 rfl
theorem q1692 : (Jvm.Cond.stringRef "FeatherYardModel" (186 : Nat) "hour") ∈ lw_tbl := lw_at lw_m7 127 rfl
theorem q1693 : (Jvm.Cond.methodLink "FeatherYardModel" (188 : Nat) ({ cls := "FeatherYardModel", name := "readHour", desc := "()Z" } : Jvm.MethodName)) ∈ lw_all := lw_g (lw_at lw_m7 128 rfl) rfl
theorem q1694 : (Jvm.Cond.privateMethod ({ cls := "FeatherYardModel", name := "readHour", desc := "()Z" } : Jvm.MethodName)) ∈ lw_tbl := lw_at lw_m7 129 rfl
theorem q1695 : (Jvm.Cond.instanceMethod ({ cls := "FeatherYardModel", name := "readHour", desc := "()Z" } : Jvm.MethodName)) ∈ lw_all := lw_g (lw_at lw_m7 130 rfl) rfl
theorem q1696 : (Jvm.Cond.code ({ cls := "FeatherYardModel", name := "readHour", desc := "()Z" } : Jvm.MethodName) prog_18_method_43_code (2 : Nat) (Option.some Jvm.ClassFile.FieldType.boolean)) ∈ lw_all := lw_g (lw_at lw_m7 131 rfl) rfl
theorem q1697 : (Jvm.Cond.methodLink "FeatherYardModel" (251 : Nat) ({ cls := "FeatherYardModel", name := "readLawLine", desc := "(I)Z" } : Jvm.MethodName)) ∈ lw_all := lw_g (lw_at lw_m7 132 rfl) rfl
theorem q1698 : (Jvm.Cond.privateMethod ({ cls := "FeatherYardModel", name := "readLawLine", desc := "(I)Z" } : Jvm.MethodName)) ∈ lw_tbl := lw_at lw_m7 133 rfl
theorem q1699 : (Jvm.Cond.instanceMethod ({ cls := "FeatherYardModel", name := "readLawLine", desc := "(I)Z" } : Jvm.MethodName)) ∈ lw_all := lw_g (lw_at lw_m7 134 rfl) rfl
theorem q1700 : (Jvm.Cond.code ({ cls := "FeatherYardModel", name := "readLawLine", desc := "(I)Z" } : Jvm.MethodName) prog_18_method_52_code (3 : Nat) (Option.some Jvm.ClassFile.FieldType.boolean)) ∈ lw_all := lw_g (lw_at lw_m7 135 rfl) rfl
theorem q1701 : (Jvm.Cond.stringRef "FeatherYardModel" (242 : Nat) "drop") ∈ lw_tbl := lw_at lw_m7 136 rfl
theorem q1702 : (Jvm.Cond.stringRef "FeatherYardModel" (244 : Nat) "lift") ∈ lw_tbl := lw_at lw_m7 137 rfl
theorem q1703 : (Jvm.Cond.stringRef "FeatherYardModel" (246 : Nat) "if") ∈ lw_tbl := lw_at lw_m7 138 rfl
theorem q1704 : (Jvm.Cond.methodLink "FeatherYardModel" (223 : Nat) ({ cls := "FeatherYardModel", name := "passes", desc := "(Ljava/lang/String;)Z" } : Jvm.MethodName)) ∈ lw_all := lw_g (lw_at lw_m7 139 rfl) rfl
theorem q1705 : (Jvm.Cond.privateMethod ({ cls := "FeatherYardModel", name := "passes", desc := "(Ljava/lang/String;)Z" } : Jvm.MethodName)) ∈ lw_tbl := lw_at lw_m7 140 rfl
theorem q1706 : (Jvm.Cond.instanceMethod ({ cls := "FeatherYardModel", name := "passes", desc := "(Ljava/lang/String;)Z" } : Jvm.MethodName)) ∈ lw_all := lw_g (lw_at lw_m7 141 rfl) rfl
theorem q1707 : (Jvm.Cond.code ({ cls := "FeatherYardModel", name := "passes", desc := "(Ljava/lang/String;)Z" } : Jvm.MethodName) prog_18_method_30_code (2 : Nat) (Option.some Jvm.ClassFile.FieldType.boolean)) ∈ lw_all := lw_g (lw_at lw_m7 142 rfl) rfl
theorem q1708 : (Jvm.Cond.methodLink "FeatherYardModel" (218 : Nat) ({ cls := "FeatherYardModel", name := "readCond", desc := "()Z" } : Jvm.MethodName)) ∈ lw_all := lw_g (lw_at lw_m7 143 rfl) rfl
theorem q1709 : (Jvm.Cond.privateMethod ({ cls := "FeatherYardModel", name := "readCond", desc := "()Z" } : Jvm.MethodName)) ∈ lw_tbl := lw_at lw_m7 144 rfl
theorem q1710 : (Jvm.Cond.instanceMethod ({ cls := "FeatherYardModel", name := "readCond", desc := "()Z" } : Jvm.MethodName)) ∈ lw_all := lw_g (lw_at lw_m7 145 rfl) rfl
theorem q1711 : (Jvm.Cond.code ({ cls := "FeatherYardModel", name := "readCond", desc := "()Z" } : Jvm.MethodName) prog_18_method_51_code (1 : Nat) (Option.some Jvm.ClassFile.FieldType.boolean)) ∈ lw_all := lw_g (lw_at lw_m7 146 rfl) rfl
theorem q1712 : (Jvm.Cond.methodLink "FeatherYardModel" (237 : Nat) ({ cls := "FeatherYardModel", name := "readAllOf", desc := "()Z" } : Jvm.MethodName)) ∈ lw_all := lw_g (lw_at lw_m7 147 rfl) rfl
theorem q1713 : (Jvm.Cond.privateMethod ({ cls := "FeatherYardModel", name := "readAllOf", desc := "()Z" } : Jvm.MethodName)) ∈ lw_tbl := lw_at lw_m7 148 rfl
theorem q1714 : (Jvm.Cond.instanceMethod ({ cls := "FeatherYardModel", name := "readAllOf", desc := "()Z" } : Jvm.MethodName)) ∈ lw_all := lw_g (lw_at lw_m7 149 rfl) rfl
theorem q1715 : (Jvm.Cond.code ({ cls := "FeatherYardModel", name := "readAllOf", desc := "()Z" } : Jvm.MethodName) prog_18_method_50_code (1 : Nat) (Option.some Jvm.ClassFile.FieldType.boolean)) ∈ lw_all := lw_g (lw_at lw_m7 150 rfl) rfl
theorem q1716 : (Jvm.Cond.methodLink "FeatherYardModel" (226 : Nat) ({ cls := "FeatherYardModel", name := "readAtom", desc := "()Z" } : Jvm.MethodName)) ∈ lw_all := lw_g (lw_at lw_m7 151 rfl) rfl
theorem q1717 : (Jvm.Cond.privateMethod ({ cls := "FeatherYardModel", name := "readAtom", desc := "()Z" } : Jvm.MethodName)) ∈ lw_tbl := lw_at lw_m7 152 rfl
theorem q1718 : (Jvm.Cond.instanceMethod ({ cls := "FeatherYardModel", name := "readAtom", desc := "()Z" } : Jvm.MethodName)) ∈ lw_all := lw_g (lw_at lw_m7 153 rfl) rfl
theorem q1719 : (Jvm.Cond.code ({ cls := "FeatherYardModel", name := "readAtom", desc := "()Z" } : Jvm.MethodName) prog_18_method_49_code (2 : Nat) (Option.some Jvm.ClassFile.FieldType.boolean)) ∈ lw_all := lw_g (lw_at lw_m7 154 rfl) rfl
theorem q1720 : (Jvm.Cond.methodLink "FeatherYardModel" (207 : Nat) ({ cls := "FeatherYardModel", name := "sign", desc := "(I)Z" } : Jvm.MethodName)) ∈ lw_all := lw_g (lw_at lw_m7 155 rfl) rfl
theorem q1721 : (Jvm.Cond.privateMethod ({ cls := "FeatherYardModel", name := "sign", desc := "(I)Z" } : Jvm.MethodName)) ∈ lw_tbl := lw_at lw_m7 156 rfl
theorem q1722 : (Jvm.Cond.instanceMethod ({ cls := "FeatherYardModel", name := "sign", desc := "(I)Z" } : Jvm.MethodName)) ∈ lw_all := lw_g (lw_at lw_m7 157 rfl) rfl
theorem q1723 : (Jvm.Cond.code ({ cls := "FeatherYardModel", name := "sign", desc := "(I)Z" } : Jvm.MethodName) prog_18_method_31_code (2 : Nat) (Option.some Jvm.ClassFile.FieldType.boolean)) ∈ lw_all := lw_g (lw_at lw_m7 158 rfl) rfl
theorem q1724 : (Jvm.Cond.stringRef "FeatherYardModel" (221 : Nat) "not") ∈ lw_tbl := lw_at lw_m7 159 rfl
theorem q1725 : (Jvm.Cond.methodLink "FeatherYardModel" (194 : Nat) ({ cls := "FeatherYardModel", name := "emits", desc := "(II)V" } : Jvm.MethodName)) ∈ lw_all := lw_g (lw_at lw_m7 160 rfl) rfl
theorem q1726 : (Jvm.Cond.privateMethod ({ cls := "FeatherYardModel", name := "emits", desc := "(II)V" } : Jvm.MethodName)) ∈ lw_tbl := lw_at lw_m7 161 rfl
theorem q1727 : (Jvm.Cond.instanceMethod ({ cls := "FeatherYardModel", name := "emits", desc := "(II)V" } : Jvm.MethodName)) ∈ lw_all := lw_g (lw_at lw_m7 162 rfl) rfl
theorem q1728 : (Jvm.Cond.code ({ cls := "FeatherYardModel", name := "emits", desc := "(II)V" } : Jvm.MethodName) prog_18_method_45_code (3 : Nat) (Option.none : Option Jvm.ClassFile.FieldType)) ∈ lw_all := lw_g (lw_at lw_m7 163 rfl) rfl
theorem q1729 : (Jvm.Cond.methodLink "FeatherYardModel" (229 : Nat) ({ cls := "FeatherYardModel", name := "readTag", desc := "()Z" } : Jvm.MethodName)) ∈ lw_all := lw_g (lw_at lw_m7 164 rfl) rfl
theorem q1730 : (Jvm.Cond.privateMethod ({ cls := "FeatherYardModel", name := "readTag", desc := "()Z" } : Jvm.MethodName)) ∈ lw_tbl := lw_at lw_m7 165 rfl
theorem q1731 : (Jvm.Cond.instanceMethod ({ cls := "FeatherYardModel", name := "readTag", desc := "()Z" } : Jvm.MethodName)) ∈ lw_all := lw_g (lw_at lw_m7 166 rfl) rfl
theorem q1732 : (Jvm.Cond.code ({ cls := "FeatherYardModel", name := "readTag", desc := "()Z" } : Jvm.MethodName) prog_18_method_48_code (2 : Nat) (Option.some Jvm.ClassFile.FieldType.boolean)) ∈ lw_all := lw_g (lw_at lw_m7 167 rfl) rfl
theorem q1733 : (Jvm.Cond.stringRef "FeatherYardModel" (211 : Nat) "high") ∈ lw_tbl := lw_at lw_m7 168 rfl
theorem q1734 : (Jvm.Cond.stringRef "FeatherYardModel" (213 : Nat) "over") ∈ lw_tbl := lw_at lw_m7 169 rfl
theorem q1735 : (Jvm.Cond.methodLink "FeatherYardModel" (232 : Nat) ({ cls := "FeatherYardModel", name := "readSum", desc := "()Z" } : Jvm.MethodName)) ∈ lw_all := lw_g (lw_at lw_m7 170 rfl) rfl
theorem q1736 : (Jvm.Cond.privateMethod ({ cls := "FeatherYardModel", name := "readSum", desc := "()Z" } : Jvm.MethodName)) ∈ lw_tbl := lw_at lw_m7 171 rfl
theorem q1737 : (Jvm.Cond.instanceMethod ({ cls := "FeatherYardModel", name := "readSum", desc := "()Z" } : Jvm.MethodName)) ∈ lw_all := lw_g (lw_at lw_m7 172 rfl) rfl
theorem q1738 : (Jvm.Cond.code ({ cls := "FeatherYardModel", name := "readSum", desc := "()Z" } : Jvm.MethodName) prog_18_method_47_code (1 : Nat) (Option.some Jvm.ClassFile.FieldType.boolean)) ∈ lw_all := lw_g (lw_at lw_m7 173 rfl) rfl
theorem q1739 : (Jvm.Cond.methodLink "FeatherYardModel" (204 : Nat) ({ cls := "FeatherYardModel", name := "readPart", desc := "()Z" } : Jvm.MethodName)) ∈ lw_all := lw_g (lw_at lw_m7 174 rfl) rfl
theorem q1740 : (Jvm.Cond.privateMethod ({ cls := "FeatherYardModel", name := "readPart", desc := "()Z" } : Jvm.MethodName)) ∈ lw_tbl := lw_at lw_m7 175 rfl
theorem q1741 : (Jvm.Cond.instanceMethod ({ cls := "FeatherYardModel", name := "readPart", desc := "()Z" } : Jvm.MethodName)) ∈ lw_all := lw_g (lw_at lw_m7 176 rfl) rfl
theorem q1742 : (Jvm.Cond.code ({ cls := "FeatherYardModel", name := "readPart", desc := "()Z" } : Jvm.MethodName) prog_18_method_46_code (2 : Nat) (Option.some Jvm.ClassFile.FieldType.boolean)) ∈ lw_all := lw_g (lw_at lw_m7 177 rfl) rfl
theorem q1743 : (Jvm.Cond.stringRef "FeatherYardModel" (198 : Nat) "level") ∈ lw_tbl := lw_at lw_m7 178 rfl
theorem q1744 : (Jvm.Cond.stringRef "FeatherYardModel" (200 : Nat) "column") ∈ lw_tbl := lw_at lw_m7 179 rfl
theorem q1745 : (Jvm.Cond.stringRef "FeatherYardModel" (202 : Nat) "breath") ∈ lw_tbl := lw_at lw_m7 180 rfl
theorem q1746 : (Jvm.Cond.stringRef "FeatherYardModel" (235 : Nat) "and") ∈ lw_tbl := lw_at lw_m7 181 rfl
theorem q1747 : (Jvm.Cond.stringRef "FeatherYardModel" (240 : Nat) "or") ∈ lw_tbl := lw_at lw_m7 182 rfl
theorem q1748 : (Jvm.Cond.methodLink "FeatherYardModel" (265 : Nat) ({ cls := "FeatherYardModel", name := "throwsIf", desc := "(ZI)Z" } : Jvm.MethodName)) ∈ lw_all := lw_g (lw_at lw_m7 183 rfl) rfl
theorem q1749 : (Jvm.Cond.privateMethod ({ cls := "FeatherYardModel", name := "throwsIf", desc := "(ZI)Z" } : Jvm.MethodName)) ∈ lw_tbl := lw_at lw_m7 184 rfl
theorem q1750 : (Jvm.Cond.instanceMethod ({ cls := "FeatherYardModel", name := "throwsIf", desc := "(ZI)Z" } : Jvm.MethodName)) ∈ lw_all := lw_g (lw_at lw_m7 185 rfl) rfl
theorem q1751 : (Jvm.Cond.code ({ cls := "FeatherYardModel", name := "throwsIf", desc := "(ZI)Z" } : Jvm.MethodName) prog_18_method_2_code (3 : Nat) (Option.some Jvm.ClassFile.FieldType.boolean)) ∈ lw_all := lw_g (lw_at lw_m7 186 rfl) rfl
theorem q1753 : (Jvm.Cond.instanceMethod ({ cls := "FeatherYardModel", name := "law", desc := "()I" } : Jvm.MethodName)) ∈ lw_all := lw_g (lw_at lw_m7 188 rfl) rfl
theorem q1754 : (Jvm.Cond.selects "FeatherYardModel" ({ cls := "FeatherYardModel", name := "law", desc := "()I" } : Jvm.MethodName) ({ cls := "FeatherYardModel", name := "law", desc := "()I" } : Jvm.MethodName)) ∈ lw_all := lw_g (lw_at lw_m7 189 rfl) rfl
theorem q1755 : (Jvm.Cond.code ({ cls := "FeatherYardModel", name := "law", desc := "()I" } : Jvm.MethodName) prog_18_method_56_code (3 : Nat) (Option.some Jvm.ClassFile.FieldType.int)) ∈ lw_all := lw_g (lw_at lw_m7 190 rfl) rfl
theorem q1757 : (Jvm.Cond.instanceMethod ({ cls := "FeatherYardModel", name := "moves", desc := "(IIIIZ)I" } : Jvm.MethodName)) ∈ lw_all := lw_g (lw_at lw_m7 192 rfl) rfl
theorem q1758 : (Jvm.Cond.selects "FeatherYardModel" ({ cls := "FeatherYardModel", name := "moves", desc := "(IIIIZ)I" } : Jvm.MethodName) ({ cls := "FeatherYardModel", name := "moves", desc := "(IIIIZ)I" } : Jvm.MethodName)) ∈ lw_all := lw_g (lw_at lw_m7 193 rfl) rfl
theorem q1759 : (Jvm.Cond.code ({ cls := "FeatherYardModel", name := "moves", desc := "(IIIIZ)I" } : Jvm.MethodName) prog_18_method_65_code (6 : Nat) (Option.some Jvm.ClassFile.FieldType.int)) ∈ lw_all := lw_g (lw_at lw_m7 194 rfl) rfl
theorem q1760 : (Jvm.Cond.methodLink "FeatherYardModel" (303 : Nat) ({ cls := "FeatherYardModel", name := "noBird", desc := "(I)Z" } : Jvm.MethodName)) ∈ lw_all := lw_g (lw_at lw_m7 195 rfl) rfl
theorem q1761 : (Jvm.Cond.privateMethod ({ cls := "FeatherYardModel", name := "noBird", desc := "(I)Z" } : Jvm.MethodName)) ∈ lw_tbl := lw_at lw_m7 196 rfl
theorem q1762 : (Jvm.Cond.instanceMethod ({ cls := "FeatherYardModel", name := "noBird", desc := "(I)Z" } : Jvm.MethodName)) ∈ lw_all := lw_g (lw_at lw_m7 197 rfl) rfl
theorem q1763 : (Jvm.Cond.code ({ cls := "FeatherYardModel", name := "noBird", desc := "(I)Z" } : Jvm.MethodName) prog_18_method_18_code (2 : Nat) (Option.some Jvm.ClassFile.FieldType.boolean)) ∈ lw_all := lw_g (lw_at lw_m7 198 rfl) rfl
theorem q1764 : (Jvm.Cond.methodLink "FeatherYardModel" (306 : Nat) ({ cls := "FeatherYardModel", name := "noLevel", desc := "(I)Z" } : Jvm.MethodName)) ∈ lw_all := lw_g (lw_at lw_m7 199 rfl) rfl
theorem q1765 : (Jvm.Cond.static ({ cls := "FeatherYardModel", name := "noLevel", desc := "(I)Z" } : Jvm.MethodName)) ∈ lw_all := lw_g (lw_at lw_m7 200 rfl) rfl
theorem q1766 : (Jvm.Cond.code ({ cls := "FeatherYardModel", name := "noLevel", desc := "(I)Z" } : Jvm.MethodName) prog_18_method_21_code (1 : Nat) (Option.some Jvm.ClassFile.FieldType.boolean)) ∈ lw_all := lw_g (lw_at lw_m7 201 rfl) rfl
theorem q1767 : (Jvm.Cond.methodLink "FeatherYardModel" (309 : Nat) ({ cls := "FeatherYardModel", name := "noColumn", desc := "(I)Z" } : Jvm.MethodName)) ∈ lw_all := lw_g (lw_at lw_m7 202 rfl) rfl
theorem q1768 : (Jvm.Cond.static ({ cls := "FeatherYardModel", name := "noColumn", desc := "(I)Z" } : Jvm.MethodName)) ∈ lw_all := lw_g (lw_at lw_m7 203 rfl) rfl
theorem q1769 : (Jvm.Cond.code ({ cls := "FeatherYardModel", name := "noColumn", desc := "(I)Z" } : Jvm.MethodName) prog_18_method_22_code (1 : Nat) (Option.some Jvm.ClassFile.FieldType.boolean)) ∈ lw_all := lw_g (lw_at lw_m7 204 rfl) rfl
theorem q1770 : (Jvm.Cond.methodLink "FeatherYardModel" (312 : Nat) ({ cls := "FeatherYardModel", name := "looks", desc := "(IIII)V" } : Jvm.MethodName)) ∈ lw_all := lw_g (lw_at lw_m7 205 rfl) rfl
theorem q1771 : (Jvm.Cond.privateMethod ({ cls := "FeatherYardModel", name := "looks", desc := "(IIII)V" } : Jvm.MethodName)) ∈ lw_tbl := lw_at lw_m7 206 rfl
theorem q1772 : (Jvm.Cond.instanceMethod ({ cls := "FeatherYardModel", name := "looks", desc := "(IIII)V" } : Jvm.MethodName)) ∈ lw_all := lw_g (lw_at lw_m7 207 rfl) rfl
theorem q1773 : (Jvm.Cond.code ({ cls := "FeatherYardModel", name := "looks", desc := "(IIII)V" } : Jvm.MethodName) prog_18_method_61_code (5 : Nat) (Option.none : Option Jvm.ClassFile.FieldType)) ∈ lw_all := lw_g (lw_at lw_m7 208 rfl) rfl
theorem q1774 : (Jvm.Cond.methodLink "FeatherYardModel" (316 : Nat) ({ cls := "FeatherYardModel", name := "carries", desc := "()I" } : Jvm.MethodName)) ∈ lw_all := lw_g (lw_at lw_m7 209 rfl) rfl
theorem q1775 : (Jvm.Cond.privateMethod ({ cls := "FeatherYardModel", name := "carries", desc := "()I" } : Jvm.MethodName)) ∈ lw_tbl := lw_at lw_m7 210 rfl
theorem q1776 : (Jvm.Cond.instanceMethod ({ cls := "FeatherYardModel", name := "carries", desc := "()I" } : Jvm.MethodName)) ∈ lw_all := lw_g (lw_at lw_m7 211 rfl) rfl
theorem q1777 : (Jvm.Cond.code ({ cls := "FeatherYardModel", name := "carries", desc := "()I" } : Jvm.MethodName) prog_18_method_63_code (1 : Nat) (Option.some Jvm.ClassFile.FieldType.int)) ∈ lw_all := lw_g (lw_at lw_m7 212 rfl) rfl
theorem q1778 : (Jvm.Cond.methodLink "FeatherYardModel" (277 : Nat) ({ cls := "FeatherYardModel", name := "ofBird", desc := "(II)I" } : Jvm.MethodName)) ∈ lw_all := lw_g (lw_at lw_m7 213 rfl) rfl
theorem q1779 : (Jvm.Cond.privateMethod ({ cls := "FeatherYardModel", name := "ofBird", desc := "(II)I" } : Jvm.MethodName)) ∈ lw_tbl := lw_at lw_m7 214 rfl
theorem q1780 : (Jvm.Cond.instanceMethod ({ cls := "FeatherYardModel", name := "ofBird", desc := "(II)I" } : Jvm.MethodName)) ∈ lw_all := lw_g (lw_at lw_m7 215 rfl) rfl
theorem q1781 : (Jvm.Cond.code ({ cls := "FeatherYardModel", name := "ofBird", desc := "(II)I" } : Jvm.MethodName) prog_18_method_13_code (3 : Nat) (Option.some Jvm.ClassFile.FieldType.int)) ∈ lw_all := lw_g (lw_at lw_m7 216 rfl) rfl
theorem q1782 : (Jvm.Cond.methodLink "FeatherYardModel" (292 : Nat) ({ cls := "FeatherYardModel", name := "sumOf", desc := "(I)I" } : Jvm.MethodName)) ∈ lw_all := lw_g (lw_at lw_m7 217 rfl) rfl
theorem q1783 : (Jvm.Cond.privateMethod ({ cls := "FeatherYardModel", name := "sumOf", desc := "(I)I" } : Jvm.MethodName)) ∈ lw_tbl := lw_at lw_m7 218 rfl
theorem q1784 : (Jvm.Cond.instanceMethod ({ cls := "FeatherYardModel", name := "sumOf", desc := "(I)I" } : Jvm.MethodName)) ∈ lw_all := lw_g (lw_at lw_m7 219 rfl) rfl
theorem q1785 : (Jvm.Cond.code ({ cls := "FeatherYardModel", name := "sumOf", desc := "(I)I" } : Jvm.MethodName) prog_18_method_60_code (4 : Nat) (Option.some Jvm.ClassFile.FieldType.int)) ∈ lw_all := lw_g (lw_at lw_m7 220 rfl) rfl
theorem q1786 : (Jvm.Cond.methodLink "FeatherYardModel" (289 : Nat) ({ cls := "FeatherYardModel", name := "holdsLine", desc := "(I)Z" } : Jvm.MethodName)) ∈ lw_all := lw_g (lw_at lw_m7 221 rfl) rfl
theorem q1787 : (Jvm.Cond.privateMethod ({ cls := "FeatherYardModel", name := "holdsLine", desc := "(I)Z" } : Jvm.MethodName)) ∈ lw_tbl := lw_at lw_m7 222 rfl
theorem q1788 : (Jvm.Cond.instanceMethod ({ cls := "FeatherYardModel", name := "holdsLine", desc := "(I)Z" } : Jvm.MethodName)) ∈ lw_all := lw_g (lw_at lw_m7 223 rfl) rfl
theorem q1789 : (Jvm.Cond.code ({ cls := "FeatherYardModel", name := "holdsLine", desc := "(I)Z" } : Jvm.MethodName) prog_18_method_59_code (9 : Nat) (Option.some Jvm.ClassFile.FieldType.boolean)) ∈ lw_all := lw_g (lw_at lw_m7 224 rfl) rfl
theorem q1790 : (Jvm.Cond.methodLink "FeatherYardModel" (286 : Nat) ({ cls := "FeatherYardModel", name := "factOf", desc := "(II)I" } : Jvm.MethodName)) ∈ lw_all := lw_g (lw_at lw_m7 225 rfl) rfl
theorem q1791 : (Jvm.Cond.privateMethod ({ cls := "FeatherYardModel", name := "factOf", desc := "(II)I" } : Jvm.MethodName)) ∈ lw_tbl := lw_at lw_m7 226 rfl
theorem q1792 : (Jvm.Cond.instanceMethod ({ cls := "FeatherYardModel", name := "factOf", desc := "(II)I" } : Jvm.MethodName)) ∈ lw_all := lw_g (lw_at lw_m7 227 rfl) rfl
theorem q1793 : (Jvm.Cond.code ({ cls := "FeatherYardModel", name := "factOf", desc := "(II)I" } : Jvm.MethodName) prog_18_method_58_code (3 : Nat) (Option.some Jvm.ClassFile.FieldType.int)) ∈ lw_all := lw_g (lw_at lw_m7 228 rfl) rfl
theorem q1794 : (Jvm.Cond.methodLink "FeatherYardModel" (283 : Nat) ({ cls := "FeatherYardModel", name := "isOver", desc := "(I)Z" } : Jvm.MethodName)) ∈ lw_all := lw_g (lw_at lw_m7 229 rfl) rfl
theorem q1795 : (Jvm.Cond.privateMethod ({ cls := "FeatherYardModel", name := "isOver", desc := "(I)Z" } : Jvm.MethodName)) ∈ lw_tbl := lw_at lw_m7 230 rfl
theorem q1796 : (Jvm.Cond.instanceMethod ({ cls := "FeatherYardModel", name := "isOver", desc := "(I)Z" } : Jvm.MethodName)) ∈ lw_all := lw_g (lw_at lw_m7 231 rfl) rfl
theorem q1797 : (Jvm.Cond.code ({ cls := "FeatherYardModel", name := "isOver", desc := "(I)Z" } : Jvm.MethodName) prog_18_method_57_code (2 : Nat) (Option.some Jvm.ClassFile.FieldType.boolean)) ∈ lw_all := lw_g (lw_at lw_m7 232 rfl) rfl
theorem q1798 : (Jvm.Cond.methodLink "FeatherYardModel" (319 : Nat) ({ cls := "FeatherYardModel", name := "sinks", desc := "()I" } : Jvm.MethodName)) ∈ lw_all := lw_g (lw_at lw_m7 233 rfl) rfl
theorem q1799 : (Jvm.Cond.privateMethod ({ cls := "FeatherYardModel", name := "sinks", desc := "()I" } : Jvm.MethodName)) ∈ lw_tbl := lw_at lw_m7 234 rfl
theorem q1800 : (Jvm.Cond.instanceMethod ({ cls := "FeatherYardModel", name := "sinks", desc := "()I" } : Jvm.MethodName)) ∈ lw_all := lw_g (lw_at lw_m7 235 rfl) rfl
theorem q1801 : (Jvm.Cond.code ({ cls := "FeatherYardModel", name := "sinks", desc := "()I" } : Jvm.MethodName) prog_18_method_62_code (2 : Nat) (Option.some Jvm.ClassFile.FieldType.int)) ∈ lw_all := lw_g (lw_at lw_m7 236 rfl) rfl
theorem q1802 : (Jvm.Cond.methodLink "FeatherYardModel" (295 : Nat) ({ cls := "java/lang/Math", name := "min", desc := "(II)I" } : Jvm.MethodName)) ∈ lw_all := lw_g (lw_at lw_m7 237 rfl) rfl
theorem q1803 : (Jvm.Cond.methodLink "FeatherYardModel" (300 : Nat) ({ cls := "java/lang/Math", name := "max", desc := "(II)I" } : Jvm.MethodName)) ∈ lw_all := lw_g (lw_at lw_m7 238 rfl) rfl
theorem q1805 : (Jvm.Cond.instanceMethod ({ cls := "FeatherYardModel", name := "ways", desc := "(II)I" } : Jvm.MethodName)) ∈ lw_all := lw_g (lw_at lw_m8 0 rfl) rfl
theorem q1806 : (Jvm.Cond.selects "FeatherYardModel" ({ cls := "FeatherYardModel", name := "ways", desc := "(II)I" } : Jvm.MethodName) ({ cls := "FeatherYardModel", name := "ways", desc := "(II)I" } : Jvm.MethodName)) ∈ lw_all := lw_g (lw_at lw_m8 1 rfl) rfl
theorem q1807 : (Jvm.Cond.code ({ cls := "FeatherYardModel", name := "ways", desc := "(II)I" } : Jvm.MethodName) prog_18_method_73_code (4 : Nat) (Option.some Jvm.ClassFile.FieldType.int)) ∈ lw_all := lw_g (lw_at lw_m8 2 rfl) rfl
theorem q1808 : (Jvm.Cond.methodLink "FeatherYardModel" (347 : Nat) ({ cls := "FeatherYardModel", name := "laysWays", desc := "(I)V" } : Jvm.MethodName)) ∈ lw_all := lw_g (lw_at lw_m8 3 rfl) rfl
theorem q1809 : (Jvm.Cond.privateMethod ({ cls := "FeatherYardModel", name := "laysWays", desc := "(I)V" } : Jvm.MethodName)) ∈ lw_tbl := lw_at lw_m8 4 rfl
theorem q1810 : (Jvm.Cond.instanceMethod ({ cls := "FeatherYardModel", name := "laysWays", desc := "(I)V" } : Jvm.MethodName)) ∈ lw_all := lw_g (lw_at lw_m8 5 rfl) rfl
theorem q1811 : (Jvm.Cond.code ({ cls := "FeatherYardModel", name := "laysWays", desc := "(I)V" } : Jvm.MethodName) prog_18_method_69_code (5 : Nat) (Option.none : Option Jvm.ClassFile.FieldType)) ∈ lw_all := lw_g (lw_at lw_m8 6 rfl) rfl
theorem q1812 : (Jvm.Cond.methodLink "FeatherYardModel" (322 : Nat) ({ cls := "FeatherYardModel", name := "at", desc := "(II)I" } : Jvm.MethodName)) ∈ lw_all := lw_g (lw_at lw_m8 7 rfl) rfl
theorem q1813 : (Jvm.Cond.static ({ cls := "FeatherYardModel", name := "at", desc := "(II)I" } : Jvm.MethodName)) ∈ lw_all := lw_g (lw_at lw_m8 8 rfl) rfl
theorem q1814 : (Jvm.Cond.code ({ cls := "FeatherYardModel", name := "at", desc := "(II)I" } : Jvm.MethodName) prog_18_method_66_code (2 : Nat) (Option.some Jvm.ClassFile.FieldType.int)) ∈ lw_all := lw_g (lw_at lw_m8 9 rfl) rfl
theorem q1815 : (Jvm.Cond.methodLink "FeatherYardModel" (337 : Nat) ({ cls := "FeatherYardModel", name := "goesOn", desc := "(III)V" } : Jvm.MethodName)) ∈ lw_all := lw_g (lw_at lw_m8 10 rfl) rfl
theorem q1816 : (Jvm.Cond.privateMethod ({ cls := "FeatherYardModel", name := "goesOn", desc := "(III)V" } : Jvm.MethodName)) ∈ lw_tbl := lw_at lw_m8 11 rfl
theorem q1817 : (Jvm.Cond.instanceMethod ({ cls := "FeatherYardModel", name := "goesOn", desc := "(III)V" } : Jvm.MethodName)) ∈ lw_all := lw_g (lw_at lw_m8 12 rfl) rfl
theorem q1818 : (Jvm.Cond.code ({ cls := "FeatherYardModel", name := "goesOn", desc := "(III)V" } : Jvm.MethodName) prog_18_method_68_code (9 : Nat) (Option.none : Option Jvm.ClassFile.FieldType)) ∈ lw_all := lw_g (lw_at lw_m8 13 rfl) rfl
theorem q1819 : (Jvm.Cond.methodLink "FeatherYardModel" (325 : Nat) ({ cls := "FeatherYardModel", name := "driftOf", desc := "(II)I" } : Jvm.MethodName)) ∈ lw_all := lw_g (lw_at lw_m8 14 rfl) rfl
theorem q1820 : (Jvm.Cond.privateMethod ({ cls := "FeatherYardModel", name := "driftOf", desc := "(II)I" } : Jvm.MethodName)) ∈ lw_tbl := lw_at lw_m8 15 rfl
theorem q1821 : (Jvm.Cond.instanceMethod ({ cls := "FeatherYardModel", name := "driftOf", desc := "(II)I" } : Jvm.MethodName)) ∈ lw_all := lw_g (lw_at lw_m8 16 rfl) rfl
theorem q1822 : (Jvm.Cond.code ({ cls := "FeatherYardModel", name := "driftOf", desc := "(II)I" } : Jvm.MethodName) prog_18_method_64_code (3 : Nat) (Option.some Jvm.ClassFile.FieldType.int)) ∈ lw_all := lw_g (lw_at lw_m8 17 rfl) rfl
theorem q1823 : (Jvm.Cond.methodLink "FeatherYardModel" (331 : Nat) ({ cls := "FeatherYardModel", name := "waysLeft", desc := "(I)I" } : Jvm.MethodName)) ∈ lw_all := lw_g (lw_at lw_m8 18 rfl) rfl
theorem q1824 : (Jvm.Cond.static ({ cls := "FeatherYardModel", name := "waysLeft", desc := "(I)I" } : Jvm.MethodName)) ∈ lw_all := lw_g (lw_at lw_m8 19 rfl) rfl
theorem q1825 : (Jvm.Cond.code ({ cls := "FeatherYardModel", name := "waysLeft", desc := "(I)I" } : Jvm.MethodName) prog_18_method_67_code (3 : Nat) (Option.some Jvm.ClassFile.FieldType.int)) ∈ lw_all := lw_g (lw_at lw_m8 20 rfl) rfl
theorem q1826 : (Jvm.Cond.methodLink "FeatherYardModel" (351 : Nat) ({ cls := "FeatherYardModel", name := "goodAll", desc := "()I" } : Jvm.MethodName)) ∈ lw_all := lw_g (lw_at lw_m8 21 rfl) rfl
theorem q1827 : (Jvm.Cond.privateMethod ({ cls := "FeatherYardModel", name := "goodAll", desc := "()I" } : Jvm.MethodName)) ∈ lw_tbl := lw_at lw_m8 22 rfl
theorem q1828 : (Jvm.Cond.instanceMethod ({ cls := "FeatherYardModel", name := "goodAll", desc := "()I" } : Jvm.MethodName)) ∈ lw_all := lw_g (lw_at lw_m8 23 rfl) rfl
theorem q1829 : (Jvm.Cond.code ({ cls := "FeatherYardModel", name := "goodAll", desc := "()I" } : Jvm.MethodName) prog_18_method_72_code (3 : Nat) (Option.some Jvm.ClassFile.FieldType.int)) ∈ lw_all := lw_g (lw_at lw_m8 24 rfl) rfl
theorem q1830 : (Jvm.Cond.methodLink "FeatherYardModel" (344 : Nat) ({ cls := "FeatherYardModel", name := "goodAt", desc := "(I)I" } : Jvm.MethodName)) ∈ lw_all := lw_g (lw_at lw_m8 25 rfl) rfl
theorem q1831 : (Jvm.Cond.privateMethod ({ cls := "FeatherYardModel", name := "goodAt", desc := "(I)I" } : Jvm.MethodName)) ∈ lw_tbl := lw_at lw_m8 26 rfl
theorem q1832 : (Jvm.Cond.instanceMethod ({ cls := "FeatherYardModel", name := "goodAt", desc := "(I)I" } : Jvm.MethodName)) ∈ lw_all := lw_g (lw_at lw_m8 27 rfl) rfl
theorem q1833 : (Jvm.Cond.code ({ cls := "FeatherYardModel", name := "goodAt", desc := "(I)I" } : Jvm.MethodName) prog_18_method_71_code (4 : Nat) (Option.some Jvm.ClassFile.FieldType.int)) ∈ lw_all := lw_g (lw_at lw_m8 28 rfl) rfl
theorem q1834 : (Jvm.Cond.methodLink "FeatherYardModel" (341 : Nat) ({ cls := "FeatherYardModel", name := "landedAt", desc := "(II)I" } : Jvm.MethodName)) ∈ lw_all := lw_g (lw_at lw_m8 29 rfl) rfl
theorem q1835 : (Jvm.Cond.privateMethod ({ cls := "FeatherYardModel", name := "landedAt", desc := "(II)I" } : Jvm.MethodName)) ∈ lw_tbl := lw_at lw_m8 30 rfl
theorem q1836 : (Jvm.Cond.instanceMethod ({ cls := "FeatherYardModel", name := "landedAt", desc := "(II)I" } : Jvm.MethodName)) ∈ lw_all := lw_g (lw_at lw_m8 31 rfl) rfl
theorem q1837 : (Jvm.Cond.code ({ cls := "FeatherYardModel", name := "landedAt", desc := "(II)I" } : Jvm.MethodName) prog_18_method_70_code (3 : Nat) (Option.some Jvm.ClassFile.FieldType.int)) ∈ lw_all := lw_g (lw_at lw_m8 32 rfl) rfl
theorem q1839 : (Jvm.Cond.instanceMethod ({ cls := "FeatherYardModel", name := "lands", desc := "(II)I" } : Jvm.MethodName)) ∈ lw_all := lw_g (lw_at lw_m8 34 rfl) rfl
theorem q1840 : (Jvm.Cond.selects "FeatherYardModel" ({ cls := "FeatherYardModel", name := "lands", desc := "(II)I" } : Jvm.MethodName) ({ cls := "FeatherYardModel", name := "lands", desc := "(II)I" } : Jvm.MethodName)) ∈ lw_all := lw_g (lw_at lw_m8 35 rfl) rfl
theorem q1841 : (Jvm.Cond.code ({ cls := "FeatherYardModel", name := "lands", desc := "(II)I" } : Jvm.MethodName) prog_18_method_74_code (5 : Nat) (Option.some Jvm.ClassFile.FieldType.int)) ∈ lw_all := lw_g (lw_at lw_m8 36 rfl) rfl
theorem q1843 : (Jvm.Cond.instanceMethod ({ cls := "FeatherYardModel", name := "good", desc := "(II)I" } : Jvm.MethodName)) ∈ lw_all := lw_g (lw_at lw_m8 38 rfl) rfl
theorem q1844 : (Jvm.Cond.selects "FeatherYardModel" ({ cls := "FeatherYardModel", name := "good", desc := "(II)I" } : Jvm.MethodName) ({ cls := "FeatherYardModel", name := "good", desc := "(II)I" } : Jvm.MethodName)) ∈ lw_all := lw_g (lw_at lw_m8 39 rfl) rfl
theorem q1845 : (Jvm.Cond.code ({ cls := "FeatherYardModel", name := "good", desc := "(II)I" } : Jvm.MethodName) prog_18_method_75_code (3 : Nat) (Option.some Jvm.ClassFile.FieldType.int)) ∈ lw_all := lw_g (lw_at lw_m8 40 rfl) rfl
theorem q1847 : (Jvm.Cond.instanceMethod ({ cls := "FeatherYardModel", name := "tell", desc := "(II)I" } : Jvm.MethodName)) ∈ lw_all := lw_g (lw_at lw_m8 42 rfl) rfl
theorem q1848 : (Jvm.Cond.selects "FeatherYardModel" ({ cls := "FeatherYardModel", name := "tell", desc := "(II)I" } : Jvm.MethodName) ({ cls := "FeatherYardModel", name := "tell", desc := "(II)I" } : Jvm.MethodName)) ∈ lw_all := lw_g (lw_at lw_m8 43 rfl) rfl
theorem q1849 : (Jvm.Cond.code ({ cls := "FeatherYardModel", name := "tell", desc := "(II)I" } : Jvm.MethodName) prog_18_method_76_code (5 : Nat) (Option.some Jvm.ClassFile.FieldType.int)) ∈ lw_all := lw_g (lw_at lw_m8 44 rfl) rfl
theorem q1851 : (Jvm.Cond.instanceMethod ({ cls := "FeatherYardModel", name := "widest", desc := "(I)I" } : Jvm.MethodName)) ∈ lw_all := lw_g (lw_at lw_m8 46 rfl) rfl
theorem q1852 : (Jvm.Cond.selects "FeatherYardModel" ({ cls := "FeatherYardModel", name := "widest", desc := "(I)I" } : Jvm.MethodName) ({ cls := "FeatherYardModel", name := "widest", desc := "(I)I" } : Jvm.MethodName)) ∈ lw_all := lw_g (lw_at lw_m8 47 rfl) rfl
theorem q1853 : (Jvm.Cond.code ({ cls := "FeatherYardModel", name := "widest", desc := "(I)I" } : Jvm.MethodName) prog_18_method_77_code (8 : Nat) (Option.some Jvm.ClassFile.FieldType.int)) ∈ lw_all := lw_g (lw_at lw_m8 48 rfl) rfl
theorem q1855 : (Jvm.Cond.instanceMethod ({ cls := "FeatherYardModel", name := "straight", desc := "(IZ)I" } : Jvm.MethodName)) ∈ lw_all := lw_g (lw_at lw_m8 50 rfl) rfl
theorem q1856 : (Jvm.Cond.selects "FeatherYardModel" ({ cls := "FeatherYardModel", name := "straight", desc := "(IZ)I" } : Jvm.MethodName) ({ cls := "FeatherYardModel", name := "straight", desc := "(IZ)I" } : Jvm.MethodName)) ∈ lw_all := lw_g (lw_at lw_m8 51 rfl) rfl
theorem q1857 : (Jvm.Cond.code ({ cls := "FeatherYardModel", name := "straight", desc := "(IZ)I" } : Jvm.MethodName) prog_18_method_82_code (4 : Nat) (Option.some Jvm.ClassFile.FieldType.int)) ∈ lw_all := lw_g (lw_at lw_m8 52 rfl) rfl
theorem q1858 : (Jvm.Cond.methodLink "FeatherYardModel" (354 : Nat) ({ cls := "FeatherYardModel", name := "begins", desc := "(II)V" } : Jvm.MethodName)) ∈ lw_all := lw_g (lw_at lw_m8 53 rfl) rfl
theorem q1859 : (Jvm.Cond.privateMethod ({ cls := "FeatherYardModel", name := "begins", desc := "(II)V" } : Jvm.MethodName)) ∈ lw_tbl := lw_at lw_m8 54 rfl
theorem q1860 : (Jvm.Cond.instanceMethod ({ cls := "FeatherYardModel", name := "begins", desc := "(II)V" } : Jvm.MethodName)) ∈ lw_all := lw_g (lw_at lw_m8 55 rfl) rfl
theorem q1861 : (Jvm.Cond.code ({ cls := "FeatherYardModel", name := "begins", desc := "(II)V" } : Jvm.MethodName) prog_18_method_78_code (3 : Nat) (Option.none : Option Jvm.ClassFile.FieldType)) ∈ lw_all := lw_g (lw_at lw_m8 56 rfl) rfl
theorem q1862 : (Jvm.Cond.methodLink "FeatherYardModel" (357 : Nat) ({ cls := "FeatherYardModel", name := "isFlying", desc := "(I)Z" } : Jvm.MethodName)) ∈ lw_all := lw_g (lw_at lw_m8 57 rfl) rfl
theorem q1863 : (Jvm.Cond.privateMethod ({ cls := "FeatherYardModel", name := "isFlying", desc := "(I)Z" } : Jvm.MethodName)) ∈ lw_tbl := lw_at lw_m8 58 rfl
theorem q1864 : (Jvm.Cond.instanceMethod ({ cls := "FeatherYardModel", name := "isFlying", desc := "(I)Z" } : Jvm.MethodName)) ∈ lw_all := lw_g (lw_at lw_m8 59 rfl) rfl
theorem q1865 : (Jvm.Cond.code ({ cls := "FeatherYardModel", name := "isFlying", desc := "(I)Z" } : Jvm.MethodName) prog_18_method_79_code (2 : Nat) (Option.some Jvm.ClassFile.FieldType.boolean)) ∈ lw_all := lw_g (lw_at lw_m8 60 rfl) rfl
theorem q1866 : (Jvm.Cond.methodLink "FeatherYardModel" (360 : Nat) ({ cls := "FeatherYardModel", name := "breathes", desc := "(III)V" } : Jvm.MethodName)) ∈ lw_all := lw_g (lw_at lw_m8 61 rfl) rfl
theorem q1867 : (Jvm.Cond.privateMethod ({ cls := "FeatherYardModel", name := "breathes", desc := "(III)V" } : Jvm.MethodName)) ∈ lw_tbl := lw_at lw_m8 62 rfl
theorem q1868 : (Jvm.Cond.instanceMethod ({ cls := "FeatherYardModel", name := "breathes", desc := "(III)V" } : Jvm.MethodName)) ∈ lw_all := lw_g (lw_at lw_m8 63 rfl) rfl
theorem q1869 : (Jvm.Cond.code ({ cls := "FeatherYardModel", name := "breathes", desc := "(III)V" } : Jvm.MethodName) prog_18_method_81_code (6 : Nat) (Option.none : Option Jvm.ClassFile.FieldType)) ∈ lw_all := lw_g (lw_at lw_m8 64 rfl) rfl
theorem q1871 : (Jvm.Cond.instanceMethod ({ cls := "FeatherYardModel", name := "odds", desc := "(III)I" } : Jvm.MethodName)) ∈ lw_all := lw_g (lw_at lw_m8 66 rfl) rfl
theorem q1872 : (Jvm.Cond.selects "FeatherYardModel" ({ cls := "FeatherYardModel", name := "odds", desc := "(III)I" } : Jvm.MethodName) ({ cls := "FeatherYardModel", name := "odds", desc := "(III)I" } : Jvm.MethodName)) ∈ lw_all := lw_g (lw_at lw_m8 67 rfl) rfl
theorem q1873 : (Jvm.Cond.code ({ cls := "FeatherYardModel", name := "odds", desc := "(III)I" } : Jvm.MethodName) prog_18_method_91_code (4 : Nat) (Option.some Jvm.ClassFile.FieldType.int)) ∈ lw_all := lw_g (lw_at lw_m8 68 rfl) rfl
theorem q1874 : (Jvm.Cond.methodLink "FeatherYardModel" (378 : Nat) ({ cls := "FeatherYardModel", name := "laysAllGoods", desc := "()V" } : Jvm.MethodName)) ∈ lw_all := lw_g (lw_at lw_m8 69 rfl) rfl
theorem q1875 : (Jvm.Cond.privateMethod ({ cls := "FeatherYardModel", name := "laysAllGoods", desc := "()V" } : Jvm.MethodName)) ∈ lw_tbl := lw_at lw_m8 70 rfl
theorem q1876 : (Jvm.Cond.instanceMethod ({ cls := "FeatherYardModel", name := "laysAllGoods", desc := "()V" } : Jvm.MethodName)) ∈ lw_all := lw_g (lw_at lw_m8 71 rfl) rfl
theorem q1877 : (Jvm.Cond.code ({ cls := "FeatherYardModel", name := "laysAllGoods", desc := "()V" } : Jvm.MethodName) prog_18_method_86_code (2 : Nat) (Option.none : Option Jvm.ClassFile.FieldType)) ∈ lw_all := lw_g (lw_at lw_m8 72 rfl) rfl
theorem q1878 : (Jvm.Cond.methodLink "FeatherYardModel" (369 : Nat) ({ cls := "FeatherYardModel", name := "laysGoods", desc := "(I)V" } : Jvm.MethodName)) ∈ lw_all := lw_g (lw_at lw_m8 73 rfl) rfl
theorem q1879 : (Jvm.Cond.privateMethod ({ cls := "FeatherYardModel", name := "laysGoods", desc := "(I)V" } : Jvm.MethodName)) ∈ lw_tbl := lw_at lw_m8 74 rfl
theorem q1880 : (Jvm.Cond.instanceMethod ({ cls := "FeatherYardModel", name := "laysGoods", desc := "(I)V" } : Jvm.MethodName)) ∈ lw_all := lw_g (lw_at lw_m8 75 rfl) rfl
theorem q1881 : (Jvm.Cond.code ({ cls := "FeatherYardModel", name := "laysGoods", desc := "(I)V" } : Jvm.MethodName) prog_18_method_85_code (3 : Nat) (Option.none : Option Jvm.ClassFile.FieldType)) ∈ lw_all := lw_g (lw_at lw_m8 76 rfl) rfl
theorem q1882 : (Jvm.Cond.methodLink "FeatherYardModel" (381 : Nat) ({ cls := "FeatherYardModel", name := "firstHas", desc := "(II)I" } : Jvm.MethodName)) ∈ lw_all := lw_g (lw_at lw_m8 77 rfl) rfl
theorem q1883 : (Jvm.Cond.privateMethod ({ cls := "FeatherYardModel", name := "firstHas", desc := "(II)I" } : Jvm.MethodName)) ∈ lw_tbl := lw_at lw_m8 78 rfl
theorem q1884 : (Jvm.Cond.instanceMethod ({ cls := "FeatherYardModel", name := "firstHas", desc := "(II)I" } : Jvm.MethodName)) ∈ lw_all := lw_g (lw_at lw_m8 79 rfl) rfl
theorem q1885 : (Jvm.Cond.code ({ cls := "FeatherYardModel", name := "firstHas", desc := "(II)I" } : Jvm.MethodName) prog_18_method_89_code (5 : Nat) (Option.some Jvm.ClassFile.FieldType.int)) ∈ lw_all := lw_g (lw_at lw_m8 80 rfl) rfl
theorem q1886 : (Jvm.Cond.methodLink "FeatherYardModel" (372 : Nat) ({ cls := "FeatherYardModel", name := "goodOf", desc := "(II)I" } : Jvm.MethodName)) ∈ lw_all := lw_g (lw_at lw_m8 81 rfl) rfl
theorem q1887 : (Jvm.Cond.privateMethod ({ cls := "FeatherYardModel", name := "goodOf", desc := "(II)I" } : Jvm.MethodName)) ∈ lw_tbl := lw_at lw_m8 82 rfl
theorem q1888 : (Jvm.Cond.instanceMethod ({ cls := "FeatherYardModel", name := "goodOf", desc := "(II)I" } : Jvm.MethodName)) ∈ lw_all := lw_g (lw_at lw_m8 83 rfl) rfl
theorem q1889 : (Jvm.Cond.code ({ cls := "FeatherYardModel", name := "goodOf", desc := "(II)I" } : Jvm.MethodName) prog_18_method_87_code (3 : Nat) (Option.some Jvm.ClassFile.FieldType.int)) ∈ lw_all := lw_g (lw_at lw_m8 84 rfl) rfl
theorem q1890 : (Jvm.Cond.methodLink "FeatherYardModel" (375 : Nat) ({ cls := "FeatherYardModel", name := "notGood", desc := "(II)I" } : Jvm.MethodName)) ∈ lw_all := lw_g (lw_at lw_m8 85 rfl) rfl
theorem q1891 : (Jvm.Cond.privateMethod ({ cls := "FeatherYardModel", name := "notGood", desc := "(II)I" } : Jvm.MethodName)) ∈ lw_tbl := lw_at lw_m8 86 rfl
theorem q1892 : (Jvm.Cond.instanceMethod ({ cls := "FeatherYardModel", name := "notGood", desc := "(II)I" } : Jvm.MethodName)) ∈ lw_all := lw_g (lw_at lw_m8 87 rfl) rfl
theorem q1893 : (Jvm.Cond.code ({ cls := "FeatherYardModel", name := "notGood", desc := "(II)I" } : Jvm.MethodName) prog_18_method_88_code (5 : Nat) (Option.some Jvm.ClassFile.FieldType.int)) ∈ lw_all := lw_g (lw_at lw_m8 88 rfl) rfl
theorem q1894 : (Jvm.Cond.methodLink "FeatherYardModel" (384 : Nat) ({ cls := "FeatherYardModel", name := "bothHave", desc := "(II)I" } : Jvm.MethodName)) ∈ lw_all := lw_g (lw_at lw_m8 89 rfl) rfl
theorem q1895 : (Jvm.Cond.privateMethod ({ cls := "FeatherYardModel", name := "bothHave", desc := "(II)I" } : Jvm.MethodName)) ∈ lw_tbl := lw_at lw_m8 90 rfl
theorem q1896 : (Jvm.Cond.instanceMethod ({ cls := "FeatherYardModel", name := "bothHave", desc := "(II)I" } : Jvm.MethodName)) ∈ lw_all := lw_g (lw_at lw_m8 91 rfl) rfl
theorem q1897 : (Jvm.Cond.code ({ cls := "FeatherYardModel", name := "bothHave", desc := "(II)I" } : Jvm.MethodName) prog_18_method_90_code (5 : Nat) (Option.some Jvm.ClassFile.FieldType.int)) ∈ lw_all := lw_g (lw_at lw_m8 92 rfl) rfl
theorem q1899 : (Jvm.Cond.instanceMethod ({ cls := "FeatherYardModel", name := "best", desc := "(II)I" } : Jvm.MethodName)) ∈ lw_all := lw_g (lw_at lw_m8 94 rfl) rfl
theorem q1900 : (Jvm.Cond.selects "FeatherYardModel" ({ cls := "FeatherYardModel", name := "best", desc := "(II)I" } : Jvm.MethodName) ({ cls := "FeatherYardModel", name := "best", desc := "(II)I" } : Jvm.MethodName)) ∈ lw_all := lw_g (lw_at lw_m8 95 rfl) rfl
theorem q1901 : (Jvm.Cond.code ({ cls := "FeatherYardModel", name := "best", desc := "(II)I" } : Jvm.MethodName) prog_18_method_92_code (5 : Nat) (Option.some Jvm.ClassFile.FieldType.int)) ∈ lw_all := lw_g (lw_at lw_m8 96 rfl) rfl
theorem q1903 : (Jvm.Cond.instanceMethod ({ cls := "FeatherYardModel", name := "when", desc := "(II)I" } : Jvm.MethodName)) ∈ lw_all := lw_g (lw_at lw_m8 98 rfl) rfl
theorem q1904 : (Jvm.Cond.selects "FeatherYardModel" ({ cls := "FeatherYardModel", name := "when", desc := "(II)I" } : Jvm.MethodName) ({ cls := "FeatherYardModel", name := "when", desc := "(II)I" } : Jvm.MethodName)) ∈ lw_all := lw_g (lw_at lw_m8 99 rfl) rfl
theorem q1905 : (Jvm.Cond.code ({ cls := "FeatherYardModel", name := "when", desc := "(II)I" } : Jvm.MethodName) prog_18_method_93_code (8 : Nat) (Option.some Jvm.ClassFile.FieldType.int)) ∈ lw_all := lw_g (lw_at lw_m8 100 rfl) rfl
theorem q1907 : (Jvm.Cond.instanceMethod ({ cls := "FeatherYardModel", name := "alike", desc := "()I" } : Jvm.MethodName)) ∈ lw_all := lw_g (lw_at lw_m8 102 rfl) rfl
theorem q1908 : (Jvm.Cond.selects "FeatherYardModel" ({ cls := "FeatherYardModel", name := "alike", desc := "()I" } : Jvm.MethodName) ({ cls := "FeatherYardModel", name := "alike", desc := "()I" } : Jvm.MethodName)) ∈ lw_all := lw_g (lw_at lw_m8 103 rfl) rfl
theorem q1909 : (Jvm.Cond.code ({ cls := "FeatherYardModel", name := "alike", desc := "()I" } : Jvm.MethodName) prog_18_method_94_code (6 : Nat) (Option.some Jvm.ClassFile.FieldType.int)) ∈ lw_all := lw_g (lw_at lw_m8 104 rfl) rfl
theorem q1911 : (Jvm.Cond.instanceMethod ({ cls := "FeatherYardModel", name := "bird", desc := "(II)I" } : Jvm.MethodName)) ∈ lw_all := lw_g (lw_at lw_m8 106 rfl) rfl
theorem q1912 : (Jvm.Cond.selects "FeatherYardModel" ({ cls := "FeatherYardModel", name := "bird", desc := "(II)I" } : Jvm.MethodName) ({ cls := "FeatherYardModel", name := "bird", desc := "(II)I" } : Jvm.MethodName)) ∈ lw_all := lw_g (lw_at lw_m8 107 rfl) rfl
theorem q1913 : (Jvm.Cond.code ({ cls := "FeatherYardModel", name := "bird", desc := "(II)I" } : Jvm.MethodName) prog_18_method_97_code (3 : Nat) (Option.some Jvm.ClassFile.FieldType.int)) ∈ lw_all := lw_g (lw_at lw_m8 108 rfl) rfl
theorem q1915 : (Jvm.Cond.instanceMethod ({ cls := "FeatherYardModel", name := "stock", desc := "(II)I" } : Jvm.MethodName)) ∈ lw_all := lw_g (lw_at lw_m8 110 rfl) rfl
theorem q1916 : (Jvm.Cond.selects "FeatherYardModel" ({ cls := "FeatherYardModel", name := "stock", desc := "(II)I" } : Jvm.MethodName) ({ cls := "FeatherYardModel", name := "stock", desc := "(II)I" } : Jvm.MethodName)) ∈ lw_all := lw_g (lw_at lw_m8 111 rfl) rfl
theorem q1917 : (Jvm.Cond.code ({ cls := "FeatherYardModel", name := "stock", desc := "(II)I" } : Jvm.MethodName) prog_18_method_98_code (3 : Nat) (Option.some Jvm.ClassFile.FieldType.int)) ∈ lw_all := lw_g (lw_at lw_m8 112 rfl) rfl
theorem q1918 : (Jvm.Cond.methodLink "FeatherYardModel" (393 : Nat) ({ cls := "FeatherYardModel", name := "noCounsel", desc := "(I)Z" } : Jvm.MethodName)) ∈ lw_all := lw_g (lw_at lw_m8 113 rfl) rfl
theorem q1919 : (Jvm.Cond.privateMethod ({ cls := "FeatherYardModel", name := "noCounsel", desc := "(I)Z" } : Jvm.MethodName)) ∈ lw_tbl := lw_at lw_m8 114 rfl
theorem q1920 : (Jvm.Cond.instanceMethod ({ cls := "FeatherYardModel", name := "noCounsel", desc := "(I)Z" } : Jvm.MethodName)) ∈ lw_all := lw_g (lw_at lw_m8 115 rfl) rfl
theorem q1921 : (Jvm.Cond.code ({ cls := "FeatherYardModel", name := "noCounsel", desc := "(I)Z" } : Jvm.MethodName) prog_18_method_19_code (2 : Nat) (Option.some Jvm.ClassFile.FieldType.boolean)) ∈ lw_all := lw_g (lw_at lw_m8 116 rfl) rfl
theorem q1922 : (Jvm.Cond.methodLink "FeatherYardModel" (390 : Nat) ({ cls := "FeatherYardModel", name := "stockOf", desc := "(II)I" } : Jvm.MethodName)) ∈ lw_all := lw_g (lw_at lw_m8 117 rfl) rfl
theorem q1923 : (Jvm.Cond.privateMethod ({ cls := "FeatherYardModel", name := "stockOf", desc := "(II)I" } : Jvm.MethodName)) ∈ lw_tbl := lw_at lw_m8 118 rfl
theorem q1924 : (Jvm.Cond.instanceMethod ({ cls := "FeatherYardModel", name := "stockOf", desc := "(II)I" } : Jvm.MethodName)) ∈ lw_all := lw_g (lw_at lw_m8 119 rfl) rfl
theorem q1925 : (Jvm.Cond.code ({ cls := "FeatherYardModel", name := "stockOf", desc := "(II)I" } : Jvm.MethodName) prog_18_method_15_code (3 : Nat) (Option.some Jvm.ClassFile.FieldType.int)) ∈ lw_all := lw_g (lw_at lw_m8 120 rfl) rfl
theorem q1927 : (Jvm.Cond.instanceMethod ({ cls := "FeatherYardModel", name := "matter", desc := "(II)I" } : Jvm.MethodName)) ∈ lw_all := lw_g (lw_at lw_m8 122 rfl) rfl
theorem q1928 : (Jvm.Cond.selects "FeatherYardModel" ({ cls := "FeatherYardModel", name := "matter", desc := "(II)I" } : Jvm.MethodName) ({ cls := "FeatherYardModel", name := "matter", desc := "(II)I" } : Jvm.MethodName)) ∈ lw_all := lw_g (lw_at lw_m8 123 rfl) rfl
theorem q1929 : (Jvm.Cond.code ({ cls := "FeatherYardModel", name := "matter", desc := "(II)I" } : Jvm.MethodName) prog_18_method_99_code (3 : Nat) (Option.some Jvm.ClassFile.FieldType.int)) ∈ lw_all := lw_g (lw_at lw_m8 124 rfl) rfl
theorem q1930 : (Jvm.Cond.methodLink "FeatherYardModel" (396 : Nat) ({ cls := "FeatherYardModel", name := "noCase", desc := "(I)Z" } : Jvm.MethodName)) ∈ lw_all := lw_g (lw_at lw_m8 125 rfl) rfl
theorem q1931 : (Jvm.Cond.privateMethod ({ cls := "FeatherYardModel", name := "noCase", desc := "(I)Z" } : Jvm.MethodName)) ∈ lw_tbl := lw_at lw_m8 126 rfl
theorem q1932 : (Jvm.Cond.instanceMethod ({ cls := "FeatherYardModel", name := "noCase", desc := "(I)Z" } : Jvm.MethodName)) ∈ lw_all := lw_g (lw_at lw_m8 127 rfl) rfl
theorem q1933 : (Jvm.Cond.code ({ cls := "FeatherYardModel", name := "noCase", desc := "(I)Z" } : Jvm.MethodName) prog_18_method_20_code (2 : Nat) (Option.some Jvm.ClassFile.FieldType.boolean)) ∈ lw_all := lw_g (lw_at lw_m8 128 rfl) rfl
theorem q1934 : (Jvm.Cond.methodLink "FeatherYardModel" (387 : Nat) ({ cls := "FeatherYardModel", name := "ofCase", desc := "(II)I" } : Jvm.MethodName)) ∈ lw_all := lw_g (lw_at lw_m8 129 rfl) rfl
theorem q1935 : (Jvm.Cond.privateMethod ({ cls := "FeatherYardModel", name := "ofCase", desc := "(II)I" } : Jvm.MethodName)) ∈ lw_tbl := lw_at lw_m8 130 rfl
theorem q1936 : (Jvm.Cond.instanceMethod ({ cls := "FeatherYardModel", name := "ofCase", desc := "(II)I" } : Jvm.MethodName)) ∈ lw_all := lw_g (lw_at lw_m8 131 rfl) rfl
theorem q1937 : (Jvm.Cond.code ({ cls := "FeatherYardModel", name := "ofCase", desc := "(II)I" } : Jvm.MethodName) prog_18_method_17_code (3 : Nat) (Option.some Jvm.ClassFile.FieldType.int)) ∈ lw_all := lw_g (lw_at lw_m8 132 rfl) rfl
theorem q1938 : (Jvm.Cond.methodLink "FeatherYardModel" (399 : Nat) ({ cls := "FeatherYardModel", name := "choices", desc := "(II)I" } : Jvm.MethodName)) ∈ lw_all := lw_g (lw_at lw_m8 133 rfl) rfl
theorem q1939 : (Jvm.Cond.privateMethod ({ cls := "FeatherYardModel", name := "choices", desc := "(II)I" } : Jvm.MethodName)) ∈ lw_tbl := lw_at lw_m8 134 rfl
theorem q1940 : (Jvm.Cond.instanceMethod ({ cls := "FeatherYardModel", name := "choices", desc := "(II)I" } : Jvm.MethodName)) ∈ lw_all := lw_g (lw_at lw_m8 135 rfl) rfl
theorem q1941 : (Jvm.Cond.code ({ cls := "FeatherYardModel", name := "choices", desc := "(II)I" } : Jvm.MethodName) prog_18_method_96_code (5 : Nat) (Option.some Jvm.ClassFile.FieldType.int)) ∈ lw_all := lw_g (lw_at lw_m8 136 rfl) rfl
theorem q1943 : (Jvm.Cond.instanceMethod ({ cls := "FeatherYardModel", name := "wind", desc := "(I)I" } : Jvm.MethodName)) ∈ lw_all := lw_g (lw_at lw_m8 138 rfl) rfl
theorem q1944 : (Jvm.Cond.selects "FeatherYardModel" ({ cls := "FeatherYardModel", name := "wind", desc := "(I)I" } : Jvm.MethodName) ({ cls := "FeatherYardModel", name := "wind", desc := "(I)I" } : Jvm.MethodName)) ∈ lw_all := lw_g (lw_at lw_m8 139 rfl) rfl
theorem q1945 : (Jvm.Cond.code ({ cls := "FeatherYardModel", name := "wind", desc := "(I)I" } : Jvm.MethodName) prog_18_method_100_code (2 : Nat) (Option.some Jvm.ClassFile.FieldType.int)) ∈ lw_all := lw_g (lw_at lw_m8 140 rfl) rfl
theorem q1947 : (Jvm.Cond.instanceMethod ({ cls := "FeatherYardModel", name := "surest", desc := "(IZZ)I" } : Jvm.MethodName)) ∈ lw_all := lw_g (lw_at lw_m8 142 rfl) rfl
theorem q1948 : (Jvm.Cond.selects "FeatherYardModel" ({ cls := "FeatherYardModel", name := "surest", desc := "(IZZ)I" } : Jvm.MethodName) ({ cls := "FeatherYardModel", name := "surest", desc := "(IZZ)I" } : Jvm.MethodName)) ∈ lw_all := lw_g (lw_at lw_m8 143 rfl) rfl
theorem q1949 : (Jvm.Cond.code ({ cls := "FeatherYardModel", name := "surest", desc := "(IZZ)I" } : Jvm.MethodName) prog_18_method_102_code (9 : Nat) (Option.some Jvm.ClassFile.FieldType.int)) ∈ lw_all := lw_g (lw_at lw_m8 144 rfl) rfl
theorem q1950 : (Jvm.Cond.methodLink "FeatherYardModel" (407 : Nat) ({ cls := "FeatherYardModel", name := "isOpen", desc := "(I)Z" } : Jvm.MethodName)) ∈ lw_all := lw_g (lw_at lw_m8 145 rfl) rfl
theorem q1951 : (Jvm.Cond.privateMethod ({ cls := "FeatherYardModel", name := "isOpen", desc := "(I)Z" } : Jvm.MethodName)) ∈ lw_tbl := lw_at lw_m8 146 rfl
theorem q1952 : (Jvm.Cond.instanceMethod ({ cls := "FeatherYardModel", name := "isOpen", desc := "(I)Z" } : Jvm.MethodName)) ∈ lw_all := lw_g (lw_at lw_m8 147 rfl) rfl
theorem q1953 : (Jvm.Cond.code ({ cls := "FeatherYardModel", name := "isOpen", desc := "(I)Z" } : Jvm.MethodName) prog_18_method_95_code (2 : Nat) (Option.some Jvm.ClassFile.FieldType.boolean)) ∈ lw_all := lw_g (lw_at lw_m8 148 rfl) rfl
theorem q1954 : (Jvm.Cond.methodLink "FeatherYardModel" (410 : Nat) ({ cls := "FeatherYardModel", name := "leastBy", desc := "(II)I" } : Jvm.MethodName)) ∈ lw_all := lw_g (lw_at lw_m8 149 rfl) rfl
theorem q1955 : (Jvm.Cond.privateMethod ({ cls := "FeatherYardModel", name := "leastBy", desc := "(II)I" } : Jvm.MethodName)) ∈ lw_tbl := lw_at lw_m8 150 rfl
theorem q1956 : (Jvm.Cond.instanceMethod ({ cls := "FeatherYardModel", name := "leastBy", desc := "(II)I" } : Jvm.MethodName)) ∈ lw_all := lw_g (lw_at lw_m8 151 rfl) rfl
theorem q1957 : (Jvm.Cond.code ({ cls := "FeatherYardModel", name := "leastBy", desc := "(II)I" } : Jvm.MethodName) prog_18_method_101_code (5 : Nat) (Option.some Jvm.ClassFile.FieldType.int)) ∈ lw_all := lw_g (lw_at lw_m8 152 rfl) rfl
theorem q1958 : (Jvm.Cond.constant "FeatherYardModel" (402 : Nat) (43046721 : Int32)) ∈ lw_all := lw_g (lw_at lw_m8 153 rfl) rfl
theorem q1959 : (Jvm.Cond.constantLong "FeatherYardModel" (403 : Nat) (100 : Int64)) ∈ lw_all := lw_g (lw_at lw_m8 154 rfl) rfl
theorem q1960 : (Jvm.Cond.constantLong "FeatherYardModel" (405 : Nat) (43046721 : Int64)) ∈ lw_all := lw_g (lw_at lw_m8 155 rfl) rfl
theorem q1962 : (Jvm.Cond.instanceMethod ({ cls := "FeatherYardModel", name := "rests", desc := "(IZ)I" } : Jvm.MethodName)) ∈ lw_all := lw_g (lw_at lw_m8 157 rfl) rfl
theorem q1963 : (Jvm.Cond.selects "FeatherYardModel" ({ cls := "FeatherYardModel", name := "rests", desc := "(IZ)I" } : Jvm.MethodName) ({ cls := "FeatherYardModel", name := "rests", desc := "(IZ)I" } : Jvm.MethodName)) ∈ lw_all := lw_g (lw_at lw_m8 158 rfl) rfl
theorem q1964 : (Jvm.Cond.code ({ cls := "FeatherYardModel", name := "rests", desc := "(IZ)I" } : Jvm.MethodName) prog_18_method_104_code (10 : Nat) (Option.some Jvm.ClassFile.FieldType.int)) ∈ lw_all := lw_g (lw_at lw_m8 159 rfl) rfl
theorem q1965 : (Jvm.Cond.methodLink "FeatherYardModel" (413 : Nat) ({ cls := "FeatherYardModel", name := "isBestOf", desc := "(III)Z" } : Jvm.MethodName)) ∈ lw_all := lw_g (lw_at lw_m8 160 rfl) rfl
theorem q1966 : (Jvm.Cond.privateMethod ({ cls := "FeatherYardModel", name := "isBestOf", desc := "(III)Z" } : Jvm.MethodName)) ∈ lw_tbl := lw_at lw_m8 161 rfl
theorem q1967 : (Jvm.Cond.instanceMethod ({ cls := "FeatherYardModel", name := "isBestOf", desc := "(III)Z" } : Jvm.MethodName)) ∈ lw_all := lw_g (lw_at lw_m8 162 rfl) rfl
theorem q1968 : (Jvm.Cond.code ({ cls := "FeatherYardModel", name := "isBestOf", desc := "(III)Z" } : Jvm.MethodName) prog_18_method_103_code (5 : Nat) (Option.some Jvm.ClassFile.FieldType.boolean)) ∈ lw_all := lw_g (lw_at lw_m8 163 rfl) rfl
theorem q1970 : (Jvm.Cond.instanceMethod ({ cls := "FeatherYardModel", name := "fair", desc := "(I)I" } : Jvm.MethodName)) ∈ lw_all := lw_g (lw_at lw_m8 165 rfl) rfl
theorem q1971 : (Jvm.Cond.selects "FeatherYardModel" ({ cls := "FeatherYardModel", name := "fair", desc := "(I)I" } : Jvm.MethodName) ({ cls := "FeatherYardModel", name := "fair", desc := "(I)I" } : Jvm.MethodName)) ∈ lw_all := lw_g (lw_at lw_m8 166 rfl) rfl
theorem q1972 : (Jvm.Cond.code ({ cls := "FeatherYardModel", name := "fair", desc := "(I)I" } : Jvm.MethodName) prog_18_method_105_code (7 : Nat) (Option.some Jvm.ClassFile.FieldType.int)) ∈ lw_all := lw_g (lw_at lw_m8 167 rfl) rfl
theorem q1973 : (Jvm.Cond.constant "FeatherYardModel" (416 : Nat) (43046722 : Int32)) ∈ lw_all := lw_g (lw_at lw_m8 168 rfl) rfl
theorem q1974 : (Jvm.Cond.methodLink "FeatherYardModel" (417 : Nat) ({ cls := "java/lang/Math", name := "abs", desc := "(I)I" } : Jvm.MethodName)) ∈ lw_all := lw_g (lw_at lw_m8 169 rfl) rfl
theorem q1976 : (Jvm.Cond.instanceMethod ({ cls := "FeatherYardModel", name := "call", desc := "(III)I" } : Jvm.MethodName)) ∈ lw_all := lw_g (lw_at lw_m8 171 rfl) rfl
theorem q1977 : (Jvm.Cond.selects "FeatherYardModel" ({ cls := "FeatherYardModel", name := "call", desc := "(III)I" } : Jvm.MethodName) ({ cls := "FeatherYardModel", name := "call", desc := "(III)I" } : Jvm.MethodName)) ∈ lw_all := lw_g (lw_at lw_m8 172 rfl) rfl
theorem q1978 : (Jvm.Cond.code ({ cls := "FeatherYardModel", name := "call", desc := "(III)I" } : Jvm.MethodName) prog_18_method_107_code (5 : Nat) (Option.some Jvm.ClassFile.FieldType.int)) ∈ lw_all := lw_g (lw_at lw_m8 173 rfl) rfl
theorem q1979 : (Jvm.Cond.methodLink "FeatherYardModel" (423 : Nat) ({ cls := "FeatherYardModel", name := "remembers", desc := "()V" } : Jvm.MethodName)) ∈ lw_all := lw_g (lw_at lw_m8 174 rfl) rfl
theorem q1980 : (Jvm.Cond.privateMethod ({ cls := "FeatherYardModel", name := "remembers", desc := "()V" } : Jvm.MethodName)) ∈ lw_tbl := lw_at lw_m8 175 rfl
theorem q1981 : (Jvm.Cond.instanceMethod ({ cls := "FeatherYardModel", name := "remembers", desc := "()V" } : Jvm.MethodName)) ∈ lw_all := lw_g (lw_at lw_m8 176 rfl) rfl
theorem q1982 : (Jvm.Cond.code ({ cls := "FeatherYardModel", name := "remembers", desc := "()V" } : Jvm.MethodName) prog_18_method_8_code (2 : Nat) (Option.none : Option Jvm.ClassFile.FieldType)) ∈ lw_all := lw_g (lw_at lw_m8 177 rfl) rfl
theorem q1983 : (Jvm.Cond.methodLink "FeatherYardModel" (426 : Nat) ({ cls := "FeatherYardModel", name := "called", desc := "(II)I" } : Jvm.MethodName)) ∈ lw_all := lw_g (lw_at lw_m8 178 rfl) rfl
theorem q1984 : (Jvm.Cond.privateMethod ({ cls := "FeatherYardModel", name := "called", desc := "(II)I" } : Jvm.MethodName)) ∈ lw_tbl := lw_at lw_m8 179 rfl
theorem q1985 : (Jvm.Cond.instanceMethod ({ cls := "FeatherYardModel", name := "called", desc := "(II)I" } : Jvm.MethodName)) ∈ lw_all := lw_g (lw_at lw_m8 180 rfl) rfl
theorem q1986 : (Jvm.Cond.code ({ cls := "FeatherYardModel", name := "called", desc := "(II)I" } : Jvm.MethodName) prog_18_method_83_code (5 : Nat) (Option.some Jvm.ClassFile.FieldType.int)) ∈ lw_all := lw_g (lw_at lw_m8 181 rfl) rfl
theorem q1987 : (Jvm.Cond.methodLink "FeatherYardModel" (363 : Nat) ({ cls := "FeatherYardModel", name := "drawn", desc := "(I)I" } : Jvm.MethodName)) ∈ lw_all := lw_g (lw_at lw_m8 182 rfl) rfl
theorem q1988 : (Jvm.Cond.privateMethod ({ cls := "FeatherYardModel", name := "drawn", desc := "(I)I" } : Jvm.MethodName)) ∈ lw_tbl := lw_at lw_m8 183 rfl
theorem q1989 : (Jvm.Cond.instanceMethod ({ cls := "FeatherYardModel", name := "drawn", desc := "(I)I" } : Jvm.MethodName)) ∈ lw_all := lw_g (lw_at lw_m8 184 rfl) rfl
theorem q1990 : (Jvm.Cond.code ({ cls := "FeatherYardModel", name := "drawn", desc := "(I)I" } : Jvm.MethodName) prog_18_method_23_code (2 : Nat) (Option.some Jvm.ClassFile.FieldType.int)) ∈ lw_all := lw_g (lw_at lw_m8 185 rfl) rfl
theorem q1991 : (Jvm.Cond.constant "FeatherYardModel" (88 : Nat) (1103515245 : Int32)) ∈ lw_all := lw_g (lw_at lw_m8 186 rfl) rfl
theorem q1992 : (Jvm.Cond.methodLink "FeatherYardModel" (366 : Nat) ({ cls := "FeatherYardModel", name := "goodIn", desc := "(I)I" } : Jvm.MethodName)) ∈ lw_all := lw_g (lw_at lw_m8 187 rfl) rfl
theorem q1993 : (Jvm.Cond.privateMethod ({ cls := "FeatherYardModel", name := "goodIn", desc := "(I)I" } : Jvm.MethodName)) ∈ lw_tbl := lw_at lw_m8 188 rfl
theorem q1994 : (Jvm.Cond.instanceMethod ({ cls := "FeatherYardModel", name := "goodIn", desc := "(I)I" } : Jvm.MethodName)) ∈ lw_all := lw_g (lw_at lw_m8 189 rfl) rfl
theorem q1995 : (Jvm.Cond.code ({ cls := "FeatherYardModel", name := "goodIn", desc := "(I)I" } : Jvm.MethodName) prog_18_method_80_code (2 : Nat) (Option.some Jvm.ClassFile.FieldType.int)) ∈ lw_all := lw_g (lw_at lw_m8 190 rfl) rfl
theorem q1996 : (Jvm.Cond.methodLink "FeatherYardModel" (429 : Nat) ({ cls := "FeatherYardModel", name := "tells", desc := "(IIII)V" } : Jvm.MethodName)) ∈ lw_all := lw_g (lw_at lw_m8 191 rfl) rfl
theorem q1997 : (Jvm.Cond.privateMethod ({ cls := "FeatherYardModel", name := "tells", desc := "(IIII)V" } : Jvm.MethodName)) ∈ lw_tbl := lw_at lw_m8 192 rfl
theorem q1998 : (Jvm.Cond.instanceMethod ({ cls := "FeatherYardModel", name := "tells", desc := "(IIII)V" } : Jvm.MethodName)) ∈ lw_all := lw_g (lw_at lw_m8 193 rfl) rfl
theorem q1999 : (Jvm.Cond.code ({ cls := "FeatherYardModel", name := "tells", desc := "(IIII)V" } : Jvm.MethodName) prog_18_method_106_code (6 : Nat) (Option.none : Option Jvm.ClassFile.FieldType)) ∈ lw_all := lw_g (lw_at lw_m8 194 rfl) rfl
theorem q2000 : (Jvm.Cond.methodLink "FeatherYardModel" (420 : Nat) ({ cls := "FeatherYardModel", name := "goodFirst", desc := "()I" } : Jvm.MethodName)) ∈ lw_all := lw_g (lw_at lw_m8 195 rfl) rfl
theorem q2001 : (Jvm.Cond.privateMethod ({ cls := "FeatherYardModel", name := "goodFirst", desc := "()I" } : Jvm.MethodName)) ∈ lw_tbl := lw_at lw_m8 196 rfl
theorem q2002 : (Jvm.Cond.instanceMethod ({ cls := "FeatherYardModel", name := "goodFirst", desc := "()I" } : Jvm.MethodName)) ∈ lw_all := lw_g (lw_at lw_m8 197 rfl) rfl
theorem q2003 : (Jvm.Cond.code ({ cls := "FeatherYardModel", name := "goodFirst", desc := "()I" } : Jvm.MethodName) prog_18_method_84_code (3 : Nat) (Option.some Jvm.ClassFile.FieldType.int)) ∈ lw_all := lw_g (lw_at lw_m8 198 rfl) rfl
theorem q2005 : (Jvm.Cond.instanceMethod ({ cls := "FeatherYardModel", name := "hour", desc := "(I)I" } : Jvm.MethodName)) ∈ lw_all := lw_g (lw_at lw_m8 200 rfl) rfl
theorem q2006 : (Jvm.Cond.selects "FeatherYardModel" ({ cls := "FeatherYardModel", name := "hour", desc := "(I)I" } : Jvm.MethodName) ({ cls := "FeatherYardModel", name := "hour", desc := "(I)I" } : Jvm.MethodName)) ∈ lw_all := lw_g (lw_at lw_m8 201 rfl) rfl
theorem q2007 : (Jvm.Cond.code ({ cls := "FeatherYardModel", name := "hour", desc := "(I)I" } : Jvm.MethodName) prog_18_method_108_code (3 : Nat) (Option.some Jvm.ClassFile.FieldType.int)) ∈ lw_all := lw_g (lw_at lw_m8 202 rfl) rfl
theorem q2009 : (Jvm.Cond.instanceMethod ({ cls := "FeatherYardModel", name := "blow", desc := "(II)I" } : Jvm.MethodName)) ∈ lw_all := lw_g (lw_at lw_m8 204 rfl) rfl
theorem q2010 : (Jvm.Cond.selects "FeatherYardModel" ({ cls := "FeatherYardModel", name := "blow", desc := "(II)I" } : Jvm.MethodName) ({ cls := "FeatherYardModel", name := "blow", desc := "(II)I" } : Jvm.MethodName)) ∈ lw_all := lw_g (lw_at lw_m8 205 rfl) rfl
theorem q2011 : (Jvm.Cond.code ({ cls := "FeatherYardModel", name := "blow", desc := "(II)I" } : Jvm.MethodName) prog_18_method_109_code (4 : Nat) (Option.some Jvm.ClassFile.FieldType.int)) ∈ lw_all := lw_g (lw_at lw_m8 206 rfl) rfl
theorem q2013 : (Jvm.Cond.instanceMethod ({ cls := "FeatherYardModel", name := "give", desc := "(IIII)I" } : Jvm.MethodName)) ∈ lw_all := lw_g (lw_at lw_m8 208 rfl) rfl
theorem q2014 : (Jvm.Cond.selects "FeatherYardModel" ({ cls := "FeatherYardModel", name := "give", desc := "(IIII)I" } : Jvm.MethodName) ({ cls := "FeatherYardModel", name := "give", desc := "(IIII)I" } : Jvm.MethodName)) ∈ lw_all := lw_g (lw_at lw_m8 209 rfl) rfl
theorem q2015 : (Jvm.Cond.code ({ cls := "FeatherYardModel", name := "give", desc := "(IIII)I" } : Jvm.MethodName) prog_18_method_110_code (5 : Nat) (Option.some Jvm.ClassFile.FieldType.int)) ∈ lw_all := lw_g (lw_at lw_m8 210 rfl) rfl
theorem q2017 : (Jvm.Cond.instanceMethod ({ cls := "FeatherYardModel", name := "appeal", desc := "(I)I" } : Jvm.MethodName)) ∈ lw_all := lw_g (lw_at lw_m8 212 rfl) rfl
theorem q2018 : (Jvm.Cond.selects "FeatherYardModel" ({ cls := "FeatherYardModel", name := "appeal", desc := "(I)I" } : Jvm.MethodName) ({ cls := "FeatherYardModel", name := "appeal", desc := "(I)I" } : Jvm.MethodName)) ∈ lw_all := lw_g (lw_at lw_m8 213 rfl) rfl
theorem q2019 : (Jvm.Cond.code ({ cls := "FeatherYardModel", name := "appeal", desc := "(I)I" } : Jvm.MethodName) prog_18_method_111_code (3 : Nat) (Option.some Jvm.ClassFile.FieldType.int)) ∈ lw_all := lw_g (lw_at lw_m8 214 rfl) rfl
theorem q2021 : (Jvm.Cond.instanceMethod ({ cls := "FeatherYardModel", name := "weeks", desc := "(I)I" } : Jvm.MethodName)) ∈ lw_all := lw_g (lw_at lw_m8 216 rfl) rfl
theorem q2022 : (Jvm.Cond.selects "FeatherYardModel" ({ cls := "FeatherYardModel", name := "weeks", desc := "(I)I" } : Jvm.MethodName) ({ cls := "FeatherYardModel", name := "weeks", desc := "(I)I" } : Jvm.MethodName)) ∈ lw_all := lw_g (lw_at lw_m8 217 rfl) rfl
theorem q2023 : (Jvm.Cond.code ({ cls := "FeatherYardModel", name := "weeks", desc := "(I)I" } : Jvm.MethodName) prog_18_method_113_code (4 : Nat) (Option.some Jvm.ClassFile.FieldType.int)) ∈ lw_all := lw_g (lw_at lw_m8 218 rfl) rfl
theorem q2024 : (Jvm.Cond.methodLink "FeatherYardModel" (432 : Nat) ({ cls := "FeatherYardModel", name := "oneWeek", desc := "()I" } : Jvm.MethodName)) ∈ lw_all := lw_g (lw_at lw_m8 219 rfl) rfl
theorem q2025 : (Jvm.Cond.privateMethod ({ cls := "FeatherYardModel", name := "oneWeek", desc := "()I" } : Jvm.MethodName)) ∈ lw_tbl := lw_at lw_m8 220 rfl
theorem q2026 : (Jvm.Cond.instanceMethod ({ cls := "FeatherYardModel", name := "oneWeek", desc := "()I" } : Jvm.MethodName)) ∈ lw_all := lw_g (lw_at lw_m8 221 rfl) rfl
theorem q2027 : (Jvm.Cond.code ({ cls := "FeatherYardModel", name := "oneWeek", desc := "()I" } : Jvm.MethodName) prog_18_method_112_code (5 : Nat) (Option.some Jvm.ClassFile.FieldType.int)) ∈ lw_all := lw_g (lw_at lw_m8 222 rfl) rfl
theorem q2029 : (Jvm.Cond.instanceMethod ({ cls := "FeatherYardModel", name := "songs", desc := "(Z)I" } : Jvm.MethodName)) ∈ lw_all := lw_g (lw_at lw_m8 224 rfl) rfl
theorem q2030 : (Jvm.Cond.selects "FeatherYardModel" ({ cls := "FeatherYardModel", name := "songs", desc := "(Z)I" } : Jvm.MethodName) ({ cls := "FeatherYardModel", name := "songs", desc := "(Z)I" } : Jvm.MethodName)) ∈ lw_all := lw_g (lw_at lw_m8 225 rfl) rfl
theorem q2031 : (Jvm.Cond.code ({ cls := "FeatherYardModel", name := "songs", desc := "(Z)I" } : Jvm.MethodName) prog_18_method_117_code (5 : Nat) (Option.some Jvm.ClassFile.FieldType.int)) ∈ lw_all := lw_g (lw_at lw_m8 226 rfl) rfl
theorem q2032 : (Jvm.Cond.methodLink "FeatherYardModel" (438 : Nat) ({ cls := "FeatherYardModel", name := "isTold", desc := "()Z" } : Jvm.MethodName)) ∈ lw_all := lw_g (lw_at lw_m8 227 rfl) rfl
theorem q2033 : (Jvm.Cond.privateMethod ({ cls := "FeatherYardModel", name := "isTold", desc := "()Z" } : Jvm.MethodName)) ∈ lw_tbl := lw_at lw_m8 228 rfl
theorem q2034 : (Jvm.Cond.instanceMethod ({ cls := "FeatherYardModel", name := "isTold", desc := "()Z" } : Jvm.MethodName)) ∈ lw_all := lw_g (lw_at lw_m8 229 rfl) rfl
theorem q2035 : (Jvm.Cond.code ({ cls := "FeatherYardModel", name := "isTold", desc := "()Z" } : Jvm.MethodName) prog_18_method_114_code (3 : Nat) (Option.some Jvm.ClassFile.FieldType.boolean)) ∈ lw_all := lw_g (lw_at lw_m8 230 rfl) rfl
theorem q2036 : (Jvm.Cond.methodLink "FeatherYardModel" (441 : Nat) ({ cls := "FeatherYardModel", name := "fits", desc := "(I)Z" } : Jvm.MethodName)) ∈ lw_all := lw_g (lw_at lw_m8 231 rfl) rfl
theorem q2037 : (Jvm.Cond.privateMethod ({ cls := "FeatherYardModel", name := "fits", desc := "(I)Z" } : Jvm.MethodName)) ∈ lw_tbl := lw_at lw_m8 232 rfl
theorem q2038 : (Jvm.Cond.instanceMethod ({ cls := "FeatherYardModel", name := "fits", desc := "(I)Z" } : Jvm.MethodName)) ∈ lw_all := lw_g (lw_at lw_m8 233 rfl) rfl
theorem q2039 : (Jvm.Cond.code ({ cls := "FeatherYardModel", name := "fits", desc := "(I)Z" } : Jvm.MethodName) prog_18_method_116_code (5 : Nat) (Option.some Jvm.ClassFile.FieldType.boolean)) ∈ lw_all := lw_g (lw_at lw_m8 234 rfl) rfl
theorem q2040 : (Jvm.Cond.methodLink "FeatherYardModel" (435 : Nat) ({ cls := "FeatherYardModel", name := "songsOf", desc := "(I)I" } : Jvm.MethodName)) ∈ lw_all := lw_g (lw_at lw_m8 235 rfl) rfl
theorem q2041 : (Jvm.Cond.privateMethod ({ cls := "FeatherYardModel", name := "songsOf", desc := "(I)I" } : Jvm.MethodName)) ∈ lw_tbl := lw_at lw_m8 236 rfl
theorem q2042 : (Jvm.Cond.instanceMethod ({ cls := "FeatherYardModel", name := "songsOf", desc := "(I)I" } : Jvm.MethodName)) ∈ lw_all := lw_g (lw_at lw_m8 237 rfl) rfl
theorem q2043 : (Jvm.Cond.code ({ cls := "FeatherYardModel", name := "songsOf", desc := "(I)I" } : Jvm.MethodName) prog_18_method_115_code (4 : Nat) (Option.some Jvm.ClassFile.FieldType.int)) ∈ lw_all := lw_g (lw_at lw_m8 238 rfl) rfl
theorem q2045 : (Jvm.Cond.instanceMethod ({ cls := "FeatherYardModel", name := "ask", desc := "()I" } : Jvm.MethodName)) ∈ lw_all := lw_g (lw_at lw_m9 0 rfl) rfl
theorem q2046 : (Jvm.Cond.selects "FeatherYardModel" ({ cls := "FeatherYardModel", name := "ask", desc := "()I" } : Jvm.MethodName) ({ cls := "FeatherYardModel", name := "ask", desc := "()I" } : Jvm.MethodName)) ∈ lw_all := lw_g (lw_at lw_m9 1 rfl) rfl
theorem q2047 : (Jvm.Cond.code ({ cls := "FeatherYardModel", name := "ask", desc := "()I" } : Jvm.MethodName) prog_18_method_118_code (7 : Nat) (Option.some Jvm.ClassFile.FieldType.int)) ∈ lw_all := lw_g (lw_at lw_m9 2 rfl) rfl
theorem q2049 : (Jvm.Cond.instanceMethod ({ cls := "FeatherYardModel", name := "lasts", desc := "(III)I" } : Jvm.MethodName)) ∈ lw_all := lw_g (lw_at lw_m9 4 rfl) rfl
theorem q2050 : (Jvm.Cond.selects "FeatherYardModel" ({ cls := "FeatherYardModel", name := "lasts", desc := "(III)I" } : Jvm.MethodName) ({ cls := "FeatherYardModel", name := "lasts", desc := "(III)I" } : Jvm.MethodName)) ∈ lw_all := lw_g (lw_at lw_m9 5 rfl) rfl
theorem q2051 : (Jvm.Cond.code ({ cls := "FeatherYardModel", name := "lasts", desc := "(III)I" } : Jvm.MethodName) prog_18_method_119_code (6 : Nat) (Option.some Jvm.ClassFile.FieldType.int)) ∈ lw_all := lw_g (lw_at lw_m9 6 rfl) rfl
theorem q2053 : (Jvm.Cond.instanceMethod ({ cls := "FeatherYardModel", name := "rich", desc := "()I" } : Jvm.MethodName)) ∈ lw_all := lw_g (lw_at lw_m9 8 rfl) rfl
theorem q2054 : (Jvm.Cond.selects "FeatherYardModel" ({ cls := "FeatherYardModel", name := "rich", desc := "()I" } : Jvm.MethodName) ({ cls := "FeatherYardModel", name := "rich", desc := "()I" } : Jvm.MethodName)) ∈ lw_all := lw_g (lw_at lw_m9 9 rfl) rfl
theorem q2055 : (Jvm.Cond.code ({ cls := "FeatherYardModel", name := "rich", desc := "()I" } : Jvm.MethodName) prog_18_method_121_code (3 : Nat) (Option.some Jvm.ClassFile.FieldType.int)) ∈ lw_all := lw_g (lw_at lw_m9 10 rfl) rfl
theorem q2056 : (Jvm.Cond.methodLink "FeatherYardModel" (444 : Nat) ({ cls := "FeatherYardModel", name := "allOf", desc := "(I)I" } : Jvm.MethodName)) ∈ lw_all := lw_g (lw_at lw_m9 11 rfl) rfl
theorem q2057 : (Jvm.Cond.privateMethod ({ cls := "FeatherYardModel", name := "allOf", desc := "(I)I" } : Jvm.MethodName)) ∈ lw_tbl := lw_at lw_m9 12 rfl
theorem q2058 : (Jvm.Cond.instanceMethod ({ cls := "FeatherYardModel", name := "allOf", desc := "(I)I" } : Jvm.MethodName)) ∈ lw_all := lw_g (lw_at lw_m9 13 rfl) rfl
theorem q2059 : (Jvm.Cond.code ({ cls := "FeatherYardModel", name := "allOf", desc := "(I)I" } : Jvm.MethodName) prog_18_method_120_code (4 : Nat) (Option.some Jvm.ClassFile.FieldType.int)) ∈ lw_all := lw_g (lw_at lw_m9 14 rfl) rfl
theorem q2061 : (Jvm.Cond.instanceMethod ({ cls := "FeatherYardModel", name := "won", desc := "(IZ)I" } : Jvm.MethodName)) ∈ lw_all := lw_g (lw_at lw_m9 16 rfl) rfl
theorem q2062 : (Jvm.Cond.selects "FeatherYardModel" ({ cls := "FeatherYardModel", name := "won", desc := "(IZ)I" } : Jvm.MethodName) ({ cls := "FeatherYardModel", name := "won", desc := "(IZ)I" } : Jvm.MethodName)) ∈ lw_all := lw_g (lw_at lw_m9 17 rfl) rfl
theorem q2063 : (Jvm.Cond.code ({ cls := "FeatherYardModel", name := "won", desc := "(IZ)I" } : Jvm.MethodName) prog_18_method_122_code (6 : Nat) (Option.some Jvm.ClassFile.FieldType.int)) ∈ lw_all := lw_g (lw_at lw_m9 18 rfl) rfl
theorem q2065 : (Jvm.Cond.instanceMethod ({ cls := "FeatherYardModel", name := "cover", desc := "()I" } : Jvm.MethodName)) ∈ lw_all := lw_g (lw_at lw_m9 20 rfl) rfl
theorem q2066 : (Jvm.Cond.selects "FeatherYardModel" ({ cls := "FeatherYardModel", name := "cover", desc := "()I" } : Jvm.MethodName) ({ cls := "FeatherYardModel", name := "cover", desc := "()I" } : Jvm.MethodName)) ∈ lw_all := lw_g (lw_at lw_m9 21 rfl) rfl
theorem q2067 : (Jvm.Cond.code ({ cls := "FeatherYardModel", name := "cover", desc := "()I" } : Jvm.MethodName) prog_18_method_124_code (3 : Nat) (Option.some Jvm.ClassFile.FieldType.int)) ∈ lw_all := lw_g (lw_at lw_m9 22 rfl) rfl
theorem q2068 : (Jvm.Cond.methodLink "FeatherYardModel" (447 : Nat) ({ cls := "FeatherYardModel", name := "covers", desc := "(I)Z" } : Jvm.MethodName)) ∈ lw_all := lw_g (lw_at lw_m9 23 rfl) rfl
theorem q2069 : (Jvm.Cond.privateMethod ({ cls := "FeatherYardModel", name := "covers", desc := "(I)Z" } : Jvm.MethodName)) ∈ lw_tbl := lw_at lw_m9 24 rfl
theorem q2070 : (Jvm.Cond.instanceMethod ({ cls := "FeatherYardModel", name := "covers", desc := "(I)Z" } : Jvm.MethodName)) ∈ lw_all := lw_g (lw_at lw_m9 25 rfl) rfl
theorem q2071 : (Jvm.Cond.code ({ cls := "FeatherYardModel", name := "covers", desc := "(I)Z" } : Jvm.MethodName) prog_18_method_123_code (3 : Nat) (Option.some Jvm.ClassFile.FieldType.boolean)) ∈ lw_all := lw_g (lw_at lw_m9 26 rfl) rfl
theorem q2072 : (Jvm.Cond.methodLink "FeatherYardModel" (450 : Nat) ({ cls := "java/lang/Integer", name := "bitCount", desc := "(I)I" } : Jvm.MethodName)) ∈ lw_all := lw_g (lw_at lw_m9 27 rfl) rfl
theorem q2074 : (Jvm.Cond.instanceMethod ({ cls := "FeatherYardModel", name := "trial", desc := "(III)I" } : Jvm.MethodName)) ∈ lw_all := lw_g (lw_at lw_m9 29 rfl) rfl
theorem q2075 : (Jvm.Cond.selects "FeatherYardModel" ({ cls := "FeatherYardModel", name := "trial", desc := "(III)I" } : Jvm.MethodName) ({ cls := "FeatherYardModel", name := "trial", desc := "(III)I" } : Jvm.MethodName)) ∈ lw_all := lw_g (lw_at lw_m9 30 rfl) rfl
theorem q2076 : (Jvm.Cond.code ({ cls := "FeatherYardModel", name := "trial", desc := "(III)I" } : Jvm.MethodName) prog_18_method_126_code (6 : Nat) (Option.some Jvm.ClassFile.FieldType.int)) ∈ lw_all := lw_g (lw_at lw_m9 31 rfl) rfl
theorem q2077 : (Jvm.Cond.methodLink "FeatherYardModel" (455 : Nat) ({ cls := "FeatherYardModel", name := "tries", desc := "(III)I" } : Jvm.MethodName)) ∈ lw_all := lw_g (lw_at lw_m9 32 rfl) rfl
theorem q2078 : (Jvm.Cond.privateMethod ({ cls := "FeatherYardModel", name := "tries", desc := "(III)I" } : Jvm.MethodName)) ∈ lw_tbl := lw_at lw_m9 33 rfl
theorem q2079 : (Jvm.Cond.instanceMethod ({ cls := "FeatherYardModel", name := "tries", desc := "(III)I" } : Jvm.MethodName)) ∈ lw_all := lw_g (lw_at lw_m9 34 rfl) rfl
theorem q2080 : (Jvm.Cond.code ({ cls := "FeatherYardModel", name := "tries", desc := "(III)I" } : Jvm.MethodName) prog_18_method_125_code (6 : Nat) (Option.some Jvm.ClassFile.FieldType.int)) ∈ lw_all := lw_g (lw_at lw_m9 35 rfl) rfl
theorem q2082 : (Jvm.Cond.instanceMethod ({ cls := "FeatherYardModel", name := "span", desc := "(IIIZ)I" } : Jvm.MethodName)) ∈ lw_all := lw_g (lw_at lw_m9 37 rfl) rfl
theorem q2083 : (Jvm.Cond.selects "FeatherYardModel" ({ cls := "FeatherYardModel", name := "span", desc := "(IIIZ)I" } : Jvm.MethodName) ({ cls := "FeatherYardModel", name := "span", desc := "(IIIZ)I" } : Jvm.MethodName)) ∈ lw_all := lw_g (lw_at lw_m9 38 rfl) rfl
theorem q2084 : (Jvm.Cond.code ({ cls := "FeatherYardModel", name := "span", desc := "(IIIZ)I" } : Jvm.MethodName) prog_18_method_127_code (9 : Nat) (Option.some Jvm.ClassFile.FieldType.int)) ∈ lw_all := lw_g (lw_at lw_m9 39 rfl) rfl
theorem q2086 : (Jvm.Cond.instanceMethod ({ cls := "FeatherYardModel", name := "led", desc := "(IZ)I" } : Jvm.MethodName)) ∈ lw_all := lw_g (lw_at lw_m9 41 rfl) rfl
theorem q2087 : (Jvm.Cond.selects "FeatherYardModel" ({ cls := "FeatherYardModel", name := "led", desc := "(IZ)I" } : Jvm.MethodName) ({ cls := "FeatherYardModel", name := "led", desc := "(IZ)I" } : Jvm.MethodName)) ∈ lw_all := lw_g (lw_at lw_m9 42 rfl) rfl
theorem q2088 : (Jvm.Cond.code ({ cls := "FeatherYardModel", name := "led", desc := "(IZ)I" } : Jvm.MethodName) prog_18_method_129_code (8 : Nat) (Option.some Jvm.ClassFile.FieldType.int)) ∈ lw_all := lw_g (lw_at lw_m9 43 rfl) rfl
theorem q2089 : (Jvm.Cond.methodLink "FeatherYardModel" (459 : Nat) ({ cls := "FeatherYardModel", name := "ofLog", desc := "(II)I" } : Jvm.MethodName)) ∈ lw_all := lw_g (lw_at lw_m9 44 rfl) rfl
theorem q2090 : (Jvm.Cond.privateMethod ({ cls := "FeatherYardModel", name := "ofLog", desc := "(II)I" } : Jvm.MethodName)) ∈ lw_tbl := lw_at lw_m9 45 rfl
theorem q2091 : (Jvm.Cond.instanceMethod ({ cls := "FeatherYardModel", name := "ofLog", desc := "(II)I" } : Jvm.MethodName)) ∈ lw_all := lw_g (lw_at lw_m9 46 rfl) rfl
theorem q2092 : (Jvm.Cond.code ({ cls := "FeatherYardModel", name := "ofLog", desc := "(II)I" } : Jvm.MethodName) prog_18_method_128_code (3 : Nat) (Option.some Jvm.ClassFile.FieldType.int)) ∈ lw_all := lw_g (lw_at lw_m9 47 rfl) rfl
theorem q2094 : (Jvm.Cond.instanceMethod ({ cls := "FeatherYardModel", name := "log", desc := "(II)I" } : Jvm.MethodName)) ∈ lw_all := lw_g (lw_at lw_m9 49 rfl) rfl
theorem q2095 : (Jvm.Cond.selects "FeatherYardModel" ({ cls := "FeatherYardModel", name := "log", desc := "(II)I" } : Jvm.MethodName) ({ cls := "FeatherYardModel", name := "log", desc := "(II)I" } : Jvm.MethodName)) ∈ lw_all := lw_g (lw_at lw_m9 50 rfl) rfl
theorem q2096 : (Jvm.Cond.code ({ cls := "FeatherYardModel", name := "log", desc := "(II)I" } : Jvm.MethodName) prog_18_method_130_code (3 : Nat) (Option.some Jvm.ClassFile.FieldType.int)) ∈ lw_all := lw_g (lw_at lw_m9 51 rfl) rfl
theorem q2098 : (Jvm.Cond.instanceMethod ({ cls := "FeatherYardModel", name := "seed", desc := "(I)I" } : Jvm.MethodName)) ∈ lw_all := lw_g (lw_at lw_m9 53 rfl) rfl
theorem q2099 : (Jvm.Cond.selects "FeatherYardModel" ({ cls := "FeatherYardModel", name := "seed", desc := "(I)I" } : Jvm.MethodName) ({ cls := "FeatherYardModel", name := "seed", desc := "(I)I" } : Jvm.MethodName)) ∈ lw_all := lw_g (lw_at lw_m9 54 rfl) rfl
theorem q2100 : (Jvm.Cond.code ({ cls := "FeatherYardModel", name := "seed", desc := "(I)I" } : Jvm.MethodName) prog_18_method_131_code (3 : Nat) (Option.some Jvm.ClassFile.FieldType.int)) ∈ lw_all := lw_g (lw_at lw_m9 55 rfl) rfl
theorem q2102 : (Jvm.Cond.instanceMethod ({ cls := "FeatherYardModel", name := "count", desc := "(I)I" } : Jvm.MethodName)) ∈ lw_all := lw_g (lw_at lw_m9 57 rfl) rfl
theorem q2103 : (Jvm.Cond.selects "FeatherYardModel" ({ cls := "FeatherYardModel", name := "count", desc := "(I)I" } : Jvm.MethodName) ({ cls := "FeatherYardModel", name := "count", desc := "(I)I" } : Jvm.MethodName)) ∈ lw_all := lw_g (lw_at lw_m9 58 rfl) rfl
theorem q2104 : (Jvm.Cond.code ({ cls := "FeatherYardModel", name := "count", desc := "(I)I" } : Jvm.MethodName) prog_18_method_134_code (2 : Nat) (Option.some Jvm.ClassFile.FieldType.int)) ∈ lw_all := lw_g (lw_at lw_m9 59 rfl) rfl
theorem q2105 : (Jvm.Cond.methodLink "FeatherYardModel" (462 : Nat) ({ cls := "FeatherYardModel", name := "openOnes", desc := "()I" } : Jvm.MethodName)) ∈ lw_all := lw_g (lw_at lw_m9 60 rfl) rfl
theorem q2106 : (Jvm.Cond.privateMethod ({ cls := "FeatherYardModel", name := "openOnes", desc := "()I" } : Jvm.MethodName)) ∈ lw_tbl := lw_at lw_m9 61 rfl
theorem q2107 : (Jvm.Cond.instanceMethod ({ cls := "FeatherYardModel", name := "openOnes", desc := "()I" } : Jvm.MethodName)) ∈ lw_all := lw_g (lw_at lw_m9 62 rfl) rfl
theorem q2108 : (Jvm.Cond.code ({ cls := "FeatherYardModel", name := "openOnes", desc := "()I" } : Jvm.MethodName) prog_18_method_132_code (3 : Nat) (Option.some Jvm.ClassFile.FieldType.int)) ∈ lw_all := lw_g (lw_at lw_m9 63 rfl) rfl
theorem q2109 : (Jvm.Cond.methodLink "FeatherYardModel" (465 : Nat) ({ cls := "FeatherYardModel", name := "isCalm", desc := "()Z" } : Jvm.MethodName)) ∈ lw_all := lw_g (lw_at lw_m9 64 rfl) rfl
theorem q2110 : (Jvm.Cond.privateMethod ({ cls := "FeatherYardModel", name := "isCalm", desc := "()Z" } : Jvm.MethodName)) ∈ lw_tbl := lw_at lw_m9 65 rfl
theorem q2111 : (Jvm.Cond.instanceMethod ({ cls := "FeatherYardModel", name := "isCalm", desc := "()Z" } : Jvm.MethodName)) ∈ lw_all := lw_g (lw_at lw_m9 66 rfl) rfl
theorem q2112 : (Jvm.Cond.code ({ cls := "FeatherYardModel", name := "isCalm", desc := "()Z" } : Jvm.MethodName) prog_18_method_133_code (3 : Nat) (Option.some Jvm.ClassFile.FieldType.boolean)) ∈ lw_all := lw_g (lw_at lw_m9 67 rfl) rfl
theorem q2123 : (Jvm.Cond.castable "FeatherYardModel" "java/lang/Object") ∈ lw_tbl := lw_at lw_m9 78 rfl
theorem in_X8 : ∀ w ∈ wsX80, w ∈ lw_all := lw_in wsX80 [1494, 1496, 1498, 1500, 1502, 1504, 1506, 1508, 1510, 1512, 1514, 1516, 1518, 1520, 1522, 1524, 1526, 1528, 1530, 1532, 1534, 1536, 1538, 1540, 1542, 1544, 1546, 1548, 1550, 1552] (by decide +kernel) (by decide +kernel)
