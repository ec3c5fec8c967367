/-! FeatherYard -/
set_option maxRecDepth 100000
def RX1 : String := "FeatherYard"
def TX1 : u_T := fun k => match k with
  | 0 => ("FeatherYard", "reader", "LFeatherYard$Reader;", true)
  | 1 => ("FeatherYard", "now", "LFeatherYard$State;", true)
  | 2 => ("FeatherYard", "image", "LFeatherYard$State;", true)
  | 3 => ("FeatherYard", "acts", "[LFeatherYard$State;", true)
  | 4 => ("FeatherYard", "one", "LFeatherYard$Ways;", true)
  | 5 => ("FeatherYard", "two", "LFeatherYard$Ways;", true)
  | 6 => ("FeatherYard", "has", "[I", true)
  | 7 => ("FeatherYard", "hasOther", "[I", true)
  | 8 => ("FeatherYard", "level", "[I", true)
  | 9 => ("FeatherYard", "column", "[I", true)
  | 10 => ("FeatherYard", "goodAt", "[I", true)
  | 11 => ("FeatherYard", "fits", "[Z", true)
  | 12 => ("FeatherYard", "wrongAt", "I", false)
  | 13 => ("FeatherYard", "actMany", "I", false)
  | 14 => ("FeatherYard", "actAt", "I", false)
  | _ => ("FeatherYard", "kept", "Z", false)
def tyX1 : Nat → FieldType := fun k => match k with
  | 0 => .object "FeatherYard$Reader"
  | 1 => .object "FeatherYard$State"
  | 2 => .object "FeatherYard$State"
  | 3 => .array (.object "FeatherYard$State")
  | 4 => .object "FeatherYard$Ways"
  | 5 => .object "FeatherYard$Ways"
  | 6 => .array .int
  | 7 => .array .int
  | 8 => .array .int
  | 9 => .array .int
  | 10 => .array .int
  | 11 => .array .boolean
  | 12 => .int
  | 13 => .int
  | 14 => .int
  | _ => .boolean
abbrev wsX10 : List Cond := u_ws RX1 TX1 16
set_option maxRecDepth 100000 in
theorem nmX1 : ∀ a, a < 16 → ∀ b, b < 16 → a ≠ b → (TX1 a).2.1 ≠ (TX1 b).2.1 := by decide +kernel
set_option maxRecDepth 100000 in
theorem tyX1_ok : ∀ k, k < 16 → parseFieldDescriptor (TX1 k).2.2.1 = some (tyX1 k) := by decide +kernel
abbrev cX1_init : ByteArray := prog_1_method_1_code
def yX1_init : MethodName := ⟨RX1, "<init>", "()V"⟩
def dkwX1_init_6 : List UInt8 := [132, 1, 1, 167, 255, 234, 177]
abbrev dktX1_init_6 : List UInt8 := dkwX1_init_6 ++ []
def dkwX1_init_5 : List UInt8 := [181, 0, 62, 3, 60, 27, 16, 12, 162, 0, 22, 42, 180, 0, 26, 27, 187, 0, 16, 89, 183, 0, 18, 83]
abbrev dktX1_init_5 : List UInt8 := dkwX1_init_5 ++ dktX1_init_6
def dkwX1_init_4 : List UInt8 := [188, 10, 181, 0, 52, 42, 5, 188, 10, 181, 0, 55, 42, 16, 64, 188, 4, 181, 0, 58, 42, 2]
abbrev dktX1_init_4 : List UInt8 := dkwX1_init_4 ++ dktX1_init_5
def dkwX1_init_3 : List UInt8 := [16, 36, 188, 10, 181, 0, 42, 42, 16, 36, 188, 10, 181, 0, 46, 42, 5, 188, 10, 181, 0, 49, 42, 5]
abbrev dktX1_init_3 : List UInt8 := dkwX1_init_3 ++ dktX1_init_4
def dkwX1_init_2 : List UInt8 := [187, 0, 30, 89, 42, 183, 0, 32, 181, 0, 35, 42, 187, 0, 30, 89, 42, 183, 0, 32, 181, 0, 39, 42]
abbrev dktX1_init_2 : List UInt8 := dkwX1_init_2 ++ dktX1_init_3
def dkwX1_init_1 : List UInt8 := [181, 0, 19, 42, 187, 0, 16, 89, 183, 0, 18, 181, 0, 23, 42, 16, 12, 189, 0, 16, 181, 0, 26, 42]
abbrev dktX1_init_1 : List UInt8 := dkwX1_init_1 ++ dktX1_init_2
def dkwX1_init_0 : List UInt8 := [42, 183, 0, 1, 42, 187, 0, 7, 89, 183, 0, 9, 181, 0, 10, 42, 187, 0, 16, 89, 183, 0, 18]
abbrev dktX1_init_0 : List UInt8 := dkwX1_init_0 ++ dktX1_init_1
theorem dksX1_init_0 : cX1_init.data.toList.drop 0 = dktX1_init_0 := by decide +kernel
theorem dksX1_init_1 : cX1_init.data.toList.drop 23 = dktX1_init_1 := dk_seg dksX1_init_0 23 rfl rfl
theorem dksX1_init_2 : cX1_init.data.toList.drop 47 = dktX1_init_2 := dk_seg dksX1_init_1 24 rfl rfl
theorem dksX1_init_3 : cX1_init.data.toList.drop 71 = dktX1_init_3 := dk_seg dksX1_init_2 24 rfl rfl
theorem dksX1_init_4 : cX1_init.data.toList.drop 95 = dktX1_init_4 := dk_seg dksX1_init_3 24 rfl rfl
theorem dksX1_init_5 : cX1_init.data.toList.drop 117 = dktX1_init_5 := dk_seg dksX1_init_4 22 rfl rfl
theorem dksX1_init_6 : cX1_init.data.toList.drop 141 = dktX1_init_6 := dk_seg dksX1_init_5 24 rfl rfl
theorem dX1_init_0 : decode cX1_init 0 = .ok (.aload_n 0, 1) := dk_42 (dk_at dksX1_init_0 0 rfl rfl)
theorem dX1_init_1 : decode cX1_init 1 = .ok (.invokespecial 1, 3) := dk_183 0 1 (dk_at dksX1_init_0 1 rfl rfl)
theorem dX1_init_4 : decode cX1_init 4 = .ok (.aload_n 0, 1) := dk_42 (dk_at dksX1_init_0 4 rfl rfl)
theorem dX1_init_5 : decode cX1_init 5 = .ok (.new 7, 3) := dk_187 0 7 (dk_at dksX1_init_0 5 rfl rfl)
theorem dX1_init_8 : decode cX1_init 8 = .ok (.dup, 1) := dk_89 (dk_at dksX1_init_0 8 rfl rfl)
theorem dX1_init_9 : decode cX1_init 9 = .ok (.invokespecial 9, 3) := dk_183 0 9 (dk_at dksX1_init_0 9 rfl rfl)
theorem dX1_init_12 : decode cX1_init 12 = .ok (.putfield 10, 3) := dk_181 0 10 (dk_at dksX1_init_0 12 rfl rfl)
theorem dX1_init_15 : decode cX1_init 15 = .ok (.aload_n 0, 1) := dk_42 (dk_at dksX1_init_0 15 rfl rfl)
theorem dX1_init_16 : decode cX1_init 16 = .ok (.new 16, 3) := dk_187 0 16 (dk_at dksX1_init_0 16 rfl rfl)
theorem dX1_init_19 : decode cX1_init 19 = .ok (.dup, 1) := dk_89 (dk_at dksX1_init_0 19 rfl rfl)
theorem dX1_init_20 : decode cX1_init 20 = .ok (.invokespecial 18, 3) := dk_183 0 18 (dk_at dksX1_init_0 20 rfl rfl)
theorem dX1_init_23 : decode cX1_init 23 = .ok (.putfield 19, 3) := dk_181 0 19 (dk_at dksX1_init_1 0 rfl rfl)
theorem dX1_init_26 : decode cX1_init 26 = .ok (.aload_n 0, 1) := dk_42 (dk_at dksX1_init_1 3 rfl rfl)
theorem dX1_init_27 : decode cX1_init 27 = .ok (.new 16, 3) := dk_187 0 16 (dk_at dksX1_init_1 4 rfl rfl)
theorem dX1_init_30 : decode cX1_init 30 = .ok (.dup, 1) := dk_89 (dk_at dksX1_init_1 7 rfl rfl)
theorem dX1_init_31 : decode cX1_init 31 = .ok (.invokespecial 18, 3) := dk_183 0 18 (dk_at dksX1_init_1 8 rfl rfl)
theorem dX1_init_34 : decode cX1_init 34 = .ok (.putfield 23, 3) := dk_181 0 23 (dk_at dksX1_init_1 11 rfl rfl)
theorem dX1_init_37 : decode cX1_init 37 = .ok (.aload_n 0, 1) := dk_42 (dk_at dksX1_init_1 14 rfl rfl)
theorem dX1_init_38 : decode cX1_init 38 = .ok (.bipush 12, 2) := dk_16 12 (dk_at dksX1_init_1 15 rfl rfl)
theorem dX1_init_40 : decode cX1_init 40 = .ok (.anewarray 16, 3) := dk_189 0 16 (dk_at dksX1_init_1 17 rfl rfl)
theorem dX1_init_43 : decode cX1_init 43 = .ok (.putfield 26, 3) := dk_181 0 26 (dk_at dksX1_init_1 20 rfl rfl)
theorem dX1_init_46 : decode cX1_init 46 = .ok (.aload_n 0, 1) := dk_42 (dk_at dksX1_init_1 23 rfl rfl)
theorem dX1_init_47 : decode cX1_init 47 = .ok (.new 30, 3) := dk_187 0 30 (dk_at dksX1_init_2 0 rfl rfl)
theorem dX1_init_50 : decode cX1_init 50 = .ok (.dup, 1) := dk_89 (dk_at dksX1_init_2 3 rfl rfl)
theorem dX1_init_51 : decode cX1_init 51 = .ok (.aload_n 0, 1) := dk_42 (dk_at dksX1_init_2 4 rfl rfl)
theorem dX1_init_52 : decode cX1_init 52 = .ok (.invokespecial 32, 3) := dk_183 0 32 (dk_at dksX1_init_2 5 rfl rfl)
theorem dX1_init_55 : decode cX1_init 55 = .ok (.putfield 35, 3) := dk_181 0 35 (dk_at dksX1_init_2 8 rfl rfl)
theorem dX1_init_58 : decode cX1_init 58 = .ok (.aload_n 0, 1) := dk_42 (dk_at dksX1_init_2 11 rfl rfl)
theorem dX1_init_59 : decode cX1_init 59 = .ok (.new 30, 3) := dk_187 0 30 (dk_at dksX1_init_2 12 rfl rfl)
theorem dX1_init_62 : decode cX1_init 62 = .ok (.dup, 1) := dk_89 (dk_at dksX1_init_2 15 rfl rfl)
theorem dX1_init_63 : decode cX1_init 63 = .ok (.aload_n 0, 1) := dk_42 (dk_at dksX1_init_2 16 rfl rfl)
theorem dX1_init_64 : decode cX1_init 64 = .ok (.invokespecial 32, 3) := dk_183 0 32 (dk_at dksX1_init_2 17 rfl rfl)
theorem dX1_init_67 : decode cX1_init 67 = .ok (.putfield 39, 3) := dk_181 0 39 (dk_at dksX1_init_2 20 rfl rfl)
theorem dX1_init_70 : decode cX1_init 70 = .ok (.aload_n 0, 1) := dk_42 (dk_at dksX1_init_2 23 rfl rfl)
theorem dX1_init_71 : decode cX1_init 71 = .ok (.bipush 36, 2) := dk_16 36 (dk_at dksX1_init_3 0 rfl rfl)
theorem dX1_init_73 : decode cX1_init 73 = .ok (.newarray .int, 2) := dk_188_10 (dk_at dksX1_init_3 2 rfl rfl)
theorem dX1_init_75 : decode cX1_init 75 = .ok (.putfield 42, 3) := dk_181 0 42 (dk_at dksX1_init_3 4 rfl rfl)
theorem dX1_init_78 : decode cX1_init 78 = .ok (.aload_n 0, 1) := dk_42 (dk_at dksX1_init_3 7 rfl rfl)
theorem dX1_init_79 : decode cX1_init 79 = .ok (.bipush 36, 2) := dk_16 36 (dk_at dksX1_init_3 8 rfl rfl)
theorem dX1_init_81 : decode cX1_init 81 = .ok (.newarray .int, 2) := dk_188_10 (dk_at dksX1_init_3 10 rfl rfl)
theorem dX1_init_83 : decode cX1_init 83 = .ok (.putfield 46, 3) := dk_181 0 46 (dk_at dksX1_init_3 12 rfl rfl)
theorem dX1_init_86 : decode cX1_init 86 = .ok (.aload_n 0, 1) := dk_42 (dk_at dksX1_init_3 15 rfl rfl)
theorem dX1_init_87 : decode cX1_init 87 = .ok (.iconst 2, 1) := dk_5 (dk_at dksX1_init_3 16 rfl rfl)
theorem dX1_init_88 : decode cX1_init 88 = .ok (.newarray .int, 2) := dk_188_10 (dk_at dksX1_init_3 17 rfl rfl)
theorem dX1_init_90 : decode cX1_init 90 = .ok (.putfield 49, 3) := dk_181 0 49 (dk_at dksX1_init_3 19 rfl rfl)
theorem dX1_init_93 : decode cX1_init 93 = .ok (.aload_n 0, 1) := dk_42 (dk_at dksX1_init_3 22 rfl rfl)
theorem dX1_init_94 : decode cX1_init 94 = .ok (.iconst 2, 1) := dk_5 (dk_at dksX1_init_3 23 rfl rfl)
theorem dX1_init_95 : decode cX1_init 95 = .ok (.newarray .int, 2) := dk_188_10 (dk_at dksX1_init_4 0 rfl rfl)
theorem dX1_init_97 : decode cX1_init 97 = .ok (.putfield 52, 3) := dk_181 0 52 (dk_at dksX1_init_4 2 rfl rfl)
theorem dX1_init_100 : decode cX1_init 100 = .ok (.aload_n 0, 1) := dk_42 (dk_at dksX1_init_4 5 rfl rfl)
theorem dX1_init_101 : decode cX1_init 101 = .ok (.iconst 2, 1) := dk_5 (dk_at dksX1_init_4 6 rfl rfl)
theorem dX1_init_102 : decode cX1_init 102 = .ok (.newarray .int, 2) := dk_188_10 (dk_at dksX1_init_4 7 rfl rfl)
theorem dX1_init_104 : decode cX1_init 104 = .ok (.putfield 55, 3) := dk_181 0 55 (dk_at dksX1_init_4 9 rfl rfl)
theorem dX1_init_107 : decode cX1_init 107 = .ok (.aload_n 0, 1) := dk_42 (dk_at dksX1_init_4 12 rfl rfl)
theorem dX1_init_108 : decode cX1_init 108 = .ok (.bipush 64, 2) := dk_16 64 (dk_at dksX1_init_4 13 rfl rfl)
theorem dX1_init_110 : decode cX1_init 110 = .ok (.newarray .boolean, 2) := dk_188_4 (dk_at dksX1_init_4 15 rfl rfl)
theorem dX1_init_112 : decode cX1_init 112 = .ok (.putfield 58, 3) := dk_181 0 58 (dk_at dksX1_init_4 17 rfl rfl)
theorem dX1_init_115 : decode cX1_init 115 = .ok (.aload_n 0, 1) := dk_42 (dk_at dksX1_init_4 20 rfl rfl)
theorem dX1_init_116 : decode cX1_init 116 = .ok (.iconst (-1), 1) := dk_2 (dk_at dksX1_init_4 21 rfl rfl)
theorem dX1_init_117 : decode cX1_init 117 = .ok (.putfield 62, 3) := dk_181 0 62 (dk_at dksX1_init_5 0 rfl rfl)
theorem dX1_init_120 : decode cX1_init 120 = .ok (.iconst 0, 1) := dk_3 (dk_at dksX1_init_5 3 rfl rfl)
theorem dX1_init_121 : decode cX1_init 121 = .ok (.istore_n 1, 1) := dk_60 (dk_at dksX1_init_5 4 rfl rfl)
theorem dX1_init_122 : decode cX1_init 122 = .ok (.iload_n 1, 1) := dk_27 (dk_at dksX1_init_5 5 rfl rfl)
theorem dX1_init_123 : decode cX1_init 123 = .ok (.bipush 12, 2) := dk_16 12 (dk_at dksX1_init_5 6 rfl rfl)
theorem dX1_init_125 : decode cX1_init 125 = .ok (.if_icmp .ge 22, 3) := dk_162 0 22 (dk_at dksX1_init_5 8 rfl rfl)
theorem dX1_init_128 : decode cX1_init 128 = .ok (.aload_n 0, 1) := dk_42 (dk_at dksX1_init_5 11 rfl rfl)
theorem dX1_init_129 : decode cX1_init 129 = .ok (.getfield 26, 3) := dk_180 0 26 (dk_at dksX1_init_5 12 rfl rfl)
theorem dX1_init_132 : decode cX1_init 132 = .ok (.iload_n 1, 1) := dk_27 (dk_at dksX1_init_5 15 rfl rfl)
theorem dX1_init_133 : decode cX1_init 133 = .ok (.new 16, 3) := dk_187 0 16 (dk_at dksX1_init_5 16 rfl rfl)
theorem dX1_init_136 : decode cX1_init 136 = .ok (.dup, 1) := dk_89 (dk_at dksX1_init_5 19 rfl rfl)
theorem dX1_init_137 : decode cX1_init 137 = .ok (.invokespecial 18, 3) := dk_183 0 18 (dk_at dksX1_init_5 20 rfl rfl)
theorem dX1_init_140 : decode cX1_init 140 = .ok (.aastore, 1) := dk_83 (dk_at dksX1_init_5 23 rfl rfl)
theorem dX1_init_141 : decode cX1_init 141 = .ok (.iinc 1 1, 3) := dk_132 1 1 (dk_at dksX1_init_6 0 rfl rfl)
theorem dX1_init_144 : decode cX1_init 144 = .ok (.goto (-22), 3) := dk_167 255 234 (dk_at dksX1_init_6 3 rfl rfl)
theorem dX1_init_147 : decode cX1_init 147 = .ok (.return_, 1) := dk_177 (dk_at dksX1_init_6 6 rfl rfl)
abbrev cX1_feed : ByteArray := prog_1_method_12_code
def yX1_feed : MethodName := ⟨RX1, "feed", "(IIIII)I"⟩
def dkwX1_feed_2 : List UInt8 := [180, 0, 10, 180, 0, 110, 172]
abbrev dktX1_feed_2 : List UInt8 := dkwX1_feed_2 ++ []
def dkwX1_feed_1 : List UInt8 := [28, 182, 0, 113, 42, 29, 182, 0, 113, 42, 21, 4, 182, 0, 113, 42, 21, 5, 182, 0, 113, 42]
abbrev dktX1_feed_1 : List UInt8 := dkwX1_feed_1 ++ dktX1_feed_2
def dkwX1_feed_0 : List UInt8 := [42, 180, 0, 10, 180, 0, 110, 16, 20, 96, 17, 1, 144, 164, 0, 5, 2, 172, 42, 27, 182, 0, 113, 42]
abbrev dktX1_feed_0 : List UInt8 := dkwX1_feed_0 ++ dktX1_feed_1
theorem dksX1_feed_0 : cX1_feed.data.toList.drop 0 = dktX1_feed_0 := by decide +kernel
theorem dksX1_feed_1 : cX1_feed.data.toList.drop 24 = dktX1_feed_1 := dk_seg dksX1_feed_0 24 rfl rfl
theorem dksX1_feed_2 : cX1_feed.data.toList.drop 46 = dktX1_feed_2 := dk_seg dksX1_feed_1 22 rfl rfl
theorem dX1_feed_0 : decode cX1_feed 0 = .ok (.aload_n 0, 1) := dk_42 (dk_at dksX1_feed_0 0 rfl rfl)
theorem dX1_feed_1 : decode cX1_feed 1 = .ok (.getfield 10, 3) := dk_180 0 10 (dk_at dksX1_feed_0 1 rfl rfl)
theorem dX1_feed_4 : decode cX1_feed 4 = .ok (.getfield 110, 3) := dk_180 0 110 (dk_at dksX1_feed_0 4 rfl rfl)
theorem dX1_feed_7 : decode cX1_feed 7 = .ok (.bipush 20, 2) := dk_16 20 (dk_at dksX1_feed_0 7 rfl rfl)
theorem dX1_feed_9 : decode cX1_feed 9 = .ok (.iadd, 1) := dk_96 (dk_at dksX1_feed_0 9 rfl rfl)
theorem dX1_feed_10 : decode cX1_feed 10 = .ok (.sipush 400, 3) := dk_17 1 144 (dk_at dksX1_feed_0 10 rfl rfl)
theorem dX1_feed_13 : decode cX1_feed 13 = .ok (.if_icmp .le 5, 3) := dk_164 0 5 (dk_at dksX1_feed_0 13 rfl rfl)
theorem dX1_feed_16 : decode cX1_feed 16 = .ok (.iconst (-1), 1) := dk_2 (dk_at dksX1_feed_0 16 rfl rfl)
theorem dX1_feed_17 : decode cX1_feed 17 = .ok (.ireturn, 1) := dk_172 (dk_at dksX1_feed_0 17 rfl rfl)
theorem dX1_feed_18 : decode cX1_feed 18 = .ok (.aload_n 0, 1) := dk_42 (dk_at dksX1_feed_0 18 rfl rfl)
theorem dX1_feed_19 : decode cX1_feed 19 = .ok (.iload_n 1, 1) := dk_27 (dk_at dksX1_feed_0 19 rfl rfl)
theorem dX1_feed_20 : decode cX1_feed 20 = .ok (.invokevirtual 113, 3) := dk_182 0 113 (dk_at dksX1_feed_0 20 rfl rfl)
theorem dX1_feed_23 : decode cX1_feed 23 = .ok (.aload_n 0, 1) := dk_42 (dk_at dksX1_feed_0 23 rfl rfl)
theorem dX1_feed_24 : decode cX1_feed 24 = .ok (.iload_n 2, 1) := dk_28 (dk_at dksX1_feed_1 0 rfl rfl)
theorem dX1_feed_25 : decode cX1_feed 25 = .ok (.invokevirtual 113, 3) := dk_182 0 113 (dk_at dksX1_feed_1 1 rfl rfl)
theorem dX1_feed_28 : decode cX1_feed 28 = .ok (.aload_n 0, 1) := dk_42 (dk_at dksX1_feed_1 4 rfl rfl)
theorem dX1_feed_29 : decode cX1_feed 29 = .ok (.iload_n 3, 1) := dk_29 (dk_at dksX1_feed_1 5 rfl rfl)
theorem dX1_feed_30 : decode cX1_feed 30 = .ok (.invokevirtual 113, 3) := dk_182 0 113 (dk_at dksX1_feed_1 6 rfl rfl)
theorem dX1_feed_33 : decode cX1_feed 33 = .ok (.aload_n 0, 1) := dk_42 (dk_at dksX1_feed_1 9 rfl rfl)
theorem dX1_feed_34 : decode cX1_feed 34 = .ok (.iload 4, 2) := dk_21 4 (dk_at dksX1_feed_1 10 rfl rfl)
theorem dX1_feed_36 : decode cX1_feed 36 = .ok (.invokevirtual 113, 3) := dk_182 0 113 (dk_at dksX1_feed_1 12 rfl rfl)
theorem dX1_feed_39 : decode cX1_feed 39 = .ok (.aload_n 0, 1) := dk_42 (dk_at dksX1_feed_1 15 rfl rfl)
theorem dX1_feed_40 : decode cX1_feed 40 = .ok (.iload 5, 2) := dk_21 5 (dk_at dksX1_feed_1 16 rfl rfl)
theorem dX1_feed_42 : decode cX1_feed 42 = .ok (.invokevirtual 113, 3) := dk_182 0 113 (dk_at dksX1_feed_1 18 rfl rfl)
theorem dX1_feed_45 : decode cX1_feed 45 = .ok (.aload_n 0, 1) := dk_42 (dk_at dksX1_feed_1 21 rfl rfl)
theorem dX1_feed_46 : decode cX1_feed 46 = .ok (.getfield 10, 3) := dk_180 0 10 (dk_at dksX1_feed_2 0 rfl rfl)
theorem dX1_feed_49 : decode cX1_feed 49 = .ok (.getfield 110, 3) := dk_180 0 110 (dk_at dksX1_feed_2 3 rfl rfl)
theorem dX1_feed_52 : decode cX1_feed 52 = .ok (.ireturn, 1) := dk_172 (dk_at dksX1_feed_2 6 rfl rfl)
abbrev cX1_four : ByteArray := prog_1_method_11_code
def yX1_four : MethodName := ⟨RX1, "four", "(I)V"⟩
def dkwX1_four_1 : List UInt8 := [145, 84, 42, 180, 0, 10, 89, 180, 0, 110, 4, 96, 181, 0, 110, 132, 2, 248, 167, 255, 217, 177]
abbrev dktX1_four_1 : List UInt8 := dkwX1_four_1 ++ []
def dkwX1_four_0 : List UInt8 := [16, 24, 61, 28, 155, 0, 41, 42, 180, 0, 10, 180, 0, 106, 42, 180, 0, 10, 180, 0, 110, 27, 28, 122]
abbrev dktX1_four_0 : List UInt8 := dkwX1_four_0 ++ dktX1_four_1
theorem dksX1_four_0 : cX1_four.data.toList.drop 0 = dktX1_four_0 := by decide +kernel
theorem dksX1_four_1 : cX1_four.data.toList.drop 24 = dktX1_four_1 := dk_seg dksX1_four_0 24 rfl rfl
theorem dX1_four_0 : decode cX1_four 0 = .ok (.bipush 24, 2) := dk_16 24 (dk_at dksX1_four_0 0 rfl rfl)
theorem dX1_four_2 : decode cX1_four 2 = .ok (.istore_n 2, 1) := dk_61 (dk_at dksX1_four_0 2 rfl rfl)
theorem dX1_four_3 : decode cX1_four 3 = .ok (.iload_n 2, 1) := dk_28 (dk_at dksX1_four_0 3 rfl rfl)
theorem dX1_four_4 : decode cX1_four 4 = .ok (.ifCond .lt 41, 3) := dk_155 0 41 (dk_at dksX1_four_0 4 rfl rfl)
theorem dX1_four_7 : decode cX1_four 7 = .ok (.aload_n 0, 1) := dk_42 (dk_at dksX1_four_0 7 rfl rfl)
theorem dX1_four_8 : decode cX1_four 8 = .ok (.getfield 10, 3) := dk_180 0 10 (dk_at dksX1_four_0 8 rfl rfl)
theorem dX1_four_11 : decode cX1_four 11 = .ok (.getfield 106, 3) := dk_180 0 106 (dk_at dksX1_four_0 11 rfl rfl)
theorem dX1_four_14 : decode cX1_four 14 = .ok (.aload_n 0, 1) := dk_42 (dk_at dksX1_four_0 14 rfl rfl)
theorem dX1_four_15 : decode cX1_four 15 = .ok (.getfield 10, 3) := dk_180 0 10 (dk_at dksX1_four_0 15 rfl rfl)
theorem dX1_four_18 : decode cX1_four 18 = .ok (.getfield 110, 3) := dk_180 0 110 (dk_at dksX1_four_0 18 rfl rfl)
theorem dX1_four_21 : decode cX1_four 21 = .ok (.iload_n 1, 1) := dk_27 (dk_at dksX1_four_0 21 rfl rfl)
theorem dX1_four_22 : decode cX1_four 22 = .ok (.iload_n 2, 1) := dk_28 (dk_at dksX1_four_0 22 rfl rfl)
theorem dX1_four_23 : decode cX1_four 23 = .ok (.ishr, 1) := dk_122 (dk_at dksX1_four_0 23 rfl rfl)
theorem dX1_four_24 : decode cX1_four 24 = .ok (.i2b, 1) := dk_145 (dk_at dksX1_four_1 0 rfl rfl)
theorem dX1_four_25 : decode cX1_four 25 = .ok (.bastore, 1) := dk_84 (dk_at dksX1_four_1 1 rfl rfl)
theorem dX1_four_26 : decode cX1_four 26 = .ok (.aload_n 0, 1) := dk_42 (dk_at dksX1_four_1 2 rfl rfl)
theorem dX1_four_27 : decode cX1_four 27 = .ok (.getfield 10, 3) := dk_180 0 10 (dk_at dksX1_four_1 3 rfl rfl)
theorem dX1_four_30 : decode cX1_four 30 = .ok (.dup, 1) := dk_89 (dk_at dksX1_four_1 6 rfl rfl)
theorem dX1_four_31 : decode cX1_four 31 = .ok (.getfield 110, 3) := dk_180 0 110 (dk_at dksX1_four_1 7 rfl rfl)
theorem dX1_four_34 : decode cX1_four 34 = .ok (.iconst 1, 1) := dk_4 (dk_at dksX1_four_1 10 rfl rfl)
theorem dX1_four_35 : decode cX1_four 35 = .ok (.iadd, 1) := dk_96 (dk_at dksX1_four_1 11 rfl rfl)
theorem dX1_four_36 : decode cX1_four 36 = .ok (.putfield 110, 3) := dk_181 0 110 (dk_at dksX1_four_1 12 rfl rfl)
theorem dX1_four_39 : decode cX1_four 39 = .ok (.iinc 2 (-8), 3) := dk_132 2 248 (dk_at dksX1_four_1 15 rfl rfl)
theorem dX1_four_42 : decode cX1_four 42 = .ok (.goto (-39), 3) := dk_167 255 217 (dk_at dksX1_four_1 18 rfl rfl)
theorem dX1_four_45 : decode cX1_four 45 = .ok (.return_, 1) := dk_177 (dk_at dksX1_four_1 21 rfl rfl)
abbrev cX1_end : ByteArray := prog_1_method_13_code
def yX1_end : MethodName := ⟨RX1, "end", "(I)Z"⟩
def dkwX1_end_1 : List UInt8 := [181, 0, 110, 4, 172]
abbrev dktX1_end_1 : List UInt8 := dkwX1_end_1 ++ []
def dkwX1_end_0 : List UInt8 := [27, 3, 42, 180, 0, 10, 180, 0, 110, 184, 0, 84, 154, 0, 5, 3, 172, 42, 180, 0, 10, 27]
abbrev dktX1_end_0 : List UInt8 := dkwX1_end_0 ++ dktX1_end_1
theorem dksX1_end_0 : cX1_end.data.toList.drop 0 = dktX1_end_0 := by decide +kernel
theorem dksX1_end_1 : cX1_end.data.toList.drop 22 = dktX1_end_1 := dk_seg dksX1_end_0 22 rfl rfl
theorem dX1_end_0 : decode cX1_end 0 = .ok (.iload_n 1, 1) := dk_27 (dk_at dksX1_end_0 0 rfl rfl)
theorem dX1_end_1 : decode cX1_end 1 = .ok (.iconst 0, 1) := dk_3 (dk_at dksX1_end_0 1 rfl rfl)
theorem dX1_end_2 : decode cX1_end 2 = .ok (.aload_n 0, 1) := dk_42 (dk_at dksX1_end_0 2 rfl rfl)
theorem dX1_end_3 : decode cX1_end 3 = .ok (.getfield 10, 3) := dk_180 0 10 (dk_at dksX1_end_0 3 rfl rfl)
theorem dX1_end_6 : decode cX1_end 6 = .ok (.getfield 110, 3) := dk_180 0 110 (dk_at dksX1_end_0 6 rfl rfl)
theorem dX1_end_9 : decode cX1_end 9 = .ok (.invokestatic 84, 3) := dk_184 0 84 (dk_at dksX1_end_0 9 rfl rfl)
theorem dX1_end_12 : decode cX1_end 12 = .ok (.ifCond .ne 5, 3) := dk_154 0 5 (dk_at dksX1_end_0 12 rfl rfl)
theorem dX1_end_15 : decode cX1_end 15 = .ok (.iconst 0, 1) := dk_3 (dk_at dksX1_end_0 15 rfl rfl)
theorem dX1_end_16 : decode cX1_end 16 = .ok (.ireturn, 1) := dk_172 (dk_at dksX1_end_0 16 rfl rfl)
theorem dX1_end_17 : decode cX1_end 17 = .ok (.aload_n 0, 1) := dk_42 (dk_at dksX1_end_0 17 rfl rfl)
theorem dX1_end_18 : decode cX1_end 18 = .ok (.getfield 10, 3) := dk_180 0 10 (dk_at dksX1_end_0 18 rfl rfl)
theorem dX1_end_21 : decode cX1_end 21 = .ok (.iload_n 1, 1) := dk_27 (dk_at dksX1_end_0 21 rfl rfl)
theorem dX1_end_22 : decode cX1_end 22 = .ok (.putfield 110, 3) := dk_181 0 110 (dk_at dksX1_end_1 0 rfl rfl)
theorem dX1_end_25 : decode cX1_end 25 = .ok (.iconst 1, 1) := dk_4 (dk_at dksX1_end_1 3 rfl rfl)
theorem dX1_end_26 : decode cX1_end 26 = .ok (.ireturn, 1) := dk_172 (dk_at dksX1_end_1 4 rfl rfl)
abbrev cX1_isIn : ByteArray := prog_1_method_7_code
def yX1_isIn : MethodName := ⟨RX1, "isIn", "(III)Z"⟩
def dkwX1_isIn_0 : List UInt8 := [26, 27, 161, 0, 12, 26, 28, 163, 0, 7, 4, 167, 0, 4, 3, 172]
abbrev dktX1_isIn_0 : List UInt8 := dkwX1_isIn_0 ++ []
theorem dksX1_isIn_0 : cX1_isIn.data.toList.drop 0 = dktX1_isIn_0 := by decide +kernel
theorem dX1_isIn_0 : decode cX1_isIn 0 = .ok (.iload_n 0, 1) := dk_26 (dk_at dksX1_isIn_0 0 rfl rfl)
theorem dX1_isIn_1 : decode cX1_isIn 1 = .ok (.iload_n 1, 1) := dk_27 (dk_at dksX1_isIn_0 1 rfl rfl)
theorem dX1_isIn_2 : decode cX1_isIn 2 = .ok (.if_icmp .lt 12, 3) := dk_161 0 12 (dk_at dksX1_isIn_0 2 rfl rfl)
theorem dX1_isIn_5 : decode cX1_isIn 5 = .ok (.iload_n 0, 1) := dk_26 (dk_at dksX1_isIn_0 5 rfl rfl)
theorem dX1_isIn_6 : decode cX1_isIn 6 = .ok (.iload_n 2, 1) := dk_28 (dk_at dksX1_isIn_0 6 rfl rfl)
theorem dX1_isIn_7 : decode cX1_isIn 7 = .ok (.if_icmp .gt 7, 3) := dk_163 0 7 (dk_at dksX1_isIn_0 7 rfl rfl)
theorem dX1_isIn_10 : decode cX1_isIn 10 = .ok (.iconst 1, 1) := dk_4 (dk_at dksX1_isIn_0 10 rfl rfl)
theorem dX1_isIn_11 : decode cX1_isIn 11 = .ok (.goto 4, 3) := dk_167 0 4 (dk_at dksX1_isIn_0 11 rfl rfl)
theorem dX1_isIn_14 : decode cX1_isIn 14 = .ok (.iconst 0, 1) := dk_3 (dk_at dksX1_isIn_0 14 rfl rfl)
theorem dX1_isIn_15 : decode cX1_isIn 15 = .ok (.ireturn, 1) := dk_172 (dk_at dksX1_isIn_0 15 rfl rfl)
abbrev cX1_fault : ByteArray := prog_1_method_18_code
def yX1_fault : MethodName := ⟨RX1, "fault", "()I"⟩
theorem dX1_fault_0 : decode cX1_fault 0 = .ok (.aload_n 0, 1) := by decide +kernel
theorem dX1_fault_1 : decode cX1_fault 1 = .ok (.getfield 62, 3) := by decide +kernel
theorem dX1_fault_4 : decode cX1_fault 4 = .ok (.ireturn, 1) := by decide +kernel
abbrev cX1_alike : ByteArray := prog_1_method_54_code
def yX1_alike : MethodName := ⟨RX1, "alike", "()I"⟩
def dkwX1_alike_5 : List UInt8 := [132, 2, 1, 167, 255, 140, 27, 172]
abbrev dktX1_alike_5 : List UInt8 := dkwX1_alike_5 ++ []
def dkwX1_alike_4 : List UInt8 := [167, 255, 213, 27, 21, 4, 153, 0, 7, 4, 167, 0, 4, 3, 96, 60, 132, 3, 1, 167, 255, 169]
abbrev dktX1_alike_4 : List UInt8 := dkwX1_alike_4 ++ dktX1_alike_5
def dkwX1_alike_3 : List UInt8 := [42, 180, 0, 39, 180, 1, 34, 21, 5, 46, 160, 0, 7, 4, 167, 0, 4, 3, 126, 54, 4, 132, 5, 1]
abbrev dktX1_alike_3 : List UInt8 := dkwX1_alike_3 ++ dktX1_alike_4
def dkwX1_alike_2 : List UInt8 := [54, 4, 4, 54, 5, 21, 5, 16, 8, 163, 0, 42, 21, 4, 42, 180, 0, 35, 180, 1, 34, 21, 5, 46]
abbrev dktX1_alike_2 : List UInt8 := dkwX1_alike_2 ++ dktX1_alike_3
def dkwX1_alike_1 : List UInt8 := [4, 96, 62, 29, 42, 180, 0, 19, 180, 0, 81, 162, 0, 82, 42, 180, 0, 39, 29, 182, 1, 19, 4]
abbrev dktX1_alike_1 : List UInt8 := dkwX1_alike_1 ++ dktX1_alike_2
def dkwX1_alike_0 : List UInt8 := [3, 60, 3, 61, 28, 42, 180, 0, 19, 180, 0, 81, 162, 0, 111, 42, 180, 0, 35, 28, 182, 1, 19, 28]
abbrev dktX1_alike_0 : List UInt8 := dkwX1_alike_0 ++ dktX1_alike_1
theorem dksX1_alike_0 : cX1_alike.data.toList.drop 0 = dktX1_alike_0 := by decide +kernel
theorem dksX1_alike_1 : cX1_alike.data.toList.drop 24 = dktX1_alike_1 := dk_seg dksX1_alike_0 24 rfl rfl
theorem dksX1_alike_2 : cX1_alike.data.toList.drop 47 = dktX1_alike_2 := dk_seg dksX1_alike_1 23 rfl rfl
theorem dksX1_alike_3 : cX1_alike.data.toList.drop 71 = dktX1_alike_3 := dk_seg dksX1_alike_2 24 rfl rfl
theorem dksX1_alike_4 : cX1_alike.data.toList.drop 95 = dktX1_alike_4 := dk_seg dksX1_alike_3 24 rfl rfl
theorem dksX1_alike_5 : cX1_alike.data.toList.drop 117 = dktX1_alike_5 := dk_seg dksX1_alike_4 22 rfl rfl
theorem dX1_alike_0 : decode cX1_alike 0 = .ok (.iconst 0, 1) := dk_3 (dk_at dksX1_alike_0 0 rfl rfl)
theorem dX1_alike_1 : decode cX1_alike 1 = .ok (.istore_n 1, 1) := dk_60 (dk_at dksX1_alike_0 1 rfl rfl)
theorem dX1_alike_2 : decode cX1_alike 2 = .ok (.iconst 0, 1) := dk_3 (dk_at dksX1_alike_0 2 rfl rfl)
theorem dX1_alike_3 : decode cX1_alike 3 = .ok (.istore_n 2, 1) := dk_61 (dk_at dksX1_alike_0 3 rfl rfl)
theorem dX1_alike_4 : decode cX1_alike 4 = .ok (.iload_n 2, 1) := dk_28 (dk_at dksX1_alike_0 4 rfl rfl)
theorem dX1_alike_5 : decode cX1_alike 5 = .ok (.aload_n 0, 1) := dk_42 (dk_at dksX1_alike_0 5 rfl rfl)
theorem dX1_alike_6 : decode cX1_alike 6 = .ok (.getfield 19, 3) := dk_180 0 19 (dk_at dksX1_alike_0 6 rfl rfl)
theorem dX1_alike_9 : decode cX1_alike 9 = .ok (.getfield 81, 3) := dk_180 0 81 (dk_at dksX1_alike_0 9 rfl rfl)
theorem dX1_alike_12 : decode cX1_alike 12 = .ok (.if_icmp .ge 111, 3) := dk_162 0 111 (dk_at dksX1_alike_0 12 rfl rfl)
theorem dX1_alike_15 : decode cX1_alike 15 = .ok (.aload_n 0, 1) := dk_42 (dk_at dksX1_alike_0 15 rfl rfl)
theorem dX1_alike_16 : decode cX1_alike 16 = .ok (.getfield 35, 3) := dk_180 0 35 (dk_at dksX1_alike_0 16 rfl rfl)
theorem dX1_alike_19 : decode cX1_alike 19 = .ok (.iload_n 2, 1) := dk_28 (dk_at dksX1_alike_0 19 rfl rfl)
theorem dX1_alike_20 : decode cX1_alike 20 = .ok (.invokevirtual 275, 3) := dk_182 1 19 (dk_at dksX1_alike_0 20 rfl rfl)
theorem dX1_alike_23 : decode cX1_alike 23 = .ok (.iload_n 2, 1) := dk_28 (dk_at dksX1_alike_0 23 rfl rfl)
theorem dX1_alike_24 : decode cX1_alike 24 = .ok (.iconst 1, 1) := dk_4 (dk_at dksX1_alike_1 0 rfl rfl)
theorem dX1_alike_25 : decode cX1_alike 25 = .ok (.iadd, 1) := dk_96 (dk_at dksX1_alike_1 1 rfl rfl)
theorem dX1_alike_26 : decode cX1_alike 26 = .ok (.istore_n 3, 1) := dk_62 (dk_at dksX1_alike_1 2 rfl rfl)
theorem dX1_alike_27 : decode cX1_alike 27 = .ok (.iload_n 3, 1) := dk_29 (dk_at dksX1_alike_1 3 rfl rfl)
theorem dX1_alike_28 : decode cX1_alike 28 = .ok (.aload_n 0, 1) := dk_42 (dk_at dksX1_alike_1 4 rfl rfl)
theorem dX1_alike_29 : decode cX1_alike 29 = .ok (.getfield 19, 3) := dk_180 0 19 (dk_at dksX1_alike_1 5 rfl rfl)
theorem dX1_alike_32 : decode cX1_alike 32 = .ok (.getfield 81, 3) := dk_180 0 81 (dk_at dksX1_alike_1 8 rfl rfl)
theorem dX1_alike_35 : decode cX1_alike 35 = .ok (.if_icmp .ge 82, 3) := dk_162 0 82 (dk_at dksX1_alike_1 11 rfl rfl)
theorem dX1_alike_38 : decode cX1_alike 38 = .ok (.aload_n 0, 1) := dk_42 (dk_at dksX1_alike_1 14 rfl rfl)
theorem dX1_alike_39 : decode cX1_alike 39 = .ok (.getfield 39, 3) := dk_180 0 39 (dk_at dksX1_alike_1 15 rfl rfl)
theorem dX1_alike_42 : decode cX1_alike 42 = .ok (.iload_n 3, 1) := dk_29 (dk_at dksX1_alike_1 18 rfl rfl)
theorem dX1_alike_43 : decode cX1_alike 43 = .ok (.invokevirtual 275, 3) := dk_182 1 19 (dk_at dksX1_alike_1 19 rfl rfl)
theorem dX1_alike_46 : decode cX1_alike 46 = .ok (.iconst 1, 1) := dk_4 (dk_at dksX1_alike_1 22 rfl rfl)
theorem dX1_alike_47 : decode cX1_alike 47 = .ok (.istore 4, 2) := dk_54 4 (dk_at dksX1_alike_2 0 rfl rfl)
theorem dX1_alike_49 : decode cX1_alike 49 = .ok (.iconst 1, 1) := dk_4 (dk_at dksX1_alike_2 2 rfl rfl)
theorem dX1_alike_50 : decode cX1_alike 50 = .ok (.istore 5, 2) := dk_54 5 (dk_at dksX1_alike_2 3 rfl rfl)
theorem dX1_alike_52 : decode cX1_alike 52 = .ok (.iload 5, 2) := dk_21 5 (dk_at dksX1_alike_2 5 rfl rfl)
theorem dX1_alike_54 : decode cX1_alike 54 = .ok (.bipush 8, 2) := dk_16 8 (dk_at dksX1_alike_2 7 rfl rfl)
theorem dX1_alike_56 : decode cX1_alike 56 = .ok (.if_icmp .gt 42, 3) := dk_163 0 42 (dk_at dksX1_alike_2 9 rfl rfl)
theorem dX1_alike_59 : decode cX1_alike 59 = .ok (.iload 4, 2) := dk_21 4 (dk_at dksX1_alike_2 12 rfl rfl)
theorem dX1_alike_61 : decode cX1_alike 61 = .ok (.aload_n 0, 1) := dk_42 (dk_at dksX1_alike_2 14 rfl rfl)
theorem dX1_alike_62 : decode cX1_alike 62 = .ok (.getfield 35, 3) := dk_180 0 35 (dk_at dksX1_alike_2 15 rfl rfl)
theorem dX1_alike_65 : decode cX1_alike 65 = .ok (.getfield 290, 3) := dk_180 1 34 (dk_at dksX1_alike_2 18 rfl rfl)
theorem dX1_alike_68 : decode cX1_alike 68 = .ok (.iload 5, 2) := dk_21 5 (dk_at dksX1_alike_2 21 rfl rfl)
theorem dX1_alike_70 : decode cX1_alike 70 = .ok (.iaload, 1) := dk_46 (dk_at dksX1_alike_2 23 rfl rfl)
theorem dX1_alike_71 : decode cX1_alike 71 = .ok (.aload_n 0, 1) := dk_42 (dk_at dksX1_alike_3 0 rfl rfl)
theorem dX1_alike_72 : decode cX1_alike 72 = .ok (.getfield 39, 3) := dk_180 0 39 (dk_at dksX1_alike_3 1 rfl rfl)
theorem dX1_alike_75 : decode cX1_alike 75 = .ok (.getfield 290, 3) := dk_180 1 34 (dk_at dksX1_alike_3 4 rfl rfl)
theorem dX1_alike_78 : decode cX1_alike 78 = .ok (.iload 5, 2) := dk_21 5 (dk_at dksX1_alike_3 7 rfl rfl)
theorem dX1_alike_80 : decode cX1_alike 80 = .ok (.iaload, 1) := dk_46 (dk_at dksX1_alike_3 9 rfl rfl)
theorem dX1_alike_81 : decode cX1_alike 81 = .ok (.if_icmp .ne 7, 3) := dk_160 0 7 (dk_at dksX1_alike_3 10 rfl rfl)
theorem dX1_alike_84 : decode cX1_alike 84 = .ok (.iconst 1, 1) := dk_4 (dk_at dksX1_alike_3 13 rfl rfl)
theorem dX1_alike_85 : decode cX1_alike 85 = .ok (.goto 4, 3) := dk_167 0 4 (dk_at dksX1_alike_3 14 rfl rfl)
theorem dX1_alike_88 : decode cX1_alike 88 = .ok (.iconst 0, 1) := dk_3 (dk_at dksX1_alike_3 17 rfl rfl)
theorem dX1_alike_89 : decode cX1_alike 89 = .ok (.iand, 1) := dk_126 (dk_at dksX1_alike_3 18 rfl rfl)
theorem dX1_alike_90 : decode cX1_alike 90 = .ok (.istore 4, 2) := dk_54 4 (dk_at dksX1_alike_3 19 rfl rfl)
theorem dX1_alike_92 : decode cX1_alike 92 = .ok (.iinc 5 1, 3) := dk_132 5 1 (dk_at dksX1_alike_3 21 rfl rfl)
theorem dX1_alike_95 : decode cX1_alike 95 = .ok (.goto (-43), 3) := dk_167 255 213 (dk_at dksX1_alike_4 0 rfl rfl)
theorem dX1_alike_98 : decode cX1_alike 98 = .ok (.iload_n 1, 1) := dk_27 (dk_at dksX1_alike_4 3 rfl rfl)
theorem dX1_alike_99 : decode cX1_alike 99 = .ok (.iload 4, 2) := dk_21 4 (dk_at dksX1_alike_4 4 rfl rfl)
theorem dX1_alike_101 : decode cX1_alike 101 = .ok (.ifCond .eq 7, 3) := dk_153 0 7 (dk_at dksX1_alike_4 6 rfl rfl)
theorem dX1_alike_104 : decode cX1_alike 104 = .ok (.iconst 1, 1) := dk_4 (dk_at dksX1_alike_4 9 rfl rfl)
theorem dX1_alike_105 : decode cX1_alike 105 = .ok (.goto 4, 3) := dk_167 0 4 (dk_at dksX1_alike_4 10 rfl rfl)
theorem dX1_alike_108 : decode cX1_alike 108 = .ok (.iconst 0, 1) := dk_3 (dk_at dksX1_alike_4 13 rfl rfl)
theorem dX1_alike_109 : decode cX1_alike 109 = .ok (.iadd, 1) := dk_96 (dk_at dksX1_alike_4 14 rfl rfl)
theorem dX1_alike_110 : decode cX1_alike 110 = .ok (.istore_n 1, 1) := dk_60 (dk_at dksX1_alike_4 15 rfl rfl)
theorem dX1_alike_111 : decode cX1_alike 111 = .ok (.iinc 3 1, 3) := dk_132 3 1 (dk_at dksX1_alike_4 16 rfl rfl)
theorem dX1_alike_114 : decode cX1_alike 114 = .ok (.goto (-87), 3) := dk_167 255 169 (dk_at dksX1_alike_4 19 rfl rfl)
theorem dX1_alike_117 : decode cX1_alike 117 = .ok (.iinc 2 1, 3) := dk_132 2 1 (dk_at dksX1_alike_5 0 rfl rfl)
theorem dX1_alike_120 : decode cX1_alike 120 = .ok (.goto (-116), 3) := dk_167 255 140 (dk_at dksX1_alike_5 3 rfl rfl)
theorem dX1_alike_123 : decode cX1_alike 123 = .ok (.iload_n 1, 1) := dk_27 (dk_at dksX1_alike_5 6 rfl rfl)
theorem dX1_alike_124 : decode cX1_alike 124 = .ok (.ireturn, 1) := dk_172 (dk_at dksX1_alike_5 7 rfl rfl)
abbrev cX1_rich : ByteArray := prog_1_method_58_code
def yX1_rich : MethodName := ⟨RX1, "rich", "()I"⟩
def dkwX1_rich_1 : List UInt8 := [182, 1, 83, 42, 27, 182, 1, 83, 164, 0, 5, 28, 60, 132, 2, 1, 167, 255, 222, 27, 172]
abbrev dktX1_rich_1 : List UInt8 := dkwX1_rich_1 ++ []
def dkwX1_rich_0 : List UInt8 := [2, 60, 3, 61, 28, 42, 180, 0, 19, 180, 0, 96, 162, 0, 29, 27, 2, 159, 0, 16, 42, 28]
abbrev dktX1_rich_0 : List UInt8 := dkwX1_rich_0 ++ dktX1_rich_1
theorem dksX1_rich_0 : cX1_rich.data.toList.drop 0 = dktX1_rich_0 := by decide +kernel
theorem dksX1_rich_1 : cX1_rich.data.toList.drop 22 = dktX1_rich_1 := dk_seg dksX1_rich_0 22 rfl rfl
theorem dX1_rich_0 : decode cX1_rich 0 = .ok (.iconst (-1), 1) := dk_2 (dk_at dksX1_rich_0 0 rfl rfl)
theorem dX1_rich_1 : decode cX1_rich 1 = .ok (.istore_n 1, 1) := dk_60 (dk_at dksX1_rich_0 1 rfl rfl)
theorem dX1_rich_2 : decode cX1_rich 2 = .ok (.iconst 0, 1) := dk_3 (dk_at dksX1_rich_0 2 rfl rfl)
theorem dX1_rich_3 : decode cX1_rich 3 = .ok (.istore_n 2, 1) := dk_61 (dk_at dksX1_rich_0 3 rfl rfl)
theorem dX1_rich_4 : decode cX1_rich 4 = .ok (.iload_n 2, 1) := dk_28 (dk_at dksX1_rich_0 4 rfl rfl)
theorem dX1_rich_5 : decode cX1_rich 5 = .ok (.aload_n 0, 1) := dk_42 (dk_at dksX1_rich_0 5 rfl rfl)
theorem dX1_rich_6 : decode cX1_rich 6 = .ok (.getfield 19, 3) := dk_180 0 19 (dk_at dksX1_rich_0 6 rfl rfl)
theorem dX1_rich_9 : decode cX1_rich 9 = .ok (.getfield 96, 3) := dk_180 0 96 (dk_at dksX1_rich_0 9 rfl rfl)
theorem dX1_rich_12 : decode cX1_rich 12 = .ok (.if_icmp .ge 29, 3) := dk_162 0 29 (dk_at dksX1_rich_0 12 rfl rfl)
theorem dX1_rich_15 : decode cX1_rich 15 = .ok (.iload_n 1, 1) := dk_27 (dk_at dksX1_rich_0 15 rfl rfl)
theorem dX1_rich_16 : decode cX1_rich 16 = .ok (.iconst (-1), 1) := dk_2 (dk_at dksX1_rich_0 16 rfl rfl)
theorem dX1_rich_17 : decode cX1_rich 17 = .ok (.if_icmp .eq 16, 3) := dk_159 0 16 (dk_at dksX1_rich_0 17 rfl rfl)
theorem dX1_rich_20 : decode cX1_rich 20 = .ok (.aload_n 0, 1) := dk_42 (dk_at dksX1_rich_0 20 rfl rfl)
theorem dX1_rich_21 : decode cX1_rich 21 = .ok (.iload_n 2, 1) := dk_28 (dk_at dksX1_rich_0 21 rfl rfl)
theorem dX1_rich_22 : decode cX1_rich 22 = .ok (.invokevirtual 339, 3) := dk_182 1 83 (dk_at dksX1_rich_1 0 rfl rfl)
theorem dX1_rich_25 : decode cX1_rich 25 = .ok (.aload_n 0, 1) := dk_42 (dk_at dksX1_rich_1 3 rfl rfl)
theorem dX1_rich_26 : decode cX1_rich 26 = .ok (.iload_n 1, 1) := dk_27 (dk_at dksX1_rich_1 4 rfl rfl)
theorem dX1_rich_27 : decode cX1_rich 27 = .ok (.invokevirtual 339, 3) := dk_182 1 83 (dk_at dksX1_rich_1 5 rfl rfl)
theorem dX1_rich_30 : decode cX1_rich 30 = .ok (.if_icmp .le 5, 3) := dk_164 0 5 (dk_at dksX1_rich_1 8 rfl rfl)
theorem dX1_rich_33 : decode cX1_rich 33 = .ok (.iload_n 2, 1) := dk_28 (dk_at dksX1_rich_1 11 rfl rfl)
theorem dX1_rich_34 : decode cX1_rich 34 = .ok (.istore_n 1, 1) := dk_60 (dk_at dksX1_rich_1 12 rfl rfl)
theorem dX1_rich_35 : decode cX1_rich 35 = .ok (.iinc 2 1, 3) := dk_132 2 1 (dk_at dksX1_rich_1 13 rfl rfl)
theorem dX1_rich_38 : decode cX1_rich 38 = .ok (.goto (-34), 3) := dk_167 255 222 (dk_at dksX1_rich_1 16 rfl rfl)
theorem dX1_rich_41 : decode cX1_rich 41 = .ok (.iload_n 1, 1) := dk_27 (dk_at dksX1_rich_1 19 rfl rfl)
theorem dX1_rich_42 : decode cX1_rich 42 = .ok (.ireturn, 1) := dk_172 (dk_at dksX1_rich_1 20 rfl rfl)
abbrev cX1_feathers : ByteArray := prog_1_method_57_code
def yX1_feathers : MethodName := ⟨RX1, "feathers", "(I)I"⟩
def dkwX1_feathers_1 : List UInt8 := [182, 0, 187, 96, 61, 132, 3, 1, 167, 255, 230, 28, 172]
abbrev dktX1_feathers_1 : List UInt8 := dkwX1_feathers_1 ++ []
def dkwX1_feathers_0 : List UInt8 := [3, 61, 3, 62, 29, 42, 180, 0, 19, 180, 0, 81, 162, 0, 21, 28, 42, 180, 0, 19, 27, 29]
abbrev dktX1_feathers_0 : List UInt8 := dkwX1_feathers_0 ++ dktX1_feathers_1
theorem dksX1_feathers_0 : cX1_feathers.data.toList.drop 0 = dktX1_feathers_0 := by decide +kernel
theorem dksX1_feathers_1 : cX1_feathers.data.toList.drop 22 = dktX1_feathers_1 := dk_seg dksX1_feathers_0 22 rfl rfl
theorem dX1_feathers_0 : decode cX1_feathers 0 = .ok (.iconst 0, 1) := dk_3 (dk_at dksX1_feathers_0 0 rfl rfl)
theorem dX1_feathers_1 : decode cX1_feathers 1 = .ok (.istore_n 2, 1) := dk_61 (dk_at dksX1_feathers_0 1 rfl rfl)
theorem dX1_feathers_2 : decode cX1_feathers 2 = .ok (.iconst 0, 1) := dk_3 (dk_at dksX1_feathers_0 2 rfl rfl)
theorem dX1_feathers_3 : decode cX1_feathers 3 = .ok (.istore_n 3, 1) := dk_62 (dk_at dksX1_feathers_0 3 rfl rfl)
theorem dX1_feathers_4 : decode cX1_feathers 4 = .ok (.iload_n 3, 1) := dk_29 (dk_at dksX1_feathers_0 4 rfl rfl)
theorem dX1_feathers_5 : decode cX1_feathers 5 = .ok (.aload_n 0, 1) := dk_42 (dk_at dksX1_feathers_0 5 rfl rfl)
theorem dX1_feathers_6 : decode cX1_feathers 6 = .ok (.getfield 19, 3) := dk_180 0 19 (dk_at dksX1_feathers_0 6 rfl rfl)
theorem dX1_feathers_9 : decode cX1_feathers 9 = .ok (.getfield 81, 3) := dk_180 0 81 (dk_at dksX1_feathers_0 9 rfl rfl)
theorem dX1_feathers_12 : decode cX1_feathers 12 = .ok (.if_icmp .ge 21, 3) := dk_162 0 21 (dk_at dksX1_feathers_0 12 rfl rfl)
theorem dX1_feathers_15 : decode cX1_feathers 15 = .ok (.iload_n 2, 1) := dk_28 (dk_at dksX1_feathers_0 15 rfl rfl)
theorem dX1_feathers_16 : decode cX1_feathers 16 = .ok (.aload_n 0, 1) := dk_42 (dk_at dksX1_feathers_0 16 rfl rfl)
theorem dX1_feathers_17 : decode cX1_feathers 17 = .ok (.getfield 19, 3) := dk_180 0 19 (dk_at dksX1_feathers_0 17 rfl rfl)
theorem dX1_feathers_20 : decode cX1_feathers 20 = .ok (.iload_n 1, 1) := dk_27 (dk_at dksX1_feathers_0 20 rfl rfl)
theorem dX1_feathers_21 : decode cX1_feathers 21 = .ok (.iload_n 3, 1) := dk_29 (dk_at dksX1_feathers_0 21 rfl rfl)
theorem dX1_feathers_22 : decode cX1_feathers 22 = .ok (.invokevirtual 187, 3) := dk_182 0 187 (dk_at dksX1_feathers_1 0 rfl rfl)
theorem dX1_feathers_25 : decode cX1_feathers 25 = .ok (.iadd, 1) := dk_96 (dk_at dksX1_feathers_1 3 rfl rfl)
theorem dX1_feathers_26 : decode cX1_feathers 26 = .ok (.istore_n 2, 1) := dk_61 (dk_at dksX1_feathers_1 4 rfl rfl)
theorem dX1_feathers_27 : decode cX1_feathers 27 = .ok (.iinc 3 1, 3) := dk_132 3 1 (dk_at dksX1_feathers_1 5 rfl rfl)
theorem dX1_feathers_30 : decode cX1_feathers 30 = .ok (.goto (-26), 3) := dk_167 255 230 (dk_at dksX1_feathers_1 8 rfl rfl)
theorem dX1_feathers_33 : decode cX1_feathers 33 = .ok (.iload_n 2, 1) := dk_28 (dk_at dksX1_feathers_1 11 rfl rfl)
theorem dX1_feathers_34 : decode cX1_feathers 34 = .ok (.ireturn, 1) := dk_172 (dk_at dksX1_feathers_1 12 rfl rfl)
abbrev cX1_cover : ByteArray := prog_1_method_61_code
def yX1_cover : MethodName := ⟨RX1, "cover", "()I"⟩
def dkwX1_cover_5 : List UInt8 := [132, 2, 1, 167, 255, 143, 27, 172]
abbrev dktX1_cover_5 : List UInt8 := dkwX1_cover_5 ++ []
def dkwX1_cover_4 : List UInt8 := [4, 167, 0, 4, 3, 62, 132, 4, 1, 167, 255, 197, 29, 153, 0, 7, 28, 167, 0, 4, 27, 60]
abbrev dktX1_cover_4 : List UInt8 := dkwX1_cover_4 ++ dktX1_cover_5
def dkwX1_cover_3 : List UInt8 := [180, 0, 205, 154, 0, 21, 42, 180, 0, 19, 180, 0, 102, 21, 4, 50, 180, 0, 202, 28, 126, 153, 0, 7]
abbrev dktX1_cover_3 : List UInt8 := dkwX1_cover_3 ++ dktX1_cover_4
def dkwX1_cover_2 : List UInt8 := [180, 0, 19, 180, 0, 99, 162, 0, 53, 29, 153, 0, 49, 42, 180, 0, 19, 180, 0, 102, 21, 4, 50]
abbrev dktX1_cover_2 : List UInt8 := dkwX1_cover_2 ++ dktX1_cover_3
def dkwX1_cover_1 : List UInt8 := [184, 1, 86, 27, 184, 1, 86, 162, 0, 7, 4, 167, 0, 4, 3, 62, 3, 54, 4, 21, 4, 42]
abbrev dktX1_cover_1 : List UInt8 := dkwX1_cover_1 ++ dktX1_cover_2
def dkwX1_cover_0 : List UInt8 := [2, 60, 3, 61, 28, 4, 42, 180, 0, 19, 180, 0, 81, 120, 162, 0, 106, 27, 2, 159, 0, 14, 28]
abbrev dktX1_cover_0 : List UInt8 := dkwX1_cover_0 ++ dktX1_cover_1
theorem dksX1_cover_0 : cX1_cover.data.toList.drop 0 = dktX1_cover_0 := by decide +kernel
theorem dksX1_cover_1 : cX1_cover.data.toList.drop 23 = dktX1_cover_1 := dk_seg dksX1_cover_0 23 rfl rfl
theorem dksX1_cover_2 : cX1_cover.data.toList.drop 45 = dktX1_cover_2 := dk_seg dksX1_cover_1 22 rfl rfl
theorem dksX1_cover_3 : cX1_cover.data.toList.drop 68 = dktX1_cover_3 := dk_seg dksX1_cover_2 23 rfl rfl
theorem dksX1_cover_4 : cX1_cover.data.toList.drop 92 = dktX1_cover_4 := dk_seg dksX1_cover_3 24 rfl rfl
theorem dksX1_cover_5 : cX1_cover.data.toList.drop 114 = dktX1_cover_5 := dk_seg dksX1_cover_4 22 rfl rfl
theorem dX1_cover_0 : decode cX1_cover 0 = .ok (.iconst (-1), 1) := dk_2 (dk_at dksX1_cover_0 0 rfl rfl)
theorem dX1_cover_1 : decode cX1_cover 1 = .ok (.istore_n 1, 1) := dk_60 (dk_at dksX1_cover_0 1 rfl rfl)
theorem dX1_cover_2 : decode cX1_cover 2 = .ok (.iconst 0, 1) := dk_3 (dk_at dksX1_cover_0 2 rfl rfl)
theorem dX1_cover_3 : decode cX1_cover 3 = .ok (.istore_n 2, 1) := dk_61 (dk_at dksX1_cover_0 3 rfl rfl)
theorem dX1_cover_4 : decode cX1_cover 4 = .ok (.iload_n 2, 1) := dk_28 (dk_at dksX1_cover_0 4 rfl rfl)
theorem dX1_cover_5 : decode cX1_cover 5 = .ok (.iconst 1, 1) := dk_4 (dk_at dksX1_cover_0 5 rfl rfl)
theorem dX1_cover_6 : decode cX1_cover 6 = .ok (.aload_n 0, 1) := dk_42 (dk_at dksX1_cover_0 6 rfl rfl)
theorem dX1_cover_7 : decode cX1_cover 7 = .ok (.getfield 19, 3) := dk_180 0 19 (dk_at dksX1_cover_0 7 rfl rfl)
theorem dX1_cover_10 : decode cX1_cover 10 = .ok (.getfield 81, 3) := dk_180 0 81 (dk_at dksX1_cover_0 10 rfl rfl)
theorem dX1_cover_13 : decode cX1_cover 13 = .ok (.ishl, 1) := dk_120 (dk_at dksX1_cover_0 13 rfl rfl)
theorem dX1_cover_14 : decode cX1_cover 14 = .ok (.if_icmp .ge 106, 3) := dk_162 0 106 (dk_at dksX1_cover_0 14 rfl rfl)
theorem dX1_cover_17 : decode cX1_cover 17 = .ok (.iload_n 1, 1) := dk_27 (dk_at dksX1_cover_0 17 rfl rfl)
theorem dX1_cover_18 : decode cX1_cover 18 = .ok (.iconst (-1), 1) := dk_2 (dk_at dksX1_cover_0 18 rfl rfl)
theorem dX1_cover_19 : decode cX1_cover 19 = .ok (.if_icmp .eq 14, 3) := dk_159 0 14 (dk_at dksX1_cover_0 19 rfl rfl)
theorem dX1_cover_22 : decode cX1_cover 22 = .ok (.iload_n 2, 1) := dk_28 (dk_at dksX1_cover_0 22 rfl rfl)
theorem dX1_cover_23 : decode cX1_cover 23 = .ok (.invokestatic 342, 3) := dk_184 1 86 (dk_at dksX1_cover_1 0 rfl rfl)
theorem dX1_cover_26 : decode cX1_cover 26 = .ok (.iload_n 1, 1) := dk_27 (dk_at dksX1_cover_1 3 rfl rfl)
theorem dX1_cover_27 : decode cX1_cover 27 = .ok (.invokestatic 342, 3) := dk_184 1 86 (dk_at dksX1_cover_1 4 rfl rfl)
theorem dX1_cover_30 : decode cX1_cover 30 = .ok (.if_icmp .ge 7, 3) := dk_162 0 7 (dk_at dksX1_cover_1 7 rfl rfl)
theorem dX1_cover_33 : decode cX1_cover 33 = .ok (.iconst 1, 1) := dk_4 (dk_at dksX1_cover_1 10 rfl rfl)
theorem dX1_cover_34 : decode cX1_cover 34 = .ok (.goto 4, 3) := dk_167 0 4 (dk_at dksX1_cover_1 11 rfl rfl)
theorem dX1_cover_37 : decode cX1_cover 37 = .ok (.iconst 0, 1) := dk_3 (dk_at dksX1_cover_1 14 rfl rfl)
theorem dX1_cover_38 : decode cX1_cover 38 = .ok (.istore_n 3, 1) := dk_62 (dk_at dksX1_cover_1 15 rfl rfl)
theorem dX1_cover_39 : decode cX1_cover 39 = .ok (.iconst 0, 1) := dk_3 (dk_at dksX1_cover_1 16 rfl rfl)
theorem dX1_cover_40 : decode cX1_cover 40 = .ok (.istore 4, 2) := dk_54 4 (dk_at dksX1_cover_1 17 rfl rfl)
theorem dX1_cover_42 : decode cX1_cover 42 = .ok (.iload 4, 2) := dk_21 4 (dk_at dksX1_cover_1 19 rfl rfl)
theorem dX1_cover_44 : decode cX1_cover 44 = .ok (.aload_n 0, 1) := dk_42 (dk_at dksX1_cover_1 21 rfl rfl)
theorem dX1_cover_45 : decode cX1_cover 45 = .ok (.getfield 19, 3) := dk_180 0 19 (dk_at dksX1_cover_2 0 rfl rfl)
theorem dX1_cover_48 : decode cX1_cover 48 = .ok (.getfield 99, 3) := dk_180 0 99 (dk_at dksX1_cover_2 3 rfl rfl)
theorem dX1_cover_51 : decode cX1_cover 51 = .ok (.if_icmp .ge 53, 3) := dk_162 0 53 (dk_at dksX1_cover_2 6 rfl rfl)
theorem dX1_cover_54 : decode cX1_cover 54 = .ok (.iload_n 3, 1) := dk_29 (dk_at dksX1_cover_2 9 rfl rfl)
theorem dX1_cover_55 : decode cX1_cover 55 = .ok (.ifCond .eq 49, 3) := dk_153 0 49 (dk_at dksX1_cover_2 10 rfl rfl)
theorem dX1_cover_58 : decode cX1_cover 58 = .ok (.aload_n 0, 1) := dk_42 (dk_at dksX1_cover_2 13 rfl rfl)
theorem dX1_cover_59 : decode cX1_cover 59 = .ok (.getfield 19, 3) := dk_180 0 19 (dk_at dksX1_cover_2 14 rfl rfl)
theorem dX1_cover_62 : decode cX1_cover 62 = .ok (.getfield 102, 3) := dk_180 0 102 (dk_at dksX1_cover_2 17 rfl rfl)
theorem dX1_cover_65 : decode cX1_cover 65 = .ok (.iload 4, 2) := dk_21 4 (dk_at dksX1_cover_2 20 rfl rfl)
theorem dX1_cover_67 : decode cX1_cover 67 = .ok (.aaload, 1) := dk_50 (dk_at dksX1_cover_2 22 rfl rfl)
theorem dX1_cover_68 : decode cX1_cover 68 = .ok (.getfield 205, 3) := dk_180 0 205 (dk_at dksX1_cover_3 0 rfl rfl)
theorem dX1_cover_71 : decode cX1_cover 71 = .ok (.ifCond .ne 21, 3) := dk_154 0 21 (dk_at dksX1_cover_3 3 rfl rfl)
theorem dX1_cover_74 : decode cX1_cover 74 = .ok (.aload_n 0, 1) := dk_42 (dk_at dksX1_cover_3 6 rfl rfl)
theorem dX1_cover_75 : decode cX1_cover 75 = .ok (.getfield 19, 3) := dk_180 0 19 (dk_at dksX1_cover_3 7 rfl rfl)
theorem dX1_cover_78 : decode cX1_cover 78 = .ok (.getfield 102, 3) := dk_180 0 102 (dk_at dksX1_cover_3 10 rfl rfl)
theorem dX1_cover_81 : decode cX1_cover 81 = .ok (.iload 4, 2) := dk_21 4 (dk_at dksX1_cover_3 13 rfl rfl)
theorem dX1_cover_83 : decode cX1_cover 83 = .ok (.aaload, 1) := dk_50 (dk_at dksX1_cover_3 15 rfl rfl)
theorem dX1_cover_84 : decode cX1_cover 84 = .ok (.getfield 202, 3) := dk_180 0 202 (dk_at dksX1_cover_3 16 rfl rfl)
theorem dX1_cover_87 : decode cX1_cover 87 = .ok (.iload_n 2, 1) := dk_28 (dk_at dksX1_cover_3 19 rfl rfl)
theorem dX1_cover_88 : decode cX1_cover 88 = .ok (.iand, 1) := dk_126 (dk_at dksX1_cover_3 20 rfl rfl)
theorem dX1_cover_89 : decode cX1_cover 89 = .ok (.ifCond .eq 7, 3) := dk_153 0 7 (dk_at dksX1_cover_3 21 rfl rfl)
theorem dX1_cover_92 : decode cX1_cover 92 = .ok (.iconst 1, 1) := dk_4 (dk_at dksX1_cover_4 0 rfl rfl)
theorem dX1_cover_93 : decode cX1_cover 93 = .ok (.goto 4, 3) := dk_167 0 4 (dk_at dksX1_cover_4 1 rfl rfl)
theorem dX1_cover_96 : decode cX1_cover 96 = .ok (.iconst 0, 1) := dk_3 (dk_at dksX1_cover_4 4 rfl rfl)
theorem dX1_cover_97 : decode cX1_cover 97 = .ok (.istore_n 3, 1) := dk_62 (dk_at dksX1_cover_4 5 rfl rfl)
theorem dX1_cover_98 : decode cX1_cover 98 = .ok (.iinc 4 1, 3) := dk_132 4 1 (dk_at dksX1_cover_4 6 rfl rfl)
theorem dX1_cover_101 : decode cX1_cover 101 = .ok (.goto (-59), 3) := dk_167 255 197 (dk_at dksX1_cover_4 9 rfl rfl)
theorem dX1_cover_104 : decode cX1_cover 104 = .ok (.iload_n 3, 1) := dk_29 (dk_at dksX1_cover_4 12 rfl rfl)
theorem dX1_cover_105 : decode cX1_cover 105 = .ok (.ifCond .eq 7, 3) := dk_153 0 7 (dk_at dksX1_cover_4 13 rfl rfl)
theorem dX1_cover_108 : decode cX1_cover 108 = .ok (.iload_n 2, 1) := dk_28 (dk_at dksX1_cover_4 16 rfl rfl)
theorem dX1_cover_109 : decode cX1_cover 109 = .ok (.goto 4, 3) := dk_167 0 4 (dk_at dksX1_cover_4 17 rfl rfl)
theorem dX1_cover_112 : decode cX1_cover 112 = .ok (.iload_n 1, 1) := dk_27 (dk_at dksX1_cover_4 20 rfl rfl)
theorem dX1_cover_113 : decode cX1_cover 113 = .ok (.istore_n 1, 1) := dk_60 (dk_at dksX1_cover_4 21 rfl rfl)
theorem dX1_cover_114 : decode cX1_cover 114 = .ok (.iinc 2 1, 3) := dk_132 2 1 (dk_at dksX1_cover_5 0 rfl rfl)
theorem dX1_cover_117 : decode cX1_cover 117 = .ok (.goto (-113), 3) := dk_167 255 143 (dk_at dksX1_cover_5 3 rfl rfl)
theorem dX1_cover_120 : decode cX1_cover 120 = .ok (.iload_n 1, 1) := dk_27 (dk_at dksX1_cover_5 6 rfl rfl)
theorem dX1_cover_121 : decode cX1_cover 121 = .ok (.ireturn, 1) := dk_172 (dk_at dksX1_cover_5 7 rfl rfl)
abbrev cX1_seed : ByteArray := prog_1_method_67_code
def yX1_seed : MethodName := ⟨RX1, "seed", "(I)I"⟩
def dkwX1_seed_0 : List UInt8 := [42, 180, 0, 19, 180, 1, 91, 61, 42, 180, 0, 19, 27, 181, 1, 91, 28, 172]
abbrev dktX1_seed_0 : List UInt8 := dkwX1_seed_0 ++ []
theorem dksX1_seed_0 : cX1_seed.data.toList.drop 0 = dktX1_seed_0 := by decide +kernel
theorem dX1_seed_0 : decode cX1_seed 0 = .ok (.aload_n 0, 1) := dk_42 (dk_at dksX1_seed_0 0 rfl rfl)
theorem dX1_seed_1 : decode cX1_seed 1 = .ok (.getfield 19, 3) := dk_180 0 19 (dk_at dksX1_seed_0 1 rfl rfl)
theorem dX1_seed_4 : decode cX1_seed 4 = .ok (.getfield 347, 3) := dk_180 1 91 (dk_at dksX1_seed_0 4 rfl rfl)
theorem dX1_seed_7 : decode cX1_seed 7 = .ok (.istore_n 2, 1) := dk_61 (dk_at dksX1_seed_0 7 rfl rfl)
theorem dX1_seed_8 : decode cX1_seed 8 = .ok (.aload_n 0, 1) := dk_42 (dk_at dksX1_seed_0 8 rfl rfl)
theorem dX1_seed_9 : decode cX1_seed 9 = .ok (.getfield 19, 3) := dk_180 0 19 (dk_at dksX1_seed_0 9 rfl rfl)
theorem dX1_seed_12 : decode cX1_seed 12 = .ok (.iload_n 1, 1) := dk_27 (dk_at dksX1_seed_0 12 rfl rfl)
theorem dX1_seed_13 : decode cX1_seed 13 = .ok (.putfield 347, 3) := dk_181 1 91 (dk_at dksX1_seed_0 13 rfl rfl)
theorem dX1_seed_16 : decode cX1_seed 16 = .ok (.iload_n 2, 1) := dk_28 (dk_at dksX1_seed_0 16 rfl rfl)
theorem dX1_seed_17 : decode cX1_seed 17 = .ok (.ireturn, 1) := dk_172 (dk_at dksX1_seed_0 17 rfl rfl)
abbrev cX1_undo : ByteArray := prog_1_method_68_code
def yX1_undo : MethodName := ⟨RX1, "undo", "()Z"⟩
def dkwX1_undo_2 : List UInt8 := [182, 0, 140, 4, 172]
abbrev dktX1_undo_2 : List UInt8 := dkwX1_undo_2 ++ []
def dkwX1_undo_1 : List UInt8 := [16, 12, 96, 4, 100, 16, 12, 112, 181, 0, 225, 42, 180, 0, 19, 42, 180, 0, 26, 42, 180, 0, 225, 50]
abbrev dktX1_undo_1 : List UInt8 := dkwX1_undo_1 ++ dktX1_undo_2
def dkwX1_undo_0 : List UInt8 := [42, 180, 0, 144, 154, 0, 5, 3, 172, 42, 89, 180, 0, 144, 4, 100, 181, 0, 144, 42, 42, 180, 0, 225]
abbrev dktX1_undo_0 : List UInt8 := dkwX1_undo_0 ++ dktX1_undo_1
theorem dksX1_undo_0 : cX1_undo.data.toList.drop 0 = dktX1_undo_0 := by decide +kernel
theorem dksX1_undo_1 : cX1_undo.data.toList.drop 24 = dktX1_undo_1 := dk_seg dksX1_undo_0 24 rfl rfl
theorem dksX1_undo_2 : cX1_undo.data.toList.drop 48 = dktX1_undo_2 := dk_seg dksX1_undo_1 24 rfl rfl
theorem dX1_undo_0 : decode cX1_undo 0 = .ok (.aload_n 0, 1) := dk_42 (dk_at dksX1_undo_0 0 rfl rfl)
theorem dX1_undo_1 : decode cX1_undo 1 = .ok (.getfield 144, 3) := dk_180 0 144 (dk_at dksX1_undo_0 1 rfl rfl)
theorem dX1_undo_4 : decode cX1_undo 4 = .ok (.ifCond .ne 5, 3) := dk_154 0 5 (dk_at dksX1_undo_0 4 rfl rfl)
theorem dX1_undo_7 : decode cX1_undo 7 = .ok (.iconst 0, 1) := dk_3 (dk_at dksX1_undo_0 7 rfl rfl)
theorem dX1_undo_8 : decode cX1_undo 8 = .ok (.ireturn, 1) := dk_172 (dk_at dksX1_undo_0 8 rfl rfl)
theorem dX1_undo_9 : decode cX1_undo 9 = .ok (.aload_n 0, 1) := dk_42 (dk_at dksX1_undo_0 9 rfl rfl)
theorem dX1_undo_10 : decode cX1_undo 10 = .ok (.dup, 1) := dk_89 (dk_at dksX1_undo_0 10 rfl rfl)
theorem dX1_undo_11 : decode cX1_undo 11 = .ok (.getfield 144, 3) := dk_180 0 144 (dk_at dksX1_undo_0 11 rfl rfl)
theorem dX1_undo_14 : decode cX1_undo 14 = .ok (.iconst 1, 1) := dk_4 (dk_at dksX1_undo_0 14 rfl rfl)
theorem dX1_undo_15 : decode cX1_undo 15 = .ok (.isub, 1) := dk_100 (dk_at dksX1_undo_0 15 rfl rfl)
theorem dX1_undo_16 : decode cX1_undo 16 = .ok (.putfield 144, 3) := dk_181 0 144 (dk_at dksX1_undo_0 16 rfl rfl)
theorem dX1_undo_19 : decode cX1_undo 19 = .ok (.aload_n 0, 1) := dk_42 (dk_at dksX1_undo_0 19 rfl rfl)
theorem dX1_undo_20 : decode cX1_undo 20 = .ok (.aload_n 0, 1) := dk_42 (dk_at dksX1_undo_0 20 rfl rfl)
theorem dX1_undo_21 : decode cX1_undo 21 = .ok (.getfield 225, 3) := dk_180 0 225 (dk_at dksX1_undo_0 21 rfl rfl)
theorem dX1_undo_24 : decode cX1_undo 24 = .ok (.bipush 12, 2) := dk_16 12 (dk_at dksX1_undo_1 0 rfl rfl)
theorem dX1_undo_26 : decode cX1_undo 26 = .ok (.iadd, 1) := dk_96 (dk_at dksX1_undo_1 2 rfl rfl)
theorem dX1_undo_27 : decode cX1_undo 27 = .ok (.iconst 1, 1) := dk_4 (dk_at dksX1_undo_1 3 rfl rfl)
theorem dX1_undo_28 : decode cX1_undo 28 = .ok (.isub, 1) := dk_100 (dk_at dksX1_undo_1 4 rfl rfl)
theorem dX1_undo_29 : decode cX1_undo 29 = .ok (.bipush 12, 2) := dk_16 12 (dk_at dksX1_undo_1 5 rfl rfl)
theorem dX1_undo_31 : decode cX1_undo 31 = .ok (.irem, 1) := dk_112 (dk_at dksX1_undo_1 7 rfl rfl)
theorem dX1_undo_32 : decode cX1_undo 32 = .ok (.putfield 225, 3) := dk_181 0 225 (dk_at dksX1_undo_1 8 rfl rfl)
theorem dX1_undo_35 : decode cX1_undo 35 = .ok (.aload_n 0, 1) := dk_42 (dk_at dksX1_undo_1 11 rfl rfl)
theorem dX1_undo_36 : decode cX1_undo 36 = .ok (.getfield 19, 3) := dk_180 0 19 (dk_at dksX1_undo_1 12 rfl rfl)
theorem dX1_undo_39 : decode cX1_undo 39 = .ok (.aload_n 0, 1) := dk_42 (dk_at dksX1_undo_1 15 rfl rfl)
theorem dX1_undo_40 : decode cX1_undo 40 = .ok (.getfield 26, 3) := dk_180 0 26 (dk_at dksX1_undo_1 16 rfl rfl)
theorem dX1_undo_43 : decode cX1_undo 43 = .ok (.aload_n 0, 1) := dk_42 (dk_at dksX1_undo_1 19 rfl rfl)
theorem dX1_undo_44 : decode cX1_undo 44 = .ok (.getfield 225, 3) := dk_180 0 225 (dk_at dksX1_undo_1 20 rfl rfl)
theorem dX1_undo_47 : decode cX1_undo 47 = .ok (.aaload, 1) := dk_50 (dk_at dksX1_undo_1 23 rfl rfl)
theorem dX1_undo_48 : decode cX1_undo 48 = .ok (.invokevirtual 140, 3) := dk_182 0 140 (dk_at dksX1_undo_2 0 rfl rfl)
theorem dX1_undo_51 : decode cX1_undo 51 = .ok (.iconst 1, 1) := dk_4 (dk_at dksX1_undo_2 3 rfl rfl)
theorem dX1_undo_52 : decode cX1_undo 52 = .ok (.ireturn, 1) := dk_172 (dk_at dksX1_undo_2 4 rfl rfl)
abbrev cX1_image : ByteArray := prog_1_method_69_code
def yX1_image : MethodName := ⟨RX1, "image", "()V"⟩
def dkwX1_image_0 : List UInt8 := [42, 180, 0, 23, 42, 180, 0, 19, 182, 0, 140, 42, 4, 181, 1, 103, 177]
abbrev dktX1_image_0 : List UInt8 := dkwX1_image_0 ++ []
theorem dksX1_image_0 : cX1_image.data.toList.drop 0 = dktX1_image_0 := by decide +kernel
theorem dX1_image_0 : decode cX1_image 0 = .ok (.aload_n 0, 1) := dk_42 (dk_at dksX1_image_0 0 rfl rfl)
theorem dX1_image_1 : decode cX1_image 1 = .ok (.getfield 23, 3) := dk_180 0 23 (dk_at dksX1_image_0 1 rfl rfl)
theorem dX1_image_4 : decode cX1_image 4 = .ok (.aload_n 0, 1) := dk_42 (dk_at dksX1_image_0 4 rfl rfl)
theorem dX1_image_5 : decode cX1_image 5 = .ok (.getfield 19, 3) := dk_180 0 19 (dk_at dksX1_image_0 5 rfl rfl)
theorem dX1_image_8 : decode cX1_image 8 = .ok (.invokevirtual 140, 3) := dk_182 0 140 (dk_at dksX1_image_0 8 rfl rfl)
theorem dX1_image_11 : decode cX1_image 11 = .ok (.aload_n 0, 1) := dk_42 (dk_at dksX1_image_0 11 rfl rfl)
theorem dX1_image_12 : decode cX1_image 12 = .ok (.iconst 1, 1) := dk_4 (dk_at dksX1_image_0 12 rfl rfl)
theorem dX1_image_13 : decode cX1_image 13 = .ok (.putfield 359, 3) := dk_181 1 103 (dk_at dksX1_image_0 13 rfl rfl)
theorem dX1_image_16 : decode cX1_image 16 = .ok (.return_, 1) := dk_177 (dk_at dksX1_image_0 16 rfl rfl)
abbrev cX1_back : ByteArray := prog_1_method_70_code
def yX1_back : MethodName := ⟨RX1, "back", "()Z"⟩
def dkwX1_back_1 : List UInt8 := [181, 0, 144, 4, 172]
abbrev dktX1_back_1 : List UInt8 := dkwX1_back_1 ++ []
def dkwX1_back_0 : List UInt8 := [42, 180, 1, 103, 154, 0, 5, 3, 172, 42, 180, 0, 19, 42, 180, 0, 23, 182, 0, 140, 42, 3]
abbrev dktX1_back_0 : List UInt8 := dkwX1_back_0 ++ dktX1_back_1
theorem dksX1_back_0 : cX1_back.data.toList.drop 0 = dktX1_back_0 := by decide +kernel
theorem dksX1_back_1 : cX1_back.data.toList.drop 22 = dktX1_back_1 := dk_seg dksX1_back_0 22 rfl rfl
theorem dX1_back_0 : decode cX1_back 0 = .ok (.aload_n 0, 1) := dk_42 (dk_at dksX1_back_0 0 rfl rfl)
theorem dX1_back_1 : decode cX1_back 1 = .ok (.getfield 359, 3) := dk_180 1 103 (dk_at dksX1_back_0 1 rfl rfl)
theorem dX1_back_4 : decode cX1_back 4 = .ok (.ifCond .ne 5, 3) := dk_154 0 5 (dk_at dksX1_back_0 4 rfl rfl)
theorem dX1_back_7 : decode cX1_back 7 = .ok (.iconst 0, 1) := dk_3 (dk_at dksX1_back_0 7 rfl rfl)
theorem dX1_back_8 : decode cX1_back 8 = .ok (.ireturn, 1) := dk_172 (dk_at dksX1_back_0 8 rfl rfl)
theorem dX1_back_9 : decode cX1_back 9 = .ok (.aload_n 0, 1) := dk_42 (dk_at dksX1_back_0 9 rfl rfl)
theorem dX1_back_10 : decode cX1_back 10 = .ok (.getfield 19, 3) := dk_180 0 19 (dk_at dksX1_back_0 10 rfl rfl)
theorem dX1_back_13 : decode cX1_back 13 = .ok (.aload_n 0, 1) := dk_42 (dk_at dksX1_back_0 13 rfl rfl)
theorem dX1_back_14 : decode cX1_back 14 = .ok (.getfield 23, 3) := dk_180 0 23 (dk_at dksX1_back_0 14 rfl rfl)
theorem dX1_back_17 : decode cX1_back 17 = .ok (.invokevirtual 140, 3) := dk_182 0 140 (dk_at dksX1_back_0 17 rfl rfl)
theorem dX1_back_20 : decode cX1_back 20 = .ok (.aload_n 0, 1) := dk_42 (dk_at dksX1_back_0 20 rfl rfl)
theorem dX1_back_21 : decode cX1_back 21 = .ok (.iconst 0, 1) := dk_3 (dk_at dksX1_back_0 21 rfl rfl)
theorem dX1_back_22 : decode cX1_back 22 = .ok (.putfield 144, 3) := dk_181 0 144 (dk_at dksX1_back_1 0 rfl rfl)
theorem dX1_back_25 : decode cX1_back 25 = .ok (.iconst 1, 1) := dk_4 (dk_at dksX1_back_1 3 rfl rfl)
theorem dX1_back_26 : decode cX1_back 26 = .ok (.ireturn, 1) := dk_172 (dk_at dksX1_back_1 4 rfl rfl)
abbrev cX1_count : ByteArray := prog_1_method_72_code
def yX1_count : MethodName := ⟨RX1, "count", "(I)I"⟩
def dkwX1_count_6 : List UInt8 := [182, 1, 110, 172, 16, 60, 42, 180, 0, 19, 180, 1, 113, 184, 0, 228, 172, 42, 180, 0, 144, 172, 2, 172]
abbrev dktX1_count_6 : List UInt8 := dkwX1_count_6 ++ []
def dkwX1_count_5 : List UInt8 := [42, 180, 0, 19, 180, 1, 77, 172, 42, 180, 0, 19, 180, 1, 80, 172, 42, 182, 1, 107, 172, 42]
abbrev dktX1_count_5 : List UInt8 := dkwX1_count_5 ++ dktX1_count_6
def dkwX1_count_4 : List UInt8 := [42, 180, 0, 19, 180, 1, 10, 172, 42, 180, 0, 19, 180, 0, 243, 172, 42, 180, 0, 19, 180, 0, 240, 172]
abbrev dktX1_count_4 : List UInt8 := dkwX1_count_4 ++ dktX1_count_5
def dkwX1_count_3 : List UInt8 := [42, 180, 0, 19, 180, 0, 134, 172, 42, 180, 0, 19, 180, 0, 151, 172, 42, 180, 0, 19, 180, 1, 13, 172]
abbrev dktX1_count_3 : List UInt8 := dkwX1_count_3 ++ dktX1_count_4
def dkwX1_count_2 : List UInt8 := [42, 180, 0, 19, 180, 0, 81, 172, 42, 180, 0, 19, 180, 0, 96, 172, 42, 180, 0, 19, 180, 0, 99, 172]
abbrev dktX1_count_2 : List UInt8 := dkwX1_count_2 ++ dktX1_count_3
def dkwX1_count_1 : List UInt8 := [170, 0, 0, 0, 0, 0, 191, 0, 0, 0, 0, 0, 0, 0, 14, 0, 0, 0, 75, 0, 0, 0, 83, 0, 0, 0, 91, 0, 0, 0, 99, 0, 0, 0, 107, 0, 0, 0, 115, 0, 0, 0, 123, 0, 0, 0, 131, 0, 0, 0, 139, 0, 0, 0, 147, 0, 0, 0, 155, 0, 0, 0, 163, 0, 0, 0, 168, 0, 0, 0, 173, 0, 0, 0, 186]
abbrev dktX1_count_1 : List UInt8 := dkwX1_count_1 ++ dktX1_count_2
def dkwX1_count_0 : List UInt8 := [27]
abbrev dktX1_count_0 : List UInt8 := dkwX1_count_0 ++ dktX1_count_1
theorem dksX1_count_0 : cX1_count.data.toList.drop 0 = dktX1_count_0 := by decide +kernel
theorem dksX1_count_1 : cX1_count.data.toList.drop 1 = dktX1_count_1 := dk_seg dksX1_count_0 1 rfl rfl
theorem dksX1_count_2 : cX1_count.data.toList.drop 76 = dktX1_count_2 := dk_seg dksX1_count_1 75 rfl rfl
theorem dksX1_count_3 : cX1_count.data.toList.drop 100 = dktX1_count_3 := dk_seg dksX1_count_2 24 rfl rfl
theorem dksX1_count_4 : cX1_count.data.toList.drop 124 = dktX1_count_4 := dk_seg dksX1_count_3 24 rfl rfl
theorem dksX1_count_5 : cX1_count.data.toList.drop 148 = dktX1_count_5 := dk_seg dksX1_count_4 24 rfl rfl
theorem dksX1_count_6 : cX1_count.data.toList.drop 170 = dktX1_count_6 := dk_seg dksX1_count_5 22 rfl rfl
theorem dX1_count_0 : decode cX1_count 0 = .ok (.iload_n 1, 1) := dk_27 (dk_at dksX1_count_0 0 rfl rfl)
theorem dX1_count_1 : decode cX1_count 1 = .ok (.tableswitch 191 0 14 #[75, 83, 91, 99, 107, 115, 123, 131, 139, 147, 155, 163, 168, 173, 186], 75) := by decide +kernel
theorem dX1_count_76 : decode cX1_count 76 = .ok (.aload_n 0, 1) := dk_42 (dk_at dksX1_count_2 0 rfl rfl)
theorem dX1_count_77 : decode cX1_count 77 = .ok (.getfield 19, 3) := dk_180 0 19 (dk_at dksX1_count_2 1 rfl rfl)
theorem dX1_count_80 : decode cX1_count 80 = .ok (.getfield 81, 3) := dk_180 0 81 (dk_at dksX1_count_2 4 rfl rfl)
theorem dX1_count_83 : decode cX1_count 83 = .ok (.ireturn, 1) := dk_172 (dk_at dksX1_count_2 7 rfl rfl)
theorem dX1_count_84 : decode cX1_count 84 = .ok (.aload_n 0, 1) := dk_42 (dk_at dksX1_count_2 8 rfl rfl)
theorem dX1_count_85 : decode cX1_count 85 = .ok (.getfield 19, 3) := dk_180 0 19 (dk_at dksX1_count_2 9 rfl rfl)
theorem dX1_count_88 : decode cX1_count 88 = .ok (.getfield 96, 3) := dk_180 0 96 (dk_at dksX1_count_2 12 rfl rfl)
theorem dX1_count_91 : decode cX1_count 91 = .ok (.ireturn, 1) := dk_172 (dk_at dksX1_count_2 15 rfl rfl)
theorem dX1_count_92 : decode cX1_count 92 = .ok (.aload_n 0, 1) := dk_42 (dk_at dksX1_count_2 16 rfl rfl)
theorem dX1_count_93 : decode cX1_count 93 = .ok (.getfield 19, 3) := dk_180 0 19 (dk_at dksX1_count_2 17 rfl rfl)
theorem dX1_count_96 : decode cX1_count 96 = .ok (.getfield 99, 3) := dk_180 0 99 (dk_at dksX1_count_2 20 rfl rfl)
theorem dX1_count_99 : decode cX1_count 99 = .ok (.ireturn, 1) := dk_172 (dk_at dksX1_count_2 23 rfl rfl)
theorem dX1_count_100 : decode cX1_count 100 = .ok (.aload_n 0, 1) := dk_42 (dk_at dksX1_count_3 0 rfl rfl)
theorem dX1_count_101 : decode cX1_count 101 = .ok (.getfield 19, 3) := dk_180 0 19 (dk_at dksX1_count_3 1 rfl rfl)
theorem dX1_count_104 : decode cX1_count 104 = .ok (.getfield 134, 3) := dk_180 0 134 (dk_at dksX1_count_3 4 rfl rfl)
theorem dX1_count_107 : decode cX1_count 107 = .ok (.ireturn, 1) := dk_172 (dk_at dksX1_count_3 7 rfl rfl)
theorem dX1_count_108 : decode cX1_count 108 = .ok (.aload_n 0, 1) := dk_42 (dk_at dksX1_count_3 8 rfl rfl)
theorem dX1_count_109 : decode cX1_count 109 = .ok (.getfield 19, 3) := dk_180 0 19 (dk_at dksX1_count_3 9 rfl rfl)
theorem dX1_count_112 : decode cX1_count 112 = .ok (.getfield 151, 3) := dk_180 0 151 (dk_at dksX1_count_3 12 rfl rfl)
theorem dX1_count_115 : decode cX1_count 115 = .ok (.ireturn, 1) := dk_172 (dk_at dksX1_count_3 15 rfl rfl)
theorem dX1_count_116 : decode cX1_count 116 = .ok (.aload_n 0, 1) := dk_42 (dk_at dksX1_count_3 16 rfl rfl)
theorem dX1_count_117 : decode cX1_count 117 = .ok (.getfield 19, 3) := dk_180 0 19 (dk_at dksX1_count_3 17 rfl rfl)
theorem dX1_count_120 : decode cX1_count 120 = .ok (.getfield 269, 3) := dk_180 1 13 (dk_at dksX1_count_3 20 rfl rfl)
theorem dX1_count_123 : decode cX1_count 123 = .ok (.ireturn, 1) := dk_172 (dk_at dksX1_count_3 23 rfl rfl)
theorem dX1_count_124 : decode cX1_count 124 = .ok (.aload_n 0, 1) := dk_42 (dk_at dksX1_count_4 0 rfl rfl)
theorem dX1_count_125 : decode cX1_count 125 = .ok (.getfield 19, 3) := dk_180 0 19 (dk_at dksX1_count_4 1 rfl rfl)
theorem dX1_count_128 : decode cX1_count 128 = .ok (.getfield 266, 3) := dk_180 1 10 (dk_at dksX1_count_4 4 rfl rfl)
theorem dX1_count_131 : decode cX1_count 131 = .ok (.ireturn, 1) := dk_172 (dk_at dksX1_count_4 7 rfl rfl)
theorem dX1_count_132 : decode cX1_count 132 = .ok (.aload_n 0, 1) := dk_42 (dk_at dksX1_count_4 8 rfl rfl)
theorem dX1_count_133 : decode cX1_count 133 = .ok (.getfield 19, 3) := dk_180 0 19 (dk_at dksX1_count_4 9 rfl rfl)
theorem dX1_count_136 : decode cX1_count 136 = .ok (.getfield 243, 3) := dk_180 0 243 (dk_at dksX1_count_4 12 rfl rfl)
theorem dX1_count_139 : decode cX1_count 139 = .ok (.ireturn, 1) := dk_172 (dk_at dksX1_count_4 15 rfl rfl)
theorem dX1_count_140 : decode cX1_count 140 = .ok (.aload_n 0, 1) := dk_42 (dk_at dksX1_count_4 16 rfl rfl)
theorem dX1_count_141 : decode cX1_count 141 = .ok (.getfield 19, 3) := dk_180 0 19 (dk_at dksX1_count_4 17 rfl rfl)
theorem dX1_count_144 : decode cX1_count 144 = .ok (.getfield 240, 3) := dk_180 0 240 (dk_at dksX1_count_4 20 rfl rfl)
theorem dX1_count_147 : decode cX1_count 147 = .ok (.ireturn, 1) := dk_172 (dk_at dksX1_count_4 23 rfl rfl)
theorem dX1_count_148 : decode cX1_count 148 = .ok (.aload_n 0, 1) := dk_42 (dk_at dksX1_count_5 0 rfl rfl)
theorem dX1_count_149 : decode cX1_count 149 = .ok (.getfield 19, 3) := dk_180 0 19 (dk_at dksX1_count_5 1 rfl rfl)
theorem dX1_count_152 : decode cX1_count 152 = .ok (.getfield 333, 3) := dk_180 1 77 (dk_at dksX1_count_5 4 rfl rfl)
theorem dX1_count_155 : decode cX1_count 155 = .ok (.ireturn, 1) := dk_172 (dk_at dksX1_count_5 7 rfl rfl)
theorem dX1_count_156 : decode cX1_count 156 = .ok (.aload_n 0, 1) := dk_42 (dk_at dksX1_count_5 8 rfl rfl)
theorem dX1_count_157 : decode cX1_count 157 = .ok (.getfield 19, 3) := dk_180 0 19 (dk_at dksX1_count_5 9 rfl rfl)
theorem dX1_count_160 : decode cX1_count 160 = .ok (.getfield 336, 3) := dk_180 1 80 (dk_at dksX1_count_5 12 rfl rfl)
theorem dX1_count_163 : decode cX1_count 163 = .ok (.ireturn, 1) := dk_172 (dk_at dksX1_count_5 15 rfl rfl)
theorem dX1_count_164 : decode cX1_count 164 = .ok (.aload_n 0, 1) := dk_42 (dk_at dksX1_count_5 16 rfl rfl)
theorem dX1_count_165 : decode cX1_count 165 = .ok (.invokevirtual 363, 3) := dk_182 1 107 (dk_at dksX1_count_5 17 rfl rfl)
theorem dX1_count_168 : decode cX1_count 168 = .ok (.ireturn, 1) := dk_172 (dk_at dksX1_count_5 20 rfl rfl)
theorem dX1_count_169 : decode cX1_count 169 = .ok (.aload_n 0, 1) := dk_42 (dk_at dksX1_count_5 21 rfl rfl)
theorem dX1_count_170 : decode cX1_count 170 = .ok (.invokevirtual 366, 3) := dk_182 1 110 (dk_at dksX1_count_6 0 rfl rfl)
theorem dX1_count_173 : decode cX1_count 173 = .ok (.ireturn, 1) := dk_172 (dk_at dksX1_count_6 3 rfl rfl)
theorem dX1_count_174 : decode cX1_count 174 = .ok (.bipush 60, 2) := dk_16 60 (dk_at dksX1_count_6 4 rfl rfl)
theorem dX1_count_176 : decode cX1_count 176 = .ok (.aload_n 0, 1) := dk_42 (dk_at dksX1_count_6 6 rfl rfl)
theorem dX1_count_177 : decode cX1_count 177 = .ok (.getfield 19, 3) := dk_180 0 19 (dk_at dksX1_count_6 7 rfl rfl)
theorem dX1_count_180 : decode cX1_count 180 = .ok (.getfield 369, 3) := dk_180 1 113 (dk_at dksX1_count_6 10 rfl rfl)
theorem dX1_count_183 : decode cX1_count 183 = .ok (.invokestatic 228, 3) := dk_184 0 228 (dk_at dksX1_count_6 13 rfl rfl)
theorem dX1_count_186 : decode cX1_count 186 = .ok (.ireturn, 1) := dk_172 (dk_at dksX1_count_6 16 rfl rfl)
theorem dX1_count_187 : decode cX1_count 187 = .ok (.aload_n 0, 1) := dk_42 (dk_at dksX1_count_6 17 rfl rfl)
theorem dX1_count_188 : decode cX1_count 188 = .ok (.getfield 144, 3) := dk_180 0 144 (dk_at dksX1_count_6 18 rfl rfl)
theorem dX1_count_191 : decode cX1_count 191 = .ok (.ireturn, 1) := dk_172 (dk_at dksX1_count_6 21 rfl rfl)
theorem dX1_count_192 : decode cX1_count 192 = .ok (.iconst (-1), 1) := dk_2 (dk_at dksX1_count_6 22 rfl rfl)
theorem dX1_count_193 : decode cX1_count 193 = .ok (.ireturn, 1) := dk_172 (dk_at dksX1_count_6 23 rfl rfl)
abbrev cX1_openOnes : ByteArray := prog_1_method_60_code
def yX1_openOnes : MethodName := ⟨RX1, "openOnes", "()I"⟩
def dkwX1_openOnes_1 : List UInt8 := [50, 180, 0, 205, 154, 0, 9, 4, 28, 120, 167, 0, 4, 3, 128, 60, 132, 2, 1, 167, 255, 217, 27, 172]
abbrev dktX1_openOnes_1 : List UInt8 := dkwX1_openOnes_1 ++ []
def dkwX1_openOnes_0 : List UInt8 := [3, 60, 3, 61, 28, 42, 180, 0, 19, 180, 0, 99, 162, 0, 34, 27, 42, 180, 0, 19, 180, 0, 102, 28]
abbrev dktX1_openOnes_0 : List UInt8 := dkwX1_openOnes_0 ++ dktX1_openOnes_1
theorem dksX1_openOnes_0 : cX1_openOnes.data.toList.drop 0 = dktX1_openOnes_0 := by decide +kernel
theorem dksX1_openOnes_1 : cX1_openOnes.data.toList.drop 24 = dktX1_openOnes_1 := dk_seg dksX1_openOnes_0 24 rfl rfl
theorem dX1_openOnes_0 : decode cX1_openOnes 0 = .ok (.iconst 0, 1) := dk_3 (dk_at dksX1_openOnes_0 0 rfl rfl)
theorem dX1_openOnes_1 : decode cX1_openOnes 1 = .ok (.istore_n 1, 1) := dk_60 (dk_at dksX1_openOnes_0 1 rfl rfl)
theorem dX1_openOnes_2 : decode cX1_openOnes 2 = .ok (.iconst 0, 1) := dk_3 (dk_at dksX1_openOnes_0 2 rfl rfl)
theorem dX1_openOnes_3 : decode cX1_openOnes 3 = .ok (.istore_n 2, 1) := dk_61 (dk_at dksX1_openOnes_0 3 rfl rfl)
theorem dX1_openOnes_4 : decode cX1_openOnes 4 = .ok (.iload_n 2, 1) := dk_28 (dk_at dksX1_openOnes_0 4 rfl rfl)
theorem dX1_openOnes_5 : decode cX1_openOnes 5 = .ok (.aload_n 0, 1) := dk_42 (dk_at dksX1_openOnes_0 5 rfl rfl)
theorem dX1_openOnes_6 : decode cX1_openOnes 6 = .ok (.getfield 19, 3) := dk_180 0 19 (dk_at dksX1_openOnes_0 6 rfl rfl)
theorem dX1_openOnes_9 : decode cX1_openOnes 9 = .ok (.getfield 99, 3) := dk_180 0 99 (dk_at dksX1_openOnes_0 9 rfl rfl)
theorem dX1_openOnes_12 : decode cX1_openOnes 12 = .ok (.if_icmp .ge 34, 3) := dk_162 0 34 (dk_at dksX1_openOnes_0 12 rfl rfl)
theorem dX1_openOnes_15 : decode cX1_openOnes 15 = .ok (.iload_n 1, 1) := dk_27 (dk_at dksX1_openOnes_0 15 rfl rfl)
theorem dX1_openOnes_16 : decode cX1_openOnes 16 = .ok (.aload_n 0, 1) := dk_42 (dk_at dksX1_openOnes_0 16 rfl rfl)
theorem dX1_openOnes_17 : decode cX1_openOnes 17 = .ok (.getfield 19, 3) := dk_180 0 19 (dk_at dksX1_openOnes_0 17 rfl rfl)
theorem dX1_openOnes_20 : decode cX1_openOnes 20 = .ok (.getfield 102, 3) := dk_180 0 102 (dk_at dksX1_openOnes_0 20 rfl rfl)
theorem dX1_openOnes_23 : decode cX1_openOnes 23 = .ok (.iload_n 2, 1) := dk_28 (dk_at dksX1_openOnes_0 23 rfl rfl)
theorem dX1_openOnes_24 : decode cX1_openOnes 24 = .ok (.aaload, 1) := dk_50 (dk_at dksX1_openOnes_1 0 rfl rfl)
theorem dX1_openOnes_25 : decode cX1_openOnes 25 = .ok (.getfield 205, 3) := dk_180 0 205 (dk_at dksX1_openOnes_1 1 rfl rfl)
theorem dX1_openOnes_28 : decode cX1_openOnes 28 = .ok (.ifCond .ne 9, 3) := dk_154 0 9 (dk_at dksX1_openOnes_1 4 rfl rfl)
theorem dX1_openOnes_31 : decode cX1_openOnes 31 = .ok (.iconst 1, 1) := dk_4 (dk_at dksX1_openOnes_1 7 rfl rfl)
theorem dX1_openOnes_32 : decode cX1_openOnes 32 = .ok (.iload_n 2, 1) := dk_28 (dk_at dksX1_openOnes_1 8 rfl rfl)
theorem dX1_openOnes_33 : decode cX1_openOnes 33 = .ok (.ishl, 1) := dk_120 (dk_at dksX1_openOnes_1 9 rfl rfl)
theorem dX1_openOnes_34 : decode cX1_openOnes 34 = .ok (.goto 4, 3) := dk_167 0 4 (dk_at dksX1_openOnes_1 10 rfl rfl)
theorem dX1_openOnes_37 : decode cX1_openOnes 37 = .ok (.iconst 0, 1) := dk_3 (dk_at dksX1_openOnes_1 13 rfl rfl)
theorem dX1_openOnes_38 : decode cX1_openOnes 38 = .ok (.ior, 1) := dk_128 (dk_at dksX1_openOnes_1 14 rfl rfl)
theorem dX1_openOnes_39 : decode cX1_openOnes 39 = .ok (.istore_n 1, 1) := dk_60 (dk_at dksX1_openOnes_1 15 rfl rfl)
theorem dX1_openOnes_40 : decode cX1_openOnes 40 = .ok (.iinc 2 1, 3) := dk_132 2 1 (dk_at dksX1_openOnes_1 16 rfl rfl)
theorem dX1_openOnes_43 : decode cX1_openOnes 43 = .ok (.goto (-39), 3) := dk_167 255 217 (dk_at dksX1_openOnes_1 19 rfl rfl)
theorem dX1_openOnes_46 : decode cX1_openOnes 46 = .ok (.iload_n 1, 1) := dk_27 (dk_at dksX1_openOnes_1 22 rfl rfl)
theorem dX1_openOnes_47 : decode cX1_openOnes 47 = .ok (.ireturn, 1) := dk_172 (dk_at dksX1_openOnes_1 23 rfl rfl)
abbrev cX1_calm : ByteArray := prog_1_method_71_code
def yX1_calm : MethodName := ⟨RX1, "calm", "()I"⟩
def dkwX1_calm_1 : List UInt8 := [167, 0, 4, 3, 126, 60, 132, 2, 1, 167, 255, 227, 27, 153, 0, 7, 4, 167, 0, 4, 3, 172]
abbrev dktX1_calm_1 : List UInt8 := dkwX1_calm_1 ++ []
def dkwX1_calm_0 : List UInt8 := [4, 60, 3, 61, 28, 16, 12, 163, 0, 29, 27, 42, 180, 0, 19, 180, 0, 212, 28, 46, 154, 0, 7, 4]
abbrev dktX1_calm_0 : List UInt8 := dkwX1_calm_0 ++ dktX1_calm_1
theorem dksX1_calm_0 : cX1_calm.data.toList.drop 0 = dktX1_calm_0 := by decide +kernel
theorem dksX1_calm_1 : cX1_calm.data.toList.drop 24 = dktX1_calm_1 := dk_seg dksX1_calm_0 24 rfl rfl
theorem dX1_calm_0 : decode cX1_calm 0 = .ok (.iconst 1, 1) := dk_4 (dk_at dksX1_calm_0 0 rfl rfl)
theorem dX1_calm_1 : decode cX1_calm 1 = .ok (.istore_n 1, 1) := dk_60 (dk_at dksX1_calm_0 1 rfl rfl)
theorem dX1_calm_2 : decode cX1_calm 2 = .ok (.iconst 0, 1) := dk_3 (dk_at dksX1_calm_0 2 rfl rfl)
theorem dX1_calm_3 : decode cX1_calm 3 = .ok (.istore_n 2, 1) := dk_61 (dk_at dksX1_calm_0 3 rfl rfl)
theorem dX1_calm_4 : decode cX1_calm 4 = .ok (.iload_n 2, 1) := dk_28 (dk_at dksX1_calm_0 4 rfl rfl)
theorem dX1_calm_5 : decode cX1_calm 5 = .ok (.bipush 12, 2) := dk_16 12 (dk_at dksX1_calm_0 5 rfl rfl)
theorem dX1_calm_7 : decode cX1_calm 7 = .ok (.if_icmp .gt 29, 3) := dk_163 0 29 (dk_at dksX1_calm_0 7 rfl rfl)
theorem dX1_calm_10 : decode cX1_calm 10 = .ok (.iload_n 1, 1) := dk_27 (dk_at dksX1_calm_0 10 rfl rfl)
theorem dX1_calm_11 : decode cX1_calm 11 = .ok (.aload_n 0, 1) := dk_42 (dk_at dksX1_calm_0 11 rfl rfl)
theorem dX1_calm_12 : decode cX1_calm 12 = .ok (.getfield 19, 3) := dk_180 0 19 (dk_at dksX1_calm_0 12 rfl rfl)
theorem dX1_calm_15 : decode cX1_calm 15 = .ok (.getfield 212, 3) := dk_180 0 212 (dk_at dksX1_calm_0 15 rfl rfl)
theorem dX1_calm_18 : decode cX1_calm 18 = .ok (.iload_n 2, 1) := dk_28 (dk_at dksX1_calm_0 18 rfl rfl)
theorem dX1_calm_19 : decode cX1_calm 19 = .ok (.iaload, 1) := dk_46 (dk_at dksX1_calm_0 19 rfl rfl)
theorem dX1_calm_20 : decode cX1_calm 20 = .ok (.ifCond .ne 7, 3) := dk_154 0 7 (dk_at dksX1_calm_0 20 rfl rfl)
theorem dX1_calm_23 : decode cX1_calm 23 = .ok (.iconst 1, 1) := dk_4 (dk_at dksX1_calm_0 23 rfl rfl)
theorem dX1_calm_24 : decode cX1_calm 24 = .ok (.goto 4, 3) := dk_167 0 4 (dk_at dksX1_calm_1 0 rfl rfl)
theorem dX1_calm_27 : decode cX1_calm 27 = .ok (.iconst 0, 1) := dk_3 (dk_at dksX1_calm_1 3 rfl rfl)
theorem dX1_calm_28 : decode cX1_calm 28 = .ok (.iand, 1) := dk_126 (dk_at dksX1_calm_1 4 rfl rfl)
theorem dX1_calm_29 : decode cX1_calm 29 = .ok (.istore_n 1, 1) := dk_60 (dk_at dksX1_calm_1 5 rfl rfl)
theorem dX1_calm_30 : decode cX1_calm 30 = .ok (.iinc 2 1, 3) := dk_132 2 1 (dk_at dksX1_calm_1 6 rfl rfl)
theorem dX1_calm_33 : decode cX1_calm 33 = .ok (.goto (-29), 3) := dk_167 255 227 (dk_at dksX1_calm_1 9 rfl rfl)
theorem dX1_calm_36 : decode cX1_calm 36 = .ok (.iload_n 1, 1) := dk_27 (dk_at dksX1_calm_1 12 rfl rfl)
theorem dX1_calm_37 : decode cX1_calm 37 = .ok (.ifCond .eq 7, 3) := dk_153 0 7 (dk_at dksX1_calm_1 13 rfl rfl)
theorem dX1_calm_40 : decode cX1_calm 40 = .ok (.iconst 1, 1) := dk_4 (dk_at dksX1_calm_1 16 rfl rfl)
theorem dX1_calm_41 : decode cX1_calm 41 = .ok (.goto 4, 3) := dk_167 0 4 (dk_at dksX1_calm_1 17 rfl rfl)
theorem dX1_calm_44 : decode cX1_calm 44 = .ok (.iconst 0, 1) := dk_3 (dk_at dksX1_calm_1 20 rfl rfl)
theorem dX1_calm_45 : decode cX1_calm 45 = .ok (.ireturn, 1) := dk_172 (dk_at dksX1_calm_1 21 rfl rfl)
abbrev cX1_court : ByteArray := prog_1_method_16_code
def yX1_court : MethodName := ⟨RX1, "court", "()I"⟩
def dkwX1_court_3 : List UInt8 := [96, 181, 0, 134, 42, 3, 181, 0, 144, 42, 180, 0, 19, 180, 0, 134, 172]
abbrev dktX1_court_3 : List UInt8 := dkwX1_court_3 ++ []
def dkwX1_court_2 : List UInt8 := [167, 0, 4, 3, 184, 0, 137, 42, 180, 0, 19, 44, 182, 0, 140, 42, 180, 0, 19, 89, 180, 0, 134, 4]
abbrev dktX1_court_2 : List UInt8 := dkwX1_court_2 ++ dktX1_court_3
def dkwX1_court_1 : List UInt8 := [167, 0, 10, 78, 42, 45, 182, 0, 130, 191, 42, 180, 0, 19, 180, 0, 134, 16, 12, 162, 0, 7, 4]
abbrev dktX1_court_1 : List UInt8 := dkwX1_court_1 ++ dktX1_court_2
def dkwX1_court_0 : List UInt8 := [42, 182, 0, 122, 60, 42, 2, 181, 0, 62, 42, 180, 0, 10, 27, 42, 180, 0, 19, 182, 0, 126, 77]
abbrev dktX1_court_0 : List UInt8 := dkwX1_court_0 ++ dktX1_court_1
theorem dksX1_court_0 : cX1_court.data.toList.drop 0 = dktX1_court_0 := by decide +kernel
theorem dksX1_court_1 : cX1_court.data.toList.drop 23 = dktX1_court_1 := dk_seg dksX1_court_0 23 rfl rfl
theorem dksX1_court_2 : cX1_court.data.toList.drop 46 = dktX1_court_2 := dk_seg dksX1_court_1 23 rfl rfl
theorem dksX1_court_3 : cX1_court.data.toList.drop 70 = dktX1_court_3 := dk_seg dksX1_court_2 24 rfl rfl
theorem dX1_court_0 : decode cX1_court 0 = .ok (.aload_n 0, 1) := dk_42 (dk_at dksX1_court_0 0 rfl rfl)
theorem dX1_court_1 : decode cX1_court 1 = .ok (.invokevirtual 122, 3) := dk_182 0 122 (dk_at dksX1_court_0 1 rfl rfl)
theorem dX1_court_4 : decode cX1_court 4 = .ok (.istore_n 1, 1) := dk_60 (dk_at dksX1_court_0 4 rfl rfl)
theorem dX1_court_5 : decode cX1_court 5 = .ok (.aload_n 0, 1) := dk_42 (dk_at dksX1_court_0 5 rfl rfl)
theorem dX1_court_6 : decode cX1_court 6 = .ok (.iconst (-1), 1) := dk_2 (dk_at dksX1_court_0 6 rfl rfl)
theorem dX1_court_7 : decode cX1_court 7 = .ok (.putfield 62, 3) := dk_181 0 62 (dk_at dksX1_court_0 7 rfl rfl)
theorem dX1_court_10 : decode cX1_court 10 = .ok (.aload_n 0, 1) := dk_42 (dk_at dksX1_court_0 10 rfl rfl)
theorem dX1_court_11 : decode cX1_court 11 = .ok (.getfield 10, 3) := dk_180 0 10 (dk_at dksX1_court_0 11 rfl rfl)
theorem dX1_court_14 : decode cX1_court 14 = .ok (.iload_n 1, 1) := dk_27 (dk_at dksX1_court_0 14 rfl rfl)
theorem dX1_court_15 : decode cX1_court 15 = .ok (.aload_n 0, 1) := dk_42 (dk_at dksX1_court_0 15 rfl rfl)
theorem dX1_court_16 : decode cX1_court 16 = .ok (.getfield 19, 3) := dk_180 0 19 (dk_at dksX1_court_0 16 rfl rfl)
theorem dX1_court_19 : decode cX1_court 19 = .ok (.invokevirtual 126, 3) := dk_182 0 126 (dk_at dksX1_court_0 19 rfl rfl)
theorem dX1_court_22 : decode cX1_court 22 = .ok (.astore_n 2, 1) := dk_77 (dk_at dksX1_court_0 22 rfl rfl)
theorem dX1_court_23 : decode cX1_court 23 = .ok (.goto 10, 3) := dk_167 0 10 (dk_at dksX1_court_1 0 rfl rfl)
theorem dX1_court_26 : decode cX1_court 26 = .ok (.astore_n 3, 1) := dk_78 (dk_at dksX1_court_1 3 rfl rfl)
theorem dX1_court_27 : decode cX1_court 27 = .ok (.aload_n 0, 1) := dk_42 (dk_at dksX1_court_1 4 rfl rfl)
theorem dX1_court_28 : decode cX1_court 28 = .ok (.aload_n 3, 1) := dk_45 (dk_at dksX1_court_1 5 rfl rfl)
theorem dX1_court_29 : decode cX1_court 29 = .ok (.invokevirtual 130, 3) := dk_182 0 130 (dk_at dksX1_court_1 6 rfl rfl)
theorem dX1_court_32 : decode cX1_court 32 = .ok (.athrow, 1) := dk_191 (dk_at dksX1_court_1 9 rfl rfl)
theorem dX1_court_33 : decode cX1_court 33 = .ok (.aload_n 0, 1) := dk_42 (dk_at dksX1_court_1 10 rfl rfl)
theorem dX1_court_34 : decode cX1_court 34 = .ok (.getfield 19, 3) := dk_180 0 19 (dk_at dksX1_court_1 11 rfl rfl)
theorem dX1_court_37 : decode cX1_court 37 = .ok (.getfield 134, 3) := dk_180 0 134 (dk_at dksX1_court_1 14 rfl rfl)
theorem dX1_court_40 : decode cX1_court 40 = .ok (.bipush 12, 2) := dk_16 12 (dk_at dksX1_court_1 17 rfl rfl)
theorem dX1_court_42 : decode cX1_court 42 = .ok (.if_icmp .ge 7, 3) := dk_162 0 7 (dk_at dksX1_court_1 19 rfl rfl)
theorem dX1_court_45 : decode cX1_court 45 = .ok (.iconst 1, 1) := dk_4 (dk_at dksX1_court_1 22 rfl rfl)
theorem dX1_court_46 : decode cX1_court 46 = .ok (.goto 4, 3) := dk_167 0 4 (dk_at dksX1_court_2 0 rfl rfl)
theorem dX1_court_49 : decode cX1_court 49 = .ok (.iconst 0, 1) := dk_3 (dk_at dksX1_court_2 3 rfl rfl)
theorem dX1_court_50 : decode cX1_court 50 = .ok (.invokestatic 137, 3) := dk_184 0 137 (dk_at dksX1_court_2 4 rfl rfl)
theorem dX1_court_53 : decode cX1_court 53 = .ok (.aload_n 0, 1) := dk_42 (dk_at dksX1_court_2 7 rfl rfl)
theorem dX1_court_54 : decode cX1_court 54 = .ok (.getfield 19, 3) := dk_180 0 19 (dk_at dksX1_court_2 8 rfl rfl)
theorem dX1_court_57 : decode cX1_court 57 = .ok (.aload_n 2, 1) := dk_44 (dk_at dksX1_court_2 11 rfl rfl)
theorem dX1_court_58 : decode cX1_court 58 = .ok (.invokevirtual 140, 3) := dk_182 0 140 (dk_at dksX1_court_2 12 rfl rfl)
theorem dX1_court_61 : decode cX1_court 61 = .ok (.aload_n 0, 1) := dk_42 (dk_at dksX1_court_2 15 rfl rfl)
theorem dX1_court_62 : decode cX1_court 62 = .ok (.getfield 19, 3) := dk_180 0 19 (dk_at dksX1_court_2 16 rfl rfl)
theorem dX1_court_65 : decode cX1_court 65 = .ok (.dup, 1) := dk_89 (dk_at dksX1_court_2 19 rfl rfl)
theorem dX1_court_66 : decode cX1_court 66 = .ok (.getfield 134, 3) := dk_180 0 134 (dk_at dksX1_court_2 20 rfl rfl)
theorem dX1_court_69 : decode cX1_court 69 = .ok (.iconst 1, 1) := dk_4 (dk_at dksX1_court_2 23 rfl rfl)
theorem dX1_court_70 : decode cX1_court 70 = .ok (.iadd, 1) := dk_96 (dk_at dksX1_court_3 0 rfl rfl)
theorem dX1_court_71 : decode cX1_court 71 = .ok (.putfield 134, 3) := dk_181 0 134 (dk_at dksX1_court_3 1 rfl rfl)
theorem dX1_court_74 : decode cX1_court 74 = .ok (.aload_n 0, 1) := dk_42 (dk_at dksX1_court_3 4 rfl rfl)
theorem dX1_court_75 : decode cX1_court 75 = .ok (.iconst 0, 1) := dk_3 (dk_at dksX1_court_3 5 rfl rfl)
theorem dX1_court_76 : decode cX1_court 76 = .ok (.putfield 144, 3) := dk_181 0 144 (dk_at dksX1_court_3 6 rfl rfl)
theorem dX1_court_79 : decode cX1_court 79 = .ok (.aload_n 0, 1) := dk_42 (dk_at dksX1_court_3 9 rfl rfl)
theorem dX1_court_80 : decode cX1_court 80 = .ok (.getfield 19, 3) := dk_180 0 19 (dk_at dksX1_court_3 10 rfl rfl)
theorem dX1_court_83 : decode cX1_court 83 = .ok (.getfield 134, 3) := dk_180 0 134 (dk_at dksX1_court_3 13 rfl rfl)
theorem dX1_court_86 : decode cX1_court 86 = .ok (.ireturn, 1) := dk_172 (dk_at dksX1_court_3 16 rfl rfl)
abbrev cX1_took : ByteArray := prog_1_method_14_code
def yX1_took : MethodName := ⟨RX1, "took", "()I"⟩
def dkwX1_took_0 : List UInt8 := [42, 180, 0, 10, 180, 0, 110, 60, 42, 180, 0, 10, 3, 181, 0, 110, 27, 172]
abbrev dktX1_took_0 : List UInt8 := dkwX1_took_0 ++ []
theorem dksX1_took_0 : cX1_took.data.toList.drop 0 = dktX1_took_0 := by decide +kernel
theorem dX1_took_0 : decode cX1_took 0 = .ok (.aload_n 0, 1) := dk_42 (dk_at dksX1_took_0 0 rfl rfl)
theorem dX1_took_1 : decode cX1_took 1 = .ok (.getfield 10, 3) := dk_180 0 10 (dk_at dksX1_took_0 1 rfl rfl)
theorem dX1_took_4 : decode cX1_took 4 = .ok (.getfield 110, 3) := dk_180 0 110 (dk_at dksX1_took_0 4 rfl rfl)
theorem dX1_took_7 : decode cX1_took 7 = .ok (.istore_n 1, 1) := dk_60 (dk_at dksX1_took_0 7 rfl rfl)
theorem dX1_took_8 : decode cX1_took 8 = .ok (.aload_n 0, 1) := dk_42 (dk_at dksX1_took_0 8 rfl rfl)
theorem dX1_took_9 : decode cX1_took 9 = .ok (.getfield 10, 3) := dk_180 0 10 (dk_at dksX1_took_0 9 rfl rfl)
theorem dX1_took_12 : decode cX1_took 12 = .ok (.iconst 0, 1) := dk_3 (dk_at dksX1_took_0 12 rfl rfl)
theorem dX1_took_13 : decode cX1_took 13 = .ok (.putfield 110, 3) := dk_181 0 110 (dk_at dksX1_took_0 13 rfl rfl)
theorem dX1_took_16 : decode cX1_took 16 = .ok (.iload_n 1, 1) := dk_27 (dk_at dksX1_took_0 16 rfl rfl)
theorem dX1_took_17 : decode cX1_took 17 = .ok (.ireturn, 1) := dk_172 (dk_at dksX1_took_0 17 rfl rfl)
abbrev cX1_isWrong : ByteArray := prog_1_method_15_code
def yX1_isWrong : MethodName := ⟨RX1, "isWrong", "(LFeatherYard$Wrong;)Ljava/lang/IllegalArgumentException;"⟩
def dkwX1_isWrong_0 : List UInt8 := [42, 43, 180, 0, 117, 181, 0, 62, 187, 0, 66, 89, 183, 0, 68, 176]
abbrev dktX1_isWrong_0 : List UInt8 := dkwX1_isWrong_0 ++ []
theorem dksX1_isWrong_0 : cX1_isWrong.data.toList.drop 0 = dktX1_isWrong_0 := by decide +kernel
theorem dX1_isWrong_0 : decode cX1_isWrong 0 = .ok (.aload_n 0, 1) := dk_42 (dk_at dksX1_isWrong_0 0 rfl rfl)
theorem dX1_isWrong_1 : decode cX1_isWrong 1 = .ok (.aload_n 1, 1) := dk_43 (dk_at dksX1_isWrong_0 1 rfl rfl)
theorem dX1_isWrong_2 : decode cX1_isWrong 2 = .ok (.getfield 117, 3) := dk_180 0 117 (dk_at dksX1_isWrong_0 2 rfl rfl)
theorem dX1_isWrong_5 : decode cX1_isWrong 5 = .ok (.putfield 62, 3) := dk_181 0 62 (dk_at dksX1_isWrong_0 5 rfl rfl)
theorem dX1_isWrong_8 : decode cX1_isWrong 8 = .ok (.new 66, 3) := dk_187 0 66 (dk_at dksX1_isWrong_0 8 rfl rfl)
theorem dX1_isWrong_11 : decode cX1_isWrong 11 = .ok (.dup, 1) := dk_89 (dk_at dksX1_isWrong_0 11 rfl rfl)
theorem dX1_isWrong_12 : decode cX1_isWrong 12 = .ok (.invokespecial 68, 3) := dk_183 0 68 (dk_at dksX1_isWrong_0 12 rfl rfl)
theorem dX1_isWrong_15 : decode cX1_isWrong 15 = .ok (.areturn, 1) := dk_176 (dk_at dksX1_isWrong_0 15 rfl rfl)
abbrev cX1_mayBe : ByteArray := prog_1_method_3_code
def yX1_mayBe : MethodName := ⟨RX1, "mayBe", "(Z)V"⟩
def dkwX1_mayBe_0 : List UInt8 := [26, 154, 0, 11, 187, 0, 69, 89, 183, 0, 71, 191, 177]
abbrev dktX1_mayBe_0 : List UInt8 := dkwX1_mayBe_0 ++ []
theorem dksX1_mayBe_0 : cX1_mayBe.data.toList.drop 0 = dktX1_mayBe_0 := by decide +kernel
theorem dX1_mayBe_0 : decode cX1_mayBe 0 = .ok (.iload_n 0, 1) := dk_26 (dk_at dksX1_mayBe_0 0 rfl rfl)
theorem dX1_mayBe_1 : decode cX1_mayBe 1 = .ok (.ifCond .ne 11, 3) := dk_154 0 11 (dk_at dksX1_mayBe_0 1 rfl rfl)
theorem dX1_mayBe_4 : decode cX1_mayBe 4 = .ok (.new 69, 3) := dk_187 0 69 (dk_at dksX1_mayBe_0 4 rfl rfl)
theorem dX1_mayBe_7 : decode cX1_mayBe 7 = .ok (.dup, 1) := dk_89 (dk_at dksX1_mayBe_0 7 rfl rfl)
theorem dX1_mayBe_8 : decode cX1_mayBe 8 = .ok (.invokespecial 71, 3) := dk_183 0 71 (dk_at dksX1_mayBe_0 8 rfl rfl)
theorem dX1_mayBe_11 : decode cX1_mayBe 11 = .ok (.athrow, 1) := dk_191 (dk_at dksX1_mayBe_0 11 rfl rfl)
theorem dX1_mayBe_12 : decode cX1_mayBe 12 = .ok (.return_, 1) := dk_177 (dk_at dksX1_mayBe_0 12 rfl rfl)
abbrev cX1_law : ByteArray := prog_1_method_17_code
def yX1_law : MethodName := ⟨RX1, "law", "()I"⟩
def dkwX1_law_3 : List UInt8 := [172]
abbrev dktX1_law_3 : List UInt8 := dkwX1_law_3 ++ []
def dkwX1_law_2 : List UInt8 := [180, 0, 19, 180, 0, 158, 3, 16, 12, 184, 0, 160, 42, 3, 181, 0, 144, 42, 180, 0, 19, 180, 0, 151]
abbrev dktX1_law_2 : List UInt8 := dkwX1_law_2 ++ dktX1_law_3
def dkwX1_law_1 : List UInt8 := [181, 0, 151, 167, 0, 10, 77, 42, 44, 182, 0, 130, 191, 42, 180, 0, 10, 180, 0, 154, 3, 42]
abbrev dktX1_law_1 : List UInt8 := dkwX1_law_1 ++ dktX1_law_2
def dkwX1_law_0 : List UInt8 := [42, 182, 0, 122, 60, 42, 2, 181, 0, 62, 42, 180, 0, 19, 42, 180, 0, 10, 27, 182, 0, 147]
abbrev dktX1_law_0 : List UInt8 := dkwX1_law_0 ++ dktX1_law_1
theorem dksX1_law_0 : cX1_law.data.toList.drop 0 = dktX1_law_0 := by decide +kernel
theorem dksX1_law_1 : cX1_law.data.toList.drop 22 = dktX1_law_1 := dk_seg dksX1_law_0 22 rfl rfl
theorem dksX1_law_2 : cX1_law.data.toList.drop 44 = dktX1_law_2 := dk_seg dksX1_law_1 22 rfl rfl
theorem dksX1_law_3 : cX1_law.data.toList.drop 68 = dktX1_law_3 := dk_seg dksX1_law_2 24 rfl rfl
theorem dX1_law_0 : decode cX1_law 0 = .ok (.aload_n 0, 1) := dk_42 (dk_at dksX1_law_0 0 rfl rfl)
theorem dX1_law_1 : decode cX1_law 1 = .ok (.invokevirtual 122, 3) := dk_182 0 122 (dk_at dksX1_law_0 1 rfl rfl)
theorem dX1_law_4 : decode cX1_law 4 = .ok (.istore_n 1, 1) := dk_60 (dk_at dksX1_law_0 4 rfl rfl)
theorem dX1_law_5 : decode cX1_law 5 = .ok (.aload_n 0, 1) := dk_42 (dk_at dksX1_law_0 5 rfl rfl)
theorem dX1_law_6 : decode cX1_law 6 = .ok (.iconst (-1), 1) := dk_2 (dk_at dksX1_law_0 6 rfl rfl)
theorem dX1_law_7 : decode cX1_law 7 = .ok (.putfield 62, 3) := dk_181 0 62 (dk_at dksX1_law_0 7 rfl rfl)
theorem dX1_law_10 : decode cX1_law 10 = .ok (.aload_n 0, 1) := dk_42 (dk_at dksX1_law_0 10 rfl rfl)
theorem dX1_law_11 : decode cX1_law 11 = .ok (.getfield 19, 3) := dk_180 0 19 (dk_at dksX1_law_0 11 rfl rfl)
theorem dX1_law_14 : decode cX1_law 14 = .ok (.aload_n 0, 1) := dk_42 (dk_at dksX1_law_0 14 rfl rfl)
theorem dX1_law_15 : decode cX1_law 15 = .ok (.getfield 10, 3) := dk_180 0 10 (dk_at dksX1_law_0 15 rfl rfl)
theorem dX1_law_18 : decode cX1_law 18 = .ok (.iload_n 1, 1) := dk_27 (dk_at dksX1_law_0 18 rfl rfl)
theorem dX1_law_19 : decode cX1_law 19 = .ok (.invokevirtual 147, 3) := dk_182 0 147 (dk_at dksX1_law_0 19 rfl rfl)
theorem dX1_law_22 : decode cX1_law 22 = .ok (.putfield 151, 3) := dk_181 0 151 (dk_at dksX1_law_1 0 rfl rfl)
theorem dX1_law_25 : decode cX1_law 25 = .ok (.goto 10, 3) := dk_167 0 10 (dk_at dksX1_law_1 3 rfl rfl)
theorem dX1_law_28 : decode cX1_law 28 = .ok (.astore_n 2, 1) := dk_77 (dk_at dksX1_law_1 6 rfl rfl)
theorem dX1_law_29 : decode cX1_law 29 = .ok (.aload_n 0, 1) := dk_42 (dk_at dksX1_law_1 7 rfl rfl)
theorem dX1_law_30 : decode cX1_law 30 = .ok (.aload_n 2, 1) := dk_44 (dk_at dksX1_law_1 8 rfl rfl)
theorem dX1_law_31 : decode cX1_law 31 = .ok (.invokevirtual 130, 3) := dk_182 0 130 (dk_at dksX1_law_1 9 rfl rfl)
theorem dX1_law_34 : decode cX1_law 34 = .ok (.athrow, 1) := dk_191 (dk_at dksX1_law_1 12 rfl rfl)
theorem dX1_law_35 : decode cX1_law 35 = .ok (.aload_n 0, 1) := dk_42 (dk_at dksX1_law_1 13 rfl rfl)
theorem dX1_law_36 : decode cX1_law 36 = .ok (.getfield 10, 3) := dk_180 0 10 (dk_at dksX1_law_1 14 rfl rfl)
theorem dX1_law_39 : decode cX1_law 39 = .ok (.getfield 154, 3) := dk_180 0 154 (dk_at dksX1_law_1 17 rfl rfl)
theorem dX1_law_42 : decode cX1_law 42 = .ok (.iconst 0, 1) := dk_3 (dk_at dksX1_law_1 20 rfl rfl)
theorem dX1_law_43 : decode cX1_law 43 = .ok (.aload_n 0, 1) := dk_42 (dk_at dksX1_law_1 21 rfl rfl)
theorem dX1_law_44 : decode cX1_law 44 = .ok (.getfield 19, 3) := dk_180 0 19 (dk_at dksX1_law_2 0 rfl rfl)
theorem dX1_law_47 : decode cX1_law 47 = .ok (.getfield 158, 3) := dk_180 0 158 (dk_at dksX1_law_2 3 rfl rfl)
theorem dX1_law_50 : decode cX1_law 50 = .ok (.iconst 0, 1) := dk_3 (dk_at dksX1_law_2 6 rfl rfl)
theorem dX1_law_51 : decode cX1_law 51 = .ok (.bipush 12, 2) := dk_16 12 (dk_at dksX1_law_2 7 rfl rfl)
theorem dX1_law_53 : decode cX1_law 53 = .ok (.invokestatic 160, 3) := dk_184 0 160 (dk_at dksX1_law_2 9 rfl rfl)
theorem dX1_law_56 : decode cX1_law 56 = .ok (.aload_n 0, 1) := dk_42 (dk_at dksX1_law_2 12 rfl rfl)
theorem dX1_law_57 : decode cX1_law 57 = .ok (.iconst 0, 1) := dk_3 (dk_at dksX1_law_2 13 rfl rfl)
theorem dX1_law_58 : decode cX1_law 58 = .ok (.putfield 144, 3) := dk_181 0 144 (dk_at dksX1_law_2 14 rfl rfl)
theorem dX1_law_61 : decode cX1_law 61 = .ok (.aload_n 0, 1) := dk_42 (dk_at dksX1_law_2 17 rfl rfl)
theorem dX1_law_62 : decode cX1_law 62 = .ok (.getfield 19, 3) := dk_180 0 19 (dk_at dksX1_law_2 18 rfl rfl)
theorem dX1_law_65 : decode cX1_law 65 = .ok (.getfield 151, 3) := dk_180 0 151 (dk_at dksX1_law_2 21 rfl rfl)
theorem dX1_law_68 : decode cX1_law 68 = .ok (.ireturn, 1) := dk_172 (dk_at dksX1_law_3 0 rfl rfl)
abbrev cX1_bird : ByteArray := prog_1_method_19_code
def yX1_bird : MethodName := ⟨RX1, "bird", "(II)I"⟩
def dkwX1_bird_3 : List UInt8 := [183, 0, 77, 191]
abbrev dktX1_bird_3 : List UInt8 := dkwX1_bird_3 ++ []
def dkwX1_bird_2 : List UInt8 := [45, 180, 0, 170, 172, 45, 180, 0, 175, 172, 45, 180, 0, 178, 172, 45, 180, 0, 181, 172, 187, 0, 75, 89]
abbrev dktX1_bird_2 : List UInt8 := dkwX1_bird_2 ++ dktX1_bird_3
def dkwX1_bird_1 : List UInt8 := [170, 0, 0, 0, 49, 0, 0, 0, 0, 0, 0, 0, 3, 0, 0, 0, 29, 0, 0, 0, 34, 0, 0, 0, 39, 0, 0, 0, 44]
abbrev dktX1_bird_1 : List UInt8 := dkwX1_bird_1 ++ dktX1_bird_2
def dkwX1_bird_0 : List UInt8 := [42, 27, 182, 0, 166, 78, 28]
abbrev dktX1_bird_0 : List UInt8 := dkwX1_bird_0 ++ dktX1_bird_1
theorem dksX1_bird_0 : cX1_bird.data.toList.drop 0 = dktX1_bird_0 := by decide +kernel
theorem dksX1_bird_1 : cX1_bird.data.toList.drop 7 = dktX1_bird_1 := dk_seg dksX1_bird_0 7 rfl rfl
theorem dksX1_bird_2 : cX1_bird.data.toList.drop 36 = dktX1_bird_2 := dk_seg dksX1_bird_1 29 rfl rfl
theorem dksX1_bird_3 : cX1_bird.data.toList.drop 60 = dktX1_bird_3 := dk_seg dksX1_bird_2 24 rfl rfl
theorem dX1_bird_0 : decode cX1_bird 0 = .ok (.aload_n 0, 1) := dk_42 (dk_at dksX1_bird_0 0 rfl rfl)
theorem dX1_bird_1 : decode cX1_bird 1 = .ok (.iload_n 1, 1) := dk_27 (dk_at dksX1_bird_0 1 rfl rfl)
theorem dX1_bird_2 : decode cX1_bird 2 = .ok (.invokevirtual 166, 3) := dk_182 0 166 (dk_at dksX1_bird_0 2 rfl rfl)
theorem dX1_bird_5 : decode cX1_bird 5 = .ok (.astore_n 3, 1) := dk_78 (dk_at dksX1_bird_0 5 rfl rfl)
theorem dX1_bird_6 : decode cX1_bird 6 = .ok (.iload_n 2, 1) := dk_28 (dk_at dksX1_bird_0 6 rfl rfl)
theorem dX1_bird_7 : decode cX1_bird 7 = .ok (.tableswitch 49 0 3 #[29, 34, 39, 44], 29) := by decide +kernel
theorem dX1_bird_36 : decode cX1_bird 36 = .ok (.aload_n 3, 1) := dk_45 (dk_at dksX1_bird_2 0 rfl rfl)
theorem dX1_bird_37 : decode cX1_bird 37 = .ok (.getfield 170, 3) := dk_180 0 170 (dk_at dksX1_bird_2 1 rfl rfl)
theorem dX1_bird_40 : decode cX1_bird 40 = .ok (.ireturn, 1) := dk_172 (dk_at dksX1_bird_2 4 rfl rfl)
theorem dX1_bird_41 : decode cX1_bird 41 = .ok (.aload_n 3, 1) := dk_45 (dk_at dksX1_bird_2 5 rfl rfl)
theorem dX1_bird_42 : decode cX1_bird 42 = .ok (.getfield 175, 3) := dk_180 0 175 (dk_at dksX1_bird_2 6 rfl rfl)
theorem dX1_bird_45 : decode cX1_bird 45 = .ok (.ireturn, 1) := dk_172 (dk_at dksX1_bird_2 9 rfl rfl)
theorem dX1_bird_46 : decode cX1_bird 46 = .ok (.aload_n 3, 1) := dk_45 (dk_at dksX1_bird_2 10 rfl rfl)
theorem dX1_bird_47 : decode cX1_bird 47 = .ok (.getfield 178, 3) := dk_180 0 178 (dk_at dksX1_bird_2 11 rfl rfl)
theorem dX1_bird_50 : decode cX1_bird 50 = .ok (.ireturn, 1) := dk_172 (dk_at dksX1_bird_2 14 rfl rfl)
theorem dX1_bird_51 : decode cX1_bird 51 = .ok (.aload_n 3, 1) := dk_45 (dk_at dksX1_bird_2 15 rfl rfl)
theorem dX1_bird_52 : decode cX1_bird 52 = .ok (.getfield 181, 3) := dk_180 0 181 (dk_at dksX1_bird_2 16 rfl rfl)
theorem dX1_bird_55 : decode cX1_bird 55 = .ok (.ireturn, 1) := dk_172 (dk_at dksX1_bird_2 19 rfl rfl)
theorem dX1_bird_56 : decode cX1_bird 56 = .ok (.new 75, 3) := dk_187 0 75 (dk_at dksX1_bird_2 20 rfl rfl)
theorem dX1_bird_59 : decode cX1_bird 59 = .ok (.dup, 1) := dk_89 (dk_at dksX1_bird_2 23 rfl rfl)
theorem dX1_bird_60 : decode cX1_bird 60 = .ok (.invokespecial 77, 3) := dk_183 0 77 (dk_at dksX1_bird_3 0 rfl rfl)
theorem dX1_bird_63 : decode cX1_bird 63 = .ok (.athrow, 1) := dk_191 (dk_at dksX1_bird_3 3 rfl rfl)
abbrev cX1_birdAt : ByteArray := prog_1_method_8_code
def yX1_birdAt : MethodName := ⟨RX1, "birdAt", "(I)LFeatherYard$Bird;"⟩
def dkwX1_birdAt_1 : List UInt8 := [27, 50, 176]
abbrev dktX1_birdAt_1 : List UInt8 := dkwX1_birdAt_1 ++ []
def dkwX1_birdAt_0 : List UInt8 := [27, 3, 42, 180, 0, 19, 180, 0, 81, 4, 100, 184, 0, 84, 184, 0, 88, 42, 180, 0, 19, 180, 0, 92]
abbrev dktX1_birdAt_0 : List UInt8 := dkwX1_birdAt_0 ++ dktX1_birdAt_1
theorem dksX1_birdAt_0 : cX1_birdAt.data.toList.drop 0 = dktX1_birdAt_0 := by decide +kernel
theorem dksX1_birdAt_1 : cX1_birdAt.data.toList.drop 24 = dktX1_birdAt_1 := dk_seg dksX1_birdAt_0 24 rfl rfl
theorem dX1_birdAt_0 : decode cX1_birdAt 0 = .ok (.iload_n 1, 1) := dk_27 (dk_at dksX1_birdAt_0 0 rfl rfl)
theorem dX1_birdAt_1 : decode cX1_birdAt 1 = .ok (.iconst 0, 1) := dk_3 (dk_at dksX1_birdAt_0 1 rfl rfl)
theorem dX1_birdAt_2 : decode cX1_birdAt 2 = .ok (.aload_n 0, 1) := dk_42 (dk_at dksX1_birdAt_0 2 rfl rfl)
theorem dX1_birdAt_3 : decode cX1_birdAt 3 = .ok (.getfield 19, 3) := dk_180 0 19 (dk_at dksX1_birdAt_0 3 rfl rfl)
theorem dX1_birdAt_6 : decode cX1_birdAt 6 = .ok (.getfield 81, 3) := dk_180 0 81 (dk_at dksX1_birdAt_0 6 rfl rfl)
theorem dX1_birdAt_9 : decode cX1_birdAt 9 = .ok (.iconst 1, 1) := dk_4 (dk_at dksX1_birdAt_0 9 rfl rfl)
theorem dX1_birdAt_10 : decode cX1_birdAt 10 = .ok (.isub, 1) := dk_100 (dk_at dksX1_birdAt_0 10 rfl rfl)
theorem dX1_birdAt_11 : decode cX1_birdAt 11 = .ok (.invokestatic 84, 3) := dk_184 0 84 (dk_at dksX1_birdAt_0 11 rfl rfl)
theorem dX1_birdAt_14 : decode cX1_birdAt 14 = .ok (.invokestatic 88, 3) := dk_184 0 88 (dk_at dksX1_birdAt_0 14 rfl rfl)
theorem dX1_birdAt_17 : decode cX1_birdAt 17 = .ok (.aload_n 0, 1) := dk_42 (dk_at dksX1_birdAt_0 17 rfl rfl)
theorem dX1_birdAt_18 : decode cX1_birdAt 18 = .ok (.getfield 19, 3) := dk_180 0 19 (dk_at dksX1_birdAt_0 18 rfl rfl)
theorem dX1_birdAt_21 : decode cX1_birdAt 21 = .ok (.getfield 92, 3) := dk_180 0 92 (dk_at dksX1_birdAt_0 21 rfl rfl)
theorem dX1_birdAt_24 : decode cX1_birdAt 24 = .ok (.iload_n 1, 1) := dk_27 (dk_at dksX1_birdAt_1 0 rfl rfl)
theorem dX1_birdAt_25 : decode cX1_birdAt 25 = .ok (.aaload, 1) := dk_50 (dk_at dksX1_birdAt_1 1 rfl rfl)
theorem dX1_birdAt_26 : decode cX1_birdAt 26 = .ok (.areturn, 1) := dk_176 (dk_at dksX1_birdAt_1 2 rfl rfl)
abbrev cX1_mustBe : ByteArray := prog_1_method_4_code
def yX1_mustBe : MethodName := ⟨RX1, "mustBe", "(Z)V"⟩
def dkwX1_mustBe_0 : List UInt8 := [26, 154, 0, 11, 187, 0, 72, 89, 183, 0, 74, 191, 177]
abbrev dktX1_mustBe_0 : List UInt8 := dkwX1_mustBe_0 ++ []
theorem dksX1_mustBe_0 : cX1_mustBe.data.toList.drop 0 = dktX1_mustBe_0 := by decide +kernel
theorem dX1_mustBe_0 : decode cX1_mustBe 0 = .ok (.iload_n 0, 1) := dk_26 (dk_at dksX1_mustBe_0 0 rfl rfl)
theorem dX1_mustBe_1 : decode cX1_mustBe 1 = .ok (.ifCond .ne 11, 3) := dk_154 0 11 (dk_at dksX1_mustBe_0 1 rfl rfl)
theorem dX1_mustBe_4 : decode cX1_mustBe 4 = .ok (.new 72, 3) := dk_187 0 72 (dk_at dksX1_mustBe_0 4 rfl rfl)
theorem dX1_mustBe_7 : decode cX1_mustBe 7 = .ok (.dup, 1) := dk_89 (dk_at dksX1_mustBe_0 7 rfl rfl)
theorem dX1_mustBe_8 : decode cX1_mustBe 8 = .ok (.invokespecial 74, 3) := dk_183 0 74 (dk_at dksX1_mustBe_0 8 rfl rfl)
theorem dX1_mustBe_11 : decode cX1_mustBe 11 = .ok (.athrow, 1) := dk_191 (dk_at dksX1_mustBe_0 11 rfl rfl)
theorem dX1_mustBe_12 : decode cX1_mustBe 12 = .ok (.return_, 1) := dk_177 (dk_at dksX1_mustBe_0 12 rfl rfl)
abbrev cX1_stock : ByteArray := prog_1_method_20_code
def yX1_stock : MethodName := ⟨RX1, "stock", "(II)I"⟩
def dkwX1_stock_0 : List UInt8 := [42, 27, 182, 0, 184, 42, 28, 182, 0, 166, 87, 42, 180, 0, 19, 27, 28, 182, 0, 187, 172]
abbrev dktX1_stock_0 : List UInt8 := dkwX1_stock_0 ++ []
theorem dksX1_stock_0 : cX1_stock.data.toList.drop 0 = dktX1_stock_0 := by decide +kernel
theorem dX1_stock_0 : decode cX1_stock 0 = .ok (.aload_n 0, 1) := dk_42 (dk_at dksX1_stock_0 0 rfl rfl)
theorem dX1_stock_1 : decode cX1_stock 1 = .ok (.iload_n 1, 1) := dk_27 (dk_at dksX1_stock_0 1 rfl rfl)
theorem dX1_stock_2 : decode cX1_stock 2 = .ok (.invokevirtual 184, 3) := dk_182 0 184 (dk_at dksX1_stock_0 2 rfl rfl)
theorem dX1_stock_5 : decode cX1_stock 5 = .ok (.aload_n 0, 1) := dk_42 (dk_at dksX1_stock_0 5 rfl rfl)
theorem dX1_stock_6 : decode cX1_stock 6 = .ok (.iload_n 2, 1) := dk_28 (dk_at dksX1_stock_0 6 rfl rfl)
theorem dX1_stock_7 : decode cX1_stock 7 = .ok (.invokevirtual 166, 3) := dk_182 0 166 (dk_at dksX1_stock_0 7 rfl rfl)
theorem dX1_stock_10 : decode cX1_stock 10 = .ok (.pop, 1) := dk_87 (dk_at dksX1_stock_0 10 rfl rfl)
theorem dX1_stock_11 : decode cX1_stock 11 = .ok (.aload_n 0, 1) := dk_42 (dk_at dksX1_stock_0 11 rfl rfl)
theorem dX1_stock_12 : decode cX1_stock 12 = .ok (.getfield 19, 3) := dk_180 0 19 (dk_at dksX1_stock_0 12 rfl rfl)
theorem dX1_stock_15 : decode cX1_stock 15 = .ok (.iload_n 1, 1) := dk_27 (dk_at dksX1_stock_0 15 rfl rfl)
theorem dX1_stock_16 : decode cX1_stock 16 = .ok (.iload_n 2, 1) := dk_28 (dk_at dksX1_stock_0 16 rfl rfl)
theorem dX1_stock_17 : decode cX1_stock 17 = .ok (.invokevirtual 187, 3) := dk_182 0 187 (dk_at dksX1_stock_0 17 rfl rfl)
theorem dX1_stock_20 : decode cX1_stock 20 = .ok (.ireturn, 1) := dk_172 (dk_at dksX1_stock_0 20 rfl rfl)
abbrev cX1_isCounsel : ByteArray := prog_1_method_9_code
def yX1_isCounsel : MethodName := ⟨RX1, "isCounsel", "(I)V"⟩
def dkwX1_isCounsel_0 : List UInt8 := [27, 3, 42, 180, 0, 19, 180, 0, 96, 4, 100, 184, 0, 84, 184, 0, 88, 177]
abbrev dktX1_isCounsel_0 : List UInt8 := dkwX1_isCounsel_0 ++ []
theorem dksX1_isCounsel_0 : cX1_isCounsel.data.toList.drop 0 = dktX1_isCounsel_0 := by decide +kernel
theorem dX1_isCounsel_0 : decode cX1_isCounsel 0 = .ok (.iload_n 1, 1) := dk_27 (dk_at dksX1_isCounsel_0 0 rfl rfl)
theorem dX1_isCounsel_1 : decode cX1_isCounsel 1 = .ok (.iconst 0, 1) := dk_3 (dk_at dksX1_isCounsel_0 1 rfl rfl)
theorem dX1_isCounsel_2 : decode cX1_isCounsel 2 = .ok (.aload_n 0, 1) := dk_42 (dk_at dksX1_isCounsel_0 2 rfl rfl)
theorem dX1_isCounsel_3 : decode cX1_isCounsel 3 = .ok (.getfield 19, 3) := dk_180 0 19 (dk_at dksX1_isCounsel_0 3 rfl rfl)
theorem dX1_isCounsel_6 : decode cX1_isCounsel 6 = .ok (.getfield 96, 3) := dk_180 0 96 (dk_at dksX1_isCounsel_0 6 rfl rfl)
theorem dX1_isCounsel_9 : decode cX1_isCounsel 9 = .ok (.iconst 1, 1) := dk_4 (dk_at dksX1_isCounsel_0 9 rfl rfl)
theorem dX1_isCounsel_10 : decode cX1_isCounsel 10 = .ok (.isub, 1) := dk_100 (dk_at dksX1_isCounsel_0 10 rfl rfl)
theorem dX1_isCounsel_11 : decode cX1_isCounsel 11 = .ok (.invokestatic 84, 3) := dk_184 0 84 (dk_at dksX1_isCounsel_0 11 rfl rfl)
theorem dX1_isCounsel_14 : decode cX1_isCounsel 14 = .ok (.invokestatic 88, 3) := dk_184 0 88 (dk_at dksX1_isCounsel_0 14 rfl rfl)
theorem dX1_isCounsel_17 : decode cX1_isCounsel 17 = .ok (.return_, 1) := dk_177 (dk_at dksX1_isCounsel_0 17 rfl rfl)
abbrev cX1_matter : ByteArray := prog_1_method_21_code
def yX1_matter : MethodName := ⟨RX1, "matter", "(II)I"⟩
def dkwX1_matter_3 : List UInt8 := [27, 3, 182, 0, 208, 172, 42, 180, 0, 19, 27, 4, 182, 0, 208, 172, 187, 0, 75, 89, 183, 0, 77, 191]
abbrev dktX1_matter_3 : List UInt8 := dkwX1_matter_3 ++ []
def dkwX1_matter_2 : List UInt8 := [45, 180, 0, 195, 172, 45, 180, 0, 199, 172, 45, 180, 0, 202, 172, 45, 180, 0, 205, 172, 42, 180, 0, 19]
abbrev dktX1_matter_2 : List UInt8 := dkwX1_matter_2 ++ dktX1_matter_3
def dkwX1_matter_1 : List UInt8 := [170, 0, 0, 0, 77, 0, 0, 0, 0, 0, 0, 0, 5, 0, 0, 0, 37, 0, 0, 0, 42, 0, 0, 0, 47, 0, 0, 0, 52, 0, 0, 0, 57, 0, 0, 0, 67]
abbrev dktX1_matter_1 : List UInt8 := dkwX1_matter_1 ++ dktX1_matter_2
def dkwX1_matter_0 : List UInt8 := [42, 27, 182, 0, 191, 78, 28]
abbrev dktX1_matter_0 : List UInt8 := dkwX1_matter_0 ++ dktX1_matter_1
theorem dksX1_matter_0 : cX1_matter.data.toList.drop 0 = dktX1_matter_0 := by decide +kernel
theorem dksX1_matter_1 : cX1_matter.data.toList.drop 7 = dktX1_matter_1 := dk_seg dksX1_matter_0 7 rfl rfl
theorem dksX1_matter_2 : cX1_matter.data.toList.drop 44 = dktX1_matter_2 := dk_seg dksX1_matter_1 37 rfl rfl
theorem dksX1_matter_3 : cX1_matter.data.toList.drop 68 = dktX1_matter_3 := dk_seg dksX1_matter_2 24 rfl rfl
theorem dX1_matter_0 : decode cX1_matter 0 = .ok (.aload_n 0, 1) := dk_42 (dk_at dksX1_matter_0 0 rfl rfl)
theorem dX1_matter_1 : decode cX1_matter 1 = .ok (.iload_n 1, 1) := dk_27 (dk_at dksX1_matter_0 1 rfl rfl)
theorem dX1_matter_2 : decode cX1_matter 2 = .ok (.invokevirtual 191, 3) := dk_182 0 191 (dk_at dksX1_matter_0 2 rfl rfl)
theorem dX1_matter_5 : decode cX1_matter 5 = .ok (.astore_n 3, 1) := dk_78 (dk_at dksX1_matter_0 5 rfl rfl)
theorem dX1_matter_6 : decode cX1_matter 6 = .ok (.iload_n 2, 1) := dk_28 (dk_at dksX1_matter_0 6 rfl rfl)
theorem dX1_matter_7 : decode cX1_matter 7 = .ok (.tableswitch 77 0 5 #[37, 42, 47, 52, 57, 67], 37) := by decide +kernel
theorem dX1_matter_44 : decode cX1_matter 44 = .ok (.aload_n 3, 1) := dk_45 (dk_at dksX1_matter_2 0 rfl rfl)
theorem dX1_matter_45 : decode cX1_matter 45 = .ok (.getfield 195, 3) := dk_180 0 195 (dk_at dksX1_matter_2 1 rfl rfl)
theorem dX1_matter_48 : decode cX1_matter 48 = .ok (.ireturn, 1) := dk_172 (dk_at dksX1_matter_2 4 rfl rfl)
theorem dX1_matter_49 : decode cX1_matter 49 = .ok (.aload_n 3, 1) := dk_45 (dk_at dksX1_matter_2 5 rfl rfl)
theorem dX1_matter_50 : decode cX1_matter 50 = .ok (.getfield 199, 3) := dk_180 0 199 (dk_at dksX1_matter_2 6 rfl rfl)
theorem dX1_matter_53 : decode cX1_matter 53 = .ok (.ireturn, 1) := dk_172 (dk_at dksX1_matter_2 9 rfl rfl)
theorem dX1_matter_54 : decode cX1_matter 54 = .ok (.aload_n 3, 1) := dk_45 (dk_at dksX1_matter_2 10 rfl rfl)
theorem dX1_matter_55 : decode cX1_matter 55 = .ok (.getfield 202, 3) := dk_180 0 202 (dk_at dksX1_matter_2 11 rfl rfl)
theorem dX1_matter_58 : decode cX1_matter 58 = .ok (.ireturn, 1) := dk_172 (dk_at dksX1_matter_2 14 rfl rfl)
theorem dX1_matter_59 : decode cX1_matter 59 = .ok (.aload_n 3, 1) := dk_45 (dk_at dksX1_matter_2 15 rfl rfl)
theorem dX1_matter_60 : decode cX1_matter 60 = .ok (.getfield 205, 3) := dk_180 0 205 (dk_at dksX1_matter_2 16 rfl rfl)
theorem dX1_matter_63 : decode cX1_matter 63 = .ok (.ireturn, 1) := dk_172 (dk_at dksX1_matter_2 19 rfl rfl)
theorem dX1_matter_64 : decode cX1_matter 64 = .ok (.aload_n 0, 1) := dk_42 (dk_at dksX1_matter_2 20 rfl rfl)
theorem dX1_matter_65 : decode cX1_matter 65 = .ok (.getfield 19, 3) := dk_180 0 19 (dk_at dksX1_matter_2 21 rfl rfl)
theorem dX1_matter_68 : decode cX1_matter 68 = .ok (.iload_n 1, 1) := dk_27 (dk_at dksX1_matter_3 0 rfl rfl)
theorem dX1_matter_69 : decode cX1_matter 69 = .ok (.iconst 0, 1) := dk_3 (dk_at dksX1_matter_3 1 rfl rfl)
theorem dX1_matter_70 : decode cX1_matter 70 = .ok (.invokevirtual 208, 3) := dk_182 0 208 (dk_at dksX1_matter_3 2 rfl rfl)
theorem dX1_matter_73 : decode cX1_matter 73 = .ok (.ireturn, 1) := dk_172 (dk_at dksX1_matter_3 5 rfl rfl)
theorem dX1_matter_74 : decode cX1_matter 74 = .ok (.aload_n 0, 1) := dk_42 (dk_at dksX1_matter_3 6 rfl rfl)
theorem dX1_matter_75 : decode cX1_matter 75 = .ok (.getfield 19, 3) := dk_180 0 19 (dk_at dksX1_matter_3 7 rfl rfl)
theorem dX1_matter_78 : decode cX1_matter 78 = .ok (.iload_n 1, 1) := dk_27 (dk_at dksX1_matter_3 10 rfl rfl)
theorem dX1_matter_79 : decode cX1_matter 79 = .ok (.iconst 1, 1) := dk_4 (dk_at dksX1_matter_3 11 rfl rfl)
theorem dX1_matter_80 : decode cX1_matter 80 = .ok (.invokevirtual 208, 3) := dk_182 0 208 (dk_at dksX1_matter_3 12 rfl rfl)
theorem dX1_matter_83 : decode cX1_matter 83 = .ok (.ireturn, 1) := dk_172 (dk_at dksX1_matter_3 15 rfl rfl)
theorem dX1_matter_84 : decode cX1_matter 84 = .ok (.new 75, 3) := dk_187 0 75 (dk_at dksX1_matter_3 16 rfl rfl)
theorem dX1_matter_87 : decode cX1_matter 87 = .ok (.dup, 1) := dk_89 (dk_at dksX1_matter_3 19 rfl rfl)
theorem dX1_matter_88 : decode cX1_matter 88 = .ok (.invokespecial 77, 3) := dk_183 0 77 (dk_at dksX1_matter_3 20 rfl rfl)
theorem dX1_matter_91 : decode cX1_matter 91 = .ok (.athrow, 1) := dk_191 (dk_at dksX1_matter_3 23 rfl rfl)
abbrev cX1_caseAt : ByteArray := prog_1_method_10_code
def yX1_caseAt : MethodName := ⟨RX1, "caseAt", "(I)LFeatherYard$Case;"⟩
def dkwX1_caseAt_1 : List UInt8 := [27, 50, 176]
abbrev dktX1_caseAt_1 : List UInt8 := dkwX1_caseAt_1 ++ []
def dkwX1_caseAt_0 : List UInt8 := [27, 3, 42, 180, 0, 19, 180, 0, 99, 4, 100, 184, 0, 84, 184, 0, 88, 42, 180, 0, 19, 180, 0, 102]
abbrev dktX1_caseAt_0 : List UInt8 := dkwX1_caseAt_0 ++ dktX1_caseAt_1
theorem dksX1_caseAt_0 : cX1_caseAt.data.toList.drop 0 = dktX1_caseAt_0 := by decide +kernel
theorem dksX1_caseAt_1 : cX1_caseAt.data.toList.drop 24 = dktX1_caseAt_1 := dk_seg dksX1_caseAt_0 24 rfl rfl
theorem dX1_caseAt_0 : decode cX1_caseAt 0 = .ok (.iload_n 1, 1) := dk_27 (dk_at dksX1_caseAt_0 0 rfl rfl)
theorem dX1_caseAt_1 : decode cX1_caseAt 1 = .ok (.iconst 0, 1) := dk_3 (dk_at dksX1_caseAt_0 1 rfl rfl)
theorem dX1_caseAt_2 : decode cX1_caseAt 2 = .ok (.aload_n 0, 1) := dk_42 (dk_at dksX1_caseAt_0 2 rfl rfl)
theorem dX1_caseAt_3 : decode cX1_caseAt 3 = .ok (.getfield 19, 3) := dk_180 0 19 (dk_at dksX1_caseAt_0 3 rfl rfl)
theorem dX1_caseAt_6 : decode cX1_caseAt 6 = .ok (.getfield 99, 3) := dk_180 0 99 (dk_at dksX1_caseAt_0 6 rfl rfl)
theorem dX1_caseAt_9 : decode cX1_caseAt 9 = .ok (.iconst 1, 1) := dk_4 (dk_at dksX1_caseAt_0 9 rfl rfl)
theorem dX1_caseAt_10 : decode cX1_caseAt 10 = .ok (.isub, 1) := dk_100 (dk_at dksX1_caseAt_0 10 rfl rfl)
theorem dX1_caseAt_11 : decode cX1_caseAt 11 = .ok (.invokestatic 84, 3) := dk_184 0 84 (dk_at dksX1_caseAt_0 11 rfl rfl)
theorem dX1_caseAt_14 : decode cX1_caseAt 14 = .ok (.invokestatic 88, 3) := dk_184 0 88 (dk_at dksX1_caseAt_0 14 rfl rfl)
theorem dX1_caseAt_17 : decode cX1_caseAt 17 = .ok (.aload_n 0, 1) := dk_42 (dk_at dksX1_caseAt_0 17 rfl rfl)
theorem dX1_caseAt_18 : decode cX1_caseAt 18 = .ok (.getfield 19, 3) := dk_180 0 19 (dk_at dksX1_caseAt_0 18 rfl rfl)
theorem dX1_caseAt_21 : decode cX1_caseAt 21 = .ok (.getfield 102, 3) := dk_180 0 102 (dk_at dksX1_caseAt_0 21 rfl rfl)
theorem dX1_caseAt_24 : decode cX1_caseAt 24 = .ok (.iload_n 1, 1) := dk_27 (dk_at dksX1_caseAt_1 0 rfl rfl)
theorem dX1_caseAt_25 : decode cX1_caseAt 25 = .ok (.aaload, 1) := dk_50 (dk_at dksX1_caseAt_1 1 rfl rfl)
theorem dX1_caseAt_26 : decode cX1_caseAt 26 = .ok (.areturn, 1) := dk_176 (dk_at dksX1_caseAt_1 2 rfl rfl)
abbrev cX1_wind : ByteArray := prog_1_method_22_code
def yX1_wind : MethodName := ⟨RX1, "wind", "(I)I"⟩
def dkwX1_wind_0 : List UInt8 := [27, 3, 16, 12, 184, 0, 84, 184, 0, 88, 42, 180, 0, 19, 180, 0, 212, 27, 46, 172]
abbrev dktX1_wind_0 : List UInt8 := dkwX1_wind_0 ++ []
theorem dksX1_wind_0 : cX1_wind.data.toList.drop 0 = dktX1_wind_0 := by decide +kernel
theorem dX1_wind_0 : decode cX1_wind 0 = .ok (.iload_n 1, 1) := dk_27 (dk_at dksX1_wind_0 0 rfl rfl)
theorem dX1_wind_1 : decode cX1_wind 1 = .ok (.iconst 0, 1) := dk_3 (dk_at dksX1_wind_0 1 rfl rfl)
theorem dX1_wind_2 : decode cX1_wind 2 = .ok (.bipush 12, 2) := dk_16 12 (dk_at dksX1_wind_0 2 rfl rfl)
theorem dX1_wind_4 : decode cX1_wind 4 = .ok (.invokestatic 84, 3) := dk_184 0 84 (dk_at dksX1_wind_0 4 rfl rfl)
theorem dX1_wind_7 : decode cX1_wind 7 = .ok (.invokestatic 88, 3) := dk_184 0 88 (dk_at dksX1_wind_0 7 rfl rfl)
theorem dX1_wind_10 : decode cX1_wind 10 = .ok (.aload_n 0, 1) := dk_42 (dk_at dksX1_wind_0 10 rfl rfl)
theorem dX1_wind_11 : decode cX1_wind 11 = .ok (.getfield 19, 3) := dk_180 0 19 (dk_at dksX1_wind_0 11 rfl rfl)
theorem dX1_wind_14 : decode cX1_wind 14 = .ok (.getfield 212, 3) := dk_180 0 212 (dk_at dksX1_wind_0 14 rfl rfl)
theorem dX1_wind_17 : decode cX1_wind 17 = .ok (.iload_n 1, 1) := dk_27 (dk_at dksX1_wind_0 17 rfl rfl)
theorem dX1_wind_18 : decode cX1_wind 18 = .ok (.iaload, 1) := dk_46 (dk_at dksX1_wind_0 18 rfl rfl)
theorem dX1_wind_19 : decode cX1_wind 19 = .ok (.ireturn, 1) := dk_172 (dk_at dksX1_wind_0 19 rfl rfl)
abbrev cX1_moves : ByteArray := prog_1_method_23_code
def yX1_moves : MethodName := ⟨RX1, "moves", "(IIIIZ)I"⟩
def dkwX1_moves_3 : List UInt8 := [29, 21, 4, 182, 0, 222, 172]
abbrev dktX1_moves_3 : List UInt8 := dkwX1_moves_3 ++ []
def dkwX1_moves_2 : List UInt8 := [153, 0, 18, 42, 180, 0, 19, 27, 28, 29, 21, 4, 182, 0, 218, 167, 0, 15, 42, 180, 0, 19, 27, 28]
abbrev dktX1_moves_2 : List UInt8 := dkwX1_moves_2 ++ dktX1_moves_3
def dkwX1_moves_1 : List UInt8 := [153, 0, 7, 4, 167, 0, 4, 3, 184, 0, 88, 21, 4, 3, 16, 7, 184, 0, 84, 184, 0, 215, 21, 5]
abbrev dktX1_moves_1 : List UInt8 := dkwX1_moves_1 ++ dktX1_moves_2
def dkwX1_moves_0 : List UInt8 := [42, 27, 182, 0, 166, 87, 28, 4, 16, 12, 184, 0, 84, 153, 0, 17, 29, 3, 16, 15, 184, 0, 84]
abbrev dktX1_moves_0 : List UInt8 := dkwX1_moves_0 ++ dktX1_moves_1
theorem dksX1_moves_0 : cX1_moves.data.toList.drop 0 = dktX1_moves_0 := by decide +kernel
theorem dksX1_moves_1 : cX1_moves.data.toList.drop 23 = dktX1_moves_1 := dk_seg dksX1_moves_0 23 rfl rfl
theorem dksX1_moves_2 : cX1_moves.data.toList.drop 47 = dktX1_moves_2 := dk_seg dksX1_moves_1 24 rfl rfl
theorem dksX1_moves_3 : cX1_moves.data.toList.drop 71 = dktX1_moves_3 := dk_seg dksX1_moves_2 24 rfl rfl
theorem dX1_moves_0 : decode cX1_moves 0 = .ok (.aload_n 0, 1) := dk_42 (dk_at dksX1_moves_0 0 rfl rfl)
theorem dX1_moves_1 : decode cX1_moves 1 = .ok (.iload_n 1, 1) := dk_27 (dk_at dksX1_moves_0 1 rfl rfl)
theorem dX1_moves_2 : decode cX1_moves 2 = .ok (.invokevirtual 166, 3) := dk_182 0 166 (dk_at dksX1_moves_0 2 rfl rfl)
theorem dX1_moves_5 : decode cX1_moves 5 = .ok (.pop, 1) := dk_87 (dk_at dksX1_moves_0 5 rfl rfl)
theorem dX1_moves_6 : decode cX1_moves 6 = .ok (.iload_n 2, 1) := dk_28 (dk_at dksX1_moves_0 6 rfl rfl)
theorem dX1_moves_7 : decode cX1_moves 7 = .ok (.iconst 1, 1) := dk_4 (dk_at dksX1_moves_0 7 rfl rfl)
theorem dX1_moves_8 : decode cX1_moves 8 = .ok (.bipush 12, 2) := dk_16 12 (dk_at dksX1_moves_0 8 rfl rfl)
theorem dX1_moves_10 : decode cX1_moves 10 = .ok (.invokestatic 84, 3) := dk_184 0 84 (dk_at dksX1_moves_0 10 rfl rfl)
theorem dX1_moves_13 : decode cX1_moves 13 = .ok (.ifCond .eq 17, 3) := dk_153 0 17 (dk_at dksX1_moves_0 13 rfl rfl)
theorem dX1_moves_16 : decode cX1_moves 16 = .ok (.iload_n 3, 1) := dk_29 (dk_at dksX1_moves_0 16 rfl rfl)
theorem dX1_moves_17 : decode cX1_moves 17 = .ok (.iconst 0, 1) := dk_3 (dk_at dksX1_moves_0 17 rfl rfl)
theorem dX1_moves_18 : decode cX1_moves 18 = .ok (.bipush 15, 2) := dk_16 15 (dk_at dksX1_moves_0 18 rfl rfl)
theorem dX1_moves_20 : decode cX1_moves 20 = .ok (.invokestatic 84, 3) := dk_184 0 84 (dk_at dksX1_moves_0 20 rfl rfl)
theorem dX1_moves_23 : decode cX1_moves 23 = .ok (.ifCond .eq 7, 3) := dk_153 0 7 (dk_at dksX1_moves_1 0 rfl rfl)
theorem dX1_moves_26 : decode cX1_moves 26 = .ok (.iconst 1, 1) := dk_4 (dk_at dksX1_moves_1 3 rfl rfl)
theorem dX1_moves_27 : decode cX1_moves 27 = .ok (.goto 4, 3) := dk_167 0 4 (dk_at dksX1_moves_1 4 rfl rfl)
theorem dX1_moves_30 : decode cX1_moves 30 = .ok (.iconst 0, 1) := dk_3 (dk_at dksX1_moves_1 7 rfl rfl)
theorem dX1_moves_31 : decode cX1_moves 31 = .ok (.invokestatic 88, 3) := dk_184 0 88 (dk_at dksX1_moves_1 8 rfl rfl)
theorem dX1_moves_34 : decode cX1_moves 34 = .ok (.iload 4, 2) := dk_21 4 (dk_at dksX1_moves_1 11 rfl rfl)
theorem dX1_moves_36 : decode cX1_moves 36 = .ok (.iconst 0, 1) := dk_3 (dk_at dksX1_moves_1 13 rfl rfl)
theorem dX1_moves_37 : decode cX1_moves 37 = .ok (.bipush 7, 2) := dk_16 7 (dk_at dksX1_moves_1 14 rfl rfl)
theorem dX1_moves_39 : decode cX1_moves 39 = .ok (.invokestatic 84, 3) := dk_184 0 84 (dk_at dksX1_moves_1 16 rfl rfl)
theorem dX1_moves_42 : decode cX1_moves 42 = .ok (.invokestatic 215, 3) := dk_184 0 215 (dk_at dksX1_moves_1 19 rfl rfl)
theorem dX1_moves_45 : decode cX1_moves 45 = .ok (.iload 5, 2) := dk_21 5 (dk_at dksX1_moves_1 22 rfl rfl)
theorem dX1_moves_47 : decode cX1_moves 47 = .ok (.ifCond .eq 18, 3) := dk_153 0 18 (dk_at dksX1_moves_2 0 rfl rfl)
theorem dX1_moves_50 : decode cX1_moves 50 = .ok (.aload_n 0, 1) := dk_42 (dk_at dksX1_moves_2 3 rfl rfl)
theorem dX1_moves_51 : decode cX1_moves 51 = .ok (.getfield 19, 3) := dk_180 0 19 (dk_at dksX1_moves_2 4 rfl rfl)
theorem dX1_moves_54 : decode cX1_moves 54 = .ok (.iload_n 1, 1) := dk_27 (dk_at dksX1_moves_2 7 rfl rfl)
theorem dX1_moves_55 : decode cX1_moves 55 = .ok (.iload_n 2, 1) := dk_28 (dk_at dksX1_moves_2 8 rfl rfl)
theorem dX1_moves_56 : decode cX1_moves 56 = .ok (.iload_n 3, 1) := dk_29 (dk_at dksX1_moves_2 9 rfl rfl)
theorem dX1_moves_57 : decode cX1_moves 57 = .ok (.iload 4, 2) := dk_21 4 (dk_at dksX1_moves_2 10 rfl rfl)
theorem dX1_moves_59 : decode cX1_moves 59 = .ok (.invokevirtual 218, 3) := dk_182 0 218 (dk_at dksX1_moves_2 12 rfl rfl)
theorem dX1_moves_62 : decode cX1_moves 62 = .ok (.goto 15, 3) := dk_167 0 15 (dk_at dksX1_moves_2 15 rfl rfl)
theorem dX1_moves_65 : decode cX1_moves 65 = .ok (.aload_n 0, 1) := dk_42 (dk_at dksX1_moves_2 18 rfl rfl)
theorem dX1_moves_66 : decode cX1_moves 66 = .ok (.getfield 19, 3) := dk_180 0 19 (dk_at dksX1_moves_2 19 rfl rfl)
theorem dX1_moves_69 : decode cX1_moves 69 = .ok (.iload_n 1, 1) := dk_27 (dk_at dksX1_moves_2 22 rfl rfl)
theorem dX1_moves_70 : decode cX1_moves 70 = .ok (.iload_n 2, 1) := dk_28 (dk_at dksX1_moves_2 23 rfl rfl)
theorem dX1_moves_71 : decode cX1_moves 71 = .ok (.iload_n 3, 1) := dk_29 (dk_at dksX1_moves_3 0 rfl rfl)
theorem dX1_moves_72 : decode cX1_moves 72 = .ok (.iload 4, 2) := dk_21 4 (dk_at dksX1_moves_3 1 rfl rfl)
theorem dX1_moves_74 : decode cX1_moves 74 = .ok (.invokevirtual 222, 3) := dk_182 0 222 (dk_at dksX1_moves_3 3 rfl rfl)
theorem dX1_moves_77 : decode cX1_moves 77 = .ok (.ireturn, 1) := dk_172 (dk_at dksX1_moves_3 6 rfl rfl)
abbrev cX1_must : ByteArray := prog_1_method_2_code
def yX1_must : MethodName := ⟨RX1, "must", "(Z)V"⟩
def dkwX1_must_0 : List UInt8 := [26, 154, 0, 11, 187, 0, 66, 89, 183, 0, 68, 191, 177]
abbrev dktX1_must_0 : List UInt8 := dkwX1_must_0 ++ []
theorem dksX1_must_0 : cX1_must.data.toList.drop 0 = dktX1_must_0 := by decide +kernel
theorem dX1_must_0 : decode cX1_must 0 = .ok (.iload_n 0, 1) := dk_26 (dk_at dksX1_must_0 0 rfl rfl)
theorem dX1_must_1 : decode cX1_must 1 = .ok (.ifCond .ne 11, 3) := dk_154 0 11 (dk_at dksX1_must_0 1 rfl rfl)
theorem dX1_must_4 : decode cX1_must 4 = .ok (.new 66, 3) := dk_187 0 66 (dk_at dksX1_must_0 4 rfl rfl)
theorem dX1_must_7 : decode cX1_must 7 = .ok (.dup, 1) := dk_89 (dk_at dksX1_must_0 7 rfl rfl)
theorem dX1_must_8 : decode cX1_must 8 = .ok (.invokespecial 68, 3) := dk_183 0 68 (dk_at dksX1_must_0 8 rfl rfl)
theorem dX1_must_11 : decode cX1_must 11 = .ok (.athrow, 1) := dk_191 (dk_at dksX1_must_0 11 rfl rfl)
theorem dX1_must_12 : decode cX1_must 12 = .ok (.return_, 1) := dk_177 (dk_at dksX1_must_0 12 rfl rfl)
abbrev cX1_call : ByteArray := prog_1_method_27_code
def yX1_call : MethodName := ⟨RX1, "call", "(III)I"⟩
def dkwX1_call_8 : List UInt8 := [180, 0, 205, 21, 5, 182, 1, 6, 25, 4, 180, 0, 205, 172]
abbrev dktX1_call_8 : List UInt8 := dkwX1_call_8 ++ []
def dkwX1_call_7 : List UInt8 := [4, 46, 167, 0, 9, 42, 180, 0, 55, 3, 46, 54, 5, 42, 180, 0, 19, 27, 28, 29, 25, 4]
abbrev dktX1_call_7 : List UInt8 := dkwX1_call_7 ++ dktX1_call_8
def dkwX1_call_6 : List UInt8 := [4, 46, 158, 0, 27, 42, 180, 0, 55, 4, 46, 42, 180, 0, 55, 3, 46, 162, 0, 12, 42, 180, 0, 55]
abbrev dktX1_call_6 : List UInt8 := dkwX1_call_6 ++ dktX1_call_7
def dkwX1_call_5 : List UInt8 := [25, 4, 42, 28, 29, 182, 1, 3, 181, 0, 205, 42, 180, 0, 55, 3, 46, 153, 0, 27, 42, 180, 0, 55]
abbrev dktX1_call_5 : List UInt8 := dkwX1_call_5 ++ dktX1_call_6
def dkwX1_call_4 : List UInt8 := [79, 42, 180, 0, 19, 180, 1, 0, 16, 6, 25, 4, 180, 0, 199, 104, 29, 96, 92, 46, 4, 100, 79]
abbrev dktX1_call_4 : List UInt8 := dkwX1_call_4 ++ dktX1_call_5
def dkwX1_call_3 : List UInt8 := [182, 0, 253, 42, 180, 0, 19, 180, 1, 0, 16, 6, 25, 4, 180, 0, 195, 104, 28, 96, 92, 46, 4, 100]
abbrev dktX1_call_3 : List UInt8 := dkwX1_call_3 ++ dktX1_call_4
def dkwX1_call_2 : List UInt8 := [27, 4, 182, 0, 208, 29, 122, 4, 126, 4, 160, 0, 7, 4, 167, 0, 4, 3, 184, 0, 250, 42]
abbrev dktX1_call_2 : List UInt8 := dkwX1_call_2 ++ dktX1_call_3
def dkwX1_call_1 : List UInt8 := [154, 0, 41, 42, 180, 0, 19, 27, 3, 182, 0, 208, 28, 122, 4, 126, 4, 160, 0, 24, 42, 180, 0, 19]
abbrev dktX1_call_1 : List UInt8 := dkwX1_call_1 ++ dktX1_call_2
def dkwX1_call_0 : List UInt8 := [42, 27, 182, 0, 191, 58, 4, 42, 28, 182, 0, 166, 87, 42, 29, 182, 0, 166, 87, 25, 4, 180, 0, 205]
abbrev dktX1_call_0 : List UInt8 := dkwX1_call_0 ++ dktX1_call_1
theorem dksX1_call_0 : cX1_call.data.toList.drop 0 = dktX1_call_0 := by decide +kernel
theorem dksX1_call_1 : cX1_call.data.toList.drop 24 = dktX1_call_1 := dk_seg dksX1_call_0 24 rfl rfl
theorem dksX1_call_2 : cX1_call.data.toList.drop 48 = dktX1_call_2 := dk_seg dksX1_call_1 24 rfl rfl
theorem dksX1_call_3 : cX1_call.data.toList.drop 70 = dktX1_call_3 := dk_seg dksX1_call_2 22 rfl rfl
theorem dksX1_call_4 : cX1_call.data.toList.drop 94 = dktX1_call_4 := dk_seg dksX1_call_3 24 rfl rfl
theorem dksX1_call_5 : cX1_call.data.toList.drop 117 = dktX1_call_5 := dk_seg dksX1_call_4 23 rfl rfl
theorem dksX1_call_6 : cX1_call.data.toList.drop 141 = dktX1_call_6 := dk_seg dksX1_call_5 24 rfl rfl
theorem dksX1_call_7 : cX1_call.data.toList.drop 165 = dktX1_call_7 := dk_seg dksX1_call_6 24 rfl rfl
theorem dksX1_call_8 : cX1_call.data.toList.drop 187 = dktX1_call_8 := dk_seg dksX1_call_7 22 rfl rfl
theorem dX1_call_0 : decode cX1_call 0 = .ok (.aload_n 0, 1) := dk_42 (dk_at dksX1_call_0 0 rfl rfl)
theorem dX1_call_1 : decode cX1_call 1 = .ok (.iload_n 1, 1) := dk_27 (dk_at dksX1_call_0 1 rfl rfl)
theorem dX1_call_2 : decode cX1_call 2 = .ok (.invokevirtual 191, 3) := dk_182 0 191 (dk_at dksX1_call_0 2 rfl rfl)
theorem dX1_call_5 : decode cX1_call 5 = .ok (.astore 4, 2) := dk_58 4 (dk_at dksX1_call_0 5 rfl rfl)
theorem dX1_call_7 : decode cX1_call 7 = .ok (.aload_n 0, 1) := dk_42 (dk_at dksX1_call_0 7 rfl rfl)
theorem dX1_call_8 : decode cX1_call 8 = .ok (.iload_n 2, 1) := dk_28 (dk_at dksX1_call_0 8 rfl rfl)
theorem dX1_call_9 : decode cX1_call 9 = .ok (.invokevirtual 166, 3) := dk_182 0 166 (dk_at dksX1_call_0 9 rfl rfl)
theorem dX1_call_12 : decode cX1_call 12 = .ok (.pop, 1) := dk_87 (dk_at dksX1_call_0 12 rfl rfl)
theorem dX1_call_13 : decode cX1_call 13 = .ok (.aload_n 0, 1) := dk_42 (dk_at dksX1_call_0 13 rfl rfl)
theorem dX1_call_14 : decode cX1_call 14 = .ok (.iload_n 3, 1) := dk_29 (dk_at dksX1_call_0 14 rfl rfl)
theorem dX1_call_15 : decode cX1_call 15 = .ok (.invokevirtual 166, 3) := dk_182 0 166 (dk_at dksX1_call_0 15 rfl rfl)
theorem dX1_call_18 : decode cX1_call 18 = .ok (.pop, 1) := dk_87 (dk_at dksX1_call_0 18 rfl rfl)
theorem dX1_call_19 : decode cX1_call 19 = .ok (.aload 4, 2) := dk_25 4 (dk_at dksX1_call_0 19 rfl rfl)
theorem dX1_call_21 : decode cX1_call 21 = .ok (.getfield 205, 3) := dk_180 0 205 (dk_at dksX1_call_0 21 rfl rfl)
theorem dX1_call_24 : decode cX1_call 24 = .ok (.ifCond .ne 41, 3) := dk_154 0 41 (dk_at dksX1_call_1 0 rfl rfl)
theorem dX1_call_27 : decode cX1_call 27 = .ok (.aload_n 0, 1) := dk_42 (dk_at dksX1_call_1 3 rfl rfl)
theorem dX1_call_28 : decode cX1_call 28 = .ok (.getfield 19, 3) := dk_180 0 19 (dk_at dksX1_call_1 4 rfl rfl)
theorem dX1_call_31 : decode cX1_call 31 = .ok (.iload_n 1, 1) := dk_27 (dk_at dksX1_call_1 7 rfl rfl)
theorem dX1_call_32 : decode cX1_call 32 = .ok (.iconst 0, 1) := dk_3 (dk_at dksX1_call_1 8 rfl rfl)
theorem dX1_call_33 : decode cX1_call 33 = .ok (.invokevirtual 208, 3) := dk_182 0 208 (dk_at dksX1_call_1 9 rfl rfl)
theorem dX1_call_36 : decode cX1_call 36 = .ok (.iload_n 2, 1) := dk_28 (dk_at dksX1_call_1 12 rfl rfl)
theorem dX1_call_37 : decode cX1_call 37 = .ok (.ishr, 1) := dk_122 (dk_at dksX1_call_1 13 rfl rfl)
theorem dX1_call_38 : decode cX1_call 38 = .ok (.iconst 1, 1) := dk_4 (dk_at dksX1_call_1 14 rfl rfl)
theorem dX1_call_39 : decode cX1_call 39 = .ok (.iand, 1) := dk_126 (dk_at dksX1_call_1 15 rfl rfl)
theorem dX1_call_40 : decode cX1_call 40 = .ok (.iconst 1, 1) := dk_4 (dk_at dksX1_call_1 16 rfl rfl)
theorem dX1_call_41 : decode cX1_call 41 = .ok (.if_icmp .ne 24, 3) := dk_160 0 24 (dk_at dksX1_call_1 17 rfl rfl)
theorem dX1_call_44 : decode cX1_call 44 = .ok (.aload_n 0, 1) := dk_42 (dk_at dksX1_call_1 20 rfl rfl)
theorem dX1_call_45 : decode cX1_call 45 = .ok (.getfield 19, 3) := dk_180 0 19 (dk_at dksX1_call_1 21 rfl rfl)
theorem dX1_call_48 : decode cX1_call 48 = .ok (.iload_n 1, 1) := dk_27 (dk_at dksX1_call_2 0 rfl rfl)
theorem dX1_call_49 : decode cX1_call 49 = .ok (.iconst 1, 1) := dk_4 (dk_at dksX1_call_2 1 rfl rfl)
theorem dX1_call_50 : decode cX1_call 50 = .ok (.invokevirtual 208, 3) := dk_182 0 208 (dk_at dksX1_call_2 2 rfl rfl)
theorem dX1_call_53 : decode cX1_call 53 = .ok (.iload_n 3, 1) := dk_29 (dk_at dksX1_call_2 5 rfl rfl)
theorem dX1_call_54 : decode cX1_call 54 = .ok (.ishr, 1) := dk_122 (dk_at dksX1_call_2 6 rfl rfl)
theorem dX1_call_55 : decode cX1_call 55 = .ok (.iconst 1, 1) := dk_4 (dk_at dksX1_call_2 7 rfl rfl)
theorem dX1_call_56 : decode cX1_call 56 = .ok (.iand, 1) := dk_126 (dk_at dksX1_call_2 8 rfl rfl)
theorem dX1_call_57 : decode cX1_call 57 = .ok (.iconst 1, 1) := dk_4 (dk_at dksX1_call_2 9 rfl rfl)
theorem dX1_call_58 : decode cX1_call 58 = .ok (.if_icmp .ne 7, 3) := dk_160 0 7 (dk_at dksX1_call_2 10 rfl rfl)
theorem dX1_call_61 : decode cX1_call 61 = .ok (.iconst 1, 1) := dk_4 (dk_at dksX1_call_2 13 rfl rfl)
theorem dX1_call_62 : decode cX1_call 62 = .ok (.goto 4, 3) := dk_167 0 4 (dk_at dksX1_call_2 14 rfl rfl)
theorem dX1_call_65 : decode cX1_call 65 = .ok (.iconst 0, 1) := dk_3 (dk_at dksX1_call_2 17 rfl rfl)
theorem dX1_call_66 : decode cX1_call 66 = .ok (.invokestatic 250, 3) := dk_184 0 250 (dk_at dksX1_call_2 18 rfl rfl)
theorem dX1_call_69 : decode cX1_call 69 = .ok (.aload_n 0, 1) := dk_42 (dk_at dksX1_call_2 21 rfl rfl)
theorem dX1_call_70 : decode cX1_call 70 = .ok (.invokevirtual 253, 3) := dk_182 0 253 (dk_at dksX1_call_3 0 rfl rfl)
theorem dX1_call_73 : decode cX1_call 73 = .ok (.aload_n 0, 1) := dk_42 (dk_at dksX1_call_3 3 rfl rfl)
theorem dX1_call_74 : decode cX1_call 74 = .ok (.getfield 19, 3) := dk_180 0 19 (dk_at dksX1_call_3 4 rfl rfl)
theorem dX1_call_77 : decode cX1_call 77 = .ok (.getfield 256, 3) := dk_180 1 0 (dk_at dksX1_call_3 7 rfl rfl)
theorem dX1_call_80 : decode cX1_call 80 = .ok (.bipush 6, 2) := dk_16 6 (dk_at dksX1_call_3 10 rfl rfl)
theorem dX1_call_82 : decode cX1_call 82 = .ok (.aload 4, 2) := dk_25 4 (dk_at dksX1_call_3 12 rfl rfl)
theorem dX1_call_84 : decode cX1_call 84 = .ok (.getfield 195, 3) := dk_180 0 195 (dk_at dksX1_call_3 14 rfl rfl)
theorem dX1_call_87 : decode cX1_call 87 = .ok (.imul, 1) := dk_104 (dk_at dksX1_call_3 17 rfl rfl)
theorem dX1_call_88 : decode cX1_call 88 = .ok (.iload_n 2, 1) := dk_28 (dk_at dksX1_call_3 18 rfl rfl)
theorem dX1_call_89 : decode cX1_call 89 = .ok (.iadd, 1) := dk_96 (dk_at dksX1_call_3 19 rfl rfl)
theorem dX1_call_90 : decode cX1_call 90 = .ok (.dup2, 1) := dk_92 (dk_at dksX1_call_3 20 rfl rfl)
theorem dX1_call_91 : decode cX1_call 91 = .ok (.iaload, 1) := dk_46 (dk_at dksX1_call_3 21 rfl rfl)
theorem dX1_call_92 : decode cX1_call 92 = .ok (.iconst 1, 1) := dk_4 (dk_at dksX1_call_3 22 rfl rfl)
theorem dX1_call_93 : decode cX1_call 93 = .ok (.isub, 1) := dk_100 (dk_at dksX1_call_3 23 rfl rfl)
theorem dX1_call_94 : decode cX1_call 94 = .ok (.iastore, 1) := dk_79 (dk_at dksX1_call_4 0 rfl rfl)
theorem dX1_call_95 : decode cX1_call 95 = .ok (.aload_n 0, 1) := dk_42 (dk_at dksX1_call_4 1 rfl rfl)
theorem dX1_call_96 : decode cX1_call 96 = .ok (.getfield 19, 3) := dk_180 0 19 (dk_at dksX1_call_4 2 rfl rfl)
theorem dX1_call_99 : decode cX1_call 99 = .ok (.getfield 256, 3) := dk_180 1 0 (dk_at dksX1_call_4 5 rfl rfl)
theorem dX1_call_102 : decode cX1_call 102 = .ok (.bipush 6, 2) := dk_16 6 (dk_at dksX1_call_4 8 rfl rfl)
theorem dX1_call_104 : decode cX1_call 104 = .ok (.aload 4, 2) := dk_25 4 (dk_at dksX1_call_4 10 rfl rfl)
theorem dX1_call_106 : decode cX1_call 106 = .ok (.getfield 199, 3) := dk_180 0 199 (dk_at dksX1_call_4 12 rfl rfl)
theorem dX1_call_109 : decode cX1_call 109 = .ok (.imul, 1) := dk_104 (dk_at dksX1_call_4 15 rfl rfl)
theorem dX1_call_110 : decode cX1_call 110 = .ok (.iload_n 3, 1) := dk_29 (dk_at dksX1_call_4 16 rfl rfl)
theorem dX1_call_111 : decode cX1_call 111 = .ok (.iadd, 1) := dk_96 (dk_at dksX1_call_4 17 rfl rfl)
theorem dX1_call_112 : decode cX1_call 112 = .ok (.dup2, 1) := dk_92 (dk_at dksX1_call_4 18 rfl rfl)
theorem dX1_call_113 : decode cX1_call 113 = .ok (.iaload, 1) := dk_46 (dk_at dksX1_call_4 19 rfl rfl)
theorem dX1_call_114 : decode cX1_call 114 = .ok (.iconst 1, 1) := dk_4 (dk_at dksX1_call_4 20 rfl rfl)
theorem dX1_call_115 : decode cX1_call 115 = .ok (.isub, 1) := dk_100 (dk_at dksX1_call_4 21 rfl rfl)
theorem dX1_call_116 : decode cX1_call 116 = .ok (.iastore, 1) := dk_79 (dk_at dksX1_call_4 22 rfl rfl)
theorem dX1_call_117 : decode cX1_call 117 = .ok (.aload 4, 2) := dk_25 4 (dk_at dksX1_call_5 0 rfl rfl)
theorem dX1_call_119 : decode cX1_call 119 = .ok (.aload_n 0, 1) := dk_42 (dk_at dksX1_call_5 2 rfl rfl)
theorem dX1_call_120 : decode cX1_call 120 = .ok (.iload_n 2, 1) := dk_28 (dk_at dksX1_call_5 3 rfl rfl)
theorem dX1_call_121 : decode cX1_call 121 = .ok (.iload_n 3, 1) := dk_29 (dk_at dksX1_call_5 4 rfl rfl)
theorem dX1_call_122 : decode cX1_call 122 = .ok (.invokevirtual 259, 3) := dk_182 1 3 (dk_at dksX1_call_5 5 rfl rfl)
theorem dX1_call_125 : decode cX1_call 125 = .ok (.putfield 205, 3) := dk_181 0 205 (dk_at dksX1_call_5 8 rfl rfl)
theorem dX1_call_128 : decode cX1_call 128 = .ok (.aload_n 0, 1) := dk_42 (dk_at dksX1_call_5 11 rfl rfl)
theorem dX1_call_129 : decode cX1_call 129 = .ok (.getfield 55, 3) := dk_180 0 55 (dk_at dksX1_call_5 12 rfl rfl)
theorem dX1_call_132 : decode cX1_call 132 = .ok (.iconst 0, 1) := dk_3 (dk_at dksX1_call_5 15 rfl rfl)
theorem dX1_call_133 : decode cX1_call 133 = .ok (.iaload, 1) := dk_46 (dk_at dksX1_call_5 16 rfl rfl)
theorem dX1_call_134 : decode cX1_call 134 = .ok (.ifCond .eq 27, 3) := dk_153 0 27 (dk_at dksX1_call_5 17 rfl rfl)
theorem dX1_call_137 : decode cX1_call 137 = .ok (.aload_n 0, 1) := dk_42 (dk_at dksX1_call_5 20 rfl rfl)
theorem dX1_call_138 : decode cX1_call 138 = .ok (.getfield 55, 3) := dk_180 0 55 (dk_at dksX1_call_5 21 rfl rfl)
theorem dX1_call_141 : decode cX1_call 141 = .ok (.iconst 1, 1) := dk_4 (dk_at dksX1_call_6 0 rfl rfl)
theorem dX1_call_142 : decode cX1_call 142 = .ok (.iaload, 1) := dk_46 (dk_at dksX1_call_6 1 rfl rfl)
theorem dX1_call_143 : decode cX1_call 143 = .ok (.ifCond .le 27, 3) := dk_158 0 27 (dk_at dksX1_call_6 2 rfl rfl)
theorem dX1_call_146 : decode cX1_call 146 = .ok (.aload_n 0, 1) := dk_42 (dk_at dksX1_call_6 5 rfl rfl)
theorem dX1_call_147 : decode cX1_call 147 = .ok (.getfield 55, 3) := dk_180 0 55 (dk_at dksX1_call_6 6 rfl rfl)
theorem dX1_call_150 : decode cX1_call 150 = .ok (.iconst 1, 1) := dk_4 (dk_at dksX1_call_6 9 rfl rfl)
theorem dX1_call_151 : decode cX1_call 151 = .ok (.iaload, 1) := dk_46 (dk_at dksX1_call_6 10 rfl rfl)
theorem dX1_call_152 : decode cX1_call 152 = .ok (.aload_n 0, 1) := dk_42 (dk_at dksX1_call_6 11 rfl rfl)
theorem dX1_call_153 : decode cX1_call 153 = .ok (.getfield 55, 3) := dk_180 0 55 (dk_at dksX1_call_6 12 rfl rfl)
theorem dX1_call_156 : decode cX1_call 156 = .ok (.iconst 0, 1) := dk_3 (dk_at dksX1_call_6 15 rfl rfl)
theorem dX1_call_157 : decode cX1_call 157 = .ok (.iaload, 1) := dk_46 (dk_at dksX1_call_6 16 rfl rfl)
theorem dX1_call_158 : decode cX1_call 158 = .ok (.if_icmp .ge 12, 3) := dk_162 0 12 (dk_at dksX1_call_6 17 rfl rfl)
theorem dX1_call_161 : decode cX1_call 161 = .ok (.aload_n 0, 1) := dk_42 (dk_at dksX1_call_6 20 rfl rfl)
theorem dX1_call_162 : decode cX1_call 162 = .ok (.getfield 55, 3) := dk_180 0 55 (dk_at dksX1_call_6 21 rfl rfl)
theorem dX1_call_165 : decode cX1_call 165 = .ok (.iconst 1, 1) := dk_4 (dk_at dksX1_call_7 0 rfl rfl)
theorem dX1_call_166 : decode cX1_call 166 = .ok (.iaload, 1) := dk_46 (dk_at dksX1_call_7 1 rfl rfl)
theorem dX1_call_167 : decode cX1_call 167 = .ok (.goto 9, 3) := dk_167 0 9 (dk_at dksX1_call_7 2 rfl rfl)
theorem dX1_call_170 : decode cX1_call 170 = .ok (.aload_n 0, 1) := dk_42 (dk_at dksX1_call_7 5 rfl rfl)
theorem dX1_call_171 : decode cX1_call 171 = .ok (.getfield 55, 3) := dk_180 0 55 (dk_at dksX1_call_7 6 rfl rfl)
theorem dX1_call_174 : decode cX1_call 174 = .ok (.iconst 0, 1) := dk_3 (dk_at dksX1_call_7 9 rfl rfl)
theorem dX1_call_175 : decode cX1_call 175 = .ok (.iaload, 1) := dk_46 (dk_at dksX1_call_7 10 rfl rfl)
theorem dX1_call_176 : decode cX1_call 176 = .ok (.istore 5, 2) := dk_54 5 (dk_at dksX1_call_7 11 rfl rfl)
theorem dX1_call_178 : decode cX1_call 178 = .ok (.aload_n 0, 1) := dk_42 (dk_at dksX1_call_7 13 rfl rfl)
theorem dX1_call_179 : decode cX1_call 179 = .ok (.getfield 19, 3) := dk_180 0 19 (dk_at dksX1_call_7 14 rfl rfl)
theorem dX1_call_182 : decode cX1_call 182 = .ok (.iload_n 1, 1) := dk_27 (dk_at dksX1_call_7 17 rfl rfl)
theorem dX1_call_183 : decode cX1_call 183 = .ok (.iload_n 2, 1) := dk_28 (dk_at dksX1_call_7 18 rfl rfl)
theorem dX1_call_184 : decode cX1_call 184 = .ok (.iload_n 3, 1) := dk_29 (dk_at dksX1_call_7 19 rfl rfl)
theorem dX1_call_185 : decode cX1_call 185 = .ok (.aload 4, 2) := dk_25 4 (dk_at dksX1_call_7 20 rfl rfl)
theorem dX1_call_187 : decode cX1_call 187 = .ok (.getfield 205, 3) := dk_180 0 205 (dk_at dksX1_call_8 0 rfl rfl)
theorem dX1_call_190 : decode cX1_call 190 = .ok (.iload 5, 2) := dk_21 5 (dk_at dksX1_call_8 3 rfl rfl)
theorem dX1_call_192 : decode cX1_call 192 = .ok (.invokevirtual 262, 3) := dk_182 1 6 (dk_at dksX1_call_8 5 rfl rfl)
theorem dX1_call_195 : decode cX1_call 195 = .ok (.aload 4, 2) := dk_25 4 (dk_at dksX1_call_8 8 rfl rfl)
theorem dX1_call_197 : decode cX1_call 197 = .ok (.getfield 205, 3) := dk_180 0 205 (dk_at dksX1_call_8 10 rfl rfl)
theorem dX1_call_200 : decode cX1_call 200 = .ok (.ireturn, 1) := dk_172 (dk_at dksX1_call_8 13 rfl rfl)
abbrev cX1_can : ByteArray := prog_1_method_6_code
def yX1_can : MethodName := ⟨RX1, "can", "(Z)V"⟩
def dkwX1_can_0 : List UInt8 := [26, 154, 0, 11, 187, 0, 78, 89, 183, 0, 80, 191, 177]
abbrev dktX1_can_0 : List UInt8 := dkwX1_can_0 ++ []
theorem dksX1_can_0 : cX1_can.data.toList.drop 0 = dktX1_can_0 := by decide +kernel
theorem dX1_can_0 : decode cX1_can 0 = .ok (.iload_n 0, 1) := dk_26 (dk_at dksX1_can_0 0 rfl rfl)
theorem dX1_can_1 : decode cX1_can 1 = .ok (.ifCond .ne 11, 3) := dk_154 0 11 (dk_at dksX1_can_0 1 rfl rfl)
theorem dX1_can_4 : decode cX1_can 4 = .ok (.new 78, 3) := dk_187 0 78 (dk_at dksX1_can_0 4 rfl rfl)
theorem dX1_can_7 : decode cX1_can 7 = .ok (.dup, 1) := dk_89 (dk_at dksX1_can_0 7 rfl rfl)
theorem dX1_can_8 : decode cX1_can 8 = .ok (.invokespecial 80, 3) := dk_183 0 80 (dk_at dksX1_can_0 8 rfl rfl)
theorem dX1_can_11 : decode cX1_can 11 = .ok (.athrow, 1) := dk_191 (dk_at dksX1_can_0 11 rfl rfl)
theorem dX1_can_12 : decode cX1_can 12 = .ok (.return_, 1) := dk_177 (dk_at dksX1_can_0 12 rfl rfl)
abbrev cX1_remembers : ByteArray := prog_1_method_24_code
def yX1_remembers : MethodName := ⟨RX1, "remembers", "()V"⟩
def dkwX1_remembers_1 : List UInt8 := [16, 12, 112, 181, 0, 225, 42, 16, 12, 42, 180, 0, 144, 4, 96, 184, 0, 228, 181, 0, 144, 177]
abbrev dktX1_remembers_1 : List UInt8 := dkwX1_remembers_1 ++ []
def dkwX1_remembers_0 : List UInt8 := [42, 180, 0, 26, 42, 180, 0, 225, 50, 42, 180, 0, 19, 182, 0, 140, 42, 42, 180, 0, 225, 4, 96]
abbrev dktX1_remembers_0 : List UInt8 := dkwX1_remembers_0 ++ dktX1_remembers_1
theorem dksX1_remembers_0 : cX1_remembers.data.toList.drop 0 = dktX1_remembers_0 := by decide +kernel
theorem dksX1_remembers_1 : cX1_remembers.data.toList.drop 23 = dktX1_remembers_1 := dk_seg dksX1_remembers_0 23 rfl rfl
theorem dX1_remembers_0 : decode cX1_remembers 0 = .ok (.aload_n 0, 1) := dk_42 (dk_at dksX1_remembers_0 0 rfl rfl)
theorem dX1_remembers_1 : decode cX1_remembers 1 = .ok (.getfield 26, 3) := dk_180 0 26 (dk_at dksX1_remembers_0 1 rfl rfl)
theorem dX1_remembers_4 : decode cX1_remembers 4 = .ok (.aload_n 0, 1) := dk_42 (dk_at dksX1_remembers_0 4 rfl rfl)
theorem dX1_remembers_5 : decode cX1_remembers 5 = .ok (.getfield 225, 3) := dk_180 0 225 (dk_at dksX1_remembers_0 5 rfl rfl)
theorem dX1_remembers_8 : decode cX1_remembers 8 = .ok (.aaload, 1) := dk_50 (dk_at dksX1_remembers_0 8 rfl rfl)
theorem dX1_remembers_9 : decode cX1_remembers 9 = .ok (.aload_n 0, 1) := dk_42 (dk_at dksX1_remembers_0 9 rfl rfl)
theorem dX1_remembers_10 : decode cX1_remembers 10 = .ok (.getfield 19, 3) := dk_180 0 19 (dk_at dksX1_remembers_0 10 rfl rfl)
theorem dX1_remembers_13 : decode cX1_remembers 13 = .ok (.invokevirtual 140, 3) := dk_182 0 140 (dk_at dksX1_remembers_0 13 rfl rfl)
theorem dX1_remembers_16 : decode cX1_remembers 16 = .ok (.aload_n 0, 1) := dk_42 (dk_at dksX1_remembers_0 16 rfl rfl)
theorem dX1_remembers_17 : decode cX1_remembers 17 = .ok (.aload_n 0, 1) := dk_42 (dk_at dksX1_remembers_0 17 rfl rfl)
theorem dX1_remembers_18 : decode cX1_remembers 18 = .ok (.getfield 225, 3) := dk_180 0 225 (dk_at dksX1_remembers_0 18 rfl rfl)
theorem dX1_remembers_21 : decode cX1_remembers 21 = .ok (.iconst 1, 1) := dk_4 (dk_at dksX1_remembers_0 21 rfl rfl)
theorem dX1_remembers_22 : decode cX1_remembers 22 = .ok (.iadd, 1) := dk_96 (dk_at dksX1_remembers_0 22 rfl rfl)
theorem dX1_remembers_23 : decode cX1_remembers 23 = .ok (.bipush 12, 2) := dk_16 12 (dk_at dksX1_remembers_1 0 rfl rfl)
theorem dX1_remembers_25 : decode cX1_remembers 25 = .ok (.irem, 1) := dk_112 (dk_at dksX1_remembers_1 2 rfl rfl)
theorem dX1_remembers_26 : decode cX1_remembers 26 = .ok (.putfield 225, 3) := dk_181 0 225 (dk_at dksX1_remembers_1 3 rfl rfl)
theorem dX1_remembers_29 : decode cX1_remembers 29 = .ok (.aload_n 0, 1) := dk_42 (dk_at dksX1_remembers_1 6 rfl rfl)
theorem dX1_remembers_30 : decode cX1_remembers 30 = .ok (.bipush 12, 2) := dk_16 12 (dk_at dksX1_remembers_1 7 rfl rfl)
theorem dX1_remembers_32 : decode cX1_remembers 32 = .ok (.aload_n 0, 1) := dk_42 (dk_at dksX1_remembers_1 9 rfl rfl)
theorem dX1_remembers_33 : decode cX1_remembers 33 = .ok (.getfield 144, 3) := dk_180 0 144 (dk_at dksX1_remembers_1 10 rfl rfl)
theorem dX1_remembers_36 : decode cX1_remembers 36 = .ok (.iconst 1, 1) := dk_4 (dk_at dksX1_remembers_1 13 rfl rfl)
theorem dX1_remembers_37 : decode cX1_remembers 37 = .ok (.iadd, 1) := dk_96 (dk_at dksX1_remembers_1 14 rfl rfl)
theorem dX1_remembers_38 : decode cX1_remembers 38 = .ok (.invokestatic 228, 3) := dk_184 0 228 (dk_at dksX1_remembers_1 15 rfl rfl)
theorem dX1_remembers_41 : decode cX1_remembers 41 = .ok (.putfield 144, 3) := dk_181 0 144 (dk_at dksX1_remembers_1 18 rfl rfl)
theorem dX1_remembers_44 : decode cX1_remembers 44 = .ok (.return_, 1) := dk_177 (dk_at dksX1_remembers_1 21 rfl rfl)
abbrev cX1_flies : ByteArray := prog_1_method_26_code
def yX1_flies : MethodName := ⟨RX1, "flies", "(II)I"⟩
def dkwX1_flies_5 : List UInt8 := [158, 0, 22, 42, 180, 0, 55, 3, 46, 42, 180, 0, 55, 4, 46, 162, 0, 7, 4, 167, 0, 4, 5, 172]
abbrev dktX1_flies_5 : List UInt8 := dkwX1_flies_5 ++ []
def dkwX1_flies_4 : List UInt8 := [154, 0, 7, 7, 167, 0, 4, 6, 172, 42, 180, 0, 55, 4, 46, 153, 0, 27, 42, 180, 0, 55, 3, 46]
abbrev dktX1_flies_4 : List UInt8 := dkwX1_flies_4 ++ dktX1_flies_5
def dkwX1_flies_3 : List UInt8 := [167, 255, 233, 42, 180, 0, 55, 3, 46, 42, 180, 0, 55, 4, 46, 160, 0, 18, 42, 180, 0, 55, 3, 46]
abbrev dktX1_flies_3 : List UInt8 := dkwX1_flies_3 ++ dktX1_flies_4
def dkwX1_flies_2 : List UInt8 := [29, 16, 8, 162, 0, 23, 42, 3, 27, 29, 182, 0, 246, 42, 4, 28, 29, 182, 0, 246, 132, 3, 1]
abbrev dktX1_flies_2 : List UInt8 := dkwX1_flies_2 ++ dktX1_flies_3
def dkwX1_flies_1 : List UInt8 := [29, 42, 180, 0, 19, 180, 0, 243, 79, 42, 180, 0, 55, 29, 3, 79, 132, 3, 1, 167, 255, 215, 3, 62]
abbrev dktX1_flies_1 : List UInt8 := dkwX1_flies_1 ++ dktX1_flies_2
def dkwX1_flies_0 : List UInt8 := [3, 62, 29, 5, 162, 0, 42, 42, 180, 0, 49, 29, 42, 180, 0, 19, 180, 0, 240, 79, 42, 180, 0, 52]
abbrev dktX1_flies_0 : List UInt8 := dkwX1_flies_0 ++ dktX1_flies_1
theorem dksX1_flies_0 : cX1_flies.data.toList.drop 0 = dktX1_flies_0 := by decide +kernel
theorem dksX1_flies_1 : cX1_flies.data.toList.drop 24 = dktX1_flies_1 := dk_seg dksX1_flies_0 24 rfl rfl
theorem dksX1_flies_2 : cX1_flies.data.toList.drop 48 = dktX1_flies_2 := dk_seg dksX1_flies_1 24 rfl rfl
theorem dksX1_flies_3 : cX1_flies.data.toList.drop 71 = dktX1_flies_3 := dk_seg dksX1_flies_2 23 rfl rfl
theorem dksX1_flies_4 : cX1_flies.data.toList.drop 95 = dktX1_flies_4 := dk_seg dksX1_flies_3 24 rfl rfl
theorem dksX1_flies_5 : cX1_flies.data.toList.drop 119 = dktX1_flies_5 := dk_seg dksX1_flies_4 24 rfl rfl
theorem dX1_flies_0 : decode cX1_flies 0 = .ok (.iconst 0, 1) := dk_3 (dk_at dksX1_flies_0 0 rfl rfl)
theorem dX1_flies_1 : decode cX1_flies 1 = .ok (.istore_n 3, 1) := dk_62 (dk_at dksX1_flies_0 1 rfl rfl)
theorem dX1_flies_2 : decode cX1_flies 2 = .ok (.iload_n 3, 1) := dk_29 (dk_at dksX1_flies_0 2 rfl rfl)
theorem dX1_flies_3 : decode cX1_flies 3 = .ok (.iconst 2, 1) := dk_5 (dk_at dksX1_flies_0 3 rfl rfl)
theorem dX1_flies_4 : decode cX1_flies 4 = .ok (.if_icmp .ge 42, 3) := dk_162 0 42 (dk_at dksX1_flies_0 4 rfl rfl)
theorem dX1_flies_7 : decode cX1_flies 7 = .ok (.aload_n 0, 1) := dk_42 (dk_at dksX1_flies_0 7 rfl rfl)
theorem dX1_flies_8 : decode cX1_flies 8 = .ok (.getfield 49, 3) := dk_180 0 49 (dk_at dksX1_flies_0 8 rfl rfl)
theorem dX1_flies_11 : decode cX1_flies 11 = .ok (.iload_n 3, 1) := dk_29 (dk_at dksX1_flies_0 11 rfl rfl)
theorem dX1_flies_12 : decode cX1_flies 12 = .ok (.aload_n 0, 1) := dk_42 (dk_at dksX1_flies_0 12 rfl rfl)
theorem dX1_flies_13 : decode cX1_flies 13 = .ok (.getfield 19, 3) := dk_180 0 19 (dk_at dksX1_flies_0 13 rfl rfl)
theorem dX1_flies_16 : decode cX1_flies 16 = .ok (.getfield 240, 3) := dk_180 0 240 (dk_at dksX1_flies_0 16 rfl rfl)
theorem dX1_flies_19 : decode cX1_flies 19 = .ok (.iastore, 1) := dk_79 (dk_at dksX1_flies_0 19 rfl rfl)
theorem dX1_flies_20 : decode cX1_flies 20 = .ok (.aload_n 0, 1) := dk_42 (dk_at dksX1_flies_0 20 rfl rfl)
theorem dX1_flies_21 : decode cX1_flies 21 = .ok (.getfield 52, 3) := dk_180 0 52 (dk_at dksX1_flies_0 21 rfl rfl)
theorem dX1_flies_24 : decode cX1_flies 24 = .ok (.iload_n 3, 1) := dk_29 (dk_at dksX1_flies_1 0 rfl rfl)
theorem dX1_flies_25 : decode cX1_flies 25 = .ok (.aload_n 0, 1) := dk_42 (dk_at dksX1_flies_1 1 rfl rfl)
theorem dX1_flies_26 : decode cX1_flies 26 = .ok (.getfield 19, 3) := dk_180 0 19 (dk_at dksX1_flies_1 2 rfl rfl)
theorem dX1_flies_29 : decode cX1_flies 29 = .ok (.getfield 243, 3) := dk_180 0 243 (dk_at dksX1_flies_1 5 rfl rfl)
theorem dX1_flies_32 : decode cX1_flies 32 = .ok (.iastore, 1) := dk_79 (dk_at dksX1_flies_1 8 rfl rfl)
theorem dX1_flies_33 : decode cX1_flies 33 = .ok (.aload_n 0, 1) := dk_42 (dk_at dksX1_flies_1 9 rfl rfl)
theorem dX1_flies_34 : decode cX1_flies 34 = .ok (.getfield 55, 3) := dk_180 0 55 (dk_at dksX1_flies_1 10 rfl rfl)
theorem dX1_flies_37 : decode cX1_flies 37 = .ok (.iload_n 3, 1) := dk_29 (dk_at dksX1_flies_1 13 rfl rfl)
theorem dX1_flies_38 : decode cX1_flies 38 = .ok (.iconst 0, 1) := dk_3 (dk_at dksX1_flies_1 14 rfl rfl)
theorem dX1_flies_39 : decode cX1_flies 39 = .ok (.iastore, 1) := dk_79 (dk_at dksX1_flies_1 15 rfl rfl)
theorem dX1_flies_40 : decode cX1_flies 40 = .ok (.iinc 3 1, 3) := dk_132 3 1 (dk_at dksX1_flies_1 16 rfl rfl)
theorem dX1_flies_43 : decode cX1_flies 43 = .ok (.goto (-41), 3) := dk_167 255 215 (dk_at dksX1_flies_1 19 rfl rfl)
theorem dX1_flies_46 : decode cX1_flies 46 = .ok (.iconst 0, 1) := dk_3 (dk_at dksX1_flies_1 22 rfl rfl)
theorem dX1_flies_47 : decode cX1_flies 47 = .ok (.istore_n 3, 1) := dk_62 (dk_at dksX1_flies_1 23 rfl rfl)
theorem dX1_flies_48 : decode cX1_flies 48 = .ok (.iload_n 3, 1) := dk_29 (dk_at dksX1_flies_2 0 rfl rfl)
theorem dX1_flies_49 : decode cX1_flies 49 = .ok (.bipush 8, 2) := dk_16 8 (dk_at dksX1_flies_2 1 rfl rfl)
theorem dX1_flies_51 : decode cX1_flies 51 = .ok (.if_icmp .ge 23, 3) := dk_162 0 23 (dk_at dksX1_flies_2 3 rfl rfl)
theorem dX1_flies_54 : decode cX1_flies 54 = .ok (.aload_n 0, 1) := dk_42 (dk_at dksX1_flies_2 6 rfl rfl)
theorem dX1_flies_55 : decode cX1_flies 55 = .ok (.iconst 0, 1) := dk_3 (dk_at dksX1_flies_2 7 rfl rfl)
theorem dX1_flies_56 : decode cX1_flies 56 = .ok (.iload_n 1, 1) := dk_27 (dk_at dksX1_flies_2 8 rfl rfl)
theorem dX1_flies_57 : decode cX1_flies 57 = .ok (.iload_n 3, 1) := dk_29 (dk_at dksX1_flies_2 9 rfl rfl)
theorem dX1_flies_58 : decode cX1_flies 58 = .ok (.invokevirtual 246, 3) := dk_182 0 246 (dk_at dksX1_flies_2 10 rfl rfl)
theorem dX1_flies_61 : decode cX1_flies 61 = .ok (.aload_n 0, 1) := dk_42 (dk_at dksX1_flies_2 13 rfl rfl)
theorem dX1_flies_62 : decode cX1_flies 62 = .ok (.iconst 1, 1) := dk_4 (dk_at dksX1_flies_2 14 rfl rfl)
theorem dX1_flies_63 : decode cX1_flies 63 = .ok (.iload_n 2, 1) := dk_28 (dk_at dksX1_flies_2 15 rfl rfl)
theorem dX1_flies_64 : decode cX1_flies 64 = .ok (.iload_n 3, 1) := dk_29 (dk_at dksX1_flies_2 16 rfl rfl)
theorem dX1_flies_65 : decode cX1_flies 65 = .ok (.invokevirtual 246, 3) := dk_182 0 246 (dk_at dksX1_flies_2 17 rfl rfl)
theorem dX1_flies_68 : decode cX1_flies 68 = .ok (.iinc 3 1, 3) := dk_132 3 1 (dk_at dksX1_flies_2 20 rfl rfl)
theorem dX1_flies_71 : decode cX1_flies 71 = .ok (.goto (-23), 3) := dk_167 255 233 (dk_at dksX1_flies_3 0 rfl rfl)
theorem dX1_flies_74 : decode cX1_flies 74 = .ok (.aload_n 0, 1) := dk_42 (dk_at dksX1_flies_3 3 rfl rfl)
theorem dX1_flies_75 : decode cX1_flies 75 = .ok (.getfield 55, 3) := dk_180 0 55 (dk_at dksX1_flies_3 4 rfl rfl)
theorem dX1_flies_78 : decode cX1_flies 78 = .ok (.iconst 0, 1) := dk_3 (dk_at dksX1_flies_3 7 rfl rfl)
theorem dX1_flies_79 : decode cX1_flies 79 = .ok (.iaload, 1) := dk_46 (dk_at dksX1_flies_3 8 rfl rfl)
theorem dX1_flies_80 : decode cX1_flies 80 = .ok (.aload_n 0, 1) := dk_42 (dk_at dksX1_flies_3 9 rfl rfl)
theorem dX1_flies_81 : decode cX1_flies 81 = .ok (.getfield 55, 3) := dk_180 0 55 (dk_at dksX1_flies_3 10 rfl rfl)
theorem dX1_flies_84 : decode cX1_flies 84 = .ok (.iconst 1, 1) := dk_4 (dk_at dksX1_flies_3 13 rfl rfl)
theorem dX1_flies_85 : decode cX1_flies 85 = .ok (.iaload, 1) := dk_46 (dk_at dksX1_flies_3 14 rfl rfl)
theorem dX1_flies_86 : decode cX1_flies 86 = .ok (.if_icmp .ne 18, 3) := dk_160 0 18 (dk_at dksX1_flies_3 15 rfl rfl)
theorem dX1_flies_89 : decode cX1_flies 89 = .ok (.aload_n 0, 1) := dk_42 (dk_at dksX1_flies_3 18 rfl rfl)
theorem dX1_flies_90 : decode cX1_flies 90 = .ok (.getfield 55, 3) := dk_180 0 55 (dk_at dksX1_flies_3 19 rfl rfl)
theorem dX1_flies_93 : decode cX1_flies 93 = .ok (.iconst 0, 1) := dk_3 (dk_at dksX1_flies_3 22 rfl rfl)
theorem dX1_flies_94 : decode cX1_flies 94 = .ok (.iaload, 1) := dk_46 (dk_at dksX1_flies_3 23 rfl rfl)
theorem dX1_flies_95 : decode cX1_flies 95 = .ok (.ifCond .ne 7, 3) := dk_154 0 7 (dk_at dksX1_flies_4 0 rfl rfl)
theorem dX1_flies_98 : decode cX1_flies 98 = .ok (.iconst 4, 1) := dk_7 (dk_at dksX1_flies_4 3 rfl rfl)
theorem dX1_flies_99 : decode cX1_flies 99 = .ok (.goto 4, 3) := dk_167 0 4 (dk_at dksX1_flies_4 4 rfl rfl)
theorem dX1_flies_102 : decode cX1_flies 102 = .ok (.iconst 3, 1) := dk_6 (dk_at dksX1_flies_4 7 rfl rfl)
theorem dX1_flies_103 : decode cX1_flies 103 = .ok (.ireturn, 1) := dk_172 (dk_at dksX1_flies_4 8 rfl rfl)
theorem dX1_flies_104 : decode cX1_flies 104 = .ok (.aload_n 0, 1) := dk_42 (dk_at dksX1_flies_4 9 rfl rfl)
theorem dX1_flies_105 : decode cX1_flies 105 = .ok (.getfield 55, 3) := dk_180 0 55 (dk_at dksX1_flies_4 10 rfl rfl)
theorem dX1_flies_108 : decode cX1_flies 108 = .ok (.iconst 1, 1) := dk_4 (dk_at dksX1_flies_4 13 rfl rfl)
theorem dX1_flies_109 : decode cX1_flies 109 = .ok (.iaload, 1) := dk_46 (dk_at dksX1_flies_4 14 rfl rfl)
theorem dX1_flies_110 : decode cX1_flies 110 = .ok (.ifCond .eq 27, 3) := dk_153 0 27 (dk_at dksX1_flies_4 15 rfl rfl)
theorem dX1_flies_113 : decode cX1_flies 113 = .ok (.aload_n 0, 1) := dk_42 (dk_at dksX1_flies_4 18 rfl rfl)
theorem dX1_flies_114 : decode cX1_flies 114 = .ok (.getfield 55, 3) := dk_180 0 55 (dk_at dksX1_flies_4 19 rfl rfl)
theorem dX1_flies_117 : decode cX1_flies 117 = .ok (.iconst 0, 1) := dk_3 (dk_at dksX1_flies_4 22 rfl rfl)
theorem dX1_flies_118 : decode cX1_flies 118 = .ok (.iaload, 1) := dk_46 (dk_at dksX1_flies_4 23 rfl rfl)
theorem dX1_flies_119 : decode cX1_flies 119 = .ok (.ifCond .le 22, 3) := dk_158 0 22 (dk_at dksX1_flies_5 0 rfl rfl)
theorem dX1_flies_122 : decode cX1_flies 122 = .ok (.aload_n 0, 1) := dk_42 (dk_at dksX1_flies_5 3 rfl rfl)
theorem dX1_flies_123 : decode cX1_flies 123 = .ok (.getfield 55, 3) := dk_180 0 55 (dk_at dksX1_flies_5 4 rfl rfl)
theorem dX1_flies_126 : decode cX1_flies 126 = .ok (.iconst 0, 1) := dk_3 (dk_at dksX1_flies_5 7 rfl rfl)
theorem dX1_flies_127 : decode cX1_flies 127 = .ok (.iaload, 1) := dk_46 (dk_at dksX1_flies_5 8 rfl rfl)
theorem dX1_flies_128 : decode cX1_flies 128 = .ok (.aload_n 0, 1) := dk_42 (dk_at dksX1_flies_5 9 rfl rfl)
theorem dX1_flies_129 : decode cX1_flies 129 = .ok (.getfield 55, 3) := dk_180 0 55 (dk_at dksX1_flies_5 10 rfl rfl)
theorem dX1_flies_132 : decode cX1_flies 132 = .ok (.iconst 1, 1) := dk_4 (dk_at dksX1_flies_5 13 rfl rfl)
theorem dX1_flies_133 : decode cX1_flies 133 = .ok (.iaload, 1) := dk_46 (dk_at dksX1_flies_5 14 rfl rfl)
theorem dX1_flies_134 : decode cX1_flies 134 = .ok (.if_icmp .ge 7, 3) := dk_162 0 7 (dk_at dksX1_flies_5 15 rfl rfl)
theorem dX1_flies_137 : decode cX1_flies 137 = .ok (.iconst 1, 1) := dk_4 (dk_at dksX1_flies_5 18 rfl rfl)
theorem dX1_flies_138 : decode cX1_flies 138 = .ok (.goto 4, 3) := dk_167 0 4 (dk_at dksX1_flies_5 19 rfl rfl)
theorem dX1_flies_141 : decode cX1_flies 141 = .ok (.iconst 2, 1) := dk_5 (dk_at dksX1_flies_5 22 rfl rfl)
theorem dX1_flies_142 : decode cX1_flies 142 = .ok (.ireturn, 1) := dk_172 (dk_at dksX1_flies_5 23 rfl rfl)
abbrev cX1_breathes : ByteArray := prog_1_method_25_code
def yX1_breathes : MethodName := ⟨RX1, "breathes", "(III)V"⟩
def dkwX1_breathes_7 : List UInt8 := [42, 180, 0, 55, 27, 29, 4, 96, 79, 177]
abbrev dktX1_breathes_7 : List UInt8 := dkwX1_breathes_7 ++ []
def dkwX1_breathes_6 : List UInt8 := [180, 0, 49, 27, 46, 157, 0, 28, 42, 180, 0, 19, 42, 180, 0, 52, 27, 46, 182, 0, 236, 153, 0, 12]
abbrev dktX1_breathes_6 : List UInt8 := dkwX1_breathes_6 ++ dktX1_breathes_7
def dkwX1_breathes_5 : List UInt8 := [27, 46, 3, 16, 15, 184, 0, 84, 154, 0, 13, 42, 180, 0, 49, 27, 3, 79, 167, 0, 37, 42]
abbrev dktX1_breathes_5 : List UInt8 := dkwX1_breathes_5 ++ dktX1_breathes_6
def dkwX1_breathes_4 : List UInt8 := [180, 0, 92, 28, 50, 180, 0, 175, 158, 0, 8, 21, 4, 167, 0, 4, 3, 96, 96, 79, 42, 180, 0, 52]
abbrev dktX1_breathes_4 : List UInt8 := dkwX1_breathes_4 ++ dktX1_breathes_5
def dkwX1_breathes_3 : List UInt8 := [180, 0, 49, 27, 92, 46, 21, 5, 100, 79, 42, 180, 0, 52, 27, 92, 46, 21, 6, 42, 180, 0, 19]
abbrev dktX1_breathes_3 : List UInt8 := dkwX1_breathes_3 ++ dktX1_breathes_4
def dkwX1_breathes_2 : List UInt8 := [180, 0, 19, 28, 42, 180, 0, 49, 27, 46, 42, 180, 0, 52, 27, 46, 29, 182, 0, 218, 54, 6, 42]
abbrev dktX1_breathes_2 : List UInt8 := dkwX1_breathes_2 ++ dktX1_breathes_3
def dkwX1_breathes_1 : List UInt8 := [180, 0, 19, 28, 42, 180, 0, 49, 27, 46, 42, 180, 0, 52, 27, 46, 29, 182, 0, 222, 54, 5, 42]
abbrev dktX1_breathes_1 : List UInt8 := dkwX1_breathes_1 ++ dktX1_breathes_2
def dkwX1_breathes_0 : List UInt8 := [42, 180, 0, 49, 27, 46, 157, 0, 4, 177, 42, 180, 0, 19, 6, 182, 0, 233, 4, 100, 54, 4, 42]
abbrev dktX1_breathes_0 : List UInt8 := dkwX1_breathes_0 ++ dktX1_breathes_1
theorem dksX1_breathes_0 : cX1_breathes.data.toList.drop 0 = dktX1_breathes_0 := by decide +kernel
theorem dksX1_breathes_1 : cX1_breathes.data.toList.drop 23 = dktX1_breathes_1 := dk_seg dksX1_breathes_0 23 rfl rfl
theorem dksX1_breathes_2 : cX1_breathes.data.toList.drop 46 = dktX1_breathes_2 := dk_seg dksX1_breathes_1 23 rfl rfl
theorem dksX1_breathes_3 : cX1_breathes.data.toList.drop 69 = dktX1_breathes_3 := dk_seg dksX1_breathes_2 23 rfl rfl
theorem dksX1_breathes_4 : cX1_breathes.data.toList.drop 92 = dktX1_breathes_4 := dk_seg dksX1_breathes_3 23 rfl rfl
theorem dksX1_breathes_5 : cX1_breathes.data.toList.drop 116 = dktX1_breathes_5 := dk_seg dksX1_breathes_4 24 rfl rfl
theorem dksX1_breathes_6 : cX1_breathes.data.toList.drop 138 = dktX1_breathes_6 := dk_seg dksX1_breathes_5 22 rfl rfl
theorem dksX1_breathes_7 : cX1_breathes.data.toList.drop 162 = dktX1_breathes_7 := dk_seg dksX1_breathes_6 24 rfl rfl
theorem dX1_breathes_0 : decode cX1_breathes 0 = .ok (.aload_n 0, 1) := dk_42 (dk_at dksX1_breathes_0 0 rfl rfl)
theorem dX1_breathes_1 : decode cX1_breathes 1 = .ok (.getfield 49, 3) := dk_180 0 49 (dk_at dksX1_breathes_0 1 rfl rfl)
theorem dX1_breathes_4 : decode cX1_breathes 4 = .ok (.iload_n 1, 1) := dk_27 (dk_at dksX1_breathes_0 4 rfl rfl)
theorem dX1_breathes_5 : decode cX1_breathes 5 = .ok (.iaload, 1) := dk_46 (dk_at dksX1_breathes_0 5 rfl rfl)
theorem dX1_breathes_6 : decode cX1_breathes 6 = .ok (.ifCond .gt 4, 3) := dk_157 0 4 (dk_at dksX1_breathes_0 6 rfl rfl)
theorem dX1_breathes_9 : decode cX1_breathes 9 = .ok (.return_, 1) := dk_177 (dk_at dksX1_breathes_0 9 rfl rfl)
theorem dX1_breathes_10 : decode cX1_breathes 10 = .ok (.aload_n 0, 1) := dk_42 (dk_at dksX1_breathes_0 10 rfl rfl)
theorem dX1_breathes_11 : decode cX1_breathes 11 = .ok (.getfield 19, 3) := dk_180 0 19 (dk_at dksX1_breathes_0 11 rfl rfl)
theorem dX1_breathes_14 : decode cX1_breathes 14 = .ok (.iconst 3, 1) := dk_6 (dk_at dksX1_breathes_0 14 rfl rfl)
theorem dX1_breathes_15 : decode cX1_breathes 15 = .ok (.invokevirtual 233, 3) := dk_182 0 233 (dk_at dksX1_breathes_0 15 rfl rfl)
theorem dX1_breathes_18 : decode cX1_breathes 18 = .ok (.iconst 1, 1) := dk_4 (dk_at dksX1_breathes_0 18 rfl rfl)
theorem dX1_breathes_19 : decode cX1_breathes 19 = .ok (.isub, 1) := dk_100 (dk_at dksX1_breathes_0 19 rfl rfl)
theorem dX1_breathes_20 : decode cX1_breathes 20 = .ok (.istore 4, 2) := dk_54 4 (dk_at dksX1_breathes_0 20 rfl rfl)
theorem dX1_breathes_22 : decode cX1_breathes 22 = .ok (.aload_n 0, 1) := dk_42 (dk_at dksX1_breathes_0 22 rfl rfl)
theorem dX1_breathes_23 : decode cX1_breathes 23 = .ok (.getfield 19, 3) := dk_180 0 19 (dk_at dksX1_breathes_1 0 rfl rfl)
theorem dX1_breathes_26 : decode cX1_breathes 26 = .ok (.iload_n 2, 1) := dk_28 (dk_at dksX1_breathes_1 3 rfl rfl)
theorem dX1_breathes_27 : decode cX1_breathes 27 = .ok (.aload_n 0, 1) := dk_42 (dk_at dksX1_breathes_1 4 rfl rfl)
theorem dX1_breathes_28 : decode cX1_breathes 28 = .ok (.getfield 49, 3) := dk_180 0 49 (dk_at dksX1_breathes_1 5 rfl rfl)
theorem dX1_breathes_31 : decode cX1_breathes 31 = .ok (.iload_n 1, 1) := dk_27 (dk_at dksX1_breathes_1 8 rfl rfl)
theorem dX1_breathes_32 : decode cX1_breathes 32 = .ok (.iaload, 1) := dk_46 (dk_at dksX1_breathes_1 9 rfl rfl)
theorem dX1_breathes_33 : decode cX1_breathes 33 = .ok (.aload_n 0, 1) := dk_42 (dk_at dksX1_breathes_1 10 rfl rfl)
theorem dX1_breathes_34 : decode cX1_breathes 34 = .ok (.getfield 52, 3) := dk_180 0 52 (dk_at dksX1_breathes_1 11 rfl rfl)
theorem dX1_breathes_37 : decode cX1_breathes 37 = .ok (.iload_n 1, 1) := dk_27 (dk_at dksX1_breathes_1 14 rfl rfl)
theorem dX1_breathes_38 : decode cX1_breathes 38 = .ok (.iaload, 1) := dk_46 (dk_at dksX1_breathes_1 15 rfl rfl)
theorem dX1_breathes_39 : decode cX1_breathes 39 = .ok (.iload_n 3, 1) := dk_29 (dk_at dksX1_breathes_1 16 rfl rfl)
theorem dX1_breathes_40 : decode cX1_breathes 40 = .ok (.invokevirtual 222, 3) := dk_182 0 222 (dk_at dksX1_breathes_1 17 rfl rfl)
theorem dX1_breathes_43 : decode cX1_breathes 43 = .ok (.istore 5, 2) := dk_54 5 (dk_at dksX1_breathes_1 20 rfl rfl)
theorem dX1_breathes_45 : decode cX1_breathes 45 = .ok (.aload_n 0, 1) := dk_42 (dk_at dksX1_breathes_1 22 rfl rfl)
theorem dX1_breathes_46 : decode cX1_breathes 46 = .ok (.getfield 19, 3) := dk_180 0 19 (dk_at dksX1_breathes_2 0 rfl rfl)
theorem dX1_breathes_49 : decode cX1_breathes 49 = .ok (.iload_n 2, 1) := dk_28 (dk_at dksX1_breathes_2 3 rfl rfl)
theorem dX1_breathes_50 : decode cX1_breathes 50 = .ok (.aload_n 0, 1) := dk_42 (dk_at dksX1_breathes_2 4 rfl rfl)
theorem dX1_breathes_51 : decode cX1_breathes 51 = .ok (.getfield 49, 3) := dk_180 0 49 (dk_at dksX1_breathes_2 5 rfl rfl)
theorem dX1_breathes_54 : decode cX1_breathes 54 = .ok (.iload_n 1, 1) := dk_27 (dk_at dksX1_breathes_2 8 rfl rfl)
theorem dX1_breathes_55 : decode cX1_breathes 55 = .ok (.iaload, 1) := dk_46 (dk_at dksX1_breathes_2 9 rfl rfl)
theorem dX1_breathes_56 : decode cX1_breathes 56 = .ok (.aload_n 0, 1) := dk_42 (dk_at dksX1_breathes_2 10 rfl rfl)
theorem dX1_breathes_57 : decode cX1_breathes 57 = .ok (.getfield 52, 3) := dk_180 0 52 (dk_at dksX1_breathes_2 11 rfl rfl)
theorem dX1_breathes_60 : decode cX1_breathes 60 = .ok (.iload_n 1, 1) := dk_27 (dk_at dksX1_breathes_2 14 rfl rfl)
theorem dX1_breathes_61 : decode cX1_breathes 61 = .ok (.iaload, 1) := dk_46 (dk_at dksX1_breathes_2 15 rfl rfl)
theorem dX1_breathes_62 : decode cX1_breathes 62 = .ok (.iload_n 3, 1) := dk_29 (dk_at dksX1_breathes_2 16 rfl rfl)
theorem dX1_breathes_63 : decode cX1_breathes 63 = .ok (.invokevirtual 218, 3) := dk_182 0 218 (dk_at dksX1_breathes_2 17 rfl rfl)
theorem dX1_breathes_66 : decode cX1_breathes 66 = .ok (.istore 6, 2) := dk_54 6 (dk_at dksX1_breathes_2 20 rfl rfl)
theorem dX1_breathes_68 : decode cX1_breathes 68 = .ok (.aload_n 0, 1) := dk_42 (dk_at dksX1_breathes_2 22 rfl rfl)
theorem dX1_breathes_69 : decode cX1_breathes 69 = .ok (.getfield 49, 3) := dk_180 0 49 (dk_at dksX1_breathes_3 0 rfl rfl)
theorem dX1_breathes_72 : decode cX1_breathes 72 = .ok (.iload_n 1, 1) := dk_27 (dk_at dksX1_breathes_3 3 rfl rfl)
theorem dX1_breathes_73 : decode cX1_breathes 73 = .ok (.dup2, 1) := dk_92 (dk_at dksX1_breathes_3 4 rfl rfl)
theorem dX1_breathes_74 : decode cX1_breathes 74 = .ok (.iaload, 1) := dk_46 (dk_at dksX1_breathes_3 5 rfl rfl)
theorem dX1_breathes_75 : decode cX1_breathes 75 = .ok (.iload 5, 2) := dk_21 5 (dk_at dksX1_breathes_3 6 rfl rfl)
theorem dX1_breathes_77 : decode cX1_breathes 77 = .ok (.isub, 1) := dk_100 (dk_at dksX1_breathes_3 8 rfl rfl)
theorem dX1_breathes_78 : decode cX1_breathes 78 = .ok (.iastore, 1) := dk_79 (dk_at dksX1_breathes_3 9 rfl rfl)
theorem dX1_breathes_79 : decode cX1_breathes 79 = .ok (.aload_n 0, 1) := dk_42 (dk_at dksX1_breathes_3 10 rfl rfl)
theorem dX1_breathes_80 : decode cX1_breathes 80 = .ok (.getfield 52, 3) := dk_180 0 52 (dk_at dksX1_breathes_3 11 rfl rfl)
theorem dX1_breathes_83 : decode cX1_breathes 83 = .ok (.iload_n 1, 1) := dk_27 (dk_at dksX1_breathes_3 14 rfl rfl)
theorem dX1_breathes_84 : decode cX1_breathes 84 = .ok (.dup2, 1) := dk_92 (dk_at dksX1_breathes_3 15 rfl rfl)
theorem dX1_breathes_85 : decode cX1_breathes 85 = .ok (.iaload, 1) := dk_46 (dk_at dksX1_breathes_3 16 rfl rfl)
theorem dX1_breathes_86 : decode cX1_breathes 86 = .ok (.iload 6, 2) := dk_21 6 (dk_at dksX1_breathes_3 17 rfl rfl)
theorem dX1_breathes_88 : decode cX1_breathes 88 = .ok (.aload_n 0, 1) := dk_42 (dk_at dksX1_breathes_3 19 rfl rfl)
theorem dX1_breathes_89 : decode cX1_breathes 89 = .ok (.getfield 19, 3) := dk_180 0 19 (dk_at dksX1_breathes_3 20 rfl rfl)
theorem dX1_breathes_92 : decode cX1_breathes 92 = .ok (.getfield 92, 3) := dk_180 0 92 (dk_at dksX1_breathes_4 0 rfl rfl)
theorem dX1_breathes_95 : decode cX1_breathes 95 = .ok (.iload_n 2, 1) := dk_28 (dk_at dksX1_breathes_4 3 rfl rfl)
theorem dX1_breathes_96 : decode cX1_breathes 96 = .ok (.aaload, 1) := dk_50 (dk_at dksX1_breathes_4 4 rfl rfl)
theorem dX1_breathes_97 : decode cX1_breathes 97 = .ok (.getfield 175, 3) := dk_180 0 175 (dk_at dksX1_breathes_4 5 rfl rfl)
theorem dX1_breathes_100 : decode cX1_breathes 100 = .ok (.ifCond .le 8, 3) := dk_158 0 8 (dk_at dksX1_breathes_4 8 rfl rfl)
theorem dX1_breathes_103 : decode cX1_breathes 103 = .ok (.iload 4, 2) := dk_21 4 (dk_at dksX1_breathes_4 11 rfl rfl)
theorem dX1_breathes_105 : decode cX1_breathes 105 = .ok (.goto 4, 3) := dk_167 0 4 (dk_at dksX1_breathes_4 13 rfl rfl)
theorem dX1_breathes_108 : decode cX1_breathes 108 = .ok (.iconst 0, 1) := dk_3 (dk_at dksX1_breathes_4 16 rfl rfl)
theorem dX1_breathes_109 : decode cX1_breathes 109 = .ok (.iadd, 1) := dk_96 (dk_at dksX1_breathes_4 17 rfl rfl)
theorem dX1_breathes_110 : decode cX1_breathes 110 = .ok (.iadd, 1) := dk_96 (dk_at dksX1_breathes_4 18 rfl rfl)
theorem dX1_breathes_111 : decode cX1_breathes 111 = .ok (.iastore, 1) := dk_79 (dk_at dksX1_breathes_4 19 rfl rfl)
theorem dX1_breathes_112 : decode cX1_breathes 112 = .ok (.aload_n 0, 1) := dk_42 (dk_at dksX1_breathes_4 20 rfl rfl)
theorem dX1_breathes_113 : decode cX1_breathes 113 = .ok (.getfield 52, 3) := dk_180 0 52 (dk_at dksX1_breathes_4 21 rfl rfl)
theorem dX1_breathes_116 : decode cX1_breathes 116 = .ok (.iload_n 1, 1) := dk_27 (dk_at dksX1_breathes_5 0 rfl rfl)
theorem dX1_breathes_117 : decode cX1_breathes 117 = .ok (.iaload, 1) := dk_46 (dk_at dksX1_breathes_5 1 rfl rfl)
theorem dX1_breathes_118 : decode cX1_breathes 118 = .ok (.iconst 0, 1) := dk_3 (dk_at dksX1_breathes_5 2 rfl rfl)
theorem dX1_breathes_119 : decode cX1_breathes 119 = .ok (.bipush 15, 2) := dk_16 15 (dk_at dksX1_breathes_5 3 rfl rfl)
theorem dX1_breathes_121 : decode cX1_breathes 121 = .ok (.invokestatic 84, 3) := dk_184 0 84 (dk_at dksX1_breathes_5 5 rfl rfl)
theorem dX1_breathes_124 : decode cX1_breathes 124 = .ok (.ifCond .ne 13, 3) := dk_154 0 13 (dk_at dksX1_breathes_5 8 rfl rfl)
theorem dX1_breathes_127 : decode cX1_breathes 127 = .ok (.aload_n 0, 1) := dk_42 (dk_at dksX1_breathes_5 11 rfl rfl)
theorem dX1_breathes_128 : decode cX1_breathes 128 = .ok (.getfield 49, 3) := dk_180 0 49 (dk_at dksX1_breathes_5 12 rfl rfl)
theorem dX1_breathes_131 : decode cX1_breathes 131 = .ok (.iload_n 1, 1) := dk_27 (dk_at dksX1_breathes_5 15 rfl rfl)
theorem dX1_breathes_132 : decode cX1_breathes 132 = .ok (.iconst 0, 1) := dk_3 (dk_at dksX1_breathes_5 16 rfl rfl)
theorem dX1_breathes_133 : decode cX1_breathes 133 = .ok (.iastore, 1) := dk_79 (dk_at dksX1_breathes_5 17 rfl rfl)
theorem dX1_breathes_134 : decode cX1_breathes 134 = .ok (.goto 37, 3) := dk_167 0 37 (dk_at dksX1_breathes_5 18 rfl rfl)
theorem dX1_breathes_137 : decode cX1_breathes 137 = .ok (.aload_n 0, 1) := dk_42 (dk_at dksX1_breathes_5 21 rfl rfl)
theorem dX1_breathes_138 : decode cX1_breathes 138 = .ok (.getfield 49, 3) := dk_180 0 49 (dk_at dksX1_breathes_6 0 rfl rfl)
theorem dX1_breathes_141 : decode cX1_breathes 141 = .ok (.iload_n 1, 1) := dk_27 (dk_at dksX1_breathes_6 3 rfl rfl)
theorem dX1_breathes_142 : decode cX1_breathes 142 = .ok (.iaload, 1) := dk_46 (dk_at dksX1_breathes_6 4 rfl rfl)
theorem dX1_breathes_143 : decode cX1_breathes 143 = .ok (.ifCond .gt 28, 3) := dk_157 0 28 (dk_at dksX1_breathes_6 5 rfl rfl)
theorem dX1_breathes_146 : decode cX1_breathes 146 = .ok (.aload_n 0, 1) := dk_42 (dk_at dksX1_breathes_6 8 rfl rfl)
theorem dX1_breathes_147 : decode cX1_breathes 147 = .ok (.getfield 19, 3) := dk_180 0 19 (dk_at dksX1_breathes_6 9 rfl rfl)
theorem dX1_breathes_150 : decode cX1_breathes 150 = .ok (.aload_n 0, 1) := dk_42 (dk_at dksX1_breathes_6 12 rfl rfl)
theorem dX1_breathes_151 : decode cX1_breathes 151 = .ok (.getfield 52, 3) := dk_180 0 52 (dk_at dksX1_breathes_6 13 rfl rfl)
theorem dX1_breathes_154 : decode cX1_breathes 154 = .ok (.iload_n 1, 1) := dk_27 (dk_at dksX1_breathes_6 16 rfl rfl)
theorem dX1_breathes_155 : decode cX1_breathes 155 = .ok (.iaload, 1) := dk_46 (dk_at dksX1_breathes_6 17 rfl rfl)
theorem dX1_breathes_156 : decode cX1_breathes 156 = .ok (.invokevirtual 236, 3) := dk_182 0 236 (dk_at dksX1_breathes_6 18 rfl rfl)
theorem dX1_breathes_159 : decode cX1_breathes 159 = .ok (.ifCond .eq 12, 3) := dk_153 0 12 (dk_at dksX1_breathes_6 21 rfl rfl)
theorem dX1_breathes_162 : decode cX1_breathes 162 = .ok (.aload_n 0, 1) := dk_42 (dk_at dksX1_breathes_7 0 rfl rfl)
theorem dX1_breathes_163 : decode cX1_breathes 163 = .ok (.getfield 55, 3) := dk_180 0 55 (dk_at dksX1_breathes_7 1 rfl rfl)
theorem dX1_breathes_166 : decode cX1_breathes 166 = .ok (.iload_n 1, 1) := dk_27 (dk_at dksX1_breathes_7 4 rfl rfl)
theorem dX1_breathes_167 : decode cX1_breathes 167 = .ok (.iload_n 3, 1) := dk_29 (dk_at dksX1_breathes_7 5 rfl rfl)
theorem dX1_breathes_168 : decode cX1_breathes 168 = .ok (.iconst 1, 1) := dk_4 (dk_at dksX1_breathes_7 6 rfl rfl)
theorem dX1_breathes_169 : decode cX1_breathes 169 = .ok (.iadd, 1) := dk_96 (dk_at dksX1_breathes_7 7 rfl rfl)
theorem dX1_breathes_170 : decode cX1_breathes 170 = .ok (.iastore, 1) := dk_79 (dk_at dksX1_breathes_7 8 rfl rfl)
theorem dX1_breathes_171 : decode cX1_breathes 171 = .ok (.return_, 1) := dk_177 (dk_at dksX1_breathes_7 9 rfl rfl)
abbrev cX1_hour : ByteArray := prog_1_method_28_code
def yX1_hour : MethodName := ⟨RX1, "hour", "(I)I"⟩
def dkwX1_hour_1 : List UInt8 := [180, 0, 19, 27, 181, 1, 10, 28, 172]
abbrev dktX1_hour_1 : List UInt8 := dkwX1_hour_1 ++ []
def dkwX1_hour_0 : List UInt8 := [27, 3, 16, 23, 184, 0, 84, 184, 0, 215, 42, 182, 0, 253, 42, 180, 0, 19, 180, 1, 10, 61, 42]
abbrev dktX1_hour_0 : List UInt8 := dkwX1_hour_0 ++ dktX1_hour_1
theorem dksX1_hour_0 : cX1_hour.data.toList.drop 0 = dktX1_hour_0 := by decide +kernel
theorem dksX1_hour_1 : cX1_hour.data.toList.drop 23 = dktX1_hour_1 := dk_seg dksX1_hour_0 23 rfl rfl
theorem dX1_hour_0 : decode cX1_hour 0 = .ok (.iload_n 1, 1) := dk_27 (dk_at dksX1_hour_0 0 rfl rfl)
theorem dX1_hour_1 : decode cX1_hour 1 = .ok (.iconst 0, 1) := dk_3 (dk_at dksX1_hour_0 1 rfl rfl)
theorem dX1_hour_2 : decode cX1_hour 2 = .ok (.bipush 23, 2) := dk_16 23 (dk_at dksX1_hour_0 2 rfl rfl)
theorem dX1_hour_4 : decode cX1_hour 4 = .ok (.invokestatic 84, 3) := dk_184 0 84 (dk_at dksX1_hour_0 4 rfl rfl)
theorem dX1_hour_7 : decode cX1_hour 7 = .ok (.invokestatic 215, 3) := dk_184 0 215 (dk_at dksX1_hour_0 7 rfl rfl)
theorem dX1_hour_10 : decode cX1_hour 10 = .ok (.aload_n 0, 1) := dk_42 (dk_at dksX1_hour_0 10 rfl rfl)
theorem dX1_hour_11 : decode cX1_hour 11 = .ok (.invokevirtual 253, 3) := dk_182 0 253 (dk_at dksX1_hour_0 11 rfl rfl)
theorem dX1_hour_14 : decode cX1_hour 14 = .ok (.aload_n 0, 1) := dk_42 (dk_at dksX1_hour_0 14 rfl rfl)
theorem dX1_hour_15 : decode cX1_hour 15 = .ok (.getfield 19, 3) := dk_180 0 19 (dk_at dksX1_hour_0 15 rfl rfl)
theorem dX1_hour_18 : decode cX1_hour 18 = .ok (.getfield 266, 3) := dk_180 1 10 (dk_at dksX1_hour_0 18 rfl rfl)
theorem dX1_hour_21 : decode cX1_hour 21 = .ok (.istore_n 2, 1) := dk_61 (dk_at dksX1_hour_0 21 rfl rfl)
theorem dX1_hour_22 : decode cX1_hour 22 = .ok (.aload_n 0, 1) := dk_42 (dk_at dksX1_hour_0 22 rfl rfl)
theorem dX1_hour_23 : decode cX1_hour 23 = .ok (.getfield 19, 3) := dk_180 0 19 (dk_at dksX1_hour_1 0 rfl rfl)
theorem dX1_hour_26 : decode cX1_hour 26 = .ok (.iload_n 1, 1) := dk_27 (dk_at dksX1_hour_1 3 rfl rfl)
theorem dX1_hour_27 : decode cX1_hour 27 = .ok (.putfield 266, 3) := dk_181 1 10 (dk_at dksX1_hour_1 4 rfl rfl)
theorem dX1_hour_30 : decode cX1_hour 30 = .ok (.iload_n 2, 1) := dk_28 (dk_at dksX1_hour_1 7 rfl rfl)
theorem dX1_hour_31 : decode cX1_hour 31 = .ok (.ireturn, 1) := dk_172 (dk_at dksX1_hour_1 8 rfl rfl)
abbrev cX1_blow : ByteArray := prog_1_method_29_code
def yX1_blow : MethodName := ⟨RX1, "blow", "(II)I"⟩
def dkwX1_blow_1 : List UInt8 := [42, 180, 0, 19, 180, 0, 212, 27, 46, 62, 42, 180, 0, 19, 180, 0, 212, 27, 28, 79, 29, 172]
abbrev dktX1_blow_1 : List UInt8 := dkwX1_blow_1 ++ []
def dkwX1_blow_0 : List UInt8 := [27, 3, 16, 12, 184, 0, 84, 184, 0, 88, 28, 16, 253, 6, 184, 0, 84, 184, 0, 215, 42, 182, 0, 253]
abbrev dktX1_blow_0 : List UInt8 := dkwX1_blow_0 ++ dktX1_blow_1
theorem dksX1_blow_0 : cX1_blow.data.toList.drop 0 = dktX1_blow_0 := by decide +kernel
theorem dksX1_blow_1 : cX1_blow.data.toList.drop 24 = dktX1_blow_1 := dk_seg dksX1_blow_0 24 rfl rfl
theorem dX1_blow_0 : decode cX1_blow 0 = .ok (.iload_n 1, 1) := dk_27 (dk_at dksX1_blow_0 0 rfl rfl)
theorem dX1_blow_1 : decode cX1_blow 1 = .ok (.iconst 0, 1) := dk_3 (dk_at dksX1_blow_0 1 rfl rfl)
theorem dX1_blow_2 : decode cX1_blow 2 = .ok (.bipush 12, 2) := dk_16 12 (dk_at dksX1_blow_0 2 rfl rfl)
theorem dX1_blow_4 : decode cX1_blow 4 = .ok (.invokestatic 84, 3) := dk_184 0 84 (dk_at dksX1_blow_0 4 rfl rfl)
theorem dX1_blow_7 : decode cX1_blow 7 = .ok (.invokestatic 88, 3) := dk_184 0 88 (dk_at dksX1_blow_0 7 rfl rfl)
theorem dX1_blow_10 : decode cX1_blow 10 = .ok (.iload_n 2, 1) := dk_28 (dk_at dksX1_blow_0 10 rfl rfl)
theorem dX1_blow_11 : decode cX1_blow 11 = .ok (.bipush (-3), 2) := dk_16 253 (dk_at dksX1_blow_0 11 rfl rfl)
theorem dX1_blow_13 : decode cX1_blow 13 = .ok (.iconst 3, 1) := dk_6 (dk_at dksX1_blow_0 13 rfl rfl)
theorem dX1_blow_14 : decode cX1_blow 14 = .ok (.invokestatic 84, 3) := dk_184 0 84 (dk_at dksX1_blow_0 14 rfl rfl)
theorem dX1_blow_17 : decode cX1_blow 17 = .ok (.invokestatic 215, 3) := dk_184 0 215 (dk_at dksX1_blow_0 17 rfl rfl)
theorem dX1_blow_20 : decode cX1_blow 20 = .ok (.aload_n 0, 1) := dk_42 (dk_at dksX1_blow_0 20 rfl rfl)
theorem dX1_blow_21 : decode cX1_blow 21 = .ok (.invokevirtual 253, 3) := dk_182 0 253 (dk_at dksX1_blow_0 21 rfl rfl)
theorem dX1_blow_24 : decode cX1_blow 24 = .ok (.aload_n 0, 1) := dk_42 (dk_at dksX1_blow_1 0 rfl rfl)
theorem dX1_blow_25 : decode cX1_blow 25 = .ok (.getfield 19, 3) := dk_180 0 19 (dk_at dksX1_blow_1 1 rfl rfl)
theorem dX1_blow_28 : decode cX1_blow 28 = .ok (.getfield 212, 3) := dk_180 0 212 (dk_at dksX1_blow_1 4 rfl rfl)
theorem dX1_blow_31 : decode cX1_blow 31 = .ok (.iload_n 1, 1) := dk_27 (dk_at dksX1_blow_1 7 rfl rfl)
theorem dX1_blow_32 : decode cX1_blow 32 = .ok (.iaload, 1) := dk_46 (dk_at dksX1_blow_1 8 rfl rfl)
theorem dX1_blow_33 : decode cX1_blow 33 = .ok (.istore_n 3, 1) := dk_62 (dk_at dksX1_blow_1 9 rfl rfl)
theorem dX1_blow_34 : decode cX1_blow 34 = .ok (.aload_n 0, 1) := dk_42 (dk_at dksX1_blow_1 10 rfl rfl)
theorem dX1_blow_35 : decode cX1_blow 35 = .ok (.getfield 19, 3) := dk_180 0 19 (dk_at dksX1_blow_1 11 rfl rfl)
theorem dX1_blow_38 : decode cX1_blow 38 = .ok (.getfield 212, 3) := dk_180 0 212 (dk_at dksX1_blow_1 14 rfl rfl)
theorem dX1_blow_41 : decode cX1_blow 41 = .ok (.iload_n 1, 1) := dk_27 (dk_at dksX1_blow_1 17 rfl rfl)
theorem dX1_blow_42 : decode cX1_blow 42 = .ok (.iload_n 2, 1) := dk_28 (dk_at dksX1_blow_1 18 rfl rfl)
theorem dX1_blow_43 : decode cX1_blow 43 = .ok (.iastore, 1) := dk_79 (dk_at dksX1_blow_1 19 rfl rfl)
theorem dX1_blow_44 : decode cX1_blow 44 = .ok (.iload_n 3, 1) := dk_29 (dk_at dksX1_blow_1 20 rfl rfl)
theorem dX1_blow_45 : decode cX1_blow 45 = .ok (.ireturn, 1) := dk_172 (dk_at dksX1_blow_1 21 rfl rfl)
abbrev cX1_give : ByteArray := prog_1_method_30_code
def yX1_give : MethodName := ⟨RX1, "give", "(IIII)I"⟩
def dkwX1_give_4 : List UInt8 := [21, 4, 96, 184, 0, 228, 79, 42, 180, 0, 19, 28, 29, 182, 0, 187, 172]
abbrev dktX1_give_4 : List UInt8 := dkwX1_give_4 ++ []
def dkwX1_give_3 : List UInt8 := [180, 0, 19, 180, 1, 0, 16, 6, 28, 104, 29, 96, 16, 99, 42, 180, 0, 19, 28, 29, 182, 0, 187]
abbrev dktX1_give_3 : List UInt8 := dkwX1_give_3 ++ dktX1_give_4
def dkwX1_give_2 : List UInt8 := [182, 0, 253, 42, 180, 0, 19, 180, 1, 0, 16, 6, 27, 104, 29, 96, 92, 46, 21, 4, 100, 79, 42]
abbrev dktX1_give_2 : List UInt8 := dkwX1_give_2 ++ dktX1_give_3
def dkwX1_give_1 : List UInt8 := [42, 180, 0, 19, 27, 29, 182, 0, 187, 184, 0, 84, 153, 0, 7, 4, 167, 0, 4, 3, 184, 0, 215, 42]
abbrev dktX1_give_1 : List UInt8 := dkwX1_give_1 ++ dktX1_give_2
def dkwX1_give_0 : List UInt8 := [42, 27, 182, 0, 184, 42, 28, 182, 0, 184, 42, 29, 182, 0, 166, 87, 27, 28, 159, 0, 25, 21, 4, 4]
abbrev dktX1_give_0 : List UInt8 := dkwX1_give_0 ++ dktX1_give_1
theorem dksX1_give_0 : cX1_give.data.toList.drop 0 = dktX1_give_0 := by decide +kernel
theorem dksX1_give_1 : cX1_give.data.toList.drop 24 = dktX1_give_1 := dk_seg dksX1_give_0 24 rfl rfl
theorem dksX1_give_2 : cX1_give.data.toList.drop 48 = dktX1_give_2 := dk_seg dksX1_give_1 24 rfl rfl
theorem dksX1_give_3 : cX1_give.data.toList.drop 71 = dktX1_give_3 := dk_seg dksX1_give_2 23 rfl rfl
theorem dksX1_give_4 : cX1_give.data.toList.drop 94 = dktX1_give_4 := dk_seg dksX1_give_3 23 rfl rfl
theorem dX1_give_0 : decode cX1_give 0 = .ok (.aload_n 0, 1) := dk_42 (dk_at dksX1_give_0 0 rfl rfl)
theorem dX1_give_1 : decode cX1_give 1 = .ok (.iload_n 1, 1) := dk_27 (dk_at dksX1_give_0 1 rfl rfl)
theorem dX1_give_2 : decode cX1_give 2 = .ok (.invokevirtual 184, 3) := dk_182 0 184 (dk_at dksX1_give_0 2 rfl rfl)
theorem dX1_give_5 : decode cX1_give 5 = .ok (.aload_n 0, 1) := dk_42 (dk_at dksX1_give_0 5 rfl rfl)
theorem dX1_give_6 : decode cX1_give 6 = .ok (.iload_n 2, 1) := dk_28 (dk_at dksX1_give_0 6 rfl rfl)
theorem dX1_give_7 : decode cX1_give 7 = .ok (.invokevirtual 184, 3) := dk_182 0 184 (dk_at dksX1_give_0 7 rfl rfl)
theorem dX1_give_10 : decode cX1_give 10 = .ok (.aload_n 0, 1) := dk_42 (dk_at dksX1_give_0 10 rfl rfl)
theorem dX1_give_11 : decode cX1_give 11 = .ok (.iload_n 3, 1) := dk_29 (dk_at dksX1_give_0 11 rfl rfl)
theorem dX1_give_12 : decode cX1_give 12 = .ok (.invokevirtual 166, 3) := dk_182 0 166 (dk_at dksX1_give_0 12 rfl rfl)
theorem dX1_give_15 : decode cX1_give 15 = .ok (.pop, 1) := dk_87 (dk_at dksX1_give_0 15 rfl rfl)
theorem dX1_give_16 : decode cX1_give 16 = .ok (.iload_n 1, 1) := dk_27 (dk_at dksX1_give_0 16 rfl rfl)
theorem dX1_give_17 : decode cX1_give 17 = .ok (.iload_n 2, 1) := dk_28 (dk_at dksX1_give_0 17 rfl rfl)
theorem dX1_give_18 : decode cX1_give 18 = .ok (.if_icmp .eq 25, 3) := dk_159 0 25 (dk_at dksX1_give_0 18 rfl rfl)
theorem dX1_give_21 : decode cX1_give 21 = .ok (.iload 4, 2) := dk_21 4 (dk_at dksX1_give_0 21 rfl rfl)
theorem dX1_give_23 : decode cX1_give 23 = .ok (.iconst 1, 1) := dk_4 (dk_at dksX1_give_0 23 rfl rfl)
theorem dX1_give_24 : decode cX1_give 24 = .ok (.aload_n 0, 1) := dk_42 (dk_at dksX1_give_1 0 rfl rfl)
theorem dX1_give_25 : decode cX1_give 25 = .ok (.getfield 19, 3) := dk_180 0 19 (dk_at dksX1_give_1 1 rfl rfl)
theorem dX1_give_28 : decode cX1_give 28 = .ok (.iload_n 1, 1) := dk_27 (dk_at dksX1_give_1 4 rfl rfl)
theorem dX1_give_29 : decode cX1_give 29 = .ok (.iload_n 3, 1) := dk_29 (dk_at dksX1_give_1 5 rfl rfl)
theorem dX1_give_30 : decode cX1_give 30 = .ok (.invokevirtual 187, 3) := dk_182 0 187 (dk_at dksX1_give_1 6 rfl rfl)
theorem dX1_give_33 : decode cX1_give 33 = .ok (.invokestatic 84, 3) := dk_184 0 84 (dk_at dksX1_give_1 9 rfl rfl)
theorem dX1_give_36 : decode cX1_give 36 = .ok (.ifCond .eq 7, 3) := dk_153 0 7 (dk_at dksX1_give_1 12 rfl rfl)
theorem dX1_give_39 : decode cX1_give 39 = .ok (.iconst 1, 1) := dk_4 (dk_at dksX1_give_1 15 rfl rfl)
theorem dX1_give_40 : decode cX1_give 40 = .ok (.goto 4, 3) := dk_167 0 4 (dk_at dksX1_give_1 16 rfl rfl)
theorem dX1_give_43 : decode cX1_give 43 = .ok (.iconst 0, 1) := dk_3 (dk_at dksX1_give_1 19 rfl rfl)
theorem dX1_give_44 : decode cX1_give 44 = .ok (.invokestatic 215, 3) := dk_184 0 215 (dk_at dksX1_give_1 20 rfl rfl)
theorem dX1_give_47 : decode cX1_give 47 = .ok (.aload_n 0, 1) := dk_42 (dk_at dksX1_give_1 23 rfl rfl)
theorem dX1_give_48 : decode cX1_give 48 = .ok (.invokevirtual 253, 3) := dk_182 0 253 (dk_at dksX1_give_2 0 rfl rfl)
theorem dX1_give_51 : decode cX1_give 51 = .ok (.aload_n 0, 1) := dk_42 (dk_at dksX1_give_2 3 rfl rfl)
theorem dX1_give_52 : decode cX1_give 52 = .ok (.getfield 19, 3) := dk_180 0 19 (dk_at dksX1_give_2 4 rfl rfl)
theorem dX1_give_55 : decode cX1_give 55 = .ok (.getfield 256, 3) := dk_180 1 0 (dk_at dksX1_give_2 7 rfl rfl)
theorem dX1_give_58 : decode cX1_give 58 = .ok (.bipush 6, 2) := dk_16 6 (dk_at dksX1_give_2 10 rfl rfl)
theorem dX1_give_60 : decode cX1_give 60 = .ok (.iload_n 1, 1) := dk_27 (dk_at dksX1_give_2 12 rfl rfl)
theorem dX1_give_61 : decode cX1_give 61 = .ok (.imul, 1) := dk_104 (dk_at dksX1_give_2 13 rfl rfl)
theorem dX1_give_62 : decode cX1_give 62 = .ok (.iload_n 3, 1) := dk_29 (dk_at dksX1_give_2 14 rfl rfl)
theorem dX1_give_63 : decode cX1_give 63 = .ok (.iadd, 1) := dk_96 (dk_at dksX1_give_2 15 rfl rfl)
theorem dX1_give_64 : decode cX1_give 64 = .ok (.dup2, 1) := dk_92 (dk_at dksX1_give_2 16 rfl rfl)
theorem dX1_give_65 : decode cX1_give 65 = .ok (.iaload, 1) := dk_46 (dk_at dksX1_give_2 17 rfl rfl)
theorem dX1_give_66 : decode cX1_give 66 = .ok (.iload 4, 2) := dk_21 4 (dk_at dksX1_give_2 18 rfl rfl)
theorem dX1_give_68 : decode cX1_give 68 = .ok (.isub, 1) := dk_100 (dk_at dksX1_give_2 20 rfl rfl)
theorem dX1_give_69 : decode cX1_give 69 = .ok (.iastore, 1) := dk_79 (dk_at dksX1_give_2 21 rfl rfl)
theorem dX1_give_70 : decode cX1_give 70 = .ok (.aload_n 0, 1) := dk_42 (dk_at dksX1_give_2 22 rfl rfl)
theorem dX1_give_71 : decode cX1_give 71 = .ok (.getfield 19, 3) := dk_180 0 19 (dk_at dksX1_give_3 0 rfl rfl)
theorem dX1_give_74 : decode cX1_give 74 = .ok (.getfield 256, 3) := dk_180 1 0 (dk_at dksX1_give_3 3 rfl rfl)
theorem dX1_give_77 : decode cX1_give 77 = .ok (.bipush 6, 2) := dk_16 6 (dk_at dksX1_give_3 6 rfl rfl)
theorem dX1_give_79 : decode cX1_give 79 = .ok (.iload_n 2, 1) := dk_28 (dk_at dksX1_give_3 8 rfl rfl)
theorem dX1_give_80 : decode cX1_give 80 = .ok (.imul, 1) := dk_104 (dk_at dksX1_give_3 9 rfl rfl)
theorem dX1_give_81 : decode cX1_give 81 = .ok (.iload_n 3, 1) := dk_29 (dk_at dksX1_give_3 10 rfl rfl)
theorem dX1_give_82 : decode cX1_give 82 = .ok (.iadd, 1) := dk_96 (dk_at dksX1_give_3 11 rfl rfl)
theorem dX1_give_83 : decode cX1_give 83 = .ok (.bipush 99, 2) := dk_16 99 (dk_at dksX1_give_3 12 rfl rfl)
theorem dX1_give_85 : decode cX1_give 85 = .ok (.aload_n 0, 1) := dk_42 (dk_at dksX1_give_3 14 rfl rfl)
theorem dX1_give_86 : decode cX1_give 86 = .ok (.getfield 19, 3) := dk_180 0 19 (dk_at dksX1_give_3 15 rfl rfl)
theorem dX1_give_89 : decode cX1_give 89 = .ok (.iload_n 2, 1) := dk_28 (dk_at dksX1_give_3 18 rfl rfl)
theorem dX1_give_90 : decode cX1_give 90 = .ok (.iload_n 3, 1) := dk_29 (dk_at dksX1_give_3 19 rfl rfl)
theorem dX1_give_91 : decode cX1_give 91 = .ok (.invokevirtual 187, 3) := dk_182 0 187 (dk_at dksX1_give_3 20 rfl rfl)
theorem dX1_give_94 : decode cX1_give 94 = .ok (.iload 4, 2) := dk_21 4 (dk_at dksX1_give_4 0 rfl rfl)
theorem dX1_give_96 : decode cX1_give 96 = .ok (.iadd, 1) := dk_96 (dk_at dksX1_give_4 2 rfl rfl)
theorem dX1_give_97 : decode cX1_give 97 = .ok (.invokestatic 228, 3) := dk_184 0 228 (dk_at dksX1_give_4 3 rfl rfl)
theorem dX1_give_100 : decode cX1_give 100 = .ok (.iastore, 1) := dk_79 (dk_at dksX1_give_4 6 rfl rfl)
theorem dX1_give_101 : decode cX1_give 101 = .ok (.aload_n 0, 1) := dk_42 (dk_at dksX1_give_4 7 rfl rfl)
theorem dX1_give_102 : decode cX1_give 102 = .ok (.getfield 19, 3) := dk_180 0 19 (dk_at dksX1_give_4 8 rfl rfl)
theorem dX1_give_105 : decode cX1_give 105 = .ok (.iload_n 2, 1) := dk_28 (dk_at dksX1_give_4 11 rfl rfl)
theorem dX1_give_106 : decode cX1_give 106 = .ok (.iload_n 3, 1) := dk_29 (dk_at dksX1_give_4 12 rfl rfl)
theorem dX1_give_107 : decode cX1_give 107 = .ok (.invokevirtual 187, 3) := dk_182 0 187 (dk_at dksX1_give_4 13 rfl rfl)
theorem dX1_give_110 : decode cX1_give 110 = .ok (.ireturn, 1) := dk_172 (dk_at dksX1_give_4 16 rfl rfl)
abbrev cX1_appeal : ByteArray := prog_1_method_31_code
def yX1_appeal : MethodName := ⟨RX1, "appeal", "(I)I"⟩
def dkwX1_appeal_1 : List UInt8 := [182, 0, 253, 44, 180, 0, 205, 62, 44, 3, 181, 0, 205, 29, 172]
abbrev dktX1_appeal_1 : List UInt8 := dkwX1_appeal_1 ++ []
def dkwX1_appeal_0 : List UInt8 := [42, 27, 182, 0, 191, 77, 44, 180, 0, 205, 153, 0, 7, 4, 167, 0, 4, 3, 184, 0, 250, 42]
abbrev dktX1_appeal_0 : List UInt8 := dkwX1_appeal_0 ++ dktX1_appeal_1
theorem dksX1_appeal_0 : cX1_appeal.data.toList.drop 0 = dktX1_appeal_0 := by decide +kernel
theorem dksX1_appeal_1 : cX1_appeal.data.toList.drop 22 = dktX1_appeal_1 := dk_seg dksX1_appeal_0 22 rfl rfl
theorem dX1_appeal_0 : decode cX1_appeal 0 = .ok (.aload_n 0, 1) := dk_42 (dk_at dksX1_appeal_0 0 rfl rfl)
theorem dX1_appeal_1 : decode cX1_appeal 1 = .ok (.iload_n 1, 1) := dk_27 (dk_at dksX1_appeal_0 1 rfl rfl)
theorem dX1_appeal_2 : decode cX1_appeal 2 = .ok (.invokevirtual 191, 3) := dk_182 0 191 (dk_at dksX1_appeal_0 2 rfl rfl)
theorem dX1_appeal_5 : decode cX1_appeal 5 = .ok (.astore_n 2, 1) := dk_77 (dk_at dksX1_appeal_0 5 rfl rfl)
theorem dX1_appeal_6 : decode cX1_appeal 6 = .ok (.aload_n 2, 1) := dk_44 (dk_at dksX1_appeal_0 6 rfl rfl)
theorem dX1_appeal_7 : decode cX1_appeal 7 = .ok (.getfield 205, 3) := dk_180 0 205 (dk_at dksX1_appeal_0 7 rfl rfl)
theorem dX1_appeal_10 : decode cX1_appeal 10 = .ok (.ifCond .eq 7, 3) := dk_153 0 7 (dk_at dksX1_appeal_0 10 rfl rfl)
theorem dX1_appeal_13 : decode cX1_appeal 13 = .ok (.iconst 1, 1) := dk_4 (dk_at dksX1_appeal_0 13 rfl rfl)
theorem dX1_appeal_14 : decode cX1_appeal 14 = .ok (.goto 4, 3) := dk_167 0 4 (dk_at dksX1_appeal_0 14 rfl rfl)
theorem dX1_appeal_17 : decode cX1_appeal 17 = .ok (.iconst 0, 1) := dk_3 (dk_at dksX1_appeal_0 17 rfl rfl)
theorem dX1_appeal_18 : decode cX1_appeal 18 = .ok (.invokestatic 250, 3) := dk_184 0 250 (dk_at dksX1_appeal_0 18 rfl rfl)
theorem dX1_appeal_21 : decode cX1_appeal 21 = .ok (.aload_n 0, 1) := dk_42 (dk_at dksX1_appeal_0 21 rfl rfl)
theorem dX1_appeal_22 : decode cX1_appeal 22 = .ok (.invokevirtual 253, 3) := dk_182 0 253 (dk_at dksX1_appeal_1 0 rfl rfl)
theorem dX1_appeal_25 : decode cX1_appeal 25 = .ok (.aload_n 2, 1) := dk_44 (dk_at dksX1_appeal_1 3 rfl rfl)
theorem dX1_appeal_26 : decode cX1_appeal 26 = .ok (.getfield 205, 3) := dk_180 0 205 (dk_at dksX1_appeal_1 4 rfl rfl)
theorem dX1_appeal_29 : decode cX1_appeal 29 = .ok (.istore_n 3, 1) := dk_62 (dk_at dksX1_appeal_1 7 rfl rfl)
theorem dX1_appeal_30 : decode cX1_appeal 30 = .ok (.aload_n 2, 1) := dk_44 (dk_at dksX1_appeal_1 8 rfl rfl)
theorem dX1_appeal_31 : decode cX1_appeal 31 = .ok (.iconst 0, 1) := dk_3 (dk_at dksX1_appeal_1 9 rfl rfl)
theorem dX1_appeal_32 : decode cX1_appeal 32 = .ok (.putfield 205, 3) := dk_181 0 205 (dk_at dksX1_appeal_1 10 rfl rfl)
theorem dX1_appeal_35 : decode cX1_appeal 35 = .ok (.iload_n 3, 1) := dk_29 (dk_at dksX1_appeal_1 13 rfl rfl)
theorem dX1_appeal_36 : decode cX1_appeal 36 = .ok (.ireturn, 1) := dk_172 (dk_at dksX1_appeal_1 14 rfl rfl)
abbrev cX1_weeks : ByteArray := prog_1_method_32_code
def yX1_weeks : MethodName := ⟨RX1, "weeks", "(I)I"⟩
def dkwX1_weeks_6 : List UInt8 := [184, 0, 228, 181, 1, 13, 28, 172]
abbrev dktX1_weeks_6 : List UInt8 := dkwX1_weeks_6 ++ []
def dkwX1_weeks_5 : List UInt8 := [132, 3, 1, 167, 255, 155, 42, 180, 0, 19, 17, 39, 15, 42, 180, 0, 19, 180, 1, 13, 27, 96]
abbrev dktX1_weeks_5 : List UInt8 := dkwX1_weeks_5 ++ dktX1_weeks_6
def dkwX1_weeks_4 : List UInt8 := [180, 0, 19, 180, 1, 0, 16, 6, 29, 104, 21, 4, 96, 21, 5, 79, 132, 4, 1, 167, 255, 175]
abbrev dktX1_weeks_4 : List UInt8 := dkwX1_weeks_4 ++ dktX1_weeks_5
def dkwX1_weeks_3 : List UInt8 := [96, 184, 0, 228, 54, 5, 28, 21, 5, 42, 180, 0, 19, 29, 21, 4, 182, 0, 187, 100, 96, 61, 42]
abbrev dktX1_weeks_3 : List UInt8 := dkwX1_weeks_3 ++ dktX1_weeks_4
def dkwX1_weeks_2 : List UInt8 := [180, 0, 19, 29, 21, 4, 182, 0, 187, 27, 42, 180, 0, 19, 180, 0, 92, 21, 4, 50, 180, 0, 181, 104]
abbrev dktX1_weeks_2 : List UInt8 := dkwX1_weeks_2 ++ dktX1_weeks_3
def dkwX1_weeks_1 : List UInt8 := [180, 0, 96, 162, 0, 96, 3, 54, 4, 21, 4, 42, 180, 0, 19, 180, 0, 81, 162, 0, 75, 16, 99, 42]
abbrev dktX1_weeks_1 : List UInt8 := dkwX1_weeks_1 ++ dktX1_weeks_2
def dkwX1_weeks_0 : List UInt8 := [27, 4, 16, 60, 184, 0, 84, 184, 0, 215, 42, 182, 0, 253, 3, 61, 3, 62, 29, 42, 180, 0, 19]
abbrev dktX1_weeks_0 : List UInt8 := dkwX1_weeks_0 ++ dktX1_weeks_1
theorem dksX1_weeks_0 : cX1_weeks.data.toList.drop 0 = dktX1_weeks_0 := by decide +kernel
theorem dksX1_weeks_1 : cX1_weeks.data.toList.drop 23 = dktX1_weeks_1 := dk_seg dksX1_weeks_0 23 rfl rfl
theorem dksX1_weeks_2 : cX1_weeks.data.toList.drop 47 = dktX1_weeks_2 := dk_seg dksX1_weeks_1 24 rfl rfl
theorem dksX1_weeks_3 : cX1_weeks.data.toList.drop 71 = dktX1_weeks_3 := dk_seg dksX1_weeks_2 24 rfl rfl
theorem dksX1_weeks_4 : cX1_weeks.data.toList.drop 94 = dktX1_weeks_4 := dk_seg dksX1_weeks_3 23 rfl rfl
theorem dksX1_weeks_5 : cX1_weeks.data.toList.drop 116 = dktX1_weeks_5 := dk_seg dksX1_weeks_4 22 rfl rfl
theorem dksX1_weeks_6 : cX1_weeks.data.toList.drop 138 = dktX1_weeks_6 := dk_seg dksX1_weeks_5 22 rfl rfl
theorem dX1_weeks_0 : decode cX1_weeks 0 = .ok (.iload_n 1, 1) := dk_27 (dk_at dksX1_weeks_0 0 rfl rfl)
theorem dX1_weeks_1 : decode cX1_weeks 1 = .ok (.iconst 1, 1) := dk_4 (dk_at dksX1_weeks_0 1 rfl rfl)
theorem dX1_weeks_2 : decode cX1_weeks 2 = .ok (.bipush 60, 2) := dk_16 60 (dk_at dksX1_weeks_0 2 rfl rfl)
theorem dX1_weeks_4 : decode cX1_weeks 4 = .ok (.invokestatic 84, 3) := dk_184 0 84 (dk_at dksX1_weeks_0 4 rfl rfl)
theorem dX1_weeks_7 : decode cX1_weeks 7 = .ok (.invokestatic 215, 3) := dk_184 0 215 (dk_at dksX1_weeks_0 7 rfl rfl)
theorem dX1_weeks_10 : decode cX1_weeks 10 = .ok (.aload_n 0, 1) := dk_42 (dk_at dksX1_weeks_0 10 rfl rfl)
theorem dX1_weeks_11 : decode cX1_weeks 11 = .ok (.invokevirtual 253, 3) := dk_182 0 253 (dk_at dksX1_weeks_0 11 rfl rfl)
theorem dX1_weeks_14 : decode cX1_weeks 14 = .ok (.iconst 0, 1) := dk_3 (dk_at dksX1_weeks_0 14 rfl rfl)
theorem dX1_weeks_15 : decode cX1_weeks 15 = .ok (.istore_n 2, 1) := dk_61 (dk_at dksX1_weeks_0 15 rfl rfl)
theorem dX1_weeks_16 : decode cX1_weeks 16 = .ok (.iconst 0, 1) := dk_3 (dk_at dksX1_weeks_0 16 rfl rfl)
theorem dX1_weeks_17 : decode cX1_weeks 17 = .ok (.istore_n 3, 1) := dk_62 (dk_at dksX1_weeks_0 17 rfl rfl)
theorem dX1_weeks_18 : decode cX1_weeks 18 = .ok (.iload_n 3, 1) := dk_29 (dk_at dksX1_weeks_0 18 rfl rfl)
theorem dX1_weeks_19 : decode cX1_weeks 19 = .ok (.aload_n 0, 1) := dk_42 (dk_at dksX1_weeks_0 19 rfl rfl)
theorem dX1_weeks_20 : decode cX1_weeks 20 = .ok (.getfield 19, 3) := dk_180 0 19 (dk_at dksX1_weeks_0 20 rfl rfl)
theorem dX1_weeks_23 : decode cX1_weeks 23 = .ok (.getfield 96, 3) := dk_180 0 96 (dk_at dksX1_weeks_1 0 rfl rfl)
theorem dX1_weeks_26 : decode cX1_weeks 26 = .ok (.if_icmp .ge 96, 3) := dk_162 0 96 (dk_at dksX1_weeks_1 3 rfl rfl)
theorem dX1_weeks_29 : decode cX1_weeks 29 = .ok (.iconst 0, 1) := dk_3 (dk_at dksX1_weeks_1 6 rfl rfl)
theorem dX1_weeks_30 : decode cX1_weeks 30 = .ok (.istore 4, 2) := dk_54 4 (dk_at dksX1_weeks_1 7 rfl rfl)
theorem dX1_weeks_32 : decode cX1_weeks 32 = .ok (.iload 4, 2) := dk_21 4 (dk_at dksX1_weeks_1 9 rfl rfl)
theorem dX1_weeks_34 : decode cX1_weeks 34 = .ok (.aload_n 0, 1) := dk_42 (dk_at dksX1_weeks_1 11 rfl rfl)
theorem dX1_weeks_35 : decode cX1_weeks 35 = .ok (.getfield 19, 3) := dk_180 0 19 (dk_at dksX1_weeks_1 12 rfl rfl)
theorem dX1_weeks_38 : decode cX1_weeks 38 = .ok (.getfield 81, 3) := dk_180 0 81 (dk_at dksX1_weeks_1 15 rfl rfl)
theorem dX1_weeks_41 : decode cX1_weeks 41 = .ok (.if_icmp .ge 75, 3) := dk_162 0 75 (dk_at dksX1_weeks_1 18 rfl rfl)
theorem dX1_weeks_44 : decode cX1_weeks 44 = .ok (.bipush 99, 2) := dk_16 99 (dk_at dksX1_weeks_1 21 rfl rfl)
theorem dX1_weeks_46 : decode cX1_weeks 46 = .ok (.aload_n 0, 1) := dk_42 (dk_at dksX1_weeks_1 23 rfl rfl)
theorem dX1_weeks_47 : decode cX1_weeks 47 = .ok (.getfield 19, 3) := dk_180 0 19 (dk_at dksX1_weeks_2 0 rfl rfl)
theorem dX1_weeks_50 : decode cX1_weeks 50 = .ok (.iload_n 3, 1) := dk_29 (dk_at dksX1_weeks_2 3 rfl rfl)
theorem dX1_weeks_51 : decode cX1_weeks 51 = .ok (.iload 4, 2) := dk_21 4 (dk_at dksX1_weeks_2 4 rfl rfl)
theorem dX1_weeks_53 : decode cX1_weeks 53 = .ok (.invokevirtual 187, 3) := dk_182 0 187 (dk_at dksX1_weeks_2 6 rfl rfl)
theorem dX1_weeks_56 : decode cX1_weeks 56 = .ok (.iload_n 1, 1) := dk_27 (dk_at dksX1_weeks_2 9 rfl rfl)
theorem dX1_weeks_57 : decode cX1_weeks 57 = .ok (.aload_n 0, 1) := dk_42 (dk_at dksX1_weeks_2 10 rfl rfl)
theorem dX1_weeks_58 : decode cX1_weeks 58 = .ok (.getfield 19, 3) := dk_180 0 19 (dk_at dksX1_weeks_2 11 rfl rfl)
theorem dX1_weeks_61 : decode cX1_weeks 61 = .ok (.getfield 92, 3) := dk_180 0 92 (dk_at dksX1_weeks_2 14 rfl rfl)
theorem dX1_weeks_64 : decode cX1_weeks 64 = .ok (.iload 4, 2) := dk_21 4 (dk_at dksX1_weeks_2 17 rfl rfl)
theorem dX1_weeks_66 : decode cX1_weeks 66 = .ok (.aaload, 1) := dk_50 (dk_at dksX1_weeks_2 19 rfl rfl)
theorem dX1_weeks_67 : decode cX1_weeks 67 = .ok (.getfield 181, 3) := dk_180 0 181 (dk_at dksX1_weeks_2 20 rfl rfl)
theorem dX1_weeks_70 : decode cX1_weeks 70 = .ok (.imul, 1) := dk_104 (dk_at dksX1_weeks_2 23 rfl rfl)
theorem dX1_weeks_71 : decode cX1_weeks 71 = .ok (.iadd, 1) := dk_96 (dk_at dksX1_weeks_3 0 rfl rfl)
theorem dX1_weeks_72 : decode cX1_weeks 72 = .ok (.invokestatic 228, 3) := dk_184 0 228 (dk_at dksX1_weeks_3 1 rfl rfl)
theorem dX1_weeks_75 : decode cX1_weeks 75 = .ok (.istore 5, 2) := dk_54 5 (dk_at dksX1_weeks_3 4 rfl rfl)
theorem dX1_weeks_77 : decode cX1_weeks 77 = .ok (.iload_n 2, 1) := dk_28 (dk_at dksX1_weeks_3 6 rfl rfl)
theorem dX1_weeks_78 : decode cX1_weeks 78 = .ok (.iload 5, 2) := dk_21 5 (dk_at dksX1_weeks_3 7 rfl rfl)
theorem dX1_weeks_80 : decode cX1_weeks 80 = .ok (.aload_n 0, 1) := dk_42 (dk_at dksX1_weeks_3 9 rfl rfl)
theorem dX1_weeks_81 : decode cX1_weeks 81 = .ok (.getfield 19, 3) := dk_180 0 19 (dk_at dksX1_weeks_3 10 rfl rfl)
theorem dX1_weeks_84 : decode cX1_weeks 84 = .ok (.iload_n 3, 1) := dk_29 (dk_at dksX1_weeks_3 13 rfl rfl)
theorem dX1_weeks_85 : decode cX1_weeks 85 = .ok (.iload 4, 2) := dk_21 4 (dk_at dksX1_weeks_3 14 rfl rfl)
theorem dX1_weeks_87 : decode cX1_weeks 87 = .ok (.invokevirtual 187, 3) := dk_182 0 187 (dk_at dksX1_weeks_3 16 rfl rfl)
theorem dX1_weeks_90 : decode cX1_weeks 90 = .ok (.isub, 1) := dk_100 (dk_at dksX1_weeks_3 19 rfl rfl)
theorem dX1_weeks_91 : decode cX1_weeks 91 = .ok (.iadd, 1) := dk_96 (dk_at dksX1_weeks_3 20 rfl rfl)
theorem dX1_weeks_92 : decode cX1_weeks 92 = .ok (.istore_n 2, 1) := dk_61 (dk_at dksX1_weeks_3 21 rfl rfl)
theorem dX1_weeks_93 : decode cX1_weeks 93 = .ok (.aload_n 0, 1) := dk_42 (dk_at dksX1_weeks_3 22 rfl rfl)
theorem dX1_weeks_94 : decode cX1_weeks 94 = .ok (.getfield 19, 3) := dk_180 0 19 (dk_at dksX1_weeks_4 0 rfl rfl)
theorem dX1_weeks_97 : decode cX1_weeks 97 = .ok (.getfield 256, 3) := dk_180 1 0 (dk_at dksX1_weeks_4 3 rfl rfl)
theorem dX1_weeks_100 : decode cX1_weeks 100 = .ok (.bipush 6, 2) := dk_16 6 (dk_at dksX1_weeks_4 6 rfl rfl)
theorem dX1_weeks_102 : decode cX1_weeks 102 = .ok (.iload_n 3, 1) := dk_29 (dk_at dksX1_weeks_4 8 rfl rfl)
theorem dX1_weeks_103 : decode cX1_weeks 103 = .ok (.imul, 1) := dk_104 (dk_at dksX1_weeks_4 9 rfl rfl)
theorem dX1_weeks_104 : decode cX1_weeks 104 = .ok (.iload 4, 2) := dk_21 4 (dk_at dksX1_weeks_4 10 rfl rfl)
theorem dX1_weeks_106 : decode cX1_weeks 106 = .ok (.iadd, 1) := dk_96 (dk_at dksX1_weeks_4 12 rfl rfl)
theorem dX1_weeks_107 : decode cX1_weeks 107 = .ok (.iload 5, 2) := dk_21 5 (dk_at dksX1_weeks_4 13 rfl rfl)
theorem dX1_weeks_109 : decode cX1_weeks 109 = .ok (.iastore, 1) := dk_79 (dk_at dksX1_weeks_4 15 rfl rfl)
theorem dX1_weeks_110 : decode cX1_weeks 110 = .ok (.iinc 4 1, 3) := dk_132 4 1 (dk_at dksX1_weeks_4 16 rfl rfl)
theorem dX1_weeks_113 : decode cX1_weeks 113 = .ok (.goto (-81), 3) := dk_167 255 175 (dk_at dksX1_weeks_4 19 rfl rfl)
theorem dX1_weeks_116 : decode cX1_weeks 116 = .ok (.iinc 3 1, 3) := dk_132 3 1 (dk_at dksX1_weeks_5 0 rfl rfl)
theorem dX1_weeks_119 : decode cX1_weeks 119 = .ok (.goto (-101), 3) := dk_167 255 155 (dk_at dksX1_weeks_5 3 rfl rfl)
theorem dX1_weeks_122 : decode cX1_weeks 122 = .ok (.aload_n 0, 1) := dk_42 (dk_at dksX1_weeks_5 6 rfl rfl)
theorem dX1_weeks_123 : decode cX1_weeks 123 = .ok (.getfield 19, 3) := dk_180 0 19 (dk_at dksX1_weeks_5 7 rfl rfl)
theorem dX1_weeks_126 : decode cX1_weeks 126 = .ok (.sipush 9999, 3) := dk_17 39 15 (dk_at dksX1_weeks_5 10 rfl rfl)
theorem dX1_weeks_129 : decode cX1_weeks 129 = .ok (.aload_n 0, 1) := dk_42 (dk_at dksX1_weeks_5 13 rfl rfl)
theorem dX1_weeks_130 : decode cX1_weeks 130 = .ok (.getfield 19, 3) := dk_180 0 19 (dk_at dksX1_weeks_5 14 rfl rfl)
theorem dX1_weeks_133 : decode cX1_weeks 133 = .ok (.getfield 269, 3) := dk_180 1 13 (dk_at dksX1_weeks_5 17 rfl rfl)
theorem dX1_weeks_136 : decode cX1_weeks 136 = .ok (.iload_n 1, 1) := dk_27 (dk_at dksX1_weeks_5 20 rfl rfl)
theorem dX1_weeks_137 : decode cX1_weeks 137 = .ok (.iadd, 1) := dk_96 (dk_at dksX1_weeks_5 21 rfl rfl)
theorem dX1_weeks_138 : decode cX1_weeks 138 = .ok (.invokestatic 228, 3) := dk_184 0 228 (dk_at dksX1_weeks_6 0 rfl rfl)
theorem dX1_weeks_141 : decode cX1_weeks 141 = .ok (.putfield 269, 3) := dk_181 1 13 (dk_at dksX1_weeks_6 3 rfl rfl)
theorem dX1_weeks_144 : decode cX1_weeks 144 = .ok (.iload_n 2, 1) := dk_28 (dk_at dksX1_weeks_6 6 rfl rfl)
theorem dX1_weeks_145 : decode cX1_weeks 145 = .ok (.ireturn, 1) := dk_172 (dk_at dksX1_weeks_6 7 rfl rfl)
abbrev cX1_ways : ByteArray := prog_1_method_33_code
def yX1_ways : MethodName := ⟨RX1, "ways", "(II)I"⟩
def dkwX1_ways_3 : List UInt8 := [29, 100, 42, 180, 0, 35, 180, 1, 25, 100, 42, 180, 0, 35, 180, 1, 28, 100, 172]
abbrev dktX1_ways_3 : List UInt8 := dkwX1_ways_3 ++ []
def dkwX1_ways_2 : List UInt8 := [180, 1, 25, 167, 0, 39, 28, 5, 160, 0, 13, 42, 180, 0, 35, 180, 1, 28, 167, 0, 24, 17, 25, 161]
abbrev dktX1_ways_2 : List UInt8 := dkwX1_ways_2 ++ dktX1_ways_3
def dkwX1_ways_1 : List UInt8 := [180, 0, 35, 182, 1, 22, 62, 28, 154, 0, 7, 29, 167, 0, 54, 28, 4, 160, 0, 13, 42, 180, 0, 35]
abbrev dktX1_ways_1 : List UInt8 := dkwX1_ways_1 ++ dktX1_ways_2
def dkwX1_ways_0 : List UInt8 := [42, 27, 182, 0, 166, 87, 28, 3, 6, 184, 0, 84, 184, 1, 16, 42, 180, 0, 35, 27, 182, 1, 19, 42]
abbrev dktX1_ways_0 : List UInt8 := dkwX1_ways_0 ++ dktX1_ways_1
theorem dksX1_ways_0 : cX1_ways.data.toList.drop 0 = dktX1_ways_0 := by decide +kernel
theorem dksX1_ways_1 : cX1_ways.data.toList.drop 24 = dktX1_ways_1 := dk_seg dksX1_ways_0 24 rfl rfl
theorem dksX1_ways_2 : cX1_ways.data.toList.drop 48 = dktX1_ways_2 := dk_seg dksX1_ways_1 24 rfl rfl
theorem dksX1_ways_3 : cX1_ways.data.toList.drop 72 = dktX1_ways_3 := dk_seg dksX1_ways_2 24 rfl rfl
theorem dX1_ways_0 : decode cX1_ways 0 = .ok (.aload_n 0, 1) := dk_42 (dk_at dksX1_ways_0 0 rfl rfl)
theorem dX1_ways_1 : decode cX1_ways 1 = .ok (.iload_n 1, 1) := dk_27 (dk_at dksX1_ways_0 1 rfl rfl)
theorem dX1_ways_2 : decode cX1_ways 2 = .ok (.invokevirtual 166, 3) := dk_182 0 166 (dk_at dksX1_ways_0 2 rfl rfl)
theorem dX1_ways_5 : decode cX1_ways 5 = .ok (.pop, 1) := dk_87 (dk_at dksX1_ways_0 5 rfl rfl)
theorem dX1_ways_6 : decode cX1_ways 6 = .ok (.iload_n 2, 1) := dk_28 (dk_at dksX1_ways_0 6 rfl rfl)
theorem dX1_ways_7 : decode cX1_ways 7 = .ok (.iconst 0, 1) := dk_3 (dk_at dksX1_ways_0 7 rfl rfl)
theorem dX1_ways_8 : decode cX1_ways 8 = .ok (.iconst 3, 1) := dk_6 (dk_at dksX1_ways_0 8 rfl rfl)
theorem dX1_ways_9 : decode cX1_ways 9 = .ok (.invokestatic 84, 3) := dk_184 0 84 (dk_at dksX1_ways_0 9 rfl rfl)
theorem dX1_ways_12 : decode cX1_ways 12 = .ok (.invokestatic 272, 3) := dk_184 1 16 (dk_at dksX1_ways_0 12 rfl rfl)
theorem dX1_ways_15 : decode cX1_ways 15 = .ok (.aload_n 0, 1) := dk_42 (dk_at dksX1_ways_0 15 rfl rfl)
theorem dX1_ways_16 : decode cX1_ways 16 = .ok (.getfield 35, 3) := dk_180 0 35 (dk_at dksX1_ways_0 16 rfl rfl)
theorem dX1_ways_19 : decode cX1_ways 19 = .ok (.iload_n 1, 1) := dk_27 (dk_at dksX1_ways_0 19 rfl rfl)
theorem dX1_ways_20 : decode cX1_ways 20 = .ok (.invokevirtual 275, 3) := dk_182 1 19 (dk_at dksX1_ways_0 20 rfl rfl)
theorem dX1_ways_23 : decode cX1_ways 23 = .ok (.aload_n 0, 1) := dk_42 (dk_at dksX1_ways_0 23 rfl rfl)
theorem dX1_ways_24 : decode cX1_ways 24 = .ok (.getfield 35, 3) := dk_180 0 35 (dk_at dksX1_ways_1 0 rfl rfl)
theorem dX1_ways_27 : decode cX1_ways 27 = .ok (.invokevirtual 278, 3) := dk_182 1 22 (dk_at dksX1_ways_1 3 rfl rfl)
theorem dX1_ways_30 : decode cX1_ways 30 = .ok (.istore_n 3, 1) := dk_62 (dk_at dksX1_ways_1 6 rfl rfl)
theorem dX1_ways_31 : decode cX1_ways 31 = .ok (.iload_n 2, 1) := dk_28 (dk_at dksX1_ways_1 7 rfl rfl)
theorem dX1_ways_32 : decode cX1_ways 32 = .ok (.ifCond .ne 7, 3) := dk_154 0 7 (dk_at dksX1_ways_1 8 rfl rfl)
theorem dX1_ways_35 : decode cX1_ways 35 = .ok (.iload_n 3, 1) := dk_29 (dk_at dksX1_ways_1 11 rfl rfl)
theorem dX1_ways_36 : decode cX1_ways 36 = .ok (.goto 54, 3) := dk_167 0 54 (dk_at dksX1_ways_1 12 rfl rfl)
theorem dX1_ways_39 : decode cX1_ways 39 = .ok (.iload_n 2, 1) := dk_28 (dk_at dksX1_ways_1 15 rfl rfl)
theorem dX1_ways_40 : decode cX1_ways 40 = .ok (.iconst 1, 1) := dk_4 (dk_at dksX1_ways_1 16 rfl rfl)
theorem dX1_ways_41 : decode cX1_ways 41 = .ok (.if_icmp .ne 13, 3) := dk_160 0 13 (dk_at dksX1_ways_1 17 rfl rfl)
theorem dX1_ways_44 : decode cX1_ways 44 = .ok (.aload_n 0, 1) := dk_42 (dk_at dksX1_ways_1 20 rfl rfl)
theorem dX1_ways_45 : decode cX1_ways 45 = .ok (.getfield 35, 3) := dk_180 0 35 (dk_at dksX1_ways_1 21 rfl rfl)
theorem dX1_ways_48 : decode cX1_ways 48 = .ok (.getfield 281, 3) := dk_180 1 25 (dk_at dksX1_ways_2 0 rfl rfl)
theorem dX1_ways_51 : decode cX1_ways 51 = .ok (.goto 39, 3) := dk_167 0 39 (dk_at dksX1_ways_2 3 rfl rfl)
theorem dX1_ways_54 : decode cX1_ways 54 = .ok (.iload_n 2, 1) := dk_28 (dk_at dksX1_ways_2 6 rfl rfl)
theorem dX1_ways_55 : decode cX1_ways 55 = .ok (.iconst 2, 1) := dk_5 (dk_at dksX1_ways_2 7 rfl rfl)
theorem dX1_ways_56 : decode cX1_ways 56 = .ok (.if_icmp .ne 13, 3) := dk_160 0 13 (dk_at dksX1_ways_2 8 rfl rfl)
theorem dX1_ways_59 : decode cX1_ways 59 = .ok (.aload_n 0, 1) := dk_42 (dk_at dksX1_ways_2 11 rfl rfl)
theorem dX1_ways_60 : decode cX1_ways 60 = .ok (.getfield 35, 3) := dk_180 0 35 (dk_at dksX1_ways_2 12 rfl rfl)
theorem dX1_ways_63 : decode cX1_ways 63 = .ok (.getfield 284, 3) := dk_180 1 28 (dk_at dksX1_ways_2 15 rfl rfl)
theorem dX1_ways_66 : decode cX1_ways 66 = .ok (.goto 24, 3) := dk_167 0 24 (dk_at dksX1_ways_2 18 rfl rfl)
theorem dX1_ways_69 : decode cX1_ways 69 = .ok (.sipush 6561, 3) := dk_17 25 161 (dk_at dksX1_ways_2 21 rfl rfl)
theorem dX1_ways_72 : decode cX1_ways 72 = .ok (.iload_n 3, 1) := dk_29 (dk_at dksX1_ways_3 0 rfl rfl)
theorem dX1_ways_73 : decode cX1_ways 73 = .ok (.isub, 1) := dk_100 (dk_at dksX1_ways_3 1 rfl rfl)
theorem dX1_ways_74 : decode cX1_ways 74 = .ok (.aload_n 0, 1) := dk_42 (dk_at dksX1_ways_3 2 rfl rfl)
theorem dX1_ways_75 : decode cX1_ways 75 = .ok (.getfield 35, 3) := dk_180 0 35 (dk_at dksX1_ways_3 3 rfl rfl)
theorem dX1_ways_78 : decode cX1_ways 78 = .ok (.getfield 281, 3) := dk_180 1 25 (dk_at dksX1_ways_3 6 rfl rfl)
theorem dX1_ways_81 : decode cX1_ways 81 = .ok (.isub, 1) := dk_100 (dk_at dksX1_ways_3 9 rfl rfl)
theorem dX1_ways_82 : decode cX1_ways 82 = .ok (.aload_n 0, 1) := dk_42 (dk_at dksX1_ways_3 10 rfl rfl)
theorem dX1_ways_83 : decode cX1_ways 83 = .ok (.getfield 35, 3) := dk_180 0 35 (dk_at dksX1_ways_3 11 rfl rfl)
theorem dX1_ways_86 : decode cX1_ways 86 = .ok (.getfield 284, 3) := dk_180 1 28 (dk_at dksX1_ways_3 14 rfl rfl)
theorem dX1_ways_89 : decode cX1_ways 89 = .ok (.isub, 1) := dk_100 (dk_at dksX1_ways_3 17 rfl rfl)
theorem dX1_ways_90 : decode cX1_ways 90 = .ok (.ireturn, 1) := dk_172 (dk_at dksX1_ways_3 18 rfl rfl)
abbrev cX1_thereIs : ByteArray := prog_1_method_5_code
def yX1_thereIs : MethodName := ⟨RX1, "thereIs", "(Z)V"⟩
def dkwX1_thereIs_0 : List UInt8 := [26, 154, 0, 11, 187, 0, 75, 89, 183, 0, 77, 191, 177]
abbrev dktX1_thereIs_0 : List UInt8 := dkwX1_thereIs_0 ++ []
theorem dksX1_thereIs_0 : cX1_thereIs.data.toList.drop 0 = dktX1_thereIs_0 := by decide +kernel
theorem dX1_thereIs_0 : decode cX1_thereIs 0 = .ok (.iload_n 0, 1) := dk_26 (dk_at dksX1_thereIs_0 0 rfl rfl)
theorem dX1_thereIs_1 : decode cX1_thereIs 1 = .ok (.ifCond .ne 11, 3) := dk_154 0 11 (dk_at dksX1_thereIs_0 1 rfl rfl)
theorem dX1_thereIs_4 : decode cX1_thereIs 4 = .ok (.new 75, 3) := dk_187 0 75 (dk_at dksX1_thereIs_0 4 rfl rfl)
theorem dX1_thereIs_7 : decode cX1_thereIs 7 = .ok (.dup, 1) := dk_89 (dk_at dksX1_thereIs_0 7 rfl rfl)
theorem dX1_thereIs_8 : decode cX1_thereIs 8 = .ok (.invokespecial 77, 3) := dk_183 0 77 (dk_at dksX1_thereIs_0 8 rfl rfl)
theorem dX1_thereIs_11 : decode cX1_thereIs 11 = .ok (.athrow, 1) := dk_191 (dk_at dksX1_thereIs_0 11 rfl rfl)
theorem dX1_thereIs_12 : decode cX1_thereIs 12 = .ok (.return_, 1) := dk_177 (dk_at dksX1_thereIs_0 12 rfl rfl)
abbrev cX1_lands : ByteArray := prog_1_method_34_code
def yX1_lands : MethodName := ⟨RX1, "lands", "(II)I"⟩
def dkwX1_lands_1 : List UInt8 := [42, 180, 0, 35, 180, 1, 31, 28, 46, 172]
abbrev dktX1_lands_1 : List UInt8 := dkwX1_lands_1 ++ []
def dkwX1_lands_0 : List UInt8 := [42, 27, 182, 0, 166, 87, 28, 3, 16, 15, 184, 0, 84, 184, 0, 88, 42, 180, 0, 35, 27, 182, 1, 19]
abbrev dktX1_lands_0 : List UInt8 := dkwX1_lands_0 ++ dktX1_lands_1
theorem dksX1_lands_0 : cX1_lands.data.toList.drop 0 = dktX1_lands_0 := by decide +kernel
theorem dksX1_lands_1 : cX1_lands.data.toList.drop 24 = dktX1_lands_1 := dk_seg dksX1_lands_0 24 rfl rfl
theorem dX1_lands_0 : decode cX1_lands 0 = .ok (.aload_n 0, 1) := dk_42 (dk_at dksX1_lands_0 0 rfl rfl)
theorem dX1_lands_1 : decode cX1_lands 1 = .ok (.iload_n 1, 1) := dk_27 (dk_at dksX1_lands_0 1 rfl rfl)
theorem dX1_lands_2 : decode cX1_lands 2 = .ok (.invokevirtual 166, 3) := dk_182 0 166 (dk_at dksX1_lands_0 2 rfl rfl)
theorem dX1_lands_5 : decode cX1_lands 5 = .ok (.pop, 1) := dk_87 (dk_at dksX1_lands_0 5 rfl rfl)
theorem dX1_lands_6 : decode cX1_lands 6 = .ok (.iload_n 2, 1) := dk_28 (dk_at dksX1_lands_0 6 rfl rfl)
theorem dX1_lands_7 : decode cX1_lands 7 = .ok (.iconst 0, 1) := dk_3 (dk_at dksX1_lands_0 7 rfl rfl)
theorem dX1_lands_8 : decode cX1_lands 8 = .ok (.bipush 15, 2) := dk_16 15 (dk_at dksX1_lands_0 8 rfl rfl)
theorem dX1_lands_10 : decode cX1_lands 10 = .ok (.invokestatic 84, 3) := dk_184 0 84 (dk_at dksX1_lands_0 10 rfl rfl)
theorem dX1_lands_13 : decode cX1_lands 13 = .ok (.invokestatic 88, 3) := dk_184 0 88 (dk_at dksX1_lands_0 13 rfl rfl)
theorem dX1_lands_16 : decode cX1_lands 16 = .ok (.aload_n 0, 1) := dk_42 (dk_at dksX1_lands_0 16 rfl rfl)
theorem dX1_lands_17 : decode cX1_lands 17 = .ok (.getfield 35, 3) := dk_180 0 35 (dk_at dksX1_lands_0 17 rfl rfl)
theorem dX1_lands_20 : decode cX1_lands 20 = .ok (.iload_n 1, 1) := dk_27 (dk_at dksX1_lands_0 20 rfl rfl)
theorem dX1_lands_21 : decode cX1_lands 21 = .ok (.invokevirtual 275, 3) := dk_182 1 19 (dk_at dksX1_lands_0 21 rfl rfl)
theorem dX1_lands_24 : decode cX1_lands 24 = .ok (.aload_n 0, 1) := dk_42 (dk_at dksX1_lands_1 0 rfl rfl)
theorem dX1_lands_25 : decode cX1_lands 25 = .ok (.getfield 35, 3) := dk_180 0 35 (dk_at dksX1_lands_1 1 rfl rfl)
theorem dX1_lands_28 : decode cX1_lands 28 = .ok (.getfield 287, 3) := dk_180 1 31 (dk_at dksX1_lands_1 4 rfl rfl)
theorem dX1_lands_31 : decode cX1_lands 31 = .ok (.iload_n 2, 1) := dk_28 (dk_at dksX1_lands_1 7 rfl rfl)
theorem dX1_lands_32 : decode cX1_lands 32 = .ok (.iaload, 1) := dk_46 (dk_at dksX1_lands_1 8 rfl rfl)
theorem dX1_lands_33 : decode cX1_lands 33 = .ok (.ireturn, 1) := dk_172 (dk_at dksX1_lands_1 9 rfl rfl)
abbrev cX1_good : ByteArray := prog_1_method_35_code
def yX1_good : MethodName := ⟨RX1, "good", "(II)I"⟩
def dkwX1_good_1 : List UInt8 := [42, 180, 0, 35, 180, 1, 34, 28, 46, 172]
abbrev dktX1_good_1 : List UInt8 := dkwX1_good_1 ++ []
def dkwX1_good_0 : List UInt8 := [42, 27, 182, 0, 166, 87, 28, 4, 16, 8, 184, 0, 84, 184, 0, 215, 42, 180, 0, 35, 27, 182, 1, 19]
abbrev dktX1_good_0 : List UInt8 := dkwX1_good_0 ++ dktX1_good_1
theorem dksX1_good_0 : cX1_good.data.toList.drop 0 = dktX1_good_0 := by decide +kernel
theorem dksX1_good_1 : cX1_good.data.toList.drop 24 = dktX1_good_1 := dk_seg dksX1_good_0 24 rfl rfl
theorem dX1_good_0 : decode cX1_good 0 = .ok (.aload_n 0, 1) := dk_42 (dk_at dksX1_good_0 0 rfl rfl)
theorem dX1_good_1 : decode cX1_good 1 = .ok (.iload_n 1, 1) := dk_27 (dk_at dksX1_good_0 1 rfl rfl)
theorem dX1_good_2 : decode cX1_good 2 = .ok (.invokevirtual 166, 3) := dk_182 0 166 (dk_at dksX1_good_0 2 rfl rfl)
theorem dX1_good_5 : decode cX1_good 5 = .ok (.pop, 1) := dk_87 (dk_at dksX1_good_0 5 rfl rfl)
theorem dX1_good_6 : decode cX1_good 6 = .ok (.iload_n 2, 1) := dk_28 (dk_at dksX1_good_0 6 rfl rfl)
theorem dX1_good_7 : decode cX1_good 7 = .ok (.iconst 1, 1) := dk_4 (dk_at dksX1_good_0 7 rfl rfl)
theorem dX1_good_8 : decode cX1_good 8 = .ok (.bipush 8, 2) := dk_16 8 (dk_at dksX1_good_0 8 rfl rfl)
theorem dX1_good_10 : decode cX1_good 10 = .ok (.invokestatic 84, 3) := dk_184 0 84 (dk_at dksX1_good_0 10 rfl rfl)
theorem dX1_good_13 : decode cX1_good 13 = .ok (.invokestatic 215, 3) := dk_184 0 215 (dk_at dksX1_good_0 13 rfl rfl)
theorem dX1_good_16 : decode cX1_good 16 = .ok (.aload_n 0, 1) := dk_42 (dk_at dksX1_good_0 16 rfl rfl)
theorem dX1_good_17 : decode cX1_good 17 = .ok (.getfield 35, 3) := dk_180 0 35 (dk_at dksX1_good_0 17 rfl rfl)
theorem dX1_good_20 : decode cX1_good 20 = .ok (.iload_n 1, 1) := dk_27 (dk_at dksX1_good_0 20 rfl rfl)
theorem dX1_good_21 : decode cX1_good 21 = .ok (.invokevirtual 275, 3) := dk_182 1 19 (dk_at dksX1_good_0 21 rfl rfl)
theorem dX1_good_24 : decode cX1_good 24 = .ok (.aload_n 0, 1) := dk_42 (dk_at dksX1_good_1 0 rfl rfl)
theorem dX1_good_25 : decode cX1_good 25 = .ok (.getfield 35, 3) := dk_180 0 35 (dk_at dksX1_good_1 1 rfl rfl)
theorem dX1_good_28 : decode cX1_good 28 = .ok (.getfield 290, 3) := dk_180 1 34 (dk_at dksX1_good_1 4 rfl rfl)
theorem dX1_good_31 : decode cX1_good 31 = .ok (.iload_n 2, 1) := dk_28 (dk_at dksX1_good_1 7 rfl rfl)
theorem dX1_good_32 : decode cX1_good 32 = .ok (.iaload, 1) := dk_46 (dk_at dksX1_good_1 8 rfl rfl)
theorem dX1_good_33 : decode cX1_good 33 = .ok (.ireturn, 1) := dk_172 (dk_at dksX1_good_1 9 rfl rfl)
abbrev cX1_straight : ByteArray := prog_1_method_36_code
def yX1_straight : MethodName := ⟨RX1, "straight", "(IZ)I"⟩
def dkwX1_straight_4 : List UInt8 := [96, 167, 0, 5, 21, 4, 172, 132, 5, 1, 167, 255, 177, 2, 172]
abbrev dktX1_straight_4 : List UInt8 := dkwX1_straight_4 ++ []
def dkwX1_straight_3 : List UInt8 := [21, 4, 3, 16, 15, 184, 0, 84, 154, 0, 5, 2, 172, 29, 157, 0, 17, 28, 153, 0, 10, 21, 5, 4]
abbrev dktX1_straight_3 : List UInt8 := dkwX1_straight_3 ++ dktX1_straight_4
def dkwX1_straight_2 : List UInt8 := [21, 4, 42, 180, 0, 19, 27, 29, 21, 4, 21, 5, 182, 0, 218, 96, 54, 4, 29, 21, 6, 100, 62]
abbrev dktX1_straight_2 : List UInt8 := dkwX1_straight_2 ++ dktX1_straight_3
def dkwX1_straight_1 : List UInt8 := [54, 5, 21, 5, 16, 8, 162, 0, 78, 42, 180, 0, 19, 27, 29, 21, 4, 21, 5, 182, 0, 222, 54, 6]
abbrev dktX1_straight_1 : List UInt8 := dkwX1_straight_1 ++ dktX1_straight_2
def dkwX1_straight_0 : List UInt8 := [42, 27, 182, 0, 166, 87, 42, 180, 0, 19, 180, 0, 240, 62, 42, 180, 0, 19, 180, 0, 243, 54, 4, 3]
abbrev dktX1_straight_0 : List UInt8 := dkwX1_straight_0 ++ dktX1_straight_1
theorem dksX1_straight_0 : cX1_straight.data.toList.drop 0 = dktX1_straight_0 := by decide +kernel
theorem dksX1_straight_1 : cX1_straight.data.toList.drop 24 = dktX1_straight_1 := dk_seg dksX1_straight_0 24 rfl rfl
theorem dksX1_straight_2 : cX1_straight.data.toList.drop 48 = dktX1_straight_2 := dk_seg dksX1_straight_1 24 rfl rfl
theorem dksX1_straight_3 : cX1_straight.data.toList.drop 71 = dktX1_straight_3 := dk_seg dksX1_straight_2 23 rfl rfl
theorem dksX1_straight_4 : cX1_straight.data.toList.drop 95 = dktX1_straight_4 := dk_seg dksX1_straight_3 24 rfl rfl
theorem dX1_straight_0 : decode cX1_straight 0 = .ok (.aload_n 0, 1) := dk_42 (dk_at dksX1_straight_0 0 rfl rfl)
theorem dX1_straight_1 : decode cX1_straight 1 = .ok (.iload_n 1, 1) := dk_27 (dk_at dksX1_straight_0 1 rfl rfl)
theorem dX1_straight_2 : decode cX1_straight 2 = .ok (.invokevirtual 166, 3) := dk_182 0 166 (dk_at dksX1_straight_0 2 rfl rfl)
theorem dX1_straight_5 : decode cX1_straight 5 = .ok (.pop, 1) := dk_87 (dk_at dksX1_straight_0 5 rfl rfl)
theorem dX1_straight_6 : decode cX1_straight 6 = .ok (.aload_n 0, 1) := dk_42 (dk_at dksX1_straight_0 6 rfl rfl)
theorem dX1_straight_7 : decode cX1_straight 7 = .ok (.getfield 19, 3) := dk_180 0 19 (dk_at dksX1_straight_0 7 rfl rfl)
theorem dX1_straight_10 : decode cX1_straight 10 = .ok (.getfield 240, 3) := dk_180 0 240 (dk_at dksX1_straight_0 10 rfl rfl)
theorem dX1_straight_13 : decode cX1_straight 13 = .ok (.istore_n 3, 1) := dk_62 (dk_at dksX1_straight_0 13 rfl rfl)
theorem dX1_straight_14 : decode cX1_straight 14 = .ok (.aload_n 0, 1) := dk_42 (dk_at dksX1_straight_0 14 rfl rfl)
theorem dX1_straight_15 : decode cX1_straight 15 = .ok (.getfield 19, 3) := dk_180 0 19 (dk_at dksX1_straight_0 15 rfl rfl)
theorem dX1_straight_18 : decode cX1_straight 18 = .ok (.getfield 243, 3) := dk_180 0 243 (dk_at dksX1_straight_0 18 rfl rfl)
theorem dX1_straight_21 : decode cX1_straight 21 = .ok (.istore 4, 2) := dk_54 4 (dk_at dksX1_straight_0 21 rfl rfl)
theorem dX1_straight_23 : decode cX1_straight 23 = .ok (.iconst 0, 1) := dk_3 (dk_at dksX1_straight_0 23 rfl rfl)
theorem dX1_straight_24 : decode cX1_straight 24 = .ok (.istore 5, 2) := dk_54 5 (dk_at dksX1_straight_1 0 rfl rfl)
theorem dX1_straight_26 : decode cX1_straight 26 = .ok (.iload 5, 2) := dk_21 5 (dk_at dksX1_straight_1 2 rfl rfl)
theorem dX1_straight_28 : decode cX1_straight 28 = .ok (.bipush 8, 2) := dk_16 8 (dk_at dksX1_straight_1 4 rfl rfl)
theorem dX1_straight_30 : decode cX1_straight 30 = .ok (.if_icmp .ge 78, 3) := dk_162 0 78 (dk_at dksX1_straight_1 6 rfl rfl)
theorem dX1_straight_33 : decode cX1_straight 33 = .ok (.aload_n 0, 1) := dk_42 (dk_at dksX1_straight_1 9 rfl rfl)
theorem dX1_straight_34 : decode cX1_straight 34 = .ok (.getfield 19, 3) := dk_180 0 19 (dk_at dksX1_straight_1 10 rfl rfl)
theorem dX1_straight_37 : decode cX1_straight 37 = .ok (.iload_n 1, 1) := dk_27 (dk_at dksX1_straight_1 13 rfl rfl)
theorem dX1_straight_38 : decode cX1_straight 38 = .ok (.iload_n 3, 1) := dk_29 (dk_at dksX1_straight_1 14 rfl rfl)
theorem dX1_straight_39 : decode cX1_straight 39 = .ok (.iload 4, 2) := dk_21 4 (dk_at dksX1_straight_1 15 rfl rfl)
theorem dX1_straight_41 : decode cX1_straight 41 = .ok (.iload 5, 2) := dk_21 5 (dk_at dksX1_straight_1 17 rfl rfl)
theorem dX1_straight_43 : decode cX1_straight 43 = .ok (.invokevirtual 222, 3) := dk_182 0 222 (dk_at dksX1_straight_1 19 rfl rfl)
theorem dX1_straight_46 : decode cX1_straight 46 = .ok (.istore 6, 2) := dk_54 6 (dk_at dksX1_straight_1 22 rfl rfl)
theorem dX1_straight_48 : decode cX1_straight 48 = .ok (.iload 4, 2) := dk_21 4 (dk_at dksX1_straight_2 0 rfl rfl)
theorem dX1_straight_50 : decode cX1_straight 50 = .ok (.aload_n 0, 1) := dk_42 (dk_at dksX1_straight_2 2 rfl rfl)
theorem dX1_straight_51 : decode cX1_straight 51 = .ok (.getfield 19, 3) := dk_180 0 19 (dk_at dksX1_straight_2 3 rfl rfl)
theorem dX1_straight_54 : decode cX1_straight 54 = .ok (.iload_n 1, 1) := dk_27 (dk_at dksX1_straight_2 6 rfl rfl)
theorem dX1_straight_55 : decode cX1_straight 55 = .ok (.iload_n 3, 1) := dk_29 (dk_at dksX1_straight_2 7 rfl rfl)
theorem dX1_straight_56 : decode cX1_straight 56 = .ok (.iload 4, 2) := dk_21 4 (dk_at dksX1_straight_2 8 rfl rfl)
theorem dX1_straight_58 : decode cX1_straight 58 = .ok (.iload 5, 2) := dk_21 5 (dk_at dksX1_straight_2 10 rfl rfl)
theorem dX1_straight_60 : decode cX1_straight 60 = .ok (.invokevirtual 218, 3) := dk_182 0 218 (dk_at dksX1_straight_2 12 rfl rfl)
theorem dX1_straight_63 : decode cX1_straight 63 = .ok (.iadd, 1) := dk_96 (dk_at dksX1_straight_2 15 rfl rfl)
theorem dX1_straight_64 : decode cX1_straight 64 = .ok (.istore 4, 2) := dk_54 4 (dk_at dksX1_straight_2 16 rfl rfl)
theorem dX1_straight_66 : decode cX1_straight 66 = .ok (.iload_n 3, 1) := dk_29 (dk_at dksX1_straight_2 18 rfl rfl)
theorem dX1_straight_67 : decode cX1_straight 67 = .ok (.iload 6, 2) := dk_21 6 (dk_at dksX1_straight_2 19 rfl rfl)
theorem dX1_straight_69 : decode cX1_straight 69 = .ok (.isub, 1) := dk_100 (dk_at dksX1_straight_2 21 rfl rfl)
theorem dX1_straight_70 : decode cX1_straight 70 = .ok (.istore_n 3, 1) := dk_62 (dk_at dksX1_straight_2 22 rfl rfl)
theorem dX1_straight_71 : decode cX1_straight 71 = .ok (.iload 4, 2) := dk_21 4 (dk_at dksX1_straight_3 0 rfl rfl)
theorem dX1_straight_73 : decode cX1_straight 73 = .ok (.iconst 0, 1) := dk_3 (dk_at dksX1_straight_3 2 rfl rfl)
theorem dX1_straight_74 : decode cX1_straight 74 = .ok (.bipush 15, 2) := dk_16 15 (dk_at dksX1_straight_3 3 rfl rfl)
theorem dX1_straight_76 : decode cX1_straight 76 = .ok (.invokestatic 84, 3) := dk_184 0 84 (dk_at dksX1_straight_3 5 rfl rfl)
theorem dX1_straight_79 : decode cX1_straight 79 = .ok (.ifCond .ne 5, 3) := dk_154 0 5 (dk_at dksX1_straight_3 8 rfl rfl)
theorem dX1_straight_82 : decode cX1_straight 82 = .ok (.iconst (-1), 1) := dk_2 (dk_at dksX1_straight_3 11 rfl rfl)
theorem dX1_straight_83 : decode cX1_straight 83 = .ok (.ireturn, 1) := dk_172 (dk_at dksX1_straight_3 12 rfl rfl)
theorem dX1_straight_84 : decode cX1_straight 84 = .ok (.iload_n 3, 1) := dk_29 (dk_at dksX1_straight_3 13 rfl rfl)
theorem dX1_straight_85 : decode cX1_straight 85 = .ok (.ifCond .gt 17, 3) := dk_157 0 17 (dk_at dksX1_straight_3 14 rfl rfl)
theorem dX1_straight_88 : decode cX1_straight 88 = .ok (.iload_n 2, 1) := dk_28 (dk_at dksX1_straight_3 17 rfl rfl)
theorem dX1_straight_89 : decode cX1_straight 89 = .ok (.ifCond .eq 10, 3) := dk_153 0 10 (dk_at dksX1_straight_3 18 rfl rfl)
theorem dX1_straight_92 : decode cX1_straight 92 = .ok (.iload 5, 2) := dk_21 5 (dk_at dksX1_straight_3 21 rfl rfl)
theorem dX1_straight_94 : decode cX1_straight 94 = .ok (.iconst 1, 1) := dk_4 (dk_at dksX1_straight_3 23 rfl rfl)
theorem dX1_straight_95 : decode cX1_straight 95 = .ok (.iadd, 1) := dk_96 (dk_at dksX1_straight_4 0 rfl rfl)
theorem dX1_straight_96 : decode cX1_straight 96 = .ok (.goto 5, 3) := dk_167 0 5 (dk_at dksX1_straight_4 1 rfl rfl)
theorem dX1_straight_99 : decode cX1_straight 99 = .ok (.iload 4, 2) := dk_21 4 (dk_at dksX1_straight_4 4 rfl rfl)
theorem dX1_straight_101 : decode cX1_straight 101 = .ok (.ireturn, 1) := dk_172 (dk_at dksX1_straight_4 6 rfl rfl)
theorem dX1_straight_102 : decode cX1_straight 102 = .ok (.iinc 5 1, 3) := dk_132 5 1 (dk_at dksX1_straight_4 7 rfl rfl)
theorem dX1_straight_105 : decode cX1_straight 105 = .ok (.goto (-79), 3) := dk_167 255 177 (dk_at dksX1_straight_4 10 rfl rfl)
theorem dX1_straight_108 : decode cX1_straight 108 = .ok (.iconst (-1), 1) := dk_2 (dk_at dksX1_straight_4 13 rfl rfl)
theorem dX1_straight_109 : decode cX1_straight 109 = .ok (.ireturn, 1) := dk_172 (dk_at dksX1_straight_4 14 rfl rfl)
abbrev cX1_odds : ByteArray := prog_1_method_39_code
def yX1_odds : MethodName := ⟨RX1, "odds", "(III)I"⟩
def dkwX1_odds_5 : List UInt8 := [182, 1, 22, 100, 17, 25, 161, 42, 180, 0, 39, 182, 1, 22, 100, 104, 172]
abbrev dktX1_odds_5 : List UInt8 := dkwX1_odds_5 ++ []
def dkwX1_odds_4 : List UInt8 := [132, 6, 1, 167, 255, 220, 29, 5, 160, 0, 8, 21, 5, 167, 0, 26, 17, 25, 161, 42, 180, 0, 35]
abbrev dktX1_odds_4 : List UInt8 := dkwX1_odds_4 ++ dktX1_odds_5
def dkwX1_odds_3 : List UInt8 := [180, 0, 35, 180, 1, 34, 21, 6, 46, 42, 180, 0, 39, 180, 1, 34, 21, 6, 46, 104, 96, 54, 5]
abbrev dktX1_odds_3 : List UInt8 := dkwX1_odds_3 ++ dktX1_odds_4
def dkwX1_odds_2 : List UInt8 := [180, 0, 35, 182, 1, 36, 172, 3, 54, 5, 4, 54, 6, 21, 6, 16, 8, 163, 0, 35, 21, 5, 42]
abbrev dktX1_odds_2 : List UInt8 := dkwX1_odds_2 ++ dktX1_odds_3
def dkwX1_odds_1 : List UInt8 := [182, 1, 40, 54, 4, 29, 154, 0, 6, 21, 4, 172, 29, 4, 160, 0, 16, 42, 42, 180, 0, 39, 42]
abbrev dktX1_odds_1 : List UInt8 := dkwX1_odds_1 ++ dktX1_odds_2
def dkwX1_odds_0 : List UInt8 := [42, 27, 182, 0, 166, 87, 42, 28, 182, 0, 166, 87, 29, 3, 6, 184, 0, 84, 184, 1, 16, 42, 27, 28]
abbrev dktX1_odds_0 : List UInt8 := dkwX1_odds_0 ++ dktX1_odds_1
theorem dksX1_odds_0 : cX1_odds.data.toList.drop 0 = dktX1_odds_0 := by decide +kernel
theorem dksX1_odds_1 : cX1_odds.data.toList.drop 24 = dktX1_odds_1 := dk_seg dksX1_odds_0 24 rfl rfl
theorem dksX1_odds_2 : cX1_odds.data.toList.drop 47 = dktX1_odds_2 := dk_seg dksX1_odds_1 23 rfl rfl
theorem dksX1_odds_3 : cX1_odds.data.toList.drop 70 = dktX1_odds_3 := dk_seg dksX1_odds_2 23 rfl rfl
theorem dksX1_odds_4 : cX1_odds.data.toList.drop 93 = dktX1_odds_4 := dk_seg dksX1_odds_3 23 rfl rfl
theorem dksX1_odds_5 : cX1_odds.data.toList.drop 116 = dktX1_odds_5 := dk_seg dksX1_odds_4 23 rfl rfl
theorem dX1_odds_0 : decode cX1_odds 0 = .ok (.aload_n 0, 1) := dk_42 (dk_at dksX1_odds_0 0 rfl rfl)
theorem dX1_odds_1 : decode cX1_odds 1 = .ok (.iload_n 1, 1) := dk_27 (dk_at dksX1_odds_0 1 rfl rfl)
theorem dX1_odds_2 : decode cX1_odds 2 = .ok (.invokevirtual 166, 3) := dk_182 0 166 (dk_at dksX1_odds_0 2 rfl rfl)
theorem dX1_odds_5 : decode cX1_odds 5 = .ok (.pop, 1) := dk_87 (dk_at dksX1_odds_0 5 rfl rfl)
theorem dX1_odds_6 : decode cX1_odds 6 = .ok (.aload_n 0, 1) := dk_42 (dk_at dksX1_odds_0 6 rfl rfl)
theorem dX1_odds_7 : decode cX1_odds 7 = .ok (.iload_n 2, 1) := dk_28 (dk_at dksX1_odds_0 7 rfl rfl)
theorem dX1_odds_8 : decode cX1_odds 8 = .ok (.invokevirtual 166, 3) := dk_182 0 166 (dk_at dksX1_odds_0 8 rfl rfl)
theorem dX1_odds_11 : decode cX1_odds 11 = .ok (.pop, 1) := dk_87 (dk_at dksX1_odds_0 11 rfl rfl)
theorem dX1_odds_12 : decode cX1_odds 12 = .ok (.iload_n 3, 1) := dk_29 (dk_at dksX1_odds_0 12 rfl rfl)
theorem dX1_odds_13 : decode cX1_odds 13 = .ok (.iconst 0, 1) := dk_3 (dk_at dksX1_odds_0 13 rfl rfl)
theorem dX1_odds_14 : decode cX1_odds 14 = .ok (.iconst 3, 1) := dk_6 (dk_at dksX1_odds_0 14 rfl rfl)
theorem dX1_odds_15 : decode cX1_odds 15 = .ok (.invokestatic 84, 3) := dk_184 0 84 (dk_at dksX1_odds_0 15 rfl rfl)
theorem dX1_odds_18 : decode cX1_odds 18 = .ok (.invokestatic 272, 3) := dk_184 1 16 (dk_at dksX1_odds_0 18 rfl rfl)
theorem dX1_odds_21 : decode cX1_odds 21 = .ok (.aload_n 0, 1) := dk_42 (dk_at dksX1_odds_0 21 rfl rfl)
theorem dX1_odds_22 : decode cX1_odds 22 = .ok (.iload_n 1, 1) := dk_27 (dk_at dksX1_odds_0 22 rfl rfl)
theorem dX1_odds_23 : decode cX1_odds 23 = .ok (.iload_n 2, 1) := dk_28 (dk_at dksX1_odds_0 23 rfl rfl)
theorem dX1_odds_24 : decode cX1_odds 24 = .ok (.invokevirtual 296, 3) := dk_182 1 40 (dk_at dksX1_odds_1 0 rfl rfl)
theorem dX1_odds_27 : decode cX1_odds 27 = .ok (.istore 4, 2) := dk_54 4 (dk_at dksX1_odds_1 3 rfl rfl)
theorem dX1_odds_29 : decode cX1_odds 29 = .ok (.iload_n 3, 1) := dk_29 (dk_at dksX1_odds_1 5 rfl rfl)
theorem dX1_odds_30 : decode cX1_odds 30 = .ok (.ifCond .ne 6, 3) := dk_154 0 6 (dk_at dksX1_odds_1 6 rfl rfl)
theorem dX1_odds_33 : decode cX1_odds 33 = .ok (.iload 4, 2) := dk_21 4 (dk_at dksX1_odds_1 9 rfl rfl)
theorem dX1_odds_35 : decode cX1_odds 35 = .ok (.ireturn, 1) := dk_172 (dk_at dksX1_odds_1 11 rfl rfl)
theorem dX1_odds_36 : decode cX1_odds 36 = .ok (.iload_n 3, 1) := dk_29 (dk_at dksX1_odds_1 12 rfl rfl)
theorem dX1_odds_37 : decode cX1_odds 37 = .ok (.iconst 1, 1) := dk_4 (dk_at dksX1_odds_1 13 rfl rfl)
theorem dX1_odds_38 : decode cX1_odds 38 = .ok (.if_icmp .ne 16, 3) := dk_160 0 16 (dk_at dksX1_odds_1 14 rfl rfl)
theorem dX1_odds_41 : decode cX1_odds 41 = .ok (.aload_n 0, 1) := dk_42 (dk_at dksX1_odds_1 17 rfl rfl)
theorem dX1_odds_42 : decode cX1_odds 42 = .ok (.aload_n 0, 1) := dk_42 (dk_at dksX1_odds_1 18 rfl rfl)
theorem dX1_odds_43 : decode cX1_odds 43 = .ok (.getfield 39, 3) := dk_180 0 39 (dk_at dksX1_odds_1 19 rfl rfl)
theorem dX1_odds_46 : decode cX1_odds 46 = .ok (.aload_n 0, 1) := dk_42 (dk_at dksX1_odds_1 22 rfl rfl)
theorem dX1_odds_47 : decode cX1_odds 47 = .ok (.getfield 35, 3) := dk_180 0 35 (dk_at dksX1_odds_2 0 rfl rfl)
theorem dX1_odds_50 : decode cX1_odds 50 = .ok (.invokevirtual 292, 3) := dk_182 1 36 (dk_at dksX1_odds_2 3 rfl rfl)
theorem dX1_odds_53 : decode cX1_odds 53 = .ok (.ireturn, 1) := dk_172 (dk_at dksX1_odds_2 6 rfl rfl)
theorem dX1_odds_54 : decode cX1_odds 54 = .ok (.iconst 0, 1) := dk_3 (dk_at dksX1_odds_2 7 rfl rfl)
theorem dX1_odds_55 : decode cX1_odds 55 = .ok (.istore 5, 2) := dk_54 5 (dk_at dksX1_odds_2 8 rfl rfl)
theorem dX1_odds_57 : decode cX1_odds 57 = .ok (.iconst 1, 1) := dk_4 (dk_at dksX1_odds_2 10 rfl rfl)
theorem dX1_odds_58 : decode cX1_odds 58 = .ok (.istore 6, 2) := dk_54 6 (dk_at dksX1_odds_2 11 rfl rfl)
theorem dX1_odds_60 : decode cX1_odds 60 = .ok (.iload 6, 2) := dk_21 6 (dk_at dksX1_odds_2 13 rfl rfl)
theorem dX1_odds_62 : decode cX1_odds 62 = .ok (.bipush 8, 2) := dk_16 8 (dk_at dksX1_odds_2 15 rfl rfl)
theorem dX1_odds_64 : decode cX1_odds 64 = .ok (.if_icmp .gt 35, 3) := dk_163 0 35 (dk_at dksX1_odds_2 17 rfl rfl)
theorem dX1_odds_67 : decode cX1_odds 67 = .ok (.iload 5, 2) := dk_21 5 (dk_at dksX1_odds_2 20 rfl rfl)
theorem dX1_odds_69 : decode cX1_odds 69 = .ok (.aload_n 0, 1) := dk_42 (dk_at dksX1_odds_2 22 rfl rfl)
theorem dX1_odds_70 : decode cX1_odds 70 = .ok (.getfield 35, 3) := dk_180 0 35 (dk_at dksX1_odds_3 0 rfl rfl)
theorem dX1_odds_73 : decode cX1_odds 73 = .ok (.getfield 290, 3) := dk_180 1 34 (dk_at dksX1_odds_3 3 rfl rfl)
theorem dX1_odds_76 : decode cX1_odds 76 = .ok (.iload 6, 2) := dk_21 6 (dk_at dksX1_odds_3 6 rfl rfl)
theorem dX1_odds_78 : decode cX1_odds 78 = .ok (.iaload, 1) := dk_46 (dk_at dksX1_odds_3 8 rfl rfl)
theorem dX1_odds_79 : decode cX1_odds 79 = .ok (.aload_n 0, 1) := dk_42 (dk_at dksX1_odds_3 9 rfl rfl)
theorem dX1_odds_80 : decode cX1_odds 80 = .ok (.getfield 39, 3) := dk_180 0 39 (dk_at dksX1_odds_3 10 rfl rfl)
theorem dX1_odds_83 : decode cX1_odds 83 = .ok (.getfield 290, 3) := dk_180 1 34 (dk_at dksX1_odds_3 13 rfl rfl)
theorem dX1_odds_86 : decode cX1_odds 86 = .ok (.iload 6, 2) := dk_21 6 (dk_at dksX1_odds_3 16 rfl rfl)
theorem dX1_odds_88 : decode cX1_odds 88 = .ok (.iaload, 1) := dk_46 (dk_at dksX1_odds_3 18 rfl rfl)
theorem dX1_odds_89 : decode cX1_odds 89 = .ok (.imul, 1) := dk_104 (dk_at dksX1_odds_3 19 rfl rfl)
theorem dX1_odds_90 : decode cX1_odds 90 = .ok (.iadd, 1) := dk_96 (dk_at dksX1_odds_3 20 rfl rfl)
theorem dX1_odds_91 : decode cX1_odds 91 = .ok (.istore 5, 2) := dk_54 5 (dk_at dksX1_odds_3 21 rfl rfl)
theorem dX1_odds_93 : decode cX1_odds 93 = .ok (.iinc 6 1, 3) := dk_132 6 1 (dk_at dksX1_odds_4 0 rfl rfl)
theorem dX1_odds_96 : decode cX1_odds 96 = .ok (.goto (-36), 3) := dk_167 255 220 (dk_at dksX1_odds_4 3 rfl rfl)
theorem dX1_odds_99 : decode cX1_odds 99 = .ok (.iload_n 3, 1) := dk_29 (dk_at dksX1_odds_4 6 rfl rfl)
theorem dX1_odds_100 : decode cX1_odds 100 = .ok (.iconst 2, 1) := dk_5 (dk_at dksX1_odds_4 7 rfl rfl)
theorem dX1_odds_101 : decode cX1_odds 101 = .ok (.if_icmp .ne 8, 3) := dk_160 0 8 (dk_at dksX1_odds_4 8 rfl rfl)
theorem dX1_odds_104 : decode cX1_odds 104 = .ok (.iload 5, 2) := dk_21 5 (dk_at dksX1_odds_4 11 rfl rfl)
theorem dX1_odds_106 : decode cX1_odds 106 = .ok (.goto 26, 3) := dk_167 0 26 (dk_at dksX1_odds_4 13 rfl rfl)
theorem dX1_odds_109 : decode cX1_odds 109 = .ok (.sipush 6561, 3) := dk_17 25 161 (dk_at dksX1_odds_4 16 rfl rfl)
theorem dX1_odds_112 : decode cX1_odds 112 = .ok (.aload_n 0, 1) := dk_42 (dk_at dksX1_odds_4 19 rfl rfl)
theorem dX1_odds_113 : decode cX1_odds 113 = .ok (.getfield 35, 3) := dk_180 0 35 (dk_at dksX1_odds_4 20 rfl rfl)
theorem dX1_odds_116 : decode cX1_odds 116 = .ok (.invokevirtual 278, 3) := dk_182 1 22 (dk_at dksX1_odds_5 0 rfl rfl)
theorem dX1_odds_119 : decode cX1_odds 119 = .ok (.isub, 1) := dk_100 (dk_at dksX1_odds_5 3 rfl rfl)
theorem dX1_odds_120 : decode cX1_odds 120 = .ok (.sipush 6561, 3) := dk_17 25 161 (dk_at dksX1_odds_5 4 rfl rfl)
theorem dX1_odds_123 : decode cX1_odds 123 = .ok (.aload_n 0, 1) := dk_42 (dk_at dksX1_odds_5 7 rfl rfl)
theorem dX1_odds_124 : decode cX1_odds 124 = .ok (.getfield 39, 3) := dk_180 0 39 (dk_at dksX1_odds_5 8 rfl rfl)
theorem dX1_odds_127 : decode cX1_odds 127 = .ok (.invokevirtual 278, 3) := dk_182 1 22 (dk_at dksX1_odds_5 11 rfl rfl)
theorem dX1_odds_130 : decode cX1_odds 130 = .ok (.isub, 1) := dk_100 (dk_at dksX1_odds_5 14 rfl rfl)
theorem dX1_odds_131 : decode cX1_odds 131 = .ok (.imul, 1) := dk_104 (dk_at dksX1_odds_5 15 rfl rfl)
theorem dX1_odds_132 : decode cX1_odds 132 = .ok (.ireturn, 1) := dk_172 (dk_at dksX1_odds_5 16 rfl rfl)
abbrev cX1_firstHas : ByteArray := prog_1_method_38_code
def yX1_firstHas : MethodName := ⟨RX1, "firstHas", "(II)I"⟩
def dkwX1_firstHas_1 : List UInt8 := [180, 0, 39, 182, 1, 36, 172]
abbrev dktX1_firstHas_1 : List UInt8 := dkwX1_firstHas_1 ++ []
def dkwX1_firstHas_0 : List UInt8 := [42, 180, 0, 35, 27, 182, 1, 19, 42, 180, 0, 39, 28, 182, 1, 19, 42, 42, 180, 0, 35, 42]
abbrev dktX1_firstHas_0 : List UInt8 := dkwX1_firstHas_0 ++ dktX1_firstHas_1
theorem dksX1_firstHas_0 : cX1_firstHas.data.toList.drop 0 = dktX1_firstHas_0 := by decide +kernel
theorem dksX1_firstHas_1 : cX1_firstHas.data.toList.drop 22 = dktX1_firstHas_1 := dk_seg dksX1_firstHas_0 22 rfl rfl
theorem dX1_firstHas_0 : decode cX1_firstHas 0 = .ok (.aload_n 0, 1) := dk_42 (dk_at dksX1_firstHas_0 0 rfl rfl)
theorem dX1_firstHas_1 : decode cX1_firstHas 1 = .ok (.getfield 35, 3) := dk_180 0 35 (dk_at dksX1_firstHas_0 1 rfl rfl)
theorem dX1_firstHas_4 : decode cX1_firstHas 4 = .ok (.iload_n 1, 1) := dk_27 (dk_at dksX1_firstHas_0 4 rfl rfl)
theorem dX1_firstHas_5 : decode cX1_firstHas 5 = .ok (.invokevirtual 275, 3) := dk_182 1 19 (dk_at dksX1_firstHas_0 5 rfl rfl)
theorem dX1_firstHas_8 : decode cX1_firstHas 8 = .ok (.aload_n 0, 1) := dk_42 (dk_at dksX1_firstHas_0 8 rfl rfl)
theorem dX1_firstHas_9 : decode cX1_firstHas 9 = .ok (.getfield 39, 3) := dk_180 0 39 (dk_at dksX1_firstHas_0 9 rfl rfl)
theorem dX1_firstHas_12 : decode cX1_firstHas 12 = .ok (.iload_n 2, 1) := dk_28 (dk_at dksX1_firstHas_0 12 rfl rfl)
theorem dX1_firstHas_13 : decode cX1_firstHas 13 = .ok (.invokevirtual 275, 3) := dk_182 1 19 (dk_at dksX1_firstHas_0 13 rfl rfl)
theorem dX1_firstHas_16 : decode cX1_firstHas 16 = .ok (.aload_n 0, 1) := dk_42 (dk_at dksX1_firstHas_0 16 rfl rfl)
theorem dX1_firstHas_17 : decode cX1_firstHas 17 = .ok (.aload_n 0, 1) := dk_42 (dk_at dksX1_firstHas_0 17 rfl rfl)
theorem dX1_firstHas_18 : decode cX1_firstHas 18 = .ok (.getfield 35, 3) := dk_180 0 35 (dk_at dksX1_firstHas_0 18 rfl rfl)
theorem dX1_firstHas_21 : decode cX1_firstHas 21 = .ok (.aload_n 0, 1) := dk_42 (dk_at dksX1_firstHas_0 21 rfl rfl)
theorem dX1_firstHas_22 : decode cX1_firstHas 22 = .ok (.getfield 39, 3) := dk_180 0 39 (dk_at dksX1_firstHas_1 0 rfl rfl)
theorem dX1_firstHas_25 : decode cX1_firstHas 25 = .ok (.invokevirtual 292, 3) := dk_182 1 36 (dk_at dksX1_firstHas_1 3 rfl rfl)
theorem dX1_firstHas_28 : decode cX1_firstHas 28 = .ok (.ireturn, 1) := dk_172 (dk_at dksX1_firstHas_1 6 rfl rfl)
abbrev cX1_hasIt : ByteArray := prog_1_method_37_code
def yX1_hasIt : MethodName := ⟨RX1, "hasIt", "(LFeatherYard$Ways;LFeatherYard$Ways;)I"⟩
def dkwX1_hasIt_2 : List UInt8 := [167, 255, 221, 29, 172]
abbrev dktX1_hasIt_2 : List UInt8 := dkwX1_hasIt_2 ++ []
def dkwX1_hasIt_1 : List UInt8 := [21, 5, 46, 100, 54, 4, 29, 43, 180, 1, 34, 21, 5, 46, 21, 4, 104, 96, 62, 132, 5, 1]
abbrev dktX1_hasIt_1 : List UInt8 := dkwX1_hasIt_1 ++ dktX1_hasIt_2
def dkwX1_hasIt_0 : List UInt8 := [3, 62, 17, 25, 161, 54, 4, 4, 54, 5, 21, 5, 16, 8, 163, 0, 34, 21, 4, 44, 180, 1, 34]
abbrev dktX1_hasIt_0 : List UInt8 := dkwX1_hasIt_0 ++ dktX1_hasIt_1
theorem dksX1_hasIt_0 : cX1_hasIt.data.toList.drop 0 = dktX1_hasIt_0 := by decide +kernel
theorem dksX1_hasIt_1 : cX1_hasIt.data.toList.drop 23 = dktX1_hasIt_1 := dk_seg dksX1_hasIt_0 23 rfl rfl
theorem dksX1_hasIt_2 : cX1_hasIt.data.toList.drop 45 = dktX1_hasIt_2 := dk_seg dksX1_hasIt_1 22 rfl rfl
theorem dX1_hasIt_0 : decode cX1_hasIt 0 = .ok (.iconst 0, 1) := dk_3 (dk_at dksX1_hasIt_0 0 rfl rfl)
theorem dX1_hasIt_1 : decode cX1_hasIt 1 = .ok (.istore_n 3, 1) := dk_62 (dk_at dksX1_hasIt_0 1 rfl rfl)
theorem dX1_hasIt_2 : decode cX1_hasIt 2 = .ok (.sipush 6561, 3) := dk_17 25 161 (dk_at dksX1_hasIt_0 2 rfl rfl)
theorem dX1_hasIt_5 : decode cX1_hasIt 5 = .ok (.istore 4, 2) := dk_54 4 (dk_at dksX1_hasIt_0 5 rfl rfl)
theorem dX1_hasIt_7 : decode cX1_hasIt 7 = .ok (.iconst 1, 1) := dk_4 (dk_at dksX1_hasIt_0 7 rfl rfl)
theorem dX1_hasIt_8 : decode cX1_hasIt 8 = .ok (.istore 5, 2) := dk_54 5 (dk_at dksX1_hasIt_0 8 rfl rfl)
theorem dX1_hasIt_10 : decode cX1_hasIt 10 = .ok (.iload 5, 2) := dk_21 5 (dk_at dksX1_hasIt_0 10 rfl rfl)
theorem dX1_hasIt_12 : decode cX1_hasIt 12 = .ok (.bipush 8, 2) := dk_16 8 (dk_at dksX1_hasIt_0 12 rfl rfl)
theorem dX1_hasIt_14 : decode cX1_hasIt 14 = .ok (.if_icmp .gt 34, 3) := dk_163 0 34 (dk_at dksX1_hasIt_0 14 rfl rfl)
theorem dX1_hasIt_17 : decode cX1_hasIt 17 = .ok (.iload 4, 2) := dk_21 4 (dk_at dksX1_hasIt_0 17 rfl rfl)
theorem dX1_hasIt_19 : decode cX1_hasIt 19 = .ok (.aload_n 2, 1) := dk_44 (dk_at dksX1_hasIt_0 19 rfl rfl)
theorem dX1_hasIt_20 : decode cX1_hasIt 20 = .ok (.getfield 290, 3) := dk_180 1 34 (dk_at dksX1_hasIt_0 20 rfl rfl)
theorem dX1_hasIt_23 : decode cX1_hasIt 23 = .ok (.iload 5, 2) := dk_21 5 (dk_at dksX1_hasIt_1 0 rfl rfl)
theorem dX1_hasIt_25 : decode cX1_hasIt 25 = .ok (.iaload, 1) := dk_46 (dk_at dksX1_hasIt_1 2 rfl rfl)
theorem dX1_hasIt_26 : decode cX1_hasIt 26 = .ok (.isub, 1) := dk_100 (dk_at dksX1_hasIt_1 3 rfl rfl)
theorem dX1_hasIt_27 : decode cX1_hasIt 27 = .ok (.istore 4, 2) := dk_54 4 (dk_at dksX1_hasIt_1 4 rfl rfl)
theorem dX1_hasIt_29 : decode cX1_hasIt 29 = .ok (.iload_n 3, 1) := dk_29 (dk_at dksX1_hasIt_1 6 rfl rfl)
theorem dX1_hasIt_30 : decode cX1_hasIt 30 = .ok (.aload_n 1, 1) := dk_43 (dk_at dksX1_hasIt_1 7 rfl rfl)
theorem dX1_hasIt_31 : decode cX1_hasIt 31 = .ok (.getfield 290, 3) := dk_180 1 34 (dk_at dksX1_hasIt_1 8 rfl rfl)
theorem dX1_hasIt_34 : decode cX1_hasIt 34 = .ok (.iload 5, 2) := dk_21 5 (dk_at dksX1_hasIt_1 11 rfl rfl)
theorem dX1_hasIt_36 : decode cX1_hasIt 36 = .ok (.iaload, 1) := dk_46 (dk_at dksX1_hasIt_1 13 rfl rfl)
theorem dX1_hasIt_37 : decode cX1_hasIt 37 = .ok (.iload 4, 2) := dk_21 4 (dk_at dksX1_hasIt_1 14 rfl rfl)
theorem dX1_hasIt_39 : decode cX1_hasIt 39 = .ok (.imul, 1) := dk_104 (dk_at dksX1_hasIt_1 16 rfl rfl)
theorem dX1_hasIt_40 : decode cX1_hasIt 40 = .ok (.iadd, 1) := dk_96 (dk_at dksX1_hasIt_1 17 rfl rfl)
theorem dX1_hasIt_41 : decode cX1_hasIt 41 = .ok (.istore_n 3, 1) := dk_62 (dk_at dksX1_hasIt_1 18 rfl rfl)
theorem dX1_hasIt_42 : decode cX1_hasIt 42 = .ok (.iinc 5 1, 3) := dk_132 5 1 (dk_at dksX1_hasIt_1 19 rfl rfl)
theorem dX1_hasIt_45 : decode cX1_hasIt 45 = .ok (.goto (-35), 3) := dk_167 255 221 (dk_at dksX1_hasIt_2 0 rfl rfl)
theorem dX1_hasIt_48 : decode cX1_hasIt 48 = .ok (.iload_n 3, 1) := dk_29 (dk_at dksX1_hasIt_2 3 rfl rfl)
theorem dX1_hasIt_49 : decode cX1_hasIt 49 = .ok (.ireturn, 1) := dk_172 (dk_at dksX1_hasIt_2 4 rfl rfl)
abbrev cX1_best : ByteArray := prog_1_method_40_code
def yX1_best : MethodName := ⟨RX1, "best", "(II)I"⟩
def dkwX1_best_3 : List UInt8 := [167, 255, 201, 29, 172]
abbrev dktX1_best_3 : List UInt8 := dkwX1_best_3 ++ []
def dkwX1_best_2 : List UInt8 := [54, 6, 21, 6, 21, 4, 163, 0, 6, 167, 0, 10, 21, 6, 54, 4, 21, 5, 62, 132, 5, 1]
abbrev dktX1_best_2 : List UInt8 := dkwX1_best_2 ++ dktX1_best_3
def dkwX1_best_1 : List UInt8 := [162, 0, 49, 28, 21, 5, 122, 4, 126, 4, 160, 0, 13, 42, 21, 5, 27, 182, 1, 40, 167, 0, 4, 2]
abbrev dktX1_best_1 : List UInt8 := dkwX1_best_1 ++ dktX1_best_2
def dkwX1_best_0 : List UInt8 := [42, 27, 182, 0, 166, 87, 2, 62, 2, 54, 4, 3, 54, 5, 21, 5, 42, 180, 0, 19, 180, 0, 81]
abbrev dktX1_best_0 : List UInt8 := dkwX1_best_0 ++ dktX1_best_1
theorem dksX1_best_0 : cX1_best.data.toList.drop 0 = dktX1_best_0 := by decide +kernel
theorem dksX1_best_1 : cX1_best.data.toList.drop 23 = dktX1_best_1 := dk_seg dksX1_best_0 23 rfl rfl
theorem dksX1_best_2 : cX1_best.data.toList.drop 47 = dktX1_best_2 := dk_seg dksX1_best_1 24 rfl rfl
theorem dksX1_best_3 : cX1_best.data.toList.drop 69 = dktX1_best_3 := dk_seg dksX1_best_2 22 rfl rfl
theorem dX1_best_0 : decode cX1_best 0 = .ok (.aload_n 0, 1) := dk_42 (dk_at dksX1_best_0 0 rfl rfl)
theorem dX1_best_1 : decode cX1_best 1 = .ok (.iload_n 1, 1) := dk_27 (dk_at dksX1_best_0 1 rfl rfl)
theorem dX1_best_2 : decode cX1_best 2 = .ok (.invokevirtual 166, 3) := dk_182 0 166 (dk_at dksX1_best_0 2 rfl rfl)
theorem dX1_best_5 : decode cX1_best 5 = .ok (.pop, 1) := dk_87 (dk_at dksX1_best_0 5 rfl rfl)
theorem dX1_best_6 : decode cX1_best 6 = .ok (.iconst (-1), 1) := dk_2 (dk_at dksX1_best_0 6 rfl rfl)
theorem dX1_best_7 : decode cX1_best 7 = .ok (.istore_n 3, 1) := dk_62 (dk_at dksX1_best_0 7 rfl rfl)
theorem dX1_best_8 : decode cX1_best 8 = .ok (.iconst (-1), 1) := dk_2 (dk_at dksX1_best_0 8 rfl rfl)
theorem dX1_best_9 : decode cX1_best 9 = .ok (.istore 4, 2) := dk_54 4 (dk_at dksX1_best_0 9 rfl rfl)
theorem dX1_best_11 : decode cX1_best 11 = .ok (.iconst 0, 1) := dk_3 (dk_at dksX1_best_0 11 rfl rfl)
theorem dX1_best_12 : decode cX1_best 12 = .ok (.istore 5, 2) := dk_54 5 (dk_at dksX1_best_0 12 rfl rfl)
theorem dX1_best_14 : decode cX1_best 14 = .ok (.iload 5, 2) := dk_21 5 (dk_at dksX1_best_0 14 rfl rfl)
theorem dX1_best_16 : decode cX1_best 16 = .ok (.aload_n 0, 1) := dk_42 (dk_at dksX1_best_0 16 rfl rfl)
theorem dX1_best_17 : decode cX1_best 17 = .ok (.getfield 19, 3) := dk_180 0 19 (dk_at dksX1_best_0 17 rfl rfl)
theorem dX1_best_20 : decode cX1_best 20 = .ok (.getfield 81, 3) := dk_180 0 81 (dk_at dksX1_best_0 20 rfl rfl)
theorem dX1_best_23 : decode cX1_best 23 = .ok (.if_icmp .ge 49, 3) := dk_162 0 49 (dk_at dksX1_best_1 0 rfl rfl)
theorem dX1_best_26 : decode cX1_best 26 = .ok (.iload_n 2, 1) := dk_28 (dk_at dksX1_best_1 3 rfl rfl)
theorem dX1_best_27 : decode cX1_best 27 = .ok (.iload 5, 2) := dk_21 5 (dk_at dksX1_best_1 4 rfl rfl)
theorem dX1_best_29 : decode cX1_best 29 = .ok (.ishr, 1) := dk_122 (dk_at dksX1_best_1 6 rfl rfl)
theorem dX1_best_30 : decode cX1_best 30 = .ok (.iconst 1, 1) := dk_4 (dk_at dksX1_best_1 7 rfl rfl)
theorem dX1_best_31 : decode cX1_best 31 = .ok (.iand, 1) := dk_126 (dk_at dksX1_best_1 8 rfl rfl)
theorem dX1_best_32 : decode cX1_best 32 = .ok (.iconst 1, 1) := dk_4 (dk_at dksX1_best_1 9 rfl rfl)
theorem dX1_best_33 : decode cX1_best 33 = .ok (.if_icmp .ne 13, 3) := dk_160 0 13 (dk_at dksX1_best_1 10 rfl rfl)
theorem dX1_best_36 : decode cX1_best 36 = .ok (.aload_n 0, 1) := dk_42 (dk_at dksX1_best_1 13 rfl rfl)
theorem dX1_best_37 : decode cX1_best 37 = .ok (.iload 5, 2) := dk_21 5 (dk_at dksX1_best_1 14 rfl rfl)
theorem dX1_best_39 : decode cX1_best 39 = .ok (.iload_n 1, 1) := dk_27 (dk_at dksX1_best_1 16 rfl rfl)
theorem dX1_best_40 : decode cX1_best 40 = .ok (.invokevirtual 296, 3) := dk_182 1 40 (dk_at dksX1_best_1 17 rfl rfl)
theorem dX1_best_43 : decode cX1_best 43 = .ok (.goto 4, 3) := dk_167 0 4 (dk_at dksX1_best_1 20 rfl rfl)
theorem dX1_best_46 : decode cX1_best 46 = .ok (.iconst (-1), 1) := dk_2 (dk_at dksX1_best_1 23 rfl rfl)
theorem dX1_best_47 : decode cX1_best 47 = .ok (.istore 6, 2) := dk_54 6 (dk_at dksX1_best_2 0 rfl rfl)
theorem dX1_best_49 : decode cX1_best 49 = .ok (.iload 6, 2) := dk_21 6 (dk_at dksX1_best_2 2 rfl rfl)
theorem dX1_best_51 : decode cX1_best 51 = .ok (.iload 4, 2) := dk_21 4 (dk_at dksX1_best_2 4 rfl rfl)
theorem dX1_best_53 : decode cX1_best 53 = .ok (.if_icmp .gt 6, 3) := dk_163 0 6 (dk_at dksX1_best_2 6 rfl rfl)
theorem dX1_best_56 : decode cX1_best 56 = .ok (.goto 10, 3) := dk_167 0 10 (dk_at dksX1_best_2 9 rfl rfl)
theorem dX1_best_59 : decode cX1_best 59 = .ok (.iload 6, 2) := dk_21 6 (dk_at dksX1_best_2 12 rfl rfl)
theorem dX1_best_61 : decode cX1_best 61 = .ok (.istore 4, 2) := dk_54 4 (dk_at dksX1_best_2 14 rfl rfl)
theorem dX1_best_63 : decode cX1_best 63 = .ok (.iload 5, 2) := dk_21 5 (dk_at dksX1_best_2 16 rfl rfl)
theorem dX1_best_65 : decode cX1_best 65 = .ok (.istore_n 3, 1) := dk_62 (dk_at dksX1_best_2 18 rfl rfl)
theorem dX1_best_66 : decode cX1_best 66 = .ok (.iinc 5 1, 3) := dk_132 5 1 (dk_at dksX1_best_2 19 rfl rfl)
theorem dX1_best_69 : decode cX1_best 69 = .ok (.goto (-55), 3) := dk_167 255 201 (dk_at dksX1_best_3 0 rfl rfl)
theorem dX1_best_72 : decode cX1_best 72 = .ok (.iload_n 3, 1) := dk_29 (dk_at dksX1_best_3 3 rfl rfl)
theorem dX1_best_73 : decode cX1_best 73 = .ok (.ireturn, 1) := dk_172 (dk_at dksX1_best_3 4 rfl rfl)
abbrev cX1_when : ByteArray := prog_1_method_41_code
def yX1_when : MethodName := ⟨RX1, "when", "(II)I"⟩
def dkwX1_when_3 : List UInt8 := [132, 6, 1, 167, 255, 211, 42, 180, 0, 19, 29, 181, 1, 10, 21, 4, 172]
abbrev dktX1_when_3 : List UInt8 := dkwX1_when_3 ++ []
def dkwX1_when_2 : List UInt8 := [182, 1, 40, 54, 7, 21, 7, 21, 5, 163, 0, 6, 167, 0, 11, 21, 7, 54, 5, 21, 6, 54, 4]
abbrev dktX1_when_2 : List UInt8 := dkwX1_when_2 ++ dktX1_when_3
def dkwX1_when_1 : List UInt8 := [54, 5, 3, 54, 6, 21, 6, 16, 24, 162, 0, 44, 42, 180, 0, 19, 21, 6, 181, 1, 10, 42, 27, 28]
abbrev dktX1_when_1 : List UInt8 := dkwX1_when_1 ++ dktX1_when_2
def dkwX1_when_0 : List UInt8 := [42, 27, 182, 0, 166, 87, 42, 28, 182, 0, 166, 87, 42, 180, 0, 19, 180, 1, 10, 62, 3, 54, 4, 2]
abbrev dktX1_when_0 : List UInt8 := dkwX1_when_0 ++ dktX1_when_1
theorem dksX1_when_0 : cX1_when.data.toList.drop 0 = dktX1_when_0 := by decide +kernel
theorem dksX1_when_1 : cX1_when.data.toList.drop 24 = dktX1_when_1 := dk_seg dksX1_when_0 24 rfl rfl
theorem dksX1_when_2 : cX1_when.data.toList.drop 48 = dktX1_when_2 := dk_seg dksX1_when_1 24 rfl rfl
theorem dksX1_when_3 : cX1_when.data.toList.drop 71 = dktX1_when_3 := dk_seg dksX1_when_2 23 rfl rfl
theorem dX1_when_0 : decode cX1_when 0 = .ok (.aload_n 0, 1) := dk_42 (dk_at dksX1_when_0 0 rfl rfl)
theorem dX1_when_1 : decode cX1_when 1 = .ok (.iload_n 1, 1) := dk_27 (dk_at dksX1_when_0 1 rfl rfl)
theorem dX1_when_2 : decode cX1_when 2 = .ok (.invokevirtual 166, 3) := dk_182 0 166 (dk_at dksX1_when_0 2 rfl rfl)
theorem dX1_when_5 : decode cX1_when 5 = .ok (.pop, 1) := dk_87 (dk_at dksX1_when_0 5 rfl rfl)
theorem dX1_when_6 : decode cX1_when 6 = .ok (.aload_n 0, 1) := dk_42 (dk_at dksX1_when_0 6 rfl rfl)
theorem dX1_when_7 : decode cX1_when 7 = .ok (.iload_n 2, 1) := dk_28 (dk_at dksX1_when_0 7 rfl rfl)
theorem dX1_when_8 : decode cX1_when 8 = .ok (.invokevirtual 166, 3) := dk_182 0 166 (dk_at dksX1_when_0 8 rfl rfl)
theorem dX1_when_11 : decode cX1_when 11 = .ok (.pop, 1) := dk_87 (dk_at dksX1_when_0 11 rfl rfl)
theorem dX1_when_12 : decode cX1_when 12 = .ok (.aload_n 0, 1) := dk_42 (dk_at dksX1_when_0 12 rfl rfl)
theorem dX1_when_13 : decode cX1_when 13 = .ok (.getfield 19, 3) := dk_180 0 19 (dk_at dksX1_when_0 13 rfl rfl)
theorem dX1_when_16 : decode cX1_when 16 = .ok (.getfield 266, 3) := dk_180 1 10 (dk_at dksX1_when_0 16 rfl rfl)
theorem dX1_when_19 : decode cX1_when 19 = .ok (.istore_n 3, 1) := dk_62 (dk_at dksX1_when_0 19 rfl rfl)
theorem dX1_when_20 : decode cX1_when 20 = .ok (.iconst 0, 1) := dk_3 (dk_at dksX1_when_0 20 rfl rfl)
theorem dX1_when_21 : decode cX1_when 21 = .ok (.istore 4, 2) := dk_54 4 (dk_at dksX1_when_0 21 rfl rfl)
theorem dX1_when_23 : decode cX1_when 23 = .ok (.iconst (-1), 1) := dk_2 (dk_at dksX1_when_0 23 rfl rfl)
theorem dX1_when_24 : decode cX1_when 24 = .ok (.istore 5, 2) := dk_54 5 (dk_at dksX1_when_1 0 rfl rfl)
theorem dX1_when_26 : decode cX1_when 26 = .ok (.iconst 0, 1) := dk_3 (dk_at dksX1_when_1 2 rfl rfl)
theorem dX1_when_27 : decode cX1_when 27 = .ok (.istore 6, 2) := dk_54 6 (dk_at dksX1_when_1 3 rfl rfl)
theorem dX1_when_29 : decode cX1_when 29 = .ok (.iload 6, 2) := dk_21 6 (dk_at dksX1_when_1 5 rfl rfl)
theorem dX1_when_31 : decode cX1_when 31 = .ok (.bipush 24, 2) := dk_16 24 (dk_at dksX1_when_1 7 rfl rfl)
theorem dX1_when_33 : decode cX1_when 33 = .ok (.if_icmp .ge 44, 3) := dk_162 0 44 (dk_at dksX1_when_1 9 rfl rfl)
theorem dX1_when_36 : decode cX1_when 36 = .ok (.aload_n 0, 1) := dk_42 (dk_at dksX1_when_1 12 rfl rfl)
theorem dX1_when_37 : decode cX1_when 37 = .ok (.getfield 19, 3) := dk_180 0 19 (dk_at dksX1_when_1 13 rfl rfl)
theorem dX1_when_40 : decode cX1_when 40 = .ok (.iload 6, 2) := dk_21 6 (dk_at dksX1_when_1 16 rfl rfl)
theorem dX1_when_42 : decode cX1_when 42 = .ok (.putfield 266, 3) := dk_181 1 10 (dk_at dksX1_when_1 18 rfl rfl)
theorem dX1_when_45 : decode cX1_when 45 = .ok (.aload_n 0, 1) := dk_42 (dk_at dksX1_when_1 21 rfl rfl)
theorem dX1_when_46 : decode cX1_when 46 = .ok (.iload_n 1, 1) := dk_27 (dk_at dksX1_when_1 22 rfl rfl)
theorem dX1_when_47 : decode cX1_when 47 = .ok (.iload_n 2, 1) := dk_28 (dk_at dksX1_when_1 23 rfl rfl)
theorem dX1_when_48 : decode cX1_when 48 = .ok (.invokevirtual 296, 3) := dk_182 1 40 (dk_at dksX1_when_2 0 rfl rfl)
theorem dX1_when_51 : decode cX1_when 51 = .ok (.istore 7, 2) := dk_54 7 (dk_at dksX1_when_2 3 rfl rfl)
theorem dX1_when_53 : decode cX1_when 53 = .ok (.iload 7, 2) := dk_21 7 (dk_at dksX1_when_2 5 rfl rfl)
theorem dX1_when_55 : decode cX1_when 55 = .ok (.iload 5, 2) := dk_21 5 (dk_at dksX1_when_2 7 rfl rfl)
theorem dX1_when_57 : decode cX1_when 57 = .ok (.if_icmp .gt 6, 3) := dk_163 0 6 (dk_at dksX1_when_2 9 rfl rfl)
theorem dX1_when_60 : decode cX1_when 60 = .ok (.goto 11, 3) := dk_167 0 11 (dk_at dksX1_when_2 12 rfl rfl)
theorem dX1_when_63 : decode cX1_when 63 = .ok (.iload 7, 2) := dk_21 7 (dk_at dksX1_when_2 15 rfl rfl)
theorem dX1_when_65 : decode cX1_when 65 = .ok (.istore 5, 2) := dk_54 5 (dk_at dksX1_when_2 17 rfl rfl)
theorem dX1_when_67 : decode cX1_when 67 = .ok (.iload 6, 2) := dk_21 6 (dk_at dksX1_when_2 19 rfl rfl)
theorem dX1_when_69 : decode cX1_when 69 = .ok (.istore 4, 2) := dk_54 4 (dk_at dksX1_when_2 21 rfl rfl)
theorem dX1_when_71 : decode cX1_when 71 = .ok (.iinc 6 1, 3) := dk_132 6 1 (dk_at dksX1_when_3 0 rfl rfl)
theorem dX1_when_74 : decode cX1_when 74 = .ok (.goto (-45), 3) := dk_167 255 211 (dk_at dksX1_when_3 3 rfl rfl)
theorem dX1_when_77 : decode cX1_when 77 = .ok (.aload_n 0, 1) := dk_42 (dk_at dksX1_when_3 6 rfl rfl)
theorem dX1_when_78 : decode cX1_when 78 = .ok (.getfield 19, 3) := dk_180 0 19 (dk_at dksX1_when_3 7 rfl rfl)
theorem dX1_when_81 : decode cX1_when 81 = .ok (.iload_n 3, 1) := dk_29 (dk_at dksX1_when_3 10 rfl rfl)
theorem dX1_when_82 : decode cX1_when 82 = .ok (.putfield 266, 3) := dk_181 1 10 (dk_at dksX1_when_3 11 rfl rfl)
theorem dX1_when_85 : decode cX1_when 85 = .ok (.iload 4, 2) := dk_21 4 (dk_at dksX1_when_3 14 rfl rfl)
theorem dX1_when_87 : decode cX1_when 87 = .ok (.ireturn, 1) := dk_172 (dk_at dksX1_when_3 16 rfl rfl)
abbrev cX1_surest : ByteArray := prog_1_method_45_code
def yX1_surest : MethodName := ⟨RX1, "surest", "(IZZ)I"⟩
def dkwX1_surest_5 : List UInt8 := [167, 255, 197, 29, 153, 0, 8, 21, 7, 167, 0, 5, 21, 6, 172]
abbrev dktX1_surest_5 : List UInt8 := dkwX1_surest_5 ++ []
def dkwX1_surest_4 : List UInt8 := [54, 9, 21, 9, 21, 7, 163, 0, 6, 167, 0, 11, 21, 9, 54, 7, 21, 8, 54, 6, 132, 8, 1]
abbrev dktX1_surest_4 : List UInt8 := dkwX1_surest_4 ++ dktX1_surest_5
def dkwX1_surest_3 : List UInt8 := [21, 4, 21, 8, 122, 4, 126, 4, 160, 0, 15, 42, 21, 8, 21, 5, 28, 182, 1, 54, 167, 0, 4, 2]
abbrev dktX1_surest_3 : List UInt8 := dkwX1_surest_3 ++ dktX1_surest_4
def dkwX1_surest_2 : List UInt8 := [182, 1, 51, 2, 54, 6, 2, 54, 7, 3, 54, 8, 21, 8, 42, 180, 0, 19, 180, 0, 81, 162, 0, 53]
abbrev dktX1_surest_2 : List UInt8 := dkwX1_surest_2 ++ dktX1_surest_3
def dkwX1_surest_1 : List UInt8 := [154, 0, 7, 4, 167, 0, 4, 3, 182, 0, 208, 54, 5, 21, 5, 154, 0, 5, 2, 172, 42, 27]
abbrev dktX1_surest_1 : List UInt8 := dkwX1_surest_1 ++ dktX1_surest_2
def dkwX1_surest_0 : List UInt8 := [42, 27, 182, 1, 48, 42, 180, 0, 19, 27, 28, 182, 0, 208, 54, 4, 42, 180, 0, 19, 27, 28]
abbrev dktX1_surest_0 : List UInt8 := dkwX1_surest_0 ++ dktX1_surest_1
theorem dksX1_surest_0 : cX1_surest.data.toList.drop 0 = dktX1_surest_0 := by decide +kernel
theorem dksX1_surest_1 : cX1_surest.data.toList.drop 22 = dktX1_surest_1 := dk_seg dksX1_surest_0 22 rfl rfl
theorem dksX1_surest_2 : cX1_surest.data.toList.drop 44 = dktX1_surest_2 := dk_seg dksX1_surest_1 22 rfl rfl
theorem dksX1_surest_3 : cX1_surest.data.toList.drop 68 = dktX1_surest_3 := dk_seg dksX1_surest_2 24 rfl rfl
theorem dksX1_surest_4 : cX1_surest.data.toList.drop 92 = dktX1_surest_4 := dk_seg dksX1_surest_3 24 rfl rfl
theorem dksX1_surest_5 : cX1_surest.data.toList.drop 115 = dktX1_surest_5 := dk_seg dksX1_surest_4 23 rfl rfl
theorem dX1_surest_0 : decode cX1_surest 0 = .ok (.aload_n 0, 1) := dk_42 (dk_at dksX1_surest_0 0 rfl rfl)
theorem dX1_surest_1 : decode cX1_surest 1 = .ok (.iload_n 1, 1) := dk_27 (dk_at dksX1_surest_0 1 rfl rfl)
theorem dX1_surest_2 : decode cX1_surest 2 = .ok (.invokevirtual 304, 3) := dk_182 1 48 (dk_at dksX1_surest_0 2 rfl rfl)
theorem dX1_surest_5 : decode cX1_surest 5 = .ok (.aload_n 0, 1) := dk_42 (dk_at dksX1_surest_0 5 rfl rfl)
theorem dX1_surest_6 : decode cX1_surest 6 = .ok (.getfield 19, 3) := dk_180 0 19 (dk_at dksX1_surest_0 6 rfl rfl)
theorem dX1_surest_9 : decode cX1_surest 9 = .ok (.iload_n 1, 1) := dk_27 (dk_at dksX1_surest_0 9 rfl rfl)
theorem dX1_surest_10 : decode cX1_surest 10 = .ok (.iload_n 2, 1) := dk_28 (dk_at dksX1_surest_0 10 rfl rfl)
theorem dX1_surest_11 : decode cX1_surest 11 = .ok (.invokevirtual 208, 3) := dk_182 0 208 (dk_at dksX1_surest_0 11 rfl rfl)
theorem dX1_surest_14 : decode cX1_surest 14 = .ok (.istore 4, 2) := dk_54 4 (dk_at dksX1_surest_0 14 rfl rfl)
theorem dX1_surest_16 : decode cX1_surest 16 = .ok (.aload_n 0, 1) := dk_42 (dk_at dksX1_surest_0 16 rfl rfl)
theorem dX1_surest_17 : decode cX1_surest 17 = .ok (.getfield 19, 3) := dk_180 0 19 (dk_at dksX1_surest_0 17 rfl rfl)
theorem dX1_surest_20 : decode cX1_surest 20 = .ok (.iload_n 1, 1) := dk_27 (dk_at dksX1_surest_0 20 rfl rfl)
theorem dX1_surest_21 : decode cX1_surest 21 = .ok (.iload_n 2, 1) := dk_28 (dk_at dksX1_surest_0 21 rfl rfl)
theorem dX1_surest_22 : decode cX1_surest 22 = .ok (.ifCond .ne 7, 3) := dk_154 0 7 (dk_at dksX1_surest_1 0 rfl rfl)
theorem dX1_surest_25 : decode cX1_surest 25 = .ok (.iconst 1, 1) := dk_4 (dk_at dksX1_surest_1 3 rfl rfl)
theorem dX1_surest_26 : decode cX1_surest 26 = .ok (.goto 4, 3) := dk_167 0 4 (dk_at dksX1_surest_1 4 rfl rfl)
theorem dX1_surest_29 : decode cX1_surest 29 = .ok (.iconst 0, 1) := dk_3 (dk_at dksX1_surest_1 7 rfl rfl)
theorem dX1_surest_30 : decode cX1_surest 30 = .ok (.invokevirtual 208, 3) := dk_182 0 208 (dk_at dksX1_surest_1 8 rfl rfl)
theorem dX1_surest_33 : decode cX1_surest 33 = .ok (.istore 5, 2) := dk_54 5 (dk_at dksX1_surest_1 11 rfl rfl)
theorem dX1_surest_35 : decode cX1_surest 35 = .ok (.iload 5, 2) := dk_21 5 (dk_at dksX1_surest_1 13 rfl rfl)
theorem dX1_surest_37 : decode cX1_surest 37 = .ok (.ifCond .ne 5, 3) := dk_154 0 5 (dk_at dksX1_surest_1 15 rfl rfl)
theorem dX1_surest_40 : decode cX1_surest 40 = .ok (.iconst (-1), 1) := dk_2 (dk_at dksX1_surest_1 18 rfl rfl)
theorem dX1_surest_41 : decode cX1_surest 41 = .ok (.ireturn, 1) := dk_172 (dk_at dksX1_surest_1 19 rfl rfl)
theorem dX1_surest_42 : decode cX1_surest 42 = .ok (.aload_n 0, 1) := dk_42 (dk_at dksX1_surest_1 20 rfl rfl)
theorem dX1_surest_43 : decode cX1_surest 43 = .ok (.iload_n 1, 1) := dk_27 (dk_at dksX1_surest_1 21 rfl rfl)
theorem dX1_surest_44 : decode cX1_surest 44 = .ok (.invokevirtual 307, 3) := dk_182 1 51 (dk_at dksX1_surest_2 0 rfl rfl)
theorem dX1_surest_47 : decode cX1_surest 47 = .ok (.iconst (-1), 1) := dk_2 (dk_at dksX1_surest_2 3 rfl rfl)
theorem dX1_surest_48 : decode cX1_surest 48 = .ok (.istore 6, 2) := dk_54 6 (dk_at dksX1_surest_2 4 rfl rfl)
theorem dX1_surest_50 : decode cX1_surest 50 = .ok (.iconst (-1), 1) := dk_2 (dk_at dksX1_surest_2 6 rfl rfl)
theorem dX1_surest_51 : decode cX1_surest 51 = .ok (.istore 7, 2) := dk_54 7 (dk_at dksX1_surest_2 7 rfl rfl)
theorem dX1_surest_53 : decode cX1_surest 53 = .ok (.iconst 0, 1) := dk_3 (dk_at dksX1_surest_2 9 rfl rfl)
theorem dX1_surest_54 : decode cX1_surest 54 = .ok (.istore 8, 2) := dk_54 8 (dk_at dksX1_surest_2 10 rfl rfl)
theorem dX1_surest_56 : decode cX1_surest 56 = .ok (.iload 8, 2) := dk_21 8 (dk_at dksX1_surest_2 12 rfl rfl)
theorem dX1_surest_58 : decode cX1_surest 58 = .ok (.aload_n 0, 1) := dk_42 (dk_at dksX1_surest_2 14 rfl rfl)
theorem dX1_surest_59 : decode cX1_surest 59 = .ok (.getfield 19, 3) := dk_180 0 19 (dk_at dksX1_surest_2 15 rfl rfl)
theorem dX1_surest_62 : decode cX1_surest 62 = .ok (.getfield 81, 3) := dk_180 0 81 (dk_at dksX1_surest_2 18 rfl rfl)
theorem dX1_surest_65 : decode cX1_surest 65 = .ok (.if_icmp .ge 53, 3) := dk_162 0 53 (dk_at dksX1_surest_2 21 rfl rfl)
theorem dX1_surest_68 : decode cX1_surest 68 = .ok (.iload 4, 2) := dk_21 4 (dk_at dksX1_surest_3 0 rfl rfl)
theorem dX1_surest_70 : decode cX1_surest 70 = .ok (.iload 8, 2) := dk_21 8 (dk_at dksX1_surest_3 2 rfl rfl)
theorem dX1_surest_72 : decode cX1_surest 72 = .ok (.ishr, 1) := dk_122 (dk_at dksX1_surest_3 4 rfl rfl)
theorem dX1_surest_73 : decode cX1_surest 73 = .ok (.iconst 1, 1) := dk_4 (dk_at dksX1_surest_3 5 rfl rfl)
theorem dX1_surest_74 : decode cX1_surest 74 = .ok (.iand, 1) := dk_126 (dk_at dksX1_surest_3 6 rfl rfl)
theorem dX1_surest_75 : decode cX1_surest 75 = .ok (.iconst 1, 1) := dk_4 (dk_at dksX1_surest_3 7 rfl rfl)
theorem dX1_surest_76 : decode cX1_surest 76 = .ok (.if_icmp .ne 15, 3) := dk_160 0 15 (dk_at dksX1_surest_3 8 rfl rfl)
theorem dX1_surest_79 : decode cX1_surest 79 = .ok (.aload_n 0, 1) := dk_42 (dk_at dksX1_surest_3 11 rfl rfl)
theorem dX1_surest_80 : decode cX1_surest 80 = .ok (.iload 8, 2) := dk_21 8 (dk_at dksX1_surest_3 12 rfl rfl)
theorem dX1_surest_82 : decode cX1_surest 82 = .ok (.iload 5, 2) := dk_21 5 (dk_at dksX1_surest_3 14 rfl rfl)
theorem dX1_surest_84 : decode cX1_surest 84 = .ok (.iload_n 2, 1) := dk_28 (dk_at dksX1_surest_3 16 rfl rfl)
theorem dX1_surest_85 : decode cX1_surest 85 = .ok (.invokevirtual 310, 3) := dk_182 1 54 (dk_at dksX1_surest_3 17 rfl rfl)
theorem dX1_surest_88 : decode cX1_surest 88 = .ok (.goto 4, 3) := dk_167 0 4 (dk_at dksX1_surest_3 20 rfl rfl)
theorem dX1_surest_91 : decode cX1_surest 91 = .ok (.iconst (-1), 1) := dk_2 (dk_at dksX1_surest_3 23 rfl rfl)
theorem dX1_surest_92 : decode cX1_surest 92 = .ok (.istore 9, 2) := dk_54 9 (dk_at dksX1_surest_4 0 rfl rfl)
theorem dX1_surest_94 : decode cX1_surest 94 = .ok (.iload 9, 2) := dk_21 9 (dk_at dksX1_surest_4 2 rfl rfl)
theorem dX1_surest_96 : decode cX1_surest 96 = .ok (.iload 7, 2) := dk_21 7 (dk_at dksX1_surest_4 4 rfl rfl)
theorem dX1_surest_98 : decode cX1_surest 98 = .ok (.if_icmp .gt 6, 3) := dk_163 0 6 (dk_at dksX1_surest_4 6 rfl rfl)
theorem dX1_surest_101 : decode cX1_surest 101 = .ok (.goto 11, 3) := dk_167 0 11 (dk_at dksX1_surest_4 9 rfl rfl)
theorem dX1_surest_104 : decode cX1_surest 104 = .ok (.iload 9, 2) := dk_21 9 (dk_at dksX1_surest_4 12 rfl rfl)
theorem dX1_surest_106 : decode cX1_surest 106 = .ok (.istore 7, 2) := dk_54 7 (dk_at dksX1_surest_4 14 rfl rfl)
theorem dX1_surest_108 : decode cX1_surest 108 = .ok (.iload 8, 2) := dk_21 8 (dk_at dksX1_surest_4 16 rfl rfl)
theorem dX1_surest_110 : decode cX1_surest 110 = .ok (.istore 6, 2) := dk_54 6 (dk_at dksX1_surest_4 18 rfl rfl)
theorem dX1_surest_112 : decode cX1_surest 112 = .ok (.iinc 8 1, 3) := dk_132 8 1 (dk_at dksX1_surest_4 20 rfl rfl)
theorem dX1_surest_115 : decode cX1_surest 115 = .ok (.goto (-59), 3) := dk_167 255 197 (dk_at dksX1_surest_5 0 rfl rfl)
theorem dX1_surest_118 : decode cX1_surest 118 = .ok (.iload_n 3, 1) := dk_29 (dk_at dksX1_surest_5 3 rfl rfl)
theorem dX1_surest_119 : decode cX1_surest 119 = .ok (.ifCond .eq 8, 3) := dk_153 0 8 (dk_at dksX1_surest_5 4 rfl rfl)
theorem dX1_surest_122 : decode cX1_surest 122 = .ok (.iload 7, 2) := dk_21 7 (dk_at dksX1_surest_5 7 rfl rfl)
theorem dX1_surest_124 : decode cX1_surest 124 = .ok (.goto 5, 3) := dk_167 0 5 (dk_at dksX1_surest_5 9 rfl rfl)
theorem dX1_surest_127 : decode cX1_surest 127 = .ok (.iload 6, 2) := dk_21 6 (dk_at dksX1_surest_5 12 rfl rfl)
theorem dX1_surest_129 : decode cX1_surest 129 = .ok (.ireturn, 1) := dk_172 (dk_at dksX1_surest_5 14 rfl rfl)
abbrev cX1_isOpen : ByteArray := prog_1_method_42_code
def yX1_isOpen : MethodName := ⟨RX1, "isOpen", "(I)V"⟩
def dkwX1_isOpen_0 : List UInt8 := [42, 27, 182, 0, 191, 180, 0, 205, 154, 0, 7, 4, 167, 0, 4, 3, 184, 0, 250, 177]
abbrev dktX1_isOpen_0 : List UInt8 := dkwX1_isOpen_0 ++ []
theorem dksX1_isOpen_0 : cX1_isOpen.data.toList.drop 0 = dktX1_isOpen_0 := by decide +kernel
theorem dX1_isOpen_0 : decode cX1_isOpen 0 = .ok (.aload_n 0, 1) := dk_42 (dk_at dksX1_isOpen_0 0 rfl rfl)
theorem dX1_isOpen_1 : decode cX1_isOpen 1 = .ok (.iload_n 1, 1) := dk_27 (dk_at dksX1_isOpen_0 1 rfl rfl)
theorem dX1_isOpen_2 : decode cX1_isOpen 2 = .ok (.invokevirtual 191, 3) := dk_182 0 191 (dk_at dksX1_isOpen_0 2 rfl rfl)
theorem dX1_isOpen_5 : decode cX1_isOpen 5 = .ok (.getfield 205, 3) := dk_180 0 205 (dk_at dksX1_isOpen_0 5 rfl rfl)
theorem dX1_isOpen_8 : decode cX1_isOpen 8 = .ok (.ifCond .ne 7, 3) := dk_154 0 7 (dk_at dksX1_isOpen_0 8 rfl rfl)
theorem dX1_isOpen_11 : decode cX1_isOpen 11 = .ok (.iconst 1, 1) := dk_4 (dk_at dksX1_isOpen_0 11 rfl rfl)
theorem dX1_isOpen_12 : decode cX1_isOpen 12 = .ok (.goto 4, 3) := dk_167 0 4 (dk_at dksX1_isOpen_0 12 rfl rfl)
theorem dX1_isOpen_15 : decode cX1_isOpen 15 = .ok (.iconst 0, 1) := dk_3 (dk_at dksX1_isOpen_0 15 rfl rfl)
theorem dX1_isOpen_16 : decode cX1_isOpen 16 = .ok (.invokestatic 250, 3) := dk_184 0 250 (dk_at dksX1_isOpen_0 16 rfl rfl)
theorem dX1_isOpen_19 : decode cX1_isOpen 19 = .ok (.return_, 1) := dk_177 (dk_at dksX1_isOpen_0 19 rfl rfl)
abbrev cX1_compares : ByteArray := prog_1_method_43_code
def yX1_compares : MethodName := ⟨RX1, "compares", "(I)V"⟩
def dkwX1_compares_5 : List UInt8 := [132, 5, 1, 167, 255, 174, 132, 4, 1, 167, 255, 153, 177]
abbrev dktX1_compares_5 : List UInt8 := dkwX1_compares_5 ++ []
def dkwX1_compares_4 : List UInt8 := [180, 0, 46, 16, 6, 21, 4, 104, 21, 5, 96, 42, 42, 180, 0, 39, 42, 180, 0, 35, 182, 1, 36, 79]
abbrev dktX1_compares_4 : List UInt8 := dkwX1_compares_4 ++ dktX1_compares_5
def dkwX1_compares_3 : List UInt8 := [42, 180, 0, 42, 16, 6, 21, 4, 104, 21, 5, 96, 42, 21, 4, 21, 5, 182, 1, 40, 79, 42]
abbrev dktX1_compares_3 : List UInt8 := dkwX1_compares_3 ++ dktX1_compares_4
def dkwX1_compares_2 : List UInt8 := [162, 0, 76, 28, 21, 4, 122, 4, 126, 153, 0, 61, 29, 21, 5, 122, 4, 126, 154, 0, 6, 167, 0, 49]
abbrev dktX1_compares_2 : List UInt8 := dkwX1_compares_2 ++ dktX1_compares_3
def dkwX1_compares_1 : List UInt8 := [21, 4, 42, 180, 0, 19, 180, 0, 81, 162, 0, 97, 3, 54, 5, 21, 5, 42, 180, 0, 19, 180, 0, 81]
abbrev dktX1_compares_1 : List UInt8 := dkwX1_compares_1 ++ dktX1_compares_2
def dkwX1_compares_0 : List UInt8 := [42, 180, 0, 19, 27, 3, 182, 0, 208, 61, 42, 180, 0, 19, 27, 4, 182, 0, 208, 62, 3, 54, 4]
abbrev dktX1_compares_0 : List UInt8 := dkwX1_compares_0 ++ dktX1_compares_1
theorem dksX1_compares_0 : cX1_compares.data.toList.drop 0 = dktX1_compares_0 := by decide +kernel
theorem dksX1_compares_1 : cX1_compares.data.toList.drop 23 = dktX1_compares_1 := dk_seg dksX1_compares_0 23 rfl rfl
theorem dksX1_compares_2 : cX1_compares.data.toList.drop 47 = dktX1_compares_2 := dk_seg dksX1_compares_1 24 rfl rfl
theorem dksX1_compares_3 : cX1_compares.data.toList.drop 71 = dktX1_compares_3 := dk_seg dksX1_compares_2 24 rfl rfl
theorem dksX1_compares_4 : cX1_compares.data.toList.drop 93 = dktX1_compares_4 := dk_seg dksX1_compares_3 22 rfl rfl
theorem dksX1_compares_5 : cX1_compares.data.toList.drop 117 = dktX1_compares_5 := dk_seg dksX1_compares_4 24 rfl rfl
theorem dX1_compares_0 : decode cX1_compares 0 = .ok (.aload_n 0, 1) := dk_42 (dk_at dksX1_compares_0 0 rfl rfl)
theorem dX1_compares_1 : decode cX1_compares 1 = .ok (.getfield 19, 3) := dk_180 0 19 (dk_at dksX1_compares_0 1 rfl rfl)
theorem dX1_compares_4 : decode cX1_compares 4 = .ok (.iload_n 1, 1) := dk_27 (dk_at dksX1_compares_0 4 rfl rfl)
theorem dX1_compares_5 : decode cX1_compares 5 = .ok (.iconst 0, 1) := dk_3 (dk_at dksX1_compares_0 5 rfl rfl)
theorem dX1_compares_6 : decode cX1_compares 6 = .ok (.invokevirtual 208, 3) := dk_182 0 208 (dk_at dksX1_compares_0 6 rfl rfl)
theorem dX1_compares_9 : decode cX1_compares 9 = .ok (.istore_n 2, 1) := dk_61 (dk_at dksX1_compares_0 9 rfl rfl)
theorem dX1_compares_10 : decode cX1_compares 10 = .ok (.aload_n 0, 1) := dk_42 (dk_at dksX1_compares_0 10 rfl rfl)
theorem dX1_compares_11 : decode cX1_compares 11 = .ok (.getfield 19, 3) := dk_180 0 19 (dk_at dksX1_compares_0 11 rfl rfl)
theorem dX1_compares_14 : decode cX1_compares 14 = .ok (.iload_n 1, 1) := dk_27 (dk_at dksX1_compares_0 14 rfl rfl)
theorem dX1_compares_15 : decode cX1_compares 15 = .ok (.iconst 1, 1) := dk_4 (dk_at dksX1_compares_0 15 rfl rfl)
theorem dX1_compares_16 : decode cX1_compares 16 = .ok (.invokevirtual 208, 3) := dk_182 0 208 (dk_at dksX1_compares_0 16 rfl rfl)
theorem dX1_compares_19 : decode cX1_compares 19 = .ok (.istore_n 3, 1) := dk_62 (dk_at dksX1_compares_0 19 rfl rfl)
theorem dX1_compares_20 : decode cX1_compares 20 = .ok (.iconst 0, 1) := dk_3 (dk_at dksX1_compares_0 20 rfl rfl)
theorem dX1_compares_21 : decode cX1_compares 21 = .ok (.istore 4, 2) := dk_54 4 (dk_at dksX1_compares_0 21 rfl rfl)
theorem dX1_compares_23 : decode cX1_compares 23 = .ok (.iload 4, 2) := dk_21 4 (dk_at dksX1_compares_1 0 rfl rfl)
theorem dX1_compares_25 : decode cX1_compares 25 = .ok (.aload_n 0, 1) := dk_42 (dk_at dksX1_compares_1 2 rfl rfl)
theorem dX1_compares_26 : decode cX1_compares 26 = .ok (.getfield 19, 3) := dk_180 0 19 (dk_at dksX1_compares_1 3 rfl rfl)
theorem dX1_compares_29 : decode cX1_compares 29 = .ok (.getfield 81, 3) := dk_180 0 81 (dk_at dksX1_compares_1 6 rfl rfl)
theorem dX1_compares_32 : decode cX1_compares 32 = .ok (.if_icmp .ge 97, 3) := dk_162 0 97 (dk_at dksX1_compares_1 9 rfl rfl)
theorem dX1_compares_35 : decode cX1_compares 35 = .ok (.iconst 0, 1) := dk_3 (dk_at dksX1_compares_1 12 rfl rfl)
theorem dX1_compares_36 : decode cX1_compares 36 = .ok (.istore 5, 2) := dk_54 5 (dk_at dksX1_compares_1 13 rfl rfl)
theorem dX1_compares_38 : decode cX1_compares 38 = .ok (.iload 5, 2) := dk_21 5 (dk_at dksX1_compares_1 15 rfl rfl)
theorem dX1_compares_40 : decode cX1_compares 40 = .ok (.aload_n 0, 1) := dk_42 (dk_at dksX1_compares_1 17 rfl rfl)
theorem dX1_compares_41 : decode cX1_compares 41 = .ok (.getfield 19, 3) := dk_180 0 19 (dk_at dksX1_compares_1 18 rfl rfl)
theorem dX1_compares_44 : decode cX1_compares 44 = .ok (.getfield 81, 3) := dk_180 0 81 (dk_at dksX1_compares_1 21 rfl rfl)
theorem dX1_compares_47 : decode cX1_compares 47 = .ok (.if_icmp .ge 76, 3) := dk_162 0 76 (dk_at dksX1_compares_2 0 rfl rfl)
theorem dX1_compares_50 : decode cX1_compares 50 = .ok (.iload_n 2, 1) := dk_28 (dk_at dksX1_compares_2 3 rfl rfl)
theorem dX1_compares_51 : decode cX1_compares 51 = .ok (.iload 4, 2) := dk_21 4 (dk_at dksX1_compares_2 4 rfl rfl)
theorem dX1_compares_53 : decode cX1_compares 53 = .ok (.ishr, 1) := dk_122 (dk_at dksX1_compares_2 6 rfl rfl)
theorem dX1_compares_54 : decode cX1_compares 54 = .ok (.iconst 1, 1) := dk_4 (dk_at dksX1_compares_2 7 rfl rfl)
theorem dX1_compares_55 : decode cX1_compares 55 = .ok (.iand, 1) := dk_126 (dk_at dksX1_compares_2 8 rfl rfl)
theorem dX1_compares_56 : decode cX1_compares 56 = .ok (.ifCond .eq 61, 3) := dk_153 0 61 (dk_at dksX1_compares_2 9 rfl rfl)
theorem dX1_compares_59 : decode cX1_compares 59 = .ok (.iload_n 3, 1) := dk_29 (dk_at dksX1_compares_2 12 rfl rfl)
theorem dX1_compares_60 : decode cX1_compares 60 = .ok (.iload 5, 2) := dk_21 5 (dk_at dksX1_compares_2 13 rfl rfl)
theorem dX1_compares_62 : decode cX1_compares 62 = .ok (.ishr, 1) := dk_122 (dk_at dksX1_compares_2 15 rfl rfl)
theorem dX1_compares_63 : decode cX1_compares 63 = .ok (.iconst 1, 1) := dk_4 (dk_at dksX1_compares_2 16 rfl rfl)
theorem dX1_compares_64 : decode cX1_compares 64 = .ok (.iand, 1) := dk_126 (dk_at dksX1_compares_2 17 rfl rfl)
theorem dX1_compares_65 : decode cX1_compares 65 = .ok (.ifCond .ne 6, 3) := dk_154 0 6 (dk_at dksX1_compares_2 18 rfl rfl)
theorem dX1_compares_68 : decode cX1_compares 68 = .ok (.goto 49, 3) := dk_167 0 49 (dk_at dksX1_compares_2 21 rfl rfl)
theorem dX1_compares_71 : decode cX1_compares 71 = .ok (.aload_n 0, 1) := dk_42 (dk_at dksX1_compares_3 0 rfl rfl)
theorem dX1_compares_72 : decode cX1_compares 72 = .ok (.getfield 42, 3) := dk_180 0 42 (dk_at dksX1_compares_3 1 rfl rfl)
theorem dX1_compares_75 : decode cX1_compares 75 = .ok (.bipush 6, 2) := dk_16 6 (dk_at dksX1_compares_3 4 rfl rfl)
theorem dX1_compares_77 : decode cX1_compares 77 = .ok (.iload 4, 2) := dk_21 4 (dk_at dksX1_compares_3 6 rfl rfl)
theorem dX1_compares_79 : decode cX1_compares 79 = .ok (.imul, 1) := dk_104 (dk_at dksX1_compares_3 8 rfl rfl)
theorem dX1_compares_80 : decode cX1_compares 80 = .ok (.iload 5, 2) := dk_21 5 (dk_at dksX1_compares_3 9 rfl rfl)
theorem dX1_compares_82 : decode cX1_compares 82 = .ok (.iadd, 1) := dk_96 (dk_at dksX1_compares_3 11 rfl rfl)
theorem dX1_compares_83 : decode cX1_compares 83 = .ok (.aload_n 0, 1) := dk_42 (dk_at dksX1_compares_3 12 rfl rfl)
theorem dX1_compares_84 : decode cX1_compares 84 = .ok (.iload 4, 2) := dk_21 4 (dk_at dksX1_compares_3 13 rfl rfl)
theorem dX1_compares_86 : decode cX1_compares 86 = .ok (.iload 5, 2) := dk_21 5 (dk_at dksX1_compares_3 15 rfl rfl)
theorem dX1_compares_88 : decode cX1_compares 88 = .ok (.invokevirtual 296, 3) := dk_182 1 40 (dk_at dksX1_compares_3 17 rfl rfl)
theorem dX1_compares_91 : decode cX1_compares 91 = .ok (.iastore, 1) := dk_79 (dk_at dksX1_compares_3 20 rfl rfl)
theorem dX1_compares_92 : decode cX1_compares 92 = .ok (.aload_n 0, 1) := dk_42 (dk_at dksX1_compares_3 21 rfl rfl)
theorem dX1_compares_93 : decode cX1_compares 93 = .ok (.getfield 46, 3) := dk_180 0 46 (dk_at dksX1_compares_4 0 rfl rfl)
theorem dX1_compares_96 : decode cX1_compares 96 = .ok (.bipush 6, 2) := dk_16 6 (dk_at dksX1_compares_4 3 rfl rfl)
theorem dX1_compares_98 : decode cX1_compares 98 = .ok (.iload 4, 2) := dk_21 4 (dk_at dksX1_compares_4 5 rfl rfl)
theorem dX1_compares_100 : decode cX1_compares 100 = .ok (.imul, 1) := dk_104 (dk_at dksX1_compares_4 7 rfl rfl)
theorem dX1_compares_101 : decode cX1_compares 101 = .ok (.iload 5, 2) := dk_21 5 (dk_at dksX1_compares_4 8 rfl rfl)
theorem dX1_compares_103 : decode cX1_compares 103 = .ok (.iadd, 1) := dk_96 (dk_at dksX1_compares_4 10 rfl rfl)
theorem dX1_compares_104 : decode cX1_compares 104 = .ok (.aload_n 0, 1) := dk_42 (dk_at dksX1_compares_4 11 rfl rfl)
theorem dX1_compares_105 : decode cX1_compares 105 = .ok (.aload_n 0, 1) := dk_42 (dk_at dksX1_compares_4 12 rfl rfl)
theorem dX1_compares_106 : decode cX1_compares 106 = .ok (.getfield 39, 3) := dk_180 0 39 (dk_at dksX1_compares_4 13 rfl rfl)
theorem dX1_compares_109 : decode cX1_compares 109 = .ok (.aload_n 0, 1) := dk_42 (dk_at dksX1_compares_4 16 rfl rfl)
theorem dX1_compares_110 : decode cX1_compares 110 = .ok (.getfield 35, 3) := dk_180 0 35 (dk_at dksX1_compares_4 17 rfl rfl)
theorem dX1_compares_113 : decode cX1_compares 113 = .ok (.invokevirtual 292, 3) := dk_182 1 36 (dk_at dksX1_compares_4 20 rfl rfl)
theorem dX1_compares_116 : decode cX1_compares 116 = .ok (.iastore, 1) := dk_79 (dk_at dksX1_compares_4 23 rfl rfl)
theorem dX1_compares_117 : decode cX1_compares 117 = .ok (.iinc 5 1, 3) := dk_132 5 1 (dk_at dksX1_compares_5 0 rfl rfl)
theorem dX1_compares_120 : decode cX1_compares 120 = .ok (.goto (-82), 3) := dk_167 255 174 (dk_at dksX1_compares_5 3 rfl rfl)
theorem dX1_compares_123 : decode cX1_compares 123 = .ok (.iinc 4 1, 3) := dk_132 4 1 (dk_at dksX1_compares_5 6 rfl rfl)
theorem dX1_compares_126 : decode cX1_compares 126 = .ok (.goto (-103), 3) := dk_167 255 153 (dk_at dksX1_compares_5 9 rfl rfl)
theorem dX1_compares_129 : decode cX1_compares 129 = .ok (.return_, 1) := dk_177 (dk_at dksX1_compares_5 12 rfl rfl)
abbrev cX1_leastBy : ByteArray := prog_1_method_44_code
def yX1_leastBy : MethodName := ⟨RX1, "leastBy", "(IIZ)I"⟩
def dkwX1_leastBy_3 : List UInt8 := [167, 255, 193, 20, 1, 44, 21, 4, 133, 105, 20, 1, 46, 109, 136, 172]
abbrev dktX1_leastBy_3 : List UInt8 := dkwX1_leastBy_3 ++ []
def dkwX1_leastBy_2 : List UInt8 := [167, 0, 15, 42, 180, 0, 42, 16, 6, 27, 104, 21, 5, 96, 46, 184, 0, 228, 54, 4, 132, 5, 1]
abbrev dktX1_leastBy_2 : List UInt8 := dkwX1_leastBy_2 ++ dktX1_leastBy_3
def dkwX1_leastBy_1 : List UInt8 := [4, 126, 4, 160, 0, 41, 21, 4, 29, 153, 0, 18, 42, 180, 0, 46, 16, 6, 21, 5, 104, 27, 96, 46]
abbrev dktX1_leastBy_1 : List UInt8 := dkwX1_leastBy_1 ++ dktX1_leastBy_2
def dkwX1_leastBy_0 : List UInt8 := [19, 1, 43, 54, 4, 3, 54, 5, 21, 5, 42, 180, 0, 19, 180, 0, 81, 162, 0, 57, 28, 21, 5, 122]
abbrev dktX1_leastBy_0 : List UInt8 := dkwX1_leastBy_0 ++ dktX1_leastBy_1
theorem dksX1_leastBy_0 : cX1_leastBy.data.toList.drop 0 = dktX1_leastBy_0 := by decide +kernel
theorem dksX1_leastBy_1 : cX1_leastBy.data.toList.drop 24 = dktX1_leastBy_1 := dk_seg dksX1_leastBy_0 24 rfl rfl
theorem dksX1_leastBy_2 : cX1_leastBy.data.toList.drop 48 = dktX1_leastBy_2 := dk_seg dksX1_leastBy_1 24 rfl rfl
theorem dksX1_leastBy_3 : cX1_leastBy.data.toList.drop 71 = dktX1_leastBy_3 := dk_seg dksX1_leastBy_2 23 rfl rfl
theorem dX1_leastBy_0 : decode cX1_leastBy 0 = .ok (.ldc_w 299, 3) := dk_19 1 43 (dk_at dksX1_leastBy_0 0 rfl rfl)
theorem dX1_leastBy_3 : decode cX1_leastBy 3 = .ok (.istore 4, 2) := dk_54 4 (dk_at dksX1_leastBy_0 3 rfl rfl)
theorem dX1_leastBy_5 : decode cX1_leastBy 5 = .ok (.iconst 0, 1) := dk_3 (dk_at dksX1_leastBy_0 5 rfl rfl)
theorem dX1_leastBy_6 : decode cX1_leastBy 6 = .ok (.istore 5, 2) := dk_54 5 (dk_at dksX1_leastBy_0 6 rfl rfl)
theorem dX1_leastBy_8 : decode cX1_leastBy 8 = .ok (.iload 5, 2) := dk_21 5 (dk_at dksX1_leastBy_0 8 rfl rfl)
theorem dX1_leastBy_10 : decode cX1_leastBy 10 = .ok (.aload_n 0, 1) := dk_42 (dk_at dksX1_leastBy_0 10 rfl rfl)
theorem dX1_leastBy_11 : decode cX1_leastBy 11 = .ok (.getfield 19, 3) := dk_180 0 19 (dk_at dksX1_leastBy_0 11 rfl rfl)
theorem dX1_leastBy_14 : decode cX1_leastBy 14 = .ok (.getfield 81, 3) := dk_180 0 81 (dk_at dksX1_leastBy_0 14 rfl rfl)
theorem dX1_leastBy_17 : decode cX1_leastBy 17 = .ok (.if_icmp .ge 57, 3) := dk_162 0 57 (dk_at dksX1_leastBy_0 17 rfl rfl)
theorem dX1_leastBy_20 : decode cX1_leastBy 20 = .ok (.iload_n 2, 1) := dk_28 (dk_at dksX1_leastBy_0 20 rfl rfl)
theorem dX1_leastBy_21 : decode cX1_leastBy 21 = .ok (.iload 5, 2) := dk_21 5 (dk_at dksX1_leastBy_0 21 rfl rfl)
theorem dX1_leastBy_23 : decode cX1_leastBy 23 = .ok (.ishr, 1) := dk_122 (dk_at dksX1_leastBy_0 23 rfl rfl)
theorem dX1_leastBy_24 : decode cX1_leastBy 24 = .ok (.iconst 1, 1) := dk_4 (dk_at dksX1_leastBy_1 0 rfl rfl)
theorem dX1_leastBy_25 : decode cX1_leastBy 25 = .ok (.iand, 1) := dk_126 (dk_at dksX1_leastBy_1 1 rfl rfl)
theorem dX1_leastBy_26 : decode cX1_leastBy 26 = .ok (.iconst 1, 1) := dk_4 (dk_at dksX1_leastBy_1 2 rfl rfl)
theorem dX1_leastBy_27 : decode cX1_leastBy 27 = .ok (.if_icmp .ne 41, 3) := dk_160 0 41 (dk_at dksX1_leastBy_1 3 rfl rfl)
theorem dX1_leastBy_30 : decode cX1_leastBy 30 = .ok (.iload 4, 2) := dk_21 4 (dk_at dksX1_leastBy_1 6 rfl rfl)
theorem dX1_leastBy_32 : decode cX1_leastBy 32 = .ok (.iload_n 3, 1) := dk_29 (dk_at dksX1_leastBy_1 8 rfl rfl)
theorem dX1_leastBy_33 : decode cX1_leastBy 33 = .ok (.ifCond .eq 18, 3) := dk_153 0 18 (dk_at dksX1_leastBy_1 9 rfl rfl)
theorem dX1_leastBy_36 : decode cX1_leastBy 36 = .ok (.aload_n 0, 1) := dk_42 (dk_at dksX1_leastBy_1 12 rfl rfl)
theorem dX1_leastBy_37 : decode cX1_leastBy 37 = .ok (.getfield 46, 3) := dk_180 0 46 (dk_at dksX1_leastBy_1 13 rfl rfl)
theorem dX1_leastBy_40 : decode cX1_leastBy 40 = .ok (.bipush 6, 2) := dk_16 6 (dk_at dksX1_leastBy_1 16 rfl rfl)
theorem dX1_leastBy_42 : decode cX1_leastBy 42 = .ok (.iload 5, 2) := dk_21 5 (dk_at dksX1_leastBy_1 18 rfl rfl)
theorem dX1_leastBy_44 : decode cX1_leastBy 44 = .ok (.imul, 1) := dk_104 (dk_at dksX1_leastBy_1 20 rfl rfl)
theorem dX1_leastBy_45 : decode cX1_leastBy 45 = .ok (.iload_n 1, 1) := dk_27 (dk_at dksX1_leastBy_1 21 rfl rfl)
theorem dX1_leastBy_46 : decode cX1_leastBy 46 = .ok (.iadd, 1) := dk_96 (dk_at dksX1_leastBy_1 22 rfl rfl)
theorem dX1_leastBy_47 : decode cX1_leastBy 47 = .ok (.iaload, 1) := dk_46 (dk_at dksX1_leastBy_1 23 rfl rfl)
theorem dX1_leastBy_48 : decode cX1_leastBy 48 = .ok (.goto 15, 3) := dk_167 0 15 (dk_at dksX1_leastBy_2 0 rfl rfl)
theorem dX1_leastBy_51 : decode cX1_leastBy 51 = .ok (.aload_n 0, 1) := dk_42 (dk_at dksX1_leastBy_2 3 rfl rfl)
theorem dX1_leastBy_52 : decode cX1_leastBy 52 = .ok (.getfield 42, 3) := dk_180 0 42 (dk_at dksX1_leastBy_2 4 rfl rfl)
theorem dX1_leastBy_55 : decode cX1_leastBy 55 = .ok (.bipush 6, 2) := dk_16 6 (dk_at dksX1_leastBy_2 7 rfl rfl)
theorem dX1_leastBy_57 : decode cX1_leastBy 57 = .ok (.iload_n 1, 1) := dk_27 (dk_at dksX1_leastBy_2 9 rfl rfl)
theorem dX1_leastBy_58 : decode cX1_leastBy 58 = .ok (.imul, 1) := dk_104 (dk_at dksX1_leastBy_2 10 rfl rfl)
theorem dX1_leastBy_59 : decode cX1_leastBy 59 = .ok (.iload 5, 2) := dk_21 5 (dk_at dksX1_leastBy_2 11 rfl rfl)
theorem dX1_leastBy_61 : decode cX1_leastBy 61 = .ok (.iadd, 1) := dk_96 (dk_at dksX1_leastBy_2 13 rfl rfl)
theorem dX1_leastBy_62 : decode cX1_leastBy 62 = .ok (.iaload, 1) := dk_46 (dk_at dksX1_leastBy_2 14 rfl rfl)
theorem dX1_leastBy_63 : decode cX1_leastBy 63 = .ok (.invokestatic 228, 3) := dk_184 0 228 (dk_at dksX1_leastBy_2 15 rfl rfl)
theorem dX1_leastBy_66 : decode cX1_leastBy 66 = .ok (.istore 4, 2) := dk_54 4 (dk_at dksX1_leastBy_2 18 rfl rfl)
theorem dX1_leastBy_68 : decode cX1_leastBy 68 = .ok (.iinc 5 1, 3) := dk_132 5 1 (dk_at dksX1_leastBy_2 20 rfl rfl)
theorem dX1_leastBy_71 : decode cX1_leastBy 71 = .ok (.goto (-63), 3) := dk_167 255 193 (dk_at dksX1_leastBy_3 0 rfl rfl)
theorem dX1_leastBy_74 : decode cX1_leastBy 74 = .ok (.ldc2_w 300, 3) := dk_20 1 44 (dk_at dksX1_leastBy_3 3 rfl rfl)
theorem dX1_leastBy_77 : decode cX1_leastBy 77 = .ok (.iload 4, 2) := dk_21 4 (dk_at dksX1_leastBy_3 6 rfl rfl)
theorem dX1_leastBy_79 : decode cX1_leastBy 79 = .ok (.i2l, 1) := dk_133 (dk_at dksX1_leastBy_3 8 rfl rfl)
theorem dX1_leastBy_80 : decode cX1_leastBy 80 = .ok (.lmul, 1) := dk_105 (dk_at dksX1_leastBy_3 9 rfl rfl)
theorem dX1_leastBy_81 : decode cX1_leastBy 81 = .ok (.ldc2_w 302, 3) := dk_20 1 46 (dk_at dksX1_leastBy_3 10 rfl rfl)
theorem dX1_leastBy_84 : decode cX1_leastBy 84 = .ok (.ldiv, 1) := dk_109 (dk_at dksX1_leastBy_3 13 rfl rfl)
theorem dX1_leastBy_85 : decode cX1_leastBy 85 = .ok (.l2i, 1) := dk_136 (dk_at dksX1_leastBy_3 14 rfl rfl)
theorem dX1_leastBy_86 : decode cX1_leastBy 86 = .ok (.ireturn, 1) := dk_172 (dk_at dksX1_leastBy_3 15 rfl rfl)
abbrev cX1_rests : ByteArray := prog_1_method_47_code
def yX1_rests : MethodName := ⟨RX1, "rests", "(IZ)I"⟩
def dkwX1_rests_5 : List UInt8 := [21, 6, 54, 6, 132, 7, 1, 167, 255, 172, 28, 153, 0, 8, 21, 6, 167, 0, 5, 21, 5, 172]
abbrev dktX1_rests_5 : List UInt8 := dkwX1_rests_5 ++ []
def dkwX1_rests_4 : List UInt8 := [167, 0, 27, 132, 5, 1, 21, 6, 2, 160, 0, 14, 16, 10, 21, 8, 104, 21, 9, 96, 167, 0, 5]
abbrev dktX1_rests_4 : List UInt8 := dkwX1_rests_4 ++ dktX1_rests_5
def dkwX1_rests_3 : List UInt8 := [21, 4, 21, 9, 122, 4, 126, 153, 0, 44, 42, 21, 8, 21, 9, 29, 21, 4, 182, 1, 58, 154, 0, 6]
abbrev dktX1_rests_3 : List UInt8 := dkwX1_rests_3 ++ dktX1_rests_4
def dkwX1_rests_2 : List UInt8 := [21, 7, 16, 6, 108, 54, 8, 21, 7, 16, 6, 112, 54, 9, 29, 21, 8, 122, 4, 126, 153, 0, 54]
abbrev dktX1_rests_2 : List UInt8 := dkwX1_rests_2 ++ dktX1_rests_3
def dkwX1_rests_1 : List UInt8 := [27, 4, 182, 0, 208, 54, 4, 3, 54, 5, 2, 54, 6, 3, 54, 7, 21, 7, 16, 36, 162, 0, 83]
abbrev dktX1_rests_1 : List UInt8 := dkwX1_rests_1 ++ dktX1_rests_2
def dkwX1_rests_0 : List UInt8 := [42, 27, 182, 1, 48, 42, 27, 182, 1, 51, 42, 180, 0, 19, 27, 3, 182, 0, 208, 62, 42, 180, 0, 19]
abbrev dktX1_rests_0 : List UInt8 := dkwX1_rests_0 ++ dktX1_rests_1
theorem dksX1_rests_0 : cX1_rests.data.toList.drop 0 = dktX1_rests_0 := by decide +kernel
theorem dksX1_rests_1 : cX1_rests.data.toList.drop 24 = dktX1_rests_1 := dk_seg dksX1_rests_0 24 rfl rfl
theorem dksX1_rests_2 : cX1_rests.data.toList.drop 47 = dktX1_rests_2 := dk_seg dksX1_rests_1 23 rfl rfl
theorem dksX1_rests_3 : cX1_rests.data.toList.drop 70 = dktX1_rests_3 := dk_seg dksX1_rests_2 23 rfl rfl
theorem dksX1_rests_4 : cX1_rests.data.toList.drop 94 = dktX1_rests_4 := dk_seg dksX1_rests_3 24 rfl rfl
theorem dksX1_rests_5 : cX1_rests.data.toList.drop 117 = dktX1_rests_5 := dk_seg dksX1_rests_4 23 rfl rfl
theorem dX1_rests_0 : decode cX1_rests 0 = .ok (.aload_n 0, 1) := dk_42 (dk_at dksX1_rests_0 0 rfl rfl)
theorem dX1_rests_1 : decode cX1_rests 1 = .ok (.iload_n 1, 1) := dk_27 (dk_at dksX1_rests_0 1 rfl rfl)
theorem dX1_rests_2 : decode cX1_rests 2 = .ok (.invokevirtual 304, 3) := dk_182 1 48 (dk_at dksX1_rests_0 2 rfl rfl)
theorem dX1_rests_5 : decode cX1_rests 5 = .ok (.aload_n 0, 1) := dk_42 (dk_at dksX1_rests_0 5 rfl rfl)
theorem dX1_rests_6 : decode cX1_rests 6 = .ok (.iload_n 1, 1) := dk_27 (dk_at dksX1_rests_0 6 rfl rfl)
theorem dX1_rests_7 : decode cX1_rests 7 = .ok (.invokevirtual 307, 3) := dk_182 1 51 (dk_at dksX1_rests_0 7 rfl rfl)
theorem dX1_rests_10 : decode cX1_rests 10 = .ok (.aload_n 0, 1) := dk_42 (dk_at dksX1_rests_0 10 rfl rfl)
theorem dX1_rests_11 : decode cX1_rests 11 = .ok (.getfield 19, 3) := dk_180 0 19 (dk_at dksX1_rests_0 11 rfl rfl)
theorem dX1_rests_14 : decode cX1_rests 14 = .ok (.iload_n 1, 1) := dk_27 (dk_at dksX1_rests_0 14 rfl rfl)
theorem dX1_rests_15 : decode cX1_rests 15 = .ok (.iconst 0, 1) := dk_3 (dk_at dksX1_rests_0 15 rfl rfl)
theorem dX1_rests_16 : decode cX1_rests 16 = .ok (.invokevirtual 208, 3) := dk_182 0 208 (dk_at dksX1_rests_0 16 rfl rfl)
theorem dX1_rests_19 : decode cX1_rests 19 = .ok (.istore_n 3, 1) := dk_62 (dk_at dksX1_rests_0 19 rfl rfl)
theorem dX1_rests_20 : decode cX1_rests 20 = .ok (.aload_n 0, 1) := dk_42 (dk_at dksX1_rests_0 20 rfl rfl)
theorem dX1_rests_21 : decode cX1_rests 21 = .ok (.getfield 19, 3) := dk_180 0 19 (dk_at dksX1_rests_0 21 rfl rfl)
theorem dX1_rests_24 : decode cX1_rests 24 = .ok (.iload_n 1, 1) := dk_27 (dk_at dksX1_rests_1 0 rfl rfl)
theorem dX1_rests_25 : decode cX1_rests 25 = .ok (.iconst 1, 1) := dk_4 (dk_at dksX1_rests_1 1 rfl rfl)
theorem dX1_rests_26 : decode cX1_rests 26 = .ok (.invokevirtual 208, 3) := dk_182 0 208 (dk_at dksX1_rests_1 2 rfl rfl)
theorem dX1_rests_29 : decode cX1_rests 29 = .ok (.istore 4, 2) := dk_54 4 (dk_at dksX1_rests_1 5 rfl rfl)
theorem dX1_rests_31 : decode cX1_rests 31 = .ok (.iconst 0, 1) := dk_3 (dk_at dksX1_rests_1 7 rfl rfl)
theorem dX1_rests_32 : decode cX1_rests 32 = .ok (.istore 5, 2) := dk_54 5 (dk_at dksX1_rests_1 8 rfl rfl)
theorem dX1_rests_34 : decode cX1_rests 34 = .ok (.iconst (-1), 1) := dk_2 (dk_at dksX1_rests_1 10 rfl rfl)
theorem dX1_rests_35 : decode cX1_rests 35 = .ok (.istore 6, 2) := dk_54 6 (dk_at dksX1_rests_1 11 rfl rfl)
theorem dX1_rests_37 : decode cX1_rests 37 = .ok (.iconst 0, 1) := dk_3 (dk_at dksX1_rests_1 13 rfl rfl)
theorem dX1_rests_38 : decode cX1_rests 38 = .ok (.istore 7, 2) := dk_54 7 (dk_at dksX1_rests_1 14 rfl rfl)
theorem dX1_rests_40 : decode cX1_rests 40 = .ok (.iload 7, 2) := dk_21 7 (dk_at dksX1_rests_1 16 rfl rfl)
theorem dX1_rests_42 : decode cX1_rests 42 = .ok (.bipush 36, 2) := dk_16 36 (dk_at dksX1_rests_1 18 rfl rfl)
theorem dX1_rests_44 : decode cX1_rests 44 = .ok (.if_icmp .ge 83, 3) := dk_162 0 83 (dk_at dksX1_rests_1 20 rfl rfl)
theorem dX1_rests_47 : decode cX1_rests 47 = .ok (.iload 7, 2) := dk_21 7 (dk_at dksX1_rests_2 0 rfl rfl)
theorem dX1_rests_49 : decode cX1_rests 49 = .ok (.bipush 6, 2) := dk_16 6 (dk_at dksX1_rests_2 2 rfl rfl)
theorem dX1_rests_51 : decode cX1_rests 51 = .ok (.idiv, 1) := dk_108 (dk_at dksX1_rests_2 4 rfl rfl)
theorem dX1_rests_52 : decode cX1_rests 52 = .ok (.istore 8, 2) := dk_54 8 (dk_at dksX1_rests_2 5 rfl rfl)
theorem dX1_rests_54 : decode cX1_rests 54 = .ok (.iload 7, 2) := dk_21 7 (dk_at dksX1_rests_2 7 rfl rfl)
theorem dX1_rests_56 : decode cX1_rests 56 = .ok (.bipush 6, 2) := dk_16 6 (dk_at dksX1_rests_2 9 rfl rfl)
theorem dX1_rests_58 : decode cX1_rests 58 = .ok (.irem, 1) := dk_112 (dk_at dksX1_rests_2 11 rfl rfl)
theorem dX1_rests_59 : decode cX1_rests 59 = .ok (.istore 9, 2) := dk_54 9 (dk_at dksX1_rests_2 12 rfl rfl)
theorem dX1_rests_61 : decode cX1_rests 61 = .ok (.iload_n 3, 1) := dk_29 (dk_at dksX1_rests_2 14 rfl rfl)
theorem dX1_rests_62 : decode cX1_rests 62 = .ok (.iload 8, 2) := dk_21 8 (dk_at dksX1_rests_2 15 rfl rfl)
theorem dX1_rests_64 : decode cX1_rests 64 = .ok (.ishr, 1) := dk_122 (dk_at dksX1_rests_2 17 rfl rfl)
theorem dX1_rests_65 : decode cX1_rests 65 = .ok (.iconst 1, 1) := dk_4 (dk_at dksX1_rests_2 18 rfl rfl)
theorem dX1_rests_66 : decode cX1_rests 66 = .ok (.iand, 1) := dk_126 (dk_at dksX1_rests_2 19 rfl rfl)
theorem dX1_rests_67 : decode cX1_rests 67 = .ok (.ifCond .eq 54, 3) := dk_153 0 54 (dk_at dksX1_rests_2 20 rfl rfl)
theorem dX1_rests_70 : decode cX1_rests 70 = .ok (.iload 4, 2) := dk_21 4 (dk_at dksX1_rests_3 0 rfl rfl)
theorem dX1_rests_72 : decode cX1_rests 72 = .ok (.iload 9, 2) := dk_21 9 (dk_at dksX1_rests_3 2 rfl rfl)
theorem dX1_rests_74 : decode cX1_rests 74 = .ok (.ishr, 1) := dk_122 (dk_at dksX1_rests_3 4 rfl rfl)
theorem dX1_rests_75 : decode cX1_rests 75 = .ok (.iconst 1, 1) := dk_4 (dk_at dksX1_rests_3 5 rfl rfl)
theorem dX1_rests_76 : decode cX1_rests 76 = .ok (.iand, 1) := dk_126 (dk_at dksX1_rests_3 6 rfl rfl)
theorem dX1_rests_77 : decode cX1_rests 77 = .ok (.ifCond .eq 44, 3) := dk_153 0 44 (dk_at dksX1_rests_3 7 rfl rfl)
theorem dX1_rests_80 : decode cX1_rests 80 = .ok (.aload_n 0, 1) := dk_42 (dk_at dksX1_rests_3 10 rfl rfl)
theorem dX1_rests_81 : decode cX1_rests 81 = .ok (.iload 8, 2) := dk_21 8 (dk_at dksX1_rests_3 11 rfl rfl)
theorem dX1_rests_83 : decode cX1_rests 83 = .ok (.iload 9, 2) := dk_21 9 (dk_at dksX1_rests_3 13 rfl rfl)
theorem dX1_rests_85 : decode cX1_rests 85 = .ok (.iload_n 3, 1) := dk_29 (dk_at dksX1_rests_3 15 rfl rfl)
theorem dX1_rests_86 : decode cX1_rests 86 = .ok (.iload 4, 2) := dk_21 4 (dk_at dksX1_rests_3 16 rfl rfl)
theorem dX1_rests_88 : decode cX1_rests 88 = .ok (.invokevirtual 314, 3) := dk_182 1 58 (dk_at dksX1_rests_3 18 rfl rfl)
theorem dX1_rests_91 : decode cX1_rests 91 = .ok (.ifCond .ne 6, 3) := dk_154 0 6 (dk_at dksX1_rests_3 21 rfl rfl)
theorem dX1_rests_94 : decode cX1_rests 94 = .ok (.goto 27, 3) := dk_167 0 27 (dk_at dksX1_rests_4 0 rfl rfl)
theorem dX1_rests_97 : decode cX1_rests 97 = .ok (.iinc 5 1, 3) := dk_132 5 1 (dk_at dksX1_rests_4 3 rfl rfl)
theorem dX1_rests_100 : decode cX1_rests 100 = .ok (.iload 6, 2) := dk_21 6 (dk_at dksX1_rests_4 6 rfl rfl)
theorem dX1_rests_102 : decode cX1_rests 102 = .ok (.iconst (-1), 1) := dk_2 (dk_at dksX1_rests_4 8 rfl rfl)
theorem dX1_rests_103 : decode cX1_rests 103 = .ok (.if_icmp .ne 14, 3) := dk_160 0 14 (dk_at dksX1_rests_4 9 rfl rfl)
theorem dX1_rests_106 : decode cX1_rests 106 = .ok (.bipush 10, 2) := dk_16 10 (dk_at dksX1_rests_4 12 rfl rfl)
theorem dX1_rests_108 : decode cX1_rests 108 = .ok (.iload 8, 2) := dk_21 8 (dk_at dksX1_rests_4 14 rfl rfl)
theorem dX1_rests_110 : decode cX1_rests 110 = .ok (.imul, 1) := dk_104 (dk_at dksX1_rests_4 16 rfl rfl)
theorem dX1_rests_111 : decode cX1_rests 111 = .ok (.iload 9, 2) := dk_21 9 (dk_at dksX1_rests_4 17 rfl rfl)
theorem dX1_rests_113 : decode cX1_rests 113 = .ok (.iadd, 1) := dk_96 (dk_at dksX1_rests_4 19 rfl rfl)
theorem dX1_rests_114 : decode cX1_rests 114 = .ok (.goto 5, 3) := dk_167 0 5 (dk_at dksX1_rests_4 20 rfl rfl)
theorem dX1_rests_117 : decode cX1_rests 117 = .ok (.iload 6, 2) := dk_21 6 (dk_at dksX1_rests_5 0 rfl rfl)
theorem dX1_rests_119 : decode cX1_rests 119 = .ok (.istore 6, 2) := dk_54 6 (dk_at dksX1_rests_5 2 rfl rfl)
theorem dX1_rests_121 : decode cX1_rests 121 = .ok (.iinc 7 1, 3) := dk_132 7 1 (dk_at dksX1_rests_5 4 rfl rfl)
theorem dX1_rests_124 : decode cX1_rests 124 = .ok (.goto (-84), 3) := dk_167 255 172 (dk_at dksX1_rests_5 7 rfl rfl)
theorem dX1_rests_127 : decode cX1_rests 127 = .ok (.iload_n 2, 1) := dk_28 (dk_at dksX1_rests_5 10 rfl rfl)
theorem dX1_rests_128 : decode cX1_rests 128 = .ok (.ifCond .eq 8, 3) := dk_153 0 8 (dk_at dksX1_rests_5 11 rfl rfl)
theorem dX1_rests_131 : decode cX1_rests 131 = .ok (.iload 6, 2) := dk_21 6 (dk_at dksX1_rests_5 14 rfl rfl)
theorem dX1_rests_133 : decode cX1_rests 133 = .ok (.goto 5, 3) := dk_167 0 5 (dk_at dksX1_rests_5 16 rfl rfl)
theorem dX1_rests_136 : decode cX1_rests 136 = .ok (.iload 5, 2) := dk_21 5 (dk_at dksX1_rests_5 19 rfl rfl)
theorem dX1_rests_138 : decode cX1_rests 138 = .ok (.ireturn, 1) := dk_172 (dk_at dksX1_rests_5 21 rfl rfl)
abbrev cX1_isRest : ByteArray := prog_1_method_46_code
def yX1_isRest : MethodName := ⟨RX1, "isRest", "(IIII)Z"⟩
def dkwX1_isRest_4 : List UInt8 := [96, 46, 163, 0, 7, 4, 167, 0, 4, 3, 126, 54, 5, 132, 6, 1, 167, 255, 150, 21, 5, 172]
abbrev dktX1_isRest_4 : List UInt8 := dkwX1_isRest_4 ++ []
def dkwX1_isRest_3 : List UInt8 := [153, 0, 29, 42, 180, 0, 46, 16, 6, 27, 104, 21, 6, 96, 46, 42, 180, 0, 46, 16, 6, 27, 104, 28]
abbrev dktX1_isRest_3 : List UInt8 := dkwX1_isRest_3 ++ dktX1_isRest_4
def dkwX1_isRest_2 : List UInt8 := [104, 28, 96, 46, 163, 0, 7, 4, 167, 0, 4, 3, 126, 54, 5, 21, 5, 21, 4, 21, 6, 122, 4, 126]
abbrev dktX1_isRest_2 : List UInt8 := dkwX1_isRest_2 ++ dktX1_isRest_3
def dkwX1_isRest_1 : List UInt8 := [4, 126, 153, 0, 29, 42, 180, 0, 42, 16, 6, 21, 6, 104, 28, 96, 46, 42, 180, 0, 42, 16, 6, 27]
abbrev dktX1_isRest_1 : List UInt8 := dkwX1_isRest_1 ++ dktX1_isRest_2
def dkwX1_isRest_0 : List UInt8 := [4, 54, 5, 3, 54, 6, 21, 6, 42, 180, 0, 19, 180, 0, 81, 162, 0, 100, 21, 5, 29, 21, 6, 122]
abbrev dktX1_isRest_0 : List UInt8 := dkwX1_isRest_0 ++ dktX1_isRest_1
theorem dksX1_isRest_0 : cX1_isRest.data.toList.drop 0 = dktX1_isRest_0 := by decide +kernel
theorem dksX1_isRest_1 : cX1_isRest.data.toList.drop 24 = dktX1_isRest_1 := dk_seg dksX1_isRest_0 24 rfl rfl
theorem dksX1_isRest_2 : cX1_isRest.data.toList.drop 48 = dktX1_isRest_2 := dk_seg dksX1_isRest_1 24 rfl rfl
theorem dksX1_isRest_3 : cX1_isRest.data.toList.drop 72 = dktX1_isRest_3 := dk_seg dksX1_isRest_2 24 rfl rfl
theorem dksX1_isRest_4 : cX1_isRest.data.toList.drop 96 = dktX1_isRest_4 := dk_seg dksX1_isRest_3 24 rfl rfl
theorem dX1_isRest_0 : decode cX1_isRest 0 = .ok (.iconst 1, 1) := dk_4 (dk_at dksX1_isRest_0 0 rfl rfl)
theorem dX1_isRest_1 : decode cX1_isRest 1 = .ok (.istore 5, 2) := dk_54 5 (dk_at dksX1_isRest_0 1 rfl rfl)
theorem dX1_isRest_3 : decode cX1_isRest 3 = .ok (.iconst 0, 1) := dk_3 (dk_at dksX1_isRest_0 3 rfl rfl)
theorem dX1_isRest_4 : decode cX1_isRest 4 = .ok (.istore 6, 2) := dk_54 6 (dk_at dksX1_isRest_0 4 rfl rfl)
theorem dX1_isRest_6 : decode cX1_isRest 6 = .ok (.iload 6, 2) := dk_21 6 (dk_at dksX1_isRest_0 6 rfl rfl)
theorem dX1_isRest_8 : decode cX1_isRest 8 = .ok (.aload_n 0, 1) := dk_42 (dk_at dksX1_isRest_0 8 rfl rfl)
theorem dX1_isRest_9 : decode cX1_isRest 9 = .ok (.getfield 19, 3) := dk_180 0 19 (dk_at dksX1_isRest_0 9 rfl rfl)
theorem dX1_isRest_12 : decode cX1_isRest 12 = .ok (.getfield 81, 3) := dk_180 0 81 (dk_at dksX1_isRest_0 12 rfl rfl)
theorem dX1_isRest_15 : decode cX1_isRest 15 = .ok (.if_icmp .ge 100, 3) := dk_162 0 100 (dk_at dksX1_isRest_0 15 rfl rfl)
theorem dX1_isRest_18 : decode cX1_isRest 18 = .ok (.iload 5, 2) := dk_21 5 (dk_at dksX1_isRest_0 18 rfl rfl)
theorem dX1_isRest_20 : decode cX1_isRest 20 = .ok (.iload_n 3, 1) := dk_29 (dk_at dksX1_isRest_0 20 rfl rfl)
theorem dX1_isRest_21 : decode cX1_isRest 21 = .ok (.iload 6, 2) := dk_21 6 (dk_at dksX1_isRest_0 21 rfl rfl)
theorem dX1_isRest_23 : decode cX1_isRest 23 = .ok (.ishr, 1) := dk_122 (dk_at dksX1_isRest_0 23 rfl rfl)
theorem dX1_isRest_24 : decode cX1_isRest 24 = .ok (.iconst 1, 1) := dk_4 (dk_at dksX1_isRest_1 0 rfl rfl)
theorem dX1_isRest_25 : decode cX1_isRest 25 = .ok (.iand, 1) := dk_126 (dk_at dksX1_isRest_1 1 rfl rfl)
theorem dX1_isRest_26 : decode cX1_isRest 26 = .ok (.ifCond .eq 29, 3) := dk_153 0 29 (dk_at dksX1_isRest_1 2 rfl rfl)
theorem dX1_isRest_29 : decode cX1_isRest 29 = .ok (.aload_n 0, 1) := dk_42 (dk_at dksX1_isRest_1 5 rfl rfl)
theorem dX1_isRest_30 : decode cX1_isRest 30 = .ok (.getfield 42, 3) := dk_180 0 42 (dk_at dksX1_isRest_1 6 rfl rfl)
theorem dX1_isRest_33 : decode cX1_isRest 33 = .ok (.bipush 6, 2) := dk_16 6 (dk_at dksX1_isRest_1 9 rfl rfl)
theorem dX1_isRest_35 : decode cX1_isRest 35 = .ok (.iload 6, 2) := dk_21 6 (dk_at dksX1_isRest_1 11 rfl rfl)
theorem dX1_isRest_37 : decode cX1_isRest 37 = .ok (.imul, 1) := dk_104 (dk_at dksX1_isRest_1 13 rfl rfl)
theorem dX1_isRest_38 : decode cX1_isRest 38 = .ok (.iload_n 2, 1) := dk_28 (dk_at dksX1_isRest_1 14 rfl rfl)
theorem dX1_isRest_39 : decode cX1_isRest 39 = .ok (.iadd, 1) := dk_96 (dk_at dksX1_isRest_1 15 rfl rfl)
theorem dX1_isRest_40 : decode cX1_isRest 40 = .ok (.iaload, 1) := dk_46 (dk_at dksX1_isRest_1 16 rfl rfl)
theorem dX1_isRest_41 : decode cX1_isRest 41 = .ok (.aload_n 0, 1) := dk_42 (dk_at dksX1_isRest_1 17 rfl rfl)
theorem dX1_isRest_42 : decode cX1_isRest 42 = .ok (.getfield 42, 3) := dk_180 0 42 (dk_at dksX1_isRest_1 18 rfl rfl)
theorem dX1_isRest_45 : decode cX1_isRest 45 = .ok (.bipush 6, 2) := dk_16 6 (dk_at dksX1_isRest_1 21 rfl rfl)
theorem dX1_isRest_47 : decode cX1_isRest 47 = .ok (.iload_n 1, 1) := dk_27 (dk_at dksX1_isRest_1 23 rfl rfl)
theorem dX1_isRest_48 : decode cX1_isRest 48 = .ok (.imul, 1) := dk_104 (dk_at dksX1_isRest_2 0 rfl rfl)
theorem dX1_isRest_49 : decode cX1_isRest 49 = .ok (.iload_n 2, 1) := dk_28 (dk_at dksX1_isRest_2 1 rfl rfl)
theorem dX1_isRest_50 : decode cX1_isRest 50 = .ok (.iadd, 1) := dk_96 (dk_at dksX1_isRest_2 2 rfl rfl)
theorem dX1_isRest_51 : decode cX1_isRest 51 = .ok (.iaload, 1) := dk_46 (dk_at dksX1_isRest_2 3 rfl rfl)
theorem dX1_isRest_52 : decode cX1_isRest 52 = .ok (.if_icmp .gt 7, 3) := dk_163 0 7 (dk_at dksX1_isRest_2 4 rfl rfl)
theorem dX1_isRest_55 : decode cX1_isRest 55 = .ok (.iconst 1, 1) := dk_4 (dk_at dksX1_isRest_2 7 rfl rfl)
theorem dX1_isRest_56 : decode cX1_isRest 56 = .ok (.goto 4, 3) := dk_167 0 4 (dk_at dksX1_isRest_2 8 rfl rfl)
theorem dX1_isRest_59 : decode cX1_isRest 59 = .ok (.iconst 0, 1) := dk_3 (dk_at dksX1_isRest_2 11 rfl rfl)
theorem dX1_isRest_60 : decode cX1_isRest 60 = .ok (.iand, 1) := dk_126 (dk_at dksX1_isRest_2 12 rfl rfl)
theorem dX1_isRest_61 : decode cX1_isRest 61 = .ok (.istore 5, 2) := dk_54 5 (dk_at dksX1_isRest_2 13 rfl rfl)
theorem dX1_isRest_63 : decode cX1_isRest 63 = .ok (.iload 5, 2) := dk_21 5 (dk_at dksX1_isRest_2 15 rfl rfl)
theorem dX1_isRest_65 : decode cX1_isRest 65 = .ok (.iload 4, 2) := dk_21 4 (dk_at dksX1_isRest_2 17 rfl rfl)
theorem dX1_isRest_67 : decode cX1_isRest 67 = .ok (.iload 6, 2) := dk_21 6 (dk_at dksX1_isRest_2 19 rfl rfl)
theorem dX1_isRest_69 : decode cX1_isRest 69 = .ok (.ishr, 1) := dk_122 (dk_at dksX1_isRest_2 21 rfl rfl)
theorem dX1_isRest_70 : decode cX1_isRest 70 = .ok (.iconst 1, 1) := dk_4 (dk_at dksX1_isRest_2 22 rfl rfl)
theorem dX1_isRest_71 : decode cX1_isRest 71 = .ok (.iand, 1) := dk_126 (dk_at dksX1_isRest_2 23 rfl rfl)
theorem dX1_isRest_72 : decode cX1_isRest 72 = .ok (.ifCond .eq 29, 3) := dk_153 0 29 (dk_at dksX1_isRest_3 0 rfl rfl)
theorem dX1_isRest_75 : decode cX1_isRest 75 = .ok (.aload_n 0, 1) := dk_42 (dk_at dksX1_isRest_3 3 rfl rfl)
theorem dX1_isRest_76 : decode cX1_isRest 76 = .ok (.getfield 46, 3) := dk_180 0 46 (dk_at dksX1_isRest_3 4 rfl rfl)
theorem dX1_isRest_79 : decode cX1_isRest 79 = .ok (.bipush 6, 2) := dk_16 6 (dk_at dksX1_isRest_3 7 rfl rfl)
theorem dX1_isRest_81 : decode cX1_isRest 81 = .ok (.iload_n 1, 1) := dk_27 (dk_at dksX1_isRest_3 9 rfl rfl)
theorem dX1_isRest_82 : decode cX1_isRest 82 = .ok (.imul, 1) := dk_104 (dk_at dksX1_isRest_3 10 rfl rfl)
theorem dX1_isRest_83 : decode cX1_isRest 83 = .ok (.iload 6, 2) := dk_21 6 (dk_at dksX1_isRest_3 11 rfl rfl)
theorem dX1_isRest_85 : decode cX1_isRest 85 = .ok (.iadd, 1) := dk_96 (dk_at dksX1_isRest_3 13 rfl rfl)
theorem dX1_isRest_86 : decode cX1_isRest 86 = .ok (.iaload, 1) := dk_46 (dk_at dksX1_isRest_3 14 rfl rfl)
theorem dX1_isRest_87 : decode cX1_isRest 87 = .ok (.aload_n 0, 1) := dk_42 (dk_at dksX1_isRest_3 15 rfl rfl)
theorem dX1_isRest_88 : decode cX1_isRest 88 = .ok (.getfield 46, 3) := dk_180 0 46 (dk_at dksX1_isRest_3 16 rfl rfl)
theorem dX1_isRest_91 : decode cX1_isRest 91 = .ok (.bipush 6, 2) := dk_16 6 (dk_at dksX1_isRest_3 19 rfl rfl)
theorem dX1_isRest_93 : decode cX1_isRest 93 = .ok (.iload_n 1, 1) := dk_27 (dk_at dksX1_isRest_3 21 rfl rfl)
theorem dX1_isRest_94 : decode cX1_isRest 94 = .ok (.imul, 1) := dk_104 (dk_at dksX1_isRest_3 22 rfl rfl)
theorem dX1_isRest_95 : decode cX1_isRest 95 = .ok (.iload_n 2, 1) := dk_28 (dk_at dksX1_isRest_3 23 rfl rfl)
theorem dX1_isRest_96 : decode cX1_isRest 96 = .ok (.iadd, 1) := dk_96 (dk_at dksX1_isRest_4 0 rfl rfl)
theorem dX1_isRest_97 : decode cX1_isRest 97 = .ok (.iaload, 1) := dk_46 (dk_at dksX1_isRest_4 1 rfl rfl)
theorem dX1_isRest_98 : decode cX1_isRest 98 = .ok (.if_icmp .gt 7, 3) := dk_163 0 7 (dk_at dksX1_isRest_4 2 rfl rfl)
theorem dX1_isRest_101 : decode cX1_isRest 101 = .ok (.iconst 1, 1) := dk_4 (dk_at dksX1_isRest_4 5 rfl rfl)
theorem dX1_isRest_102 : decode cX1_isRest 102 = .ok (.goto 4, 3) := dk_167 0 4 (dk_at dksX1_isRest_4 6 rfl rfl)
theorem dX1_isRest_105 : decode cX1_isRest 105 = .ok (.iconst 0, 1) := dk_3 (dk_at dksX1_isRest_4 9 rfl rfl)
theorem dX1_isRest_106 : decode cX1_isRest 106 = .ok (.iand, 1) := dk_126 (dk_at dksX1_isRest_4 10 rfl rfl)
theorem dX1_isRest_107 : decode cX1_isRest 107 = .ok (.istore 5, 2) := dk_54 5 (dk_at dksX1_isRest_4 11 rfl rfl)
theorem dX1_isRest_109 : decode cX1_isRest 109 = .ok (.iinc 6 1, 3) := dk_132 6 1 (dk_at dksX1_isRest_4 13 rfl rfl)
theorem dX1_isRest_112 : decode cX1_isRest 112 = .ok (.goto (-106), 3) := dk_167 255 150 (dk_at dksX1_isRest_4 16 rfl rfl)
theorem dX1_isRest_115 : decode cX1_isRest 115 = .ok (.iload 5, 2) := dk_21 5 (dk_at dksX1_isRest_4 19 rfl rfl)
theorem dX1_isRest_117 : decode cX1_isRest 117 = .ok (.ireturn, 1) := dk_172 (dk_at dksX1_isRest_4 21 rfl rfl)
abbrev cX1_fair : ByteArray := prog_1_method_48_code
def yX1_fair : MethodName := ⟨RX1, "fair", "(I)I"⟩
def dkwX1_fair_5 : List UInt8 := [16, 6, 112, 96, 54, 5, 132, 6, 1, 167, 255, 169, 21, 5, 172]
abbrev dktX1_fair_5 : List UInt8 := dkwX1_fair_5 ++ []
def dkwX1_fair_4 : List UInt8 := [21, 7, 21, 4, 161, 0, 6, 167, 0, 23, 21, 7, 54, 4, 16, 10, 21, 6, 16, 6, 108, 104, 21, 6]
abbrev dktX1_fair_4 : List UInt8 := dkwX1_fair_4 ++ dktX1_fair_5
def dkwX1_fair_3 : List UInt8 := [167, 0, 53, 42, 180, 0, 42, 21, 6, 46, 42, 180, 0, 46, 21, 6, 46, 100, 184, 1, 62, 54, 7]
abbrev dktX1_fair_3 : List UInt8 := dkwX1_fair_3 ++ dktX1_fair_4
def dkwX1_fair_2 : List UInt8 := [28, 21, 6, 16, 6, 108, 122, 4, 126, 153, 0, 68, 29, 21, 6, 16, 6, 112, 122, 4, 126, 154, 0, 6]
abbrev dktX1_fair_2 : List UInt8 := dkwX1_fair_2 ++ dktX1_fair_3
def dkwX1_fair_1 : List UInt8 := [27, 4, 182, 0, 208, 62, 19, 1, 43, 54, 4, 2, 54, 5, 3, 54, 6, 21, 6, 16, 36, 162, 0, 86]
abbrev dktX1_fair_1 : List UInt8 := dkwX1_fair_1 ++ dktX1_fair_2
def dkwX1_fair_0 : List UInt8 := [42, 27, 182, 1, 48, 42, 27, 182, 1, 51, 42, 180, 0, 19, 27, 3, 182, 0, 208, 61, 42, 180, 0, 19]
abbrev dktX1_fair_0 : List UInt8 := dkwX1_fair_0 ++ dktX1_fair_1
theorem dksX1_fair_0 : cX1_fair.data.toList.drop 0 = dktX1_fair_0 := by decide +kernel
theorem dksX1_fair_1 : cX1_fair.data.toList.drop 24 = dktX1_fair_1 := dk_seg dksX1_fair_0 24 rfl rfl
theorem dksX1_fair_2 : cX1_fair.data.toList.drop 48 = dktX1_fair_2 := dk_seg dksX1_fair_1 24 rfl rfl
theorem dksX1_fair_3 : cX1_fair.data.toList.drop 72 = dktX1_fair_3 := dk_seg dksX1_fair_2 24 rfl rfl
theorem dksX1_fair_4 : cX1_fair.data.toList.drop 95 = dktX1_fair_4 := dk_seg dksX1_fair_3 23 rfl rfl
theorem dksX1_fair_5 : cX1_fair.data.toList.drop 119 = dktX1_fair_5 := dk_seg dksX1_fair_4 24 rfl rfl
theorem dX1_fair_0 : decode cX1_fair 0 = .ok (.aload_n 0, 1) := dk_42 (dk_at dksX1_fair_0 0 rfl rfl)
theorem dX1_fair_1 : decode cX1_fair 1 = .ok (.iload_n 1, 1) := dk_27 (dk_at dksX1_fair_0 1 rfl rfl)
theorem dX1_fair_2 : decode cX1_fair 2 = .ok (.invokevirtual 304, 3) := dk_182 1 48 (dk_at dksX1_fair_0 2 rfl rfl)
theorem dX1_fair_5 : decode cX1_fair 5 = .ok (.aload_n 0, 1) := dk_42 (dk_at dksX1_fair_0 5 rfl rfl)
theorem dX1_fair_6 : decode cX1_fair 6 = .ok (.iload_n 1, 1) := dk_27 (dk_at dksX1_fair_0 6 rfl rfl)
theorem dX1_fair_7 : decode cX1_fair 7 = .ok (.invokevirtual 307, 3) := dk_182 1 51 (dk_at dksX1_fair_0 7 rfl rfl)
theorem dX1_fair_10 : decode cX1_fair 10 = .ok (.aload_n 0, 1) := dk_42 (dk_at dksX1_fair_0 10 rfl rfl)
theorem dX1_fair_11 : decode cX1_fair 11 = .ok (.getfield 19, 3) := dk_180 0 19 (dk_at dksX1_fair_0 11 rfl rfl)
theorem dX1_fair_14 : decode cX1_fair 14 = .ok (.iload_n 1, 1) := dk_27 (dk_at dksX1_fair_0 14 rfl rfl)
theorem dX1_fair_15 : decode cX1_fair 15 = .ok (.iconst 0, 1) := dk_3 (dk_at dksX1_fair_0 15 rfl rfl)
theorem dX1_fair_16 : decode cX1_fair 16 = .ok (.invokevirtual 208, 3) := dk_182 0 208 (dk_at dksX1_fair_0 16 rfl rfl)
theorem dX1_fair_19 : decode cX1_fair 19 = .ok (.istore_n 2, 1) := dk_61 (dk_at dksX1_fair_0 19 rfl rfl)
theorem dX1_fair_20 : decode cX1_fair 20 = .ok (.aload_n 0, 1) := dk_42 (dk_at dksX1_fair_0 20 rfl rfl)
theorem dX1_fair_21 : decode cX1_fair 21 = .ok (.getfield 19, 3) := dk_180 0 19 (dk_at dksX1_fair_0 21 rfl rfl)
theorem dX1_fair_24 : decode cX1_fair 24 = .ok (.iload_n 1, 1) := dk_27 (dk_at dksX1_fair_1 0 rfl rfl)
theorem dX1_fair_25 : decode cX1_fair 25 = .ok (.iconst 1, 1) := dk_4 (dk_at dksX1_fair_1 1 rfl rfl)
theorem dX1_fair_26 : decode cX1_fair 26 = .ok (.invokevirtual 208, 3) := dk_182 0 208 (dk_at dksX1_fair_1 2 rfl rfl)
theorem dX1_fair_29 : decode cX1_fair 29 = .ok (.istore_n 3, 1) := dk_62 (dk_at dksX1_fair_1 5 rfl rfl)
theorem dX1_fair_30 : decode cX1_fair 30 = .ok (.ldc_w 299, 3) := dk_19 1 43 (dk_at dksX1_fair_1 6 rfl rfl)
theorem dX1_fair_33 : decode cX1_fair 33 = .ok (.istore 4, 2) := dk_54 4 (dk_at dksX1_fair_1 9 rfl rfl)
theorem dX1_fair_35 : decode cX1_fair 35 = .ok (.iconst (-1), 1) := dk_2 (dk_at dksX1_fair_1 11 rfl rfl)
theorem dX1_fair_36 : decode cX1_fair 36 = .ok (.istore 5, 2) := dk_54 5 (dk_at dksX1_fair_1 12 rfl rfl)
theorem dX1_fair_38 : decode cX1_fair 38 = .ok (.iconst 0, 1) := dk_3 (dk_at dksX1_fair_1 14 rfl rfl)
theorem dX1_fair_39 : decode cX1_fair 39 = .ok (.istore 6, 2) := dk_54 6 (dk_at dksX1_fair_1 15 rfl rfl)
theorem dX1_fair_41 : decode cX1_fair 41 = .ok (.iload 6, 2) := dk_21 6 (dk_at dksX1_fair_1 17 rfl rfl)
theorem dX1_fair_43 : decode cX1_fair 43 = .ok (.bipush 36, 2) := dk_16 36 (dk_at dksX1_fair_1 19 rfl rfl)
theorem dX1_fair_45 : decode cX1_fair 45 = .ok (.if_icmp .ge 86, 3) := dk_162 0 86 (dk_at dksX1_fair_1 21 rfl rfl)
theorem dX1_fair_48 : decode cX1_fair 48 = .ok (.iload_n 2, 1) := dk_28 (dk_at dksX1_fair_2 0 rfl rfl)
theorem dX1_fair_49 : decode cX1_fair 49 = .ok (.iload 6, 2) := dk_21 6 (dk_at dksX1_fair_2 1 rfl rfl)
theorem dX1_fair_51 : decode cX1_fair 51 = .ok (.bipush 6, 2) := dk_16 6 (dk_at dksX1_fair_2 3 rfl rfl)
theorem dX1_fair_53 : decode cX1_fair 53 = .ok (.idiv, 1) := dk_108 (dk_at dksX1_fair_2 5 rfl rfl)
theorem dX1_fair_54 : decode cX1_fair 54 = .ok (.ishr, 1) := dk_122 (dk_at dksX1_fair_2 6 rfl rfl)
theorem dX1_fair_55 : decode cX1_fair 55 = .ok (.iconst 1, 1) := dk_4 (dk_at dksX1_fair_2 7 rfl rfl)
theorem dX1_fair_56 : decode cX1_fair 56 = .ok (.iand, 1) := dk_126 (dk_at dksX1_fair_2 8 rfl rfl)
theorem dX1_fair_57 : decode cX1_fair 57 = .ok (.ifCond .eq 68, 3) := dk_153 0 68 (dk_at dksX1_fair_2 9 rfl rfl)
theorem dX1_fair_60 : decode cX1_fair 60 = .ok (.iload_n 3, 1) := dk_29 (dk_at dksX1_fair_2 12 rfl rfl)
theorem dX1_fair_61 : decode cX1_fair 61 = .ok (.iload 6, 2) := dk_21 6 (dk_at dksX1_fair_2 13 rfl rfl)
theorem dX1_fair_63 : decode cX1_fair 63 = .ok (.bipush 6, 2) := dk_16 6 (dk_at dksX1_fair_2 15 rfl rfl)
theorem dX1_fair_65 : decode cX1_fair 65 = .ok (.irem, 1) := dk_112 (dk_at dksX1_fair_2 17 rfl rfl)
theorem dX1_fair_66 : decode cX1_fair 66 = .ok (.ishr, 1) := dk_122 (dk_at dksX1_fair_2 18 rfl rfl)
theorem dX1_fair_67 : decode cX1_fair 67 = .ok (.iconst 1, 1) := dk_4 (dk_at dksX1_fair_2 19 rfl rfl)
theorem dX1_fair_68 : decode cX1_fair 68 = .ok (.iand, 1) := dk_126 (dk_at dksX1_fair_2 20 rfl rfl)
theorem dX1_fair_69 : decode cX1_fair 69 = .ok (.ifCond .ne 6, 3) := dk_154 0 6 (dk_at dksX1_fair_2 21 rfl rfl)
theorem dX1_fair_72 : decode cX1_fair 72 = .ok (.goto 53, 3) := dk_167 0 53 (dk_at dksX1_fair_3 0 rfl rfl)
theorem dX1_fair_75 : decode cX1_fair 75 = .ok (.aload_n 0, 1) := dk_42 (dk_at dksX1_fair_3 3 rfl rfl)
theorem dX1_fair_76 : decode cX1_fair 76 = .ok (.getfield 42, 3) := dk_180 0 42 (dk_at dksX1_fair_3 4 rfl rfl)
theorem dX1_fair_79 : decode cX1_fair 79 = .ok (.iload 6, 2) := dk_21 6 (dk_at dksX1_fair_3 7 rfl rfl)
theorem dX1_fair_81 : decode cX1_fair 81 = .ok (.iaload, 1) := dk_46 (dk_at dksX1_fair_3 9 rfl rfl)
theorem dX1_fair_82 : decode cX1_fair 82 = .ok (.aload_n 0, 1) := dk_42 (dk_at dksX1_fair_3 10 rfl rfl)
theorem dX1_fair_83 : decode cX1_fair 83 = .ok (.getfield 46, 3) := dk_180 0 46 (dk_at dksX1_fair_3 11 rfl rfl)
theorem dX1_fair_86 : decode cX1_fair 86 = .ok (.iload 6, 2) := dk_21 6 (dk_at dksX1_fair_3 14 rfl rfl)
theorem dX1_fair_88 : decode cX1_fair 88 = .ok (.iaload, 1) := dk_46 (dk_at dksX1_fair_3 16 rfl rfl)
theorem dX1_fair_89 : decode cX1_fair 89 = .ok (.isub, 1) := dk_100 (dk_at dksX1_fair_3 17 rfl rfl)
theorem dX1_fair_90 : decode cX1_fair 90 = .ok (.invokestatic 318, 3) := dk_184 1 62 (dk_at dksX1_fair_3 18 rfl rfl)
theorem dX1_fair_93 : decode cX1_fair 93 = .ok (.istore 7, 2) := dk_54 7 (dk_at dksX1_fair_3 21 rfl rfl)
theorem dX1_fair_95 : decode cX1_fair 95 = .ok (.iload 7, 2) := dk_21 7 (dk_at dksX1_fair_4 0 rfl rfl)
theorem dX1_fair_97 : decode cX1_fair 97 = .ok (.iload 4, 2) := dk_21 4 (dk_at dksX1_fair_4 2 rfl rfl)
theorem dX1_fair_99 : decode cX1_fair 99 = .ok (.if_icmp .lt 6, 3) := dk_161 0 6 (dk_at dksX1_fair_4 4 rfl rfl)
theorem dX1_fair_102 : decode cX1_fair 102 = .ok (.goto 23, 3) := dk_167 0 23 (dk_at dksX1_fair_4 7 rfl rfl)
theorem dX1_fair_105 : decode cX1_fair 105 = .ok (.iload 7, 2) := dk_21 7 (dk_at dksX1_fair_4 10 rfl rfl)
theorem dX1_fair_107 : decode cX1_fair 107 = .ok (.istore 4, 2) := dk_54 4 (dk_at dksX1_fair_4 12 rfl rfl)
theorem dX1_fair_109 : decode cX1_fair 109 = .ok (.bipush 10, 2) := dk_16 10 (dk_at dksX1_fair_4 14 rfl rfl)
theorem dX1_fair_111 : decode cX1_fair 111 = .ok (.iload 6, 2) := dk_21 6 (dk_at dksX1_fair_4 16 rfl rfl)
theorem dX1_fair_113 : decode cX1_fair 113 = .ok (.bipush 6, 2) := dk_16 6 (dk_at dksX1_fair_4 18 rfl rfl)
theorem dX1_fair_115 : decode cX1_fair 115 = .ok (.idiv, 1) := dk_108 (dk_at dksX1_fair_4 20 rfl rfl)
theorem dX1_fair_116 : decode cX1_fair 116 = .ok (.imul, 1) := dk_104 (dk_at dksX1_fair_4 21 rfl rfl)
theorem dX1_fair_117 : decode cX1_fair 117 = .ok (.iload 6, 2) := dk_21 6 (dk_at dksX1_fair_4 22 rfl rfl)
theorem dX1_fair_119 : decode cX1_fair 119 = .ok (.bipush 6, 2) := dk_16 6 (dk_at dksX1_fair_5 0 rfl rfl)
theorem dX1_fair_121 : decode cX1_fair 121 = .ok (.irem, 1) := dk_112 (dk_at dksX1_fair_5 2 rfl rfl)
theorem dX1_fair_122 : decode cX1_fair 122 = .ok (.iadd, 1) := dk_96 (dk_at dksX1_fair_5 3 rfl rfl)
theorem dX1_fair_123 : decode cX1_fair 123 = .ok (.istore 5, 2) := dk_54 5 (dk_at dksX1_fair_5 4 rfl rfl)
theorem dX1_fair_125 : decode cX1_fair 125 = .ok (.iinc 6 1, 3) := dk_132 6 1 (dk_at dksX1_fair_5 6 rfl rfl)
theorem dX1_fair_128 : decode cX1_fair 128 = .ok (.goto (-87), 3) := dk_167 255 169 (dk_at dksX1_fair_5 9 rfl rfl)
theorem dX1_fair_131 : decode cX1_fair 131 = .ok (.iload 5, 2) := dk_21 5 (dk_at dksX1_fair_5 12 rfl rfl)
theorem dX1_fair_133 : decode cX1_fair 133 = .ok (.ireturn, 1) := dk_172 (dk_at dksX1_fair_5 14 rfl rfl)
abbrev cX1_songs : ByteArray := prog_1_method_51_code
def yX1_songs : MethodName := ⟨RX1, "songs", "(Z)I"⟩
def dkwX1_songs_2 : List UInt8 := [42, 180, 0, 58, 21, 4, 51, 153, 0, 8, 29, 21, 4, 126, 62, 132, 4, 1, 167, 255, 224, 29, 172]
abbrev dktX1_songs_2 : List UInt8 := dkwX1_songs_2 ++ []
def dkwX1_songs_1 : List UInt8 := [180, 0, 81, 120, 4, 100, 62, 3, 54, 4, 21, 4, 4, 42, 180, 0, 19, 180, 0, 81, 120, 162, 0, 24]
abbrev dktX1_songs_1 : List UInt8 := dkwX1_songs_1 ++ dktX1_songs_2
def dkwX1_songs_0 : List UInt8 := [42, 182, 1, 68, 61, 27, 154, 0, 5, 28, 172, 28, 154, 0, 7, 3, 167, 0, 14, 4, 42, 180, 0, 19]
abbrev dktX1_songs_0 : List UInt8 := dkwX1_songs_0 ++ dktX1_songs_1
theorem dksX1_songs_0 : cX1_songs.data.toList.drop 0 = dktX1_songs_0 := by decide +kernel
theorem dksX1_songs_1 : cX1_songs.data.toList.drop 24 = dktX1_songs_1 := dk_seg dksX1_songs_0 24 rfl rfl
theorem dksX1_songs_2 : cX1_songs.data.toList.drop 48 = dktX1_songs_2 := dk_seg dksX1_songs_1 24 rfl rfl
theorem dX1_songs_0 : decode cX1_songs 0 = .ok (.aload_n 0, 1) := dk_42 (dk_at dksX1_songs_0 0 rfl rfl)
theorem dX1_songs_1 : decode cX1_songs 1 = .ok (.invokevirtual 324, 3) := dk_182 1 68 (dk_at dksX1_songs_0 1 rfl rfl)
theorem dX1_songs_4 : decode cX1_songs 4 = .ok (.istore_n 2, 1) := dk_61 (dk_at dksX1_songs_0 4 rfl rfl)
theorem dX1_songs_5 : decode cX1_songs 5 = .ok (.iload_n 1, 1) := dk_27 (dk_at dksX1_songs_0 5 rfl rfl)
theorem dX1_songs_6 : decode cX1_songs 6 = .ok (.ifCond .ne 5, 3) := dk_154 0 5 (dk_at dksX1_songs_0 6 rfl rfl)
theorem dX1_songs_9 : decode cX1_songs 9 = .ok (.iload_n 2, 1) := dk_28 (dk_at dksX1_songs_0 9 rfl rfl)
theorem dX1_songs_10 : decode cX1_songs 10 = .ok (.ireturn, 1) := dk_172 (dk_at dksX1_songs_0 10 rfl rfl)
theorem dX1_songs_11 : decode cX1_songs 11 = .ok (.iload_n 2, 1) := dk_28 (dk_at dksX1_songs_0 11 rfl rfl)
theorem dX1_songs_12 : decode cX1_songs 12 = .ok (.ifCond .ne 7, 3) := dk_154 0 7 (dk_at dksX1_songs_0 12 rfl rfl)
theorem dX1_songs_15 : decode cX1_songs 15 = .ok (.iconst 0, 1) := dk_3 (dk_at dksX1_songs_0 15 rfl rfl)
theorem dX1_songs_16 : decode cX1_songs 16 = .ok (.goto 14, 3) := dk_167 0 14 (dk_at dksX1_songs_0 16 rfl rfl)
theorem dX1_songs_19 : decode cX1_songs 19 = .ok (.iconst 1, 1) := dk_4 (dk_at dksX1_songs_0 19 rfl rfl)
theorem dX1_songs_20 : decode cX1_songs 20 = .ok (.aload_n 0, 1) := dk_42 (dk_at dksX1_songs_0 20 rfl rfl)
theorem dX1_songs_21 : decode cX1_songs 21 = .ok (.getfield 19, 3) := dk_180 0 19 (dk_at dksX1_songs_0 21 rfl rfl)
theorem dX1_songs_24 : decode cX1_songs 24 = .ok (.getfield 81, 3) := dk_180 0 81 (dk_at dksX1_songs_1 0 rfl rfl)
theorem dX1_songs_27 : decode cX1_songs 27 = .ok (.ishl, 1) := dk_120 (dk_at dksX1_songs_1 3 rfl rfl)
theorem dX1_songs_28 : decode cX1_songs 28 = .ok (.iconst 1, 1) := dk_4 (dk_at dksX1_songs_1 4 rfl rfl)
theorem dX1_songs_29 : decode cX1_songs 29 = .ok (.isub, 1) := dk_100 (dk_at dksX1_songs_1 5 rfl rfl)
theorem dX1_songs_30 : decode cX1_songs 30 = .ok (.istore_n 3, 1) := dk_62 (dk_at dksX1_songs_1 6 rfl rfl)
theorem dX1_songs_31 : decode cX1_songs 31 = .ok (.iconst 0, 1) := dk_3 (dk_at dksX1_songs_1 7 rfl rfl)
theorem dX1_songs_32 : decode cX1_songs 32 = .ok (.istore 4, 2) := dk_54 4 (dk_at dksX1_songs_1 8 rfl rfl)
theorem dX1_songs_34 : decode cX1_songs 34 = .ok (.iload 4, 2) := dk_21 4 (dk_at dksX1_songs_1 10 rfl rfl)
theorem dX1_songs_36 : decode cX1_songs 36 = .ok (.iconst 1, 1) := dk_4 (dk_at dksX1_songs_1 12 rfl rfl)
theorem dX1_songs_37 : decode cX1_songs 37 = .ok (.aload_n 0, 1) := dk_42 (dk_at dksX1_songs_1 13 rfl rfl)
theorem dX1_songs_38 : decode cX1_songs 38 = .ok (.getfield 19, 3) := dk_180 0 19 (dk_at dksX1_songs_1 14 rfl rfl)
theorem dX1_songs_41 : decode cX1_songs 41 = .ok (.getfield 81, 3) := dk_180 0 81 (dk_at dksX1_songs_1 17 rfl rfl)
theorem dX1_songs_44 : decode cX1_songs 44 = .ok (.ishl, 1) := dk_120 (dk_at dksX1_songs_1 20 rfl rfl)
theorem dX1_songs_45 : decode cX1_songs 45 = .ok (.if_icmp .ge 24, 3) := dk_162 0 24 (dk_at dksX1_songs_1 21 rfl rfl)
theorem dX1_songs_48 : decode cX1_songs 48 = .ok (.aload_n 0, 1) := dk_42 (dk_at dksX1_songs_2 0 rfl rfl)
theorem dX1_songs_49 : decode cX1_songs 49 = .ok (.getfield 58, 3) := dk_180 0 58 (dk_at dksX1_songs_2 1 rfl rfl)
theorem dX1_songs_52 : decode cX1_songs 52 = .ok (.iload 4, 2) := dk_21 4 (dk_at dksX1_songs_2 4 rfl rfl)
theorem dX1_songs_54 : decode cX1_songs 54 = .ok (.baload, 1) := dk_51 (dk_at dksX1_songs_2 6 rfl rfl)
theorem dX1_songs_55 : decode cX1_songs 55 = .ok (.ifCond .eq 8, 3) := dk_153 0 8 (dk_at dksX1_songs_2 7 rfl rfl)
theorem dX1_songs_58 : decode cX1_songs 58 = .ok (.iload_n 3, 1) := dk_29 (dk_at dksX1_songs_2 10 rfl rfl)
theorem dX1_songs_59 : decode cX1_songs 59 = .ok (.iload 4, 2) := dk_21 4 (dk_at dksX1_songs_2 11 rfl rfl)
theorem dX1_songs_61 : decode cX1_songs 61 = .ok (.iand, 1) := dk_126 (dk_at dksX1_songs_2 13 rfl rfl)
theorem dX1_songs_62 : decode cX1_songs 62 = .ok (.istore_n 3, 1) := dk_62 (dk_at dksX1_songs_2 14 rfl rfl)
theorem dX1_songs_63 : decode cX1_songs 63 = .ok (.iinc 4 1, 3) := dk_132 4 1 (dk_at dksX1_songs_2 15 rfl rfl)
theorem dX1_songs_66 : decode cX1_songs 66 = .ok (.goto (-32), 3) := dk_167 255 224 (dk_at dksX1_songs_2 18 rfl rfl)
theorem dX1_songs_69 : decode cX1_songs 69 = .ok (.iload_n 3, 1) := dk_29 (dk_at dksX1_songs_2 21 rfl rfl)
theorem dX1_songs_70 : decode cX1_songs 70 = .ok (.ireturn, 1) := dk_172 (dk_at dksX1_songs_2 22 rfl rfl)
abbrev cX1_told : ByteArray := prog_1_method_50_code
def yX1_told : MethodName := ⟨RX1, "told", "()I"⟩
def dkwX1_told_8 : List UInt8 := [167, 0, 4, 3, 96, 62, 132, 4, 1, 167, 255, 142, 29, 172]
abbrev dktX1_told_8 : List UInt8 := dkwX1_told_8 ++ []
def dkwX1_told_7 : List UInt8 := [4, 167, 0, 4, 3, 84, 132, 5, 2, 167, 255, 191, 29, 42, 180, 0, 58, 21, 4, 51, 153, 0, 7, 4]
abbrev dktX1_told_7 : List UInt8 := dkwX1_told_7 ++ dktX1_told_8
def dkwX1_told_6 : List UInt8 := [180, 0, 106, 21, 5, 51, 122, 4, 126, 42, 180, 0, 10, 180, 0, 106, 21, 5, 4, 96, 51, 160, 0, 7]
abbrev dktX1_told_6 : List UInt8 := dkwX1_told_6 ++ dktX1_told_7
def dkwX1_told_5 : List UInt8 := [21, 4, 51, 153, 0, 55, 42, 180, 0, 58, 21, 4, 42, 21, 4, 182, 1, 65, 42, 180, 0, 10]
abbrev dktX1_told_5 : List UInt8 := dkwX1_told_5 ++ dktX1_told_6
def dkwX1_told_4 : List UInt8 := [162, 0, 106, 42, 180, 0, 58, 21, 4, 4, 84, 3, 54, 5, 21, 5, 27, 162, 0, 65, 42, 180, 0, 58]
abbrev dktX1_told_4 : List UInt8 := dkwX1_told_4 ++ dktX1_told_5
def dkwX1_told_3 : List UInt8 := [167, 255, 210, 28, 184, 0, 215, 3, 62, 3, 54, 4, 21, 4, 4, 42, 180, 0, 19, 180, 0, 81, 120]
abbrev dktX1_told_3 : List UInt8 := dkwX1_told_3 ++ dktX1_told_4
def dkwX1_told_2 : List UInt8 := [5, 112, 154, 0, 8, 16, 6, 167, 0, 4, 5, 162, 0, 7, 4, 167, 0, 4, 3, 61, 132, 3, 1]
abbrev dktX1_told_2 : List UInt8 := dkwX1_told_2 ++ dktX1_told_3
def dkwX1_told_1 : List UInt8 := [62, 29, 27, 162, 0, 47, 28, 153, 0, 43, 42, 180, 0, 10, 180, 0, 106, 29, 51, 17, 0, 255, 126, 29]
abbrev dktX1_told_1 : List UInt8 := dkwX1_told_1 ++ dktX1_told_2
def dkwX1_told_0 : List UInt8 := [42, 182, 0, 122, 60, 27, 5, 112, 154, 0, 13, 27, 16, 40, 163, 0, 7, 4, 167, 0, 4, 3, 61, 3]
abbrev dktX1_told_0 : List UInt8 := dkwX1_told_0 ++ dktX1_told_1
theorem dksX1_told_0 : cX1_told.data.toList.drop 0 = dktX1_told_0 := by decide +kernel
theorem dksX1_told_1 : cX1_told.data.toList.drop 24 = dktX1_told_1 := dk_seg dksX1_told_0 24 rfl rfl
theorem dksX1_told_2 : cX1_told.data.toList.drop 48 = dktX1_told_2 := dk_seg dksX1_told_1 24 rfl rfl
theorem dksX1_told_3 : cX1_told.data.toList.drop 71 = dktX1_told_3 := dk_seg dksX1_told_2 23 rfl rfl
theorem dksX1_told_4 : cX1_told.data.toList.drop 94 = dktX1_told_4 := dk_seg dksX1_told_3 23 rfl rfl
theorem dksX1_told_5 : cX1_told.data.toList.drop 118 = dktX1_told_5 := dk_seg dksX1_told_4 24 rfl rfl
theorem dksX1_told_6 : cX1_told.data.toList.drop 140 = dktX1_told_6 := dk_seg dksX1_told_5 22 rfl rfl
theorem dksX1_told_7 : cX1_told.data.toList.drop 164 = dktX1_told_7 := dk_seg dksX1_told_6 24 rfl rfl
theorem dksX1_told_8 : cX1_told.data.toList.drop 188 = dktX1_told_8 := dk_seg dksX1_told_7 24 rfl rfl
theorem dX1_told_0 : decode cX1_told 0 = .ok (.aload_n 0, 1) := dk_42 (dk_at dksX1_told_0 0 rfl rfl)
theorem dX1_told_1 : decode cX1_told 1 = .ok (.invokevirtual 122, 3) := dk_182 0 122 (dk_at dksX1_told_0 1 rfl rfl)
theorem dX1_told_4 : decode cX1_told 4 = .ok (.istore_n 1, 1) := dk_60 (dk_at dksX1_told_0 4 rfl rfl)
theorem dX1_told_5 : decode cX1_told 5 = .ok (.iload_n 1, 1) := dk_27 (dk_at dksX1_told_0 5 rfl rfl)
theorem dX1_told_6 : decode cX1_told 6 = .ok (.iconst 2, 1) := dk_5 (dk_at dksX1_told_0 6 rfl rfl)
theorem dX1_told_7 : decode cX1_told 7 = .ok (.irem, 1) := dk_112 (dk_at dksX1_told_0 7 rfl rfl)
theorem dX1_told_8 : decode cX1_told 8 = .ok (.ifCond .ne 13, 3) := dk_154 0 13 (dk_at dksX1_told_0 8 rfl rfl)
theorem dX1_told_11 : decode cX1_told 11 = .ok (.iload_n 1, 1) := dk_27 (dk_at dksX1_told_0 11 rfl rfl)
theorem dX1_told_12 : decode cX1_told 12 = .ok (.bipush 40, 2) := dk_16 40 (dk_at dksX1_told_0 12 rfl rfl)
theorem dX1_told_14 : decode cX1_told 14 = .ok (.if_icmp .gt 7, 3) := dk_163 0 7 (dk_at dksX1_told_0 14 rfl rfl)
theorem dX1_told_17 : decode cX1_told 17 = .ok (.iconst 1, 1) := dk_4 (dk_at dksX1_told_0 17 rfl rfl)
theorem dX1_told_18 : decode cX1_told 18 = .ok (.goto 4, 3) := dk_167 0 4 (dk_at dksX1_told_0 18 rfl rfl)
theorem dX1_told_21 : decode cX1_told 21 = .ok (.iconst 0, 1) := dk_3 (dk_at dksX1_told_0 21 rfl rfl)
theorem dX1_told_22 : decode cX1_told 22 = .ok (.istore_n 2, 1) := dk_61 (dk_at dksX1_told_0 22 rfl rfl)
theorem dX1_told_23 : decode cX1_told 23 = .ok (.iconst 0, 1) := dk_3 (dk_at dksX1_told_0 23 rfl rfl)
theorem dX1_told_24 : decode cX1_told 24 = .ok (.istore_n 3, 1) := dk_62 (dk_at dksX1_told_1 0 rfl rfl)
theorem dX1_told_25 : decode cX1_told 25 = .ok (.iload_n 3, 1) := dk_29 (dk_at dksX1_told_1 1 rfl rfl)
theorem dX1_told_26 : decode cX1_told 26 = .ok (.iload_n 1, 1) := dk_27 (dk_at dksX1_told_1 2 rfl rfl)
theorem dX1_told_27 : decode cX1_told 27 = .ok (.if_icmp .ge 47, 3) := dk_162 0 47 (dk_at dksX1_told_1 3 rfl rfl)
theorem dX1_told_30 : decode cX1_told 30 = .ok (.iload_n 2, 1) := dk_28 (dk_at dksX1_told_1 6 rfl rfl)
theorem dX1_told_31 : decode cX1_told 31 = .ok (.ifCond .eq 43, 3) := dk_153 0 43 (dk_at dksX1_told_1 7 rfl rfl)
theorem dX1_told_34 : decode cX1_told 34 = .ok (.aload_n 0, 1) := dk_42 (dk_at dksX1_told_1 10 rfl rfl)
theorem dX1_told_35 : decode cX1_told 35 = .ok (.getfield 10, 3) := dk_180 0 10 (dk_at dksX1_told_1 11 rfl rfl)
theorem dX1_told_38 : decode cX1_told 38 = .ok (.getfield 106, 3) := dk_180 0 106 (dk_at dksX1_told_1 14 rfl rfl)
theorem dX1_told_41 : decode cX1_told 41 = .ok (.iload_n 3, 1) := dk_29 (dk_at dksX1_told_1 17 rfl rfl)
theorem dX1_told_42 : decode cX1_told 42 = .ok (.baload, 1) := dk_51 (dk_at dksX1_told_1 18 rfl rfl)
theorem dX1_told_43 : decode cX1_told 43 = .ok (.sipush 255, 3) := dk_17 0 255 (dk_at dksX1_told_1 19 rfl rfl)
theorem dX1_told_46 : decode cX1_told 46 = .ok (.iand, 1) := dk_126 (dk_at dksX1_told_1 22 rfl rfl)
theorem dX1_told_47 : decode cX1_told 47 = .ok (.iload_n 3, 1) := dk_29 (dk_at dksX1_told_1 23 rfl rfl)
theorem dX1_told_48 : decode cX1_told 48 = .ok (.iconst 2, 1) := dk_5 (dk_at dksX1_told_2 0 rfl rfl)
theorem dX1_told_49 : decode cX1_told 49 = .ok (.irem, 1) := dk_112 (dk_at dksX1_told_2 1 rfl rfl)
theorem dX1_told_50 : decode cX1_told 50 = .ok (.ifCond .ne 8, 3) := dk_154 0 8 (dk_at dksX1_told_2 2 rfl rfl)
theorem dX1_told_53 : decode cX1_told 53 = .ok (.bipush 6, 2) := dk_16 6 (dk_at dksX1_told_2 5 rfl rfl)
theorem dX1_told_55 : decode cX1_told 55 = .ok (.goto 4, 3) := dk_167 0 4 (dk_at dksX1_told_2 7 rfl rfl)
theorem dX1_told_58 : decode cX1_told 58 = .ok (.iconst 2, 1) := dk_5 (dk_at dksX1_told_2 10 rfl rfl)
theorem dX1_told_59 : decode cX1_told 59 = .ok (.if_icmp .ge 7, 3) := dk_162 0 7 (dk_at dksX1_told_2 11 rfl rfl)
theorem dX1_told_62 : decode cX1_told 62 = .ok (.iconst 1, 1) := dk_4 (dk_at dksX1_told_2 14 rfl rfl)
theorem dX1_told_63 : decode cX1_told 63 = .ok (.goto 4, 3) := dk_167 0 4 (dk_at dksX1_told_2 15 rfl rfl)
theorem dX1_told_66 : decode cX1_told 66 = .ok (.iconst 0, 1) := dk_3 (dk_at dksX1_told_2 18 rfl rfl)
theorem dX1_told_67 : decode cX1_told 67 = .ok (.istore_n 2, 1) := dk_61 (dk_at dksX1_told_2 19 rfl rfl)
theorem dX1_told_68 : decode cX1_told 68 = .ok (.iinc 3 1, 3) := dk_132 3 1 (dk_at dksX1_told_2 20 rfl rfl)
theorem dX1_told_71 : decode cX1_told 71 = .ok (.goto (-46), 3) := dk_167 255 210 (dk_at dksX1_told_3 0 rfl rfl)
theorem dX1_told_74 : decode cX1_told 74 = .ok (.iload_n 2, 1) := dk_28 (dk_at dksX1_told_3 3 rfl rfl)
theorem dX1_told_75 : decode cX1_told 75 = .ok (.invokestatic 215, 3) := dk_184 0 215 (dk_at dksX1_told_3 4 rfl rfl)
theorem dX1_told_78 : decode cX1_told 78 = .ok (.iconst 0, 1) := dk_3 (dk_at dksX1_told_3 7 rfl rfl)
theorem dX1_told_79 : decode cX1_told 79 = .ok (.istore_n 3, 1) := dk_62 (dk_at dksX1_told_3 8 rfl rfl)
theorem dX1_told_80 : decode cX1_told 80 = .ok (.iconst 0, 1) := dk_3 (dk_at dksX1_told_3 9 rfl rfl)
theorem dX1_told_81 : decode cX1_told 81 = .ok (.istore 4, 2) := dk_54 4 (dk_at dksX1_told_3 10 rfl rfl)
theorem dX1_told_83 : decode cX1_told 83 = .ok (.iload 4, 2) := dk_21 4 (dk_at dksX1_told_3 12 rfl rfl)
theorem dX1_told_85 : decode cX1_told 85 = .ok (.iconst 1, 1) := dk_4 (dk_at dksX1_told_3 14 rfl rfl)
theorem dX1_told_86 : decode cX1_told 86 = .ok (.aload_n 0, 1) := dk_42 (dk_at dksX1_told_3 15 rfl rfl)
theorem dX1_told_87 : decode cX1_told 87 = .ok (.getfield 19, 3) := dk_180 0 19 (dk_at dksX1_told_3 16 rfl rfl)
theorem dX1_told_90 : decode cX1_told 90 = .ok (.getfield 81, 3) := dk_180 0 81 (dk_at dksX1_told_3 19 rfl rfl)
theorem dX1_told_93 : decode cX1_told 93 = .ok (.ishl, 1) := dk_120 (dk_at dksX1_told_3 22 rfl rfl)
theorem dX1_told_94 : decode cX1_told 94 = .ok (.if_icmp .ge 106, 3) := dk_162 0 106 (dk_at dksX1_told_4 0 rfl rfl)
theorem dX1_told_97 : decode cX1_told 97 = .ok (.aload_n 0, 1) := dk_42 (dk_at dksX1_told_4 3 rfl rfl)
theorem dX1_told_98 : decode cX1_told 98 = .ok (.getfield 58, 3) := dk_180 0 58 (dk_at dksX1_told_4 4 rfl rfl)
theorem dX1_told_101 : decode cX1_told 101 = .ok (.iload 4, 2) := dk_21 4 (dk_at dksX1_told_4 7 rfl rfl)
theorem dX1_told_103 : decode cX1_told 103 = .ok (.iconst 1, 1) := dk_4 (dk_at dksX1_told_4 9 rfl rfl)
theorem dX1_told_104 : decode cX1_told 104 = .ok (.bastore, 1) := dk_84 (dk_at dksX1_told_4 10 rfl rfl)
theorem dX1_told_105 : decode cX1_told 105 = .ok (.iconst 0, 1) := dk_3 (dk_at dksX1_told_4 11 rfl rfl)
theorem dX1_told_106 : decode cX1_told 106 = .ok (.istore 5, 2) := dk_54 5 (dk_at dksX1_told_4 12 rfl rfl)
theorem dX1_told_108 : decode cX1_told 108 = .ok (.iload 5, 2) := dk_21 5 (dk_at dksX1_told_4 14 rfl rfl)
theorem dX1_told_110 : decode cX1_told 110 = .ok (.iload_n 1, 1) := dk_27 (dk_at dksX1_told_4 16 rfl rfl)
theorem dX1_told_111 : decode cX1_told 111 = .ok (.if_icmp .ge 65, 3) := dk_162 0 65 (dk_at dksX1_told_4 17 rfl rfl)
theorem dX1_told_114 : decode cX1_told 114 = .ok (.aload_n 0, 1) := dk_42 (dk_at dksX1_told_4 20 rfl rfl)
theorem dX1_told_115 : decode cX1_told 115 = .ok (.getfield 58, 3) := dk_180 0 58 (dk_at dksX1_told_4 21 rfl rfl)
theorem dX1_told_118 : decode cX1_told 118 = .ok (.iload 4, 2) := dk_21 4 (dk_at dksX1_told_5 0 rfl rfl)
theorem dX1_told_120 : decode cX1_told 120 = .ok (.baload, 1) := dk_51 (dk_at dksX1_told_5 2 rfl rfl)
theorem dX1_told_121 : decode cX1_told 121 = .ok (.ifCond .eq 55, 3) := dk_153 0 55 (dk_at dksX1_told_5 3 rfl rfl)
theorem dX1_told_124 : decode cX1_told 124 = .ok (.aload_n 0, 1) := dk_42 (dk_at dksX1_told_5 6 rfl rfl)
theorem dX1_told_125 : decode cX1_told 125 = .ok (.getfield 58, 3) := dk_180 0 58 (dk_at dksX1_told_5 7 rfl rfl)
theorem dX1_told_128 : decode cX1_told 128 = .ok (.iload 4, 2) := dk_21 4 (dk_at dksX1_told_5 10 rfl rfl)
theorem dX1_told_130 : decode cX1_told 130 = .ok (.aload_n 0, 1) := dk_42 (dk_at dksX1_told_5 12 rfl rfl)
theorem dX1_told_131 : decode cX1_told 131 = .ok (.iload 4, 2) := dk_21 4 (dk_at dksX1_told_5 13 rfl rfl)
theorem dX1_told_133 : decode cX1_told 133 = .ok (.invokevirtual 321, 3) := dk_182 1 65 (dk_at dksX1_told_5 15 rfl rfl)
theorem dX1_told_136 : decode cX1_told 136 = .ok (.aload_n 0, 1) := dk_42 (dk_at dksX1_told_5 18 rfl rfl)
theorem dX1_told_137 : decode cX1_told 137 = .ok (.getfield 10, 3) := dk_180 0 10 (dk_at dksX1_told_5 19 rfl rfl)
theorem dX1_told_140 : decode cX1_told 140 = .ok (.getfield 106, 3) := dk_180 0 106 (dk_at dksX1_told_6 0 rfl rfl)
theorem dX1_told_143 : decode cX1_told 143 = .ok (.iload 5, 2) := dk_21 5 (dk_at dksX1_told_6 3 rfl rfl)
theorem dX1_told_145 : decode cX1_told 145 = .ok (.baload, 1) := dk_51 (dk_at dksX1_told_6 5 rfl rfl)
theorem dX1_told_146 : decode cX1_told 146 = .ok (.ishr, 1) := dk_122 (dk_at dksX1_told_6 6 rfl rfl)
theorem dX1_told_147 : decode cX1_told 147 = .ok (.iconst 1, 1) := dk_4 (dk_at dksX1_told_6 7 rfl rfl)
theorem dX1_told_148 : decode cX1_told 148 = .ok (.iand, 1) := dk_126 (dk_at dksX1_told_6 8 rfl rfl)
theorem dX1_told_149 : decode cX1_told 149 = .ok (.aload_n 0, 1) := dk_42 (dk_at dksX1_told_6 9 rfl rfl)
theorem dX1_told_150 : decode cX1_told 150 = .ok (.getfield 10, 3) := dk_180 0 10 (dk_at dksX1_told_6 10 rfl rfl)
theorem dX1_told_153 : decode cX1_told 153 = .ok (.getfield 106, 3) := dk_180 0 106 (dk_at dksX1_told_6 13 rfl rfl)
theorem dX1_told_156 : decode cX1_told 156 = .ok (.iload 5, 2) := dk_21 5 (dk_at dksX1_told_6 16 rfl rfl)
theorem dX1_told_158 : decode cX1_told 158 = .ok (.iconst 1, 1) := dk_4 (dk_at dksX1_told_6 18 rfl rfl)
theorem dX1_told_159 : decode cX1_told 159 = .ok (.iadd, 1) := dk_96 (dk_at dksX1_told_6 19 rfl rfl)
theorem dX1_told_160 : decode cX1_told 160 = .ok (.baload, 1) := dk_51 (dk_at dksX1_told_6 20 rfl rfl)
theorem dX1_told_161 : decode cX1_told 161 = .ok (.if_icmp .ne 7, 3) := dk_160 0 7 (dk_at dksX1_told_6 21 rfl rfl)
theorem dX1_told_164 : decode cX1_told 164 = .ok (.iconst 1, 1) := dk_4 (dk_at dksX1_told_7 0 rfl rfl)
theorem dX1_told_165 : decode cX1_told 165 = .ok (.goto 4, 3) := dk_167 0 4 (dk_at dksX1_told_7 1 rfl rfl)
theorem dX1_told_168 : decode cX1_told 168 = .ok (.iconst 0, 1) := dk_3 (dk_at dksX1_told_7 4 rfl rfl)
theorem dX1_told_169 : decode cX1_told 169 = .ok (.bastore, 1) := dk_84 (dk_at dksX1_told_7 5 rfl rfl)
theorem dX1_told_170 : decode cX1_told 170 = .ok (.iinc 5 2, 3) := dk_132 5 2 (dk_at dksX1_told_7 6 rfl rfl)
theorem dX1_told_173 : decode cX1_told 173 = .ok (.goto (-65), 3) := dk_167 255 191 (dk_at dksX1_told_7 9 rfl rfl)
theorem dX1_told_176 : decode cX1_told 176 = .ok (.iload_n 3, 1) := dk_29 (dk_at dksX1_told_7 12 rfl rfl)
theorem dX1_told_177 : decode cX1_told 177 = .ok (.aload_n 0, 1) := dk_42 (dk_at dksX1_told_7 13 rfl rfl)
theorem dX1_told_178 : decode cX1_told 178 = .ok (.getfield 58, 3) := dk_180 0 58 (dk_at dksX1_told_7 14 rfl rfl)
theorem dX1_told_181 : decode cX1_told 181 = .ok (.iload 4, 2) := dk_21 4 (dk_at dksX1_told_7 17 rfl rfl)
theorem dX1_told_183 : decode cX1_told 183 = .ok (.baload, 1) := dk_51 (dk_at dksX1_told_7 19 rfl rfl)
theorem dX1_told_184 : decode cX1_told 184 = .ok (.ifCond .eq 7, 3) := dk_153 0 7 (dk_at dksX1_told_7 20 rfl rfl)
theorem dX1_told_187 : decode cX1_told 187 = .ok (.iconst 1, 1) := dk_4 (dk_at dksX1_told_7 23 rfl rfl)
theorem dX1_told_188 : decode cX1_told 188 = .ok (.goto 4, 3) := dk_167 0 4 (dk_at dksX1_told_8 0 rfl rfl)
theorem dX1_told_191 : decode cX1_told 191 = .ok (.iconst 0, 1) := dk_3 (dk_at dksX1_told_8 3 rfl rfl)
theorem dX1_told_192 : decode cX1_told 192 = .ok (.iadd, 1) := dk_96 (dk_at dksX1_told_8 4 rfl rfl)
theorem dX1_told_193 : decode cX1_told 193 = .ok (.istore_n 3, 1) := dk_62 (dk_at dksX1_told_8 5 rfl rfl)
theorem dX1_told_194 : decode cX1_told 194 = .ok (.iinc 4 1, 3) := dk_132 4 1 (dk_at dksX1_told_8 6 rfl rfl)
theorem dX1_told_197 : decode cX1_told 197 = .ok (.goto (-114), 3) := dk_167 255 142 (dk_at dksX1_told_8 9 rfl rfl)
theorem dX1_told_200 : decode cX1_told 200 = .ok (.iload_n 3, 1) := dk_29 (dk_at dksX1_told_8 12 rfl rfl)
theorem dX1_told_201 : decode cX1_told 201 = .ok (.ireturn, 1) := dk_172 (dk_at dksX1_told_8 13 rfl rfl)
abbrev cX1_sung : ByteArray := prog_1_method_49_code
def yX1_sung : MethodName := ⟨RX1, "sung", "(I)I"⟩
def dkwX1_sung_2 : List UInt8 := [167, 255, 214, 28, 172]
abbrev dktX1_sung_2 : List UInt8 := dkwX1_sung_2 ++ []
def dkwX1_sung_1 : List UInt8 := [160, 0, 18, 42, 180, 0, 19, 180, 0, 92, 29, 50, 180, 0, 178, 167, 0, 4, 3, 128, 61, 132, 3, 1]
abbrev dktX1_sung_1 : List UInt8 := dkwX1_sung_1 ++ dktX1_sung_2
def dkwX1_sung_0 : List UInt8 := [3, 61, 3, 62, 29, 42, 180, 0, 19, 180, 0, 81, 162, 0, 37, 28, 27, 29, 122, 4, 126, 4]
abbrev dktX1_sung_0 : List UInt8 := dkwX1_sung_0 ++ dktX1_sung_1
theorem dksX1_sung_0 : cX1_sung.data.toList.drop 0 = dktX1_sung_0 := by decide +kernel
theorem dksX1_sung_1 : cX1_sung.data.toList.drop 22 = dktX1_sung_1 := dk_seg dksX1_sung_0 22 rfl rfl
theorem dksX1_sung_2 : cX1_sung.data.toList.drop 46 = dktX1_sung_2 := dk_seg dksX1_sung_1 24 rfl rfl
theorem dX1_sung_0 : decode cX1_sung 0 = .ok (.iconst 0, 1) := dk_3 (dk_at dksX1_sung_0 0 rfl rfl)
theorem dX1_sung_1 : decode cX1_sung 1 = .ok (.istore_n 2, 1) := dk_61 (dk_at dksX1_sung_0 1 rfl rfl)
theorem dX1_sung_2 : decode cX1_sung 2 = .ok (.iconst 0, 1) := dk_3 (dk_at dksX1_sung_0 2 rfl rfl)
theorem dX1_sung_3 : decode cX1_sung 3 = .ok (.istore_n 3, 1) := dk_62 (dk_at dksX1_sung_0 3 rfl rfl)
theorem dX1_sung_4 : decode cX1_sung 4 = .ok (.iload_n 3, 1) := dk_29 (dk_at dksX1_sung_0 4 rfl rfl)
theorem dX1_sung_5 : decode cX1_sung 5 = .ok (.aload_n 0, 1) := dk_42 (dk_at dksX1_sung_0 5 rfl rfl)
theorem dX1_sung_6 : decode cX1_sung 6 = .ok (.getfield 19, 3) := dk_180 0 19 (dk_at dksX1_sung_0 6 rfl rfl)
theorem dX1_sung_9 : decode cX1_sung 9 = .ok (.getfield 81, 3) := dk_180 0 81 (dk_at dksX1_sung_0 9 rfl rfl)
theorem dX1_sung_12 : decode cX1_sung 12 = .ok (.if_icmp .ge 37, 3) := dk_162 0 37 (dk_at dksX1_sung_0 12 rfl rfl)
theorem dX1_sung_15 : decode cX1_sung 15 = .ok (.iload_n 2, 1) := dk_28 (dk_at dksX1_sung_0 15 rfl rfl)
theorem dX1_sung_16 : decode cX1_sung 16 = .ok (.iload_n 1, 1) := dk_27 (dk_at dksX1_sung_0 16 rfl rfl)
theorem dX1_sung_17 : decode cX1_sung 17 = .ok (.iload_n 3, 1) := dk_29 (dk_at dksX1_sung_0 17 rfl rfl)
theorem dX1_sung_18 : decode cX1_sung 18 = .ok (.ishr, 1) := dk_122 (dk_at dksX1_sung_0 18 rfl rfl)
theorem dX1_sung_19 : decode cX1_sung 19 = .ok (.iconst 1, 1) := dk_4 (dk_at dksX1_sung_0 19 rfl rfl)
theorem dX1_sung_20 : decode cX1_sung 20 = .ok (.iand, 1) := dk_126 (dk_at dksX1_sung_0 20 rfl rfl)
theorem dX1_sung_21 : decode cX1_sung 21 = .ok (.iconst 1, 1) := dk_4 (dk_at dksX1_sung_0 21 rfl rfl)
theorem dX1_sung_22 : decode cX1_sung 22 = .ok (.if_icmp .ne 18, 3) := dk_160 0 18 (dk_at dksX1_sung_1 0 rfl rfl)
theorem dX1_sung_25 : decode cX1_sung 25 = .ok (.aload_n 0, 1) := dk_42 (dk_at dksX1_sung_1 3 rfl rfl)
theorem dX1_sung_26 : decode cX1_sung 26 = .ok (.getfield 19, 3) := dk_180 0 19 (dk_at dksX1_sung_1 4 rfl rfl)
theorem dX1_sung_29 : decode cX1_sung 29 = .ok (.getfield 92, 3) := dk_180 0 92 (dk_at dksX1_sung_1 7 rfl rfl)
theorem dX1_sung_32 : decode cX1_sung 32 = .ok (.iload_n 3, 1) := dk_29 (dk_at dksX1_sung_1 10 rfl rfl)
theorem dX1_sung_33 : decode cX1_sung 33 = .ok (.aaload, 1) := dk_50 (dk_at dksX1_sung_1 11 rfl rfl)
theorem dX1_sung_34 : decode cX1_sung 34 = .ok (.getfield 178, 3) := dk_180 0 178 (dk_at dksX1_sung_1 12 rfl rfl)
theorem dX1_sung_37 : decode cX1_sung 37 = .ok (.goto 4, 3) := dk_167 0 4 (dk_at dksX1_sung_1 15 rfl rfl)
theorem dX1_sung_40 : decode cX1_sung 40 = .ok (.iconst 0, 1) := dk_3 (dk_at dksX1_sung_1 18 rfl rfl)
theorem dX1_sung_41 : decode cX1_sung 41 = .ok (.ior, 1) := dk_128 (dk_at dksX1_sung_1 19 rfl rfl)
theorem dX1_sung_42 : decode cX1_sung 42 = .ok (.istore_n 2, 1) := dk_61 (dk_at dksX1_sung_1 20 rfl rfl)
theorem dX1_sung_43 : decode cX1_sung 43 = .ok (.iinc 3 1, 3) := dk_132 3 1 (dk_at dksX1_sung_1 21 rfl rfl)
theorem dX1_sung_46 : decode cX1_sung 46 = .ok (.goto (-42), 3) := dk_167 255 214 (dk_at dksX1_sung_2 0 rfl rfl)
theorem dX1_sung_49 : decode cX1_sung 49 = .ok (.iload_n 2, 1) := dk_28 (dk_at dksX1_sung_2 3 rfl rfl)
theorem dX1_sung_50 : decode cX1_sung 50 = .ok (.ireturn, 1) := dk_172 (dk_at dksX1_sung_2 4 rfl rfl)
abbrev cX1_ask : ByteArray := prog_1_method_52_code
def yX1_ask : MethodName := ⟨RX1, "ask", "()I"⟩
def dkwX1_ask_5 : List UInt8 := [167, 255, 156, 28, 172]
abbrev dktX1_ask_5 : List UInt8 := dkwX1_ask_5 ++ []
def dkwX1_ask_4 : List UInt8 := [161, 0, 6, 167, 0, 16, 21, 5, 27, 21, 5, 100, 184, 1, 71, 62, 21, 4, 61, 132, 4, 1]
abbrev dktX1_ask_4 : List UInt8 := dkwX1_ask_4 ++ dktX1_ask_5
def dkwX1_ask_3 : List UInt8 := [167, 0, 4, 3, 96, 54, 5, 132, 6, 1, 167, 255, 209, 21, 5, 27, 21, 5, 100, 184, 1, 71, 29]
abbrev dktX1_ask_3 : List UInt8 := dkwX1_ask_3 ++ dktX1_ask_4
def dkwX1_ask_2 : List UInt8 := [21, 5, 42, 180, 0, 58, 21, 6, 51, 153, 0, 17, 42, 21, 6, 182, 1, 65, 21, 4, 122, 4, 126]
abbrev dktX1_ask_2 : List UInt8 := dkwX1_ask_2 ++ dktX1_ask_3
def dkwX1_ask_1 : List UInt8 := [164, 0, 94, 3, 54, 5, 3, 54, 6, 21, 6, 4, 42, 180, 0, 19, 180, 0, 81, 120, 162, 0, 39]
abbrev dktX1_ask_1 : List UInt8 := dkwX1_ask_1 ++ dktX1_ask_2
def dkwX1_ask_0 : List UInt8 := [42, 182, 1, 68, 60, 2, 61, 19, 1, 43, 62, 3, 54, 4, 21, 4, 16, 6, 162, 0, 99, 27, 4]
abbrev dktX1_ask_0 : List UInt8 := dkwX1_ask_0 ++ dktX1_ask_1
theorem dksX1_ask_0 : cX1_ask.data.toList.drop 0 = dktX1_ask_0 := by decide +kernel
theorem dksX1_ask_1 : cX1_ask.data.toList.drop 23 = dktX1_ask_1 := dk_seg dksX1_ask_0 23 rfl rfl
theorem dksX1_ask_2 : cX1_ask.data.toList.drop 46 = dktX1_ask_2 := dk_seg dksX1_ask_1 23 rfl rfl
theorem dksX1_ask_3 : cX1_ask.data.toList.drop 69 = dktX1_ask_3 := dk_seg dksX1_ask_2 23 rfl rfl
theorem dksX1_ask_4 : cX1_ask.data.toList.drop 92 = dktX1_ask_4 := dk_seg dksX1_ask_3 23 rfl rfl
theorem dksX1_ask_5 : cX1_ask.data.toList.drop 114 = dktX1_ask_5 := dk_seg dksX1_ask_4 22 rfl rfl
theorem dX1_ask_0 : decode cX1_ask 0 = .ok (.aload_n 0, 1) := dk_42 (dk_at dksX1_ask_0 0 rfl rfl)
theorem dX1_ask_1 : decode cX1_ask 1 = .ok (.invokevirtual 324, 3) := dk_182 1 68 (dk_at dksX1_ask_0 1 rfl rfl)
theorem dX1_ask_4 : decode cX1_ask 4 = .ok (.istore_n 1, 1) := dk_60 (dk_at dksX1_ask_0 4 rfl rfl)
theorem dX1_ask_5 : decode cX1_ask 5 = .ok (.iconst (-1), 1) := dk_2 (dk_at dksX1_ask_0 5 rfl rfl)
theorem dX1_ask_6 : decode cX1_ask 6 = .ok (.istore_n 2, 1) := dk_61 (dk_at dksX1_ask_0 6 rfl rfl)
theorem dX1_ask_7 : decode cX1_ask 7 = .ok (.ldc_w 299, 3) := dk_19 1 43 (dk_at dksX1_ask_0 7 rfl rfl)
theorem dX1_ask_10 : decode cX1_ask 10 = .ok (.istore_n 3, 1) := dk_62 (dk_at dksX1_ask_0 10 rfl rfl)
theorem dX1_ask_11 : decode cX1_ask 11 = .ok (.iconst 0, 1) := dk_3 (dk_at dksX1_ask_0 11 rfl rfl)
theorem dX1_ask_12 : decode cX1_ask 12 = .ok (.istore 4, 2) := dk_54 4 (dk_at dksX1_ask_0 12 rfl rfl)
theorem dX1_ask_14 : decode cX1_ask 14 = .ok (.iload 4, 2) := dk_21 4 (dk_at dksX1_ask_0 14 rfl rfl)
theorem dX1_ask_16 : decode cX1_ask 16 = .ok (.bipush 6, 2) := dk_16 6 (dk_at dksX1_ask_0 16 rfl rfl)
theorem dX1_ask_18 : decode cX1_ask 18 = .ok (.if_icmp .ge 99, 3) := dk_162 0 99 (dk_at dksX1_ask_0 18 rfl rfl)
theorem dX1_ask_21 : decode cX1_ask 21 = .ok (.iload_n 1, 1) := dk_27 (dk_at dksX1_ask_0 21 rfl rfl)
theorem dX1_ask_22 : decode cX1_ask 22 = .ok (.iconst 1, 1) := dk_4 (dk_at dksX1_ask_0 22 rfl rfl)
theorem dX1_ask_23 : decode cX1_ask 23 = .ok (.if_icmp .le 94, 3) := dk_164 0 94 (dk_at dksX1_ask_1 0 rfl rfl)
theorem dX1_ask_26 : decode cX1_ask 26 = .ok (.iconst 0, 1) := dk_3 (dk_at dksX1_ask_1 3 rfl rfl)
theorem dX1_ask_27 : decode cX1_ask 27 = .ok (.istore 5, 2) := dk_54 5 (dk_at dksX1_ask_1 4 rfl rfl)
theorem dX1_ask_29 : decode cX1_ask 29 = .ok (.iconst 0, 1) := dk_3 (dk_at dksX1_ask_1 6 rfl rfl)
theorem dX1_ask_30 : decode cX1_ask 30 = .ok (.istore 6, 2) := dk_54 6 (dk_at dksX1_ask_1 7 rfl rfl)
theorem dX1_ask_32 : decode cX1_ask 32 = .ok (.iload 6, 2) := dk_21 6 (dk_at dksX1_ask_1 9 rfl rfl)
theorem dX1_ask_34 : decode cX1_ask 34 = .ok (.iconst 1, 1) := dk_4 (dk_at dksX1_ask_1 11 rfl rfl)
theorem dX1_ask_35 : decode cX1_ask 35 = .ok (.aload_n 0, 1) := dk_42 (dk_at dksX1_ask_1 12 rfl rfl)
theorem dX1_ask_36 : decode cX1_ask 36 = .ok (.getfield 19, 3) := dk_180 0 19 (dk_at dksX1_ask_1 13 rfl rfl)
theorem dX1_ask_39 : decode cX1_ask 39 = .ok (.getfield 81, 3) := dk_180 0 81 (dk_at dksX1_ask_1 16 rfl rfl)
theorem dX1_ask_42 : decode cX1_ask 42 = .ok (.ishl, 1) := dk_120 (dk_at dksX1_ask_1 19 rfl rfl)
theorem dX1_ask_43 : decode cX1_ask 43 = .ok (.if_icmp .ge 39, 3) := dk_162 0 39 (dk_at dksX1_ask_1 20 rfl rfl)
theorem dX1_ask_46 : decode cX1_ask 46 = .ok (.iload 5, 2) := dk_21 5 (dk_at dksX1_ask_2 0 rfl rfl)
theorem dX1_ask_48 : decode cX1_ask 48 = .ok (.aload_n 0, 1) := dk_42 (dk_at dksX1_ask_2 2 rfl rfl)
theorem dX1_ask_49 : decode cX1_ask 49 = .ok (.getfield 58, 3) := dk_180 0 58 (dk_at dksX1_ask_2 3 rfl rfl)
theorem dX1_ask_52 : decode cX1_ask 52 = .ok (.iload 6, 2) := dk_21 6 (dk_at dksX1_ask_2 6 rfl rfl)
theorem dX1_ask_54 : decode cX1_ask 54 = .ok (.baload, 1) := dk_51 (dk_at dksX1_ask_2 8 rfl rfl)
theorem dX1_ask_55 : decode cX1_ask 55 = .ok (.ifCond .eq 17, 3) := dk_153 0 17 (dk_at dksX1_ask_2 9 rfl rfl)
theorem dX1_ask_58 : decode cX1_ask 58 = .ok (.aload_n 0, 1) := dk_42 (dk_at dksX1_ask_2 12 rfl rfl)
theorem dX1_ask_59 : decode cX1_ask 59 = .ok (.iload 6, 2) := dk_21 6 (dk_at dksX1_ask_2 13 rfl rfl)
theorem dX1_ask_61 : decode cX1_ask 61 = .ok (.invokevirtual 321, 3) := dk_182 1 65 (dk_at dksX1_ask_2 15 rfl rfl)
theorem dX1_ask_64 : decode cX1_ask 64 = .ok (.iload 4, 2) := dk_21 4 (dk_at dksX1_ask_2 18 rfl rfl)
theorem dX1_ask_66 : decode cX1_ask 66 = .ok (.ishr, 1) := dk_122 (dk_at dksX1_ask_2 20 rfl rfl)
theorem dX1_ask_67 : decode cX1_ask 67 = .ok (.iconst 1, 1) := dk_4 (dk_at dksX1_ask_2 21 rfl rfl)
theorem dX1_ask_68 : decode cX1_ask 68 = .ok (.iand, 1) := dk_126 (dk_at dksX1_ask_2 22 rfl rfl)
theorem dX1_ask_69 : decode cX1_ask 69 = .ok (.goto 4, 3) := dk_167 0 4 (dk_at dksX1_ask_3 0 rfl rfl)
theorem dX1_ask_72 : decode cX1_ask 72 = .ok (.iconst 0, 1) := dk_3 (dk_at dksX1_ask_3 3 rfl rfl)
theorem dX1_ask_73 : decode cX1_ask 73 = .ok (.iadd, 1) := dk_96 (dk_at dksX1_ask_3 4 rfl rfl)
theorem dX1_ask_74 : decode cX1_ask 74 = .ok (.istore 5, 2) := dk_54 5 (dk_at dksX1_ask_3 5 rfl rfl)
theorem dX1_ask_76 : decode cX1_ask 76 = .ok (.iinc 6 1, 3) := dk_132 6 1 (dk_at dksX1_ask_3 7 rfl rfl)
theorem dX1_ask_79 : decode cX1_ask 79 = .ok (.goto (-47), 3) := dk_167 255 209 (dk_at dksX1_ask_3 10 rfl rfl)
theorem dX1_ask_82 : decode cX1_ask 82 = .ok (.iload 5, 2) := dk_21 5 (dk_at dksX1_ask_3 13 rfl rfl)
theorem dX1_ask_84 : decode cX1_ask 84 = .ok (.iload_n 1, 1) := dk_27 (dk_at dksX1_ask_3 15 rfl rfl)
theorem dX1_ask_85 : decode cX1_ask 85 = .ok (.iload 5, 2) := dk_21 5 (dk_at dksX1_ask_3 16 rfl rfl)
theorem dX1_ask_87 : decode cX1_ask 87 = .ok (.isub, 1) := dk_100 (dk_at dksX1_ask_3 18 rfl rfl)
theorem dX1_ask_88 : decode cX1_ask 88 = .ok (.invokestatic 327, 3) := dk_184 1 71 (dk_at dksX1_ask_3 19 rfl rfl)
theorem dX1_ask_91 : decode cX1_ask 91 = .ok (.iload_n 3, 1) := dk_29 (dk_at dksX1_ask_3 22 rfl rfl)
theorem dX1_ask_92 : decode cX1_ask 92 = .ok (.if_icmp .lt 6, 3) := dk_161 0 6 (dk_at dksX1_ask_4 0 rfl rfl)
theorem dX1_ask_95 : decode cX1_ask 95 = .ok (.goto 16, 3) := dk_167 0 16 (dk_at dksX1_ask_4 3 rfl rfl)
theorem dX1_ask_98 : decode cX1_ask 98 = .ok (.iload 5, 2) := dk_21 5 (dk_at dksX1_ask_4 6 rfl rfl)
theorem dX1_ask_100 : decode cX1_ask 100 = .ok (.iload_n 1, 1) := dk_27 (dk_at dksX1_ask_4 8 rfl rfl)
theorem dX1_ask_101 : decode cX1_ask 101 = .ok (.iload 5, 2) := dk_21 5 (dk_at dksX1_ask_4 9 rfl rfl)
theorem dX1_ask_103 : decode cX1_ask 103 = .ok (.isub, 1) := dk_100 (dk_at dksX1_ask_4 11 rfl rfl)
theorem dX1_ask_104 : decode cX1_ask 104 = .ok (.invokestatic 327, 3) := dk_184 1 71 (dk_at dksX1_ask_4 12 rfl rfl)
theorem dX1_ask_107 : decode cX1_ask 107 = .ok (.istore_n 3, 1) := dk_62 (dk_at dksX1_ask_4 15 rfl rfl)
theorem dX1_ask_108 : decode cX1_ask 108 = .ok (.iload 4, 2) := dk_21 4 (dk_at dksX1_ask_4 16 rfl rfl)
theorem dX1_ask_110 : decode cX1_ask 110 = .ok (.istore_n 2, 1) := dk_61 (dk_at dksX1_ask_4 18 rfl rfl)
theorem dX1_ask_111 : decode cX1_ask 111 = .ok (.iinc 4 1, 3) := dk_132 4 1 (dk_at dksX1_ask_4 19 rfl rfl)
theorem dX1_ask_114 : decode cX1_ask 114 = .ok (.goto (-100), 3) := dk_167 255 156 (dk_at dksX1_ask_5 0 rfl rfl)
theorem dX1_ask_117 : decode cX1_ask 117 = .ok (.iload_n 2, 1) := dk_28 (dk_at dksX1_ask_5 3 rfl rfl)
theorem dX1_ask_118 : decode cX1_ask 118 = .ok (.ireturn, 1) := dk_172 (dk_at dksX1_ask_5 4 rfl rfl)
abbrev cX1_tell : ByteArray := prog_1_method_53_code
def yX1_tell : MethodName := ⟨RX1, "tell", "(II)I"⟩
def dkwX1_tell_3 : List UInt8 := [167, 0, 4, 3, 128, 62, 132, 4, 1, 167, 255, 202, 29, 172]
abbrev dktX1_tell_3 : List UInt8 := dkwX1_tell_3 ++ []
def dkwX1_tell_2 : List UInt8 := [42, 180, 0, 35, 180, 1, 74, 16, 16, 28, 4, 100, 104, 27, 96, 46, 158, 0, 10, 4, 21, 4, 120]
abbrev dktX1_tell_2 : List UInt8 := dkwX1_tell_2 ++ dktX1_tell_3
def dkwX1_tell_1 : List UInt8 := [54, 4, 21, 4, 42, 180, 0, 19, 180, 0, 81, 162, 0, 48, 42, 180, 0, 35, 21, 4, 182, 1, 19, 29]
abbrev dktX1_tell_1 : List UInt8 := dkwX1_tell_1 ++ dktX1_tell_2
def dkwX1_tell_0 : List UInt8 := [27, 3, 16, 15, 184, 0, 84, 184, 0, 88, 28, 4, 16, 8, 184, 0, 84, 184, 0, 215, 3, 62, 3]
abbrev dktX1_tell_0 : List UInt8 := dkwX1_tell_0 ++ dktX1_tell_1
theorem dksX1_tell_0 : cX1_tell.data.toList.drop 0 = dktX1_tell_0 := by decide +kernel
theorem dksX1_tell_1 : cX1_tell.data.toList.drop 23 = dktX1_tell_1 := dk_seg dksX1_tell_0 23 rfl rfl
theorem dksX1_tell_2 : cX1_tell.data.toList.drop 47 = dktX1_tell_2 := dk_seg dksX1_tell_1 24 rfl rfl
theorem dksX1_tell_3 : cX1_tell.data.toList.drop 70 = dktX1_tell_3 := dk_seg dksX1_tell_2 23 rfl rfl
theorem dX1_tell_0 : decode cX1_tell 0 = .ok (.iload_n 1, 1) := dk_27 (dk_at dksX1_tell_0 0 rfl rfl)
theorem dX1_tell_1 : decode cX1_tell 1 = .ok (.iconst 0, 1) := dk_3 (dk_at dksX1_tell_0 1 rfl rfl)
theorem dX1_tell_2 : decode cX1_tell 2 = .ok (.bipush 15, 2) := dk_16 15 (dk_at dksX1_tell_0 2 rfl rfl)
theorem dX1_tell_4 : decode cX1_tell 4 = .ok (.invokestatic 84, 3) := dk_184 0 84 (dk_at dksX1_tell_0 4 rfl rfl)
theorem dX1_tell_7 : decode cX1_tell 7 = .ok (.invokestatic 88, 3) := dk_184 0 88 (dk_at dksX1_tell_0 7 rfl rfl)
theorem dX1_tell_10 : decode cX1_tell 10 = .ok (.iload_n 2, 1) := dk_28 (dk_at dksX1_tell_0 10 rfl rfl)
theorem dX1_tell_11 : decode cX1_tell 11 = .ok (.iconst 1, 1) := dk_4 (dk_at dksX1_tell_0 11 rfl rfl)
theorem dX1_tell_12 : decode cX1_tell 12 = .ok (.bipush 8, 2) := dk_16 8 (dk_at dksX1_tell_0 12 rfl rfl)
theorem dX1_tell_14 : decode cX1_tell 14 = .ok (.invokestatic 84, 3) := dk_184 0 84 (dk_at dksX1_tell_0 14 rfl rfl)
theorem dX1_tell_17 : decode cX1_tell 17 = .ok (.invokestatic 215, 3) := dk_184 0 215 (dk_at dksX1_tell_0 17 rfl rfl)
theorem dX1_tell_20 : decode cX1_tell 20 = .ok (.iconst 0, 1) := dk_3 (dk_at dksX1_tell_0 20 rfl rfl)
theorem dX1_tell_21 : decode cX1_tell 21 = .ok (.istore_n 3, 1) := dk_62 (dk_at dksX1_tell_0 21 rfl rfl)
theorem dX1_tell_22 : decode cX1_tell 22 = .ok (.iconst 0, 1) := dk_3 (dk_at dksX1_tell_0 22 rfl rfl)
theorem dX1_tell_23 : decode cX1_tell 23 = .ok (.istore 4, 2) := dk_54 4 (dk_at dksX1_tell_1 0 rfl rfl)
theorem dX1_tell_25 : decode cX1_tell 25 = .ok (.iload 4, 2) := dk_21 4 (dk_at dksX1_tell_1 2 rfl rfl)
theorem dX1_tell_27 : decode cX1_tell 27 = .ok (.aload_n 0, 1) := dk_42 (dk_at dksX1_tell_1 4 rfl rfl)
theorem dX1_tell_28 : decode cX1_tell 28 = .ok (.getfield 19, 3) := dk_180 0 19 (dk_at dksX1_tell_1 5 rfl rfl)
theorem dX1_tell_31 : decode cX1_tell 31 = .ok (.getfield 81, 3) := dk_180 0 81 (dk_at dksX1_tell_1 8 rfl rfl)
theorem dX1_tell_34 : decode cX1_tell 34 = .ok (.if_icmp .ge 48, 3) := dk_162 0 48 (dk_at dksX1_tell_1 11 rfl rfl)
theorem dX1_tell_37 : decode cX1_tell 37 = .ok (.aload_n 0, 1) := dk_42 (dk_at dksX1_tell_1 14 rfl rfl)
theorem dX1_tell_38 : decode cX1_tell 38 = .ok (.getfield 35, 3) := dk_180 0 35 (dk_at dksX1_tell_1 15 rfl rfl)
theorem dX1_tell_41 : decode cX1_tell 41 = .ok (.iload 4, 2) := dk_21 4 (dk_at dksX1_tell_1 18 rfl rfl)
theorem dX1_tell_43 : decode cX1_tell 43 = .ok (.invokevirtual 275, 3) := dk_182 1 19 (dk_at dksX1_tell_1 20 rfl rfl)
theorem dX1_tell_46 : decode cX1_tell 46 = .ok (.iload_n 3, 1) := dk_29 (dk_at dksX1_tell_1 23 rfl rfl)
theorem dX1_tell_47 : decode cX1_tell 47 = .ok (.aload_n 0, 1) := dk_42 (dk_at dksX1_tell_2 0 rfl rfl)
theorem dX1_tell_48 : decode cX1_tell 48 = .ok (.getfield 35, 3) := dk_180 0 35 (dk_at dksX1_tell_2 1 rfl rfl)
theorem dX1_tell_51 : decode cX1_tell 51 = .ok (.getfield 330, 3) := dk_180 1 74 (dk_at dksX1_tell_2 4 rfl rfl)
theorem dX1_tell_54 : decode cX1_tell 54 = .ok (.bipush 16, 2) := dk_16 16 (dk_at dksX1_tell_2 7 rfl rfl)
theorem dX1_tell_56 : decode cX1_tell 56 = .ok (.iload_n 2, 1) := dk_28 (dk_at dksX1_tell_2 9 rfl rfl)
theorem dX1_tell_57 : decode cX1_tell 57 = .ok (.iconst 1, 1) := dk_4 (dk_at dksX1_tell_2 10 rfl rfl)
theorem dX1_tell_58 : decode cX1_tell 58 = .ok (.isub, 1) := dk_100 (dk_at dksX1_tell_2 11 rfl rfl)
theorem dX1_tell_59 : decode cX1_tell 59 = .ok (.imul, 1) := dk_104 (dk_at dksX1_tell_2 12 rfl rfl)
theorem dX1_tell_60 : decode cX1_tell 60 = .ok (.iload_n 1, 1) := dk_27 (dk_at dksX1_tell_2 13 rfl rfl)
theorem dX1_tell_61 : decode cX1_tell 61 = .ok (.iadd, 1) := dk_96 (dk_at dksX1_tell_2 14 rfl rfl)
theorem dX1_tell_62 : decode cX1_tell 62 = .ok (.iaload, 1) := dk_46 (dk_at dksX1_tell_2 15 rfl rfl)
theorem dX1_tell_63 : decode cX1_tell 63 = .ok (.ifCond .le 10, 3) := dk_158 0 10 (dk_at dksX1_tell_2 16 rfl rfl)
theorem dX1_tell_66 : decode cX1_tell 66 = .ok (.iconst 1, 1) := dk_4 (dk_at dksX1_tell_2 19 rfl rfl)
theorem dX1_tell_67 : decode cX1_tell 67 = .ok (.iload 4, 2) := dk_21 4 (dk_at dksX1_tell_2 20 rfl rfl)
theorem dX1_tell_69 : decode cX1_tell 69 = .ok (.ishl, 1) := dk_120 (dk_at dksX1_tell_2 22 rfl rfl)
theorem dX1_tell_70 : decode cX1_tell 70 = .ok (.goto 4, 3) := dk_167 0 4 (dk_at dksX1_tell_3 0 rfl rfl)
theorem dX1_tell_73 : decode cX1_tell 73 = .ok (.iconst 0, 1) := dk_3 (dk_at dksX1_tell_3 3 rfl rfl)
theorem dX1_tell_74 : decode cX1_tell 74 = .ok (.ior, 1) := dk_128 (dk_at dksX1_tell_3 4 rfl rfl)
theorem dX1_tell_75 : decode cX1_tell 75 = .ok (.istore_n 3, 1) := dk_62 (dk_at dksX1_tell_3 5 rfl rfl)
theorem dX1_tell_76 : decode cX1_tell 76 = .ok (.iinc 4 1, 3) := dk_132 4 1 (dk_at dksX1_tell_3 6 rfl rfl)
theorem dX1_tell_79 : decode cX1_tell 79 = .ok (.goto (-54), 3) := dk_167 255 202 (dk_at dksX1_tell_3 9 rfl rfl)
theorem dX1_tell_82 : decode cX1_tell 82 = .ok (.iload_n 3, 1) := dk_29 (dk_at dksX1_tell_3 12 rfl rfl)
theorem dX1_tell_83 : decode cX1_tell 83 = .ok (.ireturn, 1) := dk_172 (dk_at dksX1_tell_3 13 rfl rfl)
abbrev cX1_lasts : ByteArray := prog_1_method_56_code
def yX1_lasts : MethodName := ⟨RX1, "lasts", "(III)I"⟩
def dkwX1_lasts_3 : List UInt8 := [172]
abbrev dktX1_lasts_3 : List UInt8 := dkwX1_lasts_3 ++ []
def dkwX1_lasts_2 : List UInt8 := [180, 0, 92, 28, 50, 180, 0, 181, 104, 96, 29, 161, 0, 6, 21, 4, 172, 132, 4, 1, 167, 255, 214, 2]
abbrev dktX1_lasts_2 : List UInt8 := dkwX1_lasts_2 ++ dktX1_lasts_3
def dkwX1_lasts_1 : List UInt8 := [21, 4, 16, 99, 163, 0, 41, 42, 180, 0, 19, 27, 28, 182, 0, 187, 21, 4, 42, 180, 0, 19]
abbrev dktX1_lasts_1 : List UInt8 := dkwX1_lasts_1 ++ dktX1_lasts_2
def dkwX1_lasts_0 : List UInt8 := [42, 27, 182, 0, 184, 42, 28, 182, 0, 166, 87, 29, 4, 16, 99, 184, 0, 84, 184, 0, 215, 3, 54, 4]
abbrev dktX1_lasts_0 : List UInt8 := dkwX1_lasts_0 ++ dktX1_lasts_1
theorem dksX1_lasts_0 : cX1_lasts.data.toList.drop 0 = dktX1_lasts_0 := by decide +kernel
theorem dksX1_lasts_1 : cX1_lasts.data.toList.drop 24 = dktX1_lasts_1 := dk_seg dksX1_lasts_0 24 rfl rfl
theorem dksX1_lasts_2 : cX1_lasts.data.toList.drop 46 = dktX1_lasts_2 := dk_seg dksX1_lasts_1 22 rfl rfl
theorem dksX1_lasts_3 : cX1_lasts.data.toList.drop 70 = dktX1_lasts_3 := dk_seg dksX1_lasts_2 24 rfl rfl
theorem dX1_lasts_0 : decode cX1_lasts 0 = .ok (.aload_n 0, 1) := dk_42 (dk_at dksX1_lasts_0 0 rfl rfl)
theorem dX1_lasts_1 : decode cX1_lasts 1 = .ok (.iload_n 1, 1) := dk_27 (dk_at dksX1_lasts_0 1 rfl rfl)
theorem dX1_lasts_2 : decode cX1_lasts 2 = .ok (.invokevirtual 184, 3) := dk_182 0 184 (dk_at dksX1_lasts_0 2 rfl rfl)
theorem dX1_lasts_5 : decode cX1_lasts 5 = .ok (.aload_n 0, 1) := dk_42 (dk_at dksX1_lasts_0 5 rfl rfl)
theorem dX1_lasts_6 : decode cX1_lasts 6 = .ok (.iload_n 2, 1) := dk_28 (dk_at dksX1_lasts_0 6 rfl rfl)
theorem dX1_lasts_7 : decode cX1_lasts 7 = .ok (.invokevirtual 166, 3) := dk_182 0 166 (dk_at dksX1_lasts_0 7 rfl rfl)
theorem dX1_lasts_10 : decode cX1_lasts 10 = .ok (.pop, 1) := dk_87 (dk_at dksX1_lasts_0 10 rfl rfl)
theorem dX1_lasts_11 : decode cX1_lasts 11 = .ok (.iload_n 3, 1) := dk_29 (dk_at dksX1_lasts_0 11 rfl rfl)
theorem dX1_lasts_12 : decode cX1_lasts 12 = .ok (.iconst 1, 1) := dk_4 (dk_at dksX1_lasts_0 12 rfl rfl)
theorem dX1_lasts_13 : decode cX1_lasts 13 = .ok (.bipush 99, 2) := dk_16 99 (dk_at dksX1_lasts_0 13 rfl rfl)
theorem dX1_lasts_15 : decode cX1_lasts 15 = .ok (.invokestatic 84, 3) := dk_184 0 84 (dk_at dksX1_lasts_0 15 rfl rfl)
theorem dX1_lasts_18 : decode cX1_lasts 18 = .ok (.invokestatic 215, 3) := dk_184 0 215 (dk_at dksX1_lasts_0 18 rfl rfl)
theorem dX1_lasts_21 : decode cX1_lasts 21 = .ok (.iconst 0, 1) := dk_3 (dk_at dksX1_lasts_0 21 rfl rfl)
theorem dX1_lasts_22 : decode cX1_lasts 22 = .ok (.istore 4, 2) := dk_54 4 (dk_at dksX1_lasts_0 22 rfl rfl)
theorem dX1_lasts_24 : decode cX1_lasts 24 = .ok (.iload 4, 2) := dk_21 4 (dk_at dksX1_lasts_1 0 rfl rfl)
theorem dX1_lasts_26 : decode cX1_lasts 26 = .ok (.bipush 99, 2) := dk_16 99 (dk_at dksX1_lasts_1 2 rfl rfl)
theorem dX1_lasts_28 : decode cX1_lasts 28 = .ok (.if_icmp .gt 41, 3) := dk_163 0 41 (dk_at dksX1_lasts_1 4 rfl rfl)
theorem dX1_lasts_31 : decode cX1_lasts 31 = .ok (.aload_n 0, 1) := dk_42 (dk_at dksX1_lasts_1 7 rfl rfl)
theorem dX1_lasts_32 : decode cX1_lasts 32 = .ok (.getfield 19, 3) := dk_180 0 19 (dk_at dksX1_lasts_1 8 rfl rfl)
theorem dX1_lasts_35 : decode cX1_lasts 35 = .ok (.iload_n 1, 1) := dk_27 (dk_at dksX1_lasts_1 11 rfl rfl)
theorem dX1_lasts_36 : decode cX1_lasts 36 = .ok (.iload_n 2, 1) := dk_28 (dk_at dksX1_lasts_1 12 rfl rfl)
theorem dX1_lasts_37 : decode cX1_lasts 37 = .ok (.invokevirtual 187, 3) := dk_182 0 187 (dk_at dksX1_lasts_1 13 rfl rfl)
theorem dX1_lasts_40 : decode cX1_lasts 40 = .ok (.iload 4, 2) := dk_21 4 (dk_at dksX1_lasts_1 16 rfl rfl)
theorem dX1_lasts_42 : decode cX1_lasts 42 = .ok (.aload_n 0, 1) := dk_42 (dk_at dksX1_lasts_1 18 rfl rfl)
theorem dX1_lasts_43 : decode cX1_lasts 43 = .ok (.getfield 19, 3) := dk_180 0 19 (dk_at dksX1_lasts_1 19 rfl rfl)
theorem dX1_lasts_46 : decode cX1_lasts 46 = .ok (.getfield 92, 3) := dk_180 0 92 (dk_at dksX1_lasts_2 0 rfl rfl)
theorem dX1_lasts_49 : decode cX1_lasts 49 = .ok (.iload_n 2, 1) := dk_28 (dk_at dksX1_lasts_2 3 rfl rfl)
theorem dX1_lasts_50 : decode cX1_lasts 50 = .ok (.aaload, 1) := dk_50 (dk_at dksX1_lasts_2 4 rfl rfl)
theorem dX1_lasts_51 : decode cX1_lasts 51 = .ok (.getfield 181, 3) := dk_180 0 181 (dk_at dksX1_lasts_2 5 rfl rfl)
theorem dX1_lasts_54 : decode cX1_lasts 54 = .ok (.imul, 1) := dk_104 (dk_at dksX1_lasts_2 8 rfl rfl)
theorem dX1_lasts_55 : decode cX1_lasts 55 = .ok (.iadd, 1) := dk_96 (dk_at dksX1_lasts_2 9 rfl rfl)
theorem dX1_lasts_56 : decode cX1_lasts 56 = .ok (.iload_n 3, 1) := dk_29 (dk_at dksX1_lasts_2 10 rfl rfl)
theorem dX1_lasts_57 : decode cX1_lasts 57 = .ok (.if_icmp .lt 6, 3) := dk_161 0 6 (dk_at dksX1_lasts_2 11 rfl rfl)
theorem dX1_lasts_60 : decode cX1_lasts 60 = .ok (.iload 4, 2) := dk_21 4 (dk_at dksX1_lasts_2 14 rfl rfl)
theorem dX1_lasts_62 : decode cX1_lasts 62 = .ok (.ireturn, 1) := dk_172 (dk_at dksX1_lasts_2 16 rfl rfl)
theorem dX1_lasts_63 : decode cX1_lasts 63 = .ok (.iinc 4 1, 3) := dk_132 4 1 (dk_at dksX1_lasts_2 17 rfl rfl)
theorem dX1_lasts_66 : decode cX1_lasts 66 = .ok (.goto (-42), 3) := dk_167 255 214 (dk_at dksX1_lasts_2 20 rfl rfl)
theorem dX1_lasts_69 : decode cX1_lasts 69 = .ok (.iconst (-1), 1) := dk_2 (dk_at dksX1_lasts_2 23 rfl rfl)
theorem dX1_lasts_70 : decode cX1_lasts 70 = .ok (.ireturn, 1) := dk_172 (dk_at dksX1_lasts_3 0 rfl rfl)
abbrev cX1_won : ByteArray := prog_1_method_59_code
def yX1_won : MethodName := ⟨RX1, "won", "(IZ)I"⟩
def dkwX1_won_4 : List UInt8 := [96, 62, 132, 4, 1, 167, 255, 166, 29, 172]
abbrev dktX1_won_4 : List UInt8 := dkwX1_won_4 ++ []
def dkwX1_won_3 : List UInt8 := [180, 0, 205, 28, 153, 0, 10, 6, 21, 6, 100, 167, 0, 5, 21, 6, 160, 0, 7, 4, 167, 0, 4, 3]
abbrev dktX1_won_3 : List UInt8 := dkwX1_won_3 ++ dktX1_won_4
def dkwX1_won_2 : List UInt8 := [25, 5, 180, 0, 199, 27, 160, 0, 7, 5, 167, 0, 4, 3, 54, 6, 21, 6, 158, 0, 32, 29, 25, 5]
abbrev dktX1_won_2 : List UInt8 := dkwX1_won_2 ++ dktX1_won_3
def dkwX1_won_1 : List UInt8 := [180, 0, 19, 180, 0, 102, 21, 4, 50, 58, 5, 25, 5, 180, 0, 195, 27, 160, 0, 7, 4, 167, 0, 17]
abbrev dktX1_won_1 : List UInt8 := dkwX1_won_1 ++ dktX1_won_2
def dkwX1_won_0 : List UInt8 := [42, 27, 182, 0, 184, 3, 62, 3, 54, 4, 21, 4, 42, 180, 0, 19, 180, 0, 99, 162, 0, 84, 42]
abbrev dktX1_won_0 : List UInt8 := dkwX1_won_0 ++ dktX1_won_1
theorem dksX1_won_0 : cX1_won.data.toList.drop 0 = dktX1_won_0 := by decide +kernel
theorem dksX1_won_1 : cX1_won.data.toList.drop 23 = dktX1_won_1 := dk_seg dksX1_won_0 23 rfl rfl
theorem dksX1_won_2 : cX1_won.data.toList.drop 47 = dktX1_won_2 := dk_seg dksX1_won_1 24 rfl rfl
theorem dksX1_won_3 : cX1_won.data.toList.drop 71 = dktX1_won_3 := dk_seg dksX1_won_2 24 rfl rfl
theorem dksX1_won_4 : cX1_won.data.toList.drop 95 = dktX1_won_4 := dk_seg dksX1_won_3 24 rfl rfl
theorem dX1_won_0 : decode cX1_won 0 = .ok (.aload_n 0, 1) := dk_42 (dk_at dksX1_won_0 0 rfl rfl)
theorem dX1_won_1 : decode cX1_won 1 = .ok (.iload_n 1, 1) := dk_27 (dk_at dksX1_won_0 1 rfl rfl)
theorem dX1_won_2 : decode cX1_won 2 = .ok (.invokevirtual 184, 3) := dk_182 0 184 (dk_at dksX1_won_0 2 rfl rfl)
theorem dX1_won_5 : decode cX1_won 5 = .ok (.iconst 0, 1) := dk_3 (dk_at dksX1_won_0 5 rfl rfl)
theorem dX1_won_6 : decode cX1_won 6 = .ok (.istore_n 3, 1) := dk_62 (dk_at dksX1_won_0 6 rfl rfl)
theorem dX1_won_7 : decode cX1_won 7 = .ok (.iconst 0, 1) := dk_3 (dk_at dksX1_won_0 7 rfl rfl)
theorem dX1_won_8 : decode cX1_won 8 = .ok (.istore 4, 2) := dk_54 4 (dk_at dksX1_won_0 8 rfl rfl)
theorem dX1_won_10 : decode cX1_won 10 = .ok (.iload 4, 2) := dk_21 4 (dk_at dksX1_won_0 10 rfl rfl)
theorem dX1_won_12 : decode cX1_won 12 = .ok (.aload_n 0, 1) := dk_42 (dk_at dksX1_won_0 12 rfl rfl)
theorem dX1_won_13 : decode cX1_won 13 = .ok (.getfield 19, 3) := dk_180 0 19 (dk_at dksX1_won_0 13 rfl rfl)
theorem dX1_won_16 : decode cX1_won 16 = .ok (.getfield 99, 3) := dk_180 0 99 (dk_at dksX1_won_0 16 rfl rfl)
theorem dX1_won_19 : decode cX1_won 19 = .ok (.if_icmp .ge 84, 3) := dk_162 0 84 (dk_at dksX1_won_0 19 rfl rfl)
theorem dX1_won_22 : decode cX1_won 22 = .ok (.aload_n 0, 1) := dk_42 (dk_at dksX1_won_0 22 rfl rfl)
theorem dX1_won_23 : decode cX1_won 23 = .ok (.getfield 19, 3) := dk_180 0 19 (dk_at dksX1_won_1 0 rfl rfl)
theorem dX1_won_26 : decode cX1_won 26 = .ok (.getfield 102, 3) := dk_180 0 102 (dk_at dksX1_won_1 3 rfl rfl)
theorem dX1_won_29 : decode cX1_won 29 = .ok (.iload 4, 2) := dk_21 4 (dk_at dksX1_won_1 6 rfl rfl)
theorem dX1_won_31 : decode cX1_won 31 = .ok (.aaload, 1) := dk_50 (dk_at dksX1_won_1 8 rfl rfl)
theorem dX1_won_32 : decode cX1_won 32 = .ok (.astore 5, 2) := dk_58 5 (dk_at dksX1_won_1 9 rfl rfl)
theorem dX1_won_34 : decode cX1_won 34 = .ok (.aload 5, 2) := dk_25 5 (dk_at dksX1_won_1 11 rfl rfl)
theorem dX1_won_36 : decode cX1_won 36 = .ok (.getfield 195, 3) := dk_180 0 195 (dk_at dksX1_won_1 13 rfl rfl)
theorem dX1_won_39 : decode cX1_won 39 = .ok (.iload_n 1, 1) := dk_27 (dk_at dksX1_won_1 16 rfl rfl)
theorem dX1_won_40 : decode cX1_won 40 = .ok (.if_icmp .ne 7, 3) := dk_160 0 7 (dk_at dksX1_won_1 17 rfl rfl)
theorem dX1_won_43 : decode cX1_won 43 = .ok (.iconst 1, 1) := dk_4 (dk_at dksX1_won_1 20 rfl rfl)
theorem dX1_won_44 : decode cX1_won 44 = .ok (.goto 17, 3) := dk_167 0 17 (dk_at dksX1_won_1 21 rfl rfl)
theorem dX1_won_47 : decode cX1_won 47 = .ok (.aload 5, 2) := dk_25 5 (dk_at dksX1_won_2 0 rfl rfl)
theorem dX1_won_49 : decode cX1_won 49 = .ok (.getfield 199, 3) := dk_180 0 199 (dk_at dksX1_won_2 2 rfl rfl)
theorem dX1_won_52 : decode cX1_won 52 = .ok (.iload_n 1, 1) := dk_27 (dk_at dksX1_won_2 5 rfl rfl)
theorem dX1_won_53 : decode cX1_won 53 = .ok (.if_icmp .ne 7, 3) := dk_160 0 7 (dk_at dksX1_won_2 6 rfl rfl)
theorem dX1_won_56 : decode cX1_won 56 = .ok (.iconst 2, 1) := dk_5 (dk_at dksX1_won_2 9 rfl rfl)
theorem dX1_won_57 : decode cX1_won 57 = .ok (.goto 4, 3) := dk_167 0 4 (dk_at dksX1_won_2 10 rfl rfl)
theorem dX1_won_60 : decode cX1_won 60 = .ok (.iconst 0, 1) := dk_3 (dk_at dksX1_won_2 13 rfl rfl)
theorem dX1_won_61 : decode cX1_won 61 = .ok (.istore 6, 2) := dk_54 6 (dk_at dksX1_won_2 14 rfl rfl)
theorem dX1_won_63 : decode cX1_won 63 = .ok (.iload 6, 2) := dk_21 6 (dk_at dksX1_won_2 16 rfl rfl)
theorem dX1_won_65 : decode cX1_won 65 = .ok (.ifCond .le 32, 3) := dk_158 0 32 (dk_at dksX1_won_2 18 rfl rfl)
theorem dX1_won_68 : decode cX1_won 68 = .ok (.iload_n 3, 1) := dk_29 (dk_at dksX1_won_2 21 rfl rfl)
theorem dX1_won_69 : decode cX1_won 69 = .ok (.aload 5, 2) := dk_25 5 (dk_at dksX1_won_2 22 rfl rfl)
theorem dX1_won_71 : decode cX1_won 71 = .ok (.getfield 205, 3) := dk_180 0 205 (dk_at dksX1_won_3 0 rfl rfl)
theorem dX1_won_74 : decode cX1_won 74 = .ok (.iload_n 2, 1) := dk_28 (dk_at dksX1_won_3 3 rfl rfl)
theorem dX1_won_75 : decode cX1_won 75 = .ok (.ifCond .eq 10, 3) := dk_153 0 10 (dk_at dksX1_won_3 4 rfl rfl)
theorem dX1_won_78 : decode cX1_won 78 = .ok (.iconst 3, 1) := dk_6 (dk_at dksX1_won_3 7 rfl rfl)
theorem dX1_won_79 : decode cX1_won 79 = .ok (.iload 6, 2) := dk_21 6 (dk_at dksX1_won_3 8 rfl rfl)
theorem dX1_won_81 : decode cX1_won 81 = .ok (.isub, 1) := dk_100 (dk_at dksX1_won_3 10 rfl rfl)
theorem dX1_won_82 : decode cX1_won 82 = .ok (.goto 5, 3) := dk_167 0 5 (dk_at dksX1_won_3 11 rfl rfl)
theorem dX1_won_85 : decode cX1_won 85 = .ok (.iload 6, 2) := dk_21 6 (dk_at dksX1_won_3 14 rfl rfl)
theorem dX1_won_87 : decode cX1_won 87 = .ok (.if_icmp .ne 7, 3) := dk_160 0 7 (dk_at dksX1_won_3 16 rfl rfl)
theorem dX1_won_90 : decode cX1_won 90 = .ok (.iconst 1, 1) := dk_4 (dk_at dksX1_won_3 19 rfl rfl)
theorem dX1_won_91 : decode cX1_won 91 = .ok (.goto 4, 3) := dk_167 0 4 (dk_at dksX1_won_3 20 rfl rfl)
theorem dX1_won_94 : decode cX1_won 94 = .ok (.iconst 0, 1) := dk_3 (dk_at dksX1_won_3 23 rfl rfl)
theorem dX1_won_95 : decode cX1_won 95 = .ok (.iadd, 1) := dk_96 (dk_at dksX1_won_4 0 rfl rfl)
theorem dX1_won_96 : decode cX1_won 96 = .ok (.istore_n 3, 1) := dk_62 (dk_at dksX1_won_4 1 rfl rfl)
theorem dX1_won_97 : decode cX1_won 97 = .ok (.iinc 4 1, 3) := dk_132 4 1 (dk_at dksX1_won_4 2 rfl rfl)
theorem dX1_won_100 : decode cX1_won 100 = .ok (.goto (-90), 3) := dk_167 255 166 (dk_at dksX1_won_4 5 rfl rfl)
theorem dX1_won_103 : decode cX1_won 103 = .ok (.iload_n 3, 1) := dk_29 (dk_at dksX1_won_4 8 rfl rfl)
theorem dX1_won_104 : decode cX1_won 104 = .ok (.ireturn, 1) := dk_172 (dk_at dksX1_won_4 9 rfl rfl)
abbrev cX1_widest : ByteArray := prog_1_method_55_code
def yX1_widest : MethodName := ⟨RX1, "widest", "(I)I"⟩
def dkwX1_widest_5 : List UInt8 := [181, 1, 77, 42, 180, 0, 19, 28, 29, 96, 181, 1, 80, 21, 4, 172]
abbrev dktX1_widest_5 : List UInt8 := dkwX1_widest_5 ++ []
def dkwX1_widest_4 : List UInt8 := [180, 0, 35, 182, 1, 22, 54, 5, 21, 6, 54, 4, 132, 6, 1, 167, 255, 188, 42, 180, 0, 19, 28]
abbrev dktX1_widest_4 : List UInt8 := dkwX1_widest_4 ++ dktX1_widest_5
def dkwX1_widest_3 : List UInt8 := [180, 0, 35, 27, 182, 1, 19, 42, 180, 0, 35, 182, 1, 22, 21, 5, 163, 0, 6, 167, 0, 16, 42]
abbrev dktX1_widest_3 : List UInt8 := dkwX1_widest_3 ++ dktX1_widest_4
def dkwX1_widest_2 : List UInt8 := [162, 0, 65, 42, 180, 0, 19, 21, 6, 181, 1, 77, 42, 180, 0, 19, 21, 6, 29, 96, 181, 1, 80, 42]
abbrev dktX1_widest_2 : List UInt8 := dkwX1_widest_2 ++ dktX1_widest_3
def dkwX1_widest_1 : List UInt8 := [180, 0, 19, 180, 1, 77, 100, 62, 3, 54, 4, 2, 54, 5, 3, 54, 6, 21, 6, 29, 96, 16, 16]
abbrev dktX1_widest_1 : List UInt8 := dkwX1_widest_1 ++ dktX1_widest_2
def dkwX1_widest_0 : List UInt8 := [42, 27, 182, 0, 166, 87, 42, 180, 0, 19, 180, 1, 77, 61, 42, 180, 0, 19, 180, 1, 80, 42]
abbrev dktX1_widest_0 : List UInt8 := dkwX1_widest_0 ++ dktX1_widest_1
theorem dksX1_widest_0 : cX1_widest.data.toList.drop 0 = dktX1_widest_0 := by decide +kernel
theorem dksX1_widest_1 : cX1_widest.data.toList.drop 22 = dktX1_widest_1 := dk_seg dksX1_widest_0 22 rfl rfl
theorem dksX1_widest_2 : cX1_widest.data.toList.drop 45 = dktX1_widest_2 := dk_seg dksX1_widest_1 23 rfl rfl
theorem dksX1_widest_3 : cX1_widest.data.toList.drop 69 = dktX1_widest_3 := dk_seg dksX1_widest_2 24 rfl rfl
theorem dksX1_widest_4 : cX1_widest.data.toList.drop 92 = dktX1_widest_4 := dk_seg dksX1_widest_3 23 rfl rfl
theorem dksX1_widest_5 : cX1_widest.data.toList.drop 115 = dktX1_widest_5 := dk_seg dksX1_widest_4 23 rfl rfl
theorem dX1_widest_0 : decode cX1_widest 0 = .ok (.aload_n 0, 1) := dk_42 (dk_at dksX1_widest_0 0 rfl rfl)
theorem dX1_widest_1 : decode cX1_widest 1 = .ok (.iload_n 1, 1) := dk_27 (dk_at dksX1_widest_0 1 rfl rfl)
theorem dX1_widest_2 : decode cX1_widest 2 = .ok (.invokevirtual 166, 3) := dk_182 0 166 (dk_at dksX1_widest_0 2 rfl rfl)
theorem dX1_widest_5 : decode cX1_widest 5 = .ok (.pop, 1) := dk_87 (dk_at dksX1_widest_0 5 rfl rfl)
theorem dX1_widest_6 : decode cX1_widest 6 = .ok (.aload_n 0, 1) := dk_42 (dk_at dksX1_widest_0 6 rfl rfl)
theorem dX1_widest_7 : decode cX1_widest 7 = .ok (.getfield 19, 3) := dk_180 0 19 (dk_at dksX1_widest_0 7 rfl rfl)
theorem dX1_widest_10 : decode cX1_widest 10 = .ok (.getfield 333, 3) := dk_180 1 77 (dk_at dksX1_widest_0 10 rfl rfl)
theorem dX1_widest_13 : decode cX1_widest 13 = .ok (.istore_n 2, 1) := dk_61 (dk_at dksX1_widest_0 13 rfl rfl)
theorem dX1_widest_14 : decode cX1_widest 14 = .ok (.aload_n 0, 1) := dk_42 (dk_at dksX1_widest_0 14 rfl rfl)
theorem dX1_widest_15 : decode cX1_widest 15 = .ok (.getfield 19, 3) := dk_180 0 19 (dk_at dksX1_widest_0 15 rfl rfl)
theorem dX1_widest_18 : decode cX1_widest 18 = .ok (.getfield 336, 3) := dk_180 1 80 (dk_at dksX1_widest_0 18 rfl rfl)
theorem dX1_widest_21 : decode cX1_widest 21 = .ok (.aload_n 0, 1) := dk_42 (dk_at dksX1_widest_0 21 rfl rfl)
theorem dX1_widest_22 : decode cX1_widest 22 = .ok (.getfield 19, 3) := dk_180 0 19 (dk_at dksX1_widest_1 0 rfl rfl)
theorem dX1_widest_25 : decode cX1_widest 25 = .ok (.getfield 333, 3) := dk_180 1 77 (dk_at dksX1_widest_1 3 rfl rfl)
theorem dX1_widest_28 : decode cX1_widest 28 = .ok (.isub, 1) := dk_100 (dk_at dksX1_widest_1 6 rfl rfl)
theorem dX1_widest_29 : decode cX1_widest 29 = .ok (.istore_n 3, 1) := dk_62 (dk_at dksX1_widest_1 7 rfl rfl)
theorem dX1_widest_30 : decode cX1_widest 30 = .ok (.iconst 0, 1) := dk_3 (dk_at dksX1_widest_1 8 rfl rfl)
theorem dX1_widest_31 : decode cX1_widest 31 = .ok (.istore 4, 2) := dk_54 4 (dk_at dksX1_widest_1 9 rfl rfl)
theorem dX1_widest_33 : decode cX1_widest 33 = .ok (.iconst (-1), 1) := dk_2 (dk_at dksX1_widest_1 11 rfl rfl)
theorem dX1_widest_34 : decode cX1_widest 34 = .ok (.istore 5, 2) := dk_54 5 (dk_at dksX1_widest_1 12 rfl rfl)
theorem dX1_widest_36 : decode cX1_widest 36 = .ok (.iconst 0, 1) := dk_3 (dk_at dksX1_widest_1 14 rfl rfl)
theorem dX1_widest_37 : decode cX1_widest 37 = .ok (.istore 6, 2) := dk_54 6 (dk_at dksX1_widest_1 15 rfl rfl)
theorem dX1_widest_39 : decode cX1_widest 39 = .ok (.iload 6, 2) := dk_21 6 (dk_at dksX1_widest_1 17 rfl rfl)
theorem dX1_widest_41 : decode cX1_widest 41 = .ok (.iload_n 3, 1) := dk_29 (dk_at dksX1_widest_1 19 rfl rfl)
theorem dX1_widest_42 : decode cX1_widest 42 = .ok (.iadd, 1) := dk_96 (dk_at dksX1_widest_1 20 rfl rfl)
theorem dX1_widest_43 : decode cX1_widest 43 = .ok (.bipush 16, 2) := dk_16 16 (dk_at dksX1_widest_1 21 rfl rfl)
theorem dX1_widest_45 : decode cX1_widest 45 = .ok (.if_icmp .ge 65, 3) := dk_162 0 65 (dk_at dksX1_widest_2 0 rfl rfl)
theorem dX1_widest_48 : decode cX1_widest 48 = .ok (.aload_n 0, 1) := dk_42 (dk_at dksX1_widest_2 3 rfl rfl)
theorem dX1_widest_49 : decode cX1_widest 49 = .ok (.getfield 19, 3) := dk_180 0 19 (dk_at dksX1_widest_2 4 rfl rfl)
theorem dX1_widest_52 : decode cX1_widest 52 = .ok (.iload 6, 2) := dk_21 6 (dk_at dksX1_widest_2 7 rfl rfl)
theorem dX1_widest_54 : decode cX1_widest 54 = .ok (.putfield 333, 3) := dk_181 1 77 (dk_at dksX1_widest_2 9 rfl rfl)
theorem dX1_widest_57 : decode cX1_widest 57 = .ok (.aload_n 0, 1) := dk_42 (dk_at dksX1_widest_2 12 rfl rfl)
theorem dX1_widest_58 : decode cX1_widest 58 = .ok (.getfield 19, 3) := dk_180 0 19 (dk_at dksX1_widest_2 13 rfl rfl)
theorem dX1_widest_61 : decode cX1_widest 61 = .ok (.iload 6, 2) := dk_21 6 (dk_at dksX1_widest_2 16 rfl rfl)
theorem dX1_widest_63 : decode cX1_widest 63 = .ok (.iload_n 3, 1) := dk_29 (dk_at dksX1_widest_2 18 rfl rfl)
theorem dX1_widest_64 : decode cX1_widest 64 = .ok (.iadd, 1) := dk_96 (dk_at dksX1_widest_2 19 rfl rfl)
theorem dX1_widest_65 : decode cX1_widest 65 = .ok (.putfield 336, 3) := dk_181 1 80 (dk_at dksX1_widest_2 20 rfl rfl)
theorem dX1_widest_68 : decode cX1_widest 68 = .ok (.aload_n 0, 1) := dk_42 (dk_at dksX1_widest_2 23 rfl rfl)
theorem dX1_widest_69 : decode cX1_widest 69 = .ok (.getfield 35, 3) := dk_180 0 35 (dk_at dksX1_widest_3 0 rfl rfl)
theorem dX1_widest_72 : decode cX1_widest 72 = .ok (.iload_n 1, 1) := dk_27 (dk_at dksX1_widest_3 3 rfl rfl)
theorem dX1_widest_73 : decode cX1_widest 73 = .ok (.invokevirtual 275, 3) := dk_182 1 19 (dk_at dksX1_widest_3 4 rfl rfl)
theorem dX1_widest_76 : decode cX1_widest 76 = .ok (.aload_n 0, 1) := dk_42 (dk_at dksX1_widest_3 7 rfl rfl)
theorem dX1_widest_77 : decode cX1_widest 77 = .ok (.getfield 35, 3) := dk_180 0 35 (dk_at dksX1_widest_3 8 rfl rfl)
theorem dX1_widest_80 : decode cX1_widest 80 = .ok (.invokevirtual 278, 3) := dk_182 1 22 (dk_at dksX1_widest_3 11 rfl rfl)
theorem dX1_widest_83 : decode cX1_widest 83 = .ok (.iload 5, 2) := dk_21 5 (dk_at dksX1_widest_3 14 rfl rfl)
theorem dX1_widest_85 : decode cX1_widest 85 = .ok (.if_icmp .gt 6, 3) := dk_163 0 6 (dk_at dksX1_widest_3 16 rfl rfl)
theorem dX1_widest_88 : decode cX1_widest 88 = .ok (.goto 16, 3) := dk_167 0 16 (dk_at dksX1_widest_3 19 rfl rfl)
theorem dX1_widest_91 : decode cX1_widest 91 = .ok (.aload_n 0, 1) := dk_42 (dk_at dksX1_widest_3 22 rfl rfl)
theorem dX1_widest_92 : decode cX1_widest 92 = .ok (.getfield 35, 3) := dk_180 0 35 (dk_at dksX1_widest_4 0 rfl rfl)
theorem dX1_widest_95 : decode cX1_widest 95 = .ok (.invokevirtual 278, 3) := dk_182 1 22 (dk_at dksX1_widest_4 3 rfl rfl)
theorem dX1_widest_98 : decode cX1_widest 98 = .ok (.istore 5, 2) := dk_54 5 (dk_at dksX1_widest_4 6 rfl rfl)
theorem dX1_widest_100 : decode cX1_widest 100 = .ok (.iload 6, 2) := dk_21 6 (dk_at dksX1_widest_4 8 rfl rfl)
theorem dX1_widest_102 : decode cX1_widest 102 = .ok (.istore 4, 2) := dk_54 4 (dk_at dksX1_widest_4 10 rfl rfl)
theorem dX1_widest_104 : decode cX1_widest 104 = .ok (.iinc 6 1, 3) := dk_132 6 1 (dk_at dksX1_widest_4 12 rfl rfl)
theorem dX1_widest_107 : decode cX1_widest 107 = .ok (.goto (-68), 3) := dk_167 255 188 (dk_at dksX1_widest_4 15 rfl rfl)
theorem dX1_widest_110 : decode cX1_widest 110 = .ok (.aload_n 0, 1) := dk_42 (dk_at dksX1_widest_4 18 rfl rfl)
theorem dX1_widest_111 : decode cX1_widest 111 = .ok (.getfield 19, 3) := dk_180 0 19 (dk_at dksX1_widest_4 19 rfl rfl)
theorem dX1_widest_114 : decode cX1_widest 114 = .ok (.iload_n 2, 1) := dk_28 (dk_at dksX1_widest_4 22 rfl rfl)
theorem dX1_widest_115 : decode cX1_widest 115 = .ok (.putfield 333, 3) := dk_181 1 77 (dk_at dksX1_widest_5 0 rfl rfl)
theorem dX1_widest_118 : decode cX1_widest 118 = .ok (.aload_n 0, 1) := dk_42 (dk_at dksX1_widest_5 3 rfl rfl)
theorem dX1_widest_119 : decode cX1_widest 119 = .ok (.getfield 19, 3) := dk_180 0 19 (dk_at dksX1_widest_5 4 rfl rfl)
theorem dX1_widest_122 : decode cX1_widest 122 = .ok (.iload_n 2, 1) := dk_28 (dk_at dksX1_widest_5 7 rfl rfl)
theorem dX1_widest_123 : decode cX1_widest 123 = .ok (.iload_n 3, 1) := dk_29 (dk_at dksX1_widest_5 8 rfl rfl)
theorem dX1_widest_124 : decode cX1_widest 124 = .ok (.iadd, 1) := dk_96 (dk_at dksX1_widest_5 9 rfl rfl)
theorem dX1_widest_125 : decode cX1_widest 125 = .ok (.putfield 336, 3) := dk_181 1 80 (dk_at dksX1_widest_5 10 rfl rfl)
theorem dX1_widest_128 : decode cX1_widest 128 = .ok (.iload 4, 2) := dk_21 4 (dk_at dksX1_widest_5 13 rfl rfl)
theorem dX1_widest_130 : decode cX1_widest 130 = .ok (.ireturn, 1) := dk_172 (dk_at dksX1_widest_5 15 rfl rfl)
abbrev cX1_trial : ByteArray := prog_1_method_63_code
def yX1_trial : MethodName := ⟨RX1, "trial", "(III)I"⟩
def dkwX1_trial_2 : List UInt8 := [181, 1, 91, 21, 5, 172]
abbrev dktX1_trial_2 : List UInt8 := dkwX1_trial_2 ++ []
def dkwX1_trial_1 : List UInt8 := [180, 0, 19, 180, 1, 91, 54, 4, 42, 27, 28, 29, 182, 1, 94, 54, 5, 42, 180, 0, 19, 21, 4]
abbrev dktX1_trial_1 : List UInt8 := dkwX1_trial_1 ++ dktX1_trial_2
def dkwX1_trial_0 : List UInt8 := [42, 27, 182, 0, 166, 87, 42, 28, 182, 0, 166, 87, 29, 3, 16, 40, 184, 0, 84, 184, 0, 215, 42]
abbrev dktX1_trial_0 : List UInt8 := dkwX1_trial_0 ++ dktX1_trial_1
theorem dksX1_trial_0 : cX1_trial.data.toList.drop 0 = dktX1_trial_0 := by decide +kernel
theorem dksX1_trial_1 : cX1_trial.data.toList.drop 23 = dktX1_trial_1 := dk_seg dksX1_trial_0 23 rfl rfl
theorem dksX1_trial_2 : cX1_trial.data.toList.drop 46 = dktX1_trial_2 := dk_seg dksX1_trial_1 23 rfl rfl
theorem dX1_trial_0 : decode cX1_trial 0 = .ok (.aload_n 0, 1) := dk_42 (dk_at dksX1_trial_0 0 rfl rfl)
theorem dX1_trial_1 : decode cX1_trial 1 = .ok (.iload_n 1, 1) := dk_27 (dk_at dksX1_trial_0 1 rfl rfl)
theorem dX1_trial_2 : decode cX1_trial 2 = .ok (.invokevirtual 166, 3) := dk_182 0 166 (dk_at dksX1_trial_0 2 rfl rfl)
theorem dX1_trial_5 : decode cX1_trial 5 = .ok (.pop, 1) := dk_87 (dk_at dksX1_trial_0 5 rfl rfl)
theorem dX1_trial_6 : decode cX1_trial 6 = .ok (.aload_n 0, 1) := dk_42 (dk_at dksX1_trial_0 6 rfl rfl)
theorem dX1_trial_7 : decode cX1_trial 7 = .ok (.iload_n 2, 1) := dk_28 (dk_at dksX1_trial_0 7 rfl rfl)
theorem dX1_trial_8 : decode cX1_trial 8 = .ok (.invokevirtual 166, 3) := dk_182 0 166 (dk_at dksX1_trial_0 8 rfl rfl)
theorem dX1_trial_11 : decode cX1_trial 11 = .ok (.pop, 1) := dk_87 (dk_at dksX1_trial_0 11 rfl rfl)
theorem dX1_trial_12 : decode cX1_trial 12 = .ok (.iload_n 3, 1) := dk_29 (dk_at dksX1_trial_0 12 rfl rfl)
theorem dX1_trial_13 : decode cX1_trial 13 = .ok (.iconst 0, 1) := dk_3 (dk_at dksX1_trial_0 13 rfl rfl)
theorem dX1_trial_14 : decode cX1_trial 14 = .ok (.bipush 40, 2) := dk_16 40 (dk_at dksX1_trial_0 14 rfl rfl)
theorem dX1_trial_16 : decode cX1_trial 16 = .ok (.invokestatic 84, 3) := dk_184 0 84 (dk_at dksX1_trial_0 16 rfl rfl)
theorem dX1_trial_19 : decode cX1_trial 19 = .ok (.invokestatic 215, 3) := dk_184 0 215 (dk_at dksX1_trial_0 19 rfl rfl)
theorem dX1_trial_22 : decode cX1_trial 22 = .ok (.aload_n 0, 1) := dk_42 (dk_at dksX1_trial_0 22 rfl rfl)
theorem dX1_trial_23 : decode cX1_trial 23 = .ok (.getfield 19, 3) := dk_180 0 19 (dk_at dksX1_trial_1 0 rfl rfl)
theorem dX1_trial_26 : decode cX1_trial 26 = .ok (.getfield 347, 3) := dk_180 1 91 (dk_at dksX1_trial_1 3 rfl rfl)
theorem dX1_trial_29 : decode cX1_trial 29 = .ok (.istore 4, 2) := dk_54 4 (dk_at dksX1_trial_1 6 rfl rfl)
theorem dX1_trial_31 : decode cX1_trial 31 = .ok (.aload_n 0, 1) := dk_42 (dk_at dksX1_trial_1 8 rfl rfl)
theorem dX1_trial_32 : decode cX1_trial 32 = .ok (.iload_n 1, 1) := dk_27 (dk_at dksX1_trial_1 9 rfl rfl)
theorem dX1_trial_33 : decode cX1_trial 33 = .ok (.iload_n 2, 1) := dk_28 (dk_at dksX1_trial_1 10 rfl rfl)
theorem dX1_trial_34 : decode cX1_trial 34 = .ok (.iload_n 3, 1) := dk_29 (dk_at dksX1_trial_1 11 rfl rfl)
theorem dX1_trial_35 : decode cX1_trial 35 = .ok (.invokevirtual 350, 3) := dk_182 1 94 (dk_at dksX1_trial_1 12 rfl rfl)
theorem dX1_trial_38 : decode cX1_trial 38 = .ok (.istore 5, 2) := dk_54 5 (dk_at dksX1_trial_1 15 rfl rfl)
theorem dX1_trial_40 : decode cX1_trial 40 = .ok (.aload_n 0, 1) := dk_42 (dk_at dksX1_trial_1 17 rfl rfl)
theorem dX1_trial_41 : decode cX1_trial 41 = .ok (.getfield 19, 3) := dk_180 0 19 (dk_at dksX1_trial_1 18 rfl rfl)
theorem dX1_trial_44 : decode cX1_trial 44 = .ok (.iload 4, 2) := dk_21 4 (dk_at dksX1_trial_1 21 rfl rfl)
theorem dX1_trial_46 : decode cX1_trial 46 = .ok (.putfield 347, 3) := dk_181 1 91 (dk_at dksX1_trial_2 0 rfl rfl)
theorem dX1_trial_49 : decode cX1_trial 49 = .ok (.iload 5, 2) := dk_21 5 (dk_at dksX1_trial_2 3 rfl rfl)
theorem dX1_trial_51 : decode cX1_trial 51 = .ok (.ireturn, 1) := dk_172 (dk_at dksX1_trial_2 5 rfl rfl)
abbrev cX1_calls : ByteArray := prog_1_method_62_code
def yX1_calls : MethodName := ⟨RX1, "calls", "(III)I"⟩
def dkwX1_calls_1 : List UInt8 := [4, 167, 0, 4, 3, 96, 54, 4, 132, 5, 1, 167, 255, 227, 21, 4, 172]
abbrev dktX1_calls_1 : List UInt8 := dkwX1_calls_1 ++ []
def dkwX1_calls_0 : List UInt8 := [3, 54, 4, 3, 54, 5, 21, 5, 29, 162, 0, 29, 21, 4, 42, 27, 28, 182, 1, 3, 4, 160, 0, 7]
abbrev dktX1_calls_0 : List UInt8 := dkwX1_calls_0 ++ dktX1_calls_1
theorem dksX1_calls_0 : cX1_calls.data.toList.drop 0 = dktX1_calls_0 := by decide +kernel
theorem dksX1_calls_1 : cX1_calls.data.toList.drop 24 = dktX1_calls_1 := dk_seg dksX1_calls_0 24 rfl rfl
theorem dX1_calls_0 : decode cX1_calls 0 = .ok (.iconst 0, 1) := dk_3 (dk_at dksX1_calls_0 0 rfl rfl)
theorem dX1_calls_1 : decode cX1_calls 1 = .ok (.istore 4, 2) := dk_54 4 (dk_at dksX1_calls_0 1 rfl rfl)
theorem dX1_calls_3 : decode cX1_calls 3 = .ok (.iconst 0, 1) := dk_3 (dk_at dksX1_calls_0 3 rfl rfl)
theorem dX1_calls_4 : decode cX1_calls 4 = .ok (.istore 5, 2) := dk_54 5 (dk_at dksX1_calls_0 4 rfl rfl)
theorem dX1_calls_6 : decode cX1_calls 6 = .ok (.iload 5, 2) := dk_21 5 (dk_at dksX1_calls_0 6 rfl rfl)
theorem dX1_calls_8 : decode cX1_calls 8 = .ok (.iload_n 3, 1) := dk_29 (dk_at dksX1_calls_0 8 rfl rfl)
theorem dX1_calls_9 : decode cX1_calls 9 = .ok (.if_icmp .ge 29, 3) := dk_162 0 29 (dk_at dksX1_calls_0 9 rfl rfl)
theorem dX1_calls_12 : decode cX1_calls 12 = .ok (.iload 4, 2) := dk_21 4 (dk_at dksX1_calls_0 12 rfl rfl)
theorem dX1_calls_14 : decode cX1_calls 14 = .ok (.aload_n 0, 1) := dk_42 (dk_at dksX1_calls_0 14 rfl rfl)
theorem dX1_calls_15 : decode cX1_calls 15 = .ok (.iload_n 1, 1) := dk_27 (dk_at dksX1_calls_0 15 rfl rfl)
theorem dX1_calls_16 : decode cX1_calls 16 = .ok (.iload_n 2, 1) := dk_28 (dk_at dksX1_calls_0 16 rfl rfl)
theorem dX1_calls_17 : decode cX1_calls 17 = .ok (.invokevirtual 259, 3) := dk_182 1 3 (dk_at dksX1_calls_0 17 rfl rfl)
theorem dX1_calls_20 : decode cX1_calls 20 = .ok (.iconst 1, 1) := dk_4 (dk_at dksX1_calls_0 20 rfl rfl)
theorem dX1_calls_21 : decode cX1_calls 21 = .ok (.if_icmp .ne 7, 3) := dk_160 0 7 (dk_at dksX1_calls_0 21 rfl rfl)
theorem dX1_calls_24 : decode cX1_calls 24 = .ok (.iconst 1, 1) := dk_4 (dk_at dksX1_calls_1 0 rfl rfl)
theorem dX1_calls_25 : decode cX1_calls 25 = .ok (.goto 4, 3) := dk_167 0 4 (dk_at dksX1_calls_1 1 rfl rfl)
theorem dX1_calls_28 : decode cX1_calls 28 = .ok (.iconst 0, 1) := dk_3 (dk_at dksX1_calls_1 4 rfl rfl)
theorem dX1_calls_29 : decode cX1_calls 29 = .ok (.iadd, 1) := dk_96 (dk_at dksX1_calls_1 5 rfl rfl)
theorem dX1_calls_30 : decode cX1_calls 30 = .ok (.istore 4, 2) := dk_54 4 (dk_at dksX1_calls_1 6 rfl rfl)
theorem dX1_calls_32 : decode cX1_calls 32 = .ok (.iinc 5 1, 3) := dk_132 5 1 (dk_at dksX1_calls_1 8 rfl rfl)
theorem dX1_calls_35 : decode cX1_calls 35 = .ok (.goto (-29), 3) := dk_167 255 227 (dk_at dksX1_calls_1 11 rfl rfl)
theorem dX1_calls_38 : decode cX1_calls 38 = .ok (.iload 4, 2) := dk_21 4 (dk_at dksX1_calls_1 14 rfl rfl)
theorem dX1_calls_40 : decode cX1_calls 40 = .ok (.ireturn, 1) := dk_172 (dk_at dksX1_calls_1 16 rfl rfl)
abbrev cX1_span : ByteArray := prog_1_method_64_code
def yX1_span : MethodName := ⟨RX1, "span", "(IIIZ)I"⟩
def dkwX1_span_4 : List UInt8 := [184, 0, 228, 54, 6, 132, 7, 1, 167, 255, 204, 42, 180, 0, 19, 21, 5, 181, 1, 91, 21, 6, 172]
abbrev dktX1_span_4 : List UInt8 := dkwX1_span_4 ++ []
def dkwX1_span_3 : List UInt8 := [182, 1, 94, 54, 8, 21, 4, 153, 0, 13, 21, 6, 21, 8, 184, 1, 71, 167, 0, 10, 21, 6, 21, 8]
abbrev dktX1_span_3 : List UInt8 := dkwX1_span_3 ++ dktX1_span_4
def dkwX1_span_2 : List UInt8 := [54, 7, 21, 7, 16, 6, 163, 0, 51, 42, 180, 0, 19, 21, 7, 181, 1, 91, 42, 27, 28, 29]
abbrev dktX1_span_2 : List UInt8 := dkwX1_span_2 ++ dktX1_span_3
def dkwX1_span_1 : List UInt8 := [180, 0, 19, 180, 1, 91, 54, 5, 21, 4, 153, 0, 7, 3, 167, 0, 6, 19, 1, 43, 54, 6, 4]
abbrev dktX1_span_1 : List UInt8 := dkwX1_span_1 ++ dktX1_span_2
def dkwX1_span_0 : List UInt8 := [42, 27, 182, 0, 166, 87, 42, 28, 182, 0, 166, 87, 29, 3, 16, 40, 184, 0, 84, 184, 0, 215, 42]
abbrev dktX1_span_0 : List UInt8 := dkwX1_span_0 ++ dktX1_span_1
theorem dksX1_span_0 : cX1_span.data.toList.drop 0 = dktX1_span_0 := by decide +kernel
theorem dksX1_span_1 : cX1_span.data.toList.drop 23 = dktX1_span_1 := dk_seg dksX1_span_0 23 rfl rfl
theorem dksX1_span_2 : cX1_span.data.toList.drop 46 = dktX1_span_2 := dk_seg dksX1_span_1 23 rfl rfl
theorem dksX1_span_3 : cX1_span.data.toList.drop 68 = dktX1_span_3 := dk_seg dksX1_span_2 22 rfl rfl
theorem dksX1_span_4 : cX1_span.data.toList.drop 92 = dktX1_span_4 := dk_seg dksX1_span_3 24 rfl rfl
theorem dX1_span_0 : decode cX1_span 0 = .ok (.aload_n 0, 1) := dk_42 (dk_at dksX1_span_0 0 rfl rfl)
theorem dX1_span_1 : decode cX1_span 1 = .ok (.iload_n 1, 1) := dk_27 (dk_at dksX1_span_0 1 rfl rfl)
theorem dX1_span_2 : decode cX1_span 2 = .ok (.invokevirtual 166, 3) := dk_182 0 166 (dk_at dksX1_span_0 2 rfl rfl)
theorem dX1_span_5 : decode cX1_span 5 = .ok (.pop, 1) := dk_87 (dk_at dksX1_span_0 5 rfl rfl)
theorem dX1_span_6 : decode cX1_span 6 = .ok (.aload_n 0, 1) := dk_42 (dk_at dksX1_span_0 6 rfl rfl)
theorem dX1_span_7 : decode cX1_span 7 = .ok (.iload_n 2, 1) := dk_28 (dk_at dksX1_span_0 7 rfl rfl)
theorem dX1_span_8 : decode cX1_span 8 = .ok (.invokevirtual 166, 3) := dk_182 0 166 (dk_at dksX1_span_0 8 rfl rfl)
theorem dX1_span_11 : decode cX1_span 11 = .ok (.pop, 1) := dk_87 (dk_at dksX1_span_0 11 rfl rfl)
theorem dX1_span_12 : decode cX1_span 12 = .ok (.iload_n 3, 1) := dk_29 (dk_at dksX1_span_0 12 rfl rfl)
theorem dX1_span_13 : decode cX1_span 13 = .ok (.iconst 0, 1) := dk_3 (dk_at dksX1_span_0 13 rfl rfl)
theorem dX1_span_14 : decode cX1_span 14 = .ok (.bipush 40, 2) := dk_16 40 (dk_at dksX1_span_0 14 rfl rfl)
theorem dX1_span_16 : decode cX1_span 16 = .ok (.invokestatic 84, 3) := dk_184 0 84 (dk_at dksX1_span_0 16 rfl rfl)
theorem dX1_span_19 : decode cX1_span 19 = .ok (.invokestatic 215, 3) := dk_184 0 215 (dk_at dksX1_span_0 19 rfl rfl)
theorem dX1_span_22 : decode cX1_span 22 = .ok (.aload_n 0, 1) := dk_42 (dk_at dksX1_span_0 22 rfl rfl)
theorem dX1_span_23 : decode cX1_span 23 = .ok (.getfield 19, 3) := dk_180 0 19 (dk_at dksX1_span_1 0 rfl rfl)
theorem dX1_span_26 : decode cX1_span 26 = .ok (.getfield 347, 3) := dk_180 1 91 (dk_at dksX1_span_1 3 rfl rfl)
theorem dX1_span_29 : decode cX1_span 29 = .ok (.istore 5, 2) := dk_54 5 (dk_at dksX1_span_1 6 rfl rfl)
theorem dX1_span_31 : decode cX1_span 31 = .ok (.iload 4, 2) := dk_21 4 (dk_at dksX1_span_1 8 rfl rfl)
theorem dX1_span_33 : decode cX1_span 33 = .ok (.ifCond .eq 7, 3) := dk_153 0 7 (dk_at dksX1_span_1 10 rfl rfl)
theorem dX1_span_36 : decode cX1_span 36 = .ok (.iconst 0, 1) := dk_3 (dk_at dksX1_span_1 13 rfl rfl)
theorem dX1_span_37 : decode cX1_span 37 = .ok (.goto 6, 3) := dk_167 0 6 (dk_at dksX1_span_1 14 rfl rfl)
theorem dX1_span_40 : decode cX1_span 40 = .ok (.ldc_w 299, 3) := dk_19 1 43 (dk_at dksX1_span_1 17 rfl rfl)
theorem dX1_span_43 : decode cX1_span 43 = .ok (.istore 6, 2) := dk_54 6 (dk_at dksX1_span_1 20 rfl rfl)
theorem dX1_span_45 : decode cX1_span 45 = .ok (.iconst 1, 1) := dk_4 (dk_at dksX1_span_1 22 rfl rfl)
theorem dX1_span_46 : decode cX1_span 46 = .ok (.istore 7, 2) := dk_54 7 (dk_at dksX1_span_2 0 rfl rfl)
theorem dX1_span_48 : decode cX1_span 48 = .ok (.iload 7, 2) := dk_21 7 (dk_at dksX1_span_2 2 rfl rfl)
theorem dX1_span_50 : decode cX1_span 50 = .ok (.bipush 6, 2) := dk_16 6 (dk_at dksX1_span_2 4 rfl rfl)
theorem dX1_span_52 : decode cX1_span 52 = .ok (.if_icmp .gt 51, 3) := dk_163 0 51 (dk_at dksX1_span_2 6 rfl rfl)
theorem dX1_span_55 : decode cX1_span 55 = .ok (.aload_n 0, 1) := dk_42 (dk_at dksX1_span_2 9 rfl rfl)
theorem dX1_span_56 : decode cX1_span 56 = .ok (.getfield 19, 3) := dk_180 0 19 (dk_at dksX1_span_2 10 rfl rfl)
theorem dX1_span_59 : decode cX1_span 59 = .ok (.iload 7, 2) := dk_21 7 (dk_at dksX1_span_2 13 rfl rfl)
theorem dX1_span_61 : decode cX1_span 61 = .ok (.putfield 347, 3) := dk_181 1 91 (dk_at dksX1_span_2 15 rfl rfl)
theorem dX1_span_64 : decode cX1_span 64 = .ok (.aload_n 0, 1) := dk_42 (dk_at dksX1_span_2 18 rfl rfl)
theorem dX1_span_65 : decode cX1_span 65 = .ok (.iload_n 1, 1) := dk_27 (dk_at dksX1_span_2 19 rfl rfl)
theorem dX1_span_66 : decode cX1_span 66 = .ok (.iload_n 2, 1) := dk_28 (dk_at dksX1_span_2 20 rfl rfl)
theorem dX1_span_67 : decode cX1_span 67 = .ok (.iload_n 3, 1) := dk_29 (dk_at dksX1_span_2 21 rfl rfl)
theorem dX1_span_68 : decode cX1_span 68 = .ok (.invokevirtual 350, 3) := dk_182 1 94 (dk_at dksX1_span_3 0 rfl rfl)
theorem dX1_span_71 : decode cX1_span 71 = .ok (.istore 8, 2) := dk_54 8 (dk_at dksX1_span_3 3 rfl rfl)
theorem dX1_span_73 : decode cX1_span 73 = .ok (.iload 4, 2) := dk_21 4 (dk_at dksX1_span_3 5 rfl rfl)
theorem dX1_span_75 : decode cX1_span 75 = .ok (.ifCond .eq 13, 3) := dk_153 0 13 (dk_at dksX1_span_3 7 rfl rfl)
theorem dX1_span_78 : decode cX1_span 78 = .ok (.iload 6, 2) := dk_21 6 (dk_at dksX1_span_3 10 rfl rfl)
theorem dX1_span_80 : decode cX1_span 80 = .ok (.iload 8, 2) := dk_21 8 (dk_at dksX1_span_3 12 rfl rfl)
theorem dX1_span_82 : decode cX1_span 82 = .ok (.invokestatic 327, 3) := dk_184 1 71 (dk_at dksX1_span_3 14 rfl rfl)
theorem dX1_span_85 : decode cX1_span 85 = .ok (.goto 10, 3) := dk_167 0 10 (dk_at dksX1_span_3 17 rfl rfl)
theorem dX1_span_88 : decode cX1_span 88 = .ok (.iload 6, 2) := dk_21 6 (dk_at dksX1_span_3 20 rfl rfl)
theorem dX1_span_90 : decode cX1_span 90 = .ok (.iload 8, 2) := dk_21 8 (dk_at dksX1_span_3 22 rfl rfl)
theorem dX1_span_92 : decode cX1_span 92 = .ok (.invokestatic 228, 3) := dk_184 0 228 (dk_at dksX1_span_4 0 rfl rfl)
theorem dX1_span_95 : decode cX1_span 95 = .ok (.istore 6, 2) := dk_54 6 (dk_at dksX1_span_4 3 rfl rfl)
theorem dX1_span_97 : decode cX1_span 97 = .ok (.iinc 7 1, 3) := dk_132 7 1 (dk_at dksX1_span_4 5 rfl rfl)
theorem dX1_span_100 : decode cX1_span 100 = .ok (.goto (-52), 3) := dk_167 255 204 (dk_at dksX1_span_4 8 rfl rfl)
theorem dX1_span_103 : decode cX1_span 103 = .ok (.aload_n 0, 1) := dk_42 (dk_at dksX1_span_4 11 rfl rfl)
theorem dX1_span_104 : decode cX1_span 104 = .ok (.getfield 19, 3) := dk_180 0 19 (dk_at dksX1_span_4 12 rfl rfl)
theorem dX1_span_107 : decode cX1_span 107 = .ok (.iload 5, 2) := dk_21 5 (dk_at dksX1_span_4 15 rfl rfl)
theorem dX1_span_109 : decode cX1_span 109 = .ok (.putfield 347, 3) := dk_181 1 91 (dk_at dksX1_span_4 17 rfl rfl)
theorem dX1_span_112 : decode cX1_span 112 = .ok (.iload 6, 2) := dk_21 6 (dk_at dksX1_span_4 20 rfl rfl)
theorem dX1_span_114 : decode cX1_span 114 = .ok (.ireturn, 1) := dk_172 (dk_at dksX1_span_4 22 rfl rfl)
abbrev cX1_led : ByteArray := prog_1_method_65_code
def yX1_led : MethodName := ⟨RX1, "led", "(IZ)I"⟩
def dkwX1_led_6 : List UInt8 := [167, 0, 4, 3, 96, 62, 132, 4, 1, 167, 255, 119, 29, 172]
abbrev dktX1_led_6 : List UInt8 := dkwX1_led_6 ++ []
def dkwX1_led_5 : List UInt8 := [153, 0, 7, 4, 167, 0, 22, 3, 167, 0, 18, 21, 5, 154, 0, 8, 21, 6, 153, 0, 7, 4]
abbrev dktX1_led_5 : List UInt8 := dkwX1_led_5 ++ dktX1_led_6
def dkwX1_led_4 : List UInt8 := [7, 182, 1, 101, 5, 160, 0, 7, 4, 167, 0, 4, 3, 54, 7, 29, 28, 153, 0, 16, 21, 7]
abbrev dktX1_led_4 : List UInt8 := dkwX1_led_4 ++ dktX1_led_5
def dkwX1_led_3 : List UInt8 := [180, 0, 19, 21, 4, 7, 182, 1, 101, 4, 159, 0, 22, 21, 6, 153, 0, 21, 42, 180, 0, 19, 21, 4]
abbrev dktX1_led_3 : List UInt8 := dkwX1_led_3 ++ dktX1_led_4
def dkwX1_led_2 : List UInt8 := [21, 4, 6, 182, 1, 101, 27, 160, 0, 7, 4, 167, 0, 4, 3, 54, 6, 21, 5, 153, 0, 17, 42]
abbrev dktX1_led_2 : List UInt8 := dkwX1_led_2 ++ dktX1_led_3
def dkwX1_led_1 : List UInt8 := [180, 0, 19, 21, 4, 5, 182, 1, 101, 27, 160, 0, 7, 4, 167, 0, 4, 3, 54, 5, 42, 180, 0, 19]
abbrev dktX1_led_1 : List UInt8 := dkwX1_led_1 ++ dktX1_led_2
def dkwX1_led_0 : List UInt8 := [42, 27, 182, 0, 166, 87, 3, 62, 3, 54, 4, 42, 180, 0, 19, 21, 4, 182, 1, 98, 153, 0, 131, 42]
abbrev dktX1_led_0 : List UInt8 := dkwX1_led_0 ++ dktX1_led_1
theorem dksX1_led_0 : cX1_led.data.toList.drop 0 = dktX1_led_0 := by decide +kernel
theorem dksX1_led_1 : cX1_led.data.toList.drop 24 = dktX1_led_1 := dk_seg dksX1_led_0 24 rfl rfl
theorem dksX1_led_2 : cX1_led.data.toList.drop 48 = dktX1_led_2 := dk_seg dksX1_led_1 24 rfl rfl
theorem dksX1_led_3 : cX1_led.data.toList.drop 71 = dktX1_led_3 := dk_seg dksX1_led_2 23 rfl rfl
theorem dksX1_led_4 : cX1_led.data.toList.drop 95 = dktX1_led_4 := dk_seg dksX1_led_3 24 rfl rfl
theorem dksX1_led_5 : cX1_led.data.toList.drop 117 = dktX1_led_5 := dk_seg dksX1_led_4 22 rfl rfl
theorem dksX1_led_6 : cX1_led.data.toList.drop 139 = dktX1_led_6 := dk_seg dksX1_led_5 22 rfl rfl
theorem dX1_led_0 : decode cX1_led 0 = .ok (.aload_n 0, 1) := dk_42 (dk_at dksX1_led_0 0 rfl rfl)
theorem dX1_led_1 : decode cX1_led 1 = .ok (.iload_n 1, 1) := dk_27 (dk_at dksX1_led_0 1 rfl rfl)
theorem dX1_led_2 : decode cX1_led 2 = .ok (.invokevirtual 166, 3) := dk_182 0 166 (dk_at dksX1_led_0 2 rfl rfl)
theorem dX1_led_5 : decode cX1_led 5 = .ok (.pop, 1) := dk_87 (dk_at dksX1_led_0 5 rfl rfl)
theorem dX1_led_6 : decode cX1_led 6 = .ok (.iconst 0, 1) := dk_3 (dk_at dksX1_led_0 6 rfl rfl)
theorem dX1_led_7 : decode cX1_led 7 = .ok (.istore_n 3, 1) := dk_62 (dk_at dksX1_led_0 7 rfl rfl)
theorem dX1_led_8 : decode cX1_led 8 = .ok (.iconst 0, 1) := dk_3 (dk_at dksX1_led_0 8 rfl rfl)
theorem dX1_led_9 : decode cX1_led 9 = .ok (.istore 4, 2) := dk_54 4 (dk_at dksX1_led_0 9 rfl rfl)
theorem dX1_led_11 : decode cX1_led 11 = .ok (.aload_n 0, 1) := dk_42 (dk_at dksX1_led_0 11 rfl rfl)
theorem dX1_led_12 : decode cX1_led 12 = .ok (.getfield 19, 3) := dk_180 0 19 (dk_at dksX1_led_0 12 rfl rfl)
theorem dX1_led_15 : decode cX1_led 15 = .ok (.iload 4, 2) := dk_21 4 (dk_at dksX1_led_0 15 rfl rfl)
theorem dX1_led_17 : decode cX1_led 17 = .ok (.invokevirtual 354, 3) := dk_182 1 98 (dk_at dksX1_led_0 17 rfl rfl)
theorem dX1_led_20 : decode cX1_led 20 = .ok (.ifCond .eq 131, 3) := dk_153 0 131 (dk_at dksX1_led_0 20 rfl rfl)
theorem dX1_led_23 : decode cX1_led 23 = .ok (.aload_n 0, 1) := dk_42 (dk_at dksX1_led_0 23 rfl rfl)
theorem dX1_led_24 : decode cX1_led 24 = .ok (.getfield 19, 3) := dk_180 0 19 (dk_at dksX1_led_1 0 rfl rfl)
theorem dX1_led_27 : decode cX1_led 27 = .ok (.iload 4, 2) := dk_21 4 (dk_at dksX1_led_1 3 rfl rfl)
theorem dX1_led_29 : decode cX1_led 29 = .ok (.iconst 2, 1) := dk_5 (dk_at dksX1_led_1 5 rfl rfl)
theorem dX1_led_30 : decode cX1_led 30 = .ok (.invokevirtual 357, 3) := dk_182 1 101 (dk_at dksX1_led_1 6 rfl rfl)
theorem dX1_led_33 : decode cX1_led 33 = .ok (.iload_n 1, 1) := dk_27 (dk_at dksX1_led_1 9 rfl rfl)
theorem dX1_led_34 : decode cX1_led 34 = .ok (.if_icmp .ne 7, 3) := dk_160 0 7 (dk_at dksX1_led_1 10 rfl rfl)
theorem dX1_led_37 : decode cX1_led 37 = .ok (.iconst 1, 1) := dk_4 (dk_at dksX1_led_1 13 rfl rfl)
theorem dX1_led_38 : decode cX1_led 38 = .ok (.goto 4, 3) := dk_167 0 4 (dk_at dksX1_led_1 14 rfl rfl)
theorem dX1_led_41 : decode cX1_led 41 = .ok (.iconst 0, 1) := dk_3 (dk_at dksX1_led_1 17 rfl rfl)
theorem dX1_led_42 : decode cX1_led 42 = .ok (.istore 5, 2) := dk_54 5 (dk_at dksX1_led_1 18 rfl rfl)
theorem dX1_led_44 : decode cX1_led 44 = .ok (.aload_n 0, 1) := dk_42 (dk_at dksX1_led_1 20 rfl rfl)
theorem dX1_led_45 : decode cX1_led 45 = .ok (.getfield 19, 3) := dk_180 0 19 (dk_at dksX1_led_1 21 rfl rfl)
theorem dX1_led_48 : decode cX1_led 48 = .ok (.iload 4, 2) := dk_21 4 (dk_at dksX1_led_2 0 rfl rfl)
theorem dX1_led_50 : decode cX1_led 50 = .ok (.iconst 3, 1) := dk_6 (dk_at dksX1_led_2 2 rfl rfl)
theorem dX1_led_51 : decode cX1_led 51 = .ok (.invokevirtual 357, 3) := dk_182 1 101 (dk_at dksX1_led_2 3 rfl rfl)
theorem dX1_led_54 : decode cX1_led 54 = .ok (.iload_n 1, 1) := dk_27 (dk_at dksX1_led_2 6 rfl rfl)
theorem dX1_led_55 : decode cX1_led 55 = .ok (.if_icmp .ne 7, 3) := dk_160 0 7 (dk_at dksX1_led_2 7 rfl rfl)
theorem dX1_led_58 : decode cX1_led 58 = .ok (.iconst 1, 1) := dk_4 (dk_at dksX1_led_2 10 rfl rfl)
theorem dX1_led_59 : decode cX1_led 59 = .ok (.goto 4, 3) := dk_167 0 4 (dk_at dksX1_led_2 11 rfl rfl)
theorem dX1_led_62 : decode cX1_led 62 = .ok (.iconst 0, 1) := dk_3 (dk_at dksX1_led_2 14 rfl rfl)
theorem dX1_led_63 : decode cX1_led 63 = .ok (.istore 6, 2) := dk_54 6 (dk_at dksX1_led_2 15 rfl rfl)
theorem dX1_led_65 : decode cX1_led 65 = .ok (.iload 5, 2) := dk_21 5 (dk_at dksX1_led_2 17 rfl rfl)
theorem dX1_led_67 : decode cX1_led 67 = .ok (.ifCond .eq 17, 3) := dk_153 0 17 (dk_at dksX1_led_2 19 rfl rfl)
theorem dX1_led_70 : decode cX1_led 70 = .ok (.aload_n 0, 1) := dk_42 (dk_at dksX1_led_2 22 rfl rfl)
theorem dX1_led_71 : decode cX1_led 71 = .ok (.getfield 19, 3) := dk_180 0 19 (dk_at dksX1_led_3 0 rfl rfl)
theorem dX1_led_74 : decode cX1_led 74 = .ok (.iload 4, 2) := dk_21 4 (dk_at dksX1_led_3 3 rfl rfl)
theorem dX1_led_76 : decode cX1_led 76 = .ok (.iconst 4, 1) := dk_7 (dk_at dksX1_led_3 5 rfl rfl)
theorem dX1_led_77 : decode cX1_led 77 = .ok (.invokevirtual 357, 3) := dk_182 1 101 (dk_at dksX1_led_3 6 rfl rfl)
theorem dX1_led_80 : decode cX1_led 80 = .ok (.iconst 1, 1) := dk_4 (dk_at dksX1_led_3 9 rfl rfl)
theorem dX1_led_81 : decode cX1_led 81 = .ok (.if_icmp .eq 22, 3) := dk_159 0 22 (dk_at dksX1_led_3 10 rfl rfl)
theorem dX1_led_84 : decode cX1_led 84 = .ok (.iload 6, 2) := dk_21 6 (dk_at dksX1_led_3 13 rfl rfl)
theorem dX1_led_86 : decode cX1_led 86 = .ok (.ifCond .eq 21, 3) := dk_153 0 21 (dk_at dksX1_led_3 15 rfl rfl)
theorem dX1_led_89 : decode cX1_led 89 = .ok (.aload_n 0, 1) := dk_42 (dk_at dksX1_led_3 18 rfl rfl)
theorem dX1_led_90 : decode cX1_led 90 = .ok (.getfield 19, 3) := dk_180 0 19 (dk_at dksX1_led_3 19 rfl rfl)
theorem dX1_led_93 : decode cX1_led 93 = .ok (.iload 4, 2) := dk_21 4 (dk_at dksX1_led_3 22 rfl rfl)
theorem dX1_led_95 : decode cX1_led 95 = .ok (.iconst 4, 1) := dk_7 (dk_at dksX1_led_4 0 rfl rfl)
theorem dX1_led_96 : decode cX1_led 96 = .ok (.invokevirtual 357, 3) := dk_182 1 101 (dk_at dksX1_led_4 1 rfl rfl)
theorem dX1_led_99 : decode cX1_led 99 = .ok (.iconst 2, 1) := dk_5 (dk_at dksX1_led_4 4 rfl rfl)
theorem dX1_led_100 : decode cX1_led 100 = .ok (.if_icmp .ne 7, 3) := dk_160 0 7 (dk_at dksX1_led_4 5 rfl rfl)
theorem dX1_led_103 : decode cX1_led 103 = .ok (.iconst 1, 1) := dk_4 (dk_at dksX1_led_4 8 rfl rfl)
theorem dX1_led_104 : decode cX1_led 104 = .ok (.goto 4, 3) := dk_167 0 4 (dk_at dksX1_led_4 9 rfl rfl)
theorem dX1_led_107 : decode cX1_led 107 = .ok (.iconst 0, 1) := dk_3 (dk_at dksX1_led_4 12 rfl rfl)
theorem dX1_led_108 : decode cX1_led 108 = .ok (.istore 7, 2) := dk_54 7 (dk_at dksX1_led_4 13 rfl rfl)
theorem dX1_led_110 : decode cX1_led 110 = .ok (.iload_n 3, 1) := dk_29 (dk_at dksX1_led_4 15 rfl rfl)
theorem dX1_led_111 : decode cX1_led 111 = .ok (.iload_n 2, 1) := dk_28 (dk_at dksX1_led_4 16 rfl rfl)
theorem dX1_led_112 : decode cX1_led 112 = .ok (.ifCond .eq 16, 3) := dk_153 0 16 (dk_at dksX1_led_4 17 rfl rfl)
theorem dX1_led_115 : decode cX1_led 115 = .ok (.iload 7, 2) := dk_21 7 (dk_at dksX1_led_4 20 rfl rfl)
theorem dX1_led_117 : decode cX1_led 117 = .ok (.ifCond .eq 7, 3) := dk_153 0 7 (dk_at dksX1_led_5 0 rfl rfl)
theorem dX1_led_120 : decode cX1_led 120 = .ok (.iconst 1, 1) := dk_4 (dk_at dksX1_led_5 3 rfl rfl)
theorem dX1_led_121 : decode cX1_led 121 = .ok (.goto 22, 3) := dk_167 0 22 (dk_at dksX1_led_5 4 rfl rfl)
theorem dX1_led_124 : decode cX1_led 124 = .ok (.iconst 0, 1) := dk_3 (dk_at dksX1_led_5 7 rfl rfl)
theorem dX1_led_125 : decode cX1_led 125 = .ok (.goto 18, 3) := dk_167 0 18 (dk_at dksX1_led_5 8 rfl rfl)
theorem dX1_led_128 : decode cX1_led 128 = .ok (.iload 5, 2) := dk_21 5 (dk_at dksX1_led_5 11 rfl rfl)
theorem dX1_led_130 : decode cX1_led 130 = .ok (.ifCond .ne 8, 3) := dk_154 0 8 (dk_at dksX1_led_5 13 rfl rfl)
theorem dX1_led_133 : decode cX1_led 133 = .ok (.iload 6, 2) := dk_21 6 (dk_at dksX1_led_5 16 rfl rfl)
theorem dX1_led_135 : decode cX1_led 135 = .ok (.ifCond .eq 7, 3) := dk_153 0 7 (dk_at dksX1_led_5 18 rfl rfl)
theorem dX1_led_138 : decode cX1_led 138 = .ok (.iconst 1, 1) := dk_4 (dk_at dksX1_led_5 21 rfl rfl)
theorem dX1_led_139 : decode cX1_led 139 = .ok (.goto 4, 3) := dk_167 0 4 (dk_at dksX1_led_6 0 rfl rfl)
theorem dX1_led_142 : decode cX1_led 142 = .ok (.iconst 0, 1) := dk_3 (dk_at dksX1_led_6 3 rfl rfl)
theorem dX1_led_143 : decode cX1_led 143 = .ok (.iadd, 1) := dk_96 (dk_at dksX1_led_6 4 rfl rfl)
theorem dX1_led_144 : decode cX1_led 144 = .ok (.istore_n 3, 1) := dk_62 (dk_at dksX1_led_6 5 rfl rfl)
theorem dX1_led_145 : decode cX1_led 145 = .ok (.iinc 4 1, 3) := dk_132 4 1 (dk_at dksX1_led_6 6 rfl rfl)
theorem dX1_led_148 : decode cX1_led 148 = .ok (.goto (-137), 3) := dk_167 255 119 (dk_at dksX1_led_6 9 rfl rfl)
theorem dX1_led_151 : decode cX1_led 151 = .ok (.iload_n 3, 1) := dk_29 (dk_at dksX1_led_6 12 rfl rfl)
theorem dX1_led_152 : decode cX1_led 152 = .ok (.ireturn, 1) := dk_172 (dk_at dksX1_led_6 13 rfl rfl)
abbrev cX1_log : ByteArray := prog_1_method_66_code
def yX1_log : MethodName := ⟨RX1, "log", "(II)I"⟩
def dkwX1_log_0 : List UInt8 := [28, 3, 8, 184, 0, 84, 184, 1, 16, 42, 180, 0, 19, 27, 28, 182, 1, 101, 172]
abbrev dktX1_log_0 : List UInt8 := dkwX1_log_0 ++ []
theorem dksX1_log_0 : cX1_log.data.toList.drop 0 = dktX1_log_0 := by decide +kernel
theorem dX1_log_0 : decode cX1_log 0 = .ok (.iload_n 2, 1) := dk_28 (dk_at dksX1_log_0 0 rfl rfl)
theorem dX1_log_1 : decode cX1_log 1 = .ok (.iconst 0, 1) := dk_3 (dk_at dksX1_log_0 1 rfl rfl)
theorem dX1_log_2 : decode cX1_log 2 = .ok (.iconst 5, 1) := dk_8 (dk_at dksX1_log_0 2 rfl rfl)
theorem dX1_log_3 : decode cX1_log 3 = .ok (.invokestatic 84, 3) := dk_184 0 84 (dk_at dksX1_log_0 3 rfl rfl)
theorem dX1_log_6 : decode cX1_log 6 = .ok (.invokestatic 272, 3) := dk_184 1 16 (dk_at dksX1_log_0 6 rfl rfl)
theorem dX1_log_9 : decode cX1_log 9 = .ok (.aload_n 0, 1) := dk_42 (dk_at dksX1_log_0 9 rfl rfl)
theorem dX1_log_10 : decode cX1_log 10 = .ok (.getfield 19, 3) := dk_180 0 19 (dk_at dksX1_log_0 10 rfl rfl)
theorem dX1_log_13 : decode cX1_log 13 = .ok (.iload_n 1, 1) := dk_27 (dk_at dksX1_log_0 13 rfl rfl)
theorem dX1_log_14 : decode cX1_log 14 = .ok (.iload_n 2, 1) := dk_28 (dk_at dksX1_log_0 14 rfl rfl)
theorem dX1_log_15 : decode cX1_log 15 = .ok (.invokevirtual 357, 3) := dk_182 1 101 (dk_at dksX1_log_0 15 rfl rfl)
theorem dX1_log_18 : decode cX1_log 18 = .ok (.ireturn, 1) := dk_172 (dk_at dksX1_log_0 18 rfl rfl)
theorem q126 : (Jvm.Cond.initialized "FeatherYard") ∈ lw_all := lw_g (lw_at lw_m1 1 rfl) rfl
theorem q159 : (Jvm.Cond.instantiable "FeatherYard" (16 : Nat)) ∈ lw_all := lw_g (lw_at lw_m1 34 rfl) rfl
theorem q161 : (Jvm.Cond.instanceMethod ({ cls := "FeatherYard", name := "<init>", desc := "()V" } : Jvm.MethodName)) ∈ lw_all := lw_g (lw_at lw_m1 36 rfl) rfl
theorem q162 : (Jvm.Cond.code ({ cls := "FeatherYard", name := "<init>", desc := "()V" } : Jvm.MethodName) prog_1_method_1_code (2 : Nat) (Option.none : Option Jvm.ClassFile.FieldType)) ∈ lw_all := lw_g (lw_at lw_m1 37 rfl) rfl
theorem q163 : (Jvm.Cond.methodLink "FeatherYard" (1 : Nat) ({ cls := "java/lang/Object", name := "<init>", desc := "()V" } : Jvm.MethodName)) ∈ lw_all := lw_g (lw_at lw_m1 38 rfl) rfl
theorem q166 : (Jvm.Cond.classLink "FeatherYard" (7 : Nat) "FeatherYard$Reader") ∈ lw_all := lw_g (lw_at lw_m1 41 rfl) rfl
theorem q168 : (Jvm.Cond.methodLinkNest "FeatherYard" (9 : Nat) ({ cls := "FeatherYard$Reader", name := "<init>", desc := "()V" } : Jvm.MethodName) "FeatherYard") ∈ lw_tbl := lw_at lw_m1 43 rfl
theorem q203 : (Jvm.Cond.fieldLinkNest "FeatherYard" (170 : Nat) "FeatherYard$Bird" "falls" "I" "FeatherYard") ∈ lw_tbl := lw_at lw_m1 78 rfl
theorem q208 : (Jvm.Cond.fieldLinkNest "FeatherYard" (175 : Nat) "FeatherYard$Bird" "light" "I" "FeatherYard") ∈ lw_tbl := lw_at lw_m1 83 rfl
theorem q211 : (Jvm.Cond.fieldLinkNest "FeatherYard" (178 : Nat) "FeatherYard$Bird" "songs" "I" "FeatherYard") ∈ lw_tbl := lw_at lw_m1 86 rfl
theorem q214 : (Jvm.Cond.fieldLinkNest "FeatherYard" (181 : Nat) "FeatherYard$Bird" "moults" "I" "FeatherYard") ∈ lw_tbl := lw_at lw_m1 89 rfl
theorem q234 : (Jvm.Cond.fieldLinkNest "FeatherYard" (195 : Nat) "FeatherYard$Case" "one" "I" "FeatherYard") ∈ lw_tbl := lw_at lw_m1 109 rfl
theorem q238 : (Jvm.Cond.fieldLinkNest "FeatherYard" (199 : Nat) "FeatherYard$Case" "other" "I" "FeatherYard") ∈ lw_tbl := lw_at lw_m1 113 rfl
theorem q242 : (Jvm.Cond.fieldLinkNest "FeatherYard" (202 : Nat) "FeatherYard$Case" "present" "I" "FeatherYard") ∈ lw_tbl := lw_at lw_m1 117 rfl
theorem q245 : (Jvm.Cond.fieldLinkNest "FeatherYard" (205 : Nat) "FeatherYard$Case" "end" "I" "FeatherYard") ∈ lw_tbl := lw_at lw_m1 120 rfl
theorem q257 : (Jvm.Cond.fieldLinkNest "FeatherYard" (92 : Nat) "FeatherYard$State" "birds" "[LFeatherYard$Bird;" "FeatherYard") ∈ lw_tbl := lw_at lw_m1 132 rfl
theorem q260 : (Jvm.Cond.fieldLinkNest "FeatherYard" (102 : Nat) "FeatherYard$State" "cases" "[LFeatherYard$Case;" "FeatherYard") ∈ lw_tbl := lw_at lw_m1 135 rfl
theorem q263 : (Jvm.Cond.fieldLinkNest "FeatherYard" (158 : Nat) "FeatherYard$State" "law" "[LFeatherYard$Line;" "FeatherYard") ∈ lw_tbl := lw_at lw_m1 138 rfl
theorem q266 : (Jvm.Cond.fieldLinkNest "FeatherYard" (256 : Nat) "FeatherYard$State" "stocks" "[I" "FeatherYard") ∈ lw_tbl := lw_at lw_m1 141 rfl
theorem q269 : (Jvm.Cond.fieldLinkNest "FeatherYard" (212 : Nat) "FeatherYard$State" "winds" "[I" "FeatherYard") ∈ lw_tbl := lw_at lw_m1 144 rfl
theorem q273 : (Jvm.Cond.fieldLinkNest "FeatherYard" (81 : Nat) "FeatherYard$State" "birdMany" "I" "FeatherYard") ∈ lw_tbl := lw_at lw_m1 148 rfl
theorem q276 : (Jvm.Cond.fieldLinkNest "FeatherYard" (96 : Nat) "FeatherYard$State" "counselMany" "I" "FeatherYard") ∈ lw_tbl := lw_at lw_m1 151 rfl
theorem q279 : (Jvm.Cond.fieldLinkNest "FeatherYard" (99 : Nat) "FeatherYard$State" "caseMany" "I" "FeatherYard") ∈ lw_tbl := lw_at lw_m1 154 rfl
theorem q282 : (Jvm.Cond.fieldLinkNest "FeatherYard" (151 : Nat) "FeatherYard$State" "lawMany" "I" "FeatherYard") ∈ lw_tbl := lw_at lw_m1 157 rfl
theorem q284 : (Jvm.Cond.fieldLinkNest "FeatherYard" (134 : Nat) "FeatherYard$State" "texts" "I" "FeatherYard") ∈ lw_tbl := lw_at lw_m1 159 rfl
theorem q288 : (Jvm.Cond.fieldLinkNest "FeatherYard" (243 : Nat) "FeatherYard$State" "tower" "I" "FeatherYard") ∈ lw_tbl := lw_at lw_m1 163 rfl
theorem q292 : (Jvm.Cond.fieldLinkNest "FeatherYard" (240 : Nat) "FeatherYard$State" "top" "I" "FeatherYard") ∈ lw_tbl := lw_at lw_m1 167 rfl
theorem q295 : (Jvm.Cond.fieldLinkNest "FeatherYard" (333 : Nat) "FeatherYard$State" "from" "I" "FeatherYard") ∈ lw_tbl := lw_at lw_m1 170 rfl
theorem q298 : (Jvm.Cond.fieldLinkNest "FeatherYard" (336 : Nat) "FeatherYard$State" "to" "I" "FeatherYard") ∈ lw_tbl := lw_at lw_m1 173 rfl
theorem q301 : (Jvm.Cond.fieldLinkNest "FeatherYard" (266 : Nat) "FeatherYard$State" "hour" "I" "FeatherYard") ∈ lw_tbl := lw_at lw_m1 176 rfl
theorem q303 : (Jvm.Cond.fieldLinkNest "FeatherYard" (269 : Nat) "FeatherYard$State" "week" "I" "FeatherYard") ∈ lw_tbl := lw_at lw_m1 178 rfl
theorem q305 : (Jvm.Cond.fieldLinkNest "FeatherYard" (347 : Nat) "FeatherYard$State" "seed" "I" "FeatherYard") ∈ lw_tbl := lw_at lw_m1 180 rfl
theorem q307 : (Jvm.Cond.fieldLinkNest "FeatherYard" (369 : Nat) "FeatherYard$State" "rowMany" "I" "FeatherYard") ∈ lw_tbl := lw_at lw_m1 182 rfl
theorem q407 : (Jvm.Cond.fieldLinkNest "FeatherYard" (117 : Nat) "FeatherYard$Wrong" "place" "I" "FeatherYard") ∈ lw_tbl := lw_at lw_m2 42 rfl
theorem q424 : (Jvm.Cond.fieldLinkNest "FeatherYard" (106 : Nat) "FeatherYard$Reader" "tape" "[B" "FeatherYard") ∈ lw_tbl := lw_at lw_m2 59 rfl
theorem q428 : (Jvm.Cond.fieldLinkNest "FeatherYard" (154 : Nat) "FeatherYard$Reader" "row" "[LFeatherYard$Line;" "FeatherYard") ∈ lw_tbl := lw_at lw_m2 63 rfl
theorem q431 : (Jvm.Cond.fieldLinkNest "FeatherYard" (110 : Nat) "FeatherYard$Reader" "size" "I" "FeatherYard") ∈ lw_tbl := lw_at lw_m2 66 rfl
theorem q456 : (Jvm.Cond.classLink "FeatherYard" (16 : Nat) "FeatherYard$State") ∈ lw_all := lw_g (lw_at lw_m2 91 rfl) rfl
theorem q457 : (Jvm.Cond.methodLink "FeatherYard" (18 : Nat) ({ cls := "FeatherYard$State", name := "<init>", desc := "()V" } : Jvm.MethodName)) ∈ lw_all := lw_g (lw_at lw_m2 92 rfl) rfl
theorem q459 : (Jvm.Cond.classLink "FeatherYard" (30 : Nat) "FeatherYard$Ways") ∈ lw_all := lw_g (lw_at lw_m2 94 rfl) rfl
theorem q461 : (Jvm.Cond.methodLinkNest "FeatherYard" (32 : Nat) ({ cls := "FeatherYard$Ways", name := "<init>", desc := "(LFeatherYard;)V" } : Jvm.MethodName) "FeatherYard") ∈ lw_tbl := lw_at lw_m2 96 rfl
theorem q466 : (Jvm.Cond.fieldLinkNest "FeatherYard" (290 : Nat) "FeatherYard$Ways" "good" "[I" "FeatherYard") ∈ lw_tbl := lw_at lw_m2 101 rfl
theorem q468 : (Jvm.Cond.fieldLinkNest "FeatherYard" (287 : Nat) "FeatherYard$Ways" "lands" "[I" "FeatherYard") ∈ lw_tbl := lw_at lw_m2 103 rfl
theorem q470 : (Jvm.Cond.fieldLinkNest "FeatherYard" (330 : Nat) "FeatherYard$Ways" "landed" "[I" "FeatherYard") ∈ lw_tbl := lw_at lw_m2 105 rfl
theorem q474 : (Jvm.Cond.fieldLinkNest "FeatherYard" (281 : Nat) "FeatherYard$Ways" "off" "I" "FeatherYard") ∈ lw_tbl := lw_at lw_m2 109 rfl
theorem q476 : (Jvm.Cond.fieldLinkNest "FeatherYard" (284 : Nat) "FeatherYard$Ways" "air" "I" "FeatherYard") ∈ lw_tbl := lw_at lw_m2 111 rfl
theorem q495 : (Jvm.Cond.fieldLink "FeatherYard" (10 : Nat) "FeatherYard" "reader" "LFeatherYard$Reader;") ∈ lw_all := lw_g (lw_at lw_m2 130 rfl) rfl
theorem q496 : (Jvm.Cond.fieldLink "FeatherYard" (19 : Nat) "FeatherYard" "now" "LFeatherYard$State;") ∈ lw_all := lw_g (lw_at lw_m2 131 rfl) rfl
theorem q498 : (Jvm.Cond.fieldLink "FeatherYard" (23 : Nat) "FeatherYard" "image" "LFeatherYard$State;") ∈ lw_all := lw_g (lw_at lw_m2 133 rfl) rfl
theorem q499 : (Jvm.Cond.fieldLink "FeatherYard" (26 : Nat) "FeatherYard" "acts" "[LFeatherYard$State;") ∈ lw_all := lw_g (lw_at lw_m2 134 rfl) rfl
theorem q500 : (Jvm.Cond.fieldLink "FeatherYard" (35 : Nat) "FeatherYard" "one" "LFeatherYard$Ways;") ∈ lw_all := lw_g (lw_at lw_m2 135 rfl) rfl
theorem q501 : (Jvm.Cond.fieldLink "FeatherYard" (39 : Nat) "FeatherYard" "two" "LFeatherYard$Ways;") ∈ lw_all := lw_g (lw_at lw_m2 136 rfl) rfl
theorem q502 : (Jvm.Cond.fieldLink "FeatherYard" (42 : Nat) "FeatherYard" "has" "[I") ∈ lw_all := lw_g (lw_at lw_m2 137 rfl) rfl
theorem q503 : (Jvm.Cond.fieldLink "FeatherYard" (46 : Nat) "FeatherYard" "hasOther" "[I") ∈ lw_all := lw_g (lw_at lw_m2 138 rfl) rfl
theorem q504 : (Jvm.Cond.fieldLink "FeatherYard" (49 : Nat) "FeatherYard" "level" "[I") ∈ lw_all := lw_g (lw_at lw_m2 139 rfl) rfl
theorem q505 : (Jvm.Cond.fieldLink "FeatherYard" (52 : Nat) "FeatherYard" "column" "[I") ∈ lw_all := lw_g (lw_at lw_m2 140 rfl) rfl
theorem q506 : (Jvm.Cond.fieldLink "FeatherYard" (55 : Nat) "FeatherYard" "goodAt" "[I") ∈ lw_all := lw_g (lw_at lw_m2 141 rfl) rfl
theorem q507 : (Jvm.Cond.fieldLink "FeatherYard" (58 : Nat) "FeatherYard" "fits" "[Z") ∈ lw_all := lw_g (lw_at lw_m2 142 rfl) rfl
theorem q508 : (Jvm.Cond.fieldLink "FeatherYard" (62 : Nat) "FeatherYard" "wrongAt" "I") ∈ lw_all := lw_g (lw_at lw_m2 143 rfl) rfl
theorem q509 : (Jvm.Cond.fieldLink "FeatherYard" (144 : Nat) "FeatherYard" "actMany" "I") ∈ lw_all := lw_g (lw_at lw_m2 144 rfl) rfl
theorem q510 : (Jvm.Cond.fieldLink "FeatherYard" (225 : Nat) "FeatherYard" "actAt" "I") ∈ lw_all := lw_g (lw_at lw_m2 145 rfl) rfl
theorem q511 : (Jvm.Cond.fieldLink "FeatherYard" (359 : Nat) "FeatherYard" "kept" "Z") ∈ lw_all := lw_g (lw_at lw_m2 146 rfl) rfl
theorem q512 : (Jvm.Cond.laysFinal "FeatherYard" "FeatherYard" "reader" "LFeatherYard$Reader;") ∈ lw_all := lw_g (lw_at lw_m2 147 rfl) rfl
theorem q513 : (Jvm.Cond.soleField "FeatherYard" "reader") ∈ lw_all := lw_g (lw_at lw_m2 148 rfl) rfl
theorem q514 : (Jvm.Cond.laysFinal "FeatherYard" "FeatherYard" "now" "LFeatherYard$State;") ∈ lw_all := lw_g (lw_at lw_m2 149 rfl) rfl
theorem q515 : (Jvm.Cond.soleField "FeatherYard" "now") ∈ lw_all := lw_g (lw_at lw_m2 150 rfl) rfl
theorem q516 : (Jvm.Cond.laysFinal "FeatherYard" "FeatherYard" "image" "LFeatherYard$State;") ∈ lw_all := lw_g (lw_at lw_m2 151 rfl) rfl
theorem q517 : (Jvm.Cond.soleField "FeatherYard" "image") ∈ lw_all := lw_g (lw_at lw_m2 152 rfl) rfl
theorem q518 : (Jvm.Cond.laysFinal "FeatherYard" "FeatherYard" "acts" "[LFeatherYard$State;") ∈ lw_all := lw_g (lw_at lw_m2 153 rfl) rfl
theorem q519 : (Jvm.Cond.soleField "FeatherYard" "acts") ∈ lw_all := lw_g (lw_at lw_m2 154 rfl) rfl
theorem q520 : (Jvm.Cond.laysFinal "FeatherYard" "FeatherYard" "one" "LFeatherYard$Ways;") ∈ lw_all := lw_g (lw_at lw_m2 155 rfl) rfl
theorem q521 : (Jvm.Cond.soleField "FeatherYard" "one") ∈ lw_all := lw_g (lw_at lw_m2 156 rfl) rfl
theorem q522 : (Jvm.Cond.laysFinal "FeatherYard" "FeatherYard" "two" "LFeatherYard$Ways;") ∈ lw_all := lw_g (lw_at lw_m2 157 rfl) rfl
theorem q523 : (Jvm.Cond.soleField "FeatherYard" "two") ∈ lw_all := lw_g (lw_at lw_m2 158 rfl) rfl
theorem q524 : (Jvm.Cond.laysFinal "FeatherYard" "FeatherYard" "has" "[I") ∈ lw_all := lw_g (lw_at lw_m2 159 rfl) rfl
theorem q525 : (Jvm.Cond.soleField "FeatherYard" "has") ∈ lw_all := lw_g (lw_at lw_m2 160 rfl) rfl
theorem q526 : (Jvm.Cond.laysFinal "FeatherYard" "FeatherYard" "hasOther" "[I") ∈ lw_all := lw_g (lw_at lw_m2 161 rfl) rfl
theorem q527 : (Jvm.Cond.soleField "FeatherYard" "hasOther") ∈ lw_all := lw_g (lw_at lw_m2 162 rfl) rfl
theorem q528 : (Jvm.Cond.laysFinal "FeatherYard" "FeatherYard" "level" "[I") ∈ lw_all := lw_g (lw_at lw_m2 163 rfl) rfl
theorem q529 : (Jvm.Cond.soleField "FeatherYard" "level") ∈ lw_all := lw_g (lw_at lw_m2 164 rfl) rfl
theorem q530 : (Jvm.Cond.laysFinal "FeatherYard" "FeatherYard" "column" "[I") ∈ lw_all := lw_g (lw_at lw_m2 165 rfl) rfl
theorem q531 : (Jvm.Cond.soleField "FeatherYard" "column") ∈ lw_all := lw_g (lw_at lw_m2 166 rfl) rfl
theorem q532 : (Jvm.Cond.laysFinal "FeatherYard" "FeatherYard" "goodAt" "[I") ∈ lw_all := lw_g (lw_at lw_m2 167 rfl) rfl
theorem q533 : (Jvm.Cond.soleField "FeatherYard" "goodAt") ∈ lw_all := lw_g (lw_at lw_m2 168 rfl) rfl
theorem q534 : (Jvm.Cond.laysFinal "FeatherYard" "FeatherYard" "fits" "[Z") ∈ lw_all := lw_g (lw_at lw_m2 169 rfl) rfl
theorem q535 : (Jvm.Cond.soleField "FeatherYard" "fits") ∈ lw_all := lw_g (lw_at lw_m2 170 rfl) rfl
theorem q536 : (Jvm.Cond.lays "FeatherYard" "FeatherYard" "wrongAt" "I") ∈ lw_all := lw_g (lw_at lw_m2 171 rfl) rfl
theorem q537 : (Jvm.Cond.soleField "FeatherYard" "wrongAt") ∈ lw_all := lw_g (lw_at lw_m2 172 rfl) rfl
theorem q538 : (Jvm.Cond.lays "FeatherYard" "FeatherYard" "actMany" "I") ∈ lw_all := lw_g (lw_at lw_m2 173 rfl) rfl
theorem q539 : (Jvm.Cond.soleField "FeatherYard" "actMany") ∈ lw_all := lw_g (lw_at lw_m2 174 rfl) rfl
theorem q540 : (Jvm.Cond.lays "FeatherYard" "FeatherYard" "actAt" "I") ∈ lw_all := lw_g (lw_at lw_m2 175 rfl) rfl
theorem q541 : (Jvm.Cond.soleField "FeatherYard" "actAt") ∈ lw_all := lw_g (lw_at lw_m2 176 rfl) rfl
theorem q542 : (Jvm.Cond.lays "FeatherYard" "FeatherYard" "kept" "Z") ∈ lw_all := lw_g (lw_at lw_m2 177 rfl) rfl
theorem q543 : (Jvm.Cond.soleField "FeatherYard" "kept") ∈ lw_all := lw_g (lw_at lw_m2 178 rfl) rfl
theorem q544 : (Jvm.Cond.superclass "FeatherYard" "java/lang/Object") ∈ lw_all := lw_g (lw_at lw_m2 179 rfl) rfl
theorem q547 : (Jvm.Cond.instanceMethod ({ cls := "FeatherYard", name := "feed", desc := "(IIIII)I" } : Jvm.MethodName)) ∈ lw_all := lw_g (lw_at lw_m2 182 rfl) rfl
theorem q548 : (Jvm.Cond.selects "FeatherYard" ({ cls := "FeatherYard", name := "feed", desc := "(IIIII)I" } : Jvm.MethodName) ({ cls := "FeatherYard", name := "feed", desc := "(IIIII)I" } : Jvm.MethodName)) ∈ lw_all := lw_g (lw_at lw_m2 183 rfl) rfl
theorem q549 : (Jvm.Cond.code ({ cls := "FeatherYard", name := "feed", desc := "(IIIII)I" } : Jvm.MethodName) prog_1_method_12_code (6 : Nat) (Option.some Jvm.ClassFile.FieldType.int)) ∈ lw_all := lw_g (lw_at lw_m2 184 rfl) rfl
theorem q550 : (Jvm.Cond.methodLink "FeatherYard" (113 : Nat) ({ cls := "FeatherYard", name := "four", desc := "(I)V" } : Jvm.MethodName)) ∈ lw_all := lw_g (lw_at lw_m2 185 rfl) rfl
theorem q551 : (Jvm.Cond.privateMethod ({ cls := "FeatherYard", name := "four", desc := "(I)V" } : Jvm.MethodName)) ∈ lw_tbl := lw_at lw_m2 186 rfl
theorem q552 : (Jvm.Cond.instanceMethod ({ cls := "FeatherYard", name := "four", desc := "(I)V" } : Jvm.MethodName)) ∈ lw_all := lw_g (lw_at lw_m2 187 rfl) rfl
theorem q553 : (Jvm.Cond.code ({ cls := "FeatherYard", name := "four", desc := "(I)V" } : Jvm.MethodName) prog_1_method_11_code (3 : Nat) (Option.none : Option Jvm.ClassFile.FieldType)) ∈ lw_all := lw_g (lw_at lw_m2 188 rfl) rfl
theorem q555 : (Jvm.Cond.instanceMethod ({ cls := "FeatherYard", name := "end", desc := "(I)Z" } : Jvm.MethodName)) ∈ lw_all := lw_g (lw_at lw_m2 190 rfl) rfl
theorem q556 : (Jvm.Cond.selects "FeatherYard" ({ cls := "FeatherYard", name := "end", desc := "(I)Z" } : Jvm.MethodName) ({ cls := "FeatherYard", name := "end", desc := "(I)Z" } : Jvm.MethodName)) ∈ lw_all := lw_g (lw_at lw_m2 191 rfl) rfl
theorem q557 : (Jvm.Cond.code ({ cls := "FeatherYard", name := "end", desc := "(I)Z" } : Jvm.MethodName) prog_1_method_13_code (2 : Nat) (Option.some Jvm.ClassFile.FieldType.boolean)) ∈ lw_all := lw_g (lw_at lw_m2 192 rfl) rfl
theorem q558 : (Jvm.Cond.methodLink "FeatherYard" (84 : Nat) ({ cls := "FeatherYard", name := "isIn", desc := "(III)Z" } : Jvm.MethodName)) ∈ lw_all := lw_g (lw_at lw_m2 193 rfl) rfl
theorem q559 : (Jvm.Cond.static ({ cls := "FeatherYard", name := "isIn", desc := "(III)Z" } : Jvm.MethodName)) ∈ lw_all := lw_g (lw_at lw_m2 194 rfl) rfl
theorem q560 : (Jvm.Cond.code ({ cls := "FeatherYard", name := "isIn", desc := "(III)Z" } : Jvm.MethodName) prog_1_method_7_code (3 : Nat) (Option.some Jvm.ClassFile.FieldType.boolean)) ∈ lw_all := lw_g (lw_at lw_m2 195 rfl) rfl
theorem q562 : (Jvm.Cond.instanceMethod ({ cls := "FeatherYard", name := "fault", desc := "()I" } : Jvm.MethodName)) ∈ lw_all := lw_g (lw_at lw_m2 197 rfl) rfl
theorem q563 : (Jvm.Cond.selects "FeatherYard" ({ cls := "FeatherYard", name := "fault", desc := "()I" } : Jvm.MethodName) ({ cls := "FeatherYard", name := "fault", desc := "()I" } : Jvm.MethodName)) ∈ lw_all := lw_g (lw_at lw_m2 198 rfl) rfl
theorem q564 : (Jvm.Cond.code ({ cls := "FeatherYard", name := "fault", desc := "()I" } : Jvm.MethodName) prog_1_method_18_code (1 : Nat) (Option.some Jvm.ClassFile.FieldType.int)) ∈ lw_all := lw_g (lw_at lw_m2 199 rfl) rfl
theorem q566 : (Jvm.Cond.instanceMethod ({ cls := "FeatherYard", name := "alike", desc := "()I" } : Jvm.MethodName)) ∈ lw_all := lw_g (lw_at lw_m2 201 rfl) rfl
theorem q567 : (Jvm.Cond.selects "FeatherYard" ({ cls := "FeatherYard", name := "alike", desc := "()I" } : Jvm.MethodName) ({ cls := "FeatherYard", name := "alike", desc := "()I" } : Jvm.MethodName)) ∈ lw_all := lw_g (lw_at lw_m2 202 rfl) rfl
theorem q568 : (Jvm.Cond.code ({ cls := "FeatherYard", name := "alike", desc := "()I" } : Jvm.MethodName) prog_1_method_54_code (6 : Nat) (Option.some Jvm.ClassFile.FieldType.int)) ∈ lw_all := lw_g (lw_at lw_m2 203 rfl) rfl
theorem q569 : (Jvm.Cond.methodLink "FeatherYard" (275 : Nat) ({ cls := "FeatherYard$Ways", name := "counts", desc := "(I)V" } : Jvm.MethodName)) ∈ lw_all := lw_g (lw_at lw_m2 204 rfl) rfl
theorem q669 : (Jvm.Cond.instanceMethod ({ cls := "FeatherYard", name := "rich", desc := "()I" } : Jvm.MethodName)) ∈ lw_all := lw_g (lw_at lw_m3 64 rfl) rfl
theorem q670 : (Jvm.Cond.selects "FeatherYard" ({ cls := "FeatherYard", name := "rich", desc := "()I" } : Jvm.MethodName) ({ cls := "FeatherYard", name := "rich", desc := "()I" } : Jvm.MethodName)) ∈ lw_all := lw_g (lw_at lw_m3 65 rfl) rfl
theorem q671 : (Jvm.Cond.code ({ cls := "FeatherYard", name := "rich", desc := "()I" } : Jvm.MethodName) prog_1_method_58_code (3 : Nat) (Option.some Jvm.ClassFile.FieldType.int)) ∈ lw_all := lw_g (lw_at lw_m3 66 rfl) rfl
theorem q672 : (Jvm.Cond.methodLink "FeatherYard" (339 : Nat) ({ cls := "FeatherYard", name := "feathers", desc := "(I)I" } : Jvm.MethodName)) ∈ lw_all := lw_g (lw_at lw_m3 67 rfl) rfl
theorem q673 : (Jvm.Cond.privateMethod ({ cls := "FeatherYard", name := "feathers", desc := "(I)I" } : Jvm.MethodName)) ∈ lw_tbl := lw_at lw_m3 68 rfl
theorem q674 : (Jvm.Cond.instanceMethod ({ cls := "FeatherYard", name := "feathers", desc := "(I)I" } : Jvm.MethodName)) ∈ lw_all := lw_g (lw_at lw_m3 69 rfl) rfl
theorem q675 : (Jvm.Cond.code ({ cls := "FeatherYard", name := "feathers", desc := "(I)I" } : Jvm.MethodName) prog_1_method_57_code (4 : Nat) (Option.some Jvm.ClassFile.FieldType.int)) ∈ lw_all := lw_g (lw_at lw_m3 70 rfl) rfl
theorem q676 : (Jvm.Cond.methodLink "FeatherYard" (187 : Nat) ({ cls := "FeatherYard$State", name := "stock", desc := "(II)I" } : Jvm.MethodName)) ∈ lw_all := lw_g (lw_at lw_m3 71 rfl) rfl
theorem q681 : (Jvm.Cond.instanceMethod ({ cls := "FeatherYard", name := "cover", desc := "()I" } : Jvm.MethodName)) ∈ lw_all := lw_g (lw_at lw_m3 76 rfl) rfl
theorem q682 : (Jvm.Cond.selects "FeatherYard" ({ cls := "FeatherYard", name := "cover", desc := "()I" } : Jvm.MethodName) ({ cls := "FeatherYard", name := "cover", desc := "()I" } : Jvm.MethodName)) ∈ lw_all := lw_g (lw_at lw_m3 77 rfl) rfl
theorem q683 : (Jvm.Cond.code ({ cls := "FeatherYard", name := "cover", desc := "()I" } : Jvm.MethodName) prog_1_method_61_code (5 : Nat) (Option.some Jvm.ClassFile.FieldType.int)) ∈ lw_all := lw_g (lw_at lw_m3 78 rfl) rfl
theorem q684 : (Jvm.Cond.methodLink "FeatherYard" (342 : Nat) ({ cls := "java/lang/Integer", name := "bitCount", desc := "(I)I" } : Jvm.MethodName)) ∈ lw_all := lw_g (lw_at lw_m3 79 rfl) rfl
theorem q691 : (Jvm.Cond.instanceMethod ({ cls := "FeatherYard", name := "seed", desc := "(I)I" } : Jvm.MethodName)) ∈ lw_all := lw_g (lw_at lw_m3 86 rfl) rfl
theorem q692 : (Jvm.Cond.selects "FeatherYard" ({ cls := "FeatherYard", name := "seed", desc := "(I)I" } : Jvm.MethodName) ({ cls := "FeatherYard", name := "seed", desc := "(I)I" } : Jvm.MethodName)) ∈ lw_all := lw_g (lw_at lw_m3 87 rfl) rfl
theorem q693 : (Jvm.Cond.code ({ cls := "FeatherYard", name := "seed", desc := "(I)I" } : Jvm.MethodName) prog_1_method_67_code (3 : Nat) (Option.some Jvm.ClassFile.FieldType.int)) ∈ lw_all := lw_g (lw_at lw_m3 88 rfl) rfl
theorem q695 : (Jvm.Cond.instanceMethod ({ cls := "FeatherYard", name := "undo", desc := "()Z" } : Jvm.MethodName)) ∈ lw_all := lw_g (lw_at lw_m3 90 rfl) rfl
theorem q696 : (Jvm.Cond.selects "FeatherYard" ({ cls := "FeatherYard", name := "undo", desc := "()Z" } : Jvm.MethodName) ({ cls := "FeatherYard", name := "undo", desc := "()Z" } : Jvm.MethodName)) ∈ lw_all := lw_g (lw_at lw_m3 91 rfl) rfl
theorem q697 : (Jvm.Cond.code ({ cls := "FeatherYard", name := "undo", desc := "()Z" } : Jvm.MethodName) prog_1_method_68_code (1 : Nat) (Option.some Jvm.ClassFile.FieldType.boolean)) ∈ lw_all := lw_g (lw_at lw_m3 92 rfl) rfl
theorem q698 : (Jvm.Cond.methodLink "FeatherYard" (140 : Nat) ({ cls := "FeatherYard$State", name := "be", desc := "(LFeatherYard$State;)V" } : Jvm.MethodName)) ∈ lw_all := lw_g (lw_at lw_m3 93 rfl) rfl
theorem q712 : (Jvm.Cond.instanceMethod ({ cls := "FeatherYard", name := "image", desc := "()V" } : Jvm.MethodName)) ∈ lw_all := lw_g (lw_at lw_m3 107 rfl) rfl
theorem q713 : (Jvm.Cond.selects "FeatherYard" ({ cls := "FeatherYard", name := "image", desc := "()V" } : Jvm.MethodName) ({ cls := "FeatherYard", name := "image", desc := "()V" } : Jvm.MethodName)) ∈ lw_all := lw_g (lw_at lw_m3 108 rfl) rfl
theorem q714 : (Jvm.Cond.code ({ cls := "FeatherYard", name := "image", desc := "()V" } : Jvm.MethodName) prog_1_method_69_code (1 : Nat) (Option.none : Option Jvm.ClassFile.FieldType)) ∈ lw_all := lw_g (lw_at lw_m3 109 rfl) rfl
theorem q716 : (Jvm.Cond.instanceMethod ({ cls := "FeatherYard", name := "back", desc := "()Z" } : Jvm.MethodName)) ∈ lw_all := lw_g (lw_at lw_m3 111 rfl) rfl
theorem q717 : (Jvm.Cond.selects "FeatherYard" ({ cls := "FeatherYard", name := "back", desc := "()Z" } : Jvm.MethodName) ({ cls := "FeatherYard", name := "back", desc := "()Z" } : Jvm.MethodName)) ∈ lw_all := lw_g (lw_at lw_m3 112 rfl) rfl
theorem q718 : (Jvm.Cond.code ({ cls := "FeatherYard", name := "back", desc := "()Z" } : Jvm.MethodName) prog_1_method_70_code (1 : Nat) (Option.some Jvm.ClassFile.FieldType.boolean)) ∈ lw_all := lw_g (lw_at lw_m3 113 rfl) rfl
theorem q720 : (Jvm.Cond.instanceMethod ({ cls := "FeatherYard", name := "count", desc := "(I)I" } : Jvm.MethodName)) ∈ lw_all := lw_g (lw_at lw_m3 115 rfl) rfl
theorem q721 : (Jvm.Cond.selects "FeatherYard" ({ cls := "FeatherYard", name := "count", desc := "(I)I" } : Jvm.MethodName) ({ cls := "FeatherYard", name := "count", desc := "(I)I" } : Jvm.MethodName)) ∈ lw_all := lw_g (lw_at lw_m3 116 rfl) rfl
theorem q722 : (Jvm.Cond.code ({ cls := "FeatherYard", name := "count", desc := "(I)I" } : Jvm.MethodName) prog_1_method_72_code (2 : Nat) (Option.some Jvm.ClassFile.FieldType.int)) ∈ lw_all := lw_g (lw_at lw_m3 117 rfl) rfl
theorem q723 : (Jvm.Cond.methodLink "FeatherYard" (363 : Nat) ({ cls := "FeatherYard", name := "openOnes", desc := "()I" } : Jvm.MethodName)) ∈ lw_all := lw_g (lw_at lw_m3 118 rfl) rfl
theorem q724 : (Jvm.Cond.privateMethod ({ cls := "FeatherYard", name := "openOnes", desc := "()I" } : Jvm.MethodName)) ∈ lw_tbl := lw_at lw_m3 119 rfl
theorem q725 : (Jvm.Cond.instanceMethod ({ cls := "FeatherYard", name := "openOnes", desc := "()I" } : Jvm.MethodName)) ∈ lw_all := lw_g (lw_at lw_m3 120 rfl) rfl
theorem q726 : (Jvm.Cond.code ({ cls := "FeatherYard", name := "openOnes", desc := "()I" } : Jvm.MethodName) prog_1_method_60_code (3 : Nat) (Option.some Jvm.ClassFile.FieldType.int)) ∈ lw_all := lw_g (lw_at lw_m3 121 rfl) rfl
theorem q727 : (Jvm.Cond.methodLink "FeatherYard" (366 : Nat) ({ cls := "FeatherYard", name := "calm", desc := "()I" } : Jvm.MethodName)) ∈ lw_all := lw_g (lw_at lw_m3 122 rfl) rfl
theorem q728 : (Jvm.Cond.privateMethod ({ cls := "FeatherYard", name := "calm", desc := "()I" } : Jvm.MethodName)) ∈ lw_tbl := lw_at lw_m3 123 rfl
theorem q729 : (Jvm.Cond.instanceMethod ({ cls := "FeatherYard", name := "calm", desc := "()I" } : Jvm.MethodName)) ∈ lw_all := lw_g (lw_at lw_m3 124 rfl) rfl
theorem q730 : (Jvm.Cond.code ({ cls := "FeatherYard", name := "calm", desc := "()I" } : Jvm.MethodName) prog_1_method_71_code (3 : Nat) (Option.some Jvm.ClassFile.FieldType.int)) ∈ lw_all := lw_g (lw_at lw_m3 125 rfl) rfl
theorem q731 : (Jvm.Cond.methodLink "FeatherYard" (228 : Nat) ({ cls := "java/lang/Math", name := "min", desc := "(II)I" } : Jvm.MethodName)) ∈ lw_all := lw_g (lw_at lw_m3 126 rfl) rfl
theorem q738 : (Jvm.Cond.instanceMethod ({ cls := "FeatherYard", name := "court", desc := "()I" } : Jvm.MethodName)) ∈ lw_all := lw_g (lw_at lw_m3 133 rfl) rfl
theorem q739 : (Jvm.Cond.selects "FeatherYard" ({ cls := "FeatherYard", name := "court", desc := "()I" } : Jvm.MethodName) ({ cls := "FeatherYard", name := "court", desc := "()I" } : Jvm.MethodName)) ∈ lw_all := lw_g (lw_at lw_m3 134 rfl) rfl
theorem q740 : (Jvm.Cond.codeWith ({ cls := "FeatherYard", name := "court", desc := "()I" } : Jvm.MethodName) prog_1_method_16_code (4 : Nat) (Option.some Jvm.ClassFile.FieldType.int) [((10 : Nat), (23 : Nat), (26 : Nat), (118 : Nat))]) ∈ lw_all := lw_g (lw_at lw_m3 135 rfl) rfl
theorem q741 : (Jvm.Cond.classLink "FeatherYard" (118 : Nat) "FeatherYard$Wrong") ∈ lw_all := lw_g (lw_at lw_m3 136 rfl) rfl
theorem q742 : (Jvm.Cond.methodLink "FeatherYard" (122 : Nat) ({ cls := "FeatherYard", name := "took", desc := "()I" } : Jvm.MethodName)) ∈ lw_all := lw_g (lw_at lw_m3 137 rfl) rfl
theorem q743 : (Jvm.Cond.privateMethod ({ cls := "FeatherYard", name := "took", desc := "()I" } : Jvm.MethodName)) ∈ lw_tbl := lw_at lw_m3 138 rfl
theorem q744 : (Jvm.Cond.instanceMethod ({ cls := "FeatherYard", name := "took", desc := "()I" } : Jvm.MethodName)) ∈ lw_all := lw_g (lw_at lw_m3 139 rfl) rfl
theorem q745 : (Jvm.Cond.code ({ cls := "FeatherYard", name := "took", desc := "()I" } : Jvm.MethodName) prog_1_method_14_code (2 : Nat) (Option.some Jvm.ClassFile.FieldType.int)) ∈ lw_all := lw_g (lw_at lw_m3 140 rfl) rfl
theorem q746 : (Jvm.Cond.methodLink "FeatherYard" (126 : Nat) ({ cls := "FeatherYard$Reader", name := "court", desc := "(ILFeatherYard$State;)LFeatherYard$State;" } : Jvm.MethodName)) ∈ lw_all := lw_g (lw_at lw_m3 141 rfl) rfl
theorem q868 : (Jvm.Cond.methodLink "FeatherYard" (130 : Nat) ({ cls := "FeatherYard", name := "isWrong", desc := "(LFeatherYard$Wrong;)Ljava/lang/IllegalArgumentException;" } : Jvm.MethodName)) ∈ lw_all := lw_g (lw_at lw_m4 23 rfl) rfl
theorem q869 : (Jvm.Cond.privateMethod ({ cls := "FeatherYard", name := "isWrong", desc := "(LFeatherYard$Wrong;)Ljava/lang/IllegalArgumentException;" } : Jvm.MethodName)) ∈ lw_tbl := lw_at lw_m4 24 rfl
theorem q870 : (Jvm.Cond.instanceMethod ({ cls := "FeatherYard", name := "isWrong", desc := "(LFeatherYard$Wrong;)Ljava/lang/IllegalArgumentException;" } : Jvm.MethodName)) ∈ lw_all := lw_g (lw_at lw_m4 25 rfl) rfl
theorem q871 : (Jvm.Cond.code ({ cls := "FeatherYard", name := "isWrong", desc := "(LFeatherYard$Wrong;)Ljava/lang/IllegalArgumentException;" } : Jvm.MethodName) prog_1_method_15_code (2 : Nat) (Option.some (Jvm.ClassFile.FieldType.object "java/lang/IllegalArgumentException"))) ∈ lw_all := lw_g (lw_at lw_m4 26 rfl) rfl
theorem q872 : (Jvm.Cond.classLink "FeatherYard" (66 : Nat) "java/lang/IllegalArgumentException") ∈ lw_all := lw_g (lw_at lw_m4 27 rfl) rfl
theorem q881 : (Jvm.Cond.methodLink "FeatherYard" (68 : Nat) ({ cls := "java/lang/IllegalArgumentException", name := "<init>", desc := "()V" } : Jvm.MethodName)) ∈ lw_all := lw_g (lw_at lw_m4 36 rfl) rfl
theorem q893 : (Jvm.Cond.methodLink "FeatherYard" (137 : Nat) ({ cls := "FeatherYard", name := "mayBe", desc := "(Z)V" } : Jvm.MethodName)) ∈ lw_all := lw_g (lw_at lw_m4 48 rfl) rfl
theorem q894 : (Jvm.Cond.static ({ cls := "FeatherYard", name := "mayBe", desc := "(Z)V" } : Jvm.MethodName)) ∈ lw_all := lw_g (lw_at lw_m4 49 rfl) rfl
theorem q895 : (Jvm.Cond.code ({ cls := "FeatherYard", name := "mayBe", desc := "(Z)V" } : Jvm.MethodName) prog_1_method_3_code (1 : Nat) (Option.none : Option Jvm.ClassFile.FieldType)) ∈ lw_all := lw_g (lw_at lw_m4 50 rfl) rfl
theorem q896 : (Jvm.Cond.classLink "FeatherYard" (69 : Nat) "java/lang/UnsupportedOperationException") ∈ lw_all := lw_g (lw_at lw_m4 51 rfl) rfl
theorem q905 : (Jvm.Cond.methodLink "FeatherYard" (71 : Nat) ({ cls := "java/lang/UnsupportedOperationException", name := "<init>", desc := "()V" } : Jvm.MethodName)) ∈ lw_all := lw_g (lw_at lw_m4 60 rfl) rfl
theorem q915 : (Jvm.Cond.instanceMethod ({ cls := "FeatherYard", name := "law", desc := "()I" } : Jvm.MethodName)) ∈ lw_all := lw_g (lw_at lw_m4 70 rfl) rfl
theorem q916 : (Jvm.Cond.selects "FeatherYard" ({ cls := "FeatherYard", name := "law", desc := "()I" } : Jvm.MethodName) ({ cls := "FeatherYard", name := "law", desc := "()I" } : Jvm.MethodName)) ∈ lw_all := lw_g (lw_at lw_m4 71 rfl) rfl
theorem q917 : (Jvm.Cond.codeWith ({ cls := "FeatherYard", name := "law", desc := "()I" } : Jvm.MethodName) prog_1_method_17_code (3 : Nat) (Option.some Jvm.ClassFile.FieldType.int) [((10 : Nat), (25 : Nat), (28 : Nat), (118 : Nat))]) ∈ lw_all := lw_g (lw_at lw_m4 72 rfl) rfl
theorem q918 : (Jvm.Cond.methodLink "FeatherYard" (147 : Nat) ({ cls := "FeatherYard$Reader", name := "law", desc := "(I)I" } : Jvm.MethodName)) ∈ lw_all := lw_g (lw_at lw_m4 73 rfl) rfl
theorem q1048 : (Jvm.Cond.methodLink "FeatherYard" (160 : Nat) ({ cls := "java/lang/System", name := "arraycopy", desc := "(Ljava/lang/Object;ILjava/lang/Object;II)V" } : Jvm.MethodName)) ∈ lw_all := lw_g (lw_at lw_m4 203 rfl) rfl
theorem q1086 : (Jvm.Cond.instanceMethod ({ cls := "FeatherYard", name := "bird", desc := "(II)I" } : Jvm.MethodName)) ∈ lw_all := lw_g (lw_at lw_m5 1 rfl) rfl
theorem q1087 : (Jvm.Cond.selects "FeatherYard" ({ cls := "FeatherYard", name := "bird", desc := "(II)I" } : Jvm.MethodName) ({ cls := "FeatherYard", name := "bird", desc := "(II)I" } : Jvm.MethodName)) ∈ lw_all := lw_g (lw_at lw_m5 2 rfl) rfl
theorem q1088 : (Jvm.Cond.code ({ cls := "FeatherYard", name := "bird", desc := "(II)I" } : Jvm.MethodName) prog_1_method_19_code (4 : Nat) (Option.some Jvm.ClassFile.FieldType.int)) ∈ lw_all := lw_g (lw_at lw_m5 3 rfl) rfl
theorem q1089 : (Jvm.Cond.methodLink "FeatherYard" (166 : Nat) ({ cls := "FeatherYard", name := "birdAt", desc := "(I)LFeatherYard$Bird;" } : Jvm.MethodName)) ∈ lw_all := lw_g (lw_at lw_m5 4 rfl) rfl
theorem q1090 : (Jvm.Cond.privateMethod ({ cls := "FeatherYard", name := "birdAt", desc := "(I)LFeatherYard$Bird;" } : Jvm.MethodName)) ∈ lw_tbl := lw_at lw_m5 5 rfl
theorem q1091 : (Jvm.Cond.instanceMethod ({ cls := "FeatherYard", name := "birdAt", desc := "(I)LFeatherYard$Bird;" } : Jvm.MethodName)) ∈ lw_all := lw_g (lw_at lw_m5 6 rfl) rfl
theorem q1092 : (Jvm.Cond.code ({ cls := "FeatherYard", name := "birdAt", desc := "(I)LFeatherYard$Bird;" } : Jvm.MethodName) prog_1_method_8_code (2 : Nat) (Option.some (Jvm.ClassFile.FieldType.object "FeatherYard$Bird"))) ∈ lw_all := lw_g (lw_at lw_m5 7 rfl) rfl
theorem q1093 : (Jvm.Cond.methodLink "FeatherYard" (88 : Nat) ({ cls := "FeatherYard", name := "mustBe", desc := "(Z)V" } : Jvm.MethodName)) ∈ lw_all := lw_g (lw_at lw_m5 8 rfl) rfl
theorem q1094 : (Jvm.Cond.static ({ cls := "FeatherYard", name := "mustBe", desc := "(Z)V" } : Jvm.MethodName)) ∈ lw_all := lw_g (lw_at lw_m5 9 rfl) rfl
theorem q1095 : (Jvm.Cond.code ({ cls := "FeatherYard", name := "mustBe", desc := "(Z)V" } : Jvm.MethodName) prog_1_method_4_code (1 : Nat) (Option.none : Option Jvm.ClassFile.FieldType)) ∈ lw_all := lw_g (lw_at lw_m5 10 rfl) rfl
theorem q1096 : (Jvm.Cond.classLink "FeatherYard" (72 : Nat) "java/lang/IndexOutOfBoundsException") ∈ lw_all := lw_g (lw_at lw_m5 11 rfl) rfl
theorem q1105 : (Jvm.Cond.methodLink "FeatherYard" (74 : Nat) ({ cls := "java/lang/IndexOutOfBoundsException", name := "<init>", desc := "()V" } : Jvm.MethodName)) ∈ lw_all := lw_g (lw_at lw_m5 20 rfl) rfl
theorem q1111 : (Jvm.Cond.classLink "FeatherYard" (75 : Nat) "java/util/NoSuchElementException") ∈ lw_all := lw_g (lw_at lw_m5 26 rfl) rfl
theorem q1120 : (Jvm.Cond.methodLink "FeatherYard" (77 : Nat) ({ cls := "java/util/NoSuchElementException", name := "<init>", desc := "()V" } : Jvm.MethodName)) ∈ lw_all := lw_g (lw_at lw_m5 35 rfl) rfl
theorem q1130 : (Jvm.Cond.instanceMethod ({ cls := "FeatherYard", name := "stock", desc := "(II)I" } : Jvm.MethodName)) ∈ lw_all := lw_g (lw_at lw_m5 45 rfl) rfl
theorem q1131 : (Jvm.Cond.selects "FeatherYard" ({ cls := "FeatherYard", name := "stock", desc := "(II)I" } : Jvm.MethodName) ({ cls := "FeatherYard", name := "stock", desc := "(II)I" } : Jvm.MethodName)) ∈ lw_all := lw_g (lw_at lw_m5 46 rfl) rfl
theorem q1132 : (Jvm.Cond.code ({ cls := "FeatherYard", name := "stock", desc := "(II)I" } : Jvm.MethodName) prog_1_method_20_code (3 : Nat) (Option.some Jvm.ClassFile.FieldType.int)) ∈ lw_all := lw_g (lw_at lw_m5 47 rfl) rfl
theorem q1133 : (Jvm.Cond.methodLink "FeatherYard" (184 : Nat) ({ cls := "FeatherYard", name := "isCounsel", desc := "(I)V" } : Jvm.MethodName)) ∈ lw_all := lw_g (lw_at lw_m5 48 rfl) rfl
theorem q1134 : (Jvm.Cond.privateMethod ({ cls := "FeatherYard", name := "isCounsel", desc := "(I)V" } : Jvm.MethodName)) ∈ lw_tbl := lw_at lw_m5 49 rfl
theorem q1135 : (Jvm.Cond.instanceMethod ({ cls := "FeatherYard", name := "isCounsel", desc := "(I)V" } : Jvm.MethodName)) ∈ lw_all := lw_g (lw_at lw_m5 50 rfl) rfl
theorem q1136 : (Jvm.Cond.code ({ cls := "FeatherYard", name := "isCounsel", desc := "(I)V" } : Jvm.MethodName) prog_1_method_9_code (2 : Nat) (Option.none : Option Jvm.ClassFile.FieldType)) ∈ lw_all := lw_g (lw_at lw_m5 51 rfl) rfl
theorem q1141 : (Jvm.Cond.instanceMethod ({ cls := "FeatherYard", name := "matter", desc := "(II)I" } : Jvm.MethodName)) ∈ lw_all := lw_g (lw_at lw_m5 56 rfl) rfl
theorem q1142 : (Jvm.Cond.selects "FeatherYard" ({ cls := "FeatherYard", name := "matter", desc := "(II)I" } : Jvm.MethodName) ({ cls := "FeatherYard", name := "matter", desc := "(II)I" } : Jvm.MethodName)) ∈ lw_all := lw_g (lw_at lw_m5 57 rfl) rfl
theorem q1143 : (Jvm.Cond.code ({ cls := "FeatherYard", name := "matter", desc := "(II)I" } : Jvm.MethodName) prog_1_method_21_code (4 : Nat) (Option.some Jvm.ClassFile.FieldType.int)) ∈ lw_all := lw_g (lw_at lw_m5 58 rfl) rfl
theorem q1144 : (Jvm.Cond.methodLink "FeatherYard" (191 : Nat) ({ cls := "FeatherYard", name := "caseAt", desc := "(I)LFeatherYard$Case;" } : Jvm.MethodName)) ∈ lw_all := lw_g (lw_at lw_m5 59 rfl) rfl
theorem q1145 : (Jvm.Cond.privateMethod ({ cls := "FeatherYard", name := "caseAt", desc := "(I)LFeatherYard$Case;" } : Jvm.MethodName)) ∈ lw_tbl := lw_at lw_m5 60 rfl
theorem q1146 : (Jvm.Cond.instanceMethod ({ cls := "FeatherYard", name := "caseAt", desc := "(I)LFeatherYard$Case;" } : Jvm.MethodName)) ∈ lw_all := lw_g (lw_at lw_m5 61 rfl) rfl
theorem q1147 : (Jvm.Cond.code ({ cls := "FeatherYard", name := "caseAt", desc := "(I)LFeatherYard$Case;" } : Jvm.MethodName) prog_1_method_10_code (2 : Nat) (Option.some (Jvm.ClassFile.FieldType.object "FeatherYard$Case"))) ∈ lw_all := lw_g (lw_at lw_m5 62 rfl) rfl
theorem q1148 : (Jvm.Cond.methodLink "FeatherYard" (208 : Nat) ({ cls := "FeatherYard$State", name := "choices", desc := "(IZ)I" } : Jvm.MethodName)) ∈ lw_all := lw_g (lw_at lw_m5 63 rfl) rfl
theorem q1157 : (Jvm.Cond.instanceMethod ({ cls := "FeatherYard", name := "wind", desc := "(I)I" } : Jvm.MethodName)) ∈ lw_all := lw_g (lw_at lw_m5 72 rfl) rfl
theorem q1158 : (Jvm.Cond.selects "FeatherYard" ({ cls := "FeatherYard", name := "wind", desc := "(I)I" } : Jvm.MethodName) ({ cls := "FeatherYard", name := "wind", desc := "(I)I" } : Jvm.MethodName)) ∈ lw_all := lw_g (lw_at lw_m5 73 rfl) rfl
theorem q1159 : (Jvm.Cond.code ({ cls := "FeatherYard", name := "wind", desc := "(I)I" } : Jvm.MethodName) prog_1_method_22_code (2 : Nat) (Option.some Jvm.ClassFile.FieldType.int)) ∈ lw_all := lw_g (lw_at lw_m5 74 rfl) rfl
theorem q1164 : (Jvm.Cond.instanceMethod ({ cls := "FeatherYard", name := "moves", desc := "(IIIIZ)I" } : Jvm.MethodName)) ∈ lw_all := lw_g (lw_at lw_m5 79 rfl) rfl
theorem q1165 : (Jvm.Cond.selects "FeatherYard" ({ cls := "FeatherYard", name := "moves", desc := "(IIIIZ)I" } : Jvm.MethodName) ({ cls := "FeatherYard", name := "moves", desc := "(IIIIZ)I" } : Jvm.MethodName)) ∈ lw_all := lw_g (lw_at lw_m5 80 rfl) rfl
theorem q1166 : (Jvm.Cond.code ({ cls := "FeatherYard", name := "moves", desc := "(IIIIZ)I" } : Jvm.MethodName) prog_1_method_23_code (6 : Nat) (Option.some Jvm.ClassFile.FieldType.int)) ∈ lw_all := lw_g (lw_at lw_m5 81 rfl) rfl
theorem q1167 : (Jvm.Cond.methodLink "FeatherYard" (215 : Nat) ({ cls := "FeatherYard", name := "must", desc := "(Z)V" } : Jvm.MethodName)) ∈ lw_all := lw_g (lw_at lw_m5 82 rfl) rfl
theorem q1168 : (Jvm.Cond.static ({ cls := "FeatherYard", name := "must", desc := "(Z)V" } : Jvm.MethodName)) ∈ lw_all := lw_g (lw_at lw_m5 83 rfl) rfl
theorem q1169 : (Jvm.Cond.code ({ cls := "FeatherYard", name := "must", desc := "(Z)V" } : Jvm.MethodName) prog_1_method_2_code (1 : Nat) (Option.none : Option Jvm.ClassFile.FieldType)) ∈ lw_all := lw_g (lw_at lw_m5 84 rfl) rfl
theorem q1170 : (Jvm.Cond.methodLink "FeatherYard" (218 : Nat) ({ cls := "FeatherYard$State", name := "carried", desc := "(IIII)I" } : Jvm.MethodName)) ∈ lw_all := lw_g (lw_at lw_m5 85 rfl) rfl
theorem q1171 : (Jvm.Cond.methodLink "FeatherYard" (222 : Nat) ({ cls := "FeatherYard$State", name := "sinks", desc := "(IIII)I" } : Jvm.MethodName)) ∈ lw_all := lw_g (lw_at lw_m5 86 rfl) rfl
theorem q1177 : (Jvm.Cond.instanceMethod ({ cls := "FeatherYard", name := "call", desc := "(III)I" } : Jvm.MethodName)) ∈ lw_all := lw_g (lw_at lw_m5 92 rfl) rfl
theorem q1178 : (Jvm.Cond.selects "FeatherYard" ({ cls := "FeatherYard", name := "call", desc := "(III)I" } : Jvm.MethodName) ({ cls := "FeatherYard", name := "call", desc := "(III)I" } : Jvm.MethodName)) ∈ lw_all := lw_g (lw_at lw_m5 93 rfl) rfl
theorem q1179 : (Jvm.Cond.code ({ cls := "FeatherYard", name := "call", desc := "(III)I" } : Jvm.MethodName) prog_1_method_27_code (6 : Nat) (Option.some Jvm.ClassFile.FieldType.int)) ∈ lw_all := lw_g (lw_at lw_m5 94 rfl) rfl
theorem q1180 : (Jvm.Cond.methodLink "FeatherYard" (250 : Nat) ({ cls := "FeatherYard", name := "can", desc := "(Z)V" } : Jvm.MethodName)) ∈ lw_all := lw_g (lw_at lw_m5 95 rfl) rfl
theorem q1181 : (Jvm.Cond.static ({ cls := "FeatherYard", name := "can", desc := "(Z)V" } : Jvm.MethodName)) ∈ lw_all := lw_g (lw_at lw_m5 96 rfl) rfl
theorem q1182 : (Jvm.Cond.code ({ cls := "FeatherYard", name := "can", desc := "(Z)V" } : Jvm.MethodName) prog_1_method_6_code (1 : Nat) (Option.none : Option Jvm.ClassFile.FieldType)) ∈ lw_all := lw_g (lw_at lw_m5 97 rfl) rfl
theorem q1183 : (Jvm.Cond.classLink "FeatherYard" (78 : Nat) "java/lang/IllegalStateException") ∈ lw_all := lw_g (lw_at lw_m5 98 rfl) rfl
theorem q1192 : (Jvm.Cond.methodLink "FeatherYard" (80 : Nat) ({ cls := "java/lang/IllegalStateException", name := "<init>", desc := "()V" } : Jvm.MethodName)) ∈ lw_all := lw_g (lw_at lw_m5 107 rfl) rfl
theorem q1198 : (Jvm.Cond.methodLink "FeatherYard" (253 : Nat) ({ cls := "FeatherYard", name := "remembers", desc := "()V" } : Jvm.MethodName)) ∈ lw_all := lw_g (lw_at lw_m5 113 rfl) rfl
theorem q1199 : (Jvm.Cond.privateMethod ({ cls := "FeatherYard", name := "remembers", desc := "()V" } : Jvm.MethodName)) ∈ lw_tbl := lw_at lw_m5 114 rfl
theorem q1200 : (Jvm.Cond.instanceMethod ({ cls := "FeatherYard", name := "remembers", desc := "()V" } : Jvm.MethodName)) ∈ lw_all := lw_g (lw_at lw_m5 115 rfl) rfl
theorem q1201 : (Jvm.Cond.code ({ cls := "FeatherYard", name := "remembers", desc := "()V" } : Jvm.MethodName) prog_1_method_24_code (1 : Nat) (Option.none : Option Jvm.ClassFile.FieldType)) ∈ lw_all := lw_g (lw_at lw_m5 116 rfl) rfl
theorem q1202 : (Jvm.Cond.methodLink "FeatherYard" (259 : Nat) ({ cls := "FeatherYard", name := "flies", desc := "(II)I" } : Jvm.MethodName)) ∈ lw_all := lw_g (lw_at lw_m5 117 rfl) rfl
theorem q1203 : (Jvm.Cond.privateMethod ({ cls := "FeatherYard", name := "flies", desc := "(II)I" } : Jvm.MethodName)) ∈ lw_tbl := lw_at lw_m5 118 rfl
theorem q1204 : (Jvm.Cond.instanceMethod ({ cls := "FeatherYard", name := "flies", desc := "(II)I" } : Jvm.MethodName)) ∈ lw_all := lw_g (lw_at lw_m5 119 rfl) rfl
theorem q1205 : (Jvm.Cond.code ({ cls := "FeatherYard", name := "flies", desc := "(II)I" } : Jvm.MethodName) prog_1_method_26_code (4 : Nat) (Option.some Jvm.ClassFile.FieldType.int)) ∈ lw_all := lw_g (lw_at lw_m5 120 rfl) rfl
theorem q1206 : (Jvm.Cond.methodLink "FeatherYard" (246 : Nat) ({ cls := "FeatherYard", name := "breathes", desc := "(III)V" } : Jvm.MethodName)) ∈ lw_all := lw_g (lw_at lw_m5 121 rfl) rfl
theorem q1207 : (Jvm.Cond.privateMethod ({ cls := "FeatherYard", name := "breathes", desc := "(III)V" } : Jvm.MethodName)) ∈ lw_tbl := lw_at lw_m5 122 rfl
theorem q1208 : (Jvm.Cond.instanceMethod ({ cls := "FeatherYard", name := "breathes", desc := "(III)V" } : Jvm.MethodName)) ∈ lw_all := lw_g (lw_at lw_m5 123 rfl) rfl
theorem q1209 : (Jvm.Cond.code ({ cls := "FeatherYard", name := "breathes", desc := "(III)V" } : Jvm.MethodName) prog_1_method_25_code (7 : Nat) (Option.none : Option Jvm.ClassFile.FieldType)) ∈ lw_all := lw_g (lw_at lw_m5 124 rfl) rfl
theorem q1210 : (Jvm.Cond.methodLink "FeatherYard" (233 : Nat) ({ cls := "FeatherYard$State", name := "draw", desc := "(I)I" } : Jvm.MethodName)) ∈ lw_all := lw_g (lw_at lw_m5 125 rfl) rfl
theorem q1215 : (Jvm.Cond.methodLink "FeatherYard" (236 : Nat) ({ cls := "FeatherYard$State", name := "isYard", desc := "(I)Z" } : Jvm.MethodName)) ∈ lw_all := lw_g (lw_at lw_m5 130 rfl) rfl
theorem q1216 : (Jvm.Cond.methodLink "FeatherYard" (262 : Nat) ({ cls := "FeatherYard$State", name := "writes", desc := "(IIIII)V" } : Jvm.MethodName)) ∈ lw_all := lw_g (lw_at lw_m5 131 rfl) rfl
theorem q1224 : (Jvm.Cond.instanceMethod ({ cls := "FeatherYard", name := "hour", desc := "(I)I" } : Jvm.MethodName)) ∈ lw_all := lw_g (lw_at lw_m5 139 rfl) rfl
theorem q1225 : (Jvm.Cond.selects "FeatherYard" ({ cls := "FeatherYard", name := "hour", desc := "(I)I" } : Jvm.MethodName) ({ cls := "FeatherYard", name := "hour", desc := "(I)I" } : Jvm.MethodName)) ∈ lw_all := lw_g (lw_at lw_m5 140 rfl) rfl
theorem q1226 : (Jvm.Cond.code ({ cls := "FeatherYard", name := "hour", desc := "(I)I" } : Jvm.MethodName) prog_1_method_28_code (3 : Nat) (Option.some Jvm.ClassFile.FieldType.int)) ∈ lw_all := lw_g (lw_at lw_m5 141 rfl) rfl
theorem q1231 : (Jvm.Cond.instanceMethod ({ cls := "FeatherYard", name := "blow", desc := "(II)I" } : Jvm.MethodName)) ∈ lw_all := lw_g (lw_at lw_m5 146 rfl) rfl
theorem q1232 : (Jvm.Cond.selects "FeatherYard" ({ cls := "FeatherYard", name := "blow", desc := "(II)I" } : Jvm.MethodName) ({ cls := "FeatherYard", name := "blow", desc := "(II)I" } : Jvm.MethodName)) ∈ lw_all := lw_g (lw_at lw_m5 147 rfl) rfl
theorem q1233 : (Jvm.Cond.code ({ cls := "FeatherYard", name := "blow", desc := "(II)I" } : Jvm.MethodName) prog_1_method_29_code (4 : Nat) (Option.some Jvm.ClassFile.FieldType.int)) ∈ lw_all := lw_g (lw_at lw_m5 148 rfl) rfl
theorem q1238 : (Jvm.Cond.instanceMethod ({ cls := "FeatherYard", name := "give", desc := "(IIII)I" } : Jvm.MethodName)) ∈ lw_all := lw_g (lw_at lw_m5 153 rfl) rfl
theorem q1239 : (Jvm.Cond.selects "FeatherYard" ({ cls := "FeatherYard", name := "give", desc := "(IIII)I" } : Jvm.MethodName) ({ cls := "FeatherYard", name := "give", desc := "(IIII)I" } : Jvm.MethodName)) ∈ lw_all := lw_g (lw_at lw_m5 154 rfl) rfl
theorem q1240 : (Jvm.Cond.code ({ cls := "FeatherYard", name := "give", desc := "(IIII)I" } : Jvm.MethodName) prog_1_method_30_code (5 : Nat) (Option.some Jvm.ClassFile.FieldType.int)) ∈ lw_all := lw_g (lw_at lw_m5 155 rfl) rfl
theorem q1245 : (Jvm.Cond.instanceMethod ({ cls := "FeatherYard", name := "appeal", desc := "(I)I" } : Jvm.MethodName)) ∈ lw_all := lw_g (lw_at lw_m5 160 rfl) rfl
theorem q1246 : (Jvm.Cond.selects "FeatherYard" ({ cls := "FeatherYard", name := "appeal", desc := "(I)I" } : Jvm.MethodName) ({ cls := "FeatherYard", name := "appeal", desc := "(I)I" } : Jvm.MethodName)) ∈ lw_all := lw_g (lw_at lw_m5 161 rfl) rfl
theorem q1247 : (Jvm.Cond.code ({ cls := "FeatherYard", name := "appeal", desc := "(I)I" } : Jvm.MethodName) prog_1_method_31_code (4 : Nat) (Option.some Jvm.ClassFile.FieldType.int)) ∈ lw_all := lw_g (lw_at lw_m5 162 rfl) rfl
theorem q1252 : (Jvm.Cond.instanceMethod ({ cls := "FeatherYard", name := "weeks", desc := "(I)I" } : Jvm.MethodName)) ∈ lw_all := lw_g (lw_at lw_m5 167 rfl) rfl
theorem q1253 : (Jvm.Cond.selects "FeatherYard" ({ cls := "FeatherYard", name := "weeks", desc := "(I)I" } : Jvm.MethodName) ({ cls := "FeatherYard", name := "weeks", desc := "(I)I" } : Jvm.MethodName)) ∈ lw_all := lw_g (lw_at lw_m5 168 rfl) rfl
theorem q1254 : (Jvm.Cond.code ({ cls := "FeatherYard", name := "weeks", desc := "(I)I" } : Jvm.MethodName) prog_1_method_32_code (6 : Nat) (Option.some Jvm.ClassFile.FieldType.int)) ∈ lw_all := lw_g (lw_at lw_m5 169 rfl) rfl
theorem q1259 : (Jvm.Cond.instanceMethod ({ cls := "FeatherYard", name := "ways", desc := "(II)I" } : Jvm.MethodName)) ∈ lw_all := lw_g (lw_at lw_m5 174 rfl) rfl
theorem q1260 : (Jvm.Cond.selects "FeatherYard" ({ cls := "FeatherYard", name := "ways", desc := "(II)I" } : Jvm.MethodName) ({ cls := "FeatherYard", name := "ways", desc := "(II)I" } : Jvm.MethodName)) ∈ lw_all := lw_g (lw_at lw_m5 175 rfl) rfl
theorem q1261 : (Jvm.Cond.code ({ cls := "FeatherYard", name := "ways", desc := "(II)I" } : Jvm.MethodName) prog_1_method_33_code (4 : Nat) (Option.some Jvm.ClassFile.FieldType.int)) ∈ lw_all := lw_g (lw_at lw_m5 176 rfl) rfl
theorem q1262 : (Jvm.Cond.methodLink "FeatherYard" (272 : Nat) ({ cls := "FeatherYard", name := "thereIs", desc := "(Z)V" } : Jvm.MethodName)) ∈ lw_all := lw_g (lw_at lw_m5 177 rfl) rfl
theorem q1263 : (Jvm.Cond.static ({ cls := "FeatherYard", name := "thereIs", desc := "(Z)V" } : Jvm.MethodName)) ∈ lw_all := lw_g (lw_at lw_m5 178 rfl) rfl
theorem q1264 : (Jvm.Cond.code ({ cls := "FeatherYard", name := "thereIs", desc := "(Z)V" } : Jvm.MethodName) prog_1_method_5_code (1 : Nat) (Option.none : Option Jvm.ClassFile.FieldType)) ∈ lw_all := lw_g (lw_at lw_m5 179 rfl) rfl
theorem q1265 : (Jvm.Cond.methodLink "FeatherYard" (278 : Nat) ({ cls := "FeatherYard$Ways", name := "good", desc := "()I" } : Jvm.MethodName)) ∈ lw_all := lw_g (lw_at lw_m5 180 rfl) rfl
theorem q1273 : (Jvm.Cond.instanceMethod ({ cls := "FeatherYard", name := "lands", desc := "(II)I" } : Jvm.MethodName)) ∈ lw_all := lw_g (lw_at lw_m5 188 rfl) rfl
theorem q1274 : (Jvm.Cond.selects "FeatherYard" ({ cls := "FeatherYard", name := "lands", desc := "(II)I" } : Jvm.MethodName) ({ cls := "FeatherYard", name := "lands", desc := "(II)I" } : Jvm.MethodName)) ∈ lw_all := lw_g (lw_at lw_m5 189 rfl) rfl
theorem q1275 : (Jvm.Cond.code ({ cls := "FeatherYard", name := "lands", desc := "(II)I" } : Jvm.MethodName) prog_1_method_34_code (3 : Nat) (Option.some Jvm.ClassFile.FieldType.int)) ∈ lw_all := lw_g (lw_at lw_m5 190 rfl) rfl
theorem q1280 : (Jvm.Cond.instanceMethod ({ cls := "FeatherYard", name := "good", desc := "(II)I" } : Jvm.MethodName)) ∈ lw_all := lw_g (lw_at lw_m5 195 rfl) rfl
theorem q1281 : (Jvm.Cond.selects "FeatherYard" ({ cls := "FeatherYard", name := "good", desc := "(II)I" } : Jvm.MethodName) ({ cls := "FeatherYard", name := "good", desc := "(II)I" } : Jvm.MethodName)) ∈ lw_all := lw_g (lw_at lw_m5 196 rfl) rfl
theorem q1282 : (Jvm.Cond.code ({ cls := "FeatherYard", name := "good", desc := "(II)I" } : Jvm.MethodName) prog_1_method_35_code (3 : Nat) (Option.some Jvm.ClassFile.FieldType.int)) ∈ lw_all := lw_g (lw_at lw_m5 197 rfl) rfl
theorem q1287 : (Jvm.Cond.instanceMethod ({ cls := "FeatherYard", name := "straight", desc := "(IZ)I" } : Jvm.MethodName)) ∈ lw_all := lw_g (lw_at lw_m5 202 rfl) rfl
theorem q1288 : (Jvm.Cond.selects "FeatherYard" ({ cls := "FeatherYard", name := "straight", desc := "(IZ)I" } : Jvm.MethodName) ({ cls := "FeatherYard", name := "straight", desc := "(IZ)I" } : Jvm.MethodName)) ∈ lw_all := lw_g (lw_at lw_m5 203 rfl) rfl
theorem q1289 : (Jvm.Cond.code ({ cls := "FeatherYard", name := "straight", desc := "(IZ)I" } : Jvm.MethodName) prog_1_method_36_code (7 : Nat) (Option.some Jvm.ClassFile.FieldType.int)) ∈ lw_all := lw_g (lw_at lw_m5 204 rfl) rfl
theorem q1294 : (Jvm.Cond.instanceMethod ({ cls := "FeatherYard", name := "odds", desc := "(III)I" } : Jvm.MethodName)) ∈ lw_all := lw_g (lw_at lw_m5 209 rfl) rfl
theorem q1295 : (Jvm.Cond.selects "FeatherYard" ({ cls := "FeatherYard", name := "odds", desc := "(III)I" } : Jvm.MethodName) ({ cls := "FeatherYard", name := "odds", desc := "(III)I" } : Jvm.MethodName)) ∈ lw_all := lw_g (lw_at lw_m5 210 rfl) rfl
theorem q1296 : (Jvm.Cond.code ({ cls := "FeatherYard", name := "odds", desc := "(III)I" } : Jvm.MethodName) prog_1_method_39_code (7 : Nat) (Option.some Jvm.ClassFile.FieldType.int)) ∈ lw_all := lw_g (lw_at lw_m5 211 rfl) rfl
theorem q1297 : (Jvm.Cond.methodLink "FeatherYard" (296 : Nat) ({ cls := "FeatherYard", name := "firstHas", desc := "(II)I" } : Jvm.MethodName)) ∈ lw_all := lw_g (lw_at lw_m5 212 rfl) rfl
theorem q1298 : (Jvm.Cond.privateMethod ({ cls := "FeatherYard", name := "firstHas", desc := "(II)I" } : Jvm.MethodName)) ∈ lw_tbl := lw_at lw_m5 213 rfl
theorem q1299 : (Jvm.Cond.instanceMethod ({ cls := "FeatherYard", name := "firstHas", desc := "(II)I" } : Jvm.MethodName)) ∈ lw_all := lw_g (lw_at lw_m5 214 rfl) rfl
theorem q1300 : (Jvm.Cond.code ({ cls := "FeatherYard", name := "firstHas", desc := "(II)I" } : Jvm.MethodName) prog_1_method_38_code (3 : Nat) (Option.some Jvm.ClassFile.FieldType.int)) ∈ lw_all := lw_g (lw_at lw_m5 215 rfl) rfl
theorem q1301 : (Jvm.Cond.methodLink "FeatherYard" (292 : Nat) ({ cls := "FeatherYard", name := "hasIt", desc := "(LFeatherYard$Ways;LFeatherYard$Ways;)I" } : Jvm.MethodName)) ∈ lw_all := lw_g (lw_at lw_m5 216 rfl) rfl
theorem q1302 : (Jvm.Cond.privateMethod ({ cls := "FeatherYard", name := "hasIt", desc := "(LFeatherYard$Ways;LFeatherYard$Ways;)I" } : Jvm.MethodName)) ∈ lw_tbl := lw_at lw_m5 217 rfl
theorem q1303 : (Jvm.Cond.instanceMethod ({ cls := "FeatherYard", name := "hasIt", desc := "(LFeatherYard$Ways;LFeatherYard$Ways;)I" } : Jvm.MethodName)) ∈ lw_all := lw_g (lw_at lw_m5 218 rfl) rfl
theorem q1304 : (Jvm.Cond.code ({ cls := "FeatherYard", name := "hasIt", desc := "(LFeatherYard$Ways;LFeatherYard$Ways;)I" } : Jvm.MethodName) prog_1_method_37_code (6 : Nat) (Option.some Jvm.ClassFile.FieldType.int)) ∈ lw_all := lw_g (lw_at lw_m5 219 rfl) rfl
theorem q1309 : (Jvm.Cond.instanceMethod ({ cls := "FeatherYard", name := "best", desc := "(II)I" } : Jvm.MethodName)) ∈ lw_all := lw_g (lw_at lw_m5 224 rfl) rfl
theorem q1310 : (Jvm.Cond.selects "FeatherYard" ({ cls := "FeatherYard", name := "best", desc := "(II)I" } : Jvm.MethodName) ({ cls := "FeatherYard", name := "best", desc := "(II)I" } : Jvm.MethodName)) ∈ lw_all := lw_g (lw_at lw_m5 225 rfl) rfl
theorem q1311 : (Jvm.Cond.code ({ cls := "FeatherYard", name := "best", desc := "(II)I" } : Jvm.MethodName) prog_1_method_40_code (7 : Nat) (Option.some Jvm.ClassFile.FieldType.int)) ∈ lw_all := lw_g (lw_at lw_m5 226 rfl) rfl
theorem q1316 : (Jvm.Cond.instanceMethod ({ cls := "FeatherYard", name := "when", desc := "(II)I" } : Jvm.MethodName)) ∈ lw_all := lw_g (lw_at lw_m5 231 rfl) rfl
theorem q1317 : (Jvm.Cond.selects "FeatherYard" ({ cls := "FeatherYard", name := "when", desc := "(II)I" } : Jvm.MethodName) ({ cls := "FeatherYard", name := "when", desc := "(II)I" } : Jvm.MethodName)) ∈ lw_all := lw_g (lw_at lw_m5 232 rfl) rfl
theorem q1318 : (Jvm.Cond.code ({ cls := "FeatherYard", name := "when", desc := "(II)I" } : Jvm.MethodName) prog_1_method_41_code (8 : Nat) (Option.some Jvm.ClassFile.FieldType.int)) ∈ lw_all := lw_g (lw_at lw_m5 233 rfl) rfl
theorem q1323 : (Jvm.Cond.instanceMethod ({ cls := "FeatherYard", name := "surest", desc := "(IZZ)I" } : Jvm.MethodName)) ∈ lw_all := lw_g (lw_at lw_m5 238 rfl) rfl
theorem q1324 : (Jvm.Cond.selects "FeatherYard" ({ cls := "FeatherYard", name := "surest", desc := "(IZZ)I" } : Jvm.MethodName) ({ cls := "FeatherYard", name := "surest", desc := "(IZZ)I" } : Jvm.MethodName)) ∈ lw_all := lw_g (lw_at lw_m5 239 rfl) rfl
theorem q1325 : (Jvm.Cond.code ({ cls := "FeatherYard", name := "surest", desc := "(IZZ)I" } : Jvm.MethodName) prog_1_method_45_code (10 : Nat) (Option.some Jvm.ClassFile.FieldType.int)) ∈ lw_all := lw_g (lw_at lw_m6 0 rfl) rfl
theorem q1326 : (Jvm.Cond.methodLink "FeatherYard" (304 : Nat) ({ cls := "FeatherYard", name := "isOpen", desc := "(I)V" } : Jvm.MethodName)) ∈ lw_all := lw_g (lw_at lw_m6 1 rfl) rfl
theorem q1327 : (Jvm.Cond.privateMethod ({ cls := "FeatherYard", name := "isOpen", desc := "(I)V" } : Jvm.MethodName)) ∈ lw_tbl := lw_at lw_m6 2 rfl
theorem q1328 : (Jvm.Cond.instanceMethod ({ cls := "FeatherYard", name := "isOpen", desc := "(I)V" } : Jvm.MethodName)) ∈ lw_all := lw_g (lw_at lw_m6 3 rfl) rfl
theorem q1329 : (Jvm.Cond.code ({ cls := "FeatherYard", name := "isOpen", desc := "(I)V" } : Jvm.MethodName) prog_1_method_42_code (2 : Nat) (Option.none : Option Jvm.ClassFile.FieldType)) ∈ lw_all := lw_g (lw_at lw_m6 4 rfl) rfl
theorem q1330 : (Jvm.Cond.methodLink "FeatherYard" (307 : Nat) ({ cls := "FeatherYard", name := "compares", desc := "(I)V" } : Jvm.MethodName)) ∈ lw_all := lw_g (lw_at lw_m6 5 rfl) rfl
theorem q1331 : (Jvm.Cond.privateMethod ({ cls := "FeatherYard", name := "compares", desc := "(I)V" } : Jvm.MethodName)) ∈ lw_tbl := lw_at lw_m6 6 rfl
theorem q1332 : (Jvm.Cond.instanceMethod ({ cls := "FeatherYard", name := "compares", desc := "(I)V" } : Jvm.MethodName)) ∈ lw_all := lw_g (lw_at lw_m6 7 rfl) rfl
theorem q1333 : (Jvm.Cond.code ({ cls := "FeatherYard", name := "compares", desc := "(I)V" } : Jvm.MethodName) prog_1_method_43_code (6 : Nat) (Option.none : Option Jvm.ClassFile.FieldType)) ∈ lw_all := lw_g (lw_at lw_m6 8 rfl) rfl
theorem q1334 : (Jvm.Cond.methodLink "FeatherYard" (310 : Nat) ({ cls := "FeatherYard", name := "leastBy", desc := "(IIZ)I" } : Jvm.MethodName)) ∈ lw_all := lw_g (lw_at lw_m6 9 rfl) rfl
theorem q1335 : (Jvm.Cond.privateMethod ({ cls := "FeatherYard", name := "leastBy", desc := "(IIZ)I" } : Jvm.MethodName)) ∈ lw_tbl := lw_at lw_m6 10 rfl
theorem q1336 : (Jvm.Cond.instanceMethod ({ cls := "FeatherYard", name := "leastBy", desc := "(IIZ)I" } : Jvm.MethodName)) ∈ lw_all := lw_g (lw_at lw_m6 11 rfl) rfl
theorem q1337 : (Jvm.Cond.code ({ cls := "FeatherYard", name := "leastBy", desc := "(IIZ)I" } : Jvm.MethodName) prog_1_method_44_code (6 : Nat) (Option.some Jvm.ClassFile.FieldType.int)) ∈ lw_all := lw_g (lw_at lw_m6 12 rfl) rfl
theorem q1338 : (Jvm.Cond.constant "FeatherYard" (299 : Nat) (1000000000 : Int32)) ∈ lw_all := lw_g (lw_at lw_m6 13 rfl) rfl
theorem q1339 : (Jvm.Cond.constantLong "FeatherYard" (300 : Nat) (100 : Int64)) ∈ lw_all := lw_g (lw_at lw_m6 14 rfl) rfl
theorem q1340 : (Jvm.Cond.constantLong "FeatherYard" (302 : Nat) (43046721 : Int64)) ∈ lw_all := lw_g (lw_at lw_m6 15 rfl) rfl
theorem q1345 : (Jvm.Cond.instanceMethod ({ cls := "FeatherYard", name := "rests", desc := "(IZ)I" } : Jvm.MethodName)) ∈ lw_all := lw_g (lw_at lw_m6 20 rfl) rfl
theorem q1346 : (Jvm.Cond.selects "FeatherYard" ({ cls := "FeatherYard", name := "rests", desc := "(IZ)I" } : Jvm.MethodName) ({ cls := "FeatherYard", name := "rests", desc := "(IZ)I" } : Jvm.MethodName)) ∈ lw_all := lw_g (lw_at lw_m6 21 rfl) rfl
theorem q1347 : (Jvm.Cond.code ({ cls := "FeatherYard", name := "rests", desc := "(IZ)I" } : Jvm.MethodName) prog_1_method_47_code (10 : Nat) (Option.some Jvm.ClassFile.FieldType.int)) ∈ lw_all := lw_g (lw_at lw_m6 22 rfl) rfl
theorem q1348 : (Jvm.Cond.methodLink "FeatherYard" (314 : Nat) ({ cls := "FeatherYard", name := "isRest", desc := "(IIII)Z" } : Jvm.MethodName)) ∈ lw_all := lw_g (lw_at lw_m6 23 rfl) rfl
theorem q1349 : (Jvm.Cond.privateMethod ({ cls := "FeatherYard", name := "isRest", desc := "(IIII)Z" } : Jvm.MethodName)) ∈ lw_tbl := lw_at lw_m6 24 rfl
theorem q1350 : (Jvm.Cond.instanceMethod ({ cls := "FeatherYard", name := "isRest", desc := "(IIII)Z" } : Jvm.MethodName)) ∈ lw_all := lw_g (lw_at lw_m6 25 rfl) rfl
theorem q1351 : (Jvm.Cond.code ({ cls := "FeatherYard", name := "isRest", desc := "(IIII)Z" } : Jvm.MethodName) prog_1_method_46_code (7 : Nat) (Option.some Jvm.ClassFile.FieldType.boolean)) ∈ lw_all := lw_g (lw_at lw_m6 26 rfl) rfl
theorem q1356 : (Jvm.Cond.instanceMethod ({ cls := "FeatherYard", name := "fair", desc := "(I)I" } : Jvm.MethodName)) ∈ lw_all := lw_g (lw_at lw_m6 31 rfl) rfl
theorem q1357 : (Jvm.Cond.selects "FeatherYard" ({ cls := "FeatherYard", name := "fair", desc := "(I)I" } : Jvm.MethodName) ({ cls := "FeatherYard", name := "fair", desc := "(I)I" } : Jvm.MethodName)) ∈ lw_all := lw_g (lw_at lw_m6 32 rfl) rfl
theorem q1358 : (Jvm.Cond.code ({ cls := "FeatherYard", name := "fair", desc := "(I)I" } : Jvm.MethodName) prog_1_method_48_code (8 : Nat) (Option.some Jvm.ClassFile.FieldType.int)) ∈ lw_all := lw_g (lw_at lw_m6 33 rfl) rfl
theorem q1359 : (Jvm.Cond.methodLink "FeatherYard" (318 : Nat) ({ cls := "java/lang/Math", name := "abs", desc := "(I)I" } : Jvm.MethodName)) ∈ lw_all := lw_g (lw_at lw_m6 34 rfl) rfl
theorem q1366 : (Jvm.Cond.instanceMethod ({ cls := "FeatherYard", name := "songs", desc := "(Z)I" } : Jvm.MethodName)) ∈ lw_all := lw_g (lw_at lw_m6 41 rfl) rfl
theorem q1367 : (Jvm.Cond.selects "FeatherYard" ({ cls := "FeatherYard", name := "songs", desc := "(Z)I" } : Jvm.MethodName) ({ cls := "FeatherYard", name := "songs", desc := "(Z)I" } : Jvm.MethodName)) ∈ lw_all := lw_g (lw_at lw_m6 42 rfl) rfl
theorem q1368 : (Jvm.Cond.code ({ cls := "FeatherYard", name := "songs", desc := "(Z)I" } : Jvm.MethodName) prog_1_method_51_code (5 : Nat) (Option.some Jvm.ClassFile.FieldType.int)) ∈ lw_all := lw_g (lw_at lw_m6 43 rfl) rfl
theorem q1369 : (Jvm.Cond.methodLink "FeatherYard" (324 : Nat) ({ cls := "FeatherYard", name := "told", desc := "()I" } : Jvm.MethodName)) ∈ lw_all := lw_g (lw_at lw_m6 44 rfl) rfl
theorem q1370 : (Jvm.Cond.privateMethod ({ cls := "FeatherYard", name := "told", desc := "()I" } : Jvm.MethodName)) ∈ lw_tbl := lw_at lw_m6 45 rfl
theorem q1371 : (Jvm.Cond.instanceMethod ({ cls := "FeatherYard", name := "told", desc := "()I" } : Jvm.MethodName)) ∈ lw_all := lw_g (lw_at lw_m6 46 rfl) rfl
theorem q1372 : (Jvm.Cond.code ({ cls := "FeatherYard", name := "told", desc := "()I" } : Jvm.MethodName) prog_1_method_50_code (6 : Nat) (Option.some Jvm.ClassFile.FieldType.int)) ∈ lw_all := lw_g (lw_at lw_m6 47 rfl) rfl
theorem q1373 : (Jvm.Cond.methodLink "FeatherYard" (321 : Nat) ({ cls := "FeatherYard", name := "sung", desc := "(I)I" } : Jvm.MethodName)) ∈ lw_all := lw_g (lw_at lw_m6 48 rfl) rfl
theorem q1374 : (Jvm.Cond.privateMethod ({ cls := "FeatherYard", name := "sung", desc := "(I)I" } : Jvm.MethodName)) ∈ lw_tbl := lw_at lw_m6 49 rfl
theorem q1375 : (Jvm.Cond.instanceMethod ({ cls := "FeatherYard", name := "sung", desc := "(I)I" } : Jvm.MethodName)) ∈ lw_all := lw_g (lw_at lw_m6 50 rfl) rfl
theorem q1376 : (Jvm.Cond.code ({ cls := "FeatherYard", name := "sung", desc := "(I)I" } : Jvm.MethodName) prog_1_method_49_code (4 : Nat) (Option.some Jvm.ClassFile.FieldType.int)) ∈ lw_all := lw_g (lw_at lw_m6 51 rfl) rfl
theorem q1381 : (Jvm.Cond.instanceMethod ({ cls := "FeatherYard", name := "ask", desc := "()I" } : Jvm.MethodName)) ∈ lw_all := lw_g (lw_at lw_m6 56 rfl) rfl
theorem q1382 : (Jvm.Cond.selects "FeatherYard" ({ cls := "FeatherYard", name := "ask", desc := "()I" } : Jvm.MethodName) ({ cls := "FeatherYard", name := "ask", desc := "()I" } : Jvm.MethodName)) ∈ lw_all := lw_g (lw_at lw_m6 57 rfl) rfl
theorem q1383 : (Jvm.Cond.code ({ cls := "FeatherYard", name := "ask", desc := "()I" } : Jvm.MethodName) prog_1_method_52_code (7 : Nat) (Option.some Jvm.ClassFile.FieldType.int)) ∈ lw_all := lw_g (lw_at lw_m6 58 rfl) rfl
theorem q1384 : (Jvm.Cond.methodLink "FeatherYard" (327 : Nat) ({ cls := "java/lang/Math", name := "max", desc := "(II)I" } : Jvm.MethodName)) ∈ lw_all := lw_g (lw_at lw_m6 59 rfl) rfl
theorem q1389 : (Jvm.Cond.instanceMethod ({ cls := "FeatherYard", name := "tell", desc := "(II)I" } : Jvm.MethodName)) ∈ lw_all := lw_g (lw_at lw_m6 64 rfl) rfl
theorem q1390 : (Jvm.Cond.selects "FeatherYard" ({ cls := "FeatherYard", name := "tell", desc := "(II)I" } : Jvm.MethodName) ({ cls := "FeatherYard", name := "tell", desc := "(II)I" } : Jvm.MethodName)) ∈ lw_all := lw_g (lw_at lw_m6 65 rfl) rfl
theorem q1391 : (Jvm.Cond.code ({ cls := "FeatherYard", name := "tell", desc := "(II)I" } : Jvm.MethodName) prog_1_method_53_code (5 : Nat) (Option.some Jvm.ClassFile.FieldType.int)) ∈ lw_all := lw_g (lw_at lw_m6 66 rfl) rfl
theorem q1396 : (Jvm.Cond.instanceMethod ({ cls := "FeatherYard", name := "lasts", desc := "(III)I" } : Jvm.MethodName)) ∈ lw_all := lw_g (lw_at lw_m6 71 rfl) rfl
theorem q1397 : (Jvm.Cond.selects "FeatherYard" ({ cls := "FeatherYard", name := "lasts", desc := "(III)I" } : Jvm.MethodName) ({ cls := "FeatherYard", name := "lasts", desc := "(III)I" } : Jvm.MethodName)) ∈ lw_all := lw_g (lw_at lw_m6 72 rfl) rfl
theorem q1398 : (Jvm.Cond.code ({ cls := "FeatherYard", name := "lasts", desc := "(III)I" } : Jvm.MethodName) prog_1_method_56_code (5 : Nat) (Option.some Jvm.ClassFile.FieldType.int)) ∈ lw_all := lw_g (lw_at lw_m6 73 rfl) rfl
theorem q1403 : (Jvm.Cond.instanceMethod ({ cls := "FeatherYard", name := "won", desc := "(IZ)I" } : Jvm.MethodName)) ∈ lw_all := lw_g (lw_at lw_m6 78 rfl) rfl
theorem q1404 : (Jvm.Cond.selects "FeatherYard" ({ cls := "FeatherYard", name := "won", desc := "(IZ)I" } : Jvm.MethodName) ({ cls := "FeatherYard", name := "won", desc := "(IZ)I" } : Jvm.MethodName)) ∈ lw_all := lw_g (lw_at lw_m6 79 rfl) rfl
theorem q1405 : (Jvm.Cond.code ({ cls := "FeatherYard", name := "won", desc := "(IZ)I" } : Jvm.MethodName) prog_1_method_59_code (7 : Nat) (Option.some Jvm.ClassFile.FieldType.int)) ∈ lw_all := lw_g (lw_at lw_m6 80 rfl) rfl
theorem q1410 : (Jvm.Cond.instanceMethod ({ cls := "FeatherYard", name := "widest", desc := "(I)I" } : Jvm.MethodName)) ∈ lw_all := lw_g (lw_at lw_m6 85 rfl) rfl
theorem q1411 : (Jvm.Cond.selects "FeatherYard" ({ cls := "FeatherYard", name := "widest", desc := "(I)I" } : Jvm.MethodName) ({ cls := "FeatherYard", name := "widest", desc := "(I)I" } : Jvm.MethodName)) ∈ lw_all := lw_g (lw_at lw_m6 86 rfl) rfl
theorem q1412 : (Jvm.Cond.code ({ cls := "FeatherYard", name := "widest", desc := "(I)I" } : Jvm.MethodName) prog_1_method_55_code (7 : Nat) (Option.some Jvm.ClassFile.FieldType.int)) ∈ lw_all := lw_g (lw_at lw_m6 87 rfl) rfl
theorem q1417 : (Jvm.Cond.instanceMethod ({ cls := "FeatherYard", name := "trial", desc := "(III)I" } : Jvm.MethodName)) ∈ lw_all := lw_g (lw_at lw_m6 92 rfl) rfl
theorem q1418 : (Jvm.Cond.selects "FeatherYard" ({ cls := "FeatherYard", name := "trial", desc := "(III)I" } : Jvm.MethodName) ({ cls := "FeatherYard", name := "trial", desc := "(III)I" } : Jvm.MethodName)) ∈ lw_all := lw_g (lw_at lw_m6 93 rfl) rfl
theorem q1419 : (Jvm.Cond.code ({ cls := "FeatherYard", name := "trial", desc := "(III)I" } : Jvm.MethodName) prog_1_method_63_code (6 : Nat) (Option.some Jvm.ClassFile.FieldType.int)) ∈ lw_all := lw_g (lw_at lw_m6 94 rfl) rfl
theorem q1420 : (Jvm.Cond.methodLink "FeatherYard" (350 : Nat) ({ cls := "FeatherYard", name := "calls", desc := "(III)I" } : Jvm.MethodName)) ∈ lw_all := lw_g (lw_at lw_m6 95 rfl) rfl
theorem q1421 : (Jvm.Cond.privateMethod ({ cls := "FeatherYard", name := "calls", desc := "(III)I" } : Jvm.MethodName)) ∈ lw_tbl := lw_at lw_m6 96 rfl
theorem q1422 : (Jvm.Cond.instanceMethod ({ cls := "FeatherYard", name := "calls", desc := "(III)I" } : Jvm.MethodName)) ∈ lw_all := lw_g (lw_at lw_m6 97 rfl) rfl
theorem q1423 : (Jvm.Cond.code ({ cls := "FeatherYard", name := "calls", desc := "(III)I" } : Jvm.MethodName) prog_1_method_62_code (6 : Nat) (Option.some Jvm.ClassFile.FieldType.int)) ∈ lw_all := lw_g (lw_at lw_m6 98 rfl) rfl
theorem q1428 : (Jvm.Cond.instanceMethod ({ cls := "FeatherYard", name := "span", desc := "(IIIZ)I" } : Jvm.MethodName)) ∈ lw_all := lw_g (lw_at lw_m6 103 rfl) rfl
theorem q1429 : (Jvm.Cond.selects "FeatherYard" ({ cls := "FeatherYard", name := "span", desc := "(IIIZ)I" } : Jvm.MethodName) ({ cls := "FeatherYard", name := "span", desc := "(IIIZ)I" } : Jvm.MethodName)) ∈ lw_all := lw_g (lw_at lw_m6 104 rfl) rfl
theorem q1430 : (Jvm.Cond.code ({ cls := "FeatherYard", name := "span", desc := "(IIIZ)I" } : Jvm.MethodName) prog_1_method_64_code (9 : Nat) (Option.some Jvm.ClassFile.FieldType.int)) ∈ lw_all := lw_g (lw_at lw_m6 105 rfl) rfl
theorem q1435 : (Jvm.Cond.instanceMethod ({ cls := "FeatherYard", name := "led", desc := "(IZ)I" } : Jvm.MethodName)) ∈ lw_all := lw_g (lw_at lw_m6 110 rfl) rfl
theorem q1436 : (Jvm.Cond.selects "FeatherYard" ({ cls := "FeatherYard", name := "led", desc := "(IZ)I" } : Jvm.MethodName) ({ cls := "FeatherYard", name := "led", desc := "(IZ)I" } : Jvm.MethodName)) ∈ lw_all := lw_g (lw_at lw_m6 111 rfl) rfl
theorem q1437 : (Jvm.Cond.code ({ cls := "FeatherYard", name := "led", desc := "(IZ)I" } : Jvm.MethodName) prog_1_method_65_code (8 : Nat) (Option.some Jvm.ClassFile.FieldType.int)) ∈ lw_all := lw_g (lw_at lw_m6 112 rfl) rfl
theorem q1438 : (Jvm.Cond.methodLink "FeatherYard" (354 : Nat) ({ cls := "FeatherYard$State", name := "isKept", desc := "(I)Z" } : Jvm.MethodName)) ∈ lw_all := lw_g (lw_at lw_m6 113 rfl) rfl
theorem q1442 : (Jvm.Cond.methodLink "FeatherYard" (357 : Nat) ({ cls := "FeatherYard$State", name := "row", desc := "(II)I" } : Jvm.MethodName)) ∈ lw_all := lw_g (lw_at lw_m6 117 rfl) rfl
theorem q1451 : (Jvm.Cond.instanceMethod ({ cls := "FeatherYard", name := "log", desc := "(II)I" } : Jvm.MethodName)) ∈ lw_all := lw_g (lw_at lw_m6 126 rfl) rfl
theorem q1452 : (Jvm.Cond.selects "FeatherYard" ({ cls := "FeatherYard", name := "log", desc := "(II)I" } : Jvm.MethodName) ({ cls := "FeatherYard", name := "log", desc := "(II)I" } : Jvm.MethodName)) ∈ lw_all := lw_g (lw_at lw_m6 127 rfl) rfl
theorem q1453 : (Jvm.Cond.code ({ cls := "FeatherYard", name := "log", desc := "(II)I" } : Jvm.MethodName) prog_1_method_66_code (3 : Nat) (Option.some Jvm.ClassFile.FieldType.int)) ∈ lw_all := lw_g (lw_at lw_m6 128 rfl) rfl
theorem q2116 : (Jvm.Cond.castable "FeatherYard" "java/lang/Object") ∈ lw_tbl := lw_at lw_m9 71 rfl
theorem in_X1 : ∀ w ∈ wsX10, w ∈ lw_all := lw_in wsX10 [512, 514, 516, 518, 520, 522, 524, 526, 528, 530, 532, 534, 536, 538, 540, 542] (by decide +kernel) (by decide +kernel)
