/-! FeatherYard$Reader -/
set_option maxRecDepth 100000
def RX2 : String := "FeatherYard$Reader"
def TX2 : u_T := fun k => match k with
  | 0 => ("FeatherYard$Reader", "tape", "[B", true)
  | 1 => ("FeatherYard$Reader", "words", "[Ljava/lang/String;", true)
  | 2 => ("FeatherYard$Reader", "tags", "[Ljava/lang/String;", true)
  | 3 => ("FeatherYard$Reader", "row", "[LFeatherYard$Line;", true)
  | 4 => ("FeatherYard$Reader", "draft", "LFeatherYard$State;", true)
  | 5 => ("FeatherYard$Reader", "wrong", "LFeatherYard$Wrong;", true)
  | 6 => ("FeatherYard$Reader", "size", "I", false)
  | 7 => ("FeatherYard$Reader", "end", "I", false)
  | 8 => ("FeatherYard$Reader", "at", "I", false)
  | _ => ("FeatherYard$Reader", "deep", "I", false)
def tyX2 : Nat → FieldType := fun k => match k with
  | 0 => .array .byte
  | 1 => .array (.object "java/lang/String")
  | 2 => .array (.object "java/lang/String")
  | 3 => .array (.object "FeatherYard$Line")
  | 4 => .object "FeatherYard$State"
  | 5 => .object "FeatherYard$Wrong"
  | 6 => .int
  | 7 => .int
  | 8 => .int
  | _ => .int
abbrev wsX20 : List Cond := u_ws RX2 TX2 10
theorem nmX2 : ∀ a, a < 10 → ∀ b, b < 10 → a ≠ b → (TX2 a).2.1 ≠ (TX2 b).2.1 := by decide +kernel
theorem tyX2_ok : ∀ k, k < 10 → parseFieldDescriptor (TX2 k).2.2.1 = some (tyX2 k) := by decide +kernel
abbrev cX2_init : ByteArray := prog_10_method_1_code
def yX2_init : MethodName := ⟨RX2, "<init>", "()V"⟩
def dkwX2_init_4 : List UInt8 := [183, 0, 55, 181, 0, 56, 177]
abbrev dktX2_init_4 : List UInt8 := dkwX2_init_4 ++ []
def dkwX2_init_3 : List UInt8 := [16, 12, 189, 0, 40, 181, 0, 42, 42, 187, 0, 46, 89, 183, 0, 48, 181, 0, 49, 42, 187, 0, 53, 89]
abbrev dktX2_init_3 : List UInt8 := dkwX2_init_3 ++ dktX2_init_4
def dkwX2_init_2 : List UInt8 := [83, 181, 0, 29, 42, 5, 189, 0, 15, 89, 3, 18, 33, 83, 89, 4, 18, 35, 83, 181, 0, 37, 42]
abbrev dktX2_init_2 : List UInt8 := dkwX2_init_2 ++ dktX2_init_3
def dkwX2_init_1 : List UInt8 := [89, 4, 18, 19, 83, 89, 5, 18, 21, 83, 89, 6, 18, 23, 83, 89, 7, 18, 25, 83, 89, 8, 18, 27]
abbrev dktX2_init_1 : List UInt8 := dkwX2_init_1 ++ dktX2_init_2
def dkwX2_init_0 : List UInt8 := [42, 183, 0, 3, 42, 17, 1, 144, 188, 8, 181, 0, 9, 42, 16, 6, 189, 0, 15, 89, 3, 18, 17, 83]
abbrev dktX2_init_0 : List UInt8 := dkwX2_init_0 ++ dktX2_init_1
theorem dksX2_init_0 : cX2_init.data.toList.drop 0 = dktX2_init_0 := by decide +kernel
theorem dksX2_init_1 : cX2_init.data.toList.drop 24 = dktX2_init_1 := dk_seg dksX2_init_0 24 rfl rfl
theorem dksX2_init_2 : cX2_init.data.toList.drop 48 = dktX2_init_2 := dk_seg dksX2_init_1 24 rfl rfl
theorem dksX2_init_3 : cX2_init.data.toList.drop 71 = dktX2_init_3 := dk_seg dksX2_init_2 23 rfl rfl
theorem dksX2_init_4 : cX2_init.data.toList.drop 95 = dktX2_init_4 := dk_seg dksX2_init_3 24 rfl rfl
theorem dX2_init_0 : decode cX2_init 0 = .ok (.aload_n 0, 1) := dk_42 (dk_at dksX2_init_0 0 rfl rfl)
theorem dX2_init_1 : decode cX2_init 1 = .ok (.invokespecial 3, 3) := dk_183 0 3 (dk_at dksX2_init_0 1 rfl rfl)
theorem dX2_init_4 : decode cX2_init 4 = .ok (.aload_n 0, 1) := dk_42 (dk_at dksX2_init_0 4 rfl rfl)
theorem dX2_init_5 : decode cX2_init 5 = .ok (.sipush 400, 3) := dk_17 1 144 (dk_at dksX2_init_0 5 rfl rfl)
theorem dX2_init_8 : decode cX2_init 8 = .ok (.newarray .byte, 2) := dk_188_8 (dk_at dksX2_init_0 8 rfl rfl)
theorem dX2_init_10 : decode cX2_init 10 = .ok (.putfield 9, 3) := dk_181 0 9 (dk_at dksX2_init_0 10 rfl rfl)
theorem dX2_init_13 : decode cX2_init 13 = .ok (.aload_n 0, 1) := dk_42 (dk_at dksX2_init_0 13 rfl rfl)
theorem dX2_init_14 : decode cX2_init 14 = .ok (.bipush 6, 2) := dk_16 6 (dk_at dksX2_init_0 14 rfl rfl)
theorem dX2_init_16 : decode cX2_init 16 = .ok (.anewarray 15, 3) := dk_189 0 15 (dk_at dksX2_init_0 16 rfl rfl)
theorem dX2_init_19 : decode cX2_init 19 = .ok (.dup, 1) := dk_89 (dk_at dksX2_init_0 19 rfl rfl)
theorem dX2_init_20 : decode cX2_init 20 = .ok (.iconst 0, 1) := dk_3 (dk_at dksX2_init_0 20 rfl rfl)
theorem dX2_init_21 : decode cX2_init 21 = .ok (.ldc 17, 2) := dk_18 17 (dk_at dksX2_init_0 21 rfl rfl)
theorem dX2_init_23 : decode cX2_init 23 = .ok (.aastore, 1) := dk_83 (dk_at dksX2_init_0 23 rfl rfl)
theorem dX2_init_24 : decode cX2_init 24 = .ok (.dup, 1) := dk_89 (dk_at dksX2_init_1 0 rfl rfl)
theorem dX2_init_25 : decode cX2_init 25 = .ok (.iconst 1, 1) := dk_4 (dk_at dksX2_init_1 1 rfl rfl)
theorem dX2_init_26 : decode cX2_init 26 = .ok (.ldc 19, 2) := dk_18 19 (dk_at dksX2_init_1 2 rfl rfl)
theorem dX2_init_28 : decode cX2_init 28 = .ok (.aastore, 1) := dk_83 (dk_at dksX2_init_1 4 rfl rfl)
theorem dX2_init_29 : decode cX2_init 29 = .ok (.dup, 1) := dk_89 (dk_at dksX2_init_1 5 rfl rfl)
theorem dX2_init_30 : decode cX2_init 30 = .ok (.iconst 2, 1) := dk_5 (dk_at dksX2_init_1 6 rfl rfl)
theorem dX2_init_31 : decode cX2_init 31 = .ok (.ldc 21, 2) := dk_18 21 (dk_at dksX2_init_1 7 rfl rfl)
theorem dX2_init_33 : decode cX2_init 33 = .ok (.aastore, 1) := dk_83 (dk_at dksX2_init_1 9 rfl rfl)
theorem dX2_init_34 : decode cX2_init 34 = .ok (.dup, 1) := dk_89 (dk_at dksX2_init_1 10 rfl rfl)
theorem dX2_init_35 : decode cX2_init 35 = .ok (.iconst 3, 1) := dk_6 (dk_at dksX2_init_1 11 rfl rfl)
theorem dX2_init_36 : decode cX2_init 36 = .ok (.ldc 23, 2) := dk_18 23 (dk_at dksX2_init_1 12 rfl rfl)
theorem dX2_init_38 : decode cX2_init 38 = .ok (.aastore, 1) := dk_83 (dk_at dksX2_init_1 14 rfl rfl)
theorem dX2_init_39 : decode cX2_init 39 = .ok (.dup, 1) := dk_89 (dk_at dksX2_init_1 15 rfl rfl)
theorem dX2_init_40 : decode cX2_init 40 = .ok (.iconst 4, 1) := dk_7 (dk_at dksX2_init_1 16 rfl rfl)
theorem dX2_init_41 : decode cX2_init 41 = .ok (.ldc 25, 2) := dk_18 25 (dk_at dksX2_init_1 17 rfl rfl)
theorem dX2_init_43 : decode cX2_init 43 = .ok (.aastore, 1) := dk_83 (dk_at dksX2_init_1 19 rfl rfl)
theorem dX2_init_44 : decode cX2_init 44 = .ok (.dup, 1) := dk_89 (dk_at dksX2_init_1 20 rfl rfl)
theorem dX2_init_45 : decode cX2_init 45 = .ok (.iconst 5, 1) := dk_8 (dk_at dksX2_init_1 21 rfl rfl)
theorem dX2_init_46 : decode cX2_init 46 = .ok (.ldc 27, 2) := dk_18 27 (dk_at dksX2_init_1 22 rfl rfl)
theorem dX2_init_48 : decode cX2_init 48 = .ok (.aastore, 1) := dk_83 (dk_at dksX2_init_2 0 rfl rfl)
theorem dX2_init_49 : decode cX2_init 49 = .ok (.putfield 29, 3) := dk_181 0 29 (dk_at dksX2_init_2 1 rfl rfl)
theorem dX2_init_52 : decode cX2_init 52 = .ok (.aload_n 0, 1) := dk_42 (dk_at dksX2_init_2 4 rfl rfl)
theorem dX2_init_53 : decode cX2_init 53 = .ok (.iconst 2, 1) := dk_5 (dk_at dksX2_init_2 5 rfl rfl)
theorem dX2_init_54 : decode cX2_init 54 = .ok (.anewarray 15, 3) := dk_189 0 15 (dk_at dksX2_init_2 6 rfl rfl)
theorem dX2_init_57 : decode cX2_init 57 = .ok (.dup, 1) := dk_89 (dk_at dksX2_init_2 9 rfl rfl)
theorem dX2_init_58 : decode cX2_init 58 = .ok (.iconst 0, 1) := dk_3 (dk_at dksX2_init_2 10 rfl rfl)
theorem dX2_init_59 : decode cX2_init 59 = .ok (.ldc 33, 2) := dk_18 33 (dk_at dksX2_init_2 11 rfl rfl)
theorem dX2_init_61 : decode cX2_init 61 = .ok (.aastore, 1) := dk_83 (dk_at dksX2_init_2 13 rfl rfl)
theorem dX2_init_62 : decode cX2_init 62 = .ok (.dup, 1) := dk_89 (dk_at dksX2_init_2 14 rfl rfl)
theorem dX2_init_63 : decode cX2_init 63 = .ok (.iconst 1, 1) := dk_4 (dk_at dksX2_init_2 15 rfl rfl)
theorem dX2_init_64 : decode cX2_init 64 = .ok (.ldc 35, 2) := dk_18 35 (dk_at dksX2_init_2 16 rfl rfl)
theorem dX2_init_66 : decode cX2_init 66 = .ok (.aastore, 1) := dk_83 (dk_at dksX2_init_2 18 rfl rfl)
theorem dX2_init_67 : decode cX2_init 67 = .ok (.putfield 37, 3) := dk_181 0 37 (dk_at dksX2_init_2 19 rfl rfl)
theorem dX2_init_70 : decode cX2_init 70 = .ok (.aload_n 0, 1) := dk_42 (dk_at dksX2_init_2 22 rfl rfl)
theorem dX2_init_71 : decode cX2_init 71 = .ok (.bipush 12, 2) := dk_16 12 (dk_at dksX2_init_3 0 rfl rfl)
theorem dX2_init_73 : decode cX2_init 73 = .ok (.anewarray 40, 3) := dk_189 0 40 (dk_at dksX2_init_3 2 rfl rfl)
theorem dX2_init_76 : decode cX2_init 76 = .ok (.putfield 42, 3) := dk_181 0 42 (dk_at dksX2_init_3 5 rfl rfl)
theorem dX2_init_79 : decode cX2_init 79 = .ok (.aload_n 0, 1) := dk_42 (dk_at dksX2_init_3 8 rfl rfl)
theorem dX2_init_80 : decode cX2_init 80 = .ok (.new 46, 3) := dk_187 0 46 (dk_at dksX2_init_3 9 rfl rfl)
theorem dX2_init_83 : decode cX2_init 83 = .ok (.dup, 1) := dk_89 (dk_at dksX2_init_3 12 rfl rfl)
theorem dX2_init_84 : decode cX2_init 84 = .ok (.invokespecial 48, 3) := dk_183 0 48 (dk_at dksX2_init_3 13 rfl rfl)
theorem dX2_init_87 : decode cX2_init 87 = .ok (.putfield 49, 3) := dk_181 0 49 (dk_at dksX2_init_3 16 rfl rfl)
theorem dX2_init_90 : decode cX2_init 90 = .ok (.aload_n 0, 1) := dk_42 (dk_at dksX2_init_3 19 rfl rfl)
theorem dX2_init_91 : decode cX2_init 91 = .ok (.new 53, 3) := dk_187 0 53 (dk_at dksX2_init_3 20 rfl rfl)
theorem dX2_init_94 : decode cX2_init 94 = .ok (.dup, 1) := dk_89 (dk_at dksX2_init_3 23 rfl rfl)
theorem dX2_init_95 : decode cX2_init 95 = .ok (.invokespecial 55, 3) := dk_183 0 55 (dk_at dksX2_init_4 0 rfl rfl)
theorem dX2_init_98 : decode cX2_init 98 = .ok (.putfield 56, 3) := dk_181 0 56 (dk_at dksX2_init_4 3 rfl rfl)
theorem dX2_init_101 : decode cX2_init 101 = .ok (.return_, 1) := dk_177 (dk_at dksX2_init_4 6 rfl rfl)
abbrev cX2_court : ByteArray := prog_10_method_12_code
def yX2_court : MethodName := ⟨RX2, "court", "(ILFeatherYard$State;)LFeatherYard$State;"⟩
def dkwX2_court_1 : List UInt8 := [153, 0, 13, 42, 182, 0, 114, 132, 3, 1, 167, 255, 239, 42, 180, 0, 49, 176]
abbrev dktX2_court_1 : List UInt8 := dkwX2_court_1 ++ []
def dkwX2_court_0 : List UInt8 := [42, 27, 182, 0, 103, 42, 180, 0, 49, 44, 182, 0, 106, 3, 62, 42, 29, 16, 14, 182, 0, 110]
abbrev dktX2_court_0 : List UInt8 := dkwX2_court_0 ++ dktX2_court_1
theorem dksX2_court_0 : cX2_court.data.toList.drop 0 = dktX2_court_0 := by decide +kernel
theorem dksX2_court_1 : cX2_court.data.toList.drop 22 = dktX2_court_1 := dk_seg dksX2_court_0 22 rfl rfl
theorem dX2_court_0 : decode cX2_court 0 = .ok (.aload_n 0, 1) := dk_42 (dk_at dksX2_court_0 0 rfl rfl)
theorem dX2_court_1 : decode cX2_court 1 = .ok (.iload_n 1, 1) := dk_27 (dk_at dksX2_court_0 1 rfl rfl)
theorem dX2_court_2 : decode cX2_court 2 = .ok (.invokevirtual 103, 3) := dk_182 0 103 (dk_at dksX2_court_0 2 rfl rfl)
theorem dX2_court_5 : decode cX2_court 5 = .ok (.aload_n 0, 1) := dk_42 (dk_at dksX2_court_0 5 rfl rfl)
theorem dX2_court_6 : decode cX2_court 6 = .ok (.getfield 49, 3) := dk_180 0 49 (dk_at dksX2_court_0 6 rfl rfl)
theorem dX2_court_9 : decode cX2_court 9 = .ok (.aload_n 2, 1) := dk_44 (dk_at dksX2_court_0 9 rfl rfl)
theorem dX2_court_10 : decode cX2_court 10 = .ok (.invokevirtual 106, 3) := dk_182 0 106 (dk_at dksX2_court_0 10 rfl rfl)
theorem dX2_court_13 : decode cX2_court 13 = .ok (.iconst 0, 1) := dk_3 (dk_at dksX2_court_0 13 rfl rfl)
theorem dX2_court_14 : decode cX2_court 14 = .ok (.istore_n 3, 1) := dk_62 (dk_at dksX2_court_0 14 rfl rfl)
theorem dX2_court_15 : decode cX2_court 15 = .ok (.aload_n 0, 1) := dk_42 (dk_at dksX2_court_0 15 rfl rfl)
theorem dX2_court_16 : decode cX2_court 16 = .ok (.iload_n 3, 1) := dk_29 (dk_at dksX2_court_0 16 rfl rfl)
theorem dX2_court_17 : decode cX2_court 17 = .ok (.bipush 14, 2) := dk_16 14 (dk_at dksX2_court_0 17 rfl rfl)
theorem dX2_court_19 : decode cX2_court 19 = .ok (.invokevirtual 110, 3) := dk_182 0 110 (dk_at dksX2_court_0 19 rfl rfl)
theorem dX2_court_22 : decode cX2_court 22 = .ok (.ifCond .eq 13, 3) := dk_153 0 13 (dk_at dksX2_court_1 0 rfl rfl)
theorem dX2_court_25 : decode cX2_court 25 = .ok (.aload_n 0, 1) := dk_42 (dk_at dksX2_court_1 3 rfl rfl)
theorem dX2_court_26 : decode cX2_court 26 = .ok (.invokevirtual 114, 3) := dk_182 0 114 (dk_at dksX2_court_1 4 rfl rfl)
theorem dX2_court_29 : decode cX2_court 29 = .ok (.iinc 3 1, 3) := dk_132 3 1 (dk_at dksX2_court_1 7 rfl rfl)
theorem dX2_court_32 : decode cX2_court 32 = .ok (.goto (-17), 3) := dk_167 255 239 (dk_at dksX2_court_1 10 rfl rfl)
theorem dX2_court_35 : decode cX2_court 35 = .ok (.aload_n 0, 1) := dk_42 (dk_at dksX2_court_1 13 rfl rfl)
theorem dX2_court_36 : decode cX2_court 36 = .ok (.getfield 49, 3) := dk_180 0 49 (dk_at dksX2_court_1 14 rfl rfl)
theorem dX2_court_39 : decode cX2_court 39 = .ok (.areturn, 1) := dk_176 (dk_at dksX2_court_1 17 rfl rfl)
abbrev cX2_begins : ByteArray := prog_10_method_10_code
def yX2_begins : MethodName := ⟨RX2, "begins", "(I)V"⟩
def dkwX2_begins_0 : List UInt8 := [42, 27, 181, 0, 67, 42, 3, 181, 0, 64, 42, 3, 181, 0, 100, 177]
abbrev dktX2_begins_0 : List UInt8 := dkwX2_begins_0 ++ []
theorem dksX2_begins_0 : cX2_begins.data.toList.drop 0 = dktX2_begins_0 := by decide +kernel
theorem dX2_begins_0 : decode cX2_begins 0 = .ok (.aload_n 0, 1) := dk_42 (dk_at dksX2_begins_0 0 rfl rfl)
theorem dX2_begins_1 : decode cX2_begins 1 = .ok (.iload_n 1, 1) := dk_27 (dk_at dksX2_begins_0 1 rfl rfl)
theorem dX2_begins_2 : decode cX2_begins 2 = .ok (.putfield 67, 3) := dk_181 0 67 (dk_at dksX2_begins_0 2 rfl rfl)
theorem dX2_begins_5 : decode cX2_begins 5 = .ok (.aload_n 0, 1) := dk_42 (dk_at dksX2_begins_0 5 rfl rfl)
theorem dX2_begins_6 : decode cX2_begins 6 = .ok (.iconst 0, 1) := dk_3 (dk_at dksX2_begins_0 6 rfl rfl)
theorem dX2_begins_7 : decode cX2_begins 7 = .ok (.putfield 64, 3) := dk_181 0 64 (dk_at dksX2_begins_0 7 rfl rfl)
theorem dX2_begins_10 : decode cX2_begins 10 = .ok (.aload_n 0, 1) := dk_42 (dk_at dksX2_begins_0 10 rfl rfl)
theorem dX2_begins_11 : decode cX2_begins 11 = .ok (.iconst 0, 1) := dk_3 (dk_at dksX2_begins_0 11 rfl rfl)
theorem dX2_begins_12 : decode cX2_begins 12 = .ok (.putfield 100, 3) := dk_181 0 100 (dk_at dksX2_begins_0 12 rfl rfl)
theorem dX2_begins_15 : decode cX2_begins 15 = .ok (.return_, 1) := dk_177 (dk_at dksX2_begins_0 15 rfl rfl)
abbrev cX2_more : ByteArray := prog_10_method_11_code
def yX2_more : MethodName := ⟨RX2, "more", "(II)Z"⟩
def dkwX2_more_4 : List UInt8 := [172]
abbrev dktX2_more_4 : List UInt8 := dkwX2_more_4 ++ []
def dkwX2_more_3 : List UInt8 := [167, 0, 4, 2, 54, 4, 29, 153, 0, 16, 27, 28, 160, 0, 11, 42, 42, 180, 0, 64, 182, 0, 85, 29]
abbrev dktX2_more_3 : List UInt8 := dkwX2_more_3 ++ dktX2_more_4
def dkwX2_more_2 : List UInt8 := [27, 158, 0, 13, 42, 89, 180, 0, 64, 4, 96, 181, 0, 64, 29, 153, 0, 10, 42, 182, 0, 70]
abbrev dktX2_more_2 : List UInt8 := dkwX2_more_2 ++ dktX2_more_3
def dkwX2_more_1 : List UInt8 := [180, 0, 64, 182, 0, 85, 42, 182, 0, 70, 2, 159, 0, 7, 4, 167, 0, 4, 3, 62, 29, 153, 0, 17]
abbrev dktX2_more_1 : List UInt8 := dkwX2_more_1 ++ dktX2_more_2
def dkwX2_more_0 : List UInt8 := [27, 158, 0, 28, 42, 182, 0, 70, 2, 159, 0, 20, 42, 182, 0, 70, 16, 59, 159, 0, 11, 42, 42]
abbrev dktX2_more_0 : List UInt8 := dkwX2_more_0 ++ dktX2_more_1
theorem dksX2_more_0 : cX2_more.data.toList.drop 0 = dktX2_more_0 := by decide +kernel
theorem dksX2_more_1 : cX2_more.data.toList.drop 23 = dktX2_more_1 := dk_seg dksX2_more_0 23 rfl rfl
theorem dksX2_more_2 : cX2_more.data.toList.drop 47 = dktX2_more_2 := dk_seg dksX2_more_1 24 rfl rfl
theorem dksX2_more_3 : cX2_more.data.toList.drop 69 = dktX2_more_3 := dk_seg dksX2_more_2 22 rfl rfl
theorem dksX2_more_4 : cX2_more.data.toList.drop 93 = dktX2_more_4 := dk_seg dksX2_more_3 24 rfl rfl
theorem dX2_more_0 : decode cX2_more 0 = .ok (.iload_n 1, 1) := dk_27 (dk_at dksX2_more_0 0 rfl rfl)
theorem dX2_more_1 : decode cX2_more 1 = .ok (.ifCond .le 28, 3) := dk_158 0 28 (dk_at dksX2_more_0 1 rfl rfl)
theorem dX2_more_4 : decode cX2_more 4 = .ok (.aload_n 0, 1) := dk_42 (dk_at dksX2_more_0 4 rfl rfl)
theorem dX2_more_5 : decode cX2_more 5 = .ok (.invokevirtual 70, 3) := dk_182 0 70 (dk_at dksX2_more_0 5 rfl rfl)
theorem dX2_more_8 : decode cX2_more 8 = .ok (.iconst (-1), 1) := dk_2 (dk_at dksX2_more_0 8 rfl rfl)
theorem dX2_more_9 : decode cX2_more 9 = .ok (.if_icmp .eq 20, 3) := dk_159 0 20 (dk_at dksX2_more_0 9 rfl rfl)
theorem dX2_more_12 : decode cX2_more 12 = .ok (.aload_n 0, 1) := dk_42 (dk_at dksX2_more_0 12 rfl rfl)
theorem dX2_more_13 : decode cX2_more 13 = .ok (.invokevirtual 70, 3) := dk_182 0 70 (dk_at dksX2_more_0 13 rfl rfl)
theorem dX2_more_16 : decode cX2_more 16 = .ok (.bipush 59, 2) := dk_16 59 (dk_at dksX2_more_0 16 rfl rfl)
theorem dX2_more_18 : decode cX2_more 18 = .ok (.if_icmp .eq 11, 3) := dk_159 0 11 (dk_at dksX2_more_0 18 rfl rfl)
theorem dX2_more_21 : decode cX2_more 21 = .ok (.aload_n 0, 1) := dk_42 (dk_at dksX2_more_0 21 rfl rfl)
theorem dX2_more_22 : decode cX2_more 22 = .ok (.aload_n 0, 1) := dk_42 (dk_at dksX2_more_0 22 rfl rfl)
theorem dX2_more_23 : decode cX2_more 23 = .ok (.getfield 64, 3) := dk_180 0 64 (dk_at dksX2_more_1 0 rfl rfl)
theorem dX2_more_26 : decode cX2_more 26 = .ok (.invokevirtual 85, 3) := dk_182 0 85 (dk_at dksX2_more_1 3 rfl rfl)
theorem dX2_more_29 : decode cX2_more 29 = .ok (.aload_n 0, 1) := dk_42 (dk_at dksX2_more_1 6 rfl rfl)
theorem dX2_more_30 : decode cX2_more 30 = .ok (.invokevirtual 70, 3) := dk_182 0 70 (dk_at dksX2_more_1 7 rfl rfl)
theorem dX2_more_33 : decode cX2_more 33 = .ok (.iconst (-1), 1) := dk_2 (dk_at dksX2_more_1 10 rfl rfl)
theorem dX2_more_34 : decode cX2_more 34 = .ok (.if_icmp .eq 7, 3) := dk_159 0 7 (dk_at dksX2_more_1 11 rfl rfl)
theorem dX2_more_37 : decode cX2_more 37 = .ok (.iconst 1, 1) := dk_4 (dk_at dksX2_more_1 14 rfl rfl)
theorem dX2_more_38 : decode cX2_more 38 = .ok (.goto 4, 3) := dk_167 0 4 (dk_at dksX2_more_1 15 rfl rfl)
theorem dX2_more_41 : decode cX2_more 41 = .ok (.iconst 0, 1) := dk_3 (dk_at dksX2_more_1 18 rfl rfl)
theorem dX2_more_42 : decode cX2_more 42 = .ok (.istore_n 3, 1) := dk_62 (dk_at dksX2_more_1 19 rfl rfl)
theorem dX2_more_43 : decode cX2_more 43 = .ok (.iload_n 3, 1) := dk_29 (dk_at dksX2_more_1 20 rfl rfl)
theorem dX2_more_44 : decode cX2_more 44 = .ok (.ifCond .eq 17, 3) := dk_153 0 17 (dk_at dksX2_more_1 21 rfl rfl)
theorem dX2_more_47 : decode cX2_more 47 = .ok (.iload_n 1, 1) := dk_27 (dk_at dksX2_more_2 0 rfl rfl)
theorem dX2_more_48 : decode cX2_more 48 = .ok (.ifCond .le 13, 3) := dk_158 0 13 (dk_at dksX2_more_2 1 rfl rfl)
theorem dX2_more_51 : decode cX2_more 51 = .ok (.aload_n 0, 1) := dk_42 (dk_at dksX2_more_2 4 rfl rfl)
theorem dX2_more_52 : decode cX2_more 52 = .ok (.dup, 1) := dk_89 (dk_at dksX2_more_2 5 rfl rfl)
theorem dX2_more_53 : decode cX2_more 53 = .ok (.getfield 64, 3) := dk_180 0 64 (dk_at dksX2_more_2 6 rfl rfl)
theorem dX2_more_56 : decode cX2_more 56 = .ok (.iconst 1, 1) := dk_4 (dk_at dksX2_more_2 9 rfl rfl)
theorem dX2_more_57 : decode cX2_more 57 = .ok (.iadd, 1) := dk_96 (dk_at dksX2_more_2 10 rfl rfl)
theorem dX2_more_58 : decode cX2_more 58 = .ok (.putfield 64, 3) := dk_181 0 64 (dk_at dksX2_more_2 11 rfl rfl)
theorem dX2_more_61 : decode cX2_more 61 = .ok (.iload_n 3, 1) := dk_29 (dk_at dksX2_more_2 14 rfl rfl)
theorem dX2_more_62 : decode cX2_more 62 = .ok (.ifCond .eq 10, 3) := dk_153 0 10 (dk_at dksX2_more_2 15 rfl rfl)
theorem dX2_more_65 : decode cX2_more 65 = .ok (.aload_n 0, 1) := dk_42 (dk_at dksX2_more_2 18 rfl rfl)
theorem dX2_more_66 : decode cX2_more 66 = .ok (.invokevirtual 70, 3) := dk_182 0 70 (dk_at dksX2_more_2 19 rfl rfl)
theorem dX2_more_69 : decode cX2_more 69 = .ok (.goto 4, 3) := dk_167 0 4 (dk_at dksX2_more_3 0 rfl rfl)
theorem dX2_more_72 : decode cX2_more 72 = .ok (.iconst (-1), 1) := dk_2 (dk_at dksX2_more_3 3 rfl rfl)
theorem dX2_more_73 : decode cX2_more 73 = .ok (.istore 4, 2) := dk_54 4 (dk_at dksX2_more_3 4 rfl rfl)
theorem dX2_more_75 : decode cX2_more 75 = .ok (.iload_n 3, 1) := dk_29 (dk_at dksX2_more_3 6 rfl rfl)
theorem dX2_more_76 : decode cX2_more 76 = .ok (.ifCond .eq 16, 3) := dk_153 0 16 (dk_at dksX2_more_3 7 rfl rfl)
theorem dX2_more_79 : decode cX2_more 79 = .ok (.iload_n 1, 1) := dk_27 (dk_at dksX2_more_3 10 rfl rfl)
theorem dX2_more_80 : decode cX2_more 80 = .ok (.iload_n 2, 1) := dk_28 (dk_at dksX2_more_3 11 rfl rfl)
theorem dX2_more_81 : decode cX2_more 81 = .ok (.if_icmp .ne 11, 3) := dk_160 0 11 (dk_at dksX2_more_3 12 rfl rfl)
theorem dX2_more_84 : decode cX2_more 84 = .ok (.aload_n 0, 1) := dk_42 (dk_at dksX2_more_3 15 rfl rfl)
theorem dX2_more_85 : decode cX2_more 85 = .ok (.aload_n 0, 1) := dk_42 (dk_at dksX2_more_3 16 rfl rfl)
theorem dX2_more_86 : decode cX2_more 86 = .ok (.getfield 64, 3) := dk_180 0 64 (dk_at dksX2_more_3 17 rfl rfl)
theorem dX2_more_89 : decode cX2_more 89 = .ok (.invokevirtual 85, 3) := dk_182 0 85 (dk_at dksX2_more_3 20 rfl rfl)
theorem dX2_more_92 : decode cX2_more 92 = .ok (.iload_n 3, 1) := dk_29 (dk_at dksX2_more_3 23 rfl rfl)
theorem dX2_more_93 : decode cX2_more 93 = .ok (.ireturn, 1) := dk_172 (dk_at dksX2_more_4 0 rfl rfl)
abbrev cX2_sign : ByteArray := prog_10_method_3_code
def yX2_sign : MethodName := ⟨RX2, "sign", "()I"⟩
def dkwX2_sign_2 : List UInt8 := [162, 0, 19, 42, 180, 0, 9, 42, 180, 0, 64, 51, 17, 0, 255, 126, 167, 0, 4, 2, 172]
abbrev dktX2_sign_2 : List UInt8 := dkwX2_sign_2 ++ []
def dkwX2_sign_1 : List UInt8 := [160, 0, 16, 42, 89, 180, 0, 64, 4, 96, 181, 0, 64, 167, 255, 221, 42, 180, 0, 64, 42, 180, 0, 67]
abbrev dktX2_sign_1 : List UInt8 := dkwX2_sign_1 ++ dktX2_sign_2
def dkwX2_sign_0 : List UInt8 := [42, 180, 0, 64, 42, 180, 0, 67, 162, 0, 30, 42, 180, 0, 9, 42, 180, 0, 64, 51, 16, 32]
abbrev dktX2_sign_0 : List UInt8 := dkwX2_sign_0 ++ dktX2_sign_1
theorem dksX2_sign_0 : cX2_sign.data.toList.drop 0 = dktX2_sign_0 := by decide +kernel
theorem dksX2_sign_1 : cX2_sign.data.toList.drop 22 = dktX2_sign_1 := dk_seg dksX2_sign_0 22 rfl rfl
theorem dksX2_sign_2 : cX2_sign.data.toList.drop 46 = dktX2_sign_2 := dk_seg dksX2_sign_1 24 rfl rfl
theorem dX2_sign_0 : decode cX2_sign 0 = .ok (.aload_n 0, 1) := dk_42 (dk_at dksX2_sign_0 0 rfl rfl)
theorem dX2_sign_1 : decode cX2_sign 1 = .ok (.getfield 64, 3) := dk_180 0 64 (dk_at dksX2_sign_0 1 rfl rfl)
theorem dX2_sign_4 : decode cX2_sign 4 = .ok (.aload_n 0, 1) := dk_42 (dk_at dksX2_sign_0 4 rfl rfl)
theorem dX2_sign_5 : decode cX2_sign 5 = .ok (.getfield 67, 3) := dk_180 0 67 (dk_at dksX2_sign_0 5 rfl rfl)
theorem dX2_sign_8 : decode cX2_sign 8 = .ok (.if_icmp .ge 30, 3) := dk_162 0 30 (dk_at dksX2_sign_0 8 rfl rfl)
theorem dX2_sign_11 : decode cX2_sign 11 = .ok (.aload_n 0, 1) := dk_42 (dk_at dksX2_sign_0 11 rfl rfl)
theorem dX2_sign_12 : decode cX2_sign 12 = .ok (.getfield 9, 3) := dk_180 0 9 (dk_at dksX2_sign_0 12 rfl rfl)
theorem dX2_sign_15 : decode cX2_sign 15 = .ok (.aload_n 0, 1) := dk_42 (dk_at dksX2_sign_0 15 rfl rfl)
theorem dX2_sign_16 : decode cX2_sign 16 = .ok (.getfield 64, 3) := dk_180 0 64 (dk_at dksX2_sign_0 16 rfl rfl)
theorem dX2_sign_19 : decode cX2_sign 19 = .ok (.baload, 1) := dk_51 (dk_at dksX2_sign_0 19 rfl rfl)
theorem dX2_sign_20 : decode cX2_sign 20 = .ok (.bipush 32, 2) := dk_16 32 (dk_at dksX2_sign_0 20 rfl rfl)
theorem dX2_sign_22 : decode cX2_sign 22 = .ok (.if_icmp .ne 16, 3) := dk_160 0 16 (dk_at dksX2_sign_1 0 rfl rfl)
theorem dX2_sign_25 : decode cX2_sign 25 = .ok (.aload_n 0, 1) := dk_42 (dk_at dksX2_sign_1 3 rfl rfl)
theorem dX2_sign_26 : decode cX2_sign 26 = .ok (.dup, 1) := dk_89 (dk_at dksX2_sign_1 4 rfl rfl)
theorem dX2_sign_27 : decode cX2_sign 27 = .ok (.getfield 64, 3) := dk_180 0 64 (dk_at dksX2_sign_1 5 rfl rfl)
theorem dX2_sign_30 : decode cX2_sign 30 = .ok (.iconst 1, 1) := dk_4 (dk_at dksX2_sign_1 8 rfl rfl)
theorem dX2_sign_31 : decode cX2_sign 31 = .ok (.iadd, 1) := dk_96 (dk_at dksX2_sign_1 9 rfl rfl)
theorem dX2_sign_32 : decode cX2_sign 32 = .ok (.putfield 64, 3) := dk_181 0 64 (dk_at dksX2_sign_1 10 rfl rfl)
theorem dX2_sign_35 : decode cX2_sign 35 = .ok (.goto (-35), 3) := dk_167 255 221 (dk_at dksX2_sign_1 13 rfl rfl)
theorem dX2_sign_38 : decode cX2_sign 38 = .ok (.aload_n 0, 1) := dk_42 (dk_at dksX2_sign_1 16 rfl rfl)
theorem dX2_sign_39 : decode cX2_sign 39 = .ok (.getfield 64, 3) := dk_180 0 64 (dk_at dksX2_sign_1 17 rfl rfl)
theorem dX2_sign_42 : decode cX2_sign 42 = .ok (.aload_n 0, 1) := dk_42 (dk_at dksX2_sign_1 20 rfl rfl)
theorem dX2_sign_43 : decode cX2_sign 43 = .ok (.getfield 67, 3) := dk_180 0 67 (dk_at dksX2_sign_1 21 rfl rfl)
theorem dX2_sign_46 : decode cX2_sign 46 = .ok (.if_icmp .ge 19, 3) := dk_162 0 19 (dk_at dksX2_sign_2 0 rfl rfl)
theorem dX2_sign_49 : decode cX2_sign 49 = .ok (.aload_n 0, 1) := dk_42 (dk_at dksX2_sign_2 3 rfl rfl)
theorem dX2_sign_50 : decode cX2_sign 50 = .ok (.getfield 9, 3) := dk_180 0 9 (dk_at dksX2_sign_2 4 rfl rfl)
theorem dX2_sign_53 : decode cX2_sign 53 = .ok (.aload_n 0, 1) := dk_42 (dk_at dksX2_sign_2 7 rfl rfl)
theorem dX2_sign_54 : decode cX2_sign 54 = .ok (.getfield 64, 3) := dk_180 0 64 (dk_at dksX2_sign_2 8 rfl rfl)
theorem dX2_sign_57 : decode cX2_sign 57 = .ok (.baload, 1) := dk_51 (dk_at dksX2_sign_2 11 rfl rfl)
theorem dX2_sign_58 : decode cX2_sign 58 = .ok (.sipush 255, 3) := dk_17 0 255 (dk_at dksX2_sign_2 12 rfl rfl)
theorem dX2_sign_61 : decode cX2_sign 61 = .ok (.iand, 1) := dk_126 (dk_at dksX2_sign_2 15 rfl rfl)
theorem dX2_sign_62 : decode cX2_sign 62 = .ok (.goto 4, 3) := dk_167 0 4 (dk_at dksX2_sign_2 16 rfl rfl)
theorem dX2_sign_65 : decode cX2_sign 65 = .ok (.iconst (-1), 1) := dk_2 (dk_at dksX2_sign_2 19 rfl rfl)
theorem dX2_sign_66 : decode cX2_sign 66 = .ok (.ireturn, 1) := dk_172 (dk_at dksX2_sign_2 20 rfl rfl)
abbrev cX2_fail : ByteArray := prog_10_method_2_code
def yX2_fail : MethodName := ⟨RX2, "fail", "(I)V"⟩
def dkwX2_fail_0 : List UInt8 := [42, 180, 0, 56, 27, 181, 0, 60, 42, 180, 0, 56, 191]
abbrev dktX2_fail_0 : List UInt8 := dkwX2_fail_0 ++ []
theorem dksX2_fail_0 : cX2_fail.data.toList.drop 0 = dktX2_fail_0 := by decide +kernel
theorem dX2_fail_0 : decode cX2_fail 0 = .ok (.aload_n 0, 1) := dk_42 (dk_at dksX2_fail_0 0 rfl rfl)
theorem dX2_fail_1 : decode cX2_fail 1 = .ok (.getfield 56, 3) := dk_180 0 56 (dk_at dksX2_fail_0 1 rfl rfl)
theorem dX2_fail_4 : decode cX2_fail 4 = .ok (.iload_n 1, 1) := dk_27 (dk_at dksX2_fail_0 4 rfl rfl)
theorem dX2_fail_5 : decode cX2_fail 5 = .ok (.putfield 60, 3) := dk_181 0 60 (dk_at dksX2_fail_0 5 rfl rfl)
theorem dX2_fail_8 : decode cX2_fail 8 = .ok (.aload_n 0, 1) := dk_42 (dk_at dksX2_fail_0 8 rfl rfl)
theorem dX2_fail_9 : decode cX2_fail 9 = .ok (.getfield 56, 3) := dk_180 0 56 (dk_at dksX2_fail_0 9 rfl rfl)
theorem dX2_fail_12 : decode cX2_fail 12 = .ok (.athrow, 1) := dk_191 (dk_at dksX2_fail_0 12 rfl rfl)
abbrev cX2_line : ByteArray := prog_10_method_13_code
def yX2_line : MethodName := ⟨RX2, "line", "()V"⟩
def dkwX2_line_10 : List UInt8 := [181, 0, 161, 177]
abbrev dktX2_line_10 : List UInt8 := dkwX2_line_10 ++ []
def dkwX2_line_9 : List UInt8 := [21, 4, 79, 167, 0, 23, 42, 18, 25, 182, 0, 92, 42, 180, 0, 49, 42, 3, 16, 23, 182, 0, 96]
abbrev dktX2_line_9 : List UInt8 := dkwX2_line_9 ++ dktX2_line_10
def dkwX2_line_8 : List UInt8 := [182, 0, 96, 54, 4, 42, 180, 0, 49, 180, 0, 157, 28, 29, 153, 0, 9, 21, 4, 116, 167, 0, 5]
abbrev dktX2_line_8 : List UInt8 := dkwX2_line_8 ++ dktX2_line_9
def dkwX2_line_7 : List UInt8 := [182, 0, 96, 61, 42, 18, 153, 182, 0, 81, 62, 29, 154, 0, 9, 42, 18, 155, 182, 0, 92, 42, 3, 6]
abbrev dktX2_line_7 : List UInt8 := dkwX2_line_7 ++ dktX2_line_8
def dkwX2_line_6 : List UInt8 := [182, 0, 136, 181, 0, 149, 167, 0, 89, 42, 18, 151, 182, 0, 81, 153, 0, 60, 42, 3, 16, 12]
abbrev dktX2_line_6 : List UInt8 := dkwX2_line_6 ++ dktX2_line_7
def dkwX2_line_5 : List UInt8 := [182, 0, 96, 181, 0, 144, 42, 180, 0, 49, 42, 18, 147, 42, 180, 0, 49, 180, 0, 144, 16, 15]
abbrev dktX2_line_5 : List UInt8 := dkwX2_line_5 ++ dktX2_line_6
def dkwX2_line_4 : List UInt8 := [181, 0, 140, 167, 0, 137, 42, 18, 142, 182, 0, 81, 153, 0, 42, 42, 180, 0, 49, 42, 3, 16, 15]
abbrev dktX2_line_4 : List UInt8 := dkwX2_line_4 ++ dktX2_line_5
def dkwX2_line_3 : List UInt8 := [42, 3, 16, 15, 182, 0, 96, 181, 0, 132, 42, 180, 0, 49, 42, 18, 134, 4, 16, 12, 182, 0, 136]
abbrev dktX2_line_3 : List UInt8 := dkwX2_line_3 ++ dktX2_line_4
def dkwX2_line_2 : List UInt8 := [153, 0, 11, 42, 27, 182, 0, 127, 167, 0, 179, 42, 18, 130, 182, 0, 81, 153, 0, 36, 42, 180, 0, 49]
abbrev dktX2_line_2 : List UInt8 := dkwX2_line_2 ++ dktX2_line_3
def dkwX2_line_1 : List UInt8 := [18, 120, 182, 0, 81, 153, 0, 11, 42, 27, 182, 0, 122, 167, 0, 196, 42, 18, 125, 182, 0, 81]
abbrev dktX2_line_1 : List UInt8 := dkwX2_line_1 ++ dktX2_line_2
def dkwX2_line_0 : List UInt8 := [42, 180, 0, 64, 60, 42, 18, 17, 182, 0, 81, 153, 0, 11, 42, 27, 182, 0, 117, 167, 0, 213, 42]
abbrev dktX2_line_0 : List UInt8 := dkwX2_line_0 ++ dktX2_line_1
theorem dksX2_line_0 : cX2_line.data.toList.drop 0 = dktX2_line_0 := by decide +kernel
theorem dksX2_line_1 : cX2_line.data.toList.drop 23 = dktX2_line_1 := dk_seg dksX2_line_0 23 rfl rfl
theorem dksX2_line_2 : cX2_line.data.toList.drop 45 = dktX2_line_2 := dk_seg dksX2_line_1 22 rfl rfl
theorem dksX2_line_3 : cX2_line.data.toList.drop 69 = dktX2_line_3 := dk_seg dksX2_line_2 24 rfl rfl
theorem dksX2_line_4 : cX2_line.data.toList.drop 92 = dktX2_line_4 := dk_seg dksX2_line_3 23 rfl rfl
theorem dksX2_line_5 : cX2_line.data.toList.drop 115 = dktX2_line_5 := dk_seg dksX2_line_4 23 rfl rfl
theorem dksX2_line_6 : cX2_line.data.toList.drop 137 = dktX2_line_6 := dk_seg dksX2_line_5 22 rfl rfl
theorem dksX2_line_7 : cX2_line.data.toList.drop 159 = dktX2_line_7 := dk_seg dksX2_line_6 22 rfl rfl
theorem dksX2_line_8 : cX2_line.data.toList.drop 183 = dktX2_line_8 := dk_seg dksX2_line_7 24 rfl rfl
theorem dksX2_line_9 : cX2_line.data.toList.drop 206 = dktX2_line_9 := dk_seg dksX2_line_8 23 rfl rfl
theorem dksX2_line_10 : cX2_line.data.toList.drop 229 = dktX2_line_10 := dk_seg dksX2_line_9 23 rfl rfl
theorem dX2_line_0 : decode cX2_line 0 = .ok (.aload_n 0, 1) := dk_42 (dk_at dksX2_line_0 0 rfl rfl)
theorem dX2_line_1 : decode cX2_line 1 = .ok (.getfield 64, 3) := dk_180 0 64 (dk_at dksX2_line_0 1 rfl rfl)
theorem dX2_line_4 : decode cX2_line 4 = .ok (.istore_n 1, 1) := dk_60 (dk_at dksX2_line_0 4 rfl rfl)
theorem dX2_line_5 : decode cX2_line 5 = .ok (.aload_n 0, 1) := dk_42 (dk_at dksX2_line_0 5 rfl rfl)
theorem dX2_line_6 : decode cX2_line 6 = .ok (.ldc 17, 2) := dk_18 17 (dk_at dksX2_line_0 6 rfl rfl)
theorem dX2_line_8 : decode cX2_line 8 = .ok (.invokevirtual 81, 3) := dk_182 0 81 (dk_at dksX2_line_0 8 rfl rfl)
theorem dX2_line_11 : decode cX2_line 11 = .ok (.ifCond .eq 11, 3) := dk_153 0 11 (dk_at dksX2_line_0 11 rfl rfl)
theorem dX2_line_14 : decode cX2_line 14 = .ok (.aload_n 0, 1) := dk_42 (dk_at dksX2_line_0 14 rfl rfl)
theorem dX2_line_15 : decode cX2_line 15 = .ok (.iload_n 1, 1) := dk_27 (dk_at dksX2_line_0 15 rfl rfl)
theorem dX2_line_16 : decode cX2_line 16 = .ok (.invokevirtual 117, 3) := dk_182 0 117 (dk_at dksX2_line_0 16 rfl rfl)
theorem dX2_line_19 : decode cX2_line 19 = .ok (.goto 213, 3) := dk_167 0 213 (dk_at dksX2_line_0 19 rfl rfl)
theorem dX2_line_22 : decode cX2_line 22 = .ok (.aload_n 0, 1) := dk_42 (dk_at dksX2_line_0 22 rfl rfl)
theorem dX2_line_23 : decode cX2_line 23 = .ok (.ldc 120, 2) := dk_18 120 (dk_at dksX2_line_1 0 rfl rfl)
theorem dX2_line_25 : decode cX2_line 25 = .ok (.invokevirtual 81, 3) := dk_182 0 81 (dk_at dksX2_line_1 2 rfl rfl)
theorem dX2_line_28 : decode cX2_line 28 = .ok (.ifCond .eq 11, 3) := dk_153 0 11 (dk_at dksX2_line_1 5 rfl rfl)
theorem dX2_line_31 : decode cX2_line 31 = .ok (.aload_n 0, 1) := dk_42 (dk_at dksX2_line_1 8 rfl rfl)
theorem dX2_line_32 : decode cX2_line 32 = .ok (.iload_n 1, 1) := dk_27 (dk_at dksX2_line_1 9 rfl rfl)
theorem dX2_line_33 : decode cX2_line 33 = .ok (.invokevirtual 122, 3) := dk_182 0 122 (dk_at dksX2_line_1 10 rfl rfl)
theorem dX2_line_36 : decode cX2_line 36 = .ok (.goto 196, 3) := dk_167 0 196 (dk_at dksX2_line_1 13 rfl rfl)
theorem dX2_line_39 : decode cX2_line 39 = .ok (.aload_n 0, 1) := dk_42 (dk_at dksX2_line_1 16 rfl rfl)
theorem dX2_line_40 : decode cX2_line 40 = .ok (.ldc 125, 2) := dk_18 125 (dk_at dksX2_line_1 17 rfl rfl)
theorem dX2_line_42 : decode cX2_line 42 = .ok (.invokevirtual 81, 3) := dk_182 0 81 (dk_at dksX2_line_1 19 rfl rfl)
theorem dX2_line_45 : decode cX2_line 45 = .ok (.ifCond .eq 11, 3) := dk_153 0 11 (dk_at dksX2_line_2 0 rfl rfl)
theorem dX2_line_48 : decode cX2_line 48 = .ok (.aload_n 0, 1) := dk_42 (dk_at dksX2_line_2 3 rfl rfl)
theorem dX2_line_49 : decode cX2_line 49 = .ok (.iload_n 1, 1) := dk_27 (dk_at dksX2_line_2 4 rfl rfl)
theorem dX2_line_50 : decode cX2_line 50 = .ok (.invokevirtual 127, 3) := dk_182 0 127 (dk_at dksX2_line_2 5 rfl rfl)
theorem dX2_line_53 : decode cX2_line 53 = .ok (.goto 179, 3) := dk_167 0 179 (dk_at dksX2_line_2 8 rfl rfl)
theorem dX2_line_56 : decode cX2_line 56 = .ok (.aload_n 0, 1) := dk_42 (dk_at dksX2_line_2 11 rfl rfl)
theorem dX2_line_57 : decode cX2_line 57 = .ok (.ldc 130, 2) := dk_18 130 (dk_at dksX2_line_2 12 rfl rfl)
theorem dX2_line_59 : decode cX2_line 59 = .ok (.invokevirtual 81, 3) := dk_182 0 81 (dk_at dksX2_line_2 14 rfl rfl)
theorem dX2_line_62 : decode cX2_line 62 = .ok (.ifCond .eq 36, 3) := dk_153 0 36 (dk_at dksX2_line_2 17 rfl rfl)
theorem dX2_line_65 : decode cX2_line 65 = .ok (.aload_n 0, 1) := dk_42 (dk_at dksX2_line_2 20 rfl rfl)
theorem dX2_line_66 : decode cX2_line 66 = .ok (.getfield 49, 3) := dk_180 0 49 (dk_at dksX2_line_2 21 rfl rfl)
theorem dX2_line_69 : decode cX2_line 69 = .ok (.aload_n 0, 1) := dk_42 (dk_at dksX2_line_3 0 rfl rfl)
theorem dX2_line_70 : decode cX2_line 70 = .ok (.iconst 0, 1) := dk_3 (dk_at dksX2_line_3 1 rfl rfl)
theorem dX2_line_71 : decode cX2_line 71 = .ok (.bipush 15, 2) := dk_16 15 (dk_at dksX2_line_3 2 rfl rfl)
theorem dX2_line_73 : decode cX2_line 73 = .ok (.invokevirtual 96, 3) := dk_182 0 96 (dk_at dksX2_line_3 4 rfl rfl)
theorem dX2_line_76 : decode cX2_line 76 = .ok (.putfield 132, 3) := dk_181 0 132 (dk_at dksX2_line_3 7 rfl rfl)
theorem dX2_line_79 : decode cX2_line 79 = .ok (.aload_n 0, 1) := dk_42 (dk_at dksX2_line_3 10 rfl rfl)
theorem dX2_line_80 : decode cX2_line 80 = .ok (.getfield 49, 3) := dk_180 0 49 (dk_at dksX2_line_3 11 rfl rfl)
theorem dX2_line_83 : decode cX2_line 83 = .ok (.aload_n 0, 1) := dk_42 (dk_at dksX2_line_3 14 rfl rfl)
theorem dX2_line_84 : decode cX2_line 84 = .ok (.ldc 134, 2) := dk_18 134 (dk_at dksX2_line_3 15 rfl rfl)
theorem dX2_line_86 : decode cX2_line 86 = .ok (.iconst 1, 1) := dk_4 (dk_at dksX2_line_3 17 rfl rfl)
theorem dX2_line_87 : decode cX2_line 87 = .ok (.bipush 12, 2) := dk_16 12 (dk_at dksX2_line_3 18 rfl rfl)
theorem dX2_line_89 : decode cX2_line 89 = .ok (.invokevirtual 136, 3) := dk_182 0 136 (dk_at dksX2_line_3 20 rfl rfl)
theorem dX2_line_92 : decode cX2_line 92 = .ok (.putfield 140, 3) := dk_181 0 140 (dk_at dksX2_line_4 0 rfl rfl)
theorem dX2_line_95 : decode cX2_line 95 = .ok (.goto 137, 3) := dk_167 0 137 (dk_at dksX2_line_4 3 rfl rfl)
theorem dX2_line_98 : decode cX2_line 98 = .ok (.aload_n 0, 1) := dk_42 (dk_at dksX2_line_4 6 rfl rfl)
theorem dX2_line_99 : decode cX2_line 99 = .ok (.ldc 142, 2) := dk_18 142 (dk_at dksX2_line_4 7 rfl rfl)
theorem dX2_line_101 : decode cX2_line 101 = .ok (.invokevirtual 81, 3) := dk_182 0 81 (dk_at dksX2_line_4 9 rfl rfl)
theorem dX2_line_104 : decode cX2_line 104 = .ok (.ifCond .eq 42, 3) := dk_153 0 42 (dk_at dksX2_line_4 12 rfl rfl)
theorem dX2_line_107 : decode cX2_line 107 = .ok (.aload_n 0, 1) := dk_42 (dk_at dksX2_line_4 15 rfl rfl)
theorem dX2_line_108 : decode cX2_line 108 = .ok (.getfield 49, 3) := dk_180 0 49 (dk_at dksX2_line_4 16 rfl rfl)
theorem dX2_line_111 : decode cX2_line 111 = .ok (.aload_n 0, 1) := dk_42 (dk_at dksX2_line_4 19 rfl rfl)
theorem dX2_line_112 : decode cX2_line 112 = .ok (.iconst 0, 1) := dk_3 (dk_at dksX2_line_4 20 rfl rfl)
theorem dX2_line_113 : decode cX2_line 113 = .ok (.bipush 15, 2) := dk_16 15 (dk_at dksX2_line_4 21 rfl rfl)
theorem dX2_line_115 : decode cX2_line 115 = .ok (.invokevirtual 96, 3) := dk_182 0 96 (dk_at dksX2_line_5 0 rfl rfl)
theorem dX2_line_118 : decode cX2_line 118 = .ok (.putfield 144, 3) := dk_181 0 144 (dk_at dksX2_line_5 3 rfl rfl)
theorem dX2_line_121 : decode cX2_line 121 = .ok (.aload_n 0, 1) := dk_42 (dk_at dksX2_line_5 6 rfl rfl)
theorem dX2_line_122 : decode cX2_line 122 = .ok (.getfield 49, 3) := dk_180 0 49 (dk_at dksX2_line_5 7 rfl rfl)
theorem dX2_line_125 : decode cX2_line 125 = .ok (.aload_n 0, 1) := dk_42 (dk_at dksX2_line_5 10 rfl rfl)
theorem dX2_line_126 : decode cX2_line 126 = .ok (.ldc 147, 2) := dk_18 147 (dk_at dksX2_line_5 11 rfl rfl)
theorem dX2_line_128 : decode cX2_line 128 = .ok (.aload_n 0, 1) := dk_42 (dk_at dksX2_line_5 13 rfl rfl)
theorem dX2_line_129 : decode cX2_line 129 = .ok (.getfield 49, 3) := dk_180 0 49 (dk_at dksX2_line_5 14 rfl rfl)
theorem dX2_line_132 : decode cX2_line 132 = .ok (.getfield 144, 3) := dk_180 0 144 (dk_at dksX2_line_5 17 rfl rfl)
theorem dX2_line_135 : decode cX2_line 135 = .ok (.bipush 15, 2) := dk_16 15 (dk_at dksX2_line_5 20 rfl rfl)
theorem dX2_line_137 : decode cX2_line 137 = .ok (.invokevirtual 136, 3) := dk_182 0 136 (dk_at dksX2_line_6 0 rfl rfl)
theorem dX2_line_140 : decode cX2_line 140 = .ok (.putfield 149, 3) := dk_181 0 149 (dk_at dksX2_line_6 3 rfl rfl)
theorem dX2_line_143 : decode cX2_line 143 = .ok (.goto 89, 3) := dk_167 0 89 (dk_at dksX2_line_6 6 rfl rfl)
theorem dX2_line_146 : decode cX2_line 146 = .ok (.aload_n 0, 1) := dk_42 (dk_at dksX2_line_6 9 rfl rfl)
theorem dX2_line_147 : decode cX2_line 147 = .ok (.ldc 151, 2) := dk_18 151 (dk_at dksX2_line_6 10 rfl rfl)
theorem dX2_line_149 : decode cX2_line 149 = .ok (.invokevirtual 81, 3) := dk_182 0 81 (dk_at dksX2_line_6 12 rfl rfl)
theorem dX2_line_152 : decode cX2_line 152 = .ok (.ifCond .eq 60, 3) := dk_153 0 60 (dk_at dksX2_line_6 15 rfl rfl)
theorem dX2_line_155 : decode cX2_line 155 = .ok (.aload_n 0, 1) := dk_42 (dk_at dksX2_line_6 18 rfl rfl)
theorem dX2_line_156 : decode cX2_line 156 = .ok (.iconst 0, 1) := dk_3 (dk_at dksX2_line_6 19 rfl rfl)
theorem dX2_line_157 : decode cX2_line 157 = .ok (.bipush 12, 2) := dk_16 12 (dk_at dksX2_line_6 20 rfl rfl)
theorem dX2_line_159 : decode cX2_line 159 = .ok (.invokevirtual 96, 3) := dk_182 0 96 (dk_at dksX2_line_7 0 rfl rfl)
theorem dX2_line_162 : decode cX2_line 162 = .ok (.istore_n 2, 1) := dk_61 (dk_at dksX2_line_7 3 rfl rfl)
theorem dX2_line_163 : decode cX2_line 163 = .ok (.aload_n 0, 1) := dk_42 (dk_at dksX2_line_7 4 rfl rfl)
theorem dX2_line_164 : decode cX2_line 164 = .ok (.ldc 153, 2) := dk_18 153 (dk_at dksX2_line_7 5 rfl rfl)
theorem dX2_line_166 : decode cX2_line 166 = .ok (.invokevirtual 81, 3) := dk_182 0 81 (dk_at dksX2_line_7 7 rfl rfl)
theorem dX2_line_169 : decode cX2_line 169 = .ok (.istore_n 3, 1) := dk_62 (dk_at dksX2_line_7 10 rfl rfl)
theorem dX2_line_170 : decode cX2_line 170 = .ok (.iload_n 3, 1) := dk_29 (dk_at dksX2_line_7 11 rfl rfl)
theorem dX2_line_171 : decode cX2_line 171 = .ok (.ifCond .ne 9, 3) := dk_154 0 9 (dk_at dksX2_line_7 12 rfl rfl)
theorem dX2_line_174 : decode cX2_line 174 = .ok (.aload_n 0, 1) := dk_42 (dk_at dksX2_line_7 15 rfl rfl)
theorem dX2_line_175 : decode cX2_line 175 = .ok (.ldc 155, 2) := dk_18 155 (dk_at dksX2_line_7 16 rfl rfl)
theorem dX2_line_177 : decode cX2_line 177 = .ok (.invokevirtual 92, 3) := dk_182 0 92 (dk_at dksX2_line_7 18 rfl rfl)
theorem dX2_line_180 : decode cX2_line 180 = .ok (.aload_n 0, 1) := dk_42 (dk_at dksX2_line_7 21 rfl rfl)
theorem dX2_line_181 : decode cX2_line 181 = .ok (.iconst 0, 1) := dk_3 (dk_at dksX2_line_7 22 rfl rfl)
theorem dX2_line_182 : decode cX2_line 182 = .ok (.iconst 3, 1) := dk_6 (dk_at dksX2_line_7 23 rfl rfl)
theorem dX2_line_183 : decode cX2_line 183 = .ok (.invokevirtual 96, 3) := dk_182 0 96 (dk_at dksX2_line_8 0 rfl rfl)
theorem dX2_line_186 : decode cX2_line 186 = .ok (.istore 4, 2) := dk_54 4 (dk_at dksX2_line_8 3 rfl rfl)
theorem dX2_line_188 : decode cX2_line 188 = .ok (.aload_n 0, 1) := dk_42 (dk_at dksX2_line_8 5 rfl rfl)
theorem dX2_line_189 : decode cX2_line 189 = .ok (.getfield 49, 3) := dk_180 0 49 (dk_at dksX2_line_8 6 rfl rfl)
theorem dX2_line_192 : decode cX2_line 192 = .ok (.getfield 157, 3) := dk_180 0 157 (dk_at dksX2_line_8 9 rfl rfl)
theorem dX2_line_195 : decode cX2_line 195 = .ok (.iload_n 2, 1) := dk_28 (dk_at dksX2_line_8 12 rfl rfl)
theorem dX2_line_196 : decode cX2_line 196 = .ok (.iload_n 3, 1) := dk_29 (dk_at dksX2_line_8 13 rfl rfl)
theorem dX2_line_197 : decode cX2_line 197 = .ok (.ifCond .eq 9, 3) := dk_153 0 9 (dk_at dksX2_line_8 14 rfl rfl)
theorem dX2_line_200 : decode cX2_line 200 = .ok (.iload 4, 2) := dk_21 4 (dk_at dksX2_line_8 17 rfl rfl)
theorem dX2_line_202 : decode cX2_line 202 = .ok (.ineg, 1) := dk_116 (dk_at dksX2_line_8 19 rfl rfl)
theorem dX2_line_203 : decode cX2_line 203 = .ok (.goto 5, 3) := dk_167 0 5 (dk_at dksX2_line_8 20 rfl rfl)
theorem dX2_line_206 : decode cX2_line 206 = .ok (.iload 4, 2) := dk_21 4 (dk_at dksX2_line_9 0 rfl rfl)
theorem dX2_line_208 : decode cX2_line 208 = .ok (.iastore, 1) := dk_79 (dk_at dksX2_line_9 2 rfl rfl)
theorem dX2_line_209 : decode cX2_line 209 = .ok (.goto 23, 3) := dk_167 0 23 (dk_at dksX2_line_9 3 rfl rfl)
theorem dX2_line_212 : decode cX2_line 212 = .ok (.aload_n 0, 1) := dk_42 (dk_at dksX2_line_9 6 rfl rfl)
theorem dX2_line_213 : decode cX2_line 213 = .ok (.ldc 25, 2) := dk_18 25 (dk_at dksX2_line_9 7 rfl rfl)
theorem dX2_line_215 : decode cX2_line 215 = .ok (.invokevirtual 92, 3) := dk_182 0 92 (dk_at dksX2_line_9 9 rfl rfl)
theorem dX2_line_218 : decode cX2_line 218 = .ok (.aload_n 0, 1) := dk_42 (dk_at dksX2_line_9 12 rfl rfl)
theorem dX2_line_219 : decode cX2_line 219 = .ok (.getfield 49, 3) := dk_180 0 49 (dk_at dksX2_line_9 13 rfl rfl)
theorem dX2_line_222 : decode cX2_line 222 = .ok (.aload_n 0, 1) := dk_42 (dk_at dksX2_line_9 16 rfl rfl)
theorem dX2_line_223 : decode cX2_line 223 = .ok (.iconst 0, 1) := dk_3 (dk_at dksX2_line_9 17 rfl rfl)
theorem dX2_line_224 : decode cX2_line 224 = .ok (.bipush 23, 2) := dk_16 23 (dk_at dksX2_line_9 18 rfl rfl)
theorem dX2_line_226 : decode cX2_line 226 = .ok (.invokevirtual 96, 3) := dk_182 0 96 (dk_at dksX2_line_9 20 rfl rfl)
theorem dX2_line_229 : decode cX2_line 229 = .ok (.putfield 161, 3) := dk_181 0 161 (dk_at dksX2_line_10 0 rfl rfl)
theorem dX2_line_232 : decode cX2_line 232 = .ok (.return_, 1) := dk_177 (dk_at dksX2_line_10 3 rfl rfl)
abbrev cX2_takes : ByteArray := prog_10_method_6_code
def yX2_takes : MethodName := ⟨RX2, "takes", "(Ljava/lang/String;)Z"⟩
def dkwX2_takes_5 : List UInt8 := [153, 0, 8, 42, 29, 181, 0, 64, 21, 4, 172]
abbrev dktX2_takes_5 : List UInt8 := dkwX2_takes_5 ++ []
def dkwX2_takes_4 : List UInt8 := [21, 5, 182, 0, 77, 160, 0, 7, 4, 167, 0, 4, 3, 54, 4, 132, 5, 1, 167, 255, 211, 21, 4]
abbrev dktX2_takes_4 : List UInt8 := dkwX2_takes_4 ++ dktX2_takes_5
def dkwX2_takes_3 : List UInt8 := [182, 0, 74, 162, 0, 42, 21, 4, 153, 0, 37, 42, 180, 0, 9, 42, 180, 0, 64, 21, 5, 96, 51, 43]
abbrev dktX2_takes_3 : List UInt8 := dkwX2_takes_3 ++ dktX2_takes_4
def dkwX2_takes_2 : List UInt8 := [180, 0, 64, 100, 43, 182, 0, 74, 160, 0, 7, 4, 167, 0, 4, 3, 54, 4, 3, 54, 5, 21, 5, 43]
abbrev dktX2_takes_2 : List UInt8 := dkwX2_takes_2 ++ dktX2_takes_3
def dkwX2_takes_1 : List UInt8 := [16, 97, 161, 0, 20, 42, 180, 0, 9, 29, 51, 16, 122, 163, 0, 9, 132, 3, 1, 167, 255, 223, 29, 42]
abbrev dktX2_takes_1 : List UInt8 := dkwX2_takes_1 ++ dktX2_takes_2
def dkwX2_takes_0 : List UInt8 := [42, 182, 0, 70, 61, 42, 180, 0, 64, 62, 29, 42, 180, 0, 67, 162, 0, 31, 42, 180, 0, 9, 29, 51]
abbrev dktX2_takes_0 : List UInt8 := dkwX2_takes_0 ++ dktX2_takes_1
theorem dksX2_takes_0 : cX2_takes.data.toList.drop 0 = dktX2_takes_0 := by decide +kernel
theorem dksX2_takes_1 : cX2_takes.data.toList.drop 24 = dktX2_takes_1 := dk_seg dksX2_takes_0 24 rfl rfl
theorem dksX2_takes_2 : cX2_takes.data.toList.drop 48 = dktX2_takes_2 := dk_seg dksX2_takes_1 24 rfl rfl
theorem dksX2_takes_3 : cX2_takes.data.toList.drop 72 = dktX2_takes_3 := dk_seg dksX2_takes_2 24 rfl rfl
theorem dksX2_takes_4 : cX2_takes.data.toList.drop 96 = dktX2_takes_4 := dk_seg dksX2_takes_3 24 rfl rfl
theorem dksX2_takes_5 : cX2_takes.data.toList.drop 119 = dktX2_takes_5 := dk_seg dksX2_takes_4 23 rfl rfl
theorem dX2_takes_0 : decode cX2_takes 0 = .ok (.aload_n 0, 1) := dk_42 (dk_at dksX2_takes_0 0 rfl rfl)
theorem dX2_takes_1 : decode cX2_takes 1 = .ok (.invokevirtual 70, 3) := dk_182 0 70 (dk_at dksX2_takes_0 1 rfl rfl)
theorem dX2_takes_4 : decode cX2_takes 4 = .ok (.istore_n 2, 1) := dk_61 (dk_at dksX2_takes_0 4 rfl rfl)
theorem dX2_takes_5 : decode cX2_takes 5 = .ok (.aload_n 0, 1) := dk_42 (dk_at dksX2_takes_0 5 rfl rfl)
theorem dX2_takes_6 : decode cX2_takes 6 = .ok (.getfield 64, 3) := dk_180 0 64 (dk_at dksX2_takes_0 6 rfl rfl)
theorem dX2_takes_9 : decode cX2_takes 9 = .ok (.istore_n 3, 1) := dk_62 (dk_at dksX2_takes_0 9 rfl rfl)
theorem dX2_takes_10 : decode cX2_takes 10 = .ok (.iload_n 3, 1) := dk_29 (dk_at dksX2_takes_0 10 rfl rfl)
theorem dX2_takes_11 : decode cX2_takes 11 = .ok (.aload_n 0, 1) := dk_42 (dk_at dksX2_takes_0 11 rfl rfl)
theorem dX2_takes_12 : decode cX2_takes 12 = .ok (.getfield 67, 3) := dk_180 0 67 (dk_at dksX2_takes_0 12 rfl rfl)
theorem dX2_takes_15 : decode cX2_takes 15 = .ok (.if_icmp .ge 31, 3) := dk_162 0 31 (dk_at dksX2_takes_0 15 rfl rfl)
theorem dX2_takes_18 : decode cX2_takes 18 = .ok (.aload_n 0, 1) := dk_42 (dk_at dksX2_takes_0 18 rfl rfl)
theorem dX2_takes_19 : decode cX2_takes 19 = .ok (.getfield 9, 3) := dk_180 0 9 (dk_at dksX2_takes_0 19 rfl rfl)
theorem dX2_takes_22 : decode cX2_takes 22 = .ok (.iload_n 3, 1) := dk_29 (dk_at dksX2_takes_0 22 rfl rfl)
theorem dX2_takes_23 : decode cX2_takes 23 = .ok (.baload, 1) := dk_51 (dk_at dksX2_takes_0 23 rfl rfl)
theorem dX2_takes_24 : decode cX2_takes 24 = .ok (.bipush 97, 2) := dk_16 97 (dk_at dksX2_takes_1 0 rfl rfl)
theorem dX2_takes_26 : decode cX2_takes 26 = .ok (.if_icmp .lt 20, 3) := dk_161 0 20 (dk_at dksX2_takes_1 2 rfl rfl)
theorem dX2_takes_29 : decode cX2_takes 29 = .ok (.aload_n 0, 1) := dk_42 (dk_at dksX2_takes_1 5 rfl rfl)
theorem dX2_takes_30 : decode cX2_takes 30 = .ok (.getfield 9, 3) := dk_180 0 9 (dk_at dksX2_takes_1 6 rfl rfl)
theorem dX2_takes_33 : decode cX2_takes 33 = .ok (.iload_n 3, 1) := dk_29 (dk_at dksX2_takes_1 9 rfl rfl)
theorem dX2_takes_34 : decode cX2_takes 34 = .ok (.baload, 1) := dk_51 (dk_at dksX2_takes_1 10 rfl rfl)
theorem dX2_takes_35 : decode cX2_takes 35 = .ok (.bipush 122, 2) := dk_16 122 (dk_at dksX2_takes_1 11 rfl rfl)
theorem dX2_takes_37 : decode cX2_takes 37 = .ok (.if_icmp .gt 9, 3) := dk_163 0 9 (dk_at dksX2_takes_1 13 rfl rfl)
theorem dX2_takes_40 : decode cX2_takes 40 = .ok (.iinc 3 1, 3) := dk_132 3 1 (dk_at dksX2_takes_1 16 rfl rfl)
theorem dX2_takes_43 : decode cX2_takes 43 = .ok (.goto (-33), 3) := dk_167 255 223 (dk_at dksX2_takes_1 19 rfl rfl)
theorem dX2_takes_46 : decode cX2_takes 46 = .ok (.iload_n 3, 1) := dk_29 (dk_at dksX2_takes_1 22 rfl rfl)
theorem dX2_takes_47 : decode cX2_takes 47 = .ok (.aload_n 0, 1) := dk_42 (dk_at dksX2_takes_1 23 rfl rfl)
theorem dX2_takes_48 : decode cX2_takes 48 = .ok (.getfield 64, 3) := dk_180 0 64 (dk_at dksX2_takes_2 0 rfl rfl)
theorem dX2_takes_51 : decode cX2_takes 51 = .ok (.isub, 1) := dk_100 (dk_at dksX2_takes_2 3 rfl rfl)
theorem dX2_takes_52 : decode cX2_takes 52 = .ok (.aload_n 1, 1) := dk_43 (dk_at dksX2_takes_2 4 rfl rfl)
theorem dX2_takes_53 : decode cX2_takes 53 = .ok (.invokevirtual 74, 3) := dk_182 0 74 (dk_at dksX2_takes_2 5 rfl rfl)
theorem dX2_takes_56 : decode cX2_takes 56 = .ok (.if_icmp .ne 7, 3) := dk_160 0 7 (dk_at dksX2_takes_2 8 rfl rfl)
theorem dX2_takes_59 : decode cX2_takes 59 = .ok (.iconst 1, 1) := dk_4 (dk_at dksX2_takes_2 11 rfl rfl)
theorem dX2_takes_60 : decode cX2_takes 60 = .ok (.goto 4, 3) := dk_167 0 4 (dk_at dksX2_takes_2 12 rfl rfl)
theorem dX2_takes_63 : decode cX2_takes 63 = .ok (.iconst 0, 1) := dk_3 (dk_at dksX2_takes_2 15 rfl rfl)
theorem dX2_takes_64 : decode cX2_takes 64 = .ok (.istore 4, 2) := dk_54 4 (dk_at dksX2_takes_2 16 rfl rfl)
theorem dX2_takes_66 : decode cX2_takes 66 = .ok (.iconst 0, 1) := dk_3 (dk_at dksX2_takes_2 18 rfl rfl)
theorem dX2_takes_67 : decode cX2_takes 67 = .ok (.istore 5, 2) := dk_54 5 (dk_at dksX2_takes_2 19 rfl rfl)
theorem dX2_takes_69 : decode cX2_takes 69 = .ok (.iload 5, 2) := dk_21 5 (dk_at dksX2_takes_2 21 rfl rfl)
theorem dX2_takes_71 : decode cX2_takes 71 = .ok (.aload_n 1, 1) := dk_43 (dk_at dksX2_takes_2 23 rfl rfl)
theorem dX2_takes_72 : decode cX2_takes 72 = .ok (.invokevirtual 74, 3) := dk_182 0 74 (dk_at dksX2_takes_3 0 rfl rfl)
theorem dX2_takes_75 : decode cX2_takes 75 = .ok (.if_icmp .ge 42, 3) := dk_162 0 42 (dk_at dksX2_takes_3 3 rfl rfl)
theorem dX2_takes_78 : decode cX2_takes 78 = .ok (.iload 4, 2) := dk_21 4 (dk_at dksX2_takes_3 6 rfl rfl)
theorem dX2_takes_80 : decode cX2_takes 80 = .ok (.ifCond .eq 37, 3) := dk_153 0 37 (dk_at dksX2_takes_3 8 rfl rfl)
theorem dX2_takes_83 : decode cX2_takes 83 = .ok (.aload_n 0, 1) := dk_42 (dk_at dksX2_takes_3 11 rfl rfl)
theorem dX2_takes_84 : decode cX2_takes 84 = .ok (.getfield 9, 3) := dk_180 0 9 (dk_at dksX2_takes_3 12 rfl rfl)
theorem dX2_takes_87 : decode cX2_takes 87 = .ok (.aload_n 0, 1) := dk_42 (dk_at dksX2_takes_3 15 rfl rfl)
theorem dX2_takes_88 : decode cX2_takes 88 = .ok (.getfield 64, 3) := dk_180 0 64 (dk_at dksX2_takes_3 16 rfl rfl)
theorem dX2_takes_91 : decode cX2_takes 91 = .ok (.iload 5, 2) := dk_21 5 (dk_at dksX2_takes_3 19 rfl rfl)
theorem dX2_takes_93 : decode cX2_takes 93 = .ok (.iadd, 1) := dk_96 (dk_at dksX2_takes_3 21 rfl rfl)
theorem dX2_takes_94 : decode cX2_takes 94 = .ok (.baload, 1) := dk_51 (dk_at dksX2_takes_3 22 rfl rfl)
theorem dX2_takes_95 : decode cX2_takes 95 = .ok (.aload_n 1, 1) := dk_43 (dk_at dksX2_takes_3 23 rfl rfl)
theorem dX2_takes_96 : decode cX2_takes 96 = .ok (.iload 5, 2) := dk_21 5 (dk_at dksX2_takes_4 0 rfl rfl)
theorem dX2_takes_98 : decode cX2_takes 98 = .ok (.invokevirtual 77, 3) := dk_182 0 77 (dk_at dksX2_takes_4 2 rfl rfl)
theorem dX2_takes_101 : decode cX2_takes 101 = .ok (.if_icmp .ne 7, 3) := dk_160 0 7 (dk_at dksX2_takes_4 5 rfl rfl)
theorem dX2_takes_104 : decode cX2_takes 104 = .ok (.iconst 1, 1) := dk_4 (dk_at dksX2_takes_4 8 rfl rfl)
theorem dX2_takes_105 : decode cX2_takes 105 = .ok (.goto 4, 3) := dk_167 0 4 (dk_at dksX2_takes_4 9 rfl rfl)
theorem dX2_takes_108 : decode cX2_takes 108 = .ok (.iconst 0, 1) := dk_3 (dk_at dksX2_takes_4 12 rfl rfl)
theorem dX2_takes_109 : decode cX2_takes 109 = .ok (.istore 4, 2) := dk_54 4 (dk_at dksX2_takes_4 13 rfl rfl)
theorem dX2_takes_111 : decode cX2_takes 111 = .ok (.iinc 5 1, 3) := dk_132 5 1 (dk_at dksX2_takes_4 15 rfl rfl)
theorem dX2_takes_114 : decode cX2_takes 114 = .ok (.goto (-45), 3) := dk_167 255 211 (dk_at dksX2_takes_4 18 rfl rfl)
theorem dX2_takes_117 : decode cX2_takes 117 = .ok (.iload 4, 2) := dk_21 4 (dk_at dksX2_takes_4 21 rfl rfl)
theorem dX2_takes_119 : decode cX2_takes 119 = .ok (.ifCond .eq 8, 3) := dk_153 0 8 (dk_at dksX2_takes_5 0 rfl rfl)
theorem dX2_takes_122 : decode cX2_takes 122 = .ok (.aload_n 0, 1) := dk_42 (dk_at dksX2_takes_5 3 rfl rfl)
theorem dX2_takes_123 : decode cX2_takes 123 = .ok (.iload_n 3, 1) := dk_29 (dk_at dksX2_takes_5 4 rfl rfl)
theorem dX2_takes_124 : decode cX2_takes 124 = .ok (.putfield 64, 3) := dk_181 0 64 (dk_at dksX2_takes_5 5 rfl rfl)
theorem dX2_takes_127 : decode cX2_takes 127 = .ok (.iload 4, 2) := dk_21 4 (dk_at dksX2_takes_5 8 rfl rfl)
theorem dX2_takes_129 : decode cX2_takes 129 = .ok (.ireturn, 1) := dk_172 (dk_at dksX2_takes_5 10 rfl rfl)
abbrev cX2_addBird : ByteArray := prog_10_method_15_code
def yX2_addBird : MethodName := ⟨RX2, "addBird", "(I)V"⟩
def dkwX2_addBird_5 : List UInt8 := [167, 255, 227, 42, 180, 0, 49, 89, 180, 0, 163, 4, 96, 181, 0, 163, 177]
abbrev dktX2_addBird_5 : List UInt8 := dkwX2_addBird_5 ++ []
def dkwX2_addBird_4 : List UInt8 := [180, 0, 49, 180, 0, 190, 16, 6, 29, 104, 42, 180, 0, 49, 180, 0, 163, 96, 3, 79, 132, 3, 1]
abbrev dktX2_addBird_4 : List UInt8 := dkwX2_addBird_4 ++ dktX2_addBird_5
def dkwX2_addBird_3 : List UInt8 := [181, 0, 184, 44, 42, 18, 186, 3, 8, 182, 0, 136, 181, 0, 188, 3, 62, 29, 7, 162, 0, 30, 42]
abbrev dktX2_addBird_3 : List UInt8 := dkwX2_addBird_3 ++ dktX2_addBird_4
def dkwX2_addBird_2 : List UInt8 := [18, 23, 3, 6, 182, 0, 136, 181, 0, 176, 42, 18, 178, 182, 0, 92, 44, 42, 16, 6, 182, 0, 180]
abbrev dktX2_addBird_2 : List UInt8 := dkwX2_addBird_2 ++ dktX2_addBird_3
def dkwX2_addBird_1 : List UInt8 := [42, 180, 0, 49, 180, 0, 163, 50, 77, 44, 42, 18, 170, 3, 7, 182, 0, 136, 181, 0, 172, 44, 42]
abbrev dktX2_addBird_1 : List UInt8 := dkwX2_addBird_1 ++ dktX2_addBird_2
def dkwX2_addBird_0 : List UInt8 := [42, 180, 0, 49, 180, 0, 163, 16, 6, 160, 0, 8, 42, 27, 182, 0, 85, 42, 180, 0, 49, 180, 0, 166]
abbrev dktX2_addBird_0 : List UInt8 := dkwX2_addBird_0 ++ dktX2_addBird_1
theorem dksX2_addBird_0 : cX2_addBird.data.toList.drop 0 = dktX2_addBird_0 := by decide +kernel
theorem dksX2_addBird_1 : cX2_addBird.data.toList.drop 24 = dktX2_addBird_1 := dk_seg dksX2_addBird_0 24 rfl rfl
theorem dksX2_addBird_2 : cX2_addBird.data.toList.drop 47 = dktX2_addBird_2 := dk_seg dksX2_addBird_1 23 rfl rfl
theorem dksX2_addBird_3 : cX2_addBird.data.toList.drop 70 = dktX2_addBird_3 := dk_seg dksX2_addBird_2 23 rfl rfl
theorem dksX2_addBird_4 : cX2_addBird.data.toList.drop 93 = dktX2_addBird_4 := dk_seg dksX2_addBird_3 23 rfl rfl
theorem dksX2_addBird_5 : cX2_addBird.data.toList.drop 116 = dktX2_addBird_5 := dk_seg dksX2_addBird_4 23 rfl rfl
theorem dX2_addBird_0 : decode cX2_addBird 0 = .ok (.aload_n 0, 1) := dk_42 (dk_at dksX2_addBird_0 0 rfl rfl)
theorem dX2_addBird_1 : decode cX2_addBird 1 = .ok (.getfield 49, 3) := dk_180 0 49 (dk_at dksX2_addBird_0 1 rfl rfl)
theorem dX2_addBird_4 : decode cX2_addBird 4 = .ok (.getfield 163, 3) := dk_180 0 163 (dk_at dksX2_addBird_0 4 rfl rfl)
theorem dX2_addBird_7 : decode cX2_addBird 7 = .ok (.bipush 6, 2) := dk_16 6 (dk_at dksX2_addBird_0 7 rfl rfl)
theorem dX2_addBird_9 : decode cX2_addBird 9 = .ok (.if_icmp .ne 8, 3) := dk_160 0 8 (dk_at dksX2_addBird_0 9 rfl rfl)
theorem dX2_addBird_12 : decode cX2_addBird 12 = .ok (.aload_n 0, 1) := dk_42 (dk_at dksX2_addBird_0 12 rfl rfl)
theorem dX2_addBird_13 : decode cX2_addBird 13 = .ok (.iload_n 1, 1) := dk_27 (dk_at dksX2_addBird_0 13 rfl rfl)
theorem dX2_addBird_14 : decode cX2_addBird 14 = .ok (.invokevirtual 85, 3) := dk_182 0 85 (dk_at dksX2_addBird_0 14 rfl rfl)
theorem dX2_addBird_17 : decode cX2_addBird 17 = .ok (.aload_n 0, 1) := dk_42 (dk_at dksX2_addBird_0 17 rfl rfl)
theorem dX2_addBird_18 : decode cX2_addBird 18 = .ok (.getfield 49, 3) := dk_180 0 49 (dk_at dksX2_addBird_0 18 rfl rfl)
theorem dX2_addBird_21 : decode cX2_addBird 21 = .ok (.getfield 166, 3) := dk_180 0 166 (dk_at dksX2_addBird_0 21 rfl rfl)
theorem dX2_addBird_24 : decode cX2_addBird 24 = .ok (.aload_n 0, 1) := dk_42 (dk_at dksX2_addBird_1 0 rfl rfl)
theorem dX2_addBird_25 : decode cX2_addBird 25 = .ok (.getfield 49, 3) := dk_180 0 49 (dk_at dksX2_addBird_1 1 rfl rfl)
theorem dX2_addBird_28 : decode cX2_addBird 28 = .ok (.getfield 163, 3) := dk_180 0 163 (dk_at dksX2_addBird_1 4 rfl rfl)
theorem dX2_addBird_31 : decode cX2_addBird 31 = .ok (.aaload, 1) := dk_50 (dk_at dksX2_addBird_1 7 rfl rfl)
theorem dX2_addBird_32 : decode cX2_addBird 32 = .ok (.astore_n 2, 1) := dk_77 (dk_at dksX2_addBird_1 8 rfl rfl)
theorem dX2_addBird_33 : decode cX2_addBird 33 = .ok (.aload_n 2, 1) := dk_44 (dk_at dksX2_addBird_1 9 rfl rfl)
theorem dX2_addBird_34 : decode cX2_addBird 34 = .ok (.aload_n 0, 1) := dk_42 (dk_at dksX2_addBird_1 10 rfl rfl)
theorem dX2_addBird_35 : decode cX2_addBird 35 = .ok (.ldc 170, 2) := dk_18 170 (dk_at dksX2_addBird_1 11 rfl rfl)
theorem dX2_addBird_37 : decode cX2_addBird 37 = .ok (.iconst 0, 1) := dk_3 (dk_at dksX2_addBird_1 13 rfl rfl)
theorem dX2_addBird_38 : decode cX2_addBird 38 = .ok (.iconst 4, 1) := dk_7 (dk_at dksX2_addBird_1 14 rfl rfl)
theorem dX2_addBird_39 : decode cX2_addBird 39 = .ok (.invokevirtual 136, 3) := dk_182 0 136 (dk_at dksX2_addBird_1 15 rfl rfl)
theorem dX2_addBird_42 : decode cX2_addBird 42 = .ok (.putfield 172, 3) := dk_181 0 172 (dk_at dksX2_addBird_1 18 rfl rfl)
theorem dX2_addBird_45 : decode cX2_addBird 45 = .ok (.aload_n 2, 1) := dk_44 (dk_at dksX2_addBird_1 21 rfl rfl)
theorem dX2_addBird_46 : decode cX2_addBird 46 = .ok (.aload_n 0, 1) := dk_42 (dk_at dksX2_addBird_1 22 rfl rfl)
theorem dX2_addBird_47 : decode cX2_addBird 47 = .ok (.ldc 23, 2) := dk_18 23 (dk_at dksX2_addBird_2 0 rfl rfl)
theorem dX2_addBird_49 : decode cX2_addBird 49 = .ok (.iconst 0, 1) := dk_3 (dk_at dksX2_addBird_2 2 rfl rfl)
theorem dX2_addBird_50 : decode cX2_addBird 50 = .ok (.iconst 3, 1) := dk_6 (dk_at dksX2_addBird_2 3 rfl rfl)
theorem dX2_addBird_51 : decode cX2_addBird 51 = .ok (.invokevirtual 136, 3) := dk_182 0 136 (dk_at dksX2_addBird_2 4 rfl rfl)
theorem dX2_addBird_54 : decode cX2_addBird 54 = .ok (.putfield 176, 3) := dk_181 0 176 (dk_at dksX2_addBird_2 7 rfl rfl)
theorem dX2_addBird_57 : decode cX2_addBird 57 = .ok (.aload_n 0, 1) := dk_42 (dk_at dksX2_addBird_2 10 rfl rfl)
theorem dX2_addBird_58 : decode cX2_addBird 58 = .ok (.ldc 178, 2) := dk_18 178 (dk_at dksX2_addBird_2 11 rfl rfl)
theorem dX2_addBird_60 : decode cX2_addBird 60 = .ok (.invokevirtual 92, 3) := dk_182 0 92 (dk_at dksX2_addBird_2 13 rfl rfl)
theorem dX2_addBird_63 : decode cX2_addBird 63 = .ok (.aload_n 2, 1) := dk_44 (dk_at dksX2_addBird_2 16 rfl rfl)
theorem dX2_addBird_64 : decode cX2_addBird 64 = .ok (.aload_n 0, 1) := dk_42 (dk_at dksX2_addBird_2 17 rfl rfl)
theorem dX2_addBird_65 : decode cX2_addBird 65 = .ok (.bipush 6, 2) := dk_16 6 (dk_at dksX2_addBird_2 18 rfl rfl)
theorem dX2_addBird_67 : decode cX2_addBird 67 = .ok (.invokevirtual 180, 3) := dk_182 0 180 (dk_at dksX2_addBird_2 20 rfl rfl)
theorem dX2_addBird_70 : decode cX2_addBird 70 = .ok (.putfield 184, 3) := dk_181 0 184 (dk_at dksX2_addBird_3 0 rfl rfl)
theorem dX2_addBird_73 : decode cX2_addBird 73 = .ok (.aload_n 2, 1) := dk_44 (dk_at dksX2_addBird_3 3 rfl rfl)
theorem dX2_addBird_74 : decode cX2_addBird 74 = .ok (.aload_n 0, 1) := dk_42 (dk_at dksX2_addBird_3 4 rfl rfl)
theorem dX2_addBird_75 : decode cX2_addBird 75 = .ok (.ldc 186, 2) := dk_18 186 (dk_at dksX2_addBird_3 5 rfl rfl)
theorem dX2_addBird_77 : decode cX2_addBird 77 = .ok (.iconst 0, 1) := dk_3 (dk_at dksX2_addBird_3 7 rfl rfl)
theorem dX2_addBird_78 : decode cX2_addBird 78 = .ok (.iconst 5, 1) := dk_8 (dk_at dksX2_addBird_3 8 rfl rfl)
theorem dX2_addBird_79 : decode cX2_addBird 79 = .ok (.invokevirtual 136, 3) := dk_182 0 136 (dk_at dksX2_addBird_3 9 rfl rfl)
theorem dX2_addBird_82 : decode cX2_addBird 82 = .ok (.putfield 188, 3) := dk_181 0 188 (dk_at dksX2_addBird_3 12 rfl rfl)
theorem dX2_addBird_85 : decode cX2_addBird 85 = .ok (.iconst 0, 1) := dk_3 (dk_at dksX2_addBird_3 15 rfl rfl)
theorem dX2_addBird_86 : decode cX2_addBird 86 = .ok (.istore_n 3, 1) := dk_62 (dk_at dksX2_addBird_3 16 rfl rfl)
theorem dX2_addBird_87 : decode cX2_addBird 87 = .ok (.iload_n 3, 1) := dk_29 (dk_at dksX2_addBird_3 17 rfl rfl)
theorem dX2_addBird_88 : decode cX2_addBird 88 = .ok (.iconst 4, 1) := dk_7 (dk_at dksX2_addBird_3 18 rfl rfl)
theorem dX2_addBird_89 : decode cX2_addBird 89 = .ok (.if_icmp .ge 30, 3) := dk_162 0 30 (dk_at dksX2_addBird_3 19 rfl rfl)
theorem dX2_addBird_92 : decode cX2_addBird 92 = .ok (.aload_n 0, 1) := dk_42 (dk_at dksX2_addBird_3 22 rfl rfl)
theorem dX2_addBird_93 : decode cX2_addBird 93 = .ok (.getfield 49, 3) := dk_180 0 49 (dk_at dksX2_addBird_4 0 rfl rfl)
theorem dX2_addBird_96 : decode cX2_addBird 96 = .ok (.getfield 190, 3) := dk_180 0 190 (dk_at dksX2_addBird_4 3 rfl rfl)
theorem dX2_addBird_99 : decode cX2_addBird 99 = .ok (.bipush 6, 2) := dk_16 6 (dk_at dksX2_addBird_4 6 rfl rfl)
theorem dX2_addBird_101 : decode cX2_addBird 101 = .ok (.iload_n 3, 1) := dk_29 (dk_at dksX2_addBird_4 8 rfl rfl)
theorem dX2_addBird_102 : decode cX2_addBird 102 = .ok (.imul, 1) := dk_104 (dk_at dksX2_addBird_4 9 rfl rfl)
theorem dX2_addBird_103 : decode cX2_addBird 103 = .ok (.aload_n 0, 1) := dk_42 (dk_at dksX2_addBird_4 10 rfl rfl)
theorem dX2_addBird_104 : decode cX2_addBird 104 = .ok (.getfield 49, 3) := dk_180 0 49 (dk_at dksX2_addBird_4 11 rfl rfl)
theorem dX2_addBird_107 : decode cX2_addBird 107 = .ok (.getfield 163, 3) := dk_180 0 163 (dk_at dksX2_addBird_4 14 rfl rfl)
theorem dX2_addBird_110 : decode cX2_addBird 110 = .ok (.iadd, 1) := dk_96 (dk_at dksX2_addBird_4 17 rfl rfl)
theorem dX2_addBird_111 : decode cX2_addBird 111 = .ok (.iconst 0, 1) := dk_3 (dk_at dksX2_addBird_4 18 rfl rfl)
theorem dX2_addBird_112 : decode cX2_addBird 112 = .ok (.iastore, 1) := dk_79 (dk_at dksX2_addBird_4 19 rfl rfl)
theorem dX2_addBird_113 : decode cX2_addBird 113 = .ok (.iinc 3 1, 3) := dk_132 3 1 (dk_at dksX2_addBird_4 20 rfl rfl)
theorem dX2_addBird_116 : decode cX2_addBird 116 = .ok (.goto (-29), 3) := dk_167 255 227 (dk_at dksX2_addBird_5 0 rfl rfl)
theorem dX2_addBird_119 : decode cX2_addBird 119 = .ok (.aload_n 0, 1) := dk_42 (dk_at dksX2_addBird_5 3 rfl rfl)
theorem dX2_addBird_120 : decode cX2_addBird 120 = .ok (.getfield 49, 3) := dk_180 0 49 (dk_at dksX2_addBird_5 4 rfl rfl)
theorem dX2_addBird_123 : decode cX2_addBird 123 = .ok (.dup, 1) := dk_89 (dk_at dksX2_addBird_5 7 rfl rfl)
theorem dX2_addBird_124 : decode cX2_addBird 124 = .ok (.getfield 163, 3) := dk_180 0 163 (dk_at dksX2_addBird_5 8 rfl rfl)
theorem dX2_addBird_127 : decode cX2_addBird 127 = .ok (.iconst 1, 1) := dk_4 (dk_at dksX2_addBird_5 11 rfl rfl)
theorem dX2_addBird_128 : decode cX2_addBird 128 = .ok (.iadd, 1) := dk_96 (dk_at dksX2_addBird_5 12 rfl rfl)
theorem dX2_addBird_129 : decode cX2_addBird 129 = .ok (.putfield 163, 3) := dk_181 0 163 (dk_at dksX2_addBird_5 13 rfl rfl)
theorem dX2_addBird_132 : decode cX2_addBird 132 = .ok (.return_, 1) := dk_177 (dk_at dksX2_addBird_5 16 rfl rfl)
abbrev cX2_after : ByteArray := prog_10_method_9_code
def yX2_after : MethodName := ⟨RX2, "after", "(Ljava/lang/String;II)I"⟩
def dkwX2_after_0 : List UInt8 := [42, 43, 182, 0, 92, 42, 28, 29, 182, 0, 96, 172]
abbrev dktX2_after_0 : List UInt8 := dkwX2_after_0 ++ []
theorem dksX2_after_0 : cX2_after.data.toList.drop 0 = dktX2_after_0 := by decide +kernel
theorem dX2_after_0 : decode cX2_after 0 = .ok (.aload_n 0, 1) := dk_42 (dk_at dksX2_after_0 0 rfl rfl)
theorem dX2_after_1 : decode cX2_after 1 = .ok (.aload_n 1, 1) := dk_43 (dk_at dksX2_after_0 1 rfl rfl)
theorem dX2_after_2 : decode cX2_after 2 = .ok (.invokevirtual 92, 3) := dk_182 0 92 (dk_at dksX2_after_0 2 rfl rfl)
theorem dX2_after_5 : decode cX2_after 5 = .ok (.aload_n 0, 1) := dk_42 (dk_at dksX2_after_0 5 rfl rfl)
theorem dX2_after_6 : decode cX2_after 6 = .ok (.iload_n 2, 1) := dk_28 (dk_at dksX2_after_0 6 rfl rfl)
theorem dX2_after_7 : decode cX2_after 7 = .ok (.iload_n 3, 1) := dk_29 (dk_at dksX2_after_0 7 rfl rfl)
theorem dX2_after_8 : decode cX2_after 8 = .ok (.invokevirtual 96, 3) := dk_182 0 96 (dk_at dksX2_after_0 8 rfl rfl)
theorem dX2_after_11 : decode cX2_after 11 = .ok (.ireturn, 1) := dk_172 (dk_at dksX2_after_0 11 rfl rfl)
abbrev cX2_expect : ByteArray := prog_10_method_7_code
def yX2_expect : MethodName := ⟨RX2, "expect", "(Ljava/lang/String;)V"⟩
def dkwX2_expect_0 : List UInt8 := [42, 43, 182, 0, 81, 154, 0, 11, 42, 42, 180, 0, 64, 182, 0, 85, 177]
abbrev dktX2_expect_0 : List UInt8 := dkwX2_expect_0 ++ []
theorem dksX2_expect_0 : cX2_expect.data.toList.drop 0 = dktX2_expect_0 := by decide +kernel
theorem dX2_expect_0 : decode cX2_expect 0 = .ok (.aload_n 0, 1) := dk_42 (dk_at dksX2_expect_0 0 rfl rfl)
theorem dX2_expect_1 : decode cX2_expect 1 = .ok (.aload_n 1, 1) := dk_43 (dk_at dksX2_expect_0 1 rfl rfl)
theorem dX2_expect_2 : decode cX2_expect 2 = .ok (.invokevirtual 81, 3) := dk_182 0 81 (dk_at dksX2_expect_0 2 rfl rfl)
theorem dX2_expect_5 : decode cX2_expect 5 = .ok (.ifCond .ne 11, 3) := dk_154 0 11 (dk_at dksX2_expect_0 5 rfl rfl)
theorem dX2_expect_8 : decode cX2_expect 8 = .ok (.aload_n 0, 1) := dk_42 (dk_at dksX2_expect_0 8 rfl rfl)
theorem dX2_expect_9 : decode cX2_expect 9 = .ok (.aload_n 0, 1) := dk_42 (dk_at dksX2_expect_0 9 rfl rfl)
theorem dX2_expect_10 : decode cX2_expect 10 = .ok (.getfield 64, 3) := dk_180 0 64 (dk_at dksX2_expect_0 10 rfl rfl)
theorem dX2_expect_13 : decode cX2_expect 13 = .ok (.invokevirtual 85, 3) := dk_182 0 85 (dk_at dksX2_expect_0 13 rfl rfl)
theorem dX2_expect_16 : decode cX2_expect 16 = .ok (.return_, 1) := dk_177 (dk_at dksX2_expect_0 16 rfl rfl)
abbrev cX2_number : ByteArray := prog_10_method_8_code
def yX2_number : MethodName := ⟨RX2, "number", "(II)I"⟩
def dkwX2_number_5 : List UInt8 := [21, 4, 172]
abbrev dktX2_number_5 : List UInt8 := dkwX2_number_5 ++ []
def dkwX2_number_4 : List UInt8 := [180, 0, 64, 29, 159, 0, 15, 21, 4, 27, 161, 0, 9, 21, 4, 28, 164, 0, 8, 42, 29, 182, 0, 85]
abbrev dktX2_number_4 : List UInt8 := dkwX2_number_4 ++ dktX2_number_5
def dkwX2_number_3 : List UInt8 := [180, 0, 64, 51, 96, 16, 48, 100, 54, 4, 42, 89, 180, 0, 64, 4, 96, 181, 0, 64, 167, 255, 172, 42]
abbrev dktX2_number_3 : List UInt8 := dkwX2_number_3 ++ dktX2_number_4
def dkwX2_number_2 : List UInt8 := [180, 0, 64, 29, 100, 6, 160, 0, 8, 42, 29, 182, 0, 85, 16, 10, 21, 4, 104, 42, 180, 0, 9, 42]
abbrev dktX2_number_2 : List UInt8 := dkwX2_number_2 ++ dktX2_number_3
def dkwX2_number_1 : List UInt8 := [180, 0, 64, 51, 16, 48, 161, 0, 65, 42, 180, 0, 9, 42, 180, 0, 64, 51, 16, 57, 163, 0, 51, 42]
abbrev dktX2_number_1 : List UInt8 := dkwX2_number_1 ++ dktX2_number_2
def dkwX2_number_0 : List UInt8 := [42, 182, 0, 89, 62, 3, 54, 4, 42, 180, 0, 64, 42, 180, 0, 67, 162, 0, 79, 42, 180, 0, 9, 42]
abbrev dktX2_number_0 : List UInt8 := dkwX2_number_0 ++ dktX2_number_1
theorem dksX2_number_0 : cX2_number.data.toList.drop 0 = dktX2_number_0 := by decide +kernel
theorem dksX2_number_1 : cX2_number.data.toList.drop 24 = dktX2_number_1 := dk_seg dksX2_number_0 24 rfl rfl
theorem dksX2_number_2 : cX2_number.data.toList.drop 48 = dktX2_number_2 := dk_seg dksX2_number_1 24 rfl rfl
theorem dksX2_number_3 : cX2_number.data.toList.drop 72 = dktX2_number_3 := dk_seg dksX2_number_2 24 rfl rfl
theorem dksX2_number_4 : cX2_number.data.toList.drop 96 = dktX2_number_4 := dk_seg dksX2_number_3 24 rfl rfl
theorem dksX2_number_5 : cX2_number.data.toList.drop 120 = dktX2_number_5 := dk_seg dksX2_number_4 24 rfl rfl
theorem dX2_number_0 : decode cX2_number 0 = .ok (.aload_n 0, 1) := dk_42 (dk_at dksX2_number_0 0 rfl rfl)
theorem dX2_number_1 : decode cX2_number 1 = .ok (.invokevirtual 89, 3) := dk_182 0 89 (dk_at dksX2_number_0 1 rfl rfl)
theorem dX2_number_4 : decode cX2_number 4 = .ok (.istore_n 3, 1) := dk_62 (dk_at dksX2_number_0 4 rfl rfl)
theorem dX2_number_5 : decode cX2_number 5 = .ok (.iconst 0, 1) := dk_3 (dk_at dksX2_number_0 5 rfl rfl)
theorem dX2_number_6 : decode cX2_number 6 = .ok (.istore 4, 2) := dk_54 4 (dk_at dksX2_number_0 6 rfl rfl)
theorem dX2_number_8 : decode cX2_number 8 = .ok (.aload_n 0, 1) := dk_42 (dk_at dksX2_number_0 8 rfl rfl)
theorem dX2_number_9 : decode cX2_number 9 = .ok (.getfield 64, 3) := dk_180 0 64 (dk_at dksX2_number_0 9 rfl rfl)
theorem dX2_number_12 : decode cX2_number 12 = .ok (.aload_n 0, 1) := dk_42 (dk_at dksX2_number_0 12 rfl rfl)
theorem dX2_number_13 : decode cX2_number 13 = .ok (.getfield 67, 3) := dk_180 0 67 (dk_at dksX2_number_0 13 rfl rfl)
theorem dX2_number_16 : decode cX2_number 16 = .ok (.if_icmp .ge 79, 3) := dk_162 0 79 (dk_at dksX2_number_0 16 rfl rfl)
theorem dX2_number_19 : decode cX2_number 19 = .ok (.aload_n 0, 1) := dk_42 (dk_at dksX2_number_0 19 rfl rfl)
theorem dX2_number_20 : decode cX2_number 20 = .ok (.getfield 9, 3) := dk_180 0 9 (dk_at dksX2_number_0 20 rfl rfl)
theorem dX2_number_23 : decode cX2_number 23 = .ok (.aload_n 0, 1) := dk_42 (dk_at dksX2_number_0 23 rfl rfl)
theorem dX2_number_24 : decode cX2_number 24 = .ok (.getfield 64, 3) := dk_180 0 64 (dk_at dksX2_number_1 0 rfl rfl)
theorem dX2_number_27 : decode cX2_number 27 = .ok (.baload, 1) := dk_51 (dk_at dksX2_number_1 3 rfl rfl)
theorem dX2_number_28 : decode cX2_number 28 = .ok (.bipush 48, 2) := dk_16 48 (dk_at dksX2_number_1 4 rfl rfl)
theorem dX2_number_30 : decode cX2_number 30 = .ok (.if_icmp .lt 65, 3) := dk_161 0 65 (dk_at dksX2_number_1 6 rfl rfl)
theorem dX2_number_33 : decode cX2_number 33 = .ok (.aload_n 0, 1) := dk_42 (dk_at dksX2_number_1 9 rfl rfl)
theorem dX2_number_34 : decode cX2_number 34 = .ok (.getfield 9, 3) := dk_180 0 9 (dk_at dksX2_number_1 10 rfl rfl)
theorem dX2_number_37 : decode cX2_number 37 = .ok (.aload_n 0, 1) := dk_42 (dk_at dksX2_number_1 13 rfl rfl)
theorem dX2_number_38 : decode cX2_number 38 = .ok (.getfield 64, 3) := dk_180 0 64 (dk_at dksX2_number_1 14 rfl rfl)
theorem dX2_number_41 : decode cX2_number 41 = .ok (.baload, 1) := dk_51 (dk_at dksX2_number_1 17 rfl rfl)
theorem dX2_number_42 : decode cX2_number 42 = .ok (.bipush 57, 2) := dk_16 57 (dk_at dksX2_number_1 18 rfl rfl)
theorem dX2_number_44 : decode cX2_number 44 = .ok (.if_icmp .gt 51, 3) := dk_163 0 51 (dk_at dksX2_number_1 20 rfl rfl)
theorem dX2_number_47 : decode cX2_number 47 = .ok (.aload_n 0, 1) := dk_42 (dk_at dksX2_number_1 23 rfl rfl)
theorem dX2_number_48 : decode cX2_number 48 = .ok (.getfield 64, 3) := dk_180 0 64 (dk_at dksX2_number_2 0 rfl rfl)
theorem dX2_number_51 : decode cX2_number 51 = .ok (.iload_n 3, 1) := dk_29 (dk_at dksX2_number_2 3 rfl rfl)
theorem dX2_number_52 : decode cX2_number 52 = .ok (.isub, 1) := dk_100 (dk_at dksX2_number_2 4 rfl rfl)
theorem dX2_number_53 : decode cX2_number 53 = .ok (.iconst 3, 1) := dk_6 (dk_at dksX2_number_2 5 rfl rfl)
theorem dX2_number_54 : decode cX2_number 54 = .ok (.if_icmp .ne 8, 3) := dk_160 0 8 (dk_at dksX2_number_2 6 rfl rfl)
theorem dX2_number_57 : decode cX2_number 57 = .ok (.aload_n 0, 1) := dk_42 (dk_at dksX2_number_2 9 rfl rfl)
theorem dX2_number_58 : decode cX2_number 58 = .ok (.iload_n 3, 1) := dk_29 (dk_at dksX2_number_2 10 rfl rfl)
theorem dX2_number_59 : decode cX2_number 59 = .ok (.invokevirtual 85, 3) := dk_182 0 85 (dk_at dksX2_number_2 11 rfl rfl)
theorem dX2_number_62 : decode cX2_number 62 = .ok (.bipush 10, 2) := dk_16 10 (dk_at dksX2_number_2 14 rfl rfl)
theorem dX2_number_64 : decode cX2_number 64 = .ok (.iload 4, 2) := dk_21 4 (dk_at dksX2_number_2 16 rfl rfl)
theorem dX2_number_66 : decode cX2_number 66 = .ok (.imul, 1) := dk_104 (dk_at dksX2_number_2 18 rfl rfl)
theorem dX2_number_67 : decode cX2_number 67 = .ok (.aload_n 0, 1) := dk_42 (dk_at dksX2_number_2 19 rfl rfl)
theorem dX2_number_68 : decode cX2_number 68 = .ok (.getfield 9, 3) := dk_180 0 9 (dk_at dksX2_number_2 20 rfl rfl)
theorem dX2_number_71 : decode cX2_number 71 = .ok (.aload_n 0, 1) := dk_42 (dk_at dksX2_number_2 23 rfl rfl)
theorem dX2_number_72 : decode cX2_number 72 = .ok (.getfield 64, 3) := dk_180 0 64 (dk_at dksX2_number_3 0 rfl rfl)
theorem dX2_number_75 : decode cX2_number 75 = .ok (.baload, 1) := dk_51 (dk_at dksX2_number_3 3 rfl rfl)
theorem dX2_number_76 : decode cX2_number 76 = .ok (.iadd, 1) := dk_96 (dk_at dksX2_number_3 4 rfl rfl)
theorem dX2_number_77 : decode cX2_number 77 = .ok (.bipush 48, 2) := dk_16 48 (dk_at dksX2_number_3 5 rfl rfl)
theorem dX2_number_79 : decode cX2_number 79 = .ok (.isub, 1) := dk_100 (dk_at dksX2_number_3 7 rfl rfl)
theorem dX2_number_80 : decode cX2_number 80 = .ok (.istore 4, 2) := dk_54 4 (dk_at dksX2_number_3 8 rfl rfl)
theorem dX2_number_82 : decode cX2_number 82 = .ok (.aload_n 0, 1) := dk_42 (dk_at dksX2_number_3 10 rfl rfl)
theorem dX2_number_83 : decode cX2_number 83 = .ok (.dup, 1) := dk_89 (dk_at dksX2_number_3 11 rfl rfl)
theorem dX2_number_84 : decode cX2_number 84 = .ok (.getfield 64, 3) := dk_180 0 64 (dk_at dksX2_number_3 12 rfl rfl)
theorem dX2_number_87 : decode cX2_number 87 = .ok (.iconst 1, 1) := dk_4 (dk_at dksX2_number_3 15 rfl rfl)
theorem dX2_number_88 : decode cX2_number 88 = .ok (.iadd, 1) := dk_96 (dk_at dksX2_number_3 16 rfl rfl)
theorem dX2_number_89 : decode cX2_number 89 = .ok (.putfield 64, 3) := dk_181 0 64 (dk_at dksX2_number_3 17 rfl rfl)
theorem dX2_number_92 : decode cX2_number 92 = .ok (.goto (-84), 3) := dk_167 255 172 (dk_at dksX2_number_3 20 rfl rfl)
theorem dX2_number_95 : decode cX2_number 95 = .ok (.aload_n 0, 1) := dk_42 (dk_at dksX2_number_3 23 rfl rfl)
theorem dX2_number_96 : decode cX2_number 96 = .ok (.getfield 64, 3) := dk_180 0 64 (dk_at dksX2_number_4 0 rfl rfl)
theorem dX2_number_99 : decode cX2_number 99 = .ok (.iload_n 3, 1) := dk_29 (dk_at dksX2_number_4 3 rfl rfl)
theorem dX2_number_100 : decode cX2_number 100 = .ok (.if_icmp .eq 15, 3) := dk_159 0 15 (dk_at dksX2_number_4 4 rfl rfl)
theorem dX2_number_103 : decode cX2_number 103 = .ok (.iload 4, 2) := dk_21 4 (dk_at dksX2_number_4 7 rfl rfl)
theorem dX2_number_105 : decode cX2_number 105 = .ok (.iload_n 1, 1) := dk_27 (dk_at dksX2_number_4 9 rfl rfl)
theorem dX2_number_106 : decode cX2_number 106 = .ok (.if_icmp .lt 9, 3) := dk_161 0 9 (dk_at dksX2_number_4 10 rfl rfl)
theorem dX2_number_109 : decode cX2_number 109 = .ok (.iload 4, 2) := dk_21 4 (dk_at dksX2_number_4 13 rfl rfl)
theorem dX2_number_111 : decode cX2_number 111 = .ok (.iload_n 2, 1) := dk_28 (dk_at dksX2_number_4 15 rfl rfl)
theorem dX2_number_112 : decode cX2_number 112 = .ok (.if_icmp .le 8, 3) := dk_164 0 8 (dk_at dksX2_number_4 16 rfl rfl)
theorem dX2_number_115 : decode cX2_number 115 = .ok (.aload_n 0, 1) := dk_42 (dk_at dksX2_number_4 19 rfl rfl)
theorem dX2_number_116 : decode cX2_number 116 = .ok (.iload_n 3, 1) := dk_29 (dk_at dksX2_number_4 20 rfl rfl)
theorem dX2_number_117 : decode cX2_number 117 = .ok (.invokevirtual 85, 3) := dk_182 0 85 (dk_at dksX2_number_4 21 rfl rfl)
theorem dX2_number_120 : decode cX2_number 120 = .ok (.iload 4, 2) := dk_21 4 (dk_at dksX2_number_5 0 rfl rfl)
theorem dX2_number_122 : decode cX2_number 122 = .ok (.ireturn, 1) := dk_172 (dk_at dksX2_number_5 2 rfl rfl)
abbrev cX2_here : ByteArray := prog_10_method_4_code
def yX2_here : MethodName := ⟨RX2, "here", "()I"⟩
def dkwX2_here_0 : List UInt8 := [42, 182, 0, 70, 60, 42, 180, 0, 64, 172]
abbrev dktX2_here_0 : List UInt8 := dkwX2_here_0 ++ []
theorem dksX2_here_0 : cX2_here.data.toList.drop 0 = dktX2_here_0 := by decide +kernel
theorem dX2_here_0 : decode cX2_here 0 = .ok (.aload_n 0, 1) := dk_42 (dk_at dksX2_here_0 0 rfl rfl)
theorem dX2_here_1 : decode cX2_here 1 = .ok (.invokevirtual 70, 3) := dk_182 0 70 (dk_at dksX2_here_0 1 rfl rfl)
theorem dX2_here_4 : decode cX2_here 4 = .ok (.istore_n 1, 1) := dk_60 (dk_at dksX2_here_0 4 rfl rfl)
theorem dX2_here_5 : decode cX2_here 5 = .ok (.aload_n 0, 1) := dk_42 (dk_at dksX2_here_0 5 rfl rfl)
theorem dX2_here_6 : decode cX2_here 6 = .ok (.getfield 64, 3) := dk_180 0 64 (dk_at dksX2_here_0 6 rfl rfl)
theorem dX2_here_9 : decode cX2_here 9 = .ok (.ireturn, 1) := dk_172 (dk_at dksX2_here_0 9 rfl rfl)
abbrev cX2_letters : ByteArray := prog_10_method_14_code
def yX2_letters : MethodName := ⟨RX2, "letters", "(I)I"⟩
def dkwX2_letters_4 : List UInt8 := [181, 0, 64, 167, 255, 165, 29, 154, 0, 8, 42, 28, 182, 0, 85, 29, 172]
abbrev dktX2_letters_4 : List UInt8 := dkwX2_letters_4 ++ []
def dkwX2_letters_3 : List UInt8 := [126, 4, 160, 0, 8, 42, 28, 182, 0, 85, 29, 4, 21, 4, 120, 128, 62, 42, 89, 180, 0, 64, 4, 96]
abbrev dktX2_letters_3 : List UInt8 := dkwX2_letters_3 ++ dktX2_letters_4
def dkwX2_letters_2 : List UInt8 := [180, 0, 9, 42, 180, 0, 64, 51, 16, 97, 100, 54, 4, 21, 4, 27, 162, 0, 13, 29, 21, 4, 122, 4]
abbrev dktX2_letters_2 : List UInt8 := dkwX2_letters_2 ++ dktX2_letters_3
def dkwX2_letters_1 : List UInt8 := [180, 0, 64, 51, 16, 97, 161, 0, 72, 42, 180, 0, 9, 42, 180, 0, 64, 51, 16, 122, 163, 0, 58, 42]
abbrev dktX2_letters_1 : List UInt8 := dkwX2_letters_1 ++ dktX2_letters_2
def dkwX2_letters_0 : List UInt8 := [42, 182, 0, 89, 61, 3, 62, 42, 180, 0, 64, 42, 180, 0, 67, 162, 0, 86, 42, 180, 0, 9, 42]
abbrev dktX2_letters_0 : List UInt8 := dkwX2_letters_0 ++ dktX2_letters_1
theorem dksX2_letters_0 : cX2_letters.data.toList.drop 0 = dktX2_letters_0 := by decide +kernel
theorem dksX2_letters_1 : cX2_letters.data.toList.drop 23 = dktX2_letters_1 := dk_seg dksX2_letters_0 23 rfl rfl
theorem dksX2_letters_2 : cX2_letters.data.toList.drop 47 = dktX2_letters_2 := dk_seg dksX2_letters_1 24 rfl rfl
theorem dksX2_letters_3 : cX2_letters.data.toList.drop 71 = dktX2_letters_3 := dk_seg dksX2_letters_2 24 rfl rfl
theorem dksX2_letters_4 : cX2_letters.data.toList.drop 95 = dktX2_letters_4 := dk_seg dksX2_letters_3 24 rfl rfl
theorem dX2_letters_0 : decode cX2_letters 0 = .ok (.aload_n 0, 1) := dk_42 (dk_at dksX2_letters_0 0 rfl rfl)
theorem dX2_letters_1 : decode cX2_letters 1 = .ok (.invokevirtual 89, 3) := dk_182 0 89 (dk_at dksX2_letters_0 1 rfl rfl)
theorem dX2_letters_4 : decode cX2_letters 4 = .ok (.istore_n 2, 1) := dk_61 (dk_at dksX2_letters_0 4 rfl rfl)
theorem dX2_letters_5 : decode cX2_letters 5 = .ok (.iconst 0, 1) := dk_3 (dk_at dksX2_letters_0 5 rfl rfl)
theorem dX2_letters_6 : decode cX2_letters 6 = .ok (.istore_n 3, 1) := dk_62 (dk_at dksX2_letters_0 6 rfl rfl)
theorem dX2_letters_7 : decode cX2_letters 7 = .ok (.aload_n 0, 1) := dk_42 (dk_at dksX2_letters_0 7 rfl rfl)
theorem dX2_letters_8 : decode cX2_letters 8 = .ok (.getfield 64, 3) := dk_180 0 64 (dk_at dksX2_letters_0 8 rfl rfl)
theorem dX2_letters_11 : decode cX2_letters 11 = .ok (.aload_n 0, 1) := dk_42 (dk_at dksX2_letters_0 11 rfl rfl)
theorem dX2_letters_12 : decode cX2_letters 12 = .ok (.getfield 67, 3) := dk_180 0 67 (dk_at dksX2_letters_0 12 rfl rfl)
theorem dX2_letters_15 : decode cX2_letters 15 = .ok (.if_icmp .ge 86, 3) := dk_162 0 86 (dk_at dksX2_letters_0 15 rfl rfl)
theorem dX2_letters_18 : decode cX2_letters 18 = .ok (.aload_n 0, 1) := dk_42 (dk_at dksX2_letters_0 18 rfl rfl)
theorem dX2_letters_19 : decode cX2_letters 19 = .ok (.getfield 9, 3) := dk_180 0 9 (dk_at dksX2_letters_0 19 rfl rfl)
theorem dX2_letters_22 : decode cX2_letters 22 = .ok (.aload_n 0, 1) := dk_42 (dk_at dksX2_letters_0 22 rfl rfl)
theorem dX2_letters_23 : decode cX2_letters 23 = .ok (.getfield 64, 3) := dk_180 0 64 (dk_at dksX2_letters_1 0 rfl rfl)
theorem dX2_letters_26 : decode cX2_letters 26 = .ok (.baload, 1) := dk_51 (dk_at dksX2_letters_1 3 rfl rfl)
theorem dX2_letters_27 : decode cX2_letters 27 = .ok (.bipush 97, 2) := dk_16 97 (dk_at dksX2_letters_1 4 rfl rfl)
theorem dX2_letters_29 : decode cX2_letters 29 = .ok (.if_icmp .lt 72, 3) := dk_161 0 72 (dk_at dksX2_letters_1 6 rfl rfl)
theorem dX2_letters_32 : decode cX2_letters 32 = .ok (.aload_n 0, 1) := dk_42 (dk_at dksX2_letters_1 9 rfl rfl)
theorem dX2_letters_33 : decode cX2_letters 33 = .ok (.getfield 9, 3) := dk_180 0 9 (dk_at dksX2_letters_1 10 rfl rfl)
theorem dX2_letters_36 : decode cX2_letters 36 = .ok (.aload_n 0, 1) := dk_42 (dk_at dksX2_letters_1 13 rfl rfl)
theorem dX2_letters_37 : decode cX2_letters 37 = .ok (.getfield 64, 3) := dk_180 0 64 (dk_at dksX2_letters_1 14 rfl rfl)
theorem dX2_letters_40 : decode cX2_letters 40 = .ok (.baload, 1) := dk_51 (dk_at dksX2_letters_1 17 rfl rfl)
theorem dX2_letters_41 : decode cX2_letters 41 = .ok (.bipush 122, 2) := dk_16 122 (dk_at dksX2_letters_1 18 rfl rfl)
theorem dX2_letters_43 : decode cX2_letters 43 = .ok (.if_icmp .gt 58, 3) := dk_163 0 58 (dk_at dksX2_letters_1 20 rfl rfl)
theorem dX2_letters_46 : decode cX2_letters 46 = .ok (.aload_n 0, 1) := dk_42 (dk_at dksX2_letters_1 23 rfl rfl)
theorem dX2_letters_47 : decode cX2_letters 47 = .ok (.getfield 9, 3) := dk_180 0 9 (dk_at dksX2_letters_2 0 rfl rfl)
theorem dX2_letters_50 : decode cX2_letters 50 = .ok (.aload_n 0, 1) := dk_42 (dk_at dksX2_letters_2 3 rfl rfl)
theorem dX2_letters_51 : decode cX2_letters 51 = .ok (.getfield 64, 3) := dk_180 0 64 (dk_at dksX2_letters_2 4 rfl rfl)
theorem dX2_letters_54 : decode cX2_letters 54 = .ok (.baload, 1) := dk_51 (dk_at dksX2_letters_2 7 rfl rfl)
theorem dX2_letters_55 : decode cX2_letters 55 = .ok (.bipush 97, 2) := dk_16 97 (dk_at dksX2_letters_2 8 rfl rfl)
theorem dX2_letters_57 : decode cX2_letters 57 = .ok (.isub, 1) := dk_100 (dk_at dksX2_letters_2 10 rfl rfl)
theorem dX2_letters_58 : decode cX2_letters 58 = .ok (.istore 4, 2) := dk_54 4 (dk_at dksX2_letters_2 11 rfl rfl)
theorem dX2_letters_60 : decode cX2_letters 60 = .ok (.iload 4, 2) := dk_21 4 (dk_at dksX2_letters_2 13 rfl rfl)
theorem dX2_letters_62 : decode cX2_letters 62 = .ok (.iload_n 1, 1) := dk_27 (dk_at dksX2_letters_2 15 rfl rfl)
theorem dX2_letters_63 : decode cX2_letters 63 = .ok (.if_icmp .ge 13, 3) := dk_162 0 13 (dk_at dksX2_letters_2 16 rfl rfl)
theorem dX2_letters_66 : decode cX2_letters 66 = .ok (.iload_n 3, 1) := dk_29 (dk_at dksX2_letters_2 19 rfl rfl)
theorem dX2_letters_67 : decode cX2_letters 67 = .ok (.iload 4, 2) := dk_21 4 (dk_at dksX2_letters_2 20 rfl rfl)
theorem dX2_letters_69 : decode cX2_letters 69 = .ok (.ishr, 1) := dk_122 (dk_at dksX2_letters_2 22 rfl rfl)
theorem dX2_letters_70 : decode cX2_letters 70 = .ok (.iconst 1, 1) := dk_4 (dk_at dksX2_letters_2 23 rfl rfl)
theorem dX2_letters_71 : decode cX2_letters 71 = .ok (.iand, 1) := dk_126 (dk_at dksX2_letters_3 0 rfl rfl)
theorem dX2_letters_72 : decode cX2_letters 72 = .ok (.iconst 1, 1) := dk_4 (dk_at dksX2_letters_3 1 rfl rfl)
theorem dX2_letters_73 : decode cX2_letters 73 = .ok (.if_icmp .ne 8, 3) := dk_160 0 8 (dk_at dksX2_letters_3 2 rfl rfl)
theorem dX2_letters_76 : decode cX2_letters 76 = .ok (.aload_n 0, 1) := dk_42 (dk_at dksX2_letters_3 5 rfl rfl)
theorem dX2_letters_77 : decode cX2_letters 77 = .ok (.iload_n 2, 1) := dk_28 (dk_at dksX2_letters_3 6 rfl rfl)
theorem dX2_letters_78 : decode cX2_letters 78 = .ok (.invokevirtual 85, 3) := dk_182 0 85 (dk_at dksX2_letters_3 7 rfl rfl)
theorem dX2_letters_81 : decode cX2_letters 81 = .ok (.iload_n 3, 1) := dk_29 (dk_at dksX2_letters_3 10 rfl rfl)
theorem dX2_letters_82 : decode cX2_letters 82 = .ok (.iconst 1, 1) := dk_4 (dk_at dksX2_letters_3 11 rfl rfl)
theorem dX2_letters_83 : decode cX2_letters 83 = .ok (.iload 4, 2) := dk_21 4 (dk_at dksX2_letters_3 12 rfl rfl)
theorem dX2_letters_85 : decode cX2_letters 85 = .ok (.ishl, 1) := dk_120 (dk_at dksX2_letters_3 14 rfl rfl)
theorem dX2_letters_86 : decode cX2_letters 86 = .ok (.ior, 1) := dk_128 (dk_at dksX2_letters_3 15 rfl rfl)
theorem dX2_letters_87 : decode cX2_letters 87 = .ok (.istore_n 3, 1) := dk_62 (dk_at dksX2_letters_3 16 rfl rfl)
theorem dX2_letters_88 : decode cX2_letters 88 = .ok (.aload_n 0, 1) := dk_42 (dk_at dksX2_letters_3 17 rfl rfl)
theorem dX2_letters_89 : decode cX2_letters 89 = .ok (.dup, 1) := dk_89 (dk_at dksX2_letters_3 18 rfl rfl)
theorem dX2_letters_90 : decode cX2_letters 90 = .ok (.getfield 64, 3) := dk_180 0 64 (dk_at dksX2_letters_3 19 rfl rfl)
theorem dX2_letters_93 : decode cX2_letters 93 = .ok (.iconst 1, 1) := dk_4 (dk_at dksX2_letters_3 22 rfl rfl)
theorem dX2_letters_94 : decode cX2_letters 94 = .ok (.iadd, 1) := dk_96 (dk_at dksX2_letters_3 23 rfl rfl)
theorem dX2_letters_95 : decode cX2_letters 95 = .ok (.putfield 64, 3) := dk_181 0 64 (dk_at dksX2_letters_4 0 rfl rfl)
theorem dX2_letters_98 : decode cX2_letters 98 = .ok (.goto (-91), 3) := dk_167 255 165 (dk_at dksX2_letters_4 3 rfl rfl)
theorem dX2_letters_101 : decode cX2_letters 101 = .ok (.iload_n 3, 1) := dk_29 (dk_at dksX2_letters_4 6 rfl rfl)
theorem dX2_letters_102 : decode cX2_letters 102 = .ok (.ifCond .ne 8, 3) := dk_154 0 8 (dk_at dksX2_letters_4 7 rfl rfl)
theorem dX2_letters_105 : decode cX2_letters 105 = .ok (.aload_n 0, 1) := dk_42 (dk_at dksX2_letters_4 10 rfl rfl)
theorem dX2_letters_106 : decode cX2_letters 106 = .ok (.iload_n 2, 1) := dk_28 (dk_at dksX2_letters_4 11 rfl rfl)
theorem dX2_letters_107 : decode cX2_letters 107 = .ok (.invokevirtual 85, 3) := dk_182 0 85 (dk_at dksX2_letters_4 12 rfl rfl)
theorem dX2_letters_110 : decode cX2_letters 110 = .ok (.iload_n 3, 1) := dk_29 (dk_at dksX2_letters_4 15 rfl rfl)
theorem dX2_letters_111 : decode cX2_letters 111 = .ok (.ireturn, 1) := dk_172 (dk_at dksX2_letters_4 16 rfl rfl)
abbrev cX2_addCounsel : ByteArray := prog_10_method_16_code
def yX2_addCounsel : MethodName := ⟨RX2, "addCounsel", "(I)V"⟩
def dkwX2_addCounsel_6 : List UInt8 := [28, 182, 0, 85, 42, 180, 0, 49, 89, 180, 0, 193, 4, 96, 181, 0, 193, 177]
abbrev dktX2_addCounsel_6 : List UInt8 := dkwX2_addCounsel_6 ++ []
def dkwX2_addCounsel_5 : List UInt8 := [4, 96, 181, 0, 64, 167, 255, 156, 29, 153, 0, 14, 29, 42, 180, 0, 49, 180, 0, 163, 162, 0, 8, 42]
abbrev dktX2_addCounsel_5 : List UInt8 := dkwX2_addCounsel_5 ++ dktX2_addCounsel_6
def dkwX2_addCounsel_4 : List UInt8 := [104, 29, 96, 42, 180, 0, 9, 42, 180, 0, 64, 51, 16, 48, 100, 79, 132, 3, 1, 42, 89, 180, 0, 64]
abbrev dktX2_addCounsel_4 : List UInt8 := dkwX2_addCounsel_4 ++ dktX2_addCounsel_5
def dkwX2_addCounsel_3 : List UInt8 := [160, 0, 8, 42, 28, 182, 0, 85, 42, 180, 0, 49, 180, 0, 190, 16, 6, 42, 180, 0, 49, 180, 0, 193]
abbrev dktX2_addCounsel_3 : List UInt8 := dkwX2_addCounsel_3 ++ dktX2_addCounsel_4
def dkwX2_addCounsel_2 : List UInt8 := [42, 180, 0, 9, 42, 180, 0, 64, 51, 16, 57, 163, 0, 67, 29, 42, 180, 0, 49, 180, 0, 163]
abbrev dktX2_addCounsel_2 : List UInt8 := dkwX2_addCounsel_2 ++ dktX2_addCounsel_3
def dkwX2_addCounsel_1 : List UInt8 := [180, 0, 64, 42, 180, 0, 67, 162, 0, 95, 42, 180, 0, 9, 42, 180, 0, 64, 51, 16, 48, 161, 0, 81]
abbrev dktX2_addCounsel_1 : List UInt8 := dkwX2_addCounsel_1 ++ dktX2_addCounsel_2
def dkwX2_addCounsel_0 : List UInt8 := [42, 180, 0, 49, 180, 0, 193, 7, 160, 0, 8, 42, 27, 182, 0, 85, 42, 182, 0, 89, 61, 3, 62, 42]
abbrev dktX2_addCounsel_0 : List UInt8 := dkwX2_addCounsel_0 ++ dktX2_addCounsel_1
theorem dksX2_addCounsel_0 : cX2_addCounsel.data.toList.drop 0 = dktX2_addCounsel_0 := by decide +kernel
theorem dksX2_addCounsel_1 : cX2_addCounsel.data.toList.drop 24 = dktX2_addCounsel_1 := dk_seg dksX2_addCounsel_0 24 rfl rfl
theorem dksX2_addCounsel_2 : cX2_addCounsel.data.toList.drop 48 = dktX2_addCounsel_2 := dk_seg dksX2_addCounsel_1 24 rfl rfl
theorem dksX2_addCounsel_3 : cX2_addCounsel.data.toList.drop 70 = dktX2_addCounsel_3 := dk_seg dksX2_addCounsel_2 22 rfl rfl
theorem dksX2_addCounsel_4 : cX2_addCounsel.data.toList.drop 94 = dktX2_addCounsel_4 := dk_seg dksX2_addCounsel_3 24 rfl rfl
theorem dksX2_addCounsel_5 : cX2_addCounsel.data.toList.drop 118 = dktX2_addCounsel_5 := dk_seg dksX2_addCounsel_4 24 rfl rfl
theorem dksX2_addCounsel_6 : cX2_addCounsel.data.toList.drop 142 = dktX2_addCounsel_6 := dk_seg dksX2_addCounsel_5 24 rfl rfl
theorem dX2_addCounsel_0 : decode cX2_addCounsel 0 = .ok (.aload_n 0, 1) := dk_42 (dk_at dksX2_addCounsel_0 0 rfl rfl)
theorem dX2_addCounsel_1 : decode cX2_addCounsel 1 = .ok (.getfield 49, 3) := dk_180 0 49 (dk_at dksX2_addCounsel_0 1 rfl rfl)
theorem dX2_addCounsel_4 : decode cX2_addCounsel 4 = .ok (.getfield 193, 3) := dk_180 0 193 (dk_at dksX2_addCounsel_0 4 rfl rfl)
theorem dX2_addCounsel_7 : decode cX2_addCounsel 7 = .ok (.iconst 4, 1) := dk_7 (dk_at dksX2_addCounsel_0 7 rfl rfl)
theorem dX2_addCounsel_8 : decode cX2_addCounsel 8 = .ok (.if_icmp .ne 8, 3) := dk_160 0 8 (dk_at dksX2_addCounsel_0 8 rfl rfl)
theorem dX2_addCounsel_11 : decode cX2_addCounsel 11 = .ok (.aload_n 0, 1) := dk_42 (dk_at dksX2_addCounsel_0 11 rfl rfl)
theorem dX2_addCounsel_12 : decode cX2_addCounsel 12 = .ok (.iload_n 1, 1) := dk_27 (dk_at dksX2_addCounsel_0 12 rfl rfl)
theorem dX2_addCounsel_13 : decode cX2_addCounsel 13 = .ok (.invokevirtual 85, 3) := dk_182 0 85 (dk_at dksX2_addCounsel_0 13 rfl rfl)
theorem dX2_addCounsel_16 : decode cX2_addCounsel 16 = .ok (.aload_n 0, 1) := dk_42 (dk_at dksX2_addCounsel_0 16 rfl rfl)
theorem dX2_addCounsel_17 : decode cX2_addCounsel 17 = .ok (.invokevirtual 89, 3) := dk_182 0 89 (dk_at dksX2_addCounsel_0 17 rfl rfl)
theorem dX2_addCounsel_20 : decode cX2_addCounsel 20 = .ok (.istore_n 2, 1) := dk_61 (dk_at dksX2_addCounsel_0 20 rfl rfl)
theorem dX2_addCounsel_21 : decode cX2_addCounsel 21 = .ok (.iconst 0, 1) := dk_3 (dk_at dksX2_addCounsel_0 21 rfl rfl)
theorem dX2_addCounsel_22 : decode cX2_addCounsel 22 = .ok (.istore_n 3, 1) := dk_62 (dk_at dksX2_addCounsel_0 22 rfl rfl)
theorem dX2_addCounsel_23 : decode cX2_addCounsel 23 = .ok (.aload_n 0, 1) := dk_42 (dk_at dksX2_addCounsel_0 23 rfl rfl)
theorem dX2_addCounsel_24 : decode cX2_addCounsel 24 = .ok (.getfield 64, 3) := dk_180 0 64 (dk_at dksX2_addCounsel_1 0 rfl rfl)
theorem dX2_addCounsel_27 : decode cX2_addCounsel 27 = .ok (.aload_n 0, 1) := dk_42 (dk_at dksX2_addCounsel_1 3 rfl rfl)
theorem dX2_addCounsel_28 : decode cX2_addCounsel 28 = .ok (.getfield 67, 3) := dk_180 0 67 (dk_at dksX2_addCounsel_1 4 rfl rfl)
theorem dX2_addCounsel_31 : decode cX2_addCounsel 31 = .ok (.if_icmp .ge 95, 3) := dk_162 0 95 (dk_at dksX2_addCounsel_1 7 rfl rfl)
theorem dX2_addCounsel_34 : decode cX2_addCounsel 34 = .ok (.aload_n 0, 1) := dk_42 (dk_at dksX2_addCounsel_1 10 rfl rfl)
theorem dX2_addCounsel_35 : decode cX2_addCounsel 35 = .ok (.getfield 9, 3) := dk_180 0 9 (dk_at dksX2_addCounsel_1 11 rfl rfl)
theorem dX2_addCounsel_38 : decode cX2_addCounsel 38 = .ok (.aload_n 0, 1) := dk_42 (dk_at dksX2_addCounsel_1 14 rfl rfl)
theorem dX2_addCounsel_39 : decode cX2_addCounsel 39 = .ok (.getfield 64, 3) := dk_180 0 64 (dk_at dksX2_addCounsel_1 15 rfl rfl)
theorem dX2_addCounsel_42 : decode cX2_addCounsel 42 = .ok (.baload, 1) := dk_51 (dk_at dksX2_addCounsel_1 18 rfl rfl)
theorem dX2_addCounsel_43 : decode cX2_addCounsel 43 = .ok (.bipush 48, 2) := dk_16 48 (dk_at dksX2_addCounsel_1 19 rfl rfl)
theorem dX2_addCounsel_45 : decode cX2_addCounsel 45 = .ok (.if_icmp .lt 81, 3) := dk_161 0 81 (dk_at dksX2_addCounsel_1 21 rfl rfl)
theorem dX2_addCounsel_48 : decode cX2_addCounsel 48 = .ok (.aload_n 0, 1) := dk_42 (dk_at dksX2_addCounsel_2 0 rfl rfl)
theorem dX2_addCounsel_49 : decode cX2_addCounsel 49 = .ok (.getfield 9, 3) := dk_180 0 9 (dk_at dksX2_addCounsel_2 1 rfl rfl)
theorem dX2_addCounsel_52 : decode cX2_addCounsel 52 = .ok (.aload_n 0, 1) := dk_42 (dk_at dksX2_addCounsel_2 4 rfl rfl)
theorem dX2_addCounsel_53 : decode cX2_addCounsel 53 = .ok (.getfield 64, 3) := dk_180 0 64 (dk_at dksX2_addCounsel_2 5 rfl rfl)
theorem dX2_addCounsel_56 : decode cX2_addCounsel 56 = .ok (.baload, 1) := dk_51 (dk_at dksX2_addCounsel_2 8 rfl rfl)
theorem dX2_addCounsel_57 : decode cX2_addCounsel 57 = .ok (.bipush 57, 2) := dk_16 57 (dk_at dksX2_addCounsel_2 9 rfl rfl)
theorem dX2_addCounsel_59 : decode cX2_addCounsel 59 = .ok (.if_icmp .gt 67, 3) := dk_163 0 67 (dk_at dksX2_addCounsel_2 11 rfl rfl)
theorem dX2_addCounsel_62 : decode cX2_addCounsel 62 = .ok (.iload_n 3, 1) := dk_29 (dk_at dksX2_addCounsel_2 14 rfl rfl)
theorem dX2_addCounsel_63 : decode cX2_addCounsel 63 = .ok (.aload_n 0, 1) := dk_42 (dk_at dksX2_addCounsel_2 15 rfl rfl)
theorem dX2_addCounsel_64 : decode cX2_addCounsel 64 = .ok (.getfield 49, 3) := dk_180 0 49 (dk_at dksX2_addCounsel_2 16 rfl rfl)
theorem dX2_addCounsel_67 : decode cX2_addCounsel 67 = .ok (.getfield 163, 3) := dk_180 0 163 (dk_at dksX2_addCounsel_2 19 rfl rfl)
theorem dX2_addCounsel_70 : decode cX2_addCounsel 70 = .ok (.if_icmp .ne 8, 3) := dk_160 0 8 (dk_at dksX2_addCounsel_3 0 rfl rfl)
theorem dX2_addCounsel_73 : decode cX2_addCounsel 73 = .ok (.aload_n 0, 1) := dk_42 (dk_at dksX2_addCounsel_3 3 rfl rfl)
theorem dX2_addCounsel_74 : decode cX2_addCounsel 74 = .ok (.iload_n 2, 1) := dk_28 (dk_at dksX2_addCounsel_3 4 rfl rfl)
theorem dX2_addCounsel_75 : decode cX2_addCounsel 75 = .ok (.invokevirtual 85, 3) := dk_182 0 85 (dk_at dksX2_addCounsel_3 5 rfl rfl)
theorem dX2_addCounsel_78 : decode cX2_addCounsel 78 = .ok (.aload_n 0, 1) := dk_42 (dk_at dksX2_addCounsel_3 8 rfl rfl)
theorem dX2_addCounsel_79 : decode cX2_addCounsel 79 = .ok (.getfield 49, 3) := dk_180 0 49 (dk_at dksX2_addCounsel_3 9 rfl rfl)
theorem dX2_addCounsel_82 : decode cX2_addCounsel 82 = .ok (.getfield 190, 3) := dk_180 0 190 (dk_at dksX2_addCounsel_3 12 rfl rfl)
theorem dX2_addCounsel_85 : decode cX2_addCounsel 85 = .ok (.bipush 6, 2) := dk_16 6 (dk_at dksX2_addCounsel_3 15 rfl rfl)
theorem dX2_addCounsel_87 : decode cX2_addCounsel 87 = .ok (.aload_n 0, 1) := dk_42 (dk_at dksX2_addCounsel_3 17 rfl rfl)
theorem dX2_addCounsel_88 : decode cX2_addCounsel 88 = .ok (.getfield 49, 3) := dk_180 0 49 (dk_at dksX2_addCounsel_3 18 rfl rfl)
theorem dX2_addCounsel_91 : decode cX2_addCounsel 91 = .ok (.getfield 193, 3) := dk_180 0 193 (dk_at dksX2_addCounsel_3 21 rfl rfl)
theorem dX2_addCounsel_94 : decode cX2_addCounsel 94 = .ok (.imul, 1) := dk_104 (dk_at dksX2_addCounsel_4 0 rfl rfl)
theorem dX2_addCounsel_95 : decode cX2_addCounsel 95 = .ok (.iload_n 3, 1) := dk_29 (dk_at dksX2_addCounsel_4 1 rfl rfl)
theorem dX2_addCounsel_96 : decode cX2_addCounsel 96 = .ok (.iadd, 1) := dk_96 (dk_at dksX2_addCounsel_4 2 rfl rfl)
theorem dX2_addCounsel_97 : decode cX2_addCounsel 97 = .ok (.aload_n 0, 1) := dk_42 (dk_at dksX2_addCounsel_4 3 rfl rfl)
theorem dX2_addCounsel_98 : decode cX2_addCounsel 98 = .ok (.getfield 9, 3) := dk_180 0 9 (dk_at dksX2_addCounsel_4 4 rfl rfl)
theorem dX2_addCounsel_101 : decode cX2_addCounsel 101 = .ok (.aload_n 0, 1) := dk_42 (dk_at dksX2_addCounsel_4 7 rfl rfl)
theorem dX2_addCounsel_102 : decode cX2_addCounsel 102 = .ok (.getfield 64, 3) := dk_180 0 64 (dk_at dksX2_addCounsel_4 8 rfl rfl)
theorem dX2_addCounsel_105 : decode cX2_addCounsel 105 = .ok (.baload, 1) := dk_51 (dk_at dksX2_addCounsel_4 11 rfl rfl)
theorem dX2_addCounsel_106 : decode cX2_addCounsel 106 = .ok (.bipush 48, 2) := dk_16 48 (dk_at dksX2_addCounsel_4 12 rfl rfl)
theorem dX2_addCounsel_108 : decode cX2_addCounsel 108 = .ok (.isub, 1) := dk_100 (dk_at dksX2_addCounsel_4 14 rfl rfl)
theorem dX2_addCounsel_109 : decode cX2_addCounsel 109 = .ok (.iastore, 1) := dk_79 (dk_at dksX2_addCounsel_4 15 rfl rfl)
theorem dX2_addCounsel_110 : decode cX2_addCounsel 110 = .ok (.iinc 3 1, 3) := dk_132 3 1 (dk_at dksX2_addCounsel_4 16 rfl rfl)
theorem dX2_addCounsel_113 : decode cX2_addCounsel 113 = .ok (.aload_n 0, 1) := dk_42 (dk_at dksX2_addCounsel_4 19 rfl rfl)
theorem dX2_addCounsel_114 : decode cX2_addCounsel 114 = .ok (.dup, 1) := dk_89 (dk_at dksX2_addCounsel_4 20 rfl rfl)
theorem dX2_addCounsel_115 : decode cX2_addCounsel 115 = .ok (.getfield 64, 3) := dk_180 0 64 (dk_at dksX2_addCounsel_4 21 rfl rfl)
theorem dX2_addCounsel_118 : decode cX2_addCounsel 118 = .ok (.iconst 1, 1) := dk_4 (dk_at dksX2_addCounsel_5 0 rfl rfl)
theorem dX2_addCounsel_119 : decode cX2_addCounsel 119 = .ok (.iadd, 1) := dk_96 (dk_at dksX2_addCounsel_5 1 rfl rfl)
theorem dX2_addCounsel_120 : decode cX2_addCounsel 120 = .ok (.putfield 64, 3) := dk_181 0 64 (dk_at dksX2_addCounsel_5 2 rfl rfl)
theorem dX2_addCounsel_123 : decode cX2_addCounsel 123 = .ok (.goto (-100), 3) := dk_167 255 156 (dk_at dksX2_addCounsel_5 5 rfl rfl)
theorem dX2_addCounsel_126 : decode cX2_addCounsel 126 = .ok (.iload_n 3, 1) := dk_29 (dk_at dksX2_addCounsel_5 8 rfl rfl)
theorem dX2_addCounsel_127 : decode cX2_addCounsel 127 = .ok (.ifCond .eq 14, 3) := dk_153 0 14 (dk_at dksX2_addCounsel_5 9 rfl rfl)
theorem dX2_addCounsel_130 : decode cX2_addCounsel 130 = .ok (.iload_n 3, 1) := dk_29 (dk_at dksX2_addCounsel_5 12 rfl rfl)
theorem dX2_addCounsel_131 : decode cX2_addCounsel 131 = .ok (.aload_n 0, 1) := dk_42 (dk_at dksX2_addCounsel_5 13 rfl rfl)
theorem dX2_addCounsel_132 : decode cX2_addCounsel 132 = .ok (.getfield 49, 3) := dk_180 0 49 (dk_at dksX2_addCounsel_5 14 rfl rfl)
theorem dX2_addCounsel_135 : decode cX2_addCounsel 135 = .ok (.getfield 163, 3) := dk_180 0 163 (dk_at dksX2_addCounsel_5 17 rfl rfl)
theorem dX2_addCounsel_138 : decode cX2_addCounsel 138 = .ok (.if_icmp .ge 8, 3) := dk_162 0 8 (dk_at dksX2_addCounsel_5 20 rfl rfl)
theorem dX2_addCounsel_141 : decode cX2_addCounsel 141 = .ok (.aload_n 0, 1) := dk_42 (dk_at dksX2_addCounsel_5 23 rfl rfl)
theorem dX2_addCounsel_142 : decode cX2_addCounsel 142 = .ok (.iload_n 2, 1) := dk_28 (dk_at dksX2_addCounsel_6 0 rfl rfl)
theorem dX2_addCounsel_143 : decode cX2_addCounsel 143 = .ok (.invokevirtual 85, 3) := dk_182 0 85 (dk_at dksX2_addCounsel_6 1 rfl rfl)
theorem dX2_addCounsel_146 : decode cX2_addCounsel 146 = .ok (.aload_n 0, 1) := dk_42 (dk_at dksX2_addCounsel_6 4 rfl rfl)
theorem dX2_addCounsel_147 : decode cX2_addCounsel 147 = .ok (.getfield 49, 3) := dk_180 0 49 (dk_at dksX2_addCounsel_6 5 rfl rfl)
theorem dX2_addCounsel_150 : decode cX2_addCounsel 150 = .ok (.dup, 1) := dk_89 (dk_at dksX2_addCounsel_6 8 rfl rfl)
theorem dX2_addCounsel_151 : decode cX2_addCounsel 151 = .ok (.getfield 193, 3) := dk_180 0 193 (dk_at dksX2_addCounsel_6 9 rfl rfl)
theorem dX2_addCounsel_154 : decode cX2_addCounsel 154 = .ok (.iconst 1, 1) := dk_4 (dk_at dksX2_addCounsel_6 12 rfl rfl)
theorem dX2_addCounsel_155 : decode cX2_addCounsel 155 = .ok (.iadd, 1) := dk_96 (dk_at dksX2_addCounsel_6 13 rfl rfl)
theorem dX2_addCounsel_156 : decode cX2_addCounsel 156 = .ok (.putfield 193, 3) := dk_181 0 193 (dk_at dksX2_addCounsel_6 14 rfl rfl)
theorem dX2_addCounsel_159 : decode cX2_addCounsel 159 = .ok (.return_, 1) := dk_177 (dk_at dksX2_addCounsel_6 17 rfl rfl)
abbrev cX2_addCase : ByteArray := prog_10_method_17_code
def yX2_addCase : MethodName := ⟨RX2, "addCase", "(I)V"⟩
def dkwX2_addCase_5 : List UInt8 := [180, 0, 49, 89, 180, 0, 196, 4, 96, 181, 0, 196, 177]
abbrev dktX2_addCase_5 : List UInt8 := dkwX2_addCase_5 ++ []
def dkwX2_addCase_4 : List UInt8 := [182, 0, 92, 44, 42, 42, 180, 0, 49, 180, 0, 163, 182, 0, 180, 181, 0, 213, 44, 3, 181, 0, 215, 42]
abbrev dktX2_addCase_4 : List UInt8 := dkwX2_addCase_4 ++ dktX2_addCase_5
def dkwX2_addCase_3 : List UInt8 := [181, 0, 208, 44, 180, 0, 208, 44, 180, 0, 203, 160, 0, 8, 42, 29, 182, 0, 85, 42, 18, 211]
abbrev dktX2_addCase_3 : List UInt8 := dkwX2_addCase_3 ++ dktX2_addCase_4
def dkwX2_addCase_2 : List UInt8 := [181, 0, 203, 42, 182, 0, 89, 62, 44, 42, 3, 42, 180, 0, 49, 180, 0, 193, 4, 100, 182, 0, 96]
abbrev dktX2_addCase_2 : List UInt8 := dkwX2_addCase_2 ++ dktX2_addCase_3
def dkwX2_addCase_1 : List UInt8 := [42, 180, 0, 49, 180, 0, 196, 50, 77, 44, 42, 3, 42, 180, 0, 49, 180, 0, 193, 4, 100, 182, 0, 96]
abbrev dktX2_addCase_1 : List UInt8 := dkwX2_addCase_1 ++ dktX2_addCase_2
def dkwX2_addCase_0 : List UInt8 := [42, 180, 0, 49, 180, 0, 196, 16, 12, 160, 0, 8, 42, 27, 182, 0, 85, 42, 180, 0, 49, 180, 0, 199]
abbrev dktX2_addCase_0 : List UInt8 := dkwX2_addCase_0 ++ dktX2_addCase_1
theorem dksX2_addCase_0 : cX2_addCase.data.toList.drop 0 = dktX2_addCase_0 := by decide +kernel
theorem dksX2_addCase_1 : cX2_addCase.data.toList.drop 24 = dktX2_addCase_1 := dk_seg dksX2_addCase_0 24 rfl rfl
theorem dksX2_addCase_2 : cX2_addCase.data.toList.drop 48 = dktX2_addCase_2 := dk_seg dksX2_addCase_1 24 rfl rfl
theorem dksX2_addCase_3 : cX2_addCase.data.toList.drop 71 = dktX2_addCase_3 := dk_seg dksX2_addCase_2 23 rfl rfl
theorem dksX2_addCase_4 : cX2_addCase.data.toList.drop 93 = dktX2_addCase_4 := dk_seg dksX2_addCase_3 22 rfl rfl
theorem dksX2_addCase_5 : cX2_addCase.data.toList.drop 117 = dktX2_addCase_5 := dk_seg dksX2_addCase_4 24 rfl rfl
theorem dX2_addCase_0 : decode cX2_addCase 0 = .ok (.aload_n 0, 1) := dk_42 (dk_at dksX2_addCase_0 0 rfl rfl)
theorem dX2_addCase_1 : decode cX2_addCase 1 = .ok (.getfield 49, 3) := dk_180 0 49 (dk_at dksX2_addCase_0 1 rfl rfl)
theorem dX2_addCase_4 : decode cX2_addCase 4 = .ok (.getfield 196, 3) := dk_180 0 196 (dk_at dksX2_addCase_0 4 rfl rfl)
theorem dX2_addCase_7 : decode cX2_addCase 7 = .ok (.bipush 12, 2) := dk_16 12 (dk_at dksX2_addCase_0 7 rfl rfl)
theorem dX2_addCase_9 : decode cX2_addCase 9 = .ok (.if_icmp .ne 8, 3) := dk_160 0 8 (dk_at dksX2_addCase_0 9 rfl rfl)
theorem dX2_addCase_12 : decode cX2_addCase 12 = .ok (.aload_n 0, 1) := dk_42 (dk_at dksX2_addCase_0 12 rfl rfl)
theorem dX2_addCase_13 : decode cX2_addCase 13 = .ok (.iload_n 1, 1) := dk_27 (dk_at dksX2_addCase_0 13 rfl rfl)
theorem dX2_addCase_14 : decode cX2_addCase 14 = .ok (.invokevirtual 85, 3) := dk_182 0 85 (dk_at dksX2_addCase_0 14 rfl rfl)
theorem dX2_addCase_17 : decode cX2_addCase 17 = .ok (.aload_n 0, 1) := dk_42 (dk_at dksX2_addCase_0 17 rfl rfl)
theorem dX2_addCase_18 : decode cX2_addCase 18 = .ok (.getfield 49, 3) := dk_180 0 49 (dk_at dksX2_addCase_0 18 rfl rfl)
theorem dX2_addCase_21 : decode cX2_addCase 21 = .ok (.getfield 199, 3) := dk_180 0 199 (dk_at dksX2_addCase_0 21 rfl rfl)
theorem dX2_addCase_24 : decode cX2_addCase 24 = .ok (.aload_n 0, 1) := dk_42 (dk_at dksX2_addCase_1 0 rfl rfl)
theorem dX2_addCase_25 : decode cX2_addCase 25 = .ok (.getfield 49, 3) := dk_180 0 49 (dk_at dksX2_addCase_1 1 rfl rfl)
theorem dX2_addCase_28 : decode cX2_addCase 28 = .ok (.getfield 196, 3) := dk_180 0 196 (dk_at dksX2_addCase_1 4 rfl rfl)
theorem dX2_addCase_31 : decode cX2_addCase 31 = .ok (.aaload, 1) := dk_50 (dk_at dksX2_addCase_1 7 rfl rfl)
theorem dX2_addCase_32 : decode cX2_addCase 32 = .ok (.astore_n 2, 1) := dk_77 (dk_at dksX2_addCase_1 8 rfl rfl)
theorem dX2_addCase_33 : decode cX2_addCase 33 = .ok (.aload_n 2, 1) := dk_44 (dk_at dksX2_addCase_1 9 rfl rfl)
theorem dX2_addCase_34 : decode cX2_addCase 34 = .ok (.aload_n 0, 1) := dk_42 (dk_at dksX2_addCase_1 10 rfl rfl)
theorem dX2_addCase_35 : decode cX2_addCase 35 = .ok (.iconst 0, 1) := dk_3 (dk_at dksX2_addCase_1 11 rfl rfl)
theorem dX2_addCase_36 : decode cX2_addCase 36 = .ok (.aload_n 0, 1) := dk_42 (dk_at dksX2_addCase_1 12 rfl rfl)
theorem dX2_addCase_37 : decode cX2_addCase 37 = .ok (.getfield 49, 3) := dk_180 0 49 (dk_at dksX2_addCase_1 13 rfl rfl)
theorem dX2_addCase_40 : decode cX2_addCase 40 = .ok (.getfield 193, 3) := dk_180 0 193 (dk_at dksX2_addCase_1 16 rfl rfl)
theorem dX2_addCase_43 : decode cX2_addCase 43 = .ok (.iconst 1, 1) := dk_4 (dk_at dksX2_addCase_1 19 rfl rfl)
theorem dX2_addCase_44 : decode cX2_addCase 44 = .ok (.isub, 1) := dk_100 (dk_at dksX2_addCase_1 20 rfl rfl)
theorem dX2_addCase_45 : decode cX2_addCase 45 = .ok (.invokevirtual 96, 3) := dk_182 0 96 (dk_at dksX2_addCase_1 21 rfl rfl)
theorem dX2_addCase_48 : decode cX2_addCase 48 = .ok (.putfield 203, 3) := dk_181 0 203 (dk_at dksX2_addCase_2 0 rfl rfl)
theorem dX2_addCase_51 : decode cX2_addCase 51 = .ok (.aload_n 0, 1) := dk_42 (dk_at dksX2_addCase_2 3 rfl rfl)
theorem dX2_addCase_52 : decode cX2_addCase 52 = .ok (.invokevirtual 89, 3) := dk_182 0 89 (dk_at dksX2_addCase_2 4 rfl rfl)
theorem dX2_addCase_55 : decode cX2_addCase 55 = .ok (.istore_n 3, 1) := dk_62 (dk_at dksX2_addCase_2 7 rfl rfl)
theorem dX2_addCase_56 : decode cX2_addCase 56 = .ok (.aload_n 2, 1) := dk_44 (dk_at dksX2_addCase_2 8 rfl rfl)
theorem dX2_addCase_57 : decode cX2_addCase 57 = .ok (.aload_n 0, 1) := dk_42 (dk_at dksX2_addCase_2 9 rfl rfl)
theorem dX2_addCase_58 : decode cX2_addCase 58 = .ok (.iconst 0, 1) := dk_3 (dk_at dksX2_addCase_2 10 rfl rfl)
theorem dX2_addCase_59 : decode cX2_addCase 59 = .ok (.aload_n 0, 1) := dk_42 (dk_at dksX2_addCase_2 11 rfl rfl)
theorem dX2_addCase_60 : decode cX2_addCase 60 = .ok (.getfield 49, 3) := dk_180 0 49 (dk_at dksX2_addCase_2 12 rfl rfl)
theorem dX2_addCase_63 : decode cX2_addCase 63 = .ok (.getfield 193, 3) := dk_180 0 193 (dk_at dksX2_addCase_2 15 rfl rfl)
theorem dX2_addCase_66 : decode cX2_addCase 66 = .ok (.iconst 1, 1) := dk_4 (dk_at dksX2_addCase_2 18 rfl rfl)
theorem dX2_addCase_67 : decode cX2_addCase 67 = .ok (.isub, 1) := dk_100 (dk_at dksX2_addCase_2 19 rfl rfl)
theorem dX2_addCase_68 : decode cX2_addCase 68 = .ok (.invokevirtual 96, 3) := dk_182 0 96 (dk_at dksX2_addCase_2 20 rfl rfl)
theorem dX2_addCase_71 : decode cX2_addCase 71 = .ok (.putfield 208, 3) := dk_181 0 208 (dk_at dksX2_addCase_3 0 rfl rfl)
theorem dX2_addCase_74 : decode cX2_addCase 74 = .ok (.aload_n 2, 1) := dk_44 (dk_at dksX2_addCase_3 3 rfl rfl)
theorem dX2_addCase_75 : decode cX2_addCase 75 = .ok (.getfield 208, 3) := dk_180 0 208 (dk_at dksX2_addCase_3 4 rfl rfl)
theorem dX2_addCase_78 : decode cX2_addCase 78 = .ok (.aload_n 2, 1) := dk_44 (dk_at dksX2_addCase_3 7 rfl rfl)
theorem dX2_addCase_79 : decode cX2_addCase 79 = .ok (.getfield 203, 3) := dk_180 0 203 (dk_at dksX2_addCase_3 8 rfl rfl)
theorem dX2_addCase_82 : decode cX2_addCase 82 = .ok (.if_icmp .ne 8, 3) := dk_160 0 8 (dk_at dksX2_addCase_3 11 rfl rfl)
theorem dX2_addCase_85 : decode cX2_addCase 85 = .ok (.aload_n 0, 1) := dk_42 (dk_at dksX2_addCase_3 14 rfl rfl)
theorem dX2_addCase_86 : decode cX2_addCase 86 = .ok (.iload_n 3, 1) := dk_29 (dk_at dksX2_addCase_3 15 rfl rfl)
theorem dX2_addCase_87 : decode cX2_addCase 87 = .ok (.invokevirtual 85, 3) := dk_182 0 85 (dk_at dksX2_addCase_3 16 rfl rfl)
theorem dX2_addCase_90 : decode cX2_addCase 90 = .ok (.aload_n 0, 1) := dk_42 (dk_at dksX2_addCase_3 19 rfl rfl)
theorem dX2_addCase_91 : decode cX2_addCase 91 = .ok (.ldc 211, 2) := dk_18 211 (dk_at dksX2_addCase_3 20 rfl rfl)
theorem dX2_addCase_93 : decode cX2_addCase 93 = .ok (.invokevirtual 92, 3) := dk_182 0 92 (dk_at dksX2_addCase_4 0 rfl rfl)
theorem dX2_addCase_96 : decode cX2_addCase 96 = .ok (.aload_n 2, 1) := dk_44 (dk_at dksX2_addCase_4 3 rfl rfl)
theorem dX2_addCase_97 : decode cX2_addCase 97 = .ok (.aload_n 0, 1) := dk_42 (dk_at dksX2_addCase_4 4 rfl rfl)
theorem dX2_addCase_98 : decode cX2_addCase 98 = .ok (.aload_n 0, 1) := dk_42 (dk_at dksX2_addCase_4 5 rfl rfl)
theorem dX2_addCase_99 : decode cX2_addCase 99 = .ok (.getfield 49, 3) := dk_180 0 49 (dk_at dksX2_addCase_4 6 rfl rfl)
theorem dX2_addCase_102 : decode cX2_addCase 102 = .ok (.getfield 163, 3) := dk_180 0 163 (dk_at dksX2_addCase_4 9 rfl rfl)
theorem dX2_addCase_105 : decode cX2_addCase 105 = .ok (.invokevirtual 180, 3) := dk_182 0 180 (dk_at dksX2_addCase_4 12 rfl rfl)
theorem dX2_addCase_108 : decode cX2_addCase 108 = .ok (.putfield 213, 3) := dk_181 0 213 (dk_at dksX2_addCase_4 15 rfl rfl)
theorem dX2_addCase_111 : decode cX2_addCase 111 = .ok (.aload_n 2, 1) := dk_44 (dk_at dksX2_addCase_4 18 rfl rfl)
theorem dX2_addCase_112 : decode cX2_addCase 112 = .ok (.iconst 0, 1) := dk_3 (dk_at dksX2_addCase_4 19 rfl rfl)
theorem dX2_addCase_113 : decode cX2_addCase 113 = .ok (.putfield 215, 3) := dk_181 0 215 (dk_at dksX2_addCase_4 20 rfl rfl)
theorem dX2_addCase_116 : decode cX2_addCase 116 = .ok (.aload_n 0, 1) := dk_42 (dk_at dksX2_addCase_4 23 rfl rfl)
theorem dX2_addCase_117 : decode cX2_addCase 117 = .ok (.getfield 49, 3) := dk_180 0 49 (dk_at dksX2_addCase_5 0 rfl rfl)
theorem dX2_addCase_120 : decode cX2_addCase 120 = .ok (.dup, 1) := dk_89 (dk_at dksX2_addCase_5 3 rfl rfl)
theorem dX2_addCase_121 : decode cX2_addCase 121 = .ok (.getfield 196, 3) := dk_180 0 196 (dk_at dksX2_addCase_5 4 rfl rfl)
theorem dX2_addCase_124 : decode cX2_addCase 124 = .ok (.iconst 1, 1) := dk_4 (dk_at dksX2_addCase_5 7 rfl rfl)
theorem dX2_addCase_125 : decode cX2_addCase 125 = .ok (.iadd, 1) := dk_96 (dk_at dksX2_addCase_5 8 rfl rfl)
theorem dX2_addCase_126 : decode cX2_addCase 126 = .ok (.putfield 196, 3) := dk_181 0 196 (dk_at dksX2_addCase_5 9 rfl rfl)
theorem dX2_addCase_129 : decode cX2_addCase 129 = .ok (.return_, 1) := dk_177 (dk_at dksX2_addCase_5 12 rfl rfl)
abbrev cX2_law : ByteArray := prog_10_method_18_code
def yX2_law : MethodName := ⟨RX2, "law", "(I)I"⟩
def dkwX2_law_6 : List UInt8 := [5, 160, 0, 7, 4, 167, 0, 4, 3, 183, 0, 232, 83, 132, 2, 1, 167, 255, 107, 28, 172]
abbrev dktX2_law_6 : List UInt8 := dkwX2_law_6 ++ []
def dkwX2_law_5 : List UInt8 := [29, 154, 0, 7, 4, 167, 0, 4, 3, 183, 0, 227, 167, 0, 24, 187, 0, 230, 89, 21, 4, 25, 5, 29]
abbrev dktX2_law_5 : List UInt8 := dkwX2_law_5 ++ dktX2_law_6
def dkwX2_law_4 : List UInt8 := [167, 0, 4, 1, 58, 5, 42, 180, 0, 42, 28, 29, 5, 162, 0, 26, 187, 0, 225, 89, 21, 4, 25, 5]
abbrev dktX2_law_4 : List UInt8 := dkwX2_law_4 ++ dktX2_law_5
def dkwX2_law_3 : List UInt8 := [3, 16, 9, 182, 0, 96, 54, 4, 42, 18, 220, 182, 0, 81, 153, 0, 11, 42, 3, 182, 0, 222]
abbrev dktX2_law_3 : List UInt8 := dkwX2_law_3 ++ dktX2_law_4
def dkwX2_law_2 : List UInt8 := [182, 0, 81, 153, 0, 7, 5, 167, 0, 4, 6, 62, 29, 6, 160, 0, 9, 42, 18, 153, 182, 0, 92, 42]
abbrev dktX2_law_2 : List UInt8 := dkwX2_law_2 ++ dktX2_law_3
def dkwX2_law_1 : List UInt8 := [153, 0, 7, 3, 167, 0, 30, 42, 18, 218, 182, 0, 81, 153, 0, 7, 4, 167, 0, 17, 42, 18, 155]
abbrev dktX2_law_1 : List UInt8 := dkwX2_law_1 ++ dktX2_law_2
def dkwX2_law_0 : List UInt8 := [42, 27, 182, 0, 103, 3, 61, 42, 28, 16, 12, 182, 0, 110, 153, 0, 145, 42, 18, 216, 182, 0, 81]
abbrev dktX2_law_0 : List UInt8 := dkwX2_law_0 ++ dktX2_law_1
theorem dksX2_law_0 : cX2_law.data.toList.drop 0 = dktX2_law_0 := by decide +kernel
theorem dksX2_law_1 : cX2_law.data.toList.drop 23 = dktX2_law_1 := dk_seg dksX2_law_0 23 rfl rfl
theorem dksX2_law_2 : cX2_law.data.toList.drop 46 = dktX2_law_2 := dk_seg dksX2_law_1 23 rfl rfl
theorem dksX2_law_3 : cX2_law.data.toList.drop 70 = dktX2_law_3 := dk_seg dksX2_law_2 24 rfl rfl
theorem dksX2_law_4 : cX2_law.data.toList.drop 92 = dktX2_law_4 := dk_seg dksX2_law_3 22 rfl rfl
theorem dksX2_law_5 : cX2_law.data.toList.drop 116 = dktX2_law_5 := dk_seg dksX2_law_4 24 rfl rfl
theorem dksX2_law_6 : cX2_law.data.toList.drop 140 = dktX2_law_6 := dk_seg dksX2_law_5 24 rfl rfl
theorem dX2_law_0 : decode cX2_law 0 = .ok (.aload_n 0, 1) := dk_42 (dk_at dksX2_law_0 0 rfl rfl)
theorem dX2_law_1 : decode cX2_law 1 = .ok (.iload_n 1, 1) := dk_27 (dk_at dksX2_law_0 1 rfl rfl)
theorem dX2_law_2 : decode cX2_law 2 = .ok (.invokevirtual 103, 3) := dk_182 0 103 (dk_at dksX2_law_0 2 rfl rfl)
theorem dX2_law_5 : decode cX2_law 5 = .ok (.iconst 0, 1) := dk_3 (dk_at dksX2_law_0 5 rfl rfl)
theorem dX2_law_6 : decode cX2_law 6 = .ok (.istore_n 2, 1) := dk_61 (dk_at dksX2_law_0 6 rfl rfl)
theorem dX2_law_7 : decode cX2_law 7 = .ok (.aload_n 0, 1) := dk_42 (dk_at dksX2_law_0 7 rfl rfl)
theorem dX2_law_8 : decode cX2_law 8 = .ok (.iload_n 2, 1) := dk_28 (dk_at dksX2_law_0 8 rfl rfl)
theorem dX2_law_9 : decode cX2_law 9 = .ok (.bipush 12, 2) := dk_16 12 (dk_at dksX2_law_0 9 rfl rfl)
theorem dX2_law_11 : decode cX2_law 11 = .ok (.invokevirtual 110, 3) := dk_182 0 110 (dk_at dksX2_law_0 11 rfl rfl)
theorem dX2_law_14 : decode cX2_law 14 = .ok (.ifCond .eq 145, 3) := dk_153 0 145 (dk_at dksX2_law_0 14 rfl rfl)
theorem dX2_law_17 : decode cX2_law 17 = .ok (.aload_n 0, 1) := dk_42 (dk_at dksX2_law_0 17 rfl rfl)
theorem dX2_law_18 : decode cX2_law 18 = .ok (.ldc 216, 2) := dk_18 216 (dk_at dksX2_law_0 18 rfl rfl)
theorem dX2_law_20 : decode cX2_law 20 = .ok (.invokevirtual 81, 3) := dk_182 0 81 (dk_at dksX2_law_0 20 rfl rfl)
theorem dX2_law_23 : decode cX2_law 23 = .ok (.ifCond .eq 7, 3) := dk_153 0 7 (dk_at dksX2_law_1 0 rfl rfl)
theorem dX2_law_26 : decode cX2_law 26 = .ok (.iconst 0, 1) := dk_3 (dk_at dksX2_law_1 3 rfl rfl)
theorem dX2_law_27 : decode cX2_law 27 = .ok (.goto 30, 3) := dk_167 0 30 (dk_at dksX2_law_1 4 rfl rfl)
theorem dX2_law_30 : decode cX2_law 30 = .ok (.aload_n 0, 1) := dk_42 (dk_at dksX2_law_1 7 rfl rfl)
theorem dX2_law_31 : decode cX2_law 31 = .ok (.ldc 218, 2) := dk_18 218 (dk_at dksX2_law_1 8 rfl rfl)
theorem dX2_law_33 : decode cX2_law 33 = .ok (.invokevirtual 81, 3) := dk_182 0 81 (dk_at dksX2_law_1 10 rfl rfl)
theorem dX2_law_36 : decode cX2_law 36 = .ok (.ifCond .eq 7, 3) := dk_153 0 7 (dk_at dksX2_law_1 13 rfl rfl)
theorem dX2_law_39 : decode cX2_law 39 = .ok (.iconst 1, 1) := dk_4 (dk_at dksX2_law_1 16 rfl rfl)
theorem dX2_law_40 : decode cX2_law 40 = .ok (.goto 17, 3) := dk_167 0 17 (dk_at dksX2_law_1 17 rfl rfl)
theorem dX2_law_43 : decode cX2_law 43 = .ok (.aload_n 0, 1) := dk_42 (dk_at dksX2_law_1 20 rfl rfl)
theorem dX2_law_44 : decode cX2_law 44 = .ok (.ldc 155, 2) := dk_18 155 (dk_at dksX2_law_1 21 rfl rfl)
theorem dX2_law_46 : decode cX2_law 46 = .ok (.invokevirtual 81, 3) := dk_182 0 81 (dk_at dksX2_law_2 0 rfl rfl)
theorem dX2_law_49 : decode cX2_law 49 = .ok (.ifCond .eq 7, 3) := dk_153 0 7 (dk_at dksX2_law_2 3 rfl rfl)
theorem dX2_law_52 : decode cX2_law 52 = .ok (.iconst 2, 1) := dk_5 (dk_at dksX2_law_2 6 rfl rfl)
theorem dX2_law_53 : decode cX2_law 53 = .ok (.goto 4, 3) := dk_167 0 4 (dk_at dksX2_law_2 7 rfl rfl)
theorem dX2_law_56 : decode cX2_law 56 = .ok (.iconst 3, 1) := dk_6 (dk_at dksX2_law_2 10 rfl rfl)
theorem dX2_law_57 : decode cX2_law 57 = .ok (.istore_n 3, 1) := dk_62 (dk_at dksX2_law_2 11 rfl rfl)
theorem dX2_law_58 : decode cX2_law 58 = .ok (.iload_n 3, 1) := dk_29 (dk_at dksX2_law_2 12 rfl rfl)
theorem dX2_law_59 : decode cX2_law 59 = .ok (.iconst 3, 1) := dk_6 (dk_at dksX2_law_2 13 rfl rfl)
theorem dX2_law_60 : decode cX2_law 60 = .ok (.if_icmp .ne 9, 3) := dk_160 0 9 (dk_at dksX2_law_2 14 rfl rfl)
theorem dX2_law_63 : decode cX2_law 63 = .ok (.aload_n 0, 1) := dk_42 (dk_at dksX2_law_2 17 rfl rfl)
theorem dX2_law_64 : decode cX2_law 64 = .ok (.ldc 153, 2) := dk_18 153 (dk_at dksX2_law_2 18 rfl rfl)
theorem dX2_law_66 : decode cX2_law 66 = .ok (.invokevirtual 92, 3) := dk_182 0 92 (dk_at dksX2_law_2 20 rfl rfl)
theorem dX2_law_69 : decode cX2_law 69 = .ok (.aload_n 0, 1) := dk_42 (dk_at dksX2_law_2 23 rfl rfl)
theorem dX2_law_70 : decode cX2_law 70 = .ok (.iconst 0, 1) := dk_3 (dk_at dksX2_law_3 0 rfl rfl)
theorem dX2_law_71 : decode cX2_law 71 = .ok (.bipush 9, 2) := dk_16 9 (dk_at dksX2_law_3 1 rfl rfl)
theorem dX2_law_73 : decode cX2_law 73 = .ok (.invokevirtual 96, 3) := dk_182 0 96 (dk_at dksX2_law_3 3 rfl rfl)
theorem dX2_law_76 : decode cX2_law 76 = .ok (.istore 4, 2) := dk_54 4 (dk_at dksX2_law_3 6 rfl rfl)
theorem dX2_law_78 : decode cX2_law 78 = .ok (.aload_n 0, 1) := dk_42 (dk_at dksX2_law_3 8 rfl rfl)
theorem dX2_law_79 : decode cX2_law 79 = .ok (.ldc 220, 2) := dk_18 220 (dk_at dksX2_law_3 9 rfl rfl)
theorem dX2_law_81 : decode cX2_law 81 = .ok (.invokevirtual 81, 3) := dk_182 0 81 (dk_at dksX2_law_3 11 rfl rfl)
theorem dX2_law_84 : decode cX2_law 84 = .ok (.ifCond .eq 11, 3) := dk_153 0 11 (dk_at dksX2_law_3 14 rfl rfl)
theorem dX2_law_87 : decode cX2_law 87 = .ok (.aload_n 0, 1) := dk_42 (dk_at dksX2_law_3 17 rfl rfl)
theorem dX2_law_88 : decode cX2_law 88 = .ok (.iconst 0, 1) := dk_3 (dk_at dksX2_law_3 18 rfl rfl)
theorem dX2_law_89 : decode cX2_law 89 = .ok (.invokevirtual 222, 3) := dk_182 0 222 (dk_at dksX2_law_3 19 rfl rfl)
theorem dX2_law_92 : decode cX2_law 92 = .ok (.goto 4, 3) := dk_167 0 4 (dk_at dksX2_law_4 0 rfl rfl)
theorem dX2_law_95 : decode cX2_law 95 = .ok (.aconst_null, 1) := dk_1 (dk_at dksX2_law_4 3 rfl rfl)
theorem dX2_law_96 : decode cX2_law 96 = .ok (.astore 5, 2) := dk_58 5 (dk_at dksX2_law_4 4 rfl rfl)
theorem dX2_law_98 : decode cX2_law 98 = .ok (.aload_n 0, 1) := dk_42 (dk_at dksX2_law_4 6 rfl rfl)
theorem dX2_law_99 : decode cX2_law 99 = .ok (.getfield 42, 3) := dk_180 0 42 (dk_at dksX2_law_4 7 rfl rfl)
theorem dX2_law_102 : decode cX2_law 102 = .ok (.iload_n 2, 1) := dk_28 (dk_at dksX2_law_4 10 rfl rfl)
theorem dX2_law_103 : decode cX2_law 103 = .ok (.iload_n 3, 1) := dk_29 (dk_at dksX2_law_4 11 rfl rfl)
theorem dX2_law_104 : decode cX2_law 104 = .ok (.iconst 2, 1) := dk_5 (dk_at dksX2_law_4 12 rfl rfl)
theorem dX2_law_105 : decode cX2_law 105 = .ok (.if_icmp .ge 26, 3) := dk_162 0 26 (dk_at dksX2_law_4 13 rfl rfl)
theorem dX2_law_108 : decode cX2_law 108 = .ok (.new 225, 3) := dk_187 0 225 (dk_at dksX2_law_4 16 rfl rfl)
theorem dX2_law_111 : decode cX2_law 111 = .ok (.dup, 1) := dk_89 (dk_at dksX2_law_4 19 rfl rfl)
theorem dX2_law_112 : decode cX2_law 112 = .ok (.iload 4, 2) := dk_21 4 (dk_at dksX2_law_4 20 rfl rfl)
theorem dX2_law_114 : decode cX2_law 114 = .ok (.aload 5, 2) := dk_25 5 (dk_at dksX2_law_4 22 rfl rfl)
theorem dX2_law_116 : decode cX2_law 116 = .ok (.iload_n 3, 1) := dk_29 (dk_at dksX2_law_5 0 rfl rfl)
theorem dX2_law_117 : decode cX2_law 117 = .ok (.ifCond .ne 7, 3) := dk_154 0 7 (dk_at dksX2_law_5 1 rfl rfl)
theorem dX2_law_120 : decode cX2_law 120 = .ok (.iconst 1, 1) := dk_4 (dk_at dksX2_law_5 4 rfl rfl)
theorem dX2_law_121 : decode cX2_law 121 = .ok (.goto 4, 3) := dk_167 0 4 (dk_at dksX2_law_5 5 rfl rfl)
theorem dX2_law_124 : decode cX2_law 124 = .ok (.iconst 0, 1) := dk_3 (dk_at dksX2_law_5 8 rfl rfl)
theorem dX2_law_125 : decode cX2_law 125 = .ok (.invokespecial 227, 3) := dk_183 0 227 (dk_at dksX2_law_5 9 rfl rfl)
theorem dX2_law_128 : decode cX2_law 128 = .ok (.goto 24, 3) := dk_167 0 24 (dk_at dksX2_law_5 12 rfl rfl)
theorem dX2_law_131 : decode cX2_law 131 = .ok (.new 230, 3) := dk_187 0 230 (dk_at dksX2_law_5 15 rfl rfl)
theorem dX2_law_134 : decode cX2_law 134 = .ok (.dup, 1) := dk_89 (dk_at dksX2_law_5 18 rfl rfl)
theorem dX2_law_135 : decode cX2_law 135 = .ok (.iload 4, 2) := dk_21 4 (dk_at dksX2_law_5 19 rfl rfl)
theorem dX2_law_137 : decode cX2_law 137 = .ok (.aload 5, 2) := dk_25 5 (dk_at dksX2_law_5 21 rfl rfl)
theorem dX2_law_139 : decode cX2_law 139 = .ok (.iload_n 3, 1) := dk_29 (dk_at dksX2_law_5 23 rfl rfl)
theorem dX2_law_140 : decode cX2_law 140 = .ok (.iconst 2, 1) := dk_5 (dk_at dksX2_law_6 0 rfl rfl)
theorem dX2_law_141 : decode cX2_law 141 = .ok (.if_icmp .ne 7, 3) := dk_160 0 7 (dk_at dksX2_law_6 1 rfl rfl)
theorem dX2_law_144 : decode cX2_law 144 = .ok (.iconst 1, 1) := dk_4 (dk_at dksX2_law_6 4 rfl rfl)
theorem dX2_law_145 : decode cX2_law 145 = .ok (.goto 4, 3) := dk_167 0 4 (dk_at dksX2_law_6 5 rfl rfl)
theorem dX2_law_148 : decode cX2_law 148 = .ok (.iconst 0, 1) := dk_3 (dk_at dksX2_law_6 8 rfl rfl)
theorem dX2_law_149 : decode cX2_law 149 = .ok (.invokespecial 232, 3) := dk_183 0 232 (dk_at dksX2_law_6 9 rfl rfl)
theorem dX2_law_152 : decode cX2_law 152 = .ok (.aastore, 1) := dk_83 (dk_at dksX2_law_6 12 rfl rfl)
theorem dX2_law_153 : decode cX2_law 153 = .ok (.iinc 2 1, 3) := dk_132 2 1 (dk_at dksX2_law_6 13 rfl rfl)
theorem dX2_law_156 : decode cX2_law 156 = .ok (.goto (-149), 3) := dk_167 255 107 (dk_at dksX2_law_6 16 rfl rfl)
theorem dX2_law_159 : decode cX2_law 159 = .ok (.iload_n 2, 1) := dk_28 (dk_at dksX2_law_6 19 rfl rfl)
theorem dX2_law_160 : decode cX2_law 160 = .ok (.ireturn, 1) := dk_172 (dk_at dksX2_law_6 20 rfl rfl)
abbrev cX2_row : ByteArray := prog_10_method_19_code
def yX2_row : MethodName := ⟨RX2, "row", "(Z)LFeatherYard$Cond;"⟩
def dkwX2_row_3 : List UInt8 := [181, 0, 246, 45, 180, 0, 246, 78, 167, 255, 205, 44, 176]
abbrev dktX2_row_3 : List UInt8 := dkwX2_row_3 ++ []
def dkwX2_row_2 : List UInt8 := [187, 0, 233, 89, 27, 153, 0, 10, 42, 182, 0, 235, 167, 0, 8, 42, 4, 182, 0, 222, 27, 183, 0, 239]
abbrev dktX2_row_2 : List UInt8 := dkwX2_row_2 ++ dktX2_row_3
def dkwX2_row_1 : List UInt8 := [77, 44, 78, 42, 27, 153, 0, 8, 18, 242, 167, 0, 5, 18, 244, 182, 0, 81, 153, 0, 39, 45]
abbrev dktX2_row_1 : List UInt8 := dkwX2_row_1 ++ dktX2_row_2
def dkwX2_row_0 : List UInt8 := [187, 0, 233, 89, 27, 153, 0, 10, 42, 182, 0, 235, 167, 0, 8, 42, 4, 182, 0, 222, 27, 183, 0, 239]
abbrev dktX2_row_0 : List UInt8 := dkwX2_row_0 ++ dktX2_row_1
theorem dksX2_row_0 : cX2_row.data.toList.drop 0 = dktX2_row_0 := by decide +kernel
theorem dksX2_row_1 : cX2_row.data.toList.drop 24 = dktX2_row_1 := dk_seg dksX2_row_0 24 rfl rfl
theorem dksX2_row_2 : cX2_row.data.toList.drop 46 = dktX2_row_2 := dk_seg dksX2_row_1 22 rfl rfl
theorem dksX2_row_3 : cX2_row.data.toList.drop 70 = dktX2_row_3 := dk_seg dksX2_row_2 24 rfl rfl
theorem dX2_row_0 : decode cX2_row 0 = .ok (.new 233, 3) := dk_187 0 233 (dk_at dksX2_row_0 0 rfl rfl)
theorem dX2_row_3 : decode cX2_row 3 = .ok (.dup, 1) := dk_89 (dk_at dksX2_row_0 3 rfl rfl)
theorem dX2_row_4 : decode cX2_row 4 = .ok (.iload_n 1, 1) := dk_27 (dk_at dksX2_row_0 4 rfl rfl)
theorem dX2_row_5 : decode cX2_row 5 = .ok (.ifCond .eq 10, 3) := dk_153 0 10 (dk_at dksX2_row_0 5 rfl rfl)
theorem dX2_row_8 : decode cX2_row 8 = .ok (.aload_n 0, 1) := dk_42 (dk_at dksX2_row_0 8 rfl rfl)
theorem dX2_row_9 : decode cX2_row 9 = .ok (.invokevirtual 235, 3) := dk_182 0 235 (dk_at dksX2_row_0 9 rfl rfl)
theorem dX2_row_12 : decode cX2_row 12 = .ok (.goto 8, 3) := dk_167 0 8 (dk_at dksX2_row_0 12 rfl rfl)
theorem dX2_row_15 : decode cX2_row 15 = .ok (.aload_n 0, 1) := dk_42 (dk_at dksX2_row_0 15 rfl rfl)
theorem dX2_row_16 : decode cX2_row 16 = .ok (.iconst 1, 1) := dk_4 (dk_at dksX2_row_0 16 rfl rfl)
theorem dX2_row_17 : decode cX2_row 17 = .ok (.invokevirtual 222, 3) := dk_182 0 222 (dk_at dksX2_row_0 17 rfl rfl)
theorem dX2_row_20 : decode cX2_row 20 = .ok (.iload_n 1, 1) := dk_27 (dk_at dksX2_row_0 20 rfl rfl)
theorem dX2_row_21 : decode cX2_row 21 = .ok (.invokespecial 239, 3) := dk_183 0 239 (dk_at dksX2_row_0 21 rfl rfl)
theorem dX2_row_24 : decode cX2_row 24 = .ok (.astore_n 2, 1) := dk_77 (dk_at dksX2_row_1 0 rfl rfl)
theorem dX2_row_25 : decode cX2_row 25 = .ok (.aload_n 2, 1) := dk_44 (dk_at dksX2_row_1 1 rfl rfl)
theorem dX2_row_26 : decode cX2_row 26 = .ok (.astore_n 3, 1) := dk_78 (dk_at dksX2_row_1 2 rfl rfl)
theorem dX2_row_27 : decode cX2_row 27 = .ok (.aload_n 0, 1) := dk_42 (dk_at dksX2_row_1 3 rfl rfl)
theorem dX2_row_28 : decode cX2_row 28 = .ok (.iload_n 1, 1) := dk_27 (dk_at dksX2_row_1 4 rfl rfl)
theorem dX2_row_29 : decode cX2_row 29 = .ok (.ifCond .eq 8, 3) := dk_153 0 8 (dk_at dksX2_row_1 5 rfl rfl)
theorem dX2_row_32 : decode cX2_row 32 = .ok (.ldc 242, 2) := dk_18 242 (dk_at dksX2_row_1 8 rfl rfl)
theorem dX2_row_34 : decode cX2_row 34 = .ok (.goto 5, 3) := dk_167 0 5 (dk_at dksX2_row_1 10 rfl rfl)
theorem dX2_row_37 : decode cX2_row 37 = .ok (.ldc 244, 2) := dk_18 244 (dk_at dksX2_row_1 13 rfl rfl)
theorem dX2_row_39 : decode cX2_row 39 = .ok (.invokevirtual 81, 3) := dk_182 0 81 (dk_at dksX2_row_1 15 rfl rfl)
theorem dX2_row_42 : decode cX2_row 42 = .ok (.ifCond .eq 39, 3) := dk_153 0 39 (dk_at dksX2_row_1 18 rfl rfl)
theorem dX2_row_45 : decode cX2_row 45 = .ok (.aload_n 3, 1) := dk_45 (dk_at dksX2_row_1 21 rfl rfl)
theorem dX2_row_46 : decode cX2_row 46 = .ok (.new 233, 3) := dk_187 0 233 (dk_at dksX2_row_2 0 rfl rfl)
theorem dX2_row_49 : decode cX2_row 49 = .ok (.dup, 1) := dk_89 (dk_at dksX2_row_2 3 rfl rfl)
theorem dX2_row_50 : decode cX2_row 50 = .ok (.iload_n 1, 1) := dk_27 (dk_at dksX2_row_2 4 rfl rfl)
theorem dX2_row_51 : decode cX2_row 51 = .ok (.ifCond .eq 10, 3) := dk_153 0 10 (dk_at dksX2_row_2 5 rfl rfl)
theorem dX2_row_54 : decode cX2_row 54 = .ok (.aload_n 0, 1) := dk_42 (dk_at dksX2_row_2 8 rfl rfl)
theorem dX2_row_55 : decode cX2_row 55 = .ok (.invokevirtual 235, 3) := dk_182 0 235 (dk_at dksX2_row_2 9 rfl rfl)
theorem dX2_row_58 : decode cX2_row 58 = .ok (.goto 8, 3) := dk_167 0 8 (dk_at dksX2_row_2 12 rfl rfl)
theorem dX2_row_61 : decode cX2_row 61 = .ok (.aload_n 0, 1) := dk_42 (dk_at dksX2_row_2 15 rfl rfl)
theorem dX2_row_62 : decode cX2_row 62 = .ok (.iconst 1, 1) := dk_4 (dk_at dksX2_row_2 16 rfl rfl)
theorem dX2_row_63 : decode cX2_row 63 = .ok (.invokevirtual 222, 3) := dk_182 0 222 (dk_at dksX2_row_2 17 rfl rfl)
theorem dX2_row_66 : decode cX2_row 66 = .ok (.iload_n 1, 1) := dk_27 (dk_at dksX2_row_2 20 rfl rfl)
theorem dX2_row_67 : decode cX2_row 67 = .ok (.invokespecial 239, 3) := dk_183 0 239 (dk_at dksX2_row_2 21 rfl rfl)
theorem dX2_row_70 : decode cX2_row 70 = .ok (.putfield 246, 3) := dk_181 0 246 (dk_at dksX2_row_3 0 rfl rfl)
theorem dX2_row_73 : decode cX2_row 73 = .ok (.aload_n 3, 1) := dk_45 (dk_at dksX2_row_3 3 rfl rfl)
theorem dX2_row_74 : decode cX2_row 74 = .ok (.getfield 246, 3) := dk_180 0 246 (dk_at dksX2_row_3 4 rfl rfl)
theorem dX2_row_77 : decode cX2_row 77 = .ok (.astore_n 3, 1) := dk_78 (dk_at dksX2_row_3 7 rfl rfl)
theorem dX2_row_78 : decode cX2_row 78 = .ok (.goto (-51), 3) := dk_167 255 205 (dk_at dksX2_row_3 8 rfl rfl)
theorem dX2_row_81 : decode cX2_row 81 = .ok (.aload_n 2, 1) := dk_44 (dk_at dksX2_row_3 11 rfl rfl)
theorem dX2_row_82 : decode cX2_row 82 = .ok (.areturn, 1) := dk_176 (dk_at dksX2_row_3 12 rfl rfl)
abbrev cX2_atom : ByteArray := prog_10_method_20_code
def yX2_atom : MethodName := ⟨RX2, "atom", "()LFeatherYard$Cond;"⟩
def dkwX2_atom_5 : List UInt8 := [181, 0, 64, 42, 89, 180, 0, 100, 4, 100, 181, 0, 100, 25, 4, 176]
abbrev dktX2_atom_5 : List UInt8 := dkwX2_atom_5 ++ []
def dkwX2_atom_4 : List UInt8 := [182, 0, 70, 16, 41, 159, 0, 11, 42, 42, 180, 0, 64, 182, 0, 85, 42, 89, 180, 0, 64, 4, 96]
abbrev dktX2_atom_4 : List UInt8 := dkwX2_atom_4 ++ dktX2_atom_5
def dkwX2_atom_3 : List UInt8 := [58, 4, 167, 0, 47, 42, 89, 180, 0, 64, 4, 96, 181, 0, 64, 42, 3, 182, 0, 222, 58, 4, 42]
abbrev dktX2_atom_3 : List UInt8 := dkwX2_atom_3 ++ dktX2_atom_4
def dkwX2_atom_2 : List UInt8 := [180, 0, 100, 4, 96, 181, 0, 100, 29, 153, 0, 19, 187, 0, 255, 89, 42, 182, 0, 235, 183, 1, 1]
abbrev dktX2_atom_2 : List UInt8 := dkwX2_atom_2 ++ dktX2_atom_3
def dkwX2_atom_1 : List UInt8 := [159, 0, 8, 42, 182, 0, 252, 176, 42, 180, 0, 100, 16, 6, 160, 0, 8, 42, 28, 182, 0, 85, 42, 89]
abbrev dktX2_atom_1 : List UInt8 := dkwX2_atom_1 ++ dktX2_atom_2
def dkwX2_atom_0 : List UInt8 := [42, 182, 0, 70, 60, 42, 180, 0, 64, 61, 42, 18, 250, 182, 0, 81, 62, 29, 154, 0, 14, 27, 16, 40]
abbrev dktX2_atom_0 : List UInt8 := dkwX2_atom_0 ++ dktX2_atom_1
theorem dksX2_atom_0 : cX2_atom.data.toList.drop 0 = dktX2_atom_0 := by decide +kernel
theorem dksX2_atom_1 : cX2_atom.data.toList.drop 24 = dktX2_atom_1 := dk_seg dksX2_atom_0 24 rfl rfl
theorem dksX2_atom_2 : cX2_atom.data.toList.drop 48 = dktX2_atom_2 := dk_seg dksX2_atom_1 24 rfl rfl
theorem dksX2_atom_3 : cX2_atom.data.toList.drop 71 = dktX2_atom_3 := dk_seg dksX2_atom_2 23 rfl rfl
theorem dksX2_atom_4 : cX2_atom.data.toList.drop 94 = dktX2_atom_4 := dk_seg dksX2_atom_3 23 rfl rfl
theorem dksX2_atom_5 : cX2_atom.data.toList.drop 117 = dktX2_atom_5 := dk_seg dksX2_atom_4 23 rfl rfl
theorem dX2_atom_0 : decode cX2_atom 0 = .ok (.aload_n 0, 1) := dk_42 (dk_at dksX2_atom_0 0 rfl rfl)
theorem dX2_atom_1 : decode cX2_atom 1 = .ok (.invokevirtual 70, 3) := dk_182 0 70 (dk_at dksX2_atom_0 1 rfl rfl)
theorem dX2_atom_4 : decode cX2_atom 4 = .ok (.istore_n 1, 1) := dk_60 (dk_at dksX2_atom_0 4 rfl rfl)
theorem dX2_atom_5 : decode cX2_atom 5 = .ok (.aload_n 0, 1) := dk_42 (dk_at dksX2_atom_0 5 rfl rfl)
theorem dX2_atom_6 : decode cX2_atom 6 = .ok (.getfield 64, 3) := dk_180 0 64 (dk_at dksX2_atom_0 6 rfl rfl)
theorem dX2_atom_9 : decode cX2_atom 9 = .ok (.istore_n 2, 1) := dk_61 (dk_at dksX2_atom_0 9 rfl rfl)
theorem dX2_atom_10 : decode cX2_atom 10 = .ok (.aload_n 0, 1) := dk_42 (dk_at dksX2_atom_0 10 rfl rfl)
theorem dX2_atom_11 : decode cX2_atom 11 = .ok (.ldc 250, 2) := dk_18 250 (dk_at dksX2_atom_0 11 rfl rfl)
theorem dX2_atom_13 : decode cX2_atom 13 = .ok (.invokevirtual 81, 3) := dk_182 0 81 (dk_at dksX2_atom_0 13 rfl rfl)
theorem dX2_atom_16 : decode cX2_atom 16 = .ok (.istore_n 3, 1) := dk_62 (dk_at dksX2_atom_0 16 rfl rfl)
theorem dX2_atom_17 : decode cX2_atom 17 = .ok (.iload_n 3, 1) := dk_29 (dk_at dksX2_atom_0 17 rfl rfl)
theorem dX2_atom_18 : decode cX2_atom 18 = .ok (.ifCond .ne 14, 3) := dk_154 0 14 (dk_at dksX2_atom_0 18 rfl rfl)
theorem dX2_atom_21 : decode cX2_atom 21 = .ok (.iload_n 1, 1) := dk_27 (dk_at dksX2_atom_0 21 rfl rfl)
theorem dX2_atom_22 : decode cX2_atom 22 = .ok (.bipush 40, 2) := dk_16 40 (dk_at dksX2_atom_0 22 rfl rfl)
theorem dX2_atom_24 : decode cX2_atom 24 = .ok (.if_icmp .eq 8, 3) := dk_159 0 8 (dk_at dksX2_atom_1 0 rfl rfl)
theorem dX2_atom_27 : decode cX2_atom 27 = .ok (.aload_n 0, 1) := dk_42 (dk_at dksX2_atom_1 3 rfl rfl)
theorem dX2_atom_28 : decode cX2_atom 28 = .ok (.invokevirtual 252, 3) := dk_182 0 252 (dk_at dksX2_atom_1 4 rfl rfl)
theorem dX2_atom_31 : decode cX2_atom 31 = .ok (.areturn, 1) := dk_176 (dk_at dksX2_atom_1 7 rfl rfl)
theorem dX2_atom_32 : decode cX2_atom 32 = .ok (.aload_n 0, 1) := dk_42 (dk_at dksX2_atom_1 8 rfl rfl)
theorem dX2_atom_33 : decode cX2_atom 33 = .ok (.getfield 100, 3) := dk_180 0 100 (dk_at dksX2_atom_1 9 rfl rfl)
theorem dX2_atom_36 : decode cX2_atom 36 = .ok (.bipush 6, 2) := dk_16 6 (dk_at dksX2_atom_1 12 rfl rfl)
theorem dX2_atom_38 : decode cX2_atom 38 = .ok (.if_icmp .ne 8, 3) := dk_160 0 8 (dk_at dksX2_atom_1 14 rfl rfl)
theorem dX2_atom_41 : decode cX2_atom 41 = .ok (.aload_n 0, 1) := dk_42 (dk_at dksX2_atom_1 17 rfl rfl)
theorem dX2_atom_42 : decode cX2_atom 42 = .ok (.iload_n 2, 1) := dk_28 (dk_at dksX2_atom_1 18 rfl rfl)
theorem dX2_atom_43 : decode cX2_atom 43 = .ok (.invokevirtual 85, 3) := dk_182 0 85 (dk_at dksX2_atom_1 19 rfl rfl)
theorem dX2_atom_46 : decode cX2_atom 46 = .ok (.aload_n 0, 1) := dk_42 (dk_at dksX2_atom_1 22 rfl rfl)
theorem dX2_atom_47 : decode cX2_atom 47 = .ok (.dup, 1) := dk_89 (dk_at dksX2_atom_1 23 rfl rfl)
theorem dX2_atom_48 : decode cX2_atom 48 = .ok (.getfield 100, 3) := dk_180 0 100 (dk_at dksX2_atom_2 0 rfl rfl)
theorem dX2_atom_51 : decode cX2_atom 51 = .ok (.iconst 1, 1) := dk_4 (dk_at dksX2_atom_2 3 rfl rfl)
theorem dX2_atom_52 : decode cX2_atom 52 = .ok (.iadd, 1) := dk_96 (dk_at dksX2_atom_2 4 rfl rfl)
theorem dX2_atom_53 : decode cX2_atom 53 = .ok (.putfield 100, 3) := dk_181 0 100 (dk_at dksX2_atom_2 5 rfl rfl)
theorem dX2_atom_56 : decode cX2_atom 56 = .ok (.iload_n 3, 1) := dk_29 (dk_at dksX2_atom_2 8 rfl rfl)
theorem dX2_atom_57 : decode cX2_atom 57 = .ok (.ifCond .eq 19, 3) := dk_153 0 19 (dk_at dksX2_atom_2 9 rfl rfl)
theorem dX2_atom_60 : decode cX2_atom 60 = .ok (.new 255, 3) := dk_187 0 255 (dk_at dksX2_atom_2 12 rfl rfl)
theorem dX2_atom_63 : decode cX2_atom 63 = .ok (.dup, 1) := dk_89 (dk_at dksX2_atom_2 15 rfl rfl)
theorem dX2_atom_64 : decode cX2_atom 64 = .ok (.aload_n 0, 1) := dk_42 (dk_at dksX2_atom_2 16 rfl rfl)
theorem dX2_atom_65 : decode cX2_atom 65 = .ok (.invokevirtual 235, 3) := dk_182 0 235 (dk_at dksX2_atom_2 17 rfl rfl)
theorem dX2_atom_68 : decode cX2_atom 68 = .ok (.invokespecial 257, 3) := dk_183 1 1 (dk_at dksX2_atom_2 20 rfl rfl)
theorem dX2_atom_71 : decode cX2_atom 71 = .ok (.astore 4, 2) := dk_58 4 (dk_at dksX2_atom_3 0 rfl rfl)
theorem dX2_atom_73 : decode cX2_atom 73 = .ok (.goto 47, 3) := dk_167 0 47 (dk_at dksX2_atom_3 2 rfl rfl)
theorem dX2_atom_76 : decode cX2_atom 76 = .ok (.aload_n 0, 1) := dk_42 (dk_at dksX2_atom_3 5 rfl rfl)
theorem dX2_atom_77 : decode cX2_atom 77 = .ok (.dup, 1) := dk_89 (dk_at dksX2_atom_3 6 rfl rfl)
theorem dX2_atom_78 : decode cX2_atom 78 = .ok (.getfield 64, 3) := dk_180 0 64 (dk_at dksX2_atom_3 7 rfl rfl)
theorem dX2_atom_81 : decode cX2_atom 81 = .ok (.iconst 1, 1) := dk_4 (dk_at dksX2_atom_3 10 rfl rfl)
theorem dX2_atom_82 : decode cX2_atom 82 = .ok (.iadd, 1) := dk_96 (dk_at dksX2_atom_3 11 rfl rfl)
theorem dX2_atom_83 : decode cX2_atom 83 = .ok (.putfield 64, 3) := dk_181 0 64 (dk_at dksX2_atom_3 12 rfl rfl)
theorem dX2_atom_86 : decode cX2_atom 86 = .ok (.aload_n 0, 1) := dk_42 (dk_at dksX2_atom_3 15 rfl rfl)
theorem dX2_atom_87 : decode cX2_atom 87 = .ok (.iconst 0, 1) := dk_3 (dk_at dksX2_atom_3 16 rfl rfl)
theorem dX2_atom_88 : decode cX2_atom 88 = .ok (.invokevirtual 222, 3) := dk_182 0 222 (dk_at dksX2_atom_3 17 rfl rfl)
theorem dX2_atom_91 : decode cX2_atom 91 = .ok (.astore 4, 2) := dk_58 4 (dk_at dksX2_atom_3 20 rfl rfl)
theorem dX2_atom_93 : decode cX2_atom 93 = .ok (.aload_n 0, 1) := dk_42 (dk_at dksX2_atom_3 22 rfl rfl)
theorem dX2_atom_94 : decode cX2_atom 94 = .ok (.invokevirtual 70, 3) := dk_182 0 70 (dk_at dksX2_atom_4 0 rfl rfl)
theorem dX2_atom_97 : decode cX2_atom 97 = .ok (.bipush 41, 2) := dk_16 41 (dk_at dksX2_atom_4 3 rfl rfl)
theorem dX2_atom_99 : decode cX2_atom 99 = .ok (.if_icmp .eq 11, 3) := dk_159 0 11 (dk_at dksX2_atom_4 5 rfl rfl)
theorem dX2_atom_102 : decode cX2_atom 102 = .ok (.aload_n 0, 1) := dk_42 (dk_at dksX2_atom_4 8 rfl rfl)
theorem dX2_atom_103 : decode cX2_atom 103 = .ok (.aload_n 0, 1) := dk_42 (dk_at dksX2_atom_4 9 rfl rfl)
theorem dX2_atom_104 : decode cX2_atom 104 = .ok (.getfield 64, 3) := dk_180 0 64 (dk_at dksX2_atom_4 10 rfl rfl)
theorem dX2_atom_107 : decode cX2_atom 107 = .ok (.invokevirtual 85, 3) := dk_182 0 85 (dk_at dksX2_atom_4 13 rfl rfl)
theorem dX2_atom_110 : decode cX2_atom 110 = .ok (.aload_n 0, 1) := dk_42 (dk_at dksX2_atom_4 16 rfl rfl)
theorem dX2_atom_111 : decode cX2_atom 111 = .ok (.dup, 1) := dk_89 (dk_at dksX2_atom_4 17 rfl rfl)
theorem dX2_atom_112 : decode cX2_atom 112 = .ok (.getfield 64, 3) := dk_180 0 64 (dk_at dksX2_atom_4 18 rfl rfl)
theorem dX2_atom_115 : decode cX2_atom 115 = .ok (.iconst 1, 1) := dk_4 (dk_at dksX2_atom_4 21 rfl rfl)
theorem dX2_atom_116 : decode cX2_atom 116 = .ok (.iadd, 1) := dk_96 (dk_at dksX2_atom_4 22 rfl rfl)
theorem dX2_atom_117 : decode cX2_atom 117 = .ok (.putfield 64, 3) := dk_181 0 64 (dk_at dksX2_atom_5 0 rfl rfl)
theorem dX2_atom_120 : decode cX2_atom 120 = .ok (.aload_n 0, 1) := dk_42 (dk_at dksX2_atom_5 3 rfl rfl)
theorem dX2_atom_121 : decode cX2_atom 121 = .ok (.dup, 1) := dk_89 (dk_at dksX2_atom_5 4 rfl rfl)
theorem dX2_atom_122 : decode cX2_atom 122 = .ok (.getfield 100, 3) := dk_180 0 100 (dk_at dksX2_atom_5 5 rfl rfl)
theorem dX2_atom_125 : decode cX2_atom 125 = .ok (.iconst 1, 1) := dk_4 (dk_at dksX2_atom_5 8 rfl rfl)
theorem dX2_atom_126 : decode cX2_atom 126 = .ok (.isub, 1) := dk_100 (dk_at dksX2_atom_5 9 rfl rfl)
theorem dX2_atom_127 : decode cX2_atom 127 = .ok (.putfield 100, 3) := dk_181 0 100 (dk_at dksX2_atom_5 10 rfl rfl)
theorem dX2_atom_130 : decode cX2_atom 130 = .ok (.aload 4, 2) := dk_25 4 (dk_at dksX2_atom_5 13 rfl rfl)
theorem dX2_atom_132 : decode cX2_atom 132 = .ok (.areturn, 1) := dk_176 (dk_at dksX2_atom_5 15 rfl rfl)
abbrev cX2_tag : ByteArray := prog_10_method_21_code
def yX2_tag : MethodName := ⟨RX2, "tag", "()LFeatherYard$Cond;"⟩
def dkwX2_tag_4 : List UInt8 := [89, 43, 45, 183, 1, 14, 167, 0, 12, 187, 1, 12, 89, 45, 43, 183, 1, 14, 176]
abbrev dktX2_tag_4 : List UInt8 := dkwX2_tag_4 ++ []
def dkwX2_tag_3 : List UInt8 := [42, 89, 180, 0, 64, 4, 96, 181, 0, 64, 42, 182, 1, 8, 78, 28, 16, 60, 160, 0, 15, 187, 1, 12]
abbrev dktX2_tag_3 : List UInt8 := dkwX2_tag_3 ++ dktX2_tag_4
def dkwX2_tag_2 : List UInt8 := [182, 0, 70, 61, 28, 16, 60, 159, 0, 17, 28, 16, 62, 159, 0, 11, 42, 42, 180, 0, 64, 182, 0, 85]
abbrev dktX2_tag_2 : List UInt8 := dkwX2_tag_2 ++ dktX2_tag_3
def dkwX2_tag_1 : List UInt8 := [187, 1, 4, 89, 16, 6, 27, 96, 183, 1, 6, 176, 132, 1, 1, 167, 255, 219, 42, 182, 1, 8, 76, 42]
abbrev dktX2_tag_1 : List UInt8 := dkwX2_tag_1 ++ dktX2_tag_2
def dkwX2_tag_0 : List UInt8 := [3, 60, 27, 42, 180, 0, 37, 190, 162, 0, 34, 42, 42, 180, 0, 37, 27, 50, 182, 0, 81, 153, 0, 15]
abbrev dktX2_tag_0 : List UInt8 := dkwX2_tag_0 ++ dktX2_tag_1
theorem dksX2_tag_0 : cX2_tag.data.toList.drop 0 = dktX2_tag_0 := by decide +kernel
theorem dksX2_tag_1 : cX2_tag.data.toList.drop 24 = dktX2_tag_1 := dk_seg dksX2_tag_0 24 rfl rfl
theorem dksX2_tag_2 : cX2_tag.data.toList.drop 48 = dktX2_tag_2 := dk_seg dksX2_tag_1 24 rfl rfl
theorem dksX2_tag_3 : cX2_tag.data.toList.drop 72 = dktX2_tag_3 := dk_seg dksX2_tag_2 24 rfl rfl
theorem dksX2_tag_4 : cX2_tag.data.toList.drop 96 = dktX2_tag_4 := dk_seg dksX2_tag_3 24 rfl rfl
theorem dX2_tag_0 : decode cX2_tag 0 = .ok (.iconst 0, 1) := dk_3 (dk_at dksX2_tag_0 0 rfl rfl)
theorem dX2_tag_1 : decode cX2_tag 1 = .ok (.istore_n 1, 1) := dk_60 (dk_at dksX2_tag_0 1 rfl rfl)
theorem dX2_tag_2 : decode cX2_tag 2 = .ok (.iload_n 1, 1) := dk_27 (dk_at dksX2_tag_0 2 rfl rfl)
theorem dX2_tag_3 : decode cX2_tag 3 = .ok (.aload_n 0, 1) := dk_42 (dk_at dksX2_tag_0 3 rfl rfl)
theorem dX2_tag_4 : decode cX2_tag 4 = .ok (.getfield 37, 3) := dk_180 0 37 (dk_at dksX2_tag_0 4 rfl rfl)
theorem dX2_tag_7 : decode cX2_tag 7 = .ok (.arraylength, 1) := dk_190 (dk_at dksX2_tag_0 7 rfl rfl)
theorem dX2_tag_8 : decode cX2_tag 8 = .ok (.if_icmp .ge 34, 3) := dk_162 0 34 (dk_at dksX2_tag_0 8 rfl rfl)
theorem dX2_tag_11 : decode cX2_tag 11 = .ok (.aload_n 0, 1) := dk_42 (dk_at dksX2_tag_0 11 rfl rfl)
theorem dX2_tag_12 : decode cX2_tag 12 = .ok (.aload_n 0, 1) := dk_42 (dk_at dksX2_tag_0 12 rfl rfl)
theorem dX2_tag_13 : decode cX2_tag 13 = .ok (.getfield 37, 3) := dk_180 0 37 (dk_at dksX2_tag_0 13 rfl rfl)
theorem dX2_tag_16 : decode cX2_tag 16 = .ok (.iload_n 1, 1) := dk_27 (dk_at dksX2_tag_0 16 rfl rfl)
theorem dX2_tag_17 : decode cX2_tag 17 = .ok (.aaload, 1) := dk_50 (dk_at dksX2_tag_0 17 rfl rfl)
theorem dX2_tag_18 : decode cX2_tag 18 = .ok (.invokevirtual 81, 3) := dk_182 0 81 (dk_at dksX2_tag_0 18 rfl rfl)
theorem dX2_tag_21 : decode cX2_tag 21 = .ok (.ifCond .eq 15, 3) := dk_153 0 15 (dk_at dksX2_tag_0 21 rfl rfl)
theorem dX2_tag_24 : decode cX2_tag 24 = .ok (.new 260, 3) := dk_187 1 4 (dk_at dksX2_tag_1 0 rfl rfl)
theorem dX2_tag_27 : decode cX2_tag 27 = .ok (.dup, 1) := dk_89 (dk_at dksX2_tag_1 3 rfl rfl)
theorem dX2_tag_28 : decode cX2_tag 28 = .ok (.bipush 6, 2) := dk_16 6 (dk_at dksX2_tag_1 4 rfl rfl)
theorem dX2_tag_30 : decode cX2_tag 30 = .ok (.iload_n 1, 1) := dk_27 (dk_at dksX2_tag_1 6 rfl rfl)
theorem dX2_tag_31 : decode cX2_tag 31 = .ok (.iadd, 1) := dk_96 (dk_at dksX2_tag_1 7 rfl rfl)
theorem dX2_tag_32 : decode cX2_tag 32 = .ok (.invokespecial 262, 3) := dk_183 1 6 (dk_at dksX2_tag_1 8 rfl rfl)
theorem dX2_tag_35 : decode cX2_tag 35 = .ok (.areturn, 1) := dk_176 (dk_at dksX2_tag_1 11 rfl rfl)
theorem dX2_tag_36 : decode cX2_tag 36 = .ok (.iinc 1 1, 3) := dk_132 1 1 (dk_at dksX2_tag_1 12 rfl rfl)
theorem dX2_tag_39 : decode cX2_tag 39 = .ok (.goto (-37), 3) := dk_167 255 219 (dk_at dksX2_tag_1 15 rfl rfl)
theorem dX2_tag_42 : decode cX2_tag 42 = .ok (.aload_n 0, 1) := dk_42 (dk_at dksX2_tag_1 18 rfl rfl)
theorem dX2_tag_43 : decode cX2_tag 43 = .ok (.invokevirtual 264, 3) := dk_182 1 8 (dk_at dksX2_tag_1 19 rfl rfl)
theorem dX2_tag_46 : decode cX2_tag 46 = .ok (.astore_n 1, 1) := dk_76 (dk_at dksX2_tag_1 22 rfl rfl)
theorem dX2_tag_47 : decode cX2_tag 47 = .ok (.aload_n 0, 1) := dk_42 (dk_at dksX2_tag_1 23 rfl rfl)
theorem dX2_tag_48 : decode cX2_tag 48 = .ok (.invokevirtual 70, 3) := dk_182 0 70 (dk_at dksX2_tag_2 0 rfl rfl)
theorem dX2_tag_51 : decode cX2_tag 51 = .ok (.istore_n 2, 1) := dk_61 (dk_at dksX2_tag_2 3 rfl rfl)
theorem dX2_tag_52 : decode cX2_tag 52 = .ok (.iload_n 2, 1) := dk_28 (dk_at dksX2_tag_2 4 rfl rfl)
theorem dX2_tag_53 : decode cX2_tag 53 = .ok (.bipush 60, 2) := dk_16 60 (dk_at dksX2_tag_2 5 rfl rfl)
theorem dX2_tag_55 : decode cX2_tag 55 = .ok (.if_icmp .eq 17, 3) := dk_159 0 17 (dk_at dksX2_tag_2 7 rfl rfl)
theorem dX2_tag_58 : decode cX2_tag 58 = .ok (.iload_n 2, 1) := dk_28 (dk_at dksX2_tag_2 10 rfl rfl)
theorem dX2_tag_59 : decode cX2_tag 59 = .ok (.bipush 62, 2) := dk_16 62 (dk_at dksX2_tag_2 11 rfl rfl)
theorem dX2_tag_61 : decode cX2_tag 61 = .ok (.if_icmp .eq 11, 3) := dk_159 0 11 (dk_at dksX2_tag_2 13 rfl rfl)
theorem dX2_tag_64 : decode cX2_tag 64 = .ok (.aload_n 0, 1) := dk_42 (dk_at dksX2_tag_2 16 rfl rfl)
theorem dX2_tag_65 : decode cX2_tag 65 = .ok (.aload_n 0, 1) := dk_42 (dk_at dksX2_tag_2 17 rfl rfl)
theorem dX2_tag_66 : decode cX2_tag 66 = .ok (.getfield 64, 3) := dk_180 0 64 (dk_at dksX2_tag_2 18 rfl rfl)
theorem dX2_tag_69 : decode cX2_tag 69 = .ok (.invokevirtual 85, 3) := dk_182 0 85 (dk_at dksX2_tag_2 21 rfl rfl)
theorem dX2_tag_72 : decode cX2_tag 72 = .ok (.aload_n 0, 1) := dk_42 (dk_at dksX2_tag_3 0 rfl rfl)
theorem dX2_tag_73 : decode cX2_tag 73 = .ok (.dup, 1) := dk_89 (dk_at dksX2_tag_3 1 rfl rfl)
theorem dX2_tag_74 : decode cX2_tag 74 = .ok (.getfield 64, 3) := dk_180 0 64 (dk_at dksX2_tag_3 2 rfl rfl)
theorem dX2_tag_77 : decode cX2_tag 77 = .ok (.iconst 1, 1) := dk_4 (dk_at dksX2_tag_3 5 rfl rfl)
theorem dX2_tag_78 : decode cX2_tag 78 = .ok (.iadd, 1) := dk_96 (dk_at dksX2_tag_3 6 rfl rfl)
theorem dX2_tag_79 : decode cX2_tag 79 = .ok (.putfield 64, 3) := dk_181 0 64 (dk_at dksX2_tag_3 7 rfl rfl)
theorem dX2_tag_82 : decode cX2_tag 82 = .ok (.aload_n 0, 1) := dk_42 (dk_at dksX2_tag_3 10 rfl rfl)
theorem dX2_tag_83 : decode cX2_tag 83 = .ok (.invokevirtual 264, 3) := dk_182 1 8 (dk_at dksX2_tag_3 11 rfl rfl)
theorem dX2_tag_86 : decode cX2_tag 86 = .ok (.astore_n 3, 1) := dk_78 (dk_at dksX2_tag_3 14 rfl rfl)
theorem dX2_tag_87 : decode cX2_tag 87 = .ok (.iload_n 2, 1) := dk_28 (dk_at dksX2_tag_3 15 rfl rfl)
theorem dX2_tag_88 : decode cX2_tag 88 = .ok (.bipush 60, 2) := dk_16 60 (dk_at dksX2_tag_3 16 rfl rfl)
theorem dX2_tag_90 : decode cX2_tag 90 = .ok (.if_icmp .ne 15, 3) := dk_160 0 15 (dk_at dksX2_tag_3 18 rfl rfl)
theorem dX2_tag_93 : decode cX2_tag 93 = .ok (.new 268, 3) := dk_187 1 12 (dk_at dksX2_tag_3 21 rfl rfl)
theorem dX2_tag_96 : decode cX2_tag 96 = .ok (.dup, 1) := dk_89 (dk_at dksX2_tag_4 0 rfl rfl)
theorem dX2_tag_97 : decode cX2_tag 97 = .ok (.aload_n 1, 1) := dk_43 (dk_at dksX2_tag_4 1 rfl rfl)
theorem dX2_tag_98 : decode cX2_tag 98 = .ok (.aload_n 3, 1) := dk_45 (dk_at dksX2_tag_4 2 rfl rfl)
theorem dX2_tag_99 : decode cX2_tag 99 = .ok (.invokespecial 270, 3) := dk_183 1 14 (dk_at dksX2_tag_4 3 rfl rfl)
theorem dX2_tag_102 : decode cX2_tag 102 = .ok (.goto 12, 3) := dk_167 0 12 (dk_at dksX2_tag_4 6 rfl rfl)
theorem dX2_tag_105 : decode cX2_tag 105 = .ok (.new 268, 3) := dk_187 1 12 (dk_at dksX2_tag_4 9 rfl rfl)
theorem dX2_tag_108 : decode cX2_tag 108 = .ok (.dup, 1) := dk_89 (dk_at dksX2_tag_4 12 rfl rfl)
theorem dX2_tag_109 : decode cX2_tag 109 = .ok (.aload_n 3, 1) := dk_45 (dk_at dksX2_tag_4 13 rfl rfl)
theorem dX2_tag_110 : decode cX2_tag 110 = .ok (.aload_n 1, 1) := dk_43 (dk_at dksX2_tag_4 14 rfl rfl)
theorem dX2_tag_111 : decode cX2_tag 111 = .ok (.invokespecial 270, 3) := dk_183 1 14 (dk_at dksX2_tag_4 15 rfl rfl)
theorem dX2_tag_114 : decode cX2_tag 114 = .ok (.areturn, 1) := dk_176 (dk_at dksX2_tag_4 18 rfl rfl)
abbrev cX2_sum : ByteArray := prog_10_method_22_code
def yX2_sum : MethodName := ⟨RX2, "sum", "()LFeatherYard$Sum;"⟩
def dkwX2_sum_1 : List UInt8 := [180, 0, 64, 4, 96, 181, 0, 64, 42, 43, 182, 1, 20, 167, 255, 232, 43, 176]
abbrev dktX2_sum_1 : List UInt8 := dkwX2_sum_1 ++ []
def dkwX2_sum_0 : List UInt8 := [187, 1, 17, 89, 183, 1, 19, 76, 42, 43, 182, 1, 20, 42, 182, 0, 70, 16, 43, 160, 0, 21, 42, 89]
abbrev dktX2_sum_0 : List UInt8 := dkwX2_sum_0 ++ dktX2_sum_1
theorem dksX2_sum_0 : cX2_sum.data.toList.drop 0 = dktX2_sum_0 := by decide +kernel
theorem dksX2_sum_1 : cX2_sum.data.toList.drop 24 = dktX2_sum_1 := dk_seg dksX2_sum_0 24 rfl rfl
theorem dX2_sum_0 : decode cX2_sum 0 = .ok (.new 273, 3) := dk_187 1 17 (dk_at dksX2_sum_0 0 rfl rfl)
theorem dX2_sum_3 : decode cX2_sum 3 = .ok (.dup, 1) := dk_89 (dk_at dksX2_sum_0 3 rfl rfl)
theorem dX2_sum_4 : decode cX2_sum 4 = .ok (.invokespecial 275, 3) := dk_183 1 19 (dk_at dksX2_sum_0 4 rfl rfl)
theorem dX2_sum_7 : decode cX2_sum 7 = .ok (.astore_n 1, 1) := dk_76 (dk_at dksX2_sum_0 7 rfl rfl)
theorem dX2_sum_8 : decode cX2_sum 8 = .ok (.aload_n 0, 1) := dk_42 (dk_at dksX2_sum_0 8 rfl rfl)
theorem dX2_sum_9 : decode cX2_sum 9 = .ok (.aload_n 1, 1) := dk_43 (dk_at dksX2_sum_0 9 rfl rfl)
theorem dX2_sum_10 : decode cX2_sum 10 = .ok (.invokevirtual 276, 3) := dk_182 1 20 (dk_at dksX2_sum_0 10 rfl rfl)
theorem dX2_sum_13 : decode cX2_sum 13 = .ok (.aload_n 0, 1) := dk_42 (dk_at dksX2_sum_0 13 rfl rfl)
theorem dX2_sum_14 : decode cX2_sum 14 = .ok (.invokevirtual 70, 3) := dk_182 0 70 (dk_at dksX2_sum_0 14 rfl rfl)
theorem dX2_sum_17 : decode cX2_sum 17 = .ok (.bipush 43, 2) := dk_16 43 (dk_at dksX2_sum_0 17 rfl rfl)
theorem dX2_sum_19 : decode cX2_sum 19 = .ok (.if_icmp .ne 21, 3) := dk_160 0 21 (dk_at dksX2_sum_0 19 rfl rfl)
theorem dX2_sum_22 : decode cX2_sum 22 = .ok (.aload_n 0, 1) := dk_42 (dk_at dksX2_sum_0 22 rfl rfl)
theorem dX2_sum_23 : decode cX2_sum 23 = .ok (.dup, 1) := dk_89 (dk_at dksX2_sum_0 23 rfl rfl)
theorem dX2_sum_24 : decode cX2_sum 24 = .ok (.getfield 64, 3) := dk_180 0 64 (dk_at dksX2_sum_1 0 rfl rfl)
theorem dX2_sum_27 : decode cX2_sum 27 = .ok (.iconst 1, 1) := dk_4 (dk_at dksX2_sum_1 3 rfl rfl)
theorem dX2_sum_28 : decode cX2_sum 28 = .ok (.iadd, 1) := dk_96 (dk_at dksX2_sum_1 4 rfl rfl)
theorem dX2_sum_29 : decode cX2_sum 29 = .ok (.putfield 64, 3) := dk_181 0 64 (dk_at dksX2_sum_1 5 rfl rfl)
theorem dX2_sum_32 : decode cX2_sum 32 = .ok (.aload_n 0, 1) := dk_42 (dk_at dksX2_sum_1 8 rfl rfl)
theorem dX2_sum_33 : decode cX2_sum 33 = .ok (.aload_n 1, 1) := dk_43 (dk_at dksX2_sum_1 9 rfl rfl)
theorem dX2_sum_34 : decode cX2_sum 34 = .ok (.invokevirtual 276, 3) := dk_182 1 20 (dk_at dksX2_sum_1 10 rfl rfl)
theorem dX2_sum_37 : decode cX2_sum 37 = .ok (.goto (-24), 3) := dk_167 255 232 (dk_at dksX2_sum_1 13 rfl rfl)
theorem dX2_sum_40 : decode cX2_sum 40 = .ok (.aload_n 1, 1) := dk_43 (dk_at dksX2_sum_1 16 rfl rfl)
theorem dX2_sum_41 : decode cX2_sum 41 = .ok (.areturn, 1) := dk_176 (dk_at dksX2_sum_1 17 rfl rfl)
abbrev cX2_part : ByteArray := prog_10_method_23_code
def yX2_part : MethodName := ⟨RX2, "part", "(LFeatherYard$Sum;)V"⟩
def dkwX2_part_3 : List UInt8 := [180, 0, 64, 182, 0, 85, 177]
abbrev dktX2_part_3 : List UInt8 := dkwX2_part_3 ++ []
def dkwX2_part_2 : List UInt8 := [167, 0, 14, 43, 180, 1, 30, 28, 92, 46, 4, 96, 79, 177, 132, 2, 1, 167, 255, 220, 42, 42]
abbrev dktX2_part_2 : List UInt8 := dkwX2_part_2 ++ dktX2_part_3
def dkwX2_part_1 : List UInt8 := [177, 3, 61, 28, 16, 6, 162, 0, 36, 42, 42, 180, 0, 29, 28, 50, 182, 0, 81, 154, 0, 6]
abbrev dktX2_part_1 : List UInt8 := dkwX2_part_1 ++ dktX2_part_2
def dkwX2_part_0 : List UInt8 := [42, 182, 1, 24, 153, 0, 21, 43, 89, 180, 1, 28, 42, 3, 17, 3, 231, 182, 0, 96, 96, 181, 1, 28]
abbrev dktX2_part_0 : List UInt8 := dkwX2_part_0 ++ dktX2_part_1
theorem dksX2_part_0 : cX2_part.data.toList.drop 0 = dktX2_part_0 := by decide +kernel
theorem dksX2_part_1 : cX2_part.data.toList.drop 24 = dktX2_part_1 := dk_seg dksX2_part_0 24 rfl rfl
theorem dksX2_part_2 : cX2_part.data.toList.drop 46 = dktX2_part_2 := dk_seg dksX2_part_1 22 rfl rfl
theorem dksX2_part_3 : cX2_part.data.toList.drop 68 = dktX2_part_3 := dk_seg dksX2_part_2 22 rfl rfl
theorem dX2_part_0 : decode cX2_part 0 = .ok (.aload_n 0, 1) := dk_42 (dk_at dksX2_part_0 0 rfl rfl)
theorem dX2_part_1 : decode cX2_part 1 = .ok (.invokevirtual 280, 3) := dk_182 1 24 (dk_at dksX2_part_0 1 rfl rfl)
theorem dX2_part_4 : decode cX2_part 4 = .ok (.ifCond .eq 21, 3) := dk_153 0 21 (dk_at dksX2_part_0 4 rfl rfl)
theorem dX2_part_7 : decode cX2_part 7 = .ok (.aload_n 1, 1) := dk_43 (dk_at dksX2_part_0 7 rfl rfl)
theorem dX2_part_8 : decode cX2_part 8 = .ok (.dup, 1) := dk_89 (dk_at dksX2_part_0 8 rfl rfl)
theorem dX2_part_9 : decode cX2_part 9 = .ok (.getfield 284, 3) := dk_180 1 28 (dk_at dksX2_part_0 9 rfl rfl)
theorem dX2_part_12 : decode cX2_part 12 = .ok (.aload_n 0, 1) := dk_42 (dk_at dksX2_part_0 12 rfl rfl)
theorem dX2_part_13 : decode cX2_part 13 = .ok (.iconst 0, 1) := dk_3 (dk_at dksX2_part_0 13 rfl rfl)
theorem dX2_part_14 : decode cX2_part 14 = .ok (.sipush 999, 3) := dk_17 3 231 (dk_at dksX2_part_0 14 rfl rfl)
theorem dX2_part_17 : decode cX2_part 17 = .ok (.invokevirtual 96, 3) := dk_182 0 96 (dk_at dksX2_part_0 17 rfl rfl)
theorem dX2_part_20 : decode cX2_part 20 = .ok (.iadd, 1) := dk_96 (dk_at dksX2_part_0 20 rfl rfl)
theorem dX2_part_21 : decode cX2_part 21 = .ok (.putfield 284, 3) := dk_181 1 28 (dk_at dksX2_part_0 21 rfl rfl)
theorem dX2_part_24 : decode cX2_part 24 = .ok (.return_, 1) := dk_177 (dk_at dksX2_part_1 0 rfl rfl)
theorem dX2_part_25 : decode cX2_part 25 = .ok (.iconst 0, 1) := dk_3 (dk_at dksX2_part_1 1 rfl rfl)
theorem dX2_part_26 : decode cX2_part 26 = .ok (.istore_n 2, 1) := dk_61 (dk_at dksX2_part_1 2 rfl rfl)
theorem dX2_part_27 : decode cX2_part 27 = .ok (.iload_n 2, 1) := dk_28 (dk_at dksX2_part_1 3 rfl rfl)
theorem dX2_part_28 : decode cX2_part 28 = .ok (.bipush 6, 2) := dk_16 6 (dk_at dksX2_part_1 4 rfl rfl)
theorem dX2_part_30 : decode cX2_part 30 = .ok (.if_icmp .ge 36, 3) := dk_162 0 36 (dk_at dksX2_part_1 6 rfl rfl)
theorem dX2_part_33 : decode cX2_part 33 = .ok (.aload_n 0, 1) := dk_42 (dk_at dksX2_part_1 9 rfl rfl)
theorem dX2_part_34 : decode cX2_part 34 = .ok (.aload_n 0, 1) := dk_42 (dk_at dksX2_part_1 10 rfl rfl)
theorem dX2_part_35 : decode cX2_part 35 = .ok (.getfield 29, 3) := dk_180 0 29 (dk_at dksX2_part_1 11 rfl rfl)
theorem dX2_part_38 : decode cX2_part 38 = .ok (.iload_n 2, 1) := dk_28 (dk_at dksX2_part_1 14 rfl rfl)
theorem dX2_part_39 : decode cX2_part 39 = .ok (.aaload, 1) := dk_50 (dk_at dksX2_part_1 15 rfl rfl)
theorem dX2_part_40 : decode cX2_part 40 = .ok (.invokevirtual 81, 3) := dk_182 0 81 (dk_at dksX2_part_1 16 rfl rfl)
theorem dX2_part_43 : decode cX2_part 43 = .ok (.ifCond .ne 6, 3) := dk_154 0 6 (dk_at dksX2_part_1 19 rfl rfl)
theorem dX2_part_46 : decode cX2_part 46 = .ok (.goto 14, 3) := dk_167 0 14 (dk_at dksX2_part_2 0 rfl rfl)
theorem dX2_part_49 : decode cX2_part 49 = .ok (.aload_n 1, 1) := dk_43 (dk_at dksX2_part_2 3 rfl rfl)
theorem dX2_part_50 : decode cX2_part 50 = .ok (.getfield 286, 3) := dk_180 1 30 (dk_at dksX2_part_2 4 rfl rfl)
theorem dX2_part_53 : decode cX2_part 53 = .ok (.iload_n 2, 1) := dk_28 (dk_at dksX2_part_2 7 rfl rfl)
theorem dX2_part_54 : decode cX2_part 54 = .ok (.dup2, 1) := dk_92 (dk_at dksX2_part_2 8 rfl rfl)
theorem dX2_part_55 : decode cX2_part 55 = .ok (.iaload, 1) := dk_46 (dk_at dksX2_part_2 9 rfl rfl)
theorem dX2_part_56 : decode cX2_part 56 = .ok (.iconst 1, 1) := dk_4 (dk_at dksX2_part_2 10 rfl rfl)
theorem dX2_part_57 : decode cX2_part 57 = .ok (.iadd, 1) := dk_96 (dk_at dksX2_part_2 11 rfl rfl)
theorem dX2_part_58 : decode cX2_part 58 = .ok (.iastore, 1) := dk_79 (dk_at dksX2_part_2 12 rfl rfl)
theorem dX2_part_59 : decode cX2_part 59 = .ok (.return_, 1) := dk_177 (dk_at dksX2_part_2 13 rfl rfl)
theorem dX2_part_60 : decode cX2_part 60 = .ok (.iinc 2 1, 3) := dk_132 2 1 (dk_at dksX2_part_2 14 rfl rfl)
theorem dX2_part_63 : decode cX2_part 63 = .ok (.goto (-36), 3) := dk_167 255 220 (dk_at dksX2_part_2 17 rfl rfl)
theorem dX2_part_66 : decode cX2_part 66 = .ok (.aload_n 0, 1) := dk_42 (dk_at dksX2_part_2 20 rfl rfl)
theorem dX2_part_67 : decode cX2_part 67 = .ok (.aload_n 0, 1) := dk_42 (dk_at dksX2_part_2 21 rfl rfl)
theorem dX2_part_68 : decode cX2_part 68 = .ok (.getfield 64, 3) := dk_180 0 64 (dk_at dksX2_part_3 0 rfl rfl)
theorem dX2_part_71 : decode cX2_part 71 = .ok (.invokevirtual 85, 3) := dk_182 0 85 (dk_at dksX2_part_3 3 rfl rfl)
theorem dX2_part_74 : decode cX2_part 74 = .ok (.return_, 1) := dk_177 (dk_at dksX2_part_3 6 rfl rfl)
abbrev cX2_isFigure : ByteArray := prog_10_method_5_code
def yX2_isFigure : MethodName := ⟨RX2, "isFigure", "()Z"⟩
def dkwX2_isFigure_0 : List UInt8 := [42, 182, 0, 70, 60, 27, 16, 48, 161, 0, 13, 27, 16, 57, 163, 0, 7, 4, 167, 0, 4, 3, 172]
abbrev dktX2_isFigure_0 : List UInt8 := dkwX2_isFigure_0 ++ []
theorem dksX2_isFigure_0 : cX2_isFigure.data.toList.drop 0 = dktX2_isFigure_0 := by decide +kernel
theorem dX2_isFigure_0 : decode cX2_isFigure 0 = .ok (.aload_n 0, 1) := dk_42 (dk_at dksX2_isFigure_0 0 rfl rfl)
theorem dX2_isFigure_1 : decode cX2_isFigure 1 = .ok (.invokevirtual 70, 3) := dk_182 0 70 (dk_at dksX2_isFigure_0 1 rfl rfl)
theorem dX2_isFigure_4 : decode cX2_isFigure 4 = .ok (.istore_n 1, 1) := dk_60 (dk_at dksX2_isFigure_0 4 rfl rfl)
theorem dX2_isFigure_5 : decode cX2_isFigure 5 = .ok (.iload_n 1, 1) := dk_27 (dk_at dksX2_isFigure_0 5 rfl rfl)
theorem dX2_isFigure_6 : decode cX2_isFigure 6 = .ok (.bipush 48, 2) := dk_16 48 (dk_at dksX2_isFigure_0 6 rfl rfl)
theorem dX2_isFigure_8 : decode cX2_isFigure 8 = .ok (.if_icmp .lt 13, 3) := dk_161 0 13 (dk_at dksX2_isFigure_0 8 rfl rfl)
theorem dX2_isFigure_11 : decode cX2_isFigure 11 = .ok (.iload_n 1, 1) := dk_27 (dk_at dksX2_isFigure_0 11 rfl rfl)
theorem dX2_isFigure_12 : decode cX2_isFigure 12 = .ok (.bipush 57, 2) := dk_16 57 (dk_at dksX2_isFigure_0 12 rfl rfl)
theorem dX2_isFigure_14 : decode cX2_isFigure 14 = .ok (.if_icmp .gt 7, 3) := dk_163 0 7 (dk_at dksX2_isFigure_0 14 rfl rfl)
theorem dX2_isFigure_17 : decode cX2_isFigure 17 = .ok (.iconst 1, 1) := dk_4 (dk_at dksX2_isFigure_0 17 rfl rfl)
theorem dX2_isFigure_18 : decode cX2_isFigure 18 = .ok (.goto 4, 3) := dk_167 0 4 (dk_at dksX2_isFigure_0 18 rfl rfl)
theorem dX2_isFigure_21 : decode cX2_isFigure 21 = .ok (.iconst 0, 1) := dk_3 (dk_at dksX2_isFigure_0 21 rfl rfl)
theorem dX2_isFigure_22 : decode cX2_isFigure 22 = .ok (.ireturn, 1) := dk_172 (dk_at dksX2_isFigure_0 22 rfl rfl)
theorem q127 : (Jvm.Cond.initialized "FeatherYard$Reader") ∈ lw_all := lw_g (lw_at lw_m1 2 rfl) rfl
theorem q167 : (Jvm.Cond.instantiable "FeatherYard$Reader" (10 : Nat)) ∈ lw_all := lw_g (lw_at lw_m1 42 rfl) rfl
theorem q169 : (Jvm.Cond.instanceMethod ({ cls := "FeatherYard$Reader", name := "<init>", desc := "()V" } : Jvm.MethodName)) ∈ lw_all := lw_g (lw_at lw_m1 44 rfl) rfl
theorem q170 : (Jvm.Cond.code ({ cls := "FeatherYard$Reader", name := "<init>", desc := "()V" } : Jvm.MethodName) prog_10_method_1_code (1 : Nat) (Option.none : Option Jvm.ClassFile.FieldType)) ∈ lw_all := lw_g (lw_at lw_m1 45 rfl) rfl
theorem q171 : (Jvm.Cond.methodLink "FeatherYard$Reader" (3 : Nat) ({ cls := "java/lang/Object", name := "<init>", desc := "()V" } : Jvm.MethodName)) ∈ lw_all := lw_g (lw_at lw_m1 46 rfl) rfl
theorem q172 : (Jvm.Cond.classLink "FeatherYard$Reader" (15 : Nat) "java/lang/String") ∈ lw_all := lw_g (lw_at lw_m1 47 rfl) rfl
theorem q174 : (Jvm.Cond.stringRef "FeatherYard$Reader" (17 : Nat) "bird") ∈ lw_tbl := lw_at lw_m1 49 rfl
theorem q175 : (Jvm.Cond.stringRef "FeatherYard$Reader" (19 : Nat) "level") ∈ lw_tbl := lw_at lw_m1 50 rfl
theorem q176 : (Jvm.Cond.stringRef "FeatherYard$Reader" (21 : Nat) "column") ∈ lw_tbl := lw_at lw_m1 51 rfl
theorem q177 : (Jvm.Cond.stringRef "FeatherYard$Reader" (23 : Nat) "light") ∈ lw_tbl := lw_at lw_m1 52 rfl
theorem q178 : (Jvm.Cond.stringRef "FeatherYard$Reader" (25 : Nat) "hour") ∈ lw_tbl := lw_at lw_m1 53 rfl
theorem q179 : (Jvm.Cond.stringRef "FeatherYard$Reader" (27 : Nat) "breath") ∈ lw_tbl := lw_at lw_m1 54 rfl
theorem q180 : (Jvm.Cond.stringRef "FeatherYard$Reader" (33 : Nat) "high") ∈ lw_tbl := lw_at lw_m1 55 rfl
theorem q181 : (Jvm.Cond.stringRef "FeatherYard$Reader" (35 : Nat) "over") ∈ lw_tbl := lw_at lw_m1 56 rfl
theorem q182 : (Jvm.Cond.classLink "FeatherYard$Reader" (40 : Nat) "FeatherYard$Line") ∈ lw_all := lw_g (lw_at lw_m1 57 rfl) rfl
theorem q184 : (Jvm.Cond.classLink "FeatherYard$Reader" (46 : Nat) "FeatherYard$State") ∈ lw_all := lw_g (lw_at lw_m1 59 rfl) rfl
theorem q186 : (Jvm.Cond.methodLink "FeatherYard$Reader" (48 : Nat) ({ cls := "FeatherYard$State", name := "<init>", desc := "()V" } : Jvm.MethodName)) ∈ lw_all := lw_g (lw_at lw_m1 61 rfl) rfl
theorem q202 : (Jvm.Cond.fieldLinkNest "FeatherYard$Reader" (172 : Nat) "FeatherYard$Bird" "falls" "I" "FeatherYard") ∈ lw_tbl := lw_at lw_m1 77 rfl
theorem q207 : (Jvm.Cond.fieldLinkNest "FeatherYard$Reader" (176 : Nat) "FeatherYard$Bird" "light" "I" "FeatherYard") ∈ lw_tbl := lw_at lw_m1 82 rfl
theorem q210 : (Jvm.Cond.fieldLinkNest "FeatherYard$Reader" (184 : Nat) "FeatherYard$Bird" "songs" "I" "FeatherYard") ∈ lw_tbl := lw_at lw_m1 85 rfl
theorem q213 : (Jvm.Cond.fieldLinkNest "FeatherYard$Reader" (188 : Nat) "FeatherYard$Bird" "moults" "I" "FeatherYard") ∈ lw_tbl := lw_at lw_m1 88 rfl
theorem q233 : (Jvm.Cond.fieldLinkNest "FeatherYard$Reader" (203 : Nat) "FeatherYard$Case" "one" "I" "FeatherYard") ∈ lw_tbl := lw_at lw_m1 108 rfl
theorem q237 : (Jvm.Cond.fieldLinkNest "FeatherYard$Reader" (208 : Nat) "FeatherYard$Case" "other" "I" "FeatherYard") ∈ lw_tbl := lw_at lw_m1 112 rfl
theorem q241 : (Jvm.Cond.fieldLinkNest "FeatherYard$Reader" (213 : Nat) "FeatherYard$Case" "present" "I" "FeatherYard") ∈ lw_tbl := lw_at lw_m1 116 rfl
theorem q244 : (Jvm.Cond.fieldLinkNest "FeatherYard$Reader" (215 : Nat) "FeatherYard$Case" "end" "I" "FeatherYard") ∈ lw_tbl := lw_at lw_m1 119 rfl
theorem q258 : (Jvm.Cond.fieldLinkNest "FeatherYard$Reader" (166 : Nat) "FeatherYard$State" "birds" "[LFeatherYard$Bird;" "FeatherYard") ∈ lw_tbl := lw_at lw_m1 133 rfl
theorem q261 : (Jvm.Cond.fieldLinkNest "FeatherYard$Reader" (199 : Nat) "FeatherYard$State" "cases" "[LFeatherYard$Case;" "FeatherYard") ∈ lw_tbl := lw_at lw_m1 136 rfl
theorem q265 : (Jvm.Cond.fieldLinkNest "FeatherYard$Reader" (190 : Nat) "FeatherYard$State" "stocks" "[I" "FeatherYard") ∈ lw_tbl := lw_at lw_m1 140 rfl
theorem q268 : (Jvm.Cond.fieldLinkNest "FeatherYard$Reader" (157 : Nat) "FeatherYard$State" "winds" "[I" "FeatherYard") ∈ lw_tbl := lw_at lw_m1 143 rfl
theorem q274 : (Jvm.Cond.fieldLinkNest "FeatherYard$Reader" (163 : Nat) "FeatherYard$State" "birdMany" "I" "FeatherYard") ∈ lw_tbl := lw_at lw_m1 149 rfl
theorem q277 : (Jvm.Cond.fieldLinkNest "FeatherYard$Reader" (193 : Nat) "FeatherYard$State" "counselMany" "I" "FeatherYard") ∈ lw_tbl := lw_at lw_m1 152 rfl
theorem q280 : (Jvm.Cond.fieldLinkNest "FeatherYard$Reader" (196 : Nat) "FeatherYard$State" "caseMany" "I" "FeatherYard") ∈ lw_tbl := lw_at lw_m1 155 rfl
theorem q287 : (Jvm.Cond.fieldLinkNest "FeatherYard$Reader" (132 : Nat) "FeatherYard$State" "tower" "I" "FeatherYard") ∈ lw_tbl := lw_at lw_m1 162 rfl
theorem q291 : (Jvm.Cond.fieldLinkNest "FeatherYard$Reader" (140 : Nat) "FeatherYard$State" "top" "I" "FeatherYard") ∈ lw_tbl := lw_at lw_m1 166 rfl
theorem q294 : (Jvm.Cond.fieldLinkNest "FeatherYard$Reader" (144 : Nat) "FeatherYard$State" "from" "I" "FeatherYard") ∈ lw_tbl := lw_at lw_m1 169 rfl
theorem q297 : (Jvm.Cond.fieldLinkNest "FeatherYard$Reader" (149 : Nat) "FeatherYard$State" "to" "I" "FeatherYard") ∈ lw_tbl := lw_at lw_m1 172 rfl
theorem q300 : (Jvm.Cond.fieldLinkNest "FeatherYard$Reader" (161 : Nat) "FeatherYard$State" "hour" "I" "FeatherYard") ∈ lw_tbl := lw_at lw_m1 175 rfl
theorem q349 : (Jvm.Cond.classLink "FeatherYard$Reader" (53 : Nat) "FeatherYard$Wrong") ∈ lw_all := lw_g (lw_at lw_m1 224 rfl) rfl
theorem q394 : (Jvm.Cond.methodLink "FeatherYard$Reader" (55 : Nat) ({ cls := "FeatherYard$Wrong", name := "<init>", desc := "()V" } : Jvm.MethodName)) ∈ lw_all := lw_g (lw_at lw_m2 29 rfl) rfl
theorem q406 : (Jvm.Cond.fieldLinkNest "FeatherYard$Reader" (60 : Nat) "FeatherYard$Wrong" "place" "I" "FeatherYard") ∈ lw_tbl := lw_at lw_m2 41 rfl
theorem q423 : (Jvm.Cond.fieldLink "FeatherYard$Reader" (9 : Nat) "FeatherYard$Reader" "tape" "[B") ∈ lw_all := lw_g (lw_at lw_m2 58 rfl) rfl
theorem q425 : (Jvm.Cond.fieldLink "FeatherYard$Reader" (29 : Nat) "FeatherYard$Reader" "words" "[Ljava/lang/String;") ∈ lw_all := lw_g (lw_at lw_m2 60 rfl) rfl
theorem q426 : (Jvm.Cond.fieldLink "FeatherYard$Reader" (37 : Nat) "FeatherYard$Reader" "tags" "[Ljava/lang/String;") ∈ lw_all := lw_g (lw_at lw_m2 61 rfl) rfl
theorem q427 : (Jvm.Cond.fieldLink "FeatherYard$Reader" (42 : Nat) "FeatherYard$Reader" "row" "[LFeatherYard$Line;") ∈ lw_all := lw_g (lw_at lw_m2 62 rfl) rfl
theorem q429 : (Jvm.Cond.fieldLink "FeatherYard$Reader" (49 : Nat) "FeatherYard$Reader" "draft" "LFeatherYard$State;") ∈ lw_all := lw_g (lw_at lw_m2 64 rfl) rfl
theorem q430 : (Jvm.Cond.fieldLink "FeatherYard$Reader" (56 : Nat) "FeatherYard$Reader" "wrong" "LFeatherYard$Wrong;") ∈ lw_all := lw_g (lw_at lw_m2 65 rfl) rfl
theorem q432 : (Jvm.Cond.fieldLink "FeatherYard$Reader" (67 : Nat) "FeatherYard$Reader" "end" "I") ∈ lw_all := lw_g (lw_at lw_m2 67 rfl) rfl
theorem q433 : (Jvm.Cond.fieldLink "FeatherYard$Reader" (64 : Nat) "FeatherYard$Reader" "at" "I") ∈ lw_all := lw_g (lw_at lw_m2 68 rfl) rfl
theorem q434 : (Jvm.Cond.fieldLink "FeatherYard$Reader" (100 : Nat) "FeatherYard$Reader" "deep" "I") ∈ lw_all := lw_g (lw_at lw_m2 69 rfl) rfl
theorem q435 : (Jvm.Cond.laysFinal "FeatherYard$Reader" "FeatherYard$Reader" "tape" "[B") ∈ lw_all := lw_g (lw_at lw_m2 70 rfl) rfl
theorem q436 : (Jvm.Cond.soleField "FeatherYard$Reader" "tape") ∈ lw_all := lw_g (lw_at lw_m2 71 rfl) rfl
theorem q437 : (Jvm.Cond.laysFinal "FeatherYard$Reader" "FeatherYard$Reader" "words" "[Ljava/lang/String;") ∈ lw_all := lw_g (lw_at lw_m2 72 rfl) rfl
theorem q438 : (Jvm.Cond.soleField "FeatherYard$Reader" "words") ∈ lw_all := lw_g (lw_at lw_m2 73 rfl) rfl
theorem q439 : (Jvm.Cond.laysFinal "FeatherYard$Reader" "FeatherYard$Reader" "tags" "[Ljava/lang/String;") ∈ lw_all := lw_g (lw_at lw_m2 74 rfl) rfl
theorem q440 : (Jvm.Cond.soleField "FeatherYard$Reader" "tags") ∈ lw_all := lw_g (lw_at lw_m2 75 rfl) rfl
theorem q441 : (Jvm.Cond.laysFinal "FeatherYard$Reader" "FeatherYard$Reader" "row" "[LFeatherYard$Line;") ∈ lw_all := lw_g (lw_at lw_m2 76 rfl) rfl
theorem q442 : (Jvm.Cond.soleField "FeatherYard$Reader" "row") ∈ lw_all := lw_g (lw_at lw_m2 77 rfl) rfl
theorem q443 : (Jvm.Cond.laysFinal "FeatherYard$Reader" "FeatherYard$Reader" "draft" "LFeatherYard$State;") ∈ lw_all := lw_g (lw_at lw_m2 78 rfl) rfl
theorem q444 : (Jvm.Cond.soleField "FeatherYard$Reader" "draft") ∈ lw_all := lw_g (lw_at lw_m2 79 rfl) rfl
theorem q445 : (Jvm.Cond.laysFinal "FeatherYard$Reader" "FeatherYard$Reader" "wrong" "LFeatherYard$Wrong;") ∈ lw_all := lw_g (lw_at lw_m2 80 rfl) rfl
theorem q446 : (Jvm.Cond.soleField "FeatherYard$Reader" "wrong") ∈ lw_all := lw_g (lw_at lw_m2 81 rfl) rfl
theorem q447 : (Jvm.Cond.lays "FeatherYard$Reader" "FeatherYard$Reader" "size" "I") ∈ lw_all := lw_g (lw_at lw_m2 82 rfl) rfl
theorem q448 : (Jvm.Cond.soleField "FeatherYard$Reader" "size") ∈ lw_all := lw_g (lw_at lw_m2 83 rfl) rfl
theorem q449 : (Jvm.Cond.lays "FeatherYard$Reader" "FeatherYard$Reader" "end" "I") ∈ lw_all := lw_g (lw_at lw_m2 84 rfl) rfl
theorem q450 : (Jvm.Cond.soleField "FeatherYard$Reader" "end") ∈ lw_all := lw_g (lw_at lw_m2 85 rfl) rfl
theorem q451 : (Jvm.Cond.lays "FeatherYard$Reader" "FeatherYard$Reader" "at" "I") ∈ lw_all := lw_g (lw_at lw_m2 86 rfl) rfl
theorem q452 : (Jvm.Cond.soleField "FeatherYard$Reader" "at") ∈ lw_all := lw_g (lw_at lw_m2 87 rfl) rfl
theorem q453 : (Jvm.Cond.lays "FeatherYard$Reader" "FeatherYard$Reader" "deep" "I") ∈ lw_all := lw_g (lw_at lw_m2 88 rfl) rfl
theorem q454 : (Jvm.Cond.soleField "FeatherYard$Reader" "deep") ∈ lw_all := lw_g (lw_at lw_m2 89 rfl) rfl
theorem q455 : (Jvm.Cond.superclass "FeatherYard$Reader" "java/lang/Object") ∈ lw_all := lw_g (lw_at lw_m2 90 rfl) rfl
theorem q747 : (Jvm.Cond.instanceMethod ({ cls := "FeatherYard$Reader", name := "court", desc := "(ILFeatherYard$State;)LFeatherYard$State;" } : Jvm.MethodName)) ∈ lw_all := lw_g (lw_at lw_m3 142 rfl) rfl
theorem q748 : (Jvm.Cond.selects "FeatherYard$Reader" ({ cls := "FeatherYard$Reader", name := "court", desc := "(ILFeatherYard$State;)LFeatherYard$State;" } : Jvm.MethodName) ({ cls := "FeatherYard$Reader", name := "court", desc := "(ILFeatherYard$State;)LFeatherYard$State;" } : Jvm.MethodName)) ∈ lw_all := lw_g (lw_at lw_m3 143 rfl) rfl
theorem q749 : (Jvm.Cond.code ({ cls := "FeatherYard$Reader", name := "court", desc := "(ILFeatherYard$State;)LFeatherYard$State;" } : Jvm.MethodName) prog_10_method_12_code (4 : Nat) (Option.some (Jvm.ClassFile.FieldType.object "FeatherYard$State"))) ∈ lw_all := lw_g (lw_at lw_m3 144 rfl) rfl
theorem q750 : (Jvm.Cond.methodLink "FeatherYard$Reader" (103 : Nat) ({ cls := "FeatherYard$Reader", name := "begins", desc := "(I)V" } : Jvm.MethodName)) ∈ lw_all := lw_g (lw_at lw_m3 145 rfl) rfl
theorem q751 : (Jvm.Cond.privateMethod ({ cls := "FeatherYard$Reader", name := "begins", desc := "(I)V" } : Jvm.MethodName)) ∈ lw_tbl := lw_at lw_m3 146 rfl
theorem q752 : (Jvm.Cond.instanceMethod ({ cls := "FeatherYard$Reader", name := "begins", desc := "(I)V" } : Jvm.MethodName)) ∈ lw_all := lw_g (lw_at lw_m3 147 rfl) rfl
theorem q753 : (Jvm.Cond.code ({ cls := "FeatherYard$Reader", name := "begins", desc := "(I)V" } : Jvm.MethodName) prog_10_method_10_code (2 : Nat) (Option.none : Option Jvm.ClassFile.FieldType)) ∈ lw_all := lw_g (lw_at lw_m3 148 rfl) rfl
theorem q754 : (Jvm.Cond.methodLink "FeatherYard$Reader" (106 : Nat) ({ cls := "FeatherYard$State", name := "be", desc := "(LFeatherYard$State;)V" } : Jvm.MethodName)) ∈ lw_all := lw_g (lw_at lw_m3 149 rfl) rfl
theorem q755 : (Jvm.Cond.methodLink "FeatherYard$Reader" (110 : Nat) ({ cls := "FeatherYard$Reader", name := "more", desc := "(II)Z" } : Jvm.MethodName)) ∈ lw_all := lw_g (lw_at lw_m3 150 rfl) rfl
theorem q756 : (Jvm.Cond.privateMethod ({ cls := "FeatherYard$Reader", name := "more", desc := "(II)Z" } : Jvm.MethodName)) ∈ lw_tbl := lw_at lw_m3 151 rfl
theorem q757 : (Jvm.Cond.instanceMethod ({ cls := "FeatherYard$Reader", name := "more", desc := "(II)Z" } : Jvm.MethodName)) ∈ lw_all := lw_g (lw_at lw_m3 152 rfl) rfl
theorem q758 : (Jvm.Cond.code ({ cls := "FeatherYard$Reader", name := "more", desc := "(II)Z" } : Jvm.MethodName) prog_10_method_11_code (5 : Nat) (Option.some Jvm.ClassFile.FieldType.boolean)) ∈ lw_all := lw_g (lw_at lw_m3 153 rfl) rfl
theorem q759 : (Jvm.Cond.methodLink "FeatherYard$Reader" (70 : Nat) ({ cls := "FeatherYard$Reader", name := "sign", desc := "()I" } : Jvm.MethodName)) ∈ lw_all := lw_g (lw_at lw_m3 154 rfl) rfl
theorem q760 : (Jvm.Cond.privateMethod ({ cls := "FeatherYard$Reader", name := "sign", desc := "()I" } : Jvm.MethodName)) ∈ lw_tbl := lw_at lw_m3 155 rfl
theorem q761 : (Jvm.Cond.instanceMethod ({ cls := "FeatherYard$Reader", name := "sign", desc := "()I" } : Jvm.MethodName)) ∈ lw_all := lw_g (lw_at lw_m3 156 rfl) rfl
theorem q762 : (Jvm.Cond.code ({ cls := "FeatherYard$Reader", name := "sign", desc := "()I" } : Jvm.MethodName) prog_10_method_3_code (1 : Nat) (Option.some Jvm.ClassFile.FieldType.int)) ∈ lw_all := lw_g (lw_at lw_m3 157 rfl) rfl
theorem q763 : (Jvm.Cond.methodLink "FeatherYard$Reader" (85 : Nat) ({ cls := "FeatherYard$Reader", name := "fail", desc := "(I)V" } : Jvm.MethodName)) ∈ lw_all := lw_g (lw_at lw_m3 158 rfl) rfl
theorem q764 : (Jvm.Cond.privateMethod ({ cls := "FeatherYard$Reader", name := "fail", desc := "(I)V" } : Jvm.MethodName)) ∈ lw_tbl := lw_at lw_m3 159 rfl
theorem q765 : (Jvm.Cond.instanceMethod ({ cls := "FeatherYard$Reader", name := "fail", desc := "(I)V" } : Jvm.MethodName)) ∈ lw_all := lw_g (lw_at lw_m3 160 rfl) rfl
theorem q766 : (Jvm.Cond.code ({ cls := "FeatherYard$Reader", name := "fail", desc := "(I)V" } : Jvm.MethodName) prog_10_method_2_code (2 : Nat) (Option.none : Option Jvm.ClassFile.FieldType)) ∈ lw_all := lw_g (lw_at lw_m3 161 rfl) rfl
theorem q767 : (Jvm.Cond.methodLink "FeatherYard$Reader" (114 : Nat) ({ cls := "FeatherYard$Reader", name := "line", desc := "()V" } : Jvm.MethodName)) ∈ lw_all := lw_g (lw_at lw_m3 162 rfl) rfl
theorem q768 : (Jvm.Cond.privateMethod ({ cls := "FeatherYard$Reader", name := "line", desc := "()V" } : Jvm.MethodName)) ∈ lw_tbl := lw_at lw_m3 163 rfl
theorem q769 : (Jvm.Cond.instanceMethod ({ cls := "FeatherYard$Reader", name := "line", desc := "()V" } : Jvm.MethodName)) ∈ lw_all := lw_g (lw_at lw_m3 164 rfl) rfl
theorem q770 : (Jvm.Cond.code ({ cls := "FeatherYard$Reader", name := "line", desc := "()V" } : Jvm.MethodName) prog_10_method_13_code (5 : Nat) (Option.none : Option Jvm.ClassFile.FieldType)) ∈ lw_all := lw_g (lw_at lw_m3 165 rfl) rfl
theorem q771 : (Jvm.Cond.methodLink "FeatherYard$Reader" (81 : Nat) ({ cls := "FeatherYard$Reader", name := "takes", desc := "(Ljava/lang/String;)Z" } : Jvm.MethodName)) ∈ lw_all := lw_g (lw_at lw_m3 166 rfl) rfl
theorem q772 : (Jvm.Cond.privateMethod ({ cls := "FeatherYard$Reader", name := "takes", desc := "(Ljava/lang/String;)Z" } : Jvm.MethodName)) ∈ lw_tbl := lw_at lw_m3 167 rfl
theorem q773 : (Jvm.Cond.instanceMethod ({ cls := "FeatherYard$Reader", name := "takes", desc := "(Ljava/lang/String;)Z" } : Jvm.MethodName)) ∈ lw_all := lw_g (lw_at lw_m3 168 rfl) rfl
theorem q774 : (Jvm.Cond.code ({ cls := "FeatherYard$Reader", name := "takes", desc := "(Ljava/lang/String;)Z" } : Jvm.MethodName) prog_10_method_6_code (6 : Nat) (Option.some Jvm.ClassFile.FieldType.boolean)) ∈ lw_all := lw_g (lw_at lw_m3 169 rfl) rfl
theorem q775 : (Jvm.Cond.methodLink "FeatherYard$Reader" (74 : Nat) ({ cls := "java/lang/String", name := "length", desc := "()I" } : Jvm.MethodName)) ∈ lw_all := lw_g (lw_at lw_m3 170 rfl) rfl
theorem q785 : (Jvm.Cond.methodLink "FeatherYard$Reader" (77 : Nat) ({ cls := "java/lang/String", name := "charAt", desc := "(I)C" } : Jvm.MethodName)) ∈ lw_all := lw_g (lw_at lw_m3 180 rfl) rfl
theorem q823 : (Jvm.Cond.methodLink "FeatherYard$Reader" (117 : Nat) ({ cls := "FeatherYard$Reader", name := "addBird", desc := "(I)V" } : Jvm.MethodName)) ∈ lw_all := lw_g (lw_at lw_m3 218 rfl) rfl
theorem q824 : (Jvm.Cond.privateMethod ({ cls := "FeatherYard$Reader", name := "addBird", desc := "(I)V" } : Jvm.MethodName)) ∈ lw_tbl := lw_at lw_m3 219 rfl
theorem q825 : (Jvm.Cond.instanceMethod ({ cls := "FeatherYard$Reader", name := "addBird", desc := "(I)V" } : Jvm.MethodName)) ∈ lw_all := lw_g (lw_at lw_m3 220 rfl) rfl
theorem q826 : (Jvm.Cond.code ({ cls := "FeatherYard$Reader", name := "addBird", desc := "(I)V" } : Jvm.MethodName) prog_10_method_15_code (4 : Nat) (Option.none : Option Jvm.ClassFile.FieldType)) ∈ lw_all := lw_g (lw_at lw_m3 221 rfl) rfl
theorem q827 : (Jvm.Cond.stringRef "FeatherYard$Reader" (170 : Nat) "falls") ∈ lw_tbl := lw_at lw_m3 222 rfl
theorem q828 : (Jvm.Cond.methodLink "FeatherYard$Reader" (136 : Nat) ({ cls := "FeatherYard$Reader", name := "after", desc := "(Ljava/lang/String;II)I" } : Jvm.MethodName)) ∈ lw_all := lw_g (lw_at lw_m3 223 rfl) rfl
theorem q829 : (Jvm.Cond.privateMethod ({ cls := "FeatherYard$Reader", name := "after", desc := "(Ljava/lang/String;II)I" } : Jvm.MethodName)) ∈ lw_tbl := lw_at lw_m3 224 rfl
theorem q830 : (Jvm.Cond.instanceMethod ({ cls := "FeatherYard$Reader", name := "after", desc := "(Ljava/lang/String;II)I" } : Jvm.MethodName)) ∈ lw_all := lw_g (lw_at lw_m3 225 rfl) rfl
theorem q831 : (Jvm.Cond.code ({ cls := "FeatherYard$Reader", name := "after", desc := "(Ljava/lang/String;II)I" } : Jvm.MethodName) prog_10_method_9_code (4 : Nat) (Option.some Jvm.ClassFile.FieldType.int)) ∈ lw_all := lw_g (lw_at lw_m3 226 rfl) rfl
theorem q832 : (Jvm.Cond.methodLink "FeatherYard$Reader" (92 : Nat) ({ cls := "FeatherYard$Reader", name := "expect", desc := "(Ljava/lang/String;)V" } : Jvm.MethodName)) ∈ lw_all := lw_g (lw_at lw_m3 227 rfl) rfl
theorem q833 : (Jvm.Cond.privateMethod ({ cls := "FeatherYard$Reader", name := "expect", desc := "(Ljava/lang/String;)V" } : Jvm.MethodName)) ∈ lw_tbl := lw_at lw_m3 228 rfl
theorem q834 : (Jvm.Cond.instanceMethod ({ cls := "FeatherYard$Reader", name := "expect", desc := "(Ljava/lang/String;)V" } : Jvm.MethodName)) ∈ lw_all := lw_g (lw_at lw_m3 229 rfl) rfl
theorem q835 : (Jvm.Cond.code ({ cls := "FeatherYard$Reader", name := "expect", desc := "(Ljava/lang/String;)V" } : Jvm.MethodName) prog_10_method_7_code (2 : Nat) (Option.none : Option Jvm.ClassFile.FieldType)) ∈ lw_all := lw_g (lw_at lw_m3 230 rfl) rfl
theorem q836 : (Jvm.Cond.methodLink "FeatherYard$Reader" (96 : Nat) ({ cls := "FeatherYard$Reader", name := "number", desc := "(II)I" } : Jvm.MethodName)) ∈ lw_all := lw_g (lw_at lw_m3 231 rfl) rfl
theorem q837 : (Jvm.Cond.privateMethod ({ cls := "FeatherYard$Reader", name := "number", desc := "(II)I" } : Jvm.MethodName)) ∈ lw_tbl := lw_at lw_m3 232 rfl
theorem q838 : (Jvm.Cond.instanceMethod ({ cls := "FeatherYard$Reader", name := "number", desc := "(II)I" } : Jvm.MethodName)) ∈ lw_all := lw_g (lw_at lw_m3 233 rfl) rfl
theorem q839 : (Jvm.Cond.code ({ cls := "FeatherYard$Reader", name := "number", desc := "(II)I" } : Jvm.MethodName) prog_10_method_8_code (5 : Nat) (Option.some Jvm.ClassFile.FieldType.int)) ∈ lw_all := lw_g (lw_at lw_m3 234 rfl) rfl
theorem q840 : (Jvm.Cond.methodLink "FeatherYard$Reader" (89 : Nat) ({ cls := "FeatherYard$Reader", name := "here", desc := "()I" } : Jvm.MethodName)) ∈ lw_all := lw_g (lw_at lw_m3 235 rfl) rfl
theorem q841 : (Jvm.Cond.privateMethod ({ cls := "FeatherYard$Reader", name := "here", desc := "()I" } : Jvm.MethodName)) ∈ lw_tbl := lw_at lw_m3 236 rfl
theorem q842 : (Jvm.Cond.instanceMethod ({ cls := "FeatherYard$Reader", name := "here", desc := "()I" } : Jvm.MethodName)) ∈ lw_all := lw_g (lw_at lw_m3 237 rfl) rfl
theorem q843 : (Jvm.Cond.code ({ cls := "FeatherYard$Reader", name := "here", desc := "()I" } : Jvm.MethodName) prog_10_method_4_code (2 : Nat) (Option.some Jvm.ClassFile.FieldType.int)) ∈ lw_all := lw_g (lw_at lw_m3 238 rfl) rfl
theorem q844 : (Jvm.Cond.stringRef "FeatherYard$Reader" (178 : Nat) "songs") ∈ lw_tbl := lw_at lw_m3 239 rfl
theorem q845 : (Jvm.Cond.methodLink "FeatherYard$Reader" (180 : Nat) ({ cls := "FeatherYard$Reader", name := "letters", desc := "(I)I" } : Jvm.MethodName)) ∈ lw_all := lw_g (lw_at lw_m4 0 rfl) rfl
theorem q846 : (Jvm.Cond.privateMethod ({ cls := "FeatherYard$Reader", name := "letters", desc := "(I)I" } : Jvm.MethodName)) ∈ lw_tbl := lw_at lw_m4 1 rfl
theorem q847 : (Jvm.Cond.instanceMethod ({ cls := "FeatherYard$Reader", name := "letters", desc := "(I)I" } : Jvm.MethodName)) ∈ lw_all := lw_g (lw_at lw_m4 2 rfl) rfl
theorem q848 : (Jvm.Cond.code ({ cls := "FeatherYard$Reader", name := "letters", desc := "(I)I" } : Jvm.MethodName) prog_10_method_14_code (5 : Nat) (Option.some Jvm.ClassFile.FieldType.int)) ∈ lw_all := lw_g (lw_at lw_m4 3 rfl) rfl
theorem q849 : (Jvm.Cond.stringRef "FeatherYard$Reader" (186 : Nat) "moults") ∈ lw_tbl := lw_at lw_m4 4 rfl
theorem q850 : (Jvm.Cond.stringRef "FeatherYard$Reader" (120 : Nat) "counsel") ∈ lw_tbl := lw_at lw_m4 5 rfl
theorem q851 : (Jvm.Cond.methodLink "FeatherYard$Reader" (122 : Nat) ({ cls := "FeatherYard$Reader", name := "addCounsel", desc := "(I)V" } : Jvm.MethodName)) ∈ lw_all := lw_g (lw_at lw_m4 6 rfl) rfl
theorem q852 : (Jvm.Cond.privateMethod ({ cls := "FeatherYard$Reader", name := "addCounsel", desc := "(I)V" } : Jvm.MethodName)) ∈ lw_tbl := lw_at lw_m4 7 rfl
theorem q853 : (Jvm.Cond.instanceMethod ({ cls := "FeatherYard$Reader", name := "addCounsel", desc := "(I)V" } : Jvm.MethodName)) ∈ lw_all := lw_g (lw_at lw_m4 8 rfl) rfl
theorem q854 : (Jvm.Cond.code ({ cls := "FeatherYard$Reader", name := "addCounsel", desc := "(I)V" } : Jvm.MethodName) prog_10_method_16_code (4 : Nat) (Option.none : Option Jvm.ClassFile.FieldType)) ∈ lw_all := lw_g (lw_at lw_m4 9 rfl) rfl
theorem q855 : (Jvm.Cond.stringRef "FeatherYard$Reader" (125 : Nat) "case") ∈ lw_tbl := lw_at lw_m4 10 rfl
theorem q856 : (Jvm.Cond.methodLink "FeatherYard$Reader" (127 : Nat) ({ cls := "FeatherYard$Reader", name := "addCase", desc := "(I)V" } : Jvm.MethodName)) ∈ lw_all := lw_g (lw_at lw_m4 11 rfl) rfl
theorem q857 : (Jvm.Cond.privateMethod ({ cls := "FeatherYard$Reader", name := "addCase", desc := "(I)V" } : Jvm.MethodName)) ∈ lw_tbl := lw_at lw_m4 12 rfl
theorem q858 : (Jvm.Cond.instanceMethod ({ cls := "FeatherYard$Reader", name := "addCase", desc := "(I)V" } : Jvm.MethodName)) ∈ lw_all := lw_g (lw_at lw_m4 13 rfl) rfl
theorem q859 : (Jvm.Cond.code ({ cls := "FeatherYard$Reader", name := "addCase", desc := "(I)V" } : Jvm.MethodName) prog_10_method_17_code (4 : Nat) (Option.none : Option Jvm.ClassFile.FieldType)) ∈ lw_all := lw_g (lw_at lw_m4 14 rfl) rfl
theorem q860 : (Jvm.Cond.stringRef "FeatherYard$Reader" (211 : Nat) "present") ∈ lw_tbl := lw_at lw_m4 15 rfl
theorem q861 : (Jvm.Cond.stringRef "FeatherYard$Reader" (130 : Nat) "tower") ∈ lw_tbl := lw_at lw_m4 16 rfl
theorem q862 : (Jvm.Cond.stringRef "FeatherYard$Reader" (134 : Nat) "top") ∈ lw_tbl := lw_at lw_m4 17 rfl
theorem q863 : (Jvm.Cond.stringRef "FeatherYard$Reader" (142 : Nat) "yard") ∈ lw_tbl := lw_at lw_m4 18 rfl
theorem q864 : (Jvm.Cond.stringRef "FeatherYard$Reader" (147 : Nat) "to") ∈ lw_tbl := lw_at lw_m4 19 rfl
theorem q865 : (Jvm.Cond.stringRef "FeatherYard$Reader" (151 : Nat) "wind") ∈ lw_tbl := lw_at lw_m4 20 rfl
theorem q866 : (Jvm.Cond.stringRef "FeatherYard$Reader" (153 : Nat) "west") ∈ lw_tbl := lw_at lw_m4 21 rfl
theorem q867 : (Jvm.Cond.stringRef "FeatherYard$Reader" (155 : Nat) "east") ∈ lw_tbl := lw_at lw_m4 22 rfl
theorem q919 : (Jvm.Cond.instanceMethod ({ cls := "FeatherYard$Reader", name := "law", desc := "(I)I" } : Jvm.MethodName)) ∈ lw_all := lw_g (lw_at lw_m4 74 rfl) rfl
theorem q920 : (Jvm.Cond.selects "FeatherYard$Reader" ({ cls := "FeatherYard$Reader", name := "law", desc := "(I)I" } : Jvm.MethodName) ({ cls := "FeatherYard$Reader", name := "law", desc := "(I)I" } : Jvm.MethodName)) ∈ lw_all := lw_g (lw_at lw_m4 75 rfl) rfl
theorem q921 : (Jvm.Cond.code ({ cls := "FeatherYard$Reader", name := "law", desc := "(I)I" } : Jvm.MethodName) prog_10_method_18_code (6 : Nat) (Option.some Jvm.ClassFile.FieldType.int)) ∈ lw_all := lw_g (lw_at lw_m4 76 rfl) rfl
theorem q922 : (Jvm.Cond.stringRef "FeatherYard$Reader" (216 : Nat) "drop") ∈ lw_tbl := lw_at lw_m4 77 rfl
theorem q923 : (Jvm.Cond.stringRef "FeatherYard$Reader" (218 : Nat) "lift") ∈ lw_tbl := lw_at lw_m4 78 rfl
theorem q924 : (Jvm.Cond.stringRef "FeatherYard$Reader" (220 : Nat) "if") ∈ lw_tbl := lw_at lw_m4 79 rfl
theorem q925 : (Jvm.Cond.methodLink "FeatherYard$Reader" (222 : Nat) ({ cls := "FeatherYard$Reader", name := "row", desc := "(Z)LFeatherYard$Cond;" } : Jvm.MethodName)) ∈ lw_all := lw_g (lw_at lw_m4 80 rfl) rfl
theorem q926 : (Jvm.Cond.privateMethod ({ cls := "FeatherYard$Reader", name := "row", desc := "(Z)LFeatherYard$Cond;" } : Jvm.MethodName)) ∈ lw_tbl := lw_at lw_m4 81 rfl
theorem q927 : (Jvm.Cond.instanceMethod ({ cls := "FeatherYard$Reader", name := "row", desc := "(Z)LFeatherYard$Cond;" } : Jvm.MethodName)) ∈ lw_all := lw_g (lw_at lw_m4 82 rfl) rfl
theorem q928 : (Jvm.Cond.code ({ cls := "FeatherYard$Reader", name := "row", desc := "(Z)LFeatherYard$Cond;" } : Jvm.MethodName) prog_10_method_19_code (4 : Nat) (Option.some (Jvm.ClassFile.FieldType.object "FeatherYard$Cond"))) ∈ lw_all := lw_g (lw_at lw_m4 83 rfl) rfl
theorem q929 : (Jvm.Cond.classLink "FeatherYard$Reader" (233 : Nat) "FeatherYard$Chain") ∈ lw_all := lw_g (lw_at lw_m4 84 rfl) rfl
theorem q931 : (Jvm.Cond.methodLink "FeatherYard$Reader" (235 : Nat) ({ cls := "FeatherYard$Reader", name := "atom", desc := "()LFeatherYard$Cond;" } : Jvm.MethodName)) ∈ lw_all := lw_g (lw_at lw_m4 86 rfl) rfl
theorem q932 : (Jvm.Cond.privateMethod ({ cls := "FeatherYard$Reader", name := "atom", desc := "()LFeatherYard$Cond;" } : Jvm.MethodName)) ∈ lw_tbl := lw_at lw_m4 87 rfl
theorem q933 : (Jvm.Cond.instanceMethod ({ cls := "FeatherYard$Reader", name := "atom", desc := "()LFeatherYard$Cond;" } : Jvm.MethodName)) ∈ lw_all := lw_g (lw_at lw_m4 88 rfl) rfl
theorem q934 : (Jvm.Cond.code ({ cls := "FeatherYard$Reader", name := "atom", desc := "()LFeatherYard$Cond;" } : Jvm.MethodName) prog_10_method_20_code (5 : Nat) (Option.some (Jvm.ClassFile.FieldType.object "FeatherYard$Cond"))) ∈ lw_all := lw_g (lw_at lw_m4 89 rfl) rfl
theorem q935 : (Jvm.Cond.stringRef "FeatherYard$Reader" (250 : Nat) "not") ∈ lw_tbl := lw_at lw_m4 90 rfl
theorem q936 : (Jvm.Cond.methodLink "FeatherYard$Reader" (252 : Nat) ({ cls := "FeatherYard$Reader", name := "tag", desc := "()LFeatherYard$Cond;" } : Jvm.MethodName)) ∈ lw_all := lw_g (lw_at lw_m4 91 rfl) rfl
theorem q937 : (Jvm.Cond.privateMethod ({ cls := "FeatherYard$Reader", name := "tag", desc := "()LFeatherYard$Cond;" } : Jvm.MethodName)) ∈ lw_tbl := lw_at lw_m4 92 rfl
theorem q938 : (Jvm.Cond.instanceMethod ({ cls := "FeatherYard$Reader", name := "tag", desc := "()LFeatherYard$Cond;" } : Jvm.MethodName)) ∈ lw_all := lw_g (lw_at lw_m4 93 rfl) rfl
theorem q939 : (Jvm.Cond.code ({ cls := "FeatherYard$Reader", name := "tag", desc := "()LFeatherYard$Cond;" } : Jvm.MethodName) prog_10_method_21_code (4 : Nat) (Option.some (Jvm.ClassFile.FieldType.object "FeatherYard$Cond"))) ∈ lw_all := lw_g (lw_at lw_m4 94 rfl) rfl
theorem q940 : (Jvm.Cond.classLink "FeatherYard$Reader" (260 : Nat) "FeatherYard$Tag") ∈ lw_all := lw_g (lw_at lw_m4 95 rfl) rfl
theorem q942 : (Jvm.Cond.methodLink "FeatherYard$Reader" (262 : Nat) ({ cls := "FeatherYard$Tag", name := "<init>", desc := "(I)V" } : Jvm.MethodName)) ∈ lw_all := lw_g (lw_at lw_m4 97 rfl) rfl
theorem q950 : (Jvm.Cond.methodLink "FeatherYard$Reader" (264 : Nat) ({ cls := "FeatherYard$Reader", name := "sum", desc := "()LFeatherYard$Sum;" } : Jvm.MethodName)) ∈ lw_all := lw_g (lw_at lw_m4 105 rfl) rfl
theorem q951 : (Jvm.Cond.privateMethod ({ cls := "FeatherYard$Reader", name := "sum", desc := "()LFeatherYard$Sum;" } : Jvm.MethodName)) ∈ lw_tbl := lw_at lw_m4 106 rfl
theorem q952 : (Jvm.Cond.instanceMethod ({ cls := "FeatherYard$Reader", name := "sum", desc := "()LFeatherYard$Sum;" } : Jvm.MethodName)) ∈ lw_all := lw_g (lw_at lw_m4 107 rfl) rfl
theorem q953 : (Jvm.Cond.code ({ cls := "FeatherYard$Reader", name := "sum", desc := "()LFeatherYard$Sum;" } : Jvm.MethodName) prog_10_method_22_code (2 : Nat) (Option.some (Jvm.ClassFile.FieldType.object "FeatherYard$Sum"))) ∈ lw_all := lw_g (lw_at lw_m4 108 rfl) rfl
theorem q954 : (Jvm.Cond.classLink "FeatherYard$Reader" (273 : Nat) "FeatherYard$Sum") ∈ lw_all := lw_g (lw_at lw_m4 109 rfl) rfl
theorem q956 : (Jvm.Cond.methodLinkNest "FeatherYard$Reader" (275 : Nat) ({ cls := "FeatherYard$Sum", name := "<init>", desc := "()V" } : Jvm.MethodName) "FeatherYard") ∈ lw_tbl := lw_at lw_m4 111 rfl
theorem q961 : (Jvm.Cond.fieldLinkNest "FeatherYard$Reader" (286 : Nat) "FeatherYard$Sum" "times" "[I" "FeatherYard") ∈ lw_tbl := lw_at lw_m4 116 rfl
theorem q963 : (Jvm.Cond.fieldLinkNest "FeatherYard$Reader" (284 : Nat) "FeatherYard$Sum" "number" "I" "FeatherYard") ∈ lw_tbl := lw_at lw_m4 118 rfl
theorem q969 : (Jvm.Cond.methodLink "FeatherYard$Reader" (276 : Nat) ({ cls := "FeatherYard$Reader", name := "part", desc := "(LFeatherYard$Sum;)V" } : Jvm.MethodName)) ∈ lw_all := lw_g (lw_at lw_m4 124 rfl) rfl
theorem q970 : (Jvm.Cond.privateMethod ({ cls := "FeatherYard$Reader", name := "part", desc := "(LFeatherYard$Sum;)V" } : Jvm.MethodName)) ∈ lw_tbl := lw_at lw_m4 125 rfl
theorem q971 : (Jvm.Cond.instanceMethod ({ cls := "FeatherYard$Reader", name := "part", desc := "(LFeatherYard$Sum;)V" } : Jvm.MethodName)) ∈ lw_all := lw_g (lw_at lw_m4 126 rfl) rfl
theorem q972 : (Jvm.Cond.code ({ cls := "FeatherYard$Reader", name := "part", desc := "(LFeatherYard$Sum;)V" } : Jvm.MethodName) prog_10_method_23_code (3 : Nat) (Option.none : Option Jvm.ClassFile.FieldType)) ∈ lw_all := lw_g (lw_at lw_m4 127 rfl) rfl
theorem q973 : (Jvm.Cond.methodLink "FeatherYard$Reader" (280 : Nat) ({ cls := "FeatherYard$Reader", name := "isFigure", desc := "()Z" } : Jvm.MethodName)) ∈ lw_all := lw_g (lw_at lw_m4 128 rfl) rfl
theorem q974 : (Jvm.Cond.privateMethod ({ cls := "FeatherYard$Reader", name := "isFigure", desc := "()Z" } : Jvm.MethodName)) ∈ lw_tbl := lw_at lw_m4 129 rfl
theorem q975 : (Jvm.Cond.instanceMethod ({ cls := "FeatherYard$Reader", name := "isFigure", desc := "()Z" } : Jvm.MethodName)) ∈ lw_all := lw_g (lw_at lw_m4 130 rfl) rfl
theorem q976 : (Jvm.Cond.code ({ cls := "FeatherYard$Reader", name := "isFigure", desc := "()Z" } : Jvm.MethodName) prog_10_method_5_code (2 : Nat) (Option.some Jvm.ClassFile.FieldType.boolean)) ∈ lw_all := lw_g (lw_at lw_m4 131 rfl) rfl
theorem q977 : (Jvm.Cond.classLink "FeatherYard$Reader" (268 : Nat) "FeatherYard$Less") ∈ lw_all := lw_g (lw_at lw_m4 132 rfl) rfl
theorem q979 : (Jvm.Cond.methodLink "FeatherYard$Reader" (270 : Nat) ({ cls := "FeatherYard$Less", name := "<init>", desc := "(LFeatherYard$Sum;LFeatherYard$Sum;)V" } : Jvm.MethodName)) ∈ lw_all := lw_g (lw_at lw_m4 134 rfl) rfl
theorem q990 : (Jvm.Cond.classLink "FeatherYard$Reader" (255 : Nat) "FeatherYard$Not") ∈ lw_all := lw_g (lw_at lw_m4 145 rfl) rfl
theorem q992 : (Jvm.Cond.methodLink "FeatherYard$Reader" (257 : Nat) ({ cls := "FeatherYard$Not", name := "<init>", desc := "(LFeatherYard$Cond;)V" } : Jvm.MethodName)) ∈ lw_all := lw_g (lw_at lw_m4 147 rfl) rfl
theorem q1000 : (Jvm.Cond.methodLink "FeatherYard$Reader" (239 : Nat) ({ cls := "FeatherYard$Chain", name := "<init>", desc := "(LFeatherYard$Cond;Z)V" } : Jvm.MethodName)) ∈ lw_all := lw_g (lw_at lw_m4 155 rfl) rfl
theorem q1007 : (Jvm.Cond.fieldLinkNest "FeatherYard$Reader" (246 : Nat) "FeatherYard$Chain" "next" "LFeatherYard$Chain;" "FeatherYard") ∈ lw_tbl := lw_at lw_m4 162 rfl
theorem q1015 : (Jvm.Cond.stringRef "FeatherYard$Reader" (242 : Nat) "and") ∈ lw_tbl := lw_at lw_m4 170 rfl
theorem q1016 : (Jvm.Cond.stringRef "FeatherYard$Reader" (244 : Nat) "or") ∈ lw_tbl := lw_at lw_m4 171 rfl
theorem q1017 : (Jvm.Cond.classLink "FeatherYard$Reader" (225 : Nat) "FeatherYard$Sinks") ∈ lw_all := lw_g (lw_at lw_m4 172 rfl) rfl
theorem q1019 : (Jvm.Cond.methodLink "FeatherYard$Reader" (227 : Nat) ({ cls := "FeatherYard$Sinks", name := "<init>", desc := "(ILFeatherYard$Cond;Z)V" } : Jvm.MethodName)) ∈ lw_all := lw_g (lw_at lw_m4 174 rfl) rfl
theorem q1036 : (Jvm.Cond.classLink "FeatherYard$Reader" (230 : Nat) "FeatherYard$Carries") ∈ lw_all := lw_g (lw_at lw_m4 191 rfl) rfl
theorem q1038 : (Jvm.Cond.methodLink "FeatherYard$Reader" (232 : Nat) ({ cls := "FeatherYard$Carries", name := "<init>", desc := "(ILFeatherYard$Cond;Z)V" } : Jvm.MethodName)) ∈ lw_all := lw_g (lw_at lw_m4 193 rfl) rfl
theorem q2117 : (Jvm.Cond.castable "FeatherYard$Reader" "java/lang/Object") ∈ lw_tbl := lw_at lw_m9 72 rfl
theorem in_X2 : ∀ w ∈ wsX20, w ∈ lw_all := lw_in wsX20 [435, 437, 439, 441, 443, 445, 447, 449, 451, 453] (by decide +kernel) (by decide +kernel)

/-! FeatherYard$State -/
set_option maxRecDepth 100000
def RX3 : String := "FeatherYard$State"
def TX3 : u_T := fun k => match k with
  | 0 => ("FeatherYard$State", "birds", "[LFeatherYard$Bird;", true)
  | 1 => ("FeatherYard$State", "cases", "[LFeatherYard$Case;", true)
  | 2 => ("FeatherYard$State", "law", "[LFeatherYard$Line;", true)
  | 3 => ("FeatherYard$State", "stocks", "[I", true)
  | 4 => ("FeatherYard$State", "winds", "[I", true)
  | 5 => ("FeatherYard$State", "facts", "[I", true)
  | 6 => ("FeatherYard$State", "rows", "[I", true)
  | 7 => ("FeatherYard$State", "birdMany", "I", false)
  | 8 => ("FeatherYard$State", "counselMany", "I", false)
  | 9 => ("FeatherYard$State", "caseMany", "I", false)
  | 10 => ("FeatherYard$State", "lawMany", "I", false)
  | 11 => ("FeatherYard$State", "texts", "I", false)
  | 12 => ("FeatherYard$State", "tower", "I", false)
  | 13 => ("FeatherYard$State", "top", "I", false)
  | 14 => ("FeatherYard$State", "from", "I", false)
  | 15 => ("FeatherYard$State", "to", "I", false)
  | 16 => ("FeatherYard$State", "hour", "I", false)
  | 17 => ("FeatherYard$State", "week", "I", false)
  | 18 => ("FeatherYard$State", "seed", "I", false)
  | _ => ("FeatherYard$State", "rowMany", "I", false)
def tyX3 : Nat → FieldType := fun k => match k with
  | 0 => .array (.object "FeatherYard$Bird")
  | 1 => .array (.object "FeatherYard$Case")
  | 2 => .array (.object "FeatherYard$Line")
  | 3 => .array .int
  | 4 => .array .int
  | 5 => .array .int
  | 6 => .array .int
  | 7 => .int
  | 8 => .int
  | 9 => .int
  | 10 => .int
  | 11 => .int
  | 12 => .int
  | 13 => .int
  | 14 => .int
  | 15 => .int
  | 16 => .int
  | 17 => .int
  | 18 => .int
  | _ => .int
abbrev wsX30 : List Cond := u_ws RX3 TX3 20
set_option maxRecDepth 100000 in
theorem nmX3 : ∀ a, a < 20 → ∀ b, b < 20 → a ≠ b → (TX3 a).2.1 ≠ (TX3 b).2.1 := by decide +kernel
set_option maxRecDepth 100000 in
theorem tyX3_ok : ∀ k, k < 20 → parseFieldDescriptor (TX3 k).2.2.1 = some (tyX3 k) := by decide +kernel
abbrev cX3_init : ByteArray := prog_12_method_1_code
def yX3_init : MethodName := ⟨RX3, "<init>", "()V"⟩
def dkwX3_init_6 : List UInt8 := [180, 0, 19, 27, 187, 0, 17, 89, 183, 0, 65, 83, 132, 1, 1, 167, 255, 234, 177]
abbrev dktX3_init_6 : List UInt8 := dkwX3_init_6 ++ []
def dkwX3_init_5 : List UInt8 := [187, 0, 9, 89, 183, 0, 64, 83, 132, 1, 1, 167, 255, 234, 3, 60, 27, 16, 12, 162, 0, 22, 42]
abbrev dktX3_init_5 : List UInt8 := dkwX3_init_5 ++ dktX3_init_6
def dkwX3_init_4 : List UInt8 := [16, 12, 181, 0, 58, 42, 4, 181, 0, 61, 3, 60, 27, 16, 6, 162, 0, 22, 42, 180, 0, 11, 27]
abbrev dktX3_init_4 : List UInt8 := dkwX3_init_4 ++ dktX3_init_5
def dkwX3_init_3 : List UInt8 := [16, 7, 181, 0, 46, 42, 16, 8, 181, 0, 49, 42, 8, 181, 0, 52, 42, 16, 9, 181, 0, 55, 42]
abbrev dktX3_init_3 : List UInt8 := dkwX3_init_3 ++ dktX3_init_4
def dkwX3_init_2 : List UInt8 := [42, 16, 8, 188, 10, 181, 0, 36, 42, 17, 1, 104, 188, 10, 181, 0, 39, 42, 2, 181, 0, 42, 42]
abbrev dktX3_init_2 : List UInt8 := dkwX3_init_2 ++ dktX3_init_3
def dkwX3_init_1 : List UInt8 := [16, 12, 189, 0, 23, 181, 0, 25, 42, 16, 24, 188, 10, 181, 0, 29, 42, 16, 13, 188, 10, 181, 0, 33]
abbrev dktX3_init_1 : List UInt8 := dkwX3_init_1 ++ dktX3_init_2
def dkwX3_init_0 : List UInt8 := [42, 183, 0, 3, 42, 16, 6, 189, 0, 9, 181, 0, 11, 42, 16, 12, 189, 0, 17, 181, 0, 19, 42]
abbrev dktX3_init_0 : List UInt8 := dkwX3_init_0 ++ dktX3_init_1
theorem dksX3_init_0 : cX3_init.data.toList.drop 0 = dktX3_init_0 := by decide +kernel
theorem dksX3_init_1 : cX3_init.data.toList.drop 23 = dktX3_init_1 := dk_seg dksX3_init_0 23 rfl rfl
theorem dksX3_init_2 : cX3_init.data.toList.drop 47 = dktX3_init_2 := dk_seg dksX3_init_1 24 rfl rfl
theorem dksX3_init_3 : cX3_init.data.toList.drop 70 = dktX3_init_3 := dk_seg dksX3_init_2 23 rfl rfl
theorem dksX3_init_4 : cX3_init.data.toList.drop 93 = dktX3_init_4 := dk_seg dksX3_init_3 23 rfl rfl
theorem dksX3_init_5 : cX3_init.data.toList.drop 116 = dktX3_init_5 := dk_seg dksX3_init_4 23 rfl rfl
theorem dksX3_init_6 : cX3_init.data.toList.drop 139 = dktX3_init_6 := dk_seg dksX3_init_5 23 rfl rfl
theorem dX3_init_0 : decode cX3_init 0 = .ok (.aload_n 0, 1) := dk_42 (dk_at dksX3_init_0 0 rfl rfl)
theorem dX3_init_1 : decode cX3_init 1 = .ok (.invokespecial 3, 3) := dk_183 0 3 (dk_at dksX3_init_0 1 rfl rfl)
theorem dX3_init_4 : decode cX3_init 4 = .ok (.aload_n 0, 1) := dk_42 (dk_at dksX3_init_0 4 rfl rfl)
theorem dX3_init_5 : decode cX3_init 5 = .ok (.bipush 6, 2) := dk_16 6 (dk_at dksX3_init_0 5 rfl rfl)
theorem dX3_init_7 : decode cX3_init 7 = .ok (.anewarray 9, 3) := dk_189 0 9 (dk_at dksX3_init_0 7 rfl rfl)
theorem dX3_init_10 : decode cX3_init 10 = .ok (.putfield 11, 3) := dk_181 0 11 (dk_at dksX3_init_0 10 rfl rfl)
theorem dX3_init_13 : decode cX3_init 13 = .ok (.aload_n 0, 1) := dk_42 (dk_at dksX3_init_0 13 rfl rfl)
theorem dX3_init_14 : decode cX3_init 14 = .ok (.bipush 12, 2) := dk_16 12 (dk_at dksX3_init_0 14 rfl rfl)
theorem dX3_init_16 : decode cX3_init 16 = .ok (.anewarray 17, 3) := dk_189 0 17 (dk_at dksX3_init_0 16 rfl rfl)
theorem dX3_init_19 : decode cX3_init 19 = .ok (.putfield 19, 3) := dk_181 0 19 (dk_at dksX3_init_0 19 rfl rfl)
theorem dX3_init_22 : decode cX3_init 22 = .ok (.aload_n 0, 1) := dk_42 (dk_at dksX3_init_0 22 rfl rfl)
theorem dX3_init_23 : decode cX3_init 23 = .ok (.bipush 12, 2) := dk_16 12 (dk_at dksX3_init_1 0 rfl rfl)
theorem dX3_init_25 : decode cX3_init 25 = .ok (.anewarray 23, 3) := dk_189 0 23 (dk_at dksX3_init_1 2 rfl rfl)
theorem dX3_init_28 : decode cX3_init 28 = .ok (.putfield 25, 3) := dk_181 0 25 (dk_at dksX3_init_1 5 rfl rfl)
theorem dX3_init_31 : decode cX3_init 31 = .ok (.aload_n 0, 1) := dk_42 (dk_at dksX3_init_1 8 rfl rfl)
theorem dX3_init_32 : decode cX3_init 32 = .ok (.bipush 24, 2) := dk_16 24 (dk_at dksX3_init_1 9 rfl rfl)
theorem dX3_init_34 : decode cX3_init 34 = .ok (.newarray .int, 2) := dk_188_10 (dk_at dksX3_init_1 11 rfl rfl)
theorem dX3_init_36 : decode cX3_init 36 = .ok (.putfield 29, 3) := dk_181 0 29 (dk_at dksX3_init_1 13 rfl rfl)
theorem dX3_init_39 : decode cX3_init 39 = .ok (.aload_n 0, 1) := dk_42 (dk_at dksX3_init_1 16 rfl rfl)
theorem dX3_init_40 : decode cX3_init 40 = .ok (.bipush 13, 2) := dk_16 13 (dk_at dksX3_init_1 17 rfl rfl)
theorem dX3_init_42 : decode cX3_init 42 = .ok (.newarray .int, 2) := dk_188_10 (dk_at dksX3_init_1 19 rfl rfl)
theorem dX3_init_44 : decode cX3_init 44 = .ok (.putfield 33, 3) := dk_181 0 33 (dk_at dksX3_init_1 21 rfl rfl)
theorem dX3_init_47 : decode cX3_init 47 = .ok (.aload_n 0, 1) := dk_42 (dk_at dksX3_init_2 0 rfl rfl)
theorem dX3_init_48 : decode cX3_init 48 = .ok (.bipush 8, 2) := dk_16 8 (dk_at dksX3_init_2 1 rfl rfl)
theorem dX3_init_50 : decode cX3_init 50 = .ok (.newarray .int, 2) := dk_188_10 (dk_at dksX3_init_2 3 rfl rfl)
theorem dX3_init_52 : decode cX3_init 52 = .ok (.putfield 36, 3) := dk_181 0 36 (dk_at dksX3_init_2 5 rfl rfl)
theorem dX3_init_55 : decode cX3_init 55 = .ok (.aload_n 0, 1) := dk_42 (dk_at dksX3_init_2 8 rfl rfl)
theorem dX3_init_56 : decode cX3_init 56 = .ok (.sipush 360, 3) := dk_17 1 104 (dk_at dksX3_init_2 9 rfl rfl)
theorem dX3_init_59 : decode cX3_init 59 = .ok (.newarray .int, 2) := dk_188_10 (dk_at dksX3_init_2 12 rfl rfl)
theorem dX3_init_61 : decode cX3_init 61 = .ok (.putfield 39, 3) := dk_181 0 39 (dk_at dksX3_init_2 14 rfl rfl)
theorem dX3_init_64 : decode cX3_init 64 = .ok (.aload_n 0, 1) := dk_42 (dk_at dksX3_init_2 17 rfl rfl)
theorem dX3_init_65 : decode cX3_init 65 = .ok (.iconst (-1), 1) := dk_2 (dk_at dksX3_init_2 18 rfl rfl)
theorem dX3_init_66 : decode cX3_init 66 = .ok (.putfield 42, 3) := dk_181 0 42 (dk_at dksX3_init_2 19 rfl rfl)
theorem dX3_init_69 : decode cX3_init 69 = .ok (.aload_n 0, 1) := dk_42 (dk_at dksX3_init_2 22 rfl rfl)
theorem dX3_init_70 : decode cX3_init 70 = .ok (.bipush 7, 2) := dk_16 7 (dk_at dksX3_init_3 0 rfl rfl)
theorem dX3_init_72 : decode cX3_init 72 = .ok (.putfield 46, 3) := dk_181 0 46 (dk_at dksX3_init_3 2 rfl rfl)
theorem dX3_init_75 : decode cX3_init 75 = .ok (.aload_n 0, 1) := dk_42 (dk_at dksX3_init_3 5 rfl rfl)
theorem dX3_init_76 : decode cX3_init 76 = .ok (.bipush 8, 2) := dk_16 8 (dk_at dksX3_init_3 6 rfl rfl)
theorem dX3_init_78 : decode cX3_init 78 = .ok (.putfield 49, 3) := dk_181 0 49 (dk_at dksX3_init_3 8 rfl rfl)
theorem dX3_init_81 : decode cX3_init 81 = .ok (.aload_n 0, 1) := dk_42 (dk_at dksX3_init_3 11 rfl rfl)
theorem dX3_init_82 : decode cX3_init 82 = .ok (.iconst 5, 1) := dk_8 (dk_at dksX3_init_3 12 rfl rfl)
theorem dX3_init_83 : decode cX3_init 83 = .ok (.putfield 52, 3) := dk_181 0 52 (dk_at dksX3_init_3 13 rfl rfl)
theorem dX3_init_86 : decode cX3_init 86 = .ok (.aload_n 0, 1) := dk_42 (dk_at dksX3_init_3 16 rfl rfl)
theorem dX3_init_87 : decode cX3_init 87 = .ok (.bipush 9, 2) := dk_16 9 (dk_at dksX3_init_3 17 rfl rfl)
theorem dX3_init_89 : decode cX3_init 89 = .ok (.putfield 55, 3) := dk_181 0 55 (dk_at dksX3_init_3 19 rfl rfl)
theorem dX3_init_92 : decode cX3_init 92 = .ok (.aload_n 0, 1) := dk_42 (dk_at dksX3_init_3 22 rfl rfl)
theorem dX3_init_93 : decode cX3_init 93 = .ok (.bipush 12, 2) := dk_16 12 (dk_at dksX3_init_4 0 rfl rfl)
theorem dX3_init_95 : decode cX3_init 95 = .ok (.putfield 58, 3) := dk_181 0 58 (dk_at dksX3_init_4 2 rfl rfl)
theorem dX3_init_98 : decode cX3_init 98 = .ok (.aload_n 0, 1) := dk_42 (dk_at dksX3_init_4 5 rfl rfl)
theorem dX3_init_99 : decode cX3_init 99 = .ok (.iconst 1, 1) := dk_4 (dk_at dksX3_init_4 6 rfl rfl)
theorem dX3_init_100 : decode cX3_init 100 = .ok (.putfield 61, 3) := dk_181 0 61 (dk_at dksX3_init_4 7 rfl rfl)
theorem dX3_init_103 : decode cX3_init 103 = .ok (.iconst 0, 1) := dk_3 (dk_at dksX3_init_4 10 rfl rfl)
theorem dX3_init_104 : decode cX3_init 104 = .ok (.istore_n 1, 1) := dk_60 (dk_at dksX3_init_4 11 rfl rfl)
theorem dX3_init_105 : decode cX3_init 105 = .ok (.iload_n 1, 1) := dk_27 (dk_at dksX3_init_4 12 rfl rfl)
theorem dX3_init_106 : decode cX3_init 106 = .ok (.bipush 6, 2) := dk_16 6 (dk_at dksX3_init_4 13 rfl rfl)
theorem dX3_init_108 : decode cX3_init 108 = .ok (.if_icmp .ge 22, 3) := dk_162 0 22 (dk_at dksX3_init_4 15 rfl rfl)
theorem dX3_init_111 : decode cX3_init 111 = .ok (.aload_n 0, 1) := dk_42 (dk_at dksX3_init_4 18 rfl rfl)
theorem dX3_init_112 : decode cX3_init 112 = .ok (.getfield 11, 3) := dk_180 0 11 (dk_at dksX3_init_4 19 rfl rfl)
theorem dX3_init_115 : decode cX3_init 115 = .ok (.iload_n 1, 1) := dk_27 (dk_at dksX3_init_4 22 rfl rfl)
theorem dX3_init_116 : decode cX3_init 116 = .ok (.new 9, 3) := dk_187 0 9 (dk_at dksX3_init_5 0 rfl rfl)
theorem dX3_init_119 : decode cX3_init 119 = .ok (.dup, 1) := dk_89 (dk_at dksX3_init_5 3 rfl rfl)
theorem dX3_init_120 : decode cX3_init 120 = .ok (.invokespecial 64, 3) := dk_183 0 64 (dk_at dksX3_init_5 4 rfl rfl)
theorem dX3_init_123 : decode cX3_init 123 = .ok (.aastore, 1) := dk_83 (dk_at dksX3_init_5 7 rfl rfl)
theorem dX3_init_124 : decode cX3_init 124 = .ok (.iinc 1 1, 3) := dk_132 1 1 (dk_at dksX3_init_5 8 rfl rfl)
theorem dX3_init_127 : decode cX3_init 127 = .ok (.goto (-22), 3) := dk_167 255 234 (dk_at dksX3_init_5 11 rfl rfl)
theorem dX3_init_130 : decode cX3_init 130 = .ok (.iconst 0, 1) := dk_3 (dk_at dksX3_init_5 14 rfl rfl)
theorem dX3_init_131 : decode cX3_init 131 = .ok (.istore_n 1, 1) := dk_60 (dk_at dksX3_init_5 15 rfl rfl)
theorem dX3_init_132 : decode cX3_init 132 = .ok (.iload_n 1, 1) := dk_27 (dk_at dksX3_init_5 16 rfl rfl)
theorem dX3_init_133 : decode cX3_init 133 = .ok (.bipush 12, 2) := dk_16 12 (dk_at dksX3_init_5 17 rfl rfl)
theorem dX3_init_135 : decode cX3_init 135 = .ok (.if_icmp .ge 22, 3) := dk_162 0 22 (dk_at dksX3_init_5 19 rfl rfl)
theorem dX3_init_138 : decode cX3_init 138 = .ok (.aload_n 0, 1) := dk_42 (dk_at dksX3_init_5 22 rfl rfl)
theorem dX3_init_139 : decode cX3_init 139 = .ok (.getfield 19, 3) := dk_180 0 19 (dk_at dksX3_init_6 0 rfl rfl)
theorem dX3_init_142 : decode cX3_init 142 = .ok (.iload_n 1, 1) := dk_27 (dk_at dksX3_init_6 3 rfl rfl)
theorem dX3_init_143 : decode cX3_init 143 = .ok (.new 17, 3) := dk_187 0 17 (dk_at dksX3_init_6 4 rfl rfl)
theorem dX3_init_146 : decode cX3_init 146 = .ok (.dup, 1) := dk_89 (dk_at dksX3_init_6 7 rfl rfl)
theorem dX3_init_147 : decode cX3_init 147 = .ok (.invokespecial 65, 3) := dk_183 0 65 (dk_at dksX3_init_6 8 rfl rfl)
theorem dX3_init_150 : decode cX3_init 150 = .ok (.aastore, 1) := dk_83 (dk_at dksX3_init_6 11 rfl rfl)
theorem dX3_init_151 : decode cX3_init 151 = .ok (.iinc 1 1, 3) := dk_132 1 1 (dk_at dksX3_init_6 12 rfl rfl)
theorem dX3_init_154 : decode cX3_init 154 = .ok (.goto (-22), 3) := dk_167 255 234 (dk_at dksX3_init_6 15 rfl rfl)
theorem dX3_init_157 : decode cX3_init 157 = .ok (.return_, 1) := dk_177 (dk_at dksX3_init_6 18 rfl rfl)
abbrev cX3_sinks : ByteArray := prog_12_method_6_code
def yX3_sinks : MethodName := ⟨RX3, "sinks", "(IIII)I"⟩
def dkwX3_sinks_2 : List UInt8 := [182, 0, 112, 96, 54, 5, 132, 6, 1, 167, 255, 225, 3, 16, 12, 21, 5, 184, 0, 116, 184, 0, 122, 172]
abbrev dktX3_sinks_2 : List UInt8 := dkwX3_sinks_2 ++ []
def dkwX3_sinks_1 : List UInt8 := [21, 6, 42, 180, 0, 42, 162, 0, 28, 21, 5, 42, 180, 0, 25, 21, 6, 50, 42, 180, 0, 36]
abbrev dktX3_sinks_1 : List UInt8 := dkwX3_sinks_1 ++ dktX3_sinks_2
def dkwX3_sinks_0 : List UInt8 := [42, 27, 28, 29, 21, 4, 182, 0, 105, 42, 180, 0, 11, 27, 50, 180, 0, 109, 54, 5, 3, 54, 6]
abbrev dktX3_sinks_0 : List UInt8 := dkwX3_sinks_0 ++ dktX3_sinks_1
theorem dksX3_sinks_0 : cX3_sinks.data.toList.drop 0 = dktX3_sinks_0 := by decide +kernel
theorem dksX3_sinks_1 : cX3_sinks.data.toList.drop 23 = dktX3_sinks_1 := dk_seg dksX3_sinks_0 23 rfl rfl
theorem dksX3_sinks_2 : cX3_sinks.data.toList.drop 45 = dktX3_sinks_2 := dk_seg dksX3_sinks_1 22 rfl rfl
theorem dX3_sinks_0 : decode cX3_sinks 0 = .ok (.aload_n 0, 1) := dk_42 (dk_at dksX3_sinks_0 0 rfl rfl)
theorem dX3_sinks_1 : decode cX3_sinks 1 = .ok (.iload_n 1, 1) := dk_27 (dk_at dksX3_sinks_0 1 rfl rfl)
theorem dX3_sinks_2 : decode cX3_sinks 2 = .ok (.iload_n 2, 1) := dk_28 (dk_at dksX3_sinks_0 2 rfl rfl)
theorem dX3_sinks_3 : decode cX3_sinks 3 = .ok (.iload_n 3, 1) := dk_29 (dk_at dksX3_sinks_0 3 rfl rfl)
theorem dX3_sinks_4 : decode cX3_sinks 4 = .ok (.iload 4, 2) := dk_21 4 (dk_at dksX3_sinks_0 4 rfl rfl)
theorem dX3_sinks_6 : decode cX3_sinks 6 = .ok (.invokevirtual 105, 3) := dk_182 0 105 (dk_at dksX3_sinks_0 6 rfl rfl)
theorem dX3_sinks_9 : decode cX3_sinks 9 = .ok (.aload_n 0, 1) := dk_42 (dk_at dksX3_sinks_0 9 rfl rfl)
theorem dX3_sinks_10 : decode cX3_sinks 10 = .ok (.getfield 11, 3) := dk_180 0 11 (dk_at dksX3_sinks_0 10 rfl rfl)
theorem dX3_sinks_13 : decode cX3_sinks 13 = .ok (.iload_n 1, 1) := dk_27 (dk_at dksX3_sinks_0 13 rfl rfl)
theorem dX3_sinks_14 : decode cX3_sinks 14 = .ok (.aaload, 1) := dk_50 (dk_at dksX3_sinks_0 14 rfl rfl)
theorem dX3_sinks_15 : decode cX3_sinks 15 = .ok (.getfield 109, 3) := dk_180 0 109 (dk_at dksX3_sinks_0 15 rfl rfl)
theorem dX3_sinks_18 : decode cX3_sinks 18 = .ok (.istore 5, 2) := dk_54 5 (dk_at dksX3_sinks_0 18 rfl rfl)
theorem dX3_sinks_20 : decode cX3_sinks 20 = .ok (.iconst 0, 1) := dk_3 (dk_at dksX3_sinks_0 20 rfl rfl)
theorem dX3_sinks_21 : decode cX3_sinks 21 = .ok (.istore 6, 2) := dk_54 6 (dk_at dksX3_sinks_0 21 rfl rfl)
theorem dX3_sinks_23 : decode cX3_sinks 23 = .ok (.iload 6, 2) := dk_21 6 (dk_at dksX3_sinks_1 0 rfl rfl)
theorem dX3_sinks_25 : decode cX3_sinks 25 = .ok (.aload_n 0, 1) := dk_42 (dk_at dksX3_sinks_1 2 rfl rfl)
theorem dX3_sinks_26 : decode cX3_sinks 26 = .ok (.getfield 42, 3) := dk_180 0 42 (dk_at dksX3_sinks_1 3 rfl rfl)
theorem dX3_sinks_29 : decode cX3_sinks 29 = .ok (.if_icmp .ge 28, 3) := dk_162 0 28 (dk_at dksX3_sinks_1 6 rfl rfl)
theorem dX3_sinks_32 : decode cX3_sinks 32 = .ok (.iload 5, 2) := dk_21 5 (dk_at dksX3_sinks_1 9 rfl rfl)
theorem dX3_sinks_34 : decode cX3_sinks 34 = .ok (.aload_n 0, 1) := dk_42 (dk_at dksX3_sinks_1 11 rfl rfl)
theorem dX3_sinks_35 : decode cX3_sinks 35 = .ok (.getfield 25, 3) := dk_180 0 25 (dk_at dksX3_sinks_1 12 rfl rfl)
theorem dX3_sinks_38 : decode cX3_sinks 38 = .ok (.iload 6, 2) := dk_21 6 (dk_at dksX3_sinks_1 15 rfl rfl)
theorem dX3_sinks_40 : decode cX3_sinks 40 = .ok (.aaload, 1) := dk_50 (dk_at dksX3_sinks_1 17 rfl rfl)
theorem dX3_sinks_41 : decode cX3_sinks 41 = .ok (.aload_n 0, 1) := dk_42 (dk_at dksX3_sinks_1 18 rfl rfl)
theorem dX3_sinks_42 : decode cX3_sinks 42 = .ok (.getfield 36, 3) := dk_180 0 36 (dk_at dksX3_sinks_1 19 rfl rfl)
theorem dX3_sinks_45 : decode cX3_sinks 45 = .ok (.invokevirtual 112, 3) := dk_182 0 112 (dk_at dksX3_sinks_2 0 rfl rfl)
theorem dX3_sinks_48 : decode cX3_sinks 48 = .ok (.iadd, 1) := dk_96 (dk_at dksX3_sinks_2 3 rfl rfl)
theorem dX3_sinks_49 : decode cX3_sinks 49 = .ok (.istore 5, 2) := dk_54 5 (dk_at dksX3_sinks_2 4 rfl rfl)
theorem dX3_sinks_51 : decode cX3_sinks 51 = .ok (.iinc 6 1, 3) := dk_132 6 1 (dk_at dksX3_sinks_2 6 rfl rfl)
theorem dX3_sinks_54 : decode cX3_sinks 54 = .ok (.goto (-31), 3) := dk_167 255 225 (dk_at dksX3_sinks_2 9 rfl rfl)
theorem dX3_sinks_57 : decode cX3_sinks 57 = .ok (.iconst 0, 1) := dk_3 (dk_at dksX3_sinks_2 12 rfl rfl)
theorem dX3_sinks_58 : decode cX3_sinks 58 = .ok (.bipush 12, 2) := dk_16 12 (dk_at dksX3_sinks_2 13 rfl rfl)
theorem dX3_sinks_60 : decode cX3_sinks 60 = .ok (.iload 5, 2) := dk_21 5 (dk_at dksX3_sinks_2 15 rfl rfl)
theorem dX3_sinks_62 : decode cX3_sinks 62 = .ok (.invokestatic 116, 3) := dk_184 0 116 (dk_at dksX3_sinks_2 17 rfl rfl)
theorem dX3_sinks_65 : decode cX3_sinks 65 = .ok (.invokestatic 122, 3) := dk_184 0 122 (dk_at dksX3_sinks_2 20 rfl rfl)
theorem dX3_sinks_68 : decode cX3_sinks 68 = .ok (.ireturn, 1) := dk_172 (dk_at dksX3_sinks_2 23 rfl rfl)
abbrev cX3_tells : ByteArray := prog_12_method_5_code
def yX3_tells : MethodName := ⟨RX3, "tells", "(IIII)V"⟩
def dkwX3_tells_4 : List UInt8 := [3, 79, 177]
abbrev dktX3_tells_4 : List UInt8 := dkwX3_tells_4 ++ []
def dkwX3_tells_3 : List UInt8 := [4, 167, 0, 4, 3, 79, 42, 180, 0, 36, 16, 7, 42, 29, 182, 0, 101, 153, 0, 7, 4, 167, 0, 4]
abbrev dktX3_tells_3 : List UInt8 := dkwX3_tells_3 ++ dktX3_tells_4
def dkwX3_tells_2 : List UInt8 := [42, 180, 0, 36, 8, 21, 4, 79, 42, 180, 0, 36, 16, 6, 28, 42, 180, 0, 49, 5, 108, 164, 0, 7]
abbrev dktX3_tells_2 : List UInt8 := dkwX3_tells_2 ++ dktX3_tells_3
def dkwX3_tells_1 : List UInt8 := [180, 0, 36, 6, 42, 180, 0, 11, 27, 50, 180, 0, 98, 79, 42, 180, 0, 36, 7, 42, 180, 0, 58, 79]
abbrev dktX3_tells_1 : List UInt8 := dkwX3_tells_1 ++ dktX3_tells_2
def dkwX3_tells_0 : List UInt8 := [42, 180, 0, 36, 3, 27, 79, 42, 180, 0, 36, 4, 28, 79, 42, 180, 0, 36, 5, 29, 79, 42]
abbrev dktX3_tells_0 : List UInt8 := dkwX3_tells_0 ++ dktX3_tells_1
theorem dksX3_tells_0 : cX3_tells.data.toList.drop 0 = dktX3_tells_0 := by decide +kernel
theorem dksX3_tells_1 : cX3_tells.data.toList.drop 22 = dktX3_tells_1 := dk_seg dksX3_tells_0 22 rfl rfl
theorem dksX3_tells_2 : cX3_tells.data.toList.drop 46 = dktX3_tells_2 := dk_seg dksX3_tells_1 24 rfl rfl
theorem dksX3_tells_3 : cX3_tells.data.toList.drop 70 = dktX3_tells_3 := dk_seg dksX3_tells_2 24 rfl rfl
theorem dksX3_tells_4 : cX3_tells.data.toList.drop 94 = dktX3_tells_4 := dk_seg dksX3_tells_3 24 rfl rfl
theorem dX3_tells_0 : decode cX3_tells 0 = .ok (.aload_n 0, 1) := dk_42 (dk_at dksX3_tells_0 0 rfl rfl)
theorem dX3_tells_1 : decode cX3_tells 1 = .ok (.getfield 36, 3) := dk_180 0 36 (dk_at dksX3_tells_0 1 rfl rfl)
theorem dX3_tells_4 : decode cX3_tells 4 = .ok (.iconst 0, 1) := dk_3 (dk_at dksX3_tells_0 4 rfl rfl)
theorem dX3_tells_5 : decode cX3_tells 5 = .ok (.iload_n 1, 1) := dk_27 (dk_at dksX3_tells_0 5 rfl rfl)
theorem dX3_tells_6 : decode cX3_tells 6 = .ok (.iastore, 1) := dk_79 (dk_at dksX3_tells_0 6 rfl rfl)
theorem dX3_tells_7 : decode cX3_tells 7 = .ok (.aload_n 0, 1) := dk_42 (dk_at dksX3_tells_0 7 rfl rfl)
theorem dX3_tells_8 : decode cX3_tells 8 = .ok (.getfield 36, 3) := dk_180 0 36 (dk_at dksX3_tells_0 8 rfl rfl)
theorem dX3_tells_11 : decode cX3_tells 11 = .ok (.iconst 1, 1) := dk_4 (dk_at dksX3_tells_0 11 rfl rfl)
theorem dX3_tells_12 : decode cX3_tells 12 = .ok (.iload_n 2, 1) := dk_28 (dk_at dksX3_tells_0 12 rfl rfl)
theorem dX3_tells_13 : decode cX3_tells 13 = .ok (.iastore, 1) := dk_79 (dk_at dksX3_tells_0 13 rfl rfl)
theorem dX3_tells_14 : decode cX3_tells 14 = .ok (.aload_n 0, 1) := dk_42 (dk_at dksX3_tells_0 14 rfl rfl)
theorem dX3_tells_15 : decode cX3_tells 15 = .ok (.getfield 36, 3) := dk_180 0 36 (dk_at dksX3_tells_0 15 rfl rfl)
theorem dX3_tells_18 : decode cX3_tells 18 = .ok (.iconst 2, 1) := dk_5 (dk_at dksX3_tells_0 18 rfl rfl)
theorem dX3_tells_19 : decode cX3_tells 19 = .ok (.iload_n 3, 1) := dk_29 (dk_at dksX3_tells_0 19 rfl rfl)
theorem dX3_tells_20 : decode cX3_tells 20 = .ok (.iastore, 1) := dk_79 (dk_at dksX3_tells_0 20 rfl rfl)
theorem dX3_tells_21 : decode cX3_tells 21 = .ok (.aload_n 0, 1) := dk_42 (dk_at dksX3_tells_0 21 rfl rfl)
theorem dX3_tells_22 : decode cX3_tells 22 = .ok (.getfield 36, 3) := dk_180 0 36 (dk_at dksX3_tells_1 0 rfl rfl)
theorem dX3_tells_25 : decode cX3_tells 25 = .ok (.iconst 3, 1) := dk_6 (dk_at dksX3_tells_1 3 rfl rfl)
theorem dX3_tells_26 : decode cX3_tells 26 = .ok (.aload_n 0, 1) := dk_42 (dk_at dksX3_tells_1 4 rfl rfl)
theorem dX3_tells_27 : decode cX3_tells 27 = .ok (.getfield 11, 3) := dk_180 0 11 (dk_at dksX3_tells_1 5 rfl rfl)
theorem dX3_tells_30 : decode cX3_tells 30 = .ok (.iload_n 1, 1) := dk_27 (dk_at dksX3_tells_1 8 rfl rfl)
theorem dX3_tells_31 : decode cX3_tells 31 = .ok (.aaload, 1) := dk_50 (dk_at dksX3_tells_1 9 rfl rfl)
theorem dX3_tells_32 : decode cX3_tells 32 = .ok (.getfield 98, 3) := dk_180 0 98 (dk_at dksX3_tells_1 10 rfl rfl)
theorem dX3_tells_35 : decode cX3_tells 35 = .ok (.iastore, 1) := dk_79 (dk_at dksX3_tells_1 13 rfl rfl)
theorem dX3_tells_36 : decode cX3_tells 36 = .ok (.aload_n 0, 1) := dk_42 (dk_at dksX3_tells_1 14 rfl rfl)
theorem dX3_tells_37 : decode cX3_tells 37 = .ok (.getfield 36, 3) := dk_180 0 36 (dk_at dksX3_tells_1 15 rfl rfl)
theorem dX3_tells_40 : decode cX3_tells 40 = .ok (.iconst 4, 1) := dk_7 (dk_at dksX3_tells_1 18 rfl rfl)
theorem dX3_tells_41 : decode cX3_tells 41 = .ok (.aload_n 0, 1) := dk_42 (dk_at dksX3_tells_1 19 rfl rfl)
theorem dX3_tells_42 : decode cX3_tells 42 = .ok (.getfield 58, 3) := dk_180 0 58 (dk_at dksX3_tells_1 20 rfl rfl)
theorem dX3_tells_45 : decode cX3_tells 45 = .ok (.iastore, 1) := dk_79 (dk_at dksX3_tells_1 23 rfl rfl)
theorem dX3_tells_46 : decode cX3_tells 46 = .ok (.aload_n 0, 1) := dk_42 (dk_at dksX3_tells_2 0 rfl rfl)
theorem dX3_tells_47 : decode cX3_tells 47 = .ok (.getfield 36, 3) := dk_180 0 36 (dk_at dksX3_tells_2 1 rfl rfl)
theorem dX3_tells_50 : decode cX3_tells 50 = .ok (.iconst 5, 1) := dk_8 (dk_at dksX3_tells_2 4 rfl rfl)
theorem dX3_tells_51 : decode cX3_tells 51 = .ok (.iload 4, 2) := dk_21 4 (dk_at dksX3_tells_2 5 rfl rfl)
theorem dX3_tells_53 : decode cX3_tells 53 = .ok (.iastore, 1) := dk_79 (dk_at dksX3_tells_2 7 rfl rfl)
theorem dX3_tells_54 : decode cX3_tells 54 = .ok (.aload_n 0, 1) := dk_42 (dk_at dksX3_tells_2 8 rfl rfl)
theorem dX3_tells_55 : decode cX3_tells 55 = .ok (.getfield 36, 3) := dk_180 0 36 (dk_at dksX3_tells_2 9 rfl rfl)
theorem dX3_tells_58 : decode cX3_tells 58 = .ok (.bipush 6, 2) := dk_16 6 (dk_at dksX3_tells_2 12 rfl rfl)
theorem dX3_tells_60 : decode cX3_tells 60 = .ok (.iload_n 2, 1) := dk_28 (dk_at dksX3_tells_2 14 rfl rfl)
theorem dX3_tells_61 : decode cX3_tells 61 = .ok (.aload_n 0, 1) := dk_42 (dk_at dksX3_tells_2 15 rfl rfl)
theorem dX3_tells_62 : decode cX3_tells 62 = .ok (.getfield 49, 3) := dk_180 0 49 (dk_at dksX3_tells_2 16 rfl rfl)
theorem dX3_tells_65 : decode cX3_tells 65 = .ok (.iconst 2, 1) := dk_5 (dk_at dksX3_tells_2 19 rfl rfl)
theorem dX3_tells_66 : decode cX3_tells 66 = .ok (.idiv, 1) := dk_108 (dk_at dksX3_tells_2 20 rfl rfl)
theorem dX3_tells_67 : decode cX3_tells 67 = .ok (.if_icmp .le 7, 3) := dk_164 0 7 (dk_at dksX3_tells_2 21 rfl rfl)
theorem dX3_tells_70 : decode cX3_tells 70 = .ok (.iconst 1, 1) := dk_4 (dk_at dksX3_tells_3 0 rfl rfl)
theorem dX3_tells_71 : decode cX3_tells 71 = .ok (.goto 4, 3) := dk_167 0 4 (dk_at dksX3_tells_3 1 rfl rfl)
theorem dX3_tells_74 : decode cX3_tells 74 = .ok (.iconst 0, 1) := dk_3 (dk_at dksX3_tells_3 4 rfl rfl)
theorem dX3_tells_75 : decode cX3_tells 75 = .ok (.iastore, 1) := dk_79 (dk_at dksX3_tells_3 5 rfl rfl)
theorem dX3_tells_76 : decode cX3_tells 76 = .ok (.aload_n 0, 1) := dk_42 (dk_at dksX3_tells_3 6 rfl rfl)
theorem dX3_tells_77 : decode cX3_tells 77 = .ok (.getfield 36, 3) := dk_180 0 36 (dk_at dksX3_tells_3 7 rfl rfl)
theorem dX3_tells_80 : decode cX3_tells 80 = .ok (.bipush 7, 2) := dk_16 7 (dk_at dksX3_tells_3 10 rfl rfl)
theorem dX3_tells_82 : decode cX3_tells 82 = .ok (.aload_n 0, 1) := dk_42 (dk_at dksX3_tells_3 12 rfl rfl)
theorem dX3_tells_83 : decode cX3_tells 83 = .ok (.iload_n 3, 1) := dk_29 (dk_at dksX3_tells_3 13 rfl rfl)
theorem dX3_tells_84 : decode cX3_tells 84 = .ok (.invokevirtual 101, 3) := dk_182 0 101 (dk_at dksX3_tells_3 14 rfl rfl)
theorem dX3_tells_87 : decode cX3_tells 87 = .ok (.ifCond .eq 7, 3) := dk_153 0 7 (dk_at dksX3_tells_3 17 rfl rfl)
theorem dX3_tells_90 : decode cX3_tells 90 = .ok (.iconst 1, 1) := dk_4 (dk_at dksX3_tells_3 20 rfl rfl)
theorem dX3_tells_91 : decode cX3_tells 91 = .ok (.goto 4, 3) := dk_167 0 4 (dk_at dksX3_tells_3 21 rfl rfl)
theorem dX3_tells_94 : decode cX3_tells 94 = .ok (.iconst 0, 1) := dk_3 (dk_at dksX3_tells_4 0 rfl rfl)
theorem dX3_tells_95 : decode cX3_tells 95 = .ok (.iastore, 1) := dk_79 (dk_at dksX3_tells_4 1 rfl rfl)
theorem dX3_tells_96 : decode cX3_tells 96 = .ok (.return_, 1) := dk_177 (dk_at dksX3_tells_4 2 rfl rfl)
abbrev cX3_isYard : ByteArray := prog_12_method_4_code
def yX3_isYard : MethodName := ⟨RX3, "isYard", "(I)Z"⟩
def dkwX3_isYard_0 : List UInt8 := [27, 42, 180, 0, 52, 161, 0, 15, 27, 42, 180, 0, 55, 163, 0, 7, 4, 167, 0, 4, 3, 172]
abbrev dktX3_isYard_0 : List UInt8 := dkwX3_isYard_0 ++ []
theorem dksX3_isYard_0 : cX3_isYard.data.toList.drop 0 = dktX3_isYard_0 := by decide +kernel
theorem dX3_isYard_0 : decode cX3_isYard 0 = .ok (.iload_n 1, 1) := dk_27 (dk_at dksX3_isYard_0 0 rfl rfl)
theorem dX3_isYard_1 : decode cX3_isYard 1 = .ok (.aload_n 0, 1) := dk_42 (dk_at dksX3_isYard_0 1 rfl rfl)
theorem dX3_isYard_2 : decode cX3_isYard 2 = .ok (.getfield 52, 3) := dk_180 0 52 (dk_at dksX3_isYard_0 2 rfl rfl)
theorem dX3_isYard_5 : decode cX3_isYard 5 = .ok (.if_icmp .lt 15, 3) := dk_161 0 15 (dk_at dksX3_isYard_0 5 rfl rfl)
theorem dX3_isYard_8 : decode cX3_isYard 8 = .ok (.iload_n 1, 1) := dk_27 (dk_at dksX3_isYard_0 8 rfl rfl)
theorem dX3_isYard_9 : decode cX3_isYard 9 = .ok (.aload_n 0, 1) := dk_42 (dk_at dksX3_isYard_0 9 rfl rfl)
theorem dX3_isYard_10 : decode cX3_isYard 10 = .ok (.getfield 55, 3) := dk_180 0 55 (dk_at dksX3_isYard_0 10 rfl rfl)
theorem dX3_isYard_13 : decode cX3_isYard 13 = .ok (.if_icmp .gt 7, 3) := dk_163 0 7 (dk_at dksX3_isYard_0 13 rfl rfl)
theorem dX3_isYard_16 : decode cX3_isYard 16 = .ok (.iconst 1, 1) := dk_4 (dk_at dksX3_isYard_0 16 rfl rfl)
theorem dX3_isYard_17 : decode cX3_isYard 17 = .ok (.goto 4, 3) := dk_167 0 4 (dk_at dksX3_isYard_0 17 rfl rfl)
theorem dX3_isYard_20 : decode cX3_isYard 20 = .ok (.iconst 0, 1) := dk_3 (dk_at dksX3_isYard_0 20 rfl rfl)
theorem dX3_isYard_21 : decode cX3_isYard 21 = .ok (.ireturn, 1) := dk_172 (dk_at dksX3_isYard_0 21 rfl rfl)
abbrev cX3_carried : ByteArray := prog_12_method_7_code
def yX3_carried : MethodName := ⟨RX3, "carried", "(IIII)I"⟩
def dkwX3_carried_2 : List UInt8 := [42, 180, 0, 36, 182, 0, 125, 96, 54, 5, 132, 6, 1, 167, 255, 225, 21, 5, 172]
abbrev dktX3_carried_2 : List UInt8 := dkwX3_carried_2 ++ []
def dkwX3_carried_1 : List UInt8 := [104, 54, 5, 3, 54, 6, 21, 6, 42, 180, 0, 42, 162, 0, 28, 21, 5, 42, 180, 0, 25, 21, 6, 50]
abbrev dktX3_carried_1 : List UInt8 := dkwX3_carried_1 ++ dktX3_carried_2
def dkwX3_carried_0 : List UInt8 := [42, 27, 28, 29, 21, 4, 182, 0, 105, 42, 180, 0, 33, 28, 46, 42, 180, 0, 11, 27, 50, 180, 0, 98]
abbrev dktX3_carried_0 : List UInt8 := dkwX3_carried_0 ++ dktX3_carried_1
theorem dksX3_carried_0 : cX3_carried.data.toList.drop 0 = dktX3_carried_0 := by decide +kernel
theorem dksX3_carried_1 : cX3_carried.data.toList.drop 24 = dktX3_carried_1 := dk_seg dksX3_carried_0 24 rfl rfl
theorem dksX3_carried_2 : cX3_carried.data.toList.drop 48 = dktX3_carried_2 := dk_seg dksX3_carried_1 24 rfl rfl
theorem dX3_carried_0 : decode cX3_carried 0 = .ok (.aload_n 0, 1) := dk_42 (dk_at dksX3_carried_0 0 rfl rfl)
theorem dX3_carried_1 : decode cX3_carried 1 = .ok (.iload_n 1, 1) := dk_27 (dk_at dksX3_carried_0 1 rfl rfl)
theorem dX3_carried_2 : decode cX3_carried 2 = .ok (.iload_n 2, 1) := dk_28 (dk_at dksX3_carried_0 2 rfl rfl)
theorem dX3_carried_3 : decode cX3_carried 3 = .ok (.iload_n 3, 1) := dk_29 (dk_at dksX3_carried_0 3 rfl rfl)
theorem dX3_carried_4 : decode cX3_carried 4 = .ok (.iload 4, 2) := dk_21 4 (dk_at dksX3_carried_0 4 rfl rfl)
theorem dX3_carried_6 : decode cX3_carried 6 = .ok (.invokevirtual 105, 3) := dk_182 0 105 (dk_at dksX3_carried_0 6 rfl rfl)
theorem dX3_carried_9 : decode cX3_carried 9 = .ok (.aload_n 0, 1) := dk_42 (dk_at dksX3_carried_0 9 rfl rfl)
theorem dX3_carried_10 : decode cX3_carried 10 = .ok (.getfield 33, 3) := dk_180 0 33 (dk_at dksX3_carried_0 10 rfl rfl)
theorem dX3_carried_13 : decode cX3_carried 13 = .ok (.iload_n 2, 1) := dk_28 (dk_at dksX3_carried_0 13 rfl rfl)
theorem dX3_carried_14 : decode cX3_carried 14 = .ok (.iaload, 1) := dk_46 (dk_at dksX3_carried_0 14 rfl rfl)
theorem dX3_carried_15 : decode cX3_carried 15 = .ok (.aload_n 0, 1) := dk_42 (dk_at dksX3_carried_0 15 rfl rfl)
theorem dX3_carried_16 : decode cX3_carried 16 = .ok (.getfield 11, 3) := dk_180 0 11 (dk_at dksX3_carried_0 16 rfl rfl)
theorem dX3_carried_19 : decode cX3_carried 19 = .ok (.iload_n 1, 1) := dk_27 (dk_at dksX3_carried_0 19 rfl rfl)
theorem dX3_carried_20 : decode cX3_carried 20 = .ok (.aaload, 1) := dk_50 (dk_at dksX3_carried_0 20 rfl rfl)
theorem dX3_carried_21 : decode cX3_carried 21 = .ok (.getfield 98, 3) := dk_180 0 98 (dk_at dksX3_carried_0 21 rfl rfl)
theorem dX3_carried_24 : decode cX3_carried 24 = .ok (.imul, 1) := dk_104 (dk_at dksX3_carried_1 0 rfl rfl)
theorem dX3_carried_25 : decode cX3_carried 25 = .ok (.istore 5, 2) := dk_54 5 (dk_at dksX3_carried_1 1 rfl rfl)
theorem dX3_carried_27 : decode cX3_carried 27 = .ok (.iconst 0, 1) := dk_3 (dk_at dksX3_carried_1 3 rfl rfl)
theorem dX3_carried_28 : decode cX3_carried 28 = .ok (.istore 6, 2) := dk_54 6 (dk_at dksX3_carried_1 4 rfl rfl)
theorem dX3_carried_30 : decode cX3_carried 30 = .ok (.iload 6, 2) := dk_21 6 (dk_at dksX3_carried_1 6 rfl rfl)
theorem dX3_carried_32 : decode cX3_carried 32 = .ok (.aload_n 0, 1) := dk_42 (dk_at dksX3_carried_1 8 rfl rfl)
theorem dX3_carried_33 : decode cX3_carried 33 = .ok (.getfield 42, 3) := dk_180 0 42 (dk_at dksX3_carried_1 9 rfl rfl)
theorem dX3_carried_36 : decode cX3_carried 36 = .ok (.if_icmp .ge 28, 3) := dk_162 0 28 (dk_at dksX3_carried_1 12 rfl rfl)
theorem dX3_carried_39 : decode cX3_carried 39 = .ok (.iload 5, 2) := dk_21 5 (dk_at dksX3_carried_1 15 rfl rfl)
theorem dX3_carried_41 : decode cX3_carried 41 = .ok (.aload_n 0, 1) := dk_42 (dk_at dksX3_carried_1 17 rfl rfl)
theorem dX3_carried_42 : decode cX3_carried 42 = .ok (.getfield 25, 3) := dk_180 0 25 (dk_at dksX3_carried_1 18 rfl rfl)
theorem dX3_carried_45 : decode cX3_carried 45 = .ok (.iload 6, 2) := dk_21 6 (dk_at dksX3_carried_1 21 rfl rfl)
theorem dX3_carried_47 : decode cX3_carried 47 = .ok (.aaload, 1) := dk_50 (dk_at dksX3_carried_1 23 rfl rfl)
theorem dX3_carried_48 : decode cX3_carried 48 = .ok (.aload_n 0, 1) := dk_42 (dk_at dksX3_carried_2 0 rfl rfl)
theorem dX3_carried_49 : decode cX3_carried 49 = .ok (.getfield 36, 3) := dk_180 0 36 (dk_at dksX3_carried_2 1 rfl rfl)
theorem dX3_carried_52 : decode cX3_carried 52 = .ok (.invokevirtual 125, 3) := dk_182 0 125 (dk_at dksX3_carried_2 4 rfl rfl)
theorem dX3_carried_55 : decode cX3_carried 55 = .ok (.iadd, 1) := dk_96 (dk_at dksX3_carried_2 7 rfl rfl)
theorem dX3_carried_56 : decode cX3_carried 56 = .ok (.istore 5, 2) := dk_54 5 (dk_at dksX3_carried_2 8 rfl rfl)
theorem dX3_carried_58 : decode cX3_carried 58 = .ok (.iinc 6 1, 3) := dk_132 6 1 (dk_at dksX3_carried_2 10 rfl rfl)
theorem dX3_carried_61 : decode cX3_carried 61 = .ok (.goto (-31), 3) := dk_167 255 225 (dk_at dksX3_carried_2 13 rfl rfl)
theorem dX3_carried_64 : decode cX3_carried 64 = .ok (.iload 5, 2) := dk_21 5 (dk_at dksX3_carried_2 16 rfl rfl)
theorem dX3_carried_66 : decode cX3_carried 66 = .ok (.ireturn, 1) := dk_172 (dk_at dksX3_carried_2 18 rfl rfl)
abbrev cX3_stock : ByteArray := prog_12_method_8_code
def yX3_stock : MethodName := ⟨RX3, "stock", "(II)I"⟩
def dkwX3_stock_0 : List UInt8 := [42, 180, 0, 29, 16, 6, 27, 104, 28, 96, 46, 172]
abbrev dktX3_stock_0 : List UInt8 := dkwX3_stock_0 ++ []
theorem dksX3_stock_0 : cX3_stock.data.toList.drop 0 = dktX3_stock_0 := by decide +kernel
theorem dX3_stock_0 : decode cX3_stock 0 = .ok (.aload_n 0, 1) := dk_42 (dk_at dksX3_stock_0 0 rfl rfl)
theorem dX3_stock_1 : decode cX3_stock 1 = .ok (.getfield 29, 3) := dk_180 0 29 (dk_at dksX3_stock_0 1 rfl rfl)
theorem dX3_stock_4 : decode cX3_stock 4 = .ok (.bipush 6, 2) := dk_16 6 (dk_at dksX3_stock_0 4 rfl rfl)
theorem dX3_stock_6 : decode cX3_stock 6 = .ok (.iload_n 1, 1) := dk_27 (dk_at dksX3_stock_0 6 rfl rfl)
theorem dX3_stock_7 : decode cX3_stock 7 = .ok (.imul, 1) := dk_104 (dk_at dksX3_stock_0 7 rfl rfl)
theorem dX3_stock_8 : decode cX3_stock 8 = .ok (.iload_n 2, 1) := dk_28 (dk_at dksX3_stock_0 8 rfl rfl)
theorem dX3_stock_9 : decode cX3_stock 9 = .ok (.iadd, 1) := dk_96 (dk_at dksX3_stock_0 9 rfl rfl)
theorem dX3_stock_10 : decode cX3_stock 10 = .ok (.iaload, 1) := dk_46 (dk_at dksX3_stock_0 10 rfl rfl)
theorem dX3_stock_11 : decode cX3_stock 11 = .ok (.ireturn, 1) := dk_172 (dk_at dksX3_stock_0 11 rfl rfl)
abbrev cX3_be : ByteArray := prog_12_method_2_code
def yX3_be : MethodName := ⟨RX3, "be", "(LFeatherYard$State;)V"⟩
def dkwX3_be_9 : List UInt8 := [43, 180, 0, 61, 181, 0, 61, 42, 43, 180, 0, 94, 181, 0, 94, 177]
abbrev dktX3_be_9 : List UInt8 := dkwX3_be_9 ++ []
def dkwX3_be_8 : List UInt8 := [43, 180, 0, 55, 181, 0, 55, 42, 43, 180, 0, 58, 181, 0, 58, 42, 43, 180, 0, 91, 181, 0, 91, 42]
abbrev dktX3_be_8 : List UInt8 := dkwX3_be_8 ++ dktX3_be_9
def dkwX3_be_7 : List UInt8 := [43, 180, 0, 46, 181, 0, 46, 42, 43, 180, 0, 49, 181, 0, 49, 42, 43, 180, 0, 52, 181, 0, 52, 42]
abbrev dktX3_be_7 : List UInt8 := dkwX3_be_7 ++ dktX3_be_8
def dkwX3_be_6 : List UInt8 := [43, 180, 0, 73, 181, 0, 73, 42, 43, 180, 0, 42, 181, 0, 42, 42, 43, 180, 0, 88, 181, 0, 88, 42]
abbrev dktX3_be_6 : List UInt8 := dkwX3_be_6 ++ dktX3_be_7
def dkwX3_be_5 : List UInt8 := [3, 17, 1, 104, 184, 0, 79, 42, 43, 180, 0, 66, 181, 0, 66, 42, 43, 180, 0, 85, 181, 0, 85, 42]
abbrev dktX3_be_5 : List UInt8 := dkwX3_be_5 ++ dktX3_be_6
def dkwX3_be_4 : List UInt8 := [43, 180, 0, 33, 3, 42, 180, 0, 33, 3, 16, 13, 184, 0, 79, 43, 180, 0, 39, 3, 42, 180, 0, 39]
abbrev dktX3_be_4 : List UInt8 := dkwX3_be_4 ++ dktX3_be_5
def dkwX3_be_3 : List UInt8 := [180, 0, 25, 3, 16, 12, 184, 0, 79, 43, 180, 0, 29, 3, 42, 180, 0, 29, 3, 16, 24, 184, 0, 79]
abbrev dktX3_be_3 : List UInt8 := dkwX3_be_3 ++ dktX3_be_4
def dkwX3_be_2 : List UInt8 := [50, 43, 180, 0, 19, 28, 50, 182, 0, 76, 132, 2, 1, 167, 255, 230, 43, 180, 0, 25, 3, 42]
abbrev dktX3_be_2 : List UInt8 := dkwX3_be_2 ++ dktX3_be_3
def dkwX3_be_1 : List UInt8 := [182, 0, 69, 132, 2, 1, 167, 255, 230, 3, 61, 28, 43, 180, 0, 73, 162, 0, 24, 42, 180, 0, 19, 28]
abbrev dktX3_be_1 : List UInt8 := dkwX3_be_1 ++ dktX3_be_2
def dkwX3_be_0 : List UInt8 := [3, 61, 28, 43, 180, 0, 66, 162, 0, 24, 42, 180, 0, 11, 28, 50, 43, 180, 0, 11, 28, 50]
abbrev dktX3_be_0 : List UInt8 := dkwX3_be_0 ++ dktX3_be_1
theorem dksX3_be_0 : cX3_be.data.toList.drop 0 = dktX3_be_0 := by decide +kernel
theorem dksX3_be_1 : cX3_be.data.toList.drop 22 = dktX3_be_1 := dk_seg dksX3_be_0 22 rfl rfl
theorem dksX3_be_2 : cX3_be.data.toList.drop 46 = dktX3_be_2 := dk_seg dksX3_be_1 24 rfl rfl
theorem dksX3_be_3 : cX3_be.data.toList.drop 68 = dktX3_be_3 := dk_seg dksX3_be_2 22 rfl rfl
theorem dksX3_be_4 : cX3_be.data.toList.drop 92 = dktX3_be_4 := dk_seg dksX3_be_3 24 rfl rfl
theorem dksX3_be_5 : cX3_be.data.toList.drop 116 = dktX3_be_5 := dk_seg dksX3_be_4 24 rfl rfl
theorem dksX3_be_6 : cX3_be.data.toList.drop 140 = dktX3_be_6 := dk_seg dksX3_be_5 24 rfl rfl
theorem dksX3_be_7 : cX3_be.data.toList.drop 164 = dktX3_be_7 := dk_seg dksX3_be_6 24 rfl rfl
theorem dksX3_be_8 : cX3_be.data.toList.drop 188 = dktX3_be_8 := dk_seg dksX3_be_7 24 rfl rfl
theorem dksX3_be_9 : cX3_be.data.toList.drop 212 = dktX3_be_9 := dk_seg dksX3_be_8 24 rfl rfl
theorem dX3_be_0 : decode cX3_be 0 = .ok (.iconst 0, 1) := dk_3 (dk_at dksX3_be_0 0 rfl rfl)
theorem dX3_be_1 : decode cX3_be 1 = .ok (.istore_n 2, 1) := dk_61 (dk_at dksX3_be_0 1 rfl rfl)
theorem dX3_be_2 : decode cX3_be 2 = .ok (.iload_n 2, 1) := dk_28 (dk_at dksX3_be_0 2 rfl rfl)
theorem dX3_be_3 : decode cX3_be 3 = .ok (.aload_n 1, 1) := dk_43 (dk_at dksX3_be_0 3 rfl rfl)
theorem dX3_be_4 : decode cX3_be 4 = .ok (.getfield 66, 3) := dk_180 0 66 (dk_at dksX3_be_0 4 rfl rfl)
theorem dX3_be_7 : decode cX3_be 7 = .ok (.if_icmp .ge 24, 3) := dk_162 0 24 (dk_at dksX3_be_0 7 rfl rfl)
theorem dX3_be_10 : decode cX3_be 10 = .ok (.aload_n 0, 1) := dk_42 (dk_at dksX3_be_0 10 rfl rfl)
theorem dX3_be_11 : decode cX3_be 11 = .ok (.getfield 11, 3) := dk_180 0 11 (dk_at dksX3_be_0 11 rfl rfl)
theorem dX3_be_14 : decode cX3_be 14 = .ok (.iload_n 2, 1) := dk_28 (dk_at dksX3_be_0 14 rfl rfl)
theorem dX3_be_15 : decode cX3_be 15 = .ok (.aaload, 1) := dk_50 (dk_at dksX3_be_0 15 rfl rfl)
theorem dX3_be_16 : decode cX3_be 16 = .ok (.aload_n 1, 1) := dk_43 (dk_at dksX3_be_0 16 rfl rfl)
theorem dX3_be_17 : decode cX3_be 17 = .ok (.getfield 11, 3) := dk_180 0 11 (dk_at dksX3_be_0 17 rfl rfl)
theorem dX3_be_20 : decode cX3_be 20 = .ok (.iload_n 2, 1) := dk_28 (dk_at dksX3_be_0 20 rfl rfl)
theorem dX3_be_21 : decode cX3_be 21 = .ok (.aaload, 1) := dk_50 (dk_at dksX3_be_0 21 rfl rfl)
theorem dX3_be_22 : decode cX3_be 22 = .ok (.invokevirtual 69, 3) := dk_182 0 69 (dk_at dksX3_be_1 0 rfl rfl)
theorem dX3_be_25 : decode cX3_be 25 = .ok (.iinc 2 1, 3) := dk_132 2 1 (dk_at dksX3_be_1 3 rfl rfl)
theorem dX3_be_28 : decode cX3_be 28 = .ok (.goto (-26), 3) := dk_167 255 230 (dk_at dksX3_be_1 6 rfl rfl)
theorem dX3_be_31 : decode cX3_be 31 = .ok (.iconst 0, 1) := dk_3 (dk_at dksX3_be_1 9 rfl rfl)
theorem dX3_be_32 : decode cX3_be 32 = .ok (.istore_n 2, 1) := dk_61 (dk_at dksX3_be_1 10 rfl rfl)
theorem dX3_be_33 : decode cX3_be 33 = .ok (.iload_n 2, 1) := dk_28 (dk_at dksX3_be_1 11 rfl rfl)
theorem dX3_be_34 : decode cX3_be 34 = .ok (.aload_n 1, 1) := dk_43 (dk_at dksX3_be_1 12 rfl rfl)
theorem dX3_be_35 : decode cX3_be 35 = .ok (.getfield 73, 3) := dk_180 0 73 (dk_at dksX3_be_1 13 rfl rfl)
theorem dX3_be_38 : decode cX3_be 38 = .ok (.if_icmp .ge 24, 3) := dk_162 0 24 (dk_at dksX3_be_1 16 rfl rfl)
theorem dX3_be_41 : decode cX3_be 41 = .ok (.aload_n 0, 1) := dk_42 (dk_at dksX3_be_1 19 rfl rfl)
theorem dX3_be_42 : decode cX3_be 42 = .ok (.getfield 19, 3) := dk_180 0 19 (dk_at dksX3_be_1 20 rfl rfl)
theorem dX3_be_45 : decode cX3_be 45 = .ok (.iload_n 2, 1) := dk_28 (dk_at dksX3_be_1 23 rfl rfl)
theorem dX3_be_46 : decode cX3_be 46 = .ok (.aaload, 1) := dk_50 (dk_at dksX3_be_2 0 rfl rfl)
theorem dX3_be_47 : decode cX3_be 47 = .ok (.aload_n 1, 1) := dk_43 (dk_at dksX3_be_2 1 rfl rfl)
theorem dX3_be_48 : decode cX3_be 48 = .ok (.getfield 19, 3) := dk_180 0 19 (dk_at dksX3_be_2 2 rfl rfl)
theorem dX3_be_51 : decode cX3_be 51 = .ok (.iload_n 2, 1) := dk_28 (dk_at dksX3_be_2 5 rfl rfl)
theorem dX3_be_52 : decode cX3_be 52 = .ok (.aaload, 1) := dk_50 (dk_at dksX3_be_2 6 rfl rfl)
theorem dX3_be_53 : decode cX3_be 53 = .ok (.invokevirtual 76, 3) := dk_182 0 76 (dk_at dksX3_be_2 7 rfl rfl)
theorem dX3_be_56 : decode cX3_be 56 = .ok (.iinc 2 1, 3) := dk_132 2 1 (dk_at dksX3_be_2 10 rfl rfl)
theorem dX3_be_59 : decode cX3_be 59 = .ok (.goto (-26), 3) := dk_167 255 230 (dk_at dksX3_be_2 13 rfl rfl)
theorem dX3_be_62 : decode cX3_be 62 = .ok (.aload_n 1, 1) := dk_43 (dk_at dksX3_be_2 16 rfl rfl)
theorem dX3_be_63 : decode cX3_be 63 = .ok (.getfield 25, 3) := dk_180 0 25 (dk_at dksX3_be_2 17 rfl rfl)
theorem dX3_be_66 : decode cX3_be 66 = .ok (.iconst 0, 1) := dk_3 (dk_at dksX3_be_2 20 rfl rfl)
theorem dX3_be_67 : decode cX3_be 67 = .ok (.aload_n 0, 1) := dk_42 (dk_at dksX3_be_2 21 rfl rfl)
theorem dX3_be_68 : decode cX3_be 68 = .ok (.getfield 25, 3) := dk_180 0 25 (dk_at dksX3_be_3 0 rfl rfl)
theorem dX3_be_71 : decode cX3_be 71 = .ok (.iconst 0, 1) := dk_3 (dk_at dksX3_be_3 3 rfl rfl)
theorem dX3_be_72 : decode cX3_be 72 = .ok (.bipush 12, 2) := dk_16 12 (dk_at dksX3_be_3 4 rfl rfl)
theorem dX3_be_74 : decode cX3_be 74 = .ok (.invokestatic 79, 3) := dk_184 0 79 (dk_at dksX3_be_3 6 rfl rfl)
theorem dX3_be_77 : decode cX3_be 77 = .ok (.aload_n 1, 1) := dk_43 (dk_at dksX3_be_3 9 rfl rfl)
theorem dX3_be_78 : decode cX3_be 78 = .ok (.getfield 29, 3) := dk_180 0 29 (dk_at dksX3_be_3 10 rfl rfl)
theorem dX3_be_81 : decode cX3_be 81 = .ok (.iconst 0, 1) := dk_3 (dk_at dksX3_be_3 13 rfl rfl)
theorem dX3_be_82 : decode cX3_be 82 = .ok (.aload_n 0, 1) := dk_42 (dk_at dksX3_be_3 14 rfl rfl)
theorem dX3_be_83 : decode cX3_be 83 = .ok (.getfield 29, 3) := dk_180 0 29 (dk_at dksX3_be_3 15 rfl rfl)
theorem dX3_be_86 : decode cX3_be 86 = .ok (.iconst 0, 1) := dk_3 (dk_at dksX3_be_3 18 rfl rfl)
theorem dX3_be_87 : decode cX3_be 87 = .ok (.bipush 24, 2) := dk_16 24 (dk_at dksX3_be_3 19 rfl rfl)
theorem dX3_be_89 : decode cX3_be 89 = .ok (.invokestatic 79, 3) := dk_184 0 79 (dk_at dksX3_be_3 21 rfl rfl)
theorem dX3_be_92 : decode cX3_be 92 = .ok (.aload_n 1, 1) := dk_43 (dk_at dksX3_be_4 0 rfl rfl)
theorem dX3_be_93 : decode cX3_be 93 = .ok (.getfield 33, 3) := dk_180 0 33 (dk_at dksX3_be_4 1 rfl rfl)
theorem dX3_be_96 : decode cX3_be 96 = .ok (.iconst 0, 1) := dk_3 (dk_at dksX3_be_4 4 rfl rfl)
theorem dX3_be_97 : decode cX3_be 97 = .ok (.aload_n 0, 1) := dk_42 (dk_at dksX3_be_4 5 rfl rfl)
theorem dX3_be_98 : decode cX3_be 98 = .ok (.getfield 33, 3) := dk_180 0 33 (dk_at dksX3_be_4 6 rfl rfl)
theorem dX3_be_101 : decode cX3_be 101 = .ok (.iconst 0, 1) := dk_3 (dk_at dksX3_be_4 9 rfl rfl)
theorem dX3_be_102 : decode cX3_be 102 = .ok (.bipush 13, 2) := dk_16 13 (dk_at dksX3_be_4 10 rfl rfl)
theorem dX3_be_104 : decode cX3_be 104 = .ok (.invokestatic 79, 3) := dk_184 0 79 (dk_at dksX3_be_4 12 rfl rfl)
theorem dX3_be_107 : decode cX3_be 107 = .ok (.aload_n 1, 1) := dk_43 (dk_at dksX3_be_4 15 rfl rfl)
theorem dX3_be_108 : decode cX3_be 108 = .ok (.getfield 39, 3) := dk_180 0 39 (dk_at dksX3_be_4 16 rfl rfl)
theorem dX3_be_111 : decode cX3_be 111 = .ok (.iconst 0, 1) := dk_3 (dk_at dksX3_be_4 19 rfl rfl)
theorem dX3_be_112 : decode cX3_be 112 = .ok (.aload_n 0, 1) := dk_42 (dk_at dksX3_be_4 20 rfl rfl)
theorem dX3_be_113 : decode cX3_be 113 = .ok (.getfield 39, 3) := dk_180 0 39 (dk_at dksX3_be_4 21 rfl rfl)
theorem dX3_be_116 : decode cX3_be 116 = .ok (.iconst 0, 1) := dk_3 (dk_at dksX3_be_5 0 rfl rfl)
theorem dX3_be_117 : decode cX3_be 117 = .ok (.sipush 360, 3) := dk_17 1 104 (dk_at dksX3_be_5 1 rfl rfl)
theorem dX3_be_120 : decode cX3_be 120 = .ok (.invokestatic 79, 3) := dk_184 0 79 (dk_at dksX3_be_5 4 rfl rfl)
theorem dX3_be_123 : decode cX3_be 123 = .ok (.aload_n 0, 1) := dk_42 (dk_at dksX3_be_5 7 rfl rfl)
theorem dX3_be_124 : decode cX3_be 124 = .ok (.aload_n 1, 1) := dk_43 (dk_at dksX3_be_5 8 rfl rfl)
theorem dX3_be_125 : decode cX3_be 125 = .ok (.getfield 66, 3) := dk_180 0 66 (dk_at dksX3_be_5 9 rfl rfl)
theorem dX3_be_128 : decode cX3_be 128 = .ok (.putfield 66, 3) := dk_181 0 66 (dk_at dksX3_be_5 12 rfl rfl)
theorem dX3_be_131 : decode cX3_be 131 = .ok (.aload_n 0, 1) := dk_42 (dk_at dksX3_be_5 15 rfl rfl)
theorem dX3_be_132 : decode cX3_be 132 = .ok (.aload_n 1, 1) := dk_43 (dk_at dksX3_be_5 16 rfl rfl)
theorem dX3_be_133 : decode cX3_be 133 = .ok (.getfield 85, 3) := dk_180 0 85 (dk_at dksX3_be_5 17 rfl rfl)
theorem dX3_be_136 : decode cX3_be 136 = .ok (.putfield 85, 3) := dk_181 0 85 (dk_at dksX3_be_5 20 rfl rfl)
theorem dX3_be_139 : decode cX3_be 139 = .ok (.aload_n 0, 1) := dk_42 (dk_at dksX3_be_5 23 rfl rfl)
theorem dX3_be_140 : decode cX3_be 140 = .ok (.aload_n 1, 1) := dk_43 (dk_at dksX3_be_6 0 rfl rfl)
theorem dX3_be_141 : decode cX3_be 141 = .ok (.getfield 73, 3) := dk_180 0 73 (dk_at dksX3_be_6 1 rfl rfl)
theorem dX3_be_144 : decode cX3_be 144 = .ok (.putfield 73, 3) := dk_181 0 73 (dk_at dksX3_be_6 4 rfl rfl)
theorem dX3_be_147 : decode cX3_be 147 = .ok (.aload_n 0, 1) := dk_42 (dk_at dksX3_be_6 7 rfl rfl)
theorem dX3_be_148 : decode cX3_be 148 = .ok (.aload_n 1, 1) := dk_43 (dk_at dksX3_be_6 8 rfl rfl)
theorem dX3_be_149 : decode cX3_be 149 = .ok (.getfield 42, 3) := dk_180 0 42 (dk_at dksX3_be_6 9 rfl rfl)
theorem dX3_be_152 : decode cX3_be 152 = .ok (.putfield 42, 3) := dk_181 0 42 (dk_at dksX3_be_6 12 rfl rfl)
theorem dX3_be_155 : decode cX3_be 155 = .ok (.aload_n 0, 1) := dk_42 (dk_at dksX3_be_6 15 rfl rfl)
theorem dX3_be_156 : decode cX3_be 156 = .ok (.aload_n 1, 1) := dk_43 (dk_at dksX3_be_6 16 rfl rfl)
theorem dX3_be_157 : decode cX3_be 157 = .ok (.getfield 88, 3) := dk_180 0 88 (dk_at dksX3_be_6 17 rfl rfl)
theorem dX3_be_160 : decode cX3_be 160 = .ok (.putfield 88, 3) := dk_181 0 88 (dk_at dksX3_be_6 20 rfl rfl)
theorem dX3_be_163 : decode cX3_be 163 = .ok (.aload_n 0, 1) := dk_42 (dk_at dksX3_be_6 23 rfl rfl)
theorem dX3_be_164 : decode cX3_be 164 = .ok (.aload_n 1, 1) := dk_43 (dk_at dksX3_be_7 0 rfl rfl)
theorem dX3_be_165 : decode cX3_be 165 = .ok (.getfield 46, 3) := dk_180 0 46 (dk_at dksX3_be_7 1 rfl rfl)
theorem dX3_be_168 : decode cX3_be 168 = .ok (.putfield 46, 3) := dk_181 0 46 (dk_at dksX3_be_7 4 rfl rfl)
theorem dX3_be_171 : decode cX3_be 171 = .ok (.aload_n 0, 1) := dk_42 (dk_at dksX3_be_7 7 rfl rfl)
theorem dX3_be_172 : decode cX3_be 172 = .ok (.aload_n 1, 1) := dk_43 (dk_at dksX3_be_7 8 rfl rfl)
theorem dX3_be_173 : decode cX3_be 173 = .ok (.getfield 49, 3) := dk_180 0 49 (dk_at dksX3_be_7 9 rfl rfl)
theorem dX3_be_176 : decode cX3_be 176 = .ok (.putfield 49, 3) := dk_181 0 49 (dk_at dksX3_be_7 12 rfl rfl)
theorem dX3_be_179 : decode cX3_be 179 = .ok (.aload_n 0, 1) := dk_42 (dk_at dksX3_be_7 15 rfl rfl)
theorem dX3_be_180 : decode cX3_be 180 = .ok (.aload_n 1, 1) := dk_43 (dk_at dksX3_be_7 16 rfl rfl)
theorem dX3_be_181 : decode cX3_be 181 = .ok (.getfield 52, 3) := dk_180 0 52 (dk_at dksX3_be_7 17 rfl rfl)
theorem dX3_be_184 : decode cX3_be 184 = .ok (.putfield 52, 3) := dk_181 0 52 (dk_at dksX3_be_7 20 rfl rfl)
theorem dX3_be_187 : decode cX3_be 187 = .ok (.aload_n 0, 1) := dk_42 (dk_at dksX3_be_7 23 rfl rfl)
theorem dX3_be_188 : decode cX3_be 188 = .ok (.aload_n 1, 1) := dk_43 (dk_at dksX3_be_8 0 rfl rfl)
theorem dX3_be_189 : decode cX3_be 189 = .ok (.getfield 55, 3) := dk_180 0 55 (dk_at dksX3_be_8 1 rfl rfl)
theorem dX3_be_192 : decode cX3_be 192 = .ok (.putfield 55, 3) := dk_181 0 55 (dk_at dksX3_be_8 4 rfl rfl)
theorem dX3_be_195 : decode cX3_be 195 = .ok (.aload_n 0, 1) := dk_42 (dk_at dksX3_be_8 7 rfl rfl)
theorem dX3_be_196 : decode cX3_be 196 = .ok (.aload_n 1, 1) := dk_43 (dk_at dksX3_be_8 8 rfl rfl)
theorem dX3_be_197 : decode cX3_be 197 = .ok (.getfield 58, 3) := dk_180 0 58 (dk_at dksX3_be_8 9 rfl rfl)
theorem dX3_be_200 : decode cX3_be 200 = .ok (.putfield 58, 3) := dk_181 0 58 (dk_at dksX3_be_8 12 rfl rfl)
theorem dX3_be_203 : decode cX3_be 203 = .ok (.aload_n 0, 1) := dk_42 (dk_at dksX3_be_8 15 rfl rfl)
theorem dX3_be_204 : decode cX3_be 204 = .ok (.aload_n 1, 1) := dk_43 (dk_at dksX3_be_8 16 rfl rfl)
theorem dX3_be_205 : decode cX3_be 205 = .ok (.getfield 91, 3) := dk_180 0 91 (dk_at dksX3_be_8 17 rfl rfl)
theorem dX3_be_208 : decode cX3_be 208 = .ok (.putfield 91, 3) := dk_181 0 91 (dk_at dksX3_be_8 20 rfl rfl)
theorem dX3_be_211 : decode cX3_be 211 = .ok (.aload_n 0, 1) := dk_42 (dk_at dksX3_be_8 23 rfl rfl)
theorem dX3_be_212 : decode cX3_be 212 = .ok (.aload_n 1, 1) := dk_43 (dk_at dksX3_be_9 0 rfl rfl)
theorem dX3_be_213 : decode cX3_be 213 = .ok (.getfield 61, 3) := dk_180 0 61 (dk_at dksX3_be_9 1 rfl rfl)
theorem dX3_be_216 : decode cX3_be 216 = .ok (.putfield 61, 3) := dk_181 0 61 (dk_at dksX3_be_9 4 rfl rfl)
theorem dX3_be_219 : decode cX3_be 219 = .ok (.aload_n 0, 1) := dk_42 (dk_at dksX3_be_9 7 rfl rfl)
theorem dX3_be_220 : decode cX3_be 220 = .ok (.aload_n 1, 1) := dk_43 (dk_at dksX3_be_9 8 rfl rfl)
theorem dX3_be_221 : decode cX3_be 221 = .ok (.getfield 94, 3) := dk_180 0 94 (dk_at dksX3_be_9 9 rfl rfl)
theorem dX3_be_224 : decode cX3_be 224 = .ok (.putfield 94, 3) := dk_181 0 94 (dk_at dksX3_be_9 12 rfl rfl)
theorem dX3_be_227 : decode cX3_be 227 = .ok (.return_, 1) := dk_177 (dk_at dksX3_be_9 15 rfl rfl)
abbrev cX3_choices : ByteArray := prog_12_method_9_code
def yX3_choices : MethodName := ⟨RX3, "choices", "(IZ)I"⟩
def dkwX3_choices_3 : List UInt8 := [172]
abbrev dktX3_choices_3 : List UInt8 := dkwX3_choices_3 ++ []
def dkwX3_choices_2 : List UInt8 := [4, 21, 5, 120, 167, 0, 4, 3, 128, 54, 4, 132, 5, 1, 167, 255, 207, 21, 4, 45, 180, 0, 137, 126]
abbrev dktX3_choices_2 : List UInt8 := dkwX3_choices_2 ++ dktX3_choices_3
def dkwX3_choices_1 : List UInt8 := [42, 28, 153, 0, 10, 45, 180, 0, 128, 167, 0, 7, 45, 180, 0, 131, 21, 5, 182, 0, 134, 158, 0, 10]
abbrev dktX3_choices_1 : List UInt8 := dkwX3_choices_1 ++ dktX3_choices_2
def dkwX3_choices_0 : List UInt8 := [42, 180, 0, 19, 27, 50, 78, 3, 54, 4, 3, 54, 5, 21, 5, 42, 180, 0, 66, 162, 0, 46, 21, 4]
abbrev dktX3_choices_0 : List UInt8 := dkwX3_choices_0 ++ dktX3_choices_1
theorem dksX3_choices_0 : cX3_choices.data.toList.drop 0 = dktX3_choices_0 := by decide +kernel
theorem dksX3_choices_1 : cX3_choices.data.toList.drop 24 = dktX3_choices_1 := dk_seg dksX3_choices_0 24 rfl rfl
theorem dksX3_choices_2 : cX3_choices.data.toList.drop 48 = dktX3_choices_2 := dk_seg dksX3_choices_1 24 rfl rfl
theorem dksX3_choices_3 : cX3_choices.data.toList.drop 72 = dktX3_choices_3 := dk_seg dksX3_choices_2 24 rfl rfl
theorem dX3_choices_0 : decode cX3_choices 0 = .ok (.aload_n 0, 1) := dk_42 (dk_at dksX3_choices_0 0 rfl rfl)
theorem dX3_choices_1 : decode cX3_choices 1 = .ok (.getfield 19, 3) := dk_180 0 19 (dk_at dksX3_choices_0 1 rfl rfl)
theorem dX3_choices_4 : decode cX3_choices 4 = .ok (.iload_n 1, 1) := dk_27 (dk_at dksX3_choices_0 4 rfl rfl)
theorem dX3_choices_5 : decode cX3_choices 5 = .ok (.aaload, 1) := dk_50 (dk_at dksX3_choices_0 5 rfl rfl)
theorem dX3_choices_6 : decode cX3_choices 6 = .ok (.astore_n 3, 1) := dk_78 (dk_at dksX3_choices_0 6 rfl rfl)
theorem dX3_choices_7 : decode cX3_choices 7 = .ok (.iconst 0, 1) := dk_3 (dk_at dksX3_choices_0 7 rfl rfl)
theorem dX3_choices_8 : decode cX3_choices 8 = .ok (.istore 4, 2) := dk_54 4 (dk_at dksX3_choices_0 8 rfl rfl)
theorem dX3_choices_10 : decode cX3_choices 10 = .ok (.iconst 0, 1) := dk_3 (dk_at dksX3_choices_0 10 rfl rfl)
theorem dX3_choices_11 : decode cX3_choices 11 = .ok (.istore 5, 2) := dk_54 5 (dk_at dksX3_choices_0 11 rfl rfl)
theorem dX3_choices_13 : decode cX3_choices 13 = .ok (.iload 5, 2) := dk_21 5 (dk_at dksX3_choices_0 13 rfl rfl)
theorem dX3_choices_15 : decode cX3_choices 15 = .ok (.aload_n 0, 1) := dk_42 (dk_at dksX3_choices_0 15 rfl rfl)
theorem dX3_choices_16 : decode cX3_choices 16 = .ok (.getfield 66, 3) := dk_180 0 66 (dk_at dksX3_choices_0 16 rfl rfl)
theorem dX3_choices_19 : decode cX3_choices 19 = .ok (.if_icmp .ge 46, 3) := dk_162 0 46 (dk_at dksX3_choices_0 19 rfl rfl)
theorem dX3_choices_22 : decode cX3_choices 22 = .ok (.iload 4, 2) := dk_21 4 (dk_at dksX3_choices_0 22 rfl rfl)
theorem dX3_choices_24 : decode cX3_choices 24 = .ok (.aload_n 0, 1) := dk_42 (dk_at dksX3_choices_1 0 rfl rfl)
theorem dX3_choices_25 : decode cX3_choices 25 = .ok (.iload_n 2, 1) := dk_28 (dk_at dksX3_choices_1 1 rfl rfl)
theorem dX3_choices_26 : decode cX3_choices 26 = .ok (.ifCond .eq 10, 3) := dk_153 0 10 (dk_at dksX3_choices_1 2 rfl rfl)
theorem dX3_choices_29 : decode cX3_choices 29 = .ok (.aload_n 3, 1) := dk_45 (dk_at dksX3_choices_1 5 rfl rfl)
theorem dX3_choices_30 : decode cX3_choices 30 = .ok (.getfield 128, 3) := dk_180 0 128 (dk_at dksX3_choices_1 6 rfl rfl)
theorem dX3_choices_33 : decode cX3_choices 33 = .ok (.goto 7, 3) := dk_167 0 7 (dk_at dksX3_choices_1 9 rfl rfl)
theorem dX3_choices_36 : decode cX3_choices 36 = .ok (.aload_n 3, 1) := dk_45 (dk_at dksX3_choices_1 12 rfl rfl)
theorem dX3_choices_37 : decode cX3_choices 37 = .ok (.getfield 131, 3) := dk_180 0 131 (dk_at dksX3_choices_1 13 rfl rfl)
theorem dX3_choices_40 : decode cX3_choices 40 = .ok (.iload 5, 2) := dk_21 5 (dk_at dksX3_choices_1 16 rfl rfl)
theorem dX3_choices_42 : decode cX3_choices 42 = .ok (.invokevirtual 134, 3) := dk_182 0 134 (dk_at dksX3_choices_1 18 rfl rfl)
theorem dX3_choices_45 : decode cX3_choices 45 = .ok (.ifCond .le 10, 3) := dk_158 0 10 (dk_at dksX3_choices_1 21 rfl rfl)
theorem dX3_choices_48 : decode cX3_choices 48 = .ok (.iconst 1, 1) := dk_4 (dk_at dksX3_choices_2 0 rfl rfl)
theorem dX3_choices_49 : decode cX3_choices 49 = .ok (.iload 5, 2) := dk_21 5 (dk_at dksX3_choices_2 1 rfl rfl)
theorem dX3_choices_51 : decode cX3_choices 51 = .ok (.ishl, 1) := dk_120 (dk_at dksX3_choices_2 3 rfl rfl)
theorem dX3_choices_52 : decode cX3_choices 52 = .ok (.goto 4, 3) := dk_167 0 4 (dk_at dksX3_choices_2 4 rfl rfl)
theorem dX3_choices_55 : decode cX3_choices 55 = .ok (.iconst 0, 1) := dk_3 (dk_at dksX3_choices_2 7 rfl rfl)
theorem dX3_choices_56 : decode cX3_choices 56 = .ok (.ior, 1) := dk_128 (dk_at dksX3_choices_2 8 rfl rfl)
theorem dX3_choices_57 : decode cX3_choices 57 = .ok (.istore 4, 2) := dk_54 4 (dk_at dksX3_choices_2 9 rfl rfl)
theorem dX3_choices_59 : decode cX3_choices 59 = .ok (.iinc 5 1, 3) := dk_132 5 1 (dk_at dksX3_choices_2 11 rfl rfl)
theorem dX3_choices_62 : decode cX3_choices 62 = .ok (.goto (-49), 3) := dk_167 255 207 (dk_at dksX3_choices_2 14 rfl rfl)
theorem dX3_choices_65 : decode cX3_choices 65 = .ok (.iload 4, 2) := dk_21 4 (dk_at dksX3_choices_2 17 rfl rfl)
theorem dX3_choices_67 : decode cX3_choices 67 = .ok (.aload_n 3, 1) := dk_45 (dk_at dksX3_choices_2 19 rfl rfl)
theorem dX3_choices_68 : decode cX3_choices 68 = .ok (.getfield 137, 3) := dk_180 0 137 (dk_at dksX3_choices_2 20 rfl rfl)
theorem dX3_choices_71 : decode cX3_choices 71 = .ok (.iand, 1) := dk_126 (dk_at dksX3_choices_2 23 rfl rfl)
theorem dX3_choices_72 : decode cX3_choices 72 = .ok (.ireturn, 1) := dk_172 (dk_at dksX3_choices_3 0 rfl rfl)
abbrev cX3_draw : ByteArray := prog_12_method_3_code
def yX3_draw : MethodName := ⟨RX3, "draw", "(I)I"⟩
def dkwX3_draw_1 : List UInt8 := [17, 127, 255, 126, 27, 112, 172]
abbrev dktX3_draw_1 : List UInt8 := dkwX3_draw_1 ++ []
def dkwX3_draw_0 : List UInt8 := [42, 18, 97, 42, 180, 0, 61, 104, 17, 48, 57, 96, 181, 0, 61, 42, 180, 0, 61, 16, 16, 124]
abbrev dktX3_draw_0 : List UInt8 := dkwX3_draw_0 ++ dktX3_draw_1
theorem dksX3_draw_0 : cX3_draw.data.toList.drop 0 = dktX3_draw_0 := by decide +kernel
theorem dksX3_draw_1 : cX3_draw.data.toList.drop 22 = dktX3_draw_1 := dk_seg dksX3_draw_0 22 rfl rfl
theorem dX3_draw_0 : decode cX3_draw 0 = .ok (.aload_n 0, 1) := dk_42 (dk_at dksX3_draw_0 0 rfl rfl)
theorem dX3_draw_1 : decode cX3_draw 1 = .ok (.ldc 97, 2) := dk_18 97 (dk_at dksX3_draw_0 1 rfl rfl)
theorem dX3_draw_3 : decode cX3_draw 3 = .ok (.aload_n 0, 1) := dk_42 (dk_at dksX3_draw_0 3 rfl rfl)
theorem dX3_draw_4 : decode cX3_draw 4 = .ok (.getfield 61, 3) := dk_180 0 61 (dk_at dksX3_draw_0 4 rfl rfl)
theorem dX3_draw_7 : decode cX3_draw 7 = .ok (.imul, 1) := dk_104 (dk_at dksX3_draw_0 7 rfl rfl)
theorem dX3_draw_8 : decode cX3_draw 8 = .ok (.sipush 12345, 3) := dk_17 48 57 (dk_at dksX3_draw_0 8 rfl rfl)
theorem dX3_draw_11 : decode cX3_draw 11 = .ok (.iadd, 1) := dk_96 (dk_at dksX3_draw_0 11 rfl rfl)
theorem dX3_draw_12 : decode cX3_draw 12 = .ok (.putfield 61, 3) := dk_181 0 61 (dk_at dksX3_draw_0 12 rfl rfl)
theorem dX3_draw_15 : decode cX3_draw 15 = .ok (.aload_n 0, 1) := dk_42 (dk_at dksX3_draw_0 15 rfl rfl)
theorem dX3_draw_16 : decode cX3_draw 16 = .ok (.getfield 61, 3) := dk_180 0 61 (dk_at dksX3_draw_0 16 rfl rfl)
theorem dX3_draw_19 : decode cX3_draw 19 = .ok (.bipush 16, 2) := dk_16 16 (dk_at dksX3_draw_0 19 rfl rfl)
theorem dX3_draw_21 : decode cX3_draw 21 = .ok (.iushr, 1) := dk_124 (dk_at dksX3_draw_0 21 rfl rfl)
theorem dX3_draw_22 : decode cX3_draw 22 = .ok (.sipush 32767, 3) := dk_17 127 255 (dk_at dksX3_draw_1 0 rfl rfl)
theorem dX3_draw_25 : decode cX3_draw 25 = .ok (.iand, 1) := dk_126 (dk_at dksX3_draw_1 3 rfl rfl)
theorem dX3_draw_26 : decode cX3_draw 26 = .ok (.iload_n 1, 1) := dk_27 (dk_at dksX3_draw_1 4 rfl rfl)
theorem dX3_draw_27 : decode cX3_draw 27 = .ok (.irem, 1) := dk_112 (dk_at dksX3_draw_1 5 rfl rfl)
theorem dX3_draw_28 : decode cX3_draw 28 = .ok (.ireturn, 1) := dk_172 (dk_at dksX3_draw_1 6 rfl rfl)
abbrev cX3_writes : ByteArray := prog_12_method_10_code
def yX3_writes : MethodName := ⟨RX3, "writes", "(IIIII)V"⟩
def dkwX3_writes_3 : List UInt8 := [96, 21, 5, 79, 42, 89, 180, 0, 94, 4, 96, 181, 0, 94, 177]
abbrev dktX3_writes_3 : List UInt8 := dkwX3_writes_3 ++ []
def dkwX3_writes_2 : List UInt8 := [21, 6, 6, 96, 29, 79, 42, 180, 0, 39, 21, 6, 7, 96, 21, 4, 79, 42, 180, 0, 39, 21, 6, 8]
abbrev dktX3_writes_2 : List UInt8 := dkwX3_writes_2 ++ dktX3_writes_3
def dkwX3_writes_1 : List UInt8 := [180, 0, 39, 21, 6, 4, 96, 27, 79, 42, 180, 0, 39, 21, 6, 5, 96, 28, 79, 42, 180, 0, 39]
abbrev dktX3_writes_1 : List UInt8 := dkwX3_writes_1 ++ dktX3_writes_2
def dkwX3_writes_0 : List UInt8 := [42, 180, 0, 94, 16, 60, 112, 16, 6, 104, 54, 6, 42, 180, 0, 39, 21, 6, 42, 180, 0, 91, 79, 42]
abbrev dktX3_writes_0 : List UInt8 := dkwX3_writes_0 ++ dktX3_writes_1
theorem dksX3_writes_0 : cX3_writes.data.toList.drop 0 = dktX3_writes_0 := by decide +kernel
theorem dksX3_writes_1 : cX3_writes.data.toList.drop 24 = dktX3_writes_1 := dk_seg dksX3_writes_0 24 rfl rfl
theorem dksX3_writes_2 : cX3_writes.data.toList.drop 47 = dktX3_writes_2 := dk_seg dksX3_writes_1 23 rfl rfl
theorem dksX3_writes_3 : cX3_writes.data.toList.drop 71 = dktX3_writes_3 := dk_seg dksX3_writes_2 24 rfl rfl
theorem dX3_writes_0 : decode cX3_writes 0 = .ok (.aload_n 0, 1) := dk_42 (dk_at dksX3_writes_0 0 rfl rfl)
theorem dX3_writes_1 : decode cX3_writes 1 = .ok (.getfield 94, 3) := dk_180 0 94 (dk_at dksX3_writes_0 1 rfl rfl)
theorem dX3_writes_4 : decode cX3_writes 4 = .ok (.bipush 60, 2) := dk_16 60 (dk_at dksX3_writes_0 4 rfl rfl)
theorem dX3_writes_6 : decode cX3_writes 6 = .ok (.irem, 1) := dk_112 (dk_at dksX3_writes_0 6 rfl rfl)
theorem dX3_writes_7 : decode cX3_writes 7 = .ok (.bipush 6, 2) := dk_16 6 (dk_at dksX3_writes_0 7 rfl rfl)
theorem dX3_writes_9 : decode cX3_writes 9 = .ok (.imul, 1) := dk_104 (dk_at dksX3_writes_0 9 rfl rfl)
theorem dX3_writes_10 : decode cX3_writes 10 = .ok (.istore 6, 2) := dk_54 6 (dk_at dksX3_writes_0 10 rfl rfl)
theorem dX3_writes_12 : decode cX3_writes 12 = .ok (.aload_n 0, 1) := dk_42 (dk_at dksX3_writes_0 12 rfl rfl)
theorem dX3_writes_13 : decode cX3_writes 13 = .ok (.getfield 39, 3) := dk_180 0 39 (dk_at dksX3_writes_0 13 rfl rfl)
theorem dX3_writes_16 : decode cX3_writes 16 = .ok (.iload 6, 2) := dk_21 6 (dk_at dksX3_writes_0 16 rfl rfl)
theorem dX3_writes_18 : decode cX3_writes 18 = .ok (.aload_n 0, 1) := dk_42 (dk_at dksX3_writes_0 18 rfl rfl)
theorem dX3_writes_19 : decode cX3_writes 19 = .ok (.getfield 91, 3) := dk_180 0 91 (dk_at dksX3_writes_0 19 rfl rfl)
theorem dX3_writes_22 : decode cX3_writes 22 = .ok (.iastore, 1) := dk_79 (dk_at dksX3_writes_0 22 rfl rfl)
theorem dX3_writes_23 : decode cX3_writes 23 = .ok (.aload_n 0, 1) := dk_42 (dk_at dksX3_writes_0 23 rfl rfl)
theorem dX3_writes_24 : decode cX3_writes 24 = .ok (.getfield 39, 3) := dk_180 0 39 (dk_at dksX3_writes_1 0 rfl rfl)
theorem dX3_writes_27 : decode cX3_writes 27 = .ok (.iload 6, 2) := dk_21 6 (dk_at dksX3_writes_1 3 rfl rfl)
theorem dX3_writes_29 : decode cX3_writes 29 = .ok (.iconst 1, 1) := dk_4 (dk_at dksX3_writes_1 5 rfl rfl)
theorem dX3_writes_30 : decode cX3_writes 30 = .ok (.iadd, 1) := dk_96 (dk_at dksX3_writes_1 6 rfl rfl)
theorem dX3_writes_31 : decode cX3_writes 31 = .ok (.iload_n 1, 1) := dk_27 (dk_at dksX3_writes_1 7 rfl rfl)
theorem dX3_writes_32 : decode cX3_writes 32 = .ok (.iastore, 1) := dk_79 (dk_at dksX3_writes_1 8 rfl rfl)
theorem dX3_writes_33 : decode cX3_writes 33 = .ok (.aload_n 0, 1) := dk_42 (dk_at dksX3_writes_1 9 rfl rfl)
theorem dX3_writes_34 : decode cX3_writes 34 = .ok (.getfield 39, 3) := dk_180 0 39 (dk_at dksX3_writes_1 10 rfl rfl)
theorem dX3_writes_37 : decode cX3_writes 37 = .ok (.iload 6, 2) := dk_21 6 (dk_at dksX3_writes_1 13 rfl rfl)
theorem dX3_writes_39 : decode cX3_writes 39 = .ok (.iconst 2, 1) := dk_5 (dk_at dksX3_writes_1 15 rfl rfl)
theorem dX3_writes_40 : decode cX3_writes 40 = .ok (.iadd, 1) := dk_96 (dk_at dksX3_writes_1 16 rfl rfl)
theorem dX3_writes_41 : decode cX3_writes 41 = .ok (.iload_n 2, 1) := dk_28 (dk_at dksX3_writes_1 17 rfl rfl)
theorem dX3_writes_42 : decode cX3_writes 42 = .ok (.iastore, 1) := dk_79 (dk_at dksX3_writes_1 18 rfl rfl)
theorem dX3_writes_43 : decode cX3_writes 43 = .ok (.aload_n 0, 1) := dk_42 (dk_at dksX3_writes_1 19 rfl rfl)
theorem dX3_writes_44 : decode cX3_writes 44 = .ok (.getfield 39, 3) := dk_180 0 39 (dk_at dksX3_writes_1 20 rfl rfl)
theorem dX3_writes_47 : decode cX3_writes 47 = .ok (.iload 6, 2) := dk_21 6 (dk_at dksX3_writes_2 0 rfl rfl)
theorem dX3_writes_49 : decode cX3_writes 49 = .ok (.iconst 3, 1) := dk_6 (dk_at dksX3_writes_2 2 rfl rfl)
theorem dX3_writes_50 : decode cX3_writes 50 = .ok (.iadd, 1) := dk_96 (dk_at dksX3_writes_2 3 rfl rfl)
theorem dX3_writes_51 : decode cX3_writes 51 = .ok (.iload_n 3, 1) := dk_29 (dk_at dksX3_writes_2 4 rfl rfl)
theorem dX3_writes_52 : decode cX3_writes 52 = .ok (.iastore, 1) := dk_79 (dk_at dksX3_writes_2 5 rfl rfl)
theorem dX3_writes_53 : decode cX3_writes 53 = .ok (.aload_n 0, 1) := dk_42 (dk_at dksX3_writes_2 6 rfl rfl)
theorem dX3_writes_54 : decode cX3_writes 54 = .ok (.getfield 39, 3) := dk_180 0 39 (dk_at dksX3_writes_2 7 rfl rfl)
theorem dX3_writes_57 : decode cX3_writes 57 = .ok (.iload 6, 2) := dk_21 6 (dk_at dksX3_writes_2 10 rfl rfl)
theorem dX3_writes_59 : decode cX3_writes 59 = .ok (.iconst 4, 1) := dk_7 (dk_at dksX3_writes_2 12 rfl rfl)
theorem dX3_writes_60 : decode cX3_writes 60 = .ok (.iadd, 1) := dk_96 (dk_at dksX3_writes_2 13 rfl rfl)
theorem dX3_writes_61 : decode cX3_writes 61 = .ok (.iload 4, 2) := dk_21 4 (dk_at dksX3_writes_2 14 rfl rfl)
theorem dX3_writes_63 : decode cX3_writes 63 = .ok (.iastore, 1) := dk_79 (dk_at dksX3_writes_2 16 rfl rfl)
theorem dX3_writes_64 : decode cX3_writes 64 = .ok (.aload_n 0, 1) := dk_42 (dk_at dksX3_writes_2 17 rfl rfl)
theorem dX3_writes_65 : decode cX3_writes 65 = .ok (.getfield 39, 3) := dk_180 0 39 (dk_at dksX3_writes_2 18 rfl rfl)
theorem dX3_writes_68 : decode cX3_writes 68 = .ok (.iload 6, 2) := dk_21 6 (dk_at dksX3_writes_2 21 rfl rfl)
theorem dX3_writes_70 : decode cX3_writes 70 = .ok (.iconst 5, 1) := dk_8 (dk_at dksX3_writes_2 23 rfl rfl)
theorem dX3_writes_71 : decode cX3_writes 71 = .ok (.iadd, 1) := dk_96 (dk_at dksX3_writes_3 0 rfl rfl)
theorem dX3_writes_72 : decode cX3_writes 72 = .ok (.iload 5, 2) := dk_21 5 (dk_at dksX3_writes_3 1 rfl rfl)
theorem dX3_writes_74 : decode cX3_writes 74 = .ok (.iastore, 1) := dk_79 (dk_at dksX3_writes_3 3 rfl rfl)
theorem dX3_writes_75 : decode cX3_writes 75 = .ok (.aload_n 0, 1) := dk_42 (dk_at dksX3_writes_3 4 rfl rfl)
theorem dX3_writes_76 : decode cX3_writes 76 = .ok (.dup, 1) := dk_89 (dk_at dksX3_writes_3 5 rfl rfl)
theorem dX3_writes_77 : decode cX3_writes 77 = .ok (.getfield 94, 3) := dk_180 0 94 (dk_at dksX3_writes_3 6 rfl rfl)
theorem dX3_writes_80 : decode cX3_writes 80 = .ok (.iconst 1, 1) := dk_4 (dk_at dksX3_writes_3 9 rfl rfl)
theorem dX3_writes_81 : decode cX3_writes 81 = .ok (.iadd, 1) := dk_96 (dk_at dksX3_writes_3 10 rfl rfl)
theorem dX3_writes_82 : decode cX3_writes 82 = .ok (.putfield 94, 3) := dk_181 0 94 (dk_at dksX3_writes_3 11 rfl rfl)
theorem dX3_writes_85 : decode cX3_writes 85 = .ok (.return_, 1) := dk_177 (dk_at dksX3_writes_3 14 rfl rfl)
abbrev cX3_isKept : ByteArray := prog_12_method_11_code
def yX3_isKept : MethodName := ⟨RX3, "isKept", "(I)Z"⟩
def dkwX3_isKept_0 : List UInt8 := [27, 155, 0, 20, 27, 16, 60, 42, 180, 0, 94, 184, 0, 116, 162, 0, 7, 4, 167, 0, 4, 3, 172]
abbrev dktX3_isKept_0 : List UInt8 := dkwX3_isKept_0 ++ []
theorem dksX3_isKept_0 : cX3_isKept.data.toList.drop 0 = dktX3_isKept_0 := by decide +kernel
theorem dX3_isKept_0 : decode cX3_isKept 0 = .ok (.iload_n 1, 1) := dk_27 (dk_at dksX3_isKept_0 0 rfl rfl)
theorem dX3_isKept_1 : decode cX3_isKept 1 = .ok (.ifCond .lt 20, 3) := dk_155 0 20 (dk_at dksX3_isKept_0 1 rfl rfl)
theorem dX3_isKept_4 : decode cX3_isKept 4 = .ok (.iload_n 1, 1) := dk_27 (dk_at dksX3_isKept_0 4 rfl rfl)
theorem dX3_isKept_5 : decode cX3_isKept 5 = .ok (.bipush 60, 2) := dk_16 60 (dk_at dksX3_isKept_0 5 rfl rfl)
theorem dX3_isKept_7 : decode cX3_isKept 7 = .ok (.aload_n 0, 1) := dk_42 (dk_at dksX3_isKept_0 7 rfl rfl)
theorem dX3_isKept_8 : decode cX3_isKept 8 = .ok (.getfield 94, 3) := dk_180 0 94 (dk_at dksX3_isKept_0 8 rfl rfl)
theorem dX3_isKept_11 : decode cX3_isKept 11 = .ok (.invokestatic 116, 3) := dk_184 0 116 (dk_at dksX3_isKept_0 11 rfl rfl)
theorem dX3_isKept_14 : decode cX3_isKept 14 = .ok (.if_icmp .ge 7, 3) := dk_162 0 7 (dk_at dksX3_isKept_0 14 rfl rfl)
theorem dX3_isKept_17 : decode cX3_isKept 17 = .ok (.iconst 1, 1) := dk_4 (dk_at dksX3_isKept_0 17 rfl rfl)
theorem dX3_isKept_18 : decode cX3_isKept 18 = .ok (.goto 4, 3) := dk_167 0 4 (dk_at dksX3_isKept_0 18 rfl rfl)
theorem dX3_isKept_21 : decode cX3_isKept 21 = .ok (.iconst 0, 1) := dk_3 (dk_at dksX3_isKept_0 21 rfl rfl)
theorem dX3_isKept_22 : decode cX3_isKept 22 = .ok (.ireturn, 1) := dk_172 (dk_at dksX3_isKept_0 22 rfl rfl)
abbrev cX3_row : ByteArray := prog_12_method_12_code
def yX3_row : MethodName := ⟨RX3, "row", "(II)I"⟩
def dkwX3_row_1 : List UInt8 := [16, 6, 104, 28, 96, 46, 167, 0, 4, 2, 172]
abbrev dktX3_row_1 : List UInt8 := dkwX3_row_1 ++ []
def dkwX3_row_0 : List UInt8 := [42, 27, 182, 0, 140, 153, 0, 27, 42, 180, 0, 39, 42, 180, 0, 94, 4, 100, 27, 100, 16, 60, 112]
abbrev dktX3_row_0 : List UInt8 := dkwX3_row_0 ++ dktX3_row_1
theorem dksX3_row_0 : cX3_row.data.toList.drop 0 = dktX3_row_0 := by decide +kernel
theorem dksX3_row_1 : cX3_row.data.toList.drop 23 = dktX3_row_1 := dk_seg dksX3_row_0 23 rfl rfl
theorem dX3_row_0 : decode cX3_row 0 = .ok (.aload_n 0, 1) := dk_42 (dk_at dksX3_row_0 0 rfl rfl)
theorem dX3_row_1 : decode cX3_row 1 = .ok (.iload_n 1, 1) := dk_27 (dk_at dksX3_row_0 1 rfl rfl)
theorem dX3_row_2 : decode cX3_row 2 = .ok (.invokevirtual 140, 3) := dk_182 0 140 (dk_at dksX3_row_0 2 rfl rfl)
theorem dX3_row_5 : decode cX3_row 5 = .ok (.ifCond .eq 27, 3) := dk_153 0 27 (dk_at dksX3_row_0 5 rfl rfl)
theorem dX3_row_8 : decode cX3_row 8 = .ok (.aload_n 0, 1) := dk_42 (dk_at dksX3_row_0 8 rfl rfl)
theorem dX3_row_9 : decode cX3_row 9 = .ok (.getfield 39, 3) := dk_180 0 39 (dk_at dksX3_row_0 9 rfl rfl)
theorem dX3_row_12 : decode cX3_row 12 = .ok (.aload_n 0, 1) := dk_42 (dk_at dksX3_row_0 12 rfl rfl)
theorem dX3_row_13 : decode cX3_row 13 = .ok (.getfield 94, 3) := dk_180 0 94 (dk_at dksX3_row_0 13 rfl rfl)
theorem dX3_row_16 : decode cX3_row 16 = .ok (.iconst 1, 1) := dk_4 (dk_at dksX3_row_0 16 rfl rfl)
theorem dX3_row_17 : decode cX3_row 17 = .ok (.isub, 1) := dk_100 (dk_at dksX3_row_0 17 rfl rfl)
theorem dX3_row_18 : decode cX3_row 18 = .ok (.iload_n 1, 1) := dk_27 (dk_at dksX3_row_0 18 rfl rfl)
theorem dX3_row_19 : decode cX3_row 19 = .ok (.isub, 1) := dk_100 (dk_at dksX3_row_0 19 rfl rfl)
theorem dX3_row_20 : decode cX3_row 20 = .ok (.bipush 60, 2) := dk_16 60 (dk_at dksX3_row_0 20 rfl rfl)
theorem dX3_row_22 : decode cX3_row 22 = .ok (.irem, 1) := dk_112 (dk_at dksX3_row_0 22 rfl rfl)
theorem dX3_row_23 : decode cX3_row 23 = .ok (.bipush 6, 2) := dk_16 6 (dk_at dksX3_row_1 0 rfl rfl)
theorem dX3_row_25 : decode cX3_row 25 = .ok (.imul, 1) := dk_104 (dk_at dksX3_row_1 2 rfl rfl)
theorem dX3_row_26 : decode cX3_row 26 = .ok (.iload_n 2, 1) := dk_28 (dk_at dksX3_row_1 3 rfl rfl)
theorem dX3_row_27 : decode cX3_row 27 = .ok (.iadd, 1) := dk_96 (dk_at dksX3_row_1 4 rfl rfl)
theorem dX3_row_28 : decode cX3_row 28 = .ok (.iaload, 1) := dk_46 (dk_at dksX3_row_1 5 rfl rfl)
theorem dX3_row_29 : decode cX3_row 29 = .ok (.goto 4, 3) := dk_167 0 4 (dk_at dksX3_row_1 6 rfl rfl)
theorem dX3_row_32 : decode cX3_row 32 = .ok (.iconst (-1), 1) := dk_2 (dk_at dksX3_row_1 9 rfl rfl)
theorem dX3_row_33 : decode cX3_row 33 = .ok (.ireturn, 1) := dk_172 (dk_at dksX3_row_1 10 rfl rfl)
theorem q128 : (Jvm.Cond.initialized "FeatherYard$State") ∈ lw_all := lw_g (lw_at lw_m1 3 rfl) rfl
theorem q185 : (Jvm.Cond.instantiable "FeatherYard$State" (20 : Nat)) ∈ lw_all := lw_g (lw_at lw_m1 60 rfl) rfl
theorem q187 : (Jvm.Cond.instanceMethod ({ cls := "FeatherYard$State", name := "<init>", desc := "()V" } : Jvm.MethodName)) ∈ lw_all := lw_g (lw_at lw_m1 62 rfl) rfl
theorem q188 : (Jvm.Cond.code ({ cls := "FeatherYard$State", name := "<init>", desc := "()V" } : Jvm.MethodName) prog_12_method_1_code (2 : Nat) (Option.none : Option Jvm.ClassFile.FieldType)) ∈ lw_all := lw_g (lw_at lw_m1 63 rfl) rfl
theorem q189 : (Jvm.Cond.methodLink "FeatherYard$State" (3 : Nat) ({ cls := "java/lang/Object", name := "<init>", desc := "()V" } : Jvm.MethodName)) ∈ lw_all := lw_g (lw_at lw_m1 64 rfl) rfl
theorem q190 : (Jvm.Cond.classLink "FeatherYard$State" (9 : Nat) "FeatherYard$Bird") ∈ lw_all := lw_g (lw_at lw_m1 65 rfl) rfl
theorem q192 : (Jvm.Cond.classLink "FeatherYard$State" (17 : Nat) "FeatherYard$Case") ∈ lw_all := lw_g (lw_at lw_m1 67 rfl) rfl
theorem q194 : (Jvm.Cond.classLink "FeatherYard$State" (23 : Nat) "FeatherYard$Line") ∈ lw_all := lw_g (lw_at lw_m1 69 rfl) rfl
theorem q196 : (Jvm.Cond.methodLinkNest "FeatherYard$State" (64 : Nat) ({ cls := "FeatherYard$Bird", name := "<init>", desc := "()V" } : Jvm.MethodName) "FeatherYard") ∈ lw_tbl := lw_at lw_m1 71 rfl
theorem q201 : (Jvm.Cond.fieldLinkNest "FeatherYard$State" (109 : Nat) "FeatherYard$Bird" "falls" "I" "FeatherYard") ∈ lw_tbl := lw_at lw_m1 76 rfl
theorem q206 : (Jvm.Cond.fieldLinkNest "FeatherYard$State" (98 : Nat) "FeatherYard$Bird" "light" "I" "FeatherYard") ∈ lw_tbl := lw_at lw_m1 81 rfl
theorem q227 : (Jvm.Cond.methodLinkNest "FeatherYard$State" (65 : Nat) ({ cls := "FeatherYard$Case", name := "<init>", desc := "()V" } : Jvm.MethodName) "FeatherYard") ∈ lw_tbl := lw_at lw_m1 102 rfl
theorem q232 : (Jvm.Cond.fieldLinkNest "FeatherYard$State" (131 : Nat) "FeatherYard$Case" "one" "I" "FeatherYard") ∈ lw_tbl := lw_at lw_m1 107 rfl
theorem q236 : (Jvm.Cond.fieldLinkNest "FeatherYard$State" (128 : Nat) "FeatherYard$Case" "other" "I" "FeatherYard") ∈ lw_tbl := lw_at lw_m1 111 rfl
theorem q240 : (Jvm.Cond.fieldLinkNest "FeatherYard$State" (137 : Nat) "FeatherYard$Case" "present" "I" "FeatherYard") ∈ lw_tbl := lw_at lw_m1 115 rfl
theorem q255 : (Jvm.Cond.fieldLink "FeatherYard$State" (11 : Nat) "FeatherYard$State" "birds" "[LFeatherYard$Bird;") ∈ lw_all := lw_g (lw_at lw_m1 130 rfl) rfl
theorem q259 : (Jvm.Cond.fieldLink "FeatherYard$State" (19 : Nat) "FeatherYard$State" "cases" "[LFeatherYard$Case;") ∈ lw_all := lw_g (lw_at lw_m1 134 rfl) rfl
theorem q262 : (Jvm.Cond.fieldLink "FeatherYard$State" (25 : Nat) "FeatherYard$State" "law" "[LFeatherYard$Line;") ∈ lw_all := lw_g (lw_at lw_m1 137 rfl) rfl
theorem q264 : (Jvm.Cond.fieldLink "FeatherYard$State" (29 : Nat) "FeatherYard$State" "stocks" "[I") ∈ lw_all := lw_g (lw_at lw_m1 139 rfl) rfl
theorem q267 : (Jvm.Cond.fieldLink "FeatherYard$State" (33 : Nat) "FeatherYard$State" "winds" "[I") ∈ lw_all := lw_g (lw_at lw_m1 142 rfl) rfl
theorem q270 : (Jvm.Cond.fieldLink "FeatherYard$State" (36 : Nat) "FeatherYard$State" "facts" "[I") ∈ lw_all := lw_g (lw_at lw_m1 145 rfl) rfl
theorem q271 : (Jvm.Cond.fieldLink "FeatherYard$State" (39 : Nat) "FeatherYard$State" "rows" "[I") ∈ lw_all := lw_g (lw_at lw_m1 146 rfl) rfl
theorem q272 : (Jvm.Cond.fieldLink "FeatherYard$State" (66 : Nat) "FeatherYard$State" "birdMany" "I") ∈ lw_all := lw_g (lw_at lw_m1 147 rfl) rfl
theorem q275 : (Jvm.Cond.fieldLink "FeatherYard$State" (85 : Nat) "FeatherYard$State" "counselMany" "I") ∈ lw_all := lw_g (lw_at lw_m1 150 rfl) rfl
theorem q278 : (Jvm.Cond.fieldLink "FeatherYard$State" (73 : Nat) "FeatherYard$State" "caseMany" "I") ∈ lw_all := lw_g (lw_at lw_m1 153 rfl) rfl
theorem q281 : (Jvm.Cond.fieldLink "FeatherYard$State" (42 : Nat) "FeatherYard$State" "lawMany" "I") ∈ lw_all := lw_g (lw_at lw_m1 156 rfl) rfl
theorem q283 : (Jvm.Cond.fieldLink "FeatherYard$State" (88 : Nat) "FeatherYard$State" "texts" "I") ∈ lw_all := lw_g (lw_at lw_m1 158 rfl) rfl
theorem q285 : (Jvm.Cond.fieldLink "FeatherYard$State" (46 : Nat) "FeatherYard$State" "tower" "I") ∈ lw_all := lw_g (lw_at lw_m1 160 rfl) rfl
theorem q289 : (Jvm.Cond.fieldLink "FeatherYard$State" (49 : Nat) "FeatherYard$State" "top" "I") ∈ lw_all := lw_g (lw_at lw_m1 164 rfl) rfl
theorem q293 : (Jvm.Cond.fieldLink "FeatherYard$State" (52 : Nat) "FeatherYard$State" "from" "I") ∈ lw_all := lw_g (lw_at lw_m1 168 rfl) rfl
theorem q296 : (Jvm.Cond.fieldLink "FeatherYard$State" (55 : Nat) "FeatherYard$State" "to" "I") ∈ lw_all := lw_g (lw_at lw_m1 171 rfl) rfl
theorem q299 : (Jvm.Cond.fieldLink "FeatherYard$State" (58 : Nat) "FeatherYard$State" "hour" "I") ∈ lw_all := lw_g (lw_at lw_m1 174 rfl) rfl
theorem q302 : (Jvm.Cond.fieldLink "FeatherYard$State" (91 : Nat) "FeatherYard$State" "week" "I") ∈ lw_all := lw_g (lw_at lw_m1 177 rfl) rfl
theorem q304 : (Jvm.Cond.fieldLink "FeatherYard$State" (61 : Nat) "FeatherYard$State" "seed" "I") ∈ lw_all := lw_g (lw_at lw_m1 179 rfl) rfl
theorem q306 : (Jvm.Cond.fieldLink "FeatherYard$State" (94 : Nat) "FeatherYard$State" "rowMany" "I") ∈ lw_all := lw_g (lw_at lw_m1 181 rfl) rfl
theorem q308 : (Jvm.Cond.laysFinal "FeatherYard$State" "FeatherYard$State" "birds" "[LFeatherYard$Bird;") ∈ lw_all := lw_g (lw_at lw_m1 183 rfl) rfl
theorem q309 : (Jvm.Cond.soleField "FeatherYard$State" "birds") ∈ lw_all := lw_g (lw_at lw_m1 184 rfl) rfl
theorem q310 : (Jvm.Cond.laysFinal "FeatherYard$State" "FeatherYard$State" "cases" "[LFeatherYard$Case;") ∈ lw_all := lw_g (lw_at lw_m1 185 rfl) rfl
theorem q311 : (Jvm.Cond.soleField "FeatherYard$State" "cases") ∈ lw_all := lw_g (lw_at lw_m1 186 rfl) rfl
theorem q312 : (Jvm.Cond.laysFinal "FeatherYard$State" "FeatherYard$State" "law" "[LFeatherYard$Line;") ∈ lw_all := lw_g (lw_at lw_m1 187 rfl) rfl
theorem q313 : (Jvm.Cond.soleField "FeatherYard$State" "law") ∈ lw_all := lw_g (lw_at lw_m1 188 rfl) rfl
theorem q314 : (Jvm.Cond.laysFinal "FeatherYard$State" "FeatherYard$State" "stocks" "[I") ∈ lw_all := lw_g (lw_at lw_m1 189 rfl) rfl
theorem q315 : (Jvm.Cond.soleField "FeatherYard$State" "stocks") ∈ lw_all := lw_g (lw_at lw_m1 190 rfl) rfl
theorem q316 : (Jvm.Cond.laysFinal "FeatherYard$State" "FeatherYard$State" "winds" "[I") ∈ lw_all := lw_g (lw_at lw_m1 191 rfl) rfl
theorem q317 : (Jvm.Cond.soleField "FeatherYard$State" "winds") ∈ lw_all := lw_g (lw_at lw_m1 192 rfl) rfl
theorem q318 : (Jvm.Cond.laysFinal "FeatherYard$State" "FeatherYard$State" "facts" "[I") ∈ lw_all := lw_g (lw_at lw_m1 193 rfl) rfl
theorem q319 : (Jvm.Cond.soleField "FeatherYard$State" "facts") ∈ lw_all := lw_g (lw_at lw_m1 194 rfl) rfl
theorem q320 : (Jvm.Cond.laysFinal "FeatherYard$State" "FeatherYard$State" "rows" "[I") ∈ lw_all := lw_g (lw_at lw_m1 195 rfl) rfl
theorem q321 : (Jvm.Cond.soleField "FeatherYard$State" "rows") ∈ lw_all := lw_g (lw_at lw_m1 196 rfl) rfl
theorem q322 : (Jvm.Cond.lays "FeatherYard$State" "FeatherYard$State" "birdMany" "I") ∈ lw_all := lw_g (lw_at lw_m1 197 rfl) rfl
theorem q323 : (Jvm.Cond.soleField "FeatherYard$State" "birdMany") ∈ lw_all := lw_g (lw_at lw_m1 198 rfl) rfl
theorem q324 : (Jvm.Cond.lays "FeatherYard$State" "FeatherYard$State" "counselMany" "I") ∈ lw_all := lw_g (lw_at lw_m1 199 rfl) rfl
theorem q325 : (Jvm.Cond.soleField "FeatherYard$State" "counselMany") ∈ lw_all := lw_g (lw_at lw_m1 200 rfl) rfl
theorem q326 : (Jvm.Cond.lays "FeatherYard$State" "FeatherYard$State" "caseMany" "I") ∈ lw_all := lw_g (lw_at lw_m1 201 rfl) rfl
theorem q327 : (Jvm.Cond.soleField "FeatherYard$State" "caseMany") ∈ lw_all := lw_g (lw_at lw_m1 202 rfl) rfl
theorem q328 : (Jvm.Cond.lays "FeatherYard$State" "FeatherYard$State" "lawMany" "I") ∈ lw_all := lw_g (lw_at lw_m1 203 rfl) rfl
theorem q329 : (Jvm.Cond.soleField "FeatherYard$State" "lawMany") ∈ lw_all := lw_g (lw_at lw_m1 204 rfl) rfl
theorem q330 : (Jvm.Cond.lays "FeatherYard$State" "FeatherYard$State" "texts" "I") ∈ lw_all := lw_g (lw_at lw_m1 205 rfl) rfl
theorem q331 : (Jvm.Cond.soleField "FeatherYard$State" "texts") ∈ lw_all := lw_g (lw_at lw_m1 206 rfl) rfl
theorem q332 : (Jvm.Cond.lays "FeatherYard$State" "FeatherYard$State" "tower" "I") ∈ lw_all := lw_g (lw_at lw_m1 207 rfl) rfl
theorem q333 : (Jvm.Cond.soleField "FeatherYard$State" "tower") ∈ lw_all := lw_g (lw_at lw_m1 208 rfl) rfl
theorem q334 : (Jvm.Cond.lays "FeatherYard$State" "FeatherYard$State" "top" "I") ∈ lw_all := lw_g (lw_at lw_m1 209 rfl) rfl
theorem q335 : (Jvm.Cond.soleField "FeatherYard$State" "top") ∈ lw_all := lw_g (lw_at lw_m1 210 rfl) rfl
theorem q336 : (Jvm.Cond.lays "FeatherYard$State" "FeatherYard$State" "from" "I") ∈ lw_all := lw_g (lw_at lw_m1 211 rfl) rfl
theorem q337 : (Jvm.Cond.soleField "FeatherYard$State" "from") ∈ lw_all := lw_g (lw_at lw_m1 212 rfl) rfl
theorem q338 : (Jvm.Cond.lays "FeatherYard$State" "FeatherYard$State" "to" "I") ∈ lw_all := lw_g (lw_at lw_m1 213 rfl) rfl
theorem q339 : (Jvm.Cond.soleField "FeatherYard$State" "to") ∈ lw_all := lw_g (lw_at lw_m1 214 rfl) rfl
theorem q340 : (Jvm.Cond.lays "FeatherYard$State" "FeatherYard$State" "hour" "I") ∈ lw_all := lw_g (lw_at lw_m1 215 rfl) rfl
theorem q341 : (Jvm.Cond.soleField "FeatherYard$State" "hour") ∈ lw_all := lw_g (lw_at lw_m1 216 rfl) rfl
theorem q342 : (Jvm.Cond.lays "FeatherYard$State" "FeatherYard$State" "week" "I") ∈ lw_all := lw_g (lw_at lw_m1 217 rfl) rfl
theorem q343 : (Jvm.Cond.soleField "FeatherYard$State" "week") ∈ lw_all := lw_g (lw_at lw_m1 218 rfl) rfl
theorem q344 : (Jvm.Cond.lays "FeatherYard$State" "FeatherYard$State" "seed" "I") ∈ lw_all := lw_g (lw_at lw_m1 219 rfl) rfl
theorem q345 : (Jvm.Cond.soleField "FeatherYard$State" "seed") ∈ lw_all := lw_g (lw_at lw_m1 220 rfl) rfl
theorem q346 : (Jvm.Cond.lays "FeatherYard$State" "FeatherYard$State" "rowMany" "I") ∈ lw_all := lw_g (lw_at lw_m1 221 rfl) rfl
theorem q347 : (Jvm.Cond.soleField "FeatherYard$State" "rowMany") ∈ lw_all := lw_g (lw_at lw_m1 222 rfl) rfl
theorem q348 : (Jvm.Cond.superclass "FeatherYard$State" "java/lang/Object") ∈ lw_all := lw_g (lw_at lw_m1 223 rfl) rfl
theorem q578 : (Jvm.Cond.instanceMethod ({ cls := "FeatherYard$State", name := "sinks", desc := "(IIII)I" } : Jvm.MethodName)) ∈ lw_all := lw_g (lw_at lw_m2 213 rfl) rfl
theorem q579 : (Jvm.Cond.selects "FeatherYard$State" ({ cls := "FeatherYard$State", name := "sinks", desc := "(IIII)I" } : Jvm.MethodName) ({ cls := "FeatherYard$State", name := "sinks", desc := "(IIII)I" } : Jvm.MethodName)) ∈ lw_all := lw_g (lw_at lw_m2 214 rfl) rfl
theorem q580 : (Jvm.Cond.code ({ cls := "FeatherYard$State", name := "sinks", desc := "(IIII)I" } : Jvm.MethodName) prog_12_method_6_code (7 : Nat) (Option.some Jvm.ClassFile.FieldType.int)) ∈ lw_all := lw_g (lw_at lw_m2 215 rfl) rfl
theorem q581 : (Jvm.Cond.methodLink "FeatherYard$State" (105 : Nat) ({ cls := "FeatherYard$State", name := "tells", desc := "(IIII)V" } : Jvm.MethodName)) ∈ lw_all := lw_g (lw_at lw_m2 216 rfl) rfl
theorem q582 : (Jvm.Cond.privateMethod ({ cls := "FeatherYard$State", name := "tells", desc := "(IIII)V" } : Jvm.MethodName)) ∈ lw_tbl := lw_at lw_m2 217 rfl
theorem q583 : (Jvm.Cond.instanceMethod ({ cls := "FeatherYard$State", name := "tells", desc := "(IIII)V" } : Jvm.MethodName)) ∈ lw_all := lw_g (lw_at lw_m2 218 rfl) rfl
theorem q584 : (Jvm.Cond.code ({ cls := "FeatherYard$State", name := "tells", desc := "(IIII)V" } : Jvm.MethodName) prog_12_method_5_code (5 : Nat) (Option.none : Option Jvm.ClassFile.FieldType)) ∈ lw_all := lw_g (lw_at lw_m2 219 rfl) rfl
theorem q585 : (Jvm.Cond.methodLink "FeatherYard$State" (101 : Nat) ({ cls := "FeatherYard$State", name := "isYard", desc := "(I)Z" } : Jvm.MethodName)) ∈ lw_all := lw_g (lw_at lw_m2 220 rfl) rfl
theorem q586 : (Jvm.Cond.instanceMethod ({ cls := "FeatherYard$State", name := "isYard", desc := "(I)Z" } : Jvm.MethodName)) ∈ lw_all := lw_g (lw_at lw_m2 221 rfl) rfl
theorem q587 : (Jvm.Cond.selects "FeatherYard$State" ({ cls := "FeatherYard$State", name := "isYard", desc := "(I)Z" } : Jvm.MethodName) ({ cls := "FeatherYard$State", name := "isYard", desc := "(I)Z" } : Jvm.MethodName)) ∈ lw_all := lw_g (lw_at lw_m2 222 rfl) rfl
theorem q588 : (Jvm.Cond.code ({ cls := "FeatherYard$State", name := "isYard", desc := "(I)Z" } : Jvm.MethodName) prog_12_method_4_code (2 : Nat) (Option.some Jvm.ClassFile.FieldType.boolean)) ∈ lw_all := lw_g (lw_at lw_m2 223 rfl) rfl
theorem q589 : (Jvm.Cond.methodLink "FeatherYard$State" (112 : Nat) ({ cls := "FeatherYard$Line", name := "sinks", desc := "([I)I" } : Jvm.MethodName)) ∈ lw_all := lw_g (lw_at lw_m2 224 rfl) rfl
theorem q639 : (Jvm.Cond.methodLink "FeatherYard$State" (116 : Nat) ({ cls := "java/lang/Math", name := "min", desc := "(II)I" } : Jvm.MethodName)) ∈ lw_all := lw_g (lw_at lw_m3 34 rfl) rfl
theorem q642 : (Jvm.Cond.methodLink "FeatherYard$State" (122 : Nat) ({ cls := "java/lang/Math", name := "max", desc := "(II)I" } : Jvm.MethodName)) ∈ lw_all := lw_g (lw_at lw_m3 37 rfl) rfl
theorem q646 : (Jvm.Cond.instanceMethod ({ cls := "FeatherYard$State", name := "carried", desc := "(IIII)I" } : Jvm.MethodName)) ∈ lw_all := lw_g (lw_at lw_m3 41 rfl) rfl
theorem q647 : (Jvm.Cond.selects "FeatherYard$State" ({ cls := "FeatherYard$State", name := "carried", desc := "(IIII)I" } : Jvm.MethodName) ({ cls := "FeatherYard$State", name := "carried", desc := "(IIII)I" } : Jvm.MethodName)) ∈ lw_all := lw_g (lw_at lw_m3 42 rfl) rfl
theorem q648 : (Jvm.Cond.code ({ cls := "FeatherYard$State", name := "carried", desc := "(IIII)I" } : Jvm.MethodName) prog_12_method_7_code (7 : Nat) (Option.some Jvm.ClassFile.FieldType.int)) ∈ lw_all := lw_g (lw_at lw_m3 43 rfl) rfl
theorem q649 : (Jvm.Cond.methodLink "FeatherYard$State" (125 : Nat) ({ cls := "FeatherYard$Line", name := "carries", desc := "([I)I" } : Jvm.MethodName)) ∈ lw_all := lw_g (lw_at lw_m3 44 rfl) rfl
theorem q677 : (Jvm.Cond.instanceMethod ({ cls := "FeatherYard$State", name := "stock", desc := "(II)I" } : Jvm.MethodName)) ∈ lw_all := lw_g (lw_at lw_m3 72 rfl) rfl
theorem q678 : (Jvm.Cond.selects "FeatherYard$State" ({ cls := "FeatherYard$State", name := "stock", desc := "(II)I" } : Jvm.MethodName) ({ cls := "FeatherYard$State", name := "stock", desc := "(II)I" } : Jvm.MethodName)) ∈ lw_all := lw_g (lw_at lw_m3 73 rfl) rfl
theorem q679 : (Jvm.Cond.code ({ cls := "FeatherYard$State", name := "stock", desc := "(II)I" } : Jvm.MethodName) prog_12_method_8_code (3 : Nat) (Option.some Jvm.ClassFile.FieldType.int)) ∈ lw_all := lw_g (lw_at lw_m3 74 rfl) rfl
theorem q699 : (Jvm.Cond.instanceMethod ({ cls := "FeatherYard$State", name := "be", desc := "(LFeatherYard$State;)V" } : Jvm.MethodName)) ∈ lw_all := lw_g (lw_at lw_m3 94 rfl) rfl
theorem q700 : (Jvm.Cond.selects "FeatherYard$State" ({ cls := "FeatherYard$State", name := "be", desc := "(LFeatherYard$State;)V" } : Jvm.MethodName) ({ cls := "FeatherYard$State", name := "be", desc := "(LFeatherYard$State;)V" } : Jvm.MethodName)) ∈ lw_all := lw_g (lw_at lw_m3 95 rfl) rfl
theorem q701 : (Jvm.Cond.code ({ cls := "FeatherYard$State", name := "be", desc := "(LFeatherYard$State;)V" } : Jvm.MethodName) prog_12_method_2_code (3 : Nat) (Option.none : Option Jvm.ClassFile.FieldType)) ∈ lw_all := lw_g (lw_at lw_m3 96 rfl) rfl
theorem q702 : (Jvm.Cond.methodLink "FeatherYard$State" (69 : Nat) ({ cls := "FeatherYard$Bird", name := "be", desc := "(LFeatherYard$Bird;)V" } : Jvm.MethodName)) ∈ lw_all := lw_g (lw_at lw_m3 97 rfl) rfl
theorem q706 : (Jvm.Cond.methodLink "FeatherYard$State" (76 : Nat) ({ cls := "FeatherYard$Case", name := "be", desc := "(LFeatherYard$Case;)V" } : Jvm.MethodName)) ∈ lw_all := lw_g (lw_at lw_m3 101 rfl) rfl
theorem q710 : (Jvm.Cond.methodLink "FeatherYard$State" (79 : Nat) ({ cls := "java/lang/System", name := "arraycopy", desc := "(Ljava/lang/Object;ILjava/lang/Object;II)V" } : Jvm.MethodName)) ∈ lw_all := lw_g (lw_at lw_m3 105 rfl) rfl
theorem q1149 : (Jvm.Cond.instanceMethod ({ cls := "FeatherYard$State", name := "choices", desc := "(IZ)I" } : Jvm.MethodName)) ∈ lw_all := lw_g (lw_at lw_m5 64 rfl) rfl
theorem q1150 : (Jvm.Cond.selects "FeatherYard$State" ({ cls := "FeatherYard$State", name := "choices", desc := "(IZ)I" } : Jvm.MethodName) ({ cls := "FeatherYard$State", name := "choices", desc := "(IZ)I" } : Jvm.MethodName)) ∈ lw_all := lw_g (lw_at lw_m5 65 rfl) rfl
theorem q1151 : (Jvm.Cond.code ({ cls := "FeatherYard$State", name := "choices", desc := "(IZ)I" } : Jvm.MethodName) prog_12_method_9_code (6 : Nat) (Option.some Jvm.ClassFile.FieldType.int)) ∈ lw_all := lw_g (lw_at lw_m5 66 rfl) rfl
theorem q1152 : (Jvm.Cond.methodLink "FeatherYard$State" (134 : Nat) ({ cls := "FeatherYard$State", name := "stock", desc := "(II)I" } : Jvm.MethodName)) ∈ lw_all := lw_g (lw_at lw_m5 67 rfl) rfl
theorem q1211 : (Jvm.Cond.instanceMethod ({ cls := "FeatherYard$State", name := "draw", desc := "(I)I" } : Jvm.MethodName)) ∈ lw_all := lw_g (lw_at lw_m5 126 rfl) rfl
theorem q1212 : (Jvm.Cond.selects "FeatherYard$State" ({ cls := "FeatherYard$State", name := "draw", desc := "(I)I" } : Jvm.MethodName) ({ cls := "FeatherYard$State", name := "draw", desc := "(I)I" } : Jvm.MethodName)) ∈ lw_all := lw_g (lw_at lw_m5 127 rfl) rfl
theorem q1213 : (Jvm.Cond.code ({ cls := "FeatherYard$State", name := "draw", desc := "(I)I" } : Jvm.MethodName) prog_12_method_3_code (2 : Nat) (Option.some Jvm.ClassFile.FieldType.int)) ∈ lw_all := lw_g (lw_at lw_m5 128 rfl) rfl
theorem q1214 : (Jvm.Cond.constant "FeatherYard$State" (97 : Nat) (1103515245 : Int32)) ∈ lw_all := lw_g (lw_at lw_m5 129 rfl) rfl
theorem q1217 : (Jvm.Cond.instanceMethod ({ cls := "FeatherYard$State", name := "writes", desc := "(IIIII)V" } : Jvm.MethodName)) ∈ lw_all := lw_g (lw_at lw_m5 132 rfl) rfl
theorem q1218 : (Jvm.Cond.selects "FeatherYard$State" ({ cls := "FeatherYard$State", name := "writes", desc := "(IIIII)V" } : Jvm.MethodName) ({ cls := "FeatherYard$State", name := "writes", desc := "(IIIII)V" } : Jvm.MethodName)) ∈ lw_all := lw_g (lw_at lw_m5 133 rfl) rfl
theorem q1219 : (Jvm.Cond.code ({ cls := "FeatherYard$State", name := "writes", desc := "(IIIII)V" } : Jvm.MethodName) prog_12_method_10_code (7 : Nat) (Option.none : Option Jvm.ClassFile.FieldType)) ∈ lw_all := lw_g (lw_at lw_m5 134 rfl) rfl
theorem q1439 : (Jvm.Cond.instanceMethod ({ cls := "FeatherYard$State", name := "isKept", desc := "(I)Z" } : Jvm.MethodName)) ∈ lw_all := lw_g (lw_at lw_m6 114 rfl) rfl
theorem q1440 : (Jvm.Cond.selects "FeatherYard$State" ({ cls := "FeatherYard$State", name := "isKept", desc := "(I)Z" } : Jvm.MethodName) ({ cls := "FeatherYard$State", name := "isKept", desc := "(I)Z" } : Jvm.MethodName)) ∈ lw_all := lw_g (lw_at lw_m6 115 rfl) rfl
theorem q1441 : (Jvm.Cond.code ({ cls := "FeatherYard$State", name := "isKept", desc := "(I)Z" } : Jvm.MethodName) prog_12_method_11_code (2 : Nat) (Option.some Jvm.ClassFile.FieldType.boolean)) ∈ lw_all := lw_g (lw_at lw_m6 116 rfl) rfl
theorem q1443 : (Jvm.Cond.instanceMethod ({ cls := "FeatherYard$State", name := "row", desc := "(II)I" } : Jvm.MethodName)) ∈ lw_all := lw_g (lw_at lw_m6 118 rfl) rfl
theorem q1444 : (Jvm.Cond.selects "FeatherYard$State" ({ cls := "FeatherYard$State", name := "row", desc := "(II)I" } : Jvm.MethodName) ({ cls := "FeatherYard$State", name := "row", desc := "(II)I" } : Jvm.MethodName)) ∈ lw_all := lw_g (lw_at lw_m6 119 rfl) rfl
theorem q1445 : (Jvm.Cond.code ({ cls := "FeatherYard$State", name := "row", desc := "(II)I" } : Jvm.MethodName) prog_12_method_12_code (3 : Nat) (Option.some Jvm.ClassFile.FieldType.int)) ∈ lw_all := lw_g (lw_at lw_m6 120 rfl) rfl
theorem q1446 : (Jvm.Cond.methodLink "FeatherYard$State" (140 : Nat) ({ cls := "FeatherYard$State", name := "isKept", desc := "(I)Z" } : Jvm.MethodName)) ∈ lw_all := lw_g (lw_at lw_m6 121 rfl) rfl
theorem q2118 : (Jvm.Cond.castable "FeatherYard$State" "java/lang/Object") ∈ lw_tbl := lw_at lw_m9 73 rfl
theorem in_X3 : ∀ w ∈ wsX30, w ∈ lw_all := lw_in wsX30 [308, 310, 312, 314, 316, 318, 320, 322, 324, 326, 328, 330, 332, 334, 336, 338, 340, 342, 344, 346] (by decide +kernel) (by decide +kernel)

/-! FeatherYard$Bird -/
set_option maxRecDepth 100000
def RX4 : String := "FeatherYard$Bird"
def TX4 : u_T := fun k => match k with
  | 0 => ("FeatherYard$Bird", "falls", "I", false)
  | 1 => ("FeatherYard$Bird", "light", "I", false)
  | 2 => ("FeatherYard$Bird", "songs", "I", false)
  | _ => ("FeatherYard$Bird", "moults", "I", false)
def tyX4 : Nat → FieldType := fun k => match k with
  | 0 => .int
  | 1 => .int
  | 2 => .int
  | _ => .int
abbrev wsX40 : List Cond := u_ws RX4 TX4 4
theorem nmX4 : ∀ a, a < 4 → ∀ b, b < 4 → a ≠ b → (TX4 a).2.1 ≠ (TX4 b).2.1 := by decide +kernel
theorem tyX4_ok : ∀ k, k < 4 → parseFieldDescriptor (TX4 k).2.2.1 = some (tyX4 k) := by decide +kernel
abbrev cX4_init : ByteArray := prog_2_method_1_code
def yX4_init : MethodName := ⟨RX4, "<init>", "()V"⟩
theorem dX4_init_0 : decode cX4_init 0 = .ok (.aload_n 0, 1) := by decide +kernel
theorem dX4_init_1 : decode cX4_init 1 = .ok (.invokespecial 1, 3) := by decide +kernel
theorem dX4_init_4 : decode cX4_init 4 = .ok (.return_, 1) := by decide +kernel
abbrev cX4_be : ByteArray := prog_2_method_2_code
def yX4_be : MethodName := ⟨RX4, "be", "(LFeatherYard$Bird;)V"⟩
def dkwX4_be_1 : List UInt8 := [42, 43, 180, 0, 19, 181, 0, 19, 177]
abbrev dktX4_be_1 : List UInt8 := dkwX4_be_1 ++ []
def dkwX4_be_0 : List UInt8 := [42, 43, 180, 0, 7, 181, 0, 7, 42, 43, 180, 0, 13, 181, 0, 13, 42, 43, 180, 0, 16, 181, 0, 16]
abbrev dktX4_be_0 : List UInt8 := dkwX4_be_0 ++ dktX4_be_1
theorem dksX4_be_0 : cX4_be.data.toList.drop 0 = dktX4_be_0 := by decide +kernel
theorem dksX4_be_1 : cX4_be.data.toList.drop 24 = dktX4_be_1 := dk_seg dksX4_be_0 24 rfl rfl
theorem dX4_be_0 : decode cX4_be 0 = .ok (.aload_n 0, 1) := dk_42 (dk_at dksX4_be_0 0 rfl rfl)
theorem dX4_be_1 : decode cX4_be 1 = .ok (.aload_n 1, 1) := dk_43 (dk_at dksX4_be_0 1 rfl rfl)
theorem dX4_be_2 : decode cX4_be 2 = .ok (.getfield 7, 3) := dk_180 0 7 (dk_at dksX4_be_0 2 rfl rfl)
theorem dX4_be_5 : decode cX4_be 5 = .ok (.putfield 7, 3) := dk_181 0 7 (dk_at dksX4_be_0 5 rfl rfl)
theorem dX4_be_8 : decode cX4_be 8 = .ok (.aload_n 0, 1) := dk_42 (dk_at dksX4_be_0 8 rfl rfl)
theorem dX4_be_9 : decode cX4_be 9 = .ok (.aload_n 1, 1) := dk_43 (dk_at dksX4_be_0 9 rfl rfl)
theorem dX4_be_10 : decode cX4_be 10 = .ok (.getfield 13, 3) := dk_180 0 13 (dk_at dksX4_be_0 10 rfl rfl)
theorem dX4_be_13 : decode cX4_be 13 = .ok (.putfield 13, 3) := dk_181 0 13 (dk_at dksX4_be_0 13 rfl rfl)
theorem dX4_be_16 : decode cX4_be 16 = .ok (.aload_n 0, 1) := dk_42 (dk_at dksX4_be_0 16 rfl rfl)
theorem dX4_be_17 : decode cX4_be 17 = .ok (.aload_n 1, 1) := dk_43 (dk_at dksX4_be_0 17 rfl rfl)
theorem dX4_be_18 : decode cX4_be 18 = .ok (.getfield 16, 3) := dk_180 0 16 (dk_at dksX4_be_0 18 rfl rfl)
theorem dX4_be_21 : decode cX4_be 21 = .ok (.putfield 16, 3) := dk_181 0 16 (dk_at dksX4_be_0 21 rfl rfl)
theorem dX4_be_24 : decode cX4_be 24 = .ok (.aload_n 0, 1) := dk_42 (dk_at dksX4_be_1 0 rfl rfl)
theorem dX4_be_25 : decode cX4_be 25 = .ok (.aload_n 1, 1) := dk_43 (dk_at dksX4_be_1 1 rfl rfl)
theorem dX4_be_26 : decode cX4_be 26 = .ok (.getfield 19, 3) := dk_180 0 19 (dk_at dksX4_be_1 2 rfl rfl)
theorem dX4_be_29 : decode cX4_be 29 = .ok (.putfield 19, 3) := dk_181 0 19 (dk_at dksX4_be_1 5 rfl rfl)
theorem dX4_be_32 : decode cX4_be 32 = .ok (.return_, 1) := dk_177 (dk_at dksX4_be_1 8 rfl rfl)
theorem q129 : (Jvm.Cond.initialized "FeatherYard$Bird") ∈ lw_all := lw_g (lw_at lw_m1 4 rfl) rfl
theorem q195 : (Jvm.Cond.instantiable "FeatherYard$Bird" (4 : Nat)) ∈ lw_all := lw_g (lw_at lw_m1 70 rfl) rfl
theorem q197 : (Jvm.Cond.instanceMethod ({ cls := "FeatherYard$Bird", name := "<init>", desc := "()V" } : Jvm.MethodName)) ∈ lw_all := lw_g (lw_at lw_m1 72 rfl) rfl
theorem q198 : (Jvm.Cond.code ({ cls := "FeatherYard$Bird", name := "<init>", desc := "()V" } : Jvm.MethodName) prog_2_method_1_code (1 : Nat) (Option.none : Option Jvm.ClassFile.FieldType)) ∈ lw_all := lw_g (lw_at lw_m1 73 rfl) rfl
theorem q199 : (Jvm.Cond.methodLink "FeatherYard$Bird" (1 : Nat) ({ cls := "java/lang/Object", name := "<init>", desc := "()V" } : Jvm.MethodName)) ∈ lw_all := lw_g (lw_at lw_m1 74 rfl) rfl
theorem q200 : (Jvm.Cond.fieldLink "FeatherYard$Bird" (7 : Nat) "FeatherYard$Bird" "falls" "I") ∈ lw_all := lw_g (lw_at lw_m1 75 rfl) rfl
theorem q204 : (Jvm.Cond.fieldLink "FeatherYard$Bird" (13 : Nat) "FeatherYard$Bird" "light" "I") ∈ lw_all := lw_g (lw_at lw_m1 79 rfl) rfl
theorem q209 : (Jvm.Cond.fieldLink "FeatherYard$Bird" (16 : Nat) "FeatherYard$Bird" "songs" "I") ∈ lw_all := lw_g (lw_at lw_m1 84 rfl) rfl
theorem q212 : (Jvm.Cond.fieldLink "FeatherYard$Bird" (19 : Nat) "FeatherYard$Bird" "moults" "I") ∈ lw_all := lw_g (lw_at lw_m1 87 rfl) rfl
theorem q215 : (Jvm.Cond.lays "FeatherYard$Bird" "FeatherYard$Bird" "falls" "I") ∈ lw_all := lw_g (lw_at lw_m1 90 rfl) rfl
theorem q216 : (Jvm.Cond.soleField "FeatherYard$Bird" "falls") ∈ lw_all := lw_g (lw_at lw_m1 91 rfl) rfl
theorem q217 : (Jvm.Cond.lays "FeatherYard$Bird" "FeatherYard$Bird" "light" "I") ∈ lw_all := lw_g (lw_at lw_m1 92 rfl) rfl
theorem q218 : (Jvm.Cond.soleField "FeatherYard$Bird" "light") ∈ lw_all := lw_g (lw_at lw_m1 93 rfl) rfl
theorem q219 : (Jvm.Cond.lays "FeatherYard$Bird" "FeatherYard$Bird" "songs" "I") ∈ lw_all := lw_g (lw_at lw_m1 94 rfl) rfl
theorem q220 : (Jvm.Cond.soleField "FeatherYard$Bird" "songs") ∈ lw_all := lw_g (lw_at lw_m1 95 rfl) rfl
theorem q221 : (Jvm.Cond.lays "FeatherYard$Bird" "FeatherYard$Bird" "moults" "I") ∈ lw_all := lw_g (lw_at lw_m1 96 rfl) rfl
theorem q222 : (Jvm.Cond.soleField "FeatherYard$Bird" "moults") ∈ lw_all := lw_g (lw_at lw_m1 97 rfl) rfl
theorem q223 : (Jvm.Cond.superclass "FeatherYard$Bird" "java/lang/Object") ∈ lw_all := lw_g (lw_at lw_m1 98 rfl) rfl
theorem q703 : (Jvm.Cond.instanceMethod ({ cls := "FeatherYard$Bird", name := "be", desc := "(LFeatherYard$Bird;)V" } : Jvm.MethodName)) ∈ lw_all := lw_g (lw_at lw_m3 98 rfl) rfl
theorem q704 : (Jvm.Cond.selects "FeatherYard$Bird" ({ cls := "FeatherYard$Bird", name := "be", desc := "(LFeatherYard$Bird;)V" } : Jvm.MethodName) ({ cls := "FeatherYard$Bird", name := "be", desc := "(LFeatherYard$Bird;)V" } : Jvm.MethodName)) ∈ lw_all := lw_g (lw_at lw_m3 99 rfl) rfl
theorem q705 : (Jvm.Cond.code ({ cls := "FeatherYard$Bird", name := "be", desc := "(LFeatherYard$Bird;)V" } : Jvm.MethodName) prog_2_method_2_code (2 : Nat) (Option.none : Option Jvm.ClassFile.FieldType)) ∈ lw_all := lw_g (lw_at lw_m3 100 rfl) rfl
theorem q2119 : (Jvm.Cond.castable "FeatherYard$Bird" "java/lang/Object") ∈ lw_tbl := lw_at lw_m9 74 rfl
theorem in_X4 : ∀ w ∈ wsX40, w ∈ lw_all := lw_in wsX40 [215, 217, 219, 221] (by decide +kernel) (by decide +kernel)

/-! FeatherYard$Case -/
set_option maxRecDepth 100000
def RX5 : String := "FeatherYard$Case"
def TX5 : u_T := fun k => match k with
  | 0 => ("FeatherYard$Case", "one", "I", false)
  | 1 => ("FeatherYard$Case", "other", "I", false)
  | 2 => ("FeatherYard$Case", "present", "I", false)
  | _ => ("FeatherYard$Case", "end", "I", false)
def tyX5 : Nat → FieldType := fun k => match k with
  | 0 => .int
  | 1 => .int
  | 2 => .int
  | _ => .int
abbrev wsX50 : List Cond := u_ws RX5 TX5 4
theorem nmX5 : ∀ a, a < 4 → ∀ b, b < 4 → a ≠ b → (TX5 a).2.1 ≠ (TX5 b).2.1 := by decide +kernel
theorem tyX5_ok : ∀ k, k < 4 → parseFieldDescriptor (TX5 k).2.2.1 = some (tyX5 k) := by decide +kernel
abbrev cX5_init : ByteArray := prog_4_method_1_code
def yX5_init : MethodName := ⟨RX5, "<init>", "()V"⟩
theorem dX5_init_0 : decode cX5_init 0 = .ok (.aload_n 0, 1) := by decide +kernel
theorem dX5_init_1 : decode cX5_init 1 = .ok (.invokespecial 1, 3) := by decide +kernel
theorem dX5_init_4 : decode cX5_init 4 = .ok (.return_, 1) := by decide +kernel
abbrev cX5_be : ByteArray := prog_4_method_2_code
def yX5_be : MethodName := ⟨RX5, "be", "(LFeatherYard$Case;)V"⟩
def dkwX5_be_1 : List UInt8 := [42, 43, 180, 0, 19, 181, 0, 19, 177]
abbrev dktX5_be_1 : List UInt8 := dkwX5_be_1 ++ []
def dkwX5_be_0 : List UInt8 := [42, 43, 180, 0, 7, 181, 0, 7, 42, 43, 180, 0, 13, 181, 0, 13, 42, 43, 180, 0, 16, 181, 0, 16]
abbrev dktX5_be_0 : List UInt8 := dkwX5_be_0 ++ dktX5_be_1
theorem dksX5_be_0 : cX5_be.data.toList.drop 0 = dktX5_be_0 := by decide +kernel
theorem dksX5_be_1 : cX5_be.data.toList.drop 24 = dktX5_be_1 := dk_seg dksX5_be_0 24 rfl rfl
theorem dX5_be_0 : decode cX5_be 0 = .ok (.aload_n 0, 1) := dk_42 (dk_at dksX5_be_0 0 rfl rfl)
theorem dX5_be_1 : decode cX5_be 1 = .ok (.aload_n 1, 1) := dk_43 (dk_at dksX5_be_0 1 rfl rfl)
theorem dX5_be_2 : decode cX5_be 2 = .ok (.getfield 7, 3) := dk_180 0 7 (dk_at dksX5_be_0 2 rfl rfl)
theorem dX5_be_5 : decode cX5_be 5 = .ok (.putfield 7, 3) := dk_181 0 7 (dk_at dksX5_be_0 5 rfl rfl)
theorem dX5_be_8 : decode cX5_be 8 = .ok (.aload_n 0, 1) := dk_42 (dk_at dksX5_be_0 8 rfl rfl)
theorem dX5_be_9 : decode cX5_be 9 = .ok (.aload_n 1, 1) := dk_43 (dk_at dksX5_be_0 9 rfl rfl)
theorem dX5_be_10 : decode cX5_be 10 = .ok (.getfield 13, 3) := dk_180 0 13 (dk_at dksX5_be_0 10 rfl rfl)
theorem dX5_be_13 : decode cX5_be 13 = .ok (.putfield 13, 3) := dk_181 0 13 (dk_at dksX5_be_0 13 rfl rfl)
theorem dX5_be_16 : decode cX5_be 16 = .ok (.aload_n 0, 1) := dk_42 (dk_at dksX5_be_0 16 rfl rfl)
theorem dX5_be_17 : decode cX5_be 17 = .ok (.aload_n 1, 1) := dk_43 (dk_at dksX5_be_0 17 rfl rfl)
theorem dX5_be_18 : decode cX5_be 18 = .ok (.getfield 16, 3) := dk_180 0 16 (dk_at dksX5_be_0 18 rfl rfl)
theorem dX5_be_21 : decode cX5_be 21 = .ok (.putfield 16, 3) := dk_181 0 16 (dk_at dksX5_be_0 21 rfl rfl)
theorem dX5_be_24 : decode cX5_be 24 = .ok (.aload_n 0, 1) := dk_42 (dk_at dksX5_be_1 0 rfl rfl)
theorem dX5_be_25 : decode cX5_be 25 = .ok (.aload_n 1, 1) := dk_43 (dk_at dksX5_be_1 1 rfl rfl)
theorem dX5_be_26 : decode cX5_be 26 = .ok (.getfield 19, 3) := dk_180 0 19 (dk_at dksX5_be_1 2 rfl rfl)
theorem dX5_be_29 : decode cX5_be 29 = .ok (.putfield 19, 3) := dk_181 0 19 (dk_at dksX5_be_1 5 rfl rfl)
theorem dX5_be_32 : decode cX5_be 32 = .ok (.return_, 1) := dk_177 (dk_at dksX5_be_1 8 rfl rfl)
theorem q130 : (Jvm.Cond.initialized "FeatherYard$Case") ∈ lw_all := lw_g (lw_at lw_m1 5 rfl) rfl
theorem q226 : (Jvm.Cond.instantiable "FeatherYard$Case" (4 : Nat)) ∈ lw_all := lw_g (lw_at lw_m1 101 rfl) rfl
theorem q228 : (Jvm.Cond.instanceMethod ({ cls := "FeatherYard$Case", name := "<init>", desc := "()V" } : Jvm.MethodName)) ∈ lw_all := lw_g (lw_at lw_m1 103 rfl) rfl
theorem q229 : (Jvm.Cond.code ({ cls := "FeatherYard$Case", name := "<init>", desc := "()V" } : Jvm.MethodName) prog_4_method_1_code (1 : Nat) (Option.none : Option Jvm.ClassFile.FieldType)) ∈ lw_all := lw_g (lw_at lw_m1 104 rfl) rfl
theorem q230 : (Jvm.Cond.methodLink "FeatherYard$Case" (1 : Nat) ({ cls := "java/lang/Object", name := "<init>", desc := "()V" } : Jvm.MethodName)) ∈ lw_all := lw_g (lw_at lw_m1 105 rfl) rfl
theorem q231 : (Jvm.Cond.fieldLink "FeatherYard$Case" (7 : Nat) "FeatherYard$Case" "one" "I") ∈ lw_all := lw_g (lw_at lw_m1 106 rfl) rfl
theorem q235 : (Jvm.Cond.fieldLink "FeatherYard$Case" (13 : Nat) "FeatherYard$Case" "other" "I") ∈ lw_all := lw_g (lw_at lw_m1 110 rfl) rfl
theorem q239 : (Jvm.Cond.fieldLink "FeatherYard$Case" (16 : Nat) "FeatherYard$Case" "present" "I") ∈ lw_all := lw_g (lw_at lw_m1 114 rfl) rfl
theorem q243 : (Jvm.Cond.fieldLink "FeatherYard$Case" (19 : Nat) "FeatherYard$Case" "end" "I") ∈ lw_all := lw_g (lw_at lw_m1 118 rfl) rfl
theorem q246 : (Jvm.Cond.lays "FeatherYard$Case" "FeatherYard$Case" "one" "I") ∈ lw_all := lw_g (lw_at lw_m1 121 rfl) rfl
theorem q247 : (Jvm.Cond.soleField "FeatherYard$Case" "one") ∈ lw_all := lw_g (lw_at lw_m1 122 rfl) rfl
theorem q248 : (Jvm.Cond.lays "FeatherYard$Case" "FeatherYard$Case" "other" "I") ∈ lw_all := lw_g (lw_at lw_m1 123 rfl) rfl
theorem q249 : (Jvm.Cond.soleField "FeatherYard$Case" "other") ∈ lw_all := lw_g (lw_at lw_m1 124 rfl) rfl
theorem q250 : (Jvm.Cond.lays "FeatherYard$Case" "FeatherYard$Case" "present" "I") ∈ lw_all := lw_g (lw_at lw_m1 125 rfl) rfl
theorem q251 : (Jvm.Cond.soleField "FeatherYard$Case" "present") ∈ lw_all := lw_g (lw_at lw_m1 126 rfl) rfl
theorem q252 : (Jvm.Cond.lays "FeatherYard$Case" "FeatherYard$Case" "end" "I") ∈ lw_all := lw_g (lw_at lw_m1 127 rfl) rfl
theorem q253 : (Jvm.Cond.soleField "FeatherYard$Case" "end") ∈ lw_all := lw_g (lw_at lw_m1 128 rfl) rfl
theorem q254 : (Jvm.Cond.superclass "FeatherYard$Case" "java/lang/Object") ∈ lw_all := lw_g (lw_at lw_m1 129 rfl) rfl
theorem q707 : (Jvm.Cond.instanceMethod ({ cls := "FeatherYard$Case", name := "be", desc := "(LFeatherYard$Case;)V" } : Jvm.MethodName)) ∈ lw_all := lw_g (lw_at lw_m3 102 rfl) rfl
theorem q708 : (Jvm.Cond.selects "FeatherYard$Case" ({ cls := "FeatherYard$Case", name := "be", desc := "(LFeatherYard$Case;)V" } : Jvm.MethodName) ({ cls := "FeatherYard$Case", name := "be", desc := "(LFeatherYard$Case;)V" } : Jvm.MethodName)) ∈ lw_all := lw_g (lw_at lw_m3 103 rfl) rfl
theorem q709 : (Jvm.Cond.code ({ cls := "FeatherYard$Case", name := "be", desc := "(LFeatherYard$Case;)V" } : Jvm.MethodName) prog_4_method_2_code (2 : Nat) (Option.none : Option Jvm.ClassFile.FieldType)) ∈ lw_all := lw_g (lw_at lw_m3 104 rfl) rfl
theorem q2120 : (Jvm.Cond.castable "FeatherYard$Case" "java/lang/Object") ∈ lw_tbl := lw_at lw_m9 75 rfl
theorem in_X5 : ∀ w ∈ wsX50, w ∈ lw_all := lw_in wsX50 [246, 248, 250, 252] (by decide +kernel) (by decide +kernel)

/-! FeatherYard$Wrong -/
set_option maxRecDepth 100000
def RX6 : String := "FeatherYard$Wrong"
def TX6 : u_T := fun k => match k with
  | 0 => ("java/lang/Throwable", "cause", "Ljava/lang/Throwable;", false)
  | 1 => ("java/lang/Throwable", "stackTrace", "[Ljava/lang/StackTraceElement;", false)
  | 2 => ("java/lang/Throwable", "suppressedExceptions", "Ljava/util/List;", false)
  | 3 => ("java/lang/Throwable", "detailMessage", "Ljava/lang/String;", false)
  | 4 => ("java/lang/Throwable", "backtrace", "Ljava/lang/Object;", false)
  | 5 => ("java/lang/Throwable", "depth", "I", false)
  | _ => ("FeatherYard$Wrong", "place", "I", false)
def tyX6 : Nat → FieldType := fun k => match k with
  | 0 => .object "java/lang/Throwable"
  | 1 => .array (.object "java/lang/StackTraceElement")
  | 2 => .object "java/util/List"
  | 3 => .object "java/lang/String"
  | 4 => .object "java/lang/Object"
  | 5 => .int
  | _ => .int
abbrev wsX60 : List Cond := u_ws RX6 TX6 7
theorem nmX6 : ∀ a, a < 7 → ∀ b, b < 7 → a ≠ b → (TX6 a).2.1 ≠ (TX6 b).2.1 := by decide +kernel
theorem tyX6_ok : ∀ k, k < 7 → parseFieldDescriptor (TX6 k).2.2.1 = some (tyX6 k) := by decide +kernel
abbrev cX6_init : ByteArray := prog_16_method_1_code
def yX6_init : MethodName := ⟨RX6, "<init>", "()V"⟩
def dkwX6_init_0 : List UInt8 := [42, 1, 1, 3, 3, 183, 0, 1, 177]
abbrev dktX6_init_0 : List UInt8 := dkwX6_init_0 ++ []
theorem dksX6_init_0 : cX6_init.data.toList.drop 0 = dktX6_init_0 := by decide +kernel
theorem dX6_init_0 : decode cX6_init 0 = .ok (.aload_n 0, 1) := dk_42 (dk_at dksX6_init_0 0 rfl rfl)
theorem dX6_init_1 : decode cX6_init 1 = .ok (.aconst_null, 1) := dk_1 (dk_at dksX6_init_0 1 rfl rfl)
theorem dX6_init_2 : decode cX6_init 2 = .ok (.aconst_null, 1) := dk_1 (dk_at dksX6_init_0 2 rfl rfl)
theorem dX6_init_3 : decode cX6_init 3 = .ok (.iconst 0, 1) := dk_3 (dk_at dksX6_init_0 3 rfl rfl)
theorem dX6_init_4 : decode cX6_init 4 = .ok (.iconst 0, 1) := dk_3 (dk_at dksX6_init_0 4 rfl rfl)
theorem dX6_init_5 : decode cX6_init 5 = .ok (.invokespecial 1, 3) := dk_183 0 1 (dk_at dksX6_init_0 5 rfl rfl)
theorem dX6_init_8 : decode cX6_init 8 = .ok (.return_, 1) := dk_177 (dk_at dksX6_init_0 8 rfl rfl)
theorem q134 : (Jvm.Cond.initialized "FeatherYard$Wrong") ∈ lw_all := lw_g (lw_at lw_m1 9 rfl) rfl
theorem q350 : (Jvm.Cond.instantiable "FeatherYard$Wrong" (7 : Nat)) ∈ lw_all := lw_g (lw_at lw_m1 225 rfl) rfl
theorem q351 : (Jvm.Cond.castable "FeatherYard$Wrong" "FeatherYard$Wrong") ∈ lw_tbl := lw_at lw_m1 226 rfl
theorem q358 : (Jvm.Cond.selects "FeatherYard$Wrong" ({ cls := "java/lang/Throwable", name := "fillInStackTrace", desc := "(I)Ljava/lang/Throwable;" } : Jvm.MethodName) ({ cls := "java/lang/Throwable", name := "fillInStackTrace", desc := "(I)Ljava/lang/Throwable;" } : Jvm.MethodName)) ∈ lw_all := lw_g (lw_at lw_m1 233 rfl) rfl
theorem q359 : (Jvm.Cond.selects "FeatherYard$Wrong" ({ cls := "java/lang/Throwable", name := "fillInStackTrace", desc := "()Ljava/lang/Throwable;" } : Jvm.MethodName) ({ cls := "java/lang/Throwable", name := "fillInStackTrace", desc := "()Ljava/lang/Throwable;" } : Jvm.MethodName)) ∈ lw_all := lw_g (lw_at lw_m1 234 rfl) rfl
theorem q360 : (Jvm.Cond.lays "FeatherYard$Wrong" "java/lang/Throwable" "cause" "Ljava/lang/Throwable;") ∈ lw_all := lw_g (lw_at lw_m1 235 rfl) rfl
theorem q362 : (Jvm.Cond.lays "FeatherYard$Wrong" "java/lang/Throwable" "stackTrace" "[Ljava/lang/StackTraceElement;") ∈ lw_all := lw_g (lw_at lw_m1 237 rfl) rfl
theorem q364 : (Jvm.Cond.lays "FeatherYard$Wrong" "java/lang/Throwable" "suppressedExceptions" "Ljava/util/List;") ∈ lw_all := lw_g (lw_at lw_m1 239 rfl) rfl
theorem q366 : (Jvm.Cond.lays "FeatherYard$Wrong" "java/lang/Throwable" "detailMessage" "Ljava/lang/String;") ∈ lw_all := lw_g (lw_at lw_m2 1 rfl) rfl
theorem q368 : (Jvm.Cond.lays "FeatherYard$Wrong" "java/lang/Throwable" "backtrace" "Ljava/lang/Object;") ∈ lw_all := lw_g (lw_at lw_m2 3 rfl) rfl
theorem q395 : (Jvm.Cond.instanceMethod ({ cls := "FeatherYard$Wrong", name := "<init>", desc := "()V" } : Jvm.MethodName)) ∈ lw_all := lw_g (lw_at lw_m2 30 rfl) rfl
theorem q396 : (Jvm.Cond.code ({ cls := "FeatherYard$Wrong", name := "<init>", desc := "()V" } : Jvm.MethodName) prog_16_method_1_code (1 : Nat) (Option.none : Option Jvm.ClassFile.FieldType)) ∈ lw_all := lw_g (lw_at lw_m2 31 rfl) rfl
theorem q397 : (Jvm.Cond.methodLink "FeatherYard$Wrong" (1 : Nat) ({ cls := "java/lang/RuntimeException", name := "<init>", desc := "(Ljava/lang/String;Ljava/lang/Throwable;ZZ)V" } : Jvm.MethodName)) ∈ lw_all := lw_g (lw_at lw_m2 32 rfl) rfl
theorem q413 : (Jvm.Cond.lays "FeatherYard$Wrong" "FeatherYard$Wrong" "place" "I") ∈ lw_all := lw_g (lw_at lw_m2 48 rfl) rfl
theorem q414 : (Jvm.Cond.soleField "FeatherYard$Wrong" "place") ∈ lw_all := lw_g (lw_at lw_m2 49 rfl) rfl
theorem q419 : (Jvm.Cond.lays "FeatherYard$Wrong" "java/lang/Throwable" "depth" "I") ∈ lw_all := lw_g (lw_at lw_m2 54 rfl) rfl
theorem q422 : (Jvm.Cond.superclass "FeatherYard$Wrong" "java/lang/RuntimeException") ∈ lw_all := lw_g (lw_at lw_m2 57 rfl) rfl
theorem q2121 : (Jvm.Cond.castable "FeatherYard$Wrong" "java/lang/Object") ∈ lw_tbl := lw_at lw_m9 76 rfl
theorem in_X6 : ∀ w ∈ wsX60, w ∈ lw_all := lw_in wsX60 [360, 362, 364, 366, 368, 419, 413] (by decide +kernel) (by decide +kernel)

/-! FeatherYard$Ways -/
set_option maxRecDepth 100000
def RX7 : String := "FeatherYard$Ways"
def TX7 : u_T := fun k => match k with
  | 0 => ("FeatherYard$Ways", "good", "[I", true)
  | 1 => ("FeatherYard$Ways", "lands", "[I", true)
  | 2 => ("FeatherYard$Ways", "landed", "[I", true)
  | 3 => ("FeatherYard$Ways", "here", "[I", true)
  | 4 => ("FeatherYard$Ways", "next", "[I", true)
  | 5 => ("FeatherYard$Ways", "off", "I", false)
  | 6 => ("FeatherYard$Ways", "air", "I", false)
  | _ => ("FeatherYard$Ways", "this$0", "LFeatherYard;", true)
def tyX7 : Nat → FieldType := fun k => match k with
  | 0 => .array .int
  | 1 => .array .int
  | 2 => .array .int
  | 3 => .array .int
  | 4 => .array .int
  | 5 => .int
  | 6 => .int
  | _ => .object "FeatherYard"
abbrev wsX70 : List Cond := u_ws RX7 TX7 8
theorem nmX7 : ∀ a, a < 8 → ∀ b, b < 8 → a ≠ b → (TX7 a).2.1 ≠ (TX7 b).2.1 := by decide +kernel
theorem tyX7_ok : ∀ k, k < 8 → parseFieldDescriptor (TX7 k).2.2.1 = some (tyX7 k) := by decide +kernel
abbrev cX7_init : ByteArray := prog_15_method_1_code
def yX7_init : MethodName := ⟨RX7, "<init>", "(LFeatherYard;)V"⟩
def dkwX7_init_2 : List UInt8 := [17, 0, 208, 188, 10, 181, 0, 28, 177]
abbrev dktX7_init_2 : List UInt8 := dkwX7_init_2 ++ []
def dkwX7_init_1 : List UInt8 := [181, 0, 19, 42, 17, 0, 128, 188, 10, 181, 0, 22, 42, 17, 0, 208, 188, 10, 181, 0, 25, 42]
abbrev dktX7_init_1 : List UInt8 := dkwX7_init_1 ++ dktX7_init_2
def dkwX7_init_0 : List UInt8 := [42, 43, 181, 0, 3, 42, 183, 0, 9, 42, 16, 9, 188, 10, 181, 0, 15, 42, 16, 16, 188, 10]
abbrev dktX7_init_0 : List UInt8 := dkwX7_init_0 ++ dktX7_init_1
theorem dksX7_init_0 : cX7_init.data.toList.drop 0 = dktX7_init_0 := by decide +kernel
theorem dksX7_init_1 : cX7_init.data.toList.drop 22 = dktX7_init_1 := dk_seg dksX7_init_0 22 rfl rfl
theorem dksX7_init_2 : cX7_init.data.toList.drop 44 = dktX7_init_2 := dk_seg dksX7_init_1 22 rfl rfl
theorem dX7_init_0 : decode cX7_init 0 = .ok (.aload_n 0, 1) := dk_42 (dk_at dksX7_init_0 0 rfl rfl)
theorem dX7_init_1 : decode cX7_init 1 = .ok (.aload_n 1, 1) := dk_43 (dk_at dksX7_init_0 1 rfl rfl)
theorem dX7_init_2 : decode cX7_init 2 = .ok (.putfield 3, 3) := dk_181 0 3 (dk_at dksX7_init_0 2 rfl rfl)
theorem dX7_init_5 : decode cX7_init 5 = .ok (.aload_n 0, 1) := dk_42 (dk_at dksX7_init_0 5 rfl rfl)
theorem dX7_init_6 : decode cX7_init 6 = .ok (.invokespecial 9, 3) := dk_183 0 9 (dk_at dksX7_init_0 6 rfl rfl)
theorem dX7_init_9 : decode cX7_init 9 = .ok (.aload_n 0, 1) := dk_42 (dk_at dksX7_init_0 9 rfl rfl)
theorem dX7_init_10 : decode cX7_init 10 = .ok (.bipush 9, 2) := dk_16 9 (dk_at dksX7_init_0 10 rfl rfl)
theorem dX7_init_12 : decode cX7_init 12 = .ok (.newarray .int, 2) := dk_188_10 (dk_at dksX7_init_0 12 rfl rfl)
theorem dX7_init_14 : decode cX7_init 14 = .ok (.putfield 15, 3) := dk_181 0 15 (dk_at dksX7_init_0 14 rfl rfl)
theorem dX7_init_17 : decode cX7_init 17 = .ok (.aload_n 0, 1) := dk_42 (dk_at dksX7_init_0 17 rfl rfl)
theorem dX7_init_18 : decode cX7_init 18 = .ok (.bipush 16, 2) := dk_16 16 (dk_at dksX7_init_0 18 rfl rfl)
theorem dX7_init_20 : decode cX7_init 20 = .ok (.newarray .int, 2) := dk_188_10 (dk_at dksX7_init_0 20 rfl rfl)
theorem dX7_init_22 : decode cX7_init 22 = .ok (.putfield 19, 3) := dk_181 0 19 (dk_at dksX7_init_1 0 rfl rfl)
theorem dX7_init_25 : decode cX7_init 25 = .ok (.aload_n 0, 1) := dk_42 (dk_at dksX7_init_1 3 rfl rfl)
theorem dX7_init_26 : decode cX7_init 26 = .ok (.sipush 128, 3) := dk_17 0 128 (dk_at dksX7_init_1 4 rfl rfl)
theorem dX7_init_29 : decode cX7_init 29 = .ok (.newarray .int, 2) := dk_188_10 (dk_at dksX7_init_1 7 rfl rfl)
theorem dX7_init_31 : decode cX7_init 31 = .ok (.putfield 22, 3) := dk_181 0 22 (dk_at dksX7_init_1 9 rfl rfl)
theorem dX7_init_34 : decode cX7_init 34 = .ok (.aload_n 0, 1) := dk_42 (dk_at dksX7_init_1 12 rfl rfl)
theorem dX7_init_35 : decode cX7_init 35 = .ok (.sipush 208, 3) := dk_17 0 208 (dk_at dksX7_init_1 13 rfl rfl)
theorem dX7_init_38 : decode cX7_init 38 = .ok (.newarray .int, 2) := dk_188_10 (dk_at dksX7_init_1 16 rfl rfl)
theorem dX7_init_40 : decode cX7_init 40 = .ok (.putfield 25, 3) := dk_181 0 25 (dk_at dksX7_init_1 18 rfl rfl)
theorem dX7_init_43 : decode cX7_init 43 = .ok (.aload_n 0, 1) := dk_42 (dk_at dksX7_init_1 21 rfl rfl)
theorem dX7_init_44 : decode cX7_init 44 = .ok (.sipush 208, 3) := dk_17 0 208 (dk_at dksX7_init_2 0 rfl rfl)
theorem dX7_init_47 : decode cX7_init 47 = .ok (.newarray .int, 2) := dk_188_10 (dk_at dksX7_init_2 3 rfl rfl)
theorem dX7_init_49 : decode cX7_init 49 = .ok (.putfield 28, 3) := dk_181 0 28 (dk_at dksX7_init_2 5 rfl rfl)
theorem dX7_init_52 : decode cX7_init 52 = .ok (.return_, 1) := dk_177 (dk_at dksX7_init_2 8 rfl rfl)
abbrev cX7_counts : ByteArray := prog_15_method_2_code
def yX7_counts : MethodName := ⟨RX7, "counts", "(I)V"⟩
def dkwX7_counts_11 : List UInt8 := [180, 0, 35, 42, 180, 0, 25, 29, 46, 96, 181, 0, 35, 132, 3, 1, 167, 255, 229, 177]
abbrev dktX7_counts_11 : List UInt8 := dkwX7_counts_11 ++ []
def dkwX7_counts_10 : List UInt8 := [28, 6, 108, 61, 132, 3, 1, 167, 255, 151, 16, 16, 62, 29, 42, 180, 0, 25, 190, 162, 0, 24, 42, 89]
abbrev dktX7_counts_10 : List UInt8 := dkwX7_counts_10 ++ dktX7_counts_11
def dkwX7_counts_9 : List UInt8 := [132, 4, 1, 167, 255, 216, 42, 180, 0, 28, 3, 42, 180, 0, 25, 3, 42, 180, 0, 25, 190, 184, 0, 54]
abbrev dktX7_counts_9 : List UInt8 := dkwX7_counts_9 ++ dktX7_counts_10
def dkwX7_counts_8 : List UInt8 := [21, 4, 46, 158, 0, 20, 42, 27, 21, 4, 16, 16, 108, 21, 4, 16, 16, 112, 29, 28, 182, 0, 50]
abbrev dktX7_counts_8 : List UInt8 := dkwX7_counts_8 ++ dktX7_counts_9
def dkwX7_counts_7 : List UInt8 := [132, 4, 1, 167, 255, 235, 16, 16, 54, 4, 21, 4, 42, 180, 0, 25, 190, 162, 0, 36, 42, 180, 0, 25]
abbrev dktX7_counts_7 : List UInt8 := dkwX7_counts_7 ++ dktX7_counts_8
def dkwX7_counts_6 : List UInt8 := [162, 0, 105, 3, 54, 4, 21, 4, 42, 180, 0, 28, 190, 162, 0, 17, 42, 180, 0, 28, 21, 4, 3, 79]
abbrev dktX7_counts_6 : List UInt8 := dkwX7_counts_6 ++ dktX7_counts_7
def dkwX7_counts_5 : List UInt8 := [104, 42, 180, 0, 3, 180, 0, 38, 180, 0, 47, 96, 4, 79, 17, 8, 139, 61, 3, 62, 29, 16, 8]
abbrev dktX7_counts_5 : List UInt8 := dkwX7_counts_5 ++ dktX7_counts_6
def dkwX7_counts_4 : List UInt8 := [181, 0, 31, 42, 3, 181, 0, 35, 42, 180, 0, 25, 16, 16, 42, 180, 0, 3, 180, 0, 38, 180, 0, 42]
abbrev dktX7_counts_4 : List UInt8 := dkwX7_counts_4 ++ dktX7_counts_5
def dkwX7_counts_3 : List UInt8 := [180, 0, 22, 190, 162, 0, 16, 42, 180, 0, 22, 28, 3, 79, 132, 2, 1, 167, 255, 237, 42, 3]
abbrev dktX7_counts_3 : List UInt8 := dkwX7_counts_3 ++ dktX7_counts_4
def dkwX7_counts_2 : List UInt8 := [180, 0, 25, 190, 162, 0, 16, 42, 180, 0, 25, 28, 3, 79, 132, 2, 1, 167, 255, 237, 3, 61, 28, 42]
abbrev dktX7_counts_2 : List UInt8 := dkwX7_counts_2 ++ dktX7_counts_3
def dkwX7_counts_1 : List UInt8 := [16, 16, 162, 0, 16, 42, 180, 0, 19, 28, 3, 79, 132, 2, 1, 167, 255, 240, 3, 61, 28, 42]
abbrev dktX7_counts_1 : List UInt8 := dkwX7_counts_1 ++ dktX7_counts_2
def dkwX7_counts_0 : List UInt8 := [3, 61, 28, 16, 8, 163, 0, 16, 42, 180, 0, 15, 28, 3, 79, 132, 2, 1, 167, 255, 240, 3, 61, 28]
abbrev dktX7_counts_0 : List UInt8 := dkwX7_counts_0 ++ dktX7_counts_1
theorem dksX7_counts_0 : cX7_counts.data.toList.drop 0 = dktX7_counts_0 := by decide +kernel
theorem dksX7_counts_1 : cX7_counts.data.toList.drop 24 = dktX7_counts_1 := dk_seg dksX7_counts_0 24 rfl rfl
theorem dksX7_counts_2 : cX7_counts.data.toList.drop 46 = dktX7_counts_2 := dk_seg dksX7_counts_1 22 rfl rfl
theorem dksX7_counts_3 : cX7_counts.data.toList.drop 70 = dktX7_counts_3 := dk_seg dksX7_counts_2 24 rfl rfl
theorem dksX7_counts_4 : cX7_counts.data.toList.drop 92 = dktX7_counts_4 := dk_seg dksX7_counts_3 22 rfl rfl
theorem dksX7_counts_5 : cX7_counts.data.toList.drop 116 = dktX7_counts_5 := dk_seg dksX7_counts_4 24 rfl rfl
theorem dksX7_counts_6 : cX7_counts.data.toList.drop 139 = dktX7_counts_6 := dk_seg dksX7_counts_5 23 rfl rfl
theorem dksX7_counts_7 : cX7_counts.data.toList.drop 163 = dktX7_counts_7 := dk_seg dksX7_counts_6 24 rfl rfl
theorem dksX7_counts_8 : cX7_counts.data.toList.drop 187 = dktX7_counts_8 := dk_seg dksX7_counts_7 24 rfl rfl
theorem dksX7_counts_9 : cX7_counts.data.toList.drop 210 = dktX7_counts_9 := dk_seg dksX7_counts_8 23 rfl rfl
theorem dksX7_counts_10 : cX7_counts.data.toList.drop 234 = dktX7_counts_10 := dk_seg dksX7_counts_9 24 rfl rfl
theorem dksX7_counts_11 : cX7_counts.data.toList.drop 258 = dktX7_counts_11 := dk_seg dksX7_counts_10 24 rfl rfl
theorem dX7_counts_0 : decode cX7_counts 0 = .ok (.iconst 0, 1) := dk_3 (dk_at dksX7_counts_0 0 rfl rfl)
theorem dX7_counts_1 : decode cX7_counts 1 = .ok (.istore_n 2, 1) := dk_61 (dk_at dksX7_counts_0 1 rfl rfl)
theorem dX7_counts_2 : decode cX7_counts 2 = .ok (.iload_n 2, 1) := dk_28 (dk_at dksX7_counts_0 2 rfl rfl)
theorem dX7_counts_3 : decode cX7_counts 3 = .ok (.bipush 8, 2) := dk_16 8 (dk_at dksX7_counts_0 3 rfl rfl)
theorem dX7_counts_5 : decode cX7_counts 5 = .ok (.if_icmp .gt 16, 3) := dk_163 0 16 (dk_at dksX7_counts_0 5 rfl rfl)
theorem dX7_counts_8 : decode cX7_counts 8 = .ok (.aload_n 0, 1) := dk_42 (dk_at dksX7_counts_0 8 rfl rfl)
theorem dX7_counts_9 : decode cX7_counts 9 = .ok (.getfield 15, 3) := dk_180 0 15 (dk_at dksX7_counts_0 9 rfl rfl)
theorem dX7_counts_12 : decode cX7_counts 12 = .ok (.iload_n 2, 1) := dk_28 (dk_at dksX7_counts_0 12 rfl rfl)
theorem dX7_counts_13 : decode cX7_counts 13 = .ok (.iconst 0, 1) := dk_3 (dk_at dksX7_counts_0 13 rfl rfl)
theorem dX7_counts_14 : decode cX7_counts 14 = .ok (.iastore, 1) := dk_79 (dk_at dksX7_counts_0 14 rfl rfl)
theorem dX7_counts_15 : decode cX7_counts 15 = .ok (.iinc 2 1, 3) := dk_132 2 1 (dk_at dksX7_counts_0 15 rfl rfl)
theorem dX7_counts_18 : decode cX7_counts 18 = .ok (.goto (-16), 3) := dk_167 255 240 (dk_at dksX7_counts_0 18 rfl rfl)
theorem dX7_counts_21 : decode cX7_counts 21 = .ok (.iconst 0, 1) := dk_3 (dk_at dksX7_counts_0 21 rfl rfl)
theorem dX7_counts_22 : decode cX7_counts 22 = .ok (.istore_n 2, 1) := dk_61 (dk_at dksX7_counts_0 22 rfl rfl)
theorem dX7_counts_23 : decode cX7_counts 23 = .ok (.iload_n 2, 1) := dk_28 (dk_at dksX7_counts_0 23 rfl rfl)
theorem dX7_counts_24 : decode cX7_counts 24 = .ok (.bipush 16, 2) := dk_16 16 (dk_at dksX7_counts_1 0 rfl rfl)
theorem dX7_counts_26 : decode cX7_counts 26 = .ok (.if_icmp .ge 16, 3) := dk_162 0 16 (dk_at dksX7_counts_1 2 rfl rfl)
theorem dX7_counts_29 : decode cX7_counts 29 = .ok (.aload_n 0, 1) := dk_42 (dk_at dksX7_counts_1 5 rfl rfl)
theorem dX7_counts_30 : decode cX7_counts 30 = .ok (.getfield 19, 3) := dk_180 0 19 (dk_at dksX7_counts_1 6 rfl rfl)
theorem dX7_counts_33 : decode cX7_counts 33 = .ok (.iload_n 2, 1) := dk_28 (dk_at dksX7_counts_1 9 rfl rfl)
theorem dX7_counts_34 : decode cX7_counts 34 = .ok (.iconst 0, 1) := dk_3 (dk_at dksX7_counts_1 10 rfl rfl)
theorem dX7_counts_35 : decode cX7_counts 35 = .ok (.iastore, 1) := dk_79 (dk_at dksX7_counts_1 11 rfl rfl)
theorem dX7_counts_36 : decode cX7_counts 36 = .ok (.iinc 2 1, 3) := dk_132 2 1 (dk_at dksX7_counts_1 12 rfl rfl)
theorem dX7_counts_39 : decode cX7_counts 39 = .ok (.goto (-16), 3) := dk_167 255 240 (dk_at dksX7_counts_1 15 rfl rfl)
theorem dX7_counts_42 : decode cX7_counts 42 = .ok (.iconst 0, 1) := dk_3 (dk_at dksX7_counts_1 18 rfl rfl)
theorem dX7_counts_43 : decode cX7_counts 43 = .ok (.istore_n 2, 1) := dk_61 (dk_at dksX7_counts_1 19 rfl rfl)
theorem dX7_counts_44 : decode cX7_counts 44 = .ok (.iload_n 2, 1) := dk_28 (dk_at dksX7_counts_1 20 rfl rfl)
theorem dX7_counts_45 : decode cX7_counts 45 = .ok (.aload_n 0, 1) := dk_42 (dk_at dksX7_counts_1 21 rfl rfl)
theorem dX7_counts_46 : decode cX7_counts 46 = .ok (.getfield 25, 3) := dk_180 0 25 (dk_at dksX7_counts_2 0 rfl rfl)
theorem dX7_counts_49 : decode cX7_counts 49 = .ok (.arraylength, 1) := dk_190 (dk_at dksX7_counts_2 3 rfl rfl)
theorem dX7_counts_50 : decode cX7_counts 50 = .ok (.if_icmp .ge 16, 3) := dk_162 0 16 (dk_at dksX7_counts_2 4 rfl rfl)
theorem dX7_counts_53 : decode cX7_counts 53 = .ok (.aload_n 0, 1) := dk_42 (dk_at dksX7_counts_2 7 rfl rfl)
theorem dX7_counts_54 : decode cX7_counts 54 = .ok (.getfield 25, 3) := dk_180 0 25 (dk_at dksX7_counts_2 8 rfl rfl)
theorem dX7_counts_57 : decode cX7_counts 57 = .ok (.iload_n 2, 1) := dk_28 (dk_at dksX7_counts_2 11 rfl rfl)
theorem dX7_counts_58 : decode cX7_counts 58 = .ok (.iconst 0, 1) := dk_3 (dk_at dksX7_counts_2 12 rfl rfl)
theorem dX7_counts_59 : decode cX7_counts 59 = .ok (.iastore, 1) := dk_79 (dk_at dksX7_counts_2 13 rfl rfl)
theorem dX7_counts_60 : decode cX7_counts 60 = .ok (.iinc 2 1, 3) := dk_132 2 1 (dk_at dksX7_counts_2 14 rfl rfl)
theorem dX7_counts_63 : decode cX7_counts 63 = .ok (.goto (-19), 3) := dk_167 255 237 (dk_at dksX7_counts_2 17 rfl rfl)
theorem dX7_counts_66 : decode cX7_counts 66 = .ok (.iconst 0, 1) := dk_3 (dk_at dksX7_counts_2 20 rfl rfl)
theorem dX7_counts_67 : decode cX7_counts 67 = .ok (.istore_n 2, 1) := dk_61 (dk_at dksX7_counts_2 21 rfl rfl)
theorem dX7_counts_68 : decode cX7_counts 68 = .ok (.iload_n 2, 1) := dk_28 (dk_at dksX7_counts_2 22 rfl rfl)
theorem dX7_counts_69 : decode cX7_counts 69 = .ok (.aload_n 0, 1) := dk_42 (dk_at dksX7_counts_2 23 rfl rfl)
theorem dX7_counts_70 : decode cX7_counts 70 = .ok (.getfield 22, 3) := dk_180 0 22 (dk_at dksX7_counts_3 0 rfl rfl)
theorem dX7_counts_73 : decode cX7_counts 73 = .ok (.arraylength, 1) := dk_190 (dk_at dksX7_counts_3 3 rfl rfl)
theorem dX7_counts_74 : decode cX7_counts 74 = .ok (.if_icmp .ge 16, 3) := dk_162 0 16 (dk_at dksX7_counts_3 4 rfl rfl)
theorem dX7_counts_77 : decode cX7_counts 77 = .ok (.aload_n 0, 1) := dk_42 (dk_at dksX7_counts_3 7 rfl rfl)
theorem dX7_counts_78 : decode cX7_counts 78 = .ok (.getfield 22, 3) := dk_180 0 22 (dk_at dksX7_counts_3 8 rfl rfl)
theorem dX7_counts_81 : decode cX7_counts 81 = .ok (.iload_n 2, 1) := dk_28 (dk_at dksX7_counts_3 11 rfl rfl)
theorem dX7_counts_82 : decode cX7_counts 82 = .ok (.iconst 0, 1) := dk_3 (dk_at dksX7_counts_3 12 rfl rfl)
theorem dX7_counts_83 : decode cX7_counts 83 = .ok (.iastore, 1) := dk_79 (dk_at dksX7_counts_3 13 rfl rfl)
theorem dX7_counts_84 : decode cX7_counts 84 = .ok (.iinc 2 1, 3) := dk_132 2 1 (dk_at dksX7_counts_3 14 rfl rfl)
theorem dX7_counts_87 : decode cX7_counts 87 = .ok (.goto (-19), 3) := dk_167 255 237 (dk_at dksX7_counts_3 17 rfl rfl)
theorem dX7_counts_90 : decode cX7_counts 90 = .ok (.aload_n 0, 1) := dk_42 (dk_at dksX7_counts_3 20 rfl rfl)
theorem dX7_counts_91 : decode cX7_counts 91 = .ok (.iconst 0, 1) := dk_3 (dk_at dksX7_counts_3 21 rfl rfl)
theorem dX7_counts_92 : decode cX7_counts 92 = .ok (.putfield 31, 3) := dk_181 0 31 (dk_at dksX7_counts_4 0 rfl rfl)
theorem dX7_counts_95 : decode cX7_counts 95 = .ok (.aload_n 0, 1) := dk_42 (dk_at dksX7_counts_4 3 rfl rfl)
theorem dX7_counts_96 : decode cX7_counts 96 = .ok (.iconst 0, 1) := dk_3 (dk_at dksX7_counts_4 4 rfl rfl)
theorem dX7_counts_97 : decode cX7_counts 97 = .ok (.putfield 35, 3) := dk_181 0 35 (dk_at dksX7_counts_4 5 rfl rfl)
theorem dX7_counts_100 : decode cX7_counts 100 = .ok (.aload_n 0, 1) := dk_42 (dk_at dksX7_counts_4 8 rfl rfl)
theorem dX7_counts_101 : decode cX7_counts 101 = .ok (.getfield 25, 3) := dk_180 0 25 (dk_at dksX7_counts_4 9 rfl rfl)
theorem dX7_counts_104 : decode cX7_counts 104 = .ok (.bipush 16, 2) := dk_16 16 (dk_at dksX7_counts_4 12 rfl rfl)
theorem dX7_counts_106 : decode cX7_counts 106 = .ok (.aload_n 0, 1) := dk_42 (dk_at dksX7_counts_4 14 rfl rfl)
theorem dX7_counts_107 : decode cX7_counts 107 = .ok (.getfield 3, 3) := dk_180 0 3 (dk_at dksX7_counts_4 15 rfl rfl)
theorem dX7_counts_110 : decode cX7_counts 110 = .ok (.getfield 38, 3) := dk_180 0 38 (dk_at dksX7_counts_4 18 rfl rfl)
theorem dX7_counts_113 : decode cX7_counts 113 = .ok (.getfield 42, 3) := dk_180 0 42 (dk_at dksX7_counts_4 21 rfl rfl)
theorem dX7_counts_116 : decode cX7_counts 116 = .ok (.imul, 1) := dk_104 (dk_at dksX7_counts_5 0 rfl rfl)
theorem dX7_counts_117 : decode cX7_counts 117 = .ok (.aload_n 0, 1) := dk_42 (dk_at dksX7_counts_5 1 rfl rfl)
theorem dX7_counts_118 : decode cX7_counts 118 = .ok (.getfield 3, 3) := dk_180 0 3 (dk_at dksX7_counts_5 2 rfl rfl)
theorem dX7_counts_121 : decode cX7_counts 121 = .ok (.getfield 38, 3) := dk_180 0 38 (dk_at dksX7_counts_5 5 rfl rfl)
theorem dX7_counts_124 : decode cX7_counts 124 = .ok (.getfield 47, 3) := dk_180 0 47 (dk_at dksX7_counts_5 8 rfl rfl)
theorem dX7_counts_127 : decode cX7_counts 127 = .ok (.iadd, 1) := dk_96 (dk_at dksX7_counts_5 11 rfl rfl)
theorem dX7_counts_128 : decode cX7_counts 128 = .ok (.iconst 1, 1) := dk_4 (dk_at dksX7_counts_5 12 rfl rfl)
theorem dX7_counts_129 : decode cX7_counts 129 = .ok (.iastore, 1) := dk_79 (dk_at dksX7_counts_5 13 rfl rfl)
theorem dX7_counts_130 : decode cX7_counts 130 = .ok (.sipush 2187, 3) := dk_17 8 139 (dk_at dksX7_counts_5 14 rfl rfl)
theorem dX7_counts_133 : decode cX7_counts 133 = .ok (.istore_n 2, 1) := dk_61 (dk_at dksX7_counts_5 17 rfl rfl)
theorem dX7_counts_134 : decode cX7_counts 134 = .ok (.iconst 0, 1) := dk_3 (dk_at dksX7_counts_5 18 rfl rfl)
theorem dX7_counts_135 : decode cX7_counts 135 = .ok (.istore_n 3, 1) := dk_62 (dk_at dksX7_counts_5 19 rfl rfl)
theorem dX7_counts_136 : decode cX7_counts 136 = .ok (.iload_n 3, 1) := dk_29 (dk_at dksX7_counts_5 20 rfl rfl)
theorem dX7_counts_137 : decode cX7_counts 137 = .ok (.bipush 8, 2) := dk_16 8 (dk_at dksX7_counts_5 21 rfl rfl)
theorem dX7_counts_139 : decode cX7_counts 139 = .ok (.if_icmp .ge 105, 3) := dk_162 0 105 (dk_at dksX7_counts_6 0 rfl rfl)
theorem dX7_counts_142 : decode cX7_counts 142 = .ok (.iconst 0, 1) := dk_3 (dk_at dksX7_counts_6 3 rfl rfl)
theorem dX7_counts_143 : decode cX7_counts 143 = .ok (.istore 4, 2) := dk_54 4 (dk_at dksX7_counts_6 4 rfl rfl)
theorem dX7_counts_145 : decode cX7_counts 145 = .ok (.iload 4, 2) := dk_21 4 (dk_at dksX7_counts_6 6 rfl rfl)
theorem dX7_counts_147 : decode cX7_counts 147 = .ok (.aload_n 0, 1) := dk_42 (dk_at dksX7_counts_6 8 rfl rfl)
theorem dX7_counts_148 : decode cX7_counts 148 = .ok (.getfield 28, 3) := dk_180 0 28 (dk_at dksX7_counts_6 9 rfl rfl)
theorem dX7_counts_151 : decode cX7_counts 151 = .ok (.arraylength, 1) := dk_190 (dk_at dksX7_counts_6 12 rfl rfl)
theorem dX7_counts_152 : decode cX7_counts 152 = .ok (.if_icmp .ge 17, 3) := dk_162 0 17 (dk_at dksX7_counts_6 13 rfl rfl)
theorem dX7_counts_155 : decode cX7_counts 155 = .ok (.aload_n 0, 1) := dk_42 (dk_at dksX7_counts_6 16 rfl rfl)
theorem dX7_counts_156 : decode cX7_counts 156 = .ok (.getfield 28, 3) := dk_180 0 28 (dk_at dksX7_counts_6 17 rfl rfl)
theorem dX7_counts_159 : decode cX7_counts 159 = .ok (.iload 4, 2) := dk_21 4 (dk_at dksX7_counts_6 20 rfl rfl)
theorem dX7_counts_161 : decode cX7_counts 161 = .ok (.iconst 0, 1) := dk_3 (dk_at dksX7_counts_6 22 rfl rfl)
theorem dX7_counts_162 : decode cX7_counts 162 = .ok (.iastore, 1) := dk_79 (dk_at dksX7_counts_6 23 rfl rfl)
theorem dX7_counts_163 : decode cX7_counts 163 = .ok (.iinc 4 1, 3) := dk_132 4 1 (dk_at dksX7_counts_7 0 rfl rfl)
theorem dX7_counts_166 : decode cX7_counts 166 = .ok (.goto (-21), 3) := dk_167 255 235 (dk_at dksX7_counts_7 3 rfl rfl)
theorem dX7_counts_169 : decode cX7_counts 169 = .ok (.bipush 16, 2) := dk_16 16 (dk_at dksX7_counts_7 6 rfl rfl)
theorem dX7_counts_171 : decode cX7_counts 171 = .ok (.istore 4, 2) := dk_54 4 (dk_at dksX7_counts_7 8 rfl rfl)
theorem dX7_counts_173 : decode cX7_counts 173 = .ok (.iload 4, 2) := dk_21 4 (dk_at dksX7_counts_7 10 rfl rfl)
theorem dX7_counts_175 : decode cX7_counts 175 = .ok (.aload_n 0, 1) := dk_42 (dk_at dksX7_counts_7 12 rfl rfl)
theorem dX7_counts_176 : decode cX7_counts 176 = .ok (.getfield 25, 3) := dk_180 0 25 (dk_at dksX7_counts_7 13 rfl rfl)
theorem dX7_counts_179 : decode cX7_counts 179 = .ok (.arraylength, 1) := dk_190 (dk_at dksX7_counts_7 16 rfl rfl)
theorem dX7_counts_180 : decode cX7_counts 180 = .ok (.if_icmp .ge 36, 3) := dk_162 0 36 (dk_at dksX7_counts_7 17 rfl rfl)
theorem dX7_counts_183 : decode cX7_counts 183 = .ok (.aload_n 0, 1) := dk_42 (dk_at dksX7_counts_7 20 rfl rfl)
theorem dX7_counts_184 : decode cX7_counts 184 = .ok (.getfield 25, 3) := dk_180 0 25 (dk_at dksX7_counts_7 21 rfl rfl)
theorem dX7_counts_187 : decode cX7_counts 187 = .ok (.iload 4, 2) := dk_21 4 (dk_at dksX7_counts_8 0 rfl rfl)
theorem dX7_counts_189 : decode cX7_counts 189 = .ok (.iaload, 1) := dk_46 (dk_at dksX7_counts_8 2 rfl rfl)
theorem dX7_counts_190 : decode cX7_counts 190 = .ok (.ifCond .le 20, 3) := dk_158 0 20 (dk_at dksX7_counts_8 3 rfl rfl)
theorem dX7_counts_193 : decode cX7_counts 193 = .ok (.aload_n 0, 1) := dk_42 (dk_at dksX7_counts_8 6 rfl rfl)
theorem dX7_counts_194 : decode cX7_counts 194 = .ok (.iload_n 1, 1) := dk_27 (dk_at dksX7_counts_8 7 rfl rfl)
theorem dX7_counts_195 : decode cX7_counts 195 = .ok (.iload 4, 2) := dk_21 4 (dk_at dksX7_counts_8 8 rfl rfl)
theorem dX7_counts_197 : decode cX7_counts 197 = .ok (.bipush 16, 2) := dk_16 16 (dk_at dksX7_counts_8 10 rfl rfl)
theorem dX7_counts_199 : decode cX7_counts 199 = .ok (.idiv, 1) := dk_108 (dk_at dksX7_counts_8 12 rfl rfl)
theorem dX7_counts_200 : decode cX7_counts 200 = .ok (.iload 4, 2) := dk_21 4 (dk_at dksX7_counts_8 13 rfl rfl)
theorem dX7_counts_202 : decode cX7_counts 202 = .ok (.bipush 16, 2) := dk_16 16 (dk_at dksX7_counts_8 15 rfl rfl)
theorem dX7_counts_204 : decode cX7_counts 204 = .ok (.irem, 1) := dk_112 (dk_at dksX7_counts_8 17 rfl rfl)
theorem dX7_counts_205 : decode cX7_counts 205 = .ok (.iload_n 3, 1) := dk_29 (dk_at dksX7_counts_8 18 rfl rfl)
theorem dX7_counts_206 : decode cX7_counts 206 = .ok (.iload_n 2, 1) := dk_28 (dk_at dksX7_counts_8 19 rfl rfl)
theorem dX7_counts_207 : decode cX7_counts 207 = .ok (.invokevirtual 50, 3) := dk_182 0 50 (dk_at dksX7_counts_8 20 rfl rfl)
theorem dX7_counts_210 : decode cX7_counts 210 = .ok (.iinc 4 1, 3) := dk_132 4 1 (dk_at dksX7_counts_9 0 rfl rfl)
theorem dX7_counts_213 : decode cX7_counts 213 = .ok (.goto (-40), 3) := dk_167 255 216 (dk_at dksX7_counts_9 3 rfl rfl)
theorem dX7_counts_216 : decode cX7_counts 216 = .ok (.aload_n 0, 1) := dk_42 (dk_at dksX7_counts_9 6 rfl rfl)
theorem dX7_counts_217 : decode cX7_counts 217 = .ok (.getfield 28, 3) := dk_180 0 28 (dk_at dksX7_counts_9 7 rfl rfl)
theorem dX7_counts_220 : decode cX7_counts 220 = .ok (.iconst 0, 1) := dk_3 (dk_at dksX7_counts_9 10 rfl rfl)
theorem dX7_counts_221 : decode cX7_counts 221 = .ok (.aload_n 0, 1) := dk_42 (dk_at dksX7_counts_9 11 rfl rfl)
theorem dX7_counts_222 : decode cX7_counts 222 = .ok (.getfield 25, 3) := dk_180 0 25 (dk_at dksX7_counts_9 12 rfl rfl)
theorem dX7_counts_225 : decode cX7_counts 225 = .ok (.iconst 0, 1) := dk_3 (dk_at dksX7_counts_9 15 rfl rfl)
theorem dX7_counts_226 : decode cX7_counts 226 = .ok (.aload_n 0, 1) := dk_42 (dk_at dksX7_counts_9 16 rfl rfl)
theorem dX7_counts_227 : decode cX7_counts 227 = .ok (.getfield 25, 3) := dk_180 0 25 (dk_at dksX7_counts_9 17 rfl rfl)
theorem dX7_counts_230 : decode cX7_counts 230 = .ok (.arraylength, 1) := dk_190 (dk_at dksX7_counts_9 20 rfl rfl)
theorem dX7_counts_231 : decode cX7_counts 231 = .ok (.invokestatic 54, 3) := dk_184 0 54 (dk_at dksX7_counts_9 21 rfl rfl)
theorem dX7_counts_234 : decode cX7_counts 234 = .ok (.iload_n 2, 1) := dk_28 (dk_at dksX7_counts_10 0 rfl rfl)
theorem dX7_counts_235 : decode cX7_counts 235 = .ok (.iconst 3, 1) := dk_6 (dk_at dksX7_counts_10 1 rfl rfl)
theorem dX7_counts_236 : decode cX7_counts 236 = .ok (.idiv, 1) := dk_108 (dk_at dksX7_counts_10 2 rfl rfl)
theorem dX7_counts_237 : decode cX7_counts 237 = .ok (.istore_n 2, 1) := dk_61 (dk_at dksX7_counts_10 3 rfl rfl)
theorem dX7_counts_238 : decode cX7_counts 238 = .ok (.iinc 3 1, 3) := dk_132 3 1 (dk_at dksX7_counts_10 4 rfl rfl)
theorem dX7_counts_241 : decode cX7_counts 241 = .ok (.goto (-105), 3) := dk_167 255 151 (dk_at dksX7_counts_10 7 rfl rfl)
theorem dX7_counts_244 : decode cX7_counts 244 = .ok (.bipush 16, 2) := dk_16 16 (dk_at dksX7_counts_10 10 rfl rfl)
theorem dX7_counts_246 : decode cX7_counts 246 = .ok (.istore_n 3, 1) := dk_62 (dk_at dksX7_counts_10 12 rfl rfl)
theorem dX7_counts_247 : decode cX7_counts 247 = .ok (.iload_n 3, 1) := dk_29 (dk_at dksX7_counts_10 13 rfl rfl)
theorem dX7_counts_248 : decode cX7_counts 248 = .ok (.aload_n 0, 1) := dk_42 (dk_at dksX7_counts_10 14 rfl rfl)
theorem dX7_counts_249 : decode cX7_counts 249 = .ok (.getfield 25, 3) := dk_180 0 25 (dk_at dksX7_counts_10 15 rfl rfl)
theorem dX7_counts_252 : decode cX7_counts 252 = .ok (.arraylength, 1) := dk_190 (dk_at dksX7_counts_10 18 rfl rfl)
theorem dX7_counts_253 : decode cX7_counts 253 = .ok (.if_icmp .ge 24, 3) := dk_162 0 24 (dk_at dksX7_counts_10 19 rfl rfl)
theorem dX7_counts_256 : decode cX7_counts 256 = .ok (.aload_n 0, 1) := dk_42 (dk_at dksX7_counts_10 22 rfl rfl)
theorem dX7_counts_257 : decode cX7_counts 257 = .ok (.dup, 1) := dk_89 (dk_at dksX7_counts_10 23 rfl rfl)
theorem dX7_counts_258 : decode cX7_counts 258 = .ok (.getfield 35, 3) := dk_180 0 35 (dk_at dksX7_counts_11 0 rfl rfl)
theorem dX7_counts_261 : decode cX7_counts 261 = .ok (.aload_n 0, 1) := dk_42 (dk_at dksX7_counts_11 3 rfl rfl)
theorem dX7_counts_262 : decode cX7_counts 262 = .ok (.getfield 25, 3) := dk_180 0 25 (dk_at dksX7_counts_11 4 rfl rfl)
theorem dX7_counts_265 : decode cX7_counts 265 = .ok (.iload_n 3, 1) := dk_29 (dk_at dksX7_counts_11 7 rfl rfl)
theorem dX7_counts_266 : decode cX7_counts 266 = .ok (.iaload, 1) := dk_46 (dk_at dksX7_counts_11 8 rfl rfl)
theorem dX7_counts_267 : decode cX7_counts 267 = .ok (.iadd, 1) := dk_96 (dk_at dksX7_counts_11 9 rfl rfl)
theorem dX7_counts_268 : decode cX7_counts 268 = .ok (.putfield 35, 3) := dk_181 0 35 (dk_at dksX7_counts_11 10 rfl rfl)
theorem dX7_counts_271 : decode cX7_counts 271 = .ok (.iinc 3 1, 3) := dk_132 3 1 (dk_at dksX7_counts_11 13 rfl rfl)
theorem dX7_counts_274 : decode cX7_counts 274 = .ok (.goto (-27), 3) := dk_167 255 229 (dk_at dksX7_counts_11 16 rfl rfl)
theorem dX7_counts_277 : decode cX7_counts 277 = .ok (.return_, 1) := dk_177 (dk_at dksX7_counts_11 19 rfl rfl)
abbrev cX7_goes : ByteArray := prog_15_method_3_code
def yX7_goes : MethodName := ⟨RX7, "goes", "(IIIII)V"⟩
def dkwX7_goes_7 : List UInt8 := [177]
abbrev dktX7_goes_7 : List UInt8 := dkwX7_goes_7 ++ []
def dkwX7_goes_6 : List UInt8 := [96, 79, 167, 0, 16, 42, 21, 10, 21, 4, 21, 6, 21, 5, 104, 182, 0, 76, 132, 9, 1, 167, 255, 148]
abbrev dktX7_goes_6 : List UInt8 := dkwX7_goes_6 ++ dktX7_goes_7
def dkwX7_goes_5 : List UInt8 := [167, 0, 42, 21, 7, 158, 0, 24, 42, 180, 0, 28, 16, 16, 21, 7, 104, 21, 10, 96, 92, 46, 21, 6]
abbrev dktX7_goes_5 : List UInt8 := dkwX7_goes_5 ++ dktX7_goes_6
def dkwX7_goes_4 : List UInt8 := [155, 0, 10, 21, 10, 16, 16, 161, 0, 20, 42, 89, 180, 0, 31, 21, 6, 21, 5, 104, 96, 181, 0, 31]
abbrev dktX7_goes_4 : List UInt8 := dkwX7_goes_4 ++ dktX7_goes_5
def dkwX7_goes_3 : List UInt8 := [180, 0, 67, 27, 50, 180, 0, 71, 158, 0, 8, 21, 9, 167, 0, 4, 3, 96, 54, 10, 21, 10]
abbrev dktX7_goes_3 : List UInt8 := dkwX7_goes_3 ++ dktX7_goes_4
def dkwX7_goes_2 : List UInt8 := [54, 8, 2, 54, 9, 21, 9, 4, 163, 0, 108, 29, 21, 8, 96, 42, 180, 0, 3, 180, 0, 38]
abbrev dktX7_goes_2 : List UInt8 := dkwX7_goes_2 ++ dktX7_goes_3
def dkwX7_goes_1 : List UInt8 := [21, 4, 182, 0, 60, 100, 54, 7, 42, 180, 0, 3, 180, 0, 38, 27, 28, 29, 21, 4, 182, 0, 64]
abbrev dktX7_goes_1 : List UInt8 := dkwX7_goes_1 ++ dktX7_goes_2
def dkwX7_goes_0 : List UInt8 := [42, 180, 0, 25, 16, 16, 28, 104, 29, 96, 46, 54, 6, 28, 42, 180, 0, 3, 180, 0, 38, 27, 28, 29]
abbrev dktX7_goes_0 : List UInt8 := dkwX7_goes_0 ++ dktX7_goes_1
theorem dksX7_goes_0 : cX7_goes.data.toList.drop 0 = dktX7_goes_0 := by decide +kernel
theorem dksX7_goes_1 : cX7_goes.data.toList.drop 24 = dktX7_goes_1 := dk_seg dksX7_goes_0 24 rfl rfl
theorem dksX7_goes_2 : cX7_goes.data.toList.drop 47 = dktX7_goes_2 := dk_seg dksX7_goes_1 23 rfl rfl
theorem dksX7_goes_3 : cX7_goes.data.toList.drop 69 = dktX7_goes_3 := dk_seg dksX7_goes_2 22 rfl rfl
theorem dksX7_goes_4 : cX7_goes.data.toList.drop 91 = dktX7_goes_4 := dk_seg dksX7_goes_3 22 rfl rfl
theorem dksX7_goes_5 : cX7_goes.data.toList.drop 115 = dktX7_goes_5 := dk_seg dksX7_goes_4 24 rfl rfl
theorem dksX7_goes_6 : cX7_goes.data.toList.drop 139 = dktX7_goes_6 := dk_seg dksX7_goes_5 24 rfl rfl
theorem dksX7_goes_7 : cX7_goes.data.toList.drop 163 = dktX7_goes_7 := dk_seg dksX7_goes_6 24 rfl rfl
theorem dX7_goes_0 : decode cX7_goes 0 = .ok (.aload_n 0, 1) := dk_42 (dk_at dksX7_goes_0 0 rfl rfl)
theorem dX7_goes_1 : decode cX7_goes 1 = .ok (.getfield 25, 3) := dk_180 0 25 (dk_at dksX7_goes_0 1 rfl rfl)
theorem dX7_goes_4 : decode cX7_goes 4 = .ok (.bipush 16, 2) := dk_16 16 (dk_at dksX7_goes_0 4 rfl rfl)
theorem dX7_goes_6 : decode cX7_goes 6 = .ok (.iload_n 2, 1) := dk_28 (dk_at dksX7_goes_0 6 rfl rfl)
theorem dX7_goes_7 : decode cX7_goes 7 = .ok (.imul, 1) := dk_104 (dk_at dksX7_goes_0 7 rfl rfl)
theorem dX7_goes_8 : decode cX7_goes 8 = .ok (.iload_n 3, 1) := dk_29 (dk_at dksX7_goes_0 8 rfl rfl)
theorem dX7_goes_9 : decode cX7_goes 9 = .ok (.iadd, 1) := dk_96 (dk_at dksX7_goes_0 9 rfl rfl)
theorem dX7_goes_10 : decode cX7_goes 10 = .ok (.iaload, 1) := dk_46 (dk_at dksX7_goes_0 10 rfl rfl)
theorem dX7_goes_11 : decode cX7_goes 11 = .ok (.istore 6, 2) := dk_54 6 (dk_at dksX7_goes_0 11 rfl rfl)
theorem dX7_goes_13 : decode cX7_goes 13 = .ok (.iload_n 2, 1) := dk_28 (dk_at dksX7_goes_0 13 rfl rfl)
theorem dX7_goes_14 : decode cX7_goes 14 = .ok (.aload_n 0, 1) := dk_42 (dk_at dksX7_goes_0 14 rfl rfl)
theorem dX7_goes_15 : decode cX7_goes 15 = .ok (.getfield 3, 3) := dk_180 0 3 (dk_at dksX7_goes_0 15 rfl rfl)
theorem dX7_goes_18 : decode cX7_goes 18 = .ok (.getfield 38, 3) := dk_180 0 38 (dk_at dksX7_goes_0 18 rfl rfl)
theorem dX7_goes_21 : decode cX7_goes 21 = .ok (.iload_n 1, 1) := dk_27 (dk_at dksX7_goes_0 21 rfl rfl)
theorem dX7_goes_22 : decode cX7_goes 22 = .ok (.iload_n 2, 1) := dk_28 (dk_at dksX7_goes_0 22 rfl rfl)
theorem dX7_goes_23 : decode cX7_goes 23 = .ok (.iload_n 3, 1) := dk_29 (dk_at dksX7_goes_0 23 rfl rfl)
theorem dX7_goes_24 : decode cX7_goes 24 = .ok (.iload 4, 2) := dk_21 4 (dk_at dksX7_goes_1 0 rfl rfl)
theorem dX7_goes_26 : decode cX7_goes 26 = .ok (.invokevirtual 60, 3) := dk_182 0 60 (dk_at dksX7_goes_1 2 rfl rfl)
theorem dX7_goes_29 : decode cX7_goes 29 = .ok (.isub, 1) := dk_100 (dk_at dksX7_goes_1 5 rfl rfl)
theorem dX7_goes_30 : decode cX7_goes 30 = .ok (.istore 7, 2) := dk_54 7 (dk_at dksX7_goes_1 6 rfl rfl)
theorem dX7_goes_32 : decode cX7_goes 32 = .ok (.aload_n 0, 1) := dk_42 (dk_at dksX7_goes_1 8 rfl rfl)
theorem dX7_goes_33 : decode cX7_goes 33 = .ok (.getfield 3, 3) := dk_180 0 3 (dk_at dksX7_goes_1 9 rfl rfl)
theorem dX7_goes_36 : decode cX7_goes 36 = .ok (.getfield 38, 3) := dk_180 0 38 (dk_at dksX7_goes_1 12 rfl rfl)
theorem dX7_goes_39 : decode cX7_goes 39 = .ok (.iload_n 1, 1) := dk_27 (dk_at dksX7_goes_1 15 rfl rfl)
theorem dX7_goes_40 : decode cX7_goes 40 = .ok (.iload_n 2, 1) := dk_28 (dk_at dksX7_goes_1 16 rfl rfl)
theorem dX7_goes_41 : decode cX7_goes 41 = .ok (.iload_n 3, 1) := dk_29 (dk_at dksX7_goes_1 17 rfl rfl)
theorem dX7_goes_42 : decode cX7_goes 42 = .ok (.iload 4, 2) := dk_21 4 (dk_at dksX7_goes_1 18 rfl rfl)
theorem dX7_goes_44 : decode cX7_goes 44 = .ok (.invokevirtual 64, 3) := dk_182 0 64 (dk_at dksX7_goes_1 20 rfl rfl)
theorem dX7_goes_47 : decode cX7_goes 47 = .ok (.istore 8, 2) := dk_54 8 (dk_at dksX7_goes_2 0 rfl rfl)
theorem dX7_goes_49 : decode cX7_goes 49 = .ok (.iconst (-1), 1) := dk_2 (dk_at dksX7_goes_2 2 rfl rfl)
theorem dX7_goes_50 : decode cX7_goes 50 = .ok (.istore 9, 2) := dk_54 9 (dk_at dksX7_goes_2 3 rfl rfl)
theorem dX7_goes_52 : decode cX7_goes 52 = .ok (.iload 9, 2) := dk_21 9 (dk_at dksX7_goes_2 5 rfl rfl)
theorem dX7_goes_54 : decode cX7_goes 54 = .ok (.iconst 1, 1) := dk_4 (dk_at dksX7_goes_2 7 rfl rfl)
theorem dX7_goes_55 : decode cX7_goes 55 = .ok (.if_icmp .gt 108, 3) := dk_163 0 108 (dk_at dksX7_goes_2 8 rfl rfl)
theorem dX7_goes_58 : decode cX7_goes 58 = .ok (.iload_n 3, 1) := dk_29 (dk_at dksX7_goes_2 11 rfl rfl)
theorem dX7_goes_59 : decode cX7_goes 59 = .ok (.iload 8, 2) := dk_21 8 (dk_at dksX7_goes_2 12 rfl rfl)
theorem dX7_goes_61 : decode cX7_goes 61 = .ok (.iadd, 1) := dk_96 (dk_at dksX7_goes_2 14 rfl rfl)
theorem dX7_goes_62 : decode cX7_goes 62 = .ok (.aload_n 0, 1) := dk_42 (dk_at dksX7_goes_2 15 rfl rfl)
theorem dX7_goes_63 : decode cX7_goes 63 = .ok (.getfield 3, 3) := dk_180 0 3 (dk_at dksX7_goes_2 16 rfl rfl)
theorem dX7_goes_66 : decode cX7_goes 66 = .ok (.getfield 38, 3) := dk_180 0 38 (dk_at dksX7_goes_2 19 rfl rfl)
theorem dX7_goes_69 : decode cX7_goes 69 = .ok (.getfield 67, 3) := dk_180 0 67 (dk_at dksX7_goes_3 0 rfl rfl)
theorem dX7_goes_72 : decode cX7_goes 72 = .ok (.iload_n 1, 1) := dk_27 (dk_at dksX7_goes_3 3 rfl rfl)
theorem dX7_goes_73 : decode cX7_goes 73 = .ok (.aaload, 1) := dk_50 (dk_at dksX7_goes_3 4 rfl rfl)
theorem dX7_goes_74 : decode cX7_goes 74 = .ok (.getfield 71, 3) := dk_180 0 71 (dk_at dksX7_goes_3 5 rfl rfl)
theorem dX7_goes_77 : decode cX7_goes 77 = .ok (.ifCond .le 8, 3) := dk_158 0 8 (dk_at dksX7_goes_3 8 rfl rfl)
theorem dX7_goes_80 : decode cX7_goes 80 = .ok (.iload 9, 2) := dk_21 9 (dk_at dksX7_goes_3 11 rfl rfl)
theorem dX7_goes_82 : decode cX7_goes 82 = .ok (.goto 4, 3) := dk_167 0 4 (dk_at dksX7_goes_3 13 rfl rfl)
theorem dX7_goes_85 : decode cX7_goes 85 = .ok (.iconst 0, 1) := dk_3 (dk_at dksX7_goes_3 16 rfl rfl)
theorem dX7_goes_86 : decode cX7_goes 86 = .ok (.iadd, 1) := dk_96 (dk_at dksX7_goes_3 17 rfl rfl)
theorem dX7_goes_87 : decode cX7_goes 87 = .ok (.istore 10, 2) := dk_54 10 (dk_at dksX7_goes_3 18 rfl rfl)
theorem dX7_goes_89 : decode cX7_goes 89 = .ok (.iload 10, 2) := dk_21 10 (dk_at dksX7_goes_3 20 rfl rfl)
theorem dX7_goes_91 : decode cX7_goes 91 = .ok (.ifCond .lt 10, 3) := dk_155 0 10 (dk_at dksX7_goes_4 0 rfl rfl)
theorem dX7_goes_94 : decode cX7_goes 94 = .ok (.iload 10, 2) := dk_21 10 (dk_at dksX7_goes_4 3 rfl rfl)
theorem dX7_goes_96 : decode cX7_goes 96 = .ok (.bipush 16, 2) := dk_16 16 (dk_at dksX7_goes_4 5 rfl rfl)
theorem dX7_goes_98 : decode cX7_goes 98 = .ok (.if_icmp .lt 20, 3) := dk_161 0 20 (dk_at dksX7_goes_4 7 rfl rfl)
theorem dX7_goes_101 : decode cX7_goes 101 = .ok (.aload_n 0, 1) := dk_42 (dk_at dksX7_goes_4 10 rfl rfl)
theorem dX7_goes_102 : decode cX7_goes 102 = .ok (.dup, 1) := dk_89 (dk_at dksX7_goes_4 11 rfl rfl)
theorem dX7_goes_103 : decode cX7_goes 103 = .ok (.getfield 31, 3) := dk_180 0 31 (dk_at dksX7_goes_4 12 rfl rfl)
theorem dX7_goes_106 : decode cX7_goes 106 = .ok (.iload 6, 2) := dk_21 6 (dk_at dksX7_goes_4 15 rfl rfl)
theorem dX7_goes_108 : decode cX7_goes 108 = .ok (.iload 5, 2) := dk_21 5 (dk_at dksX7_goes_4 17 rfl rfl)
theorem dX7_goes_110 : decode cX7_goes 110 = .ok (.imul, 1) := dk_104 (dk_at dksX7_goes_4 19 rfl rfl)
theorem dX7_goes_111 : decode cX7_goes 111 = .ok (.iadd, 1) := dk_96 (dk_at dksX7_goes_4 20 rfl rfl)
theorem dX7_goes_112 : decode cX7_goes 112 = .ok (.putfield 31, 3) := dk_181 0 31 (dk_at dksX7_goes_4 21 rfl rfl)
theorem dX7_goes_115 : decode cX7_goes 115 = .ok (.goto 42, 3) := dk_167 0 42 (dk_at dksX7_goes_5 0 rfl rfl)
theorem dX7_goes_118 : decode cX7_goes 118 = .ok (.iload 7, 2) := dk_21 7 (dk_at dksX7_goes_5 3 rfl rfl)
theorem dX7_goes_120 : decode cX7_goes 120 = .ok (.ifCond .le 24, 3) := dk_158 0 24 (dk_at dksX7_goes_5 5 rfl rfl)
theorem dX7_goes_123 : decode cX7_goes 123 = .ok (.aload_n 0, 1) := dk_42 (dk_at dksX7_goes_5 8 rfl rfl)
theorem dX7_goes_124 : decode cX7_goes 124 = .ok (.getfield 28, 3) := dk_180 0 28 (dk_at dksX7_goes_5 9 rfl rfl)
theorem dX7_goes_127 : decode cX7_goes 127 = .ok (.bipush 16, 2) := dk_16 16 (dk_at dksX7_goes_5 12 rfl rfl)
theorem dX7_goes_129 : decode cX7_goes 129 = .ok (.iload 7, 2) := dk_21 7 (dk_at dksX7_goes_5 14 rfl rfl)
theorem dX7_goes_131 : decode cX7_goes 131 = .ok (.imul, 1) := dk_104 (dk_at dksX7_goes_5 16 rfl rfl)
theorem dX7_goes_132 : decode cX7_goes 132 = .ok (.iload 10, 2) := dk_21 10 (dk_at dksX7_goes_5 17 rfl rfl)
theorem dX7_goes_134 : decode cX7_goes 134 = .ok (.iadd, 1) := dk_96 (dk_at dksX7_goes_5 19 rfl rfl)
theorem dX7_goes_135 : decode cX7_goes 135 = .ok (.dup2, 1) := dk_92 (dk_at dksX7_goes_5 20 rfl rfl)
theorem dX7_goes_136 : decode cX7_goes 136 = .ok (.iaload, 1) := dk_46 (dk_at dksX7_goes_5 21 rfl rfl)
theorem dX7_goes_137 : decode cX7_goes 137 = .ok (.iload 6, 2) := dk_21 6 (dk_at dksX7_goes_5 22 rfl rfl)
theorem dX7_goes_139 : decode cX7_goes 139 = .ok (.iadd, 1) := dk_96 (dk_at dksX7_goes_6 0 rfl rfl)
theorem dX7_goes_140 : decode cX7_goes 140 = .ok (.iastore, 1) := dk_79 (dk_at dksX7_goes_6 1 rfl rfl)
theorem dX7_goes_141 : decode cX7_goes 141 = .ok (.goto 16, 3) := dk_167 0 16 (dk_at dksX7_goes_6 2 rfl rfl)
theorem dX7_goes_144 : decode cX7_goes 144 = .ok (.aload_n 0, 1) := dk_42 (dk_at dksX7_goes_6 5 rfl rfl)
theorem dX7_goes_145 : decode cX7_goes 145 = .ok (.iload 10, 2) := dk_21 10 (dk_at dksX7_goes_6 6 rfl rfl)
theorem dX7_goes_147 : decode cX7_goes 147 = .ok (.iload 4, 2) := dk_21 4 (dk_at dksX7_goes_6 8 rfl rfl)
theorem dX7_goes_149 : decode cX7_goes 149 = .ok (.iload 6, 2) := dk_21 6 (dk_at dksX7_goes_6 10 rfl rfl)
theorem dX7_goes_151 : decode cX7_goes 151 = .ok (.iload 5, 2) := dk_21 5 (dk_at dksX7_goes_6 12 rfl rfl)
theorem dX7_goes_153 : decode cX7_goes 153 = .ok (.imul, 1) := dk_104 (dk_at dksX7_goes_6 14 rfl rfl)
theorem dX7_goes_154 : decode cX7_goes 154 = .ok (.invokevirtual 76, 3) := dk_182 0 76 (dk_at dksX7_goes_6 15 rfl rfl)
theorem dX7_goes_157 : decode cX7_goes 157 = .ok (.iinc 9 1, 3) := dk_132 9 1 (dk_at dksX7_goes_6 18 rfl rfl)
theorem dX7_goes_160 : decode cX7_goes 160 = .ok (.goto (-108), 3) := dk_167 255 148 (dk_at dksX7_goes_6 21 rfl rfl)
theorem dX7_goes_163 : decode cX7_goes 163 = .ok (.return_, 1) := dk_177 (dk_at dksX7_goes_7 0 rfl rfl)
abbrev cX7_ends : ByteArray := prog_15_method_4_code
def yX7_ends : MethodName := ⟨RX7, "ends", "(III)V"⟩
def dkwX7_ends_2 : List UInt8 := [29, 96, 79, 177]
abbrev dktX7_ends_2 : List UInt8 := dkwX7_ends_2 ++ []
def dkwX7_ends_1 : List UInt8 := [79, 42, 180, 0, 3, 180, 0, 38, 27, 182, 0, 80, 153, 0, 15, 42, 180, 0, 15, 28, 4, 96, 92, 46]
abbrev dktX7_ends_1 : List UInt8 := dkwX7_ends_1 ++ dktX7_ends_2
def dkwX7_ends_0 : List UInt8 := [42, 180, 0, 19, 27, 92, 46, 29, 96, 79, 42, 180, 0, 22, 16, 16, 28, 104, 27, 96, 92, 46, 29, 96]
abbrev dktX7_ends_0 : List UInt8 := dkwX7_ends_0 ++ dktX7_ends_1
theorem dksX7_ends_0 : cX7_ends.data.toList.drop 0 = dktX7_ends_0 := by decide +kernel
theorem dksX7_ends_1 : cX7_ends.data.toList.drop 24 = dktX7_ends_1 := dk_seg dksX7_ends_0 24 rfl rfl
theorem dksX7_ends_2 : cX7_ends.data.toList.drop 48 = dktX7_ends_2 := dk_seg dksX7_ends_1 24 rfl rfl
theorem dX7_ends_0 : decode cX7_ends 0 = .ok (.aload_n 0, 1) := dk_42 (dk_at dksX7_ends_0 0 rfl rfl)
theorem dX7_ends_1 : decode cX7_ends 1 = .ok (.getfield 19, 3) := dk_180 0 19 (dk_at dksX7_ends_0 1 rfl rfl)
theorem dX7_ends_4 : decode cX7_ends 4 = .ok (.iload_n 1, 1) := dk_27 (dk_at dksX7_ends_0 4 rfl rfl)
theorem dX7_ends_5 : decode cX7_ends 5 = .ok (.dup2, 1) := dk_92 (dk_at dksX7_ends_0 5 rfl rfl)
theorem dX7_ends_6 : decode cX7_ends 6 = .ok (.iaload, 1) := dk_46 (dk_at dksX7_ends_0 6 rfl rfl)
theorem dX7_ends_7 : decode cX7_ends 7 = .ok (.iload_n 3, 1) := dk_29 (dk_at dksX7_ends_0 7 rfl rfl)
theorem dX7_ends_8 : decode cX7_ends 8 = .ok (.iadd, 1) := dk_96 (dk_at dksX7_ends_0 8 rfl rfl)
theorem dX7_ends_9 : decode cX7_ends 9 = .ok (.iastore, 1) := dk_79 (dk_at dksX7_ends_0 9 rfl rfl)
theorem dX7_ends_10 : decode cX7_ends 10 = .ok (.aload_n 0, 1) := dk_42 (dk_at dksX7_ends_0 10 rfl rfl)
theorem dX7_ends_11 : decode cX7_ends 11 = .ok (.getfield 22, 3) := dk_180 0 22 (dk_at dksX7_ends_0 11 rfl rfl)
theorem dX7_ends_14 : decode cX7_ends 14 = .ok (.bipush 16, 2) := dk_16 16 (dk_at dksX7_ends_0 14 rfl rfl)
theorem dX7_ends_16 : decode cX7_ends 16 = .ok (.iload_n 2, 1) := dk_28 (dk_at dksX7_ends_0 16 rfl rfl)
theorem dX7_ends_17 : decode cX7_ends 17 = .ok (.imul, 1) := dk_104 (dk_at dksX7_ends_0 17 rfl rfl)
theorem dX7_ends_18 : decode cX7_ends 18 = .ok (.iload_n 1, 1) := dk_27 (dk_at dksX7_ends_0 18 rfl rfl)
theorem dX7_ends_19 : decode cX7_ends 19 = .ok (.iadd, 1) := dk_96 (dk_at dksX7_ends_0 19 rfl rfl)
theorem dX7_ends_20 : decode cX7_ends 20 = .ok (.dup2, 1) := dk_92 (dk_at dksX7_ends_0 20 rfl rfl)
theorem dX7_ends_21 : decode cX7_ends 21 = .ok (.iaload, 1) := dk_46 (dk_at dksX7_ends_0 21 rfl rfl)
theorem dX7_ends_22 : decode cX7_ends 22 = .ok (.iload_n 3, 1) := dk_29 (dk_at dksX7_ends_0 22 rfl rfl)
theorem dX7_ends_23 : decode cX7_ends 23 = .ok (.iadd, 1) := dk_96 (dk_at dksX7_ends_0 23 rfl rfl)
theorem dX7_ends_24 : decode cX7_ends 24 = .ok (.iastore, 1) := dk_79 (dk_at dksX7_ends_1 0 rfl rfl)
theorem dX7_ends_25 : decode cX7_ends 25 = .ok (.aload_n 0, 1) := dk_42 (dk_at dksX7_ends_1 1 rfl rfl)
theorem dX7_ends_26 : decode cX7_ends 26 = .ok (.getfield 3, 3) := dk_180 0 3 (dk_at dksX7_ends_1 2 rfl rfl)
theorem dX7_ends_29 : decode cX7_ends 29 = .ok (.getfield 38, 3) := dk_180 0 38 (dk_at dksX7_ends_1 5 rfl rfl)
theorem dX7_ends_32 : decode cX7_ends 32 = .ok (.iload_n 1, 1) := dk_27 (dk_at dksX7_ends_1 8 rfl rfl)
theorem dX7_ends_33 : decode cX7_ends 33 = .ok (.invokevirtual 80, 3) := dk_182 0 80 (dk_at dksX7_ends_1 9 rfl rfl)
theorem dX7_ends_36 : decode cX7_ends 36 = .ok (.ifCond .eq 15, 3) := dk_153 0 15 (dk_at dksX7_ends_1 12 rfl rfl)
theorem dX7_ends_39 : decode cX7_ends 39 = .ok (.aload_n 0, 1) := dk_42 (dk_at dksX7_ends_1 15 rfl rfl)
theorem dX7_ends_40 : decode cX7_ends 40 = .ok (.getfield 15, 3) := dk_180 0 15 (dk_at dksX7_ends_1 16 rfl rfl)
theorem dX7_ends_43 : decode cX7_ends 43 = .ok (.iload_n 2, 1) := dk_28 (dk_at dksX7_ends_1 19 rfl rfl)
theorem dX7_ends_44 : decode cX7_ends 44 = .ok (.iconst 1, 1) := dk_4 (dk_at dksX7_ends_1 20 rfl rfl)
theorem dX7_ends_45 : decode cX7_ends 45 = .ok (.iadd, 1) := dk_96 (dk_at dksX7_ends_1 21 rfl rfl)
theorem dX7_ends_46 : decode cX7_ends 46 = .ok (.dup2, 1) := dk_92 (dk_at dksX7_ends_1 22 rfl rfl)
theorem dX7_ends_47 : decode cX7_ends 47 = .ok (.iaload, 1) := dk_46 (dk_at dksX7_ends_1 23 rfl rfl)
theorem dX7_ends_48 : decode cX7_ends 48 = .ok (.iload_n 3, 1) := dk_29 (dk_at dksX7_ends_2 0 rfl rfl)
theorem dX7_ends_49 : decode cX7_ends 49 = .ok (.iadd, 1) := dk_96 (dk_at dksX7_ends_2 1 rfl rfl)
theorem dX7_ends_50 : decode cX7_ends 50 = .ok (.iastore, 1) := dk_79 (dk_at dksX7_ends_2 2 rfl rfl)
theorem dX7_ends_51 : decode cX7_ends 51 = .ok (.return_, 1) := dk_177 (dk_at dksX7_ends_2 3 rfl rfl)
abbrev cX7_good : ByteArray := prog_15_method_5_code
def yX7_good : MethodName := ⟨RX7, "good", "()I"⟩
def dkwX7_good_1 : List UInt8 := [167, 255, 238, 27, 172]
abbrev dktX7_good_1 : List UInt8 := dkwX7_good_1 ++ []
def dkwX7_good_0 : List UInt8 := [3, 60, 4, 61, 28, 16, 8, 163, 0, 18, 27, 42, 180, 0, 15, 28, 46, 96, 60, 132, 2, 1]
abbrev dktX7_good_0 : List UInt8 := dkwX7_good_0 ++ dktX7_good_1
theorem dksX7_good_0 : cX7_good.data.toList.drop 0 = dktX7_good_0 := by decide +kernel
theorem dksX7_good_1 : cX7_good.data.toList.drop 22 = dktX7_good_1 := dk_seg dksX7_good_0 22 rfl rfl
theorem dX7_good_0 : decode cX7_good 0 = .ok (.iconst 0, 1) := dk_3 (dk_at dksX7_good_0 0 rfl rfl)
theorem dX7_good_1 : decode cX7_good 1 = .ok (.istore_n 1, 1) := dk_60 (dk_at dksX7_good_0 1 rfl rfl)
theorem dX7_good_2 : decode cX7_good 2 = .ok (.iconst 1, 1) := dk_4 (dk_at dksX7_good_0 2 rfl rfl)
theorem dX7_good_3 : decode cX7_good 3 = .ok (.istore_n 2, 1) := dk_61 (dk_at dksX7_good_0 3 rfl rfl)
theorem dX7_good_4 : decode cX7_good 4 = .ok (.iload_n 2, 1) := dk_28 (dk_at dksX7_good_0 4 rfl rfl)
theorem dX7_good_5 : decode cX7_good 5 = .ok (.bipush 8, 2) := dk_16 8 (dk_at dksX7_good_0 5 rfl rfl)
theorem dX7_good_7 : decode cX7_good 7 = .ok (.if_icmp .gt 18, 3) := dk_163 0 18 (dk_at dksX7_good_0 7 rfl rfl)
theorem dX7_good_10 : decode cX7_good 10 = .ok (.iload_n 1, 1) := dk_27 (dk_at dksX7_good_0 10 rfl rfl)
theorem dX7_good_11 : decode cX7_good 11 = .ok (.aload_n 0, 1) := dk_42 (dk_at dksX7_good_0 11 rfl rfl)
theorem dX7_good_12 : decode cX7_good 12 = .ok (.getfield 15, 3) := dk_180 0 15 (dk_at dksX7_good_0 12 rfl rfl)
theorem dX7_good_15 : decode cX7_good 15 = .ok (.iload_n 2, 1) := dk_28 (dk_at dksX7_good_0 15 rfl rfl)
theorem dX7_good_16 : decode cX7_good 16 = .ok (.iaload, 1) := dk_46 (dk_at dksX7_good_0 16 rfl rfl)
theorem dX7_good_17 : decode cX7_good 17 = .ok (.iadd, 1) := dk_96 (dk_at dksX7_good_0 17 rfl rfl)
theorem dX7_good_18 : decode cX7_good 18 = .ok (.istore_n 1, 1) := dk_60 (dk_at dksX7_good_0 18 rfl rfl)
theorem dX7_good_19 : decode cX7_good 19 = .ok (.iinc 2 1, 3) := dk_132 2 1 (dk_at dksX7_good_0 19 rfl rfl)
theorem dX7_good_22 : decode cX7_good 22 = .ok (.goto (-18), 3) := dk_167 255 238 (dk_at dksX7_good_1 0 rfl rfl)
theorem dX7_good_25 : decode cX7_good 25 = .ok (.iload_n 1, 1) := dk_27 (dk_at dksX7_good_1 3 rfl rfl)
theorem dX7_good_26 : decode cX7_good 26 = .ok (.ireturn, 1) := dk_172 (dk_at dksX7_good_1 4 rfl rfl)
theorem q135 : (Jvm.Cond.initialized "FeatherYard$Ways") ∈ lw_all := lw_g (lw_at lw_m1 10 rfl) rfl
theorem q205 : (Jvm.Cond.fieldLinkNest "FeatherYard$Ways" (71 : Nat) "FeatherYard$Bird" "light" "I" "FeatherYard") ∈ lw_tbl := lw_at lw_m1 80 rfl
theorem q256 : (Jvm.Cond.fieldLinkNest "FeatherYard$Ways" (67 : Nat) "FeatherYard$State" "birds" "[LFeatherYard$Bird;" "FeatherYard") ∈ lw_tbl := lw_at lw_m1 131 rfl
theorem q286 : (Jvm.Cond.fieldLinkNest "FeatherYard$Ways" (47 : Nat) "FeatherYard$State" "tower" "I" "FeatherYard") ∈ lw_tbl := lw_at lw_m1 161 rfl
theorem q290 : (Jvm.Cond.fieldLinkNest "FeatherYard$Ways" (42 : Nat) "FeatherYard$State" "top" "I" "FeatherYard") ∈ lw_tbl := lw_at lw_m1 165 rfl
theorem q460 : (Jvm.Cond.instantiable "FeatherYard$Ways" (8 : Nat)) ∈ lw_all := lw_g (lw_at lw_m2 95 rfl) rfl
theorem q462 : (Jvm.Cond.instanceMethod ({ cls := "FeatherYard$Ways", name := "<init>", desc := "(LFeatherYard;)V" } : Jvm.MethodName)) ∈ lw_all := lw_g (lw_at lw_m2 97 rfl) rfl
theorem q463 : (Jvm.Cond.code ({ cls := "FeatherYard$Ways", name := "<init>", desc := "(LFeatherYard;)V" } : Jvm.MethodName) prog_15_method_1_code (2 : Nat) (Option.none : Option Jvm.ClassFile.FieldType)) ∈ lw_all := lw_g (lw_at lw_m2 98 rfl) rfl
theorem q464 : (Jvm.Cond.methodLink "FeatherYard$Ways" (9 : Nat) ({ cls := "java/lang/Object", name := "<init>", desc := "()V" } : Jvm.MethodName)) ∈ lw_all := lw_g (lw_at lw_m2 99 rfl) rfl
theorem q465 : (Jvm.Cond.fieldLink "FeatherYard$Ways" (15 : Nat) "FeatherYard$Ways" "good" "[I") ∈ lw_all := lw_g (lw_at lw_m2 100 rfl) rfl
theorem q467 : (Jvm.Cond.fieldLink "FeatherYard$Ways" (19 : Nat) "FeatherYard$Ways" "lands" "[I") ∈ lw_all := lw_g (lw_at lw_m2 102 rfl) rfl
theorem q469 : (Jvm.Cond.fieldLink "FeatherYard$Ways" (22 : Nat) "FeatherYard$Ways" "landed" "[I") ∈ lw_all := lw_g (lw_at lw_m2 104 rfl) rfl
theorem q471 : (Jvm.Cond.fieldLink "FeatherYard$Ways" (25 : Nat) "FeatherYard$Ways" "here" "[I") ∈ lw_all := lw_g (lw_at lw_m2 106 rfl) rfl
theorem q472 : (Jvm.Cond.fieldLink "FeatherYard$Ways" (28 : Nat) "FeatherYard$Ways" "next" "[I") ∈ lw_all := lw_g (lw_at lw_m2 107 rfl) rfl
theorem q473 : (Jvm.Cond.fieldLink "FeatherYard$Ways" (31 : Nat) "FeatherYard$Ways" "off" "I") ∈ lw_all := lw_g (lw_at lw_m2 108 rfl) rfl
theorem q475 : (Jvm.Cond.fieldLink "FeatherYard$Ways" (35 : Nat) "FeatherYard$Ways" "air" "I") ∈ lw_all := lw_g (lw_at lw_m2 110 rfl) rfl
theorem q477 : (Jvm.Cond.fieldLink "FeatherYard$Ways" (3 : Nat) "FeatherYard$Ways" "this$0" "LFeatherYard;") ∈ lw_all := lw_g (lw_at lw_m2 112 rfl) rfl
theorem q478 : (Jvm.Cond.laysFinal "FeatherYard$Ways" "FeatherYard$Ways" "good" "[I") ∈ lw_all := lw_g (lw_at lw_m2 113 rfl) rfl
theorem q479 : (Jvm.Cond.soleField "FeatherYard$Ways" "good") ∈ lw_all := lw_g (lw_at lw_m2 114 rfl) rfl
theorem q480 : (Jvm.Cond.laysFinal "FeatherYard$Ways" "FeatherYard$Ways" "lands" "[I") ∈ lw_all := lw_g (lw_at lw_m2 115 rfl) rfl
theorem q481 : (Jvm.Cond.soleField "FeatherYard$Ways" "lands") ∈ lw_all := lw_g (lw_at lw_m2 116 rfl) rfl
theorem q482 : (Jvm.Cond.laysFinal "FeatherYard$Ways" "FeatherYard$Ways" "landed" "[I") ∈ lw_all := lw_g (lw_at lw_m2 117 rfl) rfl
theorem q483 : (Jvm.Cond.soleField "FeatherYard$Ways" "landed") ∈ lw_all := lw_g (lw_at lw_m2 118 rfl) rfl
theorem q484 : (Jvm.Cond.laysFinal "FeatherYard$Ways" "FeatherYard$Ways" "here" "[I") ∈ lw_all := lw_g (lw_at lw_m2 119 rfl) rfl
theorem q485 : (Jvm.Cond.soleField "FeatherYard$Ways" "here") ∈ lw_all := lw_g (lw_at lw_m2 120 rfl) rfl
theorem q486 : (Jvm.Cond.laysFinal "FeatherYard$Ways" "FeatherYard$Ways" "next" "[I") ∈ lw_all := lw_g (lw_at lw_m2 121 rfl) rfl
theorem q487 : (Jvm.Cond.soleField "FeatherYard$Ways" "next") ∈ lw_all := lw_g (lw_at lw_m2 122 rfl) rfl
theorem q488 : (Jvm.Cond.lays "FeatherYard$Ways" "FeatherYard$Ways" "off" "I") ∈ lw_all := lw_g (lw_at lw_m2 123 rfl) rfl
theorem q489 : (Jvm.Cond.soleField "FeatherYard$Ways" "off") ∈ lw_all := lw_g (lw_at lw_m2 124 rfl) rfl
theorem q490 : (Jvm.Cond.lays "FeatherYard$Ways" "FeatherYard$Ways" "air" "I") ∈ lw_all := lw_g (lw_at lw_m2 125 rfl) rfl
theorem q491 : (Jvm.Cond.soleField "FeatherYard$Ways" "air") ∈ lw_all := lw_g (lw_at lw_m2 126 rfl) rfl
theorem q492 : (Jvm.Cond.laysFinal "FeatherYard$Ways" "FeatherYard$Ways" "this$0" "LFeatherYard;") ∈ lw_all := lw_g (lw_at lw_m2 127 rfl) rfl
theorem q493 : (Jvm.Cond.soleField "FeatherYard$Ways" "this$0") ∈ lw_all := lw_g (lw_at lw_m2 128 rfl) rfl
theorem q494 : (Jvm.Cond.superclass "FeatherYard$Ways" "java/lang/Object") ∈ lw_all := lw_g (lw_at lw_m2 129 rfl) rfl
theorem q497 : (Jvm.Cond.fieldLinkNest "FeatherYard$Ways" (38 : Nat) "FeatherYard" "now" "LFeatherYard$State;" "FeatherYard") ∈ lw_tbl := lw_at lw_m2 132 rfl
theorem q570 : (Jvm.Cond.instanceMethod ({ cls := "FeatherYard$Ways", name := "counts", desc := "(I)V" } : Jvm.MethodName)) ∈ lw_all := lw_g (lw_at lw_m2 205 rfl) rfl
theorem q571 : (Jvm.Cond.selects "FeatherYard$Ways" ({ cls := "FeatherYard$Ways", name := "counts", desc := "(I)V" } : Jvm.MethodName) ({ cls := "FeatherYard$Ways", name := "counts", desc := "(I)V" } : Jvm.MethodName)) ∈ lw_all := lw_g (lw_at lw_m2 206 rfl) rfl
theorem q572 : (Jvm.Cond.code ({ cls := "FeatherYard$Ways", name := "counts", desc := "(I)V" } : Jvm.MethodName) prog_15_method_2_code (5 : Nat) (Option.none : Option Jvm.ClassFile.FieldType)) ∈ lw_all := lw_g (lw_at lw_m2 207 rfl) rfl
theorem q573 : (Jvm.Cond.methodLink "FeatherYard$Ways" (50 : Nat) ({ cls := "FeatherYard$Ways", name := "goes", desc := "(IIIII)V" } : Jvm.MethodName)) ∈ lw_all := lw_g (lw_at lw_m2 208 rfl) rfl
theorem q574 : (Jvm.Cond.privateMethod ({ cls := "FeatherYard$Ways", name := "goes", desc := "(IIIII)V" } : Jvm.MethodName)) ∈ lw_tbl := lw_at lw_m2 209 rfl
theorem q575 : (Jvm.Cond.instanceMethod ({ cls := "FeatherYard$Ways", name := "goes", desc := "(IIIII)V" } : Jvm.MethodName)) ∈ lw_all := lw_g (lw_at lw_m2 210 rfl) rfl
theorem q576 : (Jvm.Cond.code ({ cls := "FeatherYard$Ways", name := "goes", desc := "(IIIII)V" } : Jvm.MethodName) prog_15_method_3_code (11 : Nat) (Option.none : Option Jvm.ClassFile.FieldType)) ∈ lw_all := lw_g (lw_at lw_m2 211 rfl) rfl
theorem q577 : (Jvm.Cond.methodLink "FeatherYard$Ways" (60 : Nat) ({ cls := "FeatherYard$State", name := "sinks", desc := "(IIII)I" } : Jvm.MethodName)) ∈ lw_all := lw_g (lw_at lw_m2 212 rfl) rfl
theorem q645 : (Jvm.Cond.methodLink "FeatherYard$Ways" (64 : Nat) ({ cls := "FeatherYard$State", name := "carried", desc := "(IIII)I" } : Jvm.MethodName)) ∈ lw_all := lw_g (lw_at lw_m3 40 rfl) rfl
theorem q660 : (Jvm.Cond.methodLink "FeatherYard$Ways" (76 : Nat) ({ cls := "FeatherYard$Ways", name := "ends", desc := "(III)V" } : Jvm.MethodName)) ∈ lw_all := lw_g (lw_at lw_m3 55 rfl) rfl
theorem q661 : (Jvm.Cond.privateMethod ({ cls := "FeatherYard$Ways", name := "ends", desc := "(III)V" } : Jvm.MethodName)) ∈ lw_tbl := lw_at lw_m3 56 rfl
theorem q662 : (Jvm.Cond.instanceMethod ({ cls := "FeatherYard$Ways", name := "ends", desc := "(III)V" } : Jvm.MethodName)) ∈ lw_all := lw_g (lw_at lw_m3 57 rfl) rfl
theorem q663 : (Jvm.Cond.code ({ cls := "FeatherYard$Ways", name := "ends", desc := "(III)V" } : Jvm.MethodName) prog_15_method_4_code (4 : Nat) (Option.none : Option Jvm.ClassFile.FieldType)) ∈ lw_all := lw_g (lw_at lw_m3 58 rfl) rfl
theorem q664 : (Jvm.Cond.methodLink "FeatherYard$Ways" (80 : Nat) ({ cls := "FeatherYard$State", name := "isYard", desc := "(I)Z" } : Jvm.MethodName)) ∈ lw_all := lw_g (lw_at lw_m3 59 rfl) rfl
theorem q665 : (Jvm.Cond.methodLink "FeatherYard$Ways" (54 : Nat) ({ cls := "java/lang/System", name := "arraycopy", desc := "(Ljava/lang/Object;ILjava/lang/Object;II)V" } : Jvm.MethodName)) ∈ lw_all := lw_g (lw_at lw_m3 60 rfl) rfl
theorem q1266 : (Jvm.Cond.instanceMethod ({ cls := "FeatherYard$Ways", name := "good", desc := "()I" } : Jvm.MethodName)) ∈ lw_all := lw_g (lw_at lw_m5 181 rfl) rfl
theorem q1267 : (Jvm.Cond.selects "FeatherYard$Ways" ({ cls := "FeatherYard$Ways", name := "good", desc := "()I" } : Jvm.MethodName) ({ cls := "FeatherYard$Ways", name := "good", desc := "()I" } : Jvm.MethodName)) ∈ lw_all := lw_g (lw_at lw_m5 182 rfl) rfl
theorem q1268 : (Jvm.Cond.code ({ cls := "FeatherYard$Ways", name := "good", desc := "()I" } : Jvm.MethodName) prog_15_method_5_code (3 : Nat) (Option.some Jvm.ClassFile.FieldType.int)) ∈ lw_all := lw_g (lw_at lw_m5 183 rfl) rfl
theorem q2122 : (Jvm.Cond.castable "FeatherYard$Ways" "java/lang/Object") ∈ lw_tbl := lw_at lw_m9 77 rfl
theorem in_X7 : ∀ w ∈ wsX70, w ∈ lw_all := lw_in wsX70 [478, 480, 482, 484, 486, 488, 490, 492] (by decide +kernel) (by decide +kernel)

/-! FeatherYard$Chain -/
set_option maxRecDepth 100000
def RX9 : String := "FeatherYard$Chain"
def TX9 : u_T := fun k => match k with
  | 0 => ("FeatherYard$Chain", "one", "LFeatherYard$Cond;", true)
  | 1 => ("FeatherYard$Chain", "all", "Z", true)
  | _ => ("FeatherYard$Chain", "next", "LFeatherYard$Chain;", false)
def tyX9 : Nat → FieldType := fun k => match k with
  | 0 => .object "FeatherYard$Cond"
  | 1 => .boolean
  | _ => .object "FeatherYard$Chain"
abbrev wsX90 : List Cond := u_ws RX9 TX9 3
theorem nmX9 : ∀ a, a < 3 → ∀ b, b < 3 → a ≠ b → (TX9 a).2.1 ≠ (TX9 b).2.1 := by decide +kernel
theorem tyX9_ok : ∀ k, k < 3 → parseFieldDescriptor (TX9 k).2.2.1 = some (tyX9 k) := by decide +kernel
abbrev cX9_holds : ByteArray := prog_5_method_2_code
def yX9_holds : MethodName := ⟨RX9, "holds", "([I)Z"⟩
def dkwX9_holds_2 : List UInt8 := [172]
abbrev dktX9_holds_2 : List UInt8 := dkwX9_holds_2 ++ []
def dkwX9_holds_1 : List UInt8 := [180, 0, 13, 154, 0, 7, 4, 167, 0, 4, 3, 172, 44, 180, 0, 23, 77, 167, 255, 217, 42, 180, 0, 13]
abbrev dktX9_holds_1 : List UInt8 := dkwX9_holds_1 ++ dktX9_holds_2
def dkwX9_holds_0 : List UInt8 := [42, 77, 44, 198, 0, 41, 44, 180, 0, 7, 43, 185, 0, 17, 2, 0, 42, 180, 0, 13, 159, 0, 16, 42]
abbrev dktX9_holds_0 : List UInt8 := dkwX9_holds_0 ++ dktX9_holds_1
theorem dksX9_holds_0 : cX9_holds.data.toList.drop 0 = dktX9_holds_0 := by decide +kernel
theorem dksX9_holds_1 : cX9_holds.data.toList.drop 24 = dktX9_holds_1 := dk_seg dksX9_holds_0 24 rfl rfl
theorem dksX9_holds_2 : cX9_holds.data.toList.drop 48 = dktX9_holds_2 := dk_seg dksX9_holds_1 24 rfl rfl
theorem dX9_holds_0 : decode cX9_holds 0 = .ok (.aload_n 0, 1) := dk_42 (dk_at dksX9_holds_0 0 rfl rfl)
theorem dX9_holds_1 : decode cX9_holds 1 = .ok (.astore_n 2, 1) := dk_77 (dk_at dksX9_holds_0 1 rfl rfl)
theorem dX9_holds_2 : decode cX9_holds 2 = .ok (.aload_n 2, 1) := dk_44 (dk_at dksX9_holds_0 2 rfl rfl)
theorem dX9_holds_3 : decode cX9_holds 3 = .ok (.ifnull 41, 3) := dk_198 0 41 (dk_at dksX9_holds_0 3 rfl rfl)
theorem dX9_holds_6 : decode cX9_holds 6 = .ok (.aload_n 2, 1) := dk_44 (dk_at dksX9_holds_0 6 rfl rfl)
theorem dX9_holds_7 : decode cX9_holds 7 = .ok (.getfield 7, 3) := dk_180 0 7 (dk_at dksX9_holds_0 7 rfl rfl)
theorem dX9_holds_10 : decode cX9_holds 10 = .ok (.aload_n 1, 1) := dk_43 (dk_at dksX9_holds_0 10 rfl rfl)
theorem dX9_holds_11 : decode cX9_holds 11 = .ok (.invokeinterface 17 2, 5) := by decide +kernel
theorem dX9_holds_16 : decode cX9_holds 16 = .ok (.aload_n 0, 1) := dk_42 (dk_at dksX9_holds_0 16 rfl rfl)
theorem dX9_holds_17 : decode cX9_holds 17 = .ok (.getfield 13, 3) := dk_180 0 13 (dk_at dksX9_holds_0 17 rfl rfl)
theorem dX9_holds_20 : decode cX9_holds 20 = .ok (.if_icmp .eq 16, 3) := dk_159 0 16 (dk_at dksX9_holds_0 20 rfl rfl)
theorem dX9_holds_23 : decode cX9_holds 23 = .ok (.aload_n 0, 1) := dk_42 (dk_at dksX9_holds_0 23 rfl rfl)
theorem dX9_holds_24 : decode cX9_holds 24 = .ok (.getfield 13, 3) := dk_180 0 13 (dk_at dksX9_holds_1 0 rfl rfl)
theorem dX9_holds_27 : decode cX9_holds 27 = .ok (.ifCond .ne 7, 3) := dk_154 0 7 (dk_at dksX9_holds_1 3 rfl rfl)
theorem dX9_holds_30 : decode cX9_holds 30 = .ok (.iconst 1, 1) := dk_4 (dk_at dksX9_holds_1 6 rfl rfl)
theorem dX9_holds_31 : decode cX9_holds 31 = .ok (.goto 4, 3) := dk_167 0 4 (dk_at dksX9_holds_1 7 rfl rfl)
theorem dX9_holds_34 : decode cX9_holds 34 = .ok (.iconst 0, 1) := dk_3 (dk_at dksX9_holds_1 10 rfl rfl)
theorem dX9_holds_35 : decode cX9_holds 35 = .ok (.ireturn, 1) := dk_172 (dk_at dksX9_holds_1 11 rfl rfl)
theorem dX9_holds_36 : decode cX9_holds 36 = .ok (.aload_n 2, 1) := dk_44 (dk_at dksX9_holds_1 12 rfl rfl)
theorem dX9_holds_37 : decode cX9_holds 37 = .ok (.getfield 23, 3) := dk_180 0 23 (dk_at dksX9_holds_1 13 rfl rfl)
theorem dX9_holds_40 : decode cX9_holds 40 = .ok (.astore_n 2, 1) := dk_77 (dk_at dksX9_holds_1 16 rfl rfl)
theorem dX9_holds_41 : decode cX9_holds 41 = .ok (.goto (-39), 3) := dk_167 255 217 (dk_at dksX9_holds_1 17 rfl rfl)
theorem dX9_holds_44 : decode cX9_holds 44 = .ok (.aload_n 0, 1) := dk_42 (dk_at dksX9_holds_1 20 rfl rfl)
theorem dX9_holds_45 : decode cX9_holds 45 = .ok (.getfield 13, 3) := dk_180 0 13 (dk_at dksX9_holds_1 21 rfl rfl)
theorem dX9_holds_48 : decode cX9_holds 48 = .ok (.ireturn, 1) := dk_172 (dk_at dksX9_holds_2 0 rfl rfl)
abbrev cX9_init : ByteArray := prog_5_method_1_code
def yX9_init : MethodName := ⟨RX9, "<init>", "(LFeatherYard$Cond;Z)V"⟩
def dkwX9_init_0 : List UInt8 := [42, 183, 0, 1, 42, 43, 181, 0, 7, 42, 28, 181, 0, 13, 177]
abbrev dktX9_init_0 : List UInt8 := dkwX9_init_0 ++ []
theorem dksX9_init_0 : cX9_init.data.toList.drop 0 = dktX9_init_0 := by decide +kernel
theorem dX9_init_0 : decode cX9_init 0 = .ok (.aload_n 0, 1) := dk_42 (dk_at dksX9_init_0 0 rfl rfl)
theorem dX9_init_1 : decode cX9_init 1 = .ok (.invokespecial 1, 3) := dk_183 0 1 (dk_at dksX9_init_0 1 rfl rfl)
theorem dX9_init_4 : decode cX9_init 4 = .ok (.aload_n 0, 1) := dk_42 (dk_at dksX9_init_0 4 rfl rfl)
theorem dX9_init_5 : decode cX9_init 5 = .ok (.aload_n 1, 1) := dk_43 (dk_at dksX9_init_0 5 rfl rfl)
theorem dX9_init_6 : decode cX9_init 6 = .ok (.putfield 7, 3) := dk_181 0 7 (dk_at dksX9_init_0 6 rfl rfl)
theorem dX9_init_9 : decode cX9_init 9 = .ok (.aload_n 0, 1) := dk_42 (dk_at dksX9_init_0 9 rfl rfl)
theorem dX9_init_10 : decode cX9_init 10 = .ok (.iload_n 2, 1) := dk_28 (dk_at dksX9_init_0 10 rfl rfl)
theorem dX9_init_11 : decode cX9_init 11 = .ok (.putfield 13, 3) := dk_181 0 13 (dk_at dksX9_init_0 11 rfl rfl)
theorem dX9_init_14 : decode cX9_init 14 = .ok (.return_, 1) := dk_177 (dk_at dksX9_init_0 14 rfl rfl)
theorem q144 : (Jvm.Cond.initialized "FeatherYard$Chain") ∈ lw_all := lw_g (lw_at lw_m1 19 rfl) rfl
theorem q606 : (Jvm.Cond.castable "FeatherYard$Chain" "FeatherYard$Cond") ∈ lw_tbl := lw_at lw_m3 1 rfl
theorem q607 : (Jvm.Cond.selects "FeatherYard$Chain" ({ cls := "FeatherYard$Cond", name := "holds", desc := "([I)Z" } : Jvm.MethodName) ({ cls := "FeatherYard$Chain", name := "holds", desc := "([I)Z" } : Jvm.MethodName)) ∈ lw_all := lw_g (lw_at lw_m3 2 rfl) rfl
theorem q608 : (Jvm.Cond.unhidden "FeatherYard$Chain" "holds" "([I)Z") ∈ lw_tbl := lw_at lw_m3 3 rfl
theorem q609 : (Jvm.Cond.instanceMethod ({ cls := "FeatherYard$Chain", name := "holds", desc := "([I)Z" } : Jvm.MethodName)) ∈ lw_all := lw_g (lw_at lw_m3 4 rfl) rfl
theorem q610 : (Jvm.Cond.publicMethod ({ cls := "FeatherYard$Chain", name := "holds", desc := "([I)Z" } : Jvm.MethodName)) ∈ lw_tbl := lw_at lw_m3 5 rfl
theorem q611 : (Jvm.Cond.code ({ cls := "FeatherYard$Chain", name := "holds", desc := "([I)Z" } : Jvm.MethodName) prog_5_method_2_code (3 : Nat) (Option.some Jvm.ClassFile.FieldType.boolean)) ∈ lw_all := lw_g (lw_at lw_m3 6 rfl) rfl
theorem q612 : (Jvm.Cond.interfaceEntry "FeatherYard$Chain" (17 : Nat)) ∈ lw_tbl := lw_at lw_m3 7 rfl
theorem q613 : (Jvm.Cond.methodLink "FeatherYard$Chain" (17 : Nat) ({ cls := "FeatherYard$Cond", name := "holds", desc := "([I)Z" } : Jvm.MethodName)) ∈ lw_all := lw_g (lw_at lw_m3 8 rfl) rfl
theorem q930 : (Jvm.Cond.instantiable "FeatherYard$Chain" (3 : Nat)) ∈ lw_all := lw_g (lw_at lw_m4 85 rfl) rfl
theorem q1001 : (Jvm.Cond.instanceMethod ({ cls := "FeatherYard$Chain", name := "<init>", desc := "(LFeatherYard$Cond;Z)V" } : Jvm.MethodName)) ∈ lw_all := lw_g (lw_at lw_m4 156 rfl) rfl
theorem q1002 : (Jvm.Cond.code ({ cls := "FeatherYard$Chain", name := "<init>", desc := "(LFeatherYard$Cond;Z)V" } : Jvm.MethodName) prog_5_method_1_code (3 : Nat) (Option.none : Option Jvm.ClassFile.FieldType)) ∈ lw_all := lw_g (lw_at lw_m4 157 rfl) rfl
theorem q1003 : (Jvm.Cond.methodLink "FeatherYard$Chain" (1 : Nat) ({ cls := "java/lang/Object", name := "<init>", desc := "()V" } : Jvm.MethodName)) ∈ lw_all := lw_g (lw_at lw_m4 158 rfl) rfl
theorem q1004 : (Jvm.Cond.fieldLink "FeatherYard$Chain" (7 : Nat) "FeatherYard$Chain" "one" "LFeatherYard$Cond;") ∈ lw_all := lw_g (lw_at lw_m4 159 rfl) rfl
theorem q1005 : (Jvm.Cond.fieldLink "FeatherYard$Chain" (13 : Nat) "FeatherYard$Chain" "all" "Z") ∈ lw_all := lw_g (lw_at lw_m4 160 rfl) rfl
theorem q1006 : (Jvm.Cond.fieldLink "FeatherYard$Chain" (23 : Nat) "FeatherYard$Chain" "next" "LFeatherYard$Chain;") ∈ lw_all := lw_g (lw_at lw_m4 161 rfl) rfl
theorem q1008 : (Jvm.Cond.laysFinal "FeatherYard$Chain" "FeatherYard$Chain" "one" "LFeatherYard$Cond;") ∈ lw_all := lw_g (lw_at lw_m4 163 rfl) rfl
theorem q1009 : (Jvm.Cond.soleField "FeatherYard$Chain" "one") ∈ lw_all := lw_g (lw_at lw_m4 164 rfl) rfl
theorem q1010 : (Jvm.Cond.laysFinal "FeatherYard$Chain" "FeatherYard$Chain" "all" "Z") ∈ lw_all := lw_g (lw_at lw_m4 165 rfl) rfl
theorem q1011 : (Jvm.Cond.soleField "FeatherYard$Chain" "all") ∈ lw_all := lw_g (lw_at lw_m4 166 rfl) rfl
theorem q1012 : (Jvm.Cond.lays "FeatherYard$Chain" "FeatherYard$Chain" "next" "LFeatherYard$Chain;") ∈ lw_all := lw_g (lw_at lw_m4 167 rfl) rfl
theorem q1013 : (Jvm.Cond.soleField "FeatherYard$Chain" "next") ∈ lw_all := lw_g (lw_at lw_m4 168 rfl) rfl
theorem q1014 : (Jvm.Cond.superclass "FeatherYard$Chain" "java/lang/Object") ∈ lw_all := lw_g (lw_at lw_m4 169 rfl) rfl
theorem q2126 : (Jvm.Cond.castable "FeatherYard$Chain" "java/lang/Object") ∈ lw_tbl := lw_at lw_m9 81 rfl
theorem in_X9 : ∀ w ∈ wsX90, w ∈ lw_all := lw_in wsX90 [1008, 1010, 1012] (by decide +kernel) (by decide +kernel)

/-! FeatherYard$Tag -/
set_option maxRecDepth 100000
def RX10 : String := "FeatherYard$Tag"
def TX10 : u_T := fun k => match k with
  | _ => ("FeatherYard$Tag", "fact", "I", true)
def tyX10 : Nat → FieldType := fun k => match k with
  | _ => .int
abbrev wsX100 : List Cond := u_ws RX10 TX10 1
theorem nmX10 : ∀ a, a < 1 → ∀ b, b < 1 → a ≠ b → (TX10 a).2.1 ≠ (TX10 b).2.1 := by decide +kernel
theorem tyX10_ok : ∀ k, k < 1 → parseFieldDescriptor (TX10 k).2.2.1 = some (tyX10 k) := by decide +kernel
abbrev cX10_holds : ByteArray := prog_14_method_2_code
def yX10_holds : MethodName := ⟨RX10, "holds", "([I)Z"⟩
def dkwX10_holds_0 : List UInt8 := [43, 42, 180, 0, 7, 46, 153, 0, 7, 4, 167, 0, 4, 3, 172]
abbrev dktX10_holds_0 : List UInt8 := dkwX10_holds_0 ++ []
theorem dksX10_holds_0 : cX10_holds.data.toList.drop 0 = dktX10_holds_0 := by decide +kernel
theorem dX10_holds_0 : decode cX10_holds 0 = .ok (.aload_n 1, 1) := dk_43 (dk_at dksX10_holds_0 0 rfl rfl)
theorem dX10_holds_1 : decode cX10_holds 1 = .ok (.aload_n 0, 1) := dk_42 (dk_at dksX10_holds_0 1 rfl rfl)
theorem dX10_holds_2 : decode cX10_holds 2 = .ok (.getfield 7, 3) := dk_180 0 7 (dk_at dksX10_holds_0 2 rfl rfl)
theorem dX10_holds_5 : decode cX10_holds 5 = .ok (.iaload, 1) := dk_46 (dk_at dksX10_holds_0 5 rfl rfl)
theorem dX10_holds_6 : decode cX10_holds 6 = .ok (.ifCond .eq 7, 3) := dk_153 0 7 (dk_at dksX10_holds_0 6 rfl rfl)
theorem dX10_holds_9 : decode cX10_holds 9 = .ok (.iconst 1, 1) := dk_4 (dk_at dksX10_holds_0 9 rfl rfl)
theorem dX10_holds_10 : decode cX10_holds 10 = .ok (.goto 4, 3) := dk_167 0 4 (dk_at dksX10_holds_0 10 rfl rfl)
theorem dX10_holds_13 : decode cX10_holds 13 = .ok (.iconst 0, 1) := dk_3 (dk_at dksX10_holds_0 13 rfl rfl)
theorem dX10_holds_14 : decode cX10_holds 14 = .ok (.ireturn, 1) := dk_172 (dk_at dksX10_holds_0 14 rfl rfl)
abbrev cX10_init : ByteArray := prog_14_method_1_code
def yX10_init : MethodName := ⟨RX10, "<init>", "(I)V"⟩
def dkwX10_init_0 : List UInt8 := [42, 183, 0, 1, 42, 27, 181, 0, 7, 177]
abbrev dktX10_init_0 : List UInt8 := dkwX10_init_0 ++ []
theorem dksX10_init_0 : cX10_init.data.toList.drop 0 = dktX10_init_0 := by decide +kernel
theorem dX10_init_0 : decode cX10_init 0 = .ok (.aload_n 0, 1) := dk_42 (dk_at dksX10_init_0 0 rfl rfl)
theorem dX10_init_1 : decode cX10_init 1 = .ok (.invokespecial 1, 3) := dk_183 0 1 (dk_at dksX10_init_0 1 rfl rfl)
theorem dX10_init_4 : decode cX10_init 4 = .ok (.aload_n 0, 1) := dk_42 (dk_at dksX10_init_0 4 rfl rfl)
theorem dX10_init_5 : decode cX10_init 5 = .ok (.iload_n 1, 1) := dk_27 (dk_at dksX10_init_0 5 rfl rfl)
theorem dX10_init_6 : decode cX10_init 6 = .ok (.putfield 7, 3) := dk_181 0 7 (dk_at dksX10_init_0 6 rfl rfl)
theorem dX10_init_9 : decode cX10_init 9 = .ok (.return_, 1) := dk_177 (dk_at dksX10_init_0 9 rfl rfl)
theorem q145 : (Jvm.Cond.initialized "FeatherYard$Tag") ∈ lw_all := lw_g (lw_at lw_m1 20 rfl) rfl
theorem q632 : (Jvm.Cond.castable "FeatherYard$Tag" "FeatherYard$Cond") ∈ lw_tbl := lw_at lw_m3 27 rfl
theorem q633 : (Jvm.Cond.selects "FeatherYard$Tag" ({ cls := "FeatherYard$Cond", name := "holds", desc := "([I)Z" } : Jvm.MethodName) ({ cls := "FeatherYard$Tag", name := "holds", desc := "([I)Z" } : Jvm.MethodName)) ∈ lw_all := lw_g (lw_at lw_m3 28 rfl) rfl
theorem q634 : (Jvm.Cond.unhidden "FeatherYard$Tag" "holds" "([I)Z") ∈ lw_tbl := lw_at lw_m3 29 rfl
theorem q635 : (Jvm.Cond.instanceMethod ({ cls := "FeatherYard$Tag", name := "holds", desc := "([I)Z" } : Jvm.MethodName)) ∈ lw_all := lw_g (lw_at lw_m3 30 rfl) rfl
theorem q636 : (Jvm.Cond.publicMethod ({ cls := "FeatherYard$Tag", name := "holds", desc := "([I)Z" } : Jvm.MethodName)) ∈ lw_tbl := lw_at lw_m3 31 rfl
theorem q637 : (Jvm.Cond.code ({ cls := "FeatherYard$Tag", name := "holds", desc := "([I)Z" } : Jvm.MethodName) prog_14_method_2_code (2 : Nat) (Option.some Jvm.ClassFile.FieldType.boolean)) ∈ lw_all := lw_g (lw_at lw_m3 32 rfl) rfl
theorem q941 : (Jvm.Cond.instantiable "FeatherYard$Tag" (1 : Nat)) ∈ lw_all := lw_g (lw_at lw_m4 96 rfl) rfl
theorem q943 : (Jvm.Cond.instanceMethod ({ cls := "FeatherYard$Tag", name := "<init>", desc := "(I)V" } : Jvm.MethodName)) ∈ lw_all := lw_g (lw_at lw_m4 98 rfl) rfl
theorem q944 : (Jvm.Cond.code ({ cls := "FeatherYard$Tag", name := "<init>", desc := "(I)V" } : Jvm.MethodName) prog_14_method_1_code (2 : Nat) (Option.none : Option Jvm.ClassFile.FieldType)) ∈ lw_all := lw_g (lw_at lw_m4 99 rfl) rfl
theorem q945 : (Jvm.Cond.methodLink "FeatherYard$Tag" (1 : Nat) ({ cls := "java/lang/Object", name := "<init>", desc := "()V" } : Jvm.MethodName)) ∈ lw_all := lw_g (lw_at lw_m4 100 rfl) rfl
theorem q946 : (Jvm.Cond.fieldLink "FeatherYard$Tag" (7 : Nat) "FeatherYard$Tag" "fact" "I") ∈ lw_all := lw_g (lw_at lw_m4 101 rfl) rfl
theorem q947 : (Jvm.Cond.laysFinal "FeatherYard$Tag" "FeatherYard$Tag" "fact" "I") ∈ lw_all := lw_g (lw_at lw_m4 102 rfl) rfl
theorem q948 : (Jvm.Cond.soleField "FeatherYard$Tag" "fact") ∈ lw_all := lw_g (lw_at lw_m4 103 rfl) rfl
theorem q949 : (Jvm.Cond.superclass "FeatherYard$Tag" "java/lang/Object") ∈ lw_all := lw_g (lw_at lw_m4 104 rfl) rfl
theorem q2127 : (Jvm.Cond.castable "FeatherYard$Tag" "java/lang/Object") ∈ lw_tbl := lw_at lw_m9 82 rfl
theorem in_X10 : ∀ w ∈ wsX100, w ∈ lw_all := lw_in wsX100 [947] (by decide +kernel) (by decide +kernel)

/-! FeatherYard$Sum -/
set_option maxRecDepth 100000
def RX11 : String := "FeatherYard$Sum"
def TX11 : u_T := fun k => match k with
  | 0 => ("FeatherYard$Sum", "times", "[I", true)
  | _ => ("FeatherYard$Sum", "number", "I", false)
def tyX11 : Nat → FieldType := fun k => match k with
  | 0 => .array .int
  | _ => .int
abbrev wsX110 : List Cond := u_ws RX11 TX11 2
theorem nmX11 : ∀ a, a < 2 → ∀ b, b < 2 → a ≠ b → (TX11 a).2.1 ≠ (TX11 b).2.1 := by decide +kernel
theorem tyX11_ok : ∀ k, k < 2 → parseFieldDescriptor (TX11 k).2.2.1 = some (tyX11 k) := by decide +kernel
abbrev cX11_of : ByteArray := prog_13_method_2_code
def yX11_of : MethodName := ⟨RX11, "of", "([I)I"⟩
def dkwX11_of_1 : List UInt8 := [96, 61, 132, 3, 1, 167, 255, 234, 28, 172]
abbrev dktX11_of_1 : List UInt8 := dkwX11_of_1 ++ []
def dkwX11_of_0 : List UInt8 := [42, 180, 0, 15, 61, 3, 62, 29, 16, 6, 162, 0, 22, 28, 42, 180, 0, 9, 29, 46, 43, 29, 46, 104]
abbrev dktX11_of_0 : List UInt8 := dkwX11_of_0 ++ dktX11_of_1
theorem dksX11_of_0 : cX11_of.data.toList.drop 0 = dktX11_of_0 := by decide +kernel
theorem dksX11_of_1 : cX11_of.data.toList.drop 24 = dktX11_of_1 := dk_seg dksX11_of_0 24 rfl rfl
theorem dX11_of_0 : decode cX11_of 0 = .ok (.aload_n 0, 1) := dk_42 (dk_at dksX11_of_0 0 rfl rfl)
theorem dX11_of_1 : decode cX11_of 1 = .ok (.getfield 15, 3) := dk_180 0 15 (dk_at dksX11_of_0 1 rfl rfl)
theorem dX11_of_4 : decode cX11_of 4 = .ok (.istore_n 2, 1) := dk_61 (dk_at dksX11_of_0 4 rfl rfl)
theorem dX11_of_5 : decode cX11_of 5 = .ok (.iconst 0, 1) := dk_3 (dk_at dksX11_of_0 5 rfl rfl)
theorem dX11_of_6 : decode cX11_of 6 = .ok (.istore_n 3, 1) := dk_62 (dk_at dksX11_of_0 6 rfl rfl)
theorem dX11_of_7 : decode cX11_of 7 = .ok (.iload_n 3, 1) := dk_29 (dk_at dksX11_of_0 7 rfl rfl)
theorem dX11_of_8 : decode cX11_of 8 = .ok (.bipush 6, 2) := dk_16 6 (dk_at dksX11_of_0 8 rfl rfl)
theorem dX11_of_10 : decode cX11_of 10 = .ok (.if_icmp .ge 22, 3) := dk_162 0 22 (dk_at dksX11_of_0 10 rfl rfl)
theorem dX11_of_13 : decode cX11_of 13 = .ok (.iload_n 2, 1) := dk_28 (dk_at dksX11_of_0 13 rfl rfl)
theorem dX11_of_14 : decode cX11_of 14 = .ok (.aload_n 0, 1) := dk_42 (dk_at dksX11_of_0 14 rfl rfl)
theorem dX11_of_15 : decode cX11_of 15 = .ok (.getfield 9, 3) := dk_180 0 9 (dk_at dksX11_of_0 15 rfl rfl)
theorem dX11_of_18 : decode cX11_of 18 = .ok (.iload_n 3, 1) := dk_29 (dk_at dksX11_of_0 18 rfl rfl)
theorem dX11_of_19 : decode cX11_of 19 = .ok (.iaload, 1) := dk_46 (dk_at dksX11_of_0 19 rfl rfl)
theorem dX11_of_20 : decode cX11_of 20 = .ok (.aload_n 1, 1) := dk_43 (dk_at dksX11_of_0 20 rfl rfl)
theorem dX11_of_21 : decode cX11_of 21 = .ok (.iload_n 3, 1) := dk_29 (dk_at dksX11_of_0 21 rfl rfl)
theorem dX11_of_22 : decode cX11_of 22 = .ok (.iaload, 1) := dk_46 (dk_at dksX11_of_0 22 rfl rfl)
theorem dX11_of_23 : decode cX11_of 23 = .ok (.imul, 1) := dk_104 (dk_at dksX11_of_0 23 rfl rfl)
theorem dX11_of_24 : decode cX11_of 24 = .ok (.iadd, 1) := dk_96 (dk_at dksX11_of_1 0 rfl rfl)
theorem dX11_of_25 : decode cX11_of 25 = .ok (.istore_n 2, 1) := dk_61 (dk_at dksX11_of_1 1 rfl rfl)
theorem dX11_of_26 : decode cX11_of 26 = .ok (.iinc 3 1, 3) := dk_132 3 1 (dk_at dksX11_of_1 2 rfl rfl)
theorem dX11_of_29 : decode cX11_of 29 = .ok (.goto (-22), 3) := dk_167 255 234 (dk_at dksX11_of_1 5 rfl rfl)
theorem dX11_of_32 : decode cX11_of 32 = .ok (.iload_n 2, 1) := dk_28 (dk_at dksX11_of_1 8 rfl rfl)
theorem dX11_of_33 : decode cX11_of 33 = .ok (.ireturn, 1) := dk_172 (dk_at dksX11_of_1 9 rfl rfl)
abbrev cX11_init : ByteArray := prog_13_method_1_code
def yX11_init : MethodName := ⟨RX11, "<init>", "()V"⟩
def dkwX11_init_0 : List UInt8 := [42, 183, 0, 3, 42, 16, 6, 188, 10, 181, 0, 9, 177]
abbrev dktX11_init_0 : List UInt8 := dkwX11_init_0 ++ []
theorem dksX11_init_0 : cX11_init.data.toList.drop 0 = dktX11_init_0 := by decide +kernel
theorem dX11_init_0 : decode cX11_init 0 = .ok (.aload_n 0, 1) := dk_42 (dk_at dksX11_init_0 0 rfl rfl)
theorem dX11_init_1 : decode cX11_init 1 = .ok (.invokespecial 3, 3) := dk_183 0 3 (dk_at dksX11_init_0 1 rfl rfl)
theorem dX11_init_4 : decode cX11_init 4 = .ok (.aload_n 0, 1) := dk_42 (dk_at dksX11_init_0 4 rfl rfl)
theorem dX11_init_5 : decode cX11_init 5 = .ok (.bipush 6, 2) := dk_16 6 (dk_at dksX11_init_0 5 rfl rfl)
theorem dX11_init_7 : decode cX11_init 7 = .ok (.newarray .int, 2) := dk_188_10 (dk_at dksX11_init_0 7 rfl rfl)
theorem dX11_init_9 : decode cX11_init 9 = .ok (.putfield 9, 3) := dk_181 0 9 (dk_at dksX11_init_0 9 rfl rfl)
theorem dX11_init_12 : decode cX11_init 12 = .ok (.return_, 1) := dk_177 (dk_at dksX11_init_0 12 rfl rfl)
theorem q146 : (Jvm.Cond.initialized "FeatherYard$Sum") ∈ lw_all := lw_g (lw_at lw_m1 21 rfl) rfl
theorem q621 : (Jvm.Cond.instanceMethod ({ cls := "FeatherYard$Sum", name := "of", desc := "([I)I" } : Jvm.MethodName)) ∈ lw_all := lw_g (lw_at lw_m3 16 rfl) rfl
theorem q622 : (Jvm.Cond.selects "FeatherYard$Sum" ({ cls := "FeatherYard$Sum", name := "of", desc := "([I)I" } : Jvm.MethodName) ({ cls := "FeatherYard$Sum", name := "of", desc := "([I)I" } : Jvm.MethodName)) ∈ lw_all := lw_g (lw_at lw_m3 17 rfl) rfl
theorem q623 : (Jvm.Cond.code ({ cls := "FeatherYard$Sum", name := "of", desc := "([I)I" } : Jvm.MethodName) prog_13_method_2_code (4 : Nat) (Option.some Jvm.ClassFile.FieldType.int)) ∈ lw_all := lw_g (lw_at lw_m3 18 rfl) rfl
theorem q955 : (Jvm.Cond.instantiable "FeatherYard$Sum" (2 : Nat)) ∈ lw_all := lw_g (lw_at lw_m4 110 rfl) rfl
theorem q957 : (Jvm.Cond.instanceMethod ({ cls := "FeatherYard$Sum", name := "<init>", desc := "()V" } : Jvm.MethodName)) ∈ lw_all := lw_g (lw_at lw_m4 112 rfl) rfl
theorem q958 : (Jvm.Cond.code ({ cls := "FeatherYard$Sum", name := "<init>", desc := "()V" } : Jvm.MethodName) prog_13_method_1_code (1 : Nat) (Option.none : Option Jvm.ClassFile.FieldType)) ∈ lw_all := lw_g (lw_at lw_m4 113 rfl) rfl
theorem q959 : (Jvm.Cond.methodLink "FeatherYard$Sum" (3 : Nat) ({ cls := "java/lang/Object", name := "<init>", desc := "()V" } : Jvm.MethodName)) ∈ lw_all := lw_g (lw_at lw_m4 114 rfl) rfl
theorem q960 : (Jvm.Cond.fieldLink "FeatherYard$Sum" (9 : Nat) "FeatherYard$Sum" "times" "[I") ∈ lw_all := lw_g (lw_at lw_m4 115 rfl) rfl
theorem q962 : (Jvm.Cond.fieldLink "FeatherYard$Sum" (15 : Nat) "FeatherYard$Sum" "number" "I") ∈ lw_all := lw_g (lw_at lw_m4 117 rfl) rfl
theorem q964 : (Jvm.Cond.laysFinal "FeatherYard$Sum" "FeatherYard$Sum" "times" "[I") ∈ lw_all := lw_g (lw_at lw_m4 119 rfl) rfl
theorem q965 : (Jvm.Cond.soleField "FeatherYard$Sum" "times") ∈ lw_all := lw_g (lw_at lw_m4 120 rfl) rfl
theorem q966 : (Jvm.Cond.lays "FeatherYard$Sum" "FeatherYard$Sum" "number" "I") ∈ lw_all := lw_g (lw_at lw_m4 121 rfl) rfl
theorem q967 : (Jvm.Cond.soleField "FeatherYard$Sum" "number") ∈ lw_all := lw_g (lw_at lw_m4 122 rfl) rfl
theorem q968 : (Jvm.Cond.superclass "FeatherYard$Sum" "java/lang/Object") ∈ lw_all := lw_g (lw_at lw_m4 123 rfl) rfl
theorem q2128 : (Jvm.Cond.castable "FeatherYard$Sum" "java/lang/Object") ∈ lw_tbl := lw_at lw_m9 83 rfl
theorem in_X11 : ∀ w ∈ wsX110, w ∈ lw_all := lw_in wsX110 [964, 966] (by decide +kernel) (by decide +kernel)

/-! FeatherYard$Less -/
set_option maxRecDepth 100000
def RX12 : String := "FeatherYard$Less"
def TX12 : u_T := fun k => match k with
  | 0 => ("FeatherYard$Less", "low", "LFeatherYard$Sum;", true)
  | _ => ("FeatherYard$Less", "high", "LFeatherYard$Sum;", true)
def tyX12 : Nat → FieldType := fun k => match k with
  | 0 => .object "FeatherYard$Sum"
  | _ => .object "FeatherYard$Sum"
abbrev wsX120 : List Cond := u_ws RX12 TX12 2
theorem nmX12 : ∀ a, a < 2 → ∀ b, b < 2 → a ≠ b → (TX12 a).2.1 ≠ (TX12 b).2.1 := by decide +kernel
theorem tyX12_ok : ∀ k, k < 2 → parseFieldDescriptor (TX12 k).2.2.1 = some (tyX12 k) := by decide +kernel
abbrev cX12_holds : ByteArray := prog_7_method_2_code
def yX12_holds : MethodName := ⟨RX12, "holds", "([I)Z"⟩
def dkwX12_holds_1 : List UInt8 := [172]
abbrev dktX12_holds_1 : List UInt8 := dkwX12_holds_1 ++ []
def dkwX12_holds_0 : List UInt8 := [42, 180, 0, 7, 43, 182, 0, 16, 42, 180, 0, 13, 43, 182, 0, 16, 162, 0, 7, 4, 167, 0, 4, 3]
abbrev dktX12_holds_0 : List UInt8 := dkwX12_holds_0 ++ dktX12_holds_1
theorem dksX12_holds_0 : cX12_holds.data.toList.drop 0 = dktX12_holds_0 := by decide +kernel
theorem dksX12_holds_1 : cX12_holds.data.toList.drop 24 = dktX12_holds_1 := dk_seg dksX12_holds_0 24 rfl rfl
theorem dX12_holds_0 : decode cX12_holds 0 = .ok (.aload_n 0, 1) := dk_42 (dk_at dksX12_holds_0 0 rfl rfl)
theorem dX12_holds_1 : decode cX12_holds 1 = .ok (.getfield 7, 3) := dk_180 0 7 (dk_at dksX12_holds_0 1 rfl rfl)
theorem dX12_holds_4 : decode cX12_holds 4 = .ok (.aload_n 1, 1) := dk_43 (dk_at dksX12_holds_0 4 rfl rfl)
theorem dX12_holds_5 : decode cX12_holds 5 = .ok (.invokevirtual 16, 3) := dk_182 0 16 (dk_at dksX12_holds_0 5 rfl rfl)
theorem dX12_holds_8 : decode cX12_holds 8 = .ok (.aload_n 0, 1) := dk_42 (dk_at dksX12_holds_0 8 rfl rfl)
theorem dX12_holds_9 : decode cX12_holds 9 = .ok (.getfield 13, 3) := dk_180 0 13 (dk_at dksX12_holds_0 9 rfl rfl)
theorem dX12_holds_12 : decode cX12_holds 12 = .ok (.aload_n 1, 1) := dk_43 (dk_at dksX12_holds_0 12 rfl rfl)
theorem dX12_holds_13 : decode cX12_holds 13 = .ok (.invokevirtual 16, 3) := dk_182 0 16 (dk_at dksX12_holds_0 13 rfl rfl)
theorem dX12_holds_16 : decode cX12_holds 16 = .ok (.if_icmp .ge 7, 3) := dk_162 0 7 (dk_at dksX12_holds_0 16 rfl rfl)
theorem dX12_holds_19 : decode cX12_holds 19 = .ok (.iconst 1, 1) := dk_4 (dk_at dksX12_holds_0 19 rfl rfl)
theorem dX12_holds_20 : decode cX12_holds 20 = .ok (.goto 4, 3) := dk_167 0 4 (dk_at dksX12_holds_0 20 rfl rfl)
theorem dX12_holds_23 : decode cX12_holds 23 = .ok (.iconst 0, 1) := dk_3 (dk_at dksX12_holds_0 23 rfl rfl)
theorem dX12_holds_24 : decode cX12_holds 24 = .ok (.ireturn, 1) := dk_172 (dk_at dksX12_holds_1 0 rfl rfl)
abbrev cX12_init : ByteArray := prog_7_method_1_code
def yX12_init : MethodName := ⟨RX12, "<init>", "(LFeatherYard$Sum;LFeatherYard$Sum;)V"⟩
def dkwX12_init_0 : List UInt8 := [42, 183, 0, 1, 42, 43, 181, 0, 7, 42, 44, 181, 0, 13, 177]
abbrev dktX12_init_0 : List UInt8 := dkwX12_init_0 ++ []
theorem dksX12_init_0 : cX12_init.data.toList.drop 0 = dktX12_init_0 := by decide +kernel
theorem dX12_init_0 : decode cX12_init 0 = .ok (.aload_n 0, 1) := dk_42 (dk_at dksX12_init_0 0 rfl rfl)
theorem dX12_init_1 : decode cX12_init 1 = .ok (.invokespecial 1, 3) := dk_183 0 1 (dk_at dksX12_init_0 1 rfl rfl)
theorem dX12_init_4 : decode cX12_init 4 = .ok (.aload_n 0, 1) := dk_42 (dk_at dksX12_init_0 4 rfl rfl)
theorem dX12_init_5 : decode cX12_init 5 = .ok (.aload_n 1, 1) := dk_43 (dk_at dksX12_init_0 5 rfl rfl)
theorem dX12_init_6 : decode cX12_init 6 = .ok (.putfield 7, 3) := dk_181 0 7 (dk_at dksX12_init_0 6 rfl rfl)
theorem dX12_init_9 : decode cX12_init 9 = .ok (.aload_n 0, 1) := dk_42 (dk_at dksX12_init_0 9 rfl rfl)
theorem dX12_init_10 : decode cX12_init 10 = .ok (.aload_n 2, 1) := dk_44 (dk_at dksX12_init_0 10 rfl rfl)
theorem dX12_init_11 : decode cX12_init 11 = .ok (.putfield 13, 3) := dk_181 0 13 (dk_at dksX12_init_0 11 rfl rfl)
theorem dX12_init_14 : decode cX12_init 14 = .ok (.return_, 1) := dk_177 (dk_at dksX12_init_0 14 rfl rfl)
theorem q147 : (Jvm.Cond.initialized "FeatherYard$Less") ∈ lw_all := lw_g (lw_at lw_m1 22 rfl) rfl
theorem q614 : (Jvm.Cond.castable "FeatherYard$Less" "FeatherYard$Cond") ∈ lw_tbl := lw_at lw_m3 9 rfl
theorem q615 : (Jvm.Cond.selects "FeatherYard$Less" ({ cls := "FeatherYard$Cond", name := "holds", desc := "([I)Z" } : Jvm.MethodName) ({ cls := "FeatherYard$Less", name := "holds", desc := "([I)Z" } : Jvm.MethodName)) ∈ lw_all := lw_g (lw_at lw_m3 10 rfl) rfl
theorem q616 : (Jvm.Cond.unhidden "FeatherYard$Less" "holds" "([I)Z") ∈ lw_tbl := lw_at lw_m3 11 rfl
theorem q617 : (Jvm.Cond.instanceMethod ({ cls := "FeatherYard$Less", name := "holds", desc := "([I)Z" } : Jvm.MethodName)) ∈ lw_all := lw_g (lw_at lw_m3 12 rfl) rfl
theorem q618 : (Jvm.Cond.publicMethod ({ cls := "FeatherYard$Less", name := "holds", desc := "([I)Z" } : Jvm.MethodName)) ∈ lw_tbl := lw_at lw_m3 13 rfl
theorem q619 : (Jvm.Cond.code ({ cls := "FeatherYard$Less", name := "holds", desc := "([I)Z" } : Jvm.MethodName) prog_7_method_2_code (2 : Nat) (Option.some Jvm.ClassFile.FieldType.boolean)) ∈ lw_all := lw_g (lw_at lw_m3 14 rfl) rfl
theorem q620 : (Jvm.Cond.methodLink "FeatherYard$Less" (16 : Nat) ({ cls := "FeatherYard$Sum", name := "of", desc := "([I)I" } : Jvm.MethodName)) ∈ lw_all := lw_g (lw_at lw_m3 15 rfl) rfl
theorem q978 : (Jvm.Cond.instantiable "FeatherYard$Less" (2 : Nat)) ∈ lw_all := lw_g (lw_at lw_m4 133 rfl) rfl
theorem q980 : (Jvm.Cond.instanceMethod ({ cls := "FeatherYard$Less", name := "<init>", desc := "(LFeatherYard$Sum;LFeatherYard$Sum;)V" } : Jvm.MethodName)) ∈ lw_all := lw_g (lw_at lw_m4 135 rfl) rfl
theorem q981 : (Jvm.Cond.code ({ cls := "FeatherYard$Less", name := "<init>", desc := "(LFeatherYard$Sum;LFeatherYard$Sum;)V" } : Jvm.MethodName) prog_7_method_1_code (3 : Nat) (Option.none : Option Jvm.ClassFile.FieldType)) ∈ lw_all := lw_g (lw_at lw_m4 136 rfl) rfl
theorem q982 : (Jvm.Cond.methodLink "FeatherYard$Less" (1 : Nat) ({ cls := "java/lang/Object", name := "<init>", desc := "()V" } : Jvm.MethodName)) ∈ lw_all := lw_g (lw_at lw_m4 137 rfl) rfl
theorem q983 : (Jvm.Cond.fieldLink "FeatherYard$Less" (7 : Nat) "FeatherYard$Less" "low" "LFeatherYard$Sum;") ∈ lw_all := lw_g (lw_at lw_m4 138 rfl) rfl
theorem q984 : (Jvm.Cond.fieldLink "FeatherYard$Less" (13 : Nat) "FeatherYard$Less" "high" "LFeatherYard$Sum;") ∈ lw_all := lw_g (lw_at lw_m4 139 rfl) rfl
theorem q985 : (Jvm.Cond.laysFinal "FeatherYard$Less" "FeatherYard$Less" "low" "LFeatherYard$Sum;") ∈ lw_all := lw_g (lw_at lw_m4 140 rfl) rfl
theorem q986 : (Jvm.Cond.soleField "FeatherYard$Less" "low") ∈ lw_all := lw_g (lw_at lw_m4 141 rfl) rfl
theorem q987 : (Jvm.Cond.laysFinal "FeatherYard$Less" "FeatherYard$Less" "high" "LFeatherYard$Sum;") ∈ lw_all := lw_g (lw_at lw_m4 142 rfl) rfl
theorem q988 : (Jvm.Cond.soleField "FeatherYard$Less" "high") ∈ lw_all := lw_g (lw_at lw_m4 143 rfl) rfl
theorem q989 : (Jvm.Cond.superclass "FeatherYard$Less" "java/lang/Object") ∈ lw_all := lw_g (lw_at lw_m4 144 rfl) rfl
theorem q2129 : (Jvm.Cond.castable "FeatherYard$Less" "java/lang/Object") ∈ lw_tbl := lw_at lw_m9 84 rfl
theorem in_X12 : ∀ w ∈ wsX120, w ∈ lw_all := lw_in wsX120 [985, 987] (by decide +kernel) (by decide +kernel)

/-! FeatherYard$Not -/
set_option maxRecDepth 100000
def RX13 : String := "FeatherYard$Not"
def TX13 : u_T := fun k => match k with
  | _ => ("FeatherYard$Not", "of", "LFeatherYard$Cond;", true)
def tyX13 : Nat → FieldType := fun k => match k with
  | _ => .object "FeatherYard$Cond"
abbrev wsX130 : List Cond := u_ws RX13 TX13 1
theorem nmX13 : ∀ a, a < 1 → ∀ b, b < 1 → a ≠ b → (TX13 a).2.1 ≠ (TX13 b).2.1 := by decide +kernel
theorem tyX13_ok : ∀ k, k < 1 → parseFieldDescriptor (TX13 k).2.2.1 = some (tyX13 k) := by decide +kernel
abbrev cX13_holds : ByteArray := prog_9_method_2_code
def yX13_holds : MethodName := ⟨RX13, "holds", "([I)Z"⟩
def dkwX13_holds_0 : List UInt8 := [42, 180, 0, 7, 43, 185, 0, 13, 2, 0, 154, 0, 7, 4, 167, 0, 4, 3, 172]
abbrev dktX13_holds_0 : List UInt8 := dkwX13_holds_0 ++ []
theorem dksX13_holds_0 : cX13_holds.data.toList.drop 0 = dktX13_holds_0 := by decide +kernel
theorem dX13_holds_0 : decode cX13_holds 0 = .ok (.aload_n 0, 1) := dk_42 (dk_at dksX13_holds_0 0 rfl rfl)
theorem dX13_holds_1 : decode cX13_holds 1 = .ok (.getfield 7, 3) := dk_180 0 7 (dk_at dksX13_holds_0 1 rfl rfl)
theorem dX13_holds_4 : decode cX13_holds 4 = .ok (.aload_n 1, 1) := dk_43 (dk_at dksX13_holds_0 4 rfl rfl)
theorem dX13_holds_5 : decode cX13_holds 5 = .ok (.invokeinterface 13 2, 5) := by decide +kernel
theorem dX13_holds_10 : decode cX13_holds 10 = .ok (.ifCond .ne 7, 3) := dk_154 0 7 (dk_at dksX13_holds_0 10 rfl rfl)
theorem dX13_holds_13 : decode cX13_holds 13 = .ok (.iconst 1, 1) := dk_4 (dk_at dksX13_holds_0 13 rfl rfl)
theorem dX13_holds_14 : decode cX13_holds 14 = .ok (.goto 4, 3) := dk_167 0 4 (dk_at dksX13_holds_0 14 rfl rfl)
theorem dX13_holds_17 : decode cX13_holds 17 = .ok (.iconst 0, 1) := dk_3 (dk_at dksX13_holds_0 17 rfl rfl)
theorem dX13_holds_18 : decode cX13_holds 18 = .ok (.ireturn, 1) := dk_172 (dk_at dksX13_holds_0 18 rfl rfl)
abbrev cX13_init : ByteArray := prog_9_method_1_code
def yX13_init : MethodName := ⟨RX13, "<init>", "(LFeatherYard$Cond;)V"⟩
def dkwX13_init_0 : List UInt8 := [42, 183, 0, 1, 42, 43, 181, 0, 7, 177]
abbrev dktX13_init_0 : List UInt8 := dkwX13_init_0 ++ []
theorem dksX13_init_0 : cX13_init.data.toList.drop 0 = dktX13_init_0 := by decide +kernel
theorem dX13_init_0 : decode cX13_init 0 = .ok (.aload_n 0, 1) := dk_42 (dk_at dksX13_init_0 0 rfl rfl)
theorem dX13_init_1 : decode cX13_init 1 = .ok (.invokespecial 1, 3) := dk_183 0 1 (dk_at dksX13_init_0 1 rfl rfl)
theorem dX13_init_4 : decode cX13_init 4 = .ok (.aload_n 0, 1) := dk_42 (dk_at dksX13_init_0 4 rfl rfl)
theorem dX13_init_5 : decode cX13_init 5 = .ok (.aload_n 1, 1) := dk_43 (dk_at dksX13_init_0 5 rfl rfl)
theorem dX13_init_6 : decode cX13_init 6 = .ok (.putfield 7, 3) := dk_181 0 7 (dk_at dksX13_init_0 6 rfl rfl)
theorem dX13_init_9 : decode cX13_init 9 = .ok (.return_, 1) := dk_177 (dk_at dksX13_init_0 9 rfl rfl)
theorem q148 : (Jvm.Cond.initialized "FeatherYard$Not") ∈ lw_all := lw_g (lw_at lw_m1 23 rfl) rfl
theorem q624 : (Jvm.Cond.castable "FeatherYard$Not" "FeatherYard$Cond") ∈ lw_tbl := lw_at lw_m3 19 rfl
theorem q625 : (Jvm.Cond.selects "FeatherYard$Not" ({ cls := "FeatherYard$Cond", name := "holds", desc := "([I)Z" } : Jvm.MethodName) ({ cls := "FeatherYard$Not", name := "holds", desc := "([I)Z" } : Jvm.MethodName)) ∈ lw_all := lw_g (lw_at lw_m3 20 rfl) rfl
theorem q626 : (Jvm.Cond.unhidden "FeatherYard$Not" "holds" "([I)Z") ∈ lw_tbl := lw_at lw_m3 21 rfl
theorem q627 : (Jvm.Cond.instanceMethod ({ cls := "FeatherYard$Not", name := "holds", desc := "([I)Z" } : Jvm.MethodName)) ∈ lw_all := lw_g (lw_at lw_m3 22 rfl) rfl
theorem q628 : (Jvm.Cond.publicMethod ({ cls := "FeatherYard$Not", name := "holds", desc := "([I)Z" } : Jvm.MethodName)) ∈ lw_tbl := lw_at lw_m3 23 rfl
theorem q629 : (Jvm.Cond.code ({ cls := "FeatherYard$Not", name := "holds", desc := "([I)Z" } : Jvm.MethodName) prog_9_method_2_code (2 : Nat) (Option.some Jvm.ClassFile.FieldType.boolean)) ∈ lw_all := lw_g (lw_at lw_m3 24 rfl) rfl
theorem q630 : (Jvm.Cond.interfaceEntry "FeatherYard$Not" (13 : Nat)) ∈ lw_tbl := lw_at lw_m3 25 rfl
theorem q631 : (Jvm.Cond.methodLink "FeatherYard$Not" (13 : Nat) ({ cls := "FeatherYard$Cond", name := "holds", desc := "([I)Z" } : Jvm.MethodName)) ∈ lw_all := lw_g (lw_at lw_m3 26 rfl) rfl
theorem q991 : (Jvm.Cond.instantiable "FeatherYard$Not" (1 : Nat)) ∈ lw_all := lw_g (lw_at lw_m4 146 rfl) rfl
theorem q993 : (Jvm.Cond.instanceMethod ({ cls := "FeatherYard$Not", name := "<init>", desc := "(LFeatherYard$Cond;)V" } : Jvm.MethodName)) ∈ lw_all := lw_g (lw_at lw_m4 148 rfl) rfl
theorem q994 : (Jvm.Cond.code ({ cls := "FeatherYard$Not", name := "<init>", desc := "(LFeatherYard$Cond;)V" } : Jvm.MethodName) prog_9_method_1_code (2 : Nat) (Option.none : Option Jvm.ClassFile.FieldType)) ∈ lw_all := lw_g (lw_at lw_m4 149 rfl) rfl
theorem q995 : (Jvm.Cond.methodLink "FeatherYard$Not" (1 : Nat) ({ cls := "java/lang/Object", name := "<init>", desc := "()V" } : Jvm.MethodName)) ∈ lw_all := lw_g (lw_at lw_m4 150 rfl) rfl
theorem q996 : (Jvm.Cond.fieldLink "FeatherYard$Not" (7 : Nat) "FeatherYard$Not" "of" "LFeatherYard$Cond;") ∈ lw_all := lw_g (lw_at lw_m4 151 rfl) rfl
theorem q997 : (Jvm.Cond.laysFinal "FeatherYard$Not" "FeatherYard$Not" "of" "LFeatherYard$Cond;") ∈ lw_all := lw_g (lw_at lw_m4 152 rfl) rfl
theorem q998 : (Jvm.Cond.soleField "FeatherYard$Not" "of") ∈ lw_all := lw_g (lw_at lw_m4 153 rfl) rfl
theorem q999 : (Jvm.Cond.superclass "FeatherYard$Not" "java/lang/Object") ∈ lw_all := lw_g (lw_at lw_m4 154 rfl) rfl
theorem q2130 : (Jvm.Cond.castable "FeatherYard$Not" "java/lang/Object") ∈ lw_tbl := lw_at lw_m9 85 rfl
theorem in_X13 : ∀ w ∈ wsX130, w ∈ lw_all := lw_in wsX130 [997] (by decide +kernel) (by decide +kernel)

/-! FeatherYard$Line -/
set_option maxRecDepth 100000
def RX14 : String := "FeatherYard$Line"
abbrev cX14_adds : ByteArray := prog_8_method_2_code
def yX14_adds : MethodName := ⟨RX14, "adds", "([I)I"⟩
def dkwX14_adds_1 : List UInt8 := [167, 0, 4, 3, 172]
abbrev dktX14_adds_1 : List UInt8 := dkwX14_adds_1 ++ []
def dkwX14_adds_0 : List UInt8 := [42, 180, 0, 13, 198, 0, 16, 42, 180, 0, 13, 43, 185, 0, 17, 2, 0, 153, 0, 10, 42, 180, 0, 7]
abbrev dktX14_adds_0 : List UInt8 := dkwX14_adds_0 ++ dktX14_adds_1
theorem dksX14_adds_0 : cX14_adds.data.toList.drop 0 = dktX14_adds_0 := by decide +kernel
theorem dksX14_adds_1 : cX14_adds.data.toList.drop 24 = dktX14_adds_1 := dk_seg dksX14_adds_0 24 rfl rfl
theorem dX14_adds_0 : decode cX14_adds 0 = .ok (.aload_n 0, 1) := dk_42 (dk_at dksX14_adds_0 0 rfl rfl)
theorem dX14_adds_1 : decode cX14_adds 1 = .ok (.getfield 13, 3) := dk_180 0 13 (dk_at dksX14_adds_0 1 rfl rfl)
theorem dX14_adds_4 : decode cX14_adds 4 = .ok (.ifnull 16, 3) := dk_198 0 16 (dk_at dksX14_adds_0 4 rfl rfl)
theorem dX14_adds_7 : decode cX14_adds 7 = .ok (.aload_n 0, 1) := dk_42 (dk_at dksX14_adds_0 7 rfl rfl)
theorem dX14_adds_8 : decode cX14_adds 8 = .ok (.getfield 13, 3) := dk_180 0 13 (dk_at dksX14_adds_0 8 rfl rfl)
theorem dX14_adds_11 : decode cX14_adds 11 = .ok (.aload_n 1, 1) := dk_43 (dk_at dksX14_adds_0 11 rfl rfl)
theorem dX14_adds_12 : decode cX14_adds 12 = .ok (.invokeinterface 17 2, 5) := by decide +kernel
theorem dX14_adds_17 : decode cX14_adds 17 = .ok (.ifCond .eq 10, 3) := dk_153 0 10 (dk_at dksX14_adds_0 17 rfl rfl)
theorem dX14_adds_20 : decode cX14_adds 20 = .ok (.aload_n 0, 1) := dk_42 (dk_at dksX14_adds_0 20 rfl rfl)
theorem dX14_adds_21 : decode cX14_adds 21 = .ok (.getfield 7, 3) := dk_180 0 7 (dk_at dksX14_adds_0 21 rfl rfl)
theorem dX14_adds_24 : decode cX14_adds 24 = .ok (.goto 4, 3) := dk_167 0 4 (dk_at dksX14_adds_1 0 rfl rfl)
theorem dX14_adds_27 : decode cX14_adds 27 = .ok (.iconst 0, 1) := dk_3 (dk_at dksX14_adds_1 3 rfl rfl)
theorem dX14_adds_28 : decode cX14_adds 28 = .ok (.ireturn, 1) := dk_172 (dk_at dksX14_adds_1 4 rfl rfl)
abbrev cX14_sinks : ByteArray := prog_8_method_3_code
def yX14_sinks : MethodName := ⟨RX14, "sinks", "([I)I"⟩
theorem dX14_sinks_0 : decode cX14_sinks 0 = .ok (.iconst 0, 1) := by decide +kernel
theorem dX14_sinks_1 : decode cX14_sinks 1 = .ok (.ireturn, 1) := by decide +kernel
abbrev cX14_carries : ByteArray := prog_8_method_4_code
def yX14_carries : MethodName := ⟨RX14, "carries", "([I)I"⟩
theorem dX14_carries_0 : decode cX14_carries 0 = .ok (.iconst 0, 1) := by decide +kernel
theorem dX14_carries_1 : decode cX14_carries 1 = .ok (.ireturn, 1) := by decide +kernel
abbrev cX14_init : ByteArray := prog_8_method_1_code
def yX14_init : MethodName := ⟨RX14, "<init>", "(ILFeatherYard$Cond;)V"⟩
def dkwX14_init_0 : List UInt8 := [42, 183, 0, 1, 42, 27, 181, 0, 7, 42, 44, 181, 0, 13, 177]
abbrev dktX14_init_0 : List UInt8 := dkwX14_init_0 ++ []
theorem dksX14_init_0 : cX14_init.data.toList.drop 0 = dktX14_init_0 := by decide +kernel
theorem dX14_init_0 : decode cX14_init 0 = .ok (.aload_n 0, 1) := dk_42 (dk_at dksX14_init_0 0 rfl rfl)
theorem dX14_init_1 : decode cX14_init 1 = .ok (.invokespecial 1, 3) := dk_183 0 1 (dk_at dksX14_init_0 1 rfl rfl)
theorem dX14_init_4 : decode cX14_init 4 = .ok (.aload_n 0, 1) := dk_42 (dk_at dksX14_init_0 4 rfl rfl)
theorem dX14_init_5 : decode cX14_init 5 = .ok (.iload_n 1, 1) := dk_27 (dk_at dksX14_init_0 5 rfl rfl)
theorem dX14_init_6 : decode cX14_init 6 = .ok (.putfield 7, 3) := dk_181 0 7 (dk_at dksX14_init_0 6 rfl rfl)
theorem dX14_init_9 : decode cX14_init 9 = .ok (.aload_n 0, 1) := dk_42 (dk_at dksX14_init_0 9 rfl rfl)
theorem dX14_init_10 : decode cX14_init 10 = .ok (.aload_n 2, 1) := dk_44 (dk_at dksX14_init_0 10 rfl rfl)
theorem dX14_init_11 : decode cX14_init 11 = .ok (.putfield 13, 3) := dk_181 0 13 (dk_at dksX14_init_0 11 rfl rfl)
theorem dX14_init_14 : decode cX14_init 14 = .ok (.return_, 1) := dk_177 (dk_at dksX14_init_0 14 rfl rfl)
theorem q149 : (Jvm.Cond.initialized "FeatherYard$Line") ∈ lw_all := lw_g (lw_at lw_m1 24 rfl) rfl
theorem q590 : (Jvm.Cond.instanceMethod ({ cls := "FeatherYard$Line", name := "sinks", desc := "([I)I" } : Jvm.MethodName)) ∈ lw_all := lw_g (lw_at lw_m2 225 rfl) rfl
theorem q591 : (Jvm.Cond.sameMethod "FeatherYard$Line" "FeatherYard$Line" "sinks" "([I)I") ∈ lw_all := lw_g (lw_at lw_m2 226 rfl) rfl
theorem q598 : (Jvm.Cond.declares ({ cls := "FeatherYard$Line", name := "adds", desc := "([I)I" } : Jvm.MethodName)) ∈ lw_tbl := lw_at lw_m2 233 rfl
theorem q600 : (Jvm.Cond.instanceMethod ({ cls := "FeatherYard$Line", name := "adds", desc := "([I)I" } : Jvm.MethodName)) ∈ lw_all := lw_g (lw_at lw_m2 235 rfl) rfl
theorem q601 : (Jvm.Cond.code ({ cls := "FeatherYard$Line", name := "adds", desc := "([I)I" } : Jvm.MethodName) prog_8_method_2_code (2 : Nat) (Option.some Jvm.ClassFile.FieldType.int)) ∈ lw_all := lw_g (lw_at lw_m2 236 rfl) rfl
theorem q602 : (Jvm.Cond.interfaceEntry "FeatherYard$Line" (17 : Nat)) ∈ lw_tbl := lw_at lw_m2 237 rfl
theorem q603 : (Jvm.Cond.methodLink "FeatherYard$Line" (17 : Nat) ({ cls := "FeatherYard$Cond", name := "holds", desc := "([I)Z" } : Jvm.MethodName)) ∈ lw_all := lw_g (lw_at lw_m2 238 rfl) rfl
theorem q638 : (Jvm.Cond.code ({ cls := "FeatherYard$Line", name := "sinks", desc := "([I)I" } : Jvm.MethodName) prog_8_method_3_code (2 : Nat) (Option.some Jvm.ClassFile.FieldType.int)) ∈ lw_all := lw_g (lw_at lw_m3 33 rfl) rfl
theorem q650 : (Jvm.Cond.instanceMethod ({ cls := "FeatherYard$Line", name := "carries", desc := "([I)I" } : Jvm.MethodName)) ∈ lw_all := lw_g (lw_at lw_m3 45 rfl) rfl
theorem q651 : (Jvm.Cond.sameMethod "FeatherYard$Line" "FeatherYard$Line" "carries" "([I)I") ∈ lw_all := lw_g (lw_at lw_m3 46 rfl) rfl
theorem q659 : (Jvm.Cond.code ({ cls := "FeatherYard$Line", name := "carries", desc := "([I)I" } : Jvm.MethodName) prog_8_method_4_code (2 : Nat) (Option.some Jvm.ClassFile.FieldType.int)) ∈ lw_all := lw_g (lw_at lw_m3 54 rfl) rfl
theorem q1023 : (Jvm.Cond.instanceMethod ({ cls := "FeatherYard$Line", name := "<init>", desc := "(ILFeatherYard$Cond;)V" } : Jvm.MethodName)) ∈ lw_all := lw_g (lw_at lw_m4 178 rfl) rfl
theorem q1024 : (Jvm.Cond.code ({ cls := "FeatherYard$Line", name := "<init>", desc := "(ILFeatherYard$Cond;)V" } : Jvm.MethodName) prog_8_method_1_code (3 : Nat) (Option.none : Option Jvm.ClassFile.FieldType)) ∈ lw_all := lw_g (lw_at lw_m4 179 rfl) rfl
theorem q1025 : (Jvm.Cond.methodLink "FeatherYard$Line" (1 : Nat) ({ cls := "java/lang/Object", name := "<init>", desc := "()V" } : Jvm.MethodName)) ∈ lw_all := lw_g (lw_at lw_m4 180 rfl) rfl
theorem q1027 : (Jvm.Cond.fieldLink "FeatherYard$Line" (7 : Nat) "FeatherYard$Line" "n" "I") ∈ lw_all := lw_g (lw_at lw_m4 182 rfl) rfl
theorem q1028 : (Jvm.Cond.fieldLink "FeatherYard$Line" (13 : Nat) "FeatherYard$Line" "cond" "LFeatherYard$Cond;") ∈ lw_all := lw_g (lw_at lw_m4 183 rfl) rfl
theorem q1032 : (Jvm.Cond.soleField "FeatherYard$Line" "n") ∈ lw_all := lw_g (lw_at lw_m4 187 rfl) rfl
theorem q1034 : (Jvm.Cond.soleField "FeatherYard$Line" "cond") ∈ lw_all := lw_g (lw_at lw_m4 189 rfl) rfl

/-! FeatherYard$Sinks -/
set_option maxRecDepth 100000
def RX15 : String := "FeatherYard$Sinks"
def TX15 : u_T := fun k => match k with
  | 0 => ("FeatherYard$Line", "n", "I", true)
  | 1 => ("FeatherYard$Line", "cond", "LFeatherYard$Cond;", true)
  | _ => ("FeatherYard$Sinks", "sign", "I", true)
def tyX15 : Nat → FieldType := fun k => match k with
  | 0 => .int
  | 1 => .object "FeatherYard$Cond"
  | _ => .int
abbrev wsX150 : List Cond := u_ws RX15 TX15 3
theorem nmX15 : ∀ a, a < 3 → ∀ b, b < 3 → a ≠ b → (TX15 a).2.1 ≠ (TX15 b).2.1 := by decide +kernel
theorem tyX15_ok : ∀ k, k < 3 → parseFieldDescriptor (TX15 k).2.2.1 = some (tyX15 k) := by decide +kernel
abbrev cX15_sinks : ByteArray := prog_11_method_2_code
def yX15_sinks : MethodName := ⟨RX15, "sinks", "([I)I"⟩
def dkwX15_sinks_0 : List UInt8 := [42, 180, 0, 7, 42, 43, 182, 0, 13, 104, 172]
abbrev dktX15_sinks_0 : List UInt8 := dkwX15_sinks_0 ++ []
theorem dksX15_sinks_0 : cX15_sinks.data.toList.drop 0 = dktX15_sinks_0 := by decide +kernel
theorem dX15_sinks_0 : decode cX15_sinks 0 = .ok (.aload_n 0, 1) := dk_42 (dk_at dksX15_sinks_0 0 rfl rfl)
theorem dX15_sinks_1 : decode cX15_sinks 1 = .ok (.getfield 7, 3) := dk_180 0 7 (dk_at dksX15_sinks_0 1 rfl rfl)
theorem dX15_sinks_4 : decode cX15_sinks 4 = .ok (.aload_n 0, 1) := dk_42 (dk_at dksX15_sinks_0 4 rfl rfl)
theorem dX15_sinks_5 : decode cX15_sinks 5 = .ok (.aload_n 1, 1) := dk_43 (dk_at dksX15_sinks_0 5 rfl rfl)
theorem dX15_sinks_6 : decode cX15_sinks 6 = .ok (.invokevirtual 13, 3) := dk_182 0 13 (dk_at dksX15_sinks_0 6 rfl rfl)
theorem dX15_sinks_9 : decode cX15_sinks 9 = .ok (.imul, 1) := dk_104 (dk_at dksX15_sinks_0 9 rfl rfl)
theorem dX15_sinks_10 : decode cX15_sinks 10 = .ok (.ireturn, 1) := dk_172 (dk_at dksX15_sinks_0 10 rfl rfl)
abbrev cX15_init : ByteArray := prog_11_method_1_code
def yX15_init : MethodName := ⟨RX15, "<init>", "(ILFeatherYard$Cond;Z)V"⟩
def dkwX15_init_0 : List UInt8 := [42, 27, 44, 183, 0, 1, 42, 29, 153, 0, 7, 4, 167, 0, 4, 2, 181, 0, 7, 177]
abbrev dktX15_init_0 : List UInt8 := dkwX15_init_0 ++ []
theorem dksX15_init_0 : cX15_init.data.toList.drop 0 = dktX15_init_0 := by decide +kernel
theorem dX15_init_0 : decode cX15_init 0 = .ok (.aload_n 0, 1) := dk_42 (dk_at dksX15_init_0 0 rfl rfl)
theorem dX15_init_1 : decode cX15_init 1 = .ok (.iload_n 1, 1) := dk_27 (dk_at dksX15_init_0 1 rfl rfl)
theorem dX15_init_2 : decode cX15_init 2 = .ok (.aload_n 2, 1) := dk_44 (dk_at dksX15_init_0 2 rfl rfl)
theorem dX15_init_3 : decode cX15_init 3 = .ok (.invokespecial 1, 3) := dk_183 0 1 (dk_at dksX15_init_0 3 rfl rfl)
theorem dX15_init_6 : decode cX15_init 6 = .ok (.aload_n 0, 1) := dk_42 (dk_at dksX15_init_0 6 rfl rfl)
theorem dX15_init_7 : decode cX15_init 7 = .ok (.iload_n 3, 1) := dk_29 (dk_at dksX15_init_0 7 rfl rfl)
theorem dX15_init_8 : decode cX15_init 8 = .ok (.ifCond .eq 7, 3) := dk_153 0 7 (dk_at dksX15_init_0 8 rfl rfl)
theorem dX15_init_11 : decode cX15_init 11 = .ok (.iconst 1, 1) := dk_4 (dk_at dksX15_init_0 11 rfl rfl)
theorem dX15_init_12 : decode cX15_init 12 = .ok (.goto 4, 3) := dk_167 0 4 (dk_at dksX15_init_0 12 rfl rfl)
theorem dX15_init_15 : decode cX15_init 15 = .ok (.iconst (-1), 1) := dk_2 (dk_at dksX15_init_0 15 rfl rfl)
theorem dX15_init_16 : decode cX15_init 16 = .ok (.putfield 7, 3) := dk_181 0 7 (dk_at dksX15_init_0 16 rfl rfl)
theorem dX15_init_19 : decode cX15_init 19 = .ok (.return_, 1) := dk_177 (dk_at dksX15_init_0 19 rfl rfl)
theorem q150 : (Jvm.Cond.initialized "FeatherYard$Sinks") ∈ lw_all := lw_g (lw_at lw_m1 25 rfl) rfl
theorem q593 : (Jvm.Cond.selects "FeatherYard$Sinks" ({ cls := "FeatherYard$Line", name := "sinks", desc := "([I)I" } : Jvm.MethodName) ({ cls := "FeatherYard$Sinks", name := "sinks", desc := "([I)I" } : Jvm.MethodName)) ∈ lw_all := lw_g (lw_at lw_m2 228 rfl) rfl
theorem q594 : (Jvm.Cond.instanceMethod ({ cls := "FeatherYard$Sinks", name := "sinks", desc := "([I)I" } : Jvm.MethodName)) ∈ lw_all := lw_g (lw_at lw_m2 229 rfl) rfl
theorem q595 : (Jvm.Cond.code ({ cls := "FeatherYard$Sinks", name := "sinks", desc := "([I)I" } : Jvm.MethodName) prog_11_method_2_code (2 : Nat) (Option.some Jvm.ClassFile.FieldType.int)) ∈ lw_all := lw_g (lw_at lw_m2 230 rfl) rfl
theorem q596 : (Jvm.Cond.methodLink "FeatherYard$Sinks" (13 : Nat) ({ cls := "FeatherYard$Sinks", name := "adds", desc := "([I)I" } : Jvm.MethodName)) ∈ lw_all := lw_g (lw_at lw_m2 231 rfl) rfl
theorem q597 : (Jvm.Cond.sameMethod "FeatherYard$Sinks" "FeatherYard$Line" "adds" "([I)I") ∈ lw_all := lw_g (lw_at lw_m2 232 rfl) rfl
theorem q599 : (Jvm.Cond.selects "FeatherYard$Sinks" ({ cls := "FeatherYard$Sinks", name := "adds", desc := "([I)I" } : Jvm.MethodName) ({ cls := "FeatherYard$Line", name := "adds", desc := "([I)I" } : Jvm.MethodName)) ∈ lw_all := lw_g (lw_at lw_m2 234 rfl) rfl
theorem q658 : (Jvm.Cond.selects "FeatherYard$Sinks" ({ cls := "FeatherYard$Line", name := "carries", desc := "([I)I" } : Jvm.MethodName) ({ cls := "FeatherYard$Line", name := "carries", desc := "([I)I" } : Jvm.MethodName)) ∈ lw_all := lw_g (lw_at lw_m3 53 rfl) rfl
theorem q1018 : (Jvm.Cond.instantiable "FeatherYard$Sinks" (3 : Nat)) ∈ lw_all := lw_g (lw_at lw_m4 173 rfl) rfl
theorem q1020 : (Jvm.Cond.instanceMethod ({ cls := "FeatherYard$Sinks", name := "<init>", desc := "(ILFeatherYard$Cond;Z)V" } : Jvm.MethodName)) ∈ lw_all := lw_g (lw_at lw_m4 175 rfl) rfl
theorem q1021 : (Jvm.Cond.code ({ cls := "FeatherYard$Sinks", name := "<init>", desc := "(ILFeatherYard$Cond;Z)V" } : Jvm.MethodName) prog_11_method_1_code (4 : Nat) (Option.none : Option Jvm.ClassFile.FieldType)) ∈ lw_all := lw_g (lw_at lw_m4 176 rfl) rfl
theorem q1022 : (Jvm.Cond.methodLink "FeatherYard$Sinks" (1 : Nat) ({ cls := "FeatherYard$Line", name := "<init>", desc := "(ILFeatherYard$Cond;)V" } : Jvm.MethodName)) ∈ lw_all := lw_g (lw_at lw_m4 177 rfl) rfl
theorem q1026 : (Jvm.Cond.fieldLink "FeatherYard$Sinks" (7 : Nat) "FeatherYard$Sinks" "sign" "I") ∈ lw_all := lw_g (lw_at lw_m4 181 rfl) rfl
theorem q1029 : (Jvm.Cond.laysFinal "FeatherYard$Sinks" "FeatherYard$Sinks" "sign" "I") ∈ lw_all := lw_g (lw_at lw_m4 184 rfl) rfl
theorem q1030 : (Jvm.Cond.soleField "FeatherYard$Sinks" "sign") ∈ lw_all := lw_g (lw_at lw_m4 185 rfl) rfl
theorem q1031 : (Jvm.Cond.laysFinal "FeatherYard$Sinks" "FeatherYard$Line" "n" "I") ∈ lw_all := lw_g (lw_at lw_m4 186 rfl) rfl
theorem q1033 : (Jvm.Cond.laysFinal "FeatherYard$Sinks" "FeatherYard$Line" "cond" "LFeatherYard$Cond;") ∈ lw_all := lw_g (lw_at lw_m4 188 rfl) rfl
theorem q1035 : (Jvm.Cond.superclass "FeatherYard$Sinks" "FeatherYard$Line") ∈ lw_all := lw_g (lw_at lw_m4 190 rfl) rfl
theorem q2131 : (Jvm.Cond.castable "FeatherYard$Sinks" "java/lang/Object") ∈ lw_tbl := lw_at lw_m9 86 rfl
theorem q2139 : (Jvm.Cond.castable "FeatherYard$Sinks" "FeatherYard$Line") ∈ lw_tbl := lw_at lw_m9 94 rfl
theorem in_X15 : ∀ w ∈ wsX150, w ∈ lw_all := lw_in wsX150 [1031, 1033, 1029] (by decide +kernel) (by decide +kernel)

/-! FeatherYard$Carries -/
set_option maxRecDepth 100000
def RX16 : String := "FeatherYard$Carries"
def TX16 : u_T := fun k => match k with
  | 0 => ("FeatherYard$Line", "n", "I", true)
  | 1 => ("FeatherYard$Line", "cond", "LFeatherYard$Cond;", true)
  | _ => ("FeatherYard$Carries", "sign", "I", true)
def tyX16 : Nat → FieldType := fun k => match k with
  | 0 => .int
  | 1 => .object "FeatherYard$Cond"
  | _ => .int
abbrev wsX160 : List Cond := u_ws RX16 TX16 3
theorem nmX16 : ∀ a, a < 3 → ∀ b, b < 3 → a ≠ b → (TX16 a).2.1 ≠ (TX16 b).2.1 := by decide +kernel
theorem tyX16_ok : ∀ k, k < 3 → parseFieldDescriptor (TX16 k).2.2.1 = some (tyX16 k) := by decide +kernel
abbrev cX16_carries : ByteArray := prog_3_method_2_code
def yX16_carries : MethodName := ⟨RX16, "carries", "([I)I"⟩
def dkwX16_carries_0 : List UInt8 := [42, 180, 0, 7, 42, 43, 182, 0, 13, 104, 172]
abbrev dktX16_carries_0 : List UInt8 := dkwX16_carries_0 ++ []
theorem dksX16_carries_0 : cX16_carries.data.toList.drop 0 = dktX16_carries_0 := by decide +kernel
theorem dX16_carries_0 : decode cX16_carries 0 = .ok (.aload_n 0, 1) := dk_42 (dk_at dksX16_carries_0 0 rfl rfl)
theorem dX16_carries_1 : decode cX16_carries 1 = .ok (.getfield 7, 3) := dk_180 0 7 (dk_at dksX16_carries_0 1 rfl rfl)
theorem dX16_carries_4 : decode cX16_carries 4 = .ok (.aload_n 0, 1) := dk_42 (dk_at dksX16_carries_0 4 rfl rfl)
theorem dX16_carries_5 : decode cX16_carries 5 = .ok (.aload_n 1, 1) := dk_43 (dk_at dksX16_carries_0 5 rfl rfl)
theorem dX16_carries_6 : decode cX16_carries 6 = .ok (.invokevirtual 13, 3) := dk_182 0 13 (dk_at dksX16_carries_0 6 rfl rfl)
theorem dX16_carries_9 : decode cX16_carries 9 = .ok (.imul, 1) := dk_104 (dk_at dksX16_carries_0 9 rfl rfl)
theorem dX16_carries_10 : decode cX16_carries 10 = .ok (.ireturn, 1) := dk_172 (dk_at dksX16_carries_0 10 rfl rfl)
abbrev cX16_init : ByteArray := prog_3_method_1_code
def yX16_init : MethodName := ⟨RX16, "<init>", "(ILFeatherYard$Cond;Z)V"⟩
def dkwX16_init_0 : List UInt8 := [42, 27, 44, 183, 0, 1, 42, 29, 153, 0, 7, 4, 167, 0, 4, 2, 181, 0, 7, 177]
abbrev dktX16_init_0 : List UInt8 := dkwX16_init_0 ++ []
theorem dksX16_init_0 : cX16_init.data.toList.drop 0 = dktX16_init_0 := by decide +kernel
theorem dX16_init_0 : decode cX16_init 0 = .ok (.aload_n 0, 1) := dk_42 (dk_at dksX16_init_0 0 rfl rfl)
theorem dX16_init_1 : decode cX16_init 1 = .ok (.iload_n 1, 1) := dk_27 (dk_at dksX16_init_0 1 rfl rfl)
theorem dX16_init_2 : decode cX16_init 2 = .ok (.aload_n 2, 1) := dk_44 (dk_at dksX16_init_0 2 rfl rfl)
theorem dX16_init_3 : decode cX16_init 3 = .ok (.invokespecial 1, 3) := dk_183 0 1 (dk_at dksX16_init_0 3 rfl rfl)
theorem dX16_init_6 : decode cX16_init 6 = .ok (.aload_n 0, 1) := dk_42 (dk_at dksX16_init_0 6 rfl rfl)
theorem dX16_init_7 : decode cX16_init 7 = .ok (.iload_n 3, 1) := dk_29 (dk_at dksX16_init_0 7 rfl rfl)
theorem dX16_init_8 : decode cX16_init 8 = .ok (.ifCond .eq 7, 3) := dk_153 0 7 (dk_at dksX16_init_0 8 rfl rfl)
theorem dX16_init_11 : decode cX16_init 11 = .ok (.iconst 1, 1) := dk_4 (dk_at dksX16_init_0 11 rfl rfl)
theorem dX16_init_12 : decode cX16_init 12 = .ok (.goto 4, 3) := dk_167 0 4 (dk_at dksX16_init_0 12 rfl rfl)
theorem dX16_init_15 : decode cX16_init 15 = .ok (.iconst (-1), 1) := dk_2 (dk_at dksX16_init_0 15 rfl rfl)
theorem dX16_init_16 : decode cX16_init 16 = .ok (.putfield 7, 3) := dk_181 0 7 (dk_at dksX16_init_0 16 rfl rfl)
theorem dX16_init_19 : decode cX16_init 19 = .ok (.return_, 1) := dk_177 (dk_at dksX16_init_0 19 rfl rfl)
theorem q151 : (Jvm.Cond.initialized "FeatherYard$Carries") ∈ lw_all := lw_g (lw_at lw_m1 26 rfl) rfl
theorem q592 : (Jvm.Cond.selects "FeatherYard$Carries" ({ cls := "FeatherYard$Line", name := "sinks", desc := "([I)I" } : Jvm.MethodName) ({ cls := "FeatherYard$Line", name := "sinks", desc := "([I)I" } : Jvm.MethodName)) ∈ lw_all := lw_g (lw_at lw_m2 227 rfl) rfl
theorem q652 : (Jvm.Cond.selects "FeatherYard$Carries" ({ cls := "FeatherYard$Line", name := "carries", desc := "([I)I" } : Jvm.MethodName) ({ cls := "FeatherYard$Carries", name := "carries", desc := "([I)I" } : Jvm.MethodName)) ∈ lw_all := lw_g (lw_at lw_m3 47 rfl) rfl
theorem q653 : (Jvm.Cond.instanceMethod ({ cls := "FeatherYard$Carries", name := "carries", desc := "([I)I" } : Jvm.MethodName)) ∈ lw_all := lw_g (lw_at lw_m3 48 rfl) rfl
theorem q654 : (Jvm.Cond.code ({ cls := "FeatherYard$Carries", name := "carries", desc := "([I)I" } : Jvm.MethodName) prog_3_method_2_code (2 : Nat) (Option.some Jvm.ClassFile.FieldType.int)) ∈ lw_all := lw_g (lw_at lw_m3 49 rfl) rfl
theorem q655 : (Jvm.Cond.methodLink "FeatherYard$Carries" (13 : Nat) ({ cls := "FeatherYard$Carries", name := "adds", desc := "([I)I" } : Jvm.MethodName)) ∈ lw_all := lw_g (lw_at lw_m3 50 rfl) rfl
theorem q656 : (Jvm.Cond.sameMethod "FeatherYard$Carries" "FeatherYard$Line" "adds" "([I)I") ∈ lw_all := lw_g (lw_at lw_m3 51 rfl) rfl
theorem q657 : (Jvm.Cond.selects "FeatherYard$Carries" ({ cls := "FeatherYard$Carries", name := "adds", desc := "([I)I" } : Jvm.MethodName) ({ cls := "FeatherYard$Line", name := "adds", desc := "([I)I" } : Jvm.MethodName)) ∈ lw_all := lw_g (lw_at lw_m3 52 rfl) rfl
theorem q1037 : (Jvm.Cond.instantiable "FeatherYard$Carries" (3 : Nat)) ∈ lw_all := lw_g (lw_at lw_m4 192 rfl) rfl
theorem q1039 : (Jvm.Cond.instanceMethod ({ cls := "FeatherYard$Carries", name := "<init>", desc := "(ILFeatherYard$Cond;Z)V" } : Jvm.MethodName)) ∈ lw_all := lw_g (lw_at lw_m4 194 rfl) rfl
theorem q1040 : (Jvm.Cond.code ({ cls := "FeatherYard$Carries", name := "<init>", desc := "(ILFeatherYard$Cond;Z)V" } : Jvm.MethodName) prog_3_method_1_code (4 : Nat) (Option.none : Option Jvm.ClassFile.FieldType)) ∈ lw_all := lw_g (lw_at lw_m4 195 rfl) rfl
theorem q1041 : (Jvm.Cond.methodLink "FeatherYard$Carries" (1 : Nat) ({ cls := "FeatherYard$Line", name := "<init>", desc := "(ILFeatherYard$Cond;)V" } : Jvm.MethodName)) ∈ lw_all := lw_g (lw_at lw_m4 196 rfl) rfl
theorem q1042 : (Jvm.Cond.fieldLink "FeatherYard$Carries" (7 : Nat) "FeatherYard$Carries" "sign" "I") ∈ lw_all := lw_g (lw_at lw_m4 197 rfl) rfl
theorem q1043 : (Jvm.Cond.laysFinal "FeatherYard$Carries" "FeatherYard$Carries" "sign" "I") ∈ lw_all := lw_g (lw_at lw_m4 198 rfl) rfl
theorem q1044 : (Jvm.Cond.soleField "FeatherYard$Carries" "sign") ∈ lw_all := lw_g (lw_at lw_m4 199 rfl) rfl
theorem q1045 : (Jvm.Cond.laysFinal "FeatherYard$Carries" "FeatherYard$Line" "n" "I") ∈ lw_all := lw_g (lw_at lw_m4 200 rfl) rfl
theorem q1046 : (Jvm.Cond.laysFinal "FeatherYard$Carries" "FeatherYard$Line" "cond" "LFeatherYard$Cond;") ∈ lw_all := lw_g (lw_at lw_m4 201 rfl) rfl
theorem q1047 : (Jvm.Cond.superclass "FeatherYard$Carries" "FeatherYard$Line") ∈ lw_all := lw_g (lw_at lw_m4 202 rfl) rfl
theorem q2132 : (Jvm.Cond.castable "FeatherYard$Carries" "java/lang/Object") ∈ lw_tbl := lw_at lw_m9 87 rfl
theorem q2140 : (Jvm.Cond.castable "FeatherYard$Carries" "FeatherYard$Line") ∈ lw_tbl := lw_at lw_m9 95 rfl
theorem in_X16 : ∀ w ∈ wsX160, w ∈ lw_all := lw_in wsX160 [1045, 1046, 1043] (by decide +kernel) (by decide +kernel)
