/-! FeatherYardLaw -/
set_option maxRecDepth 100000
def RX0 : String := "FeatherYardLaw"
abbrev cX0_court : ByteArray := method_3_code
def yX0_court : MethodName := ⟨RX0, "court", "(LFeatherYard;[J)I"⟩
def dkwX0_court_0 : List UInt8 := [43, 3, 42, 182, 0, 7, 133, 80, 167, 0, 9, 77, 4, 172, 77, 5, 172, 3, 172]
abbrev dktX0_court_0 : List UInt8 := dkwX0_court_0 ++ []
theorem dksX0_court_0 : cX0_court.data.toList.drop 0 = dktX0_court_0 := by decide +kernel
theorem dX0_court_0 : decode cX0_court 0 = .ok (.aload_n 1, 1) := dk_43 (dk_at dksX0_court_0 0 rfl rfl)
theorem dX0_court_1 : decode cX0_court 1 = .ok (.iconst 0, 1) := dk_3 (dk_at dksX0_court_0 1 rfl rfl)
theorem dX0_court_2 : decode cX0_court 2 = .ok (.aload_n 0, 1) := dk_42 (dk_at dksX0_court_0 2 rfl rfl)
theorem dX0_court_3 : decode cX0_court 3 = .ok (.invokevirtual 7, 3) := dk_182 0 7 (dk_at dksX0_court_0 3 rfl rfl)
theorem dX0_court_6 : decode cX0_court 6 = .ok (.i2l, 1) := dk_133 (dk_at dksX0_court_0 6 rfl rfl)
theorem dX0_court_7 : decode cX0_court 7 = .ok (.lastore, 1) := dk_80 (dk_at dksX0_court_0 7 rfl rfl)
theorem dX0_court_8 : decode cX0_court 8 = .ok (.goto 9, 3) := dk_167 0 9 (dk_at dksX0_court_0 8 rfl rfl)
theorem dX0_court_11 : decode cX0_court 11 = .ok (.astore_n 2, 1) := dk_77 (dk_at dksX0_court_0 11 rfl rfl)
theorem dX0_court_12 : decode cX0_court 12 = .ok (.iconst 1, 1) := dk_4 (dk_at dksX0_court_0 12 rfl rfl)
theorem dX0_court_13 : decode cX0_court 13 = .ok (.ireturn, 1) := dk_172 (dk_at dksX0_court_0 13 rfl rfl)
theorem dX0_court_14 : decode cX0_court 14 = .ok (.astore_n 2, 1) := dk_77 (dk_at dksX0_court_0 14 rfl rfl)
theorem dX0_court_15 : decode cX0_court 15 = .ok (.iconst 2, 1) := dk_5 (dk_at dksX0_court_0 15 rfl rfl)
theorem dX0_court_16 : decode cX0_court 16 = .ok (.ireturn, 1) := dk_172 (dk_at dksX0_court_0 16 rfl rfl)
theorem dX0_court_17 : decode cX0_court 17 = .ok (.iconst 0, 1) := dk_3 (dk_at dksX0_court_0 17 rfl rfl)
theorem dX0_court_18 : decode cX0_court 18 = .ok (.ireturn, 1) := dk_172 (dk_at dksX0_court_0 18 rfl rfl)
abbrev cX0_law : ByteArray := method_4_code
def yX0_law : MethodName := ⟨RX0, "law", "(LFeatherYard;[J)I"⟩
def dkwX0_law_0 : List UInt8 := [43, 3, 42, 182, 0, 17, 133, 80, 167, 0, 6, 77, 4, 172, 3, 172]
abbrev dktX0_law_0 : List UInt8 := dkwX0_law_0 ++ []
theorem dksX0_law_0 : cX0_law.data.toList.drop 0 = dktX0_law_0 := by decide +kernel
theorem dX0_law_0 : decode cX0_law 0 = .ok (.aload_n 1, 1) := dk_43 (dk_at dksX0_law_0 0 rfl rfl)
theorem dX0_law_1 : decode cX0_law 1 = .ok (.iconst 0, 1) := dk_3 (dk_at dksX0_law_0 1 rfl rfl)
theorem dX0_law_2 : decode cX0_law 2 = .ok (.aload_n 0, 1) := dk_42 (dk_at dksX0_law_0 2 rfl rfl)
theorem dX0_law_3 : decode cX0_law 3 = .ok (.invokevirtual 17, 3) := dk_182 0 17 (dk_at dksX0_law_0 3 rfl rfl)
theorem dX0_law_6 : decode cX0_law 6 = .ok (.i2l, 1) := dk_133 (dk_at dksX0_law_0 6 rfl rfl)
theorem dX0_law_7 : decode cX0_law 7 = .ok (.lastore, 1) := dk_80 (dk_at dksX0_law_0 7 rfl rfl)
theorem dX0_law_8 : decode cX0_law 8 = .ok (.goto 6, 3) := dk_167 0 6 (dk_at dksX0_law_0 8 rfl rfl)
theorem dX0_law_11 : decode cX0_law 11 = .ok (.astore_n 2, 1) := dk_77 (dk_at dksX0_law_0 11 rfl rfl)
theorem dX0_law_12 : decode cX0_law 12 = .ok (.iconst 1, 1) := dk_4 (dk_at dksX0_law_0 12 rfl rfl)
theorem dX0_law_13 : decode cX0_law 13 = .ok (.ireturn, 1) := dk_172 (dk_at dksX0_law_0 13 rfl rfl)
theorem dX0_law_14 : decode cX0_law 14 = .ok (.iconst 0, 1) := dk_3 (dk_at dksX0_law_0 14 rfl rfl)
theorem dX0_law_15 : decode cX0_law 15 = .ok (.ireturn, 1) := dk_172 (dk_at dksX0_law_0 15 rfl rfl)
abbrev cX0_bird : ByteArray := method_5_code
def yX0_bird : MethodName := ⟨RX0, "bird", "(LFeatherYard;II[J)I"⟩
def dkwX0_bird_0 : List UInt8 := [45, 3, 42, 27, 28, 182, 0, 20, 133, 80, 167, 0, 11, 58, 4, 4, 172, 58, 4, 5, 172, 3, 172]
abbrev dktX0_bird_0 : List UInt8 := dkwX0_bird_0 ++ []
theorem dksX0_bird_0 : cX0_bird.data.toList.drop 0 = dktX0_bird_0 := by decide +kernel
theorem dX0_bird_0 : decode cX0_bird 0 = .ok (.aload_n 3, 1) := dk_45 (dk_at dksX0_bird_0 0 rfl rfl)
theorem dX0_bird_1 : decode cX0_bird 1 = .ok (.iconst 0, 1) := dk_3 (dk_at dksX0_bird_0 1 rfl rfl)
theorem dX0_bird_2 : decode cX0_bird 2 = .ok (.aload_n 0, 1) := dk_42 (dk_at dksX0_bird_0 2 rfl rfl)
theorem dX0_bird_3 : decode cX0_bird 3 = .ok (.iload_n 1, 1) := dk_27 (dk_at dksX0_bird_0 3 rfl rfl)
theorem dX0_bird_4 : decode cX0_bird 4 = .ok (.iload_n 2, 1) := dk_28 (dk_at dksX0_bird_0 4 rfl rfl)
theorem dX0_bird_5 : decode cX0_bird 5 = .ok (.invokevirtual 20, 3) := dk_182 0 20 (dk_at dksX0_bird_0 5 rfl rfl)
theorem dX0_bird_8 : decode cX0_bird 8 = .ok (.i2l, 1) := dk_133 (dk_at dksX0_bird_0 8 rfl rfl)
theorem dX0_bird_9 : decode cX0_bird 9 = .ok (.lastore, 1) := dk_80 (dk_at dksX0_bird_0 9 rfl rfl)
theorem dX0_bird_10 : decode cX0_bird 10 = .ok (.goto 11, 3) := dk_167 0 11 (dk_at dksX0_bird_0 10 rfl rfl)
theorem dX0_bird_13 : decode cX0_bird 13 = .ok (.astore 4, 2) := dk_58 4 (dk_at dksX0_bird_0 13 rfl rfl)
theorem dX0_bird_15 : decode cX0_bird 15 = .ok (.iconst 1, 1) := dk_4 (dk_at dksX0_bird_0 15 rfl rfl)
theorem dX0_bird_16 : decode cX0_bird 16 = .ok (.ireturn, 1) := dk_172 (dk_at dksX0_bird_0 16 rfl rfl)
theorem dX0_bird_17 : decode cX0_bird 17 = .ok (.astore 4, 2) := dk_58 4 (dk_at dksX0_bird_0 17 rfl rfl)
theorem dX0_bird_19 : decode cX0_bird 19 = .ok (.iconst 2, 1) := dk_5 (dk_at dksX0_bird_0 19 rfl rfl)
theorem dX0_bird_20 : decode cX0_bird 20 = .ok (.ireturn, 1) := dk_172 (dk_at dksX0_bird_0 20 rfl rfl)
theorem dX0_bird_21 : decode cX0_bird 21 = .ok (.iconst 0, 1) := dk_3 (dk_at dksX0_bird_0 21 rfl rfl)
theorem dX0_bird_22 : decode cX0_bird 22 = .ok (.ireturn, 1) := dk_172 (dk_at dksX0_bird_0 22 rfl rfl)
abbrev cX0_stock : ByteArray := method_6_code
def yX0_stock : MethodName := ⟨RX0, "stock", "(LFeatherYard;II[J)I"⟩
def dkwX0_stock_0 : List UInt8 := [45, 3, 42, 27, 28, 182, 0, 28, 133, 80, 167, 0, 7, 58, 4, 4, 172, 3, 172]
abbrev dktX0_stock_0 : List UInt8 := dkwX0_stock_0 ++ []
theorem dksX0_stock_0 : cX0_stock.data.toList.drop 0 = dktX0_stock_0 := by decide +kernel
theorem dX0_stock_0 : decode cX0_stock 0 = .ok (.aload_n 3, 1) := dk_45 (dk_at dksX0_stock_0 0 rfl rfl)
theorem dX0_stock_1 : decode cX0_stock 1 = .ok (.iconst 0, 1) := dk_3 (dk_at dksX0_stock_0 1 rfl rfl)
theorem dX0_stock_2 : decode cX0_stock 2 = .ok (.aload_n 0, 1) := dk_42 (dk_at dksX0_stock_0 2 rfl rfl)
theorem dX0_stock_3 : decode cX0_stock 3 = .ok (.iload_n 1, 1) := dk_27 (dk_at dksX0_stock_0 3 rfl rfl)
theorem dX0_stock_4 : decode cX0_stock 4 = .ok (.iload_n 2, 1) := dk_28 (dk_at dksX0_stock_0 4 rfl rfl)
theorem dX0_stock_5 : decode cX0_stock 5 = .ok (.invokevirtual 28, 3) := dk_182 0 28 (dk_at dksX0_stock_0 5 rfl rfl)
theorem dX0_stock_8 : decode cX0_stock 8 = .ok (.i2l, 1) := dk_133 (dk_at dksX0_stock_0 8 rfl rfl)
theorem dX0_stock_9 : decode cX0_stock 9 = .ok (.lastore, 1) := dk_80 (dk_at dksX0_stock_0 9 rfl rfl)
theorem dX0_stock_10 : decode cX0_stock 10 = .ok (.goto 7, 3) := dk_167 0 7 (dk_at dksX0_stock_0 10 rfl rfl)
theorem dX0_stock_13 : decode cX0_stock 13 = .ok (.astore 4, 2) := dk_58 4 (dk_at dksX0_stock_0 13 rfl rfl)
theorem dX0_stock_15 : decode cX0_stock 15 = .ok (.iconst 1, 1) := dk_4 (dk_at dksX0_stock_0 15 rfl rfl)
theorem dX0_stock_16 : decode cX0_stock 16 = .ok (.ireturn, 1) := dk_172 (dk_at dksX0_stock_0 16 rfl rfl)
theorem dX0_stock_17 : decode cX0_stock 17 = .ok (.iconst 0, 1) := dk_3 (dk_at dksX0_stock_0 17 rfl rfl)
theorem dX0_stock_18 : decode cX0_stock 18 = .ok (.ireturn, 1) := dk_172 (dk_at dksX0_stock_0 18 rfl rfl)
abbrev cX0_matter : ByteArray := method_7_code
def yX0_matter : MethodName := ⟨RX0, "matter", "(LFeatherYard;II[J)I"⟩
def dkwX0_matter_0 : List UInt8 := [45, 3, 42, 27, 28, 182, 0, 31, 133, 80, 167, 0, 11, 58, 4, 4, 172, 58, 4, 5, 172, 3, 172]
abbrev dktX0_matter_0 : List UInt8 := dkwX0_matter_0 ++ []
theorem dksX0_matter_0 : cX0_matter.data.toList.drop 0 = dktX0_matter_0 := by decide +kernel
theorem dX0_matter_0 : decode cX0_matter 0 = .ok (.aload_n 3, 1) := dk_45 (dk_at dksX0_matter_0 0 rfl rfl)
theorem dX0_matter_1 : decode cX0_matter 1 = .ok (.iconst 0, 1) := dk_3 (dk_at dksX0_matter_0 1 rfl rfl)
theorem dX0_matter_2 : decode cX0_matter 2 = .ok (.aload_n 0, 1) := dk_42 (dk_at dksX0_matter_0 2 rfl rfl)
theorem dX0_matter_3 : decode cX0_matter 3 = .ok (.iload_n 1, 1) := dk_27 (dk_at dksX0_matter_0 3 rfl rfl)
theorem dX0_matter_4 : decode cX0_matter 4 = .ok (.iload_n 2, 1) := dk_28 (dk_at dksX0_matter_0 4 rfl rfl)
theorem dX0_matter_5 : decode cX0_matter 5 = .ok (.invokevirtual 31, 3) := dk_182 0 31 (dk_at dksX0_matter_0 5 rfl rfl)
theorem dX0_matter_8 : decode cX0_matter 8 = .ok (.i2l, 1) := dk_133 (dk_at dksX0_matter_0 8 rfl rfl)
theorem dX0_matter_9 : decode cX0_matter 9 = .ok (.lastore, 1) := dk_80 (dk_at dksX0_matter_0 9 rfl rfl)
theorem dX0_matter_10 : decode cX0_matter 10 = .ok (.goto 11, 3) := dk_167 0 11 (dk_at dksX0_matter_0 10 rfl rfl)
theorem dX0_matter_13 : decode cX0_matter 13 = .ok (.astore 4, 2) := dk_58 4 (dk_at dksX0_matter_0 13 rfl rfl)
theorem dX0_matter_15 : decode cX0_matter 15 = .ok (.iconst 1, 1) := dk_4 (dk_at dksX0_matter_0 15 rfl rfl)
theorem dX0_matter_16 : decode cX0_matter 16 = .ok (.ireturn, 1) := dk_172 (dk_at dksX0_matter_0 16 rfl rfl)
theorem dX0_matter_17 : decode cX0_matter 17 = .ok (.astore 4, 2) := dk_58 4 (dk_at dksX0_matter_0 17 rfl rfl)
theorem dX0_matter_19 : decode cX0_matter 19 = .ok (.iconst 2, 1) := dk_5 (dk_at dksX0_matter_0 19 rfl rfl)
theorem dX0_matter_20 : decode cX0_matter 20 = .ok (.ireturn, 1) := dk_172 (dk_at dksX0_matter_0 20 rfl rfl)
theorem dX0_matter_21 : decode cX0_matter 21 = .ok (.iconst 0, 1) := dk_3 (dk_at dksX0_matter_0 21 rfl rfl)
theorem dX0_matter_22 : decode cX0_matter 22 = .ok (.ireturn, 1) := dk_172 (dk_at dksX0_matter_0 22 rfl rfl)
abbrev cX0_wind : ByteArray := method_8_code
def yX0_wind : MethodName := ⟨RX0, "wind", "(LFeatherYard;I[J)I"⟩
def dkwX0_wind_0 : List UInt8 := [44, 3, 42, 27, 182, 0, 34, 133, 80, 167, 0, 6, 78, 4, 172, 3, 172]
abbrev dktX0_wind_0 : List UInt8 := dkwX0_wind_0 ++ []
theorem dksX0_wind_0 : cX0_wind.data.toList.drop 0 = dktX0_wind_0 := by decide +kernel
theorem dX0_wind_0 : decode cX0_wind 0 = .ok (.aload_n 2, 1) := dk_44 (dk_at dksX0_wind_0 0 rfl rfl)
theorem dX0_wind_1 : decode cX0_wind 1 = .ok (.iconst 0, 1) := dk_3 (dk_at dksX0_wind_0 1 rfl rfl)
theorem dX0_wind_2 : decode cX0_wind 2 = .ok (.aload_n 0, 1) := dk_42 (dk_at dksX0_wind_0 2 rfl rfl)
theorem dX0_wind_3 : decode cX0_wind 3 = .ok (.iload_n 1, 1) := dk_27 (dk_at dksX0_wind_0 3 rfl rfl)
theorem dX0_wind_4 : decode cX0_wind 4 = .ok (.invokevirtual 34, 3) := dk_182 0 34 (dk_at dksX0_wind_0 4 rfl rfl)
theorem dX0_wind_7 : decode cX0_wind 7 = .ok (.i2l, 1) := dk_133 (dk_at dksX0_wind_0 7 rfl rfl)
theorem dX0_wind_8 : decode cX0_wind 8 = .ok (.lastore, 1) := dk_80 (dk_at dksX0_wind_0 8 rfl rfl)
theorem dX0_wind_9 : decode cX0_wind 9 = .ok (.goto 6, 3) := dk_167 0 6 (dk_at dksX0_wind_0 9 rfl rfl)
theorem dX0_wind_12 : decode cX0_wind 12 = .ok (.astore_n 3, 1) := dk_78 (dk_at dksX0_wind_0 12 rfl rfl)
theorem dX0_wind_13 : decode cX0_wind 13 = .ok (.iconst 1, 1) := dk_4 (dk_at dksX0_wind_0 13 rfl rfl)
theorem dX0_wind_14 : decode cX0_wind 14 = .ok (.ireturn, 1) := dk_172 (dk_at dksX0_wind_0 14 rfl rfl)
theorem dX0_wind_15 : decode cX0_wind 15 = .ok (.iconst 0, 1) := dk_3 (dk_at dksX0_wind_0 15 rfl rfl)
theorem dX0_wind_16 : decode cX0_wind 16 = .ok (.ireturn, 1) := dk_172 (dk_at dksX0_wind_0 16 rfl rfl)
abbrev cX0_moves : ByteArray := method_9_code
def yX0_moves : MethodName := ⟨RX0, "moves", "(LFeatherYard;IIIIZ[J)I"⟩
def dkwX0_moves_1 : List UInt8 := [58, 7, 5, 172, 3, 172]
abbrev dktX0_moves_1 : List UInt8 := dkwX0_moves_1 ++ []
def dkwX0_moves_0 : List UInt8 := [25, 6, 3, 42, 27, 28, 29, 21, 4, 21, 5, 182, 0, 38, 133, 80, 167, 0, 11, 58, 7, 4, 172]
abbrev dktX0_moves_0 : List UInt8 := dkwX0_moves_0 ++ dktX0_moves_1
theorem dksX0_moves_0 : cX0_moves.data.toList.drop 0 = dktX0_moves_0 := by decide +kernel
theorem dksX0_moves_1 : cX0_moves.data.toList.drop 23 = dktX0_moves_1 := dk_seg dksX0_moves_0 23 rfl rfl
theorem dX0_moves_0 : decode cX0_moves 0 = .ok (.aload 6, 2) := dk_25 6 (dk_at dksX0_moves_0 0 rfl rfl)
theorem dX0_moves_2 : decode cX0_moves 2 = .ok (.iconst 0, 1) := dk_3 (dk_at dksX0_moves_0 2 rfl rfl)
theorem dX0_moves_3 : decode cX0_moves 3 = .ok (.aload_n 0, 1) := dk_42 (dk_at dksX0_moves_0 3 rfl rfl)
theorem dX0_moves_4 : decode cX0_moves 4 = .ok (.iload_n 1, 1) := dk_27 (dk_at dksX0_moves_0 4 rfl rfl)
theorem dX0_moves_5 : decode cX0_moves 5 = .ok (.iload_n 2, 1) := dk_28 (dk_at dksX0_moves_0 5 rfl rfl)
theorem dX0_moves_6 : decode cX0_moves 6 = .ok (.iload_n 3, 1) := dk_29 (dk_at dksX0_moves_0 6 rfl rfl)
theorem dX0_moves_7 : decode cX0_moves 7 = .ok (.iload 4, 2) := dk_21 4 (dk_at dksX0_moves_0 7 rfl rfl)
theorem dX0_moves_9 : decode cX0_moves 9 = .ok (.iload 5, 2) := dk_21 5 (dk_at dksX0_moves_0 9 rfl rfl)
theorem dX0_moves_11 : decode cX0_moves 11 = .ok (.invokevirtual 38, 3) := dk_182 0 38 (dk_at dksX0_moves_0 11 rfl rfl)
theorem dX0_moves_14 : decode cX0_moves 14 = .ok (.i2l, 1) := dk_133 (dk_at dksX0_moves_0 14 rfl rfl)
theorem dX0_moves_15 : decode cX0_moves 15 = .ok (.lastore, 1) := dk_80 (dk_at dksX0_moves_0 15 rfl rfl)
theorem dX0_moves_16 : decode cX0_moves 16 = .ok (.goto 11, 3) := dk_167 0 11 (dk_at dksX0_moves_0 16 rfl rfl)
theorem dX0_moves_19 : decode cX0_moves 19 = .ok (.astore 7, 2) := dk_58 7 (dk_at dksX0_moves_0 19 rfl rfl)
theorem dX0_moves_21 : decode cX0_moves 21 = .ok (.iconst 1, 1) := dk_4 (dk_at dksX0_moves_0 21 rfl rfl)
theorem dX0_moves_22 : decode cX0_moves 22 = .ok (.ireturn, 1) := dk_172 (dk_at dksX0_moves_0 22 rfl rfl)
theorem dX0_moves_23 : decode cX0_moves 23 = .ok (.astore 7, 2) := dk_58 7 (dk_at dksX0_moves_1 0 rfl rfl)
theorem dX0_moves_25 : decode cX0_moves 25 = .ok (.iconst 2, 1) := dk_5 (dk_at dksX0_moves_1 2 rfl rfl)
theorem dX0_moves_26 : decode cX0_moves 26 = .ok (.ireturn, 1) := dk_172 (dk_at dksX0_moves_1 3 rfl rfl)
theorem dX0_moves_27 : decode cX0_moves 27 = .ok (.iconst 0, 1) := dk_3 (dk_at dksX0_moves_1 4 rfl rfl)
theorem dX0_moves_28 : decode cX0_moves 28 = .ok (.ireturn, 1) := dk_172 (dk_at dksX0_moves_1 5 rfl rfl)
abbrev cX0_call : ByteArray := method_10_code
def yX0_call : MethodName := ⟨RX0, "call", "(LFeatherYard;III[J)I"⟩
def dkwX0_call_1 : List UInt8 := [172]
abbrev dktX0_call_1 : List UInt8 := dkwX0_call_1 ++ []
def dkwX0_call_0 : List UInt8 := [25, 4, 3, 42, 27, 28, 29, 182, 0, 42, 133, 80, 167, 0, 11, 58, 5, 4, 172, 58, 5, 5, 172, 3]
abbrev dktX0_call_0 : List UInt8 := dkwX0_call_0 ++ dktX0_call_1
theorem dksX0_call_0 : cX0_call.data.toList.drop 0 = dktX0_call_0 := by decide +kernel
theorem dksX0_call_1 : cX0_call.data.toList.drop 24 = dktX0_call_1 := dk_seg dksX0_call_0 24 rfl rfl
theorem dX0_call_0 : decode cX0_call 0 = .ok (.aload 4, 2) := dk_25 4 (dk_at dksX0_call_0 0 rfl rfl)
theorem dX0_call_2 : decode cX0_call 2 = .ok (.iconst 0, 1) := dk_3 (dk_at dksX0_call_0 2 rfl rfl)
theorem dX0_call_3 : decode cX0_call 3 = .ok (.aload_n 0, 1) := dk_42 (dk_at dksX0_call_0 3 rfl rfl)
theorem dX0_call_4 : decode cX0_call 4 = .ok (.iload_n 1, 1) := dk_27 (dk_at dksX0_call_0 4 rfl rfl)
theorem dX0_call_5 : decode cX0_call 5 = .ok (.iload_n 2, 1) := dk_28 (dk_at dksX0_call_0 5 rfl rfl)
theorem dX0_call_6 : decode cX0_call 6 = .ok (.iload_n 3, 1) := dk_29 (dk_at dksX0_call_0 6 rfl rfl)
theorem dX0_call_7 : decode cX0_call 7 = .ok (.invokevirtual 42, 3) := dk_182 0 42 (dk_at dksX0_call_0 7 rfl rfl)
theorem dX0_call_10 : decode cX0_call 10 = .ok (.i2l, 1) := dk_133 (dk_at dksX0_call_0 10 rfl rfl)
theorem dX0_call_11 : decode cX0_call 11 = .ok (.lastore, 1) := dk_80 (dk_at dksX0_call_0 11 rfl rfl)
theorem dX0_call_12 : decode cX0_call 12 = .ok (.goto 11, 3) := dk_167 0 11 (dk_at dksX0_call_0 12 rfl rfl)
theorem dX0_call_15 : decode cX0_call 15 = .ok (.astore 5, 2) := dk_58 5 (dk_at dksX0_call_0 15 rfl rfl)
theorem dX0_call_17 : decode cX0_call 17 = .ok (.iconst 1, 1) := dk_4 (dk_at dksX0_call_0 17 rfl rfl)
theorem dX0_call_18 : decode cX0_call 18 = .ok (.ireturn, 1) := dk_172 (dk_at dksX0_call_0 18 rfl rfl)
theorem dX0_call_19 : decode cX0_call 19 = .ok (.astore 5, 2) := dk_58 5 (dk_at dksX0_call_0 19 rfl rfl)
theorem dX0_call_21 : decode cX0_call 21 = .ok (.iconst 2, 1) := dk_5 (dk_at dksX0_call_0 21 rfl rfl)
theorem dX0_call_22 : decode cX0_call 22 = .ok (.ireturn, 1) := dk_172 (dk_at dksX0_call_0 22 rfl rfl)
theorem dX0_call_23 : decode cX0_call 23 = .ok (.iconst 0, 1) := dk_3 (dk_at dksX0_call_0 23 rfl rfl)
theorem dX0_call_24 : decode cX0_call 24 = .ok (.ireturn, 1) := dk_172 (dk_at dksX0_call_1 0 rfl rfl)
abbrev cX0_hour : ByteArray := method_11_code
def yX0_hour : MethodName := ⟨RX0, "hour", "(LFeatherYard;I[J)I"⟩
def dkwX0_hour_0 : List UInt8 := [44, 3, 42, 27, 182, 0, 48, 133, 80, 167, 0, 6, 78, 4, 172, 3, 172]
abbrev dktX0_hour_0 : List UInt8 := dkwX0_hour_0 ++ []
theorem dksX0_hour_0 : cX0_hour.data.toList.drop 0 = dktX0_hour_0 := by decide +kernel
theorem dX0_hour_0 : decode cX0_hour 0 = .ok (.aload_n 2, 1) := dk_44 (dk_at dksX0_hour_0 0 rfl rfl)
theorem dX0_hour_1 : decode cX0_hour 1 = .ok (.iconst 0, 1) := dk_3 (dk_at dksX0_hour_0 1 rfl rfl)
theorem dX0_hour_2 : decode cX0_hour 2 = .ok (.aload_n 0, 1) := dk_42 (dk_at dksX0_hour_0 2 rfl rfl)
theorem dX0_hour_3 : decode cX0_hour 3 = .ok (.iload_n 1, 1) := dk_27 (dk_at dksX0_hour_0 3 rfl rfl)
theorem dX0_hour_4 : decode cX0_hour 4 = .ok (.invokevirtual 48, 3) := dk_182 0 48 (dk_at dksX0_hour_0 4 rfl rfl)
theorem dX0_hour_7 : decode cX0_hour 7 = .ok (.i2l, 1) := dk_133 (dk_at dksX0_hour_0 7 rfl rfl)
theorem dX0_hour_8 : decode cX0_hour 8 = .ok (.lastore, 1) := dk_80 (dk_at dksX0_hour_0 8 rfl rfl)
theorem dX0_hour_9 : decode cX0_hour 9 = .ok (.goto 6, 3) := dk_167 0 6 (dk_at dksX0_hour_0 9 rfl rfl)
theorem dX0_hour_12 : decode cX0_hour 12 = .ok (.astore_n 3, 1) := dk_78 (dk_at dksX0_hour_0 12 rfl rfl)
theorem dX0_hour_13 : decode cX0_hour 13 = .ok (.iconst 1, 1) := dk_4 (dk_at dksX0_hour_0 13 rfl rfl)
theorem dX0_hour_14 : decode cX0_hour 14 = .ok (.ireturn, 1) := dk_172 (dk_at dksX0_hour_0 14 rfl rfl)
theorem dX0_hour_15 : decode cX0_hour 15 = .ok (.iconst 0, 1) := dk_3 (dk_at dksX0_hour_0 15 rfl rfl)
theorem dX0_hour_16 : decode cX0_hour 16 = .ok (.ireturn, 1) := dk_172 (dk_at dksX0_hour_0 16 rfl rfl)
abbrev cX0_blow : ByteArray := method_12_code
def yX0_blow : MethodName := ⟨RX0, "blow", "(LFeatherYard;II[J)I"⟩
def dkwX0_blow_0 : List UInt8 := [45, 3, 42, 27, 28, 182, 0, 51, 133, 80, 167, 0, 11, 58, 4, 4, 172, 58, 4, 5, 172, 3, 172]
abbrev dktX0_blow_0 : List UInt8 := dkwX0_blow_0 ++ []
theorem dksX0_blow_0 : cX0_blow.data.toList.drop 0 = dktX0_blow_0 := by decide +kernel
theorem dX0_blow_0 : decode cX0_blow 0 = .ok (.aload_n 3, 1) := dk_45 (dk_at dksX0_blow_0 0 rfl rfl)
theorem dX0_blow_1 : decode cX0_blow 1 = .ok (.iconst 0, 1) := dk_3 (dk_at dksX0_blow_0 1 rfl rfl)
theorem dX0_blow_2 : decode cX0_blow 2 = .ok (.aload_n 0, 1) := dk_42 (dk_at dksX0_blow_0 2 rfl rfl)
theorem dX0_blow_3 : decode cX0_blow 3 = .ok (.iload_n 1, 1) := dk_27 (dk_at dksX0_blow_0 3 rfl rfl)
theorem dX0_blow_4 : decode cX0_blow 4 = .ok (.iload_n 2, 1) := dk_28 (dk_at dksX0_blow_0 4 rfl rfl)
theorem dX0_blow_5 : decode cX0_blow 5 = .ok (.invokevirtual 51, 3) := dk_182 0 51 (dk_at dksX0_blow_0 5 rfl rfl)
theorem dX0_blow_8 : decode cX0_blow 8 = .ok (.i2l, 1) := dk_133 (dk_at dksX0_blow_0 8 rfl rfl)
theorem dX0_blow_9 : decode cX0_blow 9 = .ok (.lastore, 1) := dk_80 (dk_at dksX0_blow_0 9 rfl rfl)
theorem dX0_blow_10 : decode cX0_blow 10 = .ok (.goto 11, 3) := dk_167 0 11 (dk_at dksX0_blow_0 10 rfl rfl)
theorem dX0_blow_13 : decode cX0_blow 13 = .ok (.astore 4, 2) := dk_58 4 (dk_at dksX0_blow_0 13 rfl rfl)
theorem dX0_blow_15 : decode cX0_blow 15 = .ok (.iconst 1, 1) := dk_4 (dk_at dksX0_blow_0 15 rfl rfl)
theorem dX0_blow_16 : decode cX0_blow 16 = .ok (.ireturn, 1) := dk_172 (dk_at dksX0_blow_0 16 rfl rfl)
theorem dX0_blow_17 : decode cX0_blow 17 = .ok (.astore 4, 2) := dk_58 4 (dk_at dksX0_blow_0 17 rfl rfl)
theorem dX0_blow_19 : decode cX0_blow 19 = .ok (.iconst 2, 1) := dk_5 (dk_at dksX0_blow_0 19 rfl rfl)
theorem dX0_blow_20 : decode cX0_blow 20 = .ok (.ireturn, 1) := dk_172 (dk_at dksX0_blow_0 20 rfl rfl)
theorem dX0_blow_21 : decode cX0_blow 21 = .ok (.iconst 0, 1) := dk_3 (dk_at dksX0_blow_0 21 rfl rfl)
theorem dX0_blow_22 : decode cX0_blow 22 = .ok (.ireturn, 1) := dk_172 (dk_at dksX0_blow_0 22 rfl rfl)
abbrev cX0_give : ByteArray := method_13_code
def yX0_give : MethodName := ⟨RX0, "give", "(LFeatherYard;IIII[J)I"⟩
def dkwX0_give_1 : List UInt8 := [172, 3, 172]
abbrev dktX0_give_1 : List UInt8 := dkwX0_give_1 ++ []
def dkwX0_give_0 : List UInt8 := [25, 5, 3, 42, 27, 28, 29, 21, 4, 182, 0, 54, 133, 80, 167, 0, 11, 58, 6, 4, 172, 58, 6, 5]
abbrev dktX0_give_0 : List UInt8 := dkwX0_give_0 ++ dktX0_give_1
theorem dksX0_give_0 : cX0_give.data.toList.drop 0 = dktX0_give_0 := by decide +kernel
theorem dksX0_give_1 : cX0_give.data.toList.drop 24 = dktX0_give_1 := dk_seg dksX0_give_0 24 rfl rfl
theorem dX0_give_0 : decode cX0_give 0 = .ok (.aload 5, 2) := dk_25 5 (dk_at dksX0_give_0 0 rfl rfl)
theorem dX0_give_2 : decode cX0_give 2 = .ok (.iconst 0, 1) := dk_3 (dk_at dksX0_give_0 2 rfl rfl)
theorem dX0_give_3 : decode cX0_give 3 = .ok (.aload_n 0, 1) := dk_42 (dk_at dksX0_give_0 3 rfl rfl)
theorem dX0_give_4 : decode cX0_give 4 = .ok (.iload_n 1, 1) := dk_27 (dk_at dksX0_give_0 4 rfl rfl)
theorem dX0_give_5 : decode cX0_give 5 = .ok (.iload_n 2, 1) := dk_28 (dk_at dksX0_give_0 5 rfl rfl)
theorem dX0_give_6 : decode cX0_give 6 = .ok (.iload_n 3, 1) := dk_29 (dk_at dksX0_give_0 6 rfl rfl)
theorem dX0_give_7 : decode cX0_give 7 = .ok (.iload 4, 2) := dk_21 4 (dk_at dksX0_give_0 7 rfl rfl)
theorem dX0_give_9 : decode cX0_give 9 = .ok (.invokevirtual 54, 3) := dk_182 0 54 (dk_at dksX0_give_0 9 rfl rfl)
theorem dX0_give_12 : decode cX0_give 12 = .ok (.i2l, 1) := dk_133 (dk_at dksX0_give_0 12 rfl rfl)
theorem dX0_give_13 : decode cX0_give 13 = .ok (.lastore, 1) := dk_80 (dk_at dksX0_give_0 13 rfl rfl)
theorem dX0_give_14 : decode cX0_give 14 = .ok (.goto 11, 3) := dk_167 0 11 (dk_at dksX0_give_0 14 rfl rfl)
theorem dX0_give_17 : decode cX0_give 17 = .ok (.astore 6, 2) := dk_58 6 (dk_at dksX0_give_0 17 rfl rfl)
theorem dX0_give_19 : decode cX0_give 19 = .ok (.iconst 1, 1) := dk_4 (dk_at dksX0_give_0 19 rfl rfl)
theorem dX0_give_20 : decode cX0_give 20 = .ok (.ireturn, 1) := dk_172 (dk_at dksX0_give_0 20 rfl rfl)
theorem dX0_give_21 : decode cX0_give 21 = .ok (.astore 6, 2) := dk_58 6 (dk_at dksX0_give_0 21 rfl rfl)
theorem dX0_give_23 : decode cX0_give 23 = .ok (.iconst 2, 1) := dk_5 (dk_at dksX0_give_0 23 rfl rfl)
theorem dX0_give_24 : decode cX0_give 24 = .ok (.ireturn, 1) := dk_172 (dk_at dksX0_give_1 0 rfl rfl)
theorem dX0_give_25 : decode cX0_give 25 = .ok (.iconst 0, 1) := dk_3 (dk_at dksX0_give_1 1 rfl rfl)
theorem dX0_give_26 : decode cX0_give 26 = .ok (.ireturn, 1) := dk_172 (dk_at dksX0_give_1 2 rfl rfl)
abbrev cX0_appeal : ByteArray := method_14_code
def yX0_appeal : MethodName := ⟨RX0, "appeal", "(LFeatherYard;I[J)I"⟩
def dkwX0_appeal_0 : List UInt8 := [44, 3, 42, 27, 182, 0, 58, 133, 80, 167, 0, 9, 78, 4, 172, 78, 5, 172, 3, 172]
abbrev dktX0_appeal_0 : List UInt8 := dkwX0_appeal_0 ++ []
theorem dksX0_appeal_0 : cX0_appeal.data.toList.drop 0 = dktX0_appeal_0 := by decide +kernel
theorem dX0_appeal_0 : decode cX0_appeal 0 = .ok (.aload_n 2, 1) := dk_44 (dk_at dksX0_appeal_0 0 rfl rfl)
theorem dX0_appeal_1 : decode cX0_appeal 1 = .ok (.iconst 0, 1) := dk_3 (dk_at dksX0_appeal_0 1 rfl rfl)
theorem dX0_appeal_2 : decode cX0_appeal 2 = .ok (.aload_n 0, 1) := dk_42 (dk_at dksX0_appeal_0 2 rfl rfl)
theorem dX0_appeal_3 : decode cX0_appeal 3 = .ok (.iload_n 1, 1) := dk_27 (dk_at dksX0_appeal_0 3 rfl rfl)
theorem dX0_appeal_4 : decode cX0_appeal 4 = .ok (.invokevirtual 58, 3) := dk_182 0 58 (dk_at dksX0_appeal_0 4 rfl rfl)
theorem dX0_appeal_7 : decode cX0_appeal 7 = .ok (.i2l, 1) := dk_133 (dk_at dksX0_appeal_0 7 rfl rfl)
theorem dX0_appeal_8 : decode cX0_appeal 8 = .ok (.lastore, 1) := dk_80 (dk_at dksX0_appeal_0 8 rfl rfl)
theorem dX0_appeal_9 : decode cX0_appeal 9 = .ok (.goto 9, 3) := dk_167 0 9 (dk_at dksX0_appeal_0 9 rfl rfl)
theorem dX0_appeal_12 : decode cX0_appeal 12 = .ok (.astore_n 3, 1) := dk_78 (dk_at dksX0_appeal_0 12 rfl rfl)
theorem dX0_appeal_13 : decode cX0_appeal 13 = .ok (.iconst 1, 1) := dk_4 (dk_at dksX0_appeal_0 13 rfl rfl)
theorem dX0_appeal_14 : decode cX0_appeal 14 = .ok (.ireturn, 1) := dk_172 (dk_at dksX0_appeal_0 14 rfl rfl)
theorem dX0_appeal_15 : decode cX0_appeal 15 = .ok (.astore_n 3, 1) := dk_78 (dk_at dksX0_appeal_0 15 rfl rfl)
theorem dX0_appeal_16 : decode cX0_appeal 16 = .ok (.iconst 2, 1) := dk_5 (dk_at dksX0_appeal_0 16 rfl rfl)
theorem dX0_appeal_17 : decode cX0_appeal 17 = .ok (.ireturn, 1) := dk_172 (dk_at dksX0_appeal_0 17 rfl rfl)
theorem dX0_appeal_18 : decode cX0_appeal 18 = .ok (.iconst 0, 1) := dk_3 (dk_at dksX0_appeal_0 18 rfl rfl)
theorem dX0_appeal_19 : decode cX0_appeal 19 = .ok (.ireturn, 1) := dk_172 (dk_at dksX0_appeal_0 19 rfl rfl)
abbrev cX0_weeks : ByteArray := method_15_code
def yX0_weeks : MethodName := ⟨RX0, "weeks", "(LFeatherYard;I[J)I"⟩
def dkwX0_weeks_0 : List UInt8 := [44, 3, 42, 27, 182, 0, 61, 133, 80, 167, 0, 6, 78, 4, 172, 3, 172]
abbrev dktX0_weeks_0 : List UInt8 := dkwX0_weeks_0 ++ []
theorem dksX0_weeks_0 : cX0_weeks.data.toList.drop 0 = dktX0_weeks_0 := by decide +kernel
theorem dX0_weeks_0 : decode cX0_weeks 0 = .ok (.aload_n 2, 1) := dk_44 (dk_at dksX0_weeks_0 0 rfl rfl)
theorem dX0_weeks_1 : decode cX0_weeks 1 = .ok (.iconst 0, 1) := dk_3 (dk_at dksX0_weeks_0 1 rfl rfl)
theorem dX0_weeks_2 : decode cX0_weeks 2 = .ok (.aload_n 0, 1) := dk_42 (dk_at dksX0_weeks_0 2 rfl rfl)
theorem dX0_weeks_3 : decode cX0_weeks 3 = .ok (.iload_n 1, 1) := dk_27 (dk_at dksX0_weeks_0 3 rfl rfl)
theorem dX0_weeks_4 : decode cX0_weeks 4 = .ok (.invokevirtual 61, 3) := dk_182 0 61 (dk_at dksX0_weeks_0 4 rfl rfl)
theorem dX0_weeks_7 : decode cX0_weeks 7 = .ok (.i2l, 1) := dk_133 (dk_at dksX0_weeks_0 7 rfl rfl)
theorem dX0_weeks_8 : decode cX0_weeks 8 = .ok (.lastore, 1) := dk_80 (dk_at dksX0_weeks_0 8 rfl rfl)
theorem dX0_weeks_9 : decode cX0_weeks 9 = .ok (.goto 6, 3) := dk_167 0 6 (dk_at dksX0_weeks_0 9 rfl rfl)
theorem dX0_weeks_12 : decode cX0_weeks 12 = .ok (.astore_n 3, 1) := dk_78 (dk_at dksX0_weeks_0 12 rfl rfl)
theorem dX0_weeks_13 : decode cX0_weeks 13 = .ok (.iconst 1, 1) := dk_4 (dk_at dksX0_weeks_0 13 rfl rfl)
theorem dX0_weeks_14 : decode cX0_weeks 14 = .ok (.ireturn, 1) := dk_172 (dk_at dksX0_weeks_0 14 rfl rfl)
theorem dX0_weeks_15 : decode cX0_weeks 15 = .ok (.iconst 0, 1) := dk_3 (dk_at dksX0_weeks_0 15 rfl rfl)
theorem dX0_weeks_16 : decode cX0_weeks 16 = .ok (.ireturn, 1) := dk_172 (dk_at dksX0_weeks_0 16 rfl rfl)
abbrev cX0_ways : ByteArray := method_16_code
def yX0_ways : MethodName := ⟨RX0, "ways", "(LFeatherYard;II[J)I"⟩
def dkwX0_ways_0 : List UInt8 := [45, 3, 42, 27, 28, 182, 0, 64, 133, 80, 167, 0, 11, 58, 4, 4, 172, 58, 4, 5, 172, 3, 172]
abbrev dktX0_ways_0 : List UInt8 := dkwX0_ways_0 ++ []
theorem dksX0_ways_0 : cX0_ways.data.toList.drop 0 = dktX0_ways_0 := by decide +kernel
theorem dX0_ways_0 : decode cX0_ways 0 = .ok (.aload_n 3, 1) := dk_45 (dk_at dksX0_ways_0 0 rfl rfl)
theorem dX0_ways_1 : decode cX0_ways 1 = .ok (.iconst 0, 1) := dk_3 (dk_at dksX0_ways_0 1 rfl rfl)
theorem dX0_ways_2 : decode cX0_ways 2 = .ok (.aload_n 0, 1) := dk_42 (dk_at dksX0_ways_0 2 rfl rfl)
theorem dX0_ways_3 : decode cX0_ways 3 = .ok (.iload_n 1, 1) := dk_27 (dk_at dksX0_ways_0 3 rfl rfl)
theorem dX0_ways_4 : decode cX0_ways 4 = .ok (.iload_n 2, 1) := dk_28 (dk_at dksX0_ways_0 4 rfl rfl)
theorem dX0_ways_5 : decode cX0_ways 5 = .ok (.invokevirtual 64, 3) := dk_182 0 64 (dk_at dksX0_ways_0 5 rfl rfl)
theorem dX0_ways_8 : decode cX0_ways 8 = .ok (.i2l, 1) := dk_133 (dk_at dksX0_ways_0 8 rfl rfl)
theorem dX0_ways_9 : decode cX0_ways 9 = .ok (.lastore, 1) := dk_80 (dk_at dksX0_ways_0 9 rfl rfl)
theorem dX0_ways_10 : decode cX0_ways 10 = .ok (.goto 11, 3) := dk_167 0 11 (dk_at dksX0_ways_0 10 rfl rfl)
theorem dX0_ways_13 : decode cX0_ways 13 = .ok (.astore 4, 2) := dk_58 4 (dk_at dksX0_ways_0 13 rfl rfl)
theorem dX0_ways_15 : decode cX0_ways 15 = .ok (.iconst 1, 1) := dk_4 (dk_at dksX0_ways_0 15 rfl rfl)
theorem dX0_ways_16 : decode cX0_ways 16 = .ok (.ireturn, 1) := dk_172 (dk_at dksX0_ways_0 16 rfl rfl)
theorem dX0_ways_17 : decode cX0_ways 17 = .ok (.astore 4, 2) := dk_58 4 (dk_at dksX0_ways_0 17 rfl rfl)
theorem dX0_ways_19 : decode cX0_ways 19 = .ok (.iconst 2, 1) := dk_5 (dk_at dksX0_ways_0 19 rfl rfl)
theorem dX0_ways_20 : decode cX0_ways 20 = .ok (.ireturn, 1) := dk_172 (dk_at dksX0_ways_0 20 rfl rfl)
theorem dX0_ways_21 : decode cX0_ways 21 = .ok (.iconst 0, 1) := dk_3 (dk_at dksX0_ways_0 21 rfl rfl)
theorem dX0_ways_22 : decode cX0_ways 22 = .ok (.ireturn, 1) := dk_172 (dk_at dksX0_ways_0 22 rfl rfl)
abbrev cX0_lands : ByteArray := method_17_code
def yX0_lands : MethodName := ⟨RX0, "lands", "(LFeatherYard;II[J)I"⟩
def dkwX0_lands_0 : List UInt8 := [45, 3, 42, 27, 28, 182, 0, 67, 133, 80, 167, 0, 7, 58, 4, 4, 172, 3, 172]
abbrev dktX0_lands_0 : List UInt8 := dkwX0_lands_0 ++ []
theorem dksX0_lands_0 : cX0_lands.data.toList.drop 0 = dktX0_lands_0 := by decide +kernel
theorem dX0_lands_0 : decode cX0_lands 0 = .ok (.aload_n 3, 1) := dk_45 (dk_at dksX0_lands_0 0 rfl rfl)
theorem dX0_lands_1 : decode cX0_lands 1 = .ok (.iconst 0, 1) := dk_3 (dk_at dksX0_lands_0 1 rfl rfl)
theorem dX0_lands_2 : decode cX0_lands 2 = .ok (.aload_n 0, 1) := dk_42 (dk_at dksX0_lands_0 2 rfl rfl)
theorem dX0_lands_3 : decode cX0_lands 3 = .ok (.iload_n 1, 1) := dk_27 (dk_at dksX0_lands_0 3 rfl rfl)
theorem dX0_lands_4 : decode cX0_lands 4 = .ok (.iload_n 2, 1) := dk_28 (dk_at dksX0_lands_0 4 rfl rfl)
theorem dX0_lands_5 : decode cX0_lands 5 = .ok (.invokevirtual 67, 3) := dk_182 0 67 (dk_at dksX0_lands_0 5 rfl rfl)
theorem dX0_lands_8 : decode cX0_lands 8 = .ok (.i2l, 1) := dk_133 (dk_at dksX0_lands_0 8 rfl rfl)
theorem dX0_lands_9 : decode cX0_lands 9 = .ok (.lastore, 1) := dk_80 (dk_at dksX0_lands_0 9 rfl rfl)
theorem dX0_lands_10 : decode cX0_lands 10 = .ok (.goto 7, 3) := dk_167 0 7 (dk_at dksX0_lands_0 10 rfl rfl)
theorem dX0_lands_13 : decode cX0_lands 13 = .ok (.astore 4, 2) := dk_58 4 (dk_at dksX0_lands_0 13 rfl rfl)
theorem dX0_lands_15 : decode cX0_lands 15 = .ok (.iconst 1, 1) := dk_4 (dk_at dksX0_lands_0 15 rfl rfl)
theorem dX0_lands_16 : decode cX0_lands 16 = .ok (.ireturn, 1) := dk_172 (dk_at dksX0_lands_0 16 rfl rfl)
theorem dX0_lands_17 : decode cX0_lands 17 = .ok (.iconst 0, 1) := dk_3 (dk_at dksX0_lands_0 17 rfl rfl)
theorem dX0_lands_18 : decode cX0_lands 18 = .ok (.ireturn, 1) := dk_172 (dk_at dksX0_lands_0 18 rfl rfl)
abbrev cX0_good : ByteArray := method_18_code
def yX0_good : MethodName := ⟨RX0, "good", "(LFeatherYard;II[J)I"⟩
def dkwX0_good_0 : List UInt8 := [45, 3, 42, 27, 28, 182, 0, 70, 133, 80, 167, 0, 11, 58, 4, 4, 172, 58, 4, 5, 172, 3, 172]
abbrev dktX0_good_0 : List UInt8 := dkwX0_good_0 ++ []
theorem dksX0_good_0 : cX0_good.data.toList.drop 0 = dktX0_good_0 := by decide +kernel
theorem dX0_good_0 : decode cX0_good 0 = .ok (.aload_n 3, 1) := dk_45 (dk_at dksX0_good_0 0 rfl rfl)
theorem dX0_good_1 : decode cX0_good 1 = .ok (.iconst 0, 1) := dk_3 (dk_at dksX0_good_0 1 rfl rfl)
theorem dX0_good_2 : decode cX0_good 2 = .ok (.aload_n 0, 1) := dk_42 (dk_at dksX0_good_0 2 rfl rfl)
theorem dX0_good_3 : decode cX0_good 3 = .ok (.iload_n 1, 1) := dk_27 (dk_at dksX0_good_0 3 rfl rfl)
theorem dX0_good_4 : decode cX0_good 4 = .ok (.iload_n 2, 1) := dk_28 (dk_at dksX0_good_0 4 rfl rfl)
theorem dX0_good_5 : decode cX0_good 5 = .ok (.invokevirtual 70, 3) := dk_182 0 70 (dk_at dksX0_good_0 5 rfl rfl)
theorem dX0_good_8 : decode cX0_good 8 = .ok (.i2l, 1) := dk_133 (dk_at dksX0_good_0 8 rfl rfl)
theorem dX0_good_9 : decode cX0_good 9 = .ok (.lastore, 1) := dk_80 (dk_at dksX0_good_0 9 rfl rfl)
theorem dX0_good_10 : decode cX0_good 10 = .ok (.goto 11, 3) := dk_167 0 11 (dk_at dksX0_good_0 10 rfl rfl)
theorem dX0_good_13 : decode cX0_good 13 = .ok (.astore 4, 2) := dk_58 4 (dk_at dksX0_good_0 13 rfl rfl)
theorem dX0_good_15 : decode cX0_good 15 = .ok (.iconst 1, 1) := dk_4 (dk_at dksX0_good_0 15 rfl rfl)
theorem dX0_good_16 : decode cX0_good 16 = .ok (.ireturn, 1) := dk_172 (dk_at dksX0_good_0 16 rfl rfl)
theorem dX0_good_17 : decode cX0_good 17 = .ok (.astore 4, 2) := dk_58 4 (dk_at dksX0_good_0 17 rfl rfl)
theorem dX0_good_19 : decode cX0_good 19 = .ok (.iconst 2, 1) := dk_5 (dk_at dksX0_good_0 19 rfl rfl)
theorem dX0_good_20 : decode cX0_good 20 = .ok (.ireturn, 1) := dk_172 (dk_at dksX0_good_0 20 rfl rfl)
theorem dX0_good_21 : decode cX0_good 21 = .ok (.iconst 0, 1) := dk_3 (dk_at dksX0_good_0 21 rfl rfl)
theorem dX0_good_22 : decode cX0_good 22 = .ok (.ireturn, 1) := dk_172 (dk_at dksX0_good_0 22 rfl rfl)
abbrev cX0_straight : ByteArray := method_19_code
def yX0_straight : MethodName := ⟨RX0, "straight", "(LFeatherYard;IZ[J)I"⟩
def dkwX0_straight_0 : List UInt8 := [45, 3, 42, 27, 28, 182, 0, 73, 133, 80, 167, 0, 7, 58, 4, 4, 172, 3, 172]
abbrev dktX0_straight_0 : List UInt8 := dkwX0_straight_0 ++ []
theorem dksX0_straight_0 : cX0_straight.data.toList.drop 0 = dktX0_straight_0 := by decide +kernel
theorem dX0_straight_0 : decode cX0_straight 0 = .ok (.aload_n 3, 1) := dk_45 (dk_at dksX0_straight_0 0 rfl rfl)
theorem dX0_straight_1 : decode cX0_straight 1 = .ok (.iconst 0, 1) := dk_3 (dk_at dksX0_straight_0 1 rfl rfl)
theorem dX0_straight_2 : decode cX0_straight 2 = .ok (.aload_n 0, 1) := dk_42 (dk_at dksX0_straight_0 2 rfl rfl)
theorem dX0_straight_3 : decode cX0_straight 3 = .ok (.iload_n 1, 1) := dk_27 (dk_at dksX0_straight_0 3 rfl rfl)
theorem dX0_straight_4 : decode cX0_straight 4 = .ok (.iload_n 2, 1) := dk_28 (dk_at dksX0_straight_0 4 rfl rfl)
theorem dX0_straight_5 : decode cX0_straight 5 = .ok (.invokevirtual 73, 3) := dk_182 0 73 (dk_at dksX0_straight_0 5 rfl rfl)
theorem dX0_straight_8 : decode cX0_straight 8 = .ok (.i2l, 1) := dk_133 (dk_at dksX0_straight_0 8 rfl rfl)
theorem dX0_straight_9 : decode cX0_straight 9 = .ok (.lastore, 1) := dk_80 (dk_at dksX0_straight_0 9 rfl rfl)
theorem dX0_straight_10 : decode cX0_straight 10 = .ok (.goto 7, 3) := dk_167 0 7 (dk_at dksX0_straight_0 10 rfl rfl)
theorem dX0_straight_13 : decode cX0_straight 13 = .ok (.astore 4, 2) := dk_58 4 (dk_at dksX0_straight_0 13 rfl rfl)
theorem dX0_straight_15 : decode cX0_straight 15 = .ok (.iconst 1, 1) := dk_4 (dk_at dksX0_straight_0 15 rfl rfl)
theorem dX0_straight_16 : decode cX0_straight 16 = .ok (.ireturn, 1) := dk_172 (dk_at dksX0_straight_0 16 rfl rfl)
theorem dX0_straight_17 : decode cX0_straight 17 = .ok (.iconst 0, 1) := dk_3 (dk_at dksX0_straight_0 17 rfl rfl)
theorem dX0_straight_18 : decode cX0_straight 18 = .ok (.ireturn, 1) := dk_172 (dk_at dksX0_straight_0 18 rfl rfl)
abbrev cX0_odds : ByteArray := method_20_code
def yX0_odds : MethodName := ⟨RX0, "odds", "(LFeatherYard;III[J)I"⟩
def dkwX0_odds_1 : List UInt8 := [172]
abbrev dktX0_odds_1 : List UInt8 := dkwX0_odds_1 ++ []
def dkwX0_odds_0 : List UInt8 := [25, 4, 3, 42, 27, 28, 29, 182, 0, 77, 133, 80, 167, 0, 11, 58, 5, 4, 172, 58, 5, 5, 172, 3]
abbrev dktX0_odds_0 : List UInt8 := dkwX0_odds_0 ++ dktX0_odds_1
theorem dksX0_odds_0 : cX0_odds.data.toList.drop 0 = dktX0_odds_0 := by decide +kernel
theorem dksX0_odds_1 : cX0_odds.data.toList.drop 24 = dktX0_odds_1 := dk_seg dksX0_odds_0 24 rfl rfl
theorem dX0_odds_0 : decode cX0_odds 0 = .ok (.aload 4, 2) := dk_25 4 (dk_at dksX0_odds_0 0 rfl rfl)
theorem dX0_odds_2 : decode cX0_odds 2 = .ok (.iconst 0, 1) := dk_3 (dk_at dksX0_odds_0 2 rfl rfl)
theorem dX0_odds_3 : decode cX0_odds 3 = .ok (.aload_n 0, 1) := dk_42 (dk_at dksX0_odds_0 3 rfl rfl)
theorem dX0_odds_4 : decode cX0_odds 4 = .ok (.iload_n 1, 1) := dk_27 (dk_at dksX0_odds_0 4 rfl rfl)
theorem dX0_odds_5 : decode cX0_odds 5 = .ok (.iload_n 2, 1) := dk_28 (dk_at dksX0_odds_0 5 rfl rfl)
theorem dX0_odds_6 : decode cX0_odds 6 = .ok (.iload_n 3, 1) := dk_29 (dk_at dksX0_odds_0 6 rfl rfl)
theorem dX0_odds_7 : decode cX0_odds 7 = .ok (.invokevirtual 77, 3) := dk_182 0 77 (dk_at dksX0_odds_0 7 rfl rfl)
theorem dX0_odds_10 : decode cX0_odds 10 = .ok (.i2l, 1) := dk_133 (dk_at dksX0_odds_0 10 rfl rfl)
theorem dX0_odds_11 : decode cX0_odds 11 = .ok (.lastore, 1) := dk_80 (dk_at dksX0_odds_0 11 rfl rfl)
theorem dX0_odds_12 : decode cX0_odds 12 = .ok (.goto 11, 3) := dk_167 0 11 (dk_at dksX0_odds_0 12 rfl rfl)
theorem dX0_odds_15 : decode cX0_odds 15 = .ok (.astore 5, 2) := dk_58 5 (dk_at dksX0_odds_0 15 rfl rfl)
theorem dX0_odds_17 : decode cX0_odds 17 = .ok (.iconst 1, 1) := dk_4 (dk_at dksX0_odds_0 17 rfl rfl)
theorem dX0_odds_18 : decode cX0_odds 18 = .ok (.ireturn, 1) := dk_172 (dk_at dksX0_odds_0 18 rfl rfl)
theorem dX0_odds_19 : decode cX0_odds 19 = .ok (.astore 5, 2) := dk_58 5 (dk_at dksX0_odds_0 19 rfl rfl)
theorem dX0_odds_21 : decode cX0_odds 21 = .ok (.iconst 2, 1) := dk_5 (dk_at dksX0_odds_0 21 rfl rfl)
theorem dX0_odds_22 : decode cX0_odds 22 = .ok (.ireturn, 1) := dk_172 (dk_at dksX0_odds_0 22 rfl rfl)
theorem dX0_odds_23 : decode cX0_odds 23 = .ok (.iconst 0, 1) := dk_3 (dk_at dksX0_odds_0 23 rfl rfl)
theorem dX0_odds_24 : decode cX0_odds 24 = .ok (.ireturn, 1) := dk_172 (dk_at dksX0_odds_1 0 rfl rfl)
abbrev cX0_best : ByteArray := method_21_code
def yX0_best : MethodName := ⟨RX0, "best", "(LFeatherYard;II[J)I"⟩
def dkwX0_best_0 : List UInt8 := [45, 3, 42, 27, 28, 182, 0, 80, 133, 80, 167, 0, 7, 58, 4, 4, 172, 3, 172]
abbrev dktX0_best_0 : List UInt8 := dkwX0_best_0 ++ []
theorem dksX0_best_0 : cX0_best.data.toList.drop 0 = dktX0_best_0 := by decide +kernel
theorem dX0_best_0 : decode cX0_best 0 = .ok (.aload_n 3, 1) := dk_45 (dk_at dksX0_best_0 0 rfl rfl)
theorem dX0_best_1 : decode cX0_best 1 = .ok (.iconst 0, 1) := dk_3 (dk_at dksX0_best_0 1 rfl rfl)
theorem dX0_best_2 : decode cX0_best 2 = .ok (.aload_n 0, 1) := dk_42 (dk_at dksX0_best_0 2 rfl rfl)
theorem dX0_best_3 : decode cX0_best 3 = .ok (.iload_n 1, 1) := dk_27 (dk_at dksX0_best_0 3 rfl rfl)
theorem dX0_best_4 : decode cX0_best 4 = .ok (.iload_n 2, 1) := dk_28 (dk_at dksX0_best_0 4 rfl rfl)
theorem dX0_best_5 : decode cX0_best 5 = .ok (.invokevirtual 80, 3) := dk_182 0 80 (dk_at dksX0_best_0 5 rfl rfl)
theorem dX0_best_8 : decode cX0_best 8 = .ok (.i2l, 1) := dk_133 (dk_at dksX0_best_0 8 rfl rfl)
theorem dX0_best_9 : decode cX0_best 9 = .ok (.lastore, 1) := dk_80 (dk_at dksX0_best_0 9 rfl rfl)
theorem dX0_best_10 : decode cX0_best 10 = .ok (.goto 7, 3) := dk_167 0 7 (dk_at dksX0_best_0 10 rfl rfl)
theorem dX0_best_13 : decode cX0_best 13 = .ok (.astore 4, 2) := dk_58 4 (dk_at dksX0_best_0 13 rfl rfl)
theorem dX0_best_15 : decode cX0_best 15 = .ok (.iconst 1, 1) := dk_4 (dk_at dksX0_best_0 15 rfl rfl)
theorem dX0_best_16 : decode cX0_best 16 = .ok (.ireturn, 1) := dk_172 (dk_at dksX0_best_0 16 rfl rfl)
theorem dX0_best_17 : decode cX0_best 17 = .ok (.iconst 0, 1) := dk_3 (dk_at dksX0_best_0 17 rfl rfl)
theorem dX0_best_18 : decode cX0_best 18 = .ok (.ireturn, 1) := dk_172 (dk_at dksX0_best_0 18 rfl rfl)
abbrev cX0_when : ByteArray := method_22_code
def yX0_when : MethodName := ⟨RX0, "when", "(LFeatherYard;II[J)I"⟩
def dkwX0_when_0 : List UInt8 := [45, 3, 42, 27, 28, 182, 0, 83, 133, 80, 167, 0, 7, 58, 4, 4, 172, 3, 172]
abbrev dktX0_when_0 : List UInt8 := dkwX0_when_0 ++ []
theorem dksX0_when_0 : cX0_when.data.toList.drop 0 = dktX0_when_0 := by decide +kernel
theorem dX0_when_0 : decode cX0_when 0 = .ok (.aload_n 3, 1) := dk_45 (dk_at dksX0_when_0 0 rfl rfl)
theorem dX0_when_1 : decode cX0_when 1 = .ok (.iconst 0, 1) := dk_3 (dk_at dksX0_when_0 1 rfl rfl)
theorem dX0_when_2 : decode cX0_when 2 = .ok (.aload_n 0, 1) := dk_42 (dk_at dksX0_when_0 2 rfl rfl)
theorem dX0_when_3 : decode cX0_when 3 = .ok (.iload_n 1, 1) := dk_27 (dk_at dksX0_when_0 3 rfl rfl)
theorem dX0_when_4 : decode cX0_when 4 = .ok (.iload_n 2, 1) := dk_28 (dk_at dksX0_when_0 4 rfl rfl)
theorem dX0_when_5 : decode cX0_when 5 = .ok (.invokevirtual 83, 3) := dk_182 0 83 (dk_at dksX0_when_0 5 rfl rfl)
theorem dX0_when_8 : decode cX0_when 8 = .ok (.i2l, 1) := dk_133 (dk_at dksX0_when_0 8 rfl rfl)
theorem dX0_when_9 : decode cX0_when 9 = .ok (.lastore, 1) := dk_80 (dk_at dksX0_when_0 9 rfl rfl)
theorem dX0_when_10 : decode cX0_when 10 = .ok (.goto 7, 3) := dk_167 0 7 (dk_at dksX0_when_0 10 rfl rfl)
theorem dX0_when_13 : decode cX0_when 13 = .ok (.astore 4, 2) := dk_58 4 (dk_at dksX0_when_0 13 rfl rfl)
theorem dX0_when_15 : decode cX0_when 15 = .ok (.iconst 1, 1) := dk_4 (dk_at dksX0_when_0 15 rfl rfl)
theorem dX0_when_16 : decode cX0_when 16 = .ok (.ireturn, 1) := dk_172 (dk_at dksX0_when_0 16 rfl rfl)
theorem dX0_when_17 : decode cX0_when 17 = .ok (.iconst 0, 1) := dk_3 (dk_at dksX0_when_0 17 rfl rfl)
theorem dX0_when_18 : decode cX0_when 18 = .ok (.ireturn, 1) := dk_172 (dk_at dksX0_when_0 18 rfl rfl)
abbrev cX0_surest : ByteArray := method_23_code
def yX0_surest : MethodName := ⟨RX0, "surest", "(LFeatherYard;IZZ[J)I"⟩
def dkwX0_surest_1 : List UInt8 := [172]
abbrev dktX0_surest_1 : List UInt8 := dkwX0_surest_1 ++ []
def dkwX0_surest_0 : List UInt8 := [25, 4, 3, 42, 27, 28, 29, 182, 0, 86, 133, 80, 167, 0, 11, 58, 5, 4, 172, 58, 5, 5, 172, 3]
abbrev dktX0_surest_0 : List UInt8 := dkwX0_surest_0 ++ dktX0_surest_1
theorem dksX0_surest_0 : cX0_surest.data.toList.drop 0 = dktX0_surest_0 := by decide +kernel
theorem dksX0_surest_1 : cX0_surest.data.toList.drop 24 = dktX0_surest_1 := dk_seg dksX0_surest_0 24 rfl rfl
theorem dX0_surest_0 : decode cX0_surest 0 = .ok (.aload 4, 2) := dk_25 4 (dk_at dksX0_surest_0 0 rfl rfl)
theorem dX0_surest_2 : decode cX0_surest 2 = .ok (.iconst 0, 1) := dk_3 (dk_at dksX0_surest_0 2 rfl rfl)
theorem dX0_surest_3 : decode cX0_surest 3 = .ok (.aload_n 0, 1) := dk_42 (dk_at dksX0_surest_0 3 rfl rfl)
theorem dX0_surest_4 : decode cX0_surest 4 = .ok (.iload_n 1, 1) := dk_27 (dk_at dksX0_surest_0 4 rfl rfl)
theorem dX0_surest_5 : decode cX0_surest 5 = .ok (.iload_n 2, 1) := dk_28 (dk_at dksX0_surest_0 5 rfl rfl)
theorem dX0_surest_6 : decode cX0_surest 6 = .ok (.iload_n 3, 1) := dk_29 (dk_at dksX0_surest_0 6 rfl rfl)
theorem dX0_surest_7 : decode cX0_surest 7 = .ok (.invokevirtual 86, 3) := dk_182 0 86 (dk_at dksX0_surest_0 7 rfl rfl)
theorem dX0_surest_10 : decode cX0_surest 10 = .ok (.i2l, 1) := dk_133 (dk_at dksX0_surest_0 10 rfl rfl)
theorem dX0_surest_11 : decode cX0_surest 11 = .ok (.lastore, 1) := dk_80 (dk_at dksX0_surest_0 11 rfl rfl)
theorem dX0_surest_12 : decode cX0_surest 12 = .ok (.goto 11, 3) := dk_167 0 11 (dk_at dksX0_surest_0 12 rfl rfl)
theorem dX0_surest_15 : decode cX0_surest 15 = .ok (.astore 5, 2) := dk_58 5 (dk_at dksX0_surest_0 15 rfl rfl)
theorem dX0_surest_17 : decode cX0_surest 17 = .ok (.iconst 1, 1) := dk_4 (dk_at dksX0_surest_0 17 rfl rfl)
theorem dX0_surest_18 : decode cX0_surest 18 = .ok (.ireturn, 1) := dk_172 (dk_at dksX0_surest_0 18 rfl rfl)
theorem dX0_surest_19 : decode cX0_surest 19 = .ok (.astore 5, 2) := dk_58 5 (dk_at dksX0_surest_0 19 rfl rfl)
theorem dX0_surest_21 : decode cX0_surest 21 = .ok (.iconst 2, 1) := dk_5 (dk_at dksX0_surest_0 21 rfl rfl)
theorem dX0_surest_22 : decode cX0_surest 22 = .ok (.ireturn, 1) := dk_172 (dk_at dksX0_surest_0 22 rfl rfl)
theorem dX0_surest_23 : decode cX0_surest 23 = .ok (.iconst 0, 1) := dk_3 (dk_at dksX0_surest_0 23 rfl rfl)
theorem dX0_surest_24 : decode cX0_surest 24 = .ok (.ireturn, 1) := dk_172 (dk_at dksX0_surest_1 0 rfl rfl)
abbrev cX0_rests : ByteArray := method_24_code
def yX0_rests : MethodName := ⟨RX0, "rests", "(LFeatherYard;IZ[J)I"⟩
def dkwX0_rests_0 : List UInt8 := [45, 3, 42, 27, 28, 182, 0, 90, 133, 80, 167, 0, 11, 58, 4, 4, 172, 58, 4, 5, 172, 3, 172]
abbrev dktX0_rests_0 : List UInt8 := dkwX0_rests_0 ++ []
theorem dksX0_rests_0 : cX0_rests.data.toList.drop 0 = dktX0_rests_0 := by decide +kernel
theorem dX0_rests_0 : decode cX0_rests 0 = .ok (.aload_n 3, 1) := dk_45 (dk_at dksX0_rests_0 0 rfl rfl)
theorem dX0_rests_1 : decode cX0_rests 1 = .ok (.iconst 0, 1) := dk_3 (dk_at dksX0_rests_0 1 rfl rfl)
theorem dX0_rests_2 : decode cX0_rests 2 = .ok (.aload_n 0, 1) := dk_42 (dk_at dksX0_rests_0 2 rfl rfl)
theorem dX0_rests_3 : decode cX0_rests 3 = .ok (.iload_n 1, 1) := dk_27 (dk_at dksX0_rests_0 3 rfl rfl)
theorem dX0_rests_4 : decode cX0_rests 4 = .ok (.iload_n 2, 1) := dk_28 (dk_at dksX0_rests_0 4 rfl rfl)
theorem dX0_rests_5 : decode cX0_rests 5 = .ok (.invokevirtual 90, 3) := dk_182 0 90 (dk_at dksX0_rests_0 5 rfl rfl)
theorem dX0_rests_8 : decode cX0_rests 8 = .ok (.i2l, 1) := dk_133 (dk_at dksX0_rests_0 8 rfl rfl)
theorem dX0_rests_9 : decode cX0_rests 9 = .ok (.lastore, 1) := dk_80 (dk_at dksX0_rests_0 9 rfl rfl)
theorem dX0_rests_10 : decode cX0_rests 10 = .ok (.goto 11, 3) := dk_167 0 11 (dk_at dksX0_rests_0 10 rfl rfl)
theorem dX0_rests_13 : decode cX0_rests 13 = .ok (.astore 4, 2) := dk_58 4 (dk_at dksX0_rests_0 13 rfl rfl)
theorem dX0_rests_15 : decode cX0_rests 15 = .ok (.iconst 1, 1) := dk_4 (dk_at dksX0_rests_0 15 rfl rfl)
theorem dX0_rests_16 : decode cX0_rests 16 = .ok (.ireturn, 1) := dk_172 (dk_at dksX0_rests_0 16 rfl rfl)
theorem dX0_rests_17 : decode cX0_rests 17 = .ok (.astore 4, 2) := dk_58 4 (dk_at dksX0_rests_0 17 rfl rfl)
theorem dX0_rests_19 : decode cX0_rests 19 = .ok (.iconst 2, 1) := dk_5 (dk_at dksX0_rests_0 19 rfl rfl)
theorem dX0_rests_20 : decode cX0_rests 20 = .ok (.ireturn, 1) := dk_172 (dk_at dksX0_rests_0 20 rfl rfl)
theorem dX0_rests_21 : decode cX0_rests 21 = .ok (.iconst 0, 1) := dk_3 (dk_at dksX0_rests_0 21 rfl rfl)
theorem dX0_rests_22 : decode cX0_rests 22 = .ok (.ireturn, 1) := dk_172 (dk_at dksX0_rests_0 22 rfl rfl)
abbrev cX0_fair : ByteArray := method_25_code
def yX0_fair : MethodName := ⟨RX0, "fair", "(LFeatherYard;I[J)I"⟩
def dkwX0_fair_0 : List UInt8 := [44, 3, 42, 27, 182, 0, 93, 133, 80, 167, 0, 9, 78, 4, 172, 78, 5, 172, 3, 172]
abbrev dktX0_fair_0 : List UInt8 := dkwX0_fair_0 ++ []
theorem dksX0_fair_0 : cX0_fair.data.toList.drop 0 = dktX0_fair_0 := by decide +kernel
theorem dX0_fair_0 : decode cX0_fair 0 = .ok (.aload_n 2, 1) := dk_44 (dk_at dksX0_fair_0 0 rfl rfl)
theorem dX0_fair_1 : decode cX0_fair 1 = .ok (.iconst 0, 1) := dk_3 (dk_at dksX0_fair_0 1 rfl rfl)
theorem dX0_fair_2 : decode cX0_fair 2 = .ok (.aload_n 0, 1) := dk_42 (dk_at dksX0_fair_0 2 rfl rfl)
theorem dX0_fair_3 : decode cX0_fair 3 = .ok (.iload_n 1, 1) := dk_27 (dk_at dksX0_fair_0 3 rfl rfl)
theorem dX0_fair_4 : decode cX0_fair 4 = .ok (.invokevirtual 93, 3) := dk_182 0 93 (dk_at dksX0_fair_0 4 rfl rfl)
theorem dX0_fair_7 : decode cX0_fair 7 = .ok (.i2l, 1) := dk_133 (dk_at dksX0_fair_0 7 rfl rfl)
theorem dX0_fair_8 : decode cX0_fair 8 = .ok (.lastore, 1) := dk_80 (dk_at dksX0_fair_0 8 rfl rfl)
theorem dX0_fair_9 : decode cX0_fair 9 = .ok (.goto 9, 3) := dk_167 0 9 (dk_at dksX0_fair_0 9 rfl rfl)
theorem dX0_fair_12 : decode cX0_fair 12 = .ok (.astore_n 3, 1) := dk_78 (dk_at dksX0_fair_0 12 rfl rfl)
theorem dX0_fair_13 : decode cX0_fair 13 = .ok (.iconst 1, 1) := dk_4 (dk_at dksX0_fair_0 13 rfl rfl)
theorem dX0_fair_14 : decode cX0_fair 14 = .ok (.ireturn, 1) := dk_172 (dk_at dksX0_fair_0 14 rfl rfl)
theorem dX0_fair_15 : decode cX0_fair 15 = .ok (.astore_n 3, 1) := dk_78 (dk_at dksX0_fair_0 15 rfl rfl)
theorem dX0_fair_16 : decode cX0_fair 16 = .ok (.iconst 2, 1) := dk_5 (dk_at dksX0_fair_0 16 rfl rfl)
theorem dX0_fair_17 : decode cX0_fair 17 = .ok (.ireturn, 1) := dk_172 (dk_at dksX0_fair_0 17 rfl rfl)
theorem dX0_fair_18 : decode cX0_fair 18 = .ok (.iconst 0, 1) := dk_3 (dk_at dksX0_fair_0 18 rfl rfl)
theorem dX0_fair_19 : decode cX0_fair 19 = .ok (.ireturn, 1) := dk_172 (dk_at dksX0_fair_0 19 rfl rfl)
abbrev cX0_songs : ByteArray := method_26_code
def yX0_songs : MethodName := ⟨RX0, "songs", "(LFeatherYard;Z[J)I"⟩
def dkwX0_songs_0 : List UInt8 := [44, 3, 42, 27, 182, 0, 96, 133, 80, 167, 0, 6, 78, 4, 172, 3, 172]
abbrev dktX0_songs_0 : List UInt8 := dkwX0_songs_0 ++ []
theorem dksX0_songs_0 : cX0_songs.data.toList.drop 0 = dktX0_songs_0 := by decide +kernel
theorem dX0_songs_0 : decode cX0_songs 0 = .ok (.aload_n 2, 1) := dk_44 (dk_at dksX0_songs_0 0 rfl rfl)
theorem dX0_songs_1 : decode cX0_songs 1 = .ok (.iconst 0, 1) := dk_3 (dk_at dksX0_songs_0 1 rfl rfl)
theorem dX0_songs_2 : decode cX0_songs 2 = .ok (.aload_n 0, 1) := dk_42 (dk_at dksX0_songs_0 2 rfl rfl)
theorem dX0_songs_3 : decode cX0_songs 3 = .ok (.iload_n 1, 1) := dk_27 (dk_at dksX0_songs_0 3 rfl rfl)
theorem dX0_songs_4 : decode cX0_songs 4 = .ok (.invokevirtual 96, 3) := dk_182 0 96 (dk_at dksX0_songs_0 4 rfl rfl)
theorem dX0_songs_7 : decode cX0_songs 7 = .ok (.i2l, 1) := dk_133 (dk_at dksX0_songs_0 7 rfl rfl)
theorem dX0_songs_8 : decode cX0_songs 8 = .ok (.lastore, 1) := dk_80 (dk_at dksX0_songs_0 8 rfl rfl)
theorem dX0_songs_9 : decode cX0_songs 9 = .ok (.goto 6, 3) := dk_167 0 6 (dk_at dksX0_songs_0 9 rfl rfl)
theorem dX0_songs_12 : decode cX0_songs 12 = .ok (.astore_n 3, 1) := dk_78 (dk_at dksX0_songs_0 12 rfl rfl)
theorem dX0_songs_13 : decode cX0_songs 13 = .ok (.iconst 1, 1) := dk_4 (dk_at dksX0_songs_0 13 rfl rfl)
theorem dX0_songs_14 : decode cX0_songs 14 = .ok (.ireturn, 1) := dk_172 (dk_at dksX0_songs_0 14 rfl rfl)
theorem dX0_songs_15 : decode cX0_songs 15 = .ok (.iconst 0, 1) := dk_3 (dk_at dksX0_songs_0 15 rfl rfl)
theorem dX0_songs_16 : decode cX0_songs 16 = .ok (.ireturn, 1) := dk_172 (dk_at dksX0_songs_0 16 rfl rfl)
abbrev cX0_ask : ByteArray := method_27_code
def yX0_ask : MethodName := ⟨RX0, "ask", "(LFeatherYard;[J)I"⟩
def dkwX0_ask_0 : List UInt8 := [43, 3, 42, 182, 0, 100, 133, 80, 167, 0, 6, 77, 4, 172, 3, 172]
abbrev dktX0_ask_0 : List UInt8 := dkwX0_ask_0 ++ []
theorem dksX0_ask_0 : cX0_ask.data.toList.drop 0 = dktX0_ask_0 := by decide +kernel
theorem dX0_ask_0 : decode cX0_ask 0 = .ok (.aload_n 1, 1) := dk_43 (dk_at dksX0_ask_0 0 rfl rfl)
theorem dX0_ask_1 : decode cX0_ask 1 = .ok (.iconst 0, 1) := dk_3 (dk_at dksX0_ask_0 1 rfl rfl)
theorem dX0_ask_2 : decode cX0_ask 2 = .ok (.aload_n 0, 1) := dk_42 (dk_at dksX0_ask_0 2 rfl rfl)
theorem dX0_ask_3 : decode cX0_ask 3 = .ok (.invokevirtual 100, 3) := dk_182 0 100 (dk_at dksX0_ask_0 3 rfl rfl)
theorem dX0_ask_6 : decode cX0_ask 6 = .ok (.i2l, 1) := dk_133 (dk_at dksX0_ask_0 6 rfl rfl)
theorem dX0_ask_7 : decode cX0_ask 7 = .ok (.lastore, 1) := dk_80 (dk_at dksX0_ask_0 7 rfl rfl)
theorem dX0_ask_8 : decode cX0_ask 8 = .ok (.goto 6, 3) := dk_167 0 6 (dk_at dksX0_ask_0 8 rfl rfl)
theorem dX0_ask_11 : decode cX0_ask 11 = .ok (.astore_n 2, 1) := dk_77 (dk_at dksX0_ask_0 11 rfl rfl)
theorem dX0_ask_12 : decode cX0_ask 12 = .ok (.iconst 1, 1) := dk_4 (dk_at dksX0_ask_0 12 rfl rfl)
theorem dX0_ask_13 : decode cX0_ask 13 = .ok (.ireturn, 1) := dk_172 (dk_at dksX0_ask_0 13 rfl rfl)
theorem dX0_ask_14 : decode cX0_ask 14 = .ok (.iconst 0, 1) := dk_3 (dk_at dksX0_ask_0 14 rfl rfl)
theorem dX0_ask_15 : decode cX0_ask 15 = .ok (.ireturn, 1) := dk_172 (dk_at dksX0_ask_0 15 rfl rfl)
abbrev cX0_tell : ByteArray := method_28_code
def yX0_tell : MethodName := ⟨RX0, "tell", "(LFeatherYard;II[J)I"⟩
def dkwX0_tell_0 : List UInt8 := [45, 3, 42, 27, 28, 182, 0, 103, 133, 80, 167, 0, 11, 58, 4, 4, 172, 58, 4, 5, 172, 3, 172]
abbrev dktX0_tell_0 : List UInt8 := dkwX0_tell_0 ++ []
theorem dksX0_tell_0 : cX0_tell.data.toList.drop 0 = dktX0_tell_0 := by decide +kernel
theorem dX0_tell_0 : decode cX0_tell 0 = .ok (.aload_n 3, 1) := dk_45 (dk_at dksX0_tell_0 0 rfl rfl)
theorem dX0_tell_1 : decode cX0_tell 1 = .ok (.iconst 0, 1) := dk_3 (dk_at dksX0_tell_0 1 rfl rfl)
theorem dX0_tell_2 : decode cX0_tell 2 = .ok (.aload_n 0, 1) := dk_42 (dk_at dksX0_tell_0 2 rfl rfl)
theorem dX0_tell_3 : decode cX0_tell 3 = .ok (.iload_n 1, 1) := dk_27 (dk_at dksX0_tell_0 3 rfl rfl)
theorem dX0_tell_4 : decode cX0_tell 4 = .ok (.iload_n 2, 1) := dk_28 (dk_at dksX0_tell_0 4 rfl rfl)
theorem dX0_tell_5 : decode cX0_tell 5 = .ok (.invokevirtual 103, 3) := dk_182 0 103 (dk_at dksX0_tell_0 5 rfl rfl)
theorem dX0_tell_8 : decode cX0_tell 8 = .ok (.i2l, 1) := dk_133 (dk_at dksX0_tell_0 8 rfl rfl)
theorem dX0_tell_9 : decode cX0_tell 9 = .ok (.lastore, 1) := dk_80 (dk_at dksX0_tell_0 9 rfl rfl)
theorem dX0_tell_10 : decode cX0_tell 10 = .ok (.goto 11, 3) := dk_167 0 11 (dk_at dksX0_tell_0 10 rfl rfl)
theorem dX0_tell_13 : decode cX0_tell 13 = .ok (.astore 4, 2) := dk_58 4 (dk_at dksX0_tell_0 13 rfl rfl)
theorem dX0_tell_15 : decode cX0_tell 15 = .ok (.iconst 1, 1) := dk_4 (dk_at dksX0_tell_0 15 rfl rfl)
theorem dX0_tell_16 : decode cX0_tell 16 = .ok (.ireturn, 1) := dk_172 (dk_at dksX0_tell_0 16 rfl rfl)
theorem dX0_tell_17 : decode cX0_tell 17 = .ok (.astore 4, 2) := dk_58 4 (dk_at dksX0_tell_0 17 rfl rfl)
theorem dX0_tell_19 : decode cX0_tell 19 = .ok (.iconst 2, 1) := dk_5 (dk_at dksX0_tell_0 19 rfl rfl)
theorem dX0_tell_20 : decode cX0_tell 20 = .ok (.ireturn, 1) := dk_172 (dk_at dksX0_tell_0 20 rfl rfl)
theorem dX0_tell_21 : decode cX0_tell 21 = .ok (.iconst 0, 1) := dk_3 (dk_at dksX0_tell_0 21 rfl rfl)
theorem dX0_tell_22 : decode cX0_tell 22 = .ok (.ireturn, 1) := dk_172 (dk_at dksX0_tell_0 22 rfl rfl)
abbrev cX0_lasts : ByteArray := method_29_code
def yX0_lasts : MethodName := ⟨RX0, "lasts", "(LFeatherYard;III[J)I"⟩
def dkwX0_lasts_1 : List UInt8 := [172]
abbrev dktX0_lasts_1 : List UInt8 := dkwX0_lasts_1 ++ []
def dkwX0_lasts_0 : List UInt8 := [25, 4, 3, 42, 27, 28, 29, 182, 0, 106, 133, 80, 167, 0, 11, 58, 5, 4, 172, 58, 5, 5, 172, 3]
abbrev dktX0_lasts_0 : List UInt8 := dkwX0_lasts_0 ++ dktX0_lasts_1
theorem dksX0_lasts_0 : cX0_lasts.data.toList.drop 0 = dktX0_lasts_0 := by decide +kernel
theorem dksX0_lasts_1 : cX0_lasts.data.toList.drop 24 = dktX0_lasts_1 := dk_seg dksX0_lasts_0 24 rfl rfl
theorem dX0_lasts_0 : decode cX0_lasts 0 = .ok (.aload 4, 2) := dk_25 4 (dk_at dksX0_lasts_0 0 rfl rfl)
theorem dX0_lasts_2 : decode cX0_lasts 2 = .ok (.iconst 0, 1) := dk_3 (dk_at dksX0_lasts_0 2 rfl rfl)
theorem dX0_lasts_3 : decode cX0_lasts 3 = .ok (.aload_n 0, 1) := dk_42 (dk_at dksX0_lasts_0 3 rfl rfl)
theorem dX0_lasts_4 : decode cX0_lasts 4 = .ok (.iload_n 1, 1) := dk_27 (dk_at dksX0_lasts_0 4 rfl rfl)
theorem dX0_lasts_5 : decode cX0_lasts 5 = .ok (.iload_n 2, 1) := dk_28 (dk_at dksX0_lasts_0 5 rfl rfl)
theorem dX0_lasts_6 : decode cX0_lasts 6 = .ok (.iload_n 3, 1) := dk_29 (dk_at dksX0_lasts_0 6 rfl rfl)
theorem dX0_lasts_7 : decode cX0_lasts 7 = .ok (.invokevirtual 106, 3) := dk_182 0 106 (dk_at dksX0_lasts_0 7 rfl rfl)
theorem dX0_lasts_10 : decode cX0_lasts 10 = .ok (.i2l, 1) := dk_133 (dk_at dksX0_lasts_0 10 rfl rfl)
theorem dX0_lasts_11 : decode cX0_lasts 11 = .ok (.lastore, 1) := dk_80 (dk_at dksX0_lasts_0 11 rfl rfl)
theorem dX0_lasts_12 : decode cX0_lasts 12 = .ok (.goto 11, 3) := dk_167 0 11 (dk_at dksX0_lasts_0 12 rfl rfl)
theorem dX0_lasts_15 : decode cX0_lasts 15 = .ok (.astore 5, 2) := dk_58 5 (dk_at dksX0_lasts_0 15 rfl rfl)
theorem dX0_lasts_17 : decode cX0_lasts 17 = .ok (.iconst 1, 1) := dk_4 (dk_at dksX0_lasts_0 17 rfl rfl)
theorem dX0_lasts_18 : decode cX0_lasts 18 = .ok (.ireturn, 1) := dk_172 (dk_at dksX0_lasts_0 18 rfl rfl)
theorem dX0_lasts_19 : decode cX0_lasts 19 = .ok (.astore 5, 2) := dk_58 5 (dk_at dksX0_lasts_0 19 rfl rfl)
theorem dX0_lasts_21 : decode cX0_lasts 21 = .ok (.iconst 2, 1) := dk_5 (dk_at dksX0_lasts_0 21 rfl rfl)
theorem dX0_lasts_22 : decode cX0_lasts 22 = .ok (.ireturn, 1) := dk_172 (dk_at dksX0_lasts_0 22 rfl rfl)
theorem dX0_lasts_23 : decode cX0_lasts 23 = .ok (.iconst 0, 1) := dk_3 (dk_at dksX0_lasts_0 23 rfl rfl)
theorem dX0_lasts_24 : decode cX0_lasts 24 = .ok (.ireturn, 1) := dk_172 (dk_at dksX0_lasts_1 0 rfl rfl)
abbrev cX0_won : ByteArray := method_30_code
def yX0_won : MethodName := ⟨RX0, "won", "(LFeatherYard;IZ[J)I"⟩
def dkwX0_won_0 : List UInt8 := [45, 3, 42, 27, 28, 182, 0, 109, 133, 80, 167, 0, 7, 58, 4, 4, 172, 3, 172]
abbrev dktX0_won_0 : List UInt8 := dkwX0_won_0 ++ []
theorem dksX0_won_0 : cX0_won.data.toList.drop 0 = dktX0_won_0 := by decide +kernel
theorem dX0_won_0 : decode cX0_won 0 = .ok (.aload_n 3, 1) := dk_45 (dk_at dksX0_won_0 0 rfl rfl)
theorem dX0_won_1 : decode cX0_won 1 = .ok (.iconst 0, 1) := dk_3 (dk_at dksX0_won_0 1 rfl rfl)
theorem dX0_won_2 : decode cX0_won 2 = .ok (.aload_n 0, 1) := dk_42 (dk_at dksX0_won_0 2 rfl rfl)
theorem dX0_won_3 : decode cX0_won 3 = .ok (.iload_n 1, 1) := dk_27 (dk_at dksX0_won_0 3 rfl rfl)
theorem dX0_won_4 : decode cX0_won 4 = .ok (.iload_n 2, 1) := dk_28 (dk_at dksX0_won_0 4 rfl rfl)
theorem dX0_won_5 : decode cX0_won 5 = .ok (.invokevirtual 109, 3) := dk_182 0 109 (dk_at dksX0_won_0 5 rfl rfl)
theorem dX0_won_8 : decode cX0_won 8 = .ok (.i2l, 1) := dk_133 (dk_at dksX0_won_0 8 rfl rfl)
theorem dX0_won_9 : decode cX0_won 9 = .ok (.lastore, 1) := dk_80 (dk_at dksX0_won_0 9 rfl rfl)
theorem dX0_won_10 : decode cX0_won 10 = .ok (.goto 7, 3) := dk_167 0 7 (dk_at dksX0_won_0 10 rfl rfl)
theorem dX0_won_13 : decode cX0_won 13 = .ok (.astore 4, 2) := dk_58 4 (dk_at dksX0_won_0 13 rfl rfl)
theorem dX0_won_15 : decode cX0_won 15 = .ok (.iconst 1, 1) := dk_4 (dk_at dksX0_won_0 15 rfl rfl)
theorem dX0_won_16 : decode cX0_won 16 = .ok (.ireturn, 1) := dk_172 (dk_at dksX0_won_0 16 rfl rfl)
theorem dX0_won_17 : decode cX0_won 17 = .ok (.iconst 0, 1) := dk_3 (dk_at dksX0_won_0 17 rfl rfl)
theorem dX0_won_18 : decode cX0_won 18 = .ok (.ireturn, 1) := dk_172 (dk_at dksX0_won_0 18 rfl rfl)
abbrev cX0_widest : ByteArray := method_31_code
def yX0_widest : MethodName := ⟨RX0, "widest", "(LFeatherYard;I[J)I"⟩
def dkwX0_widest_0 : List UInt8 := [44, 3, 42, 27, 182, 0, 112, 133, 80, 167, 0, 6, 78, 4, 172, 3, 172]
abbrev dktX0_widest_0 : List UInt8 := dkwX0_widest_0 ++ []
theorem dksX0_widest_0 : cX0_widest.data.toList.drop 0 = dktX0_widest_0 := by decide +kernel
theorem dX0_widest_0 : decode cX0_widest 0 = .ok (.aload_n 2, 1) := dk_44 (dk_at dksX0_widest_0 0 rfl rfl)
theorem dX0_widest_1 : decode cX0_widest 1 = .ok (.iconst 0, 1) := dk_3 (dk_at dksX0_widest_0 1 rfl rfl)
theorem dX0_widest_2 : decode cX0_widest 2 = .ok (.aload_n 0, 1) := dk_42 (dk_at dksX0_widest_0 2 rfl rfl)
theorem dX0_widest_3 : decode cX0_widest 3 = .ok (.iload_n 1, 1) := dk_27 (dk_at dksX0_widest_0 3 rfl rfl)
theorem dX0_widest_4 : decode cX0_widest 4 = .ok (.invokevirtual 112, 3) := dk_182 0 112 (dk_at dksX0_widest_0 4 rfl rfl)
theorem dX0_widest_7 : decode cX0_widest 7 = .ok (.i2l, 1) := dk_133 (dk_at dksX0_widest_0 7 rfl rfl)
theorem dX0_widest_8 : decode cX0_widest 8 = .ok (.lastore, 1) := dk_80 (dk_at dksX0_widest_0 8 rfl rfl)
theorem dX0_widest_9 : decode cX0_widest 9 = .ok (.goto 6, 3) := dk_167 0 6 (dk_at dksX0_widest_0 9 rfl rfl)
theorem dX0_widest_12 : decode cX0_widest 12 = .ok (.astore_n 3, 1) := dk_78 (dk_at dksX0_widest_0 12 rfl rfl)
theorem dX0_widest_13 : decode cX0_widest 13 = .ok (.iconst 1, 1) := dk_4 (dk_at dksX0_widest_0 13 rfl rfl)
theorem dX0_widest_14 : decode cX0_widest 14 = .ok (.ireturn, 1) := dk_172 (dk_at dksX0_widest_0 14 rfl rfl)
theorem dX0_widest_15 : decode cX0_widest 15 = .ok (.iconst 0, 1) := dk_3 (dk_at dksX0_widest_0 15 rfl rfl)
theorem dX0_widest_16 : decode cX0_widest 16 = .ok (.ireturn, 1) := dk_172 (dk_at dksX0_widest_0 16 rfl rfl)
abbrev cX0_trial : ByteArray := method_32_code
def yX0_trial : MethodName := ⟨RX0, "trial", "(LFeatherYard;III[J)I"⟩
def dkwX0_trial_1 : List UInt8 := [172]
abbrev dktX0_trial_1 : List UInt8 := dkwX0_trial_1 ++ []
def dkwX0_trial_0 : List UInt8 := [25, 4, 3, 42, 27, 28, 29, 182, 0, 115, 133, 80, 167, 0, 11, 58, 5, 4, 172, 58, 5, 5, 172, 3]
abbrev dktX0_trial_0 : List UInt8 := dkwX0_trial_0 ++ dktX0_trial_1
theorem dksX0_trial_0 : cX0_trial.data.toList.drop 0 = dktX0_trial_0 := by decide +kernel
theorem dksX0_trial_1 : cX0_trial.data.toList.drop 24 = dktX0_trial_1 := dk_seg dksX0_trial_0 24 rfl rfl
theorem dX0_trial_0 : decode cX0_trial 0 = .ok (.aload 4, 2) := dk_25 4 (dk_at dksX0_trial_0 0 rfl rfl)
theorem dX0_trial_2 : decode cX0_trial 2 = .ok (.iconst 0, 1) := dk_3 (dk_at dksX0_trial_0 2 rfl rfl)
theorem dX0_trial_3 : decode cX0_trial 3 = .ok (.aload_n 0, 1) := dk_42 (dk_at dksX0_trial_0 3 rfl rfl)
theorem dX0_trial_4 : decode cX0_trial 4 = .ok (.iload_n 1, 1) := dk_27 (dk_at dksX0_trial_0 4 rfl rfl)
theorem dX0_trial_5 : decode cX0_trial 5 = .ok (.iload_n 2, 1) := dk_28 (dk_at dksX0_trial_0 5 rfl rfl)
theorem dX0_trial_6 : decode cX0_trial 6 = .ok (.iload_n 3, 1) := dk_29 (dk_at dksX0_trial_0 6 rfl rfl)
theorem dX0_trial_7 : decode cX0_trial 7 = .ok (.invokevirtual 115, 3) := dk_182 0 115 (dk_at dksX0_trial_0 7 rfl rfl)
theorem dX0_trial_10 : decode cX0_trial 10 = .ok (.i2l, 1) := dk_133 (dk_at dksX0_trial_0 10 rfl rfl)
theorem dX0_trial_11 : decode cX0_trial 11 = .ok (.lastore, 1) := dk_80 (dk_at dksX0_trial_0 11 rfl rfl)
theorem dX0_trial_12 : decode cX0_trial 12 = .ok (.goto 11, 3) := dk_167 0 11 (dk_at dksX0_trial_0 12 rfl rfl)
theorem dX0_trial_15 : decode cX0_trial 15 = .ok (.astore 5, 2) := dk_58 5 (dk_at dksX0_trial_0 15 rfl rfl)
theorem dX0_trial_17 : decode cX0_trial 17 = .ok (.iconst 1, 1) := dk_4 (dk_at dksX0_trial_0 17 rfl rfl)
theorem dX0_trial_18 : decode cX0_trial 18 = .ok (.ireturn, 1) := dk_172 (dk_at dksX0_trial_0 18 rfl rfl)
theorem dX0_trial_19 : decode cX0_trial 19 = .ok (.astore 5, 2) := dk_58 5 (dk_at dksX0_trial_0 19 rfl rfl)
theorem dX0_trial_21 : decode cX0_trial 21 = .ok (.iconst 2, 1) := dk_5 (dk_at dksX0_trial_0 21 rfl rfl)
theorem dX0_trial_22 : decode cX0_trial 22 = .ok (.ireturn, 1) := dk_172 (dk_at dksX0_trial_0 22 rfl rfl)
theorem dX0_trial_23 : decode cX0_trial 23 = .ok (.iconst 0, 1) := dk_3 (dk_at dksX0_trial_0 23 rfl rfl)
theorem dX0_trial_24 : decode cX0_trial 24 = .ok (.ireturn, 1) := dk_172 (dk_at dksX0_trial_1 0 rfl rfl)
abbrev cX0_span : ByteArray := method_33_code
def yX0_span : MethodName := ⟨RX0, "span", "(LFeatherYard;IIIZ[J)I"⟩
def dkwX0_span_1 : List UInt8 := [172, 3, 172]
abbrev dktX0_span_1 : List UInt8 := dkwX0_span_1 ++ []
def dkwX0_span_0 : List UInt8 := [25, 5, 3, 42, 27, 28, 29, 21, 4, 182, 0, 118, 133, 80, 167, 0, 11, 58, 6, 4, 172, 58, 6, 5]
abbrev dktX0_span_0 : List UInt8 := dkwX0_span_0 ++ dktX0_span_1
theorem dksX0_span_0 : cX0_span.data.toList.drop 0 = dktX0_span_0 := by decide +kernel
theorem dksX0_span_1 : cX0_span.data.toList.drop 24 = dktX0_span_1 := dk_seg dksX0_span_0 24 rfl rfl
theorem dX0_span_0 : decode cX0_span 0 = .ok (.aload 5, 2) := dk_25 5 (dk_at dksX0_span_0 0 rfl rfl)
theorem dX0_span_2 : decode cX0_span 2 = .ok (.iconst 0, 1) := dk_3 (dk_at dksX0_span_0 2 rfl rfl)
theorem dX0_span_3 : decode cX0_span 3 = .ok (.aload_n 0, 1) := dk_42 (dk_at dksX0_span_0 3 rfl rfl)
theorem dX0_span_4 : decode cX0_span 4 = .ok (.iload_n 1, 1) := dk_27 (dk_at dksX0_span_0 4 rfl rfl)
theorem dX0_span_5 : decode cX0_span 5 = .ok (.iload_n 2, 1) := dk_28 (dk_at dksX0_span_0 5 rfl rfl)
theorem dX0_span_6 : decode cX0_span 6 = .ok (.iload_n 3, 1) := dk_29 (dk_at dksX0_span_0 6 rfl rfl)
theorem dX0_span_7 : decode cX0_span 7 = .ok (.iload 4, 2) := dk_21 4 (dk_at dksX0_span_0 7 rfl rfl)
theorem dX0_span_9 : decode cX0_span 9 = .ok (.invokevirtual 118, 3) := dk_182 0 118 (dk_at dksX0_span_0 9 rfl rfl)
theorem dX0_span_12 : decode cX0_span 12 = .ok (.i2l, 1) := dk_133 (dk_at dksX0_span_0 12 rfl rfl)
theorem dX0_span_13 : decode cX0_span 13 = .ok (.lastore, 1) := dk_80 (dk_at dksX0_span_0 13 rfl rfl)
theorem dX0_span_14 : decode cX0_span 14 = .ok (.goto 11, 3) := dk_167 0 11 (dk_at dksX0_span_0 14 rfl rfl)
theorem dX0_span_17 : decode cX0_span 17 = .ok (.astore 6, 2) := dk_58 6 (dk_at dksX0_span_0 17 rfl rfl)
theorem dX0_span_19 : decode cX0_span 19 = .ok (.iconst 1, 1) := dk_4 (dk_at dksX0_span_0 19 rfl rfl)
theorem dX0_span_20 : decode cX0_span 20 = .ok (.ireturn, 1) := dk_172 (dk_at dksX0_span_0 20 rfl rfl)
theorem dX0_span_21 : decode cX0_span 21 = .ok (.astore 6, 2) := dk_58 6 (dk_at dksX0_span_0 21 rfl rfl)
theorem dX0_span_23 : decode cX0_span 23 = .ok (.iconst 2, 1) := dk_5 (dk_at dksX0_span_0 23 rfl rfl)
theorem dX0_span_24 : decode cX0_span 24 = .ok (.ireturn, 1) := dk_172 (dk_at dksX0_span_1 0 rfl rfl)
theorem dX0_span_25 : decode cX0_span 25 = .ok (.iconst 0, 1) := dk_3 (dk_at dksX0_span_1 1 rfl rfl)
theorem dX0_span_26 : decode cX0_span 26 = .ok (.ireturn, 1) := dk_172 (dk_at dksX0_span_1 2 rfl rfl)
abbrev cX0_led : ByteArray := method_34_code
def yX0_led : MethodName := ⟨RX0, "led", "(LFeatherYard;IZ[J)I"⟩
def dkwX0_led_0 : List UInt8 := [45, 3, 42, 27, 28, 182, 0, 122, 133, 80, 167, 0, 7, 58, 4, 4, 172, 3, 172]
abbrev dktX0_led_0 : List UInt8 := dkwX0_led_0 ++ []
theorem dksX0_led_0 : cX0_led.data.toList.drop 0 = dktX0_led_0 := by decide +kernel
theorem dX0_led_0 : decode cX0_led 0 = .ok (.aload_n 3, 1) := dk_45 (dk_at dksX0_led_0 0 rfl rfl)
theorem dX0_led_1 : decode cX0_led 1 = .ok (.iconst 0, 1) := dk_3 (dk_at dksX0_led_0 1 rfl rfl)
theorem dX0_led_2 : decode cX0_led 2 = .ok (.aload_n 0, 1) := dk_42 (dk_at dksX0_led_0 2 rfl rfl)
theorem dX0_led_3 : decode cX0_led 3 = .ok (.iload_n 1, 1) := dk_27 (dk_at dksX0_led_0 3 rfl rfl)
theorem dX0_led_4 : decode cX0_led 4 = .ok (.iload_n 2, 1) := dk_28 (dk_at dksX0_led_0 4 rfl rfl)
theorem dX0_led_5 : decode cX0_led 5 = .ok (.invokevirtual 122, 3) := dk_182 0 122 (dk_at dksX0_led_0 5 rfl rfl)
theorem dX0_led_8 : decode cX0_led 8 = .ok (.i2l, 1) := dk_133 (dk_at dksX0_led_0 8 rfl rfl)
theorem dX0_led_9 : decode cX0_led 9 = .ok (.lastore, 1) := dk_80 (dk_at dksX0_led_0 9 rfl rfl)
theorem dX0_led_10 : decode cX0_led 10 = .ok (.goto 7, 3) := dk_167 0 7 (dk_at dksX0_led_0 10 rfl rfl)
theorem dX0_led_13 : decode cX0_led 13 = .ok (.astore 4, 2) := dk_58 4 (dk_at dksX0_led_0 13 rfl rfl)
theorem dX0_led_15 : decode cX0_led 15 = .ok (.iconst 1, 1) := dk_4 (dk_at dksX0_led_0 15 rfl rfl)
theorem dX0_led_16 : decode cX0_led 16 = .ok (.ireturn, 1) := dk_172 (dk_at dksX0_led_0 16 rfl rfl)
theorem dX0_led_17 : decode cX0_led 17 = .ok (.iconst 0, 1) := dk_3 (dk_at dksX0_led_0 17 rfl rfl)
theorem dX0_led_18 : decode cX0_led 18 = .ok (.ireturn, 1) := dk_172 (dk_at dksX0_led_0 18 rfl rfl)
abbrev cX0_log : ByteArray := method_35_code
def yX0_log : MethodName := ⟨RX0, "log", "(LFeatherYard;II[J)I"⟩
def dkwX0_log_0 : List UInt8 := [45, 3, 42, 27, 28, 182, 0, 125, 133, 80, 167, 0, 7, 58, 4, 4, 172, 3, 172]
abbrev dktX0_log_0 : List UInt8 := dkwX0_log_0 ++ []
theorem dksX0_log_0 : cX0_log.data.toList.drop 0 = dktX0_log_0 := by decide +kernel
theorem dX0_log_0 : decode cX0_log 0 = .ok (.aload_n 3, 1) := dk_45 (dk_at dksX0_log_0 0 rfl rfl)
theorem dX0_log_1 : decode cX0_log 1 = .ok (.iconst 0, 1) := dk_3 (dk_at dksX0_log_0 1 rfl rfl)
theorem dX0_log_2 : decode cX0_log 2 = .ok (.aload_n 0, 1) := dk_42 (dk_at dksX0_log_0 2 rfl rfl)
theorem dX0_log_3 : decode cX0_log 3 = .ok (.iload_n 1, 1) := dk_27 (dk_at dksX0_log_0 3 rfl rfl)
theorem dX0_log_4 : decode cX0_log 4 = .ok (.iload_n 2, 1) := dk_28 (dk_at dksX0_log_0 4 rfl rfl)
theorem dX0_log_5 : decode cX0_log 5 = .ok (.invokevirtual 125, 3) := dk_182 0 125 (dk_at dksX0_log_0 5 rfl rfl)
theorem dX0_log_8 : decode cX0_log 8 = .ok (.i2l, 1) := dk_133 (dk_at dksX0_log_0 8 rfl rfl)
theorem dX0_log_9 : decode cX0_log 9 = .ok (.lastore, 1) := dk_80 (dk_at dksX0_log_0 9 rfl rfl)
theorem dX0_log_10 : decode cX0_log 10 = .ok (.goto 7, 3) := dk_167 0 7 (dk_at dksX0_log_0 10 rfl rfl)
theorem dX0_log_13 : decode cX0_log 13 = .ok (.astore 4, 2) := dk_58 4 (dk_at dksX0_log_0 13 rfl rfl)
theorem dX0_log_15 : decode cX0_log 15 = .ok (.iconst 1, 1) := dk_4 (dk_at dksX0_log_0 15 rfl rfl)
theorem dX0_log_16 : decode cX0_log 16 = .ok (.ireturn, 1) := dk_172 (dk_at dksX0_log_0 16 rfl rfl)
theorem dX0_log_17 : decode cX0_log 17 = .ok (.iconst 0, 1) := dk_3 (dk_at dksX0_log_0 17 rfl rfl)
theorem dX0_log_18 : decode cX0_log 18 = .ok (.ireturn, 1) := dk_172 (dk_at dksX0_log_0 18 rfl rfl)
theorem q125 : (Jvm.Cond.initialized "FeatherYardLaw") ∈ lw_all := lw_g (lw_at lw_m1 0 rfl) rfl
theorem q158 : (Jvm.Cond.classLink "FeatherYardLaw" (8 : Nat) "FeatherYard") ∈ lw_all := lw_g (lw_at lw_m1 33 rfl) rfl
theorem q160 : (Jvm.Cond.methodLink "FeatherYardLaw" (128 : Nat) ({ cls := "FeatherYard", name := "<init>", desc := "()V" } : Jvm.MethodName)) ∈ lw_all := lw_g (lw_at lw_m1 35 rfl) rfl
theorem q546 : (Jvm.Cond.methodLink "FeatherYardLaw" (132 : Nat) ({ cls := "FeatherYard", name := "feed", desc := "(IIIII)I" } : Jvm.MethodName)) ∈ lw_all := lw_g (lw_at lw_m2 181 rfl) rfl
theorem q554 : (Jvm.Cond.methodLink "FeatherYardLaw" (137 : Nat) ({ cls := "FeatherYard", name := "end", desc := "(I)Z" } : Jvm.MethodName)) ∈ lw_all := lw_g (lw_at lw_m2 189 rfl) rfl
theorem q561 : (Jvm.Cond.methodLink "FeatherYardLaw" (154 : Nat) ({ cls := "FeatherYard", name := "fault", desc := "()I" } : Jvm.MethodName)) ∈ lw_all := lw_g (lw_at lw_m2 196 rfl) rfl
theorem q565 : (Jvm.Cond.methodLink "FeatherYardLaw" (238 : Nat) ({ cls := "FeatherYard", name := "alike", desc := "()I" } : Jvm.MethodName)) ∈ lw_all := lw_g (lw_at lw_m2 200 rfl) rfl
theorem q668 : (Jvm.Cond.methodLink "FeatherYardLaw" (245 : Nat) ({ cls := "FeatherYard", name := "rich", desc := "()I" } : Jvm.MethodName)) ∈ lw_all := lw_g (lw_at lw_m3 63 rfl) rfl
theorem q680 : (Jvm.Cond.methodLink "FeatherYardLaw" (252 : Nat) ({ cls := "FeatherYard", name := "cover", desc := "()I" } : Jvm.MethodName)) ∈ lw_all := lw_g (lw_at lw_m3 75 rfl) rfl
theorem q690 : (Jvm.Cond.methodLink "FeatherYardLaw" (272 : Nat) ({ cls := "FeatherYard", name := "seed", desc := "(I)I" } : Jvm.MethodName)) ∈ lw_all := lw_g (lw_at lw_m3 85 rfl) rfl
theorem q694 : (Jvm.Cond.methodLink "FeatherYardLaw" (276 : Nat) ({ cls := "FeatherYard", name := "undo", desc := "()Z" } : Jvm.MethodName)) ∈ lw_all := lw_g (lw_at lw_m3 89 rfl) rfl
theorem q711 : (Jvm.Cond.methodLink "FeatherYardLaw" (281 : Nat) ({ cls := "FeatherYard", name := "image", desc := "()V" } : Jvm.MethodName)) ∈ lw_all := lw_g (lw_at lw_m3 106 rfl) rfl
theorem q715 : (Jvm.Cond.methodLink "FeatherYardLaw" (285 : Nat) ({ cls := "FeatherYard", name := "back", desc := "()Z" } : Jvm.MethodName)) ∈ lw_all := lw_g (lw_at lw_m3 110 rfl) rfl
theorem q719 : (Jvm.Cond.methodLink "FeatherYardLaw" (289 : Nat) ({ cls := "FeatherYard", name := "count", desc := "(I)I" } : Jvm.MethodName)) ∈ lw_all := lw_g (lw_at lw_m3 114 rfl) rfl
theorem q732 : (Jvm.Cond.methodLink "FeatherYardLaw" (142 : Nat) ({ cls := "FeatherYardLaw", name := "court", desc := "(LFeatherYard;[J)I" } : Jvm.MethodName)) ∈ lw_all := lw_g (lw_at lw_m3 127 rfl) rfl
theorem q733 : (Jvm.Cond.static ({ cls := "FeatherYardLaw", name := "court", desc := "(LFeatherYard;[J)I" } : Jvm.MethodName)) ∈ lw_all := lw_g (lw_at lw_m3 128 rfl) rfl
theorem q734 : (Jvm.Cond.codeWith ({ cls := "FeatherYardLaw", name := "court", desc := "(LFeatherYard;[J)I" } : Jvm.MethodName) method_3_code (3 : Nat) (Option.some Jvm.ClassFile.FieldType.int) [((0 : Nat), (8 : Nat), (11 : Nat), (13 : Nat)), ((0 : Nat), (8 : Nat), (14 : Nat), (15 : Nat))]) ∈ lw_all := lw_g (lw_at lw_m3 129 rfl) rfl
theorem q735 : (Jvm.Cond.classLink "FeatherYardLaw" (13 : Nat) "java/lang/IllegalArgumentException") ∈ lw_all := lw_g (lw_at lw_m3 130 rfl) rfl
theorem q736 : (Jvm.Cond.classLink "FeatherYardLaw" (15 : Nat) "java/lang/UnsupportedOperationException") ∈ lw_all := lw_g (lw_at lw_m3 131 rfl) rfl
theorem q737 : (Jvm.Cond.methodLink "FeatherYardLaw" (7 : Nat) ({ cls := "FeatherYard", name := "court", desc := "()I" } : Jvm.MethodName)) ∈ lw_all := lw_g (lw_at lw_m3 132 rfl) rfl
theorem q911 : (Jvm.Cond.methodLink "FeatherYardLaw" (151 : Nat) ({ cls := "FeatherYardLaw", name := "law", desc := "(LFeatherYard;[J)I" } : Jvm.MethodName)) ∈ lw_all := lw_g (lw_at lw_m4 66 rfl) rfl
theorem q912 : (Jvm.Cond.static ({ cls := "FeatherYardLaw", name := "law", desc := "(LFeatherYard;[J)I" } : Jvm.MethodName)) ∈ lw_all := lw_g (lw_at lw_m4 67 rfl) rfl
theorem q913 : (Jvm.Cond.codeWith ({ cls := "FeatherYardLaw", name := "law", desc := "(LFeatherYard;[J)I" } : Jvm.MethodName) method_4_code (3 : Nat) (Option.some Jvm.ClassFile.FieldType.int) [((0 : Nat), (8 : Nat), (11 : Nat), (13 : Nat))]) ∈ lw_all := lw_g (lw_at lw_m4 68 rfl) rfl
theorem q914 : (Jvm.Cond.methodLink "FeatherYardLaw" (17 : Nat) ({ cls := "FeatherYard", name := "law", desc := "()I" } : Jvm.MethodName)) ∈ lw_all := lw_g (lw_at lw_m4 69 rfl) rfl
theorem q1049 : (Jvm.Cond.methodLink "FeatherYardLaw" (158 : Nat) ({ cls := "FeatherYardLaw", name := "bird", desc := "(LFeatherYard;II[J)I" } : Jvm.MethodName)) ∈ lw_all := lw_g (lw_at lw_m4 204 rfl) rfl
theorem q1050 : (Jvm.Cond.static ({ cls := "FeatherYardLaw", name := "bird", desc := "(LFeatherYard;II[J)I" } : Jvm.MethodName)) ∈ lw_all := lw_g (lw_at lw_m4 205 rfl) rfl
theorem q1051 : (Jvm.Cond.codeWith ({ cls := "FeatherYardLaw", name := "bird", desc := "(LFeatherYard;II[J)I" } : Jvm.MethodName) method_5_code (5 : Nat) (Option.some Jvm.ClassFile.FieldType.int) [((0 : Nat), (10 : Nat), (13 : Nat), (24 : Nat)), ((0 : Nat), (10 : Nat), (17 : Nat), (26 : Nat))]) ∈ lw_all := lw_g (lw_at lw_m4 206 rfl) rfl
theorem q1052 : (Jvm.Cond.classLink "FeatherYardLaw" (24 : Nat) "java/lang/IndexOutOfBoundsException") ∈ lw_all := lw_g (lw_at lw_m4 207 rfl) rfl
theorem q1084 : (Jvm.Cond.classLink "FeatherYardLaw" (26 : Nat) "java/util/NoSuchElementException") ∈ lw_all := lw_g (lw_at lw_m4 239 rfl) rfl
theorem q1085 : (Jvm.Cond.methodLink "FeatherYardLaw" (20 : Nat) ({ cls := "FeatherYard", name := "bird", desc := "(II)I" } : Jvm.MethodName)) ∈ lw_all := lw_g (lw_at lw_m5 0 rfl) rfl
theorem q1126 : (Jvm.Cond.methodLink "FeatherYardLaw" (162 : Nat) ({ cls := "FeatherYardLaw", name := "stock", desc := "(LFeatherYard;II[J)I" } : Jvm.MethodName)) ∈ lw_all := lw_g (lw_at lw_m5 41 rfl) rfl
theorem q1127 : (Jvm.Cond.static ({ cls := "FeatherYardLaw", name := "stock", desc := "(LFeatherYard;II[J)I" } : Jvm.MethodName)) ∈ lw_all := lw_g (lw_at lw_m5 42 rfl) rfl
theorem q1128 : (Jvm.Cond.codeWith ({ cls := "FeatherYardLaw", name := "stock", desc := "(LFeatherYard;II[J)I" } : Jvm.MethodName) method_6_code (5 : Nat) (Option.some Jvm.ClassFile.FieldType.int) [((0 : Nat), (10 : Nat), (13 : Nat), (24 : Nat))]) ∈ lw_all := lw_g (lw_at lw_m5 43 rfl) rfl
theorem q1129 : (Jvm.Cond.methodLink "FeatherYardLaw" (28 : Nat) ({ cls := "FeatherYard", name := "stock", desc := "(II)I" } : Jvm.MethodName)) ∈ lw_all := lw_g (lw_at lw_m5 44 rfl) rfl
theorem q1137 : (Jvm.Cond.methodLink "FeatherYardLaw" (165 : Nat) ({ cls := "FeatherYardLaw", name := "matter", desc := "(LFeatherYard;II[J)I" } : Jvm.MethodName)) ∈ lw_all := lw_g (lw_at lw_m5 52 rfl) rfl
theorem q1138 : (Jvm.Cond.static ({ cls := "FeatherYardLaw", name := "matter", desc := "(LFeatherYard;II[J)I" } : Jvm.MethodName)) ∈ lw_all := lw_g (lw_at lw_m5 53 rfl) rfl
theorem q1139 : (Jvm.Cond.codeWith ({ cls := "FeatherYardLaw", name := "matter", desc := "(LFeatherYard;II[J)I" } : Jvm.MethodName) method_7_code (5 : Nat) (Option.some Jvm.ClassFile.FieldType.int) [((0 : Nat), (10 : Nat), (13 : Nat), (24 : Nat)), ((0 : Nat), (10 : Nat), (17 : Nat), (26 : Nat))]) ∈ lw_all := lw_g (lw_at lw_m5 54 rfl) rfl
theorem q1140 : (Jvm.Cond.methodLink "FeatherYardLaw" (31 : Nat) ({ cls := "FeatherYard", name := "matter", desc := "(II)I" } : Jvm.MethodName)) ∈ lw_all := lw_g (lw_at lw_m5 55 rfl) rfl
theorem q1153 : (Jvm.Cond.methodLink "FeatherYardLaw" (168 : Nat) ({ cls := "FeatherYardLaw", name := "wind", desc := "(LFeatherYard;I[J)I" } : Jvm.MethodName)) ∈ lw_all := lw_g (lw_at lw_m5 68 rfl) rfl
theorem q1154 : (Jvm.Cond.static ({ cls := "FeatherYardLaw", name := "wind", desc := "(LFeatherYard;I[J)I" } : Jvm.MethodName)) ∈ lw_all := lw_g (lw_at lw_m5 69 rfl) rfl
theorem q1155 : (Jvm.Cond.codeWith ({ cls := "FeatherYardLaw", name := "wind", desc := "(LFeatherYard;I[J)I" } : Jvm.MethodName) method_8_code (4 : Nat) (Option.some Jvm.ClassFile.FieldType.int) [((0 : Nat), (9 : Nat), (12 : Nat), (24 : Nat))]) ∈ lw_all := lw_g (lw_at lw_m5 70 rfl) rfl
theorem q1156 : (Jvm.Cond.methodLink "FeatherYardLaw" (34 : Nat) ({ cls := "FeatherYard", name := "wind", desc := "(I)I" } : Jvm.MethodName)) ∈ lw_all := lw_g (lw_at lw_m5 71 rfl) rfl
theorem q1160 : (Jvm.Cond.methodLink "FeatherYardLaw" (172 : Nat) ({ cls := "FeatherYardLaw", name := "moves", desc := "(LFeatherYard;IIIIZ[J)I" } : Jvm.MethodName)) ∈ lw_all := lw_g (lw_at lw_m5 75 rfl) rfl
theorem q1161 : (Jvm.Cond.static ({ cls := "FeatherYardLaw", name := "moves", desc := "(LFeatherYard;IIIIZ[J)I" } : Jvm.MethodName)) ∈ lw_all := lw_g (lw_at lw_m5 76 rfl) rfl
theorem q1162 : (Jvm.Cond.codeWith ({ cls := "FeatherYardLaw", name := "moves", desc := "(LFeatherYard;IIIIZ[J)I" } : Jvm.MethodName) method_9_code (8 : Nat) (Option.some Jvm.ClassFile.FieldType.int) [((0 : Nat), (16 : Nat), (19 : Nat), (24 : Nat)), ((0 : Nat), (16 : Nat), (23 : Nat), (13 : Nat))]) ∈ lw_all := lw_g (lw_at lw_m5 77 rfl) rfl
theorem q1163 : (Jvm.Cond.methodLink "FeatherYardLaw" (38 : Nat) ({ cls := "FeatherYard", name := "moves", desc := "(IIIIZ)I" } : Jvm.MethodName)) ∈ lw_all := lw_g (lw_at lw_m5 78 rfl) rfl
theorem q1172 : (Jvm.Cond.methodLink "FeatherYardLaw" (176 : Nat) ({ cls := "FeatherYardLaw", name := "call", desc := "(LFeatherYard;III[J)I" } : Jvm.MethodName)) ∈ lw_all := lw_g (lw_at lw_m5 87 rfl) rfl
theorem q1173 : (Jvm.Cond.static ({ cls := "FeatherYardLaw", name := "call", desc := "(LFeatherYard;III[J)I" } : Jvm.MethodName)) ∈ lw_all := lw_g (lw_at lw_m5 88 rfl) rfl
theorem q1174 : (Jvm.Cond.codeWith ({ cls := "FeatherYardLaw", name := "call", desc := "(LFeatherYard;III[J)I" } : Jvm.MethodName) method_10_code (6 : Nat) (Option.some Jvm.ClassFile.FieldType.int) [((0 : Nat), (12 : Nat), (15 : Nat), (24 : Nat)), ((0 : Nat), (12 : Nat), (19 : Nat), (46 : Nat))]) ∈ lw_all := lw_g (lw_at lw_m5 89 rfl) rfl
theorem q1175 : (Jvm.Cond.classLink "FeatherYardLaw" (46 : Nat) "java/lang/IllegalStateException") ∈ lw_all := lw_g (lw_at lw_m5 90 rfl) rfl
theorem q1176 : (Jvm.Cond.methodLink "FeatherYardLaw" (42 : Nat) ({ cls := "FeatherYard", name := "call", desc := "(III)I" } : Jvm.MethodName)) ∈ lw_all := lw_g (lw_at lw_m5 91 rfl) rfl
theorem q1220 : (Jvm.Cond.methodLink "FeatherYardLaw" (180 : Nat) ({ cls := "FeatherYardLaw", name := "hour", desc := "(LFeatherYard;I[J)I" } : Jvm.MethodName)) ∈ lw_all := lw_g (lw_at lw_m5 135 rfl) rfl
theorem q1221 : (Jvm.Cond.static ({ cls := "FeatherYardLaw", name := "hour", desc := "(LFeatherYard;I[J)I" } : Jvm.MethodName)) ∈ lw_all := lw_g (lw_at lw_m5 136 rfl) rfl
theorem q1222 : (Jvm.Cond.codeWith ({ cls := "FeatherYardLaw", name := "hour", desc := "(LFeatherYard;I[J)I" } : Jvm.MethodName) method_11_code (4 : Nat) (Option.some Jvm.ClassFile.FieldType.int) [((0 : Nat), (9 : Nat), (12 : Nat), (13 : Nat))]) ∈ lw_all := lw_g (lw_at lw_m5 137 rfl) rfl
theorem q1223 : (Jvm.Cond.methodLink "FeatherYardLaw" (48 : Nat) ({ cls := "FeatherYard", name := "hour", desc := "(I)I" } : Jvm.MethodName)) ∈ lw_all := lw_g (lw_at lw_m5 138 rfl) rfl
theorem q1227 : (Jvm.Cond.methodLink "FeatherYardLaw" (183 : Nat) ({ cls := "FeatherYardLaw", name := "blow", desc := "(LFeatherYard;II[J)I" } : Jvm.MethodName)) ∈ lw_all := lw_g (lw_at lw_m5 142 rfl) rfl
theorem q1228 : (Jvm.Cond.static ({ cls := "FeatherYardLaw", name := "blow", desc := "(LFeatherYard;II[J)I" } : Jvm.MethodName)) ∈ lw_all := lw_g (lw_at lw_m5 143 rfl) rfl
theorem q1229 : (Jvm.Cond.codeWith ({ cls := "FeatherYardLaw", name := "blow", desc := "(LFeatherYard;II[J)I" } : Jvm.MethodName) method_12_code (5 : Nat) (Option.some Jvm.ClassFile.FieldType.int) [((0 : Nat), (10 : Nat), (13 : Nat), (24 : Nat)), ((0 : Nat), (10 : Nat), (17 : Nat), (13 : Nat))]) ∈ lw_all := lw_g (lw_at lw_m5 144 rfl) rfl
theorem q1230 : (Jvm.Cond.methodLink "FeatherYardLaw" (51 : Nat) ({ cls := "FeatherYard", name := "blow", desc := "(II)I" } : Jvm.MethodName)) ∈ lw_all := lw_g (lw_at lw_m5 145 rfl) rfl
theorem q1234 : (Jvm.Cond.methodLink "FeatherYardLaw" (186 : Nat) ({ cls := "FeatherYardLaw", name := "give", desc := "(LFeatherYard;IIII[J)I" } : Jvm.MethodName)) ∈ lw_all := lw_g (lw_at lw_m5 149 rfl) rfl
theorem q1235 : (Jvm.Cond.static ({ cls := "FeatherYardLaw", name := "give", desc := "(LFeatherYard;IIII[J)I" } : Jvm.MethodName)) ∈ lw_all := lw_g (lw_at lw_m5 150 rfl) rfl
theorem q1236 : (Jvm.Cond.codeWith ({ cls := "FeatherYardLaw", name := "give", desc := "(LFeatherYard;IIII[J)I" } : Jvm.MethodName) method_13_code (7 : Nat) (Option.some Jvm.ClassFile.FieldType.int) [((0 : Nat), (14 : Nat), (17 : Nat), (24 : Nat)), ((0 : Nat), (14 : Nat), (21 : Nat), (13 : Nat))]) ∈ lw_all := lw_g (lw_at lw_m5 151 rfl) rfl
theorem q1237 : (Jvm.Cond.methodLink "FeatherYardLaw" (54 : Nat) ({ cls := "FeatherYard", name := "give", desc := "(IIII)I" } : Jvm.MethodName)) ∈ lw_all := lw_g (lw_at lw_m5 152 rfl) rfl
theorem q1241 : (Jvm.Cond.methodLink "FeatherYardLaw" (190 : Nat) ({ cls := "FeatherYardLaw", name := "appeal", desc := "(LFeatherYard;I[J)I" } : Jvm.MethodName)) ∈ lw_all := lw_g (lw_at lw_m5 156 rfl) rfl
theorem q1242 : (Jvm.Cond.static ({ cls := "FeatherYardLaw", name := "appeal", desc := "(LFeatherYard;I[J)I" } : Jvm.MethodName)) ∈ lw_all := lw_g (lw_at lw_m5 157 rfl) rfl
theorem q1243 : (Jvm.Cond.codeWith ({ cls := "FeatherYardLaw", name := "appeal", desc := "(LFeatherYard;I[J)I" } : Jvm.MethodName) method_14_code (4 : Nat) (Option.some Jvm.ClassFile.FieldType.int) [((0 : Nat), (9 : Nat), (12 : Nat), (24 : Nat)), ((0 : Nat), (9 : Nat), (15 : Nat), (46 : Nat))]) ∈ lw_all := lw_g (lw_at lw_m5 158 rfl) rfl
theorem q1244 : (Jvm.Cond.methodLink "FeatherYardLaw" (58 : Nat) ({ cls := "FeatherYard", name := "appeal", desc := "(I)I" } : Jvm.MethodName)) ∈ lw_all := lw_g (lw_at lw_m5 159 rfl) rfl
theorem q1248 : (Jvm.Cond.methodLink "FeatherYardLaw" (193 : Nat) ({ cls := "FeatherYardLaw", name := "weeks", desc := "(LFeatherYard;I[J)I" } : Jvm.MethodName)) ∈ lw_all := lw_g (lw_at lw_m5 163 rfl) rfl
theorem q1249 : (Jvm.Cond.static ({ cls := "FeatherYardLaw", name := "weeks", desc := "(LFeatherYard;I[J)I" } : Jvm.MethodName)) ∈ lw_all := lw_g (lw_at lw_m5 164 rfl) rfl
theorem q1250 : (Jvm.Cond.codeWith ({ cls := "FeatherYardLaw", name := "weeks", desc := "(LFeatherYard;I[J)I" } : Jvm.MethodName) method_15_code (4 : Nat) (Option.some Jvm.ClassFile.FieldType.int) [((0 : Nat), (9 : Nat), (12 : Nat), (13 : Nat))]) ∈ lw_all := lw_g (lw_at lw_m5 165 rfl) rfl
theorem q1251 : (Jvm.Cond.methodLink "FeatherYardLaw" (61 : Nat) ({ cls := "FeatherYard", name := "weeks", desc := "(I)I" } : Jvm.MethodName)) ∈ lw_all := lw_g (lw_at lw_m5 166 rfl) rfl
theorem q1255 : (Jvm.Cond.methodLink "FeatherYardLaw" (196 : Nat) ({ cls := "FeatherYardLaw", name := "ways", desc := "(LFeatherYard;II[J)I" } : Jvm.MethodName)) ∈ lw_all := lw_g (lw_at lw_m5 170 rfl) rfl
theorem q1256 : (Jvm.Cond.static ({ cls := "FeatherYardLaw", name := "ways", desc := "(LFeatherYard;II[J)I" } : Jvm.MethodName)) ∈ lw_all := lw_g (lw_at lw_m5 171 rfl) rfl
theorem q1257 : (Jvm.Cond.codeWith ({ cls := "FeatherYardLaw", name := "ways", desc := "(LFeatherYard;II[J)I" } : Jvm.MethodName) method_16_code (5 : Nat) (Option.some Jvm.ClassFile.FieldType.int) [((0 : Nat), (10 : Nat), (13 : Nat), (24 : Nat)), ((0 : Nat), (10 : Nat), (17 : Nat), (26 : Nat))]) ∈ lw_all := lw_g (lw_at lw_m5 172 rfl) rfl
theorem q1258 : (Jvm.Cond.methodLink "FeatherYardLaw" (64 : Nat) ({ cls := "FeatherYard", name := "ways", desc := "(II)I" } : Jvm.MethodName)) ∈ lw_all := lw_g (lw_at lw_m5 173 rfl) rfl
theorem q1269 : (Jvm.Cond.methodLink "FeatherYardLaw" (199 : Nat) ({ cls := "FeatherYardLaw", name := "lands", desc := "(LFeatherYard;II[J)I" } : Jvm.MethodName)) ∈ lw_all := lw_g (lw_at lw_m5 184 rfl) rfl
theorem q1270 : (Jvm.Cond.static ({ cls := "FeatherYardLaw", name := "lands", desc := "(LFeatherYard;II[J)I" } : Jvm.MethodName)) ∈ lw_all := lw_g (lw_at lw_m5 185 rfl) rfl
theorem q1271 : (Jvm.Cond.codeWith ({ cls := "FeatherYardLaw", name := "lands", desc := "(LFeatherYard;II[J)I" } : Jvm.MethodName) method_17_code (5 : Nat) (Option.some Jvm.ClassFile.FieldType.int) [((0 : Nat), (10 : Nat), (13 : Nat), (24 : Nat))]) ∈ lw_all := lw_g (lw_at lw_m5 186 rfl) rfl
theorem q1272 : (Jvm.Cond.methodLink "FeatherYardLaw" (67 : Nat) ({ cls := "FeatherYard", name := "lands", desc := "(II)I" } : Jvm.MethodName)) ∈ lw_all := lw_g (lw_at lw_m5 187 rfl) rfl
theorem q1276 : (Jvm.Cond.methodLink "FeatherYardLaw" (202 : Nat) ({ cls := "FeatherYardLaw", name := "good", desc := "(LFeatherYard;II[J)I" } : Jvm.MethodName)) ∈ lw_all := lw_g (lw_at lw_m5 191 rfl) rfl
theorem q1277 : (Jvm.Cond.static ({ cls := "FeatherYardLaw", name := "good", desc := "(LFeatherYard;II[J)I" } : Jvm.MethodName)) ∈ lw_all := lw_g (lw_at lw_m5 192 rfl) rfl
theorem q1278 : (Jvm.Cond.codeWith ({ cls := "FeatherYardLaw", name := "good", desc := "(LFeatherYard;II[J)I" } : Jvm.MethodName) method_18_code (5 : Nat) (Option.some Jvm.ClassFile.FieldType.int) [((0 : Nat), (10 : Nat), (13 : Nat), (24 : Nat)), ((0 : Nat), (10 : Nat), (17 : Nat), (13 : Nat))]) ∈ lw_all := lw_g (lw_at lw_m5 193 rfl) rfl
theorem q1279 : (Jvm.Cond.methodLink "FeatherYardLaw" (70 : Nat) ({ cls := "FeatherYard", name := "good", desc := "(II)I" } : Jvm.MethodName)) ∈ lw_all := lw_g (lw_at lw_m5 194 rfl) rfl
theorem q1283 : (Jvm.Cond.methodLink "FeatherYardLaw" (205 : Nat) ({ cls := "FeatherYardLaw", name := "straight", desc := "(LFeatherYard;IZ[J)I" } : Jvm.MethodName)) ∈ lw_all := lw_g (lw_at lw_m5 198 rfl) rfl
theorem q1284 : (Jvm.Cond.static ({ cls := "FeatherYardLaw", name := "straight", desc := "(LFeatherYard;IZ[J)I" } : Jvm.MethodName)) ∈ lw_all := lw_g (lw_at lw_m5 199 rfl) rfl
theorem q1285 : (Jvm.Cond.codeWith ({ cls := "FeatherYardLaw", name := "straight", desc := "(LFeatherYard;IZ[J)I" } : Jvm.MethodName) method_19_code (5 : Nat) (Option.some Jvm.ClassFile.FieldType.int) [((0 : Nat), (10 : Nat), (13 : Nat), (24 : Nat))]) ∈ lw_all := lw_g (lw_at lw_m5 200 rfl) rfl
theorem q1286 : (Jvm.Cond.methodLink "FeatherYardLaw" (73 : Nat) ({ cls := "FeatherYard", name := "straight", desc := "(IZ)I" } : Jvm.MethodName)) ∈ lw_all := lw_g (lw_at lw_m5 201 rfl) rfl
theorem q1290 : (Jvm.Cond.methodLink "FeatherYardLaw" (209 : Nat) ({ cls := "FeatherYardLaw", name := "odds", desc := "(LFeatherYard;III[J)I" } : Jvm.MethodName)) ∈ lw_all := lw_g (lw_at lw_m5 205 rfl) rfl
theorem q1291 : (Jvm.Cond.static ({ cls := "FeatherYardLaw", name := "odds", desc := "(LFeatherYard;III[J)I" } : Jvm.MethodName)) ∈ lw_all := lw_g (lw_at lw_m5 206 rfl) rfl
theorem q1292 : (Jvm.Cond.codeWith ({ cls := "FeatherYardLaw", name := "odds", desc := "(LFeatherYard;III[J)I" } : Jvm.MethodName) method_20_code (6 : Nat) (Option.some Jvm.ClassFile.FieldType.int) [((0 : Nat), (12 : Nat), (15 : Nat), (24 : Nat)), ((0 : Nat), (12 : Nat), (19 : Nat), (26 : Nat))]) ∈ lw_all := lw_g (lw_at lw_m5 207 rfl) rfl
theorem q1293 : (Jvm.Cond.methodLink "FeatherYardLaw" (77 : Nat) ({ cls := "FeatherYard", name := "odds", desc := "(III)I" } : Jvm.MethodName)) ∈ lw_all := lw_g (lw_at lw_m5 208 rfl) rfl
theorem q1305 : (Jvm.Cond.methodLink "FeatherYardLaw" (212 : Nat) ({ cls := "FeatherYardLaw", name := "best", desc := "(LFeatherYard;II[J)I" } : Jvm.MethodName)) ∈ lw_all := lw_g (lw_at lw_m5 220 rfl) rfl
theorem q1306 : (Jvm.Cond.static ({ cls := "FeatherYardLaw", name := "best", desc := "(LFeatherYard;II[J)I" } : Jvm.MethodName)) ∈ lw_all := lw_g (lw_at lw_m5 221 rfl) rfl
theorem q1307 : (Jvm.Cond.codeWith ({ cls := "FeatherYardLaw", name := "best", desc := "(LFeatherYard;II[J)I" } : Jvm.MethodName) method_21_code (5 : Nat) (Option.some Jvm.ClassFile.FieldType.int) [((0 : Nat), (10 : Nat), (13 : Nat), (24 : Nat))]) ∈ lw_all := lw_g (lw_at lw_m5 222 rfl) rfl
theorem q1308 : (Jvm.Cond.methodLink "FeatherYardLaw" (80 : Nat) ({ cls := "FeatherYard", name := "best", desc := "(II)I" } : Jvm.MethodName)) ∈ lw_all := lw_g (lw_at lw_m5 223 rfl) rfl
theorem q1312 : (Jvm.Cond.methodLink "FeatherYardLaw" (215 : Nat) ({ cls := "FeatherYardLaw", name := "when", desc := "(LFeatherYard;II[J)I" } : Jvm.MethodName)) ∈ lw_all := lw_g (lw_at lw_m5 227 rfl) rfl
theorem q1313 : (Jvm.Cond.static ({ cls := "FeatherYardLaw", name := "when", desc := "(LFeatherYard;II[J)I" } : Jvm.MethodName)) ∈ lw_all := lw_g (lw_at lw_m5 228 rfl) rfl
theorem q1314 : (Jvm.Cond.codeWith ({ cls := "FeatherYardLaw", name := "when", desc := "(LFeatherYard;II[J)I" } : Jvm.MethodName) method_22_code (5 : Nat) (Option.some Jvm.ClassFile.FieldType.int) [((0 : Nat), (10 : Nat), (13 : Nat), (24 : Nat))]) ∈ lw_all := lw_g (lw_at lw_m5 229 rfl) rfl
theorem q1315 : (Jvm.Cond.methodLink "FeatherYardLaw" (83 : Nat) ({ cls := "FeatherYard", name := "when", desc := "(II)I" } : Jvm.MethodName)) ∈ lw_all := lw_g (lw_at lw_m5 230 rfl) rfl
theorem q1319 : (Jvm.Cond.methodLink "FeatherYardLaw" (218 : Nat) ({ cls := "FeatherYardLaw", name := "surest", desc := "(LFeatherYard;IZZ[J)I" } : Jvm.MethodName)) ∈ lw_all := lw_g (lw_at lw_m5 234 rfl) rfl
theorem q1320 : (Jvm.Cond.static ({ cls := "FeatherYardLaw", name := "surest", desc := "(LFeatherYard;IZZ[J)I" } : Jvm.MethodName)) ∈ lw_all := lw_g (lw_at lw_m5 235 rfl) rfl
theorem q1321 : (Jvm.Cond.codeWith ({ cls := "FeatherYardLaw", name := "surest", desc := "(LFeatherYard;IZZ[J)I" } : Jvm.MethodName) method_23_code (6 : Nat) (Option.some Jvm.ClassFile.FieldType.int) [((0 : Nat), (12 : Nat), (15 : Nat), (24 : Nat)), ((0 : Nat), (12 : Nat), (19 : Nat), (46 : Nat))]) ∈ lw_all := lw_g (lw_at lw_m5 236 rfl) rfl
theorem q1322 : (Jvm.Cond.methodLink "FeatherYardLaw" (86 : Nat) ({ cls := "FeatherYard", name := "surest", desc := "(IZZ)I" } : Jvm.MethodName)) ∈ lw_all := lw_g (lw_at lw_m5 237 rfl) rfl
theorem q1341 : (Jvm.Cond.methodLink "FeatherYardLaw" (222 : Nat) ({ cls := "FeatherYardLaw", name := "rests", desc := "(LFeatherYard;IZ[J)I" } : Jvm.MethodName)) ∈ lw_all := lw_g (lw_at lw_m6 16 rfl) rfl
theorem q1342 : (Jvm.Cond.static ({ cls := "FeatherYardLaw", name := "rests", desc := "(LFeatherYard;IZ[J)I" } : Jvm.MethodName)) ∈ lw_all := lw_g (lw_at lw_m6 17 rfl) rfl
theorem q1343 : (Jvm.Cond.codeWith ({ cls := "FeatherYardLaw", name := "rests", desc := "(LFeatherYard;IZ[J)I" } : Jvm.MethodName) method_24_code (5 : Nat) (Option.some Jvm.ClassFile.FieldType.int) [((0 : Nat), (10 : Nat), (13 : Nat), (24 : Nat)), ((0 : Nat), (10 : Nat), (17 : Nat), (46 : Nat))]) ∈ lw_all := lw_g (lw_at lw_m6 18 rfl) rfl
theorem q1344 : (Jvm.Cond.methodLink "FeatherYardLaw" (90 : Nat) ({ cls := "FeatherYard", name := "rests", desc := "(IZ)I" } : Jvm.MethodName)) ∈ lw_all := lw_g (lw_at lw_m6 19 rfl) rfl
theorem q1352 : (Jvm.Cond.methodLink "FeatherYardLaw" (225 : Nat) ({ cls := "FeatherYardLaw", name := "fair", desc := "(LFeatherYard;I[J)I" } : Jvm.MethodName)) ∈ lw_all := lw_g (lw_at lw_m6 27 rfl) rfl
theorem q1353 : (Jvm.Cond.static ({ cls := "FeatherYardLaw", name := "fair", desc := "(LFeatherYard;I[J)I" } : Jvm.MethodName)) ∈ lw_all := lw_g (lw_at lw_m6 28 rfl) rfl
theorem q1354 : (Jvm.Cond.codeWith ({ cls := "FeatherYardLaw", name := "fair", desc := "(LFeatherYard;I[J)I" } : Jvm.MethodName) method_25_code (4 : Nat) (Option.some Jvm.ClassFile.FieldType.int) [((0 : Nat), (9 : Nat), (12 : Nat), (24 : Nat)), ((0 : Nat), (9 : Nat), (15 : Nat), (46 : Nat))]) ∈ lw_all := lw_g (lw_at lw_m6 29 rfl) rfl
theorem q1355 : (Jvm.Cond.methodLink "FeatherYardLaw" (93 : Nat) ({ cls := "FeatherYard", name := "fair", desc := "(I)I" } : Jvm.MethodName)) ∈ lw_all := lw_g (lw_at lw_m6 30 rfl) rfl
theorem q1362 : (Jvm.Cond.methodLink "FeatherYardLaw" (228 : Nat) ({ cls := "FeatherYardLaw", name := "songs", desc := "(LFeatherYard;Z[J)I" } : Jvm.MethodName)) ∈ lw_all := lw_g (lw_at lw_m6 37 rfl) rfl
theorem q1363 : (Jvm.Cond.static ({ cls := "FeatherYardLaw", name := "songs", desc := "(LFeatherYard;Z[J)I" } : Jvm.MethodName)) ∈ lw_all := lw_g (lw_at lw_m6 38 rfl) rfl
theorem q1364 : (Jvm.Cond.codeWith ({ cls := "FeatherYardLaw", name := "songs", desc := "(LFeatherYard;Z[J)I" } : Jvm.MethodName) method_26_code (4 : Nat) (Option.some Jvm.ClassFile.FieldType.int) [((0 : Nat), (9 : Nat), (12 : Nat), (13 : Nat))]) ∈ lw_all := lw_g (lw_at lw_m6 39 rfl) rfl
theorem q1365 : (Jvm.Cond.methodLink "FeatherYardLaw" (96 : Nat) ({ cls := "FeatherYard", name := "songs", desc := "(Z)I" } : Jvm.MethodName)) ∈ lw_all := lw_g (lw_at lw_m6 40 rfl) rfl
theorem q1377 : (Jvm.Cond.methodLink "FeatherYardLaw" (232 : Nat) ({ cls := "FeatherYardLaw", name := "ask", desc := "(LFeatherYard;[J)I" } : Jvm.MethodName)) ∈ lw_all := lw_g (lw_at lw_m6 52 rfl) rfl
theorem q1378 : (Jvm.Cond.static ({ cls := "FeatherYardLaw", name := "ask", desc := "(LFeatherYard;[J)I" } : Jvm.MethodName)) ∈ lw_all := lw_g (lw_at lw_m6 53 rfl) rfl
theorem q1379 : (Jvm.Cond.codeWith ({ cls := "FeatherYardLaw", name := "ask", desc := "(LFeatherYard;[J)I" } : Jvm.MethodName) method_27_code (3 : Nat) (Option.some Jvm.ClassFile.FieldType.int) [((0 : Nat), (8 : Nat), (11 : Nat), (13 : Nat))]) ∈ lw_all := lw_g (lw_at lw_m6 54 rfl) rfl
theorem q1380 : (Jvm.Cond.methodLink "FeatherYardLaw" (100 : Nat) ({ cls := "FeatherYard", name := "ask", desc := "()I" } : Jvm.MethodName)) ∈ lw_all := lw_g (lw_at lw_m6 55 rfl) rfl
theorem q1385 : (Jvm.Cond.methodLink "FeatherYardLaw" (235 : Nat) ({ cls := "FeatherYardLaw", name := "tell", desc := "(LFeatherYard;II[J)I" } : Jvm.MethodName)) ∈ lw_all := lw_g (lw_at lw_m6 60 rfl) rfl
theorem q1386 : (Jvm.Cond.static ({ cls := "FeatherYardLaw", name := "tell", desc := "(LFeatherYard;II[J)I" } : Jvm.MethodName)) ∈ lw_all := lw_g (lw_at lw_m6 61 rfl) rfl
theorem q1387 : (Jvm.Cond.codeWith ({ cls := "FeatherYardLaw", name := "tell", desc := "(LFeatherYard;II[J)I" } : Jvm.MethodName) method_28_code (5 : Nat) (Option.some Jvm.ClassFile.FieldType.int) [((0 : Nat), (10 : Nat), (13 : Nat), (24 : Nat)), ((0 : Nat), (10 : Nat), (17 : Nat), (13 : Nat))]) ∈ lw_all := lw_g (lw_at lw_m6 62 rfl) rfl
theorem q1388 : (Jvm.Cond.methodLink "FeatherYardLaw" (103 : Nat) ({ cls := "FeatherYard", name := "tell", desc := "(II)I" } : Jvm.MethodName)) ∈ lw_all := lw_g (lw_at lw_m6 63 rfl) rfl
theorem q1392 : (Jvm.Cond.methodLink "FeatherYardLaw" (242 : Nat) ({ cls := "FeatherYardLaw", name := "lasts", desc := "(LFeatherYard;III[J)I" } : Jvm.MethodName)) ∈ lw_all := lw_g (lw_at lw_m6 67 rfl) rfl
theorem q1393 : (Jvm.Cond.static ({ cls := "FeatherYardLaw", name := "lasts", desc := "(LFeatherYard;III[J)I" } : Jvm.MethodName)) ∈ lw_all := lw_g (lw_at lw_m6 68 rfl) rfl
theorem q1394 : (Jvm.Cond.codeWith ({ cls := "FeatherYardLaw", name := "lasts", desc := "(LFeatherYard;III[J)I" } : Jvm.MethodName) method_29_code (6 : Nat) (Option.some Jvm.ClassFile.FieldType.int) [((0 : Nat), (12 : Nat), (15 : Nat), (24 : Nat)), ((0 : Nat), (12 : Nat), (19 : Nat), (13 : Nat))]) ∈ lw_all := lw_g (lw_at lw_m6 69 rfl) rfl
theorem q1395 : (Jvm.Cond.methodLink "FeatherYardLaw" (106 : Nat) ({ cls := "FeatherYard", name := "lasts", desc := "(III)I" } : Jvm.MethodName)) ∈ lw_all := lw_g (lw_at lw_m6 70 rfl) rfl
theorem q1399 : (Jvm.Cond.methodLink "FeatherYardLaw" (249 : Nat) ({ cls := "FeatherYardLaw", name := "won", desc := "(LFeatherYard;IZ[J)I" } : Jvm.MethodName)) ∈ lw_all := lw_g (lw_at lw_m6 74 rfl) rfl
theorem q1400 : (Jvm.Cond.static ({ cls := "FeatherYardLaw", name := "won", desc := "(LFeatherYard;IZ[J)I" } : Jvm.MethodName)) ∈ lw_all := lw_g (lw_at lw_m6 75 rfl) rfl
theorem q1401 : (Jvm.Cond.codeWith ({ cls := "FeatherYardLaw", name := "won", desc := "(LFeatherYard;IZ[J)I" } : Jvm.MethodName) method_30_code (5 : Nat) (Option.some Jvm.ClassFile.FieldType.int) [((0 : Nat), (10 : Nat), (13 : Nat), (24 : Nat))]) ∈ lw_all := lw_g (lw_at lw_m6 76 rfl) rfl
theorem q1402 : (Jvm.Cond.methodLink "FeatherYardLaw" (109 : Nat) ({ cls := "FeatherYard", name := "won", desc := "(IZ)I" } : Jvm.MethodName)) ∈ lw_all := lw_g (lw_at lw_m6 77 rfl) rfl
theorem q1406 : (Jvm.Cond.methodLink "FeatherYardLaw" (256 : Nat) ({ cls := "FeatherYardLaw", name := "widest", desc := "(LFeatherYard;I[J)I" } : Jvm.MethodName)) ∈ lw_all := lw_g (lw_at lw_m6 81 rfl) rfl
theorem q1407 : (Jvm.Cond.static ({ cls := "FeatherYardLaw", name := "widest", desc := "(LFeatherYard;I[J)I" } : Jvm.MethodName)) ∈ lw_all := lw_g (lw_at lw_m6 82 rfl) rfl
theorem q1408 : (Jvm.Cond.codeWith ({ cls := "FeatherYardLaw", name := "widest", desc := "(LFeatherYard;I[J)I" } : Jvm.MethodName) method_31_code (4 : Nat) (Option.some Jvm.ClassFile.FieldType.int) [((0 : Nat), (9 : Nat), (12 : Nat), (24 : Nat))]) ∈ lw_all := lw_g (lw_at lw_m6 83 rfl) rfl
theorem q1409 : (Jvm.Cond.methodLink "FeatherYardLaw" (112 : Nat) ({ cls := "FeatherYard", name := "widest", desc := "(I)I" } : Jvm.MethodName)) ∈ lw_all := lw_g (lw_at lw_m6 84 rfl) rfl
theorem q1413 : (Jvm.Cond.methodLink "FeatherYardLaw" (259 : Nat) ({ cls := "FeatherYardLaw", name := "trial", desc := "(LFeatherYard;III[J)I" } : Jvm.MethodName)) ∈ lw_all := lw_g (lw_at lw_m6 88 rfl) rfl
theorem q1414 : (Jvm.Cond.static ({ cls := "FeatherYardLaw", name := "trial", desc := "(LFeatherYard;III[J)I" } : Jvm.MethodName)) ∈ lw_all := lw_g (lw_at lw_m6 89 rfl) rfl
theorem q1415 : (Jvm.Cond.codeWith ({ cls := "FeatherYardLaw", name := "trial", desc := "(LFeatherYard;III[J)I" } : Jvm.MethodName) method_32_code (6 : Nat) (Option.some Jvm.ClassFile.FieldType.int) [((0 : Nat), (12 : Nat), (15 : Nat), (24 : Nat)), ((0 : Nat), (12 : Nat), (19 : Nat), (13 : Nat))]) ∈ lw_all := lw_g (lw_at lw_m6 90 rfl) rfl
theorem q1416 : (Jvm.Cond.methodLink "FeatherYardLaw" (115 : Nat) ({ cls := "FeatherYard", name := "trial", desc := "(III)I" } : Jvm.MethodName)) ∈ lw_all := lw_g (lw_at lw_m6 91 rfl) rfl
theorem q1424 : (Jvm.Cond.methodLink "FeatherYardLaw" (262 : Nat) ({ cls := "FeatherYardLaw", name := "span", desc := "(LFeatherYard;IIIZ[J)I" } : Jvm.MethodName)) ∈ lw_all := lw_g (lw_at lw_m6 99 rfl) rfl
theorem q1425 : (Jvm.Cond.static ({ cls := "FeatherYardLaw", name := "span", desc := "(LFeatherYard;IIIZ[J)I" } : Jvm.MethodName)) ∈ lw_all := lw_g (lw_at lw_m6 100 rfl) rfl
theorem q1426 : (Jvm.Cond.codeWith ({ cls := "FeatherYardLaw", name := "span", desc := "(LFeatherYard;IIIZ[J)I" } : Jvm.MethodName) method_33_code (7 : Nat) (Option.some Jvm.ClassFile.FieldType.int) [((0 : Nat), (14 : Nat), (17 : Nat), (24 : Nat)), ((0 : Nat), (14 : Nat), (21 : Nat), (13 : Nat))]) ∈ lw_all := lw_g (lw_at lw_m6 101 rfl) rfl
theorem q1427 : (Jvm.Cond.methodLink "FeatherYardLaw" (118 : Nat) ({ cls := "FeatherYard", name := "span", desc := "(IIIZ)I" } : Jvm.MethodName)) ∈ lw_all := lw_g (lw_at lw_m6 102 rfl) rfl
theorem q1431 : (Jvm.Cond.methodLink "FeatherYardLaw" (266 : Nat) ({ cls := "FeatherYardLaw", name := "led", desc := "(LFeatherYard;IZ[J)I" } : Jvm.MethodName)) ∈ lw_all := lw_g (lw_at lw_m6 106 rfl) rfl
theorem q1432 : (Jvm.Cond.static ({ cls := "FeatherYardLaw", name := "led", desc := "(LFeatherYard;IZ[J)I" } : Jvm.MethodName)) ∈ lw_all := lw_g (lw_at lw_m6 107 rfl) rfl
theorem q1433 : (Jvm.Cond.codeWith ({ cls := "FeatherYardLaw", name := "led", desc := "(LFeatherYard;IZ[J)I" } : Jvm.MethodName) method_34_code (5 : Nat) (Option.some Jvm.ClassFile.FieldType.int) [((0 : Nat), (10 : Nat), (13 : Nat), (24 : Nat))]) ∈ lw_all := lw_g (lw_at lw_m6 108 rfl) rfl
theorem q1434 : (Jvm.Cond.methodLink "FeatherYardLaw" (122 : Nat) ({ cls := "FeatherYard", name := "led", desc := "(IZ)I" } : Jvm.MethodName)) ∈ lw_all := lw_g (lw_at lw_m6 109 rfl) rfl
theorem q1447 : (Jvm.Cond.methodLink "FeatherYardLaw" (269 : Nat) ({ cls := "FeatherYardLaw", name := "log", desc := "(LFeatherYard;II[J)I" } : Jvm.MethodName)) ∈ lw_all := lw_g (lw_at lw_m6 122 rfl) rfl
theorem q1448 : (Jvm.Cond.static ({ cls := "FeatherYardLaw", name := "log", desc := "(LFeatherYard;II[J)I" } : Jvm.MethodName)) ∈ lw_all := lw_g (lw_at lw_m6 123 rfl) rfl
theorem q1449 : (Jvm.Cond.codeWith ({ cls := "FeatherYardLaw", name := "log", desc := "(LFeatherYard;II[J)I" } : Jvm.MethodName) method_35_code (5 : Nat) (Option.some Jvm.ClassFile.FieldType.int) [((0 : Nat), (10 : Nat), (13 : Nat), (26 : Nat))]) ∈ lw_all := lw_g (lw_at lw_m6 124 rfl) rfl
theorem q1450 : (Jvm.Cond.methodLink "FeatherYardLaw" (125 : Nat) ({ cls := "FeatherYard", name := "log", desc := "(II)I" } : Jvm.MethodName)) ∈ lw_all := lw_g (lw_at lw_m6 125 rfl) rfl
theorem q1454 : (Jvm.Cond.methodLink "FeatherYardLaw" (148 : Nat) ({ cls := "FeatherYardModel", name := "thrown", desc := "()I" } : Jvm.MethodName)) ∈ lw_all := lw_g (lw_at lw_m6 129 rfl) rfl
theorem q1458 : (Jvm.Cond.classLink "FeatherYardLaw" (129 : Nat) "FeatherYardModel") ∈ lw_all := lw_g (lw_at lw_m6 133 rfl) rfl
theorem q1460 : (Jvm.Cond.methodLink "FeatherYardLaw" (131 : Nat) ({ cls := "FeatherYardModel", name := "<init>", desc := "()V" } : Jvm.MethodName)) ∈ lw_all := lw_g (lw_at lw_m6 135 rfl) rfl
theorem q1555 : (Jvm.Cond.methodLink "FeatherYardLaw" (284 : Nat) ({ cls := "FeatherYardModel", name := "image", desc := "()V" } : Jvm.MethodName)) ∈ lw_all := lw_g (lw_at lw_m6 230 rfl) rfl
theorem q1559 : (Jvm.Cond.methodLink "FeatherYardLaw" (288 : Nat) ({ cls := "FeatherYardModel", name := "back", desc := "()Z" } : Jvm.MethodName)) ∈ lw_all := lw_g (lw_at lw_m6 234 rfl) rfl
theorem q1563 : (Jvm.Cond.methodLink "FeatherYardLaw" (280 : Nat) ({ cls := "FeatherYardModel", name := "undo", desc := "()Z" } : Jvm.MethodName)) ∈ lw_all := lw_g (lw_at lw_m6 238 rfl) rfl
theorem q1567 : (Jvm.Cond.methodLink "FeatherYardLaw" (136 : Nat) ({ cls := "FeatherYardModel", name := "feed", desc := "(IIIII)I" } : Jvm.MethodName)) ∈ lw_all := lw_g (lw_at lw_m7 2 rfl) rfl
theorem q1571 : (Jvm.Cond.methodLink "FeatherYardLaw" (141 : Nat) ({ cls := "FeatherYardModel", name := "end", desc := "(I)Z" } : Jvm.MethodName)) ∈ lw_all := lw_g (lw_at lw_m7 6 rfl) rfl
theorem q1575 : (Jvm.Cond.methodLink "FeatherYardLaw" (157 : Nat) ({ cls := "FeatherYardModel", name := "fault", desc := "()I" } : Jvm.MethodName)) ∈ lw_all := lw_g (lw_at lw_m7 10 rfl) rfl
theorem q1579 : (Jvm.Cond.methodLink "FeatherYardLaw" (147 : Nat) ({ cls := "FeatherYardModel", name := "court", desc := "()I" } : Jvm.MethodName)) ∈ lw_all := lw_g (lw_at lw_m7 14 rfl) rfl
theorem q1752 : (Jvm.Cond.methodLink "FeatherYardLaw" (153 : Nat) ({ cls := "FeatherYardModel", name := "law", desc := "()I" } : Jvm.MethodName)) ∈ lw_all := lw_g (lw_at lw_m7 187 rfl) rfl
theorem q1756 : (Jvm.Cond.methodLink "FeatherYardLaw" (175 : Nat) ({ cls := "FeatherYardModel", name := "moves", desc := "(IIIIZ)I" } : Jvm.MethodName)) ∈ lw_all := lw_g (lw_at lw_m7 191 rfl) rfl
theorem q1804 : (Jvm.Cond.methodLink "FeatherYardLaw" (198 : Nat) ({ cls := "FeatherYardModel", name := "ways", desc := "(II)I" } : Jvm.MethodName)) ∈ lw_all := lw_g (lw_at lw_m7 239 rfl) rfl
theorem q1838 : (Jvm.Cond.methodLink "FeatherYardLaw" (201 : Nat) ({ cls := "FeatherYardModel", name := "lands", desc := "(II)I" } : Jvm.MethodName)) ∈ lw_all := lw_g (lw_at lw_m8 33 rfl) rfl
theorem q1842 : (Jvm.Cond.methodLink "FeatherYardLaw" (204 : Nat) ({ cls := "FeatherYardModel", name := "good", desc := "(II)I" } : Jvm.MethodName)) ∈ lw_all := lw_g (lw_at lw_m8 37 rfl) rfl
theorem q1846 : (Jvm.Cond.methodLink "FeatherYardLaw" (237 : Nat) ({ cls := "FeatherYardModel", name := "tell", desc := "(II)I" } : Jvm.MethodName)) ∈ lw_all := lw_g (lw_at lw_m8 41 rfl) rfl
theorem q1850 : (Jvm.Cond.methodLink "FeatherYardLaw" (258 : Nat) ({ cls := "FeatherYardModel", name := "widest", desc := "(I)I" } : Jvm.MethodName)) ∈ lw_all := lw_g (lw_at lw_m8 45 rfl) rfl
theorem q1854 : (Jvm.Cond.methodLink "FeatherYardLaw" (208 : Nat) ({ cls := "FeatherYardModel", name := "straight", desc := "(IZ)I" } : Jvm.MethodName)) ∈ lw_all := lw_g (lw_at lw_m8 49 rfl) rfl
theorem q1870 : (Jvm.Cond.methodLink "FeatherYardLaw" (211 : Nat) ({ cls := "FeatherYardModel", name := "odds", desc := "(III)I" } : Jvm.MethodName)) ∈ lw_all := lw_g (lw_at lw_m8 65 rfl) rfl
theorem q1898 : (Jvm.Cond.methodLink "FeatherYardLaw" (214 : Nat) ({ cls := "FeatherYardModel", name := "best", desc := "(II)I" } : Jvm.MethodName)) ∈ lw_all := lw_g (lw_at lw_m8 93 rfl) rfl
theorem q1902 : (Jvm.Cond.methodLink "FeatherYardLaw" (217 : Nat) ({ cls := "FeatherYardModel", name := "when", desc := "(II)I" } : Jvm.MethodName)) ∈ lw_all := lw_g (lw_at lw_m8 97 rfl) rfl
theorem q1906 : (Jvm.Cond.methodLink "FeatherYardLaw" (241 : Nat) ({ cls := "FeatherYardModel", name := "alike", desc := "()I" } : Jvm.MethodName)) ∈ lw_all := lw_g (lw_at lw_m8 101 rfl) rfl
theorem q1910 : (Jvm.Cond.methodLink "FeatherYardLaw" (161 : Nat) ({ cls := "FeatherYardModel", name := "bird", desc := "(II)I" } : Jvm.MethodName)) ∈ lw_all := lw_g (lw_at lw_m8 105 rfl) rfl
theorem q1914 : (Jvm.Cond.methodLink "FeatherYardLaw" (164 : Nat) ({ cls := "FeatherYardModel", name := "stock", desc := "(II)I" } : Jvm.MethodName)) ∈ lw_all := lw_g (lw_at lw_m8 109 rfl) rfl
theorem q1926 : (Jvm.Cond.methodLink "FeatherYardLaw" (167 : Nat) ({ cls := "FeatherYardModel", name := "matter", desc := "(II)I" } : Jvm.MethodName)) ∈ lw_all := lw_g (lw_at lw_m8 121 rfl) rfl
theorem q1942 : (Jvm.Cond.methodLink "FeatherYardLaw" (171 : Nat) ({ cls := "FeatherYardModel", name := "wind", desc := "(I)I" } : Jvm.MethodName)) ∈ lw_all := lw_g (lw_at lw_m8 137 rfl) rfl
theorem q1946 : (Jvm.Cond.methodLink "FeatherYardLaw" (221 : Nat) ({ cls := "FeatherYardModel", name := "surest", desc := "(IZZ)I" } : Jvm.MethodName)) ∈ lw_all := lw_g (lw_at lw_m8 141 rfl) rfl
theorem q1961 : (Jvm.Cond.methodLink "FeatherYardLaw" (224 : Nat) ({ cls := "FeatherYardModel", name := "rests", desc := "(IZ)I" } : Jvm.MethodName)) ∈ lw_all := lw_g (lw_at lw_m8 156 rfl) rfl
theorem q1969 : (Jvm.Cond.methodLink "FeatherYardLaw" (227 : Nat) ({ cls := "FeatherYardModel", name := "fair", desc := "(I)I" } : Jvm.MethodName)) ∈ lw_all := lw_g (lw_at lw_m8 164 rfl) rfl
theorem q1975 : (Jvm.Cond.methodLink "FeatherYardLaw" (179 : Nat) ({ cls := "FeatherYardModel", name := "call", desc := "(III)I" } : Jvm.MethodName)) ∈ lw_all := lw_g (lw_at lw_m8 170 rfl) rfl
theorem q2004 : (Jvm.Cond.methodLink "FeatherYardLaw" (182 : Nat) ({ cls := "FeatherYardModel", name := "hour", desc := "(I)I" } : Jvm.MethodName)) ∈ lw_all := lw_g (lw_at lw_m8 199 rfl) rfl
theorem q2008 : (Jvm.Cond.methodLink "FeatherYardLaw" (185 : Nat) ({ cls := "FeatherYardModel", name := "blow", desc := "(II)I" } : Jvm.MethodName)) ∈ lw_all := lw_g (lw_at lw_m8 203 rfl) rfl
theorem q2012 : (Jvm.Cond.methodLink "FeatherYardLaw" (189 : Nat) ({ cls := "FeatherYardModel", name := "give", desc := "(IIII)I" } : Jvm.MethodName)) ∈ lw_all := lw_g (lw_at lw_m8 207 rfl) rfl
theorem q2016 : (Jvm.Cond.methodLink "FeatherYardLaw" (192 : Nat) ({ cls := "FeatherYardModel", name := "appeal", desc := "(I)I" } : Jvm.MethodName)) ∈ lw_all := lw_g (lw_at lw_m8 211 rfl) rfl
theorem q2020 : (Jvm.Cond.methodLink "FeatherYardLaw" (195 : Nat) ({ cls := "FeatherYardModel", name := "weeks", desc := "(I)I" } : Jvm.MethodName)) ∈ lw_all := lw_g (lw_at lw_m8 215 rfl) rfl
theorem q2028 : (Jvm.Cond.methodLink "FeatherYardLaw" (231 : Nat) ({ cls := "FeatherYardModel", name := "songs", desc := "(Z)I" } : Jvm.MethodName)) ∈ lw_all := lw_g (lw_at lw_m8 223 rfl) rfl
theorem q2044 : (Jvm.Cond.methodLink "FeatherYardLaw" (234 : Nat) ({ cls := "FeatherYardModel", name := "ask", desc := "()I" } : Jvm.MethodName)) ∈ lw_all := lw_g (lw_at lw_m8 239 rfl) rfl
theorem q2048 : (Jvm.Cond.methodLink "FeatherYardLaw" (244 : Nat) ({ cls := "FeatherYardModel", name := "lasts", desc := "(III)I" } : Jvm.MethodName)) ∈ lw_all := lw_g (lw_at lw_m9 3 rfl) rfl
theorem q2052 : (Jvm.Cond.methodLink "FeatherYardLaw" (248 : Nat) ({ cls := "FeatherYardModel", name := "rich", desc := "()I" } : Jvm.MethodName)) ∈ lw_all := lw_g (lw_at lw_m9 7 rfl) rfl
theorem q2060 : (Jvm.Cond.methodLink "FeatherYardLaw" (251 : Nat) ({ cls := "FeatherYardModel", name := "won", desc := "(IZ)I" } : Jvm.MethodName)) ∈ lw_all := lw_g (lw_at lw_m9 15 rfl) rfl
theorem q2064 : (Jvm.Cond.methodLink "FeatherYardLaw" (255 : Nat) ({ cls := "FeatherYardModel", name := "cover", desc := "()I" } : Jvm.MethodName)) ∈ lw_all := lw_g (lw_at lw_m9 19 rfl) rfl
theorem q2073 : (Jvm.Cond.methodLink "FeatherYardLaw" (261 : Nat) ({ cls := "FeatherYardModel", name := "trial", desc := "(III)I" } : Jvm.MethodName)) ∈ lw_all := lw_g (lw_at lw_m9 28 rfl) rfl
theorem q2081 : (Jvm.Cond.methodLink "FeatherYardLaw" (265 : Nat) ({ cls := "FeatherYardModel", name := "span", desc := "(IIIZ)I" } : Jvm.MethodName)) ∈ lw_all := lw_g (lw_at lw_m9 36 rfl) rfl
theorem q2085 : (Jvm.Cond.methodLink "FeatherYardLaw" (268 : Nat) ({ cls := "FeatherYardModel", name := "led", desc := "(IZ)I" } : Jvm.MethodName)) ∈ lw_all := lw_g (lw_at lw_m9 40 rfl) rfl
theorem q2093 : (Jvm.Cond.methodLink "FeatherYardLaw" (271 : Nat) ({ cls := "FeatherYardModel", name := "log", desc := "(II)I" } : Jvm.MethodName)) ∈ lw_all := lw_g (lw_at lw_m9 48 rfl) rfl
theorem q2097 : (Jvm.Cond.methodLink "FeatherYardLaw" (275 : Nat) ({ cls := "FeatherYardModel", name := "seed", desc := "(I)I" } : Jvm.MethodName)) ∈ lw_all := lw_g (lw_at lw_m9 52 rfl) rfl
theorem q2101 : (Jvm.Cond.methodLink "FeatherYardLaw" (292 : Nat) ({ cls := "FeatherYardModel", name := "count", desc := "(I)I" } : Jvm.MethodName)) ∈ lw_all := lw_g (lw_at lw_m9 56 rfl) rfl

/-! the law's own entry -/
set_option maxRecDepth 100000
abbrev cL_law : ByteArray := code
def dkwL_law_115 : List UInt8 := [46, 182, 1, 36, 159, 0, 5, 3, 172, 132, 4, 6, 167, 244, 247, 4, 172]
abbrev dktL_law_115 : List UInt8 := dkwL_law_115 ++ []
def dkwL_law_114 : List UInt8 := [182, 1, 32, 159, 0, 30, 3, 172, 43, 42, 21, 4, 4, 96, 46, 182, 1, 33, 44, 42, 21, 4, 4, 96]
abbrev dktL_law_114 : List UInt8 := dkwL_law_114 ++ dktL_law_115
def dkwL_law_113 : List UInt8 := [182, 1, 24, 159, 0, 54, 3, 172, 43, 182, 1, 25, 44, 182, 1, 28, 167, 0, 41, 43, 182, 1, 29, 44]
abbrev dktL_law_113 : List UInt8 := dkwL_law_113 ++ dktL_law_114
def dkwL_law_112 : List UInt8 := [46, 182, 1, 16, 44, 42, 21, 4, 4, 96, 46, 182, 1, 19, 159, 0, 67, 3, 172, 43, 182, 1, 20, 44]
abbrev dktL_law_112 : List UInt8 := dkwL_law_112 ++ dktL_law_113
def dkwL_law_111 : List UInt8 := [154, 0, 15, 45, 3, 47, 21, 6, 133, 148, 153, 0, 5, 3, 172, 167, 0, 90, 43, 42, 21, 4, 4, 96]
abbrev dktL_law_111 : List UInt8 := dkwL_law_111 ++ dktL_law_112
def dkwL_law_110 : List UInt8 := [21, 4, 5, 96, 46, 182, 1, 15, 54, 6, 44, 182, 0, 148, 21, 5, 159, 0, 5, 3, 172, 21, 5]
abbrev dktL_law_110 : List UInt8 := dkwL_law_110 ++ dktL_law_111
def dkwL_law_109 : List UInt8 := [4, 96, 46, 42, 21, 4, 5, 96, 46, 45, 184, 1, 13, 54, 5, 44, 42, 21, 4, 4, 96, 46, 42]
abbrev dktL_law_109 : List UInt8 := dkwL_law_109 ++ dktL_law_110
def dkwL_law_108 : List UInt8 := [21, 5, 154, 0, 15, 45, 3, 47, 21, 6, 133, 148, 153, 0, 5, 3, 172, 167, 0, 158, 43, 42, 21, 4]
abbrev dktL_law_108 : List UInt8 := dkwL_law_108 ++ dktL_law_109
def dkwL_law_107 : List UInt8 := [153, 0, 7, 4, 167, 0, 4, 3, 182, 1, 12, 54, 6, 44, 182, 0, 148, 21, 5, 159, 0, 5, 3, 172]
abbrev dktL_law_107 : List UInt8 := dkwL_law_107 ++ dktL_law_108
def dkwL_law_106 : List UInt8 := [4, 167, 0, 4, 3, 45, 184, 1, 10, 54, 5, 44, 42, 21, 4, 4, 96, 46, 42, 21, 4, 5, 96, 46]
abbrev dktL_law_106 : List UInt8 := dkwL_law_106 ++ dktL_law_107
def dkwL_law_105 : List UInt8 := [153, 0, 5, 3, 172, 167, 0, 242, 43, 42, 21, 4, 4, 96, 46, 42, 21, 4, 5, 96, 46, 153, 0, 7]
abbrev dktL_law_105 : List UInt8 := dkwL_law_105 ++ dktL_law_106
def dkwL_law_104 : List UInt8 := [44, 182, 0, 148, 21, 5, 159, 0, 5, 3, 172, 21, 5, 154, 0, 15, 45, 3, 47, 21, 6, 133, 148]
abbrev dktL_law_104 : List UInt8 := dkwL_law_104 ++ dktL_law_105
def dkwL_law_103 : List UInt8 := [21, 4, 6, 96, 46, 42, 21, 4, 7, 96, 46, 153, 0, 7, 4, 167, 0, 4, 3, 182, 1, 9, 54, 6]
abbrev dktL_law_103 : List UInt8 := dkwL_law_103 ++ dktL_law_104
def dkwL_law_102 : List UInt8 := [167, 0, 4, 3, 45, 184, 1, 6, 54, 5, 44, 42, 21, 4, 4, 96, 46, 42, 21, 4, 5, 96, 46, 42]
abbrev dktL_law_102 : List UInt8 := dkwL_law_102 ++ dktL_law_103
def dkwL_law_101 : List UInt8 := [46, 42, 21, 4, 5, 96, 46, 42, 21, 4, 6, 96, 46, 42, 21, 4, 7, 96, 46, 153, 0, 7, 4]
abbrev dktL_law_101 : List UInt8 := dkwL_law_101 ++ dktL_law_102
def dkwL_law_100 : List UInt8 := [154, 0, 15, 45, 3, 47, 21, 6, 133, 148, 153, 0, 5, 3, 172, 167, 1, 94, 43, 42, 21, 4, 4, 96]
abbrev dktL_law_100 : List UInt8 := dkwL_law_100 ++ dktL_law_101
def dkwL_law_99 : List UInt8 := [21, 4, 6, 96, 46, 182, 1, 5, 54, 6, 44, 182, 0, 148, 21, 5, 159, 0, 5, 3, 172, 21, 5]
abbrev dktL_law_99 : List UInt8 := dkwL_law_99 ++ dktL_law_100
def dkwL_law_98 : List UInt8 := [6, 96, 46, 45, 184, 1, 3, 54, 5, 44, 42, 21, 4, 4, 96, 46, 42, 21, 4, 5, 96, 46, 42]
abbrev dktL_law_98 : List UInt8 := dkwL_law_98 ++ dktL_law_99
def dkwL_law_97 : List UInt8 := [153, 0, 5, 3, 172, 167, 1, 174, 43, 42, 21, 4, 4, 96, 46, 42, 21, 4, 5, 96, 46, 42, 21, 4]
abbrev dktL_law_97 : List UInt8 := dkwL_law_97 ++ dktL_law_98
def dkwL_law_96 : List UInt8 := [182, 0, 148, 21, 5, 159, 0, 5, 3, 172, 21, 5, 154, 0, 15, 45, 3, 47, 21, 6, 133, 148]
abbrev dktL_law_96 : List UInt8 := dkwL_law_96 ++ dktL_law_97
def dkwL_law_95 : List UInt8 := [21, 4, 4, 96, 46, 45, 184, 1, 0, 54, 5, 44, 42, 21, 4, 4, 96, 46, 182, 1, 2, 54, 6, 44]
abbrev dktL_law_95 : List UInt8 := dkwL_law_95 ++ dktL_law_96
def dkwL_law_94 : List UInt8 := [153, 0, 5, 3, 172, 167, 1, 243, 43, 182, 0, 252, 44, 182, 0, 255, 159, 1, 232, 3, 172, 43, 42]
abbrev dktL_law_94 : List UInt8 := dkwL_law_94 ++ dktL_law_95
def dkwL_law_93 : List UInt8 := [182, 0, 148, 21, 5, 159, 0, 5, 3, 172, 21, 5, 154, 0, 15, 45, 3, 47, 21, 6, 133, 148]
abbrev dktL_law_93 : List UInt8 := dkwL_law_93 ++ dktL_law_94
def dkwL_law_92 : List UInt8 := [96, 46, 42, 21, 4, 5, 96, 46, 153, 0, 7, 4, 167, 0, 4, 3, 182, 0, 251, 54, 6, 44]
abbrev dktL_law_92 : List UInt8 := dkwL_law_92 ++ dktL_law_93
def dkwL_law_91 : List UInt8 := [21, 4, 5, 96, 46, 153, 0, 7, 4, 167, 0, 4, 3, 45, 184, 0, 249, 54, 5, 44, 42, 21, 4, 4]
abbrev dktL_law_91 : List UInt8 := dkwL_law_91 ++ dktL_law_92
def dkwL_law_90 : List UInt8 := [167, 2, 84, 43, 182, 0, 245, 44, 182, 0, 248, 159, 2, 73, 3, 172, 43, 42, 21, 4, 4, 96, 46, 42]
abbrev dktL_law_90 : List UInt8 := dkwL_law_90 ++ dktL_law_91
def dkwL_law_89 : List UInt8 := [159, 0, 5, 3, 172, 21, 5, 154, 0, 15, 45, 3, 47, 21, 6, 133, 148, 153, 0, 5, 3, 172]
abbrev dktL_law_89 : List UInt8 := dkwL_law_89 ++ dktL_law_90
def dkwL_law_88 : List UInt8 := [42, 21, 4, 5, 96, 46, 42, 21, 4, 6, 96, 46, 182, 0, 244, 54, 6, 44, 182, 0, 148, 21, 5]
abbrev dktL_law_88 : List UInt8 := dkwL_law_88 ++ dktL_law_89
def dkwL_law_87 : List UInt8 := [21, 4, 5, 96, 46, 42, 21, 4, 6, 96, 46, 45, 184, 0, 242, 54, 5, 44, 42, 21, 4, 4, 96, 46]
abbrev dktL_law_87 : List UInt8 := dkwL_law_87 ++ dktL_law_88
def dkwL_law_86 : List UInt8 := [167, 2, 177, 43, 182, 0, 238, 44, 182, 0, 241, 159, 2, 166, 3, 172, 43, 42, 21, 4, 4, 96, 46, 42]
abbrev dktL_law_86 : List UInt8 := dkwL_law_86 ++ dktL_law_87
def dkwL_law_85 : List UInt8 := [159, 0, 5, 3, 172, 21, 5, 154, 0, 15, 45, 3, 47, 21, 6, 133, 148, 153, 0, 5, 3, 172]
abbrev dktL_law_85 : List UInt8 := dkwL_law_85 ++ dktL_law_86
def dkwL_law_84 : List UInt8 := [21, 4, 4, 96, 46, 42, 21, 4, 5, 96, 46, 182, 0, 237, 54, 6, 44, 182, 0, 148, 21, 5]
abbrev dktL_law_84 : List UInt8 := dkwL_law_84 ++ dktL_law_85
def dkwL_law_83 : List UInt8 := [167, 2, 245, 43, 42, 21, 4, 4, 96, 46, 42, 21, 4, 5, 96, 46, 45, 184, 0, 235, 54, 5, 44, 42]
abbrev dktL_law_83 : List UInt8 := dkwL_law_83 ++ dktL_law_84
def dkwL_law_82 : List UInt8 := [159, 0, 5, 3, 172, 21, 5, 154, 0, 15, 45, 3, 47, 21, 6, 133, 148, 153, 0, 5, 3, 172]
abbrev dktL_law_82 : List UInt8 := dkwL_law_82 ++ dktL_law_83
def dkwL_law_81 : List UInt8 := [167, 3, 33, 43, 45, 184, 0, 232, 54, 5, 44, 182, 0, 234, 54, 6, 44, 182, 0, 148, 21, 5]
abbrev dktL_law_81 : List UInt8 := dkwL_law_81 ++ dktL_law_82
def dkwL_law_80 : List UInt8 := [21, 5, 159, 0, 5, 3, 172, 21, 5, 154, 0, 15, 45, 3, 47, 21, 6, 133, 148, 153, 0, 5, 3, 172]
abbrev dktL_law_80 : List UInt8 := dkwL_law_80 ++ dktL_law_81
def dkwL_law_79 : List UInt8 := [44, 42, 21, 4, 4, 96, 46, 153, 0, 7, 4, 167, 0, 4, 3, 182, 0, 231, 54, 6, 44, 182, 0, 148]
abbrev dktL_law_79 : List UInt8 := dkwL_law_79 ++ dktL_law_80
def dkwL_law_78 : List UInt8 := [167, 3, 105, 43, 42, 21, 4, 4, 96, 46, 153, 0, 7, 4, 167, 0, 4, 3, 45, 184, 0, 228, 54, 5]
abbrev dktL_law_78 : List UInt8 := dkwL_law_78 ++ dktL_law_79
def dkwL_law_77 : List UInt8 := [21, 5, 159, 0, 5, 3, 172, 21, 5, 154, 0, 15, 45, 3, 47, 21, 6, 133, 148, 153, 0, 5, 3, 172]
abbrev dktL_law_77 : List UInt8 := dkwL_law_77 ++ dktL_law_78
def dkwL_law_76 : List UInt8 := [46, 45, 184, 0, 225, 54, 5, 44, 42, 21, 4, 4, 96, 46, 182, 0, 227, 54, 6, 44, 182, 0, 148]
abbrev dktL_law_76 : List UInt8 := dkwL_law_76 ++ dktL_law_77
def dkwL_law_75 : List UInt8 := [154, 0, 15, 45, 3, 47, 21, 6, 133, 148, 153, 0, 5, 3, 172, 167, 3, 161, 43, 42, 21, 4, 4, 96]
abbrev dktL_law_75 : List UInt8 := dkwL_law_75 ++ dktL_law_76
def dkwL_law_74 : List UInt8 := [167, 0, 4, 3, 182, 0, 224, 54, 6, 44, 182, 0, 148, 21, 5, 159, 0, 5, 3, 172, 21, 5]
abbrev dktL_law_74 : List UInt8 := dkwL_law_74 ++ dktL_law_75
def dkwL_law_73 : List UInt8 := [45, 184, 0, 222, 54, 5, 44, 42, 21, 4, 4, 96, 46, 42, 21, 4, 5, 96, 46, 153, 0, 7, 4]
abbrev dktL_law_73 : List UInt8 := dkwL_law_73 ++ dktL_law_74
def dkwL_law_72 : List UInt8 := [167, 3, 245, 43, 42, 21, 4, 4, 96, 46, 42, 21, 4, 5, 96, 46, 153, 0, 7, 4, 167, 0, 4, 3]
abbrev dktL_law_72 : List UInt8 := dkwL_law_72 ++ dktL_law_73
def dkwL_law_71 : List UInt8 := [159, 0, 5, 3, 172, 21, 5, 154, 0, 15, 45, 3, 47, 21, 6, 133, 148, 153, 0, 5, 3, 172]
abbrev dktL_law_71 : List UInt8 := dkwL_law_71 ++ dktL_law_72
def dkwL_law_70 : List UInt8 := [21, 4, 6, 96, 46, 153, 0, 7, 4, 167, 0, 4, 3, 182, 0, 221, 54, 6, 44, 182, 0, 148, 21, 5]
abbrev dktL_law_70 : List UInt8 := dkwL_law_70 ++ dktL_law_71
def dkwL_law_69 : List UInt8 := [54, 5, 44, 42, 21, 4, 4, 96, 46, 42, 21, 4, 5, 96, 46, 153, 0, 7, 4, 167, 0, 4, 3, 42]
abbrev dktL_law_69 : List UInt8 := dkwL_law_69 ++ dktL_law_70
def dkwL_law_68 : List UInt8 := [4, 167, 0, 4, 3, 42, 21, 4, 6, 96, 46, 153, 0, 7, 4, 167, 0, 4, 3, 45, 184, 0, 218]
abbrev dktL_law_68 : List UInt8 := dkwL_law_68 ++ dktL_law_69
def dkwL_law_67 : List UInt8 := [153, 0, 5, 3, 172, 167, 4, 101, 43, 42, 21, 4, 4, 96, 46, 42, 21, 4, 5, 96, 46, 153, 0, 7]
abbrev dktL_law_67 : List UInt8 := dkwL_law_67 ++ dktL_law_68
def dkwL_law_66 : List UInt8 := [182, 0, 148, 21, 5, 159, 0, 5, 3, 172, 21, 5, 154, 0, 15, 45, 3, 47, 21, 6, 133, 148]
abbrev dktL_law_66 : List UInt8 := dkwL_law_66 ++ dktL_law_67
def dkwL_law_65 : List UInt8 := [184, 0, 215, 54, 5, 44, 42, 21, 4, 4, 96, 46, 42, 21, 4, 5, 96, 46, 182, 0, 217, 54, 6, 44]
abbrev dktL_law_65 : List UInt8 := dkwL_law_65 ++ dktL_law_66
def dkwL_law_64 : List UInt8 := [153, 0, 5, 3, 172, 167, 4, 169, 43, 42, 21, 4, 4, 96, 46, 42, 21, 4, 5, 96, 46, 45]
abbrev dktL_law_64 : List UInt8 := dkwL_law_64 ++ dktL_law_65
def dkwL_law_63 : List UInt8 := [182, 0, 148, 21, 5, 159, 0, 5, 3, 172, 21, 5, 154, 0, 15, 45, 3, 47, 21, 6, 133, 148]
abbrev dktL_law_63 : List UInt8 := dkwL_law_63 ++ dktL_law_64
def dkwL_law_62 : List UInt8 := [184, 0, 212, 54, 5, 44, 42, 21, 4, 4, 96, 46, 42, 21, 4, 5, 96, 46, 182, 0, 214, 54, 6, 44]
abbrev dktL_law_62 : List UInt8 := dkwL_law_62 ++ dktL_law_63
def dkwL_law_61 : List UInt8 := [153, 0, 5, 3, 172, 167, 4, 237, 43, 42, 21, 4, 4, 96, 46, 42, 21, 4, 5, 96, 46, 45]
abbrev dktL_law_61 : List UInt8 := dkwL_law_61 ++ dktL_law_62
def dkwL_law_60 : List UInt8 := [182, 0, 148, 21, 5, 159, 0, 5, 3, 172, 21, 5, 154, 0, 15, 45, 3, 47, 21, 6, 133, 148]
abbrev dktL_law_60 : List UInt8 := dkwL_law_60 ++ dktL_law_61
def dkwL_law_59 : List UInt8 := [21, 4, 4, 96, 46, 42, 21, 4, 5, 96, 46, 42, 21, 4, 6, 96, 46, 182, 0, 211, 54, 6, 44]
abbrev dktL_law_59 : List UInt8 := dkwL_law_59 ++ dktL_law_60
def dkwL_law_58 : List UInt8 := [4, 96, 46, 42, 21, 4, 5, 96, 46, 42, 21, 4, 6, 96, 46, 45, 184, 0, 209, 54, 5, 44, 42]
abbrev dktL_law_58 : List UInt8 := dkwL_law_58 ++ dktL_law_59
def dkwL_law_57 : List UInt8 := [21, 5, 154, 0, 15, 45, 3, 47, 21, 6, 133, 148, 153, 0, 5, 3, 172, 167, 5, 61, 43, 42, 21, 4]
abbrev dktL_law_57 : List UInt8 := dkwL_law_57 ++ dktL_law_58
def dkwL_law_56 : List UInt8 := [153, 0, 7, 4, 167, 0, 4, 3, 182, 0, 208, 54, 6, 44, 182, 0, 148, 21, 5, 159, 0, 5, 3, 172]
abbrev dktL_law_56 : List UInt8 := dkwL_law_56 ++ dktL_law_57
def dkwL_law_55 : List UInt8 := [4, 167, 0, 4, 3, 45, 184, 0, 205, 54, 5, 44, 42, 21, 4, 4, 96, 46, 42, 21, 4, 5, 96, 46]
abbrev dktL_law_55 : List UInt8 := dkwL_law_55 ++ dktL_law_56
def dkwL_law_54 : List UInt8 := [153, 0, 5, 3, 172, 167, 5, 145, 43, 42, 21, 4, 4, 96, 46, 42, 21, 4, 5, 96, 46, 153, 0, 7]
abbrev dktL_law_54 : List UInt8 := dkwL_law_54 ++ dktL_law_55
def dkwL_law_53 : List UInt8 := [182, 0, 148, 21, 5, 159, 0, 5, 3, 172, 21, 5, 154, 0, 15, 45, 3, 47, 21, 6, 133, 148]
abbrev dktL_law_53 : List UInt8 := dkwL_law_53 ++ dktL_law_54
def dkwL_law_52 : List UInt8 := [184, 0, 202, 54, 5, 44, 42, 21, 4, 4, 96, 46, 42, 21, 4, 5, 96, 46, 182, 0, 204, 54, 6, 44]
abbrev dktL_law_52 : List UInt8 := dkwL_law_52 ++ dktL_law_53
def dkwL_law_51 : List UInt8 := [153, 0, 5, 3, 172, 167, 5, 213, 43, 42, 21, 4, 4, 96, 46, 42, 21, 4, 5, 96, 46, 45]
abbrev dktL_law_51 : List UInt8 := dkwL_law_51 ++ dktL_law_52
def dkwL_law_50 : List UInt8 := [182, 0, 148, 21, 5, 159, 0, 5, 3, 172, 21, 5, 154, 0, 15, 45, 3, 47, 21, 6, 133, 148]
abbrev dktL_law_50 : List UInt8 := dkwL_law_50 ++ dktL_law_51
def dkwL_law_49 : List UInt8 := [184, 0, 199, 54, 5, 44, 42, 21, 4, 4, 96, 46, 42, 21, 4, 5, 96, 46, 182, 0, 201, 54, 6, 44]
abbrev dktL_law_49 : List UInt8 := dkwL_law_49 ++ dktL_law_50
def dkwL_law_48 : List UInt8 := [153, 0, 5, 3, 172, 167, 6, 25, 43, 42, 21, 4, 4, 96, 46, 42, 21, 4, 5, 96, 46, 45]
abbrev dktL_law_48 : List UInt8 := dkwL_law_48 ++ dktL_law_49
def dkwL_law_47 : List UInt8 := [182, 0, 148, 21, 5, 159, 0, 5, 3, 172, 21, 5, 154, 0, 15, 45, 3, 47, 21, 6, 133, 148]
abbrev dktL_law_47 : List UInt8 := dkwL_law_47 ++ dktL_law_48
def dkwL_law_46 : List UInt8 := [184, 0, 196, 54, 5, 44, 42, 21, 4, 4, 96, 46, 42, 21, 4, 5, 96, 46, 182, 0, 198, 54, 6, 44]
abbrev dktL_law_46 : List UInt8 := dkwL_law_46 ++ dktL_law_47
def dkwL_law_45 : List UInt8 := [153, 0, 5, 3, 172, 167, 6, 93, 43, 42, 21, 4, 4, 96, 46, 42, 21, 4, 5, 96, 46, 45]
abbrev dktL_law_45 : List UInt8 := dkwL_law_45 ++ dktL_law_46
def dkwL_law_44 : List UInt8 := [182, 0, 148, 21, 5, 159, 0, 5, 3, 172, 21, 5, 154, 0, 15, 45, 3, 47, 21, 6, 133, 148]
abbrev dktL_law_44 : List UInt8 := dkwL_law_44 ++ dktL_law_45
def dkwL_law_43 : List UInt8 := [21, 4, 4, 96, 46, 45, 184, 0, 193, 54, 5, 44, 42, 21, 4, 4, 96, 46, 182, 0, 195, 54, 6, 44]
abbrev dktL_law_43 : List UInt8 := dkwL_law_43 ++ dktL_law_44
def dkwL_law_42 : List UInt8 := [172, 21, 5, 154, 0, 15, 45, 3, 47, 21, 6, 133, 148, 153, 0, 5, 3, 172, 167, 6, 149, 43, 42]
abbrev dktL_law_42 : List UInt8 := dkwL_law_42 ++ dktL_law_43
def dkwL_law_41 : List UInt8 := [54, 5, 44, 42, 21, 4, 4, 96, 46, 182, 0, 192, 54, 6, 44, 182, 0, 148, 21, 5, 159, 0, 5, 3]
abbrev dktL_law_41 : List UInt8 := dkwL_law_41 ++ dktL_law_42
def dkwL_law_40 : List UInt8 := [21, 6, 133, 148, 153, 0, 5, 3, 172, 167, 6, 205, 43, 42, 21, 4, 4, 96, 46, 45, 184, 0, 190]
abbrev dktL_law_40 : List UInt8 := dkwL_law_40 ++ dktL_law_41
def dkwL_law_39 : List UInt8 := [182, 0, 189, 54, 6, 44, 182, 0, 148, 21, 5, 159, 0, 5, 3, 172, 21, 5, 154, 0, 15, 45, 3, 47]
abbrev dktL_law_39 : List UInt8 := dkwL_law_39 ++ dktL_law_40
def dkwL_law_38 : List UInt8 := [21, 4, 4, 96, 46, 42, 21, 4, 5, 96, 46, 42, 21, 4, 6, 96, 46, 42, 21, 4, 7, 96, 46]
abbrev dktL_law_38 : List UInt8 := dkwL_law_38 ++ dktL_law_39
def dkwL_law_37 : List UInt8 := [5, 96, 46, 42, 21, 4, 6, 96, 46, 42, 21, 4, 7, 96, 46, 45, 184, 0, 186, 54, 5, 44, 42]
abbrev dktL_law_37 : List UInt8 := dkwL_law_37 ++ dktL_law_38
def dkwL_law_36 : List UInt8 := [3, 47, 21, 6, 133, 148, 153, 0, 5, 3, 172, 167, 7, 41, 43, 42, 21, 4, 4, 96, 46, 42, 21, 4]
abbrev dktL_law_36 : List UInt8 := dkwL_law_36 ++ dktL_law_37
def dkwL_law_35 : List UInt8 := [96, 46, 182, 0, 185, 54, 6, 44, 182, 0, 148, 21, 5, 159, 0, 5, 3, 172, 21, 5, 154, 0, 15, 45]
abbrev dktL_law_35 : List UInt8 := dkwL_law_35 ++ dktL_law_36
def dkwL_law_34 : List UInt8 := [46, 42, 21, 4, 5, 96, 46, 45, 184, 0, 183, 54, 5, 44, 42, 21, 4, 4, 96, 46, 42, 21, 4, 5]
abbrev dktL_law_34 : List UInt8 := dkwL_law_34 ++ dktL_law_35
def dkwL_law_33 : List UInt8 := [154, 0, 15, 45, 3, 47, 21, 6, 133, 148, 153, 0, 5, 3, 172, 167, 7, 109, 43, 42, 21, 4, 4, 96]
abbrev dktL_law_33 : List UInt8 := dkwL_law_33 ++ dktL_law_34
def dkwL_law_32 : List UInt8 := [21, 4, 4, 96, 46, 182, 0, 182, 54, 6, 44, 182, 0, 148, 21, 5, 159, 0, 5, 3, 172, 21, 5]
abbrev dktL_law_32 : List UInt8 := dkwL_law_32 ++ dktL_law_33
def dkwL_law_31 : List UInt8 := [153, 0, 5, 3, 172, 167, 7, 165, 43, 42, 21, 4, 4, 96, 46, 45, 184, 0, 180, 54, 5, 44, 42]
abbrev dktL_law_31 : List UInt8 := dkwL_law_31 ++ dktL_law_32
def dkwL_law_30 : List UInt8 := [182, 0, 148, 21, 5, 159, 0, 5, 3, 172, 21, 5, 154, 0, 15, 45, 3, 47, 21, 6, 133, 148]
abbrev dktL_law_30 : List UInt8 := dkwL_law_30 ++ dktL_law_31
def dkwL_law_29 : List UInt8 := [21, 4, 4, 96, 46, 42, 21, 4, 5, 96, 46, 42, 21, 4, 6, 96, 46, 182, 0, 179, 54, 6, 44]
abbrev dktL_law_29 : List UInt8 := dkwL_law_29 ++ dktL_law_30
def dkwL_law_28 : List UInt8 := [4, 96, 46, 42, 21, 4, 5, 96, 46, 42, 21, 4, 6, 96, 46, 45, 184, 0, 176, 54, 5, 44, 42]
abbrev dktL_law_28 : List UInt8 := dkwL_law_28 ++ dktL_law_29
def dkwL_law_27 : List UInt8 := [21, 5, 154, 0, 15, 45, 3, 47, 21, 6, 133, 148, 153, 0, 5, 3, 172, 167, 7, 245, 43, 42, 21, 4]
abbrev dktL_law_27 : List UInt8 := dkwL_law_27 ++ dktL_law_28
def dkwL_law_26 : List UInt8 := [153, 0, 7, 4, 167, 0, 4, 3, 182, 0, 175, 54, 6, 44, 182, 0, 148, 21, 5, 159, 0, 5, 3, 172]
abbrev dktL_law_26 : List UInt8 := dkwL_law_26 ++ dktL_law_27
def dkwL_law_25 : List UInt8 := [21, 4, 5, 96, 46, 42, 21, 4, 6, 96, 46, 42, 21, 4, 7, 96, 46, 42, 21, 4, 8, 96, 46]
abbrev dktL_law_25 : List UInt8 := dkwL_law_25 ++ dktL_law_26
def dkwL_law_24 : List UInt8 := [46, 153, 0, 7, 4, 167, 0, 4, 3, 45, 184, 0, 172, 54, 5, 44, 42, 21, 4, 4, 96, 46, 42]
abbrev dktL_law_24 : List UInt8 := dkwL_law_24 ++ dktL_law_25
def dkwL_law_23 : List UInt8 := [46, 42, 21, 4, 5, 96, 46, 42, 21, 4, 6, 96, 46, 42, 21, 4, 7, 96, 46, 42, 21, 4, 8, 96]
abbrev dktL_law_23 : List UInt8 := dkwL_law_23 ++ dktL_law_24
def dkwL_law_22 : List UInt8 := [154, 0, 15, 45, 3, 47, 21, 6, 133, 148, 153, 0, 5, 3, 172, 167, 8, 109, 43, 42, 21, 4, 4, 96]
abbrev dktL_law_22 : List UInt8 := dkwL_law_22 ++ dktL_law_23
def dkwL_law_21 : List UInt8 := [21, 4, 4, 96, 46, 182, 0, 171, 54, 6, 44, 182, 0, 148, 21, 5, 159, 0, 5, 3, 172, 21, 5]
abbrev dktL_law_21 : List UInt8 := dkwL_law_21 ++ dktL_law_22
def dkwL_law_20 : List UInt8 := [153, 0, 5, 3, 172, 167, 8, 165, 43, 42, 21, 4, 4, 96, 46, 45, 184, 0, 168, 54, 5, 44, 42]
abbrev dktL_law_20 : List UInt8 := dkwL_law_20 ++ dktL_law_21
def dkwL_law_19 : List UInt8 := [182, 0, 148, 21, 5, 159, 0, 5, 3, 172, 21, 5, 154, 0, 15, 45, 3, 47, 21, 6, 133, 148]
abbrev dktL_law_19 : List UInt8 := dkwL_law_19 ++ dktL_law_20
def dkwL_law_18 : List UInt8 := [184, 0, 165, 54, 5, 44, 42, 21, 4, 4, 96, 46, 42, 21, 4, 5, 96, 46, 182, 0, 167, 54, 6, 44]
abbrev dktL_law_18 : List UInt8 := dkwL_law_18 ++ dktL_law_19
def dkwL_law_17 : List UInt8 := [153, 0, 5, 3, 172, 167, 8, 233, 43, 42, 21, 4, 4, 96, 46, 42, 21, 4, 5, 96, 46, 45]
abbrev dktL_law_17 : List UInt8 := dkwL_law_17 ++ dktL_law_18
def dkwL_law_16 : List UInt8 := [182, 0, 148, 21, 5, 159, 0, 5, 3, 172, 21, 5, 154, 0, 15, 45, 3, 47, 21, 6, 133, 148]
abbrev dktL_law_16 : List UInt8 := dkwL_law_16 ++ dktL_law_17
def dkwL_law_15 : List UInt8 := [184, 0, 162, 54, 5, 44, 42, 21, 4, 4, 96, 46, 42, 21, 4, 5, 96, 46, 182, 0, 164, 54, 6, 44]
abbrev dktL_law_15 : List UInt8 := dkwL_law_15 ++ dktL_law_16
def dkwL_law_14 : List UInt8 := [153, 0, 5, 3, 172, 167, 9, 45, 43, 42, 21, 4, 4, 96, 46, 42, 21, 4, 5, 96, 46, 45]
abbrev dktL_law_14 : List UInt8 := dkwL_law_14 ++ dktL_law_15
def dkwL_law_13 : List UInt8 := [182, 0, 148, 21, 5, 159, 0, 5, 3, 172, 21, 5, 154, 0, 15, 45, 3, 47, 21, 6, 133, 148]
abbrev dktL_law_13 : List UInt8 := dkwL_law_13 ++ dktL_law_14
def dkwL_law_12 : List UInt8 := [184, 0, 158, 54, 5, 44, 42, 21, 4, 4, 96, 46, 42, 21, 4, 5, 96, 46, 182, 0, 161, 54, 6, 44]
abbrev dktL_law_12 : List UInt8 := dkwL_law_12 ++ dktL_law_13
def dkwL_law_11 : List UInt8 := [182, 0, 157, 159, 9, 115, 3, 172, 43, 42, 21, 4, 4, 96, 46, 42, 21, 4, 5, 96, 46, 45]
abbrev dktL_law_11 : List UInt8 := dkwL_law_11 ++ dktL_law_12
def dkwL_law_10 : List UInt8 := [154, 0, 15, 45, 3, 47, 21, 6, 133, 148, 153, 0, 5, 3, 172, 167, 9, 126, 43, 182, 0, 154, 44]
abbrev dktL_law_10 : List UInt8 := dkwL_law_10 ++ dktL_law_11
def dkwL_law_9 : List UInt8 := [184, 0, 151, 54, 5, 44, 182, 0, 153, 54, 6, 44, 182, 0, 148, 21, 5, 159, 0, 5, 3, 172, 21, 5]
abbrev dktL_law_9 : List UInt8 := dkwL_law_9 ++ dktL_law_10
def dkwL_law_8 : List UInt8 := [3, 172, 21, 5, 154, 0, 15, 45, 3, 47, 21, 6, 133, 148, 153, 0, 5, 3, 172, 167, 9, 170, 43, 45]
abbrev dktL_law_8 : List UInt8 := dkwL_law_8 ++ dktL_law_9
def dkwL_law_7 : List UInt8 := [3, 172, 43, 45, 184, 0, 142, 54, 5, 44, 182, 0, 147, 54, 6, 44, 182, 0, 148, 21, 5, 159, 0, 5]
abbrev dktL_law_7 : List UInt8 := dkwL_law_7 ++ dktL_law_8
def dkwL_law_6 : List UInt8 := [172, 43, 42, 21, 4, 4, 96, 46, 182, 0, 137, 44, 42, 21, 4, 4, 96, 46, 182, 0, 141, 159, 9, 216]
abbrev dktL_law_6 : List UInt8 := dkwL_law_6 ++ dktL_law_7
def dkwL_law_5 : List UInt8 := [21, 4, 6, 96, 46, 42, 21, 4, 7, 96, 46, 42, 21, 4, 8, 96, 46, 182, 0, 136, 159, 9, 241, 3]
abbrev dktL_law_5 : List UInt8 := dkwL_law_5 ++ dktL_law_6
def dkwL_law_4 : List UInt8 := [46, 42, 21, 4, 8, 96, 46, 182, 0, 132, 44, 42, 21, 4, 4, 96, 46, 42, 21, 4, 5, 96, 46, 42]
abbrev dktL_law_4 : List UInt8 := dkwL_law_4 ++ dktL_law_5
def dkwL_law_3 : List UInt8 := [43, 42, 21, 4, 4, 96, 46, 42, 21, 4, 5, 96, 46, 42, 21, 4, 6, 96, 46, 42, 21, 4, 7, 96]
abbrev dktL_law_3 : List UInt8 := dkwL_law_3 ++ dktL_law_4
def dkwL_law_2 : List UInt8 := [170, 0, 0, 0, 0, 0, 10, 245, 0, 0, 0, 0, 0, 0, 0, 43, 0, 0, 0, 192, 0, 0, 1, 9, 0, 0, 1, 34, 0, 0, 1, 78, 0, 0, 1, 122, 0, 0, 1, 135, 0, 0, 1, 203, 0, 0, 2, 15, 0, 0, 2, 83, 0, 0, 2, 139, 0, 0, 3, 3, 0, 0, 3, 83, 0, 0, 3, 139, 0, 0, 3, 207, 0, 0, 4, 43, 0, 0, 4, 99, 0, 0, 4, 155, 0, 0, 4, 223, 0, 0, 5, 35, 0, 0, 5, 103, 0, 0, 5, 187, 0, 0, 6, 11, 0, 0, 6, 79, 0, 0, 6, 147, 0, 0, 7, 3, 0, 0, 7, 87, 0, 0, 7, 143, 0, 0, 7, 215, 0, 0, 8, 3, 0, 0, 8, 71, 0, 0, 8, 84, 0, 0, 8, 164, 0, 0, 8, 177, 0, 0, 9, 5, 0, 0, 9, 18, 0, 0, 9, 74, 0, 0, 9, 154, 0, 0, 10, 6, 0, 0, 10, 90, 0, 0, 10, 158, 0, 0, 10, 183, 0, 0, 10, 196, 0, 0, 10, 207, 0, 0, 10, 220]
abbrev dktL_law_2 : List UInt8 := dkwL_law_2 ++ dktL_law_3
def dkwL_law_1 : List UInt8 := [21, 4, 42, 190, 16, 6, 100, 163, 11, 5, 42, 21, 4, 46, 16, 63, 126]
abbrev dktL_law_1 : List UInt8 := dkwL_law_1 ++ dktL_law_2
def dkwL_law_0 : List UInt8 := [187, 0, 8, 89, 183, 0, 128, 76, 187, 0, 129, 89, 183, 0, 131, 77, 4, 188, 11, 78, 3, 54, 4]
abbrev dktL_law_0 : List UInt8 := dkwL_law_0 ++ dktL_law_1
theorem dksL_law_0 : cL_law.data.toList.drop 0 = dktL_law_0 := by decide +kernel
theorem dksL_law_1 : cL_law.data.toList.drop 23 = dktL_law_1 := dk_seg dksL_law_0 23 rfl rfl
theorem dksL_law_2 : cL_law.data.toList.drop 40 = dktL_law_2 := dk_seg dksL_law_1 17 rfl rfl
theorem dksL_law_3 : cL_law.data.toList.drop 232 = dktL_law_3 := dk_seg dksL_law_2 192 rfl rfl
theorem dksL_law_4 : cL_law.data.toList.drop 256 = dktL_law_4 := dk_seg dksL_law_3 24 rfl rfl
theorem dksL_law_5 : cL_law.data.toList.drop 280 = dktL_law_5 := dk_seg dksL_law_4 24 rfl rfl
theorem dksL_law_6 : cL_law.data.toList.drop 304 = dktL_law_6 := dk_seg dksL_law_5 24 rfl rfl
theorem dksL_law_7 : cL_law.data.toList.drop 328 = dktL_law_7 := dk_seg dksL_law_6 24 rfl rfl
theorem dksL_law_8 : cL_law.data.toList.drop 352 = dktL_law_8 := dk_seg dksL_law_7 24 rfl rfl
theorem dksL_law_9 : cL_law.data.toList.drop 376 = dktL_law_9 := dk_seg dksL_law_8 24 rfl rfl
theorem dksL_law_10 : cL_law.data.toList.drop 400 = dktL_law_10 := dk_seg dksL_law_9 24 rfl rfl
theorem dksL_law_11 : cL_law.data.toList.drop 423 = dktL_law_11 := dk_seg dksL_law_10 23 rfl rfl
theorem dksL_law_12 : cL_law.data.toList.drop 445 = dktL_law_12 := dk_seg dksL_law_11 22 rfl rfl
theorem dksL_law_13 : cL_law.data.toList.drop 469 = dktL_law_13 := dk_seg dksL_law_12 24 rfl rfl
theorem dksL_law_14 : cL_law.data.toList.drop 491 = dktL_law_14 := dk_seg dksL_law_13 22 rfl rfl
theorem dksL_law_15 : cL_law.data.toList.drop 513 = dktL_law_15 := dk_seg dksL_law_14 22 rfl rfl
theorem dksL_law_16 : cL_law.data.toList.drop 537 = dktL_law_16 := dk_seg dksL_law_15 24 rfl rfl
theorem dksL_law_17 : cL_law.data.toList.drop 559 = dktL_law_17 := dk_seg dksL_law_16 22 rfl rfl
theorem dksL_law_18 : cL_law.data.toList.drop 581 = dktL_law_18 := dk_seg dksL_law_17 22 rfl rfl
theorem dksL_law_19 : cL_law.data.toList.drop 605 = dktL_law_19 := dk_seg dksL_law_18 24 rfl rfl
theorem dksL_law_20 : cL_law.data.toList.drop 627 = dktL_law_20 := dk_seg dksL_law_19 22 rfl rfl
theorem dksL_law_21 : cL_law.data.toList.drop 650 = dktL_law_21 := dk_seg dksL_law_20 23 rfl rfl
theorem dksL_law_22 : cL_law.data.toList.drop 673 = dktL_law_22 := dk_seg dksL_law_21 23 rfl rfl
theorem dksL_law_23 : cL_law.data.toList.drop 697 = dktL_law_23 := dk_seg dksL_law_22 24 rfl rfl
theorem dksL_law_24 : cL_law.data.toList.drop 721 = dktL_law_24 := dk_seg dksL_law_23 24 rfl rfl
theorem dksL_law_25 : cL_law.data.toList.drop 744 = dktL_law_25 := dk_seg dksL_law_24 23 rfl rfl
theorem dksL_law_26 : cL_law.data.toList.drop 767 = dktL_law_26 := dk_seg dksL_law_25 23 rfl rfl
theorem dksL_law_27 : cL_law.data.toList.drop 791 = dktL_law_27 := dk_seg dksL_law_26 24 rfl rfl
theorem dksL_law_28 : cL_law.data.toList.drop 815 = dktL_law_28 := dk_seg dksL_law_27 24 rfl rfl
theorem dksL_law_29 : cL_law.data.toList.drop 838 = dktL_law_29 := dk_seg dksL_law_28 23 rfl rfl
theorem dksL_law_30 : cL_law.data.toList.drop 861 = dktL_law_30 := dk_seg dksL_law_29 23 rfl rfl
theorem dksL_law_31 : cL_law.data.toList.drop 883 = dktL_law_31 := dk_seg dksL_law_30 22 rfl rfl
theorem dksL_law_32 : cL_law.data.toList.drop 906 = dktL_law_32 := dk_seg dksL_law_31 23 rfl rfl
theorem dksL_law_33 : cL_law.data.toList.drop 929 = dktL_law_33 := dk_seg dksL_law_32 23 rfl rfl
theorem dksL_law_34 : cL_law.data.toList.drop 953 = dktL_law_34 := dk_seg dksL_law_33 24 rfl rfl
theorem dksL_law_35 : cL_law.data.toList.drop 977 = dktL_law_35 := dk_seg dksL_law_34 24 rfl rfl
theorem dksL_law_36 : cL_law.data.toList.drop 1001 = dktL_law_36 := dk_seg dksL_law_35 24 rfl rfl
theorem dksL_law_37 : cL_law.data.toList.drop 1025 = dktL_law_37 := dk_seg dksL_law_36 24 rfl rfl
theorem dksL_law_38 : cL_law.data.toList.drop 1048 = dktL_law_38 := dk_seg dksL_law_37 23 rfl rfl
theorem dksL_law_39 : cL_law.data.toList.drop 1071 = dktL_law_39 := dk_seg dksL_law_38 23 rfl rfl
theorem dksL_law_40 : cL_law.data.toList.drop 1095 = dktL_law_40 := dk_seg dksL_law_39 24 rfl rfl
theorem dksL_law_41 : cL_law.data.toList.drop 1118 = dktL_law_41 := dk_seg dksL_law_40 23 rfl rfl
theorem dksL_law_42 : cL_law.data.toList.drop 1142 = dktL_law_42 := dk_seg dksL_law_41 24 rfl rfl
theorem dksL_law_43 : cL_law.data.toList.drop 1165 = dktL_law_43 := dk_seg dksL_law_42 23 rfl rfl
theorem dksL_law_44 : cL_law.data.toList.drop 1189 = dktL_law_44 := dk_seg dksL_law_43 24 rfl rfl
theorem dksL_law_45 : cL_law.data.toList.drop 1211 = dktL_law_45 := dk_seg dksL_law_44 22 rfl rfl
theorem dksL_law_46 : cL_law.data.toList.drop 1233 = dktL_law_46 := dk_seg dksL_law_45 22 rfl rfl
theorem dksL_law_47 : cL_law.data.toList.drop 1257 = dktL_law_47 := dk_seg dksL_law_46 24 rfl rfl
theorem dksL_law_48 : cL_law.data.toList.drop 1279 = dktL_law_48 := dk_seg dksL_law_47 22 rfl rfl
theorem dksL_law_49 : cL_law.data.toList.drop 1301 = dktL_law_49 := dk_seg dksL_law_48 22 rfl rfl
theorem dksL_law_50 : cL_law.data.toList.drop 1325 = dktL_law_50 := dk_seg dksL_law_49 24 rfl rfl
theorem dksL_law_51 : cL_law.data.toList.drop 1347 = dktL_law_51 := dk_seg dksL_law_50 22 rfl rfl
theorem dksL_law_52 : cL_law.data.toList.drop 1369 = dktL_law_52 := dk_seg dksL_law_51 22 rfl rfl
theorem dksL_law_53 : cL_law.data.toList.drop 1393 = dktL_law_53 := dk_seg dksL_law_52 24 rfl rfl
theorem dksL_law_54 : cL_law.data.toList.drop 1415 = dktL_law_54 := dk_seg dksL_law_53 22 rfl rfl
theorem dksL_law_55 : cL_law.data.toList.drop 1439 = dktL_law_55 := dk_seg dksL_law_54 24 rfl rfl
theorem dksL_law_56 : cL_law.data.toList.drop 1463 = dktL_law_56 := dk_seg dksL_law_55 24 rfl rfl
theorem dksL_law_57 : cL_law.data.toList.drop 1487 = dktL_law_57 := dk_seg dksL_law_56 24 rfl rfl
theorem dksL_law_58 : cL_law.data.toList.drop 1511 = dktL_law_58 := dk_seg dksL_law_57 24 rfl rfl
theorem dksL_law_59 : cL_law.data.toList.drop 1534 = dktL_law_59 := dk_seg dksL_law_58 23 rfl rfl
theorem dksL_law_60 : cL_law.data.toList.drop 1557 = dktL_law_60 := dk_seg dksL_law_59 23 rfl rfl
theorem dksL_law_61 : cL_law.data.toList.drop 1579 = dktL_law_61 := dk_seg dksL_law_60 22 rfl rfl
theorem dksL_law_62 : cL_law.data.toList.drop 1601 = dktL_law_62 := dk_seg dksL_law_61 22 rfl rfl
theorem dksL_law_63 : cL_law.data.toList.drop 1625 = dktL_law_63 := dk_seg dksL_law_62 24 rfl rfl
theorem dksL_law_64 : cL_law.data.toList.drop 1647 = dktL_law_64 := dk_seg dksL_law_63 22 rfl rfl
theorem dksL_law_65 : cL_law.data.toList.drop 1669 = dktL_law_65 := dk_seg dksL_law_64 22 rfl rfl
theorem dksL_law_66 : cL_law.data.toList.drop 1693 = dktL_law_66 := dk_seg dksL_law_65 24 rfl rfl
theorem dksL_law_67 : cL_law.data.toList.drop 1715 = dktL_law_67 := dk_seg dksL_law_66 22 rfl rfl
theorem dksL_law_68 : cL_law.data.toList.drop 1739 = dktL_law_68 := dk_seg dksL_law_67 24 rfl rfl
theorem dksL_law_69 : cL_law.data.toList.drop 1762 = dktL_law_69 := dk_seg dksL_law_68 23 rfl rfl
theorem dksL_law_70 : cL_law.data.toList.drop 1786 = dktL_law_70 := dk_seg dksL_law_69 24 rfl rfl
theorem dksL_law_71 : cL_law.data.toList.drop 1810 = dktL_law_71 := dk_seg dksL_law_70 24 rfl rfl
theorem dksL_law_72 : cL_law.data.toList.drop 1832 = dktL_law_72 := dk_seg dksL_law_71 22 rfl rfl
theorem dksL_law_73 : cL_law.data.toList.drop 1856 = dktL_law_73 := dk_seg dksL_law_72 24 rfl rfl
theorem dksL_law_74 : cL_law.data.toList.drop 1879 = dktL_law_74 := dk_seg dksL_law_73 23 rfl rfl
theorem dksL_law_75 : cL_law.data.toList.drop 1901 = dktL_law_75 := dk_seg dksL_law_74 22 rfl rfl
theorem dksL_law_76 : cL_law.data.toList.drop 1925 = dktL_law_76 := dk_seg dksL_law_75 24 rfl rfl
theorem dksL_law_77 : cL_law.data.toList.drop 1948 = dktL_law_77 := dk_seg dksL_law_76 23 rfl rfl
theorem dksL_law_78 : cL_law.data.toList.drop 1972 = dktL_law_78 := dk_seg dksL_law_77 24 rfl rfl
theorem dksL_law_79 : cL_law.data.toList.drop 1996 = dktL_law_79 := dk_seg dksL_law_78 24 rfl rfl
theorem dksL_law_80 : cL_law.data.toList.drop 2020 = dktL_law_80 := dk_seg dksL_law_79 24 rfl rfl
theorem dksL_law_81 : cL_law.data.toList.drop 2044 = dktL_law_81 := dk_seg dksL_law_80 24 rfl rfl
theorem dksL_law_82 : cL_law.data.toList.drop 2066 = dktL_law_82 := dk_seg dksL_law_81 22 rfl rfl
theorem dksL_law_83 : cL_law.data.toList.drop 2088 = dktL_law_83 := dk_seg dksL_law_82 22 rfl rfl
theorem dksL_law_84 : cL_law.data.toList.drop 2112 = dktL_law_84 := dk_seg dksL_law_83 24 rfl rfl
theorem dksL_law_85 : cL_law.data.toList.drop 2134 = dktL_law_85 := dk_seg dksL_law_84 22 rfl rfl
theorem dksL_law_86 : cL_law.data.toList.drop 2156 = dktL_law_86 := dk_seg dksL_law_85 22 rfl rfl
theorem dksL_law_87 : cL_law.data.toList.drop 2180 = dktL_law_87 := dk_seg dksL_law_86 24 rfl rfl
theorem dksL_law_88 : cL_law.data.toList.drop 2204 = dktL_law_88 := dk_seg dksL_law_87 24 rfl rfl
theorem dksL_law_89 : cL_law.data.toList.drop 2227 = dktL_law_89 := dk_seg dksL_law_88 23 rfl rfl
theorem dksL_law_90 : cL_law.data.toList.drop 2249 = dktL_law_90 := dk_seg dksL_law_89 22 rfl rfl
theorem dksL_law_91 : cL_law.data.toList.drop 2273 = dktL_law_91 := dk_seg dksL_law_90 24 rfl rfl
theorem dksL_law_92 : cL_law.data.toList.drop 2297 = dktL_law_92 := dk_seg dksL_law_91 24 rfl rfl
theorem dksL_law_93 : cL_law.data.toList.drop 2319 = dktL_law_93 := dk_seg dksL_law_92 22 rfl rfl
theorem dksL_law_94 : cL_law.data.toList.drop 2341 = dktL_law_94 := dk_seg dksL_law_93 22 rfl rfl
theorem dksL_law_95 : cL_law.data.toList.drop 2364 = dktL_law_95 := dk_seg dksL_law_94 23 rfl rfl
theorem dksL_law_96 : cL_law.data.toList.drop 2388 = dktL_law_96 := dk_seg dksL_law_95 24 rfl rfl
theorem dksL_law_97 : cL_law.data.toList.drop 2410 = dktL_law_97 := dk_seg dksL_law_96 22 rfl rfl
theorem dksL_law_98 : cL_law.data.toList.drop 2434 = dktL_law_98 := dk_seg dksL_law_97 24 rfl rfl
theorem dksL_law_99 : cL_law.data.toList.drop 2457 = dktL_law_99 := dk_seg dksL_law_98 23 rfl rfl
theorem dksL_law_100 : cL_law.data.toList.drop 2480 = dktL_law_100 := dk_seg dksL_law_99 23 rfl rfl
theorem dksL_law_101 : cL_law.data.toList.drop 2504 = dktL_law_101 := dk_seg dksL_law_100 24 rfl rfl
theorem dksL_law_102 : cL_law.data.toList.drop 2527 = dktL_law_102 := dk_seg dksL_law_101 23 rfl rfl
theorem dksL_law_103 : cL_law.data.toList.drop 2551 = dktL_law_103 := dk_seg dksL_law_102 24 rfl rfl
theorem dksL_law_104 : cL_law.data.toList.drop 2575 = dktL_law_104 := dk_seg dksL_law_103 24 rfl rfl
theorem dksL_law_105 : cL_law.data.toList.drop 2598 = dktL_law_105 := dk_seg dksL_law_104 23 rfl rfl
theorem dksL_law_106 : cL_law.data.toList.drop 2622 = dktL_law_106 := dk_seg dksL_law_105 24 rfl rfl
theorem dksL_law_107 : cL_law.data.toList.drop 2646 = dktL_law_107 := dk_seg dksL_law_106 24 rfl rfl
theorem dksL_law_108 : cL_law.data.toList.drop 2670 = dktL_law_108 := dk_seg dksL_law_107 24 rfl rfl
theorem dksL_law_109 : cL_law.data.toList.drop 2694 = dktL_law_109 := dk_seg dksL_law_108 24 rfl rfl
theorem dksL_law_110 : cL_law.data.toList.drop 2717 = dktL_law_110 := dk_seg dksL_law_109 23 rfl rfl
theorem dksL_law_111 : cL_law.data.toList.drop 2740 = dktL_law_111 := dk_seg dksL_law_110 23 rfl rfl
theorem dksL_law_112 : cL_law.data.toList.drop 2764 = dktL_law_112 := dk_seg dksL_law_111 24 rfl rfl
theorem dksL_law_113 : cL_law.data.toList.drop 2788 = dktL_law_113 := dk_seg dksL_law_112 24 rfl rfl
theorem dksL_law_114 : cL_law.data.toList.drop 2812 = dktL_law_114 := dk_seg dksL_law_113 24 rfl rfl
theorem dksL_law_115 : cL_law.data.toList.drop 2836 = dktL_law_115 := dk_seg dksL_law_114 24 rfl rfl
theorem dL_law_0 : decode cL_law 0 = .ok (.new 8, 3) := dk_187 0 8 (dk_at dksL_law_0 0 rfl rfl)
theorem dL_law_3 : decode cL_law 3 = .ok (.dup, 1) := dk_89 (dk_at dksL_law_0 3 rfl rfl)
theorem dL_law_4 : decode cL_law 4 = .ok (.invokespecial 128, 3) := dk_183 0 128 (dk_at dksL_law_0 4 rfl rfl)
theorem dL_law_7 : decode cL_law 7 = .ok (.astore_n 1, 1) := dk_76 (dk_at dksL_law_0 7 rfl rfl)
theorem dL_law_8 : decode cL_law 8 = .ok (.new 129, 3) := dk_187 0 129 (dk_at dksL_law_0 8 rfl rfl)
theorem dL_law_11 : decode cL_law 11 = .ok (.dup, 1) := dk_89 (dk_at dksL_law_0 11 rfl rfl)
theorem dL_law_12 : decode cL_law 12 = .ok (.invokespecial 131, 3) := dk_183 0 131 (dk_at dksL_law_0 12 rfl rfl)
theorem dL_law_15 : decode cL_law 15 = .ok (.astore_n 2, 1) := dk_77 (dk_at dksL_law_0 15 rfl rfl)
theorem dL_law_16 : decode cL_law 16 = .ok (.iconst 1, 1) := dk_4 (dk_at dksL_law_0 16 rfl rfl)
theorem dL_law_17 : decode cL_law 17 = .ok (.newarray .long, 2) := dk_188_11 (dk_at dksL_law_0 17 rfl rfl)
theorem dL_law_19 : decode cL_law 19 = .ok (.astore_n 3, 1) := dk_78 (dk_at dksL_law_0 19 rfl rfl)
theorem dL_law_20 : decode cL_law 20 = .ok (.iconst 0, 1) := dk_3 (dk_at dksL_law_0 20 rfl rfl)
theorem dL_law_21 : decode cL_law 21 = .ok (.istore 4, 2) := dk_54 4 (dk_at dksL_law_0 21 rfl rfl)
theorem dL_law_23 : decode cL_law 23 = .ok (.iload 4, 2) := dk_21 4 (dk_at dksL_law_1 0 rfl rfl)
theorem dL_law_25 : decode cL_law 25 = .ok (.aload_n 0, 1) := dk_42 (dk_at dksL_law_1 2 rfl rfl)
theorem dL_law_26 : decode cL_law 26 = .ok (.arraylength, 1) := dk_190 (dk_at dksL_law_1 3 rfl rfl)
theorem dL_law_27 : decode cL_law 27 = .ok (.bipush 6, 2) := dk_16 6 (dk_at dksL_law_1 4 rfl rfl)
theorem dL_law_29 : decode cL_law 29 = .ok (.isub, 1) := dk_100 (dk_at dksL_law_1 6 rfl rfl)
theorem dL_law_30 : decode cL_law 30 = .ok (.if_icmp .gt 2821, 3) := dk_163 11 5 (dk_at dksL_law_1 7 rfl rfl)
theorem dL_law_33 : decode cL_law 33 = .ok (.aload_n 0, 1) := dk_42 (dk_at dksL_law_1 10 rfl rfl)
theorem dL_law_34 : decode cL_law 34 = .ok (.iload 4, 2) := dk_21 4 (dk_at dksL_law_1 11 rfl rfl)
theorem dL_law_36 : decode cL_law 36 = .ok (.iaload, 1) := dk_46 (dk_at dksL_law_1 13 rfl rfl)
theorem dL_law_37 : decode cL_law 37 = .ok (.bipush 63, 2) := dk_16 63 (dk_at dksL_law_1 14 rfl rfl)
theorem dL_law_39 : decode cL_law 39 = .ok (.iand, 1) := dk_126 (dk_at dksL_law_1 16 rfl rfl)
theorem dL_law_40 : decode cL_law 40 = .ok (.tableswitch 2805 0 43 #[192, 265, 290, 334, 378, 391, 459, 527, 595, 651, 771, 851, 907, 975, 1067, 1123, 1179, 1247, 1315, 1383, 1467, 1547, 1615, 1683, 1795, 1879, 1935, 2007, 2051, 2119, 2132, 2212, 2225, 2309, 2322, 2378, 2458, 2566, 2650, 2718, 2743, 2756, 2767, 2780], 192) := by decide +kernel
theorem dL_law_232 : decode cL_law 232 = .ok (.aload_n 1, 1) := dk_43 (dk_at dksL_law_3 0 rfl rfl)
theorem dL_law_233 : decode cL_law 233 = .ok (.aload_n 0, 1) := dk_42 (dk_at dksL_law_3 1 rfl rfl)
theorem dL_law_234 : decode cL_law 234 = .ok (.iload 4, 2) := dk_21 4 (dk_at dksL_law_3 2 rfl rfl)
theorem dL_law_236 : decode cL_law 236 = .ok (.iconst 1, 1) := dk_4 (dk_at dksL_law_3 4 rfl rfl)
theorem dL_law_237 : decode cL_law 237 = .ok (.iadd, 1) := dk_96 (dk_at dksL_law_3 5 rfl rfl)
theorem dL_law_238 : decode cL_law 238 = .ok (.iaload, 1) := dk_46 (dk_at dksL_law_3 6 rfl rfl)
theorem dL_law_239 : decode cL_law 239 = .ok (.aload_n 0, 1) := dk_42 (dk_at dksL_law_3 7 rfl rfl)
theorem dL_law_240 : decode cL_law 240 = .ok (.iload 4, 2) := dk_21 4 (dk_at dksL_law_3 8 rfl rfl)
theorem dL_law_242 : decode cL_law 242 = .ok (.iconst 2, 1) := dk_5 (dk_at dksL_law_3 10 rfl rfl)
theorem dL_law_243 : decode cL_law 243 = .ok (.iadd, 1) := dk_96 (dk_at dksL_law_3 11 rfl rfl)
theorem dL_law_244 : decode cL_law 244 = .ok (.iaload, 1) := dk_46 (dk_at dksL_law_3 12 rfl rfl)
theorem dL_law_245 : decode cL_law 245 = .ok (.aload_n 0, 1) := dk_42 (dk_at dksL_law_3 13 rfl rfl)
theorem dL_law_246 : decode cL_law 246 = .ok (.iload 4, 2) := dk_21 4 (dk_at dksL_law_3 14 rfl rfl)
theorem dL_law_248 : decode cL_law 248 = .ok (.iconst 3, 1) := dk_6 (dk_at dksL_law_3 16 rfl rfl)
theorem dL_law_249 : decode cL_law 249 = .ok (.iadd, 1) := dk_96 (dk_at dksL_law_3 17 rfl rfl)
theorem dL_law_250 : decode cL_law 250 = .ok (.iaload, 1) := dk_46 (dk_at dksL_law_3 18 rfl rfl)
theorem dL_law_251 : decode cL_law 251 = .ok (.aload_n 0, 1) := dk_42 (dk_at dksL_law_3 19 rfl rfl)
theorem dL_law_252 : decode cL_law 252 = .ok (.iload 4, 2) := dk_21 4 (dk_at dksL_law_3 20 rfl rfl)
theorem dL_law_254 : decode cL_law 254 = .ok (.iconst 4, 1) := dk_7 (dk_at dksL_law_3 22 rfl rfl)
theorem dL_law_255 : decode cL_law 255 = .ok (.iadd, 1) := dk_96 (dk_at dksL_law_3 23 rfl rfl)
theorem dL_law_256 : decode cL_law 256 = .ok (.iaload, 1) := dk_46 (dk_at dksL_law_4 0 rfl rfl)
theorem dL_law_257 : decode cL_law 257 = .ok (.aload_n 0, 1) := dk_42 (dk_at dksL_law_4 1 rfl rfl)
theorem dL_law_258 : decode cL_law 258 = .ok (.iload 4, 2) := dk_21 4 (dk_at dksL_law_4 2 rfl rfl)
theorem dL_law_260 : decode cL_law 260 = .ok (.iconst 5, 1) := dk_8 (dk_at dksL_law_4 4 rfl rfl)
theorem dL_law_261 : decode cL_law 261 = .ok (.iadd, 1) := dk_96 (dk_at dksL_law_4 5 rfl rfl)
theorem dL_law_262 : decode cL_law 262 = .ok (.iaload, 1) := dk_46 (dk_at dksL_law_4 6 rfl rfl)
theorem dL_law_263 : decode cL_law 263 = .ok (.invokevirtual 132, 3) := dk_182 0 132 (dk_at dksL_law_4 7 rfl rfl)
theorem dL_law_266 : decode cL_law 266 = .ok (.aload_n 2, 1) := dk_44 (dk_at dksL_law_4 10 rfl rfl)
theorem dL_law_267 : decode cL_law 267 = .ok (.aload_n 0, 1) := dk_42 (dk_at dksL_law_4 11 rfl rfl)
theorem dL_law_268 : decode cL_law 268 = .ok (.iload 4, 2) := dk_21 4 (dk_at dksL_law_4 12 rfl rfl)
theorem dL_law_270 : decode cL_law 270 = .ok (.iconst 1, 1) := dk_4 (dk_at dksL_law_4 14 rfl rfl)
theorem dL_law_271 : decode cL_law 271 = .ok (.iadd, 1) := dk_96 (dk_at dksL_law_4 15 rfl rfl)
theorem dL_law_272 : decode cL_law 272 = .ok (.iaload, 1) := dk_46 (dk_at dksL_law_4 16 rfl rfl)
theorem dL_law_273 : decode cL_law 273 = .ok (.aload_n 0, 1) := dk_42 (dk_at dksL_law_4 17 rfl rfl)
theorem dL_law_274 : decode cL_law 274 = .ok (.iload 4, 2) := dk_21 4 (dk_at dksL_law_4 18 rfl rfl)
theorem dL_law_276 : decode cL_law 276 = .ok (.iconst 2, 1) := dk_5 (dk_at dksL_law_4 20 rfl rfl)
theorem dL_law_277 : decode cL_law 277 = .ok (.iadd, 1) := dk_96 (dk_at dksL_law_4 21 rfl rfl)
theorem dL_law_278 : decode cL_law 278 = .ok (.iaload, 1) := dk_46 (dk_at dksL_law_4 22 rfl rfl)
theorem dL_law_279 : decode cL_law 279 = .ok (.aload_n 0, 1) := dk_42 (dk_at dksL_law_4 23 rfl rfl)
theorem dL_law_280 : decode cL_law 280 = .ok (.iload 4, 2) := dk_21 4 (dk_at dksL_law_5 0 rfl rfl)
theorem dL_law_282 : decode cL_law 282 = .ok (.iconst 3, 1) := dk_6 (dk_at dksL_law_5 2 rfl rfl)
theorem dL_law_283 : decode cL_law 283 = .ok (.iadd, 1) := dk_96 (dk_at dksL_law_5 3 rfl rfl)
theorem dL_law_284 : decode cL_law 284 = .ok (.iaload, 1) := dk_46 (dk_at dksL_law_5 4 rfl rfl)
theorem dL_law_285 : decode cL_law 285 = .ok (.aload_n 0, 1) := dk_42 (dk_at dksL_law_5 5 rfl rfl)
theorem dL_law_286 : decode cL_law 286 = .ok (.iload 4, 2) := dk_21 4 (dk_at dksL_law_5 6 rfl rfl)
theorem dL_law_288 : decode cL_law 288 = .ok (.iconst 4, 1) := dk_7 (dk_at dksL_law_5 8 rfl rfl)
theorem dL_law_289 : decode cL_law 289 = .ok (.iadd, 1) := dk_96 (dk_at dksL_law_5 9 rfl rfl)
theorem dL_law_290 : decode cL_law 290 = .ok (.iaload, 1) := dk_46 (dk_at dksL_law_5 10 rfl rfl)
theorem dL_law_291 : decode cL_law 291 = .ok (.aload_n 0, 1) := dk_42 (dk_at dksL_law_5 11 rfl rfl)
theorem dL_law_292 : decode cL_law 292 = .ok (.iload 4, 2) := dk_21 4 (dk_at dksL_law_5 12 rfl rfl)
theorem dL_law_294 : decode cL_law 294 = .ok (.iconst 5, 1) := dk_8 (dk_at dksL_law_5 14 rfl rfl)
theorem dL_law_295 : decode cL_law 295 = .ok (.iadd, 1) := dk_96 (dk_at dksL_law_5 15 rfl rfl)
theorem dL_law_296 : decode cL_law 296 = .ok (.iaload, 1) := dk_46 (dk_at dksL_law_5 16 rfl rfl)
theorem dL_law_297 : decode cL_law 297 = .ok (.invokevirtual 136, 3) := dk_182 0 136 (dk_at dksL_law_5 17 rfl rfl)
theorem dL_law_300 : decode cL_law 300 = .ok (.if_icmp .eq 2545, 3) := dk_159 9 241 (dk_at dksL_law_5 20 rfl rfl)
theorem dL_law_303 : decode cL_law 303 = .ok (.iconst 0, 1) := dk_3 (dk_at dksL_law_5 23 rfl rfl)
theorem dL_law_304 : decode cL_law 304 = .ok (.ireturn, 1) := dk_172 (dk_at dksL_law_6 0 rfl rfl)
theorem dL_law_305 : decode cL_law 305 = .ok (.aload_n 1, 1) := dk_43 (dk_at dksL_law_6 1 rfl rfl)
theorem dL_law_306 : decode cL_law 306 = .ok (.aload_n 0, 1) := dk_42 (dk_at dksL_law_6 2 rfl rfl)
theorem dL_law_307 : decode cL_law 307 = .ok (.iload 4, 2) := dk_21 4 (dk_at dksL_law_6 3 rfl rfl)
theorem dL_law_309 : decode cL_law 309 = .ok (.iconst 1, 1) := dk_4 (dk_at dksL_law_6 5 rfl rfl)
theorem dL_law_310 : decode cL_law 310 = .ok (.iadd, 1) := dk_96 (dk_at dksL_law_6 6 rfl rfl)
theorem dL_law_311 : decode cL_law 311 = .ok (.iaload, 1) := dk_46 (dk_at dksL_law_6 7 rfl rfl)
theorem dL_law_312 : decode cL_law 312 = .ok (.invokevirtual 137, 3) := dk_182 0 137 (dk_at dksL_law_6 8 rfl rfl)
theorem dL_law_315 : decode cL_law 315 = .ok (.aload_n 2, 1) := dk_44 (dk_at dksL_law_6 11 rfl rfl)
theorem dL_law_316 : decode cL_law 316 = .ok (.aload_n 0, 1) := dk_42 (dk_at dksL_law_6 12 rfl rfl)
theorem dL_law_317 : decode cL_law 317 = .ok (.iload 4, 2) := dk_21 4 (dk_at dksL_law_6 13 rfl rfl)
theorem dL_law_319 : decode cL_law 319 = .ok (.iconst 1, 1) := dk_4 (dk_at dksL_law_6 15 rfl rfl)
theorem dL_law_320 : decode cL_law 320 = .ok (.iadd, 1) := dk_96 (dk_at dksL_law_6 16 rfl rfl)
theorem dL_law_321 : decode cL_law 321 = .ok (.iaload, 1) := dk_46 (dk_at dksL_law_6 17 rfl rfl)
theorem dL_law_322 : decode cL_law 322 = .ok (.invokevirtual 141, 3) := dk_182 0 141 (dk_at dksL_law_6 18 rfl rfl)
theorem dL_law_325 : decode cL_law 325 = .ok (.if_icmp .eq 2520, 3) := dk_159 9 216 (dk_at dksL_law_6 21 rfl rfl)
theorem dL_law_328 : decode cL_law 328 = .ok (.iconst 0, 1) := dk_3 (dk_at dksL_law_7 0 rfl rfl)
theorem dL_law_329 : decode cL_law 329 = .ok (.ireturn, 1) := dk_172 (dk_at dksL_law_7 1 rfl rfl)
theorem dL_law_330 : decode cL_law 330 = .ok (.aload_n 1, 1) := dk_43 (dk_at dksL_law_7 2 rfl rfl)
theorem dL_law_331 : decode cL_law 331 = .ok (.aload_n 3, 1) := dk_45 (dk_at dksL_law_7 3 rfl rfl)
theorem dL_law_332 : decode cL_law 332 = .ok (.invokestatic 142, 3) := dk_184 0 142 (dk_at dksL_law_7 4 rfl rfl)
theorem dL_law_335 : decode cL_law 335 = .ok (.istore 5, 2) := dk_54 5 (dk_at dksL_law_7 7 rfl rfl)
theorem dL_law_337 : decode cL_law 337 = .ok (.aload_n 2, 1) := dk_44 (dk_at dksL_law_7 9 rfl rfl)
theorem dL_law_338 : decode cL_law 338 = .ok (.invokevirtual 147, 3) := dk_182 0 147 (dk_at dksL_law_7 10 rfl rfl)
theorem dL_law_341 : decode cL_law 341 = .ok (.istore 6, 2) := dk_54 6 (dk_at dksL_law_7 13 rfl rfl)
theorem dL_law_343 : decode cL_law 343 = .ok (.aload_n 2, 1) := dk_44 (dk_at dksL_law_7 15 rfl rfl)
theorem dL_law_344 : decode cL_law 344 = .ok (.invokevirtual 148, 3) := dk_182 0 148 (dk_at dksL_law_7 16 rfl rfl)
theorem dL_law_347 : decode cL_law 347 = .ok (.iload 5, 2) := dk_21 5 (dk_at dksL_law_7 19 rfl rfl)
theorem dL_law_349 : decode cL_law 349 = .ok (.if_icmp .eq 5, 3) := dk_159 0 5 (dk_at dksL_law_7 21 rfl rfl)
theorem dL_law_352 : decode cL_law 352 = .ok (.iconst 0, 1) := dk_3 (dk_at dksL_law_8 0 rfl rfl)
theorem dL_law_353 : decode cL_law 353 = .ok (.ireturn, 1) := dk_172 (dk_at dksL_law_8 1 rfl rfl)
theorem dL_law_354 : decode cL_law 354 = .ok (.iload 5, 2) := dk_21 5 (dk_at dksL_law_8 2 rfl rfl)
theorem dL_law_356 : decode cL_law 356 = .ok (.ifCond .ne 15, 3) := dk_154 0 15 (dk_at dksL_law_8 4 rfl rfl)
theorem dL_law_359 : decode cL_law 359 = .ok (.aload_n 3, 1) := dk_45 (dk_at dksL_law_8 7 rfl rfl)
theorem dL_law_360 : decode cL_law 360 = .ok (.iconst 0, 1) := dk_3 (dk_at dksL_law_8 8 rfl rfl)
theorem dL_law_361 : decode cL_law 361 = .ok (.laload, 1) := dk_47 (dk_at dksL_law_8 9 rfl rfl)
theorem dL_law_362 : decode cL_law 362 = .ok (.iload 6, 2) := dk_21 6 (dk_at dksL_law_8 10 rfl rfl)
theorem dL_law_364 : decode cL_law 364 = .ok (.i2l, 1) := dk_133 (dk_at dksL_law_8 12 rfl rfl)
theorem dL_law_365 : decode cL_law 365 = .ok (.lcmp, 1) := dk_148 (dk_at dksL_law_8 13 rfl rfl)
theorem dL_law_366 : decode cL_law 366 = .ok (.ifCond .eq 5, 3) := dk_153 0 5 (dk_at dksL_law_8 14 rfl rfl)
theorem dL_law_369 : decode cL_law 369 = .ok (.iconst 0, 1) := dk_3 (dk_at dksL_law_8 17 rfl rfl)
theorem dL_law_370 : decode cL_law 370 = .ok (.ireturn, 1) := dk_172 (dk_at dksL_law_8 18 rfl rfl)
theorem dL_law_371 : decode cL_law 371 = .ok (.goto 2474, 3) := dk_167 9 170 (dk_at dksL_law_8 19 rfl rfl)
theorem dL_law_374 : decode cL_law 374 = .ok (.aload_n 1, 1) := dk_43 (dk_at dksL_law_8 22 rfl rfl)
theorem dL_law_375 : decode cL_law 375 = .ok (.aload_n 3, 1) := dk_45 (dk_at dksL_law_8 23 rfl rfl)
theorem dL_law_376 : decode cL_law 376 = .ok (.invokestatic 151, 3) := dk_184 0 151 (dk_at dksL_law_9 0 rfl rfl)
theorem dL_law_379 : decode cL_law 379 = .ok (.istore 5, 2) := dk_54 5 (dk_at dksL_law_9 3 rfl rfl)
theorem dL_law_381 : decode cL_law 381 = .ok (.aload_n 2, 1) := dk_44 (dk_at dksL_law_9 5 rfl rfl)
theorem dL_law_382 : decode cL_law 382 = .ok (.invokevirtual 153, 3) := dk_182 0 153 (dk_at dksL_law_9 6 rfl rfl)
theorem dL_law_385 : decode cL_law 385 = .ok (.istore 6, 2) := dk_54 6 (dk_at dksL_law_9 9 rfl rfl)
theorem dL_law_387 : decode cL_law 387 = .ok (.aload_n 2, 1) := dk_44 (dk_at dksL_law_9 11 rfl rfl)
theorem dL_law_388 : decode cL_law 388 = .ok (.invokevirtual 148, 3) := dk_182 0 148 (dk_at dksL_law_9 12 rfl rfl)
theorem dL_law_391 : decode cL_law 391 = .ok (.iload 5, 2) := dk_21 5 (dk_at dksL_law_9 15 rfl rfl)
theorem dL_law_393 : decode cL_law 393 = .ok (.if_icmp .eq 5, 3) := dk_159 0 5 (dk_at dksL_law_9 17 rfl rfl)
theorem dL_law_396 : decode cL_law 396 = .ok (.iconst 0, 1) := dk_3 (dk_at dksL_law_9 20 rfl rfl)
theorem dL_law_397 : decode cL_law 397 = .ok (.ireturn, 1) := dk_172 (dk_at dksL_law_9 21 rfl rfl)
theorem dL_law_398 : decode cL_law 398 = .ok (.iload 5, 2) := dk_21 5 (dk_at dksL_law_9 22 rfl rfl)
theorem dL_law_400 : decode cL_law 400 = .ok (.ifCond .ne 15, 3) := dk_154 0 15 (dk_at dksL_law_10 0 rfl rfl)
theorem dL_law_403 : decode cL_law 403 = .ok (.aload_n 3, 1) := dk_45 (dk_at dksL_law_10 3 rfl rfl)
theorem dL_law_404 : decode cL_law 404 = .ok (.iconst 0, 1) := dk_3 (dk_at dksL_law_10 4 rfl rfl)
theorem dL_law_405 : decode cL_law 405 = .ok (.laload, 1) := dk_47 (dk_at dksL_law_10 5 rfl rfl)
theorem dL_law_406 : decode cL_law 406 = .ok (.iload 6, 2) := dk_21 6 (dk_at dksL_law_10 6 rfl rfl)
theorem dL_law_408 : decode cL_law 408 = .ok (.i2l, 1) := dk_133 (dk_at dksL_law_10 8 rfl rfl)
theorem dL_law_409 : decode cL_law 409 = .ok (.lcmp, 1) := dk_148 (dk_at dksL_law_10 9 rfl rfl)
theorem dL_law_410 : decode cL_law 410 = .ok (.ifCond .eq 5, 3) := dk_153 0 5 (dk_at dksL_law_10 10 rfl rfl)
theorem dL_law_413 : decode cL_law 413 = .ok (.iconst 0, 1) := dk_3 (dk_at dksL_law_10 13 rfl rfl)
theorem dL_law_414 : decode cL_law 414 = .ok (.ireturn, 1) := dk_172 (dk_at dksL_law_10 14 rfl rfl)
theorem dL_law_415 : decode cL_law 415 = .ok (.goto 2430, 3) := dk_167 9 126 (dk_at dksL_law_10 15 rfl rfl)
theorem dL_law_418 : decode cL_law 418 = .ok (.aload_n 1, 1) := dk_43 (dk_at dksL_law_10 18 rfl rfl)
theorem dL_law_419 : decode cL_law 419 = .ok (.invokevirtual 154, 3) := dk_182 0 154 (dk_at dksL_law_10 19 rfl rfl)
theorem dL_law_422 : decode cL_law 422 = .ok (.aload_n 2, 1) := dk_44 (dk_at dksL_law_10 22 rfl rfl)
theorem dL_law_423 : decode cL_law 423 = .ok (.invokevirtual 157, 3) := dk_182 0 157 (dk_at dksL_law_11 0 rfl rfl)
theorem dL_law_426 : decode cL_law 426 = .ok (.if_icmp .eq 2419, 3) := dk_159 9 115 (dk_at dksL_law_11 3 rfl rfl)
theorem dL_law_429 : decode cL_law 429 = .ok (.iconst 0, 1) := dk_3 (dk_at dksL_law_11 6 rfl rfl)
theorem dL_law_430 : decode cL_law 430 = .ok (.ireturn, 1) := dk_172 (dk_at dksL_law_11 7 rfl rfl)
theorem dL_law_431 : decode cL_law 431 = .ok (.aload_n 1, 1) := dk_43 (dk_at dksL_law_11 8 rfl rfl)
theorem dL_law_432 : decode cL_law 432 = .ok (.aload_n 0, 1) := dk_42 (dk_at dksL_law_11 9 rfl rfl)
theorem dL_law_433 : decode cL_law 433 = .ok (.iload 4, 2) := dk_21 4 (dk_at dksL_law_11 10 rfl rfl)
theorem dL_law_435 : decode cL_law 435 = .ok (.iconst 1, 1) := dk_4 (dk_at dksL_law_11 12 rfl rfl)
theorem dL_law_436 : decode cL_law 436 = .ok (.iadd, 1) := dk_96 (dk_at dksL_law_11 13 rfl rfl)
theorem dL_law_437 : decode cL_law 437 = .ok (.iaload, 1) := dk_46 (dk_at dksL_law_11 14 rfl rfl)
theorem dL_law_438 : decode cL_law 438 = .ok (.aload_n 0, 1) := dk_42 (dk_at dksL_law_11 15 rfl rfl)
theorem dL_law_439 : decode cL_law 439 = .ok (.iload 4, 2) := dk_21 4 (dk_at dksL_law_11 16 rfl rfl)
theorem dL_law_441 : decode cL_law 441 = .ok (.iconst 2, 1) := dk_5 (dk_at dksL_law_11 18 rfl rfl)
theorem dL_law_442 : decode cL_law 442 = .ok (.iadd, 1) := dk_96 (dk_at dksL_law_11 19 rfl rfl)
theorem dL_law_443 : decode cL_law 443 = .ok (.iaload, 1) := dk_46 (dk_at dksL_law_11 20 rfl rfl)
theorem dL_law_444 : decode cL_law 444 = .ok (.aload_n 3, 1) := dk_45 (dk_at dksL_law_11 21 rfl rfl)
theorem dL_law_445 : decode cL_law 445 = .ok (.invokestatic 158, 3) := dk_184 0 158 (dk_at dksL_law_12 0 rfl rfl)
theorem dL_law_448 : decode cL_law 448 = .ok (.istore 5, 2) := dk_54 5 (dk_at dksL_law_12 3 rfl rfl)
theorem dL_law_450 : decode cL_law 450 = .ok (.aload_n 2, 1) := dk_44 (dk_at dksL_law_12 5 rfl rfl)
theorem dL_law_451 : decode cL_law 451 = .ok (.aload_n 0, 1) := dk_42 (dk_at dksL_law_12 6 rfl rfl)
theorem dL_law_452 : decode cL_law 452 = .ok (.iload 4, 2) := dk_21 4 (dk_at dksL_law_12 7 rfl rfl)
theorem dL_law_454 : decode cL_law 454 = .ok (.iconst 1, 1) := dk_4 (dk_at dksL_law_12 9 rfl rfl)
theorem dL_law_455 : decode cL_law 455 = .ok (.iadd, 1) := dk_96 (dk_at dksL_law_12 10 rfl rfl)
theorem dL_law_456 : decode cL_law 456 = .ok (.iaload, 1) := dk_46 (dk_at dksL_law_12 11 rfl rfl)
theorem dL_law_457 : decode cL_law 457 = .ok (.aload_n 0, 1) := dk_42 (dk_at dksL_law_12 12 rfl rfl)
theorem dL_law_458 : decode cL_law 458 = .ok (.iload 4, 2) := dk_21 4 (dk_at dksL_law_12 13 rfl rfl)
theorem dL_law_460 : decode cL_law 460 = .ok (.iconst 2, 1) := dk_5 (dk_at dksL_law_12 15 rfl rfl)
theorem dL_law_461 : decode cL_law 461 = .ok (.iadd, 1) := dk_96 (dk_at dksL_law_12 16 rfl rfl)
theorem dL_law_462 : decode cL_law 462 = .ok (.iaload, 1) := dk_46 (dk_at dksL_law_12 17 rfl rfl)
theorem dL_law_463 : decode cL_law 463 = .ok (.invokevirtual 161, 3) := dk_182 0 161 (dk_at dksL_law_12 18 rfl rfl)
theorem dL_law_466 : decode cL_law 466 = .ok (.istore 6, 2) := dk_54 6 (dk_at dksL_law_12 21 rfl rfl)
theorem dL_law_468 : decode cL_law 468 = .ok (.aload_n 2, 1) := dk_44 (dk_at dksL_law_12 23 rfl rfl)
theorem dL_law_469 : decode cL_law 469 = .ok (.invokevirtual 148, 3) := dk_182 0 148 (dk_at dksL_law_13 0 rfl rfl)
theorem dL_law_472 : decode cL_law 472 = .ok (.iload 5, 2) := dk_21 5 (dk_at dksL_law_13 3 rfl rfl)
theorem dL_law_474 : decode cL_law 474 = .ok (.if_icmp .eq 5, 3) := dk_159 0 5 (dk_at dksL_law_13 5 rfl rfl)
theorem dL_law_477 : decode cL_law 477 = .ok (.iconst 0, 1) := dk_3 (dk_at dksL_law_13 8 rfl rfl)
theorem dL_law_478 : decode cL_law 478 = .ok (.ireturn, 1) := dk_172 (dk_at dksL_law_13 9 rfl rfl)
theorem dL_law_479 : decode cL_law 479 = .ok (.iload 5, 2) := dk_21 5 (dk_at dksL_law_13 10 rfl rfl)
theorem dL_law_481 : decode cL_law 481 = .ok (.ifCond .ne 15, 3) := dk_154 0 15 (dk_at dksL_law_13 12 rfl rfl)
theorem dL_law_484 : decode cL_law 484 = .ok (.aload_n 3, 1) := dk_45 (dk_at dksL_law_13 15 rfl rfl)
theorem dL_law_485 : decode cL_law 485 = .ok (.iconst 0, 1) := dk_3 (dk_at dksL_law_13 16 rfl rfl)
theorem dL_law_486 : decode cL_law 486 = .ok (.laload, 1) := dk_47 (dk_at dksL_law_13 17 rfl rfl)
theorem dL_law_487 : decode cL_law 487 = .ok (.iload 6, 2) := dk_21 6 (dk_at dksL_law_13 18 rfl rfl)
theorem dL_law_489 : decode cL_law 489 = .ok (.i2l, 1) := dk_133 (dk_at dksL_law_13 20 rfl rfl)
theorem dL_law_490 : decode cL_law 490 = .ok (.lcmp, 1) := dk_148 (dk_at dksL_law_13 21 rfl rfl)
theorem dL_law_491 : decode cL_law 491 = .ok (.ifCond .eq 5, 3) := dk_153 0 5 (dk_at dksL_law_14 0 rfl rfl)
theorem dL_law_494 : decode cL_law 494 = .ok (.iconst 0, 1) := dk_3 (dk_at dksL_law_14 3 rfl rfl)
theorem dL_law_495 : decode cL_law 495 = .ok (.ireturn, 1) := dk_172 (dk_at dksL_law_14 4 rfl rfl)
theorem dL_law_496 : decode cL_law 496 = .ok (.goto 2349, 3) := dk_167 9 45 (dk_at dksL_law_14 5 rfl rfl)
theorem dL_law_499 : decode cL_law 499 = .ok (.aload_n 1, 1) := dk_43 (dk_at dksL_law_14 8 rfl rfl)
theorem dL_law_500 : decode cL_law 500 = .ok (.aload_n 0, 1) := dk_42 (dk_at dksL_law_14 9 rfl rfl)
theorem dL_law_501 : decode cL_law 501 = .ok (.iload 4, 2) := dk_21 4 (dk_at dksL_law_14 10 rfl rfl)
theorem dL_law_503 : decode cL_law 503 = .ok (.iconst 1, 1) := dk_4 (dk_at dksL_law_14 12 rfl rfl)
theorem dL_law_504 : decode cL_law 504 = .ok (.iadd, 1) := dk_96 (dk_at dksL_law_14 13 rfl rfl)
theorem dL_law_505 : decode cL_law 505 = .ok (.iaload, 1) := dk_46 (dk_at dksL_law_14 14 rfl rfl)
theorem dL_law_506 : decode cL_law 506 = .ok (.aload_n 0, 1) := dk_42 (dk_at dksL_law_14 15 rfl rfl)
theorem dL_law_507 : decode cL_law 507 = .ok (.iload 4, 2) := dk_21 4 (dk_at dksL_law_14 16 rfl rfl)
theorem dL_law_509 : decode cL_law 509 = .ok (.iconst 2, 1) := dk_5 (dk_at dksL_law_14 18 rfl rfl)
theorem dL_law_510 : decode cL_law 510 = .ok (.iadd, 1) := dk_96 (dk_at dksL_law_14 19 rfl rfl)
theorem dL_law_511 : decode cL_law 511 = .ok (.iaload, 1) := dk_46 (dk_at dksL_law_14 20 rfl rfl)
theorem dL_law_512 : decode cL_law 512 = .ok (.aload_n 3, 1) := dk_45 (dk_at dksL_law_14 21 rfl rfl)
theorem dL_law_513 : decode cL_law 513 = .ok (.invokestatic 162, 3) := dk_184 0 162 (dk_at dksL_law_15 0 rfl rfl)
theorem dL_law_516 : decode cL_law 516 = .ok (.istore 5, 2) := dk_54 5 (dk_at dksL_law_15 3 rfl rfl)
theorem dL_law_518 : decode cL_law 518 = .ok (.aload_n 2, 1) := dk_44 (dk_at dksL_law_15 5 rfl rfl)
theorem dL_law_519 : decode cL_law 519 = .ok (.aload_n 0, 1) := dk_42 (dk_at dksL_law_15 6 rfl rfl)
theorem dL_law_520 : decode cL_law 520 = .ok (.iload 4, 2) := dk_21 4 (dk_at dksL_law_15 7 rfl rfl)
theorem dL_law_522 : decode cL_law 522 = .ok (.iconst 1, 1) := dk_4 (dk_at dksL_law_15 9 rfl rfl)
theorem dL_law_523 : decode cL_law 523 = .ok (.iadd, 1) := dk_96 (dk_at dksL_law_15 10 rfl rfl)
theorem dL_law_524 : decode cL_law 524 = .ok (.iaload, 1) := dk_46 (dk_at dksL_law_15 11 rfl rfl)
theorem dL_law_525 : decode cL_law 525 = .ok (.aload_n 0, 1) := dk_42 (dk_at dksL_law_15 12 rfl rfl)
theorem dL_law_526 : decode cL_law 526 = .ok (.iload 4, 2) := dk_21 4 (dk_at dksL_law_15 13 rfl rfl)
theorem dL_law_528 : decode cL_law 528 = .ok (.iconst 2, 1) := dk_5 (dk_at dksL_law_15 15 rfl rfl)
theorem dL_law_529 : decode cL_law 529 = .ok (.iadd, 1) := dk_96 (dk_at dksL_law_15 16 rfl rfl)
theorem dL_law_530 : decode cL_law 530 = .ok (.iaload, 1) := dk_46 (dk_at dksL_law_15 17 rfl rfl)
theorem dL_law_531 : decode cL_law 531 = .ok (.invokevirtual 164, 3) := dk_182 0 164 (dk_at dksL_law_15 18 rfl rfl)
theorem dL_law_534 : decode cL_law 534 = .ok (.istore 6, 2) := dk_54 6 (dk_at dksL_law_15 21 rfl rfl)
theorem dL_law_536 : decode cL_law 536 = .ok (.aload_n 2, 1) := dk_44 (dk_at dksL_law_15 23 rfl rfl)
theorem dL_law_537 : decode cL_law 537 = .ok (.invokevirtual 148, 3) := dk_182 0 148 (dk_at dksL_law_16 0 rfl rfl)
theorem dL_law_540 : decode cL_law 540 = .ok (.iload 5, 2) := dk_21 5 (dk_at dksL_law_16 3 rfl rfl)
theorem dL_law_542 : decode cL_law 542 = .ok (.if_icmp .eq 5, 3) := dk_159 0 5 (dk_at dksL_law_16 5 rfl rfl)
theorem dL_law_545 : decode cL_law 545 = .ok (.iconst 0, 1) := dk_3 (dk_at dksL_law_16 8 rfl rfl)
theorem dL_law_546 : decode cL_law 546 = .ok (.ireturn, 1) := dk_172 (dk_at dksL_law_16 9 rfl rfl)
theorem dL_law_547 : decode cL_law 547 = .ok (.iload 5, 2) := dk_21 5 (dk_at dksL_law_16 10 rfl rfl)
theorem dL_law_549 : decode cL_law 549 = .ok (.ifCond .ne 15, 3) := dk_154 0 15 (dk_at dksL_law_16 12 rfl rfl)
theorem dL_law_552 : decode cL_law 552 = .ok (.aload_n 3, 1) := dk_45 (dk_at dksL_law_16 15 rfl rfl)
theorem dL_law_553 : decode cL_law 553 = .ok (.iconst 0, 1) := dk_3 (dk_at dksL_law_16 16 rfl rfl)
theorem dL_law_554 : decode cL_law 554 = .ok (.laload, 1) := dk_47 (dk_at dksL_law_16 17 rfl rfl)
theorem dL_law_555 : decode cL_law 555 = .ok (.iload 6, 2) := dk_21 6 (dk_at dksL_law_16 18 rfl rfl)
theorem dL_law_557 : decode cL_law 557 = .ok (.i2l, 1) := dk_133 (dk_at dksL_law_16 20 rfl rfl)
theorem dL_law_558 : decode cL_law 558 = .ok (.lcmp, 1) := dk_148 (dk_at dksL_law_16 21 rfl rfl)
theorem dL_law_559 : decode cL_law 559 = .ok (.ifCond .eq 5, 3) := dk_153 0 5 (dk_at dksL_law_17 0 rfl rfl)
theorem dL_law_562 : decode cL_law 562 = .ok (.iconst 0, 1) := dk_3 (dk_at dksL_law_17 3 rfl rfl)
theorem dL_law_563 : decode cL_law 563 = .ok (.ireturn, 1) := dk_172 (dk_at dksL_law_17 4 rfl rfl)
theorem dL_law_564 : decode cL_law 564 = .ok (.goto 2281, 3) := dk_167 8 233 (dk_at dksL_law_17 5 rfl rfl)
theorem dL_law_567 : decode cL_law 567 = .ok (.aload_n 1, 1) := dk_43 (dk_at dksL_law_17 8 rfl rfl)
theorem dL_law_568 : decode cL_law 568 = .ok (.aload_n 0, 1) := dk_42 (dk_at dksL_law_17 9 rfl rfl)
theorem dL_law_569 : decode cL_law 569 = .ok (.iload 4, 2) := dk_21 4 (dk_at dksL_law_17 10 rfl rfl)
theorem dL_law_571 : decode cL_law 571 = .ok (.iconst 1, 1) := dk_4 (dk_at dksL_law_17 12 rfl rfl)
theorem dL_law_572 : decode cL_law 572 = .ok (.iadd, 1) := dk_96 (dk_at dksL_law_17 13 rfl rfl)
theorem dL_law_573 : decode cL_law 573 = .ok (.iaload, 1) := dk_46 (dk_at dksL_law_17 14 rfl rfl)
theorem dL_law_574 : decode cL_law 574 = .ok (.aload_n 0, 1) := dk_42 (dk_at dksL_law_17 15 rfl rfl)
theorem dL_law_575 : decode cL_law 575 = .ok (.iload 4, 2) := dk_21 4 (dk_at dksL_law_17 16 rfl rfl)
theorem dL_law_577 : decode cL_law 577 = .ok (.iconst 2, 1) := dk_5 (dk_at dksL_law_17 18 rfl rfl)
theorem dL_law_578 : decode cL_law 578 = .ok (.iadd, 1) := dk_96 (dk_at dksL_law_17 19 rfl rfl)
theorem dL_law_579 : decode cL_law 579 = .ok (.iaload, 1) := dk_46 (dk_at dksL_law_17 20 rfl rfl)
theorem dL_law_580 : decode cL_law 580 = .ok (.aload_n 3, 1) := dk_45 (dk_at dksL_law_17 21 rfl rfl)
theorem dL_law_581 : decode cL_law 581 = .ok (.invokestatic 165, 3) := dk_184 0 165 (dk_at dksL_law_18 0 rfl rfl)
theorem dL_law_584 : decode cL_law 584 = .ok (.istore 5, 2) := dk_54 5 (dk_at dksL_law_18 3 rfl rfl)
theorem dL_law_586 : decode cL_law 586 = .ok (.aload_n 2, 1) := dk_44 (dk_at dksL_law_18 5 rfl rfl)
theorem dL_law_587 : decode cL_law 587 = .ok (.aload_n 0, 1) := dk_42 (dk_at dksL_law_18 6 rfl rfl)
theorem dL_law_588 : decode cL_law 588 = .ok (.iload 4, 2) := dk_21 4 (dk_at dksL_law_18 7 rfl rfl)
theorem dL_law_590 : decode cL_law 590 = .ok (.iconst 1, 1) := dk_4 (dk_at dksL_law_18 9 rfl rfl)
theorem dL_law_591 : decode cL_law 591 = .ok (.iadd, 1) := dk_96 (dk_at dksL_law_18 10 rfl rfl)
theorem dL_law_592 : decode cL_law 592 = .ok (.iaload, 1) := dk_46 (dk_at dksL_law_18 11 rfl rfl)
theorem dL_law_593 : decode cL_law 593 = .ok (.aload_n 0, 1) := dk_42 (dk_at dksL_law_18 12 rfl rfl)
theorem dL_law_594 : decode cL_law 594 = .ok (.iload 4, 2) := dk_21 4 (dk_at dksL_law_18 13 rfl rfl)
theorem dL_law_596 : decode cL_law 596 = .ok (.iconst 2, 1) := dk_5 (dk_at dksL_law_18 15 rfl rfl)
theorem dL_law_597 : decode cL_law 597 = .ok (.iadd, 1) := dk_96 (dk_at dksL_law_18 16 rfl rfl)
theorem dL_law_598 : decode cL_law 598 = .ok (.iaload, 1) := dk_46 (dk_at dksL_law_18 17 rfl rfl)
theorem dL_law_599 : decode cL_law 599 = .ok (.invokevirtual 167, 3) := dk_182 0 167 (dk_at dksL_law_18 18 rfl rfl)
theorem dL_law_602 : decode cL_law 602 = .ok (.istore 6, 2) := dk_54 6 (dk_at dksL_law_18 21 rfl rfl)
theorem dL_law_604 : decode cL_law 604 = .ok (.aload_n 2, 1) := dk_44 (dk_at dksL_law_18 23 rfl rfl)
theorem dL_law_605 : decode cL_law 605 = .ok (.invokevirtual 148, 3) := dk_182 0 148 (dk_at dksL_law_19 0 rfl rfl)
theorem dL_law_608 : decode cL_law 608 = .ok (.iload 5, 2) := dk_21 5 (dk_at dksL_law_19 3 rfl rfl)
theorem dL_law_610 : decode cL_law 610 = .ok (.if_icmp .eq 5, 3) := dk_159 0 5 (dk_at dksL_law_19 5 rfl rfl)
theorem dL_law_613 : decode cL_law 613 = .ok (.iconst 0, 1) := dk_3 (dk_at dksL_law_19 8 rfl rfl)
theorem dL_law_614 : decode cL_law 614 = .ok (.ireturn, 1) := dk_172 (dk_at dksL_law_19 9 rfl rfl)
theorem dL_law_615 : decode cL_law 615 = .ok (.iload 5, 2) := dk_21 5 (dk_at dksL_law_19 10 rfl rfl)
theorem dL_law_617 : decode cL_law 617 = .ok (.ifCond .ne 15, 3) := dk_154 0 15 (dk_at dksL_law_19 12 rfl rfl)
theorem dL_law_620 : decode cL_law 620 = .ok (.aload_n 3, 1) := dk_45 (dk_at dksL_law_19 15 rfl rfl)
theorem dL_law_621 : decode cL_law 621 = .ok (.iconst 0, 1) := dk_3 (dk_at dksL_law_19 16 rfl rfl)
theorem dL_law_622 : decode cL_law 622 = .ok (.laload, 1) := dk_47 (dk_at dksL_law_19 17 rfl rfl)
theorem dL_law_623 : decode cL_law 623 = .ok (.iload 6, 2) := dk_21 6 (dk_at dksL_law_19 18 rfl rfl)
theorem dL_law_625 : decode cL_law 625 = .ok (.i2l, 1) := dk_133 (dk_at dksL_law_19 20 rfl rfl)
theorem dL_law_626 : decode cL_law 626 = .ok (.lcmp, 1) := dk_148 (dk_at dksL_law_19 21 rfl rfl)
theorem dL_law_627 : decode cL_law 627 = .ok (.ifCond .eq 5, 3) := dk_153 0 5 (dk_at dksL_law_20 0 rfl rfl)
theorem dL_law_630 : decode cL_law 630 = .ok (.iconst 0, 1) := dk_3 (dk_at dksL_law_20 3 rfl rfl)
theorem dL_law_631 : decode cL_law 631 = .ok (.ireturn, 1) := dk_172 (dk_at dksL_law_20 4 rfl rfl)
theorem dL_law_632 : decode cL_law 632 = .ok (.goto 2213, 3) := dk_167 8 165 (dk_at dksL_law_20 5 rfl rfl)
theorem dL_law_635 : decode cL_law 635 = .ok (.aload_n 1, 1) := dk_43 (dk_at dksL_law_20 8 rfl rfl)
theorem dL_law_636 : decode cL_law 636 = .ok (.aload_n 0, 1) := dk_42 (dk_at dksL_law_20 9 rfl rfl)
theorem dL_law_637 : decode cL_law 637 = .ok (.iload 4, 2) := dk_21 4 (dk_at dksL_law_20 10 rfl rfl)
theorem dL_law_639 : decode cL_law 639 = .ok (.iconst 1, 1) := dk_4 (dk_at dksL_law_20 12 rfl rfl)
theorem dL_law_640 : decode cL_law 640 = .ok (.iadd, 1) := dk_96 (dk_at dksL_law_20 13 rfl rfl)
theorem dL_law_641 : decode cL_law 641 = .ok (.iaload, 1) := dk_46 (dk_at dksL_law_20 14 rfl rfl)
theorem dL_law_642 : decode cL_law 642 = .ok (.aload_n 3, 1) := dk_45 (dk_at dksL_law_20 15 rfl rfl)
theorem dL_law_643 : decode cL_law 643 = .ok (.invokestatic 168, 3) := dk_184 0 168 (dk_at dksL_law_20 16 rfl rfl)
theorem dL_law_646 : decode cL_law 646 = .ok (.istore 5, 2) := dk_54 5 (dk_at dksL_law_20 19 rfl rfl)
theorem dL_law_648 : decode cL_law 648 = .ok (.aload_n 2, 1) := dk_44 (dk_at dksL_law_20 21 rfl rfl)
theorem dL_law_649 : decode cL_law 649 = .ok (.aload_n 0, 1) := dk_42 (dk_at dksL_law_20 22 rfl rfl)
theorem dL_law_650 : decode cL_law 650 = .ok (.iload 4, 2) := dk_21 4 (dk_at dksL_law_21 0 rfl rfl)
theorem dL_law_652 : decode cL_law 652 = .ok (.iconst 1, 1) := dk_4 (dk_at dksL_law_21 2 rfl rfl)
theorem dL_law_653 : decode cL_law 653 = .ok (.iadd, 1) := dk_96 (dk_at dksL_law_21 3 rfl rfl)
theorem dL_law_654 : decode cL_law 654 = .ok (.iaload, 1) := dk_46 (dk_at dksL_law_21 4 rfl rfl)
theorem dL_law_655 : decode cL_law 655 = .ok (.invokevirtual 171, 3) := dk_182 0 171 (dk_at dksL_law_21 5 rfl rfl)
theorem dL_law_658 : decode cL_law 658 = .ok (.istore 6, 2) := dk_54 6 (dk_at dksL_law_21 8 rfl rfl)
theorem dL_law_660 : decode cL_law 660 = .ok (.aload_n 2, 1) := dk_44 (dk_at dksL_law_21 10 rfl rfl)
theorem dL_law_661 : decode cL_law 661 = .ok (.invokevirtual 148, 3) := dk_182 0 148 (dk_at dksL_law_21 11 rfl rfl)
theorem dL_law_664 : decode cL_law 664 = .ok (.iload 5, 2) := dk_21 5 (dk_at dksL_law_21 14 rfl rfl)
theorem dL_law_666 : decode cL_law 666 = .ok (.if_icmp .eq 5, 3) := dk_159 0 5 (dk_at dksL_law_21 16 rfl rfl)
theorem dL_law_669 : decode cL_law 669 = .ok (.iconst 0, 1) := dk_3 (dk_at dksL_law_21 19 rfl rfl)
theorem dL_law_670 : decode cL_law 670 = .ok (.ireturn, 1) := dk_172 (dk_at dksL_law_21 20 rfl rfl)
theorem dL_law_671 : decode cL_law 671 = .ok (.iload 5, 2) := dk_21 5 (dk_at dksL_law_21 21 rfl rfl)
theorem dL_law_673 : decode cL_law 673 = .ok (.ifCond .ne 15, 3) := dk_154 0 15 (dk_at dksL_law_22 0 rfl rfl)
theorem dL_law_676 : decode cL_law 676 = .ok (.aload_n 3, 1) := dk_45 (dk_at dksL_law_22 3 rfl rfl)
theorem dL_law_677 : decode cL_law 677 = .ok (.iconst 0, 1) := dk_3 (dk_at dksL_law_22 4 rfl rfl)
theorem dL_law_678 : decode cL_law 678 = .ok (.laload, 1) := dk_47 (dk_at dksL_law_22 5 rfl rfl)
theorem dL_law_679 : decode cL_law 679 = .ok (.iload 6, 2) := dk_21 6 (dk_at dksL_law_22 6 rfl rfl)
theorem dL_law_681 : decode cL_law 681 = .ok (.i2l, 1) := dk_133 (dk_at dksL_law_22 8 rfl rfl)
theorem dL_law_682 : decode cL_law 682 = .ok (.lcmp, 1) := dk_148 (dk_at dksL_law_22 9 rfl rfl)
theorem dL_law_683 : decode cL_law 683 = .ok (.ifCond .eq 5, 3) := dk_153 0 5 (dk_at dksL_law_22 10 rfl rfl)
theorem dL_law_686 : decode cL_law 686 = .ok (.iconst 0, 1) := dk_3 (dk_at dksL_law_22 13 rfl rfl)
theorem dL_law_687 : decode cL_law 687 = .ok (.ireturn, 1) := dk_172 (dk_at dksL_law_22 14 rfl rfl)
theorem dL_law_688 : decode cL_law 688 = .ok (.goto 2157, 3) := dk_167 8 109 (dk_at dksL_law_22 15 rfl rfl)
theorem dL_law_691 : decode cL_law 691 = .ok (.aload_n 1, 1) := dk_43 (dk_at dksL_law_22 18 rfl rfl)
theorem dL_law_692 : decode cL_law 692 = .ok (.aload_n 0, 1) := dk_42 (dk_at dksL_law_22 19 rfl rfl)
theorem dL_law_693 : decode cL_law 693 = .ok (.iload 4, 2) := dk_21 4 (dk_at dksL_law_22 20 rfl rfl)
theorem dL_law_695 : decode cL_law 695 = .ok (.iconst 1, 1) := dk_4 (dk_at dksL_law_22 22 rfl rfl)
theorem dL_law_696 : decode cL_law 696 = .ok (.iadd, 1) := dk_96 (dk_at dksL_law_22 23 rfl rfl)
theorem dL_law_697 : decode cL_law 697 = .ok (.iaload, 1) := dk_46 (dk_at dksL_law_23 0 rfl rfl)
theorem dL_law_698 : decode cL_law 698 = .ok (.aload_n 0, 1) := dk_42 (dk_at dksL_law_23 1 rfl rfl)
theorem dL_law_699 : decode cL_law 699 = .ok (.iload 4, 2) := dk_21 4 (dk_at dksL_law_23 2 rfl rfl)
theorem dL_law_701 : decode cL_law 701 = .ok (.iconst 2, 1) := dk_5 (dk_at dksL_law_23 4 rfl rfl)
theorem dL_law_702 : decode cL_law 702 = .ok (.iadd, 1) := dk_96 (dk_at dksL_law_23 5 rfl rfl)
theorem dL_law_703 : decode cL_law 703 = .ok (.iaload, 1) := dk_46 (dk_at dksL_law_23 6 rfl rfl)
theorem dL_law_704 : decode cL_law 704 = .ok (.aload_n 0, 1) := dk_42 (dk_at dksL_law_23 7 rfl rfl)
theorem dL_law_705 : decode cL_law 705 = .ok (.iload 4, 2) := dk_21 4 (dk_at dksL_law_23 8 rfl rfl)
theorem dL_law_707 : decode cL_law 707 = .ok (.iconst 3, 1) := dk_6 (dk_at dksL_law_23 10 rfl rfl)
theorem dL_law_708 : decode cL_law 708 = .ok (.iadd, 1) := dk_96 (dk_at dksL_law_23 11 rfl rfl)
theorem dL_law_709 : decode cL_law 709 = .ok (.iaload, 1) := dk_46 (dk_at dksL_law_23 12 rfl rfl)
theorem dL_law_710 : decode cL_law 710 = .ok (.aload_n 0, 1) := dk_42 (dk_at dksL_law_23 13 rfl rfl)
theorem dL_law_711 : decode cL_law 711 = .ok (.iload 4, 2) := dk_21 4 (dk_at dksL_law_23 14 rfl rfl)
theorem dL_law_713 : decode cL_law 713 = .ok (.iconst 4, 1) := dk_7 (dk_at dksL_law_23 16 rfl rfl)
theorem dL_law_714 : decode cL_law 714 = .ok (.iadd, 1) := dk_96 (dk_at dksL_law_23 17 rfl rfl)
theorem dL_law_715 : decode cL_law 715 = .ok (.iaload, 1) := dk_46 (dk_at dksL_law_23 18 rfl rfl)
theorem dL_law_716 : decode cL_law 716 = .ok (.aload_n 0, 1) := dk_42 (dk_at dksL_law_23 19 rfl rfl)
theorem dL_law_717 : decode cL_law 717 = .ok (.iload 4, 2) := dk_21 4 (dk_at dksL_law_23 20 rfl rfl)
theorem dL_law_719 : decode cL_law 719 = .ok (.iconst 5, 1) := dk_8 (dk_at dksL_law_23 22 rfl rfl)
theorem dL_law_720 : decode cL_law 720 = .ok (.iadd, 1) := dk_96 (dk_at dksL_law_23 23 rfl rfl)
theorem dL_law_721 : decode cL_law 721 = .ok (.iaload, 1) := dk_46 (dk_at dksL_law_24 0 rfl rfl)
theorem dL_law_722 : decode cL_law 722 = .ok (.ifCond .eq 7, 3) := dk_153 0 7 (dk_at dksL_law_24 1 rfl rfl)
theorem dL_law_725 : decode cL_law 725 = .ok (.iconst 1, 1) := dk_4 (dk_at dksL_law_24 4 rfl rfl)
theorem dL_law_726 : decode cL_law 726 = .ok (.goto 4, 3) := dk_167 0 4 (dk_at dksL_law_24 5 rfl rfl)
theorem dL_law_729 : decode cL_law 729 = .ok (.iconst 0, 1) := dk_3 (dk_at dksL_law_24 8 rfl rfl)
theorem dL_law_730 : decode cL_law 730 = .ok (.aload_n 3, 1) := dk_45 (dk_at dksL_law_24 9 rfl rfl)
theorem dL_law_731 : decode cL_law 731 = .ok (.invokestatic 172, 3) := dk_184 0 172 (dk_at dksL_law_24 10 rfl rfl)
theorem dL_law_734 : decode cL_law 734 = .ok (.istore 5, 2) := dk_54 5 (dk_at dksL_law_24 13 rfl rfl)
theorem dL_law_736 : decode cL_law 736 = .ok (.aload_n 2, 1) := dk_44 (dk_at dksL_law_24 15 rfl rfl)
theorem dL_law_737 : decode cL_law 737 = .ok (.aload_n 0, 1) := dk_42 (dk_at dksL_law_24 16 rfl rfl)
theorem dL_law_738 : decode cL_law 738 = .ok (.iload 4, 2) := dk_21 4 (dk_at dksL_law_24 17 rfl rfl)
theorem dL_law_740 : decode cL_law 740 = .ok (.iconst 1, 1) := dk_4 (dk_at dksL_law_24 19 rfl rfl)
theorem dL_law_741 : decode cL_law 741 = .ok (.iadd, 1) := dk_96 (dk_at dksL_law_24 20 rfl rfl)
theorem dL_law_742 : decode cL_law 742 = .ok (.iaload, 1) := dk_46 (dk_at dksL_law_24 21 rfl rfl)
theorem dL_law_743 : decode cL_law 743 = .ok (.aload_n 0, 1) := dk_42 (dk_at dksL_law_24 22 rfl rfl)
theorem dL_law_744 : decode cL_law 744 = .ok (.iload 4, 2) := dk_21 4 (dk_at dksL_law_25 0 rfl rfl)
theorem dL_law_746 : decode cL_law 746 = .ok (.iconst 2, 1) := dk_5 (dk_at dksL_law_25 2 rfl rfl)
theorem dL_law_747 : decode cL_law 747 = .ok (.iadd, 1) := dk_96 (dk_at dksL_law_25 3 rfl rfl)
theorem dL_law_748 : decode cL_law 748 = .ok (.iaload, 1) := dk_46 (dk_at dksL_law_25 4 rfl rfl)
theorem dL_law_749 : decode cL_law 749 = .ok (.aload_n 0, 1) := dk_42 (dk_at dksL_law_25 5 rfl rfl)
theorem dL_law_750 : decode cL_law 750 = .ok (.iload 4, 2) := dk_21 4 (dk_at dksL_law_25 6 rfl rfl)
theorem dL_law_752 : decode cL_law 752 = .ok (.iconst 3, 1) := dk_6 (dk_at dksL_law_25 8 rfl rfl)
theorem dL_law_753 : decode cL_law 753 = .ok (.iadd, 1) := dk_96 (dk_at dksL_law_25 9 rfl rfl)
theorem dL_law_754 : decode cL_law 754 = .ok (.iaload, 1) := dk_46 (dk_at dksL_law_25 10 rfl rfl)
theorem dL_law_755 : decode cL_law 755 = .ok (.aload_n 0, 1) := dk_42 (dk_at dksL_law_25 11 rfl rfl)
theorem dL_law_756 : decode cL_law 756 = .ok (.iload 4, 2) := dk_21 4 (dk_at dksL_law_25 12 rfl rfl)
theorem dL_law_758 : decode cL_law 758 = .ok (.iconst 4, 1) := dk_7 (dk_at dksL_law_25 14 rfl rfl)
theorem dL_law_759 : decode cL_law 759 = .ok (.iadd, 1) := dk_96 (dk_at dksL_law_25 15 rfl rfl)
theorem dL_law_760 : decode cL_law 760 = .ok (.iaload, 1) := dk_46 (dk_at dksL_law_25 16 rfl rfl)
theorem dL_law_761 : decode cL_law 761 = .ok (.aload_n 0, 1) := dk_42 (dk_at dksL_law_25 17 rfl rfl)
theorem dL_law_762 : decode cL_law 762 = .ok (.iload 4, 2) := dk_21 4 (dk_at dksL_law_25 18 rfl rfl)
theorem dL_law_764 : decode cL_law 764 = .ok (.iconst 5, 1) := dk_8 (dk_at dksL_law_25 20 rfl rfl)
theorem dL_law_765 : decode cL_law 765 = .ok (.iadd, 1) := dk_96 (dk_at dksL_law_25 21 rfl rfl)
theorem dL_law_766 : decode cL_law 766 = .ok (.iaload, 1) := dk_46 (dk_at dksL_law_25 22 rfl rfl)
theorem dL_law_767 : decode cL_law 767 = .ok (.ifCond .eq 7, 3) := dk_153 0 7 (dk_at dksL_law_26 0 rfl rfl)
theorem dL_law_770 : decode cL_law 770 = .ok (.iconst 1, 1) := dk_4 (dk_at dksL_law_26 3 rfl rfl)
theorem dL_law_771 : decode cL_law 771 = .ok (.goto 4, 3) := dk_167 0 4 (dk_at dksL_law_26 4 rfl rfl)
theorem dL_law_774 : decode cL_law 774 = .ok (.iconst 0, 1) := dk_3 (dk_at dksL_law_26 7 rfl rfl)
theorem dL_law_775 : decode cL_law 775 = .ok (.invokevirtual 175, 3) := dk_182 0 175 (dk_at dksL_law_26 8 rfl rfl)
theorem dL_law_778 : decode cL_law 778 = .ok (.istore 6, 2) := dk_54 6 (dk_at dksL_law_26 11 rfl rfl)
theorem dL_law_780 : decode cL_law 780 = .ok (.aload_n 2, 1) := dk_44 (dk_at dksL_law_26 13 rfl rfl)
theorem dL_law_781 : decode cL_law 781 = .ok (.invokevirtual 148, 3) := dk_182 0 148 (dk_at dksL_law_26 14 rfl rfl)
theorem dL_law_784 : decode cL_law 784 = .ok (.iload 5, 2) := dk_21 5 (dk_at dksL_law_26 17 rfl rfl)
theorem dL_law_786 : decode cL_law 786 = .ok (.if_icmp .eq 5, 3) := dk_159 0 5 (dk_at dksL_law_26 19 rfl rfl)
theorem dL_law_789 : decode cL_law 789 = .ok (.iconst 0, 1) := dk_3 (dk_at dksL_law_26 22 rfl rfl)
theorem dL_law_790 : decode cL_law 790 = .ok (.ireturn, 1) := dk_172 (dk_at dksL_law_26 23 rfl rfl)
theorem dL_law_791 : decode cL_law 791 = .ok (.iload 5, 2) := dk_21 5 (dk_at dksL_law_27 0 rfl rfl)
theorem dL_law_793 : decode cL_law 793 = .ok (.ifCond .ne 15, 3) := dk_154 0 15 (dk_at dksL_law_27 2 rfl rfl)
theorem dL_law_796 : decode cL_law 796 = .ok (.aload_n 3, 1) := dk_45 (dk_at dksL_law_27 5 rfl rfl)
theorem dL_law_797 : decode cL_law 797 = .ok (.iconst 0, 1) := dk_3 (dk_at dksL_law_27 6 rfl rfl)
theorem dL_law_798 : decode cL_law 798 = .ok (.laload, 1) := dk_47 (dk_at dksL_law_27 7 rfl rfl)
theorem dL_law_799 : decode cL_law 799 = .ok (.iload 6, 2) := dk_21 6 (dk_at dksL_law_27 8 rfl rfl)
theorem dL_law_801 : decode cL_law 801 = .ok (.i2l, 1) := dk_133 (dk_at dksL_law_27 10 rfl rfl)
theorem dL_law_802 : decode cL_law 802 = .ok (.lcmp, 1) := dk_148 (dk_at dksL_law_27 11 rfl rfl)
theorem dL_law_803 : decode cL_law 803 = .ok (.ifCond .eq 5, 3) := dk_153 0 5 (dk_at dksL_law_27 12 rfl rfl)
theorem dL_law_806 : decode cL_law 806 = .ok (.iconst 0, 1) := dk_3 (dk_at dksL_law_27 15 rfl rfl)
theorem dL_law_807 : decode cL_law 807 = .ok (.ireturn, 1) := dk_172 (dk_at dksL_law_27 16 rfl rfl)
theorem dL_law_808 : decode cL_law 808 = .ok (.goto 2037, 3) := dk_167 7 245 (dk_at dksL_law_27 17 rfl rfl)
theorem dL_law_811 : decode cL_law 811 = .ok (.aload_n 1, 1) := dk_43 (dk_at dksL_law_27 20 rfl rfl)
theorem dL_law_812 : decode cL_law 812 = .ok (.aload_n 0, 1) := dk_42 (dk_at dksL_law_27 21 rfl rfl)
theorem dL_law_813 : decode cL_law 813 = .ok (.iload 4, 2) := dk_21 4 (dk_at dksL_law_27 22 rfl rfl)
theorem dL_law_815 : decode cL_law 815 = .ok (.iconst 1, 1) := dk_4 (dk_at dksL_law_28 0 rfl rfl)
theorem dL_law_816 : decode cL_law 816 = .ok (.iadd, 1) := dk_96 (dk_at dksL_law_28 1 rfl rfl)
theorem dL_law_817 : decode cL_law 817 = .ok (.iaload, 1) := dk_46 (dk_at dksL_law_28 2 rfl rfl)
theorem dL_law_818 : decode cL_law 818 = .ok (.aload_n 0, 1) := dk_42 (dk_at dksL_law_28 3 rfl rfl)
theorem dL_law_819 : decode cL_law 819 = .ok (.iload 4, 2) := dk_21 4 (dk_at dksL_law_28 4 rfl rfl)
theorem dL_law_821 : decode cL_law 821 = .ok (.iconst 2, 1) := dk_5 (dk_at dksL_law_28 6 rfl rfl)
theorem dL_law_822 : decode cL_law 822 = .ok (.iadd, 1) := dk_96 (dk_at dksL_law_28 7 rfl rfl)
theorem dL_law_823 : decode cL_law 823 = .ok (.iaload, 1) := dk_46 (dk_at dksL_law_28 8 rfl rfl)
theorem dL_law_824 : decode cL_law 824 = .ok (.aload_n 0, 1) := dk_42 (dk_at dksL_law_28 9 rfl rfl)
theorem dL_law_825 : decode cL_law 825 = .ok (.iload 4, 2) := dk_21 4 (dk_at dksL_law_28 10 rfl rfl)
theorem dL_law_827 : decode cL_law 827 = .ok (.iconst 3, 1) := dk_6 (dk_at dksL_law_28 12 rfl rfl)
theorem dL_law_828 : decode cL_law 828 = .ok (.iadd, 1) := dk_96 (dk_at dksL_law_28 13 rfl rfl)
theorem dL_law_829 : decode cL_law 829 = .ok (.iaload, 1) := dk_46 (dk_at dksL_law_28 14 rfl rfl)
theorem dL_law_830 : decode cL_law 830 = .ok (.aload_n 3, 1) := dk_45 (dk_at dksL_law_28 15 rfl rfl)
theorem dL_law_831 : decode cL_law 831 = .ok (.invokestatic 176, 3) := dk_184 0 176 (dk_at dksL_law_28 16 rfl rfl)
theorem dL_law_834 : decode cL_law 834 = .ok (.istore 5, 2) := dk_54 5 (dk_at dksL_law_28 19 rfl rfl)
theorem dL_law_836 : decode cL_law 836 = .ok (.aload_n 2, 1) := dk_44 (dk_at dksL_law_28 21 rfl rfl)
theorem dL_law_837 : decode cL_law 837 = .ok (.aload_n 0, 1) := dk_42 (dk_at dksL_law_28 22 rfl rfl)
theorem dL_law_838 : decode cL_law 838 = .ok (.iload 4, 2) := dk_21 4 (dk_at dksL_law_29 0 rfl rfl)
theorem dL_law_840 : decode cL_law 840 = .ok (.iconst 1, 1) := dk_4 (dk_at dksL_law_29 2 rfl rfl)
theorem dL_law_841 : decode cL_law 841 = .ok (.iadd, 1) := dk_96 (dk_at dksL_law_29 3 rfl rfl)
theorem dL_law_842 : decode cL_law 842 = .ok (.iaload, 1) := dk_46 (dk_at dksL_law_29 4 rfl rfl)
theorem dL_law_843 : decode cL_law 843 = .ok (.aload_n 0, 1) := dk_42 (dk_at dksL_law_29 5 rfl rfl)
theorem dL_law_844 : decode cL_law 844 = .ok (.iload 4, 2) := dk_21 4 (dk_at dksL_law_29 6 rfl rfl)
theorem dL_law_846 : decode cL_law 846 = .ok (.iconst 2, 1) := dk_5 (dk_at dksL_law_29 8 rfl rfl)
theorem dL_law_847 : decode cL_law 847 = .ok (.iadd, 1) := dk_96 (dk_at dksL_law_29 9 rfl rfl)
theorem dL_law_848 : decode cL_law 848 = .ok (.iaload, 1) := dk_46 (dk_at dksL_law_29 10 rfl rfl)
theorem dL_law_849 : decode cL_law 849 = .ok (.aload_n 0, 1) := dk_42 (dk_at dksL_law_29 11 rfl rfl)
theorem dL_law_850 : decode cL_law 850 = .ok (.iload 4, 2) := dk_21 4 (dk_at dksL_law_29 12 rfl rfl)
theorem dL_law_852 : decode cL_law 852 = .ok (.iconst 3, 1) := dk_6 (dk_at dksL_law_29 14 rfl rfl)
theorem dL_law_853 : decode cL_law 853 = .ok (.iadd, 1) := dk_96 (dk_at dksL_law_29 15 rfl rfl)
theorem dL_law_854 : decode cL_law 854 = .ok (.iaload, 1) := dk_46 (dk_at dksL_law_29 16 rfl rfl)
theorem dL_law_855 : decode cL_law 855 = .ok (.invokevirtual 179, 3) := dk_182 0 179 (dk_at dksL_law_29 17 rfl rfl)
theorem dL_law_858 : decode cL_law 858 = .ok (.istore 6, 2) := dk_54 6 (dk_at dksL_law_29 20 rfl rfl)
theorem dL_law_860 : decode cL_law 860 = .ok (.aload_n 2, 1) := dk_44 (dk_at dksL_law_29 22 rfl rfl)
theorem dL_law_861 : decode cL_law 861 = .ok (.invokevirtual 148, 3) := dk_182 0 148 (dk_at dksL_law_30 0 rfl rfl)
theorem dL_law_864 : decode cL_law 864 = .ok (.iload 5, 2) := dk_21 5 (dk_at dksL_law_30 3 rfl rfl)
theorem dL_law_866 : decode cL_law 866 = .ok (.if_icmp .eq 5, 3) := dk_159 0 5 (dk_at dksL_law_30 5 rfl rfl)
theorem dL_law_869 : decode cL_law 869 = .ok (.iconst 0, 1) := dk_3 (dk_at dksL_law_30 8 rfl rfl)
theorem dL_law_870 : decode cL_law 870 = .ok (.ireturn, 1) := dk_172 (dk_at dksL_law_30 9 rfl rfl)
theorem dL_law_871 : decode cL_law 871 = .ok (.iload 5, 2) := dk_21 5 (dk_at dksL_law_30 10 rfl rfl)
theorem dL_law_873 : decode cL_law 873 = .ok (.ifCond .ne 15, 3) := dk_154 0 15 (dk_at dksL_law_30 12 rfl rfl)
theorem dL_law_876 : decode cL_law 876 = .ok (.aload_n 3, 1) := dk_45 (dk_at dksL_law_30 15 rfl rfl)
theorem dL_law_877 : decode cL_law 877 = .ok (.iconst 0, 1) := dk_3 (dk_at dksL_law_30 16 rfl rfl)
theorem dL_law_878 : decode cL_law 878 = .ok (.laload, 1) := dk_47 (dk_at dksL_law_30 17 rfl rfl)
theorem dL_law_879 : decode cL_law 879 = .ok (.iload 6, 2) := dk_21 6 (dk_at dksL_law_30 18 rfl rfl)
theorem dL_law_881 : decode cL_law 881 = .ok (.i2l, 1) := dk_133 (dk_at dksL_law_30 20 rfl rfl)
theorem dL_law_882 : decode cL_law 882 = .ok (.lcmp, 1) := dk_148 (dk_at dksL_law_30 21 rfl rfl)
theorem dL_law_883 : decode cL_law 883 = .ok (.ifCond .eq 5, 3) := dk_153 0 5 (dk_at dksL_law_31 0 rfl rfl)
theorem dL_law_886 : decode cL_law 886 = .ok (.iconst 0, 1) := dk_3 (dk_at dksL_law_31 3 rfl rfl)
theorem dL_law_887 : decode cL_law 887 = .ok (.ireturn, 1) := dk_172 (dk_at dksL_law_31 4 rfl rfl)
theorem dL_law_888 : decode cL_law 888 = .ok (.goto 1957, 3) := dk_167 7 165 (dk_at dksL_law_31 5 rfl rfl)
theorem dL_law_891 : decode cL_law 891 = .ok (.aload_n 1, 1) := dk_43 (dk_at dksL_law_31 8 rfl rfl)
theorem dL_law_892 : decode cL_law 892 = .ok (.aload_n 0, 1) := dk_42 (dk_at dksL_law_31 9 rfl rfl)
theorem dL_law_893 : decode cL_law 893 = .ok (.iload 4, 2) := dk_21 4 (dk_at dksL_law_31 10 rfl rfl)
theorem dL_law_895 : decode cL_law 895 = .ok (.iconst 1, 1) := dk_4 (dk_at dksL_law_31 12 rfl rfl)
theorem dL_law_896 : decode cL_law 896 = .ok (.iadd, 1) := dk_96 (dk_at dksL_law_31 13 rfl rfl)
theorem dL_law_897 : decode cL_law 897 = .ok (.iaload, 1) := dk_46 (dk_at dksL_law_31 14 rfl rfl)
theorem dL_law_898 : decode cL_law 898 = .ok (.aload_n 3, 1) := dk_45 (dk_at dksL_law_31 15 rfl rfl)
theorem dL_law_899 : decode cL_law 899 = .ok (.invokestatic 180, 3) := dk_184 0 180 (dk_at dksL_law_31 16 rfl rfl)
theorem dL_law_902 : decode cL_law 902 = .ok (.istore 5, 2) := dk_54 5 (dk_at dksL_law_31 19 rfl rfl)
theorem dL_law_904 : decode cL_law 904 = .ok (.aload_n 2, 1) := dk_44 (dk_at dksL_law_31 21 rfl rfl)
theorem dL_law_905 : decode cL_law 905 = .ok (.aload_n 0, 1) := dk_42 (dk_at dksL_law_31 22 rfl rfl)
theorem dL_law_906 : decode cL_law 906 = .ok (.iload 4, 2) := dk_21 4 (dk_at dksL_law_32 0 rfl rfl)
theorem dL_law_908 : decode cL_law 908 = .ok (.iconst 1, 1) := dk_4 (dk_at dksL_law_32 2 rfl rfl)
theorem dL_law_909 : decode cL_law 909 = .ok (.iadd, 1) := dk_96 (dk_at dksL_law_32 3 rfl rfl)
theorem dL_law_910 : decode cL_law 910 = .ok (.iaload, 1) := dk_46 (dk_at dksL_law_32 4 rfl rfl)
theorem dL_law_911 : decode cL_law 911 = .ok (.invokevirtual 182, 3) := dk_182 0 182 (dk_at dksL_law_32 5 rfl rfl)
theorem dL_law_914 : decode cL_law 914 = .ok (.istore 6, 2) := dk_54 6 (dk_at dksL_law_32 8 rfl rfl)
theorem dL_law_916 : decode cL_law 916 = .ok (.aload_n 2, 1) := dk_44 (dk_at dksL_law_32 10 rfl rfl)
theorem dL_law_917 : decode cL_law 917 = .ok (.invokevirtual 148, 3) := dk_182 0 148 (dk_at dksL_law_32 11 rfl rfl)
theorem dL_law_920 : decode cL_law 920 = .ok (.iload 5, 2) := dk_21 5 (dk_at dksL_law_32 14 rfl rfl)
theorem dL_law_922 : decode cL_law 922 = .ok (.if_icmp .eq 5, 3) := dk_159 0 5 (dk_at dksL_law_32 16 rfl rfl)
theorem dL_law_925 : decode cL_law 925 = .ok (.iconst 0, 1) := dk_3 (dk_at dksL_law_32 19 rfl rfl)
theorem dL_law_926 : decode cL_law 926 = .ok (.ireturn, 1) := dk_172 (dk_at dksL_law_32 20 rfl rfl)
theorem dL_law_927 : decode cL_law 927 = .ok (.iload 5, 2) := dk_21 5 (dk_at dksL_law_32 21 rfl rfl)
theorem dL_law_929 : decode cL_law 929 = .ok (.ifCond .ne 15, 3) := dk_154 0 15 (dk_at dksL_law_33 0 rfl rfl)
theorem dL_law_932 : decode cL_law 932 = .ok (.aload_n 3, 1) := dk_45 (dk_at dksL_law_33 3 rfl rfl)
theorem dL_law_933 : decode cL_law 933 = .ok (.iconst 0, 1) := dk_3 (dk_at dksL_law_33 4 rfl rfl)
theorem dL_law_934 : decode cL_law 934 = .ok (.laload, 1) := dk_47 (dk_at dksL_law_33 5 rfl rfl)
theorem dL_law_935 : decode cL_law 935 = .ok (.iload 6, 2) := dk_21 6 (dk_at dksL_law_33 6 rfl rfl)
theorem dL_law_937 : decode cL_law 937 = .ok (.i2l, 1) := dk_133 (dk_at dksL_law_33 8 rfl rfl)
theorem dL_law_938 : decode cL_law 938 = .ok (.lcmp, 1) := dk_148 (dk_at dksL_law_33 9 rfl rfl)
theorem dL_law_939 : decode cL_law 939 = .ok (.ifCond .eq 5, 3) := dk_153 0 5 (dk_at dksL_law_33 10 rfl rfl)
theorem dL_law_942 : decode cL_law 942 = .ok (.iconst 0, 1) := dk_3 (dk_at dksL_law_33 13 rfl rfl)
theorem dL_law_943 : decode cL_law 943 = .ok (.ireturn, 1) := dk_172 (dk_at dksL_law_33 14 rfl rfl)
theorem dL_law_944 : decode cL_law 944 = .ok (.goto 1901, 3) := dk_167 7 109 (dk_at dksL_law_33 15 rfl rfl)
theorem dL_law_947 : decode cL_law 947 = .ok (.aload_n 1, 1) := dk_43 (dk_at dksL_law_33 18 rfl rfl)
theorem dL_law_948 : decode cL_law 948 = .ok (.aload_n 0, 1) := dk_42 (dk_at dksL_law_33 19 rfl rfl)
theorem dL_law_949 : decode cL_law 949 = .ok (.iload 4, 2) := dk_21 4 (dk_at dksL_law_33 20 rfl rfl)
theorem dL_law_951 : decode cL_law 951 = .ok (.iconst 1, 1) := dk_4 (dk_at dksL_law_33 22 rfl rfl)
theorem dL_law_952 : decode cL_law 952 = .ok (.iadd, 1) := dk_96 (dk_at dksL_law_33 23 rfl rfl)
theorem dL_law_953 : decode cL_law 953 = .ok (.iaload, 1) := dk_46 (dk_at dksL_law_34 0 rfl rfl)
theorem dL_law_954 : decode cL_law 954 = .ok (.aload_n 0, 1) := dk_42 (dk_at dksL_law_34 1 rfl rfl)
theorem dL_law_955 : decode cL_law 955 = .ok (.iload 4, 2) := dk_21 4 (dk_at dksL_law_34 2 rfl rfl)
theorem dL_law_957 : decode cL_law 957 = .ok (.iconst 2, 1) := dk_5 (dk_at dksL_law_34 4 rfl rfl)
theorem dL_law_958 : decode cL_law 958 = .ok (.iadd, 1) := dk_96 (dk_at dksL_law_34 5 rfl rfl)
theorem dL_law_959 : decode cL_law 959 = .ok (.iaload, 1) := dk_46 (dk_at dksL_law_34 6 rfl rfl)
theorem dL_law_960 : decode cL_law 960 = .ok (.aload_n 3, 1) := dk_45 (dk_at dksL_law_34 7 rfl rfl)
theorem dL_law_961 : decode cL_law 961 = .ok (.invokestatic 183, 3) := dk_184 0 183 (dk_at dksL_law_34 8 rfl rfl)
theorem dL_law_964 : decode cL_law 964 = .ok (.istore 5, 2) := dk_54 5 (dk_at dksL_law_34 11 rfl rfl)
theorem dL_law_966 : decode cL_law 966 = .ok (.aload_n 2, 1) := dk_44 (dk_at dksL_law_34 13 rfl rfl)
theorem dL_law_967 : decode cL_law 967 = .ok (.aload_n 0, 1) := dk_42 (dk_at dksL_law_34 14 rfl rfl)
theorem dL_law_968 : decode cL_law 968 = .ok (.iload 4, 2) := dk_21 4 (dk_at dksL_law_34 15 rfl rfl)
theorem dL_law_970 : decode cL_law 970 = .ok (.iconst 1, 1) := dk_4 (dk_at dksL_law_34 17 rfl rfl)
theorem dL_law_971 : decode cL_law 971 = .ok (.iadd, 1) := dk_96 (dk_at dksL_law_34 18 rfl rfl)
theorem dL_law_972 : decode cL_law 972 = .ok (.iaload, 1) := dk_46 (dk_at dksL_law_34 19 rfl rfl)
theorem dL_law_973 : decode cL_law 973 = .ok (.aload_n 0, 1) := dk_42 (dk_at dksL_law_34 20 rfl rfl)
theorem dL_law_974 : decode cL_law 974 = .ok (.iload 4, 2) := dk_21 4 (dk_at dksL_law_34 21 rfl rfl)
theorem dL_law_976 : decode cL_law 976 = .ok (.iconst 2, 1) := dk_5 (dk_at dksL_law_34 23 rfl rfl)
theorem dL_law_977 : decode cL_law 977 = .ok (.iadd, 1) := dk_96 (dk_at dksL_law_35 0 rfl rfl)
theorem dL_law_978 : decode cL_law 978 = .ok (.iaload, 1) := dk_46 (dk_at dksL_law_35 1 rfl rfl)
theorem dL_law_979 : decode cL_law 979 = .ok (.invokevirtual 185, 3) := dk_182 0 185 (dk_at dksL_law_35 2 rfl rfl)
theorem dL_law_982 : decode cL_law 982 = .ok (.istore 6, 2) := dk_54 6 (dk_at dksL_law_35 5 rfl rfl)
theorem dL_law_984 : decode cL_law 984 = .ok (.aload_n 2, 1) := dk_44 (dk_at dksL_law_35 7 rfl rfl)
theorem dL_law_985 : decode cL_law 985 = .ok (.invokevirtual 148, 3) := dk_182 0 148 (dk_at dksL_law_35 8 rfl rfl)
theorem dL_law_988 : decode cL_law 988 = .ok (.iload 5, 2) := dk_21 5 (dk_at dksL_law_35 11 rfl rfl)
theorem dL_law_990 : decode cL_law 990 = .ok (.if_icmp .eq 5, 3) := dk_159 0 5 (dk_at dksL_law_35 13 rfl rfl)
theorem dL_law_993 : decode cL_law 993 = .ok (.iconst 0, 1) := dk_3 (dk_at dksL_law_35 16 rfl rfl)
theorem dL_law_994 : decode cL_law 994 = .ok (.ireturn, 1) := dk_172 (dk_at dksL_law_35 17 rfl rfl)
theorem dL_law_995 : decode cL_law 995 = .ok (.iload 5, 2) := dk_21 5 (dk_at dksL_law_35 18 rfl rfl)
theorem dL_law_997 : decode cL_law 997 = .ok (.ifCond .ne 15, 3) := dk_154 0 15 (dk_at dksL_law_35 20 rfl rfl)
theorem dL_law_1000 : decode cL_law 1000 = .ok (.aload_n 3, 1) := dk_45 (dk_at dksL_law_35 23 rfl rfl)
theorem dL_law_1001 : decode cL_law 1001 = .ok (.iconst 0, 1) := dk_3 (dk_at dksL_law_36 0 rfl rfl)
theorem dL_law_1002 : decode cL_law 1002 = .ok (.laload, 1) := dk_47 (dk_at dksL_law_36 1 rfl rfl)
theorem dL_law_1003 : decode cL_law 1003 = .ok (.iload 6, 2) := dk_21 6 (dk_at dksL_law_36 2 rfl rfl)
theorem dL_law_1005 : decode cL_law 1005 = .ok (.i2l, 1) := dk_133 (dk_at dksL_law_36 4 rfl rfl)
theorem dL_law_1006 : decode cL_law 1006 = .ok (.lcmp, 1) := dk_148 (dk_at dksL_law_36 5 rfl rfl)
theorem dL_law_1007 : decode cL_law 1007 = .ok (.ifCond .eq 5, 3) := dk_153 0 5 (dk_at dksL_law_36 6 rfl rfl)
theorem dL_law_1010 : decode cL_law 1010 = .ok (.iconst 0, 1) := dk_3 (dk_at dksL_law_36 9 rfl rfl)
theorem dL_law_1011 : decode cL_law 1011 = .ok (.ireturn, 1) := dk_172 (dk_at dksL_law_36 10 rfl rfl)
theorem dL_law_1012 : decode cL_law 1012 = .ok (.goto 1833, 3) := dk_167 7 41 (dk_at dksL_law_36 11 rfl rfl)
theorem dL_law_1015 : decode cL_law 1015 = .ok (.aload_n 1, 1) := dk_43 (dk_at dksL_law_36 14 rfl rfl)
theorem dL_law_1016 : decode cL_law 1016 = .ok (.aload_n 0, 1) := dk_42 (dk_at dksL_law_36 15 rfl rfl)
theorem dL_law_1017 : decode cL_law 1017 = .ok (.iload 4, 2) := dk_21 4 (dk_at dksL_law_36 16 rfl rfl)
theorem dL_law_1019 : decode cL_law 1019 = .ok (.iconst 1, 1) := dk_4 (dk_at dksL_law_36 18 rfl rfl)
theorem dL_law_1020 : decode cL_law 1020 = .ok (.iadd, 1) := dk_96 (dk_at dksL_law_36 19 rfl rfl)
theorem dL_law_1021 : decode cL_law 1021 = .ok (.iaload, 1) := dk_46 (dk_at dksL_law_36 20 rfl rfl)
theorem dL_law_1022 : decode cL_law 1022 = .ok (.aload_n 0, 1) := dk_42 (dk_at dksL_law_36 21 rfl rfl)
theorem dL_law_1023 : decode cL_law 1023 = .ok (.iload 4, 2) := dk_21 4 (dk_at dksL_law_36 22 rfl rfl)
theorem dL_law_1025 : decode cL_law 1025 = .ok (.iconst 2, 1) := dk_5 (dk_at dksL_law_37 0 rfl rfl)
theorem dL_law_1026 : decode cL_law 1026 = .ok (.iadd, 1) := dk_96 (dk_at dksL_law_37 1 rfl rfl)
theorem dL_law_1027 : decode cL_law 1027 = .ok (.iaload, 1) := dk_46 (dk_at dksL_law_37 2 rfl rfl)
theorem dL_law_1028 : decode cL_law 1028 = .ok (.aload_n 0, 1) := dk_42 (dk_at dksL_law_37 3 rfl rfl)
theorem dL_law_1029 : decode cL_law 1029 = .ok (.iload 4, 2) := dk_21 4 (dk_at dksL_law_37 4 rfl rfl)
theorem dL_law_1031 : decode cL_law 1031 = .ok (.iconst 3, 1) := dk_6 (dk_at dksL_law_37 6 rfl rfl)
theorem dL_law_1032 : decode cL_law 1032 = .ok (.iadd, 1) := dk_96 (dk_at dksL_law_37 7 rfl rfl)
theorem dL_law_1033 : decode cL_law 1033 = .ok (.iaload, 1) := dk_46 (dk_at dksL_law_37 8 rfl rfl)
theorem dL_law_1034 : decode cL_law 1034 = .ok (.aload_n 0, 1) := dk_42 (dk_at dksL_law_37 9 rfl rfl)
theorem dL_law_1035 : decode cL_law 1035 = .ok (.iload 4, 2) := dk_21 4 (dk_at dksL_law_37 10 rfl rfl)
theorem dL_law_1037 : decode cL_law 1037 = .ok (.iconst 4, 1) := dk_7 (dk_at dksL_law_37 12 rfl rfl)
theorem dL_law_1038 : decode cL_law 1038 = .ok (.iadd, 1) := dk_96 (dk_at dksL_law_37 13 rfl rfl)
theorem dL_law_1039 : decode cL_law 1039 = .ok (.iaload, 1) := dk_46 (dk_at dksL_law_37 14 rfl rfl)
theorem dL_law_1040 : decode cL_law 1040 = .ok (.aload_n 3, 1) := dk_45 (dk_at dksL_law_37 15 rfl rfl)
theorem dL_law_1041 : decode cL_law 1041 = .ok (.invokestatic 186, 3) := dk_184 0 186 (dk_at dksL_law_37 16 rfl rfl)
theorem dL_law_1044 : decode cL_law 1044 = .ok (.istore 5, 2) := dk_54 5 (dk_at dksL_law_37 19 rfl rfl)
theorem dL_law_1046 : decode cL_law 1046 = .ok (.aload_n 2, 1) := dk_44 (dk_at dksL_law_37 21 rfl rfl)
theorem dL_law_1047 : decode cL_law 1047 = .ok (.aload_n 0, 1) := dk_42 (dk_at dksL_law_37 22 rfl rfl)
theorem dL_law_1048 : decode cL_law 1048 = .ok (.iload 4, 2) := dk_21 4 (dk_at dksL_law_38 0 rfl rfl)
theorem dL_law_1050 : decode cL_law 1050 = .ok (.iconst 1, 1) := dk_4 (dk_at dksL_law_38 2 rfl rfl)
theorem dL_law_1051 : decode cL_law 1051 = .ok (.iadd, 1) := dk_96 (dk_at dksL_law_38 3 rfl rfl)
theorem dL_law_1052 : decode cL_law 1052 = .ok (.iaload, 1) := dk_46 (dk_at dksL_law_38 4 rfl rfl)
theorem dL_law_1053 : decode cL_law 1053 = .ok (.aload_n 0, 1) := dk_42 (dk_at dksL_law_38 5 rfl rfl)
theorem dL_law_1054 : decode cL_law 1054 = .ok (.iload 4, 2) := dk_21 4 (dk_at dksL_law_38 6 rfl rfl)
theorem dL_law_1056 : decode cL_law 1056 = .ok (.iconst 2, 1) := dk_5 (dk_at dksL_law_38 8 rfl rfl)
theorem dL_law_1057 : decode cL_law 1057 = .ok (.iadd, 1) := dk_96 (dk_at dksL_law_38 9 rfl rfl)
theorem dL_law_1058 : decode cL_law 1058 = .ok (.iaload, 1) := dk_46 (dk_at dksL_law_38 10 rfl rfl)
theorem dL_law_1059 : decode cL_law 1059 = .ok (.aload_n 0, 1) := dk_42 (dk_at dksL_law_38 11 rfl rfl)
theorem dL_law_1060 : decode cL_law 1060 = .ok (.iload 4, 2) := dk_21 4 (dk_at dksL_law_38 12 rfl rfl)
theorem dL_law_1062 : decode cL_law 1062 = .ok (.iconst 3, 1) := dk_6 (dk_at dksL_law_38 14 rfl rfl)
theorem dL_law_1063 : decode cL_law 1063 = .ok (.iadd, 1) := dk_96 (dk_at dksL_law_38 15 rfl rfl)
theorem dL_law_1064 : decode cL_law 1064 = .ok (.iaload, 1) := dk_46 (dk_at dksL_law_38 16 rfl rfl)
theorem dL_law_1065 : decode cL_law 1065 = .ok (.aload_n 0, 1) := dk_42 (dk_at dksL_law_38 17 rfl rfl)
theorem dL_law_1066 : decode cL_law 1066 = .ok (.iload 4, 2) := dk_21 4 (dk_at dksL_law_38 18 rfl rfl)
theorem dL_law_1068 : decode cL_law 1068 = .ok (.iconst 4, 1) := dk_7 (dk_at dksL_law_38 20 rfl rfl)
theorem dL_law_1069 : decode cL_law 1069 = .ok (.iadd, 1) := dk_96 (dk_at dksL_law_38 21 rfl rfl)
theorem dL_law_1070 : decode cL_law 1070 = .ok (.iaload, 1) := dk_46 (dk_at dksL_law_38 22 rfl rfl)
theorem dL_law_1071 : decode cL_law 1071 = .ok (.invokevirtual 189, 3) := dk_182 0 189 (dk_at dksL_law_39 0 rfl rfl)
theorem dL_law_1074 : decode cL_law 1074 = .ok (.istore 6, 2) := dk_54 6 (dk_at dksL_law_39 3 rfl rfl)
theorem dL_law_1076 : decode cL_law 1076 = .ok (.aload_n 2, 1) := dk_44 (dk_at dksL_law_39 5 rfl rfl)
theorem dL_law_1077 : decode cL_law 1077 = .ok (.invokevirtual 148, 3) := dk_182 0 148 (dk_at dksL_law_39 6 rfl rfl)
theorem dL_law_1080 : decode cL_law 1080 = .ok (.iload 5, 2) := dk_21 5 (dk_at dksL_law_39 9 rfl rfl)
theorem dL_law_1082 : decode cL_law 1082 = .ok (.if_icmp .eq 5, 3) := dk_159 0 5 (dk_at dksL_law_39 11 rfl rfl)
theorem dL_law_1085 : decode cL_law 1085 = .ok (.iconst 0, 1) := dk_3 (dk_at dksL_law_39 14 rfl rfl)
theorem dL_law_1086 : decode cL_law 1086 = .ok (.ireturn, 1) := dk_172 (dk_at dksL_law_39 15 rfl rfl)
theorem dL_law_1087 : decode cL_law 1087 = .ok (.iload 5, 2) := dk_21 5 (dk_at dksL_law_39 16 rfl rfl)
theorem dL_law_1089 : decode cL_law 1089 = .ok (.ifCond .ne 15, 3) := dk_154 0 15 (dk_at dksL_law_39 18 rfl rfl)
theorem dL_law_1092 : decode cL_law 1092 = .ok (.aload_n 3, 1) := dk_45 (dk_at dksL_law_39 21 rfl rfl)
theorem dL_law_1093 : decode cL_law 1093 = .ok (.iconst 0, 1) := dk_3 (dk_at dksL_law_39 22 rfl rfl)
theorem dL_law_1094 : decode cL_law 1094 = .ok (.laload, 1) := dk_47 (dk_at dksL_law_39 23 rfl rfl)
theorem dL_law_1095 : decode cL_law 1095 = .ok (.iload 6, 2) := dk_21 6 (dk_at dksL_law_40 0 rfl rfl)
theorem dL_law_1097 : decode cL_law 1097 = .ok (.i2l, 1) := dk_133 (dk_at dksL_law_40 2 rfl rfl)
theorem dL_law_1098 : decode cL_law 1098 = .ok (.lcmp, 1) := dk_148 (dk_at dksL_law_40 3 rfl rfl)
theorem dL_law_1099 : decode cL_law 1099 = .ok (.ifCond .eq 5, 3) := dk_153 0 5 (dk_at dksL_law_40 4 rfl rfl)
theorem dL_law_1102 : decode cL_law 1102 = .ok (.iconst 0, 1) := dk_3 (dk_at dksL_law_40 7 rfl rfl)
theorem dL_law_1103 : decode cL_law 1103 = .ok (.ireturn, 1) := dk_172 (dk_at dksL_law_40 8 rfl rfl)
theorem dL_law_1104 : decode cL_law 1104 = .ok (.goto 1741, 3) := dk_167 6 205 (dk_at dksL_law_40 9 rfl rfl)
theorem dL_law_1107 : decode cL_law 1107 = .ok (.aload_n 1, 1) := dk_43 (dk_at dksL_law_40 12 rfl rfl)
theorem dL_law_1108 : decode cL_law 1108 = .ok (.aload_n 0, 1) := dk_42 (dk_at dksL_law_40 13 rfl rfl)
theorem dL_law_1109 : decode cL_law 1109 = .ok (.iload 4, 2) := dk_21 4 (dk_at dksL_law_40 14 rfl rfl)
theorem dL_law_1111 : decode cL_law 1111 = .ok (.iconst 1, 1) := dk_4 (dk_at dksL_law_40 16 rfl rfl)
theorem dL_law_1112 : decode cL_law 1112 = .ok (.iadd, 1) := dk_96 (dk_at dksL_law_40 17 rfl rfl)
theorem dL_law_1113 : decode cL_law 1113 = .ok (.iaload, 1) := dk_46 (dk_at dksL_law_40 18 rfl rfl)
theorem dL_law_1114 : decode cL_law 1114 = .ok (.aload_n 3, 1) := dk_45 (dk_at dksL_law_40 19 rfl rfl)
theorem dL_law_1115 : decode cL_law 1115 = .ok (.invokestatic 190, 3) := dk_184 0 190 (dk_at dksL_law_40 20 rfl rfl)
theorem dL_law_1118 : decode cL_law 1118 = .ok (.istore 5, 2) := dk_54 5 (dk_at dksL_law_41 0 rfl rfl)
theorem dL_law_1120 : decode cL_law 1120 = .ok (.aload_n 2, 1) := dk_44 (dk_at dksL_law_41 2 rfl rfl)
theorem dL_law_1121 : decode cL_law 1121 = .ok (.aload_n 0, 1) := dk_42 (dk_at dksL_law_41 3 rfl rfl)
theorem dL_law_1122 : decode cL_law 1122 = .ok (.iload 4, 2) := dk_21 4 (dk_at dksL_law_41 4 rfl rfl)
theorem dL_law_1124 : decode cL_law 1124 = .ok (.iconst 1, 1) := dk_4 (dk_at dksL_law_41 6 rfl rfl)
theorem dL_law_1125 : decode cL_law 1125 = .ok (.iadd, 1) := dk_96 (dk_at dksL_law_41 7 rfl rfl)
theorem dL_law_1126 : decode cL_law 1126 = .ok (.iaload, 1) := dk_46 (dk_at dksL_law_41 8 rfl rfl)
theorem dL_law_1127 : decode cL_law 1127 = .ok (.invokevirtual 192, 3) := dk_182 0 192 (dk_at dksL_law_41 9 rfl rfl)
theorem dL_law_1130 : decode cL_law 1130 = .ok (.istore 6, 2) := dk_54 6 (dk_at dksL_law_41 12 rfl rfl)
theorem dL_law_1132 : decode cL_law 1132 = .ok (.aload_n 2, 1) := dk_44 (dk_at dksL_law_41 14 rfl rfl)
theorem dL_law_1133 : decode cL_law 1133 = .ok (.invokevirtual 148, 3) := dk_182 0 148 (dk_at dksL_law_41 15 rfl rfl)
theorem dL_law_1136 : decode cL_law 1136 = .ok (.iload 5, 2) := dk_21 5 (dk_at dksL_law_41 18 rfl rfl)
theorem dL_law_1138 : decode cL_law 1138 = .ok (.if_icmp .eq 5, 3) := dk_159 0 5 (dk_at dksL_law_41 20 rfl rfl)
theorem dL_law_1141 : decode cL_law 1141 = .ok (.iconst 0, 1) := dk_3 (dk_at dksL_law_41 23 rfl rfl)
theorem dL_law_1142 : decode cL_law 1142 = .ok (.ireturn, 1) := dk_172 (dk_at dksL_law_42 0 rfl rfl)
theorem dL_law_1143 : decode cL_law 1143 = .ok (.iload 5, 2) := dk_21 5 (dk_at dksL_law_42 1 rfl rfl)
theorem dL_law_1145 : decode cL_law 1145 = .ok (.ifCond .ne 15, 3) := dk_154 0 15 (dk_at dksL_law_42 3 rfl rfl)
theorem dL_law_1148 : decode cL_law 1148 = .ok (.aload_n 3, 1) := dk_45 (dk_at dksL_law_42 6 rfl rfl)
theorem dL_law_1149 : decode cL_law 1149 = .ok (.iconst 0, 1) := dk_3 (dk_at dksL_law_42 7 rfl rfl)
theorem dL_law_1150 : decode cL_law 1150 = .ok (.laload, 1) := dk_47 (dk_at dksL_law_42 8 rfl rfl)
theorem dL_law_1151 : decode cL_law 1151 = .ok (.iload 6, 2) := dk_21 6 (dk_at dksL_law_42 9 rfl rfl)
theorem dL_law_1153 : decode cL_law 1153 = .ok (.i2l, 1) := dk_133 (dk_at dksL_law_42 11 rfl rfl)
theorem dL_law_1154 : decode cL_law 1154 = .ok (.lcmp, 1) := dk_148 (dk_at dksL_law_42 12 rfl rfl)
theorem dL_law_1155 : decode cL_law 1155 = .ok (.ifCond .eq 5, 3) := dk_153 0 5 (dk_at dksL_law_42 13 rfl rfl)
theorem dL_law_1158 : decode cL_law 1158 = .ok (.iconst 0, 1) := dk_3 (dk_at dksL_law_42 16 rfl rfl)
theorem dL_law_1159 : decode cL_law 1159 = .ok (.ireturn, 1) := dk_172 (dk_at dksL_law_42 17 rfl rfl)
theorem dL_law_1160 : decode cL_law 1160 = .ok (.goto 1685, 3) := dk_167 6 149 (dk_at dksL_law_42 18 rfl rfl)
theorem dL_law_1163 : decode cL_law 1163 = .ok (.aload_n 1, 1) := dk_43 (dk_at dksL_law_42 21 rfl rfl)
theorem dL_law_1164 : decode cL_law 1164 = .ok (.aload_n 0, 1) := dk_42 (dk_at dksL_law_42 22 rfl rfl)
theorem dL_law_1165 : decode cL_law 1165 = .ok (.iload 4, 2) := dk_21 4 (dk_at dksL_law_43 0 rfl rfl)
theorem dL_law_1167 : decode cL_law 1167 = .ok (.iconst 1, 1) := dk_4 (dk_at dksL_law_43 2 rfl rfl)
theorem dL_law_1168 : decode cL_law 1168 = .ok (.iadd, 1) := dk_96 (dk_at dksL_law_43 3 rfl rfl)
theorem dL_law_1169 : decode cL_law 1169 = .ok (.iaload, 1) := dk_46 (dk_at dksL_law_43 4 rfl rfl)
theorem dL_law_1170 : decode cL_law 1170 = .ok (.aload_n 3, 1) := dk_45 (dk_at dksL_law_43 5 rfl rfl)
theorem dL_law_1171 : decode cL_law 1171 = .ok (.invokestatic 193, 3) := dk_184 0 193 (dk_at dksL_law_43 6 rfl rfl)
theorem dL_law_1174 : decode cL_law 1174 = .ok (.istore 5, 2) := dk_54 5 (dk_at dksL_law_43 9 rfl rfl)
theorem dL_law_1176 : decode cL_law 1176 = .ok (.aload_n 2, 1) := dk_44 (dk_at dksL_law_43 11 rfl rfl)
theorem dL_law_1177 : decode cL_law 1177 = .ok (.aload_n 0, 1) := dk_42 (dk_at dksL_law_43 12 rfl rfl)
theorem dL_law_1178 : decode cL_law 1178 = .ok (.iload 4, 2) := dk_21 4 (dk_at dksL_law_43 13 rfl rfl)
theorem dL_law_1180 : decode cL_law 1180 = .ok (.iconst 1, 1) := dk_4 (dk_at dksL_law_43 15 rfl rfl)
theorem dL_law_1181 : decode cL_law 1181 = .ok (.iadd, 1) := dk_96 (dk_at dksL_law_43 16 rfl rfl)
theorem dL_law_1182 : decode cL_law 1182 = .ok (.iaload, 1) := dk_46 (dk_at dksL_law_43 17 rfl rfl)
theorem dL_law_1183 : decode cL_law 1183 = .ok (.invokevirtual 195, 3) := dk_182 0 195 (dk_at dksL_law_43 18 rfl rfl)
theorem dL_law_1186 : decode cL_law 1186 = .ok (.istore 6, 2) := dk_54 6 (dk_at dksL_law_43 21 rfl rfl)
theorem dL_law_1188 : decode cL_law 1188 = .ok (.aload_n 2, 1) := dk_44 (dk_at dksL_law_43 23 rfl rfl)
theorem dL_law_1189 : decode cL_law 1189 = .ok (.invokevirtual 148, 3) := dk_182 0 148 (dk_at dksL_law_44 0 rfl rfl)
theorem dL_law_1192 : decode cL_law 1192 = .ok (.iload 5, 2) := dk_21 5 (dk_at dksL_law_44 3 rfl rfl)
theorem dL_law_1194 : decode cL_law 1194 = .ok (.if_icmp .eq 5, 3) := dk_159 0 5 (dk_at dksL_law_44 5 rfl rfl)
theorem dL_law_1197 : decode cL_law 1197 = .ok (.iconst 0, 1) := dk_3 (dk_at dksL_law_44 8 rfl rfl)
theorem dL_law_1198 : decode cL_law 1198 = .ok (.ireturn, 1) := dk_172 (dk_at dksL_law_44 9 rfl rfl)
theorem dL_law_1199 : decode cL_law 1199 = .ok (.iload 5, 2) := dk_21 5 (dk_at dksL_law_44 10 rfl rfl)
theorem dL_law_1201 : decode cL_law 1201 = .ok (.ifCond .ne 15, 3) := dk_154 0 15 (dk_at dksL_law_44 12 rfl rfl)
theorem dL_law_1204 : decode cL_law 1204 = .ok (.aload_n 3, 1) := dk_45 (dk_at dksL_law_44 15 rfl rfl)
theorem dL_law_1205 : decode cL_law 1205 = .ok (.iconst 0, 1) := dk_3 (dk_at dksL_law_44 16 rfl rfl)
theorem dL_law_1206 : decode cL_law 1206 = .ok (.laload, 1) := dk_47 (dk_at dksL_law_44 17 rfl rfl)
theorem dL_law_1207 : decode cL_law 1207 = .ok (.iload 6, 2) := dk_21 6 (dk_at dksL_law_44 18 rfl rfl)
theorem dL_law_1209 : decode cL_law 1209 = .ok (.i2l, 1) := dk_133 (dk_at dksL_law_44 20 rfl rfl)
theorem dL_law_1210 : decode cL_law 1210 = .ok (.lcmp, 1) := dk_148 (dk_at dksL_law_44 21 rfl rfl)
theorem dL_law_1211 : decode cL_law 1211 = .ok (.ifCond .eq 5, 3) := dk_153 0 5 (dk_at dksL_law_45 0 rfl rfl)
theorem dL_law_1214 : decode cL_law 1214 = .ok (.iconst 0, 1) := dk_3 (dk_at dksL_law_45 3 rfl rfl)
theorem dL_law_1215 : decode cL_law 1215 = .ok (.ireturn, 1) := dk_172 (dk_at dksL_law_45 4 rfl rfl)
theorem dL_law_1216 : decode cL_law 1216 = .ok (.goto 1629, 3) := dk_167 6 93 (dk_at dksL_law_45 5 rfl rfl)
theorem dL_law_1219 : decode cL_law 1219 = .ok (.aload_n 1, 1) := dk_43 (dk_at dksL_law_45 8 rfl rfl)
theorem dL_law_1220 : decode cL_law 1220 = .ok (.aload_n 0, 1) := dk_42 (dk_at dksL_law_45 9 rfl rfl)
theorem dL_law_1221 : decode cL_law 1221 = .ok (.iload 4, 2) := dk_21 4 (dk_at dksL_law_45 10 rfl rfl)
theorem dL_law_1223 : decode cL_law 1223 = .ok (.iconst 1, 1) := dk_4 (dk_at dksL_law_45 12 rfl rfl)
theorem dL_law_1224 : decode cL_law 1224 = .ok (.iadd, 1) := dk_96 (dk_at dksL_law_45 13 rfl rfl)
theorem dL_law_1225 : decode cL_law 1225 = .ok (.iaload, 1) := dk_46 (dk_at dksL_law_45 14 rfl rfl)
theorem dL_law_1226 : decode cL_law 1226 = .ok (.aload_n 0, 1) := dk_42 (dk_at dksL_law_45 15 rfl rfl)
theorem dL_law_1227 : decode cL_law 1227 = .ok (.iload 4, 2) := dk_21 4 (dk_at dksL_law_45 16 rfl rfl)
theorem dL_law_1229 : decode cL_law 1229 = .ok (.iconst 2, 1) := dk_5 (dk_at dksL_law_45 18 rfl rfl)
theorem dL_law_1230 : decode cL_law 1230 = .ok (.iadd, 1) := dk_96 (dk_at dksL_law_45 19 rfl rfl)
theorem dL_law_1231 : decode cL_law 1231 = .ok (.iaload, 1) := dk_46 (dk_at dksL_law_45 20 rfl rfl)
theorem dL_law_1232 : decode cL_law 1232 = .ok (.aload_n 3, 1) := dk_45 (dk_at dksL_law_45 21 rfl rfl)
theorem dL_law_1233 : decode cL_law 1233 = .ok (.invokestatic 196, 3) := dk_184 0 196 (dk_at dksL_law_46 0 rfl rfl)
theorem dL_law_1236 : decode cL_law 1236 = .ok (.istore 5, 2) := dk_54 5 (dk_at dksL_law_46 3 rfl rfl)
theorem dL_law_1238 : decode cL_law 1238 = .ok (.aload_n 2, 1) := dk_44 (dk_at dksL_law_46 5 rfl rfl)
theorem dL_law_1239 : decode cL_law 1239 = .ok (.aload_n 0, 1) := dk_42 (dk_at dksL_law_46 6 rfl rfl)
theorem dL_law_1240 : decode cL_law 1240 = .ok (.iload 4, 2) := dk_21 4 (dk_at dksL_law_46 7 rfl rfl)
theorem dL_law_1242 : decode cL_law 1242 = .ok (.iconst 1, 1) := dk_4 (dk_at dksL_law_46 9 rfl rfl)
theorem dL_law_1243 : decode cL_law 1243 = .ok (.iadd, 1) := dk_96 (dk_at dksL_law_46 10 rfl rfl)
theorem dL_law_1244 : decode cL_law 1244 = .ok (.iaload, 1) := dk_46 (dk_at dksL_law_46 11 rfl rfl)
theorem dL_law_1245 : decode cL_law 1245 = .ok (.aload_n 0, 1) := dk_42 (dk_at dksL_law_46 12 rfl rfl)
theorem dL_law_1246 : decode cL_law 1246 = .ok (.iload 4, 2) := dk_21 4 (dk_at dksL_law_46 13 rfl rfl)
theorem dL_law_1248 : decode cL_law 1248 = .ok (.iconst 2, 1) := dk_5 (dk_at dksL_law_46 15 rfl rfl)
theorem dL_law_1249 : decode cL_law 1249 = .ok (.iadd, 1) := dk_96 (dk_at dksL_law_46 16 rfl rfl)
theorem dL_law_1250 : decode cL_law 1250 = .ok (.iaload, 1) := dk_46 (dk_at dksL_law_46 17 rfl rfl)
theorem dL_law_1251 : decode cL_law 1251 = .ok (.invokevirtual 198, 3) := dk_182 0 198 (dk_at dksL_law_46 18 rfl rfl)
theorem dL_law_1254 : decode cL_law 1254 = .ok (.istore 6, 2) := dk_54 6 (dk_at dksL_law_46 21 rfl rfl)
theorem dL_law_1256 : decode cL_law 1256 = .ok (.aload_n 2, 1) := dk_44 (dk_at dksL_law_46 23 rfl rfl)
theorem dL_law_1257 : decode cL_law 1257 = .ok (.invokevirtual 148, 3) := dk_182 0 148 (dk_at dksL_law_47 0 rfl rfl)
theorem dL_law_1260 : decode cL_law 1260 = .ok (.iload 5, 2) := dk_21 5 (dk_at dksL_law_47 3 rfl rfl)
theorem dL_law_1262 : decode cL_law 1262 = .ok (.if_icmp .eq 5, 3) := dk_159 0 5 (dk_at dksL_law_47 5 rfl rfl)
theorem dL_law_1265 : decode cL_law 1265 = .ok (.iconst 0, 1) := dk_3 (dk_at dksL_law_47 8 rfl rfl)
theorem dL_law_1266 : decode cL_law 1266 = .ok (.ireturn, 1) := dk_172 (dk_at dksL_law_47 9 rfl rfl)
theorem dL_law_1267 : decode cL_law 1267 = .ok (.iload 5, 2) := dk_21 5 (dk_at dksL_law_47 10 rfl rfl)
theorem dL_law_1269 : decode cL_law 1269 = .ok (.ifCond .ne 15, 3) := dk_154 0 15 (dk_at dksL_law_47 12 rfl rfl)
theorem dL_law_1272 : decode cL_law 1272 = .ok (.aload_n 3, 1) := dk_45 (dk_at dksL_law_47 15 rfl rfl)
theorem dL_law_1273 : decode cL_law 1273 = .ok (.iconst 0, 1) := dk_3 (dk_at dksL_law_47 16 rfl rfl)
theorem dL_law_1274 : decode cL_law 1274 = .ok (.laload, 1) := dk_47 (dk_at dksL_law_47 17 rfl rfl)
theorem dL_law_1275 : decode cL_law 1275 = .ok (.iload 6, 2) := dk_21 6 (dk_at dksL_law_47 18 rfl rfl)
theorem dL_law_1277 : decode cL_law 1277 = .ok (.i2l, 1) := dk_133 (dk_at dksL_law_47 20 rfl rfl)
theorem dL_law_1278 : decode cL_law 1278 = .ok (.lcmp, 1) := dk_148 (dk_at dksL_law_47 21 rfl rfl)
theorem dL_law_1279 : decode cL_law 1279 = .ok (.ifCond .eq 5, 3) := dk_153 0 5 (dk_at dksL_law_48 0 rfl rfl)
theorem dL_law_1282 : decode cL_law 1282 = .ok (.iconst 0, 1) := dk_3 (dk_at dksL_law_48 3 rfl rfl)
theorem dL_law_1283 : decode cL_law 1283 = .ok (.ireturn, 1) := dk_172 (dk_at dksL_law_48 4 rfl rfl)
theorem dL_law_1284 : decode cL_law 1284 = .ok (.goto 1561, 3) := dk_167 6 25 (dk_at dksL_law_48 5 rfl rfl)
theorem dL_law_1287 : decode cL_law 1287 = .ok (.aload_n 1, 1) := dk_43 (dk_at dksL_law_48 8 rfl rfl)
theorem dL_law_1288 : decode cL_law 1288 = .ok (.aload_n 0, 1) := dk_42 (dk_at dksL_law_48 9 rfl rfl)
theorem dL_law_1289 : decode cL_law 1289 = .ok (.iload 4, 2) := dk_21 4 (dk_at dksL_law_48 10 rfl rfl)
theorem dL_law_1291 : decode cL_law 1291 = .ok (.iconst 1, 1) := dk_4 (dk_at dksL_law_48 12 rfl rfl)
theorem dL_law_1292 : decode cL_law 1292 = .ok (.iadd, 1) := dk_96 (dk_at dksL_law_48 13 rfl rfl)
theorem dL_law_1293 : decode cL_law 1293 = .ok (.iaload, 1) := dk_46 (dk_at dksL_law_48 14 rfl rfl)
theorem dL_law_1294 : decode cL_law 1294 = .ok (.aload_n 0, 1) := dk_42 (dk_at dksL_law_48 15 rfl rfl)
theorem dL_law_1295 : decode cL_law 1295 = .ok (.iload 4, 2) := dk_21 4 (dk_at dksL_law_48 16 rfl rfl)
theorem dL_law_1297 : decode cL_law 1297 = .ok (.iconst 2, 1) := dk_5 (dk_at dksL_law_48 18 rfl rfl)
theorem dL_law_1298 : decode cL_law 1298 = .ok (.iadd, 1) := dk_96 (dk_at dksL_law_48 19 rfl rfl)
theorem dL_law_1299 : decode cL_law 1299 = .ok (.iaload, 1) := dk_46 (dk_at dksL_law_48 20 rfl rfl)
theorem dL_law_1300 : decode cL_law 1300 = .ok (.aload_n 3, 1) := dk_45 (dk_at dksL_law_48 21 rfl rfl)
theorem dL_law_1301 : decode cL_law 1301 = .ok (.invokestatic 199, 3) := dk_184 0 199 (dk_at dksL_law_49 0 rfl rfl)
theorem dL_law_1304 : decode cL_law 1304 = .ok (.istore 5, 2) := dk_54 5 (dk_at dksL_law_49 3 rfl rfl)
theorem dL_law_1306 : decode cL_law 1306 = .ok (.aload_n 2, 1) := dk_44 (dk_at dksL_law_49 5 rfl rfl)
theorem dL_law_1307 : decode cL_law 1307 = .ok (.aload_n 0, 1) := dk_42 (dk_at dksL_law_49 6 rfl rfl)
theorem dL_law_1308 : decode cL_law 1308 = .ok (.iload 4, 2) := dk_21 4 (dk_at dksL_law_49 7 rfl rfl)
theorem dL_law_1310 : decode cL_law 1310 = .ok (.iconst 1, 1) := dk_4 (dk_at dksL_law_49 9 rfl rfl)
theorem dL_law_1311 : decode cL_law 1311 = .ok (.iadd, 1) := dk_96 (dk_at dksL_law_49 10 rfl rfl)
theorem dL_law_1312 : decode cL_law 1312 = .ok (.iaload, 1) := dk_46 (dk_at dksL_law_49 11 rfl rfl)
theorem dL_law_1313 : decode cL_law 1313 = .ok (.aload_n 0, 1) := dk_42 (dk_at dksL_law_49 12 rfl rfl)
theorem dL_law_1314 : decode cL_law 1314 = .ok (.iload 4, 2) := dk_21 4 (dk_at dksL_law_49 13 rfl rfl)
theorem dL_law_1316 : decode cL_law 1316 = .ok (.iconst 2, 1) := dk_5 (dk_at dksL_law_49 15 rfl rfl)
theorem dL_law_1317 : decode cL_law 1317 = .ok (.iadd, 1) := dk_96 (dk_at dksL_law_49 16 rfl rfl)
theorem dL_law_1318 : decode cL_law 1318 = .ok (.iaload, 1) := dk_46 (dk_at dksL_law_49 17 rfl rfl)
theorem dL_law_1319 : decode cL_law 1319 = .ok (.invokevirtual 201, 3) := dk_182 0 201 (dk_at dksL_law_49 18 rfl rfl)
theorem dL_law_1322 : decode cL_law 1322 = .ok (.istore 6, 2) := dk_54 6 (dk_at dksL_law_49 21 rfl rfl)
theorem dL_law_1324 : decode cL_law 1324 = .ok (.aload_n 2, 1) := dk_44 (dk_at dksL_law_49 23 rfl rfl)
theorem dL_law_1325 : decode cL_law 1325 = .ok (.invokevirtual 148, 3) := dk_182 0 148 (dk_at dksL_law_50 0 rfl rfl)
theorem dL_law_1328 : decode cL_law 1328 = .ok (.iload 5, 2) := dk_21 5 (dk_at dksL_law_50 3 rfl rfl)
theorem dL_law_1330 : decode cL_law 1330 = .ok (.if_icmp .eq 5, 3) := dk_159 0 5 (dk_at dksL_law_50 5 rfl rfl)
theorem dL_law_1333 : decode cL_law 1333 = .ok (.iconst 0, 1) := dk_3 (dk_at dksL_law_50 8 rfl rfl)
theorem dL_law_1334 : decode cL_law 1334 = .ok (.ireturn, 1) := dk_172 (dk_at dksL_law_50 9 rfl rfl)
theorem dL_law_1335 : decode cL_law 1335 = .ok (.iload 5, 2) := dk_21 5 (dk_at dksL_law_50 10 rfl rfl)
theorem dL_law_1337 : decode cL_law 1337 = .ok (.ifCond .ne 15, 3) := dk_154 0 15 (dk_at dksL_law_50 12 rfl rfl)
theorem dL_law_1340 : decode cL_law 1340 = .ok (.aload_n 3, 1) := dk_45 (dk_at dksL_law_50 15 rfl rfl)
theorem dL_law_1341 : decode cL_law 1341 = .ok (.iconst 0, 1) := dk_3 (dk_at dksL_law_50 16 rfl rfl)
theorem dL_law_1342 : decode cL_law 1342 = .ok (.laload, 1) := dk_47 (dk_at dksL_law_50 17 rfl rfl)
theorem dL_law_1343 : decode cL_law 1343 = .ok (.iload 6, 2) := dk_21 6 (dk_at dksL_law_50 18 rfl rfl)
theorem dL_law_1345 : decode cL_law 1345 = .ok (.i2l, 1) := dk_133 (dk_at dksL_law_50 20 rfl rfl)
theorem dL_law_1346 : decode cL_law 1346 = .ok (.lcmp, 1) := dk_148 (dk_at dksL_law_50 21 rfl rfl)
theorem dL_law_1347 : decode cL_law 1347 = .ok (.ifCond .eq 5, 3) := dk_153 0 5 (dk_at dksL_law_51 0 rfl rfl)
theorem dL_law_1350 : decode cL_law 1350 = .ok (.iconst 0, 1) := dk_3 (dk_at dksL_law_51 3 rfl rfl)
theorem dL_law_1351 : decode cL_law 1351 = .ok (.ireturn, 1) := dk_172 (dk_at dksL_law_51 4 rfl rfl)
theorem dL_law_1352 : decode cL_law 1352 = .ok (.goto 1493, 3) := dk_167 5 213 (dk_at dksL_law_51 5 rfl rfl)
theorem dL_law_1355 : decode cL_law 1355 = .ok (.aload_n 1, 1) := dk_43 (dk_at dksL_law_51 8 rfl rfl)
theorem dL_law_1356 : decode cL_law 1356 = .ok (.aload_n 0, 1) := dk_42 (dk_at dksL_law_51 9 rfl rfl)
theorem dL_law_1357 : decode cL_law 1357 = .ok (.iload 4, 2) := dk_21 4 (dk_at dksL_law_51 10 rfl rfl)
theorem dL_law_1359 : decode cL_law 1359 = .ok (.iconst 1, 1) := dk_4 (dk_at dksL_law_51 12 rfl rfl)
theorem dL_law_1360 : decode cL_law 1360 = .ok (.iadd, 1) := dk_96 (dk_at dksL_law_51 13 rfl rfl)
theorem dL_law_1361 : decode cL_law 1361 = .ok (.iaload, 1) := dk_46 (dk_at dksL_law_51 14 rfl rfl)
theorem dL_law_1362 : decode cL_law 1362 = .ok (.aload_n 0, 1) := dk_42 (dk_at dksL_law_51 15 rfl rfl)
theorem dL_law_1363 : decode cL_law 1363 = .ok (.iload 4, 2) := dk_21 4 (dk_at dksL_law_51 16 rfl rfl)
theorem dL_law_1365 : decode cL_law 1365 = .ok (.iconst 2, 1) := dk_5 (dk_at dksL_law_51 18 rfl rfl)
theorem dL_law_1366 : decode cL_law 1366 = .ok (.iadd, 1) := dk_96 (dk_at dksL_law_51 19 rfl rfl)
theorem dL_law_1367 : decode cL_law 1367 = .ok (.iaload, 1) := dk_46 (dk_at dksL_law_51 20 rfl rfl)
theorem dL_law_1368 : decode cL_law 1368 = .ok (.aload_n 3, 1) := dk_45 (dk_at dksL_law_51 21 rfl rfl)
theorem dL_law_1369 : decode cL_law 1369 = .ok (.invokestatic 202, 3) := dk_184 0 202 (dk_at dksL_law_52 0 rfl rfl)
theorem dL_law_1372 : decode cL_law 1372 = .ok (.istore 5, 2) := dk_54 5 (dk_at dksL_law_52 3 rfl rfl)
theorem dL_law_1374 : decode cL_law 1374 = .ok (.aload_n 2, 1) := dk_44 (dk_at dksL_law_52 5 rfl rfl)
theorem dL_law_1375 : decode cL_law 1375 = .ok (.aload_n 0, 1) := dk_42 (dk_at dksL_law_52 6 rfl rfl)
theorem dL_law_1376 : decode cL_law 1376 = .ok (.iload 4, 2) := dk_21 4 (dk_at dksL_law_52 7 rfl rfl)
theorem dL_law_1378 : decode cL_law 1378 = .ok (.iconst 1, 1) := dk_4 (dk_at dksL_law_52 9 rfl rfl)
theorem dL_law_1379 : decode cL_law 1379 = .ok (.iadd, 1) := dk_96 (dk_at dksL_law_52 10 rfl rfl)
theorem dL_law_1380 : decode cL_law 1380 = .ok (.iaload, 1) := dk_46 (dk_at dksL_law_52 11 rfl rfl)
theorem dL_law_1381 : decode cL_law 1381 = .ok (.aload_n 0, 1) := dk_42 (dk_at dksL_law_52 12 rfl rfl)
theorem dL_law_1382 : decode cL_law 1382 = .ok (.iload 4, 2) := dk_21 4 (dk_at dksL_law_52 13 rfl rfl)
theorem dL_law_1384 : decode cL_law 1384 = .ok (.iconst 2, 1) := dk_5 (dk_at dksL_law_52 15 rfl rfl)
theorem dL_law_1385 : decode cL_law 1385 = .ok (.iadd, 1) := dk_96 (dk_at dksL_law_52 16 rfl rfl)
theorem dL_law_1386 : decode cL_law 1386 = .ok (.iaload, 1) := dk_46 (dk_at dksL_law_52 17 rfl rfl)
theorem dL_law_1387 : decode cL_law 1387 = .ok (.invokevirtual 204, 3) := dk_182 0 204 (dk_at dksL_law_52 18 rfl rfl)
theorem dL_law_1390 : decode cL_law 1390 = .ok (.istore 6, 2) := dk_54 6 (dk_at dksL_law_52 21 rfl rfl)
theorem dL_law_1392 : decode cL_law 1392 = .ok (.aload_n 2, 1) := dk_44 (dk_at dksL_law_52 23 rfl rfl)
theorem dL_law_1393 : decode cL_law 1393 = .ok (.invokevirtual 148, 3) := dk_182 0 148 (dk_at dksL_law_53 0 rfl rfl)
theorem dL_law_1396 : decode cL_law 1396 = .ok (.iload 5, 2) := dk_21 5 (dk_at dksL_law_53 3 rfl rfl)
theorem dL_law_1398 : decode cL_law 1398 = .ok (.if_icmp .eq 5, 3) := dk_159 0 5 (dk_at dksL_law_53 5 rfl rfl)
theorem dL_law_1401 : decode cL_law 1401 = .ok (.iconst 0, 1) := dk_3 (dk_at dksL_law_53 8 rfl rfl)
theorem dL_law_1402 : decode cL_law 1402 = .ok (.ireturn, 1) := dk_172 (dk_at dksL_law_53 9 rfl rfl)
theorem dL_law_1403 : decode cL_law 1403 = .ok (.iload 5, 2) := dk_21 5 (dk_at dksL_law_53 10 rfl rfl)
theorem dL_law_1405 : decode cL_law 1405 = .ok (.ifCond .ne 15, 3) := dk_154 0 15 (dk_at dksL_law_53 12 rfl rfl)
theorem dL_law_1408 : decode cL_law 1408 = .ok (.aload_n 3, 1) := dk_45 (dk_at dksL_law_53 15 rfl rfl)
theorem dL_law_1409 : decode cL_law 1409 = .ok (.iconst 0, 1) := dk_3 (dk_at dksL_law_53 16 rfl rfl)
theorem dL_law_1410 : decode cL_law 1410 = .ok (.laload, 1) := dk_47 (dk_at dksL_law_53 17 rfl rfl)
theorem dL_law_1411 : decode cL_law 1411 = .ok (.iload 6, 2) := dk_21 6 (dk_at dksL_law_53 18 rfl rfl)
theorem dL_law_1413 : decode cL_law 1413 = .ok (.i2l, 1) := dk_133 (dk_at dksL_law_53 20 rfl rfl)
theorem dL_law_1414 : decode cL_law 1414 = .ok (.lcmp, 1) := dk_148 (dk_at dksL_law_53 21 rfl rfl)
theorem dL_law_1415 : decode cL_law 1415 = .ok (.ifCond .eq 5, 3) := dk_153 0 5 (dk_at dksL_law_54 0 rfl rfl)
theorem dL_law_1418 : decode cL_law 1418 = .ok (.iconst 0, 1) := dk_3 (dk_at dksL_law_54 3 rfl rfl)
theorem dL_law_1419 : decode cL_law 1419 = .ok (.ireturn, 1) := dk_172 (dk_at dksL_law_54 4 rfl rfl)
theorem dL_law_1420 : decode cL_law 1420 = .ok (.goto 1425, 3) := dk_167 5 145 (dk_at dksL_law_54 5 rfl rfl)
theorem dL_law_1423 : decode cL_law 1423 = .ok (.aload_n 1, 1) := dk_43 (dk_at dksL_law_54 8 rfl rfl)
theorem dL_law_1424 : decode cL_law 1424 = .ok (.aload_n 0, 1) := dk_42 (dk_at dksL_law_54 9 rfl rfl)
theorem dL_law_1425 : decode cL_law 1425 = .ok (.iload 4, 2) := dk_21 4 (dk_at dksL_law_54 10 rfl rfl)
theorem dL_law_1427 : decode cL_law 1427 = .ok (.iconst 1, 1) := dk_4 (dk_at dksL_law_54 12 rfl rfl)
theorem dL_law_1428 : decode cL_law 1428 = .ok (.iadd, 1) := dk_96 (dk_at dksL_law_54 13 rfl rfl)
theorem dL_law_1429 : decode cL_law 1429 = .ok (.iaload, 1) := dk_46 (dk_at dksL_law_54 14 rfl rfl)
theorem dL_law_1430 : decode cL_law 1430 = .ok (.aload_n 0, 1) := dk_42 (dk_at dksL_law_54 15 rfl rfl)
theorem dL_law_1431 : decode cL_law 1431 = .ok (.iload 4, 2) := dk_21 4 (dk_at dksL_law_54 16 rfl rfl)
theorem dL_law_1433 : decode cL_law 1433 = .ok (.iconst 2, 1) := dk_5 (dk_at dksL_law_54 18 rfl rfl)
theorem dL_law_1434 : decode cL_law 1434 = .ok (.iadd, 1) := dk_96 (dk_at dksL_law_54 19 rfl rfl)
theorem dL_law_1435 : decode cL_law 1435 = .ok (.iaload, 1) := dk_46 (dk_at dksL_law_54 20 rfl rfl)
theorem dL_law_1436 : decode cL_law 1436 = .ok (.ifCond .eq 7, 3) := dk_153 0 7 (dk_at dksL_law_54 21 rfl rfl)
theorem dL_law_1439 : decode cL_law 1439 = .ok (.iconst 1, 1) := dk_4 (dk_at dksL_law_55 0 rfl rfl)
theorem dL_law_1440 : decode cL_law 1440 = .ok (.goto 4, 3) := dk_167 0 4 (dk_at dksL_law_55 1 rfl rfl)
theorem dL_law_1443 : decode cL_law 1443 = .ok (.iconst 0, 1) := dk_3 (dk_at dksL_law_55 4 rfl rfl)
theorem dL_law_1444 : decode cL_law 1444 = .ok (.aload_n 3, 1) := dk_45 (dk_at dksL_law_55 5 rfl rfl)
theorem dL_law_1445 : decode cL_law 1445 = .ok (.invokestatic 205, 3) := dk_184 0 205 (dk_at dksL_law_55 6 rfl rfl)
theorem dL_law_1448 : decode cL_law 1448 = .ok (.istore 5, 2) := dk_54 5 (dk_at dksL_law_55 9 rfl rfl)
theorem dL_law_1450 : decode cL_law 1450 = .ok (.aload_n 2, 1) := dk_44 (dk_at dksL_law_55 11 rfl rfl)
theorem dL_law_1451 : decode cL_law 1451 = .ok (.aload_n 0, 1) := dk_42 (dk_at dksL_law_55 12 rfl rfl)
theorem dL_law_1452 : decode cL_law 1452 = .ok (.iload 4, 2) := dk_21 4 (dk_at dksL_law_55 13 rfl rfl)
theorem dL_law_1454 : decode cL_law 1454 = .ok (.iconst 1, 1) := dk_4 (dk_at dksL_law_55 15 rfl rfl)
theorem dL_law_1455 : decode cL_law 1455 = .ok (.iadd, 1) := dk_96 (dk_at dksL_law_55 16 rfl rfl)
theorem dL_law_1456 : decode cL_law 1456 = .ok (.iaload, 1) := dk_46 (dk_at dksL_law_55 17 rfl rfl)
theorem dL_law_1457 : decode cL_law 1457 = .ok (.aload_n 0, 1) := dk_42 (dk_at dksL_law_55 18 rfl rfl)
theorem dL_law_1458 : decode cL_law 1458 = .ok (.iload 4, 2) := dk_21 4 (dk_at dksL_law_55 19 rfl rfl)
theorem dL_law_1460 : decode cL_law 1460 = .ok (.iconst 2, 1) := dk_5 (dk_at dksL_law_55 21 rfl rfl)
theorem dL_law_1461 : decode cL_law 1461 = .ok (.iadd, 1) := dk_96 (dk_at dksL_law_55 22 rfl rfl)
theorem dL_law_1462 : decode cL_law 1462 = .ok (.iaload, 1) := dk_46 (dk_at dksL_law_55 23 rfl rfl)
theorem dL_law_1463 : decode cL_law 1463 = .ok (.ifCond .eq 7, 3) := dk_153 0 7 (dk_at dksL_law_56 0 rfl rfl)
theorem dL_law_1466 : decode cL_law 1466 = .ok (.iconst 1, 1) := dk_4 (dk_at dksL_law_56 3 rfl rfl)
theorem dL_law_1467 : decode cL_law 1467 = .ok (.goto 4, 3) := dk_167 0 4 (dk_at dksL_law_56 4 rfl rfl)
theorem dL_law_1470 : decode cL_law 1470 = .ok (.iconst 0, 1) := dk_3 (dk_at dksL_law_56 7 rfl rfl)
theorem dL_law_1471 : decode cL_law 1471 = .ok (.invokevirtual 208, 3) := dk_182 0 208 (dk_at dksL_law_56 8 rfl rfl)
theorem dL_law_1474 : decode cL_law 1474 = .ok (.istore 6, 2) := dk_54 6 (dk_at dksL_law_56 11 rfl rfl)
theorem dL_law_1476 : decode cL_law 1476 = .ok (.aload_n 2, 1) := dk_44 (dk_at dksL_law_56 13 rfl rfl)
theorem dL_law_1477 : decode cL_law 1477 = .ok (.invokevirtual 148, 3) := dk_182 0 148 (dk_at dksL_law_56 14 rfl rfl)
theorem dL_law_1480 : decode cL_law 1480 = .ok (.iload 5, 2) := dk_21 5 (dk_at dksL_law_56 17 rfl rfl)
theorem dL_law_1482 : decode cL_law 1482 = .ok (.if_icmp .eq 5, 3) := dk_159 0 5 (dk_at dksL_law_56 19 rfl rfl)
theorem dL_law_1485 : decode cL_law 1485 = .ok (.iconst 0, 1) := dk_3 (dk_at dksL_law_56 22 rfl rfl)
theorem dL_law_1486 : decode cL_law 1486 = .ok (.ireturn, 1) := dk_172 (dk_at dksL_law_56 23 rfl rfl)
theorem dL_law_1487 : decode cL_law 1487 = .ok (.iload 5, 2) := dk_21 5 (dk_at dksL_law_57 0 rfl rfl)
theorem dL_law_1489 : decode cL_law 1489 = .ok (.ifCond .ne 15, 3) := dk_154 0 15 (dk_at dksL_law_57 2 rfl rfl)
theorem dL_law_1492 : decode cL_law 1492 = .ok (.aload_n 3, 1) := dk_45 (dk_at dksL_law_57 5 rfl rfl)
theorem dL_law_1493 : decode cL_law 1493 = .ok (.iconst 0, 1) := dk_3 (dk_at dksL_law_57 6 rfl rfl)
theorem dL_law_1494 : decode cL_law 1494 = .ok (.laload, 1) := dk_47 (dk_at dksL_law_57 7 rfl rfl)
theorem dL_law_1495 : decode cL_law 1495 = .ok (.iload 6, 2) := dk_21 6 (dk_at dksL_law_57 8 rfl rfl)
theorem dL_law_1497 : decode cL_law 1497 = .ok (.i2l, 1) := dk_133 (dk_at dksL_law_57 10 rfl rfl)
theorem dL_law_1498 : decode cL_law 1498 = .ok (.lcmp, 1) := dk_148 (dk_at dksL_law_57 11 rfl rfl)
theorem dL_law_1499 : decode cL_law 1499 = .ok (.ifCond .eq 5, 3) := dk_153 0 5 (dk_at dksL_law_57 12 rfl rfl)
theorem dL_law_1502 : decode cL_law 1502 = .ok (.iconst 0, 1) := dk_3 (dk_at dksL_law_57 15 rfl rfl)
theorem dL_law_1503 : decode cL_law 1503 = .ok (.ireturn, 1) := dk_172 (dk_at dksL_law_57 16 rfl rfl)
theorem dL_law_1504 : decode cL_law 1504 = .ok (.goto 1341, 3) := dk_167 5 61 (dk_at dksL_law_57 17 rfl rfl)
theorem dL_law_1507 : decode cL_law 1507 = .ok (.aload_n 1, 1) := dk_43 (dk_at dksL_law_57 20 rfl rfl)
theorem dL_law_1508 : decode cL_law 1508 = .ok (.aload_n 0, 1) := dk_42 (dk_at dksL_law_57 21 rfl rfl)
theorem dL_law_1509 : decode cL_law 1509 = .ok (.iload 4, 2) := dk_21 4 (dk_at dksL_law_57 22 rfl rfl)
theorem dL_law_1511 : decode cL_law 1511 = .ok (.iconst 1, 1) := dk_4 (dk_at dksL_law_58 0 rfl rfl)
theorem dL_law_1512 : decode cL_law 1512 = .ok (.iadd, 1) := dk_96 (dk_at dksL_law_58 1 rfl rfl)
theorem dL_law_1513 : decode cL_law 1513 = .ok (.iaload, 1) := dk_46 (dk_at dksL_law_58 2 rfl rfl)
theorem dL_law_1514 : decode cL_law 1514 = .ok (.aload_n 0, 1) := dk_42 (dk_at dksL_law_58 3 rfl rfl)
theorem dL_law_1515 : decode cL_law 1515 = .ok (.iload 4, 2) := dk_21 4 (dk_at dksL_law_58 4 rfl rfl)
theorem dL_law_1517 : decode cL_law 1517 = .ok (.iconst 2, 1) := dk_5 (dk_at dksL_law_58 6 rfl rfl)
theorem dL_law_1518 : decode cL_law 1518 = .ok (.iadd, 1) := dk_96 (dk_at dksL_law_58 7 rfl rfl)
theorem dL_law_1519 : decode cL_law 1519 = .ok (.iaload, 1) := dk_46 (dk_at dksL_law_58 8 rfl rfl)
theorem dL_law_1520 : decode cL_law 1520 = .ok (.aload_n 0, 1) := dk_42 (dk_at dksL_law_58 9 rfl rfl)
theorem dL_law_1521 : decode cL_law 1521 = .ok (.iload 4, 2) := dk_21 4 (dk_at dksL_law_58 10 rfl rfl)
theorem dL_law_1523 : decode cL_law 1523 = .ok (.iconst 3, 1) := dk_6 (dk_at dksL_law_58 12 rfl rfl)
theorem dL_law_1524 : decode cL_law 1524 = .ok (.iadd, 1) := dk_96 (dk_at dksL_law_58 13 rfl rfl)
theorem dL_law_1525 : decode cL_law 1525 = .ok (.iaload, 1) := dk_46 (dk_at dksL_law_58 14 rfl rfl)
theorem dL_law_1526 : decode cL_law 1526 = .ok (.aload_n 3, 1) := dk_45 (dk_at dksL_law_58 15 rfl rfl)
theorem dL_law_1527 : decode cL_law 1527 = .ok (.invokestatic 209, 3) := dk_184 0 209 (dk_at dksL_law_58 16 rfl rfl)
theorem dL_law_1530 : decode cL_law 1530 = .ok (.istore 5, 2) := dk_54 5 (dk_at dksL_law_58 19 rfl rfl)
theorem dL_law_1532 : decode cL_law 1532 = .ok (.aload_n 2, 1) := dk_44 (dk_at dksL_law_58 21 rfl rfl)
theorem dL_law_1533 : decode cL_law 1533 = .ok (.aload_n 0, 1) := dk_42 (dk_at dksL_law_58 22 rfl rfl)
theorem dL_law_1534 : decode cL_law 1534 = .ok (.iload 4, 2) := dk_21 4 (dk_at dksL_law_59 0 rfl rfl)
theorem dL_law_1536 : decode cL_law 1536 = .ok (.iconst 1, 1) := dk_4 (dk_at dksL_law_59 2 rfl rfl)
theorem dL_law_1537 : decode cL_law 1537 = .ok (.iadd, 1) := dk_96 (dk_at dksL_law_59 3 rfl rfl)
theorem dL_law_1538 : decode cL_law 1538 = .ok (.iaload, 1) := dk_46 (dk_at dksL_law_59 4 rfl rfl)
theorem dL_law_1539 : decode cL_law 1539 = .ok (.aload_n 0, 1) := dk_42 (dk_at dksL_law_59 5 rfl rfl)
theorem dL_law_1540 : decode cL_law 1540 = .ok (.iload 4, 2) := dk_21 4 (dk_at dksL_law_59 6 rfl rfl)
theorem dL_law_1542 : decode cL_law 1542 = .ok (.iconst 2, 1) := dk_5 (dk_at dksL_law_59 8 rfl rfl)
theorem dL_law_1543 : decode cL_law 1543 = .ok (.iadd, 1) := dk_96 (dk_at dksL_law_59 9 rfl rfl)
theorem dL_law_1544 : decode cL_law 1544 = .ok (.iaload, 1) := dk_46 (dk_at dksL_law_59 10 rfl rfl)
theorem dL_law_1545 : decode cL_law 1545 = .ok (.aload_n 0, 1) := dk_42 (dk_at dksL_law_59 11 rfl rfl)
theorem dL_law_1546 : decode cL_law 1546 = .ok (.iload 4, 2) := dk_21 4 (dk_at dksL_law_59 12 rfl rfl)
theorem dL_law_1548 : decode cL_law 1548 = .ok (.iconst 3, 1) := dk_6 (dk_at dksL_law_59 14 rfl rfl)
theorem dL_law_1549 : decode cL_law 1549 = .ok (.iadd, 1) := dk_96 (dk_at dksL_law_59 15 rfl rfl)
theorem dL_law_1550 : decode cL_law 1550 = .ok (.iaload, 1) := dk_46 (dk_at dksL_law_59 16 rfl rfl)
theorem dL_law_1551 : decode cL_law 1551 = .ok (.invokevirtual 211, 3) := dk_182 0 211 (dk_at dksL_law_59 17 rfl rfl)
theorem dL_law_1554 : decode cL_law 1554 = .ok (.istore 6, 2) := dk_54 6 (dk_at dksL_law_59 20 rfl rfl)
theorem dL_law_1556 : decode cL_law 1556 = .ok (.aload_n 2, 1) := dk_44 (dk_at dksL_law_59 22 rfl rfl)
theorem dL_law_1557 : decode cL_law 1557 = .ok (.invokevirtual 148, 3) := dk_182 0 148 (dk_at dksL_law_60 0 rfl rfl)
theorem dL_law_1560 : decode cL_law 1560 = .ok (.iload 5, 2) := dk_21 5 (dk_at dksL_law_60 3 rfl rfl)
theorem dL_law_1562 : decode cL_law 1562 = .ok (.if_icmp .eq 5, 3) := dk_159 0 5 (dk_at dksL_law_60 5 rfl rfl)
theorem dL_law_1565 : decode cL_law 1565 = .ok (.iconst 0, 1) := dk_3 (dk_at dksL_law_60 8 rfl rfl)
theorem dL_law_1566 : decode cL_law 1566 = .ok (.ireturn, 1) := dk_172 (dk_at dksL_law_60 9 rfl rfl)
theorem dL_law_1567 : decode cL_law 1567 = .ok (.iload 5, 2) := dk_21 5 (dk_at dksL_law_60 10 rfl rfl)
theorem dL_law_1569 : decode cL_law 1569 = .ok (.ifCond .ne 15, 3) := dk_154 0 15 (dk_at dksL_law_60 12 rfl rfl)
theorem dL_law_1572 : decode cL_law 1572 = .ok (.aload_n 3, 1) := dk_45 (dk_at dksL_law_60 15 rfl rfl)
theorem dL_law_1573 : decode cL_law 1573 = .ok (.iconst 0, 1) := dk_3 (dk_at dksL_law_60 16 rfl rfl)
theorem dL_law_1574 : decode cL_law 1574 = .ok (.laload, 1) := dk_47 (dk_at dksL_law_60 17 rfl rfl)
theorem dL_law_1575 : decode cL_law 1575 = .ok (.iload 6, 2) := dk_21 6 (dk_at dksL_law_60 18 rfl rfl)
theorem dL_law_1577 : decode cL_law 1577 = .ok (.i2l, 1) := dk_133 (dk_at dksL_law_60 20 rfl rfl)
theorem dL_law_1578 : decode cL_law 1578 = .ok (.lcmp, 1) := dk_148 (dk_at dksL_law_60 21 rfl rfl)
theorem dL_law_1579 : decode cL_law 1579 = .ok (.ifCond .eq 5, 3) := dk_153 0 5 (dk_at dksL_law_61 0 rfl rfl)
theorem dL_law_1582 : decode cL_law 1582 = .ok (.iconst 0, 1) := dk_3 (dk_at dksL_law_61 3 rfl rfl)
theorem dL_law_1583 : decode cL_law 1583 = .ok (.ireturn, 1) := dk_172 (dk_at dksL_law_61 4 rfl rfl)
theorem dL_law_1584 : decode cL_law 1584 = .ok (.goto 1261, 3) := dk_167 4 237 (dk_at dksL_law_61 5 rfl rfl)
theorem dL_law_1587 : decode cL_law 1587 = .ok (.aload_n 1, 1) := dk_43 (dk_at dksL_law_61 8 rfl rfl)
theorem dL_law_1588 : decode cL_law 1588 = .ok (.aload_n 0, 1) := dk_42 (dk_at dksL_law_61 9 rfl rfl)
theorem dL_law_1589 : decode cL_law 1589 = .ok (.iload 4, 2) := dk_21 4 (dk_at dksL_law_61 10 rfl rfl)
theorem dL_law_1591 : decode cL_law 1591 = .ok (.iconst 1, 1) := dk_4 (dk_at dksL_law_61 12 rfl rfl)
theorem dL_law_1592 : decode cL_law 1592 = .ok (.iadd, 1) := dk_96 (dk_at dksL_law_61 13 rfl rfl)
theorem dL_law_1593 : decode cL_law 1593 = .ok (.iaload, 1) := dk_46 (dk_at dksL_law_61 14 rfl rfl)
theorem dL_law_1594 : decode cL_law 1594 = .ok (.aload_n 0, 1) := dk_42 (dk_at dksL_law_61 15 rfl rfl)
theorem dL_law_1595 : decode cL_law 1595 = .ok (.iload 4, 2) := dk_21 4 (dk_at dksL_law_61 16 rfl rfl)
theorem dL_law_1597 : decode cL_law 1597 = .ok (.iconst 2, 1) := dk_5 (dk_at dksL_law_61 18 rfl rfl)
theorem dL_law_1598 : decode cL_law 1598 = .ok (.iadd, 1) := dk_96 (dk_at dksL_law_61 19 rfl rfl)
theorem dL_law_1599 : decode cL_law 1599 = .ok (.iaload, 1) := dk_46 (dk_at dksL_law_61 20 rfl rfl)
theorem dL_law_1600 : decode cL_law 1600 = .ok (.aload_n 3, 1) := dk_45 (dk_at dksL_law_61 21 rfl rfl)
theorem dL_law_1601 : decode cL_law 1601 = .ok (.invokestatic 212, 3) := dk_184 0 212 (dk_at dksL_law_62 0 rfl rfl)
theorem dL_law_1604 : decode cL_law 1604 = .ok (.istore 5, 2) := dk_54 5 (dk_at dksL_law_62 3 rfl rfl)
theorem dL_law_1606 : decode cL_law 1606 = .ok (.aload_n 2, 1) := dk_44 (dk_at dksL_law_62 5 rfl rfl)
theorem dL_law_1607 : decode cL_law 1607 = .ok (.aload_n 0, 1) := dk_42 (dk_at dksL_law_62 6 rfl rfl)
theorem dL_law_1608 : decode cL_law 1608 = .ok (.iload 4, 2) := dk_21 4 (dk_at dksL_law_62 7 rfl rfl)
theorem dL_law_1610 : decode cL_law 1610 = .ok (.iconst 1, 1) := dk_4 (dk_at dksL_law_62 9 rfl rfl)
theorem dL_law_1611 : decode cL_law 1611 = .ok (.iadd, 1) := dk_96 (dk_at dksL_law_62 10 rfl rfl)
theorem dL_law_1612 : decode cL_law 1612 = .ok (.iaload, 1) := dk_46 (dk_at dksL_law_62 11 rfl rfl)
theorem dL_law_1613 : decode cL_law 1613 = .ok (.aload_n 0, 1) := dk_42 (dk_at dksL_law_62 12 rfl rfl)
theorem dL_law_1614 : decode cL_law 1614 = .ok (.iload 4, 2) := dk_21 4 (dk_at dksL_law_62 13 rfl rfl)
theorem dL_law_1616 : decode cL_law 1616 = .ok (.iconst 2, 1) := dk_5 (dk_at dksL_law_62 15 rfl rfl)
theorem dL_law_1617 : decode cL_law 1617 = .ok (.iadd, 1) := dk_96 (dk_at dksL_law_62 16 rfl rfl)
theorem dL_law_1618 : decode cL_law 1618 = .ok (.iaload, 1) := dk_46 (dk_at dksL_law_62 17 rfl rfl)
theorem dL_law_1619 : decode cL_law 1619 = .ok (.invokevirtual 214, 3) := dk_182 0 214 (dk_at dksL_law_62 18 rfl rfl)
theorem dL_law_1622 : decode cL_law 1622 = .ok (.istore 6, 2) := dk_54 6 (dk_at dksL_law_62 21 rfl rfl)
theorem dL_law_1624 : decode cL_law 1624 = .ok (.aload_n 2, 1) := dk_44 (dk_at dksL_law_62 23 rfl rfl)
theorem dL_law_1625 : decode cL_law 1625 = .ok (.invokevirtual 148, 3) := dk_182 0 148 (dk_at dksL_law_63 0 rfl rfl)
theorem dL_law_1628 : decode cL_law 1628 = .ok (.iload 5, 2) := dk_21 5 (dk_at dksL_law_63 3 rfl rfl)
theorem dL_law_1630 : decode cL_law 1630 = .ok (.if_icmp .eq 5, 3) := dk_159 0 5 (dk_at dksL_law_63 5 rfl rfl)
theorem dL_law_1633 : decode cL_law 1633 = .ok (.iconst 0, 1) := dk_3 (dk_at dksL_law_63 8 rfl rfl)
theorem dL_law_1634 : decode cL_law 1634 = .ok (.ireturn, 1) := dk_172 (dk_at dksL_law_63 9 rfl rfl)
theorem dL_law_1635 : decode cL_law 1635 = .ok (.iload 5, 2) := dk_21 5 (dk_at dksL_law_63 10 rfl rfl)
theorem dL_law_1637 : decode cL_law 1637 = .ok (.ifCond .ne 15, 3) := dk_154 0 15 (dk_at dksL_law_63 12 rfl rfl)
theorem dL_law_1640 : decode cL_law 1640 = .ok (.aload_n 3, 1) := dk_45 (dk_at dksL_law_63 15 rfl rfl)
theorem dL_law_1641 : decode cL_law 1641 = .ok (.iconst 0, 1) := dk_3 (dk_at dksL_law_63 16 rfl rfl)
theorem dL_law_1642 : decode cL_law 1642 = .ok (.laload, 1) := dk_47 (dk_at dksL_law_63 17 rfl rfl)
theorem dL_law_1643 : decode cL_law 1643 = .ok (.iload 6, 2) := dk_21 6 (dk_at dksL_law_63 18 rfl rfl)
theorem dL_law_1645 : decode cL_law 1645 = .ok (.i2l, 1) := dk_133 (dk_at dksL_law_63 20 rfl rfl)
theorem dL_law_1646 : decode cL_law 1646 = .ok (.lcmp, 1) := dk_148 (dk_at dksL_law_63 21 rfl rfl)
theorem dL_law_1647 : decode cL_law 1647 = .ok (.ifCond .eq 5, 3) := dk_153 0 5 (dk_at dksL_law_64 0 rfl rfl)
theorem dL_law_1650 : decode cL_law 1650 = .ok (.iconst 0, 1) := dk_3 (dk_at dksL_law_64 3 rfl rfl)
theorem dL_law_1651 : decode cL_law 1651 = .ok (.ireturn, 1) := dk_172 (dk_at dksL_law_64 4 rfl rfl)
theorem dL_law_1652 : decode cL_law 1652 = .ok (.goto 1193, 3) := dk_167 4 169 (dk_at dksL_law_64 5 rfl rfl)
theorem dL_law_1655 : decode cL_law 1655 = .ok (.aload_n 1, 1) := dk_43 (dk_at dksL_law_64 8 rfl rfl)
theorem dL_law_1656 : decode cL_law 1656 = .ok (.aload_n 0, 1) := dk_42 (dk_at dksL_law_64 9 rfl rfl)
theorem dL_law_1657 : decode cL_law 1657 = .ok (.iload 4, 2) := dk_21 4 (dk_at dksL_law_64 10 rfl rfl)
theorem dL_law_1659 : decode cL_law 1659 = .ok (.iconst 1, 1) := dk_4 (dk_at dksL_law_64 12 rfl rfl)
theorem dL_law_1660 : decode cL_law 1660 = .ok (.iadd, 1) := dk_96 (dk_at dksL_law_64 13 rfl rfl)
theorem dL_law_1661 : decode cL_law 1661 = .ok (.iaload, 1) := dk_46 (dk_at dksL_law_64 14 rfl rfl)
theorem dL_law_1662 : decode cL_law 1662 = .ok (.aload_n 0, 1) := dk_42 (dk_at dksL_law_64 15 rfl rfl)
theorem dL_law_1663 : decode cL_law 1663 = .ok (.iload 4, 2) := dk_21 4 (dk_at dksL_law_64 16 rfl rfl)
theorem dL_law_1665 : decode cL_law 1665 = .ok (.iconst 2, 1) := dk_5 (dk_at dksL_law_64 18 rfl rfl)
theorem dL_law_1666 : decode cL_law 1666 = .ok (.iadd, 1) := dk_96 (dk_at dksL_law_64 19 rfl rfl)
theorem dL_law_1667 : decode cL_law 1667 = .ok (.iaload, 1) := dk_46 (dk_at dksL_law_64 20 rfl rfl)
theorem dL_law_1668 : decode cL_law 1668 = .ok (.aload_n 3, 1) := dk_45 (dk_at dksL_law_64 21 rfl rfl)
theorem dL_law_1669 : decode cL_law 1669 = .ok (.invokestatic 215, 3) := dk_184 0 215 (dk_at dksL_law_65 0 rfl rfl)
theorem dL_law_1672 : decode cL_law 1672 = .ok (.istore 5, 2) := dk_54 5 (dk_at dksL_law_65 3 rfl rfl)
theorem dL_law_1674 : decode cL_law 1674 = .ok (.aload_n 2, 1) := dk_44 (dk_at dksL_law_65 5 rfl rfl)
theorem dL_law_1675 : decode cL_law 1675 = .ok (.aload_n 0, 1) := dk_42 (dk_at dksL_law_65 6 rfl rfl)
theorem dL_law_1676 : decode cL_law 1676 = .ok (.iload 4, 2) := dk_21 4 (dk_at dksL_law_65 7 rfl rfl)
theorem dL_law_1678 : decode cL_law 1678 = .ok (.iconst 1, 1) := dk_4 (dk_at dksL_law_65 9 rfl rfl)
theorem dL_law_1679 : decode cL_law 1679 = .ok (.iadd, 1) := dk_96 (dk_at dksL_law_65 10 rfl rfl)
theorem dL_law_1680 : decode cL_law 1680 = .ok (.iaload, 1) := dk_46 (dk_at dksL_law_65 11 rfl rfl)
theorem dL_law_1681 : decode cL_law 1681 = .ok (.aload_n 0, 1) := dk_42 (dk_at dksL_law_65 12 rfl rfl)
theorem dL_law_1682 : decode cL_law 1682 = .ok (.iload 4, 2) := dk_21 4 (dk_at dksL_law_65 13 rfl rfl)
theorem dL_law_1684 : decode cL_law 1684 = .ok (.iconst 2, 1) := dk_5 (dk_at dksL_law_65 15 rfl rfl)
theorem dL_law_1685 : decode cL_law 1685 = .ok (.iadd, 1) := dk_96 (dk_at dksL_law_65 16 rfl rfl)
theorem dL_law_1686 : decode cL_law 1686 = .ok (.iaload, 1) := dk_46 (dk_at dksL_law_65 17 rfl rfl)
theorem dL_law_1687 : decode cL_law 1687 = .ok (.invokevirtual 217, 3) := dk_182 0 217 (dk_at dksL_law_65 18 rfl rfl)
theorem dL_law_1690 : decode cL_law 1690 = .ok (.istore 6, 2) := dk_54 6 (dk_at dksL_law_65 21 rfl rfl)
theorem dL_law_1692 : decode cL_law 1692 = .ok (.aload_n 2, 1) := dk_44 (dk_at dksL_law_65 23 rfl rfl)
theorem dL_law_1693 : decode cL_law 1693 = .ok (.invokevirtual 148, 3) := dk_182 0 148 (dk_at dksL_law_66 0 rfl rfl)
theorem dL_law_1696 : decode cL_law 1696 = .ok (.iload 5, 2) := dk_21 5 (dk_at dksL_law_66 3 rfl rfl)
theorem dL_law_1698 : decode cL_law 1698 = .ok (.if_icmp .eq 5, 3) := dk_159 0 5 (dk_at dksL_law_66 5 rfl rfl)
theorem dL_law_1701 : decode cL_law 1701 = .ok (.iconst 0, 1) := dk_3 (dk_at dksL_law_66 8 rfl rfl)
theorem dL_law_1702 : decode cL_law 1702 = .ok (.ireturn, 1) := dk_172 (dk_at dksL_law_66 9 rfl rfl)
theorem dL_law_1703 : decode cL_law 1703 = .ok (.iload 5, 2) := dk_21 5 (dk_at dksL_law_66 10 rfl rfl)
theorem dL_law_1705 : decode cL_law 1705 = .ok (.ifCond .ne 15, 3) := dk_154 0 15 (dk_at dksL_law_66 12 rfl rfl)
theorem dL_law_1708 : decode cL_law 1708 = .ok (.aload_n 3, 1) := dk_45 (dk_at dksL_law_66 15 rfl rfl)
theorem dL_law_1709 : decode cL_law 1709 = .ok (.iconst 0, 1) := dk_3 (dk_at dksL_law_66 16 rfl rfl)
theorem dL_law_1710 : decode cL_law 1710 = .ok (.laload, 1) := dk_47 (dk_at dksL_law_66 17 rfl rfl)
theorem dL_law_1711 : decode cL_law 1711 = .ok (.iload 6, 2) := dk_21 6 (dk_at dksL_law_66 18 rfl rfl)
theorem dL_law_1713 : decode cL_law 1713 = .ok (.i2l, 1) := dk_133 (dk_at dksL_law_66 20 rfl rfl)
theorem dL_law_1714 : decode cL_law 1714 = .ok (.lcmp, 1) := dk_148 (dk_at dksL_law_66 21 rfl rfl)
theorem dL_law_1715 : decode cL_law 1715 = .ok (.ifCond .eq 5, 3) := dk_153 0 5 (dk_at dksL_law_67 0 rfl rfl)
theorem dL_law_1718 : decode cL_law 1718 = .ok (.iconst 0, 1) := dk_3 (dk_at dksL_law_67 3 rfl rfl)
theorem dL_law_1719 : decode cL_law 1719 = .ok (.ireturn, 1) := dk_172 (dk_at dksL_law_67 4 rfl rfl)
theorem dL_law_1720 : decode cL_law 1720 = .ok (.goto 1125, 3) := dk_167 4 101 (dk_at dksL_law_67 5 rfl rfl)
theorem dL_law_1723 : decode cL_law 1723 = .ok (.aload_n 1, 1) := dk_43 (dk_at dksL_law_67 8 rfl rfl)
theorem dL_law_1724 : decode cL_law 1724 = .ok (.aload_n 0, 1) := dk_42 (dk_at dksL_law_67 9 rfl rfl)
theorem dL_law_1725 : decode cL_law 1725 = .ok (.iload 4, 2) := dk_21 4 (dk_at dksL_law_67 10 rfl rfl)
theorem dL_law_1727 : decode cL_law 1727 = .ok (.iconst 1, 1) := dk_4 (dk_at dksL_law_67 12 rfl rfl)
theorem dL_law_1728 : decode cL_law 1728 = .ok (.iadd, 1) := dk_96 (dk_at dksL_law_67 13 rfl rfl)
theorem dL_law_1729 : decode cL_law 1729 = .ok (.iaload, 1) := dk_46 (dk_at dksL_law_67 14 rfl rfl)
theorem dL_law_1730 : decode cL_law 1730 = .ok (.aload_n 0, 1) := dk_42 (dk_at dksL_law_67 15 rfl rfl)
theorem dL_law_1731 : decode cL_law 1731 = .ok (.iload 4, 2) := dk_21 4 (dk_at dksL_law_67 16 rfl rfl)
theorem dL_law_1733 : decode cL_law 1733 = .ok (.iconst 2, 1) := dk_5 (dk_at dksL_law_67 18 rfl rfl)
theorem dL_law_1734 : decode cL_law 1734 = .ok (.iadd, 1) := dk_96 (dk_at dksL_law_67 19 rfl rfl)
theorem dL_law_1735 : decode cL_law 1735 = .ok (.iaload, 1) := dk_46 (dk_at dksL_law_67 20 rfl rfl)
theorem dL_law_1736 : decode cL_law 1736 = .ok (.ifCond .eq 7, 3) := dk_153 0 7 (dk_at dksL_law_67 21 rfl rfl)
theorem dL_law_1739 : decode cL_law 1739 = .ok (.iconst 1, 1) := dk_4 (dk_at dksL_law_68 0 rfl rfl)
theorem dL_law_1740 : decode cL_law 1740 = .ok (.goto 4, 3) := dk_167 0 4 (dk_at dksL_law_68 1 rfl rfl)
theorem dL_law_1743 : decode cL_law 1743 = .ok (.iconst 0, 1) := dk_3 (dk_at dksL_law_68 4 rfl rfl)
theorem dL_law_1744 : decode cL_law 1744 = .ok (.aload_n 0, 1) := dk_42 (dk_at dksL_law_68 5 rfl rfl)
theorem dL_law_1745 : decode cL_law 1745 = .ok (.iload 4, 2) := dk_21 4 (dk_at dksL_law_68 6 rfl rfl)
theorem dL_law_1747 : decode cL_law 1747 = .ok (.iconst 3, 1) := dk_6 (dk_at dksL_law_68 8 rfl rfl)
theorem dL_law_1748 : decode cL_law 1748 = .ok (.iadd, 1) := dk_96 (dk_at dksL_law_68 9 rfl rfl)
theorem dL_law_1749 : decode cL_law 1749 = .ok (.iaload, 1) := dk_46 (dk_at dksL_law_68 10 rfl rfl)
theorem dL_law_1750 : decode cL_law 1750 = .ok (.ifCond .eq 7, 3) := dk_153 0 7 (dk_at dksL_law_68 11 rfl rfl)
theorem dL_law_1753 : decode cL_law 1753 = .ok (.iconst 1, 1) := dk_4 (dk_at dksL_law_68 14 rfl rfl)
theorem dL_law_1754 : decode cL_law 1754 = .ok (.goto 4, 3) := dk_167 0 4 (dk_at dksL_law_68 15 rfl rfl)
theorem dL_law_1757 : decode cL_law 1757 = .ok (.iconst 0, 1) := dk_3 (dk_at dksL_law_68 18 rfl rfl)
theorem dL_law_1758 : decode cL_law 1758 = .ok (.aload_n 3, 1) := dk_45 (dk_at dksL_law_68 19 rfl rfl)
theorem dL_law_1759 : decode cL_law 1759 = .ok (.invokestatic 218, 3) := dk_184 0 218 (dk_at dksL_law_68 20 rfl rfl)
theorem dL_law_1762 : decode cL_law 1762 = .ok (.istore 5, 2) := dk_54 5 (dk_at dksL_law_69 0 rfl rfl)
theorem dL_law_1764 : decode cL_law 1764 = .ok (.aload_n 2, 1) := dk_44 (dk_at dksL_law_69 2 rfl rfl)
theorem dL_law_1765 : decode cL_law 1765 = .ok (.aload_n 0, 1) := dk_42 (dk_at dksL_law_69 3 rfl rfl)
theorem dL_law_1766 : decode cL_law 1766 = .ok (.iload 4, 2) := dk_21 4 (dk_at dksL_law_69 4 rfl rfl)
theorem dL_law_1768 : decode cL_law 1768 = .ok (.iconst 1, 1) := dk_4 (dk_at dksL_law_69 6 rfl rfl)
theorem dL_law_1769 : decode cL_law 1769 = .ok (.iadd, 1) := dk_96 (dk_at dksL_law_69 7 rfl rfl)
theorem dL_law_1770 : decode cL_law 1770 = .ok (.iaload, 1) := dk_46 (dk_at dksL_law_69 8 rfl rfl)
theorem dL_law_1771 : decode cL_law 1771 = .ok (.aload_n 0, 1) := dk_42 (dk_at dksL_law_69 9 rfl rfl)
theorem dL_law_1772 : decode cL_law 1772 = .ok (.iload 4, 2) := dk_21 4 (dk_at dksL_law_69 10 rfl rfl)
theorem dL_law_1774 : decode cL_law 1774 = .ok (.iconst 2, 1) := dk_5 (dk_at dksL_law_69 12 rfl rfl)
theorem dL_law_1775 : decode cL_law 1775 = .ok (.iadd, 1) := dk_96 (dk_at dksL_law_69 13 rfl rfl)
theorem dL_law_1776 : decode cL_law 1776 = .ok (.iaload, 1) := dk_46 (dk_at dksL_law_69 14 rfl rfl)
theorem dL_law_1777 : decode cL_law 1777 = .ok (.ifCond .eq 7, 3) := dk_153 0 7 (dk_at dksL_law_69 15 rfl rfl)
theorem dL_law_1780 : decode cL_law 1780 = .ok (.iconst 1, 1) := dk_4 (dk_at dksL_law_69 18 rfl rfl)
theorem dL_law_1781 : decode cL_law 1781 = .ok (.goto 4, 3) := dk_167 0 4 (dk_at dksL_law_69 19 rfl rfl)
theorem dL_law_1784 : decode cL_law 1784 = .ok (.iconst 0, 1) := dk_3 (dk_at dksL_law_69 22 rfl rfl)
theorem dL_law_1785 : decode cL_law 1785 = .ok (.aload_n 0, 1) := dk_42 (dk_at dksL_law_69 23 rfl rfl)
theorem dL_law_1786 : decode cL_law 1786 = .ok (.iload 4, 2) := dk_21 4 (dk_at dksL_law_70 0 rfl rfl)
theorem dL_law_1788 : decode cL_law 1788 = .ok (.iconst 3, 1) := dk_6 (dk_at dksL_law_70 2 rfl rfl)
theorem dL_law_1789 : decode cL_law 1789 = .ok (.iadd, 1) := dk_96 (dk_at dksL_law_70 3 rfl rfl)
theorem dL_law_1790 : decode cL_law 1790 = .ok (.iaload, 1) := dk_46 (dk_at dksL_law_70 4 rfl rfl)
theorem dL_law_1791 : decode cL_law 1791 = .ok (.ifCond .eq 7, 3) := dk_153 0 7 (dk_at dksL_law_70 5 rfl rfl)
theorem dL_law_1794 : decode cL_law 1794 = .ok (.iconst 1, 1) := dk_4 (dk_at dksL_law_70 8 rfl rfl)
theorem dL_law_1795 : decode cL_law 1795 = .ok (.goto 4, 3) := dk_167 0 4 (dk_at dksL_law_70 9 rfl rfl)
theorem dL_law_1798 : decode cL_law 1798 = .ok (.iconst 0, 1) := dk_3 (dk_at dksL_law_70 12 rfl rfl)
theorem dL_law_1799 : decode cL_law 1799 = .ok (.invokevirtual 221, 3) := dk_182 0 221 (dk_at dksL_law_70 13 rfl rfl)
theorem dL_law_1802 : decode cL_law 1802 = .ok (.istore 6, 2) := dk_54 6 (dk_at dksL_law_70 16 rfl rfl)
theorem dL_law_1804 : decode cL_law 1804 = .ok (.aload_n 2, 1) := dk_44 (dk_at dksL_law_70 18 rfl rfl)
theorem dL_law_1805 : decode cL_law 1805 = .ok (.invokevirtual 148, 3) := dk_182 0 148 (dk_at dksL_law_70 19 rfl rfl)
theorem dL_law_1808 : decode cL_law 1808 = .ok (.iload 5, 2) := dk_21 5 (dk_at dksL_law_70 22 rfl rfl)
theorem dL_law_1810 : decode cL_law 1810 = .ok (.if_icmp .eq 5, 3) := dk_159 0 5 (dk_at dksL_law_71 0 rfl rfl)
theorem dL_law_1813 : decode cL_law 1813 = .ok (.iconst 0, 1) := dk_3 (dk_at dksL_law_71 3 rfl rfl)
theorem dL_law_1814 : decode cL_law 1814 = .ok (.ireturn, 1) := dk_172 (dk_at dksL_law_71 4 rfl rfl)
theorem dL_law_1815 : decode cL_law 1815 = .ok (.iload 5, 2) := dk_21 5 (dk_at dksL_law_71 5 rfl rfl)
theorem dL_law_1817 : decode cL_law 1817 = .ok (.ifCond .ne 15, 3) := dk_154 0 15 (dk_at dksL_law_71 7 rfl rfl)
theorem dL_law_1820 : decode cL_law 1820 = .ok (.aload_n 3, 1) := dk_45 (dk_at dksL_law_71 10 rfl rfl)
theorem dL_law_1821 : decode cL_law 1821 = .ok (.iconst 0, 1) := dk_3 (dk_at dksL_law_71 11 rfl rfl)
theorem dL_law_1822 : decode cL_law 1822 = .ok (.laload, 1) := dk_47 (dk_at dksL_law_71 12 rfl rfl)
theorem dL_law_1823 : decode cL_law 1823 = .ok (.iload 6, 2) := dk_21 6 (dk_at dksL_law_71 13 rfl rfl)
theorem dL_law_1825 : decode cL_law 1825 = .ok (.i2l, 1) := dk_133 (dk_at dksL_law_71 15 rfl rfl)
theorem dL_law_1826 : decode cL_law 1826 = .ok (.lcmp, 1) := dk_148 (dk_at dksL_law_71 16 rfl rfl)
theorem dL_law_1827 : decode cL_law 1827 = .ok (.ifCond .eq 5, 3) := dk_153 0 5 (dk_at dksL_law_71 17 rfl rfl)
theorem dL_law_1830 : decode cL_law 1830 = .ok (.iconst 0, 1) := dk_3 (dk_at dksL_law_71 20 rfl rfl)
theorem dL_law_1831 : decode cL_law 1831 = .ok (.ireturn, 1) := dk_172 (dk_at dksL_law_71 21 rfl rfl)
theorem dL_law_1832 : decode cL_law 1832 = .ok (.goto 1013, 3) := dk_167 3 245 (dk_at dksL_law_72 0 rfl rfl)
theorem dL_law_1835 : decode cL_law 1835 = .ok (.aload_n 1, 1) := dk_43 (dk_at dksL_law_72 3 rfl rfl)
theorem dL_law_1836 : decode cL_law 1836 = .ok (.aload_n 0, 1) := dk_42 (dk_at dksL_law_72 4 rfl rfl)
theorem dL_law_1837 : decode cL_law 1837 = .ok (.iload 4, 2) := dk_21 4 (dk_at dksL_law_72 5 rfl rfl)
theorem dL_law_1839 : decode cL_law 1839 = .ok (.iconst 1, 1) := dk_4 (dk_at dksL_law_72 7 rfl rfl)
theorem dL_law_1840 : decode cL_law 1840 = .ok (.iadd, 1) := dk_96 (dk_at dksL_law_72 8 rfl rfl)
theorem dL_law_1841 : decode cL_law 1841 = .ok (.iaload, 1) := dk_46 (dk_at dksL_law_72 9 rfl rfl)
theorem dL_law_1842 : decode cL_law 1842 = .ok (.aload_n 0, 1) := dk_42 (dk_at dksL_law_72 10 rfl rfl)
theorem dL_law_1843 : decode cL_law 1843 = .ok (.iload 4, 2) := dk_21 4 (dk_at dksL_law_72 11 rfl rfl)
theorem dL_law_1845 : decode cL_law 1845 = .ok (.iconst 2, 1) := dk_5 (dk_at dksL_law_72 13 rfl rfl)
theorem dL_law_1846 : decode cL_law 1846 = .ok (.iadd, 1) := dk_96 (dk_at dksL_law_72 14 rfl rfl)
theorem dL_law_1847 : decode cL_law 1847 = .ok (.iaload, 1) := dk_46 (dk_at dksL_law_72 15 rfl rfl)
theorem dL_law_1848 : decode cL_law 1848 = .ok (.ifCond .eq 7, 3) := dk_153 0 7 (dk_at dksL_law_72 16 rfl rfl)
theorem dL_law_1851 : decode cL_law 1851 = .ok (.iconst 1, 1) := dk_4 (dk_at dksL_law_72 19 rfl rfl)
theorem dL_law_1852 : decode cL_law 1852 = .ok (.goto 4, 3) := dk_167 0 4 (dk_at dksL_law_72 20 rfl rfl)
theorem dL_law_1855 : decode cL_law 1855 = .ok (.iconst 0, 1) := dk_3 (dk_at dksL_law_72 23 rfl rfl)
theorem dL_law_1856 : decode cL_law 1856 = .ok (.aload_n 3, 1) := dk_45 (dk_at dksL_law_73 0 rfl rfl)
theorem dL_law_1857 : decode cL_law 1857 = .ok (.invokestatic 222, 3) := dk_184 0 222 (dk_at dksL_law_73 1 rfl rfl)
theorem dL_law_1860 : decode cL_law 1860 = .ok (.istore 5, 2) := dk_54 5 (dk_at dksL_law_73 4 rfl rfl)
theorem dL_law_1862 : decode cL_law 1862 = .ok (.aload_n 2, 1) := dk_44 (dk_at dksL_law_73 6 rfl rfl)
theorem dL_law_1863 : decode cL_law 1863 = .ok (.aload_n 0, 1) := dk_42 (dk_at dksL_law_73 7 rfl rfl)
theorem dL_law_1864 : decode cL_law 1864 = .ok (.iload 4, 2) := dk_21 4 (dk_at dksL_law_73 8 rfl rfl)
theorem dL_law_1866 : decode cL_law 1866 = .ok (.iconst 1, 1) := dk_4 (dk_at dksL_law_73 10 rfl rfl)
theorem dL_law_1867 : decode cL_law 1867 = .ok (.iadd, 1) := dk_96 (dk_at dksL_law_73 11 rfl rfl)
theorem dL_law_1868 : decode cL_law 1868 = .ok (.iaload, 1) := dk_46 (dk_at dksL_law_73 12 rfl rfl)
theorem dL_law_1869 : decode cL_law 1869 = .ok (.aload_n 0, 1) := dk_42 (dk_at dksL_law_73 13 rfl rfl)
theorem dL_law_1870 : decode cL_law 1870 = .ok (.iload 4, 2) := dk_21 4 (dk_at dksL_law_73 14 rfl rfl)
theorem dL_law_1872 : decode cL_law 1872 = .ok (.iconst 2, 1) := dk_5 (dk_at dksL_law_73 16 rfl rfl)
theorem dL_law_1873 : decode cL_law 1873 = .ok (.iadd, 1) := dk_96 (dk_at dksL_law_73 17 rfl rfl)
theorem dL_law_1874 : decode cL_law 1874 = .ok (.iaload, 1) := dk_46 (dk_at dksL_law_73 18 rfl rfl)
theorem dL_law_1875 : decode cL_law 1875 = .ok (.ifCond .eq 7, 3) := dk_153 0 7 (dk_at dksL_law_73 19 rfl rfl)
theorem dL_law_1878 : decode cL_law 1878 = .ok (.iconst 1, 1) := dk_4 (dk_at dksL_law_73 22 rfl rfl)
theorem dL_law_1879 : decode cL_law 1879 = .ok (.goto 4, 3) := dk_167 0 4 (dk_at dksL_law_74 0 rfl rfl)
theorem dL_law_1882 : decode cL_law 1882 = .ok (.iconst 0, 1) := dk_3 (dk_at dksL_law_74 3 rfl rfl)
theorem dL_law_1883 : decode cL_law 1883 = .ok (.invokevirtual 224, 3) := dk_182 0 224 (dk_at dksL_law_74 4 rfl rfl)
theorem dL_law_1886 : decode cL_law 1886 = .ok (.istore 6, 2) := dk_54 6 (dk_at dksL_law_74 7 rfl rfl)
theorem dL_law_1888 : decode cL_law 1888 = .ok (.aload_n 2, 1) := dk_44 (dk_at dksL_law_74 9 rfl rfl)
theorem dL_law_1889 : decode cL_law 1889 = .ok (.invokevirtual 148, 3) := dk_182 0 148 (dk_at dksL_law_74 10 rfl rfl)
theorem dL_law_1892 : decode cL_law 1892 = .ok (.iload 5, 2) := dk_21 5 (dk_at dksL_law_74 13 rfl rfl)
theorem dL_law_1894 : decode cL_law 1894 = .ok (.if_icmp .eq 5, 3) := dk_159 0 5 (dk_at dksL_law_74 15 rfl rfl)
theorem dL_law_1897 : decode cL_law 1897 = .ok (.iconst 0, 1) := dk_3 (dk_at dksL_law_74 18 rfl rfl)
theorem dL_law_1898 : decode cL_law 1898 = .ok (.ireturn, 1) := dk_172 (dk_at dksL_law_74 19 rfl rfl)
theorem dL_law_1899 : decode cL_law 1899 = .ok (.iload 5, 2) := dk_21 5 (dk_at dksL_law_74 20 rfl rfl)
theorem dL_law_1901 : decode cL_law 1901 = .ok (.ifCond .ne 15, 3) := dk_154 0 15 (dk_at dksL_law_75 0 rfl rfl)
theorem dL_law_1904 : decode cL_law 1904 = .ok (.aload_n 3, 1) := dk_45 (dk_at dksL_law_75 3 rfl rfl)
theorem dL_law_1905 : decode cL_law 1905 = .ok (.iconst 0, 1) := dk_3 (dk_at dksL_law_75 4 rfl rfl)
theorem dL_law_1906 : decode cL_law 1906 = .ok (.laload, 1) := dk_47 (dk_at dksL_law_75 5 rfl rfl)
theorem dL_law_1907 : decode cL_law 1907 = .ok (.iload 6, 2) := dk_21 6 (dk_at dksL_law_75 6 rfl rfl)
theorem dL_law_1909 : decode cL_law 1909 = .ok (.i2l, 1) := dk_133 (dk_at dksL_law_75 8 rfl rfl)
theorem dL_law_1910 : decode cL_law 1910 = .ok (.lcmp, 1) := dk_148 (dk_at dksL_law_75 9 rfl rfl)
theorem dL_law_1911 : decode cL_law 1911 = .ok (.ifCond .eq 5, 3) := dk_153 0 5 (dk_at dksL_law_75 10 rfl rfl)
theorem dL_law_1914 : decode cL_law 1914 = .ok (.iconst 0, 1) := dk_3 (dk_at dksL_law_75 13 rfl rfl)
theorem dL_law_1915 : decode cL_law 1915 = .ok (.ireturn, 1) := dk_172 (dk_at dksL_law_75 14 rfl rfl)
theorem dL_law_1916 : decode cL_law 1916 = .ok (.goto 929, 3) := dk_167 3 161 (dk_at dksL_law_75 15 rfl rfl)
theorem dL_law_1919 : decode cL_law 1919 = .ok (.aload_n 1, 1) := dk_43 (dk_at dksL_law_75 18 rfl rfl)
theorem dL_law_1920 : decode cL_law 1920 = .ok (.aload_n 0, 1) := dk_42 (dk_at dksL_law_75 19 rfl rfl)
theorem dL_law_1921 : decode cL_law 1921 = .ok (.iload 4, 2) := dk_21 4 (dk_at dksL_law_75 20 rfl rfl)
theorem dL_law_1923 : decode cL_law 1923 = .ok (.iconst 1, 1) := dk_4 (dk_at dksL_law_75 22 rfl rfl)
theorem dL_law_1924 : decode cL_law 1924 = .ok (.iadd, 1) := dk_96 (dk_at dksL_law_75 23 rfl rfl)
theorem dL_law_1925 : decode cL_law 1925 = .ok (.iaload, 1) := dk_46 (dk_at dksL_law_76 0 rfl rfl)
theorem dL_law_1926 : decode cL_law 1926 = .ok (.aload_n 3, 1) := dk_45 (dk_at dksL_law_76 1 rfl rfl)
theorem dL_law_1927 : decode cL_law 1927 = .ok (.invokestatic 225, 3) := dk_184 0 225 (dk_at dksL_law_76 2 rfl rfl)
theorem dL_law_1930 : decode cL_law 1930 = .ok (.istore 5, 2) := dk_54 5 (dk_at dksL_law_76 5 rfl rfl)
theorem dL_law_1932 : decode cL_law 1932 = .ok (.aload_n 2, 1) := dk_44 (dk_at dksL_law_76 7 rfl rfl)
theorem dL_law_1933 : decode cL_law 1933 = .ok (.aload_n 0, 1) := dk_42 (dk_at dksL_law_76 8 rfl rfl)
theorem dL_law_1934 : decode cL_law 1934 = .ok (.iload 4, 2) := dk_21 4 (dk_at dksL_law_76 9 rfl rfl)
theorem dL_law_1936 : decode cL_law 1936 = .ok (.iconst 1, 1) := dk_4 (dk_at dksL_law_76 11 rfl rfl)
theorem dL_law_1937 : decode cL_law 1937 = .ok (.iadd, 1) := dk_96 (dk_at dksL_law_76 12 rfl rfl)
theorem dL_law_1938 : decode cL_law 1938 = .ok (.iaload, 1) := dk_46 (dk_at dksL_law_76 13 rfl rfl)
theorem dL_law_1939 : decode cL_law 1939 = .ok (.invokevirtual 227, 3) := dk_182 0 227 (dk_at dksL_law_76 14 rfl rfl)
theorem dL_law_1942 : decode cL_law 1942 = .ok (.istore 6, 2) := dk_54 6 (dk_at dksL_law_76 17 rfl rfl)
theorem dL_law_1944 : decode cL_law 1944 = .ok (.aload_n 2, 1) := dk_44 (dk_at dksL_law_76 19 rfl rfl)
theorem dL_law_1945 : decode cL_law 1945 = .ok (.invokevirtual 148, 3) := dk_182 0 148 (dk_at dksL_law_76 20 rfl rfl)
theorem dL_law_1948 : decode cL_law 1948 = .ok (.iload 5, 2) := dk_21 5 (dk_at dksL_law_77 0 rfl rfl)
theorem dL_law_1950 : decode cL_law 1950 = .ok (.if_icmp .eq 5, 3) := dk_159 0 5 (dk_at dksL_law_77 2 rfl rfl)
theorem dL_law_1953 : decode cL_law 1953 = .ok (.iconst 0, 1) := dk_3 (dk_at dksL_law_77 5 rfl rfl)
theorem dL_law_1954 : decode cL_law 1954 = .ok (.ireturn, 1) := dk_172 (dk_at dksL_law_77 6 rfl rfl)
theorem dL_law_1955 : decode cL_law 1955 = .ok (.iload 5, 2) := dk_21 5 (dk_at dksL_law_77 7 rfl rfl)
theorem dL_law_1957 : decode cL_law 1957 = .ok (.ifCond .ne 15, 3) := dk_154 0 15 (dk_at dksL_law_77 9 rfl rfl)
theorem dL_law_1960 : decode cL_law 1960 = .ok (.aload_n 3, 1) := dk_45 (dk_at dksL_law_77 12 rfl rfl)
theorem dL_law_1961 : decode cL_law 1961 = .ok (.iconst 0, 1) := dk_3 (dk_at dksL_law_77 13 rfl rfl)
theorem dL_law_1962 : decode cL_law 1962 = .ok (.laload, 1) := dk_47 (dk_at dksL_law_77 14 rfl rfl)
theorem dL_law_1963 : decode cL_law 1963 = .ok (.iload 6, 2) := dk_21 6 (dk_at dksL_law_77 15 rfl rfl)
theorem dL_law_1965 : decode cL_law 1965 = .ok (.i2l, 1) := dk_133 (dk_at dksL_law_77 17 rfl rfl)
theorem dL_law_1966 : decode cL_law 1966 = .ok (.lcmp, 1) := dk_148 (dk_at dksL_law_77 18 rfl rfl)
theorem dL_law_1967 : decode cL_law 1967 = .ok (.ifCond .eq 5, 3) := dk_153 0 5 (dk_at dksL_law_77 19 rfl rfl)
theorem dL_law_1970 : decode cL_law 1970 = .ok (.iconst 0, 1) := dk_3 (dk_at dksL_law_77 22 rfl rfl)
theorem dL_law_1971 : decode cL_law 1971 = .ok (.ireturn, 1) := dk_172 (dk_at dksL_law_77 23 rfl rfl)
theorem dL_law_1972 : decode cL_law 1972 = .ok (.goto 873, 3) := dk_167 3 105 (dk_at dksL_law_78 0 rfl rfl)
theorem dL_law_1975 : decode cL_law 1975 = .ok (.aload_n 1, 1) := dk_43 (dk_at dksL_law_78 3 rfl rfl)
theorem dL_law_1976 : decode cL_law 1976 = .ok (.aload_n 0, 1) := dk_42 (dk_at dksL_law_78 4 rfl rfl)
theorem dL_law_1977 : decode cL_law 1977 = .ok (.iload 4, 2) := dk_21 4 (dk_at dksL_law_78 5 rfl rfl)
theorem dL_law_1979 : decode cL_law 1979 = .ok (.iconst 1, 1) := dk_4 (dk_at dksL_law_78 7 rfl rfl)
theorem dL_law_1980 : decode cL_law 1980 = .ok (.iadd, 1) := dk_96 (dk_at dksL_law_78 8 rfl rfl)
theorem dL_law_1981 : decode cL_law 1981 = .ok (.iaload, 1) := dk_46 (dk_at dksL_law_78 9 rfl rfl)
theorem dL_law_1982 : decode cL_law 1982 = .ok (.ifCond .eq 7, 3) := dk_153 0 7 (dk_at dksL_law_78 10 rfl rfl)
theorem dL_law_1985 : decode cL_law 1985 = .ok (.iconst 1, 1) := dk_4 (dk_at dksL_law_78 13 rfl rfl)
theorem dL_law_1986 : decode cL_law 1986 = .ok (.goto 4, 3) := dk_167 0 4 (dk_at dksL_law_78 14 rfl rfl)
theorem dL_law_1989 : decode cL_law 1989 = .ok (.iconst 0, 1) := dk_3 (dk_at dksL_law_78 17 rfl rfl)
theorem dL_law_1990 : decode cL_law 1990 = .ok (.aload_n 3, 1) := dk_45 (dk_at dksL_law_78 18 rfl rfl)
theorem dL_law_1991 : decode cL_law 1991 = .ok (.invokestatic 228, 3) := dk_184 0 228 (dk_at dksL_law_78 19 rfl rfl)
theorem dL_law_1994 : decode cL_law 1994 = .ok (.istore 5, 2) := dk_54 5 (dk_at dksL_law_78 22 rfl rfl)
theorem dL_law_1996 : decode cL_law 1996 = .ok (.aload_n 2, 1) := dk_44 (dk_at dksL_law_79 0 rfl rfl)
theorem dL_law_1997 : decode cL_law 1997 = .ok (.aload_n 0, 1) := dk_42 (dk_at dksL_law_79 1 rfl rfl)
theorem dL_law_1998 : decode cL_law 1998 = .ok (.iload 4, 2) := dk_21 4 (dk_at dksL_law_79 2 rfl rfl)
theorem dL_law_2000 : decode cL_law 2000 = .ok (.iconst 1, 1) := dk_4 (dk_at dksL_law_79 4 rfl rfl)
theorem dL_law_2001 : decode cL_law 2001 = .ok (.iadd, 1) := dk_96 (dk_at dksL_law_79 5 rfl rfl)
theorem dL_law_2002 : decode cL_law 2002 = .ok (.iaload, 1) := dk_46 (dk_at dksL_law_79 6 rfl rfl)
theorem dL_law_2003 : decode cL_law 2003 = .ok (.ifCond .eq 7, 3) := dk_153 0 7 (dk_at dksL_law_79 7 rfl rfl)
theorem dL_law_2006 : decode cL_law 2006 = .ok (.iconst 1, 1) := dk_4 (dk_at dksL_law_79 10 rfl rfl)
theorem dL_law_2007 : decode cL_law 2007 = .ok (.goto 4, 3) := dk_167 0 4 (dk_at dksL_law_79 11 rfl rfl)
theorem dL_law_2010 : decode cL_law 2010 = .ok (.iconst 0, 1) := dk_3 (dk_at dksL_law_79 14 rfl rfl)
theorem dL_law_2011 : decode cL_law 2011 = .ok (.invokevirtual 231, 3) := dk_182 0 231 (dk_at dksL_law_79 15 rfl rfl)
theorem dL_law_2014 : decode cL_law 2014 = .ok (.istore 6, 2) := dk_54 6 (dk_at dksL_law_79 18 rfl rfl)
theorem dL_law_2016 : decode cL_law 2016 = .ok (.aload_n 2, 1) := dk_44 (dk_at dksL_law_79 20 rfl rfl)
theorem dL_law_2017 : decode cL_law 2017 = .ok (.invokevirtual 148, 3) := dk_182 0 148 (dk_at dksL_law_79 21 rfl rfl)
theorem dL_law_2020 : decode cL_law 2020 = .ok (.iload 5, 2) := dk_21 5 (dk_at dksL_law_80 0 rfl rfl)
theorem dL_law_2022 : decode cL_law 2022 = .ok (.if_icmp .eq 5, 3) := dk_159 0 5 (dk_at dksL_law_80 2 rfl rfl)
theorem dL_law_2025 : decode cL_law 2025 = .ok (.iconst 0, 1) := dk_3 (dk_at dksL_law_80 5 rfl rfl)
theorem dL_law_2026 : decode cL_law 2026 = .ok (.ireturn, 1) := dk_172 (dk_at dksL_law_80 6 rfl rfl)
theorem dL_law_2027 : decode cL_law 2027 = .ok (.iload 5, 2) := dk_21 5 (dk_at dksL_law_80 7 rfl rfl)
theorem dL_law_2029 : decode cL_law 2029 = .ok (.ifCond .ne 15, 3) := dk_154 0 15 (dk_at dksL_law_80 9 rfl rfl)
theorem dL_law_2032 : decode cL_law 2032 = .ok (.aload_n 3, 1) := dk_45 (dk_at dksL_law_80 12 rfl rfl)
theorem dL_law_2033 : decode cL_law 2033 = .ok (.iconst 0, 1) := dk_3 (dk_at dksL_law_80 13 rfl rfl)
theorem dL_law_2034 : decode cL_law 2034 = .ok (.laload, 1) := dk_47 (dk_at dksL_law_80 14 rfl rfl)
theorem dL_law_2035 : decode cL_law 2035 = .ok (.iload 6, 2) := dk_21 6 (dk_at dksL_law_80 15 rfl rfl)
theorem dL_law_2037 : decode cL_law 2037 = .ok (.i2l, 1) := dk_133 (dk_at dksL_law_80 17 rfl rfl)
theorem dL_law_2038 : decode cL_law 2038 = .ok (.lcmp, 1) := dk_148 (dk_at dksL_law_80 18 rfl rfl)
theorem dL_law_2039 : decode cL_law 2039 = .ok (.ifCond .eq 5, 3) := dk_153 0 5 (dk_at dksL_law_80 19 rfl rfl)
theorem dL_law_2042 : decode cL_law 2042 = .ok (.iconst 0, 1) := dk_3 (dk_at dksL_law_80 22 rfl rfl)
theorem dL_law_2043 : decode cL_law 2043 = .ok (.ireturn, 1) := dk_172 (dk_at dksL_law_80 23 rfl rfl)
theorem dL_law_2044 : decode cL_law 2044 = .ok (.goto 801, 3) := dk_167 3 33 (dk_at dksL_law_81 0 rfl rfl)
theorem dL_law_2047 : decode cL_law 2047 = .ok (.aload_n 1, 1) := dk_43 (dk_at dksL_law_81 3 rfl rfl)
theorem dL_law_2048 : decode cL_law 2048 = .ok (.aload_n 3, 1) := dk_45 (dk_at dksL_law_81 4 rfl rfl)
theorem dL_law_2049 : decode cL_law 2049 = .ok (.invokestatic 232, 3) := dk_184 0 232 (dk_at dksL_law_81 5 rfl rfl)
theorem dL_law_2052 : decode cL_law 2052 = .ok (.istore 5, 2) := dk_54 5 (dk_at dksL_law_81 8 rfl rfl)
theorem dL_law_2054 : decode cL_law 2054 = .ok (.aload_n 2, 1) := dk_44 (dk_at dksL_law_81 10 rfl rfl)
theorem dL_law_2055 : decode cL_law 2055 = .ok (.invokevirtual 234, 3) := dk_182 0 234 (dk_at dksL_law_81 11 rfl rfl)
theorem dL_law_2058 : decode cL_law 2058 = .ok (.istore 6, 2) := dk_54 6 (dk_at dksL_law_81 14 rfl rfl)
theorem dL_law_2060 : decode cL_law 2060 = .ok (.aload_n 2, 1) := dk_44 (dk_at dksL_law_81 16 rfl rfl)
theorem dL_law_2061 : decode cL_law 2061 = .ok (.invokevirtual 148, 3) := dk_182 0 148 (dk_at dksL_law_81 17 rfl rfl)
theorem dL_law_2064 : decode cL_law 2064 = .ok (.iload 5, 2) := dk_21 5 (dk_at dksL_law_81 20 rfl rfl)
theorem dL_law_2066 : decode cL_law 2066 = .ok (.if_icmp .eq 5, 3) := dk_159 0 5 (dk_at dksL_law_82 0 rfl rfl)
theorem dL_law_2069 : decode cL_law 2069 = .ok (.iconst 0, 1) := dk_3 (dk_at dksL_law_82 3 rfl rfl)
theorem dL_law_2070 : decode cL_law 2070 = .ok (.ireturn, 1) := dk_172 (dk_at dksL_law_82 4 rfl rfl)
theorem dL_law_2071 : decode cL_law 2071 = .ok (.iload 5, 2) := dk_21 5 (dk_at dksL_law_82 5 rfl rfl)
theorem dL_law_2073 : decode cL_law 2073 = .ok (.ifCond .ne 15, 3) := dk_154 0 15 (dk_at dksL_law_82 7 rfl rfl)
theorem dL_law_2076 : decode cL_law 2076 = .ok (.aload_n 3, 1) := dk_45 (dk_at dksL_law_82 10 rfl rfl)
theorem dL_law_2077 : decode cL_law 2077 = .ok (.iconst 0, 1) := dk_3 (dk_at dksL_law_82 11 rfl rfl)
theorem dL_law_2078 : decode cL_law 2078 = .ok (.laload, 1) := dk_47 (dk_at dksL_law_82 12 rfl rfl)
theorem dL_law_2079 : decode cL_law 2079 = .ok (.iload 6, 2) := dk_21 6 (dk_at dksL_law_82 13 rfl rfl)
theorem dL_law_2081 : decode cL_law 2081 = .ok (.i2l, 1) := dk_133 (dk_at dksL_law_82 15 rfl rfl)
theorem dL_law_2082 : decode cL_law 2082 = .ok (.lcmp, 1) := dk_148 (dk_at dksL_law_82 16 rfl rfl)
theorem dL_law_2083 : decode cL_law 2083 = .ok (.ifCond .eq 5, 3) := dk_153 0 5 (dk_at dksL_law_82 17 rfl rfl)
theorem dL_law_2086 : decode cL_law 2086 = .ok (.iconst 0, 1) := dk_3 (dk_at dksL_law_82 20 rfl rfl)
theorem dL_law_2087 : decode cL_law 2087 = .ok (.ireturn, 1) := dk_172 (dk_at dksL_law_82 21 rfl rfl)
theorem dL_law_2088 : decode cL_law 2088 = .ok (.goto 757, 3) := dk_167 2 245 (dk_at dksL_law_83 0 rfl rfl)
theorem dL_law_2091 : decode cL_law 2091 = .ok (.aload_n 1, 1) := dk_43 (dk_at dksL_law_83 3 rfl rfl)
theorem dL_law_2092 : decode cL_law 2092 = .ok (.aload_n 0, 1) := dk_42 (dk_at dksL_law_83 4 rfl rfl)
theorem dL_law_2093 : decode cL_law 2093 = .ok (.iload 4, 2) := dk_21 4 (dk_at dksL_law_83 5 rfl rfl)
theorem dL_law_2095 : decode cL_law 2095 = .ok (.iconst 1, 1) := dk_4 (dk_at dksL_law_83 7 rfl rfl)
theorem dL_law_2096 : decode cL_law 2096 = .ok (.iadd, 1) := dk_96 (dk_at dksL_law_83 8 rfl rfl)
theorem dL_law_2097 : decode cL_law 2097 = .ok (.iaload, 1) := dk_46 (dk_at dksL_law_83 9 rfl rfl)
theorem dL_law_2098 : decode cL_law 2098 = .ok (.aload_n 0, 1) := dk_42 (dk_at dksL_law_83 10 rfl rfl)
theorem dL_law_2099 : decode cL_law 2099 = .ok (.iload 4, 2) := dk_21 4 (dk_at dksL_law_83 11 rfl rfl)
theorem dL_law_2101 : decode cL_law 2101 = .ok (.iconst 2, 1) := dk_5 (dk_at dksL_law_83 13 rfl rfl)
theorem dL_law_2102 : decode cL_law 2102 = .ok (.iadd, 1) := dk_96 (dk_at dksL_law_83 14 rfl rfl)
theorem dL_law_2103 : decode cL_law 2103 = .ok (.iaload, 1) := dk_46 (dk_at dksL_law_83 15 rfl rfl)
theorem dL_law_2104 : decode cL_law 2104 = .ok (.aload_n 3, 1) := dk_45 (dk_at dksL_law_83 16 rfl rfl)
theorem dL_law_2105 : decode cL_law 2105 = .ok (.invokestatic 235, 3) := dk_184 0 235 (dk_at dksL_law_83 17 rfl rfl)
theorem dL_law_2108 : decode cL_law 2108 = .ok (.istore 5, 2) := dk_54 5 (dk_at dksL_law_83 20 rfl rfl)
theorem dL_law_2110 : decode cL_law 2110 = .ok (.aload_n 2, 1) := dk_44 (dk_at dksL_law_83 22 rfl rfl)
theorem dL_law_2111 : decode cL_law 2111 = .ok (.aload_n 0, 1) := dk_42 (dk_at dksL_law_83 23 rfl rfl)
theorem dL_law_2112 : decode cL_law 2112 = .ok (.iload 4, 2) := dk_21 4 (dk_at dksL_law_84 0 rfl rfl)
theorem dL_law_2114 : decode cL_law 2114 = .ok (.iconst 1, 1) := dk_4 (dk_at dksL_law_84 2 rfl rfl)
theorem dL_law_2115 : decode cL_law 2115 = .ok (.iadd, 1) := dk_96 (dk_at dksL_law_84 3 rfl rfl)
theorem dL_law_2116 : decode cL_law 2116 = .ok (.iaload, 1) := dk_46 (dk_at dksL_law_84 4 rfl rfl)
theorem dL_law_2117 : decode cL_law 2117 = .ok (.aload_n 0, 1) := dk_42 (dk_at dksL_law_84 5 rfl rfl)
theorem dL_law_2118 : decode cL_law 2118 = .ok (.iload 4, 2) := dk_21 4 (dk_at dksL_law_84 6 rfl rfl)
theorem dL_law_2120 : decode cL_law 2120 = .ok (.iconst 2, 1) := dk_5 (dk_at dksL_law_84 8 rfl rfl)
theorem dL_law_2121 : decode cL_law 2121 = .ok (.iadd, 1) := dk_96 (dk_at dksL_law_84 9 rfl rfl)
theorem dL_law_2122 : decode cL_law 2122 = .ok (.iaload, 1) := dk_46 (dk_at dksL_law_84 10 rfl rfl)
theorem dL_law_2123 : decode cL_law 2123 = .ok (.invokevirtual 237, 3) := dk_182 0 237 (dk_at dksL_law_84 11 rfl rfl)
theorem dL_law_2126 : decode cL_law 2126 = .ok (.istore 6, 2) := dk_54 6 (dk_at dksL_law_84 14 rfl rfl)
theorem dL_law_2128 : decode cL_law 2128 = .ok (.aload_n 2, 1) := dk_44 (dk_at dksL_law_84 16 rfl rfl)
theorem dL_law_2129 : decode cL_law 2129 = .ok (.invokevirtual 148, 3) := dk_182 0 148 (dk_at dksL_law_84 17 rfl rfl)
theorem dL_law_2132 : decode cL_law 2132 = .ok (.iload 5, 2) := dk_21 5 (dk_at dksL_law_84 20 rfl rfl)
theorem dL_law_2134 : decode cL_law 2134 = .ok (.if_icmp .eq 5, 3) := dk_159 0 5 (dk_at dksL_law_85 0 rfl rfl)
theorem dL_law_2137 : decode cL_law 2137 = .ok (.iconst 0, 1) := dk_3 (dk_at dksL_law_85 3 rfl rfl)
theorem dL_law_2138 : decode cL_law 2138 = .ok (.ireturn, 1) := dk_172 (dk_at dksL_law_85 4 rfl rfl)
theorem dL_law_2139 : decode cL_law 2139 = .ok (.iload 5, 2) := dk_21 5 (dk_at dksL_law_85 5 rfl rfl)
theorem dL_law_2141 : decode cL_law 2141 = .ok (.ifCond .ne 15, 3) := dk_154 0 15 (dk_at dksL_law_85 7 rfl rfl)
theorem dL_law_2144 : decode cL_law 2144 = .ok (.aload_n 3, 1) := dk_45 (dk_at dksL_law_85 10 rfl rfl)
theorem dL_law_2145 : decode cL_law 2145 = .ok (.iconst 0, 1) := dk_3 (dk_at dksL_law_85 11 rfl rfl)
theorem dL_law_2146 : decode cL_law 2146 = .ok (.laload, 1) := dk_47 (dk_at dksL_law_85 12 rfl rfl)
theorem dL_law_2147 : decode cL_law 2147 = .ok (.iload 6, 2) := dk_21 6 (dk_at dksL_law_85 13 rfl rfl)
theorem dL_law_2149 : decode cL_law 2149 = .ok (.i2l, 1) := dk_133 (dk_at dksL_law_85 15 rfl rfl)
theorem dL_law_2150 : decode cL_law 2150 = .ok (.lcmp, 1) := dk_148 (dk_at dksL_law_85 16 rfl rfl)
theorem dL_law_2151 : decode cL_law 2151 = .ok (.ifCond .eq 5, 3) := dk_153 0 5 (dk_at dksL_law_85 17 rfl rfl)
theorem dL_law_2154 : decode cL_law 2154 = .ok (.iconst 0, 1) := dk_3 (dk_at dksL_law_85 20 rfl rfl)
theorem dL_law_2155 : decode cL_law 2155 = .ok (.ireturn, 1) := dk_172 (dk_at dksL_law_85 21 rfl rfl)
theorem dL_law_2156 : decode cL_law 2156 = .ok (.goto 689, 3) := dk_167 2 177 (dk_at dksL_law_86 0 rfl rfl)
theorem dL_law_2159 : decode cL_law 2159 = .ok (.aload_n 1, 1) := dk_43 (dk_at dksL_law_86 3 rfl rfl)
theorem dL_law_2160 : decode cL_law 2160 = .ok (.invokevirtual 238, 3) := dk_182 0 238 (dk_at dksL_law_86 4 rfl rfl)
theorem dL_law_2163 : decode cL_law 2163 = .ok (.aload_n 2, 1) := dk_44 (dk_at dksL_law_86 7 rfl rfl)
theorem dL_law_2164 : decode cL_law 2164 = .ok (.invokevirtual 241, 3) := dk_182 0 241 (dk_at dksL_law_86 8 rfl rfl)
theorem dL_law_2167 : decode cL_law 2167 = .ok (.if_icmp .eq 678, 3) := dk_159 2 166 (dk_at dksL_law_86 11 rfl rfl)
theorem dL_law_2170 : decode cL_law 2170 = .ok (.iconst 0, 1) := dk_3 (dk_at dksL_law_86 14 rfl rfl)
theorem dL_law_2171 : decode cL_law 2171 = .ok (.ireturn, 1) := dk_172 (dk_at dksL_law_86 15 rfl rfl)
theorem dL_law_2172 : decode cL_law 2172 = .ok (.aload_n 1, 1) := dk_43 (dk_at dksL_law_86 16 rfl rfl)
theorem dL_law_2173 : decode cL_law 2173 = .ok (.aload_n 0, 1) := dk_42 (dk_at dksL_law_86 17 rfl rfl)
theorem dL_law_2174 : decode cL_law 2174 = .ok (.iload 4, 2) := dk_21 4 (dk_at dksL_law_86 18 rfl rfl)
theorem dL_law_2176 : decode cL_law 2176 = .ok (.iconst 1, 1) := dk_4 (dk_at dksL_law_86 20 rfl rfl)
theorem dL_law_2177 : decode cL_law 2177 = .ok (.iadd, 1) := dk_96 (dk_at dksL_law_86 21 rfl rfl)
theorem dL_law_2178 : decode cL_law 2178 = .ok (.iaload, 1) := dk_46 (dk_at dksL_law_86 22 rfl rfl)
theorem dL_law_2179 : decode cL_law 2179 = .ok (.aload_n 0, 1) := dk_42 (dk_at dksL_law_86 23 rfl rfl)
theorem dL_law_2180 : decode cL_law 2180 = .ok (.iload 4, 2) := dk_21 4 (dk_at dksL_law_87 0 rfl rfl)
theorem dL_law_2182 : decode cL_law 2182 = .ok (.iconst 2, 1) := dk_5 (dk_at dksL_law_87 2 rfl rfl)
theorem dL_law_2183 : decode cL_law 2183 = .ok (.iadd, 1) := dk_96 (dk_at dksL_law_87 3 rfl rfl)
theorem dL_law_2184 : decode cL_law 2184 = .ok (.iaload, 1) := dk_46 (dk_at dksL_law_87 4 rfl rfl)
theorem dL_law_2185 : decode cL_law 2185 = .ok (.aload_n 0, 1) := dk_42 (dk_at dksL_law_87 5 rfl rfl)
theorem dL_law_2186 : decode cL_law 2186 = .ok (.iload 4, 2) := dk_21 4 (dk_at dksL_law_87 6 rfl rfl)
theorem dL_law_2188 : decode cL_law 2188 = .ok (.iconst 3, 1) := dk_6 (dk_at dksL_law_87 8 rfl rfl)
theorem dL_law_2189 : decode cL_law 2189 = .ok (.iadd, 1) := dk_96 (dk_at dksL_law_87 9 rfl rfl)
theorem dL_law_2190 : decode cL_law 2190 = .ok (.iaload, 1) := dk_46 (dk_at dksL_law_87 10 rfl rfl)
theorem dL_law_2191 : decode cL_law 2191 = .ok (.aload_n 3, 1) := dk_45 (dk_at dksL_law_87 11 rfl rfl)
theorem dL_law_2192 : decode cL_law 2192 = .ok (.invokestatic 242, 3) := dk_184 0 242 (dk_at dksL_law_87 12 rfl rfl)
theorem dL_law_2195 : decode cL_law 2195 = .ok (.istore 5, 2) := dk_54 5 (dk_at dksL_law_87 15 rfl rfl)
theorem dL_law_2197 : decode cL_law 2197 = .ok (.aload_n 2, 1) := dk_44 (dk_at dksL_law_87 17 rfl rfl)
theorem dL_law_2198 : decode cL_law 2198 = .ok (.aload_n 0, 1) := dk_42 (dk_at dksL_law_87 18 rfl rfl)
theorem dL_law_2199 : decode cL_law 2199 = .ok (.iload 4, 2) := dk_21 4 (dk_at dksL_law_87 19 rfl rfl)
theorem dL_law_2201 : decode cL_law 2201 = .ok (.iconst 1, 1) := dk_4 (dk_at dksL_law_87 21 rfl rfl)
theorem dL_law_2202 : decode cL_law 2202 = .ok (.iadd, 1) := dk_96 (dk_at dksL_law_87 22 rfl rfl)
theorem dL_law_2203 : decode cL_law 2203 = .ok (.iaload, 1) := dk_46 (dk_at dksL_law_87 23 rfl rfl)
theorem dL_law_2204 : decode cL_law 2204 = .ok (.aload_n 0, 1) := dk_42 (dk_at dksL_law_88 0 rfl rfl)
theorem dL_law_2205 : decode cL_law 2205 = .ok (.iload 4, 2) := dk_21 4 (dk_at dksL_law_88 1 rfl rfl)
theorem dL_law_2207 : decode cL_law 2207 = .ok (.iconst 2, 1) := dk_5 (dk_at dksL_law_88 3 rfl rfl)
theorem dL_law_2208 : decode cL_law 2208 = .ok (.iadd, 1) := dk_96 (dk_at dksL_law_88 4 rfl rfl)
theorem dL_law_2209 : decode cL_law 2209 = .ok (.iaload, 1) := dk_46 (dk_at dksL_law_88 5 rfl rfl)
theorem dL_law_2210 : decode cL_law 2210 = .ok (.aload_n 0, 1) := dk_42 (dk_at dksL_law_88 6 rfl rfl)
theorem dL_law_2211 : decode cL_law 2211 = .ok (.iload 4, 2) := dk_21 4 (dk_at dksL_law_88 7 rfl rfl)
theorem dL_law_2213 : decode cL_law 2213 = .ok (.iconst 3, 1) := dk_6 (dk_at dksL_law_88 9 rfl rfl)
theorem dL_law_2214 : decode cL_law 2214 = .ok (.iadd, 1) := dk_96 (dk_at dksL_law_88 10 rfl rfl)
theorem dL_law_2215 : decode cL_law 2215 = .ok (.iaload, 1) := dk_46 (dk_at dksL_law_88 11 rfl rfl)
theorem dL_law_2216 : decode cL_law 2216 = .ok (.invokevirtual 244, 3) := dk_182 0 244 (dk_at dksL_law_88 12 rfl rfl)
theorem dL_law_2219 : decode cL_law 2219 = .ok (.istore 6, 2) := dk_54 6 (dk_at dksL_law_88 15 rfl rfl)
theorem dL_law_2221 : decode cL_law 2221 = .ok (.aload_n 2, 1) := dk_44 (dk_at dksL_law_88 17 rfl rfl)
theorem dL_law_2222 : decode cL_law 2222 = .ok (.invokevirtual 148, 3) := dk_182 0 148 (dk_at dksL_law_88 18 rfl rfl)
theorem dL_law_2225 : decode cL_law 2225 = .ok (.iload 5, 2) := dk_21 5 (dk_at dksL_law_88 21 rfl rfl)
theorem dL_law_2227 : decode cL_law 2227 = .ok (.if_icmp .eq 5, 3) := dk_159 0 5 (dk_at dksL_law_89 0 rfl rfl)
theorem dL_law_2230 : decode cL_law 2230 = .ok (.iconst 0, 1) := dk_3 (dk_at dksL_law_89 3 rfl rfl)
theorem dL_law_2231 : decode cL_law 2231 = .ok (.ireturn, 1) := dk_172 (dk_at dksL_law_89 4 rfl rfl)
theorem dL_law_2232 : decode cL_law 2232 = .ok (.iload 5, 2) := dk_21 5 (dk_at dksL_law_89 5 rfl rfl)
theorem dL_law_2234 : decode cL_law 2234 = .ok (.ifCond .ne 15, 3) := dk_154 0 15 (dk_at dksL_law_89 7 rfl rfl)
theorem dL_law_2237 : decode cL_law 2237 = .ok (.aload_n 3, 1) := dk_45 (dk_at dksL_law_89 10 rfl rfl)
theorem dL_law_2238 : decode cL_law 2238 = .ok (.iconst 0, 1) := dk_3 (dk_at dksL_law_89 11 rfl rfl)
theorem dL_law_2239 : decode cL_law 2239 = .ok (.laload, 1) := dk_47 (dk_at dksL_law_89 12 rfl rfl)
theorem dL_law_2240 : decode cL_law 2240 = .ok (.iload 6, 2) := dk_21 6 (dk_at dksL_law_89 13 rfl rfl)
theorem dL_law_2242 : decode cL_law 2242 = .ok (.i2l, 1) := dk_133 (dk_at dksL_law_89 15 rfl rfl)
theorem dL_law_2243 : decode cL_law 2243 = .ok (.lcmp, 1) := dk_148 (dk_at dksL_law_89 16 rfl rfl)
theorem dL_law_2244 : decode cL_law 2244 = .ok (.ifCond .eq 5, 3) := dk_153 0 5 (dk_at dksL_law_89 17 rfl rfl)
theorem dL_law_2247 : decode cL_law 2247 = .ok (.iconst 0, 1) := dk_3 (dk_at dksL_law_89 20 rfl rfl)
theorem dL_law_2248 : decode cL_law 2248 = .ok (.ireturn, 1) := dk_172 (dk_at dksL_law_89 21 rfl rfl)
theorem dL_law_2249 : decode cL_law 2249 = .ok (.goto 596, 3) := dk_167 2 84 (dk_at dksL_law_90 0 rfl rfl)
theorem dL_law_2252 : decode cL_law 2252 = .ok (.aload_n 1, 1) := dk_43 (dk_at dksL_law_90 3 rfl rfl)
theorem dL_law_2253 : decode cL_law 2253 = .ok (.invokevirtual 245, 3) := dk_182 0 245 (dk_at dksL_law_90 4 rfl rfl)
theorem dL_law_2256 : decode cL_law 2256 = .ok (.aload_n 2, 1) := dk_44 (dk_at dksL_law_90 7 rfl rfl)
theorem dL_law_2257 : decode cL_law 2257 = .ok (.invokevirtual 248, 3) := dk_182 0 248 (dk_at dksL_law_90 8 rfl rfl)
theorem dL_law_2260 : decode cL_law 2260 = .ok (.if_icmp .eq 585, 3) := dk_159 2 73 (dk_at dksL_law_90 11 rfl rfl)
theorem dL_law_2263 : decode cL_law 2263 = .ok (.iconst 0, 1) := dk_3 (dk_at dksL_law_90 14 rfl rfl)
theorem dL_law_2264 : decode cL_law 2264 = .ok (.ireturn, 1) := dk_172 (dk_at dksL_law_90 15 rfl rfl)
theorem dL_law_2265 : decode cL_law 2265 = .ok (.aload_n 1, 1) := dk_43 (dk_at dksL_law_90 16 rfl rfl)
theorem dL_law_2266 : decode cL_law 2266 = .ok (.aload_n 0, 1) := dk_42 (dk_at dksL_law_90 17 rfl rfl)
theorem dL_law_2267 : decode cL_law 2267 = .ok (.iload 4, 2) := dk_21 4 (dk_at dksL_law_90 18 rfl rfl)
theorem dL_law_2269 : decode cL_law 2269 = .ok (.iconst 1, 1) := dk_4 (dk_at dksL_law_90 20 rfl rfl)
theorem dL_law_2270 : decode cL_law 2270 = .ok (.iadd, 1) := dk_96 (dk_at dksL_law_90 21 rfl rfl)
theorem dL_law_2271 : decode cL_law 2271 = .ok (.iaload, 1) := dk_46 (dk_at dksL_law_90 22 rfl rfl)
theorem dL_law_2272 : decode cL_law 2272 = .ok (.aload_n 0, 1) := dk_42 (dk_at dksL_law_90 23 rfl rfl)
theorem dL_law_2273 : decode cL_law 2273 = .ok (.iload 4, 2) := dk_21 4 (dk_at dksL_law_91 0 rfl rfl)
theorem dL_law_2275 : decode cL_law 2275 = .ok (.iconst 2, 1) := dk_5 (dk_at dksL_law_91 2 rfl rfl)
theorem dL_law_2276 : decode cL_law 2276 = .ok (.iadd, 1) := dk_96 (dk_at dksL_law_91 3 rfl rfl)
theorem dL_law_2277 : decode cL_law 2277 = .ok (.iaload, 1) := dk_46 (dk_at dksL_law_91 4 rfl rfl)
theorem dL_law_2278 : decode cL_law 2278 = .ok (.ifCond .eq 7, 3) := dk_153 0 7 (dk_at dksL_law_91 5 rfl rfl)
theorem dL_law_2281 : decode cL_law 2281 = .ok (.iconst 1, 1) := dk_4 (dk_at dksL_law_91 8 rfl rfl)
theorem dL_law_2282 : decode cL_law 2282 = .ok (.goto 4, 3) := dk_167 0 4 (dk_at dksL_law_91 9 rfl rfl)
theorem dL_law_2285 : decode cL_law 2285 = .ok (.iconst 0, 1) := dk_3 (dk_at dksL_law_91 12 rfl rfl)
theorem dL_law_2286 : decode cL_law 2286 = .ok (.aload_n 3, 1) := dk_45 (dk_at dksL_law_91 13 rfl rfl)
theorem dL_law_2287 : decode cL_law 2287 = .ok (.invokestatic 249, 3) := dk_184 0 249 (dk_at dksL_law_91 14 rfl rfl)
theorem dL_law_2290 : decode cL_law 2290 = .ok (.istore 5, 2) := dk_54 5 (dk_at dksL_law_91 17 rfl rfl)
theorem dL_law_2292 : decode cL_law 2292 = .ok (.aload_n 2, 1) := dk_44 (dk_at dksL_law_91 19 rfl rfl)
theorem dL_law_2293 : decode cL_law 2293 = .ok (.aload_n 0, 1) := dk_42 (dk_at dksL_law_91 20 rfl rfl)
theorem dL_law_2294 : decode cL_law 2294 = .ok (.iload 4, 2) := dk_21 4 (dk_at dksL_law_91 21 rfl rfl)
theorem dL_law_2296 : decode cL_law 2296 = .ok (.iconst 1, 1) := dk_4 (dk_at dksL_law_91 23 rfl rfl)
theorem dL_law_2297 : decode cL_law 2297 = .ok (.iadd, 1) := dk_96 (dk_at dksL_law_92 0 rfl rfl)
theorem dL_law_2298 : decode cL_law 2298 = .ok (.iaload, 1) := dk_46 (dk_at dksL_law_92 1 rfl rfl)
theorem dL_law_2299 : decode cL_law 2299 = .ok (.aload_n 0, 1) := dk_42 (dk_at dksL_law_92 2 rfl rfl)
theorem dL_law_2300 : decode cL_law 2300 = .ok (.iload 4, 2) := dk_21 4 (dk_at dksL_law_92 3 rfl rfl)
theorem dL_law_2302 : decode cL_law 2302 = .ok (.iconst 2, 1) := dk_5 (dk_at dksL_law_92 5 rfl rfl)
theorem dL_law_2303 : decode cL_law 2303 = .ok (.iadd, 1) := dk_96 (dk_at dksL_law_92 6 rfl rfl)
theorem dL_law_2304 : decode cL_law 2304 = .ok (.iaload, 1) := dk_46 (dk_at dksL_law_92 7 rfl rfl)
theorem dL_law_2305 : decode cL_law 2305 = .ok (.ifCond .eq 7, 3) := dk_153 0 7 (dk_at dksL_law_92 8 rfl rfl)
theorem dL_law_2308 : decode cL_law 2308 = .ok (.iconst 1, 1) := dk_4 (dk_at dksL_law_92 11 rfl rfl)
theorem dL_law_2309 : decode cL_law 2309 = .ok (.goto 4, 3) := dk_167 0 4 (dk_at dksL_law_92 12 rfl rfl)
theorem dL_law_2312 : decode cL_law 2312 = .ok (.iconst 0, 1) := dk_3 (dk_at dksL_law_92 15 rfl rfl)
theorem dL_law_2313 : decode cL_law 2313 = .ok (.invokevirtual 251, 3) := dk_182 0 251 (dk_at dksL_law_92 16 rfl rfl)
theorem dL_law_2316 : decode cL_law 2316 = .ok (.istore 6, 2) := dk_54 6 (dk_at dksL_law_92 19 rfl rfl)
theorem dL_law_2318 : decode cL_law 2318 = .ok (.aload_n 2, 1) := dk_44 (dk_at dksL_law_92 21 rfl rfl)
theorem dL_law_2319 : decode cL_law 2319 = .ok (.invokevirtual 148, 3) := dk_182 0 148 (dk_at dksL_law_93 0 rfl rfl)
theorem dL_law_2322 : decode cL_law 2322 = .ok (.iload 5, 2) := dk_21 5 (dk_at dksL_law_93 3 rfl rfl)
theorem dL_law_2324 : decode cL_law 2324 = .ok (.if_icmp .eq 5, 3) := dk_159 0 5 (dk_at dksL_law_93 5 rfl rfl)
theorem dL_law_2327 : decode cL_law 2327 = .ok (.iconst 0, 1) := dk_3 (dk_at dksL_law_93 8 rfl rfl)
theorem dL_law_2328 : decode cL_law 2328 = .ok (.ireturn, 1) := dk_172 (dk_at dksL_law_93 9 rfl rfl)
theorem dL_law_2329 : decode cL_law 2329 = .ok (.iload 5, 2) := dk_21 5 (dk_at dksL_law_93 10 rfl rfl)
theorem dL_law_2331 : decode cL_law 2331 = .ok (.ifCond .ne 15, 3) := dk_154 0 15 (dk_at dksL_law_93 12 rfl rfl)
theorem dL_law_2334 : decode cL_law 2334 = .ok (.aload_n 3, 1) := dk_45 (dk_at dksL_law_93 15 rfl rfl)
theorem dL_law_2335 : decode cL_law 2335 = .ok (.iconst 0, 1) := dk_3 (dk_at dksL_law_93 16 rfl rfl)
theorem dL_law_2336 : decode cL_law 2336 = .ok (.laload, 1) := dk_47 (dk_at dksL_law_93 17 rfl rfl)
theorem dL_law_2337 : decode cL_law 2337 = .ok (.iload 6, 2) := dk_21 6 (dk_at dksL_law_93 18 rfl rfl)
theorem dL_law_2339 : decode cL_law 2339 = .ok (.i2l, 1) := dk_133 (dk_at dksL_law_93 20 rfl rfl)
theorem dL_law_2340 : decode cL_law 2340 = .ok (.lcmp, 1) := dk_148 (dk_at dksL_law_93 21 rfl rfl)
theorem dL_law_2341 : decode cL_law 2341 = .ok (.ifCond .eq 5, 3) := dk_153 0 5 (dk_at dksL_law_94 0 rfl rfl)
theorem dL_law_2344 : decode cL_law 2344 = .ok (.iconst 0, 1) := dk_3 (dk_at dksL_law_94 3 rfl rfl)
theorem dL_law_2345 : decode cL_law 2345 = .ok (.ireturn, 1) := dk_172 (dk_at dksL_law_94 4 rfl rfl)
theorem dL_law_2346 : decode cL_law 2346 = .ok (.goto 499, 3) := dk_167 1 243 (dk_at dksL_law_94 5 rfl rfl)
theorem dL_law_2349 : decode cL_law 2349 = .ok (.aload_n 1, 1) := dk_43 (dk_at dksL_law_94 8 rfl rfl)
theorem dL_law_2350 : decode cL_law 2350 = .ok (.invokevirtual 252, 3) := dk_182 0 252 (dk_at dksL_law_94 9 rfl rfl)
theorem dL_law_2353 : decode cL_law 2353 = .ok (.aload_n 2, 1) := dk_44 (dk_at dksL_law_94 12 rfl rfl)
theorem dL_law_2354 : decode cL_law 2354 = .ok (.invokevirtual 255, 3) := dk_182 0 255 (dk_at dksL_law_94 13 rfl rfl)
theorem dL_law_2357 : decode cL_law 2357 = .ok (.if_icmp .eq 488, 3) := dk_159 1 232 (dk_at dksL_law_94 16 rfl rfl)
theorem dL_law_2360 : decode cL_law 2360 = .ok (.iconst 0, 1) := dk_3 (dk_at dksL_law_94 19 rfl rfl)
theorem dL_law_2361 : decode cL_law 2361 = .ok (.ireturn, 1) := dk_172 (dk_at dksL_law_94 20 rfl rfl)
theorem dL_law_2362 : decode cL_law 2362 = .ok (.aload_n 1, 1) := dk_43 (dk_at dksL_law_94 21 rfl rfl)
theorem dL_law_2363 : decode cL_law 2363 = .ok (.aload_n 0, 1) := dk_42 (dk_at dksL_law_94 22 rfl rfl)
theorem dL_law_2364 : decode cL_law 2364 = .ok (.iload 4, 2) := dk_21 4 (dk_at dksL_law_95 0 rfl rfl)
theorem dL_law_2366 : decode cL_law 2366 = .ok (.iconst 1, 1) := dk_4 (dk_at dksL_law_95 2 rfl rfl)
theorem dL_law_2367 : decode cL_law 2367 = .ok (.iadd, 1) := dk_96 (dk_at dksL_law_95 3 rfl rfl)
theorem dL_law_2368 : decode cL_law 2368 = .ok (.iaload, 1) := dk_46 (dk_at dksL_law_95 4 rfl rfl)
theorem dL_law_2369 : decode cL_law 2369 = .ok (.aload_n 3, 1) := dk_45 (dk_at dksL_law_95 5 rfl rfl)
theorem dL_law_2370 : decode cL_law 2370 = .ok (.invokestatic 256, 3) := dk_184 1 0 (dk_at dksL_law_95 6 rfl rfl)
theorem dL_law_2373 : decode cL_law 2373 = .ok (.istore 5, 2) := dk_54 5 (dk_at dksL_law_95 9 rfl rfl)
theorem dL_law_2375 : decode cL_law 2375 = .ok (.aload_n 2, 1) := dk_44 (dk_at dksL_law_95 11 rfl rfl)
theorem dL_law_2376 : decode cL_law 2376 = .ok (.aload_n 0, 1) := dk_42 (dk_at dksL_law_95 12 rfl rfl)
theorem dL_law_2377 : decode cL_law 2377 = .ok (.iload 4, 2) := dk_21 4 (dk_at dksL_law_95 13 rfl rfl)
theorem dL_law_2379 : decode cL_law 2379 = .ok (.iconst 1, 1) := dk_4 (dk_at dksL_law_95 15 rfl rfl)
theorem dL_law_2380 : decode cL_law 2380 = .ok (.iadd, 1) := dk_96 (dk_at dksL_law_95 16 rfl rfl)
theorem dL_law_2381 : decode cL_law 2381 = .ok (.iaload, 1) := dk_46 (dk_at dksL_law_95 17 rfl rfl)
theorem dL_law_2382 : decode cL_law 2382 = .ok (.invokevirtual 258, 3) := dk_182 1 2 (dk_at dksL_law_95 18 rfl rfl)
theorem dL_law_2385 : decode cL_law 2385 = .ok (.istore 6, 2) := dk_54 6 (dk_at dksL_law_95 21 rfl rfl)
theorem dL_law_2387 : decode cL_law 2387 = .ok (.aload_n 2, 1) := dk_44 (dk_at dksL_law_95 23 rfl rfl)
theorem dL_law_2388 : decode cL_law 2388 = .ok (.invokevirtual 148, 3) := dk_182 0 148 (dk_at dksL_law_96 0 rfl rfl)
theorem dL_law_2391 : decode cL_law 2391 = .ok (.iload 5, 2) := dk_21 5 (dk_at dksL_law_96 3 rfl rfl)
theorem dL_law_2393 : decode cL_law 2393 = .ok (.if_icmp .eq 5, 3) := dk_159 0 5 (dk_at dksL_law_96 5 rfl rfl)
theorem dL_law_2396 : decode cL_law 2396 = .ok (.iconst 0, 1) := dk_3 (dk_at dksL_law_96 8 rfl rfl)
theorem dL_law_2397 : decode cL_law 2397 = .ok (.ireturn, 1) := dk_172 (dk_at dksL_law_96 9 rfl rfl)
theorem dL_law_2398 : decode cL_law 2398 = .ok (.iload 5, 2) := dk_21 5 (dk_at dksL_law_96 10 rfl rfl)
theorem dL_law_2400 : decode cL_law 2400 = .ok (.ifCond .ne 15, 3) := dk_154 0 15 (dk_at dksL_law_96 12 rfl rfl)
theorem dL_law_2403 : decode cL_law 2403 = .ok (.aload_n 3, 1) := dk_45 (dk_at dksL_law_96 15 rfl rfl)
theorem dL_law_2404 : decode cL_law 2404 = .ok (.iconst 0, 1) := dk_3 (dk_at dksL_law_96 16 rfl rfl)
theorem dL_law_2405 : decode cL_law 2405 = .ok (.laload, 1) := dk_47 (dk_at dksL_law_96 17 rfl rfl)
theorem dL_law_2406 : decode cL_law 2406 = .ok (.iload 6, 2) := dk_21 6 (dk_at dksL_law_96 18 rfl rfl)
theorem dL_law_2408 : decode cL_law 2408 = .ok (.i2l, 1) := dk_133 (dk_at dksL_law_96 20 rfl rfl)
theorem dL_law_2409 : decode cL_law 2409 = .ok (.lcmp, 1) := dk_148 (dk_at dksL_law_96 21 rfl rfl)
theorem dL_law_2410 : decode cL_law 2410 = .ok (.ifCond .eq 5, 3) := dk_153 0 5 (dk_at dksL_law_97 0 rfl rfl)
theorem dL_law_2413 : decode cL_law 2413 = .ok (.iconst 0, 1) := dk_3 (dk_at dksL_law_97 3 rfl rfl)
theorem dL_law_2414 : decode cL_law 2414 = .ok (.ireturn, 1) := dk_172 (dk_at dksL_law_97 4 rfl rfl)
theorem dL_law_2415 : decode cL_law 2415 = .ok (.goto 430, 3) := dk_167 1 174 (dk_at dksL_law_97 5 rfl rfl)
theorem dL_law_2418 : decode cL_law 2418 = .ok (.aload_n 1, 1) := dk_43 (dk_at dksL_law_97 8 rfl rfl)
theorem dL_law_2419 : decode cL_law 2419 = .ok (.aload_n 0, 1) := dk_42 (dk_at dksL_law_97 9 rfl rfl)
theorem dL_law_2420 : decode cL_law 2420 = .ok (.iload 4, 2) := dk_21 4 (dk_at dksL_law_97 10 rfl rfl)
theorem dL_law_2422 : decode cL_law 2422 = .ok (.iconst 1, 1) := dk_4 (dk_at dksL_law_97 12 rfl rfl)
theorem dL_law_2423 : decode cL_law 2423 = .ok (.iadd, 1) := dk_96 (dk_at dksL_law_97 13 rfl rfl)
theorem dL_law_2424 : decode cL_law 2424 = .ok (.iaload, 1) := dk_46 (dk_at dksL_law_97 14 rfl rfl)
theorem dL_law_2425 : decode cL_law 2425 = .ok (.aload_n 0, 1) := dk_42 (dk_at dksL_law_97 15 rfl rfl)
theorem dL_law_2426 : decode cL_law 2426 = .ok (.iload 4, 2) := dk_21 4 (dk_at dksL_law_97 16 rfl rfl)
theorem dL_law_2428 : decode cL_law 2428 = .ok (.iconst 2, 1) := dk_5 (dk_at dksL_law_97 18 rfl rfl)
theorem dL_law_2429 : decode cL_law 2429 = .ok (.iadd, 1) := dk_96 (dk_at dksL_law_97 19 rfl rfl)
theorem dL_law_2430 : decode cL_law 2430 = .ok (.iaload, 1) := dk_46 (dk_at dksL_law_97 20 rfl rfl)
theorem dL_law_2431 : decode cL_law 2431 = .ok (.aload_n 0, 1) := dk_42 (dk_at dksL_law_97 21 rfl rfl)
theorem dL_law_2432 : decode cL_law 2432 = .ok (.iload 4, 2) := dk_21 4 (dk_at dksL_law_97 22 rfl rfl)
theorem dL_law_2434 : decode cL_law 2434 = .ok (.iconst 3, 1) := dk_6 (dk_at dksL_law_98 0 rfl rfl)
theorem dL_law_2435 : decode cL_law 2435 = .ok (.iadd, 1) := dk_96 (dk_at dksL_law_98 1 rfl rfl)
theorem dL_law_2436 : decode cL_law 2436 = .ok (.iaload, 1) := dk_46 (dk_at dksL_law_98 2 rfl rfl)
theorem dL_law_2437 : decode cL_law 2437 = .ok (.aload_n 3, 1) := dk_45 (dk_at dksL_law_98 3 rfl rfl)
theorem dL_law_2438 : decode cL_law 2438 = .ok (.invokestatic 259, 3) := dk_184 1 3 (dk_at dksL_law_98 4 rfl rfl)
theorem dL_law_2441 : decode cL_law 2441 = .ok (.istore 5, 2) := dk_54 5 (dk_at dksL_law_98 7 rfl rfl)
theorem dL_law_2443 : decode cL_law 2443 = .ok (.aload_n 2, 1) := dk_44 (dk_at dksL_law_98 9 rfl rfl)
theorem dL_law_2444 : decode cL_law 2444 = .ok (.aload_n 0, 1) := dk_42 (dk_at dksL_law_98 10 rfl rfl)
theorem dL_law_2445 : decode cL_law 2445 = .ok (.iload 4, 2) := dk_21 4 (dk_at dksL_law_98 11 rfl rfl)
theorem dL_law_2447 : decode cL_law 2447 = .ok (.iconst 1, 1) := dk_4 (dk_at dksL_law_98 13 rfl rfl)
theorem dL_law_2448 : decode cL_law 2448 = .ok (.iadd, 1) := dk_96 (dk_at dksL_law_98 14 rfl rfl)
theorem dL_law_2449 : decode cL_law 2449 = .ok (.iaload, 1) := dk_46 (dk_at dksL_law_98 15 rfl rfl)
theorem dL_law_2450 : decode cL_law 2450 = .ok (.aload_n 0, 1) := dk_42 (dk_at dksL_law_98 16 rfl rfl)
theorem dL_law_2451 : decode cL_law 2451 = .ok (.iload 4, 2) := dk_21 4 (dk_at dksL_law_98 17 rfl rfl)
theorem dL_law_2453 : decode cL_law 2453 = .ok (.iconst 2, 1) := dk_5 (dk_at dksL_law_98 19 rfl rfl)
theorem dL_law_2454 : decode cL_law 2454 = .ok (.iadd, 1) := dk_96 (dk_at dksL_law_98 20 rfl rfl)
theorem dL_law_2455 : decode cL_law 2455 = .ok (.iaload, 1) := dk_46 (dk_at dksL_law_98 21 rfl rfl)
theorem dL_law_2456 : decode cL_law 2456 = .ok (.aload_n 0, 1) := dk_42 (dk_at dksL_law_98 22 rfl rfl)
theorem dL_law_2457 : decode cL_law 2457 = .ok (.iload 4, 2) := dk_21 4 (dk_at dksL_law_99 0 rfl rfl)
theorem dL_law_2459 : decode cL_law 2459 = .ok (.iconst 3, 1) := dk_6 (dk_at dksL_law_99 2 rfl rfl)
theorem dL_law_2460 : decode cL_law 2460 = .ok (.iadd, 1) := dk_96 (dk_at dksL_law_99 3 rfl rfl)
theorem dL_law_2461 : decode cL_law 2461 = .ok (.iaload, 1) := dk_46 (dk_at dksL_law_99 4 rfl rfl)
theorem dL_law_2462 : decode cL_law 2462 = .ok (.invokevirtual 261, 3) := dk_182 1 5 (dk_at dksL_law_99 5 rfl rfl)
theorem dL_law_2465 : decode cL_law 2465 = .ok (.istore 6, 2) := dk_54 6 (dk_at dksL_law_99 8 rfl rfl)
theorem dL_law_2467 : decode cL_law 2467 = .ok (.aload_n 2, 1) := dk_44 (dk_at dksL_law_99 10 rfl rfl)
theorem dL_law_2468 : decode cL_law 2468 = .ok (.invokevirtual 148, 3) := dk_182 0 148 (dk_at dksL_law_99 11 rfl rfl)
theorem dL_law_2471 : decode cL_law 2471 = .ok (.iload 5, 2) := dk_21 5 (dk_at dksL_law_99 14 rfl rfl)
theorem dL_law_2473 : decode cL_law 2473 = .ok (.if_icmp .eq 5, 3) := dk_159 0 5 (dk_at dksL_law_99 16 rfl rfl)
theorem dL_law_2476 : decode cL_law 2476 = .ok (.iconst 0, 1) := dk_3 (dk_at dksL_law_99 19 rfl rfl)
theorem dL_law_2477 : decode cL_law 2477 = .ok (.ireturn, 1) := dk_172 (dk_at dksL_law_99 20 rfl rfl)
theorem dL_law_2478 : decode cL_law 2478 = .ok (.iload 5, 2) := dk_21 5 (dk_at dksL_law_99 21 rfl rfl)
theorem dL_law_2480 : decode cL_law 2480 = .ok (.ifCond .ne 15, 3) := dk_154 0 15 (dk_at dksL_law_100 0 rfl rfl)
theorem dL_law_2483 : decode cL_law 2483 = .ok (.aload_n 3, 1) := dk_45 (dk_at dksL_law_100 3 rfl rfl)
theorem dL_law_2484 : decode cL_law 2484 = .ok (.iconst 0, 1) := dk_3 (dk_at dksL_law_100 4 rfl rfl)
theorem dL_law_2485 : decode cL_law 2485 = .ok (.laload, 1) := dk_47 (dk_at dksL_law_100 5 rfl rfl)
theorem dL_law_2486 : decode cL_law 2486 = .ok (.iload 6, 2) := dk_21 6 (dk_at dksL_law_100 6 rfl rfl)
theorem dL_law_2488 : decode cL_law 2488 = .ok (.i2l, 1) := dk_133 (dk_at dksL_law_100 8 rfl rfl)
theorem dL_law_2489 : decode cL_law 2489 = .ok (.lcmp, 1) := dk_148 (dk_at dksL_law_100 9 rfl rfl)
theorem dL_law_2490 : decode cL_law 2490 = .ok (.ifCond .eq 5, 3) := dk_153 0 5 (dk_at dksL_law_100 10 rfl rfl)
theorem dL_law_2493 : decode cL_law 2493 = .ok (.iconst 0, 1) := dk_3 (dk_at dksL_law_100 13 rfl rfl)
theorem dL_law_2494 : decode cL_law 2494 = .ok (.ireturn, 1) := dk_172 (dk_at dksL_law_100 14 rfl rfl)
theorem dL_law_2495 : decode cL_law 2495 = .ok (.goto 350, 3) := dk_167 1 94 (dk_at dksL_law_100 15 rfl rfl)
theorem dL_law_2498 : decode cL_law 2498 = .ok (.aload_n 1, 1) := dk_43 (dk_at dksL_law_100 18 rfl rfl)
theorem dL_law_2499 : decode cL_law 2499 = .ok (.aload_n 0, 1) := dk_42 (dk_at dksL_law_100 19 rfl rfl)
theorem dL_law_2500 : decode cL_law 2500 = .ok (.iload 4, 2) := dk_21 4 (dk_at dksL_law_100 20 rfl rfl)
theorem dL_law_2502 : decode cL_law 2502 = .ok (.iconst 1, 1) := dk_4 (dk_at dksL_law_100 22 rfl rfl)
theorem dL_law_2503 : decode cL_law 2503 = .ok (.iadd, 1) := dk_96 (dk_at dksL_law_100 23 rfl rfl)
theorem dL_law_2504 : decode cL_law 2504 = .ok (.iaload, 1) := dk_46 (dk_at dksL_law_101 0 rfl rfl)
theorem dL_law_2505 : decode cL_law 2505 = .ok (.aload_n 0, 1) := dk_42 (dk_at dksL_law_101 1 rfl rfl)
theorem dL_law_2506 : decode cL_law 2506 = .ok (.iload 4, 2) := dk_21 4 (dk_at dksL_law_101 2 rfl rfl)
theorem dL_law_2508 : decode cL_law 2508 = .ok (.iconst 2, 1) := dk_5 (dk_at dksL_law_101 4 rfl rfl)
theorem dL_law_2509 : decode cL_law 2509 = .ok (.iadd, 1) := dk_96 (dk_at dksL_law_101 5 rfl rfl)
theorem dL_law_2510 : decode cL_law 2510 = .ok (.iaload, 1) := dk_46 (dk_at dksL_law_101 6 rfl rfl)
theorem dL_law_2511 : decode cL_law 2511 = .ok (.aload_n 0, 1) := dk_42 (dk_at dksL_law_101 7 rfl rfl)
theorem dL_law_2512 : decode cL_law 2512 = .ok (.iload 4, 2) := dk_21 4 (dk_at dksL_law_101 8 rfl rfl)
theorem dL_law_2514 : decode cL_law 2514 = .ok (.iconst 3, 1) := dk_6 (dk_at dksL_law_101 10 rfl rfl)
theorem dL_law_2515 : decode cL_law 2515 = .ok (.iadd, 1) := dk_96 (dk_at dksL_law_101 11 rfl rfl)
theorem dL_law_2516 : decode cL_law 2516 = .ok (.iaload, 1) := dk_46 (dk_at dksL_law_101 12 rfl rfl)
theorem dL_law_2517 : decode cL_law 2517 = .ok (.aload_n 0, 1) := dk_42 (dk_at dksL_law_101 13 rfl rfl)
theorem dL_law_2518 : decode cL_law 2518 = .ok (.iload 4, 2) := dk_21 4 (dk_at dksL_law_101 14 rfl rfl)
theorem dL_law_2520 : decode cL_law 2520 = .ok (.iconst 4, 1) := dk_7 (dk_at dksL_law_101 16 rfl rfl)
theorem dL_law_2521 : decode cL_law 2521 = .ok (.iadd, 1) := dk_96 (dk_at dksL_law_101 17 rfl rfl)
theorem dL_law_2522 : decode cL_law 2522 = .ok (.iaload, 1) := dk_46 (dk_at dksL_law_101 18 rfl rfl)
theorem dL_law_2523 : decode cL_law 2523 = .ok (.ifCond .eq 7, 3) := dk_153 0 7 (dk_at dksL_law_101 19 rfl rfl)
theorem dL_law_2526 : decode cL_law 2526 = .ok (.iconst 1, 1) := dk_4 (dk_at dksL_law_101 22 rfl rfl)
theorem dL_law_2527 : decode cL_law 2527 = .ok (.goto 4, 3) := dk_167 0 4 (dk_at dksL_law_102 0 rfl rfl)
theorem dL_law_2530 : decode cL_law 2530 = .ok (.iconst 0, 1) := dk_3 (dk_at dksL_law_102 3 rfl rfl)
theorem dL_law_2531 : decode cL_law 2531 = .ok (.aload_n 3, 1) := dk_45 (dk_at dksL_law_102 4 rfl rfl)
theorem dL_law_2532 : decode cL_law 2532 = .ok (.invokestatic 262, 3) := dk_184 1 6 (dk_at dksL_law_102 5 rfl rfl)
theorem dL_law_2535 : decode cL_law 2535 = .ok (.istore 5, 2) := dk_54 5 (dk_at dksL_law_102 8 rfl rfl)
theorem dL_law_2537 : decode cL_law 2537 = .ok (.aload_n 2, 1) := dk_44 (dk_at dksL_law_102 10 rfl rfl)
theorem dL_law_2538 : decode cL_law 2538 = .ok (.aload_n 0, 1) := dk_42 (dk_at dksL_law_102 11 rfl rfl)
theorem dL_law_2539 : decode cL_law 2539 = .ok (.iload 4, 2) := dk_21 4 (dk_at dksL_law_102 12 rfl rfl)
theorem dL_law_2541 : decode cL_law 2541 = .ok (.iconst 1, 1) := dk_4 (dk_at dksL_law_102 14 rfl rfl)
theorem dL_law_2542 : decode cL_law 2542 = .ok (.iadd, 1) := dk_96 (dk_at dksL_law_102 15 rfl rfl)
theorem dL_law_2543 : decode cL_law 2543 = .ok (.iaload, 1) := dk_46 (dk_at dksL_law_102 16 rfl rfl)
theorem dL_law_2544 : decode cL_law 2544 = .ok (.aload_n 0, 1) := dk_42 (dk_at dksL_law_102 17 rfl rfl)
theorem dL_law_2545 : decode cL_law 2545 = .ok (.iload 4, 2) := dk_21 4 (dk_at dksL_law_102 18 rfl rfl)
theorem dL_law_2547 : decode cL_law 2547 = .ok (.iconst 2, 1) := dk_5 (dk_at dksL_law_102 20 rfl rfl)
theorem dL_law_2548 : decode cL_law 2548 = .ok (.iadd, 1) := dk_96 (dk_at dksL_law_102 21 rfl rfl)
theorem dL_law_2549 : decode cL_law 2549 = .ok (.iaload, 1) := dk_46 (dk_at dksL_law_102 22 rfl rfl)
theorem dL_law_2550 : decode cL_law 2550 = .ok (.aload_n 0, 1) := dk_42 (dk_at dksL_law_102 23 rfl rfl)
theorem dL_law_2551 : decode cL_law 2551 = .ok (.iload 4, 2) := dk_21 4 (dk_at dksL_law_103 0 rfl rfl)
theorem dL_law_2553 : decode cL_law 2553 = .ok (.iconst 3, 1) := dk_6 (dk_at dksL_law_103 2 rfl rfl)
theorem dL_law_2554 : decode cL_law 2554 = .ok (.iadd, 1) := dk_96 (dk_at dksL_law_103 3 rfl rfl)
theorem dL_law_2555 : decode cL_law 2555 = .ok (.iaload, 1) := dk_46 (dk_at dksL_law_103 4 rfl rfl)
theorem dL_law_2556 : decode cL_law 2556 = .ok (.aload_n 0, 1) := dk_42 (dk_at dksL_law_103 5 rfl rfl)
theorem dL_law_2557 : decode cL_law 2557 = .ok (.iload 4, 2) := dk_21 4 (dk_at dksL_law_103 6 rfl rfl)
theorem dL_law_2559 : decode cL_law 2559 = .ok (.iconst 4, 1) := dk_7 (dk_at dksL_law_103 8 rfl rfl)
theorem dL_law_2560 : decode cL_law 2560 = .ok (.iadd, 1) := dk_96 (dk_at dksL_law_103 9 rfl rfl)
theorem dL_law_2561 : decode cL_law 2561 = .ok (.iaload, 1) := dk_46 (dk_at dksL_law_103 10 rfl rfl)
theorem dL_law_2562 : decode cL_law 2562 = .ok (.ifCond .eq 7, 3) := dk_153 0 7 (dk_at dksL_law_103 11 rfl rfl)
theorem dL_law_2565 : decode cL_law 2565 = .ok (.iconst 1, 1) := dk_4 (dk_at dksL_law_103 14 rfl rfl)
theorem dL_law_2566 : decode cL_law 2566 = .ok (.goto 4, 3) := dk_167 0 4 (dk_at dksL_law_103 15 rfl rfl)
theorem dL_law_2569 : decode cL_law 2569 = .ok (.iconst 0, 1) := dk_3 (dk_at dksL_law_103 18 rfl rfl)
theorem dL_law_2570 : decode cL_law 2570 = .ok (.invokevirtual 265, 3) := dk_182 1 9 (dk_at dksL_law_103 19 rfl rfl)
theorem dL_law_2573 : decode cL_law 2573 = .ok (.istore 6, 2) := dk_54 6 (dk_at dksL_law_103 22 rfl rfl)
theorem dL_law_2575 : decode cL_law 2575 = .ok (.aload_n 2, 1) := dk_44 (dk_at dksL_law_104 0 rfl rfl)
theorem dL_law_2576 : decode cL_law 2576 = .ok (.invokevirtual 148, 3) := dk_182 0 148 (dk_at dksL_law_104 1 rfl rfl)
theorem dL_law_2579 : decode cL_law 2579 = .ok (.iload 5, 2) := dk_21 5 (dk_at dksL_law_104 4 rfl rfl)
theorem dL_law_2581 : decode cL_law 2581 = .ok (.if_icmp .eq 5, 3) := dk_159 0 5 (dk_at dksL_law_104 6 rfl rfl)
theorem dL_law_2584 : decode cL_law 2584 = .ok (.iconst 0, 1) := dk_3 (dk_at dksL_law_104 9 rfl rfl)
theorem dL_law_2585 : decode cL_law 2585 = .ok (.ireturn, 1) := dk_172 (dk_at dksL_law_104 10 rfl rfl)
theorem dL_law_2586 : decode cL_law 2586 = .ok (.iload 5, 2) := dk_21 5 (dk_at dksL_law_104 11 rfl rfl)
theorem dL_law_2588 : decode cL_law 2588 = .ok (.ifCond .ne 15, 3) := dk_154 0 15 (dk_at dksL_law_104 13 rfl rfl)
theorem dL_law_2591 : decode cL_law 2591 = .ok (.aload_n 3, 1) := dk_45 (dk_at dksL_law_104 16 rfl rfl)
theorem dL_law_2592 : decode cL_law 2592 = .ok (.iconst 0, 1) := dk_3 (dk_at dksL_law_104 17 rfl rfl)
theorem dL_law_2593 : decode cL_law 2593 = .ok (.laload, 1) := dk_47 (dk_at dksL_law_104 18 rfl rfl)
theorem dL_law_2594 : decode cL_law 2594 = .ok (.iload 6, 2) := dk_21 6 (dk_at dksL_law_104 19 rfl rfl)
theorem dL_law_2596 : decode cL_law 2596 = .ok (.i2l, 1) := dk_133 (dk_at dksL_law_104 21 rfl rfl)
theorem dL_law_2597 : decode cL_law 2597 = .ok (.lcmp, 1) := dk_148 (dk_at dksL_law_104 22 rfl rfl)
theorem dL_law_2598 : decode cL_law 2598 = .ok (.ifCond .eq 5, 3) := dk_153 0 5 (dk_at dksL_law_105 0 rfl rfl)
theorem dL_law_2601 : decode cL_law 2601 = .ok (.iconst 0, 1) := dk_3 (dk_at dksL_law_105 3 rfl rfl)
theorem dL_law_2602 : decode cL_law 2602 = .ok (.ireturn, 1) := dk_172 (dk_at dksL_law_105 4 rfl rfl)
theorem dL_law_2603 : decode cL_law 2603 = .ok (.goto 242, 3) := dk_167 0 242 (dk_at dksL_law_105 5 rfl rfl)
theorem dL_law_2606 : decode cL_law 2606 = .ok (.aload_n 1, 1) := dk_43 (dk_at dksL_law_105 8 rfl rfl)
theorem dL_law_2607 : decode cL_law 2607 = .ok (.aload_n 0, 1) := dk_42 (dk_at dksL_law_105 9 rfl rfl)
theorem dL_law_2608 : decode cL_law 2608 = .ok (.iload 4, 2) := dk_21 4 (dk_at dksL_law_105 10 rfl rfl)
theorem dL_law_2610 : decode cL_law 2610 = .ok (.iconst 1, 1) := dk_4 (dk_at dksL_law_105 12 rfl rfl)
theorem dL_law_2611 : decode cL_law 2611 = .ok (.iadd, 1) := dk_96 (dk_at dksL_law_105 13 rfl rfl)
theorem dL_law_2612 : decode cL_law 2612 = .ok (.iaload, 1) := dk_46 (dk_at dksL_law_105 14 rfl rfl)
theorem dL_law_2613 : decode cL_law 2613 = .ok (.aload_n 0, 1) := dk_42 (dk_at dksL_law_105 15 rfl rfl)
theorem dL_law_2614 : decode cL_law 2614 = .ok (.iload 4, 2) := dk_21 4 (dk_at dksL_law_105 16 rfl rfl)
theorem dL_law_2616 : decode cL_law 2616 = .ok (.iconst 2, 1) := dk_5 (dk_at dksL_law_105 18 rfl rfl)
theorem dL_law_2617 : decode cL_law 2617 = .ok (.iadd, 1) := dk_96 (dk_at dksL_law_105 19 rfl rfl)
theorem dL_law_2618 : decode cL_law 2618 = .ok (.iaload, 1) := dk_46 (dk_at dksL_law_105 20 rfl rfl)
theorem dL_law_2619 : decode cL_law 2619 = .ok (.ifCond .eq 7, 3) := dk_153 0 7 (dk_at dksL_law_105 21 rfl rfl)
theorem dL_law_2622 : decode cL_law 2622 = .ok (.iconst 1, 1) := dk_4 (dk_at dksL_law_106 0 rfl rfl)
theorem dL_law_2623 : decode cL_law 2623 = .ok (.goto 4, 3) := dk_167 0 4 (dk_at dksL_law_106 1 rfl rfl)
theorem dL_law_2626 : decode cL_law 2626 = .ok (.iconst 0, 1) := dk_3 (dk_at dksL_law_106 4 rfl rfl)
theorem dL_law_2627 : decode cL_law 2627 = .ok (.aload_n 3, 1) := dk_45 (dk_at dksL_law_106 5 rfl rfl)
theorem dL_law_2628 : decode cL_law 2628 = .ok (.invokestatic 266, 3) := dk_184 1 10 (dk_at dksL_law_106 6 rfl rfl)
theorem dL_law_2631 : decode cL_law 2631 = .ok (.istore 5, 2) := dk_54 5 (dk_at dksL_law_106 9 rfl rfl)
theorem dL_law_2633 : decode cL_law 2633 = .ok (.aload_n 2, 1) := dk_44 (dk_at dksL_law_106 11 rfl rfl)
theorem dL_law_2634 : decode cL_law 2634 = .ok (.aload_n 0, 1) := dk_42 (dk_at dksL_law_106 12 rfl rfl)
theorem dL_law_2635 : decode cL_law 2635 = .ok (.iload 4, 2) := dk_21 4 (dk_at dksL_law_106 13 rfl rfl)
theorem dL_law_2637 : decode cL_law 2637 = .ok (.iconst 1, 1) := dk_4 (dk_at dksL_law_106 15 rfl rfl)
theorem dL_law_2638 : decode cL_law 2638 = .ok (.iadd, 1) := dk_96 (dk_at dksL_law_106 16 rfl rfl)
theorem dL_law_2639 : decode cL_law 2639 = .ok (.iaload, 1) := dk_46 (dk_at dksL_law_106 17 rfl rfl)
theorem dL_law_2640 : decode cL_law 2640 = .ok (.aload_n 0, 1) := dk_42 (dk_at dksL_law_106 18 rfl rfl)
theorem dL_law_2641 : decode cL_law 2641 = .ok (.iload 4, 2) := dk_21 4 (dk_at dksL_law_106 19 rfl rfl)
theorem dL_law_2643 : decode cL_law 2643 = .ok (.iconst 2, 1) := dk_5 (dk_at dksL_law_106 21 rfl rfl)
theorem dL_law_2644 : decode cL_law 2644 = .ok (.iadd, 1) := dk_96 (dk_at dksL_law_106 22 rfl rfl)
theorem dL_law_2645 : decode cL_law 2645 = .ok (.iaload, 1) := dk_46 (dk_at dksL_law_106 23 rfl rfl)
theorem dL_law_2646 : decode cL_law 2646 = .ok (.ifCond .eq 7, 3) := dk_153 0 7 (dk_at dksL_law_107 0 rfl rfl)
theorem dL_law_2649 : decode cL_law 2649 = .ok (.iconst 1, 1) := dk_4 (dk_at dksL_law_107 3 rfl rfl)
theorem dL_law_2650 : decode cL_law 2650 = .ok (.goto 4, 3) := dk_167 0 4 (dk_at dksL_law_107 4 rfl rfl)
theorem dL_law_2653 : decode cL_law 2653 = .ok (.iconst 0, 1) := dk_3 (dk_at dksL_law_107 7 rfl rfl)
theorem dL_law_2654 : decode cL_law 2654 = .ok (.invokevirtual 268, 3) := dk_182 1 12 (dk_at dksL_law_107 8 rfl rfl)
theorem dL_law_2657 : decode cL_law 2657 = .ok (.istore 6, 2) := dk_54 6 (dk_at dksL_law_107 11 rfl rfl)
theorem dL_law_2659 : decode cL_law 2659 = .ok (.aload_n 2, 1) := dk_44 (dk_at dksL_law_107 13 rfl rfl)
theorem dL_law_2660 : decode cL_law 2660 = .ok (.invokevirtual 148, 3) := dk_182 0 148 (dk_at dksL_law_107 14 rfl rfl)
theorem dL_law_2663 : decode cL_law 2663 = .ok (.iload 5, 2) := dk_21 5 (dk_at dksL_law_107 17 rfl rfl)
theorem dL_law_2665 : decode cL_law 2665 = .ok (.if_icmp .eq 5, 3) := dk_159 0 5 (dk_at dksL_law_107 19 rfl rfl)
theorem dL_law_2668 : decode cL_law 2668 = .ok (.iconst 0, 1) := dk_3 (dk_at dksL_law_107 22 rfl rfl)
theorem dL_law_2669 : decode cL_law 2669 = .ok (.ireturn, 1) := dk_172 (dk_at dksL_law_107 23 rfl rfl)
theorem dL_law_2670 : decode cL_law 2670 = .ok (.iload 5, 2) := dk_21 5 (dk_at dksL_law_108 0 rfl rfl)
theorem dL_law_2672 : decode cL_law 2672 = .ok (.ifCond .ne 15, 3) := dk_154 0 15 (dk_at dksL_law_108 2 rfl rfl)
theorem dL_law_2675 : decode cL_law 2675 = .ok (.aload_n 3, 1) := dk_45 (dk_at dksL_law_108 5 rfl rfl)
theorem dL_law_2676 : decode cL_law 2676 = .ok (.iconst 0, 1) := dk_3 (dk_at dksL_law_108 6 rfl rfl)
theorem dL_law_2677 : decode cL_law 2677 = .ok (.laload, 1) := dk_47 (dk_at dksL_law_108 7 rfl rfl)
theorem dL_law_2678 : decode cL_law 2678 = .ok (.iload 6, 2) := dk_21 6 (dk_at dksL_law_108 8 rfl rfl)
theorem dL_law_2680 : decode cL_law 2680 = .ok (.i2l, 1) := dk_133 (dk_at dksL_law_108 10 rfl rfl)
theorem dL_law_2681 : decode cL_law 2681 = .ok (.lcmp, 1) := dk_148 (dk_at dksL_law_108 11 rfl rfl)
theorem dL_law_2682 : decode cL_law 2682 = .ok (.ifCond .eq 5, 3) := dk_153 0 5 (dk_at dksL_law_108 12 rfl rfl)
theorem dL_law_2685 : decode cL_law 2685 = .ok (.iconst 0, 1) := dk_3 (dk_at dksL_law_108 15 rfl rfl)
theorem dL_law_2686 : decode cL_law 2686 = .ok (.ireturn, 1) := dk_172 (dk_at dksL_law_108 16 rfl rfl)
theorem dL_law_2687 : decode cL_law 2687 = .ok (.goto 158, 3) := dk_167 0 158 (dk_at dksL_law_108 17 rfl rfl)
theorem dL_law_2690 : decode cL_law 2690 = .ok (.aload_n 1, 1) := dk_43 (dk_at dksL_law_108 20 rfl rfl)
theorem dL_law_2691 : decode cL_law 2691 = .ok (.aload_n 0, 1) := dk_42 (dk_at dksL_law_108 21 rfl rfl)
theorem dL_law_2692 : decode cL_law 2692 = .ok (.iload 4, 2) := dk_21 4 (dk_at dksL_law_108 22 rfl rfl)
theorem dL_law_2694 : decode cL_law 2694 = .ok (.iconst 1, 1) := dk_4 (dk_at dksL_law_109 0 rfl rfl)
theorem dL_law_2695 : decode cL_law 2695 = .ok (.iadd, 1) := dk_96 (dk_at dksL_law_109 1 rfl rfl)
theorem dL_law_2696 : decode cL_law 2696 = .ok (.iaload, 1) := dk_46 (dk_at dksL_law_109 2 rfl rfl)
theorem dL_law_2697 : decode cL_law 2697 = .ok (.aload_n 0, 1) := dk_42 (dk_at dksL_law_109 3 rfl rfl)
theorem dL_law_2698 : decode cL_law 2698 = .ok (.iload 4, 2) := dk_21 4 (dk_at dksL_law_109 4 rfl rfl)
theorem dL_law_2700 : decode cL_law 2700 = .ok (.iconst 2, 1) := dk_5 (dk_at dksL_law_109 6 rfl rfl)
theorem dL_law_2701 : decode cL_law 2701 = .ok (.iadd, 1) := dk_96 (dk_at dksL_law_109 7 rfl rfl)
theorem dL_law_2702 : decode cL_law 2702 = .ok (.iaload, 1) := dk_46 (dk_at dksL_law_109 8 rfl rfl)
theorem dL_law_2703 : decode cL_law 2703 = .ok (.aload_n 3, 1) := dk_45 (dk_at dksL_law_109 9 rfl rfl)
theorem dL_law_2704 : decode cL_law 2704 = .ok (.invokestatic 269, 3) := dk_184 1 13 (dk_at dksL_law_109 10 rfl rfl)
theorem dL_law_2707 : decode cL_law 2707 = .ok (.istore 5, 2) := dk_54 5 (dk_at dksL_law_109 13 rfl rfl)
theorem dL_law_2709 : decode cL_law 2709 = .ok (.aload_n 2, 1) := dk_44 (dk_at dksL_law_109 15 rfl rfl)
theorem dL_law_2710 : decode cL_law 2710 = .ok (.aload_n 0, 1) := dk_42 (dk_at dksL_law_109 16 rfl rfl)
theorem dL_law_2711 : decode cL_law 2711 = .ok (.iload 4, 2) := dk_21 4 (dk_at dksL_law_109 17 rfl rfl)
theorem dL_law_2713 : decode cL_law 2713 = .ok (.iconst 1, 1) := dk_4 (dk_at dksL_law_109 19 rfl rfl)
theorem dL_law_2714 : decode cL_law 2714 = .ok (.iadd, 1) := dk_96 (dk_at dksL_law_109 20 rfl rfl)
theorem dL_law_2715 : decode cL_law 2715 = .ok (.iaload, 1) := dk_46 (dk_at dksL_law_109 21 rfl rfl)
theorem dL_law_2716 : decode cL_law 2716 = .ok (.aload_n 0, 1) := dk_42 (dk_at dksL_law_109 22 rfl rfl)
theorem dL_law_2717 : decode cL_law 2717 = .ok (.iload 4, 2) := dk_21 4 (dk_at dksL_law_110 0 rfl rfl)
theorem dL_law_2719 : decode cL_law 2719 = .ok (.iconst 2, 1) := dk_5 (dk_at dksL_law_110 2 rfl rfl)
theorem dL_law_2720 : decode cL_law 2720 = .ok (.iadd, 1) := dk_96 (dk_at dksL_law_110 3 rfl rfl)
theorem dL_law_2721 : decode cL_law 2721 = .ok (.iaload, 1) := dk_46 (dk_at dksL_law_110 4 rfl rfl)
theorem dL_law_2722 : decode cL_law 2722 = .ok (.invokevirtual 271, 3) := dk_182 1 15 (dk_at dksL_law_110 5 rfl rfl)
theorem dL_law_2725 : decode cL_law 2725 = .ok (.istore 6, 2) := dk_54 6 (dk_at dksL_law_110 8 rfl rfl)
theorem dL_law_2727 : decode cL_law 2727 = .ok (.aload_n 2, 1) := dk_44 (dk_at dksL_law_110 10 rfl rfl)
theorem dL_law_2728 : decode cL_law 2728 = .ok (.invokevirtual 148, 3) := dk_182 0 148 (dk_at dksL_law_110 11 rfl rfl)
theorem dL_law_2731 : decode cL_law 2731 = .ok (.iload 5, 2) := dk_21 5 (dk_at dksL_law_110 14 rfl rfl)
theorem dL_law_2733 : decode cL_law 2733 = .ok (.if_icmp .eq 5, 3) := dk_159 0 5 (dk_at dksL_law_110 16 rfl rfl)
theorem dL_law_2736 : decode cL_law 2736 = .ok (.iconst 0, 1) := dk_3 (dk_at dksL_law_110 19 rfl rfl)
theorem dL_law_2737 : decode cL_law 2737 = .ok (.ireturn, 1) := dk_172 (dk_at dksL_law_110 20 rfl rfl)
theorem dL_law_2738 : decode cL_law 2738 = .ok (.iload 5, 2) := dk_21 5 (dk_at dksL_law_110 21 rfl rfl)
theorem dL_law_2740 : decode cL_law 2740 = .ok (.ifCond .ne 15, 3) := dk_154 0 15 (dk_at dksL_law_111 0 rfl rfl)
theorem dL_law_2743 : decode cL_law 2743 = .ok (.aload_n 3, 1) := dk_45 (dk_at dksL_law_111 3 rfl rfl)
theorem dL_law_2744 : decode cL_law 2744 = .ok (.iconst 0, 1) := dk_3 (dk_at dksL_law_111 4 rfl rfl)
theorem dL_law_2745 : decode cL_law 2745 = .ok (.laload, 1) := dk_47 (dk_at dksL_law_111 5 rfl rfl)
theorem dL_law_2746 : decode cL_law 2746 = .ok (.iload 6, 2) := dk_21 6 (dk_at dksL_law_111 6 rfl rfl)
theorem dL_law_2748 : decode cL_law 2748 = .ok (.i2l, 1) := dk_133 (dk_at dksL_law_111 8 rfl rfl)
theorem dL_law_2749 : decode cL_law 2749 = .ok (.lcmp, 1) := dk_148 (dk_at dksL_law_111 9 rfl rfl)
theorem dL_law_2750 : decode cL_law 2750 = .ok (.ifCond .eq 5, 3) := dk_153 0 5 (dk_at dksL_law_111 10 rfl rfl)
theorem dL_law_2753 : decode cL_law 2753 = .ok (.iconst 0, 1) := dk_3 (dk_at dksL_law_111 13 rfl rfl)
theorem dL_law_2754 : decode cL_law 2754 = .ok (.ireturn, 1) := dk_172 (dk_at dksL_law_111 14 rfl rfl)
theorem dL_law_2755 : decode cL_law 2755 = .ok (.goto 90, 3) := dk_167 0 90 (dk_at dksL_law_111 15 rfl rfl)
theorem dL_law_2758 : decode cL_law 2758 = .ok (.aload_n 1, 1) := dk_43 (dk_at dksL_law_111 18 rfl rfl)
theorem dL_law_2759 : decode cL_law 2759 = .ok (.aload_n 0, 1) := dk_42 (dk_at dksL_law_111 19 rfl rfl)
theorem dL_law_2760 : decode cL_law 2760 = .ok (.iload 4, 2) := dk_21 4 (dk_at dksL_law_111 20 rfl rfl)
theorem dL_law_2762 : decode cL_law 2762 = .ok (.iconst 1, 1) := dk_4 (dk_at dksL_law_111 22 rfl rfl)
theorem dL_law_2763 : decode cL_law 2763 = .ok (.iadd, 1) := dk_96 (dk_at dksL_law_111 23 rfl rfl)
theorem dL_law_2764 : decode cL_law 2764 = .ok (.iaload, 1) := dk_46 (dk_at dksL_law_112 0 rfl rfl)
theorem dL_law_2765 : decode cL_law 2765 = .ok (.invokevirtual 272, 3) := dk_182 1 16 (dk_at dksL_law_112 1 rfl rfl)
theorem dL_law_2768 : decode cL_law 2768 = .ok (.aload_n 2, 1) := dk_44 (dk_at dksL_law_112 4 rfl rfl)
theorem dL_law_2769 : decode cL_law 2769 = .ok (.aload_n 0, 1) := dk_42 (dk_at dksL_law_112 5 rfl rfl)
theorem dL_law_2770 : decode cL_law 2770 = .ok (.iload 4, 2) := dk_21 4 (dk_at dksL_law_112 6 rfl rfl)
theorem dL_law_2772 : decode cL_law 2772 = .ok (.iconst 1, 1) := dk_4 (dk_at dksL_law_112 8 rfl rfl)
theorem dL_law_2773 : decode cL_law 2773 = .ok (.iadd, 1) := dk_96 (dk_at dksL_law_112 9 rfl rfl)
theorem dL_law_2774 : decode cL_law 2774 = .ok (.iaload, 1) := dk_46 (dk_at dksL_law_112 10 rfl rfl)
theorem dL_law_2775 : decode cL_law 2775 = .ok (.invokevirtual 275, 3) := dk_182 1 19 (dk_at dksL_law_112 11 rfl rfl)
theorem dL_law_2778 : decode cL_law 2778 = .ok (.if_icmp .eq 67, 3) := dk_159 0 67 (dk_at dksL_law_112 14 rfl rfl)
theorem dL_law_2781 : decode cL_law 2781 = .ok (.iconst 0, 1) := dk_3 (dk_at dksL_law_112 17 rfl rfl)
theorem dL_law_2782 : decode cL_law 2782 = .ok (.ireturn, 1) := dk_172 (dk_at dksL_law_112 18 rfl rfl)
theorem dL_law_2783 : decode cL_law 2783 = .ok (.aload_n 1, 1) := dk_43 (dk_at dksL_law_112 19 rfl rfl)
theorem dL_law_2784 : decode cL_law 2784 = .ok (.invokevirtual 276, 3) := dk_182 1 20 (dk_at dksL_law_112 20 rfl rfl)
theorem dL_law_2787 : decode cL_law 2787 = .ok (.aload_n 2, 1) := dk_44 (dk_at dksL_law_112 23 rfl rfl)
theorem dL_law_2788 : decode cL_law 2788 = .ok (.invokevirtual 280, 3) := dk_182 1 24 (dk_at dksL_law_113 0 rfl rfl)
theorem dL_law_2791 : decode cL_law 2791 = .ok (.if_icmp .eq 54, 3) := dk_159 0 54 (dk_at dksL_law_113 3 rfl rfl)
theorem dL_law_2794 : decode cL_law 2794 = .ok (.iconst 0, 1) := dk_3 (dk_at dksL_law_113 6 rfl rfl)
theorem dL_law_2795 : decode cL_law 2795 = .ok (.ireturn, 1) := dk_172 (dk_at dksL_law_113 7 rfl rfl)
theorem dL_law_2796 : decode cL_law 2796 = .ok (.aload_n 1, 1) := dk_43 (dk_at dksL_law_113 8 rfl rfl)
theorem dL_law_2797 : decode cL_law 2797 = .ok (.invokevirtual 281, 3) := dk_182 1 25 (dk_at dksL_law_113 9 rfl rfl)
theorem dL_law_2800 : decode cL_law 2800 = .ok (.aload_n 2, 1) := dk_44 (dk_at dksL_law_113 12 rfl rfl)
theorem dL_law_2801 : decode cL_law 2801 = .ok (.invokevirtual 284, 3) := dk_182 1 28 (dk_at dksL_law_113 13 rfl rfl)
theorem dL_law_2804 : decode cL_law 2804 = .ok (.goto 41, 3) := dk_167 0 41 (dk_at dksL_law_113 16 rfl rfl)
theorem dL_law_2807 : decode cL_law 2807 = .ok (.aload_n 1, 1) := dk_43 (dk_at dksL_law_113 19 rfl rfl)
theorem dL_law_2808 : decode cL_law 2808 = .ok (.invokevirtual 285, 3) := dk_182 1 29 (dk_at dksL_law_113 20 rfl rfl)
theorem dL_law_2811 : decode cL_law 2811 = .ok (.aload_n 2, 1) := dk_44 (dk_at dksL_law_113 23 rfl rfl)
theorem dL_law_2812 : decode cL_law 2812 = .ok (.invokevirtual 288, 3) := dk_182 1 32 (dk_at dksL_law_114 0 rfl rfl)
theorem dL_law_2815 : decode cL_law 2815 = .ok (.if_icmp .eq 30, 3) := dk_159 0 30 (dk_at dksL_law_114 3 rfl rfl)
theorem dL_law_2818 : decode cL_law 2818 = .ok (.iconst 0, 1) := dk_3 (dk_at dksL_law_114 6 rfl rfl)
theorem dL_law_2819 : decode cL_law 2819 = .ok (.ireturn, 1) := dk_172 (dk_at dksL_law_114 7 rfl rfl)
theorem dL_law_2820 : decode cL_law 2820 = .ok (.aload_n 1, 1) := dk_43 (dk_at dksL_law_114 8 rfl rfl)
theorem dL_law_2821 : decode cL_law 2821 = .ok (.aload_n 0, 1) := dk_42 (dk_at dksL_law_114 9 rfl rfl)
theorem dL_law_2822 : decode cL_law 2822 = .ok (.iload 4, 2) := dk_21 4 (dk_at dksL_law_114 10 rfl rfl)
theorem dL_law_2824 : decode cL_law 2824 = .ok (.iconst 1, 1) := dk_4 (dk_at dksL_law_114 12 rfl rfl)
theorem dL_law_2825 : decode cL_law 2825 = .ok (.iadd, 1) := dk_96 (dk_at dksL_law_114 13 rfl rfl)
theorem dL_law_2826 : decode cL_law 2826 = .ok (.iaload, 1) := dk_46 (dk_at dksL_law_114 14 rfl rfl)
theorem dL_law_2827 : decode cL_law 2827 = .ok (.invokevirtual 289, 3) := dk_182 1 33 (dk_at dksL_law_114 15 rfl rfl)
theorem dL_law_2830 : decode cL_law 2830 = .ok (.aload_n 2, 1) := dk_44 (dk_at dksL_law_114 18 rfl rfl)
theorem dL_law_2831 : decode cL_law 2831 = .ok (.aload_n 0, 1) := dk_42 (dk_at dksL_law_114 19 rfl rfl)
theorem dL_law_2832 : decode cL_law 2832 = .ok (.iload 4, 2) := dk_21 4 (dk_at dksL_law_114 20 rfl rfl)
theorem dL_law_2834 : decode cL_law 2834 = .ok (.iconst 1, 1) := dk_4 (dk_at dksL_law_114 22 rfl rfl)
theorem dL_law_2835 : decode cL_law 2835 = .ok (.iadd, 1) := dk_96 (dk_at dksL_law_114 23 rfl rfl)
theorem dL_law_2836 : decode cL_law 2836 = .ok (.iaload, 1) := dk_46 (dk_at dksL_law_115 0 rfl rfl)
theorem dL_law_2837 : decode cL_law 2837 = .ok (.invokevirtual 292, 3) := dk_182 1 36 (dk_at dksL_law_115 1 rfl rfl)
theorem dL_law_2840 : decode cL_law 2840 = .ok (.if_icmp .eq 5, 3) := dk_159 0 5 (dk_at dksL_law_115 4 rfl rfl)
theorem dL_law_2843 : decode cL_law 2843 = .ok (.iconst 0, 1) := dk_3 (dk_at dksL_law_115 7 rfl rfl)
theorem dL_law_2844 : decode cL_law 2844 = .ok (.ireturn, 1) := dk_172 (dk_at dksL_law_115 8 rfl rfl)
theorem dL_law_2845 : decode cL_law 2845 = .ok (.iinc 4 6, 3) := dk_132 4 6 (dk_at dksL_law_115 9 rfl rfl)
theorem dL_law_2848 : decode cL_law 2848 = .ok (.goto (-2825), 3) := dk_167 244 247 (dk_at dksL_law_115 12 rfl rfl)
theorem dL_law_2851 : decode cL_law 2851 = .ok (.iconst 1, 1) := dk_4 (dk_at dksL_law_115 15 rfl rfl)
theorem dL_law_2852 : decode cL_law 2852 = .ok (.ireturn, 1) := dk_172 (dk_at dksL_law_115 16 rfl rfl)
