/-! TheatreSagaLaw -/
set_option maxRecDepth 100000
def RX0 : String := "TheatreSagaLaw"
abbrev cX0_tour : ByteArray := method_3_code
def yX0_tour : MethodName := ⟨RX0, "tour", "(LTheatreSaga;I[J)I"⟩
def mX0_tour : MI := (⟨"TheatreSagaLaw", "tour", "(LTheatreSaga;I[J)I"⟩, method_3_code, 4, (Option.some FieldType.int), some [(0, 9, 12, 13), (0, 9, 15, 15)], 38, 21)
theorem oX0_tour : mO mX0_tour = 38 := rfl
theorem lX0_tour : mL mX0_tour = 4 := rfl
theorem rX0_tour : mR mX0_tour = (Option.some FieldType.int) := rfl
theorem vX0_tour : mV mX0_tour = 21 := rfl
theorem nX0_tour : (mY mX0_tour).name = "tour" := rfl
theorem hX0_tour : mH mX0_tour = some [(0, 9, 12, 13), (0, 9, 15, 15)] := rfl
theorem kX0_tour : MOk mX0_tour := ⟨q1221, q74, by decide +kernel⟩
theorem gX0_tour : plainName (mY mX0_tour).cls = true ∧ (mY mX0_tour).cls = "TheatreSagaLaw" := ⟨by decide +kernel, rfl⟩
def dkwX0_tour_0 : List UInt8 := [44, 3, 42, 27, 182, 0, 7, 133, 80, 167, 0, 9, 78, 4, 172, 78, 5, 172, 3, 172]
abbrev dktX0_tour_0 : List UInt8 := dkwX0_tour_0 ++ []
theorem dksX0_tour_0 : cX0_tour.data.toList.drop 0 = dktX0_tour_0 := by decide +kernel
theorem dX0_tour_0 : DC mX0_tour 0 = .ok (.aload_n 2, 1) := dk_44 (dk_at dksX0_tour_0 0 rfl rfl)
theorem dX0_tour_1 : DC mX0_tour 1 = .ok (.iconst 0, 1) := dk_3 (dk_at dksX0_tour_0 1 rfl rfl)
theorem dX0_tour_2 : DC mX0_tour 2 = .ok (.aload_n 0, 1) := dk_42 (dk_at dksX0_tour_0 2 rfl rfl)
theorem dX0_tour_3 : DC mX0_tour 3 = .ok (.iload_n 1, 1) := dk_27 (dk_at dksX0_tour_0 3 rfl rfl)
theorem dX0_tour_4 : DC mX0_tour 4 = .ok (.invokevirtual 7, 3) := dk_182 0 7 (dk_at dksX0_tour_0 4 rfl rfl)
theorem dX0_tour_7 : DC mX0_tour 7 = .ok (.i2l, 1) := dk_133 (dk_at dksX0_tour_0 7 rfl rfl)
theorem dX0_tour_8 : DC mX0_tour 8 = .ok (.lastore, 1) := dk_80 (dk_at dksX0_tour_0 8 rfl rfl)
theorem dX0_tour_9 : DC mX0_tour 9 = .ok (.goto 9, 3) := dk_167 0 9 (dk_at dksX0_tour_0 9 rfl rfl)
theorem dX0_tour_12 : DC mX0_tour 12 = .ok (.astore_n 3, 1) := dk_78 (dk_at dksX0_tour_0 12 rfl rfl)
theorem dX0_tour_13 : DC mX0_tour 13 = .ok (.iconst 1, 1) := dk_4 (dk_at dksX0_tour_0 13 rfl rfl)
theorem dX0_tour_14 : DC mX0_tour 14 = .ok (.ireturn, 1) := dk_172 (dk_at dksX0_tour_0 14 rfl rfl)
theorem dX0_tour_15 : DC mX0_tour 15 = .ok (.astore_n 3, 1) := dk_78 (dk_at dksX0_tour_0 15 rfl rfl)
theorem dX0_tour_16 : DC mX0_tour 16 = .ok (.iconst 2, 1) := dk_5 (dk_at dksX0_tour_0 16 rfl rfl)
theorem dX0_tour_17 : DC mX0_tour 17 = .ok (.ireturn, 1) := dk_172 (dk_at dksX0_tour_0 17 rfl rfl)
theorem dX0_tour_18 : DC mX0_tour 18 = .ok (.iconst 0, 1) := dk_3 (dk_at dksX0_tour_0 18 rfl rfl)
theorem dX0_tour_19 : DC mX0_tour 19 = .ok (.ireturn, 1) := dk_172 (dk_at dksX0_tour_0 19 rfl rfl)
abbrev cX0_step : ByteArray := method_4_code
def yX0_step : MethodName := ⟨RX0, "step", "(LTheatreSaga;IIIII[J)I"⟩
def mX0_step : MI := (⟨"TheatreSagaLaw", "step", "(LTheatreSaga;IIIII[J)I"⟩, method_4_code, 8, (Option.some FieldType.int), some [(0, 16, 19, 21), (0, 16, 23, 13), (0, 16, 27, 15)], 38, 21)
theorem oX0_step : mO mX0_step = 38 := rfl
theorem lX0_step : mL mX0_step = 8 := rfl
theorem rX0_step : mR mX0_step = (Option.some FieldType.int) := rfl
theorem vX0_step : mV mX0_step = 21 := rfl
theorem nX0_step : (mY mX0_step).name = "step" := rfl
theorem hX0_step : mH mX0_step = some [(0, 16, 19, 21), (0, 16, 23, 13), (0, 16, 27, 15)] := rfl
theorem kX0_step : MOk mX0_step := ⟨q1693, q74, by decide +kernel⟩
theorem gX0_step : plainName (mY mX0_step).cls = true ∧ (mY mX0_step).cls = "TheatreSagaLaw" := ⟨by decide +kernel, rfl⟩
def dkwX0_step_1 : List UInt8 := [58, 7, 5, 172, 58, 7, 6, 172, 3, 172]
abbrev dktX0_step_1 : List UInt8 := dkwX0_step_1 ++ []
def dkwX0_step_0 : List UInt8 := [25, 6, 3, 42, 27, 28, 29, 21, 4, 21, 5, 182, 0, 17, 133, 80, 167, 0, 15, 58, 7, 4, 172]
abbrev dktX0_step_0 : List UInt8 := dkwX0_step_0 ++ dktX0_step_1
theorem dksX0_step_0 : cX0_step.data.toList.drop 0 = dktX0_step_0 := by decide +kernel
theorem dksX0_step_1 : cX0_step.data.toList.drop 23 = dktX0_step_1 := dk_seg dksX0_step_0 23 rfl rfl
theorem dX0_step_0 : DC mX0_step 0 = .ok (.aload 6, 2) := dk_25 6 (dk_at dksX0_step_0 0 rfl rfl)
theorem dX0_step_2 : DC mX0_step 2 = .ok (.iconst 0, 1) := dk_3 (dk_at dksX0_step_0 2 rfl rfl)
theorem dX0_step_3 : DC mX0_step 3 = .ok (.aload_n 0, 1) := dk_42 (dk_at dksX0_step_0 3 rfl rfl)
theorem dX0_step_4 : DC mX0_step 4 = .ok (.iload_n 1, 1) := dk_27 (dk_at dksX0_step_0 4 rfl rfl)
theorem dX0_step_5 : DC mX0_step 5 = .ok (.iload_n 2, 1) := dk_28 (dk_at dksX0_step_0 5 rfl rfl)
theorem dX0_step_6 : DC mX0_step 6 = .ok (.iload_n 3, 1) := dk_29 (dk_at dksX0_step_0 6 rfl rfl)
theorem dX0_step_7 : DC mX0_step 7 = .ok (.iload 4, 2) := dk_21 4 (dk_at dksX0_step_0 7 rfl rfl)
theorem dX0_step_9 : DC mX0_step 9 = .ok (.iload 5, 2) := dk_21 5 (dk_at dksX0_step_0 9 rfl rfl)
theorem dX0_step_11 : DC mX0_step 11 = .ok (.invokevirtual 17, 3) := dk_182 0 17 (dk_at dksX0_step_0 11 rfl rfl)
theorem dX0_step_14 : DC mX0_step 14 = .ok (.i2l, 1) := dk_133 (dk_at dksX0_step_0 14 rfl rfl)
theorem dX0_step_15 : DC mX0_step 15 = .ok (.lastore, 1) := dk_80 (dk_at dksX0_step_0 15 rfl rfl)
theorem dX0_step_16 : DC mX0_step 16 = .ok (.goto 15, 3) := dk_167 0 15 (dk_at dksX0_step_0 16 rfl rfl)
theorem dX0_step_19 : DC mX0_step 19 = .ok (.astore 7, 2) := dk_58 7 (dk_at dksX0_step_0 19 rfl rfl)
theorem dX0_step_21 : DC mX0_step 21 = .ok (.iconst 1, 1) := dk_4 (dk_at dksX0_step_0 21 rfl rfl)
theorem dX0_step_22 : DC mX0_step 22 = .ok (.ireturn, 1) := dk_172 (dk_at dksX0_step_0 22 rfl rfl)
theorem dX0_step_23 : DC mX0_step 23 = .ok (.astore 7, 2) := dk_58 7 (dk_at dksX0_step_1 0 rfl rfl)
theorem dX0_step_25 : DC mX0_step 25 = .ok (.iconst 2, 1) := dk_5 (dk_at dksX0_step_1 2 rfl rfl)
theorem dX0_step_26 : DC mX0_step 26 = .ok (.ireturn, 1) := dk_172 (dk_at dksX0_step_1 3 rfl rfl)
theorem dX0_step_27 : DC mX0_step 27 = .ok (.astore 7, 2) := dk_58 7 (dk_at dksX0_step_1 4 rfl rfl)
theorem dX0_step_29 : DC mX0_step 29 = .ok (.iconst 3, 1) := dk_6 (dk_at dksX0_step_1 6 rfl rfl)
theorem dX0_step_30 : DC mX0_step 30 = .ok (.ireturn, 1) := dk_172 (dk_at dksX0_step_1 7 rfl rfl)
theorem dX0_step_31 : DC mX0_step 31 = .ok (.iconst 0, 1) := dk_3 (dk_at dksX0_step_1 8 rfl rfl)
theorem dX0_step_32 : DC mX0_step 32 = .ok (.ireturn, 1) := dk_172 (dk_at dksX0_step_1 9 rfl rfl)
abbrev cX0_start : ByteArray := method_5_code
def yX0_start : MethodName := ⟨RX0, "start", "(LTheatreSaga;I[J)I"⟩
def mX0_start : MI := (⟨"TheatreSagaLaw", "start", "(LTheatreSaga;I[J)I"⟩, method_5_code, 4, (Option.some FieldType.int), some [(0, 9, 12, 21), (0, 9, 15, 15)], 38, 21)
theorem oX0_start : mO mX0_start = 38 := rfl
theorem lX0_start : mL mX0_start = 4 := rfl
theorem rX0_start : mR mX0_start = (Option.some FieldType.int) := rfl
theorem vX0_start : mV mX0_start = 21 := rfl
theorem nX0_start : (mY mX0_start).name = "start" := rfl
theorem hX0_start : mH mX0_start = some [(0, 9, 12, 21), (0, 9, 15, 15)] := rfl
theorem kX0_start : MOk mX0_start := ⟨q1717, q74, by decide +kernel⟩
theorem gX0_start : plainName (mY mX0_start).cls = true ∧ (mY mX0_start).cls = "TheatreSagaLaw" := ⟨by decide +kernel, rfl⟩
def dkwX0_start_0 : List UInt8 := [44, 3, 42, 27, 182, 0, 23, 133, 80, 167, 0, 9, 78, 4, 172, 78, 5, 172, 3, 172]
abbrev dktX0_start_0 : List UInt8 := dkwX0_start_0 ++ []
theorem dksX0_start_0 : cX0_start.data.toList.drop 0 = dktX0_start_0 := by decide +kernel
theorem dX0_start_0 : DC mX0_start 0 = .ok (.aload_n 2, 1) := dk_44 (dk_at dksX0_start_0 0 rfl rfl)
theorem dX0_start_1 : DC mX0_start 1 = .ok (.iconst 0, 1) := dk_3 (dk_at dksX0_start_0 1 rfl rfl)
theorem dX0_start_2 : DC mX0_start 2 = .ok (.aload_n 0, 1) := dk_42 (dk_at dksX0_start_0 2 rfl rfl)
theorem dX0_start_3 : DC mX0_start 3 = .ok (.iload_n 1, 1) := dk_27 (dk_at dksX0_start_0 3 rfl rfl)
theorem dX0_start_4 : DC mX0_start 4 = .ok (.invokevirtual 23, 3) := dk_182 0 23 (dk_at dksX0_start_0 4 rfl rfl)
theorem dX0_start_7 : DC mX0_start 7 = .ok (.i2l, 1) := dk_133 (dk_at dksX0_start_0 7 rfl rfl)
theorem dX0_start_8 : DC mX0_start 8 = .ok (.lastore, 1) := dk_80 (dk_at dksX0_start_0 8 rfl rfl)
theorem dX0_start_9 : DC mX0_start 9 = .ok (.goto 9, 3) := dk_167 0 9 (dk_at dksX0_start_0 9 rfl rfl)
theorem dX0_start_12 : DC mX0_start 12 = .ok (.astore_n 3, 1) := dk_78 (dk_at dksX0_start_0 12 rfl rfl)
theorem dX0_start_13 : DC mX0_start 13 = .ok (.iconst 1, 1) := dk_4 (dk_at dksX0_start_0 13 rfl rfl)
theorem dX0_start_14 : DC mX0_start 14 = .ok (.ireturn, 1) := dk_172 (dk_at dksX0_start_0 14 rfl rfl)
theorem dX0_start_15 : DC mX0_start 15 = .ok (.astore_n 3, 1) := dk_78 (dk_at dksX0_start_0 15 rfl rfl)
theorem dX0_start_16 : DC mX0_start 16 = .ok (.iconst 2, 1) := dk_5 (dk_at dksX0_start_0 16 rfl rfl)
theorem dX0_start_17 : DC mX0_start 17 = .ok (.ireturn, 1) := dk_172 (dk_at dksX0_start_0 17 rfl rfl)
theorem dX0_start_18 : DC mX0_start 18 = .ok (.iconst 0, 1) := dk_3 (dk_at dksX0_start_0 18 rfl rfl)
theorem dX0_start_19 : DC mX0_start 19 = .ok (.ireturn, 1) := dk_172 (dk_at dksX0_start_0 19 rfl rfl)
abbrev cX0_back : ByteArray := method_6_code
def yX0_back : MethodName := ⟨RX0, "back", "(LTheatreSaga;I[J)I"⟩
def mX0_back : MI := (⟨"TheatreSagaLaw", "back", "(LTheatreSaga;I[J)I"⟩, method_6_code, 4, (Option.some FieldType.int), some [(0, 9, 12, 21), (0, 9, 15, 15)], 38, 21)
theorem oX0_back : mO mX0_back = 38 := rfl
theorem lX0_back : mL mX0_back = 4 := rfl
theorem rX0_back : mR mX0_back = (Option.some FieldType.int) := rfl
theorem vX0_back : mV mX0_back = 21 := rfl
theorem nX0_back : (mY mX0_back).name = "back" := rfl
theorem hX0_back : mH mX0_back = some [(0, 9, 12, 21), (0, 9, 15, 15)] := rfl
theorem kX0_back : MOk mX0_back := ⟨q1725, q74, by decide +kernel⟩
theorem gX0_back : plainName (mY mX0_back).cls = true ∧ (mY mX0_back).cls = "TheatreSagaLaw" := ⟨by decide +kernel, rfl⟩
def dkwX0_back_0 : List UInt8 := [44, 3, 42, 27, 182, 0, 26, 133, 80, 167, 0, 9, 78, 4, 172, 78, 5, 172, 3, 172]
abbrev dktX0_back_0 : List UInt8 := dkwX0_back_0 ++ []
theorem dksX0_back_0 : cX0_back.data.toList.drop 0 = dktX0_back_0 := by decide +kernel
theorem dX0_back_0 : DC mX0_back 0 = .ok (.aload_n 2, 1) := dk_44 (dk_at dksX0_back_0 0 rfl rfl)
theorem dX0_back_1 : DC mX0_back 1 = .ok (.iconst 0, 1) := dk_3 (dk_at dksX0_back_0 1 rfl rfl)
theorem dX0_back_2 : DC mX0_back 2 = .ok (.aload_n 0, 1) := dk_42 (dk_at dksX0_back_0 2 rfl rfl)
theorem dX0_back_3 : DC mX0_back 3 = .ok (.iload_n 1, 1) := dk_27 (dk_at dksX0_back_0 3 rfl rfl)
theorem dX0_back_4 : DC mX0_back 4 = .ok (.invokevirtual 26, 3) := dk_182 0 26 (dk_at dksX0_back_0 4 rfl rfl)
theorem dX0_back_7 : DC mX0_back 7 = .ok (.i2l, 1) := dk_133 (dk_at dksX0_back_0 7 rfl rfl)
theorem dX0_back_8 : DC mX0_back 8 = .ok (.lastore, 1) := dk_80 (dk_at dksX0_back_0 8 rfl rfl)
theorem dX0_back_9 : DC mX0_back 9 = .ok (.goto 9, 3) := dk_167 0 9 (dk_at dksX0_back_0 9 rfl rfl)
theorem dX0_back_12 : DC mX0_back 12 = .ok (.astore_n 3, 1) := dk_78 (dk_at dksX0_back_0 12 rfl rfl)
theorem dX0_back_13 : DC mX0_back 13 = .ok (.iconst 1, 1) := dk_4 (dk_at dksX0_back_0 13 rfl rfl)
theorem dX0_back_14 : DC mX0_back 14 = .ok (.ireturn, 1) := dk_172 (dk_at dksX0_back_0 14 rfl rfl)
theorem dX0_back_15 : DC mX0_back 15 = .ok (.astore_n 3, 1) := dk_78 (dk_at dksX0_back_0 15 rfl rfl)
theorem dX0_back_16 : DC mX0_back 16 = .ok (.iconst 2, 1) := dk_5 (dk_at dksX0_back_0 16 rfl rfl)
theorem dX0_back_17 : DC mX0_back 17 = .ok (.ireturn, 1) := dk_172 (dk_at dksX0_back_0 17 rfl rfl)
theorem dX0_back_18 : DC mX0_back 18 = .ok (.iconst 0, 1) := dk_3 (dk_at dksX0_back_0 18 rfl rfl)
theorem dX0_back_19 : DC mX0_back 19 = .ok (.ireturn, 1) := dk_172 (dk_at dksX0_back_0 19 rfl rfl)
abbrev cX0_tourOf : ByteArray := method_7_code
def yX0_tourOf : MethodName := ⟨RX0, "tourOf", "(LTheatreSaga;II[J)I"⟩
def mX0_tourOf : MI := (⟨"TheatreSagaLaw", "tourOf", "(LTheatreSaga;II[J)I"⟩, method_7_code, 5, (Option.some FieldType.int), some [(0, 10, 13, 21), (0, 10, 17, 13)], 38, 12)
theorem oX0_tourOf : mO mX0_tourOf = 38 := rfl
theorem lX0_tourOf : mL mX0_tourOf = 5 := rfl
theorem rX0_tourOf : mR mX0_tourOf = (Option.some FieldType.int) := rfl
theorem vX0_tourOf : mV mX0_tourOf = 12 := rfl
theorem nX0_tourOf : (mY mX0_tourOf).name = "tourOf" := rfl
theorem hX0_tourOf : mH mX0_tourOf = some [(0, 10, 13, 21), (0, 10, 17, 13)] := rfl
theorem kX0_tourOf : MOk mX0_tourOf := ⟨q1733, q74, by decide +kernel⟩
theorem gX0_tourOf : plainName (mY mX0_tourOf).cls = true ∧ (mY mX0_tourOf).cls = "TheatreSagaLaw" := ⟨by decide +kernel, rfl⟩
def dkwX0_tourOf_0 : List UInt8 := [45, 3, 42, 27, 28, 182, 0, 29, 133, 80, 167, 0, 11, 58, 4, 4, 172, 58, 4, 5, 172, 3, 172]
abbrev dktX0_tourOf_0 : List UInt8 := dkwX0_tourOf_0 ++ []
theorem dksX0_tourOf_0 : cX0_tourOf.data.toList.drop 0 = dktX0_tourOf_0 := by decide +kernel
theorem dX0_tourOf_0 : DC mX0_tourOf 0 = .ok (.aload_n 3, 1) := dk_45 (dk_at dksX0_tourOf_0 0 rfl rfl)
theorem dX0_tourOf_1 : DC mX0_tourOf 1 = .ok (.iconst 0, 1) := dk_3 (dk_at dksX0_tourOf_0 1 rfl rfl)
theorem dX0_tourOf_2 : DC mX0_tourOf 2 = .ok (.aload_n 0, 1) := dk_42 (dk_at dksX0_tourOf_0 2 rfl rfl)
theorem dX0_tourOf_3 : DC mX0_tourOf 3 = .ok (.iload_n 1, 1) := dk_27 (dk_at dksX0_tourOf_0 3 rfl rfl)
theorem dX0_tourOf_4 : DC mX0_tourOf 4 = .ok (.iload_n 2, 1) := dk_28 (dk_at dksX0_tourOf_0 4 rfl rfl)
theorem dX0_tourOf_5 : DC mX0_tourOf 5 = .ok (.invokevirtual 29, 3) := dk_182 0 29 (dk_at dksX0_tourOf_0 5 rfl rfl)
theorem dX0_tourOf_8 : DC mX0_tourOf 8 = .ok (.i2l, 1) := dk_133 (dk_at dksX0_tourOf_0 8 rfl rfl)
theorem dX0_tourOf_9 : DC mX0_tourOf 9 = .ok (.lastore, 1) := dk_80 (dk_at dksX0_tourOf_0 9 rfl rfl)
theorem dX0_tourOf_10 : DC mX0_tourOf 10 = .ok (.goto 11, 3) := dk_167 0 11 (dk_at dksX0_tourOf_0 10 rfl rfl)
theorem dX0_tourOf_13 : DC mX0_tourOf 13 = .ok (.astore 4, 2) := dk_58 4 (dk_at dksX0_tourOf_0 13 rfl rfl)
theorem dX0_tourOf_15 : DC mX0_tourOf 15 = .ok (.iconst 1, 1) := dk_4 (dk_at dksX0_tourOf_0 15 rfl rfl)
theorem dX0_tourOf_16 : DC mX0_tourOf 16 = .ok (.ireturn, 1) := dk_172 (dk_at dksX0_tourOf_0 16 rfl rfl)
theorem dX0_tourOf_17 : DC mX0_tourOf 17 = .ok (.astore 4, 2) := dk_58 4 (dk_at dksX0_tourOf_0 17 rfl rfl)
theorem dX0_tourOf_19 : DC mX0_tourOf 19 = .ok (.iconst 2, 1) := dk_5 (dk_at dksX0_tourOf_0 19 rfl rfl)
theorem dX0_tourOf_20 : DC mX0_tourOf 20 = .ok (.ireturn, 1) := dk_172 (dk_at dksX0_tourOf_0 20 rfl rfl)
theorem dX0_tourOf_21 : DC mX0_tourOf 21 = .ok (.iconst 0, 1) := dk_3 (dk_at dksX0_tourOf_0 21 rfl rfl)
theorem dX0_tourOf_22 : DC mX0_tourOf 22 = .ok (.ireturn, 1) := dk_172 (dk_at dksX0_tourOf_0 22 rfl rfl)
abbrev cX0_stepOf : ByteArray := method_8_code
def yX0_stepOf : MethodName := ⟨RX0, "stepOf", "(LTheatreSaga;III[J)I"⟩
def mX0_stepOf : MI := (⟨"TheatreSagaLaw", "stepOf", "(LTheatreSaga;III[J)I"⟩, method_8_code, 6, (Option.some FieldType.int), some [(0, 12, 15, 21), (0, 12, 19, 13)], 38, 12)
theorem oX0_stepOf : mO mX0_stepOf = 38 := rfl
theorem lX0_stepOf : mL mX0_stepOf = 6 := rfl
theorem rX0_stepOf : mR mX0_stepOf = (Option.some FieldType.int) := rfl
theorem vX0_stepOf : mV mX0_stepOf = 12 := rfl
theorem nX0_stepOf : (mY mX0_stepOf).name = "stepOf" := rfl
theorem hX0_stepOf : mH mX0_stepOf = some [(0, 12, 15, 21), (0, 12, 19, 13)] := rfl
theorem kX0_stepOf : MOk mX0_stepOf := ⟨q1748, q74, by decide +kernel⟩
theorem gX0_stepOf : plainName (mY mX0_stepOf).cls = true ∧ (mY mX0_stepOf).cls = "TheatreSagaLaw" := ⟨by decide +kernel, rfl⟩
def dkwX0_stepOf_1 : List UInt8 := [172]
abbrev dktX0_stepOf_1 : List UInt8 := dkwX0_stepOf_1 ++ []
def dkwX0_stepOf_0 : List UInt8 := [25, 4, 3, 42, 27, 28, 29, 182, 0, 33, 133, 80, 167, 0, 11, 58, 5, 4, 172, 58, 5, 5, 172, 3]
abbrev dktX0_stepOf_0 : List UInt8 := dkwX0_stepOf_0 ++ dktX0_stepOf_1
theorem dksX0_stepOf_0 : cX0_stepOf.data.toList.drop 0 = dktX0_stepOf_0 := by decide +kernel
theorem dksX0_stepOf_1 : cX0_stepOf.data.toList.drop 24 = dktX0_stepOf_1 := dk_seg dksX0_stepOf_0 24 rfl rfl
theorem dX0_stepOf_0 : DC mX0_stepOf 0 = .ok (.aload 4, 2) := dk_25 4 (dk_at dksX0_stepOf_0 0 rfl rfl)
theorem dX0_stepOf_2 : DC mX0_stepOf 2 = .ok (.iconst 0, 1) := dk_3 (dk_at dksX0_stepOf_0 2 rfl rfl)
theorem dX0_stepOf_3 : DC mX0_stepOf 3 = .ok (.aload_n 0, 1) := dk_42 (dk_at dksX0_stepOf_0 3 rfl rfl)
theorem dX0_stepOf_4 : DC mX0_stepOf 4 = .ok (.iload_n 1, 1) := dk_27 (dk_at dksX0_stepOf_0 4 rfl rfl)
theorem dX0_stepOf_5 : DC mX0_stepOf 5 = .ok (.iload_n 2, 1) := dk_28 (dk_at dksX0_stepOf_0 5 rfl rfl)
theorem dX0_stepOf_6 : DC mX0_stepOf 6 = .ok (.iload_n 3, 1) := dk_29 (dk_at dksX0_stepOf_0 6 rfl rfl)
theorem dX0_stepOf_7 : DC mX0_stepOf 7 = .ok (.invokevirtual 33, 3) := dk_182 0 33 (dk_at dksX0_stepOf_0 7 rfl rfl)
theorem dX0_stepOf_10 : DC mX0_stepOf 10 = .ok (.i2l, 1) := dk_133 (dk_at dksX0_stepOf_0 10 rfl rfl)
theorem dX0_stepOf_11 : DC mX0_stepOf 11 = .ok (.lastore, 1) := dk_80 (dk_at dksX0_stepOf_0 11 rfl rfl)
theorem dX0_stepOf_12 : DC mX0_stepOf 12 = .ok (.goto 11, 3) := dk_167 0 11 (dk_at dksX0_stepOf_0 12 rfl rfl)
theorem dX0_stepOf_15 : DC mX0_stepOf 15 = .ok (.astore 5, 2) := dk_58 5 (dk_at dksX0_stepOf_0 15 rfl rfl)
theorem dX0_stepOf_17 : DC mX0_stepOf 17 = .ok (.iconst 1, 1) := dk_4 (dk_at dksX0_stepOf_0 17 rfl rfl)
theorem dX0_stepOf_18 : DC mX0_stepOf 18 = .ok (.ireturn, 1) := dk_172 (dk_at dksX0_stepOf_0 18 rfl rfl)
theorem dX0_stepOf_19 : DC mX0_stepOf 19 = .ok (.astore 5, 2) := dk_58 5 (dk_at dksX0_stepOf_0 19 rfl rfl)
theorem dX0_stepOf_21 : DC mX0_stepOf 21 = .ok (.iconst 2, 1) := dk_5 (dk_at dksX0_stepOf_0 21 rfl rfl)
theorem dX0_stepOf_22 : DC mX0_stepOf 22 = .ok (.ireturn, 1) := dk_172 (dk_at dksX0_stepOf_0 22 rfl rfl)
theorem dX0_stepOf_23 : DC mX0_stepOf 23 = .ok (.iconst 0, 1) := dk_3 (dk_at dksX0_stepOf_0 23 rfl rfl)
theorem dX0_stepOf_24 : DC mX0_stepOf 24 = .ok (.ireturn, 1) := dk_172 (dk_at dksX0_stepOf_1 0 rfl rfl)
abbrev cX0_shut : ByteArray := method_9_code
def yX0_shut : MethodName := ⟨RX0, "shut", "(LTheatreSaga;IZ[J)I"⟩
def mX0_shut : MI := (⟨"TheatreSagaLaw", "shut", "(LTheatreSaga;IZ[J)I"⟩, method_9_code, 5, (Option.some FieldType.int), some [(0, 10, 13, 21), (0, 10, 17, 15)], 38, 21)
theorem oX0_shut : mO mX0_shut = 38 := rfl
theorem lX0_shut : mL mX0_shut = 5 := rfl
theorem rX0_shut : mR mX0_shut = (Option.some FieldType.int) := rfl
theorem vX0_shut : mV mX0_shut = 21 := rfl
theorem nX0_shut : (mY mX0_shut).name = "shut" := rfl
theorem hX0_shut : mH mX0_shut = some [(0, 10, 13, 21), (0, 10, 17, 15)] := rfl
theorem kX0_shut : MOk mX0_shut := ⟨q1760, q74, by decide +kernel⟩
theorem gX0_shut : plainName (mY mX0_shut).cls = true ∧ (mY mX0_shut).cls = "TheatreSagaLaw" := ⟨by decide +kernel, rfl⟩
def dkwX0_shut_0 : List UInt8 := [45, 3, 42, 27, 28, 182, 0, 37, 133, 80, 167, 0, 11, 58, 4, 4, 172, 58, 4, 5, 172, 3, 172]
abbrev dktX0_shut_0 : List UInt8 := dkwX0_shut_0 ++ []
theorem dksX0_shut_0 : cX0_shut.data.toList.drop 0 = dktX0_shut_0 := by decide +kernel
theorem dX0_shut_0 : DC mX0_shut 0 = .ok (.aload_n 3, 1) := dk_45 (dk_at dksX0_shut_0 0 rfl rfl)
theorem dX0_shut_1 : DC mX0_shut 1 = .ok (.iconst 0, 1) := dk_3 (dk_at dksX0_shut_0 1 rfl rfl)
theorem dX0_shut_2 : DC mX0_shut 2 = .ok (.aload_n 0, 1) := dk_42 (dk_at dksX0_shut_0 2 rfl rfl)
theorem dX0_shut_3 : DC mX0_shut 3 = .ok (.iload_n 1, 1) := dk_27 (dk_at dksX0_shut_0 3 rfl rfl)
theorem dX0_shut_4 : DC mX0_shut 4 = .ok (.iload_n 2, 1) := dk_28 (dk_at dksX0_shut_0 4 rfl rfl)
theorem dX0_shut_5 : DC mX0_shut 5 = .ok (.invokevirtual 37, 3) := dk_182 0 37 (dk_at dksX0_shut_0 5 rfl rfl)
theorem dX0_shut_8 : DC mX0_shut 8 = .ok (.i2l, 1) := dk_133 (dk_at dksX0_shut_0 8 rfl rfl)
theorem dX0_shut_9 : DC mX0_shut 9 = .ok (.lastore, 1) := dk_80 (dk_at dksX0_shut_0 9 rfl rfl)
theorem dX0_shut_10 : DC mX0_shut 10 = .ok (.goto 11, 3) := dk_167 0 11 (dk_at dksX0_shut_0 10 rfl rfl)
theorem dX0_shut_13 : DC mX0_shut 13 = .ok (.astore 4, 2) := dk_58 4 (dk_at dksX0_shut_0 13 rfl rfl)
theorem dX0_shut_15 : DC mX0_shut 15 = .ok (.iconst 1, 1) := dk_4 (dk_at dksX0_shut_0 15 rfl rfl)
theorem dX0_shut_16 : DC mX0_shut 16 = .ok (.ireturn, 1) := dk_172 (dk_at dksX0_shut_0 16 rfl rfl)
theorem dX0_shut_17 : DC mX0_shut 17 = .ok (.astore 4, 2) := dk_58 4 (dk_at dksX0_shut_0 17 rfl rfl)
theorem dX0_shut_19 : DC mX0_shut 19 = .ok (.iconst 2, 1) := dk_5 (dk_at dksX0_shut_0 19 rfl rfl)
theorem dX0_shut_20 : DC mX0_shut 20 = .ok (.ireturn, 1) := dk_172 (dk_at dksX0_shut_0 20 rfl rfl)
theorem dX0_shut_21 : DC mX0_shut 21 = .ok (.iconst 0, 1) := dk_3 (dk_at dksX0_shut_0 21 rfl rfl)
theorem dX0_shut_22 : DC mX0_shut 22 = .ok (.ireturn, 1) := dk_172 (dk_at dksX0_shut_0 22 rfl rfl)
abbrev cX0_dear : ByteArray := method_10_code
def yX0_dear : MethodName := ⟨RX0, "dear", "(LTheatreSaga;II[J)I"⟩
def mX0_dear : MI := (⟨"TheatreSagaLaw", "dear", "(LTheatreSaga;II[J)I"⟩, method_10_code, 5, (Option.some FieldType.int), some [(0, 10, 13, 21), (0, 10, 17, 13)], 38, 21)
theorem oX0_dear : mO mX0_dear = 38 := rfl
theorem lX0_dear : mL mX0_dear = 5 := rfl
theorem rX0_dear : mR mX0_dear = (Option.some FieldType.int) := rfl
theorem vX0_dear : mV mX0_dear = 21 := rfl
theorem nX0_dear : (mY mX0_dear).name = "dear" := rfl
theorem hX0_dear : mH mX0_dear = some [(0, 10, 13, 21), (0, 10, 17, 13)] := rfl
theorem kX0_dear : MOk mX0_dear := ⟨q1769, q74, by decide +kernel⟩
theorem gX0_dear : plainName (mY mX0_dear).cls = true ∧ (mY mX0_dear).cls = "TheatreSagaLaw" := ⟨by decide +kernel, rfl⟩
def dkwX0_dear_0 : List UInt8 := [45, 3, 42, 27, 28, 182, 0, 41, 133, 80, 167, 0, 11, 58, 4, 4, 172, 58, 4, 5, 172, 3, 172]
abbrev dktX0_dear_0 : List UInt8 := dkwX0_dear_0 ++ []
theorem dksX0_dear_0 : cX0_dear.data.toList.drop 0 = dktX0_dear_0 := by decide +kernel
theorem dX0_dear_0 : DC mX0_dear 0 = .ok (.aload_n 3, 1) := dk_45 (dk_at dksX0_dear_0 0 rfl rfl)
theorem dX0_dear_1 : DC mX0_dear 1 = .ok (.iconst 0, 1) := dk_3 (dk_at dksX0_dear_0 1 rfl rfl)
theorem dX0_dear_2 : DC mX0_dear 2 = .ok (.aload_n 0, 1) := dk_42 (dk_at dksX0_dear_0 2 rfl rfl)
theorem dX0_dear_3 : DC mX0_dear 3 = .ok (.iload_n 1, 1) := dk_27 (dk_at dksX0_dear_0 3 rfl rfl)
theorem dX0_dear_4 : DC mX0_dear 4 = .ok (.iload_n 2, 1) := dk_28 (dk_at dksX0_dear_0 4 rfl rfl)
theorem dX0_dear_5 : DC mX0_dear 5 = .ok (.invokevirtual 41, 3) := dk_182 0 41 (dk_at dksX0_dear_0 5 rfl rfl)
theorem dX0_dear_8 : DC mX0_dear 8 = .ok (.i2l, 1) := dk_133 (dk_at dksX0_dear_0 8 rfl rfl)
theorem dX0_dear_9 : DC mX0_dear 9 = .ok (.lastore, 1) := dk_80 (dk_at dksX0_dear_0 9 rfl rfl)
theorem dX0_dear_10 : DC mX0_dear 10 = .ok (.goto 11, 3) := dk_167 0 11 (dk_at dksX0_dear_0 10 rfl rfl)
theorem dX0_dear_13 : DC mX0_dear 13 = .ok (.astore 4, 2) := dk_58 4 (dk_at dksX0_dear_0 13 rfl rfl)
theorem dX0_dear_15 : DC mX0_dear 15 = .ok (.iconst 1, 1) := dk_4 (dk_at dksX0_dear_0 15 rfl rfl)
theorem dX0_dear_16 : DC mX0_dear 16 = .ok (.ireturn, 1) := dk_172 (dk_at dksX0_dear_0 16 rfl rfl)
theorem dX0_dear_17 : DC mX0_dear 17 = .ok (.astore 4, 2) := dk_58 4 (dk_at dksX0_dear_0 17 rfl rfl)
theorem dX0_dear_19 : DC mX0_dear 19 = .ok (.iconst 2, 1) := dk_5 (dk_at dksX0_dear_0 19 rfl rfl)
theorem dX0_dear_20 : DC mX0_dear 20 = .ok (.ireturn, 1) := dk_172 (dk_at dksX0_dear_0 20 rfl rfl)
theorem dX0_dear_21 : DC mX0_dear 21 = .ok (.iconst 0, 1) := dk_3 (dk_at dksX0_dear_0 21 rfl rfl)
theorem dX0_dear_22 : DC mX0_dear 22 = .ok (.ireturn, 1) := dk_172 (dk_at dksX0_dear_0 22 rfl rfl)
abbrev cX0_townOf : ByteArray := method_11_code
def yX0_townOf : MethodName := ⟨RX0, "townOf", "(LTheatreSaga;II[J)I"⟩
def mX0_townOf : MI := (⟨"TheatreSagaLaw", "townOf", "(LTheatreSaga;II[J)I"⟩, method_11_code, 5, (Option.some FieldType.int), some [(0, 10, 13, 21), (0, 10, 17, 13)], 38, 13)
theorem oX0_townOf : mO mX0_townOf = 38 := rfl
theorem lX0_townOf : mL mX0_townOf = 5 := rfl
theorem rX0_townOf : mR mX0_townOf = (Option.some FieldType.int) := rfl
theorem vX0_townOf : mV mX0_townOf = 13 := rfl
theorem nX0_townOf : (mY mX0_townOf).name = "townOf" := rfl
theorem hX0_townOf : mH mX0_townOf = some [(0, 10, 13, 21), (0, 10, 17, 13)] := rfl
theorem kX0_townOf : MOk mX0_townOf := ⟨q1777, q74, by decide +kernel⟩
theorem gX0_townOf : plainName (mY mX0_townOf).cls = true ∧ (mY mX0_townOf).cls = "TheatreSagaLaw" := ⟨by decide +kernel, rfl⟩
def dkwX0_townOf_0 : List UInt8 := [45, 3, 42, 27, 28, 182, 0, 44, 133, 80, 167, 0, 11, 58, 4, 4, 172, 58, 4, 5, 172, 3, 172]
abbrev dktX0_townOf_0 : List UInt8 := dkwX0_townOf_0 ++ []
theorem dksX0_townOf_0 : cX0_townOf.data.toList.drop 0 = dktX0_townOf_0 := by decide +kernel
theorem dX0_townOf_0 : DC mX0_townOf 0 = .ok (.aload_n 3, 1) := dk_45 (dk_at dksX0_townOf_0 0 rfl rfl)
theorem dX0_townOf_1 : DC mX0_townOf 1 = .ok (.iconst 0, 1) := dk_3 (dk_at dksX0_townOf_0 1 rfl rfl)
theorem dX0_townOf_2 : DC mX0_townOf 2 = .ok (.aload_n 0, 1) := dk_42 (dk_at dksX0_townOf_0 2 rfl rfl)
theorem dX0_townOf_3 : DC mX0_townOf 3 = .ok (.iload_n 1, 1) := dk_27 (dk_at dksX0_townOf_0 3 rfl rfl)
theorem dX0_townOf_4 : DC mX0_townOf 4 = .ok (.iload_n 2, 1) := dk_28 (dk_at dksX0_townOf_0 4 rfl rfl)
theorem dX0_townOf_5 : DC mX0_townOf 5 = .ok (.invokevirtual 44, 3) := dk_182 0 44 (dk_at dksX0_townOf_0 5 rfl rfl)
theorem dX0_townOf_8 : DC mX0_townOf 8 = .ok (.i2l, 1) := dk_133 (dk_at dksX0_townOf_0 8 rfl rfl)
theorem dX0_townOf_9 : DC mX0_townOf 9 = .ok (.lastore, 1) := dk_80 (dk_at dksX0_townOf_0 9 rfl rfl)
theorem dX0_townOf_10 : DC mX0_townOf 10 = .ok (.goto 11, 3) := dk_167 0 11 (dk_at dksX0_townOf_0 10 rfl rfl)
theorem dX0_townOf_13 : DC mX0_townOf 13 = .ok (.astore 4, 2) := dk_58 4 (dk_at dksX0_townOf_0 13 rfl rfl)
theorem dX0_townOf_15 : DC mX0_townOf 15 = .ok (.iconst 1, 1) := dk_4 (dk_at dksX0_townOf_0 15 rfl rfl)
theorem dX0_townOf_16 : DC mX0_townOf 16 = .ok (.ireturn, 1) := dk_172 (dk_at dksX0_townOf_0 16 rfl rfl)
theorem dX0_townOf_17 : DC mX0_townOf 17 = .ok (.astore 4, 2) := dk_58 4 (dk_at dksX0_townOf_0 17 rfl rfl)
theorem dX0_townOf_19 : DC mX0_townOf 19 = .ok (.iconst 2, 1) := dk_5 (dk_at dksX0_townOf_0 19 rfl rfl)
theorem dX0_townOf_20 : DC mX0_townOf 20 = .ok (.ireturn, 1) := dk_172 (dk_at dksX0_townOf_0 20 rfl rfl)
theorem dX0_townOf_21 : DC mX0_townOf 21 = .ok (.iconst 0, 1) := dk_3 (dk_at dksX0_townOf_0 21 rfl rfl)
theorem dX0_townOf_22 : DC mX0_townOf 22 = .ok (.ireturn, 1) := dk_172 (dk_at dksX0_townOf_0 22 rfl rfl)
abbrev cX0_pass : ByteArray := method_12_code
def yX0_pass : MethodName := ⟨RX0, "pass", "(LTheatreSaga;I[J)I"⟩
def mX0_pass : MI := (⟨"TheatreSagaLaw", "pass", "(LTheatreSaga;I[J)I"⟩, method_12_code, 4, (Option.some FieldType.int), some [(0, 9, 12, 13)], 38, 21)
theorem oX0_pass : mO mX0_pass = 38 := rfl
theorem lX0_pass : mL mX0_pass = 4 := rfl
theorem rX0_pass : mR mX0_pass = (Option.some FieldType.int) := rfl
theorem vX0_pass : mV mX0_pass = 21 := rfl
theorem nX0_pass : (mY mX0_pass).name = "pass" := rfl
theorem hX0_pass : mH mX0_pass = some [(0, 9, 12, 13)] := rfl
theorem kX0_pass : MOk mX0_pass := ⟨q1797, q74, by decide +kernel⟩
theorem gX0_pass : plainName (mY mX0_pass).cls = true ∧ (mY mX0_pass).cls = "TheatreSagaLaw" := ⟨by decide +kernel, rfl⟩
def dkwX0_pass_0 : List UInt8 := [44, 3, 42, 27, 182, 0, 47, 133, 80, 167, 0, 6, 78, 4, 172, 3, 172]
abbrev dktX0_pass_0 : List UInt8 := dkwX0_pass_0 ++ []
theorem dksX0_pass_0 : cX0_pass.data.toList.drop 0 = dktX0_pass_0 := by decide +kernel
theorem dX0_pass_0 : DC mX0_pass 0 = .ok (.aload_n 2, 1) := dk_44 (dk_at dksX0_pass_0 0 rfl rfl)
theorem dX0_pass_1 : DC mX0_pass 1 = .ok (.iconst 0, 1) := dk_3 (dk_at dksX0_pass_0 1 rfl rfl)
theorem dX0_pass_2 : DC mX0_pass 2 = .ok (.aload_n 0, 1) := dk_42 (dk_at dksX0_pass_0 2 rfl rfl)
theorem dX0_pass_3 : DC mX0_pass 3 = .ok (.iload_n 1, 1) := dk_27 (dk_at dksX0_pass_0 3 rfl rfl)
theorem dX0_pass_4 : DC mX0_pass 4 = .ok (.invokevirtual 47, 3) := dk_182 0 47 (dk_at dksX0_pass_0 4 rfl rfl)
theorem dX0_pass_7 : DC mX0_pass 7 = .ok (.i2l, 1) := dk_133 (dk_at dksX0_pass_0 7 rfl rfl)
theorem dX0_pass_8 : DC mX0_pass 8 = .ok (.lastore, 1) := dk_80 (dk_at dksX0_pass_0 8 rfl rfl)
theorem dX0_pass_9 : DC mX0_pass 9 = .ok (.goto 6, 3) := dk_167 0 6 (dk_at dksX0_pass_0 9 rfl rfl)
theorem dX0_pass_12 : DC mX0_pass 12 = .ok (.astore_n 3, 1) := dk_78 (dk_at dksX0_pass_0 12 rfl rfl)
theorem dX0_pass_13 : DC mX0_pass 13 = .ok (.iconst 1, 1) := dk_4 (dk_at dksX0_pass_0 13 rfl rfl)
theorem dX0_pass_14 : DC mX0_pass 14 = .ok (.ireturn, 1) := dk_172 (dk_at dksX0_pass_0 14 rfl rfl)
theorem dX0_pass_15 : DC mX0_pass 15 = .ok (.iconst 0, 1) := dk_3 (dk_at dksX0_pass_0 15 rfl rfl)
theorem dX0_pass_16 : DC mX0_pass 16 = .ok (.ireturn, 1) := dk_172 (dk_at dksX0_pass_0 16 rfl rfl)
abbrev cX0_left : ByteArray := method_13_code
def yX0_left : MethodName := ⟨RX0, "left", "(LTheatreSaga;III[J)I"⟩
def mX0_left : MI := (⟨"TheatreSagaLaw", "left", "(LTheatreSaga;III[J)I"⟩, method_13_code, 6, (Option.some FieldType.int), some [(0, 12, 15, 21)], 38, 12)
theorem oX0_left : mO mX0_left = 38 := rfl
theorem lX0_left : mL mX0_left = 6 := rfl
theorem rX0_left : mR mX0_left = (Option.some FieldType.int) := rfl
theorem vX0_left : mV mX0_left = 12 := rfl
theorem nX0_left : (mY mX0_left).name = "left" := rfl
theorem hX0_left : mH mX0_left = some [(0, 12, 15, 21)] := rfl
theorem kX0_left : MOk mX0_left := ⟨q1805, q74, by decide +kernel⟩
theorem gX0_left : plainName (mY mX0_left).cls = true ∧ (mY mX0_left).cls = "TheatreSagaLaw" := ⟨by decide +kernel, rfl⟩
def dkwX0_left_0 : List UInt8 := [25, 4, 3, 42, 27, 28, 29, 182, 0, 50, 133, 80, 167, 0, 7, 58, 5, 4, 172, 3, 172]
abbrev dktX0_left_0 : List UInt8 := dkwX0_left_0 ++ []
theorem dksX0_left_0 : cX0_left.data.toList.drop 0 = dktX0_left_0 := by decide +kernel
theorem dX0_left_0 : DC mX0_left 0 = .ok (.aload 4, 2) := dk_25 4 (dk_at dksX0_left_0 0 rfl rfl)
theorem dX0_left_2 : DC mX0_left 2 = .ok (.iconst 0, 1) := dk_3 (dk_at dksX0_left_0 2 rfl rfl)
theorem dX0_left_3 : DC mX0_left 3 = .ok (.aload_n 0, 1) := dk_42 (dk_at dksX0_left_0 3 rfl rfl)
theorem dX0_left_4 : DC mX0_left 4 = .ok (.iload_n 1, 1) := dk_27 (dk_at dksX0_left_0 4 rfl rfl)
theorem dX0_left_5 : DC mX0_left 5 = .ok (.iload_n 2, 1) := dk_28 (dk_at dksX0_left_0 5 rfl rfl)
theorem dX0_left_6 : DC mX0_left 6 = .ok (.iload_n 3, 1) := dk_29 (dk_at dksX0_left_0 6 rfl rfl)
theorem dX0_left_7 : DC mX0_left 7 = .ok (.invokevirtual 50, 3) := dk_182 0 50 (dk_at dksX0_left_0 7 rfl rfl)
theorem dX0_left_10 : DC mX0_left 10 = .ok (.i2l, 1) := dk_133 (dk_at dksX0_left_0 10 rfl rfl)
theorem dX0_left_11 : DC mX0_left 11 = .ok (.lastore, 1) := dk_80 (dk_at dksX0_left_0 11 rfl rfl)
theorem dX0_left_12 : DC mX0_left 12 = .ok (.goto 7, 3) := dk_167 0 7 (dk_at dksX0_left_0 12 rfl rfl)
theorem dX0_left_15 : DC mX0_left 15 = .ok (.astore 5, 2) := dk_58 5 (dk_at dksX0_left_0 15 rfl rfl)
theorem dX0_left_17 : DC mX0_left 17 = .ok (.iconst 1, 1) := dk_4 (dk_at dksX0_left_0 17 rfl rfl)
theorem dX0_left_18 : DC mX0_left 18 = .ok (.ireturn, 1) := dk_172 (dk_at dksX0_left_0 18 rfl rfl)
theorem dX0_left_19 : DC mX0_left 19 = .ok (.iconst 0, 1) := dk_3 (dk_at dksX0_left_0 19 rfl rfl)
theorem dX0_left_20 : DC mX0_left 20 = .ok (.ireturn, 1) := dk_172 (dk_at dksX0_left_0 20 rfl rfl)
abbrev cX0_leftAgain : ByteArray := method_14_code
def yX0_leftAgain : MethodName := ⟨RX0, "leftAgain", "(LTheatreSaga;III[J)I"⟩
def mX0_leftAgain : MI := (⟨"TheatreSagaLaw", "leftAgain", "(LTheatreSaga;III[J)I"⟩, method_14_code, 6, (Option.some FieldType.int), some [(0, 12, 15, 21)], 38, 13)
theorem oX0_leftAgain : mO mX0_leftAgain = 38 := rfl
theorem lX0_leftAgain : mL mX0_leftAgain = 6 := rfl
theorem rX0_leftAgain : mR mX0_leftAgain = (Option.some FieldType.int) := rfl
theorem vX0_leftAgain : mV mX0_leftAgain = 13 := rfl
theorem nX0_leftAgain : (mY mX0_leftAgain).name = "leftAgain" := rfl
theorem hX0_leftAgain : mH mX0_leftAgain = some [(0, 12, 15, 21)] := rfl
theorem kX0_leftAgain : MOk mX0_leftAgain := ⟨q1818, q74, by decide +kernel⟩
theorem gX0_leftAgain : plainName (mY mX0_leftAgain).cls = true ∧ (mY mX0_leftAgain).cls = "TheatreSagaLaw" := ⟨by decide +kernel, rfl⟩
def dkwX0_leftAgain_0 : List UInt8 := [25, 4, 3, 42, 27, 28, 29, 182, 0, 53, 133, 80, 167, 0, 7, 58, 5, 4, 172, 3, 172]
abbrev dktX0_leftAgain_0 : List UInt8 := dkwX0_leftAgain_0 ++ []
theorem dksX0_leftAgain_0 : cX0_leftAgain.data.toList.drop 0 = dktX0_leftAgain_0 := by decide +kernel
theorem dX0_leftAgain_0 : DC mX0_leftAgain 0 = .ok (.aload 4, 2) := dk_25 4 (dk_at dksX0_leftAgain_0 0 rfl rfl)
theorem dX0_leftAgain_2 : DC mX0_leftAgain 2 = .ok (.iconst 0, 1) := dk_3 (dk_at dksX0_leftAgain_0 2 rfl rfl)
theorem dX0_leftAgain_3 : DC mX0_leftAgain 3 = .ok (.aload_n 0, 1) := dk_42 (dk_at dksX0_leftAgain_0 3 rfl rfl)
theorem dX0_leftAgain_4 : DC mX0_leftAgain 4 = .ok (.iload_n 1, 1) := dk_27 (dk_at dksX0_leftAgain_0 4 rfl rfl)
theorem dX0_leftAgain_5 : DC mX0_leftAgain 5 = .ok (.iload_n 2, 1) := dk_28 (dk_at dksX0_leftAgain_0 5 rfl rfl)
theorem dX0_leftAgain_6 : DC mX0_leftAgain 6 = .ok (.iload_n 3, 1) := dk_29 (dk_at dksX0_leftAgain_0 6 rfl rfl)
theorem dX0_leftAgain_7 : DC mX0_leftAgain 7 = .ok (.invokevirtual 53, 3) := dk_182 0 53 (dk_at dksX0_leftAgain_0 7 rfl rfl)
theorem dX0_leftAgain_10 : DC mX0_leftAgain 10 = .ok (.i2l, 1) := dk_133 (dk_at dksX0_leftAgain_0 10 rfl rfl)
theorem dX0_leftAgain_11 : DC mX0_leftAgain 11 = .ok (.lastore, 1) := dk_80 (dk_at dksX0_leftAgain_0 11 rfl rfl)
theorem dX0_leftAgain_12 : DC mX0_leftAgain 12 = .ok (.goto 7, 3) := dk_167 0 7 (dk_at dksX0_leftAgain_0 12 rfl rfl)
theorem dX0_leftAgain_15 : DC mX0_leftAgain 15 = .ok (.astore 5, 2) := dk_58 5 (dk_at dksX0_leftAgain_0 15 rfl rfl)
theorem dX0_leftAgain_17 : DC mX0_leftAgain 17 = .ok (.iconst 1, 1) := dk_4 (dk_at dksX0_leftAgain_0 17 rfl rfl)
theorem dX0_leftAgain_18 : DC mX0_leftAgain 18 = .ok (.ireturn, 1) := dk_172 (dk_at dksX0_leftAgain_0 18 rfl rfl)
theorem dX0_leftAgain_19 : DC mX0_leftAgain 19 = .ok (.iconst 0, 1) := dk_3 (dk_at dksX0_leftAgain_0 19 rfl rfl)
theorem dX0_leftAgain_20 : DC mX0_leftAgain 20 = .ok (.ireturn, 1) := dk_172 (dk_at dksX0_leftAgain_0 20 rfl rfl)
abbrev cX0_faultOf : ByteArray := method_15_code
def yX0_faultOf : MethodName := ⟨RX0, "faultOf", "(LTheatreSaga;I[J)I"⟩
def mX0_faultOf : MI := (⟨"TheatreSagaLaw", "faultOf", "(LTheatreSaga;I[J)I"⟩, method_15_code, 4, (Option.some FieldType.int), some [(0, 9, 12, 21), (0, 9, 15, 59)], 38, 12)
theorem oX0_faultOf : mO mX0_faultOf = 38 := rfl
theorem lX0_faultOf : mL mX0_faultOf = 4 := rfl
theorem rX0_faultOf : mR mX0_faultOf = (Option.some FieldType.int) := rfl
theorem vX0_faultOf : mV mX0_faultOf = 12 := rfl
theorem nX0_faultOf : (mY mX0_faultOf).name = "faultOf" := rfl
theorem hX0_faultOf : mH mX0_faultOf = some [(0, 9, 12, 21), (0, 9, 15, 59)] := rfl
theorem kX0_faultOf : MOk mX0_faultOf := ⟨q1826, q74, by decide +kernel⟩
theorem gX0_faultOf : plainName (mY mX0_faultOf).cls = true ∧ (mY mX0_faultOf).cls = "TheatreSagaLaw" := ⟨by decide +kernel, rfl⟩
def dkwX0_faultOf_0 : List UInt8 := [44, 3, 42, 27, 182, 0, 56, 133, 80, 167, 0, 9, 78, 4, 172, 78, 5, 172, 3, 172]
abbrev dktX0_faultOf_0 : List UInt8 := dkwX0_faultOf_0 ++ []
theorem dksX0_faultOf_0 : cX0_faultOf.data.toList.drop 0 = dktX0_faultOf_0 := by decide +kernel
theorem dX0_faultOf_0 : DC mX0_faultOf 0 = .ok (.aload_n 2, 1) := dk_44 (dk_at dksX0_faultOf_0 0 rfl rfl)
theorem dX0_faultOf_1 : DC mX0_faultOf 1 = .ok (.iconst 0, 1) := dk_3 (dk_at dksX0_faultOf_0 1 rfl rfl)
theorem dX0_faultOf_2 : DC mX0_faultOf 2 = .ok (.aload_n 0, 1) := dk_42 (dk_at dksX0_faultOf_0 2 rfl rfl)
theorem dX0_faultOf_3 : DC mX0_faultOf 3 = .ok (.iload_n 1, 1) := dk_27 (dk_at dksX0_faultOf_0 3 rfl rfl)
theorem dX0_faultOf_4 : DC mX0_faultOf 4 = .ok (.invokevirtual 56, 3) := dk_182 0 56 (dk_at dksX0_faultOf_0 4 rfl rfl)
theorem dX0_faultOf_7 : DC mX0_faultOf 7 = .ok (.i2l, 1) := dk_133 (dk_at dksX0_faultOf_0 7 rfl rfl)
theorem dX0_faultOf_8 : DC mX0_faultOf 8 = .ok (.lastore, 1) := dk_80 (dk_at dksX0_faultOf_0 8 rfl rfl)
theorem dX0_faultOf_9 : DC mX0_faultOf 9 = .ok (.goto 9, 3) := dk_167 0 9 (dk_at dksX0_faultOf_0 9 rfl rfl)
theorem dX0_faultOf_12 : DC mX0_faultOf 12 = .ok (.astore_n 3, 1) := dk_78 (dk_at dksX0_faultOf_0 12 rfl rfl)
theorem dX0_faultOf_13 : DC mX0_faultOf 13 = .ok (.iconst 1, 1) := dk_4 (dk_at dksX0_faultOf_0 13 rfl rfl)
theorem dX0_faultOf_14 : DC mX0_faultOf 14 = .ok (.ireturn, 1) := dk_172 (dk_at dksX0_faultOf_0 14 rfl rfl)
theorem dX0_faultOf_15 : DC mX0_faultOf 15 = .ok (.astore_n 3, 1) := dk_78 (dk_at dksX0_faultOf_0 15 rfl rfl)
theorem dX0_faultOf_16 : DC mX0_faultOf 16 = .ok (.iconst 2, 1) := dk_5 (dk_at dksX0_faultOf_0 16 rfl rfl)
theorem dX0_faultOf_17 : DC mX0_faultOf 17 = .ok (.ireturn, 1) := dk_172 (dk_at dksX0_faultOf_0 17 rfl rfl)
theorem dX0_faultOf_18 : DC mX0_faultOf 18 = .ok (.iconst 0, 1) := dk_3 (dk_at dksX0_faultOf_0 18 rfl rfl)
theorem dX0_faultOf_19 : DC mX0_faultOf 19 = .ok (.ireturn, 1) := dk_172 (dk_at dksX0_faultOf_0 19 rfl rfl)
abbrev cX0_endsIn : ByteArray := method_16_code
def yX0_endsIn : MethodName := ⟨RX0, "endsIn", "(LTheatreSaga;I[J)I"⟩
def mX0_endsIn : MI := (⟨"TheatreSagaLaw", "endsIn", "(LTheatreSaga;I[J)I"⟩, method_16_code, 4, (Option.some FieldType.int), some [(0, 9, 12, 21), (0, 9, 15, 59)], 38, 20)
theorem oX0_endsIn : mO mX0_endsIn = 38 := rfl
theorem lX0_endsIn : mL mX0_endsIn = 4 := rfl
theorem rX0_endsIn : mR mX0_endsIn = (Option.some FieldType.int) := rfl
theorem vX0_endsIn : mV mX0_endsIn = 20 := rfl
theorem nX0_endsIn : (mY mX0_endsIn).name = "endsIn" := rfl
theorem hX0_endsIn : mH mX0_endsIn = some [(0, 9, 12, 21), (0, 9, 15, 59)] := rfl
theorem kX0_endsIn : MOk mX0_endsIn := ⟨q1837, q74, by decide +kernel⟩
theorem gX0_endsIn : plainName (mY mX0_endsIn).cls = true ∧ (mY mX0_endsIn).cls = "TheatreSagaLaw" := ⟨by decide +kernel, rfl⟩
def dkwX0_endsIn_0 : List UInt8 := [44, 3, 42, 27, 182, 0, 61, 133, 80, 167, 0, 9, 78, 4, 172, 78, 5, 172, 3, 172]
abbrev dktX0_endsIn_0 : List UInt8 := dkwX0_endsIn_0 ++ []
theorem dksX0_endsIn_0 : cX0_endsIn.data.toList.drop 0 = dktX0_endsIn_0 := by decide +kernel
theorem dX0_endsIn_0 : DC mX0_endsIn 0 = .ok (.aload_n 2, 1) := dk_44 (dk_at dksX0_endsIn_0 0 rfl rfl)
theorem dX0_endsIn_1 : DC mX0_endsIn 1 = .ok (.iconst 0, 1) := dk_3 (dk_at dksX0_endsIn_0 1 rfl rfl)
theorem dX0_endsIn_2 : DC mX0_endsIn 2 = .ok (.aload_n 0, 1) := dk_42 (dk_at dksX0_endsIn_0 2 rfl rfl)
theorem dX0_endsIn_3 : DC mX0_endsIn 3 = .ok (.iload_n 1, 1) := dk_27 (dk_at dksX0_endsIn_0 3 rfl rfl)
theorem dX0_endsIn_4 : DC mX0_endsIn 4 = .ok (.invokevirtual 61, 3) := dk_182 0 61 (dk_at dksX0_endsIn_0 4 rfl rfl)
theorem dX0_endsIn_7 : DC mX0_endsIn 7 = .ok (.i2l, 1) := dk_133 (dk_at dksX0_endsIn_0 7 rfl rfl)
theorem dX0_endsIn_8 : DC mX0_endsIn 8 = .ok (.lastore, 1) := dk_80 (dk_at dksX0_endsIn_0 8 rfl rfl)
theorem dX0_endsIn_9 : DC mX0_endsIn 9 = .ok (.goto 9, 3) := dk_167 0 9 (dk_at dksX0_endsIn_0 9 rfl rfl)
theorem dX0_endsIn_12 : DC mX0_endsIn 12 = .ok (.astore_n 3, 1) := dk_78 (dk_at dksX0_endsIn_0 12 rfl rfl)
theorem dX0_endsIn_13 : DC mX0_endsIn 13 = .ok (.iconst 1, 1) := dk_4 (dk_at dksX0_endsIn_0 13 rfl rfl)
theorem dX0_endsIn_14 : DC mX0_endsIn 14 = .ok (.ireturn, 1) := dk_172 (dk_at dksX0_endsIn_0 14 rfl rfl)
theorem dX0_endsIn_15 : DC mX0_endsIn 15 = .ok (.astore_n 3, 1) := dk_78 (dk_at dksX0_endsIn_0 15 rfl rfl)
theorem dX0_endsIn_16 : DC mX0_endsIn 16 = .ok (.iconst 2, 1) := dk_5 (dk_at dksX0_endsIn_0 16 rfl rfl)
theorem dX0_endsIn_17 : DC mX0_endsIn 17 = .ok (.ireturn, 1) := dk_172 (dk_at dksX0_endsIn_0 17 rfl rfl)
theorem dX0_endsIn_18 : DC mX0_endsIn 18 = .ok (.iconst 0, 1) := dk_3 (dk_at dksX0_endsIn_0 18 rfl rfl)
theorem dX0_endsIn_19 : DC mX0_endsIn 19 = .ok (.ireturn, 1) := dk_172 (dk_at dksX0_endsIn_0 19 rfl rfl)
abbrev cX0_costs : ByteArray := method_17_code
def yX0_costs : MethodName := ⟨RX0, "costs", "(LTheatreSaga;I[J)I"⟩
def mX0_costs : MI := (⟨"TheatreSagaLaw", "costs", "(LTheatreSaga;I[J)I"⟩, method_17_code, 4, (Option.some FieldType.int), some [(0, 9, 12, 21)], 38, 12)
theorem oX0_costs : mO mX0_costs = 38 := rfl
theorem lX0_costs : mL mX0_costs = 4 := rfl
theorem rX0_costs : mR mX0_costs = (Option.some FieldType.int) := rfl
theorem vX0_costs : mV mX0_costs = 12 := rfl
theorem nX0_costs : (mY mX0_costs).name = "costs" := rfl
theorem hX0_costs : mH mX0_costs = some [(0, 9, 12, 21)] := rfl
theorem kX0_costs : MOk mX0_costs := ⟨q1848, q74, by decide +kernel⟩
theorem gX0_costs : plainName (mY mX0_costs).cls = true ∧ (mY mX0_costs).cls = "TheatreSagaLaw" := ⟨by decide +kernel, rfl⟩
def dkwX0_costs_0 : List UInt8 := [44, 3, 42, 27, 182, 0, 64, 133, 80, 167, 0, 6, 78, 4, 172, 3, 172]
abbrev dktX0_costs_0 : List UInt8 := dkwX0_costs_0 ++ []
theorem dksX0_costs_0 : cX0_costs.data.toList.drop 0 = dktX0_costs_0 := by decide +kernel
theorem dX0_costs_0 : DC mX0_costs 0 = .ok (.aload_n 2, 1) := dk_44 (dk_at dksX0_costs_0 0 rfl rfl)
theorem dX0_costs_1 : DC mX0_costs 1 = .ok (.iconst 0, 1) := dk_3 (dk_at dksX0_costs_0 1 rfl rfl)
theorem dX0_costs_2 : DC mX0_costs 2 = .ok (.aload_n 0, 1) := dk_42 (dk_at dksX0_costs_0 2 rfl rfl)
theorem dX0_costs_3 : DC mX0_costs 3 = .ok (.iload_n 1, 1) := dk_27 (dk_at dksX0_costs_0 3 rfl rfl)
theorem dX0_costs_4 : DC mX0_costs 4 = .ok (.invokevirtual 64, 3) := dk_182 0 64 (dk_at dksX0_costs_0 4 rfl rfl)
theorem dX0_costs_7 : DC mX0_costs 7 = .ok (.i2l, 1) := dk_133 (dk_at dksX0_costs_0 7 rfl rfl)
theorem dX0_costs_8 : DC mX0_costs 8 = .ok (.lastore, 1) := dk_80 (dk_at dksX0_costs_0 8 rfl rfl)
theorem dX0_costs_9 : DC mX0_costs 9 = .ok (.goto 6, 3) := dk_167 0 6 (dk_at dksX0_costs_0 9 rfl rfl)
theorem dX0_costs_12 : DC mX0_costs 12 = .ok (.astore_n 3, 1) := dk_78 (dk_at dksX0_costs_0 12 rfl rfl)
theorem dX0_costs_13 : DC mX0_costs 13 = .ok (.iconst 1, 1) := dk_4 (dk_at dksX0_costs_0 13 rfl rfl)
theorem dX0_costs_14 : DC mX0_costs 14 = .ok (.ireturn, 1) := dk_172 (dk_at dksX0_costs_0 14 rfl rfl)
theorem dX0_costs_15 : DC mX0_costs 15 = .ok (.iconst 0, 1) := dk_3 (dk_at dksX0_costs_0 15 rfl rfl)
theorem dX0_costs_16 : DC mX0_costs 16 = .ok (.ireturn, 1) := dk_172 (dk_at dksX0_costs_0 16 rfl rfl)
abbrev cX0_cheapest : ByteArray := method_18_code
def yX0_cheapest : MethodName := ⟨RX0, "cheapest", "(LTheatreSaga;III[J)I"⟩
def mX0_cheapest : MI := (⟨"TheatreSagaLaw", "cheapest", "(LTheatreSaga;III[J)I"⟩, method_18_code, 6, (Option.some FieldType.int), some [(0, 12, 15, 21), (0, 12, 19, 13), (0, 12, 23, 59)], 38, 12)
theorem oX0_cheapest : mO mX0_cheapest = 38 := rfl
theorem lX0_cheapest : mL mX0_cheapest = 6 := rfl
theorem rX0_cheapest : mR mX0_cheapest = (Option.some FieldType.int) := rfl
theorem vX0_cheapest : mV mX0_cheapest = 12 := rfl
theorem nX0_cheapest : (mY mX0_cheapest).name = "cheapest" := rfl
theorem hX0_cheapest : mH mX0_cheapest = some [(0, 12, 15, 21), (0, 12, 19, 13), (0, 12, 23, 59)] := rfl
theorem kX0_cheapest : MOk mX0_cheapest := ⟨q1858, q74, by decide +kernel⟩
theorem gX0_cheapest : plainName (mY mX0_cheapest).cls = true ∧ (mY mX0_cheapest).cls = "TheatreSagaLaw" := ⟨by decide +kernel, rfl⟩
def dkwX0_cheapest_1 : List UInt8 := [58, 5, 6, 172, 3, 172]
abbrev dktX0_cheapest_1 : List UInt8 := dkwX0_cheapest_1 ++ []
def dkwX0_cheapest_0 : List UInt8 := [25, 4, 3, 42, 27, 28, 29, 182, 0, 67, 133, 80, 167, 0, 15, 58, 5, 4, 172, 58, 5, 5, 172]
abbrev dktX0_cheapest_0 : List UInt8 := dkwX0_cheapest_0 ++ dktX0_cheapest_1
theorem dksX0_cheapest_0 : cX0_cheapest.data.toList.drop 0 = dktX0_cheapest_0 := by decide +kernel
theorem dksX0_cheapest_1 : cX0_cheapest.data.toList.drop 23 = dktX0_cheapest_1 := dk_seg dksX0_cheapest_0 23 rfl rfl
theorem dX0_cheapest_0 : DC mX0_cheapest 0 = .ok (.aload 4, 2) := dk_25 4 (dk_at dksX0_cheapest_0 0 rfl rfl)
theorem dX0_cheapest_2 : DC mX0_cheapest 2 = .ok (.iconst 0, 1) := dk_3 (dk_at dksX0_cheapest_0 2 rfl rfl)
theorem dX0_cheapest_3 : DC mX0_cheapest 3 = .ok (.aload_n 0, 1) := dk_42 (dk_at dksX0_cheapest_0 3 rfl rfl)
theorem dX0_cheapest_4 : DC mX0_cheapest 4 = .ok (.iload_n 1, 1) := dk_27 (dk_at dksX0_cheapest_0 4 rfl rfl)
theorem dX0_cheapest_5 : DC mX0_cheapest 5 = .ok (.iload_n 2, 1) := dk_28 (dk_at dksX0_cheapest_0 5 rfl rfl)
theorem dX0_cheapest_6 : DC mX0_cheapest 6 = .ok (.iload_n 3, 1) := dk_29 (dk_at dksX0_cheapest_0 6 rfl rfl)
theorem dX0_cheapest_7 : DC mX0_cheapest 7 = .ok (.invokevirtual 67, 3) := dk_182 0 67 (dk_at dksX0_cheapest_0 7 rfl rfl)
theorem dX0_cheapest_10 : DC mX0_cheapest 10 = .ok (.i2l, 1) := dk_133 (dk_at dksX0_cheapest_0 10 rfl rfl)
theorem dX0_cheapest_11 : DC mX0_cheapest 11 = .ok (.lastore, 1) := dk_80 (dk_at dksX0_cheapest_0 11 rfl rfl)
theorem dX0_cheapest_12 : DC mX0_cheapest 12 = .ok (.goto 15, 3) := dk_167 0 15 (dk_at dksX0_cheapest_0 12 rfl rfl)
theorem dX0_cheapest_15 : DC mX0_cheapest 15 = .ok (.astore 5, 2) := dk_58 5 (dk_at dksX0_cheapest_0 15 rfl rfl)
theorem dX0_cheapest_17 : DC mX0_cheapest 17 = .ok (.iconst 1, 1) := dk_4 (dk_at dksX0_cheapest_0 17 rfl rfl)
theorem dX0_cheapest_18 : DC mX0_cheapest 18 = .ok (.ireturn, 1) := dk_172 (dk_at dksX0_cheapest_0 18 rfl rfl)
theorem dX0_cheapest_19 : DC mX0_cheapest 19 = .ok (.astore 5, 2) := dk_58 5 (dk_at dksX0_cheapest_0 19 rfl rfl)
theorem dX0_cheapest_21 : DC mX0_cheapest 21 = .ok (.iconst 2, 1) := dk_5 (dk_at dksX0_cheapest_0 21 rfl rfl)
theorem dX0_cheapest_22 : DC mX0_cheapest 22 = .ok (.ireturn, 1) := dk_172 (dk_at dksX0_cheapest_0 22 rfl rfl)
theorem dX0_cheapest_23 : DC mX0_cheapest 23 = .ok (.astore 5, 2) := dk_58 5 (dk_at dksX0_cheapest_1 0 rfl rfl)
theorem dX0_cheapest_25 : DC mX0_cheapest 25 = .ok (.iconst 3, 1) := dk_6 (dk_at dksX0_cheapest_1 2 rfl rfl)
theorem dX0_cheapest_26 : DC mX0_cheapest 26 = .ok (.ireturn, 1) := dk_172 (dk_at dksX0_cheapest_1 3 rfl rfl)
theorem dX0_cheapest_27 : DC mX0_cheapest 27 = .ok (.iconst 0, 1) := dk_3 (dk_at dksX0_cheapest_1 4 rfl rfl)
theorem dX0_cheapest_28 : DC mX0_cheapest 28 = .ok (.ireturn, 1) := dk_172 (dk_at dksX0_cheapest_1 5 rfl rfl)
abbrev cX0_ranked : ByteArray := method_19_code
def yX0_ranked : MethodName := ⟨RX0, "ranked", "(LTheatreSaga;I[J)I"⟩
def mX0_ranked : MI := (⟨"TheatreSagaLaw", "ranked", "(LTheatreSaga;I[J)I"⟩, method_19_code, 4, (Option.some FieldType.int), some [(0, 9, 12, 59)], 38, 13)
theorem oX0_ranked : mO mX0_ranked = 38 := rfl
theorem lX0_ranked : mL mX0_ranked = 4 := rfl
theorem rX0_ranked : mR mX0_ranked = (Option.some FieldType.int) := rfl
theorem vX0_ranked : mV mX0_ranked = 13 := rfl
theorem nX0_ranked : (mY mX0_ranked).name = "ranked" := rfl
theorem hX0_ranked : mH mX0_ranked = some [(0, 9, 12, 59)] := rfl
theorem kX0_ranked : MOk mX0_ranked := ⟨q1896, q74, by decide +kernel⟩
theorem gX0_ranked : plainName (mY mX0_ranked).cls = true ∧ (mY mX0_ranked).cls = "TheatreSagaLaw" := ⟨by decide +kernel, rfl⟩
def dkwX0_ranked_0 : List UInt8 := [44, 3, 42, 27, 182, 0, 70, 133, 80, 167, 0, 6, 78, 4, 172, 3, 172]
abbrev dktX0_ranked_0 : List UInt8 := dkwX0_ranked_0 ++ []
theorem dksX0_ranked_0 : cX0_ranked.data.toList.drop 0 = dktX0_ranked_0 := by decide +kernel
theorem dX0_ranked_0 : DC mX0_ranked 0 = .ok (.aload_n 2, 1) := dk_44 (dk_at dksX0_ranked_0 0 rfl rfl)
theorem dX0_ranked_1 : DC mX0_ranked 1 = .ok (.iconst 0, 1) := dk_3 (dk_at dksX0_ranked_0 1 rfl rfl)
theorem dX0_ranked_2 : DC mX0_ranked 2 = .ok (.aload_n 0, 1) := dk_42 (dk_at dksX0_ranked_0 2 rfl rfl)
theorem dX0_ranked_3 : DC mX0_ranked 3 = .ok (.iload_n 1, 1) := dk_27 (dk_at dksX0_ranked_0 3 rfl rfl)
theorem dX0_ranked_4 : DC mX0_ranked 4 = .ok (.invokevirtual 70, 3) := dk_182 0 70 (dk_at dksX0_ranked_0 4 rfl rfl)
theorem dX0_ranked_7 : DC mX0_ranked 7 = .ok (.i2l, 1) := dk_133 (dk_at dksX0_ranked_0 7 rfl rfl)
theorem dX0_ranked_8 : DC mX0_ranked 8 = .ok (.lastore, 1) := dk_80 (dk_at dksX0_ranked_0 8 rfl rfl)
theorem dX0_ranked_9 : DC mX0_ranked 9 = .ok (.goto 6, 3) := dk_167 0 6 (dk_at dksX0_ranked_0 9 rfl rfl)
theorem dX0_ranked_12 : DC mX0_ranked 12 = .ok (.astore_n 3, 1) := dk_78 (dk_at dksX0_ranked_0 12 rfl rfl)
theorem dX0_ranked_13 : DC mX0_ranked 13 = .ok (.iconst 1, 1) := dk_4 (dk_at dksX0_ranked_0 13 rfl rfl)
theorem dX0_ranked_14 : DC mX0_ranked 14 = .ok (.ireturn, 1) := dk_172 (dk_at dksX0_ranked_0 14 rfl rfl)
theorem dX0_ranked_15 : DC mX0_ranked 15 = .ok (.iconst 0, 1) := dk_3 (dk_at dksX0_ranked_0 15 rfl rfl)
theorem dX0_ranked_16 : DC mX0_ranked 16 = .ok (.ireturn, 1) := dk_172 (dk_at dksX0_ranked_0 16 rfl rfl)
abbrev cX0_line : ByteArray := method_20_code
def yX0_line : MethodName := ⟨RX0, "line", "(LTheatreSaga;I[J)I"⟩
def mX0_line : MI := (⟨"TheatreSagaLaw", "line", "(LTheatreSaga;I[J)I"⟩, method_20_code, 4, (Option.some FieldType.int), some [(0, 9, 12, 21)], 38, 13)
theorem oX0_line : mO mX0_line = 38 := rfl
theorem lX0_line : mL mX0_line = 4 := rfl
theorem rX0_line : mR mX0_line = (Option.some FieldType.int) := rfl
theorem vX0_line : mV mX0_line = 13 := rfl
theorem nX0_line : (mY mX0_line).name = "line" := rfl
theorem hX0_line : mH mX0_line = some [(0, 9, 12, 21)] := rfl
theorem kX0_line : MOk mX0_line := ⟨q1962, q74, by decide +kernel⟩
theorem gX0_line : plainName (mY mX0_line).cls = true ∧ (mY mX0_line).cls = "TheatreSagaLaw" := ⟨by decide +kernel, rfl⟩
def dkwX0_line_0 : List UInt8 := [44, 3, 42, 27, 182, 0, 73, 133, 80, 167, 0, 6, 78, 4, 172, 3, 172]
abbrev dktX0_line_0 : List UInt8 := dkwX0_line_0 ++ []
theorem dksX0_line_0 : cX0_line.data.toList.drop 0 = dktX0_line_0 := by decide +kernel
theorem dX0_line_0 : DC mX0_line 0 = .ok (.aload_n 2, 1) := dk_44 (dk_at dksX0_line_0 0 rfl rfl)
theorem dX0_line_1 : DC mX0_line 1 = .ok (.iconst 0, 1) := dk_3 (dk_at dksX0_line_0 1 rfl rfl)
theorem dX0_line_2 : DC mX0_line 2 = .ok (.aload_n 0, 1) := dk_42 (dk_at dksX0_line_0 2 rfl rfl)
theorem dX0_line_3 : DC mX0_line 3 = .ok (.iload_n 1, 1) := dk_27 (dk_at dksX0_line_0 3 rfl rfl)
theorem dX0_line_4 : DC mX0_line 4 = .ok (.invokevirtual 73, 3) := dk_182 0 73 (dk_at dksX0_line_0 4 rfl rfl)
theorem dX0_line_7 : DC mX0_line 7 = .ok (.i2l, 1) := dk_133 (dk_at dksX0_line_0 7 rfl rfl)
theorem dX0_line_8 : DC mX0_line 8 = .ok (.lastore, 1) := dk_80 (dk_at dksX0_line_0 8 rfl rfl)
theorem dX0_line_9 : DC mX0_line 9 = .ok (.goto 6, 3) := dk_167 0 6 (dk_at dksX0_line_0 9 rfl rfl)
theorem dX0_line_12 : DC mX0_line 12 = .ok (.astore_n 3, 1) := dk_78 (dk_at dksX0_line_0 12 rfl rfl)
theorem dX0_line_13 : DC mX0_line 13 = .ok (.iconst 1, 1) := dk_4 (dk_at dksX0_line_0 13 rfl rfl)
theorem dX0_line_14 : DC mX0_line 14 = .ok (.ireturn, 1) := dk_172 (dk_at dksX0_line_0 14 rfl rfl)
theorem dX0_line_15 : DC mX0_line 15 = .ok (.iconst 0, 1) := dk_3 (dk_at dksX0_line_0 15 rfl rfl)
theorem dX0_line_16 : DC mX0_line 16 = .ok (.ireturn, 1) := dk_172 (dk_at dksX0_line_0 16 rfl rfl)
abbrev cX0_character : ByteArray := method_21_code
def yX0_character : MethodName := ⟨RX0, "character", "(LTheatreSaga;I[J)I"⟩
def mX0_character : MI := (⟨"TheatreSagaLaw", "character", "(LTheatreSaga;I[J)I"⟩, method_21_code, 4, (Option.some FieldType.int), some [(0, 9, 12, 21)], 38, 10)
theorem oX0_character : mO mX0_character = 38 := rfl
theorem lX0_character : mL mX0_character = 4 := rfl
theorem rX0_character : mR mX0_character = (Option.some FieldType.int) := rfl
theorem vX0_character : mV mX0_character = 10 := rfl
theorem nX0_character : (mY mX0_character).name = "character" := rfl
theorem hX0_character : mH mX0_character = some [(0, 9, 12, 21)] := rfl
theorem kX0_character : MOk mX0_character := ⟨q2031, q74, by decide +kernel⟩
theorem gX0_character : plainName (mY mX0_character).cls = true ∧ (mY mX0_character).cls = "TheatreSagaLaw" := ⟨by decide +kernel, rfl⟩
def dkwX0_character_0 : List UInt8 := [44, 3, 42, 27, 182, 0, 76, 133, 80, 167, 0, 6, 78, 4, 172, 3, 172]
abbrev dktX0_character_0 : List UInt8 := dkwX0_character_0 ++ []
theorem dksX0_character_0 : cX0_character.data.toList.drop 0 = dktX0_character_0 := by decide +kernel
theorem dX0_character_0 : DC mX0_character 0 = .ok (.aload_n 2, 1) := dk_44 (dk_at dksX0_character_0 0 rfl rfl)
theorem dX0_character_1 : DC mX0_character 1 = .ok (.iconst 0, 1) := dk_3 (dk_at dksX0_character_0 1 rfl rfl)
theorem dX0_character_2 : DC mX0_character 2 = .ok (.aload_n 0, 1) := dk_42 (dk_at dksX0_character_0 2 rfl rfl)
theorem dX0_character_3 : DC mX0_character 3 = .ok (.iload_n 1, 1) := dk_27 (dk_at dksX0_character_0 3 rfl rfl)
theorem dX0_character_4 : DC mX0_character 4 = .ok (.invokevirtual 76, 3) := dk_182 0 76 (dk_at dksX0_character_0 4 rfl rfl)
theorem dX0_character_7 : DC mX0_character 7 = .ok (.i2l, 1) := dk_133 (dk_at dksX0_character_0 7 rfl rfl)
theorem dX0_character_8 : DC mX0_character 8 = .ok (.lastore, 1) := dk_80 (dk_at dksX0_character_0 8 rfl rfl)
theorem dX0_character_9 : DC mX0_character 9 = .ok (.goto 6, 3) := dk_167 0 6 (dk_at dksX0_character_0 9 rfl rfl)
theorem dX0_character_12 : DC mX0_character 12 = .ok (.astore_n 3, 1) := dk_78 (dk_at dksX0_character_0 12 rfl rfl)
theorem dX0_character_13 : DC mX0_character 13 = .ok (.iconst 1, 1) := dk_4 (dk_at dksX0_character_0 13 rfl rfl)
theorem dX0_character_14 : DC mX0_character 14 = .ok (.ireturn, 1) := dk_172 (dk_at dksX0_character_0 14 rfl rfl)
theorem dX0_character_15 : DC mX0_character 15 = .ok (.iconst 0, 1) := dk_3 (dk_at dksX0_character_0 15 rfl rfl)
theorem dX0_character_16 : DC mX0_character 16 = .ok (.ireturn, 1) := dk_172 (dk_at dksX0_character_0 16 rfl rfl)
abbrev cX0_number : ByteArray := method_22_code
def yX0_number : MethodName := ⟨RX0, "number", "(LTheatreSaga;I[J)I"⟩
def mX0_number : MI := (⟨"TheatreSagaLaw", "number", "(LTheatreSaga;I[J)I"⟩, method_22_code, 4, (Option.some FieldType.int), some [(0, 9, 12, 13)], 38, 13)
theorem oX0_number : mO mX0_number = 38 := rfl
theorem lX0_number : mL mX0_number = 4 := rfl
theorem rX0_number : mR mX0_number = (Option.some FieldType.int) := rfl
theorem vX0_number : mV mX0_number = 13 := rfl
theorem nX0_number : (mY mX0_number).name = "number" := rfl
theorem hX0_number : mH mX0_number = some [(0, 9, 12, 13)] := rfl
theorem kX0_number : MOk mX0_number := ⟨q2056, q74, by decide +kernel⟩
theorem gX0_number : plainName (mY mX0_number).cls = true ∧ (mY mX0_number).cls = "TheatreSagaLaw" := ⟨by decide +kernel, rfl⟩
def dkwX0_number_0 : List UInt8 := [44, 3, 42, 27, 182, 0, 80, 133, 80, 167, 0, 6, 78, 4, 172, 3, 172]
abbrev dktX0_number_0 : List UInt8 := dkwX0_number_0 ++ []
theorem dksX0_number_0 : cX0_number.data.toList.drop 0 = dktX0_number_0 := by decide +kernel
theorem dX0_number_0 : DC mX0_number 0 = .ok (.aload_n 2, 1) := dk_44 (dk_at dksX0_number_0 0 rfl rfl)
theorem dX0_number_1 : DC mX0_number 1 = .ok (.iconst 0, 1) := dk_3 (dk_at dksX0_number_0 1 rfl rfl)
theorem dX0_number_2 : DC mX0_number 2 = .ok (.aload_n 0, 1) := dk_42 (dk_at dksX0_number_0 2 rfl rfl)
theorem dX0_number_3 : DC mX0_number 3 = .ok (.iload_n 1, 1) := dk_27 (dk_at dksX0_number_0 3 rfl rfl)
theorem dX0_number_4 : DC mX0_number 4 = .ok (.invokevirtual 80, 3) := dk_182 0 80 (dk_at dksX0_number_0 4 rfl rfl)
theorem dX0_number_7 : DC mX0_number 7 = .ok (.i2l, 1) := dk_133 (dk_at dksX0_number_0 7 rfl rfl)
theorem dX0_number_8 : DC mX0_number 8 = .ok (.lastore, 1) := dk_80 (dk_at dksX0_number_0 8 rfl rfl)
theorem dX0_number_9 : DC mX0_number 9 = .ok (.goto 6, 3) := dk_167 0 6 (dk_at dksX0_number_0 9 rfl rfl)
theorem dX0_number_12 : DC mX0_number 12 = .ok (.astore_n 3, 1) := dk_78 (dk_at dksX0_number_0 12 rfl rfl)
theorem dX0_number_13 : DC mX0_number 13 = .ok (.iconst 1, 1) := dk_4 (dk_at dksX0_number_0 13 rfl rfl)
theorem dX0_number_14 : DC mX0_number 14 = .ok (.ireturn, 1) := dk_172 (dk_at dksX0_number_0 14 rfl rfl)
theorem dX0_number_15 : DC mX0_number 15 = .ok (.iconst 0, 1) := dk_3 (dk_at dksX0_number_0 15 rfl rfl)
theorem dX0_number_16 : DC mX0_number 16 = .ok (.ireturn, 1) := dk_172 (dk_at dksX0_number_0 16 rfl rfl)
abbrev cX0_meanSteps : ByteArray := method_23_code
def yX0_meanSteps : MethodName := ⟨RX0, "meanSteps", "(LTheatreSaga;[D)I"⟩
def mX0_meanSteps : MI := (⟨"TheatreSagaLaw", "meanSteps", "(LTheatreSaga;[D)I"⟩, method_23_code, 3, (Option.some FieldType.int), some [(0, 7, 10, 87)], 38, 12)
theorem oX0_meanSteps : mO mX0_meanSteps = 38 := rfl
theorem lX0_meanSteps : mL mX0_meanSteps = 3 := rfl
theorem rX0_meanSteps : mR mX0_meanSteps = (Option.some FieldType.int) := rfl
theorem vX0_meanSteps : mV mX0_meanSteps = 12 := rfl
theorem nX0_meanSteps : (mY mX0_meanSteps).name = "meanSteps" := rfl
theorem hX0_meanSteps : mH mX0_meanSteps = some [(0, 7, 10, 87)] := rfl
theorem kX0_meanSteps : MOk mX0_meanSteps := ⟨q2070, q74, by decide +kernel⟩
theorem gX0_meanSteps : plainName (mY mX0_meanSteps).cls = true ∧ (mY mX0_meanSteps).cls = "TheatreSagaLaw" := ⟨by decide +kernel, rfl⟩
def dkwX0_meanSteps_0 : List UInt8 := [43, 3, 42, 182, 0, 83, 82, 167, 0, 6, 77, 4, 172, 3, 172]
abbrev dktX0_meanSteps_0 : List UInt8 := dkwX0_meanSteps_0 ++ []
theorem dksX0_meanSteps_0 : cX0_meanSteps.data.toList.drop 0 = dktX0_meanSteps_0 := by decide +kernel
theorem dX0_meanSteps_0 : DC mX0_meanSteps 0 = .ok (.aload_n 1, 1) := dk_43 (dk_at dksX0_meanSteps_0 0 rfl rfl)
theorem dX0_meanSteps_1 : DC mX0_meanSteps 1 = .ok (.iconst 0, 1) := dk_3 (dk_at dksX0_meanSteps_0 1 rfl rfl)
theorem dX0_meanSteps_2 : DC mX0_meanSteps 2 = .ok (.aload_n 0, 1) := dk_42 (dk_at dksX0_meanSteps_0 2 rfl rfl)
theorem dX0_meanSteps_3 : DC mX0_meanSteps 3 = .ok (.invokevirtual 83, 3) := dk_182 0 83 (dk_at dksX0_meanSteps_0 3 rfl rfl)
theorem dX0_meanSteps_6 : DC mX0_meanSteps 6 = .ok (.dastore, 1) := dk_82 (dk_at dksX0_meanSteps_0 6 rfl rfl)
theorem dX0_meanSteps_7 : DC mX0_meanSteps 7 = .ok (.goto 6, 3) := dk_167 0 6 (dk_at dksX0_meanSteps_0 7 rfl rfl)
theorem dX0_meanSteps_10 : DC mX0_meanSteps 10 = .ok (.astore_n 2, 1) := dk_77 (dk_at dksX0_meanSteps_0 10 rfl rfl)
theorem dX0_meanSteps_11 : DC mX0_meanSteps 11 = .ok (.iconst 1, 1) := dk_4 (dk_at dksX0_meanSteps_0 11 rfl rfl)
theorem dX0_meanSteps_12 : DC mX0_meanSteps 12 = .ok (.ireturn, 1) := dk_172 (dk_at dksX0_meanSteps_0 12 rfl rfl)
theorem dX0_meanSteps_13 : DC mX0_meanSteps 13 = .ok (.iconst 0, 1) := dk_3 (dk_at dksX0_meanSteps_0 13 rfl rfl)
theorem dX0_meanSteps_14 : DC mX0_meanSteps 14 = .ok (.ireturn, 1) := dk_172 (dk_at dksX0_meanSteps_0 14 rfl rfl)
abbrev cX0_failedShare : ByteArray := method_24_code
def yX0_failedShare : MethodName := ⟨RX0, "failedShare", "(LTheatreSaga;[D)I"⟩
def mX0_failedShare : MI := (⟨"TheatreSagaLaw", "failedShare", "(LTheatreSaga;[D)I"⟩, method_24_code, 3, (Option.some FieldType.int), some [(0, 8, 11, 87)], 38, 9)
theorem oX0_failedShare : mO mX0_failedShare = 38 := rfl
theorem lX0_failedShare : mL mX0_failedShare = 3 := rfl
theorem rX0_failedShare : mR mX0_failedShare = (Option.some FieldType.int) := rfl
theorem vX0_failedShare : mV mX0_failedShare = 9 := rfl
theorem nX0_failedShare : (mY mX0_failedShare).name = "failedShare" := rfl
theorem hX0_failedShare : mH mX0_failedShare = some [(0, 8, 11, 87)] := rfl
theorem kX0_failedShare : MOk mX0_failedShare := ⟨q2098, q74, by decide +kernel⟩
theorem gX0_failedShare : plainName (mY mX0_failedShare).cls = true ∧ (mY mX0_failedShare).cls = "TheatreSagaLaw" := ⟨by decide +kernel, rfl⟩
def dkwX0_failedShare_0 : List UInt8 := [43, 3, 42, 182, 0, 89, 141, 82, 167, 0, 6, 77, 4, 172, 3, 172]
abbrev dktX0_failedShare_0 : List UInt8 := dkwX0_failedShare_0 ++ []
theorem dksX0_failedShare_0 : cX0_failedShare.data.toList.drop 0 = dktX0_failedShare_0 := by decide +kernel
theorem dX0_failedShare_0 : DC mX0_failedShare 0 = .ok (.aload_n 1, 1) := dk_43 (dk_at dksX0_failedShare_0 0 rfl rfl)
theorem dX0_failedShare_1 : DC mX0_failedShare 1 = .ok (.iconst 0, 1) := dk_3 (dk_at dksX0_failedShare_0 1 rfl rfl)
theorem dX0_failedShare_2 : DC mX0_failedShare 2 = .ok (.aload_n 0, 1) := dk_42 (dk_at dksX0_failedShare_0 2 rfl rfl)
theorem dX0_failedShare_3 : DC mX0_failedShare 3 = .ok (.invokevirtual 89, 3) := dk_182 0 89 (dk_at dksX0_failedShare_0 3 rfl rfl)
theorem dX0_failedShare_6 : DC mX0_failedShare 6 = .ok (.f2d, 1) := dk_141 (dk_at dksX0_failedShare_0 6 rfl rfl)
theorem dX0_failedShare_7 : DC mX0_failedShare 7 = .ok (.dastore, 1) := dk_82 (dk_at dksX0_failedShare_0 7 rfl rfl)
theorem dX0_failedShare_8 : DC mX0_failedShare 8 = .ok (.goto 6, 3) := dk_167 0 6 (dk_at dksX0_failedShare_0 8 rfl rfl)
theorem dX0_failedShare_11 : DC mX0_failedShare 11 = .ok (.astore_n 2, 1) := dk_77 (dk_at dksX0_failedShare_0 11 rfl rfl)
theorem dX0_failedShare_12 : DC mX0_failedShare 12 = .ok (.iconst 1, 1) := dk_4 (dk_at dksX0_failedShare_0 12 rfl rfl)
theorem dX0_failedShare_13 : DC mX0_failedShare 13 = .ok (.ireturn, 1) := dk_172 (dk_at dksX0_failedShare_0 13 rfl rfl)
theorem dX0_failedShare_14 : DC mX0_failedShare 14 = .ok (.iconst 0, 1) := dk_3 (dk_at dksX0_failedShare_0 14 rfl rfl)
theorem dX0_failedShare_15 : DC mX0_failedShare 15 = .ok (.ireturn, 1) := dk_172 (dk_at dksX0_failedShare_0 15 rfl rfl)
abbrev cX0_feed : ByteArray := method_25_code
def yX0_feed : MethodName := ⟨RX0, "feed", "(LTheatreSaga;C[J)I"⟩
def mX0_feed : MI := (⟨"TheatreSagaLaw", "feed", "(LTheatreSaga;C[J)I"⟩, method_25_code, 4, (Option.some FieldType.int), some [(0, 9, 12, 97)], 38, 10)
theorem oX0_feed : mO mX0_feed = 38 := rfl
theorem lX0_feed : mL mX0_feed = 4 := rfl
theorem rX0_feed : mR mX0_feed = (Option.some FieldType.int) := rfl
theorem vX0_feed : mV mX0_feed = 10 := rfl
theorem nX0_feed : (mY mX0_feed).name = "feed" := rfl
theorem hX0_feed : mH mX0_feed = some [(0, 9, 12, 97)] := rfl
theorem kX0_feed : MOk mX0_feed := ⟨q2105, q74, by decide +kernel⟩
theorem gX0_feed : plainName (mY mX0_feed).cls = true ∧ (mY mX0_feed).cls = "TheatreSagaLaw" := ⟨by decide +kernel, rfl⟩
def dkwX0_feed_0 : List UInt8 := [44, 3, 42, 27, 182, 0, 93, 133, 80, 167, 0, 6, 78, 4, 172, 3, 172]
abbrev dktX0_feed_0 : List UInt8 := dkwX0_feed_0 ++ []
theorem dksX0_feed_0 : cX0_feed.data.toList.drop 0 = dktX0_feed_0 := by decide +kernel
theorem dX0_feed_0 : DC mX0_feed 0 = .ok (.aload_n 2, 1) := dk_44 (dk_at dksX0_feed_0 0 rfl rfl)
theorem dX0_feed_1 : DC mX0_feed 1 = .ok (.iconst 0, 1) := dk_3 (dk_at dksX0_feed_0 1 rfl rfl)
theorem dX0_feed_2 : DC mX0_feed 2 = .ok (.aload_n 0, 1) := dk_42 (dk_at dksX0_feed_0 2 rfl rfl)
theorem dX0_feed_3 : DC mX0_feed 3 = .ok (.iload_n 1, 1) := dk_27 (dk_at dksX0_feed_0 3 rfl rfl)
theorem dX0_feed_4 : DC mX0_feed 4 = .ok (.invokevirtual 93, 3) := dk_182 0 93 (dk_at dksX0_feed_0 4 rfl rfl)
theorem dX0_feed_7 : DC mX0_feed 7 = .ok (.i2l, 1) := dk_133 (dk_at dksX0_feed_0 7 rfl rfl)
theorem dX0_feed_8 : DC mX0_feed 8 = .ok (.lastore, 1) := dk_80 (dk_at dksX0_feed_0 8 rfl rfl)
theorem dX0_feed_9 : DC mX0_feed 9 = .ok (.goto 6, 3) := dk_167 0 6 (dk_at dksX0_feed_0 9 rfl rfl)
theorem dX0_feed_12 : DC mX0_feed 12 = .ok (.astore_n 3, 1) := dk_78 (dk_at dksX0_feed_0 12 rfl rfl)
theorem dX0_feed_13 : DC mX0_feed 13 = .ok (.iconst 1, 1) := dk_4 (dk_at dksX0_feed_0 13 rfl rfl)
theorem dX0_feed_14 : DC mX0_feed 14 = .ok (.ireturn, 1) := dk_172 (dk_at dksX0_feed_0 14 rfl rfl)
theorem dX0_feed_15 : DC mX0_feed 15 = .ok (.iconst 0, 1) := dk_3 (dk_at dksX0_feed_0 15 rfl rfl)
theorem dX0_feed_16 : DC mX0_feed 16 = .ok (.ireturn, 1) := dk_172 (dk_at dksX0_feed_0 16 rfl rfl)
abbrev cX0_read : ByteArray := method_26_code
def yX0_read : MethodName := ⟨RX0, "read", "(LTheatreSaga;[J)I"⟩
def mX0_read : MI := (⟨"TheatreSagaLaw", "read", "(LTheatreSaga;[J)I"⟩, method_26_code, 3, (Option.some FieldType.int), some [(0, 8, 11, 13), (0, 8, 14, 15)], 38, 20)
theorem oX0_read : mO mX0_read = 38 := rfl
theorem lX0_read : mL mX0_read = 3 := rfl
theorem rX0_read : mR mX0_read = (Option.some FieldType.int) := rfl
theorem vX0_read : mV mX0_read = 20 := rfl
theorem nX0_read : (mY mX0_read).name = "read" := rfl
theorem hX0_read : mH mX0_read = some [(0, 8, 11, 13), (0, 8, 14, 15)] := rfl
theorem kX0_read : MOk mX0_read := ⟨q2121, q74, by decide +kernel⟩
theorem gX0_read : plainName (mY mX0_read).cls = true ∧ (mY mX0_read).cls = "TheatreSagaLaw" := ⟨by decide +kernel, rfl⟩
def dkwX0_read_0 : List UInt8 := [43, 3, 42, 182, 0, 99, 133, 80, 167, 0, 9, 77, 4, 172, 77, 5, 172, 3, 172]
abbrev dktX0_read_0 : List UInt8 := dkwX0_read_0 ++ []
theorem dksX0_read_0 : cX0_read.data.toList.drop 0 = dktX0_read_0 := by decide +kernel
theorem dX0_read_0 : DC mX0_read 0 = .ok (.aload_n 1, 1) := dk_43 (dk_at dksX0_read_0 0 rfl rfl)
theorem dX0_read_1 : DC mX0_read 1 = .ok (.iconst 0, 1) := dk_3 (dk_at dksX0_read_0 1 rfl rfl)
theorem dX0_read_2 : DC mX0_read 2 = .ok (.aload_n 0, 1) := dk_42 (dk_at dksX0_read_0 2 rfl rfl)
theorem dX0_read_3 : DC mX0_read 3 = .ok (.invokevirtual 99, 3) := dk_182 0 99 (dk_at dksX0_read_0 3 rfl rfl)
theorem dX0_read_6 : DC mX0_read 6 = .ok (.i2l, 1) := dk_133 (dk_at dksX0_read_0 6 rfl rfl)
theorem dX0_read_7 : DC mX0_read 7 = .ok (.lastore, 1) := dk_80 (dk_at dksX0_read_0 7 rfl rfl)
theorem dX0_read_8 : DC mX0_read 8 = .ok (.goto 9, 3) := dk_167 0 9 (dk_at dksX0_read_0 8 rfl rfl)
theorem dX0_read_11 : DC mX0_read 11 = .ok (.astore_n 2, 1) := dk_77 (dk_at dksX0_read_0 11 rfl rfl)
theorem dX0_read_12 : DC mX0_read 12 = .ok (.iconst 1, 1) := dk_4 (dk_at dksX0_read_0 12 rfl rfl)
theorem dX0_read_13 : DC mX0_read 13 = .ok (.ireturn, 1) := dk_172 (dk_at dksX0_read_0 13 rfl rfl)
theorem dX0_read_14 : DC mX0_read 14 = .ok (.astore_n 2, 1) := dk_77 (dk_at dksX0_read_0 14 rfl rfl)
theorem dX0_read_15 : DC mX0_read 15 = .ok (.iconst 2, 1) := dk_5 (dk_at dksX0_read_0 15 rfl rfl)
theorem dX0_read_16 : DC mX0_read 16 = .ok (.ireturn, 1) := dk_172 (dk_at dksX0_read_0 16 rfl rfl)
theorem dX0_read_17 : DC mX0_read 17 = .ok (.iconst 0, 1) := dk_3 (dk_at dksX0_read_0 17 rfl rfl)
theorem dX0_read_18 : DC mX0_read 18 = .ok (.ireturn, 1) := dk_172 (dk_at dksX0_read_0 18 rfl rfl)
abbrev cX0_faultPosition : ByteArray := method_27_code
def yX0_faultPosition : MethodName := ⟨RX0, "faultPosition", "(LTheatreSaga;[J)I"⟩
def mX0_faultPosition : MI := (⟨"TheatreSagaLaw", "faultPosition", "(LTheatreSaga;[J)I"⟩, method_27_code, 3, (Option.some FieldType.int), some [(0, 8, 11, 59)], 38, 10)
theorem oX0_faultPosition : mO mX0_faultPosition = 38 := rfl
theorem lX0_faultPosition : mL mX0_faultPosition = 3 := rfl
theorem rX0_faultPosition : mR mX0_faultPosition = (Option.some FieldType.int) := rfl
theorem vX0_faultPosition : mV mX0_faultPosition = 10 := rfl
theorem nX0_faultPosition : (mY mX0_faultPosition).name = "faultPosition" := rfl
theorem hX0_faultPosition : mH mX0_faultPosition = some [(0, 8, 11, 59)] := rfl
theorem kX0_faultPosition : MOk mX0_faultPosition := ⟨q2332, q74, by decide +kernel⟩
theorem gX0_faultPosition : plainName (mY mX0_faultPosition).cls = true ∧ (mY mX0_faultPosition).cls = "TheatreSagaLaw" := ⟨by decide +kernel, rfl⟩
def dkwX0_faultPosition_0 : List UInt8 := [43, 3, 42, 182, 0, 103, 133, 80, 167, 0, 6, 77, 4, 172, 3, 172]
abbrev dktX0_faultPosition_0 : List UInt8 := dkwX0_faultPosition_0 ++ []
theorem dksX0_faultPosition_0 : cX0_faultPosition.data.toList.drop 0 = dktX0_faultPosition_0 := by decide +kernel
theorem dX0_faultPosition_0 : DC mX0_faultPosition 0 = .ok (.aload_n 1, 1) := dk_43 (dk_at dksX0_faultPosition_0 0 rfl rfl)
theorem dX0_faultPosition_1 : DC mX0_faultPosition 1 = .ok (.iconst 0, 1) := dk_3 (dk_at dksX0_faultPosition_0 1 rfl rfl)
theorem dX0_faultPosition_2 : DC mX0_faultPosition 2 = .ok (.aload_n 0, 1) := dk_42 (dk_at dksX0_faultPosition_0 2 rfl rfl)
theorem dX0_faultPosition_3 : DC mX0_faultPosition 3 = .ok (.invokevirtual 103, 3) := dk_182 0 103 (dk_at dksX0_faultPosition_0 3 rfl rfl)
theorem dX0_faultPosition_6 : DC mX0_faultPosition 6 = .ok (.i2l, 1) := dk_133 (dk_at dksX0_faultPosition_0 6 rfl rfl)
theorem dX0_faultPosition_7 : DC mX0_faultPosition 7 = .ok (.lastore, 1) := dk_80 (dk_at dksX0_faultPosition_0 7 rfl rfl)
theorem dX0_faultPosition_8 : DC mX0_faultPosition 8 = .ok (.goto 6, 3) := dk_167 0 6 (dk_at dksX0_faultPosition_0 8 rfl rfl)
theorem dX0_faultPosition_11 : DC mX0_faultPosition 11 = .ok (.astore_n 2, 1) := dk_77 (dk_at dksX0_faultPosition_0 11 rfl rfl)
theorem dX0_faultPosition_12 : DC mX0_faultPosition 12 = .ok (.iconst 1, 1) := dk_4 (dk_at dksX0_faultPosition_0 12 rfl rfl)
theorem dX0_faultPosition_13 : DC mX0_faultPosition 13 = .ok (.ireturn, 1) := dk_172 (dk_at dksX0_faultPosition_0 13 rfl rfl)
theorem dX0_faultPosition_14 : DC mX0_faultPosition 14 = .ok (.iconst 0, 1) := dk_3 (dk_at dksX0_faultPosition_0 14 rfl rfl)
theorem dX0_faultPosition_15 : DC mX0_faultPosition 15 = .ok (.ireturn, 1) := dk_172 (dk_at dksX0_faultPosition_0 15 rfl rfl)
abbrev cX0_refusal : ByteArray := method_28_code
def yX0_refusal : MethodName := ⟨RX0, "refusal", "(LTheatreSaga;Z[J)I"⟩
def mX0_refusal : MI := (⟨"TheatreSagaLaw", "refusal", "(LTheatreSaga;Z[J)I"⟩, method_28_code, 4, (Option.some FieldType.int), some [(0, 9, 12, 59)], 38, 10)
theorem oX0_refusal : mO mX0_refusal = 38 := rfl
theorem lX0_refusal : mL mX0_refusal = 4 := rfl
theorem rX0_refusal : mR mX0_refusal = (Option.some FieldType.int) := rfl
theorem vX0_refusal : mV mX0_refusal = 10 := rfl
theorem nX0_refusal : (mY mX0_refusal).name = "refusal" := rfl
theorem hX0_refusal : mH mX0_refusal = some [(0, 9, 12, 59)] := rfl
theorem kX0_refusal : MOk mX0_refusal := ⟨q2339, q74, by decide +kernel⟩
theorem gX0_refusal : plainName (mY mX0_refusal).cls = true ∧ (mY mX0_refusal).cls = "TheatreSagaLaw" := ⟨by decide +kernel, rfl⟩
def dkwX0_refusal_0 : List UInt8 := [44, 3, 42, 27, 182, 0, 106, 133, 80, 167, 0, 6, 78, 4, 172, 3, 172]
abbrev dktX0_refusal_0 : List UInt8 := dkwX0_refusal_0 ++ []
theorem dksX0_refusal_0 : cX0_refusal.data.toList.drop 0 = dktX0_refusal_0 := by decide +kernel
theorem dX0_refusal_0 : DC mX0_refusal 0 = .ok (.aload_n 2, 1) := dk_44 (dk_at dksX0_refusal_0 0 rfl rfl)
theorem dX0_refusal_1 : DC mX0_refusal 1 = .ok (.iconst 0, 1) := dk_3 (dk_at dksX0_refusal_0 1 rfl rfl)
theorem dX0_refusal_2 : DC mX0_refusal 2 = .ok (.aload_n 0, 1) := dk_42 (dk_at dksX0_refusal_0 2 rfl rfl)
theorem dX0_refusal_3 : DC mX0_refusal 3 = .ok (.iload_n 1, 1) := dk_27 (dk_at dksX0_refusal_0 3 rfl rfl)
theorem dX0_refusal_4 : DC mX0_refusal 4 = .ok (.invokevirtual 106, 3) := dk_182 0 106 (dk_at dksX0_refusal_0 4 rfl rfl)
theorem dX0_refusal_7 : DC mX0_refusal 7 = .ok (.i2l, 1) := dk_133 (dk_at dksX0_refusal_0 7 rfl rfl)
theorem dX0_refusal_8 : DC mX0_refusal 8 = .ok (.lastore, 1) := dk_80 (dk_at dksX0_refusal_0 8 rfl rfl)
theorem dX0_refusal_9 : DC mX0_refusal 9 = .ok (.goto 6, 3) := dk_167 0 6 (dk_at dksX0_refusal_0 9 rfl rfl)
theorem dX0_refusal_12 : DC mX0_refusal 12 = .ok (.astore_n 3, 1) := dk_78 (dk_at dksX0_refusal_0 12 rfl rfl)
theorem dX0_refusal_13 : DC mX0_refusal 13 = .ok (.iconst 1, 1) := dk_4 (dk_at dksX0_refusal_0 13 rfl rfl)
theorem dX0_refusal_14 : DC mX0_refusal 14 = .ok (.ireturn, 1) := dk_172 (dk_at dksX0_refusal_0 14 rfl rfl)
theorem dX0_refusal_15 : DC mX0_refusal 15 = .ok (.iconst 0, 1) := dk_3 (dk_at dksX0_refusal_0 15 rfl rfl)
theorem dX0_refusal_16 : DC mX0_refusal 16 = .ok (.ireturn, 1) := dk_172 (dk_at dksX0_refusal_0 16 rfl rfl)
abbrev cX0_undo : ByteArray := method_29_code
def yX0_undo : MethodName := ⟨RX0, "undo", "(LTheatreSaga;[J)I"⟩
def mX0_undo : MI := (⟨"TheatreSagaLaw", "undo", "(LTheatreSaga;[J)I"⟩, method_29_code, 3, (Option.some FieldType.int), some [(0, 8, 11, 97)], 38, 10)
theorem oX0_undo : mO mX0_undo = 38 := rfl
theorem lX0_undo : mL mX0_undo = 3 := rfl
theorem rX0_undo : mR mX0_undo = (Option.some FieldType.int) := rfl
theorem vX0_undo : mV mX0_undo = 10 := rfl
theorem nX0_undo : (mY mX0_undo).name = "undo" := rfl
theorem hX0_undo : mH mX0_undo = some [(0, 8, 11, 97)] := rfl
theorem kX0_undo : MOk mX0_undo := ⟨q2346, q74, by decide +kernel⟩
theorem gX0_undo : plainName (mY mX0_undo).cls = true ∧ (mY mX0_undo).cls = "TheatreSagaLaw" := ⟨by decide +kernel, rfl⟩
def dkwX0_undo_0 : List UInt8 := [43, 3, 42, 182, 0, 110, 133, 80, 167, 0, 6, 77, 4, 172, 3, 172]
abbrev dktX0_undo_0 : List UInt8 := dkwX0_undo_0 ++ []
theorem dksX0_undo_0 : cX0_undo.data.toList.drop 0 = dktX0_undo_0 := by decide +kernel
theorem dX0_undo_0 : DC mX0_undo 0 = .ok (.aload_n 1, 1) := dk_43 (dk_at dksX0_undo_0 0 rfl rfl)
theorem dX0_undo_1 : DC mX0_undo 1 = .ok (.iconst 0, 1) := dk_3 (dk_at dksX0_undo_0 1 rfl rfl)
theorem dX0_undo_2 : DC mX0_undo 2 = .ok (.aload_n 0, 1) := dk_42 (dk_at dksX0_undo_0 2 rfl rfl)
theorem dX0_undo_3 : DC mX0_undo 3 = .ok (.invokevirtual 110, 3) := dk_182 0 110 (dk_at dksX0_undo_0 3 rfl rfl)
theorem dX0_undo_6 : DC mX0_undo 6 = .ok (.i2l, 1) := dk_133 (dk_at dksX0_undo_0 6 rfl rfl)
theorem dX0_undo_7 : DC mX0_undo 7 = .ok (.lastore, 1) := dk_80 (dk_at dksX0_undo_0 7 rfl rfl)
theorem dX0_undo_8 : DC mX0_undo 8 = .ok (.goto 6, 3) := dk_167 0 6 (dk_at dksX0_undo_0 8 rfl rfl)
theorem dX0_undo_11 : DC mX0_undo 11 = .ok (.astore_n 2, 1) := dk_77 (dk_at dksX0_undo_0 11 rfl rfl)
theorem dX0_undo_12 : DC mX0_undo 12 = .ok (.iconst 1, 1) := dk_4 (dk_at dksX0_undo_0 12 rfl rfl)
theorem dX0_undo_13 : DC mX0_undo 13 = .ok (.ireturn, 1) := dk_172 (dk_at dksX0_undo_0 13 rfl rfl)
theorem dX0_undo_14 : DC mX0_undo 14 = .ok (.iconst 0, 1) := dk_3 (dk_at dksX0_undo_0 14 rfl rfl)
theorem dX0_undo_15 : DC mX0_undo 15 = .ok (.ireturn, 1) := dk_172 (dk_at dksX0_undo_0 15 rfl rfl)
abbrev cX0_restoreSnapshot : ByteArray := method_30_code
def yX0_restoreSnapshot : MethodName := ⟨RX0, "restoreSnapshot", "(LTheatreSaga;[J)I"⟩
def mX0_restoreSnapshot : MI := (⟨"TheatreSagaLaw", "restoreSnapshot", "(LTheatreSaga;[J)I"⟩, method_30_code, 3, (Option.some FieldType.int), some [(0, 8, 11, 97)], 38, 19)
theorem oX0_restoreSnapshot : mO mX0_restoreSnapshot = 38 := rfl
theorem lX0_restoreSnapshot : mL mX0_restoreSnapshot = 3 := rfl
theorem rX0_restoreSnapshot : mR mX0_restoreSnapshot = (Option.some FieldType.int) := rfl
theorem vX0_restoreSnapshot : mV mX0_restoreSnapshot = 19 := rfl
theorem nX0_restoreSnapshot : (mY mX0_restoreSnapshot).name = "restoreSnapshot" := rfl
theorem hX0_restoreSnapshot : mH mX0_restoreSnapshot = some [(0, 8, 11, 97)] := rfl
theorem kX0_restoreSnapshot : MOk mX0_restoreSnapshot := ⟨q2372, q74, by decide +kernel⟩
theorem gX0_restoreSnapshot : plainName (mY mX0_restoreSnapshot).cls = true ∧ (mY mX0_restoreSnapshot).cls = "TheatreSagaLaw" := ⟨by decide +kernel, rfl⟩
def dkwX0_restoreSnapshot_0 : List UInt8 := [43, 3, 42, 182, 0, 113, 133, 80, 167, 0, 6, 77, 4, 172, 3, 172]
abbrev dktX0_restoreSnapshot_0 : List UInt8 := dkwX0_restoreSnapshot_0 ++ []
theorem dksX0_restoreSnapshot_0 : cX0_restoreSnapshot.data.toList.drop 0 = dktX0_restoreSnapshot_0 := by decide +kernel
theorem dX0_restoreSnapshot_0 : DC mX0_restoreSnapshot 0 = .ok (.aload_n 1, 1) := dk_43 (dk_at dksX0_restoreSnapshot_0 0 rfl rfl)
theorem dX0_restoreSnapshot_1 : DC mX0_restoreSnapshot 1 = .ok (.iconst 0, 1) := dk_3 (dk_at dksX0_restoreSnapshot_0 1 rfl rfl)
theorem dX0_restoreSnapshot_2 : DC mX0_restoreSnapshot 2 = .ok (.aload_n 0, 1) := dk_42 (dk_at dksX0_restoreSnapshot_0 2 rfl rfl)
theorem dX0_restoreSnapshot_3 : DC mX0_restoreSnapshot 3 = .ok (.invokevirtual 113, 3) := dk_182 0 113 (dk_at dksX0_restoreSnapshot_0 3 rfl rfl)
theorem dX0_restoreSnapshot_6 : DC mX0_restoreSnapshot 6 = .ok (.i2l, 1) := dk_133 (dk_at dksX0_restoreSnapshot_0 6 rfl rfl)
theorem dX0_restoreSnapshot_7 : DC mX0_restoreSnapshot 7 = .ok (.lastore, 1) := dk_80 (dk_at dksX0_restoreSnapshot_0 7 rfl rfl)
theorem dX0_restoreSnapshot_8 : DC mX0_restoreSnapshot 8 = .ok (.goto 6, 3) := dk_167 0 6 (dk_at dksX0_restoreSnapshot_0 8 rfl rfl)
theorem dX0_restoreSnapshot_11 : DC mX0_restoreSnapshot 11 = .ok (.astore_n 2, 1) := dk_77 (dk_at dksX0_restoreSnapshot_0 11 rfl rfl)
theorem dX0_restoreSnapshot_12 : DC mX0_restoreSnapshot 12 = .ok (.iconst 1, 1) := dk_4 (dk_at dksX0_restoreSnapshot_0 12 rfl rfl)
theorem dX0_restoreSnapshot_13 : DC mX0_restoreSnapshot 13 = .ok (.ireturn, 1) := dk_172 (dk_at dksX0_restoreSnapshot_0 13 rfl rfl)
theorem dX0_restoreSnapshot_14 : DC mX0_restoreSnapshot 14 = .ok (.iconst 0, 1) := dk_3 (dk_at dksX0_restoreSnapshot_0 14 rfl rfl)
theorem dX0_restoreSnapshot_15 : DC mX0_restoreSnapshot 15 = .ok (.ireturn, 1) := dk_172 (dk_at dksX0_restoreSnapshot_0 15 rfl rfl)

/-! TheatreSaga -/
set_option maxRecDepth 100000
def RX1 : String := "TheatreSaga"
def TX1 : u_T := fun k => match k with
  | 0 => ("TheatreSaga", "theatre", "LTheatreSaga$Theatre;", false)
  | 1 => ("TheatreSaga", "past", "Ljava/util/ArrayDeque;", true)
  | 2 => ("TheatreSaga", "input", "Ljava/lang/StringBuilder;", true)
  | 3 => ("TheatreSaga", "line", "Ljava/lang/CharSequence;", false)
  | 4 => ("TheatreSaga", "fault", "I", false)
  | 5 => ("TheatreSaga", "reason", "I", false)
  | 6 => ("TheatreSaga", "detail", "I", false)
  | _ => ("TheatreSaga", "saved", "LTheatreSaga$Theatre;", false)
def tyX1 : Nat → FieldType := fun k => match k with
  | 0 => .object "TheatreSaga$Theatre"
  | 1 => .object "java/util/ArrayDeque"
  | 2 => .object "java/lang/StringBuilder"
  | 3 => .object "java/lang/CharSequence"
  | 4 => .int
  | 5 => .int
  | 6 => .int
  | _ => .object "TheatreSaga$Theatre"
abbrev wsX10 : List Cond := u_ws RX1 TX1 8
theorem nmX1 : ∀ a, a < 8 → ∀ b, b < 8 → a ≠ b → (TX1 a).2.1 ≠ (TX1 b).2.1 := by decide +kernel
theorem tyX1_ok : ∀ k, k < 8 → parseFieldDescriptor (TX1 k).2.2.1 = some (tyX1 k) := by decide +kernel
abbrev cX1_init : ByteArray := prog_1_method_10_code
def yX1_init : MethodName := ⟨RX1, "<init>", "()V"⟩
def mX1_init : MI := (⟨"TheatreSaga", "<init>", "()V"⟩, prog_1_method_10_code, 1, (Option.none : Option FieldType), none, 39, 9)
theorem oX1_init : mO mX1_init = 39 := rfl
theorem lX1_init : mL mX1_init = 1 := rfl
theorem rX1_init : mR mX1_init = (Option.none : Option FieldType) := rfl
theorem vX1_init : mV mX1_init = 9 := rfl
theorem nX1_init : (mY mX1_init).name = "<init>" := rfl
theorem hX1_init : mH mX1_init = none := rfl
theorem kX1_init : MOk mX1_init := ⟨q130, q75, by decide +kernel⟩
theorem gX1_init : plainName (mY mX1_init).cls = true ∧ (mY mX1_init).cls = "TheatreSaga" := ⟨by decide +kernel, rfl⟩
def dkwX1_init_2 : List UInt8 := [181, 0, 53, 177]
abbrev dktX1_init_2 : List UInt8 := dkwX1_init_2 ++ []
def dkwX1_init_1 : List UInt8 := [181, 0, 36, 42, 187, 0, 40, 89, 183, 0, 42, 181, 0, 43, 42, 18, 47, 181, 0, 49, 42, 2]
abbrev dktX1_init_1 : List UInt8 := dkwX1_init_1 ++ dktX1_init_2
def dkwX1_init_0 : List UInt8 := [42, 183, 0, 23, 42, 187, 0, 26, 89, 183, 0, 28, 181, 0, 29, 42, 187, 0, 33, 89, 183, 0, 35]
abbrev dktX1_init_0 : List UInt8 := dkwX1_init_0 ++ dktX1_init_1
theorem dksX1_init_0 : cX1_init.data.toList.drop 0 = dktX1_init_0 := by decide +kernel
theorem dksX1_init_1 : cX1_init.data.toList.drop 23 = dktX1_init_1 := dk_seg dksX1_init_0 23 rfl rfl
theorem dksX1_init_2 : cX1_init.data.toList.drop 45 = dktX1_init_2 := dk_seg dksX1_init_1 22 rfl rfl
theorem dX1_init_0 : DC mX1_init 0 = .ok (.aload_n 0, 1) := dk_42 (dk_at dksX1_init_0 0 rfl rfl)
theorem dX1_init_1 : DC mX1_init 1 = .ok (.invokespecial 23, 3) := dk_183 0 23 (dk_at dksX1_init_0 1 rfl rfl)
theorem dX1_init_4 : DC mX1_init 4 = .ok (.aload_n 0, 1) := dk_42 (dk_at dksX1_init_0 4 rfl rfl)
theorem dX1_init_5 : DC mX1_init 5 = .ok (.new 26, 3) := dk_187 0 26 (dk_at dksX1_init_0 5 rfl rfl)
theorem dX1_init_8 : DC mX1_init 8 = .ok (.dup, 1) := dk_89 (dk_at dksX1_init_0 8 rfl rfl)
theorem dX1_init_9 : DC mX1_init 9 = .ok (.invokespecial 28, 3) := dk_183 0 28 (dk_at dksX1_init_0 9 rfl rfl)
theorem dX1_init_12 : DC mX1_init 12 = .ok (.putfield 29, 3) := dk_181 0 29 (dk_at dksX1_init_0 12 rfl rfl)
theorem dX1_init_15 : DC mX1_init 15 = .ok (.aload_n 0, 1) := dk_42 (dk_at dksX1_init_0 15 rfl rfl)
theorem dX1_init_16 : DC mX1_init 16 = .ok (.new 33, 3) := dk_187 0 33 (dk_at dksX1_init_0 16 rfl rfl)
theorem dX1_init_19 : DC mX1_init 19 = .ok (.dup, 1) := dk_89 (dk_at dksX1_init_0 19 rfl rfl)
theorem dX1_init_20 : DC mX1_init 20 = .ok (.invokespecial 35, 3) := dk_183 0 35 (dk_at dksX1_init_0 20 rfl rfl)
theorem dX1_init_23 : DC mX1_init 23 = .ok (.putfield 36, 3) := dk_181 0 36 (dk_at dksX1_init_1 0 rfl rfl)
theorem dX1_init_26 : DC mX1_init 26 = .ok (.aload_n 0, 1) := dk_42 (dk_at dksX1_init_1 3 rfl rfl)
theorem dX1_init_27 : DC mX1_init 27 = .ok (.new 40, 3) := dk_187 0 40 (dk_at dksX1_init_1 4 rfl rfl)
theorem dX1_init_30 : DC mX1_init 30 = .ok (.dup, 1) := dk_89 (dk_at dksX1_init_1 7 rfl rfl)
theorem dX1_init_31 : DC mX1_init 31 = .ok (.invokespecial 42, 3) := dk_183 0 42 (dk_at dksX1_init_1 8 rfl rfl)
theorem dX1_init_34 : DC mX1_init 34 = .ok (.putfield 43, 3) := dk_181 0 43 (dk_at dksX1_init_1 11 rfl rfl)
theorem dX1_init_37 : DC mX1_init 37 = .ok (.aload_n 0, 1) := dk_42 (dk_at dksX1_init_1 14 rfl rfl)
theorem dX1_init_38 : DC mX1_init 38 = .ok (.ldc 47, 2) := dk_18 47 (dk_at dksX1_init_1 15 rfl rfl)
theorem dX1_init_40 : DC mX1_init 40 = .ok (.putfield 49, 3) := dk_181 0 49 (dk_at dksX1_init_1 17 rfl rfl)
theorem dX1_init_43 : DC mX1_init 43 = .ok (.aload_n 0, 1) := dk_42 (dk_at dksX1_init_1 20 rfl rfl)
theorem dX1_init_44 : DC mX1_init 44 = .ok (.iconst (-1), 1) := dk_2 (dk_at dksX1_init_1 21 rfl rfl)
theorem dX1_init_45 : DC mX1_init 45 = .ok (.putfield 53, 3) := dk_181 0 53 (dk_at dksX1_init_2 0 rfl rfl)
theorem dX1_init_48 : DC mX1_init 48 = .ok (.return_, 1) := dk_177 (dk_at dksX1_init_2 3 rfl rfl)
abbrev cX1_coinsAgain : ByteArray := prog_1_method_39_code
def yX1_coinsAgain : MethodName := ⟨RX1, "coinsAgain", "()I"⟩
def mX1_coinsAgain : MI := (⟨"TheatreSaga", "coinsAgain", "()I"⟩, prog_1_method_39_code, 1, (Option.some FieldType.int), none, 39, 2)
theorem oX1_coinsAgain : mO mX1_coinsAgain = 39 := rfl
theorem lX1_coinsAgain : mL mX1_coinsAgain = 1 := rfl
theorem rX1_coinsAgain : mR mX1_coinsAgain = (Option.some FieldType.int) := rfl
theorem vX1_coinsAgain : mV mX1_coinsAgain = 2 := rfl
theorem nX1_coinsAgain : (mY mX1_coinsAgain).name = "coinsAgain" := rfl
theorem hX1_coinsAgain : mH mX1_coinsAgain = none := rfl
theorem kX1_coinsAgain : MOk mX1_coinsAgain := ⟨q449, q75, by decide +kernel⟩
theorem gX1_coinsAgain : plainName (mY mX1_coinsAgain).cls = true ∧ (mY mX1_coinsAgain).cls = "TheatreSaga" := ⟨by decide +kernel, rfl⟩
def dkwX1_coinsAgain_2 : List UInt8 := [116, 79, 184, 1, 109, 172]
abbrev dktX1_coinsAgain_2 : List UInt8 := dkwX1_coinsAgain_2 ++ []
def dkwX1_coinsAgain_1 : List UInt8 := [180, 1, 92, 79, 89, 6, 42, 180, 0, 43, 180, 1, 89, 116, 79, 89, 7, 42, 180, 0, 43, 180, 1, 95]
abbrev dktX1_coinsAgain_1 : List UInt8 := dkwX1_coinsAgain_1 ++ dktX1_coinsAgain_2
def dkwX1_coinsAgain_0 : List UInt8 := [8, 188, 10, 89, 3, 16, 100, 79, 89, 4, 42, 180, 0, 43, 180, 1, 90, 79, 89, 5, 42, 180, 0, 43]
abbrev dktX1_coinsAgain_0 : List UInt8 := dkwX1_coinsAgain_0 ++ dktX1_coinsAgain_1
theorem dksX1_coinsAgain_0 : cX1_coinsAgain.data.toList.drop 0 = dktX1_coinsAgain_0 := by decide +kernel
theorem dksX1_coinsAgain_1 : cX1_coinsAgain.data.toList.drop 24 = dktX1_coinsAgain_1 := dk_seg dksX1_coinsAgain_0 24 rfl rfl
theorem dksX1_coinsAgain_2 : cX1_coinsAgain.data.toList.drop 48 = dktX1_coinsAgain_2 := dk_seg dksX1_coinsAgain_1 24 rfl rfl
theorem dX1_coinsAgain_0 : DC mX1_coinsAgain 0 = .ok (.iconst 5, 1) := dk_8 (dk_at dksX1_coinsAgain_0 0 rfl rfl)
theorem dX1_coinsAgain_1 : DC mX1_coinsAgain 1 = .ok (.newarray .int, 2) := dk_188_10 (dk_at dksX1_coinsAgain_0 1 rfl rfl)
theorem dX1_coinsAgain_3 : DC mX1_coinsAgain 3 = .ok (.dup, 1) := dk_89 (dk_at dksX1_coinsAgain_0 3 rfl rfl)
theorem dX1_coinsAgain_4 : DC mX1_coinsAgain 4 = .ok (.iconst 0, 1) := dk_3 (dk_at dksX1_coinsAgain_0 4 rfl rfl)
theorem dX1_coinsAgain_5 : DC mX1_coinsAgain 5 = .ok (.bipush 100, 2) := dk_16 100 (dk_at dksX1_coinsAgain_0 5 rfl rfl)
theorem dX1_coinsAgain_7 : DC mX1_coinsAgain 7 = .ok (.iastore, 1) := dk_79 (dk_at dksX1_coinsAgain_0 7 rfl rfl)
theorem dX1_coinsAgain_8 : DC mX1_coinsAgain 8 = .ok (.dup, 1) := dk_89 (dk_at dksX1_coinsAgain_0 8 rfl rfl)
theorem dX1_coinsAgain_9 : DC mX1_coinsAgain 9 = .ok (.iconst 1, 1) := dk_4 (dk_at dksX1_coinsAgain_0 9 rfl rfl)
theorem dX1_coinsAgain_10 : DC mX1_coinsAgain 10 = .ok (.aload_n 0, 1) := dk_42 (dk_at dksX1_coinsAgain_0 10 rfl rfl)
theorem dX1_coinsAgain_11 : DC mX1_coinsAgain 11 = .ok (.getfield 43, 3) := dk_180 0 43 (dk_at dksX1_coinsAgain_0 11 rfl rfl)
theorem dX1_coinsAgain_14 : DC mX1_coinsAgain 14 = .ok (.getfield 346, 3) := dk_180 1 90 (dk_at dksX1_coinsAgain_0 14 rfl rfl)
theorem dX1_coinsAgain_17 : DC mX1_coinsAgain 17 = .ok (.iastore, 1) := dk_79 (dk_at dksX1_coinsAgain_0 17 rfl rfl)
theorem dX1_coinsAgain_18 : DC mX1_coinsAgain 18 = .ok (.dup, 1) := dk_89 (dk_at dksX1_coinsAgain_0 18 rfl rfl)
theorem dX1_coinsAgain_19 : DC mX1_coinsAgain 19 = .ok (.iconst 2, 1) := dk_5 (dk_at dksX1_coinsAgain_0 19 rfl rfl)
theorem dX1_coinsAgain_20 : DC mX1_coinsAgain 20 = .ok (.aload_n 0, 1) := dk_42 (dk_at dksX1_coinsAgain_0 20 rfl rfl)
theorem dX1_coinsAgain_21 : DC mX1_coinsAgain 21 = .ok (.getfield 43, 3) := dk_180 0 43 (dk_at dksX1_coinsAgain_0 21 rfl rfl)
theorem dX1_coinsAgain_24 : DC mX1_coinsAgain 24 = .ok (.getfield 348, 3) := dk_180 1 92 (dk_at dksX1_coinsAgain_1 0 rfl rfl)
theorem dX1_coinsAgain_27 : DC mX1_coinsAgain 27 = .ok (.iastore, 1) := dk_79 (dk_at dksX1_coinsAgain_1 3 rfl rfl)
theorem dX1_coinsAgain_28 : DC mX1_coinsAgain 28 = .ok (.dup, 1) := dk_89 (dk_at dksX1_coinsAgain_1 4 rfl rfl)
theorem dX1_coinsAgain_29 : DC mX1_coinsAgain 29 = .ok (.iconst 3, 1) := dk_6 (dk_at dksX1_coinsAgain_1 5 rfl rfl)
theorem dX1_coinsAgain_30 : DC mX1_coinsAgain 30 = .ok (.aload_n 0, 1) := dk_42 (dk_at dksX1_coinsAgain_1 6 rfl rfl)
theorem dX1_coinsAgain_31 : DC mX1_coinsAgain 31 = .ok (.getfield 43, 3) := dk_180 0 43 (dk_at dksX1_coinsAgain_1 7 rfl rfl)
theorem dX1_coinsAgain_34 : DC mX1_coinsAgain 34 = .ok (.getfield 345, 3) := dk_180 1 89 (dk_at dksX1_coinsAgain_1 10 rfl rfl)
theorem dX1_coinsAgain_37 : DC mX1_coinsAgain 37 = .ok (.ineg, 1) := dk_116 (dk_at dksX1_coinsAgain_1 13 rfl rfl)
theorem dX1_coinsAgain_38 : DC mX1_coinsAgain 38 = .ok (.iastore, 1) := dk_79 (dk_at dksX1_coinsAgain_1 14 rfl rfl)
theorem dX1_coinsAgain_39 : DC mX1_coinsAgain 39 = .ok (.dup, 1) := dk_89 (dk_at dksX1_coinsAgain_1 15 rfl rfl)
theorem dX1_coinsAgain_40 : DC mX1_coinsAgain 40 = .ok (.iconst 4, 1) := dk_7 (dk_at dksX1_coinsAgain_1 16 rfl rfl)
theorem dX1_coinsAgain_41 : DC mX1_coinsAgain 41 = .ok (.aload_n 0, 1) := dk_42 (dk_at dksX1_coinsAgain_1 17 rfl rfl)
theorem dX1_coinsAgain_42 : DC mX1_coinsAgain 42 = .ok (.getfield 43, 3) := dk_180 0 43 (dk_at dksX1_coinsAgain_1 18 rfl rfl)
theorem dX1_coinsAgain_45 : DC mX1_coinsAgain 45 = .ok (.getfield 351, 3) := dk_180 1 95 (dk_at dksX1_coinsAgain_1 21 rfl rfl)
theorem dX1_coinsAgain_48 : DC mX1_coinsAgain 48 = .ok (.ineg, 1) := dk_116 (dk_at dksX1_coinsAgain_2 0 rfl rfl)
theorem dX1_coinsAgain_49 : DC mX1_coinsAgain 49 = .ok (.iastore, 1) := dk_79 (dk_at dksX1_coinsAgain_2 1 rfl rfl)
theorem dX1_coinsAgain_50 : DC mX1_coinsAgain 50 = .ok (.invokestatic 365, 3) := dk_184 1 109 (dk_at dksX1_coinsAgain_2 2 rfl rfl)
theorem dX1_coinsAgain_53 : DC mX1_coinsAgain 53 = .ok (.ireturn, 1) := dk_172 (dk_at dksX1_coinsAgain_2 5 rfl rfl)
abbrev cX1_sum : ByteArray := prog_1_method_7_code
def yX1_sum : MethodName := ⟨RX1, "sum", "([I)I"⟩
def mX1_sum : MI := (⟨"TheatreSaga", "sum", "([I)I"⟩, prog_1_method_7_code, 6, (Option.some FieldType.int), none, 39, 1)
theorem oX1_sum : mO mX1_sum = 39 := rfl
theorem lX1_sum : mL mX1_sum = 6 := rfl
theorem rX1_sum : mR mX1_sum = (Option.some FieldType.int) := rfl
theorem vX1_sum : mV mX1_sum = 1 := rfl
theorem nX1_sum : (mY mX1_sum).name = "sum" := rfl
theorem hX1_sum : mH mX1_sum = none := rfl
theorem kX1_sum : MOk mX1_sum := ⟨q452, q75, by decide +kernel⟩
theorem gX1_sum : plainName (mY mX1_sum).cls = true ∧ (mY mX1_sum).cls = "TheatreSaga" := ⟨by decide +kernel, rfl⟩
def dkwX1_sum_1 : List UInt8 := [21, 5, 96, 60, 132, 4, 1, 167, 255, 236, 27, 172]
abbrev dktX1_sum_1 : List UInt8 := dkwX1_sum_1 ++ []
def dkwX1_sum_0 : List UInt8 := [3, 60, 42, 77, 44, 190, 62, 3, 54, 4, 21, 4, 29, 162, 0, 20, 44, 21, 4, 46, 54, 5, 27]
abbrev dktX1_sum_0 : List UInt8 := dkwX1_sum_0 ++ dktX1_sum_1
theorem dksX1_sum_0 : cX1_sum.data.toList.drop 0 = dktX1_sum_0 := by decide +kernel
theorem dksX1_sum_1 : cX1_sum.data.toList.drop 23 = dktX1_sum_1 := dk_seg dksX1_sum_0 23 rfl rfl
theorem dX1_sum_0 : DC mX1_sum 0 = .ok (.iconst 0, 1) := dk_3 (dk_at dksX1_sum_0 0 rfl rfl)
theorem dX1_sum_1 : DC mX1_sum 1 = .ok (.istore_n 1, 1) := dk_60 (dk_at dksX1_sum_0 1 rfl rfl)
theorem dX1_sum_2 : DC mX1_sum 2 = .ok (.aload_n 0, 1) := dk_42 (dk_at dksX1_sum_0 2 rfl rfl)
theorem dX1_sum_3 : DC mX1_sum 3 = .ok (.astore_n 2, 1) := dk_77 (dk_at dksX1_sum_0 3 rfl rfl)
theorem dX1_sum_4 : DC mX1_sum 4 = .ok (.aload_n 2, 1) := dk_44 (dk_at dksX1_sum_0 4 rfl rfl)
theorem dX1_sum_5 : DC mX1_sum 5 = .ok (.arraylength, 1) := dk_190 (dk_at dksX1_sum_0 5 rfl rfl)
theorem dX1_sum_6 : DC mX1_sum 6 = .ok (.istore_n 3, 1) := dk_62 (dk_at dksX1_sum_0 6 rfl rfl)
theorem dX1_sum_7 : DC mX1_sum 7 = .ok (.iconst 0, 1) := dk_3 (dk_at dksX1_sum_0 7 rfl rfl)
theorem dX1_sum_8 : DC mX1_sum 8 = .ok (.istore 4, 2) := dk_54 4 (dk_at dksX1_sum_0 8 rfl rfl)
theorem dX1_sum_10 : DC mX1_sum 10 = .ok (.iload 4, 2) := dk_21 4 (dk_at dksX1_sum_0 10 rfl rfl)
theorem dX1_sum_12 : DC mX1_sum 12 = .ok (.iload_n 3, 1) := dk_29 (dk_at dksX1_sum_0 12 rfl rfl)
theorem dX1_sum_13 : DC mX1_sum 13 = .ok (.if_icmp .ge 20, 3) := dk_162 0 20 (dk_at dksX1_sum_0 13 rfl rfl)
theorem dX1_sum_16 : DC mX1_sum 16 = .ok (.aload_n 2, 1) := dk_44 (dk_at dksX1_sum_0 16 rfl rfl)
theorem dX1_sum_17 : DC mX1_sum 17 = .ok (.iload 4, 2) := dk_21 4 (dk_at dksX1_sum_0 17 rfl rfl)
theorem dX1_sum_19 : DC mX1_sum 19 = .ok (.iaload, 1) := dk_46 (dk_at dksX1_sum_0 19 rfl rfl)
theorem dX1_sum_20 : DC mX1_sum 20 = .ok (.istore 5, 2) := dk_54 5 (dk_at dksX1_sum_0 20 rfl rfl)
theorem dX1_sum_22 : DC mX1_sum 22 = .ok (.iload_n 1, 1) := dk_27 (dk_at dksX1_sum_0 22 rfl rfl)
theorem dX1_sum_23 : DC mX1_sum 23 = .ok (.iload 5, 2) := dk_21 5 (dk_at dksX1_sum_1 0 rfl rfl)
theorem dX1_sum_25 : DC mX1_sum 25 = .ok (.iadd, 1) := dk_96 (dk_at dksX1_sum_1 2 rfl rfl)
theorem dX1_sum_26 : DC mX1_sum 26 = .ok (.istore_n 1, 1) := dk_60 (dk_at dksX1_sum_1 3 rfl rfl)
theorem dX1_sum_27 : DC mX1_sum 27 = .ok (.iinc 4 1, 3) := dk_132 4 1 (dk_at dksX1_sum_1 4 rfl rfl)
theorem dX1_sum_30 : DC mX1_sum 30 = .ok (.goto (-20), 3) := dk_167 255 236 (dk_at dksX1_sum_1 7 rfl rfl)
theorem dX1_sum_33 : DC mX1_sum 33 = .ok (.iload_n 1, 1) := dk_27 (dk_at dksX1_sum_1 10 rfl rfl)
theorem dX1_sum_34 : DC mX1_sum 34 = .ok (.ireturn, 1) := dk_172 (dk_at dksX1_sum_1 11 rfl rfl)
abbrev cX1_saveSnapshot : ByteArray := prog_1_method_49_code
def yX1_saveSnapshot : MethodName := ⟨RX1, "saveSnapshot", "()I"⟩
def mX1_saveSnapshot : MI := (⟨"TheatreSaga", "saveSnapshot", "()I"⟩, prog_1_method_49_code, 1, (Option.some FieldType.int), none, 39, 19)
theorem oX1_saveSnapshot : mO mX1_saveSnapshot = 39 := rfl
theorem lX1_saveSnapshot : mL mX1_saveSnapshot = 1 := rfl
theorem rX1_saveSnapshot : mR mX1_saveSnapshot = (Option.some FieldType.int) := rfl
theorem vX1_saveSnapshot : mV mX1_saveSnapshot = 19 := rfl
theorem nX1_saveSnapshot : (mY mX1_saveSnapshot).name = "saveSnapshot" := rfl
theorem hX1_saveSnapshot : mH mX1_saveSnapshot = none := rfl
theorem kX1_saveSnapshot : MOk mX1_saveSnapshot := ⟨q456, q75, by decide +kernel⟩
theorem gX1_saveSnapshot : plainName (mY mX1_saveSnapshot).cls = true ∧ (mY mX1_saveSnapshot).cls = "TheatreSaga" := ⟨by decide +kernel, rfl⟩
def dkwX1_saveSnapshot_0 : List UInt8 := [42, 42, 182, 0, 83, 181, 1, 150, 42, 180, 1, 150, 180, 0, 104, 185, 0, 146, 1, 0, 172]
abbrev dktX1_saveSnapshot_0 : List UInt8 := dkwX1_saveSnapshot_0 ++ []
theorem dksX1_saveSnapshot_0 : cX1_saveSnapshot.data.toList.drop 0 = dktX1_saveSnapshot_0 := by decide +kernel
theorem dX1_saveSnapshot_0 : DC mX1_saveSnapshot 0 = .ok (.aload_n 0, 1) := dk_42 (dk_at dksX1_saveSnapshot_0 0 rfl rfl)
theorem dX1_saveSnapshot_1 : DC mX1_saveSnapshot 1 = .ok (.aload_n 0, 1) := dk_42 (dk_at dksX1_saveSnapshot_0 1 rfl rfl)
theorem dX1_saveSnapshot_2 : DC mX1_saveSnapshot 2 = .ok (.invokevirtual 83, 3) := dk_182 0 83 (dk_at dksX1_saveSnapshot_0 2 rfl rfl)
theorem dX1_saveSnapshot_5 : DC mX1_saveSnapshot 5 = .ok (.putfield 406, 3) := dk_181 1 150 (dk_at dksX1_saveSnapshot_0 5 rfl rfl)
theorem dX1_saveSnapshot_8 : DC mX1_saveSnapshot 8 = .ok (.aload_n 0, 1) := dk_42 (dk_at dksX1_saveSnapshot_0 8 rfl rfl)
theorem dX1_saveSnapshot_9 : DC mX1_saveSnapshot 9 = .ok (.getfield 406, 3) := dk_180 1 150 (dk_at dksX1_saveSnapshot_0 9 rfl rfl)
theorem dX1_saveSnapshot_12 : DC mX1_saveSnapshot 12 = .ok (.getfield 104, 3) := dk_180 0 104 (dk_at dksX1_saveSnapshot_0 12 rfl rfl)
theorem dX1_saveSnapshot_15 : DC mX1_saveSnapshot 15 = .ok (.invokeinterface 146 1, 5) := by decide +kernel
theorem dX1_saveSnapshot_20 : DC mX1_saveSnapshot 20 = .ok (.ireturn, 1) := dk_172 (dk_at dksX1_saveSnapshot_0 20 rfl rfl)
abbrev cX1_draft : ByteArray := prog_1_method_11_code
def yX1_draft : MethodName := ⟨RX1, "draft", "()LTheatreSaga$Theatre;"⟩
def mX1_draft : MI := (⟨"TheatreSaga", "draft", "()LTheatreSaga$Theatre;"⟩, prog_1_method_11_code, 1, (Option.some (FieldType.object "TheatreSaga$Theatre")), none, 39, 18)
theorem oX1_draft : mO mX1_draft = 39 := rfl
theorem lX1_draft : mL mX1_draft = 1 := rfl
theorem rX1_draft : mR mX1_draft = (Option.some (FieldType.object "TheatreSaga$Theatre")) := rfl
theorem vX1_draft : mV mX1_draft = 18 := rfl
theorem nX1_draft : (mY mX1_draft).name = "draft" := rfl
theorem hX1_draft : mH mX1_draft = none := rfl
theorem kX1_draft : MOk mX1_draft := ⟨q460, q75, by decide +kernel⟩
theorem gX1_draft : plainName (mY mX1_draft).cls = true ∧ (mY mX1_draft).cls = "TheatreSaga" := ⟨by decide +kernel, rfl⟩
def dkwX1_draft_0 : List UInt8 := [187, 0, 40, 89, 42, 180, 0, 43, 183, 0, 57, 176]
abbrev dktX1_draft_0 : List UInt8 := dkwX1_draft_0 ++ []
theorem dksX1_draft_0 : cX1_draft.data.toList.drop 0 = dktX1_draft_0 := by decide +kernel
theorem dX1_draft_0 : DC mX1_draft 0 = .ok (.new 40, 3) := dk_187 0 40 (dk_at dksX1_draft_0 0 rfl rfl)
theorem dX1_draft_3 : DC mX1_draft 3 = .ok (.dup, 1) := dk_89 (dk_at dksX1_draft_0 3 rfl rfl)
theorem dX1_draft_4 : DC mX1_draft 4 = .ok (.aload_n 0, 1) := dk_42 (dk_at dksX1_draft_0 4 rfl rfl)
theorem dX1_draft_5 : DC mX1_draft 5 = .ok (.getfield 43, 3) := dk_180 0 43 (dk_at dksX1_draft_0 5 rfl rfl)
theorem dX1_draft_8 : DC mX1_draft 8 = .ok (.invokespecial 57, 3) := dk_183 0 57 (dk_at dksX1_draft_0 8 rfl rfl)
theorem dX1_draft_11 : DC mX1_draft 11 = .ok (.areturn, 1) := dk_176 (dk_at dksX1_draft_0 11 rfl rfl)
abbrev cX1_requireElement : ByteArray := prog_1_method_5_code
def yX1_requireElement : MethodName := ⟨RX1, "requireElement", "(Z)V"⟩
def mX1_requireElement : MI := (⟨"TheatreSaga", "requireElement", "(Z)V"⟩, prog_1_method_5_code, 1, (Option.none : Option FieldType), none, 39, 8)
theorem oX1_requireElement : mO mX1_requireElement = 39 := rfl
theorem lX1_requireElement : mL mX1_requireElement = 1 := rfl
theorem rX1_requireElement : mR mX1_requireElement = (Option.none : Option FieldType) := rfl
theorem vX1_requireElement : mV mX1_requireElement = 8 := rfl
theorem nX1_requireElement : (mY mX1_requireElement).name = "requireElement" := rfl
theorem hX1_requireElement : mH mX1_requireElement = none := rfl
theorem kX1_requireElement : MOk mX1_requireElement := ⟨q931, q75, by decide +kernel⟩
theorem gX1_requireElement : plainName (mY mX1_requireElement).cls = true ∧ (mY mX1_requireElement).cls = "TheatreSaga" := ⟨by decide +kernel, rfl⟩
def dkwX1_requireElement_0 : List UInt8 := [26, 154, 0, 11, 187, 0, 13, 89, 183, 0, 15, 191, 177]
abbrev dktX1_requireElement_0 : List UInt8 := dkwX1_requireElement_0 ++ []
theorem dksX1_requireElement_0 : cX1_requireElement.data.toList.drop 0 = dktX1_requireElement_0 := by decide +kernel
theorem dX1_requireElement_0 : DC mX1_requireElement 0 = .ok (.iload_n 0, 1) := dk_26 (dk_at dksX1_requireElement_0 0 rfl rfl)
theorem dX1_requireElement_1 : DC mX1_requireElement 1 = .ok (.ifCond .ne 11, 3) := dk_154 0 11 (dk_at dksX1_requireElement_0 1 rfl rfl)
theorem dX1_requireElement_4 : DC mX1_requireElement 4 = .ok (.new 13, 3) := dk_187 0 13 (dk_at dksX1_requireElement_0 4 rfl rfl)
theorem dX1_requireElement_7 : DC mX1_requireElement 7 = .ok (.dup, 1) := dk_89 (dk_at dksX1_requireElement_0 7 rfl rfl)
theorem dX1_requireElement_8 : DC mX1_requireElement 8 = .ok (.invokespecial 15, 3) := dk_183 0 15 (dk_at dksX1_requireElement_0 8 rfl rfl)
theorem dX1_requireElement_11 : DC mX1_requireElement 11 = .ok (.athrow, 1) := dk_191 (dk_at dksX1_requireElement_0 11 rfl rfl)
theorem dX1_requireElement_12 : DC mX1_requireElement 12 = .ok (.return_, 1) := dk_177 (dk_at dksX1_requireElement_0 12 rfl rfl)
abbrev cX1_tour : ByteArray := prog_1_method_16_code
def yX1_tour : MethodName := ⟨RX1, "tour", "(I)I"⟩
def mX1_tour : MI := (⟨"TheatreSaga", "tour", "(I)I"⟩, prog_1_method_16_code, 2, (Option.some FieldType.int), none, 39, 20)
theorem oX1_tour : mO mX1_tour = 39 := rfl
theorem lX1_tour : mL mX1_tour = 2 := rfl
theorem rX1_tour : mR mX1_tour = (Option.some FieldType.int) := rfl
theorem vX1_tour : mV mX1_tour = 20 := rfl
theorem nX1_tour : (mY mX1_tour).name = "tour" := rfl
theorem hX1_tour : mH mX1_tour = none := rfl
theorem kX1_tour : MOk mX1_tour := ⟨q1227, q75, by decide +kernel⟩
theorem gX1_tour : plainName (mY mX1_tour).cls = true ∧ (mY mX1_tour).cls = "TheatreSaga" := ⟨by decide +kernel, rfl⟩
def dkwX1_tour_0 : List UInt8 := [42, 18, 114, 4, 188, 10, 89, 3, 27, 79, 182, 0, 116, 172]
abbrev dktX1_tour_0 : List UInt8 := dkwX1_tour_0 ++ []
theorem dksX1_tour_0 : cX1_tour.data.toList.drop 0 = dktX1_tour_0 := by decide +kernel
theorem dX1_tour_0 : DC mX1_tour 0 = .ok (.aload_n 0, 1) := dk_42 (dk_at dksX1_tour_0 0 rfl rfl)
theorem dX1_tour_1 : DC mX1_tour 1 = .ok (.ldc 114, 2) := dk_18 114 (dk_at dksX1_tour_0 1 rfl rfl)
theorem dX1_tour_3 : DC mX1_tour 3 = .ok (.iconst 1, 1) := dk_4 (dk_at dksX1_tour_0 3 rfl rfl)
theorem dX1_tour_4 : DC mX1_tour 4 = .ok (.newarray .int, 2) := dk_188_10 (dk_at dksX1_tour_0 4 rfl rfl)
theorem dX1_tour_6 : DC mX1_tour 6 = .ok (.dup, 1) := dk_89 (dk_at dksX1_tour_0 6 rfl rfl)
theorem dX1_tour_7 : DC mX1_tour 7 = .ok (.iconst 0, 1) := dk_3 (dk_at dksX1_tour_0 7 rfl rfl)
theorem dX1_tour_8 : DC mX1_tour 8 = .ok (.iload_n 1, 1) := dk_27 (dk_at dksX1_tour_0 8 rfl rfl)
theorem dX1_tour_9 : DC mX1_tour 9 = .ok (.iastore, 1) := dk_79 (dk_at dksX1_tour_0 9 rfl rfl)
theorem dX1_tour_10 : DC mX1_tour 10 = .ok (.invokevirtual 116, 3) := dk_182 0 116 (dk_at dksX1_tour_0 10 rfl rfl)
theorem dX1_tour_13 : DC mX1_tour 13 = .ok (.ireturn, 1) := dk_172 (dk_at dksX1_tour_0 13 rfl rfl)
abbrev cX1_change : ByteArray := prog_1_method_14_code
def yX1_change : MethodName := ⟨RX1, "change", "(Ljava/lang/String;[I)I"⟩
def mX1_change : MI := (⟨"TheatreSaga", "change", "(Ljava/lang/String;[I)I"⟩, prog_1_method_14_code, 5, (Option.some FieldType.int), some [(5, 23, 24, 16)], 39, 19)
theorem oX1_change : mO mX1_change = 39 := rfl
theorem lX1_change : mL mX1_change = 5 := rfl
theorem rX1_change : mR mX1_change = (Option.some FieldType.int) := rfl
theorem vX1_change : mV mX1_change = 19 := rfl
theorem nX1_change : (mY mX1_change).name = "change" := rfl
theorem hX1_change : mH mX1_change = some [(5, 23, 24, 16)] := rfl
theorem kX1_change : MOk mX1_change := ⟨q1232, q75, by decide +kernel⟩
theorem gX1_change : plainName (mY mX1_change).cls = true ∧ (mY mX1_change).cls = "TheatreSaga" := ⟨by decide +kernel, rfl⟩
def dkwX1_change_1 : List UInt8 := [58, 4, 42, 25, 4, 182, 0, 100, 191]
abbrev dktX1_change_1 : List UInt8 := dkwX1_change_1 ++ []
def dkwX1_change_0 : List UInt8 := [42, 182, 0, 83, 78, 42, 45, 187, 0, 87, 89, 43, 44, 183, 0, 89, 45, 182, 0, 92, 182, 0, 96, 172]
abbrev dktX1_change_0 : List UInt8 := dkwX1_change_0 ++ dktX1_change_1
theorem dksX1_change_0 : cX1_change.data.toList.drop 0 = dktX1_change_0 := by decide +kernel
theorem dksX1_change_1 : cX1_change.data.toList.drop 24 = dktX1_change_1 := dk_seg dksX1_change_0 24 rfl rfl
theorem dX1_change_0 : DC mX1_change 0 = .ok (.aload_n 0, 1) := dk_42 (dk_at dksX1_change_0 0 rfl rfl)
theorem dX1_change_1 : DC mX1_change 1 = .ok (.invokevirtual 83, 3) := dk_182 0 83 (dk_at dksX1_change_0 1 rfl rfl)
theorem dX1_change_4 : DC mX1_change 4 = .ok (.astore_n 3, 1) := dk_78 (dk_at dksX1_change_0 4 rfl rfl)
theorem dX1_change_5 : DC mX1_change 5 = .ok (.aload_n 0, 1) := dk_42 (dk_at dksX1_change_0 5 rfl rfl)
theorem dX1_change_6 : DC mX1_change 6 = .ok (.aload_n 3, 1) := dk_45 (dk_at dksX1_change_0 6 rfl rfl)
theorem dX1_change_7 : DC mX1_change 7 = .ok (.new 87, 3) := dk_187 0 87 (dk_at dksX1_change_0 7 rfl rfl)
theorem dX1_change_10 : DC mX1_change 10 = .ok (.dup, 1) := dk_89 (dk_at dksX1_change_0 10 rfl rfl)
theorem dX1_change_11 : DC mX1_change 11 = .ok (.aload_n 1, 1) := dk_43 (dk_at dksX1_change_0 11 rfl rfl)
theorem dX1_change_12 : DC mX1_change 12 = .ok (.aload_n 2, 1) := dk_44 (dk_at dksX1_change_0 12 rfl rfl)
theorem dX1_change_13 : DC mX1_change 13 = .ok (.invokespecial 89, 3) := dk_183 0 89 (dk_at dksX1_change_0 13 rfl rfl)
theorem dX1_change_16 : DC mX1_change 16 = .ok (.aload_n 3, 1) := dk_45 (dk_at dksX1_change_0 16 rfl rfl)
theorem dX1_change_17 : DC mX1_change 17 = .ok (.invokevirtual 92, 3) := dk_182 0 92 (dk_at dksX1_change_0 17 rfl rfl)
theorem dX1_change_20 : DC mX1_change 20 = .ok (.invokevirtual 96, 3) := dk_182 0 96 (dk_at dksX1_change_0 20 rfl rfl)
theorem dX1_change_23 : DC mX1_change 23 = .ok (.ireturn, 1) := dk_172 (dk_at dksX1_change_0 23 rfl rfl)
theorem dX1_change_24 : DC mX1_change 24 = .ok (.astore 4, 2) := dk_58 4 (dk_at dksX1_change_1 0 rfl rfl)
theorem dX1_change_26 : DC mX1_change 26 = .ok (.aload_n 0, 1) := dk_42 (dk_at dksX1_change_1 2 rfl rfl)
theorem dX1_change_27 : DC mX1_change 27 = .ok (.aload 4, 2) := dk_25 4 (dk_at dksX1_change_1 3 rfl rfl)
theorem dX1_change_29 : DC mX1_change 29 = .ok (.invokevirtual 100, 3) := dk_182 0 100 (dk_at dksX1_change_1 5 rfl rfl)
theorem dX1_change_32 : DC mX1_change 32 = .ok (.athrow, 1) := dk_191 (dk_at dksX1_change_1 8 rfl rfl)
abbrev cX1_inRange : ByteArray := prog_1_method_1_code
def yX1_inRange : MethodName := ⟨RX1, "inRange", "(III)Z"⟩
def mX1_inRange : MI := (⟨"TheatreSaga", "inRange", "(III)Z"⟩, prog_1_method_1_code, 3, (Option.some FieldType.boolean), none, 39, 1)
theorem oX1_inRange : mO mX1_inRange = 39 := rfl
theorem lX1_inRange : mL mX1_inRange = 3 := rfl
theorem rX1_inRange : mR mX1_inRange = (Option.some FieldType.boolean) := rfl
theorem vX1_inRange : mV mX1_inRange = 1 := rfl
theorem nX1_inRange : (mY mX1_inRange).name = "inRange" := rfl
theorem hX1_inRange : mH mX1_inRange = none := rfl
theorem kX1_inRange : MOk mX1_inRange := ⟨q1336, q75, by decide +kernel⟩
theorem gX1_inRange : plainName (mY mX1_inRange).cls = true ∧ (mY mX1_inRange).cls = "TheatreSaga" := ⟨by decide +kernel, rfl⟩
def dkwX1_inRange_0 : List UInt8 := [26, 27, 161, 0, 12, 26, 28, 163, 0, 7, 4, 167, 0, 4, 3, 172]
abbrev dktX1_inRange_0 : List UInt8 := dkwX1_inRange_0 ++ []
theorem dksX1_inRange_0 : cX1_inRange.data.toList.drop 0 = dktX1_inRange_0 := by decide +kernel
theorem dX1_inRange_0 : DC mX1_inRange 0 = .ok (.iload_n 0, 1) := dk_26 (dk_at dksX1_inRange_0 0 rfl rfl)
theorem dX1_inRange_1 : DC mX1_inRange 1 = .ok (.iload_n 1, 1) := dk_27 (dk_at dksX1_inRange_0 1 rfl rfl)
theorem dX1_inRange_2 : DC mX1_inRange 2 = .ok (.if_icmp .lt 12, 3) := dk_161 0 12 (dk_at dksX1_inRange_0 2 rfl rfl)
theorem dX1_inRange_5 : DC mX1_inRange 5 = .ok (.iload_n 0, 1) := dk_26 (dk_at dksX1_inRange_0 5 rfl rfl)
theorem dX1_inRange_6 : DC mX1_inRange 6 = .ok (.iload_n 2, 1) := dk_28 (dk_at dksX1_inRange_0 6 rfl rfl)
theorem dX1_inRange_7 : DC mX1_inRange 7 = .ok (.if_icmp .gt 7, 3) := dk_163 0 7 (dk_at dksX1_inRange_0 7 rfl rfl)
theorem dX1_inRange_10 : DC mX1_inRange 10 = .ok (.iconst 1, 1) := dk_4 (dk_at dksX1_inRange_0 10 rfl rfl)
theorem dX1_inRange_11 : DC mX1_inRange 11 = .ok (.goto 4, 3) := dk_167 0 4 (dk_at dksX1_inRange_0 11 rfl rfl)
theorem dX1_inRange_14 : DC mX1_inRange 14 = .ok (.iconst 0, 1) := dk_3 (dk_at dksX1_inRange_0 14 rfl rfl)
theorem dX1_inRange_15 : DC mX1_inRange 15 = .ok (.ireturn, 1) := dk_172 (dk_at dksX1_inRange_0 15 rfl rfl)
abbrev cX1_require : ByteArray := prog_1_method_2_code
def yX1_require : MethodName := ⟨RX1, "require", "(Z)V"⟩
def mX1_require : MI := (⟨"TheatreSaga", "require", "(Z)V"⟩, prog_1_method_2_code, 1, (Option.none : Option FieldType), none, 39, 8)
theorem oX1_require : mO mX1_require = 39 := rfl
theorem lX1_require : mL mX1_require = 1 := rfl
theorem rX1_require : mR mX1_require = (Option.none : Option FieldType) := rfl
theorem vX1_require : mV mX1_require = 8 := rfl
theorem nX1_require : (mY mX1_require).name = "require" := rfl
theorem hX1_require : mH mX1_require = none := rfl
theorem kX1_require : MOk mX1_require := ⟨q1339, q75, by decide +kernel⟩
theorem gX1_require : plainName (mY mX1_require).cls = true ∧ (mY mX1_require).cls = "TheatreSaga" := ⟨by decide +kernel, rfl⟩
def dkwX1_require_0 : List UInt8 := [26, 154, 0, 11, 187, 0, 1, 89, 183, 0, 3, 191, 177]
abbrev dktX1_require_0 : List UInt8 := dkwX1_require_0 ++ []
theorem dksX1_require_0 : cX1_require.data.toList.drop 0 = dktX1_require_0 := by decide +kernel
theorem dX1_require_0 : DC mX1_require 0 = .ok (.iload_n 0, 1) := dk_26 (dk_at dksX1_require_0 0 rfl rfl)
theorem dX1_require_1 : DC mX1_require 1 = .ok (.ifCond .ne 11, 3) := dk_154 0 11 (dk_at dksX1_require_0 1 rfl rfl)
theorem dX1_require_4 : DC mX1_require 4 = .ok (.new 1, 3) := dk_187 0 1 (dk_at dksX1_require_0 4 rfl rfl)
theorem dX1_require_7 : DC mX1_require 7 = .ok (.dup, 1) := dk_89 (dk_at dksX1_require_0 7 rfl rfl)
theorem dX1_require_8 : DC mX1_require 8 = .ok (.invokespecial 3, 3) := dk_183 0 3 (dk_at dksX1_require_0 8 rfl rfl)
theorem dX1_require_11 : DC mX1_require 11 = .ok (.athrow, 1) := dk_191 (dk_at dksX1_require_0 11 rfl rfl)
theorem dX1_require_12 : DC mX1_require 12 = .ok (.return_, 1) := dk_177 (dk_at dksX1_require_0 12 rfl rfl)
abbrev cX1_allow : ByteArray := prog_1_method_6_code
def yX1_allow : MethodName := ⟨RX1, "allow", "(ZII)V"⟩
def mX1_allow : MI := (⟨"TheatreSaga", "allow", "(ZII)V"⟩, prog_1_method_6_code, 3, (Option.none : Option FieldType), none, 39, 5)
theorem oX1_allow : mO mX1_allow = 39 := rfl
theorem lX1_allow : mL mX1_allow = 3 := rfl
theorem rX1_allow : mR mX1_allow = (Option.none : Option FieldType) := rfl
theorem vX1_allow : mV mX1_allow = 5 := rfl
theorem nX1_allow : (mY mX1_allow).name = "allow" := rfl
theorem hX1_allow : mH mX1_allow = none := rfl
theorem kX1_allow : MOk mX1_allow := ⟨q1349, q75, by decide +kernel⟩
theorem gX1_allow : plainName (mY mX1_allow).cls = true ∧ (mY mX1_allow).cls = "TheatreSaga" := ⟨by decide +kernel, rfl⟩
def dkwX1_allow_0 : List UInt8 := [26, 154, 0, 13, 187, 0, 16, 89, 27, 28, 183, 0, 18, 191, 177]
abbrev dktX1_allow_0 : List UInt8 := dkwX1_allow_0 ++ []
theorem dksX1_allow_0 : cX1_allow.data.toList.drop 0 = dktX1_allow_0 := by decide +kernel
theorem dX1_allow_0 : DC mX1_allow 0 = .ok (.iload_n 0, 1) := dk_26 (dk_at dksX1_allow_0 0 rfl rfl)
theorem dX1_allow_1 : DC mX1_allow 1 = .ok (.ifCond .ne 13, 3) := dk_154 0 13 (dk_at dksX1_allow_0 1 rfl rfl)
theorem dX1_allow_4 : DC mX1_allow 4 = .ok (.new 16, 3) := dk_187 0 16 (dk_at dksX1_allow_0 4 rfl rfl)
theorem dX1_allow_7 : DC mX1_allow 7 = .ok (.dup, 1) := dk_89 (dk_at dksX1_allow_0 7 rfl rfl)
theorem dX1_allow_8 : DC mX1_allow 8 = .ok (.iload_n 1, 1) := dk_27 (dk_at dksX1_allow_0 8 rfl rfl)
theorem dX1_allow_9 : DC mX1_allow 9 = .ok (.iload_n 2, 1) := dk_28 (dk_at dksX1_allow_0 9 rfl rfl)
theorem dX1_allow_10 : DC mX1_allow 10 = .ok (.invokespecial 18, 3) := dk_183 0 18 (dk_at dksX1_allow_0 10 rfl rfl)
theorem dX1_allow_13 : DC mX1_allow 13 = .ok (.athrow, 1) := dk_191 (dk_at dksX1_allow_0 13 rfl rfl)
theorem dX1_allow_14 : DC mX1_allow 14 = .ok (.return_, 1) := dk_177 (dk_at dksX1_allow_0 14 rfl rfl)
abbrev cX1_requireIndex : ByteArray := prog_1_method_3_code
def yX1_requireIndex : MethodName := ⟨RX1, "requireIndex", "(Z)V"⟩
def mX1_requireIndex : MI := (⟨"TheatreSaga", "requireIndex", "(Z)V"⟩, prog_1_method_3_code, 1, (Option.none : Option FieldType), none, 39, 8)
theorem oX1_requireIndex : mO mX1_requireIndex = 39 := rfl
theorem lX1_requireIndex : mL mX1_requireIndex = 1 := rfl
theorem rX1_requireIndex : mR mX1_requireIndex = (Option.none : Option FieldType) := rfl
theorem vX1_requireIndex : mV mX1_requireIndex = 8 := rfl
theorem nX1_requireIndex : (mY mX1_requireIndex).name = "requireIndex" := rfl
theorem hX1_requireIndex : mH mX1_requireIndex = none := rfl
theorem kX1_requireIndex : MOk mX1_requireIndex := ⟨q1413, q75, by decide +kernel⟩
theorem gX1_requireIndex : plainName (mY mX1_requireIndex).cls = true ∧ (mY mX1_requireIndex).cls = "TheatreSaga" := ⟨by decide +kernel, rfl⟩
def dkwX1_requireIndex_0 : List UInt8 := [26, 154, 0, 11, 187, 0, 7, 89, 183, 0, 9, 191, 177]
abbrev dktX1_requireIndex_0 : List UInt8 := dkwX1_requireIndex_0 ++ []
theorem dksX1_requireIndex_0 : cX1_requireIndex.data.toList.drop 0 = dktX1_requireIndex_0 := by decide +kernel
theorem dX1_requireIndex_0 : DC mX1_requireIndex 0 = .ok (.iload_n 0, 1) := dk_26 (dk_at dksX1_requireIndex_0 0 rfl rfl)
theorem dX1_requireIndex_1 : DC mX1_requireIndex 1 = .ok (.ifCond .ne 11, 3) := dk_154 0 11 (dk_at dksX1_requireIndex_0 1 rfl rfl)
theorem dX1_requireIndex_4 : DC mX1_requireIndex 4 = .ok (.new 7, 3) := dk_187 0 7 (dk_at dksX1_requireIndex_0 4 rfl rfl)
theorem dX1_requireIndex_7 : DC mX1_requireIndex 7 = .ok (.dup, 1) := dk_89 (dk_at dksX1_requireIndex_0 7 rfl rfl)
theorem dX1_requireIndex_8 : DC mX1_requireIndex 8 = .ok (.invokespecial 9, 3) := dk_183 0 9 (dk_at dksX1_requireIndex_0 8 rfl rfl)
theorem dX1_requireIndex_11 : DC mX1_requireIndex 11 = .ok (.athrow, 1) := dk_191 (dk_at dksX1_requireIndex_0 11 rfl rfl)
theorem dX1_requireIndex_12 : DC mX1_requireIndex 12 = .ok (.return_, 1) := dk_177 (dk_at dksX1_requireIndex_0 12 rfl rfl)
abbrev cX1_all : ByteArray := prog_1_method_8_code
def yX1_all : MethodName := ⟨RX1, "all", "(I)I"⟩
def mX1_all : MI := (⟨"TheatreSaga", "all", "(I)I"⟩, prog_1_method_8_code, 1, (Option.some FieldType.int), none, 39, 1)
theorem oX1_all : mO mX1_all = 39 := rfl
theorem lX1_all : mL mX1_all = 1 := rfl
theorem rX1_all : mR mX1_all = (Option.some FieldType.int) := rfl
theorem vX1_all : mV mX1_all = 1 := rfl
theorem nX1_all : (mY mX1_all).name = "all" := rfl
theorem hX1_all : mH mX1_all = none := rfl
theorem kX1_all : MOk mX1_all := ⟨q1439, q75, by decide +kernel⟩
theorem gX1_all : plainName (mY mX1_all).cls = true ∧ (mY mX1_all).cls = "TheatreSaga" := ⟨by decide +kernel, rfl⟩
def dkwX1_all_0 : List UInt8 := [26, 154, 0, 7, 4, 167, 0, 14, 26, 4, 160, 0, 7, 7, 167, 0, 5, 16, 12, 172]
abbrev dktX1_all_0 : List UInt8 := dkwX1_all_0 ++ []
theorem dksX1_all_0 : cX1_all.data.toList.drop 0 = dktX1_all_0 := by decide +kernel
theorem dX1_all_0 : DC mX1_all 0 = .ok (.iload_n 0, 1) := dk_26 (dk_at dksX1_all_0 0 rfl rfl)
theorem dX1_all_1 : DC mX1_all 1 = .ok (.ifCond .ne 7, 3) := dk_154 0 7 (dk_at dksX1_all_0 1 rfl rfl)
theorem dX1_all_4 : DC mX1_all 4 = .ok (.iconst 1, 1) := dk_4 (dk_at dksX1_all_0 4 rfl rfl)
theorem dX1_all_5 : DC mX1_all 5 = .ok (.goto 14, 3) := dk_167 0 14 (dk_at dksX1_all_0 5 rfl rfl)
theorem dX1_all_8 : DC mX1_all 8 = .ok (.iload_n 0, 1) := dk_26 (dk_at dksX1_all_0 8 rfl rfl)
theorem dX1_all_9 : DC mX1_all 9 = .ok (.iconst 1, 1) := dk_4 (dk_at dksX1_all_0 9 rfl rfl)
theorem dX1_all_10 : DC mX1_all 10 = .ok (.if_icmp .ne 7, 3) := dk_160 0 7 (dk_at dksX1_all_0 10 rfl rfl)
theorem dX1_all_13 : DC mX1_all 13 = .ok (.iconst 4, 1) := dk_7 (dk_at dksX1_all_0 13 rfl rfl)
theorem dX1_all_14 : DC mX1_all 14 = .ok (.goto 5, 3) := dk_167 0 5 (dk_at dksX1_all_0 14 rfl rfl)
theorem dX1_all_17 : DC mX1_all 17 = .ok (.bipush 12, 2) := dk_16 12 (dk_at dksX1_all_0 17 rfl rfl)
theorem dX1_all_19 : DC mX1_all 19 = .ok (.ireturn, 1) := dk_172 (dk_at dksX1_all_0 19 rfl rfl)
abbrev cX1_price : ByteArray := prog_1_method_9_code
def yX1_price : MethodName := ⟨RX1, "price", "(I)I"⟩
def mX1_price : MI := (⟨"TheatreSaga", "price", "(I)I"⟩, prog_1_method_9_code, 1, (Option.some FieldType.int), none, 39, 1)
theorem oX1_price : mO mX1_price = 39 := rfl
theorem lX1_price : mL mX1_price = 1 := rfl
theorem rX1_price : mR mX1_price = (Option.some FieldType.int) := rfl
theorem vX1_price : mV mX1_price = 1 := rfl
theorem nX1_price : (mY mX1_price).name = "price" := rfl
theorem hX1_price : mH mX1_price = none := rfl
theorem kX1_price : MOk mX1_price := ⟨q1587, q75, by decide +kernel⟩
theorem gX1_price : plainName (mY mX1_price).cls = true ∧ (mY mX1_price).cls = "TheatreSaga" := ⟨by decide +kernel, rfl⟩
def dkwX1_price_0 : List UInt8 := [26, 154, 0, 8, 16, 6, 167, 0, 13, 26, 4, 160, 0, 7, 5, 167, 0, 4, 4, 172]
abbrev dktX1_price_0 : List UInt8 := dkwX1_price_0 ++ []
theorem dksX1_price_0 : cX1_price.data.toList.drop 0 = dktX1_price_0 := by decide +kernel
theorem dX1_price_0 : DC mX1_price 0 = .ok (.iload_n 0, 1) := dk_26 (dk_at dksX1_price_0 0 rfl rfl)
theorem dX1_price_1 : DC mX1_price 1 = .ok (.ifCond .ne 8, 3) := dk_154 0 8 (dk_at dksX1_price_0 1 rfl rfl)
theorem dX1_price_4 : DC mX1_price 4 = .ok (.bipush 6, 2) := dk_16 6 (dk_at dksX1_price_0 4 rfl rfl)
theorem dX1_price_6 : DC mX1_price 6 = .ok (.goto 13, 3) := dk_167 0 13 (dk_at dksX1_price_0 6 rfl rfl)
theorem dX1_price_9 : DC mX1_price 9 = .ok (.iload_n 0, 1) := dk_26 (dk_at dksX1_price_0 9 rfl rfl)
theorem dX1_price_10 : DC mX1_price 10 = .ok (.iconst 1, 1) := dk_4 (dk_at dksX1_price_0 10 rfl rfl)
theorem dX1_price_11 : DC mX1_price 11 = .ok (.if_icmp .ne 7, 3) := dk_160 0 7 (dk_at dksX1_price_0 11 rfl rfl)
theorem dX1_price_14 : DC mX1_price 14 = .ok (.iconst 2, 1) := dk_5 (dk_at dksX1_price_0 14 rfl rfl)
theorem dX1_price_15 : DC mX1_price 15 = .ok (.goto 4, 3) := dk_167 0 4 (dk_at dksX1_price_0 15 rfl rfl)
theorem dX1_price_18 : DC mX1_price 18 = .ok (.iconst 1, 1) := dk_4 (dk_at dksX1_price_0 18 rfl rfl)
theorem dX1_price_19 : DC mX1_price 19 = .ok (.ireturn, 1) := dk_172 (dk_at dksX1_price_0 19 rfl rfl)
abbrev cX1_replace : ByteArray := prog_1_method_12_code
def yX1_replace : MethodName := ⟨RX1, "replace", "(LTheatreSaga$Theatre;I)I"⟩
def mX1_replace : MI := (⟨"TheatreSaga", "replace", "(LTheatreSaga$Theatre;I)I"⟩, prog_1_method_12_code, 4, (Option.some FieldType.int), none, 39, 7)
theorem oX1_replace : mO mX1_replace = 39 := rfl
theorem lX1_replace : mL mX1_replace = 4 := rfl
theorem rX1_replace : mR mX1_replace = (Option.some FieldType.int) := rfl
theorem vX1_replace : mV mX1_replace = 7 := rfl
theorem nX1_replace : (mY mX1_replace).name = "replace" := rfl
theorem hX1_replace : mH mX1_replace = none := rfl
theorem kX1_replace : MOk mX1_replace := ⟨q1619, q75, by decide +kernel⟩
theorem gX1_replace : plainName (mY mX1_replace).cls = true ∧ (mY mX1_replace).cls = "TheatreSaga" := ⟨by decide +kernel, rfl⟩
def dkwX1_replace_1 : List UInt8 := [180, 0, 29, 42, 180, 0, 43, 182, 0, 68, 42, 43, 181, 0, 43, 28, 172]
abbrev dktX1_replace_1 : List UInt8 := dkwX1_replace_1 ++ []
def dkwX1_replace_0 : List UInt8 := [42, 180, 0, 29, 182, 0, 60, 16, 8, 160, 0, 14, 42, 180, 0, 29, 182, 0, 64, 192, 0, 40, 78, 42]
abbrev dktX1_replace_0 : List UInt8 := dkwX1_replace_0 ++ dktX1_replace_1
theorem dksX1_replace_0 : cX1_replace.data.toList.drop 0 = dktX1_replace_0 := by decide +kernel
theorem dksX1_replace_1 : cX1_replace.data.toList.drop 24 = dktX1_replace_1 := dk_seg dksX1_replace_0 24 rfl rfl
theorem dX1_replace_0 : DC mX1_replace 0 = .ok (.aload_n 0, 1) := dk_42 (dk_at dksX1_replace_0 0 rfl rfl)
theorem dX1_replace_1 : DC mX1_replace 1 = .ok (.getfield 29, 3) := dk_180 0 29 (dk_at dksX1_replace_0 1 rfl rfl)
theorem dX1_replace_4 : DC mX1_replace 4 = .ok (.invokevirtual 60, 3) := dk_182 0 60 (dk_at dksX1_replace_0 4 rfl rfl)
theorem dX1_replace_7 : DC mX1_replace 7 = .ok (.bipush 8, 2) := dk_16 8 (dk_at dksX1_replace_0 7 rfl rfl)
theorem dX1_replace_9 : DC mX1_replace 9 = .ok (.if_icmp .ne 14, 3) := dk_160 0 14 (dk_at dksX1_replace_0 9 rfl rfl)
theorem dX1_replace_12 : DC mX1_replace 12 = .ok (.aload_n 0, 1) := dk_42 (dk_at dksX1_replace_0 12 rfl rfl)
theorem dX1_replace_13 : DC mX1_replace 13 = .ok (.getfield 29, 3) := dk_180 0 29 (dk_at dksX1_replace_0 13 rfl rfl)
theorem dX1_replace_16 : DC mX1_replace 16 = .ok (.invokevirtual 64, 3) := dk_182 0 64 (dk_at dksX1_replace_0 16 rfl rfl)
theorem dX1_replace_19 : DC mX1_replace 19 = .ok (.checkcast 40, 3) := dk_192 0 40 (dk_at dksX1_replace_0 19 rfl rfl)
theorem dX1_replace_22 : DC mX1_replace 22 = .ok (.astore_n 3, 1) := dk_78 (dk_at dksX1_replace_0 22 rfl rfl)
theorem dX1_replace_23 : DC mX1_replace 23 = .ok (.aload_n 0, 1) := dk_42 (dk_at dksX1_replace_0 23 rfl rfl)
theorem dX1_replace_24 : DC mX1_replace 24 = .ok (.getfield 29, 3) := dk_180 0 29 (dk_at dksX1_replace_1 0 rfl rfl)
theorem dX1_replace_27 : DC mX1_replace 27 = .ok (.aload_n 0, 1) := dk_42 (dk_at dksX1_replace_1 3 rfl rfl)
theorem dX1_replace_28 : DC mX1_replace 28 = .ok (.getfield 43, 3) := dk_180 0 43 (dk_at dksX1_replace_1 4 rfl rfl)
theorem dX1_replace_31 : DC mX1_replace 31 = .ok (.invokevirtual 68, 3) := dk_182 0 68 (dk_at dksX1_replace_1 7 rfl rfl)
theorem dX1_replace_34 : DC mX1_replace 34 = .ok (.aload_n 0, 1) := dk_42 (dk_at dksX1_replace_1 10 rfl rfl)
theorem dX1_replace_35 : DC mX1_replace 35 = .ok (.aload_n 1, 1) := dk_43 (dk_at dksX1_replace_1 11 rfl rfl)
theorem dX1_replace_36 : DC mX1_replace 36 = .ok (.putfield 43, 3) := dk_181 0 43 (dk_at dksX1_replace_1 12 rfl rfl)
theorem dX1_replace_39 : DC mX1_replace 39 = .ok (.iload_n 2, 1) := dk_28 (dk_at dksX1_replace_1 15 rfl rfl)
theorem dX1_replace_40 : DC mX1_replace 40 = .ok (.ireturn, 1) := dk_172 (dk_at dksX1_replace_1 16 rfl rfl)
abbrev cX1_refuse : ByteArray := prog_1_method_13_code
def yX1_refuse : MethodName := ⟨RX1, "refuse", "(LTheatreSaga$Refusal;)Ljava/lang/UnsupportedOperationException;"⟩
def mX1_refuse : MI := (⟨"TheatreSaga", "refuse", "(LTheatreSaga$Refusal;)Ljava/lang/UnsupportedOperationException;"⟩, prog_1_method_13_code, 2, (Option.some (FieldType.object "java/lang/UnsupportedOperationException")), none, 39, 8)
theorem oX1_refuse : mO mX1_refuse = 39 := rfl
theorem lX1_refuse : mL mX1_refuse = 2 := rfl
theorem rX1_refuse : mR mX1_refuse = (Option.some (FieldType.object "java/lang/UnsupportedOperationException")) := rfl
theorem vX1_refuse : mV mX1_refuse = 8 := rfl
theorem nX1_refuse : (mY mX1_refuse).name = "refuse" := rfl
theorem hX1_refuse : mH mX1_refuse = none := rfl
theorem kX1_refuse : MOk mX1_refuse := ⟨q1675, q75, by decide +kernel⟩
theorem gX1_refuse : plainName (mY mX1_refuse).cls = true ∧ (mY mX1_refuse).cls = "TheatreSaga" := ⟨by decide +kernel, rfl⟩
def dkwX1_refuse_0 : List UInt8 := [42, 43, 180, 0, 72, 181, 0, 75, 42, 43, 180, 0, 76, 181, 0, 79, 187, 0, 80, 89, 183, 0, 82, 176]
abbrev dktX1_refuse_0 : List UInt8 := dkwX1_refuse_0 ++ []
theorem dksX1_refuse_0 : cX1_refuse.data.toList.drop 0 = dktX1_refuse_0 := by decide +kernel
theorem dX1_refuse_0 : DC mX1_refuse 0 = .ok (.aload_n 0, 1) := dk_42 (dk_at dksX1_refuse_0 0 rfl rfl)
theorem dX1_refuse_1 : DC mX1_refuse 1 = .ok (.aload_n 1, 1) := dk_43 (dk_at dksX1_refuse_0 1 rfl rfl)
theorem dX1_refuse_2 : DC mX1_refuse 2 = .ok (.getfield 72, 3) := dk_180 0 72 (dk_at dksX1_refuse_0 2 rfl rfl)
theorem dX1_refuse_5 : DC mX1_refuse 5 = .ok (.putfield 75, 3) := dk_181 0 75 (dk_at dksX1_refuse_0 5 rfl rfl)
theorem dX1_refuse_8 : DC mX1_refuse 8 = .ok (.aload_n 0, 1) := dk_42 (dk_at dksX1_refuse_0 8 rfl rfl)
theorem dX1_refuse_9 : DC mX1_refuse 9 = .ok (.aload_n 1, 1) := dk_43 (dk_at dksX1_refuse_0 9 rfl rfl)
theorem dX1_refuse_10 : DC mX1_refuse 10 = .ok (.getfield 76, 3) := dk_180 0 76 (dk_at dksX1_refuse_0 10 rfl rfl)
theorem dX1_refuse_13 : DC mX1_refuse 13 = .ok (.putfield 79, 3) := dk_181 0 79 (dk_at dksX1_refuse_0 13 rfl rfl)
theorem dX1_refuse_16 : DC mX1_refuse 16 = .ok (.new 80, 3) := dk_187 0 80 (dk_at dksX1_refuse_0 16 rfl rfl)
theorem dX1_refuse_19 : DC mX1_refuse 19 = .ok (.dup, 1) := dk_89 (dk_at dksX1_refuse_0 19 rfl rfl)
theorem dX1_refuse_20 : DC mX1_refuse 20 = .ok (.invokespecial 82, 3) := dk_183 0 82 (dk_at dksX1_refuse_0 20 rfl rfl)
theorem dX1_refuse_23 : DC mX1_refuse 23 = .ok (.areturn, 1) := dk_176 (dk_at dksX1_refuse_0 23 rfl rfl)
abbrev cX1_step : ByteArray := prog_1_method_17_code
def yX1_step : MethodName := ⟨RX1, "step", "(IIIII)I"⟩
def mX1_step : MI := (⟨"TheatreSaga", "step", "(IIIII)I"⟩, prog_1_method_17_code, 6, (Option.some FieldType.int), none, 39, 20)
theorem oX1_step : mO mX1_step = 39 := rfl
theorem lX1_step : mL mX1_step = 6 := rfl
theorem rX1_step : mR mX1_step = (Option.some FieldType.int) := rfl
theorem vX1_step : mV mX1_step = 20 := rfl
theorem nX1_step : (mY mX1_step).name = "step" := rfl
theorem hX1_step : mH mX1_step = none := rfl
theorem kX1_step : MOk mX1_step := ⟨q1713, q75, by decide +kernel⟩
theorem gX1_step : plainName (mY mX1_step).cls = true ∧ (mY mX1_step).cls = "TheatreSaga" := ⟨by decide +kernel, rfl⟩
def dkwX1_step_1 : List UInt8 := [89, 7, 28, 79, 182, 0, 116, 172]
abbrev dktX1_step_1 : List UInt8 := dkwX1_step_1 ++ []
def dkwX1_step_0 : List UInt8 := [42, 18, 120, 8, 188, 10, 89, 3, 27, 79, 89, 4, 29, 79, 89, 5, 21, 4, 79, 89, 6, 21, 5, 79]
abbrev dktX1_step_0 : List UInt8 := dkwX1_step_0 ++ dktX1_step_1
theorem dksX1_step_0 : cX1_step.data.toList.drop 0 = dktX1_step_0 := by decide +kernel
theorem dksX1_step_1 : cX1_step.data.toList.drop 24 = dktX1_step_1 := dk_seg dksX1_step_0 24 rfl rfl
theorem dX1_step_0 : DC mX1_step 0 = .ok (.aload_n 0, 1) := dk_42 (dk_at dksX1_step_0 0 rfl rfl)
theorem dX1_step_1 : DC mX1_step 1 = .ok (.ldc 120, 2) := dk_18 120 (dk_at dksX1_step_0 1 rfl rfl)
theorem dX1_step_3 : DC mX1_step 3 = .ok (.iconst 5, 1) := dk_8 (dk_at dksX1_step_0 3 rfl rfl)
theorem dX1_step_4 : DC mX1_step 4 = .ok (.newarray .int, 2) := dk_188_10 (dk_at dksX1_step_0 4 rfl rfl)
theorem dX1_step_6 : DC mX1_step 6 = .ok (.dup, 1) := dk_89 (dk_at dksX1_step_0 6 rfl rfl)
theorem dX1_step_7 : DC mX1_step 7 = .ok (.iconst 0, 1) := dk_3 (dk_at dksX1_step_0 7 rfl rfl)
theorem dX1_step_8 : DC mX1_step 8 = .ok (.iload_n 1, 1) := dk_27 (dk_at dksX1_step_0 8 rfl rfl)
theorem dX1_step_9 : DC mX1_step 9 = .ok (.iastore, 1) := dk_79 (dk_at dksX1_step_0 9 rfl rfl)
theorem dX1_step_10 : DC mX1_step 10 = .ok (.dup, 1) := dk_89 (dk_at dksX1_step_0 10 rfl rfl)
theorem dX1_step_11 : DC mX1_step 11 = .ok (.iconst 1, 1) := dk_4 (dk_at dksX1_step_0 11 rfl rfl)
theorem dX1_step_12 : DC mX1_step 12 = .ok (.iload_n 3, 1) := dk_29 (dk_at dksX1_step_0 12 rfl rfl)
theorem dX1_step_13 : DC mX1_step 13 = .ok (.iastore, 1) := dk_79 (dk_at dksX1_step_0 13 rfl rfl)
theorem dX1_step_14 : DC mX1_step 14 = .ok (.dup, 1) := dk_89 (dk_at dksX1_step_0 14 rfl rfl)
theorem dX1_step_15 : DC mX1_step 15 = .ok (.iconst 2, 1) := dk_5 (dk_at dksX1_step_0 15 rfl rfl)
theorem dX1_step_16 : DC mX1_step 16 = .ok (.iload 4, 2) := dk_21 4 (dk_at dksX1_step_0 16 rfl rfl)
theorem dX1_step_18 : DC mX1_step 18 = .ok (.iastore, 1) := dk_79 (dk_at dksX1_step_0 18 rfl rfl)
theorem dX1_step_19 : DC mX1_step 19 = .ok (.dup, 1) := dk_89 (dk_at dksX1_step_0 19 rfl rfl)
theorem dX1_step_20 : DC mX1_step 20 = .ok (.iconst 3, 1) := dk_6 (dk_at dksX1_step_0 20 rfl rfl)
theorem dX1_step_21 : DC mX1_step 21 = .ok (.iload 5, 2) := dk_21 5 (dk_at dksX1_step_0 21 rfl rfl)
theorem dX1_step_23 : DC mX1_step 23 = .ok (.iastore, 1) := dk_79 (dk_at dksX1_step_0 23 rfl rfl)
theorem dX1_step_24 : DC mX1_step 24 = .ok (.dup, 1) := dk_89 (dk_at dksX1_step_1 0 rfl rfl)
theorem dX1_step_25 : DC mX1_step 25 = .ok (.iconst 4, 1) := dk_7 (dk_at dksX1_step_1 1 rfl rfl)
theorem dX1_step_26 : DC mX1_step 26 = .ok (.iload_n 2, 1) := dk_28 (dk_at dksX1_step_1 2 rfl rfl)
theorem dX1_step_27 : DC mX1_step 27 = .ok (.iastore, 1) := dk_79 (dk_at dksX1_step_1 3 rfl rfl)
theorem dX1_step_28 : DC mX1_step 28 = .ok (.invokevirtual 116, 3) := dk_182 0 116 (dk_at dksX1_step_1 4 rfl rfl)
theorem dX1_step_31 : DC mX1_step 31 = .ok (.ireturn, 1) := dk_172 (dk_at dksX1_step_1 7 rfl rfl)
abbrev cX1_start : ByteArray := prog_1_method_18_code
def yX1_start : MethodName := ⟨RX1, "start", "(I)I"⟩
def mX1_start : MI := (⟨"TheatreSaga", "start", "(I)I"⟩, prog_1_method_18_code, 2, (Option.some FieldType.int), none, 39, 20)
theorem oX1_start : mO mX1_start = 39 := rfl
theorem lX1_start : mL mX1_start = 2 := rfl
theorem rX1_start : mR mX1_start = (Option.some FieldType.int) := rfl
theorem vX1_start : mV mX1_start = 20 := rfl
theorem nX1_start : (mY mX1_start).name = "start" := rfl
theorem hX1_start : mH mX1_start = none := rfl
theorem kX1_start : MOk mX1_start := ⟨q1721, q75, by decide +kernel⟩
theorem gX1_start : plainName (mY mX1_start).cls = true ∧ (mY mX1_start).cls = "TheatreSaga" := ⟨by decide +kernel, rfl⟩
def dkwX1_start_0 : List UInt8 := [42, 18, 122, 4, 188, 10, 89, 3, 27, 79, 182, 0, 116, 172]
abbrev dktX1_start_0 : List UInt8 := dkwX1_start_0 ++ []
theorem dksX1_start_0 : cX1_start.data.toList.drop 0 = dktX1_start_0 := by decide +kernel
theorem dX1_start_0 : DC mX1_start 0 = .ok (.aload_n 0, 1) := dk_42 (dk_at dksX1_start_0 0 rfl rfl)
theorem dX1_start_1 : DC mX1_start 1 = .ok (.ldc 122, 2) := dk_18 122 (dk_at dksX1_start_0 1 rfl rfl)
theorem dX1_start_3 : DC mX1_start 3 = .ok (.iconst 1, 1) := dk_4 (dk_at dksX1_start_0 3 rfl rfl)
theorem dX1_start_4 : DC mX1_start 4 = .ok (.newarray .int, 2) := dk_188_10 (dk_at dksX1_start_0 4 rfl rfl)
theorem dX1_start_6 : DC mX1_start 6 = .ok (.dup, 1) := dk_89 (dk_at dksX1_start_0 6 rfl rfl)
theorem dX1_start_7 : DC mX1_start 7 = .ok (.iconst 0, 1) := dk_3 (dk_at dksX1_start_0 7 rfl rfl)
theorem dX1_start_8 : DC mX1_start 8 = .ok (.iload_n 1, 1) := dk_27 (dk_at dksX1_start_0 8 rfl rfl)
theorem dX1_start_9 : DC mX1_start 9 = .ok (.iastore, 1) := dk_79 (dk_at dksX1_start_0 9 rfl rfl)
theorem dX1_start_10 : DC mX1_start 10 = .ok (.invokevirtual 116, 3) := dk_182 0 116 (dk_at dksX1_start_0 10 rfl rfl)
theorem dX1_start_13 : DC mX1_start 13 = .ok (.ireturn, 1) := dk_172 (dk_at dksX1_start_0 13 rfl rfl)
abbrev cX1_back : ByteArray := prog_1_method_19_code
def yX1_back : MethodName := ⟨RX1, "back", "(I)I"⟩
def mX1_back : MI := (⟨"TheatreSaga", "back", "(I)I"⟩, prog_1_method_19_code, 2, (Option.some FieldType.int), none, 39, 20)
theorem oX1_back : mO mX1_back = 39 := rfl
theorem lX1_back : mL mX1_back = 2 := rfl
theorem rX1_back : mR mX1_back = (Option.some FieldType.int) := rfl
theorem vX1_back : mV mX1_back = 20 := rfl
theorem nX1_back : (mY mX1_back).name = "back" := rfl
theorem hX1_back : mH mX1_back = none := rfl
theorem kX1_back : MOk mX1_back := ⟨q1729, q75, by decide +kernel⟩
theorem gX1_back : plainName (mY mX1_back).cls = true ∧ (mY mX1_back).cls = "TheatreSaga" := ⟨by decide +kernel, rfl⟩
def dkwX1_back_0 : List UInt8 := [42, 18, 124, 4, 188, 10, 89, 3, 27, 79, 182, 0, 116, 172]
abbrev dktX1_back_0 : List UInt8 := dkwX1_back_0 ++ []
theorem dksX1_back_0 : cX1_back.data.toList.drop 0 = dktX1_back_0 := by decide +kernel
theorem dX1_back_0 : DC mX1_back 0 = .ok (.aload_n 0, 1) := dk_42 (dk_at dksX1_back_0 0 rfl rfl)
theorem dX1_back_1 : DC mX1_back 1 = .ok (.ldc 124, 2) := dk_18 124 (dk_at dksX1_back_0 1 rfl rfl)
theorem dX1_back_3 : DC mX1_back 3 = .ok (.iconst 1, 1) := dk_4 (dk_at dksX1_back_0 3 rfl rfl)
theorem dX1_back_4 : DC mX1_back 4 = .ok (.newarray .int, 2) := dk_188_10 (dk_at dksX1_back_0 4 rfl rfl)
theorem dX1_back_6 : DC mX1_back 6 = .ok (.dup, 1) := dk_89 (dk_at dksX1_back_0 6 rfl rfl)
theorem dX1_back_7 : DC mX1_back 7 = .ok (.iconst 0, 1) := dk_3 (dk_at dksX1_back_0 7 rfl rfl)
theorem dX1_back_8 : DC mX1_back 8 = .ok (.iload_n 1, 1) := dk_27 (dk_at dksX1_back_0 8 rfl rfl)
theorem dX1_back_9 : DC mX1_back 9 = .ok (.iastore, 1) := dk_79 (dk_at dksX1_back_0 9 rfl rfl)
theorem dX1_back_10 : DC mX1_back 10 = .ok (.invokevirtual 116, 3) := dk_182 0 116 (dk_at dksX1_back_0 10 rfl rfl)
theorem dX1_back_13 : DC mX1_back 13 = .ok (.ireturn, 1) := dk_172 (dk_at dksX1_back_0 13 rfl rfl)
abbrev cX1_tourOf : ByteArray := prog_1_method_20_code
def yX1_tourOf : MethodName := ⟨RX1, "tourOf", "(II)I"⟩
def mX1_tourOf : MI := (⟨"TheatreSaga", "tourOf", "(II)I"⟩, prog_1_method_20_code, 4, (Option.some FieldType.int), none, 39, 11)
theorem oX1_tourOf : mO mX1_tourOf = 39 := rfl
theorem lX1_tourOf : mL mX1_tourOf = 4 := rfl
theorem rX1_tourOf : mR mX1_tourOf = (Option.some FieldType.int) := rfl
theorem vX1_tourOf : mV mX1_tourOf = 11 := rfl
theorem nX1_tourOf : (mY mX1_tourOf).name = "tourOf" := rfl
theorem hX1_tourOf : mH mX1_tourOf = none := rfl
theorem kX1_tourOf : MOk mX1_tourOf := ⟨q1737, q75, by decide +kernel⟩
theorem gX1_tourOf : plainName (mY mX1_tourOf).cls = true ∧ (mY mX1_tourOf).cls = "TheatreSaga" := ⟨by decide +kernel, rfl⟩
def dkwX1_tourOf_4 : List UInt8 := [45, 180, 0, 158, 167, 0, 14, 45, 180, 0, 161, 167, 0, 7, 45, 180, 0, 164, 172]
abbrev dktX1_tourOf_4 : List UInt8 := dkwX1_tourOf_4 ++ []
def dkwX1_tourOf_3 : List UInt8 := [167, 0, 42, 45, 180, 0, 149, 167, 0, 35, 45, 180, 0, 152, 167, 0, 28, 45, 180, 0, 155, 167, 0, 21]
abbrev dktX1_tourOf_3 : List UInt8 := dkwX1_tourOf_3 ++ dktX1_tourOf_4
def dkwX1_tourOf_2 : List UInt8 := [45, 180, 0, 137, 167, 0, 61, 45, 180, 0, 140, 167, 0, 54, 45, 180, 0, 143, 185, 0, 146, 1, 0]
abbrev dktX1_tourOf_2 : List UInt8 := dkwX1_tourOf_2 ++ dktX1_tourOf_3
def dkwX1_tourOf_1 : List UInt8 := [170, 0, 0, 0, 0, 0, 108, 0, 0, 0, 0, 0, 0, 0, 7, 0, 0, 0, 47, 0, 0, 0, 54, 0, 0, 0, 61, 0, 0, 0, 73, 0, 0, 0, 80, 0, 0, 0, 87, 0, 0, 0, 94, 0, 0, 0, 101]
abbrev dktX1_tourOf_1 : List UInt8 := dkwX1_tourOf_1 ++ dktX1_tourOf_2
def dkwX1_tourOf_0 : List UInt8 := [42, 27, 182, 0, 126, 78, 28, 3, 16, 8, 184, 0, 129, 184, 0, 133, 28]
abbrev dktX1_tourOf_0 : List UInt8 := dkwX1_tourOf_0 ++ dktX1_tourOf_1
theorem dksX1_tourOf_0 : cX1_tourOf.data.toList.drop 0 = dktX1_tourOf_0 := by decide +kernel
theorem dksX1_tourOf_1 : cX1_tourOf.data.toList.drop 17 = dktX1_tourOf_1 := dk_seg dksX1_tourOf_0 17 rfl rfl
theorem dksX1_tourOf_2 : cX1_tourOf.data.toList.drop 64 = dktX1_tourOf_2 := dk_seg dksX1_tourOf_1 47 rfl rfl
theorem dksX1_tourOf_3 : cX1_tourOf.data.toList.drop 87 = dktX1_tourOf_3 := dk_seg dksX1_tourOf_2 23 rfl rfl
theorem dksX1_tourOf_4 : cX1_tourOf.data.toList.drop 111 = dktX1_tourOf_4 := dk_seg dksX1_tourOf_3 24 rfl rfl
theorem dX1_tourOf_0 : DC mX1_tourOf 0 = .ok (.aload_n 0, 1) := dk_42 (dk_at dksX1_tourOf_0 0 rfl rfl)
theorem dX1_tourOf_1 : DC mX1_tourOf 1 = .ok (.iload_n 1, 1) := dk_27 (dk_at dksX1_tourOf_0 1 rfl rfl)
theorem dX1_tourOf_2 : DC mX1_tourOf 2 = .ok (.invokevirtual 126, 3) := dk_182 0 126 (dk_at dksX1_tourOf_0 2 rfl rfl)
theorem dX1_tourOf_5 : DC mX1_tourOf 5 = .ok (.astore_n 3, 1) := dk_78 (dk_at dksX1_tourOf_0 5 rfl rfl)
theorem dX1_tourOf_6 : DC mX1_tourOf 6 = .ok (.iload_n 2, 1) := dk_28 (dk_at dksX1_tourOf_0 6 rfl rfl)
theorem dX1_tourOf_7 : DC mX1_tourOf 7 = .ok (.iconst 0, 1) := dk_3 (dk_at dksX1_tourOf_0 7 rfl rfl)
theorem dX1_tourOf_8 : DC mX1_tourOf 8 = .ok (.bipush 8, 2) := dk_16 8 (dk_at dksX1_tourOf_0 8 rfl rfl)
theorem dX1_tourOf_10 : DC mX1_tourOf 10 = .ok (.invokestatic 129, 3) := dk_184 0 129 (dk_at dksX1_tourOf_0 10 rfl rfl)
theorem dX1_tourOf_13 : DC mX1_tourOf 13 = .ok (.invokestatic 133, 3) := dk_184 0 133 (dk_at dksX1_tourOf_0 13 rfl rfl)
theorem dX1_tourOf_16 : DC mX1_tourOf 16 = .ok (.iload_n 2, 1) := dk_28 (dk_at dksX1_tourOf_0 16 rfl rfl)
theorem dX1_tourOf_17 : DC mX1_tourOf 17 = .ok (.tableswitch 108 0 7 #[47, 54, 61, 73, 80, 87, 94, 101], 47) := by decide +kernel
theorem dX1_tourOf_64 : DC mX1_tourOf 64 = .ok (.aload_n 3, 1) := dk_45 (dk_at dksX1_tourOf_2 0 rfl rfl)
theorem dX1_tourOf_65 : DC mX1_tourOf 65 = .ok (.getfield 137, 3) := dk_180 0 137 (dk_at dksX1_tourOf_2 1 rfl rfl)
theorem dX1_tourOf_68 : DC mX1_tourOf 68 = .ok (.goto 61, 3) := dk_167 0 61 (dk_at dksX1_tourOf_2 4 rfl rfl)
theorem dX1_tourOf_71 : DC mX1_tourOf 71 = .ok (.aload_n 3, 1) := dk_45 (dk_at dksX1_tourOf_2 7 rfl rfl)
theorem dX1_tourOf_72 : DC mX1_tourOf 72 = .ok (.getfield 140, 3) := dk_180 0 140 (dk_at dksX1_tourOf_2 8 rfl rfl)
theorem dX1_tourOf_75 : DC mX1_tourOf 75 = .ok (.goto 54, 3) := dk_167 0 54 (dk_at dksX1_tourOf_2 11 rfl rfl)
theorem dX1_tourOf_78 : DC mX1_tourOf 78 = .ok (.aload_n 3, 1) := dk_45 (dk_at dksX1_tourOf_2 14 rfl rfl)
theorem dX1_tourOf_79 : DC mX1_tourOf 79 = .ok (.getfield 143, 3) := dk_180 0 143 (dk_at dksX1_tourOf_2 15 rfl rfl)
theorem dX1_tourOf_82 : DC mX1_tourOf 82 = .ok (.invokeinterface 146 1, 5) := by decide +kernel
theorem dX1_tourOf_87 : DC mX1_tourOf 87 = .ok (.goto 42, 3) := dk_167 0 42 (dk_at dksX1_tourOf_3 0 rfl rfl)
theorem dX1_tourOf_90 : DC mX1_tourOf 90 = .ok (.aload_n 3, 1) := dk_45 (dk_at dksX1_tourOf_3 3 rfl rfl)
theorem dX1_tourOf_91 : DC mX1_tourOf 91 = .ok (.getfield 149, 3) := dk_180 0 149 (dk_at dksX1_tourOf_3 4 rfl rfl)
theorem dX1_tourOf_94 : DC mX1_tourOf 94 = .ok (.goto 35, 3) := dk_167 0 35 (dk_at dksX1_tourOf_3 7 rfl rfl)
theorem dX1_tourOf_97 : DC mX1_tourOf 97 = .ok (.aload_n 3, 1) := dk_45 (dk_at dksX1_tourOf_3 10 rfl rfl)
theorem dX1_tourOf_98 : DC mX1_tourOf 98 = .ok (.getfield 152, 3) := dk_180 0 152 (dk_at dksX1_tourOf_3 11 rfl rfl)
theorem dX1_tourOf_101 : DC mX1_tourOf 101 = .ok (.goto 28, 3) := dk_167 0 28 (dk_at dksX1_tourOf_3 14 rfl rfl)
theorem dX1_tourOf_104 : DC mX1_tourOf 104 = .ok (.aload_n 3, 1) := dk_45 (dk_at dksX1_tourOf_3 17 rfl rfl)
theorem dX1_tourOf_105 : DC mX1_tourOf 105 = .ok (.getfield 155, 3) := dk_180 0 155 (dk_at dksX1_tourOf_3 18 rfl rfl)
theorem dX1_tourOf_108 : DC mX1_tourOf 108 = .ok (.goto 21, 3) := dk_167 0 21 (dk_at dksX1_tourOf_3 21 rfl rfl)
theorem dX1_tourOf_111 : DC mX1_tourOf 111 = .ok (.aload_n 3, 1) := dk_45 (dk_at dksX1_tourOf_4 0 rfl rfl)
theorem dX1_tourOf_112 : DC mX1_tourOf 112 = .ok (.getfield 158, 3) := dk_180 0 158 (dk_at dksX1_tourOf_4 1 rfl rfl)
theorem dX1_tourOf_115 : DC mX1_tourOf 115 = .ok (.goto 14, 3) := dk_167 0 14 (dk_at dksX1_tourOf_4 4 rfl rfl)
theorem dX1_tourOf_118 : DC mX1_tourOf 118 = .ok (.aload_n 3, 1) := dk_45 (dk_at dksX1_tourOf_4 7 rfl rfl)
theorem dX1_tourOf_119 : DC mX1_tourOf 119 = .ok (.getfield 161, 3) := dk_180 0 161 (dk_at dksX1_tourOf_4 8 rfl rfl)
theorem dX1_tourOf_122 : DC mX1_tourOf 122 = .ok (.goto 7, 3) := dk_167 0 7 (dk_at dksX1_tourOf_4 11 rfl rfl)
theorem dX1_tourOf_125 : DC mX1_tourOf 125 = .ok (.aload_n 3, 1) := dk_45 (dk_at dksX1_tourOf_4 14 rfl rfl)
theorem dX1_tourOf_126 : DC mX1_tourOf 126 = .ok (.getfield 164, 3) := dk_180 0 164 (dk_at dksX1_tourOf_4 15 rfl rfl)
theorem dX1_tourOf_129 : DC mX1_tourOf 129 = .ok (.ireturn, 1) := dk_172 (dk_at dksX1_tourOf_4 18 rfl rfl)
abbrev cX1_at : ByteArray := prog_1_method_15_code
def yX1_at : MethodName := ⟨RX1, "at", "(I)LTheatreSaga$Theatre$Tour;"⟩
def mX1_at : MI := (⟨"TheatreSaga", "at", "(I)LTheatreSaga$Theatre$Tour;"⟩, prog_1_method_15_code, 2, (Option.some (FieldType.object "TheatreSaga$Theatre$Tour")), none, 39, 10)
theorem oX1_at : mO mX1_at = 39 := rfl
theorem lX1_at : mL mX1_at = 2 := rfl
theorem rX1_at : mR mX1_at = (Option.some (FieldType.object "TheatreSaga$Theatre$Tour")) := rfl
theorem vX1_at : mV mX1_at = 10 := rfl
theorem nX1_at : (mY mX1_at).name = "at" := rfl
theorem hX1_at : mH mX1_at = none := rfl
theorem kX1_at : MOk mX1_at := ⟨q1741, q75, by decide +kernel⟩
theorem gX1_at : plainName (mY mX1_at).cls = true ∧ (mY mX1_at).cls = "TheatreSaga" := ⟨by decide +kernel, rfl⟩
def dkwX1_at_0 : List UInt8 := [42, 180, 0, 43, 180, 0, 104, 27, 184, 0, 108, 192, 0, 112, 176]
abbrev dktX1_at_0 : List UInt8 := dkwX1_at_0 ++ []
theorem dksX1_at_0 : cX1_at.data.toList.drop 0 = dktX1_at_0 := by decide +kernel
theorem dX1_at_0 : DC mX1_at 0 = .ok (.aload_n 0, 1) := dk_42 (dk_at dksX1_at_0 0 rfl rfl)
theorem dX1_at_1 : DC mX1_at 1 = .ok (.getfield 43, 3) := dk_180 0 43 (dk_at dksX1_at_0 1 rfl rfl)
theorem dX1_at_4 : DC mX1_at 4 = .ok (.getfield 104, 3) := dk_180 0 104 (dk_at dksX1_at_0 4 rfl rfl)
theorem dX1_at_7 : DC mX1_at 7 = .ok (.iload_n 1, 1) := dk_27 (dk_at dksX1_at_0 7 rfl rfl)
theorem dX1_at_8 : DC mX1_at 8 = .ok (.invokestatic 108, 3) := dk_184 0 108 (dk_at dksX1_at_0 8 rfl rfl)
theorem dX1_at_11 : DC mX1_at 11 = .ok (.checkcast 112, 3) := dk_192 0 112 (dk_at dksX1_at_0 11 rfl rfl)
theorem dX1_at_14 : DC mX1_at 14 = .ok (.areturn, 1) := dk_176 (dk_at dksX1_at_0 14 rfl rfl)
abbrev cX1_stepOf : ByteArray := prog_1_method_21_code
def yX1_stepOf : MethodName := ⟨RX1, "stepOf", "(III)I"⟩
def mX1_stepOf : MI := (⟨"TheatreSaga", "stepOf", "(III)I"⟩, prog_1_method_21_code, 6, (Option.some FieldType.int), none, 39, 11)
theorem oX1_stepOf : mO mX1_stepOf = 39 := rfl
theorem lX1_stepOf : mL mX1_stepOf = 6 := rfl
theorem rX1_stepOf : mR mX1_stepOf = (Option.some FieldType.int) := rfl
theorem vX1_stepOf : mV mX1_stepOf = 11 := rfl
theorem nX1_stepOf : (mY mX1_stepOf).name = "stepOf" := rfl
theorem hX1_stepOf : mH mX1_stepOf = none := rfl
theorem kX1_stepOf : MOk mX1_stepOf := ⟨q1752, q75, by decide +kernel⟩
theorem gX1_stepOf : plainName (mY mX1_stepOf).cls = true ∧ (mY mX1_stepOf).cls = "TheatreSaga" := ⟨by decide +kernel, rfl⟩
def dkwX1_stepOf_4 : List UInt8 := [25, 5, 182, 0, 178, 167, 0, 10, 25, 4, 180, 0, 181, 28, 46, 172]
abbrev dktX1_stepOf_4 : List UInt8 := dkwX1_stepOf_4 ++ []
def dkwX1_stepOf_3 : List UInt8 := [25, 5, 182, 0, 169, 167, 0, 34, 25, 5, 182, 0, 172, 167, 0, 26, 25, 5, 182, 0, 175, 167, 0, 18]
abbrev dktX1_stepOf_3 : List UInt8 := dkwX1_stepOf_3 ++ dktX1_stepOf_4
def dkwX1_stepOf_2 : List UInt8 := [170, 0, 0, 0, 61, 0, 0, 0, 0, 0, 0, 0, 3, 0, 0, 0, 29, 0, 0, 0, 37, 0, 0, 0, 45, 0, 0, 0, 53]
abbrev dktX1_stepOf_2 : List UInt8 := dkwX1_stepOf_2 ++ dktX1_stepOf_3
def dkwX1_stepOf_1 : List UInt8 := [184, 0, 129, 184, 0, 133, 29]
abbrev dktX1_stepOf_1 : List UInt8 := dkwX1_stepOf_1 ++ dktX1_stepOf_2
def dkwX1_stepOf_0 : List UInt8 := [42, 27, 182, 0, 126, 58, 4, 25, 4, 180, 0, 143, 28, 184, 0, 108, 192, 0, 167, 58, 5, 29, 3, 7]
abbrev dktX1_stepOf_0 : List UInt8 := dkwX1_stepOf_0 ++ dktX1_stepOf_1
theorem dksX1_stepOf_0 : cX1_stepOf.data.toList.drop 0 = dktX1_stepOf_0 := by decide +kernel
theorem dksX1_stepOf_1 : cX1_stepOf.data.toList.drop 24 = dktX1_stepOf_1 := dk_seg dksX1_stepOf_0 24 rfl rfl
theorem dksX1_stepOf_2 : cX1_stepOf.data.toList.drop 31 = dktX1_stepOf_2 := dk_seg dksX1_stepOf_1 7 rfl rfl
theorem dksX1_stepOf_3 : cX1_stepOf.data.toList.drop 60 = dktX1_stepOf_3 := dk_seg dksX1_stepOf_2 29 rfl rfl
theorem dksX1_stepOf_4 : cX1_stepOf.data.toList.drop 84 = dktX1_stepOf_4 := dk_seg dksX1_stepOf_3 24 rfl rfl
theorem dX1_stepOf_0 : DC mX1_stepOf 0 = .ok (.aload_n 0, 1) := dk_42 (dk_at dksX1_stepOf_0 0 rfl rfl)
theorem dX1_stepOf_1 : DC mX1_stepOf 1 = .ok (.iload_n 1, 1) := dk_27 (dk_at dksX1_stepOf_0 1 rfl rfl)
theorem dX1_stepOf_2 : DC mX1_stepOf 2 = .ok (.invokevirtual 126, 3) := dk_182 0 126 (dk_at dksX1_stepOf_0 2 rfl rfl)
theorem dX1_stepOf_5 : DC mX1_stepOf 5 = .ok (.astore 4, 2) := dk_58 4 (dk_at dksX1_stepOf_0 5 rfl rfl)
theorem dX1_stepOf_7 : DC mX1_stepOf 7 = .ok (.aload 4, 2) := dk_25 4 (dk_at dksX1_stepOf_0 7 rfl rfl)
theorem dX1_stepOf_9 : DC mX1_stepOf 9 = .ok (.getfield 143, 3) := dk_180 0 143 (dk_at dksX1_stepOf_0 9 rfl rfl)
theorem dX1_stepOf_12 : DC mX1_stepOf 12 = .ok (.iload_n 2, 1) := dk_28 (dk_at dksX1_stepOf_0 12 rfl rfl)
theorem dX1_stepOf_13 : DC mX1_stepOf 13 = .ok (.invokestatic 108, 3) := dk_184 0 108 (dk_at dksX1_stepOf_0 13 rfl rfl)
theorem dX1_stepOf_16 : DC mX1_stepOf 16 = .ok (.checkcast 167, 3) := dk_192 0 167 (dk_at dksX1_stepOf_0 16 rfl rfl)
theorem dX1_stepOf_19 : DC mX1_stepOf 19 = .ok (.astore 5, 2) := dk_58 5 (dk_at dksX1_stepOf_0 19 rfl rfl)
theorem dX1_stepOf_21 : DC mX1_stepOf 21 = .ok (.iload_n 3, 1) := dk_29 (dk_at dksX1_stepOf_0 21 rfl rfl)
theorem dX1_stepOf_22 : DC mX1_stepOf 22 = .ok (.iconst 0, 1) := dk_3 (dk_at dksX1_stepOf_0 22 rfl rfl)
theorem dX1_stepOf_23 : DC mX1_stepOf 23 = .ok (.iconst 4, 1) := dk_7 (dk_at dksX1_stepOf_0 23 rfl rfl)
theorem dX1_stepOf_24 : DC mX1_stepOf 24 = .ok (.invokestatic 129, 3) := dk_184 0 129 (dk_at dksX1_stepOf_1 0 rfl rfl)
theorem dX1_stepOf_27 : DC mX1_stepOf 27 = .ok (.invokestatic 133, 3) := dk_184 0 133 (dk_at dksX1_stepOf_1 3 rfl rfl)
theorem dX1_stepOf_30 : DC mX1_stepOf 30 = .ok (.iload_n 3, 1) := dk_29 (dk_at dksX1_stepOf_1 6 rfl rfl)
theorem dX1_stepOf_31 : DC mX1_stepOf 31 = .ok (.tableswitch 61 0 3 #[29, 37, 45, 53], 29) := by decide +kernel
theorem dX1_stepOf_60 : DC mX1_stepOf 60 = .ok (.aload 5, 2) := dk_25 5 (dk_at dksX1_stepOf_3 0 rfl rfl)
theorem dX1_stepOf_62 : DC mX1_stepOf 62 = .ok (.invokevirtual 169, 3) := dk_182 0 169 (dk_at dksX1_stepOf_3 2 rfl rfl)
theorem dX1_stepOf_65 : DC mX1_stepOf 65 = .ok (.goto 34, 3) := dk_167 0 34 (dk_at dksX1_stepOf_3 5 rfl rfl)
theorem dX1_stepOf_68 : DC mX1_stepOf 68 = .ok (.aload 5, 2) := dk_25 5 (dk_at dksX1_stepOf_3 8 rfl rfl)
theorem dX1_stepOf_70 : DC mX1_stepOf 70 = .ok (.invokevirtual 172, 3) := dk_182 0 172 (dk_at dksX1_stepOf_3 10 rfl rfl)
theorem dX1_stepOf_73 : DC mX1_stepOf 73 = .ok (.goto 26, 3) := dk_167 0 26 (dk_at dksX1_stepOf_3 13 rfl rfl)
theorem dX1_stepOf_76 : DC mX1_stepOf 76 = .ok (.aload 5, 2) := dk_25 5 (dk_at dksX1_stepOf_3 16 rfl rfl)
theorem dX1_stepOf_78 : DC mX1_stepOf 78 = .ok (.invokevirtual 175, 3) := dk_182 0 175 (dk_at dksX1_stepOf_3 18 rfl rfl)
theorem dX1_stepOf_81 : DC mX1_stepOf 81 = .ok (.goto 18, 3) := dk_167 0 18 (dk_at dksX1_stepOf_3 21 rfl rfl)
theorem dX1_stepOf_84 : DC mX1_stepOf 84 = .ok (.aload 5, 2) := dk_25 5 (dk_at dksX1_stepOf_4 0 rfl rfl)
theorem dX1_stepOf_86 : DC mX1_stepOf 86 = .ok (.invokevirtual 178, 3) := dk_182 0 178 (dk_at dksX1_stepOf_4 2 rfl rfl)
theorem dX1_stepOf_89 : DC mX1_stepOf 89 = .ok (.goto 10, 3) := dk_167 0 10 (dk_at dksX1_stepOf_4 5 rfl rfl)
theorem dX1_stepOf_92 : DC mX1_stepOf 92 = .ok (.aload 4, 2) := dk_25 4 (dk_at dksX1_stepOf_4 8 rfl rfl)
theorem dX1_stepOf_94 : DC mX1_stepOf 94 = .ok (.getfield 181, 3) := dk_180 0 181 (dk_at dksX1_stepOf_4 10 rfl rfl)
theorem dX1_stepOf_97 : DC mX1_stepOf 97 = .ok (.iload_n 2, 1) := dk_28 (dk_at dksX1_stepOf_4 13 rfl rfl)
theorem dX1_stepOf_98 : DC mX1_stepOf 98 = .ok (.iaload, 1) := dk_46 (dk_at dksX1_stepOf_4 14 rfl rfl)
theorem dX1_stepOf_99 : DC mX1_stepOf 99 = .ok (.ireturn, 1) := dk_172 (dk_at dksX1_stepOf_4 15 rfl rfl)
abbrev cX1_shut : ByteArray := prog_1_method_22_code
def yX1_shut : MethodName := ⟨RX1, "shut", "(IZ)I"⟩
def mX1_shut : MI := (⟨"TheatreSaga", "shut", "(IZ)I"⟩, prog_1_method_22_code, 3, (Option.some FieldType.int), none, 39, 20)
theorem oX1_shut : mO mX1_shut = 39 := rfl
theorem lX1_shut : mL mX1_shut = 3 := rfl
theorem rX1_shut : mR mX1_shut = (Option.some FieldType.int) := rfl
theorem vX1_shut : mV mX1_shut = 20 := rfl
theorem nX1_shut : (mY mX1_shut).name = "shut" := rfl
theorem hX1_shut : mH mX1_shut = none := rfl
theorem kX1_shut : MOk mX1_shut := ⟨q1764, q75, by decide +kernel⟩
theorem gX1_shut : plainName (mY mX1_shut).cls = true ∧ (mY mX1_shut).cls = "TheatreSaga" := ⟨by decide +kernel, rfl⟩
def dkwX1_shut_0 : List UInt8 := [42, 28, 153, 0, 8, 18, 185, 167, 0, 5, 18, 187, 4, 188, 10, 89, 3, 27, 79, 182, 0, 116, 172]
abbrev dktX1_shut_0 : List UInt8 := dkwX1_shut_0 ++ []
theorem dksX1_shut_0 : cX1_shut.data.toList.drop 0 = dktX1_shut_0 := by decide +kernel
theorem dX1_shut_0 : DC mX1_shut 0 = .ok (.aload_n 0, 1) := dk_42 (dk_at dksX1_shut_0 0 rfl rfl)
theorem dX1_shut_1 : DC mX1_shut 1 = .ok (.iload_n 2, 1) := dk_28 (dk_at dksX1_shut_0 1 rfl rfl)
theorem dX1_shut_2 : DC mX1_shut 2 = .ok (.ifCond .eq 8, 3) := dk_153 0 8 (dk_at dksX1_shut_0 2 rfl rfl)
theorem dX1_shut_5 : DC mX1_shut 5 = .ok (.ldc 185, 2) := dk_18 185 (dk_at dksX1_shut_0 5 rfl rfl)
theorem dX1_shut_7 : DC mX1_shut 7 = .ok (.goto 5, 3) := dk_167 0 5 (dk_at dksX1_shut_0 7 rfl rfl)
theorem dX1_shut_10 : DC mX1_shut 10 = .ok (.ldc 187, 2) := dk_18 187 (dk_at dksX1_shut_0 10 rfl rfl)
theorem dX1_shut_12 : DC mX1_shut 12 = .ok (.iconst 1, 1) := dk_4 (dk_at dksX1_shut_0 12 rfl rfl)
theorem dX1_shut_13 : DC mX1_shut 13 = .ok (.newarray .int, 2) := dk_188_10 (dk_at dksX1_shut_0 13 rfl rfl)
theorem dX1_shut_15 : DC mX1_shut 15 = .ok (.dup, 1) := dk_89 (dk_at dksX1_shut_0 15 rfl rfl)
theorem dX1_shut_16 : DC mX1_shut 16 = .ok (.iconst 0, 1) := dk_3 (dk_at dksX1_shut_0 16 rfl rfl)
theorem dX1_shut_17 : DC mX1_shut 17 = .ok (.iload_n 1, 1) := dk_27 (dk_at dksX1_shut_0 17 rfl rfl)
theorem dX1_shut_18 : DC mX1_shut 18 = .ok (.iastore, 1) := dk_79 (dk_at dksX1_shut_0 18 rfl rfl)
theorem dX1_shut_19 : DC mX1_shut 19 = .ok (.invokevirtual 116, 3) := dk_182 0 116 (dk_at dksX1_shut_0 19 rfl rfl)
theorem dX1_shut_22 : DC mX1_shut 22 = .ok (.ireturn, 1) := dk_172 (dk_at dksX1_shut_0 22 rfl rfl)
abbrev cX1_dear : ByteArray := prog_1_method_23_code
def yX1_dear : MethodName := ⟨RX1, "dear", "(II)I"⟩
def mX1_dear : MI := (⟨"TheatreSaga", "dear", "(II)I"⟩, prog_1_method_23_code, 3, (Option.some FieldType.int), none, 39, 20)
theorem oX1_dear : mO mX1_dear = 39 := rfl
theorem lX1_dear : mL mX1_dear = 3 := rfl
theorem rX1_dear : mR mX1_dear = (Option.some FieldType.int) := rfl
theorem vX1_dear : mV mX1_dear = 20 := rfl
theorem nX1_dear : (mY mX1_dear).name = "dear" := rfl
theorem hX1_dear : mH mX1_dear = none := rfl
theorem kX1_dear : MOk mX1_dear := ⟨q1773, q75, by decide +kernel⟩
theorem gX1_dear : plainName (mY mX1_dear).cls = true ∧ (mY mX1_dear).cls = "TheatreSaga" := ⟨by decide +kernel, rfl⟩
def dkwX1_dear_0 : List UInt8 := [42, 18, 189, 5, 188, 10, 89, 3, 27, 79, 89, 4, 28, 79, 182, 0, 116, 172]
abbrev dktX1_dear_0 : List UInt8 := dkwX1_dear_0 ++ []
theorem dksX1_dear_0 : cX1_dear.data.toList.drop 0 = dktX1_dear_0 := by decide +kernel
theorem dX1_dear_0 : DC mX1_dear 0 = .ok (.aload_n 0, 1) := dk_42 (dk_at dksX1_dear_0 0 rfl rfl)
theorem dX1_dear_1 : DC mX1_dear 1 = .ok (.ldc 189, 2) := dk_18 189 (dk_at dksX1_dear_0 1 rfl rfl)
theorem dX1_dear_3 : DC mX1_dear 3 = .ok (.iconst 2, 1) := dk_5 (dk_at dksX1_dear_0 3 rfl rfl)
theorem dX1_dear_4 : DC mX1_dear 4 = .ok (.newarray .int, 2) := dk_188_10 (dk_at dksX1_dear_0 4 rfl rfl)
theorem dX1_dear_6 : DC mX1_dear 6 = .ok (.dup, 1) := dk_89 (dk_at dksX1_dear_0 6 rfl rfl)
theorem dX1_dear_7 : DC mX1_dear 7 = .ok (.iconst 0, 1) := dk_3 (dk_at dksX1_dear_0 7 rfl rfl)
theorem dX1_dear_8 : DC mX1_dear 8 = .ok (.iload_n 1, 1) := dk_27 (dk_at dksX1_dear_0 8 rfl rfl)
theorem dX1_dear_9 : DC mX1_dear 9 = .ok (.iastore, 1) := dk_79 (dk_at dksX1_dear_0 9 rfl rfl)
theorem dX1_dear_10 : DC mX1_dear 10 = .ok (.dup, 1) := dk_89 (dk_at dksX1_dear_0 10 rfl rfl)
theorem dX1_dear_11 : DC mX1_dear 11 = .ok (.iconst 1, 1) := dk_4 (dk_at dksX1_dear_0 11 rfl rfl)
theorem dX1_dear_12 : DC mX1_dear 12 = .ok (.iload_n 2, 1) := dk_28 (dk_at dksX1_dear_0 12 rfl rfl)
theorem dX1_dear_13 : DC mX1_dear 13 = .ok (.iastore, 1) := dk_79 (dk_at dksX1_dear_0 13 rfl rfl)
theorem dX1_dear_14 : DC mX1_dear 14 = .ok (.invokevirtual 116, 3) := dk_182 0 116 (dk_at dksX1_dear_0 14 rfl rfl)
theorem dX1_dear_17 : DC mX1_dear 17 = .ok (.ireturn, 1) := dk_172 (dk_at dksX1_dear_0 17 rfl rfl)
abbrev cX1_townOf : ByteArray := prog_1_method_25_code
def yX1_townOf : MethodName := ⟨RX1, "townOf", "(II)I"⟩
def mX1_townOf : MI := (⟨"TheatreSaga", "townOf", "(II)I"⟩, prog_1_method_25_code, 4, (Option.some FieldType.int), none, 39, 12)
theorem oX1_townOf : mO mX1_townOf = 39 := rfl
theorem lX1_townOf : mL mX1_townOf = 4 := rfl
theorem rX1_townOf : mR mX1_townOf = (Option.some FieldType.int) := rfl
theorem vX1_townOf : mV mX1_townOf = 12 := rfl
theorem nX1_townOf : (mY mX1_townOf).name = "townOf" := rfl
theorem hX1_townOf : mH mX1_townOf = none := rfl
theorem kX1_townOf : MOk mX1_townOf := ⟨q1781, q75, by decide +kernel⟩
theorem gX1_townOf : plainName (mY mX1_townOf).cls = true ∧ (mY mX1_townOf).cls = "TheatreSaga" := ⟨by decide +kernel, rfl⟩
def dkwX1_townOf_3 : List UInt8 := [180, 0, 227, 172]
abbrev dktX1_townOf_3 : List UInt8 := dkwX1_townOf_3 ++ []
def dkwX1_townOf_2 : List UInt8 := [45, 180, 0, 220, 167, 0, 22, 28, 5, 160, 0, 13, 42, 27, 2, 2, 182, 0, 223, 167, 0, 7, 45]
abbrev dktX1_townOf_2 : List UInt8 := dkwX1_townOf_2 ++ dktX1_townOf_3
def dkwX1_townOf_1 : List UInt8 := [28, 154, 0, 18, 45, 180, 0, 216, 153, 0, 7, 3, 167, 0, 38, 4, 167, 0, 34, 28, 4, 160, 0, 10]
abbrev dktX1_townOf_1 : List UInt8 := dkwX1_townOf_1 ++ dktX1_townOf_2
def dkwX1_townOf_0 : List UInt8 := [42, 180, 0, 43, 180, 0, 211, 27, 184, 0, 108, 192, 0, 214, 78, 28, 3, 6, 184, 0, 129, 184, 0, 133]
abbrev dktX1_townOf_0 : List UInt8 := dkwX1_townOf_0 ++ dktX1_townOf_1
theorem dksX1_townOf_0 : cX1_townOf.data.toList.drop 0 = dktX1_townOf_0 := by decide +kernel
theorem dksX1_townOf_1 : cX1_townOf.data.toList.drop 24 = dktX1_townOf_1 := dk_seg dksX1_townOf_0 24 rfl rfl
theorem dksX1_townOf_2 : cX1_townOf.data.toList.drop 48 = dktX1_townOf_2 := dk_seg dksX1_townOf_1 24 rfl rfl
theorem dksX1_townOf_3 : cX1_townOf.data.toList.drop 71 = dktX1_townOf_3 := dk_seg dksX1_townOf_2 23 rfl rfl
theorem dX1_townOf_0 : DC mX1_townOf 0 = .ok (.aload_n 0, 1) := dk_42 (dk_at dksX1_townOf_0 0 rfl rfl)
theorem dX1_townOf_1 : DC mX1_townOf 1 = .ok (.getfield 43, 3) := dk_180 0 43 (dk_at dksX1_townOf_0 1 rfl rfl)
theorem dX1_townOf_4 : DC mX1_townOf 4 = .ok (.getfield 211, 3) := dk_180 0 211 (dk_at dksX1_townOf_0 4 rfl rfl)
theorem dX1_townOf_7 : DC mX1_townOf 7 = .ok (.iload_n 1, 1) := dk_27 (dk_at dksX1_townOf_0 7 rfl rfl)
theorem dX1_townOf_8 : DC mX1_townOf 8 = .ok (.invokestatic 108, 3) := dk_184 0 108 (dk_at dksX1_townOf_0 8 rfl rfl)
theorem dX1_townOf_11 : DC mX1_townOf 11 = .ok (.checkcast 214, 3) := dk_192 0 214 (dk_at dksX1_townOf_0 11 rfl rfl)
theorem dX1_townOf_14 : DC mX1_townOf 14 = .ok (.astore_n 3, 1) := dk_78 (dk_at dksX1_townOf_0 14 rfl rfl)
theorem dX1_townOf_15 : DC mX1_townOf 15 = .ok (.iload_n 2, 1) := dk_28 (dk_at dksX1_townOf_0 15 rfl rfl)
theorem dX1_townOf_16 : DC mX1_townOf 16 = .ok (.iconst 0, 1) := dk_3 (dk_at dksX1_townOf_0 16 rfl rfl)
theorem dX1_townOf_17 : DC mX1_townOf 17 = .ok (.iconst 3, 1) := dk_6 (dk_at dksX1_townOf_0 17 rfl rfl)
theorem dX1_townOf_18 : DC mX1_townOf 18 = .ok (.invokestatic 129, 3) := dk_184 0 129 (dk_at dksX1_townOf_0 18 rfl rfl)
theorem dX1_townOf_21 : DC mX1_townOf 21 = .ok (.invokestatic 133, 3) := dk_184 0 133 (dk_at dksX1_townOf_0 21 rfl rfl)
theorem dX1_townOf_24 : DC mX1_townOf 24 = .ok (.iload_n 2, 1) := dk_28 (dk_at dksX1_townOf_1 0 rfl rfl)
theorem dX1_townOf_25 : DC mX1_townOf 25 = .ok (.ifCond .ne 18, 3) := dk_154 0 18 (dk_at dksX1_townOf_1 1 rfl rfl)
theorem dX1_townOf_28 : DC mX1_townOf 28 = .ok (.aload_n 3, 1) := dk_45 (dk_at dksX1_townOf_1 4 rfl rfl)
theorem dX1_townOf_29 : DC mX1_townOf 29 = .ok (.getfield 216, 3) := dk_180 0 216 (dk_at dksX1_townOf_1 5 rfl rfl)
theorem dX1_townOf_32 : DC mX1_townOf 32 = .ok (.ifCond .eq 7, 3) := dk_153 0 7 (dk_at dksX1_townOf_1 8 rfl rfl)
theorem dX1_townOf_35 : DC mX1_townOf 35 = .ok (.iconst 0, 1) := dk_3 (dk_at dksX1_townOf_1 11 rfl rfl)
theorem dX1_townOf_36 : DC mX1_townOf 36 = .ok (.goto 38, 3) := dk_167 0 38 (dk_at dksX1_townOf_1 12 rfl rfl)
theorem dX1_townOf_39 : DC mX1_townOf 39 = .ok (.iconst 1, 1) := dk_4 (dk_at dksX1_townOf_1 15 rfl rfl)
theorem dX1_townOf_40 : DC mX1_townOf 40 = .ok (.goto 34, 3) := dk_167 0 34 (dk_at dksX1_townOf_1 16 rfl rfl)
theorem dX1_townOf_43 : DC mX1_townOf 43 = .ok (.iload_n 2, 1) := dk_28 (dk_at dksX1_townOf_1 19 rfl rfl)
theorem dX1_townOf_44 : DC mX1_townOf 44 = .ok (.iconst 1, 1) := dk_4 (dk_at dksX1_townOf_1 20 rfl rfl)
theorem dX1_townOf_45 : DC mX1_townOf 45 = .ok (.if_icmp .ne 10, 3) := dk_160 0 10 (dk_at dksX1_townOf_1 21 rfl rfl)
theorem dX1_townOf_48 : DC mX1_townOf 48 = .ok (.aload_n 3, 1) := dk_45 (dk_at dksX1_townOf_2 0 rfl rfl)
theorem dX1_townOf_49 : DC mX1_townOf 49 = .ok (.getfield 220, 3) := dk_180 0 220 (dk_at dksX1_townOf_2 1 rfl rfl)
theorem dX1_townOf_52 : DC mX1_townOf 52 = .ok (.goto 22, 3) := dk_167 0 22 (dk_at dksX1_townOf_2 4 rfl rfl)
theorem dX1_townOf_55 : DC mX1_townOf 55 = .ok (.iload_n 2, 1) := dk_28 (dk_at dksX1_townOf_2 7 rfl rfl)
theorem dX1_townOf_56 : DC mX1_townOf 56 = .ok (.iconst 2, 1) := dk_5 (dk_at dksX1_townOf_2 8 rfl rfl)
theorem dX1_townOf_57 : DC mX1_townOf 57 = .ok (.if_icmp .ne 13, 3) := dk_160 0 13 (dk_at dksX1_townOf_2 9 rfl rfl)
theorem dX1_townOf_60 : DC mX1_townOf 60 = .ok (.aload_n 0, 1) := dk_42 (dk_at dksX1_townOf_2 12 rfl rfl)
theorem dX1_townOf_61 : DC mX1_townOf 61 = .ok (.iload_n 1, 1) := dk_27 (dk_at dksX1_townOf_2 13 rfl rfl)
theorem dX1_townOf_62 : DC mX1_townOf 62 = .ok (.iconst (-1), 1) := dk_2 (dk_at dksX1_townOf_2 14 rfl rfl)
theorem dX1_townOf_63 : DC mX1_townOf 63 = .ok (.iconst (-1), 1) := dk_2 (dk_at dksX1_townOf_2 15 rfl rfl)
theorem dX1_townOf_64 : DC mX1_townOf 64 = .ok (.invokevirtual 223, 3) := dk_182 0 223 (dk_at dksX1_townOf_2 16 rfl rfl)
theorem dX1_townOf_67 : DC mX1_townOf 67 = .ok (.goto 7, 3) := dk_167 0 7 (dk_at dksX1_townOf_2 19 rfl rfl)
theorem dX1_townOf_70 : DC mX1_townOf 70 = .ok (.aload_n 3, 1) := dk_45 (dk_at dksX1_townOf_2 22 rfl rfl)
theorem dX1_townOf_71 : DC mX1_townOf 71 = .ok (.getfield 227, 3) := dk_180 0 227 (dk_at dksX1_townOf_3 0 rfl rfl)
theorem dX1_townOf_74 : DC mX1_townOf 74 = .ok (.ireturn, 1) := dk_172 (dk_at dksX1_townOf_3 3 rfl rfl)
abbrev cX1_bookedIn : ByteArray := prog_1_method_24_code
def yX1_bookedIn : MethodName := ⟨RX1, "bookedIn", "(III)I"⟩
def mX1_bookedIn : MI := (⟨"TheatreSaga", "bookedIn", "(III)I"⟩, prog_1_method_24_code, 10, (Option.some FieldType.int), none, 39, 11)
theorem oX1_bookedIn : mO mX1_bookedIn = 39 := rfl
theorem lX1_bookedIn : mL mX1_bookedIn = 10 := rfl
theorem rX1_bookedIn : mR mX1_bookedIn = (Option.some FieldType.int) := rfl
theorem vX1_bookedIn : mV mX1_bookedIn = 11 := rfl
theorem nX1_bookedIn : (mY mX1_bookedIn).name = "bookedIn" := rfl
theorem hX1_bookedIn : mH mX1_bookedIn = none := rfl
theorem kX1_bookedIn : MOk mX1_bookedIn := ⟨q1786, q75, by decide +kernel⟩
theorem gX1_bookedIn : plainName (mY mX1_bookedIn).cls = true ∧ (mY mX1_bookedIn).cls = "TheatreSaga" := ⟨by decide +kernel, rfl⟩
def dkwX1_bookedIn_6 : List UInt8 := [167, 0, 4, 3, 96, 54, 4, 167, 255, 167, 167, 255, 124, 21, 4, 172]
abbrev dktX1_bookedIn_6 : List UInt8 := dkwX1_bookedIn_6 ++ []
def dkwX1_bookedIn_5 : List UInt8 := [54, 9, 21, 4, 21, 9, 153, 0, 20, 28, 2, 160, 0, 7, 4, 167, 0, 12, 25, 8, 182, 0, 178]
abbrev dktX1_bookedIn_5 : List UInt8 := dkwX1_bookedIn_5 ++ dktX1_bookedIn_6
def dkwX1_bookedIn_4 : List UInt8 := [25, 8, 182, 0, 169, 28, 160, 0, 16, 25, 8, 182, 0, 175, 29, 160, 0, 7, 4, 167, 0, 4, 3]
abbrev dktX1_bookedIn_4 : List UInt8 := dkwX1_bookedIn_4 ++ dktX1_bookedIn_5
def dkwX1_bookedIn_3 : List UInt8 := [185, 0, 201, 1, 0, 192, 0, 167, 58, 8, 25, 8, 182, 0, 172, 27, 160, 0, 30, 28, 2, 159, 0, 21]
abbrev dktX1_bookedIn_3 : List UInt8 := dkwX1_bookedIn_3 ++ dktX1_bookedIn_4
def dkwX1_bookedIn_2 : List UInt8 := [180, 0, 149, 184, 0, 204, 182, 0, 210, 58, 7, 25, 7, 185, 0, 195, 1, 0, 153, 0, 85, 25, 7]
abbrev dktX1_bookedIn_2 : List UInt8 := dkwX1_bookedIn_2 ++ dktX1_bookedIn_3
def dkwX1_bookedIn_1 : List UInt8 := [153, 0, 128, 25, 5, 185, 0, 201, 1, 0, 192, 0, 112, 58, 6, 25, 6, 180, 0, 143, 25, 6]
abbrev dktX1_bookedIn_1 : List UInt8 := dkwX1_bookedIn_1 ++ dktX1_bookedIn_2
def dkwX1_bookedIn_0 : List UInt8 := [3, 54, 4, 42, 180, 0, 43, 180, 0, 104, 185, 0, 191, 1, 0, 58, 5, 25, 5, 185, 0, 195, 1, 0]
abbrev dktX1_bookedIn_0 : List UInt8 := dkwX1_bookedIn_0 ++ dktX1_bookedIn_1
theorem dksX1_bookedIn_0 : cX1_bookedIn.data.toList.drop 0 = dktX1_bookedIn_0 := by decide +kernel
theorem dksX1_bookedIn_1 : cX1_bookedIn.data.toList.drop 24 = dktX1_bookedIn_1 := dk_seg dksX1_bookedIn_0 24 rfl rfl
theorem dksX1_bookedIn_2 : cX1_bookedIn.data.toList.drop 46 = dktX1_bookedIn_2 := dk_seg dksX1_bookedIn_1 22 rfl rfl
theorem dksX1_bookedIn_3 : cX1_bookedIn.data.toList.drop 69 = dktX1_bookedIn_3 := dk_seg dksX1_bookedIn_2 23 rfl rfl
theorem dksX1_bookedIn_4 : cX1_bookedIn.data.toList.drop 93 = dktX1_bookedIn_4 := dk_seg dksX1_bookedIn_3 24 rfl rfl
theorem dksX1_bookedIn_5 : cX1_bookedIn.data.toList.drop 116 = dktX1_bookedIn_5 := dk_seg dksX1_bookedIn_4 23 rfl rfl
theorem dksX1_bookedIn_6 : cX1_bookedIn.data.toList.drop 139 = dktX1_bookedIn_6 := dk_seg dksX1_bookedIn_5 23 rfl rfl
theorem dX1_bookedIn_0 : DC mX1_bookedIn 0 = .ok (.iconst 0, 1) := dk_3 (dk_at dksX1_bookedIn_0 0 rfl rfl)
theorem dX1_bookedIn_1 : DC mX1_bookedIn 1 = .ok (.istore 4, 2) := dk_54 4 (dk_at dksX1_bookedIn_0 1 rfl rfl)
theorem dX1_bookedIn_3 : DC mX1_bookedIn 3 = .ok (.aload_n 0, 1) := dk_42 (dk_at dksX1_bookedIn_0 3 rfl rfl)
theorem dX1_bookedIn_4 : DC mX1_bookedIn 4 = .ok (.getfield 43, 3) := dk_180 0 43 (dk_at dksX1_bookedIn_0 4 rfl rfl)
theorem dX1_bookedIn_7 : DC mX1_bookedIn 7 = .ok (.getfield 104, 3) := dk_180 0 104 (dk_at dksX1_bookedIn_0 7 rfl rfl)
theorem dX1_bookedIn_10 : DC mX1_bookedIn 10 = .ok (.invokeinterface 191 1, 5) := by decide +kernel
theorem dX1_bookedIn_15 : DC mX1_bookedIn 15 = .ok (.astore 5, 2) := dk_58 5 (dk_at dksX1_bookedIn_0 15 rfl rfl)
theorem dX1_bookedIn_17 : DC mX1_bookedIn 17 = .ok (.aload 5, 2) := dk_25 5 (dk_at dksX1_bookedIn_0 17 rfl rfl)
theorem dX1_bookedIn_19 : DC mX1_bookedIn 19 = .ok (.invokeinterface 195 1, 5) := by decide +kernel
theorem dX1_bookedIn_24 : DC mX1_bookedIn 24 = .ok (.ifCond .eq 128, 3) := dk_153 0 128 (dk_at dksX1_bookedIn_1 0 rfl rfl)
theorem dX1_bookedIn_27 : DC mX1_bookedIn 27 = .ok (.aload 5, 2) := dk_25 5 (dk_at dksX1_bookedIn_1 3 rfl rfl)
theorem dX1_bookedIn_29 : DC mX1_bookedIn 29 = .ok (.invokeinterface 201 1, 5) := by decide +kernel
theorem dX1_bookedIn_34 : DC mX1_bookedIn 34 = .ok (.checkcast 112, 3) := dk_192 0 112 (dk_at dksX1_bookedIn_1 10 rfl rfl)
theorem dX1_bookedIn_37 : DC mX1_bookedIn 37 = .ok (.astore 6, 2) := dk_58 6 (dk_at dksX1_bookedIn_1 13 rfl rfl)
theorem dX1_bookedIn_39 : DC mX1_bookedIn 39 = .ok (.aload 6, 2) := dk_25 6 (dk_at dksX1_bookedIn_1 15 rfl rfl)
theorem dX1_bookedIn_41 : DC mX1_bookedIn 41 = .ok (.getfield 143, 3) := dk_180 0 143 (dk_at dksX1_bookedIn_1 17 rfl rfl)
theorem dX1_bookedIn_44 : DC mX1_bookedIn 44 = .ok (.aload 6, 2) := dk_25 6 (dk_at dksX1_bookedIn_1 20 rfl rfl)
theorem dX1_bookedIn_46 : DC mX1_bookedIn 46 = .ok (.getfield 149, 3) := dk_180 0 149 (dk_at dksX1_bookedIn_2 0 rfl rfl)
theorem dX1_bookedIn_49 : DC mX1_bookedIn 49 = .ok (.invokestatic 204, 3) := dk_184 0 204 (dk_at dksX1_bookedIn_2 3 rfl rfl)
theorem dX1_bookedIn_52 : DC mX1_bookedIn 52 = .ok (.invokevirtual 210, 3) := dk_182 0 210 (dk_at dksX1_bookedIn_2 6 rfl rfl)
theorem dX1_bookedIn_55 : DC mX1_bookedIn 55 = .ok (.astore 7, 2) := dk_58 7 (dk_at dksX1_bookedIn_2 9 rfl rfl)
theorem dX1_bookedIn_57 : DC mX1_bookedIn 57 = .ok (.aload 7, 2) := dk_25 7 (dk_at dksX1_bookedIn_2 11 rfl rfl)
theorem dX1_bookedIn_59 : DC mX1_bookedIn 59 = .ok (.invokeinterface 195 1, 5) := by decide +kernel
theorem dX1_bookedIn_64 : DC mX1_bookedIn 64 = .ok (.ifCond .eq 85, 3) := dk_153 0 85 (dk_at dksX1_bookedIn_2 18 rfl rfl)
theorem dX1_bookedIn_67 : DC mX1_bookedIn 67 = .ok (.aload 7, 2) := dk_25 7 (dk_at dksX1_bookedIn_2 21 rfl rfl)
theorem dX1_bookedIn_69 : DC mX1_bookedIn 69 = .ok (.invokeinterface 201 1, 5) := by decide +kernel
theorem dX1_bookedIn_74 : DC mX1_bookedIn 74 = .ok (.checkcast 167, 3) := dk_192 0 167 (dk_at dksX1_bookedIn_3 5 rfl rfl)
theorem dX1_bookedIn_77 : DC mX1_bookedIn 77 = .ok (.astore 8, 2) := dk_58 8 (dk_at dksX1_bookedIn_3 8 rfl rfl)
theorem dX1_bookedIn_79 : DC mX1_bookedIn 79 = .ok (.aload 8, 2) := dk_25 8 (dk_at dksX1_bookedIn_3 10 rfl rfl)
theorem dX1_bookedIn_81 : DC mX1_bookedIn 81 = .ok (.invokevirtual 172, 3) := dk_182 0 172 (dk_at dksX1_bookedIn_3 12 rfl rfl)
theorem dX1_bookedIn_84 : DC mX1_bookedIn 84 = .ok (.iload_n 1, 1) := dk_27 (dk_at dksX1_bookedIn_3 15 rfl rfl)
theorem dX1_bookedIn_85 : DC mX1_bookedIn 85 = .ok (.if_icmp .ne 30, 3) := dk_160 0 30 (dk_at dksX1_bookedIn_3 16 rfl rfl)
theorem dX1_bookedIn_88 : DC mX1_bookedIn 88 = .ok (.iload_n 2, 1) := dk_28 (dk_at dksX1_bookedIn_3 19 rfl rfl)
theorem dX1_bookedIn_89 : DC mX1_bookedIn 89 = .ok (.iconst (-1), 1) := dk_2 (dk_at dksX1_bookedIn_3 20 rfl rfl)
theorem dX1_bookedIn_90 : DC mX1_bookedIn 90 = .ok (.if_icmp .eq 21, 3) := dk_159 0 21 (dk_at dksX1_bookedIn_3 21 rfl rfl)
theorem dX1_bookedIn_93 : DC mX1_bookedIn 93 = .ok (.aload 8, 2) := dk_25 8 (dk_at dksX1_bookedIn_4 0 rfl rfl)
theorem dX1_bookedIn_95 : DC mX1_bookedIn 95 = .ok (.invokevirtual 169, 3) := dk_182 0 169 (dk_at dksX1_bookedIn_4 2 rfl rfl)
theorem dX1_bookedIn_98 : DC mX1_bookedIn 98 = .ok (.iload_n 2, 1) := dk_28 (dk_at dksX1_bookedIn_4 5 rfl rfl)
theorem dX1_bookedIn_99 : DC mX1_bookedIn 99 = .ok (.if_icmp .ne 16, 3) := dk_160 0 16 (dk_at dksX1_bookedIn_4 6 rfl rfl)
theorem dX1_bookedIn_102 : DC mX1_bookedIn 102 = .ok (.aload 8, 2) := dk_25 8 (dk_at dksX1_bookedIn_4 9 rfl rfl)
theorem dX1_bookedIn_104 : DC mX1_bookedIn 104 = .ok (.invokevirtual 175, 3) := dk_182 0 175 (dk_at dksX1_bookedIn_4 11 rfl rfl)
theorem dX1_bookedIn_107 : DC mX1_bookedIn 107 = .ok (.iload_n 3, 1) := dk_29 (dk_at dksX1_bookedIn_4 14 rfl rfl)
theorem dX1_bookedIn_108 : DC mX1_bookedIn 108 = .ok (.if_icmp .ne 7, 3) := dk_160 0 7 (dk_at dksX1_bookedIn_4 15 rfl rfl)
theorem dX1_bookedIn_111 : DC mX1_bookedIn 111 = .ok (.iconst 1, 1) := dk_4 (dk_at dksX1_bookedIn_4 18 rfl rfl)
theorem dX1_bookedIn_112 : DC mX1_bookedIn 112 = .ok (.goto 4, 3) := dk_167 0 4 (dk_at dksX1_bookedIn_4 19 rfl rfl)
theorem dX1_bookedIn_115 : DC mX1_bookedIn 115 = .ok (.iconst 0, 1) := dk_3 (dk_at dksX1_bookedIn_4 22 rfl rfl)
theorem dX1_bookedIn_116 : DC mX1_bookedIn 116 = .ok (.istore 9, 2) := dk_54 9 (dk_at dksX1_bookedIn_5 0 rfl rfl)
theorem dX1_bookedIn_118 : DC mX1_bookedIn 118 = .ok (.iload 4, 2) := dk_21 4 (dk_at dksX1_bookedIn_5 2 rfl rfl)
theorem dX1_bookedIn_120 : DC mX1_bookedIn 120 = .ok (.iload 9, 2) := dk_21 9 (dk_at dksX1_bookedIn_5 4 rfl rfl)
theorem dX1_bookedIn_122 : DC mX1_bookedIn 122 = .ok (.ifCond .eq 20, 3) := dk_153 0 20 (dk_at dksX1_bookedIn_5 6 rfl rfl)
theorem dX1_bookedIn_125 : DC mX1_bookedIn 125 = .ok (.iload_n 2, 1) := dk_28 (dk_at dksX1_bookedIn_5 9 rfl rfl)
theorem dX1_bookedIn_126 : DC mX1_bookedIn 126 = .ok (.iconst (-1), 1) := dk_2 (dk_at dksX1_bookedIn_5 10 rfl rfl)
theorem dX1_bookedIn_127 : DC mX1_bookedIn 127 = .ok (.if_icmp .ne 7, 3) := dk_160 0 7 (dk_at dksX1_bookedIn_5 11 rfl rfl)
theorem dX1_bookedIn_130 : DC mX1_bookedIn 130 = .ok (.iconst 1, 1) := dk_4 (dk_at dksX1_bookedIn_5 14 rfl rfl)
theorem dX1_bookedIn_131 : DC mX1_bookedIn 131 = .ok (.goto 12, 3) := dk_167 0 12 (dk_at dksX1_bookedIn_5 15 rfl rfl)
theorem dX1_bookedIn_134 : DC mX1_bookedIn 134 = .ok (.aload 8, 2) := dk_25 8 (dk_at dksX1_bookedIn_5 18 rfl rfl)
theorem dX1_bookedIn_136 : DC mX1_bookedIn 136 = .ok (.invokevirtual 178, 3) := dk_182 0 178 (dk_at dksX1_bookedIn_5 20 rfl rfl)
theorem dX1_bookedIn_139 : DC mX1_bookedIn 139 = .ok (.goto 4, 3) := dk_167 0 4 (dk_at dksX1_bookedIn_6 0 rfl rfl)
theorem dX1_bookedIn_142 : DC mX1_bookedIn 142 = .ok (.iconst 0, 1) := dk_3 (dk_at dksX1_bookedIn_6 3 rfl rfl)
theorem dX1_bookedIn_143 : DC mX1_bookedIn 143 = .ok (.iadd, 1) := dk_96 (dk_at dksX1_bookedIn_6 4 rfl rfl)
theorem dX1_bookedIn_144 : DC mX1_bookedIn 144 = .ok (.istore 4, 2) := dk_54 4 (dk_at dksX1_bookedIn_6 5 rfl rfl)
theorem dX1_bookedIn_146 : DC mX1_bookedIn 146 = .ok (.goto (-89), 3) := dk_167 255 167 (dk_at dksX1_bookedIn_6 7 rfl rfl)
theorem dX1_bookedIn_149 : DC mX1_bookedIn 149 = .ok (.goto (-132), 3) := dk_167 255 124 (dk_at dksX1_bookedIn_6 10 rfl rfl)
theorem dX1_bookedIn_152 : DC mX1_bookedIn 152 = .ok (.iload 4, 2) := dk_21 4 (dk_at dksX1_bookedIn_6 13 rfl rfl)
theorem dX1_bookedIn_154 : DC mX1_bookedIn 154 = .ok (.ireturn, 1) := dk_172 (dk_at dksX1_bookedIn_6 15 rfl rfl)
abbrev cX1_pass : ByteArray := prog_1_method_26_code
def yX1_pass : MethodName := ⟨RX1, "pass", "(I)I"⟩
def mX1_pass : MI := (⟨"TheatreSaga", "pass", "(I)I"⟩, prog_1_method_26_code, 2, (Option.some FieldType.int), none, 39, 20)
theorem oX1_pass : mO mX1_pass = 39 := rfl
theorem lX1_pass : mL mX1_pass = 2 := rfl
theorem rX1_pass : mR mX1_pass = (Option.some FieldType.int) := rfl
theorem vX1_pass : mV mX1_pass = 20 := rfl
theorem nX1_pass : (mY mX1_pass).name = "pass" := rfl
theorem hX1_pass : mH mX1_pass = none := rfl
theorem kX1_pass : MOk mX1_pass := ⟨q1801, q75, by decide +kernel⟩
theorem gX1_pass : plainName (mY mX1_pass).cls = true ∧ (mY mX1_pass).cls = "TheatreSaga" := ⟨by decide +kernel, rfl⟩
def dkwX1_pass_0 : List UInt8 := [42, 18, 230, 4, 188, 10, 89, 3, 27, 79, 182, 0, 116, 172]
abbrev dktX1_pass_0 : List UInt8 := dkwX1_pass_0 ++ []
theorem dksX1_pass_0 : cX1_pass.data.toList.drop 0 = dktX1_pass_0 := by decide +kernel
theorem dX1_pass_0 : DC mX1_pass 0 = .ok (.aload_n 0, 1) := dk_42 (dk_at dksX1_pass_0 0 rfl rfl)
theorem dX1_pass_1 : DC mX1_pass 1 = .ok (.ldc 230, 2) := dk_18 230 (dk_at dksX1_pass_0 1 rfl rfl)
theorem dX1_pass_3 : DC mX1_pass 3 = .ok (.iconst 1, 1) := dk_4 (dk_at dksX1_pass_0 3 rfl rfl)
theorem dX1_pass_4 : DC mX1_pass 4 = .ok (.newarray .int, 2) := dk_188_10 (dk_at dksX1_pass_0 4 rfl rfl)
theorem dX1_pass_6 : DC mX1_pass 6 = .ok (.dup, 1) := dk_89 (dk_at dksX1_pass_0 6 rfl rfl)
theorem dX1_pass_7 : DC mX1_pass 7 = .ok (.iconst 0, 1) := dk_3 (dk_at dksX1_pass_0 7 rfl rfl)
theorem dX1_pass_8 : DC mX1_pass 8 = .ok (.iload_n 1, 1) := dk_27 (dk_at dksX1_pass_0 8 rfl rfl)
theorem dX1_pass_9 : DC mX1_pass 9 = .ok (.iastore, 1) := dk_79 (dk_at dksX1_pass_0 9 rfl rfl)
theorem dX1_pass_10 : DC mX1_pass 10 = .ok (.invokevirtual 116, 3) := dk_182 0 116 (dk_at dksX1_pass_0 10 rfl rfl)
theorem dX1_pass_13 : DC mX1_pass 13 = .ok (.ireturn, 1) := dk_172 (dk_at dksX1_pass_0 13 rfl rfl)
abbrev cX1_left : ByteArray := prog_1_method_28_code
def yX1_left : MethodName := ⟨RX1, "left", "(III)I"⟩
def mX1_left : MI := (⟨"TheatreSaga", "left", "(III)I"⟩, prog_1_method_28_code, 4, (Option.some FieldType.int), none, 39, 11)
theorem oX1_left : mO mX1_left = 39 := rfl
theorem lX1_left : mL mX1_left = 4 := rfl
theorem rX1_left : mR mX1_left = (Option.some FieldType.int) := rfl
theorem vX1_left : mV mX1_left = 11 := rfl
theorem nX1_left : (mY mX1_left).name = "left" := rfl
theorem hX1_left : mH mX1_left = none := rfl
theorem kX1_left : MOk mX1_left := ⟨q1809, q75, by decide +kernel⟩
theorem gX1_left : plainName (mY mX1_left).cls = true ∧ (mY mX1_left).cls = "TheatreSaga" := ⟨by decide +kernel, rfl⟩
def dkwX1_left_0 : List UInt8 := [42, 27, 28, 29, 182, 0, 235, 27, 29, 182, 0, 239, 172]
abbrev dktX1_left_0 : List UInt8 := dkwX1_left_0 ++ []
theorem dksX1_left_0 : cX1_left.data.toList.drop 0 = dktX1_left_0 := by decide +kernel
theorem dX1_left_0 : DC mX1_left 0 = .ok (.aload_n 0, 1) := dk_42 (dk_at dksX1_left_0 0 rfl rfl)
theorem dX1_left_1 : DC mX1_left 1 = .ok (.iload_n 1, 1) := dk_27 (dk_at dksX1_left_0 1 rfl rfl)
theorem dX1_left_2 : DC mX1_left 2 = .ok (.iload_n 2, 1) := dk_28 (dk_at dksX1_left_0 2 rfl rfl)
theorem dX1_left_3 : DC mX1_left 3 = .ok (.iload_n 3, 1) := dk_29 (dk_at dksX1_left_0 3 rfl rfl)
theorem dX1_left_4 : DC mX1_left 4 = .ok (.invokevirtual 235, 3) := dk_182 0 235 (dk_at dksX1_left_0 4 rfl rfl)
theorem dX1_left_7 : DC mX1_left 7 = .ok (.iload_n 1, 1) := dk_27 (dk_at dksX1_left_0 7 rfl rfl)
theorem dX1_left_8 : DC mX1_left 8 = .ok (.iload_n 3, 1) := dk_29 (dk_at dksX1_left_0 8 rfl rfl)
theorem dX1_left_9 : DC mX1_left 9 = .ok (.invokevirtual 239, 3) := dk_182 0 239 (dk_at dksX1_left_0 9 rfl rfl)
theorem dX1_left_12 : DC mX1_left 12 = .ok (.ireturn, 1) := dk_172 (dk_at dksX1_left_0 12 rfl rfl)
abbrev cX1_townFor : ByteArray := prog_1_method_27_code
def yX1_townFor : MethodName := ⟨RX1, "townFor", "(III)LTheatreSaga$Town;"⟩
def mX1_townFor : MI := (⟨"TheatreSaga", "townFor", "(III)LTheatreSaga$Town;"⟩, prog_1_method_27_code, 4, (Option.some (FieldType.object "TheatreSaga$Town")), none, 39, 10)
theorem oX1_townFor : mO mX1_townFor = 39 := rfl
theorem lX1_townFor : mL mX1_townFor = 4 := rfl
theorem rX1_townFor : mR mX1_townFor = (Option.some (FieldType.object "TheatreSaga$Town")) := rfl
theorem vX1_townFor : mV mX1_townFor = 10 := rfl
theorem nX1_townFor : (mY mX1_townFor).name = "townFor" := rfl
theorem hX1_townFor : mH mX1_townFor = none := rfl
theorem kX1_townFor : MOk mX1_townFor := ⟨q1813, q75, by decide +kernel⟩
theorem gX1_townFor : plainName (mY mX1_townFor).cls = true ∧ (mY mX1_townFor).cls = "TheatreSaga" := ⟨by decide +kernel, rfl⟩
def dkwX1_townFor_1 : List UInt8 := [184, 0, 232, 42, 180, 0, 43, 180, 0, 211, 28, 184, 0, 108, 192, 0, 214, 176]
abbrev dktX1_townFor_1 : List UInt8 := dkwX1_townFor_1 ++ []
def dkwX1_townFor_0 : List UInt8 := [27, 3, 5, 184, 0, 129, 153, 0, 17, 29, 3, 16, 19, 184, 0, 129, 153, 0, 7, 4, 167, 0, 4, 3]
abbrev dktX1_townFor_0 : List UInt8 := dkwX1_townFor_0 ++ dktX1_townFor_1
theorem dksX1_townFor_0 : cX1_townFor.data.toList.drop 0 = dktX1_townFor_0 := by decide +kernel
theorem dksX1_townFor_1 : cX1_townFor.data.toList.drop 24 = dktX1_townFor_1 := dk_seg dksX1_townFor_0 24 rfl rfl
theorem dX1_townFor_0 : DC mX1_townFor 0 = .ok (.iload_n 1, 1) := dk_27 (dk_at dksX1_townFor_0 0 rfl rfl)
theorem dX1_townFor_1 : DC mX1_townFor 1 = .ok (.iconst 0, 1) := dk_3 (dk_at dksX1_townFor_0 1 rfl rfl)
theorem dX1_townFor_2 : DC mX1_townFor 2 = .ok (.iconst 2, 1) := dk_5 (dk_at dksX1_townFor_0 2 rfl rfl)
theorem dX1_townFor_3 : DC mX1_townFor 3 = .ok (.invokestatic 129, 3) := dk_184 0 129 (dk_at dksX1_townFor_0 3 rfl rfl)
theorem dX1_townFor_6 : DC mX1_townFor 6 = .ok (.ifCond .eq 17, 3) := dk_153 0 17 (dk_at dksX1_townFor_0 6 rfl rfl)
theorem dX1_townFor_9 : DC mX1_townFor 9 = .ok (.iload_n 3, 1) := dk_29 (dk_at dksX1_townFor_0 9 rfl rfl)
theorem dX1_townFor_10 : DC mX1_townFor 10 = .ok (.iconst 0, 1) := dk_3 (dk_at dksX1_townFor_0 10 rfl rfl)
theorem dX1_townFor_11 : DC mX1_townFor 11 = .ok (.bipush 19, 2) := dk_16 19 (dk_at dksX1_townFor_0 11 rfl rfl)
theorem dX1_townFor_13 : DC mX1_townFor 13 = .ok (.invokestatic 129, 3) := dk_184 0 129 (dk_at dksX1_townFor_0 13 rfl rfl)
theorem dX1_townFor_16 : DC mX1_townFor 16 = .ok (.ifCond .eq 7, 3) := dk_153 0 7 (dk_at dksX1_townFor_0 16 rfl rfl)
theorem dX1_townFor_19 : DC mX1_townFor 19 = .ok (.iconst 1, 1) := dk_4 (dk_at dksX1_townFor_0 19 rfl rfl)
theorem dX1_townFor_20 : DC mX1_townFor 20 = .ok (.goto 4, 3) := dk_167 0 4 (dk_at dksX1_townFor_0 20 rfl rfl)
theorem dX1_townFor_23 : DC mX1_townFor 23 = .ok (.iconst 0, 1) := dk_3 (dk_at dksX1_townFor_0 23 rfl rfl)
theorem dX1_townFor_24 : DC mX1_townFor 24 = .ok (.invokestatic 232, 3) := dk_184 0 232 (dk_at dksX1_townFor_1 0 rfl rfl)
theorem dX1_townFor_27 : DC mX1_townFor 27 = .ok (.aload_n 0, 1) := dk_42 (dk_at dksX1_townFor_1 3 rfl rfl)
theorem dX1_townFor_28 : DC mX1_townFor 28 = .ok (.getfield 43, 3) := dk_180 0 43 (dk_at dksX1_townFor_1 4 rfl rfl)
theorem dX1_townFor_31 : DC mX1_townFor 31 = .ok (.getfield 211, 3) := dk_180 0 211 (dk_at dksX1_townFor_1 7 rfl rfl)
theorem dX1_townFor_34 : DC mX1_townFor 34 = .ok (.iload_n 2, 1) := dk_28 (dk_at dksX1_townFor_1 10 rfl rfl)
theorem dX1_townFor_35 : DC mX1_townFor 35 = .ok (.invokestatic 108, 3) := dk_184 0 108 (dk_at dksX1_townFor_1 11 rfl rfl)
theorem dX1_townFor_38 : DC mX1_townFor 38 = .ok (.checkcast 214, 3) := dk_192 0 214 (dk_at dksX1_townFor_1 14 rfl rfl)
theorem dX1_townFor_41 : DC mX1_townFor 41 = .ok (.areturn, 1) := dk_176 (dk_at dksX1_townFor_1 17 rfl rfl)
abbrev cX1_leftAgain : ByteArray := prog_1_method_29_code
def yX1_leftAgain : MethodName := ⟨RX1, "leftAgain", "(III)I"⟩
def mX1_leftAgain : MI := (⟨"TheatreSaga", "leftAgain", "(III)I"⟩, prog_1_method_29_code, 5, (Option.some FieldType.int), none, 39, 12)
theorem oX1_leftAgain : mO mX1_leftAgain = 39 := rfl
theorem lX1_leftAgain : mL mX1_leftAgain = 5 := rfl
theorem rX1_leftAgain : mR mX1_leftAgain = (Option.some FieldType.int) := rfl
theorem vX1_leftAgain : mV mX1_leftAgain = 12 := rfl
theorem nX1_leftAgain : (mY mX1_leftAgain).name = "leftAgain" := rfl
theorem hX1_leftAgain : mH mX1_leftAgain = none := rfl
theorem kX1_leftAgain : MOk mX1_leftAgain := ⟨q1822, q75, by decide +kernel⟩
theorem gX1_leftAgain : plainName (mY mX1_leftAgain).cls = true ∧ (mY mX1_leftAgain).cls = "TheatreSaga" := ⟨by decide +kernel, rfl⟩
def dkwX1_leftAgain_0 : List UInt8 := [42, 27, 28, 29, 182, 0, 235, 58, 4, 27, 184, 0, 243, 42, 28, 27, 29, 182, 0, 223, 100, 172]
abbrev dktX1_leftAgain_0 : List UInt8 := dkwX1_leftAgain_0 ++ []
theorem dksX1_leftAgain_0 : cX1_leftAgain.data.toList.drop 0 = dktX1_leftAgain_0 := by decide +kernel
theorem dX1_leftAgain_0 : DC mX1_leftAgain 0 = .ok (.aload_n 0, 1) := dk_42 (dk_at dksX1_leftAgain_0 0 rfl rfl)
theorem dX1_leftAgain_1 : DC mX1_leftAgain 1 = .ok (.iload_n 1, 1) := dk_27 (dk_at dksX1_leftAgain_0 1 rfl rfl)
theorem dX1_leftAgain_2 : DC mX1_leftAgain 2 = .ok (.iload_n 2, 1) := dk_28 (dk_at dksX1_leftAgain_0 2 rfl rfl)
theorem dX1_leftAgain_3 : DC mX1_leftAgain 3 = .ok (.iload_n 3, 1) := dk_29 (dk_at dksX1_leftAgain_0 3 rfl rfl)
theorem dX1_leftAgain_4 : DC mX1_leftAgain 4 = .ok (.invokevirtual 235, 3) := dk_182 0 235 (dk_at dksX1_leftAgain_0 4 rfl rfl)
theorem dX1_leftAgain_7 : DC mX1_leftAgain 7 = .ok (.astore 4, 2) := dk_58 4 (dk_at dksX1_leftAgain_0 7 rfl rfl)
theorem dX1_leftAgain_9 : DC mX1_leftAgain 9 = .ok (.iload_n 1, 1) := dk_27 (dk_at dksX1_leftAgain_0 9 rfl rfl)
theorem dX1_leftAgain_10 : DC mX1_leftAgain 10 = .ok (.invokestatic 243, 3) := dk_184 0 243 (dk_at dksX1_leftAgain_0 10 rfl rfl)
theorem dX1_leftAgain_13 : DC mX1_leftAgain 13 = .ok (.aload_n 0, 1) := dk_42 (dk_at dksX1_leftAgain_0 13 rfl rfl)
theorem dX1_leftAgain_14 : DC mX1_leftAgain 14 = .ok (.iload_n 2, 1) := dk_28 (dk_at dksX1_leftAgain_0 14 rfl rfl)
theorem dX1_leftAgain_15 : DC mX1_leftAgain 15 = .ok (.iload_n 1, 1) := dk_27 (dk_at dksX1_leftAgain_0 15 rfl rfl)
theorem dX1_leftAgain_16 : DC mX1_leftAgain 16 = .ok (.iload_n 3, 1) := dk_29 (dk_at dksX1_leftAgain_0 16 rfl rfl)
theorem dX1_leftAgain_17 : DC mX1_leftAgain 17 = .ok (.invokevirtual 223, 3) := dk_182 0 223 (dk_at dksX1_leftAgain_0 17 rfl rfl)
theorem dX1_leftAgain_20 : DC mX1_leftAgain 20 = .ok (.isub, 1) := dk_100 (dk_at dksX1_leftAgain_0 20 rfl rfl)
theorem dX1_leftAgain_21 : DC mX1_leftAgain 21 = .ok (.ireturn, 1) := dk_172 (dk_at dksX1_leftAgain_0 21 rfl rfl)
abbrev cX1_faultOf : ByteArray := prog_1_method_30_code
def yX1_faultOf : MethodName := ⟨RX1, "faultOf", "(I)I"⟩
def mX1_faultOf : MI := (⟨"TheatreSaga", "faultOf", "(I)I"⟩, prog_1_method_30_code, 3, (Option.some FieldType.int), none, 39, 11)
theorem oX1_faultOf : mO mX1_faultOf = 39 := rfl
theorem lX1_faultOf : mL mX1_faultOf = 3 := rfl
theorem rX1_faultOf : mR mX1_faultOf = (Option.some FieldType.int) := rfl
theorem vX1_faultOf : mV mX1_faultOf = 11 := rfl
theorem nX1_faultOf : (mY mX1_faultOf).name = "faultOf" := rfl
theorem hX1_faultOf : mH mX1_faultOf = none := rfl
theorem kX1_faultOf : MOk mX1_faultOf := ⟨q1831, q75, by decide +kernel⟩
theorem gX1_faultOf : plainName (mY mX1_faultOf).cls = true ∧ (mY mX1_faultOf).cls = "TheatreSaga" := ⟨by decide +kernel, rfl⟩
def dkwX1_faultOf_0 : List UInt8 := [42, 27, 182, 0, 126, 77, 44, 182, 0, 247, 184, 0, 250, 44, 182, 0, 253, 172]
abbrev dktX1_faultOf_0 : List UInt8 := dkwX1_faultOf_0 ++ []
theorem dksX1_faultOf_0 : cX1_faultOf.data.toList.drop 0 = dktX1_faultOf_0 := by decide +kernel
theorem dX1_faultOf_0 : DC mX1_faultOf 0 = .ok (.aload_n 0, 1) := dk_42 (dk_at dksX1_faultOf_0 0 rfl rfl)
theorem dX1_faultOf_1 : DC mX1_faultOf 1 = .ok (.iload_n 1, 1) := dk_27 (dk_at dksX1_faultOf_0 1 rfl rfl)
theorem dX1_faultOf_2 : DC mX1_faultOf 2 = .ok (.invokevirtual 126, 3) := dk_182 0 126 (dk_at dksX1_faultOf_0 2 rfl rfl)
theorem dX1_faultOf_5 : DC mX1_faultOf 5 = .ok (.astore_n 2, 1) := dk_77 (dk_at dksX1_faultOf_0 5 rfl rfl)
theorem dX1_faultOf_6 : DC mX1_faultOf 6 = .ok (.aload_n 2, 1) := dk_44 (dk_at dksX1_faultOf_0 6 rfl rfl)
theorem dX1_faultOf_7 : DC mX1_faultOf 7 = .ok (.invokevirtual 247, 3) := dk_182 0 247 (dk_at dksX1_faultOf_0 7 rfl rfl)
theorem dX1_faultOf_10 : DC mX1_faultOf 10 = .ok (.invokestatic 250, 3) := dk_184 0 250 (dk_at dksX1_faultOf_0 10 rfl rfl)
theorem dX1_faultOf_13 : DC mX1_faultOf 13 = .ok (.aload_n 2, 1) := dk_44 (dk_at dksX1_faultOf_0 13 rfl rfl)
theorem dX1_faultOf_14 : DC mX1_faultOf 14 = .ok (.invokevirtual 253, 3) := dk_182 0 253 (dk_at dksX1_faultOf_0 14 rfl rfl)
theorem dX1_faultOf_17 : DC mX1_faultOf 17 = .ok (.ireturn, 1) := dk_172 (dk_at dksX1_faultOf_0 17 rfl rfl)
abbrev cX1_endsIn : ByteArray := prog_1_method_31_code
def yX1_endsIn : MethodName := ⟨RX1, "endsIn", "(I)I"⟩
def mX1_endsIn : MI := (⟨"TheatreSaga", "endsIn", "(I)I"⟩, prog_1_method_31_code, 6, (Option.some FieldType.int), none, 39, 19)
theorem oX1_endsIn : mO mX1_endsIn = 39 := rfl
theorem lX1_endsIn : mL mX1_endsIn = 6 := rfl
theorem rX1_endsIn : mR mX1_endsIn = (Option.some FieldType.int) := rfl
theorem vX1_endsIn : mV mX1_endsIn = 19 := rfl
theorem nX1_endsIn : (mY mX1_endsIn).name = "endsIn" := rfl
theorem hX1_endsIn : mH mX1_endsIn = none := rfl
theorem kX1_endsIn : MOk mX1_endsIn := ⟨q1841, q75, by decide +kernel⟩
theorem gX1_endsIn : plainName (mY mX1_endsIn).cls = true ∧ (mY mX1_endsIn).cls = "TheatreSaga" := ⟨by decide +kernel, rfl⟩
def dkwX1_endsIn_3 : List UInt8 := [187, 0, 13, 89, 183, 0, 15, 191]
abbrev dktX1_endsIn_3 : List UInt8 := dkwX1_endsIn_3 ++ []
def dkwX1_endsIn_2 : List UInt8 := [192, 0, 112, 182, 1, 3, 153, 0, 6, 21, 4, 172, 45, 182, 1, 6, 54, 5, 132, 4, 1, 167, 255, 218]
abbrev dktX1_endsIn_2 : List UInt8 := dkwX1_endsIn_2 ++ dktX1_endsIn_3
def dkwX1_endsIn_1 : List UInt8 := [182, 0, 83, 78, 3, 54, 4, 21, 4, 16, 60, 163, 0, 37, 45, 180, 0, 104, 27, 185, 0, 255, 2, 0]
abbrev dktX1_endsIn_1 : List UInt8 := dkwX1_endsIn_1 ++ dktX1_endsIn_2
def dkwX1_endsIn_0 : List UInt8 := [42, 27, 182, 0, 126, 77, 44, 180, 0, 137, 153, 0, 7, 4, 167, 0, 4, 3, 184, 0, 250, 42]
abbrev dktX1_endsIn_0 : List UInt8 := dkwX1_endsIn_0 ++ dktX1_endsIn_1
theorem dksX1_endsIn_0 : cX1_endsIn.data.toList.drop 0 = dktX1_endsIn_0 := by decide +kernel
theorem dksX1_endsIn_1 : cX1_endsIn.data.toList.drop 22 = dktX1_endsIn_1 := dk_seg dksX1_endsIn_0 22 rfl rfl
theorem dksX1_endsIn_2 : cX1_endsIn.data.toList.drop 46 = dktX1_endsIn_2 := dk_seg dksX1_endsIn_1 24 rfl rfl
theorem dksX1_endsIn_3 : cX1_endsIn.data.toList.drop 70 = dktX1_endsIn_3 := dk_seg dksX1_endsIn_2 24 rfl rfl
theorem dX1_endsIn_0 : DC mX1_endsIn 0 = .ok (.aload_n 0, 1) := dk_42 (dk_at dksX1_endsIn_0 0 rfl rfl)
theorem dX1_endsIn_1 : DC mX1_endsIn 1 = .ok (.iload_n 1, 1) := dk_27 (dk_at dksX1_endsIn_0 1 rfl rfl)
theorem dX1_endsIn_2 : DC mX1_endsIn 2 = .ok (.invokevirtual 126, 3) := dk_182 0 126 (dk_at dksX1_endsIn_0 2 rfl rfl)
theorem dX1_endsIn_5 : DC mX1_endsIn 5 = .ok (.astore_n 2, 1) := dk_77 (dk_at dksX1_endsIn_0 5 rfl rfl)
theorem dX1_endsIn_6 : DC mX1_endsIn 6 = .ok (.aload_n 2, 1) := dk_44 (dk_at dksX1_endsIn_0 6 rfl rfl)
theorem dX1_endsIn_7 : DC mX1_endsIn 7 = .ok (.getfield 137, 3) := dk_180 0 137 (dk_at dksX1_endsIn_0 7 rfl rfl)
theorem dX1_endsIn_10 : DC mX1_endsIn 10 = .ok (.ifCond .eq 7, 3) := dk_153 0 7 (dk_at dksX1_endsIn_0 10 rfl rfl)
theorem dX1_endsIn_13 : DC mX1_endsIn 13 = .ok (.iconst 1, 1) := dk_4 (dk_at dksX1_endsIn_0 13 rfl rfl)
theorem dX1_endsIn_14 : DC mX1_endsIn 14 = .ok (.goto 4, 3) := dk_167 0 4 (dk_at dksX1_endsIn_0 14 rfl rfl)
theorem dX1_endsIn_17 : DC mX1_endsIn 17 = .ok (.iconst 0, 1) := dk_3 (dk_at dksX1_endsIn_0 17 rfl rfl)
theorem dX1_endsIn_18 : DC mX1_endsIn 18 = .ok (.invokestatic 250, 3) := dk_184 0 250 (dk_at dksX1_endsIn_0 18 rfl rfl)
theorem dX1_endsIn_21 : DC mX1_endsIn 21 = .ok (.aload_n 0, 1) := dk_42 (dk_at dksX1_endsIn_0 21 rfl rfl)
theorem dX1_endsIn_22 : DC mX1_endsIn 22 = .ok (.invokevirtual 83, 3) := dk_182 0 83 (dk_at dksX1_endsIn_1 0 rfl rfl)
theorem dX1_endsIn_25 : DC mX1_endsIn 25 = .ok (.astore_n 3, 1) := dk_78 (dk_at dksX1_endsIn_1 3 rfl rfl)
theorem dX1_endsIn_26 : DC mX1_endsIn 26 = .ok (.iconst 0, 1) := dk_3 (dk_at dksX1_endsIn_1 4 rfl rfl)
theorem dX1_endsIn_27 : DC mX1_endsIn 27 = .ok (.istore 4, 2) := dk_54 4 (dk_at dksX1_endsIn_1 5 rfl rfl)
theorem dX1_endsIn_29 : DC mX1_endsIn 29 = .ok (.iload 4, 2) := dk_21 4 (dk_at dksX1_endsIn_1 7 rfl rfl)
theorem dX1_endsIn_31 : DC mX1_endsIn 31 = .ok (.bipush 60, 2) := dk_16 60 (dk_at dksX1_endsIn_1 9 rfl rfl)
theorem dX1_endsIn_33 : DC mX1_endsIn 33 = .ok (.if_icmp .gt 37, 3) := dk_163 0 37 (dk_at dksX1_endsIn_1 11 rfl rfl)
theorem dX1_endsIn_36 : DC mX1_endsIn 36 = .ok (.aload_n 3, 1) := dk_45 (dk_at dksX1_endsIn_1 14 rfl rfl)
theorem dX1_endsIn_37 : DC mX1_endsIn 37 = .ok (.getfield 104, 3) := dk_180 0 104 (dk_at dksX1_endsIn_1 15 rfl rfl)
theorem dX1_endsIn_40 : DC mX1_endsIn 40 = .ok (.iload_n 1, 1) := dk_27 (dk_at dksX1_endsIn_1 18 rfl rfl)
theorem dX1_endsIn_41 : DC mX1_endsIn 41 = .ok (.invokeinterface 255 2, 5) := by decide +kernel
theorem dX1_endsIn_46 : DC mX1_endsIn 46 = .ok (.checkcast 112, 3) := dk_192 0 112 (dk_at dksX1_endsIn_2 0 rfl rfl)
theorem dX1_endsIn_49 : DC mX1_endsIn 49 = .ok (.invokevirtual 259, 3) := dk_182 1 3 (dk_at dksX1_endsIn_2 3 rfl rfl)
theorem dX1_endsIn_52 : DC mX1_endsIn 52 = .ok (.ifCond .eq 6, 3) := dk_153 0 6 (dk_at dksX1_endsIn_2 6 rfl rfl)
theorem dX1_endsIn_55 : DC mX1_endsIn 55 = .ok (.iload 4, 2) := dk_21 4 (dk_at dksX1_endsIn_2 9 rfl rfl)
theorem dX1_endsIn_57 : DC mX1_endsIn 57 = .ok (.ireturn, 1) := dk_172 (dk_at dksX1_endsIn_2 11 rfl rfl)
theorem dX1_endsIn_58 : DC mX1_endsIn 58 = .ok (.aload_n 3, 1) := dk_45 (dk_at dksX1_endsIn_2 12 rfl rfl)
theorem dX1_endsIn_59 : DC mX1_endsIn 59 = .ok (.invokevirtual 262, 3) := dk_182 1 6 (dk_at dksX1_endsIn_2 13 rfl rfl)
theorem dX1_endsIn_62 : DC mX1_endsIn 62 = .ok (.istore 5, 2) := dk_54 5 (dk_at dksX1_endsIn_2 16 rfl rfl)
theorem dX1_endsIn_64 : DC mX1_endsIn 64 = .ok (.iinc 4 1, 3) := dk_132 4 1 (dk_at dksX1_endsIn_2 18 rfl rfl)
theorem dX1_endsIn_67 : DC mX1_endsIn 67 = .ok (.goto (-38), 3) := dk_167 255 218 (dk_at dksX1_endsIn_2 21 rfl rfl)
theorem dX1_endsIn_70 : DC mX1_endsIn 70 = .ok (.new 13, 3) := dk_187 0 13 (dk_at dksX1_endsIn_3 0 rfl rfl)
theorem dX1_endsIn_73 : DC mX1_endsIn 73 = .ok (.dup, 1) := dk_89 (dk_at dksX1_endsIn_3 3 rfl rfl)
theorem dX1_endsIn_74 : DC mX1_endsIn 74 = .ok (.invokespecial 15, 3) := dk_183 0 15 (dk_at dksX1_endsIn_3 4 rfl rfl)
theorem dX1_endsIn_77 : DC mX1_endsIn 77 = .ok (.athrow, 1) := dk_191 (dk_at dksX1_endsIn_3 7 rfl rfl)
abbrev cX1_costs : ByteArray := prog_1_method_32_code
def yX1_costs : MethodName := ⟨RX1, "costs", "(I)I"⟩
def mX1_costs : MI := (⟨"TheatreSaga", "costs", "(I)I"⟩, prog_1_method_32_code, 6, (Option.some FieldType.int), none, 39, 11)
theorem oX1_costs : mO mX1_costs = 39 := rfl
theorem lX1_costs : mL mX1_costs = 6 := rfl
theorem rX1_costs : mR mX1_costs = (Option.some FieldType.int) := rfl
theorem vX1_costs : mV mX1_costs = 11 := rfl
theorem nX1_costs : (mY mX1_costs).name = "costs" := rfl
theorem hX1_costs : mH mX1_costs = none := rfl
theorem kX1_costs : MOk mX1_costs := ⟨q1852, q75, by decide +kernel⟩
theorem gX1_costs : plainName (mY mX1_costs).cls = true ∧ (mY mX1_costs).cls = "TheatreSaga" := ⟨by decide +kernel, rfl⟩
def dkwX1_costs_2 : List UInt8 := [192, 0, 167, 58, 5, 29, 42, 180, 0, 43, 25, 5, 182, 1, 12, 96, 62, 167, 255, 222, 29, 172]
abbrev dktX1_costs_2 : List UInt8 := dkwX1_costs_2 ++ []
def dkwX1_costs_1 : List UInt8 := [182, 0, 210, 58, 4, 25, 4, 185, 0, 195, 1, 0, 153, 0, 30, 25, 4, 185, 0, 201, 1, 0]
abbrev dktX1_costs_1 : List UInt8 := dkwX1_costs_1 ++ dktX1_costs_2
def dkwX1_costs_0 : List UInt8 := [42, 27, 182, 0, 126, 77, 3, 62, 187, 0, 205, 89, 44, 180, 0, 143, 44, 180, 0, 149, 183, 1, 9]
abbrev dktX1_costs_0 : List UInt8 := dkwX1_costs_0 ++ dktX1_costs_1
theorem dksX1_costs_0 : cX1_costs.data.toList.drop 0 = dktX1_costs_0 := by decide +kernel
theorem dksX1_costs_1 : cX1_costs.data.toList.drop 23 = dktX1_costs_1 := dk_seg dksX1_costs_0 23 rfl rfl
theorem dksX1_costs_2 : cX1_costs.data.toList.drop 45 = dktX1_costs_2 := dk_seg dksX1_costs_1 22 rfl rfl
theorem dX1_costs_0 : DC mX1_costs 0 = .ok (.aload_n 0, 1) := dk_42 (dk_at dksX1_costs_0 0 rfl rfl)
theorem dX1_costs_1 : DC mX1_costs 1 = .ok (.iload_n 1, 1) := dk_27 (dk_at dksX1_costs_0 1 rfl rfl)
theorem dX1_costs_2 : DC mX1_costs 2 = .ok (.invokevirtual 126, 3) := dk_182 0 126 (dk_at dksX1_costs_0 2 rfl rfl)
theorem dX1_costs_5 : DC mX1_costs 5 = .ok (.astore_n 2, 1) := dk_77 (dk_at dksX1_costs_0 5 rfl rfl)
theorem dX1_costs_6 : DC mX1_costs 6 = .ok (.iconst 0, 1) := dk_3 (dk_at dksX1_costs_0 6 rfl rfl)
theorem dX1_costs_7 : DC mX1_costs 7 = .ok (.istore_n 3, 1) := dk_62 (dk_at dksX1_costs_0 7 rfl rfl)
theorem dX1_costs_8 : DC mX1_costs 8 = .ok (.new 205, 3) := dk_187 0 205 (dk_at dksX1_costs_0 8 rfl rfl)
theorem dX1_costs_11 : DC mX1_costs 11 = .ok (.dup, 1) := dk_89 (dk_at dksX1_costs_0 11 rfl rfl)
theorem dX1_costs_12 : DC mX1_costs 12 = .ok (.aload_n 2, 1) := dk_44 (dk_at dksX1_costs_0 12 rfl rfl)
theorem dX1_costs_13 : DC mX1_costs 13 = .ok (.getfield 143, 3) := dk_180 0 143 (dk_at dksX1_costs_0 13 rfl rfl)
theorem dX1_costs_16 : DC mX1_costs 16 = .ok (.aload_n 2, 1) := dk_44 (dk_at dksX1_costs_0 16 rfl rfl)
theorem dX1_costs_17 : DC mX1_costs 17 = .ok (.getfield 149, 3) := dk_180 0 149 (dk_at dksX1_costs_0 17 rfl rfl)
theorem dX1_costs_20 : DC mX1_costs 20 = .ok (.invokespecial 265, 3) := dk_183 1 9 (dk_at dksX1_costs_0 20 rfl rfl)
theorem dX1_costs_23 : DC mX1_costs 23 = .ok (.invokevirtual 210, 3) := dk_182 0 210 (dk_at dksX1_costs_1 0 rfl rfl)
theorem dX1_costs_26 : DC mX1_costs 26 = .ok (.astore 4, 2) := dk_58 4 (dk_at dksX1_costs_1 3 rfl rfl)
theorem dX1_costs_28 : DC mX1_costs 28 = .ok (.aload 4, 2) := dk_25 4 (dk_at dksX1_costs_1 5 rfl rfl)
theorem dX1_costs_30 : DC mX1_costs 30 = .ok (.invokeinterface 195 1, 5) := by decide +kernel
theorem dX1_costs_35 : DC mX1_costs 35 = .ok (.ifCond .eq 30, 3) := dk_153 0 30 (dk_at dksX1_costs_1 12 rfl rfl)
theorem dX1_costs_38 : DC mX1_costs 38 = .ok (.aload 4, 2) := dk_25 4 (dk_at dksX1_costs_1 15 rfl rfl)
theorem dX1_costs_40 : DC mX1_costs 40 = .ok (.invokeinterface 201 1, 5) := by decide +kernel
theorem dX1_costs_45 : DC mX1_costs 45 = .ok (.checkcast 167, 3) := dk_192 0 167 (dk_at dksX1_costs_2 0 rfl rfl)
theorem dX1_costs_48 : DC mX1_costs 48 = .ok (.astore 5, 2) := dk_58 5 (dk_at dksX1_costs_2 3 rfl rfl)
theorem dX1_costs_50 : DC mX1_costs 50 = .ok (.iload_n 3, 1) := dk_29 (dk_at dksX1_costs_2 5 rfl rfl)
theorem dX1_costs_51 : DC mX1_costs 51 = .ok (.aload_n 0, 1) := dk_42 (dk_at dksX1_costs_2 6 rfl rfl)
theorem dX1_costs_52 : DC mX1_costs 52 = .ok (.getfield 43, 3) := dk_180 0 43 (dk_at dksX1_costs_2 7 rfl rfl)
theorem dX1_costs_55 : DC mX1_costs 55 = .ok (.aload 5, 2) := dk_25 5 (dk_at dksX1_costs_2 10 rfl rfl)
theorem dX1_costs_57 : DC mX1_costs 57 = .ok (.invokevirtual 268, 3) := dk_182 1 12 (dk_at dksX1_costs_2 12 rfl rfl)
theorem dX1_costs_60 : DC mX1_costs 60 = .ok (.iadd, 1) := dk_96 (dk_at dksX1_costs_2 15 rfl rfl)
theorem dX1_costs_61 : DC mX1_costs 61 = .ok (.istore_n 3, 1) := dk_62 (dk_at dksX1_costs_2 16 rfl rfl)
theorem dX1_costs_62 : DC mX1_costs 62 = .ok (.goto (-34), 3) := dk_167 255 222 (dk_at dksX1_costs_2 17 rfl rfl)
theorem dX1_costs_65 : DC mX1_costs 65 = .ok (.iload_n 3, 1) := dk_29 (dk_at dksX1_costs_2 20 rfl rfl)
theorem dX1_costs_66 : DC mX1_costs 66 = .ok (.ireturn, 1) := dk_172 (dk_at dksX1_costs_2 21 rfl rfl)
abbrev cX1_cheapest : ByteArray := prog_1_method_33_code
def yX1_cheapest : MethodName := ⟨RX1, "cheapest", "(III)I"⟩
def mX1_cheapest : MI := (⟨"TheatreSaga", "cheapest", "(III)I"⟩, prog_1_method_33_code, 7, (Option.some FieldType.int), none, 39, 11)
theorem oX1_cheapest : mO mX1_cheapest = 39 := rfl
theorem lX1_cheapest : mL mX1_cheapest = 7 := rfl
theorem rX1_cheapest : mR mX1_cheapest = (Option.some FieldType.int) := rfl
theorem vX1_cheapest : mV mX1_cheapest = 11 := rfl
theorem nX1_cheapest : (mY mX1_cheapest).name = "cheapest" := rfl
theorem hX1_cheapest : mH mX1_cheapest = none := rfl
theorem kX1_cheapest : MOk mX1_cheapest := ⟨q1862, q75, by decide +kernel⟩
theorem gX1_cheapest : plainName (mY mX1_cheapest).cls = true ∧ (mY mX1_cheapest).cls = "TheatreSaga" := ⟨by decide +kernel, rfl⟩
def dkwX1_cheapest_3 : List UInt8 := [25, 5, 180, 1, 25, 172]
abbrev dktX1_cheapest_3 : List UInt8 := dkwX1_cheapest_3 ++ []
def dkwX1_cheapest_2 : List UInt8 := [132, 6, 1, 167, 255, 240, 25, 5, 180, 1, 25, 2, 159, 0, 7, 4, 167, 0, 4, 3, 184, 0, 250]
abbrev dktX1_cheapest_2 : List UInt8 := dkwX1_cheapest_2 ++ dktX1_cheapest_3
def dkwX1_cheapest_1 : List UInt8 := [27, 28, 29, 183, 1, 18, 58, 5, 3, 54, 6, 21, 6, 8, 162, 0, 16, 25, 5, 21, 6, 182, 1, 21]
abbrev dktX1_cheapest_1 : List UInt8 := dkwX1_cheapest_1 ++ dktX1_cheapest_2
def dkwX1_cheapest_0 : List UInt8 := [42, 27, 3, 28, 182, 0, 235, 58, 4, 29, 4, 16, 12, 184, 0, 129, 184, 0, 133, 187, 1, 16, 89, 42]
abbrev dktX1_cheapest_0 : List UInt8 := dkwX1_cheapest_0 ++ dktX1_cheapest_1
theorem dksX1_cheapest_0 : cX1_cheapest.data.toList.drop 0 = dktX1_cheapest_0 := by decide +kernel
theorem dksX1_cheapest_1 : cX1_cheapest.data.toList.drop 24 = dktX1_cheapest_1 := dk_seg dksX1_cheapest_0 24 rfl rfl
theorem dksX1_cheapest_2 : cX1_cheapest.data.toList.drop 48 = dktX1_cheapest_2 := dk_seg dksX1_cheapest_1 24 rfl rfl
theorem dksX1_cheapest_3 : cX1_cheapest.data.toList.drop 71 = dktX1_cheapest_3 := dk_seg dksX1_cheapest_2 23 rfl rfl
theorem dX1_cheapest_0 : DC mX1_cheapest 0 = .ok (.aload_n 0, 1) := dk_42 (dk_at dksX1_cheapest_0 0 rfl rfl)
theorem dX1_cheapest_1 : DC mX1_cheapest 1 = .ok (.iload_n 1, 1) := dk_27 (dk_at dksX1_cheapest_0 1 rfl rfl)
theorem dX1_cheapest_2 : DC mX1_cheapest 2 = .ok (.iconst 0, 1) := dk_3 (dk_at dksX1_cheapest_0 2 rfl rfl)
theorem dX1_cheapest_3 : DC mX1_cheapest 3 = .ok (.iload_n 2, 1) := dk_28 (dk_at dksX1_cheapest_0 3 rfl rfl)
theorem dX1_cheapest_4 : DC mX1_cheapest 4 = .ok (.invokevirtual 235, 3) := dk_182 0 235 (dk_at dksX1_cheapest_0 4 rfl rfl)
theorem dX1_cheapest_7 : DC mX1_cheapest 7 = .ok (.astore 4, 2) := dk_58 4 (dk_at dksX1_cheapest_0 7 rfl rfl)
theorem dX1_cheapest_9 : DC mX1_cheapest 9 = .ok (.iload_n 3, 1) := dk_29 (dk_at dksX1_cheapest_0 9 rfl rfl)
theorem dX1_cheapest_10 : DC mX1_cheapest 10 = .ok (.iconst 1, 1) := dk_4 (dk_at dksX1_cheapest_0 10 rfl rfl)
theorem dX1_cheapest_11 : DC mX1_cheapest 11 = .ok (.bipush 12, 2) := dk_16 12 (dk_at dksX1_cheapest_0 11 rfl rfl)
theorem dX1_cheapest_13 : DC mX1_cheapest 13 = .ok (.invokestatic 129, 3) := dk_184 0 129 (dk_at dksX1_cheapest_0 13 rfl rfl)
theorem dX1_cheapest_16 : DC mX1_cheapest 16 = .ok (.invokestatic 133, 3) := dk_184 0 133 (dk_at dksX1_cheapest_0 16 rfl rfl)
theorem dX1_cheapest_19 : DC mX1_cheapest 19 = .ok (.new 272, 3) := dk_187 1 16 (dk_at dksX1_cheapest_0 19 rfl rfl)
theorem dX1_cheapest_22 : DC mX1_cheapest 22 = .ok (.dup, 1) := dk_89 (dk_at dksX1_cheapest_0 22 rfl rfl)
theorem dX1_cheapest_23 : DC mX1_cheapest 23 = .ok (.aload_n 0, 1) := dk_42 (dk_at dksX1_cheapest_0 23 rfl rfl)
theorem dX1_cheapest_24 : DC mX1_cheapest 24 = .ok (.iload_n 1, 1) := dk_27 (dk_at dksX1_cheapest_1 0 rfl rfl)
theorem dX1_cheapest_25 : DC mX1_cheapest 25 = .ok (.iload_n 2, 1) := dk_28 (dk_at dksX1_cheapest_1 1 rfl rfl)
theorem dX1_cheapest_26 : DC mX1_cheapest 26 = .ok (.iload_n 3, 1) := dk_29 (dk_at dksX1_cheapest_1 2 rfl rfl)
theorem dX1_cheapest_27 : DC mX1_cheapest 27 = .ok (.invokespecial 274, 3) := dk_183 1 18 (dk_at dksX1_cheapest_1 3 rfl rfl)
theorem dX1_cheapest_30 : DC mX1_cheapest 30 = .ok (.astore 5, 2) := dk_58 5 (dk_at dksX1_cheapest_1 6 rfl rfl)
theorem dX1_cheapest_32 : DC mX1_cheapest 32 = .ok (.iconst 0, 1) := dk_3 (dk_at dksX1_cheapest_1 8 rfl rfl)
theorem dX1_cheapest_33 : DC mX1_cheapest 33 = .ok (.istore 6, 2) := dk_54 6 (dk_at dksX1_cheapest_1 9 rfl rfl)
theorem dX1_cheapest_35 : DC mX1_cheapest 35 = .ok (.iload 6, 2) := dk_21 6 (dk_at dksX1_cheapest_1 11 rfl rfl)
theorem dX1_cheapest_37 : DC mX1_cheapest 37 = .ok (.iconst 5, 1) := dk_8 (dk_at dksX1_cheapest_1 13 rfl rfl)
theorem dX1_cheapest_38 : DC mX1_cheapest 38 = .ok (.if_icmp .ge 16, 3) := dk_162 0 16 (dk_at dksX1_cheapest_1 14 rfl rfl)
theorem dX1_cheapest_41 : DC mX1_cheapest 41 = .ok (.aload 5, 2) := dk_25 5 (dk_at dksX1_cheapest_1 17 rfl rfl)
theorem dX1_cheapest_43 : DC mX1_cheapest 43 = .ok (.iload 6, 2) := dk_21 6 (dk_at dksX1_cheapest_1 19 rfl rfl)
theorem dX1_cheapest_45 : DC mX1_cheapest 45 = .ok (.invokevirtual 277, 3) := dk_182 1 21 (dk_at dksX1_cheapest_1 21 rfl rfl)
theorem dX1_cheapest_48 : DC mX1_cheapest 48 = .ok (.iinc 6 1, 3) := dk_132 6 1 (dk_at dksX1_cheapest_2 0 rfl rfl)
theorem dX1_cheapest_51 : DC mX1_cheapest 51 = .ok (.goto (-16), 3) := dk_167 255 240 (dk_at dksX1_cheapest_2 3 rfl rfl)
theorem dX1_cheapest_54 : DC mX1_cheapest 54 = .ok (.aload 5, 2) := dk_25 5 (dk_at dksX1_cheapest_2 6 rfl rfl)
theorem dX1_cheapest_56 : DC mX1_cheapest 56 = .ok (.getfield 281, 3) := dk_180 1 25 (dk_at dksX1_cheapest_2 8 rfl rfl)
theorem dX1_cheapest_59 : DC mX1_cheapest 59 = .ok (.iconst (-1), 1) := dk_2 (dk_at dksX1_cheapest_2 11 rfl rfl)
theorem dX1_cheapest_60 : DC mX1_cheapest 60 = .ok (.if_icmp .eq 7, 3) := dk_159 0 7 (dk_at dksX1_cheapest_2 12 rfl rfl)
theorem dX1_cheapest_63 : DC mX1_cheapest 63 = .ok (.iconst 1, 1) := dk_4 (dk_at dksX1_cheapest_2 15 rfl rfl)
theorem dX1_cheapest_64 : DC mX1_cheapest 64 = .ok (.goto 4, 3) := dk_167 0 4 (dk_at dksX1_cheapest_2 16 rfl rfl)
theorem dX1_cheapest_67 : DC mX1_cheapest 67 = .ok (.iconst 0, 1) := dk_3 (dk_at dksX1_cheapest_2 19 rfl rfl)
theorem dX1_cheapest_68 : DC mX1_cheapest 68 = .ok (.invokestatic 250, 3) := dk_184 0 250 (dk_at dksX1_cheapest_2 20 rfl rfl)
theorem dX1_cheapest_71 : DC mX1_cheapest 71 = .ok (.aload 5, 2) := dk_25 5 (dk_at dksX1_cheapest_3 0 rfl rfl)
theorem dX1_cheapest_73 : DC mX1_cheapest 73 = .ok (.getfield 281, 3) := dk_180 1 25 (dk_at dksX1_cheapest_3 2 rfl rfl)
theorem dX1_cheapest_76 : DC mX1_cheapest 76 = .ok (.ireturn, 1) := dk_172 (dk_at dksX1_cheapest_3 5 rfl rfl)
abbrev cX1_ranked : ByteArray := prog_1_method_35_code
def yX1_ranked : MethodName := ⟨RX1, "ranked", "(I)I"⟩
def mX1_ranked : MI := (⟨"TheatreSaga", "ranked", "(I)I"⟩, prog_1_method_35_code, 5, (Option.some FieldType.int), none, 39, 12)
theorem oX1_ranked : mO mX1_ranked = 39 := rfl
theorem lX1_ranked : mL mX1_ranked = 5 := rfl
theorem rX1_ranked : mR mX1_ranked = (Option.some FieldType.int) := rfl
theorem vX1_ranked : mV mX1_ranked = 12 := rfl
theorem nX1_ranked : (mY mX1_ranked).name = "ranked" := rfl
theorem hX1_ranked : mH mX1_ranked = none := rfl
theorem kX1_ranked : MOk mX1_ranked := ⟨q1900, q75, by decide +kernel⟩
theorem gX1_ranked : plainName (mY mX1_ranked).cls = true ∧ (mY mX1_ranked).cls = "TheatreSaga" := ⟨by decide +kernel, rfl⟩
def dkwX1_ranked_4 : List UInt8 := [184, 1, 42, 182, 1, 46, 132, 3, 1, 167, 255, 189, 44, 27, 182, 1, 32, 192, 1, 33, 182, 1, 35, 172]
abbrev dktX1_ranked_4 : List UInt8 := dkwX1_ranked_4 ++ []
def dkwX1_ranked_3 : List UInt8 := [192, 1, 33, 182, 1, 35, 29, 182, 1, 38, 153, 0, 9, 132, 4, 1, 167, 255, 224, 44, 21, 4, 29]
abbrev dktX1_ranked_3 : List UInt8 := dkwX1_ranked_3 ++ dktX1_ranked_4
def dkwX1_ranked_2 : List UInt8 := [162, 0, 57, 3, 54, 4, 21, 4, 44, 182, 1, 31, 162, 0, 29, 42, 44, 21, 4, 182, 1, 32]
abbrev dktX1_ranked_2 : List UInt8 := dkwX1_ranked_2 ++ dktX1_ranked_3
def dkwX1_ranked_1 : List UInt8 := [187, 1, 28, 89, 183, 1, 30, 77, 3, 62, 29, 42, 180, 0, 43, 180, 0, 104, 185, 0, 146, 1, 0]
abbrev dktX1_ranked_1 : List UInt8 := dkwX1_ranked_1 ++ dktX1_ranked_2
def dkwX1_ranked_0 : List UInt8 := [27, 3, 42, 180, 0, 43, 180, 0, 104, 185, 0, 146, 1, 0, 4, 100, 184, 0, 129, 184, 0, 250]
abbrev dktX1_ranked_0 : List UInt8 := dkwX1_ranked_0 ++ dktX1_ranked_1
theorem dksX1_ranked_0 : cX1_ranked.data.toList.drop 0 = dktX1_ranked_0 := by decide +kernel
theorem dksX1_ranked_1 : cX1_ranked.data.toList.drop 22 = dktX1_ranked_1 := dk_seg dksX1_ranked_0 22 rfl rfl
theorem dksX1_ranked_2 : cX1_ranked.data.toList.drop 45 = dktX1_ranked_2 := dk_seg dksX1_ranked_1 23 rfl rfl
theorem dksX1_ranked_3 : cX1_ranked.data.toList.drop 67 = dktX1_ranked_3 := dk_seg dksX1_ranked_2 22 rfl rfl
theorem dksX1_ranked_4 : cX1_ranked.data.toList.drop 90 = dktX1_ranked_4 := dk_seg dksX1_ranked_3 23 rfl rfl
theorem dX1_ranked_0 : DC mX1_ranked 0 = .ok (.iload_n 1, 1) := dk_27 (dk_at dksX1_ranked_0 0 rfl rfl)
theorem dX1_ranked_1 : DC mX1_ranked 1 = .ok (.iconst 0, 1) := dk_3 (dk_at dksX1_ranked_0 1 rfl rfl)
theorem dX1_ranked_2 : DC mX1_ranked 2 = .ok (.aload_n 0, 1) := dk_42 (dk_at dksX1_ranked_0 2 rfl rfl)
theorem dX1_ranked_3 : DC mX1_ranked 3 = .ok (.getfield 43, 3) := dk_180 0 43 (dk_at dksX1_ranked_0 3 rfl rfl)
theorem dX1_ranked_6 : DC mX1_ranked 6 = .ok (.getfield 104, 3) := dk_180 0 104 (dk_at dksX1_ranked_0 6 rfl rfl)
theorem dX1_ranked_9 : DC mX1_ranked 9 = .ok (.invokeinterface 146 1, 5) := by decide +kernel
theorem dX1_ranked_14 : DC mX1_ranked 14 = .ok (.iconst 1, 1) := dk_4 (dk_at dksX1_ranked_0 14 rfl rfl)
theorem dX1_ranked_15 : DC mX1_ranked 15 = .ok (.isub, 1) := dk_100 (dk_at dksX1_ranked_0 15 rfl rfl)
theorem dX1_ranked_16 : DC mX1_ranked 16 = .ok (.invokestatic 129, 3) := dk_184 0 129 (dk_at dksX1_ranked_0 16 rfl rfl)
theorem dX1_ranked_19 : DC mX1_ranked 19 = .ok (.invokestatic 250, 3) := dk_184 0 250 (dk_at dksX1_ranked_0 19 rfl rfl)
theorem dX1_ranked_22 : DC mX1_ranked 22 = .ok (.new 284, 3) := dk_187 1 28 (dk_at dksX1_ranked_1 0 rfl rfl)
theorem dX1_ranked_25 : DC mX1_ranked 25 = .ok (.dup, 1) := dk_89 (dk_at dksX1_ranked_1 3 rfl rfl)
theorem dX1_ranked_26 : DC mX1_ranked 26 = .ok (.invokespecial 286, 3) := dk_183 1 30 (dk_at dksX1_ranked_1 4 rfl rfl)
theorem dX1_ranked_29 : DC mX1_ranked 29 = .ok (.astore_n 2, 1) := dk_77 (dk_at dksX1_ranked_1 7 rfl rfl)
theorem dX1_ranked_30 : DC mX1_ranked 30 = .ok (.iconst 0, 1) := dk_3 (dk_at dksX1_ranked_1 8 rfl rfl)
theorem dX1_ranked_31 : DC mX1_ranked 31 = .ok (.istore_n 3, 1) := dk_62 (dk_at dksX1_ranked_1 9 rfl rfl)
theorem dX1_ranked_32 : DC mX1_ranked 32 = .ok (.iload_n 3, 1) := dk_29 (dk_at dksX1_ranked_1 10 rfl rfl)
theorem dX1_ranked_33 : DC mX1_ranked 33 = .ok (.aload_n 0, 1) := dk_42 (dk_at dksX1_ranked_1 11 rfl rfl)
theorem dX1_ranked_34 : DC mX1_ranked 34 = .ok (.getfield 43, 3) := dk_180 0 43 (dk_at dksX1_ranked_1 12 rfl rfl)
theorem dX1_ranked_37 : DC mX1_ranked 37 = .ok (.getfield 104, 3) := dk_180 0 104 (dk_at dksX1_ranked_1 15 rfl rfl)
theorem dX1_ranked_40 : DC mX1_ranked 40 = .ok (.invokeinterface 146 1, 5) := by decide +kernel
theorem dX1_ranked_45 : DC mX1_ranked 45 = .ok (.if_icmp .ge 57, 3) := dk_162 0 57 (dk_at dksX1_ranked_2 0 rfl rfl)
theorem dX1_ranked_48 : DC mX1_ranked 48 = .ok (.iconst 0, 1) := dk_3 (dk_at dksX1_ranked_2 3 rfl rfl)
theorem dX1_ranked_49 : DC mX1_ranked 49 = .ok (.istore 4, 2) := dk_54 4 (dk_at dksX1_ranked_2 4 rfl rfl)
theorem dX1_ranked_51 : DC mX1_ranked 51 = .ok (.iload 4, 2) := dk_21 4 (dk_at dksX1_ranked_2 6 rfl rfl)
theorem dX1_ranked_53 : DC mX1_ranked 53 = .ok (.aload_n 2, 1) := dk_44 (dk_at dksX1_ranked_2 8 rfl rfl)
theorem dX1_ranked_54 : DC mX1_ranked 54 = .ok (.invokevirtual 287, 3) := dk_182 1 31 (dk_at dksX1_ranked_2 9 rfl rfl)
theorem dX1_ranked_57 : DC mX1_ranked 57 = .ok (.if_icmp .ge 29, 3) := dk_162 0 29 (dk_at dksX1_ranked_2 12 rfl rfl)
theorem dX1_ranked_60 : DC mX1_ranked 60 = .ok (.aload_n 0, 1) := dk_42 (dk_at dksX1_ranked_2 15 rfl rfl)
theorem dX1_ranked_61 : DC mX1_ranked 61 = .ok (.aload_n 2, 1) := dk_44 (dk_at dksX1_ranked_2 16 rfl rfl)
theorem dX1_ranked_62 : DC mX1_ranked 62 = .ok (.iload 4, 2) := dk_21 4 (dk_at dksX1_ranked_2 17 rfl rfl)
theorem dX1_ranked_64 : DC mX1_ranked 64 = .ok (.invokevirtual 288, 3) := dk_182 1 32 (dk_at dksX1_ranked_2 19 rfl rfl)
theorem dX1_ranked_67 : DC mX1_ranked 67 = .ok (.checkcast 289, 3) := dk_192 1 33 (dk_at dksX1_ranked_3 0 rfl rfl)
theorem dX1_ranked_70 : DC mX1_ranked 70 = .ok (.invokevirtual 291, 3) := dk_182 1 35 (dk_at dksX1_ranked_3 3 rfl rfl)
theorem dX1_ranked_73 : DC mX1_ranked 73 = .ok (.iload_n 3, 1) := dk_29 (dk_at dksX1_ranked_3 6 rfl rfl)
theorem dX1_ranked_74 : DC mX1_ranked 74 = .ok (.invokevirtual 294, 3) := dk_182 1 38 (dk_at dksX1_ranked_3 7 rfl rfl)
theorem dX1_ranked_77 : DC mX1_ranked 77 = .ok (.ifCond .eq 9, 3) := dk_153 0 9 (dk_at dksX1_ranked_3 10 rfl rfl)
theorem dX1_ranked_80 : DC mX1_ranked 80 = .ok (.iinc 4 1, 3) := dk_132 4 1 (dk_at dksX1_ranked_3 13 rfl rfl)
theorem dX1_ranked_83 : DC mX1_ranked 83 = .ok (.goto (-32), 3) := dk_167 255 224 (dk_at dksX1_ranked_3 16 rfl rfl)
theorem dX1_ranked_86 : DC mX1_ranked 86 = .ok (.aload_n 2, 1) := dk_44 (dk_at dksX1_ranked_3 19 rfl rfl)
theorem dX1_ranked_87 : DC mX1_ranked 87 = .ok (.iload 4, 2) := dk_21 4 (dk_at dksX1_ranked_3 20 rfl rfl)
theorem dX1_ranked_89 : DC mX1_ranked 89 = .ok (.iload_n 3, 1) := dk_29 (dk_at dksX1_ranked_3 22 rfl rfl)
theorem dX1_ranked_90 : DC mX1_ranked 90 = .ok (.invokestatic 298, 3) := dk_184 1 42 (dk_at dksX1_ranked_4 0 rfl rfl)
theorem dX1_ranked_93 : DC mX1_ranked 93 = .ok (.invokevirtual 302, 3) := dk_182 1 46 (dk_at dksX1_ranked_4 3 rfl rfl)
theorem dX1_ranked_96 : DC mX1_ranked 96 = .ok (.iinc 3 1, 3) := dk_132 3 1 (dk_at dksX1_ranked_4 6 rfl rfl)
theorem dX1_ranked_99 : DC mX1_ranked 99 = .ok (.goto (-67), 3) := dk_167 255 189 (dk_at dksX1_ranked_4 9 rfl rfl)
theorem dX1_ranked_102 : DC mX1_ranked 102 = .ok (.aload_n 2, 1) := dk_44 (dk_at dksX1_ranked_4 12 rfl rfl)
theorem dX1_ranked_103 : DC mX1_ranked 103 = .ok (.iload_n 1, 1) := dk_27 (dk_at dksX1_ranked_4 13 rfl rfl)
theorem dX1_ranked_104 : DC mX1_ranked 104 = .ok (.invokevirtual 288, 3) := dk_182 1 32 (dk_at dksX1_ranked_4 14 rfl rfl)
theorem dX1_ranked_107 : DC mX1_ranked 107 = .ok (.checkcast 289, 3) := dk_192 1 33 (dk_at dksX1_ranked_4 17 rfl rfl)
theorem dX1_ranked_110 : DC mX1_ranked 110 = .ok (.invokevirtual 291, 3) := dk_182 1 35 (dk_at dksX1_ranked_4 20 rfl rfl)
theorem dX1_ranked_113 : DC mX1_ranked 113 = .ok (.ireturn, 1) := dk_172 (dk_at dksX1_ranked_4 23 rfl rfl)
abbrev cX1_isAhead : ByteArray := prog_1_method_34_code
def yX1_isAhead : MethodName := ⟨RX1, "isAhead", "(II)Z"⟩
def mX1_isAhead : MI := (⟨"TheatreSaga", "isAhead", "(II)Z"⟩, prog_1_method_34_code, 6, (Option.some FieldType.boolean), none, 39, 11)
theorem oX1_isAhead : mO mX1_isAhead = 39 := rfl
theorem lX1_isAhead : mL mX1_isAhead = 6 := rfl
theorem rX1_isAhead : mR mX1_isAhead = (Option.some FieldType.boolean) := rfl
theorem vX1_isAhead : mV mX1_isAhead = 11 := rfl
theorem nX1_isAhead : (mY mX1_isAhead).name = "isAhead" := rfl
theorem hX1_isAhead : mH mX1_isAhead = none := rfl
theorem kX1_isAhead : MOk mX1_isAhead := ⟨q1931, q75, by decide +kernel⟩
theorem gX1_isAhead : plainName (mY mX1_isAhead).cls = true ∧ (mY mX1_isAhead).cls = "TheatreSaga" := ⟨by decide +kernel, rfl⟩
def dkwX1_isAhead_3 : List UInt8 := [162, 0, 7, 4, 167, 0, 4, 3, 172]
abbrev dktX1_isAhead_3 : List UInt8 := dkwX1_isAhead_3 ++ []
def dkwX1_isAhead_2 : List UInt8 := [180, 0, 143, 185, 0, 146, 1, 0, 100, 54, 5, 21, 5, 157, 0, 13, 21, 5, 154, 0, 12, 27, 28]
abbrev dktX1_isAhead_2 : List UInt8 := dkwX1_isAhead_2 ++ dktX1_isAhead_3
def dkwX1_isAhead_1 : List UInt8 := [54, 5, 21, 5, 153, 0, 8, 21, 5, 167, 0, 23, 25, 4, 180, 0, 143, 185, 0, 146, 1, 0, 45]
abbrev dktX1_isAhead_1 : List UInt8 := dkwX1_isAhead_1 ++ dktX1_isAhead_2
def dkwX1_isAhead_0 : List UInt8 := [42, 27, 182, 0, 126, 78, 42, 28, 182, 0, 126, 58, 4, 45, 180, 0, 149, 25, 4, 180, 0, 149, 100]
abbrev dktX1_isAhead_0 : List UInt8 := dkwX1_isAhead_0 ++ dktX1_isAhead_1
theorem dksX1_isAhead_0 : cX1_isAhead.data.toList.drop 0 = dktX1_isAhead_0 := by decide +kernel
theorem dksX1_isAhead_1 : cX1_isAhead.data.toList.drop 23 = dktX1_isAhead_1 := dk_seg dksX1_isAhead_0 23 rfl rfl
theorem dksX1_isAhead_2 : cX1_isAhead.data.toList.drop 46 = dktX1_isAhead_2 := dk_seg dksX1_isAhead_1 23 rfl rfl
theorem dksX1_isAhead_3 : cX1_isAhead.data.toList.drop 69 = dktX1_isAhead_3 := dk_seg dksX1_isAhead_2 23 rfl rfl
theorem dX1_isAhead_0 : DC mX1_isAhead 0 = .ok (.aload_n 0, 1) := dk_42 (dk_at dksX1_isAhead_0 0 rfl rfl)
theorem dX1_isAhead_1 : DC mX1_isAhead 1 = .ok (.iload_n 1, 1) := dk_27 (dk_at dksX1_isAhead_0 1 rfl rfl)
theorem dX1_isAhead_2 : DC mX1_isAhead 2 = .ok (.invokevirtual 126, 3) := dk_182 0 126 (dk_at dksX1_isAhead_0 2 rfl rfl)
theorem dX1_isAhead_5 : DC mX1_isAhead 5 = .ok (.astore_n 3, 1) := dk_78 (dk_at dksX1_isAhead_0 5 rfl rfl)
theorem dX1_isAhead_6 : DC mX1_isAhead 6 = .ok (.aload_n 0, 1) := dk_42 (dk_at dksX1_isAhead_0 6 rfl rfl)
theorem dX1_isAhead_7 : DC mX1_isAhead 7 = .ok (.iload_n 2, 1) := dk_28 (dk_at dksX1_isAhead_0 7 rfl rfl)
theorem dX1_isAhead_8 : DC mX1_isAhead 8 = .ok (.invokevirtual 126, 3) := dk_182 0 126 (dk_at dksX1_isAhead_0 8 rfl rfl)
theorem dX1_isAhead_11 : DC mX1_isAhead 11 = .ok (.astore 4, 2) := dk_58 4 (dk_at dksX1_isAhead_0 11 rfl rfl)
theorem dX1_isAhead_13 : DC mX1_isAhead 13 = .ok (.aload_n 3, 1) := dk_45 (dk_at dksX1_isAhead_0 13 rfl rfl)
theorem dX1_isAhead_14 : DC mX1_isAhead 14 = .ok (.getfield 149, 3) := dk_180 0 149 (dk_at dksX1_isAhead_0 14 rfl rfl)
theorem dX1_isAhead_17 : DC mX1_isAhead 17 = .ok (.aload 4, 2) := dk_25 4 (dk_at dksX1_isAhead_0 17 rfl rfl)
theorem dX1_isAhead_19 : DC mX1_isAhead 19 = .ok (.getfield 149, 3) := dk_180 0 149 (dk_at dksX1_isAhead_0 19 rfl rfl)
theorem dX1_isAhead_22 : DC mX1_isAhead 22 = .ok (.isub, 1) := dk_100 (dk_at dksX1_isAhead_0 22 rfl rfl)
theorem dX1_isAhead_23 : DC mX1_isAhead 23 = .ok (.istore 5, 2) := dk_54 5 (dk_at dksX1_isAhead_1 0 rfl rfl)
theorem dX1_isAhead_25 : DC mX1_isAhead 25 = .ok (.iload 5, 2) := dk_21 5 (dk_at dksX1_isAhead_1 2 rfl rfl)
theorem dX1_isAhead_27 : DC mX1_isAhead 27 = .ok (.ifCond .eq 8, 3) := dk_153 0 8 (dk_at dksX1_isAhead_1 4 rfl rfl)
theorem dX1_isAhead_30 : DC mX1_isAhead 30 = .ok (.iload 5, 2) := dk_21 5 (dk_at dksX1_isAhead_1 7 rfl rfl)
theorem dX1_isAhead_32 : DC mX1_isAhead 32 = .ok (.goto 23, 3) := dk_167 0 23 (dk_at dksX1_isAhead_1 9 rfl rfl)
theorem dX1_isAhead_35 : DC mX1_isAhead 35 = .ok (.aload 4, 2) := dk_25 4 (dk_at dksX1_isAhead_1 12 rfl rfl)
theorem dX1_isAhead_37 : DC mX1_isAhead 37 = .ok (.getfield 143, 3) := dk_180 0 143 (dk_at dksX1_isAhead_1 14 rfl rfl)
theorem dX1_isAhead_40 : DC mX1_isAhead 40 = .ok (.invokeinterface 146 1, 5) := by decide +kernel
theorem dX1_isAhead_45 : DC mX1_isAhead 45 = .ok (.aload_n 3, 1) := dk_45 (dk_at dksX1_isAhead_1 22 rfl rfl)
theorem dX1_isAhead_46 : DC mX1_isAhead 46 = .ok (.getfield 143, 3) := dk_180 0 143 (dk_at dksX1_isAhead_2 0 rfl rfl)
theorem dX1_isAhead_49 : DC mX1_isAhead 49 = .ok (.invokeinterface 146 1, 5) := by decide +kernel
theorem dX1_isAhead_54 : DC mX1_isAhead 54 = .ok (.isub, 1) := dk_100 (dk_at dksX1_isAhead_2 8 rfl rfl)
theorem dX1_isAhead_55 : DC mX1_isAhead 55 = .ok (.istore 5, 2) := dk_54 5 (dk_at dksX1_isAhead_2 9 rfl rfl)
theorem dX1_isAhead_57 : DC mX1_isAhead 57 = .ok (.iload 5, 2) := dk_21 5 (dk_at dksX1_isAhead_2 11 rfl rfl)
theorem dX1_isAhead_59 : DC mX1_isAhead 59 = .ok (.ifCond .gt 13, 3) := dk_157 0 13 (dk_at dksX1_isAhead_2 13 rfl rfl)
theorem dX1_isAhead_62 : DC mX1_isAhead 62 = .ok (.iload 5, 2) := dk_21 5 (dk_at dksX1_isAhead_2 16 rfl rfl)
theorem dX1_isAhead_64 : DC mX1_isAhead 64 = .ok (.ifCond .ne 12, 3) := dk_154 0 12 (dk_at dksX1_isAhead_2 18 rfl rfl)
theorem dX1_isAhead_67 : DC mX1_isAhead 67 = .ok (.iload_n 1, 1) := dk_27 (dk_at dksX1_isAhead_2 21 rfl rfl)
theorem dX1_isAhead_68 : DC mX1_isAhead 68 = .ok (.iload_n 2, 1) := dk_28 (dk_at dksX1_isAhead_2 22 rfl rfl)
theorem dX1_isAhead_69 : DC mX1_isAhead 69 = .ok (.if_icmp .ge 7, 3) := dk_162 0 7 (dk_at dksX1_isAhead_3 0 rfl rfl)
theorem dX1_isAhead_72 : DC mX1_isAhead 72 = .ok (.iconst 1, 1) := dk_4 (dk_at dksX1_isAhead_3 3 rfl rfl)
theorem dX1_isAhead_73 : DC mX1_isAhead 73 = .ok (.goto 4, 3) := dk_167 0 4 (dk_at dksX1_isAhead_3 4 rfl rfl)
theorem dX1_isAhead_76 : DC mX1_isAhead 76 = .ok (.iconst 0, 1) := dk_3 (dk_at dksX1_isAhead_3 7 rfl rfl)
theorem dX1_isAhead_77 : DC mX1_isAhead 77 = .ok (.ireturn, 1) := dk_172 (dk_at dksX1_isAhead_3 8 rfl rfl)
abbrev cX1_line : ByteArray := prog_1_method_36_code
def yX1_line : MethodName := ⟨RX1, "line", "(I)I"⟩
def mX1_line : MI := (⟨"TheatreSaga", "line", "(I)I"⟩, prog_1_method_36_code, 7, (Option.some FieldType.int), none, 39, 12)
theorem oX1_line : mO mX1_line = 39 := rfl
theorem lX1_line : mL mX1_line = 7 := rfl
theorem rX1_line : mR mX1_line = (Option.some FieldType.int) := rfl
theorem vX1_line : mV mX1_line = 12 := rfl
theorem nX1_line : (mY mX1_line).name = "line" := rfl
theorem hX1_line : mH mX1_line = none := rfl
theorem kX1_line : MOk mX1_line := ⟨q1966, q75, by decide +kernel⟩
theorem gX1_line : plainName (mY mX1_line).cls = true ∧ (mY mX1_line).cls = "TheatreSaga" := ⟨by decide +kernel, rfl⟩
def dkwX1_line_5 : List UInt8 := [181, 0, 49, 42, 180, 0, 49, 185, 1, 74, 1, 0, 172]
abbrev dktX1_line_5 : List UInt8 := dkwX1_line_5 ++ []
def dkwX1_line_4 : List UInt8 := [44, 180, 0, 149, 160, 0, 9, 19, 1, 72, 167, 0, 5, 18, 47, 182, 1, 69, 87, 167, 255, 196, 42, 45]
abbrev dktX1_line_4 : List UInt8 := dkwX1_line_4 ++ dktX1_line_5
def dkwX1_line_3 : List UInt8 := [192, 0, 167, 58, 6, 132, 4, 1, 45, 16, 32, 182, 1, 62, 25, 6, 182, 1, 65, 182, 1, 69, 21, 4]
abbrev dktX1_line_3 : List UInt8 := dkwX1_line_3 ++ dktX1_line_4
def dkwX1_line_2 : List UInt8 := [182, 0, 210, 58, 5, 25, 5, 185, 0, 195, 1, 0, 153, 0, 56, 25, 5, 185, 0, 201, 1, 0]
abbrev dktX1_line_2 : List UInt8 := dkwX1_line_2 ++ dktX1_line_3
def dkwX1_line_1 : List UInt8 := [182, 1, 56, 182, 1, 62, 78, 3, 54, 4, 187, 0, 205, 89, 44, 180, 0, 143, 3, 183, 1, 9]
abbrev dktX1_line_1 : List UInt8 := dkwX1_line_1 ++ dktX1_line_2
def dkwX1_line_0 : List UInt8 := [42, 27, 182, 0, 126, 77, 187, 0, 33, 89, 183, 0, 35, 27, 182, 1, 50, 19, 1, 54, 44, 180, 0, 137]
abbrev dktX1_line_0 : List UInt8 := dkwX1_line_0 ++ dktX1_line_1
theorem dksX1_line_0 : cX1_line.data.toList.drop 0 = dktX1_line_0 := by decide +kernel
theorem dksX1_line_1 : cX1_line.data.toList.drop 24 = dktX1_line_1 := dk_seg dksX1_line_0 24 rfl rfl
theorem dksX1_line_2 : cX1_line.data.toList.drop 46 = dktX1_line_2 := dk_seg dksX1_line_1 22 rfl rfl
theorem dksX1_line_3 : cX1_line.data.toList.drop 68 = dktX1_line_3 := dk_seg dksX1_line_2 22 rfl rfl
theorem dksX1_line_4 : cX1_line.data.toList.drop 92 = dktX1_line_4 := dk_seg dksX1_line_3 24 rfl rfl
theorem dksX1_line_5 : cX1_line.data.toList.drop 116 = dktX1_line_5 := dk_seg dksX1_line_4 24 rfl rfl
theorem dX1_line_0 : DC mX1_line 0 = .ok (.aload_n 0, 1) := dk_42 (dk_at dksX1_line_0 0 rfl rfl)
theorem dX1_line_1 : DC mX1_line 1 = .ok (.iload_n 1, 1) := dk_27 (dk_at dksX1_line_0 1 rfl rfl)
theorem dX1_line_2 : DC mX1_line 2 = .ok (.invokevirtual 126, 3) := dk_182 0 126 (dk_at dksX1_line_0 2 rfl rfl)
theorem dX1_line_5 : DC mX1_line 5 = .ok (.astore_n 2, 1) := dk_77 (dk_at dksX1_line_0 5 rfl rfl)
theorem dX1_line_6 : DC mX1_line 6 = .ok (.new 33, 3) := dk_187 0 33 (dk_at dksX1_line_0 6 rfl rfl)
theorem dX1_line_9 : DC mX1_line 9 = .ok (.dup, 1) := dk_89 (dk_at dksX1_line_0 9 rfl rfl)
theorem dX1_line_10 : DC mX1_line 10 = .ok (.invokespecial 35, 3) := dk_183 0 35 (dk_at dksX1_line_0 10 rfl rfl)
theorem dX1_line_13 : DC mX1_line 13 = .ok (.iload_n 1, 1) := dk_27 (dk_at dksX1_line_0 13 rfl rfl)
theorem dX1_line_14 : DC mX1_line 14 = .ok (.invokevirtual 306, 3) := dk_182 1 50 (dk_at dksX1_line_0 14 rfl rfl)
theorem dX1_line_17 : DC mX1_line 17 = .ok (.ldc_w 310, 3) := dk_19 1 54 (dk_at dksX1_line_0 17 rfl rfl)
theorem dX1_line_20 : DC mX1_line 20 = .ok (.aload_n 2, 1) := dk_44 (dk_at dksX1_line_0 20 rfl rfl)
theorem dX1_line_21 : DC mX1_line 21 = .ok (.getfield 137, 3) := dk_180 0 137 (dk_at dksX1_line_0 21 rfl rfl)
theorem dX1_line_24 : DC mX1_line 24 = .ok (.invokevirtual 312, 3) := dk_182 1 56 (dk_at dksX1_line_1 0 rfl rfl)
theorem dX1_line_27 : DC mX1_line 27 = .ok (.invokevirtual 318, 3) := dk_182 1 62 (dk_at dksX1_line_1 3 rfl rfl)
theorem dX1_line_30 : DC mX1_line 30 = .ok (.astore_n 3, 1) := dk_78 (dk_at dksX1_line_1 6 rfl rfl)
theorem dX1_line_31 : DC mX1_line 31 = .ok (.iconst 0, 1) := dk_3 (dk_at dksX1_line_1 7 rfl rfl)
theorem dX1_line_32 : DC mX1_line 32 = .ok (.istore 4, 2) := dk_54 4 (dk_at dksX1_line_1 8 rfl rfl)
theorem dX1_line_34 : DC mX1_line 34 = .ok (.new 205, 3) := dk_187 0 205 (dk_at dksX1_line_1 10 rfl rfl)
theorem dX1_line_37 : DC mX1_line 37 = .ok (.dup, 1) := dk_89 (dk_at dksX1_line_1 13 rfl rfl)
theorem dX1_line_38 : DC mX1_line 38 = .ok (.aload_n 2, 1) := dk_44 (dk_at dksX1_line_1 14 rfl rfl)
theorem dX1_line_39 : DC mX1_line 39 = .ok (.getfield 143, 3) := dk_180 0 143 (dk_at dksX1_line_1 15 rfl rfl)
theorem dX1_line_42 : DC mX1_line 42 = .ok (.iconst 0, 1) := dk_3 (dk_at dksX1_line_1 18 rfl rfl)
theorem dX1_line_43 : DC mX1_line 43 = .ok (.invokespecial 265, 3) := dk_183 1 9 (dk_at dksX1_line_1 19 rfl rfl)
theorem dX1_line_46 : DC mX1_line 46 = .ok (.invokevirtual 210, 3) := dk_182 0 210 (dk_at dksX1_line_2 0 rfl rfl)
theorem dX1_line_49 : DC mX1_line 49 = .ok (.astore 5, 2) := dk_58 5 (dk_at dksX1_line_2 3 rfl rfl)
theorem dX1_line_51 : DC mX1_line 51 = .ok (.aload 5, 2) := dk_25 5 (dk_at dksX1_line_2 5 rfl rfl)
theorem dX1_line_53 : DC mX1_line 53 = .ok (.invokeinterface 195 1, 5) := by decide +kernel
theorem dX1_line_58 : DC mX1_line 58 = .ok (.ifCond .eq 56, 3) := dk_153 0 56 (dk_at dksX1_line_2 12 rfl rfl)
theorem dX1_line_61 : DC mX1_line 61 = .ok (.aload 5, 2) := dk_25 5 (dk_at dksX1_line_2 15 rfl rfl)
theorem dX1_line_63 : DC mX1_line 63 = .ok (.invokeinterface 201 1, 5) := by decide +kernel
theorem dX1_line_68 : DC mX1_line 68 = .ok (.checkcast 167, 3) := dk_192 0 167 (dk_at dksX1_line_3 0 rfl rfl)
theorem dX1_line_71 : DC mX1_line 71 = .ok (.astore 6, 2) := dk_58 6 (dk_at dksX1_line_3 3 rfl rfl)
theorem dX1_line_73 : DC mX1_line 73 = .ok (.iinc 4 1, 3) := dk_132 4 1 (dk_at dksX1_line_3 5 rfl rfl)
theorem dX1_line_76 : DC mX1_line 76 = .ok (.aload_n 3, 1) := dk_45 (dk_at dksX1_line_3 8 rfl rfl)
theorem dX1_line_77 : DC mX1_line 77 = .ok (.bipush 32, 2) := dk_16 32 (dk_at dksX1_line_3 9 rfl rfl)
theorem dX1_line_79 : DC mX1_line 79 = .ok (.invokevirtual 318, 3) := dk_182 1 62 (dk_at dksX1_line_3 11 rfl rfl)
theorem dX1_line_82 : DC mX1_line 82 = .ok (.aload 6, 2) := dk_25 6 (dk_at dksX1_line_3 14 rfl rfl)
theorem dX1_line_84 : DC mX1_line 84 = .ok (.invokevirtual 321, 3) := dk_182 1 65 (dk_at dksX1_line_3 16 rfl rfl)
theorem dX1_line_87 : DC mX1_line 87 = .ok (.invokevirtual 325, 3) := dk_182 1 69 (dk_at dksX1_line_3 19 rfl rfl)
theorem dX1_line_90 : DC mX1_line 90 = .ok (.iload 4, 2) := dk_21 4 (dk_at dksX1_line_3 22 rfl rfl)
theorem dX1_line_92 : DC mX1_line 92 = .ok (.aload_n 2, 1) := dk_44 (dk_at dksX1_line_4 0 rfl rfl)
theorem dX1_line_93 : DC mX1_line 93 = .ok (.getfield 149, 3) := dk_180 0 149 (dk_at dksX1_line_4 1 rfl rfl)
theorem dX1_line_96 : DC mX1_line 96 = .ok (.if_icmp .ne 9, 3) := dk_160 0 9 (dk_at dksX1_line_4 4 rfl rfl)
theorem dX1_line_99 : DC mX1_line 99 = .ok (.ldc_w 328, 3) := dk_19 1 72 (dk_at dksX1_line_4 7 rfl rfl)
theorem dX1_line_102 : DC mX1_line 102 = .ok (.goto 5, 3) := dk_167 0 5 (dk_at dksX1_line_4 10 rfl rfl)
theorem dX1_line_105 : DC mX1_line 105 = .ok (.ldc 47, 2) := dk_18 47 (dk_at dksX1_line_4 13 rfl rfl)
theorem dX1_line_107 : DC mX1_line 107 = .ok (.invokevirtual 325, 3) := dk_182 1 69 (dk_at dksX1_line_4 15 rfl rfl)
theorem dX1_line_110 : DC mX1_line 110 = .ok (.pop, 1) := dk_87 (dk_at dksX1_line_4 18 rfl rfl)
theorem dX1_line_111 : DC mX1_line 111 = .ok (.goto (-60), 3) := dk_167 255 196 (dk_at dksX1_line_4 19 rfl rfl)
theorem dX1_line_114 : DC mX1_line 114 = .ok (.aload_n 0, 1) := dk_42 (dk_at dksX1_line_4 22 rfl rfl)
theorem dX1_line_115 : DC mX1_line 115 = .ok (.aload_n 3, 1) := dk_45 (dk_at dksX1_line_4 23 rfl rfl)
theorem dX1_line_116 : DC mX1_line 116 = .ok (.putfield 49, 3) := dk_181 0 49 (dk_at dksX1_line_5 0 rfl rfl)
theorem dX1_line_119 : DC mX1_line 119 = .ok (.aload_n 0, 1) := dk_42 (dk_at dksX1_line_5 3 rfl rfl)
theorem dX1_line_120 : DC mX1_line 120 = .ok (.getfield 49, 3) := dk_180 0 49 (dk_at dksX1_line_5 4 rfl rfl)
theorem dX1_line_123 : DC mX1_line 123 = .ok (.invokeinterface 330 1, 5) := by decide +kernel
theorem dX1_line_128 : DC mX1_line 128 = .ok (.ireturn, 1) := dk_172 (dk_at dksX1_line_5 12 rfl rfl)
abbrev cX1_character : ByteArray := prog_1_method_37_code
def yX1_character : MethodName := ⟨RX1, "character", "(I)C"⟩
def mX1_character : MI := (⟨"TheatreSaga", "character", "(I)C"⟩, prog_1_method_37_code, 2, (Option.some FieldType.char), none, 39, 9)
theorem oX1_character : mO mX1_character = 39 := rfl
theorem lX1_character : mL mX1_character = 2 := rfl
theorem rX1_character : mR mX1_character = (Option.some FieldType.char) := rfl
theorem vX1_character : mV mX1_character = 9 := rfl
theorem nX1_character : (mY mX1_character).name = "character" := rfl
theorem hX1_character : mH mX1_character = none := rfl
theorem kX1_character : MOk mX1_character := ⟨q2035, q75, by decide +kernel⟩
theorem gX1_character : plainName (mY mX1_character).cls = true ∧ (mY mX1_character).cls = "TheatreSaga" := ⟨by decide +kernel, rfl⟩
def dkwX1_character_1 : List UInt8 := [185, 1, 79, 2, 0, 172]
abbrev dktX1_character_1 : List UInt8 := dkwX1_character_1 ++ []
def dkwX1_character_0 : List UInt8 := [27, 3, 42, 180, 0, 49, 185, 1, 74, 1, 0, 4, 100, 184, 0, 129, 184, 0, 232, 42, 180, 0, 49, 27]
abbrev dktX1_character_0 : List UInt8 := dkwX1_character_0 ++ dktX1_character_1
theorem dksX1_character_0 : cX1_character.data.toList.drop 0 = dktX1_character_0 := by decide +kernel
theorem dksX1_character_1 : cX1_character.data.toList.drop 24 = dktX1_character_1 := dk_seg dksX1_character_0 24 rfl rfl
theorem dX1_character_0 : DC mX1_character 0 = .ok (.iload_n 1, 1) := dk_27 (dk_at dksX1_character_0 0 rfl rfl)
theorem dX1_character_1 : DC mX1_character 1 = .ok (.iconst 0, 1) := dk_3 (dk_at dksX1_character_0 1 rfl rfl)
theorem dX1_character_2 : DC mX1_character 2 = .ok (.aload_n 0, 1) := dk_42 (dk_at dksX1_character_0 2 rfl rfl)
theorem dX1_character_3 : DC mX1_character 3 = .ok (.getfield 49, 3) := dk_180 0 49 (dk_at dksX1_character_0 3 rfl rfl)
theorem dX1_character_6 : DC mX1_character 6 = .ok (.invokeinterface 330 1, 5) := by decide +kernel
theorem dX1_character_11 : DC mX1_character 11 = .ok (.iconst 1, 1) := dk_4 (dk_at dksX1_character_0 11 rfl rfl)
theorem dX1_character_12 : DC mX1_character 12 = .ok (.isub, 1) := dk_100 (dk_at dksX1_character_0 12 rfl rfl)
theorem dX1_character_13 : DC mX1_character 13 = .ok (.invokestatic 129, 3) := dk_184 0 129 (dk_at dksX1_character_0 13 rfl rfl)
theorem dX1_character_16 : DC mX1_character 16 = .ok (.invokestatic 232, 3) := dk_184 0 232 (dk_at dksX1_character_0 16 rfl rfl)
theorem dX1_character_19 : DC mX1_character 19 = .ok (.aload_n 0, 1) := dk_42 (dk_at dksX1_character_0 19 rfl rfl)
theorem dX1_character_20 : DC mX1_character 20 = .ok (.getfield 49, 3) := dk_180 0 49 (dk_at dksX1_character_0 20 rfl rfl)
theorem dX1_character_23 : DC mX1_character 23 = .ok (.iload_n 1, 1) := dk_27 (dk_at dksX1_character_0 23 rfl rfl)
theorem dX1_character_24 : DC mX1_character 24 = .ok (.invokeinterface 335 2, 5) := by decide +kernel
theorem dX1_character_29 : DC mX1_character 29 = .ok (.ireturn, 1) := dk_172 (dk_at dksX1_character_1 5 rfl rfl)
abbrev cX1_number : ByteArray := prog_1_method_38_code
def yX1_number : MethodName := ⟨RX1, "number", "(I)I"⟩
def mX1_number : MI := (⟨"TheatreSaga", "number", "(I)I"⟩, prog_1_method_38_code, 3, (Option.some FieldType.int), none, 39, 12)
theorem oX1_number : mO mX1_number = 39 := rfl
theorem lX1_number : mL mX1_number = 3 := rfl
theorem rX1_number : mR mX1_number = (Option.some FieldType.int) := rfl
theorem vX1_number : mV mX1_number = 12 := rfl
theorem nX1_number : (mY mX1_number).name = "number" := rfl
theorem hX1_number : mH mX1_number = none := rfl
theorem kX1_number : MOk mX1_number := ⟨q2060, q75, by decide +kernel⟩
theorem gX1_number : plainName (mY mX1_number).cls = true ∧ (mY mX1_number).cls = "TheatreSaga" := ⟨by decide +kernel, rfl⟩
def dkwX1_number_6 : List UInt8 := [180, 0, 29, 182, 0, 60, 167, 0, 10, 42, 180, 0, 36, 182, 1, 108, 172]
abbrev dktX1_number_6 : List UInt8 := dkwX1_number_6 ++ []
def dkwX1_number_5 : List UInt8 := [44, 180, 1, 101, 167, 0, 34, 44, 182, 1, 104, 167, 0, 27, 44, 182, 1, 106, 167, 0, 20, 42]
abbrev dktX1_number_5 : List UInt8 := dkwX1_number_5 ++ dktX1_number_6
def dkwX1_number_4 : List UInt8 := [167, 0, 62, 44, 180, 1, 92, 167, 0, 55, 44, 180, 1, 95, 167, 0, 48, 44, 180, 1, 98, 167, 0, 41]
abbrev dktX1_number_4 : List UInt8 := dkwX1_number_4 ++ dktX1_number_5
def dkwX1_number_3 : List UInt8 := [182, 1, 83, 167, 0, 83, 44, 180, 1, 86, 167, 0, 76, 44, 180, 1, 89, 167, 0, 69, 44, 180, 1, 90]
abbrev dktX1_number_3 : List UInt8 := dkwX1_number_3 ++ dktX1_number_4
def dkwX1_number_2 : List UInt8 := [44, 180, 1, 80, 167, 0, 105, 44, 180, 0, 104, 185, 0, 146, 1, 0, 167, 0, 93, 44, 27, 5, 100]
abbrev dktX1_number_2 : List UInt8 := dkwX1_number_2 ++ dktX1_number_3
def dkwX1_number_1 : List UInt8 := [170, 0, 0, 0, 0, 0, 0, 186, 0, 0, 0, 0, 0, 0, 0, 16, 0, 0, 0, 84, 0, 0, 0, 91, 0, 0, 0, 103, 0, 0, 0, 103, 0, 0, 0, 103, 0, 0, 0, 103, 0, 0, 0, 103, 0, 0, 0, 113, 0, 0, 0, 120, 0, 0, 0, 127, 0, 0, 0, 134, 0, 0, 0, 141, 0, 0, 0, 148, 0, 0, 0, 155, 0, 0, 0, 162, 0, 0, 0, 169, 0, 0, 0, 176]
abbrev dktX1_number_1 : List UInt8 := dkwX1_number_1 ++ dktX1_number_2
def dkwX1_number_0 : List UInt8 := [27, 3, 16, 17, 184, 0, 129, 184, 0, 133, 42, 180, 0, 43, 77, 27]
abbrev dktX1_number_0 : List UInt8 := dkwX1_number_0 ++ dktX1_number_1
theorem dksX1_number_0 : cX1_number.data.toList.drop 0 = dktX1_number_0 := by decide +kernel
theorem dksX1_number_1 : cX1_number.data.toList.drop 16 = dktX1_number_1 := dk_seg dksX1_number_0 16 rfl rfl
theorem dksX1_number_2 : cX1_number.data.toList.drop 100 = dktX1_number_2 := dk_seg dksX1_number_1 84 rfl rfl
theorem dksX1_number_3 : cX1_number.data.toList.drop 123 = dktX1_number_3 := dk_seg dksX1_number_2 23 rfl rfl
theorem dksX1_number_4 : cX1_number.data.toList.drop 147 = dktX1_number_4 := dk_seg dksX1_number_3 24 rfl rfl
theorem dksX1_number_5 : cX1_number.data.toList.drop 171 = dktX1_number_5 := dk_seg dksX1_number_4 24 rfl rfl
theorem dksX1_number_6 : cX1_number.data.toList.drop 193 = dktX1_number_6 := dk_seg dksX1_number_5 22 rfl rfl
theorem dX1_number_0 : DC mX1_number 0 = .ok (.iload_n 1, 1) := dk_27 (dk_at dksX1_number_0 0 rfl rfl)
theorem dX1_number_1 : DC mX1_number 1 = .ok (.iconst 0, 1) := dk_3 (dk_at dksX1_number_0 1 rfl rfl)
theorem dX1_number_2 : DC mX1_number 2 = .ok (.bipush 17, 2) := dk_16 17 (dk_at dksX1_number_0 2 rfl rfl)
theorem dX1_number_4 : DC mX1_number 4 = .ok (.invokestatic 129, 3) := dk_184 0 129 (dk_at dksX1_number_0 4 rfl rfl)
theorem dX1_number_7 : DC mX1_number 7 = .ok (.invokestatic 133, 3) := dk_184 0 133 (dk_at dksX1_number_0 7 rfl rfl)
theorem dX1_number_10 : DC mX1_number 10 = .ok (.aload_n 0, 1) := dk_42 (dk_at dksX1_number_0 10 rfl rfl)
theorem dX1_number_11 : DC mX1_number 11 = .ok (.getfield 43, 3) := dk_180 0 43 (dk_at dksX1_number_0 11 rfl rfl)
theorem dX1_number_14 : DC mX1_number 14 = .ok (.astore_n 2, 1) := dk_77 (dk_at dksX1_number_0 14 rfl rfl)
theorem dX1_number_15 : DC mX1_number 15 = .ok (.iload_n 1, 1) := dk_27 (dk_at dksX1_number_0 15 rfl rfl)
theorem dX1_number_16 : DC mX1_number 16 = .ok (.tableswitch 186 0 16 #[84, 91, 103, 103, 103, 103, 103, 113, 120, 127, 134, 141, 148, 155, 162, 169, 176], 84) := by decide +kernel
theorem dX1_number_100 : DC mX1_number 100 = .ok (.aload_n 2, 1) := dk_44 (dk_at dksX1_number_2 0 rfl rfl)
theorem dX1_number_101 : DC mX1_number 101 = .ok (.getfield 336, 3) := dk_180 1 80 (dk_at dksX1_number_2 1 rfl rfl)
theorem dX1_number_104 : DC mX1_number 104 = .ok (.goto 105, 3) := dk_167 0 105 (dk_at dksX1_number_2 4 rfl rfl)
theorem dX1_number_107 : DC mX1_number 107 = .ok (.aload_n 2, 1) := dk_44 (dk_at dksX1_number_2 7 rfl rfl)
theorem dX1_number_108 : DC mX1_number 108 = .ok (.getfield 104, 3) := dk_180 0 104 (dk_at dksX1_number_2 8 rfl rfl)
theorem dX1_number_111 : DC mX1_number 111 = .ok (.invokeinterface 146 1, 5) := by decide +kernel
theorem dX1_number_116 : DC mX1_number 116 = .ok (.goto 93, 3) := dk_167 0 93 (dk_at dksX1_number_2 16 rfl rfl)
theorem dX1_number_119 : DC mX1_number 119 = .ok (.aload_n 2, 1) := dk_44 (dk_at dksX1_number_2 19 rfl rfl)
theorem dX1_number_120 : DC mX1_number 120 = .ok (.iload_n 1, 1) := dk_27 (dk_at dksX1_number_2 20 rfl rfl)
theorem dX1_number_121 : DC mX1_number 121 = .ok (.iconst 2, 1) := dk_5 (dk_at dksX1_number_2 21 rfl rfl)
theorem dX1_number_122 : DC mX1_number 122 = .ok (.isub, 1) := dk_100 (dk_at dksX1_number_2 22 rfl rfl)
theorem dX1_number_123 : DC mX1_number 123 = .ok (.invokevirtual 339, 3) := dk_182 1 83 (dk_at dksX1_number_3 0 rfl rfl)
theorem dX1_number_126 : DC mX1_number 126 = .ok (.goto 83, 3) := dk_167 0 83 (dk_at dksX1_number_3 3 rfl rfl)
theorem dX1_number_129 : DC mX1_number 129 = .ok (.aload_n 2, 1) := dk_44 (dk_at dksX1_number_3 6 rfl rfl)
theorem dX1_number_130 : DC mX1_number 130 = .ok (.getfield 342, 3) := dk_180 1 86 (dk_at dksX1_number_3 7 rfl rfl)
theorem dX1_number_133 : DC mX1_number 133 = .ok (.goto 76, 3) := dk_167 0 76 (dk_at dksX1_number_3 10 rfl rfl)
theorem dX1_number_136 : DC mX1_number 136 = .ok (.aload_n 2, 1) := dk_44 (dk_at dksX1_number_3 13 rfl rfl)
theorem dX1_number_137 : DC mX1_number 137 = .ok (.getfield 345, 3) := dk_180 1 89 (dk_at dksX1_number_3 14 rfl rfl)
theorem dX1_number_140 : DC mX1_number 140 = .ok (.goto 69, 3) := dk_167 0 69 (dk_at dksX1_number_3 17 rfl rfl)
theorem dX1_number_143 : DC mX1_number 143 = .ok (.aload_n 2, 1) := dk_44 (dk_at dksX1_number_3 20 rfl rfl)
theorem dX1_number_144 : DC mX1_number 144 = .ok (.getfield 346, 3) := dk_180 1 90 (dk_at dksX1_number_3 21 rfl rfl)
theorem dX1_number_147 : DC mX1_number 147 = .ok (.goto 62, 3) := dk_167 0 62 (dk_at dksX1_number_4 0 rfl rfl)
theorem dX1_number_150 : DC mX1_number 150 = .ok (.aload_n 2, 1) := dk_44 (dk_at dksX1_number_4 3 rfl rfl)
theorem dX1_number_151 : DC mX1_number 151 = .ok (.getfield 348, 3) := dk_180 1 92 (dk_at dksX1_number_4 4 rfl rfl)
theorem dX1_number_154 : DC mX1_number 154 = .ok (.goto 55, 3) := dk_167 0 55 (dk_at dksX1_number_4 7 rfl rfl)
theorem dX1_number_157 : DC mX1_number 157 = .ok (.aload_n 2, 1) := dk_44 (dk_at dksX1_number_4 10 rfl rfl)
theorem dX1_number_158 : DC mX1_number 158 = .ok (.getfield 351, 3) := dk_180 1 95 (dk_at dksX1_number_4 11 rfl rfl)
theorem dX1_number_161 : DC mX1_number 161 = .ok (.goto 48, 3) := dk_167 0 48 (dk_at dksX1_number_4 14 rfl rfl)
theorem dX1_number_164 : DC mX1_number 164 = .ok (.aload_n 2, 1) := dk_44 (dk_at dksX1_number_4 17 rfl rfl)
theorem dX1_number_165 : DC mX1_number 165 = .ok (.getfield 354, 3) := dk_180 1 98 (dk_at dksX1_number_4 18 rfl rfl)
theorem dX1_number_168 : DC mX1_number 168 = .ok (.goto 41, 3) := dk_167 0 41 (dk_at dksX1_number_4 21 rfl rfl)
theorem dX1_number_171 : DC mX1_number 171 = .ok (.aload_n 2, 1) := dk_44 (dk_at dksX1_number_5 0 rfl rfl)
theorem dX1_number_172 : DC mX1_number 172 = .ok (.getfield 357, 3) := dk_180 1 101 (dk_at dksX1_number_5 1 rfl rfl)
theorem dX1_number_175 : DC mX1_number 175 = .ok (.goto 34, 3) := dk_167 0 34 (dk_at dksX1_number_5 4 rfl rfl)
theorem dX1_number_178 : DC mX1_number 178 = .ok (.aload_n 2, 1) := dk_44 (dk_at dksX1_number_5 7 rfl rfl)
theorem dX1_number_179 : DC mX1_number 179 = .ok (.invokevirtual 360, 3) := dk_182 1 104 (dk_at dksX1_number_5 8 rfl rfl)
theorem dX1_number_182 : DC mX1_number 182 = .ok (.goto 27, 3) := dk_167 0 27 (dk_at dksX1_number_5 11 rfl rfl)
theorem dX1_number_185 : DC mX1_number 185 = .ok (.aload_n 2, 1) := dk_44 (dk_at dksX1_number_5 14 rfl rfl)
theorem dX1_number_186 : DC mX1_number 186 = .ok (.invokevirtual 362, 3) := dk_182 1 106 (dk_at dksX1_number_5 15 rfl rfl)
theorem dX1_number_189 : DC mX1_number 189 = .ok (.goto 20, 3) := dk_167 0 20 (dk_at dksX1_number_5 18 rfl rfl)
theorem dX1_number_192 : DC mX1_number 192 = .ok (.aload_n 0, 1) := dk_42 (dk_at dksX1_number_5 21 rfl rfl)
theorem dX1_number_193 : DC mX1_number 193 = .ok (.getfield 29, 3) := dk_180 0 29 (dk_at dksX1_number_6 0 rfl rfl)
theorem dX1_number_196 : DC mX1_number 196 = .ok (.invokevirtual 60, 3) := dk_182 0 60 (dk_at dksX1_number_6 3 rfl rfl)
theorem dX1_number_199 : DC mX1_number 199 = .ok (.goto 10, 3) := dk_167 0 10 (dk_at dksX1_number_6 6 rfl rfl)
theorem dX1_number_202 : DC mX1_number 202 = .ok (.aload_n 0, 1) := dk_42 (dk_at dksX1_number_6 9 rfl rfl)
theorem dX1_number_203 : DC mX1_number 203 = .ok (.getfield 36, 3) := dk_180 0 36 (dk_at dksX1_number_6 10 rfl rfl)
theorem dX1_number_206 : DC mX1_number 206 = .ok (.invokevirtual 364, 3) := dk_182 1 108 (dk_at dksX1_number_6 13 rfl rfl)
theorem dX1_number_209 : DC mX1_number 209 = .ok (.ireturn, 1) := dk_172 (dk_at dksX1_number_6 16 rfl rfl)
abbrev cX1_meanSteps : ByteArray := prog_1_method_40_code
def yX1_meanSteps : MethodName := ⟨RX1, "meanSteps", "()D"⟩
def mX1_meanSteps : MI := (⟨"TheatreSaga", "meanSteps", "()D"⟩, prog_1_method_40_code, 4, (Option.some FieldType.double), none, 39, 11)
theorem oX1_meanSteps : mO mX1_meanSteps = 39 := rfl
theorem lX1_meanSteps : mL mX1_meanSteps = 4 := rfl
theorem rX1_meanSteps : mR mX1_meanSteps = (Option.some FieldType.double) := rfl
theorem vX1_meanSteps : mV mX1_meanSteps = 11 := rfl
theorem nX1_meanSteps : (mY mX1_meanSteps).name = "meanSteps" := rfl
theorem hX1_meanSteps : mH mX1_meanSteps = none := rfl
theorem kX1_meanSteps : MOk mX1_meanSteps := ⟨q2088, q75, by decide +kernel⟩
theorem gX1_meanSteps : plainName (mY mX1_meanSteps).cls = true ∧ (mY mX1_meanSteps).cls = "TheatreSaga" := ⟨by decide +kernel, rfl⟩
def dkwX1_meanSteps_3 : List UInt8 := [27, 135, 42, 180, 0, 43, 180, 0, 104, 185, 0, 146, 1, 0, 135, 111, 175]
abbrev dktX1_meanSteps_3 : List UInt8 := dkwX1_meanSteps_3 ++ []
def dkwX1_meanSteps_2 : List UInt8 := [185, 0, 201, 1, 0, 192, 0, 112, 78, 27, 45, 180, 0, 143, 185, 0, 146, 1, 0, 96, 60, 167, 255, 225]
abbrev dktX1_meanSteps_2 : List UInt8 := dkwX1_meanSteps_2 ++ dktX1_meanSteps_3
def dkwX1_meanSteps_1 : List UInt8 := [60, 42, 180, 0, 43, 180, 0, 104, 185, 0, 191, 1, 0, 77, 44, 185, 0, 195, 1, 0, 153, 0, 28, 44]
abbrev dktX1_meanSteps_1 : List UInt8 := dkwX1_meanSteps_1 ++ dktX1_meanSteps_2
def dkwX1_meanSteps_0 : List UInt8 := [42, 180, 0, 43, 180, 0, 104, 185, 1, 113, 1, 0, 153, 0, 11, 187, 1, 116, 89, 183, 1, 118, 191, 3]
abbrev dktX1_meanSteps_0 : List UInt8 := dkwX1_meanSteps_0 ++ dktX1_meanSteps_1
theorem dksX1_meanSteps_0 : cX1_meanSteps.data.toList.drop 0 = dktX1_meanSteps_0 := by decide +kernel
theorem dksX1_meanSteps_1 : cX1_meanSteps.data.toList.drop 24 = dktX1_meanSteps_1 := dk_seg dksX1_meanSteps_0 24 rfl rfl
theorem dksX1_meanSteps_2 : cX1_meanSteps.data.toList.drop 48 = dktX1_meanSteps_2 := dk_seg dksX1_meanSteps_1 24 rfl rfl
theorem dksX1_meanSteps_3 : cX1_meanSteps.data.toList.drop 72 = dktX1_meanSteps_3 := dk_seg dksX1_meanSteps_2 24 rfl rfl
theorem dX1_meanSteps_0 : DC mX1_meanSteps 0 = .ok (.aload_n 0, 1) := dk_42 (dk_at dksX1_meanSteps_0 0 rfl rfl)
theorem dX1_meanSteps_1 : DC mX1_meanSteps 1 = .ok (.getfield 43, 3) := dk_180 0 43 (dk_at dksX1_meanSteps_0 1 rfl rfl)
theorem dX1_meanSteps_4 : DC mX1_meanSteps 4 = .ok (.getfield 104, 3) := dk_180 0 104 (dk_at dksX1_meanSteps_0 4 rfl rfl)
theorem dX1_meanSteps_7 : DC mX1_meanSteps 7 = .ok (.invokeinterface 369 1, 5) := by decide +kernel
theorem dX1_meanSteps_12 : DC mX1_meanSteps 12 = .ok (.ifCond .eq 11, 3) := dk_153 0 11 (dk_at dksX1_meanSteps_0 12 rfl rfl)
theorem dX1_meanSteps_15 : DC mX1_meanSteps 15 = .ok (.new 372, 3) := dk_187 1 116 (dk_at dksX1_meanSteps_0 15 rfl rfl)
theorem dX1_meanSteps_18 : DC mX1_meanSteps 18 = .ok (.dup, 1) := dk_89 (dk_at dksX1_meanSteps_0 18 rfl rfl)
theorem dX1_meanSteps_19 : DC mX1_meanSteps 19 = .ok (.invokespecial 374, 3) := dk_183 1 118 (dk_at dksX1_meanSteps_0 19 rfl rfl)
theorem dX1_meanSteps_22 : DC mX1_meanSteps 22 = .ok (.athrow, 1) := dk_191 (dk_at dksX1_meanSteps_0 22 rfl rfl)
theorem dX1_meanSteps_23 : DC mX1_meanSteps 23 = .ok (.iconst 0, 1) := dk_3 (dk_at dksX1_meanSteps_0 23 rfl rfl)
theorem dX1_meanSteps_24 : DC mX1_meanSteps 24 = .ok (.istore_n 1, 1) := dk_60 (dk_at dksX1_meanSteps_1 0 rfl rfl)
theorem dX1_meanSteps_25 : DC mX1_meanSteps 25 = .ok (.aload_n 0, 1) := dk_42 (dk_at dksX1_meanSteps_1 1 rfl rfl)
theorem dX1_meanSteps_26 : DC mX1_meanSteps 26 = .ok (.getfield 43, 3) := dk_180 0 43 (dk_at dksX1_meanSteps_1 2 rfl rfl)
theorem dX1_meanSteps_29 : DC mX1_meanSteps 29 = .ok (.getfield 104, 3) := dk_180 0 104 (dk_at dksX1_meanSteps_1 5 rfl rfl)
theorem dX1_meanSteps_32 : DC mX1_meanSteps 32 = .ok (.invokeinterface 191 1, 5) := by decide +kernel
theorem dX1_meanSteps_37 : DC mX1_meanSteps 37 = .ok (.astore_n 2, 1) := dk_77 (dk_at dksX1_meanSteps_1 13 rfl rfl)
theorem dX1_meanSteps_38 : DC mX1_meanSteps 38 = .ok (.aload_n 2, 1) := dk_44 (dk_at dksX1_meanSteps_1 14 rfl rfl)
theorem dX1_meanSteps_39 : DC mX1_meanSteps 39 = .ok (.invokeinterface 195 1, 5) := by decide +kernel
theorem dX1_meanSteps_44 : DC mX1_meanSteps 44 = .ok (.ifCond .eq 28, 3) := dk_153 0 28 (dk_at dksX1_meanSteps_1 20 rfl rfl)
theorem dX1_meanSteps_47 : DC mX1_meanSteps 47 = .ok (.aload_n 2, 1) := dk_44 (dk_at dksX1_meanSteps_1 23 rfl rfl)
theorem dX1_meanSteps_48 : DC mX1_meanSteps 48 = .ok (.invokeinterface 201 1, 5) := by decide +kernel
theorem dX1_meanSteps_53 : DC mX1_meanSteps 53 = .ok (.checkcast 112, 3) := dk_192 0 112 (dk_at dksX1_meanSteps_2 5 rfl rfl)
theorem dX1_meanSteps_56 : DC mX1_meanSteps 56 = .ok (.astore_n 3, 1) := dk_78 (dk_at dksX1_meanSteps_2 8 rfl rfl)
theorem dX1_meanSteps_57 : DC mX1_meanSteps 57 = .ok (.iload_n 1, 1) := dk_27 (dk_at dksX1_meanSteps_2 9 rfl rfl)
theorem dX1_meanSteps_58 : DC mX1_meanSteps 58 = .ok (.aload_n 3, 1) := dk_45 (dk_at dksX1_meanSteps_2 10 rfl rfl)
theorem dX1_meanSteps_59 : DC mX1_meanSteps 59 = .ok (.getfield 143, 3) := dk_180 0 143 (dk_at dksX1_meanSteps_2 11 rfl rfl)
theorem dX1_meanSteps_62 : DC mX1_meanSteps 62 = .ok (.invokeinterface 146 1, 5) := by decide +kernel
theorem dX1_meanSteps_67 : DC mX1_meanSteps 67 = .ok (.iadd, 1) := dk_96 (dk_at dksX1_meanSteps_2 19 rfl rfl)
theorem dX1_meanSteps_68 : DC mX1_meanSteps 68 = .ok (.istore_n 1, 1) := dk_60 (dk_at dksX1_meanSteps_2 20 rfl rfl)
theorem dX1_meanSteps_69 : DC mX1_meanSteps 69 = .ok (.goto (-31), 3) := dk_167 255 225 (dk_at dksX1_meanSteps_2 21 rfl rfl)
theorem dX1_meanSteps_72 : DC mX1_meanSteps 72 = .ok (.iload_n 1, 1) := dk_27 (dk_at dksX1_meanSteps_3 0 rfl rfl)
theorem dX1_meanSteps_73 : DC mX1_meanSteps 73 = .ok (.i2d, 1) := dk_135 (dk_at dksX1_meanSteps_3 1 rfl rfl)
theorem dX1_meanSteps_74 : DC mX1_meanSteps 74 = .ok (.aload_n 0, 1) := dk_42 (dk_at dksX1_meanSteps_3 2 rfl rfl)
theorem dX1_meanSteps_75 : DC mX1_meanSteps 75 = .ok (.getfield 43, 3) := dk_180 0 43 (dk_at dksX1_meanSteps_3 3 rfl rfl)
theorem dX1_meanSteps_78 : DC mX1_meanSteps 78 = .ok (.getfield 104, 3) := dk_180 0 104 (dk_at dksX1_meanSteps_3 6 rfl rfl)
theorem dX1_meanSteps_81 : DC mX1_meanSteps 81 = .ok (.invokeinterface 146 1, 5) := by decide +kernel
theorem dX1_meanSteps_86 : DC mX1_meanSteps 86 = .ok (.i2d, 1) := dk_135 (dk_at dksX1_meanSteps_3 14 rfl rfl)
theorem dX1_meanSteps_87 : DC mX1_meanSteps 87 = .ok (.ddiv, 1) := dk_111 (dk_at dksX1_meanSteps_3 15 rfl rfl)
theorem dX1_meanSteps_88 : DC mX1_meanSteps 88 = .ok (.dreturn, 1) := dk_175 (dk_at dksX1_meanSteps_3 16 rfl rfl)
abbrev cX1_failedShare : ByteArray := prog_1_method_41_code
def yX1_failedShare : MethodName := ⟨RX1, "failedShare", "()F"⟩
def mX1_failedShare : MI := (⟨"TheatreSaga", "failedShare", "()F"⟩, prog_1_method_41_code, 1, (Option.some FieldType.float), none, 39, 8)
theorem oX1_failedShare : mO mX1_failedShare = 39 := rfl
theorem lX1_failedShare : mL mX1_failedShare = 1 := rfl
theorem rX1_failedShare : mR mX1_failedShare = (Option.some FieldType.float) := rfl
theorem vX1_failedShare : mV mX1_failedShare = 8 := rfl
theorem nX1_failedShare : (mY mX1_failedShare).name = "failedShare" := rfl
theorem hX1_failedShare : mH mX1_failedShare = none := rfl
theorem kX1_failedShare : MOk mX1_failedShare := ⟨q2102, q75, by decide +kernel⟩
theorem gX1_failedShare : plainName (mY mX1_failedShare).cls = true ∧ (mY mX1_failedShare).cls = "TheatreSaga" := ⟨by decide +kernel, rfl⟩
def dkwX1_failedShare_1 : List UInt8 := [180, 1, 101, 134, 42, 180, 0, 43, 180, 1, 98, 134, 110, 174]
abbrev dktX1_failedShare_1 : List UInt8 := dkwX1_failedShare_1 ++ []
def dkwX1_failedShare_0 : List UInt8 := [42, 180, 0, 43, 180, 1, 98, 154, 0, 11, 187, 1, 116, 89, 183, 1, 118, 191, 42, 180, 0, 43]
abbrev dktX1_failedShare_0 : List UInt8 := dkwX1_failedShare_0 ++ dktX1_failedShare_1
theorem dksX1_failedShare_0 : cX1_failedShare.data.toList.drop 0 = dktX1_failedShare_0 := by decide +kernel
theorem dksX1_failedShare_1 : cX1_failedShare.data.toList.drop 22 = dktX1_failedShare_1 := dk_seg dksX1_failedShare_0 22 rfl rfl
theorem dX1_failedShare_0 : DC mX1_failedShare 0 = .ok (.aload_n 0, 1) := dk_42 (dk_at dksX1_failedShare_0 0 rfl rfl)
theorem dX1_failedShare_1 : DC mX1_failedShare 1 = .ok (.getfield 43, 3) := dk_180 0 43 (dk_at dksX1_failedShare_0 1 rfl rfl)
theorem dX1_failedShare_4 : DC mX1_failedShare 4 = .ok (.getfield 354, 3) := dk_180 1 98 (dk_at dksX1_failedShare_0 4 rfl rfl)
theorem dX1_failedShare_7 : DC mX1_failedShare 7 = .ok (.ifCond .ne 11, 3) := dk_154 0 11 (dk_at dksX1_failedShare_0 7 rfl rfl)
theorem dX1_failedShare_10 : DC mX1_failedShare 10 = .ok (.new 372, 3) := dk_187 1 116 (dk_at dksX1_failedShare_0 10 rfl rfl)
theorem dX1_failedShare_13 : DC mX1_failedShare 13 = .ok (.dup, 1) := dk_89 (dk_at dksX1_failedShare_0 13 rfl rfl)
theorem dX1_failedShare_14 : DC mX1_failedShare 14 = .ok (.invokespecial 374, 3) := dk_183 1 118 (dk_at dksX1_failedShare_0 14 rfl rfl)
theorem dX1_failedShare_17 : DC mX1_failedShare 17 = .ok (.athrow, 1) := dk_191 (dk_at dksX1_failedShare_0 17 rfl rfl)
theorem dX1_failedShare_18 : DC mX1_failedShare 18 = .ok (.aload_n 0, 1) := dk_42 (dk_at dksX1_failedShare_0 18 rfl rfl)
theorem dX1_failedShare_19 : DC mX1_failedShare 19 = .ok (.getfield 43, 3) := dk_180 0 43 (dk_at dksX1_failedShare_0 19 rfl rfl)
theorem dX1_failedShare_22 : DC mX1_failedShare 22 = .ok (.getfield 357, 3) := dk_180 1 101 (dk_at dksX1_failedShare_1 0 rfl rfl)
theorem dX1_failedShare_25 : DC mX1_failedShare 25 = .ok (.i2f, 1) := dk_134 (dk_at dksX1_failedShare_1 3 rfl rfl)
theorem dX1_failedShare_26 : DC mX1_failedShare 26 = .ok (.aload_n 0, 1) := dk_42 (dk_at dksX1_failedShare_1 4 rfl rfl)
theorem dX1_failedShare_27 : DC mX1_failedShare 27 = .ok (.getfield 43, 3) := dk_180 0 43 (dk_at dksX1_failedShare_1 5 rfl rfl)
theorem dX1_failedShare_30 : DC mX1_failedShare 30 = .ok (.getfield 354, 3) := dk_180 1 98 (dk_at dksX1_failedShare_1 8 rfl rfl)
theorem dX1_failedShare_33 : DC mX1_failedShare 33 = .ok (.i2f, 1) := dk_134 (dk_at dksX1_failedShare_1 11 rfl rfl)
theorem dX1_failedShare_34 : DC mX1_failedShare 34 = .ok (.fdiv, 1) := dk_110 (dk_at dksX1_failedShare_1 12 rfl rfl)
theorem dX1_failedShare_35 : DC mX1_failedShare 35 = .ok (.freturn, 1) := dk_174 (dk_at dksX1_failedShare_1 13 rfl rfl)
abbrev cX1_feed : ByteArray := prog_1_method_42_code
def yX1_feed : MethodName := ⟨RX1, "feed", "(C)I"⟩
def mX1_feed : MI := (⟨"TheatreSaga", "feed", "(C)I"⟩, prog_1_method_42_code, 2, (Option.some FieldType.int), none, 39, 9)
theorem oX1_feed : mO mX1_feed = 39 := rfl
theorem lX1_feed : mL mX1_feed = 2 := rfl
theorem rX1_feed : mR mX1_feed = (Option.some FieldType.int) := rfl
theorem vX1_feed : mV mX1_feed = 9 := rfl
theorem nX1_feed : (mY mX1_feed).name = "feed" := rfl
theorem hX1_feed : mH mX1_feed = none := rfl
theorem kX1_feed : MOk mX1_feed := ⟨q2110, q75, by decide +kernel⟩
theorem gX1_feed : plainName (mY mX1_feed).cls = true ∧ (mY mX1_feed).cls = "TheatreSaga" := ⟨by decide +kernel, rfl⟩
def dkwX1_feed_1 : List UInt8 := [27, 182, 1, 62, 87, 42, 180, 0, 36, 182, 1, 108, 172]
abbrev dktX1_feed_1 : List UInt8 := dkwX1_feed_1 ++ []
def dkwX1_feed_0 : List UInt8 := [42, 180, 0, 36, 182, 1, 108, 16, 60, 162, 0, 7, 4, 167, 0, 4, 3, 184, 1, 119, 42, 180, 0, 36]
abbrev dktX1_feed_0 : List UInt8 := dkwX1_feed_0 ++ dktX1_feed_1
theorem dksX1_feed_0 : cX1_feed.data.toList.drop 0 = dktX1_feed_0 := by decide +kernel
theorem dksX1_feed_1 : cX1_feed.data.toList.drop 24 = dktX1_feed_1 := dk_seg dksX1_feed_0 24 rfl rfl
theorem dX1_feed_0 : DC mX1_feed 0 = .ok (.aload_n 0, 1) := dk_42 (dk_at dksX1_feed_0 0 rfl rfl)
theorem dX1_feed_1 : DC mX1_feed 1 = .ok (.getfield 36, 3) := dk_180 0 36 (dk_at dksX1_feed_0 1 rfl rfl)
theorem dX1_feed_4 : DC mX1_feed 4 = .ok (.invokevirtual 364, 3) := dk_182 1 108 (dk_at dksX1_feed_0 4 rfl rfl)
theorem dX1_feed_7 : DC mX1_feed 7 = .ok (.bipush 60, 2) := dk_16 60 (dk_at dksX1_feed_0 7 rfl rfl)
theorem dX1_feed_9 : DC mX1_feed 9 = .ok (.if_icmp .ge 7, 3) := dk_162 0 7 (dk_at dksX1_feed_0 9 rfl rfl)
theorem dX1_feed_12 : DC mX1_feed 12 = .ok (.iconst 1, 1) := dk_4 (dk_at dksX1_feed_0 12 rfl rfl)
theorem dX1_feed_13 : DC mX1_feed 13 = .ok (.goto 4, 3) := dk_167 0 4 (dk_at dksX1_feed_0 13 rfl rfl)
theorem dX1_feed_16 : DC mX1_feed 16 = .ok (.iconst 0, 1) := dk_3 (dk_at dksX1_feed_0 16 rfl rfl)
theorem dX1_feed_17 : DC mX1_feed 17 = .ok (.invokestatic 375, 3) := dk_184 1 119 (dk_at dksX1_feed_0 17 rfl rfl)
theorem dX1_feed_20 : DC mX1_feed 20 = .ok (.aload_n 0, 1) := dk_42 (dk_at dksX1_feed_0 20 rfl rfl)
theorem dX1_feed_21 : DC mX1_feed 21 = .ok (.getfield 36, 3) := dk_180 0 36 (dk_at dksX1_feed_0 21 rfl rfl)
theorem dX1_feed_24 : DC mX1_feed 24 = .ok (.iload_n 1, 1) := dk_27 (dk_at dksX1_feed_1 0 rfl rfl)
theorem dX1_feed_25 : DC mX1_feed 25 = .ok (.invokevirtual 318, 3) := dk_182 1 62 (dk_at dksX1_feed_1 1 rfl rfl)
theorem dX1_feed_28 : DC mX1_feed 28 = .ok (.pop, 1) := dk_87 (dk_at dksX1_feed_1 4 rfl rfl)
theorem dX1_feed_29 : DC mX1_feed 29 = .ok (.aload_n 0, 1) := dk_42 (dk_at dksX1_feed_1 5 rfl rfl)
theorem dX1_feed_30 : DC mX1_feed 30 = .ok (.getfield 36, 3) := dk_180 0 36 (dk_at dksX1_feed_1 6 rfl rfl)
theorem dX1_feed_33 : DC mX1_feed 33 = .ok (.invokevirtual 364, 3) := dk_182 1 108 (dk_at dksX1_feed_1 9 rfl rfl)
theorem dX1_feed_36 : DC mX1_feed 36 = .ok (.ireturn, 1) := dk_172 (dk_at dksX1_feed_1 12 rfl rfl)
abbrev cX1_requireState : ByteArray := prog_1_method_4_code
def yX1_requireState : MethodName := ⟨RX1, "requireState", "(Z)V"⟩
def mX1_requireState : MI := (⟨"TheatreSaga", "requireState", "(Z)V"⟩, prog_1_method_4_code, 1, (Option.none : Option FieldType), none, 39, 8)
theorem oX1_requireState : mO mX1_requireState = 39 := rfl
theorem lX1_requireState : mL mX1_requireState = 1 := rfl
theorem rX1_requireState : mR mX1_requireState = (Option.none : Option FieldType) := rfl
theorem vX1_requireState : mV mX1_requireState = 8 := rfl
theorem nX1_requireState : (mY mX1_requireState).name = "requireState" := rfl
theorem hX1_requireState : mH mX1_requireState = none := rfl
theorem kX1_requireState : MOk mX1_requireState := ⟨q2113, q75, by decide +kernel⟩
theorem gX1_requireState : plainName (mY mX1_requireState).cls = true ∧ (mY mX1_requireState).cls = "TheatreSaga" := ⟨by decide +kernel, rfl⟩
def dkwX1_requireState_0 : List UInt8 := [26, 154, 0, 11, 187, 0, 10, 89, 183, 0, 12, 191, 177]
abbrev dktX1_requireState_0 : List UInt8 := dkwX1_requireState_0 ++ []
theorem dksX1_requireState_0 : cX1_requireState.data.toList.drop 0 = dktX1_requireState_0 := by decide +kernel
theorem dX1_requireState_0 : DC mX1_requireState 0 = .ok (.iload_n 0, 1) := dk_26 (dk_at dksX1_requireState_0 0 rfl rfl)
theorem dX1_requireState_1 : DC mX1_requireState 1 = .ok (.ifCond .ne 11, 3) := dk_154 0 11 (dk_at dksX1_requireState_0 1 rfl rfl)
theorem dX1_requireState_4 : DC mX1_requireState 4 = .ok (.new 10, 3) := dk_187 0 10 (dk_at dksX1_requireState_0 4 rfl rfl)
theorem dX1_requireState_7 : DC mX1_requireState 7 = .ok (.dup, 1) := dk_89 (dk_at dksX1_requireState_0 7 rfl rfl)
theorem dX1_requireState_8 : DC mX1_requireState 8 = .ok (.invokespecial 12, 3) := dk_183 0 12 (dk_at dksX1_requireState_0 8 rfl rfl)
theorem dX1_requireState_11 : DC mX1_requireState 11 = .ok (.athrow, 1) := dk_191 (dk_at dksX1_requireState_0 11 rfl rfl)
theorem dX1_requireState_12 : DC mX1_requireState 12 = .ok (.return_, 1) := dk_177 (dk_at dksX1_requireState_0 12 rfl rfl)
abbrev cX1_read : ByteArray := prog_1_method_45_code
def yX1_read : MethodName := ⟨RX1, "read", "()I"⟩
def mX1_read : MI := (⟨"TheatreSaga", "read", "()I"⟩, prog_1_method_45_code, 4, (Option.some FieldType.int), some [(22, 27, 30, 16)], 39, 19)
theorem oX1_read : mO mX1_read = 39 := rfl
theorem lX1_read : mL mX1_read = 4 := rfl
theorem rX1_read : mR mX1_read = (Option.some FieldType.int) := rfl
theorem vX1_read : mV mX1_read = 19 := rfl
theorem nX1_read : (mY mX1_read).name = "read" := rfl
theorem hX1_read : mH mX1_read = some [(22, 27, 30, 16)] := rfl
theorem kX1_read : MOk mX1_read := ⟨q2125, q75, by decide +kernel⟩
theorem gX1_read : plainName (mY mX1_read).cls = true ∧ (mY mX1_read).cls = "TheatreSaga" := ⟨by decide +kernel, rfl⟩
def dkwX1_read_2 : List UInt8 := [172]
abbrev dktX1_read_2 : List UInt8 := dkwX1_read_2 ++ []
def dkwX1_read_1 : List UInt8 := [184, 1, 142, 167, 0, 10, 78, 42, 45, 182, 0, 100, 191, 42, 44, 43, 185, 0, 146, 1, 0, 182, 0, 96]
abbrev dktX1_read_1 : List UInt8 := dkwX1_read_1 ++ dktX1_read_2
def dkwX1_read_0 : List UInt8 := [42, 182, 1, 139, 76, 43, 198, 0, 7, 4, 167, 0, 4, 3, 184, 0, 133, 42, 182, 0, 83, 77, 43, 44]
abbrev dktX1_read_0 : List UInt8 := dkwX1_read_0 ++ dktX1_read_1
theorem dksX1_read_0 : cX1_read.data.toList.drop 0 = dktX1_read_0 := by decide +kernel
theorem dksX1_read_1 : cX1_read.data.toList.drop 24 = dktX1_read_1 := dk_seg dksX1_read_0 24 rfl rfl
theorem dksX1_read_2 : cX1_read.data.toList.drop 48 = dktX1_read_2 := dk_seg dksX1_read_1 24 rfl rfl
theorem dX1_read_0 : DC mX1_read 0 = .ok (.aload_n 0, 1) := dk_42 (dk_at dksX1_read_0 0 rfl rfl)
theorem dX1_read_1 : DC mX1_read 1 = .ok (.invokevirtual 395, 3) := dk_182 1 139 (dk_at dksX1_read_0 1 rfl rfl)
theorem dX1_read_4 : DC mX1_read 4 = .ok (.astore_n 1, 1) := dk_76 (dk_at dksX1_read_0 4 rfl rfl)
theorem dX1_read_5 : DC mX1_read 5 = .ok (.aload_n 1, 1) := dk_43 (dk_at dksX1_read_0 5 rfl rfl)
theorem dX1_read_6 : DC mX1_read 6 = .ok (.ifnull 7, 3) := dk_198 0 7 (dk_at dksX1_read_0 6 rfl rfl)
theorem dX1_read_9 : DC mX1_read 9 = .ok (.iconst 1, 1) := dk_4 (dk_at dksX1_read_0 9 rfl rfl)
theorem dX1_read_10 : DC mX1_read 10 = .ok (.goto 4, 3) := dk_167 0 4 (dk_at dksX1_read_0 10 rfl rfl)
theorem dX1_read_13 : DC mX1_read 13 = .ok (.iconst 0, 1) := dk_3 (dk_at dksX1_read_0 13 rfl rfl)
theorem dX1_read_14 : DC mX1_read 14 = .ok (.invokestatic 133, 3) := dk_184 0 133 (dk_at dksX1_read_0 14 rfl rfl)
theorem dX1_read_17 : DC mX1_read 17 = .ok (.aload_n 0, 1) := dk_42 (dk_at dksX1_read_0 17 rfl rfl)
theorem dX1_read_18 : DC mX1_read 18 = .ok (.invokevirtual 83, 3) := dk_182 0 83 (dk_at dksX1_read_0 18 rfl rfl)
theorem dX1_read_21 : DC mX1_read 21 = .ok (.astore_n 2, 1) := dk_77 (dk_at dksX1_read_0 21 rfl rfl)
theorem dX1_read_22 : DC mX1_read 22 = .ok (.aload_n 1, 1) := dk_43 (dk_at dksX1_read_0 22 rfl rfl)
theorem dX1_read_23 : DC mX1_read 23 = .ok (.aload_n 2, 1) := dk_44 (dk_at dksX1_read_0 23 rfl rfl)
theorem dX1_read_24 : DC mX1_read 24 = .ok (.invokestatic 398, 3) := dk_184 1 142 (dk_at dksX1_read_1 0 rfl rfl)
theorem dX1_read_27 : DC mX1_read 27 = .ok (.goto 10, 3) := dk_167 0 10 (dk_at dksX1_read_1 3 rfl rfl)
theorem dX1_read_30 : DC mX1_read 30 = .ok (.astore_n 3, 1) := dk_78 (dk_at dksX1_read_1 6 rfl rfl)
theorem dX1_read_31 : DC mX1_read 31 = .ok (.aload_n 0, 1) := dk_42 (dk_at dksX1_read_1 7 rfl rfl)
theorem dX1_read_32 : DC mX1_read 32 = .ok (.aload_n 3, 1) := dk_45 (dk_at dksX1_read_1 8 rfl rfl)
theorem dX1_read_33 : DC mX1_read 33 = .ok (.invokevirtual 100, 3) := dk_182 0 100 (dk_at dksX1_read_1 9 rfl rfl)
theorem dX1_read_36 : DC mX1_read 36 = .ok (.athrow, 1) := dk_191 (dk_at dksX1_read_1 12 rfl rfl)
theorem dX1_read_37 : DC mX1_read 37 = .ok (.aload_n 0, 1) := dk_42 (dk_at dksX1_read_1 13 rfl rfl)
theorem dX1_read_38 : DC mX1_read 38 = .ok (.aload_n 2, 1) := dk_44 (dk_at dksX1_read_1 14 rfl rfl)
theorem dX1_read_39 : DC mX1_read 39 = .ok (.aload_n 1, 1) := dk_43 (dk_at dksX1_read_1 15 rfl rfl)
theorem dX1_read_40 : DC mX1_read 40 = .ok (.invokeinterface 146 1, 5) := by decide +kernel
theorem dX1_read_45 : DC mX1_read 45 = .ok (.invokevirtual 96, 3) := dk_182 0 96 (dk_at dksX1_read_1 21 rfl rfl)
theorem dX1_read_48 : DC mX1_read 48 = .ok (.ireturn, 1) := dk_172 (dk_at dksX1_read_2 0 rfl rfl)
abbrev cX1_taken : ByteArray := prog_1_method_43_code
def yX1_taken : MethodName := ⟨RX1, "taken", "()Ljava/util/List;"⟩
def mX1_taken : MI := (⟨"TheatreSaga", "taken", "()Ljava/util/List;"⟩, prog_1_method_43_code, 4, (Option.some (FieldType.object "java/util/List")), some [(0, 12, 22, 390), (0, 12, 43, 0), (22, 33, 43, 0)], 39, 16)
theorem oX1_taken : mO mX1_taken = 39 := rfl
theorem lX1_taken : mL mX1_taken = 4 := rfl
theorem rX1_taken : mR mX1_taken = (Option.some (FieldType.object "java/util/List")) := rfl
theorem vX1_taken : mV mX1_taken = 16 := rfl
theorem nX1_taken : (mY mX1_taken).name = "taken" := rfl
theorem hX1_taken : mH mX1_taken = some [(0, 12, 22, 390), (0, 12, 43, 0), (22, 33, 43, 0)] := rfl
theorem kX1_taken : MOk mX1_taken := ⟨q2129, q75, by decide +kernel⟩
theorem gX1_taken : plainName (mY mX1_taken).cls = true ∧ (mY mX1_taken).cls = "TheatreSaga" := ⟨by decide +kernel, rfl⟩
def dkwX1_taken_2 : List UInt8 := [3, 182, 1, 131, 45, 191]
abbrev dktX1_taken_2 : List UInt8 := dkwX1_taken_2 ++ []
def dkwX1_taken_1 : List UInt8 := [43, 180, 1, 136, 181, 0, 53, 1, 77, 42, 180, 0, 36, 3, 182, 1, 131, 44, 176, 78, 42, 180, 0, 36]
abbrev dktX1_taken_1 : List UInt8 := dkwX1_taken_1 ++ dktX1_taken_2
def dkwX1_taken_0 : List UInt8 := [187, 1, 122, 89, 42, 183, 1, 124, 182, 1, 127, 76, 42, 180, 0, 36, 3, 182, 1, 131, 43, 176, 76, 42]
abbrev dktX1_taken_0 : List UInt8 := dkwX1_taken_0 ++ dktX1_taken_1
theorem dksX1_taken_0 : cX1_taken.data.toList.drop 0 = dktX1_taken_0 := by decide +kernel
theorem dksX1_taken_1 : cX1_taken.data.toList.drop 24 = dktX1_taken_1 := dk_seg dksX1_taken_0 24 rfl rfl
theorem dksX1_taken_2 : cX1_taken.data.toList.drop 48 = dktX1_taken_2 := dk_seg dksX1_taken_1 24 rfl rfl
theorem dX1_taken_0 : DC mX1_taken 0 = .ok (.new 378, 3) := dk_187 1 122 (dk_at dksX1_taken_0 0 rfl rfl)
theorem dX1_taken_3 : DC mX1_taken 3 = .ok (.dup, 1) := dk_89 (dk_at dksX1_taken_0 3 rfl rfl)
theorem dX1_taken_4 : DC mX1_taken 4 = .ok (.aload_n 0, 1) := dk_42 (dk_at dksX1_taken_0 4 rfl rfl)
theorem dX1_taken_5 : DC mX1_taken 5 = .ok (.invokespecial 380, 3) := dk_183 1 124 (dk_at dksX1_taken_0 5 rfl rfl)
theorem dX1_taken_8 : DC mX1_taken 8 = .ok (.invokevirtual 383, 3) := dk_182 1 127 (dk_at dksX1_taken_0 8 rfl rfl)
theorem dX1_taken_11 : DC mX1_taken 11 = .ok (.astore_n 1, 1) := dk_76 (dk_at dksX1_taken_0 11 rfl rfl)
theorem dX1_taken_12 : DC mX1_taken 12 = .ok (.aload_n 0, 1) := dk_42 (dk_at dksX1_taken_0 12 rfl rfl)
theorem dX1_taken_13 : DC mX1_taken 13 = .ok (.getfield 36, 3) := dk_180 0 36 (dk_at dksX1_taken_0 13 rfl rfl)
theorem dX1_taken_16 : DC mX1_taken 16 = .ok (.iconst 0, 1) := dk_3 (dk_at dksX1_taken_0 16 rfl rfl)
theorem dX1_taken_17 : DC mX1_taken 17 = .ok (.invokevirtual 387, 3) := dk_182 1 131 (dk_at dksX1_taken_0 17 rfl rfl)
theorem dX1_taken_20 : DC mX1_taken 20 = .ok (.aload_n 1, 1) := dk_43 (dk_at dksX1_taken_0 20 rfl rfl)
theorem dX1_taken_21 : DC mX1_taken 21 = .ok (.areturn, 1) := dk_176 (dk_at dksX1_taken_0 21 rfl rfl)
theorem dX1_taken_22 : DC mX1_taken 22 = .ok (.astore_n 1, 1) := dk_76 (dk_at dksX1_taken_0 22 rfl rfl)
theorem dX1_taken_23 : DC mX1_taken 23 = .ok (.aload_n 0, 1) := dk_42 (dk_at dksX1_taken_0 23 rfl rfl)
theorem dX1_taken_24 : DC mX1_taken 24 = .ok (.aload_n 1, 1) := dk_43 (dk_at dksX1_taken_1 0 rfl rfl)
theorem dX1_taken_25 : DC mX1_taken 25 = .ok (.getfield 392, 3) := dk_180 1 136 (dk_at dksX1_taken_1 1 rfl rfl)
theorem dX1_taken_28 : DC mX1_taken 28 = .ok (.putfield 53, 3) := dk_181 0 53 (dk_at dksX1_taken_1 4 rfl rfl)
theorem dX1_taken_31 : DC mX1_taken 31 = .ok (.aconst_null, 1) := dk_1 (dk_at dksX1_taken_1 7 rfl rfl)
theorem dX1_taken_32 : DC mX1_taken 32 = .ok (.astore_n 2, 1) := dk_77 (dk_at dksX1_taken_1 8 rfl rfl)
theorem dX1_taken_33 : DC mX1_taken 33 = .ok (.aload_n 0, 1) := dk_42 (dk_at dksX1_taken_1 9 rfl rfl)
theorem dX1_taken_34 : DC mX1_taken 34 = .ok (.getfield 36, 3) := dk_180 0 36 (dk_at dksX1_taken_1 10 rfl rfl)
theorem dX1_taken_37 : DC mX1_taken 37 = .ok (.iconst 0, 1) := dk_3 (dk_at dksX1_taken_1 13 rfl rfl)
theorem dX1_taken_38 : DC mX1_taken 38 = .ok (.invokevirtual 387, 3) := dk_182 1 131 (dk_at dksX1_taken_1 14 rfl rfl)
theorem dX1_taken_41 : DC mX1_taken 41 = .ok (.aload_n 2, 1) := dk_44 (dk_at dksX1_taken_1 17 rfl rfl)
theorem dX1_taken_42 : DC mX1_taken 42 = .ok (.areturn, 1) := dk_176 (dk_at dksX1_taken_1 18 rfl rfl)
theorem dX1_taken_43 : DC mX1_taken 43 = .ok (.astore_n 3, 1) := dk_78 (dk_at dksX1_taken_1 19 rfl rfl)
theorem dX1_taken_44 : DC mX1_taken 44 = .ok (.aload_n 0, 1) := dk_42 (dk_at dksX1_taken_1 20 rfl rfl)
theorem dX1_taken_45 : DC mX1_taken 45 = .ok (.getfield 36, 3) := dk_180 0 36 (dk_at dksX1_taken_1 21 rfl rfl)
theorem dX1_taken_48 : DC mX1_taken 48 = .ok (.iconst 0, 1) := dk_3 (dk_at dksX1_taken_2 0 rfl rfl)
theorem dX1_taken_49 : DC mX1_taken 49 = .ok (.invokevirtual 387, 3) := dk_182 1 131 (dk_at dksX1_taken_2 1 rfl rfl)
theorem dX1_taken_52 : DC mX1_taken 52 = .ok (.aload_n 3, 1) := dk_45 (dk_at dksX1_taken_2 4 rfl rfl)
theorem dX1_taken_53 : DC mX1_taken 53 = .ok (.athrow, 1) := dk_191 (dk_at dksX1_taken_2 5 rfl rfl)
abbrev cX1_doAll : ByteArray := prog_1_method_44_code
def yX1_doAll : MethodName := ⟨RX1, "doAll", "(Ljava/util/List;LTheatreSaga$Theatre;)V"⟩
def mX1_doAll : MI := (⟨"TheatreSaga", "doAll", "(Ljava/util/List;LTheatreSaga$Theatre;)V"⟩, prog_1_method_44_code, 6, (Option.none : Option FieldType), some [(29, 37, 40, 7), (29, 37, 40, 1)], 39, 17)
theorem oX1_doAll : mO mX1_doAll = 39 := rfl
theorem lX1_doAll : mL mX1_doAll = 6 := rfl
theorem rX1_doAll : mR mX1_doAll = (Option.none : Option FieldType) := rfl
theorem vX1_doAll : mV mX1_doAll = 17 := rfl
theorem nX1_doAll : (mY mX1_doAll).name = "doAll" := rfl
theorem hX1_doAll : mH mX1_doAll = some [(29, 37, 40, 7), (29, 37, 40, 1)] := rfl
theorem kX1_doAll : MOk mX1_doAll := ⟨q2329, q75, by decide +kernel⟩
theorem gX1_doAll : plainName (mY mX1_doAll).cls = true ∧ (mY mX1_doAll).cls = "TheatreSaga" := ⟨by decide +kernel, rfl⟩
def dkwX1_doAll_2 : List UInt8 := [28, 183, 0, 18, 191, 132, 2, 1, 167, 255, 209, 177]
abbrev dktX1_doAll_2 : List UInt8 := dkwX1_doAll_2 ++ []
def dkwX1_doAll_1 : List UInt8 := [192, 0, 87, 58, 4, 25, 4, 43, 182, 0, 92, 54, 5, 167, 0, 16, 58, 5, 187, 0, 16, 89, 16, 20]
abbrev dktX1_doAll_1 : List UInt8 := dkwX1_doAll_1 ++ dktX1_doAll_2
def dkwX1_doAll_0 : List UInt8 := [3, 61, 42, 185, 0, 191, 1, 0, 78, 45, 185, 0, 195, 1, 0, 153, 0, 44, 45, 185, 0, 201, 1, 0]
abbrev dktX1_doAll_0 : List UInt8 := dkwX1_doAll_0 ++ dktX1_doAll_1
theorem dksX1_doAll_0 : cX1_doAll.data.toList.drop 0 = dktX1_doAll_0 := by decide +kernel
theorem dksX1_doAll_1 : cX1_doAll.data.toList.drop 24 = dktX1_doAll_1 := dk_seg dksX1_doAll_0 24 rfl rfl
theorem dksX1_doAll_2 : cX1_doAll.data.toList.drop 48 = dktX1_doAll_2 := dk_seg dksX1_doAll_1 24 rfl rfl
theorem dX1_doAll_0 : DC mX1_doAll 0 = .ok (.iconst 0, 1) := dk_3 (dk_at dksX1_doAll_0 0 rfl rfl)
theorem dX1_doAll_1 : DC mX1_doAll 1 = .ok (.istore_n 2, 1) := dk_61 (dk_at dksX1_doAll_0 1 rfl rfl)
theorem dX1_doAll_2 : DC mX1_doAll 2 = .ok (.aload_n 0, 1) := dk_42 (dk_at dksX1_doAll_0 2 rfl rfl)
theorem dX1_doAll_3 : DC mX1_doAll 3 = .ok (.invokeinterface 191 1, 5) := by decide +kernel
theorem dX1_doAll_8 : DC mX1_doAll 8 = .ok (.astore_n 3, 1) := dk_78 (dk_at dksX1_doAll_0 8 rfl rfl)
theorem dX1_doAll_9 : DC mX1_doAll 9 = .ok (.aload_n 3, 1) := dk_45 (dk_at dksX1_doAll_0 9 rfl rfl)
theorem dX1_doAll_10 : DC mX1_doAll 10 = .ok (.invokeinterface 195 1, 5) := by decide +kernel
theorem dX1_doAll_15 : DC mX1_doAll 15 = .ok (.ifCond .eq 44, 3) := dk_153 0 44 (dk_at dksX1_doAll_0 15 rfl rfl)
theorem dX1_doAll_18 : DC mX1_doAll 18 = .ok (.aload_n 3, 1) := dk_45 (dk_at dksX1_doAll_0 18 rfl rfl)
theorem dX1_doAll_19 : DC mX1_doAll 19 = .ok (.invokeinterface 201 1, 5) := by decide +kernel
theorem dX1_doAll_24 : DC mX1_doAll 24 = .ok (.checkcast 87, 3) := dk_192 0 87 (dk_at dksX1_doAll_1 0 rfl rfl)
theorem dX1_doAll_27 : DC mX1_doAll 27 = .ok (.astore 4, 2) := dk_58 4 (dk_at dksX1_doAll_1 3 rfl rfl)
theorem dX1_doAll_29 : DC mX1_doAll 29 = .ok (.aload 4, 2) := dk_25 4 (dk_at dksX1_doAll_1 5 rfl rfl)
theorem dX1_doAll_31 : DC mX1_doAll 31 = .ok (.aload_n 1, 1) := dk_43 (dk_at dksX1_doAll_1 7 rfl rfl)
theorem dX1_doAll_32 : DC mX1_doAll 32 = .ok (.invokevirtual 92, 3) := dk_182 0 92 (dk_at dksX1_doAll_1 8 rfl rfl)
theorem dX1_doAll_35 : DC mX1_doAll 35 = .ok (.istore 5, 2) := dk_54 5 (dk_at dksX1_doAll_1 11 rfl rfl)
theorem dX1_doAll_37 : DC mX1_doAll 37 = .ok (.goto 16, 3) := dk_167 0 16 (dk_at dksX1_doAll_1 13 rfl rfl)
theorem dX1_doAll_40 : DC mX1_doAll 40 = .ok (.astore 5, 2) := dk_58 5 (dk_at dksX1_doAll_1 16 rfl rfl)
theorem dX1_doAll_42 : DC mX1_doAll 42 = .ok (.new 16, 3) := dk_187 0 16 (dk_at dksX1_doAll_1 18 rfl rfl)
theorem dX1_doAll_45 : DC mX1_doAll 45 = .ok (.dup, 1) := dk_89 (dk_at dksX1_doAll_1 21 rfl rfl)
theorem dX1_doAll_46 : DC mX1_doAll 46 = .ok (.bipush 20, 2) := dk_16 20 (dk_at dksX1_doAll_1 22 rfl rfl)
theorem dX1_doAll_48 : DC mX1_doAll 48 = .ok (.iload_n 2, 1) := dk_28 (dk_at dksX1_doAll_2 0 rfl rfl)
theorem dX1_doAll_49 : DC mX1_doAll 49 = .ok (.invokespecial 18, 3) := dk_183 0 18 (dk_at dksX1_doAll_2 1 rfl rfl)
theorem dX1_doAll_52 : DC mX1_doAll 52 = .ok (.athrow, 1) := dk_191 (dk_at dksX1_doAll_2 4 rfl rfl)
theorem dX1_doAll_53 : DC mX1_doAll 53 = .ok (.iinc 2 1, 3) := dk_132 2 1 (dk_at dksX1_doAll_2 5 rfl rfl)
theorem dX1_doAll_56 : DC mX1_doAll 56 = .ok (.goto (-47), 3) := dk_167 255 209 (dk_at dksX1_doAll_2 8 rfl rfl)
theorem dX1_doAll_59 : DC mX1_doAll 59 = .ok (.return_, 1) := dk_177 (dk_at dksX1_doAll_2 11 rfl rfl)
abbrev cX1_faultPosition : ByteArray := prog_1_method_46_code
def yX1_faultPosition : MethodName := ⟨RX1, "faultPosition", "()I"⟩
def mX1_faultPosition : MI := (⟨"TheatreSaga", "faultPosition", "()I"⟩, prog_1_method_46_code, 1, (Option.some FieldType.int), none, 39, 9)
theorem oX1_faultPosition : mO mX1_faultPosition = 39 := rfl
theorem lX1_faultPosition : mL mX1_faultPosition = 1 := rfl
theorem rX1_faultPosition : mR mX1_faultPosition = (Option.some FieldType.int) := rfl
theorem vX1_faultPosition : mV mX1_faultPosition = 9 := rfl
theorem nX1_faultPosition : (mY mX1_faultPosition).name = "faultPosition" := rfl
theorem hX1_faultPosition : mH mX1_faultPosition = none := rfl
theorem kX1_faultPosition : MOk mX1_faultPosition := ⟨q2336, q75, by decide +kernel⟩
theorem gX1_faultPosition : plainName (mY mX1_faultPosition).cls = true ∧ (mY mX1_faultPosition).cls = "TheatreSaga" := ⟨by decide +kernel, rfl⟩
def dkwX1_faultPosition_0 : List UInt8 := [42, 180, 0, 53, 2, 159, 0, 7, 4, 167, 0, 4, 3, 184, 0, 250, 42, 180, 0, 53, 172]
abbrev dktX1_faultPosition_0 : List UInt8 := dkwX1_faultPosition_0 ++ []
theorem dksX1_faultPosition_0 : cX1_faultPosition.data.toList.drop 0 = dktX1_faultPosition_0 := by decide +kernel
theorem dX1_faultPosition_0 : DC mX1_faultPosition 0 = .ok (.aload_n 0, 1) := dk_42 (dk_at dksX1_faultPosition_0 0 rfl rfl)
theorem dX1_faultPosition_1 : DC mX1_faultPosition 1 = .ok (.getfield 53, 3) := dk_180 0 53 (dk_at dksX1_faultPosition_0 1 rfl rfl)
theorem dX1_faultPosition_4 : DC mX1_faultPosition 4 = .ok (.iconst (-1), 1) := dk_2 (dk_at dksX1_faultPosition_0 4 rfl rfl)
theorem dX1_faultPosition_5 : DC mX1_faultPosition 5 = .ok (.if_icmp .eq 7, 3) := dk_159 0 7 (dk_at dksX1_faultPosition_0 5 rfl rfl)
theorem dX1_faultPosition_8 : DC mX1_faultPosition 8 = .ok (.iconst 1, 1) := dk_4 (dk_at dksX1_faultPosition_0 8 rfl rfl)
theorem dX1_faultPosition_9 : DC mX1_faultPosition 9 = .ok (.goto 4, 3) := dk_167 0 4 (dk_at dksX1_faultPosition_0 9 rfl rfl)
theorem dX1_faultPosition_12 : DC mX1_faultPosition 12 = .ok (.iconst 0, 1) := dk_3 (dk_at dksX1_faultPosition_0 12 rfl rfl)
theorem dX1_faultPosition_13 : DC mX1_faultPosition 13 = .ok (.invokestatic 250, 3) := dk_184 0 250 (dk_at dksX1_faultPosition_0 13 rfl rfl)
theorem dX1_faultPosition_16 : DC mX1_faultPosition 16 = .ok (.aload_n 0, 1) := dk_42 (dk_at dksX1_faultPosition_0 16 rfl rfl)
theorem dX1_faultPosition_17 : DC mX1_faultPosition 17 = .ok (.getfield 53, 3) := dk_180 0 53 (dk_at dksX1_faultPosition_0 17 rfl rfl)
theorem dX1_faultPosition_20 : DC mX1_faultPosition 20 = .ok (.ireturn, 1) := dk_172 (dk_at dksX1_faultPosition_0 20 rfl rfl)
abbrev cX1_refusal : ByteArray := prog_1_method_47_code
def yX1_refusal : MethodName := ⟨RX1, "refusal", "(Z)I"⟩
def mX1_refusal : MI := (⟨"TheatreSaga", "refusal", "(Z)I"⟩, prog_1_method_47_code, 2, (Option.some FieldType.int), none, 39, 9)
theorem oX1_refusal : mO mX1_refusal = 39 := rfl
theorem lX1_refusal : mL mX1_refusal = 2 := rfl
theorem rX1_refusal : mR mX1_refusal = (Option.some FieldType.int) := rfl
theorem vX1_refusal : mV mX1_refusal = 9 := rfl
theorem nX1_refusal : (mY mX1_refusal).name = "refusal" := rfl
theorem hX1_refusal : mH mX1_refusal = none := rfl
theorem kX1_refusal : MOk mX1_refusal := ⟨q2343, q75, by decide +kernel⟩
theorem gX1_refusal : plainName (mY mX1_refusal).cls = true ∧ (mY mX1_refusal).cls = "TheatreSaga" := ⟨by decide +kernel, rfl⟩
def dkwX1_refusal_1 : List UInt8 := [167, 0, 7, 42, 180, 0, 79, 172]
abbrev dktX1_refusal_1 : List UInt8 := dkwX1_refusal_1 ++ []
def dkwX1_refusal_0 : List UInt8 := [42, 180, 0, 75, 153, 0, 7, 4, 167, 0, 4, 3, 184, 0, 250, 27, 153, 0, 10, 42, 180, 0, 75]
abbrev dktX1_refusal_0 : List UInt8 := dkwX1_refusal_0 ++ dktX1_refusal_1
theorem dksX1_refusal_0 : cX1_refusal.data.toList.drop 0 = dktX1_refusal_0 := by decide +kernel
theorem dksX1_refusal_1 : cX1_refusal.data.toList.drop 23 = dktX1_refusal_1 := dk_seg dksX1_refusal_0 23 rfl rfl
theorem dX1_refusal_0 : DC mX1_refusal 0 = .ok (.aload_n 0, 1) := dk_42 (dk_at dksX1_refusal_0 0 rfl rfl)
theorem dX1_refusal_1 : DC mX1_refusal 1 = .ok (.getfield 75, 3) := dk_180 0 75 (dk_at dksX1_refusal_0 1 rfl rfl)
theorem dX1_refusal_4 : DC mX1_refusal 4 = .ok (.ifCond .eq 7, 3) := dk_153 0 7 (dk_at dksX1_refusal_0 4 rfl rfl)
theorem dX1_refusal_7 : DC mX1_refusal 7 = .ok (.iconst 1, 1) := dk_4 (dk_at dksX1_refusal_0 7 rfl rfl)
theorem dX1_refusal_8 : DC mX1_refusal 8 = .ok (.goto 4, 3) := dk_167 0 4 (dk_at dksX1_refusal_0 8 rfl rfl)
theorem dX1_refusal_11 : DC mX1_refusal 11 = .ok (.iconst 0, 1) := dk_3 (dk_at dksX1_refusal_0 11 rfl rfl)
theorem dX1_refusal_12 : DC mX1_refusal 12 = .ok (.invokestatic 250, 3) := dk_184 0 250 (dk_at dksX1_refusal_0 12 rfl rfl)
theorem dX1_refusal_15 : DC mX1_refusal 15 = .ok (.iload_n 1, 1) := dk_27 (dk_at dksX1_refusal_0 15 rfl rfl)
theorem dX1_refusal_16 : DC mX1_refusal 16 = .ok (.ifCond .eq 10, 3) := dk_153 0 10 (dk_at dksX1_refusal_0 16 rfl rfl)
theorem dX1_refusal_19 : DC mX1_refusal 19 = .ok (.aload_n 0, 1) := dk_42 (dk_at dksX1_refusal_0 19 rfl rfl)
theorem dX1_refusal_20 : DC mX1_refusal 20 = .ok (.getfield 75, 3) := dk_180 0 75 (dk_at dksX1_refusal_0 20 rfl rfl)
theorem dX1_refusal_23 : DC mX1_refusal 23 = .ok (.goto 7, 3) := dk_167 0 7 (dk_at dksX1_refusal_1 0 rfl rfl)
theorem dX1_refusal_26 : DC mX1_refusal 26 = .ok (.aload_n 0, 1) := dk_42 (dk_at dksX1_refusal_1 3 rfl rfl)
theorem dX1_refusal_27 : DC mX1_refusal 27 = .ok (.getfield 79, 3) := dk_180 0 79 (dk_at dksX1_refusal_1 4 rfl rfl)
theorem dX1_refusal_30 : DC mX1_refusal 30 = .ok (.ireturn, 1) := dk_172 (dk_at dksX1_refusal_1 7 rfl rfl)
abbrev cX1_undo : ByteArray := prog_1_method_48_code
def yX1_undo : MethodName := ⟨RX1, "undo", "()I"⟩
def mX1_undo : MI := (⟨"TheatreSaga", "undo", "()I"⟩, prog_1_method_48_code, 1, (Option.some FieldType.int), none, 39, 9)
theorem oX1_undo : mO mX1_undo = 39 := rfl
theorem lX1_undo : mL mX1_undo = 1 := rfl
theorem rX1_undo : mR mX1_undo = (Option.some FieldType.int) := rfl
theorem vX1_undo : mV mX1_undo = 9 := rfl
theorem nX1_undo : (mY mX1_undo).name = "undo" := rfl
theorem hX1_undo : mH mX1_undo = none := rfl
theorem kX1_undo : MOk mX1_undo := ⟨q2350, q75, by decide +kernel⟩
theorem gX1_undo : plainName (mY mX1_undo).cls = true ∧ (mY mX1_undo).cls = "TheatreSaga" := ⟨by decide +kernel, rfl⟩
def dkwX1_undo_1 : List UInt8 := [182, 1, 147, 192, 0, 40, 181, 0, 43, 42, 180, 0, 29, 182, 0, 60, 172]
abbrev dktX1_undo_1 : List UInt8 := dkwX1_undo_1 ++ []
def dkwX1_undo_0 : List UInt8 := [42, 180, 0, 29, 182, 1, 146, 154, 0, 7, 4, 167, 0, 4, 3, 184, 1, 119, 42, 42, 180, 0, 29]
abbrev dktX1_undo_0 : List UInt8 := dkwX1_undo_0 ++ dktX1_undo_1
theorem dksX1_undo_0 : cX1_undo.data.toList.drop 0 = dktX1_undo_0 := by decide +kernel
theorem dksX1_undo_1 : cX1_undo.data.toList.drop 23 = dktX1_undo_1 := dk_seg dksX1_undo_0 23 rfl rfl
theorem dX1_undo_0 : DC mX1_undo 0 = .ok (.aload_n 0, 1) := dk_42 (dk_at dksX1_undo_0 0 rfl rfl)
theorem dX1_undo_1 : DC mX1_undo 1 = .ok (.getfield 29, 3) := dk_180 0 29 (dk_at dksX1_undo_0 1 rfl rfl)
theorem dX1_undo_4 : DC mX1_undo 4 = .ok (.invokevirtual 402, 3) := dk_182 1 146 (dk_at dksX1_undo_0 4 rfl rfl)
theorem dX1_undo_7 : DC mX1_undo 7 = .ok (.ifCond .ne 7, 3) := dk_154 0 7 (dk_at dksX1_undo_0 7 rfl rfl)
theorem dX1_undo_10 : DC mX1_undo 10 = .ok (.iconst 1, 1) := dk_4 (dk_at dksX1_undo_0 10 rfl rfl)
theorem dX1_undo_11 : DC mX1_undo 11 = .ok (.goto 4, 3) := dk_167 0 4 (dk_at dksX1_undo_0 11 rfl rfl)
theorem dX1_undo_14 : DC mX1_undo 14 = .ok (.iconst 0, 1) := dk_3 (dk_at dksX1_undo_0 14 rfl rfl)
theorem dX1_undo_15 : DC mX1_undo 15 = .ok (.invokestatic 375, 3) := dk_184 1 119 (dk_at dksX1_undo_0 15 rfl rfl)
theorem dX1_undo_18 : DC mX1_undo 18 = .ok (.aload_n 0, 1) := dk_42 (dk_at dksX1_undo_0 18 rfl rfl)
theorem dX1_undo_19 : DC mX1_undo 19 = .ok (.aload_n 0, 1) := dk_42 (dk_at dksX1_undo_0 19 rfl rfl)
theorem dX1_undo_20 : DC mX1_undo 20 = .ok (.getfield 29, 3) := dk_180 0 29 (dk_at dksX1_undo_0 20 rfl rfl)
theorem dX1_undo_23 : DC mX1_undo 23 = .ok (.invokevirtual 403, 3) := dk_182 1 147 (dk_at dksX1_undo_1 0 rfl rfl)
theorem dX1_undo_26 : DC mX1_undo 26 = .ok (.checkcast 40, 3) := dk_192 0 40 (dk_at dksX1_undo_1 3 rfl rfl)
theorem dX1_undo_29 : DC mX1_undo 29 = .ok (.putfield 43, 3) := dk_181 0 43 (dk_at dksX1_undo_1 6 rfl rfl)
theorem dX1_undo_32 : DC mX1_undo 32 = .ok (.aload_n 0, 1) := dk_42 (dk_at dksX1_undo_1 9 rfl rfl)
theorem dX1_undo_33 : DC mX1_undo 33 = .ok (.getfield 29, 3) := dk_180 0 29 (dk_at dksX1_undo_1 10 rfl rfl)
theorem dX1_undo_36 : DC mX1_undo 36 = .ok (.invokevirtual 60, 3) := dk_182 0 60 (dk_at dksX1_undo_1 13 rfl rfl)
theorem dX1_undo_39 : DC mX1_undo 39 = .ok (.ireturn, 1) := dk_172 (dk_at dksX1_undo_1 16 rfl rfl)
abbrev cX1_restoreSnapshot : ByteArray := prog_1_method_50_code
def yX1_restoreSnapshot : MethodName := ⟨RX1, "restoreSnapshot", "()I"⟩
def mX1_restoreSnapshot : MI := (⟨"TheatreSaga", "restoreSnapshot", "()I"⟩, prog_1_method_50_code, 1, (Option.some FieldType.int), none, 39, 18)
theorem oX1_restoreSnapshot : mO mX1_restoreSnapshot = 39 := rfl
theorem lX1_restoreSnapshot : mL mX1_restoreSnapshot = 1 := rfl
theorem rX1_restoreSnapshot : mR mX1_restoreSnapshot = (Option.some FieldType.int) := rfl
theorem vX1_restoreSnapshot : mV mX1_restoreSnapshot = 18 := rfl
theorem nX1_restoreSnapshot : (mY mX1_restoreSnapshot).name = "restoreSnapshot" := rfl
theorem hX1_restoreSnapshot : mH mX1_restoreSnapshot = none := rfl
theorem kX1_restoreSnapshot : MOk mX1_restoreSnapshot := ⟨q2376, q75, by decide +kernel⟩
theorem gX1_restoreSnapshot : plainName (mY mX1_restoreSnapshot).cls = true ∧ (mY mX1_restoreSnapshot).cls = "TheatreSaga" := ⟨by decide +kernel, rfl⟩
def dkwX1_restoreSnapshot_2 : List UInt8 := [185, 0, 146, 1, 0, 172]
abbrev dktX1_restoreSnapshot_2 : List UInt8 := dkwX1_restoreSnapshot_2 ++ []
def dkwX1_restoreSnapshot_1 : List UInt8 := [183, 0, 57, 181, 0, 43, 42, 180, 0, 29, 182, 1, 153, 42, 180, 0, 43, 180, 0, 104]
abbrev dktX1_restoreSnapshot_1 : List UInt8 := dkwX1_restoreSnapshot_1 ++ dktX1_restoreSnapshot_2
def dkwX1_restoreSnapshot_0 : List UInt8 := [42, 180, 1, 150, 198, 0, 7, 4, 167, 0, 4, 3, 184, 1, 119, 42, 187, 0, 40, 89, 42, 180, 1, 150]
abbrev dktX1_restoreSnapshot_0 : List UInt8 := dkwX1_restoreSnapshot_0 ++ dktX1_restoreSnapshot_1
theorem dksX1_restoreSnapshot_0 : cX1_restoreSnapshot.data.toList.drop 0 = dktX1_restoreSnapshot_0 := by decide +kernel
theorem dksX1_restoreSnapshot_1 : cX1_restoreSnapshot.data.toList.drop 24 = dktX1_restoreSnapshot_1 := dk_seg dksX1_restoreSnapshot_0 24 rfl rfl
theorem dksX1_restoreSnapshot_2 : cX1_restoreSnapshot.data.toList.drop 44 = dktX1_restoreSnapshot_2 := dk_seg dksX1_restoreSnapshot_1 20 rfl rfl
theorem dX1_restoreSnapshot_0 : DC mX1_restoreSnapshot 0 = .ok (.aload_n 0, 1) := dk_42 (dk_at dksX1_restoreSnapshot_0 0 rfl rfl)
theorem dX1_restoreSnapshot_1 : DC mX1_restoreSnapshot 1 = .ok (.getfield 406, 3) := dk_180 1 150 (dk_at dksX1_restoreSnapshot_0 1 rfl rfl)
theorem dX1_restoreSnapshot_4 : DC mX1_restoreSnapshot 4 = .ok (.ifnull 7, 3) := dk_198 0 7 (dk_at dksX1_restoreSnapshot_0 4 rfl rfl)
theorem dX1_restoreSnapshot_7 : DC mX1_restoreSnapshot 7 = .ok (.iconst 1, 1) := dk_4 (dk_at dksX1_restoreSnapshot_0 7 rfl rfl)
theorem dX1_restoreSnapshot_8 : DC mX1_restoreSnapshot 8 = .ok (.goto 4, 3) := dk_167 0 4 (dk_at dksX1_restoreSnapshot_0 8 rfl rfl)
theorem dX1_restoreSnapshot_11 : DC mX1_restoreSnapshot 11 = .ok (.iconst 0, 1) := dk_3 (dk_at dksX1_restoreSnapshot_0 11 rfl rfl)
theorem dX1_restoreSnapshot_12 : DC mX1_restoreSnapshot 12 = .ok (.invokestatic 375, 3) := dk_184 1 119 (dk_at dksX1_restoreSnapshot_0 12 rfl rfl)
theorem dX1_restoreSnapshot_15 : DC mX1_restoreSnapshot 15 = .ok (.aload_n 0, 1) := dk_42 (dk_at dksX1_restoreSnapshot_0 15 rfl rfl)
theorem dX1_restoreSnapshot_16 : DC mX1_restoreSnapshot 16 = .ok (.new 40, 3) := dk_187 0 40 (dk_at dksX1_restoreSnapshot_0 16 rfl rfl)
theorem dX1_restoreSnapshot_19 : DC mX1_restoreSnapshot 19 = .ok (.dup, 1) := dk_89 (dk_at dksX1_restoreSnapshot_0 19 rfl rfl)
theorem dX1_restoreSnapshot_20 : DC mX1_restoreSnapshot 20 = .ok (.aload_n 0, 1) := dk_42 (dk_at dksX1_restoreSnapshot_0 20 rfl rfl)
theorem dX1_restoreSnapshot_21 : DC mX1_restoreSnapshot 21 = .ok (.getfield 406, 3) := dk_180 1 150 (dk_at dksX1_restoreSnapshot_0 21 rfl rfl)
theorem dX1_restoreSnapshot_24 : DC mX1_restoreSnapshot 24 = .ok (.invokespecial 57, 3) := dk_183 0 57 (dk_at dksX1_restoreSnapshot_1 0 rfl rfl)
theorem dX1_restoreSnapshot_27 : DC mX1_restoreSnapshot 27 = .ok (.putfield 43, 3) := dk_181 0 43 (dk_at dksX1_restoreSnapshot_1 3 rfl rfl)
theorem dX1_restoreSnapshot_30 : DC mX1_restoreSnapshot 30 = .ok (.aload_n 0, 1) := dk_42 (dk_at dksX1_restoreSnapshot_1 6 rfl rfl)
theorem dX1_restoreSnapshot_31 : DC mX1_restoreSnapshot 31 = .ok (.getfield 29, 3) := dk_180 0 29 (dk_at dksX1_restoreSnapshot_1 7 rfl rfl)
theorem dX1_restoreSnapshot_34 : DC mX1_restoreSnapshot 34 = .ok (.invokevirtual 409, 3) := dk_182 1 153 (dk_at dksX1_restoreSnapshot_1 10 rfl rfl)
theorem dX1_restoreSnapshot_37 : DC mX1_restoreSnapshot 37 = .ok (.aload_n 0, 1) := dk_42 (dk_at dksX1_restoreSnapshot_1 13 rfl rfl)
theorem dX1_restoreSnapshot_38 : DC mX1_restoreSnapshot 38 = .ok (.getfield 43, 3) := dk_180 0 43 (dk_at dksX1_restoreSnapshot_1 14 rfl rfl)
theorem dX1_restoreSnapshot_41 : DC mX1_restoreSnapshot 41 = .ok (.getfield 104, 3) := dk_180 0 104 (dk_at dksX1_restoreSnapshot_1 17 rfl rfl)
theorem dX1_restoreSnapshot_44 : DC mX1_restoreSnapshot 44 = .ok (.invokeinterface 146 1, 5) := by decide +kernel
theorem dX1_restoreSnapshot_49 : DC mX1_restoreSnapshot 49 = .ok (.ireturn, 1) := dk_172 (dk_at dksX1_restoreSnapshot_2 5 rfl rfl)
theorem in_X1 : ∀ w ∈ wsX10, w ∈ lw_all := lw_in wsX10 [429, 431, 433, 435, 437, 439, 441, 443] (by decide +kernel) (by decide +kernel)

/-! TheatreSaga$Theatre -/
set_option maxRecDepth 100000
def RX2 : String := "TheatreSaga$Theatre"
def TX2 : u_T := fun k => match k with
  | 0 => ("TheatreSaga$Theatre", "tours", "Ljava/util/List;", true)
  | 1 => ("TheatreSaga$Theatre", "towns", "Ljava/util/List;", true)
  | 2 => ("TheatreSaga$Theatre", "hour", "I", false)
  | 3 => ("TheatreSaga$Theatre", "coins", "I", false)
  | 4 => ("TheatreSaga$Theatre", "paid", "I", false)
  | 5 => ("TheatreSaga$Theatre", "back", "I", false)
  | 6 => ("TheatreSaga$Theatre", "brought", "I", false)
  | 7 => ("TheatreSaga$Theatre", "lost", "I", false)
  | 8 => ("TheatreSaga$Theatre", "tries", "I", false)
  | _ => ("TheatreSaga$Theatre", "failed", "I", false)
def tyX2 : Nat → FieldType := fun k => match k with
  | 0 => .object "java/util/List"
  | 1 => .object "java/util/List"
  | 2 => .int
  | 3 => .int
  | 4 => .int
  | 5 => .int
  | 6 => .int
  | 7 => .int
  | 8 => .int
  | _ => .int
abbrev wsX20 : List Cond := u_ws RX2 TX2 10
theorem nmX2 : ∀ a, a < 10 → ∀ b, b < 10 → a ≠ b → (TX2 a).2.1 ≠ (TX2 b).2.1 := by decide +kernel
theorem tyX2_ok : ∀ k, k < 10 → parseFieldDescriptor (TX2 k).2.2.1 = some (tyX2 k) := by decide +kernel
abbrev cX2_init : ByteArray := prog_8_method_1_code
def yX2_init : MethodName := ⟨RX2, "<init>", "()V"⟩
def mX2_init : MI := (⟨"TheatreSaga$Theatre", "<init>", "()V"⟩, prog_8_method_1_code, 2, (Option.none : Option FieldType), none, 40, 8)
theorem oX2_init : mO mX2_init = 40 := rfl
theorem lX2_init : mL mX2_init = 2 := rfl
theorem rX2_init : mR mX2_init = (Option.none : Option FieldType) := rfl
theorem vX2_init : mV mX2_init = 8 := rfl
theorem nX2_init : (mY mX2_init).name = "<init>" := rfl
theorem hX2_init : mH mX2_init = none := rfl
theorem kX2_init : MOk mX2_init := ⟨q192, q82, by decide +kernel⟩
theorem gX2_init : plainName (mY mX2_init).cls = true ∧ (mY mX2_init).cls = "TheatreSaga$Theatre" := ⟨by decide +kernel, rfl⟩
def dkwX2_init_2 : List UInt8 := [183, 0, 27, 185, 0, 28, 2, 0, 87, 132, 1, 1, 167, 255, 231, 177]
abbrev dktX2_init_2 : List UInt8 := dkwX2_init_2 ++ []
def dkwX2_init_1 : List UInt8 := [181, 0, 18, 42, 16, 100, 181, 0, 21, 3, 60, 27, 8, 162, 0, 26, 42, 180, 0, 18, 187, 0, 25, 89]
abbrev dktX2_init_1 : List UInt8 := dkwX2_init_1 ++ dktX2_init_2
def dkwX2_init_0 : List UInt8 := [42, 183, 0, 3, 42, 187, 0, 9, 89, 183, 0, 11, 181, 0, 12, 42, 187, 0, 9, 89, 183, 0, 11]
abbrev dktX2_init_0 : List UInt8 := dkwX2_init_0 ++ dktX2_init_1
theorem dksX2_init_0 : cX2_init.data.toList.drop 0 = dktX2_init_0 := by decide +kernel
theorem dksX2_init_1 : cX2_init.data.toList.drop 23 = dktX2_init_1 := dk_seg dksX2_init_0 23 rfl rfl
theorem dksX2_init_2 : cX2_init.data.toList.drop 47 = dktX2_init_2 := dk_seg dksX2_init_1 24 rfl rfl
theorem dX2_init_0 : DC mX2_init 0 = .ok (.aload_n 0, 1) := dk_42 (dk_at dksX2_init_0 0 rfl rfl)
theorem dX2_init_1 : DC mX2_init 1 = .ok (.invokespecial 3, 3) := dk_183 0 3 (dk_at dksX2_init_0 1 rfl rfl)
theorem dX2_init_4 : DC mX2_init 4 = .ok (.aload_n 0, 1) := dk_42 (dk_at dksX2_init_0 4 rfl rfl)
theorem dX2_init_5 : DC mX2_init 5 = .ok (.new 9, 3) := dk_187 0 9 (dk_at dksX2_init_0 5 rfl rfl)
theorem dX2_init_8 : DC mX2_init 8 = .ok (.dup, 1) := dk_89 (dk_at dksX2_init_0 8 rfl rfl)
theorem dX2_init_9 : DC mX2_init 9 = .ok (.invokespecial 11, 3) := dk_183 0 11 (dk_at dksX2_init_0 9 rfl rfl)
theorem dX2_init_12 : DC mX2_init 12 = .ok (.putfield 12, 3) := dk_181 0 12 (dk_at dksX2_init_0 12 rfl rfl)
theorem dX2_init_15 : DC mX2_init 15 = .ok (.aload_n 0, 1) := dk_42 (dk_at dksX2_init_0 15 rfl rfl)
theorem dX2_init_16 : DC mX2_init 16 = .ok (.new 9, 3) := dk_187 0 9 (dk_at dksX2_init_0 16 rfl rfl)
theorem dX2_init_19 : DC mX2_init 19 = .ok (.dup, 1) := dk_89 (dk_at dksX2_init_0 19 rfl rfl)
theorem dX2_init_20 : DC mX2_init 20 = .ok (.invokespecial 11, 3) := dk_183 0 11 (dk_at dksX2_init_0 20 rfl rfl)
theorem dX2_init_23 : DC mX2_init 23 = .ok (.putfield 18, 3) := dk_181 0 18 (dk_at dksX2_init_1 0 rfl rfl)
theorem dX2_init_26 : DC mX2_init 26 = .ok (.aload_n 0, 1) := dk_42 (dk_at dksX2_init_1 3 rfl rfl)
theorem dX2_init_27 : DC mX2_init 27 = .ok (.bipush 100, 2) := dk_16 100 (dk_at dksX2_init_1 4 rfl rfl)
theorem dX2_init_29 : DC mX2_init 29 = .ok (.putfield 21, 3) := dk_181 0 21 (dk_at dksX2_init_1 6 rfl rfl)
theorem dX2_init_32 : DC mX2_init 32 = .ok (.iconst 0, 1) := dk_3 (dk_at dksX2_init_1 9 rfl rfl)
theorem dX2_init_33 : DC mX2_init 33 = .ok (.istore_n 1, 1) := dk_60 (dk_at dksX2_init_1 10 rfl rfl)
theorem dX2_init_34 : DC mX2_init 34 = .ok (.iload_n 1, 1) := dk_27 (dk_at dksX2_init_1 11 rfl rfl)
theorem dX2_init_35 : DC mX2_init 35 = .ok (.iconst 5, 1) := dk_8 (dk_at dksX2_init_1 12 rfl rfl)
theorem dX2_init_36 : DC mX2_init 36 = .ok (.if_icmp .ge 26, 3) := dk_162 0 26 (dk_at dksX2_init_1 13 rfl rfl)
theorem dX2_init_39 : DC mX2_init 39 = .ok (.aload_n 0, 1) := dk_42 (dk_at dksX2_init_1 16 rfl rfl)
theorem dX2_init_40 : DC mX2_init 40 = .ok (.getfield 18, 3) := dk_180 0 18 (dk_at dksX2_init_1 17 rfl rfl)
theorem dX2_init_43 : DC mX2_init 43 = .ok (.new 25, 3) := dk_187 0 25 (dk_at dksX2_init_1 20 rfl rfl)
theorem dX2_init_46 : DC mX2_init 46 = .ok (.dup, 1) := dk_89 (dk_at dksX2_init_1 23 rfl rfl)
theorem dX2_init_47 : DC mX2_init 47 = .ok (.invokespecial 27, 3) := dk_183 0 27 (dk_at dksX2_init_2 0 rfl rfl)
theorem dX2_init_50 : DC mX2_init 50 = .ok (.invokeinterface 28 2, 5) := by decide +kernel
theorem dX2_init_55 : DC mX2_init 55 = .ok (.pop, 1) := dk_87 (dk_at dksX2_init_2 8 rfl rfl)
theorem dX2_init_56 : DC mX2_init 56 = .ok (.iinc 1 1, 3) := dk_132 1 1 (dk_at dksX2_init_2 9 rfl rfl)
theorem dX2_init_59 : DC mX2_init 59 = .ok (.goto (-25), 3) := dk_167 255 231 (dk_at dksX2_init_2 12 rfl rfl)
theorem dX2_init_62 : DC mX2_init 62 = .ok (.return_, 1) := dk_177 (dk_at dksX2_init_2 15 rfl rfl)
abbrev cX2_init_2 : ByteArray := prog_8_method_2_code
def yX2_init_2 : MethodName := ⟨RX2, "<init>", "(LTheatreSaga$Theatre;)V"⟩
def mX2_init_2 : MI := (⟨"TheatreSaga$Theatre", "<init>", "(LTheatreSaga$Theatre;)V"⟩, prog_8_method_2_code, 4, (Option.none : Option FieldType), none, 40, 17)
theorem oX2_init_2 : mO mX2_init_2 = 40 := rfl
theorem lX2_init_2 : mL mX2_init_2 = 4 := rfl
theorem rX2_init_2 : mR mX2_init_2 = (Option.none : Option FieldType) := rfl
theorem vX2_init_2 : mV mX2_init_2 = 17 := rfl
theorem nX2_init_2 : (mY mX2_init_2).name = "<init>" := rfl
theorem hX2_init_2 : mH mX2_init_2 = none := rfl
theorem kX2_init_2 : MOk mX2_init_2 := ⟨q463, q82, by decide +kernel⟩
theorem gX2_init_2 : plainName (mY mX2_init_2).cls = true ∧ (mY mX2_init_2).cls = "TheatreSaga$Theatre" := ⟨by decide +kernel, rfl⟩
def dkwX2_init_2_8 : List UInt8 := [43, 180, 0, 71, 181, 0, 71, 42, 43, 180, 0, 74, 181, 0, 74, 177]
abbrev dktX2_init_2_8 : List UInt8 := dkwX2_init_2_8 ++ []
def dkwX2_init_2_7 : List UInt8 := [43, 180, 0, 62, 181, 0, 62, 42, 43, 180, 0, 65, 181, 0, 65, 42, 43, 180, 0, 68, 181, 0, 68, 42]
abbrev dktX2_init_2_7 : List UInt8 := dkwX2_init_2_7 ++ dktX2_init_2_8
def dkwX2_init_2_6 : List UInt8 := [43, 180, 0, 56, 181, 0, 56, 42, 43, 180, 0, 21, 181, 0, 21, 42, 43, 180, 0, 59, 181, 0, 59, 42]
abbrev dktX2_init_2_6 : List UInt8 := dkwX2_init_2_6 ++ dktX2_init_2_7
def dkwX2_init_2_5 : List UInt8 := [78, 42, 180, 0, 12, 187, 0, 51, 89, 42, 45, 183, 0, 53, 185, 0, 28, 2, 0, 87, 167, 255, 218, 42]
abbrev dktX2_init_2_5 : List UInt8 := dkwX2_init_2_5 ++ dktX2_init_2_6
def dkwX2_init_2_4 : List UInt8 := [185, 0, 34, 1, 0, 77, 44, 185, 0, 38, 1, 0, 153, 0, 35, 44, 185, 0, 44, 1, 0, 192, 0, 51]
abbrev dktX2_init_2_4 : List UInt8 := dkwX2_init_2_4 ++ dktX2_init_2_5
def dkwX2_init_2_3 : List UInt8 := [187, 0, 25, 89, 45, 183, 0, 48, 185, 0, 28, 2, 0, 87, 167, 255, 219, 43, 180, 0, 12]
abbrev dktX2_init_2_3 : List UInt8 := dkwX2_init_2_3 ++ dktX2_init_2_4
def dkwX2_init_2_2 : List UInt8 := [185, 0, 38, 1, 0, 153, 0, 34, 44, 185, 0, 44, 1, 0, 192, 0, 25, 78, 42, 180, 0, 18]
abbrev dktX2_init_2_2 : List UInt8 := dkwX2_init_2_2 ++ dktX2_init_2_3
def dkwX2_init_2_1 : List UInt8 := [181, 0, 18, 42, 16, 100, 181, 0, 21, 43, 180, 0, 18, 185, 0, 34, 1, 0, 77, 44]
abbrev dktX2_init_2_1 : List UInt8 := dkwX2_init_2_1 ++ dktX2_init_2_2
def dkwX2_init_2_0 : List UInt8 := [42, 183, 0, 3, 42, 187, 0, 9, 89, 183, 0, 11, 181, 0, 12, 42, 187, 0, 9, 89, 183, 0, 11]
abbrev dktX2_init_2_0 : List UInt8 := dkwX2_init_2_0 ++ dktX2_init_2_1
theorem dksX2_init_2_0 : cX2_init_2.data.toList.drop 0 = dktX2_init_2_0 := by decide +kernel
theorem dksX2_init_2_1 : cX2_init_2.data.toList.drop 23 = dktX2_init_2_1 := dk_seg dksX2_init_2_0 23 rfl rfl
theorem dksX2_init_2_2 : cX2_init_2.data.toList.drop 43 = dktX2_init_2_2 := dk_seg dksX2_init_2_1 20 rfl rfl
theorem dksX2_init_2_3 : cX2_init_2.data.toList.drop 65 = dktX2_init_2_3 := dk_seg dksX2_init_2_2 22 rfl rfl
theorem dksX2_init_2_4 : cX2_init_2.data.toList.drop 86 = dktX2_init_2_4 := dk_seg dksX2_init_2_3 21 rfl rfl
theorem dksX2_init_2_5 : cX2_init_2.data.toList.drop 110 = dktX2_init_2_5 := dk_seg dksX2_init_2_4 24 rfl rfl
theorem dksX2_init_2_6 : cX2_init_2.data.toList.drop 134 = dktX2_init_2_6 := dk_seg dksX2_init_2_5 24 rfl rfl
theorem dksX2_init_2_7 : cX2_init_2.data.toList.drop 158 = dktX2_init_2_7 := dk_seg dksX2_init_2_6 24 rfl rfl
theorem dksX2_init_2_8 : cX2_init_2.data.toList.drop 182 = dktX2_init_2_8 := dk_seg dksX2_init_2_7 24 rfl rfl
theorem dX2_init_2_0 : DC mX2_init_2 0 = .ok (.aload_n 0, 1) := dk_42 (dk_at dksX2_init_2_0 0 rfl rfl)
theorem dX2_init_2_1 : DC mX2_init_2 1 = .ok (.invokespecial 3, 3) := dk_183 0 3 (dk_at dksX2_init_2_0 1 rfl rfl)
theorem dX2_init_2_4 : DC mX2_init_2 4 = .ok (.aload_n 0, 1) := dk_42 (dk_at dksX2_init_2_0 4 rfl rfl)
theorem dX2_init_2_5 : DC mX2_init_2 5 = .ok (.new 9, 3) := dk_187 0 9 (dk_at dksX2_init_2_0 5 rfl rfl)
theorem dX2_init_2_8 : DC mX2_init_2 8 = .ok (.dup, 1) := dk_89 (dk_at dksX2_init_2_0 8 rfl rfl)
theorem dX2_init_2_9 : DC mX2_init_2 9 = .ok (.invokespecial 11, 3) := dk_183 0 11 (dk_at dksX2_init_2_0 9 rfl rfl)
theorem dX2_init_2_12 : DC mX2_init_2 12 = .ok (.putfield 12, 3) := dk_181 0 12 (dk_at dksX2_init_2_0 12 rfl rfl)
theorem dX2_init_2_15 : DC mX2_init_2 15 = .ok (.aload_n 0, 1) := dk_42 (dk_at dksX2_init_2_0 15 rfl rfl)
theorem dX2_init_2_16 : DC mX2_init_2 16 = .ok (.new 9, 3) := dk_187 0 9 (dk_at dksX2_init_2_0 16 rfl rfl)
theorem dX2_init_2_19 : DC mX2_init_2 19 = .ok (.dup, 1) := dk_89 (dk_at dksX2_init_2_0 19 rfl rfl)
theorem dX2_init_2_20 : DC mX2_init_2 20 = .ok (.invokespecial 11, 3) := dk_183 0 11 (dk_at dksX2_init_2_0 20 rfl rfl)
theorem dX2_init_2_23 : DC mX2_init_2 23 = .ok (.putfield 18, 3) := dk_181 0 18 (dk_at dksX2_init_2_1 0 rfl rfl)
theorem dX2_init_2_26 : DC mX2_init_2 26 = .ok (.aload_n 0, 1) := dk_42 (dk_at dksX2_init_2_1 3 rfl rfl)
theorem dX2_init_2_27 : DC mX2_init_2 27 = .ok (.bipush 100, 2) := dk_16 100 (dk_at dksX2_init_2_1 4 rfl rfl)
theorem dX2_init_2_29 : DC mX2_init_2 29 = .ok (.putfield 21, 3) := dk_181 0 21 (dk_at dksX2_init_2_1 6 rfl rfl)
theorem dX2_init_2_32 : DC mX2_init_2 32 = .ok (.aload_n 1, 1) := dk_43 (dk_at dksX2_init_2_1 9 rfl rfl)
theorem dX2_init_2_33 : DC mX2_init_2 33 = .ok (.getfield 18, 3) := dk_180 0 18 (dk_at dksX2_init_2_1 10 rfl rfl)
theorem dX2_init_2_36 : DC mX2_init_2 36 = .ok (.invokeinterface 34 1, 5) := by decide +kernel
theorem dX2_init_2_41 : DC mX2_init_2 41 = .ok (.astore_n 2, 1) := dk_77 (dk_at dksX2_init_2_1 18 rfl rfl)
theorem dX2_init_2_42 : DC mX2_init_2 42 = .ok (.aload_n 2, 1) := dk_44 (dk_at dksX2_init_2_1 19 rfl rfl)
theorem dX2_init_2_43 : DC mX2_init_2 43 = .ok (.invokeinterface 38 1, 5) := by decide +kernel
theorem dX2_init_2_48 : DC mX2_init_2 48 = .ok (.ifCond .eq 34, 3) := dk_153 0 34 (dk_at dksX2_init_2_2 5 rfl rfl)
theorem dX2_init_2_51 : DC mX2_init_2 51 = .ok (.aload_n 2, 1) := dk_44 (dk_at dksX2_init_2_2 8 rfl rfl)
theorem dX2_init_2_52 : DC mX2_init_2 52 = .ok (.invokeinterface 44 1, 5) := by decide +kernel
theorem dX2_init_2_57 : DC mX2_init_2 57 = .ok (.checkcast 25, 3) := dk_192 0 25 (dk_at dksX2_init_2_2 14 rfl rfl)
theorem dX2_init_2_60 : DC mX2_init_2 60 = .ok (.astore_n 3, 1) := dk_78 (dk_at dksX2_init_2_2 17 rfl rfl)
theorem dX2_init_2_61 : DC mX2_init_2 61 = .ok (.aload_n 0, 1) := dk_42 (dk_at dksX2_init_2_2 18 rfl rfl)
theorem dX2_init_2_62 : DC mX2_init_2 62 = .ok (.getfield 18, 3) := dk_180 0 18 (dk_at dksX2_init_2_2 19 rfl rfl)
theorem dX2_init_2_65 : DC mX2_init_2 65 = .ok (.new 25, 3) := dk_187 0 25 (dk_at dksX2_init_2_3 0 rfl rfl)
theorem dX2_init_2_68 : DC mX2_init_2 68 = .ok (.dup, 1) := dk_89 (dk_at dksX2_init_2_3 3 rfl rfl)
theorem dX2_init_2_69 : DC mX2_init_2 69 = .ok (.aload_n 3, 1) := dk_45 (dk_at dksX2_init_2_3 4 rfl rfl)
theorem dX2_init_2_70 : DC mX2_init_2 70 = .ok (.invokespecial 48, 3) := dk_183 0 48 (dk_at dksX2_init_2_3 5 rfl rfl)
theorem dX2_init_2_73 : DC mX2_init_2 73 = .ok (.invokeinterface 28 2, 5) := by decide +kernel
theorem dX2_init_2_78 : DC mX2_init_2 78 = .ok (.pop, 1) := dk_87 (dk_at dksX2_init_2_3 13 rfl rfl)
theorem dX2_init_2_79 : DC mX2_init_2 79 = .ok (.goto (-37), 3) := dk_167 255 219 (dk_at dksX2_init_2_3 14 rfl rfl)
theorem dX2_init_2_82 : DC mX2_init_2 82 = .ok (.aload_n 1, 1) := dk_43 (dk_at dksX2_init_2_3 17 rfl rfl)
theorem dX2_init_2_83 : DC mX2_init_2 83 = .ok (.getfield 12, 3) := dk_180 0 12 (dk_at dksX2_init_2_3 18 rfl rfl)
theorem dX2_init_2_86 : DC mX2_init_2 86 = .ok (.invokeinterface 34 1, 5) := by decide +kernel
theorem dX2_init_2_91 : DC mX2_init_2 91 = .ok (.astore_n 2, 1) := dk_77 (dk_at dksX2_init_2_4 5 rfl rfl)
theorem dX2_init_2_92 : DC mX2_init_2 92 = .ok (.aload_n 2, 1) := dk_44 (dk_at dksX2_init_2_4 6 rfl rfl)
theorem dX2_init_2_93 : DC mX2_init_2 93 = .ok (.invokeinterface 38 1, 5) := by decide +kernel
theorem dX2_init_2_98 : DC mX2_init_2 98 = .ok (.ifCond .eq 35, 3) := dk_153 0 35 (dk_at dksX2_init_2_4 12 rfl rfl)
theorem dX2_init_2_101 : DC mX2_init_2 101 = .ok (.aload_n 2, 1) := dk_44 (dk_at dksX2_init_2_4 15 rfl rfl)
theorem dX2_init_2_102 : DC mX2_init_2 102 = .ok (.invokeinterface 44 1, 5) := by decide +kernel
theorem dX2_init_2_107 : DC mX2_init_2 107 = .ok (.checkcast 51, 3) := dk_192 0 51 (dk_at dksX2_init_2_4 21 rfl rfl)
theorem dX2_init_2_110 : DC mX2_init_2 110 = .ok (.astore_n 3, 1) := dk_78 (dk_at dksX2_init_2_5 0 rfl rfl)
theorem dX2_init_2_111 : DC mX2_init_2 111 = .ok (.aload_n 0, 1) := dk_42 (dk_at dksX2_init_2_5 1 rfl rfl)
theorem dX2_init_2_112 : DC mX2_init_2 112 = .ok (.getfield 12, 3) := dk_180 0 12 (dk_at dksX2_init_2_5 2 rfl rfl)
theorem dX2_init_2_115 : DC mX2_init_2 115 = .ok (.new 51, 3) := dk_187 0 51 (dk_at dksX2_init_2_5 5 rfl rfl)
theorem dX2_init_2_118 : DC mX2_init_2 118 = .ok (.dup, 1) := dk_89 (dk_at dksX2_init_2_5 8 rfl rfl)
theorem dX2_init_2_119 : DC mX2_init_2 119 = .ok (.aload_n 0, 1) := dk_42 (dk_at dksX2_init_2_5 9 rfl rfl)
theorem dX2_init_2_120 : DC mX2_init_2 120 = .ok (.aload_n 3, 1) := dk_45 (dk_at dksX2_init_2_5 10 rfl rfl)
theorem dX2_init_2_121 : DC mX2_init_2 121 = .ok (.invokespecial 53, 3) := dk_183 0 53 (dk_at dksX2_init_2_5 11 rfl rfl)
theorem dX2_init_2_124 : DC mX2_init_2 124 = .ok (.invokeinterface 28 2, 5) := by decide +kernel
theorem dX2_init_2_129 : DC mX2_init_2 129 = .ok (.pop, 1) := dk_87 (dk_at dksX2_init_2_5 19 rfl rfl)
theorem dX2_init_2_130 : DC mX2_init_2 130 = .ok (.goto (-38), 3) := dk_167 255 218 (dk_at dksX2_init_2_5 20 rfl rfl)
theorem dX2_init_2_133 : DC mX2_init_2 133 = .ok (.aload_n 0, 1) := dk_42 (dk_at dksX2_init_2_5 23 rfl rfl)
theorem dX2_init_2_134 : DC mX2_init_2 134 = .ok (.aload_n 1, 1) := dk_43 (dk_at dksX2_init_2_6 0 rfl rfl)
theorem dX2_init_2_135 : DC mX2_init_2 135 = .ok (.getfield 56, 3) := dk_180 0 56 (dk_at dksX2_init_2_6 1 rfl rfl)
theorem dX2_init_2_138 : DC mX2_init_2 138 = .ok (.putfield 56, 3) := dk_181 0 56 (dk_at dksX2_init_2_6 4 rfl rfl)
theorem dX2_init_2_141 : DC mX2_init_2 141 = .ok (.aload_n 0, 1) := dk_42 (dk_at dksX2_init_2_6 7 rfl rfl)
theorem dX2_init_2_142 : DC mX2_init_2 142 = .ok (.aload_n 1, 1) := dk_43 (dk_at dksX2_init_2_6 8 rfl rfl)
theorem dX2_init_2_143 : DC mX2_init_2 143 = .ok (.getfield 21, 3) := dk_180 0 21 (dk_at dksX2_init_2_6 9 rfl rfl)
theorem dX2_init_2_146 : DC mX2_init_2 146 = .ok (.putfield 21, 3) := dk_181 0 21 (dk_at dksX2_init_2_6 12 rfl rfl)
theorem dX2_init_2_149 : DC mX2_init_2 149 = .ok (.aload_n 0, 1) := dk_42 (dk_at dksX2_init_2_6 15 rfl rfl)
theorem dX2_init_2_150 : DC mX2_init_2 150 = .ok (.aload_n 1, 1) := dk_43 (dk_at dksX2_init_2_6 16 rfl rfl)
theorem dX2_init_2_151 : DC mX2_init_2 151 = .ok (.getfield 59, 3) := dk_180 0 59 (dk_at dksX2_init_2_6 17 rfl rfl)
theorem dX2_init_2_154 : DC mX2_init_2 154 = .ok (.putfield 59, 3) := dk_181 0 59 (dk_at dksX2_init_2_6 20 rfl rfl)
theorem dX2_init_2_157 : DC mX2_init_2 157 = .ok (.aload_n 0, 1) := dk_42 (dk_at dksX2_init_2_6 23 rfl rfl)
theorem dX2_init_2_158 : DC mX2_init_2 158 = .ok (.aload_n 1, 1) := dk_43 (dk_at dksX2_init_2_7 0 rfl rfl)
theorem dX2_init_2_159 : DC mX2_init_2 159 = .ok (.getfield 62, 3) := dk_180 0 62 (dk_at dksX2_init_2_7 1 rfl rfl)
theorem dX2_init_2_162 : DC mX2_init_2 162 = .ok (.putfield 62, 3) := dk_181 0 62 (dk_at dksX2_init_2_7 4 rfl rfl)
theorem dX2_init_2_165 : DC mX2_init_2 165 = .ok (.aload_n 0, 1) := dk_42 (dk_at dksX2_init_2_7 7 rfl rfl)
theorem dX2_init_2_166 : DC mX2_init_2 166 = .ok (.aload_n 1, 1) := dk_43 (dk_at dksX2_init_2_7 8 rfl rfl)
theorem dX2_init_2_167 : DC mX2_init_2 167 = .ok (.getfield 65, 3) := dk_180 0 65 (dk_at dksX2_init_2_7 9 rfl rfl)
theorem dX2_init_2_170 : DC mX2_init_2 170 = .ok (.putfield 65, 3) := dk_181 0 65 (dk_at dksX2_init_2_7 12 rfl rfl)
theorem dX2_init_2_173 : DC mX2_init_2 173 = .ok (.aload_n 0, 1) := dk_42 (dk_at dksX2_init_2_7 15 rfl rfl)
theorem dX2_init_2_174 : DC mX2_init_2 174 = .ok (.aload_n 1, 1) := dk_43 (dk_at dksX2_init_2_7 16 rfl rfl)
theorem dX2_init_2_175 : DC mX2_init_2 175 = .ok (.getfield 68, 3) := dk_180 0 68 (dk_at dksX2_init_2_7 17 rfl rfl)
theorem dX2_init_2_178 : DC mX2_init_2 178 = .ok (.putfield 68, 3) := dk_181 0 68 (dk_at dksX2_init_2_7 20 rfl rfl)
theorem dX2_init_2_181 : DC mX2_init_2 181 = .ok (.aload_n 0, 1) := dk_42 (dk_at dksX2_init_2_7 23 rfl rfl)
theorem dX2_init_2_182 : DC mX2_init_2 182 = .ok (.aload_n 1, 1) := dk_43 (dk_at dksX2_init_2_8 0 rfl rfl)
theorem dX2_init_2_183 : DC mX2_init_2 183 = .ok (.getfield 71, 3) := dk_180 0 71 (dk_at dksX2_init_2_8 1 rfl rfl)
theorem dX2_init_2_186 : DC mX2_init_2 186 = .ok (.putfield 71, 3) := dk_181 0 71 (dk_at dksX2_init_2_8 4 rfl rfl)
theorem dX2_init_2_189 : DC mX2_init_2 189 = .ok (.aload_n 0, 1) := dk_42 (dk_at dksX2_init_2_8 7 rfl rfl)
theorem dX2_init_2_190 : DC mX2_init_2 190 = .ok (.aload_n 1, 1) := dk_43 (dk_at dksX2_init_2_8 8 rfl rfl)
theorem dX2_init_2_191 : DC mX2_init_2 191 = .ok (.getfield 74, 3) := dk_180 0 74 (dk_at dksX2_init_2_8 9 rfl rfl)
theorem dX2_init_2_194 : DC mX2_init_2 194 = .ok (.putfield 74, 3) := dk_181 0 74 (dk_at dksX2_init_2_8 12 rfl rfl)
theorem dX2_init_2_197 : DC mX2_init_2 197 = .ok (.return_, 1) := dk_177 (dk_at dksX2_init_2_8 15 rfl rfl)
abbrev cX2_plan : ByteArray := prog_8_method_6_code
def yX2_plan : MethodName := ⟨RX2, "plan", "(I)I"⟩
def mX2_plan : MI := (⟨"TheatreSaga$Theatre", "plan", "(I)I"⟩, prog_8_method_6_code, 2, (Option.some FieldType.int), none, 40, 9)
theorem oX2_plan : mO mX2_plan = 40 := rfl
theorem lX2_plan : mL mX2_plan = 2 := rfl
theorem rX2_plan : mR mX2_plan = (Option.some FieldType.int) := rfl
theorem vX2_plan : mV mX2_plan = 9 := rfl
theorem nX2_plan : (mY mX2_plan).name = "plan" := rfl
theorem hX2_plan : mH mX2_plan = none := rfl
theorem kX2_plan : MOk mX2_plan := ⟨q1333, q82, by decide +kernel⟩
theorem gX2_plan : plainName (mY mX2_plan).cls = true ∧ (mY mX2_plan).cls = "TheatreSaga$Theatre" := ⟨by decide +kernel, rfl⟩
def dkwX2_plan_3 : List UInt8 := [4, 100, 172]
abbrev dktX2_plan_3 : List UInt8 := dkwX2_plan_3 ++ []
def dkwX2_plan_2 : List UInt8 := [185, 0, 77, 1, 0, 27, 183, 0, 127, 185, 0, 28, 2, 0, 87, 42, 180, 0, 12, 185, 0, 77, 1, 0]
abbrev dktX2_plan_2 : List UInt8 := dkwX2_plan_2 ++ dktX2_plan_3
def dkwX2_plan_1 : List UInt8 := [167, 0, 4, 3, 4, 16, 6, 184, 0, 123, 42, 180, 0, 12, 187, 0, 51, 89, 42, 42, 180, 0, 12]
abbrev dktX2_plan_1 : List UInt8 := dkwX2_plan_1 ++ dktX2_plan_2
def dkwX2_plan_0 : List UInt8 := [27, 3, 7, 184, 0, 81, 184, 0, 120, 42, 180, 0, 12, 185, 0, 77, 1, 0, 16, 6, 162, 0, 7, 4]
abbrev dktX2_plan_0 : List UInt8 := dkwX2_plan_0 ++ dktX2_plan_1
theorem dksX2_plan_0 : cX2_plan.data.toList.drop 0 = dktX2_plan_0 := by decide +kernel
theorem dksX2_plan_1 : cX2_plan.data.toList.drop 24 = dktX2_plan_1 := dk_seg dksX2_plan_0 24 rfl rfl
theorem dksX2_plan_2 : cX2_plan.data.toList.drop 47 = dktX2_plan_2 := dk_seg dksX2_plan_1 23 rfl rfl
theorem dksX2_plan_3 : cX2_plan.data.toList.drop 71 = dktX2_plan_3 := dk_seg dksX2_plan_2 24 rfl rfl
theorem dX2_plan_0 : DC mX2_plan 0 = .ok (.iload_n 1, 1) := dk_27 (dk_at dksX2_plan_0 0 rfl rfl)
theorem dX2_plan_1 : DC mX2_plan 1 = .ok (.iconst 0, 1) := dk_3 (dk_at dksX2_plan_0 1 rfl rfl)
theorem dX2_plan_2 : DC mX2_plan 2 = .ok (.iconst 4, 1) := dk_7 (dk_at dksX2_plan_0 2 rfl rfl)
theorem dX2_plan_3 : DC mX2_plan 3 = .ok (.invokestatic 81, 3) := dk_184 0 81 (dk_at dksX2_plan_0 3 rfl rfl)
theorem dX2_plan_6 : DC mX2_plan 6 = .ok (.invokestatic 120, 3) := dk_184 0 120 (dk_at dksX2_plan_0 6 rfl rfl)
theorem dX2_plan_9 : DC mX2_plan 9 = .ok (.aload_n 0, 1) := dk_42 (dk_at dksX2_plan_0 9 rfl rfl)
theorem dX2_plan_10 : DC mX2_plan 10 = .ok (.getfield 12, 3) := dk_180 0 12 (dk_at dksX2_plan_0 10 rfl rfl)
theorem dX2_plan_13 : DC mX2_plan 13 = .ok (.invokeinterface 77 1, 5) := by decide +kernel
theorem dX2_plan_18 : DC mX2_plan 18 = .ok (.bipush 6, 2) := dk_16 6 (dk_at dksX2_plan_0 18 rfl rfl)
theorem dX2_plan_20 : DC mX2_plan 20 = .ok (.if_icmp .ge 7, 3) := dk_162 0 7 (dk_at dksX2_plan_0 20 rfl rfl)
theorem dX2_plan_23 : DC mX2_plan 23 = .ok (.iconst 1, 1) := dk_4 (dk_at dksX2_plan_0 23 rfl rfl)
theorem dX2_plan_24 : DC mX2_plan 24 = .ok (.goto 4, 3) := dk_167 0 4 (dk_at dksX2_plan_1 0 rfl rfl)
theorem dX2_plan_27 : DC mX2_plan 27 = .ok (.iconst 0, 1) := dk_3 (dk_at dksX2_plan_1 3 rfl rfl)
theorem dX2_plan_28 : DC mX2_plan 28 = .ok (.iconst 1, 1) := dk_4 (dk_at dksX2_plan_1 4 rfl rfl)
theorem dX2_plan_29 : DC mX2_plan 29 = .ok (.bipush 6, 2) := dk_16 6 (dk_at dksX2_plan_1 5 rfl rfl)
theorem dX2_plan_31 : DC mX2_plan 31 = .ok (.invokestatic 123, 3) := dk_184 0 123 (dk_at dksX2_plan_1 7 rfl rfl)
theorem dX2_plan_34 : DC mX2_plan 34 = .ok (.aload_n 0, 1) := dk_42 (dk_at dksX2_plan_1 10 rfl rfl)
theorem dX2_plan_35 : DC mX2_plan 35 = .ok (.getfield 12, 3) := dk_180 0 12 (dk_at dksX2_plan_1 11 rfl rfl)
theorem dX2_plan_38 : DC mX2_plan 38 = .ok (.new 51, 3) := dk_187 0 51 (dk_at dksX2_plan_1 14 rfl rfl)
theorem dX2_plan_41 : DC mX2_plan 41 = .ok (.dup, 1) := dk_89 (dk_at dksX2_plan_1 17 rfl rfl)
theorem dX2_plan_42 : DC mX2_plan 42 = .ok (.aload_n 0, 1) := dk_42 (dk_at dksX2_plan_1 18 rfl rfl)
theorem dX2_plan_43 : DC mX2_plan 43 = .ok (.aload_n 0, 1) := dk_42 (dk_at dksX2_plan_1 19 rfl rfl)
theorem dX2_plan_44 : DC mX2_plan 44 = .ok (.getfield 12, 3) := dk_180 0 12 (dk_at dksX2_plan_1 20 rfl rfl)
theorem dX2_plan_47 : DC mX2_plan 47 = .ok (.invokeinterface 77 1, 5) := by decide +kernel
theorem dX2_plan_52 : DC mX2_plan 52 = .ok (.iload_n 1, 1) := dk_27 (dk_at dksX2_plan_2 5 rfl rfl)
theorem dX2_plan_53 : DC mX2_plan 53 = .ok (.invokespecial 127, 3) := dk_183 0 127 (dk_at dksX2_plan_2 6 rfl rfl)
theorem dX2_plan_56 : DC mX2_plan 56 = .ok (.invokeinterface 28 2, 5) := by decide +kernel
theorem dX2_plan_61 : DC mX2_plan 61 = .ok (.pop, 1) := dk_87 (dk_at dksX2_plan_2 14 rfl rfl)
theorem dX2_plan_62 : DC mX2_plan 62 = .ok (.aload_n 0, 1) := dk_42 (dk_at dksX2_plan_2 15 rfl rfl)
theorem dX2_plan_63 : DC mX2_plan 63 = .ok (.getfield 12, 3) := dk_180 0 12 (dk_at dksX2_plan_2 16 rfl rfl)
theorem dX2_plan_66 : DC mX2_plan 66 = .ok (.invokeinterface 77 1, 5) := by decide +kernel
theorem dX2_plan_71 : DC mX2_plan 71 = .ok (.iconst 1, 1) := dk_4 (dk_at dksX2_plan_3 0 rfl rfl)
theorem dX2_plan_72 : DC mX2_plan 72 = .ok (.isub, 1) := dk_100 (dk_at dksX2_plan_3 1 rfl rfl)
theorem dX2_plan_73 : DC mX2_plan 73 = .ok (.ireturn, 1) := dk_172 (dk_at dksX2_plan_3 2 rfl rfl)
abbrev cX2_addStep : ByteArray := prog_8_method_7_code
def yX2_addStep : MethodName := ⟨RX2, "addStep", "(ILTheatreSaga$Step;)I"⟩
def mX2_addStep : MI := (⟨"TheatreSaga$Theatre", "addStep", "(ILTheatreSaga$Step;)I"⟩, prog_8_method_7_code, 4, (Option.some FieldType.int), none, 40, 12)
theorem oX2_addStep : mO mX2_addStep = 40 := rfl
theorem lX2_addStep : mL mX2_addStep = 4 := rfl
theorem rX2_addStep : mR mX2_addStep = (Option.some FieldType.int) := rfl
theorem vX2_addStep : mV mX2_addStep = 12 := rfl
theorem nX2_addStep : (mY mX2_addStep).name = "addStep" := rfl
theorem hX2_addStep : mH mX2_addStep = none := rfl
theorem kX2_addStep : MOk mX2_addStep := ⟨q1407, q82, by decide +kernel⟩
theorem gX2_addStep : plainName (mY mX2_addStep).cls = true ∧ (mY mX2_addStep).cls = "TheatreSaga$Theatre" := ⟨by decide +kernel, rfl⟩
def dkwX2_addStep_3 : List UInt8 := [184, 0, 81, 184, 0, 120, 45, 44, 182, 0, 140, 172]
abbrev dktX2_addStep_3 : List UInt8 := dkwX2_addStep_3 ++ []
def dkwX2_addStep_2 : List UInt8 := [182, 0, 93, 3, 5, 184, 0, 81, 184, 0, 120, 44, 182, 0, 102, 4, 44, 182, 0, 93, 184, 0, 137]
abbrev dktX2_addStep_2 : List UInt8 := dkwX2_addStep_2 ++ dktX2_addStep_3
def dkwX2_addStep_1 : List UInt8 := [44, 182, 0, 134, 3, 16, 19, 184, 0, 81, 153, 0, 7, 4, 167, 0, 4, 3, 184, 0, 85, 44]
abbrev dktX2_addStep_1 : List UInt8 := dkwX2_addStep_1 ++ dktX2_addStep_2
def dkwX2_addStep_0 : List UInt8 := [42, 180, 0, 12, 27, 184, 0, 130, 192, 0, 51, 78, 44, 182, 0, 105, 3, 7, 184, 0, 81, 153, 0, 20]
abbrev dktX2_addStep_0 : List UInt8 := dkwX2_addStep_0 ++ dktX2_addStep_1
theorem dksX2_addStep_0 : cX2_addStep.data.toList.drop 0 = dktX2_addStep_0 := by decide +kernel
theorem dksX2_addStep_1 : cX2_addStep.data.toList.drop 24 = dktX2_addStep_1 := dk_seg dksX2_addStep_0 24 rfl rfl
theorem dksX2_addStep_2 : cX2_addStep.data.toList.drop 46 = dktX2_addStep_2 := dk_seg dksX2_addStep_1 22 rfl rfl
theorem dksX2_addStep_3 : cX2_addStep.data.toList.drop 69 = dktX2_addStep_3 := dk_seg dksX2_addStep_2 23 rfl rfl
theorem dX2_addStep_0 : DC mX2_addStep 0 = .ok (.aload_n 0, 1) := dk_42 (dk_at dksX2_addStep_0 0 rfl rfl)
theorem dX2_addStep_1 : DC mX2_addStep 1 = .ok (.getfield 12, 3) := dk_180 0 12 (dk_at dksX2_addStep_0 1 rfl rfl)
theorem dX2_addStep_4 : DC mX2_addStep 4 = .ok (.iload_n 1, 1) := dk_27 (dk_at dksX2_addStep_0 4 rfl rfl)
theorem dX2_addStep_5 : DC mX2_addStep 5 = .ok (.invokestatic 130, 3) := dk_184 0 130 (dk_at dksX2_addStep_0 5 rfl rfl)
theorem dX2_addStep_8 : DC mX2_addStep 8 = .ok (.checkcast 51, 3) := dk_192 0 51 (dk_at dksX2_addStep_0 8 rfl rfl)
theorem dX2_addStep_11 : DC mX2_addStep 11 = .ok (.astore_n 3, 1) := dk_78 (dk_at dksX2_addStep_0 11 rfl rfl)
theorem dX2_addStep_12 : DC mX2_addStep 12 = .ok (.aload_n 2, 1) := dk_44 (dk_at dksX2_addStep_0 12 rfl rfl)
theorem dX2_addStep_13 : DC mX2_addStep 13 = .ok (.invokevirtual 105, 3) := dk_182 0 105 (dk_at dksX2_addStep_0 13 rfl rfl)
theorem dX2_addStep_16 : DC mX2_addStep 16 = .ok (.iconst 0, 1) := dk_3 (dk_at dksX2_addStep_0 16 rfl rfl)
theorem dX2_addStep_17 : DC mX2_addStep 17 = .ok (.iconst 4, 1) := dk_7 (dk_at dksX2_addStep_0 17 rfl rfl)
theorem dX2_addStep_18 : DC mX2_addStep 18 = .ok (.invokestatic 81, 3) := dk_184 0 81 (dk_at dksX2_addStep_0 18 rfl rfl)
theorem dX2_addStep_21 : DC mX2_addStep 21 = .ok (.ifCond .eq 20, 3) := dk_153 0 20 (dk_at dksX2_addStep_0 21 rfl rfl)
theorem dX2_addStep_24 : DC mX2_addStep 24 = .ok (.aload_n 2, 1) := dk_44 (dk_at dksX2_addStep_1 0 rfl rfl)
theorem dX2_addStep_25 : DC mX2_addStep 25 = .ok (.invokevirtual 134, 3) := dk_182 0 134 (dk_at dksX2_addStep_1 1 rfl rfl)
theorem dX2_addStep_28 : DC mX2_addStep 28 = .ok (.iconst 0, 1) := dk_3 (dk_at dksX2_addStep_1 4 rfl rfl)
theorem dX2_addStep_29 : DC mX2_addStep 29 = .ok (.bipush 19, 2) := dk_16 19 (dk_at dksX2_addStep_1 5 rfl rfl)
theorem dX2_addStep_31 : DC mX2_addStep 31 = .ok (.invokestatic 81, 3) := dk_184 0 81 (dk_at dksX2_addStep_1 7 rfl rfl)
theorem dX2_addStep_34 : DC mX2_addStep 34 = .ok (.ifCond .eq 7, 3) := dk_153 0 7 (dk_at dksX2_addStep_1 10 rfl rfl)
theorem dX2_addStep_37 : DC mX2_addStep 37 = .ok (.iconst 1, 1) := dk_4 (dk_at dksX2_addStep_1 13 rfl rfl)
theorem dX2_addStep_38 : DC mX2_addStep 38 = .ok (.goto 4, 3) := dk_167 0 4 (dk_at dksX2_addStep_1 14 rfl rfl)
theorem dX2_addStep_41 : DC mX2_addStep 41 = .ok (.iconst 0, 1) := dk_3 (dk_at dksX2_addStep_1 17 rfl rfl)
theorem dX2_addStep_42 : DC mX2_addStep 42 = .ok (.invokestatic 85, 3) := dk_184 0 85 (dk_at dksX2_addStep_1 18 rfl rfl)
theorem dX2_addStep_45 : DC mX2_addStep 45 = .ok (.aload_n 2, 1) := dk_44 (dk_at dksX2_addStep_1 21 rfl rfl)
theorem dX2_addStep_46 : DC mX2_addStep 46 = .ok (.invokevirtual 93, 3) := dk_182 0 93 (dk_at dksX2_addStep_2 0 rfl rfl)
theorem dX2_addStep_49 : DC mX2_addStep 49 = .ok (.iconst 0, 1) := dk_3 (dk_at dksX2_addStep_2 3 rfl rfl)
theorem dX2_addStep_50 : DC mX2_addStep 50 = .ok (.iconst 2, 1) := dk_5 (dk_at dksX2_addStep_2 4 rfl rfl)
theorem dX2_addStep_51 : DC mX2_addStep 51 = .ok (.invokestatic 81, 3) := dk_184 0 81 (dk_at dksX2_addStep_2 5 rfl rfl)
theorem dX2_addStep_54 : DC mX2_addStep 54 = .ok (.invokestatic 120, 3) := dk_184 0 120 (dk_at dksX2_addStep_2 8 rfl rfl)
theorem dX2_addStep_57 : DC mX2_addStep 57 = .ok (.aload_n 2, 1) := dk_44 (dk_at dksX2_addStep_2 11 rfl rfl)
theorem dX2_addStep_58 : DC mX2_addStep 58 = .ok (.invokevirtual 102, 3) := dk_182 0 102 (dk_at dksX2_addStep_2 12 rfl rfl)
theorem dX2_addStep_61 : DC mX2_addStep 61 = .ok (.iconst 1, 1) := dk_4 (dk_at dksX2_addStep_2 15 rfl rfl)
theorem dX2_addStep_62 : DC mX2_addStep 62 = .ok (.aload_n 2, 1) := dk_44 (dk_at dksX2_addStep_2 16 rfl rfl)
theorem dX2_addStep_63 : DC mX2_addStep 63 = .ok (.invokevirtual 93, 3) := dk_182 0 93 (dk_at dksX2_addStep_2 17 rfl rfl)
theorem dX2_addStep_66 : DC mX2_addStep 66 = .ok (.invokestatic 137, 3) := dk_184 0 137 (dk_at dksX2_addStep_2 20 rfl rfl)
theorem dX2_addStep_69 : DC mX2_addStep 69 = .ok (.invokestatic 81, 3) := dk_184 0 81 (dk_at dksX2_addStep_3 0 rfl rfl)
theorem dX2_addStep_72 : DC mX2_addStep 72 = .ok (.invokestatic 120, 3) := dk_184 0 120 (dk_at dksX2_addStep_3 3 rfl rfl)
theorem dX2_addStep_75 : DC mX2_addStep 75 = .ok (.aload_n 3, 1) := dk_45 (dk_at dksX2_addStep_3 6 rfl rfl)
theorem dX2_addStep_76 : DC mX2_addStep 76 = .ok (.aload_n 2, 1) := dk_44 (dk_at dksX2_addStep_3 7 rfl rfl)
theorem dX2_addStep_77 : DC mX2_addStep 77 = .ok (.invokevirtual 140, 3) := dk_182 0 140 (dk_at dksX2_addStep_3 8 rfl rfl)
theorem dX2_addStep_80 : DC mX2_addStep 80 = .ok (.ireturn, 1) := dk_172 (dk_at dksX2_addStep_3 11 rfl rfl)
abbrev cX2_at : ByteArray := prog_8_method_3_code
def yX2_at : MethodName := ⟨RX2, "at", "(Ljava/util/List;I)Ljava/lang/Object;"⟩
def mX2_at : MI := (⟨"TheatreSaga$Theatre", "at", "(Ljava/util/List;I)Ljava/lang/Object;"⟩, prog_8_method_3_code, 2, (Option.some (FieldType.object "java/lang/Object")), none, 40, 9)
theorem oX2_at : mO mX2_at = 40 := rfl
theorem lX2_at : mL mX2_at = 2 := rfl
theorem rX2_at : mR mX2_at = (Option.some (FieldType.object "java/lang/Object")) := rfl
theorem vX2_at : mV mX2_at = 9 := rfl
theorem nX2_at : (mY mX2_at).name = "at" := rfl
theorem hX2_at : mH mX2_at = none := rfl
theorem kX2_at : MOk mX2_at := ⟨q1410, q82, by decide +kernel⟩
theorem gX2_at : plainName (mY mX2_at).cls = true ∧ (mY mX2_at).cls = "TheatreSaga$Theatre" := ⟨by decide +kernel, rfl⟩
def dkwX2_at_0 : List UInt8 := [27, 3, 42, 185, 0, 77, 1, 0, 4, 100, 184, 0, 81, 184, 0, 85, 42, 27, 185, 0, 89, 2, 0, 176]
abbrev dktX2_at_0 : List UInt8 := dkwX2_at_0 ++ []
theorem dksX2_at_0 : cX2_at.data.toList.drop 0 = dktX2_at_0 := by decide +kernel
theorem dX2_at_0 : DC mX2_at 0 = .ok (.iload_n 1, 1) := dk_27 (dk_at dksX2_at_0 0 rfl rfl)
theorem dX2_at_1 : DC mX2_at 1 = .ok (.iconst 0, 1) := dk_3 (dk_at dksX2_at_0 1 rfl rfl)
theorem dX2_at_2 : DC mX2_at 2 = .ok (.aload_n 0, 1) := dk_42 (dk_at dksX2_at_0 2 rfl rfl)
theorem dX2_at_3 : DC mX2_at 3 = .ok (.invokeinterface 77 1, 5) := by decide +kernel
theorem dX2_at_8 : DC mX2_at 8 = .ok (.iconst 1, 1) := dk_4 (dk_at dksX2_at_0 8 rfl rfl)
theorem dX2_at_9 : DC mX2_at 9 = .ok (.isub, 1) := dk_100 (dk_at dksX2_at_0 9 rfl rfl)
theorem dX2_at_10 : DC mX2_at 10 = .ok (.invokestatic 81, 3) := dk_184 0 81 (dk_at dksX2_at_0 10 rfl rfl)
theorem dX2_at_13 : DC mX2_at 13 = .ok (.invokestatic 85, 3) := dk_184 0 85 (dk_at dksX2_at_0 13 rfl rfl)
theorem dX2_at_16 : DC mX2_at 16 = .ok (.aload_n 0, 1) := dk_42 (dk_at dksX2_at_0 16 rfl rfl)
theorem dX2_at_17 : DC mX2_at 17 = .ok (.iload_n 1, 1) := dk_27 (dk_at dksX2_at_0 17 rfl rfl)
theorem dX2_at_18 : DC mX2_at 18 = .ok (.invokeinterface 89 2, 5) := by decide +kernel
theorem dX2_at_23 : DC mX2_at 23 = .ok (.areturn, 1) := dk_176 (dk_at dksX2_at_0 23 rfl rfl)
abbrev cX2_start : ByteArray := prog_8_method_9_code
def yX2_start : MethodName := ⟨RX2, "start", "(I)I"⟩
def mX2_start : MI := (⟨"TheatreSaga$Theatre", "start", "(I)I"⟩, prog_8_method_9_code, 2, (Option.some FieldType.int), none, 40, 12)
theorem oX2_start : mO mX2_start = 40 := rfl
theorem lX2_start : mL mX2_start = 2 := rfl
theorem rX2_start : mR mX2_start = (Option.some FieldType.int) := rfl
theorem vX2_start : mV mX2_start = 12 := rfl
theorem nX2_start : (mY mX2_start).name = "start" := rfl
theorem hX2_start : mH mX2_start = none := rfl
theorem kX2_start : MOk mX2_start := ⟨q1493, q82, by decide +kernel⟩
theorem gX2_start : plainName (mY mX2_start).cls = true ∧ (mY mX2_start).cls = "TheatreSaga$Theatre" := ⟨by decide +kernel, rfl⟩
def dkwX2_start_0 : List UInt8 := [42, 180, 0, 12, 27, 184, 0, 130, 192, 0, 51, 182, 0, 146, 42, 4, 182, 0, 149, 172]
abbrev dktX2_start_0 : List UInt8 := dkwX2_start_0 ++ []
theorem dksX2_start_0 : cX2_start.data.toList.drop 0 = dktX2_start_0 := by decide +kernel
theorem dX2_start_0 : DC mX2_start 0 = .ok (.aload_n 0, 1) := dk_42 (dk_at dksX2_start_0 0 rfl rfl)
theorem dX2_start_1 : DC mX2_start 1 = .ok (.getfield 12, 3) := dk_180 0 12 (dk_at dksX2_start_0 1 rfl rfl)
theorem dX2_start_4 : DC mX2_start 4 = .ok (.iload_n 1, 1) := dk_27 (dk_at dksX2_start_0 4 rfl rfl)
theorem dX2_start_5 : DC mX2_start 5 = .ok (.invokestatic 130, 3) := dk_184 0 130 (dk_at dksX2_start_0 5 rfl rfl)
theorem dX2_start_8 : DC mX2_start 8 = .ok (.checkcast 51, 3) := dk_192 0 51 (dk_at dksX2_start_0 8 rfl rfl)
theorem dX2_start_11 : DC mX2_start 11 = .ok (.invokevirtual 146, 3) := dk_182 0 146 (dk_at dksX2_start_0 11 rfl rfl)
theorem dX2_start_14 : DC mX2_start 14 = .ok (.aload_n 0, 1) := dk_42 (dk_at dksX2_start_0 14 rfl rfl)
theorem dX2_start_15 : DC mX2_start 15 = .ok (.iconst 1, 1) := dk_4 (dk_at dksX2_start_0 15 rfl rfl)
theorem dX2_start_16 : DC mX2_start 16 = .ok (.invokevirtual 149, 3) := dk_182 0 149 (dk_at dksX2_start_0 16 rfl rfl)
theorem dX2_start_19 : DC mX2_start 19 = .ok (.ireturn, 1) := dk_172 (dk_at dksX2_start_0 19 rfl rfl)
abbrev cX2_are : ByteArray := prog_8_method_8_code
def yX2_are : MethodName := ⟨RX2, "are", "(I)I"⟩
def mX2_are : MI := (⟨"TheatreSaga$Theatre", "are", "(I)I"⟩, prog_8_method_8_code, 5, (Option.some FieldType.int), none, 40, 11)
theorem oX2_are : mO mX2_are = 40 := rfl
theorem lX2_are : mL mX2_are = 5 := rfl
theorem rX2_are : mR mX2_are = (Option.some FieldType.int) := rfl
theorem vX2_are : mV mX2_are = 11 := rfl
theorem nX2_are : (mY mX2_are).name = "are" := rfl
theorem hX2_are : mH mX2_are = none := rfl
theorem kX2_are : MOk mX2_are := ⟨q1521, q82, by decide +kernel⟩
theorem gX2_are : plainName (mY mX2_are).cls = true ∧ (mY mX2_are).cls = "TheatreSaga$Theatre" := ⟨by decide +kernel, rfl⟩
def dkwX2_are_2 : List UInt8 := [3, 96, 61, 167, 255, 219, 28, 172]
abbrev dktX2_are_2 : List UInt8 := dkwX2_are_2 ++ []
def dkwX2_are_1 : List UInt8 := [185, 0, 44, 1, 0, 192, 0, 51, 58, 4, 28, 25, 4, 180, 0, 143, 27, 160, 0, 7, 4, 167, 0, 4]
abbrev dktX2_are_1 : List UInt8 := dkwX2_are_1 ++ dktX2_are_2
def dkwX2_are_0 : List UInt8 := [3, 61, 42, 180, 0, 12, 185, 0, 34, 1, 0, 78, 45, 185, 0, 38, 1, 0, 153, 0, 34, 45]
abbrev dktX2_are_0 : List UInt8 := dkwX2_are_0 ++ dktX2_are_1
theorem dksX2_are_0 : cX2_are.data.toList.drop 0 = dktX2_are_0 := by decide +kernel
theorem dksX2_are_1 : cX2_are.data.toList.drop 22 = dktX2_are_1 := dk_seg dksX2_are_0 22 rfl rfl
theorem dksX2_are_2 : cX2_are.data.toList.drop 46 = dktX2_are_2 := dk_seg dksX2_are_1 24 rfl rfl
theorem dX2_are_0 : DC mX2_are 0 = .ok (.iconst 0, 1) := dk_3 (dk_at dksX2_are_0 0 rfl rfl)
theorem dX2_are_1 : DC mX2_are 1 = .ok (.istore_n 2, 1) := dk_61 (dk_at dksX2_are_0 1 rfl rfl)
theorem dX2_are_2 : DC mX2_are 2 = .ok (.aload_n 0, 1) := dk_42 (dk_at dksX2_are_0 2 rfl rfl)
theorem dX2_are_3 : DC mX2_are 3 = .ok (.getfield 12, 3) := dk_180 0 12 (dk_at dksX2_are_0 3 rfl rfl)
theorem dX2_are_6 : DC mX2_are 6 = .ok (.invokeinterface 34 1, 5) := by decide +kernel
theorem dX2_are_11 : DC mX2_are 11 = .ok (.astore_n 3, 1) := dk_78 (dk_at dksX2_are_0 11 rfl rfl)
theorem dX2_are_12 : DC mX2_are 12 = .ok (.aload_n 3, 1) := dk_45 (dk_at dksX2_are_0 12 rfl rfl)
theorem dX2_are_13 : DC mX2_are 13 = .ok (.invokeinterface 38 1, 5) := by decide +kernel
theorem dX2_are_18 : DC mX2_are 18 = .ok (.ifCond .eq 34, 3) := dk_153 0 34 (dk_at dksX2_are_0 18 rfl rfl)
theorem dX2_are_21 : DC mX2_are 21 = .ok (.aload_n 3, 1) := dk_45 (dk_at dksX2_are_0 21 rfl rfl)
theorem dX2_are_22 : DC mX2_are 22 = .ok (.invokeinterface 44 1, 5) := by decide +kernel
theorem dX2_are_27 : DC mX2_are 27 = .ok (.checkcast 51, 3) := dk_192 0 51 (dk_at dksX2_are_1 5 rfl rfl)
theorem dX2_are_30 : DC mX2_are 30 = .ok (.astore 4, 2) := dk_58 4 (dk_at dksX2_are_1 8 rfl rfl)
theorem dX2_are_32 : DC mX2_are 32 = .ok (.iload_n 2, 1) := dk_28 (dk_at dksX2_are_1 10 rfl rfl)
theorem dX2_are_33 : DC mX2_are 33 = .ok (.aload 4, 2) := dk_25 4 (dk_at dksX2_are_1 11 rfl rfl)
theorem dX2_are_35 : DC mX2_are 35 = .ok (.getfield 143, 3) := dk_180 0 143 (dk_at dksX2_are_1 13 rfl rfl)
theorem dX2_are_38 : DC mX2_are 38 = .ok (.iload_n 1, 1) := dk_27 (dk_at dksX2_are_1 16 rfl rfl)
theorem dX2_are_39 : DC mX2_are 39 = .ok (.if_icmp .ne 7, 3) := dk_160 0 7 (dk_at dksX2_are_1 17 rfl rfl)
theorem dX2_are_42 : DC mX2_are 42 = .ok (.iconst 1, 1) := dk_4 (dk_at dksX2_are_1 20 rfl rfl)
theorem dX2_are_43 : DC mX2_are 43 = .ok (.goto 4, 3) := dk_167 0 4 (dk_at dksX2_are_1 21 rfl rfl)
theorem dX2_are_46 : DC mX2_are 46 = .ok (.iconst 0, 1) := dk_3 (dk_at dksX2_are_2 0 rfl rfl)
theorem dX2_are_47 : DC mX2_are 47 = .ok (.iadd, 1) := dk_96 (dk_at dksX2_are_2 1 rfl rfl)
theorem dX2_are_48 : DC mX2_are 48 = .ok (.istore_n 2, 1) := dk_61 (dk_at dksX2_are_2 2 rfl rfl)
theorem dX2_are_49 : DC mX2_are 49 = .ok (.goto (-37), 3) := dk_167 255 219 (dk_at dksX2_are_2 3 rfl rfl)
theorem dX2_are_52 : DC mX2_are 52 = .ok (.iload_n 2, 1) := dk_28 (dk_at dksX2_are_2 6 rfl rfl)
theorem dX2_are_53 : DC mX2_are 53 = .ok (.ireturn, 1) := dk_172 (dk_at dksX2_are_2 7 rfl rfl)
abbrev cX2_shut : ByteArray := prog_8_method_11_code
def yX2_shut : MethodName := ⟨RX2, "shut", "(IZ)I"⟩
def mX2_shut : MI := (⟨"TheatreSaga$Theatre", "shut", "(IZ)I"⟩, prog_8_method_11_code, 4, (Option.some FieldType.int), none, 40, 12)
theorem oX2_shut : mO mX2_shut = 40 := rfl
theorem lX2_shut : mL mX2_shut = 4 := rfl
theorem rX2_shut : mR mX2_shut = (Option.some FieldType.int) := rfl
theorem vX2_shut : mV mX2_shut = 12 := rfl
theorem nX2_shut : (mY mX2_shut).name = "shut" := rfl
theorem hX2_shut : mH mX2_shut = none := rfl
theorem kX2_shut : MOk mX2_shut := ⟨q1535, q82, by decide +kernel⟩
theorem gX2_shut : plainName (mY mX2_shut).cls = true ∧ (mY mX2_shut).cls = "TheatreSaga$Theatre" := ⟨by decide +kernel, rfl⟩
def dkwX2_shut_1 : List UInt8 := [3, 7, 28, 153, 0, 7, 3, 167, 0, 4, 4, 184, 0, 123, 45, 28, 181, 0, 152, 42, 182, 0, 156, 172]
abbrev dktX2_shut_1 : List UInt8 := dkwX2_shut_1 ++ []
def dkwX2_shut_0 : List UInt8 := [42, 180, 0, 18, 27, 184, 0, 130, 192, 0, 25, 78, 45, 180, 0, 152, 28, 159, 0, 7, 4, 167, 0, 4]
abbrev dktX2_shut_0 : List UInt8 := dkwX2_shut_0 ++ dktX2_shut_1
theorem dksX2_shut_0 : cX2_shut.data.toList.drop 0 = dktX2_shut_0 := by decide +kernel
theorem dksX2_shut_1 : cX2_shut.data.toList.drop 24 = dktX2_shut_1 := dk_seg dksX2_shut_0 24 rfl rfl
theorem dX2_shut_0 : DC mX2_shut 0 = .ok (.aload_n 0, 1) := dk_42 (dk_at dksX2_shut_0 0 rfl rfl)
theorem dX2_shut_1 : DC mX2_shut 1 = .ok (.getfield 18, 3) := dk_180 0 18 (dk_at dksX2_shut_0 1 rfl rfl)
theorem dX2_shut_4 : DC mX2_shut 4 = .ok (.iload_n 1, 1) := dk_27 (dk_at dksX2_shut_0 4 rfl rfl)
theorem dX2_shut_5 : DC mX2_shut 5 = .ok (.invokestatic 130, 3) := dk_184 0 130 (dk_at dksX2_shut_0 5 rfl rfl)
theorem dX2_shut_8 : DC mX2_shut 8 = .ok (.checkcast 25, 3) := dk_192 0 25 (dk_at dksX2_shut_0 8 rfl rfl)
theorem dX2_shut_11 : DC mX2_shut 11 = .ok (.astore_n 3, 1) := dk_78 (dk_at dksX2_shut_0 11 rfl rfl)
theorem dX2_shut_12 : DC mX2_shut 12 = .ok (.aload_n 3, 1) := dk_45 (dk_at dksX2_shut_0 12 rfl rfl)
theorem dX2_shut_13 : DC mX2_shut 13 = .ok (.getfield 152, 3) := dk_180 0 152 (dk_at dksX2_shut_0 13 rfl rfl)
theorem dX2_shut_16 : DC mX2_shut 16 = .ok (.iload_n 2, 1) := dk_28 (dk_at dksX2_shut_0 16 rfl rfl)
theorem dX2_shut_17 : DC mX2_shut 17 = .ok (.if_icmp .eq 7, 3) := dk_159 0 7 (dk_at dksX2_shut_0 17 rfl rfl)
theorem dX2_shut_20 : DC mX2_shut 20 = .ok (.iconst 1, 1) := dk_4 (dk_at dksX2_shut_0 20 rfl rfl)
theorem dX2_shut_21 : DC mX2_shut 21 = .ok (.goto 4, 3) := dk_167 0 4 (dk_at dksX2_shut_0 21 rfl rfl)
theorem dX2_shut_24 : DC mX2_shut 24 = .ok (.iconst 0, 1) := dk_3 (dk_at dksX2_shut_1 0 rfl rfl)
theorem dX2_shut_25 : DC mX2_shut 25 = .ok (.iconst 4, 1) := dk_7 (dk_at dksX2_shut_1 1 rfl rfl)
theorem dX2_shut_26 : DC mX2_shut 26 = .ok (.iload_n 2, 1) := dk_28 (dk_at dksX2_shut_1 2 rfl rfl)
theorem dX2_shut_27 : DC mX2_shut 27 = .ok (.ifCond .eq 7, 3) := dk_153 0 7 (dk_at dksX2_shut_1 3 rfl rfl)
theorem dX2_shut_30 : DC mX2_shut 30 = .ok (.iconst 0, 1) := dk_3 (dk_at dksX2_shut_1 6 rfl rfl)
theorem dX2_shut_31 : DC mX2_shut 31 = .ok (.goto 4, 3) := dk_167 0 4 (dk_at dksX2_shut_1 7 rfl rfl)
theorem dX2_shut_34 : DC mX2_shut 34 = .ok (.iconst 1, 1) := dk_4 (dk_at dksX2_shut_1 10 rfl rfl)
theorem dX2_shut_35 : DC mX2_shut 35 = .ok (.invokestatic 123, 3) := dk_184 0 123 (dk_at dksX2_shut_1 11 rfl rfl)
theorem dX2_shut_38 : DC mX2_shut 38 = .ok (.aload_n 3, 1) := dk_45 (dk_at dksX2_shut_1 14 rfl rfl)
theorem dX2_shut_39 : DC mX2_shut 39 = .ok (.iload_n 2, 1) := dk_28 (dk_at dksX2_shut_1 15 rfl rfl)
theorem dX2_shut_40 : DC mX2_shut 40 = .ok (.putfield 152, 3) := dk_181 0 152 (dk_at dksX2_shut_1 16 rfl rfl)
theorem dX2_shut_43 : DC mX2_shut 43 = .ok (.aload_n 0, 1) := dk_42 (dk_at dksX2_shut_1 19 rfl rfl)
theorem dX2_shut_44 : DC mX2_shut 44 = .ok (.invokevirtual 156, 3) := dk_182 0 156 (dk_at dksX2_shut_1 20 rfl rfl)
theorem dX2_shut_47 : DC mX2_shut 47 = .ok (.ireturn, 1) := dk_172 (dk_at dksX2_shut_1 23 rfl rfl)
abbrev cX2_open : ByteArray := prog_8_method_10_code
def yX2_open : MethodName := ⟨RX2, "open", "()I"⟩
def mX2_open : MI := (⟨"TheatreSaga$Theatre", "open", "()I"⟩, prog_8_method_10_code, 4, (Option.some FieldType.int), none, 40, 11)
theorem oX2_open : mO mX2_open = 40 := rfl
theorem lX2_open : mL mX2_open = 4 := rfl
theorem rX2_open : mR mX2_open = (Option.some FieldType.int) := rfl
theorem vX2_open : mV mX2_open = 11 := rfl
theorem nX2_open : (mY mX2_open).name = "open" := rfl
theorem hX2_open : mH mX2_open = none := rfl
theorem kX2_open : MOk mX2_open := ⟨q1539, q82, by decide +kernel⟩
theorem gX2_open : plainName (mY mX2_open).cls = true ∧ (mY mX2_open).cls = "TheatreSaga$Theatre" := ⟨by decide +kernel, rfl⟩
def dkwX2_open_2 : List UInt8 := [167, 255, 222, 27, 172]
abbrev dktX2_open_2 : List UInt8 := dkwX2_open_2 ++ []
def dkwX2_open_1 : List UInt8 := [185, 0, 44, 1, 0, 192, 0, 25, 78, 27, 45, 180, 0, 152, 153, 0, 7, 3, 167, 0, 4, 4, 96, 60]
abbrev dktX2_open_1 : List UInt8 := dkwX2_open_1 ++ dktX2_open_2
def dkwX2_open_0 : List UInt8 := [3, 60, 42, 180, 0, 18, 185, 0, 34, 1, 0, 77, 44, 185, 0, 38, 1, 0, 153, 0, 31, 44]
abbrev dktX2_open_0 : List UInt8 := dkwX2_open_0 ++ dktX2_open_1
theorem dksX2_open_0 : cX2_open.data.toList.drop 0 = dktX2_open_0 := by decide +kernel
theorem dksX2_open_1 : cX2_open.data.toList.drop 22 = dktX2_open_1 := dk_seg dksX2_open_0 22 rfl rfl
theorem dksX2_open_2 : cX2_open.data.toList.drop 46 = dktX2_open_2 := dk_seg dksX2_open_1 24 rfl rfl
theorem dX2_open_0 : DC mX2_open 0 = .ok (.iconst 0, 1) := dk_3 (dk_at dksX2_open_0 0 rfl rfl)
theorem dX2_open_1 : DC mX2_open 1 = .ok (.istore_n 1, 1) := dk_60 (dk_at dksX2_open_0 1 rfl rfl)
theorem dX2_open_2 : DC mX2_open 2 = .ok (.aload_n 0, 1) := dk_42 (dk_at dksX2_open_0 2 rfl rfl)
theorem dX2_open_3 : DC mX2_open 3 = .ok (.getfield 18, 3) := dk_180 0 18 (dk_at dksX2_open_0 3 rfl rfl)
theorem dX2_open_6 : DC mX2_open 6 = .ok (.invokeinterface 34 1, 5) := by decide +kernel
theorem dX2_open_11 : DC mX2_open 11 = .ok (.astore_n 2, 1) := dk_77 (dk_at dksX2_open_0 11 rfl rfl)
theorem dX2_open_12 : DC mX2_open 12 = .ok (.aload_n 2, 1) := dk_44 (dk_at dksX2_open_0 12 rfl rfl)
theorem dX2_open_13 : DC mX2_open 13 = .ok (.invokeinterface 38 1, 5) := by decide +kernel
theorem dX2_open_18 : DC mX2_open 18 = .ok (.ifCond .eq 31, 3) := dk_153 0 31 (dk_at dksX2_open_0 18 rfl rfl)
theorem dX2_open_21 : DC mX2_open 21 = .ok (.aload_n 2, 1) := dk_44 (dk_at dksX2_open_0 21 rfl rfl)
theorem dX2_open_22 : DC mX2_open 22 = .ok (.invokeinterface 44 1, 5) := by decide +kernel
theorem dX2_open_27 : DC mX2_open 27 = .ok (.checkcast 25, 3) := dk_192 0 25 (dk_at dksX2_open_1 5 rfl rfl)
theorem dX2_open_30 : DC mX2_open 30 = .ok (.astore_n 3, 1) := dk_78 (dk_at dksX2_open_1 8 rfl rfl)
theorem dX2_open_31 : DC mX2_open 31 = .ok (.iload_n 1, 1) := dk_27 (dk_at dksX2_open_1 9 rfl rfl)
theorem dX2_open_32 : DC mX2_open 32 = .ok (.aload_n 3, 1) := dk_45 (dk_at dksX2_open_1 10 rfl rfl)
theorem dX2_open_33 : DC mX2_open 33 = .ok (.getfield 152, 3) := dk_180 0 152 (dk_at dksX2_open_1 11 rfl rfl)
theorem dX2_open_36 : DC mX2_open 36 = .ok (.ifCond .eq 7, 3) := dk_153 0 7 (dk_at dksX2_open_1 14 rfl rfl)
theorem dX2_open_39 : DC mX2_open 39 = .ok (.iconst 0, 1) := dk_3 (dk_at dksX2_open_1 17 rfl rfl)
theorem dX2_open_40 : DC mX2_open 40 = .ok (.goto 4, 3) := dk_167 0 4 (dk_at dksX2_open_1 18 rfl rfl)
theorem dX2_open_43 : DC mX2_open 43 = .ok (.iconst 1, 1) := dk_4 (dk_at dksX2_open_1 21 rfl rfl)
theorem dX2_open_44 : DC mX2_open 44 = .ok (.iadd, 1) := dk_96 (dk_at dksX2_open_1 22 rfl rfl)
theorem dX2_open_45 : DC mX2_open 45 = .ok (.istore_n 1, 1) := dk_60 (dk_at dksX2_open_1 23 rfl rfl)
theorem dX2_open_46 : DC mX2_open 46 = .ok (.goto (-34), 3) := dk_167 255 222 (dk_at dksX2_open_2 0 rfl rfl)
theorem dX2_open_49 : DC mX2_open 49 = .ok (.iload_n 1, 1) := dk_27 (dk_at dksX2_open_2 3 rfl rfl)
theorem dX2_open_50 : DC mX2_open 50 = .ok (.ireturn, 1) := dk_172 (dk_at dksX2_open_2 4 rfl rfl)
abbrev cX2_dear : ByteArray := prog_8_method_12_code
def yX2_dear : MethodName := ⟨RX2, "dear", "(II)I"⟩
def mX2_dear : MI := (⟨"TheatreSaga$Theatre", "dear", "(II)I"⟩, prog_8_method_12_code, 5, (Option.some FieldType.int), none, 40, 10)
theorem oX2_dear : mO mX2_dear = 40 := rfl
theorem lX2_dear : mL mX2_dear = 5 := rfl
theorem rX2_dear : mR mX2_dear = (Option.some FieldType.int) := rfl
theorem vX2_dear : mV mX2_dear = 10 := rfl
theorem nX2_dear : (mY mX2_dear).name = "dear" := rfl
theorem hX2_dear : mH mX2_dear = none := rfl
theorem kX2_dear : MOk mX2_dear := ⟨q1543, q82, by decide +kernel⟩
theorem gX2_dear : plainName (mY mX2_dear).cls = true ∧ (mY mX2_dear).cls = "TheatreSaga$Theatre" := ⟨by decide +kernel, rfl⟩
def dkwX2_dear_1 : List UInt8 := [180, 0, 108, 54, 4, 45, 28, 181, 0, 108, 21, 4, 172]
abbrev dktX2_dear_1 : List UInt8 := dkwX2_dear_1 ++ []
def dkwX2_dear_0 : List UInt8 := [42, 180, 0, 18, 27, 184, 0, 130, 192, 0, 25, 78, 28, 4, 8, 184, 0, 81, 184, 0, 120, 45]
abbrev dktX2_dear_0 : List UInt8 := dkwX2_dear_0 ++ dktX2_dear_1
theorem dksX2_dear_0 : cX2_dear.data.toList.drop 0 = dktX2_dear_0 := by decide +kernel
theorem dksX2_dear_1 : cX2_dear.data.toList.drop 22 = dktX2_dear_1 := dk_seg dksX2_dear_0 22 rfl rfl
theorem dX2_dear_0 : DC mX2_dear 0 = .ok (.aload_n 0, 1) := dk_42 (dk_at dksX2_dear_0 0 rfl rfl)
theorem dX2_dear_1 : DC mX2_dear 1 = .ok (.getfield 18, 3) := dk_180 0 18 (dk_at dksX2_dear_0 1 rfl rfl)
theorem dX2_dear_4 : DC mX2_dear 4 = .ok (.iload_n 1, 1) := dk_27 (dk_at dksX2_dear_0 4 rfl rfl)
theorem dX2_dear_5 : DC mX2_dear 5 = .ok (.invokestatic 130, 3) := dk_184 0 130 (dk_at dksX2_dear_0 5 rfl rfl)
theorem dX2_dear_8 : DC mX2_dear 8 = .ok (.checkcast 25, 3) := dk_192 0 25 (dk_at dksX2_dear_0 8 rfl rfl)
theorem dX2_dear_11 : DC mX2_dear 11 = .ok (.astore_n 3, 1) := dk_78 (dk_at dksX2_dear_0 11 rfl rfl)
theorem dX2_dear_12 : DC mX2_dear 12 = .ok (.iload_n 2, 1) := dk_28 (dk_at dksX2_dear_0 12 rfl rfl)
theorem dX2_dear_13 : DC mX2_dear 13 = .ok (.iconst 1, 1) := dk_4 (dk_at dksX2_dear_0 13 rfl rfl)
theorem dX2_dear_14 : DC mX2_dear 14 = .ok (.iconst 5, 1) := dk_8 (dk_at dksX2_dear_0 14 rfl rfl)
theorem dX2_dear_15 : DC mX2_dear 15 = .ok (.invokestatic 81, 3) := dk_184 0 81 (dk_at dksX2_dear_0 15 rfl rfl)
theorem dX2_dear_18 : DC mX2_dear 18 = .ok (.invokestatic 120, 3) := dk_184 0 120 (dk_at dksX2_dear_0 18 rfl rfl)
theorem dX2_dear_21 : DC mX2_dear 21 = .ok (.aload_n 3, 1) := dk_45 (dk_at dksX2_dear_0 21 rfl rfl)
theorem dX2_dear_22 : DC mX2_dear 22 = .ok (.getfield 108, 3) := dk_180 0 108 (dk_at dksX2_dear_1 0 rfl rfl)
theorem dX2_dear_25 : DC mX2_dear 25 = .ok (.istore 4, 2) := dk_54 4 (dk_at dksX2_dear_1 3 rfl rfl)
theorem dX2_dear_27 : DC mX2_dear 27 = .ok (.aload_n 3, 1) := dk_45 (dk_at dksX2_dear_1 5 rfl rfl)
theorem dX2_dear_28 : DC mX2_dear 28 = .ok (.iload_n 2, 1) := dk_28 (dk_at dksX2_dear_1 6 rfl rfl)
theorem dX2_dear_29 : DC mX2_dear 29 = .ok (.putfield 108, 3) := dk_181 0 108 (dk_at dksX2_dear_1 7 rfl rfl)
theorem dX2_dear_32 : DC mX2_dear 32 = .ok (.iload 4, 2) := dk_21 4 (dk_at dksX2_dear_1 10 rfl rfl)
theorem dX2_dear_34 : DC mX2_dear 34 = .ok (.ireturn, 1) := dk_172 (dk_at dksX2_dear_1 12 rfl rfl)
abbrev cX2_pass : ByteArray := prog_8_method_14_code
def yX2_pass : MethodName := ⟨RX2, "pass", "(I)I"⟩
def mX2_pass : MI := (⟨"TheatreSaga$Theatre", "pass", "(I)I"⟩, prog_8_method_14_code, 4, (Option.some FieldType.int), none, 40, 15)
theorem oX2_pass : mO mX2_pass = 40 := rfl
theorem lX2_pass : mL mX2_pass = 4 := rfl
theorem rX2_pass : mR mX2_pass = (Option.some FieldType.int) := rfl
theorem vX2_pass : mV mX2_pass = 15 := rfl
theorem nX2_pass : (mY mX2_pass).name = "pass" := rfl
theorem hX2_pass : mH mX2_pass = none := rfl
theorem kX2_pass : MOk mX2_pass := ⟨q1547, q82, by decide +kernel⟩
theorem gX2_pass : plainName (mY mX2_pass).cls = true ∧ (mY mX2_pass).cls = "TheatreSaga$Theatre" := ⟨by decide +kernel, rfl⟩
def dkwX2_pass_1 : List UInt8 := [96, 61, 132, 3, 1, 167, 255, 241, 28, 172]
abbrev dktX2_pass_1 : List UInt8 := dkwX2_pass_1 ++ []
def dkwX2_pass_0 : List UInt8 := [27, 4, 16, 40, 184, 0, 81, 184, 0, 120, 3, 61, 3, 62, 29, 27, 162, 0, 16, 28, 42, 182, 0, 168]
abbrev dktX2_pass_0 : List UInt8 := dkwX2_pass_0 ++ dktX2_pass_1
theorem dksX2_pass_0 : cX2_pass.data.toList.drop 0 = dktX2_pass_0 := by decide +kernel
theorem dksX2_pass_1 : cX2_pass.data.toList.drop 24 = dktX2_pass_1 := dk_seg dksX2_pass_0 24 rfl rfl
theorem dX2_pass_0 : DC mX2_pass 0 = .ok (.iload_n 1, 1) := dk_27 (dk_at dksX2_pass_0 0 rfl rfl)
theorem dX2_pass_1 : DC mX2_pass 1 = .ok (.iconst 1, 1) := dk_4 (dk_at dksX2_pass_0 1 rfl rfl)
theorem dX2_pass_2 : DC mX2_pass 2 = .ok (.bipush 40, 2) := dk_16 40 (dk_at dksX2_pass_0 2 rfl rfl)
theorem dX2_pass_4 : DC mX2_pass 4 = .ok (.invokestatic 81, 3) := dk_184 0 81 (dk_at dksX2_pass_0 4 rfl rfl)
theorem dX2_pass_7 : DC mX2_pass 7 = .ok (.invokestatic 120, 3) := dk_184 0 120 (dk_at dksX2_pass_0 7 rfl rfl)
theorem dX2_pass_10 : DC mX2_pass 10 = .ok (.iconst 0, 1) := dk_3 (dk_at dksX2_pass_0 10 rfl rfl)
theorem dX2_pass_11 : DC mX2_pass 11 = .ok (.istore_n 2, 1) := dk_61 (dk_at dksX2_pass_0 11 rfl rfl)
theorem dX2_pass_12 : DC mX2_pass 12 = .ok (.iconst 0, 1) := dk_3 (dk_at dksX2_pass_0 12 rfl rfl)
theorem dX2_pass_13 : DC mX2_pass 13 = .ok (.istore_n 3, 1) := dk_62 (dk_at dksX2_pass_0 13 rfl rfl)
theorem dX2_pass_14 : DC mX2_pass 14 = .ok (.iload_n 3, 1) := dk_29 (dk_at dksX2_pass_0 14 rfl rfl)
theorem dX2_pass_15 : DC mX2_pass 15 = .ok (.iload_n 1, 1) := dk_27 (dk_at dksX2_pass_0 15 rfl rfl)
theorem dX2_pass_16 : DC mX2_pass 16 = .ok (.if_icmp .ge 16, 3) := dk_162 0 16 (dk_at dksX2_pass_0 16 rfl rfl)
theorem dX2_pass_19 : DC mX2_pass 19 = .ok (.iload_n 2, 1) := dk_28 (dk_at dksX2_pass_0 19 rfl rfl)
theorem dX2_pass_20 : DC mX2_pass 20 = .ok (.aload_n 0, 1) := dk_42 (dk_at dksX2_pass_0 20 rfl rfl)
theorem dX2_pass_21 : DC mX2_pass 21 = .ok (.invokevirtual 168, 3) := dk_182 0 168 (dk_at dksX2_pass_0 21 rfl rfl)
theorem dX2_pass_24 : DC mX2_pass 24 = .ok (.iadd, 1) := dk_96 (dk_at dksX2_pass_1 0 rfl rfl)
theorem dX2_pass_25 : DC mX2_pass 25 = .ok (.istore_n 2, 1) := dk_61 (dk_at dksX2_pass_1 1 rfl rfl)
theorem dX2_pass_26 : DC mX2_pass 26 = .ok (.iinc 3 1, 3) := dk_132 3 1 (dk_at dksX2_pass_1 2 rfl rfl)
theorem dX2_pass_29 : DC mX2_pass 29 = .ok (.goto (-15), 3) := dk_167 255 241 (dk_at dksX2_pass_1 5 rfl rfl)
theorem dX2_pass_32 : DC mX2_pass 32 = .ok (.iload_n 2, 1) := dk_28 (dk_at dksX2_pass_1 8 rfl rfl)
theorem dX2_pass_33 : DC mX2_pass 33 = .ok (.ireturn, 1) := dk_172 (dk_at dksX2_pass_1 9 rfl rfl)
abbrev cX2_live : ByteArray := prog_8_method_13_code
def yX2_live : MethodName := ⟨RX2, "live", "()I"⟩
def mX2_live : MI := (⟨"TheatreSaga$Theatre", "live", "()I"⟩, prog_8_method_13_code, 4, (Option.some FieldType.int), none, 40, 14)
theorem oX2_live : mO mX2_live = 40 := rfl
theorem lX2_live : mL mX2_live = 4 := rfl
theorem rX2_live : mR mX2_live = (Option.some FieldType.int) := rfl
theorem vX2_live : mV mX2_live = 14 := rfl
theorem nX2_live : (mY mX2_live).name = "live" := rfl
theorem hX2_live : mH mX2_live = none := rfl
theorem kX2_live : MOk mX2_live := ⟨q1551, q82, by decide +kernel⟩
theorem gX2_live : plainName (mY mX2_live).cls = true ∧ (mY mX2_live).cls = "TheatreSaga$Theatre" := ⟨by decide +kernel, rfl⟩
def dkwX2_live_3 : List UInt8 := [181, 0, 56, 27, 172]
abbrev dktX2_live_3 : List UInt8 := dkwX2_live_3 ++ []
def dkwX2_live_2 : List UInt8 := [182, 0, 165, 153, 0, 7, 4, 167, 0, 4, 3, 96, 60, 167, 255, 211, 42, 89, 180, 0, 56, 4, 96]
abbrev dktX2_live_2 : List UInt8 := dkwX2_live_2 ++ dktX2_live_3
def dkwX2_live_1 : List UInt8 := [185, 0, 44, 1, 0, 192, 0, 51, 78, 45, 182, 0, 159, 153, 0, 22, 45, 182, 0, 162, 27, 45]
abbrev dktX2_live_1 : List UInt8 := dkwX2_live_1 ++ dktX2_live_2
def dkwX2_live_0 : List UInt8 := [3, 60, 42, 180, 0, 12, 185, 0, 34, 1, 0, 77, 44, 185, 0, 38, 1, 0, 153, 0, 42, 44]
abbrev dktX2_live_0 : List UInt8 := dkwX2_live_0 ++ dktX2_live_1
theorem dksX2_live_0 : cX2_live.data.toList.drop 0 = dktX2_live_0 := by decide +kernel
theorem dksX2_live_1 : cX2_live.data.toList.drop 22 = dktX2_live_1 := dk_seg dksX2_live_0 22 rfl rfl
theorem dksX2_live_2 : cX2_live.data.toList.drop 44 = dktX2_live_2 := dk_seg dksX2_live_1 22 rfl rfl
theorem dksX2_live_3 : cX2_live.data.toList.drop 67 = dktX2_live_3 := dk_seg dksX2_live_2 23 rfl rfl
theorem dX2_live_0 : DC mX2_live 0 = .ok (.iconst 0, 1) := dk_3 (dk_at dksX2_live_0 0 rfl rfl)
theorem dX2_live_1 : DC mX2_live 1 = .ok (.istore_n 1, 1) := dk_60 (dk_at dksX2_live_0 1 rfl rfl)
theorem dX2_live_2 : DC mX2_live 2 = .ok (.aload_n 0, 1) := dk_42 (dk_at dksX2_live_0 2 rfl rfl)
theorem dX2_live_3 : DC mX2_live 3 = .ok (.getfield 12, 3) := dk_180 0 12 (dk_at dksX2_live_0 3 rfl rfl)
theorem dX2_live_6 : DC mX2_live 6 = .ok (.invokeinterface 34 1, 5) := by decide +kernel
theorem dX2_live_11 : DC mX2_live 11 = .ok (.astore_n 2, 1) := dk_77 (dk_at dksX2_live_0 11 rfl rfl)
theorem dX2_live_12 : DC mX2_live 12 = .ok (.aload_n 2, 1) := dk_44 (dk_at dksX2_live_0 12 rfl rfl)
theorem dX2_live_13 : DC mX2_live 13 = .ok (.invokeinterface 38 1, 5) := by decide +kernel
theorem dX2_live_18 : DC mX2_live 18 = .ok (.ifCond .eq 42, 3) := dk_153 0 42 (dk_at dksX2_live_0 18 rfl rfl)
theorem dX2_live_21 : DC mX2_live 21 = .ok (.aload_n 2, 1) := dk_44 (dk_at dksX2_live_0 21 rfl rfl)
theorem dX2_live_22 : DC mX2_live 22 = .ok (.invokeinterface 44 1, 5) := by decide +kernel
theorem dX2_live_27 : DC mX2_live 27 = .ok (.checkcast 51, 3) := dk_192 0 51 (dk_at dksX2_live_1 5 rfl rfl)
theorem dX2_live_30 : DC mX2_live 30 = .ok (.astore_n 3, 1) := dk_78 (dk_at dksX2_live_1 8 rfl rfl)
theorem dX2_live_31 : DC mX2_live 31 = .ok (.aload_n 3, 1) := dk_45 (dk_at dksX2_live_1 9 rfl rfl)
theorem dX2_live_32 : DC mX2_live 32 = .ok (.invokevirtual 159, 3) := dk_182 0 159 (dk_at dksX2_live_1 10 rfl rfl)
theorem dX2_live_35 : DC mX2_live 35 = .ok (.ifCond .eq 22, 3) := dk_153 0 22 (dk_at dksX2_live_1 13 rfl rfl)
theorem dX2_live_38 : DC mX2_live 38 = .ok (.aload_n 3, 1) := dk_45 (dk_at dksX2_live_1 16 rfl rfl)
theorem dX2_live_39 : DC mX2_live 39 = .ok (.invokevirtual 162, 3) := dk_182 0 162 (dk_at dksX2_live_1 17 rfl rfl)
theorem dX2_live_42 : DC mX2_live 42 = .ok (.iload_n 1, 1) := dk_27 (dk_at dksX2_live_1 20 rfl rfl)
theorem dX2_live_43 : DC mX2_live 43 = .ok (.aload_n 3, 1) := dk_45 (dk_at dksX2_live_1 21 rfl rfl)
theorem dX2_live_44 : DC mX2_live 44 = .ok (.invokevirtual 165, 3) := dk_182 0 165 (dk_at dksX2_live_2 0 rfl rfl)
theorem dX2_live_47 : DC mX2_live 47 = .ok (.ifCond .eq 7, 3) := dk_153 0 7 (dk_at dksX2_live_2 3 rfl rfl)
theorem dX2_live_50 : DC mX2_live 50 = .ok (.iconst 1, 1) := dk_4 (dk_at dksX2_live_2 6 rfl rfl)
theorem dX2_live_51 : DC mX2_live 51 = .ok (.goto 4, 3) := dk_167 0 4 (dk_at dksX2_live_2 7 rfl rfl)
theorem dX2_live_54 : DC mX2_live 54 = .ok (.iconst 0, 1) := dk_3 (dk_at dksX2_live_2 10 rfl rfl)
theorem dX2_live_55 : DC mX2_live 55 = .ok (.iadd, 1) := dk_96 (dk_at dksX2_live_2 11 rfl rfl)
theorem dX2_live_56 : DC mX2_live 56 = .ok (.istore_n 1, 1) := dk_60 (dk_at dksX2_live_2 12 rfl rfl)
theorem dX2_live_57 : DC mX2_live 57 = .ok (.goto (-45), 3) := dk_167 255 211 (dk_at dksX2_live_2 13 rfl rfl)
theorem dX2_live_60 : DC mX2_live 60 = .ok (.aload_n 0, 1) := dk_42 (dk_at dksX2_live_2 16 rfl rfl)
theorem dX2_live_61 : DC mX2_live 61 = .ok (.dup, 1) := dk_89 (dk_at dksX2_live_2 17 rfl rfl)
theorem dX2_live_62 : DC mX2_live 62 = .ok (.getfield 56, 3) := dk_180 0 56 (dk_at dksX2_live_2 18 rfl rfl)
theorem dX2_live_65 : DC mX2_live 65 = .ok (.iconst 1, 1) := dk_4 (dk_at dksX2_live_2 21 rfl rfl)
theorem dX2_live_66 : DC mX2_live 66 = .ok (.iadd, 1) := dk_96 (dk_at dksX2_live_2 22 rfl rfl)
theorem dX2_live_67 : DC mX2_live 67 = .ok (.putfield 56, 3) := dk_181 0 56 (dk_at dksX2_live_3 0 rfl rfl)
theorem dX2_live_70 : DC mX2_live 70 = .ok (.iload_n 1, 1) := dk_27 (dk_at dksX2_live_3 3 rfl rfl)
theorem dX2_live_71 : DC mX2_live 71 = .ok (.ireturn, 1) := dk_172 (dk_at dksX2_live_3 4 rfl rfl)
abbrev cX2_price : ByteArray := prog_8_method_4_code
def yX2_price : MethodName := ⟨RX2, "price", "(LTheatreSaga$Step;)I"⟩
def mX2_price : MI := (⟨"TheatreSaga$Theatre", "price", "(LTheatreSaga$Step;)I"⟩, prog_8_method_4_code, 2, (Option.some FieldType.int), none, 40, 4)
theorem oX2_price : mO mX2_price = 40 := rfl
theorem lX2_price : mL mX2_price = 2 := rfl
theorem rX2_price : mR mX2_price = (Option.some FieldType.int) := rfl
theorem vX2_price : mV mX2_price = 4 := rfl
theorem nX2_price : (mY mX2_price).name = "price" := rfl
theorem hX2_price : mH mX2_price = none := rfl
theorem kX2_price : MOk mX2_price := ⟨q1584, q82, by decide +kernel⟩
theorem gX2_price : plainName (mY mX2_price).cls = true ∧ (mY mX2_price).cls = "TheatreSaga$Theatre" := ⟨by decide +kernel, rfl⟩
def dkwX2_price_1 : List UInt8 := [185, 0, 89, 2, 0, 192, 0, 25, 180, 0, 108, 104, 172]
abbrev dktX2_price_1 : List UInt8 := dkwX2_price_1 ++ []
def dkwX2_price_0 : List UInt8 := [43, 182, 0, 93, 184, 0, 98, 43, 182, 0, 102, 104, 42, 180, 0, 18, 43, 182, 0, 105]
abbrev dktX2_price_0 : List UInt8 := dkwX2_price_0 ++ dktX2_price_1
theorem dksX2_price_0 : cX2_price.data.toList.drop 0 = dktX2_price_0 := by decide +kernel
theorem dksX2_price_1 : cX2_price.data.toList.drop 20 = dktX2_price_1 := dk_seg dksX2_price_0 20 rfl rfl
theorem dX2_price_0 : DC mX2_price 0 = .ok (.aload_n 1, 1) := dk_43 (dk_at dksX2_price_0 0 rfl rfl)
theorem dX2_price_1 : DC mX2_price 1 = .ok (.invokevirtual 93, 3) := dk_182 0 93 (dk_at dksX2_price_0 1 rfl rfl)
theorem dX2_price_4 : DC mX2_price 4 = .ok (.invokestatic 98, 3) := dk_184 0 98 (dk_at dksX2_price_0 4 rfl rfl)
theorem dX2_price_7 : DC mX2_price 7 = .ok (.aload_n 1, 1) := dk_43 (dk_at dksX2_price_0 7 rfl rfl)
theorem dX2_price_8 : DC mX2_price 8 = .ok (.invokevirtual 102, 3) := dk_182 0 102 (dk_at dksX2_price_0 8 rfl rfl)
theorem dX2_price_11 : DC mX2_price 11 = .ok (.imul, 1) := dk_104 (dk_at dksX2_price_0 11 rfl rfl)
theorem dX2_price_12 : DC mX2_price 12 = .ok (.aload_n 0, 1) := dk_42 (dk_at dksX2_price_0 12 rfl rfl)
theorem dX2_price_13 : DC mX2_price 13 = .ok (.getfield 18, 3) := dk_180 0 18 (dk_at dksX2_price_0 13 rfl rfl)
theorem dX2_price_16 : DC mX2_price 16 = .ok (.aload_n 1, 1) := dk_43 (dk_at dksX2_price_0 16 rfl rfl)
theorem dX2_price_17 : DC mX2_price 17 = .ok (.invokevirtual 105, 3) := dk_182 0 105 (dk_at dksX2_price_0 17 rfl rfl)
theorem dX2_price_20 : DC mX2_price 20 = .ok (.invokeinterface 89 2, 5) := by decide +kernel
theorem dX2_price_25 : DC mX2_price 25 = .ok (.checkcast 25, 3) := dk_192 0 25 (dk_at dksX2_price_1 5 rfl rfl)
theorem dX2_price_28 : DC mX2_price 28 = .ok (.getfield 108, 3) := dk_180 0 108 (dk_at dksX2_price_1 8 rfl rfl)
theorem dX2_price_31 : DC mX2_price 31 = .ok (.imul, 1) := dk_104 (dk_at dksX2_price_1 11 rfl rfl)
theorem dX2_price_32 : DC mX2_price 32 = .ok (.ireturn, 1) := dk_172 (dk_at dksX2_price_1 12 rfl rfl)
abbrev cX2_earn : ByteArray := prog_8_method_5_code
def yX2_earn : MethodName := ⟨RX2, "earn", "(I)V"⟩
def mX2_earn : MI := (⟨"TheatreSaga$Theatre", "earn", "(I)V"⟩, prog_8_method_5_code, 2, (Option.none : Option FieldType), none, 40, 2)
theorem oX2_earn : mO mX2_earn = 40 := rfl
theorem lX2_earn : mL mX2_earn = 2 := rfl
theorem rX2_earn : mR mX2_earn = (Option.none : Option FieldType) := rfl
theorem vX2_earn : mV mX2_earn = 2 := rfl
theorem nX2_earn : (mY mX2_earn).name = "earn" := rfl
theorem hX2_earn : mH mX2_earn = none := rfl
theorem kX2_earn : MOk mX2_earn := ⟨q1605, q82, by decide +kernel⟩
theorem gX2_earn : plainName (mY mX2_earn).cls = true ∧ (mY mX2_earn).cls = "TheatreSaga$Theatre" := ⟨by decide +kernel, rfl⟩
def dkwX2_earn_1 : List UInt8 := [17, 39, 15, 42, 180, 0, 21, 27, 96, 184, 0, 117, 181, 0, 21, 177]
abbrev dktX2_earn_1 : List UInt8 := dkwX2_earn_1 ++ []
def dkwX2_earn_0 : List UInt8 := [42, 89, 180, 0, 68, 3, 42, 180, 0, 21, 27, 96, 17, 39, 15, 100, 184, 0, 111, 96, 181, 0, 68, 42]
abbrev dktX2_earn_0 : List UInt8 := dkwX2_earn_0 ++ dktX2_earn_1
theorem dksX2_earn_0 : cX2_earn.data.toList.drop 0 = dktX2_earn_0 := by decide +kernel
theorem dksX2_earn_1 : cX2_earn.data.toList.drop 24 = dktX2_earn_1 := dk_seg dksX2_earn_0 24 rfl rfl
theorem dX2_earn_0 : DC mX2_earn 0 = .ok (.aload_n 0, 1) := dk_42 (dk_at dksX2_earn_0 0 rfl rfl)
theorem dX2_earn_1 : DC mX2_earn 1 = .ok (.dup, 1) := dk_89 (dk_at dksX2_earn_0 1 rfl rfl)
theorem dX2_earn_2 : DC mX2_earn 2 = .ok (.getfield 68, 3) := dk_180 0 68 (dk_at dksX2_earn_0 2 rfl rfl)
theorem dX2_earn_5 : DC mX2_earn 5 = .ok (.iconst 0, 1) := dk_3 (dk_at dksX2_earn_0 5 rfl rfl)
theorem dX2_earn_6 : DC mX2_earn 6 = .ok (.aload_n 0, 1) := dk_42 (dk_at dksX2_earn_0 6 rfl rfl)
theorem dX2_earn_7 : DC mX2_earn 7 = .ok (.getfield 21, 3) := dk_180 0 21 (dk_at dksX2_earn_0 7 rfl rfl)
theorem dX2_earn_10 : DC mX2_earn 10 = .ok (.iload_n 1, 1) := dk_27 (dk_at dksX2_earn_0 10 rfl rfl)
theorem dX2_earn_11 : DC mX2_earn 11 = .ok (.iadd, 1) := dk_96 (dk_at dksX2_earn_0 11 rfl rfl)
theorem dX2_earn_12 : DC mX2_earn 12 = .ok (.sipush 9999, 3) := dk_17 39 15 (dk_at dksX2_earn_0 12 rfl rfl)
theorem dX2_earn_15 : DC mX2_earn 15 = .ok (.isub, 1) := dk_100 (dk_at dksX2_earn_0 15 rfl rfl)
theorem dX2_earn_16 : DC mX2_earn 16 = .ok (.invokestatic 111, 3) := dk_184 0 111 (dk_at dksX2_earn_0 16 rfl rfl)
theorem dX2_earn_19 : DC mX2_earn 19 = .ok (.iadd, 1) := dk_96 (dk_at dksX2_earn_0 19 rfl rfl)
theorem dX2_earn_20 : DC mX2_earn 20 = .ok (.putfield 68, 3) := dk_181 0 68 (dk_at dksX2_earn_0 20 rfl rfl)
theorem dX2_earn_23 : DC mX2_earn 23 = .ok (.aload_n 0, 1) := dk_42 (dk_at dksX2_earn_0 23 rfl rfl)
theorem dX2_earn_24 : DC mX2_earn 24 = .ok (.sipush 9999, 3) := dk_17 39 15 (dk_at dksX2_earn_1 0 rfl rfl)
theorem dX2_earn_27 : DC mX2_earn 27 = .ok (.aload_n 0, 1) := dk_42 (dk_at dksX2_earn_1 3 rfl rfl)
theorem dX2_earn_28 : DC mX2_earn 28 = .ok (.getfield 21, 3) := dk_180 0 21 (dk_at dksX2_earn_1 4 rfl rfl)
theorem dX2_earn_31 : DC mX2_earn 31 = .ok (.iload_n 1, 1) := dk_27 (dk_at dksX2_earn_1 7 rfl rfl)
theorem dX2_earn_32 : DC mX2_earn 32 = .ok (.iadd, 1) := dk_96 (dk_at dksX2_earn_1 8 rfl rfl)
theorem dX2_earn_33 : DC mX2_earn 33 = .ok (.invokestatic 117, 3) := dk_184 0 117 (dk_at dksX2_earn_1 9 rfl rfl)
theorem dX2_earn_36 : DC mX2_earn 36 = .ok (.putfield 21, 3) := dk_181 0 21 (dk_at dksX2_earn_1 12 rfl rfl)
theorem dX2_earn_39 : DC mX2_earn 39 = .ok (.return_, 1) := dk_177 (dk_at dksX2_earn_1 15 rfl rfl)
abbrev cX2_booked : ByteArray := prog_8_method_15_code
def yX2_booked : MethodName := ⟨RX2, "booked", "()I"⟩
def mX2_booked : MI := (⟨"TheatreSaga$Theatre", "booked", "()I"⟩, prog_8_method_15_code, 4, (Option.some FieldType.int), none, 40, 11)
theorem oX2_booked : mO mX2_booked = 40 := rfl
theorem lX2_booked : mL mX2_booked = 4 := rfl
theorem rX2_booked : mR mX2_booked = (Option.some FieldType.int) := rfl
theorem vX2_booked : mV mX2_booked = 11 := rfl
theorem nX2_booked : (mY mX2_booked).name = "booked" := rfl
theorem hX2_booked : mH mX2_booked = none := rfl
theorem kX2_booked : MOk mX2_booked := ⟨q2066, q82, by decide +kernel⟩
theorem gX2_booked : plainName (mY mX2_booked).cls = true ∧ (mY mX2_booked).cls = "TheatreSaga$Theatre" := ⟨by decide +kernel, rfl⟩
def dkwX2_booked_1 : List UInt8 := [185, 0, 44, 1, 0, 192, 0, 51, 78, 27, 45, 180, 0, 170, 96, 60, 167, 255, 230, 27, 172]
abbrev dktX2_booked_1 : List UInt8 := dkwX2_booked_1 ++ []
def dkwX2_booked_0 : List UInt8 := [3, 60, 42, 180, 0, 12, 185, 0, 34, 1, 0, 77, 44, 185, 0, 38, 1, 0, 153, 0, 23, 44]
abbrev dktX2_booked_0 : List UInt8 := dkwX2_booked_0 ++ dktX2_booked_1
theorem dksX2_booked_0 : cX2_booked.data.toList.drop 0 = dktX2_booked_0 := by decide +kernel
theorem dksX2_booked_1 : cX2_booked.data.toList.drop 22 = dktX2_booked_1 := dk_seg dksX2_booked_0 22 rfl rfl
theorem dX2_booked_0 : DC mX2_booked 0 = .ok (.iconst 0, 1) := dk_3 (dk_at dksX2_booked_0 0 rfl rfl)
theorem dX2_booked_1 : DC mX2_booked 1 = .ok (.istore_n 1, 1) := dk_60 (dk_at dksX2_booked_0 1 rfl rfl)
theorem dX2_booked_2 : DC mX2_booked 2 = .ok (.aload_n 0, 1) := dk_42 (dk_at dksX2_booked_0 2 rfl rfl)
theorem dX2_booked_3 : DC mX2_booked 3 = .ok (.getfield 12, 3) := dk_180 0 12 (dk_at dksX2_booked_0 3 rfl rfl)
theorem dX2_booked_6 : DC mX2_booked 6 = .ok (.invokeinterface 34 1, 5) := by decide +kernel
theorem dX2_booked_11 : DC mX2_booked 11 = .ok (.astore_n 2, 1) := dk_77 (dk_at dksX2_booked_0 11 rfl rfl)
theorem dX2_booked_12 : DC mX2_booked 12 = .ok (.aload_n 2, 1) := dk_44 (dk_at dksX2_booked_0 12 rfl rfl)
theorem dX2_booked_13 : DC mX2_booked 13 = .ok (.invokeinterface 38 1, 5) := by decide +kernel
theorem dX2_booked_18 : DC mX2_booked 18 = .ok (.ifCond .eq 23, 3) := dk_153 0 23 (dk_at dksX2_booked_0 18 rfl rfl)
theorem dX2_booked_21 : DC mX2_booked 21 = .ok (.aload_n 2, 1) := dk_44 (dk_at dksX2_booked_0 21 rfl rfl)
theorem dX2_booked_22 : DC mX2_booked 22 = .ok (.invokeinterface 44 1, 5) := by decide +kernel
theorem dX2_booked_27 : DC mX2_booked 27 = .ok (.checkcast 51, 3) := dk_192 0 51 (dk_at dksX2_booked_1 5 rfl rfl)
theorem dX2_booked_30 : DC mX2_booked 30 = .ok (.astore_n 3, 1) := dk_78 (dk_at dksX2_booked_1 8 rfl rfl)
theorem dX2_booked_31 : DC mX2_booked 31 = .ok (.iload_n 1, 1) := dk_27 (dk_at dksX2_booked_1 9 rfl rfl)
theorem dX2_booked_32 : DC mX2_booked 32 = .ok (.aload_n 3, 1) := dk_45 (dk_at dksX2_booked_1 10 rfl rfl)
theorem dX2_booked_33 : DC mX2_booked 33 = .ok (.getfield 170, 3) := dk_180 0 170 (dk_at dksX2_booked_1 11 rfl rfl)
theorem dX2_booked_36 : DC mX2_booked 36 = .ok (.iadd, 1) := dk_96 (dk_at dksX2_booked_1 14 rfl rfl)
theorem dX2_booked_37 : DC mX2_booked 37 = .ok (.istore_n 1, 1) := dk_60 (dk_at dksX2_booked_1 15 rfl rfl)
theorem dX2_booked_38 : DC mX2_booked 38 = .ok (.goto (-26), 3) := dk_167 255 230 (dk_at dksX2_booked_1 16 rfl rfl)
theorem dX2_booked_41 : DC mX2_booked 41 = .ok (.iload_n 1, 1) := dk_27 (dk_at dksX2_booked_1 19 rfl rfl)
theorem dX2_booked_42 : DC mX2_booked 42 = .ok (.ireturn, 1) := dk_172 (dk_at dksX2_booked_1 20 rfl rfl)
theorem in_X2 : ∀ w ∈ wsX20, w ∈ lw_all := lw_in wsX20 [397, 399, 401, 403, 405, 407, 409, 411, 413, 415] (by decide +kernel) (by decide +kernel)

/-! TheatreSaga$Town -/
set_option maxRecDepth 100000
def RX3 : String := "TheatreSaga$Town"
def TX3 : u_T := fun k => match k with
  | 0 => ("TheatreSaga$Town", "isShut", "Z", false)
  | 1 => ("TheatreSaga$Town", "dearness", "I", false)
  | 2 => ("TheatreSaga$Town", "paid", "I", false)
  | _ => ("TheatreSaga$Town", "taken", "[I", true)
def tyX3 : Nat → FieldType := fun k => match k with
  | 0 => .boolean
  | 1 => .int
  | 2 => .int
  | _ => .array .int
abbrev wsX30 : List Cond := u_ws RX3 TX3 4
theorem nmX3 : ∀ a, a < 4 → ∀ b, b < 4 → a ≠ b → (TX3 a).2.1 ≠ (TX3 b).2.1 := by decide +kernel
theorem tyX3_ok : ∀ k, k < 4 → parseFieldDescriptor (TX3 k).2.2.1 = some (tyX3 k) := by decide +kernel
abbrev cX3_init : ByteArray := prog_10_method_1_code
def yX3_init : MethodName := ⟨RX3, "<init>", "()V"⟩
def mX3_init : MI := (⟨"TheatreSaga$Town", "<init>", "()V"⟩, prog_10_method_1_code, 1, (Option.none : Option FieldType), none, 41, 2)
theorem oX3_init : mO mX3_init = 41 := rfl
theorem lX3_init : mL mX3_init = 1 := rfl
theorem rX3_init : mR mX3_init = (Option.none : Option FieldType) := rfl
theorem vX3_init : mV mX3_init = 2 := rfl
theorem nX3_init : (mY mX3_init).name = "<init>" := rfl
theorem hX3_init : mH mX3_init = none := rfl
theorem kX3_init : MOk mX3_init := ⟨q228, q85, by decide +kernel⟩
theorem gX3_init : plainName (mY mX3_init).cls = true ∧ (mY mX3_init).cls = "TheatreSaga$Town" := ⟨by decide +kernel, rfl⟩
def dkwX3_init_0 : List UInt8 := [42, 183, 0, 3, 42, 16, 60, 188, 10, 181, 0, 9, 42, 5, 181, 0, 15, 177]
abbrev dktX3_init_0 : List UInt8 := dkwX3_init_0 ++ []
theorem dksX3_init_0 : cX3_init.data.toList.drop 0 = dktX3_init_0 := by decide +kernel
theorem dX3_init_0 : DC mX3_init 0 = .ok (.aload_n 0, 1) := dk_42 (dk_at dksX3_init_0 0 rfl rfl)
theorem dX3_init_1 : DC mX3_init 1 = .ok (.invokespecial 3, 3) := dk_183 0 3 (dk_at dksX3_init_0 1 rfl rfl)
theorem dX3_init_4 : DC mX3_init 4 = .ok (.aload_n 0, 1) := dk_42 (dk_at dksX3_init_0 4 rfl rfl)
theorem dX3_init_5 : DC mX3_init 5 = .ok (.bipush 60, 2) := dk_16 60 (dk_at dksX3_init_0 5 rfl rfl)
theorem dX3_init_7 : DC mX3_init 7 = .ok (.newarray .int, 2) := dk_188_10 (dk_at dksX3_init_0 7 rfl rfl)
theorem dX3_init_9 : DC mX3_init 9 = .ok (.putfield 9, 3) := dk_181 0 9 (dk_at dksX3_init_0 9 rfl rfl)
theorem dX3_init_12 : DC mX3_init 12 = .ok (.aload_n 0, 1) := dk_42 (dk_at dksX3_init_0 12 rfl rfl)
theorem dX3_init_13 : DC mX3_init 13 = .ok (.iconst 2, 1) := dk_5 (dk_at dksX3_init_0 13 rfl rfl)
theorem dX3_init_14 : DC mX3_init 14 = .ok (.putfield 15, 3) := dk_181 0 15 (dk_at dksX3_init_0 14 rfl rfl)
theorem dX3_init_17 : DC mX3_init 17 = .ok (.return_, 1) := dk_177 (dk_at dksX3_init_0 17 rfl rfl)
abbrev cX3_init_2 : ByteArray := prog_10_method_2_code
def yX3_init_2 : MethodName := ⟨RX3, "<init>", "(LTheatreSaga$Town;)V"⟩
def mX3_init_2 : MI := (⟨"TheatreSaga$Town", "<init>", "(LTheatreSaga$Town;)V"⟩, prog_10_method_2_code, 2, (Option.none : Option FieldType), none, 41, 3)
theorem oX3_init_2 : mO mX3_init_2 = 41 := rfl
theorem lX3_init_2 : mL mX3_init_2 = 2 := rfl
theorem rX3_init_2 : mR mX3_init_2 = (Option.none : Option FieldType) := rfl
theorem vX3_init_2 : mV mX3_init_2 = 3 := rfl
theorem nX3_init_2 : (mY mX3_init_2).name = "<init>" := rfl
theorem hX3_init_2 : mH mX3_init_2 = none := rfl
theorem kX3_init_2 : MOk mX3_init_2 := ⟨q1092, q85, by decide +kernel⟩
theorem gX3_init_2 : plainName (mY mX3_init_2).cls = true ∧ (mY mX3_init_2).cls = "TheatreSaga$Town" := ⟨by decide +kernel, rfl⟩
def dkwX3_init_2_1 : List UInt8 := [180, 0, 24, 181, 0, 24, 43, 180, 0, 9, 3, 42, 180, 0, 9, 3, 16, 60, 184, 0, 27, 177]
abbrev dktX3_init_2_1 : List UInt8 := dkwX3_init_2_1 ++ []
def dkwX3_init_2_0 : List UInt8 := [42, 183, 0, 19, 42, 43, 180, 0, 20, 181, 0, 20, 42, 43, 180, 0, 15, 181, 0, 15, 42, 43]
abbrev dktX3_init_2_0 : List UInt8 := dkwX3_init_2_0 ++ dktX3_init_2_1
theorem dksX3_init_2_0 : cX3_init_2.data.toList.drop 0 = dktX3_init_2_0 := by decide +kernel
theorem dksX3_init_2_1 : cX3_init_2.data.toList.drop 22 = dktX3_init_2_1 := dk_seg dksX3_init_2_0 22 rfl rfl
theorem dX3_init_2_0 : DC mX3_init_2 0 = .ok (.aload_n 0, 1) := dk_42 (dk_at dksX3_init_2_0 0 rfl rfl)
theorem dX3_init_2_1 : DC mX3_init_2 1 = .ok (.invokespecial 19, 3) := dk_183 0 19 (dk_at dksX3_init_2_0 1 rfl rfl)
theorem dX3_init_2_4 : DC mX3_init_2 4 = .ok (.aload_n 0, 1) := dk_42 (dk_at dksX3_init_2_0 4 rfl rfl)
theorem dX3_init_2_5 : DC mX3_init_2 5 = .ok (.aload_n 1, 1) := dk_43 (dk_at dksX3_init_2_0 5 rfl rfl)
theorem dX3_init_2_6 : DC mX3_init_2 6 = .ok (.getfield 20, 3) := dk_180 0 20 (dk_at dksX3_init_2_0 6 rfl rfl)
theorem dX3_init_2_9 : DC mX3_init_2 9 = .ok (.putfield 20, 3) := dk_181 0 20 (dk_at dksX3_init_2_0 9 rfl rfl)
theorem dX3_init_2_12 : DC mX3_init_2 12 = .ok (.aload_n 0, 1) := dk_42 (dk_at dksX3_init_2_0 12 rfl rfl)
theorem dX3_init_2_13 : DC mX3_init_2 13 = .ok (.aload_n 1, 1) := dk_43 (dk_at dksX3_init_2_0 13 rfl rfl)
theorem dX3_init_2_14 : DC mX3_init_2 14 = .ok (.getfield 15, 3) := dk_180 0 15 (dk_at dksX3_init_2_0 14 rfl rfl)
theorem dX3_init_2_17 : DC mX3_init_2 17 = .ok (.putfield 15, 3) := dk_181 0 15 (dk_at dksX3_init_2_0 17 rfl rfl)
theorem dX3_init_2_20 : DC mX3_init_2 20 = .ok (.aload_n 0, 1) := dk_42 (dk_at dksX3_init_2_0 20 rfl rfl)
theorem dX3_init_2_21 : DC mX3_init_2 21 = .ok (.aload_n 1, 1) := dk_43 (dk_at dksX3_init_2_0 21 rfl rfl)
theorem dX3_init_2_22 : DC mX3_init_2 22 = .ok (.getfield 24, 3) := dk_180 0 24 (dk_at dksX3_init_2_1 0 rfl rfl)
theorem dX3_init_2_25 : DC mX3_init_2 25 = .ok (.putfield 24, 3) := dk_181 0 24 (dk_at dksX3_init_2_1 3 rfl rfl)
theorem dX3_init_2_28 : DC mX3_init_2 28 = .ok (.aload_n 1, 1) := dk_43 (dk_at dksX3_init_2_1 6 rfl rfl)
theorem dX3_init_2_29 : DC mX3_init_2 29 = .ok (.getfield 9, 3) := dk_180 0 9 (dk_at dksX3_init_2_1 7 rfl rfl)
theorem dX3_init_2_32 : DC mX3_init_2 32 = .ok (.iconst 0, 1) := dk_3 (dk_at dksX3_init_2_1 10 rfl rfl)
theorem dX3_init_2_33 : DC mX3_init_2 33 = .ok (.aload_n 0, 1) := dk_42 (dk_at dksX3_init_2_1 11 rfl rfl)
theorem dX3_init_2_34 : DC mX3_init_2 34 = .ok (.getfield 9, 3) := dk_180 0 9 (dk_at dksX3_init_2_1 12 rfl rfl)
theorem dX3_init_2_37 : DC mX3_init_2 37 = .ok (.iconst 0, 1) := dk_3 (dk_at dksX3_init_2_1 15 rfl rfl)
theorem dX3_init_2_38 : DC mX3_init_2 38 = .ok (.bipush 60, 2) := dk_16 60 (dk_at dksX3_init_2_1 16 rfl rfl)
theorem dX3_init_2_40 : DC mX3_init_2 40 = .ok (.invokestatic 27, 3) := dk_184 0 27 (dk_at dksX3_init_2_1 18 rfl rfl)
theorem dX3_init_2_43 : DC mX3_init_2 43 = .ok (.return_, 1) := dk_177 (dk_at dksX3_init_2_1 21 rfl rfl)
abbrev cX3_left : ByteArray := prog_10_method_3_code
def yX3_left : MethodName := ⟨RX3, "left", "(II)I"⟩
def mX3_left : MI := (⟨"TheatreSaga$Town", "left", "(II)I"⟩, prog_10_method_3_code, 3, (Option.some FieldType.int), none, 41, 2)
theorem oX3_left : mO mX3_left = 41 := rfl
theorem lX3_left : mL mX3_left = 3 := rfl
theorem rX3_left : mR mX3_left = (Option.some FieldType.int) := rfl
theorem vX3_left : mV mX3_left = 2 := rfl
theorem nX3_left : (mY mX3_left).name = "left" := rfl
theorem hX3_left : mH mX3_left = none := rfl
theorem kX3_left : MOk mX3_left := ⟨q1578, q85, by decide +kernel⟩
theorem gX3_left : plainName (mY mX3_left).cls = true ∧ (mY mX3_left).cls = "TheatreSaga$Town" := ⟨by decide +kernel, rfl⟩
def dkwX3_left_0 : List UInt8 := [27, 184, 0, 33, 42, 180, 0, 9, 16, 20, 27, 104, 28, 96, 46, 100, 172]
abbrev dktX3_left_0 : List UInt8 := dkwX3_left_0 ++ []
theorem dksX3_left_0 : cX3_left.data.toList.drop 0 = dktX3_left_0 := by decide +kernel
theorem dX3_left_0 : DC mX3_left 0 = .ok (.iload_n 1, 1) := dk_27 (dk_at dksX3_left_0 0 rfl rfl)
theorem dX3_left_1 : DC mX3_left 1 = .ok (.invokestatic 33, 3) := dk_184 0 33 (dk_at dksX3_left_0 1 rfl rfl)
theorem dX3_left_4 : DC mX3_left 4 = .ok (.aload_n 0, 1) := dk_42 (dk_at dksX3_left_0 4 rfl rfl)
theorem dX3_left_5 : DC mX3_left 5 = .ok (.getfield 9, 3) := dk_180 0 9 (dk_at dksX3_left_0 5 rfl rfl)
theorem dX3_left_8 : DC mX3_left 8 = .ok (.bipush 20, 2) := dk_16 20 (dk_at dksX3_left_0 8 rfl rfl)
theorem dX3_left_10 : DC mX3_left 10 = .ok (.iload_n 1, 1) := dk_27 (dk_at dksX3_left_0 10 rfl rfl)
theorem dX3_left_11 : DC mX3_left 11 = .ok (.imul, 1) := dk_104 (dk_at dksX3_left_0 11 rfl rfl)
theorem dX3_left_12 : DC mX3_left 12 = .ok (.iload_n 2, 1) := dk_28 (dk_at dksX3_left_0 12 rfl rfl)
theorem dX3_left_13 : DC mX3_left 13 = .ok (.iadd, 1) := dk_96 (dk_at dksX3_left_0 13 rfl rfl)
theorem dX3_left_14 : DC mX3_left 14 = .ok (.iaload, 1) := dk_46 (dk_at dksX3_left_0 14 rfl rfl)
theorem dX3_left_15 : DC mX3_left 15 = .ok (.isub, 1) := dk_100 (dk_at dksX3_left_0 15 rfl rfl)
theorem dX3_left_16 : DC mX3_left 16 = .ok (.ireturn, 1) := dk_172 (dk_at dksX3_left_0 16 rfl rfl)
abbrev cX3_take : ByteArray := prog_10_method_4_code
def yX3_take : MethodName := ⟨RX3, "take", "(LTheatreSaga$Step;I)V"⟩
def mX3_take : MI := (⟨"TheatreSaga$Town", "take", "(LTheatreSaga$Step;I)V"⟩, prog_10_method_4_code, 3, (Option.none : Option FieldType), none, 41, 2)
theorem oX3_take : mO mX3_take = 41 := rfl
theorem lX3_take : mL mX3_take = 3 := rfl
theorem rX3_take : mR mX3_take = (Option.none : Option FieldType) := rfl
theorem vX3_take : mV mX3_take = 2 := rfl
theorem nX3_take : (mY mX3_take).name = "take" := rfl
theorem hX3_take : mH mX3_take = none := rfl
theorem kX3_take : MOk mX3_take := ⟨q1595, q85, by decide +kernel⟩
theorem gX3_take : plainName (mY mX3_take).cls = true ∧ (mY mX3_take).cls = "TheatreSaga$Town" := ⟨by decide +kernel, rfl⟩
def dkwX3_take_0 : List UInt8 := [42, 180, 0, 9, 16, 20, 43, 182, 0, 37, 104, 43, 182, 0, 43, 96, 92, 46, 28, 96, 79, 177]
abbrev dktX3_take_0 : List UInt8 := dkwX3_take_0 ++ []
theorem dksX3_take_0 : cX3_take.data.toList.drop 0 = dktX3_take_0 := by decide +kernel
theorem dX3_take_0 : DC mX3_take 0 = .ok (.aload_n 0, 1) := dk_42 (dk_at dksX3_take_0 0 rfl rfl)
theorem dX3_take_1 : DC mX3_take 1 = .ok (.getfield 9, 3) := dk_180 0 9 (dk_at dksX3_take_0 1 rfl rfl)
theorem dX3_take_4 : DC mX3_take 4 = .ok (.bipush 20, 2) := dk_16 20 (dk_at dksX3_take_0 4 rfl rfl)
theorem dX3_take_6 : DC mX3_take 6 = .ok (.aload_n 1, 1) := dk_43 (dk_at dksX3_take_0 6 rfl rfl)
theorem dX3_take_7 : DC mX3_take 7 = .ok (.invokevirtual 37, 3) := dk_182 0 37 (dk_at dksX3_take_0 7 rfl rfl)
theorem dX3_take_10 : DC mX3_take 10 = .ok (.imul, 1) := dk_104 (dk_at dksX3_take_0 10 rfl rfl)
theorem dX3_take_11 : DC mX3_take 11 = .ok (.aload_n 1, 1) := dk_43 (dk_at dksX3_take_0 11 rfl rfl)
theorem dX3_take_12 : DC mX3_take 12 = .ok (.invokevirtual 43, 3) := dk_182 0 43 (dk_at dksX3_take_0 12 rfl rfl)
theorem dX3_take_15 : DC mX3_take 15 = .ok (.iadd, 1) := dk_96 (dk_at dksX3_take_0 15 rfl rfl)
theorem dX3_take_16 : DC mX3_take 16 = .ok (.dup2, 1) := dk_92 (dk_at dksX3_take_0 16 rfl rfl)
theorem dX3_take_17 : DC mX3_take 17 = .ok (.iaload, 1) := dk_46 (dk_at dksX3_take_0 17 rfl rfl)
theorem dX3_take_18 : DC mX3_take 18 = .ok (.iload_n 2, 1) := dk_28 (dk_at dksX3_take_0 18 rfl rfl)
theorem dX3_take_19 : DC mX3_take 19 = .ok (.iadd, 1) := dk_96 (dk_at dksX3_take_0 19 rfl rfl)
theorem dX3_take_20 : DC mX3_take 20 = .ok (.iastore, 1) := dk_79 (dk_at dksX3_take_0 20 rfl rfl)
theorem dX3_take_21 : DC mX3_take 21 = .ok (.return_, 1) := dk_177 (dk_at dksX3_take_0 21 rfl rfl)
theorem in_X3 : ∀ w ∈ wsX30, w ∈ lw_all := lw_in wsX30 [243, 245, 247, 249] (by decide +kernel) (by decide +kernel)

/-! TheatreSaga$Theatre$Tour -/
set_option maxRecDepth 100000
def RX5 : String := "TheatreSaga$Theatre$Tour"
def TX5 : u_T := fun k => match k with
  | 0 => ("TheatreSaga$Theatre$Tour", "number", "I", true)
  | 1 => ("TheatreSaga$Theatre$Tour", "limit", "I", true)
  | 2 => ("TheatreSaga$Theatre$Tour", "steps", "Ljava/util/List;", true)
  | 3 => ("TheatreSaga$Theatre$Tour", "prices", "[I", true)
  | 4 => ("TheatreSaga$Theatre$Tour", "how", "I", false)
  | 5 => ("TheatreSaga$Theatre$Tour", "booked", "I", false)
  | 6 => ("TheatreSaga$Theatre$Tour", "tried", "I", false)
  | 7 => ("TheatreSaga$Theatre$Tour", "cause", "I", false)
  | 8 => ("TheatreSaga$Theatre$Tour", "spent", "I", false)
  | 9 => ("TheatreSaga$Theatre$Tour", "returned", "I", false)
  | 10 => ("TheatreSaga$Theatre$Tour", "earned", "I", false)
  | _ => ("TheatreSaga$Theatre$Tour", "this$0", "LTheatreSaga$Theatre;", true)
def tyX5 : Nat → FieldType := fun k => match k with
  | 0 => .int
  | 1 => .int
  | 2 => .object "java/util/List"
  | 3 => .array .int
  | 4 => .int
  | 5 => .int
  | 6 => .int
  | 7 => .int
  | 8 => .int
  | 9 => .int
  | 10 => .int
  | _ => .object "TheatreSaga$Theatre"
abbrev wsX50 : List Cond := u_ws RX5 TX5 12
theorem nmX5 : ∀ a, a < 12 → ∀ b, b < 12 → a ≠ b → (TX5 a).2.1 ≠ (TX5 b).2.1 := by decide +kernel
theorem tyX5_ok : ∀ k, k < 12 → parseFieldDescriptor (TX5 k).2.2.1 = some (tyX5 k) := by decide +kernel
abbrev cX5_init : ByteArray := prog_9_method_2_code
def yX5_init : MethodName := ⟨RX5, "<init>", "(LTheatreSaga$Theatre;LTheatreSaga$Theatre$Tour;)V"⟩
def mX5_init : MI := (⟨"TheatreSaga$Theatre$Tour", "<init>", "(LTheatreSaga$Theatre;LTheatreSaga$Theatre$Tour;)V"⟩, prog_9_method_2_code, 3, (Option.none : Option FieldType), none, 43, 16)
theorem oX5_init : mO mX5_init = 43 := rfl
theorem lX5_init : mL mX5_init = 3 := rfl
theorem rX5_init : mR mX5_init = (Option.none : Option FieldType) := rfl
theorem vX5_init : mV mX5_init = 16 := rfl
theorem nX5_init : (mY mX5_init).name = "<init>" := rfl
theorem hX5_init : mH mX5_init = none := rfl
theorem kX5_init : MOk mX5_init := ⟨q1099, q108, by decide +kernel⟩
theorem gX5_init : plainName (mY mX5_init).cls = true ∧ (mY mX5_init).cls = "TheatreSaga$Theatre$Tour" := ⟨by decide +kernel, rfl⟩
def dkwX5_init_4 : List UInt8 := [180, 0, 66, 181, 0, 66, 177]
abbrev dktX5_init_4 : List UInt8 := dkwX5_init_4 ++ []
def dkwX5_init_3 : List UInt8 := [180, 0, 57, 181, 0, 57, 42, 44, 180, 0, 60, 181, 0, 60, 42, 44, 180, 0, 63, 181, 0, 63, 42, 44]
abbrev dktX5_init_3 : List UInt8 := dkwX5_init_3 ++ dktX5_init_4
def dkwX5_init_2 : List UInt8 := [180, 0, 48, 181, 0, 48, 42, 44, 180, 0, 51, 181, 0, 51, 42, 44, 180, 0, 54, 181, 0, 54, 42, 44]
abbrev dktX5_init_2 : List UInt8 := dkwX5_init_2 ++ dktX5_init_3
def dkwX5_init_1 : List UInt8 := [185, 0, 36, 2, 0, 87, 44, 180, 0, 22, 3, 42, 180, 0, 22, 3, 16, 8, 184, 0, 42, 42, 44]
abbrev dktX5_init_1 : List UInt8 := dkwX5_init_1 ++ dktX5_init_2
def dkwX5_init_0 : List UInt8 := [42, 43, 44, 180, 0, 26, 44, 180, 0, 30, 183, 0, 33, 42, 180, 0, 18, 44, 180, 0, 18]
abbrev dktX5_init_0 : List UInt8 := dkwX5_init_0 ++ dktX5_init_1
theorem dksX5_init_0 : cX5_init.data.toList.drop 0 = dktX5_init_0 := by decide +kernel
theorem dksX5_init_1 : cX5_init.data.toList.drop 21 = dktX5_init_1 := dk_seg dksX5_init_0 21 rfl rfl
theorem dksX5_init_2 : cX5_init.data.toList.drop 44 = dktX5_init_2 := dk_seg dksX5_init_1 23 rfl rfl
theorem dksX5_init_3 : cX5_init.data.toList.drop 68 = dktX5_init_3 := dk_seg dksX5_init_2 24 rfl rfl
theorem dksX5_init_4 : cX5_init.data.toList.drop 92 = dktX5_init_4 := dk_seg dksX5_init_3 24 rfl rfl
theorem dX5_init_0 : DC mX5_init 0 = .ok (.aload_n 0, 1) := dk_42 (dk_at dksX5_init_0 0 rfl rfl)
theorem dX5_init_1 : DC mX5_init 1 = .ok (.aload_n 1, 1) := dk_43 (dk_at dksX5_init_0 1 rfl rfl)
theorem dX5_init_2 : DC mX5_init 2 = .ok (.aload_n 2, 1) := dk_44 (dk_at dksX5_init_0 2 rfl rfl)
theorem dX5_init_3 : DC mX5_init 3 = .ok (.getfield 26, 3) := dk_180 0 26 (dk_at dksX5_init_0 3 rfl rfl)
theorem dX5_init_6 : DC mX5_init 6 = .ok (.aload_n 2, 1) := dk_44 (dk_at dksX5_init_0 6 rfl rfl)
theorem dX5_init_7 : DC mX5_init 7 = .ok (.getfield 30, 3) := dk_180 0 30 (dk_at dksX5_init_0 7 rfl rfl)
theorem dX5_init_10 : DC mX5_init 10 = .ok (.invokespecial 33, 3) := dk_183 0 33 (dk_at dksX5_init_0 10 rfl rfl)
theorem dX5_init_13 : DC mX5_init 13 = .ok (.aload_n 0, 1) := dk_42 (dk_at dksX5_init_0 13 rfl rfl)
theorem dX5_init_14 : DC mX5_init 14 = .ok (.getfield 18, 3) := dk_180 0 18 (dk_at dksX5_init_0 14 rfl rfl)
theorem dX5_init_17 : DC mX5_init 17 = .ok (.aload_n 2, 1) := dk_44 (dk_at dksX5_init_0 17 rfl rfl)
theorem dX5_init_18 : DC mX5_init 18 = .ok (.getfield 18, 3) := dk_180 0 18 (dk_at dksX5_init_0 18 rfl rfl)
theorem dX5_init_21 : DC mX5_init 21 = .ok (.invokeinterface 36 2, 5) := by decide +kernel
theorem dX5_init_26 : DC mX5_init 26 = .ok (.pop, 1) := dk_87 (dk_at dksX5_init_1 5 rfl rfl)
theorem dX5_init_27 : DC mX5_init 27 = .ok (.aload_n 2, 1) := dk_44 (dk_at dksX5_init_1 6 rfl rfl)
theorem dX5_init_28 : DC mX5_init 28 = .ok (.getfield 22, 3) := dk_180 0 22 (dk_at dksX5_init_1 7 rfl rfl)
theorem dX5_init_31 : DC mX5_init 31 = .ok (.iconst 0, 1) := dk_3 (dk_at dksX5_init_1 10 rfl rfl)
theorem dX5_init_32 : DC mX5_init 32 = .ok (.aload_n 0, 1) := dk_42 (dk_at dksX5_init_1 11 rfl rfl)
theorem dX5_init_33 : DC mX5_init 33 = .ok (.getfield 22, 3) := dk_180 0 22 (dk_at dksX5_init_1 12 rfl rfl)
theorem dX5_init_36 : DC mX5_init 36 = .ok (.iconst 0, 1) := dk_3 (dk_at dksX5_init_1 15 rfl rfl)
theorem dX5_init_37 : DC mX5_init 37 = .ok (.bipush 8, 2) := dk_16 8 (dk_at dksX5_init_1 16 rfl rfl)
theorem dX5_init_39 : DC mX5_init 39 = .ok (.invokestatic 42, 3) := dk_184 0 42 (dk_at dksX5_init_1 18 rfl rfl)
theorem dX5_init_42 : DC mX5_init 42 = .ok (.aload_n 0, 1) := dk_42 (dk_at dksX5_init_1 21 rfl rfl)
theorem dX5_init_43 : DC mX5_init 43 = .ok (.aload_n 2, 1) := dk_44 (dk_at dksX5_init_1 22 rfl rfl)
theorem dX5_init_44 : DC mX5_init 44 = .ok (.getfield 48, 3) := dk_180 0 48 (dk_at dksX5_init_2 0 rfl rfl)
theorem dX5_init_47 : DC mX5_init 47 = .ok (.putfield 48, 3) := dk_181 0 48 (dk_at dksX5_init_2 3 rfl rfl)
theorem dX5_init_50 : DC mX5_init 50 = .ok (.aload_n 0, 1) := dk_42 (dk_at dksX5_init_2 6 rfl rfl)
theorem dX5_init_51 : DC mX5_init 51 = .ok (.aload_n 2, 1) := dk_44 (dk_at dksX5_init_2 7 rfl rfl)
theorem dX5_init_52 : DC mX5_init 52 = .ok (.getfield 51, 3) := dk_180 0 51 (dk_at dksX5_init_2 8 rfl rfl)
theorem dX5_init_55 : DC mX5_init 55 = .ok (.putfield 51, 3) := dk_181 0 51 (dk_at dksX5_init_2 11 rfl rfl)
theorem dX5_init_58 : DC mX5_init 58 = .ok (.aload_n 0, 1) := dk_42 (dk_at dksX5_init_2 14 rfl rfl)
theorem dX5_init_59 : DC mX5_init 59 = .ok (.aload_n 2, 1) := dk_44 (dk_at dksX5_init_2 15 rfl rfl)
theorem dX5_init_60 : DC mX5_init 60 = .ok (.getfield 54, 3) := dk_180 0 54 (dk_at dksX5_init_2 16 rfl rfl)
theorem dX5_init_63 : DC mX5_init 63 = .ok (.putfield 54, 3) := dk_181 0 54 (dk_at dksX5_init_2 19 rfl rfl)
theorem dX5_init_66 : DC mX5_init 66 = .ok (.aload_n 0, 1) := dk_42 (dk_at dksX5_init_2 22 rfl rfl)
theorem dX5_init_67 : DC mX5_init 67 = .ok (.aload_n 2, 1) := dk_44 (dk_at dksX5_init_2 23 rfl rfl)
theorem dX5_init_68 : DC mX5_init 68 = .ok (.getfield 57, 3) := dk_180 0 57 (dk_at dksX5_init_3 0 rfl rfl)
theorem dX5_init_71 : DC mX5_init 71 = .ok (.putfield 57, 3) := dk_181 0 57 (dk_at dksX5_init_3 3 rfl rfl)
theorem dX5_init_74 : DC mX5_init 74 = .ok (.aload_n 0, 1) := dk_42 (dk_at dksX5_init_3 6 rfl rfl)
theorem dX5_init_75 : DC mX5_init 75 = .ok (.aload_n 2, 1) := dk_44 (dk_at dksX5_init_3 7 rfl rfl)
theorem dX5_init_76 : DC mX5_init 76 = .ok (.getfield 60, 3) := dk_180 0 60 (dk_at dksX5_init_3 8 rfl rfl)
theorem dX5_init_79 : DC mX5_init 79 = .ok (.putfield 60, 3) := dk_181 0 60 (dk_at dksX5_init_3 11 rfl rfl)
theorem dX5_init_82 : DC mX5_init 82 = .ok (.aload_n 0, 1) := dk_42 (dk_at dksX5_init_3 14 rfl rfl)
theorem dX5_init_83 : DC mX5_init 83 = .ok (.aload_n 2, 1) := dk_44 (dk_at dksX5_init_3 15 rfl rfl)
theorem dX5_init_84 : DC mX5_init 84 = .ok (.getfield 63, 3) := dk_180 0 63 (dk_at dksX5_init_3 16 rfl rfl)
theorem dX5_init_87 : DC mX5_init 87 = .ok (.putfield 63, 3) := dk_181 0 63 (dk_at dksX5_init_3 19 rfl rfl)
theorem dX5_init_90 : DC mX5_init 90 = .ok (.aload_n 0, 1) := dk_42 (dk_at dksX5_init_3 22 rfl rfl)
theorem dX5_init_91 : DC mX5_init 91 = .ok (.aload_n 2, 1) := dk_44 (dk_at dksX5_init_3 23 rfl rfl)
theorem dX5_init_92 : DC mX5_init 92 = .ok (.getfield 66, 3) := dk_180 0 66 (dk_at dksX5_init_4 0 rfl rfl)
theorem dX5_init_95 : DC mX5_init 95 = .ok (.putfield 66, 3) := dk_181 0 66 (dk_at dksX5_init_4 3 rfl rfl)
theorem dX5_init_98 : DC mX5_init 98 = .ok (.return_, 1) := dk_177 (dk_at dksX5_init_4 6 rfl rfl)
abbrev cX5_init_2 : ByteArray := prog_9_method_1_code
def yX5_init_2 : MethodName := ⟨RX5, "<init>", "(LTheatreSaga$Theatre;II)V"⟩
def mX5_init_2 : MI := (⟨"TheatreSaga$Theatre$Tour", "<init>", "(LTheatreSaga$Theatre;II)V"⟩, prog_9_method_1_code, 4, (Option.none : Option FieldType), none, 43, 5)
theorem oX5_init_2 : mO mX5_init_2 = 43 := rfl
theorem lX5_init_2 : mL mX5_init_2 = 4 := rfl
theorem rX5_init_2 : mR mX5_init_2 = (Option.none : Option FieldType) := rfl
theorem vX5_init_2 : mV mX5_init_2 = 5 := rfl
theorem nX5_init_2 : (mY mX5_init_2).name = "<init>" := rfl
theorem hX5_init_2 : mH mX5_init_2 = none := rfl
theorem kX5_init_2 : MOk mX5_init_2 := ⟨q1102, q108, by decide +kernel⟩
theorem gX5_init_2 : plainName (mY mX5_init_2).cls = true ∧ (mY mX5_init_2).cls = "TheatreSaga$Theatre$Tour" := ⟨by decide +kernel, rfl⟩
def dkwX5_init_2_1 : List UInt8 := [188, 10, 181, 0, 22, 42, 28, 181, 0, 26, 42, 29, 181, 0, 30, 177]
abbrev dktX5_init_2_1 : List UInt8 := dkwX5_init_2_1 ++ []
def dkwX5_init_2_0 : List UInt8 := [42, 43, 181, 0, 3, 42, 183, 0, 9, 42, 187, 0, 15, 89, 183, 0, 17, 181, 0, 18, 42, 16, 8]
abbrev dktX5_init_2_0 : List UInt8 := dkwX5_init_2_0 ++ dktX5_init_2_1
theorem dksX5_init_2_0 : cX5_init_2.data.toList.drop 0 = dktX5_init_2_0 := by decide +kernel
theorem dksX5_init_2_1 : cX5_init_2.data.toList.drop 23 = dktX5_init_2_1 := dk_seg dksX5_init_2_0 23 rfl rfl
theorem dX5_init_2_0 : DC mX5_init_2 0 = .ok (.aload_n 0, 1) := dk_42 (dk_at dksX5_init_2_0 0 rfl rfl)
theorem dX5_init_2_1 : DC mX5_init_2 1 = .ok (.aload_n 1, 1) := dk_43 (dk_at dksX5_init_2_0 1 rfl rfl)
theorem dX5_init_2_2 : DC mX5_init_2 2 = .ok (.putfield 3, 3) := dk_181 0 3 (dk_at dksX5_init_2_0 2 rfl rfl)
theorem dX5_init_2_5 : DC mX5_init_2 5 = .ok (.aload_n 0, 1) := dk_42 (dk_at dksX5_init_2_0 5 rfl rfl)
theorem dX5_init_2_6 : DC mX5_init_2 6 = .ok (.invokespecial 9, 3) := dk_183 0 9 (dk_at dksX5_init_2_0 6 rfl rfl)
theorem dX5_init_2_9 : DC mX5_init_2 9 = .ok (.aload_n 0, 1) := dk_42 (dk_at dksX5_init_2_0 9 rfl rfl)
theorem dX5_init_2_10 : DC mX5_init_2 10 = .ok (.new 15, 3) := dk_187 0 15 (dk_at dksX5_init_2_0 10 rfl rfl)
theorem dX5_init_2_13 : DC mX5_init_2 13 = .ok (.dup, 1) := dk_89 (dk_at dksX5_init_2_0 13 rfl rfl)
theorem dX5_init_2_14 : DC mX5_init_2 14 = .ok (.invokespecial 17, 3) := dk_183 0 17 (dk_at dksX5_init_2_0 14 rfl rfl)
theorem dX5_init_2_17 : DC mX5_init_2 17 = .ok (.putfield 18, 3) := dk_181 0 18 (dk_at dksX5_init_2_0 17 rfl rfl)
theorem dX5_init_2_20 : DC mX5_init_2 20 = .ok (.aload_n 0, 1) := dk_42 (dk_at dksX5_init_2_0 20 rfl rfl)
theorem dX5_init_2_21 : DC mX5_init_2 21 = .ok (.bipush 8, 2) := dk_16 8 (dk_at dksX5_init_2_0 21 rfl rfl)
theorem dX5_init_2_23 : DC mX5_init_2 23 = .ok (.newarray .int, 2) := dk_188_10 (dk_at dksX5_init_2_1 0 rfl rfl)
theorem dX5_init_2_25 : DC mX5_init_2 25 = .ok (.putfield 22, 3) := dk_181 0 22 (dk_at dksX5_init_2_1 2 rfl rfl)
theorem dX5_init_2_28 : DC mX5_init_2 28 = .ok (.aload_n 0, 1) := dk_42 (dk_at dksX5_init_2_1 5 rfl rfl)
theorem dX5_init_2_29 : DC mX5_init_2 29 = .ok (.iload_n 2, 1) := dk_28 (dk_at dksX5_init_2_1 6 rfl rfl)
theorem dX5_init_2_30 : DC mX5_init_2 30 = .ok (.putfield 26, 3) := dk_181 0 26 (dk_at dksX5_init_2_1 7 rfl rfl)
theorem dX5_init_2_33 : DC mX5_init_2 33 = .ok (.aload_n 0, 1) := dk_42 (dk_at dksX5_init_2_1 10 rfl rfl)
theorem dX5_init_2_34 : DC mX5_init_2 34 = .ok (.iload_n 3, 1) := dk_29 (dk_at dksX5_init_2_1 11 rfl rfl)
theorem dX5_init_2_35 : DC mX5_init_2 35 = .ok (.putfield 30, 3) := dk_181 0 30 (dk_at dksX5_init_2_1 12 rfl rfl)
theorem dX5_init_2_38 : DC mX5_init_2 38 = .ok (.return_, 1) := dk_177 (dk_at dksX5_init_2_1 15 rfl rfl)
abbrev cX5_add : ByteArray := prog_9_method_6_code
def yX5_add : MethodName := ⟨RX5, "add", "(LTheatreSaga$Step;)I"⟩
def mX5_add : MI := (⟨"TheatreSaga$Theatre$Tour", "add", "(LTheatreSaga$Step;)I"⟩, prog_9_method_6_code, 5, (Option.some FieldType.int), none, 43, 11)
theorem oX5_add : mO mX5_add = 43 := rfl
theorem lX5_add : mL mX5_add = 5 := rfl
theorem rX5_add : mR mX5_add = (Option.some FieldType.int) := rfl
theorem vX5_add : mV mX5_add = 11 := rfl
theorem nX5_add : (mY mX5_add).name = "add" := rfl
theorem hX5_add : mH mX5_add = none := rfl
theorem kX5_add : MOk mX5_add := ⟨q1443, q108, by decide +kernel⟩
theorem gX5_add : plainName (mY mX5_add).cls = true ∧ (mY mX5_add).cls = "TheatreSaga$Theatre$Tour" := ⟨by decide +kernel, rfl⟩
def dkwX5_add_4 : List UInt8 := [42, 180, 0, 18, 43, 185, 0, 106, 2, 0, 87, 42, 180, 0, 18, 185, 0, 102, 1, 0, 172]
abbrev dktX5_add_4 : List UInt8 := dkwX5_add_4 ++ []
def dkwX5_add_3 : List UInt8 := [180, 0, 18, 185, 0, 102, 1, 0, 16, 8, 162, 0, 7, 4, 167, 0, 4, 3, 4, 16, 8, 184, 0, 69]
abbrev dktX5_add_3 : List UInt8 := dkwX5_add_3 ++ dktX5_add_4
def dkwX5_add_2 : List UInt8 := [182, 0, 98, 154, 0, 7, 4, 167, 0, 4, 3, 8, 28, 184, 0, 69, 132, 2, 1, 167, 255, 214, 42]
abbrev dktX5_add_2 : List UInt8 := dkwX5_add_2 ++ dktX5_add_3
def dkwX5_add_1 : List UInt8 := [185, 0, 86, 1, 0, 153, 0, 39, 45, 185, 0, 92, 1, 0, 192, 0, 96, 58, 4, 25, 4, 43]
abbrev dktX5_add_1 : List UInt8 := dkwX5_add_1 ++ dktX5_add_2
def dkwX5_add_0 : List UInt8 := [42, 3, 182, 0, 73, 3, 61, 187, 0, 77, 89, 42, 180, 0, 18, 3, 183, 0, 79, 182, 0, 82, 78, 45]
abbrev dktX5_add_0 : List UInt8 := dkwX5_add_0 ++ dktX5_add_1
theorem dksX5_add_0 : cX5_add.data.toList.drop 0 = dktX5_add_0 := by decide +kernel
theorem dksX5_add_1 : cX5_add.data.toList.drop 24 = dktX5_add_1 := dk_seg dksX5_add_0 24 rfl rfl
theorem dksX5_add_2 : cX5_add.data.toList.drop 46 = dktX5_add_2 := dk_seg dksX5_add_1 22 rfl rfl
theorem dksX5_add_3 : cX5_add.data.toList.drop 69 = dktX5_add_3 := dk_seg dksX5_add_2 23 rfl rfl
theorem dksX5_add_4 : cX5_add.data.toList.drop 93 = dktX5_add_4 := dk_seg dksX5_add_3 24 rfl rfl
theorem dX5_add_0 : DC mX5_add 0 = .ok (.aload_n 0, 1) := dk_42 (dk_at dksX5_add_0 0 rfl rfl)
theorem dX5_add_1 : DC mX5_add 1 = .ok (.iconst 0, 1) := dk_3 (dk_at dksX5_add_0 1 rfl rfl)
theorem dX5_add_2 : DC mX5_add 2 = .ok (.invokevirtual 73, 3) := dk_182 0 73 (dk_at dksX5_add_0 2 rfl rfl)
theorem dX5_add_5 : DC mX5_add 5 = .ok (.iconst 0, 1) := dk_3 (dk_at dksX5_add_0 5 rfl rfl)
theorem dX5_add_6 : DC mX5_add 6 = .ok (.istore_n 2, 1) := dk_61 (dk_at dksX5_add_0 6 rfl rfl)
theorem dX5_add_7 : DC mX5_add 7 = .ok (.new 77, 3) := dk_187 0 77 (dk_at dksX5_add_0 7 rfl rfl)
theorem dX5_add_10 : DC mX5_add 10 = .ok (.dup, 1) := dk_89 (dk_at dksX5_add_0 10 rfl rfl)
theorem dX5_add_11 : DC mX5_add 11 = .ok (.aload_n 0, 1) := dk_42 (dk_at dksX5_add_0 11 rfl rfl)
theorem dX5_add_12 : DC mX5_add 12 = .ok (.getfield 18, 3) := dk_180 0 18 (dk_at dksX5_add_0 12 rfl rfl)
theorem dX5_add_15 : DC mX5_add 15 = .ok (.iconst 0, 1) := dk_3 (dk_at dksX5_add_0 15 rfl rfl)
theorem dX5_add_16 : DC mX5_add 16 = .ok (.invokespecial 79, 3) := dk_183 0 79 (dk_at dksX5_add_0 16 rfl rfl)
theorem dX5_add_19 : DC mX5_add 19 = .ok (.invokevirtual 82, 3) := dk_182 0 82 (dk_at dksX5_add_0 19 rfl rfl)
theorem dX5_add_22 : DC mX5_add 22 = .ok (.astore_n 3, 1) := dk_78 (dk_at dksX5_add_0 22 rfl rfl)
theorem dX5_add_23 : DC mX5_add 23 = .ok (.aload_n 3, 1) := dk_45 (dk_at dksX5_add_0 23 rfl rfl)
theorem dX5_add_24 : DC mX5_add 24 = .ok (.invokeinterface 86 1, 5) := by decide +kernel
theorem dX5_add_29 : DC mX5_add 29 = .ok (.ifCond .eq 39, 3) := dk_153 0 39 (dk_at dksX5_add_1 5 rfl rfl)
theorem dX5_add_32 : DC mX5_add 32 = .ok (.aload_n 3, 1) := dk_45 (dk_at dksX5_add_1 8 rfl rfl)
theorem dX5_add_33 : DC mX5_add 33 = .ok (.invokeinterface 92 1, 5) := by decide +kernel
theorem dX5_add_38 : DC mX5_add 38 = .ok (.checkcast 96, 3) := dk_192 0 96 (dk_at dksX5_add_1 14 rfl rfl)
theorem dX5_add_41 : DC mX5_add 41 = .ok (.astore 4, 2) := dk_58 4 (dk_at dksX5_add_1 17 rfl rfl)
theorem dX5_add_43 : DC mX5_add 43 = .ok (.aload 4, 2) := dk_25 4 (dk_at dksX5_add_1 19 rfl rfl)
theorem dX5_add_45 : DC mX5_add 45 = .ok (.aload_n 1, 1) := dk_43 (dk_at dksX5_add_1 21 rfl rfl)
theorem dX5_add_46 : DC mX5_add 46 = .ok (.invokevirtual 98, 3) := dk_182 0 98 (dk_at dksX5_add_2 0 rfl rfl)
theorem dX5_add_49 : DC mX5_add 49 = .ok (.ifCond .ne 7, 3) := dk_154 0 7 (dk_at dksX5_add_2 3 rfl rfl)
theorem dX5_add_52 : DC mX5_add 52 = .ok (.iconst 1, 1) := dk_4 (dk_at dksX5_add_2 6 rfl rfl)
theorem dX5_add_53 : DC mX5_add 53 = .ok (.goto 4, 3) := dk_167 0 4 (dk_at dksX5_add_2 7 rfl rfl)
theorem dX5_add_56 : DC mX5_add 56 = .ok (.iconst 0, 1) := dk_3 (dk_at dksX5_add_2 10 rfl rfl)
theorem dX5_add_57 : DC mX5_add 57 = .ok (.iconst 5, 1) := dk_8 (dk_at dksX5_add_2 11 rfl rfl)
theorem dX5_add_58 : DC mX5_add 58 = .ok (.iload_n 2, 1) := dk_28 (dk_at dksX5_add_2 12 rfl rfl)
theorem dX5_add_59 : DC mX5_add 59 = .ok (.invokestatic 69, 3) := dk_184 0 69 (dk_at dksX5_add_2 13 rfl rfl)
theorem dX5_add_62 : DC mX5_add 62 = .ok (.iinc 2 1, 3) := dk_132 2 1 (dk_at dksX5_add_2 16 rfl rfl)
theorem dX5_add_65 : DC mX5_add 65 = .ok (.goto (-42), 3) := dk_167 255 214 (dk_at dksX5_add_2 19 rfl rfl)
theorem dX5_add_68 : DC mX5_add 68 = .ok (.aload_n 0, 1) := dk_42 (dk_at dksX5_add_2 22 rfl rfl)
theorem dX5_add_69 : DC mX5_add 69 = .ok (.getfield 18, 3) := dk_180 0 18 (dk_at dksX5_add_3 0 rfl rfl)
theorem dX5_add_72 : DC mX5_add 72 = .ok (.invokeinterface 102 1, 5) := by decide +kernel
theorem dX5_add_77 : DC mX5_add 77 = .ok (.bipush 8, 2) := dk_16 8 (dk_at dksX5_add_3 8 rfl rfl)
theorem dX5_add_79 : DC mX5_add 79 = .ok (.if_icmp .ge 7, 3) := dk_162 0 7 (dk_at dksX5_add_3 10 rfl rfl)
theorem dX5_add_82 : DC mX5_add 82 = .ok (.iconst 1, 1) := dk_4 (dk_at dksX5_add_3 13 rfl rfl)
theorem dX5_add_83 : DC mX5_add 83 = .ok (.goto 4, 3) := dk_167 0 4 (dk_at dksX5_add_3 14 rfl rfl)
theorem dX5_add_86 : DC mX5_add 86 = .ok (.iconst 0, 1) := dk_3 (dk_at dksX5_add_3 17 rfl rfl)
theorem dX5_add_87 : DC mX5_add 87 = .ok (.iconst 1, 1) := dk_4 (dk_at dksX5_add_3 18 rfl rfl)
theorem dX5_add_88 : DC mX5_add 88 = .ok (.bipush 8, 2) := dk_16 8 (dk_at dksX5_add_3 19 rfl rfl)
theorem dX5_add_90 : DC mX5_add 90 = .ok (.invokestatic 69, 3) := dk_184 0 69 (dk_at dksX5_add_3 21 rfl rfl)
theorem dX5_add_93 : DC mX5_add 93 = .ok (.aload_n 0, 1) := dk_42 (dk_at dksX5_add_4 0 rfl rfl)
theorem dX5_add_94 : DC mX5_add 94 = .ok (.getfield 18, 3) := dk_180 0 18 (dk_at dksX5_add_4 1 rfl rfl)
theorem dX5_add_97 : DC mX5_add 97 = .ok (.aload_n 1, 1) := dk_43 (dk_at dksX5_add_4 4 rfl rfl)
theorem dX5_add_98 : DC mX5_add 98 = .ok (.invokeinterface 106 2, 5) := by decide +kernel
theorem dX5_add_103 : DC mX5_add 103 = .ok (.pop, 1) := dk_87 (dk_at dksX5_add_4 10 rfl rfl)
theorem dX5_add_104 : DC mX5_add 104 = .ok (.aload_n 0, 1) := dk_42 (dk_at dksX5_add_4 11 rfl rfl)
theorem dX5_add_105 : DC mX5_add 105 = .ok (.getfield 18, 3) := dk_180 0 18 (dk_at dksX5_add_4 12 rfl rfl)
theorem dX5_add_108 : DC mX5_add 108 = .ok (.invokeinterface 102 1, 5) := by decide +kernel
theorem dX5_add_113 : DC mX5_add 113 = .ok (.ireturn, 1) := dk_172 (dk_at dksX5_add_4 20 rfl rfl)
abbrev cX5_allowHow : ByteArray := prog_9_method_5_code
def yX5_allowHow : MethodName := ⟨RX5, "allowHow", "(I)V"⟩
def mX5_allowHow : MI := (⟨"TheatreSaga$Theatre$Tour", "allowHow", "(I)V"⟩, prog_9_method_5_code, 2, (Option.none : Option FieldType), none, 43, 6)
theorem oX5_allowHow : mO mX5_allowHow = 43 := rfl
theorem lX5_allowHow : mL mX5_allowHow = 2 := rfl
theorem rX5_allowHow : mR mX5_allowHow = (Option.none : Option FieldType) := rfl
theorem vX5_allowHow : mV mX5_allowHow = 6 := rfl
theorem nX5_allowHow : (mY mX5_allowHow).name = "allowHow" := rfl
theorem hX5_allowHow : mH mX5_allowHow = none := rfl
theorem kX5_allowHow : MOk mX5_allowHow := ⟨q1447, q108, by decide +kernel⟩
theorem gX5_allowHow : plainName (mY mX5_allowHow).cls = true ∧ (mY mX5_allowHow).cls = "TheatreSaga$Theatre$Tour" := ⟨by decide +kernel, rfl⟩
def dkwX5_allowHow_0 : List UInt8 := [42, 180, 0, 48, 27, 160, 0, 7, 4, 167, 0, 4, 3, 5, 42, 180, 0, 48, 184, 0, 69, 177]
abbrev dktX5_allowHow_0 : List UInt8 := dkwX5_allowHow_0 ++ []
theorem dksX5_allowHow_0 : cX5_allowHow.data.toList.drop 0 = dktX5_allowHow_0 := by decide +kernel
theorem dX5_allowHow_0 : DC mX5_allowHow 0 = .ok (.aload_n 0, 1) := dk_42 (dk_at dksX5_allowHow_0 0 rfl rfl)
theorem dX5_allowHow_1 : DC mX5_allowHow 1 = .ok (.getfield 48, 3) := dk_180 0 48 (dk_at dksX5_allowHow_0 1 rfl rfl)
theorem dX5_allowHow_4 : DC mX5_allowHow 4 = .ok (.iload_n 1, 1) := dk_27 (dk_at dksX5_allowHow_0 4 rfl rfl)
theorem dX5_allowHow_5 : DC mX5_allowHow 5 = .ok (.if_icmp .ne 7, 3) := dk_160 0 7 (dk_at dksX5_allowHow_0 5 rfl rfl)
theorem dX5_allowHow_8 : DC mX5_allowHow 8 = .ok (.iconst 1, 1) := dk_4 (dk_at dksX5_allowHow_0 8 rfl rfl)
theorem dX5_allowHow_9 : DC mX5_allowHow 9 = .ok (.goto 4, 3) := dk_167 0 4 (dk_at dksX5_allowHow_0 9 rfl rfl)
theorem dX5_allowHow_12 : DC mX5_allowHow 12 = .ok (.iconst 0, 1) := dk_3 (dk_at dksX5_allowHow_0 12 rfl rfl)
theorem dX5_allowHow_13 : DC mX5_allowHow 13 = .ok (.iconst 2, 1) := dk_5 (dk_at dksX5_allowHow_0 13 rfl rfl)
theorem dX5_allowHow_14 : DC mX5_allowHow 14 = .ok (.aload_n 0, 1) := dk_42 (dk_at dksX5_allowHow_0 14 rfl rfl)
theorem dX5_allowHow_15 : DC mX5_allowHow 15 = .ok (.getfield 48, 3) := dk_180 0 48 (dk_at dksX5_allowHow_0 15 rfl rfl)
theorem dX5_allowHow_18 : DC mX5_allowHow 18 = .ok (.invokestatic 69, 3) := dk_184 0 69 (dk_at dksX5_allowHow_0 18 rfl rfl)
theorem dX5_allowHow_21 : DC mX5_allowHow 21 = .ok (.return_, 1) := dk_177 (dk_at dksX5_allowHow_0 21 rfl rfl)
abbrev cX5_start : ByteArray := prog_9_method_7_code
def yX5_start : MethodName := ⟨RX5, "start", "()V"⟩
def mX5_start : MI := (⟨"TheatreSaga$Theatre$Tour", "start", "()V"⟩, prog_9_method_7_code, 1, (Option.none : Option FieldType), none, 43, 7)
theorem oX5_start : mO mX5_start = 43 := rfl
theorem lX5_start : mL mX5_start = 1 := rfl
theorem rX5_start : mR mX5_start = (Option.none : Option FieldType) := rfl
theorem vX5_start : mV mX5_start = 7 := rfl
theorem nX5_start : (mY mX5_start).name = "start" := rfl
theorem hX5_start : mH mX5_start = none := rfl
theorem kX5_start : MOk mX5_start := ⟨q1497, q108, by decide +kernel⟩
theorem gX5_start : plainName (mY mX5_start).cls = true ∧ (mY mX5_start).cls = "TheatreSaga$Theatre$Tour" := ⟨by decide +kernel, rfl⟩
def dkwX5_start_1 : List UInt8 := [180, 0, 26, 184, 0, 69, 42, 4, 181, 0, 48, 177]
abbrev dktX5_start_1 : List UInt8 := dkwX5_start_1 ++ []
def dkwX5_start_0 : List UInt8 := [42, 3, 182, 0, 73, 42, 180, 0, 18, 185, 0, 110, 1, 0, 154, 0, 7, 4, 167, 0, 4, 3, 6, 42]
abbrev dktX5_start_0 : List UInt8 := dkwX5_start_0 ++ dktX5_start_1
theorem dksX5_start_0 : cX5_start.data.toList.drop 0 = dktX5_start_0 := by decide +kernel
theorem dksX5_start_1 : cX5_start.data.toList.drop 24 = dktX5_start_1 := dk_seg dksX5_start_0 24 rfl rfl
theorem dX5_start_0 : DC mX5_start 0 = .ok (.aload_n 0, 1) := dk_42 (dk_at dksX5_start_0 0 rfl rfl)
theorem dX5_start_1 : DC mX5_start 1 = .ok (.iconst 0, 1) := dk_3 (dk_at dksX5_start_0 1 rfl rfl)
theorem dX5_start_2 : DC mX5_start 2 = .ok (.invokevirtual 73, 3) := dk_182 0 73 (dk_at dksX5_start_0 2 rfl rfl)
theorem dX5_start_5 : DC mX5_start 5 = .ok (.aload_n 0, 1) := dk_42 (dk_at dksX5_start_0 5 rfl rfl)
theorem dX5_start_6 : DC mX5_start 6 = .ok (.getfield 18, 3) := dk_180 0 18 (dk_at dksX5_start_0 6 rfl rfl)
theorem dX5_start_9 : DC mX5_start 9 = .ok (.invokeinterface 110 1, 5) := by decide +kernel
theorem dX5_start_14 : DC mX5_start 14 = .ok (.ifCond .ne 7, 3) := dk_154 0 7 (dk_at dksX5_start_0 14 rfl rfl)
theorem dX5_start_17 : DC mX5_start 17 = .ok (.iconst 1, 1) := dk_4 (dk_at dksX5_start_0 17 rfl rfl)
theorem dX5_start_18 : DC mX5_start 18 = .ok (.goto 4, 3) := dk_167 0 4 (dk_at dksX5_start_0 18 rfl rfl)
theorem dX5_start_21 : DC mX5_start 21 = .ok (.iconst 0, 1) := dk_3 (dk_at dksX5_start_0 21 rfl rfl)
theorem dX5_start_22 : DC mX5_start 22 = .ok (.iconst 3, 1) := dk_6 (dk_at dksX5_start_0 22 rfl rfl)
theorem dX5_start_23 : DC mX5_start 23 = .ok (.aload_n 0, 1) := dk_42 (dk_at dksX5_start_0 23 rfl rfl)
theorem dX5_start_24 : DC mX5_start 24 = .ok (.getfield 26, 3) := dk_180 0 26 (dk_at dksX5_start_1 0 rfl rfl)
theorem dX5_start_27 : DC mX5_start 27 = .ok (.invokestatic 69, 3) := dk_184 0 69 (dk_at dksX5_start_1 3 rfl rfl)
theorem dX5_start_30 : DC mX5_start 30 = .ok (.aload_n 0, 1) := dk_42 (dk_at dksX5_start_1 6 rfl rfl)
theorem dX5_start_31 : DC mX5_start 31 = .ok (.iconst 1, 1) := dk_4 (dk_at dksX5_start_1 7 rfl rfl)
theorem dX5_start_32 : DC mX5_start 32 = .ok (.putfield 48, 3) := dk_181 0 48 (dk_at dksX5_start_1 8 rfl rfl)
theorem dX5_start_35 : DC mX5_start 35 = .ok (.return_, 1) := dk_177 (dk_at dksX5_start_1 11 rfl rfl)
abbrev cX5_callBack : ByteArray := prog_9_method_9_code
def yX5_callBack : MethodName := ⟨RX5, "callBack", "()I"⟩
def mX5_callBack : MI := (⟨"TheatreSaga$Theatre$Tour", "callBack", "()I"⟩, prog_9_method_9_code, 1, (Option.some FieldType.int), none, 43, 7)
theorem oX5_callBack : mO mX5_callBack = 43 := rfl
theorem lX5_callBack : mL mX5_callBack = 1 := rfl
theorem rX5_callBack : mR mX5_callBack = (Option.some FieldType.int) := rfl
theorem vX5_callBack : mV mX5_callBack = 7 := rfl
theorem nX5_callBack : (mY mX5_callBack).name = "callBack" := rfl
theorem hX5_callBack : mH mX5_callBack = none := rfl
theorem kX5_callBack : MOk mX5_callBack := ⟨q1527, q108, by decide +kernel⟩
theorem gX5_callBack : plainName (mY mX5_callBack).cls = true ∧ (mY mX5_callBack).cls = "TheatreSaga$Theatre$Tour" := ⟨by decide +kernel, rfl⟩
def dkwX5_callBack_0 : List UInt8 := [42, 4, 182, 0, 73, 42, 182, 0, 113, 42, 7, 181, 0, 57, 42, 180, 0, 51, 172]
abbrev dktX5_callBack_0 : List UInt8 := dkwX5_callBack_0 ++ []
theorem dksX5_callBack_0 : cX5_callBack.data.toList.drop 0 = dktX5_callBack_0 := by decide +kernel
theorem dX5_callBack_0 : DC mX5_callBack 0 = .ok (.aload_n 0, 1) := dk_42 (dk_at dksX5_callBack_0 0 rfl rfl)
theorem dX5_callBack_1 : DC mX5_callBack 1 = .ok (.iconst 1, 1) := dk_4 (dk_at dksX5_callBack_0 1 rfl rfl)
theorem dX5_callBack_2 : DC mX5_callBack 2 = .ok (.invokevirtual 73, 3) := dk_182 0 73 (dk_at dksX5_callBack_0 2 rfl rfl)
theorem dX5_callBack_5 : DC mX5_callBack 5 = .ok (.aload_n 0, 1) := dk_42 (dk_at dksX5_callBack_0 5 rfl rfl)
theorem dX5_callBack_6 : DC mX5_callBack 6 = .ok (.invokevirtual 113, 3) := dk_182 0 113 (dk_at dksX5_callBack_0 6 rfl rfl)
theorem dX5_callBack_9 : DC mX5_callBack 9 = .ok (.aload_n 0, 1) := dk_42 (dk_at dksX5_callBack_0 9 rfl rfl)
theorem dX5_callBack_10 : DC mX5_callBack 10 = .ok (.iconst 4, 1) := dk_7 (dk_at dksX5_callBack_0 10 rfl rfl)
theorem dX5_callBack_11 : DC mX5_callBack 11 = .ok (.putfield 57, 3) := dk_181 0 57 (dk_at dksX5_callBack_0 11 rfl rfl)
theorem dX5_callBack_14 : DC mX5_callBack 14 = .ok (.aload_n 0, 1) := dk_42 (dk_at dksX5_callBack_0 14 rfl rfl)
theorem dX5_callBack_15 : DC mX5_callBack 15 = .ok (.getfield 51, 3) := dk_180 0 51 (dk_at dksX5_callBack_0 15 rfl rfl)
theorem dX5_callBack_18 : DC mX5_callBack 18 = .ok (.ireturn, 1) := dk_172 (dk_at dksX5_callBack_0 18 rfl rfl)
abbrev cX5_turn : ByteArray := prog_9_method_8_code
def yX5_turn : MethodName := ⟨RX5, "turn", "()V"⟩
def mX5_turn : MI := (⟨"TheatreSaga$Theatre$Tour", "turn", "()V"⟩, prog_9_method_8_code, 1, (Option.none : Option FieldType), none, 43, 1)
theorem oX5_turn : mO mX5_turn = 43 := rfl
theorem lX5_turn : mL mX5_turn = 1 := rfl
theorem rX5_turn : mR mX5_turn = (Option.none : Option FieldType) := rfl
theorem vX5_turn : mV mX5_turn = 1 := rfl
theorem nX5_turn : (mY mX5_turn).name = "turn" := rfl
theorem hX5_turn : mH mX5_turn = none := rfl
theorem kX5_turn : MOk mX5_turn := ⟨q1531, q108, by decide +kernel⟩
theorem gX5_turn : plainName (mY mX5_turn).cls = true ∧ (mY mX5_turn).cls = "TheatreSaga$Theatre$Tour" := ⟨by decide +kernel, rfl⟩
def dkwX5_turn_0 : List UInt8 := [42, 42, 180, 0, 51, 154, 0, 7, 7, 167, 0, 4, 5, 181, 0, 48, 42, 3, 181, 0, 54, 177]
abbrev dktX5_turn_0 : List UInt8 := dkwX5_turn_0 ++ []
theorem dksX5_turn_0 : cX5_turn.data.toList.drop 0 = dktX5_turn_0 := by decide +kernel
theorem dX5_turn_0 : DC mX5_turn 0 = .ok (.aload_n 0, 1) := dk_42 (dk_at dksX5_turn_0 0 rfl rfl)
theorem dX5_turn_1 : DC mX5_turn 1 = .ok (.aload_n 0, 1) := dk_42 (dk_at dksX5_turn_0 1 rfl rfl)
theorem dX5_turn_2 : DC mX5_turn 2 = .ok (.getfield 51, 3) := dk_180 0 51 (dk_at dksX5_turn_0 2 rfl rfl)
theorem dX5_turn_5 : DC mX5_turn 5 = .ok (.ifCond .ne 7, 3) := dk_154 0 7 (dk_at dksX5_turn_0 5 rfl rfl)
theorem dX5_turn_8 : DC mX5_turn 8 = .ok (.iconst 4, 1) := dk_7 (dk_at dksX5_turn_0 8 rfl rfl)
theorem dX5_turn_9 : DC mX5_turn 9 = .ok (.goto 4, 3) := dk_167 0 4 (dk_at dksX5_turn_0 9 rfl rfl)
theorem dX5_turn_12 : DC mX5_turn 12 = .ok (.iconst 2, 1) := dk_5 (dk_at dksX5_turn_0 12 rfl rfl)
theorem dX5_turn_13 : DC mX5_turn 13 = .ok (.putfield 48, 3) := dk_181 0 48 (dk_at dksX5_turn_0 13 rfl rfl)
theorem dX5_turn_16 : DC mX5_turn 16 = .ok (.aload_n 0, 1) := dk_42 (dk_at dksX5_turn_0 16 rfl rfl)
theorem dX5_turn_17 : DC mX5_turn 17 = .ok (.iconst 0, 1) := dk_3 (dk_at dksX5_turn_0 17 rfl rfl)
theorem dX5_turn_18 : DC mX5_turn 18 = .ok (.putfield 54, 3) := dk_181 0 54 (dk_at dksX5_turn_0 18 rfl rfl)
theorem dX5_turn_21 : DC mX5_turn 21 = .ok (.return_, 1) := dk_177 (dk_at dksX5_turn_0 21 rfl rfl)
abbrev cX5_isOnTheWay : ByteArray := prog_9_method_4_code
def yX5_isOnTheWay : MethodName := ⟨RX5, "isOnTheWay", "()Z"⟩
def mX5_isOnTheWay : MI := (⟨"TheatreSaga$Theatre$Tour", "isOnTheWay", "()Z"⟩, prog_9_method_4_code, 1, (Option.some FieldType.boolean), none, 43, 1)
theorem oX5_isOnTheWay : mO mX5_isOnTheWay = 43 := rfl
theorem lX5_isOnTheWay : mL mX5_isOnTheWay = 1 := rfl
theorem rX5_isOnTheWay : mR mX5_isOnTheWay = (Option.some FieldType.boolean) := rfl
theorem vX5_isOnTheWay : mV mX5_isOnTheWay = 1 := rfl
theorem nX5_isOnTheWay : (mY mX5_isOnTheWay).name = "isOnTheWay" := rfl
theorem hX5_isOnTheWay : mH mX5_isOnTheWay = none := rfl
theorem kX5_isOnTheWay : MOk mX5_isOnTheWay := ⟨q1555, q108, by decide +kernel⟩
theorem gX5_isOnTheWay : plainName (mY mX5_isOnTheWay).cls = true ∧ (mY mX5_isOnTheWay).cls = "TheatreSaga$Theatre$Tour" := ⟨by decide +kernel, rfl⟩
def dkwX5_isOnTheWay_0 : List UInt8 := [42, 180, 0, 48, 4, 159, 0, 11, 42, 180, 0, 48, 5, 160, 0, 7, 4, 167, 0, 4, 3, 172]
abbrev dktX5_isOnTheWay_0 : List UInt8 := dkwX5_isOnTheWay_0 ++ []
theorem dksX5_isOnTheWay_0 : cX5_isOnTheWay.data.toList.drop 0 = dktX5_isOnTheWay_0 := by decide +kernel
theorem dX5_isOnTheWay_0 : DC mX5_isOnTheWay 0 = .ok (.aload_n 0, 1) := dk_42 (dk_at dksX5_isOnTheWay_0 0 rfl rfl)
theorem dX5_isOnTheWay_1 : DC mX5_isOnTheWay 1 = .ok (.getfield 48, 3) := dk_180 0 48 (dk_at dksX5_isOnTheWay_0 1 rfl rfl)
theorem dX5_isOnTheWay_4 : DC mX5_isOnTheWay 4 = .ok (.iconst 1, 1) := dk_4 (dk_at dksX5_isOnTheWay_0 4 rfl rfl)
theorem dX5_isOnTheWay_5 : DC mX5_isOnTheWay 5 = .ok (.if_icmp .eq 11, 3) := dk_159 0 11 (dk_at dksX5_isOnTheWay_0 5 rfl rfl)
theorem dX5_isOnTheWay_8 : DC mX5_isOnTheWay 8 = .ok (.aload_n 0, 1) := dk_42 (dk_at dksX5_isOnTheWay_0 8 rfl rfl)
theorem dX5_isOnTheWay_9 : DC mX5_isOnTheWay 9 = .ok (.getfield 48, 3) := dk_180 0 48 (dk_at dksX5_isOnTheWay_0 9 rfl rfl)
theorem dX5_isOnTheWay_12 : DC mX5_isOnTheWay 12 = .ok (.iconst 2, 1) := dk_5 (dk_at dksX5_isOnTheWay_0 12 rfl rfl)
theorem dX5_isOnTheWay_13 : DC mX5_isOnTheWay 13 = .ok (.if_icmp .ne 7, 3) := dk_160 0 7 (dk_at dksX5_isOnTheWay_0 13 rfl rfl)
theorem dX5_isOnTheWay_16 : DC mX5_isOnTheWay 16 = .ok (.iconst 1, 1) := dk_4 (dk_at dksX5_isOnTheWay_0 16 rfl rfl)
theorem dX5_isOnTheWay_17 : DC mX5_isOnTheWay 17 = .ok (.goto 4, 3) := dk_167 0 4 (dk_at dksX5_isOnTheWay_0 17 rfl rfl)
theorem dX5_isOnTheWay_20 : DC mX5_isOnTheWay 20 = .ok (.iconst 0, 1) := dk_3 (dk_at dksX5_isOnTheWay_0 20 rfl rfl)
theorem dX5_isOnTheWay_21 : DC mX5_isOnTheWay 21 = .ok (.ireturn, 1) := dk_172 (dk_at dksX5_isOnTheWay_0 21 rfl rfl)
abbrev cX5_live : ByteArray := prog_9_method_14_code
def yX5_live : MethodName := ⟨RX5, "live", "()V"⟩
def mX5_live : MI := (⟨"TheatreSaga$Theatre$Tour", "live", "()V"⟩, prog_9_method_14_code, 2, (Option.none : Option FieldType), none, 43, 13)
theorem oX5_live : mO mX5_live = 43 := rfl
theorem lX5_live : mL mX5_live = 2 := rfl
theorem rX5_live : mR mX5_live = (Option.none : Option FieldType) := rfl
theorem vX5_live : mV mX5_live = 13 := rfl
theorem nX5_live : (mY mX5_live).name = "live" := rfl
theorem hX5_live : mH mX5_live = none := rfl
theorem kX5_live : MOk mX5_live := ⟨q1559, q108, by decide +kernel⟩
theorem gX5_live : plainName (mY mX5_live).cls = true ∧ (mY mX5_live).cls = "TheatreSaga$Theatre$Tour" := ⟨by decide +kernel, rfl⟩
def dkwX5_live_4 : List UInt8 := [42, 182, 0, 193, 177]
abbrev dktX5_live_4 : List UInt8 := dkwX5_live_4 ++ []
def dkwX5_live_3 : List UInt8 := [182, 0, 113, 177, 42, 3, 181, 0, 54, 42, 180, 0, 48, 4, 160, 0, 10, 42, 182, 0, 190, 167, 0, 7]
abbrev dktX5_live_3 : List UInt8 := dkwX5_live_3 ++ dktX5_live_4
def dkwX5_live_2 : List UInt8 := [181, 0, 57, 42, 180, 0, 48, 4, 160, 0, 18, 42, 180, 0, 54, 42, 180, 0, 30, 164, 0, 7, 42]
abbrev dktX5_live_2 : List UInt8 := dkwX5_live_2 ++ dktX5_live_3
def dkwX5_live_1 : List UInt8 := [180, 0, 3, 89, 180, 0, 187, 4, 96, 181, 0, 187, 42, 89, 180, 0, 54, 4, 96, 181, 0, 54, 42, 27]
abbrev dktX5_live_1 : List UInt8 := dkwX5_live_1 ++ dktX5_live_2
def dkwX5_live_0 : List UInt8 := [42, 182, 0, 181, 60, 42, 180, 0, 3, 89, 180, 0, 184, 4, 96, 181, 0, 184, 27, 153, 0, 55, 42]
abbrev dktX5_live_0 : List UInt8 := dkwX5_live_0 ++ dktX5_live_1
theorem dksX5_live_0 : cX5_live.data.toList.drop 0 = dktX5_live_0 := by decide +kernel
theorem dksX5_live_1 : cX5_live.data.toList.drop 23 = dktX5_live_1 := dk_seg dksX5_live_0 23 rfl rfl
theorem dksX5_live_2 : cX5_live.data.toList.drop 47 = dktX5_live_2 := dk_seg dksX5_live_1 24 rfl rfl
theorem dksX5_live_3 : cX5_live.data.toList.drop 70 = dktX5_live_3 := dk_seg dksX5_live_2 23 rfl rfl
theorem dksX5_live_4 : cX5_live.data.toList.drop 94 = dktX5_live_4 := dk_seg dksX5_live_3 24 rfl rfl
theorem dX5_live_0 : DC mX5_live 0 = .ok (.aload_n 0, 1) := dk_42 (dk_at dksX5_live_0 0 rfl rfl)
theorem dX5_live_1 : DC mX5_live 1 = .ok (.invokevirtual 181, 3) := dk_182 0 181 (dk_at dksX5_live_0 1 rfl rfl)
theorem dX5_live_4 : DC mX5_live 4 = .ok (.istore_n 1, 1) := dk_60 (dk_at dksX5_live_0 4 rfl rfl)
theorem dX5_live_5 : DC mX5_live 5 = .ok (.aload_n 0, 1) := dk_42 (dk_at dksX5_live_0 5 rfl rfl)
theorem dX5_live_6 : DC mX5_live 6 = .ok (.getfield 3, 3) := dk_180 0 3 (dk_at dksX5_live_0 6 rfl rfl)
theorem dX5_live_9 : DC mX5_live 9 = .ok (.dup, 1) := dk_89 (dk_at dksX5_live_0 9 rfl rfl)
theorem dX5_live_10 : DC mX5_live 10 = .ok (.getfield 184, 3) := dk_180 0 184 (dk_at dksX5_live_0 10 rfl rfl)
theorem dX5_live_13 : DC mX5_live 13 = .ok (.iconst 1, 1) := dk_4 (dk_at dksX5_live_0 13 rfl rfl)
theorem dX5_live_14 : DC mX5_live 14 = .ok (.iadd, 1) := dk_96 (dk_at dksX5_live_0 14 rfl rfl)
theorem dX5_live_15 : DC mX5_live 15 = .ok (.putfield 184, 3) := dk_181 0 184 (dk_at dksX5_live_0 15 rfl rfl)
theorem dX5_live_18 : DC mX5_live 18 = .ok (.iload_n 1, 1) := dk_27 (dk_at dksX5_live_0 18 rfl rfl)
theorem dX5_live_19 : DC mX5_live 19 = .ok (.ifCond .eq 55, 3) := dk_153 0 55 (dk_at dksX5_live_0 19 rfl rfl)
theorem dX5_live_22 : DC mX5_live 22 = .ok (.aload_n 0, 1) := dk_42 (dk_at dksX5_live_0 22 rfl rfl)
theorem dX5_live_23 : DC mX5_live 23 = .ok (.getfield 3, 3) := dk_180 0 3 (dk_at dksX5_live_1 0 rfl rfl)
theorem dX5_live_26 : DC mX5_live 26 = .ok (.dup, 1) := dk_89 (dk_at dksX5_live_1 3 rfl rfl)
theorem dX5_live_27 : DC mX5_live 27 = .ok (.getfield 187, 3) := dk_180 0 187 (dk_at dksX5_live_1 4 rfl rfl)
theorem dX5_live_30 : DC mX5_live 30 = .ok (.iconst 1, 1) := dk_4 (dk_at dksX5_live_1 7 rfl rfl)
theorem dX5_live_31 : DC mX5_live 31 = .ok (.iadd, 1) := dk_96 (dk_at dksX5_live_1 8 rfl rfl)
theorem dX5_live_32 : DC mX5_live 32 = .ok (.putfield 187, 3) := dk_181 0 187 (dk_at dksX5_live_1 9 rfl rfl)
theorem dX5_live_35 : DC mX5_live 35 = .ok (.aload_n 0, 1) := dk_42 (dk_at dksX5_live_1 12 rfl rfl)
theorem dX5_live_36 : DC mX5_live 36 = .ok (.dup, 1) := dk_89 (dk_at dksX5_live_1 13 rfl rfl)
theorem dX5_live_37 : DC mX5_live 37 = .ok (.getfield 54, 3) := dk_180 0 54 (dk_at dksX5_live_1 14 rfl rfl)
theorem dX5_live_40 : DC mX5_live 40 = .ok (.iconst 1, 1) := dk_4 (dk_at dksX5_live_1 17 rfl rfl)
theorem dX5_live_41 : DC mX5_live 41 = .ok (.iadd, 1) := dk_96 (dk_at dksX5_live_1 18 rfl rfl)
theorem dX5_live_42 : DC mX5_live 42 = .ok (.putfield 54, 3) := dk_181 0 54 (dk_at dksX5_live_1 19 rfl rfl)
theorem dX5_live_45 : DC mX5_live 45 = .ok (.aload_n 0, 1) := dk_42 (dk_at dksX5_live_1 22 rfl rfl)
theorem dX5_live_46 : DC mX5_live 46 = .ok (.iload_n 1, 1) := dk_27 (dk_at dksX5_live_1 23 rfl rfl)
theorem dX5_live_47 : DC mX5_live 47 = .ok (.putfield 57, 3) := dk_181 0 57 (dk_at dksX5_live_2 0 rfl rfl)
theorem dX5_live_50 : DC mX5_live 50 = .ok (.aload_n 0, 1) := dk_42 (dk_at dksX5_live_2 3 rfl rfl)
theorem dX5_live_51 : DC mX5_live 51 = .ok (.getfield 48, 3) := dk_180 0 48 (dk_at dksX5_live_2 4 rfl rfl)
theorem dX5_live_54 : DC mX5_live 54 = .ok (.iconst 1, 1) := dk_4 (dk_at dksX5_live_2 7 rfl rfl)
theorem dX5_live_55 : DC mX5_live 55 = .ok (.if_icmp .ne 18, 3) := dk_160 0 18 (dk_at dksX5_live_2 8 rfl rfl)
theorem dX5_live_58 : DC mX5_live 58 = .ok (.aload_n 0, 1) := dk_42 (dk_at dksX5_live_2 11 rfl rfl)
theorem dX5_live_59 : DC mX5_live 59 = .ok (.getfield 54, 3) := dk_180 0 54 (dk_at dksX5_live_2 12 rfl rfl)
theorem dX5_live_62 : DC mX5_live 62 = .ok (.aload_n 0, 1) := dk_42 (dk_at dksX5_live_2 15 rfl rfl)
theorem dX5_live_63 : DC mX5_live 63 = .ok (.getfield 30, 3) := dk_180 0 30 (dk_at dksX5_live_2 16 rfl rfl)
theorem dX5_live_66 : DC mX5_live 66 = .ok (.if_icmp .le 7, 3) := dk_164 0 7 (dk_at dksX5_live_2 19 rfl rfl)
theorem dX5_live_69 : DC mX5_live 69 = .ok (.aload_n 0, 1) := dk_42 (dk_at dksX5_live_2 22 rfl rfl)
theorem dX5_live_70 : DC mX5_live 70 = .ok (.invokevirtual 113, 3) := dk_182 0 113 (dk_at dksX5_live_3 0 rfl rfl)
theorem dX5_live_73 : DC mX5_live 73 = .ok (.return_, 1) := dk_177 (dk_at dksX5_live_3 3 rfl rfl)
theorem dX5_live_74 : DC mX5_live 74 = .ok (.aload_n 0, 1) := dk_42 (dk_at dksX5_live_3 4 rfl rfl)
theorem dX5_live_75 : DC mX5_live 75 = .ok (.iconst 0, 1) := dk_3 (dk_at dksX5_live_3 5 rfl rfl)
theorem dX5_live_76 : DC mX5_live 76 = .ok (.putfield 54, 3) := dk_181 0 54 (dk_at dksX5_live_3 6 rfl rfl)
theorem dX5_live_79 : DC mX5_live 79 = .ok (.aload_n 0, 1) := dk_42 (dk_at dksX5_live_3 9 rfl rfl)
theorem dX5_live_80 : DC mX5_live 80 = .ok (.getfield 48, 3) := dk_180 0 48 (dk_at dksX5_live_3 10 rfl rfl)
theorem dX5_live_83 : DC mX5_live 83 = .ok (.iconst 1, 1) := dk_4 (dk_at dksX5_live_3 13 rfl rfl)
theorem dX5_live_84 : DC mX5_live 84 = .ok (.if_icmp .ne 10, 3) := dk_160 0 10 (dk_at dksX5_live_3 14 rfl rfl)
theorem dX5_live_87 : DC mX5_live 87 = .ok (.aload_n 0, 1) := dk_42 (dk_at dksX5_live_3 17 rfl rfl)
theorem dX5_live_88 : DC mX5_live 88 = .ok (.invokevirtual 190, 3) := dk_182 0 190 (dk_at dksX5_live_3 18 rfl rfl)
theorem dX5_live_91 : DC mX5_live 91 = .ok (.goto 7, 3) := dk_167 0 7 (dk_at dksX5_live_3 21 rfl rfl)
theorem dX5_live_94 : DC mX5_live 94 = .ok (.aload_n 0, 1) := dk_42 (dk_at dksX5_live_4 0 rfl rfl)
theorem dX5_live_95 : DC mX5_live 95 = .ok (.invokevirtual 193, 3) := dk_182 0 193 (dk_at dksX5_live_4 1 rfl rfl)
theorem dX5_live_98 : DC mX5_live 98 = .ok (.return_, 1) := dk_177 (dk_at dksX5_live_4 4 rfl rfl)
abbrev cX5_fault : ByteArray := prog_9_method_10_code
def yX5_fault : MethodName := ⟨RX5, "fault", "()I"⟩
def mX5_fault : MI := (⟨"TheatreSaga$Theatre$Tour", "fault", "()I"⟩, prog_9_method_10_code, 5, (Option.some FieldType.int), none, 43, 10)
theorem oX5_fault : mO mX5_fault = 43 := rfl
theorem lX5_fault : mL mX5_fault = 5 := rfl
theorem rX5_fault : mR mX5_fault = (Option.some FieldType.int) := rfl
theorem vX5_fault : mV mX5_fault = 10 := rfl
theorem nX5_fault : (mY mX5_fault).name = "fault" := rfl
theorem hX5_fault : mH mX5_fault = none := rfl
theorem kX5_fault : MOk mX5_fault := ⟨q1563, q108, by decide +kernel⟩
theorem gX5_fault : plainName (mY mX5_fault).cls = true ∧ (mY mX5_fault).cls = "TheatreSaga$Theatre$Tour" := ⟨by decide +kernel, rfl⟩
def dkwX5_fault_6 : List UInt8 := [180, 0, 3, 180, 0, 158, 164, 0, 7, 6, 167, 0, 4, 3, 172]
abbrev dktX5_fault_6 : List UInt8 := dkwX5_fault_6 ++ []
def dkwX5_fault_5 : List UInt8 := [21, 4, 153, 0, 7, 5, 167, 0, 30, 29, 153, 0, 25, 42, 180, 0, 3, 43, 182, 0, 154, 42]
abbrev dktX5_fault_5 : List UInt8 := dkwX5_fault_5 ++ dktX5_fault_6
def dkwX5_fault_4 : List UInt8 := [182, 0, 147, 162, 0, 7, 4, 167, 0, 4, 3, 54, 4, 44, 180, 0, 150, 153, 0, 7, 4, 167, 0, 39]
abbrev dktX5_fault_4 : List UInt8 := dkwX5_fault_4 ++ dktX5_fault_5
def dkwX5_fault_3 : List UInt8 := [4, 167, 0, 4, 3, 62, 29, 153, 0, 26, 44, 43, 182, 0, 137, 43, 182, 0, 140, 182, 0, 143, 43]
abbrev dktX5_fault_3 : List UInt8 := dkwX5_fault_3 ++ dktX5_fault_4
def dkwX5_fault_2 : List UInt8 := [180, 0, 127, 43, 182, 0, 132, 185, 0, 116, 2, 0, 192, 0, 135, 77, 42, 180, 0, 48, 4, 160, 0, 7]
abbrev dktX5_fault_2 : List UInt8 := dkwX5_fault_2 ++ dktX5_fault_3
def dkwX5_fault_1 : List UInt8 := [167, 0, 17, 42, 180, 0, 18, 42, 180, 0, 51, 184, 0, 120, 182, 0, 124, 76, 42, 180, 0, 3]
abbrev dktX5_fault_1 : List UInt8 := dkwX5_fault_1 ++ dktX5_fault_2
def dkwX5_fault_0 : List UInt8 := [42, 180, 0, 48, 4, 160, 0, 22, 42, 180, 0, 18, 42, 180, 0, 51, 185, 0, 116, 2, 0, 192, 0, 96]
abbrev dktX5_fault_0 : List UInt8 := dkwX5_fault_0 ++ dktX5_fault_1
theorem dksX5_fault_0 : cX5_fault.data.toList.drop 0 = dktX5_fault_0 := by decide +kernel
theorem dksX5_fault_1 : cX5_fault.data.toList.drop 24 = dktX5_fault_1 := dk_seg dksX5_fault_0 24 rfl rfl
theorem dksX5_fault_2 : cX5_fault.data.toList.drop 46 = dktX5_fault_2 := dk_seg dksX5_fault_1 22 rfl rfl
theorem dksX5_fault_3 : cX5_fault.data.toList.drop 70 = dktX5_fault_3 := dk_seg dksX5_fault_2 24 rfl rfl
theorem dksX5_fault_4 : cX5_fault.data.toList.drop 93 = dktX5_fault_4 := dk_seg dksX5_fault_3 23 rfl rfl
theorem dksX5_fault_5 : cX5_fault.data.toList.drop 117 = dktX5_fault_5 := dk_seg dksX5_fault_4 24 rfl rfl
theorem dksX5_fault_6 : cX5_fault.data.toList.drop 139 = dktX5_fault_6 := dk_seg dksX5_fault_5 22 rfl rfl
theorem dX5_fault_0 : DC mX5_fault 0 = .ok (.aload_n 0, 1) := dk_42 (dk_at dksX5_fault_0 0 rfl rfl)
theorem dX5_fault_1 : DC mX5_fault 1 = .ok (.getfield 48, 3) := dk_180 0 48 (dk_at dksX5_fault_0 1 rfl rfl)
theorem dX5_fault_4 : DC mX5_fault 4 = .ok (.iconst 1, 1) := dk_4 (dk_at dksX5_fault_0 4 rfl rfl)
theorem dX5_fault_5 : DC mX5_fault 5 = .ok (.if_icmp .ne 22, 3) := dk_160 0 22 (dk_at dksX5_fault_0 5 rfl rfl)
theorem dX5_fault_8 : DC mX5_fault 8 = .ok (.aload_n 0, 1) := dk_42 (dk_at dksX5_fault_0 8 rfl rfl)
theorem dX5_fault_9 : DC mX5_fault 9 = .ok (.getfield 18, 3) := dk_180 0 18 (dk_at dksX5_fault_0 9 rfl rfl)
theorem dX5_fault_12 : DC mX5_fault 12 = .ok (.aload_n 0, 1) := dk_42 (dk_at dksX5_fault_0 12 rfl rfl)
theorem dX5_fault_13 : DC mX5_fault 13 = .ok (.getfield 51, 3) := dk_180 0 51 (dk_at dksX5_fault_0 13 rfl rfl)
theorem dX5_fault_16 : DC mX5_fault 16 = .ok (.invokeinterface 116 2, 5) := by decide +kernel
theorem dX5_fault_21 : DC mX5_fault 21 = .ok (.checkcast 96, 3) := dk_192 0 96 (dk_at dksX5_fault_0 21 rfl rfl)
theorem dX5_fault_24 : DC mX5_fault 24 = .ok (.goto 17, 3) := dk_167 0 17 (dk_at dksX5_fault_1 0 rfl rfl)
theorem dX5_fault_27 : DC mX5_fault 27 = .ok (.aload_n 0, 1) := dk_42 (dk_at dksX5_fault_1 3 rfl rfl)
theorem dX5_fault_28 : DC mX5_fault 28 = .ok (.getfield 18, 3) := dk_180 0 18 (dk_at dksX5_fault_1 4 rfl rfl)
theorem dX5_fault_31 : DC mX5_fault 31 = .ok (.aload_n 0, 1) := dk_42 (dk_at dksX5_fault_1 7 rfl rfl)
theorem dX5_fault_32 : DC mX5_fault 32 = .ok (.getfield 51, 3) := dk_180 0 51 (dk_at dksX5_fault_1 8 rfl rfl)
theorem dX5_fault_35 : DC mX5_fault 35 = .ok (.invokestatic 120, 3) := dk_184 0 120 (dk_at dksX5_fault_1 11 rfl rfl)
theorem dX5_fault_38 : DC mX5_fault 38 = .ok (.invokevirtual 124, 3) := dk_182 0 124 (dk_at dksX5_fault_1 14 rfl rfl)
theorem dX5_fault_41 : DC mX5_fault 41 = .ok (.astore_n 1, 1) := dk_76 (dk_at dksX5_fault_1 17 rfl rfl)
theorem dX5_fault_42 : DC mX5_fault 42 = .ok (.aload_n 0, 1) := dk_42 (dk_at dksX5_fault_1 18 rfl rfl)
theorem dX5_fault_43 : DC mX5_fault 43 = .ok (.getfield 3, 3) := dk_180 0 3 (dk_at dksX5_fault_1 19 rfl rfl)
theorem dX5_fault_46 : DC mX5_fault 46 = .ok (.getfield 127, 3) := dk_180 0 127 (dk_at dksX5_fault_2 0 rfl rfl)
theorem dX5_fault_49 : DC mX5_fault 49 = .ok (.aload_n 1, 1) := dk_43 (dk_at dksX5_fault_2 3 rfl rfl)
theorem dX5_fault_50 : DC mX5_fault 50 = .ok (.invokevirtual 132, 3) := dk_182 0 132 (dk_at dksX5_fault_2 4 rfl rfl)
theorem dX5_fault_53 : DC mX5_fault 53 = .ok (.invokeinterface 116 2, 5) := by decide +kernel
theorem dX5_fault_58 : DC mX5_fault 58 = .ok (.checkcast 135, 3) := dk_192 0 135 (dk_at dksX5_fault_2 12 rfl rfl)
theorem dX5_fault_61 : DC mX5_fault 61 = .ok (.astore_n 2, 1) := dk_77 (dk_at dksX5_fault_2 15 rfl rfl)
theorem dX5_fault_62 : DC mX5_fault 62 = .ok (.aload_n 0, 1) := dk_42 (dk_at dksX5_fault_2 16 rfl rfl)
theorem dX5_fault_63 : DC mX5_fault 63 = .ok (.getfield 48, 3) := dk_180 0 48 (dk_at dksX5_fault_2 17 rfl rfl)
theorem dX5_fault_66 : DC mX5_fault 66 = .ok (.iconst 1, 1) := dk_4 (dk_at dksX5_fault_2 20 rfl rfl)
theorem dX5_fault_67 : DC mX5_fault 67 = .ok (.if_icmp .ne 7, 3) := dk_160 0 7 (dk_at dksX5_fault_2 21 rfl rfl)
theorem dX5_fault_70 : DC mX5_fault 70 = .ok (.iconst 1, 1) := dk_4 (dk_at dksX5_fault_3 0 rfl rfl)
theorem dX5_fault_71 : DC mX5_fault 71 = .ok (.goto 4, 3) := dk_167 0 4 (dk_at dksX5_fault_3 1 rfl rfl)
theorem dX5_fault_74 : DC mX5_fault 74 = .ok (.iconst 0, 1) := dk_3 (dk_at dksX5_fault_3 4 rfl rfl)
theorem dX5_fault_75 : DC mX5_fault 75 = .ok (.istore_n 3, 1) := dk_62 (dk_at dksX5_fault_3 5 rfl rfl)
theorem dX5_fault_76 : DC mX5_fault 76 = .ok (.iload_n 3, 1) := dk_29 (dk_at dksX5_fault_3 6 rfl rfl)
theorem dX5_fault_77 : DC mX5_fault 77 = .ok (.ifCond .eq 26, 3) := dk_153 0 26 (dk_at dksX5_fault_3 7 rfl rfl)
theorem dX5_fault_80 : DC mX5_fault 80 = .ok (.aload_n 2, 1) := dk_44 (dk_at dksX5_fault_3 10 rfl rfl)
theorem dX5_fault_81 : DC mX5_fault 81 = .ok (.aload_n 1, 1) := dk_43 (dk_at dksX5_fault_3 11 rfl rfl)
theorem dX5_fault_82 : DC mX5_fault 82 = .ok (.invokevirtual 137, 3) := dk_182 0 137 (dk_at dksX5_fault_3 12 rfl rfl)
theorem dX5_fault_85 : DC mX5_fault 85 = .ok (.aload_n 1, 1) := dk_43 (dk_at dksX5_fault_3 15 rfl rfl)
theorem dX5_fault_86 : DC mX5_fault 86 = .ok (.invokevirtual 140, 3) := dk_182 0 140 (dk_at dksX5_fault_3 16 rfl rfl)
theorem dX5_fault_89 : DC mX5_fault 89 = .ok (.invokevirtual 143, 3) := dk_182 0 143 (dk_at dksX5_fault_3 19 rfl rfl)
theorem dX5_fault_92 : DC mX5_fault 92 = .ok (.aload_n 1, 1) := dk_43 (dk_at dksX5_fault_3 22 rfl rfl)
theorem dX5_fault_93 : DC mX5_fault 93 = .ok (.invokevirtual 147, 3) := dk_182 0 147 (dk_at dksX5_fault_4 0 rfl rfl)
theorem dX5_fault_96 : DC mX5_fault 96 = .ok (.if_icmp .ge 7, 3) := dk_162 0 7 (dk_at dksX5_fault_4 3 rfl rfl)
theorem dX5_fault_99 : DC mX5_fault 99 = .ok (.iconst 1, 1) := dk_4 (dk_at dksX5_fault_4 6 rfl rfl)
theorem dX5_fault_100 : DC mX5_fault 100 = .ok (.goto 4, 3) := dk_167 0 4 (dk_at dksX5_fault_4 7 rfl rfl)
theorem dX5_fault_103 : DC mX5_fault 103 = .ok (.iconst 0, 1) := dk_3 (dk_at dksX5_fault_4 10 rfl rfl)
theorem dX5_fault_104 : DC mX5_fault 104 = .ok (.istore 4, 2) := dk_54 4 (dk_at dksX5_fault_4 11 rfl rfl)
theorem dX5_fault_106 : DC mX5_fault 106 = .ok (.aload_n 2, 1) := dk_44 (dk_at dksX5_fault_4 13 rfl rfl)
theorem dX5_fault_107 : DC mX5_fault 107 = .ok (.getfield 150, 3) := dk_180 0 150 (dk_at dksX5_fault_4 14 rfl rfl)
theorem dX5_fault_110 : DC mX5_fault 110 = .ok (.ifCond .eq 7, 3) := dk_153 0 7 (dk_at dksX5_fault_4 17 rfl rfl)
theorem dX5_fault_113 : DC mX5_fault 113 = .ok (.iconst 1, 1) := dk_4 (dk_at dksX5_fault_4 20 rfl rfl)
theorem dX5_fault_114 : DC mX5_fault 114 = .ok (.goto 39, 3) := dk_167 0 39 (dk_at dksX5_fault_4 21 rfl rfl)
theorem dX5_fault_117 : DC mX5_fault 117 = .ok (.iload 4, 2) := dk_21 4 (dk_at dksX5_fault_5 0 rfl rfl)
theorem dX5_fault_119 : DC mX5_fault 119 = .ok (.ifCond .eq 7, 3) := dk_153 0 7 (dk_at dksX5_fault_5 2 rfl rfl)
theorem dX5_fault_122 : DC mX5_fault 122 = .ok (.iconst 2, 1) := dk_5 (dk_at dksX5_fault_5 5 rfl rfl)
theorem dX5_fault_123 : DC mX5_fault 123 = .ok (.goto 30, 3) := dk_167 0 30 (dk_at dksX5_fault_5 6 rfl rfl)
theorem dX5_fault_126 : DC mX5_fault 126 = .ok (.iload_n 3, 1) := dk_29 (dk_at dksX5_fault_5 9 rfl rfl)
theorem dX5_fault_127 : DC mX5_fault 127 = .ok (.ifCond .eq 25, 3) := dk_153 0 25 (dk_at dksX5_fault_5 10 rfl rfl)
theorem dX5_fault_130 : DC mX5_fault 130 = .ok (.aload_n 0, 1) := dk_42 (dk_at dksX5_fault_5 13 rfl rfl)
theorem dX5_fault_131 : DC mX5_fault 131 = .ok (.getfield 3, 3) := dk_180 0 3 (dk_at dksX5_fault_5 14 rfl rfl)
theorem dX5_fault_134 : DC mX5_fault 134 = .ok (.aload_n 1, 1) := dk_43 (dk_at dksX5_fault_5 17 rfl rfl)
theorem dX5_fault_135 : DC mX5_fault 135 = .ok (.invokevirtual 154, 3) := dk_182 0 154 (dk_at dksX5_fault_5 18 rfl rfl)
theorem dX5_fault_138 : DC mX5_fault 138 = .ok (.aload_n 0, 1) := dk_42 (dk_at dksX5_fault_5 21 rfl rfl)
theorem dX5_fault_139 : DC mX5_fault 139 = .ok (.getfield 3, 3) := dk_180 0 3 (dk_at dksX5_fault_6 0 rfl rfl)
theorem dX5_fault_142 : DC mX5_fault 142 = .ok (.getfield 158, 3) := dk_180 0 158 (dk_at dksX5_fault_6 3 rfl rfl)
theorem dX5_fault_145 : DC mX5_fault 145 = .ok (.if_icmp .le 7, 3) := dk_164 0 7 (dk_at dksX5_fault_6 6 rfl rfl)
theorem dX5_fault_148 : DC mX5_fault 148 = .ok (.iconst 3, 1) := dk_6 (dk_at dksX5_fault_6 9 rfl rfl)
theorem dX5_fault_149 : DC mX5_fault 149 = .ok (.goto 4, 3) := dk_167 0 4 (dk_at dksX5_fault_6 10 rfl rfl)
theorem dX5_fault_152 : DC mX5_fault 152 = .ok (.iconst 0, 1) := dk_3 (dk_at dksX5_fault_6 13 rfl rfl)
theorem dX5_fault_153 : DC mX5_fault 153 = .ok (.ireturn, 1) := dk_172 (dk_at dksX5_fault_6 14 rfl rfl)
abbrev cX5_book : ByteArray := prog_9_method_11_code
def yX5_book : MethodName := ⟨RX5, "book", "()V"⟩
def mX5_book : MI := (⟨"TheatreSaga$Theatre$Tour", "book", "()V"⟩, prog_9_method_11_code, 3, (Option.none : Option FieldType), none, 43, 12)
theorem oX5_book : mO mX5_book = 43 := rfl
theorem lX5_book : mL mX5_book = 3 := rfl
theorem rX5_book : mR mX5_book = (Option.none : Option FieldType) := rfl
theorem vX5_book : mV mX5_book = 12 := rfl
theorem nX5_book : (mY mX5_book).name = "book" := rfl
theorem hX5_book : mH mX5_book = none := rfl
theorem kX5_book : MOk mX5_book := ⟨q1591, q108, by decide +kernel⟩
theorem gX5_book : plainName (mY mX5_book).cls = true ∧ (mY mX5_book).cls = "TheatreSaga$Theatre$Tour" := ⟨by decide +kernel, rfl⟩
def dkwX5_book_6 : List UInt8 := [180, 0, 51, 42, 180, 0, 18, 185, 0, 102, 1, 0, 160, 0, 7, 42, 182, 0, 169, 177]
abbrev dktX5_book_6 : List UInt8 := dkwX5_book_6 ++ []
def dkwX5_book_5 : List UInt8 := [192, 0, 135, 43, 43, 182, 0, 147, 182, 0, 165, 42, 89, 180, 0, 51, 4, 96, 181, 0, 51, 42]
abbrev dktX5_book_5 : List UInt8 := dkwX5_book_5 ++ dktX5_book_6
def dkwX5_book_4 : List UInt8 := [180, 0, 164, 28, 96, 181, 0, 164, 42, 180, 0, 3, 180, 0, 127, 43, 182, 0, 132, 185, 0, 116, 2, 0]
abbrev dktX5_book_4 : List UInt8 := dkwX5_book_4 ++ dktX5_book_5
def dkwX5_book_3 : List UInt8 := [181, 0, 60, 42, 180, 0, 3, 180, 0, 127, 43, 182, 0, 132, 185, 0, 116, 2, 0, 192, 0, 135, 89]
abbrev dktX5_book_3 : List UInt8 := dkwX5_book_3 ++ dktX5_book_4
def dkwX5_book_2 : List UInt8 := [181, 0, 158, 42, 180, 0, 3, 89, 180, 0, 161, 28, 96, 181, 0, 161, 42, 89, 180, 0, 60, 28, 96]
abbrev dktX5_book_2 : List UInt8 := dkwX5_book_2 ++ dktX5_book_3
def dkwX5_book_1 : List UInt8 := [182, 0, 154, 61, 42, 180, 0, 22, 42, 180, 0, 51, 28, 79, 42, 180, 0, 3, 89, 180, 0, 158, 28, 100]
abbrev dktX5_book_1 : List UInt8 := dkwX5_book_1 ++ dktX5_book_2
def dkwX5_book_0 : List UInt8 := [42, 180, 0, 18, 42, 180, 0, 51, 185, 0, 116, 2, 0, 192, 0, 96, 76, 42, 180, 0, 3, 43]
abbrev dktX5_book_0 : List UInt8 := dkwX5_book_0 ++ dktX5_book_1
theorem dksX5_book_0 : cX5_book.data.toList.drop 0 = dktX5_book_0 := by decide +kernel
theorem dksX5_book_1 : cX5_book.data.toList.drop 22 = dktX5_book_1 := dk_seg dksX5_book_0 22 rfl rfl
theorem dksX5_book_2 : cX5_book.data.toList.drop 46 = dktX5_book_2 := dk_seg dksX5_book_1 24 rfl rfl
theorem dksX5_book_3 : cX5_book.data.toList.drop 69 = dktX5_book_3 := dk_seg dksX5_book_2 23 rfl rfl
theorem dksX5_book_4 : cX5_book.data.toList.drop 92 = dktX5_book_4 := dk_seg dksX5_book_3 23 rfl rfl
theorem dksX5_book_5 : cX5_book.data.toList.drop 116 = dktX5_book_5 := dk_seg dksX5_book_4 24 rfl rfl
theorem dksX5_book_6 : cX5_book.data.toList.drop 138 = dktX5_book_6 := dk_seg dksX5_book_5 22 rfl rfl
theorem dX5_book_0 : DC mX5_book 0 = .ok (.aload_n 0, 1) := dk_42 (dk_at dksX5_book_0 0 rfl rfl)
theorem dX5_book_1 : DC mX5_book 1 = .ok (.getfield 18, 3) := dk_180 0 18 (dk_at dksX5_book_0 1 rfl rfl)
theorem dX5_book_4 : DC mX5_book 4 = .ok (.aload_n 0, 1) := dk_42 (dk_at dksX5_book_0 4 rfl rfl)
theorem dX5_book_5 : DC mX5_book 5 = .ok (.getfield 51, 3) := dk_180 0 51 (dk_at dksX5_book_0 5 rfl rfl)
theorem dX5_book_8 : DC mX5_book 8 = .ok (.invokeinterface 116 2, 5) := by decide +kernel
theorem dX5_book_13 : DC mX5_book 13 = .ok (.checkcast 96, 3) := dk_192 0 96 (dk_at dksX5_book_0 13 rfl rfl)
theorem dX5_book_16 : DC mX5_book 16 = .ok (.astore_n 1, 1) := dk_76 (dk_at dksX5_book_0 16 rfl rfl)
theorem dX5_book_17 : DC mX5_book 17 = .ok (.aload_n 0, 1) := dk_42 (dk_at dksX5_book_0 17 rfl rfl)
theorem dX5_book_18 : DC mX5_book 18 = .ok (.getfield 3, 3) := dk_180 0 3 (dk_at dksX5_book_0 18 rfl rfl)
theorem dX5_book_21 : DC mX5_book 21 = .ok (.aload_n 1, 1) := dk_43 (dk_at dksX5_book_0 21 rfl rfl)
theorem dX5_book_22 : DC mX5_book 22 = .ok (.invokevirtual 154, 3) := dk_182 0 154 (dk_at dksX5_book_1 0 rfl rfl)
theorem dX5_book_25 : DC mX5_book 25 = .ok (.istore_n 2, 1) := dk_61 (dk_at dksX5_book_1 3 rfl rfl)
theorem dX5_book_26 : DC mX5_book 26 = .ok (.aload_n 0, 1) := dk_42 (dk_at dksX5_book_1 4 rfl rfl)
theorem dX5_book_27 : DC mX5_book 27 = .ok (.getfield 22, 3) := dk_180 0 22 (dk_at dksX5_book_1 5 rfl rfl)
theorem dX5_book_30 : DC mX5_book 30 = .ok (.aload_n 0, 1) := dk_42 (dk_at dksX5_book_1 8 rfl rfl)
theorem dX5_book_31 : DC mX5_book 31 = .ok (.getfield 51, 3) := dk_180 0 51 (dk_at dksX5_book_1 9 rfl rfl)
theorem dX5_book_34 : DC mX5_book 34 = .ok (.iload_n 2, 1) := dk_28 (dk_at dksX5_book_1 12 rfl rfl)
theorem dX5_book_35 : DC mX5_book 35 = .ok (.iastore, 1) := dk_79 (dk_at dksX5_book_1 13 rfl rfl)
theorem dX5_book_36 : DC mX5_book 36 = .ok (.aload_n 0, 1) := dk_42 (dk_at dksX5_book_1 14 rfl rfl)
theorem dX5_book_37 : DC mX5_book 37 = .ok (.getfield 3, 3) := dk_180 0 3 (dk_at dksX5_book_1 15 rfl rfl)
theorem dX5_book_40 : DC mX5_book 40 = .ok (.dup, 1) := dk_89 (dk_at dksX5_book_1 18 rfl rfl)
theorem dX5_book_41 : DC mX5_book 41 = .ok (.getfield 158, 3) := dk_180 0 158 (dk_at dksX5_book_1 19 rfl rfl)
theorem dX5_book_44 : DC mX5_book 44 = .ok (.iload_n 2, 1) := dk_28 (dk_at dksX5_book_1 22 rfl rfl)
theorem dX5_book_45 : DC mX5_book 45 = .ok (.isub, 1) := dk_100 (dk_at dksX5_book_1 23 rfl rfl)
theorem dX5_book_46 : DC mX5_book 46 = .ok (.putfield 158, 3) := dk_181 0 158 (dk_at dksX5_book_2 0 rfl rfl)
theorem dX5_book_49 : DC mX5_book 49 = .ok (.aload_n 0, 1) := dk_42 (dk_at dksX5_book_2 3 rfl rfl)
theorem dX5_book_50 : DC mX5_book 50 = .ok (.getfield 3, 3) := dk_180 0 3 (dk_at dksX5_book_2 4 rfl rfl)
theorem dX5_book_53 : DC mX5_book 53 = .ok (.dup, 1) := dk_89 (dk_at dksX5_book_2 7 rfl rfl)
theorem dX5_book_54 : DC mX5_book 54 = .ok (.getfield 161, 3) := dk_180 0 161 (dk_at dksX5_book_2 8 rfl rfl)
theorem dX5_book_57 : DC mX5_book 57 = .ok (.iload_n 2, 1) := dk_28 (dk_at dksX5_book_2 11 rfl rfl)
theorem dX5_book_58 : DC mX5_book 58 = .ok (.iadd, 1) := dk_96 (dk_at dksX5_book_2 12 rfl rfl)
theorem dX5_book_59 : DC mX5_book 59 = .ok (.putfield 161, 3) := dk_181 0 161 (dk_at dksX5_book_2 13 rfl rfl)
theorem dX5_book_62 : DC mX5_book 62 = .ok (.aload_n 0, 1) := dk_42 (dk_at dksX5_book_2 16 rfl rfl)
theorem dX5_book_63 : DC mX5_book 63 = .ok (.dup, 1) := dk_89 (dk_at dksX5_book_2 17 rfl rfl)
theorem dX5_book_64 : DC mX5_book 64 = .ok (.getfield 60, 3) := dk_180 0 60 (dk_at dksX5_book_2 18 rfl rfl)
theorem dX5_book_67 : DC mX5_book 67 = .ok (.iload_n 2, 1) := dk_28 (dk_at dksX5_book_2 21 rfl rfl)
theorem dX5_book_68 : DC mX5_book 68 = .ok (.iadd, 1) := dk_96 (dk_at dksX5_book_2 22 rfl rfl)
theorem dX5_book_69 : DC mX5_book 69 = .ok (.putfield 60, 3) := dk_181 0 60 (dk_at dksX5_book_3 0 rfl rfl)
theorem dX5_book_72 : DC mX5_book 72 = .ok (.aload_n 0, 1) := dk_42 (dk_at dksX5_book_3 3 rfl rfl)
theorem dX5_book_73 : DC mX5_book 73 = .ok (.getfield 3, 3) := dk_180 0 3 (dk_at dksX5_book_3 4 rfl rfl)
theorem dX5_book_76 : DC mX5_book 76 = .ok (.getfield 127, 3) := dk_180 0 127 (dk_at dksX5_book_3 7 rfl rfl)
theorem dX5_book_79 : DC mX5_book 79 = .ok (.aload_n 1, 1) := dk_43 (dk_at dksX5_book_3 10 rfl rfl)
theorem dX5_book_80 : DC mX5_book 80 = .ok (.invokevirtual 132, 3) := dk_182 0 132 (dk_at dksX5_book_3 11 rfl rfl)
theorem dX5_book_83 : DC mX5_book 83 = .ok (.invokeinterface 116 2, 5) := by decide +kernel
theorem dX5_book_88 : DC mX5_book 88 = .ok (.checkcast 135, 3) := dk_192 0 135 (dk_at dksX5_book_3 19 rfl rfl)
theorem dX5_book_91 : DC mX5_book 91 = .ok (.dup, 1) := dk_89 (dk_at dksX5_book_3 22 rfl rfl)
theorem dX5_book_92 : DC mX5_book 92 = .ok (.getfield 164, 3) := dk_180 0 164 (dk_at dksX5_book_4 0 rfl rfl)
theorem dX5_book_95 : DC mX5_book 95 = .ok (.iload_n 2, 1) := dk_28 (dk_at dksX5_book_4 3 rfl rfl)
theorem dX5_book_96 : DC mX5_book 96 = .ok (.iadd, 1) := dk_96 (dk_at dksX5_book_4 4 rfl rfl)
theorem dX5_book_97 : DC mX5_book 97 = .ok (.putfield 164, 3) := dk_181 0 164 (dk_at dksX5_book_4 5 rfl rfl)
theorem dX5_book_100 : DC mX5_book 100 = .ok (.aload_n 0, 1) := dk_42 (dk_at dksX5_book_4 8 rfl rfl)
theorem dX5_book_101 : DC mX5_book 101 = .ok (.getfield 3, 3) := dk_180 0 3 (dk_at dksX5_book_4 9 rfl rfl)
theorem dX5_book_104 : DC mX5_book 104 = .ok (.getfield 127, 3) := dk_180 0 127 (dk_at dksX5_book_4 12 rfl rfl)
theorem dX5_book_107 : DC mX5_book 107 = .ok (.aload_n 1, 1) := dk_43 (dk_at dksX5_book_4 15 rfl rfl)
theorem dX5_book_108 : DC mX5_book 108 = .ok (.invokevirtual 132, 3) := dk_182 0 132 (dk_at dksX5_book_4 16 rfl rfl)
theorem dX5_book_111 : DC mX5_book 111 = .ok (.invokeinterface 116 2, 5) := by decide +kernel
theorem dX5_book_116 : DC mX5_book 116 = .ok (.checkcast 135, 3) := dk_192 0 135 (dk_at dksX5_book_5 0 rfl rfl)
theorem dX5_book_119 : DC mX5_book 119 = .ok (.aload_n 1, 1) := dk_43 (dk_at dksX5_book_5 3 rfl rfl)
theorem dX5_book_120 : DC mX5_book 120 = .ok (.aload_n 1, 1) := dk_43 (dk_at dksX5_book_5 4 rfl rfl)
theorem dX5_book_121 : DC mX5_book 121 = .ok (.invokevirtual 147, 3) := dk_182 0 147 (dk_at dksX5_book_5 5 rfl rfl)
theorem dX5_book_124 : DC mX5_book 124 = .ok (.invokevirtual 165, 3) := dk_182 0 165 (dk_at dksX5_book_5 8 rfl rfl)
theorem dX5_book_127 : DC mX5_book 127 = .ok (.aload_n 0, 1) := dk_42 (dk_at dksX5_book_5 11 rfl rfl)
theorem dX5_book_128 : DC mX5_book 128 = .ok (.dup, 1) := dk_89 (dk_at dksX5_book_5 12 rfl rfl)
theorem dX5_book_129 : DC mX5_book 129 = .ok (.getfield 51, 3) := dk_180 0 51 (dk_at dksX5_book_5 13 rfl rfl)
theorem dX5_book_132 : DC mX5_book 132 = .ok (.iconst 1, 1) := dk_4 (dk_at dksX5_book_5 16 rfl rfl)
theorem dX5_book_133 : DC mX5_book 133 = .ok (.iadd, 1) := dk_96 (dk_at dksX5_book_5 17 rfl rfl)
theorem dX5_book_134 : DC mX5_book 134 = .ok (.putfield 51, 3) := dk_181 0 51 (dk_at dksX5_book_5 18 rfl rfl)
theorem dX5_book_137 : DC mX5_book 137 = .ok (.aload_n 0, 1) := dk_42 (dk_at dksX5_book_5 21 rfl rfl)
theorem dX5_book_138 : DC mX5_book 138 = .ok (.getfield 51, 3) := dk_180 0 51 (dk_at dksX5_book_6 0 rfl rfl)
theorem dX5_book_141 : DC mX5_book 141 = .ok (.aload_n 0, 1) := dk_42 (dk_at dksX5_book_6 3 rfl rfl)
theorem dX5_book_142 : DC mX5_book 142 = .ok (.getfield 18, 3) := dk_180 0 18 (dk_at dksX5_book_6 4 rfl rfl)
theorem dX5_book_145 : DC mX5_book 145 = .ok (.invokeinterface 102 1, 5) := by decide +kernel
theorem dX5_book_150 : DC mX5_book 150 = .ok (.if_icmp .ne 7, 3) := dk_160 0 7 (dk_at dksX5_book_6 12 rfl rfl)
theorem dX5_book_153 : DC mX5_book 153 = .ok (.aload_n 0, 1) := dk_42 (dk_at dksX5_book_6 15 rfl rfl)
theorem dX5_book_154 : DC mX5_book 154 = .ok (.invokevirtual 169, 3) := dk_182 0 169 (dk_at dksX5_book_6 16 rfl rfl)
theorem dX5_book_157 : DC mX5_book 157 = .ok (.return_, 1) := dk_177 (dk_at dksX5_book_6 19 rfl rfl)
abbrev cX5_finish : ByteArray := prog_9_method_12_code
def yX5_finish : MethodName := ⟨RX5, "finish", "()V"⟩
def mX5_finish : MI := (⟨"TheatreSaga$Theatre$Tour", "finish", "()V"⟩, prog_9_method_12_code, 3, (Option.none : Option FieldType), none, 43, 11)
theorem oX5_finish : mO mX5_finish = 43 := rfl
theorem lX5_finish : mL mX5_finish = 3 := rfl
theorem rX5_finish : mR mX5_finish = (Option.none : Option FieldType) := rfl
theorem vX5_finish : mV mX5_finish = 11 := rfl
theorem nX5_finish : (mY mX5_finish).name = "finish" := rfl
theorem hX5_finish : mH mX5_finish = none := rfl
theorem kX5_finish : MOk mX5_finish := ⟨q1601, q108, by decide +kernel⟩
theorem gX5_finish : plainName (mY mX5_finish).cls = true ∧ (mY mX5_finish).cls = "TheatreSaga$Theatre$Tour" := ⟨by decide +kernel, rfl⟩
def dkwX5_finish_3 : List UInt8 := [180, 0, 172, 42, 180, 0, 66, 96, 181, 0, 172, 42, 180, 0, 3, 42, 180, 0, 66, 182, 0, 175, 177]
abbrev dktX5_finish_3 : List UInt8 := dkwX5_finish_3 ++ []
def dkwX5_finish_2 : List UInt8 := [182, 0, 137, 154, 0, 8, 16, 10, 167, 0, 4, 3, 96, 181, 0, 66, 167, 255, 215, 42, 180, 0, 3, 89]
abbrev dktX5_finish_2 : List UInt8 := dkwX5_finish_2 ++ dktX5_finish_3
def dkwX5_finish_1 : List UInt8 := [185, 0, 86, 1, 0, 153, 0, 38, 43, 185, 0, 92, 1, 0, 192, 0, 96, 77, 42, 89, 180, 0, 66, 44]
abbrev dktX5_finish_1 : List UInt8 := dkwX5_finish_1 ++ dktX5_finish_2
def dkwX5_finish_0 : List UInt8 := [42, 6, 181, 0, 48, 187, 0, 77, 89, 42, 180, 0, 18, 3, 183, 0, 79, 182, 0, 82, 76, 43]
abbrev dktX5_finish_0 : List UInt8 := dkwX5_finish_0 ++ dktX5_finish_1
theorem dksX5_finish_0 : cX5_finish.data.toList.drop 0 = dktX5_finish_0 := by decide +kernel
theorem dksX5_finish_1 : cX5_finish.data.toList.drop 22 = dktX5_finish_1 := dk_seg dksX5_finish_0 22 rfl rfl
theorem dksX5_finish_2 : cX5_finish.data.toList.drop 46 = dktX5_finish_2 := dk_seg dksX5_finish_1 24 rfl rfl
theorem dksX5_finish_3 : cX5_finish.data.toList.drop 70 = dktX5_finish_3 := dk_seg dksX5_finish_2 24 rfl rfl
theorem dX5_finish_0 : DC mX5_finish 0 = .ok (.aload_n 0, 1) := dk_42 (dk_at dksX5_finish_0 0 rfl rfl)
theorem dX5_finish_1 : DC mX5_finish 1 = .ok (.iconst 3, 1) := dk_6 (dk_at dksX5_finish_0 1 rfl rfl)
theorem dX5_finish_2 : DC mX5_finish 2 = .ok (.putfield 48, 3) := dk_181 0 48 (dk_at dksX5_finish_0 2 rfl rfl)
theorem dX5_finish_5 : DC mX5_finish 5 = .ok (.new 77, 3) := dk_187 0 77 (dk_at dksX5_finish_0 5 rfl rfl)
theorem dX5_finish_8 : DC mX5_finish 8 = .ok (.dup, 1) := dk_89 (dk_at dksX5_finish_0 8 rfl rfl)
theorem dX5_finish_9 : DC mX5_finish 9 = .ok (.aload_n 0, 1) := dk_42 (dk_at dksX5_finish_0 9 rfl rfl)
theorem dX5_finish_10 : DC mX5_finish 10 = .ok (.getfield 18, 3) := dk_180 0 18 (dk_at dksX5_finish_0 10 rfl rfl)
theorem dX5_finish_13 : DC mX5_finish 13 = .ok (.iconst 0, 1) := dk_3 (dk_at dksX5_finish_0 13 rfl rfl)
theorem dX5_finish_14 : DC mX5_finish 14 = .ok (.invokespecial 79, 3) := dk_183 0 79 (dk_at dksX5_finish_0 14 rfl rfl)
theorem dX5_finish_17 : DC mX5_finish 17 = .ok (.invokevirtual 82, 3) := dk_182 0 82 (dk_at dksX5_finish_0 17 rfl rfl)
theorem dX5_finish_20 : DC mX5_finish 20 = .ok (.astore_n 1, 1) := dk_76 (dk_at dksX5_finish_0 20 rfl rfl)
theorem dX5_finish_21 : DC mX5_finish 21 = .ok (.aload_n 1, 1) := dk_43 (dk_at dksX5_finish_0 21 rfl rfl)
theorem dX5_finish_22 : DC mX5_finish 22 = .ok (.invokeinterface 86 1, 5) := by decide +kernel
theorem dX5_finish_27 : DC mX5_finish 27 = .ok (.ifCond .eq 38, 3) := dk_153 0 38 (dk_at dksX5_finish_1 5 rfl rfl)
theorem dX5_finish_30 : DC mX5_finish 30 = .ok (.aload_n 1, 1) := dk_43 (dk_at dksX5_finish_1 8 rfl rfl)
theorem dX5_finish_31 : DC mX5_finish 31 = .ok (.invokeinterface 92 1, 5) := by decide +kernel
theorem dX5_finish_36 : DC mX5_finish 36 = .ok (.checkcast 96, 3) := dk_192 0 96 (dk_at dksX5_finish_1 14 rfl rfl)
theorem dX5_finish_39 : DC mX5_finish 39 = .ok (.astore_n 2, 1) := dk_77 (dk_at dksX5_finish_1 17 rfl rfl)
theorem dX5_finish_40 : DC mX5_finish 40 = .ok (.aload_n 0, 1) := dk_42 (dk_at dksX5_finish_1 18 rfl rfl)
theorem dX5_finish_41 : DC mX5_finish 41 = .ok (.dup, 1) := dk_89 (dk_at dksX5_finish_1 19 rfl rfl)
theorem dX5_finish_42 : DC mX5_finish 42 = .ok (.getfield 66, 3) := dk_180 0 66 (dk_at dksX5_finish_1 20 rfl rfl)
theorem dX5_finish_45 : DC mX5_finish 45 = .ok (.aload_n 2, 1) := dk_44 (dk_at dksX5_finish_1 23 rfl rfl)
theorem dX5_finish_46 : DC mX5_finish 46 = .ok (.invokevirtual 137, 3) := dk_182 0 137 (dk_at dksX5_finish_2 0 rfl rfl)
theorem dX5_finish_49 : DC mX5_finish 49 = .ok (.ifCond .ne 8, 3) := dk_154 0 8 (dk_at dksX5_finish_2 3 rfl rfl)
theorem dX5_finish_52 : DC mX5_finish 52 = .ok (.bipush 10, 2) := dk_16 10 (dk_at dksX5_finish_2 6 rfl rfl)
theorem dX5_finish_54 : DC mX5_finish 54 = .ok (.goto 4, 3) := dk_167 0 4 (dk_at dksX5_finish_2 8 rfl rfl)
theorem dX5_finish_57 : DC mX5_finish 57 = .ok (.iconst 0, 1) := dk_3 (dk_at dksX5_finish_2 11 rfl rfl)
theorem dX5_finish_58 : DC mX5_finish 58 = .ok (.iadd, 1) := dk_96 (dk_at dksX5_finish_2 12 rfl rfl)
theorem dX5_finish_59 : DC mX5_finish 59 = .ok (.putfield 66, 3) := dk_181 0 66 (dk_at dksX5_finish_2 13 rfl rfl)
theorem dX5_finish_62 : DC mX5_finish 62 = .ok (.goto (-41), 3) := dk_167 255 215 (dk_at dksX5_finish_2 16 rfl rfl)
theorem dX5_finish_65 : DC mX5_finish 65 = .ok (.aload_n 0, 1) := dk_42 (dk_at dksX5_finish_2 19 rfl rfl)
theorem dX5_finish_66 : DC mX5_finish 66 = .ok (.getfield 3, 3) := dk_180 0 3 (dk_at dksX5_finish_2 20 rfl rfl)
theorem dX5_finish_69 : DC mX5_finish 69 = .ok (.dup, 1) := dk_89 (dk_at dksX5_finish_2 23 rfl rfl)
theorem dX5_finish_70 : DC mX5_finish 70 = .ok (.getfield 172, 3) := dk_180 0 172 (dk_at dksX5_finish_3 0 rfl rfl)
theorem dX5_finish_73 : DC mX5_finish 73 = .ok (.aload_n 0, 1) := dk_42 (dk_at dksX5_finish_3 3 rfl rfl)
theorem dX5_finish_74 : DC mX5_finish 74 = .ok (.getfield 66, 3) := dk_180 0 66 (dk_at dksX5_finish_3 4 rfl rfl)
theorem dX5_finish_77 : DC mX5_finish 77 = .ok (.iadd, 1) := dk_96 (dk_at dksX5_finish_3 7 rfl rfl)
theorem dX5_finish_78 : DC mX5_finish 78 = .ok (.putfield 172, 3) := dk_181 0 172 (dk_at dksX5_finish_3 8 rfl rfl)
theorem dX5_finish_81 : DC mX5_finish 81 = .ok (.aload_n 0, 1) := dk_42 (dk_at dksX5_finish_3 11 rfl rfl)
theorem dX5_finish_82 : DC mX5_finish 82 = .ok (.getfield 3, 3) := dk_180 0 3 (dk_at dksX5_finish_3 12 rfl rfl)
theorem dX5_finish_85 : DC mX5_finish 85 = .ok (.aload_n 0, 1) := dk_42 (dk_at dksX5_finish_3 15 rfl rfl)
theorem dX5_finish_86 : DC mX5_finish 86 = .ok (.getfield 66, 3) := dk_180 0 66 (dk_at dksX5_finish_3 16 rfl rfl)
theorem dX5_finish_89 : DC mX5_finish 89 = .ok (.invokevirtual 175, 3) := dk_182 0 175 (dk_at dksX5_finish_3 19 rfl rfl)
theorem dX5_finish_92 : DC mX5_finish 92 = .ok (.return_, 1) := dk_177 (dk_at dksX5_finish_3 22 rfl rfl)
abbrev cX5_undoStep : ByteArray := prog_9_method_13_code
def yX5_undoStep : MethodName := ⟨RX5, "undoStep", "()V"⟩
def mX5_undoStep : MI := (⟨"TheatreSaga$Theatre$Tour", "undoStep", "()V"⟩, prog_9_method_13_code, 3, (Option.none : Option FieldType), none, 43, 10)
theorem oX5_undoStep : mO mX5_undoStep = 43 := rfl
theorem lX5_undoStep : mL mX5_undoStep = 3 := rfl
theorem rX5_undoStep : mR mX5_undoStep = (Option.none : Option FieldType) := rfl
theorem vX5_undoStep : mV mX5_undoStep = 10 := rfl
theorem nX5_undoStep : (mY mX5_undoStep).name = "undoStep" := rfl
theorem hX5_undoStep : mH mX5_undoStep = none := rfl
theorem kX5_undoStep : MOk mX5_undoStep := ⟨q1611, q108, by decide +kernel⟩
theorem gX5_undoStep : plainName (mY mX5_undoStep).cls = true ∧ (mY mX5_undoStep).cls = "TheatreSaga$Theatre$Tour" := ⟨by decide +kernel, rfl⟩
def dkwX5_undoStep_5 : List UInt8 := [5, 181, 0, 48, 177]
abbrev dktX5_undoStep_5 : List UInt8 := dkwX5_undoStep_5 ++ []
def dkwX5_undoStep_4 : List UInt8 := [96, 181, 0, 178, 42, 180, 0, 3, 28, 182, 0, 175, 42, 42, 180, 0, 51, 154, 0, 7, 7, 167, 0, 4]
abbrev dktX5_undoStep_4 : List UInt8 := dkwX5_undoStep_4 ++ dktX5_undoStep_5
def dkwX5_undoStep_3 : List UInt8 := [180, 0, 51, 3, 79, 42, 89, 180, 0, 63, 28, 96, 181, 0, 63, 42, 180, 0, 3, 89, 180, 0, 178, 28]
abbrev dktX5_undoStep_3 : List UInt8 := dkwX5_undoStep_3 ++ dktX5_undoStep_4
def dkwX5_undoStep_2 : List UInt8 := [182, 0, 147, 116, 182, 0, 165, 42, 180, 0, 22, 42, 180, 0, 51, 46, 5, 108, 61, 42, 180, 0, 22, 42]
abbrev dktX5_undoStep_2 : List UInt8 := dkwX5_undoStep_2 ++ dktX5_undoStep_3
def dkwX5_undoStep_1 : List UInt8 := [181, 0, 51, 42, 180, 0, 3, 180, 0, 127, 43, 182, 0, 132, 185, 0, 116, 2, 0, 192, 0, 135, 43, 43]
abbrev dktX5_undoStep_1 : List UInt8 := dkwX5_undoStep_1 ++ dktX5_undoStep_2
def dkwX5_undoStep_0 : List UInt8 := [42, 180, 0, 18, 42, 180, 0, 51, 184, 0, 120, 182, 0, 124, 76, 42, 89, 180, 0, 51, 4, 100]
abbrev dktX5_undoStep_0 : List UInt8 := dkwX5_undoStep_0 ++ dktX5_undoStep_1
theorem dksX5_undoStep_0 : cX5_undoStep.data.toList.drop 0 = dktX5_undoStep_0 := by decide +kernel
theorem dksX5_undoStep_1 : cX5_undoStep.data.toList.drop 22 = dktX5_undoStep_1 := dk_seg dksX5_undoStep_0 22 rfl rfl
theorem dksX5_undoStep_2 : cX5_undoStep.data.toList.drop 46 = dktX5_undoStep_2 := dk_seg dksX5_undoStep_1 24 rfl rfl
theorem dksX5_undoStep_3 : cX5_undoStep.data.toList.drop 70 = dktX5_undoStep_3 := dk_seg dksX5_undoStep_2 24 rfl rfl
theorem dksX5_undoStep_4 : cX5_undoStep.data.toList.drop 94 = dktX5_undoStep_4 := dk_seg dksX5_undoStep_3 24 rfl rfl
theorem dksX5_undoStep_5 : cX5_undoStep.data.toList.drop 118 = dktX5_undoStep_5 := dk_seg dksX5_undoStep_4 24 rfl rfl
theorem dX5_undoStep_0 : DC mX5_undoStep 0 = .ok (.aload_n 0, 1) := dk_42 (dk_at dksX5_undoStep_0 0 rfl rfl)
theorem dX5_undoStep_1 : DC mX5_undoStep 1 = .ok (.getfield 18, 3) := dk_180 0 18 (dk_at dksX5_undoStep_0 1 rfl rfl)
theorem dX5_undoStep_4 : DC mX5_undoStep 4 = .ok (.aload_n 0, 1) := dk_42 (dk_at dksX5_undoStep_0 4 rfl rfl)
theorem dX5_undoStep_5 : DC mX5_undoStep 5 = .ok (.getfield 51, 3) := dk_180 0 51 (dk_at dksX5_undoStep_0 5 rfl rfl)
theorem dX5_undoStep_8 : DC mX5_undoStep 8 = .ok (.invokestatic 120, 3) := dk_184 0 120 (dk_at dksX5_undoStep_0 8 rfl rfl)
theorem dX5_undoStep_11 : DC mX5_undoStep 11 = .ok (.invokevirtual 124, 3) := dk_182 0 124 (dk_at dksX5_undoStep_0 11 rfl rfl)
theorem dX5_undoStep_14 : DC mX5_undoStep 14 = .ok (.astore_n 1, 1) := dk_76 (dk_at dksX5_undoStep_0 14 rfl rfl)
theorem dX5_undoStep_15 : DC mX5_undoStep 15 = .ok (.aload_n 0, 1) := dk_42 (dk_at dksX5_undoStep_0 15 rfl rfl)
theorem dX5_undoStep_16 : DC mX5_undoStep 16 = .ok (.dup, 1) := dk_89 (dk_at dksX5_undoStep_0 16 rfl rfl)
theorem dX5_undoStep_17 : DC mX5_undoStep 17 = .ok (.getfield 51, 3) := dk_180 0 51 (dk_at dksX5_undoStep_0 17 rfl rfl)
theorem dX5_undoStep_20 : DC mX5_undoStep 20 = .ok (.iconst 1, 1) := dk_4 (dk_at dksX5_undoStep_0 20 rfl rfl)
theorem dX5_undoStep_21 : DC mX5_undoStep 21 = .ok (.isub, 1) := dk_100 (dk_at dksX5_undoStep_0 21 rfl rfl)
theorem dX5_undoStep_22 : DC mX5_undoStep 22 = .ok (.putfield 51, 3) := dk_181 0 51 (dk_at dksX5_undoStep_1 0 rfl rfl)
theorem dX5_undoStep_25 : DC mX5_undoStep 25 = .ok (.aload_n 0, 1) := dk_42 (dk_at dksX5_undoStep_1 3 rfl rfl)
theorem dX5_undoStep_26 : DC mX5_undoStep 26 = .ok (.getfield 3, 3) := dk_180 0 3 (dk_at dksX5_undoStep_1 4 rfl rfl)
theorem dX5_undoStep_29 : DC mX5_undoStep 29 = .ok (.getfield 127, 3) := dk_180 0 127 (dk_at dksX5_undoStep_1 7 rfl rfl)
theorem dX5_undoStep_32 : DC mX5_undoStep 32 = .ok (.aload_n 1, 1) := dk_43 (dk_at dksX5_undoStep_1 10 rfl rfl)
theorem dX5_undoStep_33 : DC mX5_undoStep 33 = .ok (.invokevirtual 132, 3) := dk_182 0 132 (dk_at dksX5_undoStep_1 11 rfl rfl)
theorem dX5_undoStep_36 : DC mX5_undoStep 36 = .ok (.invokeinterface 116 2, 5) := by decide +kernel
theorem dX5_undoStep_41 : DC mX5_undoStep 41 = .ok (.checkcast 135, 3) := dk_192 0 135 (dk_at dksX5_undoStep_1 19 rfl rfl)
theorem dX5_undoStep_44 : DC mX5_undoStep 44 = .ok (.aload_n 1, 1) := dk_43 (dk_at dksX5_undoStep_1 22 rfl rfl)
theorem dX5_undoStep_45 : DC mX5_undoStep 45 = .ok (.aload_n 1, 1) := dk_43 (dk_at dksX5_undoStep_1 23 rfl rfl)
theorem dX5_undoStep_46 : DC mX5_undoStep 46 = .ok (.invokevirtual 147, 3) := dk_182 0 147 (dk_at dksX5_undoStep_2 0 rfl rfl)
theorem dX5_undoStep_49 : DC mX5_undoStep 49 = .ok (.ineg, 1) := dk_116 (dk_at dksX5_undoStep_2 3 rfl rfl)
theorem dX5_undoStep_50 : DC mX5_undoStep 50 = .ok (.invokevirtual 165, 3) := dk_182 0 165 (dk_at dksX5_undoStep_2 4 rfl rfl)
theorem dX5_undoStep_53 : DC mX5_undoStep 53 = .ok (.aload_n 0, 1) := dk_42 (dk_at dksX5_undoStep_2 7 rfl rfl)
theorem dX5_undoStep_54 : DC mX5_undoStep 54 = .ok (.getfield 22, 3) := dk_180 0 22 (dk_at dksX5_undoStep_2 8 rfl rfl)
theorem dX5_undoStep_57 : DC mX5_undoStep 57 = .ok (.aload_n 0, 1) := dk_42 (dk_at dksX5_undoStep_2 11 rfl rfl)
theorem dX5_undoStep_58 : DC mX5_undoStep 58 = .ok (.getfield 51, 3) := dk_180 0 51 (dk_at dksX5_undoStep_2 12 rfl rfl)
theorem dX5_undoStep_61 : DC mX5_undoStep 61 = .ok (.iaload, 1) := dk_46 (dk_at dksX5_undoStep_2 15 rfl rfl)
theorem dX5_undoStep_62 : DC mX5_undoStep 62 = .ok (.iconst 2, 1) := dk_5 (dk_at dksX5_undoStep_2 16 rfl rfl)
theorem dX5_undoStep_63 : DC mX5_undoStep 63 = .ok (.idiv, 1) := dk_108 (dk_at dksX5_undoStep_2 17 rfl rfl)
theorem dX5_undoStep_64 : DC mX5_undoStep 64 = .ok (.istore_n 2, 1) := dk_61 (dk_at dksX5_undoStep_2 18 rfl rfl)
theorem dX5_undoStep_65 : DC mX5_undoStep 65 = .ok (.aload_n 0, 1) := dk_42 (dk_at dksX5_undoStep_2 19 rfl rfl)
theorem dX5_undoStep_66 : DC mX5_undoStep 66 = .ok (.getfield 22, 3) := dk_180 0 22 (dk_at dksX5_undoStep_2 20 rfl rfl)
theorem dX5_undoStep_69 : DC mX5_undoStep 69 = .ok (.aload_n 0, 1) := dk_42 (dk_at dksX5_undoStep_2 23 rfl rfl)
theorem dX5_undoStep_70 : DC mX5_undoStep 70 = .ok (.getfield 51, 3) := dk_180 0 51 (dk_at dksX5_undoStep_3 0 rfl rfl)
theorem dX5_undoStep_73 : DC mX5_undoStep 73 = .ok (.iconst 0, 1) := dk_3 (dk_at dksX5_undoStep_3 3 rfl rfl)
theorem dX5_undoStep_74 : DC mX5_undoStep 74 = .ok (.iastore, 1) := dk_79 (dk_at dksX5_undoStep_3 4 rfl rfl)
theorem dX5_undoStep_75 : DC mX5_undoStep 75 = .ok (.aload_n 0, 1) := dk_42 (dk_at dksX5_undoStep_3 5 rfl rfl)
theorem dX5_undoStep_76 : DC mX5_undoStep 76 = .ok (.dup, 1) := dk_89 (dk_at dksX5_undoStep_3 6 rfl rfl)
theorem dX5_undoStep_77 : DC mX5_undoStep 77 = .ok (.getfield 63, 3) := dk_180 0 63 (dk_at dksX5_undoStep_3 7 rfl rfl)
theorem dX5_undoStep_80 : DC mX5_undoStep 80 = .ok (.iload_n 2, 1) := dk_28 (dk_at dksX5_undoStep_3 10 rfl rfl)
theorem dX5_undoStep_81 : DC mX5_undoStep 81 = .ok (.iadd, 1) := dk_96 (dk_at dksX5_undoStep_3 11 rfl rfl)
theorem dX5_undoStep_82 : DC mX5_undoStep 82 = .ok (.putfield 63, 3) := dk_181 0 63 (dk_at dksX5_undoStep_3 12 rfl rfl)
theorem dX5_undoStep_85 : DC mX5_undoStep 85 = .ok (.aload_n 0, 1) := dk_42 (dk_at dksX5_undoStep_3 15 rfl rfl)
theorem dX5_undoStep_86 : DC mX5_undoStep 86 = .ok (.getfield 3, 3) := dk_180 0 3 (dk_at dksX5_undoStep_3 16 rfl rfl)
theorem dX5_undoStep_89 : DC mX5_undoStep 89 = .ok (.dup, 1) := dk_89 (dk_at dksX5_undoStep_3 19 rfl rfl)
theorem dX5_undoStep_90 : DC mX5_undoStep 90 = .ok (.getfield 178, 3) := dk_180 0 178 (dk_at dksX5_undoStep_3 20 rfl rfl)
theorem dX5_undoStep_93 : DC mX5_undoStep 93 = .ok (.iload_n 2, 1) := dk_28 (dk_at dksX5_undoStep_3 23 rfl rfl)
theorem dX5_undoStep_94 : DC mX5_undoStep 94 = .ok (.iadd, 1) := dk_96 (dk_at dksX5_undoStep_4 0 rfl rfl)
theorem dX5_undoStep_95 : DC mX5_undoStep 95 = .ok (.putfield 178, 3) := dk_181 0 178 (dk_at dksX5_undoStep_4 1 rfl rfl)
theorem dX5_undoStep_98 : DC mX5_undoStep 98 = .ok (.aload_n 0, 1) := dk_42 (dk_at dksX5_undoStep_4 4 rfl rfl)
theorem dX5_undoStep_99 : DC mX5_undoStep 99 = .ok (.getfield 3, 3) := dk_180 0 3 (dk_at dksX5_undoStep_4 5 rfl rfl)
theorem dX5_undoStep_102 : DC mX5_undoStep 102 = .ok (.iload_n 2, 1) := dk_28 (dk_at dksX5_undoStep_4 8 rfl rfl)
theorem dX5_undoStep_103 : DC mX5_undoStep 103 = .ok (.invokevirtual 175, 3) := dk_182 0 175 (dk_at dksX5_undoStep_4 9 rfl rfl)
theorem dX5_undoStep_106 : DC mX5_undoStep 106 = .ok (.aload_n 0, 1) := dk_42 (dk_at dksX5_undoStep_4 12 rfl rfl)
theorem dX5_undoStep_107 : DC mX5_undoStep 107 = .ok (.aload_n 0, 1) := dk_42 (dk_at dksX5_undoStep_4 13 rfl rfl)
theorem dX5_undoStep_108 : DC mX5_undoStep 108 = .ok (.getfield 51, 3) := dk_180 0 51 (dk_at dksX5_undoStep_4 14 rfl rfl)
theorem dX5_undoStep_111 : DC mX5_undoStep 111 = .ok (.ifCond .ne 7, 3) := dk_154 0 7 (dk_at dksX5_undoStep_4 17 rfl rfl)
theorem dX5_undoStep_114 : DC mX5_undoStep 114 = .ok (.iconst 4, 1) := dk_7 (dk_at dksX5_undoStep_4 20 rfl rfl)
theorem dX5_undoStep_115 : DC mX5_undoStep 115 = .ok (.goto 4, 3) := dk_167 0 4 (dk_at dksX5_undoStep_4 21 rfl rfl)
theorem dX5_undoStep_118 : DC mX5_undoStep 118 = .ok (.iconst 2, 1) := dk_5 (dk_at dksX5_undoStep_5 0 rfl rfl)
theorem dX5_undoStep_119 : DC mX5_undoStep 119 = .ok (.putfield 48, 3) := dk_181 0 48 (dk_at dksX5_undoStep_5 1 rfl rfl)
theorem dX5_undoStep_122 : DC mX5_undoStep 122 = .ok (.return_, 1) := dk_177 (dk_at dksX5_undoStep_5 4 rfl rfl)
abbrev cX5_isOver : ByteArray := prog_9_method_3_code
def yX5_isOver : MethodName := ⟨RX5, "isOver", "()Z"⟩
def mX5_isOver : MI := (⟨"TheatreSaga$Theatre$Tour", "isOver", "()Z"⟩, prog_9_method_3_code, 1, (Option.some FieldType.boolean), none, 43, 1)
theorem oX5_isOver : mO mX5_isOver = 43 := rfl
theorem lX5_isOver : mL mX5_isOver = 1 := rfl
theorem rX5_isOver : mR mX5_isOver = (Option.some FieldType.boolean) := rfl
theorem vX5_isOver : mV mX5_isOver = 1 := rfl
theorem nX5_isOver : (mY mX5_isOver).name = "isOver" := rfl
theorem hX5_isOver : mH mX5_isOver = none := rfl
theorem kX5_isOver : MOk mX5_isOver := ⟨q1615, q108, by decide +kernel⟩
theorem gX5_isOver : plainName (mY mX5_isOver).cls = true ∧ (mY mX5_isOver).cls = "TheatreSaga$Theatre$Tour" := ⟨by decide +kernel, rfl⟩
def dkwX5_isOver_0 : List UInt8 := [42, 180, 0, 48, 6, 159, 0, 11, 42, 180, 0, 48, 7, 160, 0, 7, 4, 167, 0, 4, 3, 172]
abbrev dktX5_isOver_0 : List UInt8 := dkwX5_isOver_0 ++ []
theorem dksX5_isOver_0 : cX5_isOver.data.toList.drop 0 = dktX5_isOver_0 := by decide +kernel
theorem dX5_isOver_0 : DC mX5_isOver 0 = .ok (.aload_n 0, 1) := dk_42 (dk_at dksX5_isOver_0 0 rfl rfl)
theorem dX5_isOver_1 : DC mX5_isOver 1 = .ok (.getfield 48, 3) := dk_180 0 48 (dk_at dksX5_isOver_0 1 rfl rfl)
theorem dX5_isOver_4 : DC mX5_isOver 4 = .ok (.iconst 3, 1) := dk_6 (dk_at dksX5_isOver_0 4 rfl rfl)
theorem dX5_isOver_5 : DC mX5_isOver 5 = .ok (.if_icmp .eq 11, 3) := dk_159 0 11 (dk_at dksX5_isOver_0 5 rfl rfl)
theorem dX5_isOver_8 : DC mX5_isOver 8 = .ok (.aload_n 0, 1) := dk_42 (dk_at dksX5_isOver_0 8 rfl rfl)
theorem dX5_isOver_9 : DC mX5_isOver 9 = .ok (.getfield 48, 3) := dk_180 0 48 (dk_at dksX5_isOver_0 9 rfl rfl)
theorem dX5_isOver_12 : DC mX5_isOver 12 = .ok (.iconst 4, 1) := dk_7 (dk_at dksX5_isOver_0 12 rfl rfl)
theorem dX5_isOver_13 : DC mX5_isOver 13 = .ok (.if_icmp .ne 7, 3) := dk_160 0 7 (dk_at dksX5_isOver_0 13 rfl rfl)
theorem dX5_isOver_16 : DC mX5_isOver 16 = .ok (.iconst 1, 1) := dk_4 (dk_at dksX5_isOver_0 16 rfl rfl)
theorem dX5_isOver_17 : DC mX5_isOver 17 = .ok (.goto 4, 3) := dk_167 0 4 (dk_at dksX5_isOver_0 17 rfl rfl)
theorem dX5_isOver_20 : DC mX5_isOver 20 = .ok (.iconst 0, 1) := dk_3 (dk_at dksX5_isOver_0 20 rfl rfl)
theorem dX5_isOver_21 : DC mX5_isOver 21 = .ok (.ireturn, 1) := dk_172 (dk_at dksX5_isOver_0 21 rfl rfl)
theorem in_X5 : ∀ w ∈ wsX50, w ∈ lw_all := lw_in wsX50 [1130, 1132, 1134, 1136, 1138, 1140, 1142, 1144, 1146, 1148, 1150, 1152] (by decide +kernel) (by decide +kernel)

/-! TheatreSaga$Deed -/
set_option maxRecDepth 100000
def RX6 : String := "TheatreSaga$Deed"
def TX6 : u_T := fun k => match k with
  | 0 => ("TheatreSaga$Deed", "word", "Ljava/lang/String;", true)
  | _ => ("TheatreSaga$Deed", "numbers", "[I", true)
def tyX6 : Nat → FieldType := fun k => match k with
  | 0 => .object "java/lang/String"
  | _ => .array .int
abbrev wsX60 : List Cond := u_ws RX6 TX6 2
theorem nmX6 : ∀ a, a < 2 → ∀ b, b < 2 → a ≠ b → (TX6 a).2.1 ≠ (TX6 b).2.1 := by decide +kernel
theorem tyX6_ok : ∀ k, k < 2 → parseFieldDescriptor (TX6 k).2.2.1 = some (tyX6 k) := by decide +kernel
abbrev cX6_init : ByteArray := prog_3_method_1_code
def yX6_init : MethodName := ⟨RX6, "<init>", "(Ljava/lang/String;[I)V"⟩
def mX6_init : MI := (⟨"TheatreSaga$Deed", "<init>", "(Ljava/lang/String;[I)V"⟩, prog_3_method_1_code, 3, (Option.none : Option FieldType), none, 44, 2)
theorem oX6_init : mO mX6_init = 44 := rfl
theorem lX6_init : mL mX6_init = 3 := rfl
theorem rX6_init : mR mX6_init = (Option.none : Option FieldType) := rfl
theorem vX6_init : mV mX6_init = 2 := rfl
theorem nX6_init : (mY mX6_init).name = "<init>" := rfl
theorem hX6_init : mH mX6_init = none := rfl
theorem kX6_init : MOk mX6_init := ⟨q1238, q109, by decide +kernel⟩
theorem gX6_init : plainName (mY mX6_init).cls = true ∧ (mY mX6_init).cls = "TheatreSaga$Deed" := ⟨by decide +kernel, rfl⟩
def dkwX6_init_0 : List UInt8 := [42, 183, 0, 3, 42, 43, 181, 0, 9, 42, 44, 181, 0, 15, 177]
abbrev dktX6_init_0 : List UInt8 := dkwX6_init_0 ++ []
theorem dksX6_init_0 : cX6_init.data.toList.drop 0 = dktX6_init_0 := by decide +kernel
theorem dX6_init_0 : DC mX6_init 0 = .ok (.aload_n 0, 1) := dk_42 (dk_at dksX6_init_0 0 rfl rfl)
theorem dX6_init_1 : DC mX6_init 1 = .ok (.invokespecial 3, 3) := dk_183 0 3 (dk_at dksX6_init_0 1 rfl rfl)
theorem dX6_init_4 : DC mX6_init 4 = .ok (.aload_n 0, 1) := dk_42 (dk_at dksX6_init_0 4 rfl rfl)
theorem dX6_init_5 : DC mX6_init 5 = .ok (.aload_n 1, 1) := dk_43 (dk_at dksX6_init_0 5 rfl rfl)
theorem dX6_init_6 : DC mX6_init 6 = .ok (.putfield 9, 3) := dk_181 0 9 (dk_at dksX6_init_0 6 rfl rfl)
theorem dX6_init_9 : DC mX6_init 9 = .ok (.aload_n 0, 1) := dk_42 (dk_at dksX6_init_0 9 rfl rfl)
theorem dX6_init_10 : DC mX6_init 10 = .ok (.aload_n 2, 1) := dk_44 (dk_at dksX6_init_0 10 rfl rfl)
theorem dX6_init_11 : DC mX6_init 11 = .ok (.putfield 15, 3) := dk_181 0 15 (dk_at dksX6_init_0 11 rfl rfl)
theorem dX6_init_14 : DC mX6_init 14 = .ok (.return_, 1) := dk_177 (dk_at dksX6_init_0 14 rfl rfl)
abbrev cX6_done : ByteArray := prog_3_method_3_code
def yX6_done : MethodName := ⟨RX6, "done", "(LTheatreSaga$Theatre;)I"⟩
def mX6_done : MI := (⟨"TheatreSaga$Deed", "done", "(LTheatreSaga$Theatre;)I"⟩, prog_3_method_3_code, 5, (Option.some FieldType.int), none, 44, 16)
theorem oX6_done : mO mX6_done = 44 := rfl
theorem lX6_done : mL mX6_done = 5 := rfl
theorem rX6_done : mR mX6_done = (Option.some FieldType.int) := rfl
theorem vX6_done : mV mX6_done = 16 := rfl
theorem nX6_done : (mY mX6_done).name = "done" := rfl
theorem hX6_done : mH mX6_done = none := rfl
theorem kX6_done : MOk mX6_done := ⟨q1250, q109, by decide +kernel⟩
theorem gX6_done : plainName (mY mX6_done).cls = true ∧ (mY mX6_done).cls = "TheatreSaga$Deed" := ⟨by decide +kernel, rfl⟩
def dkwX6_done_15 : List UInt8 := [182, 0, 85, 167, 0, 8, 43, 28, 182, 0, 88, 172]
abbrev dktX6_done_15 : List UInt8 := dkwX6_done_15 ++ []
def dkwX6_done_14 : List UInt8 := [182, 0, 82, 167, 0, 31, 43, 28, 3, 182, 0, 82, 167, 0, 22, 43, 28, 42, 180, 0, 15, 4, 46]
abbrev dktX6_done_14 : List UInt8 := dkwX6_done_14 ++ dktX6_done_15
def dkwX6_done_13 : List UInt8 := [167, 0, 57, 43, 180, 0, 69, 28, 184, 0, 73, 192, 0, 77, 182, 0, 79, 167, 0, 40, 43, 28, 4]
abbrev dktX6_done_13 : List UInt8 := dkwX6_done_13 ++ dktX6_done_14
def dkwX6_done_12 : List UInt8 := [28, 42, 42, 180, 0, 15, 7, 46, 182, 0, 60, 182, 0, 63, 167, 0, 65, 43, 28, 182, 0, 67]
abbrev dktX6_done_12 : List UInt8 := dkwX6_done_12 ++ dktX6_done_13
def dkwX6_done_11 : List UInt8 := [4, 182, 0, 60, 182, 0, 63, 167, 0, 96, 43, 28, 42, 5, 182, 0, 60, 182, 0, 63, 167, 0, 83, 43]
abbrev dktX6_done_11 : List UInt8 := dkwX6_done_11 ++ dktX6_done_12
def dkwX6_done_10 : List UInt8 := [43, 28, 182, 0, 54, 167, 0, 122, 43, 28, 42, 3, 182, 0, 60, 182, 0, 63, 167, 0, 109, 43, 28, 42]
abbrev dktX6_done_10 : List UInt8 := dkwX6_done_10 ++ dktX6_done_11
def dkwX6_done_9 : List UInt8 := [170, 0, 0, 0, 0, 0, 177, 0, 0, 0, 0, 0, 0, 0, 9, 0, 0, 0, 55, 0, 0, 0, 63, 0, 0, 0, 76, 0, 0, 0, 89, 0, 0, 0, 102, 0, 0, 0, 120, 0, 0, 0, 128, 0, 0, 0, 145, 0, 0, 0, 154, 0, 0, 0, 163]
abbrev dktX6_done_9 : List UInt8 := dkwX6_done_9 ++ dktX6_done_10
def dkwX6_done_8 : List UInt8 := [182, 0, 32, 153, 0, 7, 16, 9, 54, 4, 21, 4]
abbrev dktX6_done_8 : List UInt8 := dkwX6_done_8 ++ dktX6_done_9
def dkwX6_done_7 : List UInt8 := [167, 0, 32, 45, 18, 50, 182, 0, 32, 153, 0, 23, 16, 8, 54, 4, 167, 0, 16, 45, 18, 52]
abbrev dktX6_done_7 : List UInt8 := dkwX6_done_7 ++ dktX6_done_8
def dkwX6_done_6 : List UInt8 := [153, 0, 55, 16, 6, 54, 4, 167, 0, 48, 45, 18, 48, 182, 0, 32, 153, 0, 39, 16, 7, 54, 4]
abbrev dktX6_done_6 : List UInt8 := dkwX6_done_6 ++ dktX6_done_7
def dkwX6_done_5 : List UInt8 := [167, 0, 79, 45, 18, 44, 182, 0, 32, 153, 0, 70, 8, 54, 4, 167, 0, 64, 45, 18, 46, 182, 0, 32]
abbrev dktX6_done_5 : List UInt8 := dkwX6_done_5 ++ dktX6_done_6
def dkwX6_done_4 : List UInt8 := [182, 0, 32, 153, 0, 100, 6, 54, 4, 167, 0, 94, 45, 18, 42, 182, 0, 32, 153, 0, 85, 7, 54, 4]
abbrev dktX6_done_4 : List UInt8 := dkwX6_done_4 ++ dktX6_done_5
def dkwX6_done_3 : List UInt8 := [4, 54, 4, 167, 0, 124, 45, 18, 38, 182, 0, 32, 153, 0, 115, 5, 54, 4, 167, 0, 109, 45, 18, 40]
abbrev dktX6_done_3 : List UInt8 := dkwX6_done_3 ++ dktX6_done_4
def dkwX6_done_2 : List UInt8 := [45, 18, 30, 182, 0, 32, 153, 0, 145, 3, 54, 4, 167, 0, 139, 45, 18, 36, 182, 0, 32, 153, 0, 130]
abbrev dktX6_done_2 : List UInt8 := dkwX6_done_2 ++ dktX6_done_3
def dkwX6_done_1 : List UInt8 := [171, 0, 0, 0, 240, 0, 0, 0, 10, 208, 152, 26, 119, 0, 0, 0, 119, 0, 46, 4, 231, 0, 0, 0, 179, 0, 46, 20, 18, 0, 0, 0, 134, 0, 46, 252, 114, 0, 0, 0, 227, 0, 48, 192, 57, 0, 0, 0, 104, 0, 52, 38, 74, 0, 0, 0, 211, 0, 53, 219, 180, 0, 0, 0, 195, 0, 54, 6, 204, 0, 0, 0, 149, 0, 54, 106, 88, 0, 0, 0, 89, 6, 138, 196, 98, 0, 0, 0, 164]
abbrev dktX6_done_1 : List UInt8 := dkwX6_done_1 ++ dktX6_done_2
def dkwX6_done_0 : List UInt8 := [42, 180, 0, 15, 3, 46, 61, 42, 180, 0, 9, 78, 2, 54, 4, 45, 182, 0, 24]
abbrev dktX6_done_0 : List UInt8 := dkwX6_done_0 ++ dktX6_done_1
theorem dksX6_done_0 : cX6_done.data.toList.drop 0 = dktX6_done_0 := by decide +kernel
theorem dksX6_done_1 : cX6_done.data.toList.drop 19 = dktX6_done_1 := dk_seg dksX6_done_0 19 rfl rfl
theorem dksX6_done_2 : cX6_done.data.toList.drop 108 = dktX6_done_2 := dk_seg dksX6_done_1 89 rfl rfl
theorem dksX6_done_3 : cX6_done.data.toList.drop 132 = dktX6_done_3 := dk_seg dksX6_done_2 24 rfl rfl
theorem dksX6_done_4 : cX6_done.data.toList.drop 156 = dktX6_done_4 := dk_seg dksX6_done_3 24 rfl rfl
theorem dksX6_done_5 : cX6_done.data.toList.drop 180 = dktX6_done_5 := dk_seg dksX6_done_4 24 rfl rfl
theorem dksX6_done_6 : cX6_done.data.toList.drop 204 = dktX6_done_6 := dk_seg dksX6_done_5 24 rfl rfl
theorem dksX6_done_7 : cX6_done.data.toList.drop 227 = dktX6_done_7 := dk_seg dksX6_done_6 23 rfl rfl
theorem dksX6_done_8 : cX6_done.data.toList.drop 249 = dktX6_done_8 := dk_seg dksX6_done_7 22 rfl rfl
theorem dksX6_done_9 : cX6_done.data.toList.drop 261 = dktX6_done_9 := dk_seg dksX6_done_8 12 rfl rfl
theorem dksX6_done_10 : cX6_done.data.toList.drop 316 = dktX6_done_10 := dk_seg dksX6_done_9 55 rfl rfl
theorem dksX6_done_11 : cX6_done.data.toList.drop 340 = dktX6_done_11 := dk_seg dksX6_done_10 24 rfl rfl
theorem dksX6_done_12 : cX6_done.data.toList.drop 364 = dktX6_done_12 := dk_seg dksX6_done_11 24 rfl rfl
theorem dksX6_done_13 : cX6_done.data.toList.drop 386 = dktX6_done_13 := dk_seg dksX6_done_12 22 rfl rfl
theorem dksX6_done_14 : cX6_done.data.toList.drop 409 = dktX6_done_14 := dk_seg dksX6_done_13 23 rfl rfl
theorem dksX6_done_15 : cX6_done.data.toList.drop 432 = dktX6_done_15 := dk_seg dksX6_done_14 23 rfl rfl
theorem dX6_done_0 : DC mX6_done 0 = .ok (.aload_n 0, 1) := dk_42 (dk_at dksX6_done_0 0 rfl rfl)
theorem dX6_done_1 : DC mX6_done 1 = .ok (.getfield 15, 3) := dk_180 0 15 (dk_at dksX6_done_0 1 rfl rfl)
theorem dX6_done_4 : DC mX6_done 4 = .ok (.iconst 0, 1) := dk_3 (dk_at dksX6_done_0 4 rfl rfl)
theorem dX6_done_5 : DC mX6_done 5 = .ok (.iaload, 1) := dk_46 (dk_at dksX6_done_0 5 rfl rfl)
theorem dX6_done_6 : DC mX6_done 6 = .ok (.istore_n 2, 1) := dk_61 (dk_at dksX6_done_0 6 rfl rfl)
theorem dX6_done_7 : DC mX6_done 7 = .ok (.aload_n 0, 1) := dk_42 (dk_at dksX6_done_0 7 rfl rfl)
theorem dX6_done_8 : DC mX6_done 8 = .ok (.getfield 9, 3) := dk_180 0 9 (dk_at dksX6_done_0 8 rfl rfl)
theorem dX6_done_11 : DC mX6_done 11 = .ok (.astore_n 3, 1) := dk_78 (dk_at dksX6_done_0 11 rfl rfl)
theorem dX6_done_12 : DC mX6_done 12 = .ok (.iconst (-1), 1) := dk_2 (dk_at dksX6_done_0 12 rfl rfl)
theorem dX6_done_13 : DC mX6_done 13 = .ok (.istore 4, 2) := dk_54 4 (dk_at dksX6_done_0 13 rfl rfl)
theorem dX6_done_15 : DC mX6_done 15 = .ok (.aload_n 3, 1) := dk_45 (dk_at dksX6_done_0 15 rfl rfl)
theorem dX6_done_16 : DC mX6_done 16 = .ok (.invokevirtual 24, 3) := dk_182 0 24 (dk_at dksX6_done_0 16 rfl rfl)
theorem dX6_done_19 : DC mX6_done 19 = .ok (.lookupswitch 240 #[(-795338121, 119), (3015911, 179), (3019794, 134), (3079282, 227), (3194937, 104), (3417674, 211), (3529652, 195), (3540684, 149), (3566168, 89), (109757538, 164)], 89) := by decide +kernel
theorem dX6_done_108 : DC mX6_done 108 = .ok (.aload_n 3, 1) := dk_45 (dk_at dksX6_done_2 0 rfl rfl)
theorem dX6_done_109 : DC mX6_done 109 = .ok (.ldc 30, 2) := dk_18 30 (dk_at dksX6_done_2 1 rfl rfl)
theorem dX6_done_111 : DC mX6_done 111 = .ok (.invokevirtual 32, 3) := dk_182 0 32 (dk_at dksX6_done_2 3 rfl rfl)
theorem dX6_done_114 : DC mX6_done 114 = .ok (.ifCond .eq 145, 3) := dk_153 0 145 (dk_at dksX6_done_2 6 rfl rfl)
theorem dX6_done_117 : DC mX6_done 117 = .ok (.iconst 0, 1) := dk_3 (dk_at dksX6_done_2 9 rfl rfl)
theorem dX6_done_118 : DC mX6_done 118 = .ok (.istore 4, 2) := dk_54 4 (dk_at dksX6_done_2 10 rfl rfl)
theorem dX6_done_120 : DC mX6_done 120 = .ok (.goto 139, 3) := dk_167 0 139 (dk_at dksX6_done_2 12 rfl rfl)
theorem dX6_done_123 : DC mX6_done 123 = .ok (.aload_n 3, 1) := dk_45 (dk_at dksX6_done_2 15 rfl rfl)
theorem dX6_done_124 : DC mX6_done 124 = .ok (.ldc 36, 2) := dk_18 36 (dk_at dksX6_done_2 16 rfl rfl)
theorem dX6_done_126 : DC mX6_done 126 = .ok (.invokevirtual 32, 3) := dk_182 0 32 (dk_at dksX6_done_2 18 rfl rfl)
theorem dX6_done_129 : DC mX6_done 129 = .ok (.ifCond .eq 130, 3) := dk_153 0 130 (dk_at dksX6_done_2 21 rfl rfl)
theorem dX6_done_132 : DC mX6_done 132 = .ok (.iconst 1, 1) := dk_4 (dk_at dksX6_done_3 0 rfl rfl)
theorem dX6_done_133 : DC mX6_done 133 = .ok (.istore 4, 2) := dk_54 4 (dk_at dksX6_done_3 1 rfl rfl)
theorem dX6_done_135 : DC mX6_done 135 = .ok (.goto 124, 3) := dk_167 0 124 (dk_at dksX6_done_3 3 rfl rfl)
theorem dX6_done_138 : DC mX6_done 138 = .ok (.aload_n 3, 1) := dk_45 (dk_at dksX6_done_3 6 rfl rfl)
theorem dX6_done_139 : DC mX6_done 139 = .ok (.ldc 38, 2) := dk_18 38 (dk_at dksX6_done_3 7 rfl rfl)
theorem dX6_done_141 : DC mX6_done 141 = .ok (.invokevirtual 32, 3) := dk_182 0 32 (dk_at dksX6_done_3 9 rfl rfl)
theorem dX6_done_144 : DC mX6_done 144 = .ok (.ifCond .eq 115, 3) := dk_153 0 115 (dk_at dksX6_done_3 12 rfl rfl)
theorem dX6_done_147 : DC mX6_done 147 = .ok (.iconst 2, 1) := dk_5 (dk_at dksX6_done_3 15 rfl rfl)
theorem dX6_done_148 : DC mX6_done 148 = .ok (.istore 4, 2) := dk_54 4 (dk_at dksX6_done_3 16 rfl rfl)
theorem dX6_done_150 : DC mX6_done 150 = .ok (.goto 109, 3) := dk_167 0 109 (dk_at dksX6_done_3 18 rfl rfl)
theorem dX6_done_153 : DC mX6_done 153 = .ok (.aload_n 3, 1) := dk_45 (dk_at dksX6_done_3 21 rfl rfl)
theorem dX6_done_154 : DC mX6_done 154 = .ok (.ldc 40, 2) := dk_18 40 (dk_at dksX6_done_3 22 rfl rfl)
theorem dX6_done_156 : DC mX6_done 156 = .ok (.invokevirtual 32, 3) := dk_182 0 32 (dk_at dksX6_done_4 0 rfl rfl)
theorem dX6_done_159 : DC mX6_done 159 = .ok (.ifCond .eq 100, 3) := dk_153 0 100 (dk_at dksX6_done_4 3 rfl rfl)
theorem dX6_done_162 : DC mX6_done 162 = .ok (.iconst 3, 1) := dk_6 (dk_at dksX6_done_4 6 rfl rfl)
theorem dX6_done_163 : DC mX6_done 163 = .ok (.istore 4, 2) := dk_54 4 (dk_at dksX6_done_4 7 rfl rfl)
theorem dX6_done_165 : DC mX6_done 165 = .ok (.goto 94, 3) := dk_167 0 94 (dk_at dksX6_done_4 9 rfl rfl)
theorem dX6_done_168 : DC mX6_done 168 = .ok (.aload_n 3, 1) := dk_45 (dk_at dksX6_done_4 12 rfl rfl)
theorem dX6_done_169 : DC mX6_done 169 = .ok (.ldc 42, 2) := dk_18 42 (dk_at dksX6_done_4 13 rfl rfl)
theorem dX6_done_171 : DC mX6_done 171 = .ok (.invokevirtual 32, 3) := dk_182 0 32 (dk_at dksX6_done_4 15 rfl rfl)
theorem dX6_done_174 : DC mX6_done 174 = .ok (.ifCond .eq 85, 3) := dk_153 0 85 (dk_at dksX6_done_4 18 rfl rfl)
theorem dX6_done_177 : DC mX6_done 177 = .ok (.iconst 4, 1) := dk_7 (dk_at dksX6_done_4 21 rfl rfl)
theorem dX6_done_178 : DC mX6_done 178 = .ok (.istore 4, 2) := dk_54 4 (dk_at dksX6_done_4 22 rfl rfl)
theorem dX6_done_180 : DC mX6_done 180 = .ok (.goto 79, 3) := dk_167 0 79 (dk_at dksX6_done_5 0 rfl rfl)
theorem dX6_done_183 : DC mX6_done 183 = .ok (.aload_n 3, 1) := dk_45 (dk_at dksX6_done_5 3 rfl rfl)
theorem dX6_done_184 : DC mX6_done 184 = .ok (.ldc 44, 2) := dk_18 44 (dk_at dksX6_done_5 4 rfl rfl)
theorem dX6_done_186 : DC mX6_done 186 = .ok (.invokevirtual 32, 3) := dk_182 0 32 (dk_at dksX6_done_5 6 rfl rfl)
theorem dX6_done_189 : DC mX6_done 189 = .ok (.ifCond .eq 70, 3) := dk_153 0 70 (dk_at dksX6_done_5 9 rfl rfl)
theorem dX6_done_192 : DC mX6_done 192 = .ok (.iconst 5, 1) := dk_8 (dk_at dksX6_done_5 12 rfl rfl)
theorem dX6_done_193 : DC mX6_done 193 = .ok (.istore 4, 2) := dk_54 4 (dk_at dksX6_done_5 13 rfl rfl)
theorem dX6_done_195 : DC mX6_done 195 = .ok (.goto 64, 3) := dk_167 0 64 (dk_at dksX6_done_5 15 rfl rfl)
theorem dX6_done_198 : DC mX6_done 198 = .ok (.aload_n 3, 1) := dk_45 (dk_at dksX6_done_5 18 rfl rfl)
theorem dX6_done_199 : DC mX6_done 199 = .ok (.ldc 46, 2) := dk_18 46 (dk_at dksX6_done_5 19 rfl rfl)
theorem dX6_done_201 : DC mX6_done 201 = .ok (.invokevirtual 32, 3) := dk_182 0 32 (dk_at dksX6_done_5 21 rfl rfl)
theorem dX6_done_204 : DC mX6_done 204 = .ok (.ifCond .eq 55, 3) := dk_153 0 55 (dk_at dksX6_done_6 0 rfl rfl)
theorem dX6_done_207 : DC mX6_done 207 = .ok (.bipush 6, 2) := dk_16 6 (dk_at dksX6_done_6 3 rfl rfl)
theorem dX6_done_209 : DC mX6_done 209 = .ok (.istore 4, 2) := dk_54 4 (dk_at dksX6_done_6 5 rfl rfl)
theorem dX6_done_211 : DC mX6_done 211 = .ok (.goto 48, 3) := dk_167 0 48 (dk_at dksX6_done_6 7 rfl rfl)
theorem dX6_done_214 : DC mX6_done 214 = .ok (.aload_n 3, 1) := dk_45 (dk_at dksX6_done_6 10 rfl rfl)
theorem dX6_done_215 : DC mX6_done 215 = .ok (.ldc 48, 2) := dk_18 48 (dk_at dksX6_done_6 11 rfl rfl)
theorem dX6_done_217 : DC mX6_done 217 = .ok (.invokevirtual 32, 3) := dk_182 0 32 (dk_at dksX6_done_6 13 rfl rfl)
theorem dX6_done_220 : DC mX6_done 220 = .ok (.ifCond .eq 39, 3) := dk_153 0 39 (dk_at dksX6_done_6 16 rfl rfl)
theorem dX6_done_223 : DC mX6_done 223 = .ok (.bipush 7, 2) := dk_16 7 (dk_at dksX6_done_6 19 rfl rfl)
theorem dX6_done_225 : DC mX6_done 225 = .ok (.istore 4, 2) := dk_54 4 (dk_at dksX6_done_6 21 rfl rfl)
theorem dX6_done_227 : DC mX6_done 227 = .ok (.goto 32, 3) := dk_167 0 32 (dk_at dksX6_done_7 0 rfl rfl)
theorem dX6_done_230 : DC mX6_done 230 = .ok (.aload_n 3, 1) := dk_45 (dk_at dksX6_done_7 3 rfl rfl)
theorem dX6_done_231 : DC mX6_done 231 = .ok (.ldc 50, 2) := dk_18 50 (dk_at dksX6_done_7 4 rfl rfl)
theorem dX6_done_233 : DC mX6_done 233 = .ok (.invokevirtual 32, 3) := dk_182 0 32 (dk_at dksX6_done_7 6 rfl rfl)
theorem dX6_done_236 : DC mX6_done 236 = .ok (.ifCond .eq 23, 3) := dk_153 0 23 (dk_at dksX6_done_7 9 rfl rfl)
theorem dX6_done_239 : DC mX6_done 239 = .ok (.bipush 8, 2) := dk_16 8 (dk_at dksX6_done_7 12 rfl rfl)
theorem dX6_done_241 : DC mX6_done 241 = .ok (.istore 4, 2) := dk_54 4 (dk_at dksX6_done_7 14 rfl rfl)
theorem dX6_done_243 : DC mX6_done 243 = .ok (.goto 16, 3) := dk_167 0 16 (dk_at dksX6_done_7 16 rfl rfl)
theorem dX6_done_246 : DC mX6_done 246 = .ok (.aload_n 3, 1) := dk_45 (dk_at dksX6_done_7 19 rfl rfl)
theorem dX6_done_247 : DC mX6_done 247 = .ok (.ldc 52, 2) := dk_18 52 (dk_at dksX6_done_7 20 rfl rfl)
theorem dX6_done_249 : DC mX6_done 249 = .ok (.invokevirtual 32, 3) := dk_182 0 32 (dk_at dksX6_done_8 0 rfl rfl)
theorem dX6_done_252 : DC mX6_done 252 = .ok (.ifCond .eq 7, 3) := dk_153 0 7 (dk_at dksX6_done_8 3 rfl rfl)
theorem dX6_done_255 : DC mX6_done 255 = .ok (.bipush 9, 2) := dk_16 9 (dk_at dksX6_done_8 6 rfl rfl)
theorem dX6_done_257 : DC mX6_done 257 = .ok (.istore 4, 2) := dk_54 4 (dk_at dksX6_done_8 8 rfl rfl)
theorem dX6_done_259 : DC mX6_done 259 = .ok (.iload 4, 2) := dk_21 4 (dk_at dksX6_done_8 10 rfl rfl)
theorem dX6_done_261 : DC mX6_done 261 = .ok (.tableswitch 177 0 9 #[55, 63, 76, 89, 102, 120, 128, 145, 154, 163], 55) := by decide +kernel
theorem dX6_done_316 : DC mX6_done 316 = .ok (.aload_n 1, 1) := dk_43 (dk_at dksX6_done_10 0 rfl rfl)
theorem dX6_done_317 : DC mX6_done 317 = .ok (.iload_n 2, 1) := dk_28 (dk_at dksX6_done_10 1 rfl rfl)
theorem dX6_done_318 : DC mX6_done 318 = .ok (.invokevirtual 54, 3) := dk_182 0 54 (dk_at dksX6_done_10 2 rfl rfl)
theorem dX6_done_321 : DC mX6_done 321 = .ok (.goto 122, 3) := dk_167 0 122 (dk_at dksX6_done_10 5 rfl rfl)
theorem dX6_done_324 : DC mX6_done 324 = .ok (.aload_n 1, 1) := dk_43 (dk_at dksX6_done_10 8 rfl rfl)
theorem dX6_done_325 : DC mX6_done 325 = .ok (.iload_n 2, 1) := dk_28 (dk_at dksX6_done_10 9 rfl rfl)
theorem dX6_done_326 : DC mX6_done 326 = .ok (.aload_n 0, 1) := dk_42 (dk_at dksX6_done_10 10 rfl rfl)
theorem dX6_done_327 : DC mX6_done 327 = .ok (.iconst 0, 1) := dk_3 (dk_at dksX6_done_10 11 rfl rfl)
theorem dX6_done_328 : DC mX6_done 328 = .ok (.invokevirtual 60, 3) := dk_182 0 60 (dk_at dksX6_done_10 12 rfl rfl)
theorem dX6_done_331 : DC mX6_done 331 = .ok (.invokevirtual 63, 3) := dk_182 0 63 (dk_at dksX6_done_10 15 rfl rfl)
theorem dX6_done_334 : DC mX6_done 334 = .ok (.goto 109, 3) := dk_167 0 109 (dk_at dksX6_done_10 18 rfl rfl)
theorem dX6_done_337 : DC mX6_done 337 = .ok (.aload_n 1, 1) := dk_43 (dk_at dksX6_done_10 21 rfl rfl)
theorem dX6_done_338 : DC mX6_done 338 = .ok (.iload_n 2, 1) := dk_28 (dk_at dksX6_done_10 22 rfl rfl)
theorem dX6_done_339 : DC mX6_done 339 = .ok (.aload_n 0, 1) := dk_42 (dk_at dksX6_done_10 23 rfl rfl)
theorem dX6_done_340 : DC mX6_done 340 = .ok (.iconst 1, 1) := dk_4 (dk_at dksX6_done_11 0 rfl rfl)
theorem dX6_done_341 : DC mX6_done 341 = .ok (.invokevirtual 60, 3) := dk_182 0 60 (dk_at dksX6_done_11 1 rfl rfl)
theorem dX6_done_344 : DC mX6_done 344 = .ok (.invokevirtual 63, 3) := dk_182 0 63 (dk_at dksX6_done_11 4 rfl rfl)
theorem dX6_done_347 : DC mX6_done 347 = .ok (.goto 96, 3) := dk_167 0 96 (dk_at dksX6_done_11 7 rfl rfl)
theorem dX6_done_350 : DC mX6_done 350 = .ok (.aload_n 1, 1) := dk_43 (dk_at dksX6_done_11 10 rfl rfl)
theorem dX6_done_351 : DC mX6_done 351 = .ok (.iload_n 2, 1) := dk_28 (dk_at dksX6_done_11 11 rfl rfl)
theorem dX6_done_352 : DC mX6_done 352 = .ok (.aload_n 0, 1) := dk_42 (dk_at dksX6_done_11 12 rfl rfl)
theorem dX6_done_353 : DC mX6_done 353 = .ok (.iconst 2, 1) := dk_5 (dk_at dksX6_done_11 13 rfl rfl)
theorem dX6_done_354 : DC mX6_done 354 = .ok (.invokevirtual 60, 3) := dk_182 0 60 (dk_at dksX6_done_11 14 rfl rfl)
theorem dX6_done_357 : DC mX6_done 357 = .ok (.invokevirtual 63, 3) := dk_182 0 63 (dk_at dksX6_done_11 17 rfl rfl)
theorem dX6_done_360 : DC mX6_done 360 = .ok (.goto 83, 3) := dk_167 0 83 (dk_at dksX6_done_11 20 rfl rfl)
theorem dX6_done_363 : DC mX6_done 363 = .ok (.aload_n 1, 1) := dk_43 (dk_at dksX6_done_11 23 rfl rfl)
theorem dX6_done_364 : DC mX6_done 364 = .ok (.iload_n 2, 1) := dk_28 (dk_at dksX6_done_12 0 rfl rfl)
theorem dX6_done_365 : DC mX6_done 365 = .ok (.aload_n 0, 1) := dk_42 (dk_at dksX6_done_12 1 rfl rfl)
theorem dX6_done_366 : DC mX6_done 366 = .ok (.aload_n 0, 1) := dk_42 (dk_at dksX6_done_12 2 rfl rfl)
theorem dX6_done_367 : DC mX6_done 367 = .ok (.getfield 15, 3) := dk_180 0 15 (dk_at dksX6_done_12 3 rfl rfl)
theorem dX6_done_370 : DC mX6_done 370 = .ok (.iconst 4, 1) := dk_7 (dk_at dksX6_done_12 6 rfl rfl)
theorem dX6_done_371 : DC mX6_done 371 = .ok (.iaload, 1) := dk_46 (dk_at dksX6_done_12 7 rfl rfl)
theorem dX6_done_372 : DC mX6_done 372 = .ok (.invokevirtual 60, 3) := dk_182 0 60 (dk_at dksX6_done_12 8 rfl rfl)
theorem dX6_done_375 : DC mX6_done 375 = .ok (.invokevirtual 63, 3) := dk_182 0 63 (dk_at dksX6_done_12 11 rfl rfl)
theorem dX6_done_378 : DC mX6_done 378 = .ok (.goto 65, 3) := dk_167 0 65 (dk_at dksX6_done_12 14 rfl rfl)
theorem dX6_done_381 : DC mX6_done 381 = .ok (.aload_n 1, 1) := dk_43 (dk_at dksX6_done_12 17 rfl rfl)
theorem dX6_done_382 : DC mX6_done 382 = .ok (.iload_n 2, 1) := dk_28 (dk_at dksX6_done_12 18 rfl rfl)
theorem dX6_done_383 : DC mX6_done 383 = .ok (.invokevirtual 67, 3) := dk_182 0 67 (dk_at dksX6_done_12 19 rfl rfl)
theorem dX6_done_386 : DC mX6_done 386 = .ok (.goto 57, 3) := dk_167 0 57 (dk_at dksX6_done_13 0 rfl rfl)
theorem dX6_done_389 : DC mX6_done 389 = .ok (.aload_n 1, 1) := dk_43 (dk_at dksX6_done_13 3 rfl rfl)
theorem dX6_done_390 : DC mX6_done 390 = .ok (.getfield 69, 3) := dk_180 0 69 (dk_at dksX6_done_13 4 rfl rfl)
theorem dX6_done_393 : DC mX6_done 393 = .ok (.iload_n 2, 1) := dk_28 (dk_at dksX6_done_13 7 rfl rfl)
theorem dX6_done_394 : DC mX6_done 394 = .ok (.invokestatic 73, 3) := dk_184 0 73 (dk_at dksX6_done_13 8 rfl rfl)
theorem dX6_done_397 : DC mX6_done 397 = .ok (.checkcast 77, 3) := dk_192 0 77 (dk_at dksX6_done_13 11 rfl rfl)
theorem dX6_done_400 : DC mX6_done 400 = .ok (.invokevirtual 79, 3) := dk_182 0 79 (dk_at dksX6_done_13 14 rfl rfl)
theorem dX6_done_403 : DC mX6_done 403 = .ok (.goto 40, 3) := dk_167 0 40 (dk_at dksX6_done_13 17 rfl rfl)
theorem dX6_done_406 : DC mX6_done 406 = .ok (.aload_n 1, 1) := dk_43 (dk_at dksX6_done_13 20 rfl rfl)
theorem dX6_done_407 : DC mX6_done 407 = .ok (.iload_n 2, 1) := dk_28 (dk_at dksX6_done_13 21 rfl rfl)
theorem dX6_done_408 : DC mX6_done 408 = .ok (.iconst 1, 1) := dk_4 (dk_at dksX6_done_13 22 rfl rfl)
theorem dX6_done_409 : DC mX6_done 409 = .ok (.invokevirtual 82, 3) := dk_182 0 82 (dk_at dksX6_done_14 0 rfl rfl)
theorem dX6_done_412 : DC mX6_done 412 = .ok (.goto 31, 3) := dk_167 0 31 (dk_at dksX6_done_14 3 rfl rfl)
theorem dX6_done_415 : DC mX6_done 415 = .ok (.aload_n 1, 1) := dk_43 (dk_at dksX6_done_14 6 rfl rfl)
theorem dX6_done_416 : DC mX6_done 416 = .ok (.iload_n 2, 1) := dk_28 (dk_at dksX6_done_14 7 rfl rfl)
theorem dX6_done_417 : DC mX6_done 417 = .ok (.iconst 0, 1) := dk_3 (dk_at dksX6_done_14 8 rfl rfl)
theorem dX6_done_418 : DC mX6_done 418 = .ok (.invokevirtual 82, 3) := dk_182 0 82 (dk_at dksX6_done_14 9 rfl rfl)
theorem dX6_done_421 : DC mX6_done 421 = .ok (.goto 22, 3) := dk_167 0 22 (dk_at dksX6_done_14 12 rfl rfl)
theorem dX6_done_424 : DC mX6_done 424 = .ok (.aload_n 1, 1) := dk_43 (dk_at dksX6_done_14 15 rfl rfl)
theorem dX6_done_425 : DC mX6_done 425 = .ok (.iload_n 2, 1) := dk_28 (dk_at dksX6_done_14 16 rfl rfl)
theorem dX6_done_426 : DC mX6_done 426 = .ok (.aload_n 0, 1) := dk_42 (dk_at dksX6_done_14 17 rfl rfl)
theorem dX6_done_427 : DC mX6_done 427 = .ok (.getfield 15, 3) := dk_180 0 15 (dk_at dksX6_done_14 18 rfl rfl)
theorem dX6_done_430 : DC mX6_done 430 = .ok (.iconst 1, 1) := dk_4 (dk_at dksX6_done_14 21 rfl rfl)
theorem dX6_done_431 : DC mX6_done 431 = .ok (.iaload, 1) := dk_46 (dk_at dksX6_done_14 22 rfl rfl)
theorem dX6_done_432 : DC mX6_done 432 = .ok (.invokevirtual 85, 3) := dk_182 0 85 (dk_at dksX6_done_15 0 rfl rfl)
theorem dX6_done_435 : DC mX6_done 435 = .ok (.goto 8, 3) := dk_167 0 8 (dk_at dksX6_done_15 3 rfl rfl)
theorem dX6_done_438 : DC mX6_done 438 = .ok (.aload_n 1, 1) := dk_43 (dk_at dksX6_done_15 6 rfl rfl)
theorem dX6_done_439 : DC mX6_done 439 = .ok (.iload_n 2, 1) := dk_28 (dk_at dksX6_done_15 7 rfl rfl)
theorem dX6_done_440 : DC mX6_done 440 = .ok (.invokevirtual 88, 3) := dk_182 0 88 (dk_at dksX6_done_15 8 rfl rfl)
theorem dX6_done_443 : DC mX6_done 443 = .ok (.ireturn, 1) := dk_172 (dk_at dksX6_done_15 11 rfl rfl)
abbrev cX6_step : ByteArray := prog_3_method_2_code
def yX6_step : MethodName := ⟨RX6, "step", "(I)LTheatreSaga$Step;"⟩
def mX6_step : MI := (⟨"TheatreSaga$Deed", "step", "(I)LTheatreSaga$Step;"⟩, prog_3_method_2_code, 2, (Option.some (FieldType.object "TheatreSaga$Step")), none, 44, 4)
theorem oX6_step : mO mX6_step = 44 := rfl
theorem lX6_step : mL mX6_step = 2 := rfl
theorem rX6_step : mR mX6_step = (Option.some (FieldType.object "TheatreSaga$Step")) := rfl
theorem vX6_step : mV mX6_step = 4 := rfl
theorem nX6_step : (mY mX6_step).name = "step" := rfl
theorem hX6_step : mH mX6_step = none := rfl
theorem kX6_step : MOk mX6_step := ⟨q1381, q109, by decide +kernel⟩
theorem gX6_step : plainName (mY mX6_step).cls = true ∧ (mY mX6_step).cls = "TheatreSaga$Deed" := ⟨by decide +kernel, rfl⟩
def dkwX6_step_1 : List UInt8 := [183, 0, 21, 176]
abbrev dktX6_step_1 : List UInt8 := dkwX6_step_1 ++ []
def dkwX6_step_0 : List UInt8 := [187, 0, 19, 89, 27, 42, 180, 0, 15, 4, 46, 42, 180, 0, 15, 5, 46, 42, 180, 0, 15, 6, 46]
abbrev dktX6_step_0 : List UInt8 := dkwX6_step_0 ++ dktX6_step_1
theorem dksX6_step_0 : cX6_step.data.toList.drop 0 = dktX6_step_0 := by decide +kernel
theorem dksX6_step_1 : cX6_step.data.toList.drop 23 = dktX6_step_1 := dk_seg dksX6_step_0 23 rfl rfl
theorem dX6_step_0 : DC mX6_step 0 = .ok (.new 19, 3) := dk_187 0 19 (dk_at dksX6_step_0 0 rfl rfl)
theorem dX6_step_3 : DC mX6_step 3 = .ok (.dup, 1) := dk_89 (dk_at dksX6_step_0 3 rfl rfl)
theorem dX6_step_4 : DC mX6_step 4 = .ok (.iload_n 1, 1) := dk_27 (dk_at dksX6_step_0 4 rfl rfl)
theorem dX6_step_5 : DC mX6_step 5 = .ok (.aload_n 0, 1) := dk_42 (dk_at dksX6_step_0 5 rfl rfl)
theorem dX6_step_6 : DC mX6_step 6 = .ok (.getfield 15, 3) := dk_180 0 15 (dk_at dksX6_step_0 6 rfl rfl)
theorem dX6_step_9 : DC mX6_step 9 = .ok (.iconst 1, 1) := dk_4 (dk_at dksX6_step_0 9 rfl rfl)
theorem dX6_step_10 : DC mX6_step 10 = .ok (.iaload, 1) := dk_46 (dk_at dksX6_step_0 10 rfl rfl)
theorem dX6_step_11 : DC mX6_step 11 = .ok (.aload_n 0, 1) := dk_42 (dk_at dksX6_step_0 11 rfl rfl)
theorem dX6_step_12 : DC mX6_step 12 = .ok (.getfield 15, 3) := dk_180 0 15 (dk_at dksX6_step_0 12 rfl rfl)
theorem dX6_step_15 : DC mX6_step 15 = .ok (.iconst 2, 1) := dk_5 (dk_at dksX6_step_0 15 rfl rfl)
theorem dX6_step_16 : DC mX6_step 16 = .ok (.iaload, 1) := dk_46 (dk_at dksX6_step_0 16 rfl rfl)
theorem dX6_step_17 : DC mX6_step 17 = .ok (.aload_n 0, 1) := dk_42 (dk_at dksX6_step_0 17 rfl rfl)
theorem dX6_step_18 : DC mX6_step 18 = .ok (.getfield 15, 3) := dk_180 0 15 (dk_at dksX6_step_0 18 rfl rfl)
theorem dX6_step_21 : DC mX6_step 21 = .ok (.iconst 3, 1) := dk_6 (dk_at dksX6_step_0 21 rfl rfl)
theorem dX6_step_22 : DC mX6_step 22 = .ok (.iaload, 1) := dk_46 (dk_at dksX6_step_0 22 rfl rfl)
theorem dX6_step_23 : DC mX6_step 23 = .ok (.invokespecial 21, 3) := dk_183 0 21 (dk_at dksX6_step_1 0 rfl rfl)
theorem dX6_step_26 : DC mX6_step 26 = .ok (.areturn, 1) := dk_176 (dk_at dksX6_step_1 3 rfl rfl)
theorem in_X6 : ∀ w ∈ wsX60, w ∈ lw_all := lw_in wsX60 [1242, 1244] (by decide +kernel) (by decide +kernel)

/-! TheatreSaga$Refusal -/
set_option maxRecDepth 100000
def RX7 : String := "TheatreSaga$Refusal"
def TX7 : u_T := fun k => match k with
  | 0 => ("java/lang/Throwable", "cause", "Ljava/lang/Throwable;", false)
  | 1 => ("java/lang/Throwable", "stackTrace", "[Ljava/lang/StackTraceElement;", false)
  | 2 => ("java/lang/Throwable", "suppressedExceptions", "Ljava/util/List;", false)
  | 3 => ("java/lang/Throwable", "detailMessage", "Ljava/lang/String;", false)
  | 4 => ("java/lang/Throwable", "backtrace", "Ljava/lang/Object;", false)
  | 5 => ("java/lang/Throwable", "depth", "I", false)
  | 6 => ("TheatreSaga$Refusal", "reason", "I", true)
  | _ => ("TheatreSaga$Refusal", "detail", "I", true)
def tyX7 : Nat → FieldType := fun k => match k with
  | 0 => .object "java/lang/Throwable"
  | 1 => .array (.object "java/lang/StackTraceElement")
  | 2 => .object "java/util/List"
  | 3 => .object "java/lang/String"
  | 4 => .object "java/lang/Object"
  | 5 => .int
  | 6 => .int
  | _ => .int
abbrev wsX70 : List Cond := u_ws RX7 TX7 8
theorem nmX7 : ∀ a, a < 8 → ∀ b, b < 8 → a ≠ b → (TX7 a).2.1 ≠ (TX7 b).2.1 := by decide +kernel
theorem tyX7_ok : ∀ k, k < 8 → parseFieldDescriptor (TX7 k).2.2.1 = some (tyX7 k) := by decide +kernel
abbrev cX7_init : ByteArray := prog_6_method_1_code
def yX7_init : MethodName := ⟨RX7, "<init>", "(II)V"⟩
def mX7_init : MI := (⟨"TheatreSaga$Refusal", "<init>", "(II)V"⟩, prog_6_method_1_code, 3, (Option.none : Option FieldType), none, 45, 4)
theorem oX7_init : mO mX7_init = 45 := rfl
theorem lX7_init : mL mX7_init = 3 := rfl
theorem rX7_init : mR mX7_init = (Option.none : Option FieldType) := rfl
theorem vX7_init : mV mX7_init = 4 := rfl
theorem nX7_init : (mY mX7_init).name = "<init>" := rfl
theorem hX7_init : mH mX7_init = none := rfl
theorem kX7_init : MOk mX7_init := ⟨q1360, q110, by decide +kernel⟩
theorem gX7_init : plainName (mY mX7_init).cls = true ∧ (mY mX7_init).cls = "TheatreSaga$Refusal" := ⟨by decide +kernel, rfl⟩
def dkwX7_init_0 : List UInt8 := [42, 1, 1, 3, 3, 183, 0, 1, 42, 27, 181, 0, 7, 42, 28, 181, 0, 13, 177]
abbrev dktX7_init_0 : List UInt8 := dkwX7_init_0 ++ []
theorem dksX7_init_0 : cX7_init.data.toList.drop 0 = dktX7_init_0 := by decide +kernel
theorem dX7_init_0 : DC mX7_init 0 = .ok (.aload_n 0, 1) := dk_42 (dk_at dksX7_init_0 0 rfl rfl)
theorem dX7_init_1 : DC mX7_init 1 = .ok (.aconst_null, 1) := dk_1 (dk_at dksX7_init_0 1 rfl rfl)
theorem dX7_init_2 : DC mX7_init 2 = .ok (.aconst_null, 1) := dk_1 (dk_at dksX7_init_0 2 rfl rfl)
theorem dX7_init_3 : DC mX7_init 3 = .ok (.iconst 0, 1) := dk_3 (dk_at dksX7_init_0 3 rfl rfl)
theorem dX7_init_4 : DC mX7_init 4 = .ok (.iconst 0, 1) := dk_3 (dk_at dksX7_init_0 4 rfl rfl)
theorem dX7_init_5 : DC mX7_init 5 = .ok (.invokespecial 1, 3) := dk_183 0 1 (dk_at dksX7_init_0 5 rfl rfl)
theorem dX7_init_8 : DC mX7_init 8 = .ok (.aload_n 0, 1) := dk_42 (dk_at dksX7_init_0 8 rfl rfl)
theorem dX7_init_9 : DC mX7_init 9 = .ok (.iload_n 1, 1) := dk_27 (dk_at dksX7_init_0 9 rfl rfl)
theorem dX7_init_10 : DC mX7_init 10 = .ok (.putfield 7, 3) := dk_181 0 7 (dk_at dksX7_init_0 10 rfl rfl)
theorem dX7_init_13 : DC mX7_init 13 = .ok (.aload_n 0, 1) := dk_42 (dk_at dksX7_init_0 13 rfl rfl)
theorem dX7_init_14 : DC mX7_init 14 = .ok (.iload_n 2, 1) := dk_28 (dk_at dksX7_init_0 14 rfl rfl)
theorem dX7_init_15 : DC mX7_init 15 = .ok (.putfield 13, 3) := dk_181 0 13 (dk_at dksX7_init_0 15 rfl rfl)
theorem dX7_init_18 : DC mX7_init 18 = .ok (.return_, 1) := dk_177 (dk_at dksX7_init_0 18 rfl rfl)
theorem in_X7 : ∀ w ∈ wsX70, w ∈ lw_all := lw_in wsX70 [1353, 1354, 1355, 1356, 1357, 1375, 1371, 1373] (by decide +kernel) (by decide +kernel)

/-! TheatreSaga$Step -/
set_option maxRecDepth 100000
def RX8 : String := "TheatreSaga$Step"
def TX8 : u_T := fun k => match k with
  | 0 => ("TheatreSaga$Step", "kind", "I", true)
  | 1 => ("TheatreSaga$Step", "town", "I", true)
  | 2 => ("TheatreSaga$Step", "day", "I", true)
  | _ => ("TheatreSaga$Step", "many", "I", true)
def tyX8 : Nat → FieldType := fun k => match k with
  | 0 => .int
  | 1 => .int
  | 2 => .int
  | _ => .int
abbrev wsX80 : List Cond := u_ws RX8 TX8 4
theorem nmX8 : ∀ a, a < 4 → ∀ b, b < 4 → a ≠ b → (TX8 a).2.1 ≠ (TX8 b).2.1 := by decide +kernel
theorem tyX8_ok : ∀ k, k < 4 → parseFieldDescriptor (TX8 k).2.2.1 = some (tyX8 k) := by decide +kernel
abbrev cX8_init : ByteArray := prog_7_method_1_code
def yX8_init : MethodName := ⟨RX8, "<init>", "(IIII)V"⟩
def mX8_init : MI := (⟨"TheatreSaga$Step", "<init>", "(IIII)V"⟩, prog_7_method_1_code, 5, (Option.none : Option FieldType), none, 46, 3)
theorem oX8_init : mO mX8_init = 46 := rfl
theorem lX8_init : mL mX8_init = 5 := rfl
theorem rX8_init : mR mX8_init = (Option.none : Option FieldType) := rfl
theorem vX8_init : mV mX8_init = 3 := rfl
theorem nX8_init : (mY mX8_init).name = "<init>" := rfl
theorem hX8_init : mH mX8_init = none := rfl
theorem kX8_init : MOk mX8_init := ⟨q1386, q112, by decide +kernel⟩
theorem gX8_init : plainName (mY mX8_init).cls = true ∧ (mY mX8_init).cls = "TheatreSaga$Step" := ⟨by decide +kernel, rfl⟩
def dkwX8_init_1 : List UInt8 := [181, 0, 21, 177]
abbrev dktX8_init_1 : List UInt8 := dkwX8_init_1 ++ []
def dkwX8_init_0 : List UInt8 := [42, 183, 0, 3, 42, 27, 181, 0, 9, 42, 28, 181, 0, 15, 42, 29, 181, 0, 18, 42, 21, 4]
abbrev dktX8_init_0 : List UInt8 := dkwX8_init_0 ++ dktX8_init_1
theorem dksX8_init_0 : cX8_init.data.toList.drop 0 = dktX8_init_0 := by decide +kernel
theorem dksX8_init_1 : cX8_init.data.toList.drop 22 = dktX8_init_1 := dk_seg dksX8_init_0 22 rfl rfl
theorem dX8_init_0 : DC mX8_init 0 = .ok (.aload_n 0, 1) := dk_42 (dk_at dksX8_init_0 0 rfl rfl)
theorem dX8_init_1 : DC mX8_init 1 = .ok (.invokespecial 3, 3) := dk_183 0 3 (dk_at dksX8_init_0 1 rfl rfl)
theorem dX8_init_4 : DC mX8_init 4 = .ok (.aload_n 0, 1) := dk_42 (dk_at dksX8_init_0 4 rfl rfl)
theorem dX8_init_5 : DC mX8_init 5 = .ok (.iload_n 1, 1) := dk_27 (dk_at dksX8_init_0 5 rfl rfl)
theorem dX8_init_6 : DC mX8_init 6 = .ok (.putfield 9, 3) := dk_181 0 9 (dk_at dksX8_init_0 6 rfl rfl)
theorem dX8_init_9 : DC mX8_init 9 = .ok (.aload_n 0, 1) := dk_42 (dk_at dksX8_init_0 9 rfl rfl)
theorem dX8_init_10 : DC mX8_init 10 = .ok (.iload_n 2, 1) := dk_28 (dk_at dksX8_init_0 10 rfl rfl)
theorem dX8_init_11 : DC mX8_init 11 = .ok (.putfield 15, 3) := dk_181 0 15 (dk_at dksX8_init_0 11 rfl rfl)
theorem dX8_init_14 : DC mX8_init 14 = .ok (.aload_n 0, 1) := dk_42 (dk_at dksX8_init_0 14 rfl rfl)
theorem dX8_init_15 : DC mX8_init 15 = .ok (.iload_n 3, 1) := dk_29 (dk_at dksX8_init_0 15 rfl rfl)
theorem dX8_init_16 : DC mX8_init 16 = .ok (.putfield 18, 3) := dk_181 0 18 (dk_at dksX8_init_0 16 rfl rfl)
theorem dX8_init_19 : DC mX8_init 19 = .ok (.aload_n 0, 1) := dk_42 (dk_at dksX8_init_0 19 rfl rfl)
theorem dX8_init_20 : DC mX8_init 20 = .ok (.iload 4, 2) := dk_21 4 (dk_at dksX8_init_0 20 rfl rfl)
theorem dX8_init_22 : DC mX8_init 22 = .ok (.putfield 21, 3) := dk_181 0 21 (dk_at dksX8_init_1 0 rfl rfl)
theorem dX8_init_25 : DC mX8_init 25 = .ok (.return_, 1) := dk_177 (dk_at dksX8_init_1 3 rfl rfl)
abbrev cX8_town : ByteArray := prog_7_method_8_code
def yX8_town : MethodName := ⟨RX8, "town", "()I"⟩
def mX8_town : MI := (⟨"TheatreSaga$Step", "town", "()I"⟩, prog_7_method_8_code, 1, (Option.some FieldType.int), none, 46, 1)
theorem oX8_town : mO mX8_town = 46 := rfl
theorem lX8_town : mL mX8_town = 1 := rfl
theorem rX8_town : mR mX8_town = (Option.some FieldType.int) := rfl
theorem vX8_town : mV mX8_town = 1 := rfl
theorem nX8_town : (mY mX8_town).name = "town" := rfl
theorem hX8_town : mH mX8_town = none := rfl
theorem kX8_town : MOk mX8_town := ⟨q1424, q112, by decide +kernel⟩
theorem gX8_town : plainName (mY mX8_town).cls = true ∧ (mY mX8_town).cls = "TheatreSaga$Step" := ⟨by decide +kernel, rfl⟩
theorem dX8_town_0 : DC mX8_town 0 = .ok (.aload_n 0, 1) := by decide +kernel
theorem dX8_town_1 : DC mX8_town 1 = .ok (.getfield 15, 3) := by decide +kernel
theorem dX8_town_4 : DC mX8_town 4 = .ok (.ireturn, 1) := by decide +kernel
abbrev cX8_day : ByteArray := prog_7_method_9_code
def yX8_day : MethodName := ⟨RX8, "day", "()I"⟩
def mX8_day : MI := (⟨"TheatreSaga$Step", "day", "()I"⟩, prog_7_method_9_code, 1, (Option.some FieldType.int), none, 46, 1)
theorem oX8_day : mO mX8_day = 46 := rfl
theorem lX8_day : mL mX8_day = 1 := rfl
theorem rX8_day : mR mX8_day = (Option.some FieldType.int) := rfl
theorem vX8_day : mV mX8_day = 1 := rfl
theorem nX8_day : (mY mX8_day).name = "day" := rfl
theorem hX8_day : mH mX8_day = none := rfl
theorem kX8_day : MOk mX8_day := ⟨q1428, q112, by decide +kernel⟩
theorem gX8_day : plainName (mY mX8_day).cls = true ∧ (mY mX8_day).cls = "TheatreSaga$Step" := ⟨by decide +kernel, rfl⟩
theorem dX8_day_0 : DC mX8_day 0 = .ok (.aload_n 0, 1) := by decide +kernel
theorem dX8_day_1 : DC mX8_day 1 = .ok (.getfield 18, 3) := by decide +kernel
theorem dX8_day_4 : DC mX8_day 4 = .ok (.ireturn, 1) := by decide +kernel
abbrev cX8_kind : ByteArray := prog_7_method_7_code
def yX8_kind : MethodName := ⟨RX8, "kind", "()I"⟩
def mX8_kind : MI := (⟨"TheatreSaga$Step", "kind", "()I"⟩, prog_7_method_7_code, 1, (Option.some FieldType.int), none, 46, 1)
theorem oX8_kind : mO mX8_kind = 46 := rfl
theorem lX8_kind : mL mX8_kind = 1 := rfl
theorem rX8_kind : mR mX8_kind = (Option.some FieldType.int) := rfl
theorem vX8_kind : mV mX8_kind = 1 := rfl
theorem nX8_kind : (mY mX8_kind).name = "kind" := rfl
theorem hX8_kind : mH mX8_kind = none := rfl
theorem kX8_kind : MOk mX8_kind := ⟨q1432, q112, by decide +kernel⟩
theorem gX8_kind : plainName (mY mX8_kind).cls = true ∧ (mY mX8_kind).cls = "TheatreSaga$Step" := ⟨by decide +kernel, rfl⟩
theorem dX8_kind_0 : DC mX8_kind 0 = .ok (.aload_n 0, 1) := by decide +kernel
theorem dX8_kind_1 : DC mX8_kind 1 = .ok (.getfield 9, 3) := by decide +kernel
theorem dX8_kind_4 : DC mX8_kind 4 = .ok (.ireturn, 1) := by decide +kernel
abbrev cX8_many : ByteArray := prog_7_method_10_code
def yX8_many : MethodName := ⟨RX8, "many", "()I"⟩
def mX8_many : MI := (⟨"TheatreSaga$Step", "many", "()I"⟩, prog_7_method_10_code, 1, (Option.some FieldType.int), none, 46, 1)
theorem oX8_many : mO mX8_many = 46 := rfl
theorem lX8_many : mL mX8_many = 1 := rfl
theorem rX8_many : mR mX8_many = (Option.some FieldType.int) := rfl
theorem vX8_many : mV mX8_many = 1 := rfl
theorem nX8_many : (mY mX8_many).name = "many" := rfl
theorem hX8_many : mH mX8_many = none := rfl
theorem kX8_many : MOk mX8_many := ⟨q1436, q112, by decide +kernel⟩
theorem gX8_many : plainName (mY mX8_many).cls = true ∧ (mY mX8_many).cls = "TheatreSaga$Step" := ⟨by decide +kernel, rfl⟩
theorem dX8_many_0 : DC mX8_many 0 = .ok (.aload_n 0, 1) := by decide +kernel
theorem dX8_many_1 : DC mX8_many 1 = .ok (.getfield 21, 3) := by decide +kernel
theorem dX8_many_4 : DC mX8_many 4 = .ok (.ireturn, 1) := by decide +kernel
abbrev cX8_isLike : ByteArray := prog_7_method_2_code
def yX8_isLike : MethodName := ⟨RX8, "isLike", "(LTheatreSaga$Step;)Z"⟩
def mX8_isLike : MI := (⟨"TheatreSaga$Step", "isLike", "(LTheatreSaga$Step;)Z"⟩, prog_7_method_2_code, 2, (Option.some FieldType.boolean), none, 46, 1)
theorem oX8_isLike : mO mX8_isLike = 46 := rfl
theorem lX8_isLike : mL mX8_isLike = 2 := rfl
theorem rX8_isLike : mR mX8_isLike = (Option.some FieldType.boolean) := rfl
theorem vX8_isLike : mV mX8_isLike = 1 := rfl
theorem nX8_isLike : (mY mX8_isLike).name = "isLike" := rfl
theorem hX8_isLike : mH mX8_isLike = none := rfl
theorem kX8_isLike : MOk mX8_isLike := ⟨q1485, q112, by decide +kernel⟩
theorem gX8_isLike : plainName (mY mX8_isLike).cls = true ∧ (mY mX8_isLike).cls = "TheatreSaga$Step" := ⟨by decide +kernel, rfl⟩
def dkwX8_isLike_1 : List UInt8 := [180, 0, 18, 43, 180, 0, 18, 160, 0, 7, 4, 167, 0, 4, 3, 172]
abbrev dktX8_isLike_1 : List UInt8 := dkwX8_isLike_1 ++ []
def dkwX8_isLike_0 : List UInt8 := [42, 180, 0, 9, 43, 180, 0, 9, 160, 0, 29, 42, 180, 0, 15, 43, 180, 0, 15, 160, 0, 18, 42]
abbrev dktX8_isLike_0 : List UInt8 := dkwX8_isLike_0 ++ dktX8_isLike_1
theorem dksX8_isLike_0 : cX8_isLike.data.toList.drop 0 = dktX8_isLike_0 := by decide +kernel
theorem dksX8_isLike_1 : cX8_isLike.data.toList.drop 23 = dktX8_isLike_1 := dk_seg dksX8_isLike_0 23 rfl rfl
theorem dX8_isLike_0 : DC mX8_isLike 0 = .ok (.aload_n 0, 1) := dk_42 (dk_at dksX8_isLike_0 0 rfl rfl)
theorem dX8_isLike_1 : DC mX8_isLike 1 = .ok (.getfield 9, 3) := dk_180 0 9 (dk_at dksX8_isLike_0 1 rfl rfl)
theorem dX8_isLike_4 : DC mX8_isLike 4 = .ok (.aload_n 1, 1) := dk_43 (dk_at dksX8_isLike_0 4 rfl rfl)
theorem dX8_isLike_5 : DC mX8_isLike 5 = .ok (.getfield 9, 3) := dk_180 0 9 (dk_at dksX8_isLike_0 5 rfl rfl)
theorem dX8_isLike_8 : DC mX8_isLike 8 = .ok (.if_icmp .ne 29, 3) := dk_160 0 29 (dk_at dksX8_isLike_0 8 rfl rfl)
theorem dX8_isLike_11 : DC mX8_isLike 11 = .ok (.aload_n 0, 1) := dk_42 (dk_at dksX8_isLike_0 11 rfl rfl)
theorem dX8_isLike_12 : DC mX8_isLike 12 = .ok (.getfield 15, 3) := dk_180 0 15 (dk_at dksX8_isLike_0 12 rfl rfl)
theorem dX8_isLike_15 : DC mX8_isLike 15 = .ok (.aload_n 1, 1) := dk_43 (dk_at dksX8_isLike_0 15 rfl rfl)
theorem dX8_isLike_16 : DC mX8_isLike 16 = .ok (.getfield 15, 3) := dk_180 0 15 (dk_at dksX8_isLike_0 16 rfl rfl)
theorem dX8_isLike_19 : DC mX8_isLike 19 = .ok (.if_icmp .ne 18, 3) := dk_160 0 18 (dk_at dksX8_isLike_0 19 rfl rfl)
theorem dX8_isLike_22 : DC mX8_isLike 22 = .ok (.aload_n 0, 1) := dk_42 (dk_at dksX8_isLike_0 22 rfl rfl)
theorem dX8_isLike_23 : DC mX8_isLike 23 = .ok (.getfield 18, 3) := dk_180 0 18 (dk_at dksX8_isLike_1 0 rfl rfl)
theorem dX8_isLike_26 : DC mX8_isLike 26 = .ok (.aload_n 1, 1) := dk_43 (dk_at dksX8_isLike_1 3 rfl rfl)
theorem dX8_isLike_27 : DC mX8_isLike 27 = .ok (.getfield 18, 3) := dk_180 0 18 (dk_at dksX8_isLike_1 4 rfl rfl)
theorem dX8_isLike_30 : DC mX8_isLike 30 = .ok (.if_icmp .ne 7, 3) := dk_160 0 7 (dk_at dksX8_isLike_1 7 rfl rfl)
theorem dX8_isLike_33 : DC mX8_isLike 33 = .ok (.iconst 1, 1) := dk_4 (dk_at dksX8_isLike_1 10 rfl rfl)
theorem dX8_isLike_34 : DC mX8_isLike 34 = .ok (.goto 4, 3) := dk_167 0 4 (dk_at dksX8_isLike_1 11 rfl rfl)
theorem dX8_isLike_37 : DC mX8_isLike 37 = .ok (.iconst 0, 1) := dk_3 (dk_at dksX8_isLike_1 14 rfl rfl)
theorem dX8_isLike_38 : DC mX8_isLike 38 = .ok (.ireturn, 1) := dk_172 (dk_at dksX8_isLike_1 15 rfl rfl)
abbrev cX8_written : ByteArray := prog_7_method_3_code
def yX8_written : MethodName := ⟨RX8, "written", "()Ljava/lang/String;"⟩
def mX8_written : MI := (⟨"TheatreSaga$Step", "written", "()Ljava/lang/String;"⟩, prog_7_method_3_code, 1, (Option.some (FieldType.object "java/lang/String")), none, 46, 11)
theorem oX8_written : mO mX8_written = 46 := rfl
theorem lX8_written : mL mX8_written = 1 := rfl
theorem rX8_written : mR mX8_written = (Option.some (FieldType.object "java/lang/String")) := rfl
theorem vX8_written : mV mX8_written = 11 := rfl
theorem nX8_written : (mY mX8_written).name = "written" := rfl
theorem hX8_written : mH mX8_written = none := rfl
theorem kX8_written : MOk mX8_written := ⟨q2003, q112, by decide +kernel⟩
theorem gX8_written : plainName (mY mX8_written).cls = true ∧ (mY mX8_written).cls = "TheatreSaga$Step" := ⟨by decide +kernel, rfl⟩
def dkwX8_written_3 : List UInt8 := [182, 0, 44, 182, 0, 51, 182, 0, 41, 182, 0, 51, 176]
abbrev dktX8_written_3 : List UInt8 := dkwX8_written_3 ++ []
def dkwX8_written_2 : List UInt8 := [154, 0, 8, 18, 39, 167, 0, 25, 187, 0, 24, 89, 183, 0, 26, 18, 49, 182, 0, 41, 42, 180, 0, 21]
abbrev dktX8_written_2 : List UInt8 := dkwX8_written_2 ++ dktX8_written_3
def dkwX8_written_1 : List UInt8 := [42, 180, 0, 15, 182, 0, 44, 18, 47, 182, 0, 41, 42, 180, 0, 18, 182, 0, 44, 42, 180, 0, 9]
abbrev dktX8_written_1 : List UInt8 := dkwX8_written_1 ++ dktX8_written_2
def dkwX8_written_0 : List UInt8 := [187, 0, 24, 89, 183, 0, 26, 18, 27, 42, 180, 0, 9, 182, 0, 29, 182, 0, 35, 18, 39, 182, 0, 41]
abbrev dktX8_written_0 : List UInt8 := dkwX8_written_0 ++ dktX8_written_1
theorem dksX8_written_0 : cX8_written.data.toList.drop 0 = dktX8_written_0 := by decide +kernel
theorem dksX8_written_1 : cX8_written.data.toList.drop 24 = dktX8_written_1 := dk_seg dksX8_written_0 24 rfl rfl
theorem dksX8_written_2 : cX8_written.data.toList.drop 47 = dktX8_written_2 := dk_seg dksX8_written_1 23 rfl rfl
theorem dksX8_written_3 : cX8_written.data.toList.drop 71 = dktX8_written_3 := dk_seg dksX8_written_2 24 rfl rfl
theorem dX8_written_0 : DC mX8_written 0 = .ok (.new 24, 3) := dk_187 0 24 (dk_at dksX8_written_0 0 rfl rfl)
theorem dX8_written_3 : DC mX8_written 3 = .ok (.dup, 1) := dk_89 (dk_at dksX8_written_0 3 rfl rfl)
theorem dX8_written_4 : DC mX8_written 4 = .ok (.invokespecial 26, 3) := dk_183 0 26 (dk_at dksX8_written_0 4 rfl rfl)
theorem dX8_written_7 : DC mX8_written 7 = .ok (.ldc 27, 2) := dk_18 27 (dk_at dksX8_written_0 7 rfl rfl)
theorem dX8_written_9 : DC mX8_written 9 = .ok (.aload_n 0, 1) := dk_42 (dk_at dksX8_written_0 9 rfl rfl)
theorem dX8_written_10 : DC mX8_written 10 = .ok (.getfield 9, 3) := dk_180 0 9 (dk_at dksX8_written_0 10 rfl rfl)
theorem dX8_written_13 : DC mX8_written 13 = .ok (.invokevirtual 29, 3) := dk_182 0 29 (dk_at dksX8_written_0 13 rfl rfl)
theorem dX8_written_16 : DC mX8_written 16 = .ok (.invokevirtual 35, 3) := dk_182 0 35 (dk_at dksX8_written_0 16 rfl rfl)
theorem dX8_written_19 : DC mX8_written 19 = .ok (.ldc 39, 2) := dk_18 39 (dk_at dksX8_written_0 19 rfl rfl)
theorem dX8_written_21 : DC mX8_written 21 = .ok (.invokevirtual 41, 3) := dk_182 0 41 (dk_at dksX8_written_0 21 rfl rfl)
theorem dX8_written_24 : DC mX8_written 24 = .ok (.aload_n 0, 1) := dk_42 (dk_at dksX8_written_1 0 rfl rfl)
theorem dX8_written_25 : DC mX8_written 25 = .ok (.getfield 15, 3) := dk_180 0 15 (dk_at dksX8_written_1 1 rfl rfl)
theorem dX8_written_28 : DC mX8_written 28 = .ok (.invokevirtual 44, 3) := dk_182 0 44 (dk_at dksX8_written_1 4 rfl rfl)
theorem dX8_written_31 : DC mX8_written 31 = .ok (.ldc 47, 2) := dk_18 47 (dk_at dksX8_written_1 7 rfl rfl)
theorem dX8_written_33 : DC mX8_written 33 = .ok (.invokevirtual 41, 3) := dk_182 0 41 (dk_at dksX8_written_1 9 rfl rfl)
theorem dX8_written_36 : DC mX8_written 36 = .ok (.aload_n 0, 1) := dk_42 (dk_at dksX8_written_1 12 rfl rfl)
theorem dX8_written_37 : DC mX8_written 37 = .ok (.getfield 18, 3) := dk_180 0 18 (dk_at dksX8_written_1 13 rfl rfl)
theorem dX8_written_40 : DC mX8_written 40 = .ok (.invokevirtual 44, 3) := dk_182 0 44 (dk_at dksX8_written_1 16 rfl rfl)
theorem dX8_written_43 : DC mX8_written 43 = .ok (.aload_n 0, 1) := dk_42 (dk_at dksX8_written_1 19 rfl rfl)
theorem dX8_written_44 : DC mX8_written 44 = .ok (.getfield 9, 3) := dk_180 0 9 (dk_at dksX8_written_1 20 rfl rfl)
theorem dX8_written_47 : DC mX8_written 47 = .ok (.ifCond .ne 8, 3) := dk_154 0 8 (dk_at dksX8_written_2 0 rfl rfl)
theorem dX8_written_50 : DC mX8_written 50 = .ok (.ldc 39, 2) := dk_18 39 (dk_at dksX8_written_2 3 rfl rfl)
theorem dX8_written_52 : DC mX8_written 52 = .ok (.goto 25, 3) := dk_167 0 25 (dk_at dksX8_written_2 5 rfl rfl)
theorem dX8_written_55 : DC mX8_written 55 = .ok (.new 24, 3) := dk_187 0 24 (dk_at dksX8_written_2 8 rfl rfl)
theorem dX8_written_58 : DC mX8_written 58 = .ok (.dup, 1) := dk_89 (dk_at dksX8_written_2 11 rfl rfl)
theorem dX8_written_59 : DC mX8_written 59 = .ok (.invokespecial 26, 3) := dk_183 0 26 (dk_at dksX8_written_2 12 rfl rfl)
theorem dX8_written_62 : DC mX8_written 62 = .ok (.ldc 49, 2) := dk_18 49 (dk_at dksX8_written_2 15 rfl rfl)
theorem dX8_written_64 : DC mX8_written 64 = .ok (.invokevirtual 41, 3) := dk_182 0 41 (dk_at dksX8_written_2 17 rfl rfl)
theorem dX8_written_67 : DC mX8_written 67 = .ok (.aload_n 0, 1) := dk_42 (dk_at dksX8_written_2 20 rfl rfl)
theorem dX8_written_68 : DC mX8_written 68 = .ok (.getfield 21, 3) := dk_180 0 21 (dk_at dksX8_written_2 21 rfl rfl)
theorem dX8_written_71 : DC mX8_written 71 = .ok (.invokevirtual 44, 3) := dk_182 0 44 (dk_at dksX8_written_3 0 rfl rfl)
theorem dX8_written_74 : DC mX8_written 74 = .ok (.invokevirtual 51, 3) := dk_182 0 51 (dk_at dksX8_written_3 3 rfl rfl)
theorem dX8_written_77 : DC mX8_written 77 = .ok (.invokevirtual 41, 3) := dk_182 0 41 (dk_at dksX8_written_3 6 rfl rfl)
theorem dX8_written_80 : DC mX8_written 80 = .ok (.invokevirtual 51, 3) := dk_182 0 51 (dk_at dksX8_written_3 9 rfl rfl)
theorem dX8_written_83 : DC mX8_written 83 = .ok (.areturn, 1) := dk_176 (dk_at dksX8_written_3 12 rfl rfl)
theorem in_X8 : ∀ w ∈ wsX80, w ∈ lw_all := lw_in wsX80 [1395, 1397, 1399, 1401] (by decide +kernel) (by decide +kernel)

/-! TheatreSaga$Walk -/
set_option maxRecDepth 100000
def RX9 : String := "TheatreSaga$Walk"
def TX9 : u_T := fun k => match k with
  | 0 => ("TheatreSaga$Walk", "steps", "Ljava/util/List;", true)
  | 1 => ("TheatreSaga$Walk", "by", "I", true)
  | 2 => ("TheatreSaga$Walk", "end", "I", true)
  | _ => ("TheatreSaga$Walk", "next", "I", false)
def tyX9 : Nat → FieldType := fun k => match k with
  | 0 => .object "java/util/List"
  | 1 => .int
  | 2 => .int
  | _ => .int
abbrev wsX90 : List Cond := u_ws RX9 TX9 4
theorem nmX9 : ∀ a, a < 4 → ∀ b, b < 4 → a ≠ b → (TX9 a).2.1 ≠ (TX9 b).2.1 := by decide +kernel
theorem tyX9_ok : ∀ k, k < 4 → parseFieldDescriptor (TX9 k).2.2.1 = some (tyX9 k) := by decide +kernel
abbrev cX9_hasNext : ByteArray := prog_11_method_4_code
def yX9_hasNext : MethodName := ⟨RX9, "hasNext", "()Z"⟩
def mX9_hasNext : MI := (⟨"TheatreSaga$Walk", "hasNext", "()Z"⟩, prog_11_method_4_code, 1, (Option.some FieldType.boolean), none, 47, 1)
theorem oX9_hasNext : mO mX9_hasNext = 47 := rfl
theorem lX9_hasNext : mL mX9_hasNext = 1 := rfl
theorem rX9_hasNext : mR mX9_hasNext = (Option.some FieldType.boolean) := rfl
theorem vX9_hasNext : mV mX9_hasNext = 1 := rfl
theorem nX9_hasNext : (mY mX9_hasNext).name = "hasNext" := rfl
theorem hX9_hasNext : mH mX9_hasNext = none := rfl
theorem kX9_hasNext : MOk mX9_hasNext := ⟨q884, q113, by decide +kernel⟩
theorem gX9_hasNext : plainName (mY mX9_hasNext).cls = true ∧ (mY mX9_hasNext).cls = "TheatreSaga$Walk" := ⟨by decide +kernel, rfl⟩
def dkwX9_hasNext_0 : List UInt8 := [42, 180, 0, 31, 42, 180, 0, 24, 159, 0, 7, 4, 167, 0, 4, 3, 172]
abbrev dktX9_hasNext_0 : List UInt8 := dkwX9_hasNext_0 ++ []
theorem dksX9_hasNext_0 : cX9_hasNext.data.toList.drop 0 = dktX9_hasNext_0 := by decide +kernel
theorem dX9_hasNext_0 : DC mX9_hasNext 0 = .ok (.aload_n 0, 1) := dk_42 (dk_at dksX9_hasNext_0 0 rfl rfl)
theorem dX9_hasNext_1 : DC mX9_hasNext 1 = .ok (.getfield 31, 3) := dk_180 0 31 (dk_at dksX9_hasNext_0 1 rfl rfl)
theorem dX9_hasNext_4 : DC mX9_hasNext 4 = .ok (.aload_n 0, 1) := dk_42 (dk_at dksX9_hasNext_0 4 rfl rfl)
theorem dX9_hasNext_5 : DC mX9_hasNext 5 = .ok (.getfield 24, 3) := dk_180 0 24 (dk_at dksX9_hasNext_0 5 rfl rfl)
theorem dX9_hasNext_8 : DC mX9_hasNext 8 = .ok (.if_icmp .eq 7, 3) := dk_159 0 7 (dk_at dksX9_hasNext_0 8 rfl rfl)
theorem dX9_hasNext_11 : DC mX9_hasNext 11 = .ok (.iconst 1, 1) := dk_4 (dk_at dksX9_hasNext_0 11 rfl rfl)
theorem dX9_hasNext_12 : DC mX9_hasNext 12 = .ok (.goto 4, 3) := dk_167 0 4 (dk_at dksX9_hasNext_0 12 rfl rfl)
theorem dX9_hasNext_15 : DC mX9_hasNext 15 = .ok (.iconst 0, 1) := dk_3 (dk_at dksX9_hasNext_0 15 rfl rfl)
theorem dX9_hasNext_16 : DC mX9_hasNext 16 = .ok (.ireturn, 1) := dk_172 (dk_at dksX9_hasNext_0 16 rfl rfl)
abbrev cX9_next : ByteArray := prog_11_method_7_code
def yX9_next : MethodName := ⟨RX9, "next", "()Ljava/lang/Object;"⟩
def mX9_next : MI := (⟨"TheatreSaga$Walk", "next", "()Ljava/lang/Object;"⟩, prog_11_method_7_code, 1, (Option.some (FieldType.object "java/lang/Object")), none, 47, 10)
theorem oX9_next : mO mX9_next = 47 := rfl
theorem lX9_next : mL mX9_next = 1 := rfl
theorem rX9_next : mR mX9_next = (Option.some (FieldType.object "java/lang/Object")) := rfl
theorem vX9_next : mV mX9_next = 10 := rfl
theorem nX9_next : (mY mX9_next).name = "next" := rfl
theorem hX9_next : mH mX9_next = none := rfl
theorem kX9_next : MOk mX9_next := ⟨q923, q113, by decide +kernel⟩
theorem gX9_next : plainName (mY mX9_next).cls = true ∧ (mY mX9_next).cls = "TheatreSaga$Walk" := ⟨by decide +kernel, rfl⟩
theorem dX9_next_0 : DC mX9_next 0 = .ok (.aload_n 0, 1) := by decide +kernel
theorem dX9_next_1 : DC mX9_next 1 = .ok (.invokevirtual 48, 3) := by decide +kernel
theorem dX9_next_4 : DC mX9_next 4 = .ok (.areturn, 1) := by decide +kernel
abbrev cX9_next_2 : ByteArray := prog_11_method_5_code
def yX9_next_2 : MethodName := ⟨RX9, "next", "()LTheatreSaga$Step;"⟩
def mX9_next_2 : MI := (⟨"TheatreSaga$Walk", "next", "()LTheatreSaga$Step;"⟩, prog_11_method_5_code, 2, (Option.some (FieldType.object "TheatreSaga$Step")), none, 47, 9)
theorem oX9_next_2 : mO mX9_next_2 = 47 := rfl
theorem lX9_next_2 : mL mX9_next_2 = 2 := rfl
theorem rX9_next_2 : mR mX9_next_2 = (Option.some (FieldType.object "TheatreSaga$Step")) := rfl
theorem vX9_next_2 : mV mX9_next_2 = 9 := rfl
theorem nX9_next_2 : (mY mX9_next_2).name = "next" := rfl
theorem hX9_next_2 : mH mX9_next_2 = none := rfl
theorem kX9_next_2 : MOk mX9_next_2 := ⟨q927, q113, by decide +kernel⟩
theorem gX9_next_2 : plainName (mY mX9_next_2).cls = true ∧ (mY mX9_next_2).cls = "TheatreSaga$Walk" := ⟨by decide +kernel, rfl⟩
def dkwX9_next_2_1 : List UInt8 := [42, 89, 180, 0, 31, 42, 180, 0, 28, 96, 181, 0, 31, 43, 176]
abbrev dktX9_next_2_1 : List UInt8 := dkwX9_next_2_1 ++ []
def dkwX9_next_2_0 : List UInt8 := [42, 182, 0, 34, 184, 0, 38, 42, 180, 0, 20, 42, 180, 0, 31, 185, 0, 42, 2, 0, 192, 0, 46, 76]
abbrev dktX9_next_2_0 : List UInt8 := dkwX9_next_2_0 ++ dktX9_next_2_1
theorem dksX9_next_2_0 : cX9_next_2.data.toList.drop 0 = dktX9_next_2_0 := by decide +kernel
theorem dksX9_next_2_1 : cX9_next_2.data.toList.drop 24 = dktX9_next_2_1 := dk_seg dksX9_next_2_0 24 rfl rfl
theorem dX9_next_2_0 : DC mX9_next_2 0 = .ok (.aload_n 0, 1) := dk_42 (dk_at dksX9_next_2_0 0 rfl rfl)
theorem dX9_next_2_1 : DC mX9_next_2 1 = .ok (.invokevirtual 34, 3) := dk_182 0 34 (dk_at dksX9_next_2_0 1 rfl rfl)
theorem dX9_next_2_4 : DC mX9_next_2 4 = .ok (.invokestatic 38, 3) := dk_184 0 38 (dk_at dksX9_next_2_0 4 rfl rfl)
theorem dX9_next_2_7 : DC mX9_next_2 7 = .ok (.aload_n 0, 1) := dk_42 (dk_at dksX9_next_2_0 7 rfl rfl)
theorem dX9_next_2_8 : DC mX9_next_2 8 = .ok (.getfield 20, 3) := dk_180 0 20 (dk_at dksX9_next_2_0 8 rfl rfl)
theorem dX9_next_2_11 : DC mX9_next_2 11 = .ok (.aload_n 0, 1) := dk_42 (dk_at dksX9_next_2_0 11 rfl rfl)
theorem dX9_next_2_12 : DC mX9_next_2 12 = .ok (.getfield 31, 3) := dk_180 0 31 (dk_at dksX9_next_2_0 12 rfl rfl)
theorem dX9_next_2_15 : DC mX9_next_2 15 = .ok (.invokeinterface 42 2, 5) := by decide +kernel
theorem dX9_next_2_20 : DC mX9_next_2 20 = .ok (.checkcast 46, 3) := dk_192 0 46 (dk_at dksX9_next_2_0 20 rfl rfl)
theorem dX9_next_2_23 : DC mX9_next_2 23 = .ok (.astore_n 1, 1) := dk_76 (dk_at dksX9_next_2_0 23 rfl rfl)
theorem dX9_next_2_24 : DC mX9_next_2 24 = .ok (.aload_n 0, 1) := dk_42 (dk_at dksX9_next_2_1 0 rfl rfl)
theorem dX9_next_2_25 : DC mX9_next_2 25 = .ok (.dup, 1) := dk_89 (dk_at dksX9_next_2_1 1 rfl rfl)
theorem dX9_next_2_26 : DC mX9_next_2 26 = .ok (.getfield 31, 3) := dk_180 0 31 (dk_at dksX9_next_2_1 2 rfl rfl)
theorem dX9_next_2_29 : DC mX9_next_2 29 = .ok (.aload_n 0, 1) := dk_42 (dk_at dksX9_next_2_1 5 rfl rfl)
theorem dX9_next_2_30 : DC mX9_next_2 30 = .ok (.getfield 28, 3) := dk_180 0 28 (dk_at dksX9_next_2_1 6 rfl rfl)
theorem dX9_next_2_33 : DC mX9_next_2 33 = .ok (.iadd, 1) := dk_96 (dk_at dksX9_next_2_1 9 rfl rfl)
theorem dX9_next_2_34 : DC mX9_next_2 34 = .ok (.putfield 31, 3) := dk_181 0 31 (dk_at dksX9_next_2_1 10 rfl rfl)
theorem dX9_next_2_37 : DC mX9_next_2 37 = .ok (.aload_n 1, 1) := dk_43 (dk_at dksX9_next_2_1 13 rfl rfl)
theorem dX9_next_2_38 : DC mX9_next_2 38 = .ok (.areturn, 1) := dk_176 (dk_at dksX9_next_2_1 14 rfl rfl)
abbrev cX9_init : ByteArray := prog_11_method_1_code
def yX9_init : MethodName := ⟨RX9, "<init>", "(Ljava/util/List;I)V"⟩
def mX9_init : MI := (⟨"TheatreSaga$Walk", "<init>", "(Ljava/util/List;I)V"⟩, prog_11_method_1_code, 3, (Option.none : Option FieldType), none, 47, 3)
theorem oX9_init : mO mX9_init = 47 := rfl
theorem lX9_init : mL mX9_init = 3 := rfl
theorem rX9_init : mR mX9_init = (Option.none : Option FieldType) := rfl
theorem vX9_init : mV mX9_init = 3 := rfl
theorem nX9_init : (mY mX9_init).name = "<init>" := rfl
theorem hX9_init : mH mX9_init = none := rfl
theorem kX9_init : MOk mX9_init := ⟨q1453, q113, by decide +kernel⟩
theorem gX9_init : plainName (mY mX9_init).cls = true ∧ (mY mX9_init).cls = "TheatreSaga$Walk" := ⟨by decide +kernel, rfl⟩
def dkwX9_init_0 : List UInt8 := [42, 43, 28, 43, 185, 0, 3, 1, 0, 4, 183, 0, 9, 177]
abbrev dktX9_init_0 : List UInt8 := dkwX9_init_0 ++ []
theorem dksX9_init_0 : cX9_init.data.toList.drop 0 = dktX9_init_0 := by decide +kernel
theorem dX9_init_0 : DC mX9_init 0 = .ok (.aload_n 0, 1) := dk_42 (dk_at dksX9_init_0 0 rfl rfl)
theorem dX9_init_1 : DC mX9_init 1 = .ok (.aload_n 1, 1) := dk_43 (dk_at dksX9_init_0 1 rfl rfl)
theorem dX9_init_2 : DC mX9_init 2 = .ok (.iload_n 2, 1) := dk_28 (dk_at dksX9_init_0 2 rfl rfl)
theorem dX9_init_3 : DC mX9_init 3 = .ok (.aload_n 1, 1) := dk_43 (dk_at dksX9_init_0 3 rfl rfl)
theorem dX9_init_4 : DC mX9_init 4 = .ok (.invokeinterface 3 1, 5) := by decide +kernel
theorem dX9_init_9 : DC mX9_init 9 = .ok (.iconst 1, 1) := dk_4 (dk_at dksX9_init_0 9 rfl rfl)
theorem dX9_init_10 : DC mX9_init 10 = .ok (.invokespecial 9, 3) := dk_183 0 9 (dk_at dksX9_init_0 10 rfl rfl)
theorem dX9_init_13 : DC mX9_init 13 = .ok (.return_, 1) := dk_177 (dk_at dksX9_init_0 13 rfl rfl)
abbrev cX9_init_2 : ByteArray := prog_11_method_2_code
def yX9_init_2 : MethodName := ⟨RX9, "<init>", "(Ljava/util/List;III)V"⟩
def mX9_init_2 : MI := (⟨"TheatreSaga$Walk", "<init>", "(Ljava/util/List;III)V"⟩, prog_11_method_2_code, 5, (Option.none : Option FieldType), none, 47, 2)
theorem oX9_init_2 : mO mX9_init_2 = 47 := rfl
theorem lX9_init_2 : mL mX9_init_2 = 5 := rfl
theorem rX9_init_2 : mR mX9_init_2 = (Option.none : Option FieldType) := rfl
theorem vX9_init_2 : mV mX9_init_2 = 2 := rfl
theorem nX9_init_2 : (mY mX9_init_2).name = "<init>" := rfl
theorem hX9_init_2 : mH mX9_init_2 = none := rfl
theorem kX9_init_2 : MOk mX9_init_2 := ⟨q1458, q113, by decide +kernel⟩
theorem gX9_init_2 : plainName (mY mX9_init_2).cls = true ∧ (mY mX9_init_2).cls = "TheatreSaga$Walk" := ⟨by decide +kernel, rfl⟩
def dkwX9_init_2_1 : List UInt8 := [181, 0, 31, 177]
abbrev dktX9_init_2_1 : List UInt8 := dkwX9_init_2_1 ++ []
def dkwX9_init_2_0 : List UInt8 := [42, 183, 0, 15, 42, 43, 181, 0, 20, 42, 29, 181, 0, 24, 42, 21, 4, 181, 0, 28, 42, 28]
abbrev dktX9_init_2_0 : List UInt8 := dkwX9_init_2_0 ++ dktX9_init_2_1
theorem dksX9_init_2_0 : cX9_init_2.data.toList.drop 0 = dktX9_init_2_0 := by decide +kernel
theorem dksX9_init_2_1 : cX9_init_2.data.toList.drop 22 = dktX9_init_2_1 := dk_seg dksX9_init_2_0 22 rfl rfl
theorem dX9_init_2_0 : DC mX9_init_2 0 = .ok (.aload_n 0, 1) := dk_42 (dk_at dksX9_init_2_0 0 rfl rfl)
theorem dX9_init_2_1 : DC mX9_init_2 1 = .ok (.invokespecial 15, 3) := dk_183 0 15 (dk_at dksX9_init_2_0 1 rfl rfl)
theorem dX9_init_2_4 : DC mX9_init_2 4 = .ok (.aload_n 0, 1) := dk_42 (dk_at dksX9_init_2_0 4 rfl rfl)
theorem dX9_init_2_5 : DC mX9_init_2 5 = .ok (.aload_n 1, 1) := dk_43 (dk_at dksX9_init_2_0 5 rfl rfl)
theorem dX9_init_2_6 : DC mX9_init_2 6 = .ok (.putfield 20, 3) := dk_181 0 20 (dk_at dksX9_init_2_0 6 rfl rfl)
theorem dX9_init_2_9 : DC mX9_init_2 9 = .ok (.aload_n 0, 1) := dk_42 (dk_at dksX9_init_2_0 9 rfl rfl)
theorem dX9_init_2_10 : DC mX9_init_2 10 = .ok (.iload_n 3, 1) := dk_29 (dk_at dksX9_init_2_0 10 rfl rfl)
theorem dX9_init_2_11 : DC mX9_init_2 11 = .ok (.putfield 24, 3) := dk_181 0 24 (dk_at dksX9_init_2_0 11 rfl rfl)
theorem dX9_init_2_14 : DC mX9_init_2 14 = .ok (.aload_n 0, 1) := dk_42 (dk_at dksX9_init_2_0 14 rfl rfl)
theorem dX9_init_2_15 : DC mX9_init_2 15 = .ok (.iload 4, 2) := dk_21 4 (dk_at dksX9_init_2_0 15 rfl rfl)
theorem dX9_init_2_17 : DC mX9_init_2 17 = .ok (.putfield 28, 3) := dk_181 0 28 (dk_at dksX9_init_2_0 17 rfl rfl)
theorem dX9_init_2_20 : DC mX9_init_2 20 = .ok (.aload_n 0, 1) := dk_42 (dk_at dksX9_init_2_0 20 rfl rfl)
theorem dX9_init_2_21 : DC mX9_init_2 21 = .ok (.iload_n 2, 1) := dk_28 (dk_at dksX9_init_2_0 21 rfl rfl)
theorem dX9_init_2_22 : DC mX9_init_2 22 = .ok (.putfield 31, 3) := dk_181 0 31 (dk_at dksX9_init_2_1 0 rfl rfl)
theorem dX9_init_2_25 : DC mX9_init_2 25 = .ok (.return_, 1) := dk_177 (dk_at dksX9_init_2_1 3 rfl rfl)
abbrev cX9_iterator : ByteArray := prog_11_method_6_code
def yX9_iterator : MethodName := ⟨RX9, "iterator", "()Ljava/util/Iterator;"⟩
def mX9_iterator : MI := (⟨"TheatreSaga$Walk", "iterator", "()Ljava/util/Iterator;"⟩, prog_11_method_6_code, 1, (Option.some (FieldType.object "java/util/Iterator")), none, 47, 1)
theorem oX9_iterator : mO mX9_iterator = 47 := rfl
theorem lX9_iterator : mL mX9_iterator = 1 := rfl
theorem rX9_iterator : mR mX9_iterator = (Option.some (FieldType.object "java/util/Iterator")) := rfl
theorem vX9_iterator : mV mX9_iterator = 1 := rfl
theorem nX9_iterator : (mY mX9_iterator).name = "iterator" := rfl
theorem hX9_iterator : mH mX9_iterator = none := rfl
theorem kX9_iterator : MOk mX9_iterator := ⟨q1476, q113, by decide +kernel⟩
theorem gX9_iterator : plainName (mY mX9_iterator).cls = true ∧ (mY mX9_iterator).cls = "TheatreSaga$Walk" := ⟨by decide +kernel, rfl⟩
theorem dX9_iterator_0 : DC mX9_iterator 0 = .ok (.aload_n 0, 1) := by decide +kernel
theorem dX9_iterator_1 : DC mX9_iterator 1 = .ok (.areturn, 1) := by decide +kernel
abbrev cX9_backward : ByteArray := prog_11_method_3_code
def yX9_backward : MethodName := ⟨RX9, "backward", "(Ljava/util/List;I)LTheatreSaga$Walk;"⟩
def mX9_backward : MI := (⟨"TheatreSaga$Walk", "backward", "(Ljava/util/List;I)LTheatreSaga$Walk;"⟩, prog_11_method_3_code, 2, (Option.some (FieldType.object "TheatreSaga$Walk")), none, 47, 3)
theorem oX9_backward : mO mX9_backward = 47 := rfl
theorem lX9_backward : mL mX9_backward = 2 := rfl
theorem rX9_backward : mR mX9_backward = (Option.some (FieldType.object "TheatreSaga$Walk")) := rfl
theorem vX9_backward : mV mX9_backward = 3 := rfl
theorem nX9_backward : (mY mX9_backward).name = "backward" := rfl
theorem hX9_backward : mH mX9_backward = none := rfl
theorem kX9_backward : MOk mX9_backward := ⟨q1568, q113, by decide +kernel⟩
theorem gX9_backward : plainName (mY mX9_backward).cls = true ∧ (mY mX9_backward).cls = "TheatreSaga$Walk" := ⟨by decide +kernel, rfl⟩
def dkwX9_backward_0 : List UInt8 := [187, 0, 10, 89, 42, 27, 4, 100, 2, 2, 183, 0, 9, 176]
abbrev dktX9_backward_0 : List UInt8 := dkwX9_backward_0 ++ []
theorem dksX9_backward_0 : cX9_backward.data.toList.drop 0 = dktX9_backward_0 := by decide +kernel
theorem dX9_backward_0 : DC mX9_backward 0 = .ok (.new 10, 3) := dk_187 0 10 (dk_at dksX9_backward_0 0 rfl rfl)
theorem dX9_backward_3 : DC mX9_backward 3 = .ok (.dup, 1) := dk_89 (dk_at dksX9_backward_0 3 rfl rfl)
theorem dX9_backward_4 : DC mX9_backward 4 = .ok (.aload_n 0, 1) := dk_42 (dk_at dksX9_backward_0 4 rfl rfl)
theorem dX9_backward_5 : DC mX9_backward 5 = .ok (.iload_n 1, 1) := dk_27 (dk_at dksX9_backward_0 5 rfl rfl)
theorem dX9_backward_6 : DC mX9_backward 6 = .ok (.iconst 1, 1) := dk_4 (dk_at dksX9_backward_0 6 rfl rfl)
theorem dX9_backward_7 : DC mX9_backward 7 = .ok (.isub, 1) := dk_100 (dk_at dksX9_backward_0 7 rfl rfl)
theorem dX9_backward_8 : DC mX9_backward 8 = .ok (.iconst (-1), 1) := dk_2 (dk_at dksX9_backward_0 8 rfl rfl)
theorem dX9_backward_9 : DC mX9_backward 9 = .ok (.iconst (-1), 1) := dk_2 (dk_at dksX9_backward_0 9 rfl rfl)
theorem dX9_backward_10 : DC mX9_backward 10 = .ok (.invokespecial 9, 3) := dk_183 0 9 (dk_at dksX9_backward_0 10 rfl rfl)
theorem dX9_backward_13 : DC mX9_backward 13 = .ok (.areturn, 1) := dk_176 (dk_at dksX9_backward_0 13 rfl rfl)
theorem in_X9 : ∀ w ∈ wsX90, w ∈ lw_all := lw_in wsX90 [1464, 1466, 1468, 1470] (by decide +kernel) (by decide +kernel)

/-! TheatreSaga$1Choice -/
set_option maxRecDepth 100000
def RX10 : String := "TheatreSaga$1Choice"
def TX10 : u_T := fun k => match k with
  | 0 => ("TheatreSaga$1Choice", "best", "I", false)
  | 1 => ("TheatreSaga$1Choice", "val$kind", "I", true)
  | 2 => ("TheatreSaga$1Choice", "val$day", "I", true)
  | 3 => ("TheatreSaga$1Choice", "val$many", "I", true)
  | _ => ("TheatreSaga$1Choice", "this$0", "LTheatreSaga;", true)
def tyX10 : Nat → FieldType := fun k => match k with
  | 0 => .int
  | 1 => .int
  | 2 => .int
  | 3 => .int
  | _ => .object "TheatreSaga"
abbrev wsX100 : List Cond := u_ws RX10 TX10 5
theorem nmX10 : ∀ a, a < 5 → ∀ b, b < 5 → a ≠ b → (TX10 a).2.1 ≠ (TX10 b).2.1 := by decide +kernel
theorem tyX10_ok : ∀ k, k < 5 → parseFieldDescriptor (TX10 k).2.2.1 = some (tyX10 k) := by decide +kernel
abbrev cX10_init : ByteArray := prog_2_method_1_code
def yX10_init : MethodName := ⟨RX10, "<init>", "(LTheatreSaga;III)V"⟩
def mX10_init : MI := (⟨"TheatreSaga$1Choice", "<init>", "(LTheatreSaga;III)V"⟩, prog_2_method_1_code, 5, (Option.none : Option FieldType), none, 48, 2)
theorem oX10_init : mO mX10_init = 48 := rfl
theorem lX10_init : mL mX10_init = 5 := rfl
theorem rX10_init : mR mX10_init = (Option.none : Option FieldType) := rfl
theorem vX10_init : mV mX10_init = 2 := rfl
theorem nX10_init : (mY mX10_init).name = "<init>" := rfl
theorem hX10_init : mH mX10_init = none := rfl
theorem kX10_init : MOk mX10_init := ⟨q1867, q117, by decide +kernel⟩
theorem gX10_init : plainName (mY mX10_init).cls = true ∧ (mY mX10_init).cls = "TheatreSaga$1Choice" := ⟨by decide +kernel, rfl⟩
def dkwX10_init_1 : List UInt8 := [183, 0, 19, 42, 2, 181, 0, 25, 177]
abbrev dktX10_init_1 : List UInt8 := dkwX10_init_1 ++ []
def dkwX10_init_0 : List UInt8 := [42, 43, 181, 0, 3, 42, 28, 181, 0, 9, 42, 29, 181, 0, 13, 42, 21, 4, 181, 0, 16, 42]
abbrev dktX10_init_0 : List UInt8 := dkwX10_init_0 ++ dktX10_init_1
theorem dksX10_init_0 : cX10_init.data.toList.drop 0 = dktX10_init_0 := by decide +kernel
theorem dksX10_init_1 : cX10_init.data.toList.drop 22 = dktX10_init_1 := dk_seg dksX10_init_0 22 rfl rfl
theorem dX10_init_0 : DC mX10_init 0 = .ok (.aload_n 0, 1) := dk_42 (dk_at dksX10_init_0 0 rfl rfl)
theorem dX10_init_1 : DC mX10_init 1 = .ok (.aload_n 1, 1) := dk_43 (dk_at dksX10_init_0 1 rfl rfl)
theorem dX10_init_2 : DC mX10_init 2 = .ok (.putfield 3, 3) := dk_181 0 3 (dk_at dksX10_init_0 2 rfl rfl)
theorem dX10_init_5 : DC mX10_init 5 = .ok (.aload_n 0, 1) := dk_42 (dk_at dksX10_init_0 5 rfl rfl)
theorem dX10_init_6 : DC mX10_init 6 = .ok (.iload_n 2, 1) := dk_28 (dk_at dksX10_init_0 6 rfl rfl)
theorem dX10_init_7 : DC mX10_init 7 = .ok (.putfield 9, 3) := dk_181 0 9 (dk_at dksX10_init_0 7 rfl rfl)
theorem dX10_init_10 : DC mX10_init 10 = .ok (.aload_n 0, 1) := dk_42 (dk_at dksX10_init_0 10 rfl rfl)
theorem dX10_init_11 : DC mX10_init 11 = .ok (.iload_n 3, 1) := dk_29 (dk_at dksX10_init_0 11 rfl rfl)
theorem dX10_init_12 : DC mX10_init 12 = .ok (.putfield 13, 3) := dk_181 0 13 (dk_at dksX10_init_0 12 rfl rfl)
theorem dX10_init_15 : DC mX10_init 15 = .ok (.aload_n 0, 1) := dk_42 (dk_at dksX10_init_0 15 rfl rfl)
theorem dX10_init_16 : DC mX10_init 16 = .ok (.iload 4, 2) := dk_21 4 (dk_at dksX10_init_0 16 rfl rfl)
theorem dX10_init_18 : DC mX10_init 18 = .ok (.putfield 16, 3) := dk_181 0 16 (dk_at dksX10_init_0 18 rfl rfl)
theorem dX10_init_21 : DC mX10_init 21 = .ok (.aload_n 0, 1) := dk_42 (dk_at dksX10_init_0 21 rfl rfl)
theorem dX10_init_22 : DC mX10_init 22 = .ok (.invokespecial 19, 3) := dk_183 0 19 (dk_at dksX10_init_1 0 rfl rfl)
theorem dX10_init_25 : DC mX10_init 25 = .ok (.aload_n 0, 1) := dk_42 (dk_at dksX10_init_1 3 rfl rfl)
theorem dX10_init_26 : DC mX10_init 26 = .ok (.iconst (-1), 1) := dk_2 (dk_at dksX10_init_1 4 rfl rfl)
theorem dX10_init_27 : DC mX10_init 27 = .ok (.putfield 25, 3) := dk_181 0 25 (dk_at dksX10_init_1 5 rfl rfl)
theorem dX10_init_30 : DC mX10_init 30 = .ok (.return_, 1) := dk_177 (dk_at dksX10_init_1 8 rfl rfl)
abbrev cX10_look : ByteArray := prog_2_method_2_code
def yX10_look : MethodName := ⟨RX10, "look", "(I)V"⟩
def mX10_look : MI := (⟨"TheatreSaga$1Choice", "look", "(I)V"⟩, prog_2_method_2_code, 4, (Option.none : Option FieldType), none, 48, 4)
theorem oX10_look : mO mX10_look = 48 := rfl
theorem lX10_look : mL mX10_look = 4 := rfl
theorem rX10_look : mR mX10_look = (Option.none : Option FieldType) := rfl
theorem vX10_look : mV mX10_look = 4 := rfl
theorem nX10_look : (mY mX10_look).name = "look" := rfl
theorem hX10_look : mH mX10_look = none := rfl
theorem kX10_look : MOk mX10_look := ⟨q1889, q117, by decide +kernel⟩
theorem gX10_look : plainName (mY mX10_look).cls = true ∧ (mY mX10_look).cls = "TheatreSaga$1Choice" := ⟨by decide +kernel, rfl⟩
def dkwX10_look_4 : List UInt8 := [162, 0, 7, 27, 167, 0, 7, 42, 180, 0, 25, 181, 0, 25, 177]
abbrev dktX10_look_4 : List UInt8 := dkwX10_look_4 ++ []
def dkwX10_look_3 : List UInt8 := [180, 0, 3, 180, 0, 28, 180, 0, 32, 42, 180, 0, 25, 185, 0, 38, 2, 0, 192, 0, 44, 180, 0, 54]
abbrev dktX10_look_3 : List UInt8 := dkwX10_look_3 ++ dktX10_look_4
def dkwX10_look_2 : List UInt8 := [167, 0, 4, 3, 62, 42, 29, 153, 0, 47, 42, 180, 0, 25, 2, 159, 0, 35, 44, 180, 0, 54, 42]
abbrev dktX10_look_2 : List UInt8 := dkwX10_look_2 ++ dktX10_look_3
def dkwX10_look_1 : List UInt8 := [154, 0, 26, 44, 42, 180, 0, 9, 42, 180, 0, 13, 182, 0, 50, 42, 180, 0, 16, 161, 0, 7, 4]
abbrev dktX10_look_1 : List UInt8 := dkwX10_look_1 ++ dktX10_look_2
def dkwX10_look_0 : List UInt8 := [42, 180, 0, 3, 180, 0, 28, 180, 0, 32, 27, 185, 0, 38, 2, 0, 192, 0, 44, 77, 44, 180, 0, 46]
abbrev dktX10_look_0 : List UInt8 := dkwX10_look_0 ++ dktX10_look_1
theorem dksX10_look_0 : cX10_look.data.toList.drop 0 = dktX10_look_0 := by decide +kernel
theorem dksX10_look_1 : cX10_look.data.toList.drop 24 = dktX10_look_1 := dk_seg dksX10_look_0 24 rfl rfl
theorem dksX10_look_2 : cX10_look.data.toList.drop 47 = dktX10_look_2 := dk_seg dksX10_look_1 23 rfl rfl
theorem dksX10_look_3 : cX10_look.data.toList.drop 70 = dktX10_look_3 := dk_seg dksX10_look_2 23 rfl rfl
theorem dksX10_look_4 : cX10_look.data.toList.drop 94 = dktX10_look_4 := dk_seg dksX10_look_3 24 rfl rfl
theorem dX10_look_0 : DC mX10_look 0 = .ok (.aload_n 0, 1) := dk_42 (dk_at dksX10_look_0 0 rfl rfl)
theorem dX10_look_1 : DC mX10_look 1 = .ok (.getfield 3, 3) := dk_180 0 3 (dk_at dksX10_look_0 1 rfl rfl)
theorem dX10_look_4 : DC mX10_look 4 = .ok (.getfield 28, 3) := dk_180 0 28 (dk_at dksX10_look_0 4 rfl rfl)
theorem dX10_look_7 : DC mX10_look 7 = .ok (.getfield 32, 3) := dk_180 0 32 (dk_at dksX10_look_0 7 rfl rfl)
theorem dX10_look_10 : DC mX10_look 10 = .ok (.iload_n 1, 1) := dk_27 (dk_at dksX10_look_0 10 rfl rfl)
theorem dX10_look_11 : DC mX10_look 11 = .ok (.invokeinterface 38 2, 5) := by decide +kernel
theorem dX10_look_16 : DC mX10_look 16 = .ok (.checkcast 44, 3) := dk_192 0 44 (dk_at dksX10_look_0 16 rfl rfl)
theorem dX10_look_19 : DC mX10_look 19 = .ok (.astore_n 2, 1) := dk_77 (dk_at dksX10_look_0 19 rfl rfl)
theorem dX10_look_20 : DC mX10_look 20 = .ok (.aload_n 2, 1) := dk_44 (dk_at dksX10_look_0 20 rfl rfl)
theorem dX10_look_21 : DC mX10_look 21 = .ok (.getfield 46, 3) := dk_180 0 46 (dk_at dksX10_look_0 21 rfl rfl)
theorem dX10_look_24 : DC mX10_look 24 = .ok (.ifCond .ne 26, 3) := dk_154 0 26 (dk_at dksX10_look_1 0 rfl rfl)
theorem dX10_look_27 : DC mX10_look 27 = .ok (.aload_n 2, 1) := dk_44 (dk_at dksX10_look_1 3 rfl rfl)
theorem dX10_look_28 : DC mX10_look 28 = .ok (.aload_n 0, 1) := dk_42 (dk_at dksX10_look_1 4 rfl rfl)
theorem dX10_look_29 : DC mX10_look 29 = .ok (.getfield 9, 3) := dk_180 0 9 (dk_at dksX10_look_1 5 rfl rfl)
theorem dX10_look_32 : DC mX10_look 32 = .ok (.aload_n 0, 1) := dk_42 (dk_at dksX10_look_1 8 rfl rfl)
theorem dX10_look_33 : DC mX10_look 33 = .ok (.getfield 13, 3) := dk_180 0 13 (dk_at dksX10_look_1 9 rfl rfl)
theorem dX10_look_36 : DC mX10_look 36 = .ok (.invokevirtual 50, 3) := dk_182 0 50 (dk_at dksX10_look_1 12 rfl rfl)
theorem dX10_look_39 : DC mX10_look 39 = .ok (.aload_n 0, 1) := dk_42 (dk_at dksX10_look_1 15 rfl rfl)
theorem dX10_look_40 : DC mX10_look 40 = .ok (.getfield 16, 3) := dk_180 0 16 (dk_at dksX10_look_1 16 rfl rfl)
theorem dX10_look_43 : DC mX10_look 43 = .ok (.if_icmp .lt 7, 3) := dk_161 0 7 (dk_at dksX10_look_1 19 rfl rfl)
theorem dX10_look_46 : DC mX10_look 46 = .ok (.iconst 1, 1) := dk_4 (dk_at dksX10_look_1 22 rfl rfl)
theorem dX10_look_47 : DC mX10_look 47 = .ok (.goto 4, 3) := dk_167 0 4 (dk_at dksX10_look_2 0 rfl rfl)
theorem dX10_look_50 : DC mX10_look 50 = .ok (.iconst 0, 1) := dk_3 (dk_at dksX10_look_2 3 rfl rfl)
theorem dX10_look_51 : DC mX10_look 51 = .ok (.istore_n 3, 1) := dk_62 (dk_at dksX10_look_2 4 rfl rfl)
theorem dX10_look_52 : DC mX10_look 52 = .ok (.aload_n 0, 1) := dk_42 (dk_at dksX10_look_2 5 rfl rfl)
theorem dX10_look_53 : DC mX10_look 53 = .ok (.iload_n 3, 1) := dk_29 (dk_at dksX10_look_2 6 rfl rfl)
theorem dX10_look_54 : DC mX10_look 54 = .ok (.ifCond .eq 47, 3) := dk_153 0 47 (dk_at dksX10_look_2 7 rfl rfl)
theorem dX10_look_57 : DC mX10_look 57 = .ok (.aload_n 0, 1) := dk_42 (dk_at dksX10_look_2 10 rfl rfl)
theorem dX10_look_58 : DC mX10_look 58 = .ok (.getfield 25, 3) := dk_180 0 25 (dk_at dksX10_look_2 11 rfl rfl)
theorem dX10_look_61 : DC mX10_look 61 = .ok (.iconst (-1), 1) := dk_2 (dk_at dksX10_look_2 14 rfl rfl)
theorem dX10_look_62 : DC mX10_look 62 = .ok (.if_icmp .eq 35, 3) := dk_159 0 35 (dk_at dksX10_look_2 15 rfl rfl)
theorem dX10_look_65 : DC mX10_look 65 = .ok (.aload_n 2, 1) := dk_44 (dk_at dksX10_look_2 18 rfl rfl)
theorem dX10_look_66 : DC mX10_look 66 = .ok (.getfield 54, 3) := dk_180 0 54 (dk_at dksX10_look_2 19 rfl rfl)
theorem dX10_look_69 : DC mX10_look 69 = .ok (.aload_n 0, 1) := dk_42 (dk_at dksX10_look_2 22 rfl rfl)
theorem dX10_look_70 : DC mX10_look 70 = .ok (.getfield 3, 3) := dk_180 0 3 (dk_at dksX10_look_3 0 rfl rfl)
theorem dX10_look_73 : DC mX10_look 73 = .ok (.getfield 28, 3) := dk_180 0 28 (dk_at dksX10_look_3 3 rfl rfl)
theorem dX10_look_76 : DC mX10_look 76 = .ok (.getfield 32, 3) := dk_180 0 32 (dk_at dksX10_look_3 6 rfl rfl)
theorem dX10_look_79 : DC mX10_look 79 = .ok (.aload_n 0, 1) := dk_42 (dk_at dksX10_look_3 9 rfl rfl)
theorem dX10_look_80 : DC mX10_look 80 = .ok (.getfield 25, 3) := dk_180 0 25 (dk_at dksX10_look_3 10 rfl rfl)
theorem dX10_look_83 : DC mX10_look 83 = .ok (.invokeinterface 38 2, 5) := by decide +kernel
theorem dX10_look_88 : DC mX10_look 88 = .ok (.checkcast 44, 3) := dk_192 0 44 (dk_at dksX10_look_3 18 rfl rfl)
theorem dX10_look_91 : DC mX10_look 91 = .ok (.getfield 54, 3) := dk_180 0 54 (dk_at dksX10_look_3 21 rfl rfl)
theorem dX10_look_94 : DC mX10_look 94 = .ok (.if_icmp .ge 7, 3) := dk_162 0 7 (dk_at dksX10_look_4 0 rfl rfl)
theorem dX10_look_97 : DC mX10_look 97 = .ok (.iload_n 1, 1) := dk_27 (dk_at dksX10_look_4 3 rfl rfl)
theorem dX10_look_98 : DC mX10_look 98 = .ok (.goto 7, 3) := dk_167 0 7 (dk_at dksX10_look_4 4 rfl rfl)
theorem dX10_look_101 : DC mX10_look 101 = .ok (.aload_n 0, 1) := dk_42 (dk_at dksX10_look_4 7 rfl rfl)
theorem dX10_look_102 : DC mX10_look 102 = .ok (.getfield 25, 3) := dk_180 0 25 (dk_at dksX10_look_4 8 rfl rfl)
theorem dX10_look_105 : DC mX10_look 105 = .ok (.putfield 25, 3) := dk_181 0 25 (dk_at dksX10_look_4 11 rfl rfl)
theorem dX10_look_108 : DC mX10_look 108 = .ok (.return_, 1) := dk_177 (dk_at dksX10_look_4 14 rfl rfl)
theorem in_X10 : ∀ w ∈ wsX100, w ∈ lw_all := lw_in wsX100 [1875, 1877, 1879, 1881, 1883] (by decide +kernel) (by decide +kernel)

/-! TheatreSaga$Parser -/
set_option maxRecDepth 100000
def RX11 : String := "TheatreSaga$Parser"
def TX11 : u_T := fun k => match k with
  | 0 => ("TheatreSaga$Parser", "position", "I", false)
  | _ => ("TheatreSaga$Parser", "this$0", "LTheatreSaga;", true)
def tyX11 : Nat → FieldType := fun k => match k with
  | 0 => .int
  | _ => .object "TheatreSaga"
abbrev wsX110 : List Cond := u_ws RX11 TX11 2
theorem nmX11 : ∀ a, a < 2 → ∀ b, b < 2 → a ≠ b → (TX11 a).2.1 ≠ (TX11 b).2.1 := by decide +kernel
theorem tyX11_ok : ∀ k, k < 2 → parseFieldDescriptor (TX11 k).2.2.1 = some (tyX11 k) := by decide +kernel
abbrev cX11_init : ByteArray := prog_5_method_1_code
def yX11_init : MethodName := ⟨RX11, "<init>", "(LTheatreSaga;)V"⟩
def mX11_init : MI := (⟨"TheatreSaga$Parser", "<init>", "(LTheatreSaga;)V"⟩, prog_5_method_1_code, 2, (Option.none : Option FieldType), none, 49, 2)
theorem oX11_init : mO mX11_init = 49 := rfl
theorem lX11_init : mL mX11_init = 2 := rfl
theorem rX11_init : mR mX11_init = (Option.none : Option FieldType) := rfl
theorem vX11_init : mV mX11_init = 2 := rfl
theorem nX11_init : (mY mX11_init).name = "<init>" := rfl
theorem hX11_init : mH mX11_init = none := rfl
theorem kX11_init : MOk mX11_init := ⟨q2135, q122, by decide +kernel⟩
theorem gX11_init : plainName (mY mX11_init).cls = true ∧ (mY mX11_init).cls = "TheatreSaga$Parser" := ⟨by decide +kernel, rfl⟩
def dkwX11_init_0 : List UInt8 := [42, 43, 181, 0, 1, 42, 183, 0, 7, 177]
abbrev dktX11_init_0 : List UInt8 := dkwX11_init_0 ++ []
theorem dksX11_init_0 : cX11_init.data.toList.drop 0 = dktX11_init_0 := by decide +kernel
theorem dX11_init_0 : DC mX11_init 0 = .ok (.aload_n 0, 1) := dk_42 (dk_at dksX11_init_0 0 rfl rfl)
theorem dX11_init_1 : DC mX11_init 1 = .ok (.aload_n 1, 1) := dk_43 (dk_at dksX11_init_0 1 rfl rfl)
theorem dX11_init_2 : DC mX11_init 2 = .ok (.putfield 1, 3) := dk_181 0 1 (dk_at dksX11_init_0 2 rfl rfl)
theorem dX11_init_5 : DC mX11_init 5 = .ok (.aload_n 0, 1) := dk_42 (dk_at dksX11_init_0 5 rfl rfl)
theorem dX11_init_6 : DC mX11_init 6 = .ok (.invokespecial 7, 3) := dk_183 0 7 (dk_at dksX11_init_0 6 rfl rfl)
theorem dX11_init_9 : DC mX11_init 9 = .ok (.return_, 1) := dk_177 (dk_at dksX11_init_0 9 rfl rfl)
abbrev cX11_text : ByteArray := prog_5_method_7_code
def yX11_text : MethodName := ⟨RX11, "text", "()Ljava/util/List;"⟩
def mX11_text : MI := (⟨"TheatreSaga$Parser", "text", "()Ljava/util/List;"⟩, prog_5_method_7_code, 3, (Option.some (FieldType.object "java/util/List")), none, 49, 15)
theorem oX11_text : mO mX11_text = 49 := rfl
theorem lX11_text : mL mX11_text = 3 := rfl
theorem rX11_text : mR mX11_text = (Option.some (FieldType.object "java/util/List")) := rfl
theorem vX11_text : mV mX11_text = 15 := rfl
theorem nX11_text : (mY mX11_text).name = "text" := rfl
theorem hX11_text : mH mX11_text = none := rfl
theorem kX11_text : MOk mX11_text := ⟨q2147, q122, by decide +kernel⟩
theorem gX11_text : plainName (mY mX11_text).cls = true ∧ (mY mX11_text).cls = "TheatreSaga$Parser" := ⟨by decide +kernel, rfl⟩
def dkwX11_text_2 : List UInt8 := [182, 0, 106, 185, 0, 110, 2, 0, 87, 167, 255, 219, 43, 176]
abbrev dktX11_text_2 : List UInt8 := dkwX11_text_2 ++ []
def dkwX11_text_1 : List UInt8 := [180, 0, 1, 180, 0, 17, 182, 0, 23, 162, 0, 26, 42, 16, 59, 16, 59, 182, 0, 46, 61, 43, 42]
abbrev dktX11_text_1 : List UInt8 := dkwX11_text_1 ++ dktX11_text_2
def dkwX11_text_0 : List UInt8 := [187, 0, 103, 89, 183, 0, 105, 76, 43, 42, 182, 0, 106, 185, 0, 110, 2, 0, 87, 42, 180, 0, 13, 42]
abbrev dktX11_text_0 : List UInt8 := dkwX11_text_0 ++ dktX11_text_1
theorem dksX11_text_0 : cX11_text.data.toList.drop 0 = dktX11_text_0 := by decide +kernel
theorem dksX11_text_1 : cX11_text.data.toList.drop 24 = dktX11_text_1 := dk_seg dksX11_text_0 24 rfl rfl
theorem dksX11_text_2 : cX11_text.data.toList.drop 47 = dktX11_text_2 := dk_seg dksX11_text_1 23 rfl rfl
theorem dX11_text_0 : DC mX11_text 0 = .ok (.new 103, 3) := dk_187 0 103 (dk_at dksX11_text_0 0 rfl rfl)
theorem dX11_text_3 : DC mX11_text 3 = .ok (.dup, 1) := dk_89 (dk_at dksX11_text_0 3 rfl rfl)
theorem dX11_text_4 : DC mX11_text 4 = .ok (.invokespecial 105, 3) := dk_183 0 105 (dk_at dksX11_text_0 4 rfl rfl)
theorem dX11_text_7 : DC mX11_text 7 = .ok (.astore_n 1, 1) := dk_76 (dk_at dksX11_text_0 7 rfl rfl)
theorem dX11_text_8 : DC mX11_text 8 = .ok (.aload_n 1, 1) := dk_43 (dk_at dksX11_text_0 8 rfl rfl)
theorem dX11_text_9 : DC mX11_text 9 = .ok (.aload_n 0, 1) := dk_42 (dk_at dksX11_text_0 9 rfl rfl)
theorem dX11_text_10 : DC mX11_text 10 = .ok (.invokevirtual 106, 3) := dk_182 0 106 (dk_at dksX11_text_0 10 rfl rfl)
theorem dX11_text_13 : DC mX11_text 13 = .ok (.invokeinterface 110 2, 5) := by decide +kernel
theorem dX11_text_18 : DC mX11_text 18 = .ok (.pop, 1) := dk_87 (dk_at dksX11_text_0 18 rfl rfl)
theorem dX11_text_19 : DC mX11_text 19 = .ok (.aload_n 0, 1) := dk_42 (dk_at dksX11_text_0 19 rfl rfl)
theorem dX11_text_20 : DC mX11_text 20 = .ok (.getfield 13, 3) := dk_180 0 13 (dk_at dksX11_text_0 20 rfl rfl)
theorem dX11_text_23 : DC mX11_text 23 = .ok (.aload_n 0, 1) := dk_42 (dk_at dksX11_text_0 23 rfl rfl)
theorem dX11_text_24 : DC mX11_text 24 = .ok (.getfield 1, 3) := dk_180 0 1 (dk_at dksX11_text_1 0 rfl rfl)
theorem dX11_text_27 : DC mX11_text 27 = .ok (.getfield 17, 3) := dk_180 0 17 (dk_at dksX11_text_1 3 rfl rfl)
theorem dX11_text_30 : DC mX11_text 30 = .ok (.invokevirtual 23, 3) := dk_182 0 23 (dk_at dksX11_text_1 6 rfl rfl)
theorem dX11_text_33 : DC mX11_text 33 = .ok (.if_icmp .ge 26, 3) := dk_162 0 26 (dk_at dksX11_text_1 9 rfl rfl)
theorem dX11_text_36 : DC mX11_text 36 = .ok (.aload_n 0, 1) := dk_42 (dk_at dksX11_text_1 12 rfl rfl)
theorem dX11_text_37 : DC mX11_text 37 = .ok (.bipush 59, 2) := dk_16 59 (dk_at dksX11_text_1 13 rfl rfl)
theorem dX11_text_39 : DC mX11_text 39 = .ok (.bipush 59, 2) := dk_16 59 (dk_at dksX11_text_1 15 rfl rfl)
theorem dX11_text_41 : DC mX11_text 41 = .ok (.invokevirtual 46, 3) := dk_182 0 46 (dk_at dksX11_text_1 17 rfl rfl)
theorem dX11_text_44 : DC mX11_text 44 = .ok (.istore_n 2, 1) := dk_61 (dk_at dksX11_text_1 20 rfl rfl)
theorem dX11_text_45 : DC mX11_text 45 = .ok (.aload_n 1, 1) := dk_43 (dk_at dksX11_text_1 21 rfl rfl)
theorem dX11_text_46 : DC mX11_text 46 = .ok (.aload_n 0, 1) := dk_42 (dk_at dksX11_text_1 22 rfl rfl)
theorem dX11_text_47 : DC mX11_text 47 = .ok (.invokevirtual 106, 3) := dk_182 0 106 (dk_at dksX11_text_2 0 rfl rfl)
theorem dX11_text_50 : DC mX11_text 50 = .ok (.invokeinterface 110 2, 5) := by decide +kernel
theorem dX11_text_55 : DC mX11_text 55 = .ok (.pop, 1) := dk_87 (dk_at dksX11_text_2 8 rfl rfl)
theorem dX11_text_56 : DC mX11_text 56 = .ok (.goto (-37), 3) := dk_167 255 219 (dk_at dksX11_text_2 9 rfl rfl)
theorem dX11_text_59 : DC mX11_text 59 = .ok (.aload_n 1, 1) := dk_43 (dk_at dksX11_text_2 12 rfl rfl)
theorem dX11_text_60 : DC mX11_text 60 = .ok (.areturn, 1) := dk_176 (dk_at dksX11_text_2 13 rfl rfl)
abbrev cX11_command : ByteArray := prog_5_method_6_code
def yX11_command : MethodName := ⟨RX11, "command", "()LTheatreSaga$Deed;"⟩
def mX11_command : MI := (⟨"TheatreSaga$Parser", "command", "()LTheatreSaga$Deed;"⟩, prog_5_method_6_code, 8, (Option.some (FieldType.object "TheatreSaga$Deed")), none, 49, 14)
theorem oX11_command : mO mX11_command = 49 := rfl
theorem lX11_command : mL mX11_command = 8 := rfl
theorem rX11_command : mR mX11_command = (Option.some (FieldType.object "TheatreSaga$Deed")) := rfl
theorem vX11_command : mV mX11_command = 14 := rfl
theorem nX11_command : (mY mX11_command).name = "command" := rfl
theorem hX11_command : mH mX11_command = none := rfl
theorem kX11_command : MOk mX11_command := ⟨q2153, q122, by decide +kernel⟩
theorem gX11_command : plainName (mY mX11_command).cls = true ∧ (mY mX11_command).cls = "TheatreSaga$Parser" := ⟨by decide +kernel, rfl⟩
def dkwX11_command_10 : List UInt8 := [183, 0, 100, 176]
abbrev dktX11_command_10 : List UInt8 := dkwX11_command_10 ++ []
def dkwX11_command_9 : List UInt8 := [21, 6, 79, 89, 6, 21, 7, 79, 183, 0, 100, 176, 187, 0, 98, 89, 43, 4, 188, 10, 89, 3, 28, 79]
abbrev dktX11_command_9 : List UInt8 := dkwX11_command_9 ++ dktX11_command_10
def dkwX11_command_8 : List UInt8 := [182, 0, 85, 54, 7, 187, 0, 98, 89, 43, 7, 188, 10, 89, 3, 28, 79, 89, 4, 21, 5, 79, 89, 5]
abbrev dktX11_command_8 : List UInt8 := dkwX11_command_8 ++ dktX11_command_9
def dkwX11_command_7 : List UInt8 := [153, 0, 7, 4, 167, 0, 23, 42, 16, 120, 43, 18, 96, 182, 0, 81, 153, 0, 7, 5, 167, 0, 4, 4]
abbrev dktX11_command_7 : List UInt8 := dkwX11_command_7 ++ dktX11_command_8
def dkwX11_command_6 : List UInt8 := [42, 16, 32, 4, 182, 0, 85, 54, 5, 42, 16, 47, 5, 182, 0, 85, 54, 6, 43, 18, 92, 182, 0, 81]
abbrev dktX11_command_6 : List UInt8 := dkwX11_command_6 ++ dktX11_command_7
def dkwX11_command_5 : List UInt8 := [170, 0, 0, 0, 0, 0, 0, 112, 0, 0, 0, 0, 0, 0, 0, 2, 0, 0, 0, 28, 0, 0, 0, 28, 0, 0, 0, 28]
abbrev dktX11_command_5 : List UInt8 := dkwX11_command_5 ++ dktX11_command_6
def dkwX11_command_4 : List UInt8 := [4, 54, 4, 167, 0, 15, 45, 18, 96, 182, 0, 81, 153, 0, 6, 5, 54, 4, 21, 4]
abbrev dktX11_command_4 : List UInt8 := dkwX11_command_4 ++ dktX11_command_5
def dkwX11_command_3 : List UInt8 := [45, 18, 92, 182, 0, 81, 153, 0, 36, 3, 54, 4, 167, 0, 30, 45, 18, 94, 182, 0, 81, 153, 0, 21]
abbrev dktX11_command_3 : List UInt8 := dkwX11_command_3 ++ dktX11_command_4
def dkwX11_command_2 : List UInt8 := [171, 0, 0, 0, 75, 0, 0, 0, 3, 208, 152, 26, 119, 0, 0, 0, 48, 0, 46, 20, 18, 0, 0, 0, 63, 0, 48, 192, 57, 0, 0, 0, 33]
abbrev dktX11_command_2 : List UInt8 := dkwX11_command_2 ++ dktX11_command_3
def dkwX11_command_1 : List UInt8 := [182, 0, 85, 61, 43, 78, 2, 54, 4, 45, 182, 0, 89]
abbrev dktX11_command_1 : List UInt8 := dkwX11_command_1 ++ dktX11_command_2
def dkwX11_command_0 : List UInt8 := [42, 182, 0, 76, 76, 42, 16, 32, 43, 18, 79, 182, 0, 81, 153, 0, 7, 5, 167, 0, 4, 4]
abbrev dktX11_command_0 : List UInt8 := dkwX11_command_0 ++ dktX11_command_1
theorem dksX11_command_0 : cX11_command.data.toList.drop 0 = dktX11_command_0 := by decide +kernel
theorem dksX11_command_1 : cX11_command.data.toList.drop 22 = dktX11_command_1 := dk_seg dksX11_command_0 22 rfl rfl
theorem dksX11_command_2 : cX11_command.data.toList.drop 35 = dktX11_command_2 := dk_seg dksX11_command_1 13 rfl rfl
theorem dksX11_command_3 : cX11_command.data.toList.drop 68 = dktX11_command_3 := dk_seg dksX11_command_2 33 rfl rfl
theorem dksX11_command_4 : cX11_command.data.toList.drop 92 = dktX11_command_4 := dk_seg dksX11_command_3 24 rfl rfl
theorem dksX11_command_5 : cX11_command.data.toList.drop 112 = dktX11_command_5 := dk_seg dksX11_command_4 20 rfl rfl
theorem dksX11_command_6 : cX11_command.data.toList.drop 140 = dktX11_command_6 := dk_seg dksX11_command_5 28 rfl rfl
theorem dksX11_command_7 : cX11_command.data.toList.drop 164 = dktX11_command_7 := dk_seg dksX11_command_6 24 rfl rfl
theorem dksX11_command_8 : cX11_command.data.toList.drop 188 = dktX11_command_8 := dk_seg dksX11_command_7 24 rfl rfl
theorem dksX11_command_9 : cX11_command.data.toList.drop 212 = dktX11_command_9 := dk_seg dksX11_command_8 24 rfl rfl
theorem dksX11_command_10 : cX11_command.data.toList.drop 236 = dktX11_command_10 := dk_seg dksX11_command_9 24 rfl rfl
theorem dX11_command_0 : DC mX11_command 0 = .ok (.aload_n 0, 1) := dk_42 (dk_at dksX11_command_0 0 rfl rfl)
theorem dX11_command_1 : DC mX11_command 1 = .ok (.invokevirtual 76, 3) := dk_182 0 76 (dk_at dksX11_command_0 1 rfl rfl)
theorem dX11_command_4 : DC mX11_command 4 = .ok (.astore_n 1, 1) := dk_76 (dk_at dksX11_command_0 4 rfl rfl)
theorem dX11_command_5 : DC mX11_command 5 = .ok (.aload_n 0, 1) := dk_42 (dk_at dksX11_command_0 5 rfl rfl)
theorem dX11_command_6 : DC mX11_command 6 = .ok (.bipush 32, 2) := dk_16 32 (dk_at dksX11_command_0 6 rfl rfl)
theorem dX11_command_8 : DC mX11_command 8 = .ok (.aload_n 1, 1) := dk_43 (dk_at dksX11_command_0 8 rfl rfl)
theorem dX11_command_9 : DC mX11_command 9 = .ok (.ldc 79, 2) := dk_18 79 (dk_at dksX11_command_0 9 rfl rfl)
theorem dX11_command_11 : DC mX11_command 11 = .ok (.invokevirtual 81, 3) := dk_182 0 81 (dk_at dksX11_command_0 11 rfl rfl)
theorem dX11_command_14 : DC mX11_command 14 = .ok (.ifCond .eq 7, 3) := dk_153 0 7 (dk_at dksX11_command_0 14 rfl rfl)
theorem dX11_command_17 : DC mX11_command 17 = .ok (.iconst 2, 1) := dk_5 (dk_at dksX11_command_0 17 rfl rfl)
theorem dX11_command_18 : DC mX11_command 18 = .ok (.goto 4, 3) := dk_167 0 4 (dk_at dksX11_command_0 18 rfl rfl)
theorem dX11_command_21 : DC mX11_command 21 = .ok (.iconst 1, 1) := dk_4 (dk_at dksX11_command_0 21 rfl rfl)
theorem dX11_command_22 : DC mX11_command 22 = .ok (.invokevirtual 85, 3) := dk_182 0 85 (dk_at dksX11_command_1 0 rfl rfl)
theorem dX11_command_25 : DC mX11_command 25 = .ok (.istore_n 2, 1) := dk_61 (dk_at dksX11_command_1 3 rfl rfl)
theorem dX11_command_26 : DC mX11_command 26 = .ok (.aload_n 1, 1) := dk_43 (dk_at dksX11_command_1 4 rfl rfl)
theorem dX11_command_27 : DC mX11_command 27 = .ok (.astore_n 3, 1) := dk_78 (dk_at dksX11_command_1 5 rfl rfl)
theorem dX11_command_28 : DC mX11_command 28 = .ok (.iconst (-1), 1) := dk_2 (dk_at dksX11_command_1 6 rfl rfl)
theorem dX11_command_29 : DC mX11_command 29 = .ok (.istore 4, 2) := dk_54 4 (dk_at dksX11_command_1 7 rfl rfl)
theorem dX11_command_31 : DC mX11_command 31 = .ok (.aload_n 3, 1) := dk_45 (dk_at dksX11_command_1 9 rfl rfl)
theorem dX11_command_32 : DC mX11_command 32 = .ok (.invokevirtual 89, 3) := dk_182 0 89 (dk_at dksX11_command_1 10 rfl rfl)
theorem dX11_command_35 : DC mX11_command 35 = .ok (.lookupswitch 75 #[(-795338121, 48), (3019794, 63), (3194937, 33)], 33) := by decide +kernel
theorem dX11_command_68 : DC mX11_command 68 = .ok (.aload_n 3, 1) := dk_45 (dk_at dksX11_command_3 0 rfl rfl)
theorem dX11_command_69 : DC mX11_command 69 = .ok (.ldc 92, 2) := dk_18 92 (dk_at dksX11_command_3 1 rfl rfl)
theorem dX11_command_71 : DC mX11_command 71 = .ok (.invokevirtual 81, 3) := dk_182 0 81 (dk_at dksX11_command_3 3 rfl rfl)
theorem dX11_command_74 : DC mX11_command 74 = .ok (.ifCond .eq 36, 3) := dk_153 0 36 (dk_at dksX11_command_3 6 rfl rfl)
theorem dX11_command_77 : DC mX11_command 77 = .ok (.iconst 0, 1) := dk_3 (dk_at dksX11_command_3 9 rfl rfl)
theorem dX11_command_78 : DC mX11_command 78 = .ok (.istore 4, 2) := dk_54 4 (dk_at dksX11_command_3 10 rfl rfl)
theorem dX11_command_80 : DC mX11_command 80 = .ok (.goto 30, 3) := dk_167 0 30 (dk_at dksX11_command_3 12 rfl rfl)
theorem dX11_command_83 : DC mX11_command 83 = .ok (.aload_n 3, 1) := dk_45 (dk_at dksX11_command_3 15 rfl rfl)
theorem dX11_command_84 : DC mX11_command 84 = .ok (.ldc 94, 2) := dk_18 94 (dk_at dksX11_command_3 16 rfl rfl)
theorem dX11_command_86 : DC mX11_command 86 = .ok (.invokevirtual 81, 3) := dk_182 0 81 (dk_at dksX11_command_3 18 rfl rfl)
theorem dX11_command_89 : DC mX11_command 89 = .ok (.ifCond .eq 21, 3) := dk_153 0 21 (dk_at dksX11_command_3 21 rfl rfl)
theorem dX11_command_92 : DC mX11_command 92 = .ok (.iconst 1, 1) := dk_4 (dk_at dksX11_command_4 0 rfl rfl)
theorem dX11_command_93 : DC mX11_command 93 = .ok (.istore 4, 2) := dk_54 4 (dk_at dksX11_command_4 1 rfl rfl)
theorem dX11_command_95 : DC mX11_command 95 = .ok (.goto 15, 3) := dk_167 0 15 (dk_at dksX11_command_4 3 rfl rfl)
theorem dX11_command_98 : DC mX11_command 98 = .ok (.aload_n 3, 1) := dk_45 (dk_at dksX11_command_4 6 rfl rfl)
theorem dX11_command_99 : DC mX11_command 99 = .ok (.ldc 96, 2) := dk_18 96 (dk_at dksX11_command_4 7 rfl rfl)
theorem dX11_command_101 : DC mX11_command 101 = .ok (.invokevirtual 81, 3) := dk_182 0 81 (dk_at dksX11_command_4 9 rfl rfl)
theorem dX11_command_104 : DC mX11_command 104 = .ok (.ifCond .eq 6, 3) := dk_153 0 6 (dk_at dksX11_command_4 12 rfl rfl)
theorem dX11_command_107 : DC mX11_command 107 = .ok (.iconst 2, 1) := dk_5 (dk_at dksX11_command_4 15 rfl rfl)
theorem dX11_command_108 : DC mX11_command 108 = .ok (.istore 4, 2) := dk_54 4 (dk_at dksX11_command_4 16 rfl rfl)
theorem dX11_command_110 : DC mX11_command 110 = .ok (.iload 4, 2) := dk_21 4 (dk_at dksX11_command_4 18 rfl rfl)
theorem dX11_command_112 : DC mX11_command 112 = .ok (.tableswitch 112 0 2 #[28, 28, 28], 28) := by decide +kernel
theorem dX11_command_140 : DC mX11_command 140 = .ok (.aload_n 0, 1) := dk_42 (dk_at dksX11_command_6 0 rfl rfl)
theorem dX11_command_141 : DC mX11_command 141 = .ok (.bipush 32, 2) := dk_16 32 (dk_at dksX11_command_6 1 rfl rfl)
theorem dX11_command_143 : DC mX11_command 143 = .ok (.iconst 1, 1) := dk_4 (dk_at dksX11_command_6 3 rfl rfl)
theorem dX11_command_144 : DC mX11_command 144 = .ok (.invokevirtual 85, 3) := dk_182 0 85 (dk_at dksX11_command_6 4 rfl rfl)
theorem dX11_command_147 : DC mX11_command 147 = .ok (.istore 5, 2) := dk_54 5 (dk_at dksX11_command_6 7 rfl rfl)
theorem dX11_command_149 : DC mX11_command 149 = .ok (.aload_n 0, 1) := dk_42 (dk_at dksX11_command_6 9 rfl rfl)
theorem dX11_command_150 : DC mX11_command 150 = .ok (.bipush 47, 2) := dk_16 47 (dk_at dksX11_command_6 10 rfl rfl)
theorem dX11_command_152 : DC mX11_command 152 = .ok (.iconst 2, 1) := dk_5 (dk_at dksX11_command_6 12 rfl rfl)
theorem dX11_command_153 : DC mX11_command 153 = .ok (.invokevirtual 85, 3) := dk_182 0 85 (dk_at dksX11_command_6 13 rfl rfl)
theorem dX11_command_156 : DC mX11_command 156 = .ok (.istore 6, 2) := dk_54 6 (dk_at dksX11_command_6 16 rfl rfl)
theorem dX11_command_158 : DC mX11_command 158 = .ok (.aload_n 1, 1) := dk_43 (dk_at dksX11_command_6 18 rfl rfl)
theorem dX11_command_159 : DC mX11_command 159 = .ok (.ldc 92, 2) := dk_18 92 (dk_at dksX11_command_6 19 rfl rfl)
theorem dX11_command_161 : DC mX11_command 161 = .ok (.invokevirtual 81, 3) := dk_182 0 81 (dk_at dksX11_command_6 21 rfl rfl)
theorem dX11_command_164 : DC mX11_command 164 = .ok (.ifCond .eq 7, 3) := dk_153 0 7 (dk_at dksX11_command_7 0 rfl rfl)
theorem dX11_command_167 : DC mX11_command 167 = .ok (.iconst 1, 1) := dk_4 (dk_at dksX11_command_7 3 rfl rfl)
theorem dX11_command_168 : DC mX11_command 168 = .ok (.goto 23, 3) := dk_167 0 23 (dk_at dksX11_command_7 4 rfl rfl)
theorem dX11_command_171 : DC mX11_command 171 = .ok (.aload_n 0, 1) := dk_42 (dk_at dksX11_command_7 7 rfl rfl)
theorem dX11_command_172 : DC mX11_command 172 = .ok (.bipush 120, 2) := dk_16 120 (dk_at dksX11_command_7 8 rfl rfl)
theorem dX11_command_174 : DC mX11_command 174 = .ok (.aload_n 1, 1) := dk_43 (dk_at dksX11_command_7 10 rfl rfl)
theorem dX11_command_175 : DC mX11_command 175 = .ok (.ldc 96, 2) := dk_18 96 (dk_at dksX11_command_7 11 rfl rfl)
theorem dX11_command_177 : DC mX11_command 177 = .ok (.invokevirtual 81, 3) := dk_182 0 81 (dk_at dksX11_command_7 13 rfl rfl)
theorem dX11_command_180 : DC mX11_command 180 = .ok (.ifCond .eq 7, 3) := dk_153 0 7 (dk_at dksX11_command_7 16 rfl rfl)
theorem dX11_command_183 : DC mX11_command 183 = .ok (.iconst 2, 1) := dk_5 (dk_at dksX11_command_7 19 rfl rfl)
theorem dX11_command_184 : DC mX11_command 184 = .ok (.goto 4, 3) := dk_167 0 4 (dk_at dksX11_command_7 20 rfl rfl)
theorem dX11_command_187 : DC mX11_command 187 = .ok (.iconst 1, 1) := dk_4 (dk_at dksX11_command_7 23 rfl rfl)
theorem dX11_command_188 : DC mX11_command 188 = .ok (.invokevirtual 85, 3) := dk_182 0 85 (dk_at dksX11_command_8 0 rfl rfl)
theorem dX11_command_191 : DC mX11_command 191 = .ok (.istore 7, 2) := dk_54 7 (dk_at dksX11_command_8 3 rfl rfl)
theorem dX11_command_193 : DC mX11_command 193 = .ok (.new 98, 3) := dk_187 0 98 (dk_at dksX11_command_8 5 rfl rfl)
theorem dX11_command_196 : DC mX11_command 196 = .ok (.dup, 1) := dk_89 (dk_at dksX11_command_8 8 rfl rfl)
theorem dX11_command_197 : DC mX11_command 197 = .ok (.aload_n 1, 1) := dk_43 (dk_at dksX11_command_8 9 rfl rfl)
theorem dX11_command_198 : DC mX11_command 198 = .ok (.iconst 4, 1) := dk_7 (dk_at dksX11_command_8 10 rfl rfl)
theorem dX11_command_199 : DC mX11_command 199 = .ok (.newarray .int, 2) := dk_188_10 (dk_at dksX11_command_8 11 rfl rfl)
theorem dX11_command_201 : DC mX11_command 201 = .ok (.dup, 1) := dk_89 (dk_at dksX11_command_8 13 rfl rfl)
theorem dX11_command_202 : DC mX11_command 202 = .ok (.iconst 0, 1) := dk_3 (dk_at dksX11_command_8 14 rfl rfl)
theorem dX11_command_203 : DC mX11_command 203 = .ok (.iload_n 2, 1) := dk_28 (dk_at dksX11_command_8 15 rfl rfl)
theorem dX11_command_204 : DC mX11_command 204 = .ok (.iastore, 1) := dk_79 (dk_at dksX11_command_8 16 rfl rfl)
theorem dX11_command_205 : DC mX11_command 205 = .ok (.dup, 1) := dk_89 (dk_at dksX11_command_8 17 rfl rfl)
theorem dX11_command_206 : DC mX11_command 206 = .ok (.iconst 1, 1) := dk_4 (dk_at dksX11_command_8 18 rfl rfl)
theorem dX11_command_207 : DC mX11_command 207 = .ok (.iload 5, 2) := dk_21 5 (dk_at dksX11_command_8 19 rfl rfl)
theorem dX11_command_209 : DC mX11_command 209 = .ok (.iastore, 1) := dk_79 (dk_at dksX11_command_8 21 rfl rfl)
theorem dX11_command_210 : DC mX11_command 210 = .ok (.dup, 1) := dk_89 (dk_at dksX11_command_8 22 rfl rfl)
theorem dX11_command_211 : DC mX11_command 211 = .ok (.iconst 2, 1) := dk_5 (dk_at dksX11_command_8 23 rfl rfl)
theorem dX11_command_212 : DC mX11_command 212 = .ok (.iload 6, 2) := dk_21 6 (dk_at dksX11_command_9 0 rfl rfl)
theorem dX11_command_214 : DC mX11_command 214 = .ok (.iastore, 1) := dk_79 (dk_at dksX11_command_9 2 rfl rfl)
theorem dX11_command_215 : DC mX11_command 215 = .ok (.dup, 1) := dk_89 (dk_at dksX11_command_9 3 rfl rfl)
theorem dX11_command_216 : DC mX11_command 216 = .ok (.iconst 3, 1) := dk_6 (dk_at dksX11_command_9 4 rfl rfl)
theorem dX11_command_217 : DC mX11_command 217 = .ok (.iload 7, 2) := dk_21 7 (dk_at dksX11_command_9 5 rfl rfl)
theorem dX11_command_219 : DC mX11_command 219 = .ok (.iastore, 1) := dk_79 (dk_at dksX11_command_9 7 rfl rfl)
theorem dX11_command_220 : DC mX11_command 220 = .ok (.invokespecial 100, 3) := dk_183 0 100 (dk_at dksX11_command_9 8 rfl rfl)
theorem dX11_command_223 : DC mX11_command 223 = .ok (.areturn, 1) := dk_176 (dk_at dksX11_command_9 11 rfl rfl)
theorem dX11_command_224 : DC mX11_command 224 = .ok (.new 98, 3) := dk_187 0 98 (dk_at dksX11_command_9 12 rfl rfl)
theorem dX11_command_227 : DC mX11_command 227 = .ok (.dup, 1) := dk_89 (dk_at dksX11_command_9 15 rfl rfl)
theorem dX11_command_228 : DC mX11_command 228 = .ok (.aload_n 1, 1) := dk_43 (dk_at dksX11_command_9 16 rfl rfl)
theorem dX11_command_229 : DC mX11_command 229 = .ok (.iconst 1, 1) := dk_4 (dk_at dksX11_command_9 17 rfl rfl)
theorem dX11_command_230 : DC mX11_command 230 = .ok (.newarray .int, 2) := dk_188_10 (dk_at dksX11_command_9 18 rfl rfl)
theorem dX11_command_232 : DC mX11_command 232 = .ok (.dup, 1) := dk_89 (dk_at dksX11_command_9 20 rfl rfl)
theorem dX11_command_233 : DC mX11_command 233 = .ok (.iconst 0, 1) := dk_3 (dk_at dksX11_command_9 21 rfl rfl)
theorem dX11_command_234 : DC mX11_command 234 = .ok (.iload_n 2, 1) := dk_28 (dk_at dksX11_command_9 22 rfl rfl)
theorem dX11_command_235 : DC mX11_command 235 = .ok (.iastore, 1) := dk_79 (dk_at dksX11_command_9 23 rfl rfl)
theorem dX11_command_236 : DC mX11_command 236 = .ok (.invokespecial 100, 3) := dk_183 0 100 (dk_at dksX11_command_10 0 rfl rfl)
theorem dX11_command_239 : DC mX11_command 239 = .ok (.areturn, 1) := dk_176 (dk_at dksX11_command_10 3 rfl rfl)
abbrev cX11_word : ByteArray := prog_5_method_5_code
def yX11_word : MethodName := ⟨RX11, "word", "()Ljava/lang/String;"⟩
def mX11_word : MI := (⟨"TheatreSaga$Parser", "word", "()Ljava/lang/String;"⟩, prog_5_method_5_code, 4, (Option.some (FieldType.object "java/lang/String")), none, 49, 11)
theorem oX11_word : mO mX11_word = 49 := rfl
theorem lX11_word : mL mX11_word = 4 := rfl
theorem rX11_word : mR mX11_word = (Option.some (FieldType.object "java/lang/String")) := rfl
theorem vX11_word : mV mX11_word = 11 := rfl
theorem nX11_word : (mY mX11_word).name = "word" := rfl
theorem hX11_word : mH mX11_word = none := rfl
theorem kX11_word : MOk mX11_word := ⟨q2157, q122, by decide +kernel⟩
theorem gX11_word : plainName (mY mX11_word).cls = true ∧ (mY mX11_word).cls = "TheatreSaga$Parser" := ⟨by decide +kernel, rfl⟩
def dkwX11_word_5 : List UInt8 := [16, 97, 16, 122, 182, 0, 46, 182, 0, 69, 182, 0, 59, 77, 167, 255, 133, 44, 4, 182, 0, 72, 176]
abbrev dktX11_word_5 : List UInt8 := dkwX11_word_5 ++ []
def dkwX11_word_4 : List UInt8 := [187, 0, 41, 89, 42, 180, 0, 13, 183, 0, 43, 191, 187, 0, 24, 89, 183, 0, 54, 44, 182, 0, 55, 42]
abbrev dktX11_word_4 : List UInt8 := dkwX11_word_4 ++ dktX11_word_5
def dkwX11_word_3 : List UInt8 := [182, 0, 69, 182, 0, 59, 182, 0, 63, 153, 0, 7, 4, 167, 0, 4, 3, 62, 29, 154, 0, 15]
abbrev dktX11_word_3 : List UInt8 := dkwX11_word_3 ++ dktX11_word_4
def dkwX11_word_2 : List UInt8 := [89, 183, 0, 54, 44, 182, 0, 55, 42, 180, 0, 1, 180, 0, 17, 42, 180, 0, 13, 182, 0, 29]
abbrev dktX11_word_2 : List UInt8 := dkwX11_word_2 ++ dktX11_word_3
def dkwX11_word_1 : List UInt8 := [182, 0, 59, 182, 0, 63, 154, 0, 103, 42, 16, 97, 16, 122, 182, 0, 37, 153, 0, 45, 43, 187, 0, 24]
abbrev dktX11_word_1 : List UInt8 := dkwX11_word_1 ++ dktX11_word_2
def dkwX11_word_0 : List UInt8 := [18, 50, 76, 18, 52, 77, 43, 187, 0, 24, 89, 183, 0, 54, 44, 182, 0, 55, 18, 52, 182, 0, 55]
abbrev dktX11_word_0 : List UInt8 := dkwX11_word_0 ++ dktX11_word_1
theorem dksX11_word_0 : cX11_word.data.toList.drop 0 = dktX11_word_0 := by decide +kernel
theorem dksX11_word_1 : cX11_word.data.toList.drop 23 = dktX11_word_1 := dk_seg dksX11_word_0 23 rfl rfl
theorem dksX11_word_2 : cX11_word.data.toList.drop 47 = dktX11_word_2 := dk_seg dksX11_word_1 24 rfl rfl
theorem dksX11_word_3 : cX11_word.data.toList.drop 69 = dktX11_word_3 := dk_seg dksX11_word_2 22 rfl rfl
theorem dksX11_word_4 : cX11_word.data.toList.drop 91 = dktX11_word_4 := dk_seg dksX11_word_3 22 rfl rfl
theorem dksX11_word_5 : cX11_word.data.toList.drop 115 = dktX11_word_5 := dk_seg dksX11_word_4 24 rfl rfl
theorem dX11_word_0 : DC mX11_word 0 = .ok (.ldc 50, 2) := dk_18 50 (dk_at dksX11_word_0 0 rfl rfl)
theorem dX11_word_2 : DC mX11_word 2 = .ok (.astore_n 1, 1) := dk_76 (dk_at dksX11_word_0 2 rfl rfl)
theorem dX11_word_3 : DC mX11_word 3 = .ok (.ldc 52, 2) := dk_18 52 (dk_at dksX11_word_0 3 rfl rfl)
theorem dX11_word_5 : DC mX11_word 5 = .ok (.astore_n 2, 1) := dk_77 (dk_at dksX11_word_0 5 rfl rfl)
theorem dX11_word_6 : DC mX11_word 6 = .ok (.aload_n 1, 1) := dk_43 (dk_at dksX11_word_0 6 rfl rfl)
theorem dX11_word_7 : DC mX11_word 7 = .ok (.new 24, 3) := dk_187 0 24 (dk_at dksX11_word_0 7 rfl rfl)
theorem dX11_word_10 : DC mX11_word 10 = .ok (.dup, 1) := dk_89 (dk_at dksX11_word_0 10 rfl rfl)
theorem dX11_word_11 : DC mX11_word 11 = .ok (.invokespecial 54, 3) := dk_183 0 54 (dk_at dksX11_word_0 11 rfl rfl)
theorem dX11_word_14 : DC mX11_word 14 = .ok (.aload_n 2, 1) := dk_44 (dk_at dksX11_word_0 14 rfl rfl)
theorem dX11_word_15 : DC mX11_word 15 = .ok (.invokevirtual 55, 3) := dk_182 0 55 (dk_at dksX11_word_0 15 rfl rfl)
theorem dX11_word_18 : DC mX11_word 18 = .ok (.ldc 52, 2) := dk_18 52 (dk_at dksX11_word_0 18 rfl rfl)
theorem dX11_word_20 : DC mX11_word 20 = .ok (.invokevirtual 55, 3) := dk_182 0 55 (dk_at dksX11_word_0 20 rfl rfl)
theorem dX11_word_23 : DC mX11_word 23 = .ok (.invokevirtual 59, 3) := dk_182 0 59 (dk_at dksX11_word_1 0 rfl rfl)
theorem dX11_word_26 : DC mX11_word 26 = .ok (.invokevirtual 63, 3) := dk_182 0 63 (dk_at dksX11_word_1 3 rfl rfl)
theorem dX11_word_29 : DC mX11_word 29 = .ok (.ifCond .ne 103, 3) := dk_154 0 103 (dk_at dksX11_word_1 6 rfl rfl)
theorem dX11_word_32 : DC mX11_word 32 = .ok (.aload_n 0, 1) := dk_42 (dk_at dksX11_word_1 9 rfl rfl)
theorem dX11_word_33 : DC mX11_word 33 = .ok (.bipush 97, 2) := dk_16 97 (dk_at dksX11_word_1 10 rfl rfl)
theorem dX11_word_35 : DC mX11_word 35 = .ok (.bipush 122, 2) := dk_16 122 (dk_at dksX11_word_1 12 rfl rfl)
theorem dX11_word_37 : DC mX11_word 37 = .ok (.invokevirtual 37, 3) := dk_182 0 37 (dk_at dksX11_word_1 14 rfl rfl)
theorem dX11_word_40 : DC mX11_word 40 = .ok (.ifCond .eq 45, 3) := dk_153 0 45 (dk_at dksX11_word_1 17 rfl rfl)
theorem dX11_word_43 : DC mX11_word 43 = .ok (.aload_n 1, 1) := dk_43 (dk_at dksX11_word_1 20 rfl rfl)
theorem dX11_word_44 : DC mX11_word 44 = .ok (.new 24, 3) := dk_187 0 24 (dk_at dksX11_word_1 21 rfl rfl)
theorem dX11_word_47 : DC mX11_word 47 = .ok (.dup, 1) := dk_89 (dk_at dksX11_word_2 0 rfl rfl)
theorem dX11_word_48 : DC mX11_word 48 = .ok (.invokespecial 54, 3) := dk_183 0 54 (dk_at dksX11_word_2 1 rfl rfl)
theorem dX11_word_51 : DC mX11_word 51 = .ok (.aload_n 2, 1) := dk_44 (dk_at dksX11_word_2 4 rfl rfl)
theorem dX11_word_52 : DC mX11_word 52 = .ok (.invokevirtual 55, 3) := dk_182 0 55 (dk_at dksX11_word_2 5 rfl rfl)
theorem dX11_word_55 : DC mX11_word 55 = .ok (.aload_n 0, 1) := dk_42 (dk_at dksX11_word_2 8 rfl rfl)
theorem dX11_word_56 : DC mX11_word 56 = .ok (.getfield 1, 3) := dk_180 0 1 (dk_at dksX11_word_2 9 rfl rfl)
theorem dX11_word_59 : DC mX11_word 59 = .ok (.getfield 17, 3) := dk_180 0 17 (dk_at dksX11_word_2 12 rfl rfl)
theorem dX11_word_62 : DC mX11_word 62 = .ok (.aload_n 0, 1) := dk_42 (dk_at dksX11_word_2 15 rfl rfl)
theorem dX11_word_63 : DC mX11_word 63 = .ok (.getfield 13, 3) := dk_180 0 13 (dk_at dksX11_word_2 16 rfl rfl)
theorem dX11_word_66 : DC mX11_word 66 = .ok (.invokevirtual 29, 3) := dk_182 0 29 (dk_at dksX11_word_2 19 rfl rfl)
theorem dX11_word_69 : DC mX11_word 69 = .ok (.invokevirtual 69, 3) := dk_182 0 69 (dk_at dksX11_word_3 0 rfl rfl)
theorem dX11_word_72 : DC mX11_word 72 = .ok (.invokevirtual 59, 3) := dk_182 0 59 (dk_at dksX11_word_3 3 rfl rfl)
theorem dX11_word_75 : DC mX11_word 75 = .ok (.invokevirtual 63, 3) := dk_182 0 63 (dk_at dksX11_word_3 6 rfl rfl)
theorem dX11_word_78 : DC mX11_word 78 = .ok (.ifCond .eq 7, 3) := dk_153 0 7 (dk_at dksX11_word_3 9 rfl rfl)
theorem dX11_word_81 : DC mX11_word 81 = .ok (.iconst 1, 1) := dk_4 (dk_at dksX11_word_3 12 rfl rfl)
theorem dX11_word_82 : DC mX11_word 82 = .ok (.goto 4, 3) := dk_167 0 4 (dk_at dksX11_word_3 13 rfl rfl)
theorem dX11_word_85 : DC mX11_word 85 = .ok (.iconst 0, 1) := dk_3 (dk_at dksX11_word_3 16 rfl rfl)
theorem dX11_word_86 : DC mX11_word 86 = .ok (.istore_n 3, 1) := dk_62 (dk_at dksX11_word_3 17 rfl rfl)
theorem dX11_word_87 : DC mX11_word 87 = .ok (.iload_n 3, 1) := dk_29 (dk_at dksX11_word_3 18 rfl rfl)
theorem dX11_word_88 : DC mX11_word 88 = .ok (.ifCond .ne 15, 3) := dk_154 0 15 (dk_at dksX11_word_3 19 rfl rfl)
theorem dX11_word_91 : DC mX11_word 91 = .ok (.new 41, 3) := dk_187 0 41 (dk_at dksX11_word_4 0 rfl rfl)
theorem dX11_word_94 : DC mX11_word 94 = .ok (.dup, 1) := dk_89 (dk_at dksX11_word_4 3 rfl rfl)
theorem dX11_word_95 : DC mX11_word 95 = .ok (.aload_n 0, 1) := dk_42 (dk_at dksX11_word_4 4 rfl rfl)
theorem dX11_word_96 : DC mX11_word 96 = .ok (.getfield 13, 3) := dk_180 0 13 (dk_at dksX11_word_4 5 rfl rfl)
theorem dX11_word_99 : DC mX11_word 99 = .ok (.invokespecial 43, 3) := dk_183 0 43 (dk_at dksX11_word_4 8 rfl rfl)
theorem dX11_word_102 : DC mX11_word 102 = .ok (.athrow, 1) := dk_191 (dk_at dksX11_word_4 11 rfl rfl)
theorem dX11_word_103 : DC mX11_word 103 = .ok (.new 24, 3) := dk_187 0 24 (dk_at dksX11_word_4 12 rfl rfl)
theorem dX11_word_106 : DC mX11_word 106 = .ok (.dup, 1) := dk_89 (dk_at dksX11_word_4 15 rfl rfl)
theorem dX11_word_107 : DC mX11_word 107 = .ok (.invokespecial 54, 3) := dk_183 0 54 (dk_at dksX11_word_4 16 rfl rfl)
theorem dX11_word_110 : DC mX11_word 110 = .ok (.aload_n 2, 1) := dk_44 (dk_at dksX11_word_4 19 rfl rfl)
theorem dX11_word_111 : DC mX11_word 111 = .ok (.invokevirtual 55, 3) := dk_182 0 55 (dk_at dksX11_word_4 20 rfl rfl)
theorem dX11_word_114 : DC mX11_word 114 = .ok (.aload_n 0, 1) := dk_42 (dk_at dksX11_word_4 23 rfl rfl)
theorem dX11_word_115 : DC mX11_word 115 = .ok (.bipush 97, 2) := dk_16 97 (dk_at dksX11_word_5 0 rfl rfl)
theorem dX11_word_117 : DC mX11_word 117 = .ok (.bipush 122, 2) := dk_16 122 (dk_at dksX11_word_5 2 rfl rfl)
theorem dX11_word_119 : DC mX11_word 119 = .ok (.invokevirtual 46, 3) := dk_182 0 46 (dk_at dksX11_word_5 4 rfl rfl)
theorem dX11_word_122 : DC mX11_word 122 = .ok (.invokevirtual 69, 3) := dk_182 0 69 (dk_at dksX11_word_5 7 rfl rfl)
theorem dX11_word_125 : DC mX11_word 125 = .ok (.invokevirtual 59, 3) := dk_182 0 59 (dk_at dksX11_word_5 10 rfl rfl)
theorem dX11_word_128 : DC mX11_word 128 = .ok (.astore_n 2, 1) := dk_77 (dk_at dksX11_word_5 13 rfl rfl)
theorem dX11_word_129 : DC mX11_word 129 = .ok (.goto (-123), 3) := dk_167 255 133 (dk_at dksX11_word_5 14 rfl rfl)
theorem dX11_word_132 : DC mX11_word 132 = .ok (.aload_n 2, 1) := dk_44 (dk_at dksX11_word_5 17 rfl rfl)
theorem dX11_word_133 : DC mX11_word 133 = .ok (.iconst 1, 1) := dk_4 (dk_at dksX11_word_5 18 rfl rfl)
theorem dX11_word_134 : DC mX11_word 134 = .ok (.invokevirtual 72, 3) := dk_182 0 72 (dk_at dksX11_word_5 19 rfl rfl)
theorem dX11_word_137 : DC mX11_word 137 = .ok (.areturn, 1) := dk_176 (dk_at dksX11_word_5 22 rfl rfl)
abbrev cX11_isAt : ByteArray := prog_5_method_2_code
def yX11_isAt : MethodName := ⟨RX11, "isAt", "(CC)Z"⟩
def mX11_isAt : MI := (⟨"TheatreSaga$Parser", "isAt", "(CC)Z"⟩, prog_5_method_2_code, 3, (Option.some FieldType.boolean), none, 49, 5)
theorem oX11_isAt : mO mX11_isAt = 49 := rfl
theorem lX11_isAt : mL mX11_isAt = 3 := rfl
theorem rX11_isAt : mR mX11_isAt = (Option.some FieldType.boolean) := rfl
theorem vX11_isAt : mV mX11_isAt = 5 := rfl
theorem nX11_isAt : (mY mX11_isAt).name = "isAt" := rfl
theorem hX11_isAt : mH mX11_isAt = none := rfl
theorem kX11_isAt : MOk mX11_isAt := ⟨q2205, q122, by decide +kernel⟩
theorem gX11_isAt : plainName (mY mX11_isAt).cls = true ∧ (mY mX11_isAt).cls = "TheatreSaga$Parser" := ⟨by decide +kernel, rfl⟩
def dkwX11_isAt_1 : List UInt8 := [42, 180, 0, 13, 182, 0, 29, 27, 28, 184, 0, 33, 153, 0, 7, 4, 167, 0, 4, 3, 172]
abbrev dktX11_isAt_1 : List UInt8 := dkwX11_isAt_1 ++ []
def dkwX11_isAt_0 : List UInt8 := [42, 180, 0, 13, 42, 180, 0, 1, 180, 0, 17, 182, 0, 23, 162, 0, 29, 42, 180, 0, 1, 180, 0, 17]
abbrev dktX11_isAt_0 : List UInt8 := dkwX11_isAt_0 ++ dktX11_isAt_1
theorem dksX11_isAt_0 : cX11_isAt.data.toList.drop 0 = dktX11_isAt_0 := by decide +kernel
theorem dksX11_isAt_1 : cX11_isAt.data.toList.drop 24 = dktX11_isAt_1 := dk_seg dksX11_isAt_0 24 rfl rfl
theorem dX11_isAt_0 : DC mX11_isAt 0 = .ok (.aload_n 0, 1) := dk_42 (dk_at dksX11_isAt_0 0 rfl rfl)
theorem dX11_isAt_1 : DC mX11_isAt 1 = .ok (.getfield 13, 3) := dk_180 0 13 (dk_at dksX11_isAt_0 1 rfl rfl)
theorem dX11_isAt_4 : DC mX11_isAt 4 = .ok (.aload_n 0, 1) := dk_42 (dk_at dksX11_isAt_0 4 rfl rfl)
theorem dX11_isAt_5 : DC mX11_isAt 5 = .ok (.getfield 1, 3) := dk_180 0 1 (dk_at dksX11_isAt_0 5 rfl rfl)
theorem dX11_isAt_8 : DC mX11_isAt 8 = .ok (.getfield 17, 3) := dk_180 0 17 (dk_at dksX11_isAt_0 8 rfl rfl)
theorem dX11_isAt_11 : DC mX11_isAt 11 = .ok (.invokevirtual 23, 3) := dk_182 0 23 (dk_at dksX11_isAt_0 11 rfl rfl)
theorem dX11_isAt_14 : DC mX11_isAt 14 = .ok (.if_icmp .ge 29, 3) := dk_162 0 29 (dk_at dksX11_isAt_0 14 rfl rfl)
theorem dX11_isAt_17 : DC mX11_isAt 17 = .ok (.aload_n 0, 1) := dk_42 (dk_at dksX11_isAt_0 17 rfl rfl)
theorem dX11_isAt_18 : DC mX11_isAt 18 = .ok (.getfield 1, 3) := dk_180 0 1 (dk_at dksX11_isAt_0 18 rfl rfl)
theorem dX11_isAt_21 : DC mX11_isAt 21 = .ok (.getfield 17, 3) := dk_180 0 17 (dk_at dksX11_isAt_0 21 rfl rfl)
theorem dX11_isAt_24 : DC mX11_isAt 24 = .ok (.aload_n 0, 1) := dk_42 (dk_at dksX11_isAt_1 0 rfl rfl)
theorem dX11_isAt_25 : DC mX11_isAt 25 = .ok (.getfield 13, 3) := dk_180 0 13 (dk_at dksX11_isAt_1 1 rfl rfl)
theorem dX11_isAt_28 : DC mX11_isAt 28 = .ok (.invokevirtual 29, 3) := dk_182 0 29 (dk_at dksX11_isAt_1 4 rfl rfl)
theorem dX11_isAt_31 : DC mX11_isAt 31 = .ok (.iload_n 1, 1) := dk_27 (dk_at dksX11_isAt_1 7 rfl rfl)
theorem dX11_isAt_32 : DC mX11_isAt 32 = .ok (.iload_n 2, 1) := dk_28 (dk_at dksX11_isAt_1 8 rfl rfl)
theorem dX11_isAt_33 : DC mX11_isAt 33 = .ok (.invokestatic 33, 3) := dk_184 0 33 (dk_at dksX11_isAt_1 9 rfl rfl)
theorem dX11_isAt_36 : DC mX11_isAt 36 = .ok (.ifCond .eq 7, 3) := dk_153 0 7 (dk_at dksX11_isAt_1 12 rfl rfl)
theorem dX11_isAt_39 : DC mX11_isAt 39 = .ok (.iconst 1, 1) := dk_4 (dk_at dksX11_isAt_1 15 rfl rfl)
theorem dX11_isAt_40 : DC mX11_isAt 40 = .ok (.goto 4, 3) := dk_167 0 4 (dk_at dksX11_isAt_1 16 rfl rfl)
theorem dX11_isAt_43 : DC mX11_isAt 43 = .ok (.iconst 0, 1) := dk_3 (dk_at dksX11_isAt_1 19 rfl rfl)
theorem dX11_isAt_44 : DC mX11_isAt 44 = .ok (.ireturn, 1) := dk_172 (dk_at dksX11_isAt_1 20 rfl rfl)
abbrev cX11_take : ByteArray := prog_5_method_3_code
def yX11_take : MethodName := ⟨RX11, "take", "(CC)C"⟩
def mX11_take : MI := (⟨"TheatreSaga$Parser", "take", "(CC)C"⟩, prog_5_method_3_code, 3, (Option.some FieldType.char), none, 49, 6)
theorem oX11_take : mO mX11_take = 49 := rfl
theorem lX11_take : mL mX11_take = 3 := rfl
theorem rX11_take : mR mX11_take = (Option.some FieldType.char) := rfl
theorem vX11_take : mV mX11_take = 6 := rfl
theorem nX11_take : (mY mX11_take).name = "take" := rfl
theorem hX11_take : mH mX11_take = none := rfl
theorem kX11_take : MOk mX11_take := ⟨q2232, q122, by decide +kernel⟩
theorem gX11_take : plainName (mY mX11_take).cls = true ∧ (mY mX11_take).cls = "TheatreSaga$Parser" := ⟨by decide +kernel, rfl⟩
def dkwX11_take_2 : List UInt8 := [172]
abbrev dktX11_take_2 : List UInt8 := dkwX11_take_2 ++ []
def dkwX11_take_1 : List UInt8 := [180, 0, 13, 4, 96, 181, 0, 13, 42, 180, 0, 1, 180, 0, 17, 42, 180, 0, 13, 4, 100, 182, 0, 29]
abbrev dktX11_take_1 : List UInt8 := dkwX11_take_1 ++ dktX11_take_2
def dkwX11_take_0 : List UInt8 := [42, 27, 28, 182, 0, 37, 154, 0, 15, 187, 0, 41, 89, 42, 180, 0, 13, 183, 0, 43, 191, 42, 89]
abbrev dktX11_take_0 : List UInt8 := dkwX11_take_0 ++ dktX11_take_1
theorem dksX11_take_0 : cX11_take.data.toList.drop 0 = dktX11_take_0 := by decide +kernel
theorem dksX11_take_1 : cX11_take.data.toList.drop 23 = dktX11_take_1 := dk_seg dksX11_take_0 23 rfl rfl
theorem dksX11_take_2 : cX11_take.data.toList.drop 47 = dktX11_take_2 := dk_seg dksX11_take_1 24 rfl rfl
theorem dX11_take_0 : DC mX11_take 0 = .ok (.aload_n 0, 1) := dk_42 (dk_at dksX11_take_0 0 rfl rfl)
theorem dX11_take_1 : DC mX11_take 1 = .ok (.iload_n 1, 1) := dk_27 (dk_at dksX11_take_0 1 rfl rfl)
theorem dX11_take_2 : DC mX11_take 2 = .ok (.iload_n 2, 1) := dk_28 (dk_at dksX11_take_0 2 rfl rfl)
theorem dX11_take_3 : DC mX11_take 3 = .ok (.invokevirtual 37, 3) := dk_182 0 37 (dk_at dksX11_take_0 3 rfl rfl)
theorem dX11_take_6 : DC mX11_take 6 = .ok (.ifCond .ne 15, 3) := dk_154 0 15 (dk_at dksX11_take_0 6 rfl rfl)
theorem dX11_take_9 : DC mX11_take 9 = .ok (.new 41, 3) := dk_187 0 41 (dk_at dksX11_take_0 9 rfl rfl)
theorem dX11_take_12 : DC mX11_take 12 = .ok (.dup, 1) := dk_89 (dk_at dksX11_take_0 12 rfl rfl)
theorem dX11_take_13 : DC mX11_take 13 = .ok (.aload_n 0, 1) := dk_42 (dk_at dksX11_take_0 13 rfl rfl)
theorem dX11_take_14 : DC mX11_take 14 = .ok (.getfield 13, 3) := dk_180 0 13 (dk_at dksX11_take_0 14 rfl rfl)
theorem dX11_take_17 : DC mX11_take 17 = .ok (.invokespecial 43, 3) := dk_183 0 43 (dk_at dksX11_take_0 17 rfl rfl)
theorem dX11_take_20 : DC mX11_take 20 = .ok (.athrow, 1) := dk_191 (dk_at dksX11_take_0 20 rfl rfl)
theorem dX11_take_21 : DC mX11_take 21 = .ok (.aload_n 0, 1) := dk_42 (dk_at dksX11_take_0 21 rfl rfl)
theorem dX11_take_22 : DC mX11_take 22 = .ok (.dup, 1) := dk_89 (dk_at dksX11_take_0 22 rfl rfl)
theorem dX11_take_23 : DC mX11_take 23 = .ok (.getfield 13, 3) := dk_180 0 13 (dk_at dksX11_take_1 0 rfl rfl)
theorem dX11_take_26 : DC mX11_take 26 = .ok (.iconst 1, 1) := dk_4 (dk_at dksX11_take_1 3 rfl rfl)
theorem dX11_take_27 : DC mX11_take 27 = .ok (.iadd, 1) := dk_96 (dk_at dksX11_take_1 4 rfl rfl)
theorem dX11_take_28 : DC mX11_take 28 = .ok (.putfield 13, 3) := dk_181 0 13 (dk_at dksX11_take_1 5 rfl rfl)
theorem dX11_take_31 : DC mX11_take 31 = .ok (.aload_n 0, 1) := dk_42 (dk_at dksX11_take_1 8 rfl rfl)
theorem dX11_take_32 : DC mX11_take 32 = .ok (.getfield 1, 3) := dk_180 0 1 (dk_at dksX11_take_1 9 rfl rfl)
theorem dX11_take_35 : DC mX11_take 35 = .ok (.getfield 17, 3) := dk_180 0 17 (dk_at dksX11_take_1 12 rfl rfl)
theorem dX11_take_38 : DC mX11_take 38 = .ok (.aload_n 0, 1) := dk_42 (dk_at dksX11_take_1 15 rfl rfl)
theorem dX11_take_39 : DC mX11_take 39 = .ok (.getfield 13, 3) := dk_180 0 13 (dk_at dksX11_take_1 16 rfl rfl)
theorem dX11_take_42 : DC mX11_take 42 = .ok (.iconst 1, 1) := dk_4 (dk_at dksX11_take_1 19 rfl rfl)
theorem dX11_take_43 : DC mX11_take 43 = .ok (.isub, 1) := dk_100 (dk_at dksX11_take_1 20 rfl rfl)
theorem dX11_take_44 : DC mX11_take 44 = .ok (.invokevirtual 29, 3) := dk_182 0 29 (dk_at dksX11_take_1 21 rfl rfl)
theorem dX11_take_47 : DC mX11_take 47 = .ok (.ireturn, 1) := dk_172 (dk_at dksX11_take_2 0 rfl rfl)
abbrev cX11_number : ByteArray := prog_5_method_4_code
def yX11_number : MethodName := ⟨RX11, "number", "(CI)I"⟩
def mX11_number : MI := (⟨"TheatreSaga$Parser", "number", "(CI)I"⟩, prog_5_method_4_code, 6, (Option.some FieldType.int), none, 49, 7)
theorem oX11_number : mO mX11_number = 49 := rfl
theorem lX11_number : mL mX11_number = 6 := rfl
theorem rX11_number : mR mX11_number = (Option.some FieldType.int) := rfl
theorem vX11_number : mV mX11_number = 7 := rfl
theorem nX11_number : (mY mX11_number).name = "number" := rfl
theorem hX11_number : mH mX11_number = none := rfl
theorem kX11_number : MOk mX11_number := ⟨q2266, q122, by decide +kernel⟩
theorem gX11_number : plainName (mY mX11_number).cls = true ∧ (mY mX11_number).cls = "TheatreSaga$Parser" := ⟨by decide +kernel, rfl⟩
def dkwX11_number_2 : List UInt8 := [16, 48, 16, 57, 182, 0, 46, 96, 16, 48, 100, 54, 4, 132, 5, 1, 167, 255, 217, 21, 4, 172]
abbrev dktX11_number_2 : List UInt8 := dkwX11_number_2 ++ []
def dkwX11_number_1 : List UInt8 := [21, 5, 28, 162, 0, 39, 42, 16, 48, 16, 57, 182, 0, 37, 153, 0, 28, 16, 10, 21, 4, 104, 42]
abbrev dktX11_number_1 : List UInt8 := dkwX11_number_1 ++ dktX11_number_2
def dkwX11_number_0 : List UInt8 := [42, 27, 27, 182, 0, 46, 62, 42, 16, 48, 16, 57, 182, 0, 46, 16, 48, 100, 54, 4, 4, 54, 5]
abbrev dktX11_number_0 : List UInt8 := dkwX11_number_0 ++ dktX11_number_1
theorem dksX11_number_0 : cX11_number.data.toList.drop 0 = dktX11_number_0 := by decide +kernel
theorem dksX11_number_1 : cX11_number.data.toList.drop 23 = dktX11_number_1 := dk_seg dksX11_number_0 23 rfl rfl
theorem dksX11_number_2 : cX11_number.data.toList.drop 46 = dktX11_number_2 := dk_seg dksX11_number_1 23 rfl rfl
theorem dX11_number_0 : DC mX11_number 0 = .ok (.aload_n 0, 1) := dk_42 (dk_at dksX11_number_0 0 rfl rfl)
theorem dX11_number_1 : DC mX11_number 1 = .ok (.iload_n 1, 1) := dk_27 (dk_at dksX11_number_0 1 rfl rfl)
theorem dX11_number_2 : DC mX11_number 2 = .ok (.iload_n 1, 1) := dk_27 (dk_at dksX11_number_0 2 rfl rfl)
theorem dX11_number_3 : DC mX11_number 3 = .ok (.invokevirtual 46, 3) := dk_182 0 46 (dk_at dksX11_number_0 3 rfl rfl)
theorem dX11_number_6 : DC mX11_number 6 = .ok (.istore_n 3, 1) := dk_62 (dk_at dksX11_number_0 6 rfl rfl)
theorem dX11_number_7 : DC mX11_number 7 = .ok (.aload_n 0, 1) := dk_42 (dk_at dksX11_number_0 7 rfl rfl)
theorem dX11_number_8 : DC mX11_number 8 = .ok (.bipush 48, 2) := dk_16 48 (dk_at dksX11_number_0 8 rfl rfl)
theorem dX11_number_10 : DC mX11_number 10 = .ok (.bipush 57, 2) := dk_16 57 (dk_at dksX11_number_0 10 rfl rfl)
theorem dX11_number_12 : DC mX11_number 12 = .ok (.invokevirtual 46, 3) := dk_182 0 46 (dk_at dksX11_number_0 12 rfl rfl)
theorem dX11_number_15 : DC mX11_number 15 = .ok (.bipush 48, 2) := dk_16 48 (dk_at dksX11_number_0 15 rfl rfl)
theorem dX11_number_17 : DC mX11_number 17 = .ok (.isub, 1) := dk_100 (dk_at dksX11_number_0 17 rfl rfl)
theorem dX11_number_18 : DC mX11_number 18 = .ok (.istore 4, 2) := dk_54 4 (dk_at dksX11_number_0 18 rfl rfl)
theorem dX11_number_20 : DC mX11_number 20 = .ok (.iconst 1, 1) := dk_4 (dk_at dksX11_number_0 20 rfl rfl)
theorem dX11_number_21 : DC mX11_number 21 = .ok (.istore 5, 2) := dk_54 5 (dk_at dksX11_number_0 21 rfl rfl)
theorem dX11_number_23 : DC mX11_number 23 = .ok (.iload 5, 2) := dk_21 5 (dk_at dksX11_number_1 0 rfl rfl)
theorem dX11_number_25 : DC mX11_number 25 = .ok (.iload_n 2, 1) := dk_28 (dk_at dksX11_number_1 2 rfl rfl)
theorem dX11_number_26 : DC mX11_number 26 = .ok (.if_icmp .ge 39, 3) := dk_162 0 39 (dk_at dksX11_number_1 3 rfl rfl)
theorem dX11_number_29 : DC mX11_number 29 = .ok (.aload_n 0, 1) := dk_42 (dk_at dksX11_number_1 6 rfl rfl)
theorem dX11_number_30 : DC mX11_number 30 = .ok (.bipush 48, 2) := dk_16 48 (dk_at dksX11_number_1 7 rfl rfl)
theorem dX11_number_32 : DC mX11_number 32 = .ok (.bipush 57, 2) := dk_16 57 (dk_at dksX11_number_1 9 rfl rfl)
theorem dX11_number_34 : DC mX11_number 34 = .ok (.invokevirtual 37, 3) := dk_182 0 37 (dk_at dksX11_number_1 11 rfl rfl)
theorem dX11_number_37 : DC mX11_number 37 = .ok (.ifCond .eq 28, 3) := dk_153 0 28 (dk_at dksX11_number_1 14 rfl rfl)
theorem dX11_number_40 : DC mX11_number 40 = .ok (.bipush 10, 2) := dk_16 10 (dk_at dksX11_number_1 17 rfl rfl)
theorem dX11_number_42 : DC mX11_number 42 = .ok (.iload 4, 2) := dk_21 4 (dk_at dksX11_number_1 19 rfl rfl)
theorem dX11_number_44 : DC mX11_number 44 = .ok (.imul, 1) := dk_104 (dk_at dksX11_number_1 21 rfl rfl)
theorem dX11_number_45 : DC mX11_number 45 = .ok (.aload_n 0, 1) := dk_42 (dk_at dksX11_number_1 22 rfl rfl)
theorem dX11_number_46 : DC mX11_number 46 = .ok (.bipush 48, 2) := dk_16 48 (dk_at dksX11_number_2 0 rfl rfl)
theorem dX11_number_48 : DC mX11_number 48 = .ok (.bipush 57, 2) := dk_16 57 (dk_at dksX11_number_2 2 rfl rfl)
theorem dX11_number_50 : DC mX11_number 50 = .ok (.invokevirtual 46, 3) := dk_182 0 46 (dk_at dksX11_number_2 4 rfl rfl)
theorem dX11_number_53 : DC mX11_number 53 = .ok (.iadd, 1) := dk_96 (dk_at dksX11_number_2 7 rfl rfl)
theorem dX11_number_54 : DC mX11_number 54 = .ok (.bipush 48, 2) := dk_16 48 (dk_at dksX11_number_2 8 rfl rfl)
theorem dX11_number_56 : DC mX11_number 56 = .ok (.isub, 1) := dk_100 (dk_at dksX11_number_2 10 rfl rfl)
theorem dX11_number_57 : DC mX11_number 57 = .ok (.istore 4, 2) := dk_54 4 (dk_at dksX11_number_2 11 rfl rfl)
theorem dX11_number_59 : DC mX11_number 59 = .ok (.iinc 5 1, 3) := dk_132 5 1 (dk_at dksX11_number_2 13 rfl rfl)
theorem dX11_number_62 : DC mX11_number 62 = .ok (.goto (-39), 3) := dk_167 255 217 (dk_at dksX11_number_2 16 rfl rfl)
theorem dX11_number_65 : DC mX11_number 65 = .ok (.iload 4, 2) := dk_21 4 (dk_at dksX11_number_2 19 rfl rfl)
theorem dX11_number_67 : DC mX11_number 67 = .ok (.ireturn, 1) := dk_172 (dk_at dksX11_number_2 21 rfl rfl)
theorem in_X11 : ∀ w ∈ wsX110, w ∈ lw_all := lw_in wsX110 [2139, 2141] (by decide +kernel) (by decide +kernel)

/-! TheatreSaga$FaultException -/
set_option maxRecDepth 100000
def RX12 : String := "TheatreSaga$FaultException"
def TX12 : u_T := fun k => match k with
  | 0 => ("java/lang/Throwable", "cause", "Ljava/lang/Throwable;", false)
  | 1 => ("java/lang/Throwable", "stackTrace", "[Ljava/lang/StackTraceElement;", false)
  | 2 => ("java/lang/Throwable", "suppressedExceptions", "Ljava/util/List;", false)
  | 3 => ("java/lang/Throwable", "detailMessage", "Ljava/lang/String;", false)
  | 4 => ("java/lang/Throwable", "backtrace", "Ljava/lang/Object;", false)
  | 5 => ("java/lang/Throwable", "depth", "I", false)
  | _ => ("TheatreSaga$FaultException", "position", "I", true)
def tyX12 : Nat → FieldType := fun k => match k with
  | 0 => .object "java/lang/Throwable"
  | 1 => .array (.object "java/lang/StackTraceElement")
  | 2 => .object "java/util/List"
  | 3 => .object "java/lang/String"
  | 4 => .object "java/lang/Object"
  | 5 => .int
  | _ => .int
abbrev wsX120 : List Cond := u_ws RX12 TX12 7
theorem nmX12 : ∀ a, a < 7 → ∀ b, b < 7 → a ≠ b → (TX12 a).2.1 ≠ (TX12 b).2.1 := by decide +kernel
theorem tyX12_ok : ∀ k, k < 7 → parseFieldDescriptor (TX12 k).2.2.1 = some (tyX12 k) := by decide +kernel
abbrev cX12_init : ByteArray := prog_4_method_1_code
def yX12_init : MethodName := ⟨RX12, "<init>", "(I)V"⟩
def mX12_init : MI := (⟨"TheatreSaga$FaultException", "<init>", "(I)V"⟩, prog_4_method_1_code, 2, (Option.none : Option FieldType), none, 50, 4)
theorem oX12_init : mO mX12_init = 50 := rfl
theorem lX12_init : mL mX12_init = 2 := rfl
theorem rX12_init : mR mX12_init = (Option.none : Option FieldType) := rfl
theorem vX12_init : mV mX12_init = 4 := rfl
theorem nX12_init : (mY mX12_init).name = "<init>" := rfl
theorem hX12_init : mH mX12_init = none := rfl
theorem kX12_init : MOk mX12_init := ⟨q2221, q123, by decide +kernel⟩
theorem gX12_init : plainName (mY mX12_init).cls = true ∧ (mY mX12_init).cls = "TheatreSaga$FaultException" := ⟨by decide +kernel, rfl⟩
def dkwX12_init_0 : List UInt8 := [42, 1, 1, 3, 3, 183, 0, 1, 42, 27, 181, 0, 7, 177]
abbrev dktX12_init_0 : List UInt8 := dkwX12_init_0 ++ []
theorem dksX12_init_0 : cX12_init.data.toList.drop 0 = dktX12_init_0 := by decide +kernel
theorem dX12_init_0 : DC mX12_init 0 = .ok (.aload_n 0, 1) := dk_42 (dk_at dksX12_init_0 0 rfl rfl)
theorem dX12_init_1 : DC mX12_init 1 = .ok (.aconst_null, 1) := dk_1 (dk_at dksX12_init_0 1 rfl rfl)
theorem dX12_init_2 : DC mX12_init 2 = .ok (.aconst_null, 1) := dk_1 (dk_at dksX12_init_0 2 rfl rfl)
theorem dX12_init_3 : DC mX12_init 3 = .ok (.iconst 0, 1) := dk_3 (dk_at dksX12_init_0 3 rfl rfl)
theorem dX12_init_4 : DC mX12_init 4 = .ok (.iconst 0, 1) := dk_3 (dk_at dksX12_init_0 4 rfl rfl)
theorem dX12_init_5 : DC mX12_init 5 = .ok (.invokespecial 1, 3) := dk_183 0 1 (dk_at dksX12_init_0 5 rfl rfl)
theorem dX12_init_8 : DC mX12_init 8 = .ok (.aload_n 0, 1) := dk_42 (dk_at dksX12_init_0 8 rfl rfl)
theorem dX12_init_9 : DC mX12_init 9 = .ok (.iload_n 1, 1) := dk_27 (dk_at dksX12_init_0 9 rfl rfl)
theorem dX12_init_10 : DC mX12_init 10 = .ok (.putfield 7, 3) := dk_181 0 7 (dk_at dksX12_init_0 10 rfl rfl)
theorem dX12_init_13 : DC mX12_init 13 = .ok (.return_, 1) := dk_177 (dk_at dksX12_init_0 13 rfl rfl)
theorem in_X12 : ∀ w ∈ wsX120, w ∈ lw_all := lw_in wsX120 [2214, 2215, 2216, 2217, 2218, 2227, 2225] (by decide +kernel) (by decide +kernel)

