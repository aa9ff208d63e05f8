/-! TheatreSagaModel -/
set_option maxRecDepth 100000
def RX4 : String := "TheatreSagaModel"
def TX4 : u_T := fun k => match k with
  | 0 => ("TheatreSagaModel", "now", "[I", true)
  | 1 => ("TheatreSagaModel", "tried", "[I", true)
  | 2 => ("TheatreSagaModel", "thought", "[I", true)
  | 3 => ("TheatreSagaModel", "kept", "[I", true)
  | 4 => ("TheatreSagaModel", "undos", "I", false)
  | 5 => ("TheatreSagaModel", "saved", "[I", true)
  | 6 => ("TheatreSagaModel", "isSaved", "Z", false)
  | 7 => ("TheatreSagaModel", "line", "[C", true)
  | 8 => ("TheatreSagaModel", "lined", "I", false)
  | 9 => ("TheatreSagaModel", "text", "[C", true)
  | 10 => ("TheatreSagaModel", "length", "I", false)
  | 11 => ("TheatreSagaModel", "at", "I", false)
  | 12 => ("TheatreSagaModel", "word", "Ljava/lang/String;", false)
  | 13 => ("TheatreSagaModel", "told", "[I", true)
  | 14 => ("TheatreSagaModel", "fault", "I", false)
  | 15 => ("TheatreSagaModel", "reason", "I", false)
  | 16 => ("TheatreSagaModel", "detail", "I", false)
  | 17 => ("TheatreSagaModel", "answer", "I", false)
  | _ => ("TheatreSagaModel", "thrown", "I", false)
def tyX4 : Nat → FieldType := fun k => match k with
  | 0 => .array .int
  | 1 => .array .int
  | 2 => .array .int
  | 3 => .array .int
  | 4 => .int
  | 5 => .array .int
  | 6 => .boolean
  | 7 => .array .char
  | 8 => .int
  | 9 => .array .char
  | 10 => .int
  | 11 => .int
  | 12 => .object "java/lang/String"
  | 13 => .array .int
  | 14 => .int
  | 15 => .int
  | 16 => .int
  | 17 => .int
  | _ => .int
abbrev wsX40 : List Cond := u_ws RX4 TX4 19
set_option maxRecDepth 100000 in
theorem nmX4 : ∀ a, a < 19 → ∀ b, b < 19 → a ≠ b → (TX4 a).2.1 ≠ (TX4 b).2.1 := by decide +kernel
set_option maxRecDepth 100000 in
theorem tyX4_ok : ∀ k, k < 19 → parseFieldDescriptor (TX4 k).2.2.1 = some (tyX4 k) := by decide +kernel
abbrev cX4_init : ByteArray := prog_13_method_1_code
def yX4_init : MethodName := ⟨RX4, "<init>", "()V"⟩
def mX4_init : MI := (⟨"TheatreSagaModel", "<init>", "()V"⟩, prog_13_method_1_code, 2, (Option.none : Option FieldType), none, 42, 2)
theorem oX4_init : mO mX4_init = 42 := rfl
theorem lX4_init : mL mX4_init = 2 := rfl
theorem rX4_init : mR mX4_init = (Option.none : Option FieldType) := rfl
theorem vX4_init : mV mX4_init = 2 := rfl
theorem nX4_init : (mY mX4_init).name = "<init>" := rfl
theorem hX4_init : mH mX4_init = none := rfl
theorem kX4_init : MOk mX4_init := ⟨q2388, q91, by decide +kernel⟩
theorem gX4_init : plainName (mY mX4_init).cls = true ∧ (mY mX4_init).cls = "TheatreSagaModel" := ⟨by decide +kernel, rfl⟩
def dkwX4_init_5 : List UInt8 := [167, 255, 234, 177]
abbrev dktX4_init_5 : List UInt8 := dkwX4_init_5 ++ []
def dkwX4_init_4 : List UInt8 := [60, 27, 8, 162, 0, 23, 42, 180, 0, 9, 16, 9, 6, 27, 104, 96, 4, 96, 5, 79, 132, 1, 1]
abbrev dktX4_init_4 : List UInt8 := dkwX4_init_4 ++ dktX4_init_5
def dkwX4_init_3 : List UInt8 := [181, 0, 34, 42, 7, 188, 10, 181, 0, 38, 42, 2, 181, 0, 41, 42, 180, 0, 9, 4, 16, 100, 79, 3]
abbrev dktX4_init_3 : List UInt8 := dkwX4_init_3 ++ dktX4_init_4
def dkwX4_init_2 : List UInt8 := [181, 0, 22, 42, 16, 100, 188, 5, 181, 0, 25, 42, 16, 60, 188, 5, 181, 0, 29, 42, 18, 32]
abbrev dktX4_init_2 : List UInt8 := dkwX4_init_2 ++ dktX4_init_3
def dkwX4_init_1 : List UInt8 := [17, 1, 62, 188, 10, 181, 0, 16, 42, 17, 9, 240, 188, 10, 181, 0, 19, 42, 17, 1, 62, 188, 10]
abbrev dktX4_init_1 : List UInt8 := dkwX4_init_1 ++ dktX4_init_2
def dkwX4_init_0 : List UInt8 := [42, 183, 0, 3, 42, 17, 1, 62, 188, 10, 181, 0, 9, 42, 17, 1, 62, 188, 10, 181, 0, 13, 42]
abbrev dktX4_init_0 : List UInt8 := dkwX4_init_0 ++ dktX4_init_1
theorem dksX4_init_0 : cX4_init.data.toList.drop 0 = dktX4_init_0 := by decide +kernel
theorem dksX4_init_1 : cX4_init.data.toList.drop 23 = dktX4_init_1 := dk_seg dksX4_init_0 23 rfl rfl
theorem dksX4_init_2 : cX4_init.data.toList.drop 46 = dktX4_init_2 := dk_seg dksX4_init_1 23 rfl rfl
theorem dksX4_init_3 : cX4_init.data.toList.drop 68 = dktX4_init_3 := dk_seg dksX4_init_2 22 rfl rfl
theorem dksX4_init_4 : cX4_init.data.toList.drop 92 = dktX4_init_4 := dk_seg dksX4_init_3 24 rfl rfl
theorem dksX4_init_5 : cX4_init.data.toList.drop 115 = dktX4_init_5 := dk_seg dksX4_init_4 23 rfl rfl
theorem dX4_init_0 : DC mX4_init 0 = .ok (.aload_n 0, 1) := dk_42 (dk_at dksX4_init_0 0 rfl rfl)
theorem dX4_init_1 : DC mX4_init 1 = .ok (.invokespecial 3, 3) := dk_183 0 3 (dk_at dksX4_init_0 1 rfl rfl)
theorem dX4_init_4 : DC mX4_init 4 = .ok (.aload_n 0, 1) := dk_42 (dk_at dksX4_init_0 4 rfl rfl)
theorem dX4_init_5 : DC mX4_init 5 = .ok (.sipush 318, 3) := dk_17 1 62 (dk_at dksX4_init_0 5 rfl rfl)
theorem dX4_init_8 : DC mX4_init 8 = .ok (.newarray .int, 2) := dk_188_10 (dk_at dksX4_init_0 8 rfl rfl)
theorem dX4_init_10 : DC mX4_init 10 = .ok (.putfield 9, 3) := dk_181 0 9 (dk_at dksX4_init_0 10 rfl rfl)
theorem dX4_init_13 : DC mX4_init 13 = .ok (.aload_n 0, 1) := dk_42 (dk_at dksX4_init_0 13 rfl rfl)
theorem dX4_init_14 : DC mX4_init 14 = .ok (.sipush 318, 3) := dk_17 1 62 (dk_at dksX4_init_0 14 rfl rfl)
theorem dX4_init_17 : DC mX4_init 17 = .ok (.newarray .int, 2) := dk_188_10 (dk_at dksX4_init_0 17 rfl rfl)
theorem dX4_init_19 : DC mX4_init 19 = .ok (.putfield 13, 3) := dk_181 0 13 (dk_at dksX4_init_0 19 rfl rfl)
theorem dX4_init_22 : DC mX4_init 22 = .ok (.aload_n 0, 1) := dk_42 (dk_at dksX4_init_0 22 rfl rfl)
theorem dX4_init_23 : DC mX4_init 23 = .ok (.sipush 318, 3) := dk_17 1 62 (dk_at dksX4_init_1 0 rfl rfl)
theorem dX4_init_26 : DC mX4_init 26 = .ok (.newarray .int, 2) := dk_188_10 (dk_at dksX4_init_1 3 rfl rfl)
theorem dX4_init_28 : DC mX4_init 28 = .ok (.putfield 16, 3) := dk_181 0 16 (dk_at dksX4_init_1 5 rfl rfl)
theorem dX4_init_31 : DC mX4_init 31 = .ok (.aload_n 0, 1) := dk_42 (dk_at dksX4_init_1 8 rfl rfl)
theorem dX4_init_32 : DC mX4_init 32 = .ok (.sipush 2544, 3) := dk_17 9 240 (dk_at dksX4_init_1 9 rfl rfl)
theorem dX4_init_35 : DC mX4_init 35 = .ok (.newarray .int, 2) := dk_188_10 (dk_at dksX4_init_1 12 rfl rfl)
theorem dX4_init_37 : DC mX4_init 37 = .ok (.putfield 19, 3) := dk_181 0 19 (dk_at dksX4_init_1 14 rfl rfl)
theorem dX4_init_40 : DC mX4_init 40 = .ok (.aload_n 0, 1) := dk_42 (dk_at dksX4_init_1 17 rfl rfl)
theorem dX4_init_41 : DC mX4_init 41 = .ok (.sipush 318, 3) := dk_17 1 62 (dk_at dksX4_init_1 18 rfl rfl)
theorem dX4_init_44 : DC mX4_init 44 = .ok (.newarray .int, 2) := dk_188_10 (dk_at dksX4_init_1 21 rfl rfl)
theorem dX4_init_46 : DC mX4_init 46 = .ok (.putfield 22, 3) := dk_181 0 22 (dk_at dksX4_init_2 0 rfl rfl)
theorem dX4_init_49 : DC mX4_init 49 = .ok (.aload_n 0, 1) := dk_42 (dk_at dksX4_init_2 3 rfl rfl)
theorem dX4_init_50 : DC mX4_init 50 = .ok (.bipush 100, 2) := dk_16 100 (dk_at dksX4_init_2 4 rfl rfl)
theorem dX4_init_52 : DC mX4_init 52 = .ok (.newarray .char, 2) := dk_188_5 (dk_at dksX4_init_2 6 rfl rfl)
theorem dX4_init_54 : DC mX4_init 54 = .ok (.putfield 25, 3) := dk_181 0 25 (dk_at dksX4_init_2 8 rfl rfl)
theorem dX4_init_57 : DC mX4_init 57 = .ok (.aload_n 0, 1) := dk_42 (dk_at dksX4_init_2 11 rfl rfl)
theorem dX4_init_58 : DC mX4_init 58 = .ok (.bipush 60, 2) := dk_16 60 (dk_at dksX4_init_2 12 rfl rfl)
theorem dX4_init_60 : DC mX4_init 60 = .ok (.newarray .char, 2) := dk_188_5 (dk_at dksX4_init_2 14 rfl rfl)
theorem dX4_init_62 : DC mX4_init 62 = .ok (.putfield 29, 3) := dk_181 0 29 (dk_at dksX4_init_2 16 rfl rfl)
theorem dX4_init_65 : DC mX4_init 65 = .ok (.aload_n 0, 1) := dk_42 (dk_at dksX4_init_2 19 rfl rfl)
theorem dX4_init_66 : DC mX4_init 66 = .ok (.ldc 32, 2) := dk_18 32 (dk_at dksX4_init_2 20 rfl rfl)
theorem dX4_init_68 : DC mX4_init 68 = .ok (.putfield 34, 3) := dk_181 0 34 (dk_at dksX4_init_3 0 rfl rfl)
theorem dX4_init_71 : DC mX4_init 71 = .ok (.aload_n 0, 1) := dk_42 (dk_at dksX4_init_3 3 rfl rfl)
theorem dX4_init_72 : DC mX4_init 72 = .ok (.iconst 4, 1) := dk_7 (dk_at dksX4_init_3 4 rfl rfl)
theorem dX4_init_73 : DC mX4_init 73 = .ok (.newarray .int, 2) := dk_188_10 (dk_at dksX4_init_3 5 rfl rfl)
theorem dX4_init_75 : DC mX4_init 75 = .ok (.putfield 38, 3) := dk_181 0 38 (dk_at dksX4_init_3 7 rfl rfl)
theorem dX4_init_78 : DC mX4_init 78 = .ok (.aload_n 0, 1) := dk_42 (dk_at dksX4_init_3 10 rfl rfl)
theorem dX4_init_79 : DC mX4_init 79 = .ok (.iconst (-1), 1) := dk_2 (dk_at dksX4_init_3 11 rfl rfl)
theorem dX4_init_80 : DC mX4_init 80 = .ok (.putfield 41, 3) := dk_181 0 41 (dk_at dksX4_init_3 12 rfl rfl)
theorem dX4_init_83 : DC mX4_init 83 = .ok (.aload_n 0, 1) := dk_42 (dk_at dksX4_init_3 15 rfl rfl)
theorem dX4_init_84 : DC mX4_init 84 = .ok (.getfield 9, 3) := dk_180 0 9 (dk_at dksX4_init_3 16 rfl rfl)
theorem dX4_init_87 : DC mX4_init 87 = .ok (.iconst 1, 1) := dk_4 (dk_at dksX4_init_3 19 rfl rfl)
theorem dX4_init_88 : DC mX4_init 88 = .ok (.bipush 100, 2) := dk_16 100 (dk_at dksX4_init_3 20 rfl rfl)
theorem dX4_init_90 : DC mX4_init 90 = .ok (.iastore, 1) := dk_79 (dk_at dksX4_init_3 22 rfl rfl)
theorem dX4_init_91 : DC mX4_init 91 = .ok (.iconst 0, 1) := dk_3 (dk_at dksX4_init_3 23 rfl rfl)
theorem dX4_init_92 : DC mX4_init 92 = .ok (.istore_n 1, 1) := dk_60 (dk_at dksX4_init_4 0 rfl rfl)
theorem dX4_init_93 : DC mX4_init 93 = .ok (.iload_n 1, 1) := dk_27 (dk_at dksX4_init_4 1 rfl rfl)
theorem dX4_init_94 : DC mX4_init 94 = .ok (.iconst 5, 1) := dk_8 (dk_at dksX4_init_4 2 rfl rfl)
theorem dX4_init_95 : DC mX4_init 95 = .ok (.if_icmp .ge 23, 3) := dk_162 0 23 (dk_at dksX4_init_4 3 rfl rfl)
theorem dX4_init_98 : DC mX4_init 98 = .ok (.aload_n 0, 1) := dk_42 (dk_at dksX4_init_4 6 rfl rfl)
theorem dX4_init_99 : DC mX4_init 99 = .ok (.getfield 9, 3) := dk_180 0 9 (dk_at dksX4_init_4 7 rfl rfl)
theorem dX4_init_102 : DC mX4_init 102 = .ok (.bipush 9, 2) := dk_16 9 (dk_at dksX4_init_4 10 rfl rfl)
theorem dX4_init_104 : DC mX4_init 104 = .ok (.iconst 3, 1) := dk_6 (dk_at dksX4_init_4 12 rfl rfl)
theorem dX4_init_105 : DC mX4_init 105 = .ok (.iload_n 1, 1) := dk_27 (dk_at dksX4_init_4 13 rfl rfl)
theorem dX4_init_106 : DC mX4_init 106 = .ok (.imul, 1) := dk_104 (dk_at dksX4_init_4 14 rfl rfl)
theorem dX4_init_107 : DC mX4_init 107 = .ok (.iadd, 1) := dk_96 (dk_at dksX4_init_4 15 rfl rfl)
theorem dX4_init_108 : DC mX4_init 108 = .ok (.iconst 1, 1) := dk_4 (dk_at dksX4_init_4 16 rfl rfl)
theorem dX4_init_109 : DC mX4_init 109 = .ok (.iadd, 1) := dk_96 (dk_at dksX4_init_4 17 rfl rfl)
theorem dX4_init_110 : DC mX4_init 110 = .ok (.iconst 2, 1) := dk_5 (dk_at dksX4_init_4 18 rfl rfl)
theorem dX4_init_111 : DC mX4_init 111 = .ok (.iastore, 1) := dk_79 (dk_at dksX4_init_4 19 rfl rfl)
theorem dX4_init_112 : DC mX4_init 112 = .ok (.iinc 1 1, 3) := dk_132 1 1 (dk_at dksX4_init_4 20 rfl rfl)
theorem dX4_init_115 : DC mX4_init 115 = .ok (.goto (-22), 3) := dk_167 255 234 (dk_at dksX4_init_5 0 rfl rfl)
theorem dX4_init_118 : DC mX4_init 118 = .ok (.return_, 1) := dk_177 (dk_at dksX4_init_5 3 rfl rfl)
abbrev cX4_thrown : ByteArray := prog_13_method_2_code
def yX4_thrown : MethodName := ⟨RX4, "thrown", "()I"⟩
def mX4_thrown : MI := (⟨"TheatreSagaModel", "thrown", "()I"⟩, prog_13_method_2_code, 1, (Option.some FieldType.int), none, 42, 1)
theorem oX4_thrown : mO mX4_thrown = 42 := rfl
theorem lX4_thrown : mL mX4_thrown = 1 := rfl
theorem rX4_thrown : mR mX4_thrown = (Option.some FieldType.int) := rfl
theorem vX4_thrown : mV mX4_thrown = 1 := rfl
theorem nX4_thrown : (mY mX4_thrown).name = "thrown" := rfl
theorem hX4_thrown : mH mX4_thrown = none := rfl
theorem kX4_thrown : MOk mX4_thrown := ⟨q2453, q91, by decide +kernel⟩
theorem gX4_thrown : plainName (mY mX4_thrown).cls = true ∧ (mY mX4_thrown).cls = "TheatreSagaModel" := ⟨by decide +kernel, rfl⟩
theorem dX4_thrown_0 : DC mX4_thrown 0 = .ok (.aload_n 0, 1) := by decide +kernel
theorem dX4_thrown_1 : DC mX4_thrown 1 = .ok (.getfield 45, 3) := by decide +kernel
theorem dX4_thrown_4 : DC mX4_thrown 4 = .ok (.ireturn, 1) := by decide +kernel
abbrev cX4_tour : ByteArray := prog_13_method_21_code
def yX4_tour : MethodName := ⟨RX4, "tour", "(I)I"⟩
def mX4_tour : MI := (⟨"TheatreSagaModel", "tour", "(I)I"⟩, prog_13_method_21_code, 3, (Option.some FieldType.int), none, 42, 3)
theorem oX4_tour : mO mX4_tour = 42 := rfl
theorem lX4_tour : mL mX4_tour = 3 := rfl
theorem rX4_tour : mR mX4_tour = (Option.some FieldType.int) := rfl
theorem vX4_tour : mV mX4_tour = 3 := rfl
theorem nX4_tour : (mY mX4_tour).name = "tour" := rfl
theorem hX4_tour : mH mX4_tour = none := rfl
theorem kX4_tour : MOk mX4_tour := ⟨q2457, q91, by decide +kernel⟩
theorem gX4_tour : plainName (mY mX4_tour).cls = true ∧ (mY mX4_tour).cls = "TheatreSagaModel" := ⟨by decide +kernel, rfl⟩
def dkwX4_tour_1 : List UInt8 := [167, 0, 10, 42, 28, 4, 100, 182, 0, 92, 172]
abbrev dktX4_tour_1 : List UInt8 := dkwX4_tour_1 ++ []
def dkwX4_tour_0 : List UInt8 := [42, 182, 0, 83, 42, 27, 182, 0, 86, 61, 28, 154, 0, 14, 42, 42, 180, 0, 51, 182, 0, 89]
abbrev dktX4_tour_0 : List UInt8 := dkwX4_tour_0 ++ dktX4_tour_1
theorem dksX4_tour_0 : cX4_tour.data.toList.drop 0 = dktX4_tour_0 := by decide +kernel
theorem dksX4_tour_1 : cX4_tour.data.toList.drop 22 = dktX4_tour_1 := dk_seg dksX4_tour_0 22 rfl rfl
theorem dX4_tour_0 : DC mX4_tour 0 = .ok (.aload_n 0, 1) := dk_42 (dk_at dksX4_tour_0 0 rfl rfl)
theorem dX4_tour_1 : DC mX4_tour 1 = .ok (.invokevirtual 83, 3) := dk_182 0 83 (dk_at dksX4_tour_0 1 rfl rfl)
theorem dX4_tour_4 : DC mX4_tour 4 = .ok (.aload_n 0, 1) := dk_42 (dk_at dksX4_tour_0 4 rfl rfl)
theorem dX4_tour_5 : DC mX4_tour 5 = .ok (.iload_n 1, 1) := dk_27 (dk_at dksX4_tour_0 5 rfl rfl)
theorem dX4_tour_6 : DC mX4_tour 6 = .ok (.invokevirtual 86, 3) := dk_182 0 86 (dk_at dksX4_tour_0 6 rfl rfl)
theorem dX4_tour_9 : DC mX4_tour 9 = .ok (.istore_n 2, 1) := dk_61 (dk_at dksX4_tour_0 9 rfl rfl)
theorem dX4_tour_10 : DC mX4_tour 10 = .ok (.iload_n 2, 1) := dk_28 (dk_at dksX4_tour_0 10 rfl rfl)
theorem dX4_tour_11 : DC mX4_tour 11 = .ok (.ifCond .ne 14, 3) := dk_154 0 14 (dk_at dksX4_tour_0 11 rfl rfl)
theorem dX4_tour_14 : DC mX4_tour 14 = .ok (.aload_n 0, 1) := dk_42 (dk_at dksX4_tour_0 14 rfl rfl)
theorem dX4_tour_15 : DC mX4_tour 15 = .ok (.aload_n 0, 1) := dk_42 (dk_at dksX4_tour_0 15 rfl rfl)
theorem dX4_tour_16 : DC mX4_tour 16 = .ok (.getfield 51, 3) := dk_180 0 51 (dk_at dksX4_tour_0 16 rfl rfl)
theorem dX4_tour_19 : DC mX4_tour 19 = .ok (.invokevirtual 89, 3) := dk_182 0 89 (dk_at dksX4_tour_0 19 rfl rfl)
theorem dX4_tour_22 : DC mX4_tour 22 = .ok (.goto 10, 3) := dk_167 0 10 (dk_at dksX4_tour_1 0 rfl rfl)
theorem dX4_tour_25 : DC mX4_tour 25 = .ok (.aload_n 0, 1) := dk_42 (dk_at dksX4_tour_1 3 rfl rfl)
theorem dX4_tour_26 : DC mX4_tour 26 = .ok (.iload_n 2, 1) := dk_28 (dk_at dksX4_tour_1 4 rfl rfl)
theorem dX4_tour_27 : DC mX4_tour 27 = .ok (.iconst 1, 1) := dk_4 (dk_at dksX4_tour_1 5 rfl rfl)
theorem dX4_tour_28 : DC mX4_tour 28 = .ok (.isub, 1) := dk_100 (dk_at dksX4_tour_1 6 rfl rfl)
theorem dX4_tour_29 : DC mX4_tour 29 = .ok (.invokevirtual 92, 3) := dk_182 0 92 (dk_at dksX4_tour_1 7 rfl rfl)
theorem dX4_tour_32 : DC mX4_tour 32 = .ok (.ireturn, 1) := dk_172 (dk_at dksX4_tour_1 10 rfl rfl)
abbrev cX4_tries : ByteArray := prog_13_method_5_code
def yX4_tries : MethodName := ⟨RX4, "tries", "()V"⟩
def mX4_tries : MI := (⟨"TheatreSagaModel", "tries", "()V"⟩, prog_13_method_5_code, 2, (Option.none : Option FieldType), none, 42, 1)
theorem oX4_tries : mO mX4_tries = 42 := rfl
theorem lX4_tries : mL mX4_tries = 2 := rfl
theorem rX4_tries : mR mX4_tries = (Option.none : Option FieldType) := rfl
theorem vX4_tries : mV mX4_tries = 1 := rfl
theorem nX4_tries : (mY mX4_tries).name = "tries" := rfl
theorem hX4_tries : mH mX4_tries = none := rfl
theorem kX4_tries : MOk mX4_tries := ⟨q2461, q91, by decide +kernel⟩
theorem gX4_tries : plainName (mY mX4_tries).cls = true ∧ (mY mX4_tries).cls = "TheatreSagaModel" := ⟨by decide +kernel, rfl⟩
def dkwX4_tries_1 : List UInt8 := [46, 79, 132, 1, 1, 167, 255, 234, 177]
abbrev dktX4_tries_1 : List UInt8 := dkwX4_tries_1 ++ []
def dkwX4_tries_0 : List UInt8 := [42, 3, 181, 0, 45, 3, 60, 27, 17, 1, 62, 162, 0, 21, 42, 180, 0, 13, 27, 42, 180, 0, 9, 27]
abbrev dktX4_tries_0 : List UInt8 := dkwX4_tries_0 ++ dktX4_tries_1
theorem dksX4_tries_0 : cX4_tries.data.toList.drop 0 = dktX4_tries_0 := by decide +kernel
theorem dksX4_tries_1 : cX4_tries.data.toList.drop 24 = dktX4_tries_1 := dk_seg dksX4_tries_0 24 rfl rfl
theorem dX4_tries_0 : DC mX4_tries 0 = .ok (.aload_n 0, 1) := dk_42 (dk_at dksX4_tries_0 0 rfl rfl)
theorem dX4_tries_1 : DC mX4_tries 1 = .ok (.iconst 0, 1) := dk_3 (dk_at dksX4_tries_0 1 rfl rfl)
theorem dX4_tries_2 : DC mX4_tries 2 = .ok (.putfield 45, 3) := dk_181 0 45 (dk_at dksX4_tries_0 2 rfl rfl)
theorem dX4_tries_5 : DC mX4_tries 5 = .ok (.iconst 0, 1) := dk_3 (dk_at dksX4_tries_0 5 rfl rfl)
theorem dX4_tries_6 : DC mX4_tries 6 = .ok (.istore_n 1, 1) := dk_60 (dk_at dksX4_tries_0 6 rfl rfl)
theorem dX4_tries_7 : DC mX4_tries 7 = .ok (.iload_n 1, 1) := dk_27 (dk_at dksX4_tries_0 7 rfl rfl)
theorem dX4_tries_8 : DC mX4_tries 8 = .ok (.sipush 318, 3) := dk_17 1 62 (dk_at dksX4_tries_0 8 rfl rfl)
theorem dX4_tries_11 : DC mX4_tries 11 = .ok (.if_icmp .ge 21, 3) := dk_162 0 21 (dk_at dksX4_tries_0 11 rfl rfl)
theorem dX4_tries_14 : DC mX4_tries 14 = .ok (.aload_n 0, 1) := dk_42 (dk_at dksX4_tries_0 14 rfl rfl)
theorem dX4_tries_15 : DC mX4_tries 15 = .ok (.getfield 13, 3) := dk_180 0 13 (dk_at dksX4_tries_0 15 rfl rfl)
theorem dX4_tries_18 : DC mX4_tries 18 = .ok (.iload_n 1, 1) := dk_27 (dk_at dksX4_tries_0 18 rfl rfl)
theorem dX4_tries_19 : DC mX4_tries 19 = .ok (.aload_n 0, 1) := dk_42 (dk_at dksX4_tries_0 19 rfl rfl)
theorem dX4_tries_20 : DC mX4_tries 20 = .ok (.getfield 9, 3) := dk_180 0 9 (dk_at dksX4_tries_0 20 rfl rfl)
theorem dX4_tries_23 : DC mX4_tries 23 = .ok (.iload_n 1, 1) := dk_27 (dk_at dksX4_tries_0 23 rfl rfl)
theorem dX4_tries_24 : DC mX4_tries 24 = .ok (.iaload, 1) := dk_46 (dk_at dksX4_tries_1 0 rfl rfl)
theorem dX4_tries_25 : DC mX4_tries 25 = .ok (.iastore, 1) := dk_79 (dk_at dksX4_tries_1 1 rfl rfl)
theorem dX4_tries_26 : DC mX4_tries 26 = .ok (.iinc 1 1, 3) := dk_132 1 1 (dk_at dksX4_tries_1 2 rfl rfl)
theorem dX4_tries_29 : DC mX4_tries 29 = .ok (.goto (-22), 3) := dk_167 255 234 (dk_at dksX4_tries_1 5 rfl rfl)
theorem dX4_tries_32 : DC mX4_tries 32 = .ok (.return_, 1) := dk_177 (dk_at dksX4_tries_1 8 rfl rfl)
abbrev cX4_plans : ByteArray := prog_13_method_20_code
def yX4_plans : MethodName := ⟨RX4, "plans", "(I)I"⟩
def mX4_plans : MI := (⟨"TheatreSagaModel", "plans", "(I)I"⟩, prog_13_method_20_code, 4, (Option.some FieldType.int), none, 42, 2)
theorem oX4_plans : mO mX4_plans = 42 := rfl
theorem lX4_plans : mL mX4_plans = 4 := rfl
theorem rX4_plans : mR mX4_plans = (Option.some FieldType.int) := rfl
theorem vX4_plans : mV mX4_plans = 2 := rfl
theorem nX4_plans : (mY mX4_plans).name = "plans" := rfl
theorem hX4_plans : mH mX4_plans = none := rfl
theorem kX4_plans : MOk mX4_plans := ⟨q2465, q91, by decide +kernel⟩
theorem gX4_plans : plainName (mY mX4_plans).cls = true ∧ (mY mX4_plans).cls = "TheatreSagaModel" := ⟨by decide +kernel, rfl⟩
def dkwX4_plans_3 : List UInt8 := [4, 96, 79, 42, 28, 182, 0, 79, 172]
abbrev dktX4_plans_3 : List UInt8 := dkwX4_plans_3 ++ []
def dkwX4_plans_2 : List UInt8 := [182, 0, 75, 132, 3, 1, 167, 255, 240, 42, 28, 4, 27, 182, 0, 75, 42, 180, 0, 9, 16, 8, 92, 46]
abbrev dktX4_plans_2 : List UInt8 := dkwX4_plans_2 ++ dktX4_plans_3
def dkwX4_plans_1 : List UInt8 := [160, 0, 11, 42, 4, 16, 6, 182, 0, 72, 172, 3, 62, 29, 16, 49, 162, 0, 16, 42, 28, 29, 3]
abbrev dktX4_plans_1 : List UInt8 := dkwX4_plans_1 ++ dktX4_plans_2
def dkwX4_plans_0 : List UInt8 := [27, 3, 7, 184, 0, 60, 154, 0, 5, 5, 172, 42, 180, 0, 9, 16, 8, 46, 61, 28, 16, 6]
abbrev dktX4_plans_0 : List UInt8 := dkwX4_plans_0 ++ dktX4_plans_1
theorem dksX4_plans_0 : cX4_plans.data.toList.drop 0 = dktX4_plans_0 := by decide +kernel
theorem dksX4_plans_1 : cX4_plans.data.toList.drop 22 = dktX4_plans_1 := dk_seg dksX4_plans_0 22 rfl rfl
theorem dksX4_plans_2 : cX4_plans.data.toList.drop 45 = dktX4_plans_2 := dk_seg dksX4_plans_1 23 rfl rfl
theorem dksX4_plans_3 : cX4_plans.data.toList.drop 69 = dktX4_plans_3 := dk_seg dksX4_plans_2 24 rfl rfl
theorem dX4_plans_0 : DC mX4_plans 0 = .ok (.iload_n 1, 1) := dk_27 (dk_at dksX4_plans_0 0 rfl rfl)
theorem dX4_plans_1 : DC mX4_plans 1 = .ok (.iconst 0, 1) := dk_3 (dk_at dksX4_plans_0 1 rfl rfl)
theorem dX4_plans_2 : DC mX4_plans 2 = .ok (.iconst 4, 1) := dk_7 (dk_at dksX4_plans_0 2 rfl rfl)
theorem dX4_plans_3 : DC mX4_plans 3 = .ok (.invokestatic 60, 3) := dk_184 0 60 (dk_at dksX4_plans_0 3 rfl rfl)
theorem dX4_plans_6 : DC mX4_plans 6 = .ok (.ifCond .ne 5, 3) := dk_154 0 5 (dk_at dksX4_plans_0 6 rfl rfl)
theorem dX4_plans_9 : DC mX4_plans 9 = .ok (.iconst 2, 1) := dk_5 (dk_at dksX4_plans_0 9 rfl rfl)
theorem dX4_plans_10 : DC mX4_plans 10 = .ok (.ireturn, 1) := dk_172 (dk_at dksX4_plans_0 10 rfl rfl)
theorem dX4_plans_11 : DC mX4_plans 11 = .ok (.aload_n 0, 1) := dk_42 (dk_at dksX4_plans_0 11 rfl rfl)
theorem dX4_plans_12 : DC mX4_plans 12 = .ok (.getfield 9, 3) := dk_180 0 9 (dk_at dksX4_plans_0 12 rfl rfl)
theorem dX4_plans_15 : DC mX4_plans 15 = .ok (.bipush 8, 2) := dk_16 8 (dk_at dksX4_plans_0 15 rfl rfl)
theorem dX4_plans_17 : DC mX4_plans 17 = .ok (.iaload, 1) := dk_46 (dk_at dksX4_plans_0 17 rfl rfl)
theorem dX4_plans_18 : DC mX4_plans 18 = .ok (.istore_n 2, 1) := dk_61 (dk_at dksX4_plans_0 18 rfl rfl)
theorem dX4_plans_19 : DC mX4_plans 19 = .ok (.iload_n 2, 1) := dk_28 (dk_at dksX4_plans_0 19 rfl rfl)
theorem dX4_plans_20 : DC mX4_plans 20 = .ok (.bipush 6, 2) := dk_16 6 (dk_at dksX4_plans_0 20 rfl rfl)
theorem dX4_plans_22 : DC mX4_plans 22 = .ok (.if_icmp .ne 11, 3) := dk_160 0 11 (dk_at dksX4_plans_1 0 rfl rfl)
theorem dX4_plans_25 : DC mX4_plans 25 = .ok (.aload_n 0, 1) := dk_42 (dk_at dksX4_plans_1 3 rfl rfl)
theorem dX4_plans_26 : DC mX4_plans 26 = .ok (.iconst 1, 1) := dk_4 (dk_at dksX4_plans_1 4 rfl rfl)
theorem dX4_plans_27 : DC mX4_plans 27 = .ok (.bipush 6, 2) := dk_16 6 (dk_at dksX4_plans_1 5 rfl rfl)
theorem dX4_plans_29 : DC mX4_plans 29 = .ok (.invokevirtual 72, 3) := dk_182 0 72 (dk_at dksX4_plans_1 7 rfl rfl)
theorem dX4_plans_32 : DC mX4_plans 32 = .ok (.ireturn, 1) := dk_172 (dk_at dksX4_plans_1 10 rfl rfl)
theorem dX4_plans_33 : DC mX4_plans 33 = .ok (.iconst 0, 1) := dk_3 (dk_at dksX4_plans_1 11 rfl rfl)
theorem dX4_plans_34 : DC mX4_plans 34 = .ok (.istore_n 3, 1) := dk_62 (dk_at dksX4_plans_1 12 rfl rfl)
theorem dX4_plans_35 : DC mX4_plans 35 = .ok (.iload_n 3, 1) := dk_29 (dk_at dksX4_plans_1 13 rfl rfl)
theorem dX4_plans_36 : DC mX4_plans 36 = .ok (.bipush 49, 2) := dk_16 49 (dk_at dksX4_plans_1 14 rfl rfl)
theorem dX4_plans_38 : DC mX4_plans 38 = .ok (.if_icmp .ge 16, 3) := dk_162 0 16 (dk_at dksX4_plans_1 16 rfl rfl)
theorem dX4_plans_41 : DC mX4_plans 41 = .ok (.aload_n 0, 1) := dk_42 (dk_at dksX4_plans_1 19 rfl rfl)
theorem dX4_plans_42 : DC mX4_plans 42 = .ok (.iload_n 2, 1) := dk_28 (dk_at dksX4_plans_1 20 rfl rfl)
theorem dX4_plans_43 : DC mX4_plans 43 = .ok (.iload_n 3, 1) := dk_29 (dk_at dksX4_plans_1 21 rfl rfl)
theorem dX4_plans_44 : DC mX4_plans 44 = .ok (.iconst 0, 1) := dk_3 (dk_at dksX4_plans_1 22 rfl rfl)
theorem dX4_plans_45 : DC mX4_plans 45 = .ok (.invokevirtual 75, 3) := dk_182 0 75 (dk_at dksX4_plans_2 0 rfl rfl)
theorem dX4_plans_48 : DC mX4_plans 48 = .ok (.iinc 3 1, 3) := dk_132 3 1 (dk_at dksX4_plans_2 3 rfl rfl)
theorem dX4_plans_51 : DC mX4_plans 51 = .ok (.goto (-16), 3) := dk_167 255 240 (dk_at dksX4_plans_2 6 rfl rfl)
theorem dX4_plans_54 : DC mX4_plans 54 = .ok (.aload_n 0, 1) := dk_42 (dk_at dksX4_plans_2 9 rfl rfl)
theorem dX4_plans_55 : DC mX4_plans 55 = .ok (.iload_n 2, 1) := dk_28 (dk_at dksX4_plans_2 10 rfl rfl)
theorem dX4_plans_56 : DC mX4_plans 56 = .ok (.iconst 1, 1) := dk_4 (dk_at dksX4_plans_2 11 rfl rfl)
theorem dX4_plans_57 : DC mX4_plans 57 = .ok (.iload_n 1, 1) := dk_27 (dk_at dksX4_plans_2 12 rfl rfl)
theorem dX4_plans_58 : DC mX4_plans 58 = .ok (.invokevirtual 75, 3) := dk_182 0 75 (dk_at dksX4_plans_2 13 rfl rfl)
theorem dX4_plans_61 : DC mX4_plans 61 = .ok (.aload_n 0, 1) := dk_42 (dk_at dksX4_plans_2 16 rfl rfl)
theorem dX4_plans_62 : DC mX4_plans 62 = .ok (.getfield 9, 3) := dk_180 0 9 (dk_at dksX4_plans_2 17 rfl rfl)
theorem dX4_plans_65 : DC mX4_plans 65 = .ok (.bipush 8, 2) := dk_16 8 (dk_at dksX4_plans_2 20 rfl rfl)
theorem dX4_plans_67 : DC mX4_plans 67 = .ok (.dup2, 1) := dk_92 (dk_at dksX4_plans_2 22 rfl rfl)
theorem dX4_plans_68 : DC mX4_plans 68 = .ok (.iaload, 1) := dk_46 (dk_at dksX4_plans_2 23 rfl rfl)
theorem dX4_plans_69 : DC mX4_plans 69 = .ok (.iconst 1, 1) := dk_4 (dk_at dksX4_plans_3 0 rfl rfl)
theorem dX4_plans_70 : DC mX4_plans 70 = .ok (.iadd, 1) := dk_96 (dk_at dksX4_plans_3 1 rfl rfl)
theorem dX4_plans_71 : DC mX4_plans 71 = .ok (.iastore, 1) := dk_79 (dk_at dksX4_plans_3 2 rfl rfl)
theorem dX4_plans_72 : DC mX4_plans 72 = .ok (.aload_n 0, 1) := dk_42 (dk_at dksX4_plans_3 3 rfl rfl)
theorem dX4_plans_73 : DC mX4_plans 73 = .ok (.iload_n 2, 1) := dk_28 (dk_at dksX4_plans_3 4 rfl rfl)
theorem dX4_plans_74 : DC mX4_plans 74 = .ok (.invokevirtual 79, 3) := dk_182 0 79 (dk_at dksX4_plans_3 5 rfl rfl)
theorem dX4_plans_77 : DC mX4_plans 77 = .ok (.ireturn, 1) := dk_172 (dk_at dksX4_plans_3 8 rfl rfl)
abbrev cX4_in : ByteArray := prog_13_method_4_code
def yX4_in : MethodName := ⟨RX4, "in", "(III)Z"⟩
def mX4_in : MI := (⟨"TheatreSagaModel", "in", "(III)Z"⟩, prog_13_method_4_code, 3, (Option.some FieldType.boolean), none, 42, 1)
theorem oX4_in : mO mX4_in = 42 := rfl
theorem lX4_in : mL mX4_in = 3 := rfl
theorem rX4_in : mR mX4_in = (Option.some FieldType.boolean) := rfl
theorem vX4_in : mV mX4_in = 1 := rfl
theorem nX4_in : (mY mX4_in).name = "in" := rfl
theorem hX4_in : mH mX4_in = none := rfl
theorem kX4_in : MOk mX4_in := ⟨q2468, q91, by decide +kernel⟩
theorem gX4_in : plainName (mY mX4_in).cls = true ∧ (mY mX4_in).cls = "TheatreSagaModel" := ⟨by decide +kernel, rfl⟩
def dkwX4_in_0 : List UInt8 := [26, 27, 161, 0, 12, 26, 28, 163, 0, 7, 4, 167, 0, 4, 3, 172]
abbrev dktX4_in_0 : List UInt8 := dkwX4_in_0 ++ []
theorem dksX4_in_0 : cX4_in.data.toList.drop 0 = dktX4_in_0 := by decide +kernel
theorem dX4_in_0 : DC mX4_in 0 = .ok (.iload_n 0, 1) := dk_26 (dk_at dksX4_in_0 0 rfl rfl)
theorem dX4_in_1 : DC mX4_in 1 = .ok (.iload_n 1, 1) := dk_27 (dk_at dksX4_in_0 1 rfl rfl)
theorem dX4_in_2 : DC mX4_in 2 = .ok (.if_icmp .lt 12, 3) := dk_161 0 12 (dk_at dksX4_in_0 2 rfl rfl)
theorem dX4_in_5 : DC mX4_in 5 = .ok (.iload_n 0, 1) := dk_26 (dk_at dksX4_in_0 5 rfl rfl)
theorem dX4_in_6 : DC mX4_in 6 = .ok (.iload_n 2, 1) := dk_28 (dk_at dksX4_in_0 6 rfl rfl)
theorem dX4_in_7 : DC mX4_in 7 = .ok (.if_icmp .gt 7, 3) := dk_163 0 7 (dk_at dksX4_in_0 7 rfl rfl)
theorem dX4_in_10 : DC mX4_in 10 = .ok (.iconst 1, 1) := dk_4 (dk_at dksX4_in_0 10 rfl rfl)
theorem dX4_in_11 : DC mX4_in 11 = .ok (.goto 4, 3) := dk_167 0 4 (dk_at dksX4_in_0 11 rfl rfl)
theorem dX4_in_14 : DC mX4_in 14 = .ok (.iconst 0, 1) := dk_3 (dk_at dksX4_in_0 14 rfl rfl)
theorem dX4_in_15 : DC mX4_in 15 = .ok (.ireturn, 1) := dk_172 (dk_at dksX4_in_0 15 rfl rfl)
abbrev cX4_refuses : ByteArray := prog_13_method_9_code
def yX4_refuses : MethodName := ⟨RX4, "refuses", "(II)I"⟩
def mX4_refuses : MI := (⟨"TheatreSagaModel", "refuses", "(II)I"⟩, prog_13_method_9_code, 3, (Option.some FieldType.int), none, 42, 1)
theorem oX4_refuses : mO mX4_refuses = 42 := rfl
theorem lX4_refuses : mL mX4_refuses = 3 := rfl
theorem rX4_refuses : mR mX4_refuses = (Option.some FieldType.int) := rfl
theorem vX4_refuses : mV mX4_refuses = 1 := rfl
theorem nX4_refuses : (mY mX4_refuses).name = "refuses" := rfl
theorem hX4_refuses : mH mX4_refuses = none := rfl
theorem kX4_refuses : MOk mX4_refuses := ⟨q2472, q91, by decide +kernel⟩
theorem gX4_refuses : plainName (mY mX4_refuses).cls = true ∧ (mY mX4_refuses).cls = "TheatreSagaModel" := ⟨by decide +kernel, rfl⟩
def dkwX4_refuses_0 : List UInt8 := [42, 27, 181, 0, 54, 42, 28, 181, 0, 57, 6, 172]
abbrev dktX4_refuses_0 : List UInt8 := dkwX4_refuses_0 ++ []
theorem dksX4_refuses_0 : cX4_refuses.data.toList.drop 0 = dktX4_refuses_0 := by decide +kernel
theorem dX4_refuses_0 : DC mX4_refuses 0 = .ok (.aload_n 0, 1) := dk_42 (dk_at dksX4_refuses_0 0 rfl rfl)
theorem dX4_refuses_1 : DC mX4_refuses 1 = .ok (.iload_n 1, 1) := dk_27 (dk_at dksX4_refuses_0 1 rfl rfl)
theorem dX4_refuses_2 : DC mX4_refuses 2 = .ok (.putfield 54, 3) := dk_181 0 54 (dk_at dksX4_refuses_0 2 rfl rfl)
theorem dX4_refuses_5 : DC mX4_refuses 5 = .ok (.aload_n 0, 1) := dk_42 (dk_at dksX4_refuses_0 5 rfl rfl)
theorem dX4_refuses_6 : DC mX4_refuses 6 = .ok (.iload_n 2, 1) := dk_28 (dk_at dksX4_refuses_0 6 rfl rfl)
theorem dX4_refuses_7 : DC mX4_refuses 7 = .ok (.putfield 57, 3) := dk_181 0 57 (dk_at dksX4_refuses_0 7 rfl rfl)
theorem dX4_refuses_10 : DC mX4_refuses 10 = .ok (.iconst 3, 1) := dk_6 (dk_at dksX4_refuses_0 10 rfl rfl)
theorem dX4_refuses_11 : DC mX4_refuses 11 = .ok (.ireturn, 1) := dk_172 (dk_at dksX4_refuses_0 11 rfl rfl)
abbrev cX4_sets : ByteArray := prog_13_method_14_code
def yX4_sets : MethodName := ⟨RX4, "sets", "(III)V"⟩
def mX4_sets : MI := (⟨"TheatreSagaModel", "sets", "(III)V"⟩, prog_13_method_14_code, 4, (Option.none : Option FieldType), none, 42, 1)
theorem oX4_sets : mO mX4_sets = 42 := rfl
theorem lX4_sets : mL mX4_sets = 4 := rfl
theorem rX4_sets : mR mX4_sets = (Option.none : Option FieldType) := rfl
theorem vX4_sets : mV mX4_sets = 1 := rfl
theorem nX4_sets : (mY mX4_sets).name = "sets" := rfl
theorem hX4_sets : mH mX4_sets = none := rfl
theorem kX4_sets : MOk mX4_sets := ⟨q2476, q91, by decide +kernel⟩
theorem gX4_sets : plainName (mY mX4_sets).cls = true ∧ (mY mX4_sets).cls = "TheatreSagaModel" := ⟨by decide +kernel, rfl⟩
def dkwX4_sets_0 : List UInt8 := [42, 180, 0, 9, 16, 24, 16, 49, 27, 104, 96, 28, 96, 29, 79, 177]
abbrev dktX4_sets_0 : List UInt8 := dkwX4_sets_0 ++ []
theorem dksX4_sets_0 : cX4_sets.data.toList.drop 0 = dktX4_sets_0 := by decide +kernel
theorem dX4_sets_0 : DC mX4_sets 0 = .ok (.aload_n 0, 1) := dk_42 (dk_at dksX4_sets_0 0 rfl rfl)
theorem dX4_sets_1 : DC mX4_sets 1 = .ok (.getfield 9, 3) := dk_180 0 9 (dk_at dksX4_sets_0 1 rfl rfl)
theorem dX4_sets_4 : DC mX4_sets 4 = .ok (.bipush 24, 2) := dk_16 24 (dk_at dksX4_sets_0 4 rfl rfl)
theorem dX4_sets_6 : DC mX4_sets 6 = .ok (.bipush 49, 2) := dk_16 49 (dk_at dksX4_sets_0 6 rfl rfl)
theorem dX4_sets_8 : DC mX4_sets 8 = .ok (.iload_n 1, 1) := dk_27 (dk_at dksX4_sets_0 8 rfl rfl)
theorem dX4_sets_9 : DC mX4_sets 9 = .ok (.imul, 1) := dk_104 (dk_at dksX4_sets_0 9 rfl rfl)
theorem dX4_sets_10 : DC mX4_sets 10 = .ok (.iadd, 1) := dk_96 (dk_at dksX4_sets_0 10 rfl rfl)
theorem dX4_sets_11 : DC mX4_sets 11 = .ok (.iload_n 2, 1) := dk_28 (dk_at dksX4_sets_0 11 rfl rfl)
theorem dX4_sets_12 : DC mX4_sets 12 = .ok (.iadd, 1) := dk_96 (dk_at dksX4_sets_0 12 rfl rfl)
theorem dX4_sets_13 : DC mX4_sets 13 = .ok (.iload_n 3, 1) := dk_29 (dk_at dksX4_sets_0 13 rfl rfl)
theorem dX4_sets_14 : DC mX4_sets 14 = .ok (.iastore, 1) := dk_79 (dk_at dksX4_sets_0 14 rfl rfl)
theorem dX4_sets_15 : DC mX4_sets 15 = .ok (.return_, 1) := dk_177 (dk_at dksX4_sets_0 15 rfl rfl)
abbrev cX4_does : ByteArray := prog_13_method_8_code
def yX4_does : MethodName := ⟨RX4, "does", "(I)I"⟩
def mX4_does : MI := (⟨"TheatreSagaModel", "does", "(I)I"⟩, prog_13_method_8_code, 2, (Option.some FieldType.int), none, 42, 1)
theorem oX4_does : mO mX4_does = 42 := rfl
theorem lX4_does : mL mX4_does = 2 := rfl
theorem rX4_does : mR mX4_does = (Option.some FieldType.int) := rfl
theorem vX4_does : mV mX4_does = 1 := rfl
theorem nX4_does : (mY mX4_does).name = "does" := rfl
theorem hX4_does : mH mX4_does = none := rfl
theorem kX4_does : MOk mX4_does := ⟨q2480, q91, by decide +kernel⟩
theorem gX4_does : plainName (mY mX4_does).cls = true ∧ (mY mX4_does).cls = "TheatreSagaModel" := ⟨by decide +kernel, rfl⟩
def dkwX4_does_0 : List UInt8 := [42, 27, 181, 0, 51, 3, 172]
abbrev dktX4_does_0 : List UInt8 := dkwX4_does_0 ++ []
theorem dksX4_does_0 : cX4_does.data.toList.drop 0 = dktX4_does_0 := by decide +kernel
theorem dX4_does_0 : DC mX4_does 0 = .ok (.aload_n 0, 1) := dk_42 (dk_at dksX4_does_0 0 rfl rfl)
theorem dX4_does_1 : DC mX4_does 1 = .ok (.iload_n 1, 1) := dk_27 (dk_at dksX4_does_0 1 rfl rfl)
theorem dX4_does_2 : DC mX4_does 2 = .ok (.putfield 51, 3) := dk_181 0 51 (dk_at dksX4_does_0 2 rfl rfl)
theorem dX4_does_5 : DC mX4_does 5 = .ok (.iconst 0, 1) := dk_3 (dk_at dksX4_does_0 5 rfl rfl)
theorem dX4_does_6 : DC mX4_does 6 = .ok (.ireturn, 1) := dk_172 (dk_at dksX4_does_0 6 rfl rfl)
abbrev cX4_keeps : ByteArray := prog_13_method_7_code
def yX4_keeps : MethodName := ⟨RX4, "keeps", "(I)I"⟩
def mX4_keeps : MI := (⟨"TheatreSagaModel", "keeps", "(I)I"⟩, prog_13_method_7_code, 3, (Option.some FieldType.int), none, 42, 1)
theorem oX4_keeps : mO mX4_keeps = 42 := rfl
theorem lX4_keeps : mL mX4_keeps = 3 := rfl
theorem rX4_keeps : mR mX4_keeps = (Option.some FieldType.int) := rfl
theorem vX4_keeps : mV mX4_keeps = 1 := rfl
theorem nX4_keeps : (mY mX4_keeps).name = "keeps" := rfl
theorem hX4_keeps : mH mX4_keeps = none := rfl
theorem kX4_keeps : MOk mX4_keeps := ⟨q2484, q91, by decide +kernel⟩
theorem gX4_keeps : plainName (mY mX4_keeps).cls = true ∧ (mY mX4_keeps).cls = "TheatreSagaModel" := ⟨by decide +kernel, rfl⟩
def dkwX4_keeps_4 : List UInt8 := [181, 0, 48, 27, 172]
abbrev dktX4_keeps_4 : List UInt8 := dkwX4_keeps_4 ++ []
def dkwX4_keeps_3 : List UInt8 := [28, 96, 42, 180, 0, 13, 28, 46, 79, 132, 2, 1, 167, 255, 225, 42, 89, 180, 0, 48, 4, 96]
abbrev dktX4_keeps_3 : List UInt8 := dkwX4_keeps_3 ++ dktX4_keeps_4
def dkwX4_keeps_2 : List UInt8 := [181, 0, 48, 3, 61, 28, 17, 1, 62, 162, 0, 30, 42, 180, 0, 19, 17, 1, 62, 42, 180, 0, 48, 104]
abbrev dktX4_keeps_2 : List UInt8 := dkwX4_keeps_2 ++ dktX4_keeps_3
def dkwX4_keeps_1 : List UInt8 := [180, 0, 19, 17, 1, 62, 28, 96, 46, 79, 132, 2, 1, 167, 255, 230, 42, 89, 180, 0, 48, 4, 100]
abbrev dktX4_keeps_1 : List UInt8 := dkwX4_keeps_1 ++ dktX4_keeps_2
def dkwX4_keeps_0 : List UInt8 := [42, 180, 0, 48, 16, 8, 160, 0, 44, 3, 61, 28, 17, 8, 178, 162, 0, 25, 42, 180, 0, 19, 28, 42]
abbrev dktX4_keeps_0 : List UInt8 := dkwX4_keeps_0 ++ dktX4_keeps_1
theorem dksX4_keeps_0 : cX4_keeps.data.toList.drop 0 = dktX4_keeps_0 := by decide +kernel
theorem dksX4_keeps_1 : cX4_keeps.data.toList.drop 24 = dktX4_keeps_1 := dk_seg dksX4_keeps_0 24 rfl rfl
theorem dksX4_keeps_2 : cX4_keeps.data.toList.drop 47 = dktX4_keeps_2 := dk_seg dksX4_keeps_1 23 rfl rfl
theorem dksX4_keeps_3 : cX4_keeps.data.toList.drop 71 = dktX4_keeps_3 := dk_seg dksX4_keeps_2 24 rfl rfl
theorem dksX4_keeps_4 : cX4_keeps.data.toList.drop 93 = dktX4_keeps_4 := dk_seg dksX4_keeps_3 22 rfl rfl
theorem dX4_keeps_0 : DC mX4_keeps 0 = .ok (.aload_n 0, 1) := dk_42 (dk_at dksX4_keeps_0 0 rfl rfl)
theorem dX4_keeps_1 : DC mX4_keeps 1 = .ok (.getfield 48, 3) := dk_180 0 48 (dk_at dksX4_keeps_0 1 rfl rfl)
theorem dX4_keeps_4 : DC mX4_keeps 4 = .ok (.bipush 8, 2) := dk_16 8 (dk_at dksX4_keeps_0 4 rfl rfl)
theorem dX4_keeps_6 : DC mX4_keeps 6 = .ok (.if_icmp .ne 44, 3) := dk_160 0 44 (dk_at dksX4_keeps_0 6 rfl rfl)
theorem dX4_keeps_9 : DC mX4_keeps 9 = .ok (.iconst 0, 1) := dk_3 (dk_at dksX4_keeps_0 9 rfl rfl)
theorem dX4_keeps_10 : DC mX4_keeps 10 = .ok (.istore_n 2, 1) := dk_61 (dk_at dksX4_keeps_0 10 rfl rfl)
theorem dX4_keeps_11 : DC mX4_keeps 11 = .ok (.iload_n 2, 1) := dk_28 (dk_at dksX4_keeps_0 11 rfl rfl)
theorem dX4_keeps_12 : DC mX4_keeps 12 = .ok (.sipush 2226, 3) := dk_17 8 178 (dk_at dksX4_keeps_0 12 rfl rfl)
theorem dX4_keeps_15 : DC mX4_keeps 15 = .ok (.if_icmp .ge 25, 3) := dk_162 0 25 (dk_at dksX4_keeps_0 15 rfl rfl)
theorem dX4_keeps_18 : DC mX4_keeps 18 = .ok (.aload_n 0, 1) := dk_42 (dk_at dksX4_keeps_0 18 rfl rfl)
theorem dX4_keeps_19 : DC mX4_keeps 19 = .ok (.getfield 19, 3) := dk_180 0 19 (dk_at dksX4_keeps_0 19 rfl rfl)
theorem dX4_keeps_22 : DC mX4_keeps 22 = .ok (.iload_n 2, 1) := dk_28 (dk_at dksX4_keeps_0 22 rfl rfl)
theorem dX4_keeps_23 : DC mX4_keeps 23 = .ok (.aload_n 0, 1) := dk_42 (dk_at dksX4_keeps_0 23 rfl rfl)
theorem dX4_keeps_24 : DC mX4_keeps 24 = .ok (.getfield 19, 3) := dk_180 0 19 (dk_at dksX4_keeps_1 0 rfl rfl)
theorem dX4_keeps_27 : DC mX4_keeps 27 = .ok (.sipush 318, 3) := dk_17 1 62 (dk_at dksX4_keeps_1 3 rfl rfl)
theorem dX4_keeps_30 : DC mX4_keeps 30 = .ok (.iload_n 2, 1) := dk_28 (dk_at dksX4_keeps_1 6 rfl rfl)
theorem dX4_keeps_31 : DC mX4_keeps 31 = .ok (.iadd, 1) := dk_96 (dk_at dksX4_keeps_1 7 rfl rfl)
theorem dX4_keeps_32 : DC mX4_keeps 32 = .ok (.iaload, 1) := dk_46 (dk_at dksX4_keeps_1 8 rfl rfl)
theorem dX4_keeps_33 : DC mX4_keeps 33 = .ok (.iastore, 1) := dk_79 (dk_at dksX4_keeps_1 9 rfl rfl)
theorem dX4_keeps_34 : DC mX4_keeps 34 = .ok (.iinc 2 1, 3) := dk_132 2 1 (dk_at dksX4_keeps_1 10 rfl rfl)
theorem dX4_keeps_37 : DC mX4_keeps 37 = .ok (.goto (-26), 3) := dk_167 255 230 (dk_at dksX4_keeps_1 13 rfl rfl)
theorem dX4_keeps_40 : DC mX4_keeps 40 = .ok (.aload_n 0, 1) := dk_42 (dk_at dksX4_keeps_1 16 rfl rfl)
theorem dX4_keeps_41 : DC mX4_keeps 41 = .ok (.dup, 1) := dk_89 (dk_at dksX4_keeps_1 17 rfl rfl)
theorem dX4_keeps_42 : DC mX4_keeps 42 = .ok (.getfield 48, 3) := dk_180 0 48 (dk_at dksX4_keeps_1 18 rfl rfl)
theorem dX4_keeps_45 : DC mX4_keeps 45 = .ok (.iconst 1, 1) := dk_4 (dk_at dksX4_keeps_1 21 rfl rfl)
theorem dX4_keeps_46 : DC mX4_keeps 46 = .ok (.isub, 1) := dk_100 (dk_at dksX4_keeps_1 22 rfl rfl)
theorem dX4_keeps_47 : DC mX4_keeps 47 = .ok (.putfield 48, 3) := dk_181 0 48 (dk_at dksX4_keeps_2 0 rfl rfl)
theorem dX4_keeps_50 : DC mX4_keeps 50 = .ok (.iconst 0, 1) := dk_3 (dk_at dksX4_keeps_2 3 rfl rfl)
theorem dX4_keeps_51 : DC mX4_keeps 51 = .ok (.istore_n 2, 1) := dk_61 (dk_at dksX4_keeps_2 4 rfl rfl)
theorem dX4_keeps_52 : DC mX4_keeps 52 = .ok (.iload_n 2, 1) := dk_28 (dk_at dksX4_keeps_2 5 rfl rfl)
theorem dX4_keeps_53 : DC mX4_keeps 53 = .ok (.sipush 318, 3) := dk_17 1 62 (dk_at dksX4_keeps_2 6 rfl rfl)
theorem dX4_keeps_56 : DC mX4_keeps 56 = .ok (.if_icmp .ge 30, 3) := dk_162 0 30 (dk_at dksX4_keeps_2 9 rfl rfl)
theorem dX4_keeps_59 : DC mX4_keeps 59 = .ok (.aload_n 0, 1) := dk_42 (dk_at dksX4_keeps_2 12 rfl rfl)
theorem dX4_keeps_60 : DC mX4_keeps 60 = .ok (.getfield 19, 3) := dk_180 0 19 (dk_at dksX4_keeps_2 13 rfl rfl)
theorem dX4_keeps_63 : DC mX4_keeps 63 = .ok (.sipush 318, 3) := dk_17 1 62 (dk_at dksX4_keeps_2 16 rfl rfl)
theorem dX4_keeps_66 : DC mX4_keeps 66 = .ok (.aload_n 0, 1) := dk_42 (dk_at dksX4_keeps_2 19 rfl rfl)
theorem dX4_keeps_67 : DC mX4_keeps 67 = .ok (.getfield 48, 3) := dk_180 0 48 (dk_at dksX4_keeps_2 20 rfl rfl)
theorem dX4_keeps_70 : DC mX4_keeps 70 = .ok (.imul, 1) := dk_104 (dk_at dksX4_keeps_2 23 rfl rfl)
theorem dX4_keeps_71 : DC mX4_keeps 71 = .ok (.iload_n 2, 1) := dk_28 (dk_at dksX4_keeps_3 0 rfl rfl)
theorem dX4_keeps_72 : DC mX4_keeps 72 = .ok (.iadd, 1) := dk_96 (dk_at dksX4_keeps_3 1 rfl rfl)
theorem dX4_keeps_73 : DC mX4_keeps 73 = .ok (.aload_n 0, 1) := dk_42 (dk_at dksX4_keeps_3 2 rfl rfl)
theorem dX4_keeps_74 : DC mX4_keeps 74 = .ok (.getfield 13, 3) := dk_180 0 13 (dk_at dksX4_keeps_3 3 rfl rfl)
theorem dX4_keeps_77 : DC mX4_keeps 77 = .ok (.iload_n 2, 1) := dk_28 (dk_at dksX4_keeps_3 6 rfl rfl)
theorem dX4_keeps_78 : DC mX4_keeps 78 = .ok (.iaload, 1) := dk_46 (dk_at dksX4_keeps_3 7 rfl rfl)
theorem dX4_keeps_79 : DC mX4_keeps 79 = .ok (.iastore, 1) := dk_79 (dk_at dksX4_keeps_3 8 rfl rfl)
theorem dX4_keeps_80 : DC mX4_keeps 80 = .ok (.iinc 2 1, 3) := dk_132 2 1 (dk_at dksX4_keeps_3 9 rfl rfl)
theorem dX4_keeps_83 : DC mX4_keeps 83 = .ok (.goto (-31), 3) := dk_167 255 225 (dk_at dksX4_keeps_3 12 rfl rfl)
theorem dX4_keeps_86 : DC mX4_keeps 86 = .ok (.aload_n 0, 1) := dk_42 (dk_at dksX4_keeps_3 15 rfl rfl)
theorem dX4_keeps_87 : DC mX4_keeps 87 = .ok (.dup, 1) := dk_89 (dk_at dksX4_keeps_3 16 rfl rfl)
theorem dX4_keeps_88 : DC mX4_keeps 88 = .ok (.getfield 48, 3) := dk_180 0 48 (dk_at dksX4_keeps_3 17 rfl rfl)
theorem dX4_keeps_91 : DC mX4_keeps 91 = .ok (.iconst 1, 1) := dk_4 (dk_at dksX4_keeps_3 20 rfl rfl)
theorem dX4_keeps_92 : DC mX4_keeps 92 = .ok (.iadd, 1) := dk_96 (dk_at dksX4_keeps_3 21 rfl rfl)
theorem dX4_keeps_93 : DC mX4_keeps 93 = .ok (.putfield 48, 3) := dk_181 0 48 (dk_at dksX4_keeps_4 0 rfl rfl)
theorem dX4_keeps_96 : DC mX4_keeps 96 = .ok (.iload_n 1, 1) := dk_27 (dk_at dksX4_keeps_4 3 rfl rfl)
theorem dX4_keeps_97 : DC mX4_keeps 97 = .ok (.ireturn, 1) := dk_172 (dk_at dksX4_keeps_4 4 rfl rfl)
abbrev cX4_raises : ByteArray := prog_13_method_3_code
def yX4_raises : MethodName := ⟨RX4, "raises", "(I)I"⟩
def mX4_raises : MI := (⟨"TheatreSagaModel", "raises", "(I)I"⟩, prog_13_method_3_code, 2, (Option.some FieldType.int), none, 42, 1)
theorem oX4_raises : mO mX4_raises = 42 := rfl
theorem lX4_raises : mL mX4_raises = 2 := rfl
theorem rX4_raises : mR mX4_raises = (Option.some FieldType.int) := rfl
theorem vX4_raises : mV mX4_raises = 1 := rfl
theorem nX4_raises : (mY mX4_raises).name = "raises" := rfl
theorem hX4_raises : mH mX4_raises = none := rfl
theorem kX4_raises : MOk mX4_raises := ⟨q2488, q91, by decide +kernel⟩
theorem gX4_raises : plainName (mY mX4_raises).cls = true ∧ (mY mX4_raises).cls = "TheatreSagaModel" := ⟨by decide +kernel, rfl⟩
def dkwX4_raises_0 : List UInt8 := [42, 27, 181, 0, 45, 3, 172]
abbrev dktX4_raises_0 : List UInt8 := dkwX4_raises_0 ++ []
theorem dksX4_raises_0 : cX4_raises.data.toList.drop 0 = dktX4_raises_0 := by decide +kernel
theorem dX4_raises_0 : DC mX4_raises 0 = .ok (.aload_n 0, 1) := dk_42 (dk_at dksX4_raises_0 0 rfl rfl)
theorem dX4_raises_1 : DC mX4_raises 1 = .ok (.iload_n 1, 1) := dk_27 (dk_at dksX4_raises_0 1 rfl rfl)
theorem dX4_raises_2 : DC mX4_raises 2 = .ok (.putfield 45, 3) := dk_181 0 45 (dk_at dksX4_raises_0 2 rfl rfl)
theorem dX4_raises_5 : DC mX4_raises 5 = .ok (.iconst 0, 1) := dk_3 (dk_at dksX4_raises_0 5 rfl rfl)
theorem dX4_raises_6 : DC mX4_raises 6 = .ok (.ireturn, 1) := dk_172 (dk_at dksX4_raises_0 6 rfl rfl)
abbrev cX4_step : ByteArray := prog_13_method_24_code
def yX4_step : MethodName := ⟨RX4, "step", "(IIIII)I"⟩
def mX4_step : MI := (⟨"TheatreSagaModel", "step", "(IIIII)I"⟩, prog_13_method_24_code, 7, (Option.some FieldType.int), none, 42, 4)
theorem oX4_step : mO mX4_step = 42 := rfl
theorem lX4_step : mL mX4_step = 7 := rfl
theorem rX4_step : mR mX4_step = (Option.some FieldType.int) := rfl
theorem vX4_step : mV mX4_step = 4 := rfl
theorem nX4_step : (mY mX4_step).name = "step" := rfl
theorem hX4_step : mH mX4_step = none := rfl
theorem kX4_step : MOk mX4_step := ⟨q2492, q91, by decide +kernel⟩
theorem gX4_step : plainName (mY mX4_step).cls = true ∧ (mY mX4_step).cls = "TheatreSagaModel" := ⟨by decide +kernel, rfl⟩
def dkwX4_step_1 : List UInt8 := [180, 0, 51, 182, 0, 89, 167, 0, 9, 42, 21, 6, 182, 0, 92, 172]
abbrev dktX4_step_1 : List UInt8 := dkwX4_step_1 ++ []
def dkwX4_step_0 : List UInt8 := [42, 182, 0, 83, 42, 27, 28, 29, 21, 4, 21, 5, 182, 0, 111, 54, 6, 21, 6, 154, 0, 14, 42, 42]
abbrev dktX4_step_0 : List UInt8 := dkwX4_step_0 ++ dktX4_step_1
theorem dksX4_step_0 : cX4_step.data.toList.drop 0 = dktX4_step_0 := by decide +kernel
theorem dksX4_step_1 : cX4_step.data.toList.drop 24 = dktX4_step_1 := dk_seg dksX4_step_0 24 rfl rfl
theorem dX4_step_0 : DC mX4_step 0 = .ok (.aload_n 0, 1) := dk_42 (dk_at dksX4_step_0 0 rfl rfl)
theorem dX4_step_1 : DC mX4_step 1 = .ok (.invokevirtual 83, 3) := dk_182 0 83 (dk_at dksX4_step_0 1 rfl rfl)
theorem dX4_step_4 : DC mX4_step 4 = .ok (.aload_n 0, 1) := dk_42 (dk_at dksX4_step_0 4 rfl rfl)
theorem dX4_step_5 : DC mX4_step 5 = .ok (.iload_n 1, 1) := dk_27 (dk_at dksX4_step_0 5 rfl rfl)
theorem dX4_step_6 : DC mX4_step 6 = .ok (.iload_n 2, 1) := dk_28 (dk_at dksX4_step_0 6 rfl rfl)
theorem dX4_step_7 : DC mX4_step 7 = .ok (.iload_n 3, 1) := dk_29 (dk_at dksX4_step_0 7 rfl rfl)
theorem dX4_step_8 : DC mX4_step 8 = .ok (.iload 4, 2) := dk_21 4 (dk_at dksX4_step_0 8 rfl rfl)
theorem dX4_step_10 : DC mX4_step 10 = .ok (.iload 5, 2) := dk_21 5 (dk_at dksX4_step_0 10 rfl rfl)
theorem dX4_step_12 : DC mX4_step 12 = .ok (.invokevirtual 111, 3) := dk_182 0 111 (dk_at dksX4_step_0 12 rfl rfl)
theorem dX4_step_15 : DC mX4_step 15 = .ok (.istore 6, 2) := dk_54 6 (dk_at dksX4_step_0 15 rfl rfl)
theorem dX4_step_17 : DC mX4_step 17 = .ok (.iload 6, 2) := dk_21 6 (dk_at dksX4_step_0 17 rfl rfl)
theorem dX4_step_19 : DC mX4_step 19 = .ok (.ifCond .ne 14, 3) := dk_154 0 14 (dk_at dksX4_step_0 19 rfl rfl)
theorem dX4_step_22 : DC mX4_step 22 = .ok (.aload_n 0, 1) := dk_42 (dk_at dksX4_step_0 22 rfl rfl)
theorem dX4_step_23 : DC mX4_step 23 = .ok (.aload_n 0, 1) := dk_42 (dk_at dksX4_step_0 23 rfl rfl)
theorem dX4_step_24 : DC mX4_step 24 = .ok (.getfield 51, 3) := dk_180 0 51 (dk_at dksX4_step_1 0 rfl rfl)
theorem dX4_step_27 : DC mX4_step 27 = .ok (.invokevirtual 89, 3) := dk_182 0 89 (dk_at dksX4_step_1 3 rfl rfl)
theorem dX4_step_30 : DC mX4_step 30 = .ok (.goto 9, 3) := dk_167 0 9 (dk_at dksX4_step_1 6 rfl rfl)
theorem dX4_step_33 : DC mX4_step 33 = .ok (.aload_n 0, 1) := dk_42 (dk_at dksX4_step_1 9 rfl rfl)
theorem dX4_step_34 : DC mX4_step 34 = .ok (.iload 6, 2) := dk_21 6 (dk_at dksX4_step_1 10 rfl rfl)
theorem dX4_step_36 : DC mX4_step 36 = .ok (.invokevirtual 92, 3) := dk_182 0 92 (dk_at dksX4_step_1 12 rfl rfl)
theorem dX4_step_39 : DC mX4_step 39 = .ok (.ireturn, 1) := dk_172 (dk_at dksX4_step_1 15 rfl rfl)
abbrev cX4_steps : ByteArray := prog_13_method_23_code
def yX4_steps : MethodName := ⟨RX4, "steps", "(IIIII)I"⟩
def mX4_steps : MI := (⟨"TheatreSagaModel", "steps", "(IIIII)I"⟩, prog_13_method_23_code, 8, (Option.some FieldType.int), none, 42, 3)
theorem oX4_steps : mO mX4_steps = 42 := rfl
theorem lX4_steps : mL mX4_steps = 8 := rfl
theorem rX4_steps : mR mX4_steps = (Option.some FieldType.int) := rfl
theorem vX4_steps : mV mX4_steps = 3 := rfl
theorem nX4_steps : (mY mX4_steps).name = "steps" := rfl
theorem hX4_steps : mH mX4_steps = none := rfl
theorem kX4_steps : MOk mX4_steps := ⟨q2496, q91, by decide +kernel⟩
theorem gX4_steps : plainName (mY mX4_steps).cls = true ∧ (mY mX4_steps).cls = "TheatreSagaModel" := ⟨by decide +kernel, rfl⟩
def dkwX4_steps_9 : List UInt8 := [42, 27, 5, 21, 6, 4, 96, 182, 0, 75, 42, 21, 6, 4, 96, 182, 0, 79, 172]
abbrev dktX4_steps_9 : List UInt8 := dkwX4_steps_9 ++ []
def dkwX4_steps_8 : List UInt8 := [182, 0, 75, 42, 27, 21, 7, 6, 96, 21, 5, 182, 0, 75, 42, 27, 21, 7, 7, 96, 3, 182, 0, 75]
abbrev dktX4_steps_8 : List UInt8 := dkwX4_steps_8 ++ dktX4_steps_9
def dkwX4_steps_7 : List UInt8 := [28, 182, 0, 75, 42, 27, 21, 7, 4, 96, 29, 182, 0, 75, 42, 27, 21, 7, 5, 96, 21, 4]
abbrev dktX4_steps_7 : List UInt8 := dkwX4_steps_7 ++ dktX4_steps_8
def dkwX4_steps_6 : List UInt8 := [160, 0, 11, 42, 4, 16, 8, 182, 0, 72, 172, 16, 9, 8, 21, 6, 104, 96, 54, 7, 42, 27, 21, 7]
abbrev dktX4_steps_6 : List UInt8 := dkwX4_steps_6 ++ dktX4_steps_7
def dkwX4_steps_5 : List UInt8 := [21, 4, 160, 0, 11, 42, 8, 21, 7, 182, 0, 72, 172, 132, 7, 1, 167, 255, 201, 21, 6, 16, 8]
abbrev dktX4_steps_5 : List UInt8 := dkwX4_steps_5 ++ dktX4_steps_6
def dkwX4_steps_4 : List UInt8 := [28, 160, 0, 36, 42, 27, 21, 7, 4, 182, 0, 107, 29, 160, 0, 24, 42, 27, 21, 7, 5, 182, 0, 107]
abbrev dktX4_steps_4 : List UInt8 := dkwX4_steps_4 ++ dktX4_steps_5
def dkwX4_steps_3 : List UInt8 := [5, 182, 0, 64, 54, 6, 3, 54, 7, 21, 7, 21, 6, 162, 0, 54, 42, 27, 21, 7, 3, 182, 0, 107]
abbrev dktX4_steps_3 : List UInt8 := dkwX4_steps_3 ++ dktX4_steps_4
def dkwX4_steps_2 : List UInt8 := [172, 42, 27, 3, 182, 0, 64, 153, 0, 15, 42, 5, 42, 27, 3, 182, 0, 64, 182, 0, 72, 172, 42, 27]
abbrev dktX4_steps_2 : List UInt8 := dkwX4_steps_2 ++ dktX4_steps_3
def dkwX4_steps_1 : List UInt8 := [172, 28, 3, 5, 184, 0, 60, 153, 0, 16, 21, 5, 4, 28, 184, 0, 104, 184, 0, 60, 154, 0, 5, 5]
abbrev dktX4_steps_1 : List UInt8 := dkwX4_steps_1 ++ dktX4_steps_2
def dkwX4_steps_0 : List UInt8 := [42, 27, 182, 0, 95, 153, 0, 18, 29, 184, 0, 98, 153, 0, 11, 21, 4, 184, 0, 101, 154, 0, 5, 4]
abbrev dktX4_steps_0 : List UInt8 := dkwX4_steps_0 ++ dktX4_steps_1
theorem dksX4_steps_0 : cX4_steps.data.toList.drop 0 = dktX4_steps_0 := by decide +kernel
theorem dksX4_steps_1 : cX4_steps.data.toList.drop 24 = dktX4_steps_1 := dk_seg dksX4_steps_0 24 rfl rfl
theorem dksX4_steps_2 : cX4_steps.data.toList.drop 48 = dktX4_steps_2 := dk_seg dksX4_steps_1 24 rfl rfl
theorem dksX4_steps_3 : cX4_steps.data.toList.drop 72 = dktX4_steps_3 := dk_seg dksX4_steps_2 24 rfl rfl
theorem dksX4_steps_4 : cX4_steps.data.toList.drop 96 = dktX4_steps_4 := dk_seg dksX4_steps_3 24 rfl rfl
theorem dksX4_steps_5 : cX4_steps.data.toList.drop 120 = dktX4_steps_5 := dk_seg dksX4_steps_4 24 rfl rfl
theorem dksX4_steps_6 : cX4_steps.data.toList.drop 143 = dktX4_steps_6 := dk_seg dksX4_steps_5 23 rfl rfl
theorem dksX4_steps_7 : cX4_steps.data.toList.drop 167 = dktX4_steps_7 := dk_seg dksX4_steps_6 24 rfl rfl
theorem dksX4_steps_8 : cX4_steps.data.toList.drop 189 = dktX4_steps_8 := dk_seg dksX4_steps_7 22 rfl rfl
theorem dksX4_steps_9 : cX4_steps.data.toList.drop 213 = dktX4_steps_9 := dk_seg dksX4_steps_8 24 rfl rfl
theorem dX4_steps_0 : DC mX4_steps 0 = .ok (.aload_n 0, 1) := dk_42 (dk_at dksX4_steps_0 0 rfl rfl)
theorem dX4_steps_1 : DC mX4_steps 1 = .ok (.iload_n 1, 1) := dk_27 (dk_at dksX4_steps_0 1 rfl rfl)
theorem dX4_steps_2 : DC mX4_steps 2 = .ok (.invokevirtual 95, 3) := dk_182 0 95 (dk_at dksX4_steps_0 2 rfl rfl)
theorem dX4_steps_5 : DC mX4_steps 5 = .ok (.ifCond .eq 18, 3) := dk_153 0 18 (dk_at dksX4_steps_0 5 rfl rfl)
theorem dX4_steps_8 : DC mX4_steps 8 = .ok (.iload_n 3, 1) := dk_29 (dk_at dksX4_steps_0 8 rfl rfl)
theorem dX4_steps_9 : DC mX4_steps 9 = .ok (.invokestatic 98, 3) := dk_184 0 98 (dk_at dksX4_steps_0 9 rfl rfl)
theorem dX4_steps_12 : DC mX4_steps 12 = .ok (.ifCond .eq 11, 3) := dk_153 0 11 (dk_at dksX4_steps_0 12 rfl rfl)
theorem dX4_steps_15 : DC mX4_steps 15 = .ok (.iload 4, 2) := dk_21 4 (dk_at dksX4_steps_0 15 rfl rfl)
theorem dX4_steps_17 : DC mX4_steps 17 = .ok (.invokestatic 101, 3) := dk_184 0 101 (dk_at dksX4_steps_0 17 rfl rfl)
theorem dX4_steps_20 : DC mX4_steps 20 = .ok (.ifCond .ne 5, 3) := dk_154 0 5 (dk_at dksX4_steps_0 20 rfl rfl)
theorem dX4_steps_23 : DC mX4_steps 23 = .ok (.iconst 1, 1) := dk_4 (dk_at dksX4_steps_0 23 rfl rfl)
theorem dX4_steps_24 : DC mX4_steps 24 = .ok (.ireturn, 1) := dk_172 (dk_at dksX4_steps_1 0 rfl rfl)
theorem dX4_steps_25 : DC mX4_steps 25 = .ok (.iload_n 2, 1) := dk_28 (dk_at dksX4_steps_1 1 rfl rfl)
theorem dX4_steps_26 : DC mX4_steps 26 = .ok (.iconst 0, 1) := dk_3 (dk_at dksX4_steps_1 2 rfl rfl)
theorem dX4_steps_27 : DC mX4_steps 27 = .ok (.iconst 2, 1) := dk_5 (dk_at dksX4_steps_1 3 rfl rfl)
theorem dX4_steps_28 : DC mX4_steps 28 = .ok (.invokestatic 60, 3) := dk_184 0 60 (dk_at dksX4_steps_1 4 rfl rfl)
theorem dX4_steps_31 : DC mX4_steps 31 = .ok (.ifCond .eq 16, 3) := dk_153 0 16 (dk_at dksX4_steps_1 7 rfl rfl)
theorem dX4_steps_34 : DC mX4_steps 34 = .ok (.iload 5, 2) := dk_21 5 (dk_at dksX4_steps_1 10 rfl rfl)
theorem dX4_steps_36 : DC mX4_steps 36 = .ok (.iconst 1, 1) := dk_4 (dk_at dksX4_steps_1 12 rfl rfl)
theorem dX4_steps_37 : DC mX4_steps 37 = .ok (.iload_n 2, 1) := dk_28 (dk_at dksX4_steps_1 13 rfl rfl)
theorem dX4_steps_38 : DC mX4_steps 38 = .ok (.invokestatic 104, 3) := dk_184 0 104 (dk_at dksX4_steps_1 14 rfl rfl)
theorem dX4_steps_41 : DC mX4_steps 41 = .ok (.invokestatic 60, 3) := dk_184 0 60 (dk_at dksX4_steps_1 17 rfl rfl)
theorem dX4_steps_44 : DC mX4_steps 44 = .ok (.ifCond .ne 5, 3) := dk_154 0 5 (dk_at dksX4_steps_1 20 rfl rfl)
theorem dX4_steps_47 : DC mX4_steps 47 = .ok (.iconst 2, 1) := dk_5 (dk_at dksX4_steps_1 23 rfl rfl)
theorem dX4_steps_48 : DC mX4_steps 48 = .ok (.ireturn, 1) := dk_172 (dk_at dksX4_steps_2 0 rfl rfl)
theorem dX4_steps_49 : DC mX4_steps 49 = .ok (.aload_n 0, 1) := dk_42 (dk_at dksX4_steps_2 1 rfl rfl)
theorem dX4_steps_50 : DC mX4_steps 50 = .ok (.iload_n 1, 1) := dk_27 (dk_at dksX4_steps_2 2 rfl rfl)
theorem dX4_steps_51 : DC mX4_steps 51 = .ok (.iconst 0, 1) := dk_3 (dk_at dksX4_steps_2 3 rfl rfl)
theorem dX4_steps_52 : DC mX4_steps 52 = .ok (.invokevirtual 64, 3) := dk_182 0 64 (dk_at dksX4_steps_2 4 rfl rfl)
theorem dX4_steps_55 : DC mX4_steps 55 = .ok (.ifCond .eq 15, 3) := dk_153 0 15 (dk_at dksX4_steps_2 7 rfl rfl)
theorem dX4_steps_58 : DC mX4_steps 58 = .ok (.aload_n 0, 1) := dk_42 (dk_at dksX4_steps_2 10 rfl rfl)
theorem dX4_steps_59 : DC mX4_steps 59 = .ok (.iconst 2, 1) := dk_5 (dk_at dksX4_steps_2 11 rfl rfl)
theorem dX4_steps_60 : DC mX4_steps 60 = .ok (.aload_n 0, 1) := dk_42 (dk_at dksX4_steps_2 12 rfl rfl)
theorem dX4_steps_61 : DC mX4_steps 61 = .ok (.iload_n 1, 1) := dk_27 (dk_at dksX4_steps_2 13 rfl rfl)
theorem dX4_steps_62 : DC mX4_steps 62 = .ok (.iconst 0, 1) := dk_3 (dk_at dksX4_steps_2 14 rfl rfl)
theorem dX4_steps_63 : DC mX4_steps 63 = .ok (.invokevirtual 64, 3) := dk_182 0 64 (dk_at dksX4_steps_2 15 rfl rfl)
theorem dX4_steps_66 : DC mX4_steps 66 = .ok (.invokevirtual 72, 3) := dk_182 0 72 (dk_at dksX4_steps_2 18 rfl rfl)
theorem dX4_steps_69 : DC mX4_steps 69 = .ok (.ireturn, 1) := dk_172 (dk_at dksX4_steps_2 21 rfl rfl)
theorem dX4_steps_70 : DC mX4_steps 70 = .ok (.aload_n 0, 1) := dk_42 (dk_at dksX4_steps_2 22 rfl rfl)
theorem dX4_steps_71 : DC mX4_steps 71 = .ok (.iload_n 1, 1) := dk_27 (dk_at dksX4_steps_2 23 rfl rfl)
theorem dX4_steps_72 : DC mX4_steps 72 = .ok (.iconst 2, 1) := dk_5 (dk_at dksX4_steps_3 0 rfl rfl)
theorem dX4_steps_73 : DC mX4_steps 73 = .ok (.invokevirtual 64, 3) := dk_182 0 64 (dk_at dksX4_steps_3 1 rfl rfl)
theorem dX4_steps_76 : DC mX4_steps 76 = .ok (.istore 6, 2) := dk_54 6 (dk_at dksX4_steps_3 4 rfl rfl)
theorem dX4_steps_78 : DC mX4_steps 78 = .ok (.iconst 0, 1) := dk_3 (dk_at dksX4_steps_3 6 rfl rfl)
theorem dX4_steps_79 : DC mX4_steps 79 = .ok (.istore 7, 2) := dk_54 7 (dk_at dksX4_steps_3 7 rfl rfl)
theorem dX4_steps_81 : DC mX4_steps 81 = .ok (.iload 7, 2) := dk_21 7 (dk_at dksX4_steps_3 9 rfl rfl)
theorem dX4_steps_83 : DC mX4_steps 83 = .ok (.iload 6, 2) := dk_21 6 (dk_at dksX4_steps_3 11 rfl rfl)
theorem dX4_steps_85 : DC mX4_steps 85 = .ok (.if_icmp .ge 54, 3) := dk_162 0 54 (dk_at dksX4_steps_3 13 rfl rfl)
theorem dX4_steps_88 : DC mX4_steps 88 = .ok (.aload_n 0, 1) := dk_42 (dk_at dksX4_steps_3 16 rfl rfl)
theorem dX4_steps_89 : DC mX4_steps 89 = .ok (.iload_n 1, 1) := dk_27 (dk_at dksX4_steps_3 17 rfl rfl)
theorem dX4_steps_90 : DC mX4_steps 90 = .ok (.iload 7, 2) := dk_21 7 (dk_at dksX4_steps_3 18 rfl rfl)
theorem dX4_steps_92 : DC mX4_steps 92 = .ok (.iconst 0, 1) := dk_3 (dk_at dksX4_steps_3 20 rfl rfl)
theorem dX4_steps_93 : DC mX4_steps 93 = .ok (.invokevirtual 107, 3) := dk_182 0 107 (dk_at dksX4_steps_3 21 rfl rfl)
theorem dX4_steps_96 : DC mX4_steps 96 = .ok (.iload_n 2, 1) := dk_28 (dk_at dksX4_steps_4 0 rfl rfl)
theorem dX4_steps_97 : DC mX4_steps 97 = .ok (.if_icmp .ne 36, 3) := dk_160 0 36 (dk_at dksX4_steps_4 1 rfl rfl)
theorem dX4_steps_100 : DC mX4_steps 100 = .ok (.aload_n 0, 1) := dk_42 (dk_at dksX4_steps_4 4 rfl rfl)
theorem dX4_steps_101 : DC mX4_steps 101 = .ok (.iload_n 1, 1) := dk_27 (dk_at dksX4_steps_4 5 rfl rfl)
theorem dX4_steps_102 : DC mX4_steps 102 = .ok (.iload 7, 2) := dk_21 7 (dk_at dksX4_steps_4 6 rfl rfl)
theorem dX4_steps_104 : DC mX4_steps 104 = .ok (.iconst 1, 1) := dk_4 (dk_at dksX4_steps_4 8 rfl rfl)
theorem dX4_steps_105 : DC mX4_steps 105 = .ok (.invokevirtual 107, 3) := dk_182 0 107 (dk_at dksX4_steps_4 9 rfl rfl)
theorem dX4_steps_108 : DC mX4_steps 108 = .ok (.iload_n 3, 1) := dk_29 (dk_at dksX4_steps_4 12 rfl rfl)
theorem dX4_steps_109 : DC mX4_steps 109 = .ok (.if_icmp .ne 24, 3) := dk_160 0 24 (dk_at dksX4_steps_4 13 rfl rfl)
theorem dX4_steps_112 : DC mX4_steps 112 = .ok (.aload_n 0, 1) := dk_42 (dk_at dksX4_steps_4 16 rfl rfl)
theorem dX4_steps_113 : DC mX4_steps 113 = .ok (.iload_n 1, 1) := dk_27 (dk_at dksX4_steps_4 17 rfl rfl)
theorem dX4_steps_114 : DC mX4_steps 114 = .ok (.iload 7, 2) := dk_21 7 (dk_at dksX4_steps_4 18 rfl rfl)
theorem dX4_steps_116 : DC mX4_steps 116 = .ok (.iconst 2, 1) := dk_5 (dk_at dksX4_steps_4 20 rfl rfl)
theorem dX4_steps_117 : DC mX4_steps 117 = .ok (.invokevirtual 107, 3) := dk_182 0 107 (dk_at dksX4_steps_4 21 rfl rfl)
theorem dX4_steps_120 : DC mX4_steps 120 = .ok (.iload 4, 2) := dk_21 4 (dk_at dksX4_steps_5 0 rfl rfl)
theorem dX4_steps_122 : DC mX4_steps 122 = .ok (.if_icmp .ne 11, 3) := dk_160 0 11 (dk_at dksX4_steps_5 2 rfl rfl)
theorem dX4_steps_125 : DC mX4_steps 125 = .ok (.aload_n 0, 1) := dk_42 (dk_at dksX4_steps_5 5 rfl rfl)
theorem dX4_steps_126 : DC mX4_steps 126 = .ok (.iconst 5, 1) := dk_8 (dk_at dksX4_steps_5 6 rfl rfl)
theorem dX4_steps_127 : DC mX4_steps 127 = .ok (.iload 7, 2) := dk_21 7 (dk_at dksX4_steps_5 7 rfl rfl)
theorem dX4_steps_129 : DC mX4_steps 129 = .ok (.invokevirtual 72, 3) := dk_182 0 72 (dk_at dksX4_steps_5 9 rfl rfl)
theorem dX4_steps_132 : DC mX4_steps 132 = .ok (.ireturn, 1) := dk_172 (dk_at dksX4_steps_5 12 rfl rfl)
theorem dX4_steps_133 : DC mX4_steps 133 = .ok (.iinc 7 1, 3) := dk_132 7 1 (dk_at dksX4_steps_5 13 rfl rfl)
theorem dX4_steps_136 : DC mX4_steps 136 = .ok (.goto (-55), 3) := dk_167 255 201 (dk_at dksX4_steps_5 16 rfl rfl)
theorem dX4_steps_139 : DC mX4_steps 139 = .ok (.iload 6, 2) := dk_21 6 (dk_at dksX4_steps_5 19 rfl rfl)
theorem dX4_steps_141 : DC mX4_steps 141 = .ok (.bipush 8, 2) := dk_16 8 (dk_at dksX4_steps_5 21 rfl rfl)
theorem dX4_steps_143 : DC mX4_steps 143 = .ok (.if_icmp .ne 11, 3) := dk_160 0 11 (dk_at dksX4_steps_6 0 rfl rfl)
theorem dX4_steps_146 : DC mX4_steps 146 = .ok (.aload_n 0, 1) := dk_42 (dk_at dksX4_steps_6 3 rfl rfl)
theorem dX4_steps_147 : DC mX4_steps 147 = .ok (.iconst 1, 1) := dk_4 (dk_at dksX4_steps_6 4 rfl rfl)
theorem dX4_steps_148 : DC mX4_steps 148 = .ok (.bipush 8, 2) := dk_16 8 (dk_at dksX4_steps_6 5 rfl rfl)
theorem dX4_steps_150 : DC mX4_steps 150 = .ok (.invokevirtual 72, 3) := dk_182 0 72 (dk_at dksX4_steps_6 7 rfl rfl)
theorem dX4_steps_153 : DC mX4_steps 153 = .ok (.ireturn, 1) := dk_172 (dk_at dksX4_steps_6 10 rfl rfl)
theorem dX4_steps_154 : DC mX4_steps 154 = .ok (.bipush 9, 2) := dk_16 9 (dk_at dksX4_steps_6 11 rfl rfl)
theorem dX4_steps_156 : DC mX4_steps 156 = .ok (.iconst 5, 1) := dk_8 (dk_at dksX4_steps_6 13 rfl rfl)
theorem dX4_steps_157 : DC mX4_steps 157 = .ok (.iload 6, 2) := dk_21 6 (dk_at dksX4_steps_6 14 rfl rfl)
theorem dX4_steps_159 : DC mX4_steps 159 = .ok (.imul, 1) := dk_104 (dk_at dksX4_steps_6 16 rfl rfl)
theorem dX4_steps_160 : DC mX4_steps 160 = .ok (.iadd, 1) := dk_96 (dk_at dksX4_steps_6 17 rfl rfl)
theorem dX4_steps_161 : DC mX4_steps 161 = .ok (.istore 7, 2) := dk_54 7 (dk_at dksX4_steps_6 18 rfl rfl)
theorem dX4_steps_163 : DC mX4_steps 163 = .ok (.aload_n 0, 1) := dk_42 (dk_at dksX4_steps_6 20 rfl rfl)
theorem dX4_steps_164 : DC mX4_steps 164 = .ok (.iload_n 1, 1) := dk_27 (dk_at dksX4_steps_6 21 rfl rfl)
theorem dX4_steps_165 : DC mX4_steps 165 = .ok (.iload 7, 2) := dk_21 7 (dk_at dksX4_steps_6 22 rfl rfl)
theorem dX4_steps_167 : DC mX4_steps 167 = .ok (.iload_n 2, 1) := dk_28 (dk_at dksX4_steps_7 0 rfl rfl)
theorem dX4_steps_168 : DC mX4_steps 168 = .ok (.invokevirtual 75, 3) := dk_182 0 75 (dk_at dksX4_steps_7 1 rfl rfl)
theorem dX4_steps_171 : DC mX4_steps 171 = .ok (.aload_n 0, 1) := dk_42 (dk_at dksX4_steps_7 4 rfl rfl)
theorem dX4_steps_172 : DC mX4_steps 172 = .ok (.iload_n 1, 1) := dk_27 (dk_at dksX4_steps_7 5 rfl rfl)
theorem dX4_steps_173 : DC mX4_steps 173 = .ok (.iload 7, 2) := dk_21 7 (dk_at dksX4_steps_7 6 rfl rfl)
theorem dX4_steps_175 : DC mX4_steps 175 = .ok (.iconst 1, 1) := dk_4 (dk_at dksX4_steps_7 8 rfl rfl)
theorem dX4_steps_176 : DC mX4_steps 176 = .ok (.iadd, 1) := dk_96 (dk_at dksX4_steps_7 9 rfl rfl)
theorem dX4_steps_177 : DC mX4_steps 177 = .ok (.iload_n 3, 1) := dk_29 (dk_at dksX4_steps_7 10 rfl rfl)
theorem dX4_steps_178 : DC mX4_steps 178 = .ok (.invokevirtual 75, 3) := dk_182 0 75 (dk_at dksX4_steps_7 11 rfl rfl)
theorem dX4_steps_181 : DC mX4_steps 181 = .ok (.aload_n 0, 1) := dk_42 (dk_at dksX4_steps_7 14 rfl rfl)
theorem dX4_steps_182 : DC mX4_steps 182 = .ok (.iload_n 1, 1) := dk_27 (dk_at dksX4_steps_7 15 rfl rfl)
theorem dX4_steps_183 : DC mX4_steps 183 = .ok (.iload 7, 2) := dk_21 7 (dk_at dksX4_steps_7 16 rfl rfl)
theorem dX4_steps_185 : DC mX4_steps 185 = .ok (.iconst 2, 1) := dk_5 (dk_at dksX4_steps_7 18 rfl rfl)
theorem dX4_steps_186 : DC mX4_steps 186 = .ok (.iadd, 1) := dk_96 (dk_at dksX4_steps_7 19 rfl rfl)
theorem dX4_steps_187 : DC mX4_steps 187 = .ok (.iload 4, 2) := dk_21 4 (dk_at dksX4_steps_7 20 rfl rfl)
theorem dX4_steps_189 : DC mX4_steps 189 = .ok (.invokevirtual 75, 3) := dk_182 0 75 (dk_at dksX4_steps_8 0 rfl rfl)
theorem dX4_steps_192 : DC mX4_steps 192 = .ok (.aload_n 0, 1) := dk_42 (dk_at dksX4_steps_8 3 rfl rfl)
theorem dX4_steps_193 : DC mX4_steps 193 = .ok (.iload_n 1, 1) := dk_27 (dk_at dksX4_steps_8 4 rfl rfl)
theorem dX4_steps_194 : DC mX4_steps 194 = .ok (.iload 7, 2) := dk_21 7 (dk_at dksX4_steps_8 5 rfl rfl)
theorem dX4_steps_196 : DC mX4_steps 196 = .ok (.iconst 3, 1) := dk_6 (dk_at dksX4_steps_8 7 rfl rfl)
theorem dX4_steps_197 : DC mX4_steps 197 = .ok (.iadd, 1) := dk_96 (dk_at dksX4_steps_8 8 rfl rfl)
theorem dX4_steps_198 : DC mX4_steps 198 = .ok (.iload 5, 2) := dk_21 5 (dk_at dksX4_steps_8 9 rfl rfl)
theorem dX4_steps_200 : DC mX4_steps 200 = .ok (.invokevirtual 75, 3) := dk_182 0 75 (dk_at dksX4_steps_8 11 rfl rfl)
theorem dX4_steps_203 : DC mX4_steps 203 = .ok (.aload_n 0, 1) := dk_42 (dk_at dksX4_steps_8 14 rfl rfl)
theorem dX4_steps_204 : DC mX4_steps 204 = .ok (.iload_n 1, 1) := dk_27 (dk_at dksX4_steps_8 15 rfl rfl)
theorem dX4_steps_205 : DC mX4_steps 205 = .ok (.iload 7, 2) := dk_21 7 (dk_at dksX4_steps_8 16 rfl rfl)
theorem dX4_steps_207 : DC mX4_steps 207 = .ok (.iconst 4, 1) := dk_7 (dk_at dksX4_steps_8 18 rfl rfl)
theorem dX4_steps_208 : DC mX4_steps 208 = .ok (.iadd, 1) := dk_96 (dk_at dksX4_steps_8 19 rfl rfl)
theorem dX4_steps_209 : DC mX4_steps 209 = .ok (.iconst 0, 1) := dk_3 (dk_at dksX4_steps_8 20 rfl rfl)
theorem dX4_steps_210 : DC mX4_steps 210 = .ok (.invokevirtual 75, 3) := dk_182 0 75 (dk_at dksX4_steps_8 21 rfl rfl)
theorem dX4_steps_213 : DC mX4_steps 213 = .ok (.aload_n 0, 1) := dk_42 (dk_at dksX4_steps_9 0 rfl rfl)
theorem dX4_steps_214 : DC mX4_steps 214 = .ok (.iload_n 1, 1) := dk_27 (dk_at dksX4_steps_9 1 rfl rfl)
theorem dX4_steps_215 : DC mX4_steps 215 = .ok (.iconst 2, 1) := dk_5 (dk_at dksX4_steps_9 2 rfl rfl)
theorem dX4_steps_216 : DC mX4_steps 216 = .ok (.iload 6, 2) := dk_21 6 (dk_at dksX4_steps_9 3 rfl rfl)
theorem dX4_steps_218 : DC mX4_steps 218 = .ok (.iconst 1, 1) := dk_4 (dk_at dksX4_steps_9 5 rfl rfl)
theorem dX4_steps_219 : DC mX4_steps 219 = .ok (.iadd, 1) := dk_96 (dk_at dksX4_steps_9 6 rfl rfl)
theorem dX4_steps_220 : DC mX4_steps 220 = .ok (.invokevirtual 75, 3) := dk_182 0 75 (dk_at dksX4_steps_9 7 rfl rfl)
theorem dX4_steps_223 : DC mX4_steps 223 = .ok (.aload_n 0, 1) := dk_42 (dk_at dksX4_steps_9 10 rfl rfl)
theorem dX4_steps_224 : DC mX4_steps 224 = .ok (.iload 6, 2) := dk_21 6 (dk_at dksX4_steps_9 11 rfl rfl)
theorem dX4_steps_226 : DC mX4_steps 226 = .ok (.iconst 1, 1) := dk_4 (dk_at dksX4_steps_9 13 rfl rfl)
theorem dX4_steps_227 : DC mX4_steps 227 = .ok (.iadd, 1) := dk_96 (dk_at dksX4_steps_9 14 rfl rfl)
theorem dX4_steps_228 : DC mX4_steps 228 = .ok (.invokevirtual 79, 3) := dk_182 0 79 (dk_at dksX4_steps_9 15 rfl rfl)
theorem dX4_steps_231 : DC mX4_steps 231 = .ok (.ireturn, 1) := dk_172 (dk_at dksX4_steps_9 18 rfl rfl)
abbrev cX4_isTour : ByteArray := prog_13_method_12_code
def yX4_isTour : MethodName := ⟨RX4, "isTour", "(I)Z"⟩
def mX4_isTour : MI := (⟨"TheatreSagaModel", "isTour", "(I)Z"⟩, prog_13_method_12_code, 2, (Option.some FieldType.boolean), none, 42, 2)
theorem oX4_isTour : mO mX4_isTour = 42 := rfl
theorem lX4_isTour : mL mX4_isTour = 2 := rfl
theorem rX4_isTour : mR mX4_isTour = (Option.some FieldType.boolean) := rfl
theorem vX4_isTour : mV mX4_isTour = 2 := rfl
theorem nX4_isTour : (mY mX4_isTour).name = "isTour" := rfl
theorem hX4_isTour : mH mX4_isTour = none := rfl
theorem kX4_isTour : MOk mX4_isTour := ⟨q2500, q91, by decide +kernel⟩
theorem gX4_isTour : plainName (mY mX4_isTour).cls = true ∧ (mY mX4_isTour).cls = "TheatreSagaModel" := ⟨by decide +kernel, rfl⟩
def dkwX4_isTour_0 : List UInt8 := [27, 3, 42, 180, 0, 9, 16, 8, 46, 4, 100, 184, 0, 60, 172]
abbrev dktX4_isTour_0 : List UInt8 := dkwX4_isTour_0 ++ []
theorem dksX4_isTour_0 : cX4_isTour.data.toList.drop 0 = dktX4_isTour_0 := by decide +kernel
theorem dX4_isTour_0 : DC mX4_isTour 0 = .ok (.iload_n 1, 1) := dk_27 (dk_at dksX4_isTour_0 0 rfl rfl)
theorem dX4_isTour_1 : DC mX4_isTour 1 = .ok (.iconst 0, 1) := dk_3 (dk_at dksX4_isTour_0 1 rfl rfl)
theorem dX4_isTour_2 : DC mX4_isTour 2 = .ok (.aload_n 0, 1) := dk_42 (dk_at dksX4_isTour_0 2 rfl rfl)
theorem dX4_isTour_3 : DC mX4_isTour 3 = .ok (.getfield 9, 3) := dk_180 0 9 (dk_at dksX4_isTour_0 3 rfl rfl)
theorem dX4_isTour_6 : DC mX4_isTour 6 = .ok (.bipush 8, 2) := dk_16 8 (dk_at dksX4_isTour_0 6 rfl rfl)
theorem dX4_isTour_8 : DC mX4_isTour 8 = .ok (.iaload, 1) := dk_46 (dk_at dksX4_isTour_0 8 rfl rfl)
theorem dX4_isTour_9 : DC mX4_isTour 9 = .ok (.iconst 1, 1) := dk_4 (dk_at dksX4_isTour_0 9 rfl rfl)
theorem dX4_isTour_10 : DC mX4_isTour 10 = .ok (.isub, 1) := dk_100 (dk_at dksX4_isTour_0 10 rfl rfl)
theorem dX4_isTour_11 : DC mX4_isTour 11 = .ok (.invokestatic 60, 3) := dk_184 0 60 (dk_at dksX4_isTour_0 11 rfl rfl)
theorem dX4_isTour_14 : DC mX4_isTour 14 = .ok (.ireturn, 1) := dk_172 (dk_at dksX4_isTour_0 14 rfl rfl)
abbrev cX4_isTown : ByteArray := prog_13_method_10_code
def yX4_isTown : MethodName := ⟨RX4, "isTown", "(I)Z"⟩
def mX4_isTown : MI := (⟨"TheatreSagaModel", "isTown", "(I)Z"⟩, prog_13_method_10_code, 1, (Option.some FieldType.boolean), none, 42, 2)
theorem oX4_isTown : mO mX4_isTown = 42 := rfl
theorem lX4_isTown : mL mX4_isTown = 1 := rfl
theorem rX4_isTown : mR mX4_isTown = (Option.some FieldType.boolean) := rfl
theorem vX4_isTown : mV mX4_isTown = 2 := rfl
theorem nX4_isTown : (mY mX4_isTown).name = "isTown" := rfl
theorem hX4_isTown : mH mX4_isTown = none := rfl
theorem kX4_isTown : MOk mX4_isTown := ⟨q2503, q91, by decide +kernel⟩
theorem gX4_isTown : plainName (mY mX4_isTown).cls = true ∧ (mY mX4_isTown).cls = "TheatreSagaModel" := ⟨by decide +kernel, rfl⟩
def dkwX4_isTown_0 : List UInt8 := [26, 3, 7, 184, 0, 60, 172]
abbrev dktX4_isTown_0 : List UInt8 := dkwX4_isTown_0 ++ []
theorem dksX4_isTown_0 : cX4_isTown.data.toList.drop 0 = dktX4_isTown_0 := by decide +kernel
theorem dX4_isTown_0 : DC mX4_isTown 0 = .ok (.iload_n 0, 1) := dk_26 (dk_at dksX4_isTown_0 0 rfl rfl)
theorem dX4_isTown_1 : DC mX4_isTown 1 = .ok (.iconst 0, 1) := dk_3 (dk_at dksX4_isTown_0 1 rfl rfl)
theorem dX4_isTown_2 : DC mX4_isTown 2 = .ok (.iconst 4, 1) := dk_7 (dk_at dksX4_isTown_0 2 rfl rfl)
theorem dX4_isTown_3 : DC mX4_isTown 3 = .ok (.invokestatic 60, 3) := dk_184 0 60 (dk_at dksX4_isTown_0 3 rfl rfl)
theorem dX4_isTown_6 : DC mX4_isTown 6 = .ok (.ireturn, 1) := dk_172 (dk_at dksX4_isTown_0 6 rfl rfl)
abbrev cX4_isDay : ByteArray := prog_13_method_11_code
def yX4_isDay : MethodName := ⟨RX4, "isDay", "(I)Z"⟩
def mX4_isDay : MI := (⟨"TheatreSagaModel", "isDay", "(I)Z"⟩, prog_13_method_11_code, 1, (Option.some FieldType.boolean), none, 42, 2)
theorem oX4_isDay : mO mX4_isDay = 42 := rfl
theorem lX4_isDay : mL mX4_isDay = 1 := rfl
theorem rX4_isDay : mR mX4_isDay = (Option.some FieldType.boolean) := rfl
theorem vX4_isDay : mV mX4_isDay = 2 := rfl
theorem nX4_isDay : (mY mX4_isDay).name = "isDay" := rfl
theorem hX4_isDay : mH mX4_isDay = none := rfl
theorem kX4_isDay : MOk mX4_isDay := ⟨q2506, q91, by decide +kernel⟩
theorem gX4_isDay : plainName (mY mX4_isDay).cls = true ∧ (mY mX4_isDay).cls = "TheatreSagaModel" := ⟨by decide +kernel, rfl⟩
def dkwX4_isDay_0 : List UInt8 := [26, 3, 16, 19, 184, 0, 60, 172]
abbrev dktX4_isDay_0 : List UInt8 := dkwX4_isDay_0 ++ []
theorem dksX4_isDay_0 : cX4_isDay.data.toList.drop 0 = dktX4_isDay_0 := by decide +kernel
theorem dX4_isDay_0 : DC mX4_isDay 0 = .ok (.iload_n 0, 1) := dk_26 (dk_at dksX4_isDay_0 0 rfl rfl)
theorem dX4_isDay_1 : DC mX4_isDay 1 = .ok (.iconst 0, 1) := dk_3 (dk_at dksX4_isDay_0 1 rfl rfl)
theorem dX4_isDay_2 : DC mX4_isDay 2 = .ok (.bipush 19, 2) := dk_16 19 (dk_at dksX4_isDay_0 2 rfl rfl)
theorem dX4_isDay_4 : DC mX4_isDay 4 = .ok (.invokestatic 60, 3) := dk_184 0 60 (dk_at dksX4_isDay_0 4 rfl rfl)
theorem dX4_isDay_7 : DC mX4_isDay 7 = .ok (.ireturn, 1) := dk_172 (dk_at dksX4_isDay_0 7 rfl rfl)
abbrev cX4_most : ByteArray := prog_13_method_22_code
def yX4_most : MethodName := ⟨RX4, "most", "(I)I"⟩
def mX4_most : MI := (⟨"TheatreSagaModel", "most", "(I)I"⟩, prog_13_method_22_code, 1, (Option.some FieldType.int), none, 42, 1)
theorem oX4_most : mO mX4_most = 42 := rfl
theorem lX4_most : mL mX4_most = 1 := rfl
theorem rX4_most : mR mX4_most = (Option.some FieldType.int) := rfl
theorem vX4_most : mV mX4_most = 1 := rfl
theorem nX4_most : (mY mX4_most).name = "most" := rfl
theorem hX4_most : mH mX4_most = none := rfl
theorem kX4_most : MOk mX4_most := ⟨q2509, q91, by decide +kernel⟩
theorem gX4_most : plainName (mY mX4_most).cls = true ∧ (mY mX4_most).cls = "TheatreSagaModel" := ⟨by decide +kernel, rfl⟩
def dkwX4_most_0 : List UInt8 := [26, 154, 0, 7, 4, 167, 0, 14, 26, 4, 160, 0, 7, 7, 167, 0, 5, 16, 12, 172]
abbrev dktX4_most_0 : List UInt8 := dkwX4_most_0 ++ []
theorem dksX4_most_0 : cX4_most.data.toList.drop 0 = dktX4_most_0 := by decide +kernel
theorem dX4_most_0 : DC mX4_most 0 = .ok (.iload_n 0, 1) := dk_26 (dk_at dksX4_most_0 0 rfl rfl)
theorem dX4_most_1 : DC mX4_most 1 = .ok (.ifCond .ne 7, 3) := dk_154 0 7 (dk_at dksX4_most_0 1 rfl rfl)
theorem dX4_most_4 : DC mX4_most 4 = .ok (.iconst 1, 1) := dk_4 (dk_at dksX4_most_0 4 rfl rfl)
theorem dX4_most_5 : DC mX4_most 5 = .ok (.goto 14, 3) := dk_167 0 14 (dk_at dksX4_most_0 5 rfl rfl)
theorem dX4_most_8 : DC mX4_most 8 = .ok (.iload_n 0, 1) := dk_26 (dk_at dksX4_most_0 8 rfl rfl)
theorem dX4_most_9 : DC mX4_most 9 = .ok (.iconst 1, 1) := dk_4 (dk_at dksX4_most_0 9 rfl rfl)
theorem dX4_most_10 : DC mX4_most 10 = .ok (.if_icmp .ne 7, 3) := dk_160 0 7 (dk_at dksX4_most_0 10 rfl rfl)
theorem dX4_most_13 : DC mX4_most 13 = .ok (.iconst 4, 1) := dk_7 (dk_at dksX4_most_0 13 rfl rfl)
theorem dX4_most_14 : DC mX4_most 14 = .ok (.goto 5, 3) := dk_167 0 5 (dk_at dksX4_most_0 14 rfl rfl)
theorem dX4_most_17 : DC mX4_most 17 = .ok (.bipush 12, 2) := dk_16 12 (dk_at dksX4_most_0 17 rfl rfl)
theorem dX4_most_19 : DC mX4_most 19 = .ok (.ireturn, 1) := dk_172 (dk_at dksX4_most_0 19 rfl rfl)
abbrev cX4_of : ByteArray := prog_13_method_13_code
def yX4_of : MethodName := ⟨RX4, "of", "(II)I"⟩
def mX4_of : MI := (⟨"TheatreSagaModel", "of", "(II)I"⟩, prog_13_method_13_code, 3, (Option.some FieldType.int), none, 42, 1)
theorem oX4_of : mO mX4_of = 42 := rfl
theorem lX4_of : mL mX4_of = 3 := rfl
theorem rX4_of : mR mX4_of = (Option.some FieldType.int) := rfl
theorem vX4_of : mV mX4_of = 1 := rfl
theorem nX4_of : (mY mX4_of).name = "of" := rfl
theorem hX4_of : mH mX4_of = none := rfl
theorem kX4_of : MOk mX4_of := ⟨q2513, q91, by decide +kernel⟩
theorem gX4_of : plainName (mY mX4_of).cls = true ∧ (mY mX4_of).cls = "TheatreSagaModel" := ⟨by decide +kernel, rfl⟩
def dkwX4_of_0 : List UInt8 := [42, 180, 0, 9, 16, 24, 16, 49, 27, 104, 96, 28, 96, 46, 172]
abbrev dktX4_of_0 : List UInt8 := dkwX4_of_0 ++ []
theorem dksX4_of_0 : cX4_of.data.toList.drop 0 = dktX4_of_0 := by decide +kernel
theorem dX4_of_0 : DC mX4_of 0 = .ok (.aload_n 0, 1) := dk_42 (dk_at dksX4_of_0 0 rfl rfl)
theorem dX4_of_1 : DC mX4_of 1 = .ok (.getfield 9, 3) := dk_180 0 9 (dk_at dksX4_of_0 1 rfl rfl)
theorem dX4_of_4 : DC mX4_of 4 = .ok (.bipush 24, 2) := dk_16 24 (dk_at dksX4_of_0 4 rfl rfl)
theorem dX4_of_6 : DC mX4_of 6 = .ok (.bipush 49, 2) := dk_16 49 (dk_at dksX4_of_0 6 rfl rfl)
theorem dX4_of_8 : DC mX4_of 8 = .ok (.iload_n 1, 1) := dk_27 (dk_at dksX4_of_0 8 rfl rfl)
theorem dX4_of_9 : DC mX4_of 9 = .ok (.imul, 1) := dk_104 (dk_at dksX4_of_0 9 rfl rfl)
theorem dX4_of_10 : DC mX4_of 10 = .ok (.iadd, 1) := dk_96 (dk_at dksX4_of_0 10 rfl rfl)
theorem dX4_of_11 : DC mX4_of 11 = .ok (.iload_n 2, 1) := dk_28 (dk_at dksX4_of_0 11 rfl rfl)
theorem dX4_of_12 : DC mX4_of 12 = .ok (.iadd, 1) := dk_96 (dk_at dksX4_of_0 12 rfl rfl)
theorem dX4_of_13 : DC mX4_of 13 = .ok (.iaload, 1) := dk_46 (dk_at dksX4_of_0 13 rfl rfl)
theorem dX4_of_14 : DC mX4_of 14 = .ok (.ireturn, 1) := dk_172 (dk_at dksX4_of_0 14 rfl rfl)
abbrev cX4_step_2 : ByteArray := prog_13_method_15_code
def yX4_step_2 : MethodName := ⟨RX4, "step", "(III)I"⟩
def mX4_step_2 : MI := (⟨"TheatreSagaModel", "step", "(III)I"⟩, prog_13_method_15_code, 4, (Option.some FieldType.int), none, 42, 2)
theorem oX4_step_2 : mO mX4_step_2 = 42 := rfl
theorem lX4_step_2 : mL mX4_step_2 = 4 := rfl
theorem rX4_step_2 : mR mX4_step_2 = (Option.some FieldType.int) := rfl
theorem vX4_step_2 : mV mX4_step_2 = 2 := rfl
theorem nX4_step_2 : (mY mX4_step_2).name = "step" := rfl
theorem hX4_step_2 : mH mX4_step_2 = none := rfl
theorem kX4_step_2 : MOk mX4_step_2 := ⟨q2517, q91, by decide +kernel⟩
theorem gX4_step_2 : plainName (mY mX4_step_2).cls = true ∧ (mY mX4_step_2).cls = "TheatreSagaModel" := ⟨by decide +kernel, rfl⟩
def dkwX4_step_2_0 : List UInt8 := [42, 27, 16, 9, 8, 28, 104, 96, 29, 96, 182, 0, 64, 172]
abbrev dktX4_step_2_0 : List UInt8 := dkwX4_step_2_0 ++ []
theorem dksX4_step_2_0 : cX4_step_2.data.toList.drop 0 = dktX4_step_2_0 := by decide +kernel
theorem dX4_step_2_0 : DC mX4_step_2 0 = .ok (.aload_n 0, 1) := dk_42 (dk_at dksX4_step_2_0 0 rfl rfl)
theorem dX4_step_2_1 : DC mX4_step_2 1 = .ok (.iload_n 1, 1) := dk_27 (dk_at dksX4_step_2_0 1 rfl rfl)
theorem dX4_step_2_2 : DC mX4_step_2 2 = .ok (.bipush 9, 2) := dk_16 9 (dk_at dksX4_step_2_0 2 rfl rfl)
theorem dX4_step_2_4 : DC mX4_step_2 4 = .ok (.iconst 5, 1) := dk_8 (dk_at dksX4_step_2_0 4 rfl rfl)
theorem dX4_step_2_5 : DC mX4_step_2 5 = .ok (.iload_n 2, 1) := dk_28 (dk_at dksX4_step_2_0 5 rfl rfl)
theorem dX4_step_2_6 : DC mX4_step_2 6 = .ok (.imul, 1) := dk_104 (dk_at dksX4_step_2_0 6 rfl rfl)
theorem dX4_step_2_7 : DC mX4_step_2 7 = .ok (.iadd, 1) := dk_96 (dk_at dksX4_step_2_0 7 rfl rfl)
theorem dX4_step_2_8 : DC mX4_step_2 8 = .ok (.iload_n 3, 1) := dk_29 (dk_at dksX4_step_2_0 8 rfl rfl)
theorem dX4_step_2_9 : DC mX4_step_2 9 = .ok (.iadd, 1) := dk_96 (dk_at dksX4_step_2_0 9 rfl rfl)
theorem dX4_step_2_10 : DC mX4_step_2 10 = .ok (.invokevirtual 64, 3) := dk_182 0 64 (dk_at dksX4_step_2_0 10 rfl rfl)
theorem dX4_step_2_13 : DC mX4_step_2 13 = .ok (.ireturn, 1) := dk_172 (dk_at dksX4_step_2_0 13 rfl rfl)
abbrev cX4_start : ByteArray := prog_13_method_27_code
def yX4_start : MethodName := ⟨RX4, "start", "(I)I"⟩
def mX4_start : MI := (⟨"TheatreSagaModel", "start", "(I)I"⟩, prog_13_method_27_code, 2, (Option.some FieldType.int), none, 42, 4)
theorem oX4_start : mO mX4_start = 42 := rfl
theorem lX4_start : mL mX4_start = 2 := rfl
theorem rX4_start : mR mX4_start = (Option.some FieldType.int) := rfl
theorem vX4_start : mV mX4_start = 4 := rfl
theorem nX4_start : (mY mX4_start).name = "start" := rfl
theorem hX4_start : mH mX4_start = none := rfl
theorem kX4_start : MOk mX4_start := ⟨q2521, q91, by decide +kernel⟩
theorem gX4_start : plainName (mY mX4_start).cls = true ∧ (mY mX4_start).cls = "TheatreSagaModel" := ⟨by decide +kernel, rfl⟩
def dkwX4_start_0 : List UInt8 := [42, 182, 0, 83, 42, 42, 27, 182, 0, 118, 182, 0, 121, 172]
abbrev dktX4_start_0 : List UInt8 := dkwX4_start_0 ++ []
theorem dksX4_start_0 : cX4_start.data.toList.drop 0 = dktX4_start_0 := by decide +kernel
theorem dX4_start_0 : DC mX4_start 0 = .ok (.aload_n 0, 1) := dk_42 (dk_at dksX4_start_0 0 rfl rfl)
theorem dX4_start_1 : DC mX4_start 1 = .ok (.invokevirtual 83, 3) := dk_182 0 83 (dk_at dksX4_start_0 1 rfl rfl)
theorem dX4_start_4 : DC mX4_start 4 = .ok (.aload_n 0, 1) := dk_42 (dk_at dksX4_start_0 4 rfl rfl)
theorem dX4_start_5 : DC mX4_start 5 = .ok (.aload_n 0, 1) := dk_42 (dk_at dksX4_start_0 5 rfl rfl)
theorem dX4_start_6 : DC mX4_start 6 = .ok (.iload_n 1, 1) := dk_27 (dk_at dksX4_start_0 6 rfl rfl)
theorem dX4_start_7 : DC mX4_start 7 = .ok (.invokevirtual 118, 3) := dk_182 0 118 (dk_at dksX4_start_0 7 rfl rfl)
theorem dX4_start_10 : DC mX4_start 10 = .ok (.invokevirtual 121, 3) := dk_182 0 121 (dk_at dksX4_start_0 10 rfl rfl)
theorem dX4_start_13 : DC mX4_start 13 = .ok (.ireturn, 1) := dk_172 (dk_at dksX4_start_0 13 rfl rfl)
abbrev cX4_starts : ByteArray := prog_13_method_25_code
def yX4_starts : MethodName := ⟨RX4, "starts", "(I)I"⟩
def mX4_starts : MI := (⟨"TheatreSagaModel", "starts", "(I)I"⟩, prog_13_method_25_code, 2, (Option.some FieldType.int), none, 42, 3)
theorem oX4_starts : mO mX4_starts = 42 := rfl
theorem lX4_starts : mL mX4_starts = 2 := rfl
theorem rX4_starts : mR mX4_starts = (Option.some FieldType.int) := rfl
theorem vX4_starts : mV mX4_starts = 3 := rfl
theorem nX4_starts : (mY mX4_starts).name = "starts" := rfl
theorem hX4_starts : mH mX4_starts = none := rfl
theorem kX4_starts : MOk mX4_starts := ⟨q2525, q91, by decide +kernel⟩
theorem gX4_starts : plainName (mY mX4_starts).cls = true ∧ (mY mX4_starts).cls = "TheatreSagaModel" := ⟨by decide +kernel, rfl⟩
def dkwX4_starts_2 : List UInt8 := [27, 3, 4, 182, 0, 75, 42, 42, 4, 182, 0, 115, 182, 0, 79, 172]
abbrev dktX4_starts_2 : List UInt8 := dkwX4_starts_2 ++ []
def dkwX4_starts_1 : List UInt8 := [182, 0, 64, 182, 0, 72, 172, 42, 27, 5, 182, 0, 64, 154, 0, 10, 42, 6, 27, 182, 0, 72, 172, 42]
abbrev dktX4_starts_1 : List UInt8 := dkwX4_starts_1 ++ dktX4_starts_2
def dkwX4_starts_0 : List UInt8 := [42, 27, 182, 0, 95, 154, 0, 5, 4, 172, 42, 27, 3, 182, 0, 64, 153, 0, 15, 42, 5, 42, 27, 3]
abbrev dktX4_starts_0 : List UInt8 := dkwX4_starts_0 ++ dktX4_starts_1
theorem dksX4_starts_0 : cX4_starts.data.toList.drop 0 = dktX4_starts_0 := by decide +kernel
theorem dksX4_starts_1 : cX4_starts.data.toList.drop 24 = dktX4_starts_1 := dk_seg dksX4_starts_0 24 rfl rfl
theorem dksX4_starts_2 : cX4_starts.data.toList.drop 48 = dktX4_starts_2 := dk_seg dksX4_starts_1 24 rfl rfl
theorem dX4_starts_0 : DC mX4_starts 0 = .ok (.aload_n 0, 1) := dk_42 (dk_at dksX4_starts_0 0 rfl rfl)
theorem dX4_starts_1 : DC mX4_starts 1 = .ok (.iload_n 1, 1) := dk_27 (dk_at dksX4_starts_0 1 rfl rfl)
theorem dX4_starts_2 : DC mX4_starts 2 = .ok (.invokevirtual 95, 3) := dk_182 0 95 (dk_at dksX4_starts_0 2 rfl rfl)
theorem dX4_starts_5 : DC mX4_starts 5 = .ok (.ifCond .ne 5, 3) := dk_154 0 5 (dk_at dksX4_starts_0 5 rfl rfl)
theorem dX4_starts_8 : DC mX4_starts 8 = .ok (.iconst 1, 1) := dk_4 (dk_at dksX4_starts_0 8 rfl rfl)
theorem dX4_starts_9 : DC mX4_starts 9 = .ok (.ireturn, 1) := dk_172 (dk_at dksX4_starts_0 9 rfl rfl)
theorem dX4_starts_10 : DC mX4_starts 10 = .ok (.aload_n 0, 1) := dk_42 (dk_at dksX4_starts_0 10 rfl rfl)
theorem dX4_starts_11 : DC mX4_starts 11 = .ok (.iload_n 1, 1) := dk_27 (dk_at dksX4_starts_0 11 rfl rfl)
theorem dX4_starts_12 : DC mX4_starts 12 = .ok (.iconst 0, 1) := dk_3 (dk_at dksX4_starts_0 12 rfl rfl)
theorem dX4_starts_13 : DC mX4_starts 13 = .ok (.invokevirtual 64, 3) := dk_182 0 64 (dk_at dksX4_starts_0 13 rfl rfl)
theorem dX4_starts_16 : DC mX4_starts 16 = .ok (.ifCond .eq 15, 3) := dk_153 0 15 (dk_at dksX4_starts_0 16 rfl rfl)
theorem dX4_starts_19 : DC mX4_starts 19 = .ok (.aload_n 0, 1) := dk_42 (dk_at dksX4_starts_0 19 rfl rfl)
theorem dX4_starts_20 : DC mX4_starts 20 = .ok (.iconst 2, 1) := dk_5 (dk_at dksX4_starts_0 20 rfl rfl)
theorem dX4_starts_21 : DC mX4_starts 21 = .ok (.aload_n 0, 1) := dk_42 (dk_at dksX4_starts_0 21 rfl rfl)
theorem dX4_starts_22 : DC mX4_starts 22 = .ok (.iload_n 1, 1) := dk_27 (dk_at dksX4_starts_0 22 rfl rfl)
theorem dX4_starts_23 : DC mX4_starts 23 = .ok (.iconst 0, 1) := dk_3 (dk_at dksX4_starts_0 23 rfl rfl)
theorem dX4_starts_24 : DC mX4_starts 24 = .ok (.invokevirtual 64, 3) := dk_182 0 64 (dk_at dksX4_starts_1 0 rfl rfl)
theorem dX4_starts_27 : DC mX4_starts 27 = .ok (.invokevirtual 72, 3) := dk_182 0 72 (dk_at dksX4_starts_1 3 rfl rfl)
theorem dX4_starts_30 : DC mX4_starts 30 = .ok (.ireturn, 1) := dk_172 (dk_at dksX4_starts_1 6 rfl rfl)
theorem dX4_starts_31 : DC mX4_starts 31 = .ok (.aload_n 0, 1) := dk_42 (dk_at dksX4_starts_1 7 rfl rfl)
theorem dX4_starts_32 : DC mX4_starts 32 = .ok (.iload_n 1, 1) := dk_27 (dk_at dksX4_starts_1 8 rfl rfl)
theorem dX4_starts_33 : DC mX4_starts 33 = .ok (.iconst 2, 1) := dk_5 (dk_at dksX4_starts_1 9 rfl rfl)
theorem dX4_starts_34 : DC mX4_starts 34 = .ok (.invokevirtual 64, 3) := dk_182 0 64 (dk_at dksX4_starts_1 10 rfl rfl)
theorem dX4_starts_37 : DC mX4_starts 37 = .ok (.ifCond .ne 10, 3) := dk_154 0 10 (dk_at dksX4_starts_1 13 rfl rfl)
theorem dX4_starts_40 : DC mX4_starts 40 = .ok (.aload_n 0, 1) := dk_42 (dk_at dksX4_starts_1 16 rfl rfl)
theorem dX4_starts_41 : DC mX4_starts 41 = .ok (.iconst 3, 1) := dk_6 (dk_at dksX4_starts_1 17 rfl rfl)
theorem dX4_starts_42 : DC mX4_starts 42 = .ok (.iload_n 1, 1) := dk_27 (dk_at dksX4_starts_1 18 rfl rfl)
theorem dX4_starts_43 : DC mX4_starts 43 = .ok (.invokevirtual 72, 3) := dk_182 0 72 (dk_at dksX4_starts_1 19 rfl rfl)
theorem dX4_starts_46 : DC mX4_starts 46 = .ok (.ireturn, 1) := dk_172 (dk_at dksX4_starts_1 22 rfl rfl)
theorem dX4_starts_47 : DC mX4_starts 47 = .ok (.aload_n 0, 1) := dk_42 (dk_at dksX4_starts_1 23 rfl rfl)
theorem dX4_starts_48 : DC mX4_starts 48 = .ok (.iload_n 1, 1) := dk_27 (dk_at dksX4_starts_2 0 rfl rfl)
theorem dX4_starts_49 : DC mX4_starts 49 = .ok (.iconst 0, 1) := dk_3 (dk_at dksX4_starts_2 1 rfl rfl)
theorem dX4_starts_50 : DC mX4_starts 50 = .ok (.iconst 1, 1) := dk_4 (dk_at dksX4_starts_2 2 rfl rfl)
theorem dX4_starts_51 : DC mX4_starts 51 = .ok (.invokevirtual 75, 3) := dk_182 0 75 (dk_at dksX4_starts_2 3 rfl rfl)
theorem dX4_starts_54 : DC mX4_starts 54 = .ok (.aload_n 0, 1) := dk_42 (dk_at dksX4_starts_2 6 rfl rfl)
theorem dX4_starts_55 : DC mX4_starts 55 = .ok (.aload_n 0, 1) := dk_42 (dk_at dksX4_starts_2 7 rfl rfl)
theorem dX4_starts_56 : DC mX4_starts 56 = .ok (.iconst 1, 1) := dk_4 (dk_at dksX4_starts_2 8 rfl rfl)
theorem dX4_starts_57 : DC mX4_starts 57 = .ok (.invokevirtual 115, 3) := dk_182 0 115 (dk_at dksX4_starts_2 9 rfl rfl)
theorem dX4_starts_60 : DC mX4_starts 60 = .ok (.invokevirtual 79, 3) := dk_182 0 79 (dk_at dksX4_starts_2 12 rfl rfl)
theorem dX4_starts_63 : DC mX4_starts 63 = .ok (.ireturn, 1) := dk_172 (dk_at dksX4_starts_2 15 rfl rfl)
abbrev cX4_toursThat : ByteArray := prog_13_method_18_code
def yX4_toursThat : MethodName := ⟨RX4, "toursThat", "(I)I"⟩
def mX4_toursThat : MI := (⟨"TheatreSagaModel", "toursThat", "(I)I"⟩, prog_13_method_18_code, 4, (Option.some FieldType.int), none, 42, 2)
theorem oX4_toursThat : mO mX4_toursThat = 42 := rfl
theorem lX4_toursThat : mL mX4_toursThat = 4 := rfl
theorem rX4_toursThat : mR mX4_toursThat = (Option.some FieldType.int) := rfl
theorem vX4_toursThat : mV mX4_toursThat = 2 := rfl
theorem nX4_toursThat : (mY mX4_toursThat).name = "toursThat" := rfl
theorem hX4_toursThat : mH mX4_toursThat = none := rfl
theorem kX4_toursThat : MOk mX4_toursThat := ⟨q2529, q91, by decide +kernel⟩
theorem gX4_toursThat : plainName (mY mX4_toursThat).cls = true ∧ (mY mX4_toursThat).cls = "TheatreSagaModel" := ⟨by decide +kernel, rfl⟩
def dkwX4_toursThat_1 : List UInt8 := [160, 0, 6, 132, 2, 1, 132, 3, 1, 167, 255, 229, 28, 172]
abbrev dktX4_toursThat_1 : List UInt8 := dkwX4_toursThat_1 ++ []
def dkwX4_toursThat_0 : List UInt8 := [3, 61, 3, 62, 29, 42, 180, 0, 9, 16, 8, 46, 162, 0, 22, 42, 29, 3, 182, 0, 64, 27]
abbrev dktX4_toursThat_0 : List UInt8 := dkwX4_toursThat_0 ++ dktX4_toursThat_1
theorem dksX4_toursThat_0 : cX4_toursThat.data.toList.drop 0 = dktX4_toursThat_0 := by decide +kernel
theorem dksX4_toursThat_1 : cX4_toursThat.data.toList.drop 22 = dktX4_toursThat_1 := dk_seg dksX4_toursThat_0 22 rfl rfl
theorem dX4_toursThat_0 : DC mX4_toursThat 0 = .ok (.iconst 0, 1) := dk_3 (dk_at dksX4_toursThat_0 0 rfl rfl)
theorem dX4_toursThat_1 : DC mX4_toursThat 1 = .ok (.istore_n 2, 1) := dk_61 (dk_at dksX4_toursThat_0 1 rfl rfl)
theorem dX4_toursThat_2 : DC mX4_toursThat 2 = .ok (.iconst 0, 1) := dk_3 (dk_at dksX4_toursThat_0 2 rfl rfl)
theorem dX4_toursThat_3 : DC mX4_toursThat 3 = .ok (.istore_n 3, 1) := dk_62 (dk_at dksX4_toursThat_0 3 rfl rfl)
theorem dX4_toursThat_4 : DC mX4_toursThat 4 = .ok (.iload_n 3, 1) := dk_29 (dk_at dksX4_toursThat_0 4 rfl rfl)
theorem dX4_toursThat_5 : DC mX4_toursThat 5 = .ok (.aload_n 0, 1) := dk_42 (dk_at dksX4_toursThat_0 5 rfl rfl)
theorem dX4_toursThat_6 : DC mX4_toursThat 6 = .ok (.getfield 9, 3) := dk_180 0 9 (dk_at dksX4_toursThat_0 6 rfl rfl)
theorem dX4_toursThat_9 : DC mX4_toursThat 9 = .ok (.bipush 8, 2) := dk_16 8 (dk_at dksX4_toursThat_0 9 rfl rfl)
theorem dX4_toursThat_11 : DC mX4_toursThat 11 = .ok (.iaload, 1) := dk_46 (dk_at dksX4_toursThat_0 11 rfl rfl)
theorem dX4_toursThat_12 : DC mX4_toursThat 12 = .ok (.if_icmp .ge 22, 3) := dk_162 0 22 (dk_at dksX4_toursThat_0 12 rfl rfl)
theorem dX4_toursThat_15 : DC mX4_toursThat 15 = .ok (.aload_n 0, 1) := dk_42 (dk_at dksX4_toursThat_0 15 rfl rfl)
theorem dX4_toursThat_16 : DC mX4_toursThat 16 = .ok (.iload_n 3, 1) := dk_29 (dk_at dksX4_toursThat_0 16 rfl rfl)
theorem dX4_toursThat_17 : DC mX4_toursThat 17 = .ok (.iconst 0, 1) := dk_3 (dk_at dksX4_toursThat_0 17 rfl rfl)
theorem dX4_toursThat_18 : DC mX4_toursThat 18 = .ok (.invokevirtual 64, 3) := dk_182 0 64 (dk_at dksX4_toursThat_0 18 rfl rfl)
theorem dX4_toursThat_21 : DC mX4_toursThat 21 = .ok (.iload_n 1, 1) := dk_27 (dk_at dksX4_toursThat_0 21 rfl rfl)
theorem dX4_toursThat_22 : DC mX4_toursThat 22 = .ok (.if_icmp .ne 6, 3) := dk_160 0 6 (dk_at dksX4_toursThat_1 0 rfl rfl)
theorem dX4_toursThat_25 : DC mX4_toursThat 25 = .ok (.iinc 2 1, 3) := dk_132 2 1 (dk_at dksX4_toursThat_1 3 rfl rfl)
theorem dX4_toursThat_28 : DC mX4_toursThat 28 = .ok (.iinc 3 1, 3) := dk_132 3 1 (dk_at dksX4_toursThat_1 6 rfl rfl)
theorem dX4_toursThat_31 : DC mX4_toursThat 31 = .ok (.goto (-27), 3) := dk_167 255 229 (dk_at dksX4_toursThat_1 9 rfl rfl)
theorem dX4_toursThat_34 : DC mX4_toursThat 34 = .ok (.iload_n 2, 1) := dk_28 (dk_at dksX4_toursThat_1 12 rfl rfl)
theorem dX4_toursThat_35 : DC mX4_toursThat 35 = .ok (.ireturn, 1) := dk_172 (dk_at dksX4_toursThat_1 13 rfl rfl)
abbrev cX4_endsAt : ByteArray := prog_13_method_26_code
def yX4_endsAt : MethodName := ⟨RX4, "endsAt", "(I)I"⟩
def mX4_endsAt : MI := (⟨"TheatreSagaModel", "endsAt", "(I)I"⟩, prog_13_method_26_code, 2, (Option.some FieldType.int), none, 42, 2)
theorem oX4_endsAt : mO mX4_endsAt = 42 := rfl
theorem lX4_endsAt : mL mX4_endsAt = 2 := rfl
theorem rX4_endsAt : mR mX4_endsAt = (Option.some FieldType.int) := rfl
theorem vX4_endsAt : mV mX4_endsAt = 2 := rfl
theorem nX4_endsAt : (mY mX4_endsAt).name = "endsAt" := rfl
theorem hX4_endsAt : mH mX4_endsAt = none := rfl
theorem kX4_endsAt : MOk mX4_endsAt := ⟨q2533, q91, by decide +kernel⟩
theorem gX4_endsAt : plainName (mY mX4_endsAt).cls = true ∧ (mY mX4_endsAt).cls = "TheatreSagaModel" := ⟨by decide +kernel, rfl⟩
def dkwX4_endsAt_1 : List UInt8 := [167, 0, 4, 5, 182, 0, 92, 172]
abbrev dktX4_endsAt_1 : List UInt8 := dkwX4_endsAt_1 ++ []
def dkwX4_endsAt_0 : List UInt8 := [27, 154, 0, 14, 42, 42, 180, 0, 51, 182, 0, 89, 167, 0, 17, 42, 27, 4, 160, 0, 7, 4]
abbrev dktX4_endsAt_0 : List UInt8 := dkwX4_endsAt_0 ++ dktX4_endsAt_1
theorem dksX4_endsAt_0 : cX4_endsAt.data.toList.drop 0 = dktX4_endsAt_0 := by decide +kernel
theorem dksX4_endsAt_1 : cX4_endsAt.data.toList.drop 22 = dktX4_endsAt_1 := dk_seg dksX4_endsAt_0 22 rfl rfl
theorem dX4_endsAt_0 : DC mX4_endsAt 0 = .ok (.iload_n 1, 1) := dk_27 (dk_at dksX4_endsAt_0 0 rfl rfl)
theorem dX4_endsAt_1 : DC mX4_endsAt 1 = .ok (.ifCond .ne 14, 3) := dk_154 0 14 (dk_at dksX4_endsAt_0 1 rfl rfl)
theorem dX4_endsAt_4 : DC mX4_endsAt 4 = .ok (.aload_n 0, 1) := dk_42 (dk_at dksX4_endsAt_0 4 rfl rfl)
theorem dX4_endsAt_5 : DC mX4_endsAt 5 = .ok (.aload_n 0, 1) := dk_42 (dk_at dksX4_endsAt_0 5 rfl rfl)
theorem dX4_endsAt_6 : DC mX4_endsAt 6 = .ok (.getfield 51, 3) := dk_180 0 51 (dk_at dksX4_endsAt_0 6 rfl rfl)
theorem dX4_endsAt_9 : DC mX4_endsAt 9 = .ok (.invokevirtual 89, 3) := dk_182 0 89 (dk_at dksX4_endsAt_0 9 rfl rfl)
theorem dX4_endsAt_12 : DC mX4_endsAt 12 = .ok (.goto 17, 3) := dk_167 0 17 (dk_at dksX4_endsAt_0 12 rfl rfl)
theorem dX4_endsAt_15 : DC mX4_endsAt 15 = .ok (.aload_n 0, 1) := dk_42 (dk_at dksX4_endsAt_0 15 rfl rfl)
theorem dX4_endsAt_16 : DC mX4_endsAt 16 = .ok (.iload_n 1, 1) := dk_27 (dk_at dksX4_endsAt_0 16 rfl rfl)
theorem dX4_endsAt_17 : DC mX4_endsAt 17 = .ok (.iconst 1, 1) := dk_4 (dk_at dksX4_endsAt_0 17 rfl rfl)
theorem dX4_endsAt_18 : DC mX4_endsAt 18 = .ok (.if_icmp .ne 7, 3) := dk_160 0 7 (dk_at dksX4_endsAt_0 18 rfl rfl)
theorem dX4_endsAt_21 : DC mX4_endsAt 21 = .ok (.iconst 1, 1) := dk_4 (dk_at dksX4_endsAt_0 21 rfl rfl)
theorem dX4_endsAt_22 : DC mX4_endsAt 22 = .ok (.goto 4, 3) := dk_167 0 4 (dk_at dksX4_endsAt_1 0 rfl rfl)
theorem dX4_endsAt_25 : DC mX4_endsAt 25 = .ok (.iconst 2, 1) := dk_5 (dk_at dksX4_endsAt_1 3 rfl rfl)
theorem dX4_endsAt_26 : DC mX4_endsAt 26 = .ok (.invokevirtual 92, 3) := dk_182 0 92 (dk_at dksX4_endsAt_1 4 rfl rfl)
theorem dX4_endsAt_29 : DC mX4_endsAt 29 = .ok (.ireturn, 1) := dk_172 (dk_at dksX4_endsAt_1 7 rfl rfl)
abbrev cX4_back : ByteArray := prog_13_method_30_code
def yX4_back : MethodName := ⟨RX4, "back", "(I)I"⟩
def mX4_back : MI := (⟨"TheatreSagaModel", "back", "(I)I"⟩, prog_13_method_30_code, 2, (Option.some FieldType.int), none, 42, 4)
theorem oX4_back : mO mX4_back = 42 := rfl
theorem lX4_back : mL mX4_back = 2 := rfl
theorem rX4_back : mR mX4_back = (Option.some FieldType.int) := rfl
theorem vX4_back : mV mX4_back = 4 := rfl
theorem nX4_back : (mY mX4_back).name = "back" := rfl
theorem hX4_back : mH mX4_back = none := rfl
theorem kX4_back : MOk mX4_back := ⟨q2537, q91, by decide +kernel⟩
theorem gX4_back : plainName (mY mX4_back).cls = true ∧ (mY mX4_back).cls = "TheatreSagaModel" := ⟨by decide +kernel, rfl⟩
def dkwX4_back_0 : List UInt8 := [42, 182, 0, 83, 42, 42, 27, 182, 0, 128, 182, 0, 121, 172]
abbrev dktX4_back_0 : List UInt8 := dkwX4_back_0 ++ []
theorem dksX4_back_0 : cX4_back.data.toList.drop 0 = dktX4_back_0 := by decide +kernel
theorem dX4_back_0 : DC mX4_back 0 = .ok (.aload_n 0, 1) := dk_42 (dk_at dksX4_back_0 0 rfl rfl)
theorem dX4_back_1 : DC mX4_back 1 = .ok (.invokevirtual 83, 3) := dk_182 0 83 (dk_at dksX4_back_0 1 rfl rfl)
theorem dX4_back_4 : DC mX4_back 4 = .ok (.aload_n 0, 1) := dk_42 (dk_at dksX4_back_0 4 rfl rfl)
theorem dX4_back_5 : DC mX4_back 5 = .ok (.aload_n 0, 1) := dk_42 (dk_at dksX4_back_0 5 rfl rfl)
theorem dX4_back_6 : DC mX4_back 6 = .ok (.iload_n 1, 1) := dk_27 (dk_at dksX4_back_0 6 rfl rfl)
theorem dX4_back_7 : DC mX4_back 7 = .ok (.invokevirtual 128, 3) := dk_182 0 128 (dk_at dksX4_back_0 7 rfl rfl)
theorem dX4_back_10 : DC mX4_back 10 = .ok (.invokevirtual 121, 3) := dk_182 0 121 (dk_at dksX4_back_0 10 rfl rfl)
theorem dX4_back_13 : DC mX4_back 13 = .ok (.ireturn, 1) := dk_172 (dk_at dksX4_back_0 13 rfl rfl)
abbrev cX4_callsBack : ByteArray := prog_13_method_29_code
def yX4_callsBack : MethodName := ⟨RX4, "callsBack", "(I)I"⟩
def mX4_callsBack : MI := (⟨"TheatreSagaModel", "callsBack", "(I)I"⟩, prog_13_method_29_code, 2, (Option.some FieldType.int), none, 42, 3)
theorem oX4_callsBack : mO mX4_callsBack = 42 := rfl
theorem lX4_callsBack : mL mX4_callsBack = 2 := rfl
theorem rX4_callsBack : mR mX4_callsBack = (Option.some FieldType.int) := rfl
theorem vX4_callsBack : mV mX4_callsBack = 3 := rfl
theorem nX4_callsBack : (mY mX4_callsBack).name = "callsBack" := rfl
theorem hX4_callsBack : mH mX4_callsBack = none := rfl
theorem kX4_callsBack : MOk mX4_callsBack := ⟨q2541, q91, by decide +kernel⟩
theorem gX4_callsBack : plainName (mY mX4_callsBack).cls = true ∧ (mY mX4_callsBack).cls = "TheatreSagaModel" := ⟨by decide +kernel, rfl⟩
def dkwX4_callsBack_2 : List UInt8 := [182, 0, 64, 182, 0, 79, 172]
abbrev dktX4_callsBack_2 : List UInt8 := dkwX4_callsBack_2 ++ []
def dkwX4_callsBack_1 : List UInt8 := [3, 182, 0, 64, 182, 0, 72, 172, 42, 27, 182, 0, 124, 42, 27, 8, 7, 182, 0, 75, 42, 42, 27, 6]
abbrev dktX4_callsBack_1 : List UInt8 := dkwX4_callsBack_1 ++ dktX4_callsBack_2
def dkwX4_callsBack_0 : List UInt8 := [42, 27, 182, 0, 95, 154, 0, 5, 4, 172, 42, 27, 3, 182, 0, 64, 4, 159, 0, 15, 42, 5, 42, 27]
abbrev dktX4_callsBack_0 : List UInt8 := dkwX4_callsBack_0 ++ dktX4_callsBack_1
theorem dksX4_callsBack_0 : cX4_callsBack.data.toList.drop 0 = dktX4_callsBack_0 := by decide +kernel
theorem dksX4_callsBack_1 : cX4_callsBack.data.toList.drop 24 = dktX4_callsBack_1 := dk_seg dksX4_callsBack_0 24 rfl rfl
theorem dksX4_callsBack_2 : cX4_callsBack.data.toList.drop 48 = dktX4_callsBack_2 := dk_seg dksX4_callsBack_1 24 rfl rfl
theorem dX4_callsBack_0 : DC mX4_callsBack 0 = .ok (.aload_n 0, 1) := dk_42 (dk_at dksX4_callsBack_0 0 rfl rfl)
theorem dX4_callsBack_1 : DC mX4_callsBack 1 = .ok (.iload_n 1, 1) := dk_27 (dk_at dksX4_callsBack_0 1 rfl rfl)
theorem dX4_callsBack_2 : DC mX4_callsBack 2 = .ok (.invokevirtual 95, 3) := dk_182 0 95 (dk_at dksX4_callsBack_0 2 rfl rfl)
theorem dX4_callsBack_5 : DC mX4_callsBack 5 = .ok (.ifCond .ne 5, 3) := dk_154 0 5 (dk_at dksX4_callsBack_0 5 rfl rfl)
theorem dX4_callsBack_8 : DC mX4_callsBack 8 = .ok (.iconst 1, 1) := dk_4 (dk_at dksX4_callsBack_0 8 rfl rfl)
theorem dX4_callsBack_9 : DC mX4_callsBack 9 = .ok (.ireturn, 1) := dk_172 (dk_at dksX4_callsBack_0 9 rfl rfl)
theorem dX4_callsBack_10 : DC mX4_callsBack 10 = .ok (.aload_n 0, 1) := dk_42 (dk_at dksX4_callsBack_0 10 rfl rfl)
theorem dX4_callsBack_11 : DC mX4_callsBack 11 = .ok (.iload_n 1, 1) := dk_27 (dk_at dksX4_callsBack_0 11 rfl rfl)
theorem dX4_callsBack_12 : DC mX4_callsBack 12 = .ok (.iconst 0, 1) := dk_3 (dk_at dksX4_callsBack_0 12 rfl rfl)
theorem dX4_callsBack_13 : DC mX4_callsBack 13 = .ok (.invokevirtual 64, 3) := dk_182 0 64 (dk_at dksX4_callsBack_0 13 rfl rfl)
theorem dX4_callsBack_16 : DC mX4_callsBack 16 = .ok (.iconst 1, 1) := dk_4 (dk_at dksX4_callsBack_0 16 rfl rfl)
theorem dX4_callsBack_17 : DC mX4_callsBack 17 = .ok (.if_icmp .eq 15, 3) := dk_159 0 15 (dk_at dksX4_callsBack_0 17 rfl rfl)
theorem dX4_callsBack_20 : DC mX4_callsBack 20 = .ok (.aload_n 0, 1) := dk_42 (dk_at dksX4_callsBack_0 20 rfl rfl)
theorem dX4_callsBack_21 : DC mX4_callsBack 21 = .ok (.iconst 2, 1) := dk_5 (dk_at dksX4_callsBack_0 21 rfl rfl)
theorem dX4_callsBack_22 : DC mX4_callsBack 22 = .ok (.aload_n 0, 1) := dk_42 (dk_at dksX4_callsBack_0 22 rfl rfl)
theorem dX4_callsBack_23 : DC mX4_callsBack 23 = .ok (.iload_n 1, 1) := dk_27 (dk_at dksX4_callsBack_0 23 rfl rfl)
theorem dX4_callsBack_24 : DC mX4_callsBack 24 = .ok (.iconst 0, 1) := dk_3 (dk_at dksX4_callsBack_1 0 rfl rfl)
theorem dX4_callsBack_25 : DC mX4_callsBack 25 = .ok (.invokevirtual 64, 3) := dk_182 0 64 (dk_at dksX4_callsBack_1 1 rfl rfl)
theorem dX4_callsBack_28 : DC mX4_callsBack 28 = .ok (.invokevirtual 72, 3) := dk_182 0 72 (dk_at dksX4_callsBack_1 4 rfl rfl)
theorem dX4_callsBack_31 : DC mX4_callsBack 31 = .ok (.ireturn, 1) := dk_172 (dk_at dksX4_callsBack_1 7 rfl rfl)
theorem dX4_callsBack_32 : DC mX4_callsBack 32 = .ok (.aload_n 0, 1) := dk_42 (dk_at dksX4_callsBack_1 8 rfl rfl)
theorem dX4_callsBack_33 : DC mX4_callsBack 33 = .ok (.iload_n 1, 1) := dk_27 (dk_at dksX4_callsBack_1 9 rfl rfl)
theorem dX4_callsBack_34 : DC mX4_callsBack 34 = .ok (.invokevirtual 124, 3) := dk_182 0 124 (dk_at dksX4_callsBack_1 10 rfl rfl)
theorem dX4_callsBack_37 : DC mX4_callsBack 37 = .ok (.aload_n 0, 1) := dk_42 (dk_at dksX4_callsBack_1 13 rfl rfl)
theorem dX4_callsBack_38 : DC mX4_callsBack 38 = .ok (.iload_n 1, 1) := dk_27 (dk_at dksX4_callsBack_1 14 rfl rfl)
theorem dX4_callsBack_39 : DC mX4_callsBack 39 = .ok (.iconst 5, 1) := dk_8 (dk_at dksX4_callsBack_1 15 rfl rfl)
theorem dX4_callsBack_40 : DC mX4_callsBack 40 = .ok (.iconst 4, 1) := dk_7 (dk_at dksX4_callsBack_1 16 rfl rfl)
theorem dX4_callsBack_41 : DC mX4_callsBack 41 = .ok (.invokevirtual 75, 3) := dk_182 0 75 (dk_at dksX4_callsBack_1 17 rfl rfl)
theorem dX4_callsBack_44 : DC mX4_callsBack 44 = .ok (.aload_n 0, 1) := dk_42 (dk_at dksX4_callsBack_1 20 rfl rfl)
theorem dX4_callsBack_45 : DC mX4_callsBack 45 = .ok (.aload_n 0, 1) := dk_42 (dk_at dksX4_callsBack_1 21 rfl rfl)
theorem dX4_callsBack_46 : DC mX4_callsBack 46 = .ok (.iload_n 1, 1) := dk_27 (dk_at dksX4_callsBack_1 22 rfl rfl)
theorem dX4_callsBack_47 : DC mX4_callsBack 47 = .ok (.iconst 3, 1) := dk_6 (dk_at dksX4_callsBack_1 23 rfl rfl)
theorem dX4_callsBack_48 : DC mX4_callsBack 48 = .ok (.invokevirtual 64, 3) := dk_182 0 64 (dk_at dksX4_callsBack_2 0 rfl rfl)
theorem dX4_callsBack_51 : DC mX4_callsBack 51 = .ok (.invokevirtual 79, 3) := dk_182 0 79 (dk_at dksX4_callsBack_2 3 rfl rfl)
theorem dX4_callsBack_54 : DC mX4_callsBack 54 = .ok (.ireturn, 1) := dk_172 (dk_at dksX4_callsBack_2 6 rfl rfl)
abbrev cX4_turnsBack : ByteArray := prog_13_method_28_code
def yX4_turnsBack : MethodName := ⟨RX4, "turnsBack", "(I)V"⟩
def mX4_turnsBack : MI := (⟨"TheatreSagaModel", "turnsBack", "(I)V"⟩, prog_13_method_28_code, 2, (Option.none : Option FieldType), none, 42, 2)
theorem oX4_turnsBack : mO mX4_turnsBack = 42 := rfl
theorem lX4_turnsBack : mL mX4_turnsBack = 2 := rfl
theorem rX4_turnsBack : mR mX4_turnsBack = (Option.none : Option FieldType) := rfl
theorem vX4_turnsBack : mV mX4_turnsBack = 2 := rfl
theorem nX4_turnsBack : (mY mX4_turnsBack).name = "turnsBack" := rfl
theorem hX4_turnsBack : mH mX4_turnsBack = none := rfl
theorem kX4_turnsBack : MOk mX4_turnsBack := ⟨q2545, q91, by decide +kernel⟩
theorem gX4_turnsBack : plainName (mY mX4_turnsBack).cls = true ∧ (mY mX4_turnsBack).cls = "TheatreSagaModel" := ⟨by decide +kernel, rfl⟩
def dkwX4_turnsBack_1 : List UInt8 := [182, 0, 75, 177]
abbrev dktX4_turnsBack_1 : List UInt8 := dkwX4_turnsBack_1 ++ []
def dkwX4_turnsBack_0 : List UInt8 := [42, 27, 3, 42, 27, 6, 182, 0, 64, 154, 0, 7, 7, 167, 0, 4, 5, 182, 0, 75, 42, 27, 7, 3]
abbrev dktX4_turnsBack_0 : List UInt8 := dkwX4_turnsBack_0 ++ dktX4_turnsBack_1
theorem dksX4_turnsBack_0 : cX4_turnsBack.data.toList.drop 0 = dktX4_turnsBack_0 := by decide +kernel
theorem dksX4_turnsBack_1 : cX4_turnsBack.data.toList.drop 24 = dktX4_turnsBack_1 := dk_seg dksX4_turnsBack_0 24 rfl rfl
theorem dX4_turnsBack_0 : DC mX4_turnsBack 0 = .ok (.aload_n 0, 1) := dk_42 (dk_at dksX4_turnsBack_0 0 rfl rfl)
theorem dX4_turnsBack_1 : DC mX4_turnsBack 1 = .ok (.iload_n 1, 1) := dk_27 (dk_at dksX4_turnsBack_0 1 rfl rfl)
theorem dX4_turnsBack_2 : DC mX4_turnsBack 2 = .ok (.iconst 0, 1) := dk_3 (dk_at dksX4_turnsBack_0 2 rfl rfl)
theorem dX4_turnsBack_3 : DC mX4_turnsBack 3 = .ok (.aload_n 0, 1) := dk_42 (dk_at dksX4_turnsBack_0 3 rfl rfl)
theorem dX4_turnsBack_4 : DC mX4_turnsBack 4 = .ok (.iload_n 1, 1) := dk_27 (dk_at dksX4_turnsBack_0 4 rfl rfl)
theorem dX4_turnsBack_5 : DC mX4_turnsBack 5 = .ok (.iconst 3, 1) := dk_6 (dk_at dksX4_turnsBack_0 5 rfl rfl)
theorem dX4_turnsBack_6 : DC mX4_turnsBack 6 = .ok (.invokevirtual 64, 3) := dk_182 0 64 (dk_at dksX4_turnsBack_0 6 rfl rfl)
theorem dX4_turnsBack_9 : DC mX4_turnsBack 9 = .ok (.ifCond .ne 7, 3) := dk_154 0 7 (dk_at dksX4_turnsBack_0 9 rfl rfl)
theorem dX4_turnsBack_12 : DC mX4_turnsBack 12 = .ok (.iconst 4, 1) := dk_7 (dk_at dksX4_turnsBack_0 12 rfl rfl)
theorem dX4_turnsBack_13 : DC mX4_turnsBack 13 = .ok (.goto 4, 3) := dk_167 0 4 (dk_at dksX4_turnsBack_0 13 rfl rfl)
theorem dX4_turnsBack_16 : DC mX4_turnsBack 16 = .ok (.iconst 2, 1) := dk_5 (dk_at dksX4_turnsBack_0 16 rfl rfl)
theorem dX4_turnsBack_17 : DC mX4_turnsBack 17 = .ok (.invokevirtual 75, 3) := dk_182 0 75 (dk_at dksX4_turnsBack_0 17 rfl rfl)
theorem dX4_turnsBack_20 : DC mX4_turnsBack 20 = .ok (.aload_n 0, 1) := dk_42 (dk_at dksX4_turnsBack_0 20 rfl rfl)
theorem dX4_turnsBack_21 : DC mX4_turnsBack 21 = .ok (.iload_n 1, 1) := dk_27 (dk_at dksX4_turnsBack_0 21 rfl rfl)
theorem dX4_turnsBack_22 : DC mX4_turnsBack 22 = .ok (.iconst 4, 1) := dk_7 (dk_at dksX4_turnsBack_0 22 rfl rfl)
theorem dX4_turnsBack_23 : DC mX4_turnsBack 23 = .ok (.iconst 0, 1) := dk_3 (dk_at dksX4_turnsBack_0 23 rfl rfl)
theorem dX4_turnsBack_24 : DC mX4_turnsBack 24 = .ok (.invokevirtual 75, 3) := dk_182 0 75 (dk_at dksX4_turnsBack_1 0 rfl rfl)
theorem dX4_turnsBack_27 : DC mX4_turnsBack 27 = .ok (.return_, 1) := dk_177 (dk_at dksX4_turnsBack_1 3 rfl rfl)
abbrev cX4_tourOf : ByteArray := prog_13_method_31_code
def yX4_tourOf : MethodName := ⟨RX4, "tourOf", "(II)I"⟩
def mX4_tourOf : MI := (⟨"TheatreSagaModel", "tourOf", "(II)I"⟩, prog_13_method_31_code, 3, (Option.some FieldType.int), none, 42, 3)
theorem oX4_tourOf : mO mX4_tourOf = 42 := rfl
theorem lX4_tourOf : mL mX4_tourOf = 3 := rfl
theorem rX4_tourOf : mR mX4_tourOf = (Option.some FieldType.int) := rfl
theorem vX4_tourOf : mV mX4_tourOf = 3 := rfl
theorem nX4_tourOf : (mY mX4_tourOf).name = "tourOf" := rfl
theorem hX4_tourOf : mH mX4_tourOf = none := rfl
theorem kX4_tourOf : MOk mX4_tourOf := ⟨q2549, q91, by decide +kernel⟩
theorem gX4_tourOf : plainName (mY mX4_tourOf).cls = true ∧ (mY mX4_tourOf).cls = "TheatreSagaModel" := ⟨by decide +kernel, rfl⟩
def dkwX4_tourOf_1 : List UInt8 := [184, 0, 60, 153, 0, 12, 42, 27, 28, 182, 0, 64, 167, 0, 8, 42, 5, 182, 0, 92, 172]
abbrev dktX4_tourOf_1 : List UInt8 := dkwX4_tourOf_1 ++ []
def dkwX4_tourOf_0 : List UInt8 := [42, 3, 181, 0, 45, 42, 27, 182, 0, 95, 154, 0, 9, 42, 4, 182, 0, 92, 172, 28, 3, 16, 8]
abbrev dktX4_tourOf_0 : List UInt8 := dkwX4_tourOf_0 ++ dktX4_tourOf_1
theorem dksX4_tourOf_0 : cX4_tourOf.data.toList.drop 0 = dktX4_tourOf_0 := by decide +kernel
theorem dksX4_tourOf_1 : cX4_tourOf.data.toList.drop 23 = dktX4_tourOf_1 := dk_seg dksX4_tourOf_0 23 rfl rfl
theorem dX4_tourOf_0 : DC mX4_tourOf 0 = .ok (.aload_n 0, 1) := dk_42 (dk_at dksX4_tourOf_0 0 rfl rfl)
theorem dX4_tourOf_1 : DC mX4_tourOf 1 = .ok (.iconst 0, 1) := dk_3 (dk_at dksX4_tourOf_0 1 rfl rfl)
theorem dX4_tourOf_2 : DC mX4_tourOf 2 = .ok (.putfield 45, 3) := dk_181 0 45 (dk_at dksX4_tourOf_0 2 rfl rfl)
theorem dX4_tourOf_5 : DC mX4_tourOf 5 = .ok (.aload_n 0, 1) := dk_42 (dk_at dksX4_tourOf_0 5 rfl rfl)
theorem dX4_tourOf_6 : DC mX4_tourOf 6 = .ok (.iload_n 1, 1) := dk_27 (dk_at dksX4_tourOf_0 6 rfl rfl)
theorem dX4_tourOf_7 : DC mX4_tourOf 7 = .ok (.invokevirtual 95, 3) := dk_182 0 95 (dk_at dksX4_tourOf_0 7 rfl rfl)
theorem dX4_tourOf_10 : DC mX4_tourOf 10 = .ok (.ifCond .ne 9, 3) := dk_154 0 9 (dk_at dksX4_tourOf_0 10 rfl rfl)
theorem dX4_tourOf_13 : DC mX4_tourOf 13 = .ok (.aload_n 0, 1) := dk_42 (dk_at dksX4_tourOf_0 13 rfl rfl)
theorem dX4_tourOf_14 : DC mX4_tourOf 14 = .ok (.iconst 1, 1) := dk_4 (dk_at dksX4_tourOf_0 14 rfl rfl)
theorem dX4_tourOf_15 : DC mX4_tourOf 15 = .ok (.invokevirtual 92, 3) := dk_182 0 92 (dk_at dksX4_tourOf_0 15 rfl rfl)
theorem dX4_tourOf_18 : DC mX4_tourOf 18 = .ok (.ireturn, 1) := dk_172 (dk_at dksX4_tourOf_0 18 rfl rfl)
theorem dX4_tourOf_19 : DC mX4_tourOf 19 = .ok (.iload_n 2, 1) := dk_28 (dk_at dksX4_tourOf_0 19 rfl rfl)
theorem dX4_tourOf_20 : DC mX4_tourOf 20 = .ok (.iconst 0, 1) := dk_3 (dk_at dksX4_tourOf_0 20 rfl rfl)
theorem dX4_tourOf_21 : DC mX4_tourOf 21 = .ok (.bipush 8, 2) := dk_16 8 (dk_at dksX4_tourOf_0 21 rfl rfl)
theorem dX4_tourOf_23 : DC mX4_tourOf 23 = .ok (.invokestatic 60, 3) := dk_184 0 60 (dk_at dksX4_tourOf_1 0 rfl rfl)
theorem dX4_tourOf_26 : DC mX4_tourOf 26 = .ok (.ifCond .eq 12, 3) := dk_153 0 12 (dk_at dksX4_tourOf_1 3 rfl rfl)
theorem dX4_tourOf_29 : DC mX4_tourOf 29 = .ok (.aload_n 0, 1) := dk_42 (dk_at dksX4_tourOf_1 6 rfl rfl)
theorem dX4_tourOf_30 : DC mX4_tourOf 30 = .ok (.iload_n 1, 1) := dk_27 (dk_at dksX4_tourOf_1 7 rfl rfl)
theorem dX4_tourOf_31 : DC mX4_tourOf 31 = .ok (.iload_n 2, 1) := dk_28 (dk_at dksX4_tourOf_1 8 rfl rfl)
theorem dX4_tourOf_32 : DC mX4_tourOf 32 = .ok (.invokevirtual 64, 3) := dk_182 0 64 (dk_at dksX4_tourOf_1 9 rfl rfl)
theorem dX4_tourOf_35 : DC mX4_tourOf 35 = .ok (.goto 8, 3) := dk_167 0 8 (dk_at dksX4_tourOf_1 12 rfl rfl)
theorem dX4_tourOf_38 : DC mX4_tourOf 38 = .ok (.aload_n 0, 1) := dk_42 (dk_at dksX4_tourOf_1 15 rfl rfl)
theorem dX4_tourOf_39 : DC mX4_tourOf 39 = .ok (.iconst 2, 1) := dk_5 (dk_at dksX4_tourOf_1 16 rfl rfl)
theorem dX4_tourOf_40 : DC mX4_tourOf 40 = .ok (.invokevirtual 92, 3) := dk_182 0 92 (dk_at dksX4_tourOf_1 17 rfl rfl)
theorem dX4_tourOf_43 : DC mX4_tourOf 43 = .ok (.ireturn, 1) := dk_172 (dk_at dksX4_tourOf_1 20 rfl rfl)
abbrev cX4_stepOf : ByteArray := prog_13_method_32_code
def yX4_stepOf : MethodName := ⟨RX4, "stepOf", "(III)I"⟩
def mX4_stepOf : MI := (⟨"TheatreSagaModel", "stepOf", "(III)I"⟩, prog_13_method_32_code, 4, (Option.some FieldType.int), none, 42, 3)
theorem oX4_stepOf : mO mX4_stepOf = 42 := rfl
theorem lX4_stepOf : mL mX4_stepOf = 4 := rfl
theorem rX4_stepOf : mR mX4_stepOf = (Option.some FieldType.int) := rfl
theorem vX4_stepOf : mV mX4_stepOf = 3 := rfl
theorem nX4_stepOf : (mY mX4_stepOf).name = "stepOf" := rfl
theorem hX4_stepOf : mH mX4_stepOf = none := rfl
theorem kX4_stepOf : MOk mX4_stepOf := ⟨q2553, q91, by decide +kernel⟩
theorem gX4_stepOf : plainName (mY mX4_stepOf).cls = true ∧ (mY mX4_stepOf).cls = "TheatreSagaModel" := ⟨by decide +kernel, rfl⟩
def dkwX4_stepOf_2 : List UInt8 := [29, 182, 0, 107, 167, 0, 8, 42, 5, 182, 0, 92, 172]
abbrev dktX4_stepOf_2 : List UInt8 := dkwX4_stepOf_2 ++ []
def dkwX4_stepOf_1 : List UInt8 := [184, 0, 60, 154, 0, 9, 42, 4, 182, 0, 92, 172, 29, 3, 7, 184, 0, 60, 153, 0, 13, 42, 27, 28]
abbrev dktX4_stepOf_1 : List UInt8 := dkwX4_stepOf_1 ++ dktX4_stepOf_2
def dkwX4_stepOf_0 : List UInt8 := [42, 3, 181, 0, 45, 42, 27, 182, 0, 95, 153, 0, 19, 28, 3, 42, 27, 5, 182, 0, 64, 4, 100]
abbrev dktX4_stepOf_0 : List UInt8 := dkwX4_stepOf_0 ++ dktX4_stepOf_1
theorem dksX4_stepOf_0 : cX4_stepOf.data.toList.drop 0 = dktX4_stepOf_0 := by decide +kernel
theorem dksX4_stepOf_1 : cX4_stepOf.data.toList.drop 23 = dktX4_stepOf_1 := dk_seg dksX4_stepOf_0 23 rfl rfl
theorem dksX4_stepOf_2 : cX4_stepOf.data.toList.drop 47 = dktX4_stepOf_2 := dk_seg dksX4_stepOf_1 24 rfl rfl
theorem dX4_stepOf_0 : DC mX4_stepOf 0 = .ok (.aload_n 0, 1) := dk_42 (dk_at dksX4_stepOf_0 0 rfl rfl)
theorem dX4_stepOf_1 : DC mX4_stepOf 1 = .ok (.iconst 0, 1) := dk_3 (dk_at dksX4_stepOf_0 1 rfl rfl)
theorem dX4_stepOf_2 : DC mX4_stepOf 2 = .ok (.putfield 45, 3) := dk_181 0 45 (dk_at dksX4_stepOf_0 2 rfl rfl)
theorem dX4_stepOf_5 : DC mX4_stepOf 5 = .ok (.aload_n 0, 1) := dk_42 (dk_at dksX4_stepOf_0 5 rfl rfl)
theorem dX4_stepOf_6 : DC mX4_stepOf 6 = .ok (.iload_n 1, 1) := dk_27 (dk_at dksX4_stepOf_0 6 rfl rfl)
theorem dX4_stepOf_7 : DC mX4_stepOf 7 = .ok (.invokevirtual 95, 3) := dk_182 0 95 (dk_at dksX4_stepOf_0 7 rfl rfl)
theorem dX4_stepOf_10 : DC mX4_stepOf 10 = .ok (.ifCond .eq 19, 3) := dk_153 0 19 (dk_at dksX4_stepOf_0 10 rfl rfl)
theorem dX4_stepOf_13 : DC mX4_stepOf 13 = .ok (.iload_n 2, 1) := dk_28 (dk_at dksX4_stepOf_0 13 rfl rfl)
theorem dX4_stepOf_14 : DC mX4_stepOf 14 = .ok (.iconst 0, 1) := dk_3 (dk_at dksX4_stepOf_0 14 rfl rfl)
theorem dX4_stepOf_15 : DC mX4_stepOf 15 = .ok (.aload_n 0, 1) := dk_42 (dk_at dksX4_stepOf_0 15 rfl rfl)
theorem dX4_stepOf_16 : DC mX4_stepOf 16 = .ok (.iload_n 1, 1) := dk_27 (dk_at dksX4_stepOf_0 16 rfl rfl)
theorem dX4_stepOf_17 : DC mX4_stepOf 17 = .ok (.iconst 2, 1) := dk_5 (dk_at dksX4_stepOf_0 17 rfl rfl)
theorem dX4_stepOf_18 : DC mX4_stepOf 18 = .ok (.invokevirtual 64, 3) := dk_182 0 64 (dk_at dksX4_stepOf_0 18 rfl rfl)
theorem dX4_stepOf_21 : DC mX4_stepOf 21 = .ok (.iconst 1, 1) := dk_4 (dk_at dksX4_stepOf_0 21 rfl rfl)
theorem dX4_stepOf_22 : DC mX4_stepOf 22 = .ok (.isub, 1) := dk_100 (dk_at dksX4_stepOf_0 22 rfl rfl)
theorem dX4_stepOf_23 : DC mX4_stepOf 23 = .ok (.invokestatic 60, 3) := dk_184 0 60 (dk_at dksX4_stepOf_1 0 rfl rfl)
theorem dX4_stepOf_26 : DC mX4_stepOf 26 = .ok (.ifCond .ne 9, 3) := dk_154 0 9 (dk_at dksX4_stepOf_1 3 rfl rfl)
theorem dX4_stepOf_29 : DC mX4_stepOf 29 = .ok (.aload_n 0, 1) := dk_42 (dk_at dksX4_stepOf_1 6 rfl rfl)
theorem dX4_stepOf_30 : DC mX4_stepOf 30 = .ok (.iconst 1, 1) := dk_4 (dk_at dksX4_stepOf_1 7 rfl rfl)
theorem dX4_stepOf_31 : DC mX4_stepOf 31 = .ok (.invokevirtual 92, 3) := dk_182 0 92 (dk_at dksX4_stepOf_1 8 rfl rfl)
theorem dX4_stepOf_34 : DC mX4_stepOf 34 = .ok (.ireturn, 1) := dk_172 (dk_at dksX4_stepOf_1 11 rfl rfl)
theorem dX4_stepOf_35 : DC mX4_stepOf 35 = .ok (.iload_n 3, 1) := dk_29 (dk_at dksX4_stepOf_1 12 rfl rfl)
theorem dX4_stepOf_36 : DC mX4_stepOf 36 = .ok (.iconst 0, 1) := dk_3 (dk_at dksX4_stepOf_1 13 rfl rfl)
theorem dX4_stepOf_37 : DC mX4_stepOf 37 = .ok (.iconst 4, 1) := dk_7 (dk_at dksX4_stepOf_1 14 rfl rfl)
theorem dX4_stepOf_38 : DC mX4_stepOf 38 = .ok (.invokestatic 60, 3) := dk_184 0 60 (dk_at dksX4_stepOf_1 15 rfl rfl)
theorem dX4_stepOf_41 : DC mX4_stepOf 41 = .ok (.ifCond .eq 13, 3) := dk_153 0 13 (dk_at dksX4_stepOf_1 18 rfl rfl)
theorem dX4_stepOf_44 : DC mX4_stepOf 44 = .ok (.aload_n 0, 1) := dk_42 (dk_at dksX4_stepOf_1 21 rfl rfl)
theorem dX4_stepOf_45 : DC mX4_stepOf 45 = .ok (.iload_n 1, 1) := dk_27 (dk_at dksX4_stepOf_1 22 rfl rfl)
theorem dX4_stepOf_46 : DC mX4_stepOf 46 = .ok (.iload_n 2, 1) := dk_28 (dk_at dksX4_stepOf_1 23 rfl rfl)
theorem dX4_stepOf_47 : DC mX4_stepOf 47 = .ok (.iload_n 3, 1) := dk_29 (dk_at dksX4_stepOf_2 0 rfl rfl)
theorem dX4_stepOf_48 : DC mX4_stepOf 48 = .ok (.invokevirtual 107, 3) := dk_182 0 107 (dk_at dksX4_stepOf_2 1 rfl rfl)
theorem dX4_stepOf_51 : DC mX4_stepOf 51 = .ok (.goto 8, 3) := dk_167 0 8 (dk_at dksX4_stepOf_2 4 rfl rfl)
theorem dX4_stepOf_54 : DC mX4_stepOf 54 = .ok (.aload_n 0, 1) := dk_42 (dk_at dksX4_stepOf_2 7 rfl rfl)
theorem dX4_stepOf_55 : DC mX4_stepOf 55 = .ok (.iconst 2, 1) := dk_5 (dk_at dksX4_stepOf_2 8 rfl rfl)
theorem dX4_stepOf_56 : DC mX4_stepOf 56 = .ok (.invokevirtual 92, 3) := dk_182 0 92 (dk_at dksX4_stepOf_2 9 rfl rfl)
theorem dX4_stepOf_59 : DC mX4_stepOf 59 = .ok (.ireturn, 1) := dk_172 (dk_at dksX4_stepOf_2 12 rfl rfl)
abbrev cX4_shut : ByteArray := prog_13_method_34_code
def yX4_shut : MethodName := ⟨RX4, "shut", "(IZ)I"⟩
def mX4_shut : MI := (⟨"TheatreSagaModel", "shut", "(IZ)I"⟩, prog_13_method_34_code, 3, (Option.some FieldType.int), none, 42, 4)
theorem oX4_shut : mO mX4_shut = 42 := rfl
theorem lX4_shut : mL mX4_shut = 3 := rfl
theorem rX4_shut : mR mX4_shut = (Option.some FieldType.int) := rfl
theorem vX4_shut : mV mX4_shut = 4 := rfl
theorem nX4_shut : (mY mX4_shut).name = "shut" := rfl
theorem hX4_shut : mH mX4_shut = none := rfl
theorem kX4_shut : MOk mX4_shut := ⟨q2557, q91, by decide +kernel⟩
theorem gX4_shut : plainName (mY mX4_shut).cls = true ∧ (mY mX4_shut).cls = "TheatreSagaModel" := ⟨by decide +kernel, rfl⟩
def dkwX4_shut_0 : List UInt8 := [42, 182, 0, 83, 42, 42, 27, 28, 182, 0, 135, 182, 0, 121, 172]
abbrev dktX4_shut_0 : List UInt8 := dkwX4_shut_0 ++ []
theorem dksX4_shut_0 : cX4_shut.data.toList.drop 0 = dktX4_shut_0 := by decide +kernel
theorem dX4_shut_0 : DC mX4_shut 0 = .ok (.aload_n 0, 1) := dk_42 (dk_at dksX4_shut_0 0 rfl rfl)
theorem dX4_shut_1 : DC mX4_shut 1 = .ok (.invokevirtual 83, 3) := dk_182 0 83 (dk_at dksX4_shut_0 1 rfl rfl)
theorem dX4_shut_4 : DC mX4_shut 4 = .ok (.aload_n 0, 1) := dk_42 (dk_at dksX4_shut_0 4 rfl rfl)
theorem dX4_shut_5 : DC mX4_shut 5 = .ok (.aload_n 0, 1) := dk_42 (dk_at dksX4_shut_0 5 rfl rfl)
theorem dX4_shut_6 : DC mX4_shut 6 = .ok (.iload_n 1, 1) := dk_27 (dk_at dksX4_shut_0 6 rfl rfl)
theorem dX4_shut_7 : DC mX4_shut 7 = .ok (.iload_n 2, 1) := dk_28 (dk_at dksX4_shut_0 7 rfl rfl)
theorem dX4_shut_8 : DC mX4_shut 8 = .ok (.invokevirtual 135, 3) := dk_182 0 135 (dk_at dksX4_shut_0 8 rfl rfl)
theorem dX4_shut_11 : DC mX4_shut 11 = .ok (.invokevirtual 121, 3) := dk_182 0 121 (dk_at dksX4_shut_0 11 rfl rfl)
theorem dX4_shut_14 : DC mX4_shut 14 = .ok (.ireturn, 1) := dk_172 (dk_at dksX4_shut_0 14 rfl rfl)
abbrev cX4_shuts : ByteArray := prog_13_method_33_code
def yX4_shuts : MethodName := ⟨RX4, "shuts", "(IZ)I"⟩
def mX4_shuts : MI := (⟨"TheatreSagaModel", "shuts", "(IZ)I"⟩, prog_13_method_33_code, 3, (Option.some FieldType.int), none, 42, 3)
theorem oX4_shuts : mO mX4_shuts = 42 := rfl
theorem lX4_shuts : mL mX4_shuts = 3 := rfl
theorem rX4_shuts : mR mX4_shuts = (Option.some FieldType.int) := rfl
theorem vX4_shuts : mV mX4_shuts = 3 := rfl
theorem nX4_shuts : (mY mX4_shuts).name = "shuts" := rfl
theorem hX4_shuts : mH mX4_shuts = none := rfl
theorem kX4_shuts : MOk mX4_shuts := ⟨q2561, q91, by decide +kernel⟩
theorem gX4_shuts : plainName (mY mX4_shuts).cls = true ∧ (mY mX4_shuts).cls = "TheatreSagaModel" := ⟨by decide +kernel, rfl⟩
def dkwX4_shuts_2 : List UInt8 := [167, 0, 4, 3, 79, 42, 42, 182, 0, 131, 182, 0, 79, 172]
abbrev dktX4_shuts_2 : List UInt8 := dkwX4_shuts_2 ++ []
def dkwX4_shuts_1 : List UInt8 := [3, 167, 0, 4, 4, 182, 0, 72, 172, 42, 180, 0, 9, 16, 9, 6, 27, 104, 96, 28, 153, 0, 7, 4]
abbrev dktX4_shuts_1 : List UInt8 := dkwX4_shuts_1 ++ dktX4_shuts_2
def dkwX4_shuts_0 : List UInt8 := [27, 184, 0, 98, 154, 0, 5, 4, 172, 42, 27, 182, 0, 68, 28, 160, 0, 18, 42, 7, 28, 153, 0, 7]
abbrev dktX4_shuts_0 : List UInt8 := dkwX4_shuts_0 ++ dktX4_shuts_1
theorem dksX4_shuts_0 : cX4_shuts.data.toList.drop 0 = dktX4_shuts_0 := by decide +kernel
theorem dksX4_shuts_1 : cX4_shuts.data.toList.drop 24 = dktX4_shuts_1 := dk_seg dksX4_shuts_0 24 rfl rfl
theorem dksX4_shuts_2 : cX4_shuts.data.toList.drop 48 = dktX4_shuts_2 := dk_seg dksX4_shuts_1 24 rfl rfl
theorem dX4_shuts_0 : DC mX4_shuts 0 = .ok (.iload_n 1, 1) := dk_27 (dk_at dksX4_shuts_0 0 rfl rfl)
theorem dX4_shuts_1 : DC mX4_shuts 1 = .ok (.invokestatic 98, 3) := dk_184 0 98 (dk_at dksX4_shuts_0 1 rfl rfl)
theorem dX4_shuts_4 : DC mX4_shuts 4 = .ok (.ifCond .ne 5, 3) := dk_154 0 5 (dk_at dksX4_shuts_0 4 rfl rfl)
theorem dX4_shuts_7 : DC mX4_shuts 7 = .ok (.iconst 1, 1) := dk_4 (dk_at dksX4_shuts_0 7 rfl rfl)
theorem dX4_shuts_8 : DC mX4_shuts 8 = .ok (.ireturn, 1) := dk_172 (dk_at dksX4_shuts_0 8 rfl rfl)
theorem dX4_shuts_9 : DC mX4_shuts 9 = .ok (.aload_n 0, 1) := dk_42 (dk_at dksX4_shuts_0 9 rfl rfl)
theorem dX4_shuts_10 : DC mX4_shuts 10 = .ok (.iload_n 1, 1) := dk_27 (dk_at dksX4_shuts_0 10 rfl rfl)
theorem dX4_shuts_11 : DC mX4_shuts 11 = .ok (.invokevirtual 68, 3) := dk_182 0 68 (dk_at dksX4_shuts_0 11 rfl rfl)
theorem dX4_shuts_14 : DC mX4_shuts 14 = .ok (.iload_n 2, 1) := dk_28 (dk_at dksX4_shuts_0 14 rfl rfl)
theorem dX4_shuts_15 : DC mX4_shuts 15 = .ok (.if_icmp .ne 18, 3) := dk_160 0 18 (dk_at dksX4_shuts_0 15 rfl rfl)
theorem dX4_shuts_18 : DC mX4_shuts 18 = .ok (.aload_n 0, 1) := dk_42 (dk_at dksX4_shuts_0 18 rfl rfl)
theorem dX4_shuts_19 : DC mX4_shuts 19 = .ok (.iconst 4, 1) := dk_7 (dk_at dksX4_shuts_0 19 rfl rfl)
theorem dX4_shuts_20 : DC mX4_shuts 20 = .ok (.iload_n 2, 1) := dk_28 (dk_at dksX4_shuts_0 20 rfl rfl)
theorem dX4_shuts_21 : DC mX4_shuts 21 = .ok (.ifCond .eq 7, 3) := dk_153 0 7 (dk_at dksX4_shuts_0 21 rfl rfl)
theorem dX4_shuts_24 : DC mX4_shuts 24 = .ok (.iconst 0, 1) := dk_3 (dk_at dksX4_shuts_1 0 rfl rfl)
theorem dX4_shuts_25 : DC mX4_shuts 25 = .ok (.goto 4, 3) := dk_167 0 4 (dk_at dksX4_shuts_1 1 rfl rfl)
theorem dX4_shuts_28 : DC mX4_shuts 28 = .ok (.iconst 1, 1) := dk_4 (dk_at dksX4_shuts_1 4 rfl rfl)
theorem dX4_shuts_29 : DC mX4_shuts 29 = .ok (.invokevirtual 72, 3) := dk_182 0 72 (dk_at dksX4_shuts_1 5 rfl rfl)
theorem dX4_shuts_32 : DC mX4_shuts 32 = .ok (.ireturn, 1) := dk_172 (dk_at dksX4_shuts_1 8 rfl rfl)
theorem dX4_shuts_33 : DC mX4_shuts 33 = .ok (.aload_n 0, 1) := dk_42 (dk_at dksX4_shuts_1 9 rfl rfl)
theorem dX4_shuts_34 : DC mX4_shuts 34 = .ok (.getfield 9, 3) := dk_180 0 9 (dk_at dksX4_shuts_1 10 rfl rfl)
theorem dX4_shuts_37 : DC mX4_shuts 37 = .ok (.bipush 9, 2) := dk_16 9 (dk_at dksX4_shuts_1 13 rfl rfl)
theorem dX4_shuts_39 : DC mX4_shuts 39 = .ok (.iconst 3, 1) := dk_6 (dk_at dksX4_shuts_1 15 rfl rfl)
theorem dX4_shuts_40 : DC mX4_shuts 40 = .ok (.iload_n 1, 1) := dk_27 (dk_at dksX4_shuts_1 16 rfl rfl)
theorem dX4_shuts_41 : DC mX4_shuts 41 = .ok (.imul, 1) := dk_104 (dk_at dksX4_shuts_1 17 rfl rfl)
theorem dX4_shuts_42 : DC mX4_shuts 42 = .ok (.iadd, 1) := dk_96 (dk_at dksX4_shuts_1 18 rfl rfl)
theorem dX4_shuts_43 : DC mX4_shuts 43 = .ok (.iload_n 2, 1) := dk_28 (dk_at dksX4_shuts_1 19 rfl rfl)
theorem dX4_shuts_44 : DC mX4_shuts 44 = .ok (.ifCond .eq 7, 3) := dk_153 0 7 (dk_at dksX4_shuts_1 20 rfl rfl)
theorem dX4_shuts_47 : DC mX4_shuts 47 = .ok (.iconst 1, 1) := dk_4 (dk_at dksX4_shuts_1 23 rfl rfl)
theorem dX4_shuts_48 : DC mX4_shuts 48 = .ok (.goto 4, 3) := dk_167 0 4 (dk_at dksX4_shuts_2 0 rfl rfl)
theorem dX4_shuts_51 : DC mX4_shuts 51 = .ok (.iconst 0, 1) := dk_3 (dk_at dksX4_shuts_2 3 rfl rfl)
theorem dX4_shuts_52 : DC mX4_shuts 52 = .ok (.iastore, 1) := dk_79 (dk_at dksX4_shuts_2 4 rfl rfl)
theorem dX4_shuts_53 : DC mX4_shuts 53 = .ok (.aload_n 0, 1) := dk_42 (dk_at dksX4_shuts_2 5 rfl rfl)
theorem dX4_shuts_54 : DC mX4_shuts 54 = .ok (.aload_n 0, 1) := dk_42 (dk_at dksX4_shuts_2 6 rfl rfl)
theorem dX4_shuts_55 : DC mX4_shuts 55 = .ok (.invokevirtual 131, 3) := dk_182 0 131 (dk_at dksX4_shuts_2 7 rfl rfl)
theorem dX4_shuts_58 : DC mX4_shuts 58 = .ok (.invokevirtual 79, 3) := dk_182 0 79 (dk_at dksX4_shuts_2 10 rfl rfl)
theorem dX4_shuts_61 : DC mX4_shuts 61 = .ok (.ireturn, 1) := dk_172 (dk_at dksX4_shuts_2 13 rfl rfl)
abbrev cX4_isShut : ByteArray := prog_13_method_16_code
def yX4_isShut : MethodName := ⟨RX4, "isShut", "(I)Z"⟩
def mX4_isShut : MI := (⟨"TheatreSagaModel", "isShut", "(I)Z"⟩, prog_13_method_16_code, 2, (Option.some FieldType.boolean), none, 42, 1)
theorem oX4_isShut : mO mX4_isShut = 42 := rfl
theorem lX4_isShut : mL mX4_isShut = 2 := rfl
theorem rX4_isShut : mR mX4_isShut = (Option.some FieldType.boolean) := rfl
theorem vX4_isShut : mV mX4_isShut = 1 := rfl
theorem nX4_isShut : (mY mX4_isShut).name = "isShut" := rfl
theorem hX4_isShut : mH mX4_isShut = none := rfl
theorem kX4_isShut : MOk mX4_isShut := ⟨q2565, q91, by decide +kernel⟩
theorem gX4_isShut : plainName (mY mX4_isShut).cls = true ∧ (mY mX4_isShut).cls = "TheatreSagaModel" := ⟨by decide +kernel, rfl⟩
def dkwX4_isShut_0 : List UInt8 := [42, 180, 0, 9, 16, 9, 6, 27, 104, 96, 46, 4, 160, 0, 7, 4, 167, 0, 4, 3, 172]
abbrev dktX4_isShut_0 : List UInt8 := dkwX4_isShut_0 ++ []
theorem dksX4_isShut_0 : cX4_isShut.data.toList.drop 0 = dktX4_isShut_0 := by decide +kernel
theorem dX4_isShut_0 : DC mX4_isShut 0 = .ok (.aload_n 0, 1) := dk_42 (dk_at dksX4_isShut_0 0 rfl rfl)
theorem dX4_isShut_1 : DC mX4_isShut 1 = .ok (.getfield 9, 3) := dk_180 0 9 (dk_at dksX4_isShut_0 1 rfl rfl)
theorem dX4_isShut_4 : DC mX4_isShut 4 = .ok (.bipush 9, 2) := dk_16 9 (dk_at dksX4_isShut_0 4 rfl rfl)
theorem dX4_isShut_6 : DC mX4_isShut 6 = .ok (.iconst 3, 1) := dk_6 (dk_at dksX4_isShut_0 6 rfl rfl)
theorem dX4_isShut_7 : DC mX4_isShut 7 = .ok (.iload_n 1, 1) := dk_27 (dk_at dksX4_isShut_0 7 rfl rfl)
theorem dX4_isShut_8 : DC mX4_isShut 8 = .ok (.imul, 1) := dk_104 (dk_at dksX4_isShut_0 8 rfl rfl)
theorem dX4_isShut_9 : DC mX4_isShut 9 = .ok (.iadd, 1) := dk_96 (dk_at dksX4_isShut_0 9 rfl rfl)
theorem dX4_isShut_10 : DC mX4_isShut 10 = .ok (.iaload, 1) := dk_46 (dk_at dksX4_isShut_0 10 rfl rfl)
theorem dX4_isShut_11 : DC mX4_isShut 11 = .ok (.iconst 1, 1) := dk_4 (dk_at dksX4_isShut_0 11 rfl rfl)
theorem dX4_isShut_12 : DC mX4_isShut 12 = .ok (.if_icmp .ne 7, 3) := dk_160 0 7 (dk_at dksX4_isShut_0 12 rfl rfl)
theorem dX4_isShut_15 : DC mX4_isShut 15 = .ok (.iconst 1, 1) := dk_4 (dk_at dksX4_isShut_0 15 rfl rfl)
theorem dX4_isShut_16 : DC mX4_isShut 16 = .ok (.goto 4, 3) := dk_167 0 4 (dk_at dksX4_isShut_0 16 rfl rfl)
theorem dX4_isShut_19 : DC mX4_isShut 19 = .ok (.iconst 0, 1) := dk_3 (dk_at dksX4_isShut_0 19 rfl rfl)
theorem dX4_isShut_20 : DC mX4_isShut 20 = .ok (.ireturn, 1) := dk_172 (dk_at dksX4_isShut_0 20 rfl rfl)
abbrev cX4_openTowns : ByteArray := prog_13_method_19_code
def yX4_openTowns : MethodName := ⟨RX4, "openTowns", "()I"⟩
def mX4_openTowns : MI := (⟨"TheatreSagaModel", "openTowns", "()I"⟩, prog_13_method_19_code, 3, (Option.some FieldType.int), none, 42, 2)
theorem oX4_openTowns : mO mX4_openTowns = 42 := rfl
theorem lX4_openTowns : mL mX4_openTowns = 3 := rfl
theorem rX4_openTowns : mR mX4_openTowns = (Option.some FieldType.int) := rfl
theorem vX4_openTowns : mV mX4_openTowns = 2 := rfl
theorem nX4_openTowns : (mY mX4_openTowns).name = "openTowns" := rfl
theorem hX4_openTowns : mH mX4_openTowns = none := rfl
theorem kX4_openTowns : MOk mX4_openTowns := ⟨q2569, q91, by decide +kernel⟩
theorem gX4_openTowns : plainName (mY mX4_openTowns).cls = true ∧ (mY mX4_openTowns).cls = "TheatreSagaModel" := ⟨by decide +kernel, rfl⟩
def dkwX4_openTowns_1 : List UInt8 := [167, 255, 237, 27, 172]
abbrev dktX4_openTowns_1 : List UInt8 := dkwX4_openTowns_1 ++ []
def dkwX4_openTowns_0 : List UInt8 := [3, 60, 3, 61, 28, 8, 162, 0, 20, 42, 28, 182, 0, 68, 154, 0, 6, 132, 1, 1, 132, 2, 1]
abbrev dktX4_openTowns_0 : List UInt8 := dkwX4_openTowns_0 ++ dktX4_openTowns_1
theorem dksX4_openTowns_0 : cX4_openTowns.data.toList.drop 0 = dktX4_openTowns_0 := by decide +kernel
theorem dksX4_openTowns_1 : cX4_openTowns.data.toList.drop 23 = dktX4_openTowns_1 := dk_seg dksX4_openTowns_0 23 rfl rfl
theorem dX4_openTowns_0 : DC mX4_openTowns 0 = .ok (.iconst 0, 1) := dk_3 (dk_at dksX4_openTowns_0 0 rfl rfl)
theorem dX4_openTowns_1 : DC mX4_openTowns 1 = .ok (.istore_n 1, 1) := dk_60 (dk_at dksX4_openTowns_0 1 rfl rfl)
theorem dX4_openTowns_2 : DC mX4_openTowns 2 = .ok (.iconst 0, 1) := dk_3 (dk_at dksX4_openTowns_0 2 rfl rfl)
theorem dX4_openTowns_3 : DC mX4_openTowns 3 = .ok (.istore_n 2, 1) := dk_61 (dk_at dksX4_openTowns_0 3 rfl rfl)
theorem dX4_openTowns_4 : DC mX4_openTowns 4 = .ok (.iload_n 2, 1) := dk_28 (dk_at dksX4_openTowns_0 4 rfl rfl)
theorem dX4_openTowns_5 : DC mX4_openTowns 5 = .ok (.iconst 5, 1) := dk_8 (dk_at dksX4_openTowns_0 5 rfl rfl)
theorem dX4_openTowns_6 : DC mX4_openTowns 6 = .ok (.if_icmp .ge 20, 3) := dk_162 0 20 (dk_at dksX4_openTowns_0 6 rfl rfl)
theorem dX4_openTowns_9 : DC mX4_openTowns 9 = .ok (.aload_n 0, 1) := dk_42 (dk_at dksX4_openTowns_0 9 rfl rfl)
theorem dX4_openTowns_10 : DC mX4_openTowns 10 = .ok (.iload_n 2, 1) := dk_28 (dk_at dksX4_openTowns_0 10 rfl rfl)
theorem dX4_openTowns_11 : DC mX4_openTowns 11 = .ok (.invokevirtual 68, 3) := dk_182 0 68 (dk_at dksX4_openTowns_0 11 rfl rfl)
theorem dX4_openTowns_14 : DC mX4_openTowns 14 = .ok (.ifCond .ne 6, 3) := dk_154 0 6 (dk_at dksX4_openTowns_0 14 rfl rfl)
theorem dX4_openTowns_17 : DC mX4_openTowns 17 = .ok (.iinc 1 1, 3) := dk_132 1 1 (dk_at dksX4_openTowns_0 17 rfl rfl)
theorem dX4_openTowns_20 : DC mX4_openTowns 20 = .ok (.iinc 2 1, 3) := dk_132 2 1 (dk_at dksX4_openTowns_0 20 rfl rfl)
theorem dX4_openTowns_23 : DC mX4_openTowns 23 = .ok (.goto (-19), 3) := dk_167 255 237 (dk_at dksX4_openTowns_1 0 rfl rfl)
theorem dX4_openTowns_26 : DC mX4_openTowns 26 = .ok (.iload_n 1, 1) := dk_27 (dk_at dksX4_openTowns_1 3 rfl rfl)
theorem dX4_openTowns_27 : DC mX4_openTowns 27 = .ok (.ireturn, 1) := dk_172 (dk_at dksX4_openTowns_1 4 rfl rfl)
abbrev cX4_dear : ByteArray := prog_13_method_35_code
def yX4_dear : MethodName := ⟨RX4, "dear", "(II)I"⟩
def mX4_dear : MI := (⟨"TheatreSagaModel", "dear", "(II)I"⟩, prog_13_method_35_code, 4, (Option.some FieldType.int), none, 42, 3)
theorem oX4_dear : mO mX4_dear = 42 := rfl
theorem lX4_dear : mL mX4_dear = 4 := rfl
theorem rX4_dear : mR mX4_dear = (Option.some FieldType.int) := rfl
theorem vX4_dear : mV mX4_dear = 3 := rfl
theorem nX4_dear : (mY mX4_dear).name = "dear" := rfl
theorem hX4_dear : mH mX4_dear = none := rfl
theorem kX4_dear : MOk mX4_dear := ⟨q2573, q91, by decide +kernel⟩
theorem gX4_dear : plainName (mY mX4_dear).cls = true ∧ (mY mX4_dear).cls = "TheatreSagaModel" := ⟨by decide +kernel, rfl⟩
def dkwX4_dear_2 : List UInt8 := [96, 4, 96, 28, 79, 42, 29, 182, 0, 89, 172]
abbrev dktX4_dear_2 : List UInt8 := dkwX4_dear_2 ++ []
def dkwX4_dear_1 : List UInt8 := [154, 0, 9, 42, 5, 182, 0, 92, 172, 42, 27, 182, 0, 139, 62, 42, 180, 0, 9, 16, 9, 6, 27, 104]
abbrev dktX4_dear_1 : List UInt8 := dkwX4_dear_1 ++ dktX4_dear_2
def dkwX4_dear_0 : List UInt8 := [42, 182, 0, 83, 27, 184, 0, 98, 154, 0, 9, 42, 4, 182, 0, 92, 172, 28, 4, 8, 184, 0, 60]
abbrev dktX4_dear_0 : List UInt8 := dkwX4_dear_0 ++ dktX4_dear_1
theorem dksX4_dear_0 : cX4_dear.data.toList.drop 0 = dktX4_dear_0 := by decide +kernel
theorem dksX4_dear_1 : cX4_dear.data.toList.drop 23 = dktX4_dear_1 := dk_seg dksX4_dear_0 23 rfl rfl
theorem dksX4_dear_2 : cX4_dear.data.toList.drop 47 = dktX4_dear_2 := dk_seg dksX4_dear_1 24 rfl rfl
theorem dX4_dear_0 : DC mX4_dear 0 = .ok (.aload_n 0, 1) := dk_42 (dk_at dksX4_dear_0 0 rfl rfl)
theorem dX4_dear_1 : DC mX4_dear 1 = .ok (.invokevirtual 83, 3) := dk_182 0 83 (dk_at dksX4_dear_0 1 rfl rfl)
theorem dX4_dear_4 : DC mX4_dear 4 = .ok (.iload_n 1, 1) := dk_27 (dk_at dksX4_dear_0 4 rfl rfl)
theorem dX4_dear_5 : DC mX4_dear 5 = .ok (.invokestatic 98, 3) := dk_184 0 98 (dk_at dksX4_dear_0 5 rfl rfl)
theorem dX4_dear_8 : DC mX4_dear 8 = .ok (.ifCond .ne 9, 3) := dk_154 0 9 (dk_at dksX4_dear_0 8 rfl rfl)
theorem dX4_dear_11 : DC mX4_dear 11 = .ok (.aload_n 0, 1) := dk_42 (dk_at dksX4_dear_0 11 rfl rfl)
theorem dX4_dear_12 : DC mX4_dear 12 = .ok (.iconst 1, 1) := dk_4 (dk_at dksX4_dear_0 12 rfl rfl)
theorem dX4_dear_13 : DC mX4_dear 13 = .ok (.invokevirtual 92, 3) := dk_182 0 92 (dk_at dksX4_dear_0 13 rfl rfl)
theorem dX4_dear_16 : DC mX4_dear 16 = .ok (.ireturn, 1) := dk_172 (dk_at dksX4_dear_0 16 rfl rfl)
theorem dX4_dear_17 : DC mX4_dear 17 = .ok (.iload_n 2, 1) := dk_28 (dk_at dksX4_dear_0 17 rfl rfl)
theorem dX4_dear_18 : DC mX4_dear 18 = .ok (.iconst 1, 1) := dk_4 (dk_at dksX4_dear_0 18 rfl rfl)
theorem dX4_dear_19 : DC mX4_dear 19 = .ok (.iconst 5, 1) := dk_8 (dk_at dksX4_dear_0 19 rfl rfl)
theorem dX4_dear_20 : DC mX4_dear 20 = .ok (.invokestatic 60, 3) := dk_184 0 60 (dk_at dksX4_dear_0 20 rfl rfl)
theorem dX4_dear_23 : DC mX4_dear 23 = .ok (.ifCond .ne 9, 3) := dk_154 0 9 (dk_at dksX4_dear_1 0 rfl rfl)
theorem dX4_dear_26 : DC mX4_dear 26 = .ok (.aload_n 0, 1) := dk_42 (dk_at dksX4_dear_1 3 rfl rfl)
theorem dX4_dear_27 : DC mX4_dear 27 = .ok (.iconst 2, 1) := dk_5 (dk_at dksX4_dear_1 4 rfl rfl)
theorem dX4_dear_28 : DC mX4_dear 28 = .ok (.invokevirtual 92, 3) := dk_182 0 92 (dk_at dksX4_dear_1 5 rfl rfl)
theorem dX4_dear_31 : DC mX4_dear 31 = .ok (.ireturn, 1) := dk_172 (dk_at dksX4_dear_1 8 rfl rfl)
theorem dX4_dear_32 : DC mX4_dear 32 = .ok (.aload_n 0, 1) := dk_42 (dk_at dksX4_dear_1 9 rfl rfl)
theorem dX4_dear_33 : DC mX4_dear 33 = .ok (.iload_n 1, 1) := dk_27 (dk_at dksX4_dear_1 10 rfl rfl)
theorem dX4_dear_34 : DC mX4_dear 34 = .ok (.invokevirtual 139, 3) := dk_182 0 139 (dk_at dksX4_dear_1 11 rfl rfl)
theorem dX4_dear_37 : DC mX4_dear 37 = .ok (.istore_n 3, 1) := dk_62 (dk_at dksX4_dear_1 14 rfl rfl)
theorem dX4_dear_38 : DC mX4_dear 38 = .ok (.aload_n 0, 1) := dk_42 (dk_at dksX4_dear_1 15 rfl rfl)
theorem dX4_dear_39 : DC mX4_dear 39 = .ok (.getfield 9, 3) := dk_180 0 9 (dk_at dksX4_dear_1 16 rfl rfl)
theorem dX4_dear_42 : DC mX4_dear 42 = .ok (.bipush 9, 2) := dk_16 9 (dk_at dksX4_dear_1 19 rfl rfl)
theorem dX4_dear_44 : DC mX4_dear 44 = .ok (.iconst 3, 1) := dk_6 (dk_at dksX4_dear_1 21 rfl rfl)
theorem dX4_dear_45 : DC mX4_dear 45 = .ok (.iload_n 1, 1) := dk_27 (dk_at dksX4_dear_1 22 rfl rfl)
theorem dX4_dear_46 : DC mX4_dear 46 = .ok (.imul, 1) := dk_104 (dk_at dksX4_dear_1 23 rfl rfl)
theorem dX4_dear_47 : DC mX4_dear 47 = .ok (.iadd, 1) := dk_96 (dk_at dksX4_dear_2 0 rfl rfl)
theorem dX4_dear_48 : DC mX4_dear 48 = .ok (.iconst 1, 1) := dk_4 (dk_at dksX4_dear_2 1 rfl rfl)
theorem dX4_dear_49 : DC mX4_dear 49 = .ok (.iadd, 1) := dk_96 (dk_at dksX4_dear_2 2 rfl rfl)
theorem dX4_dear_50 : DC mX4_dear 50 = .ok (.iload_n 2, 1) := dk_28 (dk_at dksX4_dear_2 3 rfl rfl)
theorem dX4_dear_51 : DC mX4_dear 51 = .ok (.iastore, 1) := dk_79 (dk_at dksX4_dear_2 4 rfl rfl)
theorem dX4_dear_52 : DC mX4_dear 52 = .ok (.aload_n 0, 1) := dk_42 (dk_at dksX4_dear_2 5 rfl rfl)
theorem dX4_dear_53 : DC mX4_dear 53 = .ok (.iload_n 3, 1) := dk_29 (dk_at dksX4_dear_2 6 rfl rfl)
theorem dX4_dear_54 : DC mX4_dear 54 = .ok (.invokevirtual 89, 3) := dk_182 0 89 (dk_at dksX4_dear_2 7 rfl rfl)
theorem dX4_dear_57 : DC mX4_dear 57 = .ok (.ireturn, 1) := dk_172 (dk_at dksX4_dear_2 10 rfl rfl)
abbrev cX4_dearness : ByteArray := prog_13_method_17_code
def yX4_dearness : MethodName := ⟨RX4, "dearness", "(I)I"⟩
def mX4_dearness : MI := (⟨"TheatreSagaModel", "dearness", "(I)I"⟩, prog_13_method_17_code, 2, (Option.some FieldType.int), none, 42, 1)
theorem oX4_dearness : mO mX4_dearness = 42 := rfl
theorem lX4_dearness : mL mX4_dearness = 2 := rfl
theorem rX4_dearness : mR mX4_dearness = (Option.some FieldType.int) := rfl
theorem vX4_dearness : mV mX4_dearness = 1 := rfl
theorem nX4_dearness : (mY mX4_dearness).name = "dearness" := rfl
theorem hX4_dearness : mH mX4_dearness = none := rfl
theorem kX4_dearness : MOk mX4_dearness := ⟨q2577, q91, by decide +kernel⟩
theorem gX4_dearness : plainName (mY mX4_dearness).cls = true ∧ (mY mX4_dearness).cls = "TheatreSagaModel" := ⟨by decide +kernel, rfl⟩
def dkwX4_dearness_0 : List UInt8 := [42, 180, 0, 9, 16, 9, 6, 27, 104, 96, 4, 96, 46, 172]
abbrev dktX4_dearness_0 : List UInt8 := dkwX4_dearness_0 ++ []
theorem dksX4_dearness_0 : cX4_dearness.data.toList.drop 0 = dktX4_dearness_0 := by decide +kernel
theorem dX4_dearness_0 : DC mX4_dearness 0 = .ok (.aload_n 0, 1) := dk_42 (dk_at dksX4_dearness_0 0 rfl rfl)
theorem dX4_dearness_1 : DC mX4_dearness 1 = .ok (.getfield 9, 3) := dk_180 0 9 (dk_at dksX4_dearness_0 1 rfl rfl)
theorem dX4_dearness_4 : DC mX4_dearness 4 = .ok (.bipush 9, 2) := dk_16 9 (dk_at dksX4_dearness_0 4 rfl rfl)
theorem dX4_dearness_6 : DC mX4_dearness 6 = .ok (.iconst 3, 1) := dk_6 (dk_at dksX4_dearness_0 6 rfl rfl)
theorem dX4_dearness_7 : DC mX4_dearness 7 = .ok (.iload_n 1, 1) := dk_27 (dk_at dksX4_dearness_0 7 rfl rfl)
theorem dX4_dearness_8 : DC mX4_dearness 8 = .ok (.imul, 1) := dk_104 (dk_at dksX4_dearness_0 8 rfl rfl)
theorem dX4_dearness_9 : DC mX4_dearness 9 = .ok (.iadd, 1) := dk_96 (dk_at dksX4_dearness_0 9 rfl rfl)
theorem dX4_dearness_10 : DC mX4_dearness 10 = .ok (.iconst 1, 1) := dk_4 (dk_at dksX4_dearness_0 10 rfl rfl)
theorem dX4_dearness_11 : DC mX4_dearness 11 = .ok (.iadd, 1) := dk_96 (dk_at dksX4_dearness_0 11 rfl rfl)
theorem dX4_dearness_12 : DC mX4_dearness 12 = .ok (.iaload, 1) := dk_46 (dk_at dksX4_dearness_0 12 rfl rfl)
theorem dX4_dearness_13 : DC mX4_dearness 13 = .ok (.ireturn, 1) := dk_172 (dk_at dksX4_dearness_0 13 rfl rfl)
abbrev cX4_townOf : ByteArray := prog_13_method_37_code
def yX4_townOf : MethodName := ⟨RX4, "townOf", "(II)I"⟩
def mX4_townOf : MI := (⟨"TheatreSagaModel", "townOf", "(II)I"⟩, prog_13_method_37_code, 3, (Option.some FieldType.int), none, 42, 4)
theorem oX4_townOf : mO mX4_townOf = 42 := rfl
theorem lX4_townOf : mL mX4_townOf = 3 := rfl
theorem rX4_townOf : mR mX4_townOf = (Option.some FieldType.int) := rfl
theorem vX4_townOf : mV mX4_townOf = 4 := rfl
theorem nX4_townOf : (mY mX4_townOf).name = "townOf" := rfl
theorem hX4_townOf : mH mX4_townOf = none := rfl
theorem kX4_townOf : MOk mX4_townOf := ⟨q2581, q91, by decide +kernel⟩
theorem gX4_townOf : plainName (mY mX4_townOf).cls = true ∧ (mY mX4_townOf).cls = "TheatreSagaModel" := ⟨by decide +kernel, rfl⟩
def dkwX4_townOf_3 : List UInt8 := [182, 0, 142, 172, 42, 180, 0, 9, 16, 9, 6, 27, 104, 96, 5, 96, 46, 172, 42, 5, 182, 0, 92, 172]
abbrev dktX4_townOf_3 : List UInt8 := dkwX4_townOf_3 ++ []
def dkwX4_townOf_2 : List UInt8 := [42, 27, 182, 0, 68, 153, 0, 7, 3, 167, 0, 4, 4, 172, 42, 27, 182, 0, 139, 172, 42, 27]
abbrev dktX4_townOf_2 : List UInt8 := dkwX4_townOf_2 ++ dktX4_townOf_3
def dkwX4_townOf_1 : List UInt8 := [170, 0, 0, 0, 69, 0, 0, 0, 0, 0, 0, 0, 3, 0, 0, 0, 29, 0, 0, 0, 43, 0, 0, 0, 49, 0, 0, 0, 55]
abbrev dktX4_townOf_1 : List UInt8 := dkwX4_townOf_1 ++ dktX4_townOf_2
def dkwX4_townOf_0 : List UInt8 := [42, 3, 181, 0, 45, 27, 184, 0, 98, 154, 0, 9, 42, 4, 182, 0, 92, 172, 28]
abbrev dktX4_townOf_0 : List UInt8 := dkwX4_townOf_0 ++ dktX4_townOf_1
theorem dksX4_townOf_0 : cX4_townOf.data.toList.drop 0 = dktX4_townOf_0 := by decide +kernel
theorem dksX4_townOf_1 : cX4_townOf.data.toList.drop 19 = dktX4_townOf_1 := dk_seg dksX4_townOf_0 19 rfl rfl
theorem dksX4_townOf_2 : cX4_townOf.data.toList.drop 48 = dktX4_townOf_2 := dk_seg dksX4_townOf_1 29 rfl rfl
theorem dksX4_townOf_3 : cX4_townOf.data.toList.drop 70 = dktX4_townOf_3 := dk_seg dksX4_townOf_2 22 rfl rfl
theorem dX4_townOf_0 : DC mX4_townOf 0 = .ok (.aload_n 0, 1) := dk_42 (dk_at dksX4_townOf_0 0 rfl rfl)
theorem dX4_townOf_1 : DC mX4_townOf 1 = .ok (.iconst 0, 1) := dk_3 (dk_at dksX4_townOf_0 1 rfl rfl)
theorem dX4_townOf_2 : DC mX4_townOf 2 = .ok (.putfield 45, 3) := dk_181 0 45 (dk_at dksX4_townOf_0 2 rfl rfl)
theorem dX4_townOf_5 : DC mX4_townOf 5 = .ok (.iload_n 1, 1) := dk_27 (dk_at dksX4_townOf_0 5 rfl rfl)
theorem dX4_townOf_6 : DC mX4_townOf 6 = .ok (.invokestatic 98, 3) := dk_184 0 98 (dk_at dksX4_townOf_0 6 rfl rfl)
theorem dX4_townOf_9 : DC mX4_townOf 9 = .ok (.ifCond .ne 9, 3) := dk_154 0 9 (dk_at dksX4_townOf_0 9 rfl rfl)
theorem dX4_townOf_12 : DC mX4_townOf 12 = .ok (.aload_n 0, 1) := dk_42 (dk_at dksX4_townOf_0 12 rfl rfl)
theorem dX4_townOf_13 : DC mX4_townOf 13 = .ok (.iconst 1, 1) := dk_4 (dk_at dksX4_townOf_0 13 rfl rfl)
theorem dX4_townOf_14 : DC mX4_townOf 14 = .ok (.invokevirtual 92, 3) := dk_182 0 92 (dk_at dksX4_townOf_0 14 rfl rfl)
theorem dX4_townOf_17 : DC mX4_townOf 17 = .ok (.ireturn, 1) := dk_172 (dk_at dksX4_townOf_0 17 rfl rfl)
theorem dX4_townOf_18 : DC mX4_townOf 18 = .ok (.iload_n 2, 1) := dk_28 (dk_at dksX4_townOf_0 18 rfl rfl)
theorem dX4_townOf_19 : DC mX4_townOf 19 = .ok (.tableswitch 69 0 3 #[29, 43, 49, 55], 29) := by decide +kernel
theorem dX4_townOf_48 : DC mX4_townOf 48 = .ok (.aload_n 0, 1) := dk_42 (dk_at dksX4_townOf_2 0 rfl rfl)
theorem dX4_townOf_49 : DC mX4_townOf 49 = .ok (.iload_n 1, 1) := dk_27 (dk_at dksX4_townOf_2 1 rfl rfl)
theorem dX4_townOf_50 : DC mX4_townOf 50 = .ok (.invokevirtual 68, 3) := dk_182 0 68 (dk_at dksX4_townOf_2 2 rfl rfl)
theorem dX4_townOf_53 : DC mX4_townOf 53 = .ok (.ifCond .eq 7, 3) := dk_153 0 7 (dk_at dksX4_townOf_2 5 rfl rfl)
theorem dX4_townOf_56 : DC mX4_townOf 56 = .ok (.iconst 0, 1) := dk_3 (dk_at dksX4_townOf_2 8 rfl rfl)
theorem dX4_townOf_57 : DC mX4_townOf 57 = .ok (.goto 4, 3) := dk_167 0 4 (dk_at dksX4_townOf_2 9 rfl rfl)
theorem dX4_townOf_60 : DC mX4_townOf 60 = .ok (.iconst 1, 1) := dk_4 (dk_at dksX4_townOf_2 12 rfl rfl)
theorem dX4_townOf_61 : DC mX4_townOf 61 = .ok (.ireturn, 1) := dk_172 (dk_at dksX4_townOf_2 13 rfl rfl)
theorem dX4_townOf_62 : DC mX4_townOf 62 = .ok (.aload_n 0, 1) := dk_42 (dk_at dksX4_townOf_2 14 rfl rfl)
theorem dX4_townOf_63 : DC mX4_townOf 63 = .ok (.iload_n 1, 1) := dk_27 (dk_at dksX4_townOf_2 15 rfl rfl)
theorem dX4_townOf_64 : DC mX4_townOf 64 = .ok (.invokevirtual 139, 3) := dk_182 0 139 (dk_at dksX4_townOf_2 16 rfl rfl)
theorem dX4_townOf_67 : DC mX4_townOf 67 = .ok (.ireturn, 1) := dk_172 (dk_at dksX4_townOf_2 19 rfl rfl)
theorem dX4_townOf_68 : DC mX4_townOf 68 = .ok (.aload_n 0, 1) := dk_42 (dk_at dksX4_townOf_2 20 rfl rfl)
theorem dX4_townOf_69 : DC mX4_townOf 69 = .ok (.iload_n 1, 1) := dk_27 (dk_at dksX4_townOf_2 21 rfl rfl)
theorem dX4_townOf_70 : DC mX4_townOf 70 = .ok (.invokevirtual 142, 3) := dk_182 0 142 (dk_at dksX4_townOf_3 0 rfl rfl)
theorem dX4_townOf_73 : DC mX4_townOf 73 = .ok (.ireturn, 1) := dk_172 (dk_at dksX4_townOf_3 3 rfl rfl)
theorem dX4_townOf_74 : DC mX4_townOf 74 = .ok (.aload_n 0, 1) := dk_42 (dk_at dksX4_townOf_3 4 rfl rfl)
theorem dX4_townOf_75 : DC mX4_townOf 75 = .ok (.getfield 9, 3) := dk_180 0 9 (dk_at dksX4_townOf_3 5 rfl rfl)
theorem dX4_townOf_78 : DC mX4_townOf 78 = .ok (.bipush 9, 2) := dk_16 9 (dk_at dksX4_townOf_3 8 rfl rfl)
theorem dX4_townOf_80 : DC mX4_townOf 80 = .ok (.iconst 3, 1) := dk_6 (dk_at dksX4_townOf_3 10 rfl rfl)
theorem dX4_townOf_81 : DC mX4_townOf 81 = .ok (.iload_n 1, 1) := dk_27 (dk_at dksX4_townOf_3 11 rfl rfl)
theorem dX4_townOf_82 : DC mX4_townOf 82 = .ok (.imul, 1) := dk_104 (dk_at dksX4_townOf_3 12 rfl rfl)
theorem dX4_townOf_83 : DC mX4_townOf 83 = .ok (.iadd, 1) := dk_96 (dk_at dksX4_townOf_3 13 rfl rfl)
theorem dX4_townOf_84 : DC mX4_townOf 84 = .ok (.iconst 2, 1) := dk_5 (dk_at dksX4_townOf_3 14 rfl rfl)
theorem dX4_townOf_85 : DC mX4_townOf 85 = .ok (.iadd, 1) := dk_96 (dk_at dksX4_townOf_3 15 rfl rfl)
theorem dX4_townOf_86 : DC mX4_townOf 86 = .ok (.iaload, 1) := dk_46 (dk_at dksX4_townOf_3 16 rfl rfl)
theorem dX4_townOf_87 : DC mX4_townOf 87 = .ok (.ireturn, 1) := dk_172 (dk_at dksX4_townOf_3 17 rfl rfl)
theorem dX4_townOf_88 : DC mX4_townOf 88 = .ok (.aload_n 0, 1) := dk_42 (dk_at dksX4_townOf_3 18 rfl rfl)
theorem dX4_townOf_89 : DC mX4_townOf 89 = .ok (.iconst 2, 1) := dk_5 (dk_at dksX4_townOf_3 19 rfl rfl)
theorem dX4_townOf_90 : DC mX4_townOf 90 = .ok (.invokevirtual 92, 3) := dk_182 0 92 (dk_at dksX4_townOf_3 20 rfl rfl)
theorem dX4_townOf_93 : DC mX4_townOf 93 = .ok (.ireturn, 1) := dk_172 (dk_at dksX4_townOf_3 23 rfl rfl)
abbrev cX4_booked : ByteArray := prog_13_method_36_code
def yX4_booked : MethodName := ⟨RX4, "booked", "(I)I"⟩
def mX4_booked : MI := (⟨"TheatreSagaModel", "booked", "(I)I"⟩, prog_13_method_36_code, 5, (Option.some FieldType.int), none, 42, 3)
theorem oX4_booked : mO mX4_booked = 42 := rfl
theorem lX4_booked : mL mX4_booked = 5 := rfl
theorem rX4_booked : mR mX4_booked = (Option.some FieldType.int) := rfl
theorem vX4_booked : mV mX4_booked = 3 := rfl
theorem nX4_booked : (mY mX4_booked).name = "booked" := rfl
theorem hX4_booked : mH mX4_booked = none := rfl
theorem kX4_booked : MOk mX4_booked := ⟨q2585, q91, by decide +kernel⟩
theorem gX4_booked : plainName (mY mX4_booked).cls = true ∧ (mY mX4_booked).cls = "TheatreSagaModel" := ⟨by decide +kernel, rfl⟩
def dkwX4_booked_2 : List UInt8 := [167, 255, 227, 132, 3, 1, 167, 255, 207, 28, 172]
abbrev dktX4_booked_2 : List UInt8 := dkwX4_booked_2 ++ []
def dkwX4_booked_1 : List UInt8 := [182, 0, 64, 162, 0, 24, 42, 29, 21, 4, 4, 182, 0, 107, 27, 160, 0, 6, 132, 2, 1, 132, 4, 1]
abbrev dktX4_booked_1 : List UInt8 := dkwX4_booked_1 ++ dktX4_booked_2
def dkwX4_booked_0 : List UInt8 := [3, 61, 3, 62, 29, 42, 180, 0, 9, 16, 8, 46, 162, 0, 44, 3, 54, 4, 21, 4, 42, 29, 6]
abbrev dktX4_booked_0 : List UInt8 := dkwX4_booked_0 ++ dktX4_booked_1
theorem dksX4_booked_0 : cX4_booked.data.toList.drop 0 = dktX4_booked_0 := by decide +kernel
theorem dksX4_booked_1 : cX4_booked.data.toList.drop 23 = dktX4_booked_1 := dk_seg dksX4_booked_0 23 rfl rfl
theorem dksX4_booked_2 : cX4_booked.data.toList.drop 47 = dktX4_booked_2 := dk_seg dksX4_booked_1 24 rfl rfl
theorem dX4_booked_0 : DC mX4_booked 0 = .ok (.iconst 0, 1) := dk_3 (dk_at dksX4_booked_0 0 rfl rfl)
theorem dX4_booked_1 : DC mX4_booked 1 = .ok (.istore_n 2, 1) := dk_61 (dk_at dksX4_booked_0 1 rfl rfl)
theorem dX4_booked_2 : DC mX4_booked 2 = .ok (.iconst 0, 1) := dk_3 (dk_at dksX4_booked_0 2 rfl rfl)
theorem dX4_booked_3 : DC mX4_booked 3 = .ok (.istore_n 3, 1) := dk_62 (dk_at dksX4_booked_0 3 rfl rfl)
theorem dX4_booked_4 : DC mX4_booked 4 = .ok (.iload_n 3, 1) := dk_29 (dk_at dksX4_booked_0 4 rfl rfl)
theorem dX4_booked_5 : DC mX4_booked 5 = .ok (.aload_n 0, 1) := dk_42 (dk_at dksX4_booked_0 5 rfl rfl)
theorem dX4_booked_6 : DC mX4_booked 6 = .ok (.getfield 9, 3) := dk_180 0 9 (dk_at dksX4_booked_0 6 rfl rfl)
theorem dX4_booked_9 : DC mX4_booked 9 = .ok (.bipush 8, 2) := dk_16 8 (dk_at dksX4_booked_0 9 rfl rfl)
theorem dX4_booked_11 : DC mX4_booked 11 = .ok (.iaload, 1) := dk_46 (dk_at dksX4_booked_0 11 rfl rfl)
theorem dX4_booked_12 : DC mX4_booked 12 = .ok (.if_icmp .ge 44, 3) := dk_162 0 44 (dk_at dksX4_booked_0 12 rfl rfl)
theorem dX4_booked_15 : DC mX4_booked 15 = .ok (.iconst 0, 1) := dk_3 (dk_at dksX4_booked_0 15 rfl rfl)
theorem dX4_booked_16 : DC mX4_booked 16 = .ok (.istore 4, 2) := dk_54 4 (dk_at dksX4_booked_0 16 rfl rfl)
theorem dX4_booked_18 : DC mX4_booked 18 = .ok (.iload 4, 2) := dk_21 4 (dk_at dksX4_booked_0 18 rfl rfl)
theorem dX4_booked_20 : DC mX4_booked 20 = .ok (.aload_n 0, 1) := dk_42 (dk_at dksX4_booked_0 20 rfl rfl)
theorem dX4_booked_21 : DC mX4_booked 21 = .ok (.iload_n 3, 1) := dk_29 (dk_at dksX4_booked_0 21 rfl rfl)
theorem dX4_booked_22 : DC mX4_booked 22 = .ok (.iconst 3, 1) := dk_6 (dk_at dksX4_booked_0 22 rfl rfl)
theorem dX4_booked_23 : DC mX4_booked 23 = .ok (.invokevirtual 64, 3) := dk_182 0 64 (dk_at dksX4_booked_1 0 rfl rfl)
theorem dX4_booked_26 : DC mX4_booked 26 = .ok (.if_icmp .ge 24, 3) := dk_162 0 24 (dk_at dksX4_booked_1 3 rfl rfl)
theorem dX4_booked_29 : DC mX4_booked 29 = .ok (.aload_n 0, 1) := dk_42 (dk_at dksX4_booked_1 6 rfl rfl)
theorem dX4_booked_30 : DC mX4_booked 30 = .ok (.iload_n 3, 1) := dk_29 (dk_at dksX4_booked_1 7 rfl rfl)
theorem dX4_booked_31 : DC mX4_booked 31 = .ok (.iload 4, 2) := dk_21 4 (dk_at dksX4_booked_1 8 rfl rfl)
theorem dX4_booked_33 : DC mX4_booked 33 = .ok (.iconst 1, 1) := dk_4 (dk_at dksX4_booked_1 10 rfl rfl)
theorem dX4_booked_34 : DC mX4_booked 34 = .ok (.invokevirtual 107, 3) := dk_182 0 107 (dk_at dksX4_booked_1 11 rfl rfl)
theorem dX4_booked_37 : DC mX4_booked 37 = .ok (.iload_n 1, 1) := dk_27 (dk_at dksX4_booked_1 14 rfl rfl)
theorem dX4_booked_38 : DC mX4_booked 38 = .ok (.if_icmp .ne 6, 3) := dk_160 0 6 (dk_at dksX4_booked_1 15 rfl rfl)
theorem dX4_booked_41 : DC mX4_booked 41 = .ok (.iinc 2 1, 3) := dk_132 2 1 (dk_at dksX4_booked_1 18 rfl rfl)
theorem dX4_booked_44 : DC mX4_booked 44 = .ok (.iinc 4 1, 3) := dk_132 4 1 (dk_at dksX4_booked_1 21 rfl rfl)
theorem dX4_booked_47 : DC mX4_booked 47 = .ok (.goto (-29), 3) := dk_167 255 227 (dk_at dksX4_booked_2 0 rfl rfl)
theorem dX4_booked_50 : DC mX4_booked 50 = .ok (.iinc 3 1, 3) := dk_132 3 1 (dk_at dksX4_booked_2 3 rfl rfl)
theorem dX4_booked_53 : DC mX4_booked 53 = .ok (.goto (-49), 3) := dk_167 255 207 (dk_at dksX4_booked_2 6 rfl rfl)
theorem dX4_booked_56 : DC mX4_booked 56 = .ok (.iload_n 2, 1) := dk_28 (dk_at dksX4_booked_2 9 rfl rfl)
theorem dX4_booked_57 : DC mX4_booked 57 = .ok (.ireturn, 1) := dk_172 (dk_at dksX4_booked_2 10 rfl rfl)
abbrev cX4_pass : ByteArray := prog_13_method_48_code
def yX4_pass : MethodName := ⟨RX4, "pass", "(I)I"⟩
def mX4_pass : MI := (⟨"TheatreSagaModel", "pass", "(I)I"⟩, prog_13_method_48_code, 2, (Option.some FieldType.int), none, 42, 8)
theorem oX4_pass : mO mX4_pass = 42 := rfl
theorem lX4_pass : mL mX4_pass = 2 := rfl
theorem rX4_pass : mR mX4_pass = (Option.some FieldType.int) := rfl
theorem vX4_pass : mV mX4_pass = 8 := rfl
theorem nX4_pass : (mY mX4_pass).name = "pass" := rfl
theorem hX4_pass : mH mX4_pass = none := rfl
theorem kX4_pass : MOk mX4_pass := ⟨q2589, q91, by decide +kernel⟩
theorem gX4_pass : plainName (mY mX4_pass).cls = true ∧ (mY mX4_pass).cls = "TheatreSagaModel" := ⟨by decide +kernel, rfl⟩
def dkwX4_pass_1 : List UInt8 := [4, 182, 0, 92, 172]
abbrev dktX4_pass_1 : List UInt8 := dkwX4_pass_1 ++ []
def dkwX4_pass_0 : List UInt8 := [42, 182, 0, 83, 42, 27, 182, 0, 172, 154, 0, 14, 42, 42, 180, 0, 51, 182, 0, 89, 167, 0, 8, 42]
abbrev dktX4_pass_0 : List UInt8 := dkwX4_pass_0 ++ dktX4_pass_1
theorem dksX4_pass_0 : cX4_pass.data.toList.drop 0 = dktX4_pass_0 := by decide +kernel
theorem dksX4_pass_1 : cX4_pass.data.toList.drop 24 = dktX4_pass_1 := dk_seg dksX4_pass_0 24 rfl rfl
theorem dX4_pass_0 : DC mX4_pass 0 = .ok (.aload_n 0, 1) := dk_42 (dk_at dksX4_pass_0 0 rfl rfl)
theorem dX4_pass_1 : DC mX4_pass 1 = .ok (.invokevirtual 83, 3) := dk_182 0 83 (dk_at dksX4_pass_0 1 rfl rfl)
theorem dX4_pass_4 : DC mX4_pass 4 = .ok (.aload_n 0, 1) := dk_42 (dk_at dksX4_pass_0 4 rfl rfl)
theorem dX4_pass_5 : DC mX4_pass 5 = .ok (.iload_n 1, 1) := dk_27 (dk_at dksX4_pass_0 5 rfl rfl)
theorem dX4_pass_6 : DC mX4_pass 6 = .ok (.invokevirtual 172, 3) := dk_182 0 172 (dk_at dksX4_pass_0 6 rfl rfl)
theorem dX4_pass_9 : DC mX4_pass 9 = .ok (.ifCond .ne 14, 3) := dk_154 0 14 (dk_at dksX4_pass_0 9 rfl rfl)
theorem dX4_pass_12 : DC mX4_pass 12 = .ok (.aload_n 0, 1) := dk_42 (dk_at dksX4_pass_0 12 rfl rfl)
theorem dX4_pass_13 : DC mX4_pass 13 = .ok (.aload_n 0, 1) := dk_42 (dk_at dksX4_pass_0 13 rfl rfl)
theorem dX4_pass_14 : DC mX4_pass 14 = .ok (.getfield 51, 3) := dk_180 0 51 (dk_at dksX4_pass_0 14 rfl rfl)
theorem dX4_pass_17 : DC mX4_pass 17 = .ok (.invokevirtual 89, 3) := dk_182 0 89 (dk_at dksX4_pass_0 17 rfl rfl)
theorem dX4_pass_20 : DC mX4_pass 20 = .ok (.goto 8, 3) := dk_167 0 8 (dk_at dksX4_pass_0 20 rfl rfl)
theorem dX4_pass_23 : DC mX4_pass 23 = .ok (.aload_n 0, 1) := dk_42 (dk_at dksX4_pass_0 23 rfl rfl)
theorem dX4_pass_24 : DC mX4_pass 24 = .ok (.iconst 1, 1) := dk_4 (dk_at dksX4_pass_1 0 rfl rfl)
theorem dX4_pass_25 : DC mX4_pass 25 = .ok (.invokevirtual 92, 3) := dk_182 0 92 (dk_at dksX4_pass_1 1 rfl rfl)
theorem dX4_pass_28 : DC mX4_pass 28 = .ok (.ireturn, 1) := dk_172 (dk_at dksX4_pass_1 4 rfl rfl)
abbrev cX4_passes : ByteArray := prog_13_method_47_code
def yX4_passes : MethodName := ⟨RX4, "passes", "(I)I"⟩
def mX4_passes : MI := (⟨"TheatreSagaModel", "passes", "(I)I"⟩, prog_13_method_47_code, 4, (Option.some FieldType.int), none, 42, 7)
theorem oX4_passes : mO mX4_passes = 42 := rfl
theorem lX4_passes : mL mX4_passes = 4 := rfl
theorem rX4_passes : mR mX4_passes = (Option.some FieldType.int) := rfl
theorem vX4_passes : mV mX4_passes = 7 := rfl
theorem nX4_passes : (mY mX4_passes).name = "passes" := rfl
theorem hX4_passes : mH mX4_passes = none := rfl
theorem kX4_passes : MOk mX4_passes := ⟨q2593, q91, by decide +kernel⟩
theorem gX4_passes : plainName (mY mX4_passes).cls = true ∧ (mY mX4_passes).cls = "TheatreSagaModel" := ⟨by decide +kernel, rfl⟩
def dkwX4_passes_1 : List UInt8 := [182, 0, 169, 96, 61, 132, 3, 1, 167, 255, 241, 42, 28, 182, 0, 79, 172]
abbrev dktX4_passes_1 : List UInt8 := dkwX4_passes_1 ++ []
def dkwX4_passes_0 : List UInt8 := [27, 4, 16, 40, 184, 0, 60, 154, 0, 5, 5, 172, 3, 61, 3, 62, 29, 27, 162, 0, 16, 28, 42]
abbrev dktX4_passes_0 : List UInt8 := dkwX4_passes_0 ++ dktX4_passes_1
theorem dksX4_passes_0 : cX4_passes.data.toList.drop 0 = dktX4_passes_0 := by decide +kernel
theorem dksX4_passes_1 : cX4_passes.data.toList.drop 23 = dktX4_passes_1 := dk_seg dksX4_passes_0 23 rfl rfl
theorem dX4_passes_0 : DC mX4_passes 0 = .ok (.iload_n 1, 1) := dk_27 (dk_at dksX4_passes_0 0 rfl rfl)
theorem dX4_passes_1 : DC mX4_passes 1 = .ok (.iconst 1, 1) := dk_4 (dk_at dksX4_passes_0 1 rfl rfl)
theorem dX4_passes_2 : DC mX4_passes 2 = .ok (.bipush 40, 2) := dk_16 40 (dk_at dksX4_passes_0 2 rfl rfl)
theorem dX4_passes_4 : DC mX4_passes 4 = .ok (.invokestatic 60, 3) := dk_184 0 60 (dk_at dksX4_passes_0 4 rfl rfl)
theorem dX4_passes_7 : DC mX4_passes 7 = .ok (.ifCond .ne 5, 3) := dk_154 0 5 (dk_at dksX4_passes_0 7 rfl rfl)
theorem dX4_passes_10 : DC mX4_passes 10 = .ok (.iconst 2, 1) := dk_5 (dk_at dksX4_passes_0 10 rfl rfl)
theorem dX4_passes_11 : DC mX4_passes 11 = .ok (.ireturn, 1) := dk_172 (dk_at dksX4_passes_0 11 rfl rfl)
theorem dX4_passes_12 : DC mX4_passes 12 = .ok (.iconst 0, 1) := dk_3 (dk_at dksX4_passes_0 12 rfl rfl)
theorem dX4_passes_13 : DC mX4_passes 13 = .ok (.istore_n 2, 1) := dk_61 (dk_at dksX4_passes_0 13 rfl rfl)
theorem dX4_passes_14 : DC mX4_passes 14 = .ok (.iconst 0, 1) := dk_3 (dk_at dksX4_passes_0 14 rfl rfl)
theorem dX4_passes_15 : DC mX4_passes 15 = .ok (.istore_n 3, 1) := dk_62 (dk_at dksX4_passes_0 15 rfl rfl)
theorem dX4_passes_16 : DC mX4_passes 16 = .ok (.iload_n 3, 1) := dk_29 (dk_at dksX4_passes_0 16 rfl rfl)
theorem dX4_passes_17 : DC mX4_passes 17 = .ok (.iload_n 1, 1) := dk_27 (dk_at dksX4_passes_0 17 rfl rfl)
theorem dX4_passes_18 : DC mX4_passes 18 = .ok (.if_icmp .ge 16, 3) := dk_162 0 16 (dk_at dksX4_passes_0 18 rfl rfl)
theorem dX4_passes_21 : DC mX4_passes 21 = .ok (.iload_n 2, 1) := dk_28 (dk_at dksX4_passes_0 21 rfl rfl)
theorem dX4_passes_22 : DC mX4_passes 22 = .ok (.aload_n 0, 1) := dk_42 (dk_at dksX4_passes_0 22 rfl rfl)
theorem dX4_passes_23 : DC mX4_passes 23 = .ok (.invokevirtual 169, 3) := dk_182 0 169 (dk_at dksX4_passes_1 0 rfl rfl)
theorem dX4_passes_26 : DC mX4_passes 26 = .ok (.iadd, 1) := dk_96 (dk_at dksX4_passes_1 3 rfl rfl)
theorem dX4_passes_27 : DC mX4_passes 27 = .ok (.istore_n 2, 1) := dk_61 (dk_at dksX4_passes_1 4 rfl rfl)
theorem dX4_passes_28 : DC mX4_passes 28 = .ok (.iinc 3 1, 3) := dk_132 3 1 (dk_at dksX4_passes_1 5 rfl rfl)
theorem dX4_passes_31 : DC mX4_passes 31 = .ok (.goto (-15), 3) := dk_167 255 241 (dk_at dksX4_passes_1 8 rfl rfl)
theorem dX4_passes_34 : DC mX4_passes 34 = .ok (.aload_n 0, 1) := dk_42 (dk_at dksX4_passes_1 11 rfl rfl)
theorem dX4_passes_35 : DC mX4_passes 35 = .ok (.iload_n 2, 1) := dk_28 (dk_at dksX4_passes_1 12 rfl rfl)
theorem dX4_passes_36 : DC mX4_passes 36 = .ok (.invokevirtual 79, 3) := dk_182 0 79 (dk_at dksX4_passes_1 13 rfl rfl)
theorem dX4_passes_39 : DC mX4_passes 39 = .ok (.ireturn, 1) := dk_172 (dk_at dksX4_passes_1 16 rfl rfl)
abbrev cX4_hourGoes : ByteArray := prog_13_method_46_code
def yX4_hourGoes : MethodName := ⟨RX4, "hourGoes", "()I"⟩
def mX4_hourGoes : MI := (⟨"TheatreSagaModel", "hourGoes", "()I"⟩, prog_13_method_46_code, 3, (Option.some FieldType.int), none, 42, 6)
theorem oX4_hourGoes : mO mX4_hourGoes = 42 := rfl
theorem lX4_hourGoes : mL mX4_hourGoes = 3 := rfl
theorem rX4_hourGoes : mR mX4_hourGoes = (Option.some FieldType.int) := rfl
theorem vX4_hourGoes : mV mX4_hourGoes = 6 := rfl
theorem nX4_hourGoes : (mY mX4_hourGoes).name = "hourGoes" := rfl
theorem hX4_hourGoes : mH mX4_hourGoes = none := rfl
theorem kX4_hourGoes : MOk mX4_hourGoes := ⟨q2597, q91, by decide +kernel⟩
theorem gX4_hourGoes : plainName (mY mX4_hourGoes).cls = true ∧ (mY mX4_hourGoes).cls = "TheatreSagaModel" := ⟨by decide +kernel, rfl⟩
def dkwX4_hourGoes_2 : List UInt8 := [167, 255, 215, 42, 180, 0, 9, 3, 92, 46, 4, 96, 79, 27, 172]
abbrev dktX4_hourGoes_2 : List UInt8 := dkwX4_hourGoes_2 ++ []
def dkwX4_hourGoes_1 : List UInt8 := [167, 0, 19, 42, 28, 182, 0, 166, 42, 28, 182, 0, 163, 154, 0, 6, 132, 1, 1, 132, 2, 1]
abbrev dktX4_hourGoes_1 : List UInt8 := dkwX4_hourGoes_1 ++ dktX4_hourGoes_2
def dkwX4_hourGoes_0 : List UInt8 := [3, 60, 3, 61, 28, 42, 180, 0, 9, 16, 8, 46, 162, 0, 36, 42, 28, 182, 0, 163, 154, 0, 6]
abbrev dktX4_hourGoes_0 : List UInt8 := dkwX4_hourGoes_0 ++ dktX4_hourGoes_1
theorem dksX4_hourGoes_0 : cX4_hourGoes.data.toList.drop 0 = dktX4_hourGoes_0 := by decide +kernel
theorem dksX4_hourGoes_1 : cX4_hourGoes.data.toList.drop 23 = dktX4_hourGoes_1 := dk_seg dksX4_hourGoes_0 23 rfl rfl
theorem dksX4_hourGoes_2 : cX4_hourGoes.data.toList.drop 45 = dktX4_hourGoes_2 := dk_seg dksX4_hourGoes_1 22 rfl rfl
theorem dX4_hourGoes_0 : DC mX4_hourGoes 0 = .ok (.iconst 0, 1) := dk_3 (dk_at dksX4_hourGoes_0 0 rfl rfl)
theorem dX4_hourGoes_1 : DC mX4_hourGoes 1 = .ok (.istore_n 1, 1) := dk_60 (dk_at dksX4_hourGoes_0 1 rfl rfl)
theorem dX4_hourGoes_2 : DC mX4_hourGoes 2 = .ok (.iconst 0, 1) := dk_3 (dk_at dksX4_hourGoes_0 2 rfl rfl)
theorem dX4_hourGoes_3 : DC mX4_hourGoes 3 = .ok (.istore_n 2, 1) := dk_61 (dk_at dksX4_hourGoes_0 3 rfl rfl)
theorem dX4_hourGoes_4 : DC mX4_hourGoes 4 = .ok (.iload_n 2, 1) := dk_28 (dk_at dksX4_hourGoes_0 4 rfl rfl)
theorem dX4_hourGoes_5 : DC mX4_hourGoes 5 = .ok (.aload_n 0, 1) := dk_42 (dk_at dksX4_hourGoes_0 5 rfl rfl)
theorem dX4_hourGoes_6 : DC mX4_hourGoes 6 = .ok (.getfield 9, 3) := dk_180 0 9 (dk_at dksX4_hourGoes_0 6 rfl rfl)
theorem dX4_hourGoes_9 : DC mX4_hourGoes 9 = .ok (.bipush 8, 2) := dk_16 8 (dk_at dksX4_hourGoes_0 9 rfl rfl)
theorem dX4_hourGoes_11 : DC mX4_hourGoes 11 = .ok (.iaload, 1) := dk_46 (dk_at dksX4_hourGoes_0 11 rfl rfl)
theorem dX4_hourGoes_12 : DC mX4_hourGoes 12 = .ok (.if_icmp .ge 36, 3) := dk_162 0 36 (dk_at dksX4_hourGoes_0 12 rfl rfl)
theorem dX4_hourGoes_15 : DC mX4_hourGoes 15 = .ok (.aload_n 0, 1) := dk_42 (dk_at dksX4_hourGoes_0 15 rfl rfl)
theorem dX4_hourGoes_16 : DC mX4_hourGoes 16 = .ok (.iload_n 2, 1) := dk_28 (dk_at dksX4_hourGoes_0 16 rfl rfl)
theorem dX4_hourGoes_17 : DC mX4_hourGoes 17 = .ok (.invokevirtual 163, 3) := dk_182 0 163 (dk_at dksX4_hourGoes_0 17 rfl rfl)
theorem dX4_hourGoes_20 : DC mX4_hourGoes 20 = .ok (.ifCond .ne 6, 3) := dk_154 0 6 (dk_at dksX4_hourGoes_0 20 rfl rfl)
theorem dX4_hourGoes_23 : DC mX4_hourGoes 23 = .ok (.goto 19, 3) := dk_167 0 19 (dk_at dksX4_hourGoes_1 0 rfl rfl)
theorem dX4_hourGoes_26 : DC mX4_hourGoes 26 = .ok (.aload_n 0, 1) := dk_42 (dk_at dksX4_hourGoes_1 3 rfl rfl)
theorem dX4_hourGoes_27 : DC mX4_hourGoes 27 = .ok (.iload_n 2, 1) := dk_28 (dk_at dksX4_hourGoes_1 4 rfl rfl)
theorem dX4_hourGoes_28 : DC mX4_hourGoes 28 = .ok (.invokevirtual 166, 3) := dk_182 0 166 (dk_at dksX4_hourGoes_1 5 rfl rfl)
theorem dX4_hourGoes_31 : DC mX4_hourGoes 31 = .ok (.aload_n 0, 1) := dk_42 (dk_at dksX4_hourGoes_1 8 rfl rfl)
theorem dX4_hourGoes_32 : DC mX4_hourGoes 32 = .ok (.iload_n 2, 1) := dk_28 (dk_at dksX4_hourGoes_1 9 rfl rfl)
theorem dX4_hourGoes_33 : DC mX4_hourGoes 33 = .ok (.invokevirtual 163, 3) := dk_182 0 163 (dk_at dksX4_hourGoes_1 10 rfl rfl)
theorem dX4_hourGoes_36 : DC mX4_hourGoes 36 = .ok (.ifCond .ne 6, 3) := dk_154 0 6 (dk_at dksX4_hourGoes_1 13 rfl rfl)
theorem dX4_hourGoes_39 : DC mX4_hourGoes 39 = .ok (.iinc 1 1, 3) := dk_132 1 1 (dk_at dksX4_hourGoes_1 16 rfl rfl)
theorem dX4_hourGoes_42 : DC mX4_hourGoes 42 = .ok (.iinc 2 1, 3) := dk_132 2 1 (dk_at dksX4_hourGoes_1 19 rfl rfl)
theorem dX4_hourGoes_45 : DC mX4_hourGoes 45 = .ok (.goto (-41), 3) := dk_167 255 215 (dk_at dksX4_hourGoes_2 0 rfl rfl)
theorem dX4_hourGoes_48 : DC mX4_hourGoes 48 = .ok (.aload_n 0, 1) := dk_42 (dk_at dksX4_hourGoes_2 3 rfl rfl)
theorem dX4_hourGoes_49 : DC mX4_hourGoes 49 = .ok (.getfield 9, 3) := dk_180 0 9 (dk_at dksX4_hourGoes_2 4 rfl rfl)
theorem dX4_hourGoes_52 : DC mX4_hourGoes 52 = .ok (.iconst 0, 1) := dk_3 (dk_at dksX4_hourGoes_2 7 rfl rfl)
theorem dX4_hourGoes_53 : DC mX4_hourGoes 53 = .ok (.dup2, 1) := dk_92 (dk_at dksX4_hourGoes_2 8 rfl rfl)
theorem dX4_hourGoes_54 : DC mX4_hourGoes 54 = .ok (.iaload, 1) := dk_46 (dk_at dksX4_hourGoes_2 9 rfl rfl)
theorem dX4_hourGoes_55 : DC mX4_hourGoes 55 = .ok (.iconst 1, 1) := dk_4 (dk_at dksX4_hourGoes_2 10 rfl rfl)
theorem dX4_hourGoes_56 : DC mX4_hourGoes 56 = .ok (.iadd, 1) := dk_96 (dk_at dksX4_hourGoes_2 11 rfl rfl)
theorem dX4_hourGoes_57 : DC mX4_hourGoes 57 = .ok (.iastore, 1) := dk_79 (dk_at dksX4_hourGoes_2 12 rfl rfl)
theorem dX4_hourGoes_58 : DC mX4_hourGoes 58 = .ok (.iload_n 1, 1) := dk_27 (dk_at dksX4_hourGoes_2 13 rfl rfl)
theorem dX4_hourGoes_59 : DC mX4_hourGoes 59 = .ok (.ireturn, 1) := dk_172 (dk_at dksX4_hourGoes_2 14 rfl rfl)
abbrev cX4_goesOn : ByteArray := prog_13_method_45_code
def yX4_goesOn : MethodName := ⟨RX4, "goesOn", "(I)Z"⟩
def mX4_goesOn : MI := (⟨"TheatreSagaModel", "goesOn", "(I)Z"⟩, prog_13_method_45_code, 2, (Option.some FieldType.boolean), none, 42, 2)
theorem oX4_goesOn : mO mX4_goesOn = 42 := rfl
theorem lX4_goesOn : mL mX4_goesOn = 2 := rfl
theorem rX4_goesOn : mR mX4_goesOn = (Option.some FieldType.boolean) := rfl
theorem vX4_goesOn : mV mX4_goesOn = 2 := rfl
theorem nX4_goesOn : (mY mX4_goesOn).name = "goesOn" := rfl
theorem hX4_goesOn : mH mX4_goesOn = none := rfl
theorem kX4_goesOn : MOk mX4_goesOn := ⟨q2601, q91, by decide +kernel⟩
theorem gX4_goesOn : plainName (mY mX4_goesOn).cls = true ∧ (mY mX4_goesOn).cls = "TheatreSagaModel" := ⟨by decide +kernel, rfl⟩
def dkwX4_goesOn_0 : List UInt8 := [42, 27, 3, 182, 0, 64, 4, 5, 184, 0, 60, 172]
abbrev dktX4_goesOn_0 : List UInt8 := dkwX4_goesOn_0 ++ []
theorem dksX4_goesOn_0 : cX4_goesOn.data.toList.drop 0 = dktX4_goesOn_0 := by decide +kernel
theorem dX4_goesOn_0 : DC mX4_goesOn 0 = .ok (.aload_n 0, 1) := dk_42 (dk_at dksX4_goesOn_0 0 rfl rfl)
theorem dX4_goesOn_1 : DC mX4_goesOn 1 = .ok (.iload_n 1, 1) := dk_27 (dk_at dksX4_goesOn_0 1 rfl rfl)
theorem dX4_goesOn_2 : DC mX4_goesOn 2 = .ok (.iconst 0, 1) := dk_3 (dk_at dksX4_goesOn_0 2 rfl rfl)
theorem dX4_goesOn_3 : DC mX4_goesOn 3 = .ok (.invokevirtual 64, 3) := dk_182 0 64 (dk_at dksX4_goesOn_0 3 rfl rfl)
theorem dX4_goesOn_6 : DC mX4_goesOn 6 = .ok (.iconst 1, 1) := dk_4 (dk_at dksX4_goesOn_0 6 rfl rfl)
theorem dX4_goesOn_7 : DC mX4_goesOn 7 = .ok (.iconst 2, 1) := dk_5 (dk_at dksX4_goesOn_0 7 rfl rfl)
theorem dX4_goesOn_8 : DC mX4_goesOn 8 = .ok (.invokestatic 60, 3) := dk_184 0 60 (dk_at dksX4_goesOn_0 8 rfl rfl)
theorem dX4_goesOn_11 : DC mX4_goesOn 11 = .ok (.ireturn, 1) := dk_172 (dk_at dksX4_goesOn_0 11 rfl rfl)
abbrev cX4_makesTry : ByteArray := prog_13_method_44_code
def yX4_makesTry : MethodName := ⟨RX4, "makesTry", "(I)V"⟩
def mX4_makesTry : MI := (⟨"TheatreSagaModel", "makesTry", "(I)V"⟩, prog_13_method_44_code, 3, (Option.none : Option FieldType), none, 42, 5)
theorem oX4_makesTry : mO mX4_makesTry = 42 := rfl
theorem lX4_makesTry : mL mX4_makesTry = 3 := rfl
theorem rX4_makesTry : mR mX4_makesTry = (Option.none : Option FieldType) := rfl
theorem vX4_makesTry : mV mX4_makesTry = 5 := rfl
theorem nX4_makesTry : (mY mX4_makesTry).name = "makesTry" := rfl
theorem hX4_makesTry : mH mX4_makesTry = none := rfl
theorem kX4_makesTry : MOk mX4_makesTry := ⟨q2605, q91, by decide +kernel⟩
theorem gX4_makesTry : plainName (mY mX4_makesTry).cls = true ∧ (mY mX4_makesTry).cls = "TheatreSagaModel" := ⟨by decide +kernel, rfl⟩
def dkwX4_makesTry_4 : List UInt8 := [42, 27, 3, 182, 0, 64, 4, 160, 0, 11, 42, 27, 182, 0, 157, 167, 0, 8, 42, 27, 182, 0, 160, 177]
abbrev dktX4_makesTry_4 : List UInt8 := dkwX4_makesTry_4 ++ []
def dkwX4_makesTry_3 : List UInt8 := [42, 27, 4, 182, 0, 64, 4, 96, 160, 0, 8, 42, 27, 182, 0, 124, 177, 42, 27, 7, 3, 182, 0, 75]
abbrev dktX4_makesTry_3 : List UInt8 := dkwX4_makesTry_3 ++ dktX4_makesTry_4
def dkwX4_makesTry_2 : List UInt8 := [182, 0, 64, 4, 96, 182, 0, 75, 42, 27, 3, 182, 0, 64, 4, 160, 0, 25, 42, 27, 7, 182, 0, 64]
abbrev dktX4_makesTry_2 : List UInt8 := dkwX4_makesTry_2 ++ dktX4_makesTry_3
def dkwX4_makesTry_1 : List UInt8 := [180, 0, 9, 16, 7, 92, 46, 4, 96, 79, 42, 27, 8, 28, 182, 0, 75, 42, 27, 7, 42, 27, 7]
abbrev dktX4_makesTry_1 : List UInt8 := dkwX4_makesTry_1 ++ dktX4_makesTry_2
def dkwX4_makesTry_0 : List UInt8 := [42, 27, 182, 0, 154, 61, 42, 180, 0, 9, 16, 6, 92, 46, 4, 96, 79, 28, 158, 0, 68, 42]
abbrev dktX4_makesTry_0 : List UInt8 := dkwX4_makesTry_0 ++ dktX4_makesTry_1
theorem dksX4_makesTry_0 : cX4_makesTry.data.toList.drop 0 = dktX4_makesTry_0 := by decide +kernel
theorem dksX4_makesTry_1 : cX4_makesTry.data.toList.drop 22 = dktX4_makesTry_1 := dk_seg dksX4_makesTry_0 22 rfl rfl
theorem dksX4_makesTry_2 : cX4_makesTry.data.toList.drop 45 = dktX4_makesTry_2 := dk_seg dksX4_makesTry_1 23 rfl rfl
theorem dksX4_makesTry_3 : cX4_makesTry.data.toList.drop 69 = dktX4_makesTry_3 := dk_seg dksX4_makesTry_2 24 rfl rfl
theorem dksX4_makesTry_4 : cX4_makesTry.data.toList.drop 93 = dktX4_makesTry_4 := dk_seg dksX4_makesTry_3 24 rfl rfl
theorem dX4_makesTry_0 : DC mX4_makesTry 0 = .ok (.aload_n 0, 1) := dk_42 (dk_at dksX4_makesTry_0 0 rfl rfl)
theorem dX4_makesTry_1 : DC mX4_makesTry 1 = .ok (.iload_n 1, 1) := dk_27 (dk_at dksX4_makesTry_0 1 rfl rfl)
theorem dX4_makesTry_2 : DC mX4_makesTry 2 = .ok (.invokevirtual 154, 3) := dk_182 0 154 (dk_at dksX4_makesTry_0 2 rfl rfl)
theorem dX4_makesTry_5 : DC mX4_makesTry 5 = .ok (.istore_n 2, 1) := dk_61 (dk_at dksX4_makesTry_0 5 rfl rfl)
theorem dX4_makesTry_6 : DC mX4_makesTry 6 = .ok (.aload_n 0, 1) := dk_42 (dk_at dksX4_makesTry_0 6 rfl rfl)
theorem dX4_makesTry_7 : DC mX4_makesTry 7 = .ok (.getfield 9, 3) := dk_180 0 9 (dk_at dksX4_makesTry_0 7 rfl rfl)
theorem dX4_makesTry_10 : DC mX4_makesTry 10 = .ok (.bipush 6, 2) := dk_16 6 (dk_at dksX4_makesTry_0 10 rfl rfl)
theorem dX4_makesTry_12 : DC mX4_makesTry 12 = .ok (.dup2, 1) := dk_92 (dk_at dksX4_makesTry_0 12 rfl rfl)
theorem dX4_makesTry_13 : DC mX4_makesTry 13 = .ok (.iaload, 1) := dk_46 (dk_at dksX4_makesTry_0 13 rfl rfl)
theorem dX4_makesTry_14 : DC mX4_makesTry 14 = .ok (.iconst 1, 1) := dk_4 (dk_at dksX4_makesTry_0 14 rfl rfl)
theorem dX4_makesTry_15 : DC mX4_makesTry 15 = .ok (.iadd, 1) := dk_96 (dk_at dksX4_makesTry_0 15 rfl rfl)
theorem dX4_makesTry_16 : DC mX4_makesTry 16 = .ok (.iastore, 1) := dk_79 (dk_at dksX4_makesTry_0 16 rfl rfl)
theorem dX4_makesTry_17 : DC mX4_makesTry 17 = .ok (.iload_n 2, 1) := dk_28 (dk_at dksX4_makesTry_0 17 rfl rfl)
theorem dX4_makesTry_18 : DC mX4_makesTry 18 = .ok (.ifCond .le 68, 3) := dk_158 0 68 (dk_at dksX4_makesTry_0 18 rfl rfl)
theorem dX4_makesTry_21 : DC mX4_makesTry 21 = .ok (.aload_n 0, 1) := dk_42 (dk_at dksX4_makesTry_0 21 rfl rfl)
theorem dX4_makesTry_22 : DC mX4_makesTry 22 = .ok (.getfield 9, 3) := dk_180 0 9 (dk_at dksX4_makesTry_1 0 rfl rfl)
theorem dX4_makesTry_25 : DC mX4_makesTry 25 = .ok (.bipush 7, 2) := dk_16 7 (dk_at dksX4_makesTry_1 3 rfl rfl)
theorem dX4_makesTry_27 : DC mX4_makesTry 27 = .ok (.dup2, 1) := dk_92 (dk_at dksX4_makesTry_1 5 rfl rfl)
theorem dX4_makesTry_28 : DC mX4_makesTry 28 = .ok (.iaload, 1) := dk_46 (dk_at dksX4_makesTry_1 6 rfl rfl)
theorem dX4_makesTry_29 : DC mX4_makesTry 29 = .ok (.iconst 1, 1) := dk_4 (dk_at dksX4_makesTry_1 7 rfl rfl)
theorem dX4_makesTry_30 : DC mX4_makesTry 30 = .ok (.iadd, 1) := dk_96 (dk_at dksX4_makesTry_1 8 rfl rfl)
theorem dX4_makesTry_31 : DC mX4_makesTry 31 = .ok (.iastore, 1) := dk_79 (dk_at dksX4_makesTry_1 9 rfl rfl)
theorem dX4_makesTry_32 : DC mX4_makesTry 32 = .ok (.aload_n 0, 1) := dk_42 (dk_at dksX4_makesTry_1 10 rfl rfl)
theorem dX4_makesTry_33 : DC mX4_makesTry 33 = .ok (.iload_n 1, 1) := dk_27 (dk_at dksX4_makesTry_1 11 rfl rfl)
theorem dX4_makesTry_34 : DC mX4_makesTry 34 = .ok (.iconst 5, 1) := dk_8 (dk_at dksX4_makesTry_1 12 rfl rfl)
theorem dX4_makesTry_35 : DC mX4_makesTry 35 = .ok (.iload_n 2, 1) := dk_28 (dk_at dksX4_makesTry_1 13 rfl rfl)
theorem dX4_makesTry_36 : DC mX4_makesTry 36 = .ok (.invokevirtual 75, 3) := dk_182 0 75 (dk_at dksX4_makesTry_1 14 rfl rfl)
theorem dX4_makesTry_39 : DC mX4_makesTry 39 = .ok (.aload_n 0, 1) := dk_42 (dk_at dksX4_makesTry_1 17 rfl rfl)
theorem dX4_makesTry_40 : DC mX4_makesTry 40 = .ok (.iload_n 1, 1) := dk_27 (dk_at dksX4_makesTry_1 18 rfl rfl)
theorem dX4_makesTry_41 : DC mX4_makesTry 41 = .ok (.iconst 4, 1) := dk_7 (dk_at dksX4_makesTry_1 19 rfl rfl)
theorem dX4_makesTry_42 : DC mX4_makesTry 42 = .ok (.aload_n 0, 1) := dk_42 (dk_at dksX4_makesTry_1 20 rfl rfl)
theorem dX4_makesTry_43 : DC mX4_makesTry 43 = .ok (.iload_n 1, 1) := dk_27 (dk_at dksX4_makesTry_1 21 rfl rfl)
theorem dX4_makesTry_44 : DC mX4_makesTry 44 = .ok (.iconst 4, 1) := dk_7 (dk_at dksX4_makesTry_1 22 rfl rfl)
theorem dX4_makesTry_45 : DC mX4_makesTry 45 = .ok (.invokevirtual 64, 3) := dk_182 0 64 (dk_at dksX4_makesTry_2 0 rfl rfl)
theorem dX4_makesTry_48 : DC mX4_makesTry 48 = .ok (.iconst 1, 1) := dk_4 (dk_at dksX4_makesTry_2 3 rfl rfl)
theorem dX4_makesTry_49 : DC mX4_makesTry 49 = .ok (.iadd, 1) := dk_96 (dk_at dksX4_makesTry_2 4 rfl rfl)
theorem dX4_makesTry_50 : DC mX4_makesTry 50 = .ok (.invokevirtual 75, 3) := dk_182 0 75 (dk_at dksX4_makesTry_2 5 rfl rfl)
theorem dX4_makesTry_53 : DC mX4_makesTry 53 = .ok (.aload_n 0, 1) := dk_42 (dk_at dksX4_makesTry_2 8 rfl rfl)
theorem dX4_makesTry_54 : DC mX4_makesTry 54 = .ok (.iload_n 1, 1) := dk_27 (dk_at dksX4_makesTry_2 9 rfl rfl)
theorem dX4_makesTry_55 : DC mX4_makesTry 55 = .ok (.iconst 0, 1) := dk_3 (dk_at dksX4_makesTry_2 10 rfl rfl)
theorem dX4_makesTry_56 : DC mX4_makesTry 56 = .ok (.invokevirtual 64, 3) := dk_182 0 64 (dk_at dksX4_makesTry_2 11 rfl rfl)
theorem dX4_makesTry_59 : DC mX4_makesTry 59 = .ok (.iconst 1, 1) := dk_4 (dk_at dksX4_makesTry_2 14 rfl rfl)
theorem dX4_makesTry_60 : DC mX4_makesTry 60 = .ok (.if_icmp .ne 25, 3) := dk_160 0 25 (dk_at dksX4_makesTry_2 15 rfl rfl)
theorem dX4_makesTry_63 : DC mX4_makesTry 63 = .ok (.aload_n 0, 1) := dk_42 (dk_at dksX4_makesTry_2 18 rfl rfl)
theorem dX4_makesTry_64 : DC mX4_makesTry 64 = .ok (.iload_n 1, 1) := dk_27 (dk_at dksX4_makesTry_2 19 rfl rfl)
theorem dX4_makesTry_65 : DC mX4_makesTry 65 = .ok (.iconst 4, 1) := dk_7 (dk_at dksX4_makesTry_2 20 rfl rfl)
theorem dX4_makesTry_66 : DC mX4_makesTry 66 = .ok (.invokevirtual 64, 3) := dk_182 0 64 (dk_at dksX4_makesTry_2 21 rfl rfl)
theorem dX4_makesTry_69 : DC mX4_makesTry 69 = .ok (.aload_n 0, 1) := dk_42 (dk_at dksX4_makesTry_3 0 rfl rfl)
theorem dX4_makesTry_70 : DC mX4_makesTry 70 = .ok (.iload_n 1, 1) := dk_27 (dk_at dksX4_makesTry_3 1 rfl rfl)
theorem dX4_makesTry_71 : DC mX4_makesTry 71 = .ok (.iconst 1, 1) := dk_4 (dk_at dksX4_makesTry_3 2 rfl rfl)
theorem dX4_makesTry_72 : DC mX4_makesTry 72 = .ok (.invokevirtual 64, 3) := dk_182 0 64 (dk_at dksX4_makesTry_3 3 rfl rfl)
theorem dX4_makesTry_75 : DC mX4_makesTry 75 = .ok (.iconst 1, 1) := dk_4 (dk_at dksX4_makesTry_3 6 rfl rfl)
theorem dX4_makesTry_76 : DC mX4_makesTry 76 = .ok (.iadd, 1) := dk_96 (dk_at dksX4_makesTry_3 7 rfl rfl)
theorem dX4_makesTry_77 : DC mX4_makesTry 77 = .ok (.if_icmp .ne 8, 3) := dk_160 0 8 (dk_at dksX4_makesTry_3 8 rfl rfl)
theorem dX4_makesTry_80 : DC mX4_makesTry 80 = .ok (.aload_n 0, 1) := dk_42 (dk_at dksX4_makesTry_3 11 rfl rfl)
theorem dX4_makesTry_81 : DC mX4_makesTry 81 = .ok (.iload_n 1, 1) := dk_27 (dk_at dksX4_makesTry_3 12 rfl rfl)
theorem dX4_makesTry_82 : DC mX4_makesTry 82 = .ok (.invokevirtual 124, 3) := dk_182 0 124 (dk_at dksX4_makesTry_3 13 rfl rfl)
theorem dX4_makesTry_85 : DC mX4_makesTry 85 = .ok (.return_, 1) := dk_177 (dk_at dksX4_makesTry_3 16 rfl rfl)
theorem dX4_makesTry_86 : DC mX4_makesTry 86 = .ok (.aload_n 0, 1) := dk_42 (dk_at dksX4_makesTry_3 17 rfl rfl)
theorem dX4_makesTry_87 : DC mX4_makesTry 87 = .ok (.iload_n 1, 1) := dk_27 (dk_at dksX4_makesTry_3 18 rfl rfl)
theorem dX4_makesTry_88 : DC mX4_makesTry 88 = .ok (.iconst 4, 1) := dk_7 (dk_at dksX4_makesTry_3 19 rfl rfl)
theorem dX4_makesTry_89 : DC mX4_makesTry 89 = .ok (.iconst 0, 1) := dk_3 (dk_at dksX4_makesTry_3 20 rfl rfl)
theorem dX4_makesTry_90 : DC mX4_makesTry 90 = .ok (.invokevirtual 75, 3) := dk_182 0 75 (dk_at dksX4_makesTry_3 21 rfl rfl)
theorem dX4_makesTry_93 : DC mX4_makesTry 93 = .ok (.aload_n 0, 1) := dk_42 (dk_at dksX4_makesTry_4 0 rfl rfl)
theorem dX4_makesTry_94 : DC mX4_makesTry 94 = .ok (.iload_n 1, 1) := dk_27 (dk_at dksX4_makesTry_4 1 rfl rfl)
theorem dX4_makesTry_95 : DC mX4_makesTry 95 = .ok (.iconst 0, 1) := dk_3 (dk_at dksX4_makesTry_4 2 rfl rfl)
theorem dX4_makesTry_96 : DC mX4_makesTry 96 = .ok (.invokevirtual 64, 3) := dk_182 0 64 (dk_at dksX4_makesTry_4 3 rfl rfl)
theorem dX4_makesTry_99 : DC mX4_makesTry 99 = .ok (.iconst 1, 1) := dk_4 (dk_at dksX4_makesTry_4 6 rfl rfl)
theorem dX4_makesTry_100 : DC mX4_makesTry 100 = .ok (.if_icmp .ne 11, 3) := dk_160 0 11 (dk_at dksX4_makesTry_4 7 rfl rfl)
theorem dX4_makesTry_103 : DC mX4_makesTry 103 = .ok (.aload_n 0, 1) := dk_42 (dk_at dksX4_makesTry_4 10 rfl rfl)
theorem dX4_makesTry_104 : DC mX4_makesTry 104 = .ok (.iload_n 1, 1) := dk_27 (dk_at dksX4_makesTry_4 11 rfl rfl)
theorem dX4_makesTry_105 : DC mX4_makesTry 105 = .ok (.invokevirtual 157, 3) := dk_182 0 157 (dk_at dksX4_makesTry_4 12 rfl rfl)
theorem dX4_makesTry_108 : DC mX4_makesTry 108 = .ok (.goto 8, 3) := dk_167 0 8 (dk_at dksX4_makesTry_4 15 rfl rfl)
theorem dX4_makesTry_111 : DC mX4_makesTry 111 = .ok (.aload_n 0, 1) := dk_42 (dk_at dksX4_makesTry_4 18 rfl rfl)
theorem dX4_makesTry_112 : DC mX4_makesTry 112 = .ok (.iload_n 1, 1) := dk_27 (dk_at dksX4_makesTry_4 19 rfl rfl)
theorem dX4_makesTry_113 : DC mX4_makesTry 113 = .ok (.invokevirtual 160, 3) := dk_182 0 160 (dk_at dksX4_makesTry_4 20 rfl rfl)
theorem dX4_makesTry_116 : DC mX4_makesTry 116 = .ok (.return_, 1) := dk_177 (dk_at dksX4_makesTry_4 23 rfl rfl)
abbrev cX4_nextFault : ByteArray := prog_13_method_40_code
def yX4_nextFault : MethodName := ⟨RX4, "nextFault", "(I)I"⟩
def mX4_nextFault : MI := (⟨"TheatreSagaModel", "nextFault", "(I)I"⟩, prog_13_method_40_code, 3, (Option.some FieldType.int), none, 42, 4)
theorem oX4_nextFault : mO mX4_nextFault = 42 := rfl
theorem lX4_nextFault : mL mX4_nextFault = 3 := rfl
theorem rX4_nextFault : mR mX4_nextFault = (Option.some FieldType.int) := rfl
theorem vX4_nextFault : mV mX4_nextFault = 4 := rfl
theorem nX4_nextFault : (mY mX4_nextFault).name = "nextFault" := rfl
theorem hX4_nextFault : mH mX4_nextFault = none := rfl
theorem kX4_nextFault : MOk mX4_nextFault := ⟨q2609, q91, by decide +kernel⟩
theorem gX4_nextFault : plainName (mY mX4_nextFault).cls = true ∧ (mY mX4_nextFault).cls = "TheatreSagaModel" := ⟨by decide +kernel, rfl⟩
def dkwX4_nextFault_4 : List UInt8 := [172, 42, 27, 28, 182, 0, 148, 42, 180, 0, 9, 4, 46, 164, 0, 7, 6, 167, 0, 4, 3, 172]
abbrev dktX4_nextFault_4 : List UInt8 := dkwX4_nextFault_4 ++ []
def dkwX4_nextFault_3 : List UInt8 := [182, 0, 107, 42, 27, 28, 5, 182, 0, 107, 182, 0, 145, 42, 27, 28, 6, 182, 0, 107, 162, 0, 5, 5]
abbrev dktX4_nextFault_3 : List UInt8 := dkwX4_nextFault_3 ++ dktX4_nextFault_4
def dkwX4_nextFault_2 : List UInt8 := [3, 182, 0, 64, 5, 160, 0, 5, 3, 172, 42, 42, 27, 28, 3, 182, 0, 107, 42, 27, 28, 4]
abbrev dktX4_nextFault_2 : List UInt8 := dkwX4_nextFault_2 ++ dktX4_nextFault_3
def dkwX4_nextFault_1 : List UInt8 := [182, 0, 64, 4, 100, 61, 42, 42, 27, 28, 4, 182, 0, 107, 182, 0, 68, 153, 0, 5, 4, 172, 42, 27]
abbrev dktX4_nextFault_1 : List UInt8 := dkwX4_nextFault_1 ++ dktX4_nextFault_2
def dkwX4_nextFault_0 : List UInt8 := [42, 27, 3, 182, 0, 64, 4, 160, 0, 12, 42, 27, 6, 182, 0, 64, 167, 0, 11, 42, 27, 6]
abbrev dktX4_nextFault_0 : List UInt8 := dkwX4_nextFault_0 ++ dktX4_nextFault_1
theorem dksX4_nextFault_0 : cX4_nextFault.data.toList.drop 0 = dktX4_nextFault_0 := by decide +kernel
theorem dksX4_nextFault_1 : cX4_nextFault.data.toList.drop 22 = dktX4_nextFault_1 := dk_seg dksX4_nextFault_0 22 rfl rfl
theorem dksX4_nextFault_2 : cX4_nextFault.data.toList.drop 46 = dktX4_nextFault_2 := dk_seg dksX4_nextFault_1 24 rfl rfl
theorem dksX4_nextFault_3 : cX4_nextFault.data.toList.drop 68 = dktX4_nextFault_3 := dk_seg dksX4_nextFault_2 22 rfl rfl
theorem dksX4_nextFault_4 : cX4_nextFault.data.toList.drop 92 = dktX4_nextFault_4 := dk_seg dksX4_nextFault_3 24 rfl rfl
theorem dX4_nextFault_0 : DC mX4_nextFault 0 = .ok (.aload_n 0, 1) := dk_42 (dk_at dksX4_nextFault_0 0 rfl rfl)
theorem dX4_nextFault_1 : DC mX4_nextFault 1 = .ok (.iload_n 1, 1) := dk_27 (dk_at dksX4_nextFault_0 1 rfl rfl)
theorem dX4_nextFault_2 : DC mX4_nextFault 2 = .ok (.iconst 0, 1) := dk_3 (dk_at dksX4_nextFault_0 2 rfl rfl)
theorem dX4_nextFault_3 : DC mX4_nextFault 3 = .ok (.invokevirtual 64, 3) := dk_182 0 64 (dk_at dksX4_nextFault_0 3 rfl rfl)
theorem dX4_nextFault_6 : DC mX4_nextFault 6 = .ok (.iconst 1, 1) := dk_4 (dk_at dksX4_nextFault_0 6 rfl rfl)
theorem dX4_nextFault_7 : DC mX4_nextFault 7 = .ok (.if_icmp .ne 12, 3) := dk_160 0 12 (dk_at dksX4_nextFault_0 7 rfl rfl)
theorem dX4_nextFault_10 : DC mX4_nextFault 10 = .ok (.aload_n 0, 1) := dk_42 (dk_at dksX4_nextFault_0 10 rfl rfl)
theorem dX4_nextFault_11 : DC mX4_nextFault 11 = .ok (.iload_n 1, 1) := dk_27 (dk_at dksX4_nextFault_0 11 rfl rfl)
theorem dX4_nextFault_12 : DC mX4_nextFault 12 = .ok (.iconst 3, 1) := dk_6 (dk_at dksX4_nextFault_0 12 rfl rfl)
theorem dX4_nextFault_13 : DC mX4_nextFault 13 = .ok (.invokevirtual 64, 3) := dk_182 0 64 (dk_at dksX4_nextFault_0 13 rfl rfl)
theorem dX4_nextFault_16 : DC mX4_nextFault 16 = .ok (.goto 11, 3) := dk_167 0 11 (dk_at dksX4_nextFault_0 16 rfl rfl)
theorem dX4_nextFault_19 : DC mX4_nextFault 19 = .ok (.aload_n 0, 1) := dk_42 (dk_at dksX4_nextFault_0 19 rfl rfl)
theorem dX4_nextFault_20 : DC mX4_nextFault 20 = .ok (.iload_n 1, 1) := dk_27 (dk_at dksX4_nextFault_0 20 rfl rfl)
theorem dX4_nextFault_21 : DC mX4_nextFault 21 = .ok (.iconst 3, 1) := dk_6 (dk_at dksX4_nextFault_0 21 rfl rfl)
theorem dX4_nextFault_22 : DC mX4_nextFault 22 = .ok (.invokevirtual 64, 3) := dk_182 0 64 (dk_at dksX4_nextFault_1 0 rfl rfl)
theorem dX4_nextFault_25 : DC mX4_nextFault 25 = .ok (.iconst 1, 1) := dk_4 (dk_at dksX4_nextFault_1 3 rfl rfl)
theorem dX4_nextFault_26 : DC mX4_nextFault 26 = .ok (.isub, 1) := dk_100 (dk_at dksX4_nextFault_1 4 rfl rfl)
theorem dX4_nextFault_27 : DC mX4_nextFault 27 = .ok (.istore_n 2, 1) := dk_61 (dk_at dksX4_nextFault_1 5 rfl rfl)
theorem dX4_nextFault_28 : DC mX4_nextFault 28 = .ok (.aload_n 0, 1) := dk_42 (dk_at dksX4_nextFault_1 6 rfl rfl)
theorem dX4_nextFault_29 : DC mX4_nextFault 29 = .ok (.aload_n 0, 1) := dk_42 (dk_at dksX4_nextFault_1 7 rfl rfl)
theorem dX4_nextFault_30 : DC mX4_nextFault 30 = .ok (.iload_n 1, 1) := dk_27 (dk_at dksX4_nextFault_1 8 rfl rfl)
theorem dX4_nextFault_31 : DC mX4_nextFault 31 = .ok (.iload_n 2, 1) := dk_28 (dk_at dksX4_nextFault_1 9 rfl rfl)
theorem dX4_nextFault_32 : DC mX4_nextFault 32 = .ok (.iconst 1, 1) := dk_4 (dk_at dksX4_nextFault_1 10 rfl rfl)
theorem dX4_nextFault_33 : DC mX4_nextFault 33 = .ok (.invokevirtual 107, 3) := dk_182 0 107 (dk_at dksX4_nextFault_1 11 rfl rfl)
theorem dX4_nextFault_36 : DC mX4_nextFault 36 = .ok (.invokevirtual 68, 3) := dk_182 0 68 (dk_at dksX4_nextFault_1 14 rfl rfl)
theorem dX4_nextFault_39 : DC mX4_nextFault 39 = .ok (.ifCond .eq 5, 3) := dk_153 0 5 (dk_at dksX4_nextFault_1 17 rfl rfl)
theorem dX4_nextFault_42 : DC mX4_nextFault 42 = .ok (.iconst 1, 1) := dk_4 (dk_at dksX4_nextFault_1 20 rfl rfl)
theorem dX4_nextFault_43 : DC mX4_nextFault 43 = .ok (.ireturn, 1) := dk_172 (dk_at dksX4_nextFault_1 21 rfl rfl)
theorem dX4_nextFault_44 : DC mX4_nextFault 44 = .ok (.aload_n 0, 1) := dk_42 (dk_at dksX4_nextFault_1 22 rfl rfl)
theorem dX4_nextFault_45 : DC mX4_nextFault 45 = .ok (.iload_n 1, 1) := dk_27 (dk_at dksX4_nextFault_1 23 rfl rfl)
theorem dX4_nextFault_46 : DC mX4_nextFault 46 = .ok (.iconst 0, 1) := dk_3 (dk_at dksX4_nextFault_2 0 rfl rfl)
theorem dX4_nextFault_47 : DC mX4_nextFault 47 = .ok (.invokevirtual 64, 3) := dk_182 0 64 (dk_at dksX4_nextFault_2 1 rfl rfl)
theorem dX4_nextFault_50 : DC mX4_nextFault 50 = .ok (.iconst 2, 1) := dk_5 (dk_at dksX4_nextFault_2 4 rfl rfl)
theorem dX4_nextFault_51 : DC mX4_nextFault 51 = .ok (.if_icmp .ne 5, 3) := dk_160 0 5 (dk_at dksX4_nextFault_2 5 rfl rfl)
theorem dX4_nextFault_54 : DC mX4_nextFault 54 = .ok (.iconst 0, 1) := dk_3 (dk_at dksX4_nextFault_2 8 rfl rfl)
theorem dX4_nextFault_55 : DC mX4_nextFault 55 = .ok (.ireturn, 1) := dk_172 (dk_at dksX4_nextFault_2 9 rfl rfl)
theorem dX4_nextFault_56 : DC mX4_nextFault 56 = .ok (.aload_n 0, 1) := dk_42 (dk_at dksX4_nextFault_2 10 rfl rfl)
theorem dX4_nextFault_57 : DC mX4_nextFault 57 = .ok (.aload_n 0, 1) := dk_42 (dk_at dksX4_nextFault_2 11 rfl rfl)
theorem dX4_nextFault_58 : DC mX4_nextFault 58 = .ok (.iload_n 1, 1) := dk_27 (dk_at dksX4_nextFault_2 12 rfl rfl)
theorem dX4_nextFault_59 : DC mX4_nextFault 59 = .ok (.iload_n 2, 1) := dk_28 (dk_at dksX4_nextFault_2 13 rfl rfl)
theorem dX4_nextFault_60 : DC mX4_nextFault 60 = .ok (.iconst 0, 1) := dk_3 (dk_at dksX4_nextFault_2 14 rfl rfl)
theorem dX4_nextFault_61 : DC mX4_nextFault 61 = .ok (.invokevirtual 107, 3) := dk_182 0 107 (dk_at dksX4_nextFault_2 15 rfl rfl)
theorem dX4_nextFault_64 : DC mX4_nextFault 64 = .ok (.aload_n 0, 1) := dk_42 (dk_at dksX4_nextFault_2 18 rfl rfl)
theorem dX4_nextFault_65 : DC mX4_nextFault 65 = .ok (.iload_n 1, 1) := dk_27 (dk_at dksX4_nextFault_2 19 rfl rfl)
theorem dX4_nextFault_66 : DC mX4_nextFault 66 = .ok (.iload_n 2, 1) := dk_28 (dk_at dksX4_nextFault_2 20 rfl rfl)
theorem dX4_nextFault_67 : DC mX4_nextFault 67 = .ok (.iconst 1, 1) := dk_4 (dk_at dksX4_nextFault_2 21 rfl rfl)
theorem dX4_nextFault_68 : DC mX4_nextFault 68 = .ok (.invokevirtual 107, 3) := dk_182 0 107 (dk_at dksX4_nextFault_3 0 rfl rfl)
theorem dX4_nextFault_71 : DC mX4_nextFault 71 = .ok (.aload_n 0, 1) := dk_42 (dk_at dksX4_nextFault_3 3 rfl rfl)
theorem dX4_nextFault_72 : DC mX4_nextFault 72 = .ok (.iload_n 1, 1) := dk_27 (dk_at dksX4_nextFault_3 4 rfl rfl)
theorem dX4_nextFault_73 : DC mX4_nextFault 73 = .ok (.iload_n 2, 1) := dk_28 (dk_at dksX4_nextFault_3 5 rfl rfl)
theorem dX4_nextFault_74 : DC mX4_nextFault 74 = .ok (.iconst 2, 1) := dk_5 (dk_at dksX4_nextFault_3 6 rfl rfl)
theorem dX4_nextFault_75 : DC mX4_nextFault 75 = .ok (.invokevirtual 107, 3) := dk_182 0 107 (dk_at dksX4_nextFault_3 7 rfl rfl)
theorem dX4_nextFault_78 : DC mX4_nextFault 78 = .ok (.invokevirtual 145, 3) := dk_182 0 145 (dk_at dksX4_nextFault_3 10 rfl rfl)
theorem dX4_nextFault_81 : DC mX4_nextFault 81 = .ok (.aload_n 0, 1) := dk_42 (dk_at dksX4_nextFault_3 13 rfl rfl)
theorem dX4_nextFault_82 : DC mX4_nextFault 82 = .ok (.iload_n 1, 1) := dk_27 (dk_at dksX4_nextFault_3 14 rfl rfl)
theorem dX4_nextFault_83 : DC mX4_nextFault 83 = .ok (.iload_n 2, 1) := dk_28 (dk_at dksX4_nextFault_3 15 rfl rfl)
theorem dX4_nextFault_84 : DC mX4_nextFault 84 = .ok (.iconst 3, 1) := dk_6 (dk_at dksX4_nextFault_3 16 rfl rfl)
theorem dX4_nextFault_85 : DC mX4_nextFault 85 = .ok (.invokevirtual 107, 3) := dk_182 0 107 (dk_at dksX4_nextFault_3 17 rfl rfl)
theorem dX4_nextFault_88 : DC mX4_nextFault 88 = .ok (.if_icmp .ge 5, 3) := dk_162 0 5 (dk_at dksX4_nextFault_3 20 rfl rfl)
theorem dX4_nextFault_91 : DC mX4_nextFault 91 = .ok (.iconst 2, 1) := dk_5 (dk_at dksX4_nextFault_3 23 rfl rfl)
theorem dX4_nextFault_92 : DC mX4_nextFault 92 = .ok (.ireturn, 1) := dk_172 (dk_at dksX4_nextFault_4 0 rfl rfl)
theorem dX4_nextFault_93 : DC mX4_nextFault 93 = .ok (.aload_n 0, 1) := dk_42 (dk_at dksX4_nextFault_4 1 rfl rfl)
theorem dX4_nextFault_94 : DC mX4_nextFault 94 = .ok (.iload_n 1, 1) := dk_27 (dk_at dksX4_nextFault_4 2 rfl rfl)
theorem dX4_nextFault_95 : DC mX4_nextFault 95 = .ok (.iload_n 2, 1) := dk_28 (dk_at dksX4_nextFault_4 3 rfl rfl)
theorem dX4_nextFault_96 : DC mX4_nextFault 96 = .ok (.invokevirtual 148, 3) := dk_182 0 148 (dk_at dksX4_nextFault_4 4 rfl rfl)
theorem dX4_nextFault_99 : DC mX4_nextFault 99 = .ok (.aload_n 0, 1) := dk_42 (dk_at dksX4_nextFault_4 7 rfl rfl)
theorem dX4_nextFault_100 : DC mX4_nextFault 100 = .ok (.getfield 9, 3) := dk_180 0 9 (dk_at dksX4_nextFault_4 8 rfl rfl)
theorem dX4_nextFault_103 : DC mX4_nextFault 103 = .ok (.iconst 1, 1) := dk_4 (dk_at dksX4_nextFault_4 11 rfl rfl)
theorem dX4_nextFault_104 : DC mX4_nextFault 104 = .ok (.iaload, 1) := dk_46 (dk_at dksX4_nextFault_4 12 rfl rfl)
theorem dX4_nextFault_105 : DC mX4_nextFault 105 = .ok (.if_icmp .le 7, 3) := dk_164 0 7 (dk_at dksX4_nextFault_4 13 rfl rfl)
theorem dX4_nextFault_108 : DC mX4_nextFault 108 = .ok (.iconst 3, 1) := dk_6 (dk_at dksX4_nextFault_4 16 rfl rfl)
theorem dX4_nextFault_109 : DC mX4_nextFault 109 = .ok (.goto 4, 3) := dk_167 0 4 (dk_at dksX4_nextFault_4 17 rfl rfl)
theorem dX4_nextFault_112 : DC mX4_nextFault 112 = .ok (.iconst 0, 1) := dk_3 (dk_at dksX4_nextFault_4 20 rfl rfl)
theorem dX4_nextFault_113 : DC mX4_nextFault 113 = .ok (.ireturn, 1) := dk_172 (dk_at dksX4_nextFault_4 21 rfl rfl)
abbrev cX4_leftOf : ByteArray := prog_13_method_38_code
def yX4_leftOf : MethodName := ⟨RX4, "leftOf", "(III)I"⟩
def mX4_leftOf : MI := (⟨"TheatreSagaModel", "leftOf", "(III)I"⟩, prog_13_method_38_code, 7, (Option.some FieldType.int), none, 42, 3)
theorem oX4_leftOf : mO mX4_leftOf = 42 := rfl
theorem lX4_leftOf : mL mX4_leftOf = 7 := rfl
theorem rX4_leftOf : mR mX4_leftOf = (Option.some FieldType.int) := rfl
theorem vX4_leftOf : mV mX4_leftOf = 3 := rfl
theorem nX4_leftOf : (mY mX4_leftOf).name = "leftOf" := rfl
theorem hX4_leftOf : mH mX4_leftOf = none := rfl
theorem kX4_leftOf : MOk mX4_leftOf := ⟨q2613, q91, by decide +kernel⟩
theorem gX4_leftOf : plainName (mY mX4_leftOf).cls = true ∧ (mY mX4_leftOf).cls = "TheatreSagaModel" := ⟨by decide +kernel, rfl⟩
def dkwX4_leftOf_4 : List UInt8 := [167, 255, 188, 132, 5, 1, 167, 255, 167, 21, 4, 172]
abbrev dktX4_leftOf_4 : List UInt8 := dkwX4_leftOf_4 ++ []
def dkwX4_leftOf_3 : List UInt8 := [182, 0, 107, 29, 160, 0, 17, 21, 4, 42, 21, 5, 21, 6, 6, 182, 0, 107, 100, 54, 4, 132, 6, 1]
abbrev dktX4_leftOf_3 : List UInt8 := dkwX4_leftOf_3 ++ dktX4_leftOf_4
def dkwX4_leftOf_2 : List UInt8 := [160, 0, 43, 42, 21, 5, 21, 6, 4, 182, 0, 107, 28, 160, 0, 30, 42, 21, 5, 21, 6, 5]
abbrev dktX4_leftOf_2 : List UInt8 := dkwX4_leftOf_2 ++ dktX4_leftOf_3
def dkwX4_leftOf_1 : List UInt8 := [21, 6, 42, 21, 5, 6, 182, 0, 64, 162, 0, 62, 42, 21, 5, 21, 6, 3, 182, 0, 107, 27]
abbrev dktX4_leftOf_1 : List UInt8 := dkwX4_leftOf_1 ++ dktX4_leftOf_2
def dkwX4_leftOf_0 : List UInt8 := [27, 184, 0, 104, 54, 4, 3, 54, 5, 21, 5, 42, 180, 0, 9, 16, 8, 46, 162, 0, 83, 3, 54, 6]
abbrev dktX4_leftOf_0 : List UInt8 := dkwX4_leftOf_0 ++ dktX4_leftOf_1
theorem dksX4_leftOf_0 : cX4_leftOf.data.toList.drop 0 = dktX4_leftOf_0 := by decide +kernel
theorem dksX4_leftOf_1 : cX4_leftOf.data.toList.drop 24 = dktX4_leftOf_1 := dk_seg dksX4_leftOf_0 24 rfl rfl
theorem dksX4_leftOf_2 : cX4_leftOf.data.toList.drop 46 = dktX4_leftOf_2 := dk_seg dksX4_leftOf_1 22 rfl rfl
theorem dksX4_leftOf_3 : cX4_leftOf.data.toList.drop 68 = dktX4_leftOf_3 := dk_seg dksX4_leftOf_2 22 rfl rfl
theorem dksX4_leftOf_4 : cX4_leftOf.data.toList.drop 92 = dktX4_leftOf_4 := dk_seg dksX4_leftOf_3 24 rfl rfl
theorem dX4_leftOf_0 : DC mX4_leftOf 0 = .ok (.iload_n 1, 1) := dk_27 (dk_at dksX4_leftOf_0 0 rfl rfl)
theorem dX4_leftOf_1 : DC mX4_leftOf 1 = .ok (.invokestatic 104, 3) := dk_184 0 104 (dk_at dksX4_leftOf_0 1 rfl rfl)
theorem dX4_leftOf_4 : DC mX4_leftOf 4 = .ok (.istore 4, 2) := dk_54 4 (dk_at dksX4_leftOf_0 4 rfl rfl)
theorem dX4_leftOf_6 : DC mX4_leftOf 6 = .ok (.iconst 0, 1) := dk_3 (dk_at dksX4_leftOf_0 6 rfl rfl)
theorem dX4_leftOf_7 : DC mX4_leftOf 7 = .ok (.istore 5, 2) := dk_54 5 (dk_at dksX4_leftOf_0 7 rfl rfl)
theorem dX4_leftOf_9 : DC mX4_leftOf 9 = .ok (.iload 5, 2) := dk_21 5 (dk_at dksX4_leftOf_0 9 rfl rfl)
theorem dX4_leftOf_11 : DC mX4_leftOf 11 = .ok (.aload_n 0, 1) := dk_42 (dk_at dksX4_leftOf_0 11 rfl rfl)
theorem dX4_leftOf_12 : DC mX4_leftOf 12 = .ok (.getfield 9, 3) := dk_180 0 9 (dk_at dksX4_leftOf_0 12 rfl rfl)
theorem dX4_leftOf_15 : DC mX4_leftOf 15 = .ok (.bipush 8, 2) := dk_16 8 (dk_at dksX4_leftOf_0 15 rfl rfl)
theorem dX4_leftOf_17 : DC mX4_leftOf 17 = .ok (.iaload, 1) := dk_46 (dk_at dksX4_leftOf_0 17 rfl rfl)
theorem dX4_leftOf_18 : DC mX4_leftOf 18 = .ok (.if_icmp .ge 83, 3) := dk_162 0 83 (dk_at dksX4_leftOf_0 18 rfl rfl)
theorem dX4_leftOf_21 : DC mX4_leftOf 21 = .ok (.iconst 0, 1) := dk_3 (dk_at dksX4_leftOf_0 21 rfl rfl)
theorem dX4_leftOf_22 : DC mX4_leftOf 22 = .ok (.istore 6, 2) := dk_54 6 (dk_at dksX4_leftOf_0 22 rfl rfl)
theorem dX4_leftOf_24 : DC mX4_leftOf 24 = .ok (.iload 6, 2) := dk_21 6 (dk_at dksX4_leftOf_1 0 rfl rfl)
theorem dX4_leftOf_26 : DC mX4_leftOf 26 = .ok (.aload_n 0, 1) := dk_42 (dk_at dksX4_leftOf_1 2 rfl rfl)
theorem dX4_leftOf_27 : DC mX4_leftOf 27 = .ok (.iload 5, 2) := dk_21 5 (dk_at dksX4_leftOf_1 3 rfl rfl)
theorem dX4_leftOf_29 : DC mX4_leftOf 29 = .ok (.iconst 3, 1) := dk_6 (dk_at dksX4_leftOf_1 5 rfl rfl)
theorem dX4_leftOf_30 : DC mX4_leftOf 30 = .ok (.invokevirtual 64, 3) := dk_182 0 64 (dk_at dksX4_leftOf_1 6 rfl rfl)
theorem dX4_leftOf_33 : DC mX4_leftOf 33 = .ok (.if_icmp .ge 62, 3) := dk_162 0 62 (dk_at dksX4_leftOf_1 9 rfl rfl)
theorem dX4_leftOf_36 : DC mX4_leftOf 36 = .ok (.aload_n 0, 1) := dk_42 (dk_at dksX4_leftOf_1 12 rfl rfl)
theorem dX4_leftOf_37 : DC mX4_leftOf 37 = .ok (.iload 5, 2) := dk_21 5 (dk_at dksX4_leftOf_1 13 rfl rfl)
theorem dX4_leftOf_39 : DC mX4_leftOf 39 = .ok (.iload 6, 2) := dk_21 6 (dk_at dksX4_leftOf_1 15 rfl rfl)
theorem dX4_leftOf_41 : DC mX4_leftOf 41 = .ok (.iconst 0, 1) := dk_3 (dk_at dksX4_leftOf_1 17 rfl rfl)
theorem dX4_leftOf_42 : DC mX4_leftOf 42 = .ok (.invokevirtual 107, 3) := dk_182 0 107 (dk_at dksX4_leftOf_1 18 rfl rfl)
theorem dX4_leftOf_45 : DC mX4_leftOf 45 = .ok (.iload_n 1, 1) := dk_27 (dk_at dksX4_leftOf_1 21 rfl rfl)
theorem dX4_leftOf_46 : DC mX4_leftOf 46 = .ok (.if_icmp .ne 43, 3) := dk_160 0 43 (dk_at dksX4_leftOf_2 0 rfl rfl)
theorem dX4_leftOf_49 : DC mX4_leftOf 49 = .ok (.aload_n 0, 1) := dk_42 (dk_at dksX4_leftOf_2 3 rfl rfl)
theorem dX4_leftOf_50 : DC mX4_leftOf 50 = .ok (.iload 5, 2) := dk_21 5 (dk_at dksX4_leftOf_2 4 rfl rfl)
theorem dX4_leftOf_52 : DC mX4_leftOf 52 = .ok (.iload 6, 2) := dk_21 6 (dk_at dksX4_leftOf_2 6 rfl rfl)
theorem dX4_leftOf_54 : DC mX4_leftOf 54 = .ok (.iconst 1, 1) := dk_4 (dk_at dksX4_leftOf_2 8 rfl rfl)
theorem dX4_leftOf_55 : DC mX4_leftOf 55 = .ok (.invokevirtual 107, 3) := dk_182 0 107 (dk_at dksX4_leftOf_2 9 rfl rfl)
theorem dX4_leftOf_58 : DC mX4_leftOf 58 = .ok (.iload_n 2, 1) := dk_28 (dk_at dksX4_leftOf_2 12 rfl rfl)
theorem dX4_leftOf_59 : DC mX4_leftOf 59 = .ok (.if_icmp .ne 30, 3) := dk_160 0 30 (dk_at dksX4_leftOf_2 13 rfl rfl)
theorem dX4_leftOf_62 : DC mX4_leftOf 62 = .ok (.aload_n 0, 1) := dk_42 (dk_at dksX4_leftOf_2 16 rfl rfl)
theorem dX4_leftOf_63 : DC mX4_leftOf 63 = .ok (.iload 5, 2) := dk_21 5 (dk_at dksX4_leftOf_2 17 rfl rfl)
theorem dX4_leftOf_65 : DC mX4_leftOf 65 = .ok (.iload 6, 2) := dk_21 6 (dk_at dksX4_leftOf_2 19 rfl rfl)
theorem dX4_leftOf_67 : DC mX4_leftOf 67 = .ok (.iconst 2, 1) := dk_5 (dk_at dksX4_leftOf_2 21 rfl rfl)
theorem dX4_leftOf_68 : DC mX4_leftOf 68 = .ok (.invokevirtual 107, 3) := dk_182 0 107 (dk_at dksX4_leftOf_3 0 rfl rfl)
theorem dX4_leftOf_71 : DC mX4_leftOf 71 = .ok (.iload_n 3, 1) := dk_29 (dk_at dksX4_leftOf_3 3 rfl rfl)
theorem dX4_leftOf_72 : DC mX4_leftOf 72 = .ok (.if_icmp .ne 17, 3) := dk_160 0 17 (dk_at dksX4_leftOf_3 4 rfl rfl)
theorem dX4_leftOf_75 : DC mX4_leftOf 75 = .ok (.iload 4, 2) := dk_21 4 (dk_at dksX4_leftOf_3 7 rfl rfl)
theorem dX4_leftOf_77 : DC mX4_leftOf 77 = .ok (.aload_n 0, 1) := dk_42 (dk_at dksX4_leftOf_3 9 rfl rfl)
theorem dX4_leftOf_78 : DC mX4_leftOf 78 = .ok (.iload 5, 2) := dk_21 5 (dk_at dksX4_leftOf_3 10 rfl rfl)
theorem dX4_leftOf_80 : DC mX4_leftOf 80 = .ok (.iload 6, 2) := dk_21 6 (dk_at dksX4_leftOf_3 12 rfl rfl)
theorem dX4_leftOf_82 : DC mX4_leftOf 82 = .ok (.iconst 3, 1) := dk_6 (dk_at dksX4_leftOf_3 14 rfl rfl)
theorem dX4_leftOf_83 : DC mX4_leftOf 83 = .ok (.invokevirtual 107, 3) := dk_182 0 107 (dk_at dksX4_leftOf_3 15 rfl rfl)
theorem dX4_leftOf_86 : DC mX4_leftOf 86 = .ok (.isub, 1) := dk_100 (dk_at dksX4_leftOf_3 18 rfl rfl)
theorem dX4_leftOf_87 : DC mX4_leftOf 87 = .ok (.istore 4, 2) := dk_54 4 (dk_at dksX4_leftOf_3 19 rfl rfl)
theorem dX4_leftOf_89 : DC mX4_leftOf 89 = .ok (.iinc 6 1, 3) := dk_132 6 1 (dk_at dksX4_leftOf_3 21 rfl rfl)
theorem dX4_leftOf_92 : DC mX4_leftOf 92 = .ok (.goto (-68), 3) := dk_167 255 188 (dk_at dksX4_leftOf_4 0 rfl rfl)
theorem dX4_leftOf_95 : DC mX4_leftOf 95 = .ok (.iinc 5 1, 3) := dk_132 5 1 (dk_at dksX4_leftOf_4 3 rfl rfl)
theorem dX4_leftOf_98 : DC mX4_leftOf 98 = .ok (.goto (-89), 3) := dk_167 255 167 (dk_at dksX4_leftOf_4 6 rfl rfl)
theorem dX4_leftOf_101 : DC mX4_leftOf 101 = .ok (.iload 4, 2) := dk_21 4 (dk_at dksX4_leftOf_4 9 rfl rfl)
theorem dX4_leftOf_103 : DC mX4_leftOf 103 = .ok (.ireturn, 1) := dk_172 (dk_at dksX4_leftOf_4 11 rfl rfl)
abbrev cX4_price : ByteArray := prog_13_method_39_code
def yX4_price : MethodName := ⟨RX4, "price", "(II)I"⟩
def mX4_price : MI := (⟨"TheatreSagaModel", "price", "(II)I"⟩, prog_13_method_39_code, 4, (Option.some FieldType.int), none, 42, 3)
theorem oX4_price : mO mX4_price = 42 := rfl
theorem lX4_price : mL mX4_price = 4 := rfl
theorem rX4_price : mR mX4_price = (Option.some FieldType.int) := rfl
theorem vX4_price : mV mX4_price = 3 := rfl
theorem nX4_price : (mY mX4_price).name = "price" := rfl
theorem hX4_price : mH mX4_price = none := rfl
theorem kX4_price : MOk mX4_price := ⟨q2617, q91, by decide +kernel⟩
theorem gX4_price : plainName (mY mX4_price).cls = true ∧ (mY mX4_price).cls = "TheatreSagaModel" := ⟨by decide +kernel, rfl⟩
def dkwX4_price_2 : List UInt8 := [172]
abbrev dktX4_price_2 : List UInt8 := dkwX4_price_2 ++ []
def dkwX4_price_1 : List UInt8 := [167, 0, 4, 4, 42, 27, 28, 6, 182, 0, 107, 104, 42, 42, 27, 28, 4, 182, 0, 107, 182, 0, 139, 104]
abbrev dktX4_price_1 : List UInt8 := dkwX4_price_1 ++ dktX4_price_2
def dkwX4_price_0 : List UInt8 := [42, 27, 28, 3, 182, 0, 107, 62, 29, 154, 0, 8, 16, 6, 167, 0, 13, 29, 4, 160, 0, 7, 5]
abbrev dktX4_price_0 : List UInt8 := dkwX4_price_0 ++ dktX4_price_1
theorem dksX4_price_0 : cX4_price.data.toList.drop 0 = dktX4_price_0 := by decide +kernel
theorem dksX4_price_1 : cX4_price.data.toList.drop 23 = dktX4_price_1 := dk_seg dksX4_price_0 23 rfl rfl
theorem dksX4_price_2 : cX4_price.data.toList.drop 47 = dktX4_price_2 := dk_seg dksX4_price_1 24 rfl rfl
theorem dX4_price_0 : DC mX4_price 0 = .ok (.aload_n 0, 1) := dk_42 (dk_at dksX4_price_0 0 rfl rfl)
theorem dX4_price_1 : DC mX4_price 1 = .ok (.iload_n 1, 1) := dk_27 (dk_at dksX4_price_0 1 rfl rfl)
theorem dX4_price_2 : DC mX4_price 2 = .ok (.iload_n 2, 1) := dk_28 (dk_at dksX4_price_0 2 rfl rfl)
theorem dX4_price_3 : DC mX4_price 3 = .ok (.iconst 0, 1) := dk_3 (dk_at dksX4_price_0 3 rfl rfl)
theorem dX4_price_4 : DC mX4_price 4 = .ok (.invokevirtual 107, 3) := dk_182 0 107 (dk_at dksX4_price_0 4 rfl rfl)
theorem dX4_price_7 : DC mX4_price 7 = .ok (.istore_n 3, 1) := dk_62 (dk_at dksX4_price_0 7 rfl rfl)
theorem dX4_price_8 : DC mX4_price 8 = .ok (.iload_n 3, 1) := dk_29 (dk_at dksX4_price_0 8 rfl rfl)
theorem dX4_price_9 : DC mX4_price 9 = .ok (.ifCond .ne 8, 3) := dk_154 0 8 (dk_at dksX4_price_0 9 rfl rfl)
theorem dX4_price_12 : DC mX4_price 12 = .ok (.bipush 6, 2) := dk_16 6 (dk_at dksX4_price_0 12 rfl rfl)
theorem dX4_price_14 : DC mX4_price 14 = .ok (.goto 13, 3) := dk_167 0 13 (dk_at dksX4_price_0 14 rfl rfl)
theorem dX4_price_17 : DC mX4_price 17 = .ok (.iload_n 3, 1) := dk_29 (dk_at dksX4_price_0 17 rfl rfl)
theorem dX4_price_18 : DC mX4_price 18 = .ok (.iconst 1, 1) := dk_4 (dk_at dksX4_price_0 18 rfl rfl)
theorem dX4_price_19 : DC mX4_price 19 = .ok (.if_icmp .ne 7, 3) := dk_160 0 7 (dk_at dksX4_price_0 19 rfl rfl)
theorem dX4_price_22 : DC mX4_price 22 = .ok (.iconst 2, 1) := dk_5 (dk_at dksX4_price_0 22 rfl rfl)
theorem dX4_price_23 : DC mX4_price 23 = .ok (.goto 4, 3) := dk_167 0 4 (dk_at dksX4_price_1 0 rfl rfl)
theorem dX4_price_26 : DC mX4_price 26 = .ok (.iconst 1, 1) := dk_4 (dk_at dksX4_price_1 3 rfl rfl)
theorem dX4_price_27 : DC mX4_price 27 = .ok (.aload_n 0, 1) := dk_42 (dk_at dksX4_price_1 4 rfl rfl)
theorem dX4_price_28 : DC mX4_price 28 = .ok (.iload_n 1, 1) := dk_27 (dk_at dksX4_price_1 5 rfl rfl)
theorem dX4_price_29 : DC mX4_price 29 = .ok (.iload_n 2, 1) := dk_28 (dk_at dksX4_price_1 6 rfl rfl)
theorem dX4_price_30 : DC mX4_price 30 = .ok (.iconst 3, 1) := dk_6 (dk_at dksX4_price_1 7 rfl rfl)
theorem dX4_price_31 : DC mX4_price 31 = .ok (.invokevirtual 107, 3) := dk_182 0 107 (dk_at dksX4_price_1 8 rfl rfl)
theorem dX4_price_34 : DC mX4_price 34 = .ok (.imul, 1) := dk_104 (dk_at dksX4_price_1 11 rfl rfl)
theorem dX4_price_35 : DC mX4_price 35 = .ok (.aload_n 0, 1) := dk_42 (dk_at dksX4_price_1 12 rfl rfl)
theorem dX4_price_36 : DC mX4_price 36 = .ok (.aload_n 0, 1) := dk_42 (dk_at dksX4_price_1 13 rfl rfl)
theorem dX4_price_37 : DC mX4_price 37 = .ok (.iload_n 1, 1) := dk_27 (dk_at dksX4_price_1 14 rfl rfl)
theorem dX4_price_38 : DC mX4_price 38 = .ok (.iload_n 2, 1) := dk_28 (dk_at dksX4_price_1 15 rfl rfl)
theorem dX4_price_39 : DC mX4_price 39 = .ok (.iconst 1, 1) := dk_4 (dk_at dksX4_price_1 16 rfl rfl)
theorem dX4_price_40 : DC mX4_price 40 = .ok (.invokevirtual 107, 3) := dk_182 0 107 (dk_at dksX4_price_1 17 rfl rfl)
theorem dX4_price_43 : DC mX4_price 43 = .ok (.invokevirtual 139, 3) := dk_182 0 139 (dk_at dksX4_price_1 20 rfl rfl)
theorem dX4_price_46 : DC mX4_price 46 = .ok (.imul, 1) := dk_104 (dk_at dksX4_price_1 23 rfl rfl)
theorem dX4_price_47 : DC mX4_price 47 = .ok (.ireturn, 1) := dk_172 (dk_at dksX4_price_2 0 rfl rfl)
abbrev cX4_books : ByteArray := prog_13_method_42_code
def yX4_books : MethodName := ⟨RX4, "books", "(I)V"⟩
def mX4_books : MI := (⟨"TheatreSagaModel", "books", "(I)V"⟩, prog_13_method_42_code, 6, (Option.none : Option FieldType), none, 42, 4)
theorem oX4_books : mO mX4_books = 42 := rfl
theorem lX4_books : mL mX4_books = 6 := rfl
theorem rX4_books : mR mX4_books = (Option.none : Option FieldType) := rfl
theorem vX4_books : mV mX4_books = 4 := rfl
theorem nX4_books : (mY mX4_books).name = "books" := rfl
theorem hX4_books : mH mX4_books = none := rfl
theorem kX4_books : MOk mX4_books := ⟨q2621, q91, by decide +kernel⟩
theorem gX4_books : plainName (mY mX4_books).cls = true ∧ (mY mX4_books).cls = "TheatreSagaModel" := ⟨by decide +kernel, rfl⟩
def dkwX4_books_8 : List UInt8 := [104, 182, 0, 151, 177]
abbrev dktX4_books_8 : List UInt8 := dkwX4_books_8 ++ []
def dkwX4_books_7 : List UInt8 := [27, 16, 8, 42, 27, 16, 8, 182, 0, 64, 16, 10, 21, 4, 104, 96, 182, 0, 75, 42, 16, 10, 21, 4]
abbrev dktX4_books_7 : List UInt8 := dkwX4_books_7 ++ dktX4_books_8
def dkwX4_books_6 : List UInt8 := [132, 4, 1, 132, 5, 1, 167, 255, 233, 42, 180, 0, 9, 7, 92, 46, 16, 10, 21, 4, 104, 96, 79, 42]
abbrev dktX4_books_6 : List UInt8 := dkwX4_books_6 ++ dktX4_books_7
def dkwX4_books_5 : List UInt8 := [54, 4, 3, 54, 5, 21, 5, 28, 163, 0, 23, 42, 27, 21, 5, 3, 182, 0, 107, 154, 0, 6]
abbrev dktX4_books_5 : List UInt8 := dkwX4_books_5 ++ dktX4_books_6
def dkwX4_books_4 : List UInt8 := [182, 0, 75, 28, 4, 96, 42, 27, 5, 182, 0, 64, 162, 0, 4, 177, 42, 27, 3, 6, 182, 0, 75, 3]
abbrev dktX4_books_4 : List UInt8 := dkwX4_books_4 ++ dktX4_books_5
def dkwX4_books_3 : List UInt8 := [182, 0, 75, 42, 27, 16, 9, 8, 28, 104, 96, 7, 96, 29, 182, 0, 75, 42, 27, 6, 28, 4, 96]
abbrev dktX4_books_3 : List UInt8 := dkwX4_books_3 ++ dktX4_books_4
def dkwX4_books_2 : List UInt8 := [104, 96, 5, 96, 92, 46, 29, 96, 79, 42, 27, 16, 6, 42, 27, 16, 6, 182, 0, 64, 29, 96]
abbrev dktX4_books_2 : List UInt8 := dkwX4_books_2 ++ dktX4_books_3
def dkwX4_books_1 : List UInt8 := [42, 180, 0, 9, 5, 92, 46, 29, 96, 79, 42, 180, 0, 9, 16, 9, 6, 42, 27, 28, 4, 182, 0, 107]
abbrev dktX4_books_1 : List UInt8 := dkwX4_books_1 ++ dktX4_books_2
def dkwX4_books_0 : List UInt8 := [42, 27, 6, 182, 0, 64, 61, 42, 27, 28, 182, 0, 148, 62, 42, 180, 0, 9, 4, 92, 46, 29, 100, 79]
abbrev dktX4_books_0 : List UInt8 := dkwX4_books_0 ++ dktX4_books_1
theorem dksX4_books_0 : cX4_books.data.toList.drop 0 = dktX4_books_0 := by decide +kernel
theorem dksX4_books_1 : cX4_books.data.toList.drop 24 = dktX4_books_1 := dk_seg dksX4_books_0 24 rfl rfl
theorem dksX4_books_2 : cX4_books.data.toList.drop 48 = dktX4_books_2 := dk_seg dksX4_books_1 24 rfl rfl
theorem dksX4_books_3 : cX4_books.data.toList.drop 70 = dktX4_books_3 := dk_seg dksX4_books_2 22 rfl rfl
theorem dksX4_books_4 : cX4_books.data.toList.drop 93 = dktX4_books_4 := dk_seg dksX4_books_3 23 rfl rfl
theorem dksX4_books_5 : cX4_books.data.toList.drop 117 = dktX4_books_5 := dk_seg dksX4_books_4 24 rfl rfl
theorem dksX4_books_6 : cX4_books.data.toList.drop 139 = dktX4_books_6 := dk_seg dksX4_books_5 22 rfl rfl
theorem dksX4_books_7 : cX4_books.data.toList.drop 163 = dktX4_books_7 := dk_seg dksX4_books_6 24 rfl rfl
theorem dksX4_books_8 : cX4_books.data.toList.drop 187 = dktX4_books_8 := dk_seg dksX4_books_7 24 rfl rfl
theorem dX4_books_0 : DC mX4_books 0 = .ok (.aload_n 0, 1) := dk_42 (dk_at dksX4_books_0 0 rfl rfl)
theorem dX4_books_1 : DC mX4_books 1 = .ok (.iload_n 1, 1) := dk_27 (dk_at dksX4_books_0 1 rfl rfl)
theorem dX4_books_2 : DC mX4_books 2 = .ok (.iconst 3, 1) := dk_6 (dk_at dksX4_books_0 2 rfl rfl)
theorem dX4_books_3 : DC mX4_books 3 = .ok (.invokevirtual 64, 3) := dk_182 0 64 (dk_at dksX4_books_0 3 rfl rfl)
theorem dX4_books_6 : DC mX4_books 6 = .ok (.istore_n 2, 1) := dk_61 (dk_at dksX4_books_0 6 rfl rfl)
theorem dX4_books_7 : DC mX4_books 7 = .ok (.aload_n 0, 1) := dk_42 (dk_at dksX4_books_0 7 rfl rfl)
theorem dX4_books_8 : DC mX4_books 8 = .ok (.iload_n 1, 1) := dk_27 (dk_at dksX4_books_0 8 rfl rfl)
theorem dX4_books_9 : DC mX4_books 9 = .ok (.iload_n 2, 1) := dk_28 (dk_at dksX4_books_0 9 rfl rfl)
theorem dX4_books_10 : DC mX4_books 10 = .ok (.invokevirtual 148, 3) := dk_182 0 148 (dk_at dksX4_books_0 10 rfl rfl)
theorem dX4_books_13 : DC mX4_books 13 = .ok (.istore_n 3, 1) := dk_62 (dk_at dksX4_books_0 13 rfl rfl)
theorem dX4_books_14 : DC mX4_books 14 = .ok (.aload_n 0, 1) := dk_42 (dk_at dksX4_books_0 14 rfl rfl)
theorem dX4_books_15 : DC mX4_books 15 = .ok (.getfield 9, 3) := dk_180 0 9 (dk_at dksX4_books_0 15 rfl rfl)
theorem dX4_books_18 : DC mX4_books 18 = .ok (.iconst 1, 1) := dk_4 (dk_at dksX4_books_0 18 rfl rfl)
theorem dX4_books_19 : DC mX4_books 19 = .ok (.dup2, 1) := dk_92 (dk_at dksX4_books_0 19 rfl rfl)
theorem dX4_books_20 : DC mX4_books 20 = .ok (.iaload, 1) := dk_46 (dk_at dksX4_books_0 20 rfl rfl)
theorem dX4_books_21 : DC mX4_books 21 = .ok (.iload_n 3, 1) := dk_29 (dk_at dksX4_books_0 21 rfl rfl)
theorem dX4_books_22 : DC mX4_books 22 = .ok (.isub, 1) := dk_100 (dk_at dksX4_books_0 22 rfl rfl)
theorem dX4_books_23 : DC mX4_books 23 = .ok (.iastore, 1) := dk_79 (dk_at dksX4_books_0 23 rfl rfl)
theorem dX4_books_24 : DC mX4_books 24 = .ok (.aload_n 0, 1) := dk_42 (dk_at dksX4_books_1 0 rfl rfl)
theorem dX4_books_25 : DC mX4_books 25 = .ok (.getfield 9, 3) := dk_180 0 9 (dk_at dksX4_books_1 1 rfl rfl)
theorem dX4_books_28 : DC mX4_books 28 = .ok (.iconst 2, 1) := dk_5 (dk_at dksX4_books_1 4 rfl rfl)
theorem dX4_books_29 : DC mX4_books 29 = .ok (.dup2, 1) := dk_92 (dk_at dksX4_books_1 5 rfl rfl)
theorem dX4_books_30 : DC mX4_books 30 = .ok (.iaload, 1) := dk_46 (dk_at dksX4_books_1 6 rfl rfl)
theorem dX4_books_31 : DC mX4_books 31 = .ok (.iload_n 3, 1) := dk_29 (dk_at dksX4_books_1 7 rfl rfl)
theorem dX4_books_32 : DC mX4_books 32 = .ok (.iadd, 1) := dk_96 (dk_at dksX4_books_1 8 rfl rfl)
theorem dX4_books_33 : DC mX4_books 33 = .ok (.iastore, 1) := dk_79 (dk_at dksX4_books_1 9 rfl rfl)
theorem dX4_books_34 : DC mX4_books 34 = .ok (.aload_n 0, 1) := dk_42 (dk_at dksX4_books_1 10 rfl rfl)
theorem dX4_books_35 : DC mX4_books 35 = .ok (.getfield 9, 3) := dk_180 0 9 (dk_at dksX4_books_1 11 rfl rfl)
theorem dX4_books_38 : DC mX4_books 38 = .ok (.bipush 9, 2) := dk_16 9 (dk_at dksX4_books_1 14 rfl rfl)
theorem dX4_books_40 : DC mX4_books 40 = .ok (.iconst 3, 1) := dk_6 (dk_at dksX4_books_1 16 rfl rfl)
theorem dX4_books_41 : DC mX4_books 41 = .ok (.aload_n 0, 1) := dk_42 (dk_at dksX4_books_1 17 rfl rfl)
theorem dX4_books_42 : DC mX4_books 42 = .ok (.iload_n 1, 1) := dk_27 (dk_at dksX4_books_1 18 rfl rfl)
theorem dX4_books_43 : DC mX4_books 43 = .ok (.iload_n 2, 1) := dk_28 (dk_at dksX4_books_1 19 rfl rfl)
theorem dX4_books_44 : DC mX4_books 44 = .ok (.iconst 1, 1) := dk_4 (dk_at dksX4_books_1 20 rfl rfl)
theorem dX4_books_45 : DC mX4_books 45 = .ok (.invokevirtual 107, 3) := dk_182 0 107 (dk_at dksX4_books_1 21 rfl rfl)
theorem dX4_books_48 : DC mX4_books 48 = .ok (.imul, 1) := dk_104 (dk_at dksX4_books_2 0 rfl rfl)
theorem dX4_books_49 : DC mX4_books 49 = .ok (.iadd, 1) := dk_96 (dk_at dksX4_books_2 1 rfl rfl)
theorem dX4_books_50 : DC mX4_books 50 = .ok (.iconst 2, 1) := dk_5 (dk_at dksX4_books_2 2 rfl rfl)
theorem dX4_books_51 : DC mX4_books 51 = .ok (.iadd, 1) := dk_96 (dk_at dksX4_books_2 3 rfl rfl)
theorem dX4_books_52 : DC mX4_books 52 = .ok (.dup2, 1) := dk_92 (dk_at dksX4_books_2 4 rfl rfl)
theorem dX4_books_53 : DC mX4_books 53 = .ok (.iaload, 1) := dk_46 (dk_at dksX4_books_2 5 rfl rfl)
theorem dX4_books_54 : DC mX4_books 54 = .ok (.iload_n 3, 1) := dk_29 (dk_at dksX4_books_2 6 rfl rfl)
theorem dX4_books_55 : DC mX4_books 55 = .ok (.iadd, 1) := dk_96 (dk_at dksX4_books_2 7 rfl rfl)
theorem dX4_books_56 : DC mX4_books 56 = .ok (.iastore, 1) := dk_79 (dk_at dksX4_books_2 8 rfl rfl)
theorem dX4_books_57 : DC mX4_books 57 = .ok (.aload_n 0, 1) := dk_42 (dk_at dksX4_books_2 9 rfl rfl)
theorem dX4_books_58 : DC mX4_books 58 = .ok (.iload_n 1, 1) := dk_27 (dk_at dksX4_books_2 10 rfl rfl)
theorem dX4_books_59 : DC mX4_books 59 = .ok (.bipush 6, 2) := dk_16 6 (dk_at dksX4_books_2 11 rfl rfl)
theorem dX4_books_61 : DC mX4_books 61 = .ok (.aload_n 0, 1) := dk_42 (dk_at dksX4_books_2 13 rfl rfl)
theorem dX4_books_62 : DC mX4_books 62 = .ok (.iload_n 1, 1) := dk_27 (dk_at dksX4_books_2 14 rfl rfl)
theorem dX4_books_63 : DC mX4_books 63 = .ok (.bipush 6, 2) := dk_16 6 (dk_at dksX4_books_2 15 rfl rfl)
theorem dX4_books_65 : DC mX4_books 65 = .ok (.invokevirtual 64, 3) := dk_182 0 64 (dk_at dksX4_books_2 17 rfl rfl)
theorem dX4_books_68 : DC mX4_books 68 = .ok (.iload_n 3, 1) := dk_29 (dk_at dksX4_books_2 20 rfl rfl)
theorem dX4_books_69 : DC mX4_books 69 = .ok (.iadd, 1) := dk_96 (dk_at dksX4_books_2 21 rfl rfl)
theorem dX4_books_70 : DC mX4_books 70 = .ok (.invokevirtual 75, 3) := dk_182 0 75 (dk_at dksX4_books_3 0 rfl rfl)
theorem dX4_books_73 : DC mX4_books 73 = .ok (.aload_n 0, 1) := dk_42 (dk_at dksX4_books_3 3 rfl rfl)
theorem dX4_books_74 : DC mX4_books 74 = .ok (.iload_n 1, 1) := dk_27 (dk_at dksX4_books_3 4 rfl rfl)
theorem dX4_books_75 : DC mX4_books 75 = .ok (.bipush 9, 2) := dk_16 9 (dk_at dksX4_books_3 5 rfl rfl)
theorem dX4_books_77 : DC mX4_books 77 = .ok (.iconst 5, 1) := dk_8 (dk_at dksX4_books_3 7 rfl rfl)
theorem dX4_books_78 : DC mX4_books 78 = .ok (.iload_n 2, 1) := dk_28 (dk_at dksX4_books_3 8 rfl rfl)
theorem dX4_books_79 : DC mX4_books 79 = .ok (.imul, 1) := dk_104 (dk_at dksX4_books_3 9 rfl rfl)
theorem dX4_books_80 : DC mX4_books 80 = .ok (.iadd, 1) := dk_96 (dk_at dksX4_books_3 10 rfl rfl)
theorem dX4_books_81 : DC mX4_books 81 = .ok (.iconst 4, 1) := dk_7 (dk_at dksX4_books_3 11 rfl rfl)
theorem dX4_books_82 : DC mX4_books 82 = .ok (.iadd, 1) := dk_96 (dk_at dksX4_books_3 12 rfl rfl)
theorem dX4_books_83 : DC mX4_books 83 = .ok (.iload_n 3, 1) := dk_29 (dk_at dksX4_books_3 13 rfl rfl)
theorem dX4_books_84 : DC mX4_books 84 = .ok (.invokevirtual 75, 3) := dk_182 0 75 (dk_at dksX4_books_3 14 rfl rfl)
theorem dX4_books_87 : DC mX4_books 87 = .ok (.aload_n 0, 1) := dk_42 (dk_at dksX4_books_3 17 rfl rfl)
theorem dX4_books_88 : DC mX4_books 88 = .ok (.iload_n 1, 1) := dk_27 (dk_at dksX4_books_3 18 rfl rfl)
theorem dX4_books_89 : DC mX4_books 89 = .ok (.iconst 3, 1) := dk_6 (dk_at dksX4_books_3 19 rfl rfl)
theorem dX4_books_90 : DC mX4_books 90 = .ok (.iload_n 2, 1) := dk_28 (dk_at dksX4_books_3 20 rfl rfl)
theorem dX4_books_91 : DC mX4_books 91 = .ok (.iconst 1, 1) := dk_4 (dk_at dksX4_books_3 21 rfl rfl)
theorem dX4_books_92 : DC mX4_books 92 = .ok (.iadd, 1) := dk_96 (dk_at dksX4_books_3 22 rfl rfl)
theorem dX4_books_93 : DC mX4_books 93 = .ok (.invokevirtual 75, 3) := dk_182 0 75 (dk_at dksX4_books_4 0 rfl rfl)
theorem dX4_books_96 : DC mX4_books 96 = .ok (.iload_n 2, 1) := dk_28 (dk_at dksX4_books_4 3 rfl rfl)
theorem dX4_books_97 : DC mX4_books 97 = .ok (.iconst 1, 1) := dk_4 (dk_at dksX4_books_4 4 rfl rfl)
theorem dX4_books_98 : DC mX4_books 98 = .ok (.iadd, 1) := dk_96 (dk_at dksX4_books_4 5 rfl rfl)
theorem dX4_books_99 : DC mX4_books 99 = .ok (.aload_n 0, 1) := dk_42 (dk_at dksX4_books_4 6 rfl rfl)
theorem dX4_books_100 : DC mX4_books 100 = .ok (.iload_n 1, 1) := dk_27 (dk_at dksX4_books_4 7 rfl rfl)
theorem dX4_books_101 : DC mX4_books 101 = .ok (.iconst 2, 1) := dk_5 (dk_at dksX4_books_4 8 rfl rfl)
theorem dX4_books_102 : DC mX4_books 102 = .ok (.invokevirtual 64, 3) := dk_182 0 64 (dk_at dksX4_books_4 9 rfl rfl)
theorem dX4_books_105 : DC mX4_books 105 = .ok (.if_icmp .ge 4, 3) := dk_162 0 4 (dk_at dksX4_books_4 12 rfl rfl)
theorem dX4_books_108 : DC mX4_books 108 = .ok (.return_, 1) := dk_177 (dk_at dksX4_books_4 15 rfl rfl)
theorem dX4_books_109 : DC mX4_books 109 = .ok (.aload_n 0, 1) := dk_42 (dk_at dksX4_books_4 16 rfl rfl)
theorem dX4_books_110 : DC mX4_books 110 = .ok (.iload_n 1, 1) := dk_27 (dk_at dksX4_books_4 17 rfl rfl)
theorem dX4_books_111 : DC mX4_books 111 = .ok (.iconst 0, 1) := dk_3 (dk_at dksX4_books_4 18 rfl rfl)
theorem dX4_books_112 : DC mX4_books 112 = .ok (.iconst 3, 1) := dk_6 (dk_at dksX4_books_4 19 rfl rfl)
theorem dX4_books_113 : DC mX4_books 113 = .ok (.invokevirtual 75, 3) := dk_182 0 75 (dk_at dksX4_books_4 20 rfl rfl)
theorem dX4_books_116 : DC mX4_books 116 = .ok (.iconst 0, 1) := dk_3 (dk_at dksX4_books_4 23 rfl rfl)
theorem dX4_books_117 : DC mX4_books 117 = .ok (.istore 4, 2) := dk_54 4 (dk_at dksX4_books_5 0 rfl rfl)
theorem dX4_books_119 : DC mX4_books 119 = .ok (.iconst 0, 1) := dk_3 (dk_at dksX4_books_5 2 rfl rfl)
theorem dX4_books_120 : DC mX4_books 120 = .ok (.istore 5, 2) := dk_54 5 (dk_at dksX4_books_5 3 rfl rfl)
theorem dX4_books_122 : DC mX4_books 122 = .ok (.iload 5, 2) := dk_21 5 (dk_at dksX4_books_5 5 rfl rfl)
theorem dX4_books_124 : DC mX4_books 124 = .ok (.iload_n 2, 1) := dk_28 (dk_at dksX4_books_5 7 rfl rfl)
theorem dX4_books_125 : DC mX4_books 125 = .ok (.if_icmp .gt 23, 3) := dk_163 0 23 (dk_at dksX4_books_5 8 rfl rfl)
theorem dX4_books_128 : DC mX4_books 128 = .ok (.aload_n 0, 1) := dk_42 (dk_at dksX4_books_5 11 rfl rfl)
theorem dX4_books_129 : DC mX4_books 129 = .ok (.iload_n 1, 1) := dk_27 (dk_at dksX4_books_5 12 rfl rfl)
theorem dX4_books_130 : DC mX4_books 130 = .ok (.iload 5, 2) := dk_21 5 (dk_at dksX4_books_5 13 rfl rfl)
theorem dX4_books_132 : DC mX4_books 132 = .ok (.iconst 0, 1) := dk_3 (dk_at dksX4_books_5 15 rfl rfl)
theorem dX4_books_133 : DC mX4_books 133 = .ok (.invokevirtual 107, 3) := dk_182 0 107 (dk_at dksX4_books_5 16 rfl rfl)
theorem dX4_books_136 : DC mX4_books 136 = .ok (.ifCond .ne 6, 3) := dk_154 0 6 (dk_at dksX4_books_5 19 rfl rfl)
theorem dX4_books_139 : DC mX4_books 139 = .ok (.iinc 4 1, 3) := dk_132 4 1 (dk_at dksX4_books_6 0 rfl rfl)
theorem dX4_books_142 : DC mX4_books 142 = .ok (.iinc 5 1, 3) := dk_132 5 1 (dk_at dksX4_books_6 3 rfl rfl)
theorem dX4_books_145 : DC mX4_books 145 = .ok (.goto (-23), 3) := dk_167 255 233 (dk_at dksX4_books_6 6 rfl rfl)
theorem dX4_books_148 : DC mX4_books 148 = .ok (.aload_n 0, 1) := dk_42 (dk_at dksX4_books_6 9 rfl rfl)
theorem dX4_books_149 : DC mX4_books 149 = .ok (.getfield 9, 3) := dk_180 0 9 (dk_at dksX4_books_6 10 rfl rfl)
theorem dX4_books_152 : DC mX4_books 152 = .ok (.iconst 4, 1) := dk_7 (dk_at dksX4_books_6 13 rfl rfl)
theorem dX4_books_153 : DC mX4_books 153 = .ok (.dup2, 1) := dk_92 (dk_at dksX4_books_6 14 rfl rfl)
theorem dX4_books_154 : DC mX4_books 154 = .ok (.iaload, 1) := dk_46 (dk_at dksX4_books_6 15 rfl rfl)
theorem dX4_books_155 : DC mX4_books 155 = .ok (.bipush 10, 2) := dk_16 10 (dk_at dksX4_books_6 16 rfl rfl)
theorem dX4_books_157 : DC mX4_books 157 = .ok (.iload 4, 2) := dk_21 4 (dk_at dksX4_books_6 18 rfl rfl)
theorem dX4_books_159 : DC mX4_books 159 = .ok (.imul, 1) := dk_104 (dk_at dksX4_books_6 20 rfl rfl)
theorem dX4_books_160 : DC mX4_books 160 = .ok (.iadd, 1) := dk_96 (dk_at dksX4_books_6 21 rfl rfl)
theorem dX4_books_161 : DC mX4_books 161 = .ok (.iastore, 1) := dk_79 (dk_at dksX4_books_6 22 rfl rfl)
theorem dX4_books_162 : DC mX4_books 162 = .ok (.aload_n 0, 1) := dk_42 (dk_at dksX4_books_6 23 rfl rfl)
theorem dX4_books_163 : DC mX4_books 163 = .ok (.iload_n 1, 1) := dk_27 (dk_at dksX4_books_7 0 rfl rfl)
theorem dX4_books_164 : DC mX4_books 164 = .ok (.bipush 8, 2) := dk_16 8 (dk_at dksX4_books_7 1 rfl rfl)
theorem dX4_books_166 : DC mX4_books 166 = .ok (.aload_n 0, 1) := dk_42 (dk_at dksX4_books_7 3 rfl rfl)
theorem dX4_books_167 : DC mX4_books 167 = .ok (.iload_n 1, 1) := dk_27 (dk_at dksX4_books_7 4 rfl rfl)
theorem dX4_books_168 : DC mX4_books 168 = .ok (.bipush 8, 2) := dk_16 8 (dk_at dksX4_books_7 5 rfl rfl)
theorem dX4_books_170 : DC mX4_books 170 = .ok (.invokevirtual 64, 3) := dk_182 0 64 (dk_at dksX4_books_7 7 rfl rfl)
theorem dX4_books_173 : DC mX4_books 173 = .ok (.bipush 10, 2) := dk_16 10 (dk_at dksX4_books_7 10 rfl rfl)
theorem dX4_books_175 : DC mX4_books 175 = .ok (.iload 4, 2) := dk_21 4 (dk_at dksX4_books_7 12 rfl rfl)
theorem dX4_books_177 : DC mX4_books 177 = .ok (.imul, 1) := dk_104 (dk_at dksX4_books_7 14 rfl rfl)
theorem dX4_books_178 : DC mX4_books 178 = .ok (.iadd, 1) := dk_96 (dk_at dksX4_books_7 15 rfl rfl)
theorem dX4_books_179 : DC mX4_books 179 = .ok (.invokevirtual 75, 3) := dk_182 0 75 (dk_at dksX4_books_7 16 rfl rfl)
theorem dX4_books_182 : DC mX4_books 182 = .ok (.aload_n 0, 1) := dk_42 (dk_at dksX4_books_7 19 rfl rfl)
theorem dX4_books_183 : DC mX4_books 183 = .ok (.bipush 10, 2) := dk_16 10 (dk_at dksX4_books_7 20 rfl rfl)
theorem dX4_books_185 : DC mX4_books 185 = .ok (.iload 4, 2) := dk_21 4 (dk_at dksX4_books_7 22 rfl rfl)
theorem dX4_books_187 : DC mX4_books 187 = .ok (.imul, 1) := dk_104 (dk_at dksX4_books_8 0 rfl rfl)
theorem dX4_books_188 : DC mX4_books 188 = .ok (.invokevirtual 151, 3) := dk_182 0 151 (dk_at dksX4_books_8 1 rfl rfl)
theorem dX4_books_191 : DC mX4_books 191 = .ok (.return_, 1) := dk_177 (dk_at dksX4_books_8 4 rfl rfl)
abbrev cX4_gets : ByteArray := prog_13_method_41_code
def yX4_gets : MethodName := ⟨RX4, "gets", "(I)V"⟩
def mX4_gets : MI := (⟨"TheatreSagaModel", "gets", "(I)V"⟩, prog_13_method_41_code, 2, (Option.none : Option FieldType), none, 42, 1)
theorem oX4_gets : mO mX4_gets = 42 := rfl
theorem lX4_gets : mL mX4_gets = 2 := rfl
theorem rX4_gets : mR mX4_gets = (Option.none : Option FieldType) := rfl
theorem vX4_gets : mV mX4_gets = 1 := rfl
theorem nX4_gets : (mY mX4_gets).name = "gets" := rfl
theorem hX4_gets : mH mX4_gets = none := rfl
theorem kX4_gets : MOk mX4_gets := ⟨q2625, q91, by decide +kernel⟩
theorem gX4_gets : plainName (mY mX4_gets).cls = true ∧ (mY mX4_gets).cls = "TheatreSagaModel" := ⟨by decide +kernel, rfl⟩
def dkwX4_gets_2 : List UInt8 := [17, 39, 15, 79, 177]
abbrev dktX4_gets_2 : List UInt8 := dkwX4_gets_2 ++ []
def dkwX4_gets_1 : List UInt8 := [180, 0, 9, 8, 92, 46, 42, 180, 0, 9, 4, 46, 17, 39, 15, 100, 96, 79, 42, 180, 0, 9, 4]
abbrev dktX4_gets_1 : List UInt8 := dkwX4_gets_1 ++ dktX4_gets_2
def dkwX4_gets_0 : List UInt8 := [42, 180, 0, 9, 4, 92, 46, 27, 96, 79, 42, 180, 0, 9, 4, 46, 17, 39, 15, 163, 0, 4, 177, 42]
abbrev dktX4_gets_0 : List UInt8 := dkwX4_gets_0 ++ dktX4_gets_1
theorem dksX4_gets_0 : cX4_gets.data.toList.drop 0 = dktX4_gets_0 := by decide +kernel
theorem dksX4_gets_1 : cX4_gets.data.toList.drop 24 = dktX4_gets_1 := dk_seg dksX4_gets_0 24 rfl rfl
theorem dksX4_gets_2 : cX4_gets.data.toList.drop 47 = dktX4_gets_2 := dk_seg dksX4_gets_1 23 rfl rfl
theorem dX4_gets_0 : DC mX4_gets 0 = .ok (.aload_n 0, 1) := dk_42 (dk_at dksX4_gets_0 0 rfl rfl)
theorem dX4_gets_1 : DC mX4_gets 1 = .ok (.getfield 9, 3) := dk_180 0 9 (dk_at dksX4_gets_0 1 rfl rfl)
theorem dX4_gets_4 : DC mX4_gets 4 = .ok (.iconst 1, 1) := dk_4 (dk_at dksX4_gets_0 4 rfl rfl)
theorem dX4_gets_5 : DC mX4_gets 5 = .ok (.dup2, 1) := dk_92 (dk_at dksX4_gets_0 5 rfl rfl)
theorem dX4_gets_6 : DC mX4_gets 6 = .ok (.iaload, 1) := dk_46 (dk_at dksX4_gets_0 6 rfl rfl)
theorem dX4_gets_7 : DC mX4_gets 7 = .ok (.iload_n 1, 1) := dk_27 (dk_at dksX4_gets_0 7 rfl rfl)
theorem dX4_gets_8 : DC mX4_gets 8 = .ok (.iadd, 1) := dk_96 (dk_at dksX4_gets_0 8 rfl rfl)
theorem dX4_gets_9 : DC mX4_gets 9 = .ok (.iastore, 1) := dk_79 (dk_at dksX4_gets_0 9 rfl rfl)
theorem dX4_gets_10 : DC mX4_gets 10 = .ok (.aload_n 0, 1) := dk_42 (dk_at dksX4_gets_0 10 rfl rfl)
theorem dX4_gets_11 : DC mX4_gets 11 = .ok (.getfield 9, 3) := dk_180 0 9 (dk_at dksX4_gets_0 11 rfl rfl)
theorem dX4_gets_14 : DC mX4_gets 14 = .ok (.iconst 1, 1) := dk_4 (dk_at dksX4_gets_0 14 rfl rfl)
theorem dX4_gets_15 : DC mX4_gets 15 = .ok (.iaload, 1) := dk_46 (dk_at dksX4_gets_0 15 rfl rfl)
theorem dX4_gets_16 : DC mX4_gets 16 = .ok (.sipush 9999, 3) := dk_17 39 15 (dk_at dksX4_gets_0 16 rfl rfl)
theorem dX4_gets_19 : DC mX4_gets 19 = .ok (.if_icmp .gt 4, 3) := dk_163 0 4 (dk_at dksX4_gets_0 19 rfl rfl)
theorem dX4_gets_22 : DC mX4_gets 22 = .ok (.return_, 1) := dk_177 (dk_at dksX4_gets_0 22 rfl rfl)
theorem dX4_gets_23 : DC mX4_gets 23 = .ok (.aload_n 0, 1) := dk_42 (dk_at dksX4_gets_0 23 rfl rfl)
theorem dX4_gets_24 : DC mX4_gets 24 = .ok (.getfield 9, 3) := dk_180 0 9 (dk_at dksX4_gets_1 0 rfl rfl)
theorem dX4_gets_27 : DC mX4_gets 27 = .ok (.iconst 5, 1) := dk_8 (dk_at dksX4_gets_1 3 rfl rfl)
theorem dX4_gets_28 : DC mX4_gets 28 = .ok (.dup2, 1) := dk_92 (dk_at dksX4_gets_1 4 rfl rfl)
theorem dX4_gets_29 : DC mX4_gets 29 = .ok (.iaload, 1) := dk_46 (dk_at dksX4_gets_1 5 rfl rfl)
theorem dX4_gets_30 : DC mX4_gets 30 = .ok (.aload_n 0, 1) := dk_42 (dk_at dksX4_gets_1 6 rfl rfl)
theorem dX4_gets_31 : DC mX4_gets 31 = .ok (.getfield 9, 3) := dk_180 0 9 (dk_at dksX4_gets_1 7 rfl rfl)
theorem dX4_gets_34 : DC mX4_gets 34 = .ok (.iconst 1, 1) := dk_4 (dk_at dksX4_gets_1 10 rfl rfl)
theorem dX4_gets_35 : DC mX4_gets 35 = .ok (.iaload, 1) := dk_46 (dk_at dksX4_gets_1 11 rfl rfl)
theorem dX4_gets_36 : DC mX4_gets 36 = .ok (.sipush 9999, 3) := dk_17 39 15 (dk_at dksX4_gets_1 12 rfl rfl)
theorem dX4_gets_39 : DC mX4_gets 39 = .ok (.isub, 1) := dk_100 (dk_at dksX4_gets_1 15 rfl rfl)
theorem dX4_gets_40 : DC mX4_gets 40 = .ok (.iadd, 1) := dk_96 (dk_at dksX4_gets_1 16 rfl rfl)
theorem dX4_gets_41 : DC mX4_gets 41 = .ok (.iastore, 1) := dk_79 (dk_at dksX4_gets_1 17 rfl rfl)
theorem dX4_gets_42 : DC mX4_gets 42 = .ok (.aload_n 0, 1) := dk_42 (dk_at dksX4_gets_1 18 rfl rfl)
theorem dX4_gets_43 : DC mX4_gets 43 = .ok (.getfield 9, 3) := dk_180 0 9 (dk_at dksX4_gets_1 19 rfl rfl)
theorem dX4_gets_46 : DC mX4_gets 46 = .ok (.iconst 1, 1) := dk_4 (dk_at dksX4_gets_1 22 rfl rfl)
theorem dX4_gets_47 : DC mX4_gets 47 = .ok (.sipush 9999, 3) := dk_17 39 15 (dk_at dksX4_gets_2 0 rfl rfl)
theorem dX4_gets_50 : DC mX4_gets 50 = .ok (.iastore, 1) := dk_79 (dk_at dksX4_gets_2 3 rfl rfl)
theorem dX4_gets_51 : DC mX4_gets 51 = .ok (.return_, 1) := dk_177 (dk_at dksX4_gets_2 4 rfl rfl)
abbrev cX4_unbooks : ByteArray := prog_13_method_43_code
def yX4_unbooks : MethodName := ⟨RX4, "unbooks", "(I)V"⟩
def mX4_unbooks : MI := (⟨"TheatreSagaModel", "unbooks", "(I)V"⟩, prog_13_method_43_code, 4, (Option.none : Option FieldType), none, 42, 3)
theorem oX4_unbooks : mO mX4_unbooks = 42 := rfl
theorem lX4_unbooks : mL mX4_unbooks = 4 := rfl
theorem rX4_unbooks : mR mX4_unbooks = (Option.none : Option FieldType) := rfl
theorem vX4_unbooks : mV mX4_unbooks = 3 := rfl
theorem nX4_unbooks : (mY mX4_unbooks).name = "unbooks" := rfl
theorem hX4_unbooks : mH mX4_unbooks = none := rfl
theorem kX4_unbooks : MOk mX4_unbooks := ⟨q2629, q91, by decide +kernel⟩
theorem gX4_unbooks : plainName (mY mX4_unbooks).cls = true ∧ (mY mX4_unbooks).cls = "TheatreSagaModel" := ⟨by decide +kernel, rfl⟩
def dkwX4_unbooks_3 : List UInt8 := [28, 154, 0, 10, 42, 27, 3, 7, 182, 0, 75, 177]
abbrev dktX4_unbooks_3 : List UInt8 := dkwX4_unbooks_3 ++ []
def dkwX4_unbooks_2 : List UInt8 := [16, 9, 8, 28, 104, 96, 7, 96, 3, 182, 0, 75, 42, 27, 6, 28, 182, 0, 75, 42, 29, 182, 0, 151]
abbrev dktX4_unbooks_2 : List UInt8 := dkwX4_unbooks_2 ++ dktX4_unbooks_3
def dkwX4_unbooks_1 : List UInt8 := [92, 46, 29, 96, 79, 42, 27, 16, 7, 42, 27, 16, 7, 182, 0, 64, 29, 96, 182, 0, 75, 42, 27]
abbrev dktX4_unbooks_1 : List UInt8 := dkwX4_unbooks_1 ++ dktX4_unbooks_2
def dkwX4_unbooks_0 : List UInt8 := [42, 27, 6, 182, 0, 64, 4, 100, 61, 42, 27, 28, 7, 182, 0, 107, 5, 108, 62, 42, 180, 0, 9, 6]
abbrev dktX4_unbooks_0 : List UInt8 := dkwX4_unbooks_0 ++ dktX4_unbooks_1
theorem dksX4_unbooks_0 : cX4_unbooks.data.toList.drop 0 = dktX4_unbooks_0 := by decide +kernel
theorem dksX4_unbooks_1 : cX4_unbooks.data.toList.drop 24 = dktX4_unbooks_1 := dk_seg dksX4_unbooks_0 24 rfl rfl
theorem dksX4_unbooks_2 : cX4_unbooks.data.toList.drop 47 = dktX4_unbooks_2 := dk_seg dksX4_unbooks_1 23 rfl rfl
theorem dksX4_unbooks_3 : cX4_unbooks.data.toList.drop 71 = dktX4_unbooks_3 := dk_seg dksX4_unbooks_2 24 rfl rfl
theorem dX4_unbooks_0 : DC mX4_unbooks 0 = .ok (.aload_n 0, 1) := dk_42 (dk_at dksX4_unbooks_0 0 rfl rfl)
theorem dX4_unbooks_1 : DC mX4_unbooks 1 = .ok (.iload_n 1, 1) := dk_27 (dk_at dksX4_unbooks_0 1 rfl rfl)
theorem dX4_unbooks_2 : DC mX4_unbooks 2 = .ok (.iconst 3, 1) := dk_6 (dk_at dksX4_unbooks_0 2 rfl rfl)
theorem dX4_unbooks_3 : DC mX4_unbooks 3 = .ok (.invokevirtual 64, 3) := dk_182 0 64 (dk_at dksX4_unbooks_0 3 rfl rfl)
theorem dX4_unbooks_6 : DC mX4_unbooks 6 = .ok (.iconst 1, 1) := dk_4 (dk_at dksX4_unbooks_0 6 rfl rfl)
theorem dX4_unbooks_7 : DC mX4_unbooks 7 = .ok (.isub, 1) := dk_100 (dk_at dksX4_unbooks_0 7 rfl rfl)
theorem dX4_unbooks_8 : DC mX4_unbooks 8 = .ok (.istore_n 2, 1) := dk_61 (dk_at dksX4_unbooks_0 8 rfl rfl)
theorem dX4_unbooks_9 : DC mX4_unbooks 9 = .ok (.aload_n 0, 1) := dk_42 (dk_at dksX4_unbooks_0 9 rfl rfl)
theorem dX4_unbooks_10 : DC mX4_unbooks 10 = .ok (.iload_n 1, 1) := dk_27 (dk_at dksX4_unbooks_0 10 rfl rfl)
theorem dX4_unbooks_11 : DC mX4_unbooks 11 = .ok (.iload_n 2, 1) := dk_28 (dk_at dksX4_unbooks_0 11 rfl rfl)
theorem dX4_unbooks_12 : DC mX4_unbooks 12 = .ok (.iconst 4, 1) := dk_7 (dk_at dksX4_unbooks_0 12 rfl rfl)
theorem dX4_unbooks_13 : DC mX4_unbooks 13 = .ok (.invokevirtual 107, 3) := dk_182 0 107 (dk_at dksX4_unbooks_0 13 rfl rfl)
theorem dX4_unbooks_16 : DC mX4_unbooks 16 = .ok (.iconst 2, 1) := dk_5 (dk_at dksX4_unbooks_0 16 rfl rfl)
theorem dX4_unbooks_17 : DC mX4_unbooks 17 = .ok (.idiv, 1) := dk_108 (dk_at dksX4_unbooks_0 17 rfl rfl)
theorem dX4_unbooks_18 : DC mX4_unbooks 18 = .ok (.istore_n 3, 1) := dk_62 (dk_at dksX4_unbooks_0 18 rfl rfl)
theorem dX4_unbooks_19 : DC mX4_unbooks 19 = .ok (.aload_n 0, 1) := dk_42 (dk_at dksX4_unbooks_0 19 rfl rfl)
theorem dX4_unbooks_20 : DC mX4_unbooks 20 = .ok (.getfield 9, 3) := dk_180 0 9 (dk_at dksX4_unbooks_0 20 rfl rfl)
theorem dX4_unbooks_23 : DC mX4_unbooks 23 = .ok (.iconst 3, 1) := dk_6 (dk_at dksX4_unbooks_0 23 rfl rfl)
theorem dX4_unbooks_24 : DC mX4_unbooks 24 = .ok (.dup2, 1) := dk_92 (dk_at dksX4_unbooks_1 0 rfl rfl)
theorem dX4_unbooks_25 : DC mX4_unbooks 25 = .ok (.iaload, 1) := dk_46 (dk_at dksX4_unbooks_1 1 rfl rfl)
theorem dX4_unbooks_26 : DC mX4_unbooks 26 = .ok (.iload_n 3, 1) := dk_29 (dk_at dksX4_unbooks_1 2 rfl rfl)
theorem dX4_unbooks_27 : DC mX4_unbooks 27 = .ok (.iadd, 1) := dk_96 (dk_at dksX4_unbooks_1 3 rfl rfl)
theorem dX4_unbooks_28 : DC mX4_unbooks 28 = .ok (.iastore, 1) := dk_79 (dk_at dksX4_unbooks_1 4 rfl rfl)
theorem dX4_unbooks_29 : DC mX4_unbooks 29 = .ok (.aload_n 0, 1) := dk_42 (dk_at dksX4_unbooks_1 5 rfl rfl)
theorem dX4_unbooks_30 : DC mX4_unbooks 30 = .ok (.iload_n 1, 1) := dk_27 (dk_at dksX4_unbooks_1 6 rfl rfl)
theorem dX4_unbooks_31 : DC mX4_unbooks 31 = .ok (.bipush 7, 2) := dk_16 7 (dk_at dksX4_unbooks_1 7 rfl rfl)
theorem dX4_unbooks_33 : DC mX4_unbooks 33 = .ok (.aload_n 0, 1) := dk_42 (dk_at dksX4_unbooks_1 9 rfl rfl)
theorem dX4_unbooks_34 : DC mX4_unbooks 34 = .ok (.iload_n 1, 1) := dk_27 (dk_at dksX4_unbooks_1 10 rfl rfl)
theorem dX4_unbooks_35 : DC mX4_unbooks 35 = .ok (.bipush 7, 2) := dk_16 7 (dk_at dksX4_unbooks_1 11 rfl rfl)
theorem dX4_unbooks_37 : DC mX4_unbooks 37 = .ok (.invokevirtual 64, 3) := dk_182 0 64 (dk_at dksX4_unbooks_1 13 rfl rfl)
theorem dX4_unbooks_40 : DC mX4_unbooks 40 = .ok (.iload_n 3, 1) := dk_29 (dk_at dksX4_unbooks_1 16 rfl rfl)
theorem dX4_unbooks_41 : DC mX4_unbooks 41 = .ok (.iadd, 1) := dk_96 (dk_at dksX4_unbooks_1 17 rfl rfl)
theorem dX4_unbooks_42 : DC mX4_unbooks 42 = .ok (.invokevirtual 75, 3) := dk_182 0 75 (dk_at dksX4_unbooks_1 18 rfl rfl)
theorem dX4_unbooks_45 : DC mX4_unbooks 45 = .ok (.aload_n 0, 1) := dk_42 (dk_at dksX4_unbooks_1 21 rfl rfl)
theorem dX4_unbooks_46 : DC mX4_unbooks 46 = .ok (.iload_n 1, 1) := dk_27 (dk_at dksX4_unbooks_1 22 rfl rfl)
theorem dX4_unbooks_47 : DC mX4_unbooks 47 = .ok (.bipush 9, 2) := dk_16 9 (dk_at dksX4_unbooks_2 0 rfl rfl)
theorem dX4_unbooks_49 : DC mX4_unbooks 49 = .ok (.iconst 5, 1) := dk_8 (dk_at dksX4_unbooks_2 2 rfl rfl)
theorem dX4_unbooks_50 : DC mX4_unbooks 50 = .ok (.iload_n 2, 1) := dk_28 (dk_at dksX4_unbooks_2 3 rfl rfl)
theorem dX4_unbooks_51 : DC mX4_unbooks 51 = .ok (.imul, 1) := dk_104 (dk_at dksX4_unbooks_2 4 rfl rfl)
theorem dX4_unbooks_52 : DC mX4_unbooks 52 = .ok (.iadd, 1) := dk_96 (dk_at dksX4_unbooks_2 5 rfl rfl)
theorem dX4_unbooks_53 : DC mX4_unbooks 53 = .ok (.iconst 4, 1) := dk_7 (dk_at dksX4_unbooks_2 6 rfl rfl)
theorem dX4_unbooks_54 : DC mX4_unbooks 54 = .ok (.iadd, 1) := dk_96 (dk_at dksX4_unbooks_2 7 rfl rfl)
theorem dX4_unbooks_55 : DC mX4_unbooks 55 = .ok (.iconst 0, 1) := dk_3 (dk_at dksX4_unbooks_2 8 rfl rfl)
theorem dX4_unbooks_56 : DC mX4_unbooks 56 = .ok (.invokevirtual 75, 3) := dk_182 0 75 (dk_at dksX4_unbooks_2 9 rfl rfl)
theorem dX4_unbooks_59 : DC mX4_unbooks 59 = .ok (.aload_n 0, 1) := dk_42 (dk_at dksX4_unbooks_2 12 rfl rfl)
theorem dX4_unbooks_60 : DC mX4_unbooks 60 = .ok (.iload_n 1, 1) := dk_27 (dk_at dksX4_unbooks_2 13 rfl rfl)
theorem dX4_unbooks_61 : DC mX4_unbooks 61 = .ok (.iconst 3, 1) := dk_6 (dk_at dksX4_unbooks_2 14 rfl rfl)
theorem dX4_unbooks_62 : DC mX4_unbooks 62 = .ok (.iload_n 2, 1) := dk_28 (dk_at dksX4_unbooks_2 15 rfl rfl)
theorem dX4_unbooks_63 : DC mX4_unbooks 63 = .ok (.invokevirtual 75, 3) := dk_182 0 75 (dk_at dksX4_unbooks_2 16 rfl rfl)
theorem dX4_unbooks_66 : DC mX4_unbooks 66 = .ok (.aload_n 0, 1) := dk_42 (dk_at dksX4_unbooks_2 19 rfl rfl)
theorem dX4_unbooks_67 : DC mX4_unbooks 67 = .ok (.iload_n 3, 1) := dk_29 (dk_at dksX4_unbooks_2 20 rfl rfl)
theorem dX4_unbooks_68 : DC mX4_unbooks 68 = .ok (.invokevirtual 151, 3) := dk_182 0 151 (dk_at dksX4_unbooks_2 21 rfl rfl)
theorem dX4_unbooks_71 : DC mX4_unbooks 71 = .ok (.iload_n 2, 1) := dk_28 (dk_at dksX4_unbooks_3 0 rfl rfl)
theorem dX4_unbooks_72 : DC mX4_unbooks 72 = .ok (.ifCond .ne 10, 3) := dk_154 0 10 (dk_at dksX4_unbooks_3 1 rfl rfl)
theorem dX4_unbooks_75 : DC mX4_unbooks 75 = .ok (.aload_n 0, 1) := dk_42 (dk_at dksX4_unbooks_3 4 rfl rfl)
theorem dX4_unbooks_76 : DC mX4_unbooks 76 = .ok (.iload_n 1, 1) := dk_27 (dk_at dksX4_unbooks_3 5 rfl rfl)
theorem dX4_unbooks_77 : DC mX4_unbooks 77 = .ok (.iconst 0, 1) := dk_3 (dk_at dksX4_unbooks_3 6 rfl rfl)
theorem dX4_unbooks_78 : DC mX4_unbooks 78 = .ok (.iconst 4, 1) := dk_7 (dk_at dksX4_unbooks_3 7 rfl rfl)
theorem dX4_unbooks_79 : DC mX4_unbooks 79 = .ok (.invokevirtual 75, 3) := dk_182 0 75 (dk_at dksX4_unbooks_3 8 rfl rfl)
theorem dX4_unbooks_82 : DC mX4_unbooks 82 = .ok (.return_, 1) := dk_177 (dk_at dksX4_unbooks_3 11 rfl rfl)
abbrev cX4_left : ByteArray := prog_13_method_49_code
def yX4_left : MethodName := ⟨RX4, "left", "(III)I"⟩
def mX4_left : MI := (⟨"TheatreSagaModel", "left", "(III)I"⟩, prog_13_method_49_code, 4, (Option.some FieldType.int), none, 42, 4)
theorem oX4_left : mO mX4_left = 42 := rfl
theorem lX4_left : mL mX4_left = 4 := rfl
theorem rX4_left : mR mX4_left = (Option.some FieldType.int) := rfl
theorem vX4_left : mV mX4_left = 4 := rfl
theorem nX4_left : (mY mX4_left).name = "left" := rfl
theorem hX4_left : mH mX4_left = none := rfl
theorem kX4_left : MOk mX4_left := ⟨q2633, q91, by decide +kernel⟩
theorem gX4_left : plainName (mY mX4_left).cls = true ∧ (mY mX4_left).cls = "TheatreSagaModel" := ⟨by decide +kernel, rfl⟩
def dkwX4_left_1 : List UInt8 := [184, 0, 101, 153, 0, 13, 42, 27, 28, 29, 182, 0, 145, 167, 0, 8, 42, 4, 182, 0, 92, 172]
abbrev dktX4_left_1 : List UInt8 := dkwX4_left_1 ++ []
def dkwX4_left_0 : List UInt8 := [42, 3, 181, 0, 45, 27, 3, 5, 184, 0, 60, 153, 0, 27, 28, 184, 0, 98, 153, 0, 20, 29]
abbrev dktX4_left_0 : List UInt8 := dkwX4_left_0 ++ dktX4_left_1
theorem dksX4_left_0 : cX4_left.data.toList.drop 0 = dktX4_left_0 := by decide +kernel
theorem dksX4_left_1 : cX4_left.data.toList.drop 22 = dktX4_left_1 := dk_seg dksX4_left_0 22 rfl rfl
theorem dX4_left_0 : DC mX4_left 0 = .ok (.aload_n 0, 1) := dk_42 (dk_at dksX4_left_0 0 rfl rfl)
theorem dX4_left_1 : DC mX4_left 1 = .ok (.iconst 0, 1) := dk_3 (dk_at dksX4_left_0 1 rfl rfl)
theorem dX4_left_2 : DC mX4_left 2 = .ok (.putfield 45, 3) := dk_181 0 45 (dk_at dksX4_left_0 2 rfl rfl)
theorem dX4_left_5 : DC mX4_left 5 = .ok (.iload_n 1, 1) := dk_27 (dk_at dksX4_left_0 5 rfl rfl)
theorem dX4_left_6 : DC mX4_left 6 = .ok (.iconst 0, 1) := dk_3 (dk_at dksX4_left_0 6 rfl rfl)
theorem dX4_left_7 : DC mX4_left 7 = .ok (.iconst 2, 1) := dk_5 (dk_at dksX4_left_0 7 rfl rfl)
theorem dX4_left_8 : DC mX4_left 8 = .ok (.invokestatic 60, 3) := dk_184 0 60 (dk_at dksX4_left_0 8 rfl rfl)
theorem dX4_left_11 : DC mX4_left 11 = .ok (.ifCond .eq 27, 3) := dk_153 0 27 (dk_at dksX4_left_0 11 rfl rfl)
theorem dX4_left_14 : DC mX4_left 14 = .ok (.iload_n 2, 1) := dk_28 (dk_at dksX4_left_0 14 rfl rfl)
theorem dX4_left_15 : DC mX4_left 15 = .ok (.invokestatic 98, 3) := dk_184 0 98 (dk_at dksX4_left_0 15 rfl rfl)
theorem dX4_left_18 : DC mX4_left 18 = .ok (.ifCond .eq 20, 3) := dk_153 0 20 (dk_at dksX4_left_0 18 rfl rfl)
theorem dX4_left_21 : DC mX4_left 21 = .ok (.iload_n 3, 1) := dk_29 (dk_at dksX4_left_0 21 rfl rfl)
theorem dX4_left_22 : DC mX4_left 22 = .ok (.invokestatic 101, 3) := dk_184 0 101 (dk_at dksX4_left_1 0 rfl rfl)
theorem dX4_left_25 : DC mX4_left 25 = .ok (.ifCond .eq 13, 3) := dk_153 0 13 (dk_at dksX4_left_1 3 rfl rfl)
theorem dX4_left_28 : DC mX4_left 28 = .ok (.aload_n 0, 1) := dk_42 (dk_at dksX4_left_1 6 rfl rfl)
theorem dX4_left_29 : DC mX4_left 29 = .ok (.iload_n 1, 1) := dk_27 (dk_at dksX4_left_1 7 rfl rfl)
theorem dX4_left_30 : DC mX4_left 30 = .ok (.iload_n 2, 1) := dk_28 (dk_at dksX4_left_1 8 rfl rfl)
theorem dX4_left_31 : DC mX4_left 31 = .ok (.iload_n 3, 1) := dk_29 (dk_at dksX4_left_1 9 rfl rfl)
theorem dX4_left_32 : DC mX4_left 32 = .ok (.invokevirtual 145, 3) := dk_182 0 145 (dk_at dksX4_left_1 10 rfl rfl)
theorem dX4_left_35 : DC mX4_left 35 = .ok (.goto 8, 3) := dk_167 0 8 (dk_at dksX4_left_1 13 rfl rfl)
theorem dX4_left_38 : DC mX4_left 38 = .ok (.aload_n 0, 1) := dk_42 (dk_at dksX4_left_1 16 rfl rfl)
theorem dX4_left_39 : DC mX4_left 39 = .ok (.iconst 1, 1) := dk_4 (dk_at dksX4_left_1 17 rfl rfl)
theorem dX4_left_40 : DC mX4_left 40 = .ok (.invokevirtual 92, 3) := dk_182 0 92 (dk_at dksX4_left_1 18 rfl rfl)
theorem dX4_left_43 : DC mX4_left 43 = .ok (.ireturn, 1) := dk_172 (dk_at dksX4_left_1 21 rfl rfl)
abbrev cX4_leftAgain : ByteArray := prog_13_method_50_code
def yX4_leftAgain : MethodName := ⟨RX4, "leftAgain", "(III)I"⟩
def mX4_leftAgain : MI := (⟨"TheatreSagaModel", "leftAgain", "(III)I"⟩, prog_13_method_50_code, 4, (Option.some FieldType.int), none, 42, 5)
theorem oX4_leftAgain : mO mX4_leftAgain = 42 := rfl
theorem lX4_leftAgain : mL mX4_leftAgain = 4 := rfl
theorem rX4_leftAgain : mR mX4_leftAgain = (Option.some FieldType.int) := rfl
theorem vX4_leftAgain : mV mX4_leftAgain = 5 := rfl
theorem nX4_leftAgain : (mY mX4_leftAgain).name = "leftAgain" := rfl
theorem hX4_leftAgain : mH mX4_leftAgain = none := rfl
theorem kX4_leftAgain : MOk mX4_leftAgain := ⟨q2637, q91, by decide +kernel⟩
theorem gX4_leftAgain : plainName (mY mX4_leftAgain).cls = true ∧ (mY mX4_leftAgain).cls = "TheatreSagaModel" := ⟨by decide +kernel, rfl⟩
def dkwX4_leftAgain_0 : List UInt8 := [42, 27, 28, 29, 182, 0, 175, 172]
abbrev dktX4_leftAgain_0 : List UInt8 := dkwX4_leftAgain_0 ++ []
theorem dksX4_leftAgain_0 : cX4_leftAgain.data.toList.drop 0 = dktX4_leftAgain_0 := by decide +kernel
theorem dX4_leftAgain_0 : DC mX4_leftAgain 0 = .ok (.aload_n 0, 1) := dk_42 (dk_at dksX4_leftAgain_0 0 rfl rfl)
theorem dX4_leftAgain_1 : DC mX4_leftAgain 1 = .ok (.iload_n 1, 1) := dk_27 (dk_at dksX4_leftAgain_0 1 rfl rfl)
theorem dX4_leftAgain_2 : DC mX4_leftAgain 2 = .ok (.iload_n 2, 1) := dk_28 (dk_at dksX4_leftAgain_0 2 rfl rfl)
theorem dX4_leftAgain_3 : DC mX4_leftAgain 3 = .ok (.iload_n 3, 1) := dk_29 (dk_at dksX4_leftAgain_0 3 rfl rfl)
theorem dX4_leftAgain_4 : DC mX4_leftAgain 4 = .ok (.invokevirtual 175, 3) := dk_182 0 175 (dk_at dksX4_leftAgain_0 4 rfl rfl)
theorem dX4_leftAgain_7 : DC mX4_leftAgain 7 = .ok (.ireturn, 1) := dk_172 (dk_at dksX4_leftAgain_0 7 rfl rfl)
abbrev cX4_faultOf : ByteArray := prog_13_method_51_code
def yX4_faultOf : MethodName := ⟨RX4, "faultOf", "(I)I"⟩
def mX4_faultOf : MI := (⟨"TheatreSagaModel", "faultOf", "(I)I"⟩, prog_13_method_51_code, 2, (Option.some FieldType.int), none, 42, 5)
theorem oX4_faultOf : mO mX4_faultOf = 42 := rfl
theorem lX4_faultOf : mL mX4_faultOf = 2 := rfl
theorem rX4_faultOf : mR mX4_faultOf = (Option.some FieldType.int) := rfl
theorem vX4_faultOf : mV mX4_faultOf = 5 := rfl
theorem nX4_faultOf : (mY mX4_faultOf).name = "faultOf" := rfl
theorem hX4_faultOf : mH mX4_faultOf = none := rfl
theorem kX4_faultOf : MOk mX4_faultOf := ⟨q2642, q91, by decide +kernel⟩
theorem gX4_faultOf : plainName (mY mX4_faultOf).cls = true ∧ (mY mX4_faultOf).cls = "TheatreSagaModel" := ⟨by decide +kernel, rfl⟩
def dkwX4_faultOf_1 : List UInt8 := [153, 0, 11, 42, 27, 182, 0, 154, 167, 0, 8, 42, 5, 182, 0, 92, 172]
abbrev dktX4_faultOf_1 : List UInt8 := dkwX4_faultOf_1 ++ []
def dkwX4_faultOf_0 : List UInt8 := [42, 3, 181, 0, 45, 42, 27, 182, 0, 95, 154, 0, 9, 42, 4, 182, 0, 92, 172, 42, 27, 182, 0, 163]
abbrev dktX4_faultOf_0 : List UInt8 := dkwX4_faultOf_0 ++ dktX4_faultOf_1
theorem dksX4_faultOf_0 : cX4_faultOf.data.toList.drop 0 = dktX4_faultOf_0 := by decide +kernel
theorem dksX4_faultOf_1 : cX4_faultOf.data.toList.drop 24 = dktX4_faultOf_1 := dk_seg dksX4_faultOf_0 24 rfl rfl
theorem dX4_faultOf_0 : DC mX4_faultOf 0 = .ok (.aload_n 0, 1) := dk_42 (dk_at dksX4_faultOf_0 0 rfl rfl)
theorem dX4_faultOf_1 : DC mX4_faultOf 1 = .ok (.iconst 0, 1) := dk_3 (dk_at dksX4_faultOf_0 1 rfl rfl)
theorem dX4_faultOf_2 : DC mX4_faultOf 2 = .ok (.putfield 45, 3) := dk_181 0 45 (dk_at dksX4_faultOf_0 2 rfl rfl)
theorem dX4_faultOf_5 : DC mX4_faultOf 5 = .ok (.aload_n 0, 1) := dk_42 (dk_at dksX4_faultOf_0 5 rfl rfl)
theorem dX4_faultOf_6 : DC mX4_faultOf 6 = .ok (.iload_n 1, 1) := dk_27 (dk_at dksX4_faultOf_0 6 rfl rfl)
theorem dX4_faultOf_7 : DC mX4_faultOf 7 = .ok (.invokevirtual 95, 3) := dk_182 0 95 (dk_at dksX4_faultOf_0 7 rfl rfl)
theorem dX4_faultOf_10 : DC mX4_faultOf 10 = .ok (.ifCond .ne 9, 3) := dk_154 0 9 (dk_at dksX4_faultOf_0 10 rfl rfl)
theorem dX4_faultOf_13 : DC mX4_faultOf 13 = .ok (.aload_n 0, 1) := dk_42 (dk_at dksX4_faultOf_0 13 rfl rfl)
theorem dX4_faultOf_14 : DC mX4_faultOf 14 = .ok (.iconst 1, 1) := dk_4 (dk_at dksX4_faultOf_0 14 rfl rfl)
theorem dX4_faultOf_15 : DC mX4_faultOf 15 = .ok (.invokevirtual 92, 3) := dk_182 0 92 (dk_at dksX4_faultOf_0 15 rfl rfl)
theorem dX4_faultOf_18 : DC mX4_faultOf 18 = .ok (.ireturn, 1) := dk_172 (dk_at dksX4_faultOf_0 18 rfl rfl)
theorem dX4_faultOf_19 : DC mX4_faultOf 19 = .ok (.aload_n 0, 1) := dk_42 (dk_at dksX4_faultOf_0 19 rfl rfl)
theorem dX4_faultOf_20 : DC mX4_faultOf 20 = .ok (.iload_n 1, 1) := dk_27 (dk_at dksX4_faultOf_0 20 rfl rfl)
theorem dX4_faultOf_21 : DC mX4_faultOf 21 = .ok (.invokevirtual 163, 3) := dk_182 0 163 (dk_at dksX4_faultOf_0 21 rfl rfl)
theorem dX4_faultOf_24 : DC mX4_faultOf 24 = .ok (.ifCond .eq 11, 3) := dk_153 0 11 (dk_at dksX4_faultOf_1 0 rfl rfl)
theorem dX4_faultOf_27 : DC mX4_faultOf 27 = .ok (.aload_n 0, 1) := dk_42 (dk_at dksX4_faultOf_1 3 rfl rfl)
theorem dX4_faultOf_28 : DC mX4_faultOf 28 = .ok (.iload_n 1, 1) := dk_27 (dk_at dksX4_faultOf_1 4 rfl rfl)
theorem dX4_faultOf_29 : DC mX4_faultOf 29 = .ok (.invokevirtual 154, 3) := dk_182 0 154 (dk_at dksX4_faultOf_1 5 rfl rfl)
theorem dX4_faultOf_32 : DC mX4_faultOf 32 = .ok (.goto 8, 3) := dk_167 0 8 (dk_at dksX4_faultOf_1 8 rfl rfl)
theorem dX4_faultOf_35 : DC mX4_faultOf 35 = .ok (.aload_n 0, 1) := dk_42 (dk_at dksX4_faultOf_1 11 rfl rfl)
theorem dX4_faultOf_36 : DC mX4_faultOf 36 = .ok (.iconst 2, 1) := dk_5 (dk_at dksX4_faultOf_1 12 rfl rfl)
theorem dX4_faultOf_37 : DC mX4_faultOf 37 = .ok (.invokevirtual 92, 3) := dk_182 0 92 (dk_at dksX4_faultOf_1 13 rfl rfl)
theorem dX4_faultOf_40 : DC mX4_faultOf 40 = .ok (.ireturn, 1) := dk_172 (dk_at dksX4_faultOf_1 16 rfl rfl)
abbrev cX4_endsIn : ByteArray := prog_13_method_52_code
def yX4_endsIn : MethodName := ⟨RX4, "endsIn", "(I)I"⟩
def mX4_endsIn : MI := (⟨"TheatreSagaModel", "endsIn", "(I)I"⟩, prog_13_method_52_code, 5, (Option.some FieldType.int), none, 42, 7)
theorem oX4_endsIn : mO mX4_endsIn = 42 := rfl
theorem lX4_endsIn : mL mX4_endsIn = 5 := rfl
theorem rX4_endsIn : mR mX4_endsIn = (Option.some FieldType.int) := rfl
theorem vX4_endsIn : mV mX4_endsIn = 7 := rfl
theorem nX4_endsIn : (mY mX4_endsIn).name = "endsIn" := rfl
theorem hX4_endsIn : mH mX4_endsIn = none := rfl
theorem kX4_endsIn : MOk mX4_endsIn := ⟨q2646, q91, by decide +kernel⟩
theorem gX4_endsIn : plainName (mY mX4_endsIn).cls = true ∧ (mY mX4_endsIn).cls = "TheatreSagaModel" := ⟨by decide +kernel, rfl⟩
def dkwX4_endsIn_6 : List UInt8 := [167, 0, 8, 42, 5, 182, 0, 92, 172]
abbrev dktX4_endsIn_6 : List UInt8 := dkwX4_endsIn_6 ++ []
def dkwX4_endsIn_5 : List UInt8 := [180, 0, 9, 21, 4, 42, 180, 0, 16, 21, 4, 46, 79, 132, 4, 1, 167, 255, 231, 29, 153, 0, 7, 28]
abbrev dktX4_endsIn_5 : List UInt8 := dkwX4_endsIn_5 ++ dktX4_endsIn_6
def dkwX4_endsIn_4 : List UInt8 := [182, 0, 163, 154, 0, 7, 4, 167, 0, 4, 3, 62, 3, 54, 4, 21, 4, 17, 1, 62, 162, 0, 23, 42]
abbrev dktX4_endsIn_4 : List UInt8 := dkwX4_endsIn_4 ++ dktX4_endsIn_5
def dkwX4_endsIn_3 : List UInt8 := [162, 0, 22, 42, 27, 182, 0, 163, 153, 0, 14, 42, 182, 0, 169, 62, 132, 2, 1, 167, 255, 234, 42, 27]
abbrev dktX4_endsIn_3 : List UInt8 := dkwX4_endsIn_3 ++ dktX4_endsIn_4
def dkwX4_endsIn_2 : List UInt8 := [180, 0, 16, 28, 42, 180, 0, 9, 28, 46, 79, 132, 2, 1, 167, 255, 234, 3, 61, 28, 16, 60]
abbrev dktX4_endsIn_2 : List UInt8 := dkwX4_endsIn_2 ++ dktX4_endsIn_3
def dkwX4_endsIn_1 : List UInt8 := [182, 0, 64, 154, 0, 9, 42, 5, 182, 0, 92, 172, 3, 61, 28, 17, 1, 62, 162, 0, 21, 42]
abbrev dktX4_endsIn_1 : List UInt8 := dkwX4_endsIn_1 ++ dktX4_endsIn_2
def dkwX4_endsIn_0 : List UInt8 := [42, 3, 181, 0, 45, 42, 27, 182, 0, 95, 154, 0, 9, 42, 4, 182, 0, 92, 172, 42, 27, 3]
abbrev dktX4_endsIn_0 : List UInt8 := dkwX4_endsIn_0 ++ dktX4_endsIn_1
theorem dksX4_endsIn_0 : cX4_endsIn.data.toList.drop 0 = dktX4_endsIn_0 := by decide +kernel
theorem dksX4_endsIn_1 : cX4_endsIn.data.toList.drop 22 = dktX4_endsIn_1 := dk_seg dksX4_endsIn_0 22 rfl rfl
theorem dksX4_endsIn_2 : cX4_endsIn.data.toList.drop 44 = dktX4_endsIn_2 := dk_seg dksX4_endsIn_1 22 rfl rfl
theorem dksX4_endsIn_3 : cX4_endsIn.data.toList.drop 66 = dktX4_endsIn_3 := dk_seg dksX4_endsIn_2 22 rfl rfl
theorem dksX4_endsIn_4 : cX4_endsIn.data.toList.drop 90 = dktX4_endsIn_4 := dk_seg dksX4_endsIn_3 24 rfl rfl
theorem dksX4_endsIn_5 : cX4_endsIn.data.toList.drop 114 = dktX4_endsIn_5 := dk_seg dksX4_endsIn_4 24 rfl rfl
theorem dksX4_endsIn_6 : cX4_endsIn.data.toList.drop 138 = dktX4_endsIn_6 := dk_seg dksX4_endsIn_5 24 rfl rfl
theorem dX4_endsIn_0 : DC mX4_endsIn 0 = .ok (.aload_n 0, 1) := dk_42 (dk_at dksX4_endsIn_0 0 rfl rfl)
theorem dX4_endsIn_1 : DC mX4_endsIn 1 = .ok (.iconst 0, 1) := dk_3 (dk_at dksX4_endsIn_0 1 rfl rfl)
theorem dX4_endsIn_2 : DC mX4_endsIn 2 = .ok (.putfield 45, 3) := dk_181 0 45 (dk_at dksX4_endsIn_0 2 rfl rfl)
theorem dX4_endsIn_5 : DC mX4_endsIn 5 = .ok (.aload_n 0, 1) := dk_42 (dk_at dksX4_endsIn_0 5 rfl rfl)
theorem dX4_endsIn_6 : DC mX4_endsIn 6 = .ok (.iload_n 1, 1) := dk_27 (dk_at dksX4_endsIn_0 6 rfl rfl)
theorem dX4_endsIn_7 : DC mX4_endsIn 7 = .ok (.invokevirtual 95, 3) := dk_182 0 95 (dk_at dksX4_endsIn_0 7 rfl rfl)
theorem dX4_endsIn_10 : DC mX4_endsIn 10 = .ok (.ifCond .ne 9, 3) := dk_154 0 9 (dk_at dksX4_endsIn_0 10 rfl rfl)
theorem dX4_endsIn_13 : DC mX4_endsIn 13 = .ok (.aload_n 0, 1) := dk_42 (dk_at dksX4_endsIn_0 13 rfl rfl)
theorem dX4_endsIn_14 : DC mX4_endsIn 14 = .ok (.iconst 1, 1) := dk_4 (dk_at dksX4_endsIn_0 14 rfl rfl)
theorem dX4_endsIn_15 : DC mX4_endsIn 15 = .ok (.invokevirtual 92, 3) := dk_182 0 92 (dk_at dksX4_endsIn_0 15 rfl rfl)
theorem dX4_endsIn_18 : DC mX4_endsIn 18 = .ok (.ireturn, 1) := dk_172 (dk_at dksX4_endsIn_0 18 rfl rfl)
theorem dX4_endsIn_19 : DC mX4_endsIn 19 = .ok (.aload_n 0, 1) := dk_42 (dk_at dksX4_endsIn_0 19 rfl rfl)
theorem dX4_endsIn_20 : DC mX4_endsIn 20 = .ok (.iload_n 1, 1) := dk_27 (dk_at dksX4_endsIn_0 20 rfl rfl)
theorem dX4_endsIn_21 : DC mX4_endsIn 21 = .ok (.iconst 0, 1) := dk_3 (dk_at dksX4_endsIn_0 21 rfl rfl)
theorem dX4_endsIn_22 : DC mX4_endsIn 22 = .ok (.invokevirtual 64, 3) := dk_182 0 64 (dk_at dksX4_endsIn_1 0 rfl rfl)
theorem dX4_endsIn_25 : DC mX4_endsIn 25 = .ok (.ifCond .ne 9, 3) := dk_154 0 9 (dk_at dksX4_endsIn_1 3 rfl rfl)
theorem dX4_endsIn_28 : DC mX4_endsIn 28 = .ok (.aload_n 0, 1) := dk_42 (dk_at dksX4_endsIn_1 6 rfl rfl)
theorem dX4_endsIn_29 : DC mX4_endsIn 29 = .ok (.iconst 2, 1) := dk_5 (dk_at dksX4_endsIn_1 7 rfl rfl)
theorem dX4_endsIn_30 : DC mX4_endsIn 30 = .ok (.invokevirtual 92, 3) := dk_182 0 92 (dk_at dksX4_endsIn_1 8 rfl rfl)
theorem dX4_endsIn_33 : DC mX4_endsIn 33 = .ok (.ireturn, 1) := dk_172 (dk_at dksX4_endsIn_1 11 rfl rfl)
theorem dX4_endsIn_34 : DC mX4_endsIn 34 = .ok (.iconst 0, 1) := dk_3 (dk_at dksX4_endsIn_1 12 rfl rfl)
theorem dX4_endsIn_35 : DC mX4_endsIn 35 = .ok (.istore_n 2, 1) := dk_61 (dk_at dksX4_endsIn_1 13 rfl rfl)
theorem dX4_endsIn_36 : DC mX4_endsIn 36 = .ok (.iload_n 2, 1) := dk_28 (dk_at dksX4_endsIn_1 14 rfl rfl)
theorem dX4_endsIn_37 : DC mX4_endsIn 37 = .ok (.sipush 318, 3) := dk_17 1 62 (dk_at dksX4_endsIn_1 15 rfl rfl)
theorem dX4_endsIn_40 : DC mX4_endsIn 40 = .ok (.if_icmp .ge 21, 3) := dk_162 0 21 (dk_at dksX4_endsIn_1 18 rfl rfl)
theorem dX4_endsIn_43 : DC mX4_endsIn 43 = .ok (.aload_n 0, 1) := dk_42 (dk_at dksX4_endsIn_1 21 rfl rfl)
theorem dX4_endsIn_44 : DC mX4_endsIn 44 = .ok (.getfield 16, 3) := dk_180 0 16 (dk_at dksX4_endsIn_2 0 rfl rfl)
theorem dX4_endsIn_47 : DC mX4_endsIn 47 = .ok (.iload_n 2, 1) := dk_28 (dk_at dksX4_endsIn_2 3 rfl rfl)
theorem dX4_endsIn_48 : DC mX4_endsIn 48 = .ok (.aload_n 0, 1) := dk_42 (dk_at dksX4_endsIn_2 4 rfl rfl)
theorem dX4_endsIn_49 : DC mX4_endsIn 49 = .ok (.getfield 9, 3) := dk_180 0 9 (dk_at dksX4_endsIn_2 5 rfl rfl)
theorem dX4_endsIn_52 : DC mX4_endsIn 52 = .ok (.iload_n 2, 1) := dk_28 (dk_at dksX4_endsIn_2 8 rfl rfl)
theorem dX4_endsIn_53 : DC mX4_endsIn 53 = .ok (.iaload, 1) := dk_46 (dk_at dksX4_endsIn_2 9 rfl rfl)
theorem dX4_endsIn_54 : DC mX4_endsIn 54 = .ok (.iastore, 1) := dk_79 (dk_at dksX4_endsIn_2 10 rfl rfl)
theorem dX4_endsIn_55 : DC mX4_endsIn 55 = .ok (.iinc 2 1, 3) := dk_132 2 1 (dk_at dksX4_endsIn_2 11 rfl rfl)
theorem dX4_endsIn_58 : DC mX4_endsIn 58 = .ok (.goto (-22), 3) := dk_167 255 234 (dk_at dksX4_endsIn_2 14 rfl rfl)
theorem dX4_endsIn_61 : DC mX4_endsIn 61 = .ok (.iconst 0, 1) := dk_3 (dk_at dksX4_endsIn_2 17 rfl rfl)
theorem dX4_endsIn_62 : DC mX4_endsIn 62 = .ok (.istore_n 2, 1) := dk_61 (dk_at dksX4_endsIn_2 18 rfl rfl)
theorem dX4_endsIn_63 : DC mX4_endsIn 63 = .ok (.iload_n 2, 1) := dk_28 (dk_at dksX4_endsIn_2 19 rfl rfl)
theorem dX4_endsIn_64 : DC mX4_endsIn 64 = .ok (.bipush 60, 2) := dk_16 60 (dk_at dksX4_endsIn_2 20 rfl rfl)
theorem dX4_endsIn_66 : DC mX4_endsIn 66 = .ok (.if_icmp .ge 22, 3) := dk_162 0 22 (dk_at dksX4_endsIn_3 0 rfl rfl)
theorem dX4_endsIn_69 : DC mX4_endsIn 69 = .ok (.aload_n 0, 1) := dk_42 (dk_at dksX4_endsIn_3 3 rfl rfl)
theorem dX4_endsIn_70 : DC mX4_endsIn 70 = .ok (.iload_n 1, 1) := dk_27 (dk_at dksX4_endsIn_3 4 rfl rfl)
theorem dX4_endsIn_71 : DC mX4_endsIn 71 = .ok (.invokevirtual 163, 3) := dk_182 0 163 (dk_at dksX4_endsIn_3 5 rfl rfl)
theorem dX4_endsIn_74 : DC mX4_endsIn 74 = .ok (.ifCond .eq 14, 3) := dk_153 0 14 (dk_at dksX4_endsIn_3 8 rfl rfl)
theorem dX4_endsIn_77 : DC mX4_endsIn 77 = .ok (.aload_n 0, 1) := dk_42 (dk_at dksX4_endsIn_3 11 rfl rfl)
theorem dX4_endsIn_78 : DC mX4_endsIn 78 = .ok (.invokevirtual 169, 3) := dk_182 0 169 (dk_at dksX4_endsIn_3 12 rfl rfl)
theorem dX4_endsIn_81 : DC mX4_endsIn 81 = .ok (.istore_n 3, 1) := dk_62 (dk_at dksX4_endsIn_3 15 rfl rfl)
theorem dX4_endsIn_82 : DC mX4_endsIn 82 = .ok (.iinc 2 1, 3) := dk_132 2 1 (dk_at dksX4_endsIn_3 16 rfl rfl)
theorem dX4_endsIn_85 : DC mX4_endsIn 85 = .ok (.goto (-22), 3) := dk_167 255 234 (dk_at dksX4_endsIn_3 19 rfl rfl)
theorem dX4_endsIn_88 : DC mX4_endsIn 88 = .ok (.aload_n 0, 1) := dk_42 (dk_at dksX4_endsIn_3 22 rfl rfl)
theorem dX4_endsIn_89 : DC mX4_endsIn 89 = .ok (.iload_n 1, 1) := dk_27 (dk_at dksX4_endsIn_3 23 rfl rfl)
theorem dX4_endsIn_90 : DC mX4_endsIn 90 = .ok (.invokevirtual 163, 3) := dk_182 0 163 (dk_at dksX4_endsIn_4 0 rfl rfl)
theorem dX4_endsIn_93 : DC mX4_endsIn 93 = .ok (.ifCond .ne 7, 3) := dk_154 0 7 (dk_at dksX4_endsIn_4 3 rfl rfl)
theorem dX4_endsIn_96 : DC mX4_endsIn 96 = .ok (.iconst 1, 1) := dk_4 (dk_at dksX4_endsIn_4 6 rfl rfl)
theorem dX4_endsIn_97 : DC mX4_endsIn 97 = .ok (.goto 4, 3) := dk_167 0 4 (dk_at dksX4_endsIn_4 7 rfl rfl)
theorem dX4_endsIn_100 : DC mX4_endsIn 100 = .ok (.iconst 0, 1) := dk_3 (dk_at dksX4_endsIn_4 10 rfl rfl)
theorem dX4_endsIn_101 : DC mX4_endsIn 101 = .ok (.istore_n 3, 1) := dk_62 (dk_at dksX4_endsIn_4 11 rfl rfl)
theorem dX4_endsIn_102 : DC mX4_endsIn 102 = .ok (.iconst 0, 1) := dk_3 (dk_at dksX4_endsIn_4 12 rfl rfl)
theorem dX4_endsIn_103 : DC mX4_endsIn 103 = .ok (.istore 4, 2) := dk_54 4 (dk_at dksX4_endsIn_4 13 rfl rfl)
theorem dX4_endsIn_105 : DC mX4_endsIn 105 = .ok (.iload 4, 2) := dk_21 4 (dk_at dksX4_endsIn_4 15 rfl rfl)
theorem dX4_endsIn_107 : DC mX4_endsIn 107 = .ok (.sipush 318, 3) := dk_17 1 62 (dk_at dksX4_endsIn_4 17 rfl rfl)
theorem dX4_endsIn_110 : DC mX4_endsIn 110 = .ok (.if_icmp .ge 23, 3) := dk_162 0 23 (dk_at dksX4_endsIn_4 20 rfl rfl)
theorem dX4_endsIn_113 : DC mX4_endsIn 113 = .ok (.aload_n 0, 1) := dk_42 (dk_at dksX4_endsIn_4 23 rfl rfl)
theorem dX4_endsIn_114 : DC mX4_endsIn 114 = .ok (.getfield 9, 3) := dk_180 0 9 (dk_at dksX4_endsIn_5 0 rfl rfl)
theorem dX4_endsIn_117 : DC mX4_endsIn 117 = .ok (.iload 4, 2) := dk_21 4 (dk_at dksX4_endsIn_5 3 rfl rfl)
theorem dX4_endsIn_119 : DC mX4_endsIn 119 = .ok (.aload_n 0, 1) := dk_42 (dk_at dksX4_endsIn_5 5 rfl rfl)
theorem dX4_endsIn_120 : DC mX4_endsIn 120 = .ok (.getfield 16, 3) := dk_180 0 16 (dk_at dksX4_endsIn_5 6 rfl rfl)
theorem dX4_endsIn_123 : DC mX4_endsIn 123 = .ok (.iload 4, 2) := dk_21 4 (dk_at dksX4_endsIn_5 9 rfl rfl)
theorem dX4_endsIn_125 : DC mX4_endsIn 125 = .ok (.iaload, 1) := dk_46 (dk_at dksX4_endsIn_5 11 rfl rfl)
theorem dX4_endsIn_126 : DC mX4_endsIn 126 = .ok (.iastore, 1) := dk_79 (dk_at dksX4_endsIn_5 12 rfl rfl)
theorem dX4_endsIn_127 : DC mX4_endsIn 127 = .ok (.iinc 4 1, 3) := dk_132 4 1 (dk_at dksX4_endsIn_5 13 rfl rfl)
theorem dX4_endsIn_130 : DC mX4_endsIn 130 = .ok (.goto (-25), 3) := dk_167 255 231 (dk_at dksX4_endsIn_5 16 rfl rfl)
theorem dX4_endsIn_133 : DC mX4_endsIn 133 = .ok (.iload_n 3, 1) := dk_29 (dk_at dksX4_endsIn_5 19 rfl rfl)
theorem dX4_endsIn_134 : DC mX4_endsIn 134 = .ok (.ifCond .eq 7, 3) := dk_153 0 7 (dk_at dksX4_endsIn_5 20 rfl rfl)
theorem dX4_endsIn_137 : DC mX4_endsIn 137 = .ok (.iload_n 2, 1) := dk_28 (dk_at dksX4_endsIn_5 23 rfl rfl)
theorem dX4_endsIn_138 : DC mX4_endsIn 138 = .ok (.goto 8, 3) := dk_167 0 8 (dk_at dksX4_endsIn_6 0 rfl rfl)
theorem dX4_endsIn_141 : DC mX4_endsIn 141 = .ok (.aload_n 0, 1) := dk_42 (dk_at dksX4_endsIn_6 3 rfl rfl)
theorem dX4_endsIn_142 : DC mX4_endsIn 142 = .ok (.iconst 2, 1) := dk_5 (dk_at dksX4_endsIn_6 4 rfl rfl)
theorem dX4_endsIn_143 : DC mX4_endsIn 143 = .ok (.invokevirtual 92, 3) := dk_182 0 92 (dk_at dksX4_endsIn_6 5 rfl rfl)
theorem dX4_endsIn_146 : DC mX4_endsIn 146 = .ok (.ireturn, 1) := dk_172 (dk_at dksX4_endsIn_6 8 rfl rfl)
abbrev cX4_costs : ByteArray := prog_13_method_53_code
def yX4_costs : MethodName := ⟨RX4, "costs", "(I)I"⟩
def mX4_costs : MI := (⟨"TheatreSagaModel", "costs", "(I)I"⟩, prog_13_method_53_code, 4, (Option.some FieldType.int), none, 42, 4)
theorem oX4_costs : mO mX4_costs = 42 := rfl
theorem lX4_costs : mL mX4_costs = 4 := rfl
theorem rX4_costs : mR mX4_costs = (Option.some FieldType.int) := rfl
theorem vX4_costs : mV mX4_costs = 4 := rfl
theorem nX4_costs : (mY mX4_costs).name = "costs" := rfl
theorem hX4_costs : mH mX4_costs = none := rfl
theorem kX4_costs : MOk mX4_costs := ⟨q2650, q91, by decide +kernel⟩
theorem gX4_costs : plainName (mY mX4_costs).cls = true ∧ (mY mX4_costs).cls = "TheatreSagaModel" := ⟨by decide +kernel, rfl⟩
def dkwX4_costs_2 : List UInt8 := [132, 3, 1, 167, 255, 234, 28, 172]
abbrev dktX4_costs_2 : List UInt8 := dkwX4_costs_2 ++ []
def dkwX4_costs_1 : List UInt8 := [182, 0, 64, 62, 29, 42, 27, 5, 182, 0, 64, 162, 0, 18, 28, 42, 27, 29, 182, 0, 148, 96, 61]
abbrev dktX4_costs_1 : List UInt8 := dkwX4_costs_1 ++ dktX4_costs_2
def dkwX4_costs_0 : List UInt8 := [42, 3, 181, 0, 45, 42, 27, 182, 0, 95, 154, 0, 9, 42, 4, 182, 0, 92, 172, 3, 61, 42, 27, 6]
abbrev dktX4_costs_0 : List UInt8 := dkwX4_costs_0 ++ dktX4_costs_1
theorem dksX4_costs_0 : cX4_costs.data.toList.drop 0 = dktX4_costs_0 := by decide +kernel
theorem dksX4_costs_1 : cX4_costs.data.toList.drop 24 = dktX4_costs_1 := dk_seg dksX4_costs_0 24 rfl rfl
theorem dksX4_costs_2 : cX4_costs.data.toList.drop 47 = dktX4_costs_2 := dk_seg dksX4_costs_1 23 rfl rfl
theorem dX4_costs_0 : DC mX4_costs 0 = .ok (.aload_n 0, 1) := dk_42 (dk_at dksX4_costs_0 0 rfl rfl)
theorem dX4_costs_1 : DC mX4_costs 1 = .ok (.iconst 0, 1) := dk_3 (dk_at dksX4_costs_0 1 rfl rfl)
theorem dX4_costs_2 : DC mX4_costs 2 = .ok (.putfield 45, 3) := dk_181 0 45 (dk_at dksX4_costs_0 2 rfl rfl)
theorem dX4_costs_5 : DC mX4_costs 5 = .ok (.aload_n 0, 1) := dk_42 (dk_at dksX4_costs_0 5 rfl rfl)
theorem dX4_costs_6 : DC mX4_costs 6 = .ok (.iload_n 1, 1) := dk_27 (dk_at dksX4_costs_0 6 rfl rfl)
theorem dX4_costs_7 : DC mX4_costs 7 = .ok (.invokevirtual 95, 3) := dk_182 0 95 (dk_at dksX4_costs_0 7 rfl rfl)
theorem dX4_costs_10 : DC mX4_costs 10 = .ok (.ifCond .ne 9, 3) := dk_154 0 9 (dk_at dksX4_costs_0 10 rfl rfl)
theorem dX4_costs_13 : DC mX4_costs 13 = .ok (.aload_n 0, 1) := dk_42 (dk_at dksX4_costs_0 13 rfl rfl)
theorem dX4_costs_14 : DC mX4_costs 14 = .ok (.iconst 1, 1) := dk_4 (dk_at dksX4_costs_0 14 rfl rfl)
theorem dX4_costs_15 : DC mX4_costs 15 = .ok (.invokevirtual 92, 3) := dk_182 0 92 (dk_at dksX4_costs_0 15 rfl rfl)
theorem dX4_costs_18 : DC mX4_costs 18 = .ok (.ireturn, 1) := dk_172 (dk_at dksX4_costs_0 18 rfl rfl)
theorem dX4_costs_19 : DC mX4_costs 19 = .ok (.iconst 0, 1) := dk_3 (dk_at dksX4_costs_0 19 rfl rfl)
theorem dX4_costs_20 : DC mX4_costs 20 = .ok (.istore_n 2, 1) := dk_61 (dk_at dksX4_costs_0 20 rfl rfl)
theorem dX4_costs_21 : DC mX4_costs 21 = .ok (.aload_n 0, 1) := dk_42 (dk_at dksX4_costs_0 21 rfl rfl)
theorem dX4_costs_22 : DC mX4_costs 22 = .ok (.iload_n 1, 1) := dk_27 (dk_at dksX4_costs_0 22 rfl rfl)
theorem dX4_costs_23 : DC mX4_costs 23 = .ok (.iconst 3, 1) := dk_6 (dk_at dksX4_costs_0 23 rfl rfl)
theorem dX4_costs_24 : DC mX4_costs 24 = .ok (.invokevirtual 64, 3) := dk_182 0 64 (dk_at dksX4_costs_1 0 rfl rfl)
theorem dX4_costs_27 : DC mX4_costs 27 = .ok (.istore_n 3, 1) := dk_62 (dk_at dksX4_costs_1 3 rfl rfl)
theorem dX4_costs_28 : DC mX4_costs 28 = .ok (.iload_n 3, 1) := dk_29 (dk_at dksX4_costs_1 4 rfl rfl)
theorem dX4_costs_29 : DC mX4_costs 29 = .ok (.aload_n 0, 1) := dk_42 (dk_at dksX4_costs_1 5 rfl rfl)
theorem dX4_costs_30 : DC mX4_costs 30 = .ok (.iload_n 1, 1) := dk_27 (dk_at dksX4_costs_1 6 rfl rfl)
theorem dX4_costs_31 : DC mX4_costs 31 = .ok (.iconst 2, 1) := dk_5 (dk_at dksX4_costs_1 7 rfl rfl)
theorem dX4_costs_32 : DC mX4_costs 32 = .ok (.invokevirtual 64, 3) := dk_182 0 64 (dk_at dksX4_costs_1 8 rfl rfl)
theorem dX4_costs_35 : DC mX4_costs 35 = .ok (.if_icmp .ge 18, 3) := dk_162 0 18 (dk_at dksX4_costs_1 11 rfl rfl)
theorem dX4_costs_38 : DC mX4_costs 38 = .ok (.iload_n 2, 1) := dk_28 (dk_at dksX4_costs_1 14 rfl rfl)
theorem dX4_costs_39 : DC mX4_costs 39 = .ok (.aload_n 0, 1) := dk_42 (dk_at dksX4_costs_1 15 rfl rfl)
theorem dX4_costs_40 : DC mX4_costs 40 = .ok (.iload_n 1, 1) := dk_27 (dk_at dksX4_costs_1 16 rfl rfl)
theorem dX4_costs_41 : DC mX4_costs 41 = .ok (.iload_n 3, 1) := dk_29 (dk_at dksX4_costs_1 17 rfl rfl)
theorem dX4_costs_42 : DC mX4_costs 42 = .ok (.invokevirtual 148, 3) := dk_182 0 148 (dk_at dksX4_costs_1 18 rfl rfl)
theorem dX4_costs_45 : DC mX4_costs 45 = .ok (.iadd, 1) := dk_96 (dk_at dksX4_costs_1 21 rfl rfl)
theorem dX4_costs_46 : DC mX4_costs 46 = .ok (.istore_n 2, 1) := dk_61 (dk_at dksX4_costs_1 22 rfl rfl)
theorem dX4_costs_47 : DC mX4_costs 47 = .ok (.iinc 3 1, 3) := dk_132 3 1 (dk_at dksX4_costs_2 0 rfl rfl)
theorem dX4_costs_50 : DC mX4_costs 50 = .ok (.goto (-22), 3) := dk_167 255 234 (dk_at dksX4_costs_2 3 rfl rfl)
theorem dX4_costs_53 : DC mX4_costs 53 = .ok (.iload_n 2, 1) := dk_28 (dk_at dksX4_costs_2 6 rfl rfl)
theorem dX4_costs_54 : DC mX4_costs 54 = .ok (.ireturn, 1) := dk_172 (dk_at dksX4_costs_2 7 rfl rfl)
abbrev cX4_cheapest : ByteArray := prog_13_method_54_code
def yX4_cheapest : MethodName := ⟨RX4, "cheapest", "(III)I"⟩
def mX4_cheapest : MI := (⟨"TheatreSagaModel", "cheapest", "(III)I"⟩, prog_13_method_54_code, 6, (Option.some FieldType.int), none, 42, 4)
theorem oX4_cheapest : mO mX4_cheapest = 42 := rfl
theorem lX4_cheapest : mL mX4_cheapest = 6 := rfl
theorem rX4_cheapest : mR mX4_cheapest = (Option.some FieldType.int) := rfl
theorem vX4_cheapest : mV mX4_cheapest = 4 := rfl
theorem nX4_cheapest : (mY mX4_cheapest).name = "cheapest" := rfl
theorem hX4_cheapest : mH mX4_cheapest = none := rfl
theorem kX4_cheapest : MOk mX4_cheapest := ⟨q2654, q91, by decide +kernel⟩
theorem gX4_cheapest : plainName (mY mX4_cheapest).cls = true ∧ (mY mX4_cheapest).cls = "TheatreSagaModel" := ⟨by decide +kernel, rfl⟩
def dkwX4_cheapest_5 : List UInt8 := [182, 0, 92, 167, 0, 5, 21, 4, 172]
abbrev dktX4_cheapest_5 : List UInt8 := dkwX4_cheapest_5 ++ []
def dkwX4_cheapest_4 : List UInt8 := [182, 0, 139, 162, 0, 7, 21, 5, 54, 4, 132, 5, 1, 167, 255, 199, 21, 4, 156, 0, 11, 42, 6]
abbrev dktX4_cheapest_4 : List UInt8 := dkwX4_cheapest_4 ++ dktX4_cheapest_5
def dkwX4_cheapest_3 : List UInt8 := [182, 0, 145, 29, 162, 0, 6, 167, 0, 27, 21, 4, 155, 0, 18, 42, 21, 5, 182, 0, 139, 42, 21, 4]
abbrev dktX4_cheapest_3 : List UInt8 := dkwX4_cheapest_3 ++ dktX4_cheapest_4
def dkwX4_cheapest_2 : List UInt8 := [54, 5, 21, 5, 8, 162, 0, 57, 42, 21, 5, 182, 0, 68, 154, 0, 42, 42, 27, 21, 5, 28]
abbrev dktX4_cheapest_2 : List UInt8 := dkwX4_cheapest_2 ++ dktX4_cheapest_3
def dkwX4_cheapest_1 : List UInt8 := [182, 0, 92, 172, 29, 4, 16, 12, 184, 0, 60, 154, 0, 9, 42, 5, 182, 0, 92, 172, 2, 54, 4, 3]
abbrev dktX4_cheapest_1 : List UInt8 := dkwX4_cheapest_1 ++ dktX4_cheapest_2
def dkwX4_cheapest_0 : List UInt8 := [42, 3, 181, 0, 45, 27, 3, 5, 184, 0, 60, 153, 0, 10, 28, 184, 0, 101, 154, 0, 9, 42, 4]
abbrev dktX4_cheapest_0 : List UInt8 := dkwX4_cheapest_0 ++ dktX4_cheapest_1
theorem dksX4_cheapest_0 : cX4_cheapest.data.toList.drop 0 = dktX4_cheapest_0 := by decide +kernel
theorem dksX4_cheapest_1 : cX4_cheapest.data.toList.drop 23 = dktX4_cheapest_1 := dk_seg dksX4_cheapest_0 23 rfl rfl
theorem dksX4_cheapest_2 : cX4_cheapest.data.toList.drop 47 = dktX4_cheapest_2 := dk_seg dksX4_cheapest_1 24 rfl rfl
theorem dksX4_cheapest_3 : cX4_cheapest.data.toList.drop 69 = dktX4_cheapest_3 := dk_seg dksX4_cheapest_2 22 rfl rfl
theorem dksX4_cheapest_4 : cX4_cheapest.data.toList.drop 93 = dktX4_cheapest_4 := dk_seg dksX4_cheapest_3 24 rfl rfl
theorem dksX4_cheapest_5 : cX4_cheapest.data.toList.drop 116 = dktX4_cheapest_5 := dk_seg dksX4_cheapest_4 23 rfl rfl
theorem dX4_cheapest_0 : DC mX4_cheapest 0 = .ok (.aload_n 0, 1) := dk_42 (dk_at dksX4_cheapest_0 0 rfl rfl)
theorem dX4_cheapest_1 : DC mX4_cheapest 1 = .ok (.iconst 0, 1) := dk_3 (dk_at dksX4_cheapest_0 1 rfl rfl)
theorem dX4_cheapest_2 : DC mX4_cheapest 2 = .ok (.putfield 45, 3) := dk_181 0 45 (dk_at dksX4_cheapest_0 2 rfl rfl)
theorem dX4_cheapest_5 : DC mX4_cheapest 5 = .ok (.iload_n 1, 1) := dk_27 (dk_at dksX4_cheapest_0 5 rfl rfl)
theorem dX4_cheapest_6 : DC mX4_cheapest 6 = .ok (.iconst 0, 1) := dk_3 (dk_at dksX4_cheapest_0 6 rfl rfl)
theorem dX4_cheapest_7 : DC mX4_cheapest 7 = .ok (.iconst 2, 1) := dk_5 (dk_at dksX4_cheapest_0 7 rfl rfl)
theorem dX4_cheapest_8 : DC mX4_cheapest 8 = .ok (.invokestatic 60, 3) := dk_184 0 60 (dk_at dksX4_cheapest_0 8 rfl rfl)
theorem dX4_cheapest_11 : DC mX4_cheapest 11 = .ok (.ifCond .eq 10, 3) := dk_153 0 10 (dk_at dksX4_cheapest_0 11 rfl rfl)
theorem dX4_cheapest_14 : DC mX4_cheapest 14 = .ok (.iload_n 2, 1) := dk_28 (dk_at dksX4_cheapest_0 14 rfl rfl)
theorem dX4_cheapest_15 : DC mX4_cheapest 15 = .ok (.invokestatic 101, 3) := dk_184 0 101 (dk_at dksX4_cheapest_0 15 rfl rfl)
theorem dX4_cheapest_18 : DC mX4_cheapest 18 = .ok (.ifCond .ne 9, 3) := dk_154 0 9 (dk_at dksX4_cheapest_0 18 rfl rfl)
theorem dX4_cheapest_21 : DC mX4_cheapest 21 = .ok (.aload_n 0, 1) := dk_42 (dk_at dksX4_cheapest_0 21 rfl rfl)
theorem dX4_cheapest_22 : DC mX4_cheapest 22 = .ok (.iconst 1, 1) := dk_4 (dk_at dksX4_cheapest_0 22 rfl rfl)
theorem dX4_cheapest_23 : DC mX4_cheapest 23 = .ok (.invokevirtual 92, 3) := dk_182 0 92 (dk_at dksX4_cheapest_1 0 rfl rfl)
theorem dX4_cheapest_26 : DC mX4_cheapest 26 = .ok (.ireturn, 1) := dk_172 (dk_at dksX4_cheapest_1 3 rfl rfl)
theorem dX4_cheapest_27 : DC mX4_cheapest 27 = .ok (.iload_n 3, 1) := dk_29 (dk_at dksX4_cheapest_1 4 rfl rfl)
theorem dX4_cheapest_28 : DC mX4_cheapest 28 = .ok (.iconst 1, 1) := dk_4 (dk_at dksX4_cheapest_1 5 rfl rfl)
theorem dX4_cheapest_29 : DC mX4_cheapest 29 = .ok (.bipush 12, 2) := dk_16 12 (dk_at dksX4_cheapest_1 6 rfl rfl)
theorem dX4_cheapest_31 : DC mX4_cheapest 31 = .ok (.invokestatic 60, 3) := dk_184 0 60 (dk_at dksX4_cheapest_1 8 rfl rfl)
theorem dX4_cheapest_34 : DC mX4_cheapest 34 = .ok (.ifCond .ne 9, 3) := dk_154 0 9 (dk_at dksX4_cheapest_1 11 rfl rfl)
theorem dX4_cheapest_37 : DC mX4_cheapest 37 = .ok (.aload_n 0, 1) := dk_42 (dk_at dksX4_cheapest_1 14 rfl rfl)
theorem dX4_cheapest_38 : DC mX4_cheapest 38 = .ok (.iconst 2, 1) := dk_5 (dk_at dksX4_cheapest_1 15 rfl rfl)
theorem dX4_cheapest_39 : DC mX4_cheapest 39 = .ok (.invokevirtual 92, 3) := dk_182 0 92 (dk_at dksX4_cheapest_1 16 rfl rfl)
theorem dX4_cheapest_42 : DC mX4_cheapest 42 = .ok (.ireturn, 1) := dk_172 (dk_at dksX4_cheapest_1 19 rfl rfl)
theorem dX4_cheapest_43 : DC mX4_cheapest 43 = .ok (.iconst (-1), 1) := dk_2 (dk_at dksX4_cheapest_1 20 rfl rfl)
theorem dX4_cheapest_44 : DC mX4_cheapest 44 = .ok (.istore 4, 2) := dk_54 4 (dk_at dksX4_cheapest_1 21 rfl rfl)
theorem dX4_cheapest_46 : DC mX4_cheapest 46 = .ok (.iconst 0, 1) := dk_3 (dk_at dksX4_cheapest_1 23 rfl rfl)
theorem dX4_cheapest_47 : DC mX4_cheapest 47 = .ok (.istore 5, 2) := dk_54 5 (dk_at dksX4_cheapest_2 0 rfl rfl)
theorem dX4_cheapest_49 : DC mX4_cheapest 49 = .ok (.iload 5, 2) := dk_21 5 (dk_at dksX4_cheapest_2 2 rfl rfl)
theorem dX4_cheapest_51 : DC mX4_cheapest 51 = .ok (.iconst 5, 1) := dk_8 (dk_at dksX4_cheapest_2 4 rfl rfl)
theorem dX4_cheapest_52 : DC mX4_cheapest 52 = .ok (.if_icmp .ge 57, 3) := dk_162 0 57 (dk_at dksX4_cheapest_2 5 rfl rfl)
theorem dX4_cheapest_55 : DC mX4_cheapest 55 = .ok (.aload_n 0, 1) := dk_42 (dk_at dksX4_cheapest_2 8 rfl rfl)
theorem dX4_cheapest_56 : DC mX4_cheapest 56 = .ok (.iload 5, 2) := dk_21 5 (dk_at dksX4_cheapest_2 9 rfl rfl)
theorem dX4_cheapest_58 : DC mX4_cheapest 58 = .ok (.invokevirtual 68, 3) := dk_182 0 68 (dk_at dksX4_cheapest_2 11 rfl rfl)
theorem dX4_cheapest_61 : DC mX4_cheapest 61 = .ok (.ifCond .ne 42, 3) := dk_154 0 42 (dk_at dksX4_cheapest_2 14 rfl rfl)
theorem dX4_cheapest_64 : DC mX4_cheapest 64 = .ok (.aload_n 0, 1) := dk_42 (dk_at dksX4_cheapest_2 17 rfl rfl)
theorem dX4_cheapest_65 : DC mX4_cheapest 65 = .ok (.iload_n 1, 1) := dk_27 (dk_at dksX4_cheapest_2 18 rfl rfl)
theorem dX4_cheapest_66 : DC mX4_cheapest 66 = .ok (.iload 5, 2) := dk_21 5 (dk_at dksX4_cheapest_2 19 rfl rfl)
theorem dX4_cheapest_68 : DC mX4_cheapest 68 = .ok (.iload_n 2, 1) := dk_28 (dk_at dksX4_cheapest_2 21 rfl rfl)
theorem dX4_cheapest_69 : DC mX4_cheapest 69 = .ok (.invokevirtual 145, 3) := dk_182 0 145 (dk_at dksX4_cheapest_3 0 rfl rfl)
theorem dX4_cheapest_72 : DC mX4_cheapest 72 = .ok (.iload_n 3, 1) := dk_29 (dk_at dksX4_cheapest_3 3 rfl rfl)
theorem dX4_cheapest_73 : DC mX4_cheapest 73 = .ok (.if_icmp .ge 6, 3) := dk_162 0 6 (dk_at dksX4_cheapest_3 4 rfl rfl)
theorem dX4_cheapest_76 : DC mX4_cheapest 76 = .ok (.goto 27, 3) := dk_167 0 27 (dk_at dksX4_cheapest_3 7 rfl rfl)
theorem dX4_cheapest_79 : DC mX4_cheapest 79 = .ok (.iload 4, 2) := dk_21 4 (dk_at dksX4_cheapest_3 10 rfl rfl)
theorem dX4_cheapest_81 : DC mX4_cheapest 81 = .ok (.ifCond .lt 18, 3) := dk_155 0 18 (dk_at dksX4_cheapest_3 12 rfl rfl)
theorem dX4_cheapest_84 : DC mX4_cheapest 84 = .ok (.aload_n 0, 1) := dk_42 (dk_at dksX4_cheapest_3 15 rfl rfl)
theorem dX4_cheapest_85 : DC mX4_cheapest 85 = .ok (.iload 5, 2) := dk_21 5 (dk_at dksX4_cheapest_3 16 rfl rfl)
theorem dX4_cheapest_87 : DC mX4_cheapest 87 = .ok (.invokevirtual 139, 3) := dk_182 0 139 (dk_at dksX4_cheapest_3 18 rfl rfl)
theorem dX4_cheapest_90 : DC mX4_cheapest 90 = .ok (.aload_n 0, 1) := dk_42 (dk_at dksX4_cheapest_3 21 rfl rfl)
theorem dX4_cheapest_91 : DC mX4_cheapest 91 = .ok (.iload 4, 2) := dk_21 4 (dk_at dksX4_cheapest_3 22 rfl rfl)
theorem dX4_cheapest_93 : DC mX4_cheapest 93 = .ok (.invokevirtual 139, 3) := dk_182 0 139 (dk_at dksX4_cheapest_4 0 rfl rfl)
theorem dX4_cheapest_96 : DC mX4_cheapest 96 = .ok (.if_icmp .ge 7, 3) := dk_162 0 7 (dk_at dksX4_cheapest_4 3 rfl rfl)
theorem dX4_cheapest_99 : DC mX4_cheapest 99 = .ok (.iload 5, 2) := dk_21 5 (dk_at dksX4_cheapest_4 6 rfl rfl)
theorem dX4_cheapest_101 : DC mX4_cheapest 101 = .ok (.istore 4, 2) := dk_54 4 (dk_at dksX4_cheapest_4 8 rfl rfl)
theorem dX4_cheapest_103 : DC mX4_cheapest 103 = .ok (.iinc 5 1, 3) := dk_132 5 1 (dk_at dksX4_cheapest_4 10 rfl rfl)
theorem dX4_cheapest_106 : DC mX4_cheapest 106 = .ok (.goto (-57), 3) := dk_167 255 199 (dk_at dksX4_cheapest_4 13 rfl rfl)
theorem dX4_cheapest_109 : DC mX4_cheapest 109 = .ok (.iload 4, 2) := dk_21 4 (dk_at dksX4_cheapest_4 16 rfl rfl)
theorem dX4_cheapest_111 : DC mX4_cheapest 111 = .ok (.ifCond .ge 11, 3) := dk_156 0 11 (dk_at dksX4_cheapest_4 18 rfl rfl)
theorem dX4_cheapest_114 : DC mX4_cheapest 114 = .ok (.aload_n 0, 1) := dk_42 (dk_at dksX4_cheapest_4 21 rfl rfl)
theorem dX4_cheapest_115 : DC mX4_cheapest 115 = .ok (.iconst 3, 1) := dk_6 (dk_at dksX4_cheapest_4 22 rfl rfl)
theorem dX4_cheapest_116 : DC mX4_cheapest 116 = .ok (.invokevirtual 92, 3) := dk_182 0 92 (dk_at dksX4_cheapest_5 0 rfl rfl)
theorem dX4_cheapest_119 : DC mX4_cheapest 119 = .ok (.goto 5, 3) := dk_167 0 5 (dk_at dksX4_cheapest_5 3 rfl rfl)
theorem dX4_cheapest_122 : DC mX4_cheapest 122 = .ok (.iload 4, 2) := dk_21 4 (dk_at dksX4_cheapest_5 6 rfl rfl)
theorem dX4_cheapest_124 : DC mX4_cheapest 124 = .ok (.ireturn, 1) := dk_172 (dk_at dksX4_cheapest_5 8 rfl rfl)
abbrev cX4_ranked : ByteArray := prog_13_method_56_code
def yX4_ranked : MethodName := ⟨RX4, "ranked", "(I)I"⟩
def mX4_ranked : MI := (⟨"TheatreSagaModel", "ranked", "(I)I"⟩, prog_13_method_56_code, 5, (Option.some FieldType.int), none, 42, 3)
theorem oX4_ranked : mO mX4_ranked = 42 := rfl
theorem lX4_ranked : mL mX4_ranked = 5 := rfl
theorem rX4_ranked : mR mX4_ranked = (Option.some FieldType.int) := rfl
theorem vX4_ranked : mV mX4_ranked = 3 := rfl
theorem nX4_ranked : (mY mX4_ranked).name = "ranked" := rfl
theorem hX4_ranked : mH mX4_ranked = none := rfl
theorem kX4_ranked : MOk mX4_ranked := ⟨q2658, q91, by decide +kernel⟩
theorem gX4_ranked : plainName (mY mX4_ranked).cls = true ∧ (mY mX4_ranked).cls = "TheatreSagaModel" := ⟨by decide +kernel, rfl⟩
def dkwX4_ranked_3 : List UInt8 := [132, 2, 1, 167, 255, 193, 42, 4, 182, 0, 92, 172]
abbrev dktX4_ranked_3 : List UInt8 := dkwX4_ranked_3 ++ []
def dkwX4_ranked_2 : List UInt8 := [182, 0, 178, 153, 0, 6, 132, 3, 1, 132, 4, 1, 167, 255, 222, 29, 27, 160, 0, 5, 28, 172]
abbrev dktX4_ranked_2 : List UInt8 := dkwX4_ranked_2 ++ dktX4_ranked_3
def dkwX4_ranked_1 : List UInt8 := [21, 4, 42, 180, 0, 9, 16, 8, 46, 162, 0, 28, 21, 4, 28, 159, 0, 16, 42, 21, 4, 28]
abbrev dktX4_ranked_1 : List UInt8 := dkwX4_ranked_1 ++ dktX4_ranked_2
def dkwX4_ranked_0 : List UInt8 := [42, 3, 181, 0, 45, 3, 61, 28, 42, 180, 0, 9, 16, 8, 46, 162, 0, 58, 3, 62, 3, 54, 4]
abbrev dktX4_ranked_0 : List UInt8 := dkwX4_ranked_0 ++ dktX4_ranked_1
theorem dksX4_ranked_0 : cX4_ranked.data.toList.drop 0 = dktX4_ranked_0 := by decide +kernel
theorem dksX4_ranked_1 : cX4_ranked.data.toList.drop 23 = dktX4_ranked_1 := dk_seg dksX4_ranked_0 23 rfl rfl
theorem dksX4_ranked_2 : cX4_ranked.data.toList.drop 45 = dktX4_ranked_2 := dk_seg dksX4_ranked_1 22 rfl rfl
theorem dksX4_ranked_3 : cX4_ranked.data.toList.drop 67 = dktX4_ranked_3 := dk_seg dksX4_ranked_2 22 rfl rfl
theorem dX4_ranked_0 : DC mX4_ranked 0 = .ok (.aload_n 0, 1) := dk_42 (dk_at dksX4_ranked_0 0 rfl rfl)
theorem dX4_ranked_1 : DC mX4_ranked 1 = .ok (.iconst 0, 1) := dk_3 (dk_at dksX4_ranked_0 1 rfl rfl)
theorem dX4_ranked_2 : DC mX4_ranked 2 = .ok (.putfield 45, 3) := dk_181 0 45 (dk_at dksX4_ranked_0 2 rfl rfl)
theorem dX4_ranked_5 : DC mX4_ranked 5 = .ok (.iconst 0, 1) := dk_3 (dk_at dksX4_ranked_0 5 rfl rfl)
theorem dX4_ranked_6 : DC mX4_ranked 6 = .ok (.istore_n 2, 1) := dk_61 (dk_at dksX4_ranked_0 6 rfl rfl)
theorem dX4_ranked_7 : DC mX4_ranked 7 = .ok (.iload_n 2, 1) := dk_28 (dk_at dksX4_ranked_0 7 rfl rfl)
theorem dX4_ranked_8 : DC mX4_ranked 8 = .ok (.aload_n 0, 1) := dk_42 (dk_at dksX4_ranked_0 8 rfl rfl)
theorem dX4_ranked_9 : DC mX4_ranked 9 = .ok (.getfield 9, 3) := dk_180 0 9 (dk_at dksX4_ranked_0 9 rfl rfl)
theorem dX4_ranked_12 : DC mX4_ranked 12 = .ok (.bipush 8, 2) := dk_16 8 (dk_at dksX4_ranked_0 12 rfl rfl)
theorem dX4_ranked_14 : DC mX4_ranked 14 = .ok (.iaload, 1) := dk_46 (dk_at dksX4_ranked_0 14 rfl rfl)
theorem dX4_ranked_15 : DC mX4_ranked 15 = .ok (.if_icmp .ge 58, 3) := dk_162 0 58 (dk_at dksX4_ranked_0 15 rfl rfl)
theorem dX4_ranked_18 : DC mX4_ranked 18 = .ok (.iconst 0, 1) := dk_3 (dk_at dksX4_ranked_0 18 rfl rfl)
theorem dX4_ranked_19 : DC mX4_ranked 19 = .ok (.istore_n 3, 1) := dk_62 (dk_at dksX4_ranked_0 19 rfl rfl)
theorem dX4_ranked_20 : DC mX4_ranked 20 = .ok (.iconst 0, 1) := dk_3 (dk_at dksX4_ranked_0 20 rfl rfl)
theorem dX4_ranked_21 : DC mX4_ranked 21 = .ok (.istore 4, 2) := dk_54 4 (dk_at dksX4_ranked_0 21 rfl rfl)
theorem dX4_ranked_23 : DC mX4_ranked 23 = .ok (.iload 4, 2) := dk_21 4 (dk_at dksX4_ranked_1 0 rfl rfl)
theorem dX4_ranked_25 : DC mX4_ranked 25 = .ok (.aload_n 0, 1) := dk_42 (dk_at dksX4_ranked_1 2 rfl rfl)
theorem dX4_ranked_26 : DC mX4_ranked 26 = .ok (.getfield 9, 3) := dk_180 0 9 (dk_at dksX4_ranked_1 3 rfl rfl)
theorem dX4_ranked_29 : DC mX4_ranked 29 = .ok (.bipush 8, 2) := dk_16 8 (dk_at dksX4_ranked_1 6 rfl rfl)
theorem dX4_ranked_31 : DC mX4_ranked 31 = .ok (.iaload, 1) := dk_46 (dk_at dksX4_ranked_1 8 rfl rfl)
theorem dX4_ranked_32 : DC mX4_ranked 32 = .ok (.if_icmp .ge 28, 3) := dk_162 0 28 (dk_at dksX4_ranked_1 9 rfl rfl)
theorem dX4_ranked_35 : DC mX4_ranked 35 = .ok (.iload 4, 2) := dk_21 4 (dk_at dksX4_ranked_1 12 rfl rfl)
theorem dX4_ranked_37 : DC mX4_ranked 37 = .ok (.iload_n 2, 1) := dk_28 (dk_at dksX4_ranked_1 14 rfl rfl)
theorem dX4_ranked_38 : DC mX4_ranked 38 = .ok (.if_icmp .eq 16, 3) := dk_159 0 16 (dk_at dksX4_ranked_1 15 rfl rfl)
theorem dX4_ranked_41 : DC mX4_ranked 41 = .ok (.aload_n 0, 1) := dk_42 (dk_at dksX4_ranked_1 18 rfl rfl)
theorem dX4_ranked_42 : DC mX4_ranked 42 = .ok (.iload 4, 2) := dk_21 4 (dk_at dksX4_ranked_1 19 rfl rfl)
theorem dX4_ranked_44 : DC mX4_ranked 44 = .ok (.iload_n 2, 1) := dk_28 (dk_at dksX4_ranked_1 21 rfl rfl)
theorem dX4_ranked_45 : DC mX4_ranked 45 = .ok (.invokevirtual 178, 3) := dk_182 0 178 (dk_at dksX4_ranked_2 0 rfl rfl)
theorem dX4_ranked_48 : DC mX4_ranked 48 = .ok (.ifCond .eq 6, 3) := dk_153 0 6 (dk_at dksX4_ranked_2 3 rfl rfl)
theorem dX4_ranked_51 : DC mX4_ranked 51 = .ok (.iinc 3 1, 3) := dk_132 3 1 (dk_at dksX4_ranked_2 6 rfl rfl)
theorem dX4_ranked_54 : DC mX4_ranked 54 = .ok (.iinc 4 1, 3) := dk_132 4 1 (dk_at dksX4_ranked_2 9 rfl rfl)
theorem dX4_ranked_57 : DC mX4_ranked 57 = .ok (.goto (-34), 3) := dk_167 255 222 (dk_at dksX4_ranked_2 12 rfl rfl)
theorem dX4_ranked_60 : DC mX4_ranked 60 = .ok (.iload_n 3, 1) := dk_29 (dk_at dksX4_ranked_2 15 rfl rfl)
theorem dX4_ranked_61 : DC mX4_ranked 61 = .ok (.iload_n 1, 1) := dk_27 (dk_at dksX4_ranked_2 16 rfl rfl)
theorem dX4_ranked_62 : DC mX4_ranked 62 = .ok (.if_icmp .ne 5, 3) := dk_160 0 5 (dk_at dksX4_ranked_2 17 rfl rfl)
theorem dX4_ranked_65 : DC mX4_ranked 65 = .ok (.iload_n 2, 1) := dk_28 (dk_at dksX4_ranked_2 20 rfl rfl)
theorem dX4_ranked_66 : DC mX4_ranked 66 = .ok (.ireturn, 1) := dk_172 (dk_at dksX4_ranked_2 21 rfl rfl)
theorem dX4_ranked_67 : DC mX4_ranked 67 = .ok (.iinc 2 1, 3) := dk_132 2 1 (dk_at dksX4_ranked_3 0 rfl rfl)
theorem dX4_ranked_70 : DC mX4_ranked 70 = .ok (.goto (-63), 3) := dk_167 255 193 (dk_at dksX4_ranked_3 3 rfl rfl)
theorem dX4_ranked_73 : DC mX4_ranked 73 = .ok (.aload_n 0, 1) := dk_42 (dk_at dksX4_ranked_3 6 rfl rfl)
theorem dX4_ranked_74 : DC mX4_ranked 74 = .ok (.iconst 1, 1) := dk_4 (dk_at dksX4_ranked_3 7 rfl rfl)
theorem dX4_ranked_75 : DC mX4_ranked 75 = .ok (.invokevirtual 92, 3) := dk_182 0 92 (dk_at dksX4_ranked_3 8 rfl rfl)
theorem dX4_ranked_78 : DC mX4_ranked 78 = .ok (.ireturn, 1) := dk_172 (dk_at dksX4_ranked_3 11 rfl rfl)
abbrev cX4_isAhead : ByteArray := prog_13_method_55_code
def yX4_isAhead : MethodName := ⟨RX4, "isAhead", "(II)Z"⟩
def mX4_isAhead : MI := (⟨"TheatreSagaModel", "isAhead", "(II)Z"⟩, prog_13_method_55_code, 4, (Option.some FieldType.boolean), none, 42, 2)
theorem oX4_isAhead : mO mX4_isAhead = 42 := rfl
theorem lX4_isAhead : mL mX4_isAhead = 4 := rfl
theorem rX4_isAhead : mR mX4_isAhead = (Option.some FieldType.boolean) := rfl
theorem vX4_isAhead : mV mX4_isAhead = 2 := rfl
theorem nX4_isAhead : (mY mX4_isAhead).name = "isAhead" := rfl
theorem hX4_isAhead : mH mX4_isAhead = none := rfl
theorem kX4_isAhead : MOk mX4_isAhead := ⟨q2662, q91, by decide +kernel⟩
theorem gX4_isAhead : plainName (mY mX4_isAhead).cls = true ∧ (mY mX4_isAhead).cls = "TheatreSagaModel" := ⟨by decide +kernel, rfl⟩
def dkwX4_isAhead_2 : List UInt8 := [167, 0, 4, 3, 172]
abbrev dktX4_isAhead_2 : List UInt8 := dkwX4_isAhead_2 ++ []
def dkwX4_isAhead_1 : List UInt8 := [42, 27, 5, 182, 0, 64, 100, 62, 29, 157, 0, 12, 29, 154, 0, 12, 27, 28, 162, 0, 7, 4]
abbrev dktX4_isAhead_1 : List UInt8 := dkwX4_isAhead_1 ++ dktX4_isAhead_2
def dkwX4_isAhead_0 : List UInt8 := [42, 27, 6, 182, 0, 64, 42, 28, 6, 182, 0, 64, 100, 62, 29, 154, 0, 17, 42, 28, 5, 182, 0, 64]
abbrev dktX4_isAhead_0 : List UInt8 := dkwX4_isAhead_0 ++ dktX4_isAhead_1
theorem dksX4_isAhead_0 : cX4_isAhead.data.toList.drop 0 = dktX4_isAhead_0 := by decide +kernel
theorem dksX4_isAhead_1 : cX4_isAhead.data.toList.drop 24 = dktX4_isAhead_1 := dk_seg dksX4_isAhead_0 24 rfl rfl
theorem dksX4_isAhead_2 : cX4_isAhead.data.toList.drop 46 = dktX4_isAhead_2 := dk_seg dksX4_isAhead_1 22 rfl rfl
theorem dX4_isAhead_0 : DC mX4_isAhead 0 = .ok (.aload_n 0, 1) := dk_42 (dk_at dksX4_isAhead_0 0 rfl rfl)
theorem dX4_isAhead_1 : DC mX4_isAhead 1 = .ok (.iload_n 1, 1) := dk_27 (dk_at dksX4_isAhead_0 1 rfl rfl)
theorem dX4_isAhead_2 : DC mX4_isAhead 2 = .ok (.iconst 3, 1) := dk_6 (dk_at dksX4_isAhead_0 2 rfl rfl)
theorem dX4_isAhead_3 : DC mX4_isAhead 3 = .ok (.invokevirtual 64, 3) := dk_182 0 64 (dk_at dksX4_isAhead_0 3 rfl rfl)
theorem dX4_isAhead_6 : DC mX4_isAhead 6 = .ok (.aload_n 0, 1) := dk_42 (dk_at dksX4_isAhead_0 6 rfl rfl)
theorem dX4_isAhead_7 : DC mX4_isAhead 7 = .ok (.iload_n 2, 1) := dk_28 (dk_at dksX4_isAhead_0 7 rfl rfl)
theorem dX4_isAhead_8 : DC mX4_isAhead 8 = .ok (.iconst 3, 1) := dk_6 (dk_at dksX4_isAhead_0 8 rfl rfl)
theorem dX4_isAhead_9 : DC mX4_isAhead 9 = .ok (.invokevirtual 64, 3) := dk_182 0 64 (dk_at dksX4_isAhead_0 9 rfl rfl)
theorem dX4_isAhead_12 : DC mX4_isAhead 12 = .ok (.isub, 1) := dk_100 (dk_at dksX4_isAhead_0 12 rfl rfl)
theorem dX4_isAhead_13 : DC mX4_isAhead 13 = .ok (.istore_n 3, 1) := dk_62 (dk_at dksX4_isAhead_0 13 rfl rfl)
theorem dX4_isAhead_14 : DC mX4_isAhead 14 = .ok (.iload_n 3, 1) := dk_29 (dk_at dksX4_isAhead_0 14 rfl rfl)
theorem dX4_isAhead_15 : DC mX4_isAhead 15 = .ok (.ifCond .ne 17, 3) := dk_154 0 17 (dk_at dksX4_isAhead_0 15 rfl rfl)
theorem dX4_isAhead_18 : DC mX4_isAhead 18 = .ok (.aload_n 0, 1) := dk_42 (dk_at dksX4_isAhead_0 18 rfl rfl)
theorem dX4_isAhead_19 : DC mX4_isAhead 19 = .ok (.iload_n 2, 1) := dk_28 (dk_at dksX4_isAhead_0 19 rfl rfl)
theorem dX4_isAhead_20 : DC mX4_isAhead 20 = .ok (.iconst 2, 1) := dk_5 (dk_at dksX4_isAhead_0 20 rfl rfl)
theorem dX4_isAhead_21 : DC mX4_isAhead 21 = .ok (.invokevirtual 64, 3) := dk_182 0 64 (dk_at dksX4_isAhead_0 21 rfl rfl)
theorem dX4_isAhead_24 : DC mX4_isAhead 24 = .ok (.aload_n 0, 1) := dk_42 (dk_at dksX4_isAhead_1 0 rfl rfl)
theorem dX4_isAhead_25 : DC mX4_isAhead 25 = .ok (.iload_n 1, 1) := dk_27 (dk_at dksX4_isAhead_1 1 rfl rfl)
theorem dX4_isAhead_26 : DC mX4_isAhead 26 = .ok (.iconst 2, 1) := dk_5 (dk_at dksX4_isAhead_1 2 rfl rfl)
theorem dX4_isAhead_27 : DC mX4_isAhead 27 = .ok (.invokevirtual 64, 3) := dk_182 0 64 (dk_at dksX4_isAhead_1 3 rfl rfl)
theorem dX4_isAhead_30 : DC mX4_isAhead 30 = .ok (.isub, 1) := dk_100 (dk_at dksX4_isAhead_1 6 rfl rfl)
theorem dX4_isAhead_31 : DC mX4_isAhead 31 = .ok (.istore_n 3, 1) := dk_62 (dk_at dksX4_isAhead_1 7 rfl rfl)
theorem dX4_isAhead_32 : DC mX4_isAhead 32 = .ok (.iload_n 3, 1) := dk_29 (dk_at dksX4_isAhead_1 8 rfl rfl)
theorem dX4_isAhead_33 : DC mX4_isAhead 33 = .ok (.ifCond .gt 12, 3) := dk_157 0 12 (dk_at dksX4_isAhead_1 9 rfl rfl)
theorem dX4_isAhead_36 : DC mX4_isAhead 36 = .ok (.iload_n 3, 1) := dk_29 (dk_at dksX4_isAhead_1 12 rfl rfl)
theorem dX4_isAhead_37 : DC mX4_isAhead 37 = .ok (.ifCond .ne 12, 3) := dk_154 0 12 (dk_at dksX4_isAhead_1 13 rfl rfl)
theorem dX4_isAhead_40 : DC mX4_isAhead 40 = .ok (.iload_n 1, 1) := dk_27 (dk_at dksX4_isAhead_1 16 rfl rfl)
theorem dX4_isAhead_41 : DC mX4_isAhead 41 = .ok (.iload_n 2, 1) := dk_28 (dk_at dksX4_isAhead_1 17 rfl rfl)
theorem dX4_isAhead_42 : DC mX4_isAhead 42 = .ok (.if_icmp .ge 7, 3) := dk_162 0 7 (dk_at dksX4_isAhead_1 18 rfl rfl)
theorem dX4_isAhead_45 : DC mX4_isAhead 45 = .ok (.iconst 1, 1) := dk_4 (dk_at dksX4_isAhead_1 21 rfl rfl)
theorem dX4_isAhead_46 : DC mX4_isAhead 46 = .ok (.goto 4, 3) := dk_167 0 4 (dk_at dksX4_isAhead_2 0 rfl rfl)
theorem dX4_isAhead_49 : DC mX4_isAhead 49 = .ok (.iconst 0, 1) := dk_3 (dk_at dksX4_isAhead_2 3 rfl rfl)
theorem dX4_isAhead_50 : DC mX4_isAhead 50 = .ok (.ireturn, 1) := dk_172 (dk_at dksX4_isAhead_2 4 rfl rfl)
abbrev cX4_line : ByteArray := prog_13_method_58_code
def yX4_line : MethodName := ⟨RX4, "line", "(I)I"⟩
def mX4_line : MI := (⟨"TheatreSagaModel", "line", "(I)I"⟩, prog_13_method_58_code, 3, (Option.some FieldType.int), none, 42, 6)
theorem oX4_line : mO mX4_line = 42 := rfl
theorem lX4_line : mL mX4_line = 3 := rfl
theorem rX4_line : mR mX4_line = (Option.some FieldType.int) := rfl
theorem vX4_line : mV mX4_line = 6 := rfl
theorem nX4_line : (mY mX4_line).name = "line" := rfl
theorem hX4_line : mH mX4_line = none := rfl
theorem kX4_line : MOk mX4_line := ⟨q2666, q91, by decide +kernel⟩
theorem gX4_line : plainName (mY mX4_line).cls = true ∧ (mY mX4_line).cls = "TheatreSagaModel" := ⟨by decide +kernel, rfl⟩
def dkwX4_line_9 : List UInt8 := [180, 0, 182, 90, 4, 96, 181, 0, 182, 16, 124, 85, 132, 2, 1, 167, 255, 88, 42, 180, 0, 182, 172]
abbrev dktX4_line_9 : List UInt8 := dkwX4_line_9 ++ []
def dkwX4_line_8 : List UInt8 := [182, 0, 107, 182, 0, 185, 28, 42, 27, 6, 182, 0, 64, 4, 100, 160, 0, 21, 42, 180, 0, 25, 42, 89]
abbrev dktX4_line_8 : List UInt8 := dkwX4_line_8 ++ dktX4_line_9
def dkwX4_line_7 : List UInt8 := [180, 0, 25, 42, 89, 180, 0, 182, 90, 4, 96, 181, 0, 182, 16, 120, 85, 42, 42, 27, 28, 6]
abbrev dktX4_line_7 : List UInt8 := dkwX4_line_7 ++ dktX4_line_8
def dkwX4_line_6 : List UInt8 := [42, 42, 27, 28, 5, 182, 0, 107, 182, 0, 185, 42, 27, 28, 3, 182, 0, 107, 158, 0, 32, 42]
abbrev dktX4_line_6 : List UInt8 := dkwX4_line_6 ++ dktX4_line_7
def dkwX4_line_5 : List UInt8 := [182, 0, 107, 182, 0, 185, 42, 180, 0, 25, 42, 89, 180, 0, 182, 90, 4, 96, 181, 0, 182, 16, 47, 85]
abbrev dktX4_line_5 : List UInt8 := dkwX4_line_5 ++ dktX4_line_6
def dkwX4_line_4 : List UInt8 := [4, 96, 181, 0, 182, 18, 196, 42, 27, 28, 3, 182, 0, 107, 182, 0, 190, 85, 42, 42, 27, 28, 4]
abbrev dktX4_line_4 : List UInt8 := dkwX4_line_4 ++ dktX4_line_5
def dkwX4_line_3 : List UInt8 := [42, 89, 180, 0, 182, 90, 4, 96, 181, 0, 182, 16, 32, 85, 42, 180, 0, 25, 42, 89, 180, 0, 182, 90]
abbrev dktX4_line_3 : List UInt8 := dkwX4_line_3 ++ dktX4_line_4
def dkwX4_line_2 : List UInt8 := [3, 182, 0, 64, 182, 0, 190, 85, 3, 61, 28, 42, 27, 5, 182, 0, 64, 162, 0, 164, 42, 180, 0, 25]
abbrev dktX4_line_2 : List UInt8 := dkwX4_line_2 ++ dktX4_line_3
def dkwX4_line_1 : List UInt8 := [42, 27, 182, 0, 185, 42, 180, 0, 25, 42, 89, 180, 0, 182, 90, 4, 96, 181, 0, 182, 18, 188, 42, 27]
abbrev dktX4_line_1 : List UInt8 := dkwX4_line_1 ++ dktX4_line_2
def dkwX4_line_0 : List UInt8 := [42, 3, 181, 0, 45, 42, 27, 182, 0, 95, 154, 0, 9, 42, 4, 182, 0, 92, 172, 42, 3, 181, 0, 182]
abbrev dktX4_line_0 : List UInt8 := dkwX4_line_0 ++ dktX4_line_1
theorem dksX4_line_0 : cX4_line.data.toList.drop 0 = dktX4_line_0 := by decide +kernel
theorem dksX4_line_1 : cX4_line.data.toList.drop 24 = dktX4_line_1 := dk_seg dksX4_line_0 24 rfl rfl
theorem dksX4_line_2 : cX4_line.data.toList.drop 48 = dktX4_line_2 := dk_seg dksX4_line_1 24 rfl rfl
theorem dksX4_line_3 : cX4_line.data.toList.drop 72 = dktX4_line_3 := dk_seg dksX4_line_2 24 rfl rfl
theorem dksX4_line_4 : cX4_line.data.toList.drop 96 = dktX4_line_4 := dk_seg dksX4_line_3 24 rfl rfl
theorem dksX4_line_5 : cX4_line.data.toList.drop 119 = dktX4_line_5 := dk_seg dksX4_line_4 23 rfl rfl
theorem dksX4_line_6 : cX4_line.data.toList.drop 143 = dktX4_line_6 := dk_seg dksX4_line_5 24 rfl rfl
theorem dksX4_line_7 : cX4_line.data.toList.drop 165 = dktX4_line_7 := dk_seg dksX4_line_6 22 rfl rfl
theorem dksX4_line_8 : cX4_line.data.toList.drop 187 = dktX4_line_8 := dk_seg dksX4_line_7 22 rfl rfl
theorem dksX4_line_9 : cX4_line.data.toList.drop 211 = dktX4_line_9 := dk_seg dksX4_line_8 24 rfl rfl
theorem dX4_line_0 : DC mX4_line 0 = .ok (.aload_n 0, 1) := dk_42 (dk_at dksX4_line_0 0 rfl rfl)
theorem dX4_line_1 : DC mX4_line 1 = .ok (.iconst 0, 1) := dk_3 (dk_at dksX4_line_0 1 rfl rfl)
theorem dX4_line_2 : DC mX4_line 2 = .ok (.putfield 45, 3) := dk_181 0 45 (dk_at dksX4_line_0 2 rfl rfl)
theorem dX4_line_5 : DC mX4_line 5 = .ok (.aload_n 0, 1) := dk_42 (dk_at dksX4_line_0 5 rfl rfl)
theorem dX4_line_6 : DC mX4_line 6 = .ok (.iload_n 1, 1) := dk_27 (dk_at dksX4_line_0 6 rfl rfl)
theorem dX4_line_7 : DC mX4_line 7 = .ok (.invokevirtual 95, 3) := dk_182 0 95 (dk_at dksX4_line_0 7 rfl rfl)
theorem dX4_line_10 : DC mX4_line 10 = .ok (.ifCond .ne 9, 3) := dk_154 0 9 (dk_at dksX4_line_0 10 rfl rfl)
theorem dX4_line_13 : DC mX4_line 13 = .ok (.aload_n 0, 1) := dk_42 (dk_at dksX4_line_0 13 rfl rfl)
theorem dX4_line_14 : DC mX4_line 14 = .ok (.iconst 1, 1) := dk_4 (dk_at dksX4_line_0 14 rfl rfl)
theorem dX4_line_15 : DC mX4_line 15 = .ok (.invokevirtual 92, 3) := dk_182 0 92 (dk_at dksX4_line_0 15 rfl rfl)
theorem dX4_line_18 : DC mX4_line 18 = .ok (.ireturn, 1) := dk_172 (dk_at dksX4_line_0 18 rfl rfl)
theorem dX4_line_19 : DC mX4_line 19 = .ok (.aload_n 0, 1) := dk_42 (dk_at dksX4_line_0 19 rfl rfl)
theorem dX4_line_20 : DC mX4_line 20 = .ok (.iconst 0, 1) := dk_3 (dk_at dksX4_line_0 20 rfl rfl)
theorem dX4_line_21 : DC mX4_line 21 = .ok (.putfield 182, 3) := dk_181 0 182 (dk_at dksX4_line_0 21 rfl rfl)
theorem dX4_line_24 : DC mX4_line 24 = .ok (.aload_n 0, 1) := dk_42 (dk_at dksX4_line_1 0 rfl rfl)
theorem dX4_line_25 : DC mX4_line 25 = .ok (.iload_n 1, 1) := dk_27 (dk_at dksX4_line_1 1 rfl rfl)
theorem dX4_line_26 : DC mX4_line 26 = .ok (.invokevirtual 185, 3) := dk_182 0 185 (dk_at dksX4_line_1 2 rfl rfl)
theorem dX4_line_29 : DC mX4_line 29 = .ok (.aload_n 0, 1) := dk_42 (dk_at dksX4_line_1 5 rfl rfl)
theorem dX4_line_30 : DC mX4_line 30 = .ok (.getfield 25, 3) := dk_180 0 25 (dk_at dksX4_line_1 6 rfl rfl)
theorem dX4_line_33 : DC mX4_line 33 = .ok (.aload_n 0, 1) := dk_42 (dk_at dksX4_line_1 9 rfl rfl)
theorem dX4_line_34 : DC mX4_line 34 = .ok (.dup, 1) := dk_89 (dk_at dksX4_line_1 10 rfl rfl)
theorem dX4_line_35 : DC mX4_line 35 = .ok (.getfield 182, 3) := dk_180 0 182 (dk_at dksX4_line_1 11 rfl rfl)
theorem dX4_line_38 : DC mX4_line 38 = .ok (.dup_x1, 1) := dk_90 (dk_at dksX4_line_1 14 rfl rfl)
theorem dX4_line_39 : DC mX4_line 39 = .ok (.iconst 1, 1) := dk_4 (dk_at dksX4_line_1 15 rfl rfl)
theorem dX4_line_40 : DC mX4_line 40 = .ok (.iadd, 1) := dk_96 (dk_at dksX4_line_1 16 rfl rfl)
theorem dX4_line_41 : DC mX4_line 41 = .ok (.putfield 182, 3) := dk_181 0 182 (dk_at dksX4_line_1 17 rfl rfl)
theorem dX4_line_44 : DC mX4_line 44 = .ok (.ldc 188, 2) := dk_18 188 (dk_at dksX4_line_1 20 rfl rfl)
theorem dX4_line_46 : DC mX4_line 46 = .ok (.aload_n 0, 1) := dk_42 (dk_at dksX4_line_1 22 rfl rfl)
theorem dX4_line_47 : DC mX4_line 47 = .ok (.iload_n 1, 1) := dk_27 (dk_at dksX4_line_1 23 rfl rfl)
theorem dX4_line_48 : DC mX4_line 48 = .ok (.iconst 0, 1) := dk_3 (dk_at dksX4_line_2 0 rfl rfl)
theorem dX4_line_49 : DC mX4_line 49 = .ok (.invokevirtual 64, 3) := dk_182 0 64 (dk_at dksX4_line_2 1 rfl rfl)
theorem dX4_line_52 : DC mX4_line 52 = .ok (.invokevirtual 190, 3) := dk_182 0 190 (dk_at dksX4_line_2 4 rfl rfl)
theorem dX4_line_55 : DC mX4_line 55 = .ok (.castore, 1) := dk_85 (dk_at dksX4_line_2 7 rfl rfl)
theorem dX4_line_56 : DC mX4_line 56 = .ok (.iconst 0, 1) := dk_3 (dk_at dksX4_line_2 8 rfl rfl)
theorem dX4_line_57 : DC mX4_line 57 = .ok (.istore_n 2, 1) := dk_61 (dk_at dksX4_line_2 9 rfl rfl)
theorem dX4_line_58 : DC mX4_line 58 = .ok (.iload_n 2, 1) := dk_28 (dk_at dksX4_line_2 10 rfl rfl)
theorem dX4_line_59 : DC mX4_line 59 = .ok (.aload_n 0, 1) := dk_42 (dk_at dksX4_line_2 11 rfl rfl)
theorem dX4_line_60 : DC mX4_line 60 = .ok (.iload_n 1, 1) := dk_27 (dk_at dksX4_line_2 12 rfl rfl)
theorem dX4_line_61 : DC mX4_line 61 = .ok (.iconst 2, 1) := dk_5 (dk_at dksX4_line_2 13 rfl rfl)
theorem dX4_line_62 : DC mX4_line 62 = .ok (.invokevirtual 64, 3) := dk_182 0 64 (dk_at dksX4_line_2 14 rfl rfl)
theorem dX4_line_65 : DC mX4_line 65 = .ok (.if_icmp .ge 164, 3) := dk_162 0 164 (dk_at dksX4_line_2 17 rfl rfl)
theorem dX4_line_68 : DC mX4_line 68 = .ok (.aload_n 0, 1) := dk_42 (dk_at dksX4_line_2 20 rfl rfl)
theorem dX4_line_69 : DC mX4_line 69 = .ok (.getfield 25, 3) := dk_180 0 25 (dk_at dksX4_line_2 21 rfl rfl)
theorem dX4_line_72 : DC mX4_line 72 = .ok (.aload_n 0, 1) := dk_42 (dk_at dksX4_line_3 0 rfl rfl)
theorem dX4_line_73 : DC mX4_line 73 = .ok (.dup, 1) := dk_89 (dk_at dksX4_line_3 1 rfl rfl)
theorem dX4_line_74 : DC mX4_line 74 = .ok (.getfield 182, 3) := dk_180 0 182 (dk_at dksX4_line_3 2 rfl rfl)
theorem dX4_line_77 : DC mX4_line 77 = .ok (.dup_x1, 1) := dk_90 (dk_at dksX4_line_3 5 rfl rfl)
theorem dX4_line_78 : DC mX4_line 78 = .ok (.iconst 1, 1) := dk_4 (dk_at dksX4_line_3 6 rfl rfl)
theorem dX4_line_79 : DC mX4_line 79 = .ok (.iadd, 1) := dk_96 (dk_at dksX4_line_3 7 rfl rfl)
theorem dX4_line_80 : DC mX4_line 80 = .ok (.putfield 182, 3) := dk_181 0 182 (dk_at dksX4_line_3 8 rfl rfl)
theorem dX4_line_83 : DC mX4_line 83 = .ok (.bipush 32, 2) := dk_16 32 (dk_at dksX4_line_3 11 rfl rfl)
theorem dX4_line_85 : DC mX4_line 85 = .ok (.castore, 1) := dk_85 (dk_at dksX4_line_3 13 rfl rfl)
theorem dX4_line_86 : DC mX4_line 86 = .ok (.aload_n 0, 1) := dk_42 (dk_at dksX4_line_3 14 rfl rfl)
theorem dX4_line_87 : DC mX4_line 87 = .ok (.getfield 25, 3) := dk_180 0 25 (dk_at dksX4_line_3 15 rfl rfl)
theorem dX4_line_90 : DC mX4_line 90 = .ok (.aload_n 0, 1) := dk_42 (dk_at dksX4_line_3 18 rfl rfl)
theorem dX4_line_91 : DC mX4_line 91 = .ok (.dup, 1) := dk_89 (dk_at dksX4_line_3 19 rfl rfl)
theorem dX4_line_92 : DC mX4_line 92 = .ok (.getfield 182, 3) := dk_180 0 182 (dk_at dksX4_line_3 20 rfl rfl)
theorem dX4_line_95 : DC mX4_line 95 = .ok (.dup_x1, 1) := dk_90 (dk_at dksX4_line_3 23 rfl rfl)
theorem dX4_line_96 : DC mX4_line 96 = .ok (.iconst 1, 1) := dk_4 (dk_at dksX4_line_4 0 rfl rfl)
theorem dX4_line_97 : DC mX4_line 97 = .ok (.iadd, 1) := dk_96 (dk_at dksX4_line_4 1 rfl rfl)
theorem dX4_line_98 : DC mX4_line 98 = .ok (.putfield 182, 3) := dk_181 0 182 (dk_at dksX4_line_4 2 rfl rfl)
theorem dX4_line_101 : DC mX4_line 101 = .ok (.ldc 196, 2) := dk_18 196 (dk_at dksX4_line_4 5 rfl rfl)
theorem dX4_line_103 : DC mX4_line 103 = .ok (.aload_n 0, 1) := dk_42 (dk_at dksX4_line_4 7 rfl rfl)
theorem dX4_line_104 : DC mX4_line 104 = .ok (.iload_n 1, 1) := dk_27 (dk_at dksX4_line_4 8 rfl rfl)
theorem dX4_line_105 : DC mX4_line 105 = .ok (.iload_n 2, 1) := dk_28 (dk_at dksX4_line_4 9 rfl rfl)
theorem dX4_line_106 : DC mX4_line 106 = .ok (.iconst 0, 1) := dk_3 (dk_at dksX4_line_4 10 rfl rfl)
theorem dX4_line_107 : DC mX4_line 107 = .ok (.invokevirtual 107, 3) := dk_182 0 107 (dk_at dksX4_line_4 11 rfl rfl)
theorem dX4_line_110 : DC mX4_line 110 = .ok (.invokevirtual 190, 3) := dk_182 0 190 (dk_at dksX4_line_4 14 rfl rfl)
theorem dX4_line_113 : DC mX4_line 113 = .ok (.castore, 1) := dk_85 (dk_at dksX4_line_4 17 rfl rfl)
theorem dX4_line_114 : DC mX4_line 114 = .ok (.aload_n 0, 1) := dk_42 (dk_at dksX4_line_4 18 rfl rfl)
theorem dX4_line_115 : DC mX4_line 115 = .ok (.aload_n 0, 1) := dk_42 (dk_at dksX4_line_4 19 rfl rfl)
theorem dX4_line_116 : DC mX4_line 116 = .ok (.iload_n 1, 1) := dk_27 (dk_at dksX4_line_4 20 rfl rfl)
theorem dX4_line_117 : DC mX4_line 117 = .ok (.iload_n 2, 1) := dk_28 (dk_at dksX4_line_4 21 rfl rfl)
theorem dX4_line_118 : DC mX4_line 118 = .ok (.iconst 1, 1) := dk_4 (dk_at dksX4_line_4 22 rfl rfl)
theorem dX4_line_119 : DC mX4_line 119 = .ok (.invokevirtual 107, 3) := dk_182 0 107 (dk_at dksX4_line_5 0 rfl rfl)
theorem dX4_line_122 : DC mX4_line 122 = .ok (.invokevirtual 185, 3) := dk_182 0 185 (dk_at dksX4_line_5 3 rfl rfl)
theorem dX4_line_125 : DC mX4_line 125 = .ok (.aload_n 0, 1) := dk_42 (dk_at dksX4_line_5 6 rfl rfl)
theorem dX4_line_126 : DC mX4_line 126 = .ok (.getfield 25, 3) := dk_180 0 25 (dk_at dksX4_line_5 7 rfl rfl)
theorem dX4_line_129 : DC mX4_line 129 = .ok (.aload_n 0, 1) := dk_42 (dk_at dksX4_line_5 10 rfl rfl)
theorem dX4_line_130 : DC mX4_line 130 = .ok (.dup, 1) := dk_89 (dk_at dksX4_line_5 11 rfl rfl)
theorem dX4_line_131 : DC mX4_line 131 = .ok (.getfield 182, 3) := dk_180 0 182 (dk_at dksX4_line_5 12 rfl rfl)
theorem dX4_line_134 : DC mX4_line 134 = .ok (.dup_x1, 1) := dk_90 (dk_at dksX4_line_5 15 rfl rfl)
theorem dX4_line_135 : DC mX4_line 135 = .ok (.iconst 1, 1) := dk_4 (dk_at dksX4_line_5 16 rfl rfl)
theorem dX4_line_136 : DC mX4_line 136 = .ok (.iadd, 1) := dk_96 (dk_at dksX4_line_5 17 rfl rfl)
theorem dX4_line_137 : DC mX4_line 137 = .ok (.putfield 182, 3) := dk_181 0 182 (dk_at dksX4_line_5 18 rfl rfl)
theorem dX4_line_140 : DC mX4_line 140 = .ok (.bipush 47, 2) := dk_16 47 (dk_at dksX4_line_5 21 rfl rfl)
theorem dX4_line_142 : DC mX4_line 142 = .ok (.castore, 1) := dk_85 (dk_at dksX4_line_5 23 rfl rfl)
theorem dX4_line_143 : DC mX4_line 143 = .ok (.aload_n 0, 1) := dk_42 (dk_at dksX4_line_6 0 rfl rfl)
theorem dX4_line_144 : DC mX4_line 144 = .ok (.aload_n 0, 1) := dk_42 (dk_at dksX4_line_6 1 rfl rfl)
theorem dX4_line_145 : DC mX4_line 145 = .ok (.iload_n 1, 1) := dk_27 (dk_at dksX4_line_6 2 rfl rfl)
theorem dX4_line_146 : DC mX4_line 146 = .ok (.iload_n 2, 1) := dk_28 (dk_at dksX4_line_6 3 rfl rfl)
theorem dX4_line_147 : DC mX4_line 147 = .ok (.iconst 2, 1) := dk_5 (dk_at dksX4_line_6 4 rfl rfl)
theorem dX4_line_148 : DC mX4_line 148 = .ok (.invokevirtual 107, 3) := dk_182 0 107 (dk_at dksX4_line_6 5 rfl rfl)
theorem dX4_line_151 : DC mX4_line 151 = .ok (.invokevirtual 185, 3) := dk_182 0 185 (dk_at dksX4_line_6 8 rfl rfl)
theorem dX4_line_154 : DC mX4_line 154 = .ok (.aload_n 0, 1) := dk_42 (dk_at dksX4_line_6 11 rfl rfl)
theorem dX4_line_155 : DC mX4_line 155 = .ok (.iload_n 1, 1) := dk_27 (dk_at dksX4_line_6 12 rfl rfl)
theorem dX4_line_156 : DC mX4_line 156 = .ok (.iload_n 2, 1) := dk_28 (dk_at dksX4_line_6 13 rfl rfl)
theorem dX4_line_157 : DC mX4_line 157 = .ok (.iconst 0, 1) := dk_3 (dk_at dksX4_line_6 14 rfl rfl)
theorem dX4_line_158 : DC mX4_line 158 = .ok (.invokevirtual 107, 3) := dk_182 0 107 (dk_at dksX4_line_6 15 rfl rfl)
theorem dX4_line_161 : DC mX4_line 161 = .ok (.ifCond .le 32, 3) := dk_158 0 32 (dk_at dksX4_line_6 18 rfl rfl)
theorem dX4_line_164 : DC mX4_line 164 = .ok (.aload_n 0, 1) := dk_42 (dk_at dksX4_line_6 21 rfl rfl)
theorem dX4_line_165 : DC mX4_line 165 = .ok (.getfield 25, 3) := dk_180 0 25 (dk_at dksX4_line_7 0 rfl rfl)
theorem dX4_line_168 : DC mX4_line 168 = .ok (.aload_n 0, 1) := dk_42 (dk_at dksX4_line_7 3 rfl rfl)
theorem dX4_line_169 : DC mX4_line 169 = .ok (.dup, 1) := dk_89 (dk_at dksX4_line_7 4 rfl rfl)
theorem dX4_line_170 : DC mX4_line 170 = .ok (.getfield 182, 3) := dk_180 0 182 (dk_at dksX4_line_7 5 rfl rfl)
theorem dX4_line_173 : DC mX4_line 173 = .ok (.dup_x1, 1) := dk_90 (dk_at dksX4_line_7 8 rfl rfl)
theorem dX4_line_174 : DC mX4_line 174 = .ok (.iconst 1, 1) := dk_4 (dk_at dksX4_line_7 9 rfl rfl)
theorem dX4_line_175 : DC mX4_line 175 = .ok (.iadd, 1) := dk_96 (dk_at dksX4_line_7 10 rfl rfl)
theorem dX4_line_176 : DC mX4_line 176 = .ok (.putfield 182, 3) := dk_181 0 182 (dk_at dksX4_line_7 11 rfl rfl)
theorem dX4_line_179 : DC mX4_line 179 = .ok (.bipush 120, 2) := dk_16 120 (dk_at dksX4_line_7 14 rfl rfl)
theorem dX4_line_181 : DC mX4_line 181 = .ok (.castore, 1) := dk_85 (dk_at dksX4_line_7 16 rfl rfl)
theorem dX4_line_182 : DC mX4_line 182 = .ok (.aload_n 0, 1) := dk_42 (dk_at dksX4_line_7 17 rfl rfl)
theorem dX4_line_183 : DC mX4_line 183 = .ok (.aload_n 0, 1) := dk_42 (dk_at dksX4_line_7 18 rfl rfl)
theorem dX4_line_184 : DC mX4_line 184 = .ok (.iload_n 1, 1) := dk_27 (dk_at dksX4_line_7 19 rfl rfl)
theorem dX4_line_185 : DC mX4_line 185 = .ok (.iload_n 2, 1) := dk_28 (dk_at dksX4_line_7 20 rfl rfl)
theorem dX4_line_186 : DC mX4_line 186 = .ok (.iconst 3, 1) := dk_6 (dk_at dksX4_line_7 21 rfl rfl)
theorem dX4_line_187 : DC mX4_line 187 = .ok (.invokevirtual 107, 3) := dk_182 0 107 (dk_at dksX4_line_8 0 rfl rfl)
theorem dX4_line_190 : DC mX4_line 190 = .ok (.invokevirtual 185, 3) := dk_182 0 185 (dk_at dksX4_line_8 3 rfl rfl)
theorem dX4_line_193 : DC mX4_line 193 = .ok (.iload_n 2, 1) := dk_28 (dk_at dksX4_line_8 6 rfl rfl)
theorem dX4_line_194 : DC mX4_line 194 = .ok (.aload_n 0, 1) := dk_42 (dk_at dksX4_line_8 7 rfl rfl)
theorem dX4_line_195 : DC mX4_line 195 = .ok (.iload_n 1, 1) := dk_27 (dk_at dksX4_line_8 8 rfl rfl)
theorem dX4_line_196 : DC mX4_line 196 = .ok (.iconst 3, 1) := dk_6 (dk_at dksX4_line_8 9 rfl rfl)
theorem dX4_line_197 : DC mX4_line 197 = .ok (.invokevirtual 64, 3) := dk_182 0 64 (dk_at dksX4_line_8 10 rfl rfl)
theorem dX4_line_200 : DC mX4_line 200 = .ok (.iconst 1, 1) := dk_4 (dk_at dksX4_line_8 13 rfl rfl)
theorem dX4_line_201 : DC mX4_line 201 = .ok (.isub, 1) := dk_100 (dk_at dksX4_line_8 14 rfl rfl)
theorem dX4_line_202 : DC mX4_line 202 = .ok (.if_icmp .ne 21, 3) := dk_160 0 21 (dk_at dksX4_line_8 15 rfl rfl)
theorem dX4_line_205 : DC mX4_line 205 = .ok (.aload_n 0, 1) := dk_42 (dk_at dksX4_line_8 18 rfl rfl)
theorem dX4_line_206 : DC mX4_line 206 = .ok (.getfield 25, 3) := dk_180 0 25 (dk_at dksX4_line_8 19 rfl rfl)
theorem dX4_line_209 : DC mX4_line 209 = .ok (.aload_n 0, 1) := dk_42 (dk_at dksX4_line_8 22 rfl rfl)
theorem dX4_line_210 : DC mX4_line 210 = .ok (.dup, 1) := dk_89 (dk_at dksX4_line_8 23 rfl rfl)
theorem dX4_line_211 : DC mX4_line 211 = .ok (.getfield 182, 3) := dk_180 0 182 (dk_at dksX4_line_9 0 rfl rfl)
theorem dX4_line_214 : DC mX4_line 214 = .ok (.dup_x1, 1) := dk_90 (dk_at dksX4_line_9 3 rfl rfl)
theorem dX4_line_215 : DC mX4_line 215 = .ok (.iconst 1, 1) := dk_4 (dk_at dksX4_line_9 4 rfl rfl)
theorem dX4_line_216 : DC mX4_line 216 = .ok (.iadd, 1) := dk_96 (dk_at dksX4_line_9 5 rfl rfl)
theorem dX4_line_217 : DC mX4_line 217 = .ok (.putfield 182, 3) := dk_181 0 182 (dk_at dksX4_line_9 6 rfl rfl)
theorem dX4_line_220 : DC mX4_line 220 = .ok (.bipush 124, 2) := dk_16 124 (dk_at dksX4_line_9 9 rfl rfl)
theorem dX4_line_222 : DC mX4_line 222 = .ok (.castore, 1) := dk_85 (dk_at dksX4_line_9 11 rfl rfl)
theorem dX4_line_223 : DC mX4_line 223 = .ok (.iinc 2 1, 3) := dk_132 2 1 (dk_at dksX4_line_9 12 rfl rfl)
theorem dX4_line_226 : DC mX4_line 226 = .ok (.goto (-168), 3) := dk_167 255 88 (dk_at dksX4_line_9 15 rfl rfl)
theorem dX4_line_229 : DC mX4_line 229 = .ok (.aload_n 0, 1) := dk_42 (dk_at dksX4_line_9 18 rfl rfl)
theorem dX4_line_230 : DC mX4_line 230 = .ok (.getfield 182, 3) := dk_180 0 182 (dk_at dksX4_line_9 19 rfl rfl)
theorem dX4_line_233 : DC mX4_line 233 = .ok (.ireturn, 1) := dk_172 (dk_at dksX4_line_9 22 rfl rfl)
abbrev cX4_writesNumber : ByteArray := prog_13_method_57_code
def yX4_writesNumber : MethodName := ⟨RX4, "writesNumber", "(I)V"⟩
def mX4_writesNumber : MI := (⟨"TheatreSagaModel", "writesNumber", "(I)V"⟩, prog_13_method_57_code, 2, (Option.none : Option FieldType), none, 42, 1)
theorem oX4_writesNumber : mO mX4_writesNumber = 42 := rfl
theorem lX4_writesNumber : mL mX4_writesNumber = 2 := rfl
theorem rX4_writesNumber : mR mX4_writesNumber = (Option.none : Option FieldType) := rfl
theorem vX4_writesNumber : mV mX4_writesNumber = 1 := rfl
theorem nX4_writesNumber : (mY mX4_writesNumber).name = "writesNumber" := rfl
theorem hX4_writesNumber : mH mX4_writesNumber = none := rfl
theorem kX4_writesNumber : MOk mX4_writesNumber := ⟨q2670, q91, by decide +kernel⟩
theorem gX4_writesNumber : plainName (mY mX4_writesNumber).cls = true ∧ (mY mX4_writesNumber).cls = "TheatreSagaModel" := ⟨by decide +kernel, rfl⟩
def dkwX4_writesNumber_2 : List UInt8 := [16, 10, 112, 96, 146, 85, 177]
abbrev dktX4_writesNumber_2 : List UInt8 := dkwX4_writesNumber_2 ++ []
def dkwX4_writesNumber_1 : List UInt8 := [16, 10, 108, 96, 146, 85, 42, 180, 0, 25, 42, 89, 180, 0, 182, 90, 4, 96, 181, 0, 182, 16, 48, 27]
abbrev dktX4_writesNumber_1 : List UInt8 := dkwX4_writesNumber_1 ++ dktX4_writesNumber_2
def dkwX4_writesNumber_0 : List UInt8 := [27, 16, 9, 164, 0, 27, 42, 180, 0, 25, 42, 89, 180, 0, 182, 90, 4, 96, 181, 0, 182, 16, 48, 27]
abbrev dktX4_writesNumber_0 : List UInt8 := dkwX4_writesNumber_0 ++ dktX4_writesNumber_1
theorem dksX4_writesNumber_0 : cX4_writesNumber.data.toList.drop 0 = dktX4_writesNumber_0 := by decide +kernel
theorem dksX4_writesNumber_1 : cX4_writesNumber.data.toList.drop 24 = dktX4_writesNumber_1 := dk_seg dksX4_writesNumber_0 24 rfl rfl
theorem dksX4_writesNumber_2 : cX4_writesNumber.data.toList.drop 48 = dktX4_writesNumber_2 := dk_seg dksX4_writesNumber_1 24 rfl rfl
theorem dX4_writesNumber_0 : DC mX4_writesNumber 0 = .ok (.iload_n 1, 1) := dk_27 (dk_at dksX4_writesNumber_0 0 rfl rfl)
theorem dX4_writesNumber_1 : DC mX4_writesNumber 1 = .ok (.bipush 9, 2) := dk_16 9 (dk_at dksX4_writesNumber_0 1 rfl rfl)
theorem dX4_writesNumber_3 : DC mX4_writesNumber 3 = .ok (.if_icmp .le 27, 3) := dk_164 0 27 (dk_at dksX4_writesNumber_0 3 rfl rfl)
theorem dX4_writesNumber_6 : DC mX4_writesNumber 6 = .ok (.aload_n 0, 1) := dk_42 (dk_at dksX4_writesNumber_0 6 rfl rfl)
theorem dX4_writesNumber_7 : DC mX4_writesNumber 7 = .ok (.getfield 25, 3) := dk_180 0 25 (dk_at dksX4_writesNumber_0 7 rfl rfl)
theorem dX4_writesNumber_10 : DC mX4_writesNumber 10 = .ok (.aload_n 0, 1) := dk_42 (dk_at dksX4_writesNumber_0 10 rfl rfl)
theorem dX4_writesNumber_11 : DC mX4_writesNumber 11 = .ok (.dup, 1) := dk_89 (dk_at dksX4_writesNumber_0 11 rfl rfl)
theorem dX4_writesNumber_12 : DC mX4_writesNumber 12 = .ok (.getfield 182, 3) := dk_180 0 182 (dk_at dksX4_writesNumber_0 12 rfl rfl)
theorem dX4_writesNumber_15 : DC mX4_writesNumber 15 = .ok (.dup_x1, 1) := dk_90 (dk_at dksX4_writesNumber_0 15 rfl rfl)
theorem dX4_writesNumber_16 : DC mX4_writesNumber 16 = .ok (.iconst 1, 1) := dk_4 (dk_at dksX4_writesNumber_0 16 rfl rfl)
theorem dX4_writesNumber_17 : DC mX4_writesNumber 17 = .ok (.iadd, 1) := dk_96 (dk_at dksX4_writesNumber_0 17 rfl rfl)
theorem dX4_writesNumber_18 : DC mX4_writesNumber 18 = .ok (.putfield 182, 3) := dk_181 0 182 (dk_at dksX4_writesNumber_0 18 rfl rfl)
theorem dX4_writesNumber_21 : DC mX4_writesNumber 21 = .ok (.bipush 48, 2) := dk_16 48 (dk_at dksX4_writesNumber_0 21 rfl rfl)
theorem dX4_writesNumber_23 : DC mX4_writesNumber 23 = .ok (.iload_n 1, 1) := dk_27 (dk_at dksX4_writesNumber_0 23 rfl rfl)
theorem dX4_writesNumber_24 : DC mX4_writesNumber 24 = .ok (.bipush 10, 2) := dk_16 10 (dk_at dksX4_writesNumber_1 0 rfl rfl)
theorem dX4_writesNumber_26 : DC mX4_writesNumber 26 = .ok (.idiv, 1) := dk_108 (dk_at dksX4_writesNumber_1 2 rfl rfl)
theorem dX4_writesNumber_27 : DC mX4_writesNumber 27 = .ok (.iadd, 1) := dk_96 (dk_at dksX4_writesNumber_1 3 rfl rfl)
theorem dX4_writesNumber_28 : DC mX4_writesNumber 28 = .ok (.i2c, 1) := dk_146 (dk_at dksX4_writesNumber_1 4 rfl rfl)
theorem dX4_writesNumber_29 : DC mX4_writesNumber 29 = .ok (.castore, 1) := dk_85 (dk_at dksX4_writesNumber_1 5 rfl rfl)
theorem dX4_writesNumber_30 : DC mX4_writesNumber 30 = .ok (.aload_n 0, 1) := dk_42 (dk_at dksX4_writesNumber_1 6 rfl rfl)
theorem dX4_writesNumber_31 : DC mX4_writesNumber 31 = .ok (.getfield 25, 3) := dk_180 0 25 (dk_at dksX4_writesNumber_1 7 rfl rfl)
theorem dX4_writesNumber_34 : DC mX4_writesNumber 34 = .ok (.aload_n 0, 1) := dk_42 (dk_at dksX4_writesNumber_1 10 rfl rfl)
theorem dX4_writesNumber_35 : DC mX4_writesNumber 35 = .ok (.dup, 1) := dk_89 (dk_at dksX4_writesNumber_1 11 rfl rfl)
theorem dX4_writesNumber_36 : DC mX4_writesNumber 36 = .ok (.getfield 182, 3) := dk_180 0 182 (dk_at dksX4_writesNumber_1 12 rfl rfl)
theorem dX4_writesNumber_39 : DC mX4_writesNumber 39 = .ok (.dup_x1, 1) := dk_90 (dk_at dksX4_writesNumber_1 15 rfl rfl)
theorem dX4_writesNumber_40 : DC mX4_writesNumber 40 = .ok (.iconst 1, 1) := dk_4 (dk_at dksX4_writesNumber_1 16 rfl rfl)
theorem dX4_writesNumber_41 : DC mX4_writesNumber 41 = .ok (.iadd, 1) := dk_96 (dk_at dksX4_writesNumber_1 17 rfl rfl)
theorem dX4_writesNumber_42 : DC mX4_writesNumber 42 = .ok (.putfield 182, 3) := dk_181 0 182 (dk_at dksX4_writesNumber_1 18 rfl rfl)
theorem dX4_writesNumber_45 : DC mX4_writesNumber 45 = .ok (.bipush 48, 2) := dk_16 48 (dk_at dksX4_writesNumber_1 21 rfl rfl)
theorem dX4_writesNumber_47 : DC mX4_writesNumber 47 = .ok (.iload_n 1, 1) := dk_27 (dk_at dksX4_writesNumber_1 23 rfl rfl)
theorem dX4_writesNumber_48 : DC mX4_writesNumber 48 = .ok (.bipush 10, 2) := dk_16 10 (dk_at dksX4_writesNumber_2 0 rfl rfl)
theorem dX4_writesNumber_50 : DC mX4_writesNumber 50 = .ok (.irem, 1) := dk_112 (dk_at dksX4_writesNumber_2 2 rfl rfl)
theorem dX4_writesNumber_51 : DC mX4_writesNumber 51 = .ok (.iadd, 1) := dk_96 (dk_at dksX4_writesNumber_2 3 rfl rfl)
theorem dX4_writesNumber_52 : DC mX4_writesNumber 52 = .ok (.i2c, 1) := dk_146 (dk_at dksX4_writesNumber_2 4 rfl rfl)
theorem dX4_writesNumber_53 : DC mX4_writesNumber 53 = .ok (.castore, 1) := dk_85 (dk_at dksX4_writesNumber_2 5 rfl rfl)
theorem dX4_writesNumber_54 : DC mX4_writesNumber 54 = .ok (.return_, 1) := dk_177 (dk_at dksX4_writesNumber_2 6 rfl rfl)
abbrev cX4_character : ByteArray := prog_13_method_59_code
def yX4_character : MethodName := ⟨RX4, "character", "(I)C"⟩
def mX4_character : MI := (⟨"TheatreSagaModel", "character", "(I)C"⟩, prog_13_method_59_code, 2, (Option.some FieldType.char), none, 42, 2)
theorem oX4_character : mO mX4_character = 42 := rfl
theorem lX4_character : mL mX4_character = 2 := rfl
theorem rX4_character : mR mX4_character = (Option.some FieldType.char) := rfl
theorem vX4_character : mV mX4_character = 2 := rfl
theorem nX4_character : (mY mX4_character).name = "character" := rfl
theorem hX4_character : mH mX4_character = none := rfl
theorem kX4_character : MOk mX4_character := ⟨q2677, q91, by decide +kernel⟩
theorem gX4_character : plainName (mY mX4_character).cls = true ∧ (mY mX4_character).cls = "TheatreSagaModel" := ⟨by decide +kernel, rfl⟩
def dkwX4_character_1 : List UInt8 := [180, 0, 45, 154, 0, 12, 42, 180, 0, 25, 27, 52, 167, 0, 5, 16, 97, 172]
abbrev dktX4_character_1 : List UInt8 := dkwX4_character_1 ++ []
def dkwX4_character_0 : List UInt8 := [42, 27, 3, 42, 180, 0, 182, 4, 100, 184, 0, 60, 153, 0, 7, 3, 167, 0, 4, 4, 181, 0, 45, 42]
abbrev dktX4_character_0 : List UInt8 := dkwX4_character_0 ++ dktX4_character_1
theorem dksX4_character_0 : cX4_character.data.toList.drop 0 = dktX4_character_0 := by decide +kernel
theorem dksX4_character_1 : cX4_character.data.toList.drop 24 = dktX4_character_1 := dk_seg dksX4_character_0 24 rfl rfl
theorem dX4_character_0 : DC mX4_character 0 = .ok (.aload_n 0, 1) := dk_42 (dk_at dksX4_character_0 0 rfl rfl)
theorem dX4_character_1 : DC mX4_character 1 = .ok (.iload_n 1, 1) := dk_27 (dk_at dksX4_character_0 1 rfl rfl)
theorem dX4_character_2 : DC mX4_character 2 = .ok (.iconst 0, 1) := dk_3 (dk_at dksX4_character_0 2 rfl rfl)
theorem dX4_character_3 : DC mX4_character 3 = .ok (.aload_n 0, 1) := dk_42 (dk_at dksX4_character_0 3 rfl rfl)
theorem dX4_character_4 : DC mX4_character 4 = .ok (.getfield 182, 3) := dk_180 0 182 (dk_at dksX4_character_0 4 rfl rfl)
theorem dX4_character_7 : DC mX4_character 7 = .ok (.iconst 1, 1) := dk_4 (dk_at dksX4_character_0 7 rfl rfl)
theorem dX4_character_8 : DC mX4_character 8 = .ok (.isub, 1) := dk_100 (dk_at dksX4_character_0 8 rfl rfl)
theorem dX4_character_9 : DC mX4_character 9 = .ok (.invokestatic 60, 3) := dk_184 0 60 (dk_at dksX4_character_0 9 rfl rfl)
theorem dX4_character_12 : DC mX4_character 12 = .ok (.ifCond .eq 7, 3) := dk_153 0 7 (dk_at dksX4_character_0 12 rfl rfl)
theorem dX4_character_15 : DC mX4_character 15 = .ok (.iconst 0, 1) := dk_3 (dk_at dksX4_character_0 15 rfl rfl)
theorem dX4_character_16 : DC mX4_character 16 = .ok (.goto 4, 3) := dk_167 0 4 (dk_at dksX4_character_0 16 rfl rfl)
theorem dX4_character_19 : DC mX4_character 19 = .ok (.iconst 1, 1) := dk_4 (dk_at dksX4_character_0 19 rfl rfl)
theorem dX4_character_20 : DC mX4_character 20 = .ok (.putfield 45, 3) := dk_181 0 45 (dk_at dksX4_character_0 20 rfl rfl)
theorem dX4_character_23 : DC mX4_character 23 = .ok (.aload_n 0, 1) := dk_42 (dk_at dksX4_character_0 23 rfl rfl)
theorem dX4_character_24 : DC mX4_character 24 = .ok (.getfield 45, 3) := dk_180 0 45 (dk_at dksX4_character_1 0 rfl rfl)
theorem dX4_character_27 : DC mX4_character 27 = .ok (.ifCond .ne 12, 3) := dk_154 0 12 (dk_at dksX4_character_1 3 rfl rfl)
theorem dX4_character_30 : DC mX4_character 30 = .ok (.aload_n 0, 1) := dk_42 (dk_at dksX4_character_1 6 rfl rfl)
theorem dX4_character_31 : DC mX4_character 31 = .ok (.getfield 25, 3) := dk_180 0 25 (dk_at dksX4_character_1 7 rfl rfl)
theorem dX4_character_34 : DC mX4_character 34 = .ok (.iload_n 1, 1) := dk_27 (dk_at dksX4_character_1 10 rfl rfl)
theorem dX4_character_35 : DC mX4_character 35 = .ok (.caload, 1) := dk_52 (dk_at dksX4_character_1 11 rfl rfl)
theorem dX4_character_36 : DC mX4_character 36 = .ok (.goto 5, 3) := dk_167 0 5 (dk_at dksX4_character_1 12 rfl rfl)
theorem dX4_character_39 : DC mX4_character 39 = .ok (.bipush 97, 2) := dk_16 97 (dk_at dksX4_character_1 15 rfl rfl)
theorem dX4_character_41 : DC mX4_character 41 = .ok (.ireturn, 1) := dk_172 (dk_at dksX4_character_1 17 rfl rfl)
abbrev cX4_number : ByteArray := prog_13_method_60_code
def yX4_number : MethodName := ⟨RX4, "number", "(I)I"⟩
def mX4_number : MI := (⟨"TheatreSagaModel", "number", "(I)I"⟩, prog_13_method_60_code, 4, (Option.some FieldType.int), none, 42, 4)
theorem oX4_number : mO mX4_number = 42 := rfl
theorem lX4_number : mL mX4_number = 4 := rfl
theorem rX4_number : mR mX4_number = (Option.some FieldType.int) := rfl
theorem vX4_number : mV mX4_number = 4 := rfl
theorem nX4_number : (mY mX4_number).name = "number" := rfl
theorem hX4_number : mH mX4_number = none := rfl
theorem kX4_number : MOk mX4_number := ⟨q2681, q91, by decide +kernel⟩
theorem gX4_number : plainName (mY mX4_number).cls = true ∧ (mY mX4_number).cls = "TheatreSagaModel" := ⟨by decide +kernel, rfl⟩
def dkwX4_number_6 : List UInt8 := [132, 3, 1, 167, 255, 240, 28, 172, 42, 180, 0, 48, 172, 42, 180, 0, 198, 172, 42, 4, 182, 0, 92, 172]
abbrev dktX4_number_6 : List UInt8 := dkwX4_number_6 ++ []
def dkwX4_number_5 : List UInt8 := [46, 172, 42, 182, 0, 131, 172, 3, 62, 29, 8, 162, 0, 17, 28, 42, 29, 182, 0, 142, 96, 61]
abbrev dktX4_number_5 : List UInt8 := dkwX4_number_5 ++ dktX4_number_6
def dkwX4_number_4 : List UInt8 := [7, 46, 172, 42, 180, 0, 9, 8, 46, 172, 42, 180, 0, 9, 16, 6, 46, 172, 42, 180, 0, 9, 16, 7]
abbrev dktX4_number_4 : List UInt8 := dkwX4_number_4 ++ dktX4_number_5
def dkwX4_number_3 : List UInt8 := [180, 0, 9, 4, 46, 172, 42, 180, 0, 9, 5, 46, 172, 42, 180, 0, 9, 6, 46, 172, 42, 180, 0, 9]
abbrev dktX4_number_3 : List UInt8 := dkwX4_number_3 ++ dktX4_number_4
def dkwX4_number_2 : List UInt8 := [42, 180, 0, 9, 3, 46, 172, 42, 180, 0, 9, 16, 8, 46, 172, 42, 27, 5, 100, 182, 0, 115, 172, 42]
abbrev dktX4_number_2 : List UInt8 := dkwX4_number_2 ++ dktX4_number_3
def dkwX4_number_1 : List UInt8 := [170, 0, 0, 0, 0, 0, 0, 200, 0, 0, 0, 0, 0, 0, 0, 17, 0, 0, 0, 88, 0, 0, 0, 95, 0, 0, 0, 103, 0, 0, 0, 103, 0, 0, 0, 103, 0, 0, 0, 103, 0, 0, 0, 103, 0, 0, 0, 111, 0, 0, 0, 118, 0, 0, 0, 125, 0, 0, 0, 132, 0, 0, 0, 139, 0, 0, 0, 146, 0, 0, 0, 154, 0, 0, 0, 162, 0, 0, 0, 167, 0, 0, 0, 190, 0, 0, 0, 195]
abbrev dktX4_number_1 : List UInt8 := dkwX4_number_1 ++ dktX4_number_2
def dkwX4_number_0 : List UInt8 := [42, 3, 181, 0, 45, 3, 61, 27]
abbrev dktX4_number_0 : List UInt8 := dkwX4_number_0 ++ dktX4_number_1
theorem dksX4_number_0 : cX4_number.data.toList.drop 0 = dktX4_number_0 := by decide +kernel
theorem dksX4_number_1 : cX4_number.data.toList.drop 8 = dktX4_number_1 := dk_seg dksX4_number_0 8 rfl rfl
theorem dksX4_number_2 : cX4_number.data.toList.drop 96 = dktX4_number_2 := dk_seg dksX4_number_1 88 rfl rfl
theorem dksX4_number_3 : cX4_number.data.toList.drop 120 = dktX4_number_3 := dk_seg dksX4_number_2 24 rfl rfl
theorem dksX4_number_4 : cX4_number.data.toList.drop 144 = dktX4_number_4 := dk_seg dksX4_number_3 24 rfl rfl
theorem dksX4_number_5 : cX4_number.data.toList.drop 168 = dktX4_number_5 := dk_seg dksX4_number_4 24 rfl rfl
theorem dksX4_number_6 : cX4_number.data.toList.drop 190 = dktX4_number_6 := dk_seg dksX4_number_5 22 rfl rfl
theorem dX4_number_0 : DC mX4_number 0 = .ok (.aload_n 0, 1) := dk_42 (dk_at dksX4_number_0 0 rfl rfl)
theorem dX4_number_1 : DC mX4_number 1 = .ok (.iconst 0, 1) := dk_3 (dk_at dksX4_number_0 1 rfl rfl)
theorem dX4_number_2 : DC mX4_number 2 = .ok (.putfield 45, 3) := dk_181 0 45 (dk_at dksX4_number_0 2 rfl rfl)
theorem dX4_number_5 : DC mX4_number 5 = .ok (.iconst 0, 1) := dk_3 (dk_at dksX4_number_0 5 rfl rfl)
theorem dX4_number_6 : DC mX4_number 6 = .ok (.istore_n 2, 1) := dk_61 (dk_at dksX4_number_0 6 rfl rfl)
theorem dX4_number_7 : DC mX4_number 7 = .ok (.iload_n 1, 1) := dk_27 (dk_at dksX4_number_0 7 rfl rfl)
theorem dX4_number_8 : DC mX4_number 8 = .ok (.tableswitch 200 0 17 #[88, 95, 103, 103, 103, 103, 103, 111, 118, 125, 132, 139, 146, 154, 162, 167, 190, 195], 88) := by decide +kernel
theorem dX4_number_96 : DC mX4_number 96 = .ok (.aload_n 0, 1) := dk_42 (dk_at dksX4_number_2 0 rfl rfl)
theorem dX4_number_97 : DC mX4_number 97 = .ok (.getfield 9, 3) := dk_180 0 9 (dk_at dksX4_number_2 1 rfl rfl)
theorem dX4_number_100 : DC mX4_number 100 = .ok (.iconst 0, 1) := dk_3 (dk_at dksX4_number_2 4 rfl rfl)
theorem dX4_number_101 : DC mX4_number 101 = .ok (.iaload, 1) := dk_46 (dk_at dksX4_number_2 5 rfl rfl)
theorem dX4_number_102 : DC mX4_number 102 = .ok (.ireturn, 1) := dk_172 (dk_at dksX4_number_2 6 rfl rfl)
theorem dX4_number_103 : DC mX4_number 103 = .ok (.aload_n 0, 1) := dk_42 (dk_at dksX4_number_2 7 rfl rfl)
theorem dX4_number_104 : DC mX4_number 104 = .ok (.getfield 9, 3) := dk_180 0 9 (dk_at dksX4_number_2 8 rfl rfl)
theorem dX4_number_107 : DC mX4_number 107 = .ok (.bipush 8, 2) := dk_16 8 (dk_at dksX4_number_2 11 rfl rfl)
theorem dX4_number_109 : DC mX4_number 109 = .ok (.iaload, 1) := dk_46 (dk_at dksX4_number_2 13 rfl rfl)
theorem dX4_number_110 : DC mX4_number 110 = .ok (.ireturn, 1) := dk_172 (dk_at dksX4_number_2 14 rfl rfl)
theorem dX4_number_111 : DC mX4_number 111 = .ok (.aload_n 0, 1) := dk_42 (dk_at dksX4_number_2 15 rfl rfl)
theorem dX4_number_112 : DC mX4_number 112 = .ok (.iload_n 1, 1) := dk_27 (dk_at dksX4_number_2 16 rfl rfl)
theorem dX4_number_113 : DC mX4_number 113 = .ok (.iconst 2, 1) := dk_5 (dk_at dksX4_number_2 17 rfl rfl)
theorem dX4_number_114 : DC mX4_number 114 = .ok (.isub, 1) := dk_100 (dk_at dksX4_number_2 18 rfl rfl)
theorem dX4_number_115 : DC mX4_number 115 = .ok (.invokevirtual 115, 3) := dk_182 0 115 (dk_at dksX4_number_2 19 rfl rfl)
theorem dX4_number_118 : DC mX4_number 118 = .ok (.ireturn, 1) := dk_172 (dk_at dksX4_number_2 22 rfl rfl)
theorem dX4_number_119 : DC mX4_number 119 = .ok (.aload_n 0, 1) := dk_42 (dk_at dksX4_number_2 23 rfl rfl)
theorem dX4_number_120 : DC mX4_number 120 = .ok (.getfield 9, 3) := dk_180 0 9 (dk_at dksX4_number_3 0 rfl rfl)
theorem dX4_number_123 : DC mX4_number 123 = .ok (.iconst 1, 1) := dk_4 (dk_at dksX4_number_3 3 rfl rfl)
theorem dX4_number_124 : DC mX4_number 124 = .ok (.iaload, 1) := dk_46 (dk_at dksX4_number_3 4 rfl rfl)
theorem dX4_number_125 : DC mX4_number 125 = .ok (.ireturn, 1) := dk_172 (dk_at dksX4_number_3 5 rfl rfl)
theorem dX4_number_126 : DC mX4_number 126 = .ok (.aload_n 0, 1) := dk_42 (dk_at dksX4_number_3 6 rfl rfl)
theorem dX4_number_127 : DC mX4_number 127 = .ok (.getfield 9, 3) := dk_180 0 9 (dk_at dksX4_number_3 7 rfl rfl)
theorem dX4_number_130 : DC mX4_number 130 = .ok (.iconst 2, 1) := dk_5 (dk_at dksX4_number_3 10 rfl rfl)
theorem dX4_number_131 : DC mX4_number 131 = .ok (.iaload, 1) := dk_46 (dk_at dksX4_number_3 11 rfl rfl)
theorem dX4_number_132 : DC mX4_number 132 = .ok (.ireturn, 1) := dk_172 (dk_at dksX4_number_3 12 rfl rfl)
theorem dX4_number_133 : DC mX4_number 133 = .ok (.aload_n 0, 1) := dk_42 (dk_at dksX4_number_3 13 rfl rfl)
theorem dX4_number_134 : DC mX4_number 134 = .ok (.getfield 9, 3) := dk_180 0 9 (dk_at dksX4_number_3 14 rfl rfl)
theorem dX4_number_137 : DC mX4_number 137 = .ok (.iconst 3, 1) := dk_6 (dk_at dksX4_number_3 17 rfl rfl)
theorem dX4_number_138 : DC mX4_number 138 = .ok (.iaload, 1) := dk_46 (dk_at dksX4_number_3 18 rfl rfl)
theorem dX4_number_139 : DC mX4_number 139 = .ok (.ireturn, 1) := dk_172 (dk_at dksX4_number_3 19 rfl rfl)
theorem dX4_number_140 : DC mX4_number 140 = .ok (.aload_n 0, 1) := dk_42 (dk_at dksX4_number_3 20 rfl rfl)
theorem dX4_number_141 : DC mX4_number 141 = .ok (.getfield 9, 3) := dk_180 0 9 (dk_at dksX4_number_3 21 rfl rfl)
theorem dX4_number_144 : DC mX4_number 144 = .ok (.iconst 4, 1) := dk_7 (dk_at dksX4_number_4 0 rfl rfl)
theorem dX4_number_145 : DC mX4_number 145 = .ok (.iaload, 1) := dk_46 (dk_at dksX4_number_4 1 rfl rfl)
theorem dX4_number_146 : DC mX4_number 146 = .ok (.ireturn, 1) := dk_172 (dk_at dksX4_number_4 2 rfl rfl)
theorem dX4_number_147 : DC mX4_number 147 = .ok (.aload_n 0, 1) := dk_42 (dk_at dksX4_number_4 3 rfl rfl)
theorem dX4_number_148 : DC mX4_number 148 = .ok (.getfield 9, 3) := dk_180 0 9 (dk_at dksX4_number_4 4 rfl rfl)
theorem dX4_number_151 : DC mX4_number 151 = .ok (.iconst 5, 1) := dk_8 (dk_at dksX4_number_4 7 rfl rfl)
theorem dX4_number_152 : DC mX4_number 152 = .ok (.iaload, 1) := dk_46 (dk_at dksX4_number_4 8 rfl rfl)
theorem dX4_number_153 : DC mX4_number 153 = .ok (.ireturn, 1) := dk_172 (dk_at dksX4_number_4 9 rfl rfl)
theorem dX4_number_154 : DC mX4_number 154 = .ok (.aload_n 0, 1) := dk_42 (dk_at dksX4_number_4 10 rfl rfl)
theorem dX4_number_155 : DC mX4_number 155 = .ok (.getfield 9, 3) := dk_180 0 9 (dk_at dksX4_number_4 11 rfl rfl)
theorem dX4_number_158 : DC mX4_number 158 = .ok (.bipush 6, 2) := dk_16 6 (dk_at dksX4_number_4 14 rfl rfl)
theorem dX4_number_160 : DC mX4_number 160 = .ok (.iaload, 1) := dk_46 (dk_at dksX4_number_4 16 rfl rfl)
theorem dX4_number_161 : DC mX4_number 161 = .ok (.ireturn, 1) := dk_172 (dk_at dksX4_number_4 17 rfl rfl)
theorem dX4_number_162 : DC mX4_number 162 = .ok (.aload_n 0, 1) := dk_42 (dk_at dksX4_number_4 18 rfl rfl)
theorem dX4_number_163 : DC mX4_number 163 = .ok (.getfield 9, 3) := dk_180 0 9 (dk_at dksX4_number_4 19 rfl rfl)
theorem dX4_number_166 : DC mX4_number 166 = .ok (.bipush 7, 2) := dk_16 7 (dk_at dksX4_number_4 22 rfl rfl)
theorem dX4_number_168 : DC mX4_number 168 = .ok (.iaload, 1) := dk_46 (dk_at dksX4_number_5 0 rfl rfl)
theorem dX4_number_169 : DC mX4_number 169 = .ok (.ireturn, 1) := dk_172 (dk_at dksX4_number_5 1 rfl rfl)
theorem dX4_number_170 : DC mX4_number 170 = .ok (.aload_n 0, 1) := dk_42 (dk_at dksX4_number_5 2 rfl rfl)
theorem dX4_number_171 : DC mX4_number 171 = .ok (.invokevirtual 131, 3) := dk_182 0 131 (dk_at dksX4_number_5 3 rfl rfl)
theorem dX4_number_174 : DC mX4_number 174 = .ok (.ireturn, 1) := dk_172 (dk_at dksX4_number_5 6 rfl rfl)
theorem dX4_number_175 : DC mX4_number 175 = .ok (.iconst 0, 1) := dk_3 (dk_at dksX4_number_5 7 rfl rfl)
theorem dX4_number_176 : DC mX4_number 176 = .ok (.istore_n 3, 1) := dk_62 (dk_at dksX4_number_5 8 rfl rfl)
theorem dX4_number_177 : DC mX4_number 177 = .ok (.iload_n 3, 1) := dk_29 (dk_at dksX4_number_5 9 rfl rfl)
theorem dX4_number_178 : DC mX4_number 178 = .ok (.iconst 5, 1) := dk_8 (dk_at dksX4_number_5 10 rfl rfl)
theorem dX4_number_179 : DC mX4_number 179 = .ok (.if_icmp .ge 17, 3) := dk_162 0 17 (dk_at dksX4_number_5 11 rfl rfl)
theorem dX4_number_182 : DC mX4_number 182 = .ok (.iload_n 2, 1) := dk_28 (dk_at dksX4_number_5 14 rfl rfl)
theorem dX4_number_183 : DC mX4_number 183 = .ok (.aload_n 0, 1) := dk_42 (dk_at dksX4_number_5 15 rfl rfl)
theorem dX4_number_184 : DC mX4_number 184 = .ok (.iload_n 3, 1) := dk_29 (dk_at dksX4_number_5 16 rfl rfl)
theorem dX4_number_185 : DC mX4_number 185 = .ok (.invokevirtual 142, 3) := dk_182 0 142 (dk_at dksX4_number_5 17 rfl rfl)
theorem dX4_number_188 : DC mX4_number 188 = .ok (.iadd, 1) := dk_96 (dk_at dksX4_number_5 20 rfl rfl)
theorem dX4_number_189 : DC mX4_number 189 = .ok (.istore_n 2, 1) := dk_61 (dk_at dksX4_number_5 21 rfl rfl)
theorem dX4_number_190 : DC mX4_number 190 = .ok (.iinc 3 1, 3) := dk_132 3 1 (dk_at dksX4_number_6 0 rfl rfl)
theorem dX4_number_193 : DC mX4_number 193 = .ok (.goto (-16), 3) := dk_167 255 240 (dk_at dksX4_number_6 3 rfl rfl)
theorem dX4_number_196 : DC mX4_number 196 = .ok (.iload_n 2, 1) := dk_28 (dk_at dksX4_number_6 6 rfl rfl)
theorem dX4_number_197 : DC mX4_number 197 = .ok (.ireturn, 1) := dk_172 (dk_at dksX4_number_6 7 rfl rfl)
theorem dX4_number_198 : DC mX4_number 198 = .ok (.aload_n 0, 1) := dk_42 (dk_at dksX4_number_6 8 rfl rfl)
theorem dX4_number_199 : DC mX4_number 199 = .ok (.getfield 48, 3) := dk_180 0 48 (dk_at dksX4_number_6 9 rfl rfl)
theorem dX4_number_202 : DC mX4_number 202 = .ok (.ireturn, 1) := dk_172 (dk_at dksX4_number_6 12 rfl rfl)
theorem dX4_number_203 : DC mX4_number 203 = .ok (.aload_n 0, 1) := dk_42 (dk_at dksX4_number_6 13 rfl rfl)
theorem dX4_number_204 : DC mX4_number 204 = .ok (.getfield 198, 3) := dk_180 0 198 (dk_at dksX4_number_6 14 rfl rfl)
theorem dX4_number_207 : DC mX4_number 207 = .ok (.ireturn, 1) := dk_172 (dk_at dksX4_number_6 17 rfl rfl)
theorem dX4_number_208 : DC mX4_number 208 = .ok (.aload_n 0, 1) := dk_42 (dk_at dksX4_number_6 18 rfl rfl)
theorem dX4_number_209 : DC mX4_number 209 = .ok (.iconst 1, 1) := dk_4 (dk_at dksX4_number_6 19 rfl rfl)
theorem dX4_number_210 : DC mX4_number 210 = .ok (.invokevirtual 92, 3) := dk_182 0 92 (dk_at dksX4_number_6 20 rfl rfl)
theorem dX4_number_213 : DC mX4_number 213 = .ok (.ireturn, 1) := dk_172 (dk_at dksX4_number_6 23 rfl rfl)
abbrev cX4_coinsAgain : ByteArray := prog_13_method_61_code
def yX4_coinsAgain : MethodName := ⟨RX4, "coinsAgain", "()I"⟩
def mX4_coinsAgain : MI := (⟨"TheatreSagaModel", "coinsAgain", "()I"⟩, prog_13_method_61_code, 1, (Option.some FieldType.int), none, 42, 1)
theorem oX4_coinsAgain : mO mX4_coinsAgain = 42 := rfl
theorem lX4_coinsAgain : mL mX4_coinsAgain = 1 := rfl
theorem rX4_coinsAgain : mR mX4_coinsAgain = (Option.some FieldType.int) := rfl
theorem vX4_coinsAgain : mV mX4_coinsAgain = 1 := rfl
theorem nX4_coinsAgain : (mY mX4_coinsAgain).name = "coinsAgain" := rfl
theorem hX4_coinsAgain : mH mX4_coinsAgain = none := rfl
theorem kX4_coinsAgain : MOk mX4_coinsAgain := ⟨q2685, q91, by decide +kernel⟩
theorem gX4_coinsAgain : plainName (mY mX4_coinsAgain).cls = true ∧ (mY mX4_coinsAgain).cls = "TheatreSagaModel" := ⟨by decide +kernel, rfl⟩
def dkwX4_coinsAgain_1 : List UInt8 := [180, 0, 9, 5, 46, 100, 42, 180, 0, 9, 8, 46, 100, 172]
abbrev dktX4_coinsAgain_1 : List UInt8 := dkwX4_coinsAgain_1 ++ []
def dkwX4_coinsAgain_0 : List UInt8 := [42, 3, 181, 0, 45, 16, 100, 42, 180, 0, 9, 6, 46, 96, 42, 180, 0, 9, 7, 46, 96, 42]
abbrev dktX4_coinsAgain_0 : List UInt8 := dkwX4_coinsAgain_0 ++ dktX4_coinsAgain_1
theorem dksX4_coinsAgain_0 : cX4_coinsAgain.data.toList.drop 0 = dktX4_coinsAgain_0 := by decide +kernel
theorem dksX4_coinsAgain_1 : cX4_coinsAgain.data.toList.drop 22 = dktX4_coinsAgain_1 := dk_seg dksX4_coinsAgain_0 22 rfl rfl
theorem dX4_coinsAgain_0 : DC mX4_coinsAgain 0 = .ok (.aload_n 0, 1) := dk_42 (dk_at dksX4_coinsAgain_0 0 rfl rfl)
theorem dX4_coinsAgain_1 : DC mX4_coinsAgain 1 = .ok (.iconst 0, 1) := dk_3 (dk_at dksX4_coinsAgain_0 1 rfl rfl)
theorem dX4_coinsAgain_2 : DC mX4_coinsAgain 2 = .ok (.putfield 45, 3) := dk_181 0 45 (dk_at dksX4_coinsAgain_0 2 rfl rfl)
theorem dX4_coinsAgain_5 : DC mX4_coinsAgain 5 = .ok (.bipush 100, 2) := dk_16 100 (dk_at dksX4_coinsAgain_0 5 rfl rfl)
theorem dX4_coinsAgain_7 : DC mX4_coinsAgain 7 = .ok (.aload_n 0, 1) := dk_42 (dk_at dksX4_coinsAgain_0 7 rfl rfl)
theorem dX4_coinsAgain_8 : DC mX4_coinsAgain 8 = .ok (.getfield 9, 3) := dk_180 0 9 (dk_at dksX4_coinsAgain_0 8 rfl rfl)
theorem dX4_coinsAgain_11 : DC mX4_coinsAgain 11 = .ok (.iconst 3, 1) := dk_6 (dk_at dksX4_coinsAgain_0 11 rfl rfl)
theorem dX4_coinsAgain_12 : DC mX4_coinsAgain 12 = .ok (.iaload, 1) := dk_46 (dk_at dksX4_coinsAgain_0 12 rfl rfl)
theorem dX4_coinsAgain_13 : DC mX4_coinsAgain 13 = .ok (.iadd, 1) := dk_96 (dk_at dksX4_coinsAgain_0 13 rfl rfl)
theorem dX4_coinsAgain_14 : DC mX4_coinsAgain 14 = .ok (.aload_n 0, 1) := dk_42 (dk_at dksX4_coinsAgain_0 14 rfl rfl)
theorem dX4_coinsAgain_15 : DC mX4_coinsAgain 15 = .ok (.getfield 9, 3) := dk_180 0 9 (dk_at dksX4_coinsAgain_0 15 rfl rfl)
theorem dX4_coinsAgain_18 : DC mX4_coinsAgain 18 = .ok (.iconst 4, 1) := dk_7 (dk_at dksX4_coinsAgain_0 18 rfl rfl)
theorem dX4_coinsAgain_19 : DC mX4_coinsAgain 19 = .ok (.iaload, 1) := dk_46 (dk_at dksX4_coinsAgain_0 19 rfl rfl)
theorem dX4_coinsAgain_20 : DC mX4_coinsAgain 20 = .ok (.iadd, 1) := dk_96 (dk_at dksX4_coinsAgain_0 20 rfl rfl)
theorem dX4_coinsAgain_21 : DC mX4_coinsAgain 21 = .ok (.aload_n 0, 1) := dk_42 (dk_at dksX4_coinsAgain_0 21 rfl rfl)
theorem dX4_coinsAgain_22 : DC mX4_coinsAgain 22 = .ok (.getfield 9, 3) := dk_180 0 9 (dk_at dksX4_coinsAgain_1 0 rfl rfl)
theorem dX4_coinsAgain_25 : DC mX4_coinsAgain 25 = .ok (.iconst 2, 1) := dk_5 (dk_at dksX4_coinsAgain_1 3 rfl rfl)
theorem dX4_coinsAgain_26 : DC mX4_coinsAgain 26 = .ok (.iaload, 1) := dk_46 (dk_at dksX4_coinsAgain_1 4 rfl rfl)
theorem dX4_coinsAgain_27 : DC mX4_coinsAgain 27 = .ok (.isub, 1) := dk_100 (dk_at dksX4_coinsAgain_1 5 rfl rfl)
theorem dX4_coinsAgain_28 : DC mX4_coinsAgain 28 = .ok (.aload_n 0, 1) := dk_42 (dk_at dksX4_coinsAgain_1 6 rfl rfl)
theorem dX4_coinsAgain_29 : DC mX4_coinsAgain 29 = .ok (.getfield 9, 3) := dk_180 0 9 (dk_at dksX4_coinsAgain_1 7 rfl rfl)
theorem dX4_coinsAgain_32 : DC mX4_coinsAgain 32 = .ok (.iconst 5, 1) := dk_8 (dk_at dksX4_coinsAgain_1 10 rfl rfl)
theorem dX4_coinsAgain_33 : DC mX4_coinsAgain 33 = .ok (.iaload, 1) := dk_46 (dk_at dksX4_coinsAgain_1 11 rfl rfl)
theorem dX4_coinsAgain_34 : DC mX4_coinsAgain 34 = .ok (.isub, 1) := dk_100 (dk_at dksX4_coinsAgain_1 12 rfl rfl)
theorem dX4_coinsAgain_35 : DC mX4_coinsAgain 35 = .ok (.ireturn, 1) := dk_172 (dk_at dksX4_coinsAgain_1 13 rfl rfl)
abbrev cX4_meanSteps : ByteArray := prog_13_method_62_code
def yX4_meanSteps : MethodName := ⟨RX4, "meanSteps", "()D"⟩
def mX4_meanSteps : MI := (⟨"TheatreSagaModel", "meanSteps", "()D"⟩, prog_13_method_62_code, 4, (Option.some FieldType.double), none, 42, 2)
theorem oX4_meanSteps : mO mX4_meanSteps = 42 := rfl
theorem lX4_meanSteps : mL mX4_meanSteps = 4 := rfl
theorem rX4_meanSteps : mR mX4_meanSteps = (Option.some FieldType.double) := rfl
theorem vX4_meanSteps : mV mX4_meanSteps = 2 := rfl
theorem nX4_meanSteps : (mY mX4_meanSteps).name = "meanSteps" := rfl
theorem hX4_meanSteps : mH mX4_meanSteps = none := rfl
theorem kX4_meanSteps : MOk mX4_meanSteps := ⟨q2689, q91, by decide +kernel⟩
theorem gX4_meanSteps : plainName (mY mX4_meanSteps).cls = true ∧ (mY mX4_meanSteps).cls = "TheatreSagaModel" := ⟨by decide +kernel, rfl⟩
def dkwX4_meanSteps_2 : List UInt8 := [167, 0, 8, 28, 135, 27, 135, 111, 175]
abbrev dktX4_meanSteps_2 : List UInt8 := dkwX4_meanSteps_2 ++ []
def dkwX4_meanSteps_1 : List UInt8 := [29, 5, 182, 0, 64, 96, 61, 132, 3, 1, 167, 255, 239, 27, 154, 0, 12, 42, 4, 182, 0, 92, 135]
abbrev dktX4_meanSteps_1 : List UInt8 := dkwX4_meanSteps_1 ++ dktX4_meanSteps_2
def dkwX4_meanSteps_0 : List UInt8 := [42, 3, 181, 0, 45, 42, 180, 0, 9, 16, 8, 46, 60, 3, 61, 3, 62, 29, 27, 162, 0, 18, 28, 42]
abbrev dktX4_meanSteps_0 : List UInt8 := dkwX4_meanSteps_0 ++ dktX4_meanSteps_1
theorem dksX4_meanSteps_0 : cX4_meanSteps.data.toList.drop 0 = dktX4_meanSteps_0 := by decide +kernel
theorem dksX4_meanSteps_1 : cX4_meanSteps.data.toList.drop 24 = dktX4_meanSteps_1 := dk_seg dksX4_meanSteps_0 24 rfl rfl
theorem dksX4_meanSteps_2 : cX4_meanSteps.data.toList.drop 47 = dktX4_meanSteps_2 := dk_seg dksX4_meanSteps_1 23 rfl rfl
theorem dX4_meanSteps_0 : DC mX4_meanSteps 0 = .ok (.aload_n 0, 1) := dk_42 (dk_at dksX4_meanSteps_0 0 rfl rfl)
theorem dX4_meanSteps_1 : DC mX4_meanSteps 1 = .ok (.iconst 0, 1) := dk_3 (dk_at dksX4_meanSteps_0 1 rfl rfl)
theorem dX4_meanSteps_2 : DC mX4_meanSteps 2 = .ok (.putfield 45, 3) := dk_181 0 45 (dk_at dksX4_meanSteps_0 2 rfl rfl)
theorem dX4_meanSteps_5 : DC mX4_meanSteps 5 = .ok (.aload_n 0, 1) := dk_42 (dk_at dksX4_meanSteps_0 5 rfl rfl)
theorem dX4_meanSteps_6 : DC mX4_meanSteps 6 = .ok (.getfield 9, 3) := dk_180 0 9 (dk_at dksX4_meanSteps_0 6 rfl rfl)
theorem dX4_meanSteps_9 : DC mX4_meanSteps 9 = .ok (.bipush 8, 2) := dk_16 8 (dk_at dksX4_meanSteps_0 9 rfl rfl)
theorem dX4_meanSteps_11 : DC mX4_meanSteps 11 = .ok (.iaload, 1) := dk_46 (dk_at dksX4_meanSteps_0 11 rfl rfl)
theorem dX4_meanSteps_12 : DC mX4_meanSteps 12 = .ok (.istore_n 1, 1) := dk_60 (dk_at dksX4_meanSteps_0 12 rfl rfl)
theorem dX4_meanSteps_13 : DC mX4_meanSteps 13 = .ok (.iconst 0, 1) := dk_3 (dk_at dksX4_meanSteps_0 13 rfl rfl)
theorem dX4_meanSteps_14 : DC mX4_meanSteps 14 = .ok (.istore_n 2, 1) := dk_61 (dk_at dksX4_meanSteps_0 14 rfl rfl)
theorem dX4_meanSteps_15 : DC mX4_meanSteps 15 = .ok (.iconst 0, 1) := dk_3 (dk_at dksX4_meanSteps_0 15 rfl rfl)
theorem dX4_meanSteps_16 : DC mX4_meanSteps 16 = .ok (.istore_n 3, 1) := dk_62 (dk_at dksX4_meanSteps_0 16 rfl rfl)
theorem dX4_meanSteps_17 : DC mX4_meanSteps 17 = .ok (.iload_n 3, 1) := dk_29 (dk_at dksX4_meanSteps_0 17 rfl rfl)
theorem dX4_meanSteps_18 : DC mX4_meanSteps 18 = .ok (.iload_n 1, 1) := dk_27 (dk_at dksX4_meanSteps_0 18 rfl rfl)
theorem dX4_meanSteps_19 : DC mX4_meanSteps 19 = .ok (.if_icmp .ge 18, 3) := dk_162 0 18 (dk_at dksX4_meanSteps_0 19 rfl rfl)
theorem dX4_meanSteps_22 : DC mX4_meanSteps 22 = .ok (.iload_n 2, 1) := dk_28 (dk_at dksX4_meanSteps_0 22 rfl rfl)
theorem dX4_meanSteps_23 : DC mX4_meanSteps 23 = .ok (.aload_n 0, 1) := dk_42 (dk_at dksX4_meanSteps_0 23 rfl rfl)
theorem dX4_meanSteps_24 : DC mX4_meanSteps 24 = .ok (.iload_n 3, 1) := dk_29 (dk_at dksX4_meanSteps_1 0 rfl rfl)
theorem dX4_meanSteps_25 : DC mX4_meanSteps 25 = .ok (.iconst 2, 1) := dk_5 (dk_at dksX4_meanSteps_1 1 rfl rfl)
theorem dX4_meanSteps_26 : DC mX4_meanSteps 26 = .ok (.invokevirtual 64, 3) := dk_182 0 64 (dk_at dksX4_meanSteps_1 2 rfl rfl)
theorem dX4_meanSteps_29 : DC mX4_meanSteps 29 = .ok (.iadd, 1) := dk_96 (dk_at dksX4_meanSteps_1 5 rfl rfl)
theorem dX4_meanSteps_30 : DC mX4_meanSteps 30 = .ok (.istore_n 2, 1) := dk_61 (dk_at dksX4_meanSteps_1 6 rfl rfl)
theorem dX4_meanSteps_31 : DC mX4_meanSteps 31 = .ok (.iinc 3 1, 3) := dk_132 3 1 (dk_at dksX4_meanSteps_1 7 rfl rfl)
theorem dX4_meanSteps_34 : DC mX4_meanSteps 34 = .ok (.goto (-17), 3) := dk_167 255 239 (dk_at dksX4_meanSteps_1 10 rfl rfl)
theorem dX4_meanSteps_37 : DC mX4_meanSteps 37 = .ok (.iload_n 1, 1) := dk_27 (dk_at dksX4_meanSteps_1 13 rfl rfl)
theorem dX4_meanSteps_38 : DC mX4_meanSteps 38 = .ok (.ifCond .ne 12, 3) := dk_154 0 12 (dk_at dksX4_meanSteps_1 14 rfl rfl)
theorem dX4_meanSteps_41 : DC mX4_meanSteps 41 = .ok (.aload_n 0, 1) := dk_42 (dk_at dksX4_meanSteps_1 17 rfl rfl)
theorem dX4_meanSteps_42 : DC mX4_meanSteps 42 = .ok (.iconst 1, 1) := dk_4 (dk_at dksX4_meanSteps_1 18 rfl rfl)
theorem dX4_meanSteps_43 : DC mX4_meanSteps 43 = .ok (.invokevirtual 92, 3) := dk_182 0 92 (dk_at dksX4_meanSteps_1 19 rfl rfl)
theorem dX4_meanSteps_46 : DC mX4_meanSteps 46 = .ok (.i2d, 1) := dk_135 (dk_at dksX4_meanSteps_1 22 rfl rfl)
theorem dX4_meanSteps_47 : DC mX4_meanSteps 47 = .ok (.goto 8, 3) := dk_167 0 8 (dk_at dksX4_meanSteps_2 0 rfl rfl)
theorem dX4_meanSteps_50 : DC mX4_meanSteps 50 = .ok (.iload_n 2, 1) := dk_28 (dk_at dksX4_meanSteps_2 3 rfl rfl)
theorem dX4_meanSteps_51 : DC mX4_meanSteps 51 = .ok (.i2d, 1) := dk_135 (dk_at dksX4_meanSteps_2 4 rfl rfl)
theorem dX4_meanSteps_52 : DC mX4_meanSteps 52 = .ok (.iload_n 1, 1) := dk_27 (dk_at dksX4_meanSteps_2 5 rfl rfl)
theorem dX4_meanSteps_53 : DC mX4_meanSteps 53 = .ok (.i2d, 1) := dk_135 (dk_at dksX4_meanSteps_2 6 rfl rfl)
theorem dX4_meanSteps_54 : DC mX4_meanSteps 54 = .ok (.ddiv, 1) := dk_111 (dk_at dksX4_meanSteps_2 7 rfl rfl)
theorem dX4_meanSteps_55 : DC mX4_meanSteps 55 = .ok (.dreturn, 1) := dk_175 (dk_at dksX4_meanSteps_2 8 rfl rfl)
abbrev cX4_failedShare : ByteArray := prog_13_method_63_code
def yX4_failedShare : MethodName := ⟨RX4, "failedShare", "()F"⟩
def mX4_failedShare : MI := (⟨"TheatreSagaModel", "failedShare", "()F"⟩, prog_13_method_63_code, 1, (Option.some FieldType.float), none, 42, 2)
theorem oX4_failedShare : mO mX4_failedShare = 42 := rfl
theorem lX4_failedShare : mL mX4_failedShare = 1 := rfl
theorem rX4_failedShare : mR mX4_failedShare = (Option.some FieldType.float) := rfl
theorem vX4_failedShare : mV mX4_failedShare = 2 := rfl
theorem nX4_failedShare : (mY mX4_failedShare).name = "failedShare" := rfl
theorem hX4_failedShare : mH mX4_failedShare = none := rfl
theorem kX4_failedShare : MOk mX4_failedShare := ⟨q2693, q91, by decide +kernel⟩
theorem gX4_failedShare : plainName (mY mX4_failedShare).cls = true ∧ (mY mX4_failedShare).cls = "TheatreSagaModel" := ⟨by decide +kernel, rfl⟩
def dkwX4_failedShare_1 : List UInt8 := [42, 180, 0, 9, 16, 7, 46, 134, 42, 180, 0, 9, 16, 6, 46, 134, 110, 174]
abbrev dktX4_failedShare_1 : List UInt8 := dkwX4_failedShare_1 ++ []
def dkwX4_failedShare_0 : List UInt8 := [42, 3, 181, 0, 45, 42, 180, 0, 9, 16, 6, 46, 154, 0, 12, 42, 4, 182, 0, 92, 134, 167, 0, 20]
abbrev dktX4_failedShare_0 : List UInt8 := dkwX4_failedShare_0 ++ dktX4_failedShare_1
theorem dksX4_failedShare_0 : cX4_failedShare.data.toList.drop 0 = dktX4_failedShare_0 := by decide +kernel
theorem dksX4_failedShare_1 : cX4_failedShare.data.toList.drop 24 = dktX4_failedShare_1 := dk_seg dksX4_failedShare_0 24 rfl rfl
theorem dX4_failedShare_0 : DC mX4_failedShare 0 = .ok (.aload_n 0, 1) := dk_42 (dk_at dksX4_failedShare_0 0 rfl rfl)
theorem dX4_failedShare_1 : DC mX4_failedShare 1 = .ok (.iconst 0, 1) := dk_3 (dk_at dksX4_failedShare_0 1 rfl rfl)
theorem dX4_failedShare_2 : DC mX4_failedShare 2 = .ok (.putfield 45, 3) := dk_181 0 45 (dk_at dksX4_failedShare_0 2 rfl rfl)
theorem dX4_failedShare_5 : DC mX4_failedShare 5 = .ok (.aload_n 0, 1) := dk_42 (dk_at dksX4_failedShare_0 5 rfl rfl)
theorem dX4_failedShare_6 : DC mX4_failedShare 6 = .ok (.getfield 9, 3) := dk_180 0 9 (dk_at dksX4_failedShare_0 6 rfl rfl)
theorem dX4_failedShare_9 : DC mX4_failedShare 9 = .ok (.bipush 6, 2) := dk_16 6 (dk_at dksX4_failedShare_0 9 rfl rfl)
theorem dX4_failedShare_11 : DC mX4_failedShare 11 = .ok (.iaload, 1) := dk_46 (dk_at dksX4_failedShare_0 11 rfl rfl)
theorem dX4_failedShare_12 : DC mX4_failedShare 12 = .ok (.ifCond .ne 12, 3) := dk_154 0 12 (dk_at dksX4_failedShare_0 12 rfl rfl)
theorem dX4_failedShare_15 : DC mX4_failedShare 15 = .ok (.aload_n 0, 1) := dk_42 (dk_at dksX4_failedShare_0 15 rfl rfl)
theorem dX4_failedShare_16 : DC mX4_failedShare 16 = .ok (.iconst 1, 1) := dk_4 (dk_at dksX4_failedShare_0 16 rfl rfl)
theorem dX4_failedShare_17 : DC mX4_failedShare 17 = .ok (.invokevirtual 92, 3) := dk_182 0 92 (dk_at dksX4_failedShare_0 17 rfl rfl)
theorem dX4_failedShare_20 : DC mX4_failedShare 20 = .ok (.i2f, 1) := dk_134 (dk_at dksX4_failedShare_0 20 rfl rfl)
theorem dX4_failedShare_21 : DC mX4_failedShare 21 = .ok (.goto 20, 3) := dk_167 0 20 (dk_at dksX4_failedShare_0 21 rfl rfl)
theorem dX4_failedShare_24 : DC mX4_failedShare 24 = .ok (.aload_n 0, 1) := dk_42 (dk_at dksX4_failedShare_1 0 rfl rfl)
theorem dX4_failedShare_25 : DC mX4_failedShare 25 = .ok (.getfield 9, 3) := dk_180 0 9 (dk_at dksX4_failedShare_1 1 rfl rfl)
theorem dX4_failedShare_28 : DC mX4_failedShare 28 = .ok (.bipush 7, 2) := dk_16 7 (dk_at dksX4_failedShare_1 4 rfl rfl)
theorem dX4_failedShare_30 : DC mX4_failedShare 30 = .ok (.iaload, 1) := dk_46 (dk_at dksX4_failedShare_1 6 rfl rfl)
theorem dX4_failedShare_31 : DC mX4_failedShare 31 = .ok (.i2f, 1) := dk_134 (dk_at dksX4_failedShare_1 7 rfl rfl)
theorem dX4_failedShare_32 : DC mX4_failedShare 32 = .ok (.aload_n 0, 1) := dk_42 (dk_at dksX4_failedShare_1 8 rfl rfl)
theorem dX4_failedShare_33 : DC mX4_failedShare 33 = .ok (.getfield 9, 3) := dk_180 0 9 (dk_at dksX4_failedShare_1 9 rfl rfl)
theorem dX4_failedShare_36 : DC mX4_failedShare 36 = .ok (.bipush 6, 2) := dk_16 6 (dk_at dksX4_failedShare_1 12 rfl rfl)
theorem dX4_failedShare_38 : DC mX4_failedShare 38 = .ok (.iaload, 1) := dk_46 (dk_at dksX4_failedShare_1 14 rfl rfl)
theorem dX4_failedShare_39 : DC mX4_failedShare 39 = .ok (.i2f, 1) := dk_134 (dk_at dksX4_failedShare_1 15 rfl rfl)
theorem dX4_failedShare_40 : DC mX4_failedShare 40 = .ok (.fdiv, 1) := dk_110 (dk_at dksX4_failedShare_1 16 rfl rfl)
theorem dX4_failedShare_41 : DC mX4_failedShare 41 = .ok (.freturn, 1) := dk_174 (dk_at dksX4_failedShare_1 17 rfl rfl)
abbrev cX4_feed : ByteArray := prog_13_method_64_code
def yX4_feed : MethodName := ⟨RX4, "feed", "(C)I"⟩
def mX4_feed : MI := (⟨"TheatreSagaModel", "feed", "(C)I"⟩, prog_13_method_64_code, 2, (Option.some FieldType.int), none, 42, 2)
theorem oX4_feed : mO mX4_feed = 42 := rfl
theorem lX4_feed : mL mX4_feed = 2 := rfl
theorem rX4_feed : mR mX4_feed = (Option.some FieldType.int) := rfl
theorem vX4_feed : mV mX4_feed = 2 := rfl
theorem nX4_feed : (mY mX4_feed).name = "feed" := rfl
theorem hX4_feed : mH mX4_feed = none := rfl
theorem kX4_feed : MOk mX4_feed := ⟨q2697, q91, by decide +kernel⟩
theorem gX4_feed : plainName (mY mX4_feed).cls = true ∧ (mY mX4_feed).cls = "TheatreSagaModel" := ⟨by decide +kernel, rfl⟩
def dkwX4_feed_1 : List UInt8 := [42, 89, 180, 0, 198, 90, 4, 96, 181, 0, 198, 27, 85, 42, 180, 0, 198, 172]
abbrev dktX4_feed_1 : List UInt8 := dkwX4_feed_1 ++ []
def dkwX4_feed_0 : List UInt8 := [42, 3, 181, 0, 45, 42, 180, 0, 198, 16, 60, 160, 0, 9, 42, 4, 182, 0, 92, 172, 42, 180, 0, 29]
abbrev dktX4_feed_0 : List UInt8 := dkwX4_feed_0 ++ dktX4_feed_1
theorem dksX4_feed_0 : cX4_feed.data.toList.drop 0 = dktX4_feed_0 := by decide +kernel
theorem dksX4_feed_1 : cX4_feed.data.toList.drop 24 = dktX4_feed_1 := dk_seg dksX4_feed_0 24 rfl rfl
theorem dX4_feed_0 : DC mX4_feed 0 = .ok (.aload_n 0, 1) := dk_42 (dk_at dksX4_feed_0 0 rfl rfl)
theorem dX4_feed_1 : DC mX4_feed 1 = .ok (.iconst 0, 1) := dk_3 (dk_at dksX4_feed_0 1 rfl rfl)
theorem dX4_feed_2 : DC mX4_feed 2 = .ok (.putfield 45, 3) := dk_181 0 45 (dk_at dksX4_feed_0 2 rfl rfl)
theorem dX4_feed_5 : DC mX4_feed 5 = .ok (.aload_n 0, 1) := dk_42 (dk_at dksX4_feed_0 5 rfl rfl)
theorem dX4_feed_6 : DC mX4_feed 6 = .ok (.getfield 198, 3) := dk_180 0 198 (dk_at dksX4_feed_0 6 rfl rfl)
theorem dX4_feed_9 : DC mX4_feed 9 = .ok (.bipush 60, 2) := dk_16 60 (dk_at dksX4_feed_0 9 rfl rfl)
theorem dX4_feed_11 : DC mX4_feed 11 = .ok (.if_icmp .ne 9, 3) := dk_160 0 9 (dk_at dksX4_feed_0 11 rfl rfl)
theorem dX4_feed_14 : DC mX4_feed 14 = .ok (.aload_n 0, 1) := dk_42 (dk_at dksX4_feed_0 14 rfl rfl)
theorem dX4_feed_15 : DC mX4_feed 15 = .ok (.iconst 1, 1) := dk_4 (dk_at dksX4_feed_0 15 rfl rfl)
theorem dX4_feed_16 : DC mX4_feed 16 = .ok (.invokevirtual 92, 3) := dk_182 0 92 (dk_at dksX4_feed_0 16 rfl rfl)
theorem dX4_feed_19 : DC mX4_feed 19 = .ok (.ireturn, 1) := dk_172 (dk_at dksX4_feed_0 19 rfl rfl)
theorem dX4_feed_20 : DC mX4_feed 20 = .ok (.aload_n 0, 1) := dk_42 (dk_at dksX4_feed_0 20 rfl rfl)
theorem dX4_feed_21 : DC mX4_feed 21 = .ok (.getfield 29, 3) := dk_180 0 29 (dk_at dksX4_feed_0 21 rfl rfl)
theorem dX4_feed_24 : DC mX4_feed 24 = .ok (.aload_n 0, 1) := dk_42 (dk_at dksX4_feed_1 0 rfl rfl)
theorem dX4_feed_25 : DC mX4_feed 25 = .ok (.dup, 1) := dk_89 (dk_at dksX4_feed_1 1 rfl rfl)
theorem dX4_feed_26 : DC mX4_feed 26 = .ok (.getfield 198, 3) := dk_180 0 198 (dk_at dksX4_feed_1 2 rfl rfl)
theorem dX4_feed_29 : DC mX4_feed 29 = .ok (.dup_x1, 1) := dk_90 (dk_at dksX4_feed_1 5 rfl rfl)
theorem dX4_feed_30 : DC mX4_feed 30 = .ok (.iconst 1, 1) := dk_4 (dk_at dksX4_feed_1 6 rfl rfl)
theorem dX4_feed_31 : DC mX4_feed 31 = .ok (.iadd, 1) := dk_96 (dk_at dksX4_feed_1 7 rfl rfl)
theorem dX4_feed_32 : DC mX4_feed 32 = .ok (.putfield 198, 3) := dk_181 0 198 (dk_at dksX4_feed_1 8 rfl rfl)
theorem dX4_feed_35 : DC mX4_feed 35 = .ok (.iload_n 1, 1) := dk_27 (dk_at dksX4_feed_1 11 rfl rfl)
theorem dX4_feed_36 : DC mX4_feed 36 = .ok (.castore, 1) := dk_85 (dk_at dksX4_feed_1 12 rfl rfl)
theorem dX4_feed_37 : DC mX4_feed 37 = .ok (.aload_n 0, 1) := dk_42 (dk_at dksX4_feed_1 13 rfl rfl)
theorem dX4_feed_38 : DC mX4_feed 38 = .ok (.getfield 198, 3) := dk_180 0 198 (dk_at dksX4_feed_1 14 rfl rfl)
theorem dX4_feed_41 : DC mX4_feed 41 = .ok (.ireturn, 1) := dk_172 (dk_at dksX4_feed_1 17 rfl rfl)
abbrev cX4_read : ByteArray := prog_13_method_71_code
def yX4_read : MethodName := ⟨RX4, "read", "()I"⟩
def mX4_read : MI := (⟨"TheatreSagaModel", "read", "()I"⟩, prog_13_method_71_code, 5, (Option.some FieldType.int), none, 42, 15)
theorem oX4_read : mO mX4_read = 42 := rfl
theorem lX4_read : mL mX4_read = 5 := rfl
theorem rX4_read : mR mX4_read = (Option.some FieldType.int) := rfl
theorem vX4_read : mV mX4_read = 15 := rfl
theorem nX4_read : (mY mX4_read).name = "read" := rfl
theorem hX4_read : mH mX4_read = none := rfl
theorem kX4_read : MOk mX4_read := ⟨q2701, q91, by decide +kernel⟩
theorem gX4_read : plainName (mY mX4_read).cls = true ∧ (mY mX4_read).cls = "TheatreSagaModel" := ⟨by decide +kernel, rfl⟩
def dkwX4_read_7 : List UInt8 := [182, 1, 10, 42, 5, 182, 0, 92, 172]
abbrev dktX4_read_7 : List UInt8 := dkwX4_read_7 ++ []
def dkwX4_read_6 : List UInt8 := [29, 154, 0, 9, 42, 28, 182, 0, 89, 172, 29, 6, 162, 0, 11, 42, 16, 20, 28, 182, 0, 72, 62, 42]
abbrev dktX4_read_6 : List UInt8 := dkwX4_read_6 ++ dktX4_read_7
def dkwX4_read_5 : List UInt8 := [42, 16, 59, 182, 0, 221, 153, 0, 7, 4, 167, 0, 4, 3, 54, 4, 167, 255, 214, 42, 3, 181, 0, 198]
abbrev dktX4_read_5 : List UInt8 := dkwX4_read_5 ++ dktX4_read_6
def dkwX4_read_4 : List UInt8 := [153, 0, 43, 42, 182, 1, 4, 60, 42, 182, 1, 7, 62, 29, 154, 0, 6, 132, 2, 1, 29, 154, 0, 16]
abbrev dktX4_read_4 : List UInt8 := dkwX4_read_4 ++ dktX4_read_5
def dkwX4_read_3 : List UInt8 := [181, 0, 198, 42, 4, 182, 0, 92, 172, 42, 3, 181, 0, 201, 3, 61, 3, 62, 4, 54, 4, 21, 4]
abbrev dktX4_read_3 : List UInt8 := dkwX4_read_3 ++ dktX4_read_4
def dkwX4_read_2 : List UInt8 := [167, 0, 4, 3, 60, 167, 255, 219, 27, 154, 0, 22, 42, 42, 180, 0, 201, 181, 0, 41, 42, 3]
abbrev dktX4_read_2 : List UInt8 := dkwX4_read_2 ++ dktX4_read_3
def dkwX4_read_1 : List UInt8 := [180, 0, 198, 162, 0, 28, 42, 16, 59, 182, 0, 221, 153, 0, 14, 42, 182, 1, 4, 153, 0, 7, 4]
abbrev dktX4_read_1 : List UInt8 := dkwX4_read_1 ++ dktX4_read_2
def dkwX4_read_0 : List UInt8 := [42, 182, 0, 83, 42, 3, 181, 0, 201, 42, 182, 1, 4, 60, 27, 153, 0, 39, 42, 180, 0, 201, 42]
abbrev dktX4_read_0 : List UInt8 := dkwX4_read_0 ++ dktX4_read_1
theorem dksX4_read_0 : cX4_read.data.toList.drop 0 = dktX4_read_0 := by decide +kernel
theorem dksX4_read_1 : cX4_read.data.toList.drop 23 = dktX4_read_1 := dk_seg dksX4_read_0 23 rfl rfl
theorem dksX4_read_2 : cX4_read.data.toList.drop 46 = dktX4_read_2 := dk_seg dksX4_read_1 23 rfl rfl
theorem dksX4_read_3 : cX4_read.data.toList.drop 68 = dktX4_read_3 := dk_seg dksX4_read_2 22 rfl rfl
theorem dksX4_read_4 : cX4_read.data.toList.drop 91 = dktX4_read_4 := dk_seg dksX4_read_3 23 rfl rfl
theorem dksX4_read_5 : cX4_read.data.toList.drop 115 = dktX4_read_5 := dk_seg dksX4_read_4 24 rfl rfl
theorem dksX4_read_6 : cX4_read.data.toList.drop 139 = dktX4_read_6 := dk_seg dksX4_read_5 24 rfl rfl
theorem dksX4_read_7 : cX4_read.data.toList.drop 163 = dktX4_read_7 := dk_seg dksX4_read_6 24 rfl rfl
theorem dX4_read_0 : DC mX4_read 0 = .ok (.aload_n 0, 1) := dk_42 (dk_at dksX4_read_0 0 rfl rfl)
theorem dX4_read_1 : DC mX4_read 1 = .ok (.invokevirtual 83, 3) := dk_182 0 83 (dk_at dksX4_read_0 1 rfl rfl)
theorem dX4_read_4 : DC mX4_read 4 = .ok (.aload_n 0, 1) := dk_42 (dk_at dksX4_read_0 4 rfl rfl)
theorem dX4_read_5 : DC mX4_read 5 = .ok (.iconst 0, 1) := dk_3 (dk_at dksX4_read_0 5 rfl rfl)
theorem dX4_read_6 : DC mX4_read 6 = .ok (.putfield 201, 3) := dk_181 0 201 (dk_at dksX4_read_0 6 rfl rfl)
theorem dX4_read_9 : DC mX4_read 9 = .ok (.aload_n 0, 1) := dk_42 (dk_at dksX4_read_0 9 rfl rfl)
theorem dX4_read_10 : DC mX4_read 10 = .ok (.invokevirtual 260, 3) := dk_182 1 4 (dk_at dksX4_read_0 10 rfl rfl)
theorem dX4_read_13 : DC mX4_read 13 = .ok (.istore_n 1, 1) := dk_60 (dk_at dksX4_read_0 13 rfl rfl)
theorem dX4_read_14 : DC mX4_read 14 = .ok (.iload_n 1, 1) := dk_27 (dk_at dksX4_read_0 14 rfl rfl)
theorem dX4_read_15 : DC mX4_read 15 = .ok (.ifCond .eq 39, 3) := dk_153 0 39 (dk_at dksX4_read_0 15 rfl rfl)
theorem dX4_read_18 : DC mX4_read 18 = .ok (.aload_n 0, 1) := dk_42 (dk_at dksX4_read_0 18 rfl rfl)
theorem dX4_read_19 : DC mX4_read 19 = .ok (.getfield 201, 3) := dk_180 0 201 (dk_at dksX4_read_0 19 rfl rfl)
theorem dX4_read_22 : DC mX4_read 22 = .ok (.aload_n 0, 1) := dk_42 (dk_at dksX4_read_0 22 rfl rfl)
theorem dX4_read_23 : DC mX4_read 23 = .ok (.getfield 198, 3) := dk_180 0 198 (dk_at dksX4_read_1 0 rfl rfl)
theorem dX4_read_26 : DC mX4_read 26 = .ok (.if_icmp .ge 28, 3) := dk_162 0 28 (dk_at dksX4_read_1 3 rfl rfl)
theorem dX4_read_29 : DC mX4_read 29 = .ok (.aload_n 0, 1) := dk_42 (dk_at dksX4_read_1 6 rfl rfl)
theorem dX4_read_30 : DC mX4_read 30 = .ok (.bipush 59, 2) := dk_16 59 (dk_at dksX4_read_1 7 rfl rfl)
theorem dX4_read_32 : DC mX4_read 32 = .ok (.invokevirtual 221, 3) := dk_182 0 221 (dk_at dksX4_read_1 9 rfl rfl)
theorem dX4_read_35 : DC mX4_read 35 = .ok (.ifCond .eq 14, 3) := dk_153 0 14 (dk_at dksX4_read_1 12 rfl rfl)
theorem dX4_read_38 : DC mX4_read 38 = .ok (.aload_n 0, 1) := dk_42 (dk_at dksX4_read_1 15 rfl rfl)
theorem dX4_read_39 : DC mX4_read 39 = .ok (.invokevirtual 260, 3) := dk_182 1 4 (dk_at dksX4_read_1 16 rfl rfl)
theorem dX4_read_42 : DC mX4_read 42 = .ok (.ifCond .eq 7, 3) := dk_153 0 7 (dk_at dksX4_read_1 19 rfl rfl)
theorem dX4_read_45 : DC mX4_read 45 = .ok (.iconst 1, 1) := dk_4 (dk_at dksX4_read_1 22 rfl rfl)
theorem dX4_read_46 : DC mX4_read 46 = .ok (.goto 4, 3) := dk_167 0 4 (dk_at dksX4_read_2 0 rfl rfl)
theorem dX4_read_49 : DC mX4_read 49 = .ok (.iconst 0, 1) := dk_3 (dk_at dksX4_read_2 3 rfl rfl)
theorem dX4_read_50 : DC mX4_read 50 = .ok (.istore_n 1, 1) := dk_60 (dk_at dksX4_read_2 4 rfl rfl)
theorem dX4_read_51 : DC mX4_read 51 = .ok (.goto (-37), 3) := dk_167 255 219 (dk_at dksX4_read_2 5 rfl rfl)
theorem dX4_read_54 : DC mX4_read 54 = .ok (.iload_n 1, 1) := dk_27 (dk_at dksX4_read_2 8 rfl rfl)
theorem dX4_read_55 : DC mX4_read 55 = .ok (.ifCond .ne 22, 3) := dk_154 0 22 (dk_at dksX4_read_2 9 rfl rfl)
theorem dX4_read_58 : DC mX4_read 58 = .ok (.aload_n 0, 1) := dk_42 (dk_at dksX4_read_2 12 rfl rfl)
theorem dX4_read_59 : DC mX4_read 59 = .ok (.aload_n 0, 1) := dk_42 (dk_at dksX4_read_2 13 rfl rfl)
theorem dX4_read_60 : DC mX4_read 60 = .ok (.getfield 201, 3) := dk_180 0 201 (dk_at dksX4_read_2 14 rfl rfl)
theorem dX4_read_63 : DC mX4_read 63 = .ok (.putfield 41, 3) := dk_181 0 41 (dk_at dksX4_read_2 17 rfl rfl)
theorem dX4_read_66 : DC mX4_read 66 = .ok (.aload_n 0, 1) := dk_42 (dk_at dksX4_read_2 20 rfl rfl)
theorem dX4_read_67 : DC mX4_read 67 = .ok (.iconst 0, 1) := dk_3 (dk_at dksX4_read_2 21 rfl rfl)
theorem dX4_read_68 : DC mX4_read 68 = .ok (.putfield 198, 3) := dk_181 0 198 (dk_at dksX4_read_3 0 rfl rfl)
theorem dX4_read_71 : DC mX4_read 71 = .ok (.aload_n 0, 1) := dk_42 (dk_at dksX4_read_3 3 rfl rfl)
theorem dX4_read_72 : DC mX4_read 72 = .ok (.iconst 1, 1) := dk_4 (dk_at dksX4_read_3 4 rfl rfl)
theorem dX4_read_73 : DC mX4_read 73 = .ok (.invokevirtual 92, 3) := dk_182 0 92 (dk_at dksX4_read_3 5 rfl rfl)
theorem dX4_read_76 : DC mX4_read 76 = .ok (.ireturn, 1) := dk_172 (dk_at dksX4_read_3 8 rfl rfl)
theorem dX4_read_77 : DC mX4_read 77 = .ok (.aload_n 0, 1) := dk_42 (dk_at dksX4_read_3 9 rfl rfl)
theorem dX4_read_78 : DC mX4_read 78 = .ok (.iconst 0, 1) := dk_3 (dk_at dksX4_read_3 10 rfl rfl)
theorem dX4_read_79 : DC mX4_read 79 = .ok (.putfield 201, 3) := dk_181 0 201 (dk_at dksX4_read_3 11 rfl rfl)
theorem dX4_read_82 : DC mX4_read 82 = .ok (.iconst 0, 1) := dk_3 (dk_at dksX4_read_3 14 rfl rfl)
theorem dX4_read_83 : DC mX4_read 83 = .ok (.istore_n 2, 1) := dk_61 (dk_at dksX4_read_3 15 rfl rfl)
theorem dX4_read_84 : DC mX4_read 84 = .ok (.iconst 0, 1) := dk_3 (dk_at dksX4_read_3 16 rfl rfl)
theorem dX4_read_85 : DC mX4_read 85 = .ok (.istore_n 3, 1) := dk_62 (dk_at dksX4_read_3 17 rfl rfl)
theorem dX4_read_86 : DC mX4_read 86 = .ok (.iconst 1, 1) := dk_4 (dk_at dksX4_read_3 18 rfl rfl)
theorem dX4_read_87 : DC mX4_read 87 = .ok (.istore 4, 2) := dk_54 4 (dk_at dksX4_read_3 19 rfl rfl)
theorem dX4_read_89 : DC mX4_read 89 = .ok (.iload 4, 2) := dk_21 4 (dk_at dksX4_read_3 21 rfl rfl)
theorem dX4_read_91 : DC mX4_read 91 = .ok (.ifCond .eq 43, 3) := dk_153 0 43 (dk_at dksX4_read_4 0 rfl rfl)
theorem dX4_read_94 : DC mX4_read 94 = .ok (.aload_n 0, 1) := dk_42 (dk_at dksX4_read_4 3 rfl rfl)
theorem dX4_read_95 : DC mX4_read 95 = .ok (.invokevirtual 260, 3) := dk_182 1 4 (dk_at dksX4_read_4 4 rfl rfl)
theorem dX4_read_98 : DC mX4_read 98 = .ok (.istore_n 1, 1) := dk_60 (dk_at dksX4_read_4 7 rfl rfl)
theorem dX4_read_99 : DC mX4_read 99 = .ok (.aload_n 0, 1) := dk_42 (dk_at dksX4_read_4 8 rfl rfl)
theorem dX4_read_100 : DC mX4_read 100 = .ok (.invokevirtual 263, 3) := dk_182 1 7 (dk_at dksX4_read_4 9 rfl rfl)
theorem dX4_read_103 : DC mX4_read 103 = .ok (.istore_n 3, 1) := dk_62 (dk_at dksX4_read_4 12 rfl rfl)
theorem dX4_read_104 : DC mX4_read 104 = .ok (.iload_n 3, 1) := dk_29 (dk_at dksX4_read_4 13 rfl rfl)
theorem dX4_read_105 : DC mX4_read 105 = .ok (.ifCond .ne 6, 3) := dk_154 0 6 (dk_at dksX4_read_4 14 rfl rfl)
theorem dX4_read_108 : DC mX4_read 108 = .ok (.iinc 2 1, 3) := dk_132 2 1 (dk_at dksX4_read_4 17 rfl rfl)
theorem dX4_read_111 : DC mX4_read 111 = .ok (.iload_n 3, 1) := dk_29 (dk_at dksX4_read_4 20 rfl rfl)
theorem dX4_read_112 : DC mX4_read 112 = .ok (.ifCond .ne 16, 3) := dk_154 0 16 (dk_at dksX4_read_4 21 rfl rfl)
theorem dX4_read_115 : DC mX4_read 115 = .ok (.aload_n 0, 1) := dk_42 (dk_at dksX4_read_5 0 rfl rfl)
theorem dX4_read_116 : DC mX4_read 116 = .ok (.bipush 59, 2) := dk_16 59 (dk_at dksX4_read_5 1 rfl rfl)
theorem dX4_read_118 : DC mX4_read 118 = .ok (.invokevirtual 221, 3) := dk_182 0 221 (dk_at dksX4_read_5 3 rfl rfl)
theorem dX4_read_121 : DC mX4_read 121 = .ok (.ifCond .eq 7, 3) := dk_153 0 7 (dk_at dksX4_read_5 6 rfl rfl)
theorem dX4_read_124 : DC mX4_read 124 = .ok (.iconst 1, 1) := dk_4 (dk_at dksX4_read_5 9 rfl rfl)
theorem dX4_read_125 : DC mX4_read 125 = .ok (.goto 4, 3) := dk_167 0 4 (dk_at dksX4_read_5 10 rfl rfl)
theorem dX4_read_128 : DC mX4_read 128 = .ok (.iconst 0, 1) := dk_3 (dk_at dksX4_read_5 13 rfl rfl)
theorem dX4_read_129 : DC mX4_read 129 = .ok (.istore 4, 2) := dk_54 4 (dk_at dksX4_read_5 14 rfl rfl)
theorem dX4_read_131 : DC mX4_read 131 = .ok (.goto (-42), 3) := dk_167 255 214 (dk_at dksX4_read_5 16 rfl rfl)
theorem dX4_read_134 : DC mX4_read 134 = .ok (.aload_n 0, 1) := dk_42 (dk_at dksX4_read_5 19 rfl rfl)
theorem dX4_read_135 : DC mX4_read 135 = .ok (.iconst 0, 1) := dk_3 (dk_at dksX4_read_5 20 rfl rfl)
theorem dX4_read_136 : DC mX4_read 136 = .ok (.putfield 198, 3) := dk_181 0 198 (dk_at dksX4_read_5 21 rfl rfl)
theorem dX4_read_139 : DC mX4_read 139 = .ok (.iload_n 3, 1) := dk_29 (dk_at dksX4_read_6 0 rfl rfl)
theorem dX4_read_140 : DC mX4_read 140 = .ok (.ifCond .ne 9, 3) := dk_154 0 9 (dk_at dksX4_read_6 1 rfl rfl)
theorem dX4_read_143 : DC mX4_read 143 = .ok (.aload_n 0, 1) := dk_42 (dk_at dksX4_read_6 4 rfl rfl)
theorem dX4_read_144 : DC mX4_read 144 = .ok (.iload_n 2, 1) := dk_28 (dk_at dksX4_read_6 5 rfl rfl)
theorem dX4_read_145 : DC mX4_read 145 = .ok (.invokevirtual 89, 3) := dk_182 0 89 (dk_at dksX4_read_6 6 rfl rfl)
theorem dX4_read_148 : DC mX4_read 148 = .ok (.ireturn, 1) := dk_172 (dk_at dksX4_read_6 9 rfl rfl)
theorem dX4_read_149 : DC mX4_read 149 = .ok (.iload_n 3, 1) := dk_29 (dk_at dksX4_read_6 10 rfl rfl)
theorem dX4_read_150 : DC mX4_read 150 = .ok (.iconst 3, 1) := dk_6 (dk_at dksX4_read_6 11 rfl rfl)
theorem dX4_read_151 : DC mX4_read 151 = .ok (.if_icmp .ge 11, 3) := dk_162 0 11 (dk_at dksX4_read_6 12 rfl rfl)
theorem dX4_read_154 : DC mX4_read 154 = .ok (.aload_n 0, 1) := dk_42 (dk_at dksX4_read_6 15 rfl rfl)
theorem dX4_read_155 : DC mX4_read 155 = .ok (.bipush 20, 2) := dk_16 20 (dk_at dksX4_read_6 16 rfl rfl)
theorem dX4_read_157 : DC mX4_read 157 = .ok (.iload_n 2, 1) := dk_28 (dk_at dksX4_read_6 18 rfl rfl)
theorem dX4_read_158 : DC mX4_read 158 = .ok (.invokevirtual 72, 3) := dk_182 0 72 (dk_at dksX4_read_6 19 rfl rfl)
theorem dX4_read_161 : DC mX4_read 161 = .ok (.istore_n 3, 1) := dk_62 (dk_at dksX4_read_6 22 rfl rfl)
theorem dX4_read_162 : DC mX4_read 162 = .ok (.aload_n 0, 1) := dk_42 (dk_at dksX4_read_6 23 rfl rfl)
theorem dX4_read_163 : DC mX4_read 163 = .ok (.invokevirtual 266, 3) := dk_182 1 10 (dk_at dksX4_read_7 0 rfl rfl)
theorem dX4_read_166 : DC mX4_read 166 = .ok (.aload_n 0, 1) := dk_42 (dk_at dksX4_read_7 3 rfl rfl)
theorem dX4_read_167 : DC mX4_read 167 = .ok (.iconst 2, 1) := dk_5 (dk_at dksX4_read_7 4 rfl rfl)
theorem dX4_read_168 : DC mX4_read 168 = .ok (.invokevirtual 92, 3) := dk_182 0 92 (dk_at dksX4_read_7 5 rfl rfl)
theorem dX4_read_171 : DC mX4_read 171 = .ok (.ireturn, 1) := dk_172 (dk_at dksX4_read_7 8 rfl rfl)
abbrev cX4_isCommand : ByteArray := prog_13_method_69_code
def yX4_isCommand : MethodName := ⟨RX4, "isCommand", "()Z"⟩
def mX4_isCommand : MI := (⟨"TheatreSagaModel", "isCommand", "()Z"⟩, prog_13_method_69_code, 3, (Option.some FieldType.boolean), none, 42, 14)
theorem oX4_isCommand : mO mX4_isCommand = 42 := rfl
theorem lX4_isCommand : mL mX4_isCommand = 3 := rfl
theorem rX4_isCommand : mR mX4_isCommand = (Option.some FieldType.boolean) := rfl
theorem vX4_isCommand : mV mX4_isCommand = 14 := rfl
theorem nX4_isCommand : (mY mX4_isCommand).name = "isCommand" := rfl
theorem hX4_isCommand : mH mX4_isCommand = none := rfl
theorem kX4_isCommand : MOk mX4_isCommand := ⟨q2705, q91, by decide +kernel⟩
theorem gX4_isCommand : plainName (mY mX4_isCommand).cls = true ∧ (mY mX4_isCommand).cls = "TheatreSagaModel" := ⟨by decide +kernel, rfl⟩
def dkwX4_isCommand_9 : List UInt8 := [182, 0, 218, 172, 42, 3, 4, 182, 0, 218, 172]
abbrev dktX4_isCommand_9 : List UInt8 := dkwX4_isCommand_9 ++ []
def dkwX4_isCommand_8 : List UInt8 := [182, 0, 221, 153, 0, 16, 42, 6, 5, 182, 0, 218, 153, 0, 7, 4, 167, 0, 4, 3, 172, 42, 3, 5]
abbrev dktX4_isCommand_8 : List UInt8 := dkwX4_isCommand_8 ++ dktX4_isCommand_9
def dkwX4_isCommand_7 : List UInt8 := [182, 0, 218, 153, 0, 7, 4, 167, 0, 4, 3, 172, 42, 182, 0, 246, 153, 0, 25, 42, 16, 120]
abbrev dktX4_isCommand_7 : List UInt8 := dkwX4_isCommand_7 ++ dktX4_isCommand_8
def dkwX4_isCommand_6 : List UInt8 := [42, 182, 0, 246, 172, 42, 182, 0, 246, 153, 0, 25, 42, 16, 120, 182, 0, 221, 153, 0, 16, 42, 6, 4]
abbrev dktX4_isCommand_6 : List UInt8 := dkwX4_isCommand_6 ++ dktX4_isCommand_7
def dkwX4_isCommand_5 : List UInt8 := [170, 0, 0, 0, 0, 104, 0, 0, 0, 0, 0, 0, 0, 3, 0, 0, 0, 30, 0, 0, 0, 35, 0, 0, 0, 66, 0, 0, 0, 97]
abbrev dktX4_isCommand_5 : List UInt8 := dkwX4_isCommand_5 ++ dktX4_isCommand_6
def dkwX4_isCommand_4 : List UInt8 := [153, 0, 5, 6, 61, 28]
abbrev dktX4_isCommand_4 : List UInt8 := dkwX4_isCommand_4 ++ dktX4_isCommand_5
def dkwX4_isCommand_3 : List UInt8 := [61, 167, 0, 28, 43, 18, 242, 182, 0, 236, 153, 0, 19, 5, 61, 167, 0, 14, 43, 18, 244, 182, 0, 236]
abbrev dktX4_isCommand_3 : List UInt8 := dkwX4_isCommand_3 ++ dktX4_isCommand_4
def dkwX4_isCommand_2 : List UInt8 := [43, 18, 234, 182, 0, 236, 153, 0, 47, 3, 61, 167, 0, 42, 43, 18, 240, 182, 0, 236, 153, 0, 33, 4]
abbrev dktX4_isCommand_2 : List UInt8 := dkwX4_isCommand_2 ++ dktX4_isCommand_3
def dkwX4_isCommand_1 : List UInt8 := [171, 0, 0, 0, 0, 95, 0, 0, 0, 4, 208, 152, 26, 119, 0, 0, 0, 56, 0, 46, 20, 18, 0, 0, 0, 70, 0, 48, 192, 57, 0, 0, 0, 42, 5, 237, 199, 15, 0, 0, 0, 84]
abbrev dktX4_isCommand_1 : List UInt8 := dkwX4_isCommand_1 ++ dktX4_isCommand_2
def dkwX4_isCommand_0 : List UInt8 := [42, 18, 225, 182, 0, 227, 154, 0, 5, 3, 172, 42, 180, 0, 34, 76, 2, 61, 43, 182, 0, 231]
abbrev dktX4_isCommand_0 : List UInt8 := dkwX4_isCommand_0 ++ dktX4_isCommand_1
theorem dksX4_isCommand_0 : cX4_isCommand.data.toList.drop 0 = dktX4_isCommand_0 := by decide +kernel
theorem dksX4_isCommand_1 : cX4_isCommand.data.toList.drop 22 = dktX4_isCommand_1 := dk_seg dksX4_isCommand_0 22 rfl rfl
theorem dksX4_isCommand_2 : cX4_isCommand.data.toList.drop 64 = dktX4_isCommand_2 := dk_seg dksX4_isCommand_1 42 rfl rfl
theorem dksX4_isCommand_3 : cX4_isCommand.data.toList.drop 88 = dktX4_isCommand_3 := dk_seg dksX4_isCommand_2 24 rfl rfl
theorem dksX4_isCommand_4 : cX4_isCommand.data.toList.drop 112 = dktX4_isCommand_4 := dk_seg dksX4_isCommand_3 24 rfl rfl
theorem dksX4_isCommand_5 : cX4_isCommand.data.toList.drop 118 = dktX4_isCommand_5 := dk_seg dksX4_isCommand_4 6 rfl rfl
theorem dksX4_isCommand_6 : cX4_isCommand.data.toList.drop 148 = dktX4_isCommand_6 := dk_seg dksX4_isCommand_5 30 rfl rfl
theorem dksX4_isCommand_7 : cX4_isCommand.data.toList.drop 172 = dktX4_isCommand_7 := dk_seg dksX4_isCommand_6 24 rfl rfl
theorem dksX4_isCommand_8 : cX4_isCommand.data.toList.drop 194 = dktX4_isCommand_8 := dk_seg dksX4_isCommand_7 22 rfl rfl
theorem dksX4_isCommand_9 : cX4_isCommand.data.toList.drop 218 = dktX4_isCommand_9 := dk_seg dksX4_isCommand_8 24 rfl rfl
theorem dX4_isCommand_0 : DC mX4_isCommand 0 = .ok (.aload_n 0, 1) := dk_42 (dk_at dksX4_isCommand_0 0 rfl rfl)
theorem dX4_isCommand_1 : DC mX4_isCommand 1 = .ok (.ldc 225, 2) := dk_18 225 (dk_at dksX4_isCommand_0 1 rfl rfl)
theorem dX4_isCommand_3 : DC mX4_isCommand 3 = .ok (.invokevirtual 227, 3) := dk_182 0 227 (dk_at dksX4_isCommand_0 3 rfl rfl)
theorem dX4_isCommand_6 : DC mX4_isCommand 6 = .ok (.ifCond .ne 5, 3) := dk_154 0 5 (dk_at dksX4_isCommand_0 6 rfl rfl)
theorem dX4_isCommand_9 : DC mX4_isCommand 9 = .ok (.iconst 0, 1) := dk_3 (dk_at dksX4_isCommand_0 9 rfl rfl)
theorem dX4_isCommand_10 : DC mX4_isCommand 10 = .ok (.ireturn, 1) := dk_172 (dk_at dksX4_isCommand_0 10 rfl rfl)
theorem dX4_isCommand_11 : DC mX4_isCommand 11 = .ok (.aload_n 0, 1) := dk_42 (dk_at dksX4_isCommand_0 11 rfl rfl)
theorem dX4_isCommand_12 : DC mX4_isCommand 12 = .ok (.getfield 34, 3) := dk_180 0 34 (dk_at dksX4_isCommand_0 12 rfl rfl)
theorem dX4_isCommand_15 : DC mX4_isCommand 15 = .ok (.astore_n 1, 1) := dk_76 (dk_at dksX4_isCommand_0 15 rfl rfl)
theorem dX4_isCommand_16 : DC mX4_isCommand 16 = .ok (.iconst (-1), 1) := dk_2 (dk_at dksX4_isCommand_0 16 rfl rfl)
theorem dX4_isCommand_17 : DC mX4_isCommand 17 = .ok (.istore_n 2, 1) := dk_61 (dk_at dksX4_isCommand_0 17 rfl rfl)
theorem dX4_isCommand_18 : DC mX4_isCommand 18 = .ok (.aload_n 1, 1) := dk_43 (dk_at dksX4_isCommand_0 18 rfl rfl)
theorem dX4_isCommand_19 : DC mX4_isCommand 19 = .ok (.invokevirtual 231, 3) := dk_182 0 231 (dk_at dksX4_isCommand_0 19 rfl rfl)
theorem dX4_isCommand_22 : DC mX4_isCommand 22 = .ok (.lookupswitch 95 #[(-795338121, 56), (3019794, 70), (3194937, 42), (99469071, 84)], 42) := by decide +kernel
theorem dX4_isCommand_64 : DC mX4_isCommand 64 = .ok (.aload_n 1, 1) := dk_43 (dk_at dksX4_isCommand_2 0 rfl rfl)
theorem dX4_isCommand_65 : DC mX4_isCommand 65 = .ok (.ldc 234, 2) := dk_18 234 (dk_at dksX4_isCommand_2 1 rfl rfl)
theorem dX4_isCommand_67 : DC mX4_isCommand 67 = .ok (.invokevirtual 236, 3) := dk_182 0 236 (dk_at dksX4_isCommand_2 3 rfl rfl)
theorem dX4_isCommand_70 : DC mX4_isCommand 70 = .ok (.ifCond .eq 47, 3) := dk_153 0 47 (dk_at dksX4_isCommand_2 6 rfl rfl)
theorem dX4_isCommand_73 : DC mX4_isCommand 73 = .ok (.iconst 0, 1) := dk_3 (dk_at dksX4_isCommand_2 9 rfl rfl)
theorem dX4_isCommand_74 : DC mX4_isCommand 74 = .ok (.istore_n 2, 1) := dk_61 (dk_at dksX4_isCommand_2 10 rfl rfl)
theorem dX4_isCommand_75 : DC mX4_isCommand 75 = .ok (.goto 42, 3) := dk_167 0 42 (dk_at dksX4_isCommand_2 11 rfl rfl)
theorem dX4_isCommand_78 : DC mX4_isCommand 78 = .ok (.aload_n 1, 1) := dk_43 (dk_at dksX4_isCommand_2 14 rfl rfl)
theorem dX4_isCommand_79 : DC mX4_isCommand 79 = .ok (.ldc 240, 2) := dk_18 240 (dk_at dksX4_isCommand_2 15 rfl rfl)
theorem dX4_isCommand_81 : DC mX4_isCommand 81 = .ok (.invokevirtual 236, 3) := dk_182 0 236 (dk_at dksX4_isCommand_2 17 rfl rfl)
theorem dX4_isCommand_84 : DC mX4_isCommand 84 = .ok (.ifCond .eq 33, 3) := dk_153 0 33 (dk_at dksX4_isCommand_2 20 rfl rfl)
theorem dX4_isCommand_87 : DC mX4_isCommand 87 = .ok (.iconst 1, 1) := dk_4 (dk_at dksX4_isCommand_2 23 rfl rfl)
theorem dX4_isCommand_88 : DC mX4_isCommand 88 = .ok (.istore_n 2, 1) := dk_61 (dk_at dksX4_isCommand_3 0 rfl rfl)
theorem dX4_isCommand_89 : DC mX4_isCommand 89 = .ok (.goto 28, 3) := dk_167 0 28 (dk_at dksX4_isCommand_3 1 rfl rfl)
theorem dX4_isCommand_92 : DC mX4_isCommand 92 = .ok (.aload_n 1, 1) := dk_43 (dk_at dksX4_isCommand_3 4 rfl rfl)
theorem dX4_isCommand_93 : DC mX4_isCommand 93 = .ok (.ldc 242, 2) := dk_18 242 (dk_at dksX4_isCommand_3 5 rfl rfl)
theorem dX4_isCommand_95 : DC mX4_isCommand 95 = .ok (.invokevirtual 236, 3) := dk_182 0 236 (dk_at dksX4_isCommand_3 7 rfl rfl)
theorem dX4_isCommand_98 : DC mX4_isCommand 98 = .ok (.ifCond .eq 19, 3) := dk_153 0 19 (dk_at dksX4_isCommand_3 10 rfl rfl)
theorem dX4_isCommand_101 : DC mX4_isCommand 101 = .ok (.iconst 2, 1) := dk_5 (dk_at dksX4_isCommand_3 13 rfl rfl)
theorem dX4_isCommand_102 : DC mX4_isCommand 102 = .ok (.istore_n 2, 1) := dk_61 (dk_at dksX4_isCommand_3 14 rfl rfl)
theorem dX4_isCommand_103 : DC mX4_isCommand 103 = .ok (.goto 14, 3) := dk_167 0 14 (dk_at dksX4_isCommand_3 15 rfl rfl)
theorem dX4_isCommand_106 : DC mX4_isCommand 106 = .ok (.aload_n 1, 1) := dk_43 (dk_at dksX4_isCommand_3 18 rfl rfl)
theorem dX4_isCommand_107 : DC mX4_isCommand 107 = .ok (.ldc 244, 2) := dk_18 244 (dk_at dksX4_isCommand_3 19 rfl rfl)
theorem dX4_isCommand_109 : DC mX4_isCommand 109 = .ok (.invokevirtual 236, 3) := dk_182 0 236 (dk_at dksX4_isCommand_3 21 rfl rfl)
theorem dX4_isCommand_112 : DC mX4_isCommand 112 = .ok (.ifCond .eq 5, 3) := dk_153 0 5 (dk_at dksX4_isCommand_4 0 rfl rfl)
theorem dX4_isCommand_115 : DC mX4_isCommand 115 = .ok (.iconst 3, 1) := dk_6 (dk_at dksX4_isCommand_4 3 rfl rfl)
theorem dX4_isCommand_116 : DC mX4_isCommand 116 = .ok (.istore_n 2, 1) := dk_61 (dk_at dksX4_isCommand_4 4 rfl rfl)
theorem dX4_isCommand_117 : DC mX4_isCommand 117 = .ok (.iload_n 2, 1) := dk_28 (dk_at dksX4_isCommand_4 5 rfl rfl)
theorem dX4_isCommand_118 : DC mX4_isCommand 118 = .ok (.tableswitch 104 0 3 #[30, 35, 66, 97], 30) := by decide +kernel
theorem dX4_isCommand_148 : DC mX4_isCommand 148 = .ok (.aload_n 0, 1) := dk_42 (dk_at dksX4_isCommand_6 0 rfl rfl)
theorem dX4_isCommand_149 : DC mX4_isCommand 149 = .ok (.invokevirtual 246, 3) := dk_182 0 246 (dk_at dksX4_isCommand_6 1 rfl rfl)
theorem dX4_isCommand_152 : DC mX4_isCommand 152 = .ok (.ireturn, 1) := dk_172 (dk_at dksX4_isCommand_6 4 rfl rfl)
theorem dX4_isCommand_153 : DC mX4_isCommand 153 = .ok (.aload_n 0, 1) := dk_42 (dk_at dksX4_isCommand_6 5 rfl rfl)
theorem dX4_isCommand_154 : DC mX4_isCommand 154 = .ok (.invokevirtual 246, 3) := dk_182 0 246 (dk_at dksX4_isCommand_6 6 rfl rfl)
theorem dX4_isCommand_157 : DC mX4_isCommand 157 = .ok (.ifCond .eq 25, 3) := dk_153 0 25 (dk_at dksX4_isCommand_6 9 rfl rfl)
theorem dX4_isCommand_160 : DC mX4_isCommand 160 = .ok (.aload_n 0, 1) := dk_42 (dk_at dksX4_isCommand_6 12 rfl rfl)
theorem dX4_isCommand_161 : DC mX4_isCommand 161 = .ok (.bipush 120, 2) := dk_16 120 (dk_at dksX4_isCommand_6 13 rfl rfl)
theorem dX4_isCommand_163 : DC mX4_isCommand 163 = .ok (.invokevirtual 221, 3) := dk_182 0 221 (dk_at dksX4_isCommand_6 15 rfl rfl)
theorem dX4_isCommand_166 : DC mX4_isCommand 166 = .ok (.ifCond .eq 16, 3) := dk_153 0 16 (dk_at dksX4_isCommand_6 18 rfl rfl)
theorem dX4_isCommand_169 : DC mX4_isCommand 169 = .ok (.aload_n 0, 1) := dk_42 (dk_at dksX4_isCommand_6 21 rfl rfl)
theorem dX4_isCommand_170 : DC mX4_isCommand 170 = .ok (.iconst 3, 1) := dk_6 (dk_at dksX4_isCommand_6 22 rfl rfl)
theorem dX4_isCommand_171 : DC mX4_isCommand 171 = .ok (.iconst 1, 1) := dk_4 (dk_at dksX4_isCommand_6 23 rfl rfl)
theorem dX4_isCommand_172 : DC mX4_isCommand 172 = .ok (.invokevirtual 218, 3) := dk_182 0 218 (dk_at dksX4_isCommand_7 0 rfl rfl)
theorem dX4_isCommand_175 : DC mX4_isCommand 175 = .ok (.ifCond .eq 7, 3) := dk_153 0 7 (dk_at dksX4_isCommand_7 3 rfl rfl)
theorem dX4_isCommand_178 : DC mX4_isCommand 178 = .ok (.iconst 1, 1) := dk_4 (dk_at dksX4_isCommand_7 6 rfl rfl)
theorem dX4_isCommand_179 : DC mX4_isCommand 179 = .ok (.goto 4, 3) := dk_167 0 4 (dk_at dksX4_isCommand_7 7 rfl rfl)
theorem dX4_isCommand_182 : DC mX4_isCommand 182 = .ok (.iconst 0, 1) := dk_3 (dk_at dksX4_isCommand_7 10 rfl rfl)
theorem dX4_isCommand_183 : DC mX4_isCommand 183 = .ok (.ireturn, 1) := dk_172 (dk_at dksX4_isCommand_7 11 rfl rfl)
theorem dX4_isCommand_184 : DC mX4_isCommand 184 = .ok (.aload_n 0, 1) := dk_42 (dk_at dksX4_isCommand_7 12 rfl rfl)
theorem dX4_isCommand_185 : DC mX4_isCommand 185 = .ok (.invokevirtual 246, 3) := dk_182 0 246 (dk_at dksX4_isCommand_7 13 rfl rfl)
theorem dX4_isCommand_188 : DC mX4_isCommand 188 = .ok (.ifCond .eq 25, 3) := dk_153 0 25 (dk_at dksX4_isCommand_7 16 rfl rfl)
theorem dX4_isCommand_191 : DC mX4_isCommand 191 = .ok (.aload_n 0, 1) := dk_42 (dk_at dksX4_isCommand_7 19 rfl rfl)
theorem dX4_isCommand_192 : DC mX4_isCommand 192 = .ok (.bipush 120, 2) := dk_16 120 (dk_at dksX4_isCommand_7 20 rfl rfl)
theorem dX4_isCommand_194 : DC mX4_isCommand 194 = .ok (.invokevirtual 221, 3) := dk_182 0 221 (dk_at dksX4_isCommand_8 0 rfl rfl)
theorem dX4_isCommand_197 : DC mX4_isCommand 197 = .ok (.ifCond .eq 16, 3) := dk_153 0 16 (dk_at dksX4_isCommand_8 3 rfl rfl)
theorem dX4_isCommand_200 : DC mX4_isCommand 200 = .ok (.aload_n 0, 1) := dk_42 (dk_at dksX4_isCommand_8 6 rfl rfl)
theorem dX4_isCommand_201 : DC mX4_isCommand 201 = .ok (.iconst 3, 1) := dk_6 (dk_at dksX4_isCommand_8 7 rfl rfl)
theorem dX4_isCommand_202 : DC mX4_isCommand 202 = .ok (.iconst 2, 1) := dk_5 (dk_at dksX4_isCommand_8 8 rfl rfl)
theorem dX4_isCommand_203 : DC mX4_isCommand 203 = .ok (.invokevirtual 218, 3) := dk_182 0 218 (dk_at dksX4_isCommand_8 9 rfl rfl)
theorem dX4_isCommand_206 : DC mX4_isCommand 206 = .ok (.ifCond .eq 7, 3) := dk_153 0 7 (dk_at dksX4_isCommand_8 12 rfl rfl)
theorem dX4_isCommand_209 : DC mX4_isCommand 209 = .ok (.iconst 1, 1) := dk_4 (dk_at dksX4_isCommand_8 15 rfl rfl)
theorem dX4_isCommand_210 : DC mX4_isCommand 210 = .ok (.goto 4, 3) := dk_167 0 4 (dk_at dksX4_isCommand_8 16 rfl rfl)
theorem dX4_isCommand_213 : DC mX4_isCommand 213 = .ok (.iconst 0, 1) := dk_3 (dk_at dksX4_isCommand_8 19 rfl rfl)
theorem dX4_isCommand_214 : DC mX4_isCommand 214 = .ok (.ireturn, 1) := dk_172 (dk_at dksX4_isCommand_8 20 rfl rfl)
theorem dX4_isCommand_215 : DC mX4_isCommand 215 = .ok (.aload_n 0, 1) := dk_42 (dk_at dksX4_isCommand_8 21 rfl rfl)
theorem dX4_isCommand_216 : DC mX4_isCommand 216 = .ok (.iconst 0, 1) := dk_3 (dk_at dksX4_isCommand_8 22 rfl rfl)
theorem dX4_isCommand_217 : DC mX4_isCommand 217 = .ok (.iconst 2, 1) := dk_5 (dk_at dksX4_isCommand_8 23 rfl rfl)
theorem dX4_isCommand_218 : DC mX4_isCommand 218 = .ok (.invokevirtual 218, 3) := dk_182 0 218 (dk_at dksX4_isCommand_9 0 rfl rfl)
theorem dX4_isCommand_221 : DC mX4_isCommand 221 = .ok (.ireturn, 1) := dk_172 (dk_at dksX4_isCommand_9 3 rfl rfl)
theorem dX4_isCommand_222 : DC mX4_isCommand 222 = .ok (.aload_n 0, 1) := dk_42 (dk_at dksX4_isCommand_9 4 rfl rfl)
theorem dX4_isCommand_223 : DC mX4_isCommand 223 = .ok (.iconst 0, 1) := dk_3 (dk_at dksX4_isCommand_9 5 rfl rfl)
theorem dX4_isCommand_224 : DC mX4_isCommand 224 = .ok (.iconst 1, 1) := dk_4 (dk_at dksX4_isCommand_9 6 rfl rfl)
theorem dX4_isCommand_225 : DC mX4_isCommand 225 = .ok (.invokevirtual 218, 3) := dk_182 0 218 (dk_at dksX4_isCommand_9 7 rfl rfl)
theorem dX4_isCommand_228 : DC mX4_isCommand 228 = .ok (.ireturn, 1) := dk_172 (dk_at dksX4_isCommand_9 10 rfl rfl)
abbrev cX4_isOneOf : ByteArray := prog_13_method_66_code
def yX4_isOneOf : MethodName := ⟨RX4, "isOneOf", "(Ljava/lang/String;)Z"⟩
def mX4_isOneOf : MI := (⟨"TheatreSagaModel", "isOneOf", "(Ljava/lang/String;)Z"⟩, prog_13_method_66_code, 6, (Option.some FieldType.boolean), none, 42, 8)
theorem oX4_isOneOf : mO mX4_isOneOf = 42 := rfl
theorem lX4_isOneOf : mL mX4_isOneOf = 6 := rfl
theorem rX4_isOneOf : mR mX4_isOneOf = (Option.some FieldType.boolean) := rfl
theorem vX4_isOneOf : mV mX4_isOneOf = 8 := rfl
theorem nX4_isOneOf : (mY mX4_isOneOf).name = "isOneOf" := rfl
theorem hX4_isOneOf : mH mX4_isOneOf = none := rfl
theorem kX4_isOneOf : MOk mX4_isOneOf := ⟨q2710, q91, by decide +kernel⟩
theorem gX4_isOneOf : plainName (mY mX4_isOneOf).cls = true ∧ (mY mX4_isOneOf).cls = "TheatreSagaModel" := ⟨by decide +kernel, rfl⟩
def dkwX4_isOneOf_5 : List UInt8 := [184, 0, 213, 61, 21, 4, 62, 167, 255, 137, 42, 89, 180, 0, 201, 28, 96, 181, 0, 201, 3, 172]
abbrev dktX4_isOneOf_5 : List UInt8 := dkwX4_isOneOf_5 ++ []
def dkwX4_isOneOf_4 : List UInt8 := [100, 182, 0, 209, 181, 0, 34, 42, 89, 180, 0, 201, 21, 5, 96, 181, 0, 201, 4, 172, 28, 21, 5]
abbrev dktX4_isOneOf_4 : List UInt8 := dkwX4_isOneOf_4 ++ dktX4_isOneOf_5
def dkwX4_isOneOf_3 : List UInt8 := [160, 0, 9, 132, 5, 1, 167, 255, 207, 21, 5, 21, 4, 29, 100, 160, 0, 29, 42, 43, 29, 21, 4, 4]
abbrev dktX4_isOneOf_3 : List UInt8 := dkwX4_isOneOf_3 ++ dktX4_isOneOf_4
def dkwX4_isOneOf_2 : List UInt8 := [162, 0, 32, 42, 180, 0, 29, 42, 180, 0, 201, 21, 5, 96, 52, 43, 29, 21, 5, 96, 182, 0, 190]
abbrev dktX4_isOneOf_2 : List UInt8 := dkwX4_isOneOf_2 ++ dktX4_isOneOf_3
def dkwX4_isOneOf_1 : List UInt8 := [54, 5, 21, 5, 21, 4, 29, 100, 162, 0, 46, 42, 180, 0, 201, 21, 5, 96, 42, 180, 0, 198]
abbrev dktX4_isOneOf_1 : List UInt8 := dkwX4_isOneOf_1 ++ dktX4_isOneOf_2
def dkwX4_isOneOf_0 : List UInt8 := [3, 61, 3, 62, 29, 43, 182, 0, 204, 162, 0, 117, 43, 16, 32, 29, 182, 0, 206, 4, 96, 54, 4, 3]
abbrev dktX4_isOneOf_0 : List UInt8 := dkwX4_isOneOf_0 ++ dktX4_isOneOf_1
theorem dksX4_isOneOf_0 : cX4_isOneOf.data.toList.drop 0 = dktX4_isOneOf_0 := by decide +kernel
theorem dksX4_isOneOf_1 : cX4_isOneOf.data.toList.drop 24 = dktX4_isOneOf_1 := dk_seg dksX4_isOneOf_0 24 rfl rfl
theorem dksX4_isOneOf_2 : cX4_isOneOf.data.toList.drop 46 = dktX4_isOneOf_2 := dk_seg dksX4_isOneOf_1 22 rfl rfl
theorem dksX4_isOneOf_3 : cX4_isOneOf.data.toList.drop 69 = dktX4_isOneOf_3 := dk_seg dksX4_isOneOf_2 23 rfl rfl
theorem dksX4_isOneOf_4 : cX4_isOneOf.data.toList.drop 93 = dktX4_isOneOf_4 := dk_seg dksX4_isOneOf_3 24 rfl rfl
theorem dksX4_isOneOf_5 : cX4_isOneOf.data.toList.drop 116 = dktX4_isOneOf_5 := dk_seg dksX4_isOneOf_4 23 rfl rfl
theorem dX4_isOneOf_0 : DC mX4_isOneOf 0 = .ok (.iconst 0, 1) := dk_3 (dk_at dksX4_isOneOf_0 0 rfl rfl)
theorem dX4_isOneOf_1 : DC mX4_isOneOf 1 = .ok (.istore_n 2, 1) := dk_61 (dk_at dksX4_isOneOf_0 1 rfl rfl)
theorem dX4_isOneOf_2 : DC mX4_isOneOf 2 = .ok (.iconst 0, 1) := dk_3 (dk_at dksX4_isOneOf_0 2 rfl rfl)
theorem dX4_isOneOf_3 : DC mX4_isOneOf 3 = .ok (.istore_n 3, 1) := dk_62 (dk_at dksX4_isOneOf_0 3 rfl rfl)
theorem dX4_isOneOf_4 : DC mX4_isOneOf 4 = .ok (.iload_n 3, 1) := dk_29 (dk_at dksX4_isOneOf_0 4 rfl rfl)
theorem dX4_isOneOf_5 : DC mX4_isOneOf 5 = .ok (.aload_n 1, 1) := dk_43 (dk_at dksX4_isOneOf_0 5 rfl rfl)
theorem dX4_isOneOf_6 : DC mX4_isOneOf 6 = .ok (.invokevirtual 204, 3) := dk_182 0 204 (dk_at dksX4_isOneOf_0 6 rfl rfl)
theorem dX4_isOneOf_9 : DC mX4_isOneOf 9 = .ok (.if_icmp .ge 117, 3) := dk_162 0 117 (dk_at dksX4_isOneOf_0 9 rfl rfl)
theorem dX4_isOneOf_12 : DC mX4_isOneOf 12 = .ok (.aload_n 1, 1) := dk_43 (dk_at dksX4_isOneOf_0 12 rfl rfl)
theorem dX4_isOneOf_13 : DC mX4_isOneOf 13 = .ok (.bipush 32, 2) := dk_16 32 (dk_at dksX4_isOneOf_0 13 rfl rfl)
theorem dX4_isOneOf_15 : DC mX4_isOneOf 15 = .ok (.iload_n 3, 1) := dk_29 (dk_at dksX4_isOneOf_0 15 rfl rfl)
theorem dX4_isOneOf_16 : DC mX4_isOneOf 16 = .ok (.invokevirtual 206, 3) := dk_182 0 206 (dk_at dksX4_isOneOf_0 16 rfl rfl)
theorem dX4_isOneOf_19 : DC mX4_isOneOf 19 = .ok (.iconst 1, 1) := dk_4 (dk_at dksX4_isOneOf_0 19 rfl rfl)
theorem dX4_isOneOf_20 : DC mX4_isOneOf 20 = .ok (.iadd, 1) := dk_96 (dk_at dksX4_isOneOf_0 20 rfl rfl)
theorem dX4_isOneOf_21 : DC mX4_isOneOf 21 = .ok (.istore 4, 2) := dk_54 4 (dk_at dksX4_isOneOf_0 21 rfl rfl)
theorem dX4_isOneOf_23 : DC mX4_isOneOf 23 = .ok (.iconst 0, 1) := dk_3 (dk_at dksX4_isOneOf_0 23 rfl rfl)
theorem dX4_isOneOf_24 : DC mX4_isOneOf 24 = .ok (.istore 5, 2) := dk_54 5 (dk_at dksX4_isOneOf_1 0 rfl rfl)
theorem dX4_isOneOf_26 : DC mX4_isOneOf 26 = .ok (.iload 5, 2) := dk_21 5 (dk_at dksX4_isOneOf_1 2 rfl rfl)
theorem dX4_isOneOf_28 : DC mX4_isOneOf 28 = .ok (.iload 4, 2) := dk_21 4 (dk_at dksX4_isOneOf_1 4 rfl rfl)
theorem dX4_isOneOf_30 : DC mX4_isOneOf 30 = .ok (.iload_n 3, 1) := dk_29 (dk_at dksX4_isOneOf_1 6 rfl rfl)
theorem dX4_isOneOf_31 : DC mX4_isOneOf 31 = .ok (.isub, 1) := dk_100 (dk_at dksX4_isOneOf_1 7 rfl rfl)
theorem dX4_isOneOf_32 : DC mX4_isOneOf 32 = .ok (.if_icmp .ge 46, 3) := dk_162 0 46 (dk_at dksX4_isOneOf_1 8 rfl rfl)
theorem dX4_isOneOf_35 : DC mX4_isOneOf 35 = .ok (.aload_n 0, 1) := dk_42 (dk_at dksX4_isOneOf_1 11 rfl rfl)
theorem dX4_isOneOf_36 : DC mX4_isOneOf 36 = .ok (.getfield 201, 3) := dk_180 0 201 (dk_at dksX4_isOneOf_1 12 rfl rfl)
theorem dX4_isOneOf_39 : DC mX4_isOneOf 39 = .ok (.iload 5, 2) := dk_21 5 (dk_at dksX4_isOneOf_1 15 rfl rfl)
theorem dX4_isOneOf_41 : DC mX4_isOneOf 41 = .ok (.iadd, 1) := dk_96 (dk_at dksX4_isOneOf_1 17 rfl rfl)
theorem dX4_isOneOf_42 : DC mX4_isOneOf 42 = .ok (.aload_n 0, 1) := dk_42 (dk_at dksX4_isOneOf_1 18 rfl rfl)
theorem dX4_isOneOf_43 : DC mX4_isOneOf 43 = .ok (.getfield 198, 3) := dk_180 0 198 (dk_at dksX4_isOneOf_1 19 rfl rfl)
theorem dX4_isOneOf_46 : DC mX4_isOneOf 46 = .ok (.if_icmp .ge 32, 3) := dk_162 0 32 (dk_at dksX4_isOneOf_2 0 rfl rfl)
theorem dX4_isOneOf_49 : DC mX4_isOneOf 49 = .ok (.aload_n 0, 1) := dk_42 (dk_at dksX4_isOneOf_2 3 rfl rfl)
theorem dX4_isOneOf_50 : DC mX4_isOneOf 50 = .ok (.getfield 29, 3) := dk_180 0 29 (dk_at dksX4_isOneOf_2 4 rfl rfl)
theorem dX4_isOneOf_53 : DC mX4_isOneOf 53 = .ok (.aload_n 0, 1) := dk_42 (dk_at dksX4_isOneOf_2 7 rfl rfl)
theorem dX4_isOneOf_54 : DC mX4_isOneOf 54 = .ok (.getfield 201, 3) := dk_180 0 201 (dk_at dksX4_isOneOf_2 8 rfl rfl)
theorem dX4_isOneOf_57 : DC mX4_isOneOf 57 = .ok (.iload 5, 2) := dk_21 5 (dk_at dksX4_isOneOf_2 11 rfl rfl)
theorem dX4_isOneOf_59 : DC mX4_isOneOf 59 = .ok (.iadd, 1) := dk_96 (dk_at dksX4_isOneOf_2 13 rfl rfl)
theorem dX4_isOneOf_60 : DC mX4_isOneOf 60 = .ok (.caload, 1) := dk_52 (dk_at dksX4_isOneOf_2 14 rfl rfl)
theorem dX4_isOneOf_61 : DC mX4_isOneOf 61 = .ok (.aload_n 1, 1) := dk_43 (dk_at dksX4_isOneOf_2 15 rfl rfl)
theorem dX4_isOneOf_62 : DC mX4_isOneOf 62 = .ok (.iload_n 3, 1) := dk_29 (dk_at dksX4_isOneOf_2 16 rfl rfl)
theorem dX4_isOneOf_63 : DC mX4_isOneOf 63 = .ok (.iload 5, 2) := dk_21 5 (dk_at dksX4_isOneOf_2 17 rfl rfl)
theorem dX4_isOneOf_65 : DC mX4_isOneOf 65 = .ok (.iadd, 1) := dk_96 (dk_at dksX4_isOneOf_2 19 rfl rfl)
theorem dX4_isOneOf_66 : DC mX4_isOneOf 66 = .ok (.invokevirtual 190, 3) := dk_182 0 190 (dk_at dksX4_isOneOf_2 20 rfl rfl)
theorem dX4_isOneOf_69 : DC mX4_isOneOf 69 = .ok (.if_icmp .ne 9, 3) := dk_160 0 9 (dk_at dksX4_isOneOf_3 0 rfl rfl)
theorem dX4_isOneOf_72 : DC mX4_isOneOf 72 = .ok (.iinc 5 1, 3) := dk_132 5 1 (dk_at dksX4_isOneOf_3 3 rfl rfl)
theorem dX4_isOneOf_75 : DC mX4_isOneOf 75 = .ok (.goto (-49), 3) := dk_167 255 207 (dk_at dksX4_isOneOf_3 6 rfl rfl)
theorem dX4_isOneOf_78 : DC mX4_isOneOf 78 = .ok (.iload 5, 2) := dk_21 5 (dk_at dksX4_isOneOf_3 9 rfl rfl)
theorem dX4_isOneOf_80 : DC mX4_isOneOf 80 = .ok (.iload 4, 2) := dk_21 4 (dk_at dksX4_isOneOf_3 11 rfl rfl)
theorem dX4_isOneOf_82 : DC mX4_isOneOf 82 = .ok (.iload_n 3, 1) := dk_29 (dk_at dksX4_isOneOf_3 13 rfl rfl)
theorem dX4_isOneOf_83 : DC mX4_isOneOf 83 = .ok (.isub, 1) := dk_100 (dk_at dksX4_isOneOf_3 14 rfl rfl)
theorem dX4_isOneOf_84 : DC mX4_isOneOf 84 = .ok (.if_icmp .ne 29, 3) := dk_160 0 29 (dk_at dksX4_isOneOf_3 15 rfl rfl)
theorem dX4_isOneOf_87 : DC mX4_isOneOf 87 = .ok (.aload_n 0, 1) := dk_42 (dk_at dksX4_isOneOf_3 18 rfl rfl)
theorem dX4_isOneOf_88 : DC mX4_isOneOf 88 = .ok (.aload_n 1, 1) := dk_43 (dk_at dksX4_isOneOf_3 19 rfl rfl)
theorem dX4_isOneOf_89 : DC mX4_isOneOf 89 = .ok (.iload_n 3, 1) := dk_29 (dk_at dksX4_isOneOf_3 20 rfl rfl)
theorem dX4_isOneOf_90 : DC mX4_isOneOf 90 = .ok (.iload 4, 2) := dk_21 4 (dk_at dksX4_isOneOf_3 21 rfl rfl)
theorem dX4_isOneOf_92 : DC mX4_isOneOf 92 = .ok (.iconst 1, 1) := dk_4 (dk_at dksX4_isOneOf_3 23 rfl rfl)
theorem dX4_isOneOf_93 : DC mX4_isOneOf 93 = .ok (.isub, 1) := dk_100 (dk_at dksX4_isOneOf_4 0 rfl rfl)
theorem dX4_isOneOf_94 : DC mX4_isOneOf 94 = .ok (.invokevirtual 209, 3) := dk_182 0 209 (dk_at dksX4_isOneOf_4 1 rfl rfl)
theorem dX4_isOneOf_97 : DC mX4_isOneOf 97 = .ok (.putfield 34, 3) := dk_181 0 34 (dk_at dksX4_isOneOf_4 4 rfl rfl)
theorem dX4_isOneOf_100 : DC mX4_isOneOf 100 = .ok (.aload_n 0, 1) := dk_42 (dk_at dksX4_isOneOf_4 7 rfl rfl)
theorem dX4_isOneOf_101 : DC mX4_isOneOf 101 = .ok (.dup, 1) := dk_89 (dk_at dksX4_isOneOf_4 8 rfl rfl)
theorem dX4_isOneOf_102 : DC mX4_isOneOf 102 = .ok (.getfield 201, 3) := dk_180 0 201 (dk_at dksX4_isOneOf_4 9 rfl rfl)
theorem dX4_isOneOf_105 : DC mX4_isOneOf 105 = .ok (.iload 5, 2) := dk_21 5 (dk_at dksX4_isOneOf_4 12 rfl rfl)
theorem dX4_isOneOf_107 : DC mX4_isOneOf 107 = .ok (.iadd, 1) := dk_96 (dk_at dksX4_isOneOf_4 14 rfl rfl)
theorem dX4_isOneOf_108 : DC mX4_isOneOf 108 = .ok (.putfield 201, 3) := dk_181 0 201 (dk_at dksX4_isOneOf_4 15 rfl rfl)
theorem dX4_isOneOf_111 : DC mX4_isOneOf 111 = .ok (.iconst 1, 1) := dk_4 (dk_at dksX4_isOneOf_4 18 rfl rfl)
theorem dX4_isOneOf_112 : DC mX4_isOneOf 112 = .ok (.ireturn, 1) := dk_172 (dk_at dksX4_isOneOf_4 19 rfl rfl)
theorem dX4_isOneOf_113 : DC mX4_isOneOf 113 = .ok (.iload_n 2, 1) := dk_28 (dk_at dksX4_isOneOf_4 20 rfl rfl)
theorem dX4_isOneOf_114 : DC mX4_isOneOf 114 = .ok (.iload 5, 2) := dk_21 5 (dk_at dksX4_isOneOf_4 21 rfl rfl)
theorem dX4_isOneOf_116 : DC mX4_isOneOf 116 = .ok (.invokestatic 213, 3) := dk_184 0 213 (dk_at dksX4_isOneOf_5 0 rfl rfl)
theorem dX4_isOneOf_119 : DC mX4_isOneOf 119 = .ok (.istore_n 2, 1) := dk_61 (dk_at dksX4_isOneOf_5 3 rfl rfl)
theorem dX4_isOneOf_120 : DC mX4_isOneOf 120 = .ok (.iload 4, 2) := dk_21 4 (dk_at dksX4_isOneOf_5 4 rfl rfl)
theorem dX4_isOneOf_122 : DC mX4_isOneOf 122 = .ok (.istore_n 3, 1) := dk_62 (dk_at dksX4_isOneOf_5 6 rfl rfl)
theorem dX4_isOneOf_123 : DC mX4_isOneOf 123 = .ok (.goto (-119), 3) := dk_167 255 137 (dk_at dksX4_isOneOf_5 7 rfl rfl)
theorem dX4_isOneOf_126 : DC mX4_isOneOf 126 = .ok (.aload_n 0, 1) := dk_42 (dk_at dksX4_isOneOf_5 10 rfl rfl)
theorem dX4_isOneOf_127 : DC mX4_isOneOf 127 = .ok (.dup, 1) := dk_89 (dk_at dksX4_isOneOf_5 11 rfl rfl)
theorem dX4_isOneOf_128 : DC mX4_isOneOf 128 = .ok (.getfield 201, 3) := dk_180 0 201 (dk_at dksX4_isOneOf_5 12 rfl rfl)
theorem dX4_isOneOf_131 : DC mX4_isOneOf 131 = .ok (.iload_n 2, 1) := dk_28 (dk_at dksX4_isOneOf_5 15 rfl rfl)
theorem dX4_isOneOf_132 : DC mX4_isOneOf 132 = .ok (.iadd, 1) := dk_96 (dk_at dksX4_isOneOf_5 16 rfl rfl)
theorem dX4_isOneOf_133 : DC mX4_isOneOf 133 = .ok (.putfield 201, 3) := dk_181 0 201 (dk_at dksX4_isOneOf_5 17 rfl rfl)
theorem dX4_isOneOf_136 : DC mX4_isOneOf 136 = .ok (.iconst 0, 1) := dk_3 (dk_at dksX4_isOneOf_5 20 rfl rfl)
theorem dX4_isOneOf_137 : DC mX4_isOneOf 137 = .ok (.ireturn, 1) := dk_172 (dk_at dksX4_isOneOf_5 21 rfl rfl)
abbrev cX4_isPlace : ByteArray := prog_13_method_68_code
def yX4_isPlace : MethodName := ⟨RX4, "isPlace", "()Z"⟩
def mX4_isPlace : MI := (⟨"TheatreSagaModel", "isPlace", "()Z"⟩, prog_13_method_68_code, 1, (Option.some FieldType.boolean), none, 42, 3)
theorem oX4_isPlace : mO mX4_isPlace = 42 := rfl
theorem lX4_isPlace : mL mX4_isPlace = 1 := rfl
theorem rX4_isPlace : mR mX4_isPlace = (Option.some FieldType.boolean) := rfl
theorem vX4_isPlace : mV mX4_isPlace = 3 := rfl
theorem nX4_isPlace : (mY mX4_isPlace).name = "isPlace" := rfl
theorem hX4_isPlace : mH mX4_isPlace = none := rfl
theorem kX4_isPlace : MOk mX4_isPlace := ⟨q2764, q91, by decide +kernel⟩
theorem gX4_isPlace : plainName (mY mX4_isPlace).cls = true ∧ (mY mX4_isPlace).cls = "TheatreSagaModel" := ⟨by decide +kernel, rfl⟩
def dkwX4_isPlace_2 : List UInt8 := [167, 0, 4, 3, 172]
abbrev dktX4_isPlace_2 : List UInt8 := dkwX4_isPlace_2 ++ []
def dkwX4_isPlace_1 : List UInt8 := [153, 0, 25, 42, 16, 47, 182, 0, 221, 153, 0, 16, 42, 5, 5, 182, 0, 218, 153, 0, 7, 4]
abbrev dktX4_isPlace_1 : List UInt8 := dkwX4_isPlace_1 ++ dktX4_isPlace_2
def dkwX4_isPlace_0 : List UInt8 := [42, 3, 4, 182, 0, 218, 153, 0, 43, 42, 16, 32, 182, 0, 221, 153, 0, 34, 42, 4, 4, 182, 0, 218]
abbrev dktX4_isPlace_0 : List UInt8 := dkwX4_isPlace_0 ++ dktX4_isPlace_1
theorem dksX4_isPlace_0 : cX4_isPlace.data.toList.drop 0 = dktX4_isPlace_0 := by decide +kernel
theorem dksX4_isPlace_1 : cX4_isPlace.data.toList.drop 24 = dktX4_isPlace_1 := dk_seg dksX4_isPlace_0 24 rfl rfl
theorem dksX4_isPlace_2 : cX4_isPlace.data.toList.drop 46 = dktX4_isPlace_2 := dk_seg dksX4_isPlace_1 22 rfl rfl
theorem dX4_isPlace_0 : DC mX4_isPlace 0 = .ok (.aload_n 0, 1) := dk_42 (dk_at dksX4_isPlace_0 0 rfl rfl)
theorem dX4_isPlace_1 : DC mX4_isPlace 1 = .ok (.iconst 0, 1) := dk_3 (dk_at dksX4_isPlace_0 1 rfl rfl)
theorem dX4_isPlace_2 : DC mX4_isPlace 2 = .ok (.iconst 1, 1) := dk_4 (dk_at dksX4_isPlace_0 2 rfl rfl)
theorem dX4_isPlace_3 : DC mX4_isPlace 3 = .ok (.invokevirtual 218, 3) := dk_182 0 218 (dk_at dksX4_isPlace_0 3 rfl rfl)
theorem dX4_isPlace_6 : DC mX4_isPlace 6 = .ok (.ifCond .eq 43, 3) := dk_153 0 43 (dk_at dksX4_isPlace_0 6 rfl rfl)
theorem dX4_isPlace_9 : DC mX4_isPlace 9 = .ok (.aload_n 0, 1) := dk_42 (dk_at dksX4_isPlace_0 9 rfl rfl)
theorem dX4_isPlace_10 : DC mX4_isPlace 10 = .ok (.bipush 32, 2) := dk_16 32 (dk_at dksX4_isPlace_0 10 rfl rfl)
theorem dX4_isPlace_12 : DC mX4_isPlace 12 = .ok (.invokevirtual 221, 3) := dk_182 0 221 (dk_at dksX4_isPlace_0 12 rfl rfl)
theorem dX4_isPlace_15 : DC mX4_isPlace 15 = .ok (.ifCond .eq 34, 3) := dk_153 0 34 (dk_at dksX4_isPlace_0 15 rfl rfl)
theorem dX4_isPlace_18 : DC mX4_isPlace 18 = .ok (.aload_n 0, 1) := dk_42 (dk_at dksX4_isPlace_0 18 rfl rfl)
theorem dX4_isPlace_19 : DC mX4_isPlace 19 = .ok (.iconst 1, 1) := dk_4 (dk_at dksX4_isPlace_0 19 rfl rfl)
theorem dX4_isPlace_20 : DC mX4_isPlace 20 = .ok (.iconst 1, 1) := dk_4 (dk_at dksX4_isPlace_0 20 rfl rfl)
theorem dX4_isPlace_21 : DC mX4_isPlace 21 = .ok (.invokevirtual 218, 3) := dk_182 0 218 (dk_at dksX4_isPlace_0 21 rfl rfl)
theorem dX4_isPlace_24 : DC mX4_isPlace 24 = .ok (.ifCond .eq 25, 3) := dk_153 0 25 (dk_at dksX4_isPlace_1 0 rfl rfl)
theorem dX4_isPlace_27 : DC mX4_isPlace 27 = .ok (.aload_n 0, 1) := dk_42 (dk_at dksX4_isPlace_1 3 rfl rfl)
theorem dX4_isPlace_28 : DC mX4_isPlace 28 = .ok (.bipush 47, 2) := dk_16 47 (dk_at dksX4_isPlace_1 4 rfl rfl)
theorem dX4_isPlace_30 : DC mX4_isPlace 30 = .ok (.invokevirtual 221, 3) := dk_182 0 221 (dk_at dksX4_isPlace_1 6 rfl rfl)
theorem dX4_isPlace_33 : DC mX4_isPlace 33 = .ok (.ifCond .eq 16, 3) := dk_153 0 16 (dk_at dksX4_isPlace_1 9 rfl rfl)
theorem dX4_isPlace_36 : DC mX4_isPlace 36 = .ok (.aload_n 0, 1) := dk_42 (dk_at dksX4_isPlace_1 12 rfl rfl)
theorem dX4_isPlace_37 : DC mX4_isPlace 37 = .ok (.iconst 2, 1) := dk_5 (dk_at dksX4_isPlace_1 13 rfl rfl)
theorem dX4_isPlace_38 : DC mX4_isPlace 38 = .ok (.iconst 2, 1) := dk_5 (dk_at dksX4_isPlace_1 14 rfl rfl)
theorem dX4_isPlace_39 : DC mX4_isPlace 39 = .ok (.invokevirtual 218, 3) := dk_182 0 218 (dk_at dksX4_isPlace_1 15 rfl rfl)
theorem dX4_isPlace_42 : DC mX4_isPlace 42 = .ok (.ifCond .eq 7, 3) := dk_153 0 7 (dk_at dksX4_isPlace_1 18 rfl rfl)
theorem dX4_isPlace_45 : DC mX4_isPlace 45 = .ok (.iconst 1, 1) := dk_4 (dk_at dksX4_isPlace_1 21 rfl rfl)
theorem dX4_isPlace_46 : DC mX4_isPlace 46 = .ok (.goto 4, 3) := dk_167 0 4 (dk_at dksX4_isPlace_2 0 rfl rfl)
theorem dX4_isPlace_49 : DC mX4_isPlace 49 = .ok (.iconst 0, 1) := dk_3 (dk_at dksX4_isPlace_2 3 rfl rfl)
theorem dX4_isPlace_50 : DC mX4_isPlace 50 = .ok (.ireturn, 1) := dk_172 (dk_at dksX4_isPlace_2 4 rfl rfl)
abbrev cX4_number_2 : ByteArray := prog_13_method_67_code
def yX4_number_2 : MethodName := ⟨RX4, "number", "(II)Z"⟩
def mX4_number_2 : MI := (⟨"TheatreSagaModel", "number", "(II)Z"⟩, prog_13_method_67_code, 4, (Option.some FieldType.boolean), none, 42, 2)
theorem oX4_number_2 : mO mX4_number_2 = 42 := rfl
theorem lX4_number_2 : mL mX4_number_2 = 4 := rfl
theorem rX4_number_2 : mR mX4_number_2 = (Option.some FieldType.boolean) := rfl
theorem vX4_number_2 : mV mX4_number_2 = 2 := rfl
theorem nX4_number_2 : (mY mX4_number_2).name = "number" := rfl
theorem hX4_number_2 : mH mX4_number_2 = none := rfl
theorem kX4_number_2 : MOk mX4_number_2 := ⟨q2768, q91, by decide +kernel⟩
theorem gX4_number_2 : plainName (mY mX4_number_2).cls = true ∧ (mY mX4_number_2).cls = "TheatreSagaModel" := ⟨by decide +kernel, rfl⟩
def dkwX4_number_2_4 : List UInt8 := [3, 172]
abbrev dktX4_number_2_4 : List UInt8 := dkwX4_number_2_4 ++ []
def dkwX4_number_2_3 : List UInt8 := [96, 181, 0, 201, 52, 96, 16, 48, 100, 79, 132, 3, 1, 167, 255, 183, 29, 158, 0, 7, 4, 167, 0, 4]
abbrev dktX4_number_2_3 : List UInt8 := dkwX4_number_2_3 ++ dktX4_number_2_4
def dkwX4_number_2_2 : List UInt8 := [180, 0, 38, 27, 16, 10, 42, 180, 0, 38, 27, 46, 104, 42, 180, 0, 29, 42, 89, 180, 0, 201, 90, 4]
abbrev dktX4_number_2_2 : List UInt8 := dkwX4_number_2_2 ++ dktX4_number_2_3
def dkwX4_number_2_1 : List UInt8 := [162, 0, 63, 42, 180, 0, 29, 42, 180, 0, 201, 52, 16, 48, 16, 57, 184, 0, 60, 153, 0, 44, 42]
abbrev dktX4_number_2_1 : List UInt8 := dkwX4_number_2_1 ++ dktX4_number_2_2
def dkwX4_number_2_0 : List UInt8 := [3, 62, 42, 180, 0, 38, 27, 3, 79, 29, 28, 162, 0, 74, 42, 180, 0, 201, 42, 180, 0, 198]
abbrev dktX4_number_2_0 : List UInt8 := dkwX4_number_2_0 ++ dktX4_number_2_1
theorem dksX4_number_2_0 : cX4_number_2.data.toList.drop 0 = dktX4_number_2_0 := by decide +kernel
theorem dksX4_number_2_1 : cX4_number_2.data.toList.drop 22 = dktX4_number_2_1 := dk_seg dksX4_number_2_0 22 rfl rfl
theorem dksX4_number_2_2 : cX4_number_2.data.toList.drop 45 = dktX4_number_2_2 := dk_seg dksX4_number_2_1 23 rfl rfl
theorem dksX4_number_2_3 : cX4_number_2.data.toList.drop 69 = dktX4_number_2_3 := dk_seg dksX4_number_2_2 24 rfl rfl
theorem dksX4_number_2_4 : cX4_number_2.data.toList.drop 93 = dktX4_number_2_4 := dk_seg dksX4_number_2_3 24 rfl rfl
theorem dX4_number_2_0 : DC mX4_number_2 0 = .ok (.iconst 0, 1) := dk_3 (dk_at dksX4_number_2_0 0 rfl rfl)
theorem dX4_number_2_1 : DC mX4_number_2 1 = .ok (.istore_n 3, 1) := dk_62 (dk_at dksX4_number_2_0 1 rfl rfl)
theorem dX4_number_2_2 : DC mX4_number_2 2 = .ok (.aload_n 0, 1) := dk_42 (dk_at dksX4_number_2_0 2 rfl rfl)
theorem dX4_number_2_3 : DC mX4_number_2 3 = .ok (.getfield 38, 3) := dk_180 0 38 (dk_at dksX4_number_2_0 3 rfl rfl)
theorem dX4_number_2_6 : DC mX4_number_2 6 = .ok (.iload_n 1, 1) := dk_27 (dk_at dksX4_number_2_0 6 rfl rfl)
theorem dX4_number_2_7 : DC mX4_number_2 7 = .ok (.iconst 0, 1) := dk_3 (dk_at dksX4_number_2_0 7 rfl rfl)
theorem dX4_number_2_8 : DC mX4_number_2 8 = .ok (.iastore, 1) := dk_79 (dk_at dksX4_number_2_0 8 rfl rfl)
theorem dX4_number_2_9 : DC mX4_number_2 9 = .ok (.iload_n 3, 1) := dk_29 (dk_at dksX4_number_2_0 9 rfl rfl)
theorem dX4_number_2_10 : DC mX4_number_2 10 = .ok (.iload_n 2, 1) := dk_28 (dk_at dksX4_number_2_0 10 rfl rfl)
theorem dX4_number_2_11 : DC mX4_number_2 11 = .ok (.if_icmp .ge 74, 3) := dk_162 0 74 (dk_at dksX4_number_2_0 11 rfl rfl)
theorem dX4_number_2_14 : DC mX4_number_2 14 = .ok (.aload_n 0, 1) := dk_42 (dk_at dksX4_number_2_0 14 rfl rfl)
theorem dX4_number_2_15 : DC mX4_number_2 15 = .ok (.getfield 201, 3) := dk_180 0 201 (dk_at dksX4_number_2_0 15 rfl rfl)
theorem dX4_number_2_18 : DC mX4_number_2 18 = .ok (.aload_n 0, 1) := dk_42 (dk_at dksX4_number_2_0 18 rfl rfl)
theorem dX4_number_2_19 : DC mX4_number_2 19 = .ok (.getfield 198, 3) := dk_180 0 198 (dk_at dksX4_number_2_0 19 rfl rfl)
theorem dX4_number_2_22 : DC mX4_number_2 22 = .ok (.if_icmp .ge 63, 3) := dk_162 0 63 (dk_at dksX4_number_2_1 0 rfl rfl)
theorem dX4_number_2_25 : DC mX4_number_2 25 = .ok (.aload_n 0, 1) := dk_42 (dk_at dksX4_number_2_1 3 rfl rfl)
theorem dX4_number_2_26 : DC mX4_number_2 26 = .ok (.getfield 29, 3) := dk_180 0 29 (dk_at dksX4_number_2_1 4 rfl rfl)
theorem dX4_number_2_29 : DC mX4_number_2 29 = .ok (.aload_n 0, 1) := dk_42 (dk_at dksX4_number_2_1 7 rfl rfl)
theorem dX4_number_2_30 : DC mX4_number_2 30 = .ok (.getfield 201, 3) := dk_180 0 201 (dk_at dksX4_number_2_1 8 rfl rfl)
theorem dX4_number_2_33 : DC mX4_number_2 33 = .ok (.caload, 1) := dk_52 (dk_at dksX4_number_2_1 11 rfl rfl)
theorem dX4_number_2_34 : DC mX4_number_2 34 = .ok (.bipush 48, 2) := dk_16 48 (dk_at dksX4_number_2_1 12 rfl rfl)
theorem dX4_number_2_36 : DC mX4_number_2 36 = .ok (.bipush 57, 2) := dk_16 57 (dk_at dksX4_number_2_1 14 rfl rfl)
theorem dX4_number_2_38 : DC mX4_number_2 38 = .ok (.invokestatic 60, 3) := dk_184 0 60 (dk_at dksX4_number_2_1 16 rfl rfl)
theorem dX4_number_2_41 : DC mX4_number_2 41 = .ok (.ifCond .eq 44, 3) := dk_153 0 44 (dk_at dksX4_number_2_1 19 rfl rfl)
theorem dX4_number_2_44 : DC mX4_number_2 44 = .ok (.aload_n 0, 1) := dk_42 (dk_at dksX4_number_2_1 22 rfl rfl)
theorem dX4_number_2_45 : DC mX4_number_2 45 = .ok (.getfield 38, 3) := dk_180 0 38 (dk_at dksX4_number_2_2 0 rfl rfl)
theorem dX4_number_2_48 : DC mX4_number_2 48 = .ok (.iload_n 1, 1) := dk_27 (dk_at dksX4_number_2_2 3 rfl rfl)
theorem dX4_number_2_49 : DC mX4_number_2 49 = .ok (.bipush 10, 2) := dk_16 10 (dk_at dksX4_number_2_2 4 rfl rfl)
theorem dX4_number_2_51 : DC mX4_number_2 51 = .ok (.aload_n 0, 1) := dk_42 (dk_at dksX4_number_2_2 6 rfl rfl)
theorem dX4_number_2_52 : DC mX4_number_2 52 = .ok (.getfield 38, 3) := dk_180 0 38 (dk_at dksX4_number_2_2 7 rfl rfl)
theorem dX4_number_2_55 : DC mX4_number_2 55 = .ok (.iload_n 1, 1) := dk_27 (dk_at dksX4_number_2_2 10 rfl rfl)
theorem dX4_number_2_56 : DC mX4_number_2 56 = .ok (.iaload, 1) := dk_46 (dk_at dksX4_number_2_2 11 rfl rfl)
theorem dX4_number_2_57 : DC mX4_number_2 57 = .ok (.imul, 1) := dk_104 (dk_at dksX4_number_2_2 12 rfl rfl)
theorem dX4_number_2_58 : DC mX4_number_2 58 = .ok (.aload_n 0, 1) := dk_42 (dk_at dksX4_number_2_2 13 rfl rfl)
theorem dX4_number_2_59 : DC mX4_number_2 59 = .ok (.getfield 29, 3) := dk_180 0 29 (dk_at dksX4_number_2_2 14 rfl rfl)
theorem dX4_number_2_62 : DC mX4_number_2 62 = .ok (.aload_n 0, 1) := dk_42 (dk_at dksX4_number_2_2 17 rfl rfl)
theorem dX4_number_2_63 : DC mX4_number_2 63 = .ok (.dup, 1) := dk_89 (dk_at dksX4_number_2_2 18 rfl rfl)
theorem dX4_number_2_64 : DC mX4_number_2 64 = .ok (.getfield 201, 3) := dk_180 0 201 (dk_at dksX4_number_2_2 19 rfl rfl)
theorem dX4_number_2_67 : DC mX4_number_2 67 = .ok (.dup_x1, 1) := dk_90 (dk_at dksX4_number_2_2 22 rfl rfl)
theorem dX4_number_2_68 : DC mX4_number_2 68 = .ok (.iconst 1, 1) := dk_4 (dk_at dksX4_number_2_2 23 rfl rfl)
theorem dX4_number_2_69 : DC mX4_number_2 69 = .ok (.iadd, 1) := dk_96 (dk_at dksX4_number_2_3 0 rfl rfl)
theorem dX4_number_2_70 : DC mX4_number_2 70 = .ok (.putfield 201, 3) := dk_181 0 201 (dk_at dksX4_number_2_3 1 rfl rfl)
theorem dX4_number_2_73 : DC mX4_number_2 73 = .ok (.caload, 1) := dk_52 (dk_at dksX4_number_2_3 4 rfl rfl)
theorem dX4_number_2_74 : DC mX4_number_2 74 = .ok (.iadd, 1) := dk_96 (dk_at dksX4_number_2_3 5 rfl rfl)
theorem dX4_number_2_75 : DC mX4_number_2 75 = .ok (.bipush 48, 2) := dk_16 48 (dk_at dksX4_number_2_3 6 rfl rfl)
theorem dX4_number_2_77 : DC mX4_number_2 77 = .ok (.isub, 1) := dk_100 (dk_at dksX4_number_2_3 8 rfl rfl)
theorem dX4_number_2_78 : DC mX4_number_2 78 = .ok (.iastore, 1) := dk_79 (dk_at dksX4_number_2_3 9 rfl rfl)
theorem dX4_number_2_79 : DC mX4_number_2 79 = .ok (.iinc 3 1, 3) := dk_132 3 1 (dk_at dksX4_number_2_3 10 rfl rfl)
theorem dX4_number_2_82 : DC mX4_number_2 82 = .ok (.goto (-73), 3) := dk_167 255 183 (dk_at dksX4_number_2_3 13 rfl rfl)
theorem dX4_number_2_85 : DC mX4_number_2 85 = .ok (.iload_n 3, 1) := dk_29 (dk_at dksX4_number_2_3 16 rfl rfl)
theorem dX4_number_2_86 : DC mX4_number_2 86 = .ok (.ifCond .le 7, 3) := dk_158 0 7 (dk_at dksX4_number_2_3 17 rfl rfl)
theorem dX4_number_2_89 : DC mX4_number_2 89 = .ok (.iconst 1, 1) := dk_4 (dk_at dksX4_number_2_3 20 rfl rfl)
theorem dX4_number_2_90 : DC mX4_number_2 90 = .ok (.goto 4, 3) := dk_167 0 4 (dk_at dksX4_number_2_3 21 rfl rfl)
theorem dX4_number_2_93 : DC mX4_number_2 93 = .ok (.iconst 0, 1) := dk_3 (dk_at dksX4_number_2_4 0 rfl rfl)
theorem dX4_number_2_94 : DC mX4_number_2 94 = .ok (.ireturn, 1) := dk_172 (dk_at dksX4_number_2_4 1 rfl rfl)
abbrev cX4_takes : ByteArray := prog_13_method_65_code
def yX4_takes : MethodName := ⟨RX4, "takes", "(C)Z"⟩
def mX4_takes : MI := (⟨"TheatreSagaModel", "takes", "(C)Z"⟩, prog_13_method_65_code, 2, (Option.some FieldType.boolean), none, 42, 1)
theorem oX4_takes : mO mX4_takes = 42 := rfl
theorem lX4_takes : mL mX4_takes = 2 := rfl
theorem rX4_takes : mR mX4_takes = (Option.some FieldType.boolean) := rfl
theorem vX4_takes : mV mX4_takes = 1 := rfl
theorem nX4_takes : (mY mX4_takes).name = "takes" := rfl
theorem hX4_takes : mH mX4_takes = none := rfl
theorem kX4_takes : MOk mX4_takes := ⟨q2772, q91, by decide +kernel⟩
theorem gX4_takes : plainName (mY mX4_takes).cls = true ∧ (mY mX4_takes).cls = "TheatreSagaModel" := ⟨by decide +kernel, rfl⟩
def dkwX4_takes_1 : List UInt8 := [3, 172, 42, 89, 180, 0, 201, 4, 96, 181, 0, 201, 4, 172]
abbrev dktX4_takes_1 : List UInt8 := dkwX4_takes_1 ++ []
def dkwX4_takes_0 : List UInt8 := [42, 180, 0, 201, 42, 180, 0, 198, 159, 0, 16, 42, 180, 0, 29, 42, 180, 0, 201, 52, 27, 159, 0, 5]
abbrev dktX4_takes_0 : List UInt8 := dkwX4_takes_0 ++ dktX4_takes_1
theorem dksX4_takes_0 : cX4_takes.data.toList.drop 0 = dktX4_takes_0 := by decide +kernel
theorem dksX4_takes_1 : cX4_takes.data.toList.drop 24 = dktX4_takes_1 := dk_seg dksX4_takes_0 24 rfl rfl
theorem dX4_takes_0 : DC mX4_takes 0 = .ok (.aload_n 0, 1) := dk_42 (dk_at dksX4_takes_0 0 rfl rfl)
theorem dX4_takes_1 : DC mX4_takes 1 = .ok (.getfield 201, 3) := dk_180 0 201 (dk_at dksX4_takes_0 1 rfl rfl)
theorem dX4_takes_4 : DC mX4_takes 4 = .ok (.aload_n 0, 1) := dk_42 (dk_at dksX4_takes_0 4 rfl rfl)
theorem dX4_takes_5 : DC mX4_takes 5 = .ok (.getfield 198, 3) := dk_180 0 198 (dk_at dksX4_takes_0 5 rfl rfl)
theorem dX4_takes_8 : DC mX4_takes 8 = .ok (.if_icmp .eq 16, 3) := dk_159 0 16 (dk_at dksX4_takes_0 8 rfl rfl)
theorem dX4_takes_11 : DC mX4_takes 11 = .ok (.aload_n 0, 1) := dk_42 (dk_at dksX4_takes_0 11 rfl rfl)
theorem dX4_takes_12 : DC mX4_takes 12 = .ok (.getfield 29, 3) := dk_180 0 29 (dk_at dksX4_takes_0 12 rfl rfl)
theorem dX4_takes_15 : DC mX4_takes 15 = .ok (.aload_n 0, 1) := dk_42 (dk_at dksX4_takes_0 15 rfl rfl)
theorem dX4_takes_16 : DC mX4_takes 16 = .ok (.getfield 201, 3) := dk_180 0 201 (dk_at dksX4_takes_0 16 rfl rfl)
theorem dX4_takes_19 : DC mX4_takes 19 = .ok (.caload, 1) := dk_52 (dk_at dksX4_takes_0 19 rfl rfl)
theorem dX4_takes_20 : DC mX4_takes 20 = .ok (.iload_n 1, 1) := dk_27 (dk_at dksX4_takes_0 20 rfl rfl)
theorem dX4_takes_21 : DC mX4_takes 21 = .ok (.if_icmp .eq 5, 3) := dk_159 0 5 (dk_at dksX4_takes_0 21 rfl rfl)
theorem dX4_takes_24 : DC mX4_takes 24 = .ok (.iconst 0, 1) := dk_3 (dk_at dksX4_takes_1 0 rfl rfl)
theorem dX4_takes_25 : DC mX4_takes 25 = .ok (.ireturn, 1) := dk_172 (dk_at dksX4_takes_1 1 rfl rfl)
theorem dX4_takes_26 : DC mX4_takes 26 = .ok (.aload_n 0, 1) := dk_42 (dk_at dksX4_takes_1 2 rfl rfl)
theorem dX4_takes_27 : DC mX4_takes 27 = .ok (.dup, 1) := dk_89 (dk_at dksX4_takes_1 3 rfl rfl)
theorem dX4_takes_28 : DC mX4_takes 28 = .ok (.getfield 201, 3) := dk_180 0 201 (dk_at dksX4_takes_1 4 rfl rfl)
theorem dX4_takes_31 : DC mX4_takes 31 = .ok (.iconst 1, 1) := dk_4 (dk_at dksX4_takes_1 7 rfl rfl)
theorem dX4_takes_32 : DC mX4_takes 32 = .ok (.iadd, 1) := dk_96 (dk_at dksX4_takes_1 8 rfl rfl)
theorem dX4_takes_33 : DC mX4_takes 33 = .ok (.putfield 201, 3) := dk_181 0 201 (dk_at dksX4_takes_1 9 rfl rfl)
theorem dX4_takes_36 : DC mX4_takes 36 = .ok (.iconst 1, 1) := dk_4 (dk_at dksX4_takes_1 12 rfl rfl)
theorem dX4_takes_37 : DC mX4_takes 37 = .ok (.ireturn, 1) := dk_172 (dk_at dksX4_takes_1 13 rfl rfl)
abbrev cX4_carries : ByteArray := prog_13_method_70_code
def yX4_carries : MethodName := ⟨RX4, "carries", "()I"⟩
def mX4_carries : MI := (⟨"TheatreSagaModel", "carries", "()I"⟩, prog_13_method_70_code, 3, (Option.some FieldType.int), none, 42, 14)
theorem oX4_carries : mO mX4_carries = 42 := rfl
theorem lX4_carries : mL mX4_carries = 3 := rfl
theorem rX4_carries : mR mX4_carries = (Option.some FieldType.int) := rfl
theorem vX4_carries : mV mX4_carries = 14 := rfl
theorem nX4_carries : (mY mX4_carries).name = "carries" := rfl
theorem hX4_carries : mH mX4_carries = none := rfl
theorem kX4_carries : MOk mX4_carries := ⟨q2776, q91, by decide +kernel⟩
theorem gX4_carries : plainName (mY mX4_carries).cls = true ∧ (mY mX4_carries).cls = "TheatreSagaModel" := ⟨by decide +kernel, rfl⟩
def dkwX4_carries_14 : List UInt8 := [180, 0, 38, 3, 46, 182, 0, 172, 172]
abbrev dktX4_carries_14 : List UInt8 := dkwX4_carries_14 ++ []
def dkwX4_carries_13 : List UInt8 := [180, 0, 38, 3, 46, 4, 182, 0, 135, 172, 42, 42, 180, 0, 38, 3, 46, 3, 182, 0, 135, 172, 42, 42]
abbrev dktX4_carries_13 : List UInt8 := dkwX4_carries_13 ++ dktX4_carries_14
def dkwX4_carries_12 : List UInt8 := [42, 42, 180, 0, 38, 3, 46, 182, 0, 118, 172, 42, 42, 180, 0, 38, 3, 46, 182, 0, 128, 172, 42, 42]
abbrev dktX4_carries_12 : List UInt8 := dkwX4_carries_12 ++ dktX4_carries_13
def dkwX4_carries_11 : List UInt8 := [46, 5, 42, 180, 0, 38, 4, 46, 42, 180, 0, 38, 5, 46, 42, 180, 0, 38, 6, 46, 182, 0, 111, 172]
abbrev dktX4_carries_11 : List UInt8 := dkwX4_carries_11 ++ dktX4_carries_12
def dkwX4_carries_10 : List UInt8 := [4, 46, 42, 180, 0, 38, 5, 46, 42, 180, 0, 38, 6, 46, 182, 0, 111, 172, 42, 42, 180, 0, 38, 3]
abbrev dktX4_carries_10 : List UInt8 := dkwX4_carries_10 ++ dktX4_carries_11
def dkwX4_carries_9 : List UInt8 := [46, 42, 180, 0, 38, 5, 46, 4, 182, 0, 111, 172, 42, 42, 180, 0, 38, 3, 46, 4, 42, 180, 0, 38]
abbrev dktX4_carries_9 : List UInt8 := dkwX4_carries_9 ++ dktX4_carries_10
def dkwX4_carries_8 : List UInt8 := [42, 42, 180, 0, 38, 3, 46, 182, 0, 86, 172, 42, 42, 180, 0, 38, 3, 46, 3, 42, 180, 0, 38, 4]
abbrev dktX4_carries_8 : List UInt8 := dkwX4_carries_8 ++ dktX4_carries_9
def dkwX4_carries_7 : List UInt8 := [170, 0, 0, 0, 0, 188, 0, 0, 0, 0, 0, 0, 0, 7, 0, 0, 0, 46, 0, 0, 0, 57, 0, 0, 0, 82, 0, 0, 0, 112, 0, 0, 0, 142, 0, 0, 0, 153, 0, 0, 0, 164, 0, 0, 0, 176]
abbrev dktX4_carries_7 : List UInt8 := dkwX4_carries_7 ++ dktX4_carries_8
def dkwX4_carries_6 : List UInt8 := [16, 6, 61, 167, 0, 16, 43, 19, 1, 2, 182, 0, 236, 153, 0, 6, 16, 7, 61, 28]
abbrev dktX4_carries_6 : List UInt8 := dkwX4_carries_6 ++ dktX4_carries_7
def dkwX4_carries_5 : List UInt8 := [18, 254, 182, 0, 236, 153, 0, 37, 8, 61, 167, 0, 32, 43, 19, 1, 0, 182, 0, 236, 153, 0, 22]
abbrev dktX4_carries_5 : List UInt8 := dkwX4_carries_5 ++ dktX4_carries_6
def dkwX4_carries_4 : List UInt8 := [153, 0, 65, 6, 61, 167, 0, 60, 43, 18, 252, 182, 0, 236, 153, 0, 51, 7, 61, 167, 0, 46, 43]
abbrev dktX4_carries_4 : List UInt8 := dkwX4_carries_4 ++ dktX4_carries_5
def dkwX4_carries_3 : List UInt8 := [61, 167, 0, 88, 43, 18, 240, 182, 0, 236, 153, 0, 79, 5, 61, 167, 0, 74, 43, 18, 242, 182, 0, 236]
abbrev dktX4_carries_3 : List UInt8 := dkwX4_carries_3 ++ dktX4_carries_4
def dkwX4_carries_2 : List UInt8 := [43, 18, 250, 182, 0, 236, 153, 0, 107, 3, 61, 167, 0, 102, 43, 18, 234, 182, 0, 236, 153, 0, 93, 4]
abbrev dktX4_carries_2 : List UInt8 := dkwX4_carries_2 ++ dktX4_carries_3
def dkwX4_carries_1 : List UInt8 := [171, 0, 0, 0, 186, 0, 0, 0, 8, 208, 152, 26, 119, 0, 0, 0, 101, 0, 46, 4, 231, 0, 0, 0, 143, 0, 46, 20, 18, 0, 0, 0, 115, 0, 48, 192, 57, 0, 0, 0, 87, 0, 52, 38, 74, 0, 0, 0, 173, 0, 53, 219, 180, 0, 0, 0, 157, 0, 54, 106, 88, 0, 0, 0, 73, 6, 138, 196, 98, 0, 0, 0, 129]
abbrev dktX4_carries_1 : List UInt8 := dkwX4_carries_1 ++ dktX4_carries_2
def dkwX4_carries_0 : List UInt8 := [42, 180, 0, 34, 76, 2, 61, 43, 182, 0, 231]
abbrev dktX4_carries_0 : List UInt8 := dkwX4_carries_0 ++ dktX4_carries_1
theorem dksX4_carries_0 : cX4_carries.data.toList.drop 0 = dktX4_carries_0 := by decide +kernel
theorem dksX4_carries_1 : cX4_carries.data.toList.drop 11 = dktX4_carries_1 := dk_seg dksX4_carries_0 11 rfl rfl
theorem dksX4_carries_2 : cX4_carries.data.toList.drop 84 = dktX4_carries_2 := dk_seg dksX4_carries_1 73 rfl rfl
theorem dksX4_carries_3 : cX4_carries.data.toList.drop 108 = dktX4_carries_3 := dk_seg dksX4_carries_2 24 rfl rfl
theorem dksX4_carries_4 : cX4_carries.data.toList.drop 132 = dktX4_carries_4 := dk_seg dksX4_carries_3 24 rfl rfl
theorem dksX4_carries_5 : cX4_carries.data.toList.drop 155 = dktX4_carries_5 := dk_seg dksX4_carries_4 23 rfl rfl
theorem dksX4_carries_6 : cX4_carries.data.toList.drop 178 = dktX4_carries_6 := dk_seg dksX4_carries_5 23 rfl rfl
theorem dksX4_carries_7 : cX4_carries.data.toList.drop 198 = dktX4_carries_7 := dk_seg dksX4_carries_6 20 rfl rfl
theorem dksX4_carries_8 : cX4_carries.data.toList.drop 244 = dktX4_carries_8 := dk_seg dksX4_carries_7 46 rfl rfl
theorem dksX4_carries_9 : cX4_carries.data.toList.drop 268 = dktX4_carries_9 := dk_seg dksX4_carries_8 24 rfl rfl
theorem dksX4_carries_10 : cX4_carries.data.toList.drop 292 = dktX4_carries_10 := dk_seg dksX4_carries_9 24 rfl rfl
theorem dksX4_carries_11 : cX4_carries.data.toList.drop 316 = dktX4_carries_11 := dk_seg dksX4_carries_10 24 rfl rfl
theorem dksX4_carries_12 : cX4_carries.data.toList.drop 340 = dktX4_carries_12 := dk_seg dksX4_carries_11 24 rfl rfl
theorem dksX4_carries_13 : cX4_carries.data.toList.drop 364 = dktX4_carries_13 := dk_seg dksX4_carries_12 24 rfl rfl
theorem dksX4_carries_14 : cX4_carries.data.toList.drop 388 = dktX4_carries_14 := dk_seg dksX4_carries_13 24 rfl rfl
theorem dX4_carries_0 : DC mX4_carries 0 = .ok (.aload_n 0, 1) := dk_42 (dk_at dksX4_carries_0 0 rfl rfl)
theorem dX4_carries_1 : DC mX4_carries 1 = .ok (.getfield 34, 3) := dk_180 0 34 (dk_at dksX4_carries_0 1 rfl rfl)
theorem dX4_carries_4 : DC mX4_carries 4 = .ok (.astore_n 1, 1) := dk_76 (dk_at dksX4_carries_0 4 rfl rfl)
theorem dX4_carries_5 : DC mX4_carries 5 = .ok (.iconst (-1), 1) := dk_2 (dk_at dksX4_carries_0 5 rfl rfl)
theorem dX4_carries_6 : DC mX4_carries 6 = .ok (.istore_n 2, 1) := dk_61 (dk_at dksX4_carries_0 6 rfl rfl)
theorem dX4_carries_7 : DC mX4_carries 7 = .ok (.aload_n 1, 1) := dk_43 (dk_at dksX4_carries_0 7 rfl rfl)
theorem dX4_carries_8 : DC mX4_carries 8 = .ok (.invokevirtual 231, 3) := dk_182 0 231 (dk_at dksX4_carries_0 8 rfl rfl)
theorem dX4_carries_11 : DC mX4_carries 11 = .ok (.lookupswitch 186 #[(-795338121, 101), (3015911, 143), (3019794, 115), (3194937, 87), (3417674, 173), (3529652, 157), (3566168, 73), (109757538, 129)], 73) := by decide +kernel
theorem dX4_carries_84 : DC mX4_carries 84 = .ok (.aload_n 1, 1) := dk_43 (dk_at dksX4_carries_2 0 rfl rfl)
theorem dX4_carries_85 : DC mX4_carries 85 = .ok (.ldc 250, 2) := dk_18 250 (dk_at dksX4_carries_2 1 rfl rfl)
theorem dX4_carries_87 : DC mX4_carries 87 = .ok (.invokevirtual 236, 3) := dk_182 0 236 (dk_at dksX4_carries_2 3 rfl rfl)
theorem dX4_carries_90 : DC mX4_carries 90 = .ok (.ifCond .eq 107, 3) := dk_153 0 107 (dk_at dksX4_carries_2 6 rfl rfl)
theorem dX4_carries_93 : DC mX4_carries 93 = .ok (.iconst 0, 1) := dk_3 (dk_at dksX4_carries_2 9 rfl rfl)
theorem dX4_carries_94 : DC mX4_carries 94 = .ok (.istore_n 2, 1) := dk_61 (dk_at dksX4_carries_2 10 rfl rfl)
theorem dX4_carries_95 : DC mX4_carries 95 = .ok (.goto 102, 3) := dk_167 0 102 (dk_at dksX4_carries_2 11 rfl rfl)
theorem dX4_carries_98 : DC mX4_carries 98 = .ok (.aload_n 1, 1) := dk_43 (dk_at dksX4_carries_2 14 rfl rfl)
theorem dX4_carries_99 : DC mX4_carries 99 = .ok (.ldc 234, 2) := dk_18 234 (dk_at dksX4_carries_2 15 rfl rfl)
theorem dX4_carries_101 : DC mX4_carries 101 = .ok (.invokevirtual 236, 3) := dk_182 0 236 (dk_at dksX4_carries_2 17 rfl rfl)
theorem dX4_carries_104 : DC mX4_carries 104 = .ok (.ifCond .eq 93, 3) := dk_153 0 93 (dk_at dksX4_carries_2 20 rfl rfl)
theorem dX4_carries_107 : DC mX4_carries 107 = .ok (.iconst 1, 1) := dk_4 (dk_at dksX4_carries_2 23 rfl rfl)
theorem dX4_carries_108 : DC mX4_carries 108 = .ok (.istore_n 2, 1) := dk_61 (dk_at dksX4_carries_3 0 rfl rfl)
theorem dX4_carries_109 : DC mX4_carries 109 = .ok (.goto 88, 3) := dk_167 0 88 (dk_at dksX4_carries_3 1 rfl rfl)
theorem dX4_carries_112 : DC mX4_carries 112 = .ok (.aload_n 1, 1) := dk_43 (dk_at dksX4_carries_3 4 rfl rfl)
theorem dX4_carries_113 : DC mX4_carries 113 = .ok (.ldc 240, 2) := dk_18 240 (dk_at dksX4_carries_3 5 rfl rfl)
theorem dX4_carries_115 : DC mX4_carries 115 = .ok (.invokevirtual 236, 3) := dk_182 0 236 (dk_at dksX4_carries_3 7 rfl rfl)
theorem dX4_carries_118 : DC mX4_carries 118 = .ok (.ifCond .eq 79, 3) := dk_153 0 79 (dk_at dksX4_carries_3 10 rfl rfl)
theorem dX4_carries_121 : DC mX4_carries 121 = .ok (.iconst 2, 1) := dk_5 (dk_at dksX4_carries_3 13 rfl rfl)
theorem dX4_carries_122 : DC mX4_carries 122 = .ok (.istore_n 2, 1) := dk_61 (dk_at dksX4_carries_3 14 rfl rfl)
theorem dX4_carries_123 : DC mX4_carries 123 = .ok (.goto 74, 3) := dk_167 0 74 (dk_at dksX4_carries_3 15 rfl rfl)
theorem dX4_carries_126 : DC mX4_carries 126 = .ok (.aload_n 1, 1) := dk_43 (dk_at dksX4_carries_3 18 rfl rfl)
theorem dX4_carries_127 : DC mX4_carries 127 = .ok (.ldc 242, 2) := dk_18 242 (dk_at dksX4_carries_3 19 rfl rfl)
theorem dX4_carries_129 : DC mX4_carries 129 = .ok (.invokevirtual 236, 3) := dk_182 0 236 (dk_at dksX4_carries_3 21 rfl rfl)
theorem dX4_carries_132 : DC mX4_carries 132 = .ok (.ifCond .eq 65, 3) := dk_153 0 65 (dk_at dksX4_carries_4 0 rfl rfl)
theorem dX4_carries_135 : DC mX4_carries 135 = .ok (.iconst 3, 1) := dk_6 (dk_at dksX4_carries_4 3 rfl rfl)
theorem dX4_carries_136 : DC mX4_carries 136 = .ok (.istore_n 2, 1) := dk_61 (dk_at dksX4_carries_4 4 rfl rfl)
theorem dX4_carries_137 : DC mX4_carries 137 = .ok (.goto 60, 3) := dk_167 0 60 (dk_at dksX4_carries_4 5 rfl rfl)
theorem dX4_carries_140 : DC mX4_carries 140 = .ok (.aload_n 1, 1) := dk_43 (dk_at dksX4_carries_4 8 rfl rfl)
theorem dX4_carries_141 : DC mX4_carries 141 = .ok (.ldc 252, 2) := dk_18 252 (dk_at dksX4_carries_4 9 rfl rfl)
theorem dX4_carries_143 : DC mX4_carries 143 = .ok (.invokevirtual 236, 3) := dk_182 0 236 (dk_at dksX4_carries_4 11 rfl rfl)
theorem dX4_carries_146 : DC mX4_carries 146 = .ok (.ifCond .eq 51, 3) := dk_153 0 51 (dk_at dksX4_carries_4 14 rfl rfl)
theorem dX4_carries_149 : DC mX4_carries 149 = .ok (.iconst 4, 1) := dk_7 (dk_at dksX4_carries_4 17 rfl rfl)
theorem dX4_carries_150 : DC mX4_carries 150 = .ok (.istore_n 2, 1) := dk_61 (dk_at dksX4_carries_4 18 rfl rfl)
theorem dX4_carries_151 : DC mX4_carries 151 = .ok (.goto 46, 3) := dk_167 0 46 (dk_at dksX4_carries_4 19 rfl rfl)
theorem dX4_carries_154 : DC mX4_carries 154 = .ok (.aload_n 1, 1) := dk_43 (dk_at dksX4_carries_4 22 rfl rfl)
theorem dX4_carries_155 : DC mX4_carries 155 = .ok (.ldc 254, 2) := dk_18 254 (dk_at dksX4_carries_5 0 rfl rfl)
theorem dX4_carries_157 : DC mX4_carries 157 = .ok (.invokevirtual 236, 3) := dk_182 0 236 (dk_at dksX4_carries_5 2 rfl rfl)
theorem dX4_carries_160 : DC mX4_carries 160 = .ok (.ifCond .eq 37, 3) := dk_153 0 37 (dk_at dksX4_carries_5 5 rfl rfl)
theorem dX4_carries_163 : DC mX4_carries 163 = .ok (.iconst 5, 1) := dk_8 (dk_at dksX4_carries_5 8 rfl rfl)
theorem dX4_carries_164 : DC mX4_carries 164 = .ok (.istore_n 2, 1) := dk_61 (dk_at dksX4_carries_5 9 rfl rfl)
theorem dX4_carries_165 : DC mX4_carries 165 = .ok (.goto 32, 3) := dk_167 0 32 (dk_at dksX4_carries_5 10 rfl rfl)
theorem dX4_carries_168 : DC mX4_carries 168 = .ok (.aload_n 1, 1) := dk_43 (dk_at dksX4_carries_5 13 rfl rfl)
theorem dX4_carries_169 : DC mX4_carries 169 = .ok (.ldc_w 256, 3) := dk_19 1 0 (dk_at dksX4_carries_5 14 rfl rfl)
theorem dX4_carries_172 : DC mX4_carries 172 = .ok (.invokevirtual 236, 3) := dk_182 0 236 (dk_at dksX4_carries_5 17 rfl rfl)
theorem dX4_carries_175 : DC mX4_carries 175 = .ok (.ifCond .eq 22, 3) := dk_153 0 22 (dk_at dksX4_carries_5 20 rfl rfl)
theorem dX4_carries_178 : DC mX4_carries 178 = .ok (.bipush 6, 2) := dk_16 6 (dk_at dksX4_carries_6 0 rfl rfl)
theorem dX4_carries_180 : DC mX4_carries 180 = .ok (.istore_n 2, 1) := dk_61 (dk_at dksX4_carries_6 2 rfl rfl)
theorem dX4_carries_181 : DC mX4_carries 181 = .ok (.goto 16, 3) := dk_167 0 16 (dk_at dksX4_carries_6 3 rfl rfl)
theorem dX4_carries_184 : DC mX4_carries 184 = .ok (.aload_n 1, 1) := dk_43 (dk_at dksX4_carries_6 6 rfl rfl)
theorem dX4_carries_185 : DC mX4_carries 185 = .ok (.ldc_w 258, 3) := dk_19 1 2 (dk_at dksX4_carries_6 7 rfl rfl)
theorem dX4_carries_188 : DC mX4_carries 188 = .ok (.invokevirtual 236, 3) := dk_182 0 236 (dk_at dksX4_carries_6 10 rfl rfl)
theorem dX4_carries_191 : DC mX4_carries 191 = .ok (.ifCond .eq 6, 3) := dk_153 0 6 (dk_at dksX4_carries_6 13 rfl rfl)
theorem dX4_carries_194 : DC mX4_carries 194 = .ok (.bipush 7, 2) := dk_16 7 (dk_at dksX4_carries_6 16 rfl rfl)
theorem dX4_carries_196 : DC mX4_carries 196 = .ok (.istore_n 2, 1) := dk_61 (dk_at dksX4_carries_6 18 rfl rfl)
theorem dX4_carries_197 : DC mX4_carries 197 = .ok (.iload_n 2, 1) := dk_28 (dk_at dksX4_carries_6 19 rfl rfl)
theorem dX4_carries_198 : DC mX4_carries 198 = .ok (.tableswitch 188 0 7 #[46, 57, 82, 112, 142, 153, 164, 176], 46) := by decide +kernel
theorem dX4_carries_244 : DC mX4_carries 244 = .ok (.aload_n 0, 1) := dk_42 (dk_at dksX4_carries_8 0 rfl rfl)
theorem dX4_carries_245 : DC mX4_carries 245 = .ok (.aload_n 0, 1) := dk_42 (dk_at dksX4_carries_8 1 rfl rfl)
theorem dX4_carries_246 : DC mX4_carries 246 = .ok (.getfield 38, 3) := dk_180 0 38 (dk_at dksX4_carries_8 2 rfl rfl)
theorem dX4_carries_249 : DC mX4_carries 249 = .ok (.iconst 0, 1) := dk_3 (dk_at dksX4_carries_8 5 rfl rfl)
theorem dX4_carries_250 : DC mX4_carries 250 = .ok (.iaload, 1) := dk_46 (dk_at dksX4_carries_8 6 rfl rfl)
theorem dX4_carries_251 : DC mX4_carries 251 = .ok (.invokevirtual 86, 3) := dk_182 0 86 (dk_at dksX4_carries_8 7 rfl rfl)
theorem dX4_carries_254 : DC mX4_carries 254 = .ok (.ireturn, 1) := dk_172 (dk_at dksX4_carries_8 10 rfl rfl)
theorem dX4_carries_255 : DC mX4_carries 255 = .ok (.aload_n 0, 1) := dk_42 (dk_at dksX4_carries_8 11 rfl rfl)
theorem dX4_carries_256 : DC mX4_carries 256 = .ok (.aload_n 0, 1) := dk_42 (dk_at dksX4_carries_8 12 rfl rfl)
theorem dX4_carries_257 : DC mX4_carries 257 = .ok (.getfield 38, 3) := dk_180 0 38 (dk_at dksX4_carries_8 13 rfl rfl)
theorem dX4_carries_260 : DC mX4_carries 260 = .ok (.iconst 0, 1) := dk_3 (dk_at dksX4_carries_8 16 rfl rfl)
theorem dX4_carries_261 : DC mX4_carries 261 = .ok (.iaload, 1) := dk_46 (dk_at dksX4_carries_8 17 rfl rfl)
theorem dX4_carries_262 : DC mX4_carries 262 = .ok (.iconst 0, 1) := dk_3 (dk_at dksX4_carries_8 18 rfl rfl)
theorem dX4_carries_263 : DC mX4_carries 263 = .ok (.aload_n 0, 1) := dk_42 (dk_at dksX4_carries_8 19 rfl rfl)
theorem dX4_carries_264 : DC mX4_carries 264 = .ok (.getfield 38, 3) := dk_180 0 38 (dk_at dksX4_carries_8 20 rfl rfl)
theorem dX4_carries_267 : DC mX4_carries 267 = .ok (.iconst 1, 1) := dk_4 (dk_at dksX4_carries_8 23 rfl rfl)
theorem dX4_carries_268 : DC mX4_carries 268 = .ok (.iaload, 1) := dk_46 (dk_at dksX4_carries_9 0 rfl rfl)
theorem dX4_carries_269 : DC mX4_carries 269 = .ok (.aload_n 0, 1) := dk_42 (dk_at dksX4_carries_9 1 rfl rfl)
theorem dX4_carries_270 : DC mX4_carries 270 = .ok (.getfield 38, 3) := dk_180 0 38 (dk_at dksX4_carries_9 2 rfl rfl)
theorem dX4_carries_273 : DC mX4_carries 273 = .ok (.iconst 2, 1) := dk_5 (dk_at dksX4_carries_9 5 rfl rfl)
theorem dX4_carries_274 : DC mX4_carries 274 = .ok (.iaload, 1) := dk_46 (dk_at dksX4_carries_9 6 rfl rfl)
theorem dX4_carries_275 : DC mX4_carries 275 = .ok (.iconst 1, 1) := dk_4 (dk_at dksX4_carries_9 7 rfl rfl)
theorem dX4_carries_276 : DC mX4_carries 276 = .ok (.invokevirtual 111, 3) := dk_182 0 111 (dk_at dksX4_carries_9 8 rfl rfl)
theorem dX4_carries_279 : DC mX4_carries 279 = .ok (.ireturn, 1) := dk_172 (dk_at dksX4_carries_9 11 rfl rfl)
theorem dX4_carries_280 : DC mX4_carries 280 = .ok (.aload_n 0, 1) := dk_42 (dk_at dksX4_carries_9 12 rfl rfl)
theorem dX4_carries_281 : DC mX4_carries 281 = .ok (.aload_n 0, 1) := dk_42 (dk_at dksX4_carries_9 13 rfl rfl)
theorem dX4_carries_282 : DC mX4_carries 282 = .ok (.getfield 38, 3) := dk_180 0 38 (dk_at dksX4_carries_9 14 rfl rfl)
theorem dX4_carries_285 : DC mX4_carries 285 = .ok (.iconst 0, 1) := dk_3 (dk_at dksX4_carries_9 17 rfl rfl)
theorem dX4_carries_286 : DC mX4_carries 286 = .ok (.iaload, 1) := dk_46 (dk_at dksX4_carries_9 18 rfl rfl)
theorem dX4_carries_287 : DC mX4_carries 287 = .ok (.iconst 1, 1) := dk_4 (dk_at dksX4_carries_9 19 rfl rfl)
theorem dX4_carries_288 : DC mX4_carries 288 = .ok (.aload_n 0, 1) := dk_42 (dk_at dksX4_carries_9 20 rfl rfl)
theorem dX4_carries_289 : DC mX4_carries 289 = .ok (.getfield 38, 3) := dk_180 0 38 (dk_at dksX4_carries_9 21 rfl rfl)
theorem dX4_carries_292 : DC mX4_carries 292 = .ok (.iconst 1, 1) := dk_4 (dk_at dksX4_carries_10 0 rfl rfl)
theorem dX4_carries_293 : DC mX4_carries 293 = .ok (.iaload, 1) := dk_46 (dk_at dksX4_carries_10 1 rfl rfl)
theorem dX4_carries_294 : DC mX4_carries 294 = .ok (.aload_n 0, 1) := dk_42 (dk_at dksX4_carries_10 2 rfl rfl)
theorem dX4_carries_295 : DC mX4_carries 295 = .ok (.getfield 38, 3) := dk_180 0 38 (dk_at dksX4_carries_10 3 rfl rfl)
theorem dX4_carries_298 : DC mX4_carries 298 = .ok (.iconst 2, 1) := dk_5 (dk_at dksX4_carries_10 6 rfl rfl)
theorem dX4_carries_299 : DC mX4_carries 299 = .ok (.iaload, 1) := dk_46 (dk_at dksX4_carries_10 7 rfl rfl)
theorem dX4_carries_300 : DC mX4_carries 300 = .ok (.aload_n 0, 1) := dk_42 (dk_at dksX4_carries_10 8 rfl rfl)
theorem dX4_carries_301 : DC mX4_carries 301 = .ok (.getfield 38, 3) := dk_180 0 38 (dk_at dksX4_carries_10 9 rfl rfl)
theorem dX4_carries_304 : DC mX4_carries 304 = .ok (.iconst 3, 1) := dk_6 (dk_at dksX4_carries_10 12 rfl rfl)
theorem dX4_carries_305 : DC mX4_carries 305 = .ok (.iaload, 1) := dk_46 (dk_at dksX4_carries_10 13 rfl rfl)
theorem dX4_carries_306 : DC mX4_carries 306 = .ok (.invokevirtual 111, 3) := dk_182 0 111 (dk_at dksX4_carries_10 14 rfl rfl)
theorem dX4_carries_309 : DC mX4_carries 309 = .ok (.ireturn, 1) := dk_172 (dk_at dksX4_carries_10 17 rfl rfl)
theorem dX4_carries_310 : DC mX4_carries 310 = .ok (.aload_n 0, 1) := dk_42 (dk_at dksX4_carries_10 18 rfl rfl)
theorem dX4_carries_311 : DC mX4_carries 311 = .ok (.aload_n 0, 1) := dk_42 (dk_at dksX4_carries_10 19 rfl rfl)
theorem dX4_carries_312 : DC mX4_carries 312 = .ok (.getfield 38, 3) := dk_180 0 38 (dk_at dksX4_carries_10 20 rfl rfl)
theorem dX4_carries_315 : DC mX4_carries 315 = .ok (.iconst 0, 1) := dk_3 (dk_at dksX4_carries_10 23 rfl rfl)
theorem dX4_carries_316 : DC mX4_carries 316 = .ok (.iaload, 1) := dk_46 (dk_at dksX4_carries_11 0 rfl rfl)
theorem dX4_carries_317 : DC mX4_carries 317 = .ok (.iconst 2, 1) := dk_5 (dk_at dksX4_carries_11 1 rfl rfl)
theorem dX4_carries_318 : DC mX4_carries 318 = .ok (.aload_n 0, 1) := dk_42 (dk_at dksX4_carries_11 2 rfl rfl)
theorem dX4_carries_319 : DC mX4_carries 319 = .ok (.getfield 38, 3) := dk_180 0 38 (dk_at dksX4_carries_11 3 rfl rfl)
theorem dX4_carries_322 : DC mX4_carries 322 = .ok (.iconst 1, 1) := dk_4 (dk_at dksX4_carries_11 6 rfl rfl)
theorem dX4_carries_323 : DC mX4_carries 323 = .ok (.iaload, 1) := dk_46 (dk_at dksX4_carries_11 7 rfl rfl)
theorem dX4_carries_324 : DC mX4_carries 324 = .ok (.aload_n 0, 1) := dk_42 (dk_at dksX4_carries_11 8 rfl rfl)
theorem dX4_carries_325 : DC mX4_carries 325 = .ok (.getfield 38, 3) := dk_180 0 38 (dk_at dksX4_carries_11 9 rfl rfl)
theorem dX4_carries_328 : DC mX4_carries 328 = .ok (.iconst 2, 1) := dk_5 (dk_at dksX4_carries_11 12 rfl rfl)
theorem dX4_carries_329 : DC mX4_carries 329 = .ok (.iaload, 1) := dk_46 (dk_at dksX4_carries_11 13 rfl rfl)
theorem dX4_carries_330 : DC mX4_carries 330 = .ok (.aload_n 0, 1) := dk_42 (dk_at dksX4_carries_11 14 rfl rfl)
theorem dX4_carries_331 : DC mX4_carries 331 = .ok (.getfield 38, 3) := dk_180 0 38 (dk_at dksX4_carries_11 15 rfl rfl)
theorem dX4_carries_334 : DC mX4_carries 334 = .ok (.iconst 3, 1) := dk_6 (dk_at dksX4_carries_11 18 rfl rfl)
theorem dX4_carries_335 : DC mX4_carries 335 = .ok (.iaload, 1) := dk_46 (dk_at dksX4_carries_11 19 rfl rfl)
theorem dX4_carries_336 : DC mX4_carries 336 = .ok (.invokevirtual 111, 3) := dk_182 0 111 (dk_at dksX4_carries_11 20 rfl rfl)
theorem dX4_carries_339 : DC mX4_carries 339 = .ok (.ireturn, 1) := dk_172 (dk_at dksX4_carries_11 23 rfl rfl)
theorem dX4_carries_340 : DC mX4_carries 340 = .ok (.aload_n 0, 1) := dk_42 (dk_at dksX4_carries_12 0 rfl rfl)
theorem dX4_carries_341 : DC mX4_carries 341 = .ok (.aload_n 0, 1) := dk_42 (dk_at dksX4_carries_12 1 rfl rfl)
theorem dX4_carries_342 : DC mX4_carries 342 = .ok (.getfield 38, 3) := dk_180 0 38 (dk_at dksX4_carries_12 2 rfl rfl)
theorem dX4_carries_345 : DC mX4_carries 345 = .ok (.iconst 0, 1) := dk_3 (dk_at dksX4_carries_12 5 rfl rfl)
theorem dX4_carries_346 : DC mX4_carries 346 = .ok (.iaload, 1) := dk_46 (dk_at dksX4_carries_12 6 rfl rfl)
theorem dX4_carries_347 : DC mX4_carries 347 = .ok (.invokevirtual 118, 3) := dk_182 0 118 (dk_at dksX4_carries_12 7 rfl rfl)
theorem dX4_carries_350 : DC mX4_carries 350 = .ok (.ireturn, 1) := dk_172 (dk_at dksX4_carries_12 10 rfl rfl)
theorem dX4_carries_351 : DC mX4_carries 351 = .ok (.aload_n 0, 1) := dk_42 (dk_at dksX4_carries_12 11 rfl rfl)
theorem dX4_carries_352 : DC mX4_carries 352 = .ok (.aload_n 0, 1) := dk_42 (dk_at dksX4_carries_12 12 rfl rfl)
theorem dX4_carries_353 : DC mX4_carries 353 = .ok (.getfield 38, 3) := dk_180 0 38 (dk_at dksX4_carries_12 13 rfl rfl)
theorem dX4_carries_356 : DC mX4_carries 356 = .ok (.iconst 0, 1) := dk_3 (dk_at dksX4_carries_12 16 rfl rfl)
theorem dX4_carries_357 : DC mX4_carries 357 = .ok (.iaload, 1) := dk_46 (dk_at dksX4_carries_12 17 rfl rfl)
theorem dX4_carries_358 : DC mX4_carries 358 = .ok (.invokevirtual 128, 3) := dk_182 0 128 (dk_at dksX4_carries_12 18 rfl rfl)
theorem dX4_carries_361 : DC mX4_carries 361 = .ok (.ireturn, 1) := dk_172 (dk_at dksX4_carries_12 21 rfl rfl)
theorem dX4_carries_362 : DC mX4_carries 362 = .ok (.aload_n 0, 1) := dk_42 (dk_at dksX4_carries_12 22 rfl rfl)
theorem dX4_carries_363 : DC mX4_carries 363 = .ok (.aload_n 0, 1) := dk_42 (dk_at dksX4_carries_12 23 rfl rfl)
theorem dX4_carries_364 : DC mX4_carries 364 = .ok (.getfield 38, 3) := dk_180 0 38 (dk_at dksX4_carries_13 0 rfl rfl)
theorem dX4_carries_367 : DC mX4_carries 367 = .ok (.iconst 0, 1) := dk_3 (dk_at dksX4_carries_13 3 rfl rfl)
theorem dX4_carries_368 : DC mX4_carries 368 = .ok (.iaload, 1) := dk_46 (dk_at dksX4_carries_13 4 rfl rfl)
theorem dX4_carries_369 : DC mX4_carries 369 = .ok (.iconst 1, 1) := dk_4 (dk_at dksX4_carries_13 5 rfl rfl)
theorem dX4_carries_370 : DC mX4_carries 370 = .ok (.invokevirtual 135, 3) := dk_182 0 135 (dk_at dksX4_carries_13 6 rfl rfl)
theorem dX4_carries_373 : DC mX4_carries 373 = .ok (.ireturn, 1) := dk_172 (dk_at dksX4_carries_13 9 rfl rfl)
theorem dX4_carries_374 : DC mX4_carries 374 = .ok (.aload_n 0, 1) := dk_42 (dk_at dksX4_carries_13 10 rfl rfl)
theorem dX4_carries_375 : DC mX4_carries 375 = .ok (.aload_n 0, 1) := dk_42 (dk_at dksX4_carries_13 11 rfl rfl)
theorem dX4_carries_376 : DC mX4_carries 376 = .ok (.getfield 38, 3) := dk_180 0 38 (dk_at dksX4_carries_13 12 rfl rfl)
theorem dX4_carries_379 : DC mX4_carries 379 = .ok (.iconst 0, 1) := dk_3 (dk_at dksX4_carries_13 15 rfl rfl)
theorem dX4_carries_380 : DC mX4_carries 380 = .ok (.iaload, 1) := dk_46 (dk_at dksX4_carries_13 16 rfl rfl)
theorem dX4_carries_381 : DC mX4_carries 381 = .ok (.iconst 0, 1) := dk_3 (dk_at dksX4_carries_13 17 rfl rfl)
theorem dX4_carries_382 : DC mX4_carries 382 = .ok (.invokevirtual 135, 3) := dk_182 0 135 (dk_at dksX4_carries_13 18 rfl rfl)
theorem dX4_carries_385 : DC mX4_carries 385 = .ok (.ireturn, 1) := dk_172 (dk_at dksX4_carries_13 21 rfl rfl)
theorem dX4_carries_386 : DC mX4_carries 386 = .ok (.aload_n 0, 1) := dk_42 (dk_at dksX4_carries_13 22 rfl rfl)
theorem dX4_carries_387 : DC mX4_carries 387 = .ok (.aload_n 0, 1) := dk_42 (dk_at dksX4_carries_13 23 rfl rfl)
theorem dX4_carries_388 : DC mX4_carries 388 = .ok (.getfield 38, 3) := dk_180 0 38 (dk_at dksX4_carries_14 0 rfl rfl)
theorem dX4_carries_391 : DC mX4_carries 391 = .ok (.iconst 0, 1) := dk_3 (dk_at dksX4_carries_14 3 rfl rfl)
theorem dX4_carries_392 : DC mX4_carries 392 = .ok (.iaload, 1) := dk_46 (dk_at dksX4_carries_14 4 rfl rfl)
theorem dX4_carries_393 : DC mX4_carries 393 = .ok (.invokevirtual 172, 3) := dk_182 0 172 (dk_at dksX4_carries_14 5 rfl rfl)
theorem dX4_carries_396 : DC mX4_carries 396 = .ok (.ireturn, 1) := dk_172 (dk_at dksX4_carries_14 8 rfl rfl)
abbrev cX4_comesBack : ByteArray := prog_13_method_6_code
def yX4_comesBack : MethodName := ⟨RX4, "comesBack", "()V"⟩
def mX4_comesBack : MI := (⟨"TheatreSagaModel", "comesBack", "()V"⟩, prog_13_method_6_code, 2, (Option.none : Option FieldType), none, 42, 1)
theorem oX4_comesBack : mO mX4_comesBack = 42 := rfl
theorem lX4_comesBack : mL mX4_comesBack = 2 := rfl
theorem rX4_comesBack : mR mX4_comesBack = (Option.none : Option FieldType) := rfl
theorem vX4_comesBack : mV mX4_comesBack = 1 := rfl
theorem nX4_comesBack : (mY mX4_comesBack).name = "comesBack" := rfl
theorem hX4_comesBack : mH mX4_comesBack = none := rfl
theorem kX4_comesBack : MOk mX4_comesBack := ⟨q2785, q91, by decide +kernel⟩
theorem gX4_comesBack : plainName (mY mX4_comesBack).cls = true ∧ (mY mX4_comesBack).cls = "TheatreSagaModel" := ⟨by decide +kernel, rfl⟩
def dkwX4_comesBack_1 : List UInt8 := [167, 255, 234, 177]
abbrev dktX4_comesBack_1 : List UInt8 := dkwX4_comesBack_1 ++ []
def dkwX4_comesBack_0 : List UInt8 := [3, 60, 27, 17, 1, 62, 162, 0, 21, 42, 180, 0, 9, 27, 42, 180, 0, 13, 27, 46, 79, 132, 1, 1]
abbrev dktX4_comesBack_0 : List UInt8 := dkwX4_comesBack_0 ++ dktX4_comesBack_1
theorem dksX4_comesBack_0 : cX4_comesBack.data.toList.drop 0 = dktX4_comesBack_0 := by decide +kernel
theorem dksX4_comesBack_1 : cX4_comesBack.data.toList.drop 24 = dktX4_comesBack_1 := dk_seg dksX4_comesBack_0 24 rfl rfl
theorem dX4_comesBack_0 : DC mX4_comesBack 0 = .ok (.iconst 0, 1) := dk_3 (dk_at dksX4_comesBack_0 0 rfl rfl)
theorem dX4_comesBack_1 : DC mX4_comesBack 1 = .ok (.istore_n 1, 1) := dk_60 (dk_at dksX4_comesBack_0 1 rfl rfl)
theorem dX4_comesBack_2 : DC mX4_comesBack 2 = .ok (.iload_n 1, 1) := dk_27 (dk_at dksX4_comesBack_0 2 rfl rfl)
theorem dX4_comesBack_3 : DC mX4_comesBack 3 = .ok (.sipush 318, 3) := dk_17 1 62 (dk_at dksX4_comesBack_0 3 rfl rfl)
theorem dX4_comesBack_6 : DC mX4_comesBack 6 = .ok (.if_icmp .ge 21, 3) := dk_162 0 21 (dk_at dksX4_comesBack_0 6 rfl rfl)
theorem dX4_comesBack_9 : DC mX4_comesBack 9 = .ok (.aload_n 0, 1) := dk_42 (dk_at dksX4_comesBack_0 9 rfl rfl)
theorem dX4_comesBack_10 : DC mX4_comesBack 10 = .ok (.getfield 9, 3) := dk_180 0 9 (dk_at dksX4_comesBack_0 10 rfl rfl)
theorem dX4_comesBack_13 : DC mX4_comesBack 13 = .ok (.iload_n 1, 1) := dk_27 (dk_at dksX4_comesBack_0 13 rfl rfl)
theorem dX4_comesBack_14 : DC mX4_comesBack 14 = .ok (.aload_n 0, 1) := dk_42 (dk_at dksX4_comesBack_0 14 rfl rfl)
theorem dX4_comesBack_15 : DC mX4_comesBack 15 = .ok (.getfield 13, 3) := dk_180 0 13 (dk_at dksX4_comesBack_0 15 rfl rfl)
theorem dX4_comesBack_18 : DC mX4_comesBack 18 = .ok (.iload_n 1, 1) := dk_27 (dk_at dksX4_comesBack_0 18 rfl rfl)
theorem dX4_comesBack_19 : DC mX4_comesBack 19 = .ok (.iaload, 1) := dk_46 (dk_at dksX4_comesBack_0 19 rfl rfl)
theorem dX4_comesBack_20 : DC mX4_comesBack 20 = .ok (.iastore, 1) := dk_79 (dk_at dksX4_comesBack_0 20 rfl rfl)
theorem dX4_comesBack_21 : DC mX4_comesBack 21 = .ok (.iinc 1 1, 3) := dk_132 1 1 (dk_at dksX4_comesBack_0 21 rfl rfl)
theorem dX4_comesBack_24 : DC mX4_comesBack 24 = .ok (.goto (-22), 3) := dk_167 255 234 (dk_at dksX4_comesBack_1 0 rfl rfl)
theorem dX4_comesBack_27 : DC mX4_comesBack 27 = .ok (.return_, 1) := dk_177 (dk_at dksX4_comesBack_1 3 rfl rfl)
abbrev cX4_faultPosition : ByteArray := prog_13_method_72_code
def yX4_faultPosition : MethodName := ⟨RX4, "faultPosition", "()I"⟩
def mX4_faultPosition : MI := (⟨"TheatreSagaModel", "faultPosition", "()I"⟩, prog_13_method_72_code, 1, (Option.some FieldType.int), none, 42, 2)
theorem oX4_faultPosition : mO mX4_faultPosition = 42 := rfl
theorem lX4_faultPosition : mL mX4_faultPosition = 1 := rfl
theorem rX4_faultPosition : mR mX4_faultPosition = (Option.some FieldType.int) := rfl
theorem vX4_faultPosition : mV mX4_faultPosition = 2 := rfl
theorem nX4_faultPosition : (mY mX4_faultPosition).name = "faultPosition" := rfl
theorem hX4_faultPosition : mH mX4_faultPosition = none := rfl
theorem kX4_faultPosition : MOk mX4_faultPosition := ⟨q2789, q91, by decide +kernel⟩
theorem gX4_faultPosition : plainName (mY mX4_faultPosition).cls = true ∧ (mY mX4_faultPosition).cls = "TheatreSagaModel" := ⟨by decide +kernel, rfl⟩
def dkwX4_faultPosition_1 : List UInt8 := [172]
abbrev dktX4_faultPosition_1 : List UInt8 := dkwX4_faultPosition_1 ++ []
def dkwX4_faultPosition_0 : List UInt8 := [42, 3, 181, 0, 45, 42, 180, 0, 41, 156, 0, 11, 42, 4, 182, 0, 92, 167, 0, 7, 42, 180, 0, 41]
abbrev dktX4_faultPosition_0 : List UInt8 := dkwX4_faultPosition_0 ++ dktX4_faultPosition_1
theorem dksX4_faultPosition_0 : cX4_faultPosition.data.toList.drop 0 = dktX4_faultPosition_0 := by decide +kernel
theorem dksX4_faultPosition_1 : cX4_faultPosition.data.toList.drop 24 = dktX4_faultPosition_1 := dk_seg dksX4_faultPosition_0 24 rfl rfl
theorem dX4_faultPosition_0 : DC mX4_faultPosition 0 = .ok (.aload_n 0, 1) := dk_42 (dk_at dksX4_faultPosition_0 0 rfl rfl)
theorem dX4_faultPosition_1 : DC mX4_faultPosition 1 = .ok (.iconst 0, 1) := dk_3 (dk_at dksX4_faultPosition_0 1 rfl rfl)
theorem dX4_faultPosition_2 : DC mX4_faultPosition 2 = .ok (.putfield 45, 3) := dk_181 0 45 (dk_at dksX4_faultPosition_0 2 rfl rfl)
theorem dX4_faultPosition_5 : DC mX4_faultPosition 5 = .ok (.aload_n 0, 1) := dk_42 (dk_at dksX4_faultPosition_0 5 rfl rfl)
theorem dX4_faultPosition_6 : DC mX4_faultPosition 6 = .ok (.getfield 41, 3) := dk_180 0 41 (dk_at dksX4_faultPosition_0 6 rfl rfl)
theorem dX4_faultPosition_9 : DC mX4_faultPosition 9 = .ok (.ifCond .ge 11, 3) := dk_156 0 11 (dk_at dksX4_faultPosition_0 9 rfl rfl)
theorem dX4_faultPosition_12 : DC mX4_faultPosition 12 = .ok (.aload_n 0, 1) := dk_42 (dk_at dksX4_faultPosition_0 12 rfl rfl)
theorem dX4_faultPosition_13 : DC mX4_faultPosition 13 = .ok (.iconst 1, 1) := dk_4 (dk_at dksX4_faultPosition_0 13 rfl rfl)
theorem dX4_faultPosition_14 : DC mX4_faultPosition 14 = .ok (.invokevirtual 92, 3) := dk_182 0 92 (dk_at dksX4_faultPosition_0 14 rfl rfl)
theorem dX4_faultPosition_17 : DC mX4_faultPosition 17 = .ok (.goto 7, 3) := dk_167 0 7 (dk_at dksX4_faultPosition_0 17 rfl rfl)
theorem dX4_faultPosition_20 : DC mX4_faultPosition 20 = .ok (.aload_n 0, 1) := dk_42 (dk_at dksX4_faultPosition_0 20 rfl rfl)
theorem dX4_faultPosition_21 : DC mX4_faultPosition 21 = .ok (.getfield 41, 3) := dk_180 0 41 (dk_at dksX4_faultPosition_0 21 rfl rfl)
theorem dX4_faultPosition_24 : DC mX4_faultPosition 24 = .ok (.ireturn, 1) := dk_172 (dk_at dksX4_faultPosition_1 0 rfl rfl)
abbrev cX4_refusal : ByteArray := prog_13_method_73_code
def yX4_refusal : MethodName := ⟨RX4, "refusal", "(Z)I"⟩
def mX4_refusal : MI := (⟨"TheatreSagaModel", "refusal", "(Z)I"⟩, prog_13_method_73_code, 2, (Option.some FieldType.int), none, 42, 2)
theorem oX4_refusal : mO mX4_refusal = 42 := rfl
theorem lX4_refusal : mL mX4_refusal = 2 := rfl
theorem rX4_refusal : mR mX4_refusal = (Option.some FieldType.int) := rfl
theorem vX4_refusal : mV mX4_refusal = 2 := rfl
theorem nX4_refusal : (mY mX4_refusal).name = "refusal" := rfl
theorem hX4_refusal : mH mX4_refusal = none := rfl
theorem kX4_refusal : MOk mX4_refusal := ⟨q2793, q91, by decide +kernel⟩
theorem gX4_refusal : plainName (mY mX4_refusal).cls = true ∧ (mY mX4_refusal).cls = "TheatreSagaModel" := ⟨by decide +kernel, rfl⟩
def dkwX4_refusal_1 : List UInt8 := [180, 0, 54, 167, 0, 7, 42, 180, 0, 57, 172]
abbrev dktX4_refusal_1 : List UInt8 := dkwX4_refusal_1 ++ []
def dkwX4_refusal_0 : List UInt8 := [42, 3, 181, 0, 45, 42, 180, 0, 54, 154, 0, 9, 42, 4, 182, 0, 92, 172, 27, 153, 0, 10, 42]
abbrev dktX4_refusal_0 : List UInt8 := dkwX4_refusal_0 ++ dktX4_refusal_1
theorem dksX4_refusal_0 : cX4_refusal.data.toList.drop 0 = dktX4_refusal_0 := by decide +kernel
theorem dksX4_refusal_1 : cX4_refusal.data.toList.drop 23 = dktX4_refusal_1 := dk_seg dksX4_refusal_0 23 rfl rfl
theorem dX4_refusal_0 : DC mX4_refusal 0 = .ok (.aload_n 0, 1) := dk_42 (dk_at dksX4_refusal_0 0 rfl rfl)
theorem dX4_refusal_1 : DC mX4_refusal 1 = .ok (.iconst 0, 1) := dk_3 (dk_at dksX4_refusal_0 1 rfl rfl)
theorem dX4_refusal_2 : DC mX4_refusal 2 = .ok (.putfield 45, 3) := dk_181 0 45 (dk_at dksX4_refusal_0 2 rfl rfl)
theorem dX4_refusal_5 : DC mX4_refusal 5 = .ok (.aload_n 0, 1) := dk_42 (dk_at dksX4_refusal_0 5 rfl rfl)
theorem dX4_refusal_6 : DC mX4_refusal 6 = .ok (.getfield 54, 3) := dk_180 0 54 (dk_at dksX4_refusal_0 6 rfl rfl)
theorem dX4_refusal_9 : DC mX4_refusal 9 = .ok (.ifCond .ne 9, 3) := dk_154 0 9 (dk_at dksX4_refusal_0 9 rfl rfl)
theorem dX4_refusal_12 : DC mX4_refusal 12 = .ok (.aload_n 0, 1) := dk_42 (dk_at dksX4_refusal_0 12 rfl rfl)
theorem dX4_refusal_13 : DC mX4_refusal 13 = .ok (.iconst 1, 1) := dk_4 (dk_at dksX4_refusal_0 13 rfl rfl)
theorem dX4_refusal_14 : DC mX4_refusal 14 = .ok (.invokevirtual 92, 3) := dk_182 0 92 (dk_at dksX4_refusal_0 14 rfl rfl)
theorem dX4_refusal_17 : DC mX4_refusal 17 = .ok (.ireturn, 1) := dk_172 (dk_at dksX4_refusal_0 17 rfl rfl)
theorem dX4_refusal_18 : DC mX4_refusal 18 = .ok (.iload_n 1, 1) := dk_27 (dk_at dksX4_refusal_0 18 rfl rfl)
theorem dX4_refusal_19 : DC mX4_refusal 19 = .ok (.ifCond .eq 10, 3) := dk_153 0 10 (dk_at dksX4_refusal_0 19 rfl rfl)
theorem dX4_refusal_22 : DC mX4_refusal 22 = .ok (.aload_n 0, 1) := dk_42 (dk_at dksX4_refusal_0 22 rfl rfl)
theorem dX4_refusal_23 : DC mX4_refusal 23 = .ok (.getfield 54, 3) := dk_180 0 54 (dk_at dksX4_refusal_1 0 rfl rfl)
theorem dX4_refusal_26 : DC mX4_refusal 26 = .ok (.goto 7, 3) := dk_167 0 7 (dk_at dksX4_refusal_1 3 rfl rfl)
theorem dX4_refusal_29 : DC mX4_refusal 29 = .ok (.aload_n 0, 1) := dk_42 (dk_at dksX4_refusal_1 6 rfl rfl)
theorem dX4_refusal_30 : DC mX4_refusal 30 = .ok (.getfield 57, 3) := dk_180 0 57 (dk_at dksX4_refusal_1 7 rfl rfl)
theorem dX4_refusal_33 : DC mX4_refusal 33 = .ok (.ireturn, 1) := dk_172 (dk_at dksX4_refusal_1 10 rfl rfl)
abbrev cX4_undo : ByteArray := prog_13_method_74_code
def yX4_undo : MethodName := ⟨RX4, "undo", "()I"⟩
def mX4_undo : MI := (⟨"TheatreSagaModel", "undo", "()I"⟩, prog_13_method_74_code, 2, (Option.some FieldType.int), none, 42, 2)
theorem oX4_undo : mO mX4_undo = 42 := rfl
theorem lX4_undo : mL mX4_undo = 2 := rfl
theorem rX4_undo : mR mX4_undo = (Option.some FieldType.int) := rfl
theorem vX4_undo : mV mX4_undo = 2 := rfl
theorem nX4_undo : (mY mX4_undo).name = "undo" := rfl
theorem hX4_undo : mH mX4_undo = none := rfl
theorem kX4_undo : MOk mX4_undo := ⟨q2797, q91, by decide +kernel⟩
theorem gX4_undo : plainName (mY mX4_undo).cls = true ∧ (mY mX4_undo).cls = "TheatreSagaModel" := ⟨by decide +kernel, rfl⟩
def dkwX4_undo_2 : List UInt8 := [17, 1, 62, 42, 180, 0, 48, 104, 27, 96, 46, 79, 132, 1, 1, 167, 255, 225, 42, 180, 0, 48, 172]
abbrev dktX4_undo_2 : List UInt8 := dkwX4_undo_2 ++ []
def dkwX4_undo_1 : List UInt8 := [100, 181, 0, 48, 3, 60, 27, 17, 1, 62, 162, 0, 30, 42, 180, 0, 9, 27, 42, 180, 0, 19]
abbrev dktX4_undo_1 : List UInt8 := dkwX4_undo_1 ++ dktX4_undo_2
def dkwX4_undo_0 : List UInt8 := [42, 3, 181, 0, 45, 42, 180, 0, 48, 154, 0, 9, 42, 4, 182, 0, 92, 172, 42, 89, 180, 0, 48, 4]
abbrev dktX4_undo_0 : List UInt8 := dkwX4_undo_0 ++ dktX4_undo_1
theorem dksX4_undo_0 : cX4_undo.data.toList.drop 0 = dktX4_undo_0 := by decide +kernel
theorem dksX4_undo_1 : cX4_undo.data.toList.drop 24 = dktX4_undo_1 := dk_seg dksX4_undo_0 24 rfl rfl
theorem dksX4_undo_2 : cX4_undo.data.toList.drop 46 = dktX4_undo_2 := dk_seg dksX4_undo_1 22 rfl rfl
theorem dX4_undo_0 : DC mX4_undo 0 = .ok (.aload_n 0, 1) := dk_42 (dk_at dksX4_undo_0 0 rfl rfl)
theorem dX4_undo_1 : DC mX4_undo 1 = .ok (.iconst 0, 1) := dk_3 (dk_at dksX4_undo_0 1 rfl rfl)
theorem dX4_undo_2 : DC mX4_undo 2 = .ok (.putfield 45, 3) := dk_181 0 45 (dk_at dksX4_undo_0 2 rfl rfl)
theorem dX4_undo_5 : DC mX4_undo 5 = .ok (.aload_n 0, 1) := dk_42 (dk_at dksX4_undo_0 5 rfl rfl)
theorem dX4_undo_6 : DC mX4_undo 6 = .ok (.getfield 48, 3) := dk_180 0 48 (dk_at dksX4_undo_0 6 rfl rfl)
theorem dX4_undo_9 : DC mX4_undo 9 = .ok (.ifCond .ne 9, 3) := dk_154 0 9 (dk_at dksX4_undo_0 9 rfl rfl)
theorem dX4_undo_12 : DC mX4_undo 12 = .ok (.aload_n 0, 1) := dk_42 (dk_at dksX4_undo_0 12 rfl rfl)
theorem dX4_undo_13 : DC mX4_undo 13 = .ok (.iconst 1, 1) := dk_4 (dk_at dksX4_undo_0 13 rfl rfl)
theorem dX4_undo_14 : DC mX4_undo 14 = .ok (.invokevirtual 92, 3) := dk_182 0 92 (dk_at dksX4_undo_0 14 rfl rfl)
theorem dX4_undo_17 : DC mX4_undo 17 = .ok (.ireturn, 1) := dk_172 (dk_at dksX4_undo_0 17 rfl rfl)
theorem dX4_undo_18 : DC mX4_undo 18 = .ok (.aload_n 0, 1) := dk_42 (dk_at dksX4_undo_0 18 rfl rfl)
theorem dX4_undo_19 : DC mX4_undo 19 = .ok (.dup, 1) := dk_89 (dk_at dksX4_undo_0 19 rfl rfl)
theorem dX4_undo_20 : DC mX4_undo 20 = .ok (.getfield 48, 3) := dk_180 0 48 (dk_at dksX4_undo_0 20 rfl rfl)
theorem dX4_undo_23 : DC mX4_undo 23 = .ok (.iconst 1, 1) := dk_4 (dk_at dksX4_undo_0 23 rfl rfl)
theorem dX4_undo_24 : DC mX4_undo 24 = .ok (.isub, 1) := dk_100 (dk_at dksX4_undo_1 0 rfl rfl)
theorem dX4_undo_25 : DC mX4_undo 25 = .ok (.putfield 48, 3) := dk_181 0 48 (dk_at dksX4_undo_1 1 rfl rfl)
theorem dX4_undo_28 : DC mX4_undo 28 = .ok (.iconst 0, 1) := dk_3 (dk_at dksX4_undo_1 4 rfl rfl)
theorem dX4_undo_29 : DC mX4_undo 29 = .ok (.istore_n 1, 1) := dk_60 (dk_at dksX4_undo_1 5 rfl rfl)
theorem dX4_undo_30 : DC mX4_undo 30 = .ok (.iload_n 1, 1) := dk_27 (dk_at dksX4_undo_1 6 rfl rfl)
theorem dX4_undo_31 : DC mX4_undo 31 = .ok (.sipush 318, 3) := dk_17 1 62 (dk_at dksX4_undo_1 7 rfl rfl)
theorem dX4_undo_34 : DC mX4_undo 34 = .ok (.if_icmp .ge 30, 3) := dk_162 0 30 (dk_at dksX4_undo_1 10 rfl rfl)
theorem dX4_undo_37 : DC mX4_undo 37 = .ok (.aload_n 0, 1) := dk_42 (dk_at dksX4_undo_1 13 rfl rfl)
theorem dX4_undo_38 : DC mX4_undo 38 = .ok (.getfield 9, 3) := dk_180 0 9 (dk_at dksX4_undo_1 14 rfl rfl)
theorem dX4_undo_41 : DC mX4_undo 41 = .ok (.iload_n 1, 1) := dk_27 (dk_at dksX4_undo_1 17 rfl rfl)
theorem dX4_undo_42 : DC mX4_undo 42 = .ok (.aload_n 0, 1) := dk_42 (dk_at dksX4_undo_1 18 rfl rfl)
theorem dX4_undo_43 : DC mX4_undo 43 = .ok (.getfield 19, 3) := dk_180 0 19 (dk_at dksX4_undo_1 19 rfl rfl)
theorem dX4_undo_46 : DC mX4_undo 46 = .ok (.sipush 318, 3) := dk_17 1 62 (dk_at dksX4_undo_2 0 rfl rfl)
theorem dX4_undo_49 : DC mX4_undo 49 = .ok (.aload_n 0, 1) := dk_42 (dk_at dksX4_undo_2 3 rfl rfl)
theorem dX4_undo_50 : DC mX4_undo 50 = .ok (.getfield 48, 3) := dk_180 0 48 (dk_at dksX4_undo_2 4 rfl rfl)
theorem dX4_undo_53 : DC mX4_undo 53 = .ok (.imul, 1) := dk_104 (dk_at dksX4_undo_2 7 rfl rfl)
theorem dX4_undo_54 : DC mX4_undo 54 = .ok (.iload_n 1, 1) := dk_27 (dk_at dksX4_undo_2 8 rfl rfl)
theorem dX4_undo_55 : DC mX4_undo 55 = .ok (.iadd, 1) := dk_96 (dk_at dksX4_undo_2 9 rfl rfl)
theorem dX4_undo_56 : DC mX4_undo 56 = .ok (.iaload, 1) := dk_46 (dk_at dksX4_undo_2 10 rfl rfl)
theorem dX4_undo_57 : DC mX4_undo 57 = .ok (.iastore, 1) := dk_79 (dk_at dksX4_undo_2 11 rfl rfl)
theorem dX4_undo_58 : DC mX4_undo 58 = .ok (.iinc 1 1, 3) := dk_132 1 1 (dk_at dksX4_undo_2 12 rfl rfl)
theorem dX4_undo_61 : DC mX4_undo 61 = .ok (.goto (-31), 3) := dk_167 255 225 (dk_at dksX4_undo_2 15 rfl rfl)
theorem dX4_undo_64 : DC mX4_undo 64 = .ok (.aload_n 0, 1) := dk_42 (dk_at dksX4_undo_2 18 rfl rfl)
theorem dX4_undo_65 : DC mX4_undo 65 = .ok (.getfield 48, 3) := dk_180 0 48 (dk_at dksX4_undo_2 19 rfl rfl)
theorem dX4_undo_68 : DC mX4_undo 68 = .ok (.ireturn, 1) := dk_172 (dk_at dksX4_undo_2 22 rfl rfl)
abbrev cX4_saveSnapshot : ByteArray := prog_13_method_75_code
def yX4_saveSnapshot : MethodName := ⟨RX4, "saveSnapshot", "()I"⟩
def mX4_saveSnapshot : MI := (⟨"TheatreSagaModel", "saveSnapshot", "()I"⟩, prog_13_method_75_code, 2, (Option.some FieldType.int), none, 42, 1)
theorem oX4_saveSnapshot : mO mX4_saveSnapshot = 42 := rfl
theorem lX4_saveSnapshot : mL mX4_saveSnapshot = 2 := rfl
theorem rX4_saveSnapshot : mR mX4_saveSnapshot = (Option.some FieldType.int) := rfl
theorem vX4_saveSnapshot : mV mX4_saveSnapshot = 1 := rfl
theorem nX4_saveSnapshot : (mY mX4_saveSnapshot).name = "saveSnapshot" := rfl
theorem hX4_saveSnapshot : mH mX4_saveSnapshot = none := rfl
theorem kX4_saveSnapshot : MOk mX4_saveSnapshot := ⟨q2801, q91, by decide +kernel⟩
theorem gX4_saveSnapshot : plainName (mY mX4_saveSnapshot).cls = true ∧ (mY mX4_saveSnapshot).cls = "TheatreSagaModel" := ⟨by decide +kernel, rfl⟩
def dkwX4_saveSnapshot_1 : List UInt8 := [42, 180, 0, 9, 27, 46, 79, 132, 1, 1, 167, 255, 234, 42, 180, 0, 9, 16, 8, 46, 172]
abbrev dktX4_saveSnapshot_1 : List UInt8 := dkwX4_saveSnapshot_1 ++ []
def dkwX4_saveSnapshot_0 : List UInt8 := [42, 3, 181, 0, 45, 42, 4, 181, 1, 13, 3, 60, 27, 17, 1, 62, 162, 0, 21, 42, 180, 0, 22, 27]
abbrev dktX4_saveSnapshot_0 : List UInt8 := dkwX4_saveSnapshot_0 ++ dktX4_saveSnapshot_1
theorem dksX4_saveSnapshot_0 : cX4_saveSnapshot.data.toList.drop 0 = dktX4_saveSnapshot_0 := by decide +kernel
theorem dksX4_saveSnapshot_1 : cX4_saveSnapshot.data.toList.drop 24 = dktX4_saveSnapshot_1 := dk_seg dksX4_saveSnapshot_0 24 rfl rfl
theorem dX4_saveSnapshot_0 : DC mX4_saveSnapshot 0 = .ok (.aload_n 0, 1) := dk_42 (dk_at dksX4_saveSnapshot_0 0 rfl rfl)
theorem dX4_saveSnapshot_1 : DC mX4_saveSnapshot 1 = .ok (.iconst 0, 1) := dk_3 (dk_at dksX4_saveSnapshot_0 1 rfl rfl)
theorem dX4_saveSnapshot_2 : DC mX4_saveSnapshot 2 = .ok (.putfield 45, 3) := dk_181 0 45 (dk_at dksX4_saveSnapshot_0 2 rfl rfl)
theorem dX4_saveSnapshot_5 : DC mX4_saveSnapshot 5 = .ok (.aload_n 0, 1) := dk_42 (dk_at dksX4_saveSnapshot_0 5 rfl rfl)
theorem dX4_saveSnapshot_6 : DC mX4_saveSnapshot 6 = .ok (.iconst 1, 1) := dk_4 (dk_at dksX4_saveSnapshot_0 6 rfl rfl)
theorem dX4_saveSnapshot_7 : DC mX4_saveSnapshot 7 = .ok (.putfield 269, 3) := dk_181 1 13 (dk_at dksX4_saveSnapshot_0 7 rfl rfl)
theorem dX4_saveSnapshot_10 : DC mX4_saveSnapshot 10 = .ok (.iconst 0, 1) := dk_3 (dk_at dksX4_saveSnapshot_0 10 rfl rfl)
theorem dX4_saveSnapshot_11 : DC mX4_saveSnapshot 11 = .ok (.istore_n 1, 1) := dk_60 (dk_at dksX4_saveSnapshot_0 11 rfl rfl)
theorem dX4_saveSnapshot_12 : DC mX4_saveSnapshot 12 = .ok (.iload_n 1, 1) := dk_27 (dk_at dksX4_saveSnapshot_0 12 rfl rfl)
theorem dX4_saveSnapshot_13 : DC mX4_saveSnapshot 13 = .ok (.sipush 318, 3) := dk_17 1 62 (dk_at dksX4_saveSnapshot_0 13 rfl rfl)
theorem dX4_saveSnapshot_16 : DC mX4_saveSnapshot 16 = .ok (.if_icmp .ge 21, 3) := dk_162 0 21 (dk_at dksX4_saveSnapshot_0 16 rfl rfl)
theorem dX4_saveSnapshot_19 : DC mX4_saveSnapshot 19 = .ok (.aload_n 0, 1) := dk_42 (dk_at dksX4_saveSnapshot_0 19 rfl rfl)
theorem dX4_saveSnapshot_20 : DC mX4_saveSnapshot 20 = .ok (.getfield 22, 3) := dk_180 0 22 (dk_at dksX4_saveSnapshot_0 20 rfl rfl)
theorem dX4_saveSnapshot_23 : DC mX4_saveSnapshot 23 = .ok (.iload_n 1, 1) := dk_27 (dk_at dksX4_saveSnapshot_0 23 rfl rfl)
theorem dX4_saveSnapshot_24 : DC mX4_saveSnapshot 24 = .ok (.aload_n 0, 1) := dk_42 (dk_at dksX4_saveSnapshot_1 0 rfl rfl)
theorem dX4_saveSnapshot_25 : DC mX4_saveSnapshot 25 = .ok (.getfield 9, 3) := dk_180 0 9 (dk_at dksX4_saveSnapshot_1 1 rfl rfl)
theorem dX4_saveSnapshot_28 : DC mX4_saveSnapshot 28 = .ok (.iload_n 1, 1) := dk_27 (dk_at dksX4_saveSnapshot_1 4 rfl rfl)
theorem dX4_saveSnapshot_29 : DC mX4_saveSnapshot 29 = .ok (.iaload, 1) := dk_46 (dk_at dksX4_saveSnapshot_1 5 rfl rfl)
theorem dX4_saveSnapshot_30 : DC mX4_saveSnapshot 30 = .ok (.iastore, 1) := dk_79 (dk_at dksX4_saveSnapshot_1 6 rfl rfl)
theorem dX4_saveSnapshot_31 : DC mX4_saveSnapshot 31 = .ok (.iinc 1 1, 3) := dk_132 1 1 (dk_at dksX4_saveSnapshot_1 7 rfl rfl)
theorem dX4_saveSnapshot_34 : DC mX4_saveSnapshot 34 = .ok (.goto (-22), 3) := dk_167 255 234 (dk_at dksX4_saveSnapshot_1 10 rfl rfl)
theorem dX4_saveSnapshot_37 : DC mX4_saveSnapshot 37 = .ok (.aload_n 0, 1) := dk_42 (dk_at dksX4_saveSnapshot_1 13 rfl rfl)
theorem dX4_saveSnapshot_38 : DC mX4_saveSnapshot 38 = .ok (.getfield 9, 3) := dk_180 0 9 (dk_at dksX4_saveSnapshot_1 14 rfl rfl)
theorem dX4_saveSnapshot_41 : DC mX4_saveSnapshot 41 = .ok (.bipush 8, 2) := dk_16 8 (dk_at dksX4_saveSnapshot_1 17 rfl rfl)
theorem dX4_saveSnapshot_43 : DC mX4_saveSnapshot 43 = .ok (.iaload, 1) := dk_46 (dk_at dksX4_saveSnapshot_1 19 rfl rfl)
theorem dX4_saveSnapshot_44 : DC mX4_saveSnapshot 44 = .ok (.ireturn, 1) := dk_172 (dk_at dksX4_saveSnapshot_1 20 rfl rfl)
abbrev cX4_restoreSnapshot : ByteArray := prog_13_method_76_code
def yX4_restoreSnapshot : MethodName := ⟨RX4, "restoreSnapshot", "()I"⟩
def mX4_restoreSnapshot : MI := (⟨"TheatreSagaModel", "restoreSnapshot", "()I"⟩, prog_13_method_76_code, 2, (Option.some FieldType.int), none, 42, 2)
theorem oX4_restoreSnapshot : mO mX4_restoreSnapshot = 42 := rfl
theorem lX4_restoreSnapshot : mL mX4_restoreSnapshot = 2 := rfl
theorem rX4_restoreSnapshot : mR mX4_restoreSnapshot = (Option.some FieldType.int) := rfl
theorem vX4_restoreSnapshot : mV mX4_restoreSnapshot = 2 := rfl
theorem nX4_restoreSnapshot : (mY mX4_restoreSnapshot).name = "restoreSnapshot" := rfl
theorem hX4_restoreSnapshot : mH mX4_restoreSnapshot = none := rfl
theorem kX4_restoreSnapshot : MOk mX4_restoreSnapshot := ⟨q2805, q91, by decide +kernel⟩
theorem gX4_restoreSnapshot : plainName (mY mX4_restoreSnapshot).cls = true ∧ (mY mX4_restoreSnapshot).cls = "TheatreSagaModel" := ⟨by decide +kernel, rfl⟩
def dkwX4_restoreSnapshot_2 : List UInt8 := [181, 0, 48, 42, 180, 0, 9, 16, 8, 46, 172]
abbrev dktX4_restoreSnapshot_2 : List UInt8 := dkwX4_restoreSnapshot_2 ++ []
def dkwX4_restoreSnapshot_1 : List UInt8 := [162, 0, 21, 42, 180, 0, 9, 27, 42, 180, 0, 22, 27, 46, 79, 132, 1, 1, 167, 255, 234, 42, 3]
abbrev dktX4_restoreSnapshot_1 : List UInt8 := dkwX4_restoreSnapshot_1 ++ dktX4_restoreSnapshot_2
def dkwX4_restoreSnapshot_0 : List UInt8 := [42, 3, 181, 0, 45, 42, 180, 1, 13, 154, 0, 9, 42, 4, 182, 0, 92, 172, 3, 60, 27, 17, 1, 62]
abbrev dktX4_restoreSnapshot_0 : List UInt8 := dkwX4_restoreSnapshot_0 ++ dktX4_restoreSnapshot_1
theorem dksX4_restoreSnapshot_0 : cX4_restoreSnapshot.data.toList.drop 0 = dktX4_restoreSnapshot_0 := by decide +kernel
theorem dksX4_restoreSnapshot_1 : cX4_restoreSnapshot.data.toList.drop 24 = dktX4_restoreSnapshot_1 := dk_seg dksX4_restoreSnapshot_0 24 rfl rfl
theorem dksX4_restoreSnapshot_2 : cX4_restoreSnapshot.data.toList.drop 47 = dktX4_restoreSnapshot_2 := dk_seg dksX4_restoreSnapshot_1 23 rfl rfl
theorem dX4_restoreSnapshot_0 : DC mX4_restoreSnapshot 0 = .ok (.aload_n 0, 1) := dk_42 (dk_at dksX4_restoreSnapshot_0 0 rfl rfl)
theorem dX4_restoreSnapshot_1 : DC mX4_restoreSnapshot 1 = .ok (.iconst 0, 1) := dk_3 (dk_at dksX4_restoreSnapshot_0 1 rfl rfl)
theorem dX4_restoreSnapshot_2 : DC mX4_restoreSnapshot 2 = .ok (.putfield 45, 3) := dk_181 0 45 (dk_at dksX4_restoreSnapshot_0 2 rfl rfl)
theorem dX4_restoreSnapshot_5 : DC mX4_restoreSnapshot 5 = .ok (.aload_n 0, 1) := dk_42 (dk_at dksX4_restoreSnapshot_0 5 rfl rfl)
theorem dX4_restoreSnapshot_6 : DC mX4_restoreSnapshot 6 = .ok (.getfield 269, 3) := dk_180 1 13 (dk_at dksX4_restoreSnapshot_0 6 rfl rfl)
theorem dX4_restoreSnapshot_9 : DC mX4_restoreSnapshot 9 = .ok (.ifCond .ne 9, 3) := dk_154 0 9 (dk_at dksX4_restoreSnapshot_0 9 rfl rfl)
theorem dX4_restoreSnapshot_12 : DC mX4_restoreSnapshot 12 = .ok (.aload_n 0, 1) := dk_42 (dk_at dksX4_restoreSnapshot_0 12 rfl rfl)
theorem dX4_restoreSnapshot_13 : DC mX4_restoreSnapshot 13 = .ok (.iconst 1, 1) := dk_4 (dk_at dksX4_restoreSnapshot_0 13 rfl rfl)
theorem dX4_restoreSnapshot_14 : DC mX4_restoreSnapshot 14 = .ok (.invokevirtual 92, 3) := dk_182 0 92 (dk_at dksX4_restoreSnapshot_0 14 rfl rfl)
theorem dX4_restoreSnapshot_17 : DC mX4_restoreSnapshot 17 = .ok (.ireturn, 1) := dk_172 (dk_at dksX4_restoreSnapshot_0 17 rfl rfl)
theorem dX4_restoreSnapshot_18 : DC mX4_restoreSnapshot 18 = .ok (.iconst 0, 1) := dk_3 (dk_at dksX4_restoreSnapshot_0 18 rfl rfl)
theorem dX4_restoreSnapshot_19 : DC mX4_restoreSnapshot 19 = .ok (.istore_n 1, 1) := dk_60 (dk_at dksX4_restoreSnapshot_0 19 rfl rfl)
theorem dX4_restoreSnapshot_20 : DC mX4_restoreSnapshot 20 = .ok (.iload_n 1, 1) := dk_27 (dk_at dksX4_restoreSnapshot_0 20 rfl rfl)
theorem dX4_restoreSnapshot_21 : DC mX4_restoreSnapshot 21 = .ok (.sipush 318, 3) := dk_17 1 62 (dk_at dksX4_restoreSnapshot_0 21 rfl rfl)
theorem dX4_restoreSnapshot_24 : DC mX4_restoreSnapshot 24 = .ok (.if_icmp .ge 21, 3) := dk_162 0 21 (dk_at dksX4_restoreSnapshot_1 0 rfl rfl)
theorem dX4_restoreSnapshot_27 : DC mX4_restoreSnapshot 27 = .ok (.aload_n 0, 1) := dk_42 (dk_at dksX4_restoreSnapshot_1 3 rfl rfl)
theorem dX4_restoreSnapshot_28 : DC mX4_restoreSnapshot 28 = .ok (.getfield 9, 3) := dk_180 0 9 (dk_at dksX4_restoreSnapshot_1 4 rfl rfl)
theorem dX4_restoreSnapshot_31 : DC mX4_restoreSnapshot 31 = .ok (.iload_n 1, 1) := dk_27 (dk_at dksX4_restoreSnapshot_1 7 rfl rfl)
theorem dX4_restoreSnapshot_32 : DC mX4_restoreSnapshot 32 = .ok (.aload_n 0, 1) := dk_42 (dk_at dksX4_restoreSnapshot_1 8 rfl rfl)
theorem dX4_restoreSnapshot_33 : DC mX4_restoreSnapshot 33 = .ok (.getfield 22, 3) := dk_180 0 22 (dk_at dksX4_restoreSnapshot_1 9 rfl rfl)
theorem dX4_restoreSnapshot_36 : DC mX4_restoreSnapshot 36 = .ok (.iload_n 1, 1) := dk_27 (dk_at dksX4_restoreSnapshot_1 12 rfl rfl)
theorem dX4_restoreSnapshot_37 : DC mX4_restoreSnapshot 37 = .ok (.iaload, 1) := dk_46 (dk_at dksX4_restoreSnapshot_1 13 rfl rfl)
theorem dX4_restoreSnapshot_38 : DC mX4_restoreSnapshot 38 = .ok (.iastore, 1) := dk_79 (dk_at dksX4_restoreSnapshot_1 14 rfl rfl)
theorem dX4_restoreSnapshot_39 : DC mX4_restoreSnapshot 39 = .ok (.iinc 1 1, 3) := dk_132 1 1 (dk_at dksX4_restoreSnapshot_1 15 rfl rfl)
theorem dX4_restoreSnapshot_42 : DC mX4_restoreSnapshot 42 = .ok (.goto (-22), 3) := dk_167 255 234 (dk_at dksX4_restoreSnapshot_1 18 rfl rfl)
theorem dX4_restoreSnapshot_45 : DC mX4_restoreSnapshot 45 = .ok (.aload_n 0, 1) := dk_42 (dk_at dksX4_restoreSnapshot_1 21 rfl rfl)
theorem dX4_restoreSnapshot_46 : DC mX4_restoreSnapshot 46 = .ok (.iconst 0, 1) := dk_3 (dk_at dksX4_restoreSnapshot_1 22 rfl rfl)
theorem dX4_restoreSnapshot_47 : DC mX4_restoreSnapshot 47 = .ok (.putfield 48, 3) := dk_181 0 48 (dk_at dksX4_restoreSnapshot_2 0 rfl rfl)
theorem dX4_restoreSnapshot_50 : DC mX4_restoreSnapshot 50 = .ok (.aload_n 0, 1) := dk_42 (dk_at dksX4_restoreSnapshot_2 3 rfl rfl)
theorem dX4_restoreSnapshot_51 : DC mX4_restoreSnapshot 51 = .ok (.getfield 9, 3) := dk_180 0 9 (dk_at dksX4_restoreSnapshot_2 4 rfl rfl)
theorem dX4_restoreSnapshot_54 : DC mX4_restoreSnapshot 54 = .ok (.bipush 8, 2) := dk_16 8 (dk_at dksX4_restoreSnapshot_2 7 rfl rfl)
theorem dX4_restoreSnapshot_56 : DC mX4_restoreSnapshot 56 = .ok (.iaload, 1) := dk_46 (dk_at dksX4_restoreSnapshot_2 9 rfl rfl)
theorem dX4_restoreSnapshot_57 : DC mX4_restoreSnapshot 57 = .ok (.ireturn, 1) := dk_172 (dk_at dksX4_restoreSnapshot_2 10 rfl rfl)
theorem in_X4 : ∀ w ∈ wsX40, w ∈ lw_all := lw_in wsX40 [2410, 2412, 2414, 2416, 2418, 2420, 2422, 2424, 2426, 2428, 2430, 2432, 2434, 2436, 2438, 2440, 2442, 2444, 2446] (by decide +kernel) (by decide +kernel)

