/-! java/util/AbstractCollection -/
set_option maxRecDepth 100000
def RJ0 : String := "java/util/AbstractCollection"
abbrev cJ0_init : ByteArray := prog_45_method_1_code
def yJ0_init : MethodName := ⟨RJ0, "<init>", "()V"⟩
def mJ0_init : MI := (⟨"java/util/AbstractCollection", "<init>", "()V"⟩, prog_45_method_1_code, 1, (Option.none : Option FieldType), none, 0, 2)
theorem oJ0_init : mO mJ0_init = 0 := rfl
theorem lJ0_init : mL mJ0_init = 1 := rfl
theorem rJ0_init : mR mJ0_init = (Option.none : Option FieldType) := rfl
theorem vJ0_init : mV mJ0_init = 2 := rfl
theorem nJ0_init : (mY mJ0_init).name = "<init>" := rfl
theorem hJ0_init : mH mJ0_init = none := rfl
theorem kJ0_init : MOk mJ0_init := ⟨q141, q76, by decide +kernel⟩
theorem gJ0_init : plainName (mY mJ0_init).cls = true ∧ (mY mJ0_init).cls = "java/util/AbstractCollection" := ⟨by decide +kernel, rfl⟩
theorem dJ0_init_0 : DC mJ0_init 0 = .ok (.aload_n 0, 1) := by decide +kernel
theorem dJ0_init_1 : DC mJ0_init 1 = .ok (.invokespecial 1, 3) := by decide +kernel
theorem dJ0_init_4 : DC mJ0_init 4 = .ok (.return_, 1) := by decide +kernel
abbrev cJ0_isEmpty : ByteArray := prog_45_method_4_code
def yJ0_isEmpty : MethodName := ⟨RJ0, "isEmpty", "()Z"⟩
def mJ0_isEmpty : MI := (⟨"java/util/AbstractCollection", "isEmpty", "()Z"⟩, prog_45_method_4_code, 1, (Option.some FieldType.boolean), none, 0, 3)
theorem oJ0_isEmpty : mO mJ0_isEmpty = 0 := rfl
theorem lJ0_isEmpty : mL mJ0_isEmpty = 1 := rfl
theorem rJ0_isEmpty : mR mJ0_isEmpty = (Option.some FieldType.boolean) := rfl
theorem vJ0_isEmpty : mV mJ0_isEmpty = 3 := rfl
theorem nJ0_isEmpty : (mY mJ0_isEmpty).name = "isEmpty" := rfl
theorem hJ0_isEmpty : mH mJ0_isEmpty = none := rfl
theorem kJ0_isEmpty : MOk mJ0_isEmpty := ⟨q1511, q76, by decide +kernel⟩
theorem gJ0_isEmpty : plainName (mY mJ0_isEmpty).cls = true ∧ (mY mJ0_isEmpty).cls = "java/util/AbstractCollection" := ⟨by decide +kernel, rfl⟩
def dkwJ0_isEmpty_0 : List UInt8 := [42, 182, 0, 7, 154, 0, 7, 4, 167, 0, 4, 3, 172]
abbrev dktJ0_isEmpty_0 : List UInt8 := dkwJ0_isEmpty_0 ++ []
theorem dksJ0_isEmpty_0 : cJ0_isEmpty.data.toList.drop 0 = dktJ0_isEmpty_0 := by decide +kernel
theorem dJ0_isEmpty_0 : DC mJ0_isEmpty 0 = .ok (.aload_n 0, 1) := dk_42 (dk_at dksJ0_isEmpty_0 0 rfl rfl)
theorem dJ0_isEmpty_1 : DC mJ0_isEmpty 1 = .ok (.invokevirtual 7, 3) := dk_182 0 7 (dk_at dksJ0_isEmpty_0 1 rfl rfl)
theorem dJ0_isEmpty_4 : DC mJ0_isEmpty 4 = .ok (.ifCond .ne 7, 3) := dk_154 0 7 (dk_at dksJ0_isEmpty_0 4 rfl rfl)
theorem dJ0_isEmpty_7 : DC mJ0_isEmpty 7 = .ok (.iconst 1, 1) := dk_4 (dk_at dksJ0_isEmpty_0 7 rfl rfl)
theorem dJ0_isEmpty_8 : DC mJ0_isEmpty 8 = .ok (.goto 4, 3) := dk_167 0 4 (dk_at dksJ0_isEmpty_0 8 rfl rfl)
theorem dJ0_isEmpty_11 : DC mJ0_isEmpty 11 = .ok (.iconst 0, 1) := dk_3 (dk_at dksJ0_isEmpty_0 11 rfl rfl)
theorem dJ0_isEmpty_12 : DC mJ0_isEmpty 12 = .ok (.ireturn, 1) := dk_172 (dk_at dksJ0_isEmpty_0 12 rfl rfl)

/-! java/util/ArrayDeque -/
set_option maxRecDepth 100000
def RJ1 : String := "java/util/ArrayDeque"
def TJ1 : u_T := fun k => match k with
  | 0 => ("java/util/ArrayDeque", "elements", "[Ljava/lang/Object;", false)
  | 1 => ("java/util/ArrayDeque", "head", "I", false)
  | _ => ("java/util/ArrayDeque", "tail", "I", false)
def tyJ1 : Nat → FieldType := fun k => match k with
  | 0 => .array (.object "java/lang/Object")
  | 1 => .int
  | _ => .int
abbrev wsJ10 : List Cond := u_ws RJ1 TJ1 3
theorem nmJ1 : ∀ a, a < 3 → ∀ b, b < 3 → a ≠ b → (TJ1 a).2.1 ≠ (TJ1 b).2.1 := by decide +kernel
theorem tyJ1_ok : ∀ k, k < 3 → parseFieldDescriptor (TJ1 k).2.2.1 = some (tyJ1 k) := by decide +kernel
abbrev cJ1_init : ByteArray := prog_50_method_3_code
def yJ1_init : MethodName := ⟨RJ1, "<init>", "()V"⟩
def mJ1_init : MI := (⟨"java/util/ArrayDeque", "<init>", "()V"⟩, prog_50_method_3_code, 1, (Option.none : Option FieldType), none, 1, 3)
theorem oJ1_init : mO mJ1_init = 1 := rfl
theorem lJ1_init : mL mJ1_init = 1 := rfl
theorem rJ1_init : mR mJ1_init = (Option.none : Option FieldType) := rfl
theorem vJ1_init : mV mJ1_init = 3 := rfl
theorem nJ1_init : (mY mJ1_init).name = "<init>" := rfl
theorem hJ1_init : mH mJ1_init = none := rfl
theorem kJ1_init : MOk mJ1_init := ⟨q138, q77, by decide +kernel⟩
theorem gJ1_init : plainName (mY mJ1_init).cls = true ∧ (mY mJ1_init).cls = "java/util/ArrayDeque" := ⟨by decide +kernel, rfl⟩
def dkwJ1_init_0 : List UInt8 := [42, 183, 0, 42, 42, 16, 17, 189, 0, 47, 181, 0, 3, 177]
abbrev dktJ1_init_0 : List UInt8 := dkwJ1_init_0 ++ []
theorem dksJ1_init_0 : cJ1_init.data.toList.drop 0 = dktJ1_init_0 := by decide +kernel
theorem dJ1_init_0 : DC mJ1_init 0 = .ok (.aload_n 0, 1) := dk_42 (dk_at dksJ1_init_0 0 rfl rfl)
theorem dJ1_init_1 : DC mJ1_init 1 = .ok (.invokespecial 42, 3) := dk_183 0 42 (dk_at dksJ1_init_0 1 rfl rfl)
theorem dJ1_init_4 : DC mJ1_init 4 = .ok (.aload_n 0, 1) := dk_42 (dk_at dksJ1_init_0 4 rfl rfl)
theorem dJ1_init_5 : DC mJ1_init 5 = .ok (.bipush 17, 2) := dk_16 17 (dk_at dksJ1_init_0 5 rfl rfl)
theorem dJ1_init_7 : DC mJ1_init 7 = .ok (.anewarray 47, 3) := dk_189 0 47 (dk_at dksJ1_init_0 7 rfl rfl)
theorem dJ1_init_10 : DC mJ1_init 10 = .ok (.putfield 3, 3) := dk_181 0 3 (dk_at dksJ1_init_0 10 rfl rfl)
theorem dJ1_init_13 : DC mJ1_init 13 = .ok (.return_, 1) := dk_177 (dk_at dksJ1_init_0 13 rfl rfl)
abbrev cJ1_toArray : ByteArray := prog_50_method_55_code
def yJ1_toArray : MethodName := ⟨RJ1, "toArray", "()[Ljava/lang/Object;"⟩
def mJ1_toArray : MI := (⟨"java/util/ArrayDeque", "toArray", "()[Ljava/lang/Object;"⟩, prog_50_method_55_code, 1, (Option.some (FieldType.array (FieldType.object "java/lang/Object"))), none, 1, 13)
theorem oJ1_toArray : mO mJ1_toArray = 1 := rfl
theorem lJ1_toArray : mL mJ1_toArray = 1 := rfl
theorem rJ1_toArray : mR mJ1_toArray = (Option.some (FieldType.array (FieldType.object "java/lang/Object"))) := rfl
theorem vJ1_toArray : mV mJ1_toArray = 13 := rfl
theorem nJ1_toArray : (mY mJ1_toArray).name = "toArray" := rfl
theorem hJ1_toArray : mH mJ1_toArray = none := rfl
theorem kJ1_toArray : MOk mJ1_toArray := ⟨q1173, q77, by decide +kernel⟩
theorem gJ1_toArray : plainName (mY mJ1_toArray).cls = true ∧ (mY mJ1_toArray).cls = "java/util/ArrayDeque" := ⟨by decide +kernel, rfl⟩
def dkwJ1_toArray_0 : List UInt8 := [42, 18, 188, 182, 0, 189, 176]
abbrev dktJ1_toArray_0 : List UInt8 := dkwJ1_toArray_0 ++ []
theorem dksJ1_toArray_0 : cJ1_toArray.data.toList.drop 0 = dktJ1_toArray_0 := by decide +kernel
theorem dJ1_toArray_0 : DC mJ1_toArray 0 = .ok (.aload_n 0, 1) := dk_42 (dk_at dksJ1_toArray_0 0 rfl rfl)
theorem dJ1_toArray_1 : DC mJ1_toArray 1 = .ok (.ldc 188, 2) := dk_18 188 (dk_at dksJ1_toArray_0 1 rfl rfl)
theorem dJ1_toArray_3 : DC mJ1_toArray 3 = .ok (.invokevirtual 189, 3) := dk_182 0 189 (dk_at dksJ1_toArray_0 3 rfl rfl)
theorem dJ1_toArray_6 : DC mJ1_toArray 6 = .ok (.areturn, 1) := dk_176 (dk_at dksJ1_toArray_0 6 rfl rfl)
abbrev cJ1_toArray_2 : ByteArray := prog_50_method_56_code
def yJ1_toArray_2 : MethodName := ⟨RJ1, "toArray", "(Ljava/lang/Class;)[Ljava/lang/Object;"⟩
def mJ1_toArray_2 : MI := (⟨"java/util/ArrayDeque", "toArray", "(Ljava/lang/Class;)[Ljava/lang/Object;"⟩, prog_50_method_56_code, 7, (Option.some (FieldType.array (FieldType.object "java/lang/Object"))), none, 1, 12)
theorem oJ1_toArray_2 : mO mJ1_toArray_2 = 1 := rfl
theorem lJ1_toArray_2 : mL mJ1_toArray_2 = 7 := rfl
theorem rJ1_toArray_2 : mR mJ1_toArray_2 = (Option.some (FieldType.array (FieldType.object "java/lang/Object"))) := rfl
theorem vJ1_toArray_2 : mV mJ1_toArray_2 = 12 := rfl
theorem nJ1_toArray_2 : (mY mJ1_toArray_2).name = "toArray" := rfl
theorem hJ1_toArray_2 : mH mJ1_toArray_2 = none := rfl
theorem kJ1_toArray_2 : MOk mJ1_toArray_2 := ⟨q1178, q77, by decide +kernel⟩
theorem gJ1_toArray_2 : plainName (mY mJ1_toArray_2).cls = true ∧ (mY mJ1_toArray_2).cls = "java/util/ArrayDeque" := ⟨by decide +kernel, rfl⟩
def dkwJ1_toArray_2_4 : List UInt8 := [21, 5, 184, 0, 27, 45, 176]
abbrev dktJ1_toArray_2_4 : List UInt8 := dkwJ1_toArray_2_4 ++ []
def dkwJ1_toArray_2_3 : List UInt8 := [44, 190, 21, 4, 100, 184, 0, 27, 21, 6, 21, 5, 159, 0, 16, 44, 3, 45, 44, 190, 21, 4, 100]
abbrev dktJ1_toArray_2_3 : List UInt8 := dkwJ1_toArray_2_3 ++ dktJ1_toArray_2_4
def dkwJ1_toArray_2_2 : List UInt8 := [184, 0, 193, 78, 167, 0, 28, 44, 3, 21, 6, 21, 4, 100, 43, 184, 0, 193, 78, 44, 21, 4, 45, 3]
abbrev dktJ1_toArray_2_2 : List UInt8 := dkwJ1_toArray_2_2 ++ dktJ1_toArray_2_3
def dkwJ1_toArray_2_1 : List UInt8 := [163, 0, 7, 3, 167, 0, 5, 44, 190, 96, 89, 54, 6, 155, 0, 16, 44, 21, 4, 21, 6, 43]
abbrev dktJ1_toArray_2_1 : List UInt8 := dkwJ1_toArray_2_1 ++ dktJ1_toArray_2_2
def dkwJ1_toArray_2_0 : List UInt8 := [42, 180, 0, 3, 77, 42, 180, 0, 24, 54, 4, 42, 180, 0, 20, 54, 5, 21, 5, 21, 4, 21, 5]
abbrev dktJ1_toArray_2_0 : List UInt8 := dkwJ1_toArray_2_0 ++ dktJ1_toArray_2_1
theorem dksJ1_toArray_2_0 : cJ1_toArray_2.data.toList.drop 0 = dktJ1_toArray_2_0 := by decide +kernel
theorem dksJ1_toArray_2_1 : cJ1_toArray_2.data.toList.drop 23 = dktJ1_toArray_2_1 := dk_seg dksJ1_toArray_2_0 23 rfl rfl
theorem dksJ1_toArray_2_2 : cJ1_toArray_2.data.toList.drop 45 = dktJ1_toArray_2_2 := dk_seg dksJ1_toArray_2_1 22 rfl rfl
theorem dksJ1_toArray_2_3 : cJ1_toArray_2.data.toList.drop 69 = dktJ1_toArray_2_3 := dk_seg dksJ1_toArray_2_2 24 rfl rfl
theorem dksJ1_toArray_2_4 : cJ1_toArray_2.data.toList.drop 92 = dktJ1_toArray_2_4 := dk_seg dksJ1_toArray_2_3 23 rfl rfl
theorem dJ1_toArray_2_0 : DC mJ1_toArray_2 0 = .ok (.aload_n 0, 1) := dk_42 (dk_at dksJ1_toArray_2_0 0 rfl rfl)
theorem dJ1_toArray_2_1 : DC mJ1_toArray_2 1 = .ok (.getfield 3, 3) := dk_180 0 3 (dk_at dksJ1_toArray_2_0 1 rfl rfl)
theorem dJ1_toArray_2_4 : DC mJ1_toArray_2 4 = .ok (.astore_n 2, 1) := dk_77 (dk_at dksJ1_toArray_2_0 4 rfl rfl)
theorem dJ1_toArray_2_5 : DC mJ1_toArray_2 5 = .ok (.aload_n 0, 1) := dk_42 (dk_at dksJ1_toArray_2_0 5 rfl rfl)
theorem dJ1_toArray_2_6 : DC mJ1_toArray_2 6 = .ok (.getfield 24, 3) := dk_180 0 24 (dk_at dksJ1_toArray_2_0 6 rfl rfl)
theorem dJ1_toArray_2_9 : DC mJ1_toArray_2 9 = .ok (.istore 4, 2) := dk_54 4 (dk_at dksJ1_toArray_2_0 9 rfl rfl)
theorem dJ1_toArray_2_11 : DC mJ1_toArray_2 11 = .ok (.aload_n 0, 1) := dk_42 (dk_at dksJ1_toArray_2_0 11 rfl rfl)
theorem dJ1_toArray_2_12 : DC mJ1_toArray_2 12 = .ok (.getfield 20, 3) := dk_180 0 20 (dk_at dksJ1_toArray_2_0 12 rfl rfl)
theorem dJ1_toArray_2_15 : DC mJ1_toArray_2 15 = .ok (.istore 5, 2) := dk_54 5 (dk_at dksJ1_toArray_2_0 15 rfl rfl)
theorem dJ1_toArray_2_17 : DC mJ1_toArray_2 17 = .ok (.iload 5, 2) := dk_21 5 (dk_at dksJ1_toArray_2_0 17 rfl rfl)
theorem dJ1_toArray_2_19 : DC mJ1_toArray_2 19 = .ok (.iload 4, 2) := dk_21 4 (dk_at dksJ1_toArray_2_0 19 rfl rfl)
theorem dJ1_toArray_2_21 : DC mJ1_toArray_2 21 = .ok (.iload 5, 2) := dk_21 5 (dk_at dksJ1_toArray_2_0 21 rfl rfl)
theorem dJ1_toArray_2_23 : DC mJ1_toArray_2 23 = .ok (.if_icmp .gt 7, 3) := dk_163 0 7 (dk_at dksJ1_toArray_2_1 0 rfl rfl)
theorem dJ1_toArray_2_26 : DC mJ1_toArray_2 26 = .ok (.iconst 0, 1) := dk_3 (dk_at dksJ1_toArray_2_1 3 rfl rfl)
theorem dJ1_toArray_2_27 : DC mJ1_toArray_2 27 = .ok (.goto 5, 3) := dk_167 0 5 (dk_at dksJ1_toArray_2_1 4 rfl rfl)
theorem dJ1_toArray_2_30 : DC mJ1_toArray_2 30 = .ok (.aload_n 2, 1) := dk_44 (dk_at dksJ1_toArray_2_1 7 rfl rfl)
theorem dJ1_toArray_2_31 : DC mJ1_toArray_2 31 = .ok (.arraylength, 1) := dk_190 (dk_at dksJ1_toArray_2_1 8 rfl rfl)
theorem dJ1_toArray_2_32 : DC mJ1_toArray_2 32 = .ok (.iadd, 1) := dk_96 (dk_at dksJ1_toArray_2_1 9 rfl rfl)
theorem dJ1_toArray_2_33 : DC mJ1_toArray_2 33 = .ok (.dup, 1) := dk_89 (dk_at dksJ1_toArray_2_1 10 rfl rfl)
theorem dJ1_toArray_2_34 : DC mJ1_toArray_2 34 = .ok (.istore 6, 2) := dk_54 6 (dk_at dksJ1_toArray_2_1 11 rfl rfl)
theorem dJ1_toArray_2_36 : DC mJ1_toArray_2 36 = .ok (.ifCond .lt 16, 3) := dk_155 0 16 (dk_at dksJ1_toArray_2_1 13 rfl rfl)
theorem dJ1_toArray_2_39 : DC mJ1_toArray_2 39 = .ok (.aload_n 2, 1) := dk_44 (dk_at dksJ1_toArray_2_1 16 rfl rfl)
theorem dJ1_toArray_2_40 : DC mJ1_toArray_2 40 = .ok (.iload 4, 2) := dk_21 4 (dk_at dksJ1_toArray_2_1 17 rfl rfl)
theorem dJ1_toArray_2_42 : DC mJ1_toArray_2 42 = .ok (.iload 6, 2) := dk_21 6 (dk_at dksJ1_toArray_2_1 19 rfl rfl)
theorem dJ1_toArray_2_44 : DC mJ1_toArray_2 44 = .ok (.aload_n 1, 1) := dk_43 (dk_at dksJ1_toArray_2_1 21 rfl rfl)
theorem dJ1_toArray_2_45 : DC mJ1_toArray_2 45 = .ok (.invokestatic 193, 3) := dk_184 0 193 (dk_at dksJ1_toArray_2_2 0 rfl rfl)
theorem dJ1_toArray_2_48 : DC mJ1_toArray_2 48 = .ok (.astore_n 3, 1) := dk_78 (dk_at dksJ1_toArray_2_2 3 rfl rfl)
theorem dJ1_toArray_2_49 : DC mJ1_toArray_2 49 = .ok (.goto 28, 3) := dk_167 0 28 (dk_at dksJ1_toArray_2_2 4 rfl rfl)
theorem dJ1_toArray_2_52 : DC mJ1_toArray_2 52 = .ok (.aload_n 2, 1) := dk_44 (dk_at dksJ1_toArray_2_2 7 rfl rfl)
theorem dJ1_toArray_2_53 : DC mJ1_toArray_2 53 = .ok (.iconst 0, 1) := dk_3 (dk_at dksJ1_toArray_2_2 8 rfl rfl)
theorem dJ1_toArray_2_54 : DC mJ1_toArray_2 54 = .ok (.iload 6, 2) := dk_21 6 (dk_at dksJ1_toArray_2_2 9 rfl rfl)
theorem dJ1_toArray_2_56 : DC mJ1_toArray_2 56 = .ok (.iload 4, 2) := dk_21 4 (dk_at dksJ1_toArray_2_2 11 rfl rfl)
theorem dJ1_toArray_2_58 : DC mJ1_toArray_2 58 = .ok (.isub, 1) := dk_100 (dk_at dksJ1_toArray_2_2 13 rfl rfl)
theorem dJ1_toArray_2_59 : DC mJ1_toArray_2 59 = .ok (.aload_n 1, 1) := dk_43 (dk_at dksJ1_toArray_2_2 14 rfl rfl)
theorem dJ1_toArray_2_60 : DC mJ1_toArray_2 60 = .ok (.invokestatic 193, 3) := dk_184 0 193 (dk_at dksJ1_toArray_2_2 15 rfl rfl)
theorem dJ1_toArray_2_63 : DC mJ1_toArray_2 63 = .ok (.astore_n 3, 1) := dk_78 (dk_at dksJ1_toArray_2_2 18 rfl rfl)
theorem dJ1_toArray_2_64 : DC mJ1_toArray_2 64 = .ok (.aload_n 2, 1) := dk_44 (dk_at dksJ1_toArray_2_2 19 rfl rfl)
theorem dJ1_toArray_2_65 : DC mJ1_toArray_2 65 = .ok (.iload 4, 2) := dk_21 4 (dk_at dksJ1_toArray_2_2 20 rfl rfl)
theorem dJ1_toArray_2_67 : DC mJ1_toArray_2 67 = .ok (.aload_n 3, 1) := dk_45 (dk_at dksJ1_toArray_2_2 22 rfl rfl)
theorem dJ1_toArray_2_68 : DC mJ1_toArray_2 68 = .ok (.iconst 0, 1) := dk_3 (dk_at dksJ1_toArray_2_2 23 rfl rfl)
theorem dJ1_toArray_2_69 : DC mJ1_toArray_2 69 = .ok (.aload_n 2, 1) := dk_44 (dk_at dksJ1_toArray_2_3 0 rfl rfl)
theorem dJ1_toArray_2_70 : DC mJ1_toArray_2 70 = .ok (.arraylength, 1) := dk_190 (dk_at dksJ1_toArray_2_3 1 rfl rfl)
theorem dJ1_toArray_2_71 : DC mJ1_toArray_2 71 = .ok (.iload 4, 2) := dk_21 4 (dk_at dksJ1_toArray_2_3 2 rfl rfl)
theorem dJ1_toArray_2_73 : DC mJ1_toArray_2 73 = .ok (.isub, 1) := dk_100 (dk_at dksJ1_toArray_2_3 4 rfl rfl)
theorem dJ1_toArray_2_74 : DC mJ1_toArray_2 74 = .ok (.invokestatic 27, 3) := dk_184 0 27 (dk_at dksJ1_toArray_2_3 5 rfl rfl)
theorem dJ1_toArray_2_77 : DC mJ1_toArray_2 77 = .ok (.iload 6, 2) := dk_21 6 (dk_at dksJ1_toArray_2_3 8 rfl rfl)
theorem dJ1_toArray_2_79 : DC mJ1_toArray_2 79 = .ok (.iload 5, 2) := dk_21 5 (dk_at dksJ1_toArray_2_3 10 rfl rfl)
theorem dJ1_toArray_2_81 : DC mJ1_toArray_2 81 = .ok (.if_icmp .eq 16, 3) := dk_159 0 16 (dk_at dksJ1_toArray_2_3 12 rfl rfl)
theorem dJ1_toArray_2_84 : DC mJ1_toArray_2 84 = .ok (.aload_n 2, 1) := dk_44 (dk_at dksJ1_toArray_2_3 15 rfl rfl)
theorem dJ1_toArray_2_85 : DC mJ1_toArray_2 85 = .ok (.iconst 0, 1) := dk_3 (dk_at dksJ1_toArray_2_3 16 rfl rfl)
theorem dJ1_toArray_2_86 : DC mJ1_toArray_2 86 = .ok (.aload_n 3, 1) := dk_45 (dk_at dksJ1_toArray_2_3 17 rfl rfl)
theorem dJ1_toArray_2_87 : DC mJ1_toArray_2 87 = .ok (.aload_n 2, 1) := dk_44 (dk_at dksJ1_toArray_2_3 18 rfl rfl)
theorem dJ1_toArray_2_88 : DC mJ1_toArray_2 88 = .ok (.arraylength, 1) := dk_190 (dk_at dksJ1_toArray_2_3 19 rfl rfl)
theorem dJ1_toArray_2_89 : DC mJ1_toArray_2 89 = .ok (.iload 4, 2) := dk_21 4 (dk_at dksJ1_toArray_2_3 20 rfl rfl)
theorem dJ1_toArray_2_91 : DC mJ1_toArray_2 91 = .ok (.isub, 1) := dk_100 (dk_at dksJ1_toArray_2_3 22 rfl rfl)
theorem dJ1_toArray_2_92 : DC mJ1_toArray_2 92 = .ok (.iload 5, 2) := dk_21 5 (dk_at dksJ1_toArray_2_4 0 rfl rfl)
theorem dJ1_toArray_2_94 : DC mJ1_toArray_2 94 = .ok (.invokestatic 27, 3) := dk_184 0 27 (dk_at dksJ1_toArray_2_4 2 rfl rfl)
theorem dJ1_toArray_2_97 : DC mJ1_toArray_2 97 = .ok (.aload_n 3, 1) := dk_45 (dk_at dksJ1_toArray_2_4 5 rfl rfl)
theorem dJ1_toArray_2_98 : DC mJ1_toArray_2 98 = .ok (.areturn, 1) := dk_176 (dk_at dksJ1_toArray_2_4 6 rfl rfl)
abbrev cJ1_size : ByteArray := prog_50_method_37_code
def yJ1_size : MethodName := ⟨RJ1, "size", "()I"⟩
def mJ1_size : MI := (⟨"java/util/ArrayDeque", "size", "()I"⟩, prog_50_method_37_code, 1, (Option.some FieldType.int), none, 1, 2)
theorem oJ1_size : mO mJ1_size = 1 := rfl
theorem lJ1_size : mL mJ1_size = 1 := rfl
theorem rJ1_size : mR mJ1_size = (Option.some FieldType.int) := rfl
theorem vJ1_size : mV mJ1_size = 2 := rfl
theorem nJ1_size : (mY mJ1_size).name = "size" := rfl
theorem hJ1_size : mH mJ1_size = none := rfl
theorem kJ1_size : MOk mJ1_size := ⟨q1514, q77, by decide +kernel⟩
theorem gJ1_size : plainName (mY mJ1_size).cls = true ∧ (mY mJ1_size).cls = "java/util/ArrayDeque" := ⟨by decide +kernel, rfl⟩
def dkwJ1_size_0 : List UInt8 := [42, 180, 0, 20, 42, 180, 0, 24, 42, 180, 0, 3, 190, 184, 0, 127, 172]
abbrev dktJ1_size_0 : List UInt8 := dkwJ1_size_0 ++ []
theorem dksJ1_size_0 : cJ1_size.data.toList.drop 0 = dktJ1_size_0 := by decide +kernel
theorem dJ1_size_0 : DC mJ1_size 0 = .ok (.aload_n 0, 1) := dk_42 (dk_at dksJ1_size_0 0 rfl rfl)
theorem dJ1_size_1 : DC mJ1_size 1 = .ok (.getfield 20, 3) := dk_180 0 20 (dk_at dksJ1_size_0 1 rfl rfl)
theorem dJ1_size_4 : DC mJ1_size 4 = .ok (.aload_n 0, 1) := dk_42 (dk_at dksJ1_size_0 4 rfl rfl)
theorem dJ1_size_5 : DC mJ1_size 5 = .ok (.getfield 24, 3) := dk_180 0 24 (dk_at dksJ1_size_0 5 rfl rfl)
theorem dJ1_size_8 : DC mJ1_size 8 = .ok (.aload_n 0, 1) := dk_42 (dk_at dksJ1_size_0 8 rfl rfl)
theorem dJ1_size_9 : DC mJ1_size 9 = .ok (.getfield 3, 3) := dk_180 0 3 (dk_at dksJ1_size_0 9 rfl rfl)
theorem dJ1_size_12 : DC mJ1_size 12 = .ok (.arraylength, 1) := dk_190 (dk_at dksJ1_size_0 12 rfl rfl)
theorem dJ1_size_13 : DC mJ1_size 13 = .ok (.invokestatic 127, 3) := dk_184 0 127 (dk_at dksJ1_size_0 13 rfl rfl)
theorem dJ1_size_16 : DC mJ1_size 16 = .ok (.ireturn, 1) := dk_172 (dk_at dksJ1_size_0 16 rfl rfl)
abbrev cJ1_sub : ByteArray := prog_50_method_9_code
def yJ1_sub : MethodName := ⟨RJ1, "sub", "(III)I"⟩
def mJ1_sub : MI := (⟨"java/util/ArrayDeque", "sub", "(III)I"⟩, prog_50_method_9_code, 3, (Option.some FieldType.int), none, 1, 1)
theorem oJ1_sub : mO mJ1_sub = 1 := rfl
theorem lJ1_sub : mL mJ1_sub = 3 := rfl
theorem rJ1_sub : mR mJ1_sub = (Option.some FieldType.int) := rfl
theorem vJ1_sub : mV mJ1_sub = 1 := rfl
theorem nJ1_sub : (mY mJ1_sub).name = "sub" := rfl
theorem hJ1_sub : mH mJ1_sub = none := rfl
theorem kJ1_sub : MOk mJ1_sub := ⟨q1517, q77, by decide +kernel⟩
theorem gJ1_sub : plainName (mY mJ1_sub).cls = true ∧ (mY mJ1_sub).cls = "java/util/ArrayDeque" := ⟨by decide +kernel, rfl⟩
def dkwJ1_sub_0 : List UInt8 := [26, 27, 100, 89, 59, 156, 0, 7, 26, 28, 96, 59, 26, 172]
abbrev dktJ1_sub_0 : List UInt8 := dkwJ1_sub_0 ++ []
theorem dksJ1_sub_0 : cJ1_sub.data.toList.drop 0 = dktJ1_sub_0 := by decide +kernel
theorem dJ1_sub_0 : DC mJ1_sub 0 = .ok (.iload_n 0, 1) := dk_26 (dk_at dksJ1_sub_0 0 rfl rfl)
theorem dJ1_sub_1 : DC mJ1_sub 1 = .ok (.iload_n 1, 1) := dk_27 (dk_at dksJ1_sub_0 1 rfl rfl)
theorem dJ1_sub_2 : DC mJ1_sub 2 = .ok (.isub, 1) := dk_100 (dk_at dksJ1_sub_0 2 rfl rfl)
theorem dJ1_sub_3 : DC mJ1_sub 3 = .ok (.dup, 1) := dk_89 (dk_at dksJ1_sub_0 3 rfl rfl)
theorem dJ1_sub_4 : DC mJ1_sub 4 = .ok (.istore_n 0, 1) := dk_59 (dk_at dksJ1_sub_0 4 rfl rfl)
theorem dJ1_sub_5 : DC mJ1_sub 5 = .ok (.ifCond .ge 7, 3) := dk_156 0 7 (dk_at dksJ1_sub_0 5 rfl rfl)
theorem dJ1_sub_8 : DC mJ1_sub 8 = .ok (.iload_n 0, 1) := dk_26 (dk_at dksJ1_sub_0 8 rfl rfl)
theorem dJ1_sub_9 : DC mJ1_sub 9 = .ok (.iload_n 2, 1) := dk_28 (dk_at dksJ1_sub_0 9 rfl rfl)
theorem dJ1_sub_10 : DC mJ1_sub 10 = .ok (.iadd, 1) := dk_96 (dk_at dksJ1_sub_0 10 rfl rfl)
theorem dJ1_sub_11 : DC mJ1_sub 11 = .ok (.istore_n 0, 1) := dk_59 (dk_at dksJ1_sub_0 11 rfl rfl)
theorem dJ1_sub_12 : DC mJ1_sub 12 = .ok (.iload_n 0, 1) := dk_26 (dk_at dksJ1_sub_0 12 rfl rfl)
theorem dJ1_sub_13 : DC mJ1_sub 13 = .ok (.ireturn, 1) := dk_172 (dk_at dksJ1_sub_0 13 rfl rfl)
abbrev cJ1_removeLast : ByteArray := prog_50_method_19_code
def yJ1_removeLast : MethodName := ⟨RJ1, "removeLast", "()Ljava/lang/Object;"⟩
def mJ1_removeLast : MI := (⟨"java/util/ArrayDeque", "removeLast", "()Ljava/lang/Object;"⟩, prog_50_method_19_code, 2, (Option.some (FieldType.object "java/lang/Object")), none, 1, 3)
theorem oJ1_removeLast : mO mJ1_removeLast = 1 := rfl
theorem lJ1_removeLast : mL mJ1_removeLast = 2 := rfl
theorem rJ1_removeLast : mR mJ1_removeLast = (Option.some (FieldType.object "java/lang/Object")) := rfl
theorem vJ1_removeLast : mV mJ1_removeLast = 3 := rfl
theorem nJ1_removeLast : (mY mJ1_removeLast).name = "removeLast" := rfl
theorem hJ1_removeLast : mH mJ1_removeLast = none := rfl
theorem kJ1_removeLast : MOk mJ1_removeLast := ⟨q1624, q77, by decide +kernel⟩
theorem gJ1_removeLast : plainName (mY mJ1_removeLast).cls = true ∧ (mY mJ1_removeLast).cls = "java/util/ArrayDeque" := ⟨by decide +kernel, rfl⟩
def dkwJ1_removeLast_0 : List UInt8 := [42, 182, 0, 100, 76, 43, 199, 0, 11, 187, 0, 97, 89, 183, 0, 99, 191, 43, 176]
abbrev dktJ1_removeLast_0 : List UInt8 := dkwJ1_removeLast_0 ++ []
theorem dksJ1_removeLast_0 : cJ1_removeLast.data.toList.drop 0 = dktJ1_removeLast_0 := by decide +kernel
theorem dJ1_removeLast_0 : DC mJ1_removeLast 0 = .ok (.aload_n 0, 1) := dk_42 (dk_at dksJ1_removeLast_0 0 rfl rfl)
theorem dJ1_removeLast_1 : DC mJ1_removeLast 1 = .ok (.invokevirtual 100, 3) := dk_182 0 100 (dk_at dksJ1_removeLast_0 1 rfl rfl)
theorem dJ1_removeLast_4 : DC mJ1_removeLast 4 = .ok (.astore_n 1, 1) := dk_76 (dk_at dksJ1_removeLast_0 4 rfl rfl)
theorem dJ1_removeLast_5 : DC mJ1_removeLast 5 = .ok (.aload_n 1, 1) := dk_43 (dk_at dksJ1_removeLast_0 5 rfl rfl)
theorem dJ1_removeLast_6 : DC mJ1_removeLast 6 = .ok (.ifnonnull 11, 3) := dk_199 0 11 (dk_at dksJ1_removeLast_0 6 rfl rfl)
theorem dJ1_removeLast_9 : DC mJ1_removeLast 9 = .ok (.new 97, 3) := dk_187 0 97 (dk_at dksJ1_removeLast_0 9 rfl rfl)
theorem dJ1_removeLast_12 : DC mJ1_removeLast 12 = .ok (.dup, 1) := dk_89 (dk_at dksJ1_removeLast_0 12 rfl rfl)
theorem dJ1_removeLast_13 : DC mJ1_removeLast 13 = .ok (.invokespecial 99, 3) := dk_183 0 99 (dk_at dksJ1_removeLast_0 13 rfl rfl)
theorem dJ1_removeLast_16 : DC mJ1_removeLast 16 = .ok (.athrow, 1) := dk_191 (dk_at dksJ1_removeLast_0 16 rfl rfl)
theorem dJ1_removeLast_17 : DC mJ1_removeLast 17 = .ok (.aload_n 1, 1) := dk_43 (dk_at dksJ1_removeLast_0 17 rfl rfl)
theorem dJ1_removeLast_18 : DC mJ1_removeLast 18 = .ok (.areturn, 1) := dk_176 (dk_at dksJ1_removeLast_0 18 rfl rfl)
abbrev cJ1_pollLast : ByteArray := prog_50_method_21_code
def yJ1_pollLast : MethodName := ⟨RJ1, "pollLast", "()Ljava/lang/Object;"⟩
def mJ1_pollLast : MI := (⟨"java/util/ArrayDeque", "pollLast", "()Ljava/lang/Object;"⟩, prog_50_method_21_code, 4, (Option.some (FieldType.object "java/lang/Object")), none, 1, 2)
theorem oJ1_pollLast : mO mJ1_pollLast = 1 := rfl
theorem lJ1_pollLast : mL mJ1_pollLast = 4 := rfl
theorem rJ1_pollLast : mR mJ1_pollLast = (Option.some (FieldType.object "java/lang/Object")) := rfl
theorem vJ1_pollLast : mV mJ1_pollLast = 2 := rfl
theorem nJ1_pollLast : (mY mJ1_pollLast).name = "pollLast" := rfl
theorem hJ1_pollLast : mH mJ1_pollLast = none := rfl
theorem kJ1_pollLast : MOk mJ1_pollLast := ⟨q1628, q77, by decide +kernel⟩
theorem gJ1_pollLast : plainName (mY mJ1_pollLast).cls = true ∧ (mY mJ1_pollLast).cls = "java/util/ArrayDeque" := ⟨by decide +kernel, rfl⟩
def dkwJ1_pollLast_1 : List UInt8 := [198, 0, 12, 43, 42, 28, 90, 181, 0, 20, 1, 83, 45, 176]
abbrev dktJ1_pollLast_1 : List UInt8 := dkwJ1_pollLast_1 ++ []
def dkwJ1_pollLast_0 : List UInt8 := [42, 180, 0, 3, 89, 76, 42, 180, 0, 20, 43, 190, 184, 0, 68, 89, 61, 184, 0, 103, 78, 45]
abbrev dktJ1_pollLast_0 : List UInt8 := dkwJ1_pollLast_0 ++ dktJ1_pollLast_1
theorem dksJ1_pollLast_0 : cJ1_pollLast.data.toList.drop 0 = dktJ1_pollLast_0 := by decide +kernel
theorem dksJ1_pollLast_1 : cJ1_pollLast.data.toList.drop 22 = dktJ1_pollLast_1 := dk_seg dksJ1_pollLast_0 22 rfl rfl
theorem dJ1_pollLast_0 : DC mJ1_pollLast 0 = .ok (.aload_n 0, 1) := dk_42 (dk_at dksJ1_pollLast_0 0 rfl rfl)
theorem dJ1_pollLast_1 : DC mJ1_pollLast 1 = .ok (.getfield 3, 3) := dk_180 0 3 (dk_at dksJ1_pollLast_0 1 rfl rfl)
theorem dJ1_pollLast_4 : DC mJ1_pollLast 4 = .ok (.dup, 1) := dk_89 (dk_at dksJ1_pollLast_0 4 rfl rfl)
theorem dJ1_pollLast_5 : DC mJ1_pollLast 5 = .ok (.astore_n 1, 1) := dk_76 (dk_at dksJ1_pollLast_0 5 rfl rfl)
theorem dJ1_pollLast_6 : DC mJ1_pollLast 6 = .ok (.aload_n 0, 1) := dk_42 (dk_at dksJ1_pollLast_0 6 rfl rfl)
theorem dJ1_pollLast_7 : DC mJ1_pollLast 7 = .ok (.getfield 20, 3) := dk_180 0 20 (dk_at dksJ1_pollLast_0 7 rfl rfl)
theorem dJ1_pollLast_10 : DC mJ1_pollLast 10 = .ok (.aload_n 1, 1) := dk_43 (dk_at dksJ1_pollLast_0 10 rfl rfl)
theorem dJ1_pollLast_11 : DC mJ1_pollLast 11 = .ok (.arraylength, 1) := dk_190 (dk_at dksJ1_pollLast_0 11 rfl rfl)
theorem dJ1_pollLast_12 : DC mJ1_pollLast 12 = .ok (.invokestatic 68, 3) := dk_184 0 68 (dk_at dksJ1_pollLast_0 12 rfl rfl)
theorem dJ1_pollLast_15 : DC mJ1_pollLast 15 = .ok (.dup, 1) := dk_89 (dk_at dksJ1_pollLast_0 15 rfl rfl)
theorem dJ1_pollLast_16 : DC mJ1_pollLast 16 = .ok (.istore_n 2, 1) := dk_61 (dk_at dksJ1_pollLast_0 16 rfl rfl)
theorem dJ1_pollLast_17 : DC mJ1_pollLast 17 = .ok (.invokestatic 103, 3) := dk_184 0 103 (dk_at dksJ1_pollLast_0 17 rfl rfl)
theorem dJ1_pollLast_20 : DC mJ1_pollLast 20 = .ok (.astore_n 3, 1) := dk_78 (dk_at dksJ1_pollLast_0 20 rfl rfl)
theorem dJ1_pollLast_21 : DC mJ1_pollLast 21 = .ok (.aload_n 3, 1) := dk_45 (dk_at dksJ1_pollLast_0 21 rfl rfl)
theorem dJ1_pollLast_22 : DC mJ1_pollLast 22 = .ok (.ifnull 12, 3) := dk_198 0 12 (dk_at dksJ1_pollLast_1 0 rfl rfl)
theorem dJ1_pollLast_25 : DC mJ1_pollLast 25 = .ok (.aload_n 1, 1) := dk_43 (dk_at dksJ1_pollLast_1 3 rfl rfl)
theorem dJ1_pollLast_26 : DC mJ1_pollLast 26 = .ok (.aload_n 0, 1) := dk_42 (dk_at dksJ1_pollLast_1 4 rfl rfl)
theorem dJ1_pollLast_27 : DC mJ1_pollLast 27 = .ok (.iload_n 2, 1) := dk_28 (dk_at dksJ1_pollLast_1 5 rfl rfl)
theorem dJ1_pollLast_28 : DC mJ1_pollLast 28 = .ok (.dup_x1, 1) := dk_90 (dk_at dksJ1_pollLast_1 6 rfl rfl)
theorem dJ1_pollLast_29 : DC mJ1_pollLast 29 = .ok (.putfield 20, 3) := dk_181 0 20 (dk_at dksJ1_pollLast_1 7 rfl rfl)
theorem dJ1_pollLast_32 : DC mJ1_pollLast 32 = .ok (.aconst_null, 1) := dk_1 (dk_at dksJ1_pollLast_1 10 rfl rfl)
theorem dJ1_pollLast_33 : DC mJ1_pollLast 33 = .ok (.aastore, 1) := dk_83 (dk_at dksJ1_pollLast_1 11 rfl rfl)
theorem dJ1_pollLast_34 : DC mJ1_pollLast 34 = .ok (.aload_n 3, 1) := dk_45 (dk_at dksJ1_pollLast_1 12 rfl rfl)
theorem dJ1_pollLast_35 : DC mJ1_pollLast 35 = .ok (.areturn, 1) := dk_176 (dk_at dksJ1_pollLast_1 13 rfl rfl)
abbrev cJ1_dec : ByteArray := prog_50_method_7_code
def yJ1_dec : MethodName := ⟨RJ1, "dec", "(II)I"⟩
def mJ1_dec : MI := (⟨"java/util/ArrayDeque", "dec", "(II)I"⟩, prog_50_method_7_code, 2, (Option.some FieldType.int), none, 1, 1)
theorem oJ1_dec : mO mJ1_dec = 1 := rfl
theorem lJ1_dec : mL mJ1_dec = 2 := rfl
theorem rJ1_dec : mR mJ1_dec = (Option.some FieldType.int) := rfl
theorem vJ1_dec : mV mJ1_dec = 1 := rfl
theorem nJ1_dec : (mY mJ1_dec).name = "dec" := rfl
theorem hJ1_dec : mH mJ1_dec = none := rfl
theorem kJ1_dec : MOk mJ1_dec := ⟨q1631, q77, by decide +kernel⟩
theorem gJ1_dec : plainName (mY mJ1_dec).cls = true ∧ (mY mJ1_dec).cls = "java/util/ArrayDeque" := ⟨by decide +kernel, rfl⟩
def dkwJ1_dec_0 : List UInt8 := [132, 0, 255, 26, 156, 0, 7, 27, 4, 100, 59, 26, 172]
abbrev dktJ1_dec_0 : List UInt8 := dkwJ1_dec_0 ++ []
theorem dksJ1_dec_0 : cJ1_dec.data.toList.drop 0 = dktJ1_dec_0 := by decide +kernel
theorem dJ1_dec_0 : DC mJ1_dec 0 = .ok (.iinc 0 (-1), 3) := dk_132 0 255 (dk_at dksJ1_dec_0 0 rfl rfl)
theorem dJ1_dec_3 : DC mJ1_dec 3 = .ok (.iload_n 0, 1) := dk_26 (dk_at dksJ1_dec_0 3 rfl rfl)
theorem dJ1_dec_4 : DC mJ1_dec 4 = .ok (.ifCond .ge 7, 3) := dk_156 0 7 (dk_at dksJ1_dec_0 4 rfl rfl)
theorem dJ1_dec_7 : DC mJ1_dec 7 = .ok (.iload_n 1, 1) := dk_27 (dk_at dksJ1_dec_0 7 rfl rfl)
theorem dJ1_dec_8 : DC mJ1_dec 8 = .ok (.iconst 1, 1) := dk_4 (dk_at dksJ1_dec_0 8 rfl rfl)
theorem dJ1_dec_9 : DC mJ1_dec 9 = .ok (.isub, 1) := dk_100 (dk_at dksJ1_dec_0 9 rfl rfl)
theorem dJ1_dec_10 : DC mJ1_dec 10 = .ok (.istore_n 0, 1) := dk_59 (dk_at dksJ1_dec_0 10 rfl rfl)
theorem dJ1_dec_11 : DC mJ1_dec 11 = .ok (.iload_n 0, 1) := dk_26 (dk_at dksJ1_dec_0 11 rfl rfl)
theorem dJ1_dec_12 : DC mJ1_dec 12 = .ok (.ireturn, 1) := dk_172 (dk_at dksJ1_dec_0 12 rfl rfl)
abbrev cJ1_elementAt : ByteArray := prog_50_method_10_code
def yJ1_elementAt : MethodName := ⟨RJ1, "elementAt", "([Ljava/lang/Object;I)Ljava/lang/Object;"⟩
def mJ1_elementAt : MI := (⟨"java/util/ArrayDeque", "elementAt", "([Ljava/lang/Object;I)Ljava/lang/Object;"⟩, prog_50_method_10_code, 2, (Option.some (FieldType.object "java/lang/Object")), none, 1, 1)
theorem oJ1_elementAt : mO mJ1_elementAt = 1 := rfl
theorem lJ1_elementAt : mL mJ1_elementAt = 2 := rfl
theorem rJ1_elementAt : mR mJ1_elementAt = (Option.some (FieldType.object "java/lang/Object")) := rfl
theorem vJ1_elementAt : mV mJ1_elementAt = 1 := rfl
theorem nJ1_elementAt : (mY mJ1_elementAt).name = "elementAt" := rfl
theorem hJ1_elementAt : mH mJ1_elementAt = none := rfl
theorem kJ1_elementAt : MOk mJ1_elementAt := ⟨q1634, q77, by decide +kernel⟩
theorem gJ1_elementAt : plainName (mY mJ1_elementAt).cls = true ∧ (mY mJ1_elementAt).cls = "java/util/ArrayDeque" := ⟨by decide +kernel, rfl⟩
def dkwJ1_elementAt_0 : List UInt8 := [42, 27, 50, 176]
abbrev dktJ1_elementAt_0 : List UInt8 := dkwJ1_elementAt_0 ++ []
theorem dksJ1_elementAt_0 : cJ1_elementAt.data.toList.drop 0 = dktJ1_elementAt_0 := by decide +kernel
theorem dJ1_elementAt_0 : DC mJ1_elementAt 0 = .ok (.aload_n 0, 1) := dk_42 (dk_at dksJ1_elementAt_0 0 rfl rfl)
theorem dJ1_elementAt_1 : DC mJ1_elementAt 1 = .ok (.iload_n 1, 1) := dk_27 (dk_at dksJ1_elementAt_0 1 rfl rfl)
theorem dJ1_elementAt_2 : DC mJ1_elementAt 2 = .ok (.aaload, 1) := dk_50 (dk_at dksJ1_elementAt_0 2 rfl rfl)
theorem dJ1_elementAt_3 : DC mJ1_elementAt 3 = .ok (.areturn, 1) := dk_176 (dk_at dksJ1_elementAt_0 3 rfl rfl)
abbrev cJ1_push : ByteArray := prog_50_method_34_code
def yJ1_push : MethodName := ⟨RJ1, "push", "(Ljava/lang/Object;)V"⟩
def mJ1_push : MI := (⟨"java/util/ArrayDeque", "push", "(Ljava/lang/Object;)V"⟩, prog_50_method_34_code, 2, (Option.none : Option FieldType), none, 1, 6)
theorem oJ1_push : mO mJ1_push = 1 := rfl
theorem lJ1_push : mL mJ1_push = 2 := rfl
theorem rJ1_push : mR mJ1_push = (Option.none : Option FieldType) := rfl
theorem vJ1_push : mV mJ1_push = 6 := rfl
theorem nJ1_push : (mY mJ1_push).name = "push" := rfl
theorem hJ1_push : mH mJ1_push = none := rfl
theorem kJ1_push : MOk mJ1_push := ⟨q1640, q77, by decide +kernel⟩
theorem gJ1_push : plainName (mY mJ1_push).cls = true ∧ (mY mJ1_push).cls = "java/util/ArrayDeque" := ⟨by decide +kernel, rfl⟩
def dkwJ1_push_0 : List UInt8 := [42, 43, 182, 0, 86, 177]
abbrev dktJ1_push_0 : List UInt8 := dkwJ1_push_0 ++ []
theorem dksJ1_push_0 : cJ1_push.data.toList.drop 0 = dktJ1_push_0 := by decide +kernel
theorem dJ1_push_0 : DC mJ1_push 0 = .ok (.aload_n 0, 1) := dk_42 (dk_at dksJ1_push_0 0 rfl rfl)
theorem dJ1_push_1 : DC mJ1_push 1 = .ok (.aload_n 1, 1) := dk_43 (dk_at dksJ1_push_0 1 rfl rfl)
theorem dJ1_push_2 : DC mJ1_push 2 = .ok (.invokevirtual 86, 3) := dk_182 0 86 (dk_at dksJ1_push_0 2 rfl rfl)
theorem dJ1_push_5 : DC mJ1_push 5 = .ok (.return_, 1) := dk_177 (dk_at dksJ1_push_0 5 rfl rfl)
abbrev cJ1_addFirst : ByteArray := prog_50_method_12_code
def yJ1_addFirst : MethodName := ⟨RJ1, "addFirst", "(Ljava/lang/Object;)V"⟩
def mJ1_addFirst : MI := (⟨"java/util/ArrayDeque", "addFirst", "(Ljava/lang/Object;)V"⟩, prog_50_method_12_code, 3, (Option.none : Option FieldType), none, 1, 5)
theorem oJ1_addFirst : mO mJ1_addFirst = 1 := rfl
theorem lJ1_addFirst : mL mJ1_addFirst = 3 := rfl
theorem rJ1_addFirst : mR mJ1_addFirst = (Option.none : Option FieldType) := rfl
theorem vJ1_addFirst : mV mJ1_addFirst = 5 := rfl
theorem nJ1_addFirst : (mY mJ1_addFirst).name = "addFirst" := rfl
theorem hJ1_addFirst : mH mJ1_addFirst = none := rfl
theorem kJ1_addFirst : MOk mJ1_addFirst := ⟨q1644, q77, by decide +kernel⟩
theorem gJ1_addFirst : plainName (mY mJ1_addFirst).cls = true ∧ (mY mJ1_addFirst).cls = "java/util/ArrayDeque" := ⟨by decide +kernel, rfl⟩
def dkwJ1_addFirst_2 : List UInt8 := [182, 0, 71, 177]
abbrev dktJ1_addFirst_2 : List UInt8 := dkwJ1_addFirst_2 ++ []
def dkwJ1_addFirst_1 : List UInt8 := [190, 184, 0, 68, 90, 181, 0, 24, 43, 83, 42, 180, 0, 24, 42, 180, 0, 20, 160, 0, 8, 42, 4]
abbrev dktJ1_addFirst_1 : List UInt8 := dkwJ1_addFirst_1 ++ dktJ1_addFirst_2
def dkwJ1_addFirst_0 : List UInt8 := [43, 199, 0, 11, 187, 0, 65, 89, 183, 0, 67, 191, 42, 180, 0, 3, 77, 44, 42, 42, 180, 0, 24, 44]
abbrev dktJ1_addFirst_0 : List UInt8 := dkwJ1_addFirst_0 ++ dktJ1_addFirst_1
theorem dksJ1_addFirst_0 : cJ1_addFirst.data.toList.drop 0 = dktJ1_addFirst_0 := by decide +kernel
theorem dksJ1_addFirst_1 : cJ1_addFirst.data.toList.drop 24 = dktJ1_addFirst_1 := dk_seg dksJ1_addFirst_0 24 rfl rfl
theorem dksJ1_addFirst_2 : cJ1_addFirst.data.toList.drop 47 = dktJ1_addFirst_2 := dk_seg dksJ1_addFirst_1 23 rfl rfl
theorem dJ1_addFirst_0 : DC mJ1_addFirst 0 = .ok (.aload_n 1, 1) := dk_43 (dk_at dksJ1_addFirst_0 0 rfl rfl)
theorem dJ1_addFirst_1 : DC mJ1_addFirst 1 = .ok (.ifnonnull 11, 3) := dk_199 0 11 (dk_at dksJ1_addFirst_0 1 rfl rfl)
theorem dJ1_addFirst_4 : DC mJ1_addFirst 4 = .ok (.new 65, 3) := dk_187 0 65 (dk_at dksJ1_addFirst_0 4 rfl rfl)
theorem dJ1_addFirst_7 : DC mJ1_addFirst 7 = .ok (.dup, 1) := dk_89 (dk_at dksJ1_addFirst_0 7 rfl rfl)
theorem dJ1_addFirst_8 : DC mJ1_addFirst 8 = .ok (.invokespecial 67, 3) := dk_183 0 67 (dk_at dksJ1_addFirst_0 8 rfl rfl)
theorem dJ1_addFirst_11 : DC mJ1_addFirst 11 = .ok (.athrow, 1) := dk_191 (dk_at dksJ1_addFirst_0 11 rfl rfl)
theorem dJ1_addFirst_12 : DC mJ1_addFirst 12 = .ok (.aload_n 0, 1) := dk_42 (dk_at dksJ1_addFirst_0 12 rfl rfl)
theorem dJ1_addFirst_13 : DC mJ1_addFirst 13 = .ok (.getfield 3, 3) := dk_180 0 3 (dk_at dksJ1_addFirst_0 13 rfl rfl)
theorem dJ1_addFirst_16 : DC mJ1_addFirst 16 = .ok (.astore_n 2, 1) := dk_77 (dk_at dksJ1_addFirst_0 16 rfl rfl)
theorem dJ1_addFirst_17 : DC mJ1_addFirst 17 = .ok (.aload_n 2, 1) := dk_44 (dk_at dksJ1_addFirst_0 17 rfl rfl)
theorem dJ1_addFirst_18 : DC mJ1_addFirst 18 = .ok (.aload_n 0, 1) := dk_42 (dk_at dksJ1_addFirst_0 18 rfl rfl)
theorem dJ1_addFirst_19 : DC mJ1_addFirst 19 = .ok (.aload_n 0, 1) := dk_42 (dk_at dksJ1_addFirst_0 19 rfl rfl)
theorem dJ1_addFirst_20 : DC mJ1_addFirst 20 = .ok (.getfield 24, 3) := dk_180 0 24 (dk_at dksJ1_addFirst_0 20 rfl rfl)
theorem dJ1_addFirst_23 : DC mJ1_addFirst 23 = .ok (.aload_n 2, 1) := dk_44 (dk_at dksJ1_addFirst_0 23 rfl rfl)
theorem dJ1_addFirst_24 : DC mJ1_addFirst 24 = .ok (.arraylength, 1) := dk_190 (dk_at dksJ1_addFirst_1 0 rfl rfl)
theorem dJ1_addFirst_25 : DC mJ1_addFirst 25 = .ok (.invokestatic 68, 3) := dk_184 0 68 (dk_at dksJ1_addFirst_1 1 rfl rfl)
theorem dJ1_addFirst_28 : DC mJ1_addFirst 28 = .ok (.dup_x1, 1) := dk_90 (dk_at dksJ1_addFirst_1 4 rfl rfl)
theorem dJ1_addFirst_29 : DC mJ1_addFirst 29 = .ok (.putfield 24, 3) := dk_181 0 24 (dk_at dksJ1_addFirst_1 5 rfl rfl)
theorem dJ1_addFirst_32 : DC mJ1_addFirst 32 = .ok (.aload_n 1, 1) := dk_43 (dk_at dksJ1_addFirst_1 8 rfl rfl)
theorem dJ1_addFirst_33 : DC mJ1_addFirst 33 = .ok (.aastore, 1) := dk_83 (dk_at dksJ1_addFirst_1 9 rfl rfl)
theorem dJ1_addFirst_34 : DC mJ1_addFirst 34 = .ok (.aload_n 0, 1) := dk_42 (dk_at dksJ1_addFirst_1 10 rfl rfl)
theorem dJ1_addFirst_35 : DC mJ1_addFirst 35 = .ok (.getfield 24, 3) := dk_180 0 24 (dk_at dksJ1_addFirst_1 11 rfl rfl)
theorem dJ1_addFirst_38 : DC mJ1_addFirst 38 = .ok (.aload_n 0, 1) := dk_42 (dk_at dksJ1_addFirst_1 14 rfl rfl)
theorem dJ1_addFirst_39 : DC mJ1_addFirst 39 = .ok (.getfield 20, 3) := dk_180 0 20 (dk_at dksJ1_addFirst_1 15 rfl rfl)
theorem dJ1_addFirst_42 : DC mJ1_addFirst 42 = .ok (.if_icmp .ne 8, 3) := dk_160 0 8 (dk_at dksJ1_addFirst_1 18 rfl rfl)
theorem dJ1_addFirst_45 : DC mJ1_addFirst 45 = .ok (.aload_n 0, 1) := dk_42 (dk_at dksJ1_addFirst_1 21 rfl rfl)
theorem dJ1_addFirst_46 : DC mJ1_addFirst 46 = .ok (.iconst 1, 1) := dk_4 (dk_at dksJ1_addFirst_1 22 rfl rfl)
theorem dJ1_addFirst_47 : DC mJ1_addFirst 47 = .ok (.invokevirtual 71, 3) := dk_182 0 71 (dk_at dksJ1_addFirst_2 0 rfl rfl)
theorem dJ1_addFirst_50 : DC mJ1_addFirst 50 = .ok (.return_, 1) := dk_177 (dk_at dksJ1_addFirst_2 3 rfl rfl)
abbrev cJ1_grow : ByteArray := prog_50_method_1_code
def yJ1_grow : MethodName := ⟨RJ1, "grow", "(I)V"⟩
def mJ1_grow : MI := (⟨"java/util/ArrayDeque", "grow", "(I)V"⟩, prog_50_method_1_code, 9, (Option.none : Option FieldType), none, 1, 4)
theorem oJ1_grow : mO mJ1_grow = 1 := rfl
theorem lJ1_grow : mL mJ1_grow = 9 := rfl
theorem rJ1_grow : mR mJ1_grow = (Option.none : Option FieldType) := rfl
theorem vJ1_grow : mV mJ1_grow = 4 := rfl
theorem nJ1_grow : (mY mJ1_grow).name = "grow" := rfl
theorem hJ1_grow : mH mJ1_grow = none := rfl
theorem kJ1_grow : MOk mJ1_grow := ⟨q1648, q77, by decide +kernel⟩
theorem gJ1_grow : plainName (mY mJ1_grow).cls = true ∧ (mY mJ1_grow).cls = "java/util/ArrayDeque" := ⟨by decide +kernel, rfl⟩
def dkwJ1_grow_7 : List UInt8 := [177]
abbrev dktJ1_grow_7 : List UInt8 := dkwJ1_grow_7 ++ []
def dkwJ1_grow_6 : List UInt8 := [181, 0, 24, 54, 8, 21, 7, 21, 8, 162, 0, 15, 25, 5, 21, 7, 1, 83, 132, 7, 1, 167, 255, 240]
abbrev dktJ1_grow_6 : List UInt8 := dkwJ1_grow_6 ++ dktJ1_grow_7
def dkwJ1_grow_5 : List UInt8 := [42, 180, 0, 24, 100, 184, 0, 27, 42, 180, 0, 24, 54, 7, 42, 89, 180, 0, 24, 21, 6, 96, 90]
abbrev dktJ1_grow_5 : List UInt8 := dkwJ1_grow_5 ++ dktJ1_grow_6
def dkwJ1_grow_4 : List UInt8 := [198, 0, 71, 29, 28, 100, 54, 6, 25, 5, 42, 180, 0, 24, 25, 5, 42, 180, 0, 24, 21, 6, 96, 28]
abbrev dktJ1_grow_4 : List UInt8 := dkwJ1_grow_4 ++ dktJ1_grow_5
def dkwJ1_grow_3 : List UInt8 := [180, 0, 24, 161, 0, 24, 42, 180, 0, 20, 42, 180, 0, 24, 160, 0, 81, 25, 5, 42, 180, 0, 24, 50]
abbrev dktJ1_grow_3 : List UInt8 := dkwJ1_grow_3 ++ dktJ1_grow_4
def dkwJ1_grow_2 : List UInt8 := [182, 0, 10, 62, 42, 42, 180, 0, 3, 29, 184, 0, 14, 90, 181, 0, 3, 58, 5, 42, 180, 0, 20, 42]
abbrev dktJ1_grow_2 : List UInt8 := dkwJ1_grow_2 ++ dktJ1_grow_3
def dkwJ1_grow_1 : List UInt8 := [21, 4, 27, 161, 0, 15, 28, 21, 4, 96, 89, 62, 18, 9, 100, 158, 0, 11, 42, 27, 21, 4]
abbrev dktJ1_grow_1 : List UInt8 := dkwJ1_grow_1 ++ dktJ1_grow_2
def dkwJ1_grow_0 : List UInt8 := [42, 180, 0, 3, 190, 61, 28, 16, 64, 162, 0, 9, 28, 5, 96, 167, 0, 6, 28, 4, 122, 54, 4]
abbrev dktJ1_grow_0 : List UInt8 := dkwJ1_grow_0 ++ dktJ1_grow_1
theorem dksJ1_grow_0 : cJ1_grow.data.toList.drop 0 = dktJ1_grow_0 := by decide +kernel
theorem dksJ1_grow_1 : cJ1_grow.data.toList.drop 23 = dktJ1_grow_1 := dk_seg dksJ1_grow_0 23 rfl rfl
theorem dksJ1_grow_2 : cJ1_grow.data.toList.drop 45 = dktJ1_grow_2 := dk_seg dksJ1_grow_1 22 rfl rfl
theorem dksJ1_grow_3 : cJ1_grow.data.toList.drop 69 = dktJ1_grow_3 := dk_seg dksJ1_grow_2 24 rfl rfl
theorem dksJ1_grow_4 : cJ1_grow.data.toList.drop 93 = dktJ1_grow_4 := dk_seg dksJ1_grow_3 24 rfl rfl
theorem dksJ1_grow_5 : cJ1_grow.data.toList.drop 117 = dktJ1_grow_5 := dk_seg dksJ1_grow_4 24 rfl rfl
theorem dksJ1_grow_6 : cJ1_grow.data.toList.drop 140 = dktJ1_grow_6 := dk_seg dksJ1_grow_5 23 rfl rfl
theorem dksJ1_grow_7 : cJ1_grow.data.toList.drop 164 = dktJ1_grow_7 := dk_seg dksJ1_grow_6 24 rfl rfl
theorem dJ1_grow_0 : DC mJ1_grow 0 = .ok (.aload_n 0, 1) := dk_42 (dk_at dksJ1_grow_0 0 rfl rfl)
theorem dJ1_grow_1 : DC mJ1_grow 1 = .ok (.getfield 3, 3) := dk_180 0 3 (dk_at dksJ1_grow_0 1 rfl rfl)
theorem dJ1_grow_4 : DC mJ1_grow 4 = .ok (.arraylength, 1) := dk_190 (dk_at dksJ1_grow_0 4 rfl rfl)
theorem dJ1_grow_5 : DC mJ1_grow 5 = .ok (.istore_n 2, 1) := dk_61 (dk_at dksJ1_grow_0 5 rfl rfl)
theorem dJ1_grow_6 : DC mJ1_grow 6 = .ok (.iload_n 2, 1) := dk_28 (dk_at dksJ1_grow_0 6 rfl rfl)
theorem dJ1_grow_7 : DC mJ1_grow 7 = .ok (.bipush 64, 2) := dk_16 64 (dk_at dksJ1_grow_0 7 rfl rfl)
theorem dJ1_grow_9 : DC mJ1_grow 9 = .ok (.if_icmp .ge 9, 3) := dk_162 0 9 (dk_at dksJ1_grow_0 9 rfl rfl)
theorem dJ1_grow_12 : DC mJ1_grow 12 = .ok (.iload_n 2, 1) := dk_28 (dk_at dksJ1_grow_0 12 rfl rfl)
theorem dJ1_grow_13 : DC mJ1_grow 13 = .ok (.iconst 2, 1) := dk_5 (dk_at dksJ1_grow_0 13 rfl rfl)
theorem dJ1_grow_14 : DC mJ1_grow 14 = .ok (.iadd, 1) := dk_96 (dk_at dksJ1_grow_0 14 rfl rfl)
theorem dJ1_grow_15 : DC mJ1_grow 15 = .ok (.goto 6, 3) := dk_167 0 6 (dk_at dksJ1_grow_0 15 rfl rfl)
theorem dJ1_grow_18 : DC mJ1_grow 18 = .ok (.iload_n 2, 1) := dk_28 (dk_at dksJ1_grow_0 18 rfl rfl)
theorem dJ1_grow_19 : DC mJ1_grow 19 = .ok (.iconst 1, 1) := dk_4 (dk_at dksJ1_grow_0 19 rfl rfl)
theorem dJ1_grow_20 : DC mJ1_grow 20 = .ok (.ishr, 1) := dk_122 (dk_at dksJ1_grow_0 20 rfl rfl)
theorem dJ1_grow_21 : DC mJ1_grow 21 = .ok (.istore 4, 2) := dk_54 4 (dk_at dksJ1_grow_0 21 rfl rfl)
theorem dJ1_grow_23 : DC mJ1_grow 23 = .ok (.iload 4, 2) := dk_21 4 (dk_at dksJ1_grow_1 0 rfl rfl)
theorem dJ1_grow_25 : DC mJ1_grow 25 = .ok (.iload_n 1, 1) := dk_27 (dk_at dksJ1_grow_1 2 rfl rfl)
theorem dJ1_grow_26 : DC mJ1_grow 26 = .ok (.if_icmp .lt 15, 3) := dk_161 0 15 (dk_at dksJ1_grow_1 3 rfl rfl)
theorem dJ1_grow_29 : DC mJ1_grow 29 = .ok (.iload_n 2, 1) := dk_28 (dk_at dksJ1_grow_1 6 rfl rfl)
theorem dJ1_grow_30 : DC mJ1_grow 30 = .ok (.iload 4, 2) := dk_21 4 (dk_at dksJ1_grow_1 7 rfl rfl)
theorem dJ1_grow_32 : DC mJ1_grow 32 = .ok (.iadd, 1) := dk_96 (dk_at dksJ1_grow_1 9 rfl rfl)
theorem dJ1_grow_33 : DC mJ1_grow 33 = .ok (.dup, 1) := dk_89 (dk_at dksJ1_grow_1 10 rfl rfl)
theorem dJ1_grow_34 : DC mJ1_grow 34 = .ok (.istore_n 3, 1) := dk_62 (dk_at dksJ1_grow_1 11 rfl rfl)
theorem dJ1_grow_35 : DC mJ1_grow 35 = .ok (.ldc 9, 2) := dk_18 9 (dk_at dksJ1_grow_1 12 rfl rfl)
theorem dJ1_grow_37 : DC mJ1_grow 37 = .ok (.isub, 1) := dk_100 (dk_at dksJ1_grow_1 14 rfl rfl)
theorem dJ1_grow_38 : DC mJ1_grow 38 = .ok (.ifCond .le 11, 3) := dk_158 0 11 (dk_at dksJ1_grow_1 15 rfl rfl)
theorem dJ1_grow_41 : DC mJ1_grow 41 = .ok (.aload_n 0, 1) := dk_42 (dk_at dksJ1_grow_1 18 rfl rfl)
theorem dJ1_grow_42 : DC mJ1_grow 42 = .ok (.iload_n 1, 1) := dk_27 (dk_at dksJ1_grow_1 19 rfl rfl)
theorem dJ1_grow_43 : DC mJ1_grow 43 = .ok (.iload 4, 2) := dk_21 4 (dk_at dksJ1_grow_1 20 rfl rfl)
theorem dJ1_grow_45 : DC mJ1_grow 45 = .ok (.invokevirtual 10, 3) := dk_182 0 10 (dk_at dksJ1_grow_2 0 rfl rfl)
theorem dJ1_grow_48 : DC mJ1_grow 48 = .ok (.istore_n 3, 1) := dk_62 (dk_at dksJ1_grow_2 3 rfl rfl)
theorem dJ1_grow_49 : DC mJ1_grow 49 = .ok (.aload_n 0, 1) := dk_42 (dk_at dksJ1_grow_2 4 rfl rfl)
theorem dJ1_grow_50 : DC mJ1_grow 50 = .ok (.aload_n 0, 1) := dk_42 (dk_at dksJ1_grow_2 5 rfl rfl)
theorem dJ1_grow_51 : DC mJ1_grow 51 = .ok (.getfield 3, 3) := dk_180 0 3 (dk_at dksJ1_grow_2 6 rfl rfl)
theorem dJ1_grow_54 : DC mJ1_grow 54 = .ok (.iload_n 3, 1) := dk_29 (dk_at dksJ1_grow_2 9 rfl rfl)
theorem dJ1_grow_55 : DC mJ1_grow 55 = .ok (.invokestatic 14, 3) := dk_184 0 14 (dk_at dksJ1_grow_2 10 rfl rfl)
theorem dJ1_grow_58 : DC mJ1_grow 58 = .ok (.dup_x1, 1) := dk_90 (dk_at dksJ1_grow_2 13 rfl rfl)
theorem dJ1_grow_59 : DC mJ1_grow 59 = .ok (.putfield 3, 3) := dk_181 0 3 (dk_at dksJ1_grow_2 14 rfl rfl)
theorem dJ1_grow_62 : DC mJ1_grow 62 = .ok (.astore 5, 2) := dk_58 5 (dk_at dksJ1_grow_2 17 rfl rfl)
theorem dJ1_grow_64 : DC mJ1_grow 64 = .ok (.aload_n 0, 1) := dk_42 (dk_at dksJ1_grow_2 19 rfl rfl)
theorem dJ1_grow_65 : DC mJ1_grow 65 = .ok (.getfield 20, 3) := dk_180 0 20 (dk_at dksJ1_grow_2 20 rfl rfl)
theorem dJ1_grow_68 : DC mJ1_grow 68 = .ok (.aload_n 0, 1) := dk_42 (dk_at dksJ1_grow_2 23 rfl rfl)
theorem dJ1_grow_69 : DC mJ1_grow 69 = .ok (.getfield 24, 3) := dk_180 0 24 (dk_at dksJ1_grow_3 0 rfl rfl)
theorem dJ1_grow_72 : DC mJ1_grow 72 = .ok (.if_icmp .lt 24, 3) := dk_161 0 24 (dk_at dksJ1_grow_3 3 rfl rfl)
theorem dJ1_grow_75 : DC mJ1_grow 75 = .ok (.aload_n 0, 1) := dk_42 (dk_at dksJ1_grow_3 6 rfl rfl)
theorem dJ1_grow_76 : DC mJ1_grow 76 = .ok (.getfield 20, 3) := dk_180 0 20 (dk_at dksJ1_grow_3 7 rfl rfl)
theorem dJ1_grow_79 : DC mJ1_grow 79 = .ok (.aload_n 0, 1) := dk_42 (dk_at dksJ1_grow_3 10 rfl rfl)
theorem dJ1_grow_80 : DC mJ1_grow 80 = .ok (.getfield 24, 3) := dk_180 0 24 (dk_at dksJ1_grow_3 11 rfl rfl)
theorem dJ1_grow_83 : DC mJ1_grow 83 = .ok (.if_icmp .ne 81, 3) := dk_160 0 81 (dk_at dksJ1_grow_3 14 rfl rfl)
theorem dJ1_grow_86 : DC mJ1_grow 86 = .ok (.aload 5, 2) := dk_25 5 (dk_at dksJ1_grow_3 17 rfl rfl)
theorem dJ1_grow_88 : DC mJ1_grow 88 = .ok (.aload_n 0, 1) := dk_42 (dk_at dksJ1_grow_3 19 rfl rfl)
theorem dJ1_grow_89 : DC mJ1_grow 89 = .ok (.getfield 24, 3) := dk_180 0 24 (dk_at dksJ1_grow_3 20 rfl rfl)
theorem dJ1_grow_92 : DC mJ1_grow 92 = .ok (.aaload, 1) := dk_50 (dk_at dksJ1_grow_3 23 rfl rfl)
theorem dJ1_grow_93 : DC mJ1_grow 93 = .ok (.ifnull 71, 3) := dk_198 0 71 (dk_at dksJ1_grow_4 0 rfl rfl)
theorem dJ1_grow_96 : DC mJ1_grow 96 = .ok (.iload_n 3, 1) := dk_29 (dk_at dksJ1_grow_4 3 rfl rfl)
theorem dJ1_grow_97 : DC mJ1_grow 97 = .ok (.iload_n 2, 1) := dk_28 (dk_at dksJ1_grow_4 4 rfl rfl)
theorem dJ1_grow_98 : DC mJ1_grow 98 = .ok (.isub, 1) := dk_100 (dk_at dksJ1_grow_4 5 rfl rfl)
theorem dJ1_grow_99 : DC mJ1_grow 99 = .ok (.istore 6, 2) := dk_54 6 (dk_at dksJ1_grow_4 6 rfl rfl)
theorem dJ1_grow_101 : DC mJ1_grow 101 = .ok (.aload 5, 2) := dk_25 5 (dk_at dksJ1_grow_4 8 rfl rfl)
theorem dJ1_grow_103 : DC mJ1_grow 103 = .ok (.aload_n 0, 1) := dk_42 (dk_at dksJ1_grow_4 10 rfl rfl)
theorem dJ1_grow_104 : DC mJ1_grow 104 = .ok (.getfield 24, 3) := dk_180 0 24 (dk_at dksJ1_grow_4 11 rfl rfl)
theorem dJ1_grow_107 : DC mJ1_grow 107 = .ok (.aload 5, 2) := dk_25 5 (dk_at dksJ1_grow_4 14 rfl rfl)
theorem dJ1_grow_109 : DC mJ1_grow 109 = .ok (.aload_n 0, 1) := dk_42 (dk_at dksJ1_grow_4 16 rfl rfl)
theorem dJ1_grow_110 : DC mJ1_grow 110 = .ok (.getfield 24, 3) := dk_180 0 24 (dk_at dksJ1_grow_4 17 rfl rfl)
theorem dJ1_grow_113 : DC mJ1_grow 113 = .ok (.iload 6, 2) := dk_21 6 (dk_at dksJ1_grow_4 20 rfl rfl)
theorem dJ1_grow_115 : DC mJ1_grow 115 = .ok (.iadd, 1) := dk_96 (dk_at dksJ1_grow_4 22 rfl rfl)
theorem dJ1_grow_116 : DC mJ1_grow 116 = .ok (.iload_n 2, 1) := dk_28 (dk_at dksJ1_grow_4 23 rfl rfl)
theorem dJ1_grow_117 : DC mJ1_grow 117 = .ok (.aload_n 0, 1) := dk_42 (dk_at dksJ1_grow_5 0 rfl rfl)
theorem dJ1_grow_118 : DC mJ1_grow 118 = .ok (.getfield 24, 3) := dk_180 0 24 (dk_at dksJ1_grow_5 1 rfl rfl)
theorem dJ1_grow_121 : DC mJ1_grow 121 = .ok (.isub, 1) := dk_100 (dk_at dksJ1_grow_5 4 rfl rfl)
theorem dJ1_grow_122 : DC mJ1_grow 122 = .ok (.invokestatic 27, 3) := dk_184 0 27 (dk_at dksJ1_grow_5 5 rfl rfl)
theorem dJ1_grow_125 : DC mJ1_grow 125 = .ok (.aload_n 0, 1) := dk_42 (dk_at dksJ1_grow_5 8 rfl rfl)
theorem dJ1_grow_126 : DC mJ1_grow 126 = .ok (.getfield 24, 3) := dk_180 0 24 (dk_at dksJ1_grow_5 9 rfl rfl)
theorem dJ1_grow_129 : DC mJ1_grow 129 = .ok (.istore 7, 2) := dk_54 7 (dk_at dksJ1_grow_5 12 rfl rfl)
theorem dJ1_grow_131 : DC mJ1_grow 131 = .ok (.aload_n 0, 1) := dk_42 (dk_at dksJ1_grow_5 14 rfl rfl)
theorem dJ1_grow_132 : DC mJ1_grow 132 = .ok (.dup, 1) := dk_89 (dk_at dksJ1_grow_5 15 rfl rfl)
theorem dJ1_grow_133 : DC mJ1_grow 133 = .ok (.getfield 24, 3) := dk_180 0 24 (dk_at dksJ1_grow_5 16 rfl rfl)
theorem dJ1_grow_136 : DC mJ1_grow 136 = .ok (.iload 6, 2) := dk_21 6 (dk_at dksJ1_grow_5 19 rfl rfl)
theorem dJ1_grow_138 : DC mJ1_grow 138 = .ok (.iadd, 1) := dk_96 (dk_at dksJ1_grow_5 21 rfl rfl)
theorem dJ1_grow_139 : DC mJ1_grow 139 = .ok (.dup_x1, 1) := dk_90 (dk_at dksJ1_grow_5 22 rfl rfl)
theorem dJ1_grow_140 : DC mJ1_grow 140 = .ok (.putfield 24, 3) := dk_181 0 24 (dk_at dksJ1_grow_6 0 rfl rfl)
theorem dJ1_grow_143 : DC mJ1_grow 143 = .ok (.istore 8, 2) := dk_54 8 (dk_at dksJ1_grow_6 3 rfl rfl)
theorem dJ1_grow_145 : DC mJ1_grow 145 = .ok (.iload 7, 2) := dk_21 7 (dk_at dksJ1_grow_6 5 rfl rfl)
theorem dJ1_grow_147 : DC mJ1_grow 147 = .ok (.iload 8, 2) := dk_21 8 (dk_at dksJ1_grow_6 7 rfl rfl)
theorem dJ1_grow_149 : DC mJ1_grow 149 = .ok (.if_icmp .ge 15, 3) := dk_162 0 15 (dk_at dksJ1_grow_6 9 rfl rfl)
theorem dJ1_grow_152 : DC mJ1_grow 152 = .ok (.aload 5, 2) := dk_25 5 (dk_at dksJ1_grow_6 12 rfl rfl)
theorem dJ1_grow_154 : DC mJ1_grow 154 = .ok (.iload 7, 2) := dk_21 7 (dk_at dksJ1_grow_6 14 rfl rfl)
theorem dJ1_grow_156 : DC mJ1_grow 156 = .ok (.aconst_null, 1) := dk_1 (dk_at dksJ1_grow_6 16 rfl rfl)
theorem dJ1_grow_157 : DC mJ1_grow 157 = .ok (.aastore, 1) := dk_83 (dk_at dksJ1_grow_6 17 rfl rfl)
theorem dJ1_grow_158 : DC mJ1_grow 158 = .ok (.iinc 7 1, 3) := dk_132 7 1 (dk_at dksJ1_grow_6 18 rfl rfl)
theorem dJ1_grow_161 : DC mJ1_grow 161 = .ok (.goto (-16), 3) := dk_167 255 240 (dk_at dksJ1_grow_6 21 rfl rfl)
theorem dJ1_grow_164 : DC mJ1_grow 164 = .ok (.return_, 1) := dk_177 (dk_at dksJ1_grow_7 0 rfl rfl)
abbrev cJ1_newCapacity : ByteArray := prog_50_method_2_code
def yJ1_newCapacity : MethodName := ⟨RJ1, "newCapacity", "(II)I"⟩
def mJ1_newCapacity : MI := (⟨"java/util/ArrayDeque", "newCapacity", "(II)I"⟩, prog_50_method_2_code, 5, (Option.some FieldType.int), none, 1, 1)
theorem oJ1_newCapacity : mO mJ1_newCapacity = 1 := rfl
theorem lJ1_newCapacity : mL mJ1_newCapacity = 5 := rfl
theorem rJ1_newCapacity : mR mJ1_newCapacity = (Option.some FieldType.int) := rfl
theorem vJ1_newCapacity : mV mJ1_newCapacity = 1 := rfl
theorem nJ1_newCapacity : (mY mJ1_newCapacity).name = "newCapacity" := rfl
theorem hJ1_newCapacity : mH mJ1_newCapacity = none := rfl
theorem kJ1_newCapacity : MOk mJ1_newCapacity := ⟨q1653, q77, by decide +kernel⟩
theorem gJ1_newCapacity : plainName (mY mJ1_newCapacity).cls = true ∧ (mY mJ1_newCapacity).cls = "java/util/ArrayDeque" := ⟨by decide +kernel, rfl⟩
def dkwJ1_newCapacity_2 : List UInt8 := [18, 9, 100, 156, 0, 9, 29, 28, 96, 167, 0, 5, 18, 9, 172]
abbrev dktJ1_newCapacity_2 : List UInt8 := dkwJ1_newCapacity_2 ++ []
def dkwJ1_newCapacity_1 : List UInt8 := [187, 0, 33, 89, 18, 35, 183, 0, 37, 191, 18, 41, 172, 27, 28, 164, 0, 6, 21, 4, 172, 29, 28, 96]
abbrev dktJ1_newCapacity_1 : List UInt8 := dkwJ1_newCapacity_1 ++ dktJ1_newCapacity_2
def dkwJ1_newCapacity_0 : List UInt8 := [42, 180, 0, 3, 190, 62, 29, 27, 96, 89, 54, 4, 18, 9, 100, 158, 0, 21, 21, 4, 156, 0, 13]
abbrev dktJ1_newCapacity_0 : List UInt8 := dkwJ1_newCapacity_0 ++ dktJ1_newCapacity_1
theorem dksJ1_newCapacity_0 : cJ1_newCapacity.data.toList.drop 0 = dktJ1_newCapacity_0 := by decide +kernel
theorem dksJ1_newCapacity_1 : cJ1_newCapacity.data.toList.drop 23 = dktJ1_newCapacity_1 := dk_seg dksJ1_newCapacity_0 23 rfl rfl
theorem dksJ1_newCapacity_2 : cJ1_newCapacity.data.toList.drop 47 = dktJ1_newCapacity_2 := dk_seg dksJ1_newCapacity_1 24 rfl rfl
theorem dJ1_newCapacity_0 : DC mJ1_newCapacity 0 = .ok (.aload_n 0, 1) := dk_42 (dk_at dksJ1_newCapacity_0 0 rfl rfl)
theorem dJ1_newCapacity_1 : DC mJ1_newCapacity 1 = .ok (.getfield 3, 3) := dk_180 0 3 (dk_at dksJ1_newCapacity_0 1 rfl rfl)
theorem dJ1_newCapacity_4 : DC mJ1_newCapacity 4 = .ok (.arraylength, 1) := dk_190 (dk_at dksJ1_newCapacity_0 4 rfl rfl)
theorem dJ1_newCapacity_5 : DC mJ1_newCapacity 5 = .ok (.istore_n 3, 1) := dk_62 (dk_at dksJ1_newCapacity_0 5 rfl rfl)
theorem dJ1_newCapacity_6 : DC mJ1_newCapacity 6 = .ok (.iload_n 3, 1) := dk_29 (dk_at dksJ1_newCapacity_0 6 rfl rfl)
theorem dJ1_newCapacity_7 : DC mJ1_newCapacity 7 = .ok (.iload_n 1, 1) := dk_27 (dk_at dksJ1_newCapacity_0 7 rfl rfl)
theorem dJ1_newCapacity_8 : DC mJ1_newCapacity 8 = .ok (.iadd, 1) := dk_96 (dk_at dksJ1_newCapacity_0 8 rfl rfl)
theorem dJ1_newCapacity_9 : DC mJ1_newCapacity 9 = .ok (.dup, 1) := dk_89 (dk_at dksJ1_newCapacity_0 9 rfl rfl)
theorem dJ1_newCapacity_10 : DC mJ1_newCapacity 10 = .ok (.istore 4, 2) := dk_54 4 (dk_at dksJ1_newCapacity_0 10 rfl rfl)
theorem dJ1_newCapacity_12 : DC mJ1_newCapacity 12 = .ok (.ldc 9, 2) := dk_18 9 (dk_at dksJ1_newCapacity_0 12 rfl rfl)
theorem dJ1_newCapacity_14 : DC mJ1_newCapacity 14 = .ok (.isub, 1) := dk_100 (dk_at dksJ1_newCapacity_0 14 rfl rfl)
theorem dJ1_newCapacity_15 : DC mJ1_newCapacity 15 = .ok (.ifCond .le 21, 3) := dk_158 0 21 (dk_at dksJ1_newCapacity_0 15 rfl rfl)
theorem dJ1_newCapacity_18 : DC mJ1_newCapacity 18 = .ok (.iload 4, 2) := dk_21 4 (dk_at dksJ1_newCapacity_0 18 rfl rfl)
theorem dJ1_newCapacity_20 : DC mJ1_newCapacity 20 = .ok (.ifCond .ge 13, 3) := dk_156 0 13 (dk_at dksJ1_newCapacity_0 20 rfl rfl)
theorem dJ1_newCapacity_23 : DC mJ1_newCapacity 23 = .ok (.new 33, 3) := dk_187 0 33 (dk_at dksJ1_newCapacity_1 0 rfl rfl)
theorem dJ1_newCapacity_26 : DC mJ1_newCapacity 26 = .ok (.dup, 1) := dk_89 (dk_at dksJ1_newCapacity_1 3 rfl rfl)
theorem dJ1_newCapacity_27 : DC mJ1_newCapacity 27 = .ok (.ldc 35, 2) := dk_18 35 (dk_at dksJ1_newCapacity_1 4 rfl rfl)
theorem dJ1_newCapacity_29 : DC mJ1_newCapacity 29 = .ok (.invokespecial 37, 3) := dk_183 0 37 (dk_at dksJ1_newCapacity_1 6 rfl rfl)
theorem dJ1_newCapacity_32 : DC mJ1_newCapacity 32 = .ok (.athrow, 1) := dk_191 (dk_at dksJ1_newCapacity_1 9 rfl rfl)
theorem dJ1_newCapacity_33 : DC mJ1_newCapacity 33 = .ok (.ldc 41, 2) := dk_18 41 (dk_at dksJ1_newCapacity_1 10 rfl rfl)
theorem dJ1_newCapacity_35 : DC mJ1_newCapacity 35 = .ok (.ireturn, 1) := dk_172 (dk_at dksJ1_newCapacity_1 12 rfl rfl)
theorem dJ1_newCapacity_36 : DC mJ1_newCapacity 36 = .ok (.iload_n 1, 1) := dk_27 (dk_at dksJ1_newCapacity_1 13 rfl rfl)
theorem dJ1_newCapacity_37 : DC mJ1_newCapacity 37 = .ok (.iload_n 2, 1) := dk_28 (dk_at dksJ1_newCapacity_1 14 rfl rfl)
theorem dJ1_newCapacity_38 : DC mJ1_newCapacity 38 = .ok (.if_icmp .le 6, 3) := dk_164 0 6 (dk_at dksJ1_newCapacity_1 15 rfl rfl)
theorem dJ1_newCapacity_41 : DC mJ1_newCapacity 41 = .ok (.iload 4, 2) := dk_21 4 (dk_at dksJ1_newCapacity_1 18 rfl rfl)
theorem dJ1_newCapacity_43 : DC mJ1_newCapacity 43 = .ok (.ireturn, 1) := dk_172 (dk_at dksJ1_newCapacity_1 20 rfl rfl)
theorem dJ1_newCapacity_44 : DC mJ1_newCapacity 44 = .ok (.iload_n 3, 1) := dk_29 (dk_at dksJ1_newCapacity_1 21 rfl rfl)
theorem dJ1_newCapacity_45 : DC mJ1_newCapacity 45 = .ok (.iload_n 2, 1) := dk_28 (dk_at dksJ1_newCapacity_1 22 rfl rfl)
theorem dJ1_newCapacity_46 : DC mJ1_newCapacity 46 = .ok (.iadd, 1) := dk_96 (dk_at dksJ1_newCapacity_1 23 rfl rfl)
theorem dJ1_newCapacity_47 : DC mJ1_newCapacity 47 = .ok (.ldc 9, 2) := dk_18 9 (dk_at dksJ1_newCapacity_2 0 rfl rfl)
theorem dJ1_newCapacity_49 : DC mJ1_newCapacity 49 = .ok (.isub, 1) := dk_100 (dk_at dksJ1_newCapacity_2 2 rfl rfl)
theorem dJ1_newCapacity_50 : DC mJ1_newCapacity 50 = .ok (.ifCond .ge 9, 3) := dk_156 0 9 (dk_at dksJ1_newCapacity_2 3 rfl rfl)
theorem dJ1_newCapacity_53 : DC mJ1_newCapacity 53 = .ok (.iload_n 3, 1) := dk_29 (dk_at dksJ1_newCapacity_2 6 rfl rfl)
theorem dJ1_newCapacity_54 : DC mJ1_newCapacity 54 = .ok (.iload_n 2, 1) := dk_28 (dk_at dksJ1_newCapacity_2 7 rfl rfl)
theorem dJ1_newCapacity_55 : DC mJ1_newCapacity 55 = .ok (.iadd, 1) := dk_96 (dk_at dksJ1_newCapacity_2 8 rfl rfl)
theorem dJ1_newCapacity_56 : DC mJ1_newCapacity 56 = .ok (.goto 5, 3) := dk_167 0 5 (dk_at dksJ1_newCapacity_2 9 rfl rfl)
theorem dJ1_newCapacity_59 : DC mJ1_newCapacity 59 = .ok (.ldc 9, 2) := dk_18 9 (dk_at dksJ1_newCapacity_2 12 rfl rfl)
theorem dJ1_newCapacity_61 : DC mJ1_newCapacity 61 = .ok (.ireturn, 1) := dk_172 (dk_at dksJ1_newCapacity_2 14 rfl rfl)
abbrev cJ1_isEmpty : ByteArray := prog_50_method_38_code
def yJ1_isEmpty : MethodName := ⟨RJ1, "isEmpty", "()Z"⟩
def mJ1_isEmpty : MI := (⟨"java/util/ArrayDeque", "isEmpty", "()Z"⟩, prog_50_method_38_code, 1, (Option.some FieldType.boolean), none, 1, 1)
theorem oJ1_isEmpty : mO mJ1_isEmpty = 1 := rfl
theorem lJ1_isEmpty : mL mJ1_isEmpty = 1 := rfl
theorem rJ1_isEmpty : mR mJ1_isEmpty = (Option.some FieldType.boolean) := rfl
theorem vJ1_isEmpty : mV mJ1_isEmpty = 1 := rfl
theorem nJ1_isEmpty : (mY mJ1_isEmpty).name = "isEmpty" := rfl
theorem hJ1_isEmpty : mH mJ1_isEmpty = none := rfl
theorem kJ1_isEmpty : MOk mJ1_isEmpty := ⟨q2354, q77, by decide +kernel⟩
theorem gJ1_isEmpty : plainName (mY mJ1_isEmpty).cls = true ∧ (mY mJ1_isEmpty).cls = "java/util/ArrayDeque" := ⟨by decide +kernel, rfl⟩
def dkwJ1_isEmpty_0 : List UInt8 := [42, 180, 0, 24, 42, 180, 0, 20, 160, 0, 7, 4, 167, 0, 4, 3, 172]
abbrev dktJ1_isEmpty_0 : List UInt8 := dkwJ1_isEmpty_0 ++ []
theorem dksJ1_isEmpty_0 : cJ1_isEmpty.data.toList.drop 0 = dktJ1_isEmpty_0 := by decide +kernel
theorem dJ1_isEmpty_0 : DC mJ1_isEmpty 0 = .ok (.aload_n 0, 1) := dk_42 (dk_at dksJ1_isEmpty_0 0 rfl rfl)
theorem dJ1_isEmpty_1 : DC mJ1_isEmpty 1 = .ok (.getfield 24, 3) := dk_180 0 24 (dk_at dksJ1_isEmpty_0 1 rfl rfl)
theorem dJ1_isEmpty_4 : DC mJ1_isEmpty 4 = .ok (.aload_n 0, 1) := dk_42 (dk_at dksJ1_isEmpty_0 4 rfl rfl)
theorem dJ1_isEmpty_5 : DC mJ1_isEmpty 5 = .ok (.getfield 20, 3) := dk_180 0 20 (dk_at dksJ1_isEmpty_0 5 rfl rfl)
theorem dJ1_isEmpty_8 : DC mJ1_isEmpty 8 = .ok (.if_icmp .ne 7, 3) := dk_160 0 7 (dk_at dksJ1_isEmpty_0 8 rfl rfl)
theorem dJ1_isEmpty_11 : DC mJ1_isEmpty 11 = .ok (.iconst 1, 1) := dk_4 (dk_at dksJ1_isEmpty_0 11 rfl rfl)
theorem dJ1_isEmpty_12 : DC mJ1_isEmpty 12 = .ok (.goto 4, 3) := dk_167 0 4 (dk_at dksJ1_isEmpty_0 12 rfl rfl)
theorem dJ1_isEmpty_15 : DC mJ1_isEmpty 15 = .ok (.iconst 0, 1) := dk_3 (dk_at dksJ1_isEmpty_0 15 rfl rfl)
theorem dJ1_isEmpty_16 : DC mJ1_isEmpty 16 = .ok (.ireturn, 1) := dk_172 (dk_at dksJ1_isEmpty_0 16 rfl rfl)
abbrev cJ1_pop : ByteArray := prog_50_method_35_code
def yJ1_pop : MethodName := ⟨RJ1, "pop", "()Ljava/lang/Object;"⟩
def mJ1_pop : MI := (⟨"java/util/ArrayDeque", "pop", "()Ljava/lang/Object;"⟩, prog_50_method_35_code, 1, (Option.some (FieldType.object "java/lang/Object")), none, 1, 4)
theorem oJ1_pop : mO mJ1_pop = 1 := rfl
theorem lJ1_pop : mL mJ1_pop = 1 := rfl
theorem rJ1_pop : mR mJ1_pop = (Option.some (FieldType.object "java/lang/Object")) := rfl
theorem vJ1_pop : mV mJ1_pop = 4 := rfl
theorem nJ1_pop : (mY mJ1_pop).name = "pop" := rfl
theorem hJ1_pop : mH mJ1_pop = none := rfl
theorem kJ1_pop : MOk mJ1_pop := ⟨q2358, q77, by decide +kernel⟩
theorem gJ1_pop : plainName (mY mJ1_pop).cls = true ∧ (mY mJ1_pop).cls = "java/util/ArrayDeque" := ⟨by decide +kernel, rfl⟩
theorem dJ1_pop_0 : DC mJ1_pop 0 = .ok (.aload_n 0, 1) := by decide +kernel
theorem dJ1_pop_1 : DC mJ1_pop 1 = .ok (.invokevirtual 118, 3) := by decide +kernel
theorem dJ1_pop_4 : DC mJ1_pop 4 = .ok (.areturn, 1) := by decide +kernel
abbrev cJ1_removeFirst : ByteArray := prog_50_method_18_code
def yJ1_removeFirst : MethodName := ⟨RJ1, "removeFirst", "()Ljava/lang/Object;"⟩
def mJ1_removeFirst : MI := (⟨"java/util/ArrayDeque", "removeFirst", "()Ljava/lang/Object;"⟩, prog_50_method_18_code, 2, (Option.some (FieldType.object "java/lang/Object")), none, 1, 3)
theorem oJ1_removeFirst : mO mJ1_removeFirst = 1 := rfl
theorem lJ1_removeFirst : mL mJ1_removeFirst = 2 := rfl
theorem rJ1_removeFirst : mR mJ1_removeFirst = (Option.some (FieldType.object "java/lang/Object")) := rfl
theorem vJ1_removeFirst : mV mJ1_removeFirst = 3 := rfl
theorem nJ1_removeFirst : (mY mJ1_removeFirst).name = "removeFirst" := rfl
theorem hJ1_removeFirst : mH mJ1_removeFirst = none := rfl
theorem kJ1_removeFirst : MOk mJ1_removeFirst := ⟨q2362, q77, by decide +kernel⟩
theorem gJ1_removeFirst : plainName (mY mJ1_removeFirst).cls = true ∧ (mY mJ1_removeFirst).cls = "java/util/ArrayDeque" := ⟨by decide +kernel, rfl⟩
def dkwJ1_removeFirst_0 : List UInt8 := [42, 182, 0, 93, 76, 43, 199, 0, 11, 187, 0, 97, 89, 183, 0, 99, 191, 43, 176]
abbrev dktJ1_removeFirst_0 : List UInt8 := dkwJ1_removeFirst_0 ++ []
theorem dksJ1_removeFirst_0 : cJ1_removeFirst.data.toList.drop 0 = dktJ1_removeFirst_0 := by decide +kernel
theorem dJ1_removeFirst_0 : DC mJ1_removeFirst 0 = .ok (.aload_n 0, 1) := dk_42 (dk_at dksJ1_removeFirst_0 0 rfl rfl)
theorem dJ1_removeFirst_1 : DC mJ1_removeFirst 1 = .ok (.invokevirtual 93, 3) := dk_182 0 93 (dk_at dksJ1_removeFirst_0 1 rfl rfl)
theorem dJ1_removeFirst_4 : DC mJ1_removeFirst 4 = .ok (.astore_n 1, 1) := dk_76 (dk_at dksJ1_removeFirst_0 4 rfl rfl)
theorem dJ1_removeFirst_5 : DC mJ1_removeFirst 5 = .ok (.aload_n 1, 1) := dk_43 (dk_at dksJ1_removeFirst_0 5 rfl rfl)
theorem dJ1_removeFirst_6 : DC mJ1_removeFirst 6 = .ok (.ifnonnull 11, 3) := dk_199 0 11 (dk_at dksJ1_removeFirst_0 6 rfl rfl)
theorem dJ1_removeFirst_9 : DC mJ1_removeFirst 9 = .ok (.new 97, 3) := dk_187 0 97 (dk_at dksJ1_removeFirst_0 9 rfl rfl)
theorem dJ1_removeFirst_12 : DC mJ1_removeFirst 12 = .ok (.dup, 1) := dk_89 (dk_at dksJ1_removeFirst_0 12 rfl rfl)
theorem dJ1_removeFirst_13 : DC mJ1_removeFirst 13 = .ok (.invokespecial 99, 3) := dk_183 0 99 (dk_at dksJ1_removeFirst_0 13 rfl rfl)
theorem dJ1_removeFirst_16 : DC mJ1_removeFirst 16 = .ok (.athrow, 1) := dk_191 (dk_at dksJ1_removeFirst_0 16 rfl rfl)
theorem dJ1_removeFirst_17 : DC mJ1_removeFirst 17 = .ok (.aload_n 1, 1) := dk_43 (dk_at dksJ1_removeFirst_0 17 rfl rfl)
theorem dJ1_removeFirst_18 : DC mJ1_removeFirst 18 = .ok (.areturn, 1) := dk_176 (dk_at dksJ1_removeFirst_0 18 rfl rfl)
abbrev cJ1_pollFirst : ByteArray := prog_50_method_20_code
def yJ1_pollFirst : MethodName := ⟨RJ1, "pollFirst", "()Ljava/lang/Object;"⟩
def mJ1_pollFirst : MI := (⟨"java/util/ArrayDeque", "pollFirst", "()Ljava/lang/Object;"⟩, prog_50_method_20_code, 4, (Option.some (FieldType.object "java/lang/Object")), none, 1, 2)
theorem oJ1_pollFirst : mO mJ1_pollFirst = 1 := rfl
theorem lJ1_pollFirst : mL mJ1_pollFirst = 4 := rfl
theorem rJ1_pollFirst : mR mJ1_pollFirst = (Option.some (FieldType.object "java/lang/Object")) := rfl
theorem vJ1_pollFirst : mV mJ1_pollFirst = 2 := rfl
theorem nJ1_pollFirst : (mY mJ1_pollFirst).name = "pollFirst" := rfl
theorem hJ1_pollFirst : mH mJ1_pollFirst = none := rfl
theorem kJ1_pollFirst : MOk mJ1_pollFirst := ⟨q2366, q77, by decide +kernel⟩
theorem gJ1_pollFirst : plainName (mY mJ1_pollFirst).cls = true ∧ (mY mJ1_pollFirst).cls = "java/util/ArrayDeque" := ⟨by decide +kernel, rfl⟩
def dkwJ1_pollFirst_1 : List UInt8 := [42, 28, 43, 190, 184, 0, 74, 181, 0, 24, 45, 176]
abbrev dktJ1_pollFirst_1 : List UInt8 := dkwJ1_pollFirst_1 ++ []
def dkwJ1_pollFirst_0 : List UInt8 := [42, 180, 0, 3, 89, 76, 42, 180, 0, 24, 89, 61, 184, 0, 103, 78, 45, 198, 0, 17, 43, 28, 1, 83]
abbrev dktJ1_pollFirst_0 : List UInt8 := dkwJ1_pollFirst_0 ++ dktJ1_pollFirst_1
theorem dksJ1_pollFirst_0 : cJ1_pollFirst.data.toList.drop 0 = dktJ1_pollFirst_0 := by decide +kernel
theorem dksJ1_pollFirst_1 : cJ1_pollFirst.data.toList.drop 24 = dktJ1_pollFirst_1 := dk_seg dksJ1_pollFirst_0 24 rfl rfl
theorem dJ1_pollFirst_0 : DC mJ1_pollFirst 0 = .ok (.aload_n 0, 1) := dk_42 (dk_at dksJ1_pollFirst_0 0 rfl rfl)
theorem dJ1_pollFirst_1 : DC mJ1_pollFirst 1 = .ok (.getfield 3, 3) := dk_180 0 3 (dk_at dksJ1_pollFirst_0 1 rfl rfl)
theorem dJ1_pollFirst_4 : DC mJ1_pollFirst 4 = .ok (.dup, 1) := dk_89 (dk_at dksJ1_pollFirst_0 4 rfl rfl)
theorem dJ1_pollFirst_5 : DC mJ1_pollFirst 5 = .ok (.astore_n 1, 1) := dk_76 (dk_at dksJ1_pollFirst_0 5 rfl rfl)
theorem dJ1_pollFirst_6 : DC mJ1_pollFirst 6 = .ok (.aload_n 0, 1) := dk_42 (dk_at dksJ1_pollFirst_0 6 rfl rfl)
theorem dJ1_pollFirst_7 : DC mJ1_pollFirst 7 = .ok (.getfield 24, 3) := dk_180 0 24 (dk_at dksJ1_pollFirst_0 7 rfl rfl)
theorem dJ1_pollFirst_10 : DC mJ1_pollFirst 10 = .ok (.dup, 1) := dk_89 (dk_at dksJ1_pollFirst_0 10 rfl rfl)
theorem dJ1_pollFirst_11 : DC mJ1_pollFirst 11 = .ok (.istore_n 2, 1) := dk_61 (dk_at dksJ1_pollFirst_0 11 rfl rfl)
theorem dJ1_pollFirst_12 : DC mJ1_pollFirst 12 = .ok (.invokestatic 103, 3) := dk_184 0 103 (dk_at dksJ1_pollFirst_0 12 rfl rfl)
theorem dJ1_pollFirst_15 : DC mJ1_pollFirst 15 = .ok (.astore_n 3, 1) := dk_78 (dk_at dksJ1_pollFirst_0 15 rfl rfl)
theorem dJ1_pollFirst_16 : DC mJ1_pollFirst 16 = .ok (.aload_n 3, 1) := dk_45 (dk_at dksJ1_pollFirst_0 16 rfl rfl)
theorem dJ1_pollFirst_17 : DC mJ1_pollFirst 17 = .ok (.ifnull 17, 3) := dk_198 0 17 (dk_at dksJ1_pollFirst_0 17 rfl rfl)
theorem dJ1_pollFirst_20 : DC mJ1_pollFirst 20 = .ok (.aload_n 1, 1) := dk_43 (dk_at dksJ1_pollFirst_0 20 rfl rfl)
theorem dJ1_pollFirst_21 : DC mJ1_pollFirst 21 = .ok (.iload_n 2, 1) := dk_28 (dk_at dksJ1_pollFirst_0 21 rfl rfl)
theorem dJ1_pollFirst_22 : DC mJ1_pollFirst 22 = .ok (.aconst_null, 1) := dk_1 (dk_at dksJ1_pollFirst_0 22 rfl rfl)
theorem dJ1_pollFirst_23 : DC mJ1_pollFirst 23 = .ok (.aastore, 1) := dk_83 (dk_at dksJ1_pollFirst_0 23 rfl rfl)
theorem dJ1_pollFirst_24 : DC mJ1_pollFirst 24 = .ok (.aload_n 0, 1) := dk_42 (dk_at dksJ1_pollFirst_1 0 rfl rfl)
theorem dJ1_pollFirst_25 : DC mJ1_pollFirst 25 = .ok (.iload_n 2, 1) := dk_28 (dk_at dksJ1_pollFirst_1 1 rfl rfl)
theorem dJ1_pollFirst_26 : DC mJ1_pollFirst 26 = .ok (.aload_n 1, 1) := dk_43 (dk_at dksJ1_pollFirst_1 2 rfl rfl)
theorem dJ1_pollFirst_27 : DC mJ1_pollFirst 27 = .ok (.arraylength, 1) := dk_190 (dk_at dksJ1_pollFirst_1 3 rfl rfl)
theorem dJ1_pollFirst_28 : DC mJ1_pollFirst 28 = .ok (.invokestatic 74, 3) := dk_184 0 74 (dk_at dksJ1_pollFirst_1 4 rfl rfl)
theorem dJ1_pollFirst_31 : DC mJ1_pollFirst 31 = .ok (.putfield 24, 3) := dk_181 0 24 (dk_at dksJ1_pollFirst_1 7 rfl rfl)
theorem dJ1_pollFirst_34 : DC mJ1_pollFirst 34 = .ok (.aload_n 3, 1) := dk_45 (dk_at dksJ1_pollFirst_1 10 rfl rfl)
theorem dJ1_pollFirst_35 : DC mJ1_pollFirst 35 = .ok (.areturn, 1) := dk_176 (dk_at dksJ1_pollFirst_1 11 rfl rfl)
abbrev cJ1_inc : ByteArray := prog_50_method_6_code
def yJ1_inc : MethodName := ⟨RJ1, "inc", "(II)I"⟩
def mJ1_inc : MI := (⟨"java/util/ArrayDeque", "inc", "(II)I"⟩, prog_50_method_6_code, 2, (Option.some FieldType.int), none, 1, 1)
theorem oJ1_inc : mO mJ1_inc = 1 := rfl
theorem lJ1_inc : mL mJ1_inc = 2 := rfl
theorem rJ1_inc : mR mJ1_inc = (Option.some FieldType.int) := rfl
theorem vJ1_inc : mV mJ1_inc = 1 := rfl
theorem nJ1_inc : (mY mJ1_inc).name = "inc" := rfl
theorem hJ1_inc : mH mJ1_inc = none := rfl
theorem kJ1_inc : MOk mJ1_inc := ⟨q2369, q77, by decide +kernel⟩
theorem gJ1_inc : plainName (mY mJ1_inc).cls = true ∧ (mY mJ1_inc).cls = "java/util/ArrayDeque" := ⟨by decide +kernel, rfl⟩
def dkwJ1_inc_0 : List UInt8 := [132, 0, 1, 26, 27, 161, 0, 5, 3, 59, 26, 172]
abbrev dktJ1_inc_0 : List UInt8 := dkwJ1_inc_0 ++ []
theorem dksJ1_inc_0 : cJ1_inc.data.toList.drop 0 = dktJ1_inc_0 := by decide +kernel
theorem dJ1_inc_0 : DC mJ1_inc 0 = .ok (.iinc 0 1, 3) := dk_132 0 1 (dk_at dksJ1_inc_0 0 rfl rfl)
theorem dJ1_inc_3 : DC mJ1_inc 3 = .ok (.iload_n 0, 1) := dk_26 (dk_at dksJ1_inc_0 3 rfl rfl)
theorem dJ1_inc_4 : DC mJ1_inc 4 = .ok (.iload_n 1, 1) := dk_27 (dk_at dksJ1_inc_0 4 rfl rfl)
theorem dJ1_inc_5 : DC mJ1_inc 5 = .ok (.if_icmp .lt 5, 3) := dk_161 0 5 (dk_at dksJ1_inc_0 5 rfl rfl)
theorem dJ1_inc_8 : DC mJ1_inc 8 = .ok (.iconst 0, 1) := dk_3 (dk_at dksJ1_inc_0 8 rfl rfl)
theorem dJ1_inc_9 : DC mJ1_inc 9 = .ok (.istore_n 0, 1) := dk_59 (dk_at dksJ1_inc_0 9 rfl rfl)
theorem dJ1_inc_10 : DC mJ1_inc 10 = .ok (.iload_n 0, 1) := dk_26 (dk_at dksJ1_inc_0 10 rfl rfl)
theorem dJ1_inc_11 : DC mJ1_inc 11 = .ok (.ireturn, 1) := dk_172 (dk_at dksJ1_inc_0 11 rfl rfl)
abbrev cJ1_clear : ByteArray := prog_50_method_53_code
def yJ1_clear : MethodName := ⟨RJ1, "clear", "()V"⟩
def mJ1_clear : MI := (⟨"java/util/ArrayDeque", "clear", "()V"⟩, prog_50_method_53_code, 1, (Option.none : Option FieldType), none, 1, 2)
theorem oJ1_clear : mO mJ1_clear = 1 := rfl
theorem lJ1_clear : mL mJ1_clear = 1 := rfl
theorem rJ1_clear : mR mJ1_clear = (Option.none : Option FieldType) := rfl
theorem vJ1_clear : mV mJ1_clear = 2 := rfl
theorem nJ1_clear : (mY mJ1_clear).name = "clear" := rfl
theorem hJ1_clear : mH mJ1_clear = none := rfl
theorem kJ1_clear : MOk mJ1_clear := ⟨q2380, q77, by decide +kernel⟩
theorem gJ1_clear : plainName (mY mJ1_clear).cls = true ∧ (mY mJ1_clear).cls = "java/util/ArrayDeque" := ⟨by decide +kernel, rfl⟩
def dkwJ1_clear_1 : List UInt8 := [181, 0, 24, 177]
abbrev dktJ1_clear_1 : List UInt8 := dkwJ1_clear_1 ++ []
def dkwJ1_clear_0 : List UInt8 := [42, 180, 0, 3, 42, 180, 0, 24, 42, 180, 0, 20, 184, 0, 181, 42, 42, 3, 90, 181, 0, 20]
abbrev dktJ1_clear_0 : List UInt8 := dkwJ1_clear_0 ++ dktJ1_clear_1
theorem dksJ1_clear_0 : cJ1_clear.data.toList.drop 0 = dktJ1_clear_0 := by decide +kernel
theorem dksJ1_clear_1 : cJ1_clear.data.toList.drop 22 = dktJ1_clear_1 := dk_seg dksJ1_clear_0 22 rfl rfl
theorem dJ1_clear_0 : DC mJ1_clear 0 = .ok (.aload_n 0, 1) := dk_42 (dk_at dksJ1_clear_0 0 rfl rfl)
theorem dJ1_clear_1 : DC mJ1_clear 1 = .ok (.getfield 3, 3) := dk_180 0 3 (dk_at dksJ1_clear_0 1 rfl rfl)
theorem dJ1_clear_4 : DC mJ1_clear 4 = .ok (.aload_n 0, 1) := dk_42 (dk_at dksJ1_clear_0 4 rfl rfl)
theorem dJ1_clear_5 : DC mJ1_clear 5 = .ok (.getfield 24, 3) := dk_180 0 24 (dk_at dksJ1_clear_0 5 rfl rfl)
theorem dJ1_clear_8 : DC mJ1_clear 8 = .ok (.aload_n 0, 1) := dk_42 (dk_at dksJ1_clear_0 8 rfl rfl)
theorem dJ1_clear_9 : DC mJ1_clear 9 = .ok (.getfield 20, 3) := dk_180 0 20 (dk_at dksJ1_clear_0 9 rfl rfl)
theorem dJ1_clear_12 : DC mJ1_clear 12 = .ok (.invokestatic 181, 3) := dk_184 0 181 (dk_at dksJ1_clear_0 12 rfl rfl)
theorem dJ1_clear_15 : DC mJ1_clear 15 = .ok (.aload_n 0, 1) := dk_42 (dk_at dksJ1_clear_0 15 rfl rfl)
theorem dJ1_clear_16 : DC mJ1_clear 16 = .ok (.aload_n 0, 1) := dk_42 (dk_at dksJ1_clear_0 16 rfl rfl)
theorem dJ1_clear_17 : DC mJ1_clear 17 = .ok (.iconst 0, 1) := dk_3 (dk_at dksJ1_clear_0 17 rfl rfl)
theorem dJ1_clear_18 : DC mJ1_clear 18 = .ok (.dup_x1, 1) := dk_90 (dk_at dksJ1_clear_0 18 rfl rfl)
theorem dJ1_clear_19 : DC mJ1_clear 19 = .ok (.putfield 20, 3) := dk_181 0 20 (dk_at dksJ1_clear_0 19 rfl rfl)
theorem dJ1_clear_22 : DC mJ1_clear 22 = .ok (.putfield 24, 3) := dk_181 0 24 (dk_at dksJ1_clear_1 0 rfl rfl)
theorem dJ1_clear_25 : DC mJ1_clear 25 = .ok (.return_, 1) := dk_177 (dk_at dksJ1_clear_1 3 rfl rfl)
abbrev cJ1_circularClear : ByteArray := prog_50_method_54_code
def yJ1_circularClear : MethodName := ⟨RJ1, "circularClear", "([Ljava/lang/Object;II)V"⟩
def mJ1_circularClear : MI := (⟨"java/util/ArrayDeque", "circularClear", "([Ljava/lang/Object;II)V"⟩, prog_50_method_54_code, 4, (Option.none : Option FieldType), none, 1, 1)
theorem oJ1_circularClear : mO mJ1_circularClear = 1 := rfl
theorem lJ1_circularClear : mL mJ1_circularClear = 4 := rfl
theorem rJ1_circularClear : mR mJ1_circularClear = (Option.none : Option FieldType) := rfl
theorem vJ1_circularClear : mV mJ1_circularClear = 1 := rfl
theorem nJ1_circularClear : (mY mJ1_circularClear).name = "circularClear" := rfl
theorem hJ1_circularClear : mH mJ1_circularClear = none := rfl
theorem kJ1_circularClear : MOk mJ1_circularClear := ⟨q2383, q77, by decide +kernel⟩
theorem gJ1_circularClear : plainName (mY mJ1_circularClear).cls = true ∧ (mY mJ1_circularClear).cls = "java/util/ArrayDeque" := ⟨by decide +kernel, rfl⟩
def dkwJ1_circularClear_1 : List UInt8 := [167, 255, 244, 29, 28, 160, 0, 6, 167, 0, 10, 3, 60, 28, 62, 167, 255, 229, 177]
abbrev dktJ1_circularClear_1 : List UInt8 := dkwJ1_circularClear_1 ++ []
def dkwJ1_circularClear_0 : List UInt8 := [27, 28, 163, 0, 7, 28, 167, 0, 5, 42, 190, 62, 27, 29, 162, 0, 13, 42, 27, 1, 83, 132, 1, 1]
abbrev dktJ1_circularClear_0 : List UInt8 := dkwJ1_circularClear_0 ++ dktJ1_circularClear_1
theorem dksJ1_circularClear_0 : cJ1_circularClear.data.toList.drop 0 = dktJ1_circularClear_0 := by decide +kernel
theorem dksJ1_circularClear_1 : cJ1_circularClear.data.toList.drop 24 = dktJ1_circularClear_1 := dk_seg dksJ1_circularClear_0 24 rfl rfl
theorem dJ1_circularClear_0 : DC mJ1_circularClear 0 = .ok (.iload_n 1, 1) := dk_27 (dk_at dksJ1_circularClear_0 0 rfl rfl)
theorem dJ1_circularClear_1 : DC mJ1_circularClear 1 = .ok (.iload_n 2, 1) := dk_28 (dk_at dksJ1_circularClear_0 1 rfl rfl)
theorem dJ1_circularClear_2 : DC mJ1_circularClear 2 = .ok (.if_icmp .gt 7, 3) := dk_163 0 7 (dk_at dksJ1_circularClear_0 2 rfl rfl)
theorem dJ1_circularClear_5 : DC mJ1_circularClear 5 = .ok (.iload_n 2, 1) := dk_28 (dk_at dksJ1_circularClear_0 5 rfl rfl)
theorem dJ1_circularClear_6 : DC mJ1_circularClear 6 = .ok (.goto 5, 3) := dk_167 0 5 (dk_at dksJ1_circularClear_0 6 rfl rfl)
theorem dJ1_circularClear_9 : DC mJ1_circularClear 9 = .ok (.aload_n 0, 1) := dk_42 (dk_at dksJ1_circularClear_0 9 rfl rfl)
theorem dJ1_circularClear_10 : DC mJ1_circularClear 10 = .ok (.arraylength, 1) := dk_190 (dk_at dksJ1_circularClear_0 10 rfl rfl)
theorem dJ1_circularClear_11 : DC mJ1_circularClear 11 = .ok (.istore_n 3, 1) := dk_62 (dk_at dksJ1_circularClear_0 11 rfl rfl)
theorem dJ1_circularClear_12 : DC mJ1_circularClear 12 = .ok (.iload_n 1, 1) := dk_27 (dk_at dksJ1_circularClear_0 12 rfl rfl)
theorem dJ1_circularClear_13 : DC mJ1_circularClear 13 = .ok (.iload_n 3, 1) := dk_29 (dk_at dksJ1_circularClear_0 13 rfl rfl)
theorem dJ1_circularClear_14 : DC mJ1_circularClear 14 = .ok (.if_icmp .ge 13, 3) := dk_162 0 13 (dk_at dksJ1_circularClear_0 14 rfl rfl)
theorem dJ1_circularClear_17 : DC mJ1_circularClear 17 = .ok (.aload_n 0, 1) := dk_42 (dk_at dksJ1_circularClear_0 17 rfl rfl)
theorem dJ1_circularClear_18 : DC mJ1_circularClear 18 = .ok (.iload_n 1, 1) := dk_27 (dk_at dksJ1_circularClear_0 18 rfl rfl)
theorem dJ1_circularClear_19 : DC mJ1_circularClear 19 = .ok (.aconst_null, 1) := dk_1 (dk_at dksJ1_circularClear_0 19 rfl rfl)
theorem dJ1_circularClear_20 : DC mJ1_circularClear 20 = .ok (.aastore, 1) := dk_83 (dk_at dksJ1_circularClear_0 20 rfl rfl)
theorem dJ1_circularClear_21 : DC mJ1_circularClear 21 = .ok (.iinc 1 1, 3) := dk_132 1 1 (dk_at dksJ1_circularClear_0 21 rfl rfl)
theorem dJ1_circularClear_24 : DC mJ1_circularClear 24 = .ok (.goto (-12), 3) := dk_167 255 244 (dk_at dksJ1_circularClear_1 0 rfl rfl)
theorem dJ1_circularClear_27 : DC mJ1_circularClear 27 = .ok (.iload_n 3, 1) := dk_29 (dk_at dksJ1_circularClear_1 3 rfl rfl)
theorem dJ1_circularClear_28 : DC mJ1_circularClear 28 = .ok (.iload_n 2, 1) := dk_28 (dk_at dksJ1_circularClear_1 4 rfl rfl)
theorem dJ1_circularClear_29 : DC mJ1_circularClear 29 = .ok (.if_icmp .ne 6, 3) := dk_160 0 6 (dk_at dksJ1_circularClear_1 5 rfl rfl)
theorem dJ1_circularClear_32 : DC mJ1_circularClear 32 = .ok (.goto 10, 3) := dk_167 0 10 (dk_at dksJ1_circularClear_1 8 rfl rfl)
theorem dJ1_circularClear_35 : DC mJ1_circularClear 35 = .ok (.iconst 0, 1) := dk_3 (dk_at dksJ1_circularClear_1 11 rfl rfl)
theorem dJ1_circularClear_36 : DC mJ1_circularClear 36 = .ok (.istore_n 1, 1) := dk_60 (dk_at dksJ1_circularClear_1 12 rfl rfl)
theorem dJ1_circularClear_37 : DC mJ1_circularClear 37 = .ok (.iload_n 2, 1) := dk_28 (dk_at dksJ1_circularClear_1 13 rfl rfl)
theorem dJ1_circularClear_38 : DC mJ1_circularClear 38 = .ok (.istore_n 3, 1) := dk_62 (dk_at dksJ1_circularClear_1 14 rfl rfl)
theorem dJ1_circularClear_39 : DC mJ1_circularClear 39 = .ok (.goto (-27), 3) := dk_167 255 229 (dk_at dksJ1_circularClear_1 15 rfl rfl)
theorem dJ1_circularClear_42 : DC mJ1_circularClear 42 = .ok (.return_, 1) := dk_177 (dk_at dksJ1_circularClear_1 18 rfl rfl)
theorem in_J1 : ∀ w ∈ wsJ10, w ∈ lw_all := lw_in wsJ10 [148, 150, 152] (by decide +kernel) (by decide +kernel)

/-! java/lang/AbstractStringBuilder -/
set_option maxRecDepth 100000
def RJ2 : String := "java/lang/AbstractStringBuilder"
abbrev cJ2_init : ByteArray := prog_15_method_2_code
def yJ2_init : MethodName := ⟨RJ2, "<init>", "(I)V"⟩
def mJ2_init : MI := (⟨"java/lang/AbstractStringBuilder", "<init>", "(I)V"⟩, prog_15_method_2_code, 2, (Option.none : Option FieldType), none, 2, 3)
theorem oJ2_init : mO mJ2_init = 2 := rfl
theorem lJ2_init : mL mJ2_init = 2 := rfl
theorem rJ2_init : mR mJ2_init = (Option.none : Option FieldType) := rfl
theorem vJ2_init : mV mJ2_init = 3 := rfl
theorem nJ2_init : (mY mJ2_init).name = "<init>" := rfl
theorem hJ2_init : mH mJ2_init = none := rfl
theorem kJ2_init : MOk mJ2_init := ⟨q162, q78, by decide +kernel⟩
theorem gJ2_init : plainName (mY mJ2_init).cls = true ∧ (mY mJ2_init).cls = "java/lang/AbstractStringBuilder" := ⟨by decide +kernel, rfl⟩
def dkwJ2_init_1 : List UInt8 := [167, 0, 16, 42, 27, 184, 0, 26, 181, 0, 15, 42, 4, 181, 0, 22, 177]
abbrev dktJ2_init_1 : List UInt8 := dkwJ2_init_1 ++ []
def dkwJ2_init_0 : List UInt8 := [42, 183, 0, 3, 178, 0, 18, 153, 0, 18, 42, 27, 188, 8, 181, 0, 15, 42, 3, 181, 0, 22]
abbrev dktJ2_init_0 : List UInt8 := dkwJ2_init_0 ++ dktJ2_init_1
theorem dksJ2_init_0 : cJ2_init.data.toList.drop 0 = dktJ2_init_0 := by decide +kernel
theorem dksJ2_init_1 : cJ2_init.data.toList.drop 22 = dktJ2_init_1 := dk_seg dksJ2_init_0 22 rfl rfl
theorem dJ2_init_0 : DC mJ2_init 0 = .ok (.aload_n 0, 1) := dk_42 (dk_at dksJ2_init_0 0 rfl rfl)
theorem dJ2_init_1 : DC mJ2_init 1 = .ok (.invokespecial 3, 3) := dk_183 0 3 (dk_at dksJ2_init_0 1 rfl rfl)
theorem dJ2_init_4 : DC mJ2_init 4 = .ok (.getstatic 18, 3) := dk_178 0 18 (dk_at dksJ2_init_0 4 rfl rfl)
theorem dJ2_init_7 : DC mJ2_init 7 = .ok (.ifCond .eq 18, 3) := dk_153 0 18 (dk_at dksJ2_init_0 7 rfl rfl)
theorem dJ2_init_10 : DC mJ2_init 10 = .ok (.aload_n 0, 1) := dk_42 (dk_at dksJ2_init_0 10 rfl rfl)
theorem dJ2_init_11 : DC mJ2_init 11 = .ok (.iload_n 1, 1) := dk_27 (dk_at dksJ2_init_0 11 rfl rfl)
theorem dJ2_init_12 : DC mJ2_init 12 = .ok (.newarray .byte, 2) := dk_188_8 (dk_at dksJ2_init_0 12 rfl rfl)
theorem dJ2_init_14 : DC mJ2_init 14 = .ok (.putfield 15, 3) := dk_181 0 15 (dk_at dksJ2_init_0 14 rfl rfl)
theorem dJ2_init_17 : DC mJ2_init 17 = .ok (.aload_n 0, 1) := dk_42 (dk_at dksJ2_init_0 17 rfl rfl)
theorem dJ2_init_18 : DC mJ2_init 18 = .ok (.iconst 0, 1) := dk_3 (dk_at dksJ2_init_0 18 rfl rfl)
theorem dJ2_init_19 : DC mJ2_init 19 = .ok (.putfield 22, 3) := dk_181 0 22 (dk_at dksJ2_init_0 19 rfl rfl)
theorem dJ2_init_22 : DC mJ2_init 22 = .ok (.goto 16, 3) := dk_167 0 16 (dk_at dksJ2_init_1 0 rfl rfl)
theorem dJ2_init_25 : DC mJ2_init 25 = .ok (.aload_n 0, 1) := dk_42 (dk_at dksJ2_init_1 3 rfl rfl)
theorem dJ2_init_26 : DC mJ2_init 26 = .ok (.iload_n 1, 1) := dk_27 (dk_at dksJ2_init_1 4 rfl rfl)
theorem dJ2_init_27 : DC mJ2_init 27 = .ok (.invokestatic 26, 3) := dk_184 0 26 (dk_at dksJ2_init_1 5 rfl rfl)
theorem dJ2_init_30 : DC mJ2_init 30 = .ok (.putfield 15, 3) := dk_181 0 15 (dk_at dksJ2_init_1 8 rfl rfl)
theorem dJ2_init_33 : DC mJ2_init 33 = .ok (.aload_n 0, 1) := dk_42 (dk_at dksJ2_init_1 11 rfl rfl)
theorem dJ2_init_34 : DC mJ2_init 34 = .ok (.iconst 1, 1) := dk_4 (dk_at dksJ2_init_1 12 rfl rfl)
theorem dJ2_init_35 : DC mJ2_init 35 = .ok (.putfield 22, 3) := dk_181 0 22 (dk_at dksJ2_init_1 13 rfl rfl)
theorem dJ2_init_38 : DC mJ2_init 38 = .ok (.return_, 1) := dk_177 (dk_at dksJ2_init_1 16 rfl rfl)
abbrev cJ2_append : ByteArray := prog_15_method_22_code
def yJ2_append : MethodName := ⟨RJ2, "append", "(Ljava/lang/String;)Ljava/lang/AbstractStringBuilder;"⟩
def mJ2_append : MI := (⟨"java/lang/AbstractStringBuilder", "append", "(Ljava/lang/String;)Ljava/lang/AbstractStringBuilder;"⟩, prog_15_method_22_code, 3, (Option.some (FieldType.object "java/lang/AbstractStringBuilder")), none, 2, 9)
theorem oJ2_append : mO mJ2_append = 2 := rfl
theorem lJ2_append : mL mJ2_append = 3 := rfl
theorem rJ2_append : mR mJ2_append = (Option.some (FieldType.object "java/lang/AbstractStringBuilder")) := rfl
theorem vJ2_append : mV mJ2_append = 9 := rfl
theorem nJ2_append : (mY mJ2_append).name = "append" := rfl
theorem hJ2_append : mH mJ2_append = none := rfl
theorem kJ2_append : MOk mJ2_append := ⟨q576, q78, by decide +kernel⟩
theorem gJ2_append : plainName (mY mJ2_append).cls = true ∧ (mY mJ2_append).cls = "java/lang/AbstractStringBuilder" := ⟨by decide +kernel, rfl⟩
def dkwJ2_append_1 : List UInt8 := [42, 42, 180, 0, 79, 43, 182, 0, 208, 42, 89, 180, 0, 79, 28, 96, 181, 0, 79, 42, 176]
abbrev dktJ2_append_1 : List UInt8 := dkwJ2_append_1 ++ []
def dkwJ2_append_0 : List UInt8 := [43, 199, 0, 8, 42, 182, 0, 204, 176, 43, 182, 0, 32, 61, 42, 42, 180, 0, 79, 28, 96, 182, 0, 100]
abbrev dktJ2_append_0 : List UInt8 := dkwJ2_append_0 ++ dktJ2_append_1
theorem dksJ2_append_0 : cJ2_append.data.toList.drop 0 = dktJ2_append_0 := by decide +kernel
theorem dksJ2_append_1 : cJ2_append.data.toList.drop 24 = dktJ2_append_1 := dk_seg dksJ2_append_0 24 rfl rfl
theorem dJ2_append_0 : DC mJ2_append 0 = .ok (.aload_n 1, 1) := dk_43 (dk_at dksJ2_append_0 0 rfl rfl)
theorem dJ2_append_1 : DC mJ2_append 1 = .ok (.ifnonnull 8, 3) := dk_199 0 8 (dk_at dksJ2_append_0 1 rfl rfl)
theorem dJ2_append_4 : DC mJ2_append 4 = .ok (.aload_n 0, 1) := dk_42 (dk_at dksJ2_append_0 4 rfl rfl)
theorem dJ2_append_5 : DC mJ2_append 5 = .ok (.invokevirtual 204, 3) := dk_182 0 204 (dk_at dksJ2_append_0 5 rfl rfl)
theorem dJ2_append_8 : DC mJ2_append 8 = .ok (.areturn, 1) := dk_176 (dk_at dksJ2_append_0 8 rfl rfl)
theorem dJ2_append_9 : DC mJ2_append 9 = .ok (.aload_n 1, 1) := dk_43 (dk_at dksJ2_append_0 9 rfl rfl)
theorem dJ2_append_10 : DC mJ2_append 10 = .ok (.invokevirtual 32, 3) := dk_182 0 32 (dk_at dksJ2_append_0 10 rfl rfl)
theorem dJ2_append_13 : DC mJ2_append 13 = .ok (.istore_n 2, 1) := dk_61 (dk_at dksJ2_append_0 13 rfl rfl)
theorem dJ2_append_14 : DC mJ2_append 14 = .ok (.aload_n 0, 1) := dk_42 (dk_at dksJ2_append_0 14 rfl rfl)
theorem dJ2_append_15 : DC mJ2_append 15 = .ok (.aload_n 0, 1) := dk_42 (dk_at dksJ2_append_0 15 rfl rfl)
theorem dJ2_append_16 : DC mJ2_append 16 = .ok (.getfield 79, 3) := dk_180 0 79 (dk_at dksJ2_append_0 16 rfl rfl)
theorem dJ2_append_19 : DC mJ2_append 19 = .ok (.iload_n 2, 1) := dk_28 (dk_at dksJ2_append_0 19 rfl rfl)
theorem dJ2_append_20 : DC mJ2_append 20 = .ok (.iadd, 1) := dk_96 (dk_at dksJ2_append_0 20 rfl rfl)
theorem dJ2_append_21 : DC mJ2_append 21 = .ok (.invokevirtual 100, 3) := dk_182 0 100 (dk_at dksJ2_append_0 21 rfl rfl)
theorem dJ2_append_24 : DC mJ2_append 24 = .ok (.aload_n 0, 1) := dk_42 (dk_at dksJ2_append_1 0 rfl rfl)
theorem dJ2_append_25 : DC mJ2_append 25 = .ok (.aload_n 0, 1) := dk_42 (dk_at dksJ2_append_1 1 rfl rfl)
theorem dJ2_append_26 : DC mJ2_append 26 = .ok (.getfield 79, 3) := dk_180 0 79 (dk_at dksJ2_append_1 2 rfl rfl)
theorem dJ2_append_29 : DC mJ2_append 29 = .ok (.aload_n 1, 1) := dk_43 (dk_at dksJ2_append_1 5 rfl rfl)
theorem dJ2_append_30 : DC mJ2_append 30 = .ok (.invokevirtual 208, 3) := dk_182 0 208 (dk_at dksJ2_append_1 6 rfl rfl)
theorem dJ2_append_33 : DC mJ2_append 33 = .ok (.aload_n 0, 1) := dk_42 (dk_at dksJ2_append_1 9 rfl rfl)
theorem dJ2_append_34 : DC mJ2_append 34 = .ok (.dup, 1) := dk_89 (dk_at dksJ2_append_1 10 rfl rfl)
theorem dJ2_append_35 : DC mJ2_append 35 = .ok (.getfield 79, 3) := dk_180 0 79 (dk_at dksJ2_append_1 11 rfl rfl)
theorem dJ2_append_38 : DC mJ2_append 38 = .ok (.iload_n 2, 1) := dk_28 (dk_at dksJ2_append_1 14 rfl rfl)
theorem dJ2_append_39 : DC mJ2_append 39 = .ok (.iadd, 1) := dk_96 (dk_at dksJ2_append_1 15 rfl rfl)
theorem dJ2_append_40 : DC mJ2_append 40 = .ok (.putfield 79, 3) := dk_181 0 79 (dk_at dksJ2_append_1 16 rfl rfl)
theorem dJ2_append_43 : DC mJ2_append 43 = .ok (.aload_n 0, 1) := dk_42 (dk_at dksJ2_append_1 19 rfl rfl)
theorem dJ2_append_44 : DC mJ2_append 44 = .ok (.areturn, 1) := dk_176 (dk_at dksJ2_append_1 20 rfl rfl)
abbrev cJ2_appendNull : ByteArray := prog_15_method_26_code
def yJ2_appendNull : MethodName := ⟨RJ2, "appendNull", "()Ljava/lang/AbstractStringBuilder;"⟩
def mJ2_appendNull : MI := (⟨"java/lang/AbstractStringBuilder", "appendNull", "()Ljava/lang/AbstractStringBuilder;"⟩, prog_15_method_26_code, 3, (Option.some (FieldType.object "java/lang/AbstractStringBuilder")), none, 2, 5)
theorem oJ2_appendNull : mO mJ2_appendNull = 2 := rfl
theorem lJ2_appendNull : mL mJ2_appendNull = 3 := rfl
theorem rJ2_appendNull : mR mJ2_appendNull = (Option.some (FieldType.object "java/lang/AbstractStringBuilder")) := rfl
theorem vJ2_appendNull : mV mJ2_appendNull = 5 := rfl
theorem nJ2_appendNull : (mY mJ2_appendNull).name = "appendNull" := rfl
theorem hJ2_appendNull : mH mJ2_appendNull = none := rfl
theorem kJ2_appendNull : MOk mJ2_appendNull := ⟨q580, q78, by decide +kernel⟩
theorem gJ2_appendNull : plainName (mY mJ2_appendNull).cls = true ∧ (mY mJ2_appendNull).cls = "java/lang/AbstractStringBuilder" := ⟨by decide +kernel, rfl⟩
def dkwJ2_appendNull_3 : List UInt8 := [184, 0, 226, 60, 42, 27, 181, 0, 79, 42, 176]
abbrev dktJ2_appendNull_3 : List UInt8 := dkwJ2_appendNull_3 ++ []
def dkwJ2_appendNull_2 : List UInt8 := [16, 108, 84, 44, 27, 132, 1, 1, 16, 108, 84, 167, 0, 17, 44, 27, 16, 110, 16, 117, 16, 108, 16, 108]
abbrev dktJ2_appendNull_2 : List UInt8 := dkwJ2_appendNull_2 ++ dktJ2_appendNull_3
def dkwJ2_appendNull_1 : List UInt8 := [153, 0, 38, 44, 27, 132, 1, 1, 16, 110, 84, 44, 27, 132, 1, 1, 16, 117, 84, 44, 27, 132, 1, 1]
abbrev dktJ2_appendNull_1 : List UInt8 := dkwJ2_appendNull_1 ++ dktJ2_appendNull_2
def dkwJ2_appendNull_0 : List UInt8 := [42, 42, 180, 0, 79, 7, 96, 182, 0, 100, 42, 180, 0, 79, 60, 42, 180, 0, 15, 77, 42, 182, 0, 83]
abbrev dktJ2_appendNull_0 : List UInt8 := dkwJ2_appendNull_0 ++ dktJ2_appendNull_1
theorem dksJ2_appendNull_0 : cJ2_appendNull.data.toList.drop 0 = dktJ2_appendNull_0 := by decide +kernel
theorem dksJ2_appendNull_1 : cJ2_appendNull.data.toList.drop 24 = dktJ2_appendNull_1 := dk_seg dksJ2_appendNull_0 24 rfl rfl
theorem dksJ2_appendNull_2 : cJ2_appendNull.data.toList.drop 48 = dktJ2_appendNull_2 := dk_seg dksJ2_appendNull_1 24 rfl rfl
theorem dksJ2_appendNull_3 : cJ2_appendNull.data.toList.drop 72 = dktJ2_appendNull_3 := dk_seg dksJ2_appendNull_2 24 rfl rfl
theorem dJ2_appendNull_0 : DC mJ2_appendNull 0 = .ok (.aload_n 0, 1) := dk_42 (dk_at dksJ2_appendNull_0 0 rfl rfl)
theorem dJ2_appendNull_1 : DC mJ2_appendNull 1 = .ok (.aload_n 0, 1) := dk_42 (dk_at dksJ2_appendNull_0 1 rfl rfl)
theorem dJ2_appendNull_2 : DC mJ2_appendNull 2 = .ok (.getfield 79, 3) := dk_180 0 79 (dk_at dksJ2_appendNull_0 2 rfl rfl)
theorem dJ2_appendNull_5 : DC mJ2_appendNull 5 = .ok (.iconst 4, 1) := dk_7 (dk_at dksJ2_appendNull_0 5 rfl rfl)
theorem dJ2_appendNull_6 : DC mJ2_appendNull 6 = .ok (.iadd, 1) := dk_96 (dk_at dksJ2_appendNull_0 6 rfl rfl)
theorem dJ2_appendNull_7 : DC mJ2_appendNull 7 = .ok (.invokevirtual 100, 3) := dk_182 0 100 (dk_at dksJ2_appendNull_0 7 rfl rfl)
theorem dJ2_appendNull_10 : DC mJ2_appendNull 10 = .ok (.aload_n 0, 1) := dk_42 (dk_at dksJ2_appendNull_0 10 rfl rfl)
theorem dJ2_appendNull_11 : DC mJ2_appendNull 11 = .ok (.getfield 79, 3) := dk_180 0 79 (dk_at dksJ2_appendNull_0 11 rfl rfl)
theorem dJ2_appendNull_14 : DC mJ2_appendNull 14 = .ok (.istore_n 1, 1) := dk_60 (dk_at dksJ2_appendNull_0 14 rfl rfl)
theorem dJ2_appendNull_15 : DC mJ2_appendNull 15 = .ok (.aload_n 0, 1) := dk_42 (dk_at dksJ2_appendNull_0 15 rfl rfl)
theorem dJ2_appendNull_16 : DC mJ2_appendNull 16 = .ok (.getfield 15, 3) := dk_180 0 15 (dk_at dksJ2_appendNull_0 16 rfl rfl)
theorem dJ2_appendNull_19 : DC mJ2_appendNull 19 = .ok (.astore_n 2, 1) := dk_77 (dk_at dksJ2_appendNull_0 19 rfl rfl)
theorem dJ2_appendNull_20 : DC mJ2_appendNull 20 = .ok (.aload_n 0, 1) := dk_42 (dk_at dksJ2_appendNull_0 20 rfl rfl)
theorem dJ2_appendNull_21 : DC mJ2_appendNull 21 = .ok (.invokevirtual 83, 3) := dk_182 0 83 (dk_at dksJ2_appendNull_0 21 rfl rfl)
theorem dJ2_appendNull_24 : DC mJ2_appendNull 24 = .ok (.ifCond .eq 38, 3) := dk_153 0 38 (dk_at dksJ2_appendNull_1 0 rfl rfl)
theorem dJ2_appendNull_27 : DC mJ2_appendNull 27 = .ok (.aload_n 2, 1) := dk_44 (dk_at dksJ2_appendNull_1 3 rfl rfl)
theorem dJ2_appendNull_28 : DC mJ2_appendNull 28 = .ok (.iload_n 1, 1) := dk_27 (dk_at dksJ2_appendNull_1 4 rfl rfl)
theorem dJ2_appendNull_29 : DC mJ2_appendNull 29 = .ok (.iinc 1 1, 3) := dk_132 1 1 (dk_at dksJ2_appendNull_1 5 rfl rfl)
theorem dJ2_appendNull_32 : DC mJ2_appendNull 32 = .ok (.bipush 110, 2) := dk_16 110 (dk_at dksJ2_appendNull_1 8 rfl rfl)
theorem dJ2_appendNull_34 : DC mJ2_appendNull 34 = .ok (.bastore, 1) := dk_84 (dk_at dksJ2_appendNull_1 10 rfl rfl)
theorem dJ2_appendNull_35 : DC mJ2_appendNull 35 = .ok (.aload_n 2, 1) := dk_44 (dk_at dksJ2_appendNull_1 11 rfl rfl)
theorem dJ2_appendNull_36 : DC mJ2_appendNull 36 = .ok (.iload_n 1, 1) := dk_27 (dk_at dksJ2_appendNull_1 12 rfl rfl)
theorem dJ2_appendNull_37 : DC mJ2_appendNull 37 = .ok (.iinc 1 1, 3) := dk_132 1 1 (dk_at dksJ2_appendNull_1 13 rfl rfl)
theorem dJ2_appendNull_40 : DC mJ2_appendNull 40 = .ok (.bipush 117, 2) := dk_16 117 (dk_at dksJ2_appendNull_1 16 rfl rfl)
theorem dJ2_appendNull_42 : DC mJ2_appendNull 42 = .ok (.bastore, 1) := dk_84 (dk_at dksJ2_appendNull_1 18 rfl rfl)
theorem dJ2_appendNull_43 : DC mJ2_appendNull 43 = .ok (.aload_n 2, 1) := dk_44 (dk_at dksJ2_appendNull_1 19 rfl rfl)
theorem dJ2_appendNull_44 : DC mJ2_appendNull 44 = .ok (.iload_n 1, 1) := dk_27 (dk_at dksJ2_appendNull_1 20 rfl rfl)
theorem dJ2_appendNull_45 : DC mJ2_appendNull 45 = .ok (.iinc 1 1, 3) := dk_132 1 1 (dk_at dksJ2_appendNull_1 21 rfl rfl)
theorem dJ2_appendNull_48 : DC mJ2_appendNull 48 = .ok (.bipush 108, 2) := dk_16 108 (dk_at dksJ2_appendNull_2 0 rfl rfl)
theorem dJ2_appendNull_50 : DC mJ2_appendNull 50 = .ok (.bastore, 1) := dk_84 (dk_at dksJ2_appendNull_2 2 rfl rfl)
theorem dJ2_appendNull_51 : DC mJ2_appendNull 51 = .ok (.aload_n 2, 1) := dk_44 (dk_at dksJ2_appendNull_2 3 rfl rfl)
theorem dJ2_appendNull_52 : DC mJ2_appendNull 52 = .ok (.iload_n 1, 1) := dk_27 (dk_at dksJ2_appendNull_2 4 rfl rfl)
theorem dJ2_appendNull_53 : DC mJ2_appendNull 53 = .ok (.iinc 1 1, 3) := dk_132 1 1 (dk_at dksJ2_appendNull_2 5 rfl rfl)
theorem dJ2_appendNull_56 : DC mJ2_appendNull 56 = .ok (.bipush 108, 2) := dk_16 108 (dk_at dksJ2_appendNull_2 8 rfl rfl)
theorem dJ2_appendNull_58 : DC mJ2_appendNull 58 = .ok (.bastore, 1) := dk_84 (dk_at dksJ2_appendNull_2 10 rfl rfl)
theorem dJ2_appendNull_59 : DC mJ2_appendNull 59 = .ok (.goto 17, 3) := dk_167 0 17 (dk_at dksJ2_appendNull_2 11 rfl rfl)
theorem dJ2_appendNull_62 : DC mJ2_appendNull 62 = .ok (.aload_n 2, 1) := dk_44 (dk_at dksJ2_appendNull_2 14 rfl rfl)
theorem dJ2_appendNull_63 : DC mJ2_appendNull 63 = .ok (.iload_n 1, 1) := dk_27 (dk_at dksJ2_appendNull_2 15 rfl rfl)
theorem dJ2_appendNull_64 : DC mJ2_appendNull 64 = .ok (.bipush 110, 2) := dk_16 110 (dk_at dksJ2_appendNull_2 16 rfl rfl)
theorem dJ2_appendNull_66 : DC mJ2_appendNull 66 = .ok (.bipush 117, 2) := dk_16 117 (dk_at dksJ2_appendNull_2 18 rfl rfl)
theorem dJ2_appendNull_68 : DC mJ2_appendNull 68 = .ok (.bipush 108, 2) := dk_16 108 (dk_at dksJ2_appendNull_2 20 rfl rfl)
theorem dJ2_appendNull_70 : DC mJ2_appendNull 70 = .ok (.bipush 108, 2) := dk_16 108 (dk_at dksJ2_appendNull_2 22 rfl rfl)
theorem dJ2_appendNull_72 : DC mJ2_appendNull 72 = .ok (.invokestatic 226, 3) := dk_184 0 226 (dk_at dksJ2_appendNull_3 0 rfl rfl)
theorem dJ2_appendNull_75 : DC mJ2_appendNull 75 = .ok (.istore_n 1, 1) := dk_60 (dk_at dksJ2_appendNull_3 3 rfl rfl)
theorem dJ2_appendNull_76 : DC mJ2_appendNull 76 = .ok (.aload_n 0, 1) := dk_42 (dk_at dksJ2_appendNull_3 4 rfl rfl)
theorem dJ2_appendNull_77 : DC mJ2_appendNull 77 = .ok (.iload_n 1, 1) := dk_27 (dk_at dksJ2_appendNull_3 5 rfl rfl)
theorem dJ2_appendNull_78 : DC mJ2_appendNull 78 = .ok (.putfield 79, 3) := dk_181 0 79 (dk_at dksJ2_appendNull_3 6 rfl rfl)
theorem dJ2_appendNull_81 : DC mJ2_appendNull 81 = .ok (.aload_n 0, 1) := dk_42 (dk_at dksJ2_appendNull_3 9 rfl rfl)
theorem dJ2_appendNull_82 : DC mJ2_appendNull 82 = .ok (.areturn, 1) := dk_176 (dk_at dksJ2_appendNull_3 10 rfl rfl)
abbrev cJ2_ensureCapacityInternal : ByteArray := prog_15_method_9_code
def yJ2_ensureCapacityInternal : MethodName := ⟨RJ2, "ensureCapacityInternal", "(I)V"⟩
def mJ2_ensureCapacityInternal : MI := (⟨"java/lang/AbstractStringBuilder", "ensureCapacityInternal", "(I)V"⟩, prog_15_method_9_code, 3, (Option.none : Option FieldType), none, 2, 4)
theorem oJ2_ensureCapacityInternal : mO mJ2_ensureCapacityInternal = 2 := rfl
theorem lJ2_ensureCapacityInternal : mL mJ2_ensureCapacityInternal = 3 := rfl
theorem rJ2_ensureCapacityInternal : mR mJ2_ensureCapacityInternal = (Option.none : Option FieldType) := rfl
theorem vJ2_ensureCapacityInternal : mV mJ2_ensureCapacityInternal = 4 := rfl
theorem nJ2_ensureCapacityInternal : (mY mJ2_ensureCapacityInternal).name = "ensureCapacityInternal" := rfl
theorem hJ2_ensureCapacityInternal : mH mJ2_ensureCapacityInternal = none := rfl
theorem kJ2_ensureCapacityInternal : MOk mJ2_ensureCapacityInternal := ⟨q584, q78, by decide +kernel⟩
theorem gJ2_ensureCapacityInternal : plainName (mY mJ2_ensureCapacityInternal).cls = true ∧ (mY mJ2_ensureCapacityInternal).cls = "java/lang/AbstractStringBuilder" := ⟨by decide +kernel, rfl⟩
def dkwJ2_ensureCapacityInternal_1 : List UInt8 := [182, 0, 104, 42, 180, 0, 22, 120, 184, 0, 108, 181, 0, 15, 177]
abbrev dktJ2_ensureCapacityInternal_1 : List UInt8 := dkwJ2_ensureCapacityInternal_1 ++ []
def dkwJ2_ensureCapacityInternal_0 : List UInt8 := [42, 180, 0, 15, 190, 42, 180, 0, 22, 122, 61, 27, 28, 100, 158, 0, 24, 42, 42, 180, 0, 15, 42, 27]
abbrev dktJ2_ensureCapacityInternal_0 : List UInt8 := dkwJ2_ensureCapacityInternal_0 ++ dktJ2_ensureCapacityInternal_1
theorem dksJ2_ensureCapacityInternal_0 : cJ2_ensureCapacityInternal.data.toList.drop 0 = dktJ2_ensureCapacityInternal_0 := by decide +kernel
theorem dksJ2_ensureCapacityInternal_1 : cJ2_ensureCapacityInternal.data.toList.drop 24 = dktJ2_ensureCapacityInternal_1 := dk_seg dksJ2_ensureCapacityInternal_0 24 rfl rfl
theorem dJ2_ensureCapacityInternal_0 : DC mJ2_ensureCapacityInternal 0 = .ok (.aload_n 0, 1) := dk_42 (dk_at dksJ2_ensureCapacityInternal_0 0 rfl rfl)
theorem dJ2_ensureCapacityInternal_1 : DC mJ2_ensureCapacityInternal 1 = .ok (.getfield 15, 3) := dk_180 0 15 (dk_at dksJ2_ensureCapacityInternal_0 1 rfl rfl)
theorem dJ2_ensureCapacityInternal_4 : DC mJ2_ensureCapacityInternal 4 = .ok (.arraylength, 1) := dk_190 (dk_at dksJ2_ensureCapacityInternal_0 4 rfl rfl)
theorem dJ2_ensureCapacityInternal_5 : DC mJ2_ensureCapacityInternal 5 = .ok (.aload_n 0, 1) := dk_42 (dk_at dksJ2_ensureCapacityInternal_0 5 rfl rfl)
theorem dJ2_ensureCapacityInternal_6 : DC mJ2_ensureCapacityInternal 6 = .ok (.getfield 22, 3) := dk_180 0 22 (dk_at dksJ2_ensureCapacityInternal_0 6 rfl rfl)
theorem dJ2_ensureCapacityInternal_9 : DC mJ2_ensureCapacityInternal 9 = .ok (.ishr, 1) := dk_122 (dk_at dksJ2_ensureCapacityInternal_0 9 rfl rfl)
theorem dJ2_ensureCapacityInternal_10 : DC mJ2_ensureCapacityInternal 10 = .ok (.istore_n 2, 1) := dk_61 (dk_at dksJ2_ensureCapacityInternal_0 10 rfl rfl)
theorem dJ2_ensureCapacityInternal_11 : DC mJ2_ensureCapacityInternal 11 = .ok (.iload_n 1, 1) := dk_27 (dk_at dksJ2_ensureCapacityInternal_0 11 rfl rfl)
theorem dJ2_ensureCapacityInternal_12 : DC mJ2_ensureCapacityInternal 12 = .ok (.iload_n 2, 1) := dk_28 (dk_at dksJ2_ensureCapacityInternal_0 12 rfl rfl)
theorem dJ2_ensureCapacityInternal_13 : DC mJ2_ensureCapacityInternal 13 = .ok (.isub, 1) := dk_100 (dk_at dksJ2_ensureCapacityInternal_0 13 rfl rfl)
theorem dJ2_ensureCapacityInternal_14 : DC mJ2_ensureCapacityInternal 14 = .ok (.ifCond .le 24, 3) := dk_158 0 24 (dk_at dksJ2_ensureCapacityInternal_0 14 rfl rfl)
theorem dJ2_ensureCapacityInternal_17 : DC mJ2_ensureCapacityInternal 17 = .ok (.aload_n 0, 1) := dk_42 (dk_at dksJ2_ensureCapacityInternal_0 17 rfl rfl)
theorem dJ2_ensureCapacityInternal_18 : DC mJ2_ensureCapacityInternal 18 = .ok (.aload_n 0, 1) := dk_42 (dk_at dksJ2_ensureCapacityInternal_0 18 rfl rfl)
theorem dJ2_ensureCapacityInternal_19 : DC mJ2_ensureCapacityInternal 19 = .ok (.getfield 15, 3) := dk_180 0 15 (dk_at dksJ2_ensureCapacityInternal_0 19 rfl rfl)
theorem dJ2_ensureCapacityInternal_22 : DC mJ2_ensureCapacityInternal 22 = .ok (.aload_n 0, 1) := dk_42 (dk_at dksJ2_ensureCapacityInternal_0 22 rfl rfl)
theorem dJ2_ensureCapacityInternal_23 : DC mJ2_ensureCapacityInternal 23 = .ok (.iload_n 1, 1) := dk_27 (dk_at dksJ2_ensureCapacityInternal_0 23 rfl rfl)
theorem dJ2_ensureCapacityInternal_24 : DC mJ2_ensureCapacityInternal 24 = .ok (.invokevirtual 104, 3) := dk_182 0 104 (dk_at dksJ2_ensureCapacityInternal_1 0 rfl rfl)
theorem dJ2_ensureCapacityInternal_27 : DC mJ2_ensureCapacityInternal 27 = .ok (.aload_n 0, 1) := dk_42 (dk_at dksJ2_ensureCapacityInternal_1 3 rfl rfl)
theorem dJ2_ensureCapacityInternal_28 : DC mJ2_ensureCapacityInternal 28 = .ok (.getfield 22, 3) := dk_180 0 22 (dk_at dksJ2_ensureCapacityInternal_1 4 rfl rfl)
theorem dJ2_ensureCapacityInternal_31 : DC mJ2_ensureCapacityInternal 31 = .ok (.ishl, 1) := dk_120 (dk_at dksJ2_ensureCapacityInternal_1 7 rfl rfl)
theorem dJ2_ensureCapacityInternal_32 : DC mJ2_ensureCapacityInternal 32 = .ok (.invokestatic 108, 3) := dk_184 0 108 (dk_at dksJ2_ensureCapacityInternal_1 8 rfl rfl)
theorem dJ2_ensureCapacityInternal_35 : DC mJ2_ensureCapacityInternal 35 = .ok (.putfield 15, 3) := dk_181 0 15 (dk_at dksJ2_ensureCapacityInternal_1 11 rfl rfl)
theorem dJ2_ensureCapacityInternal_38 : DC mJ2_ensureCapacityInternal 38 = .ok (.return_, 1) := dk_177 (dk_at dksJ2_ensureCapacityInternal_1 14 rfl rfl)
abbrev cJ2_newCapacity : ByteArray := prog_15_method_10_code
def yJ2_newCapacity : MethodName := ⟨RJ2, "newCapacity", "(I)I"⟩
def mJ2_newCapacity : MI := (⟨"java/lang/AbstractStringBuilder", "newCapacity", "(I)I"⟩, prog_15_method_10_code, 6, (Option.some FieldType.int), none, 2, 3)
theorem oJ2_newCapacity : mO mJ2_newCapacity = 2 := rfl
theorem lJ2_newCapacity : mL mJ2_newCapacity = 6 := rfl
theorem rJ2_newCapacity : mR mJ2_newCapacity = (Option.some FieldType.int) := rfl
theorem vJ2_newCapacity : mV mJ2_newCapacity = 3 := rfl
theorem nJ2_newCapacity : (mY mJ2_newCapacity).name = "newCapacity" := rfl
theorem hJ2_newCapacity : mH mJ2_newCapacity = none := rfl
theorem kJ2_newCapacity : MOk mJ2_newCapacity := ⟨q588, q78, by decide +kernel⟩
theorem gJ2_newCapacity : plainName (mY mJ2_newCapacity).cls = true ∧ (mY mJ2_newCapacity).cls = "java/lang/AbstractStringBuilder" := ⟨by decide +kernel, rfl⟩
def dkwJ2_newCapacity_2 : List UInt8 := [183, 0, 124, 191, 21, 5, 42, 180, 0, 22, 122, 172]
abbrev dktJ2_newCapacity_2 : List UInt8 := dkwJ2_newCapacity_2 ++ []
def dkwJ2_newCapacity_1 : List UInt8 := [180, 0, 22, 120, 96, 184, 0, 114, 54, 5, 21, 5, 18, 39, 160, 0, 13, 187, 0, 120, 89, 18, 122]
abbrev dktJ2_newCapacity_1 : List UInt8 := dkwJ2_newCapacity_1 ++ dktJ2_newCapacity_2
def dkwJ2_newCapacity_0 : List UInt8 := [42, 180, 0, 15, 190, 61, 27, 42, 180, 0, 22, 120, 62, 29, 28, 100, 54, 4, 28, 21, 4, 28, 5, 42]
abbrev dktJ2_newCapacity_0 : List UInt8 := dkwJ2_newCapacity_0 ++ dktJ2_newCapacity_1
theorem dksJ2_newCapacity_0 : cJ2_newCapacity.data.toList.drop 0 = dktJ2_newCapacity_0 := by decide +kernel
theorem dksJ2_newCapacity_1 : cJ2_newCapacity.data.toList.drop 24 = dktJ2_newCapacity_1 := dk_seg dksJ2_newCapacity_0 24 rfl rfl
theorem dksJ2_newCapacity_2 : cJ2_newCapacity.data.toList.drop 47 = dktJ2_newCapacity_2 := dk_seg dksJ2_newCapacity_1 23 rfl rfl
theorem dJ2_newCapacity_0 : DC mJ2_newCapacity 0 = .ok (.aload_n 0, 1) := dk_42 (dk_at dksJ2_newCapacity_0 0 rfl rfl)
theorem dJ2_newCapacity_1 : DC mJ2_newCapacity 1 = .ok (.getfield 15, 3) := dk_180 0 15 (dk_at dksJ2_newCapacity_0 1 rfl rfl)
theorem dJ2_newCapacity_4 : DC mJ2_newCapacity 4 = .ok (.arraylength, 1) := dk_190 (dk_at dksJ2_newCapacity_0 4 rfl rfl)
theorem dJ2_newCapacity_5 : DC mJ2_newCapacity 5 = .ok (.istore_n 2, 1) := dk_61 (dk_at dksJ2_newCapacity_0 5 rfl rfl)
theorem dJ2_newCapacity_6 : DC mJ2_newCapacity 6 = .ok (.iload_n 1, 1) := dk_27 (dk_at dksJ2_newCapacity_0 6 rfl rfl)
theorem dJ2_newCapacity_7 : DC mJ2_newCapacity 7 = .ok (.aload_n 0, 1) := dk_42 (dk_at dksJ2_newCapacity_0 7 rfl rfl)
theorem dJ2_newCapacity_8 : DC mJ2_newCapacity 8 = .ok (.getfield 22, 3) := dk_180 0 22 (dk_at dksJ2_newCapacity_0 8 rfl rfl)
theorem dJ2_newCapacity_11 : DC mJ2_newCapacity 11 = .ok (.ishl, 1) := dk_120 (dk_at dksJ2_newCapacity_0 11 rfl rfl)
theorem dJ2_newCapacity_12 : DC mJ2_newCapacity 12 = .ok (.istore_n 3, 1) := dk_62 (dk_at dksJ2_newCapacity_0 12 rfl rfl)
theorem dJ2_newCapacity_13 : DC mJ2_newCapacity 13 = .ok (.iload_n 3, 1) := dk_29 (dk_at dksJ2_newCapacity_0 13 rfl rfl)
theorem dJ2_newCapacity_14 : DC mJ2_newCapacity 14 = .ok (.iload_n 2, 1) := dk_28 (dk_at dksJ2_newCapacity_0 14 rfl rfl)
theorem dJ2_newCapacity_15 : DC mJ2_newCapacity 15 = .ok (.isub, 1) := dk_100 (dk_at dksJ2_newCapacity_0 15 rfl rfl)
theorem dJ2_newCapacity_16 : DC mJ2_newCapacity 16 = .ok (.istore 4, 2) := dk_54 4 (dk_at dksJ2_newCapacity_0 16 rfl rfl)
theorem dJ2_newCapacity_18 : DC mJ2_newCapacity 18 = .ok (.iload_n 2, 1) := dk_28 (dk_at dksJ2_newCapacity_0 18 rfl rfl)
theorem dJ2_newCapacity_19 : DC mJ2_newCapacity 19 = .ok (.iload 4, 2) := dk_21 4 (dk_at dksJ2_newCapacity_0 19 rfl rfl)
theorem dJ2_newCapacity_21 : DC mJ2_newCapacity 21 = .ok (.iload_n 2, 1) := dk_28 (dk_at dksJ2_newCapacity_0 21 rfl rfl)
theorem dJ2_newCapacity_22 : DC mJ2_newCapacity 22 = .ok (.iconst 2, 1) := dk_5 (dk_at dksJ2_newCapacity_0 22 rfl rfl)
theorem dJ2_newCapacity_23 : DC mJ2_newCapacity 23 = .ok (.aload_n 0, 1) := dk_42 (dk_at dksJ2_newCapacity_0 23 rfl rfl)
theorem dJ2_newCapacity_24 : DC mJ2_newCapacity 24 = .ok (.getfield 22, 3) := dk_180 0 22 (dk_at dksJ2_newCapacity_1 0 rfl rfl)
theorem dJ2_newCapacity_27 : DC mJ2_newCapacity 27 = .ok (.ishl, 1) := dk_120 (dk_at dksJ2_newCapacity_1 3 rfl rfl)
theorem dJ2_newCapacity_28 : DC mJ2_newCapacity 28 = .ok (.iadd, 1) := dk_96 (dk_at dksJ2_newCapacity_1 4 rfl rfl)
theorem dJ2_newCapacity_29 : DC mJ2_newCapacity 29 = .ok (.invokestatic 114, 3) := dk_184 0 114 (dk_at dksJ2_newCapacity_1 5 rfl rfl)
theorem dJ2_newCapacity_32 : DC mJ2_newCapacity 32 = .ok (.istore 5, 2) := dk_54 5 (dk_at dksJ2_newCapacity_1 8 rfl rfl)
theorem dJ2_newCapacity_34 : DC mJ2_newCapacity 34 = .ok (.iload 5, 2) := dk_21 5 (dk_at dksJ2_newCapacity_1 10 rfl rfl)
theorem dJ2_newCapacity_36 : DC mJ2_newCapacity 36 = .ok (.ldc 39, 2) := dk_18 39 (dk_at dksJ2_newCapacity_1 12 rfl rfl)
theorem dJ2_newCapacity_38 : DC mJ2_newCapacity 38 = .ok (.if_icmp .ne 13, 3) := dk_160 0 13 (dk_at dksJ2_newCapacity_1 14 rfl rfl)
theorem dJ2_newCapacity_41 : DC mJ2_newCapacity 41 = .ok (.new 120, 3) := dk_187 0 120 (dk_at dksJ2_newCapacity_1 17 rfl rfl)
theorem dJ2_newCapacity_44 : DC mJ2_newCapacity 44 = .ok (.dup, 1) := dk_89 (dk_at dksJ2_newCapacity_1 20 rfl rfl)
theorem dJ2_newCapacity_45 : DC mJ2_newCapacity 45 = .ok (.ldc 122, 2) := dk_18 122 (dk_at dksJ2_newCapacity_1 21 rfl rfl)
theorem dJ2_newCapacity_47 : DC mJ2_newCapacity 47 = .ok (.invokespecial 124, 3) := dk_183 0 124 (dk_at dksJ2_newCapacity_2 0 rfl rfl)
theorem dJ2_newCapacity_50 : DC mJ2_newCapacity 50 = .ok (.athrow, 1) := dk_191 (dk_at dksJ2_newCapacity_2 3 rfl rfl)
theorem dJ2_newCapacity_51 : DC mJ2_newCapacity 51 = .ok (.iload 5, 2) := dk_21 5 (dk_at dksJ2_newCapacity_2 4 rfl rfl)
theorem dJ2_newCapacity_53 : DC mJ2_newCapacity 53 = .ok (.aload_n 0, 1) := dk_42 (dk_at dksJ2_newCapacity_2 6 rfl rfl)
theorem dJ2_newCapacity_54 : DC mJ2_newCapacity 54 = .ok (.getfield 22, 3) := dk_180 0 22 (dk_at dksJ2_newCapacity_2 7 rfl rfl)
theorem dJ2_newCapacity_57 : DC mJ2_newCapacity 57 = .ok (.ishr, 1) := dk_122 (dk_at dksJ2_newCapacity_2 10 rfl rfl)
theorem dJ2_newCapacity_58 : DC mJ2_newCapacity 58 = .ok (.ireturn, 1) := dk_172 (dk_at dksJ2_newCapacity_2 11 rfl rfl)
abbrev cJ2_isLatin1 : ByteArray := prog_15_method_68_code
def yJ2_isLatin1 : MethodName := ⟨RJ2, "isLatin1", "()Z"⟩
def mJ2_isLatin1 : MI := (⟨"java/lang/AbstractStringBuilder", "isLatin1", "()Z"⟩, prog_15_method_68_code, 1, (Option.some FieldType.boolean), none, 2, 1)
theorem oJ2_isLatin1 : mO mJ2_isLatin1 = 2 := rfl
theorem lJ2_isLatin1 : mL mJ2_isLatin1 = 1 := rfl
theorem rJ2_isLatin1 : mR mJ2_isLatin1 = (Option.some FieldType.boolean) := rfl
theorem vJ2_isLatin1 : mV mJ2_isLatin1 = 1 := rfl
theorem nJ2_isLatin1 : (mY mJ2_isLatin1).name = "isLatin1" := rfl
theorem hJ2_isLatin1 : mH mJ2_isLatin1 = none := rfl
theorem kJ2_isLatin1 : MOk mJ2_isLatin1 := ⟨q605, q78, by decide +kernel⟩
theorem gJ2_isLatin1 : plainName (mY mJ2_isLatin1).cls = true ∧ (mY mJ2_isLatin1).cls = "java/lang/AbstractStringBuilder" := ⟨by decide +kernel, rfl⟩
def dkwJ2_isLatin1_0 : List UInt8 := [178, 0, 18, 153, 0, 14, 42, 180, 0, 22, 154, 0, 7, 4, 167, 0, 4, 3, 172]
abbrev dktJ2_isLatin1_0 : List UInt8 := dkwJ2_isLatin1_0 ++ []
theorem dksJ2_isLatin1_0 : cJ2_isLatin1.data.toList.drop 0 = dktJ2_isLatin1_0 := by decide +kernel
theorem dJ2_isLatin1_0 : DC mJ2_isLatin1 0 = .ok (.getstatic 18, 3) := dk_178 0 18 (dk_at dksJ2_isLatin1_0 0 rfl rfl)
theorem dJ2_isLatin1_3 : DC mJ2_isLatin1 3 = .ok (.ifCond .eq 14, 3) := dk_153 0 14 (dk_at dksJ2_isLatin1_0 3 rfl rfl)
theorem dJ2_isLatin1_6 : DC mJ2_isLatin1 6 = .ok (.aload_n 0, 1) := dk_42 (dk_at dksJ2_isLatin1_0 6 rfl rfl)
theorem dJ2_isLatin1_7 : DC mJ2_isLatin1 7 = .ok (.getfield 22, 3) := dk_180 0 22 (dk_at dksJ2_isLatin1_0 7 rfl rfl)
theorem dJ2_isLatin1_10 : DC mJ2_isLatin1 10 = .ok (.ifCond .ne 7, 3) := dk_154 0 7 (dk_at dksJ2_isLatin1_0 10 rfl rfl)
theorem dJ2_isLatin1_13 : DC mJ2_isLatin1 13 = .ok (.iconst 1, 1) := dk_4 (dk_at dksJ2_isLatin1_0 13 rfl rfl)
theorem dJ2_isLatin1_14 : DC mJ2_isLatin1 14 = .ok (.goto 4, 3) := dk_167 0 4 (dk_at dksJ2_isLatin1_0 14 rfl rfl)
theorem dJ2_isLatin1_17 : DC mJ2_isLatin1 17 = .ok (.iconst 0, 1) := dk_3 (dk_at dksJ2_isLatin1_0 17 rfl rfl)
theorem dJ2_isLatin1_18 : DC mJ2_isLatin1 18 = .ok (.ireturn, 1) := dk_172 (dk_at dksJ2_isLatin1_0 18 rfl rfl)
abbrev cJ2_putStringAt : ByteArray := prog_15_method_73_code
def yJ2_putStringAt : MethodName := ⟨RJ2, "putStringAt", "(ILjava/lang/String;)V"⟩
def mJ2_putStringAt : MI := (⟨"java/lang/AbstractStringBuilder", "putStringAt", "(ILjava/lang/String;)V"⟩, prog_15_method_73_code, 3, (Option.none : Option FieldType), none, 2, 8)
theorem oJ2_putStringAt : mO mJ2_putStringAt = 2 := rfl
theorem lJ2_putStringAt : mL mJ2_putStringAt = 3 := rfl
theorem rJ2_putStringAt : mR mJ2_putStringAt = (Option.none : Option FieldType) := rfl
theorem vJ2_putStringAt : mV mJ2_putStringAt = 8 := rfl
theorem nJ2_putStringAt : (mY mJ2_putStringAt).name = "putStringAt" := rfl
theorem hJ2_putStringAt : mH mJ2_putStringAt = none := rfl
theorem kJ2_putStringAt : MOk mJ2_putStringAt := ⟨q644, q78, by decide +kernel⟩
theorem gJ2_putStringAt : plainName (mY mJ2_putStringAt).cls = true ∧ (mY mJ2_putStringAt).cls = "java/lang/AbstractStringBuilder" := ⟨by decide +kernel, rfl⟩
def dkwJ2_putStringAt_0 : List UInt8 := [42, 44, 182, 1, 141, 44, 42, 180, 0, 15, 27, 42, 180, 0, 22, 182, 1, 143, 177]
abbrev dktJ2_putStringAt_0 : List UInt8 := dkwJ2_putStringAt_0 ++ []
theorem dksJ2_putStringAt_0 : cJ2_putStringAt.data.toList.drop 0 = dktJ2_putStringAt_0 := by decide +kernel
theorem dJ2_putStringAt_0 : DC mJ2_putStringAt 0 = .ok (.aload_n 0, 1) := dk_42 (dk_at dksJ2_putStringAt_0 0 rfl rfl)
theorem dJ2_putStringAt_1 : DC mJ2_putStringAt 1 = .ok (.aload_n 2, 1) := dk_44 (dk_at dksJ2_putStringAt_0 1 rfl rfl)
theorem dJ2_putStringAt_2 : DC mJ2_putStringAt 2 = .ok (.invokevirtual 397, 3) := dk_182 1 141 (dk_at dksJ2_putStringAt_0 2 rfl rfl)
theorem dJ2_putStringAt_5 : DC mJ2_putStringAt 5 = .ok (.aload_n 2, 1) := dk_44 (dk_at dksJ2_putStringAt_0 5 rfl rfl)
theorem dJ2_putStringAt_6 : DC mJ2_putStringAt 6 = .ok (.aload_n 0, 1) := dk_42 (dk_at dksJ2_putStringAt_0 6 rfl rfl)
theorem dJ2_putStringAt_7 : DC mJ2_putStringAt 7 = .ok (.getfield 15, 3) := dk_180 0 15 (dk_at dksJ2_putStringAt_0 7 rfl rfl)
theorem dJ2_putStringAt_10 : DC mJ2_putStringAt 10 = .ok (.iload_n 1, 1) := dk_27 (dk_at dksJ2_putStringAt_0 10 rfl rfl)
theorem dJ2_putStringAt_11 : DC mJ2_putStringAt 11 = .ok (.aload_n 0, 1) := dk_42 (dk_at dksJ2_putStringAt_0 11 rfl rfl)
theorem dJ2_putStringAt_12 : DC mJ2_putStringAt 12 = .ok (.getfield 22, 3) := dk_180 0 22 (dk_at dksJ2_putStringAt_0 12 rfl rfl)
theorem dJ2_putStringAt_15 : DC mJ2_putStringAt 15 = .ok (.invokevirtual 399, 3) := dk_182 1 143 (dk_at dksJ2_putStringAt_0 15 rfl rfl)
theorem dJ2_putStringAt_18 : DC mJ2_putStringAt 18 = .ok (.return_, 1) := dk_177 (dk_at dksJ2_putStringAt_0 18 rfl rfl)
abbrev cJ2_inflateIfNeededFor : ByteArray := prog_15_method_71_code
def yJ2_inflateIfNeededFor : MethodName := ⟨RJ2, "inflateIfNeededFor", "(Ljava/lang/String;)V"⟩
def mJ2_inflateIfNeededFor : MI := (⟨"java/lang/AbstractStringBuilder", "inflateIfNeededFor", "(Ljava/lang/String;)V"⟩, prog_15_method_71_code, 2, (Option.none : Option FieldType), none, 2, 7)
theorem oJ2_inflateIfNeededFor : mO mJ2_inflateIfNeededFor = 2 := rfl
theorem lJ2_inflateIfNeededFor : mL mJ2_inflateIfNeededFor = 2 := rfl
theorem rJ2_inflateIfNeededFor : mR mJ2_inflateIfNeededFor = (Option.none : Option FieldType) := rfl
theorem vJ2_inflateIfNeededFor : mV mJ2_inflateIfNeededFor = 7 := rfl
theorem nJ2_inflateIfNeededFor : (mY mJ2_inflateIfNeededFor).name = "inflateIfNeededFor" := rfl
theorem hJ2_inflateIfNeededFor : mH mJ2_inflateIfNeededFor = none := rfl
theorem kJ2_inflateIfNeededFor : MOk mJ2_inflateIfNeededFor := ⟨q648, q78, by decide +kernel⟩
theorem gJ2_inflateIfNeededFor : plainName (mY mJ2_inflateIfNeededFor).cls = true ∧ (mY mJ2_inflateIfNeededFor).cls = "java/lang/AbstractStringBuilder" := ⟨by decide +kernel, rfl⟩
def dkwJ2_inflateIfNeededFor_0 : List UInt8 := [178, 0, 18, 153, 0, 18, 42, 180, 0, 22, 43, 182, 0, 40, 159, 0, 7, 42, 182, 0, 195, 177]
abbrev dktJ2_inflateIfNeededFor_0 : List UInt8 := dkwJ2_inflateIfNeededFor_0 ++ []
theorem dksJ2_inflateIfNeededFor_0 : cJ2_inflateIfNeededFor.data.toList.drop 0 = dktJ2_inflateIfNeededFor_0 := by decide +kernel
theorem dJ2_inflateIfNeededFor_0 : DC mJ2_inflateIfNeededFor 0 = .ok (.getstatic 18, 3) := dk_178 0 18 (dk_at dksJ2_inflateIfNeededFor_0 0 rfl rfl)
theorem dJ2_inflateIfNeededFor_3 : DC mJ2_inflateIfNeededFor 3 = .ok (.ifCond .eq 18, 3) := dk_153 0 18 (dk_at dksJ2_inflateIfNeededFor_0 3 rfl rfl)
theorem dJ2_inflateIfNeededFor_6 : DC mJ2_inflateIfNeededFor 6 = .ok (.aload_n 0, 1) := dk_42 (dk_at dksJ2_inflateIfNeededFor_0 6 rfl rfl)
theorem dJ2_inflateIfNeededFor_7 : DC mJ2_inflateIfNeededFor 7 = .ok (.getfield 22, 3) := dk_180 0 22 (dk_at dksJ2_inflateIfNeededFor_0 7 rfl rfl)
theorem dJ2_inflateIfNeededFor_10 : DC mJ2_inflateIfNeededFor 10 = .ok (.aload_n 1, 1) := dk_43 (dk_at dksJ2_inflateIfNeededFor_0 10 rfl rfl)
theorem dJ2_inflateIfNeededFor_11 : DC mJ2_inflateIfNeededFor 11 = .ok (.invokevirtual 40, 3) := dk_182 0 40 (dk_at dksJ2_inflateIfNeededFor_0 11 rfl rfl)
theorem dJ2_inflateIfNeededFor_14 : DC mJ2_inflateIfNeededFor 14 = .ok (.if_icmp .eq 7, 3) := dk_159 0 7 (dk_at dksJ2_inflateIfNeededFor_0 14 rfl rfl)
theorem dJ2_inflateIfNeededFor_17 : DC mJ2_inflateIfNeededFor 17 = .ok (.aload_n 0, 1) := dk_42 (dk_at dksJ2_inflateIfNeededFor_0 17 rfl rfl)
theorem dJ2_inflateIfNeededFor_18 : DC mJ2_inflateIfNeededFor 18 = .ok (.invokevirtual 195, 3) := dk_182 0 195 (dk_at dksJ2_inflateIfNeededFor_0 18 rfl rfl)
theorem dJ2_inflateIfNeededFor_21 : DC mJ2_inflateIfNeededFor 21 = .ok (.return_, 1) := dk_177 (dk_at dksJ2_inflateIfNeededFor_0 21 rfl rfl)
abbrev cJ2_inflate : ByteArray := prog_15_method_11_code
def yJ2_inflate : MethodName := ⟨RJ2, "inflate", "()V"⟩
def mJ2_inflate : MI := (⟨"java/lang/AbstractStringBuilder", "inflate", "()V"⟩, prog_15_method_11_code, 2, (Option.none : Option FieldType), none, 2, 6)
theorem oJ2_inflate : mO mJ2_inflate = 2 := rfl
theorem lJ2_inflate : mL mJ2_inflate = 2 := rfl
theorem rJ2_inflate : mR mJ2_inflate = (Option.none : Option FieldType) := rfl
theorem vJ2_inflate : mV mJ2_inflate = 6 := rfl
theorem nJ2_inflate : (mY mJ2_inflate).name = "inflate" := rfl
theorem hJ2_inflate : mH mJ2_inflate = none := rfl
theorem kJ2_inflate : MOk mJ2_inflate := ⟨q653, q78, by decide +kernel⟩
theorem gJ2_inflate : plainName (mY mJ2_inflate).cls = true ∧ (mY mJ2_inflate).cls = "java/lang/AbstractStringBuilder" := ⟨by decide +kernel, rfl⟩
def dkwJ2_inflate_1 : List UInt8 := [42, 180, 0, 79, 184, 0, 125, 42, 43, 181, 0, 15, 42, 4, 181, 0, 22, 177]
abbrev dktJ2_inflate_1 : List UInt8 := dkwJ2_inflate_1 ++ []
def dkwJ2_inflate_0 : List UInt8 := [42, 182, 0, 83, 154, 0, 4, 177, 42, 180, 0, 15, 190, 184, 0, 26, 76, 42, 180, 0, 15, 3, 43, 3]
abbrev dktJ2_inflate_0 : List UInt8 := dkwJ2_inflate_0 ++ dktJ2_inflate_1
theorem dksJ2_inflate_0 : cJ2_inflate.data.toList.drop 0 = dktJ2_inflate_0 := by decide +kernel
theorem dksJ2_inflate_1 : cJ2_inflate.data.toList.drop 24 = dktJ2_inflate_1 := dk_seg dksJ2_inflate_0 24 rfl rfl
theorem dJ2_inflate_0 : DC mJ2_inflate 0 = .ok (.aload_n 0, 1) := dk_42 (dk_at dksJ2_inflate_0 0 rfl rfl)
theorem dJ2_inflate_1 : DC mJ2_inflate 1 = .ok (.invokevirtual 83, 3) := dk_182 0 83 (dk_at dksJ2_inflate_0 1 rfl rfl)
theorem dJ2_inflate_4 : DC mJ2_inflate 4 = .ok (.ifCond .ne 4, 3) := dk_154 0 4 (dk_at dksJ2_inflate_0 4 rfl rfl)
theorem dJ2_inflate_7 : DC mJ2_inflate 7 = .ok (.return_, 1) := dk_177 (dk_at dksJ2_inflate_0 7 rfl rfl)
theorem dJ2_inflate_8 : DC mJ2_inflate 8 = .ok (.aload_n 0, 1) := dk_42 (dk_at dksJ2_inflate_0 8 rfl rfl)
theorem dJ2_inflate_9 : DC mJ2_inflate 9 = .ok (.getfield 15, 3) := dk_180 0 15 (dk_at dksJ2_inflate_0 9 rfl rfl)
theorem dJ2_inflate_12 : DC mJ2_inflate 12 = .ok (.arraylength, 1) := dk_190 (dk_at dksJ2_inflate_0 12 rfl rfl)
theorem dJ2_inflate_13 : DC mJ2_inflate 13 = .ok (.invokestatic 26, 3) := dk_184 0 26 (dk_at dksJ2_inflate_0 13 rfl rfl)
theorem dJ2_inflate_16 : DC mJ2_inflate 16 = .ok (.astore_n 1, 1) := dk_76 (dk_at dksJ2_inflate_0 16 rfl rfl)
theorem dJ2_inflate_17 : DC mJ2_inflate 17 = .ok (.aload_n 0, 1) := dk_42 (dk_at dksJ2_inflate_0 17 rfl rfl)
theorem dJ2_inflate_18 : DC mJ2_inflate 18 = .ok (.getfield 15, 3) := dk_180 0 15 (dk_at dksJ2_inflate_0 18 rfl rfl)
theorem dJ2_inflate_21 : DC mJ2_inflate 21 = .ok (.iconst 0, 1) := dk_3 (dk_at dksJ2_inflate_0 21 rfl rfl)
theorem dJ2_inflate_22 : DC mJ2_inflate 22 = .ok (.aload_n 1, 1) := dk_43 (dk_at dksJ2_inflate_0 22 rfl rfl)
theorem dJ2_inflate_23 : DC mJ2_inflate 23 = .ok (.iconst 0, 1) := dk_3 (dk_at dksJ2_inflate_0 23 rfl rfl)
theorem dJ2_inflate_24 : DC mJ2_inflate 24 = .ok (.aload_n 0, 1) := dk_42 (dk_at dksJ2_inflate_1 0 rfl rfl)
theorem dJ2_inflate_25 : DC mJ2_inflate 25 = .ok (.getfield 79, 3) := dk_180 0 79 (dk_at dksJ2_inflate_1 1 rfl rfl)
theorem dJ2_inflate_28 : DC mJ2_inflate 28 = .ok (.invokestatic 125, 3) := dk_184 0 125 (dk_at dksJ2_inflate_1 4 rfl rfl)
theorem dJ2_inflate_31 : DC mJ2_inflate 31 = .ok (.aload_n 0, 1) := dk_42 (dk_at dksJ2_inflate_1 7 rfl rfl)
theorem dJ2_inflate_32 : DC mJ2_inflate 32 = .ok (.aload_n 1, 1) := dk_43 (dk_at dksJ2_inflate_1 8 rfl rfl)
theorem dJ2_inflate_33 : DC mJ2_inflate 33 = .ok (.putfield 15, 3) := dk_181 0 15 (dk_at dksJ2_inflate_1 9 rfl rfl)
theorem dJ2_inflate_36 : DC mJ2_inflate 36 = .ok (.aload_n 0, 1) := dk_42 (dk_at dksJ2_inflate_1 12 rfl rfl)
theorem dJ2_inflate_37 : DC mJ2_inflate 37 = .ok (.iconst 1, 1) := dk_4 (dk_at dksJ2_inflate_1 13 rfl rfl)
theorem dJ2_inflate_38 : DC mJ2_inflate 38 = .ok (.putfield 22, 3) := dk_181 0 22 (dk_at dksJ2_inflate_1 14 rfl rfl)
theorem dJ2_inflate_41 : DC mJ2_inflate 41 = .ok (.return_, 1) := dk_177 (dk_at dksJ2_inflate_1 17 rfl rfl)
abbrev cJ2_append_2 : ByteArray := prog_15_method_32_code
def yJ2_append_2 : MethodName := ⟨RJ2, "append", "(I)Ljava/lang/AbstractStringBuilder;"⟩
def mJ2_append_2 : MI := (⟨"java/lang/AbstractStringBuilder", "append", "(I)Ljava/lang/AbstractStringBuilder;"⟩, prog_15_method_32_code, 4, (Option.some (FieldType.object "java/lang/AbstractStringBuilder")), none, 2, 5)
theorem oJ2_append_2 : mO mJ2_append_2 = 2 := rfl
theorem lJ2_append_2 : mL mJ2_append_2 = 4 := rfl
theorem rJ2_append_2 : mR mJ2_append_2 = (Option.some (FieldType.object "java/lang/AbstractStringBuilder")) := rfl
theorem vJ2_append_2 : mV mJ2_append_2 = 5 := rfl
theorem nJ2_append_2 : (mY mJ2_append_2).name = "append" := rfl
theorem hJ2_append_2 : mH mJ2_append_2 = none := rfl
theorem kJ2_append_2 : MOk mJ2_append_2 := ⟨q681, q78, by decide +kernel⟩
theorem gJ2_append_2 : plainName (mY mJ2_append_2).cls = true ∧ (mY mJ2_append_2).cls = "java/lang/AbstractStringBuilder" := ⟨by decide +kernel, rfl⟩
def dkwJ2_append_2_2 : List UInt8 := [42, 29, 181, 0, 79, 42, 176]
abbrev dktJ2_append_2_2 : List UInt8 := dkwJ2_append_2_2 ++ []
def dkwJ2_append_2_1 : List UInt8 := [27, 29, 42, 180, 0, 15, 184, 0, 248, 87, 167, 0, 14, 27, 28, 29, 42, 180, 0, 15, 184, 0, 251, 87]
abbrev dktJ2_append_2_1 : List UInt8 := dkwJ2_append_2_1 ++ dktJ2_append_2_2
def dkwJ2_append_2_0 : List UInt8 := [42, 180, 0, 79, 61, 28, 27, 184, 0, 245, 96, 62, 42, 29, 182, 0, 100, 42, 182, 0, 83, 153, 0, 16]
abbrev dktJ2_append_2_0 : List UInt8 := dkwJ2_append_2_0 ++ dktJ2_append_2_1
theorem dksJ2_append_2_0 : cJ2_append_2.data.toList.drop 0 = dktJ2_append_2_0 := by decide +kernel
theorem dksJ2_append_2_1 : cJ2_append_2.data.toList.drop 24 = dktJ2_append_2_1 := dk_seg dksJ2_append_2_0 24 rfl rfl
theorem dksJ2_append_2_2 : cJ2_append_2.data.toList.drop 48 = dktJ2_append_2_2 := dk_seg dksJ2_append_2_1 24 rfl rfl
theorem dJ2_append_2_0 : DC mJ2_append_2 0 = .ok (.aload_n 0, 1) := dk_42 (dk_at dksJ2_append_2_0 0 rfl rfl)
theorem dJ2_append_2_1 : DC mJ2_append_2 1 = .ok (.getfield 79, 3) := dk_180 0 79 (dk_at dksJ2_append_2_0 1 rfl rfl)
theorem dJ2_append_2_4 : DC mJ2_append_2 4 = .ok (.istore_n 2, 1) := dk_61 (dk_at dksJ2_append_2_0 4 rfl rfl)
theorem dJ2_append_2_5 : DC mJ2_append_2 5 = .ok (.iload_n 2, 1) := dk_28 (dk_at dksJ2_append_2_0 5 rfl rfl)
theorem dJ2_append_2_6 : DC mJ2_append_2 6 = .ok (.iload_n 1, 1) := dk_27 (dk_at dksJ2_append_2_0 6 rfl rfl)
theorem dJ2_append_2_7 : DC mJ2_append_2 7 = .ok (.invokestatic 245, 3) := dk_184 0 245 (dk_at dksJ2_append_2_0 7 rfl rfl)
theorem dJ2_append_2_10 : DC mJ2_append_2 10 = .ok (.iadd, 1) := dk_96 (dk_at dksJ2_append_2_0 10 rfl rfl)
theorem dJ2_append_2_11 : DC mJ2_append_2 11 = .ok (.istore_n 3, 1) := dk_62 (dk_at dksJ2_append_2_0 11 rfl rfl)
theorem dJ2_append_2_12 : DC mJ2_append_2 12 = .ok (.aload_n 0, 1) := dk_42 (dk_at dksJ2_append_2_0 12 rfl rfl)
theorem dJ2_append_2_13 : DC mJ2_append_2 13 = .ok (.iload_n 3, 1) := dk_29 (dk_at dksJ2_append_2_0 13 rfl rfl)
theorem dJ2_append_2_14 : DC mJ2_append_2 14 = .ok (.invokevirtual 100, 3) := dk_182 0 100 (dk_at dksJ2_append_2_0 14 rfl rfl)
theorem dJ2_append_2_17 : DC mJ2_append_2 17 = .ok (.aload_n 0, 1) := dk_42 (dk_at dksJ2_append_2_0 17 rfl rfl)
theorem dJ2_append_2_18 : DC mJ2_append_2 18 = .ok (.invokevirtual 83, 3) := dk_182 0 83 (dk_at dksJ2_append_2_0 18 rfl rfl)
theorem dJ2_append_2_21 : DC mJ2_append_2 21 = .ok (.ifCond .eq 16, 3) := dk_153 0 16 (dk_at dksJ2_append_2_0 21 rfl rfl)
theorem dJ2_append_2_24 : DC mJ2_append_2 24 = .ok (.iload_n 1, 1) := dk_27 (dk_at dksJ2_append_2_1 0 rfl rfl)
theorem dJ2_append_2_25 : DC mJ2_append_2 25 = .ok (.iload_n 3, 1) := dk_29 (dk_at dksJ2_append_2_1 1 rfl rfl)
theorem dJ2_append_2_26 : DC mJ2_append_2 26 = .ok (.aload_n 0, 1) := dk_42 (dk_at dksJ2_append_2_1 2 rfl rfl)
theorem dJ2_append_2_27 : DC mJ2_append_2 27 = .ok (.getfield 15, 3) := dk_180 0 15 (dk_at dksJ2_append_2_1 3 rfl rfl)
theorem dJ2_append_2_30 : DC mJ2_append_2 30 = .ok (.invokestatic 248, 3) := dk_184 0 248 (dk_at dksJ2_append_2_1 6 rfl rfl)
theorem dJ2_append_2_33 : DC mJ2_append_2 33 = .ok (.pop, 1) := dk_87 (dk_at dksJ2_append_2_1 9 rfl rfl)
theorem dJ2_append_2_34 : DC mJ2_append_2 34 = .ok (.goto 14, 3) := dk_167 0 14 (dk_at dksJ2_append_2_1 10 rfl rfl)
theorem dJ2_append_2_37 : DC mJ2_append_2 37 = .ok (.iload_n 1, 1) := dk_27 (dk_at dksJ2_append_2_1 13 rfl rfl)
theorem dJ2_append_2_38 : DC mJ2_append_2 38 = .ok (.iload_n 2, 1) := dk_28 (dk_at dksJ2_append_2_1 14 rfl rfl)
theorem dJ2_append_2_39 : DC mJ2_append_2 39 = .ok (.iload_n 3, 1) := dk_29 (dk_at dksJ2_append_2_1 15 rfl rfl)
theorem dJ2_append_2_40 : DC mJ2_append_2 40 = .ok (.aload_n 0, 1) := dk_42 (dk_at dksJ2_append_2_1 16 rfl rfl)
theorem dJ2_append_2_41 : DC mJ2_append_2 41 = .ok (.getfield 15, 3) := dk_180 0 15 (dk_at dksJ2_append_2_1 17 rfl rfl)
theorem dJ2_append_2_44 : DC mJ2_append_2 44 = .ok (.invokestatic 251, 3) := dk_184 0 251 (dk_at dksJ2_append_2_1 20 rfl rfl)
theorem dJ2_append_2_47 : DC mJ2_append_2 47 = .ok (.pop, 1) := dk_87 (dk_at dksJ2_append_2_1 23 rfl rfl)
theorem dJ2_append_2_48 : DC mJ2_append_2 48 = .ok (.aload_n 0, 1) := dk_42 (dk_at dksJ2_append_2_2 0 rfl rfl)
theorem dJ2_append_2_49 : DC mJ2_append_2 49 = .ok (.iload_n 3, 1) := dk_29 (dk_at dksJ2_append_2_2 1 rfl rfl)
theorem dJ2_append_2_50 : DC mJ2_append_2 50 = .ok (.putfield 79, 3) := dk_181 0 79 (dk_at dksJ2_append_2_2 2 rfl rfl)
theorem dJ2_append_2_53 : DC mJ2_append_2 53 = .ok (.aload_n 0, 1) := dk_42 (dk_at dksJ2_append_2_2 5 rfl rfl)
theorem dJ2_append_2_54 : DC mJ2_append_2 54 = .ok (.areturn, 1) := dk_176 (dk_at dksJ2_append_2_2 6 rfl rfl)
abbrev cJ2_getValue : ByteArray := prog_15_method_64_code
def yJ2_getValue : MethodName := ⟨RJ2, "getValue", "()[B"⟩
def mJ2_getValue : MI := (⟨"java/lang/AbstractStringBuilder", "getValue", "()[B"⟩, prog_15_method_64_code, 1, (Option.some (FieldType.array FieldType.byte)), none, 2, 1)
theorem oJ2_getValue : mO mJ2_getValue = 2 := rfl
theorem lJ2_getValue : mL mJ2_getValue = 1 := rfl
theorem rJ2_getValue : mR mJ2_getValue = (Option.some (FieldType.array FieldType.byte)) := rfl
theorem vJ2_getValue : mV mJ2_getValue = 1 := rfl
theorem nJ2_getValue : (mY mJ2_getValue).name = "getValue" := rfl
theorem hJ2_getValue : mH mJ2_getValue = none := rfl
theorem kJ2_getValue : MOk mJ2_getValue := ⟨q718, q78, by decide +kernel⟩
theorem gJ2_getValue : plainName (mY mJ2_getValue).cls = true ∧ (mY mJ2_getValue).cls = "java/lang/AbstractStringBuilder" := ⟨by decide +kernel, rfl⟩
theorem dJ2_getValue_0 : DC mJ2_getValue 0 = .ok (.aload_n 0, 1) := by decide +kernel
theorem dJ2_getValue_1 : DC mJ2_getValue 1 = .ok (.getfield 15, 3) := by decide +kernel
theorem dJ2_getValue_4 : DC mJ2_getValue 4 = .ok (.areturn, 1) := by decide +kernel
abbrev cJ2_length : ByteArray := prog_15_method_6_code
def yJ2_length : MethodName := ⟨RJ2, "length", "()I"⟩
def mJ2_length : MI := (⟨"java/lang/AbstractStringBuilder", "length", "()I"⟩, prog_15_method_6_code, 1, (Option.some FieldType.int), none, 2, 1)
theorem oJ2_length : mO mJ2_length = 2 := rfl
theorem lJ2_length : mL mJ2_length = 1 := rfl
theorem rJ2_length : mR mJ2_length = (Option.some FieldType.int) := rfl
theorem vJ2_length : mV mJ2_length = 1 := rfl
theorem nJ2_length : (mY mJ2_length).name = "length" := rfl
theorem hJ2_length : mH mJ2_length = none := rfl
theorem kJ2_length : MOk mJ2_length := ⟨q726, q78, by decide +kernel⟩
theorem gJ2_length : plainName (mY mJ2_length).cls = true ∧ (mY mJ2_length).cls = "java/lang/AbstractStringBuilder" := ⟨by decide +kernel, rfl⟩
theorem dJ2_length_0 : DC mJ2_length 0 = .ok (.aload_n 0, 1) := by decide +kernel
theorem dJ2_length_1 : DC mJ2_length 1 = .ok (.getfield 79, 3) := by decide +kernel
theorem dJ2_length_4 : DC mJ2_length 4 = .ok (.ireturn, 1) := by decide +kernel
abbrev cJ2_append_3 : ByteArray := prog_15_method_31_code
def yJ2_append_3 : MethodName := ⟨RJ2, "append", "(C)Ljava/lang/AbstractStringBuilder;"⟩
def mJ2_append_3 : MI := (⟨"java/lang/AbstractStringBuilder", "append", "(C)Ljava/lang/AbstractStringBuilder;"⟩, prog_15_method_31_code, 2, (Option.some (FieldType.object "java/lang/AbstractStringBuilder")), none, 2, 7)
theorem oJ2_append_3 : mO mJ2_append_3 = 2 := rfl
theorem lJ2_append_3 : mL mJ2_append_3 = 2 := rfl
theorem rJ2_append_3 : mR mJ2_append_3 = (Option.some (FieldType.object "java/lang/AbstractStringBuilder")) := rfl
theorem vJ2_append_3 : mV mJ2_append_3 = 7 := rfl
theorem nJ2_append_3 : (mY mJ2_append_3).name = "append" := rfl
theorem hJ2_append_3 : mH mJ2_append_3 = none := rfl
theorem kJ2_append_3 : MOk mJ2_append_3 := ⟨q1993, q78, by decide +kernel⟩
theorem gJ2_append_3 : plainName (mY mJ2_append_3).cls = true ∧ (mY mJ2_append_3).cls = "java/lang/AbstractStringBuilder" := ⟨by decide +kernel, rfl⟩
def dkwJ2_append_3_3 : List UInt8 := [181, 0, 79, 27, 184, 0, 197, 42, 176]
abbrev dktJ2_append_3_3 : List UInt8 := dkwJ2_append_3_3 ++ []
def dkwJ2_append_3_2 : List UInt8 := [182, 0, 83, 153, 0, 7, 42, 182, 0, 195, 42, 180, 0, 15, 42, 89, 180, 0, 79, 90, 4, 96]
abbrev dktJ2_append_3_2 : List UInt8 := dkwJ2_append_3_2 ++ dktJ2_append_3_3
def dkwJ2_append_3_1 : List UInt8 := [42, 180, 0, 15, 42, 89, 180, 0, 79, 90, 4, 96, 181, 0, 79, 27, 145, 84, 167, 0, 33, 42]
abbrev dktJ2_append_3_1 : List UInt8 := dkwJ2_append_3_1 ++ dktJ2_append_3_2
def dkwJ2_append_3_0 : List UInt8 := [42, 42, 180, 0, 79, 4, 96, 182, 0, 100, 42, 182, 0, 83, 153, 0, 31, 27, 184, 0, 191, 153, 0, 24]
abbrev dktJ2_append_3_0 : List UInt8 := dkwJ2_append_3_0 ++ dktJ2_append_3_1
theorem dksJ2_append_3_0 : cJ2_append_3.data.toList.drop 0 = dktJ2_append_3_0 := by decide +kernel
theorem dksJ2_append_3_1 : cJ2_append_3.data.toList.drop 24 = dktJ2_append_3_1 := dk_seg dksJ2_append_3_0 24 rfl rfl
theorem dksJ2_append_3_2 : cJ2_append_3.data.toList.drop 46 = dktJ2_append_3_2 := dk_seg dksJ2_append_3_1 22 rfl rfl
theorem dksJ2_append_3_3 : cJ2_append_3.data.toList.drop 68 = dktJ2_append_3_3 := dk_seg dksJ2_append_3_2 22 rfl rfl
theorem dJ2_append_3_0 : DC mJ2_append_3 0 = .ok (.aload_n 0, 1) := dk_42 (dk_at dksJ2_append_3_0 0 rfl rfl)
theorem dJ2_append_3_1 : DC mJ2_append_3 1 = .ok (.aload_n 0, 1) := dk_42 (dk_at dksJ2_append_3_0 1 rfl rfl)
theorem dJ2_append_3_2 : DC mJ2_append_3 2 = .ok (.getfield 79, 3) := dk_180 0 79 (dk_at dksJ2_append_3_0 2 rfl rfl)
theorem dJ2_append_3_5 : DC mJ2_append_3 5 = .ok (.iconst 1, 1) := dk_4 (dk_at dksJ2_append_3_0 5 rfl rfl)
theorem dJ2_append_3_6 : DC mJ2_append_3 6 = .ok (.iadd, 1) := dk_96 (dk_at dksJ2_append_3_0 6 rfl rfl)
theorem dJ2_append_3_7 : DC mJ2_append_3 7 = .ok (.invokevirtual 100, 3) := dk_182 0 100 (dk_at dksJ2_append_3_0 7 rfl rfl)
theorem dJ2_append_3_10 : DC mJ2_append_3 10 = .ok (.aload_n 0, 1) := dk_42 (dk_at dksJ2_append_3_0 10 rfl rfl)
theorem dJ2_append_3_11 : DC mJ2_append_3 11 = .ok (.invokevirtual 83, 3) := dk_182 0 83 (dk_at dksJ2_append_3_0 11 rfl rfl)
theorem dJ2_append_3_14 : DC mJ2_append_3 14 = .ok (.ifCond .eq 31, 3) := dk_153 0 31 (dk_at dksJ2_append_3_0 14 rfl rfl)
theorem dJ2_append_3_17 : DC mJ2_append_3 17 = .ok (.iload_n 1, 1) := dk_27 (dk_at dksJ2_append_3_0 17 rfl rfl)
theorem dJ2_append_3_18 : DC mJ2_append_3 18 = .ok (.invokestatic 191, 3) := dk_184 0 191 (dk_at dksJ2_append_3_0 18 rfl rfl)
theorem dJ2_append_3_21 : DC mJ2_append_3 21 = .ok (.ifCond .eq 24, 3) := dk_153 0 24 (dk_at dksJ2_append_3_0 21 rfl rfl)
theorem dJ2_append_3_24 : DC mJ2_append_3 24 = .ok (.aload_n 0, 1) := dk_42 (dk_at dksJ2_append_3_1 0 rfl rfl)
theorem dJ2_append_3_25 : DC mJ2_append_3 25 = .ok (.getfield 15, 3) := dk_180 0 15 (dk_at dksJ2_append_3_1 1 rfl rfl)
theorem dJ2_append_3_28 : DC mJ2_append_3 28 = .ok (.aload_n 0, 1) := dk_42 (dk_at dksJ2_append_3_1 4 rfl rfl)
theorem dJ2_append_3_29 : DC mJ2_append_3 29 = .ok (.dup, 1) := dk_89 (dk_at dksJ2_append_3_1 5 rfl rfl)
theorem dJ2_append_3_30 : DC mJ2_append_3 30 = .ok (.getfield 79, 3) := dk_180 0 79 (dk_at dksJ2_append_3_1 6 rfl rfl)
theorem dJ2_append_3_33 : DC mJ2_append_3 33 = .ok (.dup_x1, 1) := dk_90 (dk_at dksJ2_append_3_1 9 rfl rfl)
theorem dJ2_append_3_34 : DC mJ2_append_3 34 = .ok (.iconst 1, 1) := dk_4 (dk_at dksJ2_append_3_1 10 rfl rfl)
theorem dJ2_append_3_35 : DC mJ2_append_3 35 = .ok (.iadd, 1) := dk_96 (dk_at dksJ2_append_3_1 11 rfl rfl)
theorem dJ2_append_3_36 : DC mJ2_append_3 36 = .ok (.putfield 79, 3) := dk_181 0 79 (dk_at dksJ2_append_3_1 12 rfl rfl)
theorem dJ2_append_3_39 : DC mJ2_append_3 39 = .ok (.iload_n 1, 1) := dk_27 (dk_at dksJ2_append_3_1 15 rfl rfl)
theorem dJ2_append_3_40 : DC mJ2_append_3 40 = .ok (.i2b, 1) := dk_145 (dk_at dksJ2_append_3_1 16 rfl rfl)
theorem dJ2_append_3_41 : DC mJ2_append_3 41 = .ok (.bastore, 1) := dk_84 (dk_at dksJ2_append_3_1 17 rfl rfl)
theorem dJ2_append_3_42 : DC mJ2_append_3 42 = .ok (.goto 33, 3) := dk_167 0 33 (dk_at dksJ2_append_3_1 18 rfl rfl)
theorem dJ2_append_3_45 : DC mJ2_append_3 45 = .ok (.aload_n 0, 1) := dk_42 (dk_at dksJ2_append_3_1 21 rfl rfl)
theorem dJ2_append_3_46 : DC mJ2_append_3 46 = .ok (.invokevirtual 83, 3) := dk_182 0 83 (dk_at dksJ2_append_3_2 0 rfl rfl)
theorem dJ2_append_3_49 : DC mJ2_append_3 49 = .ok (.ifCond .eq 7, 3) := dk_153 0 7 (dk_at dksJ2_append_3_2 3 rfl rfl)
theorem dJ2_append_3_52 : DC mJ2_append_3 52 = .ok (.aload_n 0, 1) := dk_42 (dk_at dksJ2_append_3_2 6 rfl rfl)
theorem dJ2_append_3_53 : DC mJ2_append_3 53 = .ok (.invokevirtual 195, 3) := dk_182 0 195 (dk_at dksJ2_append_3_2 7 rfl rfl)
theorem dJ2_append_3_56 : DC mJ2_append_3 56 = .ok (.aload_n 0, 1) := dk_42 (dk_at dksJ2_append_3_2 10 rfl rfl)
theorem dJ2_append_3_57 : DC mJ2_append_3 57 = .ok (.getfield 15, 3) := dk_180 0 15 (dk_at dksJ2_append_3_2 11 rfl rfl)
theorem dJ2_append_3_60 : DC mJ2_append_3 60 = .ok (.aload_n 0, 1) := dk_42 (dk_at dksJ2_append_3_2 14 rfl rfl)
theorem dJ2_append_3_61 : DC mJ2_append_3 61 = .ok (.dup, 1) := dk_89 (dk_at dksJ2_append_3_2 15 rfl rfl)
theorem dJ2_append_3_62 : DC mJ2_append_3 62 = .ok (.getfield 79, 3) := dk_180 0 79 (dk_at dksJ2_append_3_2 16 rfl rfl)
theorem dJ2_append_3_65 : DC mJ2_append_3 65 = .ok (.dup_x1, 1) := dk_90 (dk_at dksJ2_append_3_2 19 rfl rfl)
theorem dJ2_append_3_66 : DC mJ2_append_3 66 = .ok (.iconst 1, 1) := dk_4 (dk_at dksJ2_append_3_2 20 rfl rfl)
theorem dJ2_append_3_67 : DC mJ2_append_3 67 = .ok (.iadd, 1) := dk_96 (dk_at dksJ2_append_3_2 21 rfl rfl)
theorem dJ2_append_3_68 : DC mJ2_append_3 68 = .ok (.putfield 79, 3) := dk_181 0 79 (dk_at dksJ2_append_3_3 0 rfl rfl)
theorem dJ2_append_3_71 : DC mJ2_append_3 71 = .ok (.iload_n 1, 1) := dk_27 (dk_at dksJ2_append_3_3 3 rfl rfl)
theorem dJ2_append_3_72 : DC mJ2_append_3 72 = .ok (.invokestatic 197, 3) := dk_184 0 197 (dk_at dksJ2_append_3_3 4 rfl rfl)
theorem dJ2_append_3_75 : DC mJ2_append_3 75 = .ok (.aload_n 0, 1) := dk_42 (dk_at dksJ2_append_3_3 7 rfl rfl)
theorem dJ2_append_3_76 : DC mJ2_append_3 76 = .ok (.areturn, 1) := dk_176 (dk_at dksJ2_append_3_3 8 rfl rfl)
abbrev cJ2_charAt : ByteArray := prog_15_method_14_code
def yJ2_charAt : MethodName := ⟨RJ2, "charAt", "(I)C"⟩
def mJ2_charAt : MI := (⟨"java/lang/AbstractStringBuilder", "charAt", "(I)C"⟩, prog_15_method_14_code, 5, (Option.some FieldType.char), none, 2, 3)
theorem oJ2_charAt : mO mJ2_charAt = 2 := rfl
theorem lJ2_charAt : mL mJ2_charAt = 5 := rfl
theorem rJ2_charAt : mR mJ2_charAt = (Option.some FieldType.char) := rfl
theorem vJ2_charAt : mV mJ2_charAt = 3 := rfl
theorem nJ2_charAt : (mY mJ2_charAt).name = "charAt" := rfl
theorem hJ2_charAt : mH mJ2_charAt = none := rfl
theorem kJ2_charAt : MOk mJ2_charAt := ⟨q2050, q78, by decide +kernel⟩
theorem gJ2_charAt : plainName (mY mJ2_charAt).cls = true ∧ (mY mJ2_charAt).cls = "java/lang/AbstractStringBuilder" := ⟨by decide +kernel, rfl⟩
def dkwJ2_charAt_1 : List UInt8 := [21, 4, 184, 0, 144, 28, 154, 0, 12, 45, 27, 51, 17, 0, 255, 126, 146, 172, 45, 27, 184, 0, 148, 172]
abbrev dktJ2_charAt_1 : List UInt8 := dkwJ2_charAt_1 ++ []
def dkwJ2_charAt_0 : List UInt8 := [42, 180, 0, 22, 61, 42, 180, 0, 15, 78, 42, 180, 0, 79, 45, 190, 28, 122, 184, 0, 138, 54, 4, 27]
abbrev dktJ2_charAt_0 : List UInt8 := dkwJ2_charAt_0 ++ dktJ2_charAt_1
theorem dksJ2_charAt_0 : cJ2_charAt.data.toList.drop 0 = dktJ2_charAt_0 := by decide +kernel
theorem dksJ2_charAt_1 : cJ2_charAt.data.toList.drop 24 = dktJ2_charAt_1 := dk_seg dksJ2_charAt_0 24 rfl rfl
theorem dJ2_charAt_0 : DC mJ2_charAt 0 = .ok (.aload_n 0, 1) := dk_42 (dk_at dksJ2_charAt_0 0 rfl rfl)
theorem dJ2_charAt_1 : DC mJ2_charAt 1 = .ok (.getfield 22, 3) := dk_180 0 22 (dk_at dksJ2_charAt_0 1 rfl rfl)
theorem dJ2_charAt_4 : DC mJ2_charAt 4 = .ok (.istore_n 2, 1) := dk_61 (dk_at dksJ2_charAt_0 4 rfl rfl)
theorem dJ2_charAt_5 : DC mJ2_charAt 5 = .ok (.aload_n 0, 1) := dk_42 (dk_at dksJ2_charAt_0 5 rfl rfl)
theorem dJ2_charAt_6 : DC mJ2_charAt 6 = .ok (.getfield 15, 3) := dk_180 0 15 (dk_at dksJ2_charAt_0 6 rfl rfl)
theorem dJ2_charAt_9 : DC mJ2_charAt 9 = .ok (.astore_n 3, 1) := dk_78 (dk_at dksJ2_charAt_0 9 rfl rfl)
theorem dJ2_charAt_10 : DC mJ2_charAt 10 = .ok (.aload_n 0, 1) := dk_42 (dk_at dksJ2_charAt_0 10 rfl rfl)
theorem dJ2_charAt_11 : DC mJ2_charAt 11 = .ok (.getfield 79, 3) := dk_180 0 79 (dk_at dksJ2_charAt_0 11 rfl rfl)
theorem dJ2_charAt_14 : DC mJ2_charAt 14 = .ok (.aload_n 3, 1) := dk_45 (dk_at dksJ2_charAt_0 14 rfl rfl)
theorem dJ2_charAt_15 : DC mJ2_charAt 15 = .ok (.arraylength, 1) := dk_190 (dk_at dksJ2_charAt_0 15 rfl rfl)
theorem dJ2_charAt_16 : DC mJ2_charAt 16 = .ok (.iload_n 2, 1) := dk_28 (dk_at dksJ2_charAt_0 16 rfl rfl)
theorem dJ2_charAt_17 : DC mJ2_charAt 17 = .ok (.ishr, 1) := dk_122 (dk_at dksJ2_charAt_0 17 rfl rfl)
theorem dJ2_charAt_18 : DC mJ2_charAt 18 = .ok (.invokestatic 138, 3) := dk_184 0 138 (dk_at dksJ2_charAt_0 18 rfl rfl)
theorem dJ2_charAt_21 : DC mJ2_charAt 21 = .ok (.istore 4, 2) := dk_54 4 (dk_at dksJ2_charAt_0 21 rfl rfl)
theorem dJ2_charAt_23 : DC mJ2_charAt 23 = .ok (.iload_n 1, 1) := dk_27 (dk_at dksJ2_charAt_0 23 rfl rfl)
theorem dJ2_charAt_24 : DC mJ2_charAt 24 = .ok (.iload 4, 2) := dk_21 4 (dk_at dksJ2_charAt_1 0 rfl rfl)
theorem dJ2_charAt_26 : DC mJ2_charAt 26 = .ok (.invokestatic 144, 3) := dk_184 0 144 (dk_at dksJ2_charAt_1 2 rfl rfl)
theorem dJ2_charAt_29 : DC mJ2_charAt 29 = .ok (.iload_n 2, 1) := dk_28 (dk_at dksJ2_charAt_1 5 rfl rfl)
theorem dJ2_charAt_30 : DC mJ2_charAt 30 = .ok (.ifCond .ne 12, 3) := dk_154 0 12 (dk_at dksJ2_charAt_1 6 rfl rfl)
theorem dJ2_charAt_33 : DC mJ2_charAt 33 = .ok (.aload_n 3, 1) := dk_45 (dk_at dksJ2_charAt_1 9 rfl rfl)
theorem dJ2_charAt_34 : DC mJ2_charAt 34 = .ok (.iload_n 1, 1) := dk_27 (dk_at dksJ2_charAt_1 10 rfl rfl)
theorem dJ2_charAt_35 : DC mJ2_charAt 35 = .ok (.baload, 1) := dk_51 (dk_at dksJ2_charAt_1 11 rfl rfl)
theorem dJ2_charAt_36 : DC mJ2_charAt 36 = .ok (.sipush 255, 3) := dk_17 0 255 (dk_at dksJ2_charAt_1 12 rfl rfl)
theorem dJ2_charAt_39 : DC mJ2_charAt 39 = .ok (.iand, 1) := dk_126 (dk_at dksJ2_charAt_1 15 rfl rfl)
theorem dJ2_charAt_40 : DC mJ2_charAt 40 = .ok (.i2c, 1) := dk_146 (dk_at dksJ2_charAt_1 16 rfl rfl)
theorem dJ2_charAt_41 : DC mJ2_charAt 41 = .ok (.ireturn, 1) := dk_172 (dk_at dksJ2_charAt_1 17 rfl rfl)
theorem dJ2_charAt_42 : DC mJ2_charAt 42 = .ok (.aload_n 3, 1) := dk_45 (dk_at dksJ2_charAt_1 18 rfl rfl)
theorem dJ2_charAt_43 : DC mJ2_charAt 43 = .ok (.iload_n 1, 1) := dk_27 (dk_at dksJ2_charAt_1 19 rfl rfl)
theorem dJ2_charAt_44 : DC mJ2_charAt 44 = .ok (.invokestatic 148, 3) := dk_184 0 148 (dk_at dksJ2_charAt_1 20 rfl rfl)
theorem dJ2_charAt_47 : DC mJ2_charAt 47 = .ok (.ireturn, 1) := dk_172 (dk_at dksJ2_charAt_1 23 rfl rfl)
abbrev cJ2_setLength : ByteArray := prog_15_method_13_code
def yJ2_setLength : MethodName := ⟨RJ2, "setLength", "(I)V"⟩
def mJ2_setLength : MI := (⟨"java/lang/AbstractStringBuilder", "setLength", "(I)V"⟩, prog_15_method_13_code, 2, (Option.none : Option FieldType), none, 2, 5)
theorem oJ2_setLength : mO mJ2_setLength = 2 := rfl
theorem lJ2_setLength : mL mJ2_setLength = 2 := rfl
theorem rJ2_setLength : mR mJ2_setLength = (Option.none : Option FieldType) := rfl
theorem vJ2_setLength : mV mJ2_setLength = 5 := rfl
theorem nJ2_setLength : (mY mJ2_setLength).name = "setLength" := rfl
theorem hJ2_setLength : mH mJ2_setLength = none := rfl
theorem kJ2_setLength : MOk mJ2_setLength := ⟨q2281, q78, by decide +kernel⟩
theorem gJ2_setLength : plainName (mY mJ2_setLength).cls = true ∧ (mY mJ2_setLength).cls = "java/lang/AbstractStringBuilder" := ⟨by decide +kernel, rfl⟩
def dkwJ2_setLength_3 : List UInt8 := [164, 0, 8, 42, 4, 181, 0, 73, 42, 27, 181, 0, 79, 177]
abbrev dktJ2_setLength_3 : List UInt8 := dkwJ2_setLength_3 ++ []
def dkwJ2_setLength_2 : List UInt8 := [167, 0, 31, 42, 180, 0, 15, 42, 180, 0, 79, 27, 184, 0, 137, 167, 0, 16, 42, 180, 0, 79, 27]
abbrev dktJ2_setLength_2 : List UInt8 := dkwJ2_setLength_2 ++ dktJ2_setLength_3
def dkwJ2_setLength_1 : List UInt8 := [162, 0, 40, 42, 182, 0, 83, 153, 0, 18, 42, 180, 0, 15, 42, 180, 0, 79, 27, 184, 0, 133]
abbrev dktJ2_setLength_1 : List UInt8 := dkwJ2_setLength_1 ++ dktJ2_setLength_2
def dkwJ2_setLength_0 : List UInt8 := [27, 156, 0, 12, 187, 0, 129, 89, 27, 183, 0, 131, 191, 42, 27, 182, 0, 100, 42, 180, 0, 79, 27]
abbrev dktJ2_setLength_0 : List UInt8 := dkwJ2_setLength_0 ++ dktJ2_setLength_1
theorem dksJ2_setLength_0 : cJ2_setLength.data.toList.drop 0 = dktJ2_setLength_0 := by decide +kernel
theorem dksJ2_setLength_1 : cJ2_setLength.data.toList.drop 23 = dktJ2_setLength_1 := dk_seg dksJ2_setLength_0 23 rfl rfl
theorem dksJ2_setLength_2 : cJ2_setLength.data.toList.drop 45 = dktJ2_setLength_2 := dk_seg dksJ2_setLength_1 22 rfl rfl
theorem dksJ2_setLength_3 : cJ2_setLength.data.toList.drop 68 = dktJ2_setLength_3 := dk_seg dksJ2_setLength_2 23 rfl rfl
theorem dJ2_setLength_0 : DC mJ2_setLength 0 = .ok (.iload_n 1, 1) := dk_27 (dk_at dksJ2_setLength_0 0 rfl rfl)
theorem dJ2_setLength_1 : DC mJ2_setLength 1 = .ok (.ifCond .ge 12, 3) := dk_156 0 12 (dk_at dksJ2_setLength_0 1 rfl rfl)
theorem dJ2_setLength_4 : DC mJ2_setLength 4 = .ok (.new 129, 3) := dk_187 0 129 (dk_at dksJ2_setLength_0 4 rfl rfl)
theorem dJ2_setLength_7 : DC mJ2_setLength 7 = .ok (.dup, 1) := dk_89 (dk_at dksJ2_setLength_0 7 rfl rfl)
theorem dJ2_setLength_8 : DC mJ2_setLength 8 = .ok (.iload_n 1, 1) := dk_27 (dk_at dksJ2_setLength_0 8 rfl rfl)
theorem dJ2_setLength_9 : DC mJ2_setLength 9 = .ok (.invokespecial 131, 3) := dk_183 0 131 (dk_at dksJ2_setLength_0 9 rfl rfl)
theorem dJ2_setLength_12 : DC mJ2_setLength 12 = .ok (.athrow, 1) := dk_191 (dk_at dksJ2_setLength_0 12 rfl rfl)
theorem dJ2_setLength_13 : DC mJ2_setLength 13 = .ok (.aload_n 0, 1) := dk_42 (dk_at dksJ2_setLength_0 13 rfl rfl)
theorem dJ2_setLength_14 : DC mJ2_setLength 14 = .ok (.iload_n 1, 1) := dk_27 (dk_at dksJ2_setLength_0 14 rfl rfl)
theorem dJ2_setLength_15 : DC mJ2_setLength 15 = .ok (.invokevirtual 100, 3) := dk_182 0 100 (dk_at dksJ2_setLength_0 15 rfl rfl)
theorem dJ2_setLength_18 : DC mJ2_setLength 18 = .ok (.aload_n 0, 1) := dk_42 (dk_at dksJ2_setLength_0 18 rfl rfl)
theorem dJ2_setLength_19 : DC mJ2_setLength 19 = .ok (.getfield 79, 3) := dk_180 0 79 (dk_at dksJ2_setLength_0 19 rfl rfl)
theorem dJ2_setLength_22 : DC mJ2_setLength 22 = .ok (.iload_n 1, 1) := dk_27 (dk_at dksJ2_setLength_0 22 rfl rfl)
theorem dJ2_setLength_23 : DC mJ2_setLength 23 = .ok (.if_icmp .ge 40, 3) := dk_162 0 40 (dk_at dksJ2_setLength_1 0 rfl rfl)
theorem dJ2_setLength_26 : DC mJ2_setLength 26 = .ok (.aload_n 0, 1) := dk_42 (dk_at dksJ2_setLength_1 3 rfl rfl)
theorem dJ2_setLength_27 : DC mJ2_setLength 27 = .ok (.invokevirtual 83, 3) := dk_182 0 83 (dk_at dksJ2_setLength_1 4 rfl rfl)
theorem dJ2_setLength_30 : DC mJ2_setLength 30 = .ok (.ifCond .eq 18, 3) := dk_153 0 18 (dk_at dksJ2_setLength_1 7 rfl rfl)
theorem dJ2_setLength_33 : DC mJ2_setLength 33 = .ok (.aload_n 0, 1) := dk_42 (dk_at dksJ2_setLength_1 10 rfl rfl)
theorem dJ2_setLength_34 : DC mJ2_setLength 34 = .ok (.getfield 15, 3) := dk_180 0 15 (dk_at dksJ2_setLength_1 11 rfl rfl)
theorem dJ2_setLength_37 : DC mJ2_setLength 37 = .ok (.aload_n 0, 1) := dk_42 (dk_at dksJ2_setLength_1 14 rfl rfl)
theorem dJ2_setLength_38 : DC mJ2_setLength 38 = .ok (.getfield 79, 3) := dk_180 0 79 (dk_at dksJ2_setLength_1 15 rfl rfl)
theorem dJ2_setLength_41 : DC mJ2_setLength 41 = .ok (.iload_n 1, 1) := dk_27 (dk_at dksJ2_setLength_1 18 rfl rfl)
theorem dJ2_setLength_42 : DC mJ2_setLength 42 = .ok (.invokestatic 133, 3) := dk_184 0 133 (dk_at dksJ2_setLength_1 19 rfl rfl)
theorem dJ2_setLength_45 : DC mJ2_setLength 45 = .ok (.goto 31, 3) := dk_167 0 31 (dk_at dksJ2_setLength_2 0 rfl rfl)
theorem dJ2_setLength_48 : DC mJ2_setLength 48 = .ok (.aload_n 0, 1) := dk_42 (dk_at dksJ2_setLength_2 3 rfl rfl)
theorem dJ2_setLength_49 : DC mJ2_setLength 49 = .ok (.getfield 15, 3) := dk_180 0 15 (dk_at dksJ2_setLength_2 4 rfl rfl)
theorem dJ2_setLength_52 : DC mJ2_setLength 52 = .ok (.aload_n 0, 1) := dk_42 (dk_at dksJ2_setLength_2 7 rfl rfl)
theorem dJ2_setLength_53 : DC mJ2_setLength 53 = .ok (.getfield 79, 3) := dk_180 0 79 (dk_at dksJ2_setLength_2 8 rfl rfl)
theorem dJ2_setLength_56 : DC mJ2_setLength 56 = .ok (.iload_n 1, 1) := dk_27 (dk_at dksJ2_setLength_2 11 rfl rfl)
theorem dJ2_setLength_57 : DC mJ2_setLength 57 = .ok (.invokestatic 137, 3) := dk_184 0 137 (dk_at dksJ2_setLength_2 12 rfl rfl)
theorem dJ2_setLength_60 : DC mJ2_setLength 60 = .ok (.goto 16, 3) := dk_167 0 16 (dk_at dksJ2_setLength_2 15 rfl rfl)
theorem dJ2_setLength_63 : DC mJ2_setLength 63 = .ok (.aload_n 0, 1) := dk_42 (dk_at dksJ2_setLength_2 18 rfl rfl)
theorem dJ2_setLength_64 : DC mJ2_setLength 64 = .ok (.getfield 79, 3) := dk_180 0 79 (dk_at dksJ2_setLength_2 19 rfl rfl)
theorem dJ2_setLength_67 : DC mJ2_setLength 67 = .ok (.iload_n 1, 1) := dk_27 (dk_at dksJ2_setLength_2 22 rfl rfl)
theorem dJ2_setLength_68 : DC mJ2_setLength 68 = .ok (.if_icmp .le 8, 3) := dk_164 0 8 (dk_at dksJ2_setLength_3 0 rfl rfl)
theorem dJ2_setLength_71 : DC mJ2_setLength 71 = .ok (.aload_n 0, 1) := dk_42 (dk_at dksJ2_setLength_3 3 rfl rfl)
theorem dJ2_setLength_72 : DC mJ2_setLength 72 = .ok (.iconst 1, 1) := dk_4 (dk_at dksJ2_setLength_3 4 rfl rfl)
theorem dJ2_setLength_73 : DC mJ2_setLength 73 = .ok (.putfield 73, 3) := dk_181 0 73 (dk_at dksJ2_setLength_3 5 rfl rfl)
theorem dJ2_setLength_76 : DC mJ2_setLength 76 = .ok (.aload_n 0, 1) := dk_42 (dk_at dksJ2_setLength_3 8 rfl rfl)
theorem dJ2_setLength_77 : DC mJ2_setLength 77 = .ok (.iload_n 1, 1) := dk_27 (dk_at dksJ2_setLength_3 9 rfl rfl)
theorem dJ2_setLength_78 : DC mJ2_setLength 78 = .ok (.putfield 79, 3) := dk_181 0 79 (dk_at dksJ2_setLength_3 10 rfl rfl)
theorem dJ2_setLength_81 : DC mJ2_setLength 81 = .ok (.return_, 1) := dk_177 (dk_at dksJ2_setLength_3 13 rfl rfl)

/-! java/lang/StringBuilder -/
set_option maxRecDepth 100000
def RJ3 : String := "java/lang/StringBuilder"
def TJ3 : u_T := fun k => match k with
  | 0 => ("java/lang/AbstractStringBuilder", "value", "[B", false)
  | 1 => ("java/lang/AbstractStringBuilder", "coder", "B", false)
  | 2 => ("java/lang/AbstractStringBuilder", "maybeLatin1", "Z", false)
  | _ => ("java/lang/AbstractStringBuilder", "count", "I", false)
def tyJ3 : Nat → FieldType := fun k => match k with
  | 0 => .array .byte
  | 1 => .byte
  | 2 => .boolean
  | _ => .int
abbrev wsJ30 : List Cond := u_ws RJ3 TJ3 4
theorem nmJ3 : ∀ a, a < 4 → ∀ b, b < 4 → a ≠ b → (TJ3 a).2.1 ≠ (TJ3 b).2.1 := by decide +kernel
theorem tyJ3_ok : ∀ k, k < 4 → parseFieldDescriptor (TJ3 k).2.2.1 = some (tyJ3 k) := by decide +kernel
abbrev cJ3_init : ByteArray := prog_35_method_1_code
def yJ3_init : MethodName := ⟨RJ3, "<init>", "()V"⟩
def mJ3_init : MI := (⟨"java/lang/StringBuilder", "<init>", "()V"⟩, prog_35_method_1_code, 1, (Option.none : Option FieldType), none, 3, 4)
theorem oJ3_init : mO mJ3_init = 3 := rfl
theorem lJ3_init : mL mJ3_init = 1 := rfl
theorem rJ3_init : mR mJ3_init = (Option.none : Option FieldType) := rfl
theorem vJ3_init : mV mJ3_init = 4 := rfl
theorem nJ3_init : (mY mJ3_init).name = "<init>" := rfl
theorem hJ3_init : mH mJ3_init = none := rfl
theorem kJ3_init : MOk mJ3_init := ⟨q159, q79, by decide +kernel⟩
theorem gJ3_init : plainName (mY mJ3_init).cls = true ∧ (mY mJ3_init).cls = "java/lang/StringBuilder" := ⟨by decide +kernel, rfl⟩
def dkwJ3_init_0 : List UInt8 := [42, 16, 16, 183, 0, 1, 177]
abbrev dktJ3_init_0 : List UInt8 := dkwJ3_init_0 ++ []
theorem dksJ3_init_0 : cJ3_init.data.toList.drop 0 = dktJ3_init_0 := by decide +kernel
theorem dJ3_init_0 : DC mJ3_init 0 = .ok (.aload_n 0, 1) := dk_42 (dk_at dksJ3_init_0 0 rfl rfl)
theorem dJ3_init_1 : DC mJ3_init 1 = .ok (.bipush 16, 2) := dk_16 16 (dk_at dksJ3_init_0 1 rfl rfl)
theorem dJ3_init_3 : DC mJ3_init 3 = .ok (.invokespecial 1, 3) := dk_183 0 1 (dk_at dksJ3_init_0 3 rfl rfl)
theorem dJ3_init_6 : DC mJ3_init 6 = .ok (.return_, 1) := dk_177 (dk_at dksJ3_init_0 6 rfl rfl)
abbrev cJ3_append : ByteArray := prog_35_method_7_code
def yJ3_append : MethodName := ⟨RJ3, "append", "(Ljava/lang/String;)Ljava/lang/StringBuilder;"⟩
def mJ3_append : MI := (⟨"java/lang/StringBuilder", "append", "(Ljava/lang/String;)Ljava/lang/StringBuilder;"⟩, prog_35_method_7_code, 2, (Option.some (FieldType.object "java/lang/StringBuilder")), none, 3, 10)
theorem oJ3_append : mO mJ3_append = 3 := rfl
theorem lJ3_append : mL mJ3_append = 2 := rfl
theorem rJ3_append : mR mJ3_append = (Option.some (FieldType.object "java/lang/StringBuilder")) := rfl
theorem vJ3_append : mV mJ3_append = 10 := rfl
theorem nJ3_append : (mY mJ3_append).name = "append" := rfl
theorem hJ3_append : mH mJ3_append = none := rfl
theorem kJ3_append : MOk mJ3_append := ⟨q573, q79, by decide +kernel⟩
theorem gJ3_append : plainName (mY mJ3_append).cls = true ∧ (mY mJ3_append).cls = "java/lang/StringBuilder" := ⟨by decide +kernel, rfl⟩
def dkwJ3_append_0 : List UInt8 := [42, 43, 183, 0, 29, 87, 42, 176]
abbrev dktJ3_append_0 : List UInt8 := dkwJ3_append_0 ++ []
theorem dksJ3_append_0 : cJ3_append.data.toList.drop 0 = dktJ3_append_0 := by decide +kernel
theorem dJ3_append_0 : DC mJ3_append 0 = .ok (.aload_n 0, 1) := dk_42 (dk_at dksJ3_append_0 0 rfl rfl)
theorem dJ3_append_1 : DC mJ3_append 1 = .ok (.aload_n 1, 1) := dk_43 (dk_at dksJ3_append_0 1 rfl rfl)
theorem dJ3_append_2 : DC mJ3_append 2 = .ok (.invokespecial 29, 3) := dk_183 0 29 (dk_at dksJ3_append_0 2 rfl rfl)
theorem dJ3_append_5 : DC mJ3_append 5 = .ok (.pop, 1) := dk_87 (dk_at dksJ3_append_0 5 rfl rfl)
theorem dJ3_append_6 : DC mJ3_append 6 = .ok (.aload_n 0, 1) := dk_42 (dk_at dksJ3_append_0 6 rfl rfl)
theorem dJ3_append_7 : DC mJ3_append 7 = .ok (.areturn, 1) := dk_176 (dk_at dksJ3_append_0 7 rfl rfl)
abbrev cJ3_append_2 : ByteArray := prog_35_method_15_code
def yJ3_append_2 : MethodName := ⟨RJ3, "append", "(I)Ljava/lang/StringBuilder;"⟩
def mJ3_append_2 : MI := (⟨"java/lang/StringBuilder", "append", "(I)Ljava/lang/StringBuilder;"⟩, prog_35_method_15_code, 2, (Option.some (FieldType.object "java/lang/StringBuilder")), none, 3, 6)
theorem oJ3_append_2 : mO mJ3_append_2 = 3 := rfl
theorem lJ3_append_2 : mL mJ3_append_2 = 2 := rfl
theorem rJ3_append_2 : mR mJ3_append_2 = (Option.some (FieldType.object "java/lang/StringBuilder")) := rfl
theorem vJ3_append_2 : mV mJ3_append_2 = 6 := rfl
theorem nJ3_append_2 : (mY mJ3_append_2).name = "append" := rfl
theorem hJ3_append_2 : mH mJ3_append_2 = none := rfl
theorem kJ3_append_2 : MOk mJ3_append_2 := ⟨q678, q79, by decide +kernel⟩
theorem gJ3_append_2 : plainName (mY mJ3_append_2).cls = true ∧ (mY mJ3_append_2).cls = "java/lang/StringBuilder" := ⟨by decide +kernel, rfl⟩
def dkwJ3_append_2_0 : List UInt8 := [42, 27, 183, 0, 53, 87, 42, 176]
abbrev dktJ3_append_2_0 : List UInt8 := dkwJ3_append_2_0 ++ []
theorem dksJ3_append_2_0 : cJ3_append_2.data.toList.drop 0 = dktJ3_append_2_0 := by decide +kernel
theorem dJ3_append_2_0 : DC mJ3_append_2 0 = .ok (.aload_n 0, 1) := dk_42 (dk_at dksJ3_append_2_0 0 rfl rfl)
theorem dJ3_append_2_1 : DC mJ3_append_2 1 = .ok (.iload_n 1, 1) := dk_27 (dk_at dksJ3_append_2_0 1 rfl rfl)
theorem dJ3_append_2_2 : DC mJ3_append_2 2 = .ok (.invokespecial 53, 3) := dk_183 0 53 (dk_at dksJ3_append_2_0 2 rfl rfl)
theorem dJ3_append_2_5 : DC mJ3_append_2 5 = .ok (.pop, 1) := dk_87 (dk_at dksJ3_append_2_0 5 rfl rfl)
theorem dJ3_append_2_6 : DC mJ3_append_2 6 = .ok (.aload_n 0, 1) := dk_42 (dk_at dksJ3_append_2_0 6 rfl rfl)
theorem dJ3_append_2_7 : DC mJ3_append_2 7 = .ok (.areturn, 1) := dk_176 (dk_at dksJ3_append_2_0 7 rfl rfl)
abbrev cJ3_toString : ByteArray := prog_35_method_42_code
def yJ3_toString : MethodName := ⟨RJ3, "toString", "()Ljava/lang/String;"⟩
def mJ3_toString : MI := (⟨"java/lang/StringBuilder", "toString", "()Ljava/lang/String;"⟩, prog_35_method_42_code, 1, (Option.some (FieldType.object "java/lang/String")), none, 3, 8)
theorem oJ3_toString : mO mJ3_toString = 3 := rfl
theorem lJ3_toString : mL mJ3_toString = 1 := rfl
theorem rJ3_toString : mR mJ3_toString = (Option.some (FieldType.object "java/lang/String")) := rfl
theorem vJ3_toString : mV mJ3_toString = 8 := rfl
theorem nJ3_toString : (mY mJ3_toString).name = "toString" := rfl
theorem hJ3_toString : mH mJ3_toString = none := rfl
theorem kJ3_toString : MOk mJ3_toString := ⟨q704, q79, by decide +kernel⟩
theorem gJ3_toString : plainName (mY mJ3_toString).cls = true ∧ (mY mJ3_toString).cls = "java/lang/StringBuilder" := ⟨by decide +kernel, rfl⟩
def dkwJ3_toString_0 : List UInt8 := [187, 0, 18, 89, 42, 183, 0, 137, 176]
abbrev dktJ3_toString_0 : List UInt8 := dkwJ3_toString_0 ++ []
theorem dksJ3_toString_0 : cJ3_toString.data.toList.drop 0 = dktJ3_toString_0 := by decide +kernel
theorem dJ3_toString_0 : DC mJ3_toString 0 = .ok (.new 18, 3) := dk_187 0 18 (dk_at dksJ3_toString_0 0 rfl rfl)
theorem dJ3_toString_3 : DC mJ3_toString 3 = .ok (.dup, 1) := dk_89 (dk_at dksJ3_toString_0 3 rfl rfl)
theorem dJ3_toString_4 : DC mJ3_toString 4 = .ok (.aload_n 0, 1) := dk_42 (dk_at dksJ3_toString_0 4 rfl rfl)
theorem dJ3_toString_5 : DC mJ3_toString 5 = .ok (.invokespecial 137, 3) := dk_183 0 137 (dk_at dksJ3_toString_0 5 rfl rfl)
theorem dJ3_toString_8 : DC mJ3_toString 8 = .ok (.areturn, 1) := dk_176 (dk_at dksJ3_toString_0 8 rfl rfl)
abbrev cJ3_length : ByteArray := prog_35_method_93_code
def yJ3_length : MethodName := ⟨RJ3, "length", "()I"⟩
def mJ3_length : MI := (⟨"java/lang/StringBuilder", "length", "()I"⟩, prog_35_method_93_code, 1, (Option.some FieldType.int), none, 3, 2)
theorem oJ3_length : mO mJ3_length = 3 := rfl
theorem lJ3_length : mL mJ3_length = 1 := rfl
theorem rJ3_length : mR mJ3_length = (Option.some FieldType.int) := rfl
theorem vJ3_length : mV mJ3_length = 2 := rfl
theorem nJ3_length : (mY mJ3_length).name = "length" := rfl
theorem hJ3_length : mH mJ3_length = none := rfl
theorem kJ3_length : MOk mJ3_length := ⟨q724, q79, by decide +kernel⟩
theorem gJ3_length : plainName (mY mJ3_length).cls = true ∧ (mY mJ3_length).cls = "java/lang/StringBuilder" := ⟨by decide +kernel, rfl⟩
theorem dJ3_length_0 : DC mJ3_length 0 = .ok (.aload_n 0, 1) := by decide +kernel
theorem dJ3_length_1 : DC mJ3_length 1 = .ok (.invokespecial 343, 3) := by decide +kernel
theorem dJ3_length_4 : DC mJ3_length 4 = .ok (.ireturn, 1) := by decide +kernel
abbrev cJ3_append_3 : ByteArray := prog_35_method_14_code
def yJ3_append_3 : MethodName := ⟨RJ3, "append", "(C)Ljava/lang/StringBuilder;"⟩
def mJ3_append_3 : MI := (⟨"java/lang/StringBuilder", "append", "(C)Ljava/lang/StringBuilder;"⟩, prog_35_method_14_code, 2, (Option.some (FieldType.object "java/lang/StringBuilder")), none, 3, 8)
theorem oJ3_append_3 : mO mJ3_append_3 = 3 := rfl
theorem lJ3_append_3 : mL mJ3_append_3 = 2 := rfl
theorem rJ3_append_3 : mR mJ3_append_3 = (Option.some (FieldType.object "java/lang/StringBuilder")) := rfl
theorem vJ3_append_3 : mV mJ3_append_3 = 8 := rfl
theorem nJ3_append_3 : (mY mJ3_append_3).name = "append" := rfl
theorem hJ3_append_3 : mH mJ3_append_3 = none := rfl
theorem kJ3_append_3 : MOk mJ3_append_3 := ⟨q1990, q79, by decide +kernel⟩
theorem gJ3_append_3 : plainName (mY mJ3_append_3).cls = true ∧ (mY mJ3_append_3).cls = "java/lang/StringBuilder" := ⟨by decide +kernel, rfl⟩
def dkwJ3_append_3_0 : List UInt8 := [42, 27, 183, 0, 50, 87, 42, 176]
abbrev dktJ3_append_3_0 : List UInt8 := dkwJ3_append_3_0 ++ []
theorem dksJ3_append_3_0 : cJ3_append_3.data.toList.drop 0 = dktJ3_append_3_0 := by decide +kernel
theorem dJ3_append_3_0 : DC mJ3_append_3 0 = .ok (.aload_n 0, 1) := dk_42 (dk_at dksJ3_append_3_0 0 rfl rfl)
theorem dJ3_append_3_1 : DC mJ3_append_3 1 = .ok (.iload_n 1, 1) := dk_27 (dk_at dksJ3_append_3_0 1 rfl rfl)
theorem dJ3_append_3_2 : DC mJ3_append_3 2 = .ok (.invokespecial 50, 3) := dk_183 0 50 (dk_at dksJ3_append_3_0 2 rfl rfl)
theorem dJ3_append_3_5 : DC mJ3_append_3 5 = .ok (.pop, 1) := dk_87 (dk_at dksJ3_append_3_0 5 rfl rfl)
theorem dJ3_append_3_6 : DC mJ3_append_3 6 = .ok (.aload_n 0, 1) := dk_42 (dk_at dksJ3_append_3_0 6 rfl rfl)
theorem dJ3_append_3_7 : DC mJ3_append_3 7 = .ok (.areturn, 1) := dk_176 (dk_at dksJ3_append_3_0 7 rfl rfl)
abbrev cJ3_charAt : ByteArray := prog_35_method_88_code
def yJ3_charAt : MethodName := ⟨RJ3, "charAt", "(I)C"⟩
def mJ3_charAt : MI := (⟨"java/lang/StringBuilder", "charAt", "(I)C"⟩, prog_35_method_88_code, 2, (Option.some FieldType.char), none, 3, 4)
theorem oJ3_charAt : mO mJ3_charAt = 3 := rfl
theorem lJ3_charAt : mL mJ3_charAt = 2 := rfl
theorem rJ3_charAt : mR mJ3_charAt = (Option.some FieldType.char) := rfl
theorem vJ3_charAt : mV mJ3_charAt = 4 := rfl
theorem nJ3_charAt : (mY mJ3_charAt).name = "charAt" := rfl
theorem hJ3_charAt : mH mJ3_charAt = none := rfl
theorem kJ3_charAt : MOk mJ3_charAt := ⟨q2047, q79, by decide +kernel⟩
theorem gJ3_charAt : plainName (mY mJ3_charAt).cls = true ∧ (mY mJ3_charAt).cls = "java/lang/StringBuilder" := ⟨by decide +kernel, rfl⟩
def dkwJ3_charAt_0 : List UInt8 := [42, 27, 183, 1, 73, 172]
abbrev dktJ3_charAt_0 : List UInt8 := dkwJ3_charAt_0 ++ []
theorem dksJ3_charAt_0 : cJ3_charAt.data.toList.drop 0 = dktJ3_charAt_0 := by decide +kernel
theorem dJ3_charAt_0 : DC mJ3_charAt 0 = .ok (.aload_n 0, 1) := dk_42 (dk_at dksJ3_charAt_0 0 rfl rfl)
theorem dJ3_charAt_1 : DC mJ3_charAt 1 = .ok (.iload_n 1, 1) := dk_27 (dk_at dksJ3_charAt_0 1 rfl rfl)
theorem dJ3_charAt_2 : DC mJ3_charAt 2 = .ok (.invokespecial 329, 3) := dk_183 1 73 (dk_at dksJ3_charAt_0 2 rfl rfl)
theorem dJ3_charAt_5 : DC mJ3_charAt 5 = .ok (.ireturn, 1) := dk_172 (dk_at dksJ3_charAt_0 5 rfl rfl)
abbrev cJ3_setLength : ByteArray := prog_35_method_89_code
def yJ3_setLength : MethodName := ⟨RJ3, "setLength", "(I)V"⟩
def mJ3_setLength : MI := (⟨"java/lang/StringBuilder", "setLength", "(I)V"⟩, prog_35_method_89_code, 2, (Option.none : Option FieldType), none, 3, 6)
theorem oJ3_setLength : mO mJ3_setLength = 3 := rfl
theorem lJ3_setLength : mL mJ3_setLength = 2 := rfl
theorem rJ3_setLength : mR mJ3_setLength = (Option.none : Option FieldType) := rfl
theorem vJ3_setLength : mV mJ3_setLength = 6 := rfl
theorem nJ3_setLength : (mY mJ3_setLength).name = "setLength" := rfl
theorem hJ3_setLength : mH mJ3_setLength = none := rfl
theorem kJ3_setLength : MOk mJ3_setLength := ⟨q2278, q79, by decide +kernel⟩
theorem gJ3_setLength : plainName (mY mJ3_setLength).cls = true ∧ (mY mJ3_setLength).cls = "java/lang/StringBuilder" := ⟨by decide +kernel, rfl⟩
def dkwJ3_setLength_0 : List UInt8 := [42, 27, 183, 1, 77, 177]
abbrev dktJ3_setLength_0 : List UInt8 := dkwJ3_setLength_0 ++ []
theorem dksJ3_setLength_0 : cJ3_setLength.data.toList.drop 0 = dktJ3_setLength_0 := by decide +kernel
theorem dJ3_setLength_0 : DC mJ3_setLength 0 = .ok (.aload_n 0, 1) := dk_42 (dk_at dksJ3_setLength_0 0 rfl rfl)
theorem dJ3_setLength_1 : DC mJ3_setLength 1 = .ok (.iload_n 1, 1) := dk_27 (dk_at dksJ3_setLength_0 1 rfl rfl)
theorem dJ3_setLength_2 : DC mJ3_setLength 2 = .ok (.invokespecial 333, 3) := dk_183 1 77 (dk_at dksJ3_setLength_0 2 rfl rfl)
theorem dJ3_setLength_5 : DC mJ3_setLength 5 = .ok (.return_, 1) := dk_177 (dk_at dksJ3_setLength_0 5 rfl rfl)
theorem in_J3 : ∀ w ∈ wsJ30, w ∈ lw_all := lw_in wsJ30 [178, 180, 182, 184] (by decide +kernel) (by decide +kernel)

/-! java/lang/String -/
set_option maxRecDepth 100000
def RJ4 : String := "java/lang/String"
def TJ4 : u_T := fun k => match k with
  | 0 => ("java/lang/String", "value", "[B", true)
  | 1 => ("java/lang/String", "coder", "B", true)
  | 2 => ("java/lang/String", "hash", "I", false)
  | _ => ("java/lang/String", "hashIsZero", "Z", false)
def tyJ4 : Nat → FieldType := fun k => match k with
  | 0 => .array .byte
  | 1 => .byte
  | 2 => .int
  | _ => .boolean
abbrev wsJ40 : List Cond := u_ws RJ4 TJ4 4
theorem nmJ4 : ∀ a, a < 4 → ∀ b, b < 4 → a ≠ b → (TJ4 a).2.1 ≠ (TJ4 b).2.1 := by decide +kernel
theorem tyJ4_ok : ∀ k, k < 4 → parseFieldDescriptor (TJ4 k).2.2.1 = some (tyJ4 k) := by decide +kernel
abbrev cJ4_checkBoundsBeginEnd : ByteArray := prog_34_method_158_code
def yJ4_checkBoundsBeginEnd : MethodName := ⟨RJ4, "checkBoundsBeginEnd", "(III)V"⟩
def mJ4_checkBoundsBeginEnd : MI := (⟨"java/lang/String", "checkBoundsBeginEnd", "(III)V"⟩, prog_34_method_158_code, 3, (Option.none : Option FieldType), none, 4, 2)
theorem oJ4_checkBoundsBeginEnd : mO mJ4_checkBoundsBeginEnd = 4 := rfl
theorem lJ4_checkBoundsBeginEnd : mL mJ4_checkBoundsBeginEnd = 3 := rfl
theorem rJ4_checkBoundsBeginEnd : mR mJ4_checkBoundsBeginEnd = (Option.none : Option FieldType) := rfl
theorem vJ4_checkBoundsBeginEnd : mV mJ4_checkBoundsBeginEnd = 2 := rfl
theorem nJ4_checkBoundsBeginEnd : (mY mJ4_checkBoundsBeginEnd).name = "checkBoundsBeginEnd" := rfl
theorem hJ4_checkBoundsBeginEnd : mH mJ4_checkBoundsBeginEnd = none := rfl
theorem kJ4_checkBoundsBeginEnd : MOk mJ4_checkBoundsBeginEnd := ⟨q617, q80, by decide +kernel⟩
theorem gJ4_checkBoundsBeginEnd : plainName (mY mJ4_checkBoundsBeginEnd).cls = true ∧ (mY mJ4_checkBoundsBeginEnd).cls = "java/lang/String" := ⟨by decide +kernel, rfl⟩
def dkwJ4_checkBoundsBeginEnd_0 : List UInt8 := [26, 27, 28, 178, 4, 29, 184, 4, 38, 87, 177]
abbrev dktJ4_checkBoundsBeginEnd_0 : List UInt8 := dkwJ4_checkBoundsBeginEnd_0 ++ []
theorem dksJ4_checkBoundsBeginEnd_0 : cJ4_checkBoundsBeginEnd.data.toList.drop 0 = dktJ4_checkBoundsBeginEnd_0 := by decide +kernel
theorem dJ4_checkBoundsBeginEnd_0 : DC mJ4_checkBoundsBeginEnd 0 = .ok (.iload_n 0, 1) := dk_26 (dk_at dksJ4_checkBoundsBeginEnd_0 0 rfl rfl)
theorem dJ4_checkBoundsBeginEnd_1 : DC mJ4_checkBoundsBeginEnd 1 = .ok (.iload_n 1, 1) := dk_27 (dk_at dksJ4_checkBoundsBeginEnd_0 1 rfl rfl)
theorem dJ4_checkBoundsBeginEnd_2 : DC mJ4_checkBoundsBeginEnd 2 = .ok (.iload_n 2, 1) := dk_28 (dk_at dksJ4_checkBoundsBeginEnd_0 2 rfl rfl)
theorem dJ4_checkBoundsBeginEnd_3 : DC mJ4_checkBoundsBeginEnd 3 = .ok (.getstatic 1053, 3) := dk_178 4 29 (dk_at dksJ4_checkBoundsBeginEnd_0 3 rfl rfl)
theorem dJ4_checkBoundsBeginEnd_6 : DC mJ4_checkBoundsBeginEnd 6 = .ok (.invokestatic 1062, 3) := dk_184 4 38 (dk_at dksJ4_checkBoundsBeginEnd_0 6 rfl rfl)
theorem dJ4_checkBoundsBeginEnd_9 : DC mJ4_checkBoundsBeginEnd 9 = .ok (.pop, 1) := dk_87 (dk_at dksJ4_checkBoundsBeginEnd_0 9 rfl rfl)
theorem dJ4_checkBoundsBeginEnd_10 : DC mJ4_checkBoundsBeginEnd 10 = .ok (.return_, 1) := dk_177 (dk_at dksJ4_checkBoundsBeginEnd_0 10 rfl rfl)
abbrev cJ4_length : ByteArray := prog_34_method_54_code
def yJ4_length : MethodName := ⟨RJ4, "length", "()I"⟩
def mJ4_length : MI := (⟨"java/lang/String", "length", "()I"⟩, prog_34_method_54_code, 1, (Option.some FieldType.int), none, 4, 2)
theorem oJ4_length : mO mJ4_length = 4 := rfl
theorem lJ4_length : mL mJ4_length = 1 := rfl
theorem rJ4_length : mR mJ4_length = (Option.some FieldType.int) := rfl
theorem vJ4_length : mV mJ4_length = 2 := rfl
theorem nJ4_length : (mY mJ4_length).name = "length" := rfl
theorem hJ4_length : mH mJ4_length = none := rfl
theorem kJ4_length : MOk mJ4_length := ⟨q635, q80, by decide +kernel⟩
theorem gJ4_length : plainName (mY mJ4_length).cls = true ∧ (mY mJ4_length).cls = "java/lang/String" := ⟨by decide +kernel, rfl⟩
def dkwJ4_length_0 : List UInt8 := [42, 180, 0, 9, 190, 42, 182, 1, 79, 122, 172]
abbrev dktJ4_length_0 : List UInt8 := dkwJ4_length_0 ++ []
theorem dksJ4_length_0 : cJ4_length.data.toList.drop 0 = dktJ4_length_0 := by decide +kernel
theorem dJ4_length_0 : DC mJ4_length 0 = .ok (.aload_n 0, 1) := dk_42 (dk_at dksJ4_length_0 0 rfl rfl)
theorem dJ4_length_1 : DC mJ4_length 1 = .ok (.getfield 9, 3) := dk_180 0 9 (dk_at dksJ4_length_0 1 rfl rfl)
theorem dJ4_length_4 : DC mJ4_length 4 = .ok (.arraylength, 1) := dk_190 (dk_at dksJ4_length_0 4 rfl rfl)
theorem dJ4_length_5 : DC mJ4_length 5 = .ok (.aload_n 0, 1) := dk_42 (dk_at dksJ4_length_0 5 rfl rfl)
theorem dJ4_length_6 : DC mJ4_length 6 = .ok (.invokevirtual 335, 3) := dk_182 1 79 (dk_at dksJ4_length_0 6 rfl rfl)
theorem dJ4_length_9 : DC mJ4_length 9 = .ok (.ishr, 1) := dk_122 (dk_at dksJ4_length_0 9 rfl rfl)
theorem dJ4_length_10 : DC mJ4_length 10 = .ok (.ireturn, 1) := dk_172 (dk_at dksJ4_length_0 10 rfl rfl)
abbrev cJ4_coder : ByteArray := prog_34_method_152_code
def yJ4_coder : MethodName := ⟨RJ4, "coder", "()B"⟩
def mJ4_coder : MI := (⟨"java/lang/String", "coder", "()B"⟩, prog_34_method_152_code, 1, (Option.some FieldType.byte), none, 4, 1)
theorem oJ4_coder : mO mJ4_coder = 4 := rfl
theorem lJ4_coder : mL mJ4_coder = 1 := rfl
theorem rJ4_coder : mR mJ4_coder = (Option.some FieldType.byte) := rfl
theorem vJ4_coder : mV mJ4_coder = 1 := rfl
theorem nJ4_coder : (mY mJ4_coder).name = "coder" := rfl
theorem hJ4_coder : mH mJ4_coder = none := rfl
theorem kJ4_coder : MOk mJ4_coder := ⟨q639, q80, by decide +kernel⟩
theorem gJ4_coder : plainName (mY mJ4_coder).cls = true ∧ (mY mJ4_coder).cls = "java/lang/String" := ⟨by decide +kernel, rfl⟩
def dkwJ4_coder_0 : List UInt8 := [178, 0, 38, 153, 0, 10, 42, 180, 0, 15, 167, 0, 4, 4, 172]
abbrev dktJ4_coder_0 : List UInt8 := dkwJ4_coder_0 ++ []
theorem dksJ4_coder_0 : cJ4_coder.data.toList.drop 0 = dktJ4_coder_0 := by decide +kernel
theorem dJ4_coder_0 : DC mJ4_coder 0 = .ok (.getstatic 38, 3) := dk_178 0 38 (dk_at dksJ4_coder_0 0 rfl rfl)
theorem dJ4_coder_3 : DC mJ4_coder 3 = .ok (.ifCond .eq 10, 3) := dk_153 0 10 (dk_at dksJ4_coder_0 3 rfl rfl)
theorem dJ4_coder_6 : DC mJ4_coder 6 = .ok (.aload_n 0, 1) := dk_42 (dk_at dksJ4_coder_0 6 rfl rfl)
theorem dJ4_coder_7 : DC mJ4_coder 7 = .ok (.getfield 15, 3) := dk_180 0 15 (dk_at dksJ4_coder_0 7 rfl rfl)
theorem dJ4_coder_10 : DC mJ4_coder 10 = .ok (.goto 4, 3) := dk_167 0 4 (dk_at dksJ4_coder_0 10 rfl rfl)
theorem dJ4_coder_13 : DC mJ4_coder 13 = .ok (.iconst 1, 1) := dk_4 (dk_at dksJ4_coder_0 13 rfl rfl)
theorem dJ4_coder_14 : DC mJ4_coder 14 = .ok (.ireturn, 1) := dk_172 (dk_at dksJ4_coder_0 14 rfl rfl)
abbrev cJ4_checkBoundsOffCount : ByteArray := prog_34_method_157_code
def yJ4_checkBoundsOffCount : MethodName := ⟨RJ4, "checkBoundsOffCount", "(III)I"⟩
def mJ4_checkBoundsOffCount : MI := (⟨"java/lang/String", "checkBoundsOffCount", "(III)I"⟩, prog_34_method_157_code, 3, (Option.some FieldType.int), none, 4, 2)
theorem oJ4_checkBoundsOffCount : mO mJ4_checkBoundsOffCount = 4 := rfl
theorem lJ4_checkBoundsOffCount : mL mJ4_checkBoundsOffCount = 3 := rfl
theorem rJ4_checkBoundsOffCount : mR mJ4_checkBoundsOffCount = (Option.some FieldType.int) := rfl
theorem vJ4_checkBoundsOffCount : mV mJ4_checkBoundsOffCount = 2 := rfl
theorem nJ4_checkBoundsOffCount : (mY mJ4_checkBoundsOffCount).name = "checkBoundsOffCount" := rfl
theorem hJ4_checkBoundsOffCount : mH mJ4_checkBoundsOffCount = none := rfl
theorem kJ4_checkBoundsOffCount : MOk mJ4_checkBoundsOffCount := ⟨q665, q80, by decide +kernel⟩
theorem gJ4_checkBoundsOffCount : plainName (mY mJ4_checkBoundsOffCount).cls = true ∧ (mY mJ4_checkBoundsOffCount).cls = "java/lang/String" := ⟨by decide +kernel, rfl⟩
def dkwJ4_checkBoundsOffCount_0 : List UInt8 := [26, 27, 28, 178, 4, 29, 184, 4, 41, 172]
abbrev dktJ4_checkBoundsOffCount_0 : List UInt8 := dkwJ4_checkBoundsOffCount_0 ++ []
theorem dksJ4_checkBoundsOffCount_0 : cJ4_checkBoundsOffCount.data.toList.drop 0 = dktJ4_checkBoundsOffCount_0 := by decide +kernel
theorem dJ4_checkBoundsOffCount_0 : DC mJ4_checkBoundsOffCount 0 = .ok (.iload_n 0, 1) := dk_26 (dk_at dksJ4_checkBoundsOffCount_0 0 rfl rfl)
theorem dJ4_checkBoundsOffCount_1 : DC mJ4_checkBoundsOffCount 1 = .ok (.iload_n 1, 1) := dk_27 (dk_at dksJ4_checkBoundsOffCount_0 1 rfl rfl)
theorem dJ4_checkBoundsOffCount_2 : DC mJ4_checkBoundsOffCount 2 = .ok (.iload_n 2, 1) := dk_28 (dk_at dksJ4_checkBoundsOffCount_0 2 rfl rfl)
theorem dJ4_checkBoundsOffCount_3 : DC mJ4_checkBoundsOffCount 3 = .ok (.getstatic 1053, 3) := dk_178 4 29 (dk_at dksJ4_checkBoundsOffCount_0 3 rfl rfl)
theorem dJ4_checkBoundsOffCount_6 : DC mJ4_checkBoundsOffCount 6 = .ok (.invokestatic 1065, 3) := dk_184 4 41 (dk_at dksJ4_checkBoundsOffCount_0 6 rfl rfl)
theorem dJ4_checkBoundsOffCount_9 : DC mJ4_checkBoundsOffCount 9 = .ok (.ireturn, 1) := dk_172 (dk_at dksJ4_checkBoundsOffCount_0 9 rfl rfl)
abbrev cJ4_getBytes : ByteArray := prog_34_method_147_code
def yJ4_getBytes : MethodName := ⟨RJ4, "getBytes", "([BIB)V"⟩
def mJ4_getBytes : MI := (⟨"java/lang/String", "getBytes", "([BIB)V"⟩, prog_34_method_147_code, 4, (Option.none : Option FieldType), none, 4, 6)
theorem oJ4_getBytes : mO mJ4_getBytes = 4 := rfl
theorem lJ4_getBytes : mL mJ4_getBytes = 4 := rfl
theorem rJ4_getBytes : mR mJ4_getBytes = (Option.none : Option FieldType) := rfl
theorem vJ4_getBytes : mV mJ4_getBytes = 6 := rfl
theorem nJ4_getBytes : (mY mJ4_getBytes).name = "getBytes" := rfl
theorem hJ4_getBytes : mH mJ4_getBytes = none := rfl
theorem kJ4_getBytes : MOk mJ4_getBytes := ⟨q672, q80, by decide +kernel⟩
theorem gJ4_getBytes : plainName (mY mJ4_getBytes).cls = true ∧ (mY mJ4_getBytes).cls = "java/lang/String" := ⟨by decide +kernel, rfl⟩
def dkwJ4_getBytes_1 : List UInt8 := [184, 0, 212, 167, 0, 18, 42, 180, 0, 9, 3, 43, 28, 42, 180, 0, 9, 190, 184, 0, 106, 177]
abbrev dktJ4_getBytes_1 : List UInt8 := dkwJ4_getBytes_1 ++ []
def dkwJ4_getBytes_0 : List UInt8 := [42, 182, 1, 79, 29, 160, 0, 23, 42, 180, 0, 9, 3, 43, 28, 29, 120, 42, 180, 0, 9, 190]
abbrev dktJ4_getBytes_0 : List UInt8 := dkwJ4_getBytes_0 ++ dktJ4_getBytes_1
theorem dksJ4_getBytes_0 : cJ4_getBytes.data.toList.drop 0 = dktJ4_getBytes_0 := by decide +kernel
theorem dksJ4_getBytes_1 : cJ4_getBytes.data.toList.drop 22 = dktJ4_getBytes_1 := dk_seg dksJ4_getBytes_0 22 rfl rfl
theorem dJ4_getBytes_0 : DC mJ4_getBytes 0 = .ok (.aload_n 0, 1) := dk_42 (dk_at dksJ4_getBytes_0 0 rfl rfl)
theorem dJ4_getBytes_1 : DC mJ4_getBytes 1 = .ok (.invokevirtual 335, 3) := dk_182 1 79 (dk_at dksJ4_getBytes_0 1 rfl rfl)
theorem dJ4_getBytes_4 : DC mJ4_getBytes 4 = .ok (.iload_n 3, 1) := dk_29 (dk_at dksJ4_getBytes_0 4 rfl rfl)
theorem dJ4_getBytes_5 : DC mJ4_getBytes 5 = .ok (.if_icmp .ne 23, 3) := dk_160 0 23 (dk_at dksJ4_getBytes_0 5 rfl rfl)
theorem dJ4_getBytes_8 : DC mJ4_getBytes 8 = .ok (.aload_n 0, 1) := dk_42 (dk_at dksJ4_getBytes_0 8 rfl rfl)
theorem dJ4_getBytes_9 : DC mJ4_getBytes 9 = .ok (.getfield 9, 3) := dk_180 0 9 (dk_at dksJ4_getBytes_0 9 rfl rfl)
theorem dJ4_getBytes_12 : DC mJ4_getBytes 12 = .ok (.iconst 0, 1) := dk_3 (dk_at dksJ4_getBytes_0 12 rfl rfl)
theorem dJ4_getBytes_13 : DC mJ4_getBytes 13 = .ok (.aload_n 1, 1) := dk_43 (dk_at dksJ4_getBytes_0 13 rfl rfl)
theorem dJ4_getBytes_14 : DC mJ4_getBytes 14 = .ok (.iload_n 2, 1) := dk_28 (dk_at dksJ4_getBytes_0 14 rfl rfl)
theorem dJ4_getBytes_15 : DC mJ4_getBytes 15 = .ok (.iload_n 3, 1) := dk_29 (dk_at dksJ4_getBytes_0 15 rfl rfl)
theorem dJ4_getBytes_16 : DC mJ4_getBytes 16 = .ok (.ishl, 1) := dk_120 (dk_at dksJ4_getBytes_0 16 rfl rfl)
theorem dJ4_getBytes_17 : DC mJ4_getBytes 17 = .ok (.aload_n 0, 1) := dk_42 (dk_at dksJ4_getBytes_0 17 rfl rfl)
theorem dJ4_getBytes_18 : DC mJ4_getBytes 18 = .ok (.getfield 9, 3) := dk_180 0 9 (dk_at dksJ4_getBytes_0 18 rfl rfl)
theorem dJ4_getBytes_21 : DC mJ4_getBytes 21 = .ok (.arraylength, 1) := dk_190 (dk_at dksJ4_getBytes_0 21 rfl rfl)
theorem dJ4_getBytes_22 : DC mJ4_getBytes 22 = .ok (.invokestatic 212, 3) := dk_184 0 212 (dk_at dksJ4_getBytes_1 0 rfl rfl)
theorem dJ4_getBytes_25 : DC mJ4_getBytes 25 = .ok (.goto 18, 3) := dk_167 0 18 (dk_at dksJ4_getBytes_1 3 rfl rfl)
theorem dJ4_getBytes_28 : DC mJ4_getBytes 28 = .ok (.aload_n 0, 1) := dk_42 (dk_at dksJ4_getBytes_1 6 rfl rfl)
theorem dJ4_getBytes_29 : DC mJ4_getBytes 29 = .ok (.getfield 9, 3) := dk_180 0 9 (dk_at dksJ4_getBytes_1 7 rfl rfl)
theorem dJ4_getBytes_32 : DC mJ4_getBytes 32 = .ok (.iconst 0, 1) := dk_3 (dk_at dksJ4_getBytes_1 10 rfl rfl)
theorem dJ4_getBytes_33 : DC mJ4_getBytes 33 = .ok (.aload_n 1, 1) := dk_43 (dk_at dksJ4_getBytes_1 11 rfl rfl)
theorem dJ4_getBytes_34 : DC mJ4_getBytes 34 = .ok (.iload_n 2, 1) := dk_28 (dk_at dksJ4_getBytes_1 12 rfl rfl)
theorem dJ4_getBytes_35 : DC mJ4_getBytes 35 = .ok (.aload_n 0, 1) := dk_42 (dk_at dksJ4_getBytes_1 13 rfl rfl)
theorem dJ4_getBytes_36 : DC mJ4_getBytes 36 = .ok (.getfield 9, 3) := dk_180 0 9 (dk_at dksJ4_getBytes_1 14 rfl rfl)
theorem dJ4_getBytes_39 : DC mJ4_getBytes 39 = .ok (.arraylength, 1) := dk_190 (dk_at dksJ4_getBytes_1 17 rfl rfl)
theorem dJ4_getBytes_40 : DC mJ4_getBytes 40 = .ok (.invokestatic 106, 3) := dk_184 0 106 (dk_at dksJ4_getBytes_1 18 rfl rfl)
theorem dJ4_getBytes_43 : DC mJ4_getBytes 43 = .ok (.return_, 1) := dk_177 (dk_at dksJ4_getBytes_1 21 rfl rfl)
abbrev cJ4_init : ByteArray := prog_34_method_53_code
def yJ4_init : MethodName := ⟨RJ4, "<init>", "(Ljava/lang/StringBuilder;)V"⟩
def mJ4_init : MI := (⟨"java/lang/String", "<init>", "(Ljava/lang/StringBuilder;)V"⟩, prog_34_method_53_code, 2, (Option.none : Option FieldType), none, 4, 7)
theorem oJ4_init : mO mJ4_init = 4 := rfl
theorem lJ4_init : mL mJ4_init = 2 := rfl
theorem rJ4_init : mR mJ4_init = (Option.none : Option FieldType) := rfl
theorem vJ4_init : mV mJ4_init = 7 := rfl
theorem nJ4_init : (mY mJ4_init).name = "<init>" := rfl
theorem hJ4_init : mH mJ4_init = none := rfl
theorem kJ4_init : MOk mJ4_init := ⟨q709, q80, by decide +kernel⟩
theorem gJ4_init : plainName (mY mJ4_init).cls = true ∧ (mY mJ4_init).cls = "java/lang/String" := ⟨by decide +kernel, rfl⟩
def dkwJ4_init_0 : List UInt8 := [42, 43, 1, 183, 1, 233, 177]
abbrev dktJ4_init_0 : List UInt8 := dkwJ4_init_0 ++ []
theorem dksJ4_init_0 : cJ4_init.data.toList.drop 0 = dktJ4_init_0 := by decide +kernel
theorem dJ4_init_0 : DC mJ4_init 0 = .ok (.aload_n 0, 1) := dk_42 (dk_at dksJ4_init_0 0 rfl rfl)
theorem dJ4_init_1 : DC mJ4_init 1 = .ok (.aload_n 1, 1) := dk_43 (dk_at dksJ4_init_0 1 rfl rfl)
theorem dJ4_init_2 : DC mJ4_init 2 = .ok (.aconst_null, 1) := dk_1 (dk_at dksJ4_init_0 2 rfl rfl)
theorem dJ4_init_3 : DC mJ4_init 3 = .ok (.invokespecial 489, 3) := dk_183 1 233 (dk_at dksJ4_init_0 3 rfl rfl)
theorem dJ4_init_6 : DC mJ4_init 6 = .ok (.return_, 1) := dk_177 (dk_at dksJ4_init_0 6 rfl rfl)
abbrev cJ4_init_2 : ByteArray := prog_34_method_150_code
def yJ4_init_2 : MethodName := ⟨RJ4, "<init>", "(Ljava/lang/AbstractStringBuilder;Ljava/lang/Void;)V"⟩
def mJ4_init_2 : MI := (⟨"java/lang/String", "<init>", "(Ljava/lang/AbstractStringBuilder;Ljava/lang/Void;)V"⟩, prog_34_method_150_code, 5, (Option.none : Option FieldType), none, 4, 6)
theorem oJ4_init_2 : mO mJ4_init_2 = 4 := rfl
theorem lJ4_init_2 : mL mJ4_init_2 = 5 := rfl
theorem rJ4_init_2 : mR mJ4_init_2 = (Option.none : Option FieldType) := rfl
theorem vJ4_init_2 : mV mJ4_init_2 = 6 := rfl
theorem nJ4_init_2 : (mY mJ4_init_2).name = "<init>" := rfl
theorem hJ4_init_2 : mH mJ4_init_2 = none := rfl
theorem kJ4_init_2 : MOk mJ4_init_2 := ⟨q712, q80, by decide +kernel⟩
theorem gJ4_init_2 : plainName (mY mJ4_init_2).cls = true ∧ (mY mJ4_init_2).cls = "java/lang/String" := ⟨by decide +kernel, rfl⟩
def dkwJ4_init_2_4 : List UInt8 := [181, 0, 9, 177]
abbrev dktJ4_init_2_4 : List UInt8 := dkwJ4_init_2_4 ++ []
def dkwJ4_init_2_3 : List UInt8 := [184, 0, 47, 181, 0, 15, 177, 42, 4, 181, 0, 15, 42, 45, 3, 21, 4, 4, 120, 184, 0, 54]
abbrev dktJ4_init_2_3 : List UInt8 := dkwJ4_init_2_3 ++ dktJ4_init_2_4
def dkwJ4_init_2_2 : List UInt8 := [180, 4, 24, 153, 0, 28, 42, 45, 3, 21, 4, 184, 4, 27, 181, 0, 9, 42, 42, 180, 0, 9, 21, 4]
abbrev dktJ4_init_2_2 : List UInt8 := dkwJ4_init_2_2 ++ dktJ4_init_2_3
def dkwJ4_init_2_1 : List UInt8 := [181, 0, 15, 42, 45, 3, 21, 4, 184, 0, 54, 181, 0, 9, 167, 0, 59, 178, 0, 38, 153, 0, 35, 43]
abbrev dktJ4_init_2_1 : List UInt8 := dkwJ4_init_2_1 ++ dktJ4_init_2_2
def dkwJ4_init_2_0 : List UInt8 := [42, 183, 0, 1, 43, 182, 2, 40, 78, 43, 182, 2, 37, 54, 4, 43, 182, 4, 23, 153, 0, 22, 42, 3]
abbrev dktJ4_init_2_0 : List UInt8 := dkwJ4_init_2_0 ++ dktJ4_init_2_1
theorem dksJ4_init_2_0 : cJ4_init_2.data.toList.drop 0 = dktJ4_init_2_0 := by decide +kernel
theorem dksJ4_init_2_1 : cJ4_init_2.data.toList.drop 24 = dktJ4_init_2_1 := dk_seg dksJ4_init_2_0 24 rfl rfl
theorem dksJ4_init_2_2 : cJ4_init_2.data.toList.drop 48 = dktJ4_init_2_2 := dk_seg dksJ4_init_2_1 24 rfl rfl
theorem dksJ4_init_2_3 : cJ4_init_2.data.toList.drop 72 = dktJ4_init_2_3 := dk_seg dksJ4_init_2_2 24 rfl rfl
theorem dksJ4_init_2_4 : cJ4_init_2.data.toList.drop 94 = dktJ4_init_2_4 := dk_seg dksJ4_init_2_3 22 rfl rfl
theorem dJ4_init_2_0 : DC mJ4_init_2 0 = .ok (.aload_n 0, 1) := dk_42 (dk_at dksJ4_init_2_0 0 rfl rfl)
theorem dJ4_init_2_1 : DC mJ4_init_2 1 = .ok (.invokespecial 1, 3) := dk_183 0 1 (dk_at dksJ4_init_2_0 1 rfl rfl)
theorem dJ4_init_2_4 : DC mJ4_init_2 4 = .ok (.aload_n 1, 1) := dk_43 (dk_at dksJ4_init_2_0 4 rfl rfl)
theorem dJ4_init_2_5 : DC mJ4_init_2 5 = .ok (.invokevirtual 552, 3) := dk_182 2 40 (dk_at dksJ4_init_2_0 5 rfl rfl)
theorem dJ4_init_2_8 : DC mJ4_init_2 8 = .ok (.astore_n 3, 1) := dk_78 (dk_at dksJ4_init_2_0 8 rfl rfl)
theorem dJ4_init_2_9 : DC mJ4_init_2 9 = .ok (.aload_n 1, 1) := dk_43 (dk_at dksJ4_init_2_0 9 rfl rfl)
theorem dJ4_init_2_10 : DC mJ4_init_2 10 = .ok (.invokevirtual 549, 3) := dk_182 2 37 (dk_at dksJ4_init_2_0 10 rfl rfl)
theorem dJ4_init_2_13 : DC mJ4_init_2 13 = .ok (.istore 4, 2) := dk_54 4 (dk_at dksJ4_init_2_0 13 rfl rfl)
theorem dJ4_init_2_15 : DC mJ4_init_2 15 = .ok (.aload_n 1, 1) := dk_43 (dk_at dksJ4_init_2_0 15 rfl rfl)
theorem dJ4_init_2_16 : DC mJ4_init_2 16 = .ok (.invokevirtual 1047, 3) := dk_182 4 23 (dk_at dksJ4_init_2_0 16 rfl rfl)
theorem dJ4_init_2_19 : DC mJ4_init_2 19 = .ok (.ifCond .eq 22, 3) := dk_153 0 22 (dk_at dksJ4_init_2_0 19 rfl rfl)
theorem dJ4_init_2_22 : DC mJ4_init_2 22 = .ok (.aload_n 0, 1) := dk_42 (dk_at dksJ4_init_2_0 22 rfl rfl)
theorem dJ4_init_2_23 : DC mJ4_init_2 23 = .ok (.iconst 0, 1) := dk_3 (dk_at dksJ4_init_2_0 23 rfl rfl)
theorem dJ4_init_2_24 : DC mJ4_init_2 24 = .ok (.putfield 15, 3) := dk_181 0 15 (dk_at dksJ4_init_2_1 0 rfl rfl)
theorem dJ4_init_2_27 : DC mJ4_init_2 27 = .ok (.aload_n 0, 1) := dk_42 (dk_at dksJ4_init_2_1 3 rfl rfl)
theorem dJ4_init_2_28 : DC mJ4_init_2 28 = .ok (.aload_n 3, 1) := dk_45 (dk_at dksJ4_init_2_1 4 rfl rfl)
theorem dJ4_init_2_29 : DC mJ4_init_2 29 = .ok (.iconst 0, 1) := dk_3 (dk_at dksJ4_init_2_1 5 rfl rfl)
theorem dJ4_init_2_30 : DC mJ4_init_2 30 = .ok (.iload 4, 2) := dk_21 4 (dk_at dksJ4_init_2_1 6 rfl rfl)
theorem dJ4_init_2_32 : DC mJ4_init_2 32 = .ok (.invokestatic 54, 3) := dk_184 0 54 (dk_at dksJ4_init_2_1 8 rfl rfl)
theorem dJ4_init_2_35 : DC mJ4_init_2 35 = .ok (.putfield 9, 3) := dk_181 0 9 (dk_at dksJ4_init_2_1 11 rfl rfl)
theorem dJ4_init_2_38 : DC mJ4_init_2 38 = .ok (.goto 59, 3) := dk_167 0 59 (dk_at dksJ4_init_2_1 14 rfl rfl)
theorem dJ4_init_2_41 : DC mJ4_init_2 41 = .ok (.getstatic 38, 3) := dk_178 0 38 (dk_at dksJ4_init_2_1 17 rfl rfl)
theorem dJ4_init_2_44 : DC mJ4_init_2 44 = .ok (.ifCond .eq 35, 3) := dk_153 0 35 (dk_at dksJ4_init_2_1 20 rfl rfl)
theorem dJ4_init_2_47 : DC mJ4_init_2 47 = .ok (.aload_n 1, 1) := dk_43 (dk_at dksJ4_init_2_1 23 rfl rfl)
theorem dJ4_init_2_48 : DC mJ4_init_2 48 = .ok (.getfield 1048, 3) := dk_180 4 24 (dk_at dksJ4_init_2_2 0 rfl rfl)
theorem dJ4_init_2_51 : DC mJ4_init_2 51 = .ok (.ifCond .eq 28, 3) := dk_153 0 28 (dk_at dksJ4_init_2_2 3 rfl rfl)
theorem dJ4_init_2_54 : DC mJ4_init_2 54 = .ok (.aload_n 0, 1) := dk_42 (dk_at dksJ4_init_2_2 6 rfl rfl)
theorem dJ4_init_2_55 : DC mJ4_init_2 55 = .ok (.aload_n 3, 1) := dk_45 (dk_at dksJ4_init_2_2 7 rfl rfl)
theorem dJ4_init_2_56 : DC mJ4_init_2 56 = .ok (.iconst 0, 1) := dk_3 (dk_at dksJ4_init_2_2 8 rfl rfl)
theorem dJ4_init_2_57 : DC mJ4_init_2 57 = .ok (.iload 4, 2) := dk_21 4 (dk_at dksJ4_init_2_2 9 rfl rfl)
theorem dJ4_init_2_59 : DC mJ4_init_2 59 = .ok (.invokestatic 1051, 3) := dk_184 4 27 (dk_at dksJ4_init_2_2 11 rfl rfl)
theorem dJ4_init_2_62 : DC mJ4_init_2 62 = .ok (.putfield 9, 3) := dk_181 0 9 (dk_at dksJ4_init_2_2 14 rfl rfl)
theorem dJ4_init_2_65 : DC mJ4_init_2 65 = .ok (.aload_n 0, 1) := dk_42 (dk_at dksJ4_init_2_2 17 rfl rfl)
theorem dJ4_init_2_66 : DC mJ4_init_2 66 = .ok (.aload_n 0, 1) := dk_42 (dk_at dksJ4_init_2_2 18 rfl rfl)
theorem dJ4_init_2_67 : DC mJ4_init_2 67 = .ok (.getfield 9, 3) := dk_180 0 9 (dk_at dksJ4_init_2_2 19 rfl rfl)
theorem dJ4_init_2_70 : DC mJ4_init_2 70 = .ok (.iload 4, 2) := dk_21 4 (dk_at dksJ4_init_2_2 22 rfl rfl)
theorem dJ4_init_2_72 : DC mJ4_init_2 72 = .ok (.invokestatic 47, 3) := dk_184 0 47 (dk_at dksJ4_init_2_3 0 rfl rfl)
theorem dJ4_init_2_75 : DC mJ4_init_2 75 = .ok (.putfield 15, 3) := dk_181 0 15 (dk_at dksJ4_init_2_3 3 rfl rfl)
theorem dJ4_init_2_78 : DC mJ4_init_2 78 = .ok (.return_, 1) := dk_177 (dk_at dksJ4_init_2_3 6 rfl rfl)
theorem dJ4_init_2_79 : DC mJ4_init_2 79 = .ok (.aload_n 0, 1) := dk_42 (dk_at dksJ4_init_2_3 7 rfl rfl)
theorem dJ4_init_2_80 : DC mJ4_init_2 80 = .ok (.iconst 1, 1) := dk_4 (dk_at dksJ4_init_2_3 8 rfl rfl)
theorem dJ4_init_2_81 : DC mJ4_init_2 81 = .ok (.putfield 15, 3) := dk_181 0 15 (dk_at dksJ4_init_2_3 9 rfl rfl)
theorem dJ4_init_2_84 : DC mJ4_init_2 84 = .ok (.aload_n 0, 1) := dk_42 (dk_at dksJ4_init_2_3 12 rfl rfl)
theorem dJ4_init_2_85 : DC mJ4_init_2 85 = .ok (.aload_n 3, 1) := dk_45 (dk_at dksJ4_init_2_3 13 rfl rfl)
theorem dJ4_init_2_86 : DC mJ4_init_2 86 = .ok (.iconst 0, 1) := dk_3 (dk_at dksJ4_init_2_3 14 rfl rfl)
theorem dJ4_init_2_87 : DC mJ4_init_2 87 = .ok (.iload 4, 2) := dk_21 4 (dk_at dksJ4_init_2_3 15 rfl rfl)
theorem dJ4_init_2_89 : DC mJ4_init_2 89 = .ok (.iconst 1, 1) := dk_4 (dk_at dksJ4_init_2_3 17 rfl rfl)
theorem dJ4_init_2_90 : DC mJ4_init_2 90 = .ok (.ishl, 1) := dk_120 (dk_at dksJ4_init_2_3 18 rfl rfl)
theorem dJ4_init_2_91 : DC mJ4_init_2 91 = .ok (.invokestatic 54, 3) := dk_184 0 54 (dk_at dksJ4_init_2_3 19 rfl rfl)
theorem dJ4_init_2_94 : DC mJ4_init_2 94 = .ok (.putfield 9, 3) := dk_181 0 9 (dk_at dksJ4_init_2_4 0 rfl rfl)
theorem dJ4_init_2_97 : DC mJ4_init_2 97 = .ok (.return_, 1) := dk_177 (dk_at dksJ4_init_2_4 3 rfl rfl)
abbrev cJ4_hashCode : ByteArray := prog_34_method_78_code
def yJ4_hashCode : MethodName := ⟨RJ4, "hashCode", "()I"⟩
def mJ4_hashCode : MI := (⟨"java/lang/String", "hashCode", "()I"⟩, prog_34_method_78_code, 2, (Option.some FieldType.int), none, 4, 13)
theorem oJ4_hashCode : mO mJ4_hashCode = 4 := rfl
theorem lJ4_hashCode : mL mJ4_hashCode = 2 := rfl
theorem rJ4_hashCode : mR mJ4_hashCode = (Option.some FieldType.int) := rfl
theorem vJ4_hashCode : mV mJ4_hashCode = 13 := rfl
theorem nJ4_hashCode : (mY mJ4_hashCode).name = "hashCode" := rfl
theorem hJ4_hashCode : mH mJ4_hashCode = none := rfl
theorem kJ4_hashCode : MOk mJ4_hashCode := ⟨q1254, q80, by decide +kernel⟩
theorem gJ4_hashCode : plainName (mY mJ4_hashCode).cls = true ∧ (mY mJ4_hashCode).cls = "java/lang/String" := ⟨by decide +kernel, rfl⟩
def dkwJ4_hashCode_2 : List UInt8 := [181, 0, 23, 167, 0, 8, 42, 27, 181, 0, 19, 27, 172]
abbrev dktJ4_hashCode_2 : List UInt8 := dkwJ4_hashCode_2 ++ []
def dkwJ4_hashCode_1 : List UInt8 := [180, 0, 9, 184, 2, 116, 167, 0, 10, 42, 180, 0, 9, 184, 2, 120, 60, 27, 154, 0, 11, 42, 4]
abbrev dktJ4_hashCode_1 : List UInt8 := dkwJ4_hashCode_1 ++ dktJ4_hashCode_2
def dkwJ4_hashCode_0 : List UInt8 := [42, 180, 0, 19, 60, 27, 154, 0, 52, 42, 180, 0, 23, 154, 0, 45, 42, 182, 1, 236, 153, 0, 13, 42]
abbrev dktJ4_hashCode_0 : List UInt8 := dkwJ4_hashCode_0 ++ dktJ4_hashCode_1
theorem dksJ4_hashCode_0 : cJ4_hashCode.data.toList.drop 0 = dktJ4_hashCode_0 := by decide +kernel
theorem dksJ4_hashCode_1 : cJ4_hashCode.data.toList.drop 24 = dktJ4_hashCode_1 := dk_seg dksJ4_hashCode_0 24 rfl rfl
theorem dksJ4_hashCode_2 : cJ4_hashCode.data.toList.drop 47 = dktJ4_hashCode_2 := dk_seg dksJ4_hashCode_1 23 rfl rfl
theorem dJ4_hashCode_0 : DC mJ4_hashCode 0 = .ok (.aload_n 0, 1) := dk_42 (dk_at dksJ4_hashCode_0 0 rfl rfl)
theorem dJ4_hashCode_1 : DC mJ4_hashCode 1 = .ok (.getfield 19, 3) := dk_180 0 19 (dk_at dksJ4_hashCode_0 1 rfl rfl)
theorem dJ4_hashCode_4 : DC mJ4_hashCode 4 = .ok (.istore_n 1, 1) := dk_60 (dk_at dksJ4_hashCode_0 4 rfl rfl)
theorem dJ4_hashCode_5 : DC mJ4_hashCode 5 = .ok (.iload_n 1, 1) := dk_27 (dk_at dksJ4_hashCode_0 5 rfl rfl)
theorem dJ4_hashCode_6 : DC mJ4_hashCode 6 = .ok (.ifCond .ne 52, 3) := dk_154 0 52 (dk_at dksJ4_hashCode_0 6 rfl rfl)
theorem dJ4_hashCode_9 : DC mJ4_hashCode 9 = .ok (.aload_n 0, 1) := dk_42 (dk_at dksJ4_hashCode_0 9 rfl rfl)
theorem dJ4_hashCode_10 : DC mJ4_hashCode 10 = .ok (.getfield 23, 3) := dk_180 0 23 (dk_at dksJ4_hashCode_0 10 rfl rfl)
theorem dJ4_hashCode_13 : DC mJ4_hashCode 13 = .ok (.ifCond .ne 45, 3) := dk_154 0 45 (dk_at dksJ4_hashCode_0 13 rfl rfl)
theorem dJ4_hashCode_16 : DC mJ4_hashCode 16 = .ok (.aload_n 0, 1) := dk_42 (dk_at dksJ4_hashCode_0 16 rfl rfl)
theorem dJ4_hashCode_17 : DC mJ4_hashCode 17 = .ok (.invokevirtual 492, 3) := dk_182 1 236 (dk_at dksJ4_hashCode_0 17 rfl rfl)
theorem dJ4_hashCode_20 : DC mJ4_hashCode 20 = .ok (.ifCond .eq 13, 3) := dk_153 0 13 (dk_at dksJ4_hashCode_0 20 rfl rfl)
theorem dJ4_hashCode_23 : DC mJ4_hashCode 23 = .ok (.aload_n 0, 1) := dk_42 (dk_at dksJ4_hashCode_0 23 rfl rfl)
theorem dJ4_hashCode_24 : DC mJ4_hashCode 24 = .ok (.getfield 9, 3) := dk_180 0 9 (dk_at dksJ4_hashCode_1 0 rfl rfl)
theorem dJ4_hashCode_27 : DC mJ4_hashCode 27 = .ok (.invokestatic 628, 3) := dk_184 2 116 (dk_at dksJ4_hashCode_1 3 rfl rfl)
theorem dJ4_hashCode_30 : DC mJ4_hashCode 30 = .ok (.goto 10, 3) := dk_167 0 10 (dk_at dksJ4_hashCode_1 6 rfl rfl)
theorem dJ4_hashCode_33 : DC mJ4_hashCode 33 = .ok (.aload_n 0, 1) := dk_42 (dk_at dksJ4_hashCode_1 9 rfl rfl)
theorem dJ4_hashCode_34 : DC mJ4_hashCode 34 = .ok (.getfield 9, 3) := dk_180 0 9 (dk_at dksJ4_hashCode_1 10 rfl rfl)
theorem dJ4_hashCode_37 : DC mJ4_hashCode 37 = .ok (.invokestatic 632, 3) := dk_184 2 120 (dk_at dksJ4_hashCode_1 13 rfl rfl)
theorem dJ4_hashCode_40 : DC mJ4_hashCode 40 = .ok (.istore_n 1, 1) := dk_60 (dk_at dksJ4_hashCode_1 16 rfl rfl)
theorem dJ4_hashCode_41 : DC mJ4_hashCode 41 = .ok (.iload_n 1, 1) := dk_27 (dk_at dksJ4_hashCode_1 17 rfl rfl)
theorem dJ4_hashCode_42 : DC mJ4_hashCode 42 = .ok (.ifCond .ne 11, 3) := dk_154 0 11 (dk_at dksJ4_hashCode_1 18 rfl rfl)
theorem dJ4_hashCode_45 : DC mJ4_hashCode 45 = .ok (.aload_n 0, 1) := dk_42 (dk_at dksJ4_hashCode_1 21 rfl rfl)
theorem dJ4_hashCode_46 : DC mJ4_hashCode 46 = .ok (.iconst 1, 1) := dk_4 (dk_at dksJ4_hashCode_1 22 rfl rfl)
theorem dJ4_hashCode_47 : DC mJ4_hashCode 47 = .ok (.putfield 23, 3) := dk_181 0 23 (dk_at dksJ4_hashCode_2 0 rfl rfl)
theorem dJ4_hashCode_50 : DC mJ4_hashCode 50 = .ok (.goto 8, 3) := dk_167 0 8 (dk_at dksJ4_hashCode_2 3 rfl rfl)
theorem dJ4_hashCode_53 : DC mJ4_hashCode 53 = .ok (.aload_n 0, 1) := dk_42 (dk_at dksJ4_hashCode_2 6 rfl rfl)
theorem dJ4_hashCode_54 : DC mJ4_hashCode 54 = .ok (.iload_n 1, 1) := dk_27 (dk_at dksJ4_hashCode_2 7 rfl rfl)
theorem dJ4_hashCode_55 : DC mJ4_hashCode 55 = .ok (.putfield 19, 3) := dk_181 0 19 (dk_at dksJ4_hashCode_2 8 rfl rfl)
theorem dJ4_hashCode_58 : DC mJ4_hashCode 58 = .ok (.iload_n 1, 1) := dk_27 (dk_at dksJ4_hashCode_2 11 rfl rfl)
theorem dJ4_hashCode_59 : DC mJ4_hashCode 59 = .ok (.ireturn, 1) := dk_172 (dk_at dksJ4_hashCode_2 12 rfl rfl)
abbrev cJ4_isLatin1 : ByteArray := prog_34_method_154_code
def yJ4_isLatin1 : MethodName := ⟨RJ4, "isLatin1", "()Z"⟩
def mJ4_isLatin1 : MI := (⟨"java/lang/String", "isLatin1", "()Z"⟩, prog_34_method_154_code, 1, (Option.some FieldType.boolean), none, 4, 1)
theorem oJ4_isLatin1 : mO mJ4_isLatin1 = 4 := rfl
theorem lJ4_isLatin1 : mL mJ4_isLatin1 = 1 := rfl
theorem rJ4_isLatin1 : mR mJ4_isLatin1 = (Option.some FieldType.boolean) := rfl
theorem vJ4_isLatin1 : mV mJ4_isLatin1 = 1 := rfl
theorem nJ4_isLatin1 : (mY mJ4_isLatin1).name = "isLatin1" := rfl
theorem hJ4_isLatin1 : mH mJ4_isLatin1 = none := rfl
theorem kJ4_isLatin1 : MOk mJ4_isLatin1 := ⟨q1258, q80, by decide +kernel⟩
theorem gJ4_isLatin1 : plainName (mY mJ4_isLatin1).cls = true ∧ (mY mJ4_isLatin1).cls = "java/lang/String" := ⟨by decide +kernel, rfl⟩
def dkwJ4_isLatin1_0 : List UInt8 := [178, 0, 38, 153, 0, 14, 42, 180, 0, 15, 154, 0, 7, 4, 167, 0, 4, 3, 172]
abbrev dktJ4_isLatin1_0 : List UInt8 := dkwJ4_isLatin1_0 ++ []
theorem dksJ4_isLatin1_0 : cJ4_isLatin1.data.toList.drop 0 = dktJ4_isLatin1_0 := by decide +kernel
theorem dJ4_isLatin1_0 : DC mJ4_isLatin1 0 = .ok (.getstatic 38, 3) := dk_178 0 38 (dk_at dksJ4_isLatin1_0 0 rfl rfl)
theorem dJ4_isLatin1_3 : DC mJ4_isLatin1 3 = .ok (.ifCond .eq 14, 3) := dk_153 0 14 (dk_at dksJ4_isLatin1_0 3 rfl rfl)
theorem dJ4_isLatin1_6 : DC mJ4_isLatin1 6 = .ok (.aload_n 0, 1) := dk_42 (dk_at dksJ4_isLatin1_0 6 rfl rfl)
theorem dJ4_isLatin1_7 : DC mJ4_isLatin1 7 = .ok (.getfield 15, 3) := dk_180 0 15 (dk_at dksJ4_isLatin1_0 7 rfl rfl)
theorem dJ4_isLatin1_10 : DC mJ4_isLatin1 10 = .ok (.ifCond .ne 7, 3) := dk_154 0 7 (dk_at dksJ4_isLatin1_0 10 rfl rfl)
theorem dJ4_isLatin1_13 : DC mJ4_isLatin1 13 = .ok (.iconst 1, 1) := dk_4 (dk_at dksJ4_isLatin1_0 13 rfl rfl)
theorem dJ4_isLatin1_14 : DC mJ4_isLatin1 14 = .ok (.goto 4, 3) := dk_167 0 4 (dk_at dksJ4_isLatin1_0 14 rfl rfl)
theorem dJ4_isLatin1_17 : DC mJ4_isLatin1 17 = .ok (.iconst 0, 1) := dk_3 (dk_at dksJ4_isLatin1_0 17 rfl rfl)
theorem dJ4_isLatin1_18 : DC mJ4_isLatin1 18 = .ok (.ireturn, 1) := dk_172 (dk_at dksJ4_isLatin1_0 18 rfl rfl)
abbrev cJ4_equals : ByteArray := prog_34_method_66_code
def yJ4_equals : MethodName := ⟨RJ4, "equals", "(Ljava/lang/Object;)Z"⟩
def mJ4_equals : MI := (⟨"java/lang/String", "equals", "(Ljava/lang/Object;)Z"⟩, prog_34_method_66_code, 3, (Option.some FieldType.boolean), none, 4, 2)
theorem oJ4_equals : mO mJ4_equals = 4 := rfl
theorem lJ4_equals : mL mJ4_equals = 3 := rfl
theorem rJ4_equals : mR mJ4_equals = (Option.some FieldType.boolean) := rfl
theorem vJ4_equals : mV mJ4_equals = 2 := rfl
theorem nJ4_equals : (mY mJ4_equals).name = "equals" := rfl
theorem hJ4_equals : mH mJ4_equals = none := rfl
theorem kJ4_equals : MOk mJ4_equals := ⟨q1316, q80, by decide +kernel⟩
theorem gJ4_equals : plainName (mY mJ4_equals).cls = true ∧ (mY mJ4_equals).cls = "java/lang/String" := ⟨by decide +kernel, rfl⟩
def dkwJ4_equals_2 : List UInt8 := [184, 2, 29, 153, 0, 7, 4, 167, 0, 4, 3, 172]
abbrev dktJ4_equals_2 : List UInt8 := dkwJ4_equals_2 ++ []
def dkwJ4_equals_1 : List UInt8 := [153, 0, 14, 42, 180, 0, 15, 44, 180, 0, 15, 160, 0, 21, 42, 180, 0, 9, 44, 180, 0, 9]
abbrev dktJ4_equals_1 : List UInt8 := dkwJ4_equals_1 ++ dktJ4_equals_2
def dkwJ4_equals_0 : List UInt8 := [42, 43, 166, 0, 5, 4, 172, 43, 193, 0, 10, 153, 0, 43, 43, 192, 0, 10, 77, 178, 0, 38]
abbrev dktJ4_equals_0 : List UInt8 := dkwJ4_equals_0 ++ dktJ4_equals_1
theorem dksJ4_equals_0 : cJ4_equals.data.toList.drop 0 = dktJ4_equals_0 := by decide +kernel
theorem dksJ4_equals_1 : cJ4_equals.data.toList.drop 22 = dktJ4_equals_1 := dk_seg dksJ4_equals_0 22 rfl rfl
theorem dksJ4_equals_2 : cJ4_equals.data.toList.drop 44 = dktJ4_equals_2 := dk_seg dksJ4_equals_1 22 rfl rfl
theorem dJ4_equals_0 : DC mJ4_equals 0 = .ok (.aload_n 0, 1) := dk_42 (dk_at dksJ4_equals_0 0 rfl rfl)
theorem dJ4_equals_1 : DC mJ4_equals 1 = .ok (.aload_n 1, 1) := dk_43 (dk_at dksJ4_equals_0 1 rfl rfl)
theorem dJ4_equals_2 : DC mJ4_equals 2 = .ok (.if_acmp .ne 5, 3) := dk_166 0 5 (dk_at dksJ4_equals_0 2 rfl rfl)
theorem dJ4_equals_5 : DC mJ4_equals 5 = .ok (.iconst 1, 1) := dk_4 (dk_at dksJ4_equals_0 5 rfl rfl)
theorem dJ4_equals_6 : DC mJ4_equals 6 = .ok (.ireturn, 1) := dk_172 (dk_at dksJ4_equals_0 6 rfl rfl)
theorem dJ4_equals_7 : DC mJ4_equals 7 = .ok (.aload_n 1, 1) := dk_43 (dk_at dksJ4_equals_0 7 rfl rfl)
theorem dJ4_equals_8 : DC mJ4_equals 8 = .ok (.instanceof 10, 3) := dk_193 0 10 (dk_at dksJ4_equals_0 8 rfl rfl)
theorem dJ4_equals_11 : DC mJ4_equals 11 = .ok (.ifCond .eq 43, 3) := dk_153 0 43 (dk_at dksJ4_equals_0 11 rfl rfl)
theorem dJ4_equals_14 : DC mJ4_equals 14 = .ok (.aload_n 1, 1) := dk_43 (dk_at dksJ4_equals_0 14 rfl rfl)
theorem dJ4_equals_15 : DC mJ4_equals 15 = .ok (.checkcast 10, 3) := dk_192 0 10 (dk_at dksJ4_equals_0 15 rfl rfl)
theorem dJ4_equals_18 : DC mJ4_equals 18 = .ok (.astore_n 2, 1) := dk_77 (dk_at dksJ4_equals_0 18 rfl rfl)
theorem dJ4_equals_19 : DC mJ4_equals 19 = .ok (.getstatic 38, 3) := dk_178 0 38 (dk_at dksJ4_equals_0 19 rfl rfl)
theorem dJ4_equals_22 : DC mJ4_equals 22 = .ok (.ifCond .eq 14, 3) := dk_153 0 14 (dk_at dksJ4_equals_1 0 rfl rfl)
theorem dJ4_equals_25 : DC mJ4_equals 25 = .ok (.aload_n 0, 1) := dk_42 (dk_at dksJ4_equals_1 3 rfl rfl)
theorem dJ4_equals_26 : DC mJ4_equals 26 = .ok (.getfield 15, 3) := dk_180 0 15 (dk_at dksJ4_equals_1 4 rfl rfl)
theorem dJ4_equals_29 : DC mJ4_equals 29 = .ok (.aload_n 2, 1) := dk_44 (dk_at dksJ4_equals_1 7 rfl rfl)
theorem dJ4_equals_30 : DC mJ4_equals 30 = .ok (.getfield 15, 3) := dk_180 0 15 (dk_at dksJ4_equals_1 8 rfl rfl)
theorem dJ4_equals_33 : DC mJ4_equals 33 = .ok (.if_icmp .ne 21, 3) := dk_160 0 21 (dk_at dksJ4_equals_1 11 rfl rfl)
theorem dJ4_equals_36 : DC mJ4_equals 36 = .ok (.aload_n 0, 1) := dk_42 (dk_at dksJ4_equals_1 14 rfl rfl)
theorem dJ4_equals_37 : DC mJ4_equals 37 = .ok (.getfield 9, 3) := dk_180 0 9 (dk_at dksJ4_equals_1 15 rfl rfl)
theorem dJ4_equals_40 : DC mJ4_equals 40 = .ok (.aload_n 2, 1) := dk_44 (dk_at dksJ4_equals_1 18 rfl rfl)
theorem dJ4_equals_41 : DC mJ4_equals 41 = .ok (.getfield 9, 3) := dk_180 0 9 (dk_at dksJ4_equals_1 19 rfl rfl)
theorem dJ4_equals_44 : DC mJ4_equals 44 = .ok (.invokestatic 541, 3) := dk_184 2 29 (dk_at dksJ4_equals_2 0 rfl rfl)
theorem dJ4_equals_47 : DC mJ4_equals 47 = .ok (.ifCond .eq 7, 3) := dk_153 0 7 (dk_at dksJ4_equals_2 3 rfl rfl)
theorem dJ4_equals_50 : DC mJ4_equals 50 = .ok (.iconst 1, 1) := dk_4 (dk_at dksJ4_equals_2 6 rfl rfl)
theorem dJ4_equals_51 : DC mJ4_equals 51 = .ok (.goto 4, 3) := dk_167 0 4 (dk_at dksJ4_equals_2 7 rfl rfl)
theorem dJ4_equals_54 : DC mJ4_equals 54 = .ok (.iconst 0, 1) := dk_3 (dk_at dksJ4_equals_2 10 rfl rfl)
theorem dJ4_equals_55 : DC mJ4_equals 55 = .ok (.ireturn, 1) := dk_172 (dk_at dksJ4_equals_2 11 rfl rfl)
abbrev cJ4_charAt : ByteArray := prog_34_method_56_code
def yJ4_charAt : MethodName := ⟨RJ4, "charAt", "(I)C"⟩
def mJ4_charAt : MI := (⟨"java/lang/String", "charAt", "(I)C"⟩, prog_34_method_56_code, 2, (Option.some FieldType.char), none, 4, 5)
theorem oJ4_charAt : mO mJ4_charAt = 4 := rfl
theorem lJ4_charAt : mL mJ4_charAt = 2 := rfl
theorem rJ4_charAt : mR mJ4_charAt = (Option.some FieldType.char) := rfl
theorem vJ4_charAt : mV mJ4_charAt = 5 := rfl
theorem nJ4_charAt : (mY mJ4_charAt).name = "charAt" := rfl
theorem hJ4_charAt : mH mJ4_charAt = none := rfl
theorem kJ4_charAt : MOk mJ4_charAt := ⟨q1972, q80, by decide +kernel⟩
theorem gJ4_charAt : plainName (mY mJ4_charAt).cls = true ∧ (mY mJ4_charAt).cls = "java/lang/String" := ⟨by decide +kernel, rfl⟩
def dkwJ4_charAt_1 : List UInt8 := [172]
abbrev dktJ4_charAt_1 : List UInt8 := dkwJ4_charAt_1 ++ []
def dkwJ4_charAt_0 : List UInt8 := [42, 182, 1, 236, 153, 0, 12, 42, 180, 0, 9, 27, 184, 1, 239, 172, 42, 180, 0, 9, 27, 184, 1, 242]
abbrev dktJ4_charAt_0 : List UInt8 := dkwJ4_charAt_0 ++ dktJ4_charAt_1
theorem dksJ4_charAt_0 : cJ4_charAt.data.toList.drop 0 = dktJ4_charAt_0 := by decide +kernel
theorem dksJ4_charAt_1 : cJ4_charAt.data.toList.drop 24 = dktJ4_charAt_1 := dk_seg dksJ4_charAt_0 24 rfl rfl
theorem dJ4_charAt_0 : DC mJ4_charAt 0 = .ok (.aload_n 0, 1) := dk_42 (dk_at dksJ4_charAt_0 0 rfl rfl)
theorem dJ4_charAt_1 : DC mJ4_charAt 1 = .ok (.invokevirtual 492, 3) := dk_182 1 236 (dk_at dksJ4_charAt_0 1 rfl rfl)
theorem dJ4_charAt_4 : DC mJ4_charAt 4 = .ok (.ifCond .eq 12, 3) := dk_153 0 12 (dk_at dksJ4_charAt_0 4 rfl rfl)
theorem dJ4_charAt_7 : DC mJ4_charAt 7 = .ok (.aload_n 0, 1) := dk_42 (dk_at dksJ4_charAt_0 7 rfl rfl)
theorem dJ4_charAt_8 : DC mJ4_charAt 8 = .ok (.getfield 9, 3) := dk_180 0 9 (dk_at dksJ4_charAt_0 8 rfl rfl)
theorem dJ4_charAt_11 : DC mJ4_charAt 11 = .ok (.iload_n 1, 1) := dk_27 (dk_at dksJ4_charAt_0 11 rfl rfl)
theorem dJ4_charAt_12 : DC mJ4_charAt 12 = .ok (.invokestatic 495, 3) := dk_184 1 239 (dk_at dksJ4_charAt_0 12 rfl rfl)
theorem dJ4_charAt_15 : DC mJ4_charAt 15 = .ok (.ireturn, 1) := dk_172 (dk_at dksJ4_charAt_0 15 rfl rfl)
theorem dJ4_charAt_16 : DC mJ4_charAt 16 = .ok (.aload_n 0, 1) := dk_42 (dk_at dksJ4_charAt_0 16 rfl rfl)
theorem dJ4_charAt_17 : DC mJ4_charAt 17 = .ok (.getfield 9, 3) := dk_180 0 9 (dk_at dksJ4_charAt_0 17 rfl rfl)
theorem dJ4_charAt_20 : DC mJ4_charAt 20 = .ok (.iload_n 1, 1) := dk_27 (dk_at dksJ4_charAt_0 20 rfl rfl)
theorem dJ4_charAt_21 : DC mJ4_charAt 21 = .ok (.invokestatic 498, 3) := dk_184 1 242 (dk_at dksJ4_charAt_0 21 rfl rfl)
theorem dJ4_charAt_24 : DC mJ4_charAt 24 = .ok (.ireturn, 1) := dk_172 (dk_at dksJ4_charAt_1 0 rfl rfl)
abbrev cJ4_checkIndex : ByteArray := prog_34_method_155_code
def yJ4_checkIndex : MethodName := ⟨RJ4, "checkIndex", "(II)V"⟩
def mJ4_checkIndex : MI := (⟨"java/lang/String", "checkIndex", "(II)V"⟩, prog_34_method_155_code, 2, (Option.none : Option FieldType), none, 4, 2)
theorem oJ4_checkIndex : mO mJ4_checkIndex = 4 := rfl
theorem lJ4_checkIndex : mL mJ4_checkIndex = 2 := rfl
theorem rJ4_checkIndex : mR mJ4_checkIndex = (Option.none : Option FieldType) := rfl
theorem vJ4_checkIndex : mV mJ4_checkIndex = 2 := rfl
theorem nJ4_checkIndex : (mY mJ4_checkIndex).name = "checkIndex" := rfl
theorem hJ4_checkIndex : mH mJ4_checkIndex = none := rfl
theorem kJ4_checkIndex : MOk mJ4_checkIndex := ⟨q1978, q80, by decide +kernel⟩
theorem gJ4_checkIndex : plainName (mY mJ4_checkIndex).cls = true ∧ (mY mJ4_checkIndex).cls = "java/lang/String" := ⟨by decide +kernel, rfl⟩
def dkwJ4_checkIndex_0 : List UInt8 := [26, 27, 178, 4, 29, 184, 4, 35, 87, 177]
abbrev dktJ4_checkIndex_0 : List UInt8 := dkwJ4_checkIndex_0 ++ []
theorem dksJ4_checkIndex_0 : cJ4_checkIndex.data.toList.drop 0 = dktJ4_checkIndex_0 := by decide +kernel
theorem dJ4_checkIndex_0 : DC mJ4_checkIndex 0 = .ok (.iload_n 0, 1) := dk_26 (dk_at dksJ4_checkIndex_0 0 rfl rfl)
theorem dJ4_checkIndex_1 : DC mJ4_checkIndex 1 = .ok (.iload_n 1, 1) := dk_27 (dk_at dksJ4_checkIndex_0 1 rfl rfl)
theorem dJ4_checkIndex_2 : DC mJ4_checkIndex 2 = .ok (.getstatic 1053, 3) := dk_178 4 29 (dk_at dksJ4_checkIndex_0 2 rfl rfl)
theorem dJ4_checkIndex_5 : DC mJ4_checkIndex 5 = .ok (.invokestatic 1059, 3) := dk_184 4 35 (dk_at dksJ4_checkIndex_0 5 rfl rfl)
theorem dJ4_checkIndex_8 : DC mJ4_checkIndex 8 = .ok (.pop, 1) := dk_87 (dk_at dksJ4_checkIndex_0 8 rfl rfl)
theorem dJ4_checkIndex_9 : DC mJ4_checkIndex 9 = .ok (.return_, 1) := dk_177 (dk_at dksJ4_checkIndex_0 9 rfl rfl)
abbrev cJ4_contains : ByteArray := prog_34_method_97_code
def yJ4_contains : MethodName := ⟨RJ4, "contains", "(Ljava/lang/CharSequence;)Z"⟩
def mJ4_contains : MI := (⟨"java/lang/String", "contains", "(Ljava/lang/CharSequence;)Z"⟩, prog_34_method_97_code, 2, (Option.some FieldType.boolean), none, 4, 9)
theorem oJ4_contains : mO mJ4_contains = 4 := rfl
theorem lJ4_contains : mL mJ4_contains = 2 := rfl
theorem rJ4_contains : mR mJ4_contains = (Option.some FieldType.boolean) := rfl
theorem vJ4_contains : mV mJ4_contains = 9 := rfl
theorem nJ4_contains : (mY mJ4_contains).name = "contains" := rfl
theorem hJ4_contains : mH mJ4_contains = none := rfl
theorem kJ4_contains : MOk mJ4_contains := ⟨q2167, q80, by decide +kernel⟩
theorem gJ4_contains : plainName (mY mJ4_contains).cls = true ∧ (mY mJ4_contains).cls = "java/lang/String" := ⟨by decide +kernel, rfl⟩
def dkwJ4_contains_0 : List UInt8 := [42, 43, 185, 2, 198, 1, 0, 182, 2, 199, 155, 0, 7, 4, 167, 0, 4, 3, 172]
abbrev dktJ4_contains_0 : List UInt8 := dkwJ4_contains_0 ++ []
theorem dksJ4_contains_0 : cJ4_contains.data.toList.drop 0 = dktJ4_contains_0 := by decide +kernel
theorem dJ4_contains_0 : DC mJ4_contains 0 = .ok (.aload_n 0, 1) := dk_42 (dk_at dksJ4_contains_0 0 rfl rfl)
theorem dJ4_contains_1 : DC mJ4_contains 1 = .ok (.aload_n 1, 1) := dk_43 (dk_at dksJ4_contains_0 1 rfl rfl)
theorem dJ4_contains_2 : DC mJ4_contains 2 = .ok (.invokeinterface 710 1, 5) := by decide +kernel
theorem dJ4_contains_7 : DC mJ4_contains 7 = .ok (.invokevirtual 711, 3) := dk_182 2 199 (dk_at dksJ4_contains_0 7 rfl rfl)
theorem dJ4_contains_10 : DC mJ4_contains 10 = .ok (.ifCond .lt 7, 3) := dk_155 0 7 (dk_at dksJ4_contains_0 10 rfl rfl)
theorem dJ4_contains_13 : DC mJ4_contains 13 = .ok (.iconst 1, 1) := dk_4 (dk_at dksJ4_contains_0 13 rfl rfl)
theorem dJ4_contains_14 : DC mJ4_contains 14 = .ok (.goto 4, 3) := dk_167 0 4 (dk_at dksJ4_contains_0 14 rfl rfl)
theorem dJ4_contains_17 : DC mJ4_contains 17 = .ok (.iconst 0, 1) := dk_3 (dk_at dksJ4_contains_0 17 rfl rfl)
theorem dJ4_contains_18 : DC mJ4_contains 18 = .ok (.ireturn, 1) := dk_172 (dk_at dksJ4_contains_0 18 rfl rfl)
abbrev cJ4_toString : ByteArray := prog_34_method_126_code
def yJ4_toString : MethodName := ⟨RJ4, "toString", "()Ljava/lang/String;"⟩
def mJ4_toString : MI := (⟨"java/lang/String", "toString", "()Ljava/lang/String;"⟩, prog_34_method_126_code, 1, (Option.some (FieldType.object "java/lang/String")), none, 4, 1)
theorem oJ4_toString : mO mJ4_toString = 4 := rfl
theorem lJ4_toString : mL mJ4_toString = 1 := rfl
theorem rJ4_toString : mR mJ4_toString = (Option.some (FieldType.object "java/lang/String")) := rfl
theorem vJ4_toString : mV mJ4_toString = 1 := rfl
theorem nJ4_toString : (mY mJ4_toString).name = "toString" := rfl
theorem hJ4_toString : mH mJ4_toString = none := rfl
theorem kJ4_toString : MOk mJ4_toString := ⟨q2176, q80, by decide +kernel⟩
theorem gJ4_toString : plainName (mY mJ4_toString).cls = true ∧ (mY mJ4_toString).cls = "java/lang/String" := ⟨by decide +kernel, rfl⟩
theorem dJ4_toString_0 : DC mJ4_toString 0 = .ok (.aload_n 0, 1) := by decide +kernel
theorem dJ4_toString_1 : DC mJ4_toString 1 = .ok (.areturn, 1) := by decide +kernel
abbrev cJ4_indexOf : ByteArray := prog_34_method_84_code
def yJ4_indexOf : MethodName := ⟨RJ4, "indexOf", "(Ljava/lang/String;)I"⟩
def mJ4_indexOf : MI := (⟨"java/lang/String", "indexOf", "(Ljava/lang/String;)I"⟩, prog_34_method_84_code, 3, (Option.some FieldType.int), none, 4, 5)
theorem oJ4_indexOf : mO mJ4_indexOf = 4 := rfl
theorem lJ4_indexOf : mL mJ4_indexOf = 3 := rfl
theorem rJ4_indexOf : mR mJ4_indexOf = (Option.some FieldType.int) := rfl
theorem vJ4_indexOf : mV mJ4_indexOf = 5 := rfl
theorem nJ4_indexOf : (mY mJ4_indexOf).name = "indexOf" := rfl
theorem hJ4_indexOf : mH mJ4_indexOf = none := rfl
theorem kJ4_indexOf : MOk mJ4_indexOf := ⟨q2183, q80, by decide +kernel⟩
theorem gJ4_indexOf : plainName (mY mJ4_indexOf).cls = true ∧ (mY mJ4_indexOf).cls = "java/lang/String" := ⟨by decide +kernel, rfl⟩
def dkwJ4_indexOf_2 : List UInt8 := [154, 0, 5, 2, 172, 42, 180, 0, 9, 43, 180, 0, 9, 184, 2, 138, 172]
abbrev dktJ4_indexOf_2 : List UInt8 := dkwJ4_indexOf_2 ++ []
def dkwJ4_indexOf_1 : List UInt8 := [43, 180, 0, 9, 184, 2, 135, 167, 0, 14, 42, 180, 0, 9, 43, 180, 0, 9, 184, 2, 137, 172, 28]
abbrev dktJ4_indexOf_1 : List UInt8 := dkwJ4_indexOf_1 ++ dktJ4_indexOf_2
def dkwJ4_indexOf_0 : List UInt8 := [42, 182, 1, 79, 61, 28, 43, 182, 1, 79, 160, 0, 36, 42, 182, 1, 236, 153, 0, 17, 42, 180, 0, 9]
abbrev dktJ4_indexOf_0 : List UInt8 := dkwJ4_indexOf_0 ++ dktJ4_indexOf_1
theorem dksJ4_indexOf_0 : cJ4_indexOf.data.toList.drop 0 = dktJ4_indexOf_0 := by decide +kernel
theorem dksJ4_indexOf_1 : cJ4_indexOf.data.toList.drop 24 = dktJ4_indexOf_1 := dk_seg dksJ4_indexOf_0 24 rfl rfl
theorem dksJ4_indexOf_2 : cJ4_indexOf.data.toList.drop 47 = dktJ4_indexOf_2 := dk_seg dksJ4_indexOf_1 23 rfl rfl
theorem dJ4_indexOf_0 : DC mJ4_indexOf 0 = .ok (.aload_n 0, 1) := dk_42 (dk_at dksJ4_indexOf_0 0 rfl rfl)
theorem dJ4_indexOf_1 : DC mJ4_indexOf 1 = .ok (.invokevirtual 335, 3) := dk_182 1 79 (dk_at dksJ4_indexOf_0 1 rfl rfl)
theorem dJ4_indexOf_4 : DC mJ4_indexOf 4 = .ok (.istore_n 2, 1) := dk_61 (dk_at dksJ4_indexOf_0 4 rfl rfl)
theorem dJ4_indexOf_5 : DC mJ4_indexOf 5 = .ok (.iload_n 2, 1) := dk_28 (dk_at dksJ4_indexOf_0 5 rfl rfl)
theorem dJ4_indexOf_6 : DC mJ4_indexOf 6 = .ok (.aload_n 1, 1) := dk_43 (dk_at dksJ4_indexOf_0 6 rfl rfl)
theorem dJ4_indexOf_7 : DC mJ4_indexOf 7 = .ok (.invokevirtual 335, 3) := dk_182 1 79 (dk_at dksJ4_indexOf_0 7 rfl rfl)
theorem dJ4_indexOf_10 : DC mJ4_indexOf 10 = .ok (.if_icmp .ne 36, 3) := dk_160 0 36 (dk_at dksJ4_indexOf_0 10 rfl rfl)
theorem dJ4_indexOf_13 : DC mJ4_indexOf 13 = .ok (.aload_n 0, 1) := dk_42 (dk_at dksJ4_indexOf_0 13 rfl rfl)
theorem dJ4_indexOf_14 : DC mJ4_indexOf 14 = .ok (.invokevirtual 492, 3) := dk_182 1 236 (dk_at dksJ4_indexOf_0 14 rfl rfl)
theorem dJ4_indexOf_17 : DC mJ4_indexOf 17 = .ok (.ifCond .eq 17, 3) := dk_153 0 17 (dk_at dksJ4_indexOf_0 17 rfl rfl)
theorem dJ4_indexOf_20 : DC mJ4_indexOf 20 = .ok (.aload_n 0, 1) := dk_42 (dk_at dksJ4_indexOf_0 20 rfl rfl)
theorem dJ4_indexOf_21 : DC mJ4_indexOf 21 = .ok (.getfield 9, 3) := dk_180 0 9 (dk_at dksJ4_indexOf_0 21 rfl rfl)
theorem dJ4_indexOf_24 : DC mJ4_indexOf 24 = .ok (.aload_n 1, 1) := dk_43 (dk_at dksJ4_indexOf_1 0 rfl rfl)
theorem dJ4_indexOf_25 : DC mJ4_indexOf 25 = .ok (.getfield 9, 3) := dk_180 0 9 (dk_at dksJ4_indexOf_1 1 rfl rfl)
theorem dJ4_indexOf_28 : DC mJ4_indexOf 28 = .ok (.invokestatic 647, 3) := dk_184 2 135 (dk_at dksJ4_indexOf_1 4 rfl rfl)
theorem dJ4_indexOf_31 : DC mJ4_indexOf 31 = .ok (.goto 14, 3) := dk_167 0 14 (dk_at dksJ4_indexOf_1 7 rfl rfl)
theorem dJ4_indexOf_34 : DC mJ4_indexOf 34 = .ok (.aload_n 0, 1) := dk_42 (dk_at dksJ4_indexOf_1 10 rfl rfl)
theorem dJ4_indexOf_35 : DC mJ4_indexOf 35 = .ok (.getfield 9, 3) := dk_180 0 9 (dk_at dksJ4_indexOf_1 11 rfl rfl)
theorem dJ4_indexOf_38 : DC mJ4_indexOf 38 = .ok (.aload_n 1, 1) := dk_43 (dk_at dksJ4_indexOf_1 14 rfl rfl)
theorem dJ4_indexOf_39 : DC mJ4_indexOf 39 = .ok (.getfield 9, 3) := dk_180 0 9 (dk_at dksJ4_indexOf_1 15 rfl rfl)
theorem dJ4_indexOf_42 : DC mJ4_indexOf 42 = .ok (.invokestatic 649, 3) := dk_184 2 137 (dk_at dksJ4_indexOf_1 18 rfl rfl)
theorem dJ4_indexOf_45 : DC mJ4_indexOf 45 = .ok (.ireturn, 1) := dk_172 (dk_at dksJ4_indexOf_1 21 rfl rfl)
theorem dJ4_indexOf_46 : DC mJ4_indexOf 46 = .ok (.iload_n 2, 1) := dk_28 (dk_at dksJ4_indexOf_1 22 rfl rfl)
theorem dJ4_indexOf_47 : DC mJ4_indexOf 47 = .ok (.ifCond .ne 5, 3) := dk_154 0 5 (dk_at dksJ4_indexOf_2 0 rfl rfl)
theorem dJ4_indexOf_50 : DC mJ4_indexOf 50 = .ok (.iconst (-1), 1) := dk_2 (dk_at dksJ4_indexOf_2 3 rfl rfl)
theorem dJ4_indexOf_51 : DC mJ4_indexOf 51 = .ok (.ireturn, 1) := dk_172 (dk_at dksJ4_indexOf_2 4 rfl rfl)
theorem dJ4_indexOf_52 : DC mJ4_indexOf 52 = .ok (.aload_n 0, 1) := dk_42 (dk_at dksJ4_indexOf_2 5 rfl rfl)
theorem dJ4_indexOf_53 : DC mJ4_indexOf 53 = .ok (.getfield 9, 3) := dk_180 0 9 (dk_at dksJ4_indexOf_2 6 rfl rfl)
theorem dJ4_indexOf_56 : DC mJ4_indexOf 56 = .ok (.aload_n 1, 1) := dk_43 (dk_at dksJ4_indexOf_2 9 rfl rfl)
theorem dJ4_indexOf_57 : DC mJ4_indexOf 57 = .ok (.getfield 9, 3) := dk_180 0 9 (dk_at dksJ4_indexOf_2 10 rfl rfl)
theorem dJ4_indexOf_60 : DC mJ4_indexOf 60 = .ok (.invokestatic 650, 3) := dk_184 2 138 (dk_at dksJ4_indexOf_2 13 rfl rfl)
theorem dJ4_indexOf_63 : DC mJ4_indexOf 63 = .ok (.ireturn, 1) := dk_172 (dk_at dksJ4_indexOf_2 16 rfl rfl)
abbrev cJ4_substring : ByteArray := prog_34_method_91_code
def yJ4_substring : MethodName := ⟨RJ4, "substring", "(I)Ljava/lang/String;"⟩
def mJ4_substring : MI := (⟨"java/lang/String", "substring", "(I)Ljava/lang/String;"⟩, prog_34_method_91_code, 2, (Option.some (FieldType.object "java/lang/String")), none, 4, 8)
theorem oJ4_substring : mO mJ4_substring = 4 := rfl
theorem lJ4_substring : mL mJ4_substring = 2 := rfl
theorem rJ4_substring : mR mJ4_substring = (Option.some (FieldType.object "java/lang/String")) := rfl
theorem vJ4_substring : mV mJ4_substring = 8 := rfl
theorem nJ4_substring : (mY mJ4_substring).name = "substring" := rfl
theorem hJ4_substring : mH mJ4_substring = none := rfl
theorem kJ4_substring : MOk mJ4_substring := ⟨q2236, q80, by decide +kernel⟩
theorem gJ4_substring : plainName (mY mJ4_substring).cls = true ∧ (mY mJ4_substring).cls = "java/lang/String" := ⟨by decide +kernel, rfl⟩
def dkwJ4_substring_0 : List UInt8 := [42, 27, 42, 182, 1, 249, 182, 2, 169, 176]
abbrev dktJ4_substring_0 : List UInt8 := dkwJ4_substring_0 ++ []
theorem dksJ4_substring_0 : cJ4_substring.data.toList.drop 0 = dktJ4_substring_0 := by decide +kernel
theorem dJ4_substring_0 : DC mJ4_substring 0 = .ok (.aload_n 0, 1) := dk_42 (dk_at dksJ4_substring_0 0 rfl rfl)
theorem dJ4_substring_1 : DC mJ4_substring 1 = .ok (.iload_n 1, 1) := dk_27 (dk_at dksJ4_substring_0 1 rfl rfl)
theorem dJ4_substring_2 : DC mJ4_substring 2 = .ok (.aload_n 0, 1) := dk_42 (dk_at dksJ4_substring_0 2 rfl rfl)
theorem dJ4_substring_3 : DC mJ4_substring 3 = .ok (.invokevirtual 505, 3) := dk_182 1 249 (dk_at dksJ4_substring_0 3 rfl rfl)
theorem dJ4_substring_6 : DC mJ4_substring 6 = .ok (.invokevirtual 681, 3) := dk_182 2 169 (dk_at dksJ4_substring_0 6 rfl rfl)
theorem dJ4_substring_9 : DC mJ4_substring 9 = .ok (.areturn, 1) := dk_176 (dk_at dksJ4_substring_0 9 rfl rfl)
abbrev cJ4_substring_2 : ByteArray := prog_34_method_92_code
def yJ4_substring_2 : MethodName := ⟨RJ4, "substring", "(II)Ljava/lang/String;"⟩
def mJ4_substring_2 : MI := (⟨"java/lang/String", "substring", "(II)Ljava/lang/String;"⟩, prog_34_method_92_code, 5, (Option.some (FieldType.object "java/lang/String")), none, 4, 7)
theorem oJ4_substring_2 : mO mJ4_substring_2 = 4 := rfl
theorem lJ4_substring_2 : mL mJ4_substring_2 = 5 := rfl
theorem rJ4_substring_2 : mR mJ4_substring_2 = (Option.some (FieldType.object "java/lang/String")) := rfl
theorem vJ4_substring_2 : mV mJ4_substring_2 = 7 := rfl
theorem nJ4_substring_2 : (mY mJ4_substring_2).name = "substring" := rfl
theorem hJ4_substring_2 : mH mJ4_substring_2 = none := rfl
theorem kJ4_substring_2 : MOk mJ4_substring_2 := ⟨q2241, q80, by decide +kernel⟩
theorem gJ4_substring_2 : plainName (mY mJ4_substring_2).cls = true ∧ (mY mJ4_substring_2).cls = "java/lang/String" := ⟨by decide +kernel, rfl⟩
def dkwJ4_substring_2_2 : List UInt8 := [180, 0, 9, 27, 21, 4, 184, 2, 177, 176]
abbrev dktJ4_substring_2_2 : List UInt8 := dkwJ4_substring_2_2 ++ []
def dkwJ4_substring_2_1 : List UInt8 := [100, 54, 4, 42, 182, 1, 236, 153, 0, 16, 42, 180, 0, 9, 27, 21, 4, 184, 2, 173, 167, 0, 13, 42]
abbrev dktJ4_substring_2_1 : List UInt8 := dkwJ4_substring_2_1 ++ dktJ4_substring_2_2
def dkwJ4_substring_2_0 : List UInt8 := [42, 182, 1, 249, 62, 27, 28, 29, 184, 2, 9, 27, 154, 0, 10, 28, 29, 160, 0, 5, 42, 176, 28, 27]
abbrev dktJ4_substring_2_0 : List UInt8 := dkwJ4_substring_2_0 ++ dktJ4_substring_2_1
theorem dksJ4_substring_2_0 : cJ4_substring_2.data.toList.drop 0 = dktJ4_substring_2_0 := by decide +kernel
theorem dksJ4_substring_2_1 : cJ4_substring_2.data.toList.drop 24 = dktJ4_substring_2_1 := dk_seg dksJ4_substring_2_0 24 rfl rfl
theorem dksJ4_substring_2_2 : cJ4_substring_2.data.toList.drop 48 = dktJ4_substring_2_2 := dk_seg dksJ4_substring_2_1 24 rfl rfl
theorem dJ4_substring_2_0 : DC mJ4_substring_2 0 = .ok (.aload_n 0, 1) := dk_42 (dk_at dksJ4_substring_2_0 0 rfl rfl)
theorem dJ4_substring_2_1 : DC mJ4_substring_2 1 = .ok (.invokevirtual 505, 3) := dk_182 1 249 (dk_at dksJ4_substring_2_0 1 rfl rfl)
theorem dJ4_substring_2_4 : DC mJ4_substring_2 4 = .ok (.istore_n 3, 1) := dk_62 (dk_at dksJ4_substring_2_0 4 rfl rfl)
theorem dJ4_substring_2_5 : DC mJ4_substring_2 5 = .ok (.iload_n 1, 1) := dk_27 (dk_at dksJ4_substring_2_0 5 rfl rfl)
theorem dJ4_substring_2_6 : DC mJ4_substring_2 6 = .ok (.iload_n 2, 1) := dk_28 (dk_at dksJ4_substring_2_0 6 rfl rfl)
theorem dJ4_substring_2_7 : DC mJ4_substring_2 7 = .ok (.iload_n 3, 1) := dk_29 (dk_at dksJ4_substring_2_0 7 rfl rfl)
theorem dJ4_substring_2_8 : DC mJ4_substring_2 8 = .ok (.invokestatic 521, 3) := dk_184 2 9 (dk_at dksJ4_substring_2_0 8 rfl rfl)
theorem dJ4_substring_2_11 : DC mJ4_substring_2 11 = .ok (.iload_n 1, 1) := dk_27 (dk_at dksJ4_substring_2_0 11 rfl rfl)
theorem dJ4_substring_2_12 : DC mJ4_substring_2 12 = .ok (.ifCond .ne 10, 3) := dk_154 0 10 (dk_at dksJ4_substring_2_0 12 rfl rfl)
theorem dJ4_substring_2_15 : DC mJ4_substring_2 15 = .ok (.iload_n 2, 1) := dk_28 (dk_at dksJ4_substring_2_0 15 rfl rfl)
theorem dJ4_substring_2_16 : DC mJ4_substring_2 16 = .ok (.iload_n 3, 1) := dk_29 (dk_at dksJ4_substring_2_0 16 rfl rfl)
theorem dJ4_substring_2_17 : DC mJ4_substring_2 17 = .ok (.if_icmp .ne 5, 3) := dk_160 0 5 (dk_at dksJ4_substring_2_0 17 rfl rfl)
theorem dJ4_substring_2_20 : DC mJ4_substring_2 20 = .ok (.aload_n 0, 1) := dk_42 (dk_at dksJ4_substring_2_0 20 rfl rfl)
theorem dJ4_substring_2_21 : DC mJ4_substring_2 21 = .ok (.areturn, 1) := dk_176 (dk_at dksJ4_substring_2_0 21 rfl rfl)
theorem dJ4_substring_2_22 : DC mJ4_substring_2 22 = .ok (.iload_n 2, 1) := dk_28 (dk_at dksJ4_substring_2_0 22 rfl rfl)
theorem dJ4_substring_2_23 : DC mJ4_substring_2 23 = .ok (.iload_n 1, 1) := dk_27 (dk_at dksJ4_substring_2_0 23 rfl rfl)
theorem dJ4_substring_2_24 : DC mJ4_substring_2 24 = .ok (.isub, 1) := dk_100 (dk_at dksJ4_substring_2_1 0 rfl rfl)
theorem dJ4_substring_2_25 : DC mJ4_substring_2 25 = .ok (.istore 4, 2) := dk_54 4 (dk_at dksJ4_substring_2_1 1 rfl rfl)
theorem dJ4_substring_2_27 : DC mJ4_substring_2 27 = .ok (.aload_n 0, 1) := dk_42 (dk_at dksJ4_substring_2_1 3 rfl rfl)
theorem dJ4_substring_2_28 : DC mJ4_substring_2 28 = .ok (.invokevirtual 492, 3) := dk_182 1 236 (dk_at dksJ4_substring_2_1 4 rfl rfl)
theorem dJ4_substring_2_31 : DC mJ4_substring_2 31 = .ok (.ifCond .eq 16, 3) := dk_153 0 16 (dk_at dksJ4_substring_2_1 7 rfl rfl)
theorem dJ4_substring_2_34 : DC mJ4_substring_2 34 = .ok (.aload_n 0, 1) := dk_42 (dk_at dksJ4_substring_2_1 10 rfl rfl)
theorem dJ4_substring_2_35 : DC mJ4_substring_2 35 = .ok (.getfield 9, 3) := dk_180 0 9 (dk_at dksJ4_substring_2_1 11 rfl rfl)
theorem dJ4_substring_2_38 : DC mJ4_substring_2 38 = .ok (.iload_n 1, 1) := dk_27 (dk_at dksJ4_substring_2_1 14 rfl rfl)
theorem dJ4_substring_2_39 : DC mJ4_substring_2 39 = .ok (.iload 4, 2) := dk_21 4 (dk_at dksJ4_substring_2_1 15 rfl rfl)
theorem dJ4_substring_2_41 : DC mJ4_substring_2 41 = .ok (.invokestatic 685, 3) := dk_184 2 173 (dk_at dksJ4_substring_2_1 17 rfl rfl)
theorem dJ4_substring_2_44 : DC mJ4_substring_2 44 = .ok (.goto 13, 3) := dk_167 0 13 (dk_at dksJ4_substring_2_1 20 rfl rfl)
theorem dJ4_substring_2_47 : DC mJ4_substring_2 47 = .ok (.aload_n 0, 1) := dk_42 (dk_at dksJ4_substring_2_1 23 rfl rfl)
theorem dJ4_substring_2_48 : DC mJ4_substring_2 48 = .ok (.getfield 9, 3) := dk_180 0 9 (dk_at dksJ4_substring_2_2 0 rfl rfl)
theorem dJ4_substring_2_51 : DC mJ4_substring_2 51 = .ok (.iload_n 1, 1) := dk_27 (dk_at dksJ4_substring_2_2 3 rfl rfl)
theorem dJ4_substring_2_52 : DC mJ4_substring_2 52 = .ok (.iload 4, 2) := dk_21 4 (dk_at dksJ4_substring_2_2 4 rfl rfl)
theorem dJ4_substring_2_54 : DC mJ4_substring_2 54 = .ok (.invokestatic 689, 3) := dk_184 2 177 (dk_at dksJ4_substring_2_2 6 rfl rfl)
theorem dJ4_substring_2_57 : DC mJ4_substring_2 57 = .ok (.areturn, 1) := dk_176 (dk_at dksJ4_substring_2_2 9 rfl rfl)
abbrev cJ4_init_3 : ByteArray := prog_34_method_151_code
def yJ4_init_3 : MethodName := ⟨RJ4, "<init>", "([BB)V"⟩
def mJ4_init_3 : MI := (⟨"java/lang/String", "<init>", "([BB)V"⟩, prog_34_method_151_code, 3, (Option.none : Option FieldType), none, 4, 2)
theorem oJ4_init_3 : mO mJ4_init_3 = 4 := rfl
theorem lJ4_init_3 : mL mJ4_init_3 = 3 := rfl
theorem rJ4_init_3 : mR mJ4_init_3 = (Option.none : Option FieldType) := rfl
theorem vJ4_init_3 : mV mJ4_init_3 = 2 := rfl
theorem nJ4_init_3 : (mY mJ4_init_3).name = "<init>" := rfl
theorem hJ4_init_3 : mH mJ4_init_3 = none := rfl
theorem kJ4_init_3 : MOk mJ4_init_3 := ⟨q2251, q80, by decide +kernel⟩
theorem gJ4_init_3 : plainName (mY mJ4_init_3).cls = true ∧ (mY mJ4_init_3).cls = "java/lang/String" := ⟨by decide +kernel, rfl⟩
def dkwJ4_init_3_0 : List UInt8 := [42, 183, 0, 1, 42, 43, 181, 0, 9, 42, 28, 181, 0, 15, 177]
abbrev dktJ4_init_3_0 : List UInt8 := dkwJ4_init_3_0 ++ []
theorem dksJ4_init_3_0 : cJ4_init_3.data.toList.drop 0 = dktJ4_init_3_0 := by decide +kernel
theorem dJ4_init_3_0 : DC mJ4_init_3 0 = .ok (.aload_n 0, 1) := dk_42 (dk_at dksJ4_init_3_0 0 rfl rfl)
theorem dJ4_init_3_1 : DC mJ4_init_3 1 = .ok (.invokespecial 1, 3) := dk_183 0 1 (dk_at dksJ4_init_3_0 1 rfl rfl)
theorem dJ4_init_3_4 : DC mJ4_init_3 4 = .ok (.aload_n 0, 1) := dk_42 (dk_at dksJ4_init_3_0 4 rfl rfl)
theorem dJ4_init_3_5 : DC mJ4_init_3 5 = .ok (.aload_n 1, 1) := dk_43 (dk_at dksJ4_init_3_0 5 rfl rfl)
theorem dJ4_init_3_6 : DC mJ4_init_3 6 = .ok (.putfield 9, 3) := dk_181 0 9 (dk_at dksJ4_init_3_0 6 rfl rfl)
theorem dJ4_init_3_9 : DC mJ4_init_3 9 = .ok (.aload_n 0, 1) := dk_42 (dk_at dksJ4_init_3_0 9 rfl rfl)
theorem dJ4_init_3_10 : DC mJ4_init_3 10 = .ok (.iload_n 2, 1) := dk_28 (dk_at dksJ4_init_3_0 10 rfl rfl)
theorem dJ4_init_3_11 : DC mJ4_init_3 11 = .ok (.putfield 15, 3) := dk_181 0 15 (dk_at dksJ4_init_3_0 11 rfl rfl)
theorem dJ4_init_3_14 : DC mJ4_init_3 14 = .ok (.return_, 1) := dk_177 (dk_at dksJ4_init_3_0 14 rfl rfl)
abbrev cJ4_indexOf_2 : ByteArray := prog_34_method_80_code
def yJ4_indexOf_2 : MethodName := ⟨RJ4, "indexOf", "(II)I"⟩
def mJ4_indexOf_2 : MI := (⟨"java/lang/String", "indexOf", "(II)I"⟩, prog_34_method_80_code, 3, (Option.some FieldType.int), none, 4, 6)
theorem oJ4_indexOf_2 : mO mJ4_indexOf_2 = 4 := rfl
theorem lJ4_indexOf_2 : mL mJ4_indexOf_2 = 3 := rfl
theorem rJ4_indexOf_2 : mR mJ4_indexOf_2 = (Option.some FieldType.int) := rfl
theorem vJ4_indexOf_2 : mV mJ4_indexOf_2 = 6 := rfl
theorem nJ4_indexOf_2 : (mY mJ4_indexOf_2).name = "indexOf" := rfl
theorem hJ4_indexOf_2 : mH mJ4_indexOf_2 = none := rfl
theorem kJ4_indexOf_2 : MOk mJ4_indexOf_2 := ⟨q2715, q80, by decide +kernel⟩
theorem gJ4_indexOf_2 : plainName (mY mJ4_indexOf_2).cls = true ∧ (mY mJ4_indexOf_2).cls = "java/lang/String" := ⟨by decide +kernel, rfl⟩
def dkwJ4_indexOf_2_1 : List UInt8 := [180, 0, 9, 27, 28, 42, 182, 1, 249, 184, 2, 128, 172]
abbrev dktJ4_indexOf_2_1 : List UInt8 := dkwJ4_indexOf_2_1 ++ []
def dkwJ4_indexOf_2_0 : List UInt8 := [42, 182, 1, 236, 153, 0, 19, 42, 180, 0, 9, 27, 28, 42, 182, 1, 249, 184, 2, 125, 167, 0, 16, 42]
abbrev dktJ4_indexOf_2_0 : List UInt8 := dkwJ4_indexOf_2_0 ++ dktJ4_indexOf_2_1
theorem dksJ4_indexOf_2_0 : cJ4_indexOf_2.data.toList.drop 0 = dktJ4_indexOf_2_0 := by decide +kernel
theorem dksJ4_indexOf_2_1 : cJ4_indexOf_2.data.toList.drop 24 = dktJ4_indexOf_2_1 := dk_seg dksJ4_indexOf_2_0 24 rfl rfl
theorem dJ4_indexOf_2_0 : DC mJ4_indexOf_2 0 = .ok (.aload_n 0, 1) := dk_42 (dk_at dksJ4_indexOf_2_0 0 rfl rfl)
theorem dJ4_indexOf_2_1 : DC mJ4_indexOf_2 1 = .ok (.invokevirtual 492, 3) := dk_182 1 236 (dk_at dksJ4_indexOf_2_0 1 rfl rfl)
theorem dJ4_indexOf_2_4 : DC mJ4_indexOf_2 4 = .ok (.ifCond .eq 19, 3) := dk_153 0 19 (dk_at dksJ4_indexOf_2_0 4 rfl rfl)
theorem dJ4_indexOf_2_7 : DC mJ4_indexOf_2 7 = .ok (.aload_n 0, 1) := dk_42 (dk_at dksJ4_indexOf_2_0 7 rfl rfl)
theorem dJ4_indexOf_2_8 : DC mJ4_indexOf_2 8 = .ok (.getfield 9, 3) := dk_180 0 9 (dk_at dksJ4_indexOf_2_0 8 rfl rfl)
theorem dJ4_indexOf_2_11 : DC mJ4_indexOf_2 11 = .ok (.iload_n 1, 1) := dk_27 (dk_at dksJ4_indexOf_2_0 11 rfl rfl)
theorem dJ4_indexOf_2_12 : DC mJ4_indexOf_2 12 = .ok (.iload_n 2, 1) := dk_28 (dk_at dksJ4_indexOf_2_0 12 rfl rfl)
theorem dJ4_indexOf_2_13 : DC mJ4_indexOf_2 13 = .ok (.aload_n 0, 1) := dk_42 (dk_at dksJ4_indexOf_2_0 13 rfl rfl)
theorem dJ4_indexOf_2_14 : DC mJ4_indexOf_2 14 = .ok (.invokevirtual 505, 3) := dk_182 1 249 (dk_at dksJ4_indexOf_2_0 14 rfl rfl)
theorem dJ4_indexOf_2_17 : DC mJ4_indexOf_2 17 = .ok (.invokestatic 637, 3) := dk_184 2 125 (dk_at dksJ4_indexOf_2_0 17 rfl rfl)
theorem dJ4_indexOf_2_20 : DC mJ4_indexOf_2 20 = .ok (.goto 16, 3) := dk_167 0 16 (dk_at dksJ4_indexOf_2_0 20 rfl rfl)
theorem dJ4_indexOf_2_23 : DC mJ4_indexOf_2 23 = .ok (.aload_n 0, 1) := dk_42 (dk_at dksJ4_indexOf_2_0 23 rfl rfl)
theorem dJ4_indexOf_2_24 : DC mJ4_indexOf_2 24 = .ok (.getfield 9, 3) := dk_180 0 9 (dk_at dksJ4_indexOf_2_1 0 rfl rfl)
theorem dJ4_indexOf_2_27 : DC mJ4_indexOf_2 27 = .ok (.iload_n 1, 1) := dk_27 (dk_at dksJ4_indexOf_2_1 3 rfl rfl)
theorem dJ4_indexOf_2_28 : DC mJ4_indexOf_2 28 = .ok (.iload_n 2, 1) := dk_28 (dk_at dksJ4_indexOf_2_1 4 rfl rfl)
theorem dJ4_indexOf_2_29 : DC mJ4_indexOf_2 29 = .ok (.aload_n 0, 1) := dk_42 (dk_at dksJ4_indexOf_2_1 5 rfl rfl)
theorem dJ4_indexOf_2_30 : DC mJ4_indexOf_2 30 = .ok (.invokevirtual 505, 3) := dk_182 1 249 (dk_at dksJ4_indexOf_2_1 6 rfl rfl)
theorem dJ4_indexOf_2_33 : DC mJ4_indexOf_2 33 = .ok (.invokestatic 640, 3) := dk_184 2 128 (dk_at dksJ4_indexOf_2_1 9 rfl rfl)
theorem dJ4_indexOf_2_36 : DC mJ4_indexOf_2 36 = .ok (.ireturn, 1) := dk_172 (dk_at dksJ4_indexOf_2_1 12 rfl rfl)
theorem in_J4 : ∀ w ∈ wsJ40, w ∈ lw_all := lw_in wsJ40 [794, 796, 798, 800] (by decide +kernel) (by decide +kernel)

/-! java/lang/StringUTF16 -/
set_option maxRecDepth 100000
def RJ5 : String := "java/lang/StringUTF16"
abbrev cJ5_newBytesFor : ByteArray := prog_38_method_2_code
def yJ5_newBytesFor : MethodName := ⟨RJ5, "newBytesFor", "(I)[B"⟩
def mJ5_newBytesFor : MI := (⟨"java/lang/StringUTF16", "newBytesFor", "(I)[B"⟩, prog_38_method_2_code, 1, (Option.some (FieldType.array FieldType.byte)), none, 5, 2)
theorem oJ5_newBytesFor : mO mJ5_newBytesFor = 5 := rfl
theorem lJ5_newBytesFor : mL mJ5_newBytesFor = 1 := rfl
theorem rJ5_newBytesFor : mR mJ5_newBytesFor = (Option.some (FieldType.array FieldType.byte)) := rfl
theorem vJ5_newBytesFor : mV mJ5_newBytesFor = 2 := rfl
theorem nJ5_newBytesFor : (mY mJ5_newBytesFor).name = "newBytesFor" := rfl
theorem hJ5_newBytesFor : mH mJ5_newBytesFor = none := rfl
theorem kJ5_newBytesFor : MOk mJ5_newBytesFor := ⟨q168, q81, by decide +kernel⟩
theorem gJ5_newBytesFor : plainName (mY mJ5_newBytesFor).cls = true ∧ (mY mJ5_newBytesFor).cls = "java/lang/StringUTF16" := ⟨by decide +kernel, rfl⟩
def dkwJ5_newBytesFor_0 : List UInt8 := [26, 184, 0, 11, 188, 8, 176]
abbrev dktJ5_newBytesFor_0 : List UInt8 := dkwJ5_newBytesFor_0 ++ []
theorem dksJ5_newBytesFor_0 : cJ5_newBytesFor.data.toList.drop 0 = dktJ5_newBytesFor_0 := by decide +kernel
theorem dJ5_newBytesFor_0 : DC mJ5_newBytesFor 0 = .ok (.iload_n 0, 1) := dk_26 (dk_at dksJ5_newBytesFor_0 0 rfl rfl)
theorem dJ5_newBytesFor_1 : DC mJ5_newBytesFor 1 = .ok (.invokestatic 11, 3) := dk_184 0 11 (dk_at dksJ5_newBytesFor_0 1 rfl rfl)
theorem dJ5_newBytesFor_4 : DC mJ5_newBytesFor 4 = .ok (.newarray .byte, 2) := dk_188_8 (dk_at dksJ5_newBytesFor_0 4 rfl rfl)
theorem dJ5_newBytesFor_6 : DC mJ5_newBytesFor 6 = .ok (.areturn, 1) := dk_176 (dk_at dksJ5_newBytesFor_0 6 rfl rfl)
abbrev cJ5_newBytesLength : ByteArray := prog_38_method_3_code
def yJ5_newBytesLength : MethodName := ⟨RJ5, "newBytesLength", "(I)I"⟩
def mJ5_newBytesLength : MI := (⟨"java/lang/StringUTF16", "newBytesLength", "(I)I"⟩, prog_38_method_3_code, 1, (Option.some FieldType.int), none, 5, 1)
theorem oJ5_newBytesLength : mO mJ5_newBytesLength = 5 := rfl
theorem lJ5_newBytesLength : mL mJ5_newBytesLength = 1 := rfl
theorem rJ5_newBytesLength : mR mJ5_newBytesLength = (Option.some FieldType.int) := rfl
theorem vJ5_newBytesLength : mV mJ5_newBytesLength = 1 := rfl
theorem nJ5_newBytesLength : (mY mJ5_newBytesLength).name = "newBytesLength" := rfl
theorem hJ5_newBytesLength : mH mJ5_newBytesLength = none := rfl
theorem kJ5_newBytesLength : MOk mJ5_newBytesLength := ⟨q171, q81, by decide +kernel⟩
theorem gJ5_newBytesLength : plainName (mY mJ5_newBytesLength).cls = true ∧ (mY mJ5_newBytesLength).cls = "java/lang/StringUTF16" := ⟨by decide +kernel, rfl⟩
def dkwJ5_newBytesLength_2 : List UInt8 := [182, 0, 32, 182, 0, 37, 183, 0, 41, 191, 26, 4, 120, 172]
abbrev dktJ5_newBytesLength_2 : List UInt8 := dkwJ5_newBytesLength_2 ++ []
def dkwJ5_newBytesLength_1 : List UInt8 := [187, 0, 23, 89, 183, 0, 25, 18, 26, 182, 0, 28, 26, 182, 0, 32, 18, 35, 182, 0, 28, 18, 20]
abbrev dktJ5_newBytesLength_1 : List UInt8 := dkwJ5_newBytesLength_1 ++ dktJ5_newBytesLength_2
def dkwJ5_newBytesLength_0 : List UInt8 := [26, 156, 0, 11, 187, 0, 17, 89, 183, 0, 19, 191, 26, 18, 20, 161, 0, 40, 187, 0, 21, 89]
abbrev dktJ5_newBytesLength_0 : List UInt8 := dkwJ5_newBytesLength_0 ++ dktJ5_newBytesLength_1
theorem dksJ5_newBytesLength_0 : cJ5_newBytesLength.data.toList.drop 0 = dktJ5_newBytesLength_0 := by decide +kernel
theorem dksJ5_newBytesLength_1 : cJ5_newBytesLength.data.toList.drop 22 = dktJ5_newBytesLength_1 := dk_seg dksJ5_newBytesLength_0 22 rfl rfl
theorem dksJ5_newBytesLength_2 : cJ5_newBytesLength.data.toList.drop 45 = dktJ5_newBytesLength_2 := dk_seg dksJ5_newBytesLength_1 23 rfl rfl
theorem dJ5_newBytesLength_0 : DC mJ5_newBytesLength 0 = .ok (.iload_n 0, 1) := dk_26 (dk_at dksJ5_newBytesLength_0 0 rfl rfl)
theorem dJ5_newBytesLength_1 : DC mJ5_newBytesLength 1 = .ok (.ifCond .ge 11, 3) := dk_156 0 11 (dk_at dksJ5_newBytesLength_0 1 rfl rfl)
theorem dJ5_newBytesLength_4 : DC mJ5_newBytesLength 4 = .ok (.new 17, 3) := dk_187 0 17 (dk_at dksJ5_newBytesLength_0 4 rfl rfl)
theorem dJ5_newBytesLength_7 : DC mJ5_newBytesLength 7 = .ok (.dup, 1) := dk_89 (dk_at dksJ5_newBytesLength_0 7 rfl rfl)
theorem dJ5_newBytesLength_8 : DC mJ5_newBytesLength 8 = .ok (.invokespecial 19, 3) := dk_183 0 19 (dk_at dksJ5_newBytesLength_0 8 rfl rfl)
theorem dJ5_newBytesLength_11 : DC mJ5_newBytesLength 11 = .ok (.athrow, 1) := dk_191 (dk_at dksJ5_newBytesLength_0 11 rfl rfl)
theorem dJ5_newBytesLength_12 : DC mJ5_newBytesLength 12 = .ok (.iload_n 0, 1) := dk_26 (dk_at dksJ5_newBytesLength_0 12 rfl rfl)
theorem dJ5_newBytesLength_13 : DC mJ5_newBytesLength 13 = .ok (.ldc 20, 2) := dk_18 20 (dk_at dksJ5_newBytesLength_0 13 rfl rfl)
theorem dJ5_newBytesLength_15 : DC mJ5_newBytesLength 15 = .ok (.if_icmp .lt 40, 3) := dk_161 0 40 (dk_at dksJ5_newBytesLength_0 15 rfl rfl)
theorem dJ5_newBytesLength_18 : DC mJ5_newBytesLength 18 = .ok (.new 21, 3) := dk_187 0 21 (dk_at dksJ5_newBytesLength_0 18 rfl rfl)
theorem dJ5_newBytesLength_21 : DC mJ5_newBytesLength 21 = .ok (.dup, 1) := dk_89 (dk_at dksJ5_newBytesLength_0 21 rfl rfl)
theorem dJ5_newBytesLength_22 : DC mJ5_newBytesLength 22 = .ok (.new 23, 3) := dk_187 0 23 (dk_at dksJ5_newBytesLength_1 0 rfl rfl)
theorem dJ5_newBytesLength_25 : DC mJ5_newBytesLength 25 = .ok (.dup, 1) := dk_89 (dk_at dksJ5_newBytesLength_1 3 rfl rfl)
theorem dJ5_newBytesLength_26 : DC mJ5_newBytesLength 26 = .ok (.invokespecial 25, 3) := dk_183 0 25 (dk_at dksJ5_newBytesLength_1 4 rfl rfl)
theorem dJ5_newBytesLength_29 : DC mJ5_newBytesLength 29 = .ok (.ldc 26, 2) := dk_18 26 (dk_at dksJ5_newBytesLength_1 7 rfl rfl)
theorem dJ5_newBytesLength_31 : DC mJ5_newBytesLength 31 = .ok (.invokevirtual 28, 3) := dk_182 0 28 (dk_at dksJ5_newBytesLength_1 9 rfl rfl)
theorem dJ5_newBytesLength_34 : DC mJ5_newBytesLength 34 = .ok (.iload_n 0, 1) := dk_26 (dk_at dksJ5_newBytesLength_1 12 rfl rfl)
theorem dJ5_newBytesLength_35 : DC mJ5_newBytesLength 35 = .ok (.invokevirtual 32, 3) := dk_182 0 32 (dk_at dksJ5_newBytesLength_1 13 rfl rfl)
theorem dJ5_newBytesLength_38 : DC mJ5_newBytesLength 38 = .ok (.ldc 35, 2) := dk_18 35 (dk_at dksJ5_newBytesLength_1 16 rfl rfl)
theorem dJ5_newBytesLength_40 : DC mJ5_newBytesLength 40 = .ok (.invokevirtual 28, 3) := dk_182 0 28 (dk_at dksJ5_newBytesLength_1 18 rfl rfl)
theorem dJ5_newBytesLength_43 : DC mJ5_newBytesLength 43 = .ok (.ldc 20, 2) := dk_18 20 (dk_at dksJ5_newBytesLength_1 21 rfl rfl)
theorem dJ5_newBytesLength_45 : DC mJ5_newBytesLength 45 = .ok (.invokevirtual 32, 3) := dk_182 0 32 (dk_at dksJ5_newBytesLength_2 0 rfl rfl)
theorem dJ5_newBytesLength_48 : DC mJ5_newBytesLength 48 = .ok (.invokevirtual 37, 3) := dk_182 0 37 (dk_at dksJ5_newBytesLength_2 3 rfl rfl)
theorem dJ5_newBytesLength_51 : DC mJ5_newBytesLength 51 = .ok (.invokespecial 41, 3) := dk_183 0 41 (dk_at dksJ5_newBytesLength_2 6 rfl rfl)
theorem dJ5_newBytesLength_54 : DC mJ5_newBytesLength 54 = .ok (.athrow, 1) := dk_191 (dk_at dksJ5_newBytesLength_2 9 rfl rfl)
theorem dJ5_newBytesLength_55 : DC mJ5_newBytesLength 55 = .ok (.iload_n 0, 1) := dk_26 (dk_at dksJ5_newBytesLength_2 10 rfl rfl)
theorem dJ5_newBytesLength_56 : DC mJ5_newBytesLength 56 = .ok (.iconst 1, 1) := dk_4 (dk_at dksJ5_newBytesLength_2 11 rfl rfl)
theorem dJ5_newBytesLength_57 : DC mJ5_newBytesLength 57 = .ok (.ishl, 1) := dk_120 (dk_at dksJ5_newBytesLength_2 12 rfl rfl)
theorem dJ5_newBytesLength_58 : DC mJ5_newBytesLength 58 = .ok (.ireturn, 1) := dk_172 (dk_at dksJ5_newBytesLength_2 13 rfl rfl)
abbrev cJ5_putCharsAt : ByteArray := prog_38_method_81_code
def yJ5_putCharsAt : MethodName := ⟨RJ5, "putCharsAt", "([BICCCC)I"⟩
def mJ5_putCharsAt : MI := (⟨"java/lang/StringUTF16", "putCharsAt", "([BICCCC)I"⟩, prog_38_method_81_code, 7, (Option.some FieldType.int), none, 5, 4)
theorem oJ5_putCharsAt : mO mJ5_putCharsAt = 5 := rfl
theorem lJ5_putCharsAt : mL mJ5_putCharsAt = 7 := rfl
theorem rJ5_putCharsAt : mR mJ5_putCharsAt = (Option.some FieldType.int) := rfl
theorem vJ5_putCharsAt : mV mJ5_putCharsAt = 4 := rfl
theorem nJ5_putCharsAt : (mY mJ5_putCharsAt).name = "putCharsAt" := rfl
theorem hJ5_putCharsAt : mH mJ5_putCharsAt = none := rfl
theorem kJ5_putCharsAt : MOk mJ5_putCharsAt := ⟨q608, q81, by decide +kernel⟩
theorem gJ5_putCharsAt : plainName (mY mJ5_putCharsAt).cls = true ∧ (mY mJ5_putCharsAt).cls = "java/lang/StringUTF16" := ⟨by decide +kernel, rfl⟩
def dkwJ5_putCharsAt_3 : List UInt8 := [21, 6, 172]
abbrev dktJ5_putCharsAt_3 : List UInt8 := dkwJ5_putCharsAt_3 ++ []
def dkwJ5_putCharsAt_2 : List UInt8 := [184, 0, 111, 178, 0, 44, 154, 0, 17, 27, 21, 6, 159, 0, 11, 187, 0, 52, 89, 183, 0, 66, 191]
abbrev dktJ5_putCharsAt_2 : List UInt8 := dkwJ5_putCharsAt_2 ++ dktJ5_putCharsAt_3
def dkwJ5_putCharsAt_1 : List UInt8 := [132, 1, 1, 29, 184, 0, 111, 42, 27, 132, 1, 1, 21, 4, 184, 0, 111, 42, 27, 132, 1, 1, 21, 5]
abbrev dktJ5_putCharsAt_1 : List UInt8 := dkwJ5_putCharsAt_1 ++ dktJ5_putCharsAt_2
def dkwJ5_putCharsAt_0 : List UInt8 := [27, 7, 96, 54, 6, 27, 21, 6, 42, 184, 0, 96, 42, 27, 132, 1, 1, 28, 184, 0, 111, 42, 27]
abbrev dktJ5_putCharsAt_0 : List UInt8 := dkwJ5_putCharsAt_0 ++ dktJ5_putCharsAt_1
theorem dksJ5_putCharsAt_0 : cJ5_putCharsAt.data.toList.drop 0 = dktJ5_putCharsAt_0 := by decide +kernel
theorem dksJ5_putCharsAt_1 : cJ5_putCharsAt.data.toList.drop 23 = dktJ5_putCharsAt_1 := dk_seg dksJ5_putCharsAt_0 23 rfl rfl
theorem dksJ5_putCharsAt_2 : cJ5_putCharsAt.data.toList.drop 47 = dktJ5_putCharsAt_2 := dk_seg dksJ5_putCharsAt_1 24 rfl rfl
theorem dksJ5_putCharsAt_3 : cJ5_putCharsAt.data.toList.drop 70 = dktJ5_putCharsAt_3 := dk_seg dksJ5_putCharsAt_2 23 rfl rfl
theorem dJ5_putCharsAt_0 : DC mJ5_putCharsAt 0 = .ok (.iload_n 1, 1) := dk_27 (dk_at dksJ5_putCharsAt_0 0 rfl rfl)
theorem dJ5_putCharsAt_1 : DC mJ5_putCharsAt 1 = .ok (.iconst 4, 1) := dk_7 (dk_at dksJ5_putCharsAt_0 1 rfl rfl)
theorem dJ5_putCharsAt_2 : DC mJ5_putCharsAt 2 = .ok (.iadd, 1) := dk_96 (dk_at dksJ5_putCharsAt_0 2 rfl rfl)
theorem dJ5_putCharsAt_3 : DC mJ5_putCharsAt 3 = .ok (.istore 6, 2) := dk_54 6 (dk_at dksJ5_putCharsAt_0 3 rfl rfl)
theorem dJ5_putCharsAt_5 : DC mJ5_putCharsAt 5 = .ok (.iload_n 1, 1) := dk_27 (dk_at dksJ5_putCharsAt_0 5 rfl rfl)
theorem dJ5_putCharsAt_6 : DC mJ5_putCharsAt 6 = .ok (.iload 6, 2) := dk_21 6 (dk_at dksJ5_putCharsAt_0 6 rfl rfl)
theorem dJ5_putCharsAt_8 : DC mJ5_putCharsAt 8 = .ok (.aload_n 0, 1) := dk_42 (dk_at dksJ5_putCharsAt_0 8 rfl rfl)
theorem dJ5_putCharsAt_9 : DC mJ5_putCharsAt 9 = .ok (.invokestatic 96, 3) := dk_184 0 96 (dk_at dksJ5_putCharsAt_0 9 rfl rfl)
theorem dJ5_putCharsAt_12 : DC mJ5_putCharsAt 12 = .ok (.aload_n 0, 1) := dk_42 (dk_at dksJ5_putCharsAt_0 12 rfl rfl)
theorem dJ5_putCharsAt_13 : DC mJ5_putCharsAt 13 = .ok (.iload_n 1, 1) := dk_27 (dk_at dksJ5_putCharsAt_0 13 rfl rfl)
theorem dJ5_putCharsAt_14 : DC mJ5_putCharsAt 14 = .ok (.iinc 1 1, 3) := dk_132 1 1 (dk_at dksJ5_putCharsAt_0 14 rfl rfl)
theorem dJ5_putCharsAt_17 : DC mJ5_putCharsAt 17 = .ok (.iload_n 2, 1) := dk_28 (dk_at dksJ5_putCharsAt_0 17 rfl rfl)
theorem dJ5_putCharsAt_18 : DC mJ5_putCharsAt 18 = .ok (.invokestatic 111, 3) := dk_184 0 111 (dk_at dksJ5_putCharsAt_0 18 rfl rfl)
theorem dJ5_putCharsAt_21 : DC mJ5_putCharsAt 21 = .ok (.aload_n 0, 1) := dk_42 (dk_at dksJ5_putCharsAt_0 21 rfl rfl)
theorem dJ5_putCharsAt_22 : DC mJ5_putCharsAt 22 = .ok (.iload_n 1, 1) := dk_27 (dk_at dksJ5_putCharsAt_0 22 rfl rfl)
theorem dJ5_putCharsAt_23 : DC mJ5_putCharsAt 23 = .ok (.iinc 1 1, 3) := dk_132 1 1 (dk_at dksJ5_putCharsAt_1 0 rfl rfl)
theorem dJ5_putCharsAt_26 : DC mJ5_putCharsAt 26 = .ok (.iload_n 3, 1) := dk_29 (dk_at dksJ5_putCharsAt_1 3 rfl rfl)
theorem dJ5_putCharsAt_27 : DC mJ5_putCharsAt 27 = .ok (.invokestatic 111, 3) := dk_184 0 111 (dk_at dksJ5_putCharsAt_1 4 rfl rfl)
theorem dJ5_putCharsAt_30 : DC mJ5_putCharsAt 30 = .ok (.aload_n 0, 1) := dk_42 (dk_at dksJ5_putCharsAt_1 7 rfl rfl)
theorem dJ5_putCharsAt_31 : DC mJ5_putCharsAt 31 = .ok (.iload_n 1, 1) := dk_27 (dk_at dksJ5_putCharsAt_1 8 rfl rfl)
theorem dJ5_putCharsAt_32 : DC mJ5_putCharsAt 32 = .ok (.iinc 1 1, 3) := dk_132 1 1 (dk_at dksJ5_putCharsAt_1 9 rfl rfl)
theorem dJ5_putCharsAt_35 : DC mJ5_putCharsAt 35 = .ok (.iload 4, 2) := dk_21 4 (dk_at dksJ5_putCharsAt_1 12 rfl rfl)
theorem dJ5_putCharsAt_37 : DC mJ5_putCharsAt 37 = .ok (.invokestatic 111, 3) := dk_184 0 111 (dk_at dksJ5_putCharsAt_1 14 rfl rfl)
theorem dJ5_putCharsAt_40 : DC mJ5_putCharsAt 40 = .ok (.aload_n 0, 1) := dk_42 (dk_at dksJ5_putCharsAt_1 17 rfl rfl)
theorem dJ5_putCharsAt_41 : DC mJ5_putCharsAt 41 = .ok (.iload_n 1, 1) := dk_27 (dk_at dksJ5_putCharsAt_1 18 rfl rfl)
theorem dJ5_putCharsAt_42 : DC mJ5_putCharsAt 42 = .ok (.iinc 1 1, 3) := dk_132 1 1 (dk_at dksJ5_putCharsAt_1 19 rfl rfl)
theorem dJ5_putCharsAt_45 : DC mJ5_putCharsAt 45 = .ok (.iload 5, 2) := dk_21 5 (dk_at dksJ5_putCharsAt_1 22 rfl rfl)
theorem dJ5_putCharsAt_47 : DC mJ5_putCharsAt 47 = .ok (.invokestatic 111, 3) := dk_184 0 111 (dk_at dksJ5_putCharsAt_2 0 rfl rfl)
theorem dJ5_putCharsAt_50 : DC mJ5_putCharsAt 50 = .ok (.getstatic 44, 3) := dk_178 0 44 (dk_at dksJ5_putCharsAt_2 3 rfl rfl)
theorem dJ5_putCharsAt_53 : DC mJ5_putCharsAt 53 = .ok (.ifCond .ne 17, 3) := dk_154 0 17 (dk_at dksJ5_putCharsAt_2 6 rfl rfl)
theorem dJ5_putCharsAt_56 : DC mJ5_putCharsAt 56 = .ok (.iload_n 1, 1) := dk_27 (dk_at dksJ5_putCharsAt_2 9 rfl rfl)
theorem dJ5_putCharsAt_57 : DC mJ5_putCharsAt 57 = .ok (.iload 6, 2) := dk_21 6 (dk_at dksJ5_putCharsAt_2 10 rfl rfl)
theorem dJ5_putCharsAt_59 : DC mJ5_putCharsAt 59 = .ok (.if_icmp .eq 11, 3) := dk_159 0 11 (dk_at dksJ5_putCharsAt_2 12 rfl rfl)
theorem dJ5_putCharsAt_62 : DC mJ5_putCharsAt 62 = .ok (.new 52, 3) := dk_187 0 52 (dk_at dksJ5_putCharsAt_2 15 rfl rfl)
theorem dJ5_putCharsAt_65 : DC mJ5_putCharsAt 65 = .ok (.dup, 1) := dk_89 (dk_at dksJ5_putCharsAt_2 18 rfl rfl)
theorem dJ5_putCharsAt_66 : DC mJ5_putCharsAt 66 = .ok (.invokespecial 66, 3) := dk_183 0 66 (dk_at dksJ5_putCharsAt_2 19 rfl rfl)
theorem dJ5_putCharsAt_69 : DC mJ5_putCharsAt 69 = .ok (.athrow, 1) := dk_191 (dk_at dksJ5_putCharsAt_2 22 rfl rfl)
theorem dJ5_putCharsAt_70 : DC mJ5_putCharsAt 70 = .ok (.iload 6, 2) := dk_21 6 (dk_at dksJ5_putCharsAt_3 0 rfl rfl)
theorem dJ5_putCharsAt_72 : DC mJ5_putCharsAt 72 = .ok (.ireturn, 1) := dk_172 (dk_at dksJ5_putCharsAt_3 2 rfl rfl)
abbrev cJ5_checkBoundsBeginEnd : ByteArray := prog_38_method_93_code
def yJ5_checkBoundsBeginEnd : MethodName := ⟨RJ5, "checkBoundsBeginEnd", "(II[B)V"⟩
def mJ5_checkBoundsBeginEnd : MI := (⟨"java/lang/StringUTF16", "checkBoundsBeginEnd", "(II[B)V"⟩, prog_38_method_93_code, 3, (Option.none : Option FieldType), none, 5, 3)
theorem oJ5_checkBoundsBeginEnd : mO mJ5_checkBoundsBeginEnd = 5 := rfl
theorem lJ5_checkBoundsBeginEnd : mL mJ5_checkBoundsBeginEnd = 3 := rfl
theorem rJ5_checkBoundsBeginEnd : mR mJ5_checkBoundsBeginEnd = (Option.none : Option FieldType) := rfl
theorem vJ5_checkBoundsBeginEnd : mV mJ5_checkBoundsBeginEnd = 3 := rfl
theorem nJ5_checkBoundsBeginEnd : (mY mJ5_checkBoundsBeginEnd).name = "checkBoundsBeginEnd" := rfl
theorem hJ5_checkBoundsBeginEnd : mH mJ5_checkBoundsBeginEnd = none := rfl
theorem kJ5_checkBoundsBeginEnd : MOk mJ5_checkBoundsBeginEnd := ⟨q611, q81, by decide +kernel⟩
theorem gJ5_checkBoundsBeginEnd : plainName (mY mJ5_checkBoundsBeginEnd).cls = true ∧ (mY mJ5_checkBoundsBeginEnd).cls = "java/lang/StringUTF16" := ⟨by decide +kernel, rfl⟩
def dkwJ5_checkBoundsBeginEnd_0 : List UInt8 := [26, 27, 44, 184, 0, 48, 184, 0, 241, 177]
abbrev dktJ5_checkBoundsBeginEnd_0 : List UInt8 := dkwJ5_checkBoundsBeginEnd_0 ++ []
theorem dksJ5_checkBoundsBeginEnd_0 : cJ5_checkBoundsBeginEnd.data.toList.drop 0 = dktJ5_checkBoundsBeginEnd_0 := by decide +kernel
theorem dJ5_checkBoundsBeginEnd_0 : DC mJ5_checkBoundsBeginEnd 0 = .ok (.iload_n 0, 1) := dk_26 (dk_at dksJ5_checkBoundsBeginEnd_0 0 rfl rfl)
theorem dJ5_checkBoundsBeginEnd_1 : DC mJ5_checkBoundsBeginEnd 1 = .ok (.iload_n 1, 1) := dk_27 (dk_at dksJ5_checkBoundsBeginEnd_0 1 rfl rfl)
theorem dJ5_checkBoundsBeginEnd_2 : DC mJ5_checkBoundsBeginEnd 2 = .ok (.aload_n 2, 1) := dk_44 (dk_at dksJ5_checkBoundsBeginEnd_0 2 rfl rfl)
theorem dJ5_checkBoundsBeginEnd_3 : DC mJ5_checkBoundsBeginEnd 3 = .ok (.invokestatic 48, 3) := dk_184 0 48 (dk_at dksJ5_checkBoundsBeginEnd_0 3 rfl rfl)
theorem dJ5_checkBoundsBeginEnd_6 : DC mJ5_checkBoundsBeginEnd 6 = .ok (.invokestatic 241, 3) := dk_184 0 241 (dk_at dksJ5_checkBoundsBeginEnd_0 6 rfl rfl)
theorem dJ5_checkBoundsBeginEnd_9 : DC mJ5_checkBoundsBeginEnd 9 = .ok (.return_, 1) := dk_177 (dk_at dksJ5_checkBoundsBeginEnd_0 9 rfl rfl)
abbrev cJ5_length : ByteArray := prog_38_method_6_code
def yJ5_length : MethodName := ⟨RJ5, "length", "([B)I"⟩
def mJ5_length : MI := (⟨"java/lang/StringUTF16", "length", "([B)I"⟩, prog_38_method_6_code, 1, (Option.some FieldType.int), none, 5, 1)
theorem oJ5_length : mO mJ5_length = 5 := rfl
theorem lJ5_length : mL mJ5_length = 1 := rfl
theorem rJ5_length : mR mJ5_length = (Option.some FieldType.int) := rfl
theorem vJ5_length : mV mJ5_length = 1 := rfl
theorem nJ5_length : (mY mJ5_length).name = "length" := rfl
theorem hJ5_length : mH mJ5_length = none := rfl
theorem kJ5_length : MOk mJ5_length := ⟨q614, q81, by decide +kernel⟩
theorem gJ5_length : plainName (mY mJ5_length).cls = true ∧ (mY mJ5_length).cls = "java/lang/StringUTF16" := ⟨by decide +kernel, rfl⟩
def dkwJ5_length_0 : List UInt8 := [42, 190, 4, 122, 172]
abbrev dktJ5_length_0 : List UInt8 := dkwJ5_length_0 ++ []
theorem dksJ5_length_0 : cJ5_length.data.toList.drop 0 = dktJ5_length_0 := by decide +kernel
theorem dJ5_length_0 : DC mJ5_length 0 = .ok (.aload_n 0, 1) := dk_42 (dk_at dksJ5_length_0 0 rfl rfl)
theorem dJ5_length_1 : DC mJ5_length 1 = .ok (.arraylength, 1) := dk_190 (dk_at dksJ5_length_0 1 rfl rfl)
theorem dJ5_length_2 : DC mJ5_length 2 = .ok (.iconst 1, 1) := dk_4 (dk_at dksJ5_length_0 2 rfl rfl)
theorem dJ5_length_3 : DC mJ5_length 3 = .ok (.ishr, 1) := dk_122 (dk_at dksJ5_length_0 3 rfl rfl)
theorem dJ5_length_4 : DC mJ5_length 4 = .ok (.ireturn, 1) := dk_172 (dk_at dksJ5_length_0 4 rfl rfl)
abbrev cJ5_putChar : ByteArray := prog_38_method_4_code
def yJ5_putChar : MethodName := ⟨RJ5, "putChar", "([BII)V"⟩
def mJ5_putChar : MI := (⟨"java/lang/StringUTF16", "putChar", "([BII)V"⟩, prog_38_method_4_code, 3, (Option.none : Option FieldType), none, 5, 2)
theorem oJ5_putChar : mO mJ5_putChar = 5 := rfl
theorem lJ5_putChar : mL mJ5_putChar = 3 := rfl
theorem rJ5_putChar : mR mJ5_putChar = (Option.none : Option FieldType) := rfl
theorem vJ5_putChar : mV mJ5_putChar = 2 := rfl
theorem nJ5_putChar : (mY mJ5_putChar).name = "putChar" := rfl
theorem hJ5_putChar : mH mJ5_putChar = none := rfl
theorem kJ5_putChar : MOk mJ5_putChar := ⟨q625, q81, by decide +kernel⟩
theorem gJ5_putChar : plainName (mY mJ5_putChar).cls = true ∧ (mY mJ5_putChar).cls = "java/lang/StringUTF16" := ⟨by decide +kernel, rfl⟩
def dkwJ5_putChar_2 : List UInt8 := [178, 0, 63, 122, 145, 84, 177]
abbrev dktJ5_putChar_2 : List UInt8 := dkwJ5_putChar_2 ++ []
def dkwJ5_putChar_1 : List UInt8 := [183, 0, 56, 191, 27, 4, 120, 60, 42, 27, 132, 1, 1, 28, 178, 0, 59, 122, 145, 84, 42, 27, 28]
abbrev dktJ5_putChar_1 : List UInt8 := dkwJ5_putChar_1 ++ dktJ5_putChar_2
def dkwJ5_putChar_0 : List UInt8 := [178, 0, 44, 154, 0, 25, 27, 155, 0, 11, 27, 42, 184, 0, 48, 161, 0, 13, 187, 0, 52, 89, 18, 54]
abbrev dktJ5_putChar_0 : List UInt8 := dkwJ5_putChar_0 ++ dktJ5_putChar_1
theorem dksJ5_putChar_0 : cJ5_putChar.data.toList.drop 0 = dktJ5_putChar_0 := by decide +kernel
theorem dksJ5_putChar_1 : cJ5_putChar.data.toList.drop 24 = dktJ5_putChar_1 := dk_seg dksJ5_putChar_0 24 rfl rfl
theorem dksJ5_putChar_2 : cJ5_putChar.data.toList.drop 47 = dktJ5_putChar_2 := dk_seg dksJ5_putChar_1 23 rfl rfl
theorem dJ5_putChar_0 : DC mJ5_putChar 0 = .ok (.getstatic 44, 3) := dk_178 0 44 (dk_at dksJ5_putChar_0 0 rfl rfl)
theorem dJ5_putChar_3 : DC mJ5_putChar 3 = .ok (.ifCond .ne 25, 3) := dk_154 0 25 (dk_at dksJ5_putChar_0 3 rfl rfl)
theorem dJ5_putChar_6 : DC mJ5_putChar 6 = .ok (.iload_n 1, 1) := dk_27 (dk_at dksJ5_putChar_0 6 rfl rfl)
theorem dJ5_putChar_7 : DC mJ5_putChar 7 = .ok (.ifCond .lt 11, 3) := dk_155 0 11 (dk_at dksJ5_putChar_0 7 rfl rfl)
theorem dJ5_putChar_10 : DC mJ5_putChar 10 = .ok (.iload_n 1, 1) := dk_27 (dk_at dksJ5_putChar_0 10 rfl rfl)
theorem dJ5_putChar_11 : DC mJ5_putChar 11 = .ok (.aload_n 0, 1) := dk_42 (dk_at dksJ5_putChar_0 11 rfl rfl)
theorem dJ5_putChar_12 : DC mJ5_putChar 12 = .ok (.invokestatic 48, 3) := dk_184 0 48 (dk_at dksJ5_putChar_0 12 rfl rfl)
theorem dJ5_putChar_15 : DC mJ5_putChar 15 = .ok (.if_icmp .lt 13, 3) := dk_161 0 13 (dk_at dksJ5_putChar_0 15 rfl rfl)
theorem dJ5_putChar_18 : DC mJ5_putChar 18 = .ok (.new 52, 3) := dk_187 0 52 (dk_at dksJ5_putChar_0 18 rfl rfl)
theorem dJ5_putChar_21 : DC mJ5_putChar 21 = .ok (.dup, 1) := dk_89 (dk_at dksJ5_putChar_0 21 rfl rfl)
theorem dJ5_putChar_22 : DC mJ5_putChar 22 = .ok (.ldc 54, 2) := dk_18 54 (dk_at dksJ5_putChar_0 22 rfl rfl)
theorem dJ5_putChar_24 : DC mJ5_putChar 24 = .ok (.invokespecial 56, 3) := dk_183 0 56 (dk_at dksJ5_putChar_1 0 rfl rfl)
theorem dJ5_putChar_27 : DC mJ5_putChar 27 = .ok (.athrow, 1) := dk_191 (dk_at dksJ5_putChar_1 3 rfl rfl)
theorem dJ5_putChar_28 : DC mJ5_putChar 28 = .ok (.iload_n 1, 1) := dk_27 (dk_at dksJ5_putChar_1 4 rfl rfl)
theorem dJ5_putChar_29 : DC mJ5_putChar 29 = .ok (.iconst 1, 1) := dk_4 (dk_at dksJ5_putChar_1 5 rfl rfl)
theorem dJ5_putChar_30 : DC mJ5_putChar 30 = .ok (.ishl, 1) := dk_120 (dk_at dksJ5_putChar_1 6 rfl rfl)
theorem dJ5_putChar_31 : DC mJ5_putChar 31 = .ok (.istore_n 1, 1) := dk_60 (dk_at dksJ5_putChar_1 7 rfl rfl)
theorem dJ5_putChar_32 : DC mJ5_putChar 32 = .ok (.aload_n 0, 1) := dk_42 (dk_at dksJ5_putChar_1 8 rfl rfl)
theorem dJ5_putChar_33 : DC mJ5_putChar 33 = .ok (.iload_n 1, 1) := dk_27 (dk_at dksJ5_putChar_1 9 rfl rfl)
theorem dJ5_putChar_34 : DC mJ5_putChar 34 = .ok (.iinc 1 1, 3) := dk_132 1 1 (dk_at dksJ5_putChar_1 10 rfl rfl)
theorem dJ5_putChar_37 : DC mJ5_putChar 37 = .ok (.iload_n 2, 1) := dk_28 (dk_at dksJ5_putChar_1 13 rfl rfl)
theorem dJ5_putChar_38 : DC mJ5_putChar 38 = .ok (.getstatic 59, 3) := dk_178 0 59 (dk_at dksJ5_putChar_1 14 rfl rfl)
theorem dJ5_putChar_41 : DC mJ5_putChar 41 = .ok (.ishr, 1) := dk_122 (dk_at dksJ5_putChar_1 17 rfl rfl)
theorem dJ5_putChar_42 : DC mJ5_putChar 42 = .ok (.i2b, 1) := dk_145 (dk_at dksJ5_putChar_1 18 rfl rfl)
theorem dJ5_putChar_43 : DC mJ5_putChar 43 = .ok (.bastore, 1) := dk_84 (dk_at dksJ5_putChar_1 19 rfl rfl)
theorem dJ5_putChar_44 : DC mJ5_putChar 44 = .ok (.aload_n 0, 1) := dk_42 (dk_at dksJ5_putChar_1 20 rfl rfl)
theorem dJ5_putChar_45 : DC mJ5_putChar 45 = .ok (.iload_n 1, 1) := dk_27 (dk_at dksJ5_putChar_1 21 rfl rfl)
theorem dJ5_putChar_46 : DC mJ5_putChar 46 = .ok (.iload_n 2, 1) := dk_28 (dk_at dksJ5_putChar_1 22 rfl rfl)
theorem dJ5_putChar_47 : DC mJ5_putChar 47 = .ok (.getstatic 63, 3) := dk_178 0 63 (dk_at dksJ5_putChar_2 0 rfl rfl)
theorem dJ5_putChar_50 : DC mJ5_putChar 50 = .ok (.ishr, 1) := dk_122 (dk_at dksJ5_putChar_2 3 rfl rfl)
theorem dJ5_putChar_51 : DC mJ5_putChar 51 = .ok (.i2b, 1) := dk_145 (dk_at dksJ5_putChar_2 4 rfl rfl)
theorem dJ5_putChar_52 : DC mJ5_putChar 52 = .ok (.bastore, 1) := dk_84 (dk_at dksJ5_putChar_2 5 rfl rfl)
theorem dJ5_putChar_53 : DC mJ5_putChar 53 = .ok (.return_, 1) := dk_177 (dk_at dksJ5_putChar_2 6 rfl rfl)
abbrev cJ5_inflate : ByteArray := prog_38_method_86_code
def yJ5_inflate : MethodName := ⟨RJ5, "inflate", "([BI[BII)V"⟩
def mJ5_inflate : MI := (⟨"java/lang/StringUTF16", "inflate", "([BI[BII)V"⟩, prog_38_method_86_code, 6, (Option.none : Option FieldType), none, 5, 4)
theorem oJ5_inflate : mO mJ5_inflate = 5 := rfl
theorem lJ5_inflate : mL mJ5_inflate = 6 := rfl
theorem rJ5_inflate : mR mJ5_inflate = (Option.none : Option FieldType) := rfl
theorem vJ5_inflate : mV mJ5_inflate = 4 := rfl
theorem nJ5_inflate : (mY mJ5_inflate).name = "inflate" := rfl
theorem hJ5_inflate : mH mJ5_inflate = none := rfl
theorem kJ5_inflate : MOk mJ5_inflate := ⟨q659, q81, by decide +kernel⟩
theorem gJ5_inflate : plainName (mY mJ5_inflate).cls = true ∧ (mY mJ5_inflate).cls = "java/lang/StringUTF16" := ⟨by decide +kernel, rfl⟩
def dkwJ5_inflate_1 : List UInt8 := [132, 1, 1, 51, 17, 0, 255, 126, 184, 0, 111, 132, 5, 1, 167, 255, 228, 177]
abbrev dktJ5_inflate_1 : List UInt8 := dkwJ5_inflate_1 ++ []
def dkwJ5_inflate_0 : List UInt8 := [29, 21, 4, 44, 184, 0, 173, 3, 54, 5, 21, 5, 21, 4, 162, 0, 27, 44, 29, 132, 3, 1, 42, 27]
abbrev dktJ5_inflate_0 : List UInt8 := dkwJ5_inflate_0 ++ dktJ5_inflate_1
theorem dksJ5_inflate_0 : cJ5_inflate.data.toList.drop 0 = dktJ5_inflate_0 := by decide +kernel
theorem dksJ5_inflate_1 : cJ5_inflate.data.toList.drop 24 = dktJ5_inflate_1 := dk_seg dksJ5_inflate_0 24 rfl rfl
theorem dJ5_inflate_0 : DC mJ5_inflate 0 = .ok (.iload_n 3, 1) := dk_29 (dk_at dksJ5_inflate_0 0 rfl rfl)
theorem dJ5_inflate_1 : DC mJ5_inflate 1 = .ok (.iload 4, 2) := dk_21 4 (dk_at dksJ5_inflate_0 1 rfl rfl)
theorem dJ5_inflate_3 : DC mJ5_inflate 3 = .ok (.aload_n 2, 1) := dk_44 (dk_at dksJ5_inflate_0 3 rfl rfl)
theorem dJ5_inflate_4 : DC mJ5_inflate 4 = .ok (.invokestatic 173, 3) := dk_184 0 173 (dk_at dksJ5_inflate_0 4 rfl rfl)
theorem dJ5_inflate_7 : DC mJ5_inflate 7 = .ok (.iconst 0, 1) := dk_3 (dk_at dksJ5_inflate_0 7 rfl rfl)
theorem dJ5_inflate_8 : DC mJ5_inflate 8 = .ok (.istore 5, 2) := dk_54 5 (dk_at dksJ5_inflate_0 8 rfl rfl)
theorem dJ5_inflate_10 : DC mJ5_inflate 10 = .ok (.iload 5, 2) := dk_21 5 (dk_at dksJ5_inflate_0 10 rfl rfl)
theorem dJ5_inflate_12 : DC mJ5_inflate 12 = .ok (.iload 4, 2) := dk_21 4 (dk_at dksJ5_inflate_0 12 rfl rfl)
theorem dJ5_inflate_14 : DC mJ5_inflate 14 = .ok (.if_icmp .ge 27, 3) := dk_162 0 27 (dk_at dksJ5_inflate_0 14 rfl rfl)
theorem dJ5_inflate_17 : DC mJ5_inflate 17 = .ok (.aload_n 2, 1) := dk_44 (dk_at dksJ5_inflate_0 17 rfl rfl)
theorem dJ5_inflate_18 : DC mJ5_inflate 18 = .ok (.iload_n 3, 1) := dk_29 (dk_at dksJ5_inflate_0 18 rfl rfl)
theorem dJ5_inflate_19 : DC mJ5_inflate 19 = .ok (.iinc 3 1, 3) := dk_132 3 1 (dk_at dksJ5_inflate_0 19 rfl rfl)
theorem dJ5_inflate_22 : DC mJ5_inflate 22 = .ok (.aload_n 0, 1) := dk_42 (dk_at dksJ5_inflate_0 22 rfl rfl)
theorem dJ5_inflate_23 : DC mJ5_inflate 23 = .ok (.iload_n 1, 1) := dk_27 (dk_at dksJ5_inflate_0 23 rfl rfl)
theorem dJ5_inflate_24 : DC mJ5_inflate 24 = .ok (.iinc 1 1, 3) := dk_132 1 1 (dk_at dksJ5_inflate_1 0 rfl rfl)
theorem dJ5_inflate_27 : DC mJ5_inflate 27 = .ok (.baload, 1) := dk_51 (dk_at dksJ5_inflate_1 3 rfl rfl)
theorem dJ5_inflate_28 : DC mJ5_inflate 28 = .ok (.sipush 255, 3) := dk_17 0 255 (dk_at dksJ5_inflate_1 4 rfl rfl)
theorem dJ5_inflate_31 : DC mJ5_inflate 31 = .ok (.iand, 1) := dk_126 (dk_at dksJ5_inflate_1 7 rfl rfl)
theorem dJ5_inflate_32 : DC mJ5_inflate 32 = .ok (.invokestatic 111, 3) := dk_184 0 111 (dk_at dksJ5_inflate_1 8 rfl rfl)
theorem dJ5_inflate_35 : DC mJ5_inflate 35 = .ok (.iinc 5 1, 3) := dk_132 5 1 (dk_at dksJ5_inflate_1 11 rfl rfl)
theorem dJ5_inflate_38 : DC mJ5_inflate 38 = .ok (.goto (-28), 3) := dk_167 255 228 (dk_at dksJ5_inflate_1 14 rfl rfl)
theorem dJ5_inflate_41 : DC mJ5_inflate 41 = .ok (.return_, 1) := dk_177 (dk_at dksJ5_inflate_1 17 rfl rfl)
abbrev cJ5_checkBoundsOffCount : ByteArray := prog_38_method_94_code
def yJ5_checkBoundsOffCount : MethodName := ⟨RJ5, "checkBoundsOffCount", "(II[B)V"⟩
def mJ5_checkBoundsOffCount : MI := (⟨"java/lang/StringUTF16", "checkBoundsOffCount", "(II[B)V"⟩, prog_38_method_94_code, 3, (Option.none : Option FieldType), none, 5, 3)
theorem oJ5_checkBoundsOffCount : mO mJ5_checkBoundsOffCount = 5 := rfl
theorem lJ5_checkBoundsOffCount : mL mJ5_checkBoundsOffCount = 3 := rfl
theorem rJ5_checkBoundsOffCount : mR mJ5_checkBoundsOffCount = (Option.none : Option FieldType) := rfl
theorem vJ5_checkBoundsOffCount : mV mJ5_checkBoundsOffCount = 3 := rfl
theorem nJ5_checkBoundsOffCount : (mY mJ5_checkBoundsOffCount).name = "checkBoundsOffCount" := rfl
theorem hJ5_checkBoundsOffCount : mH mJ5_checkBoundsOffCount = none := rfl
theorem kJ5_checkBoundsOffCount : MOk mJ5_checkBoundsOffCount := ⟨q662, q81, by decide +kernel⟩
theorem gJ5_checkBoundsOffCount : plainName (mY mJ5_checkBoundsOffCount).cls = true ∧ (mY mJ5_checkBoundsOffCount).cls = "java/lang/StringUTF16" := ⟨by decide +kernel, rfl⟩
def dkwJ5_checkBoundsOffCount_0 : List UInt8 := [26, 27, 44, 184, 0, 48, 184, 1, 163, 87, 177]
abbrev dktJ5_checkBoundsOffCount_0 : List UInt8 := dkwJ5_checkBoundsOffCount_0 ++ []
theorem dksJ5_checkBoundsOffCount_0 : cJ5_checkBoundsOffCount.data.toList.drop 0 = dktJ5_checkBoundsOffCount_0 := by decide +kernel
theorem dJ5_checkBoundsOffCount_0 : DC mJ5_checkBoundsOffCount 0 = .ok (.iload_n 0, 1) := dk_26 (dk_at dksJ5_checkBoundsOffCount_0 0 rfl rfl)
theorem dJ5_checkBoundsOffCount_1 : DC mJ5_checkBoundsOffCount 1 = .ok (.iload_n 1, 1) := dk_27 (dk_at dksJ5_checkBoundsOffCount_0 1 rfl rfl)
theorem dJ5_checkBoundsOffCount_2 : DC mJ5_checkBoundsOffCount 2 = .ok (.aload_n 2, 1) := dk_44 (dk_at dksJ5_checkBoundsOffCount_0 2 rfl rfl)
theorem dJ5_checkBoundsOffCount_3 : DC mJ5_checkBoundsOffCount 3 = .ok (.invokestatic 48, 3) := dk_184 0 48 (dk_at dksJ5_checkBoundsOffCount_0 3 rfl rfl)
theorem dJ5_checkBoundsOffCount_6 : DC mJ5_checkBoundsOffCount 6 = .ok (.invokestatic 419, 3) := dk_184 1 163 (dk_at dksJ5_checkBoundsOffCount_0 6 rfl rfl)
theorem dJ5_checkBoundsOffCount_9 : DC mJ5_checkBoundsOffCount 9 = .ok (.pop, 1) := dk_87 (dk_at dksJ5_checkBoundsOffCount_0 9 rfl rfl)
theorem dJ5_checkBoundsOffCount_10 : DC mJ5_checkBoundsOffCount 10 = .ok (.return_, 1) := dk_177 (dk_at dksJ5_checkBoundsOffCount_0 10 rfl rfl)
abbrev cJ5_getChars : ByteArray := prog_38_method_77_code
def yJ5_getChars : MethodName := ⟨RJ5, "getChars", "(III[B)I"⟩
def mJ5_getChars : MI := (⟨"java/lang/StringUTF16", "getChars", "(III[B)I"⟩, prog_38_method_77_code, 5, (Option.some FieldType.int), none, 5, 4)
theorem oJ5_getChars : mO mJ5_getChars = 5 := rfl
theorem lJ5_getChars : mL mJ5_getChars = 5 := rfl
theorem rJ5_getChars : mR mJ5_getChars = (Option.some FieldType.int) := rfl
theorem vJ5_getChars : mV mJ5_getChars = 4 := rfl
theorem nJ5_getChars : (mY mJ5_getChars).name = "getChars" := rfl
theorem hJ5_getChars : mH mJ5_getChars = none := rfl
theorem kJ5_getChars : MOk mJ5_getChars := ⟨q694, q81, by decide +kernel⟩
theorem gJ5_getChars : plainName (mY mJ5_getChars).cls = true ∧ (mY mJ5_getChars).cls = "java/lang/StringUTF16" := ⟨by decide +kernel, rfl⟩
def dkwJ5_getChars_1 : List UInt8 := [159, 0, 11, 187, 0, 52, 89, 183, 0, 66, 191, 21, 4, 172]
abbrev dktJ5_getChars_1 : List UInt8 := dkwJ5_getChars_1 ++ []
def dkwJ5_getChars_0 : List UInt8 := [27, 28, 45, 184, 0, 96, 26, 28, 45, 184, 1, 137, 54, 4, 178, 0, 44, 154, 0, 17, 27, 21, 4]
abbrev dktJ5_getChars_0 : List UInt8 := dkwJ5_getChars_0 ++ dktJ5_getChars_1
theorem dksJ5_getChars_0 : cJ5_getChars.data.toList.drop 0 = dktJ5_getChars_0 := by decide +kernel
theorem dksJ5_getChars_1 : cJ5_getChars.data.toList.drop 23 = dktJ5_getChars_1 := dk_seg dksJ5_getChars_0 23 rfl rfl
theorem dJ5_getChars_0 : DC mJ5_getChars 0 = .ok (.iload_n 1, 1) := dk_27 (dk_at dksJ5_getChars_0 0 rfl rfl)
theorem dJ5_getChars_1 : DC mJ5_getChars 1 = .ok (.iload_n 2, 1) := dk_28 (dk_at dksJ5_getChars_0 1 rfl rfl)
theorem dJ5_getChars_2 : DC mJ5_getChars 2 = .ok (.aload_n 3, 1) := dk_45 (dk_at dksJ5_getChars_0 2 rfl rfl)
theorem dJ5_getChars_3 : DC mJ5_getChars 3 = .ok (.invokestatic 96, 3) := dk_184 0 96 (dk_at dksJ5_getChars_0 3 rfl rfl)
theorem dJ5_getChars_6 : DC mJ5_getChars 6 = .ok (.iload_n 0, 1) := dk_26 (dk_at dksJ5_getChars_0 6 rfl rfl)
theorem dJ5_getChars_7 : DC mJ5_getChars 7 = .ok (.iload_n 2, 1) := dk_28 (dk_at dksJ5_getChars_0 7 rfl rfl)
theorem dJ5_getChars_8 : DC mJ5_getChars 8 = .ok (.aload_n 3, 1) := dk_45 (dk_at dksJ5_getChars_0 8 rfl rfl)
theorem dJ5_getChars_9 : DC mJ5_getChars 9 = .ok (.invokestatic 393, 3) := dk_184 1 137 (dk_at dksJ5_getChars_0 9 rfl rfl)
theorem dJ5_getChars_12 : DC mJ5_getChars 12 = .ok (.istore 4, 2) := dk_54 4 (dk_at dksJ5_getChars_0 12 rfl rfl)
theorem dJ5_getChars_14 : DC mJ5_getChars 14 = .ok (.getstatic 44, 3) := dk_178 0 44 (dk_at dksJ5_getChars_0 14 rfl rfl)
theorem dJ5_getChars_17 : DC mJ5_getChars 17 = .ok (.ifCond .ne 17, 3) := dk_154 0 17 (dk_at dksJ5_getChars_0 17 rfl rfl)
theorem dJ5_getChars_20 : DC mJ5_getChars 20 = .ok (.iload_n 1, 1) := dk_27 (dk_at dksJ5_getChars_0 20 rfl rfl)
theorem dJ5_getChars_21 : DC mJ5_getChars 21 = .ok (.iload 4, 2) := dk_21 4 (dk_at dksJ5_getChars_0 21 rfl rfl)
theorem dJ5_getChars_23 : DC mJ5_getChars 23 = .ok (.if_icmp .eq 11, 3) := dk_159 0 11 (dk_at dksJ5_getChars_1 0 rfl rfl)
theorem dJ5_getChars_26 : DC mJ5_getChars 26 = .ok (.new 52, 3) := dk_187 0 52 (dk_at dksJ5_getChars_1 3 rfl rfl)
theorem dJ5_getChars_29 : DC mJ5_getChars 29 = .ok (.dup, 1) := dk_89 (dk_at dksJ5_getChars_1 6 rfl rfl)
theorem dJ5_getChars_30 : DC mJ5_getChars 30 = .ok (.invokespecial 66, 3) := dk_183 0 66 (dk_at dksJ5_getChars_1 7 rfl rfl)
theorem dJ5_getChars_33 : DC mJ5_getChars 33 = .ok (.athrow, 1) := dk_191 (dk_at dksJ5_getChars_1 10 rfl rfl)
theorem dJ5_getChars_34 : DC mJ5_getChars 34 = .ok (.iload 4, 2) := dk_21 4 (dk_at dksJ5_getChars_1 11 rfl rfl)
theorem dJ5_getChars_36 : DC mJ5_getChars 36 = .ok (.ireturn, 1) := dk_172 (dk_at dksJ5_getChars_1 13 rfl rfl)
abbrev cJ5_getChars_2 : ByteArray := prog_38_method_89_code
def yJ5_getChars_2 : MethodName := ⟨RJ5, "getChars", "(II[B)I"⟩
def mJ5_getChars_2 : MI := (⟨"java/lang/StringUTF16", "getChars", "(II[B)I"⟩, prog_38_method_89_code, 7, (Option.some FieldType.int), none, 5, 3)
theorem oJ5_getChars_2 : mO mJ5_getChars_2 = 5 := rfl
theorem lJ5_getChars_2 : mL mJ5_getChars_2 = 7 := rfl
theorem rJ5_getChars_2 : mR mJ5_getChars_2 = (Option.some FieldType.int) := rfl
theorem vJ5_getChars_2 : mV mJ5_getChars_2 = 3 := rfl
theorem nJ5_getChars_2 : (mY mJ5_getChars_2).name = "getChars" := rfl
theorem hJ5_getChars_2 : mH mJ5_getChars_2 = none := rfl
theorem kJ5_getChars_2 : MOk mJ5_getChars_2 := ⟨q697, q81, by decide +kernel⟩
theorem gJ5_getChars_2 : plainName (mY mJ5_getChars_2).cls = true ∧ (mY mJ5_getChars_2).cls = "java/lang/StringUTF16" := ⟨by decide +kernel, rfl⟩
def dkwJ5_getChars_2_5 : List UInt8 := [132, 5, 255, 21, 5, 16, 45, 184, 0, 111, 21, 5, 172]
abbrev dktJ5_getChars_2_5 : List UInt8 := dkwJ5_getChars_2_5 ++ []
def dkwJ5_getChars_2_4 : List UInt8 := [162, 0, 18, 44, 132, 5, 255, 21, 5, 178, 1, 151, 26, 116, 51, 184, 0, 111, 21, 6, 153, 0, 14, 44]
abbrev dktJ5_getChars_2_4 : List UInt8 := dkwJ5_getChars_2_4 ++ dktJ5_getChars_2_5
def dkwJ5_getChars_2_3 : List UInt8 := [184, 0, 111, 167, 255, 205, 44, 132, 5, 255, 21, 5, 178, 1, 147, 26, 116, 51, 184, 0, 111, 26, 16, 247]
abbrev dktJ5_getChars_2_3 : List UInt8 := dkwJ5_getChars_2_3 ++ dktJ5_getChars_2_4
def dkwJ5_getChars_2_2 : List UInt8 := [21, 5, 178, 1, 147, 21, 4, 51, 184, 0, 111, 44, 132, 5, 255, 21, 5, 178, 1, 151, 21, 4, 51]
abbrev dktJ5_getChars_2_2 : List UInt8 := dkwJ5_getChars_2_2 ++ dktJ5_getChars_2_3
def dkwJ5_getChars_2_1 : List UInt8 := [16, 156, 163, 0, 51, 26, 16, 100, 108, 62, 29, 16, 100, 104, 26, 100, 54, 4, 29, 59, 44, 132, 5, 255]
abbrev dktJ5_getChars_2_1 : List UInt8 := dkwJ5_getChars_2_1 ++ dktJ5_getChars_2_2
def dkwJ5_getChars_2_0 : List UInt8 := [27, 54, 5, 26, 156, 0, 7, 4, 167, 0, 4, 3, 54, 6, 21, 6, 154, 0, 6, 26, 116, 59, 26]
abbrev dktJ5_getChars_2_0 : List UInt8 := dkwJ5_getChars_2_0 ++ dktJ5_getChars_2_1
theorem dksJ5_getChars_2_0 : cJ5_getChars_2.data.toList.drop 0 = dktJ5_getChars_2_0 := by decide +kernel
theorem dksJ5_getChars_2_1 : cJ5_getChars_2.data.toList.drop 23 = dktJ5_getChars_2_1 := dk_seg dksJ5_getChars_2_0 23 rfl rfl
theorem dksJ5_getChars_2_2 : cJ5_getChars_2.data.toList.drop 47 = dktJ5_getChars_2_2 := dk_seg dksJ5_getChars_2_1 24 rfl rfl
theorem dksJ5_getChars_2_3 : cJ5_getChars_2.data.toList.drop 70 = dktJ5_getChars_2_3 := dk_seg dksJ5_getChars_2_2 23 rfl rfl
theorem dksJ5_getChars_2_4 : cJ5_getChars_2.data.toList.drop 94 = dktJ5_getChars_2_4 := dk_seg dksJ5_getChars_2_3 24 rfl rfl
theorem dksJ5_getChars_2_5 : cJ5_getChars_2.data.toList.drop 118 = dktJ5_getChars_2_5 := dk_seg dksJ5_getChars_2_4 24 rfl rfl
theorem dJ5_getChars_2_0 : DC mJ5_getChars_2 0 = .ok (.iload_n 1, 1) := dk_27 (dk_at dksJ5_getChars_2_0 0 rfl rfl)
theorem dJ5_getChars_2_1 : DC mJ5_getChars_2 1 = .ok (.istore 5, 2) := dk_54 5 (dk_at dksJ5_getChars_2_0 1 rfl rfl)
theorem dJ5_getChars_2_3 : DC mJ5_getChars_2 3 = .ok (.iload_n 0, 1) := dk_26 (dk_at dksJ5_getChars_2_0 3 rfl rfl)
theorem dJ5_getChars_2_4 : DC mJ5_getChars_2 4 = .ok (.ifCond .ge 7, 3) := dk_156 0 7 (dk_at dksJ5_getChars_2_0 4 rfl rfl)
theorem dJ5_getChars_2_7 : DC mJ5_getChars_2 7 = .ok (.iconst 1, 1) := dk_4 (dk_at dksJ5_getChars_2_0 7 rfl rfl)
theorem dJ5_getChars_2_8 : DC mJ5_getChars_2 8 = .ok (.goto 4, 3) := dk_167 0 4 (dk_at dksJ5_getChars_2_0 8 rfl rfl)
theorem dJ5_getChars_2_11 : DC mJ5_getChars_2 11 = .ok (.iconst 0, 1) := dk_3 (dk_at dksJ5_getChars_2_0 11 rfl rfl)
theorem dJ5_getChars_2_12 : DC mJ5_getChars_2 12 = .ok (.istore 6, 2) := dk_54 6 (dk_at dksJ5_getChars_2_0 12 rfl rfl)
theorem dJ5_getChars_2_14 : DC mJ5_getChars_2 14 = .ok (.iload 6, 2) := dk_21 6 (dk_at dksJ5_getChars_2_0 14 rfl rfl)
theorem dJ5_getChars_2_16 : DC mJ5_getChars_2 16 = .ok (.ifCond .ne 6, 3) := dk_154 0 6 (dk_at dksJ5_getChars_2_0 16 rfl rfl)
theorem dJ5_getChars_2_19 : DC mJ5_getChars_2 19 = .ok (.iload_n 0, 1) := dk_26 (dk_at dksJ5_getChars_2_0 19 rfl rfl)
theorem dJ5_getChars_2_20 : DC mJ5_getChars_2 20 = .ok (.ineg, 1) := dk_116 (dk_at dksJ5_getChars_2_0 20 rfl rfl)
theorem dJ5_getChars_2_21 : DC mJ5_getChars_2 21 = .ok (.istore_n 0, 1) := dk_59 (dk_at dksJ5_getChars_2_0 21 rfl rfl)
theorem dJ5_getChars_2_22 : DC mJ5_getChars_2 22 = .ok (.iload_n 0, 1) := dk_26 (dk_at dksJ5_getChars_2_0 22 rfl rfl)
theorem dJ5_getChars_2_23 : DC mJ5_getChars_2 23 = .ok (.bipush (-100), 2) := dk_16 156 (dk_at dksJ5_getChars_2_1 0 rfl rfl)
theorem dJ5_getChars_2_25 : DC mJ5_getChars_2 25 = .ok (.if_icmp .gt 51, 3) := dk_163 0 51 (dk_at dksJ5_getChars_2_1 2 rfl rfl)
theorem dJ5_getChars_2_28 : DC mJ5_getChars_2 28 = .ok (.iload_n 0, 1) := dk_26 (dk_at dksJ5_getChars_2_1 5 rfl rfl)
theorem dJ5_getChars_2_29 : DC mJ5_getChars_2 29 = .ok (.bipush 100, 2) := dk_16 100 (dk_at dksJ5_getChars_2_1 6 rfl rfl)
theorem dJ5_getChars_2_31 : DC mJ5_getChars_2 31 = .ok (.idiv, 1) := dk_108 (dk_at dksJ5_getChars_2_1 8 rfl rfl)
theorem dJ5_getChars_2_32 : DC mJ5_getChars_2 32 = .ok (.istore_n 3, 1) := dk_62 (dk_at dksJ5_getChars_2_1 9 rfl rfl)
theorem dJ5_getChars_2_33 : DC mJ5_getChars_2 33 = .ok (.iload_n 3, 1) := dk_29 (dk_at dksJ5_getChars_2_1 10 rfl rfl)
theorem dJ5_getChars_2_34 : DC mJ5_getChars_2 34 = .ok (.bipush 100, 2) := dk_16 100 (dk_at dksJ5_getChars_2_1 11 rfl rfl)
theorem dJ5_getChars_2_36 : DC mJ5_getChars_2 36 = .ok (.imul, 1) := dk_104 (dk_at dksJ5_getChars_2_1 13 rfl rfl)
theorem dJ5_getChars_2_37 : DC mJ5_getChars_2 37 = .ok (.iload_n 0, 1) := dk_26 (dk_at dksJ5_getChars_2_1 14 rfl rfl)
theorem dJ5_getChars_2_38 : DC mJ5_getChars_2 38 = .ok (.isub, 1) := dk_100 (dk_at dksJ5_getChars_2_1 15 rfl rfl)
theorem dJ5_getChars_2_39 : DC mJ5_getChars_2 39 = .ok (.istore 4, 2) := dk_54 4 (dk_at dksJ5_getChars_2_1 16 rfl rfl)
theorem dJ5_getChars_2_41 : DC mJ5_getChars_2 41 = .ok (.iload_n 3, 1) := dk_29 (dk_at dksJ5_getChars_2_1 18 rfl rfl)
theorem dJ5_getChars_2_42 : DC mJ5_getChars_2 42 = .ok (.istore_n 0, 1) := dk_59 (dk_at dksJ5_getChars_2_1 19 rfl rfl)
theorem dJ5_getChars_2_43 : DC mJ5_getChars_2 43 = .ok (.aload_n 2, 1) := dk_44 (dk_at dksJ5_getChars_2_1 20 rfl rfl)
theorem dJ5_getChars_2_44 : DC mJ5_getChars_2 44 = .ok (.iinc 5 (-1), 3) := dk_132 5 255 (dk_at dksJ5_getChars_2_1 21 rfl rfl)
theorem dJ5_getChars_2_47 : DC mJ5_getChars_2 47 = .ok (.iload 5, 2) := dk_21 5 (dk_at dksJ5_getChars_2_2 0 rfl rfl)
theorem dJ5_getChars_2_49 : DC mJ5_getChars_2 49 = .ok (.getstatic 403, 3) := dk_178 1 147 (dk_at dksJ5_getChars_2_2 2 rfl rfl)
theorem dJ5_getChars_2_52 : DC mJ5_getChars_2 52 = .ok (.iload 4, 2) := dk_21 4 (dk_at dksJ5_getChars_2_2 5 rfl rfl)
theorem dJ5_getChars_2_54 : DC mJ5_getChars_2 54 = .ok (.baload, 1) := dk_51 (dk_at dksJ5_getChars_2_2 7 rfl rfl)
theorem dJ5_getChars_2_55 : DC mJ5_getChars_2 55 = .ok (.invokestatic 111, 3) := dk_184 0 111 (dk_at dksJ5_getChars_2_2 8 rfl rfl)
theorem dJ5_getChars_2_58 : DC mJ5_getChars_2 58 = .ok (.aload_n 2, 1) := dk_44 (dk_at dksJ5_getChars_2_2 11 rfl rfl)
theorem dJ5_getChars_2_59 : DC mJ5_getChars_2 59 = .ok (.iinc 5 (-1), 3) := dk_132 5 255 (dk_at dksJ5_getChars_2_2 12 rfl rfl)
theorem dJ5_getChars_2_62 : DC mJ5_getChars_2 62 = .ok (.iload 5, 2) := dk_21 5 (dk_at dksJ5_getChars_2_2 15 rfl rfl)
theorem dJ5_getChars_2_64 : DC mJ5_getChars_2 64 = .ok (.getstatic 407, 3) := dk_178 1 151 (dk_at dksJ5_getChars_2_2 17 rfl rfl)
theorem dJ5_getChars_2_67 : DC mJ5_getChars_2 67 = .ok (.iload 4, 2) := dk_21 4 (dk_at dksJ5_getChars_2_2 20 rfl rfl)
theorem dJ5_getChars_2_69 : DC mJ5_getChars_2 69 = .ok (.baload, 1) := dk_51 (dk_at dksJ5_getChars_2_2 22 rfl rfl)
theorem dJ5_getChars_2_70 : DC mJ5_getChars_2 70 = .ok (.invokestatic 111, 3) := dk_184 0 111 (dk_at dksJ5_getChars_2_3 0 rfl rfl)
theorem dJ5_getChars_2_73 : DC mJ5_getChars_2 73 = .ok (.goto (-51), 3) := dk_167 255 205 (dk_at dksJ5_getChars_2_3 3 rfl rfl)
theorem dJ5_getChars_2_76 : DC mJ5_getChars_2 76 = .ok (.aload_n 2, 1) := dk_44 (dk_at dksJ5_getChars_2_3 6 rfl rfl)
theorem dJ5_getChars_2_77 : DC mJ5_getChars_2 77 = .ok (.iinc 5 (-1), 3) := dk_132 5 255 (dk_at dksJ5_getChars_2_3 7 rfl rfl)
theorem dJ5_getChars_2_80 : DC mJ5_getChars_2 80 = .ok (.iload 5, 2) := dk_21 5 (dk_at dksJ5_getChars_2_3 10 rfl rfl)
theorem dJ5_getChars_2_82 : DC mJ5_getChars_2 82 = .ok (.getstatic 403, 3) := dk_178 1 147 (dk_at dksJ5_getChars_2_3 12 rfl rfl)
theorem dJ5_getChars_2_85 : DC mJ5_getChars_2 85 = .ok (.iload_n 0, 1) := dk_26 (dk_at dksJ5_getChars_2_3 15 rfl rfl)
theorem dJ5_getChars_2_86 : DC mJ5_getChars_2 86 = .ok (.ineg, 1) := dk_116 (dk_at dksJ5_getChars_2_3 16 rfl rfl)
theorem dJ5_getChars_2_87 : DC mJ5_getChars_2 87 = .ok (.baload, 1) := dk_51 (dk_at dksJ5_getChars_2_3 17 rfl rfl)
theorem dJ5_getChars_2_88 : DC mJ5_getChars_2 88 = .ok (.invokestatic 111, 3) := dk_184 0 111 (dk_at dksJ5_getChars_2_3 18 rfl rfl)
theorem dJ5_getChars_2_91 : DC mJ5_getChars_2 91 = .ok (.iload_n 0, 1) := dk_26 (dk_at dksJ5_getChars_2_3 21 rfl rfl)
theorem dJ5_getChars_2_92 : DC mJ5_getChars_2 92 = .ok (.bipush (-9), 2) := dk_16 247 (dk_at dksJ5_getChars_2_3 22 rfl rfl)
theorem dJ5_getChars_2_94 : DC mJ5_getChars_2 94 = .ok (.if_icmp .ge 18, 3) := dk_162 0 18 (dk_at dksJ5_getChars_2_4 0 rfl rfl)
theorem dJ5_getChars_2_97 : DC mJ5_getChars_2 97 = .ok (.aload_n 2, 1) := dk_44 (dk_at dksJ5_getChars_2_4 3 rfl rfl)
theorem dJ5_getChars_2_98 : DC mJ5_getChars_2 98 = .ok (.iinc 5 (-1), 3) := dk_132 5 255 (dk_at dksJ5_getChars_2_4 4 rfl rfl)
theorem dJ5_getChars_2_101 : DC mJ5_getChars_2 101 = .ok (.iload 5, 2) := dk_21 5 (dk_at dksJ5_getChars_2_4 7 rfl rfl)
theorem dJ5_getChars_2_103 : DC mJ5_getChars_2 103 = .ok (.getstatic 407, 3) := dk_178 1 151 (dk_at dksJ5_getChars_2_4 9 rfl rfl)
theorem dJ5_getChars_2_106 : DC mJ5_getChars_2 106 = .ok (.iload_n 0, 1) := dk_26 (dk_at dksJ5_getChars_2_4 12 rfl rfl)
theorem dJ5_getChars_2_107 : DC mJ5_getChars_2 107 = .ok (.ineg, 1) := dk_116 (dk_at dksJ5_getChars_2_4 13 rfl rfl)
theorem dJ5_getChars_2_108 : DC mJ5_getChars_2 108 = .ok (.baload, 1) := dk_51 (dk_at dksJ5_getChars_2_4 14 rfl rfl)
theorem dJ5_getChars_2_109 : DC mJ5_getChars_2 109 = .ok (.invokestatic 111, 3) := dk_184 0 111 (dk_at dksJ5_getChars_2_4 15 rfl rfl)
theorem dJ5_getChars_2_112 : DC mJ5_getChars_2 112 = .ok (.iload 6, 2) := dk_21 6 (dk_at dksJ5_getChars_2_4 18 rfl rfl)
theorem dJ5_getChars_2_114 : DC mJ5_getChars_2 114 = .ok (.ifCond .eq 14, 3) := dk_153 0 14 (dk_at dksJ5_getChars_2_4 20 rfl rfl)
theorem dJ5_getChars_2_117 : DC mJ5_getChars_2 117 = .ok (.aload_n 2, 1) := dk_44 (dk_at dksJ5_getChars_2_4 23 rfl rfl)
theorem dJ5_getChars_2_118 : DC mJ5_getChars_2 118 = .ok (.iinc 5 (-1), 3) := dk_132 5 255 (dk_at dksJ5_getChars_2_5 0 rfl rfl)
theorem dJ5_getChars_2_121 : DC mJ5_getChars_2 121 = .ok (.iload 5, 2) := dk_21 5 (dk_at dksJ5_getChars_2_5 3 rfl rfl)
theorem dJ5_getChars_2_123 : DC mJ5_getChars_2 123 = .ok (.bipush 45, 2) := dk_16 45 (dk_at dksJ5_getChars_2_5 5 rfl rfl)
theorem dJ5_getChars_2_125 : DC mJ5_getChars_2 125 = .ok (.invokestatic 111, 3) := dk_184 0 111 (dk_at dksJ5_getChars_2_5 7 rfl rfl)
theorem dJ5_getChars_2_128 : DC mJ5_getChars_2 128 = .ok (.iload 5, 2) := dk_21 5 (dk_at dksJ5_getChars_2_5 10 rfl rfl)
theorem dJ5_getChars_2_130 : DC mJ5_getChars_2 130 = .ok (.ireturn, 1) := dk_172 (dk_at dksJ5_getChars_2_5 12 rfl rfl)
abbrev cJ5_compress : ByteArray := prog_38_method_17_code
def yJ5_compress : MethodName := ⟨RJ5, "compress", "([BII)[B"⟩
def mJ5_compress : MI := (⟨"java/lang/StringUTF16", "compress", "([BII)[B"⟩, prog_38_method_17_code, 6, (Option.some (FieldType.array FieldType.byte)), none, 5, 5)
theorem oJ5_compress : mO mJ5_compress = 5 := rfl
theorem lJ5_compress : mL mJ5_compress = 6 := rfl
theorem rJ5_compress : mR mJ5_compress = (Option.some (FieldType.array FieldType.byte)) := rfl
theorem vJ5_compress : mV mJ5_compress = 5 := rfl
theorem nJ5_compress : (mY mJ5_compress).name = "compress" := rfl
theorem hJ5_compress : mH mJ5_compress = none := rfl
theorem kJ5_compress : MOk mJ5_compress := ⟨q779, q81, by decide +kernel⟩
theorem gJ5_compress : plainName (mY mJ5_compress).cls = true ∧ (mY mJ5_compress).cls = "java/lang/StringUTF16" := ⟨by decide +kernel, rfl⟩
def dkwJ5_compress_2 : List UInt8 := [25, 5, 3, 45, 3, 28, 184, 0, 123, 28, 159, 0, 6, 25, 5, 176, 45, 176]
abbrev dktJ5_compress_2 : List UInt8 := dkwJ5_compress_2 ++ []
def dkwJ5_compress_1 : List UInt8 := [27, 28, 96, 184, 0, 11, 184, 0, 126, 58, 5, 25, 5, 21, 4, 184, 0, 71, 17, 0, 255, 163, 0, 16]
abbrev dktJ5_compress_1 : List UInt8 := dkwJ5_compress_1 ++ dktJ5_compress_2
def dkwJ5_compress_0 : List UInt8 := [28, 188, 8, 78, 42, 27, 45, 3, 28, 184, 0, 123, 54, 4, 21, 4, 28, 159, 0, 47, 42, 27, 4, 120]
abbrev dktJ5_compress_0 : List UInt8 := dkwJ5_compress_0 ++ dktJ5_compress_1
theorem dksJ5_compress_0 : cJ5_compress.data.toList.drop 0 = dktJ5_compress_0 := by decide +kernel
theorem dksJ5_compress_1 : cJ5_compress.data.toList.drop 24 = dktJ5_compress_1 := dk_seg dksJ5_compress_0 24 rfl rfl
theorem dksJ5_compress_2 : cJ5_compress.data.toList.drop 48 = dktJ5_compress_2 := dk_seg dksJ5_compress_1 24 rfl rfl
theorem dJ5_compress_0 : DC mJ5_compress 0 = .ok (.iload_n 2, 1) := dk_28 (dk_at dksJ5_compress_0 0 rfl rfl)
theorem dJ5_compress_1 : DC mJ5_compress 1 = .ok (.newarray .byte, 2) := dk_188_8 (dk_at dksJ5_compress_0 1 rfl rfl)
theorem dJ5_compress_3 : DC mJ5_compress 3 = .ok (.astore_n 3, 1) := dk_78 (dk_at dksJ5_compress_0 3 rfl rfl)
theorem dJ5_compress_4 : DC mJ5_compress 4 = .ok (.aload_n 0, 1) := dk_42 (dk_at dksJ5_compress_0 4 rfl rfl)
theorem dJ5_compress_5 : DC mJ5_compress 5 = .ok (.iload_n 1, 1) := dk_27 (dk_at dksJ5_compress_0 5 rfl rfl)
theorem dJ5_compress_6 : DC mJ5_compress 6 = .ok (.aload_n 3, 1) := dk_45 (dk_at dksJ5_compress_0 6 rfl rfl)
theorem dJ5_compress_7 : DC mJ5_compress 7 = .ok (.iconst 0, 1) := dk_3 (dk_at dksJ5_compress_0 7 rfl rfl)
theorem dJ5_compress_8 : DC mJ5_compress 8 = .ok (.iload_n 2, 1) := dk_28 (dk_at dksJ5_compress_0 8 rfl rfl)
theorem dJ5_compress_9 : DC mJ5_compress 9 = .ok (.invokestatic 123, 3) := dk_184 0 123 (dk_at dksJ5_compress_0 9 rfl rfl)
theorem dJ5_compress_12 : DC mJ5_compress 12 = .ok (.istore 4, 2) := dk_54 4 (dk_at dksJ5_compress_0 12 rfl rfl)
theorem dJ5_compress_14 : DC mJ5_compress 14 = .ok (.iload 4, 2) := dk_21 4 (dk_at dksJ5_compress_0 14 rfl rfl)
theorem dJ5_compress_16 : DC mJ5_compress 16 = .ok (.iload_n 2, 1) := dk_28 (dk_at dksJ5_compress_0 16 rfl rfl)
theorem dJ5_compress_17 : DC mJ5_compress 17 = .ok (.if_icmp .eq 47, 3) := dk_159 0 47 (dk_at dksJ5_compress_0 17 rfl rfl)
theorem dJ5_compress_20 : DC mJ5_compress 20 = .ok (.aload_n 0, 1) := dk_42 (dk_at dksJ5_compress_0 20 rfl rfl)
theorem dJ5_compress_21 : DC mJ5_compress 21 = .ok (.iload_n 1, 1) := dk_27 (dk_at dksJ5_compress_0 21 rfl rfl)
theorem dJ5_compress_22 : DC mJ5_compress 22 = .ok (.iconst 1, 1) := dk_4 (dk_at dksJ5_compress_0 22 rfl rfl)
theorem dJ5_compress_23 : DC mJ5_compress 23 = .ok (.ishl, 1) := dk_120 (dk_at dksJ5_compress_0 23 rfl rfl)
theorem dJ5_compress_24 : DC mJ5_compress 24 = .ok (.iload_n 1, 1) := dk_27 (dk_at dksJ5_compress_1 0 rfl rfl)
theorem dJ5_compress_25 : DC mJ5_compress 25 = .ok (.iload_n 2, 1) := dk_28 (dk_at dksJ5_compress_1 1 rfl rfl)
theorem dJ5_compress_26 : DC mJ5_compress 26 = .ok (.iadd, 1) := dk_96 (dk_at dksJ5_compress_1 2 rfl rfl)
theorem dJ5_compress_27 : DC mJ5_compress 27 = .ok (.invokestatic 11, 3) := dk_184 0 11 (dk_at dksJ5_compress_1 3 rfl rfl)
theorem dJ5_compress_30 : DC mJ5_compress 30 = .ok (.invokestatic 126, 3) := dk_184 0 126 (dk_at dksJ5_compress_1 6 rfl rfl)
theorem dJ5_compress_33 : DC mJ5_compress 33 = .ok (.astore 5, 2) := dk_58 5 (dk_at dksJ5_compress_1 9 rfl rfl)
theorem dJ5_compress_35 : DC mJ5_compress 35 = .ok (.aload 5, 2) := dk_25 5 (dk_at dksJ5_compress_1 11 rfl rfl)
theorem dJ5_compress_37 : DC mJ5_compress 37 = .ok (.iload 4, 2) := dk_21 4 (dk_at dksJ5_compress_1 13 rfl rfl)
theorem dJ5_compress_39 : DC mJ5_compress 39 = .ok (.invokestatic 71, 3) := dk_184 0 71 (dk_at dksJ5_compress_1 15 rfl rfl)
theorem dJ5_compress_42 : DC mJ5_compress 42 = .ok (.sipush 255, 3) := dk_17 0 255 (dk_at dksJ5_compress_1 18 rfl rfl)
theorem dJ5_compress_45 : DC mJ5_compress 45 = .ok (.if_icmp .gt 16, 3) := dk_163 0 16 (dk_at dksJ5_compress_1 21 rfl rfl)
theorem dJ5_compress_48 : DC mJ5_compress 48 = .ok (.aload 5, 2) := dk_25 5 (dk_at dksJ5_compress_2 0 rfl rfl)
theorem dJ5_compress_50 : DC mJ5_compress 50 = .ok (.iconst 0, 1) := dk_3 (dk_at dksJ5_compress_2 2 rfl rfl)
theorem dJ5_compress_51 : DC mJ5_compress 51 = .ok (.aload_n 3, 1) := dk_45 (dk_at dksJ5_compress_2 3 rfl rfl)
theorem dJ5_compress_52 : DC mJ5_compress 52 = .ok (.iconst 0, 1) := dk_3 (dk_at dksJ5_compress_2 4 rfl rfl)
theorem dJ5_compress_53 : DC mJ5_compress 53 = .ok (.iload_n 2, 1) := dk_28 (dk_at dksJ5_compress_2 5 rfl rfl)
theorem dJ5_compress_54 : DC mJ5_compress 54 = .ok (.invokestatic 123, 3) := dk_184 0 123 (dk_at dksJ5_compress_2 6 rfl rfl)
theorem dJ5_compress_57 : DC mJ5_compress 57 = .ok (.iload_n 2, 1) := dk_28 (dk_at dksJ5_compress_2 9 rfl rfl)
theorem dJ5_compress_58 : DC mJ5_compress 58 = .ok (.if_icmp .eq 6, 3) := dk_159 0 6 (dk_at dksJ5_compress_2 10 rfl rfl)
theorem dJ5_compress_61 : DC mJ5_compress 61 = .ok (.aload 5, 2) := dk_25 5 (dk_at dksJ5_compress_2 13 rfl rfl)
theorem dJ5_compress_63 : DC mJ5_compress 63 = .ok (.areturn, 1) := dk_176 (dk_at dksJ5_compress_2 15 rfl rfl)
theorem dJ5_compress_64 : DC mJ5_compress 64 = .ok (.aload_n 3, 1) := dk_45 (dk_at dksJ5_compress_2 16 rfl rfl)
theorem dJ5_compress_65 : DC mJ5_compress 65 = .ok (.areturn, 1) := dk_176 (dk_at dksJ5_compress_2 17 rfl rfl)
abbrev cJ5_compress_2 : ByteArray := prog_38_method_22_code
def yJ5_compress_2 : MethodName := ⟨RJ5, "compress", "([BI[BII)I"⟩
def mJ5_compress_2 : MI := (⟨"java/lang/StringUTF16", "compress", "([BI[BII)I"⟩, prog_38_method_22_code, 7, (Option.some FieldType.int), none, 5, 4)
theorem oJ5_compress_2 : mO mJ5_compress_2 = 5 := rfl
theorem lJ5_compress_2 : mL mJ5_compress_2 = 7 := rfl
theorem rJ5_compress_2 : mR mJ5_compress_2 = (Option.some FieldType.int) := rfl
theorem vJ5_compress_2 : mV mJ5_compress_2 = 4 := rfl
theorem nJ5_compress_2 : (mY mJ5_compress_2).name = "compress" := rfl
theorem hJ5_compress_2 : mH mJ5_compress_2 = none := rfl
theorem kJ5_compress_2 : MOk mJ5_compress_2 := ⟨q782, q81, by decide +kernel⟩
theorem gJ5_compress_2 : plainName (mY mJ5_compress_2).cls = true ∧ (mY mJ5_compress_2).cls = "java/lang/StringUTF16" := ⟨by decide +kernel, rfl⟩
def dkwJ5_compress_2_2 : List UInt8 := [132, 5, 1, 167, 255, 216, 21, 4, 172]
abbrev dktJ5_compress_2_2 : List UInt8 := dkwJ5_compress_2_2 ++ []
def dkwJ5_compress_2_1 : List UInt8 := [21, 6, 17, 0, 255, 164, 0, 6, 21, 5, 172, 44, 29, 21, 6, 145, 84, 132, 1, 1, 132, 3, 1]
abbrev dktJ5_compress_2_1 : List UInt8 := dkwJ5_compress_2_1 ++ dktJ5_compress_2_2
def dkwJ5_compress_2_0 : List UInt8 := [27, 21, 4, 42, 184, 0, 173, 3, 54, 5, 21, 5, 21, 4, 162, 0, 39, 42, 27, 184, 0, 71, 54, 6]
abbrev dktJ5_compress_2_0 : List UInt8 := dkwJ5_compress_2_0 ++ dktJ5_compress_2_1
theorem dksJ5_compress_2_0 : cJ5_compress_2.data.toList.drop 0 = dktJ5_compress_2_0 := by decide +kernel
theorem dksJ5_compress_2_1 : cJ5_compress_2.data.toList.drop 24 = dktJ5_compress_2_1 := dk_seg dksJ5_compress_2_0 24 rfl rfl
theorem dksJ5_compress_2_2 : cJ5_compress_2.data.toList.drop 47 = dktJ5_compress_2_2 := dk_seg dksJ5_compress_2_1 23 rfl rfl
theorem dJ5_compress_2_0 : DC mJ5_compress_2 0 = .ok (.iload_n 1, 1) := dk_27 (dk_at dksJ5_compress_2_0 0 rfl rfl)
theorem dJ5_compress_2_1 : DC mJ5_compress_2 1 = .ok (.iload 4, 2) := dk_21 4 (dk_at dksJ5_compress_2_0 1 rfl rfl)
theorem dJ5_compress_2_3 : DC mJ5_compress_2 3 = .ok (.aload_n 0, 1) := dk_42 (dk_at dksJ5_compress_2_0 3 rfl rfl)
theorem dJ5_compress_2_4 : DC mJ5_compress_2 4 = .ok (.invokestatic 173, 3) := dk_184 0 173 (dk_at dksJ5_compress_2_0 4 rfl rfl)
theorem dJ5_compress_2_7 : DC mJ5_compress_2 7 = .ok (.iconst 0, 1) := dk_3 (dk_at dksJ5_compress_2_0 7 rfl rfl)
theorem dJ5_compress_2_8 : DC mJ5_compress_2 8 = .ok (.istore 5, 2) := dk_54 5 (dk_at dksJ5_compress_2_0 8 rfl rfl)
theorem dJ5_compress_2_10 : DC mJ5_compress_2 10 = .ok (.iload 5, 2) := dk_21 5 (dk_at dksJ5_compress_2_0 10 rfl rfl)
theorem dJ5_compress_2_12 : DC mJ5_compress_2 12 = .ok (.iload 4, 2) := dk_21 4 (dk_at dksJ5_compress_2_0 12 rfl rfl)
theorem dJ5_compress_2_14 : DC mJ5_compress_2 14 = .ok (.if_icmp .ge 39, 3) := dk_162 0 39 (dk_at dksJ5_compress_2_0 14 rfl rfl)
theorem dJ5_compress_2_17 : DC mJ5_compress_2 17 = .ok (.aload_n 0, 1) := dk_42 (dk_at dksJ5_compress_2_0 17 rfl rfl)
theorem dJ5_compress_2_18 : DC mJ5_compress_2 18 = .ok (.iload_n 1, 1) := dk_27 (dk_at dksJ5_compress_2_0 18 rfl rfl)
theorem dJ5_compress_2_19 : DC mJ5_compress_2 19 = .ok (.invokestatic 71, 3) := dk_184 0 71 (dk_at dksJ5_compress_2_0 19 rfl rfl)
theorem dJ5_compress_2_22 : DC mJ5_compress_2 22 = .ok (.istore 6, 2) := dk_54 6 (dk_at dksJ5_compress_2_0 22 rfl rfl)
theorem dJ5_compress_2_24 : DC mJ5_compress_2 24 = .ok (.iload 6, 2) := dk_21 6 (dk_at dksJ5_compress_2_1 0 rfl rfl)
theorem dJ5_compress_2_26 : DC mJ5_compress_2 26 = .ok (.sipush 255, 3) := dk_17 0 255 (dk_at dksJ5_compress_2_1 2 rfl rfl)
theorem dJ5_compress_2_29 : DC mJ5_compress_2 29 = .ok (.if_icmp .le 6, 3) := dk_164 0 6 (dk_at dksJ5_compress_2_1 5 rfl rfl)
theorem dJ5_compress_2_32 : DC mJ5_compress_2 32 = .ok (.iload 5, 2) := dk_21 5 (dk_at dksJ5_compress_2_1 8 rfl rfl)
theorem dJ5_compress_2_34 : DC mJ5_compress_2 34 = .ok (.ireturn, 1) := dk_172 (dk_at dksJ5_compress_2_1 10 rfl rfl)
theorem dJ5_compress_2_35 : DC mJ5_compress_2 35 = .ok (.aload_n 2, 1) := dk_44 (dk_at dksJ5_compress_2_1 11 rfl rfl)
theorem dJ5_compress_2_36 : DC mJ5_compress_2 36 = .ok (.iload_n 3, 1) := dk_29 (dk_at dksJ5_compress_2_1 12 rfl rfl)
theorem dJ5_compress_2_37 : DC mJ5_compress_2 37 = .ok (.iload 6, 2) := dk_21 6 (dk_at dksJ5_compress_2_1 13 rfl rfl)
theorem dJ5_compress_2_39 : DC mJ5_compress_2 39 = .ok (.i2b, 1) := dk_145 (dk_at dksJ5_compress_2_1 15 rfl rfl)
theorem dJ5_compress_2_40 : DC mJ5_compress_2 40 = .ok (.bastore, 1) := dk_84 (dk_at dksJ5_compress_2_1 16 rfl rfl)
theorem dJ5_compress_2_41 : DC mJ5_compress_2 41 = .ok (.iinc 1 1, 3) := dk_132 1 1 (dk_at dksJ5_compress_2_1 17 rfl rfl)
theorem dJ5_compress_2_44 : DC mJ5_compress_2 44 = .ok (.iinc 3 1, 3) := dk_132 3 1 (dk_at dksJ5_compress_2_1 20 rfl rfl)
theorem dJ5_compress_2_47 : DC mJ5_compress_2 47 = .ok (.iinc 5 1, 3) := dk_132 5 1 (dk_at dksJ5_compress_2_2 0 rfl rfl)
theorem dJ5_compress_2_50 : DC mJ5_compress_2 50 = .ok (.goto (-40), 3) := dk_167 255 216 (dk_at dksJ5_compress_2_2 3 rfl rfl)
theorem dJ5_compress_2_53 : DC mJ5_compress_2 53 = .ok (.iload 4, 2) := dk_21 4 (dk_at dksJ5_compress_2_2 6 rfl rfl)
theorem dJ5_compress_2_55 : DC mJ5_compress_2 55 = .ok (.ireturn, 1) := dk_172 (dk_at dksJ5_compress_2_2 8 rfl rfl)
abbrev cJ5_getChar : ByteArray := prog_38_method_5_code
def yJ5_getChar : MethodName := ⟨RJ5, "getChar", "([BI)C"⟩
def mJ5_getChar : MI := (⟨"java/lang/StringUTF16", "getChar", "([BI)C"⟩, prog_38_method_5_code, 2, (Option.some FieldType.char), none, 5, 2)
theorem oJ5_getChar : mO mJ5_getChar = 5 := rfl
theorem lJ5_getChar : mL mJ5_getChar = 2 := rfl
theorem rJ5_getChar : mR mJ5_getChar = (Option.some FieldType.char) := rfl
theorem vJ5_getChar : mV mJ5_getChar = 2 := rfl
theorem nJ5_getChar : (mY mJ5_getChar).name = "getChar" := rfl
theorem hJ5_getChar : mH mJ5_getChar = none := rfl
theorem kJ5_getChar : MOk mJ5_getChar := ⟨q785, q81, by decide +kernel⟩
theorem gJ5_getChar : plainName (mY mJ5_getChar).cls = true ∧ (mY mJ5_getChar).cls = "java/lang/StringUTF16" := ⟨by decide +kernel, rfl⟩
def dkwJ5_getChar_2 : List UInt8 := [51, 17, 0, 255, 126, 178, 0, 63, 120, 128, 146, 172]
abbrev dktJ5_getChar_2 : List UInt8 := dkwJ5_getChar_2 ++ []
def dkwJ5_getChar_1 : List UInt8 := [183, 0, 56, 191, 27, 4, 120, 60, 42, 27, 132, 1, 1, 51, 17, 0, 255, 126, 178, 0, 59, 120, 42, 27]
abbrev dktJ5_getChar_1 : List UInt8 := dkwJ5_getChar_1 ++ dktJ5_getChar_2
def dkwJ5_getChar_0 : List UInt8 := [178, 0, 44, 154, 0, 25, 27, 155, 0, 11, 27, 42, 184, 0, 48, 161, 0, 13, 187, 0, 52, 89, 18, 54]
abbrev dktJ5_getChar_0 : List UInt8 := dkwJ5_getChar_0 ++ dktJ5_getChar_1
theorem dksJ5_getChar_0 : cJ5_getChar.data.toList.drop 0 = dktJ5_getChar_0 := by decide +kernel
theorem dksJ5_getChar_1 : cJ5_getChar.data.toList.drop 24 = dktJ5_getChar_1 := dk_seg dksJ5_getChar_0 24 rfl rfl
theorem dksJ5_getChar_2 : cJ5_getChar.data.toList.drop 48 = dktJ5_getChar_2 := dk_seg dksJ5_getChar_1 24 rfl rfl
theorem dJ5_getChar_0 : DC mJ5_getChar 0 = .ok (.getstatic 44, 3) := dk_178 0 44 (dk_at dksJ5_getChar_0 0 rfl rfl)
theorem dJ5_getChar_3 : DC mJ5_getChar 3 = .ok (.ifCond .ne 25, 3) := dk_154 0 25 (dk_at dksJ5_getChar_0 3 rfl rfl)
theorem dJ5_getChar_6 : DC mJ5_getChar 6 = .ok (.iload_n 1, 1) := dk_27 (dk_at dksJ5_getChar_0 6 rfl rfl)
theorem dJ5_getChar_7 : DC mJ5_getChar 7 = .ok (.ifCond .lt 11, 3) := dk_155 0 11 (dk_at dksJ5_getChar_0 7 rfl rfl)
theorem dJ5_getChar_10 : DC mJ5_getChar 10 = .ok (.iload_n 1, 1) := dk_27 (dk_at dksJ5_getChar_0 10 rfl rfl)
theorem dJ5_getChar_11 : DC mJ5_getChar 11 = .ok (.aload_n 0, 1) := dk_42 (dk_at dksJ5_getChar_0 11 rfl rfl)
theorem dJ5_getChar_12 : DC mJ5_getChar 12 = .ok (.invokestatic 48, 3) := dk_184 0 48 (dk_at dksJ5_getChar_0 12 rfl rfl)
theorem dJ5_getChar_15 : DC mJ5_getChar 15 = .ok (.if_icmp .lt 13, 3) := dk_161 0 13 (dk_at dksJ5_getChar_0 15 rfl rfl)
theorem dJ5_getChar_18 : DC mJ5_getChar 18 = .ok (.new 52, 3) := dk_187 0 52 (dk_at dksJ5_getChar_0 18 rfl rfl)
theorem dJ5_getChar_21 : DC mJ5_getChar 21 = .ok (.dup, 1) := dk_89 (dk_at dksJ5_getChar_0 21 rfl rfl)
theorem dJ5_getChar_22 : DC mJ5_getChar 22 = .ok (.ldc 54, 2) := dk_18 54 (dk_at dksJ5_getChar_0 22 rfl rfl)
theorem dJ5_getChar_24 : DC mJ5_getChar 24 = .ok (.invokespecial 56, 3) := dk_183 0 56 (dk_at dksJ5_getChar_1 0 rfl rfl)
theorem dJ5_getChar_27 : DC mJ5_getChar 27 = .ok (.athrow, 1) := dk_191 (dk_at dksJ5_getChar_1 3 rfl rfl)
theorem dJ5_getChar_28 : DC mJ5_getChar 28 = .ok (.iload_n 1, 1) := dk_27 (dk_at dksJ5_getChar_1 4 rfl rfl)
theorem dJ5_getChar_29 : DC mJ5_getChar 29 = .ok (.iconst 1, 1) := dk_4 (dk_at dksJ5_getChar_1 5 rfl rfl)
theorem dJ5_getChar_30 : DC mJ5_getChar 30 = .ok (.ishl, 1) := dk_120 (dk_at dksJ5_getChar_1 6 rfl rfl)
theorem dJ5_getChar_31 : DC mJ5_getChar 31 = .ok (.istore_n 1, 1) := dk_60 (dk_at dksJ5_getChar_1 7 rfl rfl)
theorem dJ5_getChar_32 : DC mJ5_getChar 32 = .ok (.aload_n 0, 1) := dk_42 (dk_at dksJ5_getChar_1 8 rfl rfl)
theorem dJ5_getChar_33 : DC mJ5_getChar 33 = .ok (.iload_n 1, 1) := dk_27 (dk_at dksJ5_getChar_1 9 rfl rfl)
theorem dJ5_getChar_34 : DC mJ5_getChar 34 = .ok (.iinc 1 1, 3) := dk_132 1 1 (dk_at dksJ5_getChar_1 10 rfl rfl)
theorem dJ5_getChar_37 : DC mJ5_getChar 37 = .ok (.baload, 1) := dk_51 (dk_at dksJ5_getChar_1 13 rfl rfl)
theorem dJ5_getChar_38 : DC mJ5_getChar 38 = .ok (.sipush 255, 3) := dk_17 0 255 (dk_at dksJ5_getChar_1 14 rfl rfl)
theorem dJ5_getChar_41 : DC mJ5_getChar 41 = .ok (.iand, 1) := dk_126 (dk_at dksJ5_getChar_1 17 rfl rfl)
theorem dJ5_getChar_42 : DC mJ5_getChar 42 = .ok (.getstatic 59, 3) := dk_178 0 59 (dk_at dksJ5_getChar_1 18 rfl rfl)
theorem dJ5_getChar_45 : DC mJ5_getChar 45 = .ok (.ishl, 1) := dk_120 (dk_at dksJ5_getChar_1 21 rfl rfl)
theorem dJ5_getChar_46 : DC mJ5_getChar 46 = .ok (.aload_n 0, 1) := dk_42 (dk_at dksJ5_getChar_1 22 rfl rfl)
theorem dJ5_getChar_47 : DC mJ5_getChar 47 = .ok (.iload_n 1, 1) := dk_27 (dk_at dksJ5_getChar_1 23 rfl rfl)
theorem dJ5_getChar_48 : DC mJ5_getChar 48 = .ok (.baload, 1) := dk_51 (dk_at dksJ5_getChar_2 0 rfl rfl)
theorem dJ5_getChar_49 : DC mJ5_getChar 49 = .ok (.sipush 255, 3) := dk_17 0 255 (dk_at dksJ5_getChar_2 1 rfl rfl)
theorem dJ5_getChar_52 : DC mJ5_getChar 52 = .ok (.iand, 1) := dk_126 (dk_at dksJ5_getChar_2 4 rfl rfl)
theorem dJ5_getChar_53 : DC mJ5_getChar 53 = .ok (.getstatic 63, 3) := dk_178 0 63 (dk_at dksJ5_getChar_2 5 rfl rfl)
theorem dJ5_getChar_56 : DC mJ5_getChar 56 = .ok (.ishl, 1) := dk_120 (dk_at dksJ5_getChar_2 8 rfl rfl)
theorem dJ5_getChar_57 : DC mJ5_getChar 57 = .ok (.ior, 1) := dk_128 (dk_at dksJ5_getChar_2 9 rfl rfl)
theorem dJ5_getChar_58 : DC mJ5_getChar 58 = .ok (.i2c, 1) := dk_146 (dk_at dksJ5_getChar_2 10 rfl rfl)
theorem dJ5_getChar_59 : DC mJ5_getChar 59 = .ok (.ireturn, 1) := dk_172 (dk_at dksJ5_getChar_2 11 rfl rfl)
abbrev cJ5_coderFromArrayLen : ByteArray := prog_38_method_15_code
def yJ5_coderFromArrayLen : MethodName := ⟨RJ5, "coderFromArrayLen", "([BI)B"⟩
def mJ5_coderFromArrayLen : MI := (⟨"java/lang/StringUTF16", "coderFromArrayLen", "([BI)B"⟩, prog_38_method_15_code, 2, (Option.some FieldType.byte), none, 5, 1)
theorem oJ5_coderFromArrayLen : mO mJ5_coderFromArrayLen = 5 := rfl
theorem lJ5_coderFromArrayLen : mL mJ5_coderFromArrayLen = 2 := rfl
theorem rJ5_coderFromArrayLen : mR mJ5_coderFromArrayLen = (Option.some FieldType.byte) := rfl
theorem vJ5_coderFromArrayLen : mV mJ5_coderFromArrayLen = 1 := rfl
theorem nJ5_coderFromArrayLen : (mY mJ5_coderFromArrayLen).name = "coderFromArrayLen" := rfl
theorem hJ5_coderFromArrayLen : mH mJ5_coderFromArrayLen = none := rfl
theorem kJ5_coderFromArrayLen : MOk mJ5_coderFromArrayLen := ⟨q789, q81, by decide +kernel⟩
theorem gJ5_coderFromArrayLen : plainName (mY mJ5_coderFromArrayLen).cls = true ∧ (mY mJ5_coderFromArrayLen).cls = "java/lang/StringUTF16" := ⟨by decide +kernel, rfl⟩
def dkwJ5_coderFromArrayLen_0 : List UInt8 := [27, 42, 190, 100, 16, 31, 124, 145, 172]
abbrev dktJ5_coderFromArrayLen_0 : List UInt8 := dkwJ5_coderFromArrayLen_0 ++ []
theorem dksJ5_coderFromArrayLen_0 : cJ5_coderFromArrayLen.data.toList.drop 0 = dktJ5_coderFromArrayLen_0 := by decide +kernel
theorem dJ5_coderFromArrayLen_0 : DC mJ5_coderFromArrayLen 0 = .ok (.iload_n 1, 1) := dk_27 (dk_at dksJ5_coderFromArrayLen_0 0 rfl rfl)
theorem dJ5_coderFromArrayLen_1 : DC mJ5_coderFromArrayLen 1 = .ok (.aload_n 0, 1) := dk_42 (dk_at dksJ5_coderFromArrayLen_0 1 rfl rfl)
theorem dJ5_coderFromArrayLen_2 : DC mJ5_coderFromArrayLen 2 = .ok (.arraylength, 1) := dk_190 (dk_at dksJ5_coderFromArrayLen_0 2 rfl rfl)
theorem dJ5_coderFromArrayLen_3 : DC mJ5_coderFromArrayLen 3 = .ok (.isub, 1) := dk_100 (dk_at dksJ5_coderFromArrayLen_0 3 rfl rfl)
theorem dJ5_coderFromArrayLen_4 : DC mJ5_coderFromArrayLen 4 = .ok (.bipush 31, 2) := dk_16 31 (dk_at dksJ5_coderFromArrayLen_0 4 rfl rfl)
theorem dJ5_coderFromArrayLen_6 : DC mJ5_coderFromArrayLen 6 = .ok (.iushr, 1) := dk_124 (dk_at dksJ5_coderFromArrayLen_0 6 rfl rfl)
theorem dJ5_coderFromArrayLen_7 : DC mJ5_coderFromArrayLen 7 = .ok (.i2b, 1) := dk_145 (dk_at dksJ5_coderFromArrayLen_0 7 rfl rfl)
theorem dJ5_coderFromArrayLen_8 : DC mJ5_coderFromArrayLen 8 = .ok (.ireturn, 1) := dk_172 (dk_at dksJ5_coderFromArrayLen_0 8 rfl rfl)
abbrev cJ5_hashCode : ByteArray := prog_38_method_39_code
def yJ5_hashCode : MethodName := ⟨RJ5, "hashCode", "([B)I"⟩
def mJ5_hashCode : MI := (⟨"java/lang/StringUTF16", "hashCode", "([B)I"⟩, prog_38_method_39_code, 1, (Option.some FieldType.int), none, 5, 12)
theorem oJ5_hashCode : mO mJ5_hashCode = 5 := rfl
theorem lJ5_hashCode : mL mJ5_hashCode = 1 := rfl
theorem rJ5_hashCode : mR mJ5_hashCode = (Option.some FieldType.int) := rfl
theorem vJ5_hashCode : mV mJ5_hashCode = 12 := rfl
theorem nJ5_hashCode : (mY mJ5_hashCode).name = "hashCode" := rfl
theorem hJ5_hashCode : mH mJ5_hashCode = none := rfl
theorem kJ5_hashCode : MOk mJ5_hashCode := ⟨q1310, q81, by decide +kernel⟩
theorem gJ5_hashCode : plainName (mY mJ5_hashCode).cls = true ∧ (mY mJ5_hashCode).cls = "java/lang/StringUTF16" := ⟨by decide +kernel, rfl⟩
def dkwJ5_hashCode_2 : List UInt8 := [3, 167, 0, 22, 42, 3, 184, 0, 71, 167, 0, 14, 42, 3, 42, 190, 4, 122, 3, 8, 184, 0, 220, 172]
abbrev dktJ5_hashCode_2 : List UInt8 := dkwJ5_hashCode_2 ++ []
def dkwJ5_hashCode_1 : List UInt8 := [171, 0, 0, 0, 0, 38, 0, 0, 0, 2, 0, 0, 0, 0, 0, 0, 0, 26, 0, 0, 0, 2, 0, 0, 0, 30]
abbrev dktJ5_hashCode_1 : List UInt8 := dkwJ5_hashCode_1 ++ dktJ5_hashCode_2
def dkwJ5_hashCode_0 : List UInt8 := [42, 190]
abbrev dktJ5_hashCode_0 : List UInt8 := dkwJ5_hashCode_0 ++ dktJ5_hashCode_1
theorem dksJ5_hashCode_0 : cJ5_hashCode.data.toList.drop 0 = dktJ5_hashCode_0 := by decide +kernel
theorem dksJ5_hashCode_1 : cJ5_hashCode.data.toList.drop 2 = dktJ5_hashCode_1 := dk_seg dksJ5_hashCode_0 2 rfl rfl
theorem dksJ5_hashCode_2 : cJ5_hashCode.data.toList.drop 28 = dktJ5_hashCode_2 := dk_seg dksJ5_hashCode_1 26 rfl rfl
theorem dJ5_hashCode_0 : DC mJ5_hashCode 0 = .ok (.aload_n 0, 1) := dk_42 (dk_at dksJ5_hashCode_0 0 rfl rfl)
theorem dJ5_hashCode_1 : DC mJ5_hashCode 1 = .ok (.arraylength, 1) := dk_190 (dk_at dksJ5_hashCode_0 1 rfl rfl)
theorem dJ5_hashCode_2 : DC mJ5_hashCode 2 = .ok (.lookupswitch 38 #[(0, 26), (2, 30)], 26) := by decide +kernel
theorem dJ5_hashCode_28 : DC mJ5_hashCode 28 = .ok (.iconst 0, 1) := dk_3 (dk_at dksJ5_hashCode_2 0 rfl rfl)
theorem dJ5_hashCode_29 : DC mJ5_hashCode 29 = .ok (.goto 22, 3) := dk_167 0 22 (dk_at dksJ5_hashCode_2 1 rfl rfl)
theorem dJ5_hashCode_32 : DC mJ5_hashCode 32 = .ok (.aload_n 0, 1) := dk_42 (dk_at dksJ5_hashCode_2 4 rfl rfl)
theorem dJ5_hashCode_33 : DC mJ5_hashCode 33 = .ok (.iconst 0, 1) := dk_3 (dk_at dksJ5_hashCode_2 5 rfl rfl)
theorem dJ5_hashCode_34 : DC mJ5_hashCode 34 = .ok (.invokestatic 71, 3) := dk_184 0 71 (dk_at dksJ5_hashCode_2 6 rfl rfl)
theorem dJ5_hashCode_37 : DC mJ5_hashCode 37 = .ok (.goto 14, 3) := dk_167 0 14 (dk_at dksJ5_hashCode_2 9 rfl rfl)
theorem dJ5_hashCode_40 : DC mJ5_hashCode 40 = .ok (.aload_n 0, 1) := dk_42 (dk_at dksJ5_hashCode_2 12 rfl rfl)
theorem dJ5_hashCode_41 : DC mJ5_hashCode 41 = .ok (.iconst 0, 1) := dk_3 (dk_at dksJ5_hashCode_2 13 rfl rfl)
theorem dJ5_hashCode_42 : DC mJ5_hashCode 42 = .ok (.aload_n 0, 1) := dk_42 (dk_at dksJ5_hashCode_2 14 rfl rfl)
theorem dJ5_hashCode_43 : DC mJ5_hashCode 43 = .ok (.arraylength, 1) := dk_190 (dk_at dksJ5_hashCode_2 15 rfl rfl)
theorem dJ5_hashCode_44 : DC mJ5_hashCode 44 = .ok (.iconst 1, 1) := dk_4 (dk_at dksJ5_hashCode_2 16 rfl rfl)
theorem dJ5_hashCode_45 : DC mJ5_hashCode 45 = .ok (.ishr, 1) := dk_122 (dk_at dksJ5_hashCode_2 17 rfl rfl)
theorem dJ5_hashCode_46 : DC mJ5_hashCode 46 = .ok (.iconst 0, 1) := dk_3 (dk_at dksJ5_hashCode_2 18 rfl rfl)
theorem dJ5_hashCode_47 : DC mJ5_hashCode 47 = .ok (.iconst 5, 1) := dk_8 (dk_at dksJ5_hashCode_2 19 rfl rfl)
theorem dJ5_hashCode_48 : DC mJ5_hashCode 48 = .ok (.invokestatic 220, 3) := dk_184 0 220 (dk_at dksJ5_hashCode_2 20 rfl rfl)
theorem dJ5_hashCode_51 : DC mJ5_hashCode 51 = .ok (.ireturn, 1) := dk_172 (dk_at dksJ5_hashCode_2 23 rfl rfl)
abbrev cJ5_charAt : ByteArray := prog_38_method_83_code
def yJ5_charAt : MethodName := ⟨RJ5, "charAt", "([BI)C"⟩
def mJ5_charAt : MI := (⟨"java/lang/StringUTF16", "charAt", "([BI)C"⟩, prog_38_method_83_code, 2, (Option.some FieldType.char), none, 5, 4)
theorem oJ5_charAt : mO mJ5_charAt = 5 := rfl
theorem lJ5_charAt : mL mJ5_charAt = 2 := rfl
theorem rJ5_charAt : mR mJ5_charAt = (Option.some FieldType.char) := rfl
theorem vJ5_charAt : mV mJ5_charAt = 4 := rfl
theorem nJ5_charAt : (mY mJ5_charAt).name = "charAt" := rfl
theorem hJ5_charAt : mH mJ5_charAt = none := rfl
theorem kJ5_charAt : MOk mJ5_charAt := ⟨q1982, q81, by decide +kernel⟩
theorem gJ5_charAt : plainName (mY mJ5_charAt).cls = true ∧ (mY mJ5_charAt).cls = "java/lang/StringUTF16" := ⟨by decide +kernel, rfl⟩
def dkwJ5_charAt_0 : List UInt8 := [27, 42, 184, 0, 67, 42, 27, 184, 0, 71, 172]
abbrev dktJ5_charAt_0 : List UInt8 := dkwJ5_charAt_0 ++ []
theorem dksJ5_charAt_0 : cJ5_charAt.data.toList.drop 0 = dktJ5_charAt_0 := by decide +kernel
theorem dJ5_charAt_0 : DC mJ5_charAt 0 = .ok (.iload_n 1, 1) := dk_27 (dk_at dksJ5_charAt_0 0 rfl rfl)
theorem dJ5_charAt_1 : DC mJ5_charAt 1 = .ok (.aload_n 0, 1) := dk_42 (dk_at dksJ5_charAt_0 1 rfl rfl)
theorem dJ5_charAt_2 : DC mJ5_charAt 2 = .ok (.invokestatic 67, 3) := dk_184 0 67 (dk_at dksJ5_charAt_0 2 rfl rfl)
theorem dJ5_charAt_5 : DC mJ5_charAt 5 = .ok (.aload_n 0, 1) := dk_42 (dk_at dksJ5_charAt_0 5 rfl rfl)
theorem dJ5_charAt_6 : DC mJ5_charAt 6 = .ok (.iload_n 1, 1) := dk_27 (dk_at dksJ5_charAt_0 6 rfl rfl)
theorem dJ5_charAt_7 : DC mJ5_charAt 7 = .ok (.invokestatic 71, 3) := dk_184 0 71 (dk_at dksJ5_charAt_0 7 rfl rfl)
theorem dJ5_charAt_10 : DC mJ5_charAt 10 = .ok (.ireturn, 1) := dk_172 (dk_at dksJ5_charAt_0 10 rfl rfl)
abbrev cJ5_checkIndex : ByteArray := prog_38_method_91_code
def yJ5_checkIndex : MethodName := ⟨RJ5, "checkIndex", "(I[B)V"⟩
def mJ5_checkIndex : MI := (⟨"java/lang/StringUTF16", "checkIndex", "(I[B)V"⟩, prog_38_method_91_code, 2, (Option.none : Option FieldType), none, 5, 3)
theorem oJ5_checkIndex : mO mJ5_checkIndex = 5 := rfl
theorem lJ5_checkIndex : mL mJ5_checkIndex = 2 := rfl
theorem rJ5_checkIndex : mR mJ5_checkIndex = (Option.none : Option FieldType) := rfl
theorem vJ5_checkIndex : mV mJ5_checkIndex = 3 := rfl
theorem nJ5_checkIndex : (mY mJ5_checkIndex).name = "checkIndex" := rfl
theorem hJ5_checkIndex : mH mJ5_checkIndex = none := rfl
theorem kJ5_checkIndex : MOk mJ5_checkIndex := ⟨q1985, q81, by decide +kernel⟩
theorem gJ5_checkIndex : plainName (mY mJ5_checkIndex).cls = true ∧ (mY mJ5_checkIndex).cls = "java/lang/StringUTF16" := ⟨by decide +kernel, rfl⟩
def dkwJ5_checkIndex_0 : List UInt8 := [26, 43, 184, 0, 48, 184, 1, 158, 177]
abbrev dktJ5_checkIndex_0 : List UInt8 := dkwJ5_checkIndex_0 ++ []
theorem dksJ5_checkIndex_0 : cJ5_checkIndex.data.toList.drop 0 = dktJ5_checkIndex_0 := by decide +kernel
theorem dJ5_checkIndex_0 : DC mJ5_checkIndex 0 = .ok (.iload_n 0, 1) := dk_26 (dk_at dksJ5_checkIndex_0 0 rfl rfl)
theorem dJ5_checkIndex_1 : DC mJ5_checkIndex 1 = .ok (.aload_n 1, 1) := dk_43 (dk_at dksJ5_checkIndex_0 1 rfl rfl)
theorem dJ5_checkIndex_2 : DC mJ5_checkIndex 2 = .ok (.invokestatic 48, 3) := dk_184 0 48 (dk_at dksJ5_checkIndex_0 2 rfl rfl)
theorem dJ5_checkIndex_5 : DC mJ5_checkIndex 5 = .ok (.invokestatic 414, 3) := dk_184 1 158 (dk_at dksJ5_checkIndex_0 5 rfl rfl)
theorem dJ5_checkIndex_8 : DC mJ5_checkIndex 8 = .ok (.return_, 1) := dk_177 (dk_at dksJ5_checkIndex_0 8 rfl rfl)
abbrev cJ5_putCharSB : ByteArray := prog_38_method_71_code
def yJ5_putCharSB : MethodName := ⟨RJ5, "putCharSB", "([BII)V"⟩
def mJ5_putCharSB : MI := (⟨"java/lang/StringUTF16", "putCharSB", "([BII)V"⟩, prog_38_method_71_code, 3, (Option.none : Option FieldType), none, 5, 4)
theorem oJ5_putCharSB : mO mJ5_putCharSB = 5 := rfl
theorem lJ5_putCharSB : mL mJ5_putCharSB = 3 := rfl
theorem rJ5_putCharSB : mR mJ5_putCharSB = (Option.none : Option FieldType) := rfl
theorem vJ5_putCharSB : mV mJ5_putCharSB = 4 := rfl
theorem nJ5_putCharSB : (mY mJ5_putCharSB).name = "putCharSB" := rfl
theorem hJ5_putCharSB : mH mJ5_putCharSB = none := rfl
theorem kJ5_putCharSB : MOk mJ5_putCharSB := ⟨q1999, q81, by decide +kernel⟩
theorem gJ5_putCharSB : plainName (mY mJ5_putCharSB).cls = true ∧ (mY mJ5_putCharSB).cls = "java/lang/StringUTF16" := ⟨by decide +kernel, rfl⟩
def dkwJ5_putCharSB_0 : List UInt8 := [27, 42, 184, 0, 67, 42, 27, 28, 184, 0, 111, 177]
abbrev dktJ5_putCharSB_0 : List UInt8 := dkwJ5_putCharSB_0 ++ []
theorem dksJ5_putCharSB_0 : cJ5_putCharSB.data.toList.drop 0 = dktJ5_putCharSB_0 := by decide +kernel
theorem dJ5_putCharSB_0 : DC mJ5_putCharSB 0 = .ok (.iload_n 1, 1) := dk_27 (dk_at dksJ5_putCharSB_0 0 rfl rfl)
theorem dJ5_putCharSB_1 : DC mJ5_putCharSB 1 = .ok (.aload_n 0, 1) := dk_42 (dk_at dksJ5_putCharSB_0 1 rfl rfl)
theorem dJ5_putCharSB_2 : DC mJ5_putCharSB 2 = .ok (.invokestatic 67, 3) := dk_184 0 67 (dk_at dksJ5_putCharSB_0 2 rfl rfl)
theorem dJ5_putCharSB_5 : DC mJ5_putCharSB 5 = .ok (.aload_n 0, 1) := dk_42 (dk_at dksJ5_putCharSB_0 5 rfl rfl)
theorem dJ5_putCharSB_6 : DC mJ5_putCharSB 6 = .ok (.iload_n 1, 1) := dk_27 (dk_at dksJ5_putCharSB_0 6 rfl rfl)
theorem dJ5_putCharSB_7 : DC mJ5_putCharSB 7 = .ok (.iload_n 2, 1) := dk_28 (dk_at dksJ5_putCharSB_0 7 rfl rfl)
theorem dJ5_putCharSB_8 : DC mJ5_putCharSB 8 = .ok (.invokestatic 111, 3) := dk_184 0 111 (dk_at dksJ5_putCharSB_0 8 rfl rfl)
theorem dJ5_putCharSB_11 : DC mJ5_putCharSB 11 = .ok (.return_, 1) := dk_177 (dk_at dksJ5_putCharSB_0 11 rfl rfl)
abbrev cJ5_indexOf : ByteArray := prog_38_method_41_code
def yJ5_indexOf : MethodName := ⟨RJ5, "indexOf", "([B[B)I"⟩
def mJ5_indexOf : MI := (⟨"java/lang/StringUTF16", "indexOf", "([B[B)I"⟩, prog_38_method_41_code, 2, (Option.some FieldType.int), none, 5, 4)
theorem oJ5_indexOf : mO mJ5_indexOf = 5 := rfl
theorem lJ5_indexOf : mL mJ5_indexOf = 2 := rfl
theorem rJ5_indexOf : mR mJ5_indexOf = (Option.some FieldType.int) := rfl
theorem vJ5_indexOf : mV mJ5_indexOf = 4 := rfl
theorem nJ5_indexOf : (mY mJ5_indexOf).name = "indexOf" := rfl
theorem hJ5_indexOf : mH mJ5_indexOf = none := rfl
theorem kJ5_indexOf : MOk mJ5_indexOf := ⟨q2192, q81, by decide +kernel⟩
theorem gJ5_indexOf : plainName (mY mJ5_indexOf).cls = true ∧ (mY mJ5_indexOf).cls = "java/lang/StringUTF16" := ⟨by decide +kernel, rfl⟩
def dkwJ5_indexOf_1 : List UInt8 := [184, 0, 48, 3, 184, 0, 235, 172]
abbrev dktJ5_indexOf_1 : List UInt8 := dkwJ5_indexOf_1 ++ []
def dkwJ5_indexOf_0 : List UInt8 := [43, 190, 154, 0, 5, 3, 172, 42, 190, 43, 190, 162, 0, 5, 2, 172, 42, 42, 184, 0, 48, 43, 43]
abbrev dktJ5_indexOf_0 : List UInt8 := dkwJ5_indexOf_0 ++ dktJ5_indexOf_1
theorem dksJ5_indexOf_0 : cJ5_indexOf.data.toList.drop 0 = dktJ5_indexOf_0 := by decide +kernel
theorem dksJ5_indexOf_1 : cJ5_indexOf.data.toList.drop 23 = dktJ5_indexOf_1 := dk_seg dksJ5_indexOf_0 23 rfl rfl
theorem dJ5_indexOf_0 : DC mJ5_indexOf 0 = .ok (.aload_n 1, 1) := dk_43 (dk_at dksJ5_indexOf_0 0 rfl rfl)
theorem dJ5_indexOf_1 : DC mJ5_indexOf 1 = .ok (.arraylength, 1) := dk_190 (dk_at dksJ5_indexOf_0 1 rfl rfl)
theorem dJ5_indexOf_2 : DC mJ5_indexOf 2 = .ok (.ifCond .ne 5, 3) := dk_154 0 5 (dk_at dksJ5_indexOf_0 2 rfl rfl)
theorem dJ5_indexOf_5 : DC mJ5_indexOf 5 = .ok (.iconst 0, 1) := dk_3 (dk_at dksJ5_indexOf_0 5 rfl rfl)
theorem dJ5_indexOf_6 : DC mJ5_indexOf 6 = .ok (.ireturn, 1) := dk_172 (dk_at dksJ5_indexOf_0 6 rfl rfl)
theorem dJ5_indexOf_7 : DC mJ5_indexOf 7 = .ok (.aload_n 0, 1) := dk_42 (dk_at dksJ5_indexOf_0 7 rfl rfl)
theorem dJ5_indexOf_8 : DC mJ5_indexOf 8 = .ok (.arraylength, 1) := dk_190 (dk_at dksJ5_indexOf_0 8 rfl rfl)
theorem dJ5_indexOf_9 : DC mJ5_indexOf 9 = .ok (.aload_n 1, 1) := dk_43 (dk_at dksJ5_indexOf_0 9 rfl rfl)
theorem dJ5_indexOf_10 : DC mJ5_indexOf 10 = .ok (.arraylength, 1) := dk_190 (dk_at dksJ5_indexOf_0 10 rfl rfl)
theorem dJ5_indexOf_11 : DC mJ5_indexOf 11 = .ok (.if_icmp .ge 5, 3) := dk_162 0 5 (dk_at dksJ5_indexOf_0 11 rfl rfl)
theorem dJ5_indexOf_14 : DC mJ5_indexOf 14 = .ok (.iconst (-1), 1) := dk_2 (dk_at dksJ5_indexOf_0 14 rfl rfl)
theorem dJ5_indexOf_15 : DC mJ5_indexOf 15 = .ok (.ireturn, 1) := dk_172 (dk_at dksJ5_indexOf_0 15 rfl rfl)
theorem dJ5_indexOf_16 : DC mJ5_indexOf 16 = .ok (.aload_n 0, 1) := dk_42 (dk_at dksJ5_indexOf_0 16 rfl rfl)
theorem dJ5_indexOf_17 : DC mJ5_indexOf 17 = .ok (.aload_n 0, 1) := dk_42 (dk_at dksJ5_indexOf_0 17 rfl rfl)
theorem dJ5_indexOf_18 : DC mJ5_indexOf 18 = .ok (.invokestatic 48, 3) := dk_184 0 48 (dk_at dksJ5_indexOf_0 18 rfl rfl)
theorem dJ5_indexOf_21 : DC mJ5_indexOf 21 = .ok (.aload_n 1, 1) := dk_43 (dk_at dksJ5_indexOf_0 21 rfl rfl)
theorem dJ5_indexOf_22 : DC mJ5_indexOf 22 = .ok (.aload_n 1, 1) := dk_43 (dk_at dksJ5_indexOf_0 22 rfl rfl)
theorem dJ5_indexOf_23 : DC mJ5_indexOf 23 = .ok (.invokestatic 48, 3) := dk_184 0 48 (dk_at dksJ5_indexOf_1 0 rfl rfl)
theorem dJ5_indexOf_26 : DC mJ5_indexOf 26 = .ok (.iconst 0, 1) := dk_3 (dk_at dksJ5_indexOf_1 3 rfl rfl)
theorem dJ5_indexOf_27 : DC mJ5_indexOf 27 = .ok (.invokestatic 235, 3) := dk_184 0 235 (dk_at dksJ5_indexOf_1 4 rfl rfl)
theorem dJ5_indexOf_30 : DC mJ5_indexOf 30 = .ok (.ireturn, 1) := dk_172 (dk_at dksJ5_indexOf_1 7 rfl rfl)
abbrev cJ5_indexOfUnsafe : ByteArray := prog_38_method_43_code
def yJ5_indexOfUnsafe : MethodName := ⟨RJ5, "indexOfUnsafe", "([BI[BII)I"⟩
def mJ5_indexOfUnsafe : MI := (⟨"java/lang/StringUTF16", "indexOfUnsafe", "([BI[BII)I"⟩, prog_38_method_43_code, 11, (Option.some FieldType.int), none, 5, 3)
theorem oJ5_indexOfUnsafe : mO mJ5_indexOfUnsafe = 5 := rfl
theorem lJ5_indexOfUnsafe : mL mJ5_indexOfUnsafe = 11 := rfl
theorem rJ5_indexOfUnsafe : mR mJ5_indexOfUnsafe = (Option.some FieldType.int) := rfl
theorem vJ5_indexOfUnsafe : mV mJ5_indexOfUnsafe = 3 := rfl
theorem nJ5_indexOfUnsafe : (mY mJ5_indexOfUnsafe).name = "indexOfUnsafe" := rfl
theorem hJ5_indexOfUnsafe : mH mJ5_indexOfUnsafe = none := rfl
theorem kJ5_indexOfUnsafe : MOk mJ5_indexOfUnsafe := ⟨q2195, q81, by decide +kernel⟩
theorem gJ5_indexOfUnsafe : plainName (mY mJ5_indexOfUnsafe).cls = true ∧ (mY mJ5_indexOfUnsafe).cls = "java/lang/StringUTF16" := ⟨by decide +kernel, rfl⟩
def dkwJ5_indexOfUnsafe_9 : List UInt8 := [167, 255, 146, 2, 172]
abbrev dktJ5_indexOfUnsafe_9 : List UInt8 := dkwJ5_indexOfUnsafe_9 ++ []
def dkwJ5_indexOfUnsafe_8 : List UInt8 := [132, 8, 1, 132, 10, 1, 167, 255, 228, 21, 8, 21, 9, 160, 0, 6, 21, 7, 172, 132, 7, 1]
abbrev dktJ5_indexOfUnsafe_8 : List UInt8 := dkwJ5_indexOfUnsafe_8 ++ dktJ5_indexOfUnsafe_9
def dkwJ5_indexOfUnsafe_7 : List UInt8 := [21, 8, 21, 9, 162, 0, 27, 42, 21, 8, 184, 0, 71, 44, 21, 10, 184, 0, 71, 160, 0, 12]
abbrev dktJ5_indexOfUnsafe_7 : List UInt8 := dkwJ5_indexOfUnsafe_7 ++ dktJ5_indexOfUnsafe_8
def dkwJ5_indexOfUnsafe_6 : List UInt8 := [21, 7, 21, 6, 163, 0, 61, 21, 7, 4, 96, 54, 8, 21, 8, 29, 96, 4, 100, 54, 9, 4, 54, 10]
abbrev dktJ5_indexOfUnsafe_6 : List UInt8 := dkwJ5_indexOfUnsafe_6 ++ dktJ5_indexOfUnsafe_7
def dkwJ5_indexOfUnsafe_5 : List UInt8 := [132, 7, 1, 21, 7, 21, 6, 163, 0, 17, 42, 21, 7, 184, 0, 71, 21, 5, 159, 0, 6, 167, 255, 235]
abbrev dktJ5_indexOfUnsafe_5 : List UInt8 := dkwJ5_indexOfUnsafe_5 ++ dktJ5_indexOfUnsafe_6
def dkwJ5_indexOfUnsafe_4 : List UInt8 := [21, 4, 54, 7, 21, 7, 21, 6, 163, 0, 109, 42, 21, 7, 184, 0, 71, 21, 5, 159, 0, 27]
abbrev dktJ5_indexOfUnsafe_4 : List UInt8 := dkwJ5_indexOfUnsafe_4 ++ dktJ5_indexOfUnsafe_5
def dkwJ5_indexOfUnsafe_3 : List UInt8 := [162, 0, 11, 187, 0, 52, 89, 183, 0, 66, 191, 44, 3, 184, 0, 71, 54, 5, 27, 29, 100, 54, 6]
abbrev dktJ5_indexOfUnsafe_3 : List UInt8 := dkwJ5_indexOfUnsafe_3 ++ dktJ5_indexOfUnsafe_4
def dkwJ5_indexOfUnsafe_2 : List UInt8 := [184, 0, 48, 164, 0, 11, 187, 0, 52, 89, 183, 0, 66, 191, 178, 0, 44, 154, 0, 16, 27, 29]
abbrev dktJ5_indexOfUnsafe_2 : List UInt8 := dkwJ5_indexOfUnsafe_2 ++ dktJ5_indexOfUnsafe_3
def dkwJ5_indexOfUnsafe_1 : List UInt8 := [154, 0, 15, 29, 157, 0, 11, 187, 0, 52, 89, 183, 0, 66, 191, 178, 0, 44, 154, 0, 19, 29, 44]
abbrev dktJ5_indexOfUnsafe_1 : List UInt8 := dkwJ5_indexOfUnsafe_1 ++ dktJ5_indexOfUnsafe_2
def dkwJ5_indexOfUnsafe_0 : List UInt8 := [178, 0, 44, 154, 0, 16, 21, 4, 156, 0, 11, 187, 0, 52, 89, 183, 0, 66, 191, 178, 0, 44]
abbrev dktJ5_indexOfUnsafe_0 : List UInt8 := dkwJ5_indexOfUnsafe_0 ++ dktJ5_indexOfUnsafe_1
theorem dksJ5_indexOfUnsafe_0 : cJ5_indexOfUnsafe.data.toList.drop 0 = dktJ5_indexOfUnsafe_0 := by decide +kernel
theorem dksJ5_indexOfUnsafe_1 : cJ5_indexOfUnsafe.data.toList.drop 22 = dktJ5_indexOfUnsafe_1 := dk_seg dksJ5_indexOfUnsafe_0 22 rfl rfl
theorem dksJ5_indexOfUnsafe_2 : cJ5_indexOfUnsafe.data.toList.drop 45 = dktJ5_indexOfUnsafe_2 := dk_seg dksJ5_indexOfUnsafe_1 23 rfl rfl
theorem dksJ5_indexOfUnsafe_3 : cJ5_indexOfUnsafe.data.toList.drop 67 = dktJ5_indexOfUnsafe_3 := dk_seg dksJ5_indexOfUnsafe_2 22 rfl rfl
theorem dksJ5_indexOfUnsafe_4 : cJ5_indexOfUnsafe.data.toList.drop 90 = dktJ5_indexOfUnsafe_4 := dk_seg dksJ5_indexOfUnsafe_3 23 rfl rfl
theorem dksJ5_indexOfUnsafe_5 : cJ5_indexOfUnsafe.data.toList.drop 112 = dktJ5_indexOfUnsafe_5 := dk_seg dksJ5_indexOfUnsafe_4 22 rfl rfl
theorem dksJ5_indexOfUnsafe_6 : cJ5_indexOfUnsafe.data.toList.drop 136 = dktJ5_indexOfUnsafe_6 := dk_seg dksJ5_indexOfUnsafe_5 24 rfl rfl
theorem dksJ5_indexOfUnsafe_7 : cJ5_indexOfUnsafe.data.toList.drop 160 = dktJ5_indexOfUnsafe_7 := dk_seg dksJ5_indexOfUnsafe_6 24 rfl rfl
theorem dksJ5_indexOfUnsafe_8 : cJ5_indexOfUnsafe.data.toList.drop 182 = dktJ5_indexOfUnsafe_8 := dk_seg dksJ5_indexOfUnsafe_7 22 rfl rfl
theorem dksJ5_indexOfUnsafe_9 : cJ5_indexOfUnsafe.data.toList.drop 204 = dktJ5_indexOfUnsafe_9 := dk_seg dksJ5_indexOfUnsafe_8 22 rfl rfl
theorem dJ5_indexOfUnsafe_0 : DC mJ5_indexOfUnsafe 0 = .ok (.getstatic 44, 3) := dk_178 0 44 (dk_at dksJ5_indexOfUnsafe_0 0 rfl rfl)
theorem dJ5_indexOfUnsafe_3 : DC mJ5_indexOfUnsafe 3 = .ok (.ifCond .ne 16, 3) := dk_154 0 16 (dk_at dksJ5_indexOfUnsafe_0 3 rfl rfl)
theorem dJ5_indexOfUnsafe_6 : DC mJ5_indexOfUnsafe 6 = .ok (.iload 4, 2) := dk_21 4 (dk_at dksJ5_indexOfUnsafe_0 6 rfl rfl)
theorem dJ5_indexOfUnsafe_8 : DC mJ5_indexOfUnsafe 8 = .ok (.ifCond .ge 11, 3) := dk_156 0 11 (dk_at dksJ5_indexOfUnsafe_0 8 rfl rfl)
theorem dJ5_indexOfUnsafe_11 : DC mJ5_indexOfUnsafe 11 = .ok (.new 52, 3) := dk_187 0 52 (dk_at dksJ5_indexOfUnsafe_0 11 rfl rfl)
theorem dJ5_indexOfUnsafe_14 : DC mJ5_indexOfUnsafe 14 = .ok (.dup, 1) := dk_89 (dk_at dksJ5_indexOfUnsafe_0 14 rfl rfl)
theorem dJ5_indexOfUnsafe_15 : DC mJ5_indexOfUnsafe 15 = .ok (.invokespecial 66, 3) := dk_183 0 66 (dk_at dksJ5_indexOfUnsafe_0 15 rfl rfl)
theorem dJ5_indexOfUnsafe_18 : DC mJ5_indexOfUnsafe 18 = .ok (.athrow, 1) := dk_191 (dk_at dksJ5_indexOfUnsafe_0 18 rfl rfl)
theorem dJ5_indexOfUnsafe_19 : DC mJ5_indexOfUnsafe 19 = .ok (.getstatic 44, 3) := dk_178 0 44 (dk_at dksJ5_indexOfUnsafe_0 19 rfl rfl)
theorem dJ5_indexOfUnsafe_22 : DC mJ5_indexOfUnsafe 22 = .ok (.ifCond .ne 15, 3) := dk_154 0 15 (dk_at dksJ5_indexOfUnsafe_1 0 rfl rfl)
theorem dJ5_indexOfUnsafe_25 : DC mJ5_indexOfUnsafe 25 = .ok (.iload_n 3, 1) := dk_29 (dk_at dksJ5_indexOfUnsafe_1 3 rfl rfl)
theorem dJ5_indexOfUnsafe_26 : DC mJ5_indexOfUnsafe 26 = .ok (.ifCond .gt 11, 3) := dk_157 0 11 (dk_at dksJ5_indexOfUnsafe_1 4 rfl rfl)
theorem dJ5_indexOfUnsafe_29 : DC mJ5_indexOfUnsafe 29 = .ok (.new 52, 3) := dk_187 0 52 (dk_at dksJ5_indexOfUnsafe_1 7 rfl rfl)
theorem dJ5_indexOfUnsafe_32 : DC mJ5_indexOfUnsafe 32 = .ok (.dup, 1) := dk_89 (dk_at dksJ5_indexOfUnsafe_1 10 rfl rfl)
theorem dJ5_indexOfUnsafe_33 : DC mJ5_indexOfUnsafe 33 = .ok (.invokespecial 66, 3) := dk_183 0 66 (dk_at dksJ5_indexOfUnsafe_1 11 rfl rfl)
theorem dJ5_indexOfUnsafe_36 : DC mJ5_indexOfUnsafe 36 = .ok (.athrow, 1) := dk_191 (dk_at dksJ5_indexOfUnsafe_1 14 rfl rfl)
theorem dJ5_indexOfUnsafe_37 : DC mJ5_indexOfUnsafe 37 = .ok (.getstatic 44, 3) := dk_178 0 44 (dk_at dksJ5_indexOfUnsafe_1 15 rfl rfl)
theorem dJ5_indexOfUnsafe_40 : DC mJ5_indexOfUnsafe 40 = .ok (.ifCond .ne 19, 3) := dk_154 0 19 (dk_at dksJ5_indexOfUnsafe_1 18 rfl rfl)
theorem dJ5_indexOfUnsafe_43 : DC mJ5_indexOfUnsafe 43 = .ok (.iload_n 3, 1) := dk_29 (dk_at dksJ5_indexOfUnsafe_1 21 rfl rfl)
theorem dJ5_indexOfUnsafe_44 : DC mJ5_indexOfUnsafe 44 = .ok (.aload_n 2, 1) := dk_44 (dk_at dksJ5_indexOfUnsafe_1 22 rfl rfl)
theorem dJ5_indexOfUnsafe_45 : DC mJ5_indexOfUnsafe 45 = .ok (.invokestatic 48, 3) := dk_184 0 48 (dk_at dksJ5_indexOfUnsafe_2 0 rfl rfl)
theorem dJ5_indexOfUnsafe_48 : DC mJ5_indexOfUnsafe 48 = .ok (.if_icmp .le 11, 3) := dk_164 0 11 (dk_at dksJ5_indexOfUnsafe_2 3 rfl rfl)
theorem dJ5_indexOfUnsafe_51 : DC mJ5_indexOfUnsafe 51 = .ok (.new 52, 3) := dk_187 0 52 (dk_at dksJ5_indexOfUnsafe_2 6 rfl rfl)
theorem dJ5_indexOfUnsafe_54 : DC mJ5_indexOfUnsafe 54 = .ok (.dup, 1) := dk_89 (dk_at dksJ5_indexOfUnsafe_2 9 rfl rfl)
theorem dJ5_indexOfUnsafe_55 : DC mJ5_indexOfUnsafe 55 = .ok (.invokespecial 66, 3) := dk_183 0 66 (dk_at dksJ5_indexOfUnsafe_2 10 rfl rfl)
theorem dJ5_indexOfUnsafe_58 : DC mJ5_indexOfUnsafe 58 = .ok (.athrow, 1) := dk_191 (dk_at dksJ5_indexOfUnsafe_2 13 rfl rfl)
theorem dJ5_indexOfUnsafe_59 : DC mJ5_indexOfUnsafe 59 = .ok (.getstatic 44, 3) := dk_178 0 44 (dk_at dksJ5_indexOfUnsafe_2 14 rfl rfl)
theorem dJ5_indexOfUnsafe_62 : DC mJ5_indexOfUnsafe 62 = .ok (.ifCond .ne 16, 3) := dk_154 0 16 (dk_at dksJ5_indexOfUnsafe_2 17 rfl rfl)
theorem dJ5_indexOfUnsafe_65 : DC mJ5_indexOfUnsafe 65 = .ok (.iload_n 1, 1) := dk_27 (dk_at dksJ5_indexOfUnsafe_2 20 rfl rfl)
theorem dJ5_indexOfUnsafe_66 : DC mJ5_indexOfUnsafe 66 = .ok (.iload_n 3, 1) := dk_29 (dk_at dksJ5_indexOfUnsafe_2 21 rfl rfl)
theorem dJ5_indexOfUnsafe_67 : DC mJ5_indexOfUnsafe 67 = .ok (.if_icmp .ge 11, 3) := dk_162 0 11 (dk_at dksJ5_indexOfUnsafe_3 0 rfl rfl)
theorem dJ5_indexOfUnsafe_70 : DC mJ5_indexOfUnsafe 70 = .ok (.new 52, 3) := dk_187 0 52 (dk_at dksJ5_indexOfUnsafe_3 3 rfl rfl)
theorem dJ5_indexOfUnsafe_73 : DC mJ5_indexOfUnsafe 73 = .ok (.dup, 1) := dk_89 (dk_at dksJ5_indexOfUnsafe_3 6 rfl rfl)
theorem dJ5_indexOfUnsafe_74 : DC mJ5_indexOfUnsafe 74 = .ok (.invokespecial 66, 3) := dk_183 0 66 (dk_at dksJ5_indexOfUnsafe_3 7 rfl rfl)
theorem dJ5_indexOfUnsafe_77 : DC mJ5_indexOfUnsafe 77 = .ok (.athrow, 1) := dk_191 (dk_at dksJ5_indexOfUnsafe_3 10 rfl rfl)
theorem dJ5_indexOfUnsafe_78 : DC mJ5_indexOfUnsafe 78 = .ok (.aload_n 2, 1) := dk_44 (dk_at dksJ5_indexOfUnsafe_3 11 rfl rfl)
theorem dJ5_indexOfUnsafe_79 : DC mJ5_indexOfUnsafe 79 = .ok (.iconst 0, 1) := dk_3 (dk_at dksJ5_indexOfUnsafe_3 12 rfl rfl)
theorem dJ5_indexOfUnsafe_80 : DC mJ5_indexOfUnsafe 80 = .ok (.invokestatic 71, 3) := dk_184 0 71 (dk_at dksJ5_indexOfUnsafe_3 13 rfl rfl)
theorem dJ5_indexOfUnsafe_83 : DC mJ5_indexOfUnsafe 83 = .ok (.istore 5, 2) := dk_54 5 (dk_at dksJ5_indexOfUnsafe_3 16 rfl rfl)
theorem dJ5_indexOfUnsafe_85 : DC mJ5_indexOfUnsafe 85 = .ok (.iload_n 1, 1) := dk_27 (dk_at dksJ5_indexOfUnsafe_3 18 rfl rfl)
theorem dJ5_indexOfUnsafe_86 : DC mJ5_indexOfUnsafe 86 = .ok (.iload_n 3, 1) := dk_29 (dk_at dksJ5_indexOfUnsafe_3 19 rfl rfl)
theorem dJ5_indexOfUnsafe_87 : DC mJ5_indexOfUnsafe 87 = .ok (.isub, 1) := dk_100 (dk_at dksJ5_indexOfUnsafe_3 20 rfl rfl)
theorem dJ5_indexOfUnsafe_88 : DC mJ5_indexOfUnsafe 88 = .ok (.istore 6, 2) := dk_54 6 (dk_at dksJ5_indexOfUnsafe_3 21 rfl rfl)
theorem dJ5_indexOfUnsafe_90 : DC mJ5_indexOfUnsafe 90 = .ok (.iload 4, 2) := dk_21 4 (dk_at dksJ5_indexOfUnsafe_4 0 rfl rfl)
theorem dJ5_indexOfUnsafe_92 : DC mJ5_indexOfUnsafe 92 = .ok (.istore 7, 2) := dk_54 7 (dk_at dksJ5_indexOfUnsafe_4 2 rfl rfl)
theorem dJ5_indexOfUnsafe_94 : DC mJ5_indexOfUnsafe 94 = .ok (.iload 7, 2) := dk_21 7 (dk_at dksJ5_indexOfUnsafe_4 4 rfl rfl)
theorem dJ5_indexOfUnsafe_96 : DC mJ5_indexOfUnsafe 96 = .ok (.iload 6, 2) := dk_21 6 (dk_at dksJ5_indexOfUnsafe_4 6 rfl rfl)
theorem dJ5_indexOfUnsafe_98 : DC mJ5_indexOfUnsafe 98 = .ok (.if_icmp .gt 109, 3) := dk_163 0 109 (dk_at dksJ5_indexOfUnsafe_4 8 rfl rfl)
theorem dJ5_indexOfUnsafe_101 : DC mJ5_indexOfUnsafe 101 = .ok (.aload_n 0, 1) := dk_42 (dk_at dksJ5_indexOfUnsafe_4 11 rfl rfl)
theorem dJ5_indexOfUnsafe_102 : DC mJ5_indexOfUnsafe 102 = .ok (.iload 7, 2) := dk_21 7 (dk_at dksJ5_indexOfUnsafe_4 12 rfl rfl)
theorem dJ5_indexOfUnsafe_104 : DC mJ5_indexOfUnsafe 104 = .ok (.invokestatic 71, 3) := dk_184 0 71 (dk_at dksJ5_indexOfUnsafe_4 14 rfl rfl)
theorem dJ5_indexOfUnsafe_107 : DC mJ5_indexOfUnsafe 107 = .ok (.iload 5, 2) := dk_21 5 (dk_at dksJ5_indexOfUnsafe_4 17 rfl rfl)
theorem dJ5_indexOfUnsafe_109 : DC mJ5_indexOfUnsafe 109 = .ok (.if_icmp .eq 27, 3) := dk_159 0 27 (dk_at dksJ5_indexOfUnsafe_4 19 rfl rfl)
theorem dJ5_indexOfUnsafe_112 : DC mJ5_indexOfUnsafe 112 = .ok (.iinc 7 1, 3) := dk_132 7 1 (dk_at dksJ5_indexOfUnsafe_5 0 rfl rfl)
theorem dJ5_indexOfUnsafe_115 : DC mJ5_indexOfUnsafe 115 = .ok (.iload 7, 2) := dk_21 7 (dk_at dksJ5_indexOfUnsafe_5 3 rfl rfl)
theorem dJ5_indexOfUnsafe_117 : DC mJ5_indexOfUnsafe 117 = .ok (.iload 6, 2) := dk_21 6 (dk_at dksJ5_indexOfUnsafe_5 5 rfl rfl)
theorem dJ5_indexOfUnsafe_119 : DC mJ5_indexOfUnsafe 119 = .ok (.if_icmp .gt 17, 3) := dk_163 0 17 (dk_at dksJ5_indexOfUnsafe_5 7 rfl rfl)
theorem dJ5_indexOfUnsafe_122 : DC mJ5_indexOfUnsafe 122 = .ok (.aload_n 0, 1) := dk_42 (dk_at dksJ5_indexOfUnsafe_5 10 rfl rfl)
theorem dJ5_indexOfUnsafe_123 : DC mJ5_indexOfUnsafe 123 = .ok (.iload 7, 2) := dk_21 7 (dk_at dksJ5_indexOfUnsafe_5 11 rfl rfl)
theorem dJ5_indexOfUnsafe_125 : DC mJ5_indexOfUnsafe 125 = .ok (.invokestatic 71, 3) := dk_184 0 71 (dk_at dksJ5_indexOfUnsafe_5 13 rfl rfl)
theorem dJ5_indexOfUnsafe_128 : DC mJ5_indexOfUnsafe 128 = .ok (.iload 5, 2) := dk_21 5 (dk_at dksJ5_indexOfUnsafe_5 16 rfl rfl)
theorem dJ5_indexOfUnsafe_130 : DC mJ5_indexOfUnsafe 130 = .ok (.if_icmp .eq 6, 3) := dk_159 0 6 (dk_at dksJ5_indexOfUnsafe_5 18 rfl rfl)
theorem dJ5_indexOfUnsafe_133 : DC mJ5_indexOfUnsafe 133 = .ok (.goto (-21), 3) := dk_167 255 235 (dk_at dksJ5_indexOfUnsafe_5 21 rfl rfl)
theorem dJ5_indexOfUnsafe_136 : DC mJ5_indexOfUnsafe 136 = .ok (.iload 7, 2) := dk_21 7 (dk_at dksJ5_indexOfUnsafe_6 0 rfl rfl)
theorem dJ5_indexOfUnsafe_138 : DC mJ5_indexOfUnsafe 138 = .ok (.iload 6, 2) := dk_21 6 (dk_at dksJ5_indexOfUnsafe_6 2 rfl rfl)
theorem dJ5_indexOfUnsafe_140 : DC mJ5_indexOfUnsafe 140 = .ok (.if_icmp .gt 61, 3) := dk_163 0 61 (dk_at dksJ5_indexOfUnsafe_6 4 rfl rfl)
theorem dJ5_indexOfUnsafe_143 : DC mJ5_indexOfUnsafe 143 = .ok (.iload 7, 2) := dk_21 7 (dk_at dksJ5_indexOfUnsafe_6 7 rfl rfl)
theorem dJ5_indexOfUnsafe_145 : DC mJ5_indexOfUnsafe 145 = .ok (.iconst 1, 1) := dk_4 (dk_at dksJ5_indexOfUnsafe_6 9 rfl rfl)
theorem dJ5_indexOfUnsafe_146 : DC mJ5_indexOfUnsafe 146 = .ok (.iadd, 1) := dk_96 (dk_at dksJ5_indexOfUnsafe_6 10 rfl rfl)
theorem dJ5_indexOfUnsafe_147 : DC mJ5_indexOfUnsafe 147 = .ok (.istore 8, 2) := dk_54 8 (dk_at dksJ5_indexOfUnsafe_6 11 rfl rfl)
theorem dJ5_indexOfUnsafe_149 : DC mJ5_indexOfUnsafe 149 = .ok (.iload 8, 2) := dk_21 8 (dk_at dksJ5_indexOfUnsafe_6 13 rfl rfl)
theorem dJ5_indexOfUnsafe_151 : DC mJ5_indexOfUnsafe 151 = .ok (.iload_n 3, 1) := dk_29 (dk_at dksJ5_indexOfUnsafe_6 15 rfl rfl)
theorem dJ5_indexOfUnsafe_152 : DC mJ5_indexOfUnsafe 152 = .ok (.iadd, 1) := dk_96 (dk_at dksJ5_indexOfUnsafe_6 16 rfl rfl)
theorem dJ5_indexOfUnsafe_153 : DC mJ5_indexOfUnsafe 153 = .ok (.iconst 1, 1) := dk_4 (dk_at dksJ5_indexOfUnsafe_6 17 rfl rfl)
theorem dJ5_indexOfUnsafe_154 : DC mJ5_indexOfUnsafe 154 = .ok (.isub, 1) := dk_100 (dk_at dksJ5_indexOfUnsafe_6 18 rfl rfl)
theorem dJ5_indexOfUnsafe_155 : DC mJ5_indexOfUnsafe 155 = .ok (.istore 9, 2) := dk_54 9 (dk_at dksJ5_indexOfUnsafe_6 19 rfl rfl)
theorem dJ5_indexOfUnsafe_157 : DC mJ5_indexOfUnsafe 157 = .ok (.iconst 1, 1) := dk_4 (dk_at dksJ5_indexOfUnsafe_6 21 rfl rfl)
theorem dJ5_indexOfUnsafe_158 : DC mJ5_indexOfUnsafe 158 = .ok (.istore 10, 2) := dk_54 10 (dk_at dksJ5_indexOfUnsafe_6 22 rfl rfl)
theorem dJ5_indexOfUnsafe_160 : DC mJ5_indexOfUnsafe 160 = .ok (.iload 8, 2) := dk_21 8 (dk_at dksJ5_indexOfUnsafe_7 0 rfl rfl)
theorem dJ5_indexOfUnsafe_162 : DC mJ5_indexOfUnsafe 162 = .ok (.iload 9, 2) := dk_21 9 (dk_at dksJ5_indexOfUnsafe_7 2 rfl rfl)
theorem dJ5_indexOfUnsafe_164 : DC mJ5_indexOfUnsafe 164 = .ok (.if_icmp .ge 27, 3) := dk_162 0 27 (dk_at dksJ5_indexOfUnsafe_7 4 rfl rfl)
theorem dJ5_indexOfUnsafe_167 : DC mJ5_indexOfUnsafe 167 = .ok (.aload_n 0, 1) := dk_42 (dk_at dksJ5_indexOfUnsafe_7 7 rfl rfl)
theorem dJ5_indexOfUnsafe_168 : DC mJ5_indexOfUnsafe 168 = .ok (.iload 8, 2) := dk_21 8 (dk_at dksJ5_indexOfUnsafe_7 8 rfl rfl)
theorem dJ5_indexOfUnsafe_170 : DC mJ5_indexOfUnsafe 170 = .ok (.invokestatic 71, 3) := dk_184 0 71 (dk_at dksJ5_indexOfUnsafe_7 10 rfl rfl)
theorem dJ5_indexOfUnsafe_173 : DC mJ5_indexOfUnsafe 173 = .ok (.aload_n 2, 1) := dk_44 (dk_at dksJ5_indexOfUnsafe_7 13 rfl rfl)
theorem dJ5_indexOfUnsafe_174 : DC mJ5_indexOfUnsafe 174 = .ok (.iload 10, 2) := dk_21 10 (dk_at dksJ5_indexOfUnsafe_7 14 rfl rfl)
theorem dJ5_indexOfUnsafe_176 : DC mJ5_indexOfUnsafe 176 = .ok (.invokestatic 71, 3) := dk_184 0 71 (dk_at dksJ5_indexOfUnsafe_7 16 rfl rfl)
theorem dJ5_indexOfUnsafe_179 : DC mJ5_indexOfUnsafe 179 = .ok (.if_icmp .ne 12, 3) := dk_160 0 12 (dk_at dksJ5_indexOfUnsafe_7 19 rfl rfl)
theorem dJ5_indexOfUnsafe_182 : DC mJ5_indexOfUnsafe 182 = .ok (.iinc 8 1, 3) := dk_132 8 1 (dk_at dksJ5_indexOfUnsafe_8 0 rfl rfl)
theorem dJ5_indexOfUnsafe_185 : DC mJ5_indexOfUnsafe 185 = .ok (.iinc 10 1, 3) := dk_132 10 1 (dk_at dksJ5_indexOfUnsafe_8 3 rfl rfl)
theorem dJ5_indexOfUnsafe_188 : DC mJ5_indexOfUnsafe 188 = .ok (.goto (-28), 3) := dk_167 255 228 (dk_at dksJ5_indexOfUnsafe_8 6 rfl rfl)
theorem dJ5_indexOfUnsafe_191 : DC mJ5_indexOfUnsafe 191 = .ok (.iload 8, 2) := dk_21 8 (dk_at dksJ5_indexOfUnsafe_8 9 rfl rfl)
theorem dJ5_indexOfUnsafe_193 : DC mJ5_indexOfUnsafe 193 = .ok (.iload 9, 2) := dk_21 9 (dk_at dksJ5_indexOfUnsafe_8 11 rfl rfl)
theorem dJ5_indexOfUnsafe_195 : DC mJ5_indexOfUnsafe 195 = .ok (.if_icmp .ne 6, 3) := dk_160 0 6 (dk_at dksJ5_indexOfUnsafe_8 13 rfl rfl)
theorem dJ5_indexOfUnsafe_198 : DC mJ5_indexOfUnsafe 198 = .ok (.iload 7, 2) := dk_21 7 (dk_at dksJ5_indexOfUnsafe_8 16 rfl rfl)
theorem dJ5_indexOfUnsafe_200 : DC mJ5_indexOfUnsafe 200 = .ok (.ireturn, 1) := dk_172 (dk_at dksJ5_indexOfUnsafe_8 18 rfl rfl)
theorem dJ5_indexOfUnsafe_201 : DC mJ5_indexOfUnsafe 201 = .ok (.iinc 7 1, 3) := dk_132 7 1 (dk_at dksJ5_indexOfUnsafe_8 19 rfl rfl)
theorem dJ5_indexOfUnsafe_204 : DC mJ5_indexOfUnsafe 204 = .ok (.goto (-110), 3) := dk_167 255 146 (dk_at dksJ5_indexOfUnsafe_9 0 rfl rfl)
theorem dJ5_indexOfUnsafe_207 : DC mJ5_indexOfUnsafe 207 = .ok (.iconst (-1), 1) := dk_2 (dk_at dksJ5_indexOfUnsafe_9 3 rfl rfl)
theorem dJ5_indexOfUnsafe_208 : DC mJ5_indexOfUnsafe 208 = .ok (.ireturn, 1) := dk_172 (dk_at dksJ5_indexOfUnsafe_9 4 rfl rfl)
abbrev cJ5_indexOfLatin1 : ByteArray := prog_38_method_44_code
def yJ5_indexOfLatin1 : MethodName := ⟨RJ5, "indexOfLatin1", "([B[B)I"⟩
def mJ5_indexOfLatin1 : MI := (⟨"java/lang/StringUTF16", "indexOfLatin1", "([B[B)I"⟩, prog_38_method_44_code, 2, (Option.some FieldType.int), none, 5, 4)
theorem oJ5_indexOfLatin1 : mO mJ5_indexOfLatin1 = 5 := rfl
theorem lJ5_indexOfLatin1 : mL mJ5_indexOfLatin1 = 2 := rfl
theorem rJ5_indexOfLatin1 : mR mJ5_indexOfLatin1 = (Option.some FieldType.int) := rfl
theorem vJ5_indexOfLatin1 : mV mJ5_indexOfLatin1 = 4 := rfl
theorem nJ5_indexOfLatin1 : (mY mJ5_indexOfLatin1).name = "indexOfLatin1" := rfl
theorem hJ5_indexOfLatin1 : mH mJ5_indexOfLatin1 = none := rfl
theorem kJ5_indexOfLatin1 : MOk mJ5_indexOfLatin1 := ⟨q2198, q81, by decide +kernel⟩
theorem gJ5_indexOfLatin1 : plainName (mY mJ5_indexOfLatin1).cls = true ∧ (mY mJ5_indexOfLatin1).cls = "java/lang/StringUTF16" := ⟨by decide +kernel, rfl⟩
def dkwJ5_indexOfLatin1_1 : List UInt8 := [43, 190, 3, 184, 0, 238, 172]
abbrev dktJ5_indexOfLatin1_1 : List UInt8 := dkwJ5_indexOfLatin1_1 ++ []
def dkwJ5_indexOfLatin1_0 : List UInt8 := [43, 190, 154, 0, 5, 3, 172, 42, 184, 0, 48, 43, 190, 162, 0, 5, 2, 172, 42, 42, 184, 0, 48, 43]
abbrev dktJ5_indexOfLatin1_0 : List UInt8 := dkwJ5_indexOfLatin1_0 ++ dktJ5_indexOfLatin1_1
theorem dksJ5_indexOfLatin1_0 : cJ5_indexOfLatin1.data.toList.drop 0 = dktJ5_indexOfLatin1_0 := by decide +kernel
theorem dksJ5_indexOfLatin1_1 : cJ5_indexOfLatin1.data.toList.drop 24 = dktJ5_indexOfLatin1_1 := dk_seg dksJ5_indexOfLatin1_0 24 rfl rfl
theorem dJ5_indexOfLatin1_0 : DC mJ5_indexOfLatin1 0 = .ok (.aload_n 1, 1) := dk_43 (dk_at dksJ5_indexOfLatin1_0 0 rfl rfl)
theorem dJ5_indexOfLatin1_1 : DC mJ5_indexOfLatin1 1 = .ok (.arraylength, 1) := dk_190 (dk_at dksJ5_indexOfLatin1_0 1 rfl rfl)
theorem dJ5_indexOfLatin1_2 : DC mJ5_indexOfLatin1 2 = .ok (.ifCond .ne 5, 3) := dk_154 0 5 (dk_at dksJ5_indexOfLatin1_0 2 rfl rfl)
theorem dJ5_indexOfLatin1_5 : DC mJ5_indexOfLatin1 5 = .ok (.iconst 0, 1) := dk_3 (dk_at dksJ5_indexOfLatin1_0 5 rfl rfl)
theorem dJ5_indexOfLatin1_6 : DC mJ5_indexOfLatin1 6 = .ok (.ireturn, 1) := dk_172 (dk_at dksJ5_indexOfLatin1_0 6 rfl rfl)
theorem dJ5_indexOfLatin1_7 : DC mJ5_indexOfLatin1 7 = .ok (.aload_n 0, 1) := dk_42 (dk_at dksJ5_indexOfLatin1_0 7 rfl rfl)
theorem dJ5_indexOfLatin1_8 : DC mJ5_indexOfLatin1 8 = .ok (.invokestatic 48, 3) := dk_184 0 48 (dk_at dksJ5_indexOfLatin1_0 8 rfl rfl)
theorem dJ5_indexOfLatin1_11 : DC mJ5_indexOfLatin1 11 = .ok (.aload_n 1, 1) := dk_43 (dk_at dksJ5_indexOfLatin1_0 11 rfl rfl)
theorem dJ5_indexOfLatin1_12 : DC mJ5_indexOfLatin1 12 = .ok (.arraylength, 1) := dk_190 (dk_at dksJ5_indexOfLatin1_0 12 rfl rfl)
theorem dJ5_indexOfLatin1_13 : DC mJ5_indexOfLatin1 13 = .ok (.if_icmp .ge 5, 3) := dk_162 0 5 (dk_at dksJ5_indexOfLatin1_0 13 rfl rfl)
theorem dJ5_indexOfLatin1_16 : DC mJ5_indexOfLatin1 16 = .ok (.iconst (-1), 1) := dk_2 (dk_at dksJ5_indexOfLatin1_0 16 rfl rfl)
theorem dJ5_indexOfLatin1_17 : DC mJ5_indexOfLatin1 17 = .ok (.ireturn, 1) := dk_172 (dk_at dksJ5_indexOfLatin1_0 17 rfl rfl)
theorem dJ5_indexOfLatin1_18 : DC mJ5_indexOfLatin1 18 = .ok (.aload_n 0, 1) := dk_42 (dk_at dksJ5_indexOfLatin1_0 18 rfl rfl)
theorem dJ5_indexOfLatin1_19 : DC mJ5_indexOfLatin1 19 = .ok (.aload_n 0, 1) := dk_42 (dk_at dksJ5_indexOfLatin1_0 19 rfl rfl)
theorem dJ5_indexOfLatin1_20 : DC mJ5_indexOfLatin1 20 = .ok (.invokestatic 48, 3) := dk_184 0 48 (dk_at dksJ5_indexOfLatin1_0 20 rfl rfl)
theorem dJ5_indexOfLatin1_23 : DC mJ5_indexOfLatin1 23 = .ok (.aload_n 1, 1) := dk_43 (dk_at dksJ5_indexOfLatin1_0 23 rfl rfl)
theorem dJ5_indexOfLatin1_24 : DC mJ5_indexOfLatin1 24 = .ok (.aload_n 1, 1) := dk_43 (dk_at dksJ5_indexOfLatin1_1 0 rfl rfl)
theorem dJ5_indexOfLatin1_25 : DC mJ5_indexOfLatin1 25 = .ok (.arraylength, 1) := dk_190 (dk_at dksJ5_indexOfLatin1_1 1 rfl rfl)
theorem dJ5_indexOfLatin1_26 : DC mJ5_indexOfLatin1 26 = .ok (.iconst 0, 1) := dk_3 (dk_at dksJ5_indexOfLatin1_1 2 rfl rfl)
theorem dJ5_indexOfLatin1_27 : DC mJ5_indexOfLatin1 27 = .ok (.invokestatic 238, 3) := dk_184 0 238 (dk_at dksJ5_indexOfLatin1_1 3 rfl rfl)
theorem dJ5_indexOfLatin1_30 : DC mJ5_indexOfLatin1 30 = .ok (.ireturn, 1) := dk_172 (dk_at dksJ5_indexOfLatin1_1 6 rfl rfl)
abbrev cJ5_indexOfLatin1Unsafe : ByteArray := prog_38_method_46_code
def yJ5_indexOfLatin1Unsafe : MethodName := ⟨RJ5, "indexOfLatin1Unsafe", "([BI[BII)I"⟩
def mJ5_indexOfLatin1Unsafe : MI := (⟨"java/lang/StringUTF16", "indexOfLatin1Unsafe", "([BI[BII)I"⟩, prog_38_method_46_code, 11, (Option.some FieldType.int), none, 5, 3)
theorem oJ5_indexOfLatin1Unsafe : mO mJ5_indexOfLatin1Unsafe = 5 := rfl
theorem lJ5_indexOfLatin1Unsafe : mL mJ5_indexOfLatin1Unsafe = 11 := rfl
theorem rJ5_indexOfLatin1Unsafe : mR mJ5_indexOfLatin1Unsafe = (Option.some FieldType.int) := rfl
theorem vJ5_indexOfLatin1Unsafe : mV mJ5_indexOfLatin1Unsafe = 3 := rfl
theorem nJ5_indexOfLatin1Unsafe : (mY mJ5_indexOfLatin1Unsafe).name = "indexOfLatin1Unsafe" := rfl
theorem hJ5_indexOfLatin1Unsafe : mH mJ5_indexOfLatin1Unsafe = none := rfl
theorem kJ5_indexOfLatin1Unsafe : MOk mJ5_indexOfLatin1Unsafe := ⟨q2201, q81, by decide +kernel⟩
theorem gJ5_indexOfLatin1Unsafe : plainName (mY mJ5_indexOfLatin1Unsafe).cls = true ∧ (mY mJ5_indexOfLatin1Unsafe).cls = "java/lang/StringUTF16" := ⟨by decide +kernel, rfl⟩
def dkwJ5_indexOfLatin1Unsafe_9 : List UInt8 := [167, 255, 144, 2, 172]
abbrev dktJ5_indexOfLatin1Unsafe_9 : List UInt8 := dkwJ5_indexOfLatin1Unsafe_9 ++ []
def dkwJ5_indexOfLatin1Unsafe_8 : List UInt8 := [132, 8, 1, 132, 10, 1, 167, 255, 226, 21, 8, 21, 9, 160, 0, 6, 21, 7, 172, 132, 7, 1]
abbrev dktJ5_indexOfLatin1Unsafe_8 : List UInt8 := dkwJ5_indexOfLatin1Unsafe_8 ++ dktJ5_indexOfLatin1Unsafe_9
def dkwJ5_indexOfLatin1Unsafe_7 : List UInt8 := [21, 8, 21, 9, 162, 0, 29, 42, 21, 8, 184, 0, 71, 44, 21, 10, 51, 17, 0, 255, 126, 160, 0, 12]
abbrev dktJ5_indexOfLatin1Unsafe_7 : List UInt8 := dkwJ5_indexOfLatin1Unsafe_7 ++ dktJ5_indexOfLatin1Unsafe_8
def dkwJ5_indexOfLatin1Unsafe_6 : List UInt8 := [21, 7, 21, 6, 163, 0, 63, 21, 7, 4, 96, 54, 8, 21, 8, 29, 96, 4, 100, 54, 9, 4, 54, 10]
abbrev dktJ5_indexOfLatin1Unsafe_6 : List UInt8 := dkwJ5_indexOfLatin1Unsafe_6 ++ dktJ5_indexOfLatin1Unsafe_7
def dkwJ5_indexOfLatin1Unsafe_5 : List UInt8 := [132, 7, 1, 21, 7, 21, 6, 163, 0, 17, 42, 21, 7, 184, 0, 71, 21, 5, 159, 0, 6, 167, 255, 235]
abbrev dktJ5_indexOfLatin1Unsafe_5 : List UInt8 := dkwJ5_indexOfLatin1Unsafe_5 ++ dktJ5_indexOfLatin1Unsafe_6
def dkwJ5_indexOfLatin1Unsafe_4 : List UInt8 := [21, 4, 54, 7, 21, 7, 21, 6, 163, 0, 111, 42, 21, 7, 184, 0, 71, 21, 5, 159, 0, 27]
abbrev dktJ5_indexOfLatin1Unsafe_4 : List UInt8 := dkwJ5_indexOfLatin1Unsafe_4 ++ dktJ5_indexOfLatin1Unsafe_5
def dkwJ5_indexOfLatin1Unsafe_3 : List UInt8 := [187, 0, 52, 89, 183, 0, 66, 191, 44, 3, 51, 17, 0, 255, 126, 146, 54, 5, 27, 29, 100, 54, 6]
abbrev dktJ5_indexOfLatin1Unsafe_3 : List UInt8 := dkwJ5_indexOfLatin1Unsafe_3 ++ dktJ5_indexOfLatin1Unsafe_4
def dkwJ5_indexOfLatin1Unsafe_2 : List UInt8 := [164, 0, 11, 187, 0, 52, 89, 183, 0, 66, 191, 178, 0, 44, 154, 0, 16, 27, 29, 162, 0, 11]
abbrev dktJ5_indexOfLatin1Unsafe_2 : List UInt8 := dkwJ5_indexOfLatin1Unsafe_2 ++ dktJ5_indexOfLatin1Unsafe_3
def dkwJ5_indexOfLatin1Unsafe_1 : List UInt8 := [154, 0, 15, 29, 157, 0, 11, 187, 0, 52, 89, 183, 0, 66, 191, 178, 0, 44, 154, 0, 17, 29, 44, 190]
abbrev dktJ5_indexOfLatin1Unsafe_1 : List UInt8 := dkwJ5_indexOfLatin1Unsafe_1 ++ dktJ5_indexOfLatin1Unsafe_2
def dkwJ5_indexOfLatin1Unsafe_0 : List UInt8 := [178, 0, 44, 154, 0, 16, 21, 4, 156, 0, 11, 187, 0, 52, 89, 183, 0, 66, 191, 178, 0, 44]
abbrev dktJ5_indexOfLatin1Unsafe_0 : List UInt8 := dkwJ5_indexOfLatin1Unsafe_0 ++ dktJ5_indexOfLatin1Unsafe_1
theorem dksJ5_indexOfLatin1Unsafe_0 : cJ5_indexOfLatin1Unsafe.data.toList.drop 0 = dktJ5_indexOfLatin1Unsafe_0 := by decide +kernel
theorem dksJ5_indexOfLatin1Unsafe_1 : cJ5_indexOfLatin1Unsafe.data.toList.drop 22 = dktJ5_indexOfLatin1Unsafe_1 := dk_seg dksJ5_indexOfLatin1Unsafe_0 22 rfl rfl
theorem dksJ5_indexOfLatin1Unsafe_2 : cJ5_indexOfLatin1Unsafe.data.toList.drop 46 = dktJ5_indexOfLatin1Unsafe_2 := dk_seg dksJ5_indexOfLatin1Unsafe_1 24 rfl rfl
theorem dksJ5_indexOfLatin1Unsafe_3 : cJ5_indexOfLatin1Unsafe.data.toList.drop 68 = dktJ5_indexOfLatin1Unsafe_3 := dk_seg dksJ5_indexOfLatin1Unsafe_2 22 rfl rfl
theorem dksJ5_indexOfLatin1Unsafe_4 : cJ5_indexOfLatin1Unsafe.data.toList.drop 91 = dktJ5_indexOfLatin1Unsafe_4 := dk_seg dksJ5_indexOfLatin1Unsafe_3 23 rfl rfl
theorem dksJ5_indexOfLatin1Unsafe_5 : cJ5_indexOfLatin1Unsafe.data.toList.drop 113 = dktJ5_indexOfLatin1Unsafe_5 := dk_seg dksJ5_indexOfLatin1Unsafe_4 22 rfl rfl
theorem dksJ5_indexOfLatin1Unsafe_6 : cJ5_indexOfLatin1Unsafe.data.toList.drop 137 = dktJ5_indexOfLatin1Unsafe_6 := dk_seg dksJ5_indexOfLatin1Unsafe_5 24 rfl rfl
theorem dksJ5_indexOfLatin1Unsafe_7 : cJ5_indexOfLatin1Unsafe.data.toList.drop 161 = dktJ5_indexOfLatin1Unsafe_7 := dk_seg dksJ5_indexOfLatin1Unsafe_6 24 rfl rfl
theorem dksJ5_indexOfLatin1Unsafe_8 : cJ5_indexOfLatin1Unsafe.data.toList.drop 185 = dktJ5_indexOfLatin1Unsafe_8 := dk_seg dksJ5_indexOfLatin1Unsafe_7 24 rfl rfl
theorem dksJ5_indexOfLatin1Unsafe_9 : cJ5_indexOfLatin1Unsafe.data.toList.drop 207 = dktJ5_indexOfLatin1Unsafe_9 := dk_seg dksJ5_indexOfLatin1Unsafe_8 22 rfl rfl
theorem dJ5_indexOfLatin1Unsafe_0 : DC mJ5_indexOfLatin1Unsafe 0 = .ok (.getstatic 44, 3) := dk_178 0 44 (dk_at dksJ5_indexOfLatin1Unsafe_0 0 rfl rfl)
theorem dJ5_indexOfLatin1Unsafe_3 : DC mJ5_indexOfLatin1Unsafe 3 = .ok (.ifCond .ne 16, 3) := dk_154 0 16 (dk_at dksJ5_indexOfLatin1Unsafe_0 3 rfl rfl)
theorem dJ5_indexOfLatin1Unsafe_6 : DC mJ5_indexOfLatin1Unsafe 6 = .ok (.iload 4, 2) := dk_21 4 (dk_at dksJ5_indexOfLatin1Unsafe_0 6 rfl rfl)
theorem dJ5_indexOfLatin1Unsafe_8 : DC mJ5_indexOfLatin1Unsafe 8 = .ok (.ifCond .ge 11, 3) := dk_156 0 11 (dk_at dksJ5_indexOfLatin1Unsafe_0 8 rfl rfl)
theorem dJ5_indexOfLatin1Unsafe_11 : DC mJ5_indexOfLatin1Unsafe 11 = .ok (.new 52, 3) := dk_187 0 52 (dk_at dksJ5_indexOfLatin1Unsafe_0 11 rfl rfl)
theorem dJ5_indexOfLatin1Unsafe_14 : DC mJ5_indexOfLatin1Unsafe 14 = .ok (.dup, 1) := dk_89 (dk_at dksJ5_indexOfLatin1Unsafe_0 14 rfl rfl)
theorem dJ5_indexOfLatin1Unsafe_15 : DC mJ5_indexOfLatin1Unsafe 15 = .ok (.invokespecial 66, 3) := dk_183 0 66 (dk_at dksJ5_indexOfLatin1Unsafe_0 15 rfl rfl)
theorem dJ5_indexOfLatin1Unsafe_18 : DC mJ5_indexOfLatin1Unsafe 18 = .ok (.athrow, 1) := dk_191 (dk_at dksJ5_indexOfLatin1Unsafe_0 18 rfl rfl)
theorem dJ5_indexOfLatin1Unsafe_19 : DC mJ5_indexOfLatin1Unsafe 19 = .ok (.getstatic 44, 3) := dk_178 0 44 (dk_at dksJ5_indexOfLatin1Unsafe_0 19 rfl rfl)
theorem dJ5_indexOfLatin1Unsafe_22 : DC mJ5_indexOfLatin1Unsafe 22 = .ok (.ifCond .ne 15, 3) := dk_154 0 15 (dk_at dksJ5_indexOfLatin1Unsafe_1 0 rfl rfl)
theorem dJ5_indexOfLatin1Unsafe_25 : DC mJ5_indexOfLatin1Unsafe 25 = .ok (.iload_n 3, 1) := dk_29 (dk_at dksJ5_indexOfLatin1Unsafe_1 3 rfl rfl)
theorem dJ5_indexOfLatin1Unsafe_26 : DC mJ5_indexOfLatin1Unsafe 26 = .ok (.ifCond .gt 11, 3) := dk_157 0 11 (dk_at dksJ5_indexOfLatin1Unsafe_1 4 rfl rfl)
theorem dJ5_indexOfLatin1Unsafe_29 : DC mJ5_indexOfLatin1Unsafe 29 = .ok (.new 52, 3) := dk_187 0 52 (dk_at dksJ5_indexOfLatin1Unsafe_1 7 rfl rfl)
theorem dJ5_indexOfLatin1Unsafe_32 : DC mJ5_indexOfLatin1Unsafe 32 = .ok (.dup, 1) := dk_89 (dk_at dksJ5_indexOfLatin1Unsafe_1 10 rfl rfl)
theorem dJ5_indexOfLatin1Unsafe_33 : DC mJ5_indexOfLatin1Unsafe 33 = .ok (.invokespecial 66, 3) := dk_183 0 66 (dk_at dksJ5_indexOfLatin1Unsafe_1 11 rfl rfl)
theorem dJ5_indexOfLatin1Unsafe_36 : DC mJ5_indexOfLatin1Unsafe 36 = .ok (.athrow, 1) := dk_191 (dk_at dksJ5_indexOfLatin1Unsafe_1 14 rfl rfl)
theorem dJ5_indexOfLatin1Unsafe_37 : DC mJ5_indexOfLatin1Unsafe 37 = .ok (.getstatic 44, 3) := dk_178 0 44 (dk_at dksJ5_indexOfLatin1Unsafe_1 15 rfl rfl)
theorem dJ5_indexOfLatin1Unsafe_40 : DC mJ5_indexOfLatin1Unsafe 40 = .ok (.ifCond .ne 17, 3) := dk_154 0 17 (dk_at dksJ5_indexOfLatin1Unsafe_1 18 rfl rfl)
theorem dJ5_indexOfLatin1Unsafe_43 : DC mJ5_indexOfLatin1Unsafe 43 = .ok (.iload_n 3, 1) := dk_29 (dk_at dksJ5_indexOfLatin1Unsafe_1 21 rfl rfl)
theorem dJ5_indexOfLatin1Unsafe_44 : DC mJ5_indexOfLatin1Unsafe 44 = .ok (.aload_n 2, 1) := dk_44 (dk_at dksJ5_indexOfLatin1Unsafe_1 22 rfl rfl)
theorem dJ5_indexOfLatin1Unsafe_45 : DC mJ5_indexOfLatin1Unsafe 45 = .ok (.arraylength, 1) := dk_190 (dk_at dksJ5_indexOfLatin1Unsafe_1 23 rfl rfl)
theorem dJ5_indexOfLatin1Unsafe_46 : DC mJ5_indexOfLatin1Unsafe 46 = .ok (.if_icmp .le 11, 3) := dk_164 0 11 (dk_at dksJ5_indexOfLatin1Unsafe_2 0 rfl rfl)
theorem dJ5_indexOfLatin1Unsafe_49 : DC mJ5_indexOfLatin1Unsafe 49 = .ok (.new 52, 3) := dk_187 0 52 (dk_at dksJ5_indexOfLatin1Unsafe_2 3 rfl rfl)
theorem dJ5_indexOfLatin1Unsafe_52 : DC mJ5_indexOfLatin1Unsafe 52 = .ok (.dup, 1) := dk_89 (dk_at dksJ5_indexOfLatin1Unsafe_2 6 rfl rfl)
theorem dJ5_indexOfLatin1Unsafe_53 : DC mJ5_indexOfLatin1Unsafe 53 = .ok (.invokespecial 66, 3) := dk_183 0 66 (dk_at dksJ5_indexOfLatin1Unsafe_2 7 rfl rfl)
theorem dJ5_indexOfLatin1Unsafe_56 : DC mJ5_indexOfLatin1Unsafe 56 = .ok (.athrow, 1) := dk_191 (dk_at dksJ5_indexOfLatin1Unsafe_2 10 rfl rfl)
theorem dJ5_indexOfLatin1Unsafe_57 : DC mJ5_indexOfLatin1Unsafe 57 = .ok (.getstatic 44, 3) := dk_178 0 44 (dk_at dksJ5_indexOfLatin1Unsafe_2 11 rfl rfl)
theorem dJ5_indexOfLatin1Unsafe_60 : DC mJ5_indexOfLatin1Unsafe 60 = .ok (.ifCond .ne 16, 3) := dk_154 0 16 (dk_at dksJ5_indexOfLatin1Unsafe_2 14 rfl rfl)
theorem dJ5_indexOfLatin1Unsafe_63 : DC mJ5_indexOfLatin1Unsafe 63 = .ok (.iload_n 1, 1) := dk_27 (dk_at dksJ5_indexOfLatin1Unsafe_2 17 rfl rfl)
theorem dJ5_indexOfLatin1Unsafe_64 : DC mJ5_indexOfLatin1Unsafe 64 = .ok (.iload_n 3, 1) := dk_29 (dk_at dksJ5_indexOfLatin1Unsafe_2 18 rfl rfl)
theorem dJ5_indexOfLatin1Unsafe_65 : DC mJ5_indexOfLatin1Unsafe 65 = .ok (.if_icmp .ge 11, 3) := dk_162 0 11 (dk_at dksJ5_indexOfLatin1Unsafe_2 19 rfl rfl)
theorem dJ5_indexOfLatin1Unsafe_68 : DC mJ5_indexOfLatin1Unsafe 68 = .ok (.new 52, 3) := dk_187 0 52 (dk_at dksJ5_indexOfLatin1Unsafe_3 0 rfl rfl)
theorem dJ5_indexOfLatin1Unsafe_71 : DC mJ5_indexOfLatin1Unsafe 71 = .ok (.dup, 1) := dk_89 (dk_at dksJ5_indexOfLatin1Unsafe_3 3 rfl rfl)
theorem dJ5_indexOfLatin1Unsafe_72 : DC mJ5_indexOfLatin1Unsafe 72 = .ok (.invokespecial 66, 3) := dk_183 0 66 (dk_at dksJ5_indexOfLatin1Unsafe_3 4 rfl rfl)
theorem dJ5_indexOfLatin1Unsafe_75 : DC mJ5_indexOfLatin1Unsafe 75 = .ok (.athrow, 1) := dk_191 (dk_at dksJ5_indexOfLatin1Unsafe_3 7 rfl rfl)
theorem dJ5_indexOfLatin1Unsafe_76 : DC mJ5_indexOfLatin1Unsafe 76 = .ok (.aload_n 2, 1) := dk_44 (dk_at dksJ5_indexOfLatin1Unsafe_3 8 rfl rfl)
theorem dJ5_indexOfLatin1Unsafe_77 : DC mJ5_indexOfLatin1Unsafe 77 = .ok (.iconst 0, 1) := dk_3 (dk_at dksJ5_indexOfLatin1Unsafe_3 9 rfl rfl)
theorem dJ5_indexOfLatin1Unsafe_78 : DC mJ5_indexOfLatin1Unsafe 78 = .ok (.baload, 1) := dk_51 (dk_at dksJ5_indexOfLatin1Unsafe_3 10 rfl rfl)
theorem dJ5_indexOfLatin1Unsafe_79 : DC mJ5_indexOfLatin1Unsafe 79 = .ok (.sipush 255, 3) := dk_17 0 255 (dk_at dksJ5_indexOfLatin1Unsafe_3 11 rfl rfl)
theorem dJ5_indexOfLatin1Unsafe_82 : DC mJ5_indexOfLatin1Unsafe 82 = .ok (.iand, 1) := dk_126 (dk_at dksJ5_indexOfLatin1Unsafe_3 14 rfl rfl)
theorem dJ5_indexOfLatin1Unsafe_83 : DC mJ5_indexOfLatin1Unsafe 83 = .ok (.i2c, 1) := dk_146 (dk_at dksJ5_indexOfLatin1Unsafe_3 15 rfl rfl)
theorem dJ5_indexOfLatin1Unsafe_84 : DC mJ5_indexOfLatin1Unsafe 84 = .ok (.istore 5, 2) := dk_54 5 (dk_at dksJ5_indexOfLatin1Unsafe_3 16 rfl rfl)
theorem dJ5_indexOfLatin1Unsafe_86 : DC mJ5_indexOfLatin1Unsafe 86 = .ok (.iload_n 1, 1) := dk_27 (dk_at dksJ5_indexOfLatin1Unsafe_3 18 rfl rfl)
theorem dJ5_indexOfLatin1Unsafe_87 : DC mJ5_indexOfLatin1Unsafe 87 = .ok (.iload_n 3, 1) := dk_29 (dk_at dksJ5_indexOfLatin1Unsafe_3 19 rfl rfl)
theorem dJ5_indexOfLatin1Unsafe_88 : DC mJ5_indexOfLatin1Unsafe 88 = .ok (.isub, 1) := dk_100 (dk_at dksJ5_indexOfLatin1Unsafe_3 20 rfl rfl)
theorem dJ5_indexOfLatin1Unsafe_89 : DC mJ5_indexOfLatin1Unsafe 89 = .ok (.istore 6, 2) := dk_54 6 (dk_at dksJ5_indexOfLatin1Unsafe_3 21 rfl rfl)
theorem dJ5_indexOfLatin1Unsafe_91 : DC mJ5_indexOfLatin1Unsafe 91 = .ok (.iload 4, 2) := dk_21 4 (dk_at dksJ5_indexOfLatin1Unsafe_4 0 rfl rfl)
theorem dJ5_indexOfLatin1Unsafe_93 : DC mJ5_indexOfLatin1Unsafe 93 = .ok (.istore 7, 2) := dk_54 7 (dk_at dksJ5_indexOfLatin1Unsafe_4 2 rfl rfl)
theorem dJ5_indexOfLatin1Unsafe_95 : DC mJ5_indexOfLatin1Unsafe 95 = .ok (.iload 7, 2) := dk_21 7 (dk_at dksJ5_indexOfLatin1Unsafe_4 4 rfl rfl)
theorem dJ5_indexOfLatin1Unsafe_97 : DC mJ5_indexOfLatin1Unsafe 97 = .ok (.iload 6, 2) := dk_21 6 (dk_at dksJ5_indexOfLatin1Unsafe_4 6 rfl rfl)
theorem dJ5_indexOfLatin1Unsafe_99 : DC mJ5_indexOfLatin1Unsafe 99 = .ok (.if_icmp .gt 111, 3) := dk_163 0 111 (dk_at dksJ5_indexOfLatin1Unsafe_4 8 rfl rfl)
theorem dJ5_indexOfLatin1Unsafe_102 : DC mJ5_indexOfLatin1Unsafe 102 = .ok (.aload_n 0, 1) := dk_42 (dk_at dksJ5_indexOfLatin1Unsafe_4 11 rfl rfl)
theorem dJ5_indexOfLatin1Unsafe_103 : DC mJ5_indexOfLatin1Unsafe 103 = .ok (.iload 7, 2) := dk_21 7 (dk_at dksJ5_indexOfLatin1Unsafe_4 12 rfl rfl)
theorem dJ5_indexOfLatin1Unsafe_105 : DC mJ5_indexOfLatin1Unsafe 105 = .ok (.invokestatic 71, 3) := dk_184 0 71 (dk_at dksJ5_indexOfLatin1Unsafe_4 14 rfl rfl)
theorem dJ5_indexOfLatin1Unsafe_108 : DC mJ5_indexOfLatin1Unsafe 108 = .ok (.iload 5, 2) := dk_21 5 (dk_at dksJ5_indexOfLatin1Unsafe_4 17 rfl rfl)
theorem dJ5_indexOfLatin1Unsafe_110 : DC mJ5_indexOfLatin1Unsafe 110 = .ok (.if_icmp .eq 27, 3) := dk_159 0 27 (dk_at dksJ5_indexOfLatin1Unsafe_4 19 rfl rfl)
theorem dJ5_indexOfLatin1Unsafe_113 : DC mJ5_indexOfLatin1Unsafe 113 = .ok (.iinc 7 1, 3) := dk_132 7 1 (dk_at dksJ5_indexOfLatin1Unsafe_5 0 rfl rfl)
theorem dJ5_indexOfLatin1Unsafe_116 : DC mJ5_indexOfLatin1Unsafe 116 = .ok (.iload 7, 2) := dk_21 7 (dk_at dksJ5_indexOfLatin1Unsafe_5 3 rfl rfl)
theorem dJ5_indexOfLatin1Unsafe_118 : DC mJ5_indexOfLatin1Unsafe 118 = .ok (.iload 6, 2) := dk_21 6 (dk_at dksJ5_indexOfLatin1Unsafe_5 5 rfl rfl)
theorem dJ5_indexOfLatin1Unsafe_120 : DC mJ5_indexOfLatin1Unsafe 120 = .ok (.if_icmp .gt 17, 3) := dk_163 0 17 (dk_at dksJ5_indexOfLatin1Unsafe_5 7 rfl rfl)
theorem dJ5_indexOfLatin1Unsafe_123 : DC mJ5_indexOfLatin1Unsafe 123 = .ok (.aload_n 0, 1) := dk_42 (dk_at dksJ5_indexOfLatin1Unsafe_5 10 rfl rfl)
theorem dJ5_indexOfLatin1Unsafe_124 : DC mJ5_indexOfLatin1Unsafe 124 = .ok (.iload 7, 2) := dk_21 7 (dk_at dksJ5_indexOfLatin1Unsafe_5 11 rfl rfl)
theorem dJ5_indexOfLatin1Unsafe_126 : DC mJ5_indexOfLatin1Unsafe 126 = .ok (.invokestatic 71, 3) := dk_184 0 71 (dk_at dksJ5_indexOfLatin1Unsafe_5 13 rfl rfl)
theorem dJ5_indexOfLatin1Unsafe_129 : DC mJ5_indexOfLatin1Unsafe 129 = .ok (.iload 5, 2) := dk_21 5 (dk_at dksJ5_indexOfLatin1Unsafe_5 16 rfl rfl)
theorem dJ5_indexOfLatin1Unsafe_131 : DC mJ5_indexOfLatin1Unsafe 131 = .ok (.if_icmp .eq 6, 3) := dk_159 0 6 (dk_at dksJ5_indexOfLatin1Unsafe_5 18 rfl rfl)
theorem dJ5_indexOfLatin1Unsafe_134 : DC mJ5_indexOfLatin1Unsafe 134 = .ok (.goto (-21), 3) := dk_167 255 235 (dk_at dksJ5_indexOfLatin1Unsafe_5 21 rfl rfl)
theorem dJ5_indexOfLatin1Unsafe_137 : DC mJ5_indexOfLatin1Unsafe 137 = .ok (.iload 7, 2) := dk_21 7 (dk_at dksJ5_indexOfLatin1Unsafe_6 0 rfl rfl)
theorem dJ5_indexOfLatin1Unsafe_139 : DC mJ5_indexOfLatin1Unsafe 139 = .ok (.iload 6, 2) := dk_21 6 (dk_at dksJ5_indexOfLatin1Unsafe_6 2 rfl rfl)
theorem dJ5_indexOfLatin1Unsafe_141 : DC mJ5_indexOfLatin1Unsafe 141 = .ok (.if_icmp .gt 63, 3) := dk_163 0 63 (dk_at dksJ5_indexOfLatin1Unsafe_6 4 rfl rfl)
theorem dJ5_indexOfLatin1Unsafe_144 : DC mJ5_indexOfLatin1Unsafe 144 = .ok (.iload 7, 2) := dk_21 7 (dk_at dksJ5_indexOfLatin1Unsafe_6 7 rfl rfl)
theorem dJ5_indexOfLatin1Unsafe_146 : DC mJ5_indexOfLatin1Unsafe 146 = .ok (.iconst 1, 1) := dk_4 (dk_at dksJ5_indexOfLatin1Unsafe_6 9 rfl rfl)
theorem dJ5_indexOfLatin1Unsafe_147 : DC mJ5_indexOfLatin1Unsafe 147 = .ok (.iadd, 1) := dk_96 (dk_at dksJ5_indexOfLatin1Unsafe_6 10 rfl rfl)
theorem dJ5_indexOfLatin1Unsafe_148 : DC mJ5_indexOfLatin1Unsafe 148 = .ok (.istore 8, 2) := dk_54 8 (dk_at dksJ5_indexOfLatin1Unsafe_6 11 rfl rfl)
theorem dJ5_indexOfLatin1Unsafe_150 : DC mJ5_indexOfLatin1Unsafe 150 = .ok (.iload 8, 2) := dk_21 8 (dk_at dksJ5_indexOfLatin1Unsafe_6 13 rfl rfl)
theorem dJ5_indexOfLatin1Unsafe_152 : DC mJ5_indexOfLatin1Unsafe 152 = .ok (.iload_n 3, 1) := dk_29 (dk_at dksJ5_indexOfLatin1Unsafe_6 15 rfl rfl)
theorem dJ5_indexOfLatin1Unsafe_153 : DC mJ5_indexOfLatin1Unsafe 153 = .ok (.iadd, 1) := dk_96 (dk_at dksJ5_indexOfLatin1Unsafe_6 16 rfl rfl)
theorem dJ5_indexOfLatin1Unsafe_154 : DC mJ5_indexOfLatin1Unsafe 154 = .ok (.iconst 1, 1) := dk_4 (dk_at dksJ5_indexOfLatin1Unsafe_6 17 rfl rfl)
theorem dJ5_indexOfLatin1Unsafe_155 : DC mJ5_indexOfLatin1Unsafe 155 = .ok (.isub, 1) := dk_100 (dk_at dksJ5_indexOfLatin1Unsafe_6 18 rfl rfl)
theorem dJ5_indexOfLatin1Unsafe_156 : DC mJ5_indexOfLatin1Unsafe 156 = .ok (.istore 9, 2) := dk_54 9 (dk_at dksJ5_indexOfLatin1Unsafe_6 19 rfl rfl)
theorem dJ5_indexOfLatin1Unsafe_158 : DC mJ5_indexOfLatin1Unsafe 158 = .ok (.iconst 1, 1) := dk_4 (dk_at dksJ5_indexOfLatin1Unsafe_6 21 rfl rfl)
theorem dJ5_indexOfLatin1Unsafe_159 : DC mJ5_indexOfLatin1Unsafe 159 = .ok (.istore 10, 2) := dk_54 10 (dk_at dksJ5_indexOfLatin1Unsafe_6 22 rfl rfl)
theorem dJ5_indexOfLatin1Unsafe_161 : DC mJ5_indexOfLatin1Unsafe 161 = .ok (.iload 8, 2) := dk_21 8 (dk_at dksJ5_indexOfLatin1Unsafe_7 0 rfl rfl)
theorem dJ5_indexOfLatin1Unsafe_163 : DC mJ5_indexOfLatin1Unsafe 163 = .ok (.iload 9, 2) := dk_21 9 (dk_at dksJ5_indexOfLatin1Unsafe_7 2 rfl rfl)
theorem dJ5_indexOfLatin1Unsafe_165 : DC mJ5_indexOfLatin1Unsafe 165 = .ok (.if_icmp .ge 29, 3) := dk_162 0 29 (dk_at dksJ5_indexOfLatin1Unsafe_7 4 rfl rfl)
theorem dJ5_indexOfLatin1Unsafe_168 : DC mJ5_indexOfLatin1Unsafe 168 = .ok (.aload_n 0, 1) := dk_42 (dk_at dksJ5_indexOfLatin1Unsafe_7 7 rfl rfl)
theorem dJ5_indexOfLatin1Unsafe_169 : DC mJ5_indexOfLatin1Unsafe 169 = .ok (.iload 8, 2) := dk_21 8 (dk_at dksJ5_indexOfLatin1Unsafe_7 8 rfl rfl)
theorem dJ5_indexOfLatin1Unsafe_171 : DC mJ5_indexOfLatin1Unsafe 171 = .ok (.invokestatic 71, 3) := dk_184 0 71 (dk_at dksJ5_indexOfLatin1Unsafe_7 10 rfl rfl)
theorem dJ5_indexOfLatin1Unsafe_174 : DC mJ5_indexOfLatin1Unsafe 174 = .ok (.aload_n 2, 1) := dk_44 (dk_at dksJ5_indexOfLatin1Unsafe_7 13 rfl rfl)
theorem dJ5_indexOfLatin1Unsafe_175 : DC mJ5_indexOfLatin1Unsafe 175 = .ok (.iload 10, 2) := dk_21 10 (dk_at dksJ5_indexOfLatin1Unsafe_7 14 rfl rfl)
theorem dJ5_indexOfLatin1Unsafe_177 : DC mJ5_indexOfLatin1Unsafe 177 = .ok (.baload, 1) := dk_51 (dk_at dksJ5_indexOfLatin1Unsafe_7 16 rfl rfl)
theorem dJ5_indexOfLatin1Unsafe_178 : DC mJ5_indexOfLatin1Unsafe 178 = .ok (.sipush 255, 3) := dk_17 0 255 (dk_at dksJ5_indexOfLatin1Unsafe_7 17 rfl rfl)
theorem dJ5_indexOfLatin1Unsafe_181 : DC mJ5_indexOfLatin1Unsafe 181 = .ok (.iand, 1) := dk_126 (dk_at dksJ5_indexOfLatin1Unsafe_7 20 rfl rfl)
theorem dJ5_indexOfLatin1Unsafe_182 : DC mJ5_indexOfLatin1Unsafe 182 = .ok (.if_icmp .ne 12, 3) := dk_160 0 12 (dk_at dksJ5_indexOfLatin1Unsafe_7 21 rfl rfl)
theorem dJ5_indexOfLatin1Unsafe_185 : DC mJ5_indexOfLatin1Unsafe 185 = .ok (.iinc 8 1, 3) := dk_132 8 1 (dk_at dksJ5_indexOfLatin1Unsafe_8 0 rfl rfl)
theorem dJ5_indexOfLatin1Unsafe_188 : DC mJ5_indexOfLatin1Unsafe 188 = .ok (.iinc 10 1, 3) := dk_132 10 1 (dk_at dksJ5_indexOfLatin1Unsafe_8 3 rfl rfl)
theorem dJ5_indexOfLatin1Unsafe_191 : DC mJ5_indexOfLatin1Unsafe 191 = .ok (.goto (-30), 3) := dk_167 255 226 (dk_at dksJ5_indexOfLatin1Unsafe_8 6 rfl rfl)
theorem dJ5_indexOfLatin1Unsafe_194 : DC mJ5_indexOfLatin1Unsafe 194 = .ok (.iload 8, 2) := dk_21 8 (dk_at dksJ5_indexOfLatin1Unsafe_8 9 rfl rfl)
theorem dJ5_indexOfLatin1Unsafe_196 : DC mJ5_indexOfLatin1Unsafe 196 = .ok (.iload 9, 2) := dk_21 9 (dk_at dksJ5_indexOfLatin1Unsafe_8 11 rfl rfl)
theorem dJ5_indexOfLatin1Unsafe_198 : DC mJ5_indexOfLatin1Unsafe 198 = .ok (.if_icmp .ne 6, 3) := dk_160 0 6 (dk_at dksJ5_indexOfLatin1Unsafe_8 13 rfl rfl)
theorem dJ5_indexOfLatin1Unsafe_201 : DC mJ5_indexOfLatin1Unsafe 201 = .ok (.iload 7, 2) := dk_21 7 (dk_at dksJ5_indexOfLatin1Unsafe_8 16 rfl rfl)
theorem dJ5_indexOfLatin1Unsafe_203 : DC mJ5_indexOfLatin1Unsafe 203 = .ok (.ireturn, 1) := dk_172 (dk_at dksJ5_indexOfLatin1Unsafe_8 18 rfl rfl)
theorem dJ5_indexOfLatin1Unsafe_204 : DC mJ5_indexOfLatin1Unsafe 204 = .ok (.iinc 7 1, 3) := dk_132 7 1 (dk_at dksJ5_indexOfLatin1Unsafe_8 19 rfl rfl)
theorem dJ5_indexOfLatin1Unsafe_207 : DC mJ5_indexOfLatin1Unsafe 207 = .ok (.goto (-112), 3) := dk_167 255 144 (dk_at dksJ5_indexOfLatin1Unsafe_9 0 rfl rfl)
theorem dJ5_indexOfLatin1Unsafe_210 : DC mJ5_indexOfLatin1Unsafe 210 = .ok (.iconst (-1), 1) := dk_2 (dk_at dksJ5_indexOfLatin1Unsafe_9 3 rfl rfl)
theorem dJ5_indexOfLatin1Unsafe_211 : DC mJ5_indexOfLatin1Unsafe 211 = .ok (.ireturn, 1) := dk_172 (dk_at dksJ5_indexOfLatin1Unsafe_9 4 rfl rfl)
abbrev cJ5_newString : ByteArray := prog_38_method_69_code
def yJ5_newString : MethodName := ⟨RJ5, "newString", "([BII)Ljava/lang/String;"⟩
def mJ5_newString : MI := (⟨"java/lang/StringUTF16", "newString", "([BII)Ljava/lang/String;"⟩, prog_38_method_69_code, 5, (Option.some (FieldType.object "java/lang/String")), none, 5, 6)
theorem oJ5_newString : mO mJ5_newString = 5 := rfl
theorem lJ5_newString : mL mJ5_newString = 5 := rfl
theorem rJ5_newString : mR mJ5_newString = (Option.some (FieldType.object "java/lang/String")) := rfl
theorem vJ5_newString : mV mJ5_newString = 6 := rfl
theorem nJ5_newString : (mY mJ5_newString).name = "newString" := rfl
theorem hJ5_newString : mH mJ5_newString = none := rfl
theorem kJ5_newString : MOk mJ5_newString := ⟨q2254, q81, by decide +kernel⟩
theorem gJ5_newString : plainName (mY mJ5_newString).cls = true ∧ (mY mJ5_newString).cls = "java/lang/StringUTF16" := ⟨by decide +kernel, rfl⟩
def dkwJ5_newString_2 : List UInt8 := [42, 27, 4, 120, 29, 4, 120, 184, 0, 126, 4, 183, 1, 7, 176]
abbrev dktJ5_newString_2 : List UInt8 := dkwJ5_newString_2 ++ []
def dkwJ5_newString_1 : List UInt8 := [184, 1, 3, 54, 4, 187, 0, 3, 89, 45, 21, 4, 183, 1, 7, 176, 27, 28, 96, 62, 187, 0, 3, 89]
abbrev dktJ5_newString_1 : List UInt8 := dkwJ5_newString_1 ++ dktJ5_newString_2
def dkwJ5_newString_0 : List UInt8 := [28, 154, 0, 7, 19, 1, 39, 176, 178, 0, 251, 153, 0, 28, 42, 27, 28, 184, 1, 1, 78, 45, 28]
abbrev dktJ5_newString_0 : List UInt8 := dkwJ5_newString_0 ++ dktJ5_newString_1
theorem dksJ5_newString_0 : cJ5_newString.data.toList.drop 0 = dktJ5_newString_0 := by decide +kernel
theorem dksJ5_newString_1 : cJ5_newString.data.toList.drop 23 = dktJ5_newString_1 := dk_seg dksJ5_newString_0 23 rfl rfl
theorem dksJ5_newString_2 : cJ5_newString.data.toList.drop 47 = dktJ5_newString_2 := dk_seg dksJ5_newString_1 24 rfl rfl
theorem dJ5_newString_0 : DC mJ5_newString 0 = .ok (.iload_n 2, 1) := dk_28 (dk_at dksJ5_newString_0 0 rfl rfl)
theorem dJ5_newString_1 : DC mJ5_newString 1 = .ok (.ifCond .ne 7, 3) := dk_154 0 7 (dk_at dksJ5_newString_0 1 rfl rfl)
theorem dJ5_newString_4 : DC mJ5_newString 4 = .ok (.ldc_w 295, 3) := dk_19 1 39 (dk_at dksJ5_newString_0 4 rfl rfl)
theorem dJ5_newString_7 : DC mJ5_newString 7 = .ok (.areturn, 1) := dk_176 (dk_at dksJ5_newString_0 7 rfl rfl)
theorem dJ5_newString_8 : DC mJ5_newString 8 = .ok (.getstatic 251, 3) := dk_178 0 251 (dk_at dksJ5_newString_0 8 rfl rfl)
theorem dJ5_newString_11 : DC mJ5_newString 11 = .ok (.ifCond .eq 28, 3) := dk_153 0 28 (dk_at dksJ5_newString_0 11 rfl rfl)
theorem dJ5_newString_14 : DC mJ5_newString 14 = .ok (.aload_n 0, 1) := dk_42 (dk_at dksJ5_newString_0 14 rfl rfl)
theorem dJ5_newString_15 : DC mJ5_newString 15 = .ok (.iload_n 1, 1) := dk_27 (dk_at dksJ5_newString_0 15 rfl rfl)
theorem dJ5_newString_16 : DC mJ5_newString 16 = .ok (.iload_n 2, 1) := dk_28 (dk_at dksJ5_newString_0 16 rfl rfl)
theorem dJ5_newString_17 : DC mJ5_newString 17 = .ok (.invokestatic 257, 3) := dk_184 1 1 (dk_at dksJ5_newString_0 17 rfl rfl)
theorem dJ5_newString_20 : DC mJ5_newString 20 = .ok (.astore_n 3, 1) := dk_78 (dk_at dksJ5_newString_0 20 rfl rfl)
theorem dJ5_newString_21 : DC mJ5_newString 21 = .ok (.aload_n 3, 1) := dk_45 (dk_at dksJ5_newString_0 21 rfl rfl)
theorem dJ5_newString_22 : DC mJ5_newString 22 = .ok (.iload_n 2, 1) := dk_28 (dk_at dksJ5_newString_0 22 rfl rfl)
theorem dJ5_newString_23 : DC mJ5_newString 23 = .ok (.invokestatic 259, 3) := dk_184 1 3 (dk_at dksJ5_newString_1 0 rfl rfl)
theorem dJ5_newString_26 : DC mJ5_newString 26 = .ok (.istore 4, 2) := dk_54 4 (dk_at dksJ5_newString_1 3 rfl rfl)
theorem dJ5_newString_28 : DC mJ5_newString 28 = .ok (.new 3, 3) := dk_187 0 3 (dk_at dksJ5_newString_1 5 rfl rfl)
theorem dJ5_newString_31 : DC mJ5_newString 31 = .ok (.dup, 1) := dk_89 (dk_at dksJ5_newString_1 8 rfl rfl)
theorem dJ5_newString_32 : DC mJ5_newString 32 = .ok (.aload_n 3, 1) := dk_45 (dk_at dksJ5_newString_1 9 rfl rfl)
theorem dJ5_newString_33 : DC mJ5_newString 33 = .ok (.iload 4, 2) := dk_21 4 (dk_at dksJ5_newString_1 10 rfl rfl)
theorem dJ5_newString_35 : DC mJ5_newString 35 = .ok (.invokespecial 263, 3) := dk_183 1 7 (dk_at dksJ5_newString_1 12 rfl rfl)
theorem dJ5_newString_38 : DC mJ5_newString 38 = .ok (.areturn, 1) := dk_176 (dk_at dksJ5_newString_1 15 rfl rfl)
theorem dJ5_newString_39 : DC mJ5_newString 39 = .ok (.iload_n 1, 1) := dk_27 (dk_at dksJ5_newString_1 16 rfl rfl)
theorem dJ5_newString_40 : DC mJ5_newString 40 = .ok (.iload_n 2, 1) := dk_28 (dk_at dksJ5_newString_1 17 rfl rfl)
theorem dJ5_newString_41 : DC mJ5_newString 41 = .ok (.iadd, 1) := dk_96 (dk_at dksJ5_newString_1 18 rfl rfl)
theorem dJ5_newString_42 : DC mJ5_newString 42 = .ok (.istore_n 3, 1) := dk_62 (dk_at dksJ5_newString_1 19 rfl rfl)
theorem dJ5_newString_43 : DC mJ5_newString 43 = .ok (.new 3, 3) := dk_187 0 3 (dk_at dksJ5_newString_1 20 rfl rfl)
theorem dJ5_newString_46 : DC mJ5_newString 46 = .ok (.dup, 1) := dk_89 (dk_at dksJ5_newString_1 23 rfl rfl)
theorem dJ5_newString_47 : DC mJ5_newString 47 = .ok (.aload_n 0, 1) := dk_42 (dk_at dksJ5_newString_2 0 rfl rfl)
theorem dJ5_newString_48 : DC mJ5_newString 48 = .ok (.iload_n 1, 1) := dk_27 (dk_at dksJ5_newString_2 1 rfl rfl)
theorem dJ5_newString_49 : DC mJ5_newString 49 = .ok (.iconst 1, 1) := dk_4 (dk_at dksJ5_newString_2 2 rfl rfl)
theorem dJ5_newString_50 : DC mJ5_newString 50 = .ok (.ishl, 1) := dk_120 (dk_at dksJ5_newString_2 3 rfl rfl)
theorem dJ5_newString_51 : DC mJ5_newString 51 = .ok (.iload_n 3, 1) := dk_29 (dk_at dksJ5_newString_2 4 rfl rfl)
theorem dJ5_newString_52 : DC mJ5_newString 52 = .ok (.iconst 1, 1) := dk_4 (dk_at dksJ5_newString_2 5 rfl rfl)
theorem dJ5_newString_53 : DC mJ5_newString 53 = .ok (.ishl, 1) := dk_120 (dk_at dksJ5_newString_2 6 rfl rfl)
theorem dJ5_newString_54 : DC mJ5_newString 54 = .ok (.invokestatic 126, 3) := dk_184 0 126 (dk_at dksJ5_newString_2 7 rfl rfl)
theorem dJ5_newString_57 : DC mJ5_newString 57 = .ok (.iconst 1, 1) := dk_4 (dk_at dksJ5_newString_2 10 rfl rfl)
theorem dJ5_newString_58 : DC mJ5_newString 58 = .ok (.invokespecial 263, 3) := dk_183 1 7 (dk_at dksJ5_newString_2 11 rfl rfl)
theorem dJ5_newString_61 : DC mJ5_newString 61 = .ok (.areturn, 1) := dk_176 (dk_at dksJ5_newString_2 14 rfl rfl)
abbrev cJ5_fillNull : ByteArray := prog_38_method_70_code
def yJ5_fillNull : MethodName := ⟨RJ5, "fillNull", "([BII)V"⟩
def mJ5_fillNull : MI := (⟨"java/lang/StringUTF16", "fillNull", "([BII)V"⟩, prog_38_method_70_code, 3, (Option.none : Option FieldType), none, 5, 3)
theorem oJ5_fillNull : mO mJ5_fillNull = 5 := rfl
theorem lJ5_fillNull : mL mJ5_fillNull = 3 := rfl
theorem rJ5_fillNull : mR mJ5_fillNull = (Option.none : Option FieldType) := rfl
theorem vJ5_fillNull : mV mJ5_fillNull = 3 := rfl
theorem nJ5_fillNull : (mY mJ5_fillNull).name = "fillNull" := rfl
theorem hJ5_fillNull : mH mJ5_fillNull = none := rfl
theorem kJ5_fillNull : MOk mJ5_fillNull := ⟨q2325, q81, by decide +kernel⟩
theorem gJ5_fillNull : plainName (mY mJ5_fillNull).cls = true ∧ (mY mJ5_fillNull).cls = "java/lang/StringUTF16" := ⟨by decide +kernel, rfl⟩
def dkwJ5_fillNull_0 : List UInt8 := [42, 27, 4, 120, 28, 4, 120, 3, 184, 1, 124, 177]
abbrev dktJ5_fillNull_0 : List UInt8 := dkwJ5_fillNull_0 ++ []
theorem dksJ5_fillNull_0 : cJ5_fillNull.data.toList.drop 0 = dktJ5_fillNull_0 := by decide +kernel
theorem dJ5_fillNull_0 : DC mJ5_fillNull 0 = .ok (.aload_n 0, 1) := dk_42 (dk_at dksJ5_fillNull_0 0 rfl rfl)
theorem dJ5_fillNull_1 : DC mJ5_fillNull 1 = .ok (.iload_n 1, 1) := dk_27 (dk_at dksJ5_fillNull_0 1 rfl rfl)
theorem dJ5_fillNull_2 : DC mJ5_fillNull 2 = .ok (.iconst 1, 1) := dk_4 (dk_at dksJ5_fillNull_0 2 rfl rfl)
theorem dJ5_fillNull_3 : DC mJ5_fillNull 3 = .ok (.ishl, 1) := dk_120 (dk_at dksJ5_fillNull_0 3 rfl rfl)
theorem dJ5_fillNull_4 : DC mJ5_fillNull 4 = .ok (.iload_n 2, 1) := dk_28 (dk_at dksJ5_fillNull_0 4 rfl rfl)
theorem dJ5_fillNull_5 : DC mJ5_fillNull 5 = .ok (.iconst 1, 1) := dk_4 (dk_at dksJ5_fillNull_0 5 rfl rfl)
theorem dJ5_fillNull_6 : DC mJ5_fillNull 6 = .ok (.ishl, 1) := dk_120 (dk_at dksJ5_fillNull_0 6 rfl rfl)
theorem dJ5_fillNull_7 : DC mJ5_fillNull 7 = .ok (.iconst 0, 1) := dk_3 (dk_at dksJ5_fillNull_0 7 rfl rfl)
theorem dJ5_fillNull_8 : DC mJ5_fillNull 8 = .ok (.invokestatic 380, 3) := dk_184 1 124 (dk_at dksJ5_fillNull_0 8 rfl rfl)
theorem dJ5_fillNull_11 : DC mJ5_fillNull 11 = .ok (.return_, 1) := dk_177 (dk_at dksJ5_fillNull_0 11 rfl rfl)
abbrev cJ5_indexOf_2 : ByteArray := prog_38_method_40_code
def yJ5_indexOf_2 : MethodName := ⟨RJ5, "indexOf", "([BIII)I"⟩
def mJ5_indexOf_2 : MI := (⟨"java/lang/StringUTF16", "indexOf", "([BIII)I"⟩, prog_38_method_40_code, 4, (Option.some FieldType.int), none, 5, 5)
theorem oJ5_indexOf_2 : mO mJ5_indexOf_2 = 5 := rfl
theorem lJ5_indexOf_2 : mL mJ5_indexOf_2 = 4 := rfl
theorem rJ5_indexOf_2 : mR mJ5_indexOf_2 = (Option.some FieldType.int) := rfl
theorem vJ5_indexOf_2 : mV mJ5_indexOf_2 = 5 := rfl
theorem nJ5_indexOf_2 : (mY mJ5_indexOf_2).name = "indexOf" := rfl
theorem hJ5_indexOf_2 : mH mJ5_indexOf_2 = none := rfl
theorem kJ5_indexOf_2 : MOk mJ5_indexOf_2 := ⟨q2729, q81, by decide +kernel⟩
theorem gJ5_indexOf_2 : plainName (mY mJ5_indexOf_2).cls = true ∧ (mY mJ5_indexOf_2).cls = "java/lang/StringUTF16" := ⟨by decide +kernel, rfl⟩
def dkwJ5_indexOf_2_1 : List UInt8 := [18, 227, 162, 0, 11, 42, 27, 28, 29, 184, 0, 228, 172, 42, 27, 28, 29, 184, 0, 232, 172]
abbrev dktJ5_indexOf_2_1 : List UInt8 := dkwJ5_indexOf_2_1 ++ []
def dkwJ5_indexOf_2_0 : List UInt8 := [28, 3, 184, 0, 224, 61, 29, 42, 190, 4, 122, 184, 0, 183, 62, 28, 29, 161, 0, 5, 2, 172, 27]
abbrev dktJ5_indexOf_2_0 : List UInt8 := dkwJ5_indexOf_2_0 ++ dktJ5_indexOf_2_1
theorem dksJ5_indexOf_2_0 : cJ5_indexOf_2.data.toList.drop 0 = dktJ5_indexOf_2_0 := by decide +kernel
theorem dksJ5_indexOf_2_1 : cJ5_indexOf_2.data.toList.drop 23 = dktJ5_indexOf_2_1 := dk_seg dksJ5_indexOf_2_0 23 rfl rfl
theorem dJ5_indexOf_2_0 : DC mJ5_indexOf_2 0 = .ok (.iload_n 2, 1) := dk_28 (dk_at dksJ5_indexOf_2_0 0 rfl rfl)
theorem dJ5_indexOf_2_1 : DC mJ5_indexOf_2 1 = .ok (.iconst 0, 1) := dk_3 (dk_at dksJ5_indexOf_2_0 1 rfl rfl)
theorem dJ5_indexOf_2_2 : DC mJ5_indexOf_2 2 = .ok (.invokestatic 224, 3) := dk_184 0 224 (dk_at dksJ5_indexOf_2_0 2 rfl rfl)
theorem dJ5_indexOf_2_5 : DC mJ5_indexOf_2 5 = .ok (.istore_n 2, 1) := dk_61 (dk_at dksJ5_indexOf_2_0 5 rfl rfl)
theorem dJ5_indexOf_2_6 : DC mJ5_indexOf_2 6 = .ok (.iload_n 3, 1) := dk_29 (dk_at dksJ5_indexOf_2_0 6 rfl rfl)
theorem dJ5_indexOf_2_7 : DC mJ5_indexOf_2 7 = .ok (.aload_n 0, 1) := dk_42 (dk_at dksJ5_indexOf_2_0 7 rfl rfl)
theorem dJ5_indexOf_2_8 : DC mJ5_indexOf_2 8 = .ok (.arraylength, 1) := dk_190 (dk_at dksJ5_indexOf_2_0 8 rfl rfl)
theorem dJ5_indexOf_2_9 : DC mJ5_indexOf_2 9 = .ok (.iconst 1, 1) := dk_4 (dk_at dksJ5_indexOf_2_0 9 rfl rfl)
theorem dJ5_indexOf_2_10 : DC mJ5_indexOf_2 10 = .ok (.ishr, 1) := dk_122 (dk_at dksJ5_indexOf_2_0 10 rfl rfl)
theorem dJ5_indexOf_2_11 : DC mJ5_indexOf_2 11 = .ok (.invokestatic 183, 3) := dk_184 0 183 (dk_at dksJ5_indexOf_2_0 11 rfl rfl)
theorem dJ5_indexOf_2_14 : DC mJ5_indexOf_2 14 = .ok (.istore_n 3, 1) := dk_62 (dk_at dksJ5_indexOf_2_0 14 rfl rfl)
theorem dJ5_indexOf_2_15 : DC mJ5_indexOf_2 15 = .ok (.iload_n 2, 1) := dk_28 (dk_at dksJ5_indexOf_2_0 15 rfl rfl)
theorem dJ5_indexOf_2_16 : DC mJ5_indexOf_2 16 = .ok (.iload_n 3, 1) := dk_29 (dk_at dksJ5_indexOf_2_0 16 rfl rfl)
theorem dJ5_indexOf_2_17 : DC mJ5_indexOf_2 17 = .ok (.if_icmp .lt 5, 3) := dk_161 0 5 (dk_at dksJ5_indexOf_2_0 17 rfl rfl)
theorem dJ5_indexOf_2_20 : DC mJ5_indexOf_2 20 = .ok (.iconst (-1), 1) := dk_2 (dk_at dksJ5_indexOf_2_0 20 rfl rfl)
theorem dJ5_indexOf_2_21 : DC mJ5_indexOf_2 21 = .ok (.ireturn, 1) := dk_172 (dk_at dksJ5_indexOf_2_0 21 rfl rfl)
theorem dJ5_indexOf_2_22 : DC mJ5_indexOf_2 22 = .ok (.iload_n 1, 1) := dk_27 (dk_at dksJ5_indexOf_2_0 22 rfl rfl)
theorem dJ5_indexOf_2_23 : DC mJ5_indexOf_2 23 = .ok (.ldc 227, 2) := dk_18 227 (dk_at dksJ5_indexOf_2_1 0 rfl rfl)
theorem dJ5_indexOf_2_25 : DC mJ5_indexOf_2 25 = .ok (.if_icmp .ge 11, 3) := dk_162 0 11 (dk_at dksJ5_indexOf_2_1 2 rfl rfl)
theorem dJ5_indexOf_2_28 : DC mJ5_indexOf_2 28 = .ok (.aload_n 0, 1) := dk_42 (dk_at dksJ5_indexOf_2_1 5 rfl rfl)
theorem dJ5_indexOf_2_29 : DC mJ5_indexOf_2 29 = .ok (.iload_n 1, 1) := dk_27 (dk_at dksJ5_indexOf_2_1 6 rfl rfl)
theorem dJ5_indexOf_2_30 : DC mJ5_indexOf_2 30 = .ok (.iload_n 2, 1) := dk_28 (dk_at dksJ5_indexOf_2_1 7 rfl rfl)
theorem dJ5_indexOf_2_31 : DC mJ5_indexOf_2 31 = .ok (.iload_n 3, 1) := dk_29 (dk_at dksJ5_indexOf_2_1 8 rfl rfl)
theorem dJ5_indexOf_2_32 : DC mJ5_indexOf_2 32 = .ok (.invokestatic 228, 3) := dk_184 0 228 (dk_at dksJ5_indexOf_2_1 9 rfl rfl)
theorem dJ5_indexOf_2_35 : DC mJ5_indexOf_2 35 = .ok (.ireturn, 1) := dk_172 (dk_at dksJ5_indexOf_2_1 12 rfl rfl)
theorem dJ5_indexOf_2_36 : DC mJ5_indexOf_2 36 = .ok (.aload_n 0, 1) := dk_42 (dk_at dksJ5_indexOf_2_1 13 rfl rfl)
theorem dJ5_indexOf_2_37 : DC mJ5_indexOf_2 37 = .ok (.iload_n 1, 1) := dk_27 (dk_at dksJ5_indexOf_2_1 14 rfl rfl)
theorem dJ5_indexOf_2_38 : DC mJ5_indexOf_2 38 = .ok (.iload_n 2, 1) := dk_28 (dk_at dksJ5_indexOf_2_1 15 rfl rfl)
theorem dJ5_indexOf_2_39 : DC mJ5_indexOf_2 39 = .ok (.iload_n 3, 1) := dk_29 (dk_at dksJ5_indexOf_2_1 16 rfl rfl)
theorem dJ5_indexOf_2_40 : DC mJ5_indexOf_2 40 = .ok (.invokestatic 232, 3) := dk_184 0 232 (dk_at dksJ5_indexOf_2_1 17 rfl rfl)
theorem dJ5_indexOf_2_43 : DC mJ5_indexOf_2 43 = .ok (.ireturn, 1) := dk_172 (dk_at dksJ5_indexOf_2_1 20 rfl rfl)
abbrev cJ5_indexOfChar : ByteArray := prog_38_method_47_code
def yJ5_indexOfChar : MethodName := ⟨RJ5, "indexOfChar", "([BIII)I"⟩
def mJ5_indexOfChar : MI := (⟨"java/lang/StringUTF16", "indexOfChar", "([BIII)I"⟩, prog_38_method_47_code, 4, (Option.some FieldType.int), none, 5, 4)
theorem oJ5_indexOfChar : mO mJ5_indexOfChar = 5 := rfl
theorem lJ5_indexOfChar : mL mJ5_indexOfChar = 4 := rfl
theorem rJ5_indexOfChar : mR mJ5_indexOfChar = (Option.some FieldType.int) := rfl
theorem vJ5_indexOfChar : mV mJ5_indexOfChar = 4 := rfl
theorem nJ5_indexOfChar : (mY mJ5_indexOfChar).name = "indexOfChar" := rfl
theorem hJ5_indexOfChar : mH mJ5_indexOfChar = none := rfl
theorem kJ5_indexOfChar : MOk mJ5_indexOfChar := ⟨q2735, q81, by decide +kernel⟩
theorem gJ5_indexOfChar : plainName (mY mJ5_indexOfChar).cls = true ∧ (mY mJ5_indexOfChar).cls = "java/lang/StringUTF16" := ⟨by decide +kernel, rfl⟩
def dkwJ5_indexOfChar_0 : List UInt8 := [28, 29, 42, 184, 0, 96, 42, 27, 28, 29, 184, 0, 244, 172]
abbrev dktJ5_indexOfChar_0 : List UInt8 := dkwJ5_indexOfChar_0 ++ []
theorem dksJ5_indexOfChar_0 : cJ5_indexOfChar.data.toList.drop 0 = dktJ5_indexOfChar_0 := by decide +kernel
theorem dJ5_indexOfChar_0 : DC mJ5_indexOfChar 0 = .ok (.iload_n 2, 1) := dk_28 (dk_at dksJ5_indexOfChar_0 0 rfl rfl)
theorem dJ5_indexOfChar_1 : DC mJ5_indexOfChar 1 = .ok (.iload_n 3, 1) := dk_29 (dk_at dksJ5_indexOfChar_0 1 rfl rfl)
theorem dJ5_indexOfChar_2 : DC mJ5_indexOfChar 2 = .ok (.aload_n 0, 1) := dk_42 (dk_at dksJ5_indexOfChar_0 2 rfl rfl)
theorem dJ5_indexOfChar_3 : DC mJ5_indexOfChar 3 = .ok (.invokestatic 96, 3) := dk_184 0 96 (dk_at dksJ5_indexOfChar_0 3 rfl rfl)
theorem dJ5_indexOfChar_6 : DC mJ5_indexOfChar 6 = .ok (.aload_n 0, 1) := dk_42 (dk_at dksJ5_indexOfChar_0 6 rfl rfl)
theorem dJ5_indexOfChar_7 : DC mJ5_indexOfChar 7 = .ok (.iload_n 1, 1) := dk_27 (dk_at dksJ5_indexOfChar_0 7 rfl rfl)
theorem dJ5_indexOfChar_8 : DC mJ5_indexOfChar 8 = .ok (.iload_n 2, 1) := dk_28 (dk_at dksJ5_indexOfChar_0 8 rfl rfl)
theorem dJ5_indexOfChar_9 : DC mJ5_indexOfChar 9 = .ok (.iload_n 3, 1) := dk_29 (dk_at dksJ5_indexOfChar_0 9 rfl rfl)
theorem dJ5_indexOfChar_10 : DC mJ5_indexOfChar 10 = .ok (.invokestatic 244, 3) := dk_184 0 244 (dk_at dksJ5_indexOfChar_0 10 rfl rfl)
theorem dJ5_indexOfChar_13 : DC mJ5_indexOfChar 13 = .ok (.ireturn, 1) := dk_172 (dk_at dksJ5_indexOfChar_0 13 rfl rfl)
abbrev cJ5_indexOfCharUnsafe : ByteArray := prog_38_method_48_code
def yJ5_indexOfCharUnsafe : MethodName := ⟨RJ5, "indexOfCharUnsafe", "([BIII)I"⟩
def mJ5_indexOfCharUnsafe : MI := (⟨"java/lang/StringUTF16", "indexOfCharUnsafe", "([BIII)I"⟩, prog_38_method_48_code, 5, (Option.some FieldType.int), none, 5, 3)
theorem oJ5_indexOfCharUnsafe : mO mJ5_indexOfCharUnsafe = 5 := rfl
theorem lJ5_indexOfCharUnsafe : mL mJ5_indexOfCharUnsafe = 5 := rfl
theorem rJ5_indexOfCharUnsafe : mR mJ5_indexOfCharUnsafe = (Option.some FieldType.int) := rfl
theorem vJ5_indexOfCharUnsafe : mV mJ5_indexOfCharUnsafe = 3 := rfl
theorem nJ5_indexOfCharUnsafe : (mY mJ5_indexOfCharUnsafe).name = "indexOfCharUnsafe" := rfl
theorem hJ5_indexOfCharUnsafe : mH mJ5_indexOfCharUnsafe = none := rfl
theorem kJ5_indexOfCharUnsafe : MOk mJ5_indexOfCharUnsafe := ⟨q2738, q81, by decide +kernel⟩
theorem gJ5_indexOfCharUnsafe : plainName (mY mJ5_indexOfCharUnsafe).cls = true ∧ (mY mJ5_indexOfCharUnsafe).cls = "java/lang/StringUTF16" := ⟨by decide +kernel, rfl⟩
def dkwJ5_indexOfCharUnsafe_1 : List UInt8 := [132, 4, 1, 167, 255, 234, 2, 172]
abbrev dktJ5_indexOfCharUnsafe_1 : List UInt8 := dkwJ5_indexOfCharUnsafe_1 ++ []
def dkwJ5_indexOfCharUnsafe_0 : List UInt8 := [28, 54, 4, 21, 4, 29, 162, 0, 22, 42, 21, 4, 184, 0, 71, 27, 160, 0, 6, 21, 4, 172]
abbrev dktJ5_indexOfCharUnsafe_0 : List UInt8 := dkwJ5_indexOfCharUnsafe_0 ++ dktJ5_indexOfCharUnsafe_1
theorem dksJ5_indexOfCharUnsafe_0 : cJ5_indexOfCharUnsafe.data.toList.drop 0 = dktJ5_indexOfCharUnsafe_0 := by decide +kernel
theorem dksJ5_indexOfCharUnsafe_1 : cJ5_indexOfCharUnsafe.data.toList.drop 22 = dktJ5_indexOfCharUnsafe_1 := dk_seg dksJ5_indexOfCharUnsafe_0 22 rfl rfl
theorem dJ5_indexOfCharUnsafe_0 : DC mJ5_indexOfCharUnsafe 0 = .ok (.iload_n 2, 1) := dk_28 (dk_at dksJ5_indexOfCharUnsafe_0 0 rfl rfl)
theorem dJ5_indexOfCharUnsafe_1 : DC mJ5_indexOfCharUnsafe 1 = .ok (.istore 4, 2) := dk_54 4 (dk_at dksJ5_indexOfCharUnsafe_0 1 rfl rfl)
theorem dJ5_indexOfCharUnsafe_3 : DC mJ5_indexOfCharUnsafe 3 = .ok (.iload 4, 2) := dk_21 4 (dk_at dksJ5_indexOfCharUnsafe_0 3 rfl rfl)
theorem dJ5_indexOfCharUnsafe_5 : DC mJ5_indexOfCharUnsafe 5 = .ok (.iload_n 3, 1) := dk_29 (dk_at dksJ5_indexOfCharUnsafe_0 5 rfl rfl)
theorem dJ5_indexOfCharUnsafe_6 : DC mJ5_indexOfCharUnsafe 6 = .ok (.if_icmp .ge 22, 3) := dk_162 0 22 (dk_at dksJ5_indexOfCharUnsafe_0 6 rfl rfl)
theorem dJ5_indexOfCharUnsafe_9 : DC mJ5_indexOfCharUnsafe 9 = .ok (.aload_n 0, 1) := dk_42 (dk_at dksJ5_indexOfCharUnsafe_0 9 rfl rfl)
theorem dJ5_indexOfCharUnsafe_10 : DC mJ5_indexOfCharUnsafe 10 = .ok (.iload 4, 2) := dk_21 4 (dk_at dksJ5_indexOfCharUnsafe_0 10 rfl rfl)
theorem dJ5_indexOfCharUnsafe_12 : DC mJ5_indexOfCharUnsafe 12 = .ok (.invokestatic 71, 3) := dk_184 0 71 (dk_at dksJ5_indexOfCharUnsafe_0 12 rfl rfl)
theorem dJ5_indexOfCharUnsafe_15 : DC mJ5_indexOfCharUnsafe 15 = .ok (.iload_n 1, 1) := dk_27 (dk_at dksJ5_indexOfCharUnsafe_0 15 rfl rfl)
theorem dJ5_indexOfCharUnsafe_16 : DC mJ5_indexOfCharUnsafe 16 = .ok (.if_icmp .ne 6, 3) := dk_160 0 6 (dk_at dksJ5_indexOfCharUnsafe_0 16 rfl rfl)
theorem dJ5_indexOfCharUnsafe_19 : DC mJ5_indexOfCharUnsafe 19 = .ok (.iload 4, 2) := dk_21 4 (dk_at dksJ5_indexOfCharUnsafe_0 19 rfl rfl)
theorem dJ5_indexOfCharUnsafe_21 : DC mJ5_indexOfCharUnsafe 21 = .ok (.ireturn, 1) := dk_172 (dk_at dksJ5_indexOfCharUnsafe_0 21 rfl rfl)
theorem dJ5_indexOfCharUnsafe_22 : DC mJ5_indexOfCharUnsafe 22 = .ok (.iinc 4 1, 3) := dk_132 4 1 (dk_at dksJ5_indexOfCharUnsafe_1 0 rfl rfl)
theorem dJ5_indexOfCharUnsafe_25 : DC mJ5_indexOfCharUnsafe 25 = .ok (.goto (-22), 3) := dk_167 255 234 (dk_at dksJ5_indexOfCharUnsafe_1 3 rfl rfl)
theorem dJ5_indexOfCharUnsafe_28 : DC mJ5_indexOfCharUnsafe 28 = .ok (.iconst (-1), 1) := dk_2 (dk_at dksJ5_indexOfCharUnsafe_1 6 rfl rfl)
theorem dJ5_indexOfCharUnsafe_29 : DC mJ5_indexOfCharUnsafe 29 = .ok (.ireturn, 1) := dk_172 (dk_at dksJ5_indexOfCharUnsafe_1 7 rfl rfl)
abbrev cJ5_indexOfSupplementary : ByteArray := prog_38_method_49_code
def yJ5_indexOfSupplementary : MethodName := ⟨RJ5, "indexOfSupplementary", "([BIII)I"⟩
def mJ5_indexOfSupplementary : MI := (⟨"java/lang/StringUTF16", "indexOfSupplementary", "([BIII)I"⟩, prog_38_method_49_code, 7, (Option.some FieldType.int), none, 5, 4)
theorem oJ5_indexOfSupplementary : mO mJ5_indexOfSupplementary = 5 := rfl
theorem lJ5_indexOfSupplementary : mL mJ5_indexOfSupplementary = 7 := rfl
theorem rJ5_indexOfSupplementary : mR mJ5_indexOfSupplementary = (Option.some FieldType.int) := rfl
theorem vJ5_indexOfSupplementary : mV mJ5_indexOfSupplementary = 4 := rfl
theorem nJ5_indexOfSupplementary : (mY mJ5_indexOfSupplementary).name = "indexOfSupplementary" := rfl
theorem hJ5_indexOfSupplementary : mH mJ5_indexOfSupplementary = none := rfl
theorem kJ5_indexOfSupplementary : MOk mJ5_indexOfSupplementary := ⟨q2741, q81, by decide +kernel⟩
theorem gJ5_indexOfSupplementary : plainName (mY mJ5_indexOfSupplementary).cls = true ∧ (mY mJ5_indexOfSupplementary).cls = "java/lang/StringUTF16" := ⟨by decide +kernel, rfl⟩
def dkwJ5_indexOfSupplementary_3 : List UInt8 := [167, 255, 218, 2, 172]
abbrev dktJ5_indexOfSupplementary_3 : List UInt8 := dkwJ5_indexOfSupplementary_3 ++ []
def dkwJ5_indexOfSupplementary_2 : List UInt8 := [160, 0, 19, 42, 21, 6, 4, 96, 184, 0, 71, 21, 5, 160, 0, 6, 21, 6, 172, 132, 6, 1]
abbrev dktJ5_indexOfSupplementary_2 : List UInt8 := dkwJ5_indexOfSupplementary_2 ++ dktJ5_indexOfSupplementary_3
def dkwJ5_indexOfSupplementary_1 : List UInt8 := [184, 0, 96, 28, 54, 6, 21, 6, 29, 4, 100, 162, 0, 36, 42, 21, 6, 184, 0, 71, 21, 4]
abbrev dktJ5_indexOfSupplementary_1 : List UInt8 := dkwJ5_indexOfSupplementary_1 ++ dktJ5_indexOfSupplementary_2
def dkwJ5_indexOfSupplementary_0 : List UInt8 := [27, 184, 0, 164, 153, 0, 65, 27, 184, 0, 157, 54, 4, 27, 184, 0, 161, 54, 5, 28, 29, 42]
abbrev dktJ5_indexOfSupplementary_0 : List UInt8 := dkwJ5_indexOfSupplementary_0 ++ dktJ5_indexOfSupplementary_1
theorem dksJ5_indexOfSupplementary_0 : cJ5_indexOfSupplementary.data.toList.drop 0 = dktJ5_indexOfSupplementary_0 := by decide +kernel
theorem dksJ5_indexOfSupplementary_1 : cJ5_indexOfSupplementary.data.toList.drop 22 = dktJ5_indexOfSupplementary_1 := dk_seg dksJ5_indexOfSupplementary_0 22 rfl rfl
theorem dksJ5_indexOfSupplementary_2 : cJ5_indexOfSupplementary.data.toList.drop 44 = dktJ5_indexOfSupplementary_2 := dk_seg dksJ5_indexOfSupplementary_1 22 rfl rfl
theorem dksJ5_indexOfSupplementary_3 : cJ5_indexOfSupplementary.data.toList.drop 66 = dktJ5_indexOfSupplementary_3 := dk_seg dksJ5_indexOfSupplementary_2 22 rfl rfl
theorem dJ5_indexOfSupplementary_0 : DC mJ5_indexOfSupplementary 0 = .ok (.iload_n 1, 1) := dk_27 (dk_at dksJ5_indexOfSupplementary_0 0 rfl rfl)
theorem dJ5_indexOfSupplementary_1 : DC mJ5_indexOfSupplementary 1 = .ok (.invokestatic 164, 3) := dk_184 0 164 (dk_at dksJ5_indexOfSupplementary_0 1 rfl rfl)
theorem dJ5_indexOfSupplementary_4 : DC mJ5_indexOfSupplementary 4 = .ok (.ifCond .eq 65, 3) := dk_153 0 65 (dk_at dksJ5_indexOfSupplementary_0 4 rfl rfl)
theorem dJ5_indexOfSupplementary_7 : DC mJ5_indexOfSupplementary 7 = .ok (.iload_n 1, 1) := dk_27 (dk_at dksJ5_indexOfSupplementary_0 7 rfl rfl)
theorem dJ5_indexOfSupplementary_8 : DC mJ5_indexOfSupplementary 8 = .ok (.invokestatic 157, 3) := dk_184 0 157 (dk_at dksJ5_indexOfSupplementary_0 8 rfl rfl)
theorem dJ5_indexOfSupplementary_11 : DC mJ5_indexOfSupplementary 11 = .ok (.istore 4, 2) := dk_54 4 (dk_at dksJ5_indexOfSupplementary_0 11 rfl rfl)
theorem dJ5_indexOfSupplementary_13 : DC mJ5_indexOfSupplementary 13 = .ok (.iload_n 1, 1) := dk_27 (dk_at dksJ5_indexOfSupplementary_0 13 rfl rfl)
theorem dJ5_indexOfSupplementary_14 : DC mJ5_indexOfSupplementary 14 = .ok (.invokestatic 161, 3) := dk_184 0 161 (dk_at dksJ5_indexOfSupplementary_0 14 rfl rfl)
theorem dJ5_indexOfSupplementary_17 : DC mJ5_indexOfSupplementary 17 = .ok (.istore 5, 2) := dk_54 5 (dk_at dksJ5_indexOfSupplementary_0 17 rfl rfl)
theorem dJ5_indexOfSupplementary_19 : DC mJ5_indexOfSupplementary 19 = .ok (.iload_n 2, 1) := dk_28 (dk_at dksJ5_indexOfSupplementary_0 19 rfl rfl)
theorem dJ5_indexOfSupplementary_20 : DC mJ5_indexOfSupplementary 20 = .ok (.iload_n 3, 1) := dk_29 (dk_at dksJ5_indexOfSupplementary_0 20 rfl rfl)
theorem dJ5_indexOfSupplementary_21 : DC mJ5_indexOfSupplementary 21 = .ok (.aload_n 0, 1) := dk_42 (dk_at dksJ5_indexOfSupplementary_0 21 rfl rfl)
theorem dJ5_indexOfSupplementary_22 : DC mJ5_indexOfSupplementary 22 = .ok (.invokestatic 96, 3) := dk_184 0 96 (dk_at dksJ5_indexOfSupplementary_1 0 rfl rfl)
theorem dJ5_indexOfSupplementary_25 : DC mJ5_indexOfSupplementary 25 = .ok (.iload_n 2, 1) := dk_28 (dk_at dksJ5_indexOfSupplementary_1 3 rfl rfl)
theorem dJ5_indexOfSupplementary_26 : DC mJ5_indexOfSupplementary 26 = .ok (.istore 6, 2) := dk_54 6 (dk_at dksJ5_indexOfSupplementary_1 4 rfl rfl)
theorem dJ5_indexOfSupplementary_28 : DC mJ5_indexOfSupplementary 28 = .ok (.iload 6, 2) := dk_21 6 (dk_at dksJ5_indexOfSupplementary_1 6 rfl rfl)
theorem dJ5_indexOfSupplementary_30 : DC mJ5_indexOfSupplementary 30 = .ok (.iload_n 3, 1) := dk_29 (dk_at dksJ5_indexOfSupplementary_1 8 rfl rfl)
theorem dJ5_indexOfSupplementary_31 : DC mJ5_indexOfSupplementary 31 = .ok (.iconst 1, 1) := dk_4 (dk_at dksJ5_indexOfSupplementary_1 9 rfl rfl)
theorem dJ5_indexOfSupplementary_32 : DC mJ5_indexOfSupplementary 32 = .ok (.isub, 1) := dk_100 (dk_at dksJ5_indexOfSupplementary_1 10 rfl rfl)
theorem dJ5_indexOfSupplementary_33 : DC mJ5_indexOfSupplementary 33 = .ok (.if_icmp .ge 36, 3) := dk_162 0 36 (dk_at dksJ5_indexOfSupplementary_1 11 rfl rfl)
theorem dJ5_indexOfSupplementary_36 : DC mJ5_indexOfSupplementary 36 = .ok (.aload_n 0, 1) := dk_42 (dk_at dksJ5_indexOfSupplementary_1 14 rfl rfl)
theorem dJ5_indexOfSupplementary_37 : DC mJ5_indexOfSupplementary 37 = .ok (.iload 6, 2) := dk_21 6 (dk_at dksJ5_indexOfSupplementary_1 15 rfl rfl)
theorem dJ5_indexOfSupplementary_39 : DC mJ5_indexOfSupplementary 39 = .ok (.invokestatic 71, 3) := dk_184 0 71 (dk_at dksJ5_indexOfSupplementary_1 17 rfl rfl)
theorem dJ5_indexOfSupplementary_42 : DC mJ5_indexOfSupplementary 42 = .ok (.iload 4, 2) := dk_21 4 (dk_at dksJ5_indexOfSupplementary_1 20 rfl rfl)
theorem dJ5_indexOfSupplementary_44 : DC mJ5_indexOfSupplementary 44 = .ok (.if_icmp .ne 19, 3) := dk_160 0 19 (dk_at dksJ5_indexOfSupplementary_2 0 rfl rfl)
theorem dJ5_indexOfSupplementary_47 : DC mJ5_indexOfSupplementary 47 = .ok (.aload_n 0, 1) := dk_42 (dk_at dksJ5_indexOfSupplementary_2 3 rfl rfl)
theorem dJ5_indexOfSupplementary_48 : DC mJ5_indexOfSupplementary 48 = .ok (.iload 6, 2) := dk_21 6 (dk_at dksJ5_indexOfSupplementary_2 4 rfl rfl)
theorem dJ5_indexOfSupplementary_50 : DC mJ5_indexOfSupplementary 50 = .ok (.iconst 1, 1) := dk_4 (dk_at dksJ5_indexOfSupplementary_2 6 rfl rfl)
theorem dJ5_indexOfSupplementary_51 : DC mJ5_indexOfSupplementary 51 = .ok (.iadd, 1) := dk_96 (dk_at dksJ5_indexOfSupplementary_2 7 rfl rfl)
theorem dJ5_indexOfSupplementary_52 : DC mJ5_indexOfSupplementary 52 = .ok (.invokestatic 71, 3) := dk_184 0 71 (dk_at dksJ5_indexOfSupplementary_2 8 rfl rfl)
theorem dJ5_indexOfSupplementary_55 : DC mJ5_indexOfSupplementary 55 = .ok (.iload 5, 2) := dk_21 5 (dk_at dksJ5_indexOfSupplementary_2 11 rfl rfl)
theorem dJ5_indexOfSupplementary_57 : DC mJ5_indexOfSupplementary 57 = .ok (.if_icmp .ne 6, 3) := dk_160 0 6 (dk_at dksJ5_indexOfSupplementary_2 13 rfl rfl)
theorem dJ5_indexOfSupplementary_60 : DC mJ5_indexOfSupplementary 60 = .ok (.iload 6, 2) := dk_21 6 (dk_at dksJ5_indexOfSupplementary_2 16 rfl rfl)
theorem dJ5_indexOfSupplementary_62 : DC mJ5_indexOfSupplementary 62 = .ok (.ireturn, 1) := dk_172 (dk_at dksJ5_indexOfSupplementary_2 18 rfl rfl)
theorem dJ5_indexOfSupplementary_63 : DC mJ5_indexOfSupplementary 63 = .ok (.iinc 6 1, 3) := dk_132 6 1 (dk_at dksJ5_indexOfSupplementary_2 19 rfl rfl)
theorem dJ5_indexOfSupplementary_66 : DC mJ5_indexOfSupplementary 66 = .ok (.goto (-38), 3) := dk_167 255 218 (dk_at dksJ5_indexOfSupplementary_3 0 rfl rfl)
theorem dJ5_indexOfSupplementary_69 : DC mJ5_indexOfSupplementary 69 = .ok (.iconst (-1), 1) := dk_2 (dk_at dksJ5_indexOfSupplementary_3 3 rfl rfl)
theorem dJ5_indexOfSupplementary_70 : DC mJ5_indexOfSupplementary 70 = .ok (.ireturn, 1) := dk_172 (dk_at dksJ5_indexOfSupplementary_3 4 rfl rfl)

/-! java/util/AbstractList -/
set_option maxRecDepth 100000
def RJ6 : String := "java/util/AbstractList"
abbrev cJ6_init : ByteArray := prog_46_method_1_code
def yJ6_init : MethodName := ⟨RJ6, "<init>", "()V"⟩
def mJ6_init : MI := (⟨"java/util/AbstractList", "<init>", "()V"⟩, prog_46_method_1_code, 1, (Option.none : Option FieldType), none, 6, 3)
theorem oJ6_init : mO mJ6_init = 6 := rfl
theorem lJ6_init : mL mJ6_init = 1 := rfl
theorem rJ6_init : mR mJ6_init = (Option.none : Option FieldType) := rfl
theorem vJ6_init : mV mJ6_init = 3 := rfl
theorem nJ6_init : (mY mJ6_init).name = "<init>" := rfl
theorem hJ6_init : mH mJ6_init = none := rfl
theorem kJ6_init : MOk mJ6_init := ⟨q201, q83, by decide +kernel⟩
theorem gJ6_init : plainName (mY mJ6_init).cls = true ∧ (mY mJ6_init).cls = "java/util/AbstractList" := ⟨by decide +kernel, rfl⟩
def dkwJ6_init_0 : List UInt8 := [42, 183, 0, 1, 42, 3, 181, 0, 7, 177]
abbrev dktJ6_init_0 : List UInt8 := dkwJ6_init_0 ++ []
theorem dksJ6_init_0 : cJ6_init.data.toList.drop 0 = dktJ6_init_0 := by decide +kernel
theorem dJ6_init_0 : DC mJ6_init 0 = .ok (.aload_n 0, 1) := dk_42 (dk_at dksJ6_init_0 0 rfl rfl)
theorem dJ6_init_1 : DC mJ6_init 1 = .ok (.invokespecial 1, 3) := dk_183 0 1 (dk_at dksJ6_init_0 1 rfl rfl)
theorem dJ6_init_4 : DC mJ6_init 4 = .ok (.aload_n 0, 1) := dk_42 (dk_at dksJ6_init_0 4 rfl rfl)
theorem dJ6_init_5 : DC mJ6_init 5 = .ok (.iconst 0, 1) := dk_3 (dk_at dksJ6_init_0 5 rfl rfl)
theorem dJ6_init_6 : DC mJ6_init 6 = .ok (.putfield 7, 3) := dk_181 0 7 (dk_at dksJ6_init_0 6 rfl rfl)
theorem dJ6_init_9 : DC mJ6_init 9 = .ok (.return_, 1) := dk_177 (dk_at dksJ6_init_0 9 rfl rfl)
abbrev cJ6_listIterator : ByteArray := prog_46_method_12_code
def yJ6_listIterator : MethodName := ⟨RJ6, "listIterator", "()Ljava/util/ListIterator;"⟩
def mJ6_listIterator : MI := (⟨"java/util/AbstractList", "listIterator", "()Ljava/util/ListIterator;"⟩, prog_46_method_12_code, 1, (Option.some (FieldType.object "java/util/ListIterator")), none, 6, 5)
theorem oJ6_listIterator : mO mJ6_listIterator = 6 := rfl
theorem lJ6_listIterator : mL mJ6_listIterator = 1 := rfl
theorem rJ6_listIterator : mR mJ6_listIterator = (Option.some (FieldType.object "java/util/ListIterator")) := rfl
theorem vJ6_listIterator : mV mJ6_listIterator = 5 := rfl
theorem nJ6_listIterator : (mY mJ6_listIterator).name = "listIterator" := rfl
theorem hJ6_listIterator : mH mJ6_listIterator = none := rfl
theorem kJ6_listIterator : MOk mJ6_listIterator := ⟨q504, q83, by decide +kernel⟩
theorem gJ6_listIterator : plainName (mY mJ6_listIterator).cls = true ∧ (mY mJ6_listIterator).cls = "java/util/AbstractList" := ⟨by decide +kernel, rfl⟩
def dkwJ6_listIterator_0 : List UInt8 := [42, 3, 182, 0, 47, 176]
abbrev dktJ6_listIterator_0 : List UInt8 := dkwJ6_listIterator_0 ++ []
theorem dksJ6_listIterator_0 : cJ6_listIterator.data.toList.drop 0 = dktJ6_listIterator_0 := by decide +kernel
theorem dJ6_listIterator_0 : DC mJ6_listIterator 0 = .ok (.aload_n 0, 1) := dk_42 (dk_at dksJ6_listIterator_0 0 rfl rfl)
theorem dJ6_listIterator_1 : DC mJ6_listIterator 1 = .ok (.iconst 0, 1) := dk_3 (dk_at dksJ6_listIterator_0 1 rfl rfl)
theorem dJ6_listIterator_2 : DC mJ6_listIterator 2 = .ok (.invokevirtual 47, 3) := dk_182 0 47 (dk_at dksJ6_listIterator_0 2 rfl rfl)
theorem dJ6_listIterator_5 : DC mJ6_listIterator 5 = .ok (.areturn, 1) := dk_176 (dk_at dksJ6_listIterator_0 5 rfl rfl)

/-! java/util/ArrayList -/
set_option maxRecDepth 100000
def RJ7 : String := "java/util/ArrayList"
def TJ7 : u_T := fun k => match k with
  | 0 => ("java/util/AbstractList", "modCount", "I", false)
  | 1 => ("java/util/ArrayList", "elementData", "[Ljava/lang/Object;", false)
  | _ => ("java/util/ArrayList", "size", "I", false)
def tyJ7 : Nat → FieldType := fun k => match k with
  | 0 => .int
  | 1 => .array (.object "java/lang/Object")
  | _ => .int
abbrev wsJ70 : List Cond := u_ws RJ7 TJ7 3
theorem nmJ7 : ∀ a, a < 3 → ∀ b, b < 3 → a ≠ b → (TJ7 a).2.1 ≠ (TJ7 b).2.1 := by decide +kernel
theorem tyJ7_ok : ∀ k, k < 3 → parseFieldDescriptor (TJ7 k).2.2.1 = some (tyJ7 k) := by decide +kernel
abbrev cJ7_init : ByteArray := prog_51_method_2_code
def yJ7_init : MethodName := ⟨RJ7, "<init>", "()V"⟩
def mJ7_init : MI := (⟨"java/util/ArrayList", "<init>", "()V"⟩, prog_51_method_2_code, 1, (Option.none : Option FieldType), none, 7, 4)
theorem oJ7_init : mO mJ7_init = 7 := rfl
theorem lJ7_init : mL mJ7_init = 1 := rfl
theorem rJ7_init : mR mJ7_init = (Option.none : Option FieldType) := rfl
theorem vJ7_init : mV mJ7_init = 4 := rfl
theorem nJ7_init : (mY mJ7_init).name = "<init>" := rfl
theorem hJ7_init : mH mJ7_init = none := rfl
theorem kJ7_init : MOk mJ7_init := ⟨q198, q84, by decide +kernel⟩
theorem gJ7_init : plainName (mY mJ7_init).cls = true ∧ (mY mJ7_init).cls = "java/util/ArrayList" := ⟨by decide +kernel, rfl⟩
def dkwJ7_init_0 : List UInt8 := [42, 183, 0, 1, 42, 178, 0, 39, 181, 0, 9, 177]
abbrev dktJ7_init_0 : List UInt8 := dkwJ7_init_0 ++ []
theorem dksJ7_init_0 : cJ7_init.data.toList.drop 0 = dktJ7_init_0 := by decide +kernel
theorem dJ7_init_0 : DC mJ7_init 0 = .ok (.aload_n 0, 1) := dk_42 (dk_at dksJ7_init_0 0 rfl rfl)
theorem dJ7_init_1 : DC mJ7_init 1 = .ok (.invokespecial 1, 3) := dk_183 0 1 (dk_at dksJ7_init_0 1 rfl rfl)
theorem dJ7_init_4 : DC mJ7_init 4 = .ok (.aload_n 0, 1) := dk_42 (dk_at dksJ7_init_0 4 rfl rfl)
theorem dJ7_init_5 : DC mJ7_init 5 = .ok (.getstatic 39, 3) := dk_178 0 39 (dk_at dksJ7_init_0 5 rfl rfl)
theorem dJ7_init_8 : DC mJ7_init 8 = .ok (.putfield 9, 3) := dk_181 0 9 (dk_at dksJ7_init_0 8 rfl rfl)
theorem dJ7_init_11 : DC mJ7_init 11 = .ok (.return_, 1) := dk_177 (dk_at dksJ7_init_0 11 rfl rfl)
abbrev cJ7_add : ByteArray := prog_51_method_25_code
def yJ7_add : MethodName := ⟨RJ7, "add", "(Ljava/lang/Object;)Z"⟩
def mJ7_add : MI := (⟨"java/util/ArrayList", "add", "(Ljava/lang/Object;)Z"⟩, prog_51_method_25_code, 2, (Option.some FieldType.boolean), none, 7, 7)
theorem oJ7_add : mO mJ7_add = 7 := rfl
theorem lJ7_add : mL mJ7_add = 2 := rfl
theorem rJ7_add : mR mJ7_add = (Option.some FieldType.boolean) := rfl
theorem vJ7_add : mV mJ7_add = 7 := rfl
theorem nJ7_add : (mY mJ7_add).name = "add" := rfl
theorem hJ7_add : mH mJ7_add = none := rfl
theorem kJ7_add : MOk mJ7_add := ⟨q262, q84, by decide +kernel⟩
theorem gJ7_add : plainName (mY mJ7_add).cls = true ∧ (mY mJ7_add).cls = "java/util/ArrayList" := ⟨by decide +kernel, rfl⟩
def dkwJ7_add_1 : List UInt8 := [172]
abbrev dktJ7_add_1 : List UInt8 := dkwJ7_add_1 ++ []
def dkwJ7_add_0 : List UInt8 := [42, 89, 180, 0, 63, 4, 96, 181, 0, 63, 42, 43, 42, 180, 0, 9, 42, 180, 0, 48, 182, 0, 131, 4]
abbrev dktJ7_add_0 : List UInt8 := dkwJ7_add_0 ++ dktJ7_add_1
theorem dksJ7_add_0 : cJ7_add.data.toList.drop 0 = dktJ7_add_0 := by decide +kernel
theorem dksJ7_add_1 : cJ7_add.data.toList.drop 24 = dktJ7_add_1 := dk_seg dksJ7_add_0 24 rfl rfl
theorem dJ7_add_0 : DC mJ7_add 0 = .ok (.aload_n 0, 1) := dk_42 (dk_at dksJ7_add_0 0 rfl rfl)
theorem dJ7_add_1 : DC mJ7_add 1 = .ok (.dup, 1) := dk_89 (dk_at dksJ7_add_0 1 rfl rfl)
theorem dJ7_add_2 : DC mJ7_add 2 = .ok (.getfield 63, 3) := dk_180 0 63 (dk_at dksJ7_add_0 2 rfl rfl)
theorem dJ7_add_5 : DC mJ7_add 5 = .ok (.iconst 1, 1) := dk_4 (dk_at dksJ7_add_0 5 rfl rfl)
theorem dJ7_add_6 : DC mJ7_add 6 = .ok (.iadd, 1) := dk_96 (dk_at dksJ7_add_0 6 rfl rfl)
theorem dJ7_add_7 : DC mJ7_add 7 = .ok (.putfield 63, 3) := dk_181 0 63 (dk_at dksJ7_add_0 7 rfl rfl)
theorem dJ7_add_10 : DC mJ7_add 10 = .ok (.aload_n 0, 1) := dk_42 (dk_at dksJ7_add_0 10 rfl rfl)
theorem dJ7_add_11 : DC mJ7_add 11 = .ok (.aload_n 1, 1) := dk_43 (dk_at dksJ7_add_0 11 rfl rfl)
theorem dJ7_add_12 : DC mJ7_add 12 = .ok (.aload_n 0, 1) := dk_42 (dk_at dksJ7_add_0 12 rfl rfl)
theorem dJ7_add_13 : DC mJ7_add 13 = .ok (.getfield 9, 3) := dk_180 0 9 (dk_at dksJ7_add_0 13 rfl rfl)
theorem dJ7_add_16 : DC mJ7_add 16 = .ok (.aload_n 0, 1) := dk_42 (dk_at dksJ7_add_0 16 rfl rfl)
theorem dJ7_add_17 : DC mJ7_add 17 = .ok (.getfield 48, 3) := dk_180 0 48 (dk_at dksJ7_add_0 17 rfl rfl)
theorem dJ7_add_20 : DC mJ7_add 20 = .ok (.invokevirtual 131, 3) := dk_182 0 131 (dk_at dksJ7_add_0 20 rfl rfl)
theorem dJ7_add_23 : DC mJ7_add 23 = .ok (.iconst 1, 1) := dk_4 (dk_at dksJ7_add_0 23 rfl rfl)
theorem dJ7_add_24 : DC mJ7_add 24 = .ok (.ireturn, 1) := dk_172 (dk_at dksJ7_add_1 0 rfl rfl)
abbrev cJ7_add_2 : ByteArray := prog_51_method_24_code
def yJ7_add_2 : MethodName := ⟨RJ7, "add", "(Ljava/lang/Object;[Ljava/lang/Object;I)V"⟩
def mJ7_add_2 : MI := (⟨"java/util/ArrayList", "add", "(Ljava/lang/Object;[Ljava/lang/Object;I)V"⟩, prog_51_method_24_code, 4, (Option.none : Option FieldType), none, 7, 6)
theorem oJ7_add_2 : mO mJ7_add_2 = 7 := rfl
theorem lJ7_add_2 : mL mJ7_add_2 = 4 := rfl
theorem rJ7_add_2 : mR mJ7_add_2 = (Option.none : Option FieldType) := rfl
theorem vJ7_add_2 : mV mJ7_add_2 = 6 := rfl
theorem nJ7_add_2 : (mY mJ7_add_2).name = "add" := rfl
theorem hJ7_add_2 : mH mJ7_add_2 = none := rfl
theorem kJ7_add_2 : MOk mJ7_add_2 := ⟨q266, q84, by decide +kernel⟩
theorem gJ7_add_2 : plainName (mY mJ7_add_2).cls = true ∧ (mY mJ7_add_2).cls = "java/util/ArrayList" := ⟨by decide +kernel, rfl⟩
def dkwJ7_add_2_0 : List UInt8 := [29, 44, 190, 160, 0, 8, 42, 182, 0, 129, 77, 44, 29, 43, 83, 42, 29, 4, 96, 181, 0, 48, 177]
abbrev dktJ7_add_2_0 : List UInt8 := dkwJ7_add_2_0 ++ []
theorem dksJ7_add_2_0 : cJ7_add_2.data.toList.drop 0 = dktJ7_add_2_0 := by decide +kernel
theorem dJ7_add_2_0 : DC mJ7_add_2 0 = .ok (.iload_n 3, 1) := dk_29 (dk_at dksJ7_add_2_0 0 rfl rfl)
theorem dJ7_add_2_1 : DC mJ7_add_2 1 = .ok (.aload_n 2, 1) := dk_44 (dk_at dksJ7_add_2_0 1 rfl rfl)
theorem dJ7_add_2_2 : DC mJ7_add_2 2 = .ok (.arraylength, 1) := dk_190 (dk_at dksJ7_add_2_0 2 rfl rfl)
theorem dJ7_add_2_3 : DC mJ7_add_2 3 = .ok (.if_icmp .ne 8, 3) := dk_160 0 8 (dk_at dksJ7_add_2_0 3 rfl rfl)
theorem dJ7_add_2_6 : DC mJ7_add_2 6 = .ok (.aload_n 0, 1) := dk_42 (dk_at dksJ7_add_2_0 6 rfl rfl)
theorem dJ7_add_2_7 : DC mJ7_add_2 7 = .ok (.invokevirtual 129, 3) := dk_182 0 129 (dk_at dksJ7_add_2_0 7 rfl rfl)
theorem dJ7_add_2_10 : DC mJ7_add_2 10 = .ok (.astore_n 2, 1) := dk_77 (dk_at dksJ7_add_2_0 10 rfl rfl)
theorem dJ7_add_2_11 : DC mJ7_add_2 11 = .ok (.aload_n 2, 1) := dk_44 (dk_at dksJ7_add_2_0 11 rfl rfl)
theorem dJ7_add_2_12 : DC mJ7_add_2 12 = .ok (.iload_n 3, 1) := dk_29 (dk_at dksJ7_add_2_0 12 rfl rfl)
theorem dJ7_add_2_13 : DC mJ7_add_2 13 = .ok (.aload_n 1, 1) := dk_43 (dk_at dksJ7_add_2_0 13 rfl rfl)
theorem dJ7_add_2_14 : DC mJ7_add_2 14 = .ok (.aastore, 1) := dk_83 (dk_at dksJ7_add_2_0 14 rfl rfl)
theorem dJ7_add_2_15 : DC mJ7_add_2 15 = .ok (.aload_n 0, 1) := dk_42 (dk_at dksJ7_add_2_0 15 rfl rfl)
theorem dJ7_add_2_16 : DC mJ7_add_2 16 = .ok (.iload_n 3, 1) := dk_29 (dk_at dksJ7_add_2_0 16 rfl rfl)
theorem dJ7_add_2_17 : DC mJ7_add_2 17 = .ok (.iconst 1, 1) := dk_4 (dk_at dksJ7_add_2_0 17 rfl rfl)
theorem dJ7_add_2_18 : DC mJ7_add_2 18 = .ok (.iadd, 1) := dk_96 (dk_at dksJ7_add_2_0 18 rfl rfl)
theorem dJ7_add_2_19 : DC mJ7_add_2 19 = .ok (.putfield 48, 3) := dk_181 0 48 (dk_at dksJ7_add_2_0 19 rfl rfl)
theorem dJ7_add_2_22 : DC mJ7_add_2 22 = .ok (.return_, 1) := dk_177 (dk_at dksJ7_add_2_0 22 rfl rfl)
abbrev cJ7_grow : ByteArray := prog_51_method_7_code
def yJ7_grow : MethodName := ⟨RJ7, "grow", "()[Ljava/lang/Object;"⟩
def mJ7_grow : MI := (⟨"java/util/ArrayList", "grow", "()[Ljava/lang/Object;"⟩, prog_51_method_7_code, 1, (Option.some (FieldType.array (FieldType.object "java/lang/Object"))), none, 7, 5)
theorem oJ7_grow : mO mJ7_grow = 7 := rfl
theorem lJ7_grow : mL mJ7_grow = 1 := rfl
theorem rJ7_grow : mR mJ7_grow = (Option.some (FieldType.array (FieldType.object "java/lang/Object"))) := rfl
theorem vJ7_grow : mV mJ7_grow = 5 := rfl
theorem nJ7_grow : (mY mJ7_grow).name = "grow" := rfl
theorem hJ7_grow : mH mJ7_grow = none := rfl
theorem kJ7_grow : MOk mJ7_grow := ⟨q270, q84, by decide +kernel⟩
theorem gJ7_grow : plainName (mY mJ7_grow).cls = true ∧ (mY mJ7_grow).cls = "java/util/ArrayList" := ⟨by decide +kernel, rfl⟩
def dkwJ7_grow_0 : List UInt8 := [42, 42, 180, 0, 48, 4, 96, 182, 0, 69, 176]
abbrev dktJ7_grow_0 : List UInt8 := dkwJ7_grow_0 ++ []
theorem dksJ7_grow_0 : cJ7_grow.data.toList.drop 0 = dktJ7_grow_0 := by decide +kernel
theorem dJ7_grow_0 : DC mJ7_grow 0 = .ok (.aload_n 0, 1) := dk_42 (dk_at dksJ7_grow_0 0 rfl rfl)
theorem dJ7_grow_1 : DC mJ7_grow 1 = .ok (.aload_n 0, 1) := dk_42 (dk_at dksJ7_grow_0 1 rfl rfl)
theorem dJ7_grow_2 : DC mJ7_grow 2 = .ok (.getfield 48, 3) := dk_180 0 48 (dk_at dksJ7_grow_0 2 rfl rfl)
theorem dJ7_grow_5 : DC mJ7_grow 5 = .ok (.iconst 1, 1) := dk_4 (dk_at dksJ7_grow_0 5 rfl rfl)
theorem dJ7_grow_6 : DC mJ7_grow 6 = .ok (.iadd, 1) := dk_96 (dk_at dksJ7_grow_0 6 rfl rfl)
theorem dJ7_grow_7 : DC mJ7_grow 7 = .ok (.invokevirtual 69, 3) := dk_182 0 69 (dk_at dksJ7_grow_0 7 rfl rfl)
theorem dJ7_grow_10 : DC mJ7_grow 10 = .ok (.areturn, 1) := dk_176 (dk_at dksJ7_grow_0 10 rfl rfl)
abbrev cJ7_grow_2 : ByteArray := prog_51_method_6_code
def yJ7_grow_2 : MethodName := ⟨RJ7, "grow", "(I)[Ljava/lang/Object;"⟩
def mJ7_grow_2 : MI := (⟨"java/util/ArrayList", "grow", "(I)[Ljava/lang/Object;"⟩, prog_51_method_6_code, 4, (Option.some (FieldType.array (FieldType.object "java/lang/Object"))), none, 7, 4)
theorem oJ7_grow_2 : mO mJ7_grow_2 = 7 := rfl
theorem lJ7_grow_2 : mL mJ7_grow_2 = 4 := rfl
theorem rJ7_grow_2 : mR mJ7_grow_2 = (Option.some (FieldType.array (FieldType.object "java/lang/Object"))) := rfl
theorem vJ7_grow_2 : mV mJ7_grow_2 = 4 := rfl
theorem nJ7_grow_2 : (mY mJ7_grow_2).name = "grow" := rfl
theorem hJ7_grow_2 : mH mJ7_grow_2 = none := rfl
theorem kJ7_grow_2 : MOk mJ7_grow_2 := ⟨q274, q84, by decide +kernel⟩
theorem gJ7_grow_2 : plainName (mY mJ7_grow_2).cls = true ∧ (mY mJ7_grow_2).cls = "java/util/ArrayList" := ⟨by decide +kernel, rfl⟩
def dkwJ7_grow_2_2 : List UInt8 := [27, 184, 0, 79, 189, 0, 7, 90, 181, 0, 9, 176]
abbrev dktJ7_grow_2_2 : List UInt8 := dkwJ7_grow_2_2 ++ []
def dkwJ7_grow_2_1 : List UInt8 := [28, 4, 122, 184, 0, 73, 62, 42, 42, 180, 0, 9, 29, 184, 0, 66, 90, 181, 0, 9, 176, 42, 16, 10]
abbrev dktJ7_grow_2_1 : List UInt8 := dkwJ7_grow_2_1 ++ dktJ7_grow_2_2
def dkwJ7_grow_2_0 : List UInt8 := [42, 180, 0, 9, 190, 61, 28, 157, 0, 13, 42, 180, 0, 9, 178, 0, 39, 165, 0, 28, 28, 27, 28, 100]
abbrev dktJ7_grow_2_0 : List UInt8 := dkwJ7_grow_2_0 ++ dktJ7_grow_2_1
theorem dksJ7_grow_2_0 : cJ7_grow_2.data.toList.drop 0 = dktJ7_grow_2_0 := by decide +kernel
theorem dksJ7_grow_2_1 : cJ7_grow_2.data.toList.drop 24 = dktJ7_grow_2_1 := dk_seg dksJ7_grow_2_0 24 rfl rfl
theorem dksJ7_grow_2_2 : cJ7_grow_2.data.toList.drop 48 = dktJ7_grow_2_2 := dk_seg dksJ7_grow_2_1 24 rfl rfl
theorem dJ7_grow_2_0 : DC mJ7_grow_2 0 = .ok (.aload_n 0, 1) := dk_42 (dk_at dksJ7_grow_2_0 0 rfl rfl)
theorem dJ7_grow_2_1 : DC mJ7_grow_2 1 = .ok (.getfield 9, 3) := dk_180 0 9 (dk_at dksJ7_grow_2_0 1 rfl rfl)
theorem dJ7_grow_2_4 : DC mJ7_grow_2 4 = .ok (.arraylength, 1) := dk_190 (dk_at dksJ7_grow_2_0 4 rfl rfl)
theorem dJ7_grow_2_5 : DC mJ7_grow_2 5 = .ok (.istore_n 2, 1) := dk_61 (dk_at dksJ7_grow_2_0 5 rfl rfl)
theorem dJ7_grow_2_6 : DC mJ7_grow_2 6 = .ok (.iload_n 2, 1) := dk_28 (dk_at dksJ7_grow_2_0 6 rfl rfl)
theorem dJ7_grow_2_7 : DC mJ7_grow_2 7 = .ok (.ifCond .gt 13, 3) := dk_157 0 13 (dk_at dksJ7_grow_2_0 7 rfl rfl)
theorem dJ7_grow_2_10 : DC mJ7_grow_2 10 = .ok (.aload_n 0, 1) := dk_42 (dk_at dksJ7_grow_2_0 10 rfl rfl)
theorem dJ7_grow_2_11 : DC mJ7_grow_2 11 = .ok (.getfield 9, 3) := dk_180 0 9 (dk_at dksJ7_grow_2_0 11 rfl rfl)
theorem dJ7_grow_2_14 : DC mJ7_grow_2 14 = .ok (.getstatic 39, 3) := dk_178 0 39 (dk_at dksJ7_grow_2_0 14 rfl rfl)
theorem dJ7_grow_2_17 : DC mJ7_grow_2 17 = .ok (.if_acmp .eq 28, 3) := dk_165 0 28 (dk_at dksJ7_grow_2_0 17 rfl rfl)
theorem dJ7_grow_2_20 : DC mJ7_grow_2 20 = .ok (.iload_n 2, 1) := dk_28 (dk_at dksJ7_grow_2_0 20 rfl rfl)
theorem dJ7_grow_2_21 : DC mJ7_grow_2 21 = .ok (.iload_n 1, 1) := dk_27 (dk_at dksJ7_grow_2_0 21 rfl rfl)
theorem dJ7_grow_2_22 : DC mJ7_grow_2 22 = .ok (.iload_n 2, 1) := dk_28 (dk_at dksJ7_grow_2_0 22 rfl rfl)
theorem dJ7_grow_2_23 : DC mJ7_grow_2 23 = .ok (.isub, 1) := dk_100 (dk_at dksJ7_grow_2_0 23 rfl rfl)
theorem dJ7_grow_2_24 : DC mJ7_grow_2 24 = .ok (.iload_n 2, 1) := dk_28 (dk_at dksJ7_grow_2_1 0 rfl rfl)
theorem dJ7_grow_2_25 : DC mJ7_grow_2 25 = .ok (.iconst 1, 1) := dk_4 (dk_at dksJ7_grow_2_1 1 rfl rfl)
theorem dJ7_grow_2_26 : DC mJ7_grow_2 26 = .ok (.ishr, 1) := dk_122 (dk_at dksJ7_grow_2_1 2 rfl rfl)
theorem dJ7_grow_2_27 : DC mJ7_grow_2 27 = .ok (.invokestatic 73, 3) := dk_184 0 73 (dk_at dksJ7_grow_2_1 3 rfl rfl)
theorem dJ7_grow_2_30 : DC mJ7_grow_2 30 = .ok (.istore_n 3, 1) := dk_62 (dk_at dksJ7_grow_2_1 6 rfl rfl)
theorem dJ7_grow_2_31 : DC mJ7_grow_2 31 = .ok (.aload_n 0, 1) := dk_42 (dk_at dksJ7_grow_2_1 7 rfl rfl)
theorem dJ7_grow_2_32 : DC mJ7_grow_2 32 = .ok (.aload_n 0, 1) := dk_42 (dk_at dksJ7_grow_2_1 8 rfl rfl)
theorem dJ7_grow_2_33 : DC mJ7_grow_2 33 = .ok (.getfield 9, 3) := dk_180 0 9 (dk_at dksJ7_grow_2_1 9 rfl rfl)
theorem dJ7_grow_2_36 : DC mJ7_grow_2 36 = .ok (.iload_n 3, 1) := dk_29 (dk_at dksJ7_grow_2_1 12 rfl rfl)
theorem dJ7_grow_2_37 : DC mJ7_grow_2 37 = .ok (.invokestatic 66, 3) := dk_184 0 66 (dk_at dksJ7_grow_2_1 13 rfl rfl)
theorem dJ7_grow_2_40 : DC mJ7_grow_2 40 = .ok (.dup_x1, 1) := dk_90 (dk_at dksJ7_grow_2_1 16 rfl rfl)
theorem dJ7_grow_2_41 : DC mJ7_grow_2 41 = .ok (.putfield 9, 3) := dk_181 0 9 (dk_at dksJ7_grow_2_1 17 rfl rfl)
theorem dJ7_grow_2_44 : DC mJ7_grow_2 44 = .ok (.areturn, 1) := dk_176 (dk_at dksJ7_grow_2_1 20 rfl rfl)
theorem dJ7_grow_2_45 : DC mJ7_grow_2 45 = .ok (.aload_n 0, 1) := dk_42 (dk_at dksJ7_grow_2_1 21 rfl rfl)
theorem dJ7_grow_2_46 : DC mJ7_grow_2 46 = .ok (.bipush 10, 2) := dk_16 10 (dk_at dksJ7_grow_2_1 22 rfl rfl)
theorem dJ7_grow_2_48 : DC mJ7_grow_2 48 = .ok (.iload_n 1, 1) := dk_27 (dk_at dksJ7_grow_2_2 0 rfl rfl)
theorem dJ7_grow_2_49 : DC mJ7_grow_2 49 = .ok (.invokestatic 79, 3) := dk_184 0 79 (dk_at dksJ7_grow_2_2 1 rfl rfl)
theorem dJ7_grow_2_52 : DC mJ7_grow_2 52 = .ok (.anewarray 7, 3) := dk_189 0 7 (dk_at dksJ7_grow_2_2 4 rfl rfl)
theorem dJ7_grow_2_55 : DC mJ7_grow_2 55 = .ok (.dup_x1, 1) := dk_90 (dk_at dksJ7_grow_2_2 7 rfl rfl)
theorem dJ7_grow_2_56 : DC mJ7_grow_2 56 = .ok (.putfield 9, 3) := dk_181 0 9 (dk_at dksJ7_grow_2_2 8 rfl rfl)
theorem dJ7_grow_2_59 : DC mJ7_grow_2 59 = .ok (.areturn, 1) := dk_176 (dk_at dksJ7_grow_2_2 11 rfl rfl)
abbrev cJ7_iterator : ByteArray := prog_51_method_55_code
def yJ7_iterator : MethodName := ⟨RJ7, "iterator", "()Ljava/util/Iterator;"⟩
def mJ7_iterator : MI := (⟨"java/util/ArrayList", "iterator", "()Ljava/util/Iterator;"⟩, prog_51_method_55_code, 1, (Option.some (FieldType.object "java/util/Iterator")), none, 7, 3)
theorem oJ7_iterator : mO mJ7_iterator = 7 := rfl
theorem lJ7_iterator : mL mJ7_iterator = 1 := rfl
theorem rJ7_iterator : mR mJ7_iterator = (Option.some (FieldType.object "java/util/Iterator")) := rfl
theorem vJ7_iterator : mV mJ7_iterator = 3 := rfl
theorem nJ7_iterator : (mY mJ7_iterator).name = "iterator" := rfl
theorem hJ7_iterator : mH mJ7_iterator = none := rfl
theorem kJ7_iterator : MOk mJ7_iterator := ⟨q472, q84, by decide +kernel⟩
theorem gJ7_iterator : plainName (mY mJ7_iterator).cls = true ∧ (mY mJ7_iterator).cls = "java/util/ArrayList" := ⟨by decide +kernel, rfl⟩
def dkwJ7_iterator_0 : List UInt8 := [187, 1, 11, 89, 42, 183, 1, 13, 176]
abbrev dktJ7_iterator_0 : List UInt8 := dkwJ7_iterator_0 ++ []
theorem dksJ7_iterator_0 : cJ7_iterator.data.toList.drop 0 = dktJ7_iterator_0 := by decide +kernel
theorem dJ7_iterator_0 : DC mJ7_iterator 0 = .ok (.new 267, 3) := dk_187 1 11 (dk_at dksJ7_iterator_0 0 rfl rfl)
theorem dJ7_iterator_3 : DC mJ7_iterator 3 = .ok (.dup, 1) := dk_89 (dk_at dksJ7_iterator_0 3 rfl rfl)
theorem dJ7_iterator_4 : DC mJ7_iterator 4 = .ok (.aload_n 0, 1) := dk_42 (dk_at dksJ7_iterator_0 4 rfl rfl)
theorem dJ7_iterator_5 : DC mJ7_iterator 5 = .ok (.invokespecial 269, 3) := dk_183 1 13 (dk_at dksJ7_iterator_0 5 rfl rfl)
theorem dJ7_iterator_8 : DC mJ7_iterator 8 = .ok (.areturn, 1) := dk_176 (dk_at dksJ7_iterator_0 8 rfl rfl)
abbrev cJ7_listIterator : ByteArray := prog_51_method_53_code
def yJ7_listIterator : MethodName := ⟨RJ7, "listIterator", "(I)Ljava/util/ListIterator;"⟩
def mJ7_listIterator : MI := (⟨"java/util/ArrayList", "listIterator", "(I)Ljava/util/ListIterator;"⟩, prog_51_method_53_code, 2, (Option.some (FieldType.object "java/util/ListIterator")), none, 7, 4)
theorem oJ7_listIterator : mO mJ7_listIterator = 7 := rfl
theorem lJ7_listIterator : mL mJ7_listIterator = 2 := rfl
theorem rJ7_listIterator : mR mJ7_listIterator = (Option.some (FieldType.object "java/util/ListIterator")) := rfl
theorem vJ7_listIterator : mV mJ7_listIterator = 4 := rfl
theorem nJ7_listIterator : (mY mJ7_listIterator).name = "listIterator" := rfl
theorem hJ7_listIterator : mH mJ7_listIterator = none := rfl
theorem kJ7_listIterator : MOk mJ7_listIterator := ⟨q510, q84, by decide +kernel⟩
theorem gJ7_listIterator : plainName (mY mJ7_listIterator).cls = true ∧ (mY mJ7_listIterator).cls = "java/util/ArrayList" := ⟨by decide +kernel, rfl⟩
def dkwJ7_listIterator_0 : List UInt8 := [42, 27, 182, 0, 135, 187, 1, 6, 89, 42, 27, 183, 1, 8, 176]
abbrev dktJ7_listIterator_0 : List UInt8 := dkwJ7_listIterator_0 ++ []
theorem dksJ7_listIterator_0 : cJ7_listIterator.data.toList.drop 0 = dktJ7_listIterator_0 := by decide +kernel
theorem dJ7_listIterator_0 : DC mJ7_listIterator 0 = .ok (.aload_n 0, 1) := dk_42 (dk_at dksJ7_listIterator_0 0 rfl rfl)
theorem dJ7_listIterator_1 : DC mJ7_listIterator 1 = .ok (.iload_n 1, 1) := dk_27 (dk_at dksJ7_listIterator_0 1 rfl rfl)
theorem dJ7_listIterator_2 : DC mJ7_listIterator 2 = .ok (.invokevirtual 135, 3) := dk_182 0 135 (dk_at dksJ7_listIterator_0 2 rfl rfl)
theorem dJ7_listIterator_5 : DC mJ7_listIterator 5 = .ok (.new 262, 3) := dk_187 1 6 (dk_at dksJ7_listIterator_0 5 rfl rfl)
theorem dJ7_listIterator_8 : DC mJ7_listIterator 8 = .ok (.dup, 1) := dk_89 (dk_at dksJ7_listIterator_0 8 rfl rfl)
theorem dJ7_listIterator_9 : DC mJ7_listIterator 9 = .ok (.aload_n 0, 1) := dk_42 (dk_at dksJ7_listIterator_0 9 rfl rfl)
theorem dJ7_listIterator_10 : DC mJ7_listIterator 10 = .ok (.iload_n 1, 1) := dk_27 (dk_at dksJ7_listIterator_0 10 rfl rfl)
theorem dJ7_listIterator_11 : DC mJ7_listIterator 11 = .ok (.invokespecial 264, 3) := dk_183 1 8 (dk_at dksJ7_listIterator_0 11 rfl rfl)
theorem dJ7_listIterator_14 : DC mJ7_listIterator 14 = .ok (.areturn, 1) := dk_176 (dk_at dksJ7_listIterator_0 14 rfl rfl)
abbrev cJ7_rangeCheckForAdd : ByteArray := prog_51_method_45_code
def yJ7_rangeCheckForAdd : MethodName := ⟨RJ7, "rangeCheckForAdd", "(I)V"⟩
def mJ7_rangeCheckForAdd : MI := (⟨"java/util/ArrayList", "rangeCheckForAdd", "(I)V"⟩, prog_51_method_45_code, 2, (Option.none : Option FieldType), none, 7, 1)
theorem oJ7_rangeCheckForAdd : mO mJ7_rangeCheckForAdd = 7 := rfl
theorem lJ7_rangeCheckForAdd : mL mJ7_rangeCheckForAdd = 2 := rfl
theorem rJ7_rangeCheckForAdd : mR mJ7_rangeCheckForAdd = (Option.none : Option FieldType) := rfl
theorem vJ7_rangeCheckForAdd : mV mJ7_rangeCheckForAdd = 1 := rfl
theorem nJ7_rangeCheckForAdd : (mY mJ7_rangeCheckForAdd).name = "rangeCheckForAdd" := rfl
theorem hJ7_rangeCheckForAdd : mH mJ7_rangeCheckForAdd = none := rfl
theorem kJ7_rangeCheckForAdd : MOk mJ7_rangeCheckForAdd := ⟨q514, q84, by decide +kernel⟩
theorem gJ7_rangeCheckForAdd : plainName (mY mJ7_rangeCheckForAdd).cls = true ∧ (mY mJ7_rangeCheckForAdd).cls = "java/util/ArrayList" := ⟨by decide +kernel, rfl⟩
def dkwJ7_rangeCheckForAdd_1 : List UInt8 := [191, 177]
abbrev dktJ7_rangeCheckForAdd_1 : List UInt8 := dkwJ7_rangeCheckForAdd_1 ++ []
def dkwJ7_rangeCheckForAdd_0 : List UInt8 := [27, 42, 180, 0, 48, 163, 0, 7, 27, 156, 0, 16, 187, 0, 187, 89, 42, 27, 182, 0, 198, 183, 0, 193]
abbrev dktJ7_rangeCheckForAdd_0 : List UInt8 := dkwJ7_rangeCheckForAdd_0 ++ dktJ7_rangeCheckForAdd_1
theorem dksJ7_rangeCheckForAdd_0 : cJ7_rangeCheckForAdd.data.toList.drop 0 = dktJ7_rangeCheckForAdd_0 := by decide +kernel
theorem dksJ7_rangeCheckForAdd_1 : cJ7_rangeCheckForAdd.data.toList.drop 24 = dktJ7_rangeCheckForAdd_1 := dk_seg dksJ7_rangeCheckForAdd_0 24 rfl rfl
theorem dJ7_rangeCheckForAdd_0 : DC mJ7_rangeCheckForAdd 0 = .ok (.iload_n 1, 1) := dk_27 (dk_at dksJ7_rangeCheckForAdd_0 0 rfl rfl)
theorem dJ7_rangeCheckForAdd_1 : DC mJ7_rangeCheckForAdd 1 = .ok (.aload_n 0, 1) := dk_42 (dk_at dksJ7_rangeCheckForAdd_0 1 rfl rfl)
theorem dJ7_rangeCheckForAdd_2 : DC mJ7_rangeCheckForAdd 2 = .ok (.getfield 48, 3) := dk_180 0 48 (dk_at dksJ7_rangeCheckForAdd_0 2 rfl rfl)
theorem dJ7_rangeCheckForAdd_5 : DC mJ7_rangeCheckForAdd 5 = .ok (.if_icmp .gt 7, 3) := dk_163 0 7 (dk_at dksJ7_rangeCheckForAdd_0 5 rfl rfl)
theorem dJ7_rangeCheckForAdd_8 : DC mJ7_rangeCheckForAdd 8 = .ok (.iload_n 1, 1) := dk_27 (dk_at dksJ7_rangeCheckForAdd_0 8 rfl rfl)
theorem dJ7_rangeCheckForAdd_9 : DC mJ7_rangeCheckForAdd 9 = .ok (.ifCond .ge 16, 3) := dk_156 0 16 (dk_at dksJ7_rangeCheckForAdd_0 9 rfl rfl)
theorem dJ7_rangeCheckForAdd_12 : DC mJ7_rangeCheckForAdd 12 = .ok (.new 187, 3) := dk_187 0 187 (dk_at dksJ7_rangeCheckForAdd_0 12 rfl rfl)
theorem dJ7_rangeCheckForAdd_15 : DC mJ7_rangeCheckForAdd 15 = .ok (.dup, 1) := dk_89 (dk_at dksJ7_rangeCheckForAdd_0 15 rfl rfl)
theorem dJ7_rangeCheckForAdd_16 : DC mJ7_rangeCheckForAdd 16 = .ok (.aload_n 0, 1) := dk_42 (dk_at dksJ7_rangeCheckForAdd_0 16 rfl rfl)
theorem dJ7_rangeCheckForAdd_17 : DC mJ7_rangeCheckForAdd 17 = .ok (.iload_n 1, 1) := dk_27 (dk_at dksJ7_rangeCheckForAdd_0 17 rfl rfl)
theorem dJ7_rangeCheckForAdd_18 : DC mJ7_rangeCheckForAdd 18 = .ok (.invokevirtual 198, 3) := dk_182 0 198 (dk_at dksJ7_rangeCheckForAdd_0 18 rfl rfl)
theorem dJ7_rangeCheckForAdd_21 : DC mJ7_rangeCheckForAdd 21 = .ok (.invokespecial 193, 3) := dk_183 0 193 (dk_at dksJ7_rangeCheckForAdd_0 21 rfl rfl)
theorem dJ7_rangeCheckForAdd_24 : DC mJ7_rangeCheckForAdd 24 = .ok (.athrow, 1) := dk_191 (dk_at dksJ7_rangeCheckForAdd_1 0 rfl rfl)
theorem dJ7_rangeCheckForAdd_25 : DC mJ7_rangeCheckForAdd 25 = .ok (.return_, 1) := dk_177 (dk_at dksJ7_rangeCheckForAdd_1 1 rfl rfl)
abbrev cJ7_outOfBoundsMsg : ByteArray := prog_51_method_46_code
def yJ7_outOfBoundsMsg : MethodName := ⟨RJ7, "outOfBoundsMsg", "(I)Ljava/lang/String;"⟩
def mJ7_outOfBoundsMsg : MI := (⟨"java/util/ArrayList", "outOfBoundsMsg", "(I)Ljava/lang/String;"⟩, prog_51_method_46_code, 2, (Option.some (FieldType.object "java/lang/String")), none, 7, 11)
theorem oJ7_outOfBoundsMsg : mO mJ7_outOfBoundsMsg = 7 := rfl
theorem lJ7_outOfBoundsMsg : mL mJ7_outOfBoundsMsg = 2 := rfl
theorem rJ7_outOfBoundsMsg : mR mJ7_outOfBoundsMsg = (Option.some (FieldType.object "java/lang/String")) := rfl
theorem vJ7_outOfBoundsMsg : mV mJ7_outOfBoundsMsg = 11 := rfl
theorem nJ7_outOfBoundsMsg : (mY mJ7_outOfBoundsMsg).name = "outOfBoundsMsg" := rfl
theorem hJ7_outOfBoundsMsg : mH mJ7_outOfBoundsMsg = none := rfl
theorem kJ7_outOfBoundsMsg : MOk mJ7_outOfBoundsMsg := ⟨q566, q84, by decide +kernel⟩
theorem gJ7_outOfBoundsMsg : plainName (mY mJ7_outOfBoundsMsg).cls = true ∧ (mY mJ7_outOfBoundsMsg).cls = "java/util/ArrayList" := ⟨by decide +kernel, rfl⟩
def dkwJ7_outOfBoundsMsg_1 : List UInt8 := [180, 0, 48, 182, 0, 29, 182, 0, 32, 176]
abbrev dktJ7_outOfBoundsMsg_1 : List UInt8 := dkwJ7_outOfBoundsMsg_1 ++ []
def dkwJ7_outOfBoundsMsg_0 : List UInt8 := [187, 0, 20, 89, 183, 0, 22, 18, 201, 182, 0, 25, 27, 182, 0, 29, 18, 203, 182, 0, 25, 42]
abbrev dktJ7_outOfBoundsMsg_0 : List UInt8 := dkwJ7_outOfBoundsMsg_0 ++ dktJ7_outOfBoundsMsg_1
theorem dksJ7_outOfBoundsMsg_0 : cJ7_outOfBoundsMsg.data.toList.drop 0 = dktJ7_outOfBoundsMsg_0 := by decide +kernel
theorem dksJ7_outOfBoundsMsg_1 : cJ7_outOfBoundsMsg.data.toList.drop 22 = dktJ7_outOfBoundsMsg_1 := dk_seg dksJ7_outOfBoundsMsg_0 22 rfl rfl
theorem dJ7_outOfBoundsMsg_0 : DC mJ7_outOfBoundsMsg 0 = .ok (.new 20, 3) := dk_187 0 20 (dk_at dksJ7_outOfBoundsMsg_0 0 rfl rfl)
theorem dJ7_outOfBoundsMsg_3 : DC mJ7_outOfBoundsMsg 3 = .ok (.dup, 1) := dk_89 (dk_at dksJ7_outOfBoundsMsg_0 3 rfl rfl)
theorem dJ7_outOfBoundsMsg_4 : DC mJ7_outOfBoundsMsg 4 = .ok (.invokespecial 22, 3) := dk_183 0 22 (dk_at dksJ7_outOfBoundsMsg_0 4 rfl rfl)
theorem dJ7_outOfBoundsMsg_7 : DC mJ7_outOfBoundsMsg 7 = .ok (.ldc 201, 2) := dk_18 201 (dk_at dksJ7_outOfBoundsMsg_0 7 rfl rfl)
theorem dJ7_outOfBoundsMsg_9 : DC mJ7_outOfBoundsMsg 9 = .ok (.invokevirtual 25, 3) := dk_182 0 25 (dk_at dksJ7_outOfBoundsMsg_0 9 rfl rfl)
theorem dJ7_outOfBoundsMsg_12 : DC mJ7_outOfBoundsMsg 12 = .ok (.iload_n 1, 1) := dk_27 (dk_at dksJ7_outOfBoundsMsg_0 12 rfl rfl)
theorem dJ7_outOfBoundsMsg_13 : DC mJ7_outOfBoundsMsg 13 = .ok (.invokevirtual 29, 3) := dk_182 0 29 (dk_at dksJ7_outOfBoundsMsg_0 13 rfl rfl)
theorem dJ7_outOfBoundsMsg_16 : DC mJ7_outOfBoundsMsg 16 = .ok (.ldc 203, 2) := dk_18 203 (dk_at dksJ7_outOfBoundsMsg_0 16 rfl rfl)
theorem dJ7_outOfBoundsMsg_18 : DC mJ7_outOfBoundsMsg 18 = .ok (.invokevirtual 25, 3) := dk_182 0 25 (dk_at dksJ7_outOfBoundsMsg_0 18 rfl rfl)
theorem dJ7_outOfBoundsMsg_21 : DC mJ7_outOfBoundsMsg 21 = .ok (.aload_n 0, 1) := dk_42 (dk_at dksJ7_outOfBoundsMsg_0 21 rfl rfl)
theorem dJ7_outOfBoundsMsg_22 : DC mJ7_outOfBoundsMsg 22 = .ok (.getfield 48, 3) := dk_180 0 48 (dk_at dksJ7_outOfBoundsMsg_1 0 rfl rfl)
theorem dJ7_outOfBoundsMsg_25 : DC mJ7_outOfBoundsMsg 25 = .ok (.invokevirtual 29, 3) := dk_182 0 29 (dk_at dksJ7_outOfBoundsMsg_1 3 rfl rfl)
theorem dJ7_outOfBoundsMsg_28 : DC mJ7_outOfBoundsMsg 28 = .ok (.invokevirtual 32, 3) := dk_182 0 32 (dk_at dksJ7_outOfBoundsMsg_1 6 rfl rfl)
theorem dJ7_outOfBoundsMsg_31 : DC mJ7_outOfBoundsMsg 31 = .ok (.areturn, 1) := dk_176 (dk_at dksJ7_outOfBoundsMsg_1 9 rfl rfl)
abbrev cJ7_size : ByteArray := prog_51_method_8_code
def yJ7_size : MethodName := ⟨RJ7, "size", "()I"⟩
def mJ7_size : MI := (⟨"java/util/ArrayList", "size", "()I"⟩, prog_51_method_8_code, 1, (Option.some FieldType.int), none, 7, 1)
theorem oJ7_size : mO mJ7_size = 7 := rfl
theorem lJ7_size : mL mJ7_size = 1 := rfl
theorem rJ7_size : mR mJ7_size = (Option.some FieldType.int) := rfl
theorem vJ7_size : mV mJ7_size = 1 := rfl
theorem nJ7_size : (mY mJ7_size).name = "size" := rfl
theorem hJ7_size : mH mJ7_size = none := rfl
theorem kJ7_size : MOk mJ7_size := ⟨q896, q84, by decide +kernel⟩
theorem gJ7_size : plainName (mY mJ7_size).cls = true ∧ (mY mJ7_size).cls = "java/util/ArrayList" := ⟨by decide +kernel, rfl⟩
theorem dJ7_size_0 : DC mJ7_size 0 = .ok (.aload_n 0, 1) := by decide +kernel
theorem dJ7_size_1 : DC mJ7_size 1 = .ok (.getfield 48, 3) := by decide +kernel
theorem dJ7_size_4 : DC mJ7_size 4 = .ok (.ireturn, 1) := by decide +kernel
abbrev cJ7_get : ByteArray := prog_51_method_20_code
def yJ7_get : MethodName := ⟨RJ7, "get", "(I)Ljava/lang/Object;"⟩
def mJ7_get : MI := (⟨"java/util/ArrayList", "get", "(I)Ljava/lang/Object;"⟩, prog_51_method_20_code, 2, (Option.some (FieldType.object "java/lang/Object")), none, 7, 3)
theorem oJ7_get : mO mJ7_get = 7 := rfl
theorem lJ7_get : mL mJ7_get = 2 := rfl
theorem rJ7_get : mR mJ7_get = (Option.some (FieldType.object "java/lang/Object")) := rfl
theorem vJ7_get : mV mJ7_get = 3 := rfl
theorem nJ7_get : (mY mJ7_get).name = "get" := rfl
theorem hJ7_get : mH mJ7_get = none := rfl
theorem kJ7_get : MOk mJ7_get := ⟨q961, q84, by decide +kernel⟩
theorem gJ7_get : plainName (mY mJ7_get).cls = true ∧ (mY mJ7_get).cls = "java/util/ArrayList" := ⟨by decide +kernel, rfl⟩
def dkwJ7_get_0 : List UInt8 := [27, 42, 180, 0, 48, 184, 0, 118, 87, 42, 27, 182, 0, 123, 176]
abbrev dktJ7_get_0 : List UInt8 := dkwJ7_get_0 ++ []
theorem dksJ7_get_0 : cJ7_get.data.toList.drop 0 = dktJ7_get_0 := by decide +kernel
theorem dJ7_get_0 : DC mJ7_get 0 = .ok (.iload_n 1, 1) := dk_27 (dk_at dksJ7_get_0 0 rfl rfl)
theorem dJ7_get_1 : DC mJ7_get 1 = .ok (.aload_n 0, 1) := dk_42 (dk_at dksJ7_get_0 1 rfl rfl)
theorem dJ7_get_2 : DC mJ7_get 2 = .ok (.getfield 48, 3) := dk_180 0 48 (dk_at dksJ7_get_0 2 rfl rfl)
theorem dJ7_get_5 : DC mJ7_get 5 = .ok (.invokestatic 118, 3) := dk_184 0 118 (dk_at dksJ7_get_0 5 rfl rfl)
theorem dJ7_get_8 : DC mJ7_get 8 = .ok (.pop, 1) := dk_87 (dk_at dksJ7_get_0 8 rfl rfl)
theorem dJ7_get_9 : DC mJ7_get 9 = .ok (.aload_n 0, 1) := dk_42 (dk_at dksJ7_get_0 9 rfl rfl)
theorem dJ7_get_10 : DC mJ7_get 10 = .ok (.iload_n 1, 1) := dk_27 (dk_at dksJ7_get_0 10 rfl rfl)
theorem dJ7_get_11 : DC mJ7_get 11 = .ok (.invokevirtual 123, 3) := dk_182 0 123 (dk_at dksJ7_get_0 11 rfl rfl)
theorem dJ7_get_14 : DC mJ7_get 14 = .ok (.areturn, 1) := dk_176 (dk_at dksJ7_get_0 14 rfl rfl)
abbrev cJ7_elementData : ByteArray := prog_51_method_18_code
def yJ7_elementData : MethodName := ⟨RJ7, "elementData", "(I)Ljava/lang/Object;"⟩
def mJ7_elementData : MI := (⟨"java/util/ArrayList", "elementData", "(I)Ljava/lang/Object;"⟩, prog_51_method_18_code, 2, (Option.some (FieldType.object "java/lang/Object")), none, 7, 1)
theorem oJ7_elementData : mO mJ7_elementData = 7 := rfl
theorem lJ7_elementData : mL mJ7_elementData = 2 := rfl
theorem rJ7_elementData : mR mJ7_elementData = (Option.some (FieldType.object "java/lang/Object")) := rfl
theorem vJ7_elementData : mV mJ7_elementData = 1 := rfl
theorem nJ7_elementData : (mY mJ7_elementData).name = "elementData" := rfl
theorem hJ7_elementData : mH mJ7_elementData = none := rfl
theorem kJ7_elementData : MOk mJ7_elementData := ⟨q971, q84, by decide +kernel⟩
theorem gJ7_elementData : plainName (mY mJ7_elementData).cls = true ∧ (mY mJ7_elementData).cls = "java/util/ArrayList" := ⟨by decide +kernel, rfl⟩
def dkwJ7_elementData_0 : List UInt8 := [42, 180, 0, 9, 27, 50, 176]
abbrev dktJ7_elementData_0 : List UInt8 := dkwJ7_elementData_0 ++ []
theorem dksJ7_elementData_0 : cJ7_elementData.data.toList.drop 0 = dktJ7_elementData_0 := by decide +kernel
theorem dJ7_elementData_0 : DC mJ7_elementData 0 = .ok (.aload_n 0, 1) := dk_42 (dk_at dksJ7_elementData_0 0 rfl rfl)
theorem dJ7_elementData_1 : DC mJ7_elementData 1 = .ok (.getfield 9, 3) := dk_180 0 9 (dk_at dksJ7_elementData_0 1 rfl rfl)
theorem dJ7_elementData_4 : DC mJ7_elementData 4 = .ok (.iload_n 1, 1) := dk_27 (dk_at dksJ7_elementData_0 4 rfl rfl)
theorem dJ7_elementData_5 : DC mJ7_elementData 5 = .ok (.aaload, 1) := dk_50 (dk_at dksJ7_elementData_0 5 rfl rfl)
theorem dJ7_elementData_6 : DC mJ7_elementData 6 = .ok (.areturn, 1) := dk_176 (dk_at dksJ7_elementData_0 6 rfl rfl)
abbrev cJ7_addAll : ByteArray := prog_51_method_41_code
def yJ7_addAll : MethodName := ⟨RJ7, "addAll", "(Ljava/util/Collection;)Z"⟩
def mJ7_addAll : MI := (⟨"java/util/ArrayList", "addAll", "(Ljava/util/Collection;)Z"⟩, prog_51_method_41_code, 6, (Option.some FieldType.boolean), none, 7, 14)
theorem oJ7_addAll : mO mJ7_addAll = 7 := rfl
theorem lJ7_addAll : mL mJ7_addAll = 6 := rfl
theorem rJ7_addAll : mR mJ7_addAll = (Option.some FieldType.boolean) := rfl
theorem vJ7_addAll : mV mJ7_addAll = 14 := rfl
theorem nJ7_addAll : (mY mJ7_addAll).name = "addAll" := rfl
theorem hJ7_addAll : mH mJ7_addAll = none := rfl
theorem kJ7_addAll : MOk mJ7_addAll := ⟨q1163, q84, by decide +kernel⟩
theorem gJ7_addAll : plainName (mY mJ7_addAll).cls = true ∧ (mY mJ7_addAll).cls = "java/util/ArrayList" := ⟨by decide +kernel, rfl⟩
def dkwJ7_addAll_3 : List UInt8 := [181, 0, 48, 4, 172]
abbrev dktJ7_addAll_3 : List UInt8 := dkwJ7_addAll_3 ++ []
def dkwJ7_addAll_2 : List UInt8 := [21, 5, 29, 96, 182, 0, 69, 58, 4, 44, 3, 25, 4, 21, 5, 29, 184, 0, 112, 42, 21, 5, 29, 96]
abbrev dktJ7_addAll_2 : List UInt8 := dkwJ7_addAll_2 ++ dktJ7_addAll_3
def dkwJ7_addAll_1 : List UInt8 := [3, 172, 29, 42, 180, 0, 9, 89, 58, 4, 190, 42, 180, 0, 48, 89, 54, 5, 100, 164, 0, 13, 42]
abbrev dktJ7_addAll_1 : List UInt8 := dkwJ7_addAll_1 ++ dktJ7_addAll_2
def dkwJ7_addAll_0 : List UInt8 := [43, 185, 0, 42, 1, 0, 77, 42, 89, 180, 0, 63, 4, 96, 181, 0, 63, 44, 190, 62, 29, 154, 0, 5]
abbrev dktJ7_addAll_0 : List UInt8 := dkwJ7_addAll_0 ++ dktJ7_addAll_1
theorem dksJ7_addAll_0 : cJ7_addAll.data.toList.drop 0 = dktJ7_addAll_0 := by decide +kernel
theorem dksJ7_addAll_1 : cJ7_addAll.data.toList.drop 24 = dktJ7_addAll_1 := dk_seg dksJ7_addAll_0 24 rfl rfl
theorem dksJ7_addAll_2 : cJ7_addAll.data.toList.drop 47 = dktJ7_addAll_2 := dk_seg dksJ7_addAll_1 23 rfl rfl
theorem dksJ7_addAll_3 : cJ7_addAll.data.toList.drop 71 = dktJ7_addAll_3 := dk_seg dksJ7_addAll_2 24 rfl rfl
theorem dJ7_addAll_0 : DC mJ7_addAll 0 = .ok (.aload_n 1, 1) := dk_43 (dk_at dksJ7_addAll_0 0 rfl rfl)
theorem dJ7_addAll_1 : DC mJ7_addAll 1 = .ok (.invokeinterface 42 1, 5) := by decide +kernel
theorem dJ7_addAll_6 : DC mJ7_addAll 6 = .ok (.astore_n 2, 1) := dk_77 (dk_at dksJ7_addAll_0 6 rfl rfl)
theorem dJ7_addAll_7 : DC mJ7_addAll 7 = .ok (.aload_n 0, 1) := dk_42 (dk_at dksJ7_addAll_0 7 rfl rfl)
theorem dJ7_addAll_8 : DC mJ7_addAll 8 = .ok (.dup, 1) := dk_89 (dk_at dksJ7_addAll_0 8 rfl rfl)
theorem dJ7_addAll_9 : DC mJ7_addAll 9 = .ok (.getfield 63, 3) := dk_180 0 63 (dk_at dksJ7_addAll_0 9 rfl rfl)
theorem dJ7_addAll_12 : DC mJ7_addAll 12 = .ok (.iconst 1, 1) := dk_4 (dk_at dksJ7_addAll_0 12 rfl rfl)
theorem dJ7_addAll_13 : DC mJ7_addAll 13 = .ok (.iadd, 1) := dk_96 (dk_at dksJ7_addAll_0 13 rfl rfl)
theorem dJ7_addAll_14 : DC mJ7_addAll 14 = .ok (.putfield 63, 3) := dk_181 0 63 (dk_at dksJ7_addAll_0 14 rfl rfl)
theorem dJ7_addAll_17 : DC mJ7_addAll 17 = .ok (.aload_n 2, 1) := dk_44 (dk_at dksJ7_addAll_0 17 rfl rfl)
theorem dJ7_addAll_18 : DC mJ7_addAll 18 = .ok (.arraylength, 1) := dk_190 (dk_at dksJ7_addAll_0 18 rfl rfl)
theorem dJ7_addAll_19 : DC mJ7_addAll 19 = .ok (.istore_n 3, 1) := dk_62 (dk_at dksJ7_addAll_0 19 rfl rfl)
theorem dJ7_addAll_20 : DC mJ7_addAll 20 = .ok (.iload_n 3, 1) := dk_29 (dk_at dksJ7_addAll_0 20 rfl rfl)
theorem dJ7_addAll_21 : DC mJ7_addAll 21 = .ok (.ifCond .ne 5, 3) := dk_154 0 5 (dk_at dksJ7_addAll_0 21 rfl rfl)
theorem dJ7_addAll_24 : DC mJ7_addAll 24 = .ok (.iconst 0, 1) := dk_3 (dk_at dksJ7_addAll_1 0 rfl rfl)
theorem dJ7_addAll_25 : DC mJ7_addAll 25 = .ok (.ireturn, 1) := dk_172 (dk_at dksJ7_addAll_1 1 rfl rfl)
theorem dJ7_addAll_26 : DC mJ7_addAll 26 = .ok (.iload_n 3, 1) := dk_29 (dk_at dksJ7_addAll_1 2 rfl rfl)
theorem dJ7_addAll_27 : DC mJ7_addAll 27 = .ok (.aload_n 0, 1) := dk_42 (dk_at dksJ7_addAll_1 3 rfl rfl)
theorem dJ7_addAll_28 : DC mJ7_addAll 28 = .ok (.getfield 9, 3) := dk_180 0 9 (dk_at dksJ7_addAll_1 4 rfl rfl)
theorem dJ7_addAll_31 : DC mJ7_addAll 31 = .ok (.dup, 1) := dk_89 (dk_at dksJ7_addAll_1 7 rfl rfl)
theorem dJ7_addAll_32 : DC mJ7_addAll 32 = .ok (.astore 4, 2) := dk_58 4 (dk_at dksJ7_addAll_1 8 rfl rfl)
theorem dJ7_addAll_34 : DC mJ7_addAll 34 = .ok (.arraylength, 1) := dk_190 (dk_at dksJ7_addAll_1 10 rfl rfl)
theorem dJ7_addAll_35 : DC mJ7_addAll 35 = .ok (.aload_n 0, 1) := dk_42 (dk_at dksJ7_addAll_1 11 rfl rfl)
theorem dJ7_addAll_36 : DC mJ7_addAll 36 = .ok (.getfield 48, 3) := dk_180 0 48 (dk_at dksJ7_addAll_1 12 rfl rfl)
theorem dJ7_addAll_39 : DC mJ7_addAll 39 = .ok (.dup, 1) := dk_89 (dk_at dksJ7_addAll_1 15 rfl rfl)
theorem dJ7_addAll_40 : DC mJ7_addAll 40 = .ok (.istore 5, 2) := dk_54 5 (dk_at dksJ7_addAll_1 16 rfl rfl)
theorem dJ7_addAll_42 : DC mJ7_addAll 42 = .ok (.isub, 1) := dk_100 (dk_at dksJ7_addAll_1 18 rfl rfl)
theorem dJ7_addAll_43 : DC mJ7_addAll 43 = .ok (.if_icmp .le 13, 3) := dk_164 0 13 (dk_at dksJ7_addAll_1 19 rfl rfl)
theorem dJ7_addAll_46 : DC mJ7_addAll 46 = .ok (.aload_n 0, 1) := dk_42 (dk_at dksJ7_addAll_1 22 rfl rfl)
theorem dJ7_addAll_47 : DC mJ7_addAll 47 = .ok (.iload 5, 2) := dk_21 5 (dk_at dksJ7_addAll_2 0 rfl rfl)
theorem dJ7_addAll_49 : DC mJ7_addAll 49 = .ok (.iload_n 3, 1) := dk_29 (dk_at dksJ7_addAll_2 2 rfl rfl)
theorem dJ7_addAll_50 : DC mJ7_addAll 50 = .ok (.iadd, 1) := dk_96 (dk_at dksJ7_addAll_2 3 rfl rfl)
theorem dJ7_addAll_51 : DC mJ7_addAll 51 = .ok (.invokevirtual 69, 3) := dk_182 0 69 (dk_at dksJ7_addAll_2 4 rfl rfl)
theorem dJ7_addAll_54 : DC mJ7_addAll 54 = .ok (.astore 4, 2) := dk_58 4 (dk_at dksJ7_addAll_2 7 rfl rfl)
theorem dJ7_addAll_56 : DC mJ7_addAll 56 = .ok (.aload_n 2, 1) := dk_44 (dk_at dksJ7_addAll_2 9 rfl rfl)
theorem dJ7_addAll_57 : DC mJ7_addAll 57 = .ok (.iconst 0, 1) := dk_3 (dk_at dksJ7_addAll_2 10 rfl rfl)
theorem dJ7_addAll_58 : DC mJ7_addAll 58 = .ok (.aload 4, 2) := dk_25 4 (dk_at dksJ7_addAll_2 11 rfl rfl)
theorem dJ7_addAll_60 : DC mJ7_addAll 60 = .ok (.iload 5, 2) := dk_21 5 (dk_at dksJ7_addAll_2 13 rfl rfl)
theorem dJ7_addAll_62 : DC mJ7_addAll 62 = .ok (.iload_n 3, 1) := dk_29 (dk_at dksJ7_addAll_2 15 rfl rfl)
theorem dJ7_addAll_63 : DC mJ7_addAll 63 = .ok (.invokestatic 112, 3) := dk_184 0 112 (dk_at dksJ7_addAll_2 16 rfl rfl)
theorem dJ7_addAll_66 : DC mJ7_addAll 66 = .ok (.aload_n 0, 1) := dk_42 (dk_at dksJ7_addAll_2 19 rfl rfl)
theorem dJ7_addAll_67 : DC mJ7_addAll 67 = .ok (.iload 5, 2) := dk_21 5 (dk_at dksJ7_addAll_2 20 rfl rfl)
theorem dJ7_addAll_69 : DC mJ7_addAll 69 = .ok (.iload_n 3, 1) := dk_29 (dk_at dksJ7_addAll_2 22 rfl rfl)
theorem dJ7_addAll_70 : DC mJ7_addAll 70 = .ok (.iadd, 1) := dk_96 (dk_at dksJ7_addAll_2 23 rfl rfl)
theorem dJ7_addAll_71 : DC mJ7_addAll 71 = .ok (.putfield 48, 3) := dk_181 0 48 (dk_at dksJ7_addAll_3 0 rfl rfl)
theorem dJ7_addAll_74 : DC mJ7_addAll 74 = .ok (.iconst 1, 1) := dk_4 (dk_at dksJ7_addAll_3 3 rfl rfl)
theorem dJ7_addAll_75 : DC mJ7_addAll 75 = .ok (.ireturn, 1) := dk_172 (dk_at dksJ7_addAll_3 4 rfl rfl)
abbrev cJ7_toArray : ByteArray := prog_51_method_16_code
def yJ7_toArray : MethodName := ⟨RJ7, "toArray", "()[Ljava/lang/Object;"⟩
def mJ7_toArray : MI := (⟨"java/util/ArrayList", "toArray", "()[Ljava/lang/Object;"⟩, prog_51_method_16_code, 1, (Option.some (FieldType.array (FieldType.object "java/lang/Object"))), none, 7, 4)
theorem oJ7_toArray : mO mJ7_toArray = 7 := rfl
theorem lJ7_toArray : mL mJ7_toArray = 1 := rfl
theorem rJ7_toArray : mR mJ7_toArray = (Option.some (FieldType.array (FieldType.object "java/lang/Object"))) := rfl
theorem vJ7_toArray : mV mJ7_toArray = 4 := rfl
theorem nJ7_toArray : (mY mJ7_toArray).name = "toArray" := rfl
theorem hJ7_toArray : mH mJ7_toArray = none := rfl
theorem kJ7_toArray : MOk mJ7_toArray := ⟨q1188, q84, by decide +kernel⟩
theorem gJ7_toArray : plainName (mY mJ7_toArray).cls = true ∧ (mY mJ7_toArray).cls = "java/util/ArrayList" := ⟨by decide +kernel, rfl⟩
def dkwJ7_toArray_0 : List UInt8 := [42, 180, 0, 9, 42, 180, 0, 48, 184, 0, 66, 176]
abbrev dktJ7_toArray_0 : List UInt8 := dkwJ7_toArray_0 ++ []
theorem dksJ7_toArray_0 : cJ7_toArray.data.toList.drop 0 = dktJ7_toArray_0 := by decide +kernel
theorem dJ7_toArray_0 : DC mJ7_toArray 0 = .ok (.aload_n 0, 1) := dk_42 (dk_at dksJ7_toArray_0 0 rfl rfl)
theorem dJ7_toArray_1 : DC mJ7_toArray 1 = .ok (.getfield 9, 3) := dk_180 0 9 (dk_at dksJ7_toArray_0 1 rfl rfl)
theorem dJ7_toArray_4 : DC mJ7_toArray 4 = .ok (.aload_n 0, 1) := dk_42 (dk_at dksJ7_toArray_0 4 rfl rfl)
theorem dJ7_toArray_5 : DC mJ7_toArray 5 = .ok (.getfield 48, 3) := dk_180 0 48 (dk_at dksJ7_toArray_0 5 rfl rfl)
theorem dJ7_toArray_8 : DC mJ7_toArray 8 = .ok (.invokestatic 66, 3) := dk_184 0 66 (dk_at dksJ7_toArray_0 8 rfl rfl)
theorem dJ7_toArray_11 : DC mJ7_toArray 11 = .ok (.areturn, 1) := dk_176 (dk_at dksJ7_toArray_0 11 rfl rfl)
abbrev cJ7_isEmpty : ByteArray := prog_51_method_9_code
def yJ7_isEmpty : MethodName := ⟨RJ7, "isEmpty", "()Z"⟩
def mJ7_isEmpty : MI := (⟨"java/util/ArrayList", "isEmpty", "()Z"⟩, prog_51_method_9_code, 1, (Option.some FieldType.boolean), none, 7, 1)
theorem oJ7_isEmpty : mO mJ7_isEmpty = 7 := rfl
theorem lJ7_isEmpty : mL mJ7_isEmpty = 1 := rfl
theorem rJ7_isEmpty : mR mJ7_isEmpty = (Option.some FieldType.boolean) := rfl
theorem vJ7_isEmpty : mV mJ7_isEmpty = 1 := rfl
theorem nJ7_isEmpty : (mY mJ7_isEmpty).name = "isEmpty" := rfl
theorem hJ7_isEmpty : mH mJ7_isEmpty = none := rfl
theorem kJ7_isEmpty : MOk mJ7_isEmpty := ⟨q1506, q84, by decide +kernel⟩
theorem gJ7_isEmpty : plainName (mY mJ7_isEmpty).cls = true ∧ (mY mJ7_isEmpty).cls = "java/util/ArrayList" := ⟨by decide +kernel, rfl⟩
def dkwJ7_isEmpty_0 : List UInt8 := [42, 180, 0, 48, 154, 0, 7, 4, 167, 0, 4, 3, 172]
abbrev dktJ7_isEmpty_0 : List UInt8 := dkwJ7_isEmpty_0 ++ []
theorem dksJ7_isEmpty_0 : cJ7_isEmpty.data.toList.drop 0 = dktJ7_isEmpty_0 := by decide +kernel
theorem dJ7_isEmpty_0 : DC mJ7_isEmpty 0 = .ok (.aload_n 0, 1) := dk_42 (dk_at dksJ7_isEmpty_0 0 rfl rfl)
theorem dJ7_isEmpty_1 : DC mJ7_isEmpty 1 = .ok (.getfield 48, 3) := dk_180 0 48 (dk_at dksJ7_isEmpty_0 1 rfl rfl)
theorem dJ7_isEmpty_4 : DC mJ7_isEmpty 4 = .ok (.ifCond .ne 7, 3) := dk_154 0 7 (dk_at dksJ7_isEmpty_0 4 rfl rfl)
theorem dJ7_isEmpty_7 : DC mJ7_isEmpty 7 = .ok (.iconst 1, 1) := dk_4 (dk_at dksJ7_isEmpty_0 7 rfl rfl)
theorem dJ7_isEmpty_8 : DC mJ7_isEmpty 8 = .ok (.goto 4, 3) := dk_167 0 4 (dk_at dksJ7_isEmpty_0 8 rfl rfl)
theorem dJ7_isEmpty_11 : DC mJ7_isEmpty 11 = .ok (.iconst 0, 1) := dk_3 (dk_at dksJ7_isEmpty_0 11 rfl rfl)
theorem dJ7_isEmpty_12 : DC mJ7_isEmpty 12 = .ok (.ireturn, 1) := dk_172 (dk_at dksJ7_isEmpty_0 12 rfl rfl)
theorem in_J7 : ∀ w ∈ wsJ70, w ∈ lw_all := lw_in wsJ70 [221, 217, 219] (by decide +kernel) (by decide +kernel)

/-! jdk/internal/util/ArraysSupport -/
set_option maxRecDepth 100000
def RJ8 : String := "jdk/internal/util/ArraysSupport"
abbrev cJ8_newLength : ByteArray := prog_69_method_27_code
def yJ8_newLength : MethodName := ⟨RJ8, "newLength", "(III)I"⟩
def mJ8_newLength : MI := (⟨"jdk/internal/util/ArraysSupport", "newLength", "(III)I"⟩, prog_69_method_27_code, 4, (Option.some FieldType.int), none, 8, 2)
theorem oJ8_newLength : mO mJ8_newLength = 8 := rfl
theorem lJ8_newLength : mL mJ8_newLength = 4 := rfl
theorem rJ8_newLength : mR mJ8_newLength = (Option.some FieldType.int) := rfl
theorem vJ8_newLength : mV mJ8_newLength = 2 := rfl
theorem nJ8_newLength : (mY mJ8_newLength).name = "newLength" := rfl
theorem hJ8_newLength : mH mJ8_newLength = none := rfl
theorem kJ8_newLength : MOk mJ8_newLength := ⟨q277, q86, by decide +kernel⟩
theorem gJ8_newLength : plainName (mY mJ8_newLength).cls = true ∧ (mY mJ8_newLength).cls = "jdk/internal/util/ArraysSupport" := ⟨by decide +kernel, rfl⟩
def dkwJ8_newLength_1 : List UInt8 := [184, 0, 201, 172]
abbrev dktJ8_newLength_1 : List UInt8 := dkwJ8_newLength_1 ++ []
def dkwJ8_newLength_0 : List UInt8 := [26, 27, 28, 184, 0, 194, 96, 62, 3, 29, 162, 0, 11, 29, 18, 200, 163, 0, 5, 29, 172, 26, 27]
abbrev dktJ8_newLength_0 : List UInt8 := dkwJ8_newLength_0 ++ dktJ8_newLength_1
theorem dksJ8_newLength_0 : cJ8_newLength.data.toList.drop 0 = dktJ8_newLength_0 := by decide +kernel
theorem dksJ8_newLength_1 : cJ8_newLength.data.toList.drop 23 = dktJ8_newLength_1 := dk_seg dksJ8_newLength_0 23 rfl rfl
theorem dJ8_newLength_0 : DC mJ8_newLength 0 = .ok (.iload_n 0, 1) := dk_26 (dk_at dksJ8_newLength_0 0 rfl rfl)
theorem dJ8_newLength_1 : DC mJ8_newLength 1 = .ok (.iload_n 1, 1) := dk_27 (dk_at dksJ8_newLength_0 1 rfl rfl)
theorem dJ8_newLength_2 : DC mJ8_newLength 2 = .ok (.iload_n 2, 1) := dk_28 (dk_at dksJ8_newLength_0 2 rfl rfl)
theorem dJ8_newLength_3 : DC mJ8_newLength 3 = .ok (.invokestatic 194, 3) := dk_184 0 194 (dk_at dksJ8_newLength_0 3 rfl rfl)
theorem dJ8_newLength_6 : DC mJ8_newLength 6 = .ok (.iadd, 1) := dk_96 (dk_at dksJ8_newLength_0 6 rfl rfl)
theorem dJ8_newLength_7 : DC mJ8_newLength 7 = .ok (.istore_n 3, 1) := dk_62 (dk_at dksJ8_newLength_0 7 rfl rfl)
theorem dJ8_newLength_8 : DC mJ8_newLength 8 = .ok (.iconst 0, 1) := dk_3 (dk_at dksJ8_newLength_0 8 rfl rfl)
theorem dJ8_newLength_9 : DC mJ8_newLength 9 = .ok (.iload_n 3, 1) := dk_29 (dk_at dksJ8_newLength_0 9 rfl rfl)
theorem dJ8_newLength_10 : DC mJ8_newLength 10 = .ok (.if_icmp .ge 11, 3) := dk_162 0 11 (dk_at dksJ8_newLength_0 10 rfl rfl)
theorem dJ8_newLength_13 : DC mJ8_newLength 13 = .ok (.iload_n 3, 1) := dk_29 (dk_at dksJ8_newLength_0 13 rfl rfl)
theorem dJ8_newLength_14 : DC mJ8_newLength 14 = .ok (.ldc 200, 2) := dk_18 200 (dk_at dksJ8_newLength_0 14 rfl rfl)
theorem dJ8_newLength_16 : DC mJ8_newLength 16 = .ok (.if_icmp .gt 5, 3) := dk_163 0 5 (dk_at dksJ8_newLength_0 16 rfl rfl)
theorem dJ8_newLength_19 : DC mJ8_newLength 19 = .ok (.iload_n 3, 1) := dk_29 (dk_at dksJ8_newLength_0 19 rfl rfl)
theorem dJ8_newLength_20 : DC mJ8_newLength 20 = .ok (.ireturn, 1) := dk_172 (dk_at dksJ8_newLength_0 20 rfl rfl)
theorem dJ8_newLength_21 : DC mJ8_newLength 21 = .ok (.iload_n 0, 1) := dk_26 (dk_at dksJ8_newLength_0 21 rfl rfl)
theorem dJ8_newLength_22 : DC mJ8_newLength 22 = .ok (.iload_n 1, 1) := dk_27 (dk_at dksJ8_newLength_0 22 rfl rfl)
theorem dJ8_newLength_23 : DC mJ8_newLength 23 = .ok (.invokestatic 201, 3) := dk_184 0 201 (dk_at dksJ8_newLength_1 0 rfl rfl)
theorem dJ8_newLength_26 : DC mJ8_newLength 26 = .ok (.ireturn, 1) := dk_172 (dk_at dksJ8_newLength_1 3 rfl rfl)
abbrev cJ8_hugeLength : ByteArray := prog_69_method_28_code
def yJ8_hugeLength : MethodName := ⟨RJ8, "hugeLength", "(II)I"⟩
def mJ8_hugeLength : MI := (⟨"jdk/internal/util/ArraysSupport", "hugeLength", "(II)I"⟩, prog_69_method_28_code, 3, (Option.some FieldType.int), none, 8, 1)
theorem oJ8_hugeLength : mO mJ8_hugeLength = 8 := rfl
theorem lJ8_hugeLength : mL mJ8_hugeLength = 3 := rfl
theorem rJ8_hugeLength : mR mJ8_hugeLength = (Option.some FieldType.int) := rfl
theorem vJ8_hugeLength : mV mJ8_hugeLength = 1 := rfl
theorem nJ8_hugeLength : (mY mJ8_hugeLength).name = "hugeLength" := rfl
theorem hJ8_hugeLength : mH mJ8_hugeLength = none := rfl
theorem kJ8_hugeLength : MOk mJ8_hugeLength := ⟨q284, q86, by decide +kernel⟩
theorem gJ8_hugeLength : plainName (mY mJ8_hugeLength).cls = true ∧ (mY mJ8_hugeLength).cls = "jdk/internal/util/ArraysSupport" := ⟨by decide +kernel, rfl⟩
def dkwJ8_hugeLength_2 : List UInt8 := [191, 28, 18, 200, 163, 0, 6, 18, 200, 172, 28, 172]
abbrev dktJ8_hugeLength_2 : List UInt8 := dkwJ8_hugeLength_2 ++ []
def dkwJ8_hugeLength_1 : List UInt8 := [26, 182, 0, 98, 18, 208, 182, 0, 94, 27, 182, 0, 98, 18, 210, 182, 0, 94, 182, 0, 101, 183, 0, 212]
abbrev dktJ8_hugeLength_1 : List UInt8 := dkwJ8_hugeLength_1 ++ dktJ8_hugeLength_2
def dkwJ8_hugeLength_0 : List UInt8 := [26, 27, 96, 61, 28, 156, 0, 44, 187, 0, 204, 89, 187, 0, 89, 89, 183, 0, 91, 18, 206, 182, 0, 94]
abbrev dktJ8_hugeLength_0 : List UInt8 := dkwJ8_hugeLength_0 ++ dktJ8_hugeLength_1
theorem dksJ8_hugeLength_0 : cJ8_hugeLength.data.toList.drop 0 = dktJ8_hugeLength_0 := by decide +kernel
theorem dksJ8_hugeLength_1 : cJ8_hugeLength.data.toList.drop 24 = dktJ8_hugeLength_1 := dk_seg dksJ8_hugeLength_0 24 rfl rfl
theorem dksJ8_hugeLength_2 : cJ8_hugeLength.data.toList.drop 48 = dktJ8_hugeLength_2 := dk_seg dksJ8_hugeLength_1 24 rfl rfl
theorem dJ8_hugeLength_0 : DC mJ8_hugeLength 0 = .ok (.iload_n 0, 1) := dk_26 (dk_at dksJ8_hugeLength_0 0 rfl rfl)
theorem dJ8_hugeLength_1 : DC mJ8_hugeLength 1 = .ok (.iload_n 1, 1) := dk_27 (dk_at dksJ8_hugeLength_0 1 rfl rfl)
theorem dJ8_hugeLength_2 : DC mJ8_hugeLength 2 = .ok (.iadd, 1) := dk_96 (dk_at dksJ8_hugeLength_0 2 rfl rfl)
theorem dJ8_hugeLength_3 : DC mJ8_hugeLength 3 = .ok (.istore_n 2, 1) := dk_61 (dk_at dksJ8_hugeLength_0 3 rfl rfl)
theorem dJ8_hugeLength_4 : DC mJ8_hugeLength 4 = .ok (.iload_n 2, 1) := dk_28 (dk_at dksJ8_hugeLength_0 4 rfl rfl)
theorem dJ8_hugeLength_5 : DC mJ8_hugeLength 5 = .ok (.ifCond .ge 44, 3) := dk_156 0 44 (dk_at dksJ8_hugeLength_0 5 rfl rfl)
theorem dJ8_hugeLength_8 : DC mJ8_hugeLength 8 = .ok (.new 204, 3) := dk_187 0 204 (dk_at dksJ8_hugeLength_0 8 rfl rfl)
theorem dJ8_hugeLength_11 : DC mJ8_hugeLength 11 = .ok (.dup, 1) := dk_89 (dk_at dksJ8_hugeLength_0 11 rfl rfl)
theorem dJ8_hugeLength_12 : DC mJ8_hugeLength 12 = .ok (.new 89, 3) := dk_187 0 89 (dk_at dksJ8_hugeLength_0 12 rfl rfl)
theorem dJ8_hugeLength_15 : DC mJ8_hugeLength 15 = .ok (.dup, 1) := dk_89 (dk_at dksJ8_hugeLength_0 15 rfl rfl)
theorem dJ8_hugeLength_16 : DC mJ8_hugeLength 16 = .ok (.invokespecial 91, 3) := dk_183 0 91 (dk_at dksJ8_hugeLength_0 16 rfl rfl)
theorem dJ8_hugeLength_19 : DC mJ8_hugeLength 19 = .ok (.ldc 206, 2) := dk_18 206 (dk_at dksJ8_hugeLength_0 19 rfl rfl)
theorem dJ8_hugeLength_21 : DC mJ8_hugeLength 21 = .ok (.invokevirtual 94, 3) := dk_182 0 94 (dk_at dksJ8_hugeLength_0 21 rfl rfl)
theorem dJ8_hugeLength_24 : DC mJ8_hugeLength 24 = .ok (.iload_n 0, 1) := dk_26 (dk_at dksJ8_hugeLength_1 0 rfl rfl)
theorem dJ8_hugeLength_25 : DC mJ8_hugeLength 25 = .ok (.invokevirtual 98, 3) := dk_182 0 98 (dk_at dksJ8_hugeLength_1 1 rfl rfl)
theorem dJ8_hugeLength_28 : DC mJ8_hugeLength 28 = .ok (.ldc 208, 2) := dk_18 208 (dk_at dksJ8_hugeLength_1 4 rfl rfl)
theorem dJ8_hugeLength_30 : DC mJ8_hugeLength 30 = .ok (.invokevirtual 94, 3) := dk_182 0 94 (dk_at dksJ8_hugeLength_1 6 rfl rfl)
theorem dJ8_hugeLength_33 : DC mJ8_hugeLength 33 = .ok (.iload_n 1, 1) := dk_27 (dk_at dksJ8_hugeLength_1 9 rfl rfl)
theorem dJ8_hugeLength_34 : DC mJ8_hugeLength 34 = .ok (.invokevirtual 98, 3) := dk_182 0 98 (dk_at dksJ8_hugeLength_1 10 rfl rfl)
theorem dJ8_hugeLength_37 : DC mJ8_hugeLength 37 = .ok (.ldc 210, 2) := dk_18 210 (dk_at dksJ8_hugeLength_1 13 rfl rfl)
theorem dJ8_hugeLength_39 : DC mJ8_hugeLength 39 = .ok (.invokevirtual 94, 3) := dk_182 0 94 (dk_at dksJ8_hugeLength_1 15 rfl rfl)
theorem dJ8_hugeLength_42 : DC mJ8_hugeLength 42 = .ok (.invokevirtual 101, 3) := dk_182 0 101 (dk_at dksJ8_hugeLength_1 18 rfl rfl)
theorem dJ8_hugeLength_45 : DC mJ8_hugeLength 45 = .ok (.invokespecial 212, 3) := dk_183 0 212 (dk_at dksJ8_hugeLength_1 21 rfl rfl)
theorem dJ8_hugeLength_48 : DC mJ8_hugeLength 48 = .ok (.athrow, 1) := dk_191 (dk_at dksJ8_hugeLength_2 0 rfl rfl)
theorem dJ8_hugeLength_49 : DC mJ8_hugeLength 49 = .ok (.iload_n 2, 1) := dk_28 (dk_at dksJ8_hugeLength_2 1 rfl rfl)
theorem dJ8_hugeLength_50 : DC mJ8_hugeLength 50 = .ok (.ldc 200, 2) := dk_18 200 (dk_at dksJ8_hugeLength_2 2 rfl rfl)
theorem dJ8_hugeLength_52 : DC mJ8_hugeLength 52 = .ok (.if_icmp .gt 6, 3) := dk_163 0 6 (dk_at dksJ8_hugeLength_2 4 rfl rfl)
theorem dJ8_hugeLength_55 : DC mJ8_hugeLength 55 = .ok (.ldc 200, 2) := dk_18 200 (dk_at dksJ8_hugeLength_2 7 rfl rfl)
theorem dJ8_hugeLength_57 : DC mJ8_hugeLength 57 = .ok (.ireturn, 1) := dk_172 (dk_at dksJ8_hugeLength_2 9 rfl rfl)
theorem dJ8_hugeLength_58 : DC mJ8_hugeLength 58 = .ok (.iload_n 2, 1) := dk_28 (dk_at dksJ8_hugeLength_2 10 rfl rfl)
theorem dJ8_hugeLength_59 : DC mJ8_hugeLength 59 = .ok (.ireturn, 1) := dk_172 (dk_at dksJ8_hugeLength_2 11 rfl rfl)
abbrev cJ8_vectorizedHashCode : ByteArray := prog_69_method_4_code
def yJ8_vectorizedHashCode : MethodName := ⟨RJ8, "vectorizedHashCode", "(Ljava/lang/Object;IIII)I"⟩
def mJ8_vectorizedHashCode : MI := (⟨"jdk/internal/util/ArraysSupport", "vectorizedHashCode", "(Ljava/lang/Object;IIII)I"⟩, prog_69_method_4_code, 5, (Option.some FieldType.int), none, 8, 11)
theorem oJ8_vectorizedHashCode : mO mJ8_vectorizedHashCode = 8 := rfl
theorem lJ8_vectorizedHashCode : mL mJ8_vectorizedHashCode = 5 := rfl
theorem rJ8_vectorizedHashCode : mR mJ8_vectorizedHashCode = (Option.some FieldType.int) := rfl
theorem vJ8_vectorizedHashCode : mV mJ8_vectorizedHashCode = 11 := rfl
theorem nJ8_vectorizedHashCode : (mY mJ8_vectorizedHashCode).name = "vectorizedHashCode" := rfl
theorem hJ8_vectorizedHashCode : mH mJ8_vectorizedHashCode = none := rfl
theorem kJ8_vectorizedHashCode : MOk mJ8_vectorizedHashCode := ⟨q1264, q86, by decide +kernel⟩
theorem gJ8_vectorizedHashCode : plainName (mY mJ8_vectorizedHashCode).cls = true ∧ (mY mJ8_vectorizedHashCode).cls = "jdk/internal/util/ArraysSupport" := ⟨by decide +kernel, rfl⟩
def dkwJ8_vectorizedHashCode_6 : List UInt8 := [183, 0, 91, 18, 92, 182, 0, 94, 21, 4, 182, 0, 98, 182, 0, 101, 183, 0, 105, 191, 172]
abbrev dktJ8_vectorizedHashCode_6 : List UInt8 := dkwJ8_vectorizedHashCode_6 ++ []
def dkwJ8_vectorizedHashCode_5 : List UInt8 := [167, 0, 44, 29, 42, 192, 0, 82, 27, 28, 184, 0, 84, 167, 0, 31, 187, 0, 87, 89, 187, 0, 89, 89]
abbrev dktJ8_vectorizedHashCode_5 : List UInt8 := dkwJ8_vectorizedHashCode_5 ++ dktJ8_vectorizedHashCode_6
def dkwJ8_vectorizedHashCode_4 : List UInt8 := [29, 42, 192, 0, 60, 27, 28, 184, 0, 75, 167, 0, 57, 29, 42, 192, 0, 77, 27, 28, 184, 0, 79]
abbrev dktJ8_vectorizedHashCode_4 : List UInt8 := dkwJ8_vectorizedHashCode_4 ++ dktJ8_vectorizedHashCode_5
def dkwJ8_vectorizedHashCode_3 : List UInt8 := [192, 0, 60, 27, 28, 184, 0, 66, 167, 0, 83, 29, 42, 192, 0, 69, 27, 28, 184, 0, 71, 167, 0, 70]
abbrev dktJ8_vectorizedHashCode_3 : List UInt8 := dkwJ8_vectorizedHashCode_3 ++ dktJ8_vectorizedHashCode_4
def dkwJ8_vectorizedHashCode_2 : List UInt8 := [29, 42, 192, 0, 60, 27, 28, 184, 0, 62, 167, 0, 103, 42, 193, 0, 60, 153, 0, 16, 29, 42]
abbrev dktJ8_vectorizedHashCode_2 : List UInt8 := dkwJ8_vectorizedHashCode_2 ++ dktJ8_vectorizedHashCode_3
def dkwJ8_vectorizedHashCode_1 : List UInt8 := [170, 0, 0, 0, 0, 127, 0, 0, 0, 4, 0, 0, 0, 10, 0, 0, 0, 42, 0, 0, 0, 55, 0, 0, 0, 127, 0, 0, 0, 127, 0, 0, 0, 88, 0, 0, 0, 101, 0, 0, 0, 114]
abbrev dktJ8_vectorizedHashCode_1 : List UInt8 := dkwJ8_vectorizedHashCode_1 ++ dktJ8_vectorizedHashCode_2
def dkwJ8_vectorizedHashCode_0 : List UInt8 := [21, 4]
abbrev dktJ8_vectorizedHashCode_0 : List UInt8 := dkwJ8_vectorizedHashCode_0 ++ dktJ8_vectorizedHashCode_1
theorem dksJ8_vectorizedHashCode_0 : cJ8_vectorizedHashCode.data.toList.drop 0 = dktJ8_vectorizedHashCode_0 := by decide +kernel
theorem dksJ8_vectorizedHashCode_1 : cJ8_vectorizedHashCode.data.toList.drop 2 = dktJ8_vectorizedHashCode_1 := dk_seg dksJ8_vectorizedHashCode_0 2 rfl rfl
theorem dksJ8_vectorizedHashCode_2 : cJ8_vectorizedHashCode.data.toList.drop 44 = dktJ8_vectorizedHashCode_2 := dk_seg dksJ8_vectorizedHashCode_1 42 rfl rfl
theorem dksJ8_vectorizedHashCode_3 : cJ8_vectorizedHashCode.data.toList.drop 66 = dktJ8_vectorizedHashCode_3 := dk_seg dksJ8_vectorizedHashCode_2 22 rfl rfl
theorem dksJ8_vectorizedHashCode_4 : cJ8_vectorizedHashCode.data.toList.drop 90 = dktJ8_vectorizedHashCode_4 := dk_seg dksJ8_vectorizedHashCode_3 24 rfl rfl
theorem dksJ8_vectorizedHashCode_5 : cJ8_vectorizedHashCode.data.toList.drop 113 = dktJ8_vectorizedHashCode_5 := dk_seg dksJ8_vectorizedHashCode_4 23 rfl rfl
theorem dksJ8_vectorizedHashCode_6 : cJ8_vectorizedHashCode.data.toList.drop 137 = dktJ8_vectorizedHashCode_6 := dk_seg dksJ8_vectorizedHashCode_5 24 rfl rfl
theorem dJ8_vectorizedHashCode_0 : DC mJ8_vectorizedHashCode 0 = .ok (.iload 4, 2) := dk_21 4 (dk_at dksJ8_vectorizedHashCode_0 0 rfl rfl)
theorem dJ8_vectorizedHashCode_2 : DC mJ8_vectorizedHashCode 2 = .ok (.tableswitch 127 4 10 #[42, 55, 127, 127, 88, 101, 114], 42) := by decide +kernel
theorem dJ8_vectorizedHashCode_44 : DC mJ8_vectorizedHashCode 44 = .ok (.iload_n 3, 1) := dk_29 (dk_at dksJ8_vectorizedHashCode_2 0 rfl rfl)
theorem dJ8_vectorizedHashCode_45 : DC mJ8_vectorizedHashCode 45 = .ok (.aload_n 0, 1) := dk_42 (dk_at dksJ8_vectorizedHashCode_2 1 rfl rfl)
theorem dJ8_vectorizedHashCode_46 : DC mJ8_vectorizedHashCode 46 = .ok (.checkcast 60, 3) := dk_192 0 60 (dk_at dksJ8_vectorizedHashCode_2 2 rfl rfl)
theorem dJ8_vectorizedHashCode_49 : DC mJ8_vectorizedHashCode 49 = .ok (.iload_n 1, 1) := dk_27 (dk_at dksJ8_vectorizedHashCode_2 5 rfl rfl)
theorem dJ8_vectorizedHashCode_50 : DC mJ8_vectorizedHashCode 50 = .ok (.iload_n 2, 1) := dk_28 (dk_at dksJ8_vectorizedHashCode_2 6 rfl rfl)
theorem dJ8_vectorizedHashCode_51 : DC mJ8_vectorizedHashCode 51 = .ok (.invokestatic 62, 3) := dk_184 0 62 (dk_at dksJ8_vectorizedHashCode_2 7 rfl rfl)
theorem dJ8_vectorizedHashCode_54 : DC mJ8_vectorizedHashCode 54 = .ok (.goto 103, 3) := dk_167 0 103 (dk_at dksJ8_vectorizedHashCode_2 10 rfl rfl)
theorem dJ8_vectorizedHashCode_57 : DC mJ8_vectorizedHashCode 57 = .ok (.aload_n 0, 1) := dk_42 (dk_at dksJ8_vectorizedHashCode_2 13 rfl rfl)
theorem dJ8_vectorizedHashCode_58 : DC mJ8_vectorizedHashCode 58 = .ok (.instanceof 60, 3) := dk_193 0 60 (dk_at dksJ8_vectorizedHashCode_2 14 rfl rfl)
theorem dJ8_vectorizedHashCode_61 : DC mJ8_vectorizedHashCode 61 = .ok (.ifCond .eq 16, 3) := dk_153 0 16 (dk_at dksJ8_vectorizedHashCode_2 17 rfl rfl)
theorem dJ8_vectorizedHashCode_64 : DC mJ8_vectorizedHashCode 64 = .ok (.iload_n 3, 1) := dk_29 (dk_at dksJ8_vectorizedHashCode_2 20 rfl rfl)
theorem dJ8_vectorizedHashCode_65 : DC mJ8_vectorizedHashCode 65 = .ok (.aload_n 0, 1) := dk_42 (dk_at dksJ8_vectorizedHashCode_2 21 rfl rfl)
theorem dJ8_vectorizedHashCode_66 : DC mJ8_vectorizedHashCode 66 = .ok (.checkcast 60, 3) := dk_192 0 60 (dk_at dksJ8_vectorizedHashCode_3 0 rfl rfl)
theorem dJ8_vectorizedHashCode_69 : DC mJ8_vectorizedHashCode 69 = .ok (.iload_n 1, 1) := dk_27 (dk_at dksJ8_vectorizedHashCode_3 3 rfl rfl)
theorem dJ8_vectorizedHashCode_70 : DC mJ8_vectorizedHashCode 70 = .ok (.iload_n 2, 1) := dk_28 (dk_at dksJ8_vectorizedHashCode_3 4 rfl rfl)
theorem dJ8_vectorizedHashCode_71 : DC mJ8_vectorizedHashCode 71 = .ok (.invokestatic 66, 3) := dk_184 0 66 (dk_at dksJ8_vectorizedHashCode_3 5 rfl rfl)
theorem dJ8_vectorizedHashCode_74 : DC mJ8_vectorizedHashCode 74 = .ok (.goto 83, 3) := dk_167 0 83 (dk_at dksJ8_vectorizedHashCode_3 8 rfl rfl)
theorem dJ8_vectorizedHashCode_77 : DC mJ8_vectorizedHashCode 77 = .ok (.iload_n 3, 1) := dk_29 (dk_at dksJ8_vectorizedHashCode_3 11 rfl rfl)
theorem dJ8_vectorizedHashCode_78 : DC mJ8_vectorizedHashCode 78 = .ok (.aload_n 0, 1) := dk_42 (dk_at dksJ8_vectorizedHashCode_3 12 rfl rfl)
theorem dJ8_vectorizedHashCode_79 : DC mJ8_vectorizedHashCode 79 = .ok (.checkcast 69, 3) := dk_192 0 69 (dk_at dksJ8_vectorizedHashCode_3 13 rfl rfl)
theorem dJ8_vectorizedHashCode_82 : DC mJ8_vectorizedHashCode 82 = .ok (.iload_n 1, 1) := dk_27 (dk_at dksJ8_vectorizedHashCode_3 16 rfl rfl)
theorem dJ8_vectorizedHashCode_83 : DC mJ8_vectorizedHashCode 83 = .ok (.iload_n 2, 1) := dk_28 (dk_at dksJ8_vectorizedHashCode_3 17 rfl rfl)
theorem dJ8_vectorizedHashCode_84 : DC mJ8_vectorizedHashCode 84 = .ok (.invokestatic 71, 3) := dk_184 0 71 (dk_at dksJ8_vectorizedHashCode_3 18 rfl rfl)
theorem dJ8_vectorizedHashCode_87 : DC mJ8_vectorizedHashCode 87 = .ok (.goto 70, 3) := dk_167 0 70 (dk_at dksJ8_vectorizedHashCode_3 21 rfl rfl)
theorem dJ8_vectorizedHashCode_90 : DC mJ8_vectorizedHashCode 90 = .ok (.iload_n 3, 1) := dk_29 (dk_at dksJ8_vectorizedHashCode_4 0 rfl rfl)
theorem dJ8_vectorizedHashCode_91 : DC mJ8_vectorizedHashCode 91 = .ok (.aload_n 0, 1) := dk_42 (dk_at dksJ8_vectorizedHashCode_4 1 rfl rfl)
theorem dJ8_vectorizedHashCode_92 : DC mJ8_vectorizedHashCode 92 = .ok (.checkcast 60, 3) := dk_192 0 60 (dk_at dksJ8_vectorizedHashCode_4 2 rfl rfl)
theorem dJ8_vectorizedHashCode_95 : DC mJ8_vectorizedHashCode 95 = .ok (.iload_n 1, 1) := dk_27 (dk_at dksJ8_vectorizedHashCode_4 5 rfl rfl)
theorem dJ8_vectorizedHashCode_96 : DC mJ8_vectorizedHashCode 96 = .ok (.iload_n 2, 1) := dk_28 (dk_at dksJ8_vectorizedHashCode_4 6 rfl rfl)
theorem dJ8_vectorizedHashCode_97 : DC mJ8_vectorizedHashCode 97 = .ok (.invokestatic 75, 3) := dk_184 0 75 (dk_at dksJ8_vectorizedHashCode_4 7 rfl rfl)
theorem dJ8_vectorizedHashCode_100 : DC mJ8_vectorizedHashCode 100 = .ok (.goto 57, 3) := dk_167 0 57 (dk_at dksJ8_vectorizedHashCode_4 10 rfl rfl)
theorem dJ8_vectorizedHashCode_103 : DC mJ8_vectorizedHashCode 103 = .ok (.iload_n 3, 1) := dk_29 (dk_at dksJ8_vectorizedHashCode_4 13 rfl rfl)
theorem dJ8_vectorizedHashCode_104 : DC mJ8_vectorizedHashCode 104 = .ok (.aload_n 0, 1) := dk_42 (dk_at dksJ8_vectorizedHashCode_4 14 rfl rfl)
theorem dJ8_vectorizedHashCode_105 : DC mJ8_vectorizedHashCode 105 = .ok (.checkcast 77, 3) := dk_192 0 77 (dk_at dksJ8_vectorizedHashCode_4 15 rfl rfl)
theorem dJ8_vectorizedHashCode_108 : DC mJ8_vectorizedHashCode 108 = .ok (.iload_n 1, 1) := dk_27 (dk_at dksJ8_vectorizedHashCode_4 18 rfl rfl)
theorem dJ8_vectorizedHashCode_109 : DC mJ8_vectorizedHashCode 109 = .ok (.iload_n 2, 1) := dk_28 (dk_at dksJ8_vectorizedHashCode_4 19 rfl rfl)
theorem dJ8_vectorizedHashCode_110 : DC mJ8_vectorizedHashCode 110 = .ok (.invokestatic 79, 3) := dk_184 0 79 (dk_at dksJ8_vectorizedHashCode_4 20 rfl rfl)
theorem dJ8_vectorizedHashCode_113 : DC mJ8_vectorizedHashCode 113 = .ok (.goto 44, 3) := dk_167 0 44 (dk_at dksJ8_vectorizedHashCode_5 0 rfl rfl)
theorem dJ8_vectorizedHashCode_116 : DC mJ8_vectorizedHashCode 116 = .ok (.iload_n 3, 1) := dk_29 (dk_at dksJ8_vectorizedHashCode_5 3 rfl rfl)
theorem dJ8_vectorizedHashCode_117 : DC mJ8_vectorizedHashCode 117 = .ok (.aload_n 0, 1) := dk_42 (dk_at dksJ8_vectorizedHashCode_5 4 rfl rfl)
theorem dJ8_vectorizedHashCode_118 : DC mJ8_vectorizedHashCode 118 = .ok (.checkcast 82, 3) := dk_192 0 82 (dk_at dksJ8_vectorizedHashCode_5 5 rfl rfl)
theorem dJ8_vectorizedHashCode_121 : DC mJ8_vectorizedHashCode 121 = .ok (.iload_n 1, 1) := dk_27 (dk_at dksJ8_vectorizedHashCode_5 8 rfl rfl)
theorem dJ8_vectorizedHashCode_122 : DC mJ8_vectorizedHashCode 122 = .ok (.iload_n 2, 1) := dk_28 (dk_at dksJ8_vectorizedHashCode_5 9 rfl rfl)
theorem dJ8_vectorizedHashCode_123 : DC mJ8_vectorizedHashCode 123 = .ok (.invokestatic 84, 3) := dk_184 0 84 (dk_at dksJ8_vectorizedHashCode_5 10 rfl rfl)
theorem dJ8_vectorizedHashCode_126 : DC mJ8_vectorizedHashCode 126 = .ok (.goto 31, 3) := dk_167 0 31 (dk_at dksJ8_vectorizedHashCode_5 13 rfl rfl)
theorem dJ8_vectorizedHashCode_129 : DC mJ8_vectorizedHashCode 129 = .ok (.new 87, 3) := dk_187 0 87 (dk_at dksJ8_vectorizedHashCode_5 16 rfl rfl)
theorem dJ8_vectorizedHashCode_132 : DC mJ8_vectorizedHashCode 132 = .ok (.dup, 1) := dk_89 (dk_at dksJ8_vectorizedHashCode_5 19 rfl rfl)
theorem dJ8_vectorizedHashCode_133 : DC mJ8_vectorizedHashCode 133 = .ok (.new 89, 3) := dk_187 0 89 (dk_at dksJ8_vectorizedHashCode_5 20 rfl rfl)
theorem dJ8_vectorizedHashCode_136 : DC mJ8_vectorizedHashCode 136 = .ok (.dup, 1) := dk_89 (dk_at dksJ8_vectorizedHashCode_5 23 rfl rfl)
theorem dJ8_vectorizedHashCode_137 : DC mJ8_vectorizedHashCode 137 = .ok (.invokespecial 91, 3) := dk_183 0 91 (dk_at dksJ8_vectorizedHashCode_6 0 rfl rfl)
theorem dJ8_vectorizedHashCode_140 : DC mJ8_vectorizedHashCode 140 = .ok (.ldc 92, 2) := dk_18 92 (dk_at dksJ8_vectorizedHashCode_6 3 rfl rfl)
theorem dJ8_vectorizedHashCode_142 : DC mJ8_vectorizedHashCode 142 = .ok (.invokevirtual 94, 3) := dk_182 0 94 (dk_at dksJ8_vectorizedHashCode_6 5 rfl rfl)
theorem dJ8_vectorizedHashCode_145 : DC mJ8_vectorizedHashCode 145 = .ok (.iload 4, 2) := dk_21 4 (dk_at dksJ8_vectorizedHashCode_6 8 rfl rfl)
theorem dJ8_vectorizedHashCode_147 : DC mJ8_vectorizedHashCode 147 = .ok (.invokevirtual 98, 3) := dk_182 0 98 (dk_at dksJ8_vectorizedHashCode_6 10 rfl rfl)
theorem dJ8_vectorizedHashCode_150 : DC mJ8_vectorizedHashCode 150 = .ok (.invokevirtual 101, 3) := dk_182 0 101 (dk_at dksJ8_vectorizedHashCode_6 13 rfl rfl)
theorem dJ8_vectorizedHashCode_153 : DC mJ8_vectorizedHashCode 153 = .ok (.invokespecial 105, 3) := dk_183 0 105 (dk_at dksJ8_vectorizedHashCode_6 16 rfl rfl)
theorem dJ8_vectorizedHashCode_156 : DC mJ8_vectorizedHashCode 156 = .ok (.athrow, 1) := dk_191 (dk_at dksJ8_vectorizedHashCode_6 19 rfl rfl)
theorem dJ8_vectorizedHashCode_157 : DC mJ8_vectorizedHashCode 157 = .ok (.ireturn, 1) := dk_172 (dk_at dksJ8_vectorizedHashCode_6 20 rfl rfl)
abbrev cJ8_signedHashCode : ByteArray := prog_69_method_5_code
def yJ8_signedHashCode : MethodName := ⟨RJ8, "signedHashCode", "(I[BII)I"⟩
def mJ8_signedHashCode : MI := (⟨"jdk/internal/util/ArraysSupport", "signedHashCode", "(I[BII)I"⟩, prog_69_method_5_code, 6, (Option.some FieldType.int), none, 8, 1)
theorem oJ8_signedHashCode : mO mJ8_signedHashCode = 8 := rfl
theorem lJ8_signedHashCode : mL mJ8_signedHashCode = 6 := rfl
theorem rJ8_signedHashCode : mR mJ8_signedHashCode = (Option.some FieldType.int) := rfl
theorem vJ8_signedHashCode : mV mJ8_signedHashCode = 1 := rfl
theorem nJ8_signedHashCode : (mY mJ8_signedHashCode).name = "signedHashCode" := rfl
theorem hJ8_signedHashCode : mH mJ8_signedHashCode = none := rfl
theorem kJ8_signedHashCode : MOk mJ8_signedHashCode := ⟨q1268, q86, by decide +kernel⟩
theorem gJ8_signedHashCode : plainName (mY mJ8_signedHashCode).cls = true ∧ (mY mJ8_signedHashCode).cls = "jdk/internal/util/ArraysSupport" := ⟨by decide +kernel, rfl⟩
def dkwJ8_signedHashCode_1 : List UInt8 := [17, 0, 255, 126, 96, 59, 132, 5, 1, 167, 255, 232, 26, 172]
abbrev dktJ8_signedHashCode_1 : List UInt8 := dkwJ8_signedHashCode_1 ++ []
def dkwJ8_signedHashCode_0 : List UInt8 := [28, 29, 96, 54, 4, 28, 54, 5, 21, 5, 21, 4, 162, 0, 23, 16, 31, 26, 104, 43, 21, 5, 51]
abbrev dktJ8_signedHashCode_0 : List UInt8 := dkwJ8_signedHashCode_0 ++ dktJ8_signedHashCode_1
theorem dksJ8_signedHashCode_0 : cJ8_signedHashCode.data.toList.drop 0 = dktJ8_signedHashCode_0 := by decide +kernel
theorem dksJ8_signedHashCode_1 : cJ8_signedHashCode.data.toList.drop 23 = dktJ8_signedHashCode_1 := dk_seg dksJ8_signedHashCode_0 23 rfl rfl
theorem dJ8_signedHashCode_0 : DC mJ8_signedHashCode 0 = .ok (.iload_n 2, 1) := dk_28 (dk_at dksJ8_signedHashCode_0 0 rfl rfl)
theorem dJ8_signedHashCode_1 : DC mJ8_signedHashCode 1 = .ok (.iload_n 3, 1) := dk_29 (dk_at dksJ8_signedHashCode_0 1 rfl rfl)
theorem dJ8_signedHashCode_2 : DC mJ8_signedHashCode 2 = .ok (.iadd, 1) := dk_96 (dk_at dksJ8_signedHashCode_0 2 rfl rfl)
theorem dJ8_signedHashCode_3 : DC mJ8_signedHashCode 3 = .ok (.istore 4, 2) := dk_54 4 (dk_at dksJ8_signedHashCode_0 3 rfl rfl)
theorem dJ8_signedHashCode_5 : DC mJ8_signedHashCode 5 = .ok (.iload_n 2, 1) := dk_28 (dk_at dksJ8_signedHashCode_0 5 rfl rfl)
theorem dJ8_signedHashCode_6 : DC mJ8_signedHashCode 6 = .ok (.istore 5, 2) := dk_54 5 (dk_at dksJ8_signedHashCode_0 6 rfl rfl)
theorem dJ8_signedHashCode_8 : DC mJ8_signedHashCode 8 = .ok (.iload 5, 2) := dk_21 5 (dk_at dksJ8_signedHashCode_0 8 rfl rfl)
theorem dJ8_signedHashCode_10 : DC mJ8_signedHashCode 10 = .ok (.iload 4, 2) := dk_21 4 (dk_at dksJ8_signedHashCode_0 10 rfl rfl)
theorem dJ8_signedHashCode_12 : DC mJ8_signedHashCode 12 = .ok (.if_icmp .ge 23, 3) := dk_162 0 23 (dk_at dksJ8_signedHashCode_0 12 rfl rfl)
theorem dJ8_signedHashCode_15 : DC mJ8_signedHashCode 15 = .ok (.bipush 31, 2) := dk_16 31 (dk_at dksJ8_signedHashCode_0 15 rfl rfl)
theorem dJ8_signedHashCode_17 : DC mJ8_signedHashCode 17 = .ok (.iload_n 0, 1) := dk_26 (dk_at dksJ8_signedHashCode_0 17 rfl rfl)
theorem dJ8_signedHashCode_18 : DC mJ8_signedHashCode 18 = .ok (.imul, 1) := dk_104 (dk_at dksJ8_signedHashCode_0 18 rfl rfl)
theorem dJ8_signedHashCode_19 : DC mJ8_signedHashCode 19 = .ok (.aload_n 1, 1) := dk_43 (dk_at dksJ8_signedHashCode_0 19 rfl rfl)
theorem dJ8_signedHashCode_20 : DC mJ8_signedHashCode 20 = .ok (.iload 5, 2) := dk_21 5 (dk_at dksJ8_signedHashCode_0 20 rfl rfl)
theorem dJ8_signedHashCode_22 : DC mJ8_signedHashCode 22 = .ok (.baload, 1) := dk_51 (dk_at dksJ8_signedHashCode_0 22 rfl rfl)
theorem dJ8_signedHashCode_23 : DC mJ8_signedHashCode 23 = .ok (.sipush 255, 3) := dk_17 0 255 (dk_at dksJ8_signedHashCode_1 0 rfl rfl)
theorem dJ8_signedHashCode_26 : DC mJ8_signedHashCode 26 = .ok (.iand, 1) := dk_126 (dk_at dksJ8_signedHashCode_1 3 rfl rfl)
theorem dJ8_signedHashCode_27 : DC mJ8_signedHashCode 27 = .ok (.iadd, 1) := dk_96 (dk_at dksJ8_signedHashCode_1 4 rfl rfl)
theorem dJ8_signedHashCode_28 : DC mJ8_signedHashCode 28 = .ok (.istore_n 0, 1) := dk_59 (dk_at dksJ8_signedHashCode_1 5 rfl rfl)
theorem dJ8_signedHashCode_29 : DC mJ8_signedHashCode 29 = .ok (.iinc 5 1, 3) := dk_132 5 1 (dk_at dksJ8_signedHashCode_1 6 rfl rfl)
theorem dJ8_signedHashCode_32 : DC mJ8_signedHashCode 32 = .ok (.goto (-24), 3) := dk_167 255 232 (dk_at dksJ8_signedHashCode_1 9 rfl rfl)
theorem dJ8_signedHashCode_35 : DC mJ8_signedHashCode 35 = .ok (.iload_n 0, 1) := dk_26 (dk_at dksJ8_signedHashCode_1 12 rfl rfl)
theorem dJ8_signedHashCode_36 : DC mJ8_signedHashCode 36 = .ok (.ireturn, 1) := dk_172 (dk_at dksJ8_signedHashCode_1 13 rfl rfl)
abbrev cJ8_utf16hashCode : ByteArray := prog_69_method_10_code
def yJ8_utf16hashCode : MethodName := ⟨RJ8, "utf16hashCode", "(I[BII)I"⟩
def mJ8_utf16hashCode : MI := (⟨"jdk/internal/util/ArraysSupport", "utf16hashCode", "(I[BII)I"⟩, prog_69_method_10_code, 6, (Option.some FieldType.int), none, 8, 4)
theorem oJ8_utf16hashCode : mO mJ8_utf16hashCode = 8 := rfl
theorem lJ8_utf16hashCode : mL mJ8_utf16hashCode = 6 := rfl
theorem rJ8_utf16hashCode : mR mJ8_utf16hashCode = (Option.some FieldType.int) := rfl
theorem vJ8_utf16hashCode : mV mJ8_utf16hashCode = 4 := rfl
theorem nJ8_utf16hashCode : (mY mJ8_utf16hashCode).name = "utf16hashCode" := rfl
theorem hJ8_utf16hashCode : mH mJ8_utf16hashCode = none := rfl
theorem kJ8_utf16hashCode : MOk mJ8_utf16hashCode := ⟨q1271, q86, by decide +kernel⟩
theorem gJ8_utf16hashCode : plainName (mY mJ8_utf16hashCode).cls = true ∧ (mY mJ8_utf16hashCode).cls = "jdk/internal/util/ArraysSupport" := ⟨by decide +kernel, rfl⟩
def dkwJ8_utf16hashCode_1 : List UInt8 := [21, 5, 185, 0, 110, 3, 0, 96, 59, 132, 5, 1, 167, 255, 229, 26, 172]
abbrev dktJ8_utf16hashCode_1 : List UInt8 := dkwJ8_utf16hashCode_1 ++ []
def dkwJ8_utf16hashCode_0 : List UInt8 := [28, 29, 96, 54, 4, 28, 54, 5, 21, 5, 21, 4, 162, 0, 26, 16, 31, 26, 104, 178, 0, 106, 43]
abbrev dktJ8_utf16hashCode_0 : List UInt8 := dkwJ8_utf16hashCode_0 ++ dktJ8_utf16hashCode_1
theorem dksJ8_utf16hashCode_0 : cJ8_utf16hashCode.data.toList.drop 0 = dktJ8_utf16hashCode_0 := by decide +kernel
theorem dksJ8_utf16hashCode_1 : cJ8_utf16hashCode.data.toList.drop 23 = dktJ8_utf16hashCode_1 := dk_seg dksJ8_utf16hashCode_0 23 rfl rfl
theorem dJ8_utf16hashCode_0 : DC mJ8_utf16hashCode 0 = .ok (.iload_n 2, 1) := dk_28 (dk_at dksJ8_utf16hashCode_0 0 rfl rfl)
theorem dJ8_utf16hashCode_1 : DC mJ8_utf16hashCode 1 = .ok (.iload_n 3, 1) := dk_29 (dk_at dksJ8_utf16hashCode_0 1 rfl rfl)
theorem dJ8_utf16hashCode_2 : DC mJ8_utf16hashCode 2 = .ok (.iadd, 1) := dk_96 (dk_at dksJ8_utf16hashCode_0 2 rfl rfl)
theorem dJ8_utf16hashCode_3 : DC mJ8_utf16hashCode 3 = .ok (.istore 4, 2) := dk_54 4 (dk_at dksJ8_utf16hashCode_0 3 rfl rfl)
theorem dJ8_utf16hashCode_5 : DC mJ8_utf16hashCode 5 = .ok (.iload_n 2, 1) := dk_28 (dk_at dksJ8_utf16hashCode_0 5 rfl rfl)
theorem dJ8_utf16hashCode_6 : DC mJ8_utf16hashCode 6 = .ok (.istore 5, 2) := dk_54 5 (dk_at dksJ8_utf16hashCode_0 6 rfl rfl)
theorem dJ8_utf16hashCode_8 : DC mJ8_utf16hashCode 8 = .ok (.iload 5, 2) := dk_21 5 (dk_at dksJ8_utf16hashCode_0 8 rfl rfl)
theorem dJ8_utf16hashCode_10 : DC mJ8_utf16hashCode 10 = .ok (.iload 4, 2) := dk_21 4 (dk_at dksJ8_utf16hashCode_0 10 rfl rfl)
theorem dJ8_utf16hashCode_12 : DC mJ8_utf16hashCode 12 = .ok (.if_icmp .ge 26, 3) := dk_162 0 26 (dk_at dksJ8_utf16hashCode_0 12 rfl rfl)
theorem dJ8_utf16hashCode_15 : DC mJ8_utf16hashCode 15 = .ok (.bipush 31, 2) := dk_16 31 (dk_at dksJ8_utf16hashCode_0 15 rfl rfl)
theorem dJ8_utf16hashCode_17 : DC mJ8_utf16hashCode 17 = .ok (.iload_n 0, 1) := dk_26 (dk_at dksJ8_utf16hashCode_0 17 rfl rfl)
theorem dJ8_utf16hashCode_18 : DC mJ8_utf16hashCode 18 = .ok (.imul, 1) := dk_104 (dk_at dksJ8_utf16hashCode_0 18 rfl rfl)
theorem dJ8_utf16hashCode_19 : DC mJ8_utf16hashCode 19 = .ok (.getstatic 106, 3) := dk_178 0 106 (dk_at dksJ8_utf16hashCode_0 19 rfl rfl)
theorem dJ8_utf16hashCode_22 : DC mJ8_utf16hashCode 22 = .ok (.aload_n 1, 1) := dk_43 (dk_at dksJ8_utf16hashCode_0 22 rfl rfl)
theorem dJ8_utf16hashCode_23 : DC mJ8_utf16hashCode 23 = .ok (.iload 5, 2) := dk_21 5 (dk_at dksJ8_utf16hashCode_1 0 rfl rfl)
theorem dJ8_utf16hashCode_25 : DC mJ8_utf16hashCode 25 = .ok (.invokeinterface 110 3, 5) := by decide +kernel
theorem dJ8_utf16hashCode_30 : DC mJ8_utf16hashCode 30 = .ok (.iadd, 1) := dk_96 (dk_at dksJ8_utf16hashCode_1 7 rfl rfl)
theorem dJ8_utf16hashCode_31 : DC mJ8_utf16hashCode 31 = .ok (.istore_n 0, 1) := dk_59 (dk_at dksJ8_utf16hashCode_1 8 rfl rfl)
theorem dJ8_utf16hashCode_32 : DC mJ8_utf16hashCode 32 = .ok (.iinc 5 1, 3) := dk_132 5 1 (dk_at dksJ8_utf16hashCode_1 9 rfl rfl)
theorem dJ8_utf16hashCode_35 : DC mJ8_utf16hashCode 35 = .ok (.goto (-27), 3) := dk_167 255 229 (dk_at dksJ8_utf16hashCode_1 12 rfl rfl)
theorem dJ8_utf16hashCode_38 : DC mJ8_utf16hashCode 38 = .ok (.iload_n 0, 1) := dk_26 (dk_at dksJ8_utf16hashCode_1 15 rfl rfl)
theorem dJ8_utf16hashCode_39 : DC mJ8_utf16hashCode 39 = .ok (.ireturn, 1) := dk_172 (dk_at dksJ8_utf16hashCode_1 16 rfl rfl)
abbrev cJ8_hashCode : ByteArray := prog_69_method_7_code
def yJ8_hashCode : MethodName := ⟨RJ8, "hashCode", "(I[CII)I"⟩
def mJ8_hashCode : MI := (⟨"jdk/internal/util/ArraysSupport", "hashCode", "(I[CII)I"⟩, prog_69_method_7_code, 6, (Option.some FieldType.int), none, 8, 1)
theorem oJ8_hashCode : mO mJ8_hashCode = 8 := rfl
theorem lJ8_hashCode : mL mJ8_hashCode = 6 := rfl
theorem rJ8_hashCode : mR mJ8_hashCode = (Option.some FieldType.int) := rfl
theorem vJ8_hashCode : mV mJ8_hashCode = 1 := rfl
theorem nJ8_hashCode : (mY mJ8_hashCode).name = "hashCode" := rfl
theorem hJ8_hashCode : mH mJ8_hashCode = none := rfl
theorem kJ8_hashCode : MOk mJ8_hashCode := ⟨q1288, q86, by decide +kernel⟩
theorem gJ8_hashCode : plainName (mY mJ8_hashCode).cls = true ∧ (mY mJ8_hashCode).cls = "jdk/internal/util/ArraysSupport" := ⟨by decide +kernel, rfl⟩
def dkwJ8_hashCode_1 : List UInt8 := [59, 132, 5, 1, 167, 255, 236, 26, 172]
abbrev dktJ8_hashCode_1 : List UInt8 := dkwJ8_hashCode_1 ++ []
def dkwJ8_hashCode_0 : List UInt8 := [28, 29, 96, 54, 4, 28, 54, 5, 21, 5, 21, 4, 162, 0, 19, 16, 31, 26, 104, 43, 21, 5, 52, 96]
abbrev dktJ8_hashCode_0 : List UInt8 := dkwJ8_hashCode_0 ++ dktJ8_hashCode_1
theorem dksJ8_hashCode_0 : cJ8_hashCode.data.toList.drop 0 = dktJ8_hashCode_0 := by decide +kernel
theorem dksJ8_hashCode_1 : cJ8_hashCode.data.toList.drop 24 = dktJ8_hashCode_1 := dk_seg dksJ8_hashCode_0 24 rfl rfl
theorem dJ8_hashCode_0 : DC mJ8_hashCode 0 = .ok (.iload_n 2, 1) := dk_28 (dk_at dksJ8_hashCode_0 0 rfl rfl)
theorem dJ8_hashCode_1 : DC mJ8_hashCode 1 = .ok (.iload_n 3, 1) := dk_29 (dk_at dksJ8_hashCode_0 1 rfl rfl)
theorem dJ8_hashCode_2 : DC mJ8_hashCode 2 = .ok (.iadd, 1) := dk_96 (dk_at dksJ8_hashCode_0 2 rfl rfl)
theorem dJ8_hashCode_3 : DC mJ8_hashCode 3 = .ok (.istore 4, 2) := dk_54 4 (dk_at dksJ8_hashCode_0 3 rfl rfl)
theorem dJ8_hashCode_5 : DC mJ8_hashCode 5 = .ok (.iload_n 2, 1) := dk_28 (dk_at dksJ8_hashCode_0 5 rfl rfl)
theorem dJ8_hashCode_6 : DC mJ8_hashCode 6 = .ok (.istore 5, 2) := dk_54 5 (dk_at dksJ8_hashCode_0 6 rfl rfl)
theorem dJ8_hashCode_8 : DC mJ8_hashCode 8 = .ok (.iload 5, 2) := dk_21 5 (dk_at dksJ8_hashCode_0 8 rfl rfl)
theorem dJ8_hashCode_10 : DC mJ8_hashCode 10 = .ok (.iload 4, 2) := dk_21 4 (dk_at dksJ8_hashCode_0 10 rfl rfl)
theorem dJ8_hashCode_12 : DC mJ8_hashCode 12 = .ok (.if_icmp .ge 19, 3) := dk_162 0 19 (dk_at dksJ8_hashCode_0 12 rfl rfl)
theorem dJ8_hashCode_15 : DC mJ8_hashCode 15 = .ok (.bipush 31, 2) := dk_16 31 (dk_at dksJ8_hashCode_0 15 rfl rfl)
theorem dJ8_hashCode_17 : DC mJ8_hashCode 17 = .ok (.iload_n 0, 1) := dk_26 (dk_at dksJ8_hashCode_0 17 rfl rfl)
theorem dJ8_hashCode_18 : DC mJ8_hashCode 18 = .ok (.imul, 1) := dk_104 (dk_at dksJ8_hashCode_0 18 rfl rfl)
theorem dJ8_hashCode_19 : DC mJ8_hashCode 19 = .ok (.aload_n 1, 1) := dk_43 (dk_at dksJ8_hashCode_0 19 rfl rfl)
theorem dJ8_hashCode_20 : DC mJ8_hashCode 20 = .ok (.iload 5, 2) := dk_21 5 (dk_at dksJ8_hashCode_0 20 rfl rfl)
theorem dJ8_hashCode_22 : DC mJ8_hashCode 22 = .ok (.caload, 1) := dk_52 (dk_at dksJ8_hashCode_0 22 rfl rfl)
theorem dJ8_hashCode_23 : DC mJ8_hashCode 23 = .ok (.iadd, 1) := dk_96 (dk_at dksJ8_hashCode_0 23 rfl rfl)
theorem dJ8_hashCode_24 : DC mJ8_hashCode 24 = .ok (.istore_n 0, 1) := dk_59 (dk_at dksJ8_hashCode_1 0 rfl rfl)
theorem dJ8_hashCode_25 : DC mJ8_hashCode 25 = .ok (.iinc 5 1, 3) := dk_132 5 1 (dk_at dksJ8_hashCode_1 1 rfl rfl)
theorem dJ8_hashCode_28 : DC mJ8_hashCode 28 = .ok (.goto (-20), 3) := dk_167 255 236 (dk_at dksJ8_hashCode_1 4 rfl rfl)
theorem dJ8_hashCode_31 : DC mJ8_hashCode 31 = .ok (.iload_n 0, 1) := dk_26 (dk_at dksJ8_hashCode_1 7 rfl rfl)
theorem dJ8_hashCode_32 : DC mJ8_hashCode 32 = .ok (.ireturn, 1) := dk_172 (dk_at dksJ8_hashCode_1 8 rfl rfl)
abbrev cJ8_hashCode_2 : ByteArray := prog_69_method_6_code
def yJ8_hashCode_2 : MethodName := ⟨RJ8, "hashCode", "(I[BII)I"⟩
def mJ8_hashCode_2 : MI := (⟨"jdk/internal/util/ArraysSupport", "hashCode", "(I[BII)I"⟩, prog_69_method_6_code, 6, (Option.some FieldType.int), none, 8, 1)
theorem oJ8_hashCode_2 : mO mJ8_hashCode_2 = 8 := rfl
theorem lJ8_hashCode_2 : mL mJ8_hashCode_2 = 6 := rfl
theorem rJ8_hashCode_2 : mR mJ8_hashCode_2 = (Option.some FieldType.int) := rfl
theorem vJ8_hashCode_2 : mV mJ8_hashCode_2 = 1 := rfl
theorem nJ8_hashCode_2 : (mY mJ8_hashCode_2).name = "hashCode" := rfl
theorem hJ8_hashCode_2 : mH mJ8_hashCode_2 = none := rfl
theorem kJ8_hashCode_2 : MOk mJ8_hashCode_2 := ⟨q1291, q86, by decide +kernel⟩
theorem gJ8_hashCode_2 : plainName (mY mJ8_hashCode_2).cls = true ∧ (mY mJ8_hashCode_2).cls = "jdk/internal/util/ArraysSupport" := ⟨by decide +kernel, rfl⟩
def dkwJ8_hashCode_2_1 : List UInt8 := [59, 132, 5, 1, 167, 255, 236, 26, 172]
abbrev dktJ8_hashCode_2_1 : List UInt8 := dkwJ8_hashCode_2_1 ++ []
def dkwJ8_hashCode_2_0 : List UInt8 := [28, 29, 96, 54, 4, 28, 54, 5, 21, 5, 21, 4, 162, 0, 19, 16, 31, 26, 104, 43, 21, 5, 51, 96]
abbrev dktJ8_hashCode_2_0 : List UInt8 := dkwJ8_hashCode_2_0 ++ dktJ8_hashCode_2_1
theorem dksJ8_hashCode_2_0 : cJ8_hashCode_2.data.toList.drop 0 = dktJ8_hashCode_2_0 := by decide +kernel
theorem dksJ8_hashCode_2_1 : cJ8_hashCode_2.data.toList.drop 24 = dktJ8_hashCode_2_1 := dk_seg dksJ8_hashCode_2_0 24 rfl rfl
theorem dJ8_hashCode_2_0 : DC mJ8_hashCode_2 0 = .ok (.iload_n 2, 1) := dk_28 (dk_at dksJ8_hashCode_2_0 0 rfl rfl)
theorem dJ8_hashCode_2_1 : DC mJ8_hashCode_2 1 = .ok (.iload_n 3, 1) := dk_29 (dk_at dksJ8_hashCode_2_0 1 rfl rfl)
theorem dJ8_hashCode_2_2 : DC mJ8_hashCode_2 2 = .ok (.iadd, 1) := dk_96 (dk_at dksJ8_hashCode_2_0 2 rfl rfl)
theorem dJ8_hashCode_2_3 : DC mJ8_hashCode_2 3 = .ok (.istore 4, 2) := dk_54 4 (dk_at dksJ8_hashCode_2_0 3 rfl rfl)
theorem dJ8_hashCode_2_5 : DC mJ8_hashCode_2 5 = .ok (.iload_n 2, 1) := dk_28 (dk_at dksJ8_hashCode_2_0 5 rfl rfl)
theorem dJ8_hashCode_2_6 : DC mJ8_hashCode_2 6 = .ok (.istore 5, 2) := dk_54 5 (dk_at dksJ8_hashCode_2_0 6 rfl rfl)
theorem dJ8_hashCode_2_8 : DC mJ8_hashCode_2 8 = .ok (.iload 5, 2) := dk_21 5 (dk_at dksJ8_hashCode_2_0 8 rfl rfl)
theorem dJ8_hashCode_2_10 : DC mJ8_hashCode_2 10 = .ok (.iload 4, 2) := dk_21 4 (dk_at dksJ8_hashCode_2_0 10 rfl rfl)
theorem dJ8_hashCode_2_12 : DC mJ8_hashCode_2 12 = .ok (.if_icmp .ge 19, 3) := dk_162 0 19 (dk_at dksJ8_hashCode_2_0 12 rfl rfl)
theorem dJ8_hashCode_2_15 : DC mJ8_hashCode_2 15 = .ok (.bipush 31, 2) := dk_16 31 (dk_at dksJ8_hashCode_2_0 15 rfl rfl)
theorem dJ8_hashCode_2_17 : DC mJ8_hashCode_2 17 = .ok (.iload_n 0, 1) := dk_26 (dk_at dksJ8_hashCode_2_0 17 rfl rfl)
theorem dJ8_hashCode_2_18 : DC mJ8_hashCode_2 18 = .ok (.imul, 1) := dk_104 (dk_at dksJ8_hashCode_2_0 18 rfl rfl)
theorem dJ8_hashCode_2_19 : DC mJ8_hashCode_2 19 = .ok (.aload_n 1, 1) := dk_43 (dk_at dksJ8_hashCode_2_0 19 rfl rfl)
theorem dJ8_hashCode_2_20 : DC mJ8_hashCode_2 20 = .ok (.iload 5, 2) := dk_21 5 (dk_at dksJ8_hashCode_2_0 20 rfl rfl)
theorem dJ8_hashCode_2_22 : DC mJ8_hashCode_2 22 = .ok (.baload, 1) := dk_51 (dk_at dksJ8_hashCode_2_0 22 rfl rfl)
theorem dJ8_hashCode_2_23 : DC mJ8_hashCode_2 23 = .ok (.iadd, 1) := dk_96 (dk_at dksJ8_hashCode_2_0 23 rfl rfl)
theorem dJ8_hashCode_2_24 : DC mJ8_hashCode_2 24 = .ok (.istore_n 0, 1) := dk_59 (dk_at dksJ8_hashCode_2_1 0 rfl rfl)
theorem dJ8_hashCode_2_25 : DC mJ8_hashCode_2 25 = .ok (.iinc 5 1, 3) := dk_132 5 1 (dk_at dksJ8_hashCode_2_1 1 rfl rfl)
theorem dJ8_hashCode_2_28 : DC mJ8_hashCode_2 28 = .ok (.goto (-20), 3) := dk_167 255 236 (dk_at dksJ8_hashCode_2_1 4 rfl rfl)
theorem dJ8_hashCode_2_31 : DC mJ8_hashCode_2 31 = .ok (.iload_n 0, 1) := dk_26 (dk_at dksJ8_hashCode_2_1 7 rfl rfl)
theorem dJ8_hashCode_2_32 : DC mJ8_hashCode_2 32 = .ok (.ireturn, 1) := dk_172 (dk_at dksJ8_hashCode_2_1 8 rfl rfl)
abbrev cJ8_hashCode_3 : ByteArray := prog_69_method_8_code
def yJ8_hashCode_3 : MethodName := ⟨RJ8, "hashCode", "(I[SII)I"⟩
def mJ8_hashCode_3 : MI := (⟨"jdk/internal/util/ArraysSupport", "hashCode", "(I[SII)I"⟩, prog_69_method_8_code, 6, (Option.some FieldType.int), none, 8, 1)
theorem oJ8_hashCode_3 : mO mJ8_hashCode_3 = 8 := rfl
theorem lJ8_hashCode_3 : mL mJ8_hashCode_3 = 6 := rfl
theorem rJ8_hashCode_3 : mR mJ8_hashCode_3 = (Option.some FieldType.int) := rfl
theorem vJ8_hashCode_3 : mV mJ8_hashCode_3 = 1 := rfl
theorem nJ8_hashCode_3 : (mY mJ8_hashCode_3).name = "hashCode" := rfl
theorem hJ8_hashCode_3 : mH mJ8_hashCode_3 = none := rfl
theorem kJ8_hashCode_3 : MOk mJ8_hashCode_3 := ⟨q1295, q86, by decide +kernel⟩
theorem gJ8_hashCode_3 : plainName (mY mJ8_hashCode_3).cls = true ∧ (mY mJ8_hashCode_3).cls = "jdk/internal/util/ArraysSupport" := ⟨by decide +kernel, rfl⟩
def dkwJ8_hashCode_3_1 : List UInt8 := [59, 132, 5, 1, 167, 255, 236, 26, 172]
abbrev dktJ8_hashCode_3_1 : List UInt8 := dkwJ8_hashCode_3_1 ++ []
def dkwJ8_hashCode_3_0 : List UInt8 := [28, 29, 96, 54, 4, 28, 54, 5, 21, 5, 21, 4, 162, 0, 19, 16, 31, 26, 104, 43, 21, 5, 53, 96]
abbrev dktJ8_hashCode_3_0 : List UInt8 := dkwJ8_hashCode_3_0 ++ dktJ8_hashCode_3_1
theorem dksJ8_hashCode_3_0 : cJ8_hashCode_3.data.toList.drop 0 = dktJ8_hashCode_3_0 := by decide +kernel
theorem dksJ8_hashCode_3_1 : cJ8_hashCode_3.data.toList.drop 24 = dktJ8_hashCode_3_1 := dk_seg dksJ8_hashCode_3_0 24 rfl rfl
theorem dJ8_hashCode_3_0 : DC mJ8_hashCode_3 0 = .ok (.iload_n 2, 1) := dk_28 (dk_at dksJ8_hashCode_3_0 0 rfl rfl)
theorem dJ8_hashCode_3_1 : DC mJ8_hashCode_3 1 = .ok (.iload_n 3, 1) := dk_29 (dk_at dksJ8_hashCode_3_0 1 rfl rfl)
theorem dJ8_hashCode_3_2 : DC mJ8_hashCode_3 2 = .ok (.iadd, 1) := dk_96 (dk_at dksJ8_hashCode_3_0 2 rfl rfl)
theorem dJ8_hashCode_3_3 : DC mJ8_hashCode_3 3 = .ok (.istore 4, 2) := dk_54 4 (dk_at dksJ8_hashCode_3_0 3 rfl rfl)
theorem dJ8_hashCode_3_5 : DC mJ8_hashCode_3 5 = .ok (.iload_n 2, 1) := dk_28 (dk_at dksJ8_hashCode_3_0 5 rfl rfl)
theorem dJ8_hashCode_3_6 : DC mJ8_hashCode_3 6 = .ok (.istore 5, 2) := dk_54 5 (dk_at dksJ8_hashCode_3_0 6 rfl rfl)
theorem dJ8_hashCode_3_8 : DC mJ8_hashCode_3 8 = .ok (.iload 5, 2) := dk_21 5 (dk_at dksJ8_hashCode_3_0 8 rfl rfl)
theorem dJ8_hashCode_3_10 : DC mJ8_hashCode_3 10 = .ok (.iload 4, 2) := dk_21 4 (dk_at dksJ8_hashCode_3_0 10 rfl rfl)
theorem dJ8_hashCode_3_12 : DC mJ8_hashCode_3 12 = .ok (.if_icmp .ge 19, 3) := dk_162 0 19 (dk_at dksJ8_hashCode_3_0 12 rfl rfl)
theorem dJ8_hashCode_3_15 : DC mJ8_hashCode_3 15 = .ok (.bipush 31, 2) := dk_16 31 (dk_at dksJ8_hashCode_3_0 15 rfl rfl)
theorem dJ8_hashCode_3_17 : DC mJ8_hashCode_3 17 = .ok (.iload_n 0, 1) := dk_26 (dk_at dksJ8_hashCode_3_0 17 rfl rfl)
theorem dJ8_hashCode_3_18 : DC mJ8_hashCode_3 18 = .ok (.imul, 1) := dk_104 (dk_at dksJ8_hashCode_3_0 18 rfl rfl)
theorem dJ8_hashCode_3_19 : DC mJ8_hashCode_3 19 = .ok (.aload_n 1, 1) := dk_43 (dk_at dksJ8_hashCode_3_0 19 rfl rfl)
theorem dJ8_hashCode_3_20 : DC mJ8_hashCode_3 20 = .ok (.iload 5, 2) := dk_21 5 (dk_at dksJ8_hashCode_3_0 20 rfl rfl)
theorem dJ8_hashCode_3_22 : DC mJ8_hashCode_3 22 = .ok (.saload, 1) := dk_53 (dk_at dksJ8_hashCode_3_0 22 rfl rfl)
theorem dJ8_hashCode_3_23 : DC mJ8_hashCode_3 23 = .ok (.iadd, 1) := dk_96 (dk_at dksJ8_hashCode_3_0 23 rfl rfl)
theorem dJ8_hashCode_3_24 : DC mJ8_hashCode_3 24 = .ok (.istore_n 0, 1) := dk_59 (dk_at dksJ8_hashCode_3_1 0 rfl rfl)
theorem dJ8_hashCode_3_25 : DC mJ8_hashCode_3 25 = .ok (.iinc 5 1, 3) := dk_132 5 1 (dk_at dksJ8_hashCode_3_1 1 rfl rfl)
theorem dJ8_hashCode_3_28 : DC mJ8_hashCode_3 28 = .ok (.goto (-20), 3) := dk_167 255 236 (dk_at dksJ8_hashCode_3_1 4 rfl rfl)
theorem dJ8_hashCode_3_31 : DC mJ8_hashCode_3 31 = .ok (.iload_n 0, 1) := dk_26 (dk_at dksJ8_hashCode_3_1 7 rfl rfl)
theorem dJ8_hashCode_3_32 : DC mJ8_hashCode_3 32 = .ok (.ireturn, 1) := dk_172 (dk_at dksJ8_hashCode_3_1 8 rfl rfl)
abbrev cJ8_hashCode_4 : ByteArray := prog_69_method_9_code
def yJ8_hashCode_4 : MethodName := ⟨RJ8, "hashCode", "(I[III)I"⟩
def mJ8_hashCode_4 : MI := (⟨"jdk/internal/util/ArraysSupport", "hashCode", "(I[III)I"⟩, prog_69_method_9_code, 6, (Option.some FieldType.int), none, 8, 1)
theorem oJ8_hashCode_4 : mO mJ8_hashCode_4 = 8 := rfl
theorem lJ8_hashCode_4 : mL mJ8_hashCode_4 = 6 := rfl
theorem rJ8_hashCode_4 : mR mJ8_hashCode_4 = (Option.some FieldType.int) := rfl
theorem vJ8_hashCode_4 : mV mJ8_hashCode_4 = 1 := rfl
theorem nJ8_hashCode_4 : (mY mJ8_hashCode_4).name = "hashCode" := rfl
theorem hJ8_hashCode_4 : mH mJ8_hashCode_4 = none := rfl
theorem kJ8_hashCode_4 : MOk mJ8_hashCode_4 := ⟨q1299, q86, by decide +kernel⟩
theorem gJ8_hashCode_4 : plainName (mY mJ8_hashCode_4).cls = true ∧ (mY mJ8_hashCode_4).cls = "jdk/internal/util/ArraysSupport" := ⟨by decide +kernel, rfl⟩
def dkwJ8_hashCode_4_1 : List UInt8 := [59, 132, 5, 1, 167, 255, 236, 26, 172]
abbrev dktJ8_hashCode_4_1 : List UInt8 := dkwJ8_hashCode_4_1 ++ []
def dkwJ8_hashCode_4_0 : List UInt8 := [28, 29, 96, 54, 4, 28, 54, 5, 21, 5, 21, 4, 162, 0, 19, 16, 31, 26, 104, 43, 21, 5, 46, 96]
abbrev dktJ8_hashCode_4_0 : List UInt8 := dkwJ8_hashCode_4_0 ++ dktJ8_hashCode_4_1
theorem dksJ8_hashCode_4_0 : cJ8_hashCode_4.data.toList.drop 0 = dktJ8_hashCode_4_0 := by decide +kernel
theorem dksJ8_hashCode_4_1 : cJ8_hashCode_4.data.toList.drop 24 = dktJ8_hashCode_4_1 := dk_seg dksJ8_hashCode_4_0 24 rfl rfl
theorem dJ8_hashCode_4_0 : DC mJ8_hashCode_4 0 = .ok (.iload_n 2, 1) := dk_28 (dk_at dksJ8_hashCode_4_0 0 rfl rfl)
theorem dJ8_hashCode_4_1 : DC mJ8_hashCode_4 1 = .ok (.iload_n 3, 1) := dk_29 (dk_at dksJ8_hashCode_4_0 1 rfl rfl)
theorem dJ8_hashCode_4_2 : DC mJ8_hashCode_4 2 = .ok (.iadd, 1) := dk_96 (dk_at dksJ8_hashCode_4_0 2 rfl rfl)
theorem dJ8_hashCode_4_3 : DC mJ8_hashCode_4 3 = .ok (.istore 4, 2) := dk_54 4 (dk_at dksJ8_hashCode_4_0 3 rfl rfl)
theorem dJ8_hashCode_4_5 : DC mJ8_hashCode_4 5 = .ok (.iload_n 2, 1) := dk_28 (dk_at dksJ8_hashCode_4_0 5 rfl rfl)
theorem dJ8_hashCode_4_6 : DC mJ8_hashCode_4 6 = .ok (.istore 5, 2) := dk_54 5 (dk_at dksJ8_hashCode_4_0 6 rfl rfl)
theorem dJ8_hashCode_4_8 : DC mJ8_hashCode_4 8 = .ok (.iload 5, 2) := dk_21 5 (dk_at dksJ8_hashCode_4_0 8 rfl rfl)
theorem dJ8_hashCode_4_10 : DC mJ8_hashCode_4 10 = .ok (.iload 4, 2) := dk_21 4 (dk_at dksJ8_hashCode_4_0 10 rfl rfl)
theorem dJ8_hashCode_4_12 : DC mJ8_hashCode_4 12 = .ok (.if_icmp .ge 19, 3) := dk_162 0 19 (dk_at dksJ8_hashCode_4_0 12 rfl rfl)
theorem dJ8_hashCode_4_15 : DC mJ8_hashCode_4 15 = .ok (.bipush 31, 2) := dk_16 31 (dk_at dksJ8_hashCode_4_0 15 rfl rfl)
theorem dJ8_hashCode_4_17 : DC mJ8_hashCode_4 17 = .ok (.iload_n 0, 1) := dk_26 (dk_at dksJ8_hashCode_4_0 17 rfl rfl)
theorem dJ8_hashCode_4_18 : DC mJ8_hashCode_4 18 = .ok (.imul, 1) := dk_104 (dk_at dksJ8_hashCode_4_0 18 rfl rfl)
theorem dJ8_hashCode_4_19 : DC mJ8_hashCode_4 19 = .ok (.aload_n 1, 1) := dk_43 (dk_at dksJ8_hashCode_4_0 19 rfl rfl)
theorem dJ8_hashCode_4_20 : DC mJ8_hashCode_4 20 = .ok (.iload 5, 2) := dk_21 5 (dk_at dksJ8_hashCode_4_0 20 rfl rfl)
theorem dJ8_hashCode_4_22 : DC mJ8_hashCode_4 22 = .ok (.iaload, 1) := dk_46 (dk_at dksJ8_hashCode_4_0 22 rfl rfl)
theorem dJ8_hashCode_4_23 : DC mJ8_hashCode_4 23 = .ok (.iadd, 1) := dk_96 (dk_at dksJ8_hashCode_4_0 23 rfl rfl)
theorem dJ8_hashCode_4_24 : DC mJ8_hashCode_4 24 = .ok (.istore_n 0, 1) := dk_59 (dk_at dksJ8_hashCode_4_1 0 rfl rfl)
theorem dJ8_hashCode_4_25 : DC mJ8_hashCode_4 25 = .ok (.iinc 5 1, 3) := dk_132 5 1 (dk_at dksJ8_hashCode_4_1 1 rfl rfl)
theorem dJ8_hashCode_4_28 : DC mJ8_hashCode_4 28 = .ok (.goto (-20), 3) := dk_167 255 236 (dk_at dksJ8_hashCode_4_1 4 rfl rfl)
theorem dJ8_hashCode_4_31 : DC mJ8_hashCode_4 31 = .ok (.iload_n 0, 1) := dk_26 (dk_at dksJ8_hashCode_4_1 7 rfl rfl)
theorem dJ8_hashCode_4_32 : DC mJ8_hashCode_4 32 = .ok (.ireturn, 1) := dk_172 (dk_at dksJ8_hashCode_4_1 8 rfl rfl)

/-! java/lang/Math -/
set_option maxRecDepth 100000
def RJ9 : String := "java/lang/Math"
abbrev cJ9_max : ByteArray := prog_30_method_65_code
def yJ9_max : MethodName := ⟨RJ9, "max", "(II)I"⟩
def mJ9_max : MI := (⟨"java/lang/Math", "max", "(II)I"⟩, prog_30_method_65_code, 2, (Option.some FieldType.int), none, 9, 1)
theorem oJ9_max : mO mJ9_max = 9 := rfl
theorem lJ9_max : mL mJ9_max = 2 := rfl
theorem rJ9_max : mR mJ9_max = (Option.some FieldType.int) := rfl
theorem vJ9_max : mV mJ9_max = 1 := rfl
theorem nJ9_max : (mY mJ9_max).name = "max" := rfl
theorem hJ9_max : mH mJ9_max = none := rfl
theorem kJ9_max : MOk mJ9_max := ⟨q280, q87, by decide +kernel⟩
def dkwJ9_max_0 : List UInt8 := [26, 27, 161, 0, 7, 26, 167, 0, 4, 27, 172]
abbrev dktJ9_max_0 : List UInt8 := dkwJ9_max_0 ++ []
theorem dksJ9_max_0 : cJ9_max.data.toList.drop 0 = dktJ9_max_0 := by decide +kernel
theorem dJ9_max_0 : DC mJ9_max 0 = .ok (.iload_n 0, 1) := dk_26 (dk_at dksJ9_max_0 0 rfl rfl)
theorem dJ9_max_1 : DC mJ9_max 1 = .ok (.iload_n 1, 1) := dk_27 (dk_at dksJ9_max_0 1 rfl rfl)
theorem dJ9_max_2 : DC mJ9_max 2 = .ok (.if_icmp .lt 7, 3) := dk_161 0 7 (dk_at dksJ9_max_0 2 rfl rfl)
theorem dJ9_max_5 : DC mJ9_max 5 = .ok (.iload_n 0, 1) := dk_26 (dk_at dksJ9_max_0 5 rfl rfl)
theorem dJ9_max_6 : DC mJ9_max 6 = .ok (.goto 4, 3) := dk_167 0 4 (dk_at dksJ9_max_0 6 rfl rfl)
theorem dJ9_max_9 : DC mJ9_max 9 = .ok (.iload_n 1, 1) := dk_27 (dk_at dksJ9_max_0 9 rfl rfl)
theorem dJ9_max_10 : DC mJ9_max 10 = .ok (.ireturn, 1) := dk_172 (dk_at dksJ9_max_0 10 rfl rfl)
abbrev cJ9_min : ByteArray := prog_30_method_69_code
def yJ9_min : MethodName := ⟨RJ9, "min", "(II)I"⟩
def mJ9_min : MI := (⟨"java/lang/Math", "min", "(II)I"⟩, prog_30_method_69_code, 2, (Option.some FieldType.int), none, 9, 1)
theorem oJ9_min : mO mJ9_min = 9 := rfl
theorem lJ9_min : mL mJ9_min = 2 := rfl
theorem rJ9_min : mR mJ9_min = (Option.some FieldType.int) := rfl
theorem vJ9_min : mV mJ9_min = 1 := rfl
theorem nJ9_min : (mY mJ9_min).name = "min" := rfl
theorem hJ9_min : mH mJ9_min = none := rfl
theorem kJ9_min : MOk mJ9_min := ⟨q331, q87, by decide +kernel⟩
def dkwJ9_min_0 : List UInt8 := [26, 27, 163, 0, 7, 26, 167, 0, 4, 27, 172]
abbrev dktJ9_min_0 : List UInt8 := dkwJ9_min_0 ++ []
theorem dksJ9_min_0 : cJ9_min.data.toList.drop 0 = dktJ9_min_0 := by decide +kernel
theorem dJ9_min_0 : DC mJ9_min 0 = .ok (.iload_n 0, 1) := dk_26 (dk_at dksJ9_min_0 0 rfl rfl)
theorem dJ9_min_1 : DC mJ9_min 1 = .ok (.iload_n 1, 1) := dk_27 (dk_at dksJ9_min_0 1 rfl rfl)
theorem dJ9_min_2 : DC mJ9_min 2 = .ok (.if_icmp .gt 7, 3) := dk_163 0 7 (dk_at dksJ9_min_0 2 rfl rfl)
theorem dJ9_min_5 : DC mJ9_min 5 = .ok (.iload_n 0, 1) := dk_26 (dk_at dksJ9_min_0 5 rfl rfl)
theorem dJ9_min_6 : DC mJ9_min 6 = .ok (.goto 4, 3) := dk_167 0 4 (dk_at dksJ9_min_0 6 rfl rfl)
theorem dJ9_min_9 : DC mJ9_min 9 = .ok (.iload_n 1, 1) := dk_27 (dk_at dksJ9_min_0 9 rfl rfl)
theorem dJ9_min_10 : DC mJ9_min 10 = .ok (.ireturn, 1) := dk_172 (dk_at dksJ9_min_0 10 rfl rfl)

/-! java/util/Arrays -/
set_option maxRecDepth 100000
def RJ10 : String := "java/util/Arrays"
abbrev cJ10_copyOf : ByteArray := prog_54_method_119_code
def yJ10_copyOf : MethodName := ⟨RJ10, "copyOf", "([Ljava/lang/Object;I)[Ljava/lang/Object;"⟩
def mJ10_copyOf : MI := (⟨"java/util/Arrays", "copyOf", "([Ljava/lang/Object;I)[Ljava/lang/Object;"⟩, prog_54_method_119_code, 2, (Option.some (FieldType.array (FieldType.object "java/lang/Object"))), none, 10, 3)
theorem oJ10_copyOf : mO mJ10_copyOf = 10 := rfl
theorem lJ10_copyOf : mL mJ10_copyOf = 2 := rfl
theorem rJ10_copyOf : mR mJ10_copyOf = (Option.some (FieldType.array (FieldType.object "java/lang/Object"))) := rfl
theorem vJ10_copyOf : mV mJ10_copyOf = 3 := rfl
theorem nJ10_copyOf : (mY mJ10_copyOf).name = "copyOf" := rfl
theorem hJ10_copyOf : mH mJ10_copyOf = none := rfl
theorem kJ10_copyOf : MOk mJ10_copyOf := ⟨q287, q88, by decide +kernel⟩
theorem gJ10_copyOf : plainName (mY mJ10_copyOf).cls = true ∧ (mY mJ10_copyOf).cls = "java/util/Arrays" := ⟨by decide +kernel, rfl⟩
def dkwJ10_copyOf_0 : List UInt8 := [42, 27, 42, 182, 0, 86, 184, 1, 44, 176]
abbrev dktJ10_copyOf_0 : List UInt8 := dkwJ10_copyOf_0 ++ []
theorem dksJ10_copyOf_0 : cJ10_copyOf.data.toList.drop 0 = dktJ10_copyOf_0 := by decide +kernel
theorem dJ10_copyOf_0 : DC mJ10_copyOf 0 = .ok (.aload_n 0, 1) := dk_42 (dk_at dksJ10_copyOf_0 0 rfl rfl)
theorem dJ10_copyOf_1 : DC mJ10_copyOf 1 = .ok (.iload_n 1, 1) := dk_27 (dk_at dksJ10_copyOf_0 1 rfl rfl)
theorem dJ10_copyOf_2 : DC mJ10_copyOf 2 = .ok (.aload_n 0, 1) := dk_42 (dk_at dksJ10_copyOf_0 2 rfl rfl)
theorem dJ10_copyOf_3 : DC mJ10_copyOf 3 = .ok (.invokevirtual 86, 3) := dk_182 0 86 (dk_at dksJ10_copyOf_0 3 rfl rfl)
theorem dJ10_copyOf_6 : DC mJ10_copyOf 6 = .ok (.invokestatic 300, 3) := dk_184 1 44 (dk_at dksJ10_copyOf_0 6 rfl rfl)
theorem dJ10_copyOf_9 : DC mJ10_copyOf 9 = .ok (.areturn, 1) := dk_176 (dk_at dksJ10_copyOf_0 9 rfl rfl)
abbrev cJ10_copyOf_2 : ByteArray := prog_54_method_120_code
def yJ10_copyOf_2 : MethodName := ⟨RJ10, "copyOf", "([Ljava/lang/Object;ILjava/lang/Class;)[Ljava/lang/Object;"⟩
def mJ10_copyOf_2 : MI := (⟨"java/util/Arrays", "copyOf", "([Ljava/lang/Object;ILjava/lang/Class;)[Ljava/lang/Object;"⟩, prog_54_method_120_code, 4, (Option.some (FieldType.array (FieldType.object "java/lang/Object"))), none, 10, 2)
theorem oJ10_copyOf_2 : mO mJ10_copyOf_2 = 10 := rfl
theorem lJ10_copyOf_2 : mL mJ10_copyOf_2 = 4 := rfl
theorem rJ10_copyOf_2 : mR mJ10_copyOf_2 = (Option.some (FieldType.array (FieldType.object "java/lang/Object"))) := rfl
theorem vJ10_copyOf_2 : mV mJ10_copyOf_2 = 2 := rfl
theorem nJ10_copyOf_2 : (mY mJ10_copyOf_2).name = "copyOf" := rfl
theorem hJ10_copyOf_2 : mH mJ10_copyOf_2 = none := rfl
theorem kJ10_copyOf_2 : MOk mJ10_copyOf_2 := ⟨q326, q88, by decide +kernel⟩
theorem gJ10_copyOf_2 : plainName (mY mJ10_copyOf_2).cls = true ∧ (mY mJ10_copyOf_2).cls = "java/util/Arrays" := ⟨by decide +kernel, rfl⟩
def dkwJ10_copyOf_2_1 : List UInt8 := [78, 42, 3, 45, 3, 42, 190, 27, 184, 1, 48, 184, 0, 150, 45, 176]
abbrev dktJ10_copyOf_2_1 : List UInt8 := dkwJ10_copyOf_2_1 ++ []
def dkwJ10_copyOf_2_0 : List UInt8 := [44, 18, 110, 166, 0, 10, 27, 189, 0, 2, 167, 0, 14, 44, 182, 0, 90, 27, 184, 0, 95, 192, 0, 110]
abbrev dktJ10_copyOf_2_0 : List UInt8 := dkwJ10_copyOf_2_0 ++ dktJ10_copyOf_2_1
theorem dksJ10_copyOf_2_0 : cJ10_copyOf_2.data.toList.drop 0 = dktJ10_copyOf_2_0 := by decide +kernel
theorem dksJ10_copyOf_2_1 : cJ10_copyOf_2.data.toList.drop 24 = dktJ10_copyOf_2_1 := dk_seg dksJ10_copyOf_2_0 24 rfl rfl
theorem dJ10_copyOf_2_0 : DC mJ10_copyOf_2 0 = .ok (.aload_n 2, 1) := dk_44 (dk_at dksJ10_copyOf_2_0 0 rfl rfl)
theorem dJ10_copyOf_2_1 : DC mJ10_copyOf_2 1 = .ok (.ldc 110, 2) := dk_18 110 (dk_at dksJ10_copyOf_2_0 1 rfl rfl)
theorem dJ10_copyOf_2_3 : DC mJ10_copyOf_2 3 = .ok (.if_acmp .ne 10, 3) := dk_166 0 10 (dk_at dksJ10_copyOf_2_0 3 rfl rfl)
theorem dJ10_copyOf_2_6 : DC mJ10_copyOf_2 6 = .ok (.iload_n 1, 1) := dk_27 (dk_at dksJ10_copyOf_2_0 6 rfl rfl)
theorem dJ10_copyOf_2_7 : DC mJ10_copyOf_2 7 = .ok (.anewarray 2, 3) := dk_189 0 2 (dk_at dksJ10_copyOf_2_0 7 rfl rfl)
theorem dJ10_copyOf_2_10 : DC mJ10_copyOf_2 10 = .ok (.goto 14, 3) := dk_167 0 14 (dk_at dksJ10_copyOf_2_0 10 rfl rfl)
theorem dJ10_copyOf_2_13 : DC mJ10_copyOf_2 13 = .ok (.aload_n 2, 1) := dk_44 (dk_at dksJ10_copyOf_2_0 13 rfl rfl)
theorem dJ10_copyOf_2_14 : DC mJ10_copyOf_2 14 = .ok (.invokevirtual 90, 3) := dk_182 0 90 (dk_at dksJ10_copyOf_2_0 14 rfl rfl)
theorem dJ10_copyOf_2_17 : DC mJ10_copyOf_2 17 = .ok (.iload_n 1, 1) := dk_27 (dk_at dksJ10_copyOf_2_0 17 rfl rfl)
theorem dJ10_copyOf_2_18 : DC mJ10_copyOf_2 18 = .ok (.invokestatic 95, 3) := dk_184 0 95 (dk_at dksJ10_copyOf_2_0 18 rfl rfl)
theorem dJ10_copyOf_2_21 : DC mJ10_copyOf_2 21 = .ok (.checkcast 110, 3) := dk_192 0 110 (dk_at dksJ10_copyOf_2_0 21 rfl rfl)
theorem dJ10_copyOf_2_24 : DC mJ10_copyOf_2 24 = .ok (.astore_n 3, 1) := dk_78 (dk_at dksJ10_copyOf_2_1 0 rfl rfl)
theorem dJ10_copyOf_2_25 : DC mJ10_copyOf_2 25 = .ok (.aload_n 0, 1) := dk_42 (dk_at dksJ10_copyOf_2_1 1 rfl rfl)
theorem dJ10_copyOf_2_26 : DC mJ10_copyOf_2 26 = .ok (.iconst 0, 1) := dk_3 (dk_at dksJ10_copyOf_2_1 2 rfl rfl)
theorem dJ10_copyOf_2_27 : DC mJ10_copyOf_2 27 = .ok (.aload_n 3, 1) := dk_45 (dk_at dksJ10_copyOf_2_1 3 rfl rfl)
theorem dJ10_copyOf_2_28 : DC mJ10_copyOf_2 28 = .ok (.iconst 0, 1) := dk_3 (dk_at dksJ10_copyOf_2_1 4 rfl rfl)
theorem dJ10_copyOf_2_29 : DC mJ10_copyOf_2 29 = .ok (.aload_n 0, 1) := dk_42 (dk_at dksJ10_copyOf_2_1 5 rfl rfl)
theorem dJ10_copyOf_2_30 : DC mJ10_copyOf_2 30 = .ok (.arraylength, 1) := dk_190 (dk_at dksJ10_copyOf_2_1 6 rfl rfl)
theorem dJ10_copyOf_2_31 : DC mJ10_copyOf_2 31 = .ok (.iload_n 1, 1) := dk_27 (dk_at dksJ10_copyOf_2_1 7 rfl rfl)
theorem dJ10_copyOf_2_32 : DC mJ10_copyOf_2 32 = .ok (.invokestatic 304, 3) := dk_184 1 48 (dk_at dksJ10_copyOf_2_1 8 rfl rfl)
theorem dJ10_copyOf_2_35 : DC mJ10_copyOf_2 35 = .ok (.invokestatic 150, 3) := dk_184 0 150 (dk_at dksJ10_copyOf_2_1 11 rfl rfl)
theorem dJ10_copyOf_2_38 : DC mJ10_copyOf_2 38 = .ok (.aload_n 3, 1) := dk_45 (dk_at dksJ10_copyOf_2_1 14 rfl rfl)
theorem dJ10_copyOf_2_39 : DC mJ10_copyOf_2 39 = .ok (.areturn, 1) := dk_176 (dk_at dksJ10_copyOf_2_1 15 rfl rfl)
abbrev cJ10_copyOf_3 : ByteArray := prog_54_method_121_code
def yJ10_copyOf_3 : MethodName := ⟨RJ10, "copyOf", "([BI)[B"⟩
def mJ10_copyOf_3 : MI := (⟨"java/util/Arrays", "copyOf", "([BI)[B"⟩, prog_54_method_121_code, 3, (Option.some (FieldType.array FieldType.byte)), none, 10, 2)
theorem oJ10_copyOf_3 : mO mJ10_copyOf_3 = 10 := rfl
theorem lJ10_copyOf_3 : mL mJ10_copyOf_3 = 3 := rfl
theorem rJ10_copyOf_3 : mR mJ10_copyOf_3 = (Option.some (FieldType.array FieldType.byte)) := rfl
theorem vJ10_copyOf_3 : mV mJ10_copyOf_3 = 2 := rfl
theorem nJ10_copyOf_3 : (mY mJ10_copyOf_3).name = "copyOf" := rfl
theorem hJ10_copyOf_3 : mH mJ10_copyOf_3 = none := rfl
theorem kJ10_copyOf_3 : MOk mJ10_copyOf_3 := ⟨q593, q88, by decide +kernel⟩
theorem gJ10_copyOf_3 : plainName (mY mJ10_copyOf_3).cls = true ∧ (mY mJ10_copyOf_3).cls = "java/util/Arrays" := ⟨by decide +kernel, rfl⟩
def dkwJ10_copyOf_3_1 : List UInt8 := [27, 184, 1, 48, 184, 0, 150, 44, 176]
abbrev dktJ10_copyOf_3_1 : List UInt8 := dkwJ10_copyOf_3_1 ++ []
def dkwJ10_copyOf_3_0 : List UInt8 := [27, 42, 190, 160, 0, 11, 42, 182, 1, 54, 192, 1, 55, 176, 27, 188, 8, 77, 42, 3, 44, 3, 42, 190]
abbrev dktJ10_copyOf_3_0 : List UInt8 := dkwJ10_copyOf_3_0 ++ dktJ10_copyOf_3_1
theorem dksJ10_copyOf_3_0 : cJ10_copyOf_3.data.toList.drop 0 = dktJ10_copyOf_3_0 := by decide +kernel
theorem dksJ10_copyOf_3_1 : cJ10_copyOf_3.data.toList.drop 24 = dktJ10_copyOf_3_1 := dk_seg dksJ10_copyOf_3_0 24 rfl rfl
theorem dJ10_copyOf_3_0 : DC mJ10_copyOf_3 0 = .ok (.iload_n 1, 1) := dk_27 (dk_at dksJ10_copyOf_3_0 0 rfl rfl)
theorem dJ10_copyOf_3_1 : DC mJ10_copyOf_3 1 = .ok (.aload_n 0, 1) := dk_42 (dk_at dksJ10_copyOf_3_0 1 rfl rfl)
theorem dJ10_copyOf_3_2 : DC mJ10_copyOf_3 2 = .ok (.arraylength, 1) := dk_190 (dk_at dksJ10_copyOf_3_0 2 rfl rfl)
theorem dJ10_copyOf_3_3 : DC mJ10_copyOf_3 3 = .ok (.if_icmp .ne 11, 3) := dk_160 0 11 (dk_at dksJ10_copyOf_3_0 3 rfl rfl)
theorem dJ10_copyOf_3_6 : DC mJ10_copyOf_3 6 = .ok (.aload_n 0, 1) := dk_42 (dk_at dksJ10_copyOf_3_0 6 rfl rfl)
theorem dJ10_copyOf_3_7 : DC mJ10_copyOf_3 7 = .ok (.invokevirtual 310, 3) := dk_182 1 54 (dk_at dksJ10_copyOf_3_0 7 rfl rfl)
theorem dJ10_copyOf_3_10 : DC mJ10_copyOf_3 10 = .ok (.checkcast 311, 3) := dk_192 1 55 (dk_at dksJ10_copyOf_3_0 10 rfl rfl)
theorem dJ10_copyOf_3_13 : DC mJ10_copyOf_3 13 = .ok (.areturn, 1) := dk_176 (dk_at dksJ10_copyOf_3_0 13 rfl rfl)
theorem dJ10_copyOf_3_14 : DC mJ10_copyOf_3 14 = .ok (.iload_n 1, 1) := dk_27 (dk_at dksJ10_copyOf_3_0 14 rfl rfl)
theorem dJ10_copyOf_3_15 : DC mJ10_copyOf_3 15 = .ok (.newarray .byte, 2) := dk_188_8 (dk_at dksJ10_copyOf_3_0 15 rfl rfl)
theorem dJ10_copyOf_3_17 : DC mJ10_copyOf_3 17 = .ok (.astore_n 2, 1) := dk_77 (dk_at dksJ10_copyOf_3_0 17 rfl rfl)
theorem dJ10_copyOf_3_18 : DC mJ10_copyOf_3 18 = .ok (.aload_n 0, 1) := dk_42 (dk_at dksJ10_copyOf_3_0 18 rfl rfl)
theorem dJ10_copyOf_3_19 : DC mJ10_copyOf_3 19 = .ok (.iconst 0, 1) := dk_3 (dk_at dksJ10_copyOf_3_0 19 rfl rfl)
theorem dJ10_copyOf_3_20 : DC mJ10_copyOf_3 20 = .ok (.aload_n 2, 1) := dk_44 (dk_at dksJ10_copyOf_3_0 20 rfl rfl)
theorem dJ10_copyOf_3_21 : DC mJ10_copyOf_3 21 = .ok (.iconst 0, 1) := dk_3 (dk_at dksJ10_copyOf_3_0 21 rfl rfl)
theorem dJ10_copyOf_3_22 : DC mJ10_copyOf_3 22 = .ok (.aload_n 0, 1) := dk_42 (dk_at dksJ10_copyOf_3_0 22 rfl rfl)
theorem dJ10_copyOf_3_23 : DC mJ10_copyOf_3 23 = .ok (.arraylength, 1) := dk_190 (dk_at dksJ10_copyOf_3_0 23 rfl rfl)
theorem dJ10_copyOf_3_24 : DC mJ10_copyOf_3 24 = .ok (.iload_n 1, 1) := dk_27 (dk_at dksJ10_copyOf_3_1 0 rfl rfl)
theorem dJ10_copyOf_3_25 : DC mJ10_copyOf_3 25 = .ok (.invokestatic 304, 3) := dk_184 1 48 (dk_at dksJ10_copyOf_3_1 1 rfl rfl)
theorem dJ10_copyOf_3_28 : DC mJ10_copyOf_3 28 = .ok (.invokestatic 150, 3) := dk_184 0 150 (dk_at dksJ10_copyOf_3_1 4 rfl rfl)
theorem dJ10_copyOf_3_31 : DC mJ10_copyOf_3 31 = .ok (.aload_n 2, 1) := dk_44 (dk_at dksJ10_copyOf_3_1 7 rfl rfl)
theorem dJ10_copyOf_3_32 : DC mJ10_copyOf_3 32 = .ok (.areturn, 1) := dk_176 (dk_at dksJ10_copyOf_3_1 8 rfl rfl)
abbrev cJ10_copyOfRange : ByteArray := prog_54_method_132_code
def yJ10_copyOfRange : MethodName := ⟨RJ10, "copyOfRange", "([BII)[B"⟩
def mJ10_copyOfRange : MI := (⟨"java/util/Arrays", "copyOfRange", "([BII)[B"⟩, prog_54_method_132_code, 3, (Option.some (FieldType.array FieldType.byte)), none, 10, 3)
theorem oJ10_copyOfRange : mO mJ10_copyOfRange = 10 := rfl
theorem lJ10_copyOfRange : mL mJ10_copyOfRange = 3 := rfl
theorem rJ10_copyOfRange : mR mJ10_copyOfRange = (Option.some (FieldType.array FieldType.byte)) := rfl
theorem vJ10_copyOfRange : mV mJ10_copyOfRange = 3 := rfl
theorem nJ10_copyOfRange : (mY mJ10_copyOfRange).name = "copyOfRange" := rfl
theorem hJ10_copyOfRange : mH mJ10_copyOfRange = none := rfl
theorem kJ10_copyOfRange : MOk mJ10_copyOfRange := ⟨q730, q88, by decide +kernel⟩
theorem gJ10_copyOfRange : plainName (mY mJ10_copyOfRange).cls = true ∧ (mY mJ10_copyOfRange).cls = "java/util/Arrays" := ⟨by decide +kernel, rfl⟩
def dkwJ10_copyOfRange_1 : List UInt8 := [176]
abbrev dktJ10_copyOfRange_1 : List UInt8 := dkwJ10_copyOfRange_1 ++ []
def dkwJ10_copyOfRange_0 : List UInt8 := [27, 154, 0, 9, 28, 42, 190, 159, 0, 10, 42, 27, 28, 184, 1, 83, 176, 42, 182, 1, 54, 192, 1, 55]
abbrev dktJ10_copyOfRange_0 : List UInt8 := dkwJ10_copyOfRange_0 ++ dktJ10_copyOfRange_1
theorem dksJ10_copyOfRange_0 : cJ10_copyOfRange.data.toList.drop 0 = dktJ10_copyOfRange_0 := by decide +kernel
theorem dksJ10_copyOfRange_1 : cJ10_copyOfRange.data.toList.drop 24 = dktJ10_copyOfRange_1 := dk_seg dksJ10_copyOfRange_0 24 rfl rfl
theorem dJ10_copyOfRange_0 : DC mJ10_copyOfRange 0 = .ok (.iload_n 1, 1) := dk_27 (dk_at dksJ10_copyOfRange_0 0 rfl rfl)
theorem dJ10_copyOfRange_1 : DC mJ10_copyOfRange 1 = .ok (.ifCond .ne 9, 3) := dk_154 0 9 (dk_at dksJ10_copyOfRange_0 1 rfl rfl)
theorem dJ10_copyOfRange_4 : DC mJ10_copyOfRange 4 = .ok (.iload_n 2, 1) := dk_28 (dk_at dksJ10_copyOfRange_0 4 rfl rfl)
theorem dJ10_copyOfRange_5 : DC mJ10_copyOfRange 5 = .ok (.aload_n 0, 1) := dk_42 (dk_at dksJ10_copyOfRange_0 5 rfl rfl)
theorem dJ10_copyOfRange_6 : DC mJ10_copyOfRange 6 = .ok (.arraylength, 1) := dk_190 (dk_at dksJ10_copyOfRange_0 6 rfl rfl)
theorem dJ10_copyOfRange_7 : DC mJ10_copyOfRange 7 = .ok (.if_icmp .eq 10, 3) := dk_159 0 10 (dk_at dksJ10_copyOfRange_0 7 rfl rfl)
theorem dJ10_copyOfRange_10 : DC mJ10_copyOfRange 10 = .ok (.aload_n 0, 1) := dk_42 (dk_at dksJ10_copyOfRange_0 10 rfl rfl)
theorem dJ10_copyOfRange_11 : DC mJ10_copyOfRange 11 = .ok (.iload_n 1, 1) := dk_27 (dk_at dksJ10_copyOfRange_0 11 rfl rfl)
theorem dJ10_copyOfRange_12 : DC mJ10_copyOfRange 12 = .ok (.iload_n 2, 1) := dk_28 (dk_at dksJ10_copyOfRange_0 12 rfl rfl)
theorem dJ10_copyOfRange_13 : DC mJ10_copyOfRange 13 = .ok (.invokestatic 339, 3) := dk_184 1 83 (dk_at dksJ10_copyOfRange_0 13 rfl rfl)
theorem dJ10_copyOfRange_16 : DC mJ10_copyOfRange 16 = .ok (.areturn, 1) := dk_176 (dk_at dksJ10_copyOfRange_0 16 rfl rfl)
theorem dJ10_copyOfRange_17 : DC mJ10_copyOfRange 17 = .ok (.aload_n 0, 1) := dk_42 (dk_at dksJ10_copyOfRange_0 17 rfl rfl)
theorem dJ10_copyOfRange_18 : DC mJ10_copyOfRange 18 = .ok (.invokevirtual 310, 3) := dk_182 1 54 (dk_at dksJ10_copyOfRange_0 18 rfl rfl)
theorem dJ10_copyOfRange_21 : DC mJ10_copyOfRange 21 = .ok (.checkcast 311, 3) := dk_192 1 55 (dk_at dksJ10_copyOfRange_0 21 rfl rfl)
theorem dJ10_copyOfRange_24 : DC mJ10_copyOfRange 24 = .ok (.areturn, 1) := dk_176 (dk_at dksJ10_copyOfRange_1 0 rfl rfl)
abbrev cJ10_copyOfRangeByte : ByteArray := prog_54_method_133_code
def yJ10_copyOfRangeByte : MethodName := ⟨RJ10, "copyOfRangeByte", "([BII)[B"⟩
def mJ10_copyOfRangeByte : MI := (⟨"java/util/Arrays", "copyOfRangeByte", "([BII)[B"⟩, prog_54_method_133_code, 5, (Option.some (FieldType.array FieldType.byte)), none, 10, 2)
theorem oJ10_copyOfRangeByte : mO mJ10_copyOfRangeByte = 10 := rfl
theorem lJ10_copyOfRangeByte : mL mJ10_copyOfRangeByte = 5 := rfl
theorem rJ10_copyOfRangeByte : mR mJ10_copyOfRangeByte = (Option.some (FieldType.array FieldType.byte)) := rfl
theorem vJ10_copyOfRangeByte : mV mJ10_copyOfRangeByte = 2 := rfl
theorem nJ10_copyOfRangeByte : (mY mJ10_copyOfRangeByte).name = "copyOfRangeByte" := rfl
theorem hJ10_copyOfRangeByte : mH mJ10_copyOfRangeByte = none := rfl
theorem kJ10_copyOfRangeByte : MOk mJ10_copyOfRangeByte := ⟨q733, q88, by decide +kernel⟩
theorem gJ10_copyOfRangeByte : plainName (mY mJ10_copyOfRangeByte).cls = true ∧ (mY mJ10_copyOfRangeByte).cls = "java/util/Arrays" := ⟨by decide +kernel, rfl⟩
def dkwJ10_copyOfRangeByte_1 : List UInt8 := [184, 1, 48, 184, 0, 150, 25, 4, 176]
abbrev dktJ10_copyOfRangeByte_1 : List UInt8 := dkwJ10_copyOfRangeByte_1 ++ []
def dkwJ10_copyOfRangeByte_0 : List UInt8 := [27, 28, 184, 1, 87, 28, 27, 100, 62, 29, 188, 8, 58, 4, 42, 27, 25, 4, 3, 42, 190, 27, 100, 29]
abbrev dktJ10_copyOfRangeByte_0 : List UInt8 := dkwJ10_copyOfRangeByte_0 ++ dktJ10_copyOfRangeByte_1
theorem dksJ10_copyOfRangeByte_0 : cJ10_copyOfRangeByte.data.toList.drop 0 = dktJ10_copyOfRangeByte_0 := by decide +kernel
theorem dksJ10_copyOfRangeByte_1 : cJ10_copyOfRangeByte.data.toList.drop 24 = dktJ10_copyOfRangeByte_1 := dk_seg dksJ10_copyOfRangeByte_0 24 rfl rfl
theorem dJ10_copyOfRangeByte_0 : DC mJ10_copyOfRangeByte 0 = .ok (.iload_n 1, 1) := dk_27 (dk_at dksJ10_copyOfRangeByte_0 0 rfl rfl)
theorem dJ10_copyOfRangeByte_1 : DC mJ10_copyOfRangeByte 1 = .ok (.iload_n 2, 1) := dk_28 (dk_at dksJ10_copyOfRangeByte_0 1 rfl rfl)
theorem dJ10_copyOfRangeByte_2 : DC mJ10_copyOfRangeByte 2 = .ok (.invokestatic 343, 3) := dk_184 1 87 (dk_at dksJ10_copyOfRangeByte_0 2 rfl rfl)
theorem dJ10_copyOfRangeByte_5 : DC mJ10_copyOfRangeByte 5 = .ok (.iload_n 2, 1) := dk_28 (dk_at dksJ10_copyOfRangeByte_0 5 rfl rfl)
theorem dJ10_copyOfRangeByte_6 : DC mJ10_copyOfRangeByte 6 = .ok (.iload_n 1, 1) := dk_27 (dk_at dksJ10_copyOfRangeByte_0 6 rfl rfl)
theorem dJ10_copyOfRangeByte_7 : DC mJ10_copyOfRangeByte 7 = .ok (.isub, 1) := dk_100 (dk_at dksJ10_copyOfRangeByte_0 7 rfl rfl)
theorem dJ10_copyOfRangeByte_8 : DC mJ10_copyOfRangeByte 8 = .ok (.istore_n 3, 1) := dk_62 (dk_at dksJ10_copyOfRangeByte_0 8 rfl rfl)
theorem dJ10_copyOfRangeByte_9 : DC mJ10_copyOfRangeByte 9 = .ok (.iload_n 3, 1) := dk_29 (dk_at dksJ10_copyOfRangeByte_0 9 rfl rfl)
theorem dJ10_copyOfRangeByte_10 : DC mJ10_copyOfRangeByte 10 = .ok (.newarray .byte, 2) := dk_188_8 (dk_at dksJ10_copyOfRangeByte_0 10 rfl rfl)
theorem dJ10_copyOfRangeByte_12 : DC mJ10_copyOfRangeByte 12 = .ok (.astore 4, 2) := dk_58 4 (dk_at dksJ10_copyOfRangeByte_0 12 rfl rfl)
theorem dJ10_copyOfRangeByte_14 : DC mJ10_copyOfRangeByte 14 = .ok (.aload_n 0, 1) := dk_42 (dk_at dksJ10_copyOfRangeByte_0 14 rfl rfl)
theorem dJ10_copyOfRangeByte_15 : DC mJ10_copyOfRangeByte 15 = .ok (.iload_n 1, 1) := dk_27 (dk_at dksJ10_copyOfRangeByte_0 15 rfl rfl)
theorem dJ10_copyOfRangeByte_16 : DC mJ10_copyOfRangeByte 16 = .ok (.aload 4, 2) := dk_25 4 (dk_at dksJ10_copyOfRangeByte_0 16 rfl rfl)
theorem dJ10_copyOfRangeByte_18 : DC mJ10_copyOfRangeByte 18 = .ok (.iconst 0, 1) := dk_3 (dk_at dksJ10_copyOfRangeByte_0 18 rfl rfl)
theorem dJ10_copyOfRangeByte_19 : DC mJ10_copyOfRangeByte 19 = .ok (.aload_n 0, 1) := dk_42 (dk_at dksJ10_copyOfRangeByte_0 19 rfl rfl)
theorem dJ10_copyOfRangeByte_20 : DC mJ10_copyOfRangeByte 20 = .ok (.arraylength, 1) := dk_190 (dk_at dksJ10_copyOfRangeByte_0 20 rfl rfl)
theorem dJ10_copyOfRangeByte_21 : DC mJ10_copyOfRangeByte 21 = .ok (.iload_n 1, 1) := dk_27 (dk_at dksJ10_copyOfRangeByte_0 21 rfl rfl)
theorem dJ10_copyOfRangeByte_22 : DC mJ10_copyOfRangeByte 22 = .ok (.isub, 1) := dk_100 (dk_at dksJ10_copyOfRangeByte_0 22 rfl rfl)
theorem dJ10_copyOfRangeByte_23 : DC mJ10_copyOfRangeByte 23 = .ok (.iload_n 3, 1) := dk_29 (dk_at dksJ10_copyOfRangeByte_0 23 rfl rfl)
theorem dJ10_copyOfRangeByte_24 : DC mJ10_copyOfRangeByte 24 = .ok (.invokestatic 304, 3) := dk_184 1 48 (dk_at dksJ10_copyOfRangeByte_1 0 rfl rfl)
theorem dJ10_copyOfRangeByte_27 : DC mJ10_copyOfRangeByte 27 = .ok (.invokestatic 150, 3) := dk_184 0 150 (dk_at dksJ10_copyOfRangeByte_1 3 rfl rfl)
theorem dJ10_copyOfRangeByte_30 : DC mJ10_copyOfRangeByte 30 = .ok (.aload 4, 2) := dk_25 4 (dk_at dksJ10_copyOfRangeByte_1 6 rfl rfl)
theorem dJ10_copyOfRangeByte_32 : DC mJ10_copyOfRangeByte 32 = .ok (.areturn, 1) := dk_176 (dk_at dksJ10_copyOfRangeByte_1 8 rfl rfl)
abbrev cJ10_checkLength : ByteArray := prog_54_method_131_code
def yJ10_checkLength : MethodName := ⟨RJ10, "checkLength", "(II)V"⟩
def mJ10_checkLength : MI := (⟨"java/util/Arrays", "checkLength", "(II)V"⟩, prog_54_method_131_code, 2, (Option.none : Option FieldType), none, 10, 1)
theorem oJ10_checkLength : mO mJ10_checkLength = 10 := rfl
theorem lJ10_checkLength : mL mJ10_checkLength = 2 := rfl
theorem rJ10_checkLength : mR mJ10_checkLength = (Option.none : Option FieldType) := rfl
theorem vJ10_checkLength : mV mJ10_checkLength = 1 := rfl
theorem nJ10_checkLength : (mY mJ10_checkLength).name = "checkLength" := rfl
theorem hJ10_checkLength : mH mJ10_checkLength = none := rfl
theorem kJ10_checkLength : MOk mJ10_checkLength := ⟨q736, q88, by decide +kernel⟩
theorem gJ10_checkLength : plainName (mY mJ10_checkLength).cls = true ∧ (mY mJ10_checkLength).cls = "java/util/Arrays" := ⟨by decide +kernel, rfl⟩
def dkwJ10_checkLength_1 : List UInt8 := [182, 0, 50, 27, 182, 0, 54, 182, 0, 61, 183, 0, 65, 191, 177]
abbrev dktJ10_checkLength_1 : List UInt8 := dkwJ10_checkLength_1 ++ []
def dkwJ10_checkLength_0 : List UInt8 := [27, 26, 162, 0, 35, 187, 0, 43, 89, 187, 0, 45, 89, 183, 0, 47, 26, 182, 0, 54, 19, 1, 81]
abbrev dktJ10_checkLength_0 : List UInt8 := dkwJ10_checkLength_0 ++ dktJ10_checkLength_1
theorem dksJ10_checkLength_0 : cJ10_checkLength.data.toList.drop 0 = dktJ10_checkLength_0 := by decide +kernel
theorem dksJ10_checkLength_1 : cJ10_checkLength.data.toList.drop 23 = dktJ10_checkLength_1 := dk_seg dksJ10_checkLength_0 23 rfl rfl
theorem dJ10_checkLength_0 : DC mJ10_checkLength 0 = .ok (.iload_n 1, 1) := dk_27 (dk_at dksJ10_checkLength_0 0 rfl rfl)
theorem dJ10_checkLength_1 : DC mJ10_checkLength 1 = .ok (.iload_n 0, 1) := dk_26 (dk_at dksJ10_checkLength_0 1 rfl rfl)
theorem dJ10_checkLength_2 : DC mJ10_checkLength 2 = .ok (.if_icmp .ge 35, 3) := dk_162 0 35 (dk_at dksJ10_checkLength_0 2 rfl rfl)
theorem dJ10_checkLength_5 : DC mJ10_checkLength 5 = .ok (.new 43, 3) := dk_187 0 43 (dk_at dksJ10_checkLength_0 5 rfl rfl)
theorem dJ10_checkLength_8 : DC mJ10_checkLength 8 = .ok (.dup, 1) := dk_89 (dk_at dksJ10_checkLength_0 8 rfl rfl)
theorem dJ10_checkLength_9 : DC mJ10_checkLength 9 = .ok (.new 45, 3) := dk_187 0 45 (dk_at dksJ10_checkLength_0 9 rfl rfl)
theorem dJ10_checkLength_12 : DC mJ10_checkLength 12 = .ok (.dup, 1) := dk_89 (dk_at dksJ10_checkLength_0 12 rfl rfl)
theorem dJ10_checkLength_13 : DC mJ10_checkLength 13 = .ok (.invokespecial 47, 3) := dk_183 0 47 (dk_at dksJ10_checkLength_0 13 rfl rfl)
theorem dJ10_checkLength_16 : DC mJ10_checkLength 16 = .ok (.iload_n 0, 1) := dk_26 (dk_at dksJ10_checkLength_0 16 rfl rfl)
theorem dJ10_checkLength_17 : DC mJ10_checkLength 17 = .ok (.invokevirtual 54, 3) := dk_182 0 54 (dk_at dksJ10_checkLength_0 17 rfl rfl)
theorem dJ10_checkLength_20 : DC mJ10_checkLength 20 = .ok (.ldc_w 337, 3) := dk_19 1 81 (dk_at dksJ10_checkLength_0 20 rfl rfl)
theorem dJ10_checkLength_23 : DC mJ10_checkLength 23 = .ok (.invokevirtual 50, 3) := dk_182 0 50 (dk_at dksJ10_checkLength_1 0 rfl rfl)
theorem dJ10_checkLength_26 : DC mJ10_checkLength 26 = .ok (.iload_n 1, 1) := dk_27 (dk_at dksJ10_checkLength_1 3 rfl rfl)
theorem dJ10_checkLength_27 : DC mJ10_checkLength 27 = .ok (.invokevirtual 54, 3) := dk_182 0 54 (dk_at dksJ10_checkLength_1 4 rfl rfl)
theorem dJ10_checkLength_30 : DC mJ10_checkLength 30 = .ok (.invokevirtual 61, 3) := dk_182 0 61 (dk_at dksJ10_checkLength_1 7 rfl rfl)
theorem dJ10_checkLength_33 : DC mJ10_checkLength 33 = .ok (.invokespecial 65, 3) := dk_183 0 65 (dk_at dksJ10_checkLength_1 10 rfl rfl)
theorem dJ10_checkLength_36 : DC mJ10_checkLength 36 = .ok (.athrow, 1) := dk_191 (dk_at dksJ10_checkLength_1 13 rfl rfl)
theorem dJ10_checkLength_37 : DC mJ10_checkLength 37 = .ok (.return_, 1) := dk_177 (dk_at dksJ10_checkLength_1 14 rfl rfl)
abbrev cJ10_copyOfRange_2 : ByteArray := prog_54_method_130_code
def yJ10_copyOfRange_2 : MethodName := ⟨RJ10, "copyOfRange", "([Ljava/lang/Object;IILjava/lang/Class;)[Ljava/lang/Object;"⟩
def mJ10_copyOfRange_2 : MI := (⟨"java/util/Arrays", "copyOfRange", "([Ljava/lang/Object;IILjava/lang/Class;)[Ljava/lang/Object;"⟩, prog_54_method_130_code, 6, (Option.some (FieldType.array (FieldType.object "java/lang/Object"))), none, 10, 11)
theorem oJ10_copyOfRange_2 : mO mJ10_copyOfRange_2 = 10 := rfl
theorem lJ10_copyOfRange_2 : mL mJ10_copyOfRange_2 = 6 := rfl
theorem rJ10_copyOfRange_2 : mR mJ10_copyOfRange_2 = (Option.some (FieldType.array (FieldType.object "java/lang/Object"))) := rfl
theorem vJ10_copyOfRange_2 : mV mJ10_copyOfRange_2 = 11 := rfl
theorem nJ10_copyOfRange_2 : (mY mJ10_copyOfRange_2).name = "copyOfRange" := rfl
theorem hJ10_copyOfRange_2 : mH mJ10_copyOfRange_2 = none := rfl
theorem kJ10_copyOfRange_2 : MOk mJ10_copyOfRange_2 := ⟨q1181, q88, by decide +kernel⟩
theorem gJ10_copyOfRange_2 : plainName (mY mJ10_copyOfRange_2).cls = true ∧ (mY mJ10_copyOfRange_2).cls = "java/util/Arrays" := ⟨by decide +kernel, rfl⟩
def dkwJ10_copyOfRange_2_3 : List UInt8 := [58, 5, 42, 27, 25, 5, 3, 42, 190, 27, 100, 21, 4, 184, 1, 48, 184, 0, 150, 25, 5, 176]
abbrev dktJ10_copyOfRange_2_3 : List UInt8 := dkwJ10_copyOfRange_2_3 ++ []
def dkwJ10_copyOfRange_2_2 : List UInt8 := [166, 0, 11, 21, 4, 189, 0, 2, 167, 0, 15, 45, 182, 0, 90, 21, 4, 184, 0, 95, 192, 0, 110]
abbrev dktJ10_copyOfRange_2_2 : List UInt8 := dkwJ10_copyOfRange_2_2 ++ dktJ10_copyOfRange_2_3
def dkwJ10_copyOfRange_2_1 : List UInt8 := [182, 0, 54, 19, 1, 81, 182, 0, 50, 28, 182, 0, 54, 182, 0, 61, 183, 0, 65, 191, 45, 18, 110]
abbrev dktJ10_copyOfRange_2_1 : List UInt8 := dkwJ10_copyOfRange_2_1 ++ dktJ10_copyOfRange_2_2
def dkwJ10_copyOfRange_2_0 : List UInt8 := [28, 27, 100, 54, 4, 21, 4, 156, 0, 35, 187, 0, 43, 89, 187, 0, 45, 89, 183, 0, 47, 27]
abbrev dktJ10_copyOfRange_2_0 : List UInt8 := dkwJ10_copyOfRange_2_0 ++ dktJ10_copyOfRange_2_1
theorem dksJ10_copyOfRange_2_0 : cJ10_copyOfRange_2.data.toList.drop 0 = dktJ10_copyOfRange_2_0 := by decide +kernel
theorem dksJ10_copyOfRange_2_1 : cJ10_copyOfRange_2.data.toList.drop 22 = dktJ10_copyOfRange_2_1 := dk_seg dksJ10_copyOfRange_2_0 22 rfl rfl
theorem dksJ10_copyOfRange_2_2 : cJ10_copyOfRange_2.data.toList.drop 45 = dktJ10_copyOfRange_2_2 := dk_seg dksJ10_copyOfRange_2_1 23 rfl rfl
theorem dksJ10_copyOfRange_2_3 : cJ10_copyOfRange_2.data.toList.drop 68 = dktJ10_copyOfRange_2_3 := dk_seg dksJ10_copyOfRange_2_2 23 rfl rfl
theorem dJ10_copyOfRange_2_0 : DC mJ10_copyOfRange_2 0 = .ok (.iload_n 2, 1) := dk_28 (dk_at dksJ10_copyOfRange_2_0 0 rfl rfl)
theorem dJ10_copyOfRange_2_1 : DC mJ10_copyOfRange_2 1 = .ok (.iload_n 1, 1) := dk_27 (dk_at dksJ10_copyOfRange_2_0 1 rfl rfl)
theorem dJ10_copyOfRange_2_2 : DC mJ10_copyOfRange_2 2 = .ok (.isub, 1) := dk_100 (dk_at dksJ10_copyOfRange_2_0 2 rfl rfl)
theorem dJ10_copyOfRange_2_3 : DC mJ10_copyOfRange_2 3 = .ok (.istore 4, 2) := dk_54 4 (dk_at dksJ10_copyOfRange_2_0 3 rfl rfl)
theorem dJ10_copyOfRange_2_5 : DC mJ10_copyOfRange_2 5 = .ok (.iload 4, 2) := dk_21 4 (dk_at dksJ10_copyOfRange_2_0 5 rfl rfl)
theorem dJ10_copyOfRange_2_7 : DC mJ10_copyOfRange_2 7 = .ok (.ifCond .ge 35, 3) := dk_156 0 35 (dk_at dksJ10_copyOfRange_2_0 7 rfl rfl)
theorem dJ10_copyOfRange_2_10 : DC mJ10_copyOfRange_2 10 = .ok (.new 43, 3) := dk_187 0 43 (dk_at dksJ10_copyOfRange_2_0 10 rfl rfl)
theorem dJ10_copyOfRange_2_13 : DC mJ10_copyOfRange_2 13 = .ok (.dup, 1) := dk_89 (dk_at dksJ10_copyOfRange_2_0 13 rfl rfl)
theorem dJ10_copyOfRange_2_14 : DC mJ10_copyOfRange_2 14 = .ok (.new 45, 3) := dk_187 0 45 (dk_at dksJ10_copyOfRange_2_0 14 rfl rfl)
theorem dJ10_copyOfRange_2_17 : DC mJ10_copyOfRange_2 17 = .ok (.dup, 1) := dk_89 (dk_at dksJ10_copyOfRange_2_0 17 rfl rfl)
theorem dJ10_copyOfRange_2_18 : DC mJ10_copyOfRange_2 18 = .ok (.invokespecial 47, 3) := dk_183 0 47 (dk_at dksJ10_copyOfRange_2_0 18 rfl rfl)
theorem dJ10_copyOfRange_2_21 : DC mJ10_copyOfRange_2 21 = .ok (.iload_n 1, 1) := dk_27 (dk_at dksJ10_copyOfRange_2_0 21 rfl rfl)
theorem dJ10_copyOfRange_2_22 : DC mJ10_copyOfRange_2 22 = .ok (.invokevirtual 54, 3) := dk_182 0 54 (dk_at dksJ10_copyOfRange_2_1 0 rfl rfl)
theorem dJ10_copyOfRange_2_25 : DC mJ10_copyOfRange_2 25 = .ok (.ldc_w 337, 3) := dk_19 1 81 (dk_at dksJ10_copyOfRange_2_1 3 rfl rfl)
theorem dJ10_copyOfRange_2_28 : DC mJ10_copyOfRange_2 28 = .ok (.invokevirtual 50, 3) := dk_182 0 50 (dk_at dksJ10_copyOfRange_2_1 6 rfl rfl)
theorem dJ10_copyOfRange_2_31 : DC mJ10_copyOfRange_2 31 = .ok (.iload_n 2, 1) := dk_28 (dk_at dksJ10_copyOfRange_2_1 9 rfl rfl)
theorem dJ10_copyOfRange_2_32 : DC mJ10_copyOfRange_2 32 = .ok (.invokevirtual 54, 3) := dk_182 0 54 (dk_at dksJ10_copyOfRange_2_1 10 rfl rfl)
theorem dJ10_copyOfRange_2_35 : DC mJ10_copyOfRange_2 35 = .ok (.invokevirtual 61, 3) := dk_182 0 61 (dk_at dksJ10_copyOfRange_2_1 13 rfl rfl)
theorem dJ10_copyOfRange_2_38 : DC mJ10_copyOfRange_2 38 = .ok (.invokespecial 65, 3) := dk_183 0 65 (dk_at dksJ10_copyOfRange_2_1 16 rfl rfl)
theorem dJ10_copyOfRange_2_41 : DC mJ10_copyOfRange_2 41 = .ok (.athrow, 1) := dk_191 (dk_at dksJ10_copyOfRange_2_1 19 rfl rfl)
theorem dJ10_copyOfRange_2_42 : DC mJ10_copyOfRange_2 42 = .ok (.aload_n 3, 1) := dk_45 (dk_at dksJ10_copyOfRange_2_1 20 rfl rfl)
theorem dJ10_copyOfRange_2_43 : DC mJ10_copyOfRange_2 43 = .ok (.ldc 110, 2) := dk_18 110 (dk_at dksJ10_copyOfRange_2_1 21 rfl rfl)
theorem dJ10_copyOfRange_2_45 : DC mJ10_copyOfRange_2 45 = .ok (.if_acmp .ne 11, 3) := dk_166 0 11 (dk_at dksJ10_copyOfRange_2_2 0 rfl rfl)
theorem dJ10_copyOfRange_2_48 : DC mJ10_copyOfRange_2 48 = .ok (.iload 4, 2) := dk_21 4 (dk_at dksJ10_copyOfRange_2_2 3 rfl rfl)
theorem dJ10_copyOfRange_2_50 : DC mJ10_copyOfRange_2 50 = .ok (.anewarray 2, 3) := dk_189 0 2 (dk_at dksJ10_copyOfRange_2_2 5 rfl rfl)
theorem dJ10_copyOfRange_2_53 : DC mJ10_copyOfRange_2 53 = .ok (.goto 15, 3) := dk_167 0 15 (dk_at dksJ10_copyOfRange_2_2 8 rfl rfl)
theorem dJ10_copyOfRange_2_56 : DC mJ10_copyOfRange_2 56 = .ok (.aload_n 3, 1) := dk_45 (dk_at dksJ10_copyOfRange_2_2 11 rfl rfl)
theorem dJ10_copyOfRange_2_57 : DC mJ10_copyOfRange_2 57 = .ok (.invokevirtual 90, 3) := dk_182 0 90 (dk_at dksJ10_copyOfRange_2_2 12 rfl rfl)
theorem dJ10_copyOfRange_2_60 : DC mJ10_copyOfRange_2 60 = .ok (.iload 4, 2) := dk_21 4 (dk_at dksJ10_copyOfRange_2_2 15 rfl rfl)
theorem dJ10_copyOfRange_2_62 : DC mJ10_copyOfRange_2 62 = .ok (.invokestatic 95, 3) := dk_184 0 95 (dk_at dksJ10_copyOfRange_2_2 17 rfl rfl)
theorem dJ10_copyOfRange_2_65 : DC mJ10_copyOfRange_2 65 = .ok (.checkcast 110, 3) := dk_192 0 110 (dk_at dksJ10_copyOfRange_2_2 20 rfl rfl)
theorem dJ10_copyOfRange_2_68 : DC mJ10_copyOfRange_2 68 = .ok (.astore 5, 2) := dk_58 5 (dk_at dksJ10_copyOfRange_2_3 0 rfl rfl)
theorem dJ10_copyOfRange_2_70 : DC mJ10_copyOfRange_2 70 = .ok (.aload_n 0, 1) := dk_42 (dk_at dksJ10_copyOfRange_2_3 2 rfl rfl)
theorem dJ10_copyOfRange_2_71 : DC mJ10_copyOfRange_2 71 = .ok (.iload_n 1, 1) := dk_27 (dk_at dksJ10_copyOfRange_2_3 3 rfl rfl)
theorem dJ10_copyOfRange_2_72 : DC mJ10_copyOfRange_2 72 = .ok (.aload 5, 2) := dk_25 5 (dk_at dksJ10_copyOfRange_2_3 4 rfl rfl)
theorem dJ10_copyOfRange_2_74 : DC mJ10_copyOfRange_2 74 = .ok (.iconst 0, 1) := dk_3 (dk_at dksJ10_copyOfRange_2_3 6 rfl rfl)
theorem dJ10_copyOfRange_2_75 : DC mJ10_copyOfRange_2 75 = .ok (.aload_n 0, 1) := dk_42 (dk_at dksJ10_copyOfRange_2_3 7 rfl rfl)
theorem dJ10_copyOfRange_2_76 : DC mJ10_copyOfRange_2 76 = .ok (.arraylength, 1) := dk_190 (dk_at dksJ10_copyOfRange_2_3 8 rfl rfl)
theorem dJ10_copyOfRange_2_77 : DC mJ10_copyOfRange_2 77 = .ok (.iload_n 1, 1) := dk_27 (dk_at dksJ10_copyOfRange_2_3 9 rfl rfl)
theorem dJ10_copyOfRange_2_78 : DC mJ10_copyOfRange_2 78 = .ok (.isub, 1) := dk_100 (dk_at dksJ10_copyOfRange_2_3 10 rfl rfl)
theorem dJ10_copyOfRange_2_79 : DC mJ10_copyOfRange_2 79 = .ok (.iload 4, 2) := dk_21 4 (dk_at dksJ10_copyOfRange_2_3 11 rfl rfl)
theorem dJ10_copyOfRange_2_81 : DC mJ10_copyOfRange_2 81 = .ok (.invokestatic 304, 3) := dk_184 1 48 (dk_at dksJ10_copyOfRange_2_3 13 rfl rfl)
theorem dJ10_copyOfRange_2_84 : DC mJ10_copyOfRange_2 84 = .ok (.invokestatic 150, 3) := dk_184 0 150 (dk_at dksJ10_copyOfRange_2_3 16 rfl rfl)
theorem dJ10_copyOfRange_2_87 : DC mJ10_copyOfRange_2 87 = .ok (.aload 5, 2) := dk_25 5 (dk_at dksJ10_copyOfRange_2_3 19 rfl rfl)
theorem dJ10_copyOfRange_2_89 : DC mJ10_copyOfRange_2 89 = .ok (.areturn, 1) := dk_176 (dk_at dksJ10_copyOfRange_2_3 21 rfl rfl)
abbrev cJ10_fill : ByteArray := prog_54_method_110_code
def yJ10_fill : MethodName := ⟨RJ10, "fill", "([BIIB)V"⟩
def mJ10_fill : MI := (⟨"java/util/Arrays", "fill", "([BIIB)V"⟩, prog_54_method_110_code, 5, (Option.none : Option FieldType), none, 10, 2)
theorem oJ10_fill : mO mJ10_fill = 10 := rfl
theorem lJ10_fill : mL mJ10_fill = 5 := rfl
theorem rJ10_fill : mR mJ10_fill = (Option.none : Option FieldType) := rfl
theorem vJ10_fill : mV mJ10_fill = 2 := rfl
theorem nJ10_fill : (mY mJ10_fill).name = "fill" := rfl
theorem hJ10_fill : mH mJ10_fill = none := rfl
theorem kJ10_fill : MOk mJ10_fill := ⟨q2306, q88, by decide +kernel⟩
theorem gJ10_fill : plainName (mY mJ10_fill).cls = true ∧ (mY mJ10_fill).cls = "java/util/Arrays" := ⟨by decide +kernel, rfl⟩
def dkwJ10_fill_1 : List UInt8 := [167, 255, 242, 177]
abbrev dktJ10_fill_1 : List UInt8 := dkwJ10_fill_1 ++ []
def dkwJ10_fill_0 : List UInt8 := [42, 190, 27, 28, 184, 0, 13, 27, 54, 4, 21, 4, 28, 162, 0, 14, 42, 21, 4, 29, 84, 132, 4, 1]
abbrev dktJ10_fill_0 : List UInt8 := dkwJ10_fill_0 ++ dktJ10_fill_1
theorem dksJ10_fill_0 : cJ10_fill.data.toList.drop 0 = dktJ10_fill_0 := by decide +kernel
theorem dksJ10_fill_1 : cJ10_fill.data.toList.drop 24 = dktJ10_fill_1 := dk_seg dksJ10_fill_0 24 rfl rfl
theorem dJ10_fill_0 : DC mJ10_fill 0 = .ok (.aload_n 0, 1) := dk_42 (dk_at dksJ10_fill_0 0 rfl rfl)
theorem dJ10_fill_1 : DC mJ10_fill 1 = .ok (.arraylength, 1) := dk_190 (dk_at dksJ10_fill_0 1 rfl rfl)
theorem dJ10_fill_2 : DC mJ10_fill 2 = .ok (.iload_n 1, 1) := dk_27 (dk_at dksJ10_fill_0 2 rfl rfl)
theorem dJ10_fill_3 : DC mJ10_fill 3 = .ok (.iload_n 2, 1) := dk_28 (dk_at dksJ10_fill_0 3 rfl rfl)
theorem dJ10_fill_4 : DC mJ10_fill 4 = .ok (.invokestatic 13, 3) := dk_184 0 13 (dk_at dksJ10_fill_0 4 rfl rfl)
theorem dJ10_fill_7 : DC mJ10_fill 7 = .ok (.iload_n 1, 1) := dk_27 (dk_at dksJ10_fill_0 7 rfl rfl)
theorem dJ10_fill_8 : DC mJ10_fill 8 = .ok (.istore 4, 2) := dk_54 4 (dk_at dksJ10_fill_0 8 rfl rfl)
theorem dJ10_fill_10 : DC mJ10_fill 10 = .ok (.iload 4, 2) := dk_21 4 (dk_at dksJ10_fill_0 10 rfl rfl)
theorem dJ10_fill_12 : DC mJ10_fill 12 = .ok (.iload_n 2, 1) := dk_28 (dk_at dksJ10_fill_0 12 rfl rfl)
theorem dJ10_fill_13 : DC mJ10_fill 13 = .ok (.if_icmp .ge 14, 3) := dk_162 0 14 (dk_at dksJ10_fill_0 13 rfl rfl)
theorem dJ10_fill_16 : DC mJ10_fill 16 = .ok (.aload_n 0, 1) := dk_42 (dk_at dksJ10_fill_0 16 rfl rfl)
theorem dJ10_fill_17 : DC mJ10_fill 17 = .ok (.iload 4, 2) := dk_21 4 (dk_at dksJ10_fill_0 17 rfl rfl)
theorem dJ10_fill_19 : DC mJ10_fill 19 = .ok (.iload_n 3, 1) := dk_29 (dk_at dksJ10_fill_0 19 rfl rfl)
theorem dJ10_fill_20 : DC mJ10_fill 20 = .ok (.bastore, 1) := dk_84 (dk_at dksJ10_fill_0 20 rfl rfl)
theorem dJ10_fill_21 : DC mJ10_fill 21 = .ok (.iinc 4 1, 3) := dk_132 4 1 (dk_at dksJ10_fill_0 21 rfl rfl)
theorem dJ10_fill_24 : DC mJ10_fill 24 = .ok (.goto (-14), 3) := dk_167 255 242 (dk_at dksJ10_fill_1 0 rfl rfl)
theorem dJ10_fill_27 : DC mJ10_fill 27 = .ok (.return_, 1) := dk_177 (dk_at dksJ10_fill_1 3 rfl rfl)
abbrev cJ10_rangeCheck : ByteArray := prog_54_method_30_code
def yJ10_rangeCheck : MethodName := ⟨RJ10, "rangeCheck", "(III)V"⟩
def mJ10_rangeCheck : MI := (⟨"java/util/Arrays", "rangeCheck", "(III)V"⟩, prog_54_method_30_code, 3, (Option.none : Option FieldType), none, 10, 1)
theorem oJ10_rangeCheck : mO mJ10_rangeCheck = 10 := rfl
theorem lJ10_rangeCheck : mL mJ10_rangeCheck = 3 := rfl
theorem rJ10_rangeCheck : mR mJ10_rangeCheck = (Option.none : Option FieldType) := rfl
theorem vJ10_rangeCheck : mV mJ10_rangeCheck = 1 := rfl
theorem nJ10_rangeCheck : (mY mJ10_rangeCheck).name = "rangeCheck" := rfl
theorem hJ10_rangeCheck : mH mJ10_rangeCheck = none := rfl
theorem kJ10_rangeCheck : MOk mJ10_rangeCheck := ⟨q2309, q88, by decide +kernel⟩
theorem gJ10_rangeCheck : plainName (mY mJ10_rangeCheck).cls = true ∧ (mY mJ10_rangeCheck).cls = "java/util/Arrays" := ⟨by decide +kernel, rfl⟩
def dkwJ10_rangeCheck_3 : List UInt8 := [183, 0, 70, 191, 177]
abbrev dktJ10_rangeCheck_3 : List UInt8 := dkwJ10_rangeCheck_3 ++ []
def dkwJ10_rangeCheck_2 : List UInt8 := [27, 156, 0, 12, 187, 0, 68, 89, 27, 183, 0, 70, 191, 28, 26, 164, 0, 12, 187, 0, 68, 89, 28]
abbrev dktJ10_rangeCheck_2 : List UInt8 := dkwJ10_rangeCheck_2 ++ dktJ10_rangeCheck_3
def dkwJ10_rangeCheck_1 : List UInt8 := [182, 0, 54, 18, 57, 182, 0, 50, 28, 182, 0, 54, 18, 59, 182, 0, 50, 182, 0, 61, 183, 0, 65, 191]
abbrev dktJ10_rangeCheck_1 : List UInt8 := dkwJ10_rangeCheck_1 ++ dktJ10_rangeCheck_2
def dkwJ10_rangeCheck_0 : List UInt8 := [27, 28, 164, 0, 44, 187, 0, 43, 89, 187, 0, 45, 89, 183, 0, 47, 18, 48, 182, 0, 50, 27]
abbrev dktJ10_rangeCheck_0 : List UInt8 := dkwJ10_rangeCheck_0 ++ dktJ10_rangeCheck_1
theorem dksJ10_rangeCheck_0 : cJ10_rangeCheck.data.toList.drop 0 = dktJ10_rangeCheck_0 := by decide +kernel
theorem dksJ10_rangeCheck_1 : cJ10_rangeCheck.data.toList.drop 22 = dktJ10_rangeCheck_1 := dk_seg dksJ10_rangeCheck_0 22 rfl rfl
theorem dksJ10_rangeCheck_2 : cJ10_rangeCheck.data.toList.drop 46 = dktJ10_rangeCheck_2 := dk_seg dksJ10_rangeCheck_1 24 rfl rfl
theorem dksJ10_rangeCheck_3 : cJ10_rangeCheck.data.toList.drop 69 = dktJ10_rangeCheck_3 := dk_seg dksJ10_rangeCheck_2 23 rfl rfl
theorem dJ10_rangeCheck_0 : DC mJ10_rangeCheck 0 = .ok (.iload_n 1, 1) := dk_27 (dk_at dksJ10_rangeCheck_0 0 rfl rfl)
theorem dJ10_rangeCheck_1 : DC mJ10_rangeCheck 1 = .ok (.iload_n 2, 1) := dk_28 (dk_at dksJ10_rangeCheck_0 1 rfl rfl)
theorem dJ10_rangeCheck_2 : DC mJ10_rangeCheck 2 = .ok (.if_icmp .le 44, 3) := dk_164 0 44 (dk_at dksJ10_rangeCheck_0 2 rfl rfl)
theorem dJ10_rangeCheck_5 : DC mJ10_rangeCheck 5 = .ok (.new 43, 3) := dk_187 0 43 (dk_at dksJ10_rangeCheck_0 5 rfl rfl)
theorem dJ10_rangeCheck_8 : DC mJ10_rangeCheck 8 = .ok (.dup, 1) := dk_89 (dk_at dksJ10_rangeCheck_0 8 rfl rfl)
theorem dJ10_rangeCheck_9 : DC mJ10_rangeCheck 9 = .ok (.new 45, 3) := dk_187 0 45 (dk_at dksJ10_rangeCheck_0 9 rfl rfl)
theorem dJ10_rangeCheck_12 : DC mJ10_rangeCheck 12 = .ok (.dup, 1) := dk_89 (dk_at dksJ10_rangeCheck_0 12 rfl rfl)
theorem dJ10_rangeCheck_13 : DC mJ10_rangeCheck 13 = .ok (.invokespecial 47, 3) := dk_183 0 47 (dk_at dksJ10_rangeCheck_0 13 rfl rfl)
theorem dJ10_rangeCheck_16 : DC mJ10_rangeCheck 16 = .ok (.ldc 48, 2) := dk_18 48 (dk_at dksJ10_rangeCheck_0 16 rfl rfl)
theorem dJ10_rangeCheck_18 : DC mJ10_rangeCheck 18 = .ok (.invokevirtual 50, 3) := dk_182 0 50 (dk_at dksJ10_rangeCheck_0 18 rfl rfl)
theorem dJ10_rangeCheck_21 : DC mJ10_rangeCheck 21 = .ok (.iload_n 1, 1) := dk_27 (dk_at dksJ10_rangeCheck_0 21 rfl rfl)
theorem dJ10_rangeCheck_22 : DC mJ10_rangeCheck 22 = .ok (.invokevirtual 54, 3) := dk_182 0 54 (dk_at dksJ10_rangeCheck_1 0 rfl rfl)
theorem dJ10_rangeCheck_25 : DC mJ10_rangeCheck 25 = .ok (.ldc 57, 2) := dk_18 57 (dk_at dksJ10_rangeCheck_1 3 rfl rfl)
theorem dJ10_rangeCheck_27 : DC mJ10_rangeCheck 27 = .ok (.invokevirtual 50, 3) := dk_182 0 50 (dk_at dksJ10_rangeCheck_1 5 rfl rfl)
theorem dJ10_rangeCheck_30 : DC mJ10_rangeCheck 30 = .ok (.iload_n 2, 1) := dk_28 (dk_at dksJ10_rangeCheck_1 8 rfl rfl)
theorem dJ10_rangeCheck_31 : DC mJ10_rangeCheck 31 = .ok (.invokevirtual 54, 3) := dk_182 0 54 (dk_at dksJ10_rangeCheck_1 9 rfl rfl)
theorem dJ10_rangeCheck_34 : DC mJ10_rangeCheck 34 = .ok (.ldc 59, 2) := dk_18 59 (dk_at dksJ10_rangeCheck_1 12 rfl rfl)
theorem dJ10_rangeCheck_36 : DC mJ10_rangeCheck 36 = .ok (.invokevirtual 50, 3) := dk_182 0 50 (dk_at dksJ10_rangeCheck_1 14 rfl rfl)
theorem dJ10_rangeCheck_39 : DC mJ10_rangeCheck 39 = .ok (.invokevirtual 61, 3) := dk_182 0 61 (dk_at dksJ10_rangeCheck_1 17 rfl rfl)
theorem dJ10_rangeCheck_42 : DC mJ10_rangeCheck 42 = .ok (.invokespecial 65, 3) := dk_183 0 65 (dk_at dksJ10_rangeCheck_1 20 rfl rfl)
theorem dJ10_rangeCheck_45 : DC mJ10_rangeCheck 45 = .ok (.athrow, 1) := dk_191 (dk_at dksJ10_rangeCheck_1 23 rfl rfl)
theorem dJ10_rangeCheck_46 : DC mJ10_rangeCheck 46 = .ok (.iload_n 1, 1) := dk_27 (dk_at dksJ10_rangeCheck_2 0 rfl rfl)
theorem dJ10_rangeCheck_47 : DC mJ10_rangeCheck 47 = .ok (.ifCond .ge 12, 3) := dk_156 0 12 (dk_at dksJ10_rangeCheck_2 1 rfl rfl)
theorem dJ10_rangeCheck_50 : DC mJ10_rangeCheck 50 = .ok (.new 68, 3) := dk_187 0 68 (dk_at dksJ10_rangeCheck_2 4 rfl rfl)
theorem dJ10_rangeCheck_53 : DC mJ10_rangeCheck 53 = .ok (.dup, 1) := dk_89 (dk_at dksJ10_rangeCheck_2 7 rfl rfl)
theorem dJ10_rangeCheck_54 : DC mJ10_rangeCheck 54 = .ok (.iload_n 1, 1) := dk_27 (dk_at dksJ10_rangeCheck_2 8 rfl rfl)
theorem dJ10_rangeCheck_55 : DC mJ10_rangeCheck 55 = .ok (.invokespecial 70, 3) := dk_183 0 70 (dk_at dksJ10_rangeCheck_2 9 rfl rfl)
theorem dJ10_rangeCheck_58 : DC mJ10_rangeCheck 58 = .ok (.athrow, 1) := dk_191 (dk_at dksJ10_rangeCheck_2 12 rfl rfl)
theorem dJ10_rangeCheck_59 : DC mJ10_rangeCheck 59 = .ok (.iload_n 2, 1) := dk_28 (dk_at dksJ10_rangeCheck_2 13 rfl rfl)
theorem dJ10_rangeCheck_60 : DC mJ10_rangeCheck 60 = .ok (.iload_n 0, 1) := dk_26 (dk_at dksJ10_rangeCheck_2 14 rfl rfl)
theorem dJ10_rangeCheck_61 : DC mJ10_rangeCheck 61 = .ok (.if_icmp .le 12, 3) := dk_164 0 12 (dk_at dksJ10_rangeCheck_2 15 rfl rfl)
theorem dJ10_rangeCheck_64 : DC mJ10_rangeCheck 64 = .ok (.new 68, 3) := dk_187 0 68 (dk_at dksJ10_rangeCheck_2 18 rfl rfl)
theorem dJ10_rangeCheck_67 : DC mJ10_rangeCheck 67 = .ok (.dup, 1) := dk_89 (dk_at dksJ10_rangeCheck_2 21 rfl rfl)
theorem dJ10_rangeCheck_68 : DC mJ10_rangeCheck 68 = .ok (.iload_n 2, 1) := dk_28 (dk_at dksJ10_rangeCheck_2 22 rfl rfl)
theorem dJ10_rangeCheck_69 : DC mJ10_rangeCheck 69 = .ok (.invokespecial 70, 3) := dk_183 0 70 (dk_at dksJ10_rangeCheck_3 0 rfl rfl)
theorem dJ10_rangeCheck_72 : DC mJ10_rangeCheck 72 = .ok (.athrow, 1) := dk_191 (dk_at dksJ10_rangeCheck_3 3 rfl rfl)
theorem dJ10_rangeCheck_73 : DC mJ10_rangeCheck 73 = .ok (.return_, 1) := dk_177 (dk_at dksJ10_rangeCheck_3 4 rfl rfl)

/-! java/util/LinkedList$Node -/
set_option maxRecDepth 100000
def RJ11 : String := "java/util/LinkedList$Node"
def TJ11 : u_T := fun k => match k with
  | 0 => ("java/util/LinkedList$Node", "item", "Ljava/lang/Object;", false)
  | 1 => ("java/util/LinkedList$Node", "next", "Ljava/util/LinkedList$Node;", false)
  | _ => ("java/util/LinkedList$Node", "prev", "Ljava/util/LinkedList$Node;", false)
def tyJ11 : Nat → FieldType := fun k => match k with
  | 0 => .object "java/lang/Object"
  | 1 => .object "java/util/LinkedList$Node"
  | _ => .object "java/util/LinkedList$Node"
abbrev wsJ110 : List Cond := u_ws RJ11 TJ11 3
theorem nmJ11 : ∀ a, a < 3 → ∀ b, b < 3 → a ≠ b → (TJ11 a).2.1 ≠ (TJ11 b).2.1 := by decide +kernel
theorem tyJ11_ok : ∀ k, k < 3 → parseFieldDescriptor (TJ11 k).2.2.1 = some (tyJ11 k) := by decide +kernel
abbrev cJ11_init : ByteArray := prog_60_method_1_code
def yJ11_init : MethodName := ⟨RJ11, "<init>", "(Ljava/util/LinkedList$Node;Ljava/lang/Object;Ljava/util/LinkedList$Node;)V"⟩
def mJ11_init : MI := (⟨"java/util/LinkedList$Node", "<init>", "(Ljava/util/LinkedList$Node;Ljava/lang/Object;Ljava/util/LinkedList$Node;)V"⟩, prog_60_method_1_code, 4, (Option.none : Option FieldType), none, 11, 2)
theorem oJ11_init : mO mJ11_init = 11 := rfl
theorem lJ11_init : mL mJ11_init = 4 := rfl
theorem rJ11_init : mR mJ11_init = (Option.none : Option FieldType) := rfl
theorem vJ11_init : mV mJ11_init = 2 := rfl
theorem nJ11_init : (mY mJ11_init).name = "<init>" := rfl
theorem hJ11_init : mH mJ11_init = none := rfl
theorem kJ11_init : MOk mJ11_init := ⟨q351, q90, by decide +kernel⟩
theorem gJ11_init : plainName (mY mJ11_init).cls = true ∧ (mY mJ11_init).cls = "java/util/LinkedList$Node" := ⟨by decide +kernel, rfl⟩
def dkwJ11_init_0 : List UInt8 := [42, 183, 0, 1, 42, 44, 181, 0, 7, 42, 45, 181, 0, 13, 42, 43, 181, 0, 17, 177]
abbrev dktJ11_init_0 : List UInt8 := dkwJ11_init_0 ++ []
theorem dksJ11_init_0 : cJ11_init.data.toList.drop 0 = dktJ11_init_0 := by decide +kernel
theorem dJ11_init_0 : DC mJ11_init 0 = .ok (.aload_n 0, 1) := dk_42 (dk_at dksJ11_init_0 0 rfl rfl)
theorem dJ11_init_1 : DC mJ11_init 1 = .ok (.invokespecial 1, 3) := dk_183 0 1 (dk_at dksJ11_init_0 1 rfl rfl)
theorem dJ11_init_4 : DC mJ11_init 4 = .ok (.aload_n 0, 1) := dk_42 (dk_at dksJ11_init_0 4 rfl rfl)
theorem dJ11_init_5 : DC mJ11_init 5 = .ok (.aload_n 2, 1) := dk_44 (dk_at dksJ11_init_0 5 rfl rfl)
theorem dJ11_init_6 : DC mJ11_init 6 = .ok (.putfield 7, 3) := dk_181 0 7 (dk_at dksJ11_init_0 6 rfl rfl)
theorem dJ11_init_9 : DC mJ11_init 9 = .ok (.aload_n 0, 1) := dk_42 (dk_at dksJ11_init_0 9 rfl rfl)
theorem dJ11_init_10 : DC mJ11_init 10 = .ok (.aload_n 3, 1) := dk_45 (dk_at dksJ11_init_0 10 rfl rfl)
theorem dJ11_init_11 : DC mJ11_init 11 = .ok (.putfield 13, 3) := dk_181 0 13 (dk_at dksJ11_init_0 11 rfl rfl)
theorem dJ11_init_14 : DC mJ11_init 14 = .ok (.aload_n 0, 1) := dk_42 (dk_at dksJ11_init_0 14 rfl rfl)
theorem dJ11_init_15 : DC mJ11_init 15 = .ok (.aload_n 1, 1) := dk_43 (dk_at dksJ11_init_0 15 rfl rfl)
theorem dJ11_init_16 : DC mJ11_init 16 = .ok (.putfield 17, 3) := dk_181 0 17 (dk_at dksJ11_init_0 16 rfl rfl)
theorem dJ11_init_19 : DC mJ11_init 19 = .ok (.return_, 1) := dk_177 (dk_at dksJ11_init_0 19 rfl rfl)
theorem in_J11 : ∀ w ∈ wsJ110, w ∈ lw_all := lw_in wsJ110 [361, 363, 365] (by decide +kernel) (by decide +kernel)

/-! java/util/ArrayList$Itr -/
set_option maxRecDepth 100000
def RJ12 : String := "java/util/ArrayList$Itr"
def TJ12 : u_T := fun k => match k with
  | 0 => ("java/util/ArrayList$Itr", "cursor", "I", false)
  | 1 => ("java/util/ArrayList$Itr", "lastRet", "I", false)
  | 2 => ("java/util/ArrayList$Itr", "expectedModCount", "I", false)
  | _ => ("java/util/ArrayList$Itr", "this$0", "Ljava/util/ArrayList;", true)
def tyJ12 : Nat → FieldType := fun k => match k with
  | 0 => .int
  | 1 => .int
  | 2 => .int
  | _ => .object "java/util/ArrayList"
abbrev wsJ120 : List Cond := u_ws RJ12 TJ12 4
theorem nmJ12 : ∀ a, a < 4 → ∀ b, b < 4 → a ≠ b → (TJ12 a).2.1 ≠ (TJ12 b).2.1 := by decide +kernel
theorem tyJ12_ok : ∀ k, k < 4 → parseFieldDescriptor (TJ12 k).2.2.1 = some (tyJ12 k) := by decide +kernel
abbrev cJ12_init : ByteArray := prog_52_method_1_code
def yJ12_init : MethodName := ⟨RJ12, "<init>", "(Ljava/util/ArrayList;)V"⟩
def mJ12_init : MI := (⟨"java/util/ArrayList$Itr", "<init>", "(Ljava/util/ArrayList;)V"⟩, prog_52_method_1_code, 2, (Option.none : Option FieldType), none, 12, 2)
theorem oJ12_init : mO mJ12_init = 12 := rfl
theorem lJ12_init : mL mJ12_init = 2 := rfl
theorem rJ12_init : mR mJ12_init = (Option.none : Option FieldType) := rfl
theorem vJ12_init : mV mJ12_init = 2 := rfl
theorem nJ12_init : (mY mJ12_init).name = "<init>" := rfl
theorem hJ12_init : mH mJ12_init = none := rfl
theorem kJ12_init : MOk mJ12_init := ⟨q477, q92, by decide +kernel⟩
theorem gJ12_init : plainName (mY mJ12_init).cls = true ∧ (mY mJ12_init).cls = "java/util/ArrayList$Itr" := ⟨by decide +kernel, rfl⟩
def dkwJ12_init_1 : List UInt8 := [181, 0, 22, 177]
abbrev dktJ12_init_1 : List UInt8 := dkwJ12_init_1 ++ []
def dkwJ12_init_0 : List UInt8 := [42, 43, 181, 0, 1, 42, 183, 0, 7, 42, 2, 181, 0, 13, 42, 42, 180, 0, 1, 180, 0, 17]
abbrev dktJ12_init_0 : List UInt8 := dkwJ12_init_0 ++ dktJ12_init_1
theorem dksJ12_init_0 : cJ12_init.data.toList.drop 0 = dktJ12_init_0 := by decide +kernel
theorem dksJ12_init_1 : cJ12_init.data.toList.drop 22 = dktJ12_init_1 := dk_seg dksJ12_init_0 22 rfl rfl
theorem dJ12_init_0 : DC mJ12_init 0 = .ok (.aload_n 0, 1) := dk_42 (dk_at dksJ12_init_0 0 rfl rfl)
theorem dJ12_init_1 : DC mJ12_init 1 = .ok (.aload_n 1, 1) := dk_43 (dk_at dksJ12_init_0 1 rfl rfl)
theorem dJ12_init_2 : DC mJ12_init 2 = .ok (.putfield 1, 3) := dk_181 0 1 (dk_at dksJ12_init_0 2 rfl rfl)
theorem dJ12_init_5 : DC mJ12_init 5 = .ok (.aload_n 0, 1) := dk_42 (dk_at dksJ12_init_0 5 rfl rfl)
theorem dJ12_init_6 : DC mJ12_init 6 = .ok (.invokespecial 7, 3) := dk_183 0 7 (dk_at dksJ12_init_0 6 rfl rfl)
theorem dJ12_init_9 : DC mJ12_init 9 = .ok (.aload_n 0, 1) := dk_42 (dk_at dksJ12_init_0 9 rfl rfl)
theorem dJ12_init_10 : DC mJ12_init 10 = .ok (.iconst (-1), 1) := dk_2 (dk_at dksJ12_init_0 10 rfl rfl)
theorem dJ12_init_11 : DC mJ12_init 11 = .ok (.putfield 13, 3) := dk_181 0 13 (dk_at dksJ12_init_0 11 rfl rfl)
theorem dJ12_init_14 : DC mJ12_init 14 = .ok (.aload_n 0, 1) := dk_42 (dk_at dksJ12_init_0 14 rfl rfl)
theorem dJ12_init_15 : DC mJ12_init 15 = .ok (.aload_n 0, 1) := dk_42 (dk_at dksJ12_init_0 15 rfl rfl)
theorem dJ12_init_16 : DC mJ12_init 16 = .ok (.getfield 1, 3) := dk_180 0 1 (dk_at dksJ12_init_0 16 rfl rfl)
theorem dJ12_init_19 : DC mJ12_init 19 = .ok (.getfield 17, 3) := dk_180 0 17 (dk_at dksJ12_init_0 19 rfl rfl)
theorem dJ12_init_22 : DC mJ12_init 22 = .ok (.putfield 22, 3) := dk_181 0 22 (dk_at dksJ12_init_1 0 rfl rfl)
theorem dJ12_init_25 : DC mJ12_init 25 = .ok (.return_, 1) := dk_177 (dk_at dksJ12_init_1 3 rfl rfl)
abbrev cJ12_hasNext : ByteArray := prog_52_method_2_code
def yJ12_hasNext : MethodName := ⟨RJ12, "hasNext", "()Z"⟩
def mJ12_hasNext : MI := (⟨"java/util/ArrayList$Itr", "hasNext", "()Z"⟩, prog_52_method_2_code, 1, (Option.some FieldType.boolean), none, 12, 1)
theorem oJ12_hasNext : mO mJ12_hasNext = 12 := rfl
theorem lJ12_hasNext : mL mJ12_hasNext = 1 := rfl
theorem rJ12_hasNext : mR mJ12_hasNext = (Option.some FieldType.boolean) := rfl
theorem vJ12_hasNext : mV mJ12_hasNext = 1 := rfl
theorem nJ12_hasNext : (mY mJ12_hasNext).name = "hasNext" := rfl
theorem hJ12_hasNext : mH mJ12_hasNext = none := rfl
theorem kJ12_hasNext : MOk mJ12_hasNext := ⟨q905, q92, by decide +kernel⟩
theorem gJ12_hasNext : plainName (mY mJ12_hasNext).cls = true ∧ (mY mJ12_hasNext).cls = "java/util/ArrayList$Itr" := ⟨by decide +kernel, rfl⟩
def dkwJ12_hasNext_0 : List UInt8 := [42, 180, 0, 25, 42, 180, 0, 1, 180, 0, 28, 159, 0, 7, 4, 167, 0, 4, 3, 172]
abbrev dktJ12_hasNext_0 : List UInt8 := dkwJ12_hasNext_0 ++ []
theorem dksJ12_hasNext_0 : cJ12_hasNext.data.toList.drop 0 = dktJ12_hasNext_0 := by decide +kernel
theorem dJ12_hasNext_0 : DC mJ12_hasNext 0 = .ok (.aload_n 0, 1) := dk_42 (dk_at dksJ12_hasNext_0 0 rfl rfl)
theorem dJ12_hasNext_1 : DC mJ12_hasNext 1 = .ok (.getfield 25, 3) := dk_180 0 25 (dk_at dksJ12_hasNext_0 1 rfl rfl)
theorem dJ12_hasNext_4 : DC mJ12_hasNext 4 = .ok (.aload_n 0, 1) := dk_42 (dk_at dksJ12_hasNext_0 4 rfl rfl)
theorem dJ12_hasNext_5 : DC mJ12_hasNext 5 = .ok (.getfield 1, 3) := dk_180 0 1 (dk_at dksJ12_hasNext_0 5 rfl rfl)
theorem dJ12_hasNext_8 : DC mJ12_hasNext 8 = .ok (.getfield 28, 3) := dk_180 0 28 (dk_at dksJ12_hasNext_0 8 rfl rfl)
theorem dJ12_hasNext_11 : DC mJ12_hasNext 11 = .ok (.if_icmp .eq 7, 3) := dk_159 0 7 (dk_at dksJ12_hasNext_0 11 rfl rfl)
theorem dJ12_hasNext_14 : DC mJ12_hasNext 14 = .ok (.iconst 1, 1) := dk_4 (dk_at dksJ12_hasNext_0 14 rfl rfl)
theorem dJ12_hasNext_15 : DC mJ12_hasNext 15 = .ok (.goto 4, 3) := dk_167 0 4 (dk_at dksJ12_hasNext_0 15 rfl rfl)
theorem dJ12_hasNext_18 : DC mJ12_hasNext 18 = .ok (.iconst 0, 1) := dk_3 (dk_at dksJ12_hasNext_0 18 rfl rfl)
theorem dJ12_hasNext_19 : DC mJ12_hasNext 19 = .ok (.ireturn, 1) := dk_172 (dk_at dksJ12_hasNext_0 19 rfl rfl)
abbrev cJ12_next : ByteArray := prog_52_method_3_code
def yJ12_next : MethodName := ⟨RJ12, "next", "()Ljava/lang/Object;"⟩
def mJ12_next : MI := (⟨"java/util/ArrayList$Itr", "next", "()Ljava/lang/Object;"⟩, prog_52_method_3_code, 3, (Option.some (FieldType.object "java/lang/Object")), none, 12, 2)
theorem oJ12_next : mO mJ12_next = 12 := rfl
theorem lJ12_next : mL mJ12_next = 3 := rfl
theorem rJ12_next : mR mJ12_next = (Option.some (FieldType.object "java/lang/Object")) := rfl
theorem vJ12_next : mV mJ12_next = 2 := rfl
theorem nJ12_next : (mY mJ12_next).name = "next" := rfl
theorem hJ12_next : mH mJ12_next = none := rfl
theorem kJ12_next : MOk mJ12_next := ⟨q1067, q92, by decide +kernel⟩
theorem gJ12_next : plainName (mY mJ12_next).cls = true ∧ (mY mJ12_next).cls = "java/util/ArrayList$Itr" := ⟨by decide +kernel, rfl⟩
def dkwJ12_next_2 : List UInt8 := [183, 0, 43, 191, 42, 27, 4, 96, 181, 0, 25, 44, 42, 27, 90, 181, 0, 13, 50, 176]
abbrev dktJ12_next_2 : List UInt8 := dkwJ12_next_2 ++ []
def dkwJ12_next_1 : List UInt8 := [183, 0, 36, 191, 42, 180, 0, 1, 180, 0, 37, 77, 27, 44, 190, 161, 0, 11, 187, 0, 41, 89]
abbrev dktJ12_next_1 : List UInt8 := dkwJ12_next_1 ++ dktJ12_next_2
def dkwJ12_next_0 : List UInt8 := [42, 182, 0, 31, 42, 180, 0, 25, 60, 27, 42, 180, 0, 1, 180, 0, 28, 161, 0, 11, 187, 0, 34, 89]
abbrev dktJ12_next_0 : List UInt8 := dkwJ12_next_0 ++ dktJ12_next_1
theorem dksJ12_next_0 : cJ12_next.data.toList.drop 0 = dktJ12_next_0 := by decide +kernel
theorem dksJ12_next_1 : cJ12_next.data.toList.drop 24 = dktJ12_next_1 := dk_seg dksJ12_next_0 24 rfl rfl
theorem dksJ12_next_2 : cJ12_next.data.toList.drop 46 = dktJ12_next_2 := dk_seg dksJ12_next_1 22 rfl rfl
theorem dJ12_next_0 : DC mJ12_next 0 = .ok (.aload_n 0, 1) := dk_42 (dk_at dksJ12_next_0 0 rfl rfl)
theorem dJ12_next_1 : DC mJ12_next 1 = .ok (.invokevirtual 31, 3) := dk_182 0 31 (dk_at dksJ12_next_0 1 rfl rfl)
theorem dJ12_next_4 : DC mJ12_next 4 = .ok (.aload_n 0, 1) := dk_42 (dk_at dksJ12_next_0 4 rfl rfl)
theorem dJ12_next_5 : DC mJ12_next 5 = .ok (.getfield 25, 3) := dk_180 0 25 (dk_at dksJ12_next_0 5 rfl rfl)
theorem dJ12_next_8 : DC mJ12_next 8 = .ok (.istore_n 1, 1) := dk_60 (dk_at dksJ12_next_0 8 rfl rfl)
theorem dJ12_next_9 : DC mJ12_next 9 = .ok (.iload_n 1, 1) := dk_27 (dk_at dksJ12_next_0 9 rfl rfl)
theorem dJ12_next_10 : DC mJ12_next 10 = .ok (.aload_n 0, 1) := dk_42 (dk_at dksJ12_next_0 10 rfl rfl)
theorem dJ12_next_11 : DC mJ12_next 11 = .ok (.getfield 1, 3) := dk_180 0 1 (dk_at dksJ12_next_0 11 rfl rfl)
theorem dJ12_next_14 : DC mJ12_next 14 = .ok (.getfield 28, 3) := dk_180 0 28 (dk_at dksJ12_next_0 14 rfl rfl)
theorem dJ12_next_17 : DC mJ12_next 17 = .ok (.if_icmp .lt 11, 3) := dk_161 0 11 (dk_at dksJ12_next_0 17 rfl rfl)
theorem dJ12_next_20 : DC mJ12_next 20 = .ok (.new 34, 3) := dk_187 0 34 (dk_at dksJ12_next_0 20 rfl rfl)
theorem dJ12_next_23 : DC mJ12_next 23 = .ok (.dup, 1) := dk_89 (dk_at dksJ12_next_0 23 rfl rfl)
theorem dJ12_next_24 : DC mJ12_next 24 = .ok (.invokespecial 36, 3) := dk_183 0 36 (dk_at dksJ12_next_1 0 rfl rfl)
theorem dJ12_next_27 : DC mJ12_next 27 = .ok (.athrow, 1) := dk_191 (dk_at dksJ12_next_1 3 rfl rfl)
theorem dJ12_next_28 : DC mJ12_next 28 = .ok (.aload_n 0, 1) := dk_42 (dk_at dksJ12_next_1 4 rfl rfl)
theorem dJ12_next_29 : DC mJ12_next 29 = .ok (.getfield 1, 3) := dk_180 0 1 (dk_at dksJ12_next_1 5 rfl rfl)
theorem dJ12_next_32 : DC mJ12_next 32 = .ok (.getfield 37, 3) := dk_180 0 37 (dk_at dksJ12_next_1 8 rfl rfl)
theorem dJ12_next_35 : DC mJ12_next 35 = .ok (.astore_n 2, 1) := dk_77 (dk_at dksJ12_next_1 11 rfl rfl)
theorem dJ12_next_36 : DC mJ12_next 36 = .ok (.iload_n 1, 1) := dk_27 (dk_at dksJ12_next_1 12 rfl rfl)
theorem dJ12_next_37 : DC mJ12_next 37 = .ok (.aload_n 2, 1) := dk_44 (dk_at dksJ12_next_1 13 rfl rfl)
theorem dJ12_next_38 : DC mJ12_next 38 = .ok (.arraylength, 1) := dk_190 (dk_at dksJ12_next_1 14 rfl rfl)
theorem dJ12_next_39 : DC mJ12_next 39 = .ok (.if_icmp .lt 11, 3) := dk_161 0 11 (dk_at dksJ12_next_1 15 rfl rfl)
theorem dJ12_next_42 : DC mJ12_next 42 = .ok (.new 41, 3) := dk_187 0 41 (dk_at dksJ12_next_1 18 rfl rfl)
theorem dJ12_next_45 : DC mJ12_next 45 = .ok (.dup, 1) := dk_89 (dk_at dksJ12_next_1 21 rfl rfl)
theorem dJ12_next_46 : DC mJ12_next 46 = .ok (.invokespecial 43, 3) := dk_183 0 43 (dk_at dksJ12_next_2 0 rfl rfl)
theorem dJ12_next_49 : DC mJ12_next 49 = .ok (.athrow, 1) := dk_191 (dk_at dksJ12_next_2 3 rfl rfl)
theorem dJ12_next_50 : DC mJ12_next 50 = .ok (.aload_n 0, 1) := dk_42 (dk_at dksJ12_next_2 4 rfl rfl)
theorem dJ12_next_51 : DC mJ12_next 51 = .ok (.iload_n 1, 1) := dk_27 (dk_at dksJ12_next_2 5 rfl rfl)
theorem dJ12_next_52 : DC mJ12_next 52 = .ok (.iconst 1, 1) := dk_4 (dk_at dksJ12_next_2 6 rfl rfl)
theorem dJ12_next_53 : DC mJ12_next 53 = .ok (.iadd, 1) := dk_96 (dk_at dksJ12_next_2 7 rfl rfl)
theorem dJ12_next_54 : DC mJ12_next 54 = .ok (.putfield 25, 3) := dk_181 0 25 (dk_at dksJ12_next_2 8 rfl rfl)
theorem dJ12_next_57 : DC mJ12_next 57 = .ok (.aload_n 2, 1) := dk_44 (dk_at dksJ12_next_2 11 rfl rfl)
theorem dJ12_next_58 : DC mJ12_next 58 = .ok (.aload_n 0, 1) := dk_42 (dk_at dksJ12_next_2 12 rfl rfl)
theorem dJ12_next_59 : DC mJ12_next 59 = .ok (.iload_n 1, 1) := dk_27 (dk_at dksJ12_next_2 13 rfl rfl)
theorem dJ12_next_60 : DC mJ12_next 60 = .ok (.dup_x1, 1) := dk_90 (dk_at dksJ12_next_2 14 rfl rfl)
theorem dJ12_next_61 : DC mJ12_next 61 = .ok (.putfield 13, 3) := dk_181 0 13 (dk_at dksJ12_next_2 15 rfl rfl)
theorem dJ12_next_64 : DC mJ12_next 64 = .ok (.aaload, 1) := dk_50 (dk_at dksJ12_next_2 18 rfl rfl)
theorem dJ12_next_65 : DC mJ12_next 65 = .ok (.areturn, 1) := dk_176 (dk_at dksJ12_next_2 19 rfl rfl)
abbrev cJ12_checkForComodification : ByteArray := prog_52_method_6_code
def yJ12_checkForComodification : MethodName := ⟨RJ12, "checkForComodification", "()V"⟩
def mJ12_checkForComodification : MI := (⟨"java/util/ArrayList$Itr", "checkForComodification", "()V"⟩, prog_52_method_6_code, 1, (Option.none : Option FieldType), none, 12, 1)
theorem oJ12_checkForComodification : mO mJ12_checkForComodification = 12 := rfl
theorem lJ12_checkForComodification : mL mJ12_checkForComodification = 1 := rfl
theorem rJ12_checkForComodification : mR mJ12_checkForComodification = (Option.none : Option FieldType) := rfl
theorem vJ12_checkForComodification : mV mJ12_checkForComodification = 1 := rfl
theorem nJ12_checkForComodification : (mY mJ12_checkForComodification).name = "checkForComodification" := rfl
theorem hJ12_checkForComodification : mH mJ12_checkForComodification = none := rfl
theorem kJ12_checkForComodification : MOk mJ12_checkForComodification := ⟨q1073, q92, by decide +kernel⟩
theorem gJ12_checkForComodification : plainName (mY mJ12_checkForComodification).cls = true ∧ (mY mJ12_checkForComodification).cls = "java/util/ArrayList$Itr" := ⟨by decide +kernel, rfl⟩
def dkwJ12_checkForComodification_0 : List UInt8 := [42, 180, 0, 1, 180, 0, 17, 42, 180, 0, 22, 159, 0, 11, 187, 0, 41, 89, 183, 0, 43, 191, 177]
abbrev dktJ12_checkForComodification_0 : List UInt8 := dkwJ12_checkForComodification_0 ++ []
theorem dksJ12_checkForComodification_0 : cJ12_checkForComodification.data.toList.drop 0 = dktJ12_checkForComodification_0 := by decide +kernel
theorem dJ12_checkForComodification_0 : DC mJ12_checkForComodification 0 = .ok (.aload_n 0, 1) := dk_42 (dk_at dksJ12_checkForComodification_0 0 rfl rfl)
theorem dJ12_checkForComodification_1 : DC mJ12_checkForComodification 1 = .ok (.getfield 1, 3) := dk_180 0 1 (dk_at dksJ12_checkForComodification_0 1 rfl rfl)
theorem dJ12_checkForComodification_4 : DC mJ12_checkForComodification 4 = .ok (.getfield 17, 3) := dk_180 0 17 (dk_at dksJ12_checkForComodification_0 4 rfl rfl)
theorem dJ12_checkForComodification_7 : DC mJ12_checkForComodification 7 = .ok (.aload_n 0, 1) := dk_42 (dk_at dksJ12_checkForComodification_0 7 rfl rfl)
theorem dJ12_checkForComodification_8 : DC mJ12_checkForComodification 8 = .ok (.getfield 22, 3) := dk_180 0 22 (dk_at dksJ12_checkForComodification_0 8 rfl rfl)
theorem dJ12_checkForComodification_11 : DC mJ12_checkForComodification 11 = .ok (.if_icmp .eq 11, 3) := dk_159 0 11 (dk_at dksJ12_checkForComodification_0 11 rfl rfl)
theorem dJ12_checkForComodification_14 : DC mJ12_checkForComodification 14 = .ok (.new 41, 3) := dk_187 0 41 (dk_at dksJ12_checkForComodification_0 14 rfl rfl)
theorem dJ12_checkForComodification_17 : DC mJ12_checkForComodification 17 = .ok (.dup, 1) := dk_89 (dk_at dksJ12_checkForComodification_0 17 rfl rfl)
theorem dJ12_checkForComodification_18 : DC mJ12_checkForComodification 18 = .ok (.invokespecial 43, 3) := dk_183 0 43 (dk_at dksJ12_checkForComodification_0 18 rfl rfl)
theorem dJ12_checkForComodification_21 : DC mJ12_checkForComodification 21 = .ok (.athrow, 1) := dk_191 (dk_at dksJ12_checkForComodification_0 21 rfl rfl)
theorem dJ12_checkForComodification_22 : DC mJ12_checkForComodification 22 = .ok (.return_, 1) := dk_177 (dk_at dksJ12_checkForComodification_0 22 rfl rfl)
theorem in_J12 : ∀ w ∈ wsJ120, w ∈ lw_all := lw_in wsJ120 [485, 487, 489, 491] (by decide +kernel) (by decide +kernel)

/-! java/lang/Throwable -/
set_option maxRecDepth 100000
def RJ13 : String := "java/lang/Throwable"
def TJ13 : u_T := fun k => match k with
  | 0 => ("java/lang/Throwable", "cause", "Ljava/lang/Throwable;", false)
  | 1 => ("java/lang/Throwable", "stackTrace", "[Ljava/lang/StackTraceElement;", false)
  | 2 => ("java/lang/Throwable", "suppressedExceptions", "Ljava/util/List;", false)
  | 3 => ("java/lang/Throwable", "detailMessage", "Ljava/lang/String;", false)
  | _ => ("java/lang/Throwable", "backtrace", "Ljava/lang/Object;", false)
def tyJ13 : Nat → FieldType := fun k => match k with
  | 0 => .object "java/lang/Throwable"
  | 1 => .array (.object "java/lang/StackTraceElement")
  | 2 => .object "java/util/List"
  | 3 => .object "java/lang/String"
  | _ => .object "java/lang/Object"
abbrev wsJ130 : List Cond := u_ws RJ13 TJ13 5
theorem nmJ13 : ∀ a, a < 5 → ∀ b, b < 5 → a ≠ b → (TJ13 a).2.1 ≠ (TJ13 b).2.1 := by decide +kernel
theorem tyJ13_ok : ∀ k, k < 5 → parseFieldDescriptor (TJ13 k).2.2.1 = some (tyJ13 k) := by decide +kernel
abbrev cJ13_init : ByteArray := prog_41_method_1_code
def yJ13_init : MethodName := ⟨RJ13, "<init>", "()V"⟩
def mJ13_init : MI := (⟨"java/lang/Throwable", "<init>", "()V"⟩, prog_41_method_1_code, 1, (Option.none : Option FieldType), none, 13, 2)
theorem oJ13_init : mO mJ13_init = 13 := rfl
theorem lJ13_init : mL mJ13_init = 1 := rfl
theorem rJ13_init : mR mJ13_init = (Option.none : Option FieldType) := rfl
theorem vJ13_init : mV mJ13_init = 2 := rfl
theorem nJ13_init : (mY mJ13_init).name = "<init>" := rfl
theorem hJ13_init : mH mJ13_init = none := rfl
theorem kJ13_init : MOk mJ13_init := ⟨q539, q93, by decide +kernel⟩
theorem gJ13_init : plainName (mY mJ13_init).cls = true ∧ (mY mJ13_init).cls = "java/lang/Throwable" := ⟨by decide +kernel, rfl⟩
def dkwJ13_init_1 : List UInt8 := [182, 0, 27, 87, 177]
abbrev dktJ13_init_1 : List UInt8 := dkwJ13_init_1 ++ []
def dkwJ13_init_0 : List UInt8 := [42, 183, 0, 1, 42, 42, 181, 0, 7, 42, 178, 0, 13, 181, 0, 17, 42, 178, 0, 20, 181, 0, 24, 42]
abbrev dktJ13_init_0 : List UInt8 := dkwJ13_init_0 ++ dktJ13_init_1
theorem dksJ13_init_0 : cJ13_init.data.toList.drop 0 = dktJ13_init_0 := by decide +kernel
theorem dksJ13_init_1 : cJ13_init.data.toList.drop 24 = dktJ13_init_1 := dk_seg dksJ13_init_0 24 rfl rfl
theorem dJ13_init_0 : DC mJ13_init 0 = .ok (.aload_n 0, 1) := dk_42 (dk_at dksJ13_init_0 0 rfl rfl)
theorem dJ13_init_1 : DC mJ13_init 1 = .ok (.invokespecial 1, 3) := dk_183 0 1 (dk_at dksJ13_init_0 1 rfl rfl)
theorem dJ13_init_4 : DC mJ13_init 4 = .ok (.aload_n 0, 1) := dk_42 (dk_at dksJ13_init_0 4 rfl rfl)
theorem dJ13_init_5 : DC mJ13_init 5 = .ok (.aload_n 0, 1) := dk_42 (dk_at dksJ13_init_0 5 rfl rfl)
theorem dJ13_init_6 : DC mJ13_init 6 = .ok (.putfield 7, 3) := dk_181 0 7 (dk_at dksJ13_init_0 6 rfl rfl)
theorem dJ13_init_9 : DC mJ13_init 9 = .ok (.aload_n 0, 1) := dk_42 (dk_at dksJ13_init_0 9 rfl rfl)
theorem dJ13_init_10 : DC mJ13_init 10 = .ok (.getstatic 13, 3) := dk_178 0 13 (dk_at dksJ13_init_0 10 rfl rfl)
theorem dJ13_init_13 : DC mJ13_init 13 = .ok (.putfield 17, 3) := dk_181 0 17 (dk_at dksJ13_init_0 13 rfl rfl)
theorem dJ13_init_16 : DC mJ13_init 16 = .ok (.aload_n 0, 1) := dk_42 (dk_at dksJ13_init_0 16 rfl rfl)
theorem dJ13_init_17 : DC mJ13_init 17 = .ok (.getstatic 20, 3) := dk_178 0 20 (dk_at dksJ13_init_0 17 rfl rfl)
theorem dJ13_init_20 : DC mJ13_init 20 = .ok (.putfield 24, 3) := dk_181 0 24 (dk_at dksJ13_init_0 20 rfl rfl)
theorem dJ13_init_23 : DC mJ13_init 23 = .ok (.aload_n 0, 1) := dk_42 (dk_at dksJ13_init_0 23 rfl rfl)
theorem dJ13_init_24 : DC mJ13_init 24 = .ok (.invokevirtual 27, 3) := dk_182 0 27 (dk_at dksJ13_init_1 0 rfl rfl)
theorem dJ13_init_27 : DC mJ13_init 27 = .ok (.pop, 1) := dk_87 (dk_at dksJ13_init_1 3 rfl rfl)
theorem dJ13_init_28 : DC mJ13_init 28 = .ok (.return_, 1) := dk_177 (dk_at dksJ13_init_1 4 rfl rfl)
abbrev cJ13_init_2 : ByteArray := prog_41_method_2_code
def yJ13_init_2 : MethodName := ⟨RJ13, "<init>", "(Ljava/lang/String;)V"⟩
def mJ13_init_2 : MI := (⟨"java/lang/Throwable", "<init>", "(Ljava/lang/String;)V"⟩, prog_41_method_2_code, 2, (Option.none : Option FieldType), none, 13, 2)
theorem oJ13_init_2 : mO mJ13_init_2 = 13 := rfl
theorem lJ13_init_2 : mL mJ13_init_2 = 2 := rfl
theorem rJ13_init_2 : mR mJ13_init_2 = (Option.none : Option FieldType) := rfl
theorem vJ13_init_2 : mV mJ13_init_2 = 2 := rfl
theorem nJ13_init_2 : (mY mJ13_init_2).name = "<init>" := rfl
theorem hJ13_init_2 : mH mJ13_init_2 = none := rfl
theorem kJ13_init_2 : MOk mJ13_init_2 := ⟨q763, q93, by decide +kernel⟩
theorem gJ13_init_2 : plainName (mY mJ13_init_2).cls = true ∧ (mY mJ13_init_2).cls = "java/lang/Throwable" := ⟨by decide +kernel, rfl⟩
def dkwJ13_init_2_1 : List UInt8 := [182, 0, 27, 87, 42, 43, 181, 0, 31, 177]
abbrev dktJ13_init_2_1 : List UInt8 := dkwJ13_init_2_1 ++ []
def dkwJ13_init_2_0 : List UInt8 := [42, 183, 0, 1, 42, 42, 181, 0, 7, 42, 178, 0, 13, 181, 0, 17, 42, 178, 0, 20, 181, 0, 24, 42]
abbrev dktJ13_init_2_0 : List UInt8 := dkwJ13_init_2_0 ++ dktJ13_init_2_1
theorem dksJ13_init_2_0 : cJ13_init_2.data.toList.drop 0 = dktJ13_init_2_0 := by decide +kernel
theorem dksJ13_init_2_1 : cJ13_init_2.data.toList.drop 24 = dktJ13_init_2_1 := dk_seg dksJ13_init_2_0 24 rfl rfl
theorem dJ13_init_2_0 : DC mJ13_init_2 0 = .ok (.aload_n 0, 1) := dk_42 (dk_at dksJ13_init_2_0 0 rfl rfl)
theorem dJ13_init_2_1 : DC mJ13_init_2 1 = .ok (.invokespecial 1, 3) := dk_183 0 1 (dk_at dksJ13_init_2_0 1 rfl rfl)
theorem dJ13_init_2_4 : DC mJ13_init_2 4 = .ok (.aload_n 0, 1) := dk_42 (dk_at dksJ13_init_2_0 4 rfl rfl)
theorem dJ13_init_2_5 : DC mJ13_init_2 5 = .ok (.aload_n 0, 1) := dk_42 (dk_at dksJ13_init_2_0 5 rfl rfl)
theorem dJ13_init_2_6 : DC mJ13_init_2 6 = .ok (.putfield 7, 3) := dk_181 0 7 (dk_at dksJ13_init_2_0 6 rfl rfl)
theorem dJ13_init_2_9 : DC mJ13_init_2 9 = .ok (.aload_n 0, 1) := dk_42 (dk_at dksJ13_init_2_0 9 rfl rfl)
theorem dJ13_init_2_10 : DC mJ13_init_2 10 = .ok (.getstatic 13, 3) := dk_178 0 13 (dk_at dksJ13_init_2_0 10 rfl rfl)
theorem dJ13_init_2_13 : DC mJ13_init_2 13 = .ok (.putfield 17, 3) := dk_181 0 17 (dk_at dksJ13_init_2_0 13 rfl rfl)
theorem dJ13_init_2_16 : DC mJ13_init_2 16 = .ok (.aload_n 0, 1) := dk_42 (dk_at dksJ13_init_2_0 16 rfl rfl)
theorem dJ13_init_2_17 : DC mJ13_init_2 17 = .ok (.getstatic 20, 3) := dk_178 0 20 (dk_at dksJ13_init_2_0 17 rfl rfl)
theorem dJ13_init_2_20 : DC mJ13_init_2 20 = .ok (.putfield 24, 3) := dk_181 0 24 (dk_at dksJ13_init_2_0 20 rfl rfl)
theorem dJ13_init_2_23 : DC mJ13_init_2 23 = .ok (.aload_n 0, 1) := dk_42 (dk_at dksJ13_init_2_0 23 rfl rfl)
theorem dJ13_init_2_24 : DC mJ13_init_2 24 = .ok (.invokevirtual 27, 3) := dk_182 0 27 (dk_at dksJ13_init_2_1 0 rfl rfl)
theorem dJ13_init_2_27 : DC mJ13_init_2 27 = .ok (.pop, 1) := dk_87 (dk_at dksJ13_init_2_1 3 rfl rfl)
theorem dJ13_init_2_28 : DC mJ13_init_2 28 = .ok (.aload_n 0, 1) := dk_42 (dk_at dksJ13_init_2_1 4 rfl rfl)
theorem dJ13_init_2_29 : DC mJ13_init_2 29 = .ok (.aload_n 1, 1) := dk_43 (dk_at dksJ13_init_2_1 5 rfl rfl)
theorem dJ13_init_2_30 : DC mJ13_init_2 30 = .ok (.putfield 31, 3) := dk_181 0 31 (dk_at dksJ13_init_2_1 6 rfl rfl)
theorem dJ13_init_2_33 : DC mJ13_init_2 33 = .ok (.return_, 1) := dk_177 (dk_at dksJ13_init_2_1 9 rfl rfl)
abbrev cJ13_init_3 : ByteArray := prog_41_method_4_code
def yJ13_init_3 : MethodName := ⟨RJ13, "<init>", "(Ljava/lang/Throwable;)V"⟩
def mJ13_init_3 : MI := (⟨"java/lang/Throwable", "<init>", "(Ljava/lang/Throwable;)V"⟩, prog_41_method_4_code, 2, (Option.none : Option FieldType), none, 13, 2)
theorem oJ13_init_3 : mO mJ13_init_3 = 13 := rfl
theorem lJ13_init_3 : mL mJ13_init_3 = 2 := rfl
theorem rJ13_init_3 : mR mJ13_init_3 = (Option.none : Option FieldType) := rfl
theorem vJ13_init_3 : mV mJ13_init_3 = 2 := rfl
theorem nJ13_init_3 : (mY mJ13_init_3).name = "<init>" := rfl
theorem hJ13_init_3 : mH mJ13_init_3 = none := rfl
theorem kJ13_init_3 : MOk mJ13_init_3 := ⟨q1014, q93, by decide +kernel⟩
theorem gJ13_init_3 : plainName (mY mJ13_init_3).cls = true ∧ (mY mJ13_init_3).cls = "java/lang/Throwable" := ⟨by decide +kernel, rfl⟩
def dkwJ13_init_3_2 : List UInt8 := [181, 0, 7, 177]
abbrev dktJ13_init_3_2 : List UInt8 := dkwJ13_init_3_2 ++ []
def dkwJ13_init_3_1 : List UInt8 := [182, 0, 27, 87, 42, 43, 199, 0, 7, 1, 167, 0, 7, 43, 182, 0, 35, 181, 0, 31, 42, 43]
abbrev dktJ13_init_3_1 : List UInt8 := dkwJ13_init_3_1 ++ dktJ13_init_3_2
def dkwJ13_init_3_0 : List UInt8 := [42, 183, 0, 1, 42, 42, 181, 0, 7, 42, 178, 0, 13, 181, 0, 17, 42, 178, 0, 20, 181, 0, 24, 42]
abbrev dktJ13_init_3_0 : List UInt8 := dkwJ13_init_3_0 ++ dktJ13_init_3_1
theorem dksJ13_init_3_0 : cJ13_init_3.data.toList.drop 0 = dktJ13_init_3_0 := by decide +kernel
theorem dksJ13_init_3_1 : cJ13_init_3.data.toList.drop 24 = dktJ13_init_3_1 := dk_seg dksJ13_init_3_0 24 rfl rfl
theorem dksJ13_init_3_2 : cJ13_init_3.data.toList.drop 46 = dktJ13_init_3_2 := dk_seg dksJ13_init_3_1 22 rfl rfl
theorem dJ13_init_3_0 : DC mJ13_init_3 0 = .ok (.aload_n 0, 1) := dk_42 (dk_at dksJ13_init_3_0 0 rfl rfl)
theorem dJ13_init_3_1 : DC mJ13_init_3 1 = .ok (.invokespecial 1, 3) := dk_183 0 1 (dk_at dksJ13_init_3_0 1 rfl rfl)
theorem dJ13_init_3_4 : DC mJ13_init_3 4 = .ok (.aload_n 0, 1) := dk_42 (dk_at dksJ13_init_3_0 4 rfl rfl)
theorem dJ13_init_3_5 : DC mJ13_init_3 5 = .ok (.aload_n 0, 1) := dk_42 (dk_at dksJ13_init_3_0 5 rfl rfl)
theorem dJ13_init_3_6 : DC mJ13_init_3 6 = .ok (.putfield 7, 3) := dk_181 0 7 (dk_at dksJ13_init_3_0 6 rfl rfl)
theorem dJ13_init_3_9 : DC mJ13_init_3 9 = .ok (.aload_n 0, 1) := dk_42 (dk_at dksJ13_init_3_0 9 rfl rfl)
theorem dJ13_init_3_10 : DC mJ13_init_3 10 = .ok (.getstatic 13, 3) := dk_178 0 13 (dk_at dksJ13_init_3_0 10 rfl rfl)
theorem dJ13_init_3_13 : DC mJ13_init_3 13 = .ok (.putfield 17, 3) := dk_181 0 17 (dk_at dksJ13_init_3_0 13 rfl rfl)
theorem dJ13_init_3_16 : DC mJ13_init_3 16 = .ok (.aload_n 0, 1) := dk_42 (dk_at dksJ13_init_3_0 16 rfl rfl)
theorem dJ13_init_3_17 : DC mJ13_init_3 17 = .ok (.getstatic 20, 3) := dk_178 0 20 (dk_at dksJ13_init_3_0 17 rfl rfl)
theorem dJ13_init_3_20 : DC mJ13_init_3 20 = .ok (.putfield 24, 3) := dk_181 0 24 (dk_at dksJ13_init_3_0 20 rfl rfl)
theorem dJ13_init_3_23 : DC mJ13_init_3 23 = .ok (.aload_n 0, 1) := dk_42 (dk_at dksJ13_init_3_0 23 rfl rfl)
theorem dJ13_init_3_24 : DC mJ13_init_3 24 = .ok (.invokevirtual 27, 3) := dk_182 0 27 (dk_at dksJ13_init_3_1 0 rfl rfl)
theorem dJ13_init_3_27 : DC mJ13_init_3 27 = .ok (.pop, 1) := dk_87 (dk_at dksJ13_init_3_1 3 rfl rfl)
theorem dJ13_init_3_28 : DC mJ13_init_3 28 = .ok (.aload_n 0, 1) := dk_42 (dk_at dksJ13_init_3_1 4 rfl rfl)
theorem dJ13_init_3_29 : DC mJ13_init_3 29 = .ok (.aload_n 1, 1) := dk_43 (dk_at dksJ13_init_3_1 5 rfl rfl)
theorem dJ13_init_3_30 : DC mJ13_init_3 30 = .ok (.ifnonnull 7, 3) := dk_199 0 7 (dk_at dksJ13_init_3_1 6 rfl rfl)
theorem dJ13_init_3_33 : DC mJ13_init_3 33 = .ok (.aconst_null, 1) := dk_1 (dk_at dksJ13_init_3_1 9 rfl rfl)
theorem dJ13_init_3_34 : DC mJ13_init_3 34 = .ok (.goto 7, 3) := dk_167 0 7 (dk_at dksJ13_init_3_1 10 rfl rfl)
theorem dJ13_init_3_37 : DC mJ13_init_3 37 = .ok (.aload_n 1, 1) := dk_43 (dk_at dksJ13_init_3_1 13 rfl rfl)
theorem dJ13_init_3_38 : DC mJ13_init_3 38 = .ok (.invokevirtual 35, 3) := dk_182 0 35 (dk_at dksJ13_init_3_1 14 rfl rfl)
theorem dJ13_init_3_41 : DC mJ13_init_3 41 = .ok (.putfield 31, 3) := dk_181 0 31 (dk_at dksJ13_init_3_1 17 rfl rfl)
theorem dJ13_init_3_44 : DC mJ13_init_3 44 = .ok (.aload_n 0, 1) := dk_42 (dk_at dksJ13_init_3_1 20 rfl rfl)
theorem dJ13_init_3_45 : DC mJ13_init_3 45 = .ok (.aload_n 1, 1) := dk_43 (dk_at dksJ13_init_3_1 21 rfl rfl)
theorem dJ13_init_3_46 : DC mJ13_init_3 46 = .ok (.putfield 7, 3) := dk_181 0 7 (dk_at dksJ13_init_3_2 0 rfl rfl)
theorem dJ13_init_3_49 : DC mJ13_init_3 49 = .ok (.return_, 1) := dk_177 (dk_at dksJ13_init_3_2 3 rfl rfl)
abbrev cJ13_toString : ByteArray := prog_41_method_11_code
def yJ13_toString : MethodName := ⟨RJ13, "toString", "()Ljava/lang/String;"⟩
def mJ13_toString : MI := (⟨"java/lang/Throwable", "toString", "()Ljava/lang/String;"⟩, prog_41_method_11_code, 3, (Option.some (FieldType.object "java/lang/String")), none, 13, 11)
theorem oJ13_toString : mO mJ13_toString = 13 := rfl
theorem lJ13_toString : mL mJ13_toString = 3 := rfl
theorem rJ13_toString : mR mJ13_toString = (Option.some (FieldType.object "java/lang/String")) := rfl
theorem vJ13_toString : mV mJ13_toString = 11 := rfl
theorem nJ13_toString : (mY mJ13_toString).name = "toString" := rfl
theorem hJ13_toString : mH mJ13_toString = none := rfl
theorem kJ13_toString : MOk mJ13_toString := ⟨q1028, q93, by decide +kernel⟩
theorem gJ13_toString : plainName (mY mJ13_toString).cls = true ∧ (mY mJ13_toString).cls = "java/lang/Throwable" := ⟨by decide +kernel, rfl⟩
def dkwJ13_toString_1 : List UInt8 := [43, 182, 0, 49, 18, 81, 182, 0, 49, 44, 182, 0, 49, 182, 0, 60, 167, 0, 4, 43, 176]
abbrev dktJ13_toString_1 : List UInt8 := dkwJ13_toString_1 ++ []
def dkwJ13_toString_0 : List UInt8 := [42, 182, 0, 69, 182, 0, 73, 76, 42, 182, 0, 78, 77, 44, 198, 0, 29, 187, 0, 44, 89, 183, 0, 46]
abbrev dktJ13_toString_0 : List UInt8 := dkwJ13_toString_0 ++ dktJ13_toString_1
theorem dksJ13_toString_0 : cJ13_toString.data.toList.drop 0 = dktJ13_toString_0 := by decide +kernel
theorem dksJ13_toString_1 : cJ13_toString.data.toList.drop 24 = dktJ13_toString_1 := dk_seg dksJ13_toString_0 24 rfl rfl
theorem dJ13_toString_0 : DC mJ13_toString 0 = .ok (.aload_n 0, 1) := dk_42 (dk_at dksJ13_toString_0 0 rfl rfl)
theorem dJ13_toString_1 : DC mJ13_toString 1 = .ok (.invokevirtual 69, 3) := dk_182 0 69 (dk_at dksJ13_toString_0 1 rfl rfl)
theorem dJ13_toString_4 : DC mJ13_toString 4 = .ok (.invokevirtual 73, 3) := dk_182 0 73 (dk_at dksJ13_toString_0 4 rfl rfl)
theorem dJ13_toString_7 : DC mJ13_toString 7 = .ok (.astore_n 1, 1) := dk_76 (dk_at dksJ13_toString_0 7 rfl rfl)
theorem dJ13_toString_8 : DC mJ13_toString 8 = .ok (.aload_n 0, 1) := dk_42 (dk_at dksJ13_toString_0 8 rfl rfl)
theorem dJ13_toString_9 : DC mJ13_toString 9 = .ok (.invokevirtual 78, 3) := dk_182 0 78 (dk_at dksJ13_toString_0 9 rfl rfl)
theorem dJ13_toString_12 : DC mJ13_toString 12 = .ok (.astore_n 2, 1) := dk_77 (dk_at dksJ13_toString_0 12 rfl rfl)
theorem dJ13_toString_13 : DC mJ13_toString 13 = .ok (.aload_n 2, 1) := dk_44 (dk_at dksJ13_toString_0 13 rfl rfl)
theorem dJ13_toString_14 : DC mJ13_toString 14 = .ok (.ifnull 29, 3) := dk_198 0 29 (dk_at dksJ13_toString_0 14 rfl rfl)
theorem dJ13_toString_17 : DC mJ13_toString 17 = .ok (.new 44, 3) := dk_187 0 44 (dk_at dksJ13_toString_0 17 rfl rfl)
theorem dJ13_toString_20 : DC mJ13_toString 20 = .ok (.dup, 1) := dk_89 (dk_at dksJ13_toString_0 20 rfl rfl)
theorem dJ13_toString_21 : DC mJ13_toString 21 = .ok (.invokespecial 46, 3) := dk_183 0 46 (dk_at dksJ13_toString_0 21 rfl rfl)
theorem dJ13_toString_24 : DC mJ13_toString 24 = .ok (.aload_n 1, 1) := dk_43 (dk_at dksJ13_toString_1 0 rfl rfl)
theorem dJ13_toString_25 : DC mJ13_toString 25 = .ok (.invokevirtual 49, 3) := dk_182 0 49 (dk_at dksJ13_toString_1 1 rfl rfl)
theorem dJ13_toString_28 : DC mJ13_toString 28 = .ok (.ldc 81, 2) := dk_18 81 (dk_at dksJ13_toString_1 4 rfl rfl)
theorem dJ13_toString_30 : DC mJ13_toString 30 = .ok (.invokevirtual 49, 3) := dk_182 0 49 (dk_at dksJ13_toString_1 6 rfl rfl)
theorem dJ13_toString_33 : DC mJ13_toString 33 = .ok (.aload_n 2, 1) := dk_44 (dk_at dksJ13_toString_1 9 rfl rfl)
theorem dJ13_toString_34 : DC mJ13_toString 34 = .ok (.invokevirtual 49, 3) := dk_182 0 49 (dk_at dksJ13_toString_1 10 rfl rfl)
theorem dJ13_toString_37 : DC mJ13_toString 37 = .ok (.invokevirtual 60, 3) := dk_182 0 60 (dk_at dksJ13_toString_1 13 rfl rfl)
theorem dJ13_toString_40 : DC mJ13_toString 40 = .ok (.goto 4, 3) := dk_167 0 4 (dk_at dksJ13_toString_1 16 rfl rfl)
theorem dJ13_toString_43 : DC mJ13_toString 43 = .ok (.aload_n 1, 1) := dk_43 (dk_at dksJ13_toString_1 19 rfl rfl)
theorem dJ13_toString_44 : DC mJ13_toString 44 = .ok (.areturn, 1) := dk_176 (dk_at dksJ13_toString_1 20 rfl rfl)
abbrev cJ13_getLocalizedMessage : ByteArray := prog_41_method_7_code
def yJ13_getLocalizedMessage : MethodName := ⟨RJ13, "getLocalizedMessage", "()Ljava/lang/String;"⟩
def mJ13_getLocalizedMessage : MI := (⟨"java/lang/Throwable", "getLocalizedMessage", "()Ljava/lang/String;"⟩, prog_41_method_7_code, 1, (Option.some (FieldType.object "java/lang/String")), none, 13, 1)
theorem oJ13_getLocalizedMessage : mO mJ13_getLocalizedMessage = 13 := rfl
theorem lJ13_getLocalizedMessage : mL mJ13_getLocalizedMessage = 1 := rfl
theorem rJ13_getLocalizedMessage : mR mJ13_getLocalizedMessage = (Option.some (FieldType.object "java/lang/String")) := rfl
theorem vJ13_getLocalizedMessage : mV mJ13_getLocalizedMessage = 1 := rfl
theorem nJ13_getLocalizedMessage : (mY mJ13_getLocalizedMessage).name = "getLocalizedMessage" := rfl
theorem hJ13_getLocalizedMessage : mH mJ13_getLocalizedMessage = none := rfl
theorem kJ13_getLocalizedMessage : MOk mJ13_getLocalizedMessage := ⟨q1043, q93, by decide +kernel⟩
theorem gJ13_getLocalizedMessage : plainName (mY mJ13_getLocalizedMessage).cls = true ∧ (mY mJ13_getLocalizedMessage).cls = "java/lang/Throwable" := ⟨by decide +kernel, rfl⟩
theorem dJ13_getLocalizedMessage_0 : DC mJ13_getLocalizedMessage 0 = .ok (.aload_n 0, 1) := by decide +kernel
theorem dJ13_getLocalizedMessage_1 : DC mJ13_getLocalizedMessage 1 = .ok (.invokevirtual 39, 3) := by decide +kernel
theorem dJ13_getLocalizedMessage_4 : DC mJ13_getLocalizedMessage 4 = .ok (.areturn, 1) := by decide +kernel
abbrev cJ13_getMessage : ByteArray := prog_41_method_6_code
def yJ13_getMessage : MethodName := ⟨RJ13, "getMessage", "()Ljava/lang/String;"⟩
def mJ13_getMessage : MI := (⟨"java/lang/Throwable", "getMessage", "()Ljava/lang/String;"⟩, prog_41_method_6_code, 1, (Option.some (FieldType.object "java/lang/String")), none, 13, 1)
theorem oJ13_getMessage : mO mJ13_getMessage = 13 := rfl
theorem lJ13_getMessage : mL mJ13_getMessage = 1 := rfl
theorem rJ13_getMessage : mR mJ13_getMessage = (Option.some (FieldType.object "java/lang/String")) := rfl
theorem vJ13_getMessage : mV mJ13_getMessage = 1 := rfl
theorem nJ13_getMessage : (mY mJ13_getMessage).name = "getMessage" := rfl
theorem hJ13_getMessage : mH mJ13_getMessage = none := rfl
theorem kJ13_getMessage : MOk mJ13_getMessage := ⟨q1057, q93, by decide +kernel⟩
theorem gJ13_getMessage : plainName (mY mJ13_getMessage).cls = true ∧ (mY mJ13_getMessage).cls = "java/lang/Throwable" := ⟨by decide +kernel, rfl⟩
theorem dJ13_getMessage_0 : DC mJ13_getMessage 0 = .ok (.aload_n 0, 1) := by decide +kernel
theorem dJ13_getMessage_1 : DC mJ13_getMessage 1 = .ok (.getfield 31, 3) := by decide +kernel
theorem dJ13_getMessage_4 : DC mJ13_getMessage 4 = .ok (.areturn, 1) := by decide +kernel
abbrev cJ13_init_4 : ByteArray := prog_41_method_5_code
def yJ13_init_4 : MethodName := ⟨RJ13, "<init>", "(Ljava/lang/String;Ljava/lang/Throwable;ZZ)V"⟩
def mJ13_init_4 : MI := (⟨"java/lang/Throwable", "<init>", "(Ljava/lang/String;Ljava/lang/Throwable;ZZ)V"⟩, prog_41_method_5_code, 5, (Option.none : Option FieldType), none, 13, 2)
theorem oJ13_init_4 : mO mJ13_init_4 = 13 := rfl
theorem lJ13_init_4 : mL mJ13_init_4 = 5 := rfl
theorem rJ13_init_4 : mR mJ13_init_4 = (Option.none : Option FieldType) := rfl
theorem vJ13_init_4 : mV mJ13_init_4 = 2 := rfl
theorem nJ13_init_4 : (mY mJ13_init_4).name = "<init>" := rfl
theorem hJ13_init_4 : mH mJ13_init_4 = none := rfl
theorem kJ13_init_4 : MOk mJ13_init_4 := ⟨q1366, q93, by decide +kernel⟩
theorem gJ13_init_4 : plainName (mY mJ13_init_4).cls = true ∧ (mY mJ13_init_4).cls = "java/lang/Throwable" := ⟨by decide +kernel, rfl⟩
def dkwJ13_init_4_2 : List UInt8 := [44, 181, 0, 7, 29, 154, 0, 8, 42, 1, 181, 0, 24, 177]
abbrev dktJ13_init_4_2 : List UInt8 := dkwJ13_init_4_2 ++ []
def dkwJ13_init_4_1 : List UInt8 := [21, 4, 153, 0, 11, 42, 182, 0, 27, 87, 167, 0, 8, 42, 1, 181, 0, 17, 42, 43, 181, 0, 31, 42]
abbrev dktJ13_init_4_1 : List UInt8 := dkwJ13_init_4_1 ++ dktJ13_init_4_2
def dkwJ13_init_4_0 : List UInt8 := [42, 183, 0, 1, 42, 42, 181, 0, 7, 42, 178, 0, 13, 181, 0, 17, 42, 178, 0, 20, 181, 0, 24]
abbrev dktJ13_init_4_0 : List UInt8 := dkwJ13_init_4_0 ++ dktJ13_init_4_1
theorem dksJ13_init_4_0 : cJ13_init_4.data.toList.drop 0 = dktJ13_init_4_0 := by decide +kernel
theorem dksJ13_init_4_1 : cJ13_init_4.data.toList.drop 23 = dktJ13_init_4_1 := dk_seg dksJ13_init_4_0 23 rfl rfl
theorem dksJ13_init_4_2 : cJ13_init_4.data.toList.drop 47 = dktJ13_init_4_2 := dk_seg dksJ13_init_4_1 24 rfl rfl
theorem dJ13_init_4_0 : DC mJ13_init_4 0 = .ok (.aload_n 0, 1) := dk_42 (dk_at dksJ13_init_4_0 0 rfl rfl)
theorem dJ13_init_4_1 : DC mJ13_init_4 1 = .ok (.invokespecial 1, 3) := dk_183 0 1 (dk_at dksJ13_init_4_0 1 rfl rfl)
theorem dJ13_init_4_4 : DC mJ13_init_4 4 = .ok (.aload_n 0, 1) := dk_42 (dk_at dksJ13_init_4_0 4 rfl rfl)
theorem dJ13_init_4_5 : DC mJ13_init_4 5 = .ok (.aload_n 0, 1) := dk_42 (dk_at dksJ13_init_4_0 5 rfl rfl)
theorem dJ13_init_4_6 : DC mJ13_init_4 6 = .ok (.putfield 7, 3) := dk_181 0 7 (dk_at dksJ13_init_4_0 6 rfl rfl)
theorem dJ13_init_4_9 : DC mJ13_init_4 9 = .ok (.aload_n 0, 1) := dk_42 (dk_at dksJ13_init_4_0 9 rfl rfl)
theorem dJ13_init_4_10 : DC mJ13_init_4 10 = .ok (.getstatic 13, 3) := dk_178 0 13 (dk_at dksJ13_init_4_0 10 rfl rfl)
theorem dJ13_init_4_13 : DC mJ13_init_4 13 = .ok (.putfield 17, 3) := dk_181 0 17 (dk_at dksJ13_init_4_0 13 rfl rfl)
theorem dJ13_init_4_16 : DC mJ13_init_4 16 = .ok (.aload_n 0, 1) := dk_42 (dk_at dksJ13_init_4_0 16 rfl rfl)
theorem dJ13_init_4_17 : DC mJ13_init_4 17 = .ok (.getstatic 20, 3) := dk_178 0 20 (dk_at dksJ13_init_4_0 17 rfl rfl)
theorem dJ13_init_4_20 : DC mJ13_init_4 20 = .ok (.putfield 24, 3) := dk_181 0 24 (dk_at dksJ13_init_4_0 20 rfl rfl)
theorem dJ13_init_4_23 : DC mJ13_init_4 23 = .ok (.iload 4, 2) := dk_21 4 (dk_at dksJ13_init_4_1 0 rfl rfl)
theorem dJ13_init_4_25 : DC mJ13_init_4 25 = .ok (.ifCond .eq 11, 3) := dk_153 0 11 (dk_at dksJ13_init_4_1 2 rfl rfl)
theorem dJ13_init_4_28 : DC mJ13_init_4 28 = .ok (.aload_n 0, 1) := dk_42 (dk_at dksJ13_init_4_1 5 rfl rfl)
theorem dJ13_init_4_29 : DC mJ13_init_4 29 = .ok (.invokevirtual 27, 3) := dk_182 0 27 (dk_at dksJ13_init_4_1 6 rfl rfl)
theorem dJ13_init_4_32 : DC mJ13_init_4 32 = .ok (.pop, 1) := dk_87 (dk_at dksJ13_init_4_1 9 rfl rfl)
theorem dJ13_init_4_33 : DC mJ13_init_4 33 = .ok (.goto 8, 3) := dk_167 0 8 (dk_at dksJ13_init_4_1 10 rfl rfl)
theorem dJ13_init_4_36 : DC mJ13_init_4 36 = .ok (.aload_n 0, 1) := dk_42 (dk_at dksJ13_init_4_1 13 rfl rfl)
theorem dJ13_init_4_37 : DC mJ13_init_4 37 = .ok (.aconst_null, 1) := dk_1 (dk_at dksJ13_init_4_1 14 rfl rfl)
theorem dJ13_init_4_38 : DC mJ13_init_4 38 = .ok (.putfield 17, 3) := dk_181 0 17 (dk_at dksJ13_init_4_1 15 rfl rfl)
theorem dJ13_init_4_41 : DC mJ13_init_4 41 = .ok (.aload_n 0, 1) := dk_42 (dk_at dksJ13_init_4_1 18 rfl rfl)
theorem dJ13_init_4_42 : DC mJ13_init_4 42 = .ok (.aload_n 1, 1) := dk_43 (dk_at dksJ13_init_4_1 19 rfl rfl)
theorem dJ13_init_4_43 : DC mJ13_init_4 43 = .ok (.putfield 31, 3) := dk_181 0 31 (dk_at dksJ13_init_4_1 20 rfl rfl)
theorem dJ13_init_4_46 : DC mJ13_init_4 46 = .ok (.aload_n 0, 1) := dk_42 (dk_at dksJ13_init_4_1 23 rfl rfl)
theorem dJ13_init_4_47 : DC mJ13_init_4 47 = .ok (.aload_n 2, 1) := dk_44 (dk_at dksJ13_init_4_2 0 rfl rfl)
theorem dJ13_init_4_48 : DC mJ13_init_4 48 = .ok (.putfield 7, 3) := dk_181 0 7 (dk_at dksJ13_init_4_2 1 rfl rfl)
theorem dJ13_init_4_51 : DC mJ13_init_4 51 = .ok (.iload_n 3, 1) := dk_29 (dk_at dksJ13_init_4_2 4 rfl rfl)
theorem dJ13_init_4_52 : DC mJ13_init_4 52 = .ok (.ifCond .ne 8, 3) := dk_154 0 8 (dk_at dksJ13_init_4_2 5 rfl rfl)
theorem dJ13_init_4_55 : DC mJ13_init_4 55 = .ok (.aload_n 0, 1) := dk_42 (dk_at dksJ13_init_4_2 8 rfl rfl)
theorem dJ13_init_4_56 : DC mJ13_init_4 56 = .ok (.aconst_null, 1) := dk_1 (dk_at dksJ13_init_4_2 9 rfl rfl)
theorem dJ13_init_4_57 : DC mJ13_init_4 57 = .ok (.putfield 24, 3) := dk_181 0 24 (dk_at dksJ13_init_4_2 10 rfl rfl)
theorem dJ13_init_4_60 : DC mJ13_init_4 60 = .ok (.return_, 1) := dk_177 (dk_at dksJ13_init_4_2 13 rfl rfl)
theorem in_J13 : ∀ w ∈ wsJ130, w ∈ lw_all := lw_in wsJ130 [527, 529, 531, 533, 535] (by decide +kernel) (by decide +kernel)

/-! java/lang/Exception -/
set_option maxRecDepth 100000
def RJ14 : String := "java/lang/Exception"
abbrev cJ14_init : ByteArray := prog_23_method_2_code
def yJ14_init : MethodName := ⟨RJ14, "<init>", "(Ljava/lang/String;)V"⟩
def mJ14_init : MI := (⟨"java/lang/Exception", "<init>", "(Ljava/lang/String;)V"⟩, prog_23_method_2_code, 2, (Option.none : Option FieldType), none, 14, 1)
theorem oJ14_init : mO mJ14_init = 14 := rfl
theorem lJ14_init : mL mJ14_init = 2 := rfl
theorem rJ14_init : mR mJ14_init = (Option.none : Option FieldType) := rfl
theorem vJ14_init : mV mJ14_init = 1 := rfl
theorem nJ14_init : (mY mJ14_init).name = "<init>" := rfl
theorem hJ14_init : mH mJ14_init = none := rfl
theorem kJ14_init : MOk mJ14_init := ⟨q760, q94, by decide +kernel⟩
theorem gJ14_init : plainName (mY mJ14_init).cls = true ∧ (mY mJ14_init).cls = "java/lang/Exception" := ⟨by decide +kernel, rfl⟩
def dkwJ14_init_0 : List UInt8 := [42, 43, 183, 0, 7, 177]
abbrev dktJ14_init_0 : List UInt8 := dkwJ14_init_0 ++ []
theorem dksJ14_init_0 : cJ14_init.data.toList.drop 0 = dktJ14_init_0 := by decide +kernel
theorem dJ14_init_0 : DC mJ14_init 0 = .ok (.aload_n 0, 1) := dk_42 (dk_at dksJ14_init_0 0 rfl rfl)
theorem dJ14_init_1 : DC mJ14_init 1 = .ok (.aload_n 1, 1) := dk_43 (dk_at dksJ14_init_0 1 rfl rfl)
theorem dJ14_init_2 : DC mJ14_init 2 = .ok (.invokespecial 7, 3) := dk_183 0 7 (dk_at dksJ14_init_0 2 rfl rfl)
theorem dJ14_init_5 : DC mJ14_init 5 = .ok (.return_, 1) := dk_177 (dk_at dksJ14_init_0 5 rfl rfl)
abbrev cJ14_init_2 : ByteArray := prog_23_method_1_code
def yJ14_init_2 : MethodName := ⟨RJ14, "<init>", "()V"⟩
def mJ14_init_2 : MI := (⟨"java/lang/Exception", "<init>", "()V"⟩, prog_23_method_1_code, 1, (Option.none : Option FieldType), none, 14, 1)
theorem oJ14_init_2 : mO mJ14_init_2 = 14 := rfl
theorem lJ14_init_2 : mL mJ14_init_2 = 1 := rfl
theorem rJ14_init_2 : mR mJ14_init_2 = (Option.none : Option FieldType) := rfl
theorem vJ14_init_2 : mV mJ14_init_2 = 1 := rfl
theorem nJ14_init_2 : (mY mJ14_init_2).name = "<init>" := rfl
theorem hJ14_init_2 : mH mJ14_init_2 = none := rfl
theorem kJ14_init_2 : MOk mJ14_init_2 := ⟨q949, q94, by decide +kernel⟩
theorem gJ14_init_2 : plainName (mY mJ14_init_2).cls = true ∧ (mY mJ14_init_2).cls = "java/lang/Exception" := ⟨by decide +kernel, rfl⟩
theorem dJ14_init_2_0 : DC mJ14_init_2 0 = .ok (.aload_n 0, 1) := by decide +kernel
theorem dJ14_init_2_1 : DC mJ14_init_2 1 = .ok (.invokespecial 1, 3) := by decide +kernel
theorem dJ14_init_2_4 : DC mJ14_init_2 4 = .ok (.return_, 1) := by decide +kernel
abbrev cJ14_init_3 : ByteArray := prog_23_method_4_code
def yJ14_init_3 : MethodName := ⟨RJ14, "<init>", "(Ljava/lang/Throwable;)V"⟩
def mJ14_init_3 : MI := (⟨"java/lang/Exception", "<init>", "(Ljava/lang/Throwable;)V"⟩, prog_23_method_4_code, 2, (Option.none : Option FieldType), none, 14, 1)
theorem oJ14_init_3 : mO mJ14_init_3 = 14 := rfl
theorem lJ14_init_3 : mL mJ14_init_3 = 2 := rfl
theorem rJ14_init_3 : mR mJ14_init_3 = (Option.none : Option FieldType) := rfl
theorem vJ14_init_3 : mV mJ14_init_3 = 1 := rfl
theorem nJ14_init_3 : (mY mJ14_init_3).name = "<init>" := rfl
theorem hJ14_init_3 : mH mJ14_init_3 = none := rfl
theorem kJ14_init_3 : MOk mJ14_init_3 := ⟨q1011, q94, by decide +kernel⟩
theorem gJ14_init_3 : plainName (mY mJ14_init_3).cls = true ∧ (mY mJ14_init_3).cls = "java/lang/Exception" := ⟨by decide +kernel, rfl⟩
def dkwJ14_init_3_0 : List UInt8 := [42, 43, 183, 0, 13, 177]
abbrev dktJ14_init_3_0 : List UInt8 := dkwJ14_init_3_0 ++ []
theorem dksJ14_init_3_0 : cJ14_init_3.data.toList.drop 0 = dktJ14_init_3_0 := by decide +kernel
theorem dJ14_init_3_0 : DC mJ14_init_3 0 = .ok (.aload_n 0, 1) := dk_42 (dk_at dksJ14_init_3_0 0 rfl rfl)
theorem dJ14_init_3_1 : DC mJ14_init_3 1 = .ok (.aload_n 1, 1) := dk_43 (dk_at dksJ14_init_3_0 1 rfl rfl)
theorem dJ14_init_3_2 : DC mJ14_init_3 2 = .ok (.invokespecial 13, 3) := dk_183 0 13 (dk_at dksJ14_init_3_0 2 rfl rfl)
theorem dJ14_init_3_5 : DC mJ14_init_3 5 = .ok (.return_, 1) := dk_177 (dk_at dksJ14_init_3_0 5 rfl rfl)
abbrev cJ14_init_4 : ByteArray := prog_23_method_5_code
def yJ14_init_4 : MethodName := ⟨RJ14, "<init>", "(Ljava/lang/String;Ljava/lang/Throwable;ZZ)V"⟩
def mJ14_init_4 : MI := (⟨"java/lang/Exception", "<init>", "(Ljava/lang/String;Ljava/lang/Throwable;ZZ)V"⟩, prog_23_method_5_code, 5, (Option.none : Option FieldType), none, 14, 3)
theorem oJ14_init_4 : mO mJ14_init_4 = 14 := rfl
theorem lJ14_init_4 : mL mJ14_init_4 = 5 := rfl
theorem rJ14_init_4 : mR mJ14_init_4 = (Option.none : Option FieldType) := rfl
theorem vJ14_init_4 : mV mJ14_init_4 = 3 := rfl
theorem nJ14_init_4 : (mY mJ14_init_4).name = "<init>" := rfl
theorem hJ14_init_4 : mH mJ14_init_4 = none := rfl
theorem kJ14_init_4 : MOk mJ14_init_4 := ⟨q1363, q94, by decide +kernel⟩
theorem gJ14_init_4 : plainName (mY mJ14_init_4).cls = true ∧ (mY mJ14_init_4).cls = "java/lang/Exception" := ⟨by decide +kernel, rfl⟩
def dkwJ14_init_4_0 : List UInt8 := [42, 43, 44, 29, 21, 4, 183, 0, 16, 177]
abbrev dktJ14_init_4_0 : List UInt8 := dkwJ14_init_4_0 ++ []
theorem dksJ14_init_4_0 : cJ14_init_4.data.toList.drop 0 = dktJ14_init_4_0 := by decide +kernel
theorem dJ14_init_4_0 : DC mJ14_init_4 0 = .ok (.aload_n 0, 1) := dk_42 (dk_at dksJ14_init_4_0 0 rfl rfl)
theorem dJ14_init_4_1 : DC mJ14_init_4 1 = .ok (.aload_n 1, 1) := dk_43 (dk_at dksJ14_init_4_0 1 rfl rfl)
theorem dJ14_init_4_2 : DC mJ14_init_4 2 = .ok (.aload_n 2, 1) := dk_44 (dk_at dksJ14_init_4_0 2 rfl rfl)
theorem dJ14_init_4_3 : DC mJ14_init_4 3 = .ok (.iload_n 3, 1) := dk_29 (dk_at dksJ14_init_4_0 3 rfl rfl)
theorem dJ14_init_4_4 : DC mJ14_init_4 4 = .ok (.iload 4, 2) := dk_21 4 (dk_at dksJ14_init_4_0 4 rfl rfl)
theorem dJ14_init_4_6 : DC mJ14_init_4 6 = .ok (.invokespecial 16, 3) := dk_183 0 16 (dk_at dksJ14_init_4_0 6 rfl rfl)
theorem dJ14_init_4_9 : DC mJ14_init_4 9 = .ok (.return_, 1) := dk_177 (dk_at dksJ14_init_4_0 9 rfl rfl)

/-! jdk/internal/util/Preconditions -/
set_option maxRecDepth 100000
def RJ17 : String := "jdk/internal/util/Preconditions"
abbrev cJ17_checkFromToIndex : ByteArray := prog_70_method_12_code
def yJ17_checkFromToIndex : MethodName := ⟨RJ17, "checkFromToIndex", "(IIILjava/util/function/BiFunction;)I"⟩
def mJ17_checkFromToIndex : MI := (⟨"jdk/internal/util/Preconditions", "checkFromToIndex", "(IIILjava/util/function/BiFunction;)I"⟩, prog_70_method_12_code, 4, (Option.some FieldType.int), none, 17, 1)
theorem oJ17_checkFromToIndex : mO mJ17_checkFromToIndex = 17 := rfl
theorem lJ17_checkFromToIndex : mL mJ17_checkFromToIndex = 4 := rfl
theorem rJ17_checkFromToIndex : mR mJ17_checkFromToIndex = (Option.some FieldType.int) := rfl
theorem vJ17_checkFromToIndex : mV mJ17_checkFromToIndex = 1 := rfl
theorem nJ17_checkFromToIndex : (mY mJ17_checkFromToIndex).name = "checkFromToIndex" := rfl
theorem hJ17_checkFromToIndex : mH mJ17_checkFromToIndex = none := rfl
theorem kJ17_checkFromToIndex : MOk mJ17_checkFromToIndex := ⟨q622, q97, by decide +kernel⟩
theorem gJ17_checkFromToIndex : plainName (mY mJ17_checkFromToIndex).cls = true ∧ (mY mJ17_checkFromToIndex).cls = "jdk/internal/util/Preconditions" := ⟨by decide +kernel, rfl⟩
def dkwJ17_checkFromToIndex_0 : List UInt8 := [26, 155, 0, 13, 26, 27, 163, 0, 8, 27, 28, 164, 0, 11, 45, 26, 27, 28, 184, 0, 99, 191, 26, 172]
abbrev dktJ17_checkFromToIndex_0 : List UInt8 := dkwJ17_checkFromToIndex_0 ++ []
theorem dksJ17_checkFromToIndex_0 : cJ17_checkFromToIndex.data.toList.drop 0 = dktJ17_checkFromToIndex_0 := by decide +kernel
theorem dJ17_checkFromToIndex_0 : DC mJ17_checkFromToIndex 0 = .ok (.iload_n 0, 1) := dk_26 (dk_at dksJ17_checkFromToIndex_0 0 rfl rfl)
theorem dJ17_checkFromToIndex_1 : DC mJ17_checkFromToIndex 1 = .ok (.ifCond .lt 13, 3) := dk_155 0 13 (dk_at dksJ17_checkFromToIndex_0 1 rfl rfl)
theorem dJ17_checkFromToIndex_4 : DC mJ17_checkFromToIndex 4 = .ok (.iload_n 0, 1) := dk_26 (dk_at dksJ17_checkFromToIndex_0 4 rfl rfl)
theorem dJ17_checkFromToIndex_5 : DC mJ17_checkFromToIndex 5 = .ok (.iload_n 1, 1) := dk_27 (dk_at dksJ17_checkFromToIndex_0 5 rfl rfl)
theorem dJ17_checkFromToIndex_6 : DC mJ17_checkFromToIndex 6 = .ok (.if_icmp .gt 8, 3) := dk_163 0 8 (dk_at dksJ17_checkFromToIndex_0 6 rfl rfl)
theorem dJ17_checkFromToIndex_9 : DC mJ17_checkFromToIndex 9 = .ok (.iload_n 1, 1) := dk_27 (dk_at dksJ17_checkFromToIndex_0 9 rfl rfl)
theorem dJ17_checkFromToIndex_10 : DC mJ17_checkFromToIndex 10 = .ok (.iload_n 2, 1) := dk_28 (dk_at dksJ17_checkFromToIndex_0 10 rfl rfl)
theorem dJ17_checkFromToIndex_11 : DC mJ17_checkFromToIndex 11 = .ok (.if_icmp .le 11, 3) := dk_164 0 11 (dk_at dksJ17_checkFromToIndex_0 11 rfl rfl)
theorem dJ17_checkFromToIndex_14 : DC mJ17_checkFromToIndex 14 = .ok (.aload_n 3, 1) := dk_45 (dk_at dksJ17_checkFromToIndex_0 14 rfl rfl)
theorem dJ17_checkFromToIndex_15 : DC mJ17_checkFromToIndex 15 = .ok (.iload_n 0, 1) := dk_26 (dk_at dksJ17_checkFromToIndex_0 15 rfl rfl)
theorem dJ17_checkFromToIndex_16 : DC mJ17_checkFromToIndex 16 = .ok (.iload_n 1, 1) := dk_27 (dk_at dksJ17_checkFromToIndex_0 16 rfl rfl)
theorem dJ17_checkFromToIndex_17 : DC mJ17_checkFromToIndex 17 = .ok (.iload_n 2, 1) := dk_28 (dk_at dksJ17_checkFromToIndex_0 17 rfl rfl)
theorem dJ17_checkFromToIndex_18 : DC mJ17_checkFromToIndex 18 = .ok (.invokestatic 99, 3) := dk_184 0 99 (dk_at dksJ17_checkFromToIndex_0 18 rfl rfl)
theorem dJ17_checkFromToIndex_21 : DC mJ17_checkFromToIndex 21 = .ok (.athrow, 1) := dk_191 (dk_at dksJ17_checkFromToIndex_0 21 rfl rfl)
theorem dJ17_checkFromToIndex_22 : DC mJ17_checkFromToIndex 22 = .ok (.iload_n 0, 1) := dk_26 (dk_at dksJ17_checkFromToIndex_0 22 rfl rfl)
theorem dJ17_checkFromToIndex_23 : DC mJ17_checkFromToIndex 23 = .ok (.ireturn, 1) := dk_172 (dk_at dksJ17_checkFromToIndex_0 23 rfl rfl)
abbrev cJ17_checkFromIndexSize : ByteArray := prog_70_method_13_code
def yJ17_checkFromIndexSize : MethodName := ⟨RJ17, "checkFromIndexSize", "(IIILjava/util/function/BiFunction;)I"⟩
def mJ17_checkFromIndexSize : MI := (⟨"jdk/internal/util/Preconditions", "checkFromIndexSize", "(IIILjava/util/function/BiFunction;)I"⟩, prog_70_method_13_code, 4, (Option.some FieldType.int), none, 17, 1)
theorem oJ17_checkFromIndexSize : mO mJ17_checkFromIndexSize = 17 := rfl
theorem lJ17_checkFromIndexSize : mL mJ17_checkFromIndexSize = 4 := rfl
theorem rJ17_checkFromIndexSize : mR mJ17_checkFromIndexSize = (Option.some FieldType.int) := rfl
theorem vJ17_checkFromIndexSize : mV mJ17_checkFromIndexSize = 1 := rfl
theorem nJ17_checkFromIndexSize : (mY mJ17_checkFromIndexSize).name = "checkFromIndexSize" := rfl
theorem hJ17_checkFromIndexSize : mH mJ17_checkFromIndexSize = none := rfl
theorem kJ17_checkFromIndexSize : MOk mJ17_checkFromIndexSize := ⟨q668, q97, by decide +kernel⟩
theorem gJ17_checkFromIndexSize : plainName (mY mJ17_checkFromIndexSize).cls = true ∧ (mY mJ17_checkFromIndexSize).cls = "jdk/internal/util/Preconditions" := ⟨by decide +kernel, rfl⟩
def dkwJ17_checkFromIndexSize_1 : List UInt8 := [172]
abbrev dktJ17_checkFromIndexSize_1 : List UInt8 := dkwJ17_checkFromIndexSize_1 ++ []
def dkwJ17_checkFromIndexSize_0 : List UInt8 := [28, 26, 128, 27, 128, 155, 0, 10, 27, 28, 26, 100, 164, 0, 11, 45, 26, 27, 28, 184, 0, 103, 191, 26]
abbrev dktJ17_checkFromIndexSize_0 : List UInt8 := dkwJ17_checkFromIndexSize_0 ++ dktJ17_checkFromIndexSize_1
theorem dksJ17_checkFromIndexSize_0 : cJ17_checkFromIndexSize.data.toList.drop 0 = dktJ17_checkFromIndexSize_0 := by decide +kernel
theorem dksJ17_checkFromIndexSize_1 : cJ17_checkFromIndexSize.data.toList.drop 24 = dktJ17_checkFromIndexSize_1 := dk_seg dksJ17_checkFromIndexSize_0 24 rfl rfl
theorem dJ17_checkFromIndexSize_0 : DC mJ17_checkFromIndexSize 0 = .ok (.iload_n 2, 1) := dk_28 (dk_at dksJ17_checkFromIndexSize_0 0 rfl rfl)
theorem dJ17_checkFromIndexSize_1 : DC mJ17_checkFromIndexSize 1 = .ok (.iload_n 0, 1) := dk_26 (dk_at dksJ17_checkFromIndexSize_0 1 rfl rfl)
theorem dJ17_checkFromIndexSize_2 : DC mJ17_checkFromIndexSize 2 = .ok (.ior, 1) := dk_128 (dk_at dksJ17_checkFromIndexSize_0 2 rfl rfl)
theorem dJ17_checkFromIndexSize_3 : DC mJ17_checkFromIndexSize 3 = .ok (.iload_n 1, 1) := dk_27 (dk_at dksJ17_checkFromIndexSize_0 3 rfl rfl)
theorem dJ17_checkFromIndexSize_4 : DC mJ17_checkFromIndexSize 4 = .ok (.ior, 1) := dk_128 (dk_at dksJ17_checkFromIndexSize_0 4 rfl rfl)
theorem dJ17_checkFromIndexSize_5 : DC mJ17_checkFromIndexSize 5 = .ok (.ifCond .lt 10, 3) := dk_155 0 10 (dk_at dksJ17_checkFromIndexSize_0 5 rfl rfl)
theorem dJ17_checkFromIndexSize_8 : DC mJ17_checkFromIndexSize 8 = .ok (.iload_n 1, 1) := dk_27 (dk_at dksJ17_checkFromIndexSize_0 8 rfl rfl)
theorem dJ17_checkFromIndexSize_9 : DC mJ17_checkFromIndexSize 9 = .ok (.iload_n 2, 1) := dk_28 (dk_at dksJ17_checkFromIndexSize_0 9 rfl rfl)
theorem dJ17_checkFromIndexSize_10 : DC mJ17_checkFromIndexSize 10 = .ok (.iload_n 0, 1) := dk_26 (dk_at dksJ17_checkFromIndexSize_0 10 rfl rfl)
theorem dJ17_checkFromIndexSize_11 : DC mJ17_checkFromIndexSize 11 = .ok (.isub, 1) := dk_100 (dk_at dksJ17_checkFromIndexSize_0 11 rfl rfl)
theorem dJ17_checkFromIndexSize_12 : DC mJ17_checkFromIndexSize 12 = .ok (.if_icmp .le 11, 3) := dk_164 0 11 (dk_at dksJ17_checkFromIndexSize_0 12 rfl rfl)
theorem dJ17_checkFromIndexSize_15 : DC mJ17_checkFromIndexSize 15 = .ok (.aload_n 3, 1) := dk_45 (dk_at dksJ17_checkFromIndexSize_0 15 rfl rfl)
theorem dJ17_checkFromIndexSize_16 : DC mJ17_checkFromIndexSize 16 = .ok (.iload_n 0, 1) := dk_26 (dk_at dksJ17_checkFromIndexSize_0 16 rfl rfl)
theorem dJ17_checkFromIndexSize_17 : DC mJ17_checkFromIndexSize 17 = .ok (.iload_n 1, 1) := dk_27 (dk_at dksJ17_checkFromIndexSize_0 17 rfl rfl)
theorem dJ17_checkFromIndexSize_18 : DC mJ17_checkFromIndexSize 18 = .ok (.iload_n 2, 1) := dk_28 (dk_at dksJ17_checkFromIndexSize_0 18 rfl rfl)
theorem dJ17_checkFromIndexSize_19 : DC mJ17_checkFromIndexSize 19 = .ok (.invokestatic 103, 3) := dk_184 0 103 (dk_at dksJ17_checkFromIndexSize_0 19 rfl rfl)
theorem dJ17_checkFromIndexSize_22 : DC mJ17_checkFromIndexSize 22 = .ok (.athrow, 1) := dk_191 (dk_at dksJ17_checkFromIndexSize_0 22 rfl rfl)
theorem dJ17_checkFromIndexSize_23 : DC mJ17_checkFromIndexSize 23 = .ok (.iload_n 0, 1) := dk_26 (dk_at dksJ17_checkFromIndexSize_0 23 rfl rfl)
theorem dJ17_checkFromIndexSize_24 : DC mJ17_checkFromIndexSize 24 = .ok (.ireturn, 1) := dk_172 (dk_at dksJ17_checkFromIndexSize_1 0 rfl rfl)
abbrev cJ17_checkIndex : ByteArray := prog_70_method_11_code
def yJ17_checkIndex : MethodName := ⟨RJ17, "checkIndex", "(IILjava/util/function/BiFunction;)I"⟩
def mJ17_checkIndex : MI := (⟨"jdk/internal/util/Preconditions", "checkIndex", "(IILjava/util/function/BiFunction;)I"⟩, prog_70_method_11_code, 3, (Option.some FieldType.int), none, 17, 1)
theorem oJ17_checkIndex : mO mJ17_checkIndex = 17 := rfl
theorem lJ17_checkIndex : mL mJ17_checkIndex = 3 := rfl
theorem rJ17_checkIndex : mR mJ17_checkIndex = (Option.some FieldType.int) := rfl
theorem vJ17_checkIndex : mV mJ17_checkIndex = 1 := rfl
theorem nJ17_checkIndex : (mY mJ17_checkIndex).name = "checkIndex" := rfl
theorem hJ17_checkIndex : mH mJ17_checkIndex = none := rfl
theorem kJ17_checkIndex : MOk mJ17_checkIndex := ⟨q967, q97, by decide +kernel⟩
theorem gJ17_checkIndex : plainName (mY mJ17_checkIndex).cls = true ∧ (mY mJ17_checkIndex).cls = "jdk/internal/util/Preconditions" := ⟨by decide +kernel, rfl⟩
def dkwJ17_checkIndex_0 : List UInt8 := [26, 155, 0, 8, 26, 27, 161, 0, 10, 44, 26, 27, 184, 0, 95, 191, 26, 172]
abbrev dktJ17_checkIndex_0 : List UInt8 := dkwJ17_checkIndex_0 ++ []
theorem dksJ17_checkIndex_0 : cJ17_checkIndex.data.toList.drop 0 = dktJ17_checkIndex_0 := by decide +kernel
theorem dJ17_checkIndex_0 : DC mJ17_checkIndex 0 = .ok (.iload_n 0, 1) := dk_26 (dk_at dksJ17_checkIndex_0 0 rfl rfl)
theorem dJ17_checkIndex_1 : DC mJ17_checkIndex 1 = .ok (.ifCond .lt 8, 3) := dk_155 0 8 (dk_at dksJ17_checkIndex_0 1 rfl rfl)
theorem dJ17_checkIndex_4 : DC mJ17_checkIndex 4 = .ok (.iload_n 0, 1) := dk_26 (dk_at dksJ17_checkIndex_0 4 rfl rfl)
theorem dJ17_checkIndex_5 : DC mJ17_checkIndex 5 = .ok (.iload_n 1, 1) := dk_27 (dk_at dksJ17_checkIndex_0 5 rfl rfl)
theorem dJ17_checkIndex_6 : DC mJ17_checkIndex 6 = .ok (.if_icmp .lt 10, 3) := dk_161 0 10 (dk_at dksJ17_checkIndex_0 6 rfl rfl)
theorem dJ17_checkIndex_9 : DC mJ17_checkIndex 9 = .ok (.aload_n 2, 1) := dk_44 (dk_at dksJ17_checkIndex_0 9 rfl rfl)
theorem dJ17_checkIndex_10 : DC mJ17_checkIndex 10 = .ok (.iload_n 0, 1) := dk_26 (dk_at dksJ17_checkIndex_0 10 rfl rfl)
theorem dJ17_checkIndex_11 : DC mJ17_checkIndex 11 = .ok (.iload_n 1, 1) := dk_27 (dk_at dksJ17_checkIndex_0 11 rfl rfl)
theorem dJ17_checkIndex_12 : DC mJ17_checkIndex 12 = .ok (.invokestatic 95, 3) := dk_184 0 95 (dk_at dksJ17_checkIndex_0 12 rfl rfl)
theorem dJ17_checkIndex_15 : DC mJ17_checkIndex 15 = .ok (.athrow, 1) := dk_191 (dk_at dksJ17_checkIndex_0 15 rfl rfl)
theorem dJ17_checkIndex_16 : DC mJ17_checkIndex 16 = .ok (.iload_n 0, 1) := dk_26 (dk_at dksJ17_checkIndex_0 16 rfl rfl)
theorem dJ17_checkIndex_17 : DC mJ17_checkIndex 17 = .ok (.ireturn, 1) := dk_172 (dk_at dksJ17_checkIndex_0 17 rfl rfl)

/-! java/lang/StringLatin1 -/
set_option maxRecDepth 100000
def RJ18 : String := "java/lang/StringLatin1"
abbrev cJ18_inflate : ByteArray := prog_37_method_50_code
def yJ18_inflate : MethodName := ⟨RJ18, "inflate", "([BI[BII)V"⟩
def mJ18_inflate : MI := (⟨"java/lang/StringLatin1", "inflate", "([BI[BII)V"⟩, prog_37_method_50_code, 5, (Option.none : Option FieldType), none, 18, 5)
theorem oJ18_inflate : mO mJ18_inflate = 18 := rfl
theorem lJ18_inflate : mL mJ18_inflate = 5 := rfl
theorem rJ18_inflate : mR mJ18_inflate = (Option.none : Option FieldType) := rfl
theorem vJ18_inflate : mV mJ18_inflate = 5 := rfl
theorem nJ18_inflate : (mY mJ18_inflate).name = "inflate" := rfl
theorem hJ18_inflate : mH mJ18_inflate = none := rfl
theorem kJ18_inflate : MOk mJ18_inflate := ⟨q656, q98, by decide +kernel⟩
theorem gJ18_inflate : plainName (mY mJ18_inflate).cls = true ∧ (mY mJ18_inflate).cls = "java/lang/StringLatin1" := ⟨by decide +kernel, rfl⟩
def dkwJ18_inflate_0 : List UInt8 := [42, 27, 44, 29, 21, 4, 184, 0, 240, 177]
abbrev dktJ18_inflate_0 : List UInt8 := dkwJ18_inflate_0 ++ []
theorem dksJ18_inflate_0 : cJ18_inflate.data.toList.drop 0 = dktJ18_inflate_0 := by decide +kernel
theorem dJ18_inflate_0 : DC mJ18_inflate 0 = .ok (.aload_n 0, 1) := dk_42 (dk_at dksJ18_inflate_0 0 rfl rfl)
theorem dJ18_inflate_1 : DC mJ18_inflate 1 = .ok (.iload_n 1, 1) := dk_27 (dk_at dksJ18_inflate_0 1 rfl rfl)
theorem dJ18_inflate_2 : DC mJ18_inflate 2 = .ok (.aload_n 2, 1) := dk_44 (dk_at dksJ18_inflate_0 2 rfl rfl)
theorem dJ18_inflate_3 : DC mJ18_inflate 3 = .ok (.iload_n 3, 1) := dk_29 (dk_at dksJ18_inflate_0 3 rfl rfl)
theorem dJ18_inflate_4 : DC mJ18_inflate 4 = .ok (.iload 4, 2) := dk_21 4 (dk_at dksJ18_inflate_0 4 rfl rfl)
theorem dJ18_inflate_6 : DC mJ18_inflate 6 = .ok (.invokestatic 240, 3) := dk_184 0 240 (dk_at dksJ18_inflate_0 6 rfl rfl)
theorem dJ18_inflate_9 : DC mJ18_inflate 9 = .ok (.return_, 1) := dk_177 (dk_at dksJ18_inflate_0 9 rfl rfl)
abbrev cJ18_hashCode : ByteArray := prog_37_method_21_code
def yJ18_hashCode : MethodName := ⟨RJ18, "hashCode", "([B)I"⟩
def mJ18_hashCode : MI := (⟨"java/lang/StringLatin1", "hashCode", "([B)I"⟩, prog_37_method_21_code, 1, (Option.some FieldType.int), none, 18, 12)
theorem oJ18_hashCode : mO mJ18_hashCode = 18 := rfl
theorem lJ18_hashCode : mL mJ18_hashCode = 1 := rfl
theorem rJ18_hashCode : mR mJ18_hashCode = (Option.some FieldType.int) := rfl
theorem vJ18_hashCode : mV mJ18_hashCode = 12 := rfl
theorem nJ18_hashCode : (mY mJ18_hashCode).name = "hashCode" := rfl
theorem hJ18_hashCode : mH mJ18_hashCode = none := rfl
theorem kJ18_hashCode : MOk mJ18_hashCode := ⟨q1261, q98, by decide +kernel⟩
theorem gJ18_hashCode : plainName (mY mJ18_hashCode).cls = true ∧ (mY mJ18_hashCode).cls = "java/lang/StringLatin1" := ⟨by decide +kernel, rfl⟩
def dkwJ18_hashCode_2 : List UInt8 := [3, 167, 0, 22, 42, 3, 51, 17, 0, 255, 126, 167, 0, 12, 42, 3, 42, 190, 3, 7, 184, 0, 84, 172]
abbrev dktJ18_hashCode_2 : List UInt8 := dkwJ18_hashCode_2 ++ []
def dkwJ18_hashCode_1 : List UInt8 := [171, 0, 0, 0, 0, 40, 0, 0, 0, 2, 0, 0, 0, 0, 0, 0, 0, 26, 0, 0, 0, 1, 0, 0, 0, 30]
abbrev dktJ18_hashCode_1 : List UInt8 := dkwJ18_hashCode_1 ++ dktJ18_hashCode_2
def dkwJ18_hashCode_0 : List UInt8 := [42, 190]
abbrev dktJ18_hashCode_0 : List UInt8 := dkwJ18_hashCode_0 ++ dktJ18_hashCode_1
theorem dksJ18_hashCode_0 : cJ18_hashCode.data.toList.drop 0 = dktJ18_hashCode_0 := by decide +kernel
theorem dksJ18_hashCode_1 : cJ18_hashCode.data.toList.drop 2 = dktJ18_hashCode_1 := dk_seg dksJ18_hashCode_0 2 rfl rfl
theorem dksJ18_hashCode_2 : cJ18_hashCode.data.toList.drop 28 = dktJ18_hashCode_2 := dk_seg dksJ18_hashCode_1 26 rfl rfl
theorem dJ18_hashCode_0 : DC mJ18_hashCode 0 = .ok (.aload_n 0, 1) := dk_42 (dk_at dksJ18_hashCode_0 0 rfl rfl)
theorem dJ18_hashCode_1 : DC mJ18_hashCode 1 = .ok (.arraylength, 1) := dk_190 (dk_at dksJ18_hashCode_0 1 rfl rfl)
theorem dJ18_hashCode_2 : DC mJ18_hashCode 2 = .ok (.lookupswitch 40 #[(0, 26), (1, 30)], 26) := by decide +kernel
theorem dJ18_hashCode_28 : DC mJ18_hashCode 28 = .ok (.iconst 0, 1) := dk_3 (dk_at dksJ18_hashCode_2 0 rfl rfl)
theorem dJ18_hashCode_29 : DC mJ18_hashCode 29 = .ok (.goto 22, 3) := dk_167 0 22 (dk_at dksJ18_hashCode_2 1 rfl rfl)
theorem dJ18_hashCode_32 : DC mJ18_hashCode 32 = .ok (.aload_n 0, 1) := dk_42 (dk_at dksJ18_hashCode_2 4 rfl rfl)
theorem dJ18_hashCode_33 : DC mJ18_hashCode 33 = .ok (.iconst 0, 1) := dk_3 (dk_at dksJ18_hashCode_2 5 rfl rfl)
theorem dJ18_hashCode_34 : DC mJ18_hashCode 34 = .ok (.baload, 1) := dk_51 (dk_at dksJ18_hashCode_2 6 rfl rfl)
theorem dJ18_hashCode_35 : DC mJ18_hashCode 35 = .ok (.sipush 255, 3) := dk_17 0 255 (dk_at dksJ18_hashCode_2 7 rfl rfl)
theorem dJ18_hashCode_38 : DC mJ18_hashCode 38 = .ok (.iand, 1) := dk_126 (dk_at dksJ18_hashCode_2 10 rfl rfl)
theorem dJ18_hashCode_39 : DC mJ18_hashCode 39 = .ok (.goto 12, 3) := dk_167 0 12 (dk_at dksJ18_hashCode_2 11 rfl rfl)
theorem dJ18_hashCode_42 : DC mJ18_hashCode 42 = .ok (.aload_n 0, 1) := dk_42 (dk_at dksJ18_hashCode_2 14 rfl rfl)
theorem dJ18_hashCode_43 : DC mJ18_hashCode 43 = .ok (.iconst 0, 1) := dk_3 (dk_at dksJ18_hashCode_2 15 rfl rfl)
theorem dJ18_hashCode_44 : DC mJ18_hashCode 44 = .ok (.aload_n 0, 1) := dk_42 (dk_at dksJ18_hashCode_2 16 rfl rfl)
theorem dJ18_hashCode_45 : DC mJ18_hashCode 45 = .ok (.arraylength, 1) := dk_190 (dk_at dksJ18_hashCode_2 17 rfl rfl)
theorem dJ18_hashCode_46 : DC mJ18_hashCode 46 = .ok (.iconst 0, 1) := dk_3 (dk_at dksJ18_hashCode_2 18 rfl rfl)
theorem dJ18_hashCode_47 : DC mJ18_hashCode 47 = .ok (.iconst 4, 1) := dk_7 (dk_at dksJ18_hashCode_2 19 rfl rfl)
theorem dJ18_hashCode_48 : DC mJ18_hashCode 48 = .ok (.invokestatic 84, 3) := dk_184 0 84 (dk_at dksJ18_hashCode_2 20 rfl rfl)
theorem dJ18_hashCode_51 : DC mJ18_hashCode 51 = .ok (.ireturn, 1) := dk_172 (dk_at dksJ18_hashCode_2 23 rfl rfl)
abbrev cJ18_equals : ByteArray := prog_37_method_13_code
def yJ18_equals : MethodName := ⟨RJ18, "equals", "([B[B)Z"⟩
def mJ18_equals : MI := (⟨"java/lang/StringLatin1", "equals", "([B[B)Z"⟩, prog_37_method_13_code, 3, (Option.some FieldType.boolean), none, 18, 1)
theorem oJ18_equals : mO mJ18_equals = 18 := rfl
theorem lJ18_equals : mL mJ18_equals = 3 := rfl
theorem rJ18_equals : mR mJ18_equals = (Option.some FieldType.boolean) := rfl
theorem vJ18_equals : mV mJ18_equals = 1 := rfl
theorem nJ18_equals : (mY mJ18_equals).name = "equals" := rfl
theorem hJ18_equals : mH mJ18_equals = none := rfl
theorem kJ18_equals : MOk mJ18_equals := ⟨q1320, q98, by decide +kernel⟩
theorem gJ18_equals : plainName (mY mJ18_equals).cls = true ∧ (mY mJ18_equals).cls = "java/lang/StringLatin1" := ⟨by decide +kernel, rfl⟩
def dkwJ18_equals_1 : List UInt8 := [3, 172, 132, 2, 1, 167, 255, 236, 4, 172, 3, 172]
abbrev dktJ18_equals_1 : List UInt8 := dkwJ18_equals_1 ++ []
def dkwJ18_equals_0 : List UInt8 := [42, 190, 43, 190, 160, 0, 30, 3, 61, 28, 42, 190, 162, 0, 20, 42, 28, 51, 43, 28, 51, 159, 0, 5]
abbrev dktJ18_equals_0 : List UInt8 := dkwJ18_equals_0 ++ dktJ18_equals_1
theorem dksJ18_equals_0 : cJ18_equals.data.toList.drop 0 = dktJ18_equals_0 := by decide +kernel
theorem dksJ18_equals_1 : cJ18_equals.data.toList.drop 24 = dktJ18_equals_1 := dk_seg dksJ18_equals_0 24 rfl rfl
theorem dJ18_equals_0 : DC mJ18_equals 0 = .ok (.aload_n 0, 1) := dk_42 (dk_at dksJ18_equals_0 0 rfl rfl)
theorem dJ18_equals_1 : DC mJ18_equals 1 = .ok (.arraylength, 1) := dk_190 (dk_at dksJ18_equals_0 1 rfl rfl)
theorem dJ18_equals_2 : DC mJ18_equals 2 = .ok (.aload_n 1, 1) := dk_43 (dk_at dksJ18_equals_0 2 rfl rfl)
theorem dJ18_equals_3 : DC mJ18_equals 3 = .ok (.arraylength, 1) := dk_190 (dk_at dksJ18_equals_0 3 rfl rfl)
theorem dJ18_equals_4 : DC mJ18_equals 4 = .ok (.if_icmp .ne 30, 3) := dk_160 0 30 (dk_at dksJ18_equals_0 4 rfl rfl)
theorem dJ18_equals_7 : DC mJ18_equals 7 = .ok (.iconst 0, 1) := dk_3 (dk_at dksJ18_equals_0 7 rfl rfl)
theorem dJ18_equals_8 : DC mJ18_equals 8 = .ok (.istore_n 2, 1) := dk_61 (dk_at dksJ18_equals_0 8 rfl rfl)
theorem dJ18_equals_9 : DC mJ18_equals 9 = .ok (.iload_n 2, 1) := dk_28 (dk_at dksJ18_equals_0 9 rfl rfl)
theorem dJ18_equals_10 : DC mJ18_equals 10 = .ok (.aload_n 0, 1) := dk_42 (dk_at dksJ18_equals_0 10 rfl rfl)
theorem dJ18_equals_11 : DC mJ18_equals 11 = .ok (.arraylength, 1) := dk_190 (dk_at dksJ18_equals_0 11 rfl rfl)
theorem dJ18_equals_12 : DC mJ18_equals 12 = .ok (.if_icmp .ge 20, 3) := dk_162 0 20 (dk_at dksJ18_equals_0 12 rfl rfl)
theorem dJ18_equals_15 : DC mJ18_equals 15 = .ok (.aload_n 0, 1) := dk_42 (dk_at dksJ18_equals_0 15 rfl rfl)
theorem dJ18_equals_16 : DC mJ18_equals 16 = .ok (.iload_n 2, 1) := dk_28 (dk_at dksJ18_equals_0 16 rfl rfl)
theorem dJ18_equals_17 : DC mJ18_equals 17 = .ok (.baload, 1) := dk_51 (dk_at dksJ18_equals_0 17 rfl rfl)
theorem dJ18_equals_18 : DC mJ18_equals 18 = .ok (.aload_n 1, 1) := dk_43 (dk_at dksJ18_equals_0 18 rfl rfl)
theorem dJ18_equals_19 : DC mJ18_equals 19 = .ok (.iload_n 2, 1) := dk_28 (dk_at dksJ18_equals_0 19 rfl rfl)
theorem dJ18_equals_20 : DC mJ18_equals 20 = .ok (.baload, 1) := dk_51 (dk_at dksJ18_equals_0 20 rfl rfl)
theorem dJ18_equals_21 : DC mJ18_equals 21 = .ok (.if_icmp .eq 5, 3) := dk_159 0 5 (dk_at dksJ18_equals_0 21 rfl rfl)
theorem dJ18_equals_24 : DC mJ18_equals 24 = .ok (.iconst 0, 1) := dk_3 (dk_at dksJ18_equals_1 0 rfl rfl)
theorem dJ18_equals_25 : DC mJ18_equals 25 = .ok (.ireturn, 1) := dk_172 (dk_at dksJ18_equals_1 1 rfl rfl)
theorem dJ18_equals_26 : DC mJ18_equals 26 = .ok (.iinc 2 1, 3) := dk_132 2 1 (dk_at dksJ18_equals_1 2 rfl rfl)
theorem dJ18_equals_29 : DC mJ18_equals 29 = .ok (.goto (-20), 3) := dk_167 255 236 (dk_at dksJ18_equals_1 5 rfl rfl)
theorem dJ18_equals_32 : DC mJ18_equals 32 = .ok (.iconst 1, 1) := dk_4 (dk_at dksJ18_equals_1 8 rfl rfl)
theorem dJ18_equals_33 : DC mJ18_equals 33 = .ok (.ireturn, 1) := dk_172 (dk_at dksJ18_equals_1 9 rfl rfl)
theorem dJ18_equals_34 : DC mJ18_equals 34 = .ok (.iconst 0, 1) := dk_3 (dk_at dksJ18_equals_1 10 rfl rfl)
theorem dJ18_equals_35 : DC mJ18_equals 35 = .ok (.ireturn, 1) := dk_172 (dk_at dksJ18_equals_1 11 rfl rfl)
abbrev cJ18_charAt : ByteArray := prog_37_method_2_code
def yJ18_charAt : MethodName := ⟨RJ18, "charAt", "([BI)C"⟩
def mJ18_charAt : MI := (⟨"java/lang/StringLatin1", "charAt", "([BI)C"⟩, prog_37_method_2_code, 2, (Option.some FieldType.char), none, 18, 3)
theorem oJ18_charAt : mO mJ18_charAt = 18 := rfl
theorem lJ18_charAt : mL mJ18_charAt = 2 := rfl
theorem rJ18_charAt : mR mJ18_charAt = (Option.some FieldType.char) := rfl
theorem vJ18_charAt : mV mJ18_charAt = 3 := rfl
theorem nJ18_charAt : (mY mJ18_charAt).name = "charAt" := rfl
theorem hJ18_charAt : mH mJ18_charAt = none := rfl
theorem kJ18_charAt : MOk mJ18_charAt := ⟨q1975, q98, by decide +kernel⟩
theorem gJ18_charAt : plainName (mY mJ18_charAt).cls = true ∧ (mY mJ18_charAt).cls = "java/lang/StringLatin1" := ⟨by decide +kernel, rfl⟩
def dkwJ18_charAt_0 : List UInt8 := [27, 42, 190, 184, 0, 9, 42, 27, 51, 17, 0, 255, 126, 146, 172]
abbrev dktJ18_charAt_0 : List UInt8 := dkwJ18_charAt_0 ++ []
theorem dksJ18_charAt_0 : cJ18_charAt.data.toList.drop 0 = dktJ18_charAt_0 := by decide +kernel
theorem dJ18_charAt_0 : DC mJ18_charAt 0 = .ok (.iload_n 1, 1) := dk_27 (dk_at dksJ18_charAt_0 0 rfl rfl)
theorem dJ18_charAt_1 : DC mJ18_charAt 1 = .ok (.aload_n 0, 1) := dk_42 (dk_at dksJ18_charAt_0 1 rfl rfl)
theorem dJ18_charAt_2 : DC mJ18_charAt 2 = .ok (.arraylength, 1) := dk_190 (dk_at dksJ18_charAt_0 2 rfl rfl)
theorem dJ18_charAt_3 : DC mJ18_charAt 3 = .ok (.invokestatic 9, 3) := dk_184 0 9 (dk_at dksJ18_charAt_0 3 rfl rfl)
theorem dJ18_charAt_6 : DC mJ18_charAt 6 = .ok (.aload_n 0, 1) := dk_42 (dk_at dksJ18_charAt_0 6 rfl rfl)
theorem dJ18_charAt_7 : DC mJ18_charAt 7 = .ok (.iload_n 1, 1) := dk_27 (dk_at dksJ18_charAt_0 7 rfl rfl)
theorem dJ18_charAt_8 : DC mJ18_charAt 8 = .ok (.baload, 1) := dk_51 (dk_at dksJ18_charAt_0 8 rfl rfl)
theorem dJ18_charAt_9 : DC mJ18_charAt 9 = .ok (.sipush 255, 3) := dk_17 0 255 (dk_at dksJ18_charAt_0 9 rfl rfl)
theorem dJ18_charAt_12 : DC mJ18_charAt 12 = .ok (.iand, 1) := dk_126 (dk_at dksJ18_charAt_0 12 rfl rfl)
theorem dJ18_charAt_13 : DC mJ18_charAt 13 = .ok (.i2c, 1) := dk_146 (dk_at dksJ18_charAt_0 13 rfl rfl)
theorem dJ18_charAt_14 : DC mJ18_charAt 14 = .ok (.ireturn, 1) := dk_172 (dk_at dksJ18_charAt_0 14 rfl rfl)
abbrev cJ18_canEncode : ByteArray := prog_37_method_3_code
def yJ18_canEncode : MethodName := ⟨RJ18, "canEncode", "(C)Z"⟩
def mJ18_canEncode : MI := (⟨"java/lang/StringLatin1", "canEncode", "(C)Z"⟩, prog_37_method_3_code, 1, (Option.some FieldType.boolean), none, 18, 1)
theorem oJ18_canEncode : mO mJ18_canEncode = 18 := rfl
theorem lJ18_canEncode : mL mJ18_canEncode = 1 := rfl
theorem rJ18_canEncode : mR mJ18_canEncode = (Option.some FieldType.boolean) := rfl
theorem vJ18_canEncode : mV mJ18_canEncode = 1 := rfl
theorem nJ18_canEncode : (mY mJ18_canEncode).name = "canEncode" := rfl
theorem hJ18_canEncode : mH mJ18_canEncode = none := rfl
theorem kJ18_canEncode : MOk mJ18_canEncode := ⟨q1996, q98, by decide +kernel⟩
theorem gJ18_canEncode : plainName (mY mJ18_canEncode).cls = true ∧ (mY mJ18_canEncode).cls = "java/lang/StringLatin1" := ⟨by decide +kernel, rfl⟩
def dkwJ18_canEncode_0 : List UInt8 := [26, 17, 0, 255, 163, 0, 7, 4, 167, 0, 4, 3, 172]
abbrev dktJ18_canEncode_0 : List UInt8 := dkwJ18_canEncode_0 ++ []
theorem dksJ18_canEncode_0 : cJ18_canEncode.data.toList.drop 0 = dktJ18_canEncode_0 := by decide +kernel
theorem dJ18_canEncode_0 : DC mJ18_canEncode 0 = .ok (.iload_n 0, 1) := dk_26 (dk_at dksJ18_canEncode_0 0 rfl rfl)
theorem dJ18_canEncode_1 : DC mJ18_canEncode 1 = .ok (.sipush 255, 3) := dk_17 0 255 (dk_at dksJ18_canEncode_0 1 rfl rfl)
theorem dJ18_canEncode_4 : DC mJ18_canEncode 4 = .ok (.if_icmp .gt 7, 3) := dk_163 0 7 (dk_at dksJ18_canEncode_0 4 rfl rfl)
theorem dJ18_canEncode_7 : DC mJ18_canEncode 7 = .ok (.iconst 1, 1) := dk_4 (dk_at dksJ18_canEncode_0 7 rfl rfl)
theorem dJ18_canEncode_8 : DC mJ18_canEncode 8 = .ok (.goto 4, 3) := dk_167 0 4 (dk_at dksJ18_canEncode_0 8 rfl rfl)
theorem dJ18_canEncode_11 : DC mJ18_canEncode 11 = .ok (.iconst 0, 1) := dk_3 (dk_at dksJ18_canEncode_0 11 rfl rfl)
theorem dJ18_canEncode_12 : DC mJ18_canEncode 12 = .ok (.ireturn, 1) := dk_172 (dk_at dksJ18_canEncode_0 12 rfl rfl)
abbrev cJ18_indexOf : ByteArray := prog_37_method_24_code
def yJ18_indexOf : MethodName := ⟨RJ18, "indexOf", "([B[B)I"⟩
def mJ18_indexOf : MI := (⟨"java/lang/StringLatin1", "indexOf", "([B[B)I"⟩, prog_37_method_24_code, 2, (Option.some FieldType.int), none, 18, 2)
theorem oJ18_indexOf : mO mJ18_indexOf = 18 := rfl
theorem lJ18_indexOf : mL mJ18_indexOf = 2 := rfl
theorem rJ18_indexOf : mR mJ18_indexOf = (Option.some FieldType.int) := rfl
theorem vJ18_indexOf : mV mJ18_indexOf = 2 := rfl
theorem nJ18_indexOf : (mY mJ18_indexOf).name = "indexOf" := rfl
theorem hJ18_indexOf : mH mJ18_indexOf = none := rfl
theorem kJ18_indexOf : MOk mJ18_indexOf := ⟨q2186, q98, by decide +kernel⟩
theorem gJ18_indexOf : plainName (mY mJ18_indexOf).cls = true ∧ (mY mJ18_indexOf).cls = "java/lang/StringLatin1" := ⟨by decide +kernel, rfl⟩
def dkwJ18_indexOf_1 : List UInt8 := [172]
abbrev dktJ18_indexOf_1 : List UInt8 := dkwJ18_indexOf_1 ++ []
def dkwJ18_indexOf_0 : List UInt8 := [43, 190, 154, 0, 5, 3, 172, 42, 190, 154, 0, 5, 2, 172, 42, 42, 190, 43, 43, 190, 3, 184, 0, 99]
abbrev dktJ18_indexOf_0 : List UInt8 := dkwJ18_indexOf_0 ++ dktJ18_indexOf_1
theorem dksJ18_indexOf_0 : cJ18_indexOf.data.toList.drop 0 = dktJ18_indexOf_0 := by decide +kernel
theorem dksJ18_indexOf_1 : cJ18_indexOf.data.toList.drop 24 = dktJ18_indexOf_1 := dk_seg dksJ18_indexOf_0 24 rfl rfl
theorem dJ18_indexOf_0 : DC mJ18_indexOf 0 = .ok (.aload_n 1, 1) := dk_43 (dk_at dksJ18_indexOf_0 0 rfl rfl)
theorem dJ18_indexOf_1 : DC mJ18_indexOf 1 = .ok (.arraylength, 1) := dk_190 (dk_at dksJ18_indexOf_0 1 rfl rfl)
theorem dJ18_indexOf_2 : DC mJ18_indexOf 2 = .ok (.ifCond .ne 5, 3) := dk_154 0 5 (dk_at dksJ18_indexOf_0 2 rfl rfl)
theorem dJ18_indexOf_5 : DC mJ18_indexOf 5 = .ok (.iconst 0, 1) := dk_3 (dk_at dksJ18_indexOf_0 5 rfl rfl)
theorem dJ18_indexOf_6 : DC mJ18_indexOf 6 = .ok (.ireturn, 1) := dk_172 (dk_at dksJ18_indexOf_0 6 rfl rfl)
theorem dJ18_indexOf_7 : DC mJ18_indexOf 7 = .ok (.aload_n 0, 1) := dk_42 (dk_at dksJ18_indexOf_0 7 rfl rfl)
theorem dJ18_indexOf_8 : DC mJ18_indexOf 8 = .ok (.arraylength, 1) := dk_190 (dk_at dksJ18_indexOf_0 8 rfl rfl)
theorem dJ18_indexOf_9 : DC mJ18_indexOf 9 = .ok (.ifCond .ne 5, 3) := dk_154 0 5 (dk_at dksJ18_indexOf_0 9 rfl rfl)
theorem dJ18_indexOf_12 : DC mJ18_indexOf 12 = .ok (.iconst (-1), 1) := dk_2 (dk_at dksJ18_indexOf_0 12 rfl rfl)
theorem dJ18_indexOf_13 : DC mJ18_indexOf 13 = .ok (.ireturn, 1) := dk_172 (dk_at dksJ18_indexOf_0 13 rfl rfl)
theorem dJ18_indexOf_14 : DC mJ18_indexOf 14 = .ok (.aload_n 0, 1) := dk_42 (dk_at dksJ18_indexOf_0 14 rfl rfl)
theorem dJ18_indexOf_15 : DC mJ18_indexOf 15 = .ok (.aload_n 0, 1) := dk_42 (dk_at dksJ18_indexOf_0 15 rfl rfl)
theorem dJ18_indexOf_16 : DC mJ18_indexOf 16 = .ok (.arraylength, 1) := dk_190 (dk_at dksJ18_indexOf_0 16 rfl rfl)
theorem dJ18_indexOf_17 : DC mJ18_indexOf 17 = .ok (.aload_n 1, 1) := dk_43 (dk_at dksJ18_indexOf_0 17 rfl rfl)
theorem dJ18_indexOf_18 : DC mJ18_indexOf 18 = .ok (.aload_n 1, 1) := dk_43 (dk_at dksJ18_indexOf_0 18 rfl rfl)
theorem dJ18_indexOf_19 : DC mJ18_indexOf 19 = .ok (.arraylength, 1) := dk_190 (dk_at dksJ18_indexOf_0 19 rfl rfl)
theorem dJ18_indexOf_20 : DC mJ18_indexOf 20 = .ok (.iconst 0, 1) := dk_3 (dk_at dksJ18_indexOf_0 20 rfl rfl)
theorem dJ18_indexOf_21 : DC mJ18_indexOf 21 = .ok (.invokestatic 99, 3) := dk_184 0 99 (dk_at dksJ18_indexOf_0 21 rfl rfl)
theorem dJ18_indexOf_24 : DC mJ18_indexOf 24 = .ok (.ireturn, 1) := dk_172 (dk_at dksJ18_indexOf_1 0 rfl rfl)
abbrev cJ18_indexOf_2 : ByteArray := prog_37_method_25_code
def yJ18_indexOf_2 : MethodName := ⟨RJ18, "indexOf", "([BI[BII)I"⟩
def mJ18_indexOf_2 : MI := (⟨"java/lang/StringLatin1", "indexOf", "([BI[BII)I"⟩, prog_37_method_25_code, 11, (Option.some FieldType.int), none, 18, 1)
theorem oJ18_indexOf_2 : mO mJ18_indexOf_2 = 18 := rfl
theorem lJ18_indexOf_2 : mL mJ18_indexOf_2 = 11 := rfl
theorem rJ18_indexOf_2 : mR mJ18_indexOf_2 = (Option.some FieldType.int) := rfl
theorem vJ18_indexOf_2 : mV mJ18_indexOf_2 = 1 := rfl
theorem nJ18_indexOf_2 : (mY mJ18_indexOf_2).name = "indexOf" := rfl
theorem hJ18_indexOf_2 : mH mJ18_indexOf_2 = none := rfl
theorem kJ18_indexOf_2 : MOk mJ18_indexOf_2 := ⟨q2189, q98, by decide +kernel⟩
theorem gJ18_indexOf_2 : plainName (mY mJ18_indexOf_2).cls = true ∧ (mY mJ18_indexOf_2).cls = "java/lang/StringLatin1" := ⟨by decide +kernel, rfl⟩
def dkwJ18_indexOf_2_5 : List UInt8 := [167, 255, 154, 2, 172]
abbrev dktJ18_indexOf_2_5 : List UInt8 := dkwJ18_indexOf_2_5 ++ []
def dkwJ18_indexOf_2_4 : List UInt8 := [132, 8, 1, 132, 10, 1, 167, 255, 232, 21, 8, 21, 9, 160, 0, 6, 21, 7, 172, 132, 7, 1]
abbrev dktJ18_indexOf_2_4 : List UInt8 := dkwJ18_indexOf_2_4 ++ dktJ18_indexOf_2_5
def dkwJ18_indexOf_2_3 : List UInt8 := [100, 54, 9, 4, 54, 10, 21, 8, 21, 9, 162, 0, 23, 42, 21, 8, 51, 44, 21, 10, 51, 160, 0, 12]
abbrev dktJ18_indexOf_2_3 : List UInt8 := dkwJ18_indexOf_2_3 ++ dktJ18_indexOf_2_4
def dkwJ18_indexOf_2_2 : List UInt8 := [159, 0, 6, 167, 255, 237, 21, 7, 21, 6, 163, 0, 57, 21, 7, 4, 96, 54, 8, 21, 8, 29, 96, 4]
abbrev dktJ18_indexOf_2_2 : List UInt8 := dkwJ18_indexOf_2_2 ++ dktJ18_indexOf_2_3
def dkwJ18_indexOf_2_1 : List UInt8 := [51, 21, 5, 159, 0, 25, 132, 7, 1, 21, 7, 21, 6, 163, 0, 15, 42, 21, 7, 51, 21, 5]
abbrev dktJ18_indexOf_2_1 : List UInt8 := dkwJ18_indexOf_2_1 ++ dktJ18_indexOf_2_2
def dkwJ18_indexOf_2_0 : List UInt8 := [44, 3, 51, 54, 5, 27, 29, 100, 54, 6, 21, 4, 54, 7, 21, 7, 21, 6, 163, 0, 101, 42, 21, 7]
abbrev dktJ18_indexOf_2_0 : List UInt8 := dkwJ18_indexOf_2_0 ++ dktJ18_indexOf_2_1
theorem dksJ18_indexOf_2_0 : cJ18_indexOf_2.data.toList.drop 0 = dktJ18_indexOf_2_0 := by decide +kernel
theorem dksJ18_indexOf_2_1 : cJ18_indexOf_2.data.toList.drop 24 = dktJ18_indexOf_2_1 := dk_seg dksJ18_indexOf_2_0 24 rfl rfl
theorem dksJ18_indexOf_2_2 : cJ18_indexOf_2.data.toList.drop 46 = dktJ18_indexOf_2_2 := dk_seg dksJ18_indexOf_2_1 22 rfl rfl
theorem dksJ18_indexOf_2_3 : cJ18_indexOf_2.data.toList.drop 70 = dktJ18_indexOf_2_3 := dk_seg dksJ18_indexOf_2_2 24 rfl rfl
theorem dksJ18_indexOf_2_4 : cJ18_indexOf_2.data.toList.drop 94 = dktJ18_indexOf_2_4 := dk_seg dksJ18_indexOf_2_3 24 rfl rfl
theorem dksJ18_indexOf_2_5 : cJ18_indexOf_2.data.toList.drop 116 = dktJ18_indexOf_2_5 := dk_seg dksJ18_indexOf_2_4 22 rfl rfl
theorem dJ18_indexOf_2_0 : DC mJ18_indexOf_2 0 = .ok (.aload_n 2, 1) := dk_44 (dk_at dksJ18_indexOf_2_0 0 rfl rfl)
theorem dJ18_indexOf_2_1 : DC mJ18_indexOf_2 1 = .ok (.iconst 0, 1) := dk_3 (dk_at dksJ18_indexOf_2_0 1 rfl rfl)
theorem dJ18_indexOf_2_2 : DC mJ18_indexOf_2 2 = .ok (.baload, 1) := dk_51 (dk_at dksJ18_indexOf_2_0 2 rfl rfl)
theorem dJ18_indexOf_2_3 : DC mJ18_indexOf_2 3 = .ok (.istore 5, 2) := dk_54 5 (dk_at dksJ18_indexOf_2_0 3 rfl rfl)
theorem dJ18_indexOf_2_5 : DC mJ18_indexOf_2 5 = .ok (.iload_n 1, 1) := dk_27 (dk_at dksJ18_indexOf_2_0 5 rfl rfl)
theorem dJ18_indexOf_2_6 : DC mJ18_indexOf_2 6 = .ok (.iload_n 3, 1) := dk_29 (dk_at dksJ18_indexOf_2_0 6 rfl rfl)
theorem dJ18_indexOf_2_7 : DC mJ18_indexOf_2 7 = .ok (.isub, 1) := dk_100 (dk_at dksJ18_indexOf_2_0 7 rfl rfl)
theorem dJ18_indexOf_2_8 : DC mJ18_indexOf_2 8 = .ok (.istore 6, 2) := dk_54 6 (dk_at dksJ18_indexOf_2_0 8 rfl rfl)
theorem dJ18_indexOf_2_10 : DC mJ18_indexOf_2 10 = .ok (.iload 4, 2) := dk_21 4 (dk_at dksJ18_indexOf_2_0 10 rfl rfl)
theorem dJ18_indexOf_2_12 : DC mJ18_indexOf_2 12 = .ok (.istore 7, 2) := dk_54 7 (dk_at dksJ18_indexOf_2_0 12 rfl rfl)
theorem dJ18_indexOf_2_14 : DC mJ18_indexOf_2 14 = .ok (.iload 7, 2) := dk_21 7 (dk_at dksJ18_indexOf_2_0 14 rfl rfl)
theorem dJ18_indexOf_2_16 : DC mJ18_indexOf_2 16 = .ok (.iload 6, 2) := dk_21 6 (dk_at dksJ18_indexOf_2_0 16 rfl rfl)
theorem dJ18_indexOf_2_18 : DC mJ18_indexOf_2 18 = .ok (.if_icmp .gt 101, 3) := dk_163 0 101 (dk_at dksJ18_indexOf_2_0 18 rfl rfl)
theorem dJ18_indexOf_2_21 : DC mJ18_indexOf_2 21 = .ok (.aload_n 0, 1) := dk_42 (dk_at dksJ18_indexOf_2_0 21 rfl rfl)
theorem dJ18_indexOf_2_22 : DC mJ18_indexOf_2 22 = .ok (.iload 7, 2) := dk_21 7 (dk_at dksJ18_indexOf_2_0 22 rfl rfl)
theorem dJ18_indexOf_2_24 : DC mJ18_indexOf_2 24 = .ok (.baload, 1) := dk_51 (dk_at dksJ18_indexOf_2_1 0 rfl rfl)
theorem dJ18_indexOf_2_25 : DC mJ18_indexOf_2 25 = .ok (.iload 5, 2) := dk_21 5 (dk_at dksJ18_indexOf_2_1 1 rfl rfl)
theorem dJ18_indexOf_2_27 : DC mJ18_indexOf_2 27 = .ok (.if_icmp .eq 25, 3) := dk_159 0 25 (dk_at dksJ18_indexOf_2_1 3 rfl rfl)
theorem dJ18_indexOf_2_30 : DC mJ18_indexOf_2 30 = .ok (.iinc 7 1, 3) := dk_132 7 1 (dk_at dksJ18_indexOf_2_1 6 rfl rfl)
theorem dJ18_indexOf_2_33 : DC mJ18_indexOf_2 33 = .ok (.iload 7, 2) := dk_21 7 (dk_at dksJ18_indexOf_2_1 9 rfl rfl)
theorem dJ18_indexOf_2_35 : DC mJ18_indexOf_2 35 = .ok (.iload 6, 2) := dk_21 6 (dk_at dksJ18_indexOf_2_1 11 rfl rfl)
theorem dJ18_indexOf_2_37 : DC mJ18_indexOf_2 37 = .ok (.if_icmp .gt 15, 3) := dk_163 0 15 (dk_at dksJ18_indexOf_2_1 13 rfl rfl)
theorem dJ18_indexOf_2_40 : DC mJ18_indexOf_2 40 = .ok (.aload_n 0, 1) := dk_42 (dk_at dksJ18_indexOf_2_1 16 rfl rfl)
theorem dJ18_indexOf_2_41 : DC mJ18_indexOf_2 41 = .ok (.iload 7, 2) := dk_21 7 (dk_at dksJ18_indexOf_2_1 17 rfl rfl)
theorem dJ18_indexOf_2_43 : DC mJ18_indexOf_2 43 = .ok (.baload, 1) := dk_51 (dk_at dksJ18_indexOf_2_1 19 rfl rfl)
theorem dJ18_indexOf_2_44 : DC mJ18_indexOf_2 44 = .ok (.iload 5, 2) := dk_21 5 (dk_at dksJ18_indexOf_2_1 20 rfl rfl)
theorem dJ18_indexOf_2_46 : DC mJ18_indexOf_2 46 = .ok (.if_icmp .eq 6, 3) := dk_159 0 6 (dk_at dksJ18_indexOf_2_2 0 rfl rfl)
theorem dJ18_indexOf_2_49 : DC mJ18_indexOf_2 49 = .ok (.goto (-19), 3) := dk_167 255 237 (dk_at dksJ18_indexOf_2_2 3 rfl rfl)
theorem dJ18_indexOf_2_52 : DC mJ18_indexOf_2 52 = .ok (.iload 7, 2) := dk_21 7 (dk_at dksJ18_indexOf_2_2 6 rfl rfl)
theorem dJ18_indexOf_2_54 : DC mJ18_indexOf_2 54 = .ok (.iload 6, 2) := dk_21 6 (dk_at dksJ18_indexOf_2_2 8 rfl rfl)
theorem dJ18_indexOf_2_56 : DC mJ18_indexOf_2 56 = .ok (.if_icmp .gt 57, 3) := dk_163 0 57 (dk_at dksJ18_indexOf_2_2 10 rfl rfl)
theorem dJ18_indexOf_2_59 : DC mJ18_indexOf_2 59 = .ok (.iload 7, 2) := dk_21 7 (dk_at dksJ18_indexOf_2_2 13 rfl rfl)
theorem dJ18_indexOf_2_61 : DC mJ18_indexOf_2 61 = .ok (.iconst 1, 1) := dk_4 (dk_at dksJ18_indexOf_2_2 15 rfl rfl)
theorem dJ18_indexOf_2_62 : DC mJ18_indexOf_2 62 = .ok (.iadd, 1) := dk_96 (dk_at dksJ18_indexOf_2_2 16 rfl rfl)
theorem dJ18_indexOf_2_63 : DC mJ18_indexOf_2 63 = .ok (.istore 8, 2) := dk_54 8 (dk_at dksJ18_indexOf_2_2 17 rfl rfl)
theorem dJ18_indexOf_2_65 : DC mJ18_indexOf_2 65 = .ok (.iload 8, 2) := dk_21 8 (dk_at dksJ18_indexOf_2_2 19 rfl rfl)
theorem dJ18_indexOf_2_67 : DC mJ18_indexOf_2 67 = .ok (.iload_n 3, 1) := dk_29 (dk_at dksJ18_indexOf_2_2 21 rfl rfl)
theorem dJ18_indexOf_2_68 : DC mJ18_indexOf_2 68 = .ok (.iadd, 1) := dk_96 (dk_at dksJ18_indexOf_2_2 22 rfl rfl)
theorem dJ18_indexOf_2_69 : DC mJ18_indexOf_2 69 = .ok (.iconst 1, 1) := dk_4 (dk_at dksJ18_indexOf_2_2 23 rfl rfl)
theorem dJ18_indexOf_2_70 : DC mJ18_indexOf_2 70 = .ok (.isub, 1) := dk_100 (dk_at dksJ18_indexOf_2_3 0 rfl rfl)
theorem dJ18_indexOf_2_71 : DC mJ18_indexOf_2 71 = .ok (.istore 9, 2) := dk_54 9 (dk_at dksJ18_indexOf_2_3 1 rfl rfl)
theorem dJ18_indexOf_2_73 : DC mJ18_indexOf_2 73 = .ok (.iconst 1, 1) := dk_4 (dk_at dksJ18_indexOf_2_3 3 rfl rfl)
theorem dJ18_indexOf_2_74 : DC mJ18_indexOf_2 74 = .ok (.istore 10, 2) := dk_54 10 (dk_at dksJ18_indexOf_2_3 4 rfl rfl)
theorem dJ18_indexOf_2_76 : DC mJ18_indexOf_2 76 = .ok (.iload 8, 2) := dk_21 8 (dk_at dksJ18_indexOf_2_3 6 rfl rfl)
theorem dJ18_indexOf_2_78 : DC mJ18_indexOf_2 78 = .ok (.iload 9, 2) := dk_21 9 (dk_at dksJ18_indexOf_2_3 8 rfl rfl)
theorem dJ18_indexOf_2_80 : DC mJ18_indexOf_2 80 = .ok (.if_icmp .ge 23, 3) := dk_162 0 23 (dk_at dksJ18_indexOf_2_3 10 rfl rfl)
theorem dJ18_indexOf_2_83 : DC mJ18_indexOf_2 83 = .ok (.aload_n 0, 1) := dk_42 (dk_at dksJ18_indexOf_2_3 13 rfl rfl)
theorem dJ18_indexOf_2_84 : DC mJ18_indexOf_2 84 = .ok (.iload 8, 2) := dk_21 8 (dk_at dksJ18_indexOf_2_3 14 rfl rfl)
theorem dJ18_indexOf_2_86 : DC mJ18_indexOf_2 86 = .ok (.baload, 1) := dk_51 (dk_at dksJ18_indexOf_2_3 16 rfl rfl)
theorem dJ18_indexOf_2_87 : DC mJ18_indexOf_2 87 = .ok (.aload_n 2, 1) := dk_44 (dk_at dksJ18_indexOf_2_3 17 rfl rfl)
theorem dJ18_indexOf_2_88 : DC mJ18_indexOf_2 88 = .ok (.iload 10, 2) := dk_21 10 (dk_at dksJ18_indexOf_2_3 18 rfl rfl)
theorem dJ18_indexOf_2_90 : DC mJ18_indexOf_2 90 = .ok (.baload, 1) := dk_51 (dk_at dksJ18_indexOf_2_3 20 rfl rfl)
theorem dJ18_indexOf_2_91 : DC mJ18_indexOf_2 91 = .ok (.if_icmp .ne 12, 3) := dk_160 0 12 (dk_at dksJ18_indexOf_2_3 21 rfl rfl)
theorem dJ18_indexOf_2_94 : DC mJ18_indexOf_2 94 = .ok (.iinc 8 1, 3) := dk_132 8 1 (dk_at dksJ18_indexOf_2_4 0 rfl rfl)
theorem dJ18_indexOf_2_97 : DC mJ18_indexOf_2 97 = .ok (.iinc 10 1, 3) := dk_132 10 1 (dk_at dksJ18_indexOf_2_4 3 rfl rfl)
theorem dJ18_indexOf_2_100 : DC mJ18_indexOf_2 100 = .ok (.goto (-24), 3) := dk_167 255 232 (dk_at dksJ18_indexOf_2_4 6 rfl rfl)
theorem dJ18_indexOf_2_103 : DC mJ18_indexOf_2 103 = .ok (.iload 8, 2) := dk_21 8 (dk_at dksJ18_indexOf_2_4 9 rfl rfl)
theorem dJ18_indexOf_2_105 : DC mJ18_indexOf_2 105 = .ok (.iload 9, 2) := dk_21 9 (dk_at dksJ18_indexOf_2_4 11 rfl rfl)
theorem dJ18_indexOf_2_107 : DC mJ18_indexOf_2 107 = .ok (.if_icmp .ne 6, 3) := dk_160 0 6 (dk_at dksJ18_indexOf_2_4 13 rfl rfl)
theorem dJ18_indexOf_2_110 : DC mJ18_indexOf_2 110 = .ok (.iload 7, 2) := dk_21 7 (dk_at dksJ18_indexOf_2_4 16 rfl rfl)
theorem dJ18_indexOf_2_112 : DC mJ18_indexOf_2 112 = .ok (.ireturn, 1) := dk_172 (dk_at dksJ18_indexOf_2_4 18 rfl rfl)
theorem dJ18_indexOf_2_113 : DC mJ18_indexOf_2 113 = .ok (.iinc 7 1, 3) := dk_132 7 1 (dk_at dksJ18_indexOf_2_4 19 rfl rfl)
theorem dJ18_indexOf_2_116 : DC mJ18_indexOf_2 116 = .ok (.goto (-102), 3) := dk_167 255 154 (dk_at dksJ18_indexOf_2_5 0 rfl rfl)
theorem dJ18_indexOf_2_119 : DC mJ18_indexOf_2 119 = .ok (.iconst (-1), 1) := dk_2 (dk_at dksJ18_indexOf_2_5 3 rfl rfl)
theorem dJ18_indexOf_2_120 : DC mJ18_indexOf_2 120 = .ok (.ireturn, 1) := dk_172 (dk_at dksJ18_indexOf_2_5 4 rfl rfl)
abbrev cJ18_newString : ByteArray := prog_37_method_47_code
def yJ18_newString : MethodName := ⟨RJ18, "newString", "([BII)Ljava/lang/String;"⟩
def mJ18_newString : MI := (⟨"java/lang/StringLatin1", "newString", "([BII)Ljava/lang/String;"⟩, prog_37_method_47_code, 3, (Option.some (FieldType.object "java/lang/String")), none, 18, 4)
theorem oJ18_newString : mO mJ18_newString = 18 := rfl
theorem lJ18_newString : mL mJ18_newString = 3 := rfl
theorem rJ18_newString : mR mJ18_newString = (Option.some (FieldType.object "java/lang/String")) := rfl
theorem vJ18_newString : mV mJ18_newString = 4 := rfl
theorem nJ18_newString : (mY mJ18_newString).name = "newString" := rfl
theorem hJ18_newString : mH mJ18_newString = none := rfl
theorem kJ18_newString : MOk mJ18_newString := ⟨q2245, q98, by decide +kernel⟩
theorem gJ18_newString : plainName (mY mJ18_newString).cls = true ∧ (mY mJ18_newString).cls = "java/lang/StringLatin1" := ⟨by decide +kernel, rfl⟩
def dkwJ18_newString_0 : List UInt8 := [28, 154, 0, 6, 18, 151, 176, 187, 0, 1, 89, 42, 27, 27, 28, 96, 184, 0, 232, 3, 183, 0, 112, 176]
abbrev dktJ18_newString_0 : List UInt8 := dkwJ18_newString_0 ++ []
theorem dksJ18_newString_0 : cJ18_newString.data.toList.drop 0 = dktJ18_newString_0 := by decide +kernel
theorem dJ18_newString_0 : DC mJ18_newString 0 = .ok (.iload_n 2, 1) := dk_28 (dk_at dksJ18_newString_0 0 rfl rfl)
theorem dJ18_newString_1 : DC mJ18_newString 1 = .ok (.ifCond .ne 6, 3) := dk_154 0 6 (dk_at dksJ18_newString_0 1 rfl rfl)
theorem dJ18_newString_4 : DC mJ18_newString 4 = .ok (.ldc 151, 2) := dk_18 151 (dk_at dksJ18_newString_0 4 rfl rfl)
theorem dJ18_newString_6 : DC mJ18_newString 6 = .ok (.areturn, 1) := dk_176 (dk_at dksJ18_newString_0 6 rfl rfl)
theorem dJ18_newString_7 : DC mJ18_newString 7 = .ok (.new 1, 3) := dk_187 0 1 (dk_at dksJ18_newString_0 7 rfl rfl)
theorem dJ18_newString_10 : DC mJ18_newString 10 = .ok (.dup, 1) := dk_89 (dk_at dksJ18_newString_0 10 rfl rfl)
theorem dJ18_newString_11 : DC mJ18_newString 11 = .ok (.aload_n 0, 1) := dk_42 (dk_at dksJ18_newString_0 11 rfl rfl)
theorem dJ18_newString_12 : DC mJ18_newString 12 = .ok (.iload_n 1, 1) := dk_27 (dk_at dksJ18_newString_0 12 rfl rfl)
theorem dJ18_newString_13 : DC mJ18_newString 13 = .ok (.iload_n 1, 1) := dk_27 (dk_at dksJ18_newString_0 13 rfl rfl)
theorem dJ18_newString_14 : DC mJ18_newString 14 = .ok (.iload_n 2, 1) := dk_28 (dk_at dksJ18_newString_0 14 rfl rfl)
theorem dJ18_newString_15 : DC mJ18_newString 15 = .ok (.iadd, 1) := dk_96 (dk_at dksJ18_newString_0 15 rfl rfl)
theorem dJ18_newString_16 : DC mJ18_newString 16 = .ok (.invokestatic 232, 3) := dk_184 0 232 (dk_at dksJ18_newString_0 16 rfl rfl)
theorem dJ18_newString_19 : DC mJ18_newString 19 = .ok (.iconst 0, 1) := dk_3 (dk_at dksJ18_newString_0 19 rfl rfl)
theorem dJ18_newString_20 : DC mJ18_newString 20 = .ok (.invokespecial 112, 3) := dk_183 0 112 (dk_at dksJ18_newString_0 20 rfl rfl)
theorem dJ18_newString_23 : DC mJ18_newString 23 = .ok (.areturn, 1) := dk_176 (dk_at dksJ18_newString_0 23 rfl rfl)
abbrev cJ18_fillNull : ByteArray := prog_37_method_48_code
def yJ18_fillNull : MethodName := ⟨RJ18, "fillNull", "([BII)V"⟩
def mJ18_fillNull : MI := (⟨"java/lang/StringLatin1", "fillNull", "([BII)V"⟩, prog_37_method_48_code, 3, (Option.none : Option FieldType), none, 18, 3)
theorem oJ18_fillNull : mO mJ18_fillNull = 18 := rfl
theorem lJ18_fillNull : mL mJ18_fillNull = 3 := rfl
theorem rJ18_fillNull : mR mJ18_fillNull = (Option.none : Option FieldType) := rfl
theorem vJ18_fillNull : mV mJ18_fillNull = 3 := rfl
theorem nJ18_fillNull : (mY mJ18_fillNull).name = "fillNull" := rfl
theorem hJ18_fillNull : mH mJ18_fillNull = none := rfl
theorem kJ18_fillNull : MOk mJ18_fillNull := ⟨q2303, q98, by decide +kernel⟩
theorem gJ18_fillNull : plainName (mY mJ18_fillNull).cls = true ∧ (mY mJ18_fillNull).cls = "java/lang/StringLatin1" := ⟨by decide +kernel, rfl⟩
def dkwJ18_fillNull_0 : List UInt8 := [42, 27, 28, 3, 184, 0, 236, 177]
abbrev dktJ18_fillNull_0 : List UInt8 := dkwJ18_fillNull_0 ++ []
theorem dksJ18_fillNull_0 : cJ18_fillNull.data.toList.drop 0 = dktJ18_fillNull_0 := by decide +kernel
theorem dJ18_fillNull_0 : DC mJ18_fillNull 0 = .ok (.aload_n 0, 1) := dk_42 (dk_at dksJ18_fillNull_0 0 rfl rfl)
theorem dJ18_fillNull_1 : DC mJ18_fillNull 1 = .ok (.iload_n 1, 1) := dk_27 (dk_at dksJ18_fillNull_0 1 rfl rfl)
theorem dJ18_fillNull_2 : DC mJ18_fillNull 2 = .ok (.iload_n 2, 1) := dk_28 (dk_at dksJ18_fillNull_0 2 rfl rfl)
theorem dJ18_fillNull_3 : DC mJ18_fillNull 3 = .ok (.iconst 0, 1) := dk_3 (dk_at dksJ18_fillNull_0 3 rfl rfl)
theorem dJ18_fillNull_4 : DC mJ18_fillNull 4 = .ok (.invokestatic 236, 3) := dk_184 0 236 (dk_at dksJ18_fillNull_0 4 rfl rfl)
theorem dJ18_fillNull_7 : DC mJ18_fillNull 7 = .ok (.return_, 1) := dk_177 (dk_at dksJ18_fillNull_0 7 rfl rfl)
abbrev cJ18_indexOf_3 : ByteArray := prog_37_method_22_code
def yJ18_indexOf_3 : MethodName := ⟨RJ18, "indexOf", "([BIII)I"⟩
def mJ18_indexOf_3 : MI := (⟨"java/lang/StringLatin1", "indexOf", "([BIII)I"⟩, prog_37_method_22_code, 4, (Option.some FieldType.int), none, 18, 2)
theorem oJ18_indexOf_3 : mO mJ18_indexOf_3 = 18 := rfl
theorem lJ18_indexOf_3 : mL mJ18_indexOf_3 = 4 := rfl
theorem rJ18_indexOf_3 : mR mJ18_indexOf_3 = (Option.some FieldType.int) := rfl
theorem vJ18_indexOf_3 : mV mJ18_indexOf_3 = 2 := rfl
theorem nJ18_indexOf_3 : (mY mJ18_indexOf_3).name = "indexOf" := rfl
theorem hJ18_indexOf_3 : mH mJ18_indexOf_3 = none := rfl
theorem kJ18_indexOf_3 : MOk mJ18_indexOf_3 := ⟨q2718, q98, by decide +kernel⟩
theorem gJ18_indexOf_3 : plainName (mY mJ18_indexOf_3).cls = true ∧ (mY mJ18_indexOf_3).cls = "java/lang/StringLatin1" := ⟨by decide +kernel, rfl⟩
def dkwJ18_indexOf_3_1 : List UInt8 := [161, 0, 5, 2, 172, 42, 27, 28, 29, 184, 0, 95, 172]
abbrev dktJ18_indexOf_3_1 : List UInt8 := dkwJ18_indexOf_3_1 ++ []
def dkwJ18_indexOf_3_0 : List UInt8 := [27, 184, 0, 88, 154, 0, 5, 2, 172, 28, 3, 184, 0, 92, 61, 29, 42, 190, 184, 0, 38, 62, 28, 29]
abbrev dktJ18_indexOf_3_0 : List UInt8 := dkwJ18_indexOf_3_0 ++ dktJ18_indexOf_3_1
theorem dksJ18_indexOf_3_0 : cJ18_indexOf_3.data.toList.drop 0 = dktJ18_indexOf_3_0 := by decide +kernel
theorem dksJ18_indexOf_3_1 : cJ18_indexOf_3.data.toList.drop 24 = dktJ18_indexOf_3_1 := dk_seg dksJ18_indexOf_3_0 24 rfl rfl
theorem dJ18_indexOf_3_0 : DC mJ18_indexOf_3 0 = .ok (.iload_n 1, 1) := dk_27 (dk_at dksJ18_indexOf_3_0 0 rfl rfl)
theorem dJ18_indexOf_3_1 : DC mJ18_indexOf_3 1 = .ok (.invokestatic 88, 3) := dk_184 0 88 (dk_at dksJ18_indexOf_3_0 1 rfl rfl)
theorem dJ18_indexOf_3_4 : DC mJ18_indexOf_3 4 = .ok (.ifCond .ne 5, 3) := dk_154 0 5 (dk_at dksJ18_indexOf_3_0 4 rfl rfl)
theorem dJ18_indexOf_3_7 : DC mJ18_indexOf_3 7 = .ok (.iconst (-1), 1) := dk_2 (dk_at dksJ18_indexOf_3_0 7 rfl rfl)
theorem dJ18_indexOf_3_8 : DC mJ18_indexOf_3 8 = .ok (.ireturn, 1) := dk_172 (dk_at dksJ18_indexOf_3_0 8 rfl rfl)
theorem dJ18_indexOf_3_9 : DC mJ18_indexOf_3 9 = .ok (.iload_n 2, 1) := dk_28 (dk_at dksJ18_indexOf_3_0 9 rfl rfl)
theorem dJ18_indexOf_3_10 : DC mJ18_indexOf_3 10 = .ok (.iconst 0, 1) := dk_3 (dk_at dksJ18_indexOf_3_0 10 rfl rfl)
theorem dJ18_indexOf_3_11 : DC mJ18_indexOf_3 11 = .ok (.invokestatic 92, 3) := dk_184 0 92 (dk_at dksJ18_indexOf_3_0 11 rfl rfl)
theorem dJ18_indexOf_3_14 : DC mJ18_indexOf_3 14 = .ok (.istore_n 2, 1) := dk_61 (dk_at dksJ18_indexOf_3_0 14 rfl rfl)
theorem dJ18_indexOf_3_15 : DC mJ18_indexOf_3 15 = .ok (.iload_n 3, 1) := dk_29 (dk_at dksJ18_indexOf_3_0 15 rfl rfl)
theorem dJ18_indexOf_3_16 : DC mJ18_indexOf_3 16 = .ok (.aload_n 0, 1) := dk_42 (dk_at dksJ18_indexOf_3_0 16 rfl rfl)
theorem dJ18_indexOf_3_17 : DC mJ18_indexOf_3 17 = .ok (.arraylength, 1) := dk_190 (dk_at dksJ18_indexOf_3_0 17 rfl rfl)
theorem dJ18_indexOf_3_18 : DC mJ18_indexOf_3 18 = .ok (.invokestatic 38, 3) := dk_184 0 38 (dk_at dksJ18_indexOf_3_0 18 rfl rfl)
theorem dJ18_indexOf_3_21 : DC mJ18_indexOf_3 21 = .ok (.istore_n 3, 1) := dk_62 (dk_at dksJ18_indexOf_3_0 21 rfl rfl)
theorem dJ18_indexOf_3_22 : DC mJ18_indexOf_3 22 = .ok (.iload_n 2, 1) := dk_28 (dk_at dksJ18_indexOf_3_0 22 rfl rfl)
theorem dJ18_indexOf_3_23 : DC mJ18_indexOf_3 23 = .ok (.iload_n 3, 1) := dk_29 (dk_at dksJ18_indexOf_3_0 23 rfl rfl)
theorem dJ18_indexOf_3_24 : DC mJ18_indexOf_3 24 = .ok (.if_icmp .lt 5, 3) := dk_161 0 5 (dk_at dksJ18_indexOf_3_1 0 rfl rfl)
theorem dJ18_indexOf_3_27 : DC mJ18_indexOf_3 27 = .ok (.iconst (-1), 1) := dk_2 (dk_at dksJ18_indexOf_3_1 3 rfl rfl)
theorem dJ18_indexOf_3_28 : DC mJ18_indexOf_3 28 = .ok (.ireturn, 1) := dk_172 (dk_at dksJ18_indexOf_3_1 4 rfl rfl)
theorem dJ18_indexOf_3_29 : DC mJ18_indexOf_3 29 = .ok (.aload_n 0, 1) := dk_42 (dk_at dksJ18_indexOf_3_1 5 rfl rfl)
theorem dJ18_indexOf_3_30 : DC mJ18_indexOf_3 30 = .ok (.iload_n 1, 1) := dk_27 (dk_at dksJ18_indexOf_3_1 6 rfl rfl)
theorem dJ18_indexOf_3_31 : DC mJ18_indexOf_3 31 = .ok (.iload_n 2, 1) := dk_28 (dk_at dksJ18_indexOf_3_1 7 rfl rfl)
theorem dJ18_indexOf_3_32 : DC mJ18_indexOf_3 32 = .ok (.iload_n 3, 1) := dk_29 (dk_at dksJ18_indexOf_3_1 8 rfl rfl)
theorem dJ18_indexOf_3_33 : DC mJ18_indexOf_3 33 = .ok (.invokestatic 95, 3) := dk_184 0 95 (dk_at dksJ18_indexOf_3_1 9 rfl rfl)
theorem dJ18_indexOf_3_36 : DC mJ18_indexOf_3 36 = .ok (.ireturn, 1) := dk_172 (dk_at dksJ18_indexOf_3_1 12 rfl rfl)
abbrev cJ18_canEncode_2 : ByteArray := prog_37_method_4_code
def yJ18_canEncode_2 : MethodName := ⟨RJ18, "canEncode", "(I)Z"⟩
def mJ18_canEncode_2 : MI := (⟨"java/lang/StringLatin1", "canEncode", "(I)Z"⟩, prog_37_method_4_code, 1, (Option.some FieldType.boolean), none, 18, 1)
theorem oJ18_canEncode_2 : mO mJ18_canEncode_2 = 18 := rfl
theorem lJ18_canEncode_2 : mL mJ18_canEncode_2 = 1 := rfl
theorem rJ18_canEncode_2 : mR mJ18_canEncode_2 = (Option.some FieldType.boolean) := rfl
theorem vJ18_canEncode_2 : mV mJ18_canEncode_2 = 1 := rfl
theorem nJ18_canEncode_2 : (mY mJ18_canEncode_2).name = "canEncode" := rfl
theorem hJ18_canEncode_2 : mH mJ18_canEncode_2 = none := rfl
theorem kJ18_canEncode_2 : MOk mJ18_canEncode_2 := ⟨q2721, q98, by decide +kernel⟩
theorem gJ18_canEncode_2 : plainName (mY mJ18_canEncode_2).cls = true ∧ (mY mJ18_canEncode_2).cls = "java/lang/StringLatin1" := ⟨by decide +kernel, rfl⟩
def dkwJ18_canEncode_2_0 : List UInt8 := [26, 155, 0, 14, 26, 17, 0, 255, 163, 0, 7, 4, 167, 0, 4, 3, 172]
abbrev dktJ18_canEncode_2_0 : List UInt8 := dkwJ18_canEncode_2_0 ++ []
theorem dksJ18_canEncode_2_0 : cJ18_canEncode_2.data.toList.drop 0 = dktJ18_canEncode_2_0 := by decide +kernel
theorem dJ18_canEncode_2_0 : DC mJ18_canEncode_2 0 = .ok (.iload_n 0, 1) := dk_26 (dk_at dksJ18_canEncode_2_0 0 rfl rfl)
theorem dJ18_canEncode_2_1 : DC mJ18_canEncode_2 1 = .ok (.ifCond .lt 14, 3) := dk_155 0 14 (dk_at dksJ18_canEncode_2_0 1 rfl rfl)
theorem dJ18_canEncode_2_4 : DC mJ18_canEncode_2 4 = .ok (.iload_n 0, 1) := dk_26 (dk_at dksJ18_canEncode_2_0 4 rfl rfl)
theorem dJ18_canEncode_2_5 : DC mJ18_canEncode_2 5 = .ok (.sipush 255, 3) := dk_17 0 255 (dk_at dksJ18_canEncode_2_0 5 rfl rfl)
theorem dJ18_canEncode_2_8 : DC mJ18_canEncode_2 8 = .ok (.if_icmp .gt 7, 3) := dk_163 0 7 (dk_at dksJ18_canEncode_2_0 8 rfl rfl)
theorem dJ18_canEncode_2_11 : DC mJ18_canEncode_2 11 = .ok (.iconst 1, 1) := dk_4 (dk_at dksJ18_canEncode_2_0 11 rfl rfl)
theorem dJ18_canEncode_2_12 : DC mJ18_canEncode_2 12 = .ok (.goto 4, 3) := dk_167 0 4 (dk_at dksJ18_canEncode_2_0 12 rfl rfl)
theorem dJ18_canEncode_2_15 : DC mJ18_canEncode_2 15 = .ok (.iconst 0, 1) := dk_3 (dk_at dksJ18_canEncode_2_0 15 rfl rfl)
theorem dJ18_canEncode_2_16 : DC mJ18_canEncode_2 16 = .ok (.ireturn, 1) := dk_172 (dk_at dksJ18_canEncode_2_0 16 rfl rfl)
abbrev cJ18_indexOfChar : ByteArray := prog_37_method_23_code
def yJ18_indexOfChar : MethodName := ⟨RJ18, "indexOfChar", "([BIII)I"⟩
def mJ18_indexOfChar : MI := (⟨"java/lang/StringLatin1", "indexOfChar", "([BIII)I"⟩, prog_37_method_23_code, 6, (Option.some FieldType.int), none, 18, 1)
theorem oJ18_indexOfChar : mO mJ18_indexOfChar = 18 := rfl
theorem lJ18_indexOfChar : mL mJ18_indexOfChar = 6 := rfl
theorem rJ18_indexOfChar : mR mJ18_indexOfChar = (Option.some FieldType.int) := rfl
theorem vJ18_indexOfChar : mV mJ18_indexOfChar = 1 := rfl
theorem nJ18_indexOfChar : (mY mJ18_indexOfChar).name = "indexOfChar" := rfl
theorem hJ18_indexOfChar : mH mJ18_indexOfChar = none := rfl
theorem kJ18_indexOfChar : MOk mJ18_indexOfChar := ⟨q2726, q98, by decide +kernel⟩
theorem gJ18_indexOfChar : plainName (mY mJ18_indexOfChar).cls = true ∧ (mY mJ18_indexOfChar).cls = "java/lang/StringLatin1" := ⟨by decide +kernel, rfl⟩
def dkwJ18_indexOfChar_1 : List UInt8 := [172, 132, 5, 1, 167, 255, 235, 2, 172]
abbrev dktJ18_indexOfChar_1 : List UInt8 := dkwJ18_indexOfChar_1 ++ []
def dkwJ18_indexOfChar_0 : List UInt8 := [27, 145, 54, 4, 28, 54, 5, 21, 5, 29, 162, 0, 21, 42, 21, 5, 51, 21, 4, 160, 0, 6, 21, 5]
abbrev dktJ18_indexOfChar_0 : List UInt8 := dkwJ18_indexOfChar_0 ++ dktJ18_indexOfChar_1
theorem dksJ18_indexOfChar_0 : cJ18_indexOfChar.data.toList.drop 0 = dktJ18_indexOfChar_0 := by decide +kernel
theorem dksJ18_indexOfChar_1 : cJ18_indexOfChar.data.toList.drop 24 = dktJ18_indexOfChar_1 := dk_seg dksJ18_indexOfChar_0 24 rfl rfl
theorem dJ18_indexOfChar_0 : DC mJ18_indexOfChar 0 = .ok (.iload_n 1, 1) := dk_27 (dk_at dksJ18_indexOfChar_0 0 rfl rfl)
theorem dJ18_indexOfChar_1 : DC mJ18_indexOfChar 1 = .ok (.i2b, 1) := dk_145 (dk_at dksJ18_indexOfChar_0 1 rfl rfl)
theorem dJ18_indexOfChar_2 : DC mJ18_indexOfChar 2 = .ok (.istore 4, 2) := dk_54 4 (dk_at dksJ18_indexOfChar_0 2 rfl rfl)
theorem dJ18_indexOfChar_4 : DC mJ18_indexOfChar 4 = .ok (.iload_n 2, 1) := dk_28 (dk_at dksJ18_indexOfChar_0 4 rfl rfl)
theorem dJ18_indexOfChar_5 : DC mJ18_indexOfChar 5 = .ok (.istore 5, 2) := dk_54 5 (dk_at dksJ18_indexOfChar_0 5 rfl rfl)
theorem dJ18_indexOfChar_7 : DC mJ18_indexOfChar 7 = .ok (.iload 5, 2) := dk_21 5 (dk_at dksJ18_indexOfChar_0 7 rfl rfl)
theorem dJ18_indexOfChar_9 : DC mJ18_indexOfChar 9 = .ok (.iload_n 3, 1) := dk_29 (dk_at dksJ18_indexOfChar_0 9 rfl rfl)
theorem dJ18_indexOfChar_10 : DC mJ18_indexOfChar 10 = .ok (.if_icmp .ge 21, 3) := dk_162 0 21 (dk_at dksJ18_indexOfChar_0 10 rfl rfl)
theorem dJ18_indexOfChar_13 : DC mJ18_indexOfChar 13 = .ok (.aload_n 0, 1) := dk_42 (dk_at dksJ18_indexOfChar_0 13 rfl rfl)
theorem dJ18_indexOfChar_14 : DC mJ18_indexOfChar 14 = .ok (.iload 5, 2) := dk_21 5 (dk_at dksJ18_indexOfChar_0 14 rfl rfl)
theorem dJ18_indexOfChar_16 : DC mJ18_indexOfChar 16 = .ok (.baload, 1) := dk_51 (dk_at dksJ18_indexOfChar_0 16 rfl rfl)
theorem dJ18_indexOfChar_17 : DC mJ18_indexOfChar 17 = .ok (.iload 4, 2) := dk_21 4 (dk_at dksJ18_indexOfChar_0 17 rfl rfl)
theorem dJ18_indexOfChar_19 : DC mJ18_indexOfChar 19 = .ok (.if_icmp .ne 6, 3) := dk_160 0 6 (dk_at dksJ18_indexOfChar_0 19 rfl rfl)
theorem dJ18_indexOfChar_22 : DC mJ18_indexOfChar 22 = .ok (.iload 5, 2) := dk_21 5 (dk_at dksJ18_indexOfChar_0 22 rfl rfl)
theorem dJ18_indexOfChar_24 : DC mJ18_indexOfChar 24 = .ok (.ireturn, 1) := dk_172 (dk_at dksJ18_indexOfChar_1 0 rfl rfl)
theorem dJ18_indexOfChar_25 : DC mJ18_indexOfChar 25 = .ok (.iinc 5 1, 3) := dk_132 5 1 (dk_at dksJ18_indexOfChar_1 1 rfl rfl)
theorem dJ18_indexOfChar_28 : DC mJ18_indexOfChar 28 = .ok (.goto (-21), 3) := dk_167 255 235 (dk_at dksJ18_indexOfChar_1 4 rfl rfl)
theorem dJ18_indexOfChar_31 : DC mJ18_indexOfChar 31 = .ok (.iconst (-1), 1) := dk_2 (dk_at dksJ18_indexOfChar_1 7 rfl rfl)
theorem dJ18_indexOfChar_32 : DC mJ18_indexOfChar 32 = .ok (.ireturn, 1) := dk_172 (dk_at dksJ18_indexOfChar_1 8 rfl rfl)

/-! java/lang/Integer -/
set_option maxRecDepth 100000
def RJ20 : String := "java/lang/Integer"
def TJ20 : u_T := fun k => match k with
  | _ => ("java/lang/Integer", "value", "I", true)
def tyJ20 : Nat → FieldType := fun k => match k with
  | _ => .int
abbrev wsJ200 : List Cond := u_ws RJ20 TJ20 1
theorem nmJ20 : ∀ a, a < 1 → ∀ b, b < 1 → a ≠ b → (TJ20 a).2.1 ≠ (TJ20 b).2.1 := by decide +kernel
theorem tyJ20_ok : ∀ k, k < 1 → parseFieldDescriptor (TJ20 k).2.2.1 = some (tyJ20 k) := by decide +kernel
abbrev cJ20_stringSize : ByteArray := prog_27_method_13_code
def yJ20_stringSize : MethodName := ⟨RJ20, "stringSize", "(I)I"⟩
def mJ20_stringSize : MI := (⟨"java/lang/Integer", "stringSize", "(I)I"⟩, prog_27_method_13_code, 4, (Option.some FieldType.int), none, 20, 1)
theorem oJ20_stringSize : mO mJ20_stringSize = 20 := rfl
theorem lJ20_stringSize : mL mJ20_stringSize = 4 := rfl
theorem rJ20_stringSize : mR mJ20_stringSize = (Option.some FieldType.int) := rfl
theorem vJ20_stringSize : mV mJ20_stringSize = 1 := rfl
theorem nJ20_stringSize : (mY mJ20_stringSize).name = "stringSize" := rfl
theorem hJ20_stringSize : mH mJ20_stringSize = none := rfl
theorem kJ20_stringSize : MOk mJ20_stringSize := ⟨q684, q100, by decide +kernel⟩
theorem gJ20_stringSize : plainName (mY mJ20_stringSize).cls = true ∧ (mY mJ20_stringSize).cls = "java/lang/Integer" := ⟨by decide +kernel, rfl⟩
def dkwJ20_stringSize_1 : List UInt8 := [164, 0, 7, 29, 27, 96, 172, 16, 10, 28, 104, 61, 132, 3, 1, 167, 255, 233, 16, 10, 27, 96, 172]
abbrev dktJ20_stringSize_1 : List UInt8 := dkwJ20_stringSize_1 ++ []
def dkwJ20_stringSize_0 : List UInt8 := [4, 60, 26, 155, 0, 8, 3, 60, 26, 116, 59, 16, 246, 61, 4, 62, 29, 16, 10, 162, 0, 23, 26, 28]
abbrev dktJ20_stringSize_0 : List UInt8 := dkwJ20_stringSize_0 ++ dktJ20_stringSize_1
theorem dksJ20_stringSize_0 : cJ20_stringSize.data.toList.drop 0 = dktJ20_stringSize_0 := by decide +kernel
theorem dksJ20_stringSize_1 : cJ20_stringSize.data.toList.drop 24 = dktJ20_stringSize_1 := dk_seg dksJ20_stringSize_0 24 rfl rfl
theorem dJ20_stringSize_0 : DC mJ20_stringSize 0 = .ok (.iconst 1, 1) := dk_4 (dk_at dksJ20_stringSize_0 0 rfl rfl)
theorem dJ20_stringSize_1 : DC mJ20_stringSize 1 = .ok (.istore_n 1, 1) := dk_60 (dk_at dksJ20_stringSize_0 1 rfl rfl)
theorem dJ20_stringSize_2 : DC mJ20_stringSize 2 = .ok (.iload_n 0, 1) := dk_26 (dk_at dksJ20_stringSize_0 2 rfl rfl)
theorem dJ20_stringSize_3 : DC mJ20_stringSize 3 = .ok (.ifCond .lt 8, 3) := dk_155 0 8 (dk_at dksJ20_stringSize_0 3 rfl rfl)
theorem dJ20_stringSize_6 : DC mJ20_stringSize 6 = .ok (.iconst 0, 1) := dk_3 (dk_at dksJ20_stringSize_0 6 rfl rfl)
theorem dJ20_stringSize_7 : DC mJ20_stringSize 7 = .ok (.istore_n 1, 1) := dk_60 (dk_at dksJ20_stringSize_0 7 rfl rfl)
theorem dJ20_stringSize_8 : DC mJ20_stringSize 8 = .ok (.iload_n 0, 1) := dk_26 (dk_at dksJ20_stringSize_0 8 rfl rfl)
theorem dJ20_stringSize_9 : DC mJ20_stringSize 9 = .ok (.ineg, 1) := dk_116 (dk_at dksJ20_stringSize_0 9 rfl rfl)
theorem dJ20_stringSize_10 : DC mJ20_stringSize 10 = .ok (.istore_n 0, 1) := dk_59 (dk_at dksJ20_stringSize_0 10 rfl rfl)
theorem dJ20_stringSize_11 : DC mJ20_stringSize 11 = .ok (.bipush (-10), 2) := dk_16 246 (dk_at dksJ20_stringSize_0 11 rfl rfl)
theorem dJ20_stringSize_13 : DC mJ20_stringSize 13 = .ok (.istore_n 2, 1) := dk_61 (dk_at dksJ20_stringSize_0 13 rfl rfl)
theorem dJ20_stringSize_14 : DC mJ20_stringSize 14 = .ok (.iconst 1, 1) := dk_4 (dk_at dksJ20_stringSize_0 14 rfl rfl)
theorem dJ20_stringSize_15 : DC mJ20_stringSize 15 = .ok (.istore_n 3, 1) := dk_62 (dk_at dksJ20_stringSize_0 15 rfl rfl)
theorem dJ20_stringSize_16 : DC mJ20_stringSize 16 = .ok (.iload_n 3, 1) := dk_29 (dk_at dksJ20_stringSize_0 16 rfl rfl)
theorem dJ20_stringSize_17 : DC mJ20_stringSize 17 = .ok (.bipush 10, 2) := dk_16 10 (dk_at dksJ20_stringSize_0 17 rfl rfl)
theorem dJ20_stringSize_19 : DC mJ20_stringSize 19 = .ok (.if_icmp .ge 23, 3) := dk_162 0 23 (dk_at dksJ20_stringSize_0 19 rfl rfl)
theorem dJ20_stringSize_22 : DC mJ20_stringSize 22 = .ok (.iload_n 0, 1) := dk_26 (dk_at dksJ20_stringSize_0 22 rfl rfl)
theorem dJ20_stringSize_23 : DC mJ20_stringSize 23 = .ok (.iload_n 2, 1) := dk_28 (dk_at dksJ20_stringSize_0 23 rfl rfl)
theorem dJ20_stringSize_24 : DC mJ20_stringSize 24 = .ok (.if_icmp .le 7, 3) := dk_164 0 7 (dk_at dksJ20_stringSize_1 0 rfl rfl)
theorem dJ20_stringSize_27 : DC mJ20_stringSize 27 = .ok (.iload_n 3, 1) := dk_29 (dk_at dksJ20_stringSize_1 3 rfl rfl)
theorem dJ20_stringSize_28 : DC mJ20_stringSize 28 = .ok (.iload_n 1, 1) := dk_27 (dk_at dksJ20_stringSize_1 4 rfl rfl)
theorem dJ20_stringSize_29 : DC mJ20_stringSize 29 = .ok (.iadd, 1) := dk_96 (dk_at dksJ20_stringSize_1 5 rfl rfl)
theorem dJ20_stringSize_30 : DC mJ20_stringSize 30 = .ok (.ireturn, 1) := dk_172 (dk_at dksJ20_stringSize_1 6 rfl rfl)
theorem dJ20_stringSize_31 : DC mJ20_stringSize 31 = .ok (.bipush 10, 2) := dk_16 10 (dk_at dksJ20_stringSize_1 7 rfl rfl)
theorem dJ20_stringSize_33 : DC mJ20_stringSize 33 = .ok (.iload_n 2, 1) := dk_28 (dk_at dksJ20_stringSize_1 9 rfl rfl)
theorem dJ20_stringSize_34 : DC mJ20_stringSize 34 = .ok (.imul, 1) := dk_104 (dk_at dksJ20_stringSize_1 10 rfl rfl)
theorem dJ20_stringSize_35 : DC mJ20_stringSize 35 = .ok (.istore_n 2, 1) := dk_61 (dk_at dksJ20_stringSize_1 11 rfl rfl)
theorem dJ20_stringSize_36 : DC mJ20_stringSize 36 = .ok (.iinc 3 1, 3) := dk_132 3 1 (dk_at dksJ20_stringSize_1 12 rfl rfl)
theorem dJ20_stringSize_39 : DC mJ20_stringSize 39 = .ok (.goto (-23), 3) := dk_167 255 233 (dk_at dksJ20_stringSize_1 15 rfl rfl)
theorem dJ20_stringSize_42 : DC mJ20_stringSize 42 = .ok (.bipush 10, 2) := dk_16 10 (dk_at dksJ20_stringSize_1 18 rfl rfl)
theorem dJ20_stringSize_44 : DC mJ20_stringSize 44 = .ok (.iload_n 1, 1) := dk_27 (dk_at dksJ20_stringSize_1 20 rfl rfl)
theorem dJ20_stringSize_45 : DC mJ20_stringSize 45 = .ok (.iadd, 1) := dk_96 (dk_at dksJ20_stringSize_1 21 rfl rfl)
theorem dJ20_stringSize_46 : DC mJ20_stringSize 46 = .ok (.ireturn, 1) := dk_172 (dk_at dksJ20_stringSize_1 22 rfl rfl)
abbrev cJ20_getChars : ByteArray := prog_27_method_12_code
def yJ20_getChars : MethodName := ⟨RJ20, "getChars", "(II[B)I"⟩
def mJ20_getChars : MI := (⟨"java/lang/Integer", "getChars", "(II[B)I"⟩, prog_27_method_12_code, 7, (Option.some FieldType.int), none, 20, 1)
theorem oJ20_getChars : mO mJ20_getChars = 20 := rfl
theorem lJ20_getChars : mL mJ20_getChars = 7 := rfl
theorem rJ20_getChars : mR mJ20_getChars = (Option.some FieldType.int) := rfl
theorem vJ20_getChars : mV mJ20_getChars = 1 := rfl
theorem nJ20_getChars : (mY mJ20_getChars).name = "getChars" := rfl
theorem hJ20_getChars : mH mJ20_getChars = none := rfl
theorem kJ20_getChars : MOk mJ20_getChars := ⟨q687, q100, by decide +kernel⟩
theorem gJ20_getChars : plainName (mY mJ20_getChars).cls = true ∧ (mY mJ20_getChars).cls = "java/lang/Integer" := ⟨by decide +kernel, rfl⟩
def dkwJ20_getChars_5 : List UInt8 := [16, 45, 84, 21, 5, 172]
abbrev dktJ20_getChars_5 : List UInt8 := dkwJ20_getChars_5 ++ []
def dkwJ20_getChars_4 : List UInt8 := [132, 5, 255, 21, 5, 178, 0, 87, 26, 116, 51, 84, 21, 6, 153, 0, 12, 44, 132, 5, 255, 21, 5]
abbrev dktJ20_getChars_4 : List UInt8 := dkwJ20_getChars_4 ++ dktJ20_getChars_5
def dkwJ20_getChars_3 : List UInt8 := [167, 255, 209, 44, 132, 5, 255, 21, 5, 178, 0, 83, 26, 116, 51, 84, 26, 16, 247, 162, 0, 16, 44]
abbrev dktJ20_getChars_3 : List UInt8 := dkwJ20_getChars_3 ++ dktJ20_getChars_4
def dkwJ20_getChars_2 : List UInt8 := [21, 5, 178, 0, 83, 21, 4, 51, 84, 44, 132, 5, 255, 21, 5, 178, 0, 87, 21, 4, 51, 84]
abbrev dktJ20_getChars_2 : List UInt8 := dkwJ20_getChars_2 ++ dktJ20_getChars_3
def dkwJ20_getChars_1 : List UInt8 := [16, 156, 163, 0, 47, 26, 16, 100, 108, 62, 29, 16, 100, 104, 26, 100, 54, 4, 29, 59, 44, 132, 5, 255]
abbrev dktJ20_getChars_1 : List UInt8 := dkwJ20_getChars_1 ++ dktJ20_getChars_2
def dkwJ20_getChars_0 : List UInt8 := [27, 54, 5, 26, 156, 0, 7, 4, 167, 0, 4, 3, 54, 6, 21, 6, 154, 0, 6, 26, 116, 59, 26]
abbrev dktJ20_getChars_0 : List UInt8 := dkwJ20_getChars_0 ++ dktJ20_getChars_1
theorem dksJ20_getChars_0 : cJ20_getChars.data.toList.drop 0 = dktJ20_getChars_0 := by decide +kernel
theorem dksJ20_getChars_1 : cJ20_getChars.data.toList.drop 23 = dktJ20_getChars_1 := dk_seg dksJ20_getChars_0 23 rfl rfl
theorem dksJ20_getChars_2 : cJ20_getChars.data.toList.drop 47 = dktJ20_getChars_2 := dk_seg dksJ20_getChars_1 24 rfl rfl
theorem dksJ20_getChars_3 : cJ20_getChars.data.toList.drop 69 = dktJ20_getChars_3 := dk_seg dksJ20_getChars_2 22 rfl rfl
theorem dksJ20_getChars_4 : cJ20_getChars.data.toList.drop 92 = dktJ20_getChars_4 := dk_seg dksJ20_getChars_3 23 rfl rfl
theorem dksJ20_getChars_5 : cJ20_getChars.data.toList.drop 115 = dktJ20_getChars_5 := dk_seg dksJ20_getChars_4 23 rfl rfl
theorem dJ20_getChars_0 : DC mJ20_getChars 0 = .ok (.iload_n 1, 1) := dk_27 (dk_at dksJ20_getChars_0 0 rfl rfl)
theorem dJ20_getChars_1 : DC mJ20_getChars 1 = .ok (.istore 5, 2) := dk_54 5 (dk_at dksJ20_getChars_0 1 rfl rfl)
theorem dJ20_getChars_3 : DC mJ20_getChars 3 = .ok (.iload_n 0, 1) := dk_26 (dk_at dksJ20_getChars_0 3 rfl rfl)
theorem dJ20_getChars_4 : DC mJ20_getChars 4 = .ok (.ifCond .ge 7, 3) := dk_156 0 7 (dk_at dksJ20_getChars_0 4 rfl rfl)
theorem dJ20_getChars_7 : DC mJ20_getChars 7 = .ok (.iconst 1, 1) := dk_4 (dk_at dksJ20_getChars_0 7 rfl rfl)
theorem dJ20_getChars_8 : DC mJ20_getChars 8 = .ok (.goto 4, 3) := dk_167 0 4 (dk_at dksJ20_getChars_0 8 rfl rfl)
theorem dJ20_getChars_11 : DC mJ20_getChars 11 = .ok (.iconst 0, 1) := dk_3 (dk_at dksJ20_getChars_0 11 rfl rfl)
theorem dJ20_getChars_12 : DC mJ20_getChars 12 = .ok (.istore 6, 2) := dk_54 6 (dk_at dksJ20_getChars_0 12 rfl rfl)
theorem dJ20_getChars_14 : DC mJ20_getChars 14 = .ok (.iload 6, 2) := dk_21 6 (dk_at dksJ20_getChars_0 14 rfl rfl)
theorem dJ20_getChars_16 : DC mJ20_getChars 16 = .ok (.ifCond .ne 6, 3) := dk_154 0 6 (dk_at dksJ20_getChars_0 16 rfl rfl)
theorem dJ20_getChars_19 : DC mJ20_getChars 19 = .ok (.iload_n 0, 1) := dk_26 (dk_at dksJ20_getChars_0 19 rfl rfl)
theorem dJ20_getChars_20 : DC mJ20_getChars 20 = .ok (.ineg, 1) := dk_116 (dk_at dksJ20_getChars_0 20 rfl rfl)
theorem dJ20_getChars_21 : DC mJ20_getChars 21 = .ok (.istore_n 0, 1) := dk_59 (dk_at dksJ20_getChars_0 21 rfl rfl)
theorem dJ20_getChars_22 : DC mJ20_getChars 22 = .ok (.iload_n 0, 1) := dk_26 (dk_at dksJ20_getChars_0 22 rfl rfl)
theorem dJ20_getChars_23 : DC mJ20_getChars 23 = .ok (.bipush (-100), 2) := dk_16 156 (dk_at dksJ20_getChars_1 0 rfl rfl)
theorem dJ20_getChars_25 : DC mJ20_getChars 25 = .ok (.if_icmp .gt 47, 3) := dk_163 0 47 (dk_at dksJ20_getChars_1 2 rfl rfl)
theorem dJ20_getChars_28 : DC mJ20_getChars 28 = .ok (.iload_n 0, 1) := dk_26 (dk_at dksJ20_getChars_1 5 rfl rfl)
theorem dJ20_getChars_29 : DC mJ20_getChars 29 = .ok (.bipush 100, 2) := dk_16 100 (dk_at dksJ20_getChars_1 6 rfl rfl)
theorem dJ20_getChars_31 : DC mJ20_getChars 31 = .ok (.idiv, 1) := dk_108 (dk_at dksJ20_getChars_1 8 rfl rfl)
theorem dJ20_getChars_32 : DC mJ20_getChars 32 = .ok (.istore_n 3, 1) := dk_62 (dk_at dksJ20_getChars_1 9 rfl rfl)
theorem dJ20_getChars_33 : DC mJ20_getChars 33 = .ok (.iload_n 3, 1) := dk_29 (dk_at dksJ20_getChars_1 10 rfl rfl)
theorem dJ20_getChars_34 : DC mJ20_getChars 34 = .ok (.bipush 100, 2) := dk_16 100 (dk_at dksJ20_getChars_1 11 rfl rfl)
theorem dJ20_getChars_36 : DC mJ20_getChars 36 = .ok (.imul, 1) := dk_104 (dk_at dksJ20_getChars_1 13 rfl rfl)
theorem dJ20_getChars_37 : DC mJ20_getChars 37 = .ok (.iload_n 0, 1) := dk_26 (dk_at dksJ20_getChars_1 14 rfl rfl)
theorem dJ20_getChars_38 : DC mJ20_getChars 38 = .ok (.isub, 1) := dk_100 (dk_at dksJ20_getChars_1 15 rfl rfl)
theorem dJ20_getChars_39 : DC mJ20_getChars 39 = .ok (.istore 4, 2) := dk_54 4 (dk_at dksJ20_getChars_1 16 rfl rfl)
theorem dJ20_getChars_41 : DC mJ20_getChars 41 = .ok (.iload_n 3, 1) := dk_29 (dk_at dksJ20_getChars_1 18 rfl rfl)
theorem dJ20_getChars_42 : DC mJ20_getChars 42 = .ok (.istore_n 0, 1) := dk_59 (dk_at dksJ20_getChars_1 19 rfl rfl)
theorem dJ20_getChars_43 : DC mJ20_getChars 43 = .ok (.aload_n 2, 1) := dk_44 (dk_at dksJ20_getChars_1 20 rfl rfl)
theorem dJ20_getChars_44 : DC mJ20_getChars 44 = .ok (.iinc 5 (-1), 3) := dk_132 5 255 (dk_at dksJ20_getChars_1 21 rfl rfl)
theorem dJ20_getChars_47 : DC mJ20_getChars 47 = .ok (.iload 5, 2) := dk_21 5 (dk_at dksJ20_getChars_2 0 rfl rfl)
theorem dJ20_getChars_49 : DC mJ20_getChars 49 = .ok (.getstatic 83, 3) := dk_178 0 83 (dk_at dksJ20_getChars_2 2 rfl rfl)
theorem dJ20_getChars_52 : DC mJ20_getChars 52 = .ok (.iload 4, 2) := dk_21 4 (dk_at dksJ20_getChars_2 5 rfl rfl)
theorem dJ20_getChars_54 : DC mJ20_getChars 54 = .ok (.baload, 1) := dk_51 (dk_at dksJ20_getChars_2 7 rfl rfl)
theorem dJ20_getChars_55 : DC mJ20_getChars 55 = .ok (.bastore, 1) := dk_84 (dk_at dksJ20_getChars_2 8 rfl rfl)
theorem dJ20_getChars_56 : DC mJ20_getChars 56 = .ok (.aload_n 2, 1) := dk_44 (dk_at dksJ20_getChars_2 9 rfl rfl)
theorem dJ20_getChars_57 : DC mJ20_getChars 57 = .ok (.iinc 5 (-1), 3) := dk_132 5 255 (dk_at dksJ20_getChars_2 10 rfl rfl)
theorem dJ20_getChars_60 : DC mJ20_getChars 60 = .ok (.iload 5, 2) := dk_21 5 (dk_at dksJ20_getChars_2 13 rfl rfl)
theorem dJ20_getChars_62 : DC mJ20_getChars 62 = .ok (.getstatic 87, 3) := dk_178 0 87 (dk_at dksJ20_getChars_2 15 rfl rfl)
theorem dJ20_getChars_65 : DC mJ20_getChars 65 = .ok (.iload 4, 2) := dk_21 4 (dk_at dksJ20_getChars_2 18 rfl rfl)
theorem dJ20_getChars_67 : DC mJ20_getChars 67 = .ok (.baload, 1) := dk_51 (dk_at dksJ20_getChars_2 20 rfl rfl)
theorem dJ20_getChars_68 : DC mJ20_getChars 68 = .ok (.bastore, 1) := dk_84 (dk_at dksJ20_getChars_2 21 rfl rfl)
theorem dJ20_getChars_69 : DC mJ20_getChars 69 = .ok (.goto (-47), 3) := dk_167 255 209 (dk_at dksJ20_getChars_3 0 rfl rfl)
theorem dJ20_getChars_72 : DC mJ20_getChars 72 = .ok (.aload_n 2, 1) := dk_44 (dk_at dksJ20_getChars_3 3 rfl rfl)
theorem dJ20_getChars_73 : DC mJ20_getChars 73 = .ok (.iinc 5 (-1), 3) := dk_132 5 255 (dk_at dksJ20_getChars_3 4 rfl rfl)
theorem dJ20_getChars_76 : DC mJ20_getChars 76 = .ok (.iload 5, 2) := dk_21 5 (dk_at dksJ20_getChars_3 7 rfl rfl)
theorem dJ20_getChars_78 : DC mJ20_getChars 78 = .ok (.getstatic 83, 3) := dk_178 0 83 (dk_at dksJ20_getChars_3 9 rfl rfl)
theorem dJ20_getChars_81 : DC mJ20_getChars 81 = .ok (.iload_n 0, 1) := dk_26 (dk_at dksJ20_getChars_3 12 rfl rfl)
theorem dJ20_getChars_82 : DC mJ20_getChars 82 = .ok (.ineg, 1) := dk_116 (dk_at dksJ20_getChars_3 13 rfl rfl)
theorem dJ20_getChars_83 : DC mJ20_getChars 83 = .ok (.baload, 1) := dk_51 (dk_at dksJ20_getChars_3 14 rfl rfl)
theorem dJ20_getChars_84 : DC mJ20_getChars 84 = .ok (.bastore, 1) := dk_84 (dk_at dksJ20_getChars_3 15 rfl rfl)
theorem dJ20_getChars_85 : DC mJ20_getChars 85 = .ok (.iload_n 0, 1) := dk_26 (dk_at dksJ20_getChars_3 16 rfl rfl)
theorem dJ20_getChars_86 : DC mJ20_getChars 86 = .ok (.bipush (-9), 2) := dk_16 247 (dk_at dksJ20_getChars_3 17 rfl rfl)
theorem dJ20_getChars_88 : DC mJ20_getChars 88 = .ok (.if_icmp .ge 16, 3) := dk_162 0 16 (dk_at dksJ20_getChars_3 19 rfl rfl)
theorem dJ20_getChars_91 : DC mJ20_getChars 91 = .ok (.aload_n 2, 1) := dk_44 (dk_at dksJ20_getChars_3 22 rfl rfl)
theorem dJ20_getChars_92 : DC mJ20_getChars 92 = .ok (.iinc 5 (-1), 3) := dk_132 5 255 (dk_at dksJ20_getChars_4 0 rfl rfl)
theorem dJ20_getChars_95 : DC mJ20_getChars 95 = .ok (.iload 5, 2) := dk_21 5 (dk_at dksJ20_getChars_4 3 rfl rfl)
theorem dJ20_getChars_97 : DC mJ20_getChars 97 = .ok (.getstatic 87, 3) := dk_178 0 87 (dk_at dksJ20_getChars_4 5 rfl rfl)
theorem dJ20_getChars_100 : DC mJ20_getChars 100 = .ok (.iload_n 0, 1) := dk_26 (dk_at dksJ20_getChars_4 8 rfl rfl)
theorem dJ20_getChars_101 : DC mJ20_getChars 101 = .ok (.ineg, 1) := dk_116 (dk_at dksJ20_getChars_4 9 rfl rfl)
theorem dJ20_getChars_102 : DC mJ20_getChars 102 = .ok (.baload, 1) := dk_51 (dk_at dksJ20_getChars_4 10 rfl rfl)
theorem dJ20_getChars_103 : DC mJ20_getChars 103 = .ok (.bastore, 1) := dk_84 (dk_at dksJ20_getChars_4 11 rfl rfl)
theorem dJ20_getChars_104 : DC mJ20_getChars 104 = .ok (.iload 6, 2) := dk_21 6 (dk_at dksJ20_getChars_4 12 rfl rfl)
theorem dJ20_getChars_106 : DC mJ20_getChars 106 = .ok (.ifCond .eq 12, 3) := dk_153 0 12 (dk_at dksJ20_getChars_4 14 rfl rfl)
theorem dJ20_getChars_109 : DC mJ20_getChars 109 = .ok (.aload_n 2, 1) := dk_44 (dk_at dksJ20_getChars_4 17 rfl rfl)
theorem dJ20_getChars_110 : DC mJ20_getChars 110 = .ok (.iinc 5 (-1), 3) := dk_132 5 255 (dk_at dksJ20_getChars_4 18 rfl rfl)
theorem dJ20_getChars_113 : DC mJ20_getChars 113 = .ok (.iload 5, 2) := dk_21 5 (dk_at dksJ20_getChars_4 21 rfl rfl)
theorem dJ20_getChars_115 : DC mJ20_getChars 115 = .ok (.bipush 45, 2) := dk_16 45 (dk_at dksJ20_getChars_5 0 rfl rfl)
theorem dJ20_getChars_117 : DC mJ20_getChars 117 = .ok (.bastore, 1) := dk_84 (dk_at dksJ20_getChars_5 2 rfl rfl)
theorem dJ20_getChars_118 : DC mJ20_getChars 118 = .ok (.iload 5, 2) := dk_21 5 (dk_at dksJ20_getChars_5 3 rfl rfl)
theorem dJ20_getChars_120 : DC mJ20_getChars 120 = .ok (.ireturn, 1) := dk_172 (dk_at dksJ20_getChars_5 5 rfl rfl)
abbrev cJ20_intValue : ByteArray := prog_27_method_27_code
def yJ20_intValue : MethodName := ⟨RJ20, "intValue", "()I"⟩
def mJ20_intValue : MI := (⟨"java/lang/Integer", "intValue", "()I"⟩, prog_27_method_27_code, 1, (Option.some FieldType.int), none, 20, 1)
theorem oJ20_intValue : mO mJ20_intValue = 20 := rfl
theorem lJ20_intValue : mL mJ20_intValue = 1 := rfl
theorem rJ20_intValue : mR mJ20_intValue = (Option.some FieldType.int) := rfl
theorem vJ20_intValue : mV mJ20_intValue = 1 := rfl
theorem nJ20_intValue : (mY mJ20_intValue).name = "intValue" := rfl
theorem hJ20_intValue : mH mJ20_intValue = none := rfl
theorem kJ20_intValue : MOk mJ20_intValue := ⟨q1927, q100, by decide +kernel⟩
theorem gJ20_intValue : plainName (mY mJ20_intValue).cls = true ∧ (mY mJ20_intValue).cls = "java/lang/Integer" := ⟨by decide +kernel, rfl⟩
theorem dJ20_intValue_0 : DC mJ20_intValue 0 = .ok (.aload_n 0, 1) := by decide +kernel
theorem dJ20_intValue_1 : DC mJ20_intValue 1 = .ok (.getfield 205, 3) := by decide +kernel
theorem dJ20_intValue_4 : DC mJ20_intValue 4 = .ok (.ireturn, 1) := by decide +kernel
abbrev cJ20_valueOf : ByteArray := prog_27_method_22_code
def yJ20_valueOf : MethodName := ⟨RJ20, "valueOf", "(I)Ljava/lang/Integer;"⟩
def mJ20_valueOf : MI := (⟨"java/lang/Integer", "valueOf", "(I)Ljava/lang/Integer;"⟩, prog_27_method_22_code, 1, (Option.some (FieldType.object "java/lang/Integer")), none, 20, 4)
theorem oJ20_valueOf : mO mJ20_valueOf = 20 := rfl
theorem lJ20_valueOf : mL mJ20_valueOf = 1 := rfl
theorem rJ20_valueOf : mR mJ20_valueOf = (Option.some (FieldType.object "java/lang/Integer")) := rfl
theorem vJ20_valueOf : mV mJ20_valueOf = 4 := rfl
theorem nJ20_valueOf : (mY mJ20_valueOf).name = "valueOf" := rfl
theorem hJ20_valueOf : mH mJ20_valueOf = none := rfl
theorem kJ20_valueOf : MOk mJ20_valueOf := ⟨q1934, q100, by decide +kernel⟩
theorem gJ20_valueOf : plainName (mY mJ20_valueOf).cls = true ∧ (mY mJ20_valueOf).cls = "java/lang/Integer" := ⟨by decide +kernel, rfl⟩
def dkwJ20_valueOf_1 : List UInt8 := [187, 0, 1, 89, 26, 183, 0, 199, 176]
abbrev dktJ20_valueOf_1 : List UInt8 := dkwJ20_valueOf_1 ++ []
def dkwJ20_valueOf_0 : List UInt8 := [26, 16, 128, 161, 0, 20, 26, 178, 0, 191, 163, 0, 13, 178, 0, 195, 26, 17, 0, 128, 96, 50, 176]
abbrev dktJ20_valueOf_0 : List UInt8 := dkwJ20_valueOf_0 ++ dktJ20_valueOf_1
theorem dksJ20_valueOf_0 : cJ20_valueOf.data.toList.drop 0 = dktJ20_valueOf_0 := by decide +kernel
theorem dksJ20_valueOf_1 : cJ20_valueOf.data.toList.drop 23 = dktJ20_valueOf_1 := dk_seg dksJ20_valueOf_0 23 rfl rfl
theorem dJ20_valueOf_0 : DC mJ20_valueOf 0 = .ok (.iload_n 0, 1) := dk_26 (dk_at dksJ20_valueOf_0 0 rfl rfl)
theorem dJ20_valueOf_1 : DC mJ20_valueOf 1 = .ok (.bipush (-128), 2) := dk_16 128 (dk_at dksJ20_valueOf_0 1 rfl rfl)
theorem dJ20_valueOf_3 : DC mJ20_valueOf 3 = .ok (.if_icmp .lt 20, 3) := dk_161 0 20 (dk_at dksJ20_valueOf_0 3 rfl rfl)
theorem dJ20_valueOf_6 : DC mJ20_valueOf 6 = .ok (.iload_n 0, 1) := dk_26 (dk_at dksJ20_valueOf_0 6 rfl rfl)
theorem dJ20_valueOf_7 : DC mJ20_valueOf 7 = .ok (.getstatic 191, 3) := dk_178 0 191 (dk_at dksJ20_valueOf_0 7 rfl rfl)
theorem dJ20_valueOf_10 : DC mJ20_valueOf 10 = .ok (.if_icmp .gt 13, 3) := dk_163 0 13 (dk_at dksJ20_valueOf_0 10 rfl rfl)
theorem dJ20_valueOf_13 : DC mJ20_valueOf 13 = .ok (.getstatic 195, 3) := dk_178 0 195 (dk_at dksJ20_valueOf_0 13 rfl rfl)
theorem dJ20_valueOf_16 : DC mJ20_valueOf 16 = .ok (.iload_n 0, 1) := dk_26 (dk_at dksJ20_valueOf_0 16 rfl rfl)
theorem dJ20_valueOf_17 : DC mJ20_valueOf 17 = .ok (.sipush 128, 3) := dk_17 0 128 (dk_at dksJ20_valueOf_0 17 rfl rfl)
theorem dJ20_valueOf_20 : DC mJ20_valueOf 20 = .ok (.iadd, 1) := dk_96 (dk_at dksJ20_valueOf_0 20 rfl rfl)
theorem dJ20_valueOf_21 : DC mJ20_valueOf 21 = .ok (.aaload, 1) := dk_50 (dk_at dksJ20_valueOf_0 21 rfl rfl)
theorem dJ20_valueOf_22 : DC mJ20_valueOf 22 = .ok (.areturn, 1) := dk_176 (dk_at dksJ20_valueOf_0 22 rfl rfl)
theorem dJ20_valueOf_23 : DC mJ20_valueOf 23 = .ok (.new 1, 3) := dk_187 0 1 (dk_at dksJ20_valueOf_1 0 rfl rfl)
theorem dJ20_valueOf_26 : DC mJ20_valueOf 26 = .ok (.dup, 1) := dk_89 (dk_at dksJ20_valueOf_1 3 rfl rfl)
theorem dJ20_valueOf_27 : DC mJ20_valueOf 27 = .ok (.iload_n 0, 1) := dk_26 (dk_at dksJ20_valueOf_1 4 rfl rfl)
theorem dJ20_valueOf_28 : DC mJ20_valueOf 28 = .ok (.invokespecial 199, 3) := dk_183 0 199 (dk_at dksJ20_valueOf_1 5 rfl rfl)
theorem dJ20_valueOf_31 : DC mJ20_valueOf 31 = .ok (.areturn, 1) := dk_176 (dk_at dksJ20_valueOf_1 8 rfl rfl)
abbrev cJ20_init : ByteArray := prog_27_method_23_code
def yJ20_init : MethodName := ⟨RJ20, "<init>", "(I)V"⟩
def mJ20_init : MI := (⟨"java/lang/Integer", "<init>", "(I)V"⟩, prog_27_method_23_code, 2, (Option.none : Option FieldType), none, 20, 3)
theorem oJ20_init : mO mJ20_init = 20 := rfl
theorem lJ20_init : mL mJ20_init = 2 := rfl
theorem rJ20_init : mR mJ20_init = (Option.none : Option FieldType) := rfl
theorem vJ20_init : mV mJ20_init = 3 := rfl
theorem nJ20_init : (mY mJ20_init).name = "<init>" := rfl
theorem hJ20_init : mH mJ20_init = none := rfl
theorem kJ20_init : MOk mJ20_init := ⟨q1943, q100, by decide +kernel⟩
theorem gJ20_init : plainName (mY mJ20_init).cls = true ∧ (mY mJ20_init).cls = "java/lang/Integer" := ⟨by decide +kernel, rfl⟩
def dkwJ20_init_0 : List UInt8 := [42, 183, 0, 202, 42, 27, 181, 0, 205, 177]
abbrev dktJ20_init_0 : List UInt8 := dkwJ20_init_0 ++ []
theorem dksJ20_init_0 : cJ20_init.data.toList.drop 0 = dktJ20_init_0 := by decide +kernel
theorem dJ20_init_0 : DC mJ20_init 0 = .ok (.aload_n 0, 1) := dk_42 (dk_at dksJ20_init_0 0 rfl rfl)
theorem dJ20_init_1 : DC mJ20_init 1 = .ok (.invokespecial 202, 3) := dk_183 0 202 (dk_at dksJ20_init_0 1 rfl rfl)
theorem dJ20_init_4 : DC mJ20_init 4 = .ok (.aload_n 0, 1) := dk_42 (dk_at dksJ20_init_0 4 rfl rfl)
theorem dJ20_init_5 : DC mJ20_init 5 = .ok (.iload_n 1, 1) := dk_27 (dk_at dksJ20_init_0 5 rfl rfl)
theorem dJ20_init_6 : DC mJ20_init 6 = .ok (.putfield 205, 3) := dk_181 0 205 (dk_at dksJ20_init_0 6 rfl rfl)
theorem dJ20_init_9 : DC mJ20_init 9 = .ok (.return_, 1) := dk_177 (dk_at dksJ20_init_0 9 rfl rfl)
theorem in_J20 : ∀ w ∈ wsJ200, w ∈ lw_all := lw_in wsJ200 [1949] (by decide +kernel) (by decide +kernel)

/-! java/util/LinkedList$ListItr -/
set_option maxRecDepth 100000
def RJ24 : String := "java/util/LinkedList$ListItr"
def TJ24 : u_T := fun k => match k with
  | 0 => ("java/util/LinkedList$ListItr", "lastReturned", "Ljava/util/LinkedList$Node;", false)
  | 1 => ("java/util/LinkedList$ListItr", "next", "Ljava/util/LinkedList$Node;", false)
  | 2 => ("java/util/LinkedList$ListItr", "nextIndex", "I", false)
  | 3 => ("java/util/LinkedList$ListItr", "expectedModCount", "I", false)
  | _ => ("java/util/LinkedList$ListItr", "this$0", "Ljava/util/LinkedList;", true)
def tyJ24 : Nat → FieldType := fun k => match k with
  | 0 => .object "java/util/LinkedList$Node"
  | 1 => .object "java/util/LinkedList$Node"
  | 2 => .int
  | 3 => .int
  | _ => .object "java/util/LinkedList"
abbrev wsJ240 : List Cond := u_ws RJ24 TJ24 5
theorem nmJ24 : ∀ a, a < 5 → ∀ b, b < 5 → a ≠ b → (TJ24 a).2.1 ≠ (TJ24 b).2.1 := by decide +kernel
theorem tyJ24_ok : ∀ k, k < 5 → parseFieldDescriptor (TJ24 k).2.2.1 = some (tyJ24 k) := by decide +kernel
abbrev cJ24_init : ByteArray := prog_59_method_1_code
def yJ24_init : MethodName := ⟨RJ24, "<init>", "(Ljava/util/LinkedList;I)V"⟩
def mJ24_init : MI := (⟨"java/util/LinkedList$ListItr", "<init>", "(Ljava/util/LinkedList;I)V"⟩, prog_59_method_1_code, 3, (Option.none : Option FieldType), none, 24, 2)
theorem oJ24_init : mO mJ24_init = 24 := rfl
theorem lJ24_init : mL mJ24_init = 3 := rfl
theorem rJ24_init : mR mJ24_init = (Option.none : Option FieldType) := rfl
theorem vJ24_init : mV mJ24_init = 2 := rfl
theorem nJ24_init : (mY mJ24_init).name = "<init>" := rfl
theorem hJ24_init : mH mJ24_init = none := rfl
theorem kJ24_init : MOk mJ24_init := ⟨q852, q105, by decide +kernel⟩
theorem gJ24_init : plainName (mY mJ24_init).cls = true ∧ (mY mJ24_init).cls = "java/util/LinkedList$ListItr" := ⟨by decide +kernel, rfl⟩
def dkwJ24_init_1 : List UInt8 := [180, 0, 22, 160, 0, 7, 1, 167, 0, 8, 43, 28, 182, 0, 25, 181, 0, 29, 42, 28, 181, 0, 33, 177]
abbrev dktJ24_init_1 : List UInt8 := dkwJ24_init_1 ++ []
def dkwJ24_init_0 : List UInt8 := [42, 43, 181, 0, 1, 42, 183, 0, 7, 42, 42, 180, 0, 1, 180, 0, 13, 181, 0, 19, 42, 28, 43]
abbrev dktJ24_init_0 : List UInt8 := dkwJ24_init_0 ++ dktJ24_init_1
theorem dksJ24_init_0 : cJ24_init.data.toList.drop 0 = dktJ24_init_0 := by decide +kernel
theorem dksJ24_init_1 : cJ24_init.data.toList.drop 23 = dktJ24_init_1 := dk_seg dksJ24_init_0 23 rfl rfl
theorem dJ24_init_0 : DC mJ24_init 0 = .ok (.aload_n 0, 1) := dk_42 (dk_at dksJ24_init_0 0 rfl rfl)
theorem dJ24_init_1 : DC mJ24_init 1 = .ok (.aload_n 1, 1) := dk_43 (dk_at dksJ24_init_0 1 rfl rfl)
theorem dJ24_init_2 : DC mJ24_init 2 = .ok (.putfield 1, 3) := dk_181 0 1 (dk_at dksJ24_init_0 2 rfl rfl)
theorem dJ24_init_5 : DC mJ24_init 5 = .ok (.aload_n 0, 1) := dk_42 (dk_at dksJ24_init_0 5 rfl rfl)
theorem dJ24_init_6 : DC mJ24_init 6 = .ok (.invokespecial 7, 3) := dk_183 0 7 (dk_at dksJ24_init_0 6 rfl rfl)
theorem dJ24_init_9 : DC mJ24_init 9 = .ok (.aload_n 0, 1) := dk_42 (dk_at dksJ24_init_0 9 rfl rfl)
theorem dJ24_init_10 : DC mJ24_init 10 = .ok (.aload_n 0, 1) := dk_42 (dk_at dksJ24_init_0 10 rfl rfl)
theorem dJ24_init_11 : DC mJ24_init 11 = .ok (.getfield 1, 3) := dk_180 0 1 (dk_at dksJ24_init_0 11 rfl rfl)
theorem dJ24_init_14 : DC mJ24_init 14 = .ok (.getfield 13, 3) := dk_180 0 13 (dk_at dksJ24_init_0 14 rfl rfl)
theorem dJ24_init_17 : DC mJ24_init 17 = .ok (.putfield 19, 3) := dk_181 0 19 (dk_at dksJ24_init_0 17 rfl rfl)
theorem dJ24_init_20 : DC mJ24_init 20 = .ok (.aload_n 0, 1) := dk_42 (dk_at dksJ24_init_0 20 rfl rfl)
theorem dJ24_init_21 : DC mJ24_init 21 = .ok (.iload_n 2, 1) := dk_28 (dk_at dksJ24_init_0 21 rfl rfl)
theorem dJ24_init_22 : DC mJ24_init 22 = .ok (.aload_n 1, 1) := dk_43 (dk_at dksJ24_init_0 22 rfl rfl)
theorem dJ24_init_23 : DC mJ24_init 23 = .ok (.getfield 22, 3) := dk_180 0 22 (dk_at dksJ24_init_1 0 rfl rfl)
theorem dJ24_init_26 : DC mJ24_init 26 = .ok (.if_icmp .ne 7, 3) := dk_160 0 7 (dk_at dksJ24_init_1 3 rfl rfl)
theorem dJ24_init_29 : DC mJ24_init 29 = .ok (.aconst_null, 1) := dk_1 (dk_at dksJ24_init_1 6 rfl rfl)
theorem dJ24_init_30 : DC mJ24_init 30 = .ok (.goto 8, 3) := dk_167 0 8 (dk_at dksJ24_init_1 7 rfl rfl)
theorem dJ24_init_33 : DC mJ24_init 33 = .ok (.aload_n 1, 1) := dk_43 (dk_at dksJ24_init_1 10 rfl rfl)
theorem dJ24_init_34 : DC mJ24_init 34 = .ok (.iload_n 2, 1) := dk_28 (dk_at dksJ24_init_1 11 rfl rfl)
theorem dJ24_init_35 : DC mJ24_init 35 = .ok (.invokevirtual 25, 3) := dk_182 0 25 (dk_at dksJ24_init_1 12 rfl rfl)
theorem dJ24_init_38 : DC mJ24_init 38 = .ok (.putfield 29, 3) := dk_181 0 29 (dk_at dksJ24_init_1 15 rfl rfl)
theorem dJ24_init_41 : DC mJ24_init 41 = .ok (.aload_n 0, 1) := dk_42 (dk_at dksJ24_init_1 18 rfl rfl)
theorem dJ24_init_42 : DC mJ24_init 42 = .ok (.iload_n 2, 1) := dk_28 (dk_at dksJ24_init_1 19 rfl rfl)
theorem dJ24_init_43 : DC mJ24_init 43 = .ok (.putfield 33, 3) := dk_181 0 33 (dk_at dksJ24_init_1 20 rfl rfl)
theorem dJ24_init_46 : DC mJ24_init 46 = .ok (.return_, 1) := dk_177 (dk_at dksJ24_init_1 23 rfl rfl)
abbrev cJ24_hasNext : ByteArray := prog_59_method_2_code
def yJ24_hasNext : MethodName := ⟨RJ24, "hasNext", "()Z"⟩
def mJ24_hasNext : MI := (⟨"java/util/LinkedList$ListItr", "hasNext", "()Z"⟩, prog_59_method_2_code, 1, (Option.some FieldType.boolean), none, 24, 1)
theorem oJ24_hasNext : mO mJ24_hasNext = 24 := rfl
theorem lJ24_hasNext : mL mJ24_hasNext = 1 := rfl
theorem rJ24_hasNext : mR mJ24_hasNext = (Option.some FieldType.boolean) := rfl
theorem vJ24_hasNext : mV mJ24_hasNext = 1 := rfl
theorem nJ24_hasNext : (mY mJ24_hasNext).name = "hasNext" := rfl
theorem hJ24_hasNext : mH mJ24_hasNext = none := rfl
theorem kJ24_hasNext : MOk mJ24_hasNext := ⟨q914, q105, by decide +kernel⟩
theorem gJ24_hasNext : plainName (mY mJ24_hasNext).cls = true ∧ (mY mJ24_hasNext).cls = "java/util/LinkedList$ListItr" := ⟨by decide +kernel, rfl⟩
def dkwJ24_hasNext_0 : List UInt8 := [42, 180, 0, 33, 42, 180, 0, 1, 180, 0, 22, 162, 0, 7, 4, 167, 0, 4, 3, 172]
abbrev dktJ24_hasNext_0 : List UInt8 := dkwJ24_hasNext_0 ++ []
theorem dksJ24_hasNext_0 : cJ24_hasNext.data.toList.drop 0 = dktJ24_hasNext_0 := by decide +kernel
theorem dJ24_hasNext_0 : DC mJ24_hasNext 0 = .ok (.aload_n 0, 1) := dk_42 (dk_at dksJ24_hasNext_0 0 rfl rfl)
theorem dJ24_hasNext_1 : DC mJ24_hasNext 1 = .ok (.getfield 33, 3) := dk_180 0 33 (dk_at dksJ24_hasNext_0 1 rfl rfl)
theorem dJ24_hasNext_4 : DC mJ24_hasNext 4 = .ok (.aload_n 0, 1) := dk_42 (dk_at dksJ24_hasNext_0 4 rfl rfl)
theorem dJ24_hasNext_5 : DC mJ24_hasNext 5 = .ok (.getfield 1, 3) := dk_180 0 1 (dk_at dksJ24_hasNext_0 5 rfl rfl)
theorem dJ24_hasNext_8 : DC mJ24_hasNext 8 = .ok (.getfield 22, 3) := dk_180 0 22 (dk_at dksJ24_hasNext_0 8 rfl rfl)
theorem dJ24_hasNext_11 : DC mJ24_hasNext 11 = .ok (.if_icmp .ge 7, 3) := dk_162 0 7 (dk_at dksJ24_hasNext_0 11 rfl rfl)
theorem dJ24_hasNext_14 : DC mJ24_hasNext 14 = .ok (.iconst 1, 1) := dk_4 (dk_at dksJ24_hasNext_0 14 rfl rfl)
theorem dJ24_hasNext_15 : DC mJ24_hasNext 15 = .ok (.goto 4, 3) := dk_167 0 4 (dk_at dksJ24_hasNext_0 15 rfl rfl)
theorem dJ24_hasNext_18 : DC mJ24_hasNext 18 = .ok (.iconst 0, 1) := dk_3 (dk_at dksJ24_hasNext_0 18 rfl rfl)
theorem dJ24_hasNext_19 : DC mJ24_hasNext 19 = .ok (.ireturn, 1) := dk_172 (dk_at dksJ24_hasNext_0 19 rfl rfl)
abbrev cJ24_next : ByteArray := prog_59_method_3_code
def yJ24_next : MethodName := ⟨RJ24, "next", "()Ljava/lang/Object;"⟩
def mJ24_next : MI := (⟨"java/util/LinkedList$ListItr", "next", "()Ljava/lang/Object;"⟩, prog_59_method_3_code, 1, (Option.some (FieldType.object "java/lang/Object")), none, 24, 2)
theorem oJ24_next : mO mJ24_next = 24 := rfl
theorem lJ24_next : mL mJ24_next = 1 := rfl
theorem rJ24_next : mR mJ24_next = (Option.some (FieldType.object "java/lang/Object")) := rfl
theorem vJ24_next : mV mJ24_next = 2 := rfl
theorem nJ24_next : (mY mJ24_next).name = "next" := rfl
theorem hJ24_next : mH mJ24_next = none := rfl
theorem kJ24_next : MOk mJ24_next := ⟨q1082, q105, by decide +kernel⟩
theorem gJ24_next : plainName (mY mJ24_next).cls = true ∧ (mY mJ24_next).cls = "java/util/LinkedList$ListItr" := ⟨by decide +kernel, rfl⟩
def dkwJ24_next_2 : List UInt8 := [42, 180, 0, 46, 180, 0, 52, 176]
abbrev dktJ24_next_2 : List UInt8 := dkwJ24_next_2 ++ []
def dkwJ24_next_1 : List UInt8 := [181, 0, 46, 42, 42, 180, 0, 29, 180, 0, 49, 181, 0, 29, 42, 89, 180, 0, 33, 4, 96, 181, 0, 33]
abbrev dktJ24_next_1 : List UInt8 := dkwJ24_next_1 ++ dktJ24_next_2
def dkwJ24_next_0 : List UInt8 := [42, 182, 0, 36, 42, 182, 0, 39, 154, 0, 11, 187, 0, 43, 89, 183, 0, 45, 191, 42, 42, 180, 0, 29]
abbrev dktJ24_next_0 : List UInt8 := dkwJ24_next_0 ++ dktJ24_next_1
theorem dksJ24_next_0 : cJ24_next.data.toList.drop 0 = dktJ24_next_0 := by decide +kernel
theorem dksJ24_next_1 : cJ24_next.data.toList.drop 24 = dktJ24_next_1 := dk_seg dksJ24_next_0 24 rfl rfl
theorem dksJ24_next_2 : cJ24_next.data.toList.drop 48 = dktJ24_next_2 := dk_seg dksJ24_next_1 24 rfl rfl
theorem dJ24_next_0 : DC mJ24_next 0 = .ok (.aload_n 0, 1) := dk_42 (dk_at dksJ24_next_0 0 rfl rfl)
theorem dJ24_next_1 : DC mJ24_next 1 = .ok (.invokevirtual 36, 3) := dk_182 0 36 (dk_at dksJ24_next_0 1 rfl rfl)
theorem dJ24_next_4 : DC mJ24_next 4 = .ok (.aload_n 0, 1) := dk_42 (dk_at dksJ24_next_0 4 rfl rfl)
theorem dJ24_next_5 : DC mJ24_next 5 = .ok (.invokevirtual 39, 3) := dk_182 0 39 (dk_at dksJ24_next_0 5 rfl rfl)
theorem dJ24_next_8 : DC mJ24_next 8 = .ok (.ifCond .ne 11, 3) := dk_154 0 11 (dk_at dksJ24_next_0 8 rfl rfl)
theorem dJ24_next_11 : DC mJ24_next 11 = .ok (.new 43, 3) := dk_187 0 43 (dk_at dksJ24_next_0 11 rfl rfl)
theorem dJ24_next_14 : DC mJ24_next 14 = .ok (.dup, 1) := dk_89 (dk_at dksJ24_next_0 14 rfl rfl)
theorem dJ24_next_15 : DC mJ24_next 15 = .ok (.invokespecial 45, 3) := dk_183 0 45 (dk_at dksJ24_next_0 15 rfl rfl)
theorem dJ24_next_18 : DC mJ24_next 18 = .ok (.athrow, 1) := dk_191 (dk_at dksJ24_next_0 18 rfl rfl)
theorem dJ24_next_19 : DC mJ24_next 19 = .ok (.aload_n 0, 1) := dk_42 (dk_at dksJ24_next_0 19 rfl rfl)
theorem dJ24_next_20 : DC mJ24_next 20 = .ok (.aload_n 0, 1) := dk_42 (dk_at dksJ24_next_0 20 rfl rfl)
theorem dJ24_next_21 : DC mJ24_next 21 = .ok (.getfield 29, 3) := dk_180 0 29 (dk_at dksJ24_next_0 21 rfl rfl)
theorem dJ24_next_24 : DC mJ24_next 24 = .ok (.putfield 46, 3) := dk_181 0 46 (dk_at dksJ24_next_1 0 rfl rfl)
theorem dJ24_next_27 : DC mJ24_next 27 = .ok (.aload_n 0, 1) := dk_42 (dk_at dksJ24_next_1 3 rfl rfl)
theorem dJ24_next_28 : DC mJ24_next 28 = .ok (.aload_n 0, 1) := dk_42 (dk_at dksJ24_next_1 4 rfl rfl)
theorem dJ24_next_29 : DC mJ24_next 29 = .ok (.getfield 29, 3) := dk_180 0 29 (dk_at dksJ24_next_1 5 rfl rfl)
theorem dJ24_next_32 : DC mJ24_next 32 = .ok (.getfield 49, 3) := dk_180 0 49 (dk_at dksJ24_next_1 8 rfl rfl)
theorem dJ24_next_35 : DC mJ24_next 35 = .ok (.putfield 29, 3) := dk_181 0 29 (dk_at dksJ24_next_1 11 rfl rfl)
theorem dJ24_next_38 : DC mJ24_next 38 = .ok (.aload_n 0, 1) := dk_42 (dk_at dksJ24_next_1 14 rfl rfl)
theorem dJ24_next_39 : DC mJ24_next 39 = .ok (.dup, 1) := dk_89 (dk_at dksJ24_next_1 15 rfl rfl)
theorem dJ24_next_40 : DC mJ24_next 40 = .ok (.getfield 33, 3) := dk_180 0 33 (dk_at dksJ24_next_1 16 rfl rfl)
theorem dJ24_next_43 : DC mJ24_next 43 = .ok (.iconst 1, 1) := dk_4 (dk_at dksJ24_next_1 19 rfl rfl)
theorem dJ24_next_44 : DC mJ24_next 44 = .ok (.iadd, 1) := dk_96 (dk_at dksJ24_next_1 20 rfl rfl)
theorem dJ24_next_45 : DC mJ24_next 45 = .ok (.putfield 33, 3) := dk_181 0 33 (dk_at dksJ24_next_1 21 rfl rfl)
theorem dJ24_next_48 : DC mJ24_next 48 = .ok (.aload_n 0, 1) := dk_42 (dk_at dksJ24_next_2 0 rfl rfl)
theorem dJ24_next_49 : DC mJ24_next 49 = .ok (.getfield 46, 3) := dk_180 0 46 (dk_at dksJ24_next_2 1 rfl rfl)
theorem dJ24_next_52 : DC mJ24_next 52 = .ok (.getfield 52, 3) := dk_180 0 52 (dk_at dksJ24_next_2 4 rfl rfl)
theorem dJ24_next_55 : DC mJ24_next 55 = .ok (.areturn, 1) := dk_176 (dk_at dksJ24_next_2 7 rfl rfl)
abbrev cJ24_checkForComodification : ByteArray := prog_59_method_12_code
def yJ24_checkForComodification : MethodName := ⟨RJ24, "checkForComodification", "()V"⟩
def mJ24_checkForComodification : MI := (⟨"java/util/LinkedList$ListItr", "checkForComodification", "()V"⟩, prog_59_method_12_code, 1, (Option.none : Option FieldType), none, 24, 1)
theorem oJ24_checkForComodification : mO mJ24_checkForComodification = 24 := rfl
theorem lJ24_checkForComodification : mL mJ24_checkForComodification = 1 := rfl
theorem rJ24_checkForComodification : mR mJ24_checkForComodification = (Option.none : Option FieldType) := rfl
theorem vJ24_checkForComodification : mV mJ24_checkForComodification = 1 := rfl
theorem nJ24_checkForComodification : (mY mJ24_checkForComodification).name = "checkForComodification" := rfl
theorem hJ24_checkForComodification : mH mJ24_checkForComodification = none := rfl
theorem kJ24_checkForComodification : MOk mJ24_checkForComodification := ⟨q1086, q105, by decide +kernel⟩
theorem gJ24_checkForComodification : plainName (mY mJ24_checkForComodification).cls = true ∧ (mY mJ24_checkForComodification).cls = "java/util/LinkedList$ListItr" := ⟨by decide +kernel, rfl⟩
def dkwJ24_checkForComodification_0 : List UInt8 := [42, 180, 0, 1, 180, 0, 13, 42, 180, 0, 19, 159, 0, 11, 187, 0, 91, 89, 183, 0, 93, 191, 177]
abbrev dktJ24_checkForComodification_0 : List UInt8 := dkwJ24_checkForComodification_0 ++ []
theorem dksJ24_checkForComodification_0 : cJ24_checkForComodification.data.toList.drop 0 = dktJ24_checkForComodification_0 := by decide +kernel
theorem dJ24_checkForComodification_0 : DC mJ24_checkForComodification 0 = .ok (.aload_n 0, 1) := dk_42 (dk_at dksJ24_checkForComodification_0 0 rfl rfl)
theorem dJ24_checkForComodification_1 : DC mJ24_checkForComodification 1 = .ok (.getfield 1, 3) := dk_180 0 1 (dk_at dksJ24_checkForComodification_0 1 rfl rfl)
theorem dJ24_checkForComodification_4 : DC mJ24_checkForComodification 4 = .ok (.getfield 13, 3) := dk_180 0 13 (dk_at dksJ24_checkForComodification_0 4 rfl rfl)
theorem dJ24_checkForComodification_7 : DC mJ24_checkForComodification 7 = .ok (.aload_n 0, 1) := dk_42 (dk_at dksJ24_checkForComodification_0 7 rfl rfl)
theorem dJ24_checkForComodification_8 : DC mJ24_checkForComodification 8 = .ok (.getfield 19, 3) := dk_180 0 19 (dk_at dksJ24_checkForComodification_0 8 rfl rfl)
theorem dJ24_checkForComodification_11 : DC mJ24_checkForComodification 11 = .ok (.if_icmp .eq 11, 3) := dk_159 0 11 (dk_at dksJ24_checkForComodification_0 11 rfl rfl)
theorem dJ24_checkForComodification_14 : DC mJ24_checkForComodification 14 = .ok (.new 91, 3) := dk_187 0 91 (dk_at dksJ24_checkForComodification_0 14 rfl rfl)
theorem dJ24_checkForComodification_17 : DC mJ24_checkForComodification 17 = .ok (.dup, 1) := dk_89 (dk_at dksJ24_checkForComodification_0 17 rfl rfl)
theorem dJ24_checkForComodification_18 : DC mJ24_checkForComodification 18 = .ok (.invokespecial 93, 3) := dk_183 0 93 (dk_at dksJ24_checkForComodification_0 18 rfl rfl)
theorem dJ24_checkForComodification_21 : DC mJ24_checkForComodification 21 = .ok (.athrow, 1) := dk_191 (dk_at dksJ24_checkForComodification_0 21 rfl rfl)
theorem dJ24_checkForComodification_22 : DC mJ24_checkForComodification 22 = .ok (.return_, 1) := dk_177 (dk_at dksJ24_checkForComodification_0 22 rfl rfl)
theorem in_J24 : ∀ w ∈ wsJ240, w ∈ lw_all := lw_in wsJ240 [863, 865, 867, 869, 871] (by decide +kernel) (by decide +kernel)

/-! java/util/Objects -/
set_option maxRecDepth 100000
def RJ26 : String := "java/util/Objects"
abbrev cJ26_checkIndex : ByteArray := prog_64_method_17_code
def yJ26_checkIndex : MethodName := ⟨RJ26, "checkIndex", "(II)I"⟩
def mJ26_checkIndex : MI := (⟨"java/util/Objects", "checkIndex", "(II)I"⟩, prog_64_method_17_code, 2, (Option.some FieldType.int), none, 26, 2)
theorem oJ26_checkIndex : mO mJ26_checkIndex = 26 := rfl
theorem lJ26_checkIndex : mL mJ26_checkIndex = 2 := rfl
theorem rJ26_checkIndex : mR mJ26_checkIndex = (Option.some FieldType.int) := rfl
theorem vJ26_checkIndex : mV mJ26_checkIndex = 2 := rfl
theorem nJ26_checkIndex : (mY mJ26_checkIndex).name = "checkIndex" := rfl
theorem hJ26_checkIndex : mH mJ26_checkIndex = none := rfl
theorem kJ26_checkIndex : MOk mJ26_checkIndex := ⟨q964, q107, by decide +kernel⟩
theorem gJ26_checkIndex : plainName (mY mJ26_checkIndex).cls = true ∧ (mY mJ26_checkIndex).cls = "java/util/Objects" := ⟨by decide +kernel, rfl⟩
def dkwJ26_checkIndex_0 : List UInt8 := [26, 27, 1, 184, 0, 105, 172]
abbrev dktJ26_checkIndex_0 : List UInt8 := dkwJ26_checkIndex_0 ++ []
theorem dksJ26_checkIndex_0 : cJ26_checkIndex.data.toList.drop 0 = dktJ26_checkIndex_0 := by decide +kernel
theorem dJ26_checkIndex_0 : DC mJ26_checkIndex 0 = .ok (.iload_n 0, 1) := dk_26 (dk_at dksJ26_checkIndex_0 0 rfl rfl)
theorem dJ26_checkIndex_1 : DC mJ26_checkIndex 1 = .ok (.iload_n 1, 1) := dk_27 (dk_at dksJ26_checkIndex_0 1 rfl rfl)
theorem dJ26_checkIndex_2 : DC mJ26_checkIndex 2 = .ok (.aconst_null, 1) := dk_1 (dk_at dksJ26_checkIndex_0 2 rfl rfl)
theorem dJ26_checkIndex_3 : DC mJ26_checkIndex 3 = .ok (.invokestatic 105, 3) := dk_184 0 105 (dk_at dksJ26_checkIndex_0 3 rfl rfl)
theorem dJ26_checkIndex_6 : DC mJ26_checkIndex 6 = .ok (.ireturn, 1) := dk_172 (dk_at dksJ26_checkIndex_0 6 rfl rfl)

/-! java/lang/Record -/
set_option maxRecDepth 100000
def RJ27 : String := "java/lang/Record"
abbrev cJ27_init : ByteArray := prog_32_method_1_code
def yJ27_init : MethodName := ⟨RJ27, "<init>", "()V"⟩
def mJ27_init : MI := (⟨"java/lang/Record", "<init>", "()V"⟩, prog_32_method_1_code, 1, (Option.none : Option FieldType), none, 27, 2)
theorem oJ27_init : mO mJ27_init = 27 := rfl
theorem lJ27_init : mL mJ27_init = 1 := rfl
theorem rJ27_init : mR mJ27_init = (Option.none : Option FieldType) := rfl
theorem vJ27_init : mV mJ27_init = 2 := rfl
theorem nJ27_init : (mY mJ27_init).name = "<init>" := rfl
theorem hJ27_init : mH mJ27_init = none := rfl
theorem kJ27_init : MOk mJ27_init := ⟨q1389, q111, by decide +kernel⟩
theorem gJ27_init : plainName (mY mJ27_init).cls = true ∧ (mY mJ27_init).cls = "java/lang/Record" := ⟨by decide +kernel, rfl⟩
theorem dJ27_init_0 : DC mJ27_init 0 = .ok (.aload_n 0, 1) := by decide +kernel
theorem dJ27_init_1 : DC mJ27_init 1 = .ok (.invokespecial 1, 3) := by decide +kernel
theorem dJ27_init_4 : DC mJ27_init 4 = .ok (.return_, 1) := by decide +kernel

/-! java/util/AbstractSequentialList -/
set_option maxRecDepth 100000
def RJ31 : String := "java/util/AbstractSequentialList"
abbrev cJ31_iterator : ByteArray := prog_49_method_7_code
def yJ31_iterator : MethodName := ⟨RJ31, "iterator", "()Ljava/util/Iterator;"⟩
def mJ31_iterator : MI := (⟨"java/util/AbstractSequentialList", "iterator", "()Ljava/util/Iterator;"⟩, prog_49_method_7_code, 1, (Option.some (FieldType.object "java/util/Iterator")), none, 31, 6)
theorem oJ31_iterator : mO mJ31_iterator = 31 := rfl
theorem lJ31_iterator : mL mJ31_iterator = 1 := rfl
theorem rJ31_iterator : mR mJ31_iterator = (Option.some (FieldType.object "java/util/Iterator")) := rfl
theorem vJ31_iterator : mV mJ31_iterator = 6 := rfl
theorem nJ31_iterator : (mY mJ31_iterator).name = "iterator" := rfl
theorem hJ31_iterator : mH mJ31_iterator = none := rfl
theorem kJ31_iterator : MOk mJ31_iterator := ⟨q498, q118, by decide +kernel⟩
theorem gJ31_iterator : plainName (mY mJ31_iterator).cls = true ∧ (mY mJ31_iterator).cls = "java/util/AbstractSequentialList" := ⟨by decide +kernel, rfl⟩
theorem dJ31_iterator_0 : DC mJ31_iterator 0 = .ok (.aload_n 0, 1) := by decide +kernel
theorem dJ31_iterator_1 : DC mJ31_iterator 1 = .ok (.invokevirtual 65, 3) := by decide +kernel
theorem dJ31_iterator_4 : DC mJ31_iterator 4 = .ok (.areturn, 1) := by decide +kernel
abbrev cJ31_init : ByteArray := prog_49_method_1_code
def yJ31_init : MethodName := ⟨RJ31, "<init>", "()V"⟩
def mJ31_init : MI := (⟨"java/util/AbstractSequentialList", "<init>", "()V"⟩, prog_49_method_1_code, 1, (Option.none : Option FieldType), none, 31, 4)
theorem oJ31_init : mO mJ31_init = 31 := rfl
theorem lJ31_init : mL mJ31_init = 1 := rfl
theorem rJ31_init : mR mJ31_init = (Option.none : Option FieldType) := rfl
theorem vJ31_init : mV mJ31_init = 4 := rfl
theorem nJ31_init : (mY mJ31_init).name = "<init>" := rfl
theorem hJ31_init : mH mJ31_init = none := rfl
theorem kJ31_init : MOk mJ31_init := ⟨q1907, q118, by decide +kernel⟩
theorem gJ31_init : plainName (mY mJ31_init).cls = true ∧ (mY mJ31_init).cls = "java/util/AbstractSequentialList" := ⟨by decide +kernel, rfl⟩
theorem dJ31_init_0 : DC mJ31_init 0 = .ok (.aload_n 0, 1) := by decide +kernel
theorem dJ31_init_1 : DC mJ31_init 1 = .ok (.invokespecial 1, 3) := by decide +kernel
theorem dJ31_init_4 : DC mJ31_init 4 = .ok (.return_, 1) := by decide +kernel

/-! java/util/LinkedList -/
set_option maxRecDepth 100000
def RJ32 : String := "java/util/LinkedList"
def TJ32 : u_T := fun k => match k with
  | 0 => ("java/util/AbstractList", "modCount", "I", false)
  | 1 => ("java/util/LinkedList", "size", "I", false)
  | 2 => ("java/util/LinkedList", "first", "Ljava/util/LinkedList$Node;", false)
  | _ => ("java/util/LinkedList", "last", "Ljava/util/LinkedList$Node;", false)
def tyJ32 : Nat → FieldType := fun k => match k with
  | 0 => .int
  | 1 => .int
  | 2 => .object "java/util/LinkedList$Node"
  | _ => .object "java/util/LinkedList$Node"
abbrev wsJ320 : List Cond := u_ws RJ32 TJ32 4
theorem nmJ32 : ∀ a, a < 4 → ∀ b, b < 4 → a ≠ b → (TJ32 a).2.1 ≠ (TJ32 b).2.1 := by decide +kernel
theorem tyJ32_ok : ∀ k, k < 4 → parseFieldDescriptor (TJ32 k).2.2.1 = some (tyJ32 k) := by decide +kernel
abbrev cJ32_add : ByteArray := prog_58_method_17_code
def yJ32_add : MethodName := ⟨RJ32, "add", "(Ljava/lang/Object;)Z"⟩
def mJ32_add : MI := (⟨"java/util/LinkedList", "add", "(Ljava/lang/Object;)Z"⟩, prog_58_method_17_code, 2, (Option.some FieldType.boolean), none, 32, 4)
theorem oJ32_add : mO mJ32_add = 32 := rfl
theorem lJ32_add : mL mJ32_add = 2 := rfl
theorem rJ32_add : mR mJ32_add = (Option.some FieldType.boolean) := rfl
theorem vJ32_add : mV mJ32_add = 4 := rfl
theorem nJ32_add : (mY mJ32_add).name = "add" := rfl
theorem hJ32_add : mH mJ32_add = none := rfl
theorem kJ32_add : MOk mJ32_add := ⟨q342, q119, by decide +kernel⟩
theorem gJ32_add : plainName (mY mJ32_add).cls = true ∧ (mY mJ32_add).cls = "java/util/LinkedList" := ⟨by decide +kernel, rfl⟩
def dkwJ32_add_0 : List UInt8 := [42, 43, 182, 0, 57, 4, 172]
abbrev dktJ32_add_0 : List UInt8 := dkwJ32_add_0 ++ []
theorem dksJ32_add_0 : cJ32_add.data.toList.drop 0 = dktJ32_add_0 := by decide +kernel
theorem dJ32_add_0 : DC mJ32_add 0 = .ok (.aload_n 0, 1) := dk_42 (dk_at dksJ32_add_0 0 rfl rfl)
theorem dJ32_add_1 : DC mJ32_add 1 = .ok (.aload_n 1, 1) := dk_43 (dk_at dksJ32_add_0 1 rfl rfl)
theorem dJ32_add_2 : DC mJ32_add 2 = .ok (.invokevirtual 57, 3) := dk_182 0 57 (dk_at dksJ32_add_0 2 rfl rfl)
theorem dJ32_add_5 : DC mJ32_add 5 = .ok (.iconst 1, 1) := dk_4 (dk_at dksJ32_add_0 5 rfl rfl)
theorem dJ32_add_6 : DC mJ32_add 6 = .ok (.ireturn, 1) := dk_172 (dk_at dksJ32_add_0 6 rfl rfl)
abbrev cJ32_linkLast : ByteArray := prog_58_method_4_code
def yJ32_linkLast : MethodName := ⟨RJ32, "linkLast", "(Ljava/lang/Object;)V"⟩
def mJ32_linkLast : MI := (⟨"java/util/LinkedList", "linkLast", "(Ljava/lang/Object;)V"⟩, prog_58_method_4_code, 4, (Option.none : Option FieldType), none, 32, 3)
theorem oJ32_linkLast : mO mJ32_linkLast = 32 := rfl
theorem lJ32_linkLast : mL mJ32_linkLast = 4 := rfl
theorem rJ32_linkLast : mR mJ32_linkLast = (Option.none : Option FieldType) := rfl
theorem vJ32_linkLast : mV mJ32_linkLast = 3 := rfl
theorem nJ32_linkLast : (mY mJ32_linkLast).name = "linkLast" := rfl
theorem hJ32_linkLast : mH mJ32_linkLast = none := rfl
theorem kJ32_linkLast : MOk mJ32_linkLast := ⟨q346, q119, by decide +kernel⟩
theorem gJ32_linkLast : plainName (mY mJ32_linkLast).cls = true ∧ (mY mJ32_linkLast).cls = "java/util/LinkedList" := ⟨by decide +kernel, rfl⟩
def dkwJ32_linkLast_2 : List UInt8 := [181, 0, 7, 42, 89, 180, 0, 33, 4, 96, 181, 0, 33, 177]
abbrev dktJ32_linkLast_2 : List UInt8 := dkwJ32_linkLast_2 ++ []
def dkwJ32_linkLast_1 : List UInt8 := [199, 0, 11, 42, 45, 181, 0, 18, 167, 0, 8, 44, 45, 181, 0, 36, 42, 89, 180, 0, 7, 4, 96]
abbrev dktJ32_linkLast_1 : List UInt8 := dkwJ32_linkLast_1 ++ dktJ32_linkLast_2
def dkwJ32_linkLast_0 : List UInt8 := [42, 180, 0, 27, 77, 187, 0, 22, 89, 44, 43, 1, 183, 0, 24, 78, 42, 45, 181, 0, 27, 44]
abbrev dktJ32_linkLast_0 : List UInt8 := dkwJ32_linkLast_0 ++ dktJ32_linkLast_1
theorem dksJ32_linkLast_0 : cJ32_linkLast.data.toList.drop 0 = dktJ32_linkLast_0 := by decide +kernel
theorem dksJ32_linkLast_1 : cJ32_linkLast.data.toList.drop 22 = dktJ32_linkLast_1 := dk_seg dksJ32_linkLast_0 22 rfl rfl
theorem dksJ32_linkLast_2 : cJ32_linkLast.data.toList.drop 45 = dktJ32_linkLast_2 := dk_seg dksJ32_linkLast_1 23 rfl rfl
theorem dJ32_linkLast_0 : DC mJ32_linkLast 0 = .ok (.aload_n 0, 1) := dk_42 (dk_at dksJ32_linkLast_0 0 rfl rfl)
theorem dJ32_linkLast_1 : DC mJ32_linkLast 1 = .ok (.getfield 27, 3) := dk_180 0 27 (dk_at dksJ32_linkLast_0 1 rfl rfl)
theorem dJ32_linkLast_4 : DC mJ32_linkLast 4 = .ok (.astore_n 2, 1) := dk_77 (dk_at dksJ32_linkLast_0 4 rfl rfl)
theorem dJ32_linkLast_5 : DC mJ32_linkLast 5 = .ok (.new 22, 3) := dk_187 0 22 (dk_at dksJ32_linkLast_0 5 rfl rfl)
theorem dJ32_linkLast_8 : DC mJ32_linkLast 8 = .ok (.dup, 1) := dk_89 (dk_at dksJ32_linkLast_0 8 rfl rfl)
theorem dJ32_linkLast_9 : DC mJ32_linkLast 9 = .ok (.aload_n 2, 1) := dk_44 (dk_at dksJ32_linkLast_0 9 rfl rfl)
theorem dJ32_linkLast_10 : DC mJ32_linkLast 10 = .ok (.aload_n 1, 1) := dk_43 (dk_at dksJ32_linkLast_0 10 rfl rfl)
theorem dJ32_linkLast_11 : DC mJ32_linkLast 11 = .ok (.aconst_null, 1) := dk_1 (dk_at dksJ32_linkLast_0 11 rfl rfl)
theorem dJ32_linkLast_12 : DC mJ32_linkLast 12 = .ok (.invokespecial 24, 3) := dk_183 0 24 (dk_at dksJ32_linkLast_0 12 rfl rfl)
theorem dJ32_linkLast_15 : DC mJ32_linkLast 15 = .ok (.astore_n 3, 1) := dk_78 (dk_at dksJ32_linkLast_0 15 rfl rfl)
theorem dJ32_linkLast_16 : DC mJ32_linkLast 16 = .ok (.aload_n 0, 1) := dk_42 (dk_at dksJ32_linkLast_0 16 rfl rfl)
theorem dJ32_linkLast_17 : DC mJ32_linkLast 17 = .ok (.aload_n 3, 1) := dk_45 (dk_at dksJ32_linkLast_0 17 rfl rfl)
theorem dJ32_linkLast_18 : DC mJ32_linkLast 18 = .ok (.putfield 27, 3) := dk_181 0 27 (dk_at dksJ32_linkLast_0 18 rfl rfl)
theorem dJ32_linkLast_21 : DC mJ32_linkLast 21 = .ok (.aload_n 2, 1) := dk_44 (dk_at dksJ32_linkLast_0 21 rfl rfl)
theorem dJ32_linkLast_22 : DC mJ32_linkLast 22 = .ok (.ifnonnull 11, 3) := dk_199 0 11 (dk_at dksJ32_linkLast_1 0 rfl rfl)
theorem dJ32_linkLast_25 : DC mJ32_linkLast 25 = .ok (.aload_n 0, 1) := dk_42 (dk_at dksJ32_linkLast_1 3 rfl rfl)
theorem dJ32_linkLast_26 : DC mJ32_linkLast 26 = .ok (.aload_n 3, 1) := dk_45 (dk_at dksJ32_linkLast_1 4 rfl rfl)
theorem dJ32_linkLast_27 : DC mJ32_linkLast 27 = .ok (.putfield 18, 3) := dk_181 0 18 (dk_at dksJ32_linkLast_1 5 rfl rfl)
theorem dJ32_linkLast_30 : DC mJ32_linkLast 30 = .ok (.goto 8, 3) := dk_167 0 8 (dk_at dksJ32_linkLast_1 8 rfl rfl)
theorem dJ32_linkLast_33 : DC mJ32_linkLast 33 = .ok (.aload_n 2, 1) := dk_44 (dk_at dksJ32_linkLast_1 11 rfl rfl)
theorem dJ32_linkLast_34 : DC mJ32_linkLast 34 = .ok (.aload_n 3, 1) := dk_45 (dk_at dksJ32_linkLast_1 12 rfl rfl)
theorem dJ32_linkLast_35 : DC mJ32_linkLast 35 = .ok (.putfield 36, 3) := dk_181 0 36 (dk_at dksJ32_linkLast_1 13 rfl rfl)
theorem dJ32_linkLast_38 : DC mJ32_linkLast 38 = .ok (.aload_n 0, 1) := dk_42 (dk_at dksJ32_linkLast_1 16 rfl rfl)
theorem dJ32_linkLast_39 : DC mJ32_linkLast 39 = .ok (.dup, 1) := dk_89 (dk_at dksJ32_linkLast_1 17 rfl rfl)
theorem dJ32_linkLast_40 : DC mJ32_linkLast 40 = .ok (.getfield 7, 3) := dk_180 0 7 (dk_at dksJ32_linkLast_1 18 rfl rfl)
theorem dJ32_linkLast_43 : DC mJ32_linkLast 43 = .ok (.iconst 1, 1) := dk_4 (dk_at dksJ32_linkLast_1 21 rfl rfl)
theorem dJ32_linkLast_44 : DC mJ32_linkLast 44 = .ok (.iadd, 1) := dk_96 (dk_at dksJ32_linkLast_1 22 rfl rfl)
theorem dJ32_linkLast_45 : DC mJ32_linkLast 45 = .ok (.putfield 7, 3) := dk_181 0 7 (dk_at dksJ32_linkLast_2 0 rfl rfl)
theorem dJ32_linkLast_48 : DC mJ32_linkLast 48 = .ok (.aload_n 0, 1) := dk_42 (dk_at dksJ32_linkLast_2 3 rfl rfl)
theorem dJ32_linkLast_49 : DC mJ32_linkLast 49 = .ok (.dup, 1) := dk_89 (dk_at dksJ32_linkLast_2 4 rfl rfl)
theorem dJ32_linkLast_50 : DC mJ32_linkLast 50 = .ok (.getfield 33, 3) := dk_180 0 33 (dk_at dksJ32_linkLast_2 5 rfl rfl)
theorem dJ32_linkLast_53 : DC mJ32_linkLast 53 = .ok (.iconst 1, 1) := dk_4 (dk_at dksJ32_linkLast_2 8 rfl rfl)
theorem dJ32_linkLast_54 : DC mJ32_linkLast 54 = .ok (.iadd, 1) := dk_96 (dk_at dksJ32_linkLast_2 9 rfl rfl)
theorem dJ32_linkLast_55 : DC mJ32_linkLast 55 = .ok (.putfield 33, 3) := dk_181 0 33 (dk_at dksJ32_linkLast_2 10 rfl rfl)
theorem dJ32_linkLast_58 : DC mJ32_linkLast 58 = .ok (.return_, 1) := dk_177 (dk_at dksJ32_linkLast_2 13 rfl rfl)
abbrev cJ32_listIterator : ByteArray := prog_58_method_49_code
def yJ32_listIterator : MethodName := ⟨RJ32, "listIterator", "(I)Ljava/util/ListIterator;"⟩
def mJ32_listIterator : MI := (⟨"java/util/LinkedList", "listIterator", "(I)Ljava/util/ListIterator;"⟩, prog_58_method_49_code, 2, (Option.some (FieldType.object "java/util/ListIterator")), none, 32, 3)
theorem oJ32_listIterator : mO mJ32_listIterator = 32 := rfl
theorem lJ32_listIterator : mL mJ32_listIterator = 2 := rfl
theorem rJ32_listIterator : mR mJ32_listIterator = (Option.some (FieldType.object "java/util/ListIterator")) := rfl
theorem vJ32_listIterator : mV mJ32_listIterator = 3 := rfl
theorem nJ32_listIterator : (mY mJ32_listIterator).name = "listIterator" := rfl
theorem hJ32_listIterator : mH mJ32_listIterator = none := rfl
theorem kJ32_listIterator : MOk mJ32_listIterator := ⟨q825, q119, by decide +kernel⟩
theorem gJ32_listIterator : plainName (mY mJ32_listIterator).cls = true ∧ (mY mJ32_listIterator).cls = "java/util/LinkedList" := ⟨by decide +kernel, rfl⟩
def dkwJ32_listIterator_0 : List UInt8 := [42, 27, 182, 0, 76, 187, 0, 150, 89, 42, 27, 183, 0, 152, 176]
abbrev dktJ32_listIterator_0 : List UInt8 := dkwJ32_listIterator_0 ++ []
theorem dksJ32_listIterator_0 : cJ32_listIterator.data.toList.drop 0 = dktJ32_listIterator_0 := by decide +kernel
theorem dJ32_listIterator_0 : DC mJ32_listIterator 0 = .ok (.aload_n 0, 1) := dk_42 (dk_at dksJ32_listIterator_0 0 rfl rfl)
theorem dJ32_listIterator_1 : DC mJ32_listIterator 1 = .ok (.iload_n 1, 1) := dk_27 (dk_at dksJ32_listIterator_0 1 rfl rfl)
theorem dJ32_listIterator_2 : DC mJ32_listIterator 2 = .ok (.invokevirtual 76, 3) := dk_182 0 76 (dk_at dksJ32_listIterator_0 2 rfl rfl)
theorem dJ32_listIterator_5 : DC mJ32_listIterator 5 = .ok (.new 150, 3) := dk_187 0 150 (dk_at dksJ32_listIterator_0 5 rfl rfl)
theorem dJ32_listIterator_8 : DC mJ32_listIterator 8 = .ok (.dup, 1) := dk_89 (dk_at dksJ32_listIterator_0 8 rfl rfl)
theorem dJ32_listIterator_9 : DC mJ32_listIterator 9 = .ok (.aload_n 0, 1) := dk_42 (dk_at dksJ32_listIterator_0 9 rfl rfl)
theorem dJ32_listIterator_10 : DC mJ32_listIterator 10 = .ok (.iload_n 1, 1) := dk_27 (dk_at dksJ32_listIterator_0 10 rfl rfl)
theorem dJ32_listIterator_11 : DC mJ32_listIterator 11 = .ok (.invokespecial 152, 3) := dk_183 0 152 (dk_at dksJ32_listIterator_0 11 rfl rfl)
theorem dJ32_listIterator_14 : DC mJ32_listIterator 14 = .ok (.areturn, 1) := dk_176 (dk_at dksJ32_listIterator_0 14 rfl rfl)
abbrev cJ32_checkPositionIndex : ByteArray := prog_58_method_30_code
def yJ32_checkPositionIndex : MethodName := ⟨RJ32, "checkPositionIndex", "(I)V"⟩
def mJ32_checkPositionIndex : MI := (⟨"java/util/LinkedList", "checkPositionIndex", "(I)V"⟩, prog_58_method_30_code, 2, (Option.none : Option FieldType), none, 32, 2)
theorem oJ32_checkPositionIndex : mO mJ32_checkPositionIndex = 32 := rfl
theorem lJ32_checkPositionIndex : mL mJ32_checkPositionIndex = 2 := rfl
theorem rJ32_checkPositionIndex : mR mJ32_checkPositionIndex = (Option.none : Option FieldType) := rfl
theorem vJ32_checkPositionIndex : mV mJ32_checkPositionIndex = 2 := rfl
theorem nJ32_checkPositionIndex : (mY mJ32_checkPositionIndex).name = "checkPositionIndex" := rfl
theorem hJ32_checkPositionIndex : mH mJ32_checkPositionIndex = none := rfl
theorem kJ32_checkPositionIndex : MOk mJ32_checkPositionIndex := ⟨q830, q119, by decide +kernel⟩
theorem gJ32_checkPositionIndex : plainName (mY mJ32_checkPositionIndex).cls = true ∧ (mY mJ32_checkPositionIndex).cls = "java/util/LinkedList" := ⟨by decide +kernel, rfl⟩
def dkwJ32_checkPositionIndex_0 : List UInt8 := [42, 27, 182, 0, 128, 154, 0, 16, 187, 0, 119, 89, 42, 27, 182, 0, 121, 183, 0, 125, 191, 177]
abbrev dktJ32_checkPositionIndex_0 : List UInt8 := dkwJ32_checkPositionIndex_0 ++ []
theorem dksJ32_checkPositionIndex_0 : cJ32_checkPositionIndex.data.toList.drop 0 = dktJ32_checkPositionIndex_0 := by decide +kernel
theorem dJ32_checkPositionIndex_0 : DC mJ32_checkPositionIndex 0 = .ok (.aload_n 0, 1) := dk_42 (dk_at dksJ32_checkPositionIndex_0 0 rfl rfl)
theorem dJ32_checkPositionIndex_1 : DC mJ32_checkPositionIndex 1 = .ok (.iload_n 1, 1) := dk_27 (dk_at dksJ32_checkPositionIndex_0 1 rfl rfl)
theorem dJ32_checkPositionIndex_2 : DC mJ32_checkPositionIndex 2 = .ok (.invokevirtual 128, 3) := dk_182 0 128 (dk_at dksJ32_checkPositionIndex_0 2 rfl rfl)
theorem dJ32_checkPositionIndex_5 : DC mJ32_checkPositionIndex 5 = .ok (.ifCond .ne 16, 3) := dk_154 0 16 (dk_at dksJ32_checkPositionIndex_0 5 rfl rfl)
theorem dJ32_checkPositionIndex_8 : DC mJ32_checkPositionIndex 8 = .ok (.new 119, 3) := dk_187 0 119 (dk_at dksJ32_checkPositionIndex_0 8 rfl rfl)
theorem dJ32_checkPositionIndex_11 : DC mJ32_checkPositionIndex 11 = .ok (.dup, 1) := dk_89 (dk_at dksJ32_checkPositionIndex_0 11 rfl rfl)
theorem dJ32_checkPositionIndex_12 : DC mJ32_checkPositionIndex 12 = .ok (.aload_n 0, 1) := dk_42 (dk_at dksJ32_checkPositionIndex_0 12 rfl rfl)
theorem dJ32_checkPositionIndex_13 : DC mJ32_checkPositionIndex 13 = .ok (.iload_n 1, 1) := dk_27 (dk_at dksJ32_checkPositionIndex_0 13 rfl rfl)
theorem dJ32_checkPositionIndex_14 : DC mJ32_checkPositionIndex 14 = .ok (.invokevirtual 121, 3) := dk_182 0 121 (dk_at dksJ32_checkPositionIndex_0 14 rfl rfl)
theorem dJ32_checkPositionIndex_17 : DC mJ32_checkPositionIndex 17 = .ok (.invokespecial 125, 3) := dk_183 0 125 (dk_at dksJ32_checkPositionIndex_0 17 rfl rfl)
theorem dJ32_checkPositionIndex_20 : DC mJ32_checkPositionIndex 20 = .ok (.athrow, 1) := dk_191 (dk_at dksJ32_checkPositionIndex_0 20 rfl rfl)
theorem dJ32_checkPositionIndex_21 : DC mJ32_checkPositionIndex 21 = .ok (.return_, 1) := dk_177 (dk_at dksJ32_checkPositionIndex_0 21 rfl rfl)
abbrev cJ32_isPositionIndex : ByteArray := prog_58_method_27_code
def yJ32_isPositionIndex : MethodName := ⟨RJ32, "isPositionIndex", "(I)Z"⟩
def mJ32_isPositionIndex : MI := (⟨"java/util/LinkedList", "isPositionIndex", "(I)Z"⟩, prog_58_method_27_code, 2, (Option.some FieldType.boolean), none, 32, 1)
theorem oJ32_isPositionIndex : mO mJ32_isPositionIndex = 32 := rfl
theorem lJ32_isPositionIndex : mL mJ32_isPositionIndex = 2 := rfl
theorem rJ32_isPositionIndex : mR mJ32_isPositionIndex = (Option.some FieldType.boolean) := rfl
theorem vJ32_isPositionIndex : mV mJ32_isPositionIndex = 1 := rfl
theorem nJ32_isPositionIndex : (mY mJ32_isPositionIndex).name = "isPositionIndex" := rfl
theorem hJ32_isPositionIndex : mH mJ32_isPositionIndex = none := rfl
theorem kJ32_isPositionIndex : MOk mJ32_isPositionIndex := ⟨q834, q119, by decide +kernel⟩
theorem gJ32_isPositionIndex : plainName (mY mJ32_isPositionIndex).cls = true ∧ (mY mJ32_isPositionIndex).cls = "java/util/LinkedList" := ⟨by decide +kernel, rfl⟩
def dkwJ32_isPositionIndex_0 : List UInt8 := [27, 155, 0, 15, 27, 42, 180, 0, 7, 163, 0, 7, 4, 167, 0, 4, 3, 172]
abbrev dktJ32_isPositionIndex_0 : List UInt8 := dkwJ32_isPositionIndex_0 ++ []
theorem dksJ32_isPositionIndex_0 : cJ32_isPositionIndex.data.toList.drop 0 = dktJ32_isPositionIndex_0 := by decide +kernel
theorem dJ32_isPositionIndex_0 : DC mJ32_isPositionIndex 0 = .ok (.iload_n 1, 1) := dk_27 (dk_at dksJ32_isPositionIndex_0 0 rfl rfl)
theorem dJ32_isPositionIndex_1 : DC mJ32_isPositionIndex 1 = .ok (.ifCond .lt 15, 3) := dk_155 0 15 (dk_at dksJ32_isPositionIndex_0 1 rfl rfl)
theorem dJ32_isPositionIndex_4 : DC mJ32_isPositionIndex 4 = .ok (.iload_n 1, 1) := dk_27 (dk_at dksJ32_isPositionIndex_0 4 rfl rfl)
theorem dJ32_isPositionIndex_5 : DC mJ32_isPositionIndex 5 = .ok (.aload_n 0, 1) := dk_42 (dk_at dksJ32_isPositionIndex_0 5 rfl rfl)
theorem dJ32_isPositionIndex_6 : DC mJ32_isPositionIndex 6 = .ok (.getfield 7, 3) := dk_180 0 7 (dk_at dksJ32_isPositionIndex_0 6 rfl rfl)
theorem dJ32_isPositionIndex_9 : DC mJ32_isPositionIndex 9 = .ok (.if_icmp .gt 7, 3) := dk_163 0 7 (dk_at dksJ32_isPositionIndex_0 9 rfl rfl)
theorem dJ32_isPositionIndex_12 : DC mJ32_isPositionIndex 12 = .ok (.iconst 1, 1) := dk_4 (dk_at dksJ32_isPositionIndex_0 12 rfl rfl)
theorem dJ32_isPositionIndex_13 : DC mJ32_isPositionIndex 13 = .ok (.goto 4, 3) := dk_167 0 4 (dk_at dksJ32_isPositionIndex_0 13 rfl rfl)
theorem dJ32_isPositionIndex_16 : DC mJ32_isPositionIndex 16 = .ok (.iconst 0, 1) := dk_3 (dk_at dksJ32_isPositionIndex_0 16 rfl rfl)
theorem dJ32_isPositionIndex_17 : DC mJ32_isPositionIndex 17 = .ok (.ireturn, 1) := dk_172 (dk_at dksJ32_isPositionIndex_0 17 rfl rfl)
abbrev cJ32_outOfBoundsMsg : ByteArray := prog_58_method_28_code
def yJ32_outOfBoundsMsg : MethodName := ⟨RJ32, "outOfBoundsMsg", "(I)Ljava/lang/String;"⟩
def mJ32_outOfBoundsMsg : MI := (⟨"java/util/LinkedList", "outOfBoundsMsg", "(I)Ljava/lang/String;"⟩, prog_58_method_28_code, 2, (Option.some (FieldType.object "java/lang/String")), none, 32, 11)
theorem oJ32_outOfBoundsMsg : mO mJ32_outOfBoundsMsg = 32 := rfl
theorem lJ32_outOfBoundsMsg : mL mJ32_outOfBoundsMsg = 2 := rfl
theorem rJ32_outOfBoundsMsg : mR mJ32_outOfBoundsMsg = (Option.some (FieldType.object "java/lang/String")) := rfl
theorem vJ32_outOfBoundsMsg : mV mJ32_outOfBoundsMsg = 11 := rfl
theorem nJ32_outOfBoundsMsg : (mY mJ32_outOfBoundsMsg).name = "outOfBoundsMsg" := rfl
theorem hJ32_outOfBoundsMsg : mH mJ32_outOfBoundsMsg = none := rfl
theorem kJ32_outOfBoundsMsg : MOk mJ32_outOfBoundsMsg := ⟨q839, q119, by decide +kernel⟩
theorem gJ32_outOfBoundsMsg : plainName (mY mJ32_outOfBoundsMsg).cls = true ∧ (mY mJ32_outOfBoundsMsg).cls = "java/util/LinkedList" := ⟨by decide +kernel, rfl⟩
def dkwJ32_outOfBoundsMsg_1 : List UInt8 := [180, 0, 7, 182, 0, 106, 182, 0, 111, 176]
abbrev dktJ32_outOfBoundsMsg_1 : List UInt8 := dkwJ32_outOfBoundsMsg_1 ++ []
def dkwJ32_outOfBoundsMsg_0 : List UInt8 := [187, 0, 97, 89, 183, 0, 99, 18, 100, 182, 0, 102, 27, 182, 0, 106, 18, 109, 182, 0, 102, 42]
abbrev dktJ32_outOfBoundsMsg_0 : List UInt8 := dkwJ32_outOfBoundsMsg_0 ++ dktJ32_outOfBoundsMsg_1
theorem dksJ32_outOfBoundsMsg_0 : cJ32_outOfBoundsMsg.data.toList.drop 0 = dktJ32_outOfBoundsMsg_0 := by decide +kernel
theorem dksJ32_outOfBoundsMsg_1 : cJ32_outOfBoundsMsg.data.toList.drop 22 = dktJ32_outOfBoundsMsg_1 := dk_seg dksJ32_outOfBoundsMsg_0 22 rfl rfl
theorem dJ32_outOfBoundsMsg_0 : DC mJ32_outOfBoundsMsg 0 = .ok (.new 97, 3) := dk_187 0 97 (dk_at dksJ32_outOfBoundsMsg_0 0 rfl rfl)
theorem dJ32_outOfBoundsMsg_3 : DC mJ32_outOfBoundsMsg 3 = .ok (.dup, 1) := dk_89 (dk_at dksJ32_outOfBoundsMsg_0 3 rfl rfl)
theorem dJ32_outOfBoundsMsg_4 : DC mJ32_outOfBoundsMsg 4 = .ok (.invokespecial 99, 3) := dk_183 0 99 (dk_at dksJ32_outOfBoundsMsg_0 4 rfl rfl)
theorem dJ32_outOfBoundsMsg_7 : DC mJ32_outOfBoundsMsg 7 = .ok (.ldc 100, 2) := dk_18 100 (dk_at dksJ32_outOfBoundsMsg_0 7 rfl rfl)
theorem dJ32_outOfBoundsMsg_9 : DC mJ32_outOfBoundsMsg 9 = .ok (.invokevirtual 102, 3) := dk_182 0 102 (dk_at dksJ32_outOfBoundsMsg_0 9 rfl rfl)
theorem dJ32_outOfBoundsMsg_12 : DC mJ32_outOfBoundsMsg 12 = .ok (.iload_n 1, 1) := dk_27 (dk_at dksJ32_outOfBoundsMsg_0 12 rfl rfl)
theorem dJ32_outOfBoundsMsg_13 : DC mJ32_outOfBoundsMsg 13 = .ok (.invokevirtual 106, 3) := dk_182 0 106 (dk_at dksJ32_outOfBoundsMsg_0 13 rfl rfl)
theorem dJ32_outOfBoundsMsg_16 : DC mJ32_outOfBoundsMsg 16 = .ok (.ldc 109, 2) := dk_18 109 (dk_at dksJ32_outOfBoundsMsg_0 16 rfl rfl)
theorem dJ32_outOfBoundsMsg_18 : DC mJ32_outOfBoundsMsg 18 = .ok (.invokevirtual 102, 3) := dk_182 0 102 (dk_at dksJ32_outOfBoundsMsg_0 18 rfl rfl)
theorem dJ32_outOfBoundsMsg_21 : DC mJ32_outOfBoundsMsg 21 = .ok (.aload_n 0, 1) := dk_42 (dk_at dksJ32_outOfBoundsMsg_0 21 rfl rfl)
theorem dJ32_outOfBoundsMsg_22 : DC mJ32_outOfBoundsMsg 22 = .ok (.getfield 7, 3) := dk_180 0 7 (dk_at dksJ32_outOfBoundsMsg_1 0 rfl rfl)
theorem dJ32_outOfBoundsMsg_25 : DC mJ32_outOfBoundsMsg 25 = .ok (.invokevirtual 106, 3) := dk_182 0 106 (dk_at dksJ32_outOfBoundsMsg_1 3 rfl rfl)
theorem dJ32_outOfBoundsMsg_28 : DC mJ32_outOfBoundsMsg 28 = .ok (.invokevirtual 111, 3) := dk_182 0 111 (dk_at dksJ32_outOfBoundsMsg_1 6 rfl rfl)
theorem dJ32_outOfBoundsMsg_31 : DC mJ32_outOfBoundsMsg 31 = .ok (.areturn, 1) := dk_176 (dk_at dksJ32_outOfBoundsMsg_1 9 rfl rfl)
abbrev cJ32_node : ByteArray := prog_58_method_31_code
def yJ32_node : MethodName := ⟨RJ32, "node", "(I)Ljava/util/LinkedList$Node;"⟩
def mJ32_node : MI := (⟨"java/util/LinkedList", "node", "(I)Ljava/util/LinkedList$Node;"⟩, prog_58_method_31_code, 4, (Option.some (FieldType.object "java/util/LinkedList$Node")), none, 32, 1)
theorem oJ32_node : mO mJ32_node = 32 := rfl
theorem lJ32_node : mL mJ32_node = 4 := rfl
theorem rJ32_node : mR mJ32_node = (Option.some (FieldType.object "java/util/LinkedList$Node")) := rfl
theorem vJ32_node : mV mJ32_node = 1 := rfl
theorem nJ32_node : (mY mJ32_node).name = "node" := rfl
theorem hJ32_node : mH mJ32_node = none := rfl
theorem kJ32_node : MOk mJ32_node := ⟨q857, q119, by decide +kernel⟩
theorem gJ32_node : plainName (mY mJ32_node).cls = true ∧ (mY mJ32_node).cls = "java/util/LinkedList" := ⟨by decide +kernel, rfl⟩
def dkwJ32_node_2 : List UInt8 := [29, 27, 164, 0, 14, 44, 180, 0, 30, 77, 132, 3, 255, 167, 255, 243, 44, 176]
abbrev dktJ32_node_2 : List UInt8 := dkwJ32_node_2 ++ []
def dkwJ32_node_1 : List UInt8 := [180, 0, 36, 77, 132, 3, 1, 167, 255, 243, 44, 176, 42, 180, 0, 27, 77, 42, 180, 0, 7, 4, 100, 62]
abbrev dktJ32_node_1 : List UInt8 := dkwJ32_node_1 ++ dktJ32_node_2
def dkwJ32_node_0 : List UInt8 := [27, 42, 180, 0, 7, 4, 122, 162, 0, 28, 42, 180, 0, 18, 77, 3, 62, 29, 27, 162, 0, 14, 44]
abbrev dktJ32_node_0 : List UInt8 := dkwJ32_node_0 ++ dktJ32_node_1
theorem dksJ32_node_0 : cJ32_node.data.toList.drop 0 = dktJ32_node_0 := by decide +kernel
theorem dksJ32_node_1 : cJ32_node.data.toList.drop 23 = dktJ32_node_1 := dk_seg dksJ32_node_0 23 rfl rfl
theorem dksJ32_node_2 : cJ32_node.data.toList.drop 47 = dktJ32_node_2 := dk_seg dksJ32_node_1 24 rfl rfl
theorem dJ32_node_0 : DC mJ32_node 0 = .ok (.iload_n 1, 1) := dk_27 (dk_at dksJ32_node_0 0 rfl rfl)
theorem dJ32_node_1 : DC mJ32_node 1 = .ok (.aload_n 0, 1) := dk_42 (dk_at dksJ32_node_0 1 rfl rfl)
theorem dJ32_node_2 : DC mJ32_node 2 = .ok (.getfield 7, 3) := dk_180 0 7 (dk_at dksJ32_node_0 2 rfl rfl)
theorem dJ32_node_5 : DC mJ32_node 5 = .ok (.iconst 1, 1) := dk_4 (dk_at dksJ32_node_0 5 rfl rfl)
theorem dJ32_node_6 : DC mJ32_node 6 = .ok (.ishr, 1) := dk_122 (dk_at dksJ32_node_0 6 rfl rfl)
theorem dJ32_node_7 : DC mJ32_node 7 = .ok (.if_icmp .ge 28, 3) := dk_162 0 28 (dk_at dksJ32_node_0 7 rfl rfl)
theorem dJ32_node_10 : DC mJ32_node 10 = .ok (.aload_n 0, 1) := dk_42 (dk_at dksJ32_node_0 10 rfl rfl)
theorem dJ32_node_11 : DC mJ32_node 11 = .ok (.getfield 18, 3) := dk_180 0 18 (dk_at dksJ32_node_0 11 rfl rfl)
theorem dJ32_node_14 : DC mJ32_node 14 = .ok (.astore_n 2, 1) := dk_77 (dk_at dksJ32_node_0 14 rfl rfl)
theorem dJ32_node_15 : DC mJ32_node 15 = .ok (.iconst 0, 1) := dk_3 (dk_at dksJ32_node_0 15 rfl rfl)
theorem dJ32_node_16 : DC mJ32_node 16 = .ok (.istore_n 3, 1) := dk_62 (dk_at dksJ32_node_0 16 rfl rfl)
theorem dJ32_node_17 : DC mJ32_node 17 = .ok (.iload_n 3, 1) := dk_29 (dk_at dksJ32_node_0 17 rfl rfl)
theorem dJ32_node_18 : DC mJ32_node 18 = .ok (.iload_n 1, 1) := dk_27 (dk_at dksJ32_node_0 18 rfl rfl)
theorem dJ32_node_19 : DC mJ32_node 19 = .ok (.if_icmp .ge 14, 3) := dk_162 0 14 (dk_at dksJ32_node_0 19 rfl rfl)
theorem dJ32_node_22 : DC mJ32_node 22 = .ok (.aload_n 2, 1) := dk_44 (dk_at dksJ32_node_0 22 rfl rfl)
theorem dJ32_node_23 : DC mJ32_node 23 = .ok (.getfield 36, 3) := dk_180 0 36 (dk_at dksJ32_node_1 0 rfl rfl)
theorem dJ32_node_26 : DC mJ32_node 26 = .ok (.astore_n 2, 1) := dk_77 (dk_at dksJ32_node_1 3 rfl rfl)
theorem dJ32_node_27 : DC mJ32_node 27 = .ok (.iinc 3 1, 3) := dk_132 3 1 (dk_at dksJ32_node_1 4 rfl rfl)
theorem dJ32_node_30 : DC mJ32_node 30 = .ok (.goto (-13), 3) := dk_167 255 243 (dk_at dksJ32_node_1 7 rfl rfl)
theorem dJ32_node_33 : DC mJ32_node 33 = .ok (.aload_n 2, 1) := dk_44 (dk_at dksJ32_node_1 10 rfl rfl)
theorem dJ32_node_34 : DC mJ32_node 34 = .ok (.areturn, 1) := dk_176 (dk_at dksJ32_node_1 11 rfl rfl)
theorem dJ32_node_35 : DC mJ32_node 35 = .ok (.aload_n 0, 1) := dk_42 (dk_at dksJ32_node_1 12 rfl rfl)
theorem dJ32_node_36 : DC mJ32_node 36 = .ok (.getfield 27, 3) := dk_180 0 27 (dk_at dksJ32_node_1 13 rfl rfl)
theorem dJ32_node_39 : DC mJ32_node 39 = .ok (.astore_n 2, 1) := dk_77 (dk_at dksJ32_node_1 16 rfl rfl)
theorem dJ32_node_40 : DC mJ32_node 40 = .ok (.aload_n 0, 1) := dk_42 (dk_at dksJ32_node_1 17 rfl rfl)
theorem dJ32_node_41 : DC mJ32_node 41 = .ok (.getfield 7, 3) := dk_180 0 7 (dk_at dksJ32_node_1 18 rfl rfl)
theorem dJ32_node_44 : DC mJ32_node 44 = .ok (.iconst 1, 1) := dk_4 (dk_at dksJ32_node_1 21 rfl rfl)
theorem dJ32_node_45 : DC mJ32_node 45 = .ok (.isub, 1) := dk_100 (dk_at dksJ32_node_1 22 rfl rfl)
theorem dJ32_node_46 : DC mJ32_node 46 = .ok (.istore_n 3, 1) := dk_62 (dk_at dksJ32_node_1 23 rfl rfl)
theorem dJ32_node_47 : DC mJ32_node 47 = .ok (.iload_n 3, 1) := dk_29 (dk_at dksJ32_node_2 0 rfl rfl)
theorem dJ32_node_48 : DC mJ32_node 48 = .ok (.iload_n 1, 1) := dk_27 (dk_at dksJ32_node_2 1 rfl rfl)
theorem dJ32_node_49 : DC mJ32_node 49 = .ok (.if_icmp .le 14, 3) := dk_164 0 14 (dk_at dksJ32_node_2 2 rfl rfl)
theorem dJ32_node_52 : DC mJ32_node 52 = .ok (.aload_n 2, 1) := dk_44 (dk_at dksJ32_node_2 5 rfl rfl)
theorem dJ32_node_53 : DC mJ32_node 53 = .ok (.getfield 30, 3) := dk_180 0 30 (dk_at dksJ32_node_2 6 rfl rfl)
theorem dJ32_node_56 : DC mJ32_node 56 = .ok (.astore_n 2, 1) := dk_77 (dk_at dksJ32_node_2 9 rfl rfl)
theorem dJ32_node_57 : DC mJ32_node 57 = .ok (.iinc 3 (-1), 3) := dk_132 3 255 (dk_at dksJ32_node_2 10 rfl rfl)
theorem dJ32_node_60 : DC mJ32_node 60 = .ok (.goto (-13), 3) := dk_167 255 243 (dk_at dksJ32_node_2 13 rfl rfl)
theorem dJ32_node_63 : DC mJ32_node 63 = .ok (.aload_n 2, 1) := dk_44 (dk_at dksJ32_node_2 16 rfl rfl)
theorem dJ32_node_64 : DC mJ32_node 64 = .ok (.areturn, 1) := dk_176 (dk_at dksJ32_node_2 17 rfl rfl)
abbrev cJ32_size : ByteArray := prog_58_method_16_code
def yJ32_size : MethodName := ⟨RJ32, "size", "()I"⟩
def mJ32_size : MI := (⟨"java/util/LinkedList", "size", "()I"⟩, prog_58_method_16_code, 1, (Option.some FieldType.int), none, 32, 1)
theorem oJ32_size : mO mJ32_size = 32 := rfl
theorem lJ32_size : mL mJ32_size = 1 := rfl
theorem rJ32_size : mR mJ32_size = (Option.some FieldType.int) := rfl
theorem vJ32_size : mV mJ32_size = 1 := rfl
theorem nJ32_size : (mY mJ32_size).name = "size" := rfl
theorem hJ32_size : mH mJ32_size = none := rfl
theorem kJ32_size : MOk mJ32_size := ⟨q899, q119, by decide +kernel⟩
theorem gJ32_size : plainName (mY mJ32_size).cls = true ∧ (mY mJ32_size).cls = "java/util/LinkedList" := ⟨by decide +kernel, rfl⟩
theorem dJ32_size_0 : DC mJ32_size 0 = .ok (.aload_n 0, 1) := by decide +kernel
theorem dJ32_size_1 : DC mJ32_size 1 = .ok (.getfield 7, 3) := by decide +kernel
theorem dJ32_size_4 : DC mJ32_size 4 = .ok (.ireturn, 1) := by decide +kernel
abbrev cJ32_get : ByteArray := prog_58_method_22_code
def yJ32_get : MethodName := ⟨RJ32, "get", "(I)Ljava/lang/Object;"⟩
def mJ32_get : MI := (⟨"java/util/LinkedList", "get", "(I)Ljava/lang/Object;"⟩, prog_58_method_22_code, 2, (Option.some (FieldType.object "java/lang/Object")), none, 32, 3)
theorem oJ32_get : mO mJ32_get = 32 := rfl
theorem lJ32_get : mL mJ32_get = 2 := rfl
theorem rJ32_get : mR mJ32_get = (Option.some (FieldType.object "java/lang/Object")) := rfl
theorem vJ32_get : mV mJ32_get = 3 := rfl
theorem nJ32_get : (mY mJ32_get).name = "get" := rfl
theorem hJ32_get : mH mJ32_get = none := rfl
theorem kJ32_get : MOk mJ32_get := ⟨q976, q119, by decide +kernel⟩
theorem gJ32_get : plainName (mY mJ32_get).cls = true ∧ (mY mJ32_get).cls = "java/util/LinkedList" := ⟨by decide +kernel, rfl⟩
def dkwJ32_get_0 : List UInt8 := [42, 27, 182, 0, 90, 42, 27, 182, 0, 86, 180, 0, 39, 176]
abbrev dktJ32_get_0 : List UInt8 := dkwJ32_get_0 ++ []
theorem dksJ32_get_0 : cJ32_get.data.toList.drop 0 = dktJ32_get_0 := by decide +kernel
theorem dJ32_get_0 : DC mJ32_get 0 = .ok (.aload_n 0, 1) := dk_42 (dk_at dksJ32_get_0 0 rfl rfl)
theorem dJ32_get_1 : DC mJ32_get 1 = .ok (.iload_n 1, 1) := dk_27 (dk_at dksJ32_get_0 1 rfl rfl)
theorem dJ32_get_2 : DC mJ32_get 2 = .ok (.invokevirtual 90, 3) := dk_182 0 90 (dk_at dksJ32_get_0 2 rfl rfl)
theorem dJ32_get_5 : DC mJ32_get 5 = .ok (.aload_n 0, 1) := dk_42 (dk_at dksJ32_get_0 5 rfl rfl)
theorem dJ32_get_6 : DC mJ32_get 6 = .ok (.iload_n 1, 1) := dk_27 (dk_at dksJ32_get_0 6 rfl rfl)
theorem dJ32_get_7 : DC mJ32_get 7 = .ok (.invokevirtual 86, 3) := dk_182 0 86 (dk_at dksJ32_get_0 7 rfl rfl)
theorem dJ32_get_10 : DC mJ32_get 10 = .ok (.getfield 39, 3) := dk_180 0 39 (dk_at dksJ32_get_0 10 rfl rfl)
theorem dJ32_get_13 : DC mJ32_get 13 = .ok (.areturn, 1) := dk_176 (dk_at dksJ32_get_0 13 rfl rfl)
abbrev cJ32_checkElementIndex : ByteArray := prog_58_method_29_code
def yJ32_checkElementIndex : MethodName := ⟨RJ32, "checkElementIndex", "(I)V"⟩
def mJ32_checkElementIndex : MI := (⟨"java/util/LinkedList", "checkElementIndex", "(I)V"⟩, prog_58_method_29_code, 2, (Option.none : Option FieldType), none, 32, 2)
theorem oJ32_checkElementIndex : mO mJ32_checkElementIndex = 32 := rfl
theorem lJ32_checkElementIndex : mL mJ32_checkElementIndex = 2 := rfl
theorem rJ32_checkElementIndex : mR mJ32_checkElementIndex = (Option.none : Option FieldType) := rfl
theorem vJ32_checkElementIndex : mV mJ32_checkElementIndex = 2 := rfl
theorem nJ32_checkElementIndex : (mY mJ32_checkElementIndex).name = "checkElementIndex" := rfl
theorem hJ32_checkElementIndex : mH mJ32_checkElementIndex = none := rfl
theorem kJ32_checkElementIndex : MOk mJ32_checkElementIndex := ⟨q980, q119, by decide +kernel⟩
theorem gJ32_checkElementIndex : plainName (mY mJ32_checkElementIndex).cls = true ∧ (mY mJ32_checkElementIndex).cls = "java/util/LinkedList" := ⟨by decide +kernel, rfl⟩
def dkwJ32_checkElementIndex_0 : List UInt8 := [42, 27, 182, 0, 115, 154, 0, 16, 187, 0, 119, 89, 42, 27, 182, 0, 121, 183, 0, 125, 191, 177]
abbrev dktJ32_checkElementIndex_0 : List UInt8 := dkwJ32_checkElementIndex_0 ++ []
theorem dksJ32_checkElementIndex_0 : cJ32_checkElementIndex.data.toList.drop 0 = dktJ32_checkElementIndex_0 := by decide +kernel
theorem dJ32_checkElementIndex_0 : DC mJ32_checkElementIndex 0 = .ok (.aload_n 0, 1) := dk_42 (dk_at dksJ32_checkElementIndex_0 0 rfl rfl)
theorem dJ32_checkElementIndex_1 : DC mJ32_checkElementIndex 1 = .ok (.iload_n 1, 1) := dk_27 (dk_at dksJ32_checkElementIndex_0 1 rfl rfl)
theorem dJ32_checkElementIndex_2 : DC mJ32_checkElementIndex 2 = .ok (.invokevirtual 115, 3) := dk_182 0 115 (dk_at dksJ32_checkElementIndex_0 2 rfl rfl)
theorem dJ32_checkElementIndex_5 : DC mJ32_checkElementIndex 5 = .ok (.ifCond .ne 16, 3) := dk_154 0 16 (dk_at dksJ32_checkElementIndex_0 5 rfl rfl)
theorem dJ32_checkElementIndex_8 : DC mJ32_checkElementIndex 8 = .ok (.new 119, 3) := dk_187 0 119 (dk_at dksJ32_checkElementIndex_0 8 rfl rfl)
theorem dJ32_checkElementIndex_11 : DC mJ32_checkElementIndex 11 = .ok (.dup, 1) := dk_89 (dk_at dksJ32_checkElementIndex_0 11 rfl rfl)
theorem dJ32_checkElementIndex_12 : DC mJ32_checkElementIndex 12 = .ok (.aload_n 0, 1) := dk_42 (dk_at dksJ32_checkElementIndex_0 12 rfl rfl)
theorem dJ32_checkElementIndex_13 : DC mJ32_checkElementIndex 13 = .ok (.iload_n 1, 1) := dk_27 (dk_at dksJ32_checkElementIndex_0 13 rfl rfl)
theorem dJ32_checkElementIndex_14 : DC mJ32_checkElementIndex 14 = .ok (.invokevirtual 121, 3) := dk_182 0 121 (dk_at dksJ32_checkElementIndex_0 14 rfl rfl)
theorem dJ32_checkElementIndex_17 : DC mJ32_checkElementIndex 17 = .ok (.invokespecial 125, 3) := dk_183 0 125 (dk_at dksJ32_checkElementIndex_0 17 rfl rfl)
theorem dJ32_checkElementIndex_20 : DC mJ32_checkElementIndex 20 = .ok (.athrow, 1) := dk_191 (dk_at dksJ32_checkElementIndex_0 20 rfl rfl)
theorem dJ32_checkElementIndex_21 : DC mJ32_checkElementIndex 21 = .ok (.return_, 1) := dk_177 (dk_at dksJ32_checkElementIndex_0 21 rfl rfl)
abbrev cJ32_isElementIndex : ByteArray := prog_58_method_26_code
def yJ32_isElementIndex : MethodName := ⟨RJ32, "isElementIndex", "(I)Z"⟩
def mJ32_isElementIndex : MI := (⟨"java/util/LinkedList", "isElementIndex", "(I)Z"⟩, prog_58_method_26_code, 2, (Option.some FieldType.boolean), none, 32, 1)
theorem oJ32_isElementIndex : mO mJ32_isElementIndex = 32 := rfl
theorem lJ32_isElementIndex : mL mJ32_isElementIndex = 2 := rfl
theorem rJ32_isElementIndex : mR mJ32_isElementIndex = (Option.some FieldType.boolean) := rfl
theorem vJ32_isElementIndex : mV mJ32_isElementIndex = 1 := rfl
theorem nJ32_isElementIndex : (mY mJ32_isElementIndex).name = "isElementIndex" := rfl
theorem hJ32_isElementIndex : mH mJ32_isElementIndex = none := rfl
theorem kJ32_isElementIndex : MOk mJ32_isElementIndex := ⟨q984, q119, by decide +kernel⟩
theorem gJ32_isElementIndex : plainName (mY mJ32_isElementIndex).cls = true ∧ (mY mJ32_isElementIndex).cls = "java/util/LinkedList" := ⟨by decide +kernel, rfl⟩
def dkwJ32_isElementIndex_0 : List UInt8 := [27, 155, 0, 15, 27, 42, 180, 0, 7, 162, 0, 7, 4, 167, 0, 4, 3, 172]
abbrev dktJ32_isElementIndex_0 : List UInt8 := dkwJ32_isElementIndex_0 ++ []
theorem dksJ32_isElementIndex_0 : cJ32_isElementIndex.data.toList.drop 0 = dktJ32_isElementIndex_0 := by decide +kernel
theorem dJ32_isElementIndex_0 : DC mJ32_isElementIndex 0 = .ok (.iload_n 1, 1) := dk_27 (dk_at dksJ32_isElementIndex_0 0 rfl rfl)
theorem dJ32_isElementIndex_1 : DC mJ32_isElementIndex 1 = .ok (.ifCond .lt 15, 3) := dk_155 0 15 (dk_at dksJ32_isElementIndex_0 1 rfl rfl)
theorem dJ32_isElementIndex_4 : DC mJ32_isElementIndex 4 = .ok (.iload_n 1, 1) := dk_27 (dk_at dksJ32_isElementIndex_0 4 rfl rfl)
theorem dJ32_isElementIndex_5 : DC mJ32_isElementIndex 5 = .ok (.aload_n 0, 1) := dk_42 (dk_at dksJ32_isElementIndex_0 5 rfl rfl)
theorem dJ32_isElementIndex_6 : DC mJ32_isElementIndex 6 = .ok (.getfield 7, 3) := dk_180 0 7 (dk_at dksJ32_isElementIndex_0 6 rfl rfl)
theorem dJ32_isElementIndex_9 : DC mJ32_isElementIndex 9 = .ok (.if_icmp .ge 7, 3) := dk_162 0 7 (dk_at dksJ32_isElementIndex_0 9 rfl rfl)
theorem dJ32_isElementIndex_12 : DC mJ32_isElementIndex 12 = .ok (.iconst 1, 1) := dk_4 (dk_at dksJ32_isElementIndex_0 12 rfl rfl)
theorem dJ32_isElementIndex_13 : DC mJ32_isElementIndex 13 = .ok (.goto 4, 3) := dk_167 0 4 (dk_at dksJ32_isElementIndex_0 13 rfl rfl)
theorem dJ32_isElementIndex_16 : DC mJ32_isElementIndex 16 = .ok (.iconst 0, 1) := dk_3 (dk_at dksJ32_isElementIndex_0 16 rfl rfl)
theorem dJ32_isElementIndex_17 : DC mJ32_isElementIndex 17 = .ok (.ireturn, 1) := dk_172 (dk_at dksJ32_isElementIndex_0 17 rfl rfl)
abbrev cJ32_toArray : ByteArray := prog_58_method_53_code
def yJ32_toArray : MethodName := ⟨RJ32, "toArray", "()[Ljava/lang/Object;"⟩
def mJ32_toArray : MI := (⟨"java/util/LinkedList", "toArray", "()[Ljava/lang/Object;"⟩, prog_58_method_53_code, 4, (Option.some (FieldType.array (FieldType.object "java/lang/Object"))), none, 32, 1)
theorem oJ32_toArray : mO mJ32_toArray = 32 := rfl
theorem lJ32_toArray : mL mJ32_toArray = 4 := rfl
theorem rJ32_toArray : mR mJ32_toArray = (Option.some (FieldType.array (FieldType.object "java/lang/Object"))) := rfl
theorem vJ32_toArray : mV mJ32_toArray = 1 := rfl
theorem nJ32_toArray : (mY mJ32_toArray).name = "toArray" := rfl
theorem hJ32_toArray : mH mJ32_toArray = none := rfl
theorem kJ32_toArray : MOk mJ32_toArray := ⟨q1194, q119, by decide +kernel⟩
theorem gJ32_toArray : plainName (mY mJ32_toArray).cls = true ∧ (mY mJ32_toArray).cls = "java/util/LinkedList" := ⟨by decide +kernel, rfl⟩
def dkwJ32_toArray_1 : List UInt8 := [45, 180, 0, 39, 83, 45, 180, 0, 36, 78, 167, 255, 237, 43, 176]
abbrev dktJ32_toArray_1 : List UInt8 := dkwJ32_toArray_1 ++ []
def dkwJ32_toArray_0 : List UInt8 := [42, 180, 0, 7, 189, 0, 68, 76, 3, 61, 42, 180, 0, 18, 78, 45, 198, 0, 21, 43, 28, 132, 2, 1]
abbrev dktJ32_toArray_0 : List UInt8 := dkwJ32_toArray_0 ++ dktJ32_toArray_1
theorem dksJ32_toArray_0 : cJ32_toArray.data.toList.drop 0 = dktJ32_toArray_0 := by decide +kernel
theorem dksJ32_toArray_1 : cJ32_toArray.data.toList.drop 24 = dktJ32_toArray_1 := dk_seg dksJ32_toArray_0 24 rfl rfl
theorem dJ32_toArray_0 : DC mJ32_toArray 0 = .ok (.aload_n 0, 1) := dk_42 (dk_at dksJ32_toArray_0 0 rfl rfl)
theorem dJ32_toArray_1 : DC mJ32_toArray 1 = .ok (.getfield 7, 3) := dk_180 0 7 (dk_at dksJ32_toArray_0 1 rfl rfl)
theorem dJ32_toArray_4 : DC mJ32_toArray 4 = .ok (.anewarray 68, 3) := dk_189 0 68 (dk_at dksJ32_toArray_0 4 rfl rfl)
theorem dJ32_toArray_7 : DC mJ32_toArray 7 = .ok (.astore_n 1, 1) := dk_76 (dk_at dksJ32_toArray_0 7 rfl rfl)
theorem dJ32_toArray_8 : DC mJ32_toArray 8 = .ok (.iconst 0, 1) := dk_3 (dk_at dksJ32_toArray_0 8 rfl rfl)
theorem dJ32_toArray_9 : DC mJ32_toArray 9 = .ok (.istore_n 2, 1) := dk_61 (dk_at dksJ32_toArray_0 9 rfl rfl)
theorem dJ32_toArray_10 : DC mJ32_toArray 10 = .ok (.aload_n 0, 1) := dk_42 (dk_at dksJ32_toArray_0 10 rfl rfl)
theorem dJ32_toArray_11 : DC mJ32_toArray 11 = .ok (.getfield 18, 3) := dk_180 0 18 (dk_at dksJ32_toArray_0 11 rfl rfl)
theorem dJ32_toArray_14 : DC mJ32_toArray 14 = .ok (.astore_n 3, 1) := dk_78 (dk_at dksJ32_toArray_0 14 rfl rfl)
theorem dJ32_toArray_15 : DC mJ32_toArray 15 = .ok (.aload_n 3, 1) := dk_45 (dk_at dksJ32_toArray_0 15 rfl rfl)
theorem dJ32_toArray_16 : DC mJ32_toArray 16 = .ok (.ifnull 21, 3) := dk_198 0 21 (dk_at dksJ32_toArray_0 16 rfl rfl)
theorem dJ32_toArray_19 : DC mJ32_toArray 19 = .ok (.aload_n 1, 1) := dk_43 (dk_at dksJ32_toArray_0 19 rfl rfl)
theorem dJ32_toArray_20 : DC mJ32_toArray 20 = .ok (.iload_n 2, 1) := dk_28 (dk_at dksJ32_toArray_0 20 rfl rfl)
theorem dJ32_toArray_21 : DC mJ32_toArray 21 = .ok (.iinc 2 1, 3) := dk_132 2 1 (dk_at dksJ32_toArray_0 21 rfl rfl)
theorem dJ32_toArray_24 : DC mJ32_toArray 24 = .ok (.aload_n 3, 1) := dk_45 (dk_at dksJ32_toArray_1 0 rfl rfl)
theorem dJ32_toArray_25 : DC mJ32_toArray 25 = .ok (.getfield 39, 3) := dk_180 0 39 (dk_at dksJ32_toArray_1 1 rfl rfl)
theorem dJ32_toArray_28 : DC mJ32_toArray 28 = .ok (.aastore, 1) := dk_83 (dk_at dksJ32_toArray_1 4 rfl rfl)
theorem dJ32_toArray_29 : DC mJ32_toArray 29 = .ok (.aload_n 3, 1) := dk_45 (dk_at dksJ32_toArray_1 5 rfl rfl)
theorem dJ32_toArray_30 : DC mJ32_toArray 30 = .ok (.getfield 36, 3) := dk_180 0 36 (dk_at dksJ32_toArray_1 6 rfl rfl)
theorem dJ32_toArray_33 : DC mJ32_toArray 33 = .ok (.astore_n 3, 1) := dk_78 (dk_at dksJ32_toArray_1 9 rfl rfl)
theorem dJ32_toArray_34 : DC mJ32_toArray 34 = .ok (.goto (-19), 3) := dk_167 255 237 (dk_at dksJ32_toArray_1 10 rfl rfl)
theorem dJ32_toArray_37 : DC mJ32_toArray 37 = .ok (.aload_n 1, 1) := dk_43 (dk_at dksJ32_toArray_1 13 rfl rfl)
theorem dJ32_toArray_38 : DC mJ32_toArray 38 = .ok (.areturn, 1) := dk_176 (dk_at dksJ32_toArray_1 14 rfl rfl)
abbrev cJ32_addAll : ByteArray := prog_58_method_19_code
def yJ32_addAll : MethodName := ⟨RJ32, "addAll", "(Ljava/util/Collection;)Z"⟩
def mJ32_addAll : MI := (⟨"java/util/LinkedList", "addAll", "(Ljava/util/Collection;)Z"⟩, prog_58_method_19_code, 2, (Option.some FieldType.boolean), none, 32, 15)
theorem oJ32_addAll : mO mJ32_addAll = 32 := rfl
theorem lJ32_addAll : mL mJ32_addAll = 2 := rfl
theorem rJ32_addAll : mR mJ32_addAll = (Option.some FieldType.boolean) := rfl
theorem vJ32_addAll : mV mJ32_addAll = 15 := rfl
theorem nJ32_addAll : (mY mJ32_addAll).name = "addAll" := rfl
theorem hJ32_addAll : mH mJ32_addAll = none := rfl
theorem kJ32_addAll : MOk mJ32_addAll := ⟨q1201, q119, by decide +kernel⟩
theorem gJ32_addAll : plainName (mY mJ32_addAll).cls = true ∧ (mY mJ32_addAll).cls = "java/util/LinkedList" := ⟨by decide +kernel, rfl⟩
def dkwJ32_addAll_0 : List UInt8 := [42, 42, 180, 0, 7, 43, 182, 0, 73, 172]
abbrev dktJ32_addAll_0 : List UInt8 := dkwJ32_addAll_0 ++ []
theorem dksJ32_addAll_0 : cJ32_addAll.data.toList.drop 0 = dktJ32_addAll_0 := by decide +kernel
theorem dJ32_addAll_0 : DC mJ32_addAll 0 = .ok (.aload_n 0, 1) := dk_42 (dk_at dksJ32_addAll_0 0 rfl rfl)
theorem dJ32_addAll_1 : DC mJ32_addAll 1 = .ok (.aload_n 0, 1) := dk_42 (dk_at dksJ32_addAll_0 1 rfl rfl)
theorem dJ32_addAll_2 : DC mJ32_addAll 2 = .ok (.getfield 7, 3) := dk_180 0 7 (dk_at dksJ32_addAll_0 2 rfl rfl)
theorem dJ32_addAll_5 : DC mJ32_addAll 5 = .ok (.aload_n 1, 1) := dk_43 (dk_at dksJ32_addAll_0 5 rfl rfl)
theorem dJ32_addAll_6 : DC mJ32_addAll 6 = .ok (.invokevirtual 73, 3) := dk_182 0 73 (dk_at dksJ32_addAll_0 6 rfl rfl)
theorem dJ32_addAll_9 : DC mJ32_addAll 9 = .ok (.ireturn, 1) := dk_172 (dk_at dksJ32_addAll_0 9 rfl rfl)
abbrev cJ32_addAll_2 : ByteArray := prog_58_method_20_code
def yJ32_addAll_2 : MethodName := ⟨RJ32, "addAll", "(ILjava/util/Collection;)Z"⟩
def mJ32_addAll_2 : MI := (⟨"java/util/LinkedList", "addAll", "(ILjava/util/Collection;)Z"⟩, prog_58_method_20_code, 13, (Option.some FieldType.boolean), none, 32, 14)
theorem oJ32_addAll_2 : mO mJ32_addAll_2 = 32 := rfl
theorem lJ32_addAll_2 : mL mJ32_addAll_2 = 13 := rfl
theorem rJ32_addAll_2 : mR mJ32_addAll_2 = (Option.some FieldType.boolean) := rfl
theorem vJ32_addAll_2 : mV mJ32_addAll_2 = 14 := rfl
theorem nJ32_addAll_2 : (mY mJ32_addAll_2).name = "addAll" := rfl
theorem hJ32_addAll_2 : mH mJ32_addAll_2 = none := rfl
theorem kJ32_addAll_2 : MOk mJ32_addAll_2 := ⟨q1205, q119, by decide +kernel⟩
theorem gJ32_addAll_2 : plainName (mY mJ32_addAll_2).cls = true ∧ (mY mJ32_addAll_2).cls = "java/util/LinkedList" := ⟨by decide +kernel, rfl⟩
def dkwJ32_addAll_2_7 : List UInt8 := [96, 181, 0, 7, 42, 89, 180, 0, 33, 4, 96, 181, 0, 33, 4, 172]
abbrev dktJ32_addAll_2_7 : List UInt8 := dkwJ32_addAll_2_7 ++ []
def dkwJ32_addAll_2_6 : List UInt8 := [167, 0, 17, 25, 5, 25, 6, 181, 0, 36, 25, 6, 25, 5, 181, 0, 30, 42, 89, 180, 0, 7, 21, 4]
abbrev dktJ32_addAll_2_6 : List UInt8 := dkwJ32_addAll_2_6 ++ dktJ32_addAll_2_7
def dkwJ32_addAll_2_5 : List UInt8 := [181, 0, 36, 25, 12, 58, 5, 132, 9, 1, 167, 255, 196, 25, 6, 199, 0, 12, 42, 25, 5, 181, 0, 27]
abbrev dktJ32_addAll_2_5 : List UInt8 := dkwJ32_addAll_2_5 ++ dktJ32_addAll_2_6
def dkwJ32_addAll_2_4 : List UInt8 := [183, 0, 24, 58, 12, 25, 5, 199, 0, 12, 42, 25, 12, 181, 0, 18, 167, 0, 10, 25, 5, 25, 12]
abbrev dktJ32_addAll_2_4 : List UInt8 := dkwJ32_addAll_2_4 ++ dktJ32_addAll_2_5
def dkwJ32_addAll_2_3 : List UInt8 := [162, 0, 59, 25, 7, 21, 9, 50, 58, 10, 25, 10, 58, 11, 187, 0, 22, 89, 25, 5, 25, 11, 1]
abbrev dktJ32_addAll_2_3 : List UInt8 := dkwJ32_addAll_2_3 ++ dktJ32_addAll_2_4
def dkwJ32_addAll_2_2 : List UInt8 := [58, 6, 25, 6, 180, 0, 30, 58, 5, 45, 58, 7, 25, 7, 190, 54, 8, 3, 54, 9, 21, 9, 21, 8]
abbrev dktJ32_addAll_2_2 : List UInt8 := dkwJ32_addAll_2_2 ++ dktJ32_addAll_2_3
def dkwJ32_addAll_2_1 : List UInt8 := [42, 180, 0, 7, 160, 0, 15, 1, 58, 6, 42, 180, 0, 27, 58, 5, 167, 0, 17, 42, 27, 182, 0, 86]
abbrev dktJ32_addAll_2_1 : List UInt8 := dkwJ32_addAll_2_1 ++ dktJ32_addAll_2_2
def dkwJ32_addAll_2_0 : List UInt8 := [42, 27, 182, 0, 76, 44, 185, 0, 80, 1, 0, 78, 45, 190, 54, 4, 21, 4, 154, 0, 5, 3, 172, 27]
abbrev dktJ32_addAll_2_0 : List UInt8 := dkwJ32_addAll_2_0 ++ dktJ32_addAll_2_1
theorem dksJ32_addAll_2_0 : cJ32_addAll_2.data.toList.drop 0 = dktJ32_addAll_2_0 := by decide +kernel
theorem dksJ32_addAll_2_1 : cJ32_addAll_2.data.toList.drop 24 = dktJ32_addAll_2_1 := dk_seg dksJ32_addAll_2_0 24 rfl rfl
theorem dksJ32_addAll_2_2 : cJ32_addAll_2.data.toList.drop 48 = dktJ32_addAll_2_2 := dk_seg dksJ32_addAll_2_1 24 rfl rfl
theorem dksJ32_addAll_2_3 : cJ32_addAll_2.data.toList.drop 72 = dktJ32_addAll_2_3 := dk_seg dksJ32_addAll_2_2 24 rfl rfl
theorem dksJ32_addAll_2_4 : cJ32_addAll_2.data.toList.drop 95 = dktJ32_addAll_2_4 := dk_seg dksJ32_addAll_2_3 23 rfl rfl
theorem dksJ32_addAll_2_5 : cJ32_addAll_2.data.toList.drop 118 = dktJ32_addAll_2_5 := dk_seg dksJ32_addAll_2_4 23 rfl rfl
theorem dksJ32_addAll_2_6 : cJ32_addAll_2.data.toList.drop 142 = dktJ32_addAll_2_6 := dk_seg dksJ32_addAll_2_5 24 rfl rfl
theorem dksJ32_addAll_2_7 : cJ32_addAll_2.data.toList.drop 166 = dktJ32_addAll_2_7 := dk_seg dksJ32_addAll_2_6 24 rfl rfl
theorem dJ32_addAll_2_0 : DC mJ32_addAll_2 0 = .ok (.aload_n 0, 1) := dk_42 (dk_at dksJ32_addAll_2_0 0 rfl rfl)
theorem dJ32_addAll_2_1 : DC mJ32_addAll_2 1 = .ok (.iload_n 1, 1) := dk_27 (dk_at dksJ32_addAll_2_0 1 rfl rfl)
theorem dJ32_addAll_2_2 : DC mJ32_addAll_2 2 = .ok (.invokevirtual 76, 3) := dk_182 0 76 (dk_at dksJ32_addAll_2_0 2 rfl rfl)
theorem dJ32_addAll_2_5 : DC mJ32_addAll_2 5 = .ok (.aload_n 2, 1) := dk_44 (dk_at dksJ32_addAll_2_0 5 rfl rfl)
theorem dJ32_addAll_2_6 : DC mJ32_addAll_2 6 = .ok (.invokeinterface 80 1, 5) := by decide +kernel
theorem dJ32_addAll_2_11 : DC mJ32_addAll_2 11 = .ok (.astore_n 3, 1) := dk_78 (dk_at dksJ32_addAll_2_0 11 rfl rfl)
theorem dJ32_addAll_2_12 : DC mJ32_addAll_2 12 = .ok (.aload_n 3, 1) := dk_45 (dk_at dksJ32_addAll_2_0 12 rfl rfl)
theorem dJ32_addAll_2_13 : DC mJ32_addAll_2 13 = .ok (.arraylength, 1) := dk_190 (dk_at dksJ32_addAll_2_0 13 rfl rfl)
theorem dJ32_addAll_2_14 : DC mJ32_addAll_2 14 = .ok (.istore 4, 2) := dk_54 4 (dk_at dksJ32_addAll_2_0 14 rfl rfl)
theorem dJ32_addAll_2_16 : DC mJ32_addAll_2 16 = .ok (.iload 4, 2) := dk_21 4 (dk_at dksJ32_addAll_2_0 16 rfl rfl)
theorem dJ32_addAll_2_18 : DC mJ32_addAll_2 18 = .ok (.ifCond .ne 5, 3) := dk_154 0 5 (dk_at dksJ32_addAll_2_0 18 rfl rfl)
theorem dJ32_addAll_2_21 : DC mJ32_addAll_2 21 = .ok (.iconst 0, 1) := dk_3 (dk_at dksJ32_addAll_2_0 21 rfl rfl)
theorem dJ32_addAll_2_22 : DC mJ32_addAll_2 22 = .ok (.ireturn, 1) := dk_172 (dk_at dksJ32_addAll_2_0 22 rfl rfl)
theorem dJ32_addAll_2_23 : DC mJ32_addAll_2 23 = .ok (.iload_n 1, 1) := dk_27 (dk_at dksJ32_addAll_2_0 23 rfl rfl)
theorem dJ32_addAll_2_24 : DC mJ32_addAll_2 24 = .ok (.aload_n 0, 1) := dk_42 (dk_at dksJ32_addAll_2_1 0 rfl rfl)
theorem dJ32_addAll_2_25 : DC mJ32_addAll_2 25 = .ok (.getfield 7, 3) := dk_180 0 7 (dk_at dksJ32_addAll_2_1 1 rfl rfl)
theorem dJ32_addAll_2_28 : DC mJ32_addAll_2 28 = .ok (.if_icmp .ne 15, 3) := dk_160 0 15 (dk_at dksJ32_addAll_2_1 4 rfl rfl)
theorem dJ32_addAll_2_31 : DC mJ32_addAll_2 31 = .ok (.aconst_null, 1) := dk_1 (dk_at dksJ32_addAll_2_1 7 rfl rfl)
theorem dJ32_addAll_2_32 : DC mJ32_addAll_2 32 = .ok (.astore 6, 2) := dk_58 6 (dk_at dksJ32_addAll_2_1 8 rfl rfl)
theorem dJ32_addAll_2_34 : DC mJ32_addAll_2 34 = .ok (.aload_n 0, 1) := dk_42 (dk_at dksJ32_addAll_2_1 10 rfl rfl)
theorem dJ32_addAll_2_35 : DC mJ32_addAll_2 35 = .ok (.getfield 27, 3) := dk_180 0 27 (dk_at dksJ32_addAll_2_1 11 rfl rfl)
theorem dJ32_addAll_2_38 : DC mJ32_addAll_2 38 = .ok (.astore 5, 2) := dk_58 5 (dk_at dksJ32_addAll_2_1 14 rfl rfl)
theorem dJ32_addAll_2_40 : DC mJ32_addAll_2 40 = .ok (.goto 17, 3) := dk_167 0 17 (dk_at dksJ32_addAll_2_1 16 rfl rfl)
theorem dJ32_addAll_2_43 : DC mJ32_addAll_2 43 = .ok (.aload_n 0, 1) := dk_42 (dk_at dksJ32_addAll_2_1 19 rfl rfl)
theorem dJ32_addAll_2_44 : DC mJ32_addAll_2 44 = .ok (.iload_n 1, 1) := dk_27 (dk_at dksJ32_addAll_2_1 20 rfl rfl)
theorem dJ32_addAll_2_45 : DC mJ32_addAll_2 45 = .ok (.invokevirtual 86, 3) := dk_182 0 86 (dk_at dksJ32_addAll_2_1 21 rfl rfl)
theorem dJ32_addAll_2_48 : DC mJ32_addAll_2 48 = .ok (.astore 6, 2) := dk_58 6 (dk_at dksJ32_addAll_2_2 0 rfl rfl)
theorem dJ32_addAll_2_50 : DC mJ32_addAll_2 50 = .ok (.aload 6, 2) := dk_25 6 (dk_at dksJ32_addAll_2_2 2 rfl rfl)
theorem dJ32_addAll_2_52 : DC mJ32_addAll_2 52 = .ok (.getfield 30, 3) := dk_180 0 30 (dk_at dksJ32_addAll_2_2 4 rfl rfl)
theorem dJ32_addAll_2_55 : DC mJ32_addAll_2 55 = .ok (.astore 5, 2) := dk_58 5 (dk_at dksJ32_addAll_2_2 7 rfl rfl)
theorem dJ32_addAll_2_57 : DC mJ32_addAll_2 57 = .ok (.aload_n 3, 1) := dk_45 (dk_at dksJ32_addAll_2_2 9 rfl rfl)
theorem dJ32_addAll_2_58 : DC mJ32_addAll_2 58 = .ok (.astore 7, 2) := dk_58 7 (dk_at dksJ32_addAll_2_2 10 rfl rfl)
theorem dJ32_addAll_2_60 : DC mJ32_addAll_2 60 = .ok (.aload 7, 2) := dk_25 7 (dk_at dksJ32_addAll_2_2 12 rfl rfl)
theorem dJ32_addAll_2_62 : DC mJ32_addAll_2 62 = .ok (.arraylength, 1) := dk_190 (dk_at dksJ32_addAll_2_2 14 rfl rfl)
theorem dJ32_addAll_2_63 : DC mJ32_addAll_2 63 = .ok (.istore 8, 2) := dk_54 8 (dk_at dksJ32_addAll_2_2 15 rfl rfl)
theorem dJ32_addAll_2_65 : DC mJ32_addAll_2 65 = .ok (.iconst 0, 1) := dk_3 (dk_at dksJ32_addAll_2_2 17 rfl rfl)
theorem dJ32_addAll_2_66 : DC mJ32_addAll_2 66 = .ok (.istore 9, 2) := dk_54 9 (dk_at dksJ32_addAll_2_2 18 rfl rfl)
theorem dJ32_addAll_2_68 : DC mJ32_addAll_2 68 = .ok (.iload 9, 2) := dk_21 9 (dk_at dksJ32_addAll_2_2 20 rfl rfl)
theorem dJ32_addAll_2_70 : DC mJ32_addAll_2 70 = .ok (.iload 8, 2) := dk_21 8 (dk_at dksJ32_addAll_2_2 22 rfl rfl)
theorem dJ32_addAll_2_72 : DC mJ32_addAll_2 72 = .ok (.if_icmp .ge 59, 3) := dk_162 0 59 (dk_at dksJ32_addAll_2_3 0 rfl rfl)
theorem dJ32_addAll_2_75 : DC mJ32_addAll_2 75 = .ok (.aload 7, 2) := dk_25 7 (dk_at dksJ32_addAll_2_3 3 rfl rfl)
theorem dJ32_addAll_2_77 : DC mJ32_addAll_2 77 = .ok (.iload 9, 2) := dk_21 9 (dk_at dksJ32_addAll_2_3 5 rfl rfl)
theorem dJ32_addAll_2_79 : DC mJ32_addAll_2 79 = .ok (.aaload, 1) := dk_50 (dk_at dksJ32_addAll_2_3 7 rfl rfl)
theorem dJ32_addAll_2_80 : DC mJ32_addAll_2 80 = .ok (.astore 10, 2) := dk_58 10 (dk_at dksJ32_addAll_2_3 8 rfl rfl)
theorem dJ32_addAll_2_82 : DC mJ32_addAll_2 82 = .ok (.aload 10, 2) := dk_25 10 (dk_at dksJ32_addAll_2_3 10 rfl rfl)
theorem dJ32_addAll_2_84 : DC mJ32_addAll_2 84 = .ok (.astore 11, 2) := dk_58 11 (dk_at dksJ32_addAll_2_3 12 rfl rfl)
theorem dJ32_addAll_2_86 : DC mJ32_addAll_2 86 = .ok (.new 22, 3) := dk_187 0 22 (dk_at dksJ32_addAll_2_3 14 rfl rfl)
theorem dJ32_addAll_2_89 : DC mJ32_addAll_2 89 = .ok (.dup, 1) := dk_89 (dk_at dksJ32_addAll_2_3 17 rfl rfl)
theorem dJ32_addAll_2_90 : DC mJ32_addAll_2 90 = .ok (.aload 5, 2) := dk_25 5 (dk_at dksJ32_addAll_2_3 18 rfl rfl)
theorem dJ32_addAll_2_92 : DC mJ32_addAll_2 92 = .ok (.aload 11, 2) := dk_25 11 (dk_at dksJ32_addAll_2_3 20 rfl rfl)
theorem dJ32_addAll_2_94 : DC mJ32_addAll_2 94 = .ok (.aconst_null, 1) := dk_1 (dk_at dksJ32_addAll_2_3 22 rfl rfl)
theorem dJ32_addAll_2_95 : DC mJ32_addAll_2 95 = .ok (.invokespecial 24, 3) := dk_183 0 24 (dk_at dksJ32_addAll_2_4 0 rfl rfl)
theorem dJ32_addAll_2_98 : DC mJ32_addAll_2 98 = .ok (.astore 12, 2) := dk_58 12 (dk_at dksJ32_addAll_2_4 3 rfl rfl)
theorem dJ32_addAll_2_100 : DC mJ32_addAll_2 100 = .ok (.aload 5, 2) := dk_25 5 (dk_at dksJ32_addAll_2_4 5 rfl rfl)
theorem dJ32_addAll_2_102 : DC mJ32_addAll_2 102 = .ok (.ifnonnull 12, 3) := dk_199 0 12 (dk_at dksJ32_addAll_2_4 7 rfl rfl)
theorem dJ32_addAll_2_105 : DC mJ32_addAll_2 105 = .ok (.aload_n 0, 1) := dk_42 (dk_at dksJ32_addAll_2_4 10 rfl rfl)
theorem dJ32_addAll_2_106 : DC mJ32_addAll_2 106 = .ok (.aload 12, 2) := dk_25 12 (dk_at dksJ32_addAll_2_4 11 rfl rfl)
theorem dJ32_addAll_2_108 : DC mJ32_addAll_2 108 = .ok (.putfield 18, 3) := dk_181 0 18 (dk_at dksJ32_addAll_2_4 13 rfl rfl)
theorem dJ32_addAll_2_111 : DC mJ32_addAll_2 111 = .ok (.goto 10, 3) := dk_167 0 10 (dk_at dksJ32_addAll_2_4 16 rfl rfl)
theorem dJ32_addAll_2_114 : DC mJ32_addAll_2 114 = .ok (.aload 5, 2) := dk_25 5 (dk_at dksJ32_addAll_2_4 19 rfl rfl)
theorem dJ32_addAll_2_116 : DC mJ32_addAll_2 116 = .ok (.aload 12, 2) := dk_25 12 (dk_at dksJ32_addAll_2_4 21 rfl rfl)
theorem dJ32_addAll_2_118 : DC mJ32_addAll_2 118 = .ok (.putfield 36, 3) := dk_181 0 36 (dk_at dksJ32_addAll_2_5 0 rfl rfl)
theorem dJ32_addAll_2_121 : DC mJ32_addAll_2 121 = .ok (.aload 12, 2) := dk_25 12 (dk_at dksJ32_addAll_2_5 3 rfl rfl)
theorem dJ32_addAll_2_123 : DC mJ32_addAll_2 123 = .ok (.astore 5, 2) := dk_58 5 (dk_at dksJ32_addAll_2_5 5 rfl rfl)
theorem dJ32_addAll_2_125 : DC mJ32_addAll_2 125 = .ok (.iinc 9 1, 3) := dk_132 9 1 (dk_at dksJ32_addAll_2_5 7 rfl rfl)
theorem dJ32_addAll_2_128 : DC mJ32_addAll_2 128 = .ok (.goto (-60), 3) := dk_167 255 196 (dk_at dksJ32_addAll_2_5 10 rfl rfl)
theorem dJ32_addAll_2_131 : DC mJ32_addAll_2 131 = .ok (.aload 6, 2) := dk_25 6 (dk_at dksJ32_addAll_2_5 13 rfl rfl)
theorem dJ32_addAll_2_133 : DC mJ32_addAll_2 133 = .ok (.ifnonnull 12, 3) := dk_199 0 12 (dk_at dksJ32_addAll_2_5 15 rfl rfl)
theorem dJ32_addAll_2_136 : DC mJ32_addAll_2 136 = .ok (.aload_n 0, 1) := dk_42 (dk_at dksJ32_addAll_2_5 18 rfl rfl)
theorem dJ32_addAll_2_137 : DC mJ32_addAll_2 137 = .ok (.aload 5, 2) := dk_25 5 (dk_at dksJ32_addAll_2_5 19 rfl rfl)
theorem dJ32_addAll_2_139 : DC mJ32_addAll_2 139 = .ok (.putfield 27, 3) := dk_181 0 27 (dk_at dksJ32_addAll_2_5 21 rfl rfl)
theorem dJ32_addAll_2_142 : DC mJ32_addAll_2 142 = .ok (.goto 17, 3) := dk_167 0 17 (dk_at dksJ32_addAll_2_6 0 rfl rfl)
theorem dJ32_addAll_2_145 : DC mJ32_addAll_2 145 = .ok (.aload 5, 2) := dk_25 5 (dk_at dksJ32_addAll_2_6 3 rfl rfl)
theorem dJ32_addAll_2_147 : DC mJ32_addAll_2 147 = .ok (.aload 6, 2) := dk_25 6 (dk_at dksJ32_addAll_2_6 5 rfl rfl)
theorem dJ32_addAll_2_149 : DC mJ32_addAll_2 149 = .ok (.putfield 36, 3) := dk_181 0 36 (dk_at dksJ32_addAll_2_6 7 rfl rfl)
theorem dJ32_addAll_2_152 : DC mJ32_addAll_2 152 = .ok (.aload 6, 2) := dk_25 6 (dk_at dksJ32_addAll_2_6 10 rfl rfl)
theorem dJ32_addAll_2_154 : DC mJ32_addAll_2 154 = .ok (.aload 5, 2) := dk_25 5 (dk_at dksJ32_addAll_2_6 12 rfl rfl)
theorem dJ32_addAll_2_156 : DC mJ32_addAll_2 156 = .ok (.putfield 30, 3) := dk_181 0 30 (dk_at dksJ32_addAll_2_6 14 rfl rfl)
theorem dJ32_addAll_2_159 : DC mJ32_addAll_2 159 = .ok (.aload_n 0, 1) := dk_42 (dk_at dksJ32_addAll_2_6 17 rfl rfl)
theorem dJ32_addAll_2_160 : DC mJ32_addAll_2 160 = .ok (.dup, 1) := dk_89 (dk_at dksJ32_addAll_2_6 18 rfl rfl)
theorem dJ32_addAll_2_161 : DC mJ32_addAll_2 161 = .ok (.getfield 7, 3) := dk_180 0 7 (dk_at dksJ32_addAll_2_6 19 rfl rfl)
theorem dJ32_addAll_2_164 : DC mJ32_addAll_2 164 = .ok (.iload 4, 2) := dk_21 4 (dk_at dksJ32_addAll_2_6 22 rfl rfl)
theorem dJ32_addAll_2_166 : DC mJ32_addAll_2 166 = .ok (.iadd, 1) := dk_96 (dk_at dksJ32_addAll_2_7 0 rfl rfl)
theorem dJ32_addAll_2_167 : DC mJ32_addAll_2 167 = .ok (.putfield 7, 3) := dk_181 0 7 (dk_at dksJ32_addAll_2_7 1 rfl rfl)
theorem dJ32_addAll_2_170 : DC mJ32_addAll_2 170 = .ok (.aload_n 0, 1) := dk_42 (dk_at dksJ32_addAll_2_7 4 rfl rfl)
theorem dJ32_addAll_2_171 : DC mJ32_addAll_2 171 = .ok (.dup, 1) := dk_89 (dk_at dksJ32_addAll_2_7 5 rfl rfl)
theorem dJ32_addAll_2_172 : DC mJ32_addAll_2 172 = .ok (.getfield 33, 3) := dk_180 0 33 (dk_at dksJ32_addAll_2_7 6 rfl rfl)
theorem dJ32_addAll_2_175 : DC mJ32_addAll_2 175 = .ok (.iconst 1, 1) := dk_4 (dk_at dksJ32_addAll_2_7 9 rfl rfl)
theorem dJ32_addAll_2_176 : DC mJ32_addAll_2 176 = .ok (.iadd, 1) := dk_96 (dk_at dksJ32_addAll_2_7 10 rfl rfl)
theorem dJ32_addAll_2_177 : DC mJ32_addAll_2 177 = .ok (.putfield 33, 3) := dk_181 0 33 (dk_at dksJ32_addAll_2_7 11 rfl rfl)
theorem dJ32_addAll_2_180 : DC mJ32_addAll_2 180 = .ok (.iconst 1, 1) := dk_4 (dk_at dksJ32_addAll_2_7 14 rfl rfl)
theorem dJ32_addAll_2_181 : DC mJ32_addAll_2 181 = .ok (.ireturn, 1) := dk_172 (dk_at dksJ32_addAll_2_7 15 rfl rfl)
abbrev cJ32_init : ByteArray := prog_58_method_1_code
def yJ32_init : MethodName := ⟨RJ32, "<init>", "()V"⟩
def mJ32_init : MI := (⟨"java/util/LinkedList", "<init>", "()V"⟩, prog_58_method_1_code, 1, (Option.none : Option FieldType), none, 32, 5)
theorem oJ32_init : mO mJ32_init = 32 := rfl
theorem lJ32_init : mL mJ32_init = 1 := rfl
theorem rJ32_init : mR mJ32_init = (Option.none : Option FieldType) := rfl
theorem vJ32_init : mV mJ32_init = 5 := rfl
theorem nJ32_init : (mY mJ32_init).name = "<init>" := rfl
theorem hJ32_init : mH mJ32_init = none := rfl
theorem kJ32_init : MOk mJ32_init := ⟨q1904, q119, by decide +kernel⟩
theorem gJ32_init : plainName (mY mJ32_init).cls = true ∧ (mY mJ32_init).cls = "java/util/LinkedList" := ⟨by decide +kernel, rfl⟩
def dkwJ32_init_0 : List UInt8 := [42, 183, 0, 1, 42, 3, 181, 0, 7, 177]
abbrev dktJ32_init_0 : List UInt8 := dkwJ32_init_0 ++ []
theorem dksJ32_init_0 : cJ32_init.data.toList.drop 0 = dktJ32_init_0 := by decide +kernel
theorem dJ32_init_0 : DC mJ32_init 0 = .ok (.aload_n 0, 1) := dk_42 (dk_at dksJ32_init_0 0 rfl rfl)
theorem dJ32_init_1 : DC mJ32_init 1 = .ok (.invokespecial 1, 3) := dk_183 0 1 (dk_at dksJ32_init_0 1 rfl rfl)
theorem dJ32_init_4 : DC mJ32_init 4 = .ok (.aload_n 0, 1) := dk_42 (dk_at dksJ32_init_0 4 rfl rfl)
theorem dJ32_init_5 : DC mJ32_init 5 = .ok (.iconst 0, 1) := dk_3 (dk_at dksJ32_init_0 5 rfl rfl)
theorem dJ32_init_6 : DC mJ32_init 6 = .ok (.putfield 7, 3) := dk_181 0 7 (dk_at dksJ32_init_0 6 rfl rfl)
theorem dJ32_init_9 : DC mJ32_init 9 = .ok (.return_, 1) := dk_177 (dk_at dksJ32_init_0 9 rfl rfl)
abbrev cJ32_add_2 : ByteArray := prog_58_method_24_code
def yJ32_add_2 : MethodName := ⟨RJ32, "add", "(ILjava/lang/Object;)V"⟩
def mJ32_add_2 : MI := (⟨"java/util/LinkedList", "add", "(ILjava/lang/Object;)V"⟩, prog_58_method_24_code, 3, (Option.none : Option FieldType), none, 32, 4)
theorem oJ32_add_2 : mO mJ32_add_2 = 32 := rfl
theorem lJ32_add_2 : mL mJ32_add_2 = 3 := rfl
theorem rJ32_add_2 : mR mJ32_add_2 = (Option.none : Option FieldType) := rfl
theorem vJ32_add_2 : mV mJ32_add_2 = 4 := rfl
theorem nJ32_add_2 : (mY mJ32_add_2).name = "add" := rfl
theorem hJ32_add_2 : mH mJ32_add_2 = none := rfl
theorem kJ32_add_2 : MOk mJ32_add_2 := ⟨q1955, q119, by decide +kernel⟩
theorem gJ32_add_2 : plainName (mY mJ32_add_2).cls = true ∧ (mY mJ32_add_2).cls = "java/util/LinkedList" := ⟨by decide +kernel, rfl⟩
def dkwJ32_add_2_1 : List UInt8 := [27, 182, 0, 86, 182, 0, 93, 177]
abbrev dktJ32_add_2_1 : List UInt8 := dkwJ32_add_2_1 ++ []
def dkwJ32_add_2_0 : List UInt8 := [42, 27, 182, 0, 76, 27, 42, 180, 0, 7, 160, 0, 11, 42, 44, 182, 0, 57, 167, 0, 13, 42, 44, 42]
abbrev dktJ32_add_2_0 : List UInt8 := dkwJ32_add_2_0 ++ dktJ32_add_2_1
theorem dksJ32_add_2_0 : cJ32_add_2.data.toList.drop 0 = dktJ32_add_2_0 := by decide +kernel
theorem dksJ32_add_2_1 : cJ32_add_2.data.toList.drop 24 = dktJ32_add_2_1 := dk_seg dksJ32_add_2_0 24 rfl rfl
theorem dJ32_add_2_0 : DC mJ32_add_2 0 = .ok (.aload_n 0, 1) := dk_42 (dk_at dksJ32_add_2_0 0 rfl rfl)
theorem dJ32_add_2_1 : DC mJ32_add_2 1 = .ok (.iload_n 1, 1) := dk_27 (dk_at dksJ32_add_2_0 1 rfl rfl)
theorem dJ32_add_2_2 : DC mJ32_add_2 2 = .ok (.invokevirtual 76, 3) := dk_182 0 76 (dk_at dksJ32_add_2_0 2 rfl rfl)
theorem dJ32_add_2_5 : DC mJ32_add_2 5 = .ok (.iload_n 1, 1) := dk_27 (dk_at dksJ32_add_2_0 5 rfl rfl)
theorem dJ32_add_2_6 : DC mJ32_add_2 6 = .ok (.aload_n 0, 1) := dk_42 (dk_at dksJ32_add_2_0 6 rfl rfl)
theorem dJ32_add_2_7 : DC mJ32_add_2 7 = .ok (.getfield 7, 3) := dk_180 0 7 (dk_at dksJ32_add_2_0 7 rfl rfl)
theorem dJ32_add_2_10 : DC mJ32_add_2 10 = .ok (.if_icmp .ne 11, 3) := dk_160 0 11 (dk_at dksJ32_add_2_0 10 rfl rfl)
theorem dJ32_add_2_13 : DC mJ32_add_2 13 = .ok (.aload_n 0, 1) := dk_42 (dk_at dksJ32_add_2_0 13 rfl rfl)
theorem dJ32_add_2_14 : DC mJ32_add_2 14 = .ok (.aload_n 2, 1) := dk_44 (dk_at dksJ32_add_2_0 14 rfl rfl)
theorem dJ32_add_2_15 : DC mJ32_add_2 15 = .ok (.invokevirtual 57, 3) := dk_182 0 57 (dk_at dksJ32_add_2_0 15 rfl rfl)
theorem dJ32_add_2_18 : DC mJ32_add_2 18 = .ok (.goto 13, 3) := dk_167 0 13 (dk_at dksJ32_add_2_0 18 rfl rfl)
theorem dJ32_add_2_21 : DC mJ32_add_2 21 = .ok (.aload_n 0, 1) := dk_42 (dk_at dksJ32_add_2_0 21 rfl rfl)
theorem dJ32_add_2_22 : DC mJ32_add_2 22 = .ok (.aload_n 2, 1) := dk_44 (dk_at dksJ32_add_2_0 22 rfl rfl)
theorem dJ32_add_2_23 : DC mJ32_add_2 23 = .ok (.aload_n 0, 1) := dk_42 (dk_at dksJ32_add_2_0 23 rfl rfl)
theorem dJ32_add_2_24 : DC mJ32_add_2 24 = .ok (.iload_n 1, 1) := dk_27 (dk_at dksJ32_add_2_1 0 rfl rfl)
theorem dJ32_add_2_25 : DC mJ32_add_2 25 = .ok (.invokevirtual 86, 3) := dk_182 0 86 (dk_at dksJ32_add_2_1 1 rfl rfl)
theorem dJ32_add_2_28 : DC mJ32_add_2 28 = .ok (.invokevirtual 93, 3) := dk_182 0 93 (dk_at dksJ32_add_2_1 4 rfl rfl)
theorem dJ32_add_2_31 : DC mJ32_add_2 31 = .ok (.return_, 1) := dk_177 (dk_at dksJ32_add_2_1 7 rfl rfl)
abbrev cJ32_linkBefore : ByteArray := prog_58_method_5_code
def yJ32_linkBefore : MethodName := ⟨RJ32, "linkBefore", "(Ljava/lang/Object;Ljava/util/LinkedList$Node;)V"⟩
def mJ32_linkBefore : MI := (⟨"java/util/LinkedList", "linkBefore", "(Ljava/lang/Object;Ljava/util/LinkedList$Node;)V"⟩, prog_58_method_5_code, 5, (Option.none : Option FieldType), none, 32, 3)
theorem oJ32_linkBefore : mO mJ32_linkBefore = 32 := rfl
theorem lJ32_linkBefore : mL mJ32_linkBefore = 5 := rfl
theorem rJ32_linkBefore : mR mJ32_linkBefore = (Option.none : Option FieldType) := rfl
theorem vJ32_linkBefore : mV mJ32_linkBefore = 3 := rfl
theorem nJ32_linkBefore : (mY mJ32_linkBefore).name = "linkBefore" := rfl
theorem hJ32_linkBefore : mH mJ32_linkBefore = none := rfl
theorem kJ32_linkBefore : MOk mJ32_linkBefore := ⟨q1959, q119, by decide +kernel⟩
theorem gJ32_linkBefore : plainName (mY mJ32_linkBefore).cls = true ∧ (mY mJ32_linkBefore).cls = "java/util/LinkedList" := ⟨by decide +kernel, rfl⟩
def dkwJ32_linkBefore_2 : List UInt8 := [96, 181, 0, 7, 42, 89, 180, 0, 33, 4, 96, 181, 0, 33, 177]
abbrev dktJ32_linkBefore_2 : List UInt8 := dkwJ32_linkBefore_2 ++ []
def dkwJ32_linkBefore_1 : List UInt8 := [199, 0, 12, 42, 25, 4, 181, 0, 18, 167, 0, 9, 45, 25, 4, 181, 0, 36, 42, 89, 180, 0, 7, 4]
abbrev dktJ32_linkBefore_1 : List UInt8 := dkwJ32_linkBefore_1 ++ dktJ32_linkBefore_2
def dkwJ32_linkBefore_0 : List UInt8 := [44, 180, 0, 30, 78, 187, 0, 22, 89, 45, 43, 44, 183, 0, 24, 58, 4, 44, 25, 4, 181, 0, 30, 45]
abbrev dktJ32_linkBefore_0 : List UInt8 := dkwJ32_linkBefore_0 ++ dktJ32_linkBefore_1
theorem dksJ32_linkBefore_0 : cJ32_linkBefore.data.toList.drop 0 = dktJ32_linkBefore_0 := by decide +kernel
theorem dksJ32_linkBefore_1 : cJ32_linkBefore.data.toList.drop 24 = dktJ32_linkBefore_1 := dk_seg dksJ32_linkBefore_0 24 rfl rfl
theorem dksJ32_linkBefore_2 : cJ32_linkBefore.data.toList.drop 48 = dktJ32_linkBefore_2 := dk_seg dksJ32_linkBefore_1 24 rfl rfl
theorem dJ32_linkBefore_0 : DC mJ32_linkBefore 0 = .ok (.aload_n 2, 1) := dk_44 (dk_at dksJ32_linkBefore_0 0 rfl rfl)
theorem dJ32_linkBefore_1 : DC mJ32_linkBefore 1 = .ok (.getfield 30, 3) := dk_180 0 30 (dk_at dksJ32_linkBefore_0 1 rfl rfl)
theorem dJ32_linkBefore_4 : DC mJ32_linkBefore 4 = .ok (.astore_n 3, 1) := dk_78 (dk_at dksJ32_linkBefore_0 4 rfl rfl)
theorem dJ32_linkBefore_5 : DC mJ32_linkBefore 5 = .ok (.new 22, 3) := dk_187 0 22 (dk_at dksJ32_linkBefore_0 5 rfl rfl)
theorem dJ32_linkBefore_8 : DC mJ32_linkBefore 8 = .ok (.dup, 1) := dk_89 (dk_at dksJ32_linkBefore_0 8 rfl rfl)
theorem dJ32_linkBefore_9 : DC mJ32_linkBefore 9 = .ok (.aload_n 3, 1) := dk_45 (dk_at dksJ32_linkBefore_0 9 rfl rfl)
theorem dJ32_linkBefore_10 : DC mJ32_linkBefore 10 = .ok (.aload_n 1, 1) := dk_43 (dk_at dksJ32_linkBefore_0 10 rfl rfl)
theorem dJ32_linkBefore_11 : DC mJ32_linkBefore 11 = .ok (.aload_n 2, 1) := dk_44 (dk_at dksJ32_linkBefore_0 11 rfl rfl)
theorem dJ32_linkBefore_12 : DC mJ32_linkBefore 12 = .ok (.invokespecial 24, 3) := dk_183 0 24 (dk_at dksJ32_linkBefore_0 12 rfl rfl)
theorem dJ32_linkBefore_15 : DC mJ32_linkBefore 15 = .ok (.astore 4, 2) := dk_58 4 (dk_at dksJ32_linkBefore_0 15 rfl rfl)
theorem dJ32_linkBefore_17 : DC mJ32_linkBefore 17 = .ok (.aload_n 2, 1) := dk_44 (dk_at dksJ32_linkBefore_0 17 rfl rfl)
theorem dJ32_linkBefore_18 : DC mJ32_linkBefore 18 = .ok (.aload 4, 2) := dk_25 4 (dk_at dksJ32_linkBefore_0 18 rfl rfl)
theorem dJ32_linkBefore_20 : DC mJ32_linkBefore 20 = .ok (.putfield 30, 3) := dk_181 0 30 (dk_at dksJ32_linkBefore_0 20 rfl rfl)
theorem dJ32_linkBefore_23 : DC mJ32_linkBefore 23 = .ok (.aload_n 3, 1) := dk_45 (dk_at dksJ32_linkBefore_0 23 rfl rfl)
theorem dJ32_linkBefore_24 : DC mJ32_linkBefore 24 = .ok (.ifnonnull 12, 3) := dk_199 0 12 (dk_at dksJ32_linkBefore_1 0 rfl rfl)
theorem dJ32_linkBefore_27 : DC mJ32_linkBefore 27 = .ok (.aload_n 0, 1) := dk_42 (dk_at dksJ32_linkBefore_1 3 rfl rfl)
theorem dJ32_linkBefore_28 : DC mJ32_linkBefore 28 = .ok (.aload 4, 2) := dk_25 4 (dk_at dksJ32_linkBefore_1 4 rfl rfl)
theorem dJ32_linkBefore_30 : DC mJ32_linkBefore 30 = .ok (.putfield 18, 3) := dk_181 0 18 (dk_at dksJ32_linkBefore_1 6 rfl rfl)
theorem dJ32_linkBefore_33 : DC mJ32_linkBefore 33 = .ok (.goto 9, 3) := dk_167 0 9 (dk_at dksJ32_linkBefore_1 9 rfl rfl)
theorem dJ32_linkBefore_36 : DC mJ32_linkBefore 36 = .ok (.aload_n 3, 1) := dk_45 (dk_at dksJ32_linkBefore_1 12 rfl rfl)
theorem dJ32_linkBefore_37 : DC mJ32_linkBefore 37 = .ok (.aload 4, 2) := dk_25 4 (dk_at dksJ32_linkBefore_1 13 rfl rfl)
theorem dJ32_linkBefore_39 : DC mJ32_linkBefore 39 = .ok (.putfield 36, 3) := dk_181 0 36 (dk_at dksJ32_linkBefore_1 15 rfl rfl)
theorem dJ32_linkBefore_42 : DC mJ32_linkBefore 42 = .ok (.aload_n 0, 1) := dk_42 (dk_at dksJ32_linkBefore_1 18 rfl rfl)
theorem dJ32_linkBefore_43 : DC mJ32_linkBefore 43 = .ok (.dup, 1) := dk_89 (dk_at dksJ32_linkBefore_1 19 rfl rfl)
theorem dJ32_linkBefore_44 : DC mJ32_linkBefore 44 = .ok (.getfield 7, 3) := dk_180 0 7 (dk_at dksJ32_linkBefore_1 20 rfl rfl)
theorem dJ32_linkBefore_47 : DC mJ32_linkBefore 47 = .ok (.iconst 1, 1) := dk_4 (dk_at dksJ32_linkBefore_1 23 rfl rfl)
theorem dJ32_linkBefore_48 : DC mJ32_linkBefore 48 = .ok (.iadd, 1) := dk_96 (dk_at dksJ32_linkBefore_2 0 rfl rfl)
theorem dJ32_linkBefore_49 : DC mJ32_linkBefore 49 = .ok (.putfield 7, 3) := dk_181 0 7 (dk_at dksJ32_linkBefore_2 1 rfl rfl)
theorem dJ32_linkBefore_52 : DC mJ32_linkBefore 52 = .ok (.aload_n 0, 1) := dk_42 (dk_at dksJ32_linkBefore_2 4 rfl rfl)
theorem dJ32_linkBefore_53 : DC mJ32_linkBefore 53 = .ok (.dup, 1) := dk_89 (dk_at dksJ32_linkBefore_2 5 rfl rfl)
theorem dJ32_linkBefore_54 : DC mJ32_linkBefore 54 = .ok (.getfield 33, 3) := dk_180 0 33 (dk_at dksJ32_linkBefore_2 6 rfl rfl)
theorem dJ32_linkBefore_57 : DC mJ32_linkBefore 57 = .ok (.iconst 1, 1) := dk_4 (dk_at dksJ32_linkBefore_2 9 rfl rfl)
theorem dJ32_linkBefore_58 : DC mJ32_linkBefore 58 = .ok (.iadd, 1) := dk_96 (dk_at dksJ32_linkBefore_2 10 rfl rfl)
theorem dJ32_linkBefore_59 : DC mJ32_linkBefore 59 = .ok (.putfield 33, 3) := dk_181 0 33 (dk_at dksJ32_linkBefore_2 11 rfl rfl)
theorem dJ32_linkBefore_62 : DC mJ32_linkBefore 62 = .ok (.return_, 1) := dk_177 (dk_at dksJ32_linkBefore_2 14 rfl rfl)
theorem in_J32 : ∀ w ∈ wsJ320, w ∈ lw_all := lw_in wsJ320 [1919, 1913, 1915, 1917] (by decide +kernel) (by decide +kernel)

/-! java/lang/Object -/
set_option maxRecDepth 100000
def RJ36 : String := "java/lang/Object"
abbrev cJ36_init : ByteArray := object_method_1_code
def yJ36_init : MethodName := ⟨RJ36, "<init>", "()V"⟩
def mJ36_init : MI := (⟨"java/lang/Object", "<init>", "()V"⟩, object_method_1_code, 1, (Option.none : Option FieldType), none, 36, 1)
theorem oJ36_init : mO mJ36_init = 36 := rfl
theorem lJ36_init : mL mJ36_init = 1 := rfl
theorem rJ36_init : mR mJ36_init = (Option.none : Option FieldType) := rfl
theorem vJ36_init : mV mJ36_init = 1 := rfl
theorem nJ36_init : (mY mJ36_init).name = "<init>" := rfl
theorem hJ36_init : mH mJ36_init = none := rfl
theorem kJ36_init : MOk mJ36_init := ⟨q133, q2831, by decide +kernel⟩
theorem dJ36_init_0 : DC mJ36_init 0 = .ok (.return_, 1) := by decide +kernel

