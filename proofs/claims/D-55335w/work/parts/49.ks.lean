/-! the string constants (printed by wip/tools/gen_ks.py) -/
def kr_0 : Int32 × Int32 × List Int32 := ((0), 1, [])
def kr_1 : Int32 × Int32 × List Int32 := ((3566168), 0, [116, 111, 117, 114])
def kr_2 : Int32 × Int32 × List Int32 := ((3540684), 0, [115, 116, 101, 112])
def kr_3 : Int32 × Int32 × List Int32 := ((109757538), 0, [115, 116, 97, 114, 116])
def kr_4 : Int32 × Int32 × List Int32 := ((3015911), 0, [98, 97, 99, 107])
def kr_5 : Int32 × Int32 × List Int32 := ((3529652), 0, [115, 104, 117, 116])
def kr_6 : Int32 × Int32 × List Int32 := ((3417674), 0, [111, 112, 101, 110])
def kr_7 : Int32 × Int32 × List Int32 := ((3079282), 0, [100, 101, 97, 114])
def kr_8 : Int32 × Int32 × List Int32 := ((99469071), 0, [104, 111, 117, 114, 115])
def kr_9 : Int32 × Int32 × List Int32 := ((106927921), 0, [112, 114, 98, 100, 117])
def kr_10 : Int32 × Int32 × List Int32 := ((124), 0, [124])
def kr_11 : Int32 × Int32 × List Int32 := ((3566168), 0, [116, 111, 117, 114])
def kr_12 : Int32 × Int32 × List Int32 := ((3194937), 0, [104, 97, 108, 108])
def kr_13 : Int32 × Int32 × List Int32 := ((-795338121), 0, [119, 97, 103, 111, 110, 115])
def kr_14 : Int32 × Int32 × List Int32 := ((3019794), 0, [98, 101, 100, 115])
def kr_15 : Int32 × Int32 × List Int32 := ((3540684), 0, [115, 116, 101, 112])
def kr_16 : Int32 × Int32 × List Int32 := ((109757538), 0, [115, 116, 97, 114, 116])
def kr_17 : Int32 × Int32 × List Int32 := ((3015911), 0, [98, 97, 99, 107])
def kr_18 : Int32 × Int32 × List Int32 := ((3529652), 0, [115, 104, 117, 116])
def kr_19 : Int32 × Int32 × List Int32 := ((3417674), 0, [111, 112, 101, 110])
def kr_20 : Int32 × Int32 × List Int32 := ((3079282), 0, [100, 101, 97, 114])
def kr_21 : Int32 × Int32 × List Int32 := ((260579634), 0, [32, 116, 111, 117, 114, 32, 104, 97, 108, 108, 32, 119, 97, 103, 111, 110, 115, 32, 98, 101, 100, 115, 32, 115, 116, 97, 114, 116, 32, 98, 97, 99, 107, 32, 115, 104, 117, 116, 32, 111, 112, 101, 110, 32, 104, 111, 117, 114, 115, 32])
def kr_22 : Int32 × Int32 × List Int32 := ((32), 0, [32])
def kr_23 : Int32 × Int32 × List Int32 := ((99469071), 0, [104, 111, 117, 114, 115])
def kr_24 : Int32 × Int32 × List Int32 := ((3194937), 0, [104, 97, 108, 108])
def kr_25 : Int32 × Int32 × List Int32 := ((-795338121), 0, [119, 97, 103, 111, 110, 115])
def kr_26 : Int32 × Int32 × List Int32 := ((3019794), 0, [98, 101, 100, 115])
def kr_27 : Int32 × Int32 × List Int32 := ((103731), 0, [104, 119, 98])
def kr_28 : Int32 × Int32 × List Int32 := ((0), 1, [])
def kr_29 : Int32 × Int32 × List Int32 := ((47), 0, [47])
def kr_30 : Int32 × Int32 × List Int32 := ((120), 0, [120])
def kr_31 : Int32 × Int32 × List Int32 := ((0), 1, [])
def kr_32 : Int32 × Int32 × List Int32 := ((106927921), 0, [112, 114, 98, 100, 117])
def kr_33 : Int32 × Int32 × List Int32 := ((103731), 0, [104, 119, 98])
def kr_34 : Int32 × Int32 × List Int32 := ((-632070830), 0, [116, 111, 117, 114, 32, 104, 97, 108, 108, 32, 119, 97, 103, 111, 110, 115, 32, 98, 101, 100, 115, 32, 115, 116, 97, 114, 116, 32, 98, 97, 99, 107, 32, 115, 104, 117, 116, 32, 111, 112, 101, 110, 32, 104, 111, 117, 114, 115, 32])
def kr_35 : Int32 × Int32 × List Int32 := ((3194937), 0, [104, 97, 108, 108])
def kr_36 : Int32 × Int32 × List Int32 := ((-795338121), 0, [119, 97, 103, 111, 110, 115])
def kr_37 : Int32 × Int32 × List Int32 := ((3019794), 0, [98, 101, 100, 115])
def kr_38 : Int32 × Int32 × List Int32 := ((99469071), 0, [104, 111, 117, 114, 115])
def kr_39 : Int32 × Int32 × List Int32 := ((3566168), 0, [116, 111, 117, 114])
def kr_40 : Int32 × Int32 × List Int32 := ((109757538), 0, [115, 116, 97, 114, 116])
def kr_41 : Int32 × Int32 × List Int32 := ((3015911), 0, [98, 97, 99, 107])
def kr_42 : Int32 × Int32 × List Int32 := ((3529652), 0, [115, 104, 117, 116])
def kr_43 : Int32 × Int32 × List Int32 := ((3417674), 0, [111, 112, 101, 110])
def kr_44 : Int32 × Int32 × List Int32 := ((127176833), 0, [65, 114, 114, 97, 121, 32, 105, 110, 100, 101, 120, 32, 111, 117, 116, 32, 111, 102, 32, 114, 97, 110, 103, 101, 58, 32])
def kr_45 : Int32 × Int32 × List Int32 := ((1849176457), 0, [83, 116, 114, 105, 110, 103, 32, 105, 110, 100, 101, 120, 32, 111, 117, 116, 32, 111, 102, 32, 114, 97, 110, 103, 101, 58, 32])
def kr_46 : Int32 × Int32 × List Int32 := ((0), 1, [])
def kr_47 : Int32 × Int32 × List Int32 := ((0), 1, [])
def kr_48 : Int32 × Int32 × List Int32 := ((1830), 0, [58, 32])
def kr_49 : Int32 × Int32 × List Int32 := ((-802385437), 0, [83, 111, 114, 114, 121, 44, 32, 100, 101, 113, 117, 101, 32, 116, 111, 111, 32, 98, 105, 103])
def kr_50 : Int32 × Int32 × List Int32 := ((-687023272), 0, [73, 110, 100, 101, 120, 58, 32])
def kr_51 : Int32 × Int32 × List Int32 := ((186512763), 0, [44, 32, 83, 105, 122, 101, 58, 32])
def kr_52 : Int32 × Int32 × List Int32 := ((1865747936), 0, [102, 114, 111, 109, 73, 110, 100, 101, 120, 40])
def kr_53 : Int32 × Int32 × List Int32 := ((252444138), 0, [41, 32, 62, 32, 116, 111, 73, 110, 100, 101, 120, 40])
def kr_54 : Int32 × Int32 × List Int32 := ((41), 0, [41])
def kr_55 : Int32 × Int32 × List Int32 := ((32706), 0, [32, 62, 32])
def kr_56 : Int32 × Int32 × List Int32 := ((-687023272), 0, [73, 110, 100, 101, 120, 58, 32])
def kr_57 : Int32 × Int32 × List Int32 := ((186512763), 0, [44, 32, 83, 105, 122, 101, 58, 32])
def kr_58 : Int32 × Int32 × List Int32 := ((-414256221), 0, [117, 110, 114, 101, 99, 111, 103, 110, 105, 122, 101, 100, 32, 98, 97, 115, 105, 99, 32, 116, 121, 112, 101, 58, 32])
def KT : Nat → Option (Int32 × Int32 × List Int32)
  | 0 => some kr_0
  | 1 => some kr_1
  | 2 => some kr_2
  | 3 => some kr_3
  | 4 => some kr_4
  | 5 => some kr_5
  | 6 => some kr_6
  | 7 => some kr_7
  | 8 => some kr_8
  | 9 => some kr_9
  | 10 => some kr_10
  | 11 => some kr_11
  | 12 => some kr_12
  | 13 => some kr_13
  | 14 => some kr_14
  | 15 => some kr_15
  | 16 => some kr_16
  | 17 => some kr_17
  | 18 => some kr_18
  | 19 => some kr_19
  | 20 => some kr_20
  | 21 => some kr_21
  | 22 => some kr_22
  | 23 => some kr_23
  | 24 => some kr_24
  | 25 => some kr_25
  | 26 => some kr_26
  | 27 => some kr_27
  | 28 => some kr_28
  | 29 => some kr_29
  | 30 => some kr_30
  | 31 => some kr_31
  | 32 => some kr_32
  | 33 => some kr_33
  | 34 => some kr_34
  | 35 => some kr_35
  | 36 => some kr_36
  | 37 => some kr_37
  | 38 => some kr_38
  | 39 => some kr_39
  | 40 => some kr_40
  | 41 => some kr_41
  | 42 => some kr_42
  | 43 => some kr_43
  | 44 => some kr_44
  | 45 => some kr_45
  | 46 => some kr_46
  | 47 => some kr_47
  | 48 => some kr_48
  | 49 => some kr_49
  | 50 => some kr_50
  | 51 => some kr_51
  | 52 => some kr_52
  | 53 => some kr_53
  | 54 => some kr_54
  | 55 => some kr_55
  | 56 => some kr_56
  | 57 => some kr_57
  | 58 => some kr_58
  | _ => none
/-- the heap bears the string constants -/
def KS (X : XT) (h : HP) : Prop := ∀ (i : Nat) (r : Int32 × Int32 × List Int32), KT i = some r → ∃ v, h (xS X i) = some (false, .inl (14, [.ref v, .int 0, .int r.1, .int r.2.1])) ∧ h v = some (false, .inr (.inl (1, r.2.2.length, fun j => (r.2.2[j]?).getD 0)))
theorem kt_0 : KT 0 = some kr_0 := rfl
theorem kt_1 : KT 1 = some kr_1 := rfl
theorem kt_2 : KT 2 = some kr_2 := rfl
theorem kt_3 : KT 3 = some kr_3 := rfl
theorem kt_4 : KT 4 = some kr_4 := rfl
theorem kt_5 : KT 5 = some kr_5 := rfl
theorem kt_6 : KT 6 = some kr_6 := rfl
theorem kt_7 : KT 7 = some kr_7 := rfl
theorem kt_8 : KT 8 = some kr_8 := rfl
theorem kt_9 : KT 9 = some kr_9 := rfl
theorem kt_10 : KT 10 = some kr_10 := rfl
theorem kt_11 : KT 11 = some kr_11 := rfl
theorem kt_12 : KT 12 = some kr_12 := rfl
theorem kt_13 : KT 13 = some kr_13 := rfl
theorem kt_14 : KT 14 = some kr_14 := rfl
theorem kt_15 : KT 15 = some kr_15 := rfl
theorem kt_16 : KT 16 = some kr_16 := rfl
theorem kt_17 : KT 17 = some kr_17 := rfl
theorem kt_18 : KT 18 = some kr_18 := rfl
theorem kt_19 : KT 19 = some kr_19 := rfl
theorem kt_20 : KT 20 = some kr_20 := rfl
theorem kt_21 : KT 21 = some kr_21 := rfl
theorem kt_22 : KT 22 = some kr_22 := rfl
theorem kt_23 : KT 23 = some kr_23 := rfl
theorem kt_24 : KT 24 = some kr_24 := rfl
theorem kt_25 : KT 25 = some kr_25 := rfl
theorem kt_26 : KT 26 = some kr_26 := rfl
theorem kt_27 : KT 27 = some kr_27 := rfl
theorem kt_28 : KT 28 = some kr_28 := rfl
theorem kt_29 : KT 29 = some kr_29 := rfl
theorem kt_30 : KT 30 = some kr_30 := rfl
theorem kt_31 : KT 31 = some kr_31 := rfl
theorem kt_32 : KT 32 = some kr_32 := rfl
theorem kt_33 : KT 33 = some kr_33 := rfl
theorem kt_34 : KT 34 = some kr_34 := rfl
theorem kt_35 : KT 35 = some kr_35 := rfl
theorem kt_36 : KT 36 = some kr_36 := rfl
theorem kt_37 : KT 37 = some kr_37 := rfl
theorem kt_38 : KT 38 = some kr_38 := rfl
theorem kt_39 : KT 39 = some kr_39 := rfl
theorem kt_40 : KT 40 = some kr_40 := rfl
theorem kt_41 : KT 41 = some kr_41 := rfl
theorem kt_42 : KT 42 = some kr_42 := rfl
theorem kt_43 : KT 43 = some kr_43 := rfl
theorem kt_44 : KT 44 = some kr_44 := rfl
theorem kt_45 : KT 45 = some kr_45 := rfl
theorem kt_46 : KT 46 = some kr_46 := rfl
theorem kt_47 : KT 47 = some kr_47 := rfl
theorem kt_48 : KT 48 = some kr_48 := rfl
theorem kt_49 : KT 49 = some kr_49 := rfl
theorem kt_50 : KT 50 = some kr_50 := rfl
theorem kt_51 : KT 51 = some kr_51 := rfl
theorem kt_52 : KT 52 = some kr_52 := rfl
theorem kt_53 : KT 53 = some kr_53 := rfl
theorem kt_54 : KT 54 = some kr_54 := rfl
theorem kt_55 : KT 55 = some kr_55 := rfl
theorem kt_56 : KT 56 = some kr_56 := rfl
theorem kt_57 : KT 57 = some kr_57 := rfl
theorem kt_58 : KT 58 = some kr_58 := rfl
