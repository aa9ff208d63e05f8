/-! J: rules that read the tables -/
theorem J_oinit {X : XT} {M : MI} {pc : Nat} {L : List (Option Value)} {st : List Value} {h : HP} {c : Nat} {Q : RR → HP → Prop} {idx a : Nat} (d : DC M pc = .ok (.invokespecial idx, 3)) (hw : Cond.methodLink (mY M).cls idx Lib.objectInit ∈ lw_all) (h8 : (st.map fun v => v.category).sum ≤ 8) (hv : 1 ≤ mV M) (kk : J (mkG X) M (pc + 3) L st h c Q) : J (mkG X) M pc L (.ref a :: st) h c Q := J_oinit0 d hw oi_words h8 hv kk
theorem J_mmx {X : XT} {M : MI} {pc : Nat} {L : List (Option Value)} {st : List Value} {h : HP} {c : Nat} {Q : RR → HP → Prop} {idx : Nat} {b : Bool} {x y : Int32} (d : DC M pc = .ok (.invokestatic idx, 3)) (hw : Cond.methodLink (mY M).cls idx (if b = true then Lib.Math.max.name else Lib.Math.min.name) ∈ lw_all) (h8 : (st.map fun v => v.category).sum ≤ 8) (hv : 1 ≤ mV M) (kk : J (mkG X) M (pc + 3) L (.int (if b = true then (if x < y then y else x) else (if y < x then y else x)) :: st) h c Q) : J (mkG X) M pc L (.int y :: .int x :: st) h c Q := by
  cases b with
  | true => exact J_mmax0 d hw mmax_words h8 hv kk
  | false => exact J_mmin0 d hw mmin_words h8 hv kk
