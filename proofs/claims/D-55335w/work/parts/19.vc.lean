/-! vc: a symbolic executor, sound for J -/
abbrev VT : Type := MI → Nat → List (Option Value) → List Value → HP → Nat → (RR → HP → Prop) → Prop
def lgt : List (Option Value) → Nat → Option Value
  | [], _ => none
  | x :: _, 0 => x
  | _ :: L, i + 1 => lgt L i
theorem lgt_0 (x : Option Value) (L : List (Option Value)) : lgt (x :: L) 0 = x := rfl
theorem lgt_s (x : Option Value) (L : List (Option Value)) (i : Nat) : lgt (x :: L) (i + 1) = lgt L i := rfl
theorem lgt_get : ∀ (L : List (Option Value)) (i : Nat) (v : Value), lgt L i = some v → L[i]? = some (some v) := by
  intro L
  induction L with
  | nil => intro i v h; cases h
  | cons x L ih =>
    intro i v h
    cases i with
    | zero => simp only [lgt] at h; simp [h]
    | succ i => simp only [lgt] at h; simpa using ih i v h
/-- a reference or null -/
def isRv (v : Value) : Prop := v = .null ∨ ∃ a, v = .ref a
theorem isRv_ref (a : Nat) : isRv (.ref a) = True := eq_true (Or.inr ⟨a, rfl⟩)
theorem isRv_null : isRv .null = True := eq_true (Or.inl rfl)
theorem isRv_rf (r : Option Nat) : isRv (va_rf r) = True := by
  cases r with
  | none => exact isRv_null
  | some a => exact isRv_ref a
/-- a field takes the value -/
def fitV (ty : FieldType) (v : Value) : Prop := narrow ty v = v ∧ fits ty v = true
theorem fitV_i (x : Int32) : fitV .int (.int x) = True := eq_true ⟨rfl, rfl⟩
theorem fitV_or (C : String) (a : Nat) : fitV (.object C) (.ref a) = True := eq_true ⟨rfl, rfl⟩
theorem fitV_on (C : String) : fitV (.object C) .null = True := eq_true ⟨rfl, rfl⟩
theorem fitV_of (C : String) (r : Option Nat) : fitV (.object C) (va_rf r) = True := by
  cases r with
  | none => exact fitV_on C
  | some a => exact fitV_or C a
theorem fitV_ar (t : FieldType) (a : Nat) : fitV (.array t) (.ref a) = True := eq_true ⟨rfl, rfl⟩
theorem fitV_an (t : FieldType) : fitV (.array t) .null = True := eq_true ⟨rfl, rfl⟩
theorem fitV_af (t : FieldType) (r : Option Nat) : fitV (.array t) (va_rf r) = True := by
  cases r with
  | none => exact fitV_an t
  | some a => exact fitV_ar t a
theorem fitV_z0 : fitV .boolean (.int 0) = True := eq_true ⟨rfl, rfl⟩
theorem fitV_z1 : fitV .boolean (.int 1) = True := eq_true ⟨rfl, rfl⟩
theorem fitV_b0 : fitV .byte (.int 0) = True := eq_true ⟨rfl, rfl⟩
theorem fitV_b1 : fitV .byte (.int 1) = True := eq_true ⟨rfl, rfl⟩
/-- n operands off the stack, the deepest first -/
def spl : Nat → List Value → List Value → Option (List Value × List Value)
  | 0, acc, st => some (acc, st)
  | n + 1, acc, v :: st => spl n (v :: acc) st
  | _ + 1, _, [] => none
theorem spl_0 (acc st : List Value) : spl 0 acc st = some (acc, st) := rfl
theorem spl_s (n : Nat) (acc st : List Value) (v : Value) : spl (n + 1) acc (v :: st) = spl n (v :: acc) st := rfl
theorem spl_spec : ∀ (n : Nat) (acc st as r : List Value), spl n acc st = some (as, r) → ∃ l, as = l.reverse ++ acc ∧ st = l ++ r ∧ l.length = n := by
  intro n
  induction n with
  | zero => intro acc st as r h; cases h; exact ⟨[], rfl, rfl, rfl⟩
  | succ n ih =>
    intro acc st as r h
    cases st with
    | nil => cases h
    | cons v st =>
      obtain ⟨l, h1, h2, h3⟩ := ih _ _ _ _ h
      exact ⟨v :: l, by rw [h1]; simp, by rw [h2]; rfl, by simp [h3]⟩
theorem spl_ok {n : Nat} {st as r : List Value} (h : spl n [] st = some (as, r)) : st = as.reverse ++ r ∧ as.length = n := by
  obtain ⟨l, h1, h2, h3⟩ := spl_spec n [] st as r h
  subst h1
  exact ⟨by rw [h2]; simp, by simp [h3]⟩
/-- a call, paid out of the credit c -/
def CallC (X : XT) (M : MI) (as : List Value) (h : HP) (c : Nat) (Q : RR → HP → Nat → Prop) : Prop := ∃ c1, c1 ≤ c ∧ Call (mkG X) M as h c1 (fun r h' => Q r h' (c - c1))
def tgt (pc : Nat) (off : Int) : Nat := ((pc : Int) + off).toNat
/-- a jump: back ones end the run -/
def jmp (X : XT) (V : VT) (M : MI) (pc t : Nat) (L : List (Option Value)) (st : List Value) (h : HP) (c : Nat) (Q : RR → HP → Prop) : Prop := if t ≤ pc then J (mkG X) M t L st h c Q else V M t L st h c Q
def jok (pc : Nat) (off : Int) : Prop := 0 ≤ (pc : Int) + off
def vcXs (V : VT) (M : MI) (pc : Nat) (L : List (Option Value)) (ci q : Nat) (h : HP) (c : Nat) (Q : RR → HP → Prop) : List (Nat × Nat × Nat × Nat) → Prop
  | [] => Q (.inr (ci, q)) h
  | (s, e, hp, ct) :: r => if s ≤ pc ∧ pc < e then (if ct = 0 then V M hp L [.ref q] h c Q else match XK (mO M) ct ci with
      | some true => V M hp L [.ref q] h c Q
      | some false => vcXs V M pc L ci q h c Q r
      | none => False) else vcXs V M pc L ci q h c Q r
def vcX (V : VT) (M : MI) (pc : Nat) (L : List (Option Value)) (ci q : Nat) (h : HP) (c : Nat) (Q : RR → HP → Prop) : Prop := match mH M with
  | none => Q (.inr (ci, q)) h
  | some hh => vcXs V M pc L ci q h c Q hh
/-- behind a call -/
def vcK (V : VT) (M : MI) (pc len : Nat) (L : List (Option Value)) (st : List Value) (Q : RR → HP → Prop) : RR → HP → Nat → Prop
  | .inl v, h, c => V M (pc + len) L (v.toList ++ st) h c Q
  | .inr (ci, q), h, c => vcX V M pc L ci q h c Q
theorem vcK_n (V : VT) (M : MI) (pc len : Nat) (L : List (Option Value)) (st : List Value) (Q : RR → HP → Prop) (h : HP) (c : Nat) : vcK V M pc len L st Q (.inl none) h c = V M (pc + len) L st h c Q := rfl
theorem vcK_s (V : VT) (M : MI) (pc len : Nat) (L : List (Option Value)) (st : List Value) (Q : RR → HP → Prop) (v : Value) (h : HP) (c : Nat) : vcK V M pc len L st Q (.inl (some v)) h c = V M (pc + len) L (v :: st) h c Q := rfl
theorem vcK_x (V : VT) (M : MI) (pc len : Nat) (L : List (Option Value)) (st : List Value) (Q : RR → HP → Prop) (ci q : Nat) (h : HP) (c : Nat) : vcK V M pc len L st Q (.inr (ci, q)) h c = vcX V M pc L ci q h c Q := rfl
def cat8 (st : List Value) : Prop := (st.map fun v => v.category).sum ≤ 8
def b_iconst (n : Int) (X : XT) (V : VT) (M : MI) (pc : Nat) (L : List (Option Value)) (st : List Value) (h : HP) (c : Nat) (Q : RR → HP → Prop) : Prop := V M (pc + 1) L (.int (Int32.ofInt n) :: st) h c Q
def b_bipush (n : Int) (X : XT) (V : VT) (M : MI) (pc : Nat) (L : List (Option Value)) (st : List Value) (h : HP) (c : Nat) (Q : RR → HP → Prop) : Prop := V M (pc + 2) L (.int (Int8.ofInt n).toInt32 :: st) h c Q
def b_sipush (n : Int) (X : XT) (V : VT) (M : MI) (pc : Nat) (L : List (Option Value)) (st : List Value) (h : HP) (c : Nat) (Q : RR → HP → Prop) : Prop := V M (pc + 3) L (.int (Int16.ofInt n).toInt32 :: st) h c Q
def b_null  (X : XT) (V : VT) (M : MI) (pc : Nat) (L : List (Option Value)) (st : List Value) (h : HP) (c : Nat) (Q : RR → HP → Prop) : Prop := V M (pc + 1) L (.null :: st) h c Q
def b_iload (i ln : Nat) (X : XT) (V : VT) (M : MI) (pc : Nat) (L : List (Option Value)) (st : List Value) (h : HP) (c : Nat) (Q : RR → HP → Prop) : Prop := match lgt L i with
  | some (.int x) => V M (pc + ln) L (.int x :: st) h c Q
  | _ => False
def b_dload (i ln : Nat) (X : XT) (V : VT) (M : MI) (pc : Nat) (L : List (Option Value)) (st : List Value) (h : HP) (c : Nat) (Q : RR → HP → Prop) : Prop := match lgt L i with
  | some (.double x) => V M (pc + ln) L (.double x :: st) h c Q
  | _ => False
def b_fload (i ln : Nat) (X : XT) (V : VT) (M : MI) (pc : Nat) (L : List (Option Value)) (st : List Value) (h : HP) (c : Nat) (Q : RR → HP → Prop) : Prop := match lgt L i with
  | some (.float x) => V M (pc + ln) L (.float x :: st) h c Q
  | _ => False
def b_aload (i ln : Nat) (X : XT) (V : VT) (M : MI) (pc : Nat) (L : List (Option Value)) (st : List Value) (h : HP) (c : Nat) (Q : RR → HP → Prop) : Prop := match lgt L i with
  | some v => isRv v ∧ V M (pc + ln) L (v :: st) h c Q
  | none => False
def b_istore (i ln : Nat) (X : XT) (V : VT) (M : MI) (pc : Nat) (L : List (Option Value)) (st : List Value) (h : HP) (c : Nat) (Q : RR → HP → Prop) : Prop := match st with
  | .int x :: st => i < mL M ∧ V M (pc + ln) (lst L i (.int x)) st h c Q
  | _ => False
def b_fstore (i ln : Nat) (X : XT) (V : VT) (M : MI) (pc : Nat) (L : List (Option Value)) (st : List Value) (h : HP) (c : Nat) (Q : RR → HP → Prop) : Prop := match st with
  | .float x :: st => i < mL M ∧ V M (pc + ln) (lst L i (.float x)) st h c Q
  | _ => False
def b_dstore (i : Nat) (X : XT) (V : VT) (M : MI) (pc : Nat) (L : List (Option Value)) (st : List Value) (h : HP) (c : Nat) (Q : RR → HP → Prop) : Prop := match st with
  | .double x :: st => i + 1 < mL M ∧ V M (pc + 2) (lcl (lst L i (.double x)) (i + 1)) st h c Q
  | _ => False
def b_astore (i ln : Nat) (X : XT) (V : VT) (M : MI) (pc : Nat) (L : List (Option Value)) (st : List Value) (h : HP) (c : Nat) (Q : RR → HP → Prop) : Prop := match st with
  | v :: st => i < mL M ∧ isRv v ∧ V M (pc + ln) (lst L i v) st h c Q
  | _ => False
def b_iinc (i : Nat) (n : Int) (X : XT) (V : VT) (M : MI) (pc : Nat) (L : List (Option Value)) (st : List Value) (h : HP) (c : Nat) (Q : RR → HP → Prop) : Prop := match lgt L i with
  | some (.int x) => i < mL M ∧ V M (pc + 3) (lst L i (.int (x + Int32.ofInt n))) st h c Q
  | _ => False
def b_iadd  (X : XT) (V : VT) (M : MI) (pc : Nat) (L : List (Option Value)) (st : List Value) (h : HP) (c : Nat) (Q : RR → HP → Prop) : Prop := match st with
  | .int y :: .int x :: st => V M (pc + 1) L (.int (x + y) :: st) h c Q
  | _ => False
def b_isub  (X : XT) (V : VT) (M : MI) (pc : Nat) (L : List (Option Value)) (st : List Value) (h : HP) (c : Nat) (Q : RR → HP → Prop) : Prop := match st with
  | .int y :: .int x :: st => V M (pc + 1) L (.int (x - y) :: st) h c Q
  | _ => False
def b_imul  (X : XT) (V : VT) (M : MI) (pc : Nat) (L : List (Option Value)) (st : List Value) (h : HP) (c : Nat) (Q : RR → HP → Prop) : Prop := match st with
  | .int y :: .int x :: st => V M (pc + 1) L (.int (x * y) :: st) h c Q
  | _ => False
def b_iand  (X : XT) (V : VT) (M : MI) (pc : Nat) (L : List (Option Value)) (st : List Value) (h : HP) (c : Nat) (Q : RR → HP → Prop) : Prop := match st with
  | .int y :: .int x :: st => V M (pc + 1) L (.int (x &&& y) :: st) h c Q
  | _ => False
def b_ior  (X : XT) (V : VT) (M : MI) (pc : Nat) (L : List (Option Value)) (st : List Value) (h : HP) (c : Nat) (Q : RR → HP → Prop) : Prop := match st with
  | .int y :: .int x :: st => V M (pc + 1) L (.int (x ||| y) :: st) h c Q
  | _ => False
def b_ixor  (X : XT) (V : VT) (M : MI) (pc : Nat) (L : List (Option Value)) (st : List Value) (h : HP) (c : Nat) (Q : RR → HP → Prop) : Prop := match st with
  | .int y :: .int x :: st => V M (pc + 1) L (.int (x ^^^ y) :: st) h c Q
  | _ => False
def b_idiv  (X : XT) (V : VT) (M : MI) (pc : Nat) (L : List (Option Value)) (st : List Value) (h : HP) (c : Nat) (Q : RR → HP → Prop) : Prop := match st with
  | .int y :: .int x :: st => (¬ y = 0) ∧ V M (pc + 1) L (.int (x / y) :: st) h c Q
  | _ => False
def b_irem  (X : XT) (V : VT) (M : MI) (pc : Nat) (L : List (Option Value)) (st : List Value) (h : HP) (c : Nat) (Q : RR → HP → Prop) : Prop := match st with
  | .int y :: .int x :: st => (¬ y = 0) ∧ V M (pc + 1) L (.int (x - x / y * y) :: st) h c Q
  | _ => False
def b_ineg  (X : XT) (V : VT) (M : MI) (pc : Nat) (L : List (Option Value)) (st : List Value) (h : HP) (c : Nat) (Q : RR → HP → Prop) : Prop := match st with
  | .int x :: st => V M (pc + 1) L (.int (-x) :: st) h c Q
  | _ => False
def b_ishl  (X : XT) (V : VT) (M : MI) (pc : Nat) (L : List (Option Value)) (st : List Value) (h : HP) (c : Nat) (Q : RR → HP → Prop) : Prop := match st with
  | .int y :: .int x :: st => V M (pc + 1) L (.int (x <<< (y &&& 31)) :: st) h c Q
  | _ => False
def b_ishr  (X : XT) (V : VT) (M : MI) (pc : Nat) (L : List (Option Value)) (st : List Value) (h : HP) (c : Nat) (Q : RR → HP → Prop) : Prop := match st with
  | .int y :: .int x :: st => V M (pc + 1) L (.int (x >>> (y &&& 31)) :: st) h c Q
  | _ => False
def b_iushr  (X : XT) (V : VT) (M : MI) (pc : Nat) (L : List (Option Value)) (st : List Value) (h : HP) (c : Nat) (Q : RR → HP → Prop) : Prop := match st with
  | .int y :: .int x :: st => V M (pc + 1) L (.int (x.toUInt32 >>> (y.toUInt32 &&& Int32.toUInt32 31)).toInt32 :: st) h c Q
  | _ => False
def b_i2l  (X : XT) (V : VT) (M : MI) (pc : Nat) (L : List (Option Value)) (st : List Value) (h : HP) (c : Nat) (Q : RR → HP → Prop) : Prop := match st with
  | .int x :: st => V M (pc + 1) L (.long x.toInt64 :: st) h c Q
  | _ => False
def b_i2b  (X : XT) (V : VT) (M : MI) (pc : Nat) (L : List (Option Value)) (st : List Value) (h : HP) (c : Nat) (Q : RR → HP → Prop) : Prop := match st with
  | .int x :: st => V M (pc + 1) L (.int x.toInt8.toInt32 :: st) h c Q
  | _ => False
def b_i2c  (X : XT) (V : VT) (M : MI) (pc : Nat) (L : List (Option Value)) (st : List Value) (h : HP) (c : Nat) (Q : RR → HP → Prop) : Prop := match st with
  | .int x :: st => V M (pc + 1) L (.int (x.toUInt32 % 65536).toInt32 :: st) h c Q
  | _ => False
def b_i2d  (X : XT) (V : VT) (M : MI) (pc : Nat) (L : List (Option Value)) (st : List Value) (h : HP) (c : Nat) (Q : RR → HP → Prop) : Prop := match st with
  | .int x :: st => V M (pc + 1) L (.double (FP.i2d x) :: st) h c Q
  | _ => False
def b_i2f  (X : XT) (V : VT) (M : MI) (pc : Nat) (L : List (Option Value)) (st : List Value) (h : HP) (c : Nat) (Q : RR → HP → Prop) : Prop := match st with
  | .int x :: st => V M (pc + 1) L (.float (FP.i2f x) :: st) h c Q
  | _ => False
def b_f2d  (X : XT) (V : VT) (M : MI) (pc : Nat) (L : List (Option Value)) (st : List Value) (h : HP) (c : Nat) (Q : RR → HP → Prop) : Prop := match st with
  | .float x :: st => vf_n64 (FP.f2d x) ∧ V M (pc + 1) L (.double (FP.f2d x) :: st) h c Q
  | _ => False
def b_ddiv  (X : XT) (V : VT) (M : MI) (pc : Nat) (L : List (Option Value)) (st : List Value) (h : HP) (c : Nat) (Q : RR → HP → Prop) : Prop := match st with
  | .double y :: .double x :: st => vf_n64 (FP.ddiv x y) ∧ V M (pc + 1) L (.double (FP.ddiv x y) :: st) h c Q
  | _ => False
def b_fdiv  (X : XT) (V : VT) (M : MI) (pc : Nat) (L : List (Option Value)) (st : List Value) (h : HP) (c : Nat) (Q : RR → HP → Prop) : Prop := match st with
  | .float y :: .float x :: st => vf_n32 (FP.fdiv x y) ∧ V M (pc + 1) L (.float (FP.fdiv x y) :: st) h c Q
  | _ => False
def b_lcmp  (X : XT) (V : VT) (M : MI) (pc : Nat) (L : List (Option Value)) (st : List Value) (h : HP) (c : Nat) (Q : RR → HP → Prop) : Prop := match st with
  | .long y :: .long x :: st => V M (pc + 1) L (.int (lg_cmp x y) :: st) h c Q
  | _ => False
def b_dcmp (op : CmpOp) (X : XT) (V : VT) (M : MI) (pc : Nat) (L : List (Option Value)) (st : List Value) (h : HP) (c : Nat) (Q : RR → HP → Prop) : Prop := match st with
  | .double y :: .double x :: st => V M (pc + 1) L (.int (Op.cmpValue (FP.dcmp x y) op) :: st) h c Q
  | _ => False
def b_fcmp (op : CmpOp) (X : XT) (V : VT) (M : MI) (pc : Nat) (L : List (Option Value)) (st : List Value) (h : HP) (c : Nat) (Q : RR → HP → Prop) : Prop := match st with
  | .float y :: .float x :: st => V M (pc + 1) L (.int (Op.cmpValue (FP.fcmp x y) op) :: st) h c Q
  | _ => False
def b_dup  (X : XT) (V : VT) (M : MI) (pc : Nat) (L : List (Option Value)) (st : List Value) (h : HP) (c : Nat) (Q : RR → HP → Prop) : Prop := match st with
  | a :: st => a.category = 1 ∧ V M (pc + 1) L (a :: a :: st) h c Q
  | _ => False
def b_pop  (X : XT) (V : VT) (M : MI) (pc : Nat) (L : List (Option Value)) (st : List Value) (h : HP) (c : Nat) (Q : RR → HP → Prop) : Prop := match st with
  | a :: st => a.category = 1 ∧ V M (pc + 1) L (st) h c Q
  | _ => False
def b_dup_x1  (X : XT) (V : VT) (M : MI) (pc : Nat) (L : List (Option Value)) (st : List Value) (h : HP) (c : Nat) (Q : RR → HP → Prop) : Prop := match st with
  | a :: b :: st => (a.category = 1 ∧ b.category = 1) ∧ V M (pc + 1) L (a :: b :: a :: st) h c Q
  | _ => False
def b_dup_x2  (X : XT) (V : VT) (M : MI) (pc : Nat) (L : List (Option Value)) (st : List Value) (h : HP) (c : Nat) (Q : RR → HP → Prop) : Prop := match st with
  | a :: b :: w :: st => (a.category = 1 ∧ b.category = 1 ∧ w.category = 1) ∧ V M (pc + 1) L (a :: b :: w :: a :: st) h c Q
  | _ => False
def b_dup2  (X : XT) (V : VT) (M : MI) (pc : Nat) (L : List (Option Value)) (st : List Value) (h : HP) (c : Nat) (Q : RR → HP → Prop) : Prop := match st with
  | a :: b :: st => (a.category = 1 ∧ b.category = 1) ∧ V M (pc + 1) L (a :: b :: a :: b :: st) h c Q
  | _ => False
def b_if_eq (off : Int) (X : XT) (V : VT) (M : MI) (pc : Nat) (L : List (Option Value)) (st : List Value) (h : HP) (c : Nat) (Q : RR → HP → Prop) : Prop := match st with
  | .int x :: st => jok pc off ∧ (x = 0 → jmp X V M pc (tgt pc off) L st h c Q) ∧ (¬ x = 0 → V M (pc + 3) L st h c Q)
  | _ => False
def b_icmp_eq (off : Int) (X : XT) (V : VT) (M : MI) (pc : Nat) (L : List (Option Value)) (st : List Value) (h : HP) (c : Nat) (Q : RR → HP → Prop) : Prop := match st with
  | .int y :: .int x :: st => jok pc off ∧ (x = y → jmp X V M pc (tgt pc off) L st h c Q) ∧ (¬ x = y → V M (pc + 3) L st h c Q)
  | _ => False
def b_if_ne (off : Int) (X : XT) (V : VT) (M : MI) (pc : Nat) (L : List (Option Value)) (st : List Value) (h : HP) (c : Nat) (Q : RR → HP → Prop) : Prop := match st with
  | .int x :: st => jok pc off ∧ (¬ x = 0 → jmp X V M pc (tgt pc off) L st h c Q) ∧ (x = 0 → V M (pc + 3) L st h c Q)
  | _ => False
def b_icmp_ne (off : Int) (X : XT) (V : VT) (M : MI) (pc : Nat) (L : List (Option Value)) (st : List Value) (h : HP) (c : Nat) (Q : RR → HP → Prop) : Prop := match st with
  | .int y :: .int x :: st => jok pc off ∧ (¬ x = y → jmp X V M pc (tgt pc off) L st h c Q) ∧ (x = y → V M (pc + 3) L st h c Q)
  | _ => False
def b_if_lt (off : Int) (X : XT) (V : VT) (M : MI) (pc : Nat) (L : List (Option Value)) (st : List Value) (h : HP) (c : Nat) (Q : RR → HP → Prop) : Prop := match st with
  | .int x :: st => jok pc off ∧ (x < 0 → jmp X V M pc (tgt pc off) L st h c Q) ∧ (¬ x < 0 → V M (pc + 3) L st h c Q)
  | _ => False
def b_icmp_lt (off : Int) (X : XT) (V : VT) (M : MI) (pc : Nat) (L : List (Option Value)) (st : List Value) (h : HP) (c : Nat) (Q : RR → HP → Prop) : Prop := match st with
  | .int y :: .int x :: st => jok pc off ∧ (x < y → jmp X V M pc (tgt pc off) L st h c Q) ∧ (¬ x < y → V M (pc + 3) L st h c Q)
  | _ => False
def b_if_ge (off : Int) (X : XT) (V : VT) (M : MI) (pc : Nat) (L : List (Option Value)) (st : List Value) (h : HP) (c : Nat) (Q : RR → HP → Prop) : Prop := match st with
  | .int x :: st => jok pc off ∧ (0 ≤ x → jmp X V M pc (tgt pc off) L st h c Q) ∧ (¬ 0 ≤ x → V M (pc + 3) L st h c Q)
  | _ => False
def b_icmp_ge (off : Int) (X : XT) (V : VT) (M : MI) (pc : Nat) (L : List (Option Value)) (st : List Value) (h : HP) (c : Nat) (Q : RR → HP → Prop) : Prop := match st with
  | .int y :: .int x :: st => jok pc off ∧ (y ≤ x → jmp X V M pc (tgt pc off) L st h c Q) ∧ (¬ y ≤ x → V M (pc + 3) L st h c Q)
  | _ => False
def b_if_gt (off : Int) (X : XT) (V : VT) (M : MI) (pc : Nat) (L : List (Option Value)) (st : List Value) (h : HP) (c : Nat) (Q : RR → HP → Prop) : Prop := match st with
  | .int x :: st => jok pc off ∧ (0 < x → jmp X V M pc (tgt pc off) L st h c Q) ∧ (¬ 0 < x → V M (pc + 3) L st h c Q)
  | _ => False
def b_icmp_gt (off : Int) (X : XT) (V : VT) (M : MI) (pc : Nat) (L : List (Option Value)) (st : List Value) (h : HP) (c : Nat) (Q : RR → HP → Prop) : Prop := match st with
  | .int y :: .int x :: st => jok pc off ∧ (y < x → jmp X V M pc (tgt pc off) L st h c Q) ∧ (¬ y < x → V M (pc + 3) L st h c Q)
  | _ => False
def b_if_le (off : Int) (X : XT) (V : VT) (M : MI) (pc : Nat) (L : List (Option Value)) (st : List Value) (h : HP) (c : Nat) (Q : RR → HP → Prop) : Prop := match st with
  | .int x :: st => jok pc off ∧ (x ≤ 0 → jmp X V M pc (tgt pc off) L st h c Q) ∧ (¬ x ≤ 0 → V M (pc + 3) L st h c Q)
  | _ => False
def b_icmp_le (off : Int) (X : XT) (V : VT) (M : MI) (pc : Nat) (L : List (Option Value)) (st : List Value) (h : HP) (c : Nat) (Q : RR → HP → Prop) : Prop := match st with
  | .int y :: .int x :: st => jok pc off ∧ (x ≤ y → jmp X V M pc (tgt pc off) L st h c Q) ∧ (¬ x ≤ y → V M (pc + 3) L st h c Q)
  | _ => False
def b_goto (off : Int) (X : XT) (V : VT) (M : MI) (pc : Nat) (L : List (Option Value)) (st : List Value) (h : HP) (c : Nat) (Q : RR → HP → Prop) : Prop := jok pc off ∧ jmp X V M pc (tgt pc off) L st h c Q
def b_ifnull (off : Int) (X : XT) (V : VT) (M : MI) (pc : Nat) (L : List (Option Value)) (st : List Value) (h : HP) (c : Nat) (Q : RR → HP → Prop) : Prop := match st with
  | .ref _ :: st => V M (pc + 3) L st h c Q
  | .null :: st => jok pc off ∧ jmp X V M pc (tgt pc off) L st h c Q
  | _ => False
def b_ifnonnull (off : Int) (X : XT) (V : VT) (M : MI) (pc : Nat) (L : List (Option Value)) (st : List Value) (h : HP) (c : Nat) (Q : RR → HP → Prop) : Prop := match st with
  | .ref _ :: st => jok pc off ∧ jmp X V M pc (tgt pc off) L st h c Q
  | .null :: st => V M (pc + 3) L st h c Q
  | _ => False
def b_acmp_eq (off : Int) (X : XT) (V : VT) (M : MI) (pc : Nat) (L : List (Option Value)) (st : List Value) (h : HP) (c : Nat) (Q : RR → HP → Prop) : Prop := match st with
  | y :: x :: st => isRv x ∧ isRv y ∧ jok pc off ∧ (x = y → jmp X V M pc (tgt pc off) L st h c Q) ∧ (¬ x = y → V M (pc + 3) L st h c Q)
  | _ => False
def b_acmp_ne (off : Int) (X : XT) (V : VT) (M : MI) (pc : Nat) (L : List (Option Value)) (st : List Value) (h : HP) (c : Nat) (Q : RR → HP → Prop) : Prop := match st with
  | y :: x :: st => isRv x ∧ isRv y ∧ jok pc off ∧ (¬ x = y → jmp X V M pc (tgt pc off) L st h c Q) ∧ (x = y → V M (pc + 3) L st h c Q)
  | _ => False
def lsw (X : XT) (V : VT) (M : MI) (pc : Nat) (L : List (Option Value)) (st : List Value) (h : HP) (c : Nat) (Q : RR → HP → Prop) (x dflt : Int) : List (Int × Int) → Prop
  | [] => jok pc dflt ∧ jmp X V M pc (tgt pc dflt) L st h c Q
  | (k, off) :: r => (x = k → jok pc off ∧ jmp X V M pc (tgt pc off) L st h c Q) ∧ (¬ x = k → lsw X V M pc L st h c Q x dflt r)
def swOk (ps : Array (Int × Int)) : Bool := (ps.toList.zip (ps.toList.drop 1)).all (fun (a, next) => a.1 < next.1)
def tsw (X : XT) (V : VT) (M : MI) (pc : Nat) (L : List (Option Value)) (st : List Value) (h : HP) (c : Nat) (Q : RR → HP → Prop) (x : Int) : Int → List Int → Prop
  | _, [] => True
  | lo, off :: r => (x = lo → jok pc off ∧ jmp X V M pc (tgt pc off) L st h c Q) ∧ tsw X V M pc L st h c Q x (lo + 1) r
def b_lookup (dflt : Int) (ps : Array (Int × Int)) (X : XT) (V : VT) (M : MI) (pc : Nat) (L : List (Option Value)) (st : List Value) (h : HP) (c : Nat) (Q : RR → HP → Prop) : Prop := match st with
  | .int x :: st => swOk ps = true ∧ lsw X V M pc L st h c Q x.toInt dflt ps.toList
  | _ => False
def b_tswitch (dflt lo hi : Int) (offs : Array Int) (X : XT) (V : VT) (M : MI) (pc : Nat) (L : List (Option Value)) (st : List Value) (h : HP) (c : Nat) (Q : RR → HP → Prop) : Prop := match st with
  | .int x :: st => (x.toInt < lo ∨ hi < x.toInt → jok pc dflt ∧ jmp X V M pc (tgt pc dflt) L st h c Q) ∧ hi < lo + offs.size ∧ tsw X V M pc L st h c Q x.toInt lo offs.toList
  | _ => False
def b_ireturn  (X : XT) (V : VT) (M : MI) (pc : Nat) (L : List (Option Value)) (st : List Value) (h : HP) (c : Nat) (Q : RR → HP → Prop) : Prop := match st with
  | [.int v] => (match mR M with
    | some ty => narrow ty (.int v) = .int v ∧ Q (.inl (some (.int v))) h
    | none => False)
  | _ => False
def b_return  (X : XT) (V : VT) (M : MI) (pc : Nat) (L : List (Option Value)) (st : List Value) (h : HP) (c : Nat) (Q : RR → HP → Prop) : Prop := match st with
  | [] => mR M = none ∧ Q (.inl none) h
  | _ => False
def b_areturn  (X : XT) (V : VT) (M : MI) (pc : Nat) (L : List (Option Value)) (st : List Value) (h : HP) (c : Nat) (Q : RR → HP → Prop) : Prop := match st with
  | [v] => isRefT (mR M) = true ∧ isRv v ∧ Q (.inl (some v)) h
  | _ => False
def b_dreturn  (X : XT) (V : VT) (M : MI) (pc : Nat) (L : List (Option Value)) (st : List Value) (h : HP) (c : Nat) (Q : RR → HP → Prop) : Prop := match st with
  | [.double v] => mR M = some .double ∧ Q (.inl (some (.double v))) h
  | _ => False
def b_freturn  (X : XT) (V : VT) (M : MI) (pc : Nat) (L : List (Option Value)) (st : List Value) (h : HP) (c : Nat) (Q : RR → HP → Prop) : Prop := match st with
  | [.float v] => mR M = some .float ∧ Q (.inl (some (.float v))) h
  | _ => False
def b_getf (idx : Nat) (X : XT) (V : VT) (M : MI) (pc : Nat) (L : List (Option Value)) (st : List Value) (h : HP) (c : Nat) (Q : RR → HP → Prop) : Prop := match st with
  | .ref a :: st => match h a with
    | some (_, .inl (ci, fs)) => match FK (mO M) idx ci with
      | some k => match fs[k]? with
        | some v => V M (pc + 3) L (v :: st) h c Q
        | none => False
      | none => False
    | _ => False
  | _ => False
def b_putf (idx : Nat) (X : XT) (V : VT) (M : MI) (pc : Nat) (L : List (Option Value)) (st : List Value) (h : HP) (c : Nat) (Q : RR → HP → Prop) : Prop := match st with
  | v :: .ref a :: st => match h a with
    | some (true, .inl (ci, fs)) => match PK (mO M) idx ci with
      | some (k, ty, fin) => (fin = true → (mY M).name = "<init>") ∧ k < fs.length ∧ fitV ty v ∧ V M (pc + 3) L st (hs h a (true, .inl (ci, fs.set k v))) c Q
      | none => False
    | _ => False
  | _ => False
def b_gets (idx : Nat) (X : XT) (V : VT) (M : MI) (pc : Nat) (L : List (Option Value)) (st : List Value) (h : HP) (c : Nat) (Q : RR → HP → Prop) : Prop := match GS (mO M) idx with
  | some i => match ((gT (mkG X))[i]?).map (fun x => x.2.2.2) with
    | some v => V M (pc + 3) L (v :: st) h c Q
    | none => False
  | none => False
def b_iaload  (X : XT) (V : VT) (M : MI) (pc : Nat) (L : List (Option Value)) (st : List Value) (h : HP) (c : Nat) (Q : RR → HP → Prop) : Prop := match st with
  | .int i :: .ref a :: st => match h a with
    | some (_, .inr (.inl (0, n, f))) => vp_in i n ∧ V M (pc + 1) L (.int (f i.toNatClampNeg) :: st) h c Q
    | _ => False
  | _ => False
def b_baload  (X : XT) (V : VT) (M : MI) (pc : Nat) (L : List (Option Value)) (st : List Value) (h : HP) (c : Nat) (Q : RR → HP → Prop) : Prop := match st with
  | .int i :: .ref a :: st => match h a with
    | some (_, .inr (.inl (1, n, f))) => vp_in i n ∧ V M (pc + 1) L (.int (f i.toNatClampNeg) :: st) h c Q
    | _ => False
  | _ => False
def b_caload  (X : XT) (V : VT) (M : MI) (pc : Nat) (L : List (Option Value)) (st : List Value) (h : HP) (c : Nat) (Q : RR → HP → Prop) : Prop := match st with
  | .int i :: .ref a :: st => match h a with
    | some (_, .inr (.inl (2, n, f))) => vp_in i n ∧ V M (pc + 1) L (.int (f i.toNatClampNeg) :: st) h c Q
    | _ => False
  | _ => False
def b_laload  (X : XT) (V : VT) (M : MI) (pc : Nat) (L : List (Option Value)) (st : List Value) (h : HP) (c : Nat) (Q : RR → HP → Prop) : Prop := match st with
  | .int i :: .ref a :: st => match h a with
    | some (_, .inr (.inr (.inr (3, n, f)))) => vp_in i n ∧ V M (pc + 1) L (f i.toNatClampNeg :: st) h c Q
    | _ => False
  | _ => False
def b_daload  (X : XT) (V : VT) (M : MI) (pc : Nat) (L : List (Option Value)) (st : List Value) (h : HP) (c : Nat) (Q : RR → HP → Prop) : Prop := match st with
  | .int i :: .ref a :: st => match h a with
    | some (_, .inr (.inr (.inr (4, n, f)))) => vp_in i n ∧ V M (pc + 1) L (f i.toNatClampNeg :: st) h c Q
    | _ => False
  | _ => False
def b_aaload  (X : XT) (V : VT) (M : MI) (pc : Nat) (L : List (Option Value)) (st : List Value) (h : HP) (c : Nat) (Q : RR → HP → Prop) : Prop := match st with
  | .int i :: .ref a :: st => match h a with
    | some (_, .inr (.inr (.inl (n, f)))) => vp_in i n ∧ V M (pc + 1) L (va_rf (f i.toNatClampNeg) :: st) h c Q
    | some (false, .inr (.inr (.inr (6, n, f)))) => vp_in i n ∧ V M (pc + 1) L (f i.toNatClampNeg :: st) h c Q
    | _ => False
  | _ => False
def b_iastore  (X : XT) (V : VT) (M : MI) (pc : Nat) (L : List (Option Value)) (st : List Value) (h : HP) (c : Nat) (Q : RR → HP → Prop) : Prop := match st with
  | .int x :: .int i :: .ref a :: st => match h a with
    | some (true, .inr (.inl (0, n, f))) => vp_in i n ∧ V M (pc + 1) L st (hs h a (true, .inr (.inl (0, n, upd f i.toNatClampNeg x)))) c Q
    | _ => False
  | _ => False
def b_bastore  (X : XT) (V : VT) (M : MI) (pc : Nat) (L : List (Option Value)) (st : List Value) (h : HP) (c : Nat) (Q : RR → HP → Prop) : Prop := match st with
  | .int x :: .int i :: .ref a :: st => match h a with
    | some (true, .inr (.inl (1, n, f))) => vp_in i n ∧ V M (pc + 1) L st (hs h a (true, .inr (.inl (1, n, upd f i.toNatClampNeg (vp_nar .byte x))))) c Q
    | _ => False
  | _ => False
def b_castore  (X : XT) (V : VT) (M : MI) (pc : Nat) (L : List (Option Value)) (st : List Value) (h : HP) (c : Nat) (Q : RR → HP → Prop) : Prop := match st with
  | .int x :: .int i :: .ref a :: st => match h a with
    | some (true, .inr (.inl (2, n, f))) => vp_in i n ∧ V M (pc + 1) L st (hs h a (true, .inr (.inl (2, n, upd f i.toNatClampNeg (vp_nar .char x))))) c Q
    | _ => False
  | _ => False
def b_lastore  (X : XT) (V : VT) (M : MI) (pc : Nat) (L : List (Option Value)) (st : List Value) (h : HP) (c : Nat) (Q : RR → HP → Prop) : Prop := match st with
  | .long x :: .int i :: .ref a :: st => match h a with
    | some (true, .inr (.inr (.inr (3, n, f)))) => vp_in i n ∧ V M (pc + 1) L st (hs h a (true, .inr (.inr (.inr (3, n, updV f i.toNatClampNeg (.long x)))))) c Q
    | _ => False
  | _ => False
def b_dastore  (X : XT) (V : VT) (M : MI) (pc : Nat) (L : List (Option Value)) (st : List Value) (h : HP) (c : Nat) (Q : RR → HP → Prop) : Prop := match st with
  | .double x :: .int i :: .ref a :: st => match h a with
    | some (true, .inr (.inr (.inr (4, n, f)))) => vp_in i n ∧ V M (pc + 1) L st (hs h a (true, .inr (.inr (.inr (4, n, updV f i.toNatClampNeg (.double x)))))) c Q
    | _ => False
  | _ => False
def b_aastore  (X : XT) (V : VT) (M : MI) (pc : Nat) (L : List (Option Value)) (st : List Value) (h : HP) (c : Nat) (Q : RR → HP → Prop) : Prop := match st with
  | .ref b :: .int i :: .ref a :: st => match h a, h b with
    | some (true, .inr (.inr (.inl (n, f)))), some (_, .inl _) => vp_in i n ∧ V M (pc + 1) L st (hs h a (true, .inr (.inr (.inl (n, va_up f i.toNatClampNeg (some b)))))) c Q
    | _, _ => False
  | .null :: .int i :: .ref a :: st => match h a with
    | some (true, .inr (.inr (.inl (n, f)))) => vp_in i n ∧ V M (pc + 1) L st (hs h a (true, .inr (.inr (.inl (n, va_up f i.toNatClampNeg none))))) c Q
    | _ => False
  | _ => False
def b_alen  (X : XT) (V : VT) (M : MI) (pc : Nat) (L : List (Option Value)) (st : List Value) (h : HP) (c : Nat) (Q : RR → HP → Prop) : Prop := match st with
  | .ref a :: st => match h a with
    | some x => match alen x with
      | some n => V M (pc + 1) L (.int (nI n) :: st) h c Q
      | none => False
    | none => False
  | _ => False
def b_newa_i  (X : XT) (V : VT) (M : MI) (pc : Nat) (L : List (Option Value)) (st : List Value) (h : HP) (c : Nat) (Q : RR → HP → Prop) : Prop := match st with
  | .int n :: st => ¬ n < 0 ∧ n.toNatClampNeg ≤ 10000000 ∧ 12 + n.toNatClampNeg ≤ c ∧ ∀ a : Nat, h a = none → V M (pc + 2) L (.ref a :: st) (hs h a (true, .inr (.inl (0, n.toNatClampNeg, fun _ => 0)))) (c - (12 + n.toNatClampNeg)) Q
  | _ => False
def b_newa_b  (X : XT) (V : VT) (M : MI) (pc : Nat) (L : List (Option Value)) (st : List Value) (h : HP) (c : Nat) (Q : RR → HP → Prop) : Prop := match st with
  | .int n :: st => ¬ n < 0 ∧ n.toNatClampNeg ≤ 10000000 ∧ 12 + n.toNatClampNeg ≤ c ∧ ∀ a : Nat, h a = none → V M (pc + 2) L (.ref a :: st) (hs h a (true, .inr (.inl (1, n.toNatClampNeg, fun _ => 0)))) (c - (12 + n.toNatClampNeg)) Q
  | _ => False
def b_newa_c  (X : XT) (V : VT) (M : MI) (pc : Nat) (L : List (Option Value)) (st : List Value) (h : HP) (c : Nat) (Q : RR → HP → Prop) : Prop := match st with
  | .int n :: st => ¬ n < 0 ∧ n.toNatClampNeg ≤ 10000000 ∧ 12 + n.toNatClampNeg ≤ c ∧ ∀ a : Nat, h a = none → V M (pc + 2) L (.ref a :: st) (hs h a (true, .inr (.inl (2, n.toNatClampNeg, fun _ => 0)))) (c - (12 + n.toNatClampNeg)) Q
  | _ => False
def b_newa_l  (X : XT) (V : VT) (M : MI) (pc : Nat) (L : List (Option Value)) (st : List Value) (h : HP) (c : Nat) (Q : RR → HP → Prop) : Prop := match st with
  | .int n :: st => ¬ n < 0 ∧ n.toNatClampNeg ≤ 10000000 ∧ 12 + n.toNatClampNeg ≤ c ∧ ∀ a : Nat, h a = none → V M (pc + 2) L (.ref a :: st) (hs h a (true, .inr (.inr (.inr (3, n.toNatClampNeg, fun _ => .long 0))))) (c - (12 + n.toNatClampNeg)) Q
  | _ => False
def b_newa_d  (X : XT) (V : VT) (M : MI) (pc : Nat) (L : List (Option Value)) (st : List Value) (h : HP) (c : Nat) (Q : RR → HP → Prop) : Prop := match st with
  | .int n :: st => ¬ n < 0 ∧ n.toNatClampNeg ≤ 10000000 ∧ 12 + n.toNatClampNeg ≤ c ∧ ∀ a : Nat, h a = none → V M (pc + 2) L (.ref a :: st) (hs h a (true, .inr (.inr (.inr (4, n.toNatClampNeg, fun _ => .double 0))))) (c - (12 + n.toNatClampNeg)) Q
  | _ => False
def b_anew (idx : Nat) (X : XT) (V : VT) (M : MI) (pc : Nat) (L : List (Option Value)) (st : List Value) (h : HP) (c : Nat) (Q : RR → HP → Prop) : Prop := match st with
  | .int n :: st => (AO (mO M) idx).isSome = true ∧ ¬ n < 0 ∧ n.toNatClampNeg ≤ 10000000 ∧ 12 + n.toNatClampNeg ≤ c ∧ ∀ a : Nat, h a = none → V M (pc + 3) L (.ref a :: st) (hs h a (true, .inr (.inr (.inl (n.toNatClampNeg, fun _ => none))))) (c - (12 + n.toNatClampNeg)) Q
  | _ => False
def b_new (idx : Nat) (X : XT) (V : VT) (M : MI) (pc : Nat) (L : List (Option Value)) (st : List Value) (h : HP) (c : Nat) (Q : RR → HP → Prop) : Prop := match NK (mO M) idx 0 with
  | some (ci, fs) => 12 + fs.length ≤ c ∧ ∀ a : Nat, h a = none → V M (pc + 3) L (.ref a :: st) (hs h a (true, .inl (ci, fs))) (c - (12 + fs.length)) Q
  | none => match EK (mO M) idx with
    | some (ic, ci) => DC M (pc + 3) = .ok (.dup, 1) ∧ DC M (pc + 4) = .ok (.invokespecial ic, 3) ∧ cat8 st ∧ 8 ≤ mV M ∧ 18 ≤ c ∧ ∀ a : Nat, h a = none → V M (pc + 7) L (.ref a :: st) (hs h a (true, .inl (ci, []))) (c - 18) Q
    | none => False
def b_ldc (idx : Nat) (X : XT) (V : VT) (M : MI) (pc : Nat) (L : List (Option Value)) (st : List Value) (h : HP) (c : Nat) (Q : RR → HP → Prop) : Prop := match LG (mO M) idx with
  | some i => V M (pc + 2) L (.ref (xS X i) :: st) h c Q
  | none => match LI (mO M) idx with
    | some v => V M (pc + 2) L (.int v :: st) h c Q
    | none => match LM (mO M) idx with
      | some _ => V M (pc + 2) L (.ref (xM X 0) :: st) h c Q
      | none => False
def b_ldcw (idx : Nat) (X : XT) (V : VT) (M : MI) (pc : Nat) (L : List (Option Value)) (st : List Value) (h : HP) (c : Nat) (Q : RR → HP → Prop) : Prop := match LG (mO M) idx with
  | some i => V M (pc + 3) L (.ref (xS X i) :: st) h c Q
  | none => match LI (mO M) idx with
    | some v => V M (pc + 3) L (.int v :: st) h c Q
    | none => False
def b_cast (idx : Nat) (X : XT) (V : VT) (M : MI) (pc : Nat) (L : List (Option Value)) (st : List Value) (h : HP) (c : Nat) (Q : RR → HP → Prop) : Prop := match st with
  | .null :: st => V M (pc + 3) L (.null :: st) h c Q
  | .ref a :: st => match h a with
    | some (_, .inl (ci, _)) => match KK (mO M) idx ci with
      | some _ => V M (pc + 3) L (.ref a :: st) h c Q
      | none => False
    | some (true, .inr (.inl (1, _, _))) => KA (mO M) idx = some 1 ∧ V M (pc + 3) L (.ref a :: st) h c Q
    | some (true, .inr (.inr (.inl _))) => KA (mO M) idx = some 5 ∧ V M (pc + 3) L (.ref a :: st) h c Q
    | _ => False
  | _ => False
def b_inst (idx : Nat) (X : XT) (V : VT) (M : MI) (pc : Nat) (L : List (Option Value)) (st : List Value) (h : HP) (c : Nat) (Q : RR → HP → Prop) : Prop := match st with
  | .ref a :: st => match h a with
    | some (_, .inl (14, _)) => IT (mO M) idx = some 14 ∧ V M (pc + 3) L (.int 1 :: st) h c Q
    | _ => False
  | _ => False
def b_athrow  (X : XT) (V : VT) (M : MI) (pc : Nat) (L : List (Option Value)) (st : List Value) (h : HP) (c : Nat) (Q : RR → HP → Prop) : Prop := match st with
  | .ref q :: _ => match h q with
    | some (true, .inl (ci, _)) => (CL[ci]?).isSome = true ∧ vcX V M pc L ci q h c Q
    | _ => False
  | _ => False
def b_invS (idx : Nat) (X : XT) (V : VT) (M : MI) (pc : Nat) (L : List (Option Value)) (st : List Value) (h : HP) (c : Nat) (Q : RR → HP → Prop) : Prop := match SK (mO M) idx 0 with
  | some (M', n) => match spl n [] st with
    | some (as, rest) => LV M M' ∧ cat8 rest ∧ CallC X M' as h c (vcK V M pc 3 L rest Q)
    | none => False
  | none => match CP (mO M) idx with
    | some _ => match st with
      | .int n :: .int dp :: .ref a :: .int sp :: .ref a0 :: st => match h a0, h a with
        | some (_, .inr (.inl (t0, n0, f))), some (true, .inr (.inl (t1, n1, g))) => t0 = t1 ∧ ¬ sp < 0 ∧ ¬ dp < 0 ∧ ¬ n < 0 ∧ sp.toNatClampNeg + n.toNatClampNeg ≤ n0 ∧ dp.toNatClampNeg + n.toNatClampNeg ≤ n1 ∧ cat8 st ∧ 1 ≤ mV M ∧ V M (pc + 3) L st (hs h a (true, .inr (.inl (t1, n1, va_cpy f g sp.toNatClampNeg dp.toNatClampNeg n.toNatClampNeg)))) c Q
        | some (_, .inr (.inr (.inl (n0, f)))), some (true, .inr (.inr (.inl (n1, g)))) => ¬ sp < 0 ∧ ¬ dp < 0 ∧ ¬ n < 0 ∧ sp.toNatClampNeg + n.toNatClampNeg ≤ n0 ∧ dp.toNatClampNeg + n.toNatClampNeg ≤ n1 ∧ cat8 st ∧ 1 ≤ mV M ∧ (∀ i y : Nat, i < n.toNatClampNeg → f (sp.toNatClampNeg + i) = some y → ∃ w ci fs, h y = some (w, .inl (ci, fs))) ∧ V M (pc + 3) L st (hs h a (true, .inr (.inr (.inl (n1, va_cpy f g sp.toNatClampNeg dp.toNatClampNeg n.toNatClampNeg))))) c Q
        | _, _ => False
      | _ => False
    | none => match MX (mO M) idx with
      | some b => match st with
        | .int y :: .int x :: st => cat8 st ∧ 1 ≤ mV M ∧ V M (pc + 3) L (.int (if b = true then (if x < y then y else x) else (if y < x then y else x)) :: st) h c Q
        | _ => False
      | none => False
def b_invI (idx : Nat) (X : XT) (V : VT) (M : MI) (pc : Nat) (L : List (Option Value)) (st : List Value) (h : HP) (c : Nat) (Q : RR → HP → Prop) : Prop := match IK (mO M) idx 0 with
  | some (M', n) => match spl n [] st with
    | some (as, .ref b :: rest) => LV M M' ∧ cat8 rest ∧ (match h b with
      | some (_, .inl _) => True
      | _ => False) ∧ CallC X M' (.ref b :: as) h c (vcK V M pc 3 L rest Q)
    | _ => False
  | none => match OI (mO M) idx with
    | some _ => match st with
      | .ref _ :: st => cat8 st ∧ 1 ≤ mV M ∧ V M (pc + 3) L st h c Q
      | _ => False
    | none => False
def b_invV (idx : Nat) (X : XT) (V : VT) (M : MI) (pc : Nat) (L : List (Option Value)) (st : List Value) (h : HP) (c : Nat) (Q : RR → HP → Prop) : Prop := match GC (mO M) idx with
  | some _ => match st with
    | .ref a :: st => match h a with
      | some (_, .inr (.inr (.inl _))) => cat8 st ∧ 1 ≤ mV M ∧ V M (pc + 3) L (.ref (xM X 0) :: st) h c Q
      | _ => False
    | _ => False
  | none => match AN (mO M) idx with
  | some n => match spl n [] st with
    | some (as, .ref b :: rest) => match h b with
      | some (_, .inl (ci, _)) => match VK (mO M) idx ci with
        | some (M', n') => n' = n ∧ LV M M' ∧ cat8 rest ∧ CallC X M' (.ref b :: as) h c (vcK V M pc 3 L rest Q)
        | none => False
      | _ => False
    | _ => False
  | none => False
def b_invF (idx : Nat) (X : XT) (V : VT) (M : MI) (pc : Nat) (L : List (Option Value)) (st : List Value) (h : HP) (c : Nat) (Q : RR → HP → Prop) : Prop := match AN (mO M) idx with
  | some n => match spl n [] st with
    | some (as, .ref b :: rest) => match h b with
      | some (_, .inl (ci, _)) => match IF (mO M) idx ci with
        | some (M', n') => n' = n ∧ LV M M' ∧ cat8 rest ∧ CallC X M' (.ref b :: as) h c (vcK V M pc 5 L rest Q)
        | none => False
      | _ => False
    | _ => False
  | none => False
def vB10 (X : XT) (V : VT) (r : Except DecodeError (Instr × Nat)) (M : MI) (pc : Nat) (L : List (Option Value)) (st : List Value) (h : HP) (c : Nat) (Q : RR → HP → Prop) : Prop := match r with
  | .ok (.invokestatic idx, 3) => b_invS idx X V M pc L st h c Q
  | .ok (.invokespecial idx, 3) => b_invI idx X V M pc L st h c Q
  | .ok (.invokevirtual idx, 3) => b_invV idx X V M pc L st h c Q
  | .ok (.invokeinterface idx ct, 5) => b_invF idx X V M pc L st h c Q
  | r => False
def vB9 (X : XT) (V : VT) (r : Except DecodeError (Instr × Nat)) (M : MI) (pc : Nat) (L : List (Option Value)) (st : List Value) (h : HP) (c : Nat) (Q : RR → HP → Prop) : Prop := match r with
  | .ok (.newarray .int, 2) => b_newa_i X V M pc L st h c Q
  | .ok (.newarray .byte, 2) => b_newa_b X V M pc L st h c Q
  | .ok (.newarray .char, 2) => b_newa_c X V M pc L st h c Q
  | .ok (.newarray .long, 2) => b_newa_l X V M pc L st h c Q
  | .ok (.newarray .double, 2) => b_newa_d X V M pc L st h c Q
  | .ok (.anewarray idx, 3) => b_anew idx X V M pc L st h c Q
  | .ok (.new idx, 3) => b_new idx X V M pc L st h c Q
  | .ok (.ldc idx, 2) => b_ldc idx X V M pc L st h c Q
  | .ok (.ldc_w idx, 3) => b_ldcw idx X V M pc L st h c Q
  | .ok (.checkcast idx, 3) => b_cast idx X V M pc L st h c Q
  | .ok (.instanceof idx, 3) => b_inst idx X V M pc L st h c Q
  | .ok (.athrow, 1) => b_athrow X V M pc L st h c Q
  | r => vB10 X V r M pc L st h c Q
def vB8 (X : XT) (V : VT) (r : Except DecodeError (Instr × Nat)) (M : MI) (pc : Nat) (L : List (Option Value)) (st : List Value) (h : HP) (c : Nat) (Q : RR → HP → Prop) : Prop := match r with
  | .ok (.iaload, 1) => b_iaload X V M pc L st h c Q
  | .ok (.baload, 1) => b_baload X V M pc L st h c Q
  | .ok (.caload, 1) => b_caload X V M pc L st h c Q
  | .ok (.laload, 1) => b_laload X V M pc L st h c Q
  | .ok (.daload, 1) => b_daload X V M pc L st h c Q
  | .ok (.aaload, 1) => b_aaload X V M pc L st h c Q
  | .ok (.iastore, 1) => b_iastore X V M pc L st h c Q
  | .ok (.bastore, 1) => b_bastore X V M pc L st h c Q
  | .ok (.castore, 1) => b_castore X V M pc L st h c Q
  | .ok (.lastore, 1) => b_lastore X V M pc L st h c Q
  | .ok (.dastore, 1) => b_dastore X V M pc L st h c Q
  | .ok (.aastore, 1) => b_aastore X V M pc L st h c Q
  | .ok (.arraylength, 1) => b_alen X V M pc L st h c Q
  | r => vB9 X V r M pc L st h c Q
def vB7 (X : XT) (V : VT) (r : Except DecodeError (Instr × Nat)) (M : MI) (pc : Nat) (L : List (Option Value)) (st : List Value) (h : HP) (c : Nat) (Q : RR → HP → Prop) : Prop := match r with
  | .ok (.ireturn, 1) => b_ireturn X V M pc L st h c Q
  | .ok (.return_, 1) => b_return X V M pc L st h c Q
  | .ok (.areturn, 1) => b_areturn X V M pc L st h c Q
  | .ok (.dreturn, 1) => b_dreturn X V M pc L st h c Q
  | .ok (.freturn, 1) => b_freturn X V M pc L st h c Q
  | .ok (.getfield idx, 3) => b_getf idx X V M pc L st h c Q
  | .ok (.putfield idx, 3) => b_putf idx X V M pc L st h c Q
  | .ok (.getstatic idx, 3) => b_gets idx X V M pc L st h c Q
  | r => vB8 X V r M pc L st h c Q
def vB6 (X : XT) (V : VT) (r : Except DecodeError (Instr × Nat)) (M : MI) (pc : Nat) (L : List (Option Value)) (st : List Value) (h : HP) (c : Nat) (Q : RR → HP → Prop) : Prop := match r with
  | .ok (.ifnull off, 3) => b_ifnull off X V M pc L st h c Q
  | .ok (.ifnonnull off, 3) => b_ifnonnull off X V M pc L st h c Q
  | .ok (.if_acmp .eq off, 3) => b_acmp_eq off X V M pc L st h c Q
  | .ok (.if_acmp .ne off, 3) => b_acmp_ne off X V M pc L st h c Q
  | .ok (.lookupswitch dflt ps, _) => b_lookup dflt ps X V M pc L st h c Q
  | .ok (.tableswitch dflt lo hi offs, _) => b_tswitch dflt lo hi offs X V M pc L st h c Q
  | r => vB7 X V r M pc L st h c Q
def vB5 (X : XT) (V : VT) (r : Except DecodeError (Instr × Nat)) (M : MI) (pc : Nat) (L : List (Option Value)) (st : List Value) (h : HP) (c : Nat) (Q : RR → HP → Prop) : Prop := match r with
  | .ok (.ifCond .eq off, 3) => b_if_eq off X V M pc L st h c Q
  | .ok (.if_icmp .eq off, 3) => b_icmp_eq off X V M pc L st h c Q
  | .ok (.ifCond .ne off, 3) => b_if_ne off X V M pc L st h c Q
  | .ok (.if_icmp .ne off, 3) => b_icmp_ne off X V M pc L st h c Q
  | .ok (.ifCond .lt off, 3) => b_if_lt off X V M pc L st h c Q
  | .ok (.if_icmp .lt off, 3) => b_icmp_lt off X V M pc L st h c Q
  | .ok (.ifCond .ge off, 3) => b_if_ge off X V M pc L st h c Q
  | .ok (.if_icmp .ge off, 3) => b_icmp_ge off X V M pc L st h c Q
  | .ok (.ifCond .gt off, 3) => b_if_gt off X V M pc L st h c Q
  | .ok (.if_icmp .gt off, 3) => b_icmp_gt off X V M pc L st h c Q
  | .ok (.ifCond .le off, 3) => b_if_le off X V M pc L st h c Q
  | .ok (.if_icmp .le off, 3) => b_icmp_le off X V M pc L st h c Q
  | .ok (.goto off, 3) => b_goto off X V M pc L st h c Q
  | r => vB6 X V r M pc L st h c Q
def vB4 (X : XT) (V : VT) (r : Except DecodeError (Instr × Nat)) (M : MI) (pc : Nat) (L : List (Option Value)) (st : List Value) (h : HP) (c : Nat) (Q : RR → HP → Prop) : Prop := match r with
  | .ok (.f2d, 1) => b_f2d  X V M pc L st h c Q
  | .ok (.ddiv, 1) => b_ddiv  X V M pc L st h c Q
  | .ok (.fdiv, 1) => b_fdiv  X V M pc L st h c Q
  | .ok (.lcmp, 1) => b_lcmp  X V M pc L st h c Q
  | .ok (.dcmp op, 1) => b_dcmp op X V M pc L st h c Q
  | .ok (.fcmp op, 1) => b_fcmp op X V M pc L st h c Q
  | .ok (.dup, 1) => b_dup  X V M pc L st h c Q
  | .ok (.pop, 1) => b_pop  X V M pc L st h c Q
  | .ok (.dup_x1, 1) => b_dup_x1  X V M pc L st h c Q
  | .ok (.dup_x2, 1) => b_dup_x2  X V M pc L st h c Q
  | .ok (.dup2, 1) => b_dup2  X V M pc L st h c Q
  | r => vB5 X V r M pc L st h c Q
def vB3 (X : XT) (V : VT) (r : Except DecodeError (Instr × Nat)) (M : MI) (pc : Nat) (L : List (Option Value)) (st : List Value) (h : HP) (c : Nat) (Q : RR → HP → Prop) : Prop := match r with
  | .ok (.iadd, 1) => b_iadd  X V M pc L st h c Q
  | .ok (.isub, 1) => b_isub  X V M pc L st h c Q
  | .ok (.imul, 1) => b_imul  X V M pc L st h c Q
  | .ok (.iand, 1) => b_iand  X V M pc L st h c Q
  | .ok (.ior, 1) => b_ior  X V M pc L st h c Q
  | .ok (.ixor, 1) => b_ixor  X V M pc L st h c Q
  | .ok (.idiv, 1) => b_idiv  X V M pc L st h c Q
  | .ok (.irem, 1) => b_irem  X V M pc L st h c Q
  | .ok (.ineg, 1) => b_ineg  X V M pc L st h c Q
  | .ok (.ishl, 1) => b_ishl  X V M pc L st h c Q
  | .ok (.ishr, 1) => b_ishr  X V M pc L st h c Q
  | .ok (.iushr, 1) => b_iushr  X V M pc L st h c Q
  | .ok (.i2l, 1) => b_i2l  X V M pc L st h c Q
  | .ok (.i2b, 1) => b_i2b  X V M pc L st h c Q
  | .ok (.i2c, 1) => b_i2c  X V M pc L st h c Q
  | .ok (.i2d, 1) => b_i2d  X V M pc L st h c Q
  | .ok (.i2f, 1) => b_i2f  X V M pc L st h c Q
  | r => vB4 X V r M pc L st h c Q
def vB2 (X : XT) (V : VT) (r : Except DecodeError (Instr × Nat)) (M : MI) (pc : Nat) (L : List (Option Value)) (st : List Value) (h : HP) (c : Nat) (Q : RR → HP → Prop) : Prop := match r with
  | .ok (.istore_n k, 1) => b_istore k.val 1 X V M pc L st h c Q
  | .ok (.istore i, 2) => b_istore i 2 X V M pc L st h c Q
  | .ok (.fstore i, 2) => b_fstore i 2 X V M pc L st h c Q
  | .ok (.dstore i, 2) => b_dstore i X V M pc L st h c Q
  | .ok (.astore_n k, 1) => b_astore k.val 1 X V M pc L st h c Q
  | .ok (.astore i, 2) => b_astore i 2 X V M pc L st h c Q
  | .ok (.iinc i n, 3) => b_iinc i n X V M pc L st h c Q
  | r => vB3 X V r M pc L st h c Q
def vB1 (X : XT) (V : VT) (r : Except DecodeError (Instr × Nat)) (M : MI) (pc : Nat) (L : List (Option Value)) (st : List Value) (h : HP) (c : Nat) (Q : RR → HP → Prop) : Prop := match r with
  | .ok (.iconst n, 1) => b_iconst n X V M pc L st h c Q
  | .ok (.bipush n, 2) => b_bipush n X V M pc L st h c Q
  | .ok (.sipush n, 3) => b_sipush n X V M pc L st h c Q
  | .ok (.aconst_null, 1) => b_null  X V M pc L st h c Q
  | .ok (.iload_n k, 1) => b_iload k.val 1 X V M pc L st h c Q
  | .ok (.iload i, 2) => b_iload i 2 X V M pc L st h c Q
  | .ok (.dload i, 2) => b_dload i 2 X V M pc L st h c Q
  | .ok (.fload i, 2) => b_fload i 2 X V M pc L st h c Q
  | .ok (.aload_n k, 1) => b_aload k.val 1 X V M pc L st h c Q
  | .ok (.aload i, 2) => b_aload i 2 X V M pc L st h c Q
  | r => vB2 X V r M pc L st h c Q
def vcB (X : XT) (V : VT) (r : Except DecodeError (Instr × Nat)) (M : MI) (pc : Nat) (L : List (Option Value)) (st : List Value) (h : HP) (c : Nat) (Q : RR → HP → Prop) : Prop := vB1 X V r M pc L st h c Q
def vc (X : XT) : Nat → VT
  | 0, M, pc, L, st, h, c, Q => J (mkG X) M pc L st h c Q
  | n + 1, M, pc, L, st, h, c, Q => vcB X (vc X n) (DC M pc) M pc L st h c Q
theorem vc_s (X : XT) (n : Nat) (M : MI) (pc : Nat) (L : List (Option Value)) (st : List Value) (h : HP) (c : Nat) (Q : RR → HP → Prop) : vc X (n + 1) M pc L st h c Q = vcB X (vc X n) (DC M pc) M pc L st h c Q := rfl
theorem vc_0 (X : XT) (M : MI) (pc : Nat) (L : List (Option Value)) (st : List Value) (h : HP) (c : Nat) (Q : RR → HP → Prop) : vc X 0 M pc L st h c Q = J (mkG X) M pc L st h c Q := rfl
/-- a method whose class has its number -/
def MG (M : MI) : Prop := (mY M).cls = cn (mO M)

theorem w_iconst (X : XT) (V : VT) (M : MI) (pc : Nat) (L : List (Option Value)) (st : List Value) (h : HP) (c : Nat) (Q : RR → HP → Prop) (n : Int) : vcB X V (.ok (.iconst n, 1)) M pc L (st) h c Q = (V M (pc + 1) L (.int (Int32.ofInt n) :: st) h c Q) := rfl
theorem w_bipush (X : XT) (V : VT) (M : MI) (pc : Nat) (L : List (Option Value)) (st : List Value) (h : HP) (c : Nat) (Q : RR → HP → Prop) (n : Int) : vcB X V (.ok (.bipush n, 2)) M pc L (st) h c Q = (V M (pc + 2) L (.int (Int8.ofInt n).toInt32 :: st) h c Q) := rfl
theorem w_sipush (X : XT) (V : VT) (M : MI) (pc : Nat) (L : List (Option Value)) (st : List Value) (h : HP) (c : Nat) (Q : RR → HP → Prop) (n : Int) : vcB X V (.ok (.sipush n, 3)) M pc L (st) h c Q = (V M (pc + 3) L (.int (Int16.ofInt n).toInt32 :: st) h c Q) := rfl
theorem w_null (X : XT) (V : VT) (M : MI) (pc : Nat) (L : List (Option Value)) (st : List Value) (h : HP) (c : Nat) (Q : RR → HP → Prop)  : vcB X V (.ok (.aconst_null, 1)) M pc L (st) h c Q = (V M (pc + 1) L (.null :: st) h c Q) := rfl
theorem w_iload_0 (X : XT) (V : VT) (M : MI) (pc : Nat) (L : List (Option Value)) (st : List Value) (h : HP) (c : Nat) (Q : RR → HP → Prop) : vcB X V (.ok (.iload_n 0, 1)) M pc L st h c Q = b_iload 0 1 X V M pc L st h c Q := rfl
theorem w_iload_1 (X : XT) (V : VT) (M : MI) (pc : Nat) (L : List (Option Value)) (st : List Value) (h : HP) (c : Nat) (Q : RR → HP → Prop) : vcB X V (.ok (.iload_n 1, 1)) M pc L st h c Q = b_iload 1 1 X V M pc L st h c Q := rfl
theorem w_iload_2 (X : XT) (V : VT) (M : MI) (pc : Nat) (L : List (Option Value)) (st : List Value) (h : HP) (c : Nat) (Q : RR → HP → Prop) : vcB X V (.ok (.iload_n 2, 1)) M pc L st h c Q = b_iload 2 1 X V M pc L st h c Q := rfl
theorem w_iload_3 (X : XT) (V : VT) (M : MI) (pc : Nat) (L : List (Option Value)) (st : List Value) (h : HP) (c : Nat) (Q : RR → HP → Prop) : vcB X V (.ok (.iload_n 3, 1)) M pc L st h c Q = b_iload 3 1 X V M pc L st h c Q := rfl
theorem w_iload (X : XT) (V : VT) (M : MI) (pc : Nat) (L : List (Option Value)) (st : List Value) (h : HP) (c : Nat) (Q : RR → HP → Prop) (i : Nat) : vcB X V (.ok (.iload i, 2)) M pc L st h c Q = b_iload i 2 X V M pc L st h c Q := rfl
theorem w_dload (X : XT) (V : VT) (M : MI) (pc : Nat) (L : List (Option Value)) (st : List Value) (h : HP) (c : Nat) (Q : RR → HP → Prop) (i : Nat) : vcB X V (.ok (.dload i, 2)) M pc L st h c Q = b_dload i 2 X V M pc L st h c Q := rfl
theorem w_fload (X : XT) (V : VT) (M : MI) (pc : Nat) (L : List (Option Value)) (st : List Value) (h : HP) (c : Nat) (Q : RR → HP → Prop) (i : Nat) : vcB X V (.ok (.fload i, 2)) M pc L st h c Q = b_fload i 2 X V M pc L st h c Q := rfl
theorem w_aload_0 (X : XT) (V : VT) (M : MI) (pc : Nat) (L : List (Option Value)) (st : List Value) (h : HP) (c : Nat) (Q : RR → HP → Prop) : vcB X V (.ok (.aload_n 0, 1)) M pc L st h c Q = b_aload 0 1 X V M pc L st h c Q := rfl
theorem w_aload_1 (X : XT) (V : VT) (M : MI) (pc : Nat) (L : List (Option Value)) (st : List Value) (h : HP) (c : Nat) (Q : RR → HP → Prop) : vcB X V (.ok (.aload_n 1, 1)) M pc L st h c Q = b_aload 1 1 X V M pc L st h c Q := rfl
theorem w_aload_2 (X : XT) (V : VT) (M : MI) (pc : Nat) (L : List (Option Value)) (st : List Value) (h : HP) (c : Nat) (Q : RR → HP → Prop) : vcB X V (.ok (.aload_n 2, 1)) M pc L st h c Q = b_aload 2 1 X V M pc L st h c Q := rfl
theorem w_aload_3 (X : XT) (V : VT) (M : MI) (pc : Nat) (L : List (Option Value)) (st : List Value) (h : HP) (c : Nat) (Q : RR → HP → Prop) : vcB X V (.ok (.aload_n 3, 1)) M pc L st h c Q = b_aload 3 1 X V M pc L st h c Q := rfl
theorem w_aload (X : XT) (V : VT) (M : MI) (pc : Nat) (L : List (Option Value)) (st : List Value) (h : HP) (c : Nat) (Q : RR → HP → Prop) (i : Nat) : vcB X V (.ok (.aload i, 2)) M pc L st h c Q = b_aload i 2 X V M pc L st h c Q := rfl
theorem w_istore_0 (X : XT) (V : VT) (M : MI) (pc : Nat) (L : List (Option Value)) (st : List Value) (h : HP) (c : Nat) (Q : RR → HP → Prop) (x : Int32) : vcB X V (.ok (.istore_n 0, 1)) M pc L (.int x :: st) h c Q = (0 < mL M ∧ V M (pc + 1) (lst L 0 (.int x)) st h c Q) := rfl
theorem w_istore_1 (X : XT) (V : VT) (M : MI) (pc : Nat) (L : List (Option Value)) (st : List Value) (h : HP) (c : Nat) (Q : RR → HP → Prop) (x : Int32) : vcB X V (.ok (.istore_n 1, 1)) M pc L (.int x :: st) h c Q = (1 < mL M ∧ V M (pc + 1) (lst L 1 (.int x)) st h c Q) := rfl
theorem w_istore_2 (X : XT) (V : VT) (M : MI) (pc : Nat) (L : List (Option Value)) (st : List Value) (h : HP) (c : Nat) (Q : RR → HP → Prop) (x : Int32) : vcB X V (.ok (.istore_n 2, 1)) M pc L (.int x :: st) h c Q = (2 < mL M ∧ V M (pc + 1) (lst L 2 (.int x)) st h c Q) := rfl
theorem w_istore_3 (X : XT) (V : VT) (M : MI) (pc : Nat) (L : List (Option Value)) (st : List Value) (h : HP) (c : Nat) (Q : RR → HP → Prop) (x : Int32) : vcB X V (.ok (.istore_n 3, 1)) M pc L (.int x :: st) h c Q = (3 < mL M ∧ V M (pc + 1) (lst L 3 (.int x)) st h c Q) := rfl
theorem w_istore (X : XT) (V : VT) (M : MI) (pc : Nat) (L : List (Option Value)) (st : List Value) (h : HP) (c : Nat) (Q : RR → HP → Prop) (i : Nat) (x : Int32) : vcB X V (.ok (.istore i, 2)) M pc L (.int x :: st) h c Q = (i < mL M ∧ V M (pc + 2) (lst L i (.int x)) st h c Q) := rfl
theorem w_fstore (X : XT) (V : VT) (M : MI) (pc : Nat) (L : List (Option Value)) (st : List Value) (h : HP) (c : Nat) (Q : RR → HP → Prop) (i : Nat) (x : UInt32) : vcB X V (.ok (.fstore i, 2)) M pc L (.float x :: st) h c Q = (i < mL M ∧ V M (pc + 2) (lst L i (.float x)) st h c Q) := rfl
theorem w_dstore (X : XT) (V : VT) (M : MI) (pc : Nat) (L : List (Option Value)) (st : List Value) (h : HP) (c : Nat) (Q : RR → HP → Prop) (i : Nat) (x : UInt64) : vcB X V (.ok (.dstore i, 2)) M pc L (.double x :: st) h c Q = (i + 1 < mL M ∧ V M (pc + 2) (lcl (lst L i (.double x)) (i + 1)) st h c Q) := rfl
theorem w_astore_0 (X : XT) (V : VT) (M : MI) (pc : Nat) (L : List (Option Value)) (st : List Value) (h : HP) (c : Nat) (Q : RR → HP → Prop) (v : Value) : vcB X V (.ok (.astore_n 0, 1)) M pc L (v :: st) h c Q = (0 < mL M ∧ isRv v ∧ V M (pc + 1) (lst L 0 v) st h c Q) := rfl
theorem w_astore_1 (X : XT) (V : VT) (M : MI) (pc : Nat) (L : List (Option Value)) (st : List Value) (h : HP) (c : Nat) (Q : RR → HP → Prop) (v : Value) : vcB X V (.ok (.astore_n 1, 1)) M pc L (v :: st) h c Q = (1 < mL M ∧ isRv v ∧ V M (pc + 1) (lst L 1 v) st h c Q) := rfl
theorem w_astore_2 (X : XT) (V : VT) (M : MI) (pc : Nat) (L : List (Option Value)) (st : List Value) (h : HP) (c : Nat) (Q : RR → HP → Prop) (v : Value) : vcB X V (.ok (.astore_n 2, 1)) M pc L (v :: st) h c Q = (2 < mL M ∧ isRv v ∧ V M (pc + 1) (lst L 2 v) st h c Q) := rfl
theorem w_astore_3 (X : XT) (V : VT) (M : MI) (pc : Nat) (L : List (Option Value)) (st : List Value) (h : HP) (c : Nat) (Q : RR → HP → Prop) (v : Value) : vcB X V (.ok (.astore_n 3, 1)) M pc L (v :: st) h c Q = (3 < mL M ∧ isRv v ∧ V M (pc + 1) (lst L 3 v) st h c Q) := rfl
theorem w_astore (X : XT) (V : VT) (M : MI) (pc : Nat) (L : List (Option Value)) (st : List Value) (h : HP) (c : Nat) (Q : RR → HP → Prop) (i : Nat) (v : Value) : vcB X V (.ok (.astore i, 2)) M pc L (v :: st) h c Q = (i < mL M ∧ isRv v ∧ V M (pc + 2) (lst L i v) st h c Q) := rfl
theorem w_iinc (X : XT) (V : VT) (M : MI) (pc : Nat) (L : List (Option Value)) (st : List Value) (h : HP) (c : Nat) (Q : RR → HP → Prop) (i : Nat) (n : Int) : vcB X V (.ok (.iinc i n, 3)) M pc L st h c Q = b_iinc i n X V M pc L st h c Q := rfl
theorem w_iadd (X : XT) (V : VT) (M : MI) (pc : Nat) (L : List (Option Value)) (st : List Value) (h : HP) (c : Nat) (Q : RR → HP → Prop) (x y : Int32) : vcB X V (.ok (.iadd, 1)) M pc L (.int y :: .int x :: st) h c Q = (V M (pc + 1) L (.int (x + y) :: st) h c Q) := rfl
theorem w_isub (X : XT) (V : VT) (M : MI) (pc : Nat) (L : List (Option Value)) (st : List Value) (h : HP) (c : Nat) (Q : RR → HP → Prop) (x y : Int32) : vcB X V (.ok (.isub, 1)) M pc L (.int y :: .int x :: st) h c Q = (V M (pc + 1) L (.int (x - y) :: st) h c Q) := rfl
theorem w_imul (X : XT) (V : VT) (M : MI) (pc : Nat) (L : List (Option Value)) (st : List Value) (h : HP) (c : Nat) (Q : RR → HP → Prop) (x y : Int32) : vcB X V (.ok (.imul, 1)) M pc L (.int y :: .int x :: st) h c Q = (V M (pc + 1) L (.int (x * y) :: st) h c Q) := rfl
theorem w_iand (X : XT) (V : VT) (M : MI) (pc : Nat) (L : List (Option Value)) (st : List Value) (h : HP) (c : Nat) (Q : RR → HP → Prop) (x y : Int32) : vcB X V (.ok (.iand, 1)) M pc L (.int y :: .int x :: st) h c Q = (V M (pc + 1) L (.int (x &&& y) :: st) h c Q) := rfl
theorem w_ior (X : XT) (V : VT) (M : MI) (pc : Nat) (L : List (Option Value)) (st : List Value) (h : HP) (c : Nat) (Q : RR → HP → Prop) (x y : Int32) : vcB X V (.ok (.ior, 1)) M pc L (.int y :: .int x :: st) h c Q = (V M (pc + 1) L (.int (x ||| y) :: st) h c Q) := rfl
theorem w_ixor (X : XT) (V : VT) (M : MI) (pc : Nat) (L : List (Option Value)) (st : List Value) (h : HP) (c : Nat) (Q : RR → HP → Prop) (x y : Int32) : vcB X V (.ok (.ixor, 1)) M pc L (.int y :: .int x :: st) h c Q = (V M (pc + 1) L (.int (x ^^^ y) :: st) h c Q) := rfl
theorem w_idiv (X : XT) (V : VT) (M : MI) (pc : Nat) (L : List (Option Value)) (st : List Value) (h : HP) (c : Nat) (Q : RR → HP → Prop) (x y : Int32) : vcB X V (.ok (.idiv, 1)) M pc L (.int y :: .int x :: st) h c Q = ((¬ y = 0) ∧ V M (pc + 1) L (.int (x / y) :: st) h c Q) := rfl
theorem w_irem (X : XT) (V : VT) (M : MI) (pc : Nat) (L : List (Option Value)) (st : List Value) (h : HP) (c : Nat) (Q : RR → HP → Prop) (x y : Int32) : vcB X V (.ok (.irem, 1)) M pc L (.int y :: .int x :: st) h c Q = ((¬ y = 0) ∧ V M (pc + 1) L (.int (x - x / y * y) :: st) h c Q) := rfl
theorem w_ineg (X : XT) (V : VT) (M : MI) (pc : Nat) (L : List (Option Value)) (st : List Value) (h : HP) (c : Nat) (Q : RR → HP → Prop) (x : Int32) : vcB X V (.ok (.ineg, 1)) M pc L (.int x :: st) h c Q = (V M (pc + 1) L (.int (-x) :: st) h c Q) := rfl
theorem w_ishl (X : XT) (V : VT) (M : MI) (pc : Nat) (L : List (Option Value)) (st : List Value) (h : HP) (c : Nat) (Q : RR → HP → Prop) (x y : Int32) : vcB X V (.ok (.ishl, 1)) M pc L (.int y :: .int x :: st) h c Q = (V M (pc + 1) L (.int (x <<< (y &&& 31)) :: st) h c Q) := rfl
theorem w_ishr (X : XT) (V : VT) (M : MI) (pc : Nat) (L : List (Option Value)) (st : List Value) (h : HP) (c : Nat) (Q : RR → HP → Prop) (x y : Int32) : vcB X V (.ok (.ishr, 1)) M pc L (.int y :: .int x :: st) h c Q = (V M (pc + 1) L (.int (x >>> (y &&& 31)) :: st) h c Q) := rfl
theorem w_iushr (X : XT) (V : VT) (M : MI) (pc : Nat) (L : List (Option Value)) (st : List Value) (h : HP) (c : Nat) (Q : RR → HP → Prop) (x y : Int32) : vcB X V (.ok (.iushr, 1)) M pc L (.int y :: .int x :: st) h c Q = (V M (pc + 1) L (.int (x.toUInt32 >>> (y.toUInt32 &&& Int32.toUInt32 31)).toInt32 :: st) h c Q) := rfl
theorem w_i2l (X : XT) (V : VT) (M : MI) (pc : Nat) (L : List (Option Value)) (st : List Value) (h : HP) (c : Nat) (Q : RR → HP → Prop) (x : Int32) : vcB X V (.ok (.i2l, 1)) M pc L (.int x :: st) h c Q = (V M (pc + 1) L (.long x.toInt64 :: st) h c Q) := rfl
theorem w_i2b (X : XT) (V : VT) (M : MI) (pc : Nat) (L : List (Option Value)) (st : List Value) (h : HP) (c : Nat) (Q : RR → HP → Prop) (x : Int32) : vcB X V (.ok (.i2b, 1)) M pc L (.int x :: st) h c Q = (V M (pc + 1) L (.int x.toInt8.toInt32 :: st) h c Q) := rfl
theorem w_i2c (X : XT) (V : VT) (M : MI) (pc : Nat) (L : List (Option Value)) (st : List Value) (h : HP) (c : Nat) (Q : RR → HP → Prop) (x : Int32) : vcB X V (.ok (.i2c, 1)) M pc L (.int x :: st) h c Q = (V M (pc + 1) L (.int (x.toUInt32 % 65536).toInt32 :: st) h c Q) := rfl
theorem w_i2d (X : XT) (V : VT) (M : MI) (pc : Nat) (L : List (Option Value)) (st : List Value) (h : HP) (c : Nat) (Q : RR → HP → Prop) (x : Int32) : vcB X V (.ok (.i2d, 1)) M pc L (.int x :: st) h c Q = (V M (pc + 1) L (.double (FP.i2d x) :: st) h c Q) := rfl
theorem w_i2f (X : XT) (V : VT) (M : MI) (pc : Nat) (L : List (Option Value)) (st : List Value) (h : HP) (c : Nat) (Q : RR → HP → Prop) (x : Int32) : vcB X V (.ok (.i2f, 1)) M pc L (.int x :: st) h c Q = (V M (pc + 1) L (.float (FP.i2f x) :: st) h c Q) := rfl
theorem w_f2d (X : XT) (V : VT) (M : MI) (pc : Nat) (L : List (Option Value)) (st : List Value) (h : HP) (c : Nat) (Q : RR → HP → Prop) (x : UInt32) : vcB X V (.ok (.f2d, 1)) M pc L (.float x :: st) h c Q = (vf_n64 (FP.f2d x) ∧ V M (pc + 1) L (.double (FP.f2d x) :: st) h c Q) := rfl
theorem w_ddiv (X : XT) (V : VT) (M : MI) (pc : Nat) (L : List (Option Value)) (st : List Value) (h : HP) (c : Nat) (Q : RR → HP → Prop) (x y : UInt64) : vcB X V (.ok (.ddiv, 1)) M pc L (.double y :: .double x :: st) h c Q = (vf_n64 (FP.ddiv x y) ∧ V M (pc + 1) L (.double (FP.ddiv x y) :: st) h c Q) := rfl
theorem w_fdiv (X : XT) (V : VT) (M : MI) (pc : Nat) (L : List (Option Value)) (st : List Value) (h : HP) (c : Nat) (Q : RR → HP → Prop) (x y : UInt32) : vcB X V (.ok (.fdiv, 1)) M pc L (.float y :: .float x :: st) h c Q = (vf_n32 (FP.fdiv x y) ∧ V M (pc + 1) L (.float (FP.fdiv x y) :: st) h c Q) := rfl
theorem w_lcmp (X : XT) (V : VT) (M : MI) (pc : Nat) (L : List (Option Value)) (st : List Value) (h : HP) (c : Nat) (Q : RR → HP → Prop) (x y : Int64) : vcB X V (.ok (.lcmp, 1)) M pc L (.long y :: .long x :: st) h c Q = (V M (pc + 1) L (.int (lg_cmp x y) :: st) h c Q) := rfl
theorem w_dcmp (X : XT) (V : VT) (M : MI) (pc : Nat) (L : List (Option Value)) (st : List Value) (h : HP) (c : Nat) (Q : RR → HP → Prop) (x y : UInt64) (op : CmpOp) : vcB X V (.ok (.dcmp op, 1)) M pc L (.double y :: .double x :: st) h c Q = (V M (pc + 1) L (.int (Op.cmpValue (FP.dcmp x y) op) :: st) h c Q) := rfl
theorem w_fcmp (X : XT) (V : VT) (M : MI) (pc : Nat) (L : List (Option Value)) (st : List Value) (h : HP) (c : Nat) (Q : RR → HP → Prop) (x y : UInt32) (op : CmpOp) : vcB X V (.ok (.fcmp op, 1)) M pc L (.float y :: .float x :: st) h c Q = (V M (pc + 1) L (.int (Op.cmpValue (FP.fcmp x y) op) :: st) h c Q) := rfl
theorem w_dup (X : XT) (V : VT) (M : MI) (pc : Nat) (L : List (Option Value)) (st : List Value) (h : HP) (c : Nat) (Q : RR → HP → Prop) (a : Value) : vcB X V (.ok (.dup, 1)) M pc L (a :: st) h c Q = (a.category = 1 ∧ V M (pc + 1) L (a :: a :: st) h c Q) := rfl
theorem w_pop (X : XT) (V : VT) (M : MI) (pc : Nat) (L : List (Option Value)) (st : List Value) (h : HP) (c : Nat) (Q : RR → HP → Prop) (a : Value) : vcB X V (.ok (.pop, 1)) M pc L (a :: st) h c Q = (a.category = 1 ∧ V M (pc + 1) L (st) h c Q) := rfl
theorem w_dup_x1 (X : XT) (V : VT) (M : MI) (pc : Nat) (L : List (Option Value)) (st : List Value) (h : HP) (c : Nat) (Q : RR → HP → Prop) (a b : Value) : vcB X V (.ok (.dup_x1, 1)) M pc L (a :: b :: st) h c Q = ((a.category = 1 ∧ b.category = 1) ∧ V M (pc + 1) L (a :: b :: a :: st) h c Q) := rfl
theorem w_dup_x2 (X : XT) (V : VT) (M : MI) (pc : Nat) (L : List (Option Value)) (st : List Value) (h : HP) (c : Nat) (Q : RR → HP → Prop) (a b w : Value) : vcB X V (.ok (.dup_x2, 1)) M pc L (a :: b :: w :: st) h c Q = ((a.category = 1 ∧ b.category = 1 ∧ w.category = 1) ∧ V M (pc + 1) L (a :: b :: w :: a :: st) h c Q) := rfl
theorem w_dup2 (X : XT) (V : VT) (M : MI) (pc : Nat) (L : List (Option Value)) (st : List Value) (h : HP) (c : Nat) (Q : RR → HP → Prop) (a b : Value) : vcB X V (.ok (.dup2, 1)) M pc L (a :: b :: st) h c Q = ((a.category = 1 ∧ b.category = 1) ∧ V M (pc + 1) L (a :: b :: a :: b :: st) h c Q) := rfl
theorem w_if_eq (X : XT) (V : VT) (M : MI) (pc : Nat) (L : List (Option Value)) (st : List Value) (h : HP) (c : Nat) (Q : RR → HP → Prop) (off : Int) (x : Int32) : vcB X V (.ok (.ifCond .eq off, 3)) M pc L (.int x :: st) h c Q = (jok pc off ∧ (x = 0 → jmp X V M pc (tgt pc off) L st h c Q) ∧ (¬ x = 0 → V M (pc + 3) L st h c Q)) := rfl
theorem w_icmp_eq (X : XT) (V : VT) (M : MI) (pc : Nat) (L : List (Option Value)) (st : List Value) (h : HP) (c : Nat) (Q : RR → HP → Prop) (off : Int) (x y : Int32) : vcB X V (.ok (.if_icmp .eq off, 3)) M pc L (.int y :: .int x :: st) h c Q = (jok pc off ∧ (x = y → jmp X V M pc (tgt pc off) L st h c Q) ∧ (¬ x = y → V M (pc + 3) L st h c Q)) := rfl
theorem w_if_ne (X : XT) (V : VT) (M : MI) (pc : Nat) (L : List (Option Value)) (st : List Value) (h : HP) (c : Nat) (Q : RR → HP → Prop) (off : Int) (x : Int32) : vcB X V (.ok (.ifCond .ne off, 3)) M pc L (.int x :: st) h c Q = (jok pc off ∧ (¬ x = 0 → jmp X V M pc (tgt pc off) L st h c Q) ∧ (x = 0 → V M (pc + 3) L st h c Q)) := rfl
theorem w_icmp_ne (X : XT) (V : VT) (M : MI) (pc : Nat) (L : List (Option Value)) (st : List Value) (h : HP) (c : Nat) (Q : RR → HP → Prop) (off : Int) (x y : Int32) : vcB X V (.ok (.if_icmp .ne off, 3)) M pc L (.int y :: .int x :: st) h c Q = (jok pc off ∧ (¬ x = y → jmp X V M pc (tgt pc off) L st h c Q) ∧ (x = y → V M (pc + 3) L st h c Q)) := rfl
theorem w_if_lt (X : XT) (V : VT) (M : MI) (pc : Nat) (L : List (Option Value)) (st : List Value) (h : HP) (c : Nat) (Q : RR → HP → Prop) (off : Int) (x : Int32) : vcB X V (.ok (.ifCond .lt off, 3)) M pc L (.int x :: st) h c Q = (jok pc off ∧ (x < 0 → jmp X V M pc (tgt pc off) L st h c Q) ∧ (¬ x < 0 → V M (pc + 3) L st h c Q)) := rfl
theorem w_icmp_lt (X : XT) (V : VT) (M : MI) (pc : Nat) (L : List (Option Value)) (st : List Value) (h : HP) (c : Nat) (Q : RR → HP → Prop) (off : Int) (x y : Int32) : vcB X V (.ok (.if_icmp .lt off, 3)) M pc L (.int y :: .int x :: st) h c Q = (jok pc off ∧ (x < y → jmp X V M pc (tgt pc off) L st h c Q) ∧ (¬ x < y → V M (pc + 3) L st h c Q)) := rfl
theorem w_if_ge (X : XT) (V : VT) (M : MI) (pc : Nat) (L : List (Option Value)) (st : List Value) (h : HP) (c : Nat) (Q : RR → HP → Prop) (off : Int) (x : Int32) : vcB X V (.ok (.ifCond .ge off, 3)) M pc L (.int x :: st) h c Q = (jok pc off ∧ (0 ≤ x → jmp X V M pc (tgt pc off) L st h c Q) ∧ (¬ 0 ≤ x → V M (pc + 3) L st h c Q)) := rfl
theorem w_icmp_ge (X : XT) (V : VT) (M : MI) (pc : Nat) (L : List (Option Value)) (st : List Value) (h : HP) (c : Nat) (Q : RR → HP → Prop) (off : Int) (x y : Int32) : vcB X V (.ok (.if_icmp .ge off, 3)) M pc L (.int y :: .int x :: st) h c Q = (jok pc off ∧ (y ≤ x → jmp X V M pc (tgt pc off) L st h c Q) ∧ (¬ y ≤ x → V M (pc + 3) L st h c Q)) := rfl
theorem w_if_gt (X : XT) (V : VT) (M : MI) (pc : Nat) (L : List (Option Value)) (st : List Value) (h : HP) (c : Nat) (Q : RR → HP → Prop) (off : Int) (x : Int32) : vcB X V (.ok (.ifCond .gt off, 3)) M pc L (.int x :: st) h c Q = (jok pc off ∧ (0 < x → jmp X V M pc (tgt pc off) L st h c Q) ∧ (¬ 0 < x → V M (pc + 3) L st h c Q)) := rfl
theorem w_icmp_gt (X : XT) (V : VT) (M : MI) (pc : Nat) (L : List (Option Value)) (st : List Value) (h : HP) (c : Nat) (Q : RR → HP → Prop) (off : Int) (x y : Int32) : vcB X V (.ok (.if_icmp .gt off, 3)) M pc L (.int y :: .int x :: st) h c Q = (jok pc off ∧ (y < x → jmp X V M pc (tgt pc off) L st h c Q) ∧ (¬ y < x → V M (pc + 3) L st h c Q)) := rfl
theorem w_if_le (X : XT) (V : VT) (M : MI) (pc : Nat) (L : List (Option Value)) (st : List Value) (h : HP) (c : Nat) (Q : RR → HP → Prop) (off : Int) (x : Int32) : vcB X V (.ok (.ifCond .le off, 3)) M pc L (.int x :: st) h c Q = (jok pc off ∧ (x ≤ 0 → jmp X V M pc (tgt pc off) L st h c Q) ∧ (¬ x ≤ 0 → V M (pc + 3) L st h c Q)) := rfl
theorem w_icmp_le (X : XT) (V : VT) (M : MI) (pc : Nat) (L : List (Option Value)) (st : List Value) (h : HP) (c : Nat) (Q : RR → HP → Prop) (off : Int) (x y : Int32) : vcB X V (.ok (.if_icmp .le off, 3)) M pc L (.int y :: .int x :: st) h c Q = (jok pc off ∧ (x ≤ y → jmp X V M pc (tgt pc off) L st h c Q) ∧ (¬ x ≤ y → V M (pc + 3) L st h c Q)) := rfl
theorem w_goto (X : XT) (V : VT) (M : MI) (pc : Nat) (L : List (Option Value)) (st : List Value) (h : HP) (c : Nat) (Q : RR → HP → Prop) (off : Int) : vcB X V (.ok (.goto off, 3)) M pc L (st) h c Q = (jok pc off ∧ jmp X V M pc (tgt pc off) L st h c Q) := rfl
theorem w_ifnullR (X : XT) (V : VT) (M : MI) (pc : Nat) (L : List (Option Value)) (st : List Value) (h : HP) (c : Nat) (Q : RR → HP → Prop) (off : Int) (a : Nat) : vcB X V (.ok (.ifnull off, 3)) M pc L (.ref a :: st) h c Q = (V M (pc + 3) L st h c Q) := rfl
theorem w_ifnullN (X : XT) (V : VT) (M : MI) (pc : Nat) (L : List (Option Value)) (st : List Value) (h : HP) (c : Nat) (Q : RR → HP → Prop) (off : Int) : vcB X V (.ok (.ifnull off, 3)) M pc L (.null :: st) h c Q = (jok pc off ∧ jmp X V M pc (tgt pc off) L st h c Q) := rfl
theorem w_ifnonnullR (X : XT) (V : VT) (M : MI) (pc : Nat) (L : List (Option Value)) (st : List Value) (h : HP) (c : Nat) (Q : RR → HP → Prop) (off : Int) (a : Nat) : vcB X V (.ok (.ifnonnull off, 3)) M pc L (.ref a :: st) h c Q = (jok pc off ∧ jmp X V M pc (tgt pc off) L st h c Q) := rfl
theorem w_ifnonnullN (X : XT) (V : VT) (M : MI) (pc : Nat) (L : List (Option Value)) (st : List Value) (h : HP) (c : Nat) (Q : RR → HP → Prop) (off : Int) : vcB X V (.ok (.ifnonnull off, 3)) M pc L (.null :: st) h c Q = (V M (pc + 3) L st h c Q) := rfl
theorem w_acmp_eq (X : XT) (V : VT) (M : MI) (pc : Nat) (L : List (Option Value)) (st : List Value) (h : HP) (c : Nat) (Q : RR → HP → Prop) (off : Int) (x y : Value) : vcB X V (.ok (.if_acmp .eq off, 3)) M pc L (y :: x :: st) h c Q = (isRv x ∧ isRv y ∧ jok pc off ∧ (x = y → jmp X V M pc (tgt pc off) L st h c Q) ∧ (¬ x = y → V M (pc + 3) L st h c Q)) := rfl
theorem w_acmp_ne (X : XT) (V : VT) (M : MI) (pc : Nat) (L : List (Option Value)) (st : List Value) (h : HP) (c : Nat) (Q : RR → HP → Prop) (off : Int) (x y : Value) : vcB X V (.ok (.if_acmp .ne off, 3)) M pc L (y :: x :: st) h c Q = (isRv x ∧ isRv y ∧ jok pc off ∧ (¬ x = y → jmp X V M pc (tgt pc off) L st h c Q) ∧ (x = y → V M (pc + 3) L st h c Q)) := rfl
theorem w_lookup (X : XT) (V : VT) (M : MI) (pc : Nat) (L : List (Option Value)) (st : List Value) (h : HP) (c : Nat) (Q : RR → HP → Prop) (dflt : Int) (ps : Array (Int × Int)) (len : Nat) (x : Int32) : vcB X V (.ok (.lookupswitch dflt ps, len)) M pc L (.int x :: st) h c Q = (swOk ps = true ∧ lsw X V M pc L st h c Q x.toInt dflt ps.toList) := rfl
theorem w_tswitch (X : XT) (V : VT) (M : MI) (pc : Nat) (L : List (Option Value)) (st : List Value) (h : HP) (c : Nat) (Q : RR → HP → Prop) (dflt lo hi : Int) (offs : Array Int) (len : Nat) (x : Int32) : vcB X V (.ok (.tableswitch dflt lo hi offs, len)) M pc L (.int x :: st) h c Q = ((x.toInt < lo ∨ hi < x.toInt → jok pc dflt ∧ jmp X V M pc (tgt pc dflt) L st h c Q) ∧ hi < lo + offs.size ∧ tsw X V M pc L st h c Q x.toInt lo offs.toList) := rfl
theorem w_ireturn (X : XT) (V : VT) (M : MI) (pc : Nat) (L : List (Option Value)) (st : List Value) (h : HP) (c : Nat) (Q : RR → HP → Prop) (v : Int32) : vcB X V (.ok (.ireturn, 1)) M pc L [.int v] h c Q = (match mR M with
    | some ty => narrow ty (.int v) = .int v ∧ Q (.inl (some (.int v))) h
    | none => False) := rfl
theorem w_return (X : XT) (V : VT) (M : MI) (pc : Nat) (L : List (Option Value)) (st : List Value) (h : HP) (c : Nat) (Q : RR → HP → Prop) : vcB X V (.ok (.return_, 1)) M pc L [] h c Q = (mR M = none ∧ Q (.inl none) h) := rfl
theorem w_areturn (X : XT) (V : VT) (M : MI) (pc : Nat) (L : List (Option Value)) (st : List Value) (h : HP) (c : Nat) (Q : RR → HP → Prop) (v : Value) : vcB X V (.ok (.areturn, 1)) M pc L [v] h c Q = (isRefT (mR M) = true ∧ isRv v ∧ Q (.inl (some v)) h) := rfl
theorem w_dreturn (X : XT) (V : VT) (M : MI) (pc : Nat) (L : List (Option Value)) (st : List Value) (h : HP) (c : Nat) (Q : RR → HP → Prop) (v : UInt64) : vcB X V (.ok (.dreturn, 1)) M pc L [.double v] h c Q = (mR M = some .double ∧ Q (.inl (some (.double v))) h) := rfl
theorem w_freturn (X : XT) (V : VT) (M : MI) (pc : Nat) (L : List (Option Value)) (st : List Value) (h : HP) (c : Nat) (Q : RR → HP → Prop) (v : UInt32) : vcB X V (.ok (.freturn, 1)) M pc L [.float v] h c Q = (mR M = some .float ∧ Q (.inl (some (.float v))) h) := rfl
theorem w_getf (X : XT) (V : VT) (M : MI) (pc : Nat) (L : List (Option Value)) (st : List Value) (h : HP) (c : Nat) (Q : RR → HP → Prop) (idx : Nat) : vcB X V (.ok (.getfield idx, 3)) M pc L st h c Q = b_getf idx X V M pc L st h c Q := rfl
theorem w_putf (X : XT) (V : VT) (M : MI) (pc : Nat) (L : List (Option Value)) (st : List Value) (h : HP) (c : Nat) (Q : RR → HP → Prop) (idx : Nat) : vcB X V (.ok (.putfield idx, 3)) M pc L st h c Q = b_putf idx X V M pc L st h c Q := rfl
theorem w_gets (X : XT) (V : VT) (M : MI) (pc : Nat) (L : List (Option Value)) (st : List Value) (h : HP) (c : Nat) (Q : RR → HP → Prop) (idx : Nat) : vcB X V (.ok (.getstatic idx, 3)) M pc L st h c Q = b_gets idx X V M pc L st h c Q := rfl
theorem w_iaload (X : XT) (V : VT) (M : MI) (pc : Nat) (L : List (Option Value)) (st : List Value) (h : HP) (c : Nat) (Q : RR → HP → Prop) : vcB X V (.ok (.iaload, 1)) M pc L st h c Q = b_iaload X V M pc L st h c Q := rfl
theorem w_baload (X : XT) (V : VT) (M : MI) (pc : Nat) (L : List (Option Value)) (st : List Value) (h : HP) (c : Nat) (Q : RR → HP → Prop) : vcB X V (.ok (.baload, 1)) M pc L st h c Q = b_baload X V M pc L st h c Q := rfl
theorem w_caload (X : XT) (V : VT) (M : MI) (pc : Nat) (L : List (Option Value)) (st : List Value) (h : HP) (c : Nat) (Q : RR → HP → Prop) : vcB X V (.ok (.caload, 1)) M pc L st h c Q = b_caload X V M pc L st h c Q := rfl
theorem w_laload (X : XT) (V : VT) (M : MI) (pc : Nat) (L : List (Option Value)) (st : List Value) (h : HP) (c : Nat) (Q : RR → HP → Prop) : vcB X V (.ok (.laload, 1)) M pc L st h c Q = b_laload X V M pc L st h c Q := rfl
theorem w_daload (X : XT) (V : VT) (M : MI) (pc : Nat) (L : List (Option Value)) (st : List Value) (h : HP) (c : Nat) (Q : RR → HP → Prop) : vcB X V (.ok (.daload, 1)) M pc L st h c Q = b_daload X V M pc L st h c Q := rfl
theorem w_aaload (X : XT) (V : VT) (M : MI) (pc : Nat) (L : List (Option Value)) (st : List Value) (h : HP) (c : Nat) (Q : RR → HP → Prop) : vcB X V (.ok (.aaload, 1)) M pc L st h c Q = b_aaload X V M pc L st h c Q := rfl
theorem w_iastore (X : XT) (V : VT) (M : MI) (pc : Nat) (L : List (Option Value)) (st : List Value) (h : HP) (c : Nat) (Q : RR → HP → Prop) : vcB X V (.ok (.iastore, 1)) M pc L st h c Q = b_iastore X V M pc L st h c Q := rfl
theorem w_bastore (X : XT) (V : VT) (M : MI) (pc : Nat) (L : List (Option Value)) (st : List Value) (h : HP) (c : Nat) (Q : RR → HP → Prop) : vcB X V (.ok (.bastore, 1)) M pc L st h c Q = b_bastore X V M pc L st h c Q := rfl
theorem w_castore (X : XT) (V : VT) (M : MI) (pc : Nat) (L : List (Option Value)) (st : List Value) (h : HP) (c : Nat) (Q : RR → HP → Prop) : vcB X V (.ok (.castore, 1)) M pc L st h c Q = b_castore X V M pc L st h c Q := rfl
theorem w_lastore (X : XT) (V : VT) (M : MI) (pc : Nat) (L : List (Option Value)) (st : List Value) (h : HP) (c : Nat) (Q : RR → HP → Prop) : vcB X V (.ok (.lastore, 1)) M pc L st h c Q = b_lastore X V M pc L st h c Q := rfl
theorem w_dastore (X : XT) (V : VT) (M : MI) (pc : Nat) (L : List (Option Value)) (st : List Value) (h : HP) (c : Nat) (Q : RR → HP → Prop) : vcB X V (.ok (.dastore, 1)) M pc L st h c Q = b_dastore X V M pc L st h c Q := rfl
theorem w_aastore (X : XT) (V : VT) (M : MI) (pc : Nat) (L : List (Option Value)) (st : List Value) (h : HP) (c : Nat) (Q : RR → HP → Prop) : vcB X V (.ok (.aastore, 1)) M pc L st h c Q = b_aastore X V M pc L st h c Q := rfl
theorem w_alen (X : XT) (V : VT) (M : MI) (pc : Nat) (L : List (Option Value)) (st : List Value) (h : HP) (c : Nat) (Q : RR → HP → Prop) : vcB X V (.ok (.arraylength, 1)) M pc L st h c Q = b_alen X V M pc L st h c Q := rfl
theorem w_newa_i (X : XT) (V : VT) (M : MI) (pc : Nat) (L : List (Option Value)) (st : List Value) (h : HP) (c : Nat) (Q : RR → HP → Prop) (n : Int32) : vcB X V (.ok (.newarray .int, 2)) M pc L (.int n :: st) h c Q = (¬ n < 0 ∧ n.toNatClampNeg ≤ 10000000 ∧ 12 + n.toNatClampNeg ≤ c ∧ ∀ a : Nat, h a = none → V M (pc + 2) L (.ref a :: st) (hs h a (true, .inr (.inl (0, n.toNatClampNeg, fun _ => 0)))) (c - (12 + n.toNatClampNeg)) Q) := rfl
theorem w_newa_b (X : XT) (V : VT) (M : MI) (pc : Nat) (L : List (Option Value)) (st : List Value) (h : HP) (c : Nat) (Q : RR → HP → Prop) (n : Int32) : vcB X V (.ok (.newarray .byte, 2)) M pc L (.int n :: st) h c Q = (¬ n < 0 ∧ n.toNatClampNeg ≤ 10000000 ∧ 12 + n.toNatClampNeg ≤ c ∧ ∀ a : Nat, h a = none → V M (pc + 2) L (.ref a :: st) (hs h a (true, .inr (.inl (1, n.toNatClampNeg, fun _ => 0)))) (c - (12 + n.toNatClampNeg)) Q) := rfl
theorem w_newa_c (X : XT) (V : VT) (M : MI) (pc : Nat) (L : List (Option Value)) (st : List Value) (h : HP) (c : Nat) (Q : RR → HP → Prop) (n : Int32) : vcB X V (.ok (.newarray .char, 2)) M pc L (.int n :: st) h c Q = (¬ n < 0 ∧ n.toNatClampNeg ≤ 10000000 ∧ 12 + n.toNatClampNeg ≤ c ∧ ∀ a : Nat, h a = none → V M (pc + 2) L (.ref a :: st) (hs h a (true, .inr (.inl (2, n.toNatClampNeg, fun _ => 0)))) (c - (12 + n.toNatClampNeg)) Q) := rfl
theorem w_newa_l (X : XT) (V : VT) (M : MI) (pc : Nat) (L : List (Option Value)) (st : List Value) (h : HP) (c : Nat) (Q : RR → HP → Prop) (n : Int32) : vcB X V (.ok (.newarray .long, 2)) M pc L (.int n :: st) h c Q = (¬ n < 0 ∧ n.toNatClampNeg ≤ 10000000 ∧ 12 + n.toNatClampNeg ≤ c ∧ ∀ a : Nat, h a = none → V M (pc + 2) L (.ref a :: st) (hs h a (true, .inr (.inr (.inr (3, n.toNatClampNeg, fun _ => .long 0))))) (c - (12 + n.toNatClampNeg)) Q) := rfl
theorem w_newa_d (X : XT) (V : VT) (M : MI) (pc : Nat) (L : List (Option Value)) (st : List Value) (h : HP) (c : Nat) (Q : RR → HP → Prop) (n : Int32) : vcB X V (.ok (.newarray .double, 2)) M pc L (.int n :: st) h c Q = (¬ n < 0 ∧ n.toNatClampNeg ≤ 10000000 ∧ 12 + n.toNatClampNeg ≤ c ∧ ∀ a : Nat, h a = none → V M (pc + 2) L (.ref a :: st) (hs h a (true, .inr (.inr (.inr (4, n.toNatClampNeg, fun _ => .double 0))))) (c - (12 + n.toNatClampNeg)) Q) := rfl
theorem w_anew (X : XT) (V : VT) (M : MI) (pc : Nat) (L : List (Option Value)) (st : List Value) (h : HP) (c : Nat) (Q : RR → HP → Prop) (idx : Nat) (n : Int32) : vcB X V (.ok (.anewarray idx, 3)) M pc L (.int n :: st) h c Q = ((AO (mO M) idx).isSome = true ∧ ¬ n < 0 ∧ n.toNatClampNeg ≤ 10000000 ∧ 12 + n.toNatClampNeg ≤ c ∧ ∀ a : Nat, h a = none → V M (pc + 3) L (.ref a :: st) (hs h a (true, .inr (.inr (.inl (n.toNatClampNeg, fun _ => none))))) (c - (12 + n.toNatClampNeg)) Q) := rfl
theorem w_new (X : XT) (V : VT) (M : MI) (pc : Nat) (L : List (Option Value)) (st : List Value) (h : HP) (c : Nat) (Q : RR → HP → Prop) (idx : Nat) : vcB X V (.ok (.new idx, 3)) M pc L st h c Q = b_new idx X V M pc L st h c Q := rfl
theorem w_ldc (X : XT) (V : VT) (M : MI) (pc : Nat) (L : List (Option Value)) (st : List Value) (h : HP) (c : Nat) (Q : RR → HP → Prop) (idx : Nat) : vcB X V (.ok (.ldc idx, 2)) M pc L st h c Q = b_ldc idx X V M pc L st h c Q := rfl
theorem w_ldcw (X : XT) (V : VT) (M : MI) (pc : Nat) (L : List (Option Value)) (st : List Value) (h : HP) (c : Nat) (Q : RR → HP → Prop) (idx : Nat) : vcB X V (.ok (.ldc_w idx, 3)) M pc L st h c Q = b_ldcw idx X V M pc L st h c Q := rfl
theorem w_cast (X : XT) (V : VT) (M : MI) (pc : Nat) (L : List (Option Value)) (st : List Value) (h : HP) (c : Nat) (Q : RR → HP → Prop) (idx : Nat) : vcB X V (.ok (.checkcast idx, 3)) M pc L st h c Q = b_cast idx X V M pc L st h c Q := rfl
theorem w_inst (X : XT) (V : VT) (M : MI) (pc : Nat) (L : List (Option Value)) (st : List Value) (h : HP) (c : Nat) (Q : RR → HP → Prop) (idx : Nat) : vcB X V (.ok (.instanceof idx, 3)) M pc L st h c Q = b_inst idx X V M pc L st h c Q := rfl
theorem w_athrow (X : XT) (V : VT) (M : MI) (pc : Nat) (L : List (Option Value)) (st : List Value) (h : HP) (c : Nat) (Q : RR → HP → Prop) : vcB X V (.ok (.athrow, 1)) M pc L st h c Q = b_athrow X V M pc L st h c Q := rfl
theorem w_invS (X : XT) (V : VT) (M : MI) (pc : Nat) (L : List (Option Value)) (st : List Value) (h : HP) (c : Nat) (Q : RR → HP → Prop) (idx : Nat) : vcB X V (.ok (.invokestatic idx, 3)) M pc L st h c Q = b_invS idx X V M pc L st h c Q := rfl
theorem w_invI (X : XT) (V : VT) (M : MI) (pc : Nat) (L : List (Option Value)) (st : List Value) (h : HP) (c : Nat) (Q : RR → HP → Prop) (idx : Nat) : vcB X V (.ok (.invokespecial idx, 3)) M pc L st h c Q = b_invI idx X V M pc L st h c Q := rfl
theorem w_invV (X : XT) (V : VT) (M : MI) (pc : Nat) (L : List (Option Value)) (st : List Value) (h : HP) (c : Nat) (Q : RR → HP → Prop) (idx : Nat) : vcB X V (.ok (.invokevirtual idx, 3)) M pc L st h c Q = b_invV idx X V M pc L st h c Q := rfl
theorem w_invF (X : XT) (V : VT) (M : MI) (pc : Nat) (L : List (Option Value)) (st : List Value) (h : HP) (c : Nat) (Q : RR → HP → Prop) (idx : Nat) (ct : Nat) : vcB X V (.ok (.invokeinterface idx ct, 5)) M pc L st h c Q = b_invF idx X V M pc L st h c Q := rfl
