/-! LAYER J: abstract heaps, the environment, the judgement -/
abbrev AC : Type := Bool × ((Nat × List Value) ⊕ ((Nat × Nat × (Nat → Int32)) ⊕ ((Nat × (Nat → Option Nat)) ⊕ (Nat × Nat × (Nat → Value)))))
abbrev HP : Type := Nat → Option AC
/-- how a method ends: it returns, or it throws an object of class number .. at .. -/
abbrev RR : Type := Option Value ⊕ (Nat × Nat)
def hs (h : HP) (a : Nat) (c : AC) : HP := fun b => if b = a then some c else h b
theorem hs_eq (h : HP) (a : Nat) (c : AC) : hs h a c a = some c := if_pos rfl
theorem hs_ne (h : HP) {a b : Nat} (c : AC) (hn : ¬ b = a) : hs h a c b = h b := if_neg hn
/-- the environment: class ids and slots, array classes, base of the heap, launch, classes, words, interface words, not castable, strings, statics, mirrors -/
abbrev GT : Type := va_G × (Nat → ClassId) × Nat × Launch × List vw_C × List Cond × List (String × MethodName × MethodName) × List (String × String) × List (String × Nat × String × Nat) × List (String × String × String × Value) × List (String × Nat)
def gD (G : GT) : va_G := G.1
def gA (G : GT) : Nat → ClassId := G.2.1
def g0 (G : GT) : Nat := G.2.2.1
def gL (G : GT) : Launch := G.2.2.2.1
def gC (G : GT) : List vw_C := G.2.2.2.2.1
def gW (G : GT) : List Cond := G.2.2.2.2.2.1
def gF (G : GT) : List (String × MethodName × MethodName) := G.2.2.2.2.2.2.1
def gN (G : GT) : List (String × String) := G.2.2.2.2.2.2.2.1
def gS (G : GT) : List (String × Nat × String × Nat) := G.2.2.2.2.2.2.2.2.1
def gT (G : GT) : List (String × String × String × Value) := G.2.2.2.2.2.2.2.2.2.1
def gM (G : GT) : List (String × Nat) := G.2.2.2.2.2.2.2.2.2.2
def aTy : Nat → FieldType
  | 0 => .int
  | 1 => .byte
  | 2 => .char
  | 3 => .long
  | 4 => .double
  | 6 => .object "java/lang/Integer"
  | _ => .object "java/lang/Object"
def gTys (G : GT) : List (ClassId × FieldType) := [(gA G 0, .int), (gA G 1, .byte), (gA G 2, .char), (gA G 3, .long), (gA G 4, .double), (gA G 5, .object "java/lang/Object")]
/-- words that ride with a run: a nest mate's link, or castable -/
def nwOk : Cond → Bool
  | .fieldLinkNest _ _ _ _ _ _ => true
  | .methodLinkNest _ _ _ _ => true
  | .castable _ _ => true
  | .declares _ => true
  | .selects _ _ _ => true
  | _ => false
def NB (G : GT) : Nat → Prop := fun q => g0 G ≤ q
/-- what the tables say, all through a run -/
def EN (G : GT) (s : State) : Prop :=
  va_K (gD G) (gC G) (gTys G) s ∧ (∀ w ∈ gW G, nwOk w = true ∧ va_Nw w s) ∧
  (∀ x ∈ gF G, (x.2.1.cls ≠ "java/lang/invoke/MethodHandle" ∧ x.2.1.cls ≠ "java/lang/invoke/VarHandle") ∧ va_Fw x.1 x.2.1 x.2.2 s) ∧
  (∀ x ∈ gN G, va_Nc x.1 x.2 s) ∧ (∀ x ∈ gS G, vk_R x.1 x.2.1 x.2.2.1 x.2.2.2 s) ∧ (∀ x ∈ gM G, va_Mi x.1 x.2 s) ∧
  va_AO "java/lang/Object" s ∧ va_Dc s ∧ (gL G).stackTraces = false
theorem nw_warm {w : Cond} {s U : State} (hW : s.WarmedH U.vm) (hk : nwOk w = true) (h : va_Nw w s) : va_Nw w U := by
  cases w <;> first | exact va_Nw.warmF hW h | exact va_Nw.warmM hW h | exact va_Nw.warmC hW h | exact va_Nw.warmD hW h | exact word_at hW (Or.inl rfl) h | cases hk
theorem EN.warm {G : GT} {s U : State} (hW : s.WarmedH U.vm) (h : EN G s) : EN G U := by
  obtain ⟨h1, h2, h3, h4, h5, h6, h7, h8, h9⟩ := h
  exact ⟨va_K.moved hW.alike h1, fun w hw => ⟨(h2 w hw).1, nw_warm hW (h2 w hw).1 (h2 w hw).2⟩, fun x hx => ⟨(h3 x hx).1, va_Fw.moved (h3 x hx).1 hW.alike (h3 x hx).2⟩,
    fun x hx => va_Nc.moved hW.alike (h4 x hx), fun x hx => vk_R.warm hW (h5 x hx), fun x hx => va_Mi.moved hW.alike (h6 x hx), va_AO.moved hW.alike h7, va_Dc.moved hW.alike h8, h9⟩
/-- an array cell -/
def AR (G : GT) (s : State) (w : Bool) (t n : Nat) (z : Nat → Value) (cell : Cell) : Prop :=
  if w = true then cell = arrV (gA G t) n z else (s.isArrayOf cell (aTy t) ∧ cell.vm ≠ .unknown ∧ cell.vm.isStatics = false ∧ cell.slots.size = n ∧ (∀ j : Nat, j < n → cell.slots[j]? = some (z j)) ∧ (t = 0 ∨ cell.cls = gA G t))
def CR (G : GT) (s : State) (c : AC) (cell : Cell) : Prop := match c with
  | (w, .inl (ci, fs)) => cell.cls = (gD G).1 ci ∧ cell.vm ≠ .unknown ∧ cell.vm.isStatics = false ∧ (w = true → cell.vm = .none) ∧ (∃ r : vw_C, (gC G)[ci]? = some r ∧ fs.length ≤ r.2.2) ∧ ∀ (k : Nat) (v : Value), fs[k]? = some v → cell.slots[(gD G).2 ci k]? = some v
  | (w, .inr (.inl (t, n, f))) => t < 3 ∧ (∀ j, j < n → fits (aTy t) (.int (f j)) = true) ∧ AR G s w t n (fun j => .int (f j)) cell
  | (w, .inr (.inr (.inl (n, f)))) => AR G s w 5 n (fun j => va_rf (f j)) cell
  | (w, .inr (.inr (.inr (t, n, f)))) => (t = 3 ∨ t = 4 ∨ (t = 6 ∧ w = false)) ∧ AR G s w t n f cell
/-- the statics, and the two that a throw reads -/
def ST (G : GT) (s : State) (H : Heap) : Prop := (∀ x ∈ gT G, va_Z x.1 x.2.1 x.2.2.1 x.2.2.2 (NB G) s H) ∧ vx_Zq Bundle.tN "UNASSIGNED_STACK" Bundle.steD (NB G) s H ∧ vx_Zq Bundle.tN "SUPPRESSED_SENTINEL" Bundle.listD (NB G) s H
/-- the heap H bears the abstract heap h -/
def HR (G : GT) (s : State) (h : HP) (H : Heap) : Prop := (∀ (a : Nat) (c : AC), h a = some c → (∃ cell : Cell, H[a]? = some cell ∧ CR G s c cell) ∧ (c.1 = true → g0 G ≤ a)) ∧ ST G s H ∧ g0 G ≤ H.size
theorem AR.moved {G : GT} {s U : State} {w : Bool} {t n : Nat} {z : Nat → Value} {cell : Cell} (hvm : s.vm.Alike U.vm) (h : AR G s w t n z cell) : AR G U w t n z cell := by
  unfold AR at h ⊢
  split
  · rename_i hw; rw [if_pos hw] at h; exact h
  · rename_i hw; rw [if_neg hw] at h; exact ⟨State.isArrayOf_alike hvm h.1, h.2⟩
theorem CR.moved {G : GT} {s U : State} {c : AC} {cell : Cell} (hvm : s.vm.Alike U.vm) (h : CR G s c cell) : CR G U c cell := by
  obtain ⟨w, c⟩ := c
  rcases c with c | c | c | c
  · exact h
  · exact ⟨h.1, h.2.1, AR.moved hvm h.2.2⟩
  · exact AR.moved hvm h
  · exact ⟨h.1, AR.moved hvm h.2⟩
theorem ST.moved {G : GT} {s U : State} {H : Heap} (hvm : s.vm.Alike U.vm) (h : ST G s H) : ST G U H := ⟨fun x hx => va_Z.moved hvm (h.1 x hx), vx_Zq.moved hvm h.2.1, vx_Zq.moved hvm h.2.2⟩
theorem HR.moved {G : GT} {s U : State} {h : HP} {H : Heap} (hvm : s.vm.Alike U.vm) (hr : HR G s h H) : HR G U h H :=
  ⟨fun a c e => ⟨(hr.1 a c e).1.imp fun cell q => ⟨q.1, CR.moved hvm q.2⟩, (hr.1 a c e).2⟩, ST.moved hvm hr.2.1, hr.2.2⟩
theorem ST.kept {G : GT} {s : State} {H H1 : Heap} (h : ST G s H) (hq : ∀ a : Nat, a < H.size → ¬ NB G a → H1[a]? = H[a]?) : ST G s H1 := ⟨fun x hx => va_Z.kept (h.1 x hx) hq, vx_Zq.kept h.2.1 hq, vx_Zq.kept h.2.2 hq⟩
/-- a write to the cell a -/
theorem HR.put {G : GT} {s : State} {h : HP} {H H1 : Heap} {a : Nat} {c : AC} {cell : Cell} (hr : HR G s h H) (ha : g0 G ≤ a) (e1 : H1[a]? = some cell) (e2 : H1.size = H.size) (e3 : ∀ q : Nat, q ≠ a → H1[q]? = H[q]?) (hc : CR G s c cell) : HR G s (hs h a c) H1 := by
  refine ⟨fun b x hx => ?_, hr.2.1.kept (fun q _ hq => e3 q fun e => hq (by subst e; exact ha)), by rw [e2]; exact hr.2.2⟩
  by_cases hb : b = a
  · subst hb
    rw [hs_eq] at hx
    cases hx
    exact ⟨⟨cell, e1, hc⟩, fun _ => ha⟩
  · rw [hs_ne _ _ hb] at hx
    exact ⟨(hr.1 b x hx).1.imp fun y q => ⟨by rw [e3 b hb]; exact q.1, q.2⟩, (hr.1 b x hx).2⟩
theorem HR.none {G : GT} {s : State} {h : HP} {H : Heap} (hr : HR G s h H) {a : Nat} (ha : H.size ≤ a) : h a = none := by
  cases e : h a with
  | none => rfl
  | some c =>
    obtain ⟨cell, h1, -⟩ := (hr.1 a c e).1
    exact absurd (Array.getElem?_eq_some_iff.mp h1).1 (by omega)
/-- a new cell -/
theorem HR.push {G : GT} {s : State} {h : HP} {H H1 : Heap} {c : AC} {cell : Cell} (hr : HR G s h H) (e1 : H1[H.size]? = some cell) (e3 : ∀ q : Nat, q < H.size → H1[q]? = H[q]?) (hz : H.size ≤ H1.size) (hc : CR G s c cell) : HR G s (hs h H.size c) H1 := by
  refine ⟨fun b x hx => ?_, hr.2.1.kept (fun q h1 _ => e3 q h1), Nat.le_trans hr.2.2 hz⟩
  by_cases hb : b = H.size
  · subst hb
    rw [hs_eq] at hx
    cases hx
    exact ⟨⟨cell, e1, hc⟩, fun _ => hr.2.2⟩
  · rw [hs_ne _ _ hb] at hx
    obtain ⟨y, h1, h2⟩ := (hr.1 b x hx).1
    exact ⟨⟨y, by rw [e3 b (Array.getElem?_eq_some_iff.mp h1).1]; exact h1, h2⟩, (hr.1 b x hx).2⟩
/-- locals: what is known of them -/
def LH (ls : Array Slot) (n : Nat) (L : List (Option Value)) : Prop := ls.size = n ∧ lv_wf ls ∧ ∀ (i : Nat) (v : Value), L[i]? = some (some v) → ls[i]? = some (.val v)
def k1 (x : Option Value) : Option Value := match x with
  | some (.long _) => none
  | some (.double _) => none
  | y => y
def lst : List (Option Value) → Nat → Value → List (Option Value)
  | [], _, _ => []
  | _ :: L, 0, v => some v :: L
  | x :: L, 1, v => k1 x :: lst L 0 v
  | x :: L, i + 2, v => x :: lst L (i + 1) v
def lcl : List (Option Value) → Nat → List (Option Value)
  | [], _ => []
  | _ :: L, 0 => none :: L
  | x :: L, i + 1 => x :: lcl L i
theorem k1_some {x : Option Value} {w : Value} (h : k1 x = some w) : x = some w ∧ w.category = 1 := by
  cases x with
  | none => cases h
  | some v => cases v <;> first | (cases h; done) | (cases h; exact ⟨rfl, rfl⟩)
theorem lst_get : ∀ (L : List (Option Value)) (i : Nat) (v : Value) (j : Nat) (w : Value), (lst L i v)[j]? = some (some w) → (j = i ∧ w = v) ∨ (j ≠ i ∧ L[j]? = some (some w) ∧ ¬ (j + 1 = i ∧ w.category = 2)) := by
  intro L
  induction L with
  | nil => intro i v j w h; simp [lst] at h
  | cons x L ih =>
    intro i v j w h
    match i with
    | 0 =>
      cases j with
      | zero => simp [lst] at h; exact Or.inl ⟨rfl, h.symm⟩
      | succ j => simp [lst] at h; exact Or.inr ⟨by omega, by simpa using h, by omega⟩
    | 1 =>
      cases j with
      | zero =>
        simp [lst] at h
        obtain ⟨h1, h2⟩ := k1_some h
        exact Or.inr ⟨by omega, by simp [h1], by omega⟩
      | succ j =>
        simp only [lst, List.getElem?_cons_succ] at h
        rcases ih 0 v j w h with ⟨a, b⟩ | ⟨a, b, c⟩
        · exact Or.inl ⟨by omega, b⟩
        · exact Or.inr ⟨by omega, by simpa using b, by omega⟩
    | i + 2 =>
      cases j with
      | zero => simp [lst] at h; exact Or.inr ⟨by omega, by simp [h], by omega⟩
      | succ j =>
        simp only [lst, List.getElem?_cons_succ] at h
        rcases ih (i + 1) v j w h with ⟨a, b⟩ | ⟨a, b, c⟩
        · exact Or.inl ⟨by omega, b⟩
        · exact Or.inr ⟨by omega, by simpa using b, fun q => c ⟨by omega, q.2⟩⟩
theorem lcl_get : ∀ (L : List (Option Value)) (i : Nat) (j : Nat) (w : Value), (lcl L i)[j]? = some (some w) → j ≠ i ∧ L[j]? = some (some w) := by
  intro L
  induction L with
  | nil => intro i j w h; simp [lcl] at h
  | cons x L ih =>
    intro i j w h
    cases i with
    | zero =>
      cases j with
      | zero => simp [lcl] at h
      | succ j => simp [lcl] at h; exact ⟨by omega, by simpa using h⟩
    | succ i =>
      cases j with
      | zero => simp [lcl] at h; exact ⟨by omega, by simp [h]⟩
      | succ j =>
        simp only [lcl, List.getElem?_cons_succ] at h
        obtain ⟨a, b⟩ := ih i j w h
        exact ⟨by omega, by simpa using b⟩
def asc (L : List (Option Value)) : List (Nat × Value) := (List.range L.length).filterMap (fun i => (L[i]?.join).map (fun v => (i, v)))
theorem asc_mem {L : List (Option Value)} {q : Nat × Value} : q ∈ asc L ↔ L[q.1]? = some (some q.2) := by
  obtain ⟨i, v⟩ := q
  constructor
  · intro h
    obtain ⟨j, hj, h2⟩ := List.mem_filterMap.mp h
    cases e : L[j]? with
    | none => simp [e] at h2
    | some x =>
      cases x with
      | none => simp [e] at h2
      | some w => simp [e] at h2; obtain ⟨rfl, rfl⟩ := h2; exact e
  · intro h
    refine List.mem_filterMap.mpr ⟨i, List.mem_range.mpr (List.getElem?_eq_some_iff.mp h).1, ?_⟩
    show ((L[i]?).join).map _ = _
    rw [show L[i]? = some (some v) from h]
    rfl
theorem LH_asc {ls : Array Slot} {n : Nat} {L : List (Option Value)} (h : LH ls n L) : lv_has ls n (asc L) := ⟨h.1, h.2.1, fun q hq => h.2.2 q.1 q.2 (asc_mem.mp hq)⟩
theorem LH.store1 {ls : Array Slot} {n : Nat} {L : List (Option Value)} {i : Nat} {v : Value} {l' : List (Nat × Value)} {ls' : Array Slot} (e : (i, v) :: (asc L).filter (fun q => !(q.1 == i) && !(q.1 + 1 == i && q.2.category == 2)) = l') (h : lv_has ls' n l') : LH ls' n (lst L i v) := by
  subst e
  refine ⟨h.1, h.2.1, fun j w hj => ?_⟩
  rcases lst_get L i v j w hj with ⟨rfl, rfl⟩ | ⟨a, b, c⟩
  · exact h.2.2 (j, w) List.mem_cons_self
  · refine h.2.2 (j, w) (List.mem_cons_of_mem _ (List.mem_filter.mpr ⟨asc_mem.mpr b, ?_⟩))
    simp only [Bool.and_eq_true, Bool.not_eq_true', beq_eq_false_iff_ne, ne_eq, Bool.and_eq_false_iff]
    refine ⟨a, ?_⟩
    by_cases h1 : j + 1 = i
    · exact Or.inr fun h2 => c ⟨h1, h2⟩
    · exact Or.inl h1
theorem LH.store2 {n : Nat} {L : List (Option Value)} {i : Nat} {v : Value} {l' : List (Nat × Value)} {ls' : Array Slot} (e : (i, v) :: (asc L).filter (fun q => !(q.1 == i) && (!(q.1 == i + 1) && !(q.1 + 1 == i && q.2.category == 2))) = l') (h : lv_has ls' n l') : LH ls' n (lcl (lst L i v) (i + 1)) := by
  subst e
  refine ⟨h.1, h.2.1, fun j w hj => ?_⟩
  obtain ⟨hj1, hj⟩ := lcl_get _ _ _ _ hj
  rcases lst_get L i v j w hj with ⟨rfl, rfl⟩ | ⟨a, b, c⟩
  · exact h.2.2 (j, w) List.mem_cons_self
  · refine h.2.2 (j, w) (List.mem_cons_of_mem _ (List.mem_filter.mpr ⟨asc_mem.mpr b, ?_⟩))
    simp only [Bool.and_eq_true, Bool.not_eq_true', beq_eq_false_iff_ne, ne_eq, Bool.and_eq_false_iff]
    refine ⟨a, hj1, ?_⟩
    by_cases h1 : j + 1 = i
    · exact Or.inr fun h2 => c ⟨h1, h2⟩
    · exact Or.inl h1
/-- a method: name, code, locals, answer, handlers, number of its class, level -/
abbrev MI : Type := MethodName × ByteArray × Nat × Option FieldType × Option (List (Nat × Nat × Nat × Nat)) × Nat × Nat
def mY (M : MI) : MethodName := M.1
def mC (M : MI) : ByteArray := M.2.1
def mL (M : MI) : Nat := M.2.2.1
def mR (M : MI) : Option FieldType := M.2.2.2.1
def mH (M : MI) : Option (List (Nat × Nat × Nat × Nat)) := M.2.2.2.2.1
def mO (M : MI) : Nat := M.2.2.2.2.2.1
def mV (M : MI) : Nat := M.2.2.2.2.2.2
def DC (M : MI) (pc : Nat) : Except DecodeError (Instr × Nat) := decode (mC M) pc
def mCw (M : MI) : Cond := match mH M with
  | none => Cond.code (mY M) (mC M) (mL M) (mR M)
  | some hh => Cond.codeWith (mY M) (mC M) (mL M) (mR M) hh
def mWs (M : MI) : List Cond := mCw M :: lw_all
def mRm (M : MI) (c : Nat) : Room := { frames := mV M, cells := c / 12, slots := c, locals := 64 * mV M }
def mT (M : MI) : List ExceptionTableEntry := match mH M with
  | none => []
  | some hh => tableOf hh
/-- the machine stands in a call of M -/
def JC (G : GT) (M : MI) (p : Program) (e : Env) (R : Room) (s : State) (m : MethodId) (args : Array Value) (below : List Frame) (meth : Method) (c : Code) : Prop :=
  p.tables.exec = Jvm.exec ∧ c.code = mC M ∧ meth.sig.returnType = mR M ∧ meth.locks = false ∧ c.maxLocals = mL M ∧ s.vm.findClass (mY M).cls = some m.cls ∧ (∀ w ∈ lw_all, w.before args s = true) ∧ c.exceptionTable.toList = mT M ∧ R.frames = mV M ∧ R.locals = 64 * mV M ∧ EN G s ∧ meth.name = (mY M).name ∧ (gL G).stackTraces = false
/-- what a call owes at its end -/
def PM (G : GT) (Q : RR → HP → Prop) (mc ms : Nat) (s : State) (o : Outcome) (t : State) : Prop :=
  ∃ h' : HP, HR G s h' t.heap ∧ s.WarmedH t.vm ∧ ((∃ v : Option Value, o = .returned v ∧ Q (.inl v) h' ∧ ∃ L, FrameEnd s o t L mc ms ∧ ∀ q ∈ L, g0 G ≤ q.base) ∨
    (∃ (q : Addr) (ci : Nat) (r : vw_C) (ce : Cell) (L : List Loc), o = .threw q ∧ Q (.inr (ci, q)) h' ∧ (gC G)[ci]? = some r ∧ t.heap[q]? = some ce ∧ ce.vm = .none ∧ s.vm.findClass r.1 = some ce.cls ∧ s.sameButNew ({ t with vm := s.vm } : State) L mc ms ∧ ∀ z ∈ L, g0 G ≤ z.base))
def JQ (G : GT) (Q : RR → HP → Prop) (R : Room) (s : State) (below : List Frame) : State → Prop := fun t => ∃ o, t.status = .running ∧ Ended t below o ∧ PM G Q R.cells R.slots s o t
/-- THE JUDGEMENT: at pc of M, with locals L, operands st, heap h, credit c, the call ends with Q -/
def J (G : GT) (M : MI) (pc : Nat) (L : List (Option Value)) (st : List Value) (h : HP) (c : Nat) (Q : RR → HP → Prop) : Prop :=
  ∀ (p : Program) (e : Env) (R : Room) (s : State) (m : MethodId) (args : Array Value) (below : List Frame) (meth : Method) (cc : Code) (H : Heap) (locs : List Loc) (cells slots : Nat) (ls : Array Slot),
    JC G M p e R s m args below meth cc → LH ls (mL M) L → HR G s h H → cells + c / 12 ≤ R.cells → slots + c ≤ R.slots → (∀ q ∈ locs, g0 G ≤ q.base) →
    W p (gL G) e R s m args below meth cc H locs cells slots (JQ G Q R s below) (F0 m pc ls st)
/-- an exception of class ci at q on its way, thrown at pc of M -/
def JX (G : GT) (M : MI) (pc : Nat) (L : List (Option Value)) (ci q : Nat) (h : HP) (c : Nat) (Q : RR → HP → Prop) : Prop :=
  ∀ (p : Program) (e : Env) (R : Room) (s : State) (m : MethodId) (args : Array Value) (below : List Frame) (meth : Method) (cc : Code) (H : Heap) (locs : List Loc) (cells slots : Nat) (ls : Array Slot) (st : List Value) (r : vw_C) (ce : Cell),
    JC G M p e R s m args below meth cc → LH ls (mL M) L → HR G s h H → cells + c / 12 ≤ R.cells → slots + c ≤ R.slots → (∀ q ∈ locs, g0 G ≤ q.base) → (gC G)[ci]? = some r → H[q]? = some ce → ce.vm = .none → s.vm.findClass r.1 = some ce.cls →
    vx_W p (gL G) e R s m args below meth cc H locs cells slots (JQ G Q R s below) (F0 m pc ls st) q
/-- a call's contract -/
def Call (G : GT) (M : MI) (as : List Value) (h : HP) (c : Nat) (Q : RR → HP → Prop) : Prop :=
  MetFree (gL G) (mY M) (headSpec (mWs M) (mRm M c)) (fun a U => a = as.toArray ∧ EN G U ∧ HR G U h U.heap) (fun _ _ _ _ _ => True) (fun _ st o t => PM G Q (c / 12) c st o t)
