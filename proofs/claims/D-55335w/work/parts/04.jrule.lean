/-! J: one rule an instruction (frame alone) -/
theorem W_mono {p : Program} {l : Launch} {e : Env} {R : Room} {s : State} {m : MethodId} {args : Array Value} {below : List Frame} {meth : Method} {c : Code} {H : Heap} {locs : List Loc} {cells slots : Nat} {Q Q' : State → Prop} {g : JFrame} (hQ : ∀ t, Q t → Q' t) (k : W p l e R s m args below meth c H locs cells slots Q g) : W p l e R s m args below meth c H locs cells slots Q' g := fun T hT X => (k T hT X).imp fun _ q => ⟨q.1, hQ _ q.2⟩
section JR
variable {G : GT} {M : MI} {pc : Nat} {L : List (Option Value)} {st : List Value} {h : HP} {c : Nat} {Q : RR → HP → Prop}
theorem J.locals {L' : List (Option Value)} (hL : ∀ (i : Nat) (v : Value), L'[i]? = some (some v) → L[i]? = some (some v)) (k : J G M pc L' st h c Q) : J G M pc L st h c Q :=
  fun p e R s m args below meth cc H locs cells slots ls C hl => k p e R s m args below meth cc H locs cells slots ls C ⟨hl.1, hl.2.1, fun i v q => hl.2.2 i v (hL i v q)⟩
theorem J.credit {c' : Nat} (hc : c' ≤ c) (k : J G M pc L st h c' Q) : J G M pc L st h c Q :=
  fun p e R s m args below meth cc H locs cells slots ls C hl hr a3 a4 a5 => k p e R s m args below meth cc H locs cells slots ls C hl hr (Nat.le_trans (Nat.add_le_add_left (Nat.div_le_div_right hc) _) a3) (by omega) a5
theorem J.heap {h' : HP} (hh : ∀ a x, h' a = some x → h a = some x) (k : J G M pc L st h' c Q) : J G M pc L st h c Q :=
  fun p e R s m args below meth cc H locs cells slots ls C hl hr a3 a4 a5 => k p e R s m args below meth cc H locs cells slots ls C hl ⟨fun a x q => hr.1 a x (hh a x q), hr.2⟩ a3 a4 a5
theorem JQ.mono {R : Room} {s : State} {below : List Frame} {Q' : RR → HP → Prop} (hQ : ∀ r h, Q r h → Q' r h) {t : State} (h : JQ G Q R s below t) : JQ G Q' R s below t := by
  obtain ⟨o, h1, h2, h', h3, h4, h5⟩ := h
  refine ⟨o, h1, h2, h', h3, h4, ?_⟩
  rcases h5 with ⟨v, e1, e2, e3⟩ | ⟨q, ci, r, ce, L, e1, e2, e3⟩
  · exact Or.inl ⟨v, e1, hQ _ _ e2, e3⟩
  · exact Or.inr ⟨q, ci, r, ce, L, e1, hQ _ _ e2, e3⟩
theorem J.mono {Q' : RR → HP → Prop} (hQ : ∀ r h, Q r h → Q' r h) (k : J G M pc L st h c Q) : J G M pc L st h c Q' :=
  fun p e R s m args below meth cc H locs cells slots ls C hl hr a3 a4 a5 => W_mono (fun _ q => JQ.mono hQ q) (k p e R s m args below meth cc H locs cells slots ls C hl hr a3 a4 a5)
theorem J_iconst {n : Int} {v : Int32} (d : DC M pc = .ok (.iconst n, 1)) (hv : Int32.ofInt n = v) (k : J G M (pc + 1) L (.int v :: st) h c Q) : J G M pc L (st) h c Q :=
  fun p e R s m args below meth cc H locs cells slots ls C hl a2 a3 a4 a5 => lv_iconst C.1 C.2.1 d hv (k p e R s m args below meth cc H locs cells slots ls C hl a2 a3 a4 a5)
theorem J_bipush {n : Int} {v : Int32} (d : DC M pc = .ok (.bipush n, 2)) (hv : (Int8.ofInt n).toInt32 = v) (k : J G M (pc + 2) L (.int v :: st) h c Q) : J G M pc L (st) h c Q :=
  fun p e R s m args below meth cc H locs cells slots ls C hl a2 a3 a4 a5 => lv_bipush C.1 C.2.1 d hv (k p e R s m args below meth cc H locs cells slots ls C hl a2 a3 a4 a5)
theorem J_sipush {n : Int} {v : Int32} (d : DC M pc = .ok (.sipush n, 3)) (hv : (Int16.ofInt n).toInt32 = v) (k : J G M (pc + 3) L (.int v :: st) h c Q) : J G M pc L (st) h c Q :=
  fun p e R s m args below meth cc H locs cells slots ls C hl a2 a3 a4 a5 => lv_sipush C.1 C.2.1 d hv (k p e R s m args below meth cc H locs cells slots ls C hl a2 a3 a4 a5)
theorem J_null  (d : DC M pc = .ok (.aconst_null, 1))  (k : J G M (pc + 1) L (.null :: st) h c Q) : J G M pc L (st) h c Q :=
  fun p e R s m args below meth cc H locs cells slots ls C hl a2 a3 a4 a5 => lv_null C.1 C.2.1 d  (k p e R s m args below meth cc H locs cells slots ls C hl a2 a3 a4 a5)
theorem J_iload_n {k : Fin 4} {i : Nat} {x : Int32} (d : DC M pc = .ok (.iload_n k, 1)) (hi : (k : Nat) = i) (hx : L[i]? = some (some (.int x))) (k : J G M (pc + 1) L (.int x :: st) h c Q) : J G M pc L (st) h c Q :=
  fun p e R s m args below meth cc H locs cells slots ls C hl a2 a3 a4 a5 => lv_iload_n C.1 C.2.1 d hi (hl.2.2 _ _ hx) (k p e R s m args below meth cc H locs cells slots ls C hl a2 a3 a4 a5)
theorem J_iload {i : Nat} {x : Int32} (d : DC M pc = .ok (.iload i, 2)) (hx : L[i]? = some (some (.int x))) (k : J G M (pc + 2) L (.int x :: st) h c Q) : J G M pc L (st) h c Q :=
  fun p e R s m args below meth cc H locs cells slots ls C hl a2 a3 a4 a5 => lv_iload C.1 C.2.1 d (hl.2.2 _ _ hx) (k p e R s m args below meth cc H locs cells slots ls C hl a2 a3 a4 a5)
theorem J_dload_n {k : Fin 4} {i : Nat} {x : UInt64} (d : DC M pc = .ok (.dload_n k, 1)) (hi : (k : Nat) = i) (hx : L[i]? = some (some (.double x))) (k : J G M (pc + 1) L (.double x :: st) h c Q) : J G M pc L (st) h c Q :=
  fun p e R s m args below meth cc H locs cells slots ls C hl a2 a3 a4 a5 => lv_dload_n C.1 C.2.1 d hi (hl.2.2 _ _ hx) (k p e R s m args below meth cc H locs cells slots ls C hl a2 a3 a4 a5)
theorem J_dload {i : Nat} {x : UInt64} (d : DC M pc = .ok (.dload i, 2)) (hx : L[i]? = some (some (.double x))) (k : J G M (pc + 2) L (.double x :: st) h c Q) : J G M pc L (st) h c Q :=
  fun p e R s m args below meth cc H locs cells slots ls C hl a2 a3 a4 a5 => lv_dload C.1 C.2.1 d (hl.2.2 _ _ hx) (k p e R s m args below meth cc H locs cells slots ls C hl a2 a3 a4 a5)
theorem J_fload_n {k : Fin 4} {i : Nat} {x : UInt32} (d : DC M pc = .ok (.fload_n k, 1)) (hi : (k : Nat) = i) (hx : L[i]? = some (some (.float x))) (k : J G M (pc + 1) L (.float x :: st) h c Q) : J G M pc L (st) h c Q :=
  fun p e R s m args below meth cc H locs cells slots ls C hl a2 a3 a4 a5 => lv_fload_n C.1 C.2.1 d hi (hl.2.2 _ _ hx) (k p e R s m args below meth cc H locs cells slots ls C hl a2 a3 a4 a5)
theorem J_fload {i : Nat} {x : UInt32} (d : DC M pc = .ok (.fload i, 2)) (hx : L[i]? = some (some (.float x))) (k : J G M (pc + 2) L (.float x :: st) h c Q) : J G M pc L (st) h c Q :=
  fun p e R s m args below meth cc H locs cells slots ls C hl a2 a3 a4 a5 => lv_fload C.1 C.2.1 d (hl.2.2 _ _ hx) (k p e R s m args below meth cc H locs cells slots ls C hl a2 a3 a4 a5)
theorem J_lload_n {k : Fin 4} {i : Nat} {x : Int64} (d : DC M pc = .ok (.lload_n k, 1)) (hi : (k : Nat) = i) (hx : L[i]? = some (some (.long x))) (k : J G M (pc + 1) L (.long x :: st) h c Q) : J G M pc L (st) h c Q :=
  fun p e R s m args below meth cc H locs cells slots ls C hl a2 a3 a4 a5 => lv_lload_n C.1 C.2.1 d hi (hl.2.2 _ _ hx) (k p e R s m args below meth cc H locs cells slots ls C hl a2 a3 a4 a5)
theorem J_lload {i : Nat} {x : Int64} (d : DC M pc = .ok (.lload i, 2)) (hx : L[i]? = some (some (.long x))) (k : J G M (pc + 2) L (.long x :: st) h c Q) : J G M pc L (st) h c Q :=
  fun p e R s m args below meth cc H locs cells slots ls C hl a2 a3 a4 a5 => lv_lload C.1 C.2.1 d (hl.2.2 _ _ hx) (k p e R s m args below meth cc H locs cells slots ls C hl a2 a3 a4 a5)
theorem J_aload_n {k : Fin 4} {i : Nat} {x : Nat} (d : DC M pc = .ok (.aload_n k, 1)) (hi : (k : Nat) = i) (hx : L[i]? = some (some (.ref x))) (k : J G M (pc + 1) L (.ref x :: st) h c Q) : J G M pc L (st) h c Q :=
  fun p e R s m args below meth cc H locs cells slots ls C hl a2 a3 a4 a5 => lv_aload_n C.1 C.2.1 d hi (hl.2.2 _ _ hx) (k p e R s m args below meth cc H locs cells slots ls C hl a2 a3 a4 a5)
theorem J_aload {i : Nat} {x : Nat} (d : DC M pc = .ok (.aload i, 2)) (hx : L[i]? = some (some (.ref x))) (k : J G M (pc + 2) L (.ref x :: st) h c Q) : J G M pc L (st) h c Q :=
  fun p e R s m args below meth cc H locs cells slots ls C hl a2 a3 a4 a5 => lv_aload C.1 C.2.1 d (hl.2.2 _ _ hx) (k p e R s m args below meth cc H locs cells slots ls C hl a2 a3 a4 a5)
theorem J_aload_nN {k : Fin 4} {i : Nat}  (d : DC M pc = .ok (.aload_n k, 1)) (hi : (k : Nat) = i) (hx : L[i]? = some (some (.null))) (k : J G M (pc + 1) L (.null :: st) h c Q) : J G M pc L (st) h c Q :=
  fun p e R s m args below meth cc H locs cells slots ls C hl a2 a3 a4 a5 => lv_aload_nN C.1 C.2.1 d hi (hl.2.2 _ _ hx) (k p e R s m args below meth cc H locs cells slots ls C hl a2 a3 a4 a5)
theorem J_aloadN {i : Nat}  (d : DC M pc = .ok (.aload i, 2)) (hx : L[i]? = some (some (.null))) (k : J G M (pc + 2) L (.null :: st) h c Q) : J G M pc L (st) h c Q :=
  fun p e R s m args below meth cc H locs cells slots ls C hl a2 a3 a4 a5 => lv_aloadN C.1 C.2.1 d (hl.2.2 _ _ hx) (k p e R s m args below meth cc H locs cells slots ls C hl a2 a3 a4 a5)
theorem J_istore_n {k : Fin 4} {i : Nat} {x : Int32} (d : DC M pc = .ok (.istore_n k, 1)) (hi : (k : Nat) = i) (hn : i < mL M) (k : J G M (pc + 1) (lst L i (.int x)) st h c Q) : J G M pc L (.int x :: st) h c Q :=
  fun p e R s m args below meth cc H locs cells slots ls C hl a2 a3 a4 a5 => lv_istore_n C.1 C.2.1 d hi (LH_asc hl) hn rfl (fun ls' hl' => k p e R s m args below meth cc H locs cells slots ls' C (LH.store1 (ls := ls) rfl hl') a2 a3 a4 a5)
theorem J_istore {i : Nat} {x : Int32} (d : DC M pc = .ok (.istore i, 2)) (hn : i < mL M) (k : J G M (pc + 2) (lst L i (.int x)) st h c Q) : J G M pc L (.int x :: st) h c Q :=
  fun p e R s m args below meth cc H locs cells slots ls C hl a2 a3 a4 a5 => lv_istore C.1 C.2.1 d (LH_asc hl) hn rfl (fun ls' hl' => k p e R s m args below meth cc H locs cells slots ls' C (LH.store1 (ls := ls) rfl hl') a2 a3 a4 a5)
theorem J_astore_n {k : Fin 4} {i : Nat} {x : Nat} (d : DC M pc = .ok (.astore_n k, 1)) (hi : (k : Nat) = i) (hn : i < mL M) (k : J G M (pc + 1) (lst L i (.ref x)) st h c Q) : J G M pc L (.ref x :: st) h c Q :=
  fun p e R s m args below meth cc H locs cells slots ls C hl a2 a3 a4 a5 => lv_astore_n C.1 C.2.1 d hi (LH_asc hl) hn rfl (fun ls' hl' => k p e R s m args below meth cc H locs cells slots ls' C (LH.store1 (ls := ls) rfl hl') a2 a3 a4 a5)
theorem J_astore {i : Nat} {x : Nat} (d : DC M pc = .ok (.astore i, 2)) (hn : i < mL M) (k : J G M (pc + 2) (lst L i (.ref x)) st h c Q) : J G M pc L (.ref x :: st) h c Q :=
  fun p e R s m args below meth cc H locs cells slots ls C hl a2 a3 a4 a5 => lv_astore C.1 C.2.1 d (LH_asc hl) hn rfl (fun ls' hl' => k p e R s m args below meth cc H locs cells slots ls' C (LH.store1 (ls := ls) rfl hl') a2 a3 a4 a5)
theorem J_astore_nN {k : Fin 4} {i : Nat}  (d : DC M pc = .ok (.astore_n k, 1)) (hi : (k : Nat) = i) (hn : i < mL M) (k : J G M (pc + 1) (lst L i (.null)) st h c Q) : J G M pc L (.null :: st) h c Q :=
  fun p e R s m args below meth cc H locs cells slots ls C hl a2 a3 a4 a5 => lv_astore_nN C.1 C.2.1 d hi (LH_asc hl) hn rfl (fun ls' hl' => k p e R s m args below meth cc H locs cells slots ls' C (LH.store1 (ls := ls) rfl hl') a2 a3 a4 a5)
theorem J_astoreN {i : Nat}  (d : DC M pc = .ok (.astore i, 2)) (hn : i < mL M) (k : J G M (pc + 2) (lst L i (.null)) st h c Q) : J G M pc L (.null :: st) h c Q :=
  fun p e R s m args below meth cc H locs cells slots ls C hl a2 a3 a4 a5 => lv_astoreN C.1 C.2.1 d (LH_asc hl) hn rfl (fun ls' hl' => k p e R s m args below meth cc H locs cells slots ls' C (LH.store1 (ls := ls) rfl hl') a2 a3 a4 a5)
theorem J_fstore_n {k : Fin 4} {i : Nat} {x : UInt32} (d : DC M pc = .ok (.fstore_n k, 1)) (hi : (k : Nat) = i) (hn : i < mL M) (k : J G M (pc + 1) (lst L i (.float x)) st h c Q) : J G M pc L (.float x :: st) h c Q :=
  fun p e R s m args below meth cc H locs cells slots ls C hl a2 a3 a4 a5 => lv_fstore_n C.1 C.2.1 d hi (LH_asc hl) hn rfl (fun ls' hl' => k p e R s m args below meth cc H locs cells slots ls' C (LH.store1 (ls := ls) rfl hl') a2 a3 a4 a5)
theorem J_fstore {i : Nat} {x : UInt32} (d : DC M pc = .ok (.fstore i, 2)) (hn : i < mL M) (k : J G M (pc + 2) (lst L i (.float x)) st h c Q) : J G M pc L (.float x :: st) h c Q :=
  fun p e R s m args below meth cc H locs cells slots ls C hl a2 a3 a4 a5 => lv_fstore C.1 C.2.1 d (LH_asc hl) hn rfl (fun ls' hl' => k p e R s m args below meth cc H locs cells slots ls' C (LH.store1 (ls := ls) rfl hl') a2 a3 a4 a5)
theorem J_dstore {i : Nat} {x : UInt64} (d : DC M pc = .ok (.dstore i, 2)) (hn : i + 1 < mL M) (k : J G M (pc + 2) (lcl (lst L i (.double x)) (i + 1)) st h c Q) : J G M pc L (.double x :: st) h c Q :=
  fun p e R s m args below meth cc H locs cells slots ls C hl a2 a3 a4 a5 => lv_dstore C.1 C.2.1 d (LH_asc hl) hn rfl (fun ls' hl' => k p e R s m args below meth cc H locs cells slots ls' C (LH.store2 rfl hl') a2 a3 a4 a5)
theorem J_iinc {i : Nat} {n : Int} {x : Int32} (d : DC M pc = .ok (.iinc i n, 3)) (hx : L[i]? = some (some (.int x))) (hn : i < mL M) (k : J G M (pc + 3) (lst L i (.int (x + Int32.ofInt n))) st h c Q) : J G M pc L st h c Q := by
  intro p e R s m args below meth cc H locs cells slots ls C hl a2 a3 a4 a5
  obtain ⟨j, hj⟩ := List.getElem?_of_mem (asc_mem (L := L) (q := (i, .int x)) |>.mpr hx)
  exact lv_iinc C.1 C.2.1 d (LH_asc hl) hj rfl hn rfl (fun ls' hl' => k p e R s m args below meth cc H locs cells slots ls' C (LH.store1 (ls := ls) rfl hl') a2 a3 a4 a5)
theorem J_iadd {x y : Int32} (d : DC M pc = .ok (.iadd, 1))  (k : J G M (pc + 1) L (.int (x + y) :: st) h c Q) : J G M pc L (.int y :: .int x :: st) h c Q :=
  fun p e R s m args below meth cc H locs cells slots ls C hl a2 a3 a4 a5 => lv_iadd C.1 C.2.1 d  (k p e R s m args below meth cc H locs cells slots ls C hl a2 a3 a4 a5)
theorem J_isub {x y : Int32} (d : DC M pc = .ok (.isub, 1))  (k : J G M (pc + 1) L (.int (x - y) :: st) h c Q) : J G M pc L (.int y :: .int x :: st) h c Q :=
  fun p e R s m args below meth cc H locs cells slots ls C hl a2 a3 a4 a5 => lv_isub C.1 C.2.1 d  (k p e R s m args below meth cc H locs cells slots ls C hl a2 a3 a4 a5)
theorem J_imul {x y : Int32} (d : DC M pc = .ok (.imul, 1))  (k : J G M (pc + 1) L (.int (x * y) :: st) h c Q) : J G M pc L (.int y :: .int x :: st) h c Q :=
  fun p e R s m args below meth cc H locs cells slots ls C hl a2 a3 a4 a5 => lv_imul C.1 C.2.1 d  (k p e R s m args below meth cc H locs cells slots ls C hl a2 a3 a4 a5)
theorem J_iand {x y : Int32} (d : DC M pc = .ok (.iand, 1))  (k : J G M (pc + 1) L (.int (x &&& y) :: st) h c Q) : J G M pc L (.int y :: .int x :: st) h c Q :=
  fun p e R s m args below meth cc H locs cells slots ls C hl a2 a3 a4 a5 => lv_iand C.1 C.2.1 d  (k p e R s m args below meth cc H locs cells slots ls C hl a2 a3 a4 a5)
theorem J_ior {x y : Int32} (d : DC M pc = .ok (.ior, 1))  (k : J G M (pc + 1) L (.int (x ||| y) :: st) h c Q) : J G M pc L (.int y :: .int x :: st) h c Q :=
  fun p e R s m args below meth cc H locs cells slots ls C hl a2 a3 a4 a5 => lv_ior C.1 C.2.1 d  (k p e R s m args below meth cc H locs cells slots ls C hl a2 a3 a4 a5)
theorem J_ixor {x y : Int32} (d : DC M pc = .ok (.ixor, 1))  (k : J G M (pc + 1) L (.int (x ^^^ y) :: st) h c Q) : J G M pc L (.int y :: .int x :: st) h c Q :=
  fun p e R s m args below meth cc H locs cells slots ls C hl a2 a3 a4 a5 => lv_ixor C.1 C.2.1 d  (k p e R s m args below meth cc H locs cells slots ls C hl a2 a3 a4 a5)
theorem J_idiv {x y : Int32} (d : DC M pc = .ok (.idiv, 1)) (hy : ¬ y = 0) (k : J G M (pc + 1) L (.int (x / y) :: st) h c Q) : J G M pc L (.int y :: .int x :: st) h c Q :=
  fun p e R s m args below meth cc H locs cells slots ls C hl a2 a3 a4 a5 => lv_idiv C.1 C.2.1 d hy (k p e R s m args below meth cc H locs cells slots ls C hl a2 a3 a4 a5)
theorem J_irem {x y : Int32} (d : DC M pc = .ok (.irem, 1)) (hy : ¬ y = 0) (k : J G M (pc + 1) L (.int (x - x / y * y) :: st) h c Q) : J G M pc L (.int y :: .int x :: st) h c Q :=
  fun p e R s m args below meth cc H locs cells slots ls C hl a2 a3 a4 a5 => lv_irem C.1 C.2.1 d hy (k p e R s m args below meth cc H locs cells slots ls C hl a2 a3 a4 a5)
theorem J_ineg {x : Int32} (d : DC M pc = .ok (.ineg, 1))  (k : J G M (pc + 1) L (.int (-x) :: st) h c Q) : J G M pc L (.int x :: st) h c Q :=
  fun p e R s m args below meth cc H locs cells slots ls C hl a2 a3 a4 a5 => lv_ineg C.1 C.2.1 d  (k p e R s m args below meth cc H locs cells slots ls C hl a2 a3 a4 a5)
theorem J_ishl {x y : Int32} (d : DC M pc = .ok (.ishl, 1))  (k : J G M (pc + 1) L (.int (x <<< (y &&& 31)) :: st) h c Q) : J G M pc L (.int y :: .int x :: st) h c Q :=
  fun p e R s m args below meth cc H locs cells slots ls C hl a2 a3 a4 a5 => lv_ishl C.1 C.2.1 d  (k p e R s m args below meth cc H locs cells slots ls C hl a2 a3 a4 a5)
theorem J_ishr {x y : Int32} (d : DC M pc = .ok (.ishr, 1))  (k : J G M (pc + 1) L (.int (x >>> (y &&& 31)) :: st) h c Q) : J G M pc L (.int y :: .int x :: st) h c Q :=
  fun p e R s m args below meth cc H locs cells slots ls C hl a2 a3 a4 a5 => lv_ishr C.1 C.2.1 d  (k p e R s m args below meth cc H locs cells slots ls C hl a2 a3 a4 a5)
theorem J_iushr {x y : Int32} (d : DC M pc = .ok (.iushr, 1))  (k : J G M (pc + 1) L (.int (x.toUInt32 >>> (y.toUInt32 &&& Int32.toUInt32 31)).toInt32 :: st) h c Q) : J G M pc L (.int y :: .int x :: st) h c Q :=
  fun p e R s m args below meth cc H locs cells slots ls C hl a2 a3 a4 a5 => lv_iushr C.1 C.2.1 d rfl (k p e R s m args below meth cc H locs cells slots ls C hl a2 a3 a4 a5)
theorem J_i2l {x : Int32} (d : DC M pc = .ok (.i2l, 1))  (k : J G M (pc + 1) L (.long x.toInt64 :: st) h c Q) : J G M pc L (.int x :: st) h c Q :=
  fun p e R s m args below meth cc H locs cells slots ls C hl a2 a3 a4 a5 => lv_i2l C.1 C.2.1 d rfl (k p e R s m args below meth cc H locs cells slots ls C hl a2 a3 a4 a5)
theorem J_i2b {x : Int32} (d : DC M pc = .ok (.i2b, 1))  (k : J G M (pc + 1) L (.int x.toInt8.toInt32 :: st) h c Q) : J G M pc L (.int x :: st) h c Q :=
  fun p e R s m args below meth cc H locs cells slots ls C hl a2 a3 a4 a5 => lv_i2b C.1 C.2.1 d rfl (k p e R s m args below meth cc H locs cells slots ls C hl a2 a3 a4 a5)
theorem J_i2c {x : Int32} (d : DC M pc = .ok (.i2c, 1))  (k : J G M (pc + 1) L (.int (x.toUInt32 % 65536).toInt32 :: st) h c Q) : J G M pc L (.int x :: st) h c Q :=
  fun p e R s m args below meth cc H locs cells slots ls C hl a2 a3 a4 a5 => lv_i2c C.1 C.2.1 d rfl (k p e R s m args below meth cc H locs cells slots ls C hl a2 a3 a4 a5)
theorem J_i2d {x : Int32} (d : DC M pc = .ok (.i2d, 1))  (k : J G M (pc + 1) L (.double (FP.i2d x) :: st) h c Q) : J G M pc L (.int x :: st) h c Q :=
  fun p e R s m args below meth cc H locs cells slots ls C hl a2 a3 a4 a5 => lv_i2d C.1 C.2.1 d  (k p e R s m args below meth cc H locs cells slots ls C hl a2 a3 a4 a5)
theorem J_i2f {x : Int32} (d : DC M pc = .ok (.i2f, 1))  (k : J G M (pc + 1) L (.float (FP.i2f x) :: st) h c Q) : J G M pc L (.int x :: st) h c Q :=
  fun p e R s m args below meth cc H locs cells slots ls C hl a2 a3 a4 a5 => lv_i2f C.1 C.2.1 d  (k p e R s m args below meth cc H locs cells slots ls C hl a2 a3 a4 a5)
theorem J_f2d {x : UInt32} (d : DC M pc = .ok (.f2d, 1)) (hn : vf_n64 (FP.f2d x)) (k : J G M (pc + 1) L (.double (FP.f2d x) :: st) h c Q) : J G M pc L (.float x :: st) h c Q :=
  fun p e R s m args below meth cc H locs cells slots ls C hl a2 a3 a4 a5 => lv_f2d C.1 C.2.1 d hn (k p e R s m args below meth cc H locs cells slots ls C hl a2 a3 a4 a5)
theorem J_ddiv {x y : UInt64} (d : DC M pc = .ok (.ddiv, 1)) (hn : vf_n64 (FP.ddiv x y)) (k : J G M (pc + 1) L (.double (FP.ddiv x y) :: st) h c Q) : J G M pc L (.double y :: .double x :: st) h c Q :=
  fun p e R s m args below meth cc H locs cells slots ls C hl a2 a3 a4 a5 => lv_ddiv C.1 C.2.1 d hn (k p e R s m args below meth cc H locs cells slots ls C hl a2 a3 a4 a5)
theorem J_fdiv {x y : UInt32} (d : DC M pc = .ok (.fdiv, 1)) (hn : vf_n32 (FP.fdiv x y)) (k : J G M (pc + 1) L (.float (FP.fdiv x y) :: st) h c Q) : J G M pc L (.float y :: .float x :: st) h c Q :=
  fun p e R s m args below meth cc H locs cells slots ls C hl a2 a3 a4 a5 => lv_fdiv C.1 C.2.1 d hn (k p e R s m args below meth cc H locs cells slots ls C hl a2 a3 a4 a5)
theorem J_dcmp {x y : UInt64} {op : CmpOp} (d : DC M pc = .ok (.dcmp op, 1))  (k : J G M (pc + 1) L (.int (Op.cmpValue (FP.dcmp x y) op) :: st) h c Q) : J G M pc L (.double y :: .double x :: st) h c Q :=
  fun p e R s m args below meth cc H locs cells slots ls C hl a2 a3 a4 a5 => lv_dcmp C.1 C.2.1 d  (k p e R s m args below meth cc H locs cells slots ls C hl a2 a3 a4 a5)
theorem J_fcmp {x y : UInt32} {op : CmpOp} (d : DC M pc = .ok (.fcmp op, 1))  (k : J G M (pc + 1) L (.int (Op.cmpValue (FP.fcmp x y) op) :: st) h c Q) : J G M pc L (.float y :: .float x :: st) h c Q :=
  fun p e R s m args below meth cc H locs cells slots ls C hl a2 a3 a4 a5 => lv_fcmp C.1 C.2.1 d  (k p e R s m args below meth cc H locs cells slots ls C hl a2 a3 a4 a5)
theorem J_dup {a : Value} (d : DC M pc = .ok (.dup, 1)) (ha : a.category = 1) (k : J G M (pc + 1) L (a :: a :: st) h c Q) : J G M pc L (a :: st) h c Q :=
  fun p e R s m args below meth cc H locs cells slots ls C hl a2 a3 a4 a5 => lv_dup C.1 C.2.1 d ha (k p e R s m args below meth cc H locs cells slots ls C hl a2 a3 a4 a5)
theorem J_pop {a : Value} (d : DC M pc = .ok (.pop, 1)) (ha : a.category = 1) (k : J G M (pc + 1) L (st) h c Q) : J G M pc L (a :: st) h c Q :=
  fun p e R s m args below meth cc H locs cells slots ls C hl a2 a3 a4 a5 => lv_pop C.1 C.2.1 d ha (k p e R s m args below meth cc H locs cells slots ls C hl a2 a3 a4 a5)
theorem J_dup_x1 {a b : Value} (d : DC M pc = .ok (.dup_x1, 1)) (ha : a.category = 1) (hb : b.category = 1) (k : J G M (pc + 1) L (a :: b :: a :: st) h c Q) : J G M pc L (a :: b :: st) h c Q :=
  fun p e R s m args below meth cc H locs cells slots ls C hl a2 a3 a4 a5 => lv_dup_x1 C.1 C.2.1 d ha hb (k p e R s m args below meth cc H locs cells slots ls C hl a2 a3 a4 a5)
theorem J_dup_x2 {a b w : Value} (d : DC M pc = .ok (.dup_x2, 1)) (ha : a.category = 1) (hb : b.category = 1) (hw : w.category = 1) (k : J G M (pc + 1) L (a :: b :: w :: a :: st) h c Q) : J G M pc L (a :: b :: w :: st) h c Q :=
  fun p e R s m args below meth cc H locs cells slots ls C hl a2 a3 a4 a5 => lv_dup_x2 C.1 C.2.1 d ha hb hw (k p e R s m args below meth cc H locs cells slots ls C hl a2 a3 a4 a5)
theorem J_dup2 {a b : Value} (d : DC M pc = .ok (.dup2, 1)) (ha : a.category = 1) (hb : b.category = 1) (k : J G M (pc + 1) L (a :: b :: a :: b :: st) h c Q) : J G M pc L (a :: b :: st) h c Q :=
  fun p e R s m args below meth cc H locs cells slots ls C hl a2 a3 a4 a5 => lv_dup2_11 C.1 C.2.1 d ha hb (k p e R s m args below meth cc H locs cells slots ls C hl a2 a3 a4 a5)
theorem J_if_eq {x : Int32} {off : Int} {tgt : Nat} (d : DC M pc = .ok (.ifCond .eq off, 3)) (ht : (pc : Int) + off = (tgt : Int)) (kt : x = 0 → J G M tgt L st h c Q) (kf : ¬ x = 0 → J G M (pc + 3) L st h c Q) : J G M pc L (.int x :: st) h c Q :=
  fun p e R s m args below meth cc H locs cells slots ls C hl a2 a3 a4 a5 => lv_if_eq C.1 C.2.1 d ht (fun q => kt q p e R s m args below meth cc H locs cells slots ls C hl a2 a3 a4 a5) (fun q => kf q p e R s m args below meth cc H locs cells slots ls C hl a2 a3 a4 a5)
theorem J_icmp_eq {x y : Int32} {off : Int} {tgt : Nat} (d : DC M pc = .ok (.if_icmp .eq off, 3)) (ht : (pc : Int) + off = (tgt : Int)) (kt : x = y → J G M tgt L st h c Q) (kf : ¬ x = y → J G M (pc + 3) L st h c Q) : J G M pc L (.int y :: .int x :: st) h c Q :=
  fun p e R s m args below meth cc H locs cells slots ls C hl a2 a3 a4 a5 => lv_icmp_eq C.1 C.2.1 d ht (fun q => kt q p e R s m args below meth cc H locs cells slots ls C hl a2 a3 a4 a5) (fun q => kf q p e R s m args below meth cc H locs cells slots ls C hl a2 a3 a4 a5)
theorem J_if_ne {x : Int32} {off : Int} {tgt : Nat} (d : DC M pc = .ok (.ifCond .ne off, 3)) (ht : (pc : Int) + off = (tgt : Int)) (kt : ¬ x = 0 → J G M tgt L st h c Q) (kf : x = 0 → J G M (pc + 3) L st h c Q) : J G M pc L (.int x :: st) h c Q :=
  fun p e R s m args below meth cc H locs cells slots ls C hl a2 a3 a4 a5 => lv_if_ne C.1 C.2.1 d ht (fun q => kt q p e R s m args below meth cc H locs cells slots ls C hl a2 a3 a4 a5) (fun q => kf q p e R s m args below meth cc H locs cells slots ls C hl a2 a3 a4 a5)
theorem J_icmp_ne {x y : Int32} {off : Int} {tgt : Nat} (d : DC M pc = .ok (.if_icmp .ne off, 3)) (ht : (pc : Int) + off = (tgt : Int)) (kt : ¬ x = y → J G M tgt L st h c Q) (kf : x = y → J G M (pc + 3) L st h c Q) : J G M pc L (.int y :: .int x :: st) h c Q :=
  fun p e R s m args below meth cc H locs cells slots ls C hl a2 a3 a4 a5 => lv_icmp_ne C.1 C.2.1 d ht (fun q => kt q p e R s m args below meth cc H locs cells slots ls C hl a2 a3 a4 a5) (fun q => kf q p e R s m args below meth cc H locs cells slots ls C hl a2 a3 a4 a5)
theorem J_if_lt {x : Int32} {off : Int} {tgt : Nat} (d : DC M pc = .ok (.ifCond .lt off, 3)) (ht : (pc : Int) + off = (tgt : Int)) (kt : x < 0 → J G M tgt L st h c Q) (kf : ¬ x < 0 → J G M (pc + 3) L st h c Q) : J G M pc L (.int x :: st) h c Q :=
  fun p e R s m args below meth cc H locs cells slots ls C hl a2 a3 a4 a5 => lv_if_lt C.1 C.2.1 d ht (fun q => kt q p e R s m args below meth cc H locs cells slots ls C hl a2 a3 a4 a5) (fun q => kf q p e R s m args below meth cc H locs cells slots ls C hl a2 a3 a4 a5)
theorem J_icmp_lt {x y : Int32} {off : Int} {tgt : Nat} (d : DC M pc = .ok (.if_icmp .lt off, 3)) (ht : (pc : Int) + off = (tgt : Int)) (kt : x < y → J G M tgt L st h c Q) (kf : ¬ x < y → J G M (pc + 3) L st h c Q) : J G M pc L (.int y :: .int x :: st) h c Q :=
  fun p e R s m args below meth cc H locs cells slots ls C hl a2 a3 a4 a5 => lv_icmp_lt C.1 C.2.1 d ht (fun q => kt q p e R s m args below meth cc H locs cells slots ls C hl a2 a3 a4 a5) (fun q => kf q p e R s m args below meth cc H locs cells slots ls C hl a2 a3 a4 a5)
theorem J_if_ge {x : Int32} {off : Int} {tgt : Nat} (d : DC M pc = .ok (.ifCond .ge off, 3)) (ht : (pc : Int) + off = (tgt : Int)) (kt : 0 ≤ x → J G M tgt L st h c Q) (kf : ¬ 0 ≤ x → J G M (pc + 3) L st h c Q) : J G M pc L (.int x :: st) h c Q :=
  fun p e R s m args below meth cc H locs cells slots ls C hl a2 a3 a4 a5 => lv_if_ge C.1 C.2.1 d ht (fun q => kt q p e R s m args below meth cc H locs cells slots ls C hl a2 a3 a4 a5) (fun q => kf q p e R s m args below meth cc H locs cells slots ls C hl a2 a3 a4 a5)
theorem J_icmp_ge {x y : Int32} {off : Int} {tgt : Nat} (d : DC M pc = .ok (.if_icmp .ge off, 3)) (ht : (pc : Int) + off = (tgt : Int)) (kt : y ≤ x → J G M tgt L st h c Q) (kf : ¬ y ≤ x → J G M (pc + 3) L st h c Q) : J G M pc L (.int y :: .int x :: st) h c Q :=
  fun p e R s m args below meth cc H locs cells slots ls C hl a2 a3 a4 a5 => lv_icmp_ge C.1 C.2.1 d ht (fun q => kt q p e R s m args below meth cc H locs cells slots ls C hl a2 a3 a4 a5) (fun q => kf q p e R s m args below meth cc H locs cells slots ls C hl a2 a3 a4 a5)
theorem J_if_gt {x : Int32} {off : Int} {tgt : Nat} (d : DC M pc = .ok (.ifCond .gt off, 3)) (ht : (pc : Int) + off = (tgt : Int)) (kt : 0 < x → J G M tgt L st h c Q) (kf : ¬ 0 < x → J G M (pc + 3) L st h c Q) : J G M pc L (.int x :: st) h c Q :=
  fun p e R s m args below meth cc H locs cells slots ls C hl a2 a3 a4 a5 => lv_if_gt C.1 C.2.1 d ht (fun q => kt q p e R s m args below meth cc H locs cells slots ls C hl a2 a3 a4 a5) (fun q => kf q p e R s m args below meth cc H locs cells slots ls C hl a2 a3 a4 a5)
theorem J_icmp_gt {x y : Int32} {off : Int} {tgt : Nat} (d : DC M pc = .ok (.if_icmp .gt off, 3)) (ht : (pc : Int) + off = (tgt : Int)) (kt : y < x → J G M tgt L st h c Q) (kf : ¬ y < x → J G M (pc + 3) L st h c Q) : J G M pc L (.int y :: .int x :: st) h c Q :=
  fun p e R s m args below meth cc H locs cells slots ls C hl a2 a3 a4 a5 => lv_icmp_gt C.1 C.2.1 d ht (fun q => kt q p e R s m args below meth cc H locs cells slots ls C hl a2 a3 a4 a5) (fun q => kf q p e R s m args below meth cc H locs cells slots ls C hl a2 a3 a4 a5)
theorem J_if_le {x : Int32} {off : Int} {tgt : Nat} (d : DC M pc = .ok (.ifCond .le off, 3)) (ht : (pc : Int) + off = (tgt : Int)) (kt : x ≤ 0 → J G M tgt L st h c Q) (kf : ¬ x ≤ 0 → J G M (pc + 3) L st h c Q) : J G M pc L (.int x :: st) h c Q :=
  fun p e R s m args below meth cc H locs cells slots ls C hl a2 a3 a4 a5 => lv_if_le C.1 C.2.1 d ht (fun q => kt q p e R s m args below meth cc H locs cells slots ls C hl a2 a3 a4 a5) (fun q => kf q p e R s m args below meth cc H locs cells slots ls C hl a2 a3 a4 a5)
theorem J_icmp_le {x y : Int32} {off : Int} {tgt : Nat} (d : DC M pc = .ok (.if_icmp .le off, 3)) (ht : (pc : Int) + off = (tgt : Int)) (kt : x ≤ y → J G M tgt L st h c Q) (kf : ¬ x ≤ y → J G M (pc + 3) L st h c Q) : J G M pc L (.int y :: .int x :: st) h c Q :=
  fun p e R s m args below meth cc H locs cells slots ls C hl a2 a3 a4 a5 => lv_icmp_le C.1 C.2.1 d ht (fun q => kt q p e R s m args below meth cc H locs cells slots ls C hl a2 a3 a4 a5) (fun q => kf q p e R s m args below meth cc H locs cells slots ls C hl a2 a3 a4 a5)
theorem J_goto {off : Int} {tgt : Nat} (d : DC M pc = .ok (.goto off, 3)) (ht : (pc : Int) + off = (tgt : Int)) (k : J G M tgt L st h c Q) : J G M pc L st h c Q :=
  fun p e R s m args below meth cc H locs cells slots ls C hl a2 a3 a4 a5 => lv_goto C.1 C.2.1 d ht (k p e R s m args below meth cc H locs cells slots ls C hl a2 a3 a4 a5)
theorem J_ifnonnull {x : Nat} {off : Int} {tgt : Nat} (d : DC M pc = .ok (.ifnonnull off, 3)) (ht : (pc : Int) + off = (tgt : Int)) (k : J G M tgt L st h c Q) : J G M pc L (.ref x :: st) h c Q :=
  fun p e R s m args below meth cc H locs cells slots ls C hl a2 a3 a4 a5 => lv_ifnonnull C.1 C.2.1 d ht (k p e R s m args below meth cc H locs cells slots ls C hl a2 a3 a4 a5)
theorem J_ifnullN {off : Int} {tgt : Nat} (d : DC M pc = .ok (.ifnull off, 3)) (ht : (pc : Int) + off = (tgt : Int)) (k : J G M tgt L st h c Q) : J G M pc L (.null :: st) h c Q :=
  fun p e R s m args below meth cc H locs cells slots ls C hl a2 a3 a4 a5 => lv_ifnullN C.1 C.2.1 d ht (k p e R s m args below meth cc H locs cells slots ls C hl a2 a3 a4 a5)
theorem J_ifnull {x : Nat} {off : Int} (d : DC M pc = .ok (.ifnull off, 3)) (k : J G M (pc + 3) L st h c Q) : J G M pc L (.ref x :: st) h c Q :=
  fun p e R s m args below meth cc H locs cells slots ls C hl a2 a3 a4 a5 => lv_ifnull C.1 C.2.1 d (k p e R s m args below meth cc H locs cells slots ls C hl a2 a3 a4 a5)
theorem J_ifnonnullN {off : Int} (d : DC M pc = .ok (.ifnonnull off, 3)) (k : J G M (pc + 3) L st h c Q) : J G M pc L (.null :: st) h c Q :=
  fun p e R s m args below meth cc H locs cells slots ls C hl a2 a3 a4 a5 => lv_ifnonnullN C.1 C.2.1 d (k p e R s m args below meth cc H locs cells slots ls C hl a2 a3 a4 a5)
theorem J_acmp_eq {rx ry : Option Nat} {off : Int} {tgt : Nat} (d : DC M pc = .ok (.if_acmp .eq off, 3)) (ht : (pc : Int) + off = (tgt : Int)) (kt : rx = ry → J G M tgt L st h c Q) (kf : ¬ rx = ry → J G M (pc + 3) L st h c Q) : J G M pc L (va_rf ry :: va_rf rx :: st) h c Q :=
  fun p e R s m args below meth cc H locs cells slots ls C hl a2 a3 a4 a5 => lv_acmp_eq C.1 C.2.1 d ht (fun q => kt q p e R s m args below meth cc H locs cells slots ls C hl a2 a3 a4 a5) (fun q => kf q p e R s m args below meth cc H locs cells slots ls C hl a2 a3 a4 a5)
theorem J_acmp_ne {rx ry : Option Nat} {off : Int} {tgt : Nat} (d : DC M pc = .ok (.if_acmp .ne off, 3)) (ht : (pc : Int) + off = (tgt : Int)) (kt : ¬ rx = ry → J G M tgt L st h c Q) (kf : rx = ry → J G M (pc + 3) L st h c Q) : J G M pc L (va_rf ry :: va_rf rx :: st) h c Q :=
  fun p e R s m args below meth cc H locs cells slots ls C hl a2 a3 a4 a5 => lv_acmp_ne C.1 C.2.1 d ht (fun q => kt q p e R s m args below meth cc H locs cells slots ls C hl a2 a3 a4 a5) (fun q => kf q p e R s m args below meth cc H locs cells slots ls C hl a2 a3 a4 a5)
theorem J_lookup {dflt : Int} {ps : Array (Int × Int)} {len : Nat} {x : Int32} {off : Int} {tgt : Nat} (d : DC M pc = .ok (.lookupswitch dflt ps, len)) (hp : (ps.toList.zip (ps.toList.drop 1)).all (fun (a, next) => a.1 < next.1) = true) (ho : Op.lookupswitch.offset ps.toList dflt x.toInt = off) (ht : (pc : Int) + off = (tgt : Int)) (k : J G M tgt L st h c Q) : J G M pc L (.int x :: st) h c Q :=
  fun p e R s m args below meth cc H locs cells slots ls C hl a2 a3 a4 a5 => lv_lookup C.1 C.2.1 d hp ho ht (k p e R s m args below meth cc H locs cells slots ls C hl a2 a3 a4 a5)
theorem J_tableOut {dflt lo hi : Int} {offs : Array Int} {len : Nat} {x : Int32} {tgt : Nat} (d : DC M pc = .ok (.tableswitch dflt lo hi offs, len)) (hx : x.toInt < lo ∨ hi < x.toInt) (ht : (pc : Int) + dflt = (tgt : Int)) (k : J G M tgt L st h c Q) : J G M pc L (.int x :: st) h c Q :=
  fun p e R s m args below meth cc H locs cells slots ls C hl a2 a3 a4 a5 => lv_tableOut C.1 C.2.1 d hx ht (k p e R s m args below meth cc H locs cells slots ls C hl a2 a3 a4 a5)
theorem J_tableIn {dflt lo hi : Int} {offs : Array Int} {len : Nat} {x : Int32} {off : Int} {tgt : Nat} (d : DC M pc = .ok (.tableswitch dflt lo hi offs, len)) (h1 : ¬ x.toInt < lo) (h2 : ¬ hi < x.toInt) (ho : offs[(x.toInt - lo).toNat]? = some off) (ht : (pc : Int) + off = (tgt : Int)) (k : J G M tgt L st h c Q) : J G M pc L (.int x :: st) h c Q :=
  fun p e R s m args below meth cc H locs cells slots ls C hl a2 a3 a4 a5 => lv_tableIn C.1 C.2.1 d h1 h2 ho ht (k p e R s m args below meth cc H locs cells slots ls C hl a2 a3 a4 a5)
theorem J_lcmp {x y : Int64} (d : DC M pc = .ok (.lcmp, 1)) (k : J G M (pc + 1) L (.int (lg_cmp x y) :: st) h c Q) : J G M pc L (.long y :: .long x :: st) h c Q :=
  fun p e R s m args below meth cc H locs cells slots ls C hl a2 a3 a4 a5 => W.lcmp C.1 C.2.1 d (k p e R s m args below meth cc H locs cells slots ls C hl a2 a3 a4 a5)
end JR
