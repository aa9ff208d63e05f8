/-! J: System.arraycopy, getClass of an array, exceptions of the JDK's own -/
section JN
variable {G : GT} {M : MI} {pc : Nat} {L : List (Option Value)} {st : List Value} {h : HP} {c : Nat} {Q : RR → HP → Prop}
theorem nn32 : ∀ z : Int32, ¬ z < 0 → z.toInt = (z.toNatClampNeg : Int) := by
  intro z hz
  have hz0 : (0 : Int) ≤ z.toInt := by
    have := Int32.not_lt.mp hz
    simpa using Int32.le_iff_toInt_le.mp this
  show z.toInt = ((z.toInt.toNat : Nat) : Int)
  omega
/-- a stretch of any array cell -/
theorem stretch_of {cs : Cell} {n0 sp n : Nat} {z : Nat → Value} (cI : ClassId) (r4 : ∀ j : Nat, j < n0 → cs.slots[j]? = some (z j)) (h4 : sp + n ≤ n0) : cs.stretch sp n = (arrV cI n0 z).stretch sp n := by
  unfold Cell.stretch
  apply List.map_congr_left
  intro i hi
  have hi' := List.mem_range.mp hi
  rw [Array.getD_eq_getD_getElem?, Array.getD_eq_getD_getElem?, arrV_read _ _ (by omega), r4 _ (by omega)]
/-- the words of a copy -/
def CpS (own : String) (idx : Nat) : Prop := Cond.methodLink own idx arraycopyName ∈ lw_all ∧ Cond.native arraycopyName ∈ lw_all ∧ Cond.static arraycopyName ∈ lw_all ∧ Cond.initialized "java/lang/System" ∈ lw_all
/-- every class may stand as an Object -/
def OB (G : GT) : Prop := ∀ r ∈ gC G, Cond.castable r.1 "java/lang/Object" ∈ gW G
theorem W_copy {p : Program} {e : Env} {R : Room} {s : State} {m : MethodId} {args : Array Value} {below : List Frame} {meth : Method} {cc : Code} {H : Heap} {locs : List Loc} {cells slots : Nat} {Qs : State → Prop} {ls : Array Slot} {l : Launch} {cb : ByteArray}
    (hexec : p.tables.exec = Jvm.exec) (hb : cc.code = cb) (hml : ls.size = cc.maxLocals) {own : String} {idx : Nat} (hown : s.vm.findClass own = some m.cls) (hts : ∀ w ∈ lw_all, w.before args s = true) (hcp : CpS own idx)
    {a0 a t n0 n1 : Nat} {cs : Cell} {f g : Nat → Value} {cA : ClassId} (hc0 : H[a0]? = some cs) (hc1 : H[a]? = some (arrV cA n1 g)) (r1 : s.isArrayOf cs (aTy t)) (r2 : cs.vm ≠ .unknown) (r2' : cs.vm.isStatics = false) (r3 : cs.slots.size = n0) (r4 : ∀ j : Nat, j < n0 → cs.slots[j]? = some (f j)) (q1 : s.isArrayOf (arrV cA n1 g) (aTy t))
    {sp dp n : Int32} (h1 : ¬ sp < 0) (h2 : ¬ dp < 0) (h3 : ¬ n < 0) (h4 : sp.toNatClampNeg + n.toNatClampNeg ≤ n0) (h5 : dp.toNatClampNeg + n.toNatClampNeg ≤ n1)
    (hvals : ∀ (k1 : Class) (cm1 : ClassId), s.vm.classes[cA]? = some k1 → k1.kind = .array cm1 (aTy t) → ∀ (T : State) (vm' : Vm), T.heap = H → s.vm.Alike vm' → ∀ i, i < n.toNatClampNeg → fits (aTy t) (f (sp.toNatClampNeg + i)) = true ∧ (T.setVm vm').takes cm1 (f (sp.toNatClampNeg + i)))
    (hframes : 1 ≤ R.frames) (hlocals : (st.map fun v => v.category).sum + (nativeFrameWords "java/lang/System" "arraycopy" 5 + 11) ≤ R.locals) (hdg : decode cb pc = .ok (.invokestatic idx, 3))
    (kk : ∀ (H1 : Heap) (locs1 : List Loc), H1[a]? = some (arrV cA n1 (va_cpy f g sp.toNatClampNeg dp.toNatClampNeg n.toNatClampNeg)) → H1.size = H.size → (∀ q : Nat, q ≠ a → H1[q]? = H[q]?) → (∀ q ∈ locs1, q ∈ locs ∨ q.base = a) → W p l e R s m args below meth cc H1 locs1 cells slots Qs (F0 m (pc + 3) ls st)) :
    W p l e R s m args below meth cc H locs cells slots Qs (F0 m pc ls (.int n :: .int dp :: .ref a :: .int sp :: .ref a0 :: st)) := by
  intro T hT X
  obtain ⟨-, k0, hk0, cm0, hkk0⟩ := id r1
  obtain ⟨-, k1, hk1, cm1, hkk1⟩ := id q1
  obtain ⟨vm', X', step⟩ := X.arraycopy hexec hown (hts _ hcp.1) (hts _ hcp.2.1) (hts _ hcp.2.2.1) (hts _ hcp.2.2.2) (src := a0) (dst := a) (cs := cs) (cd := arrV cA n1 g) (srcPos := sp) (destPos := dp) (n := n) (by rw [hT]; exact hc0) (by rw [hT]; exact hc1)
    (fun _ h => by rw [h] at r2'; cases r2') (fun _ h => by cases h) r2 (fun h => by cases h) hk0 hk1 hkk0 hkk1 (by cases hq : refKind (aTy t) <;> simp [hq]) h1 h2 h3
    (by rw [nn32 sp h1, nn32 n h3, r3]; omega)
    (by rw [nn32 dp h2, nn32 n h3, arrV_size]; omega)
    (fun vm₁ hal i hi => by
      have e : cs.slots.getD (sp.toNatClampNeg + i) .null = f (sp.toNatClampNeg + i) := by
        rw [Array.getD_eq_getD_getElem?, r4 _ (by omega)]
        rfl
      rw [e]
      exact hvals k1 cm1 hk1 hkk1 T vm₁ hT hal i hi)
    (g := F0 m pc ls (.int n :: .int dp :: .ref a :: .int sp :: .ref a0 :: st)) rfl hml (rest := st) rfl (by rw [hb]; exact hdg) hframes (by show 2 * 0 + _ + _ ≤ _; omega)
  have e1 : copied cs (arrV cA n1 g) sp dp n = arrV cA n1 (va_cpy f g sp.toNatClampNeg dp.toNatClampNeg n.toNatClampNeg) := by
    have := va_copied (fun z => z) cA cA f g (n1 := n1) (dp := dp.toNatClampNeg) h4
    rw [← stretch_of cA r4 h4] at this
    exact this
  rw [e1] at X' step
  have hl : a < H.size := (Array.getElem?_eq_some_iff.mp hc1).1
  have hheap : ((T.setVm vm').setCell a (arrV cA n1 (va_cpy f g sp.toNatClampNeg dp.toNatClampNeg n.toNatClampNeg))).heap = H.setIfInBounds a (arrV cA n1 (va_cpy f g sp.toNatClampNeg dp.toNatClampNeg n.toNatClampNeg)) := by rw [← hT]; rfl
  obtain ⟨t', a1, b1⟩ := kk _ _ (by simp [Array.getElem?_setIfInBounds, hl]) (by simp) (fun q hq => by simp [Array.getElem?_setIfInBounds, Ne.symm hq]) (fun q hq => by
      rcases List.mem_append.mp hq with h | h
      · exact Or.inl h
      · obtain ⟨z, -, hz⟩ := List.mem_map.mp h
        rw [← hz]
        exact Or.inr rfl) _ hheap X'
  exact ⟨t', step t' a1, b1⟩
theorem cp_room {v : Nat} {st : List Value} (h8 : (st.map fun v => v.category).sum ≤ 8) (hv : 1 ≤ v) : (st.map fun v => v.category).sum + (nativeFrameWords "java/lang/System" "arraycopy" 5 + 11) ≤ 64 * v := by
  have : nativeFrameWords "java/lang/System" "arraycopy" 5 ≤ 40 := by decide
  omega
theorem cpy_int (f g : Nat → Int32) (sp dp n : Nat) : va_cpy (fun j => Value.int (f j)) (fun j => .int (g j)) sp dp n = fun j => .int (va_cpy f g sp dp n j) := by
  funext j
  unfold va_cpy
  split <;> rfl
theorem cpy_ref (f g : Nat → Option Nat) (sp dp n : Nat) : va_cpy (fun j => va_rf (f j)) (fun j => va_rf (g j)) sp dp n = fun j => va_rf (va_cpy f g sp dp n j) := by
  funext j
  unfold va_cpy
  split <;> rfl
theorem J_copyI {idx a0 a t n0 n1 : Nat} {w : Bool} {f g : Nat → Int32} {sp dp n : Int32} (d : DC M pc = .ok (.invokestatic idx, 3)) (hcp : CpS (mY M).cls idx) (hh0 : h a0 = some (w, .inr (.inl (t, n0, f)))) (hh : h a = some (true, .inr (.inl (t, n1, g)))) (h1 : ¬ sp < 0) (h2 : ¬ dp < 0) (h3 : ¬ n < 0) (h4 : sp.toNatClampNeg + n.toNatClampNeg ≤ n0) (h5 : dp.toNatClampNeg + n.toNatClampNeg ≤ n1) (h8 : (st.map fun v => v.category).sum ≤ 8) (hv : 1 ≤ mV M)
    (kk : J G M (pc + 3) L st (hs h a (true, .inr (.inl (t, n1, va_cpy f g sp.toNatClampNeg dp.toNatClampNeg n.toNatClampNeg)))) c Q) : J G M pc L (.int n :: .int dp :: .ref a :: .int sp :: .ref a0 :: st) h c Q := by
  intro p e R s m args below meth cc H locs cells slots ls C hl a2 a3 a4 a5
  have hE : EN G s := C.2.2.2.2.2.2.2.2.2.2.1
  obtain ⟨⟨cs, g1, g2, g3, g4⟩, -⟩ := a2.1 a0 _ hh0
  obtain ⟨⟨cd, k1, k2, k3, k4⟩, k5⟩ := a2.1 a _ hh
  have ha : g0 G ≤ a := k5 rfl
  obtain ⟨r1, r2, r2', r3, r4⟩ := ar_spec hE (Or.inl (by omega)) g4
  obtain ⟨q1, -⟩ := ar_spec hE (Or.inl (by omega)) k4
  have e0 : cd = arrV (gA G t) n1 (fun j => .int (g j)) := by unfold AR at k4; rw [if_pos rfl] at k4; exact k4
  subst e0
  refine W_copy C.1 C.2.1 (by rw [hl.1]; exact C.2.2.2.2.1.symm) C.2.2.2.2.2.1 C.2.2.2.2.2.2.1 hcp g1 k1 r1 r2 r2' r3 r4 q1 h1 h2 h3 h4 h5 (fun _ _ _ _ _ _ _ _ i hi => ⟨g3 _ (by omega), trivial⟩) (by rw [C.2.2.2.2.2.2.2.2.1]; exact hv) (by rw [C.2.2.2.2.2.2.2.2.2.1]; exact cp_room h8 hv) d fun H1 locs1 e1 e2 e3 e4 => ?_
  refine kk p e R s m args below meth cc H1 locs1 cells slots ls C hl (a2.put ha e1 e2 e3 ⟨k2, fun j hj => ?_, ?_⟩) a3 a4 (fun q hq => (e4 q hq).elim (a5 q) (fun e => by rw [e]; exact ha))
  · unfold va_cpy
    split
    · exact g3 _ (by omega)
    · exact k3 j hj
  · unfold AR
    rw [if_pos rfl, cpy_int]
theorem J_copyR {idx a0 a n0 n1 : Nat} {w : Bool} {f g : Nat → Option Nat} {sp dp n : Int32} (d : DC M pc = .ok (.invokestatic idx, 3)) (hcp : CpS (mY M).cls idx) (hO : OB G) (hh0 : h a0 = some (w, .inr (.inr (.inl (n0, f))))) (hh : h a = some (true, .inr (.inr (.inl (n1, g))))) (h1 : ¬ sp < 0) (h2 : ¬ dp < 0) (h3 : ¬ n < 0) (h4 : sp.toNatClampNeg + n.toNatClampNeg ≤ n0) (h5 : dp.toNatClampNeg + n.toNatClampNeg ≤ n1) (h8 : (st.map fun v => v.category).sum ≤ 8) (hv : 1 ≤ mV M)
    (hel : ∀ i y : Nat, i < n.toNatClampNeg → f (sp.toNatClampNeg + i) = some y → ∃ w ci fs, h y = some (w, .inl (ci, fs)))
    (kk : J G M (pc + 3) L st (hs h a (true, .inr (.inr (.inl (n1, va_cpy f g sp.toNatClampNeg dp.toNatClampNeg n.toNatClampNeg))))) c Q) : J G M pc L (.int n :: .int dp :: .ref a :: .int sp :: .ref a0 :: st) h c Q := by
  intro p e R s m args below meth cc H locs cells slots ls C hl a2 a3 a4 a5
  have hE : EN G s := C.2.2.2.2.2.2.2.2.2.2.1
  obtain ⟨⟨cs, g1, g4⟩, -⟩ := a2.1 a0 _ hh0
  obtain ⟨⟨cd, k1, k4⟩, k5⟩ := a2.1 a _ hh
  have ha : g0 G ≤ a := k5 rfl
  have k4 : AR G s true 5 n1 (fun j => va_rf (g j)) cd := k4
  obtain ⟨r1, r2, r2', r3, r4⟩ := ar_spec hE (Or.inl (by decide)) g4
  obtain ⟨q1, -⟩ := ar_spec hE (Or.inl (by decide)) k4
  have e0 : cd = arrV (gA G 5) n1 (fun j => va_rf (g j)) := by unfold AR at k4; rw [if_pos rfl] at k4; exact k4
  subst e0
  refine W_copy C.1 C.2.1 (by rw [hl.1]; exact C.2.2.2.2.1.symm) C.2.2.2.2.2.1 C.2.2.2.2.2.2.1 hcp g1 k1 r1 r2 r2' r3 r4 q1 h1 h2 h3 h4 h5 ?_ (by rw [C.2.2.2.2.2.2.2.2.1]; exact hv) (by rw [C.2.2.2.2.2.2.2.2.2.1]; exact cp_room h8 hv) d fun H1 locs1 e1 e2 e3 e4 => ?_
  · intro kk1 cm1 hk1 hkk1 T vm' hT hal i hi
    cases hy : f (sp.toNatClampNeg + i) with
    | none => exact ⟨rfl, trivial⟩
    | some y =>
      obtain ⟨wy, ci, fs, hyo⟩ := hel i y hi hy
      obtain ⟨⟨cv, v1, v2, -, v4, -, ⟨r, hr, -⟩, -⟩, -⟩ := a2.1 y _ hyo
      have hcls := (hE.1.1 ci r hr).2
      obtain ⟨kA, comp, y1, y2, y3, -⟩ := (hE.1.2 5 _ (tys_at G (by decide))).2
      cases hk1.symm.trans y1
      cases hkk1.symm.trans y2
      obtain ⟨c0, t1, f1, f2, f3⟩ := Cond.castable_spec (hE.nw (A := args) (hO r (List.mem_of_getElem? hr)))
      cases hcls.1.symm.trans f1
      cases y3.symm.trans f2
      obtain ⟨kC, hkC, -⟩ := hcls.2
      obtain ⟨kE, hkE, -⟩ := Vm.findClass_spec y3
      obtain ⟨kC', hkC', -⟩ := hal.2.2 _ _ hkC
      obtain ⟨kE', hkE', -⟩ := hal.2.2 _ _ hkE
      refine ⟨rfl, cv, (show T.heap[y]? = some cv by rw [hT]; exact v1), (fun q h => by rw [h] at v4; cases v4), ⟨kC', by rw [v2]; exact hkC'⟩, ⟨kE', hkE'⟩, ?_⟩
      show vm'.assignable _ _ = true
      rw [hal.assignable, v2]
      exact f3
  · refine kk p e R s m args below meth cc H1 locs1 cells slots ls C hl (a2.put ha e1 e2 e3 ?_) a3 a4 (fun q hq => (e4 q hq).elim (a5 q) (fun e => by rw [e]; exact ha))
    show AR G s true 5 _ _ _
    unfold AR
    rw [if_pos rfl, cpy_ref]
theorem J_aastoreO {a b n ci : Nat} {w : Bool} {fs : List Value} {f : Nat → Option Nat} {i : Int32} (d : DC M pc = .ok (.aastore, 1)) (hh : h a = some (true, .inr (.inr (.inl (n, f))))) (hb : h b = some (w, .inl (ci, fs))) (hO : OB G) (hi : vp_in i n) (kk : J G M (pc + 1) L st (hs h a (true, .inr (.inr (.inl (n, va_up f i.toNatClampNeg (some b)))))) c Q) : J G M pc L (.ref b :: .int i :: .ref a :: st) h c Q := by
  intro p e R s m args below meth cc H locs cells slots ls C hl a2 a3 a4 a5
  obtain ⟨⟨cell, -, -, -, -, -, ⟨r, hr, -⟩, -⟩, -⟩ := a2.1 b _ hb
  exact J_aastore d hh hb hr (hO r (List.mem_of_getElem? hr)) hi kk p e R s m args below meth cc H locs cells slots ls C hl a2 a3 a4 a5
/-- Object.<init> -/
theorem J_oinit0 {idx a : Nat} (d : DC M pc = .ok (.invokespecial idx, 3)) (hw : Cond.methodLink (mY M).cls idx Lib.objectInit ∈ lw_all) (hw2 : Cond.instanceMethod Lib.objectInit ∈ lw_all ∧ Cond.code Lib.objectInit ⟨#[0xb1]⟩ 1 none ∈ lw_all) (h8 : (st.map fun v => v.category).sum ≤ 8) (hv : 1 ≤ mV M) (kk : J G M (pc + 3) L st h c Q) : J G M pc L (.ref a :: st) h c Q := by
  intro p e R s m args below meth cc H locs cells slots ls C hl a2 a3 a4 a5
  have hts := C.2.2.2.2.2.2.1
  exact W.objInit C.1 C.2.1 C.2.2.2.2.2.1 (hts _ hw) (hts _ hw2.1) (hts _ hw2.2) (g := F0 m pc ls (.ref a :: st)) rfl (by show ls.size = _; rw [hl.1]; exact C.2.2.2.2.1.symm) rfl d (by rw [C.2.2.2.2.2.2.2.2.1]; exact hv) (by show 2 * 0 + _ + 12 ≤ _; rw [C.2.2.2.2.2.2.2.2.2.1]; omega) (kk p e R s m args below meth cc H locs cells slots ls C hl a2 a3 a4 a5)
theorem J_mmax0 {idx : Nat} {x y : Int32} (d : DC M pc = .ok (.invokestatic idx, 3)) (hw : Cond.methodLink (mY M).cls idx Lib.Math.max.name ∈ lw_all) (hw2 : Cond.static Lib.Math.max.name ∈ lw_all ∧ Cond.initialized "java/lang/Math" ∈ lw_all ∧ Cond.code Lib.Math.max.name Lib.Math.max.code 2 (some .int) ∈ lw_all) (h8 : (st.map fun v => v.category).sum ≤ 8) (hv : 1 ≤ mV M) (kk : J G M (pc + 3) L (.int (if x < y then y else x) :: st) h c Q) : J G M pc L (.int y :: .int x :: st) h c Q := by
  intro p e R s m args below meth cc H locs cells slots ls C hl a2 a3 a4 a5
  have hts := C.2.2.2.2.2.2.1
  exact va_mmax C.1 C.2.1 (by rw [hl.1]; exact C.2.2.2.2.1) C.2.2.2.2.2.1 (hts _ hw) (hts _ hw2.1) (hts _ hw2.2.1) (hts _ hw2.2.2) (by rw [C.2.2.2.2.2.2.2.2.1]; exact hv) (by rw [C.2.2.2.2.2.2.2.2.2.1]; omega) (by omega) (by omega) d (kk p e R s m args below meth cc H locs cells slots ls C hl a2 a3 a4 a5)
theorem J_mmin0 {idx : Nat} {x y : Int32} (d : DC M pc = .ok (.invokestatic idx, 3)) (hw : Cond.methodLink (mY M).cls idx Lib.Math.min.name ∈ lw_all) (hw2 : Cond.static Lib.Math.min.name ∈ lw_all ∧ Cond.initialized "java/lang/Math" ∈ lw_all ∧ Cond.code Lib.Math.min.name Lib.Math.min.code 2 (some .int) ∈ lw_all) (h8 : (st.map fun v => v.category).sum ≤ 8) (hv : 1 ≤ mV M) (kk : J G M (pc + 3) L (.int (if y < x then y else x) :: st) h c Q) : J G M pc L (.int y :: .int x :: st) h c Q := by
  intro p e R s m args below meth cc H locs cells slots ls C hl a2 a3 a4 a5
  have hts := C.2.2.2.2.2.2.1
  exact va_mmin C.1 C.2.1 (by rw [hl.1]; exact C.2.2.2.2.1) C.2.2.2.2.2.1 (hts _ hw) (hts _ hw2.1) (hts _ hw2.2.1) (hts _ hw2.2.2) (by rw [C.2.2.2.2.2.2.2.2.1]; exact hv) (by rw [C.2.2.2.2.2.2.2.2.2.1]; omega) (by omega) (by omega) d (kk p e R s m args below meth cc H locs cells slots ls C hl a2 a3 a4 a5)
/-- getClass() of an array of objects -/
def GcS (own : String) (idx : Nat) : Prop := Cond.methodLink own idx ⟨"java/lang/Object", "getClass", "()Ljava/lang/Class;"⟩ ∈ lw_all ∧ Cond.selects "[Ljava/lang/Object;" ⟨"java/lang/Object", "getClass", "()Ljava/lang/Class;"⟩ ⟨"java/lang/Object", "getClass", "()Ljava/lang/Class;"⟩ ∈ lw_all ∧ Cond.instanceMethod ⟨"java/lang/Object", "getClass", "()Ljava/lang/Class;"⟩ ∈ lw_all ∧ Cond.native ⟨"java/lang/Object", "getClass", "()Ljava/lang/Class;"⟩ ∈ lw_all
theorem J_getC {idx a n mi : Nat} {w : Bool} {f : Nat → Option Nat} (d : DC M pc = .ok (.invokevirtual idx, 3)) (hg : GcS (mY M).cls idx) (hh : h a = some (w, .inr (.inr (.inl (n, f))))) (hm : ("[Ljava/lang/Object;", mi) ∈ gM G) (h8 : (st.map fun v => v.category).sum ≤ 8) (hv : 1 ≤ mV M) (kk : J G M (pc + 3) L (.ref mi :: st) h c Q) : J G M pc L (.ref a :: st) h c Q := by
  intro p e R s m args below meth cc H locs cells slots ls C hl a2 a3 a4 a5
  have hE : EN G s := C.2.2.2.2.2.2.2.2.2.2.1
  have hts := C.2.2.2.2.2.2.1
  obtain ⟨⟨cs, g1, g4⟩, -⟩ := a2.1 a _ hh
  obtain ⟨r1, r2, r2', r3, r4⟩ := ar_spec hE (Or.inl (by decide)) g4
  have hcl : cs.cls = gA G 5 := (ar_cls g4).resolve_left (by decide)
  exact va_getC C.1 C.2.1 (by rw [hl.1]; exact C.2.2.2.2.1) C.2.2.2.2.2.1 (hts _ hg.1) (va_Dc.use hE.2.2.2.2.2.2.2.1) (hts _ hg.2.1) (hts _ hg.2.2.1) (hts _ hg.2.2.2) (hE.2.2.2.2.2.1 _ hm) ⟨cs, g1, r2', by rw [hcl]; exact fc_O hE⟩ (by rw [C.2.2.2.2.2.2.2.2.1]; exact hv) (by rw [C.2.2.2.2.2.2.2.2.2.1]; omega) d (kk p e R s m args below meth cc H locs cells slots ls C hl a2 a3 a4 a5)
/-- 'new X()' of an exception of the JDK's: new, dup, invokespecial in one -/
def XS (G : GT) (own : String) (ik ic ci : Nat) : Prop :=
  ∃ (cls : String) (names : List String) (T0 : u_T), (gC G)[ci]? = some (cls, T0, 0) ∧ Bundle.fit cls = true ∧ (∀ n ∈ names, Bundle.fit n = true) ∧ names.length ≤ 4 ∧ Cond.classLink own ik cls ∈ lw_all ∧ Cond.initialized cls ∈ lw_all ∧ (∀ w ∈ vx_at0 own ic cls names, w ∈ lw_all ∨ w ∈ gW G)
theorem nw_ot {w : Cond} (hk : nwOk w = true) : vx_ot w = true := by
  cases w <;> first | rfl | cases hk
theorem good_ot {w : Cond} (hk : w ∈ lw_all) : vx_ot w = true := by
  have := (List.mem_filter.mp hk).2
  simp [vx_ot, this]
theorem J_make0 {ik ic ci : Nat} (d0 : DC M pc = .ok (.new ik, 3)) (d3 : DC M (pc + 3) = .ok (.dup, 1)) (d4 : DC M (pc + 4) = .ok (.invokespecial ic, 3)) (hX : XS G (mY M).cls ik ic ci) (h8 : (st.map fun v => v.category).sum ≤ 8) (hv : 8 ≤ mV M) (hc : 18 ≤ c) (kk : ∀ a : Nat, h a = none → J G M (pc + 7) L (.ref a :: st) (hs h a (true, .inl (ci, []))) (c - 18) Q) : J G M pc L st h c Q := by
  intro p e R s m args below meth cc H locs cells slots ls C hl a2 a3 a4 a5
  have hE : EN G s := C.2.2.2.2.2.2.2.2.2.2.1
  have hts := C.2.2.2.2.2.2.1
  obtain ⟨cls, names, T0, hcl, hfit, hnames, hnl, hk, hini, hat⟩ := hX
  have hb := C.2.1
  have hexec := C.1
  intro T hT X
  subst hT
  have htr : e.platform.stackTraces = false := (show e.platform.stackTraces = (gL G).stackTraces by rw [X.admits.platform]).trans C.2.2.2.2.2.2.2.2.2.2.2.2
  have hcc : cells + 1 ≤ R.cells ∧ slots + 6 ≤ R.slots ∧ cells + 1 + (c - 18) / 12 ≤ R.cells ∧ slots + 6 + (c - 18) ≤ R.slots := by omega
  have Y := vx_rebase X (R' := { frames := R.frames, locals := R.locals, cells := 1, slots := 6 }) (Nat.le_refl _) (Nat.le_refl _) hcc.1 hcc.2.1
  obtain ⟨s', hA'⟩ : ∃ z, z = (T.setVm s.vm).setFrames (.invoking m args :: below) := ⟨_, rfl⟩
  rw [← hA'] at Y
  have hvm : s'.vm = s.vm := by rw [hA']; rfl
  have hhp : s'.heap = T.heap := by rw [hA']; rfl
  have hW0 : s.WarmedH s'.vm := by rw [hvm]; exact State.WarmedH.refl s
  have hat' : ∀ w ∈ vx_at0 (mY M).cls ic cls names, w.before args s' = true := fun w hw => by
    rcases hat w hw with h1 | h1
    · exact vx_ot_at hW0 hvm.symm (good_ot h1) (hts _ h1)
    · exact vx_ot_at hW0 hvm.symm (nw_ot (hE.2.1 w h1).1) (hE.nw (A := args) h1)
  have hk' : (Cond.classLink (mY M).cls ik cls).before args s' = true := vx_ot_at hW0 hvm.symm (good_ot hk) (hts _ hk)
  have hini' : (Cond.initialized cls).before args s' = true := vx_ot_at hW0 hvm.symm (good_ot hini) (hts _ hini)
  have hU' : vx_Zq Bundle.tN "UNASSIGNED_STACK" Bundle.steD (NB G) s' s'.heap := by rw [hhp]; exact vx_Zq.moved hW0.alike a2.2.1.2.1
  have hN' : vx_Zq Bundle.tN "SUPPRESSED_SENTINEL" Bundle.listD (NB G) s' s'.heap := by rw [hhp]; exact vx_Zq.moved hW0.alike a2.2.1.2.2
  have hw : ∀ w ∈ Bundle.ownAtoms0 (mY M).cls ic cls names, w.before args s' = true := vx_own hat' (vx_isRefq hU'.1) (vx_isRefq hN'.1) hU'.2.word hN'.2.word
  have hown' : s'.vm.findClass (mY M).cls = some m.cls := by rw [hvm]; exact C.2.2.2.2.2.1
  have hins : (Cond.instantiable cls 6).before args s' = true := hw _ (by simp [Bundle.ownAtoms0])
  obtain ⟨vm₁, cX, kX, hfX, hkX, -, -, X₁, st1⟩ := Y.newCold hexec (own := (mY M).cls) (C := cls) (index := ik) (n := 6) hown' hk' hins hini'
    (g := F0 m pc ls st) rfl (by rw [hb]; exact d0) (Nat.le_refl _) (Nat.le_refl _)
  generalize hT1 : (T.setVm vm₁).pushCell { cls := cX, slots := kX.instanceTypes.map defaultValue, vm := .none } = T1 at X₁ st1
  have hcat : (Value.ref T.heap.size).category = 1 := rfl
  have hcellA : T1.heap[T.heap.size]? = some (freshCell cX kX) := by rw [← hT1]; exact State.heap_pushCell_size _ _
  have d3' : decode cc.code (pc + 3) = .ok (.dup, 1) := by rw [hb]; exact d3
  obtain ⟨V, ce, Lc, Z, hL, hlt, hcl9, hvm9, st2⟩ := vx_ctorMade0 X₁ hexec htr (own := (mY M).cls) (cls := cls) (names := names) (ic := ic) hown' hfit hnames hw (fun x hx => nomatch hx) hfX hkX hcellA (by rw [hhp]; exact Nat.le_refl _)
    (g := { method := m, pc := pc + 4, locals := ls, stack := .ref T.heap.size :: .ref T.heap.size :: st, locked := none }) rfl (by rw [hl.1]; exact C.2.2.2.2.1.symm) (rest := st) rfl
    (by rw [hb]; exact d4) (by show names.length + 3 < R.frames; rw [C.2.2.2.2.2.2.2.2.1]; omega) (by show _ ≤ R.locals; rw [C.2.2.2.2.2.2.2.2.2.1]; simp only [List.map_cons, List.sum_cons, hcat]; omega)
  have Z0 := Stand.forget (locs := []) Z (fun y hy => by rw [hL y hy, hhp]; exact Nat.le_refl _)
  obtain ⟨f1, f2⟩ := vx_frame Z0.same
  rw [hhp] at f1 f2
  have hcid : ce.cls = (gD G).1 ci := by
    rw [hcl9]
    have h1 := (hE.1.1 ci _ hcl).2.1
    rw [hvm] at hfX
    exact Option.some.inj (hfX.symm.trans h1)
  have hh : (V.setCell T.heap.size ce).heap[T.heap.size]? = some ce := heapAt_setCell_self (s := V) ce hlt
  subst hA'
  have X5 := vx_back9 X Y Z0
  have X6 : Stand p (gL G) e R s m args below meth cc (V.setCell T.heap.size ce) locs (cells + 1) (slots + 6) := { X5 with same := X5.same.mono (by omega) (by omega) }
  have hHR : HR G s (hs h T.heap.size (true, .inl (ci, []))) (V.setCell T.heap.size ce).heap := a2.push hh (fun q hq => f2 q hq (fun z hz => nomatch hz)) f1 ⟨hcid, (by rw [hvm9]; intro q; cases q), (by rw [hvm9]; rfl), fun _ => hvm9, ⟨_, hcl, Nat.le_refl _⟩, fun k v hv => by cases hv⟩
  obtain ⟨t, a1, b1⟩ := kk T.heap.size (a2.none (Nat.le_refl _)) p e R s m args below meth cc (V.setCell T.heap.size ce).heap locs (cells + 1) (slots + 6) ls C hl hHR hcc.2.2.1 hcc.2.2.2 a5 _ rfl X6
  refine ⟨t, st1 _ ?_, b1⟩
  show Steps p.tables e below (T1.setTop { method := m, pc := pc + 3, locals := ls, stack := .ref T.heap.size :: st, locked := none }) _
  jvm_step X₁.here [X₁.here.top, hexec, d3', Value.category]
  exact st2 _ a1
end JN
