/-! J: new objects, statics, constants, casts, ends, exceptions -/
theorem jj_ldcwS {p : Program} {l : Launch} {e : Env} {R : Room} {s : State} {m : MethodId} {args : Array Value} {below : List Frame} {meth : Method} {c : Code} {T : State} {locs : List Loc} {cells slots : Nat}
    (X : Stand p l e R s m args below meth c T locs cells slots) (hexec : p.tables.exec = Jvm.exec) {own text : String} {index : Nat} {a : Addr} (hown : s.vm.findClass own = some m.cls)
    (hconst : (Cond.stringRef own index text).before args s = true) (hev : (Term.string own index).eval args s none [] s = some (.ref a)) {g : JFrame} (hg : g.method = m) (hdg : decode c.code g.pc = .ok (.ldc_w index, 3)) :
    ∀ target, Steps p.tables e below (T.setTop { g with pc := g.pc + 3, stack := .ref a :: g.stack }) target → Steps p.tables e below (T.setTop g) target := by
  obtain ⟨k, cf, i, a', hk, hcf, hcp, -, hr, hev'⟩ := Cond.stringRef_spec hown hconst
  cases hev.symm.trans hev'
  obtain ⟨k', hk', he⟩ := X.warmed.alike.2.2 _ _ hk
  have hr' : k'.resolved[index]? = some (some (.string a)) := by
    rcases X.warmed.entry hk hk' index with h | ⟨h, -⟩
    · rw [h]; exact hr
    · rw [hr] at h; cases h
  intro target hrest
  subst hg
  jvm_step X.here [hexec, hdg, ldc_w.wp_string (e := e) (s := T) (f := g) X.here.top hk' (by rw [he]; exact hcf) hcp hr']
  exact hrest
section JO
variable {G : GT} {M : MI} {pc : Nat} {L : List (Option Value)} {st : List Value} {h : HP} {c : Nat} {Q : RR → HP → Prop}
/-- a new object of class ci: what 'new idx' makes, its fields at their first values fs -/
def NS (G : GT) (own : String) (idx ci : Nat) (fs : List Value) : Prop :=
  ∃ (C : String) (T : u_T) (N : Nat) (ty : Nat → FieldType), (gC G)[ci]? = some (C, T, N) ∧ (∀ w ∈ u_ws C T N, w ∈ lw_all) ∧ (∀ k, k < N → parseFieldDescriptor (T k).2.2.1 = some (ty k)) ∧
    Cond.classLink own idx C ∈ lw_all ∧ Cond.instantiable C N ∈ lw_all ∧ Cond.initialized C ∈ lw_all ∧ fs.length = N ∧ (∀ k, k < N → fs[k]? = some (defaultValue (ty k)))
theorem J_new {idx ci : Nat} {fs : List Value} (d : DC M pc = .ok (.new idx, 3)) (hN : NS G (mY M).cls idx ci fs) (hc : 12 + fs.length ≤ c) (kk : ∀ a : Nat, h a = none → J G M (pc + 3) L (.ref a :: st) (hs h a (true, .inl (ci, fs))) (c - (12 + fs.length)) Q) : J G M pc L st h c Q := by
  intro p e R s m args below meth cc H locs cells slots ls C hl a2 a3 a4 a5
  obtain ⟨Cn, T, N, ty, n1, n2, n3, n4, n5, n6, n7, n8⟩ := hN
  have hts := C.2.2.2.2.2.2.1
  have hE : EN G s := C.2.2.2.2.2.2.2.2.2.2.1
  have hKn := hE.1.1 ci _ n1
  rw [n7] at hc
  obtain ⟨q1, q2, q3, q4⟩ := cr_new hc a3 a4
  refine W.newcK C.1 C.2.1 C.2.2.2.2.2.1 (hts _ n4) (hts _ n5) (hts _ n6) rfl d q1 q2 hKn.2.1 rfl fun H1 kC hkC e1 z1 o1 => ?_
  obtain ⟨cell, t1, t2, t3, t4⟩ := u_born ty hts n2 hKn hkC e1 n3
  rw [n7] at kk
  refine kk H.size (a2.none (Nat.le_refl _)) p e R s m args below meth cc H1 locs (cells + 1) (slots + N) ls C hl (a2.push t1 o1 (by omega) ⟨t2, (by rw [t3]; intro q; cases q), (by rw [t3]; rfl), fun _ => t3, ⟨_, n1, Nat.le_of_eq n7⟩, fun k v hv => ?_⟩) q3 q4 a5
  have hk : k < N := by have := (List.getElem?_eq_some_iff.mp hv).1; omega
  rw [n8 k hk] at hv
  cases hv
  exact t4 k hk
theorem J_gets {idx : Nat} {C ref n ds : String} {v : Value} (d : DC M pc = .ok (.getstatic idx, 3)) (hx : (C, n, ds, v) ∈ gT G) (hlink : Cond.fieldLink (mY M).cls idx ref n ds ∈ lw_all) (hs : ref = C ∨ Cond.sameField ref C n ds ∈ lw_all) (kk : J G M (pc + 3) L (v :: st) h c Q) : J G M pc L st h c Q := by
  intro p e R s m args below meth cc H locs cells slots ls C0 hl a2 a3 a4 a5
  have hts := C0.2.2.2.2.2.2.1
  obtain ⟨cf, kf, fi, f, a, cell, h1, h2, h3, h4, h5, h6, h7, h8⟩ := a2.2.1.1 _ hx
  have hsame : s.fieldFound? ref n ds = some (cf, kf, fi, f) := by
    rcases hs with e1 | e1
    · rw [e1]; exact h1
    · exact u_same (hts _ e1) _ h1
  exact W.gets C0.1 C0.2.1 C0.2.2.2.2.2.1 (hts _ hlink) hsame h2 h3 h4 h5 (fun e => by rw [e] at h6; cases h6) h7 rfl d (kk p e R s m args below meth cc H locs cells slots ls C0 hl a2 a3 a4 a5)
theorem J_ldcI {idx : Nat} {v : Int32} (d : DC M pc = .ok (.ldc idx, 2)) (hw : Cond.constant (mY M).cls idx v ∈ lw_all) (kk : J G M (pc + 2) L (.int v :: st) h c Q) : J G M pc L st h c Q :=
  fun p e R s m args below meth cc H locs cells slots ls C hl a2 a3 a4 a5 => lv_ldc C.1 C.2.1 C.2.2.2.2.2.1 (C.2.2.2.2.2.2.1 _ hw) d (kk p e R s m args below meth cc H locs cells slots ls C hl a2 a3 a4 a5)
theorem J_ldcwI {idx : Nat} {v : Int32} (d : DC M pc = .ok (.ldc_w idx, 3)) (hw : Cond.constant (mY M).cls idx v ∈ lw_all) (kk : J G M (pc + 3) L (.int v :: st) h c Q) : J G M pc L st h c Q :=
  fun p e R s m args below meth cc H locs cells slots ls C hl a2 a3 a4 a5 => lv_ldcw C.1 C.2.1 C.2.2.2.2.2.1 (C.2.2.2.2.2.2.1 _ hw) d (kk p e R s m args below meth cc H locs cells slots ls C hl a2 a3 a4 a5)
theorem J_ldcS {idx q : Nat} {tx : String} (d : DC M pc = .ok (.ldc idx, 2)) (hx : ((mY M).cls, idx, tx, q) ∈ gS G) (kk : J G M (pc + 2) L (.ref q :: st) h c Q) : J G M pc L st h c Q :=
  fun p e R s m args below meth cc H locs cells slots ls C hl a2 a3 a4 a5 => va_ldcS C.1 C.2.1 C.2.2.2.2.2.1 (C.2.2.2.2.2.2.2.2.2.2.1.2.2.2.2.1 _ hx) d (kk p e R s m args below meth cc H locs cells slots ls C hl a2 a3 a4 a5)
theorem J_ldcwS {idx q : Nat} {tx : String} (d : DC M pc = .ok (.ldc_w idx, 3)) (hx : ((mY M).cls, idx, tx, q) ∈ gS G) (kk : J G M (pc + 3) L (.ref q :: st) h c Q) : J G M pc L st h c Q := by
  intro p e R s m args below meth cc H locs cells slots ls C hl a2 a3 a4 a5 T hT X
  obtain ⟨t, a1, b1⟩ := kk p e R s m args below meth cc H locs cells slots ls C hl a2 a3 a4 a5 T hT X
  have hZ := C.2.2.2.2.2.2.2.2.2.2.1.2.2.2.2.1 _ hx
  refine ⟨t, ?_, b1⟩
  exact jj_ldcwS X C.1 C.2.2.2.2.2.1 (text := tx) hZ.1 hZ.2 (g := F0 m pc ls st) rfl (by rw [C.2.1]; exact d) t a1
theorem J_ldcM {idx q : Nat} {C : String} (d : DC M pc = .ok (.ldc idx, 2)) (hx : (C, q) ∈ gM G) (hw : Cond.classLink (mY M).cls idx C ∈ lw_all) (kk : J G M (pc + 2) L (.ref q :: st) h c Q) : J G M pc L st h c Q :=
  fun p e R s m args below meth cc H locs cells slots ls C0 hl a2 a3 a4 a5 => va_ldcM C0.1 C0.2.1 C0.2.2.2.2.2.1 (C0.2.2.2.2.2.2.1 _ hw) (C0.2.2.2.2.2.2.2.2.2.2.1.2.2.2.2.2.1 _ hx) d (kk p e R s m args below meth cc H locs cells slots ls C0 hl a2 a3 a4 a5)
/-- an object's cell and class -/
theorem obj_at {s : State} {H : Heap} {a ci : Nat} {w : Bool} {fs : List Value} {r : vw_C} (hE : EN G s) (a2 : HR G s h H) (hh : h a = some (w, .inl (ci, fs))) (hr : (gC G)[ci]? = some r) : ∃ cell : Cell, H[a]? = some cell ∧ cell.vm.isStatics = false ∧ s.vm.findClass r.1 = some cell.cls := by
  obtain ⟨⟨cell, g1, g2, -, g4, -⟩, -⟩ := a2.1 a _ hh
  exact ⟨cell, g1, g4, by rw [g2]; exact (hE.1.1 ci r hr).2.1⟩
theorem J_castY {idx a ci : Nat} {w : Bool} {fs : List Value} {r : vw_C} {nm : String} (d : DC M pc = .ok (.checkcast idx, 3)) (hh : h a = some (w, .inl (ci, fs))) (hr : (gC G)[ci]? = some r) (hw : Cond.classLink (mY M).cls idx nm ∈ lw_all) (hca : r.1 = nm ∨ Cond.castable r.1 nm ∈ gW G) (kk : J G M (pc + 3) L (.ref a :: st) h c Q) : J G M pc L (.ref a :: st) h c Q := by
  intro p e R s m args below meth cc H locs cells slots ls C hl a2 a3 a4 a5
  have hE : EN G s := C.2.2.2.2.2.2.2.2.2.2.1
  have K := kk p e R s m args below meth cc H locs cells slots ls C hl a2 a3 a4 a5
  rcases hca with e1 | e1
  · subst e1
    exact va_castS C.1 C.2.1 C.2.2.2.2.2.1 (C.2.2.2.2.2.2.1 _ hw) (hE.1.1 ci r hr).2 (obj_at hE a2 hh hr) d K
  · exact va_castY C.1 C.2.1 C.2.2.2.2.2.1 (C.2.2.2.2.2.2.1 _ hw) (hE.2.1 _ e1).2 (obj_at hE a2 hh hr) d K
theorem J_castN {idx : Nat} (d : DC M pc = .ok (.checkcast idx, 3)) (kk : J G M (pc + 3) L (.null :: st) h c Q) : J G M pc L (.null :: st) h c Q :=
  fun p e R s m args below meth cc H locs cells slots ls C hl a2 a3 a4 a5 => lv_castN C.1 C.2.1 d (kk p e R s m args below meth cc H locs cells slots ls C hl a2 a3 a4 a5)
theorem J_instY {idx a ci : Nat} {w : Bool} {fs : List Value} {r : vw_C} {nm : String} (d : DC M pc = .ok (.instanceof idx, 3)) (hh : h a = some (w, .inl (ci, fs))) (hr : (gC G)[ci]? = some r) (hw : Cond.classLink (mY M).cls idx nm ∈ lw_all) (hca : r.1 = nm) (kk : J G M (pc + 3) L (.int 1 :: st) h c Q) : J G M pc L (.ref a :: st) h c Q := by
  intro p e R s m args below meth cc H locs cells slots ls C hl a2 a3 a4 a5
  have hE : EN G s := C.2.2.2.2.2.2.2.2.2.2.1
  subst hca
  exact va_instE C.1 C.2.1 C.2.2.2.2.2.1 (C.2.2.2.2.2.2.1 _ hw) (obj_at hE a2 hh hr) d (kk p e R s m args below meth cc H locs cells slots ls C hl a2 a3 a4 a5)
/-- the names of two array classes -/
theorem fc_B {s : State} (hE : EN G s) : s.vm.findClass "[B" = some (gA G 1) := (hE.1.2 1 _ (tys_at G (by decide))).2
theorem fc_O {s : State} (hE : EN G s) : s.vm.findClass "[Ljava/lang/Object;" = some (gA G 5) := by
  obtain ⟨_, _, _, _, _, h9⟩ := (hE.1.2 5 _ (tys_at G (by decide))).2
  exact h9
theorem J_castA {idx a t : Nat} {x : AC} {nm : String} (d : DC M pc = .ok (.checkcast idx, 3)) (hh : h a = some x) (hx : (∃ n f, x = (true, .inr (.inl (t, n, f)))) ∨ (t = 5 ∧ ∃ n f, x = (true, .inr (.inr (.inl (n, f)))))) (hw : Cond.classLink (mY M).cls idx nm ∈ lw_all) (hnm : ∀ s, EN G s → s.vm.findClass nm = some (gA G t)) (kk : J G M (pc + 3) L (.ref a :: st) h c Q) : J G M pc L (.ref a :: st) h c Q := by
  intro p e R s m args below meth cc H locs cells slots ls C hl a2 a3 a4 a5
  have hE : EN G s := C.2.2.2.2.2.2.2.2.2.2.1
  have K := kk p e R s m args below meth cc H locs cells slots ls C hl a2 a3 a4 a5
  obtain ⟨⟨cell, g1, g2⟩, -⟩ := a2.1 a _ hh
  have hAR : ∃ n z, AR G s true t n z cell := by
    rcases hx with ⟨n, f, rfl⟩ | ⟨rfl, n, f, rfl⟩
    · exact ⟨n, _, g2.2.2⟩
    · exact ⟨n, _, g2⟩
  obtain ⟨n, z, hA⟩ := hAR
  have e0 : cell = arrV (gA G t) n z := by unfold AR at hA; rw [if_pos rfl] at hA; exact hA
  have hfc : s.vm.findClass nm = some (gA G t) := hnm s hE
  intro T hT X
  obtain ⟨vm', X', st'⟩ := X.checkcastYes C.1 C.2.2.2.2.2.1 (C.2.2.2.2.2.2.1 _ hw) (by rw [hT]; exact g1) (by rw [e0]; rfl) hfc (by rw [e0]; exact va_asg _ _) (g := F0 m pc ls (.ref a :: st)) rfl rfl (by rw [C.2.1]; exact d)
  obtain ⟨t', a1, b1⟩ := K (T.setVm vm') hT X'
  exact ⟨t', st' t' a1, b1⟩
/-! the ends -/
def RQ (G : GT) (h : HP) (v : Option Value) : Array Value → State → Outcome → State → Prop := fun _ s o t => o = .returned v ∧ HR G s h t.heap ∧ s.WarmedH t.vm
theorem ret_JQ {R : Room} {s t : State} {below : List Frame} {args : Array Value} {v : Option Value} (hQ : Q (.inl v) h) (hm : MQ below (RQ G h v) args s R.cells R.slots (NB G) t) : JQ G Q R s below t := by
  obtain ⟨o, h1, h2, ⟨rfl, h4, h5⟩, h6⟩ := hm
  exact ⟨_, h1, h2, h, h4, h5, Or.inl ⟨v, rfl, hQ, h6⟩⟩
theorem W_ret {p : Program} {l : Launch} {e : Env} {R : Room} {s : State} {m : MethodId} {args : Array Value} {below : List Frame} {meth : Method} {cc : Code} {H : Heap} {locs : List Loc} {cells slots : Nat} {g : JFrame} {v : Option Value} (hQ : Q (.inl v) h) (hc : cells ≤ R.cells) (hs : slots ≤ R.slots) (k : W p l e R s m args below meth cc H locs R.cells R.slots (MQ below (RQ G h v) args s R.cells R.slots (NB G)) g) : W p l e R s m args below meth cc H locs cells slots (JQ G Q R s below) g :=
  W.widen hc hs (W_mono (fun _ q => ret_JQ hQ q) k)
theorem J_ireturn {v : Int32} {ty : FieldType} (d : DC M pc = .ok (.ireturn, 1)) (hr : mR M = some ty) (hn : narrow ty (.int v) = .int v) (hQ : Q (.inl (some (.int v))) h) : J G M pc L [.int v] h c Q := by
  intro p e R s m args below meth cc H locs cells slots ls C hl a2 a3 a4 a5
  have hlocks := C.2.2.2.1
  exact W_ret hQ (by omega) (by omega) (W.zret C.1 C.2.1 (C.2.2.1.trans hr) hn (fun t ht hW => ⟨rfl, by rw [ht]; exact a2, hW⟩) a5 d hlocks)
theorem J_return  (d : DC M pc = .ok (.return_, 1)) (hr : mR M = none) (hQ : Q (.inl (none)) h) : J G M pc L [] h c Q := by
  intro p e R s m args below meth cc H locs cells slots ls C hl a2 a3 a4 a5
  have hlocks := C.2.2.2.1
  exact W_ret hQ (by omega) (by omega) (W.vret C.1 C.2.1 (C.2.2.1.trans hr) (fun t ht hW => ⟨rfl, by rw [ht]; exact a2, hW⟩) a5 d hlocks)
def isRefT : Option FieldType → Bool
  | some (.object _) => true
  | some (.array _) => true
  | _ => false
theorem isRefT_spec {x : Option FieldType} (hr : isRefT x = true) : ∃ rt, x = some rt ∧ ((∃ n, rt = .object n) ∨ ∃ t, rt = .array t) := by
  cases x with
  | none => cases hr
  | some x => cases x <;> first | (cases hr; done) | exact ⟨_, rfl, Or.inl ⟨_, rfl⟩⟩ | exact ⟨_, rfl, Or.inr ⟨_, rfl⟩⟩
theorem J_areturn {v : Value} (d : DC M pc = .ok (.areturn, 1)) (hr : isRefT (mR M) = true) (hv : v = .null ∨ ∃ a, v = .ref a) (hQ : Q (.inl (some v)) h) : J G M pc L [v] h c Q := by
  intro p e R s m args below meth cc H locs cells slots ls C hl a2 a3 a4 a5
  have hlocks := C.2.2.2.1
  obtain ⟨rt, e1, e2⟩ := isRefT_spec hr
  exact W_ret hQ (by omega) (by omega) (W.aret C.1 C.2.1 (C.2.2.1.trans e1) e2 hv (fun t ht hW => ⟨rfl, by rw [ht]; exact a2, hW⟩) a5 d hlocks)
theorem J_dreturn {v : UInt64} (d : DC M pc = .ok (.dreturn, 1)) (hr : mR M = some .double) (hQ : Q (.inl (some (.double v))) h) : J G M pc L [.double v] h c Q := by
  intro p e R s m args below meth cc H locs cells slots ls C hl a2 a3 a4 a5
  have hlocks := C.2.2.2.1
  exact W_ret hQ (by omega) (by omega) (W.dret C.1 C.2.1 (C.2.2.1.trans hr) (fun t ht hW => ⟨rfl, by rw [ht]; exact a2, hW⟩) a5 d hlocks)
theorem J_freturn {v : UInt32} (d : DC M pc = .ok (.freturn, 1)) (hr : mR M = some .float) (hQ : Q (.inl (some (.float v))) h) : J G M pc L [.float v] h c Q := by
  intro p e R s m args below meth cc H locs cells slots ls C hl a2 a3 a4 a5
  have hlocks := C.2.2.2.1
  exact W_ret hQ (by omega) (by omega) (W.fret C.1 C.2.1 (C.2.2.1.trans hr) (fun t ht hW => ⟨rfl, by rw [ht]; exact a2, hW⟩) a5 d hlocks)
/-! exceptions -/
theorem J_athrow {q ci : Nat} {fs : List Value} {r : vw_C} (d : DC M pc = .ok (.athrow, 1)) (hh : h q = some (true, .inl (ci, fs))) (hr : (gC G)[ci]? = some r) (kk : JX G M pc L ci q h c Q) : J G M pc L (.ref q :: st) h c Q := by
  intro p e R s m args below meth cc H locs cells slots ls C hl a2 a3 a4 a5
  have hE : EN G s := C.2.2.2.2.2.2.2.2.2.2.1
  obtain ⟨⟨cell, g1, g2, -, -, g5, -⟩, -⟩ := a2.1 q _ hh
  exact vx_athrow C.1 C.2.1 d (kk p e R s m args below meth cc H locs cells slots ls st r cell C hl a2 a3 a4 a5 hr g1 (g5 rfl) (by rw [g2]; exact (hE.1.1 ci r hr).2.1))
/-- rows of the table that don't take the exception -/
def PassX (G : GT) (M : MI) (pc ci : Nat) (zs : List ExceptionTableEntry) : Prop := ∃ r : vw_C, (gC G)[ci]? = some r ∧ ∀ z ∈ zs, covers z pc = false ∨ (z.catchType ≠ 0 ∧ ∃ nm : String, Cond.classLink (mY M).cls z.catchType nm ∈ lw_all ∧ (r.1, nm) ∈ gN G)
/-- not caught here -/
theorem JX_out {ci q : Nat} (hpass : PassX G M pc ci (mT M)) (hQ : Q (.inr (ci, q)) h) : JX G M pc L ci q h c Q := by
  intro p e R s m args below meth cc H locs cells slots ls st r' ce C hl a2 a3 a4 a5 x1 x2 x3 x4
  obtain ⟨r, hr, hpass⟩ := hpass
  cases Option.some.inj (hr.symm.trans x1)
  have hE : EN G s := C.2.2.2.2.2.2.2.2.2.2.1
  intro T hT X
  have hpl : e.platform.magicAccessors = ({} : Platform).magicAccessors := by rw [X.admits.platform]
  obtain ⟨vm', hW', X', st'⟩ := X.outThrough C.2.2.2.1 q (g := F0 m pc ls st) rfl rfl rfl (cell := ce) (by rw [hT]; exact x2) (by rw [x3]; rfl)
    (by obtain ⟨k9, h9, -⟩ := Vm.findClass_spec x4; exact ⟨k9, h9⟩) (fun z hz => by
      rw [C.2.2.2.2.2.2.2.1] at hz
      rcases hpass z hz with h | ⟨hz0, nm, hl1, hn1⟩
      · exact Or.inl h
      · obtain ⟨c6, hc6, hcl6⟩ := Cond.classLink_spec C.2.2.2.2.2.1 (C.2.2.2.2.2.2.1 _ hl1) e.platform hpl
        obtain ⟨a8, b8, h1, h2, h3⟩ := hE.2.2.2.1 _ hn1
        cases Option.some.inj (h1.symm.trans x4)
        cases Option.some.inj (h2.symm.trans hc6)
        exact Or.inr ⟨hz0, _, hcl6, h3⟩)
  obtain ⟨g₀, hfr⟩ := X'.frames_eq
  have hcell9 : ((T.setVm vm').setFrames (.throwing q :: below)).heap[q]? = some ce := by
    show T.heap[q]? = some ce
    rw [hT]; exact x2
  have hend : Ended ((T.setVm vm').setFrames (.throwing q :: below)) below (.threw q) := State.frames_setFrames _ (State.cur_lt_of_frames hfr)
  refine ⟨(T.setVm vm').setFrames (.throwing q :: below), ?_, .threw q, X'.here.running, hend, h, (show HR G s h T.heap by rw [hT]; exact a2), (X'.ends _).1, Or.inr ⟨q, ci, r', ce, locs, rfl, hQ, x1, hcell9, x3, x4, (X'.ends _).2.mono (by omega) (by omega), a5⟩⟩
  rw [X.pushThrowing_eq]
  exact st'
/-- caught by the row x -/
theorem JX_catch {ci q : Nat} {pre suf : List ExceptionTableEntry} {x : ExceptionTableEntry} (hs : mT M = pre ++ x :: suf) (hpass : PassX G M pc ci pre) (hx : covers x pc = true) (hca : x.catchType = 0 ∨ (x.catchType ≠ 0 ∧ ∃ (r : vw_C) (nm : String), (gC G)[ci]? = some r ∧ Cond.classLink (mY M).cls x.catchType nm ∈ lw_all ∧ Cond.castable r.1 nm ∈ gW G)) (kk : J G M x.handlerPc L [.ref q] h c Q) : JX G M pc L ci q h c Q := by
  intro p e R s m args below meth cc H locs cells slots ls st r' ce C hl a2 a3 a4 a5 x1 x2 x3 x4
  obtain ⟨r, hr, hpass⟩ := hpass
  cases Option.some.inj (hr.symm.trans x1)
  have hE : EN G s := C.2.2.2.2.2.2.2.2.2.2.1
  have hts := C.2.2.2.2.2.2.1
  have hown := C.2.2.2.2.2.1
  intro T hT X
  have hpl : e.platform.magicAccessors = ({} : Platform).magicAccessors := by rw [X.admits.platform]
  obtain ⟨vm', X', st'⟩ := X.thenCaughtThrough q (g := F0 m pc ls st) rfl (Steps.refl _) (by rw [hT]; exact x2) (by rw [x3]; rfl) (by obtain ⟨k9, h9, -⟩ := Vm.findClass_spec x4; exact ⟨k9, h9⟩) pre x suf (by rw [C.2.2.2.2.2.2.2.1]; exact hs)
    (fun z hz => by
      rcases hpass z hz with h | ⟨hz0, nm, hl1, hn1⟩
      · exact Or.inl h
      · obtain ⟨c6, hc6, hcl6⟩ := Cond.classLink_spec hown (hts _ hl1) e.platform hpl
        obtain ⟨a8, b8, h1, h2, h3⟩ := hE.2.2.2.1 _ hn1
        cases Option.some.inj (h1.symm.trans x4)
        cases Option.some.inj (h2.symm.trans hc6)
        exact Or.inr ⟨hz0, _, hcl6, h3⟩) hx (by
      rcases hca with h0 | ⟨h0, r2, nm, hr2, hl2, hc2⟩
      · exact Or.inl h0
      · cases Option.some.inj (hr2.symm.trans x1)
        obtain ⟨c3, c4, hc3, hc4, hasg⟩ := Cond.castable_spec (hE.nw (A := args) hc2)
        cases Option.some.inj (hc3.symm.trans x4)
        obtain ⟨c5, hc5, hcl5⟩ := Cond.classLink_spec hown (hts _ hl2) e.platform hpl
        cases Option.some.inj (hc4.symm.trans hc5)
        exact Or.inr ⟨h0, c4, hcl5, hasg⟩)
  obtain ⟨t, a1, b1⟩ := kk p e R s m args below meth cc H locs cells slots ls C hl a2 a3 a4 a5 (T.setVm vm') hT X'
  exact ⟨t, st'.trans a1, b1⟩
end JO
