/-! J: calls -/
section JCL
variable {G : GT} {M : MI} {pc : Nat} {L : List (Option Value)} {st : List Value} {h : HP} {c : Nat} {Q : RR → HP → Prop}
/-- what a call sees before and leaves behind -/
def jPre (G : GT) (R : Room) (s : State) (as : List Value) (h : HP) (c1 : Nat) : Pt → Array Value → Prop := fun A a => A.cells + c1 / 12 ≤ R.cells ∧ A.slots + c1 ≤ R.slots ∧ a = as.toArray ∧ HR G s h A.U.heap
def jPost (G : GT) (s : State) (Q1 : RR → HP → Prop) (c1 : Nat) : Pt → Array Value → Option Value → Pt → Prop := fun A _ v B =>
  ∃ (h' : HP) (Lc : List Loc), HR G s h' B.U.heap ∧ Q1 (.inl v) h' ∧ B.locs = A.locs ++ Lc ∧ (∀ q ∈ Lc, g0 G ≤ q.base) ∧ B.cells = A.cells + c1 / 12 ∧ B.slots = A.slots + c1
def jPostX (G : GT) (s : State) (Q1 : RR → HP → Prop) (c1 : Nat) : Pt → Array Value → Addr → Pt → Prop := fun A _ q B =>
  ∃ (h' : HP) (Lc : List Loc) (ci : Nat) (r : vw_C) (ce : Cell), HR G s h' B.U.heap ∧ Q1 (.inr (ci, q)) h' ∧ B.locs = A.locs ++ Lc ∧ (∀ q ∈ Lc, g0 G ≤ q.base) ∧ B.cells = A.cells + c1 / 12 ∧ B.slots = A.slots + c1 ∧ (gC G)[ci]? = some r ∧ B.U.heap[q]? = some ce ∧ ce.vm = .none ∧ s.vm.findClass r.1 = some ce.cls
/-- the words of a callee, with its class initialised -/
def MOk (M' : MI) : Prop := mCw M' ∈ lw_all ∧ Cond.initialized (mY M').cls ∈ lw_all ∧ ((mY M').cls ≠ "java/lang/invoke/MethodHandle" ∧ (mY M').cls ≠ "java/lang/invoke/VarHandle")
theorem mws_good {M' : MI} (hM : MOk M') : GoodIn lw_all (mWs M') := fun w hw => (List.mem_cons.mp hw).elim (fun e => by rw [e]; exact lw_self _ hM.1) (fun e => lw_self _ e)
theorem mcw_spec {M' : MI} {U : State} {mk : MethodId} {a : Array Value} (hn : U.methodNamed? (mY M') = some mk) (h : (mCw M').before a U = true) : ∃ (methY : Method) (cY : Code), U.vm.method? mk = some methY ∧ methY.code = some cY ∧ cY.maxLocals = mL M' := by
  unfold mCw at h
  split at h
  · obtain ⟨methY, cY, hmY, hcY, -, hlY, -⟩ := Cond.code_spec hn h
    exact ⟨methY, cY, hmY, hcY, hlY⟩
  · obtain ⟨m9, methY, cY, hn9, hmY, hcY, -, hlY, -⟩ := Cond.codeWith_spec h
    cases Option.some.inj (hn9.symm.trans hn)
    exact ⟨methY, cY, hmY, hcY, hlY⟩
theorem jback {M' : MI} {as : List Value} {c1 : Nat} {Q1 : RR → HP → Prop} {l : Launch} {R : Room} {p : Program} {e : Env} {below : List Frame} {s : State} {sargs : Array Value} {len : Nat} (hl0 : l = gL G)
    (hM : Call G M' as h c1 Q1) (hE : EN G s) (hok : MOk M') (hts : ∀ w ∈ lw_all, w.before sargs s = true) (hframes : mV M' + 1 ≤ R.frames) (hlocals : 8 + (mL M' + 11) + 64 * mV M' ≤ R.locals) :
    vx_Back l R p e below s sargs (mY M') len 8 (jPre G R s as h c1) (jPost G s Q1 c1) (jPostX G s Q1 c1) := by
  subst hl0
  intro m meth c A g ig mk a X hg hsize hdg hW hn hp
  have hws : ∀ w ∈ mWs M', ∀ a' U, s.WarmedH U.vm → w.before a' U = true := fun w hw a' U hW' => word_at hW' ((mws_good hok) w hw).2 (hts _ ((mws_good hok) w hw).1)
  have h1 : (headSpec (mWs M') (mRm M' c1)).pre.before a A.U = true := atoms_intro fun w hw => hws w hw _ _ X.warmed
  have h2 : (mCw M').before a A.U = true := hws _ List.mem_cons_self _ _ X.warmed
  have h3 : (Cond.initialized (mY M').cls).before a A.U = true := word_at X.warmed (lw_self _ hok.2.1).2 (hts _ hok.2.1)
  have h4 : A.cells + (headSpec (mWs M') (mRm M' c1)).room.cells ≤ R.cells := hp.1
  have h5 : A.slots + (headSpec (mWs M') (mRm M' c1)).room.slots ≤ R.slots := hp.2.1
  have hPc : a = as.toArray ∧ EN G (A.U.calling g mk a) ∧ HR G (A.U.calling g mk a) h (A.U.calling g mk a).heap := ⟨hp.2.2.1, hE.warm X.warmed, hp.2.2.2.moved X.warmed.alike⟩
  obtain ⟨U, Ls, c0, s0⟩ := A
  dsimp only [Pt.U, Pt.locs, Pt.cells, Pt.slots] at h1 h2 h3 h4 h5 X hn hPc ⊢
  obtain ⟨methY, cY, hmY, hcY, hlY⟩ := mcw_spec hn h2
  obtain ⟨kY, hkY, -⟩ := className_of_methodNamed hn
  have hinitY : kY.init = .initialized := Cond.initialized_spec (findClass_of_methodNamed hn) hkY h3
  have hh : At U g.method c below := by rw [hg]; exact X.here
  have hlocals9 : 8 + (mL M' + 11) + (headSpec (mWs M') (mRm M' c1)).room.locals ≤ R.locals := hlocals
  have happ : (headSpec (mWs M') (mRm M' c1)).appliesLoose (mY M') e.platform (U.calling g mk a) = true :=
    Spec.appliesLoose_calling (g := g) hh hdg hn hkY hinitY
      (X.room_calling (g := g) (R' := (headSpec (mWs M') (mRm M' c1)).room) hsize hmY hcY hframes (by rw [hlY]; omega) h4 h5) h1
  obtain ⟨mid, hmid⟩ := hh.above
  have hfr : (U.setTop g).frames = (.java g :: mid) ++ below := by rw [State.frames_setTop' g hh.top, hmid]; rfl
  obtain ⟨o, s₂, hsteps, -, hend, hq⟩ := Steps.callFree hM p X.admits X.cas X.clock (acts := []) hfr happ hPc trivial
  have hq : PM G Q1 (c1 / 12) c1 (U.calling g mk a) o s₂ := hq
  obtain ⟨h', hq1, hW₂, hq⟩ := hq
  have hW' : U.WarmedH s₂.vm := hW₂
  have hHR : HR G s h' s₂.heap := HR.moved (X.warmed.alike.symm) (show HR G U h' s₂.heap from hq1.moved (Vm.Alike.refl _))
  rw [State.frames_setTop' g hh.top] at hend
  obtain ⟨g₀, hg0⟩ := Option.isSome_iff_exists.mp hh.top
  obtain ⟨r, hr⟩ := State.topJava?_eq_some.mp hg0
  have hr' : (({ U with heap := s₂.heap, slotsUsed := s₂.slotsUsed } : State).setVm s₂.vm).frames = .java g₀ :: r := hr
  rcases hq with ⟨v, rfl, hqc, L, hfe, hL⟩ | ⟨q, ci, rC, ce, L, rfl, hx, hrC, hce, hcv, hcl, hsm, hL⟩
  · obtain ⟨-, -, e2, q2, q3, q4, q5, q6⟩ := id hfe
    have e3 : s₂ = ({ (U.calling g mk a).setFrames s₂.frames with heap := s₂.heap, slotsUsed := s₂.slotsUsed } : State).setVm s₂.vm := by
      have : s₂ = ({ s₂ with vm := (U.calling g mk a).vm } : State).setVm s₂.vm := rfl
      rw [e2] at this
      exact this
    obtain ⟨c₂, i₂, len₂, hc₂, hd₂, hf₂⟩ := hend
    have hcc : c₂ = c := by
      have h1 : s₂.code? g.method = U.code? g.method := by
        rw [State.code?_eq, State.code?_eq, hW'.alike.method?]
      exact Option.some.inj (hc₂.symm.trans (h1.trans hh.code))
    subst hcc
    have hlen : len₂ = len := by rw [hdg] at hd₂; cases hd₂; rfl
    subst hlen
    have hs₂ : s₂ = (({ U with heap := s₂.heap, slotsUsed := s₂.slotsUsed } : State).setVm s₂.vm).setTop { g with pc := g.pc + len₂, stack := v.toList ++ g.stack } := by
      refine e3.trans ?_
      rw [hf₂, State.calling_eq hh.top, State.setFrames_setFrames, State.setTop_of_frames _ hr', hr]
      rfl
    have hsame : U.sameButNew ({ U with heap := s₂.heap, slotsUsed := s₂.slotsUsed } : State) L (c1 / 12) c1 := by
      refine ⟨?_, q2, q3, q4, q5, q6⟩
      obtain ⟨t, ht, -⟩ := State.frames_cons hr
      show ({ U with heap := s₂.heap, slotsUsed := s₂.slotsUsed } : State) = { U.setFrames U.frames with heap := s₂.heap, slotsUsed := s₂.slotsUsed }
      rw [State.setFrames_self ht]
    subst hg
    refine Or.inl ⟨v, ⟨(({ U with heap := s₂.heap, slotsUsed := s₂.slotsUsed } : State).setVm s₂.vm), Ls ++ L, c0 + c1 / 12, s0 + c1⟩,
      ⟨X.admits, X.cas, X.clock, X.frames, X.room, X.hears, X.method, X.code, (X.here.setHeapUsed s₂.heap s₂.slotsUsed).setVm hW'.alike, X.tail, State.WarmedH.trans X.warmed hW', X.limits, X.bytes, X.same.trans (hsame.setVm s.vm)⟩,
      ⟨h', L, hHR, hqc, rfl, hL, rfl, rfl⟩, ?_⟩
    show Steps p.tables e below _ ((({ U with heap := s₂.heap, slotsUsed := s₂.slotsUsed } : State).setVm s₂.vm).setTop { g with pc := g.pc + len₂, stack := v.toList ++ g.stack })
    rw [← hs₂]
    exact hsteps
  · obtain ⟨e2, q2, q3, q4, q5, q6⟩ := id hsm
    have e3 : s₂ = ({ (U.calling g mk a).setFrames s₂.frames with heap := s₂.heap, slotsUsed := s₂.slotsUsed } : State).setVm s₂.vm := by
      have : s₂ = ({ s₂ with vm := (U.calling g mk a).vm } : State).setVm s₂.vm := rfl
      rw [e2] at this
      exact this
    have hf₂ : s₂.frames = .throwing q :: .java g :: U.frames.tail := hend
    have hs₂ : s₂ = ((({ U with heap := s₂.heap, slotsUsed := s₂.slotsUsed } : State).setVm s₂.vm).setTop g).pushFrame (.throwing q) := by
      refine e3.trans ?_
      rw [hf₂, State.calling_eq hh.top, State.setFrames_setFrames, State.pushFrame, State.frames_setTop _ hr', State.setTop_of_frames _ hr', State.setFrames_setFrames, hr]
      rfl
    have hsame : U.sameButNew ({ U with heap := s₂.heap, slotsUsed := s₂.slotsUsed } : State) L (c1 / 12) c1 := by
      refine ⟨?_, q2, q3, q4, q5, q6⟩
      obtain ⟨t, ht, -⟩ := State.frames_cons hr
      show ({ U with heap := s₂.heap, slotsUsed := s₂.slotsUsed } : State) = { U.setFrames U.frames with heap := s₂.heap, slotsUsed := s₂.slotsUsed }
      rw [State.setFrames_self ht]
    have hcl2 : s.vm.findClass rC.1 = some ce.cls := by rw [← X.warmed.alike.findClass]; exact hcl
    subst hg
    refine Or.inr ⟨q, ⟨(({ U with heap := s₂.heap, slotsUsed := s₂.slotsUsed } : State).setVm s₂.vm), Ls ++ L, c0 + c1 / 12, s0 + c1⟩,
      ⟨X.admits, X.cas, X.clock, X.frames, X.room, X.hears, X.method, X.code, (X.here.setHeapUsed s₂.heap s₂.slotsUsed).setVm hW'.alike, X.tail, State.WarmedH.trans X.warmed hW', X.limits, X.bytes, X.same.trans (hsame.setVm s.vm)⟩,
      ⟨h', L, ci, rC, ce, hHR, hx, rfl, hL, rfl, rfl, hrC, hce, hcv, hcl2⟩, ?_⟩
    show Steps p.tables e below _ (((({ U with heap := s₂.heap, slotsUsed := s₂.slotsUsed } : State).setVm s₂.vm).setTop g).pushFrame (.throwing q))
    rw [← hs₂]
    exact hsteps
/-- what the rows of calls give, in one word -/
def CRun (G : GT) (M : MI) (as : List Value) (h : HP) (c1 : Nat) (Q1 : RR → HP → Prop) (len : Nat) (p : Program) (e : Env) (R : Room) (s : State) (m : MethodId) (args : Array Value) (below : List Frame) (meth : Method) (cc : Code) (T : State) (locs : List Loc) (cells slots : Nat) (g : JFrame) (rest : List Value) : Prop :=
  (∃ (v : Option Value) (vm₁ : Vm) (B : Pt), s.WarmedH vm₁ ∧ Stand p (gL G) e R s m args below meth cc B.U B.locs B.cells B.slots ∧ jPost G s Q1 c1 ⟨T.setVm vm₁, locs, cells, slots⟩ as.toArray v B ∧
      ∀ target, Steps p.tables e below (B.U.setTop { g with pc := g.pc + len, stack := v.toList ++ rest }) target → Steps p.tables e below (T.setTop g) target) ∨
    (∃ (q : Addr) (vm₁ : Vm) (B : Pt), s.WarmedH vm₁ ∧ Stand p (gL G) e R s m args below meth cc B.U B.locs B.cells B.slots ∧ jPostX G s Q1 c1 ⟨T.setVm vm₁, locs, cells, slots⟩ as.toArray q B ∧
      Steps p.tables e below (T.setTop g) ((B.U.setTop { g with stack := rest }).pushFrame (.throwing q)))
theorem cr_call {c c1 : Nat} {R : Room} {cells slots : Nat} (hc : c1 ≤ c) (a3 : cells + c / 12 ≤ R.cells) (a4 : slots + c ≤ R.slots) : cells + c1 / 12 ≤ R.cells ∧ slots + c1 ≤ R.slots ∧ cells + c1 / 12 + (c - c1) / 12 ≤ R.cells ∧ slots + c1 + (c - c1) ≤ R.slots := by omega
/-- the caller goes on behind any call -/
theorem J_call {as : List Value} {c1 len : Nat} {Q1 : RR → HP → Prop} {st0 : List Value} (hc : c1 ≤ c)
    (hrun : ∀ (p : Program) (e : Env) (R : Room) (s : State) (m : MethodId) (args : Array Value) (below : List Frame) (meth : Method) (cc : Code) (T : State) (locs : List Loc) (cells slots : Nat) (ls : Array Slot), JC G M p e R s m args below meth cc → ls.size = cc.maxLocals → HR G s h T.heap → cells + c1 / 12 ≤ R.cells → slots + c1 ≤ R.slots → Stand p (gL G) e R s m args below meth cc T locs cells slots → CRun G M as h c1 Q1 len p e R s m args below meth cc T locs cells slots (F0 m pc ls st0) st)
    (kr : ∀ v h', Q1 (.inl v) h' → J G M (pc + len) L (v.toList ++ st) h' (c - c1) Q) (kx : ∀ ci q h', Q1 (.inr (ci, q)) h' → JX G M pc L ci q h' (c - c1) Q) : J G M pc L st0 h c Q := by
  intro p e R s m args below meth cc H locs cells slots ls C hl a2 a3 a4 a5
  obtain ⟨q1, q2, q3, q4⟩ := cr_call hc a3 a4
  intro T hT X
  subst hT
  rcases hrun p e R s m args below meth cc T locs cells slots ls C (by rw [hl.1]; exact C.2.2.2.2.1.symm) a2 q1 q2 X with ⟨v, vm₁, B, hW, X', ⟨h', Lc, y1, y2, y3, y4, y5, y6⟩, hst⟩ | ⟨q, vm₁, B, hW, X', ⟨h', Lc, ci, r, ce, y1, y2, y3, y4, y5, y6, y7, y8, y9, y10⟩, hst⟩
  · obtain ⟨t, b1, b2⟩ := kr v h' y2 p e R s m args below meth cc B.U.heap B.locs B.cells B.slots ls C hl y1 (by rw [y5]; exact q3) (by rw [y6]; exact q4) (by rw [y3]; intro z hz; exact (List.mem_append.mp hz).elim (a5 z) (y4 z)) B.U rfl X'
    exact ⟨t, hst _ b1, b2⟩
  · obtain ⟨t, b1, b2⟩ := kx ci q h' y2 p e R s m args below meth cc B.U.heap B.locs B.cells B.slots ls st r ce C hl y1 (by rw [y5]; exact q3) (by rw [y6]; exact q4) (by rw [y3]; intro z hz; exact (List.mem_append.mp hz).elim (a5 z) (y4 z)) y7 y8 y9 y10 B.U rfl X'
    exact ⟨t, hst.trans b1, b2⟩
end JCL
