/-! J: the call instructions -/
section JV
variable {G : GT} {M : MI} {pc : Nat} {L : List (Option Value)} {st : List Value} {h : HP} {c : Nat} {Q : RR → HP → Prop}
def nPar (y : MethodName) : Option Nat := (parseMethodDescriptor y.desc).map (fun d => d.parameters.length)
theorem nPar_len {y : MethodName} {n : Nat} {As : List Value} (hy : nPar y = some n) (hn : As.length = n) : ∀ sig, parseMethodDescriptor y.desc = some sig → As.length = sig.parameters.length := by
  intro sig hs
  unfold nPar at hy
  rw [hs] at hy
  have : sig.parameters.length = n := Option.some.inj hy
  omega
/-- a virtual call's site: receiver of class ci -/
def VS1 (G : GT) (own : String) (idx ci : Nat) (M' : MI) (n : Nat) : Prop :=
  MOk M' ∧ Cond.instanceMethod (mY M') ∈ lw_all ∧ nPar (mY M') = some n ∧ ∃ r, (gC G)[ci]? = some r ∧ (Cond.selects r.1 (mY M') (mY M') ∈ lw_all ∨ Cond.selects r.1 (mY M') (mY M') ∈ gW G) ∧ (Cond.methodLink own idx (mY M') ∈ lw_all ∨ (mH M' = none ∧ ∃ host, Cond.methodLinkNest own idx (mY M') host ∈ gW G))
/-- the method selected is another than the one named -/
def VU (G : GT) (own : String) (idx ci : Nat) (M' : MI) (n : Nat) : Prop :=
  MOk M' ∧ Cond.instanceMethod (mY M') ∈ lw_all ∧ mH M' = none ∧ ∃ (r : vw_C) (x : MethodName) (ow : String), (gC G)[ci]? = some r ∧ nPar x = some n ∧ (ow ≠ "java/lang/invoke/MethodHandle" ∧ ow ≠ "java/lang/invoke/VarHandle") ∧ Cond.methodLink own idx x ∈ lw_all ∧ Cond.sameMethod x.cls ow x.name x.desc ∈ lw_all ∧ Cond.selects r.1 x (mY M') ∈ lw_all ∧
    (Cond.declares ⟨ow, x.name, x.desc⟩ ∈ gW G ∨ (Cond.instanceMethod ⟨ow, x.name, x.desc⟩ ∈ lw_all ∧ ∃ b0 m0 r0, Cond.code ⟨ow, x.name, x.desc⟩ b0 m0 r0 ∈ lw_all))
def VS (G : GT) (own : String) (idx ci : Nat) (M' : MI) (n : Nat) : Prop := VS1 G own idx ci M' n ∨ VU G own idx ci M' n
def SS (G : GT) (own : String) (idx : Nat) (M' : MI) (n : Nat) : Prop :=
  MOk M' ∧ Cond.static (mY M') ∈ lw_all ∧ nPar (mY M') = some n ∧ (Cond.methodLink own idx (mY M') ∈ lw_all ∨ (mH M' = none ∧ ∃ host, Cond.methodLinkNest own idx (mY M') host ∈ gW G))
def IS (G : GT) (own : String) (idx : Nat) (M' : MI) (n : Nat) : Prop :=
  MOk M' ∧ Cond.instanceMethod (mY M') ∈ lw_all ∧ nPar (mY M') = some n ∧ mH M' = none ∧ (((mY M').name = "<init>" ∧ mR M' = none ∧ (Cond.methodLink own idx (mY M') ∈ lw_all ∨ ∃ host, Cond.methodLinkNest own idx (mY M') host ∈ gW G)) ∨
    ((mY M').name ≠ "<init>" ∧ Cond.methodLink own idx (mY M') ∈ lw_all ∧ Cond.sameMethod (mY M').cls (mY M').cls (mY M').name (mY M').desc ∈ lw_all ∧ Cond.superclass own (mY M').cls ∈ lw_all))
def IFS (G : GT) (own : String) (idx ci : Nat) (M' : MI) (n : Nat) : Prop :=
  MOk M' ∧ Cond.instanceMethod (mY M') ∈ lw_all ∧ ∃ (r : vw_C) (x : MethodName), nPar x = some n ∧ (gC G)[ci]? = some r ∧ Cond.methodLink own idx x ∈ lw_all ∧ Cond.selects r.1 x (mY M') ∈ lw_all ∧ (r.1, x, mY M') ∈ gF G
/-- the level pays the callee's frame -/
def LV (M M' : MI) : Prop := mV M' + 1 ≤ mV M ∧ mL M' ≤ 45
theorem LV.room {M M' : MI} (hv : LV M M') : 8 + (mL M' + 11) + 64 * mV M' ≤ 64 * mV M := by
  obtain ⟨h1, h2⟩ := hv
  omega
theorem code_of {M' : MI} {args : Array Value} {s : State} (hts : ∀ w ∈ lw_all, w.before args s = true) (hok : MOk M') (hh : mH M' = none) : (Cond.code (mY M') (mC M') (mL M') (mR M')).before args s = true := by
  have := hts _ hok.1
  unfold mCw at this
  rw [hh] at this
  exact this
theorem codeW_of {M' : MI} {hh : List (Nat × Nat × Nat × Nat)} {args : Array Value} {s : State} (hts : ∀ w ∈ lw_all, w.before args s = true) (hok : MOk M') (h0 : mH M' = some hh) : (Cond.codeWith (mY M') (mC M') (mL M') (mR M') hh).before args s = true := by
  have := hts _ hok.1
  unfold mCw at this
  rw [h0] at this
  exact this
theorem J_invV1 {idx ci b n c1 : Nat} {w : Bool} {fs As : List Value} {M' : MI} {Q1 : RR → HP → Prop} (d : DC M pc = .ok (.invokevirtual idx, 3)) (hS : VS1 G (mY M).cls idx ci M' n) (hh : h b = some (w, .inl (ci, fs))) (hn : As.length = n) (h8 : (st.map fun v => v.category).sum ≤ 8) (hv : LV M M') (hc : c1 ≤ c) (hcall : Call G M' (.ref b :: As) h c1 Q1)
    (kr : ∀ v h', Q1 (.inl v) h' → J G M (pc + 3) L (v.toList ++ st) h' (c - c1) Q) (kx : ∀ ci q h', Q1 (.inr (ci, q)) h' → JX G M pc L ci q h' (c - c1) Q) : J G M pc L (As.reverse ++ .ref b :: st) h c Q := by
  obtain ⟨hok, hinst, hpar, r, hr, hsel, hlink⟩ := hS
  refine J_call (as := .ref b :: As) (len := 3) hc ?_ kr kx
  intro p e R s m args below meth cc T locs cells slots ls C hls a2 q1 q2 X
  have hE : EN G s := C.2.2.2.2.2.2.2.2.2.2.1
  have hts := C.2.2.2.2.2.2.1
  have hsl : (Cond.selects r.1 (mY M') (mY M')).before args s = true := hsel.elim (fun q => hts _ q) (fun q => hE.nw q)
  have hK : vx_Back (gL G) R p e below s args (mY M') 3 8 (jPre G R s (.ref b :: As) h c1) (jPost G s Q1 c1) (jPostX G s Q1 c1) := jback rfl hcall hE hok hts (by rw [C.2.2.2.2.2.2.2.2.1]; exact hv.1) (by rw [C.2.2.2.2.2.2.2.2.2.1]; exact hv.room)
  obtain ⟨cellB, g1, g2, g3⟩ := obj_at hE a2 hh hr
  have hpre : ∀ vm₁, s.WarmedH vm₁ → jPre G R s (.ref b :: As) h c1 ⟨T.setVm vm₁, locs, cells, slots⟩ (Value.ref b :: As).toArray := fun vm₁ _ => ⟨q1, q2, rfl, a2⟩
  have h8' : 2 * (F0 m pc ls (As.reverse ++ .ref b :: st)).monitorRoom + (st.map fun v => v.category).sum ≤ 8 := by show 2 * 0 + _ ≤ 8; omega
  have d' : decode cc.code (F0 m pc ls (As.reverse ++ .ref b :: st)).pc = .ok (.invokevirtual idx, 3) := by rw [C.2.1]; exact d
  rcases hlink with hl1 | ⟨h0, host, hl1⟩
  · cases hm : mH M' with
    | none => exact vx_callV X C.1 C.2.2.2.2.2.1 (hts _ hl1) (hts _ hinst) hsl (code_of hts hok hm) hok.2.2 hK g1 g2 g3 (g := F0 m pc ls (As.reverse ++ .ref b :: st)) rfl hls (nPar_len hpar hn) rfl h8' d' hpre
    | some hh' => exact vx_callVX X C.1 C.2.2.2.2.2.1 (hts _ hl1) (hts _ hinst) hsl (codeW_of hts hok hm) hok.2.2 hK g1 g2 g3 (g := F0 m pc ls (As.reverse ++ .ref b :: st)) rfl hls (nPar_len hpar hn) rfl h8' d' hpre
  · exact vx_callVN X C.1 C.2.2.2.2.2.1 (hE.nw hl1) (hts _ hinst) hsl (code_of hts hok h0) hok.2.2 hK g1 g2 g3 (g := F0 m pc ls (As.reverse ++ .ref b :: st)) rfl hls (nPar_len hpar hn) rfl h8' d' hpre
theorem J_invVU {idx ci b n c1 : Nat} {w : Bool} {fs As : List Value} {M' : MI} {Q1 : RR → HP → Prop} (d : DC M pc = .ok (.invokevirtual idx, 3)) (hS : VU G (mY M).cls idx ci M' n) (hh : h b = some (w, .inl (ci, fs))) (hn : As.length = n) (h8 : (st.map fun v => v.category).sum ≤ 8) (hv : LV M M') (hc : c1 ≤ c) (hcall : Call G M' (.ref b :: As) h c1 Q1)
    (kr : ∀ v h', Q1 (.inl v) h' → J G M (pc + 3) L (v.toList ++ st) h' (c - c1) Q) (kx : ∀ ci q h', Q1 (.inr (ci, q)) h' → JX G M pc L ci q h' (c - c1) Q) : J G M pc L (As.reverse ++ .ref b :: st) h c Q := by
  obtain ⟨hok, hinst, hh0, r, x, ow, hr, hpar, how, hl1, hsm, hsel, hdc⟩ := hS
  refine J_call (as := .ref b :: As) (len := 3) hc ?_ kr kx
  intro p e R s m args below meth cc T locs cells slots ls C hls a2 q1 q2 X
  have hE : EN G s := C.2.2.2.2.2.2.2.2.2.2.1
  have hts := C.2.2.2.2.2.2.1
  have hK : vx_Back (gL G) R p e below s args (mY M') 3 8 (jPre G R s (.ref b :: As) h c1) (jPost G s Q1 c1) (jPostX G s Q1 c1) := jback rfl hcall hE hok hts (by rw [C.2.2.2.2.2.2.2.2.1]; exact hv.1) (by rw [C.2.2.2.2.2.2.2.2.2.1]; exact hv.room)
  obtain ⟨cellB, g1, g2, g3⟩ := obj_at hE a2 hh hr
  have hpre : ∀ vm₁, s.WarmedH vm₁ → jPre G R s (.ref b :: As) h c1 ⟨T.setVm vm₁, locs, cells, slots⟩ (Value.ref b :: As).toArray := fun vm₁ _ => ⟨q1, q2, rfl, a2⟩
  have h8' : 2 * (F0 m pc ls (As.reverse ++ .ref b :: st)).monitorRoom + (st.map fun v => v.category).sum ≤ 8 := by show 2 * 0 + _ ≤ 8; omega
  have d' : decode cc.code (F0 m pc ls (As.reverse ++ .ref b :: st)).pc = .ok (.invokevirtual idx, 3) := by rw [C.2.1]; exact d
  have hdl : va_Decl s ⟨ow, x.name, x.desc⟩ := by
    rcases hdc with hdc | ⟨hi, b0, m0, r0, hc0⟩
    · exact va_Decl.abs (hE.2.1 _ hdc).2
    · exact va_Decl.of (hts _ hi) (hts _ hc0)
  exact vx_callVU X C.1 C.2.2.2.2.2.1 (hts _ hl1) (hts _ hsm) hdl how (hts _ hsel) (hts _ hinst) (code_of hts hok hh0) hK g1 g2 g3 (g := F0 m pc ls (As.reverse ++ .ref b :: st)) rfl hls (nPar_len hpar hn) rfl h8' d' hpre
theorem J_invV {idx ci b n c1 : Nat} {w : Bool} {fs As : List Value} {M' : MI} {Q1 : RR → HP → Prop} (d : DC M pc = .ok (.invokevirtual idx, 3)) (hS : VS G (mY M).cls idx ci M' n) (hh : h b = some (w, .inl (ci, fs))) (hn : As.length = n) (h8 : (st.map fun v => v.category).sum ≤ 8) (hv : LV M M') (hc : c1 ≤ c) (hcall : Call G M' (.ref b :: As) h c1 Q1)
    (kr : ∀ v h', Q1 (.inl v) h' → J G M (pc + 3) L (v.toList ++ st) h' (c - c1) Q) (kx : ∀ ci q h', Q1 (.inr (ci, q)) h' → JX G M pc L ci q h' (c - c1) Q) : J G M pc L (As.reverse ++ .ref b :: st) h c Q := by
  rcases hS with hS | hS
  · exact J_invV1 d hS hh hn h8 hv hc hcall kr kx
  · exact J_invVU d hS hh hn h8 hv hc hcall kr kx
theorem J_invS {idx n c1 : Nat} {As : List Value} {M' : MI} {Q1 : RR → HP → Prop} (d : DC M pc = .ok (.invokestatic idx, 3)) (hS : SS G (mY M).cls idx M' n) (hn : As.length = n) (h8 : (st.map fun v => v.category).sum ≤ 8) (hv : LV M M') (hc : c1 ≤ c) (hcall : Call G M' As h c1 Q1)
    (kr : ∀ v h', Q1 (.inl v) h' → J G M (pc + 3) L (v.toList ++ st) h' (c - c1) Q) (kx : ∀ ci q h', Q1 (.inr (ci, q)) h' → JX G M pc L ci q h' (c - c1) Q) : J G M pc L (As.reverse ++ st) h c Q := by
  obtain ⟨hok, hstat, hpar, hlink⟩ := hS
  refine J_call (as := As) (len := 3) hc ?_ kr kx
  intro p e R s m args below meth cc T locs cells slots ls C hls a2 q1 q2 X
  have hE : EN G s := C.2.2.2.2.2.2.2.2.2.2.1
  have hts := C.2.2.2.2.2.2.1
  have hK : vx_Back (gL G) R p e below s args (mY M') 3 8 (jPre G R s As h c1) (jPost G s Q1 c1) (jPostX G s Q1 c1) := jback rfl hcall hE hok hts (by rw [C.2.2.2.2.2.2.2.2.1]; exact hv.1) (by rw [C.2.2.2.2.2.2.2.2.2.1]; exact hv.room)
  have hpre : ∀ vm₁, s.WarmedH vm₁ → jPre G R s As h c1 ⟨T.setVm vm₁, locs, cells, slots⟩ As.toArray := fun vm₁ _ => ⟨q1, q2, rfl, a2⟩
  have h8' : 2 * (F0 m pc ls (As.reverse ++ st)).monitorRoom + (st.map fun v => v.category).sum ≤ 8 := by show 2 * 0 + _ ≤ 8; omega
  have d' : decode cc.code (F0 m pc ls (As.reverse ++ st)).pc = .ok (.invokestatic idx, 3) := by rw [C.2.1]; exact d
  rcases hlink with hl1 | ⟨h0, host, hl1⟩
  · cases hm : mH M' with
    | none => exact vx_callS X C.1 C.2.2.2.2.2.1 (hts _ hl1) (hts _ hstat) (hts _ hok.2.1) (code_of hts hok hm) hok.2.2 hK (g := F0 m pc ls (As.reverse ++ st)) rfl hls (nPar_len hpar hn) rfl h8' d' hpre
    | some hh' => exact vx_callSX X C.1 C.2.2.2.2.2.1 (hts _ hl1) (hts _ hstat) (hts _ hok.2.1) (codeW_of hts hok hm) hok.2.2 hK (g := F0 m pc ls (As.reverse ++ st)) rfl hls (nPar_len hpar hn) rfl h8' d' hpre
  · exact vx_callSN X C.1 C.2.2.2.2.2.1 (hE.nw hl1) (hts _ hstat) (hts _ hok.2.1) (code_of hts hok h0) hok.2.2 hK (g := F0 m pc ls (As.reverse ++ st)) rfl hls (nPar_len hpar hn) rfl h8' d' hpre
theorem J_invI {idx b n c1 : Nat} {x : AC} {As : List Value} {M' : MI} {Q1 : RR → HP → Prop} (d : DC M pc = .ok (.invokespecial idx, 3)) (hS : IS G (mY M).cls idx M' n) (hh : h b = some x) (hob : ∃ w ci fs, x = (w, .inl (ci, fs))) (hn : As.length = n) (h8 : (st.map fun v => v.category).sum ≤ 8) (hv : LV M M') (hc : c1 ≤ c) (hcall : Call G M' (.ref b :: As) h c1 Q1)
    (kr : ∀ v h', Q1 (.inl v) h' → J G M (pc + 3) L (v.toList ++ st) h' (c - c1) Q) (kx : ∀ ci q h', Q1 (.inr (ci, q)) h' → JX G M pc L ci q h' (c - c1) Q) : J G M pc L (As.reverse ++ .ref b :: st) h c Q := by
  obtain ⟨hok, hinst, hpar, hno, hlink⟩ := hS
  obtain ⟨w, ci, fs, rfl⟩ := hob
  refine J_call (as := .ref b :: As) (len := 3) hc ?_ kr kx
  intro p e R s m args below meth cc T locs cells slots ls C hls a2 q1 q2 X
  have hE : EN G s := C.2.2.2.2.2.2.2.2.2.2.1
  have hts := C.2.2.2.2.2.2.1
  have hK : vx_Back (gL G) R p e below s args (mY M') 3 8 (jPre G R s (.ref b :: As) h c1) (jPost G s Q1 c1) (jPostX G s Q1 c1) := jback rfl hcall hE hok hts (by rw [C.2.2.2.2.2.2.2.2.1]; exact hv.1) (by rw [C.2.2.2.2.2.2.2.2.2.1]; exact hv.room)
  have hpre : ∀ vm₁, s.WarmedH vm₁ → jPre G R s (.ref b :: As) h c1 ⟨T.setVm vm₁, locs, cells, slots⟩ (Value.ref b :: As).toArray := fun vm₁ _ => ⟨q1, q2, rfl, a2⟩
  have h8' : 2 * (F0 m pc ls (As.reverse ++ .ref b :: st)).monitorRoom + (st.map fun v => v.category).sum ≤ 8 := by show 2 * 0 + _ ≤ 8; omega
  have d' : decode cc.code (F0 m pc ls (As.reverse ++ .ref b :: st)).pc = .ok (.invokespecial idx, 3) := by rw [C.2.1]; exact d
  have hcode := code_of hts hok hno
  rcases hlink with ⟨hin, hret, hl1 | ⟨host, hl1⟩⟩ | ⟨hni, hl1, hsame, hsup⟩
  · rw [hret] at hcode
    exact vx_callI X C.1 C.2.2.2.2.2.1 hin (hts _ hl1) (hts _ hinst) hcode hok.2.2 hK (g := F0 m pc ls (As.reverse ++ .ref b :: st)) rfl hls (nPar_len hpar hn) rfl h8' d' hpre
  · rw [hret] at hcode
    exact vx_callIN X C.1 C.2.2.2.2.2.1 hin (hE.nw hl1) (hts _ hinst) hcode hok.2.2 hK (g := F0 m pc ls (As.reverse ++ .ref b :: st)) rfl hls (nPar_len hpar hn) rfl h8' d' hpre
  · obtain ⟨⟨cell, g1, g2, g3, g4, g5, ⟨r, hr, -⟩, -⟩, -⟩ := a2.1 b _ hh
    have hcl := (hE.1.1 ci r hr).2
    obtain ⟨kB, hkB, -⟩ := hcl.2
    exact vx_callSU X C.1 C.2.2.2.2.2.1 (hts _ hl1) (hts _ hsame) (hts _ hsup) (hts _ hinst) hcode hni hK g1 g4 (by rw [g2]; exact hkB) (g := F0 m pc ls (As.reverse ++ .ref b :: st)) rfl hls (nPar_len hpar hn) rfl h8' d' hpre
theorem J_invF {idx ct ci b n c1 : Nat} {w : Bool} {fs As : List Value} {M' : MI} {Q1 : RR → HP → Prop} (d : DC M pc = .ok (.invokeinterface idx ct, 5)) (hS : IFS G (mY M).cls idx ci M' n) (hh : h b = some (w, .inl (ci, fs))) (hn : As.length = n) (h8 : (st.map fun v => v.category).sum ≤ 8) (hv : LV M M') (hc : c1 ≤ c) (hcall : Call G M' (.ref b :: As) h c1 Q1)
    (kr : ∀ v h', Q1 (.inl v) h' → J G M (pc + 5) L (v.toList ++ st) h' (c - c1) Q) (kx : ∀ ci q h', Q1 (.inr (ci, q)) h' → JX G M pc L ci q h' (c - c1) Q) : J G M pc L (As.reverse ++ .ref b :: st) h c Q := by
  obtain ⟨hok, hinst, r, x, hpar, hr, hl1, hsel, hF⟩ := hS
  refine J_call (as := .ref b :: As) (len := 5) hc ?_ kr kx
  intro p e R s m args below meth cc T locs cells slots ls C hls a2 q1 q2 X
  have hE : EN G s := C.2.2.2.2.2.2.2.2.2.2.1
  have hts := C.2.2.2.2.2.2.1
  have hK : vx_Back (gL G) R p e below s args (mY M') 5 8 (jPre G R s (.ref b :: As) h c1) (jPost G s Q1 c1) (jPostX G s Q1 c1) := jback rfl hcall hE hok hts (by rw [C.2.2.2.2.2.2.2.2.1]; exact hv.1) (by rw [C.2.2.2.2.2.2.2.2.2.1]; exact hv.room)
  obtain ⟨cellB, g1, g2, g3⟩ := obj_at hE a2 hh hr
  obtain ⟨kB, hkB, -⟩ := Vm.findClass_spec g3
  have hpre : ∀ vm₁, s.WarmedH vm₁ → jPre G R s (.ref b :: As) h c1 ⟨T.setVm vm₁, locs, cells, slots⟩ (Value.ref b :: As).toArray := fun vm₁ _ => ⟨q1, q2, rfl, a2⟩
  have h8' : 2 * (F0 m pc ls (As.reverse ++ .ref b :: st)).monitorRoom + (st.map fun v => v.category).sum ≤ 8 := by show 2 * 0 + _ ≤ 8; omega
  have d' : decode cc.code (F0 m pc ls (As.reverse ++ .ref b :: st)).pc = .ok (.invokeinterface idx ct, 5) := by rw [C.2.1]; exact d
  obtain ⟨hx, f1, f2, f3, f4, f5⟩ := hE.2.2.1 _ hF
  have u1 : ∀ {w : Cond}, w.onTables = true → w.before #[] s = true → w.before args s = true := fun ho hb => va_tabs ho rfl hb
  cases hm : mH M' with
  | none => exact vx_callIF X C.1 C.2.2.2.2.2.1 (hts _ hl1) (u1 rfl f1) (u1 rfl f2) (hts _ hsel) (hts _ hinst) (u1 rfl f3) (u1 rfl f4) (u1 rfl f5) (code_of hts hok hm) hx hK g1 g2 g3 hkB (g := F0 m pc ls (As.reverse ++ .ref b :: st)) rfl hls (nPar_len hpar hn) rfl h8' d' hpre
  | some hh' => exact vx_callIFW X C.1 C.2.2.2.2.2.1 (hts _ hl1) (u1 rfl f1) (u1 rfl f2) (hts _ hsel) (hts _ hinst) (u1 rfl f3) (u1 rfl f4) (u1 rfl f5) (codeW_of hts hok hm) hx hK g1 g2 g3 hkB (g := F0 m pc ls (As.reverse ++ .ref b :: st)) rfl hls (nPar_len hpar hn) rfl h8' d' hpre
/-- a contract out of the walk of its body -/
def ent (as : List Value) (n : Nat) : List (Option Value) := (as.flatMap fun v => if v.category = 2 then [some v, none] else [some v]) ++ List.replicate n none
theorem ent_LH (as : List Value) {n : Nat} (hn : (lg_sl as).length ≤ n) : LH ((lg_sl as ++ List.replicate (n - (lg_sl as).length) Slot.unset).toArray) n (ent as (n - (lg_sl as).length)) := by
  have h1 := lv_entry as hn
  refine ⟨h1.1, h1.2.1, ?_⟩
  have key : ∀ (as : List Value) (k i : Nat) (v : Value), (ent as k)[i]? = some (some v) → (lg_sl as ++ List.replicate k Slot.unset)[i]? = some (.val v) := by
    intro as
    induction as with
    | nil =>
      intro k i v hv
      simp only [ent, List.flatMap_nil, List.nil_append, List.getElem?_replicate] at hv
      split at hv <;> cases hv
    | cons a as ih =>
      intro k i v hv
      by_cases hc : a.category = 2
      · have e1 : ent (a :: as) k = some a :: none :: ent as k := by simp [ent, hc]
        have e2 : lg_sl (a :: as) = .val a :: .second :: lg_sl as := by simp [lg_sl, hc]
        rw [e1] at hv
        rw [e2]
        match i with
        | 0 => simp at hv; simp [hv]
        | 1 => simp at hv
        | i + 2 => simpa using ih k i v (by simpa using hv)
      · have e1 : ent (a :: as) k = some a :: ent as k := by simp [ent, hc]
        have e2 : lg_sl (a :: as) = .val a :: lg_sl as := by simp [lg_sl, hc]
        rw [e1] at hv
        rw [e2]
        cases i with
        | zero => simp at hv; simp [hv]
        | succ i => simpa using ih k i v (by simpa using hv)
  intro i v hv
  rw [List.getElem?_toArray]
  exact key as _ i v hv
theorem Call_of {as : List Value} (hy : plainName (mY M).cls = true) (hn : (lg_sl as).length ≤ mL M) (body : J G M 0 (ent as (mL M - (lg_sl as).length)) [] h c Q) : Call G M as h c Q := by
  have fin : ∀ p e s m args below meth cc s₁, BodyLoose p (gL G) (mY M) (headSpec (mWs M) (mRm M c)) (mC M) (mL M) (mR M) e s m args below meth cc s₁ → cc.maxLocals = mL M → cc.exceptionTable.toList = mT M → (args = as.toArray ∧ EN G s ∧ HR G s h s.heap) →
      W p (gL G) e (headSpec (mWs M) (mRm M c)).room s m args below meth cc s.heap [] 0 0 (JQ G Q (mRm M c) s below) (entryFrame m args (mL M)) := by
    intro p e s m args below meth cc s₁ B hml htab hP
    obtain ⟨rfl, hE, hr⟩ := hP
    have hts := atoms_spec (ws := mWs M) B.pre
    rw [lg_entry_eq]
    exact body p e (mRm M c) s m as.toArray below meth cc s.heap [] 0 0 _ ⟨B.exec, B.bytes, B.returns, B.notSynchronized, hml, findClass_of_methodNamed B.named, fun w hw => hts w (List.mem_cons_of_mem _ hw), htab, rfl, rfl, hE, (name_of_methodNamed B.named B.method).1, hE.2.2.2.2.2.2.2.2⟩ (ent_LH as hn) hr (by show 0 + c / 12 ≤ c / 12; omega) (by show 0 + c ≤ c; omega) (fun q hq => nomatch hq)
  refine MetFree.of_bodyS (code := mC M) (maxLocals := mL M) (ret := mR M) hy ?_ ?_
  · intro args s m h hn
    have h2 := atoms_spec (ws := mWs M) h _ List.mem_cons_self
    unfold mCw at h2
    split at h2
    · obtain ⟨meth, cc, h1, h2, h3, h4, h5, h6, -, -⟩ := Cond.code_spec hn h2
      exact ⟨meth, cc, h1, h2, h3, h4, h5, h6⟩
    · obtain ⟨m9, meth, cc, hn9, h1, h2, h3, h4, -, h5, h6, -⟩ := Cond.codeWith_spec h2
      cases hn.symm.trans hn9
      exact ⟨meth, cc, h1, h2, h3, h4, h5, h6⟩
  · intro p e s m args below meth cc s₁ B hml hP _
    have hh0 : s₁.heap = s.heap := by rw [B.state]; rfl
    have htab : cc.exceptionTable.toList = mT M := by
      have h2 := atoms_spec (ws := mWs M) B.pre _ List.mem_cons_self
      unfold mCw at h2
      unfold mT
      split at h2
      · rename_i hm
        obtain ⟨meth9, c9, h1, h2, -, -, -, -, h7, -⟩ := Cond.code_spec B.named h2
        cases Option.some.inj (h1.symm.trans B.method)
        cases Option.some.inj (h2.symm.trans (Stand.of_body B).code)
        rw [Array.isEmpty_iff.mp h7]
      · rename_i hh hm
        exact vx_table (x := mY M) B h2
    obtain ⟨t, a1, o, b1, b2, b3⟩ := fin p e s m args below meth cc s₁ B hml htab hP s₁ hh0 (Stand.of_body B)
    exact ⟨t, o, a1, b1, b2, b3⟩
theorem PM.mono {Q' : RR → HP → Prop} (hQ : ∀ r h, Q r h → Q' r h) {mc ms : Nat} {s t : State} {o : Outcome} (hp : PM G Q mc ms s o t) : PM G Q' mc ms s o t := by
  obtain ⟨h', h3, h4, h5⟩ := hp
  refine ⟨h', h3, h4, ?_⟩
  rcases h5 with ⟨v, e1, e2, e3⟩ | ⟨q, ci, r, ce, L, e1, e2, e3⟩
  · exact Or.inl ⟨v, e1, hQ _ _ e2, e3⟩
  · exact Or.inr ⟨q, ci, r, ce, L, e1, hQ _ _ e2, e3⟩
theorem Call.mono {as : List Value} {Q' : RR → HP → Prop} (hQ : ∀ r h, Q r h → Q' r h) (k : Call G M as h c Q) : Call G M as h c Q' := by
  intro p e h1 h2 h3 s m args below h4 h5 h6 h7
  obtain ⟨n, o, k1, k2, k3, k4⟩ := k p e h1 h2 h3 s m args below h4 h5 h6 h7
  exact ⟨n, o, k1, k2, k3, k4.mono hQ⟩
end JV
