/-! J: fields, arrays, new, statics, constants, casts -/
/-- a field's place: at entry idx of own's pool stands field k of class ci -/
def FS (G : GT) (own : String) (idx ci k : Nat) : Prop :=
  ∃ (C ref : String) (T : u_T) (N : Nat), (gC G)[ci]? = some (C, T, N) ∧ k < N ∧
    (Cond.fieldLink own idx ref (T k).2.1 (T k).2.2.1 ∈ lw_all ∨ ∃ host, Cond.fieldLinkNest own idx ref (T k).2.1 (T k).2.2.1 host ∈ gW G) ∧
    (ref = (T k).1 ∨ Cond.sameField ref (T k).1 (T k).2.1 (T k).2.2.1 ∈ lw_all) ∧ (∀ w ∈ u_ws C T N, w ∈ lw_all)
/-- .. and it may be written by the method y of own: the type of the field -/
def FP (G : GT) (own : String) (mn : String) (idx ci k : Nat) (ty : FieldType) : Prop :=
  ∃ (C ref : String) (T : u_T) (N : Nat) (tys : Nat → FieldType), (gC G)[ci]? = some (C, T, N) ∧ k < N ∧
    (Cond.fieldLink own idx ref (T k).2.1 (T k).2.2.1 ∈ lw_all ∨ ∃ host, Cond.fieldLinkNest own idx ref (T k).2.1 (T k).2.2.1 host ∈ gW G) ∧
    (ref = (T k).1 ∨ Cond.sameField ref (T k).1 (T k).2.1 (T k).2.2.1 ∈ lw_all) ∧ (∀ w ∈ u_ws C T N, w ∈ lw_all) ∧
    (∀ j, j < N → parseFieldDescriptor (T j).2.2.1 = some (tys j)) ∧ (∀ a, a < N → ∀ b, b < N → a ≠ b → (T a).2.1 ≠ (T b).2.1) ∧ tys k = ty ∧
    ((T k).2.2.2 = false ∨ ((T k).2.2.2 = true ∧ (T k).1 = own ∧ mn = "<init>"))
section JH
variable {G : GT} {M : MI} {pc : Nat} {L : List (Option Value)} {st : List Value} {h : HP} {c : Nat} {Q : RR → HP → Prop}
theorem EN.nw {s : State} {w : Cond} {A : Array Value} (hE : EN G s) (hw : w ∈ gW G) : w.before A s = true := by
  obtain ⟨h1, h2⟩ := hE.2.1 w hw
  refine va_Nw.use ?_ h2
  cases w <;> first | rfl | cases h1
theorem J_getf {idx ci k a : Nat} {w : Bool} {fs : List Value} {v : Value} (d : DC M pc = .ok (.getfield idx, 3)) (hf : FS G (mY M).cls idx ci k) (hh : h a = some (w, .inl (ci, fs))) (hv : fs[k]? = some v) (kk : J G M (pc + 3) L (v :: st) h c Q) : J G M pc L (.ref a :: st) h c Q := by
  intro p e R s m args below meth cc H locs cells slots ls C hl a2 a3 a4 a5
  obtain ⟨Cn, ref, T, N, hc, hk, hlink, hsame, hin⟩ := hf
  obtain ⟨⟨cell, g1, g2, g3, g4, g5, -, g6⟩, -⟩ := a2.1 a _ hh
  have hts := C.2.2.2.2.2.2.1
  have hE : EN G s := C.2.2.2.2.2.2.2.2.2.2.1
  have hown := C.2.2.2.2.2.1
  obtain ⟨hS, hfc, kC, hkC, hkind⟩ := hE.1.1 ci _ hc
  obtain ⟨cf, kf, fi, f, hi, hsl⟩ := hS k hk
  have hsame' : s.fieldFound? ref (T k).2.1 (T k).2.2.1 = some (cf, kf, fi, f) := by
    rcases hsame with e1 | e1
    · rw [e1]; exact hi
    · exact u_same (hts _ e1) _ hi
  have hst := (u_facts hfc hkC (u_lays hts hin hk) hi).1
  have hslot : cell.slots[f.slot]? = some v := by rw [hsl]; exact g6 k v hv
  have K := kk p e R s m args below meth cc H locs cells slots ls C hl a2 a3 a4 a5
  rcases hlink with h1 | ⟨host, h1⟩
  · exact W.getf C.1 C.2.1 hown (hts _ h1) hsame' hst g1 g3 hslot rfl rfl d K
  · exact va_Wgetf C.1 C.2.1 hown (hE.nw h1) hsame' hst g1 g3 hslot rfl rfl d K
theorem J_putf {idx ci k a : Nat} {fs : List Value} {v : Value} {ty : FieldType} (d : DC M pc = .ok (.putfield idx, 3)) (hf : FP G (mY M).cls (mY M).name idx ci k ty) (hh : h a = some (true, .inl (ci, fs))) (hk2 : k < fs.length) (hn : narrow ty v = v) (hfit : fits ty v = true) (kk : J G M (pc + 3) L st (hs h a (true, .inl (ci, fs.set k v))) c Q) : J G M pc L (v :: .ref a :: st) h c Q := by
  intro p e R s m args below meth cc H locs cells slots ls C hl a2 a3 a4 a5
  obtain ⟨Cn, ref, T, N, tys, hc, hk, hlink, hsame, hin, hty, hnm, ety, hfin⟩ := hf
  obtain ⟨⟨cell, g1, g2, g3, g4, g5, ⟨r, g7, g8⟩, g6⟩, g9⟩ := a2.1 a _ hh
  have hvm : cell.vm = .none := g5 rfl
  have hts := C.2.2.2.2.2.2.1
  have hE : EN G s := C.2.2.2.2.2.2.2.2.2.2.1
  have hown := C.2.2.2.2.2.1
  have hap := va_apart (own := (mY M).cls) hts hin tys hty hnm hE.1 hc
  obtain ⟨hS, hfc, kC, hkC, hkind⟩ := hE.1.1 ci _ hc
  obtain ⟨cf, kf, fi, f, hi, hsl⟩ := hS k hk
  have hsame' : s.fieldFound? ref (T k).2.1 (T k).2.2.1 = some (cf, kf, fi, f) := by
    rcases hsame with e1 | e1
    · rw [e1]; exact hi
    · exact u_same (hts _ e1) _ hi
  have hst := (u_facts hfc hkC (u_lays hts hin hk) hi).1
  have hd : parseFieldDescriptor (T k).2.2.1 = some ty := by rw [← ety]; exact hty k hk
  have hfits := u_fits hfc hkC hkind (u_lays hts hin hk) hi hd hn hfit
  have hcls : cell.cls = (gD G).1 ci := g2
  have hlt : f.slot < cell.slots.size := by
    rw [hsl]
    cases hx : fs[k]? with
    | none => exact absurd (List.getElem?_eq_none_iff.mp hx) (by omega)
    | some y => exact k2_hasslot (g6 k y hx)
  have hfl : hasFlag f.accessFlags Acc.final = false ∨ (m.cls = cf ∧ meth.name = "<init>") := by
    rcases hfin with h1 | ⟨h1, h2, h3⟩
    · have hlay := hts _ (hin _ (u_in_lay hk))
      unfold u_lay at hlay
      rw [if_neg (by rw [h1]; decide)] at hlay
      exact Or.inl (u_store hfc hkC hkind hlay hi hd hn hfit).1
    · refine Or.inr ⟨?_, by rw [C.2.2.2.2.2.2.2.2.2.2.2.1]; exact h3⟩
      have hlay := hts _ (hin _ (u_in_lay hk))
      unfold u_lay at hlay
      rw [if_pos h1] at hlay
      obtain ⟨c', k', cf', kf', fi', fd', r1, r2, hi', q1, q2, q3, q4, q5, q6⟩ := Cond.laysFinal_spec hlay
      cases hi.symm.trans hi'
      rw [h2] at q4
      exact Option.some.inj (hown.symm.trans q4)
  have ha : g0 G ≤ a := g9 rfl
  have fin : ∀ H' : Heap, H'[a]? = some (cell.setSlot f.slot v) → H'.size = H.size → (∀ q, q ≠ a → H'[q]? = H[q]?) → W p (gL G) e R s m args below meth cc H' (locs ++ [⟨a, f.slot⟩]) cells slots (JQ G Q R s below) (F0 m (pc + 3) ls st) := by
    intro H' e1 e2 e3
    refine kk p e R s m args below meth cc H' _ cells slots ls C hl (a2.put ha e1 e2 e3 ⟨g2, g3, g4, fun _ => hvm, ⟨r, g7, by rw [List.length_set]; exact g8⟩, fun j x hx => ?_⟩) a3 a4 (fun q hq => ?_)
    · have hr : r = (Cn, T, N) := Option.some.inj (g7.symm.trans hc)
      subst hr
      have hj : j < N := by
        have := (List.getElem?_eq_some_iff.mp hx).1
        rw [List.length_set] at this
        exact Nat.lt_of_lt_of_le this g8
      by_cases hjk : j = k
      · subst hjk
        rw [List.getElem?_set_self hk2] at hx
        cases hx
        rw [← hsl]
        exact Cell.slots_setSlot_self _ hlt
      · rw [List.getElem?_set_ne (Ne.symm hjk)] at hx
        rw [slot_ne _ _ (by rw [hsl]; exact hap k j hk hj (Ne.symm hjk))]
        exact g6 j x hx
    · rcases List.mem_append.mp hq with h1 | h1
      · exact a5 q h1
      · rw [List.mem_singleton.mp h1]; exact ha
  have hal : a < H.size := (Array.getElem?_eq_some_iff.mp g1).1
  have fin' := fin (H.setIfInBounds a (cell.setSlot f.slot v)) (by simp [Array.getElem?_setIfInBounds, hal]) (by simp) (by intro q hq; simp [Array.getElem?_setIfInBounds, Ne.symm hq])
  have hft : s.fitsSlot cell.cls cell.vm f.slot v = true := by rw [hvm, hcls]; exact hfits.2
  rcases hlink with h1 | ⟨host, h1⟩
  · exact W.putf C.1 C.2.1 hown (hts _ h1) hsame' hst hfl g1 g3 hlt hfits.1 hft rfl rfl d fin'
  · exact va_Wputf C.1 C.2.1 hown (hE.nw h1) hsame' hst hfl g1 g3 hlt hfits.1 hft rfl rfl d fin'
end JH
