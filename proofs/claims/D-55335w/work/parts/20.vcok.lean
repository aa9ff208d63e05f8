theorem tgt_ok {pc : Nat} {off : Int} (h : jok pc off) : (pc : Int) + off = (tgt pc off : Int) := by
  unfold tgt
  unfold jok at h
  omega
theorem jmp_ok {X : XT} {V : VT} {M : MI} {pc t : Nat} {L : List (Option Value)} {st : List Value} {h : HP} {c : Nat} {Q : RR → HP → Prop} (hV : ∀ (M : MI) (pc : Nat) (L : List (Option Value)) (st : List Value) (h : HP) (c : Nat) (Q : RR → HP → Prop), MG M → V M pc L st h c Q → J (mkG X) M pc L st h c Q) (hM : MG M) (hj : jmp X V M pc t L st h c Q) : J (mkG X) M t L st h c Q := by
  unfold jmp at hj
  split at hj
  · exact hj
  · exact hV _ _ _ _ _ _ _ hM hj
theorem rv_rf {v : Value} (h : isRv v) : ∃ r, v = va_rf r := by
  rcases h with rfl | ⟨a, rfl⟩
  · exact ⟨none, rfl⟩
  · exact ⟨some a, rfl⟩
theorem rf_inj {a b : Option Nat} (h : va_rf a = va_rf b) : a = b := by
  cases a <;> cases b <;> simp_all [va_rf]
theorem lsw_ok {X : XT} {V : VT} {M : MI} {pc : Nat} {L : List (Option Value)} {st : List Value} {h : HP} {c : Nat} {Q : RR → HP → Prop} {x dflt : Int} {ps : List (Int × Int)} (hl : lsw X V M pc L st h c Q x dflt ps) : ∃ (off : Int) (t : Nat), Op.lookupswitch.offset ps dflt x = off ∧ (pc : Int) + off = (t : Int) ∧ jmp X V M pc t L st h c Q := by
  induction ps with
  | nil => exact ⟨dflt, tgt pc dflt, rfl, tgt_ok hl.1, hl.2⟩
  | cons p r ih =>
    obtain ⟨k, o⟩ := p
    by_cases hx : x = k
    · obtain ⟨q1, q2⟩ := hl.1 hx
      exact ⟨o, tgt pc o, by simp [Op.lookupswitch.offset, hx], tgt_ok q1, q2⟩
    · obtain ⟨off, t, e1, e2, e3⟩ := ih (hl.2 hx)
      refine ⟨off, t, ?_, e2, e3⟩
      rw [← e1]
      simp [Op.lookupswitch.offset, Ne.symm hx, fun q : k = x => hx q.symm]
theorem tsw_ok {X : XT} {V : VT} {M : MI} {pc : Nat} {L : List (Option Value)} {st : List Value} {h : HP} {c : Nat} {Q : RR → HP → Prop} {x : Int} : ∀ {offs : List Int} {lo : Int}, tsw X V M pc L st h c Q x lo offs → lo ≤ x → x < lo + offs.length → ∃ off, offs[(x - lo).toNat]? = some off ∧ jok pc off ∧ jmp X V M pc (tgt pc off) L st h c Q := by
  intro offs
  induction offs with
  | nil => intro lo h1 h2 h3; simp at h3; omega
  | cons o r ih =>
    intro lo h1 h2 h3
    by_cases hx : x = lo
    · obtain ⟨q1, q2⟩ := h1.1 hx
      exact ⟨o, by simp [hx], q1, q2⟩
    · obtain ⟨off, e1, e2⟩ := ih h1.2 (by omega) (by simp only [List.length_cons] at h3; omega)
      refine ⟨off, ?_, e2⟩
      have : (x - lo).toNat = (x - (lo + 1)).toNat + 1 := by omega
      rw [this, List.getElem?_cons_succ]
      exact e1
theorem vcXs_ok {X : XT} {V : VT} {M : MI} {pc : Nat} {L : List (Option Value)} {ci q : Nat} {h : HP} {c : Nat} {Q : RR → HP → Prop} {r : vw_C} (hV : ∀ (M : MI) (pc : Nat) (L : List (Option Value)) (st : List Value) (h : HP) (c : Nat) (Q : RR → HP → Prop), MG M → V M pc L st h c Q → J (mkG X) M pc L st h c Q) (hM : MG M) (hr : (gC (mkG X))[ci]? = some r) :
    ∀ (hh : List (Nat × Nat × Nat × Nat)) (pre : List ExceptionTableEntry), mT M = pre ++ tableOf hh → (∀ z ∈ pre, covers z pc = false ∨ (z.catchType ≠ 0 ∧ ∃ nm : String, Cond.classLink (mY M).cls z.catchType nm ∈ lw_all ∧ (r.1, nm) ∈ gN (mkG X))) → vcXs V M pc L ci q h c Q hh → JX (mkG X) M pc L ci q h c Q := by
  intro hh
  induction hh with
  | nil =>
    intro pre hT hp hv
    exact JX_out ⟨r, hr, by rw [hT]; simpa [tableOf] using hp⟩ hv
  | cons x hh ih =>
    obtain ⟨s, e, hp0, ct⟩ := x
    intro pre hT hp hv
    have hT2 : mT M = (pre ++ [⟨s, e, hp0, ct⟩]) ++ tableOf hh := by rw [hT]; simp [tableOf]
    have hT1 : mT M = pre ++ (⟨s, e, hp0, ct⟩ : ExceptionTableEntry) :: tableOf hh := by rw [hT]; simp [tableOf]
    simp only [vcXs] at hv
    split at hv
    · rename_i hcov
      have hc1 : covers (⟨s, e, hp0, ct⟩ : ExceptionTableEntry) pc = true := by simp [covers, hcov.1, hcov.2]
      split at hv
      · rename_i h0
        exact JX_catch hT1 ⟨r, hr, hp⟩ hc1 (Or.inl h0) (hV _ _ _ _ _ _ _ hM hv)
      · rename_i h0
        split at hv
        · rename_i hk
          obtain ⟨r2, nm, e1, e2, e3⟩ := XK_ok X _ _ (lk_mem hk)
          rcases e3 with ⟨-, e4⟩ | ⟨e4, -⟩
          · exact JX_catch hT1 ⟨r, hr, hp⟩ hc1 (Or.inr ⟨h0, r2, nm, e1, by rw [hM]; exact e2, e4⟩) (hV _ _ _ _ _ _ _ hM hv)
          · cases e4
        · rename_i hk
          obtain ⟨r2, nm, e1, e2, e3⟩ := XK_ok X _ _ (lk_mem hk)
          rcases e3 with ⟨e4, -⟩ | ⟨-, e4⟩
          · cases e4
          · cases Option.some.inj (e1.symm.trans hr)
            refine ih _ hT2 (fun z hz => ?_) hv
            rcases List.mem_append.mp hz with h1 | h1
            · exact hp z h1
            · rw [List.mem_singleton.mp h1]
              exact Or.inr ⟨h0, nm, by rw [hM]; exact e2, e4⟩
        · exact hv.elim
    · rename_i hcov
      refine ih _ hT2 (fun z hz => ?_) hv
      rcases List.mem_append.mp hz with h1 | h1
      · exact hp z h1
      · rw [List.mem_singleton.mp h1]
        refine Or.inl ?_
        by_cases h1 : s ≤ pc
        · have h2 : ¬ pc < e := fun q => hcov ⟨h1, q⟩
          simp [covers, h2]
        · simp [covers, h1]
theorem vcX_ok {X : XT} {V : VT} {M : MI} {pc : Nat} {L : List (Option Value)} {ci q : Nat} {h : HP} {c : Nat} {Q : RR → HP → Prop} {r : vw_C} (hV : ∀ (M : MI) (pc : Nat) (L : List (Option Value)) (st : List Value) (h : HP) (c : Nat) (Q : RR → HP → Prop), MG M → V M pc L st h c Q → J (mkG X) M pc L st h c Q) (hM : MG M) (hr : (gC (mkG X))[ci]? = some r) (hv : vcX V M pc L ci q h c Q) : JX (mkG X) M pc L ci q h c Q := by
  unfold vcX at hv
  split at hv
  · rename_i hm
    exact JX_out ⟨r, hr, by unfold mT; rw [hm]; exact fun z hz => nomatch hz⟩ hv
  · rename_i hh hm
    exact vcXs_ok hV hM hr hh [] (by unfold mT; rw [hm]; rfl) (fun z hz => nomatch hz) hv
theorem vcX_okK {X : XT} {V : VT} {M : MI} {pc : Nat} {L : List (Option Value)} {ci q : Nat} {h : HP} {c : Nat} {Q : RR → HP → Prop} (hV : ∀ (M : MI) (pc : Nat) (L : List (Option Value)) (st : List Value) (h : HP) (c : Nat) (Q : RR → HP → Prop), MG M → V M pc L st h c Q → J (mkG X) M pc L st h c Q) (hM : MG M) (hv : vcX V M pc L ci q h c Q) : JX (mkG X) M pc L ci q h c Q := by
  cases hr : (gC (mkG X))[ci]? with
  | some r => exact vcX_ok hV hM hr hv
  | none =>
    intro p e R s m args below meth cc H locs cells slots ls st r ce C hl a2 a3 a4 a5 x1 x2 x3 x4
    rw [hr] at x1
    cases x1
theorem s_iconst {X : XT} {V : VT} {M : MI} {pc : Nat} {L : List (Option Value)} {st : List Value} {h : HP} {c : Nat} {Q : RR → HP → Prop} {n : Int} (hV : ∀ (M : MI) (pc : Nat) (L : List (Option Value)) (st : List Value) (h : HP) (c : Nat) (Q : RR → HP → Prop), MG M → V M pc L st h c Q → J (mkG X) M pc L st h c Q) (hM : MG M) (d : DC M pc = .ok (.iconst n, 1)) (hv : b_iconst n X V M pc L st h c Q) : J (mkG X) M pc L st h c Q := by
  exact J_iconst d rfl (hV _ _ _ _ _ _ _ hM hv)
theorem s_bipush {X : XT} {V : VT} {M : MI} {pc : Nat} {L : List (Option Value)} {st : List Value} {h : HP} {c : Nat} {Q : RR → HP → Prop} {n : Int} (hV : ∀ (M : MI) (pc : Nat) (L : List (Option Value)) (st : List Value) (h : HP) (c : Nat) (Q : RR → HP → Prop), MG M → V M pc L st h c Q → J (mkG X) M pc L st h c Q) (hM : MG M) (d : DC M pc = .ok (.bipush n, 2)) (hv : b_bipush n X V M pc L st h c Q) : J (mkG X) M pc L st h c Q := by
  exact J_bipush d rfl (hV _ _ _ _ _ _ _ hM hv)
theorem s_sipush {X : XT} {V : VT} {M : MI} {pc : Nat} {L : List (Option Value)} {st : List Value} {h : HP} {c : Nat} {Q : RR → HP → Prop} {n : Int} (hV : ∀ (M : MI) (pc : Nat) (L : List (Option Value)) (st : List Value) (h : HP) (c : Nat) (Q : RR → HP → Prop), MG M → V M pc L st h c Q → J (mkG X) M pc L st h c Q) (hM : MG M) (d : DC M pc = .ok (.sipush n, 3)) (hv : b_sipush n X V M pc L st h c Q) : J (mkG X) M pc L st h c Q := by
  exact J_sipush d rfl (hV _ _ _ _ _ _ _ hM hv)
theorem s_null {X : XT} {V : VT} {M : MI} {pc : Nat} {L : List (Option Value)} {st : List Value} {h : HP} {c : Nat} {Q : RR → HP → Prop}  (hV : ∀ (M : MI) (pc : Nat) (L : List (Option Value)) (st : List Value) (h : HP) (c : Nat) (Q : RR → HP → Prop), MG M → V M pc L st h c Q → J (mkG X) M pc L st h c Q) (hM : MG M) (d : DC M pc = .ok (.aconst_null, 1)) (hv : b_null  X V M pc L st h c Q) : J (mkG X) M pc L st h c Q := by
  exact J_null d  (hV _ _ _ _ _ _ _ hM hv)
theorem s_iload_n {X : XT} {V : VT} {M : MI} {pc : Nat} {L : List (Option Value)} {st : List Value} {h : HP} {c : Nat} {Q : RR → HP → Prop} {k : Fin 4} (hV : ∀ (M : MI) (pc : Nat) (L : List (Option Value)) (st : List Value) (h : HP) (c : Nat) (Q : RR → HP → Prop), MG M → V M pc L st h c Q → J (mkG X) M pc L st h c Q) (hM : MG M) (d : DC M pc = .ok (.iload_n k, 1)) (hv : b_iload k.val 1 X V M pc L st h c Q) : J (mkG X) M pc L st h c Q := by
  unfold b_iload at hv
  split at hv
  · rename_i hx
    exact J_iload_n d rfl (lgt_get _ _ _ hx) (hV _ _ _ _ _ _ _ hM hv)
  · exact hv.elim
theorem s_iload {X : XT} {V : VT} {M : MI} {pc : Nat} {L : List (Option Value)} {st : List Value} {h : HP} {c : Nat} {Q : RR → HP → Prop} {i : Nat} (hV : ∀ (M : MI) (pc : Nat) (L : List (Option Value)) (st : List Value) (h : HP) (c : Nat) (Q : RR → HP → Prop), MG M → V M pc L st h c Q → J (mkG X) M pc L st h c Q) (hM : MG M) (d : DC M pc = .ok (.iload i, 2)) (hv : b_iload i 2 X V M pc L st h c Q) : J (mkG X) M pc L st h c Q := by
  unfold b_iload at hv
  split at hv
  · rename_i hx
    exact J_iload d (lgt_get _ _ _ hx) (hV _ _ _ _ _ _ _ hM hv)
  · exact hv.elim
theorem s_dload {X : XT} {V : VT} {M : MI} {pc : Nat} {L : List (Option Value)} {st : List Value} {h : HP} {c : Nat} {Q : RR → HP → Prop} {i : Nat} (hV : ∀ (M : MI) (pc : Nat) (L : List (Option Value)) (st : List Value) (h : HP) (c : Nat) (Q : RR → HP → Prop), MG M → V M pc L st h c Q → J (mkG X) M pc L st h c Q) (hM : MG M) (d : DC M pc = .ok (.dload i, 2)) (hv : b_dload i 2 X V M pc L st h c Q) : J (mkG X) M pc L st h c Q := by
  unfold b_dload at hv
  split at hv
  · rename_i hx
    exact J_dload d (lgt_get _ _ _ hx) (hV _ _ _ _ _ _ _ hM hv)
  · exact hv.elim
theorem s_fload {X : XT} {V : VT} {M : MI} {pc : Nat} {L : List (Option Value)} {st : List Value} {h : HP} {c : Nat} {Q : RR → HP → Prop} {i : Nat} (hV : ∀ (M : MI) (pc : Nat) (L : List (Option Value)) (st : List Value) (h : HP) (c : Nat) (Q : RR → HP → Prop), MG M → V M pc L st h c Q → J (mkG X) M pc L st h c Q) (hM : MG M) (d : DC M pc = .ok (.fload i, 2)) (hv : b_fload i 2 X V M pc L st h c Q) : J (mkG X) M pc L st h c Q := by
  unfold b_fload at hv
  split at hv
  · rename_i hx
    exact J_fload d (lgt_get _ _ _ hx) (hV _ _ _ _ _ _ _ hM hv)
  · exact hv.elim
theorem s_aload_n {X : XT} {V : VT} {M : MI} {pc : Nat} {L : List (Option Value)} {st : List Value} {h : HP} {c : Nat} {Q : RR → HP → Prop} {k : Fin 4} (hV : ∀ (M : MI) (pc : Nat) (L : List (Option Value)) (st : List Value) (h : HP) (c : Nat) (Q : RR → HP → Prop), MG M → V M pc L st h c Q → J (mkG X) M pc L st h c Q) (hM : MG M) (d : DC M pc = .ok (.aload_n k, 1)) (hv : b_aload k.val 1 X V M pc L st h c Q) : J (mkG X) M pc L st h c Q := by
  unfold b_aload at hv
  split at hv
  · rename_i hx
    obtain ⟨h1 | ⟨a, h1⟩, h2⟩ := hv
    · subst h1
      exact J_aload_nN d rfl (lgt_get _ _ _ hx) (hV _ _ _ _ _ _ _ hM h2)
    · subst h1
      exact J_aload_n d rfl (lgt_get _ _ _ hx) (hV _ _ _ _ _ _ _ hM h2)
  · exact hv.elim
theorem s_aload {X : XT} {V : VT} {M : MI} {pc : Nat} {L : List (Option Value)} {st : List Value} {h : HP} {c : Nat} {Q : RR → HP → Prop} {i : Nat} (hV : ∀ (M : MI) (pc : Nat) (L : List (Option Value)) (st : List Value) (h : HP) (c : Nat) (Q : RR → HP → Prop), MG M → V M pc L st h c Q → J (mkG X) M pc L st h c Q) (hM : MG M) (d : DC M pc = .ok (.aload i, 2)) (hv : b_aload i 2 X V M pc L st h c Q) : J (mkG X) M pc L st h c Q := by
  unfold b_aload at hv
  split at hv
  · rename_i hx
    obtain ⟨h1 | ⟨a, h1⟩, h2⟩ := hv
    · subst h1
      exact J_aloadN d (lgt_get _ _ _ hx) (hV _ _ _ _ _ _ _ hM h2)
    · subst h1
      exact J_aload d (lgt_get _ _ _ hx) (hV _ _ _ _ _ _ _ hM h2)
  · exact hv.elim
theorem s_istore_n {X : XT} {V : VT} {M : MI} {pc : Nat} {L : List (Option Value)} {st : List Value} {h : HP} {c : Nat} {Q : RR → HP → Prop} {k : Fin 4} (hV : ∀ (M : MI) (pc : Nat) (L : List (Option Value)) (st : List Value) (h : HP) (c : Nat) (Q : RR → HP → Prop), MG M → V M pc L st h c Q → J (mkG X) M pc L st h c Q) (hM : MG M) (d : DC M pc = .ok (.istore_n k, 1)) (hv : b_istore k.val 1 X V M pc L st h c Q) : J (mkG X) M pc L st h c Q := by
  unfold b_istore at hv
  split at hv
  · exact J_istore_n d rfl hv.1 (hV _ _ _ _ _ _ _ hM hv.2)
  · exact hv.elim
theorem s_istore {X : XT} {V : VT} {M : MI} {pc : Nat} {L : List (Option Value)} {st : List Value} {h : HP} {c : Nat} {Q : RR → HP → Prop} {i : Nat} (hV : ∀ (M : MI) (pc : Nat) (L : List (Option Value)) (st : List Value) (h : HP) (c : Nat) (Q : RR → HP → Prop), MG M → V M pc L st h c Q → J (mkG X) M pc L st h c Q) (hM : MG M) (d : DC M pc = .ok (.istore i, 2)) (hv : b_istore i 2 X V M pc L st h c Q) : J (mkG X) M pc L st h c Q := by
  unfold b_istore at hv
  split at hv
  · exact J_istore d hv.1 (hV _ _ _ _ _ _ _ hM hv.2)
  · exact hv.elim
theorem s_fstore {X : XT} {V : VT} {M : MI} {pc : Nat} {L : List (Option Value)} {st : List Value} {h : HP} {c : Nat} {Q : RR → HP → Prop} {i : Nat} (hV : ∀ (M : MI) (pc : Nat) (L : List (Option Value)) (st : List Value) (h : HP) (c : Nat) (Q : RR → HP → Prop), MG M → V M pc L st h c Q → J (mkG X) M pc L st h c Q) (hM : MG M) (d : DC M pc = .ok (.fstore i, 2)) (hv : b_fstore i 2 X V M pc L st h c Q) : J (mkG X) M pc L st h c Q := by
  unfold b_fstore at hv
  split at hv
  · exact J_fstore d hv.1 (hV _ _ _ _ _ _ _ hM hv.2)
  · exact hv.elim
theorem s_dstore {X : XT} {V : VT} {M : MI} {pc : Nat} {L : List (Option Value)} {st : List Value} {h : HP} {c : Nat} {Q : RR → HP → Prop} {i : Nat} (hV : ∀ (M : MI) (pc : Nat) (L : List (Option Value)) (st : List Value) (h : HP) (c : Nat) (Q : RR → HP → Prop), MG M → V M pc L st h c Q → J (mkG X) M pc L st h c Q) (hM : MG M) (d : DC M pc = .ok (.dstore i, 2)) (hv : b_dstore i X V M pc L st h c Q) : J (mkG X) M pc L st h c Q := by
  unfold b_dstore at hv
  split at hv
  · exact J_dstore d hv.1 (hV _ _ _ _ _ _ _ hM hv.2)
  · exact hv.elim
theorem s_astore_n {X : XT} {V : VT} {M : MI} {pc : Nat} {L : List (Option Value)} {st : List Value} {h : HP} {c : Nat} {Q : RR → HP → Prop} {k : Fin 4} (hV : ∀ (M : MI) (pc : Nat) (L : List (Option Value)) (st : List Value) (h : HP) (c : Nat) (Q : RR → HP → Prop), MG M → V M pc L st h c Q → J (mkG X) M pc L st h c Q) (hM : MG M) (d : DC M pc = .ok (.astore_n k, 1)) (hv : b_astore k.val 1 X V M pc L st h c Q) : J (mkG X) M pc L st h c Q := by
  unfold b_astore at hv
  split at hv
  · obtain ⟨h0, h1 | ⟨a, h1⟩, h2⟩ := hv
    · subst h1
      exact J_astore_nN d rfl h0 (hV _ _ _ _ _ _ _ hM h2)
    · subst h1
      exact J_astore_n d rfl h0 (hV _ _ _ _ _ _ _ hM h2)
  · exact hv.elim
theorem s_astore {X : XT} {V : VT} {M : MI} {pc : Nat} {L : List (Option Value)} {st : List Value} {h : HP} {c : Nat} {Q : RR → HP → Prop} {i : Nat} (hV : ∀ (M : MI) (pc : Nat) (L : List (Option Value)) (st : List Value) (h : HP) (c : Nat) (Q : RR → HP → Prop), MG M → V M pc L st h c Q → J (mkG X) M pc L st h c Q) (hM : MG M) (d : DC M pc = .ok (.astore i, 2)) (hv : b_astore i 2 X V M pc L st h c Q) : J (mkG X) M pc L st h c Q := by
  unfold b_astore at hv
  split at hv
  · obtain ⟨h0, h1 | ⟨a, h1⟩, h2⟩ := hv
    · subst h1
      exact J_astoreN d h0 (hV _ _ _ _ _ _ _ hM h2)
    · subst h1
      exact J_astore d h0 (hV _ _ _ _ _ _ _ hM h2)
  · exact hv.elim
theorem s_iinc {X : XT} {V : VT} {M : MI} {pc : Nat} {L : List (Option Value)} {st : List Value} {h : HP} {c : Nat} {Q : RR → HP → Prop} {i : Nat} {n : Int} (hV : ∀ (M : MI) (pc : Nat) (L : List (Option Value)) (st : List Value) (h : HP) (c : Nat) (Q : RR → HP → Prop), MG M → V M pc L st h c Q → J (mkG X) M pc L st h c Q) (hM : MG M) (d : DC M pc = .ok (.iinc i n, 3)) (hv : b_iinc i n X V M pc L st h c Q) : J (mkG X) M pc L st h c Q := by
  unfold b_iinc at hv
  split at hv
  · rename_i hx
    exact J_iinc d (lgt_get _ _ _ hx) hv.1 (hV _ _ _ _ _ _ _ hM hv.2)
  · exact hv.elim
theorem s_iadd {X : XT} {V : VT} {M : MI} {pc : Nat} {L : List (Option Value)} {st : List Value} {h : HP} {c : Nat} {Q : RR → HP → Prop}  (hV : ∀ (M : MI) (pc : Nat) (L : List (Option Value)) (st : List Value) (h : HP) (c : Nat) (Q : RR → HP → Prop), MG M → V M pc L st h c Q → J (mkG X) M pc L st h c Q) (hM : MG M) (d : DC M pc = .ok (.iadd, 1)) (hv : b_iadd  X V M pc L st h c Q) : J (mkG X) M pc L st h c Q := by
  unfold b_iadd at hv
  split at hv
  · exact J_iadd d  (hV _ _ _ _ _ _ _ hM hv)
  · exact hv.elim
theorem s_isub {X : XT} {V : VT} {M : MI} {pc : Nat} {L : List (Option Value)} {st : List Value} {h : HP} {c : Nat} {Q : RR → HP → Prop}  (hV : ∀ (M : MI) (pc : Nat) (L : List (Option Value)) (st : List Value) (h : HP) (c : Nat) (Q : RR → HP → Prop), MG M → V M pc L st h c Q → J (mkG X) M pc L st h c Q) (hM : MG M) (d : DC M pc = .ok (.isub, 1)) (hv : b_isub  X V M pc L st h c Q) : J (mkG X) M pc L st h c Q := by
  unfold b_isub at hv
  split at hv
  · exact J_isub d  (hV _ _ _ _ _ _ _ hM hv)
  · exact hv.elim
theorem s_imul {X : XT} {V : VT} {M : MI} {pc : Nat} {L : List (Option Value)} {st : List Value} {h : HP} {c : Nat} {Q : RR → HP → Prop}  (hV : ∀ (M : MI) (pc : Nat) (L : List (Option Value)) (st : List Value) (h : HP) (c : Nat) (Q : RR → HP → Prop), MG M → V M pc L st h c Q → J (mkG X) M pc L st h c Q) (hM : MG M) (d : DC M pc = .ok (.imul, 1)) (hv : b_imul  X V M pc L st h c Q) : J (mkG X) M pc L st h c Q := by
  unfold b_imul at hv
  split at hv
  · exact J_imul d  (hV _ _ _ _ _ _ _ hM hv)
  · exact hv.elim
theorem s_iand {X : XT} {V : VT} {M : MI} {pc : Nat} {L : List (Option Value)} {st : List Value} {h : HP} {c : Nat} {Q : RR → HP → Prop}  (hV : ∀ (M : MI) (pc : Nat) (L : List (Option Value)) (st : List Value) (h : HP) (c : Nat) (Q : RR → HP → Prop), MG M → V M pc L st h c Q → J (mkG X) M pc L st h c Q) (hM : MG M) (d : DC M pc = .ok (.iand, 1)) (hv : b_iand  X V M pc L st h c Q) : J (mkG X) M pc L st h c Q := by
  unfold b_iand at hv
  split at hv
  · exact J_iand d  (hV _ _ _ _ _ _ _ hM hv)
  · exact hv.elim
theorem s_ior {X : XT} {V : VT} {M : MI} {pc : Nat} {L : List (Option Value)} {st : List Value} {h : HP} {c : Nat} {Q : RR → HP → Prop}  (hV : ∀ (M : MI) (pc : Nat) (L : List (Option Value)) (st : List Value) (h : HP) (c : Nat) (Q : RR → HP → Prop), MG M → V M pc L st h c Q → J (mkG X) M pc L st h c Q) (hM : MG M) (d : DC M pc = .ok (.ior, 1)) (hv : b_ior  X V M pc L st h c Q) : J (mkG X) M pc L st h c Q := by
  unfold b_ior at hv
  split at hv
  · exact J_ior d  (hV _ _ _ _ _ _ _ hM hv)
  · exact hv.elim
theorem s_ixor {X : XT} {V : VT} {M : MI} {pc : Nat} {L : List (Option Value)} {st : List Value} {h : HP} {c : Nat} {Q : RR → HP → Prop}  (hV : ∀ (M : MI) (pc : Nat) (L : List (Option Value)) (st : List Value) (h : HP) (c : Nat) (Q : RR → HP → Prop), MG M → V M pc L st h c Q → J (mkG X) M pc L st h c Q) (hM : MG M) (d : DC M pc = .ok (.ixor, 1)) (hv : b_ixor  X V M pc L st h c Q) : J (mkG X) M pc L st h c Q := by
  unfold b_ixor at hv
  split at hv
  · exact J_ixor d  (hV _ _ _ _ _ _ _ hM hv)
  · exact hv.elim
theorem s_idiv {X : XT} {V : VT} {M : MI} {pc : Nat} {L : List (Option Value)} {st : List Value} {h : HP} {c : Nat} {Q : RR → HP → Prop}  (hV : ∀ (M : MI) (pc : Nat) (L : List (Option Value)) (st : List Value) (h : HP) (c : Nat) (Q : RR → HP → Prop), MG M → V M pc L st h c Q → J (mkG X) M pc L st h c Q) (hM : MG M) (d : DC M pc = .ok (.idiv, 1)) (hv : b_idiv  X V M pc L st h c Q) : J (mkG X) M pc L st h c Q := by
  unfold b_idiv at hv
  split at hv
  · exact J_idiv d hv.1 (hV _ _ _ _ _ _ _ hM hv.2)
  · exact hv.elim
theorem s_irem {X : XT} {V : VT} {M : MI} {pc : Nat} {L : List (Option Value)} {st : List Value} {h : HP} {c : Nat} {Q : RR → HP → Prop}  (hV : ∀ (M : MI) (pc : Nat) (L : List (Option Value)) (st : List Value) (h : HP) (c : Nat) (Q : RR → HP → Prop), MG M → V M pc L st h c Q → J (mkG X) M pc L st h c Q) (hM : MG M) (d : DC M pc = .ok (.irem, 1)) (hv : b_irem  X V M pc L st h c Q) : J (mkG X) M pc L st h c Q := by
  unfold b_irem at hv
  split at hv
  · exact J_irem d hv.1 (hV _ _ _ _ _ _ _ hM hv.2)
  · exact hv.elim
theorem s_ineg {X : XT} {V : VT} {M : MI} {pc : Nat} {L : List (Option Value)} {st : List Value} {h : HP} {c : Nat} {Q : RR → HP → Prop}  (hV : ∀ (M : MI) (pc : Nat) (L : List (Option Value)) (st : List Value) (h : HP) (c : Nat) (Q : RR → HP → Prop), MG M → V M pc L st h c Q → J (mkG X) M pc L st h c Q) (hM : MG M) (d : DC M pc = .ok (.ineg, 1)) (hv : b_ineg  X V M pc L st h c Q) : J (mkG X) M pc L st h c Q := by
  unfold b_ineg at hv
  split at hv
  · exact J_ineg d  (hV _ _ _ _ _ _ _ hM hv)
  · exact hv.elim
theorem s_ishl {X : XT} {V : VT} {M : MI} {pc : Nat} {L : List (Option Value)} {st : List Value} {h : HP} {c : Nat} {Q : RR → HP → Prop}  (hV : ∀ (M : MI) (pc : Nat) (L : List (Option Value)) (st : List Value) (h : HP) (c : Nat) (Q : RR → HP → Prop), MG M → V M pc L st h c Q → J (mkG X) M pc L st h c Q) (hM : MG M) (d : DC M pc = .ok (.ishl, 1)) (hv : b_ishl  X V M pc L st h c Q) : J (mkG X) M pc L st h c Q := by
  unfold b_ishl at hv
  split at hv
  · exact J_ishl d  (hV _ _ _ _ _ _ _ hM hv)
  · exact hv.elim
theorem s_ishr {X : XT} {V : VT} {M : MI} {pc : Nat} {L : List (Option Value)} {st : List Value} {h : HP} {c : Nat} {Q : RR → HP → Prop}  (hV : ∀ (M : MI) (pc : Nat) (L : List (Option Value)) (st : List Value) (h : HP) (c : Nat) (Q : RR → HP → Prop), MG M → V M pc L st h c Q → J (mkG X) M pc L st h c Q) (hM : MG M) (d : DC M pc = .ok (.ishr, 1)) (hv : b_ishr  X V M pc L st h c Q) : J (mkG X) M pc L st h c Q := by
  unfold b_ishr at hv
  split at hv
  · exact J_ishr d  (hV _ _ _ _ _ _ _ hM hv)
  · exact hv.elim
theorem s_iushr {X : XT} {V : VT} {M : MI} {pc : Nat} {L : List (Option Value)} {st : List Value} {h : HP} {c : Nat} {Q : RR → HP → Prop}  (hV : ∀ (M : MI) (pc : Nat) (L : List (Option Value)) (st : List Value) (h : HP) (c : Nat) (Q : RR → HP → Prop), MG M → V M pc L st h c Q → J (mkG X) M pc L st h c Q) (hM : MG M) (d : DC M pc = .ok (.iushr, 1)) (hv : b_iushr  X V M pc L st h c Q) : J (mkG X) M pc L st h c Q := by
  unfold b_iushr at hv
  split at hv
  · exact J_iushr d  (hV _ _ _ _ _ _ _ hM hv)
  · exact hv.elim
theorem s_i2l {X : XT} {V : VT} {M : MI} {pc : Nat} {L : List (Option Value)} {st : List Value} {h : HP} {c : Nat} {Q : RR → HP → Prop}  (hV : ∀ (M : MI) (pc : Nat) (L : List (Option Value)) (st : List Value) (h : HP) (c : Nat) (Q : RR → HP → Prop), MG M → V M pc L st h c Q → J (mkG X) M pc L st h c Q) (hM : MG M) (d : DC M pc = .ok (.i2l, 1)) (hv : b_i2l  X V M pc L st h c Q) : J (mkG X) M pc L st h c Q := by
  unfold b_i2l at hv
  split at hv
  · exact J_i2l d  (hV _ _ _ _ _ _ _ hM hv)
  · exact hv.elim
theorem s_i2b {X : XT} {V : VT} {M : MI} {pc : Nat} {L : List (Option Value)} {st : List Value} {h : HP} {c : Nat} {Q : RR → HP → Prop}  (hV : ∀ (M : MI) (pc : Nat) (L : List (Option Value)) (st : List Value) (h : HP) (c : Nat) (Q : RR → HP → Prop), MG M → V M pc L st h c Q → J (mkG X) M pc L st h c Q) (hM : MG M) (d : DC M pc = .ok (.i2b, 1)) (hv : b_i2b  X V M pc L st h c Q) : J (mkG X) M pc L st h c Q := by
  unfold b_i2b at hv
  split at hv
  · exact J_i2b d  (hV _ _ _ _ _ _ _ hM hv)
  · exact hv.elim
theorem s_i2c {X : XT} {V : VT} {M : MI} {pc : Nat} {L : List (Option Value)} {st : List Value} {h : HP} {c : Nat} {Q : RR → HP → Prop}  (hV : ∀ (M : MI) (pc : Nat) (L : List (Option Value)) (st : List Value) (h : HP) (c : Nat) (Q : RR → HP → Prop), MG M → V M pc L st h c Q → J (mkG X) M pc L st h c Q) (hM : MG M) (d : DC M pc = .ok (.i2c, 1)) (hv : b_i2c  X V M pc L st h c Q) : J (mkG X) M pc L st h c Q := by
  unfold b_i2c at hv
  split at hv
  · exact J_i2c d  (hV _ _ _ _ _ _ _ hM hv)
  · exact hv.elim
theorem s_i2d {X : XT} {V : VT} {M : MI} {pc : Nat} {L : List (Option Value)} {st : List Value} {h : HP} {c : Nat} {Q : RR → HP → Prop}  (hV : ∀ (M : MI) (pc : Nat) (L : List (Option Value)) (st : List Value) (h : HP) (c : Nat) (Q : RR → HP → Prop), MG M → V M pc L st h c Q → J (mkG X) M pc L st h c Q) (hM : MG M) (d : DC M pc = .ok (.i2d, 1)) (hv : b_i2d  X V M pc L st h c Q) : J (mkG X) M pc L st h c Q := by
  unfold b_i2d at hv
  split at hv
  · exact J_i2d d  (hV _ _ _ _ _ _ _ hM hv)
  · exact hv.elim
theorem s_i2f {X : XT} {V : VT} {M : MI} {pc : Nat} {L : List (Option Value)} {st : List Value} {h : HP} {c : Nat} {Q : RR → HP → Prop}  (hV : ∀ (M : MI) (pc : Nat) (L : List (Option Value)) (st : List Value) (h : HP) (c : Nat) (Q : RR → HP → Prop), MG M → V M pc L st h c Q → J (mkG X) M pc L st h c Q) (hM : MG M) (d : DC M pc = .ok (.i2f, 1)) (hv : b_i2f  X V M pc L st h c Q) : J (mkG X) M pc L st h c Q := by
  unfold b_i2f at hv
  split at hv
  · exact J_i2f d  (hV _ _ _ _ _ _ _ hM hv)
  · exact hv.elim
theorem s_f2d {X : XT} {V : VT} {M : MI} {pc : Nat} {L : List (Option Value)} {st : List Value} {h : HP} {c : Nat} {Q : RR → HP → Prop}  (hV : ∀ (M : MI) (pc : Nat) (L : List (Option Value)) (st : List Value) (h : HP) (c : Nat) (Q : RR → HP → Prop), MG M → V M pc L st h c Q → J (mkG X) M pc L st h c Q) (hM : MG M) (d : DC M pc = .ok (.f2d, 1)) (hv : b_f2d  X V M pc L st h c Q) : J (mkG X) M pc L st h c Q := by
  unfold b_f2d at hv
  split at hv
  · exact J_f2d d hv.1 (hV _ _ _ _ _ _ _ hM hv.2)
  · exact hv.elim
theorem s_ddiv {X : XT} {V : VT} {M : MI} {pc : Nat} {L : List (Option Value)} {st : List Value} {h : HP} {c : Nat} {Q : RR → HP → Prop}  (hV : ∀ (M : MI) (pc : Nat) (L : List (Option Value)) (st : List Value) (h : HP) (c : Nat) (Q : RR → HP → Prop), MG M → V M pc L st h c Q → J (mkG X) M pc L st h c Q) (hM : MG M) (d : DC M pc = .ok (.ddiv, 1)) (hv : b_ddiv  X V M pc L st h c Q) : J (mkG X) M pc L st h c Q := by
  unfold b_ddiv at hv
  split at hv
  · exact J_ddiv d hv.1 (hV _ _ _ _ _ _ _ hM hv.2)
  · exact hv.elim
theorem s_fdiv {X : XT} {V : VT} {M : MI} {pc : Nat} {L : List (Option Value)} {st : List Value} {h : HP} {c : Nat} {Q : RR → HP → Prop}  (hV : ∀ (M : MI) (pc : Nat) (L : List (Option Value)) (st : List Value) (h : HP) (c : Nat) (Q : RR → HP → Prop), MG M → V M pc L st h c Q → J (mkG X) M pc L st h c Q) (hM : MG M) (d : DC M pc = .ok (.fdiv, 1)) (hv : b_fdiv  X V M pc L st h c Q) : J (mkG X) M pc L st h c Q := by
  unfold b_fdiv at hv
  split at hv
  · exact J_fdiv d hv.1 (hV _ _ _ _ _ _ _ hM hv.2)
  · exact hv.elim
theorem s_lcmp {X : XT} {V : VT} {M : MI} {pc : Nat} {L : List (Option Value)} {st : List Value} {h : HP} {c : Nat} {Q : RR → HP → Prop}  (hV : ∀ (M : MI) (pc : Nat) (L : List (Option Value)) (st : List Value) (h : HP) (c : Nat) (Q : RR → HP → Prop), MG M → V M pc L st h c Q → J (mkG X) M pc L st h c Q) (hM : MG M) (d : DC M pc = .ok (.lcmp, 1)) (hv : b_lcmp  X V M pc L st h c Q) : J (mkG X) M pc L st h c Q := by
  unfold b_lcmp at hv
  split at hv
  · exact J_lcmp d  (hV _ _ _ _ _ _ _ hM hv)
  · exact hv.elim
theorem s_dcmp {X : XT} {V : VT} {M : MI} {pc : Nat} {L : List (Option Value)} {st : List Value} {h : HP} {c : Nat} {Q : RR → HP → Prop} {op : CmpOp} (hV : ∀ (M : MI) (pc : Nat) (L : List (Option Value)) (st : List Value) (h : HP) (c : Nat) (Q : RR → HP → Prop), MG M → V M pc L st h c Q → J (mkG X) M pc L st h c Q) (hM : MG M) (d : DC M pc = .ok (.dcmp op, 1)) (hv : b_dcmp op X V M pc L st h c Q) : J (mkG X) M pc L st h c Q := by
  unfold b_dcmp at hv
  split at hv
  · exact J_dcmp d  (hV _ _ _ _ _ _ _ hM hv)
  · exact hv.elim
theorem s_fcmp {X : XT} {V : VT} {M : MI} {pc : Nat} {L : List (Option Value)} {st : List Value} {h : HP} {c : Nat} {Q : RR → HP → Prop} {op : CmpOp} (hV : ∀ (M : MI) (pc : Nat) (L : List (Option Value)) (st : List Value) (h : HP) (c : Nat) (Q : RR → HP → Prop), MG M → V M pc L st h c Q → J (mkG X) M pc L st h c Q) (hM : MG M) (d : DC M pc = .ok (.fcmp op, 1)) (hv : b_fcmp op X V M pc L st h c Q) : J (mkG X) M pc L st h c Q := by
  unfold b_fcmp at hv
  split at hv
  · exact J_fcmp d  (hV _ _ _ _ _ _ _ hM hv)
  · exact hv.elim
theorem s_dup {X : XT} {V : VT} {M : MI} {pc : Nat} {L : List (Option Value)} {st : List Value} {h : HP} {c : Nat} {Q : RR → HP → Prop}  (hV : ∀ (M : MI) (pc : Nat) (L : List (Option Value)) (st : List Value) (h : HP) (c : Nat) (Q : RR → HP → Prop), MG M → V M pc L st h c Q → J (mkG X) M pc L st h c Q) (hM : MG M) (d : DC M pc = .ok (.dup, 1)) (hv : b_dup  X V M pc L st h c Q) : J (mkG X) M pc L st h c Q := by
  unfold b_dup at hv
  split at hv
  · exact J_dup d hv.1 (hV _ _ _ _ _ _ _ hM hv.2)
  · exact hv.elim
theorem s_pop {X : XT} {V : VT} {M : MI} {pc : Nat} {L : List (Option Value)} {st : List Value} {h : HP} {c : Nat} {Q : RR → HP → Prop}  (hV : ∀ (M : MI) (pc : Nat) (L : List (Option Value)) (st : List Value) (h : HP) (c : Nat) (Q : RR → HP → Prop), MG M → V M pc L st h c Q → J (mkG X) M pc L st h c Q) (hM : MG M) (d : DC M pc = .ok (.pop, 1)) (hv : b_pop  X V M pc L st h c Q) : J (mkG X) M pc L st h c Q := by
  unfold b_pop at hv
  split at hv
  · exact J_pop d hv.1 (hV _ _ _ _ _ _ _ hM hv.2)
  · exact hv.elim
theorem s_dup_x1 {X : XT} {V : VT} {M : MI} {pc : Nat} {L : List (Option Value)} {st : List Value} {h : HP} {c : Nat} {Q : RR → HP → Prop}  (hV : ∀ (M : MI) (pc : Nat) (L : List (Option Value)) (st : List Value) (h : HP) (c : Nat) (Q : RR → HP → Prop), MG M → V M pc L st h c Q → J (mkG X) M pc L st h c Q) (hM : MG M) (d : DC M pc = .ok (.dup_x1, 1)) (hv : b_dup_x1  X V M pc L st h c Q) : J (mkG X) M pc L st h c Q := by
  unfold b_dup_x1 at hv
  split at hv
  · exact J_dup_x1 d hv.1.1 hv.1.2 (hV _ _ _ _ _ _ _ hM hv.2)
  · exact hv.elim
theorem s_dup_x2 {X : XT} {V : VT} {M : MI} {pc : Nat} {L : List (Option Value)} {st : List Value} {h : HP} {c : Nat} {Q : RR → HP → Prop}  (hV : ∀ (M : MI) (pc : Nat) (L : List (Option Value)) (st : List Value) (h : HP) (c : Nat) (Q : RR → HP → Prop), MG M → V M pc L st h c Q → J (mkG X) M pc L st h c Q) (hM : MG M) (d : DC M pc = .ok (.dup_x2, 1)) (hv : b_dup_x2  X V M pc L st h c Q) : J (mkG X) M pc L st h c Q := by
  unfold b_dup_x2 at hv
  split at hv
  · exact J_dup_x2 d hv.1.1 hv.1.2.1 hv.1.2.2 (hV _ _ _ _ _ _ _ hM hv.2)
  · exact hv.elim
theorem s_dup2 {X : XT} {V : VT} {M : MI} {pc : Nat} {L : List (Option Value)} {st : List Value} {h : HP} {c : Nat} {Q : RR → HP → Prop}  (hV : ∀ (M : MI) (pc : Nat) (L : List (Option Value)) (st : List Value) (h : HP) (c : Nat) (Q : RR → HP → Prop), MG M → V M pc L st h c Q → J (mkG X) M pc L st h c Q) (hM : MG M) (d : DC M pc = .ok (.dup2, 1)) (hv : b_dup2  X V M pc L st h c Q) : J (mkG X) M pc L st h c Q := by
  unfold b_dup2 at hv
  split at hv
  · exact J_dup2 d hv.1.1 hv.1.2 (hV _ _ _ _ _ _ _ hM hv.2)
  · exact hv.elim
theorem s_if_eq {X : XT} {V : VT} {M : MI} {pc : Nat} {L : List (Option Value)} {st : List Value} {h : HP} {c : Nat} {Q : RR → HP → Prop} {off : Int} (hV : ∀ (M : MI) (pc : Nat) (L : List (Option Value)) (st : List Value) (h : HP) (c : Nat) (Q : RR → HP → Prop), MG M → V M pc L st h c Q → J (mkG X) M pc L st h c Q) (hM : MG M) (d : DC M pc = .ok (.ifCond .eq off, 3)) (hv : b_if_eq off X V M pc L st h c Q) : J (mkG X) M pc L st h c Q := by
  unfold b_if_eq at hv
  split at hv
  · exact J_if_eq d (tgt_ok hv.1) (fun q => jmp_ok hV hM (hv.2.1 q)) (fun q => hV _ _ _ _ _ _ _ hM (hv.2.2 q))
  · exact hv.elim
theorem s_icmp_eq {X : XT} {V : VT} {M : MI} {pc : Nat} {L : List (Option Value)} {st : List Value} {h : HP} {c : Nat} {Q : RR → HP → Prop} {off : Int} (hV : ∀ (M : MI) (pc : Nat) (L : List (Option Value)) (st : List Value) (h : HP) (c : Nat) (Q : RR → HP → Prop), MG M → V M pc L st h c Q → J (mkG X) M pc L st h c Q) (hM : MG M) (d : DC M pc = .ok (.if_icmp .eq off, 3)) (hv : b_icmp_eq off X V M pc L st h c Q) : J (mkG X) M pc L st h c Q := by
  unfold b_icmp_eq at hv
  split at hv
  · exact J_icmp_eq d (tgt_ok hv.1) (fun q => jmp_ok hV hM (hv.2.1 q)) (fun q => hV _ _ _ _ _ _ _ hM (hv.2.2 q))
  · exact hv.elim
theorem s_if_ne {X : XT} {V : VT} {M : MI} {pc : Nat} {L : List (Option Value)} {st : List Value} {h : HP} {c : Nat} {Q : RR → HP → Prop} {off : Int} (hV : ∀ (M : MI) (pc : Nat) (L : List (Option Value)) (st : List Value) (h : HP) (c : Nat) (Q : RR → HP → Prop), MG M → V M pc L st h c Q → J (mkG X) M pc L st h c Q) (hM : MG M) (d : DC M pc = .ok (.ifCond .ne off, 3)) (hv : b_if_ne off X V M pc L st h c Q) : J (mkG X) M pc L st h c Q := by
  unfold b_if_ne at hv
  split at hv
  · exact J_if_ne d (tgt_ok hv.1) (fun q => jmp_ok hV hM (hv.2.1 q)) (fun q => hV _ _ _ _ _ _ _ hM (hv.2.2 q))
  · exact hv.elim
theorem s_icmp_ne {X : XT} {V : VT} {M : MI} {pc : Nat} {L : List (Option Value)} {st : List Value} {h : HP} {c : Nat} {Q : RR → HP → Prop} {off : Int} (hV : ∀ (M : MI) (pc : Nat) (L : List (Option Value)) (st : List Value) (h : HP) (c : Nat) (Q : RR → HP → Prop), MG M → V M pc L st h c Q → J (mkG X) M pc L st h c Q) (hM : MG M) (d : DC M pc = .ok (.if_icmp .ne off, 3)) (hv : b_icmp_ne off X V M pc L st h c Q) : J (mkG X) M pc L st h c Q := by
  unfold b_icmp_ne at hv
  split at hv
  · exact J_icmp_ne d (tgt_ok hv.1) (fun q => jmp_ok hV hM (hv.2.1 q)) (fun q => hV _ _ _ _ _ _ _ hM (hv.2.2 q))
  · exact hv.elim
theorem s_if_lt {X : XT} {V : VT} {M : MI} {pc : Nat} {L : List (Option Value)} {st : List Value} {h : HP} {c : Nat} {Q : RR → HP → Prop} {off : Int} (hV : ∀ (M : MI) (pc : Nat) (L : List (Option Value)) (st : List Value) (h : HP) (c : Nat) (Q : RR → HP → Prop), MG M → V M pc L st h c Q → J (mkG X) M pc L st h c Q) (hM : MG M) (d : DC M pc = .ok (.ifCond .lt off, 3)) (hv : b_if_lt off X V M pc L st h c Q) : J (mkG X) M pc L st h c Q := by
  unfold b_if_lt at hv
  split at hv
  · exact J_if_lt d (tgt_ok hv.1) (fun q => jmp_ok hV hM (hv.2.1 q)) (fun q => hV _ _ _ _ _ _ _ hM (hv.2.2 q))
  · exact hv.elim
theorem s_icmp_lt {X : XT} {V : VT} {M : MI} {pc : Nat} {L : List (Option Value)} {st : List Value} {h : HP} {c : Nat} {Q : RR → HP → Prop} {off : Int} (hV : ∀ (M : MI) (pc : Nat) (L : List (Option Value)) (st : List Value) (h : HP) (c : Nat) (Q : RR → HP → Prop), MG M → V M pc L st h c Q → J (mkG X) M pc L st h c Q) (hM : MG M) (d : DC M pc = .ok (.if_icmp .lt off, 3)) (hv : b_icmp_lt off X V M pc L st h c Q) : J (mkG X) M pc L st h c Q := by
  unfold b_icmp_lt at hv
  split at hv
  · exact J_icmp_lt d (tgt_ok hv.1) (fun q => jmp_ok hV hM (hv.2.1 q)) (fun q => hV _ _ _ _ _ _ _ hM (hv.2.2 q))
  · exact hv.elim
theorem s_if_ge {X : XT} {V : VT} {M : MI} {pc : Nat} {L : List (Option Value)} {st : List Value} {h : HP} {c : Nat} {Q : RR → HP → Prop} {off : Int} (hV : ∀ (M : MI) (pc : Nat) (L : List (Option Value)) (st : List Value) (h : HP) (c : Nat) (Q : RR → HP → Prop), MG M → V M pc L st h c Q → J (mkG X) M pc L st h c Q) (hM : MG M) (d : DC M pc = .ok (.ifCond .ge off, 3)) (hv : b_if_ge off X V M pc L st h c Q) : J (mkG X) M pc L st h c Q := by
  unfold b_if_ge at hv
  split at hv
  · exact J_if_ge d (tgt_ok hv.1) (fun q => jmp_ok hV hM (hv.2.1 q)) (fun q => hV _ _ _ _ _ _ _ hM (hv.2.2 q))
  · exact hv.elim
theorem s_icmp_ge {X : XT} {V : VT} {M : MI} {pc : Nat} {L : List (Option Value)} {st : List Value} {h : HP} {c : Nat} {Q : RR → HP → Prop} {off : Int} (hV : ∀ (M : MI) (pc : Nat) (L : List (Option Value)) (st : List Value) (h : HP) (c : Nat) (Q : RR → HP → Prop), MG M → V M pc L st h c Q → J (mkG X) M pc L st h c Q) (hM : MG M) (d : DC M pc = .ok (.if_icmp .ge off, 3)) (hv : b_icmp_ge off X V M pc L st h c Q) : J (mkG X) M pc L st h c Q := by
  unfold b_icmp_ge at hv
  split at hv
  · exact J_icmp_ge d (tgt_ok hv.1) (fun q => jmp_ok hV hM (hv.2.1 q)) (fun q => hV _ _ _ _ _ _ _ hM (hv.2.2 q))
  · exact hv.elim
theorem s_if_gt {X : XT} {V : VT} {M : MI} {pc : Nat} {L : List (Option Value)} {st : List Value} {h : HP} {c : Nat} {Q : RR → HP → Prop} {off : Int} (hV : ∀ (M : MI) (pc : Nat) (L : List (Option Value)) (st : List Value) (h : HP) (c : Nat) (Q : RR → HP → Prop), MG M → V M pc L st h c Q → J (mkG X) M pc L st h c Q) (hM : MG M) (d : DC M pc = .ok (.ifCond .gt off, 3)) (hv : b_if_gt off X V M pc L st h c Q) : J (mkG X) M pc L st h c Q := by
  unfold b_if_gt at hv
  split at hv
  · exact J_if_gt d (tgt_ok hv.1) (fun q => jmp_ok hV hM (hv.2.1 q)) (fun q => hV _ _ _ _ _ _ _ hM (hv.2.2 q))
  · exact hv.elim
theorem s_icmp_gt {X : XT} {V : VT} {M : MI} {pc : Nat} {L : List (Option Value)} {st : List Value} {h : HP} {c : Nat} {Q : RR → HP → Prop} {off : Int} (hV : ∀ (M : MI) (pc : Nat) (L : List (Option Value)) (st : List Value) (h : HP) (c : Nat) (Q : RR → HP → Prop), MG M → V M pc L st h c Q → J (mkG X) M pc L st h c Q) (hM : MG M) (d : DC M pc = .ok (.if_icmp .gt off, 3)) (hv : b_icmp_gt off X V M pc L st h c Q) : J (mkG X) M pc L st h c Q := by
  unfold b_icmp_gt at hv
  split at hv
  · exact J_icmp_gt d (tgt_ok hv.1) (fun q => jmp_ok hV hM (hv.2.1 q)) (fun q => hV _ _ _ _ _ _ _ hM (hv.2.2 q))
  · exact hv.elim
theorem s_if_le {X : XT} {V : VT} {M : MI} {pc : Nat} {L : List (Option Value)} {st : List Value} {h : HP} {c : Nat} {Q : RR → HP → Prop} {off : Int} (hV : ∀ (M : MI) (pc : Nat) (L : List (Option Value)) (st : List Value) (h : HP) (c : Nat) (Q : RR → HP → Prop), MG M → V M pc L st h c Q → J (mkG X) M pc L st h c Q) (hM : MG M) (d : DC M pc = .ok (.ifCond .le off, 3)) (hv : b_if_le off X V M pc L st h c Q) : J (mkG X) M pc L st h c Q := by
  unfold b_if_le at hv
  split at hv
  · exact J_if_le d (tgt_ok hv.1) (fun q => jmp_ok hV hM (hv.2.1 q)) (fun q => hV _ _ _ _ _ _ _ hM (hv.2.2 q))
  · exact hv.elim
theorem s_icmp_le {X : XT} {V : VT} {M : MI} {pc : Nat} {L : List (Option Value)} {st : List Value} {h : HP} {c : Nat} {Q : RR → HP → Prop} {off : Int} (hV : ∀ (M : MI) (pc : Nat) (L : List (Option Value)) (st : List Value) (h : HP) (c : Nat) (Q : RR → HP → Prop), MG M → V M pc L st h c Q → J (mkG X) M pc L st h c Q) (hM : MG M) (d : DC M pc = .ok (.if_icmp .le off, 3)) (hv : b_icmp_le off X V M pc L st h c Q) : J (mkG X) M pc L st h c Q := by
  unfold b_icmp_le at hv
  split at hv
  · exact J_icmp_le d (tgt_ok hv.1) (fun q => jmp_ok hV hM (hv.2.1 q)) (fun q => hV _ _ _ _ _ _ _ hM (hv.2.2 q))
  · exact hv.elim
theorem s_goto {X : XT} {V : VT} {M : MI} {pc : Nat} {L : List (Option Value)} {st : List Value} {h : HP} {c : Nat} {Q : RR → HP → Prop} {off : Int} (hV : ∀ (M : MI) (pc : Nat) (L : List (Option Value)) (st : List Value) (h : HP) (c : Nat) (Q : RR → HP → Prop), MG M → V M pc L st h c Q → J (mkG X) M pc L st h c Q) (hM : MG M) (d : DC M pc = .ok (.goto off, 3)) (hv : b_goto off X V M pc L st h c Q) : J (mkG X) M pc L st h c Q := by
  exact J_goto d (tgt_ok hv.1) (jmp_ok hV hM hv.2)
theorem s_ifnull {X : XT} {V : VT} {M : MI} {pc : Nat} {L : List (Option Value)} {st : List Value} {h : HP} {c : Nat} {Q : RR → HP → Prop} {off : Int} (hV : ∀ (M : MI) (pc : Nat) (L : List (Option Value)) (st : List Value) (h : HP) (c : Nat) (Q : RR → HP → Prop), MG M → V M pc L st h c Q → J (mkG X) M pc L st h c Q) (hM : MG M) (d : DC M pc = .ok (.ifnull off, 3)) (hv : b_ifnull off X V M pc L st h c Q) : J (mkG X) M pc L st h c Q := by
  unfold b_ifnull at hv
  split at hv
  · exact J_ifnull d (hV _ _ _ _ _ _ _ hM hv)
  · exact J_ifnullN d (tgt_ok hv.1) (jmp_ok hV hM hv.2)
  · exact hv.elim
theorem s_ifnonnull {X : XT} {V : VT} {M : MI} {pc : Nat} {L : List (Option Value)} {st : List Value} {h : HP} {c : Nat} {Q : RR → HP → Prop} {off : Int} (hV : ∀ (M : MI) (pc : Nat) (L : List (Option Value)) (st : List Value) (h : HP) (c : Nat) (Q : RR → HP → Prop), MG M → V M pc L st h c Q → J (mkG X) M pc L st h c Q) (hM : MG M) (d : DC M pc = .ok (.ifnonnull off, 3)) (hv : b_ifnonnull off X V M pc L st h c Q) : J (mkG X) M pc L st h c Q := by
  unfold b_ifnonnull at hv
  split at hv
  · exact J_ifnonnull d (tgt_ok hv.1) (jmp_ok hV hM hv.2)
  · exact J_ifnonnullN d (hV _ _ _ _ _ _ _ hM hv)
  · exact hv.elim
theorem s_acmp_eq {X : XT} {V : VT} {M : MI} {pc : Nat} {L : List (Option Value)} {st : List Value} {h : HP} {c : Nat} {Q : RR → HP → Prop} {off : Int} (hV : ∀ (M : MI) (pc : Nat) (L : List (Option Value)) (st : List Value) (h : HP) (c : Nat) (Q : RR → HP → Prop), MG M → V M pc L st h c Q → J (mkG X) M pc L st h c Q) (hM : MG M) (d : DC M pc = .ok (.if_acmp .eq off, 3)) (hv : b_acmp_eq off X V M pc L st h c Q) : J (mkG X) M pc L st h c Q := by
  unfold b_acmp_eq at hv
  split at hv
  · obtain ⟨h1, h2, h3, h4, h5⟩ := hv
    obtain ⟨rx, rfl⟩ := rv_rf h1
    obtain ⟨ry, rfl⟩ := rv_rf h2
    exact J_acmp_eq d (tgt_ok h3) (fun q => jmp_ok hV hM (h4 (by rw [q]))) (fun q => hV _ _ _ _ _ _ _ hM (h5 (fun e => q (rf_inj e))))
  · exact hv.elim
theorem s_acmp_ne {X : XT} {V : VT} {M : MI} {pc : Nat} {L : List (Option Value)} {st : List Value} {h : HP} {c : Nat} {Q : RR → HP → Prop} {off : Int} (hV : ∀ (M : MI) (pc : Nat) (L : List (Option Value)) (st : List Value) (h : HP) (c : Nat) (Q : RR → HP → Prop), MG M → V M pc L st h c Q → J (mkG X) M pc L st h c Q) (hM : MG M) (d : DC M pc = .ok (.if_acmp .ne off, 3)) (hv : b_acmp_ne off X V M pc L st h c Q) : J (mkG X) M pc L st h c Q := by
  unfold b_acmp_ne at hv
  split at hv
  · obtain ⟨h1, h2, h3, h4, h5⟩ := hv
    obtain ⟨rx, rfl⟩ := rv_rf h1
    obtain ⟨ry, rfl⟩ := rv_rf h2
    exact J_acmp_ne d (tgt_ok h3) (fun q => jmp_ok hV hM (h4 (fun e => q (rf_inj e)))) (fun q => hV _ _ _ _ _ _ _ hM (h5 (by rw [q])))
  · exact hv.elim
theorem s_lookup {X : XT} {V : VT} {M : MI} {pc : Nat} {L : List (Option Value)} {st : List Value} {h : HP} {c : Nat} {Q : RR → HP → Prop} {dflt : Int} {ps : Array (Int × Int)} {len : Nat} (hV : ∀ (M : MI) (pc : Nat) (L : List (Option Value)) (st : List Value) (h : HP) (c : Nat) (Q : RR → HP → Prop), MG M → V M pc L st h c Q → J (mkG X) M pc L st h c Q) (hM : MG M) (d : DC M pc = .ok (.lookupswitch dflt ps, len)) (hv : b_lookup dflt ps X V M pc L st h c Q) : J (mkG X) M pc L st h c Q := by
  unfold b_lookup at hv
  split at hv
  · obtain ⟨off, t, h1, h2, h3⟩ := lsw_ok hv.2
    exact J_lookup d hv.1 h1 h2 (jmp_ok hV hM h3)
  · exact hv.elim
theorem s_tswitch {X : XT} {V : VT} {M : MI} {pc : Nat} {L : List (Option Value)} {st : List Value} {h : HP} {c : Nat} {Q : RR → HP → Prop} {dflt lo hi : Int} {offs : Array Int} {len : Nat} (hV : ∀ (M : MI) (pc : Nat) (L : List (Option Value)) (st : List Value) (h : HP) (c : Nat) (Q : RR → HP → Prop), MG M → V M pc L st h c Q → J (mkG X) M pc L st h c Q) (hM : MG M) (d : DC M pc = .ok (.tableswitch dflt lo hi offs, len)) (hv : b_tswitch dflt lo hi offs X V M pc L st h c Q) : J (mkG X) M pc L st h c Q := by
  unfold b_tswitch at hv
  split at hv
  · rename_i x st'
    obtain ⟨h1, h2, h3⟩ := hv
    by_cases hx : x.toInt < lo ∨ hi < x.toInt
    · obtain ⟨q1, q2⟩ := h1 hx
      exact J_tableOut d hx (tgt_ok q1) (jmp_ok hV hM q2)
    · have a1 : ¬ x.toInt < lo := fun q => hx (Or.inl q)
      have a2 : ¬ hi < x.toInt := fun q => hx (Or.inr q)
      obtain ⟨off, e1, q1, q2⟩ := tsw_ok h3 (Int.not_lt.mp a1) (by rw [Array.length_toList]; omega)
      exact J_tableIn d a1 a2 (by rw [← Array.getElem?_toList]; exact e1) (tgt_ok q1) (jmp_ok hV hM q2)
  · exact hv.elim
theorem s_ireturn {X : XT} {V : VT} {M : MI} {pc : Nat} {L : List (Option Value)} {st : List Value} {h : HP} {c : Nat} {Q : RR → HP → Prop}  (hV : ∀ (M : MI) (pc : Nat) (L : List (Option Value)) (st : List Value) (h : HP) (c : Nat) (Q : RR → HP → Prop), MG M → V M pc L st h c Q → J (mkG X) M pc L st h c Q) (hM : MG M) (d : DC M pc = .ok (.ireturn, 1)) (hv : b_ireturn  X V M pc L st h c Q) : J (mkG X) M pc L st h c Q := by
  unfold b_ireturn at hv
  split at hv
  · split at hv
    · rename_i hr
      exact J_ireturn d hr hv.1 hv.2
    · exact hv.elim
  · exact hv.elim
theorem s_return {X : XT} {V : VT} {M : MI} {pc : Nat} {L : List (Option Value)} {st : List Value} {h : HP} {c : Nat} {Q : RR → HP → Prop}  (hV : ∀ (M : MI) (pc : Nat) (L : List (Option Value)) (st : List Value) (h : HP) (c : Nat) (Q : RR → HP → Prop), MG M → V M pc L st h c Q → J (mkG X) M pc L st h c Q) (hM : MG M) (d : DC M pc = .ok (.return_, 1)) (hv : b_return  X V M pc L st h c Q) : J (mkG X) M pc L st h c Q := by
  unfold b_return at hv
  split at hv
  · exact J_return d hv.1 hv.2
  · exact hv.elim
theorem s_areturn {X : XT} {V : VT} {M : MI} {pc : Nat} {L : List (Option Value)} {st : List Value} {h : HP} {c : Nat} {Q : RR → HP → Prop}  (hV : ∀ (M : MI) (pc : Nat) (L : List (Option Value)) (st : List Value) (h : HP) (c : Nat) (Q : RR → HP → Prop), MG M → V M pc L st h c Q → J (mkG X) M pc L st h c Q) (hM : MG M) (d : DC M pc = .ok (.areturn, 1)) (hv : b_areturn  X V M pc L st h c Q) : J (mkG X) M pc L st h c Q := by
  unfold b_areturn at hv
  split at hv
  · exact J_areturn d hv.1 hv.2.1 hv.2.2
  · exact hv.elim
theorem s_dreturn {X : XT} {V : VT} {M : MI} {pc : Nat} {L : List (Option Value)} {st : List Value} {h : HP} {c : Nat} {Q : RR → HP → Prop}  (hV : ∀ (M : MI) (pc : Nat) (L : List (Option Value)) (st : List Value) (h : HP) (c : Nat) (Q : RR → HP → Prop), MG M → V M pc L st h c Q → J (mkG X) M pc L st h c Q) (hM : MG M) (d : DC M pc = .ok (.dreturn, 1)) (hv : b_dreturn  X V M pc L st h c Q) : J (mkG X) M pc L st h c Q := by
  unfold b_dreturn at hv
  split at hv
  · exact J_dreturn d hv.1 hv.2
  · exact hv.elim
theorem s_freturn {X : XT} {V : VT} {M : MI} {pc : Nat} {L : List (Option Value)} {st : List Value} {h : HP} {c : Nat} {Q : RR → HP → Prop}  (hV : ∀ (M : MI) (pc : Nat) (L : List (Option Value)) (st : List Value) (h : HP) (c : Nat) (Q : RR → HP → Prop), MG M → V M pc L st h c Q → J (mkG X) M pc L st h c Q) (hM : MG M) (d : DC M pc = .ok (.freturn, 1)) (hv : b_freturn  X V M pc L st h c Q) : J (mkG X) M pc L st h c Q := by
  unfold b_freturn at hv
  split at hv
  · exact J_freturn d hv.1 hv.2
  · exact hv.elim
theorem s_getf {X : XT} {V : VT} {M : MI} {pc : Nat} {L : List (Option Value)} {st : List Value} {h : HP} {c : Nat} {Q : RR → HP → Prop} {idx : Nat} (hV : ∀ (M : MI) (pc : Nat) (L : List (Option Value)) (st : List Value) (h : HP) (c : Nat) (Q : RR → HP → Prop), MG M → V M pc L st h c Q → J (mkG X) M pc L st h c Q) (hM : MG M) (d : DC M pc = .ok (.getfield idx, 3)) (hv : b_getf idx X V M pc L st h c Q) : J (mkG X) M pc L st h c Q := by
  unfold b_getf at hv
  split at hv
  · split at hv
    · rename_i hh
      split at hv
      · rename_i hk
        split at hv
        · rename_i hx
          exact J_getf d (by rw [show (mY M).cls = cn (mO M) from hM]; exact FK_ok X _ _ (lk_mem hk)) hh hx (hV _ _ _ _ _ _ _ hM hv)
        · exact hv.elim
      · exact hv.elim
    · exact hv.elim
  · exact hv.elim
theorem s_putf {X : XT} {V : VT} {M : MI} {pc : Nat} {L : List (Option Value)} {st : List Value} {h : HP} {c : Nat} {Q : RR → HP → Prop} {idx : Nat} (hV : ∀ (M : MI) (pc : Nat) (L : List (Option Value)) (st : List Value) (h : HP) (c : Nat) (Q : RR → HP → Prop), MG M → V M pc L st h c Q → J (mkG X) M pc L st h c Q) (hM : MG M) (d : DC M pc = .ok (.putfield idx, 3)) (hv : b_putf idx X V M pc L st h c Q) : J (mkG X) M pc L st h c Q := by
  unfold b_putf at hv
  split at hv
  · split at hv
    · rename_i hh
      split at hv
      · rename_i hk
        obtain ⟨h1, h2, h3, h4⟩ := hv
        exact J_putf d (by rw [show (mY M).cls = cn (mO M) from hM]; exact PK_ok X _ _ (lk_mem hk) _ h1) hh h2 h3.1 h3.2 (hV _ _ _ _ _ _ _ hM h4)
      · exact hv.elim
    · exact hv.elim
  · exact hv.elim
theorem s_gets {X : XT} {V : VT} {M : MI} {pc : Nat} {L : List (Option Value)} {st : List Value} {h : HP} {c : Nat} {Q : RR → HP → Prop} {idx : Nat} (hV : ∀ (M : MI) (pc : Nat) (L : List (Option Value)) (st : List Value) (h : HP) (c : Nat) (Q : RR → HP → Prop), MG M → V M pc L st h c Q → J (mkG X) M pc L st h c Q) (hM : MG M) (d : DC M pc = .ok (.getstatic idx, 3)) (hv : b_gets idx X V M pc L st h c Q) : J (mkG X) M pc L st h c Q := by
  unfold b_gets at hv
  split at hv
  · rename_i hk
    obtain ⟨C, n, ds, v, e1, e2⟩ := GS_ok X _ _ (lk_mem hk)
    split at hv
    · rename_i hx
      have e1' : (gT (mkG X))[_]? = some (C, n, ds, v) := e1
      rw [e1'] at hx
      cases hx
      exact J_gets d (List.mem_of_getElem? e1) (by rw [show (mY M).cls = cn (mO M) from hM]; exact e2) (Or.inl rfl) (hV _ _ _ _ _ _ _ hM hv)
    · exact hv.elim
  · exact hv.elim
theorem s_iaload {X : XT} {V : VT} {M : MI} {pc : Nat} {L : List (Option Value)} {st : List Value} {h : HP} {c : Nat} {Q : RR → HP → Prop}  (hV : ∀ (M : MI) (pc : Nat) (L : List (Option Value)) (st : List Value) (h : HP) (c : Nat) (Q : RR → HP → Prop), MG M → V M pc L st h c Q → J (mkG X) M pc L st h c Q) (hM : MG M) (d : DC M pc = .ok (.iaload, 1)) (hv : b_iaload  X V M pc L st h c Q) : J (mkG X) M pc L st h c Q := by
  unfold b_iaload at hv
  split at hv
  · split at hv
    · rename_i hh
      exact J_iaload d hh hv.1 (hV _ _ _ _ _ _ _ hM hv.2)
    · exact hv.elim
  · exact hv.elim
theorem s_baload {X : XT} {V : VT} {M : MI} {pc : Nat} {L : List (Option Value)} {st : List Value} {h : HP} {c : Nat} {Q : RR → HP → Prop}  (hV : ∀ (M : MI) (pc : Nat) (L : List (Option Value)) (st : List Value) (h : HP) (c : Nat) (Q : RR → HP → Prop), MG M → V M pc L st h c Q → J (mkG X) M pc L st h c Q) (hM : MG M) (d : DC M pc = .ok (.baload, 1)) (hv : b_baload  X V M pc L st h c Q) : J (mkG X) M pc L st h c Q := by
  unfold b_baload at hv
  split at hv
  · split at hv
    · rename_i hh
      exact J_baload d hh hv.1 (hV _ _ _ _ _ _ _ hM hv.2)
    · exact hv.elim
  · exact hv.elim
theorem s_caload {X : XT} {V : VT} {M : MI} {pc : Nat} {L : List (Option Value)} {st : List Value} {h : HP} {c : Nat} {Q : RR → HP → Prop}  (hV : ∀ (M : MI) (pc : Nat) (L : List (Option Value)) (st : List Value) (h : HP) (c : Nat) (Q : RR → HP → Prop), MG M → V M pc L st h c Q → J (mkG X) M pc L st h c Q) (hM : MG M) (d : DC M pc = .ok (.caload, 1)) (hv : b_caload  X V M pc L st h c Q) : J (mkG X) M pc L st h c Q := by
  unfold b_caload at hv
  split at hv
  · split at hv
    · rename_i hh
      exact J_caload d hh hv.1 (hV _ _ _ _ _ _ _ hM hv.2)
    · exact hv.elim
  · exact hv.elim
theorem s_laload {X : XT} {V : VT} {M : MI} {pc : Nat} {L : List (Option Value)} {st : List Value} {h : HP} {c : Nat} {Q : RR → HP → Prop}  (hV : ∀ (M : MI) (pc : Nat) (L : List (Option Value)) (st : List Value) (h : HP) (c : Nat) (Q : RR → HP → Prop), MG M → V M pc L st h c Q → J (mkG X) M pc L st h c Q) (hM : MG M) (d : DC M pc = .ok (.laload, 1)) (hv : b_laload  X V M pc L st h c Q) : J (mkG X) M pc L st h c Q := by
  unfold b_laload at hv
  split at hv
  · split at hv
    · rename_i hh
      exact J_laload d hh hv.1 (hV _ _ _ _ _ _ _ hM hv.2)
    · exact hv.elim
  · exact hv.elim
theorem s_daload {X : XT} {V : VT} {M : MI} {pc : Nat} {L : List (Option Value)} {st : List Value} {h : HP} {c : Nat} {Q : RR → HP → Prop}  (hV : ∀ (M : MI) (pc : Nat) (L : List (Option Value)) (st : List Value) (h : HP) (c : Nat) (Q : RR → HP → Prop), MG M → V M pc L st h c Q → J (mkG X) M pc L st h c Q) (hM : MG M) (d : DC M pc = .ok (.daload, 1)) (hv : b_daload  X V M pc L st h c Q) : J (mkG X) M pc L st h c Q := by
  unfold b_daload at hv
  split at hv
  · split at hv
    · rename_i hh
      exact J_daload d hh hv.1 (hV _ _ _ _ _ _ _ hM hv.2)
    · exact hv.elim
  · exact hv.elim
theorem s_aaload {X : XT} {V : VT} {M : MI} {pc : Nat} {L : List (Option Value)} {st : List Value} {h : HP} {c : Nat} {Q : RR → HP → Prop}  (hV : ∀ (M : MI) (pc : Nat) (L : List (Option Value)) (st : List Value) (h : HP) (c : Nat) (Q : RR → HP → Prop), MG M → V M pc L st h c Q → J (mkG X) M pc L st h c Q) (hM : MG M) (d : DC M pc = .ok (.aaload, 1)) (hv : b_aaload  X V M pc L st h c Q) : J (mkG X) M pc L st h c Q := by
  unfold b_aaload at hv
  split at hv
  · split at hv
    · rename_i hh
      exact J_aaload d hh hv.1 (hV _ _ _ _ _ _ _ hM hv.2)
    · rename_i hh
      exact J_aaload6 d hh hv.1 (hV _ _ _ _ _ _ _ hM hv.2)
    · exact hv.elim
  · exact hv.elim
theorem s_iastore {X : XT} {V : VT} {M : MI} {pc : Nat} {L : List (Option Value)} {st : List Value} {h : HP} {c : Nat} {Q : RR → HP → Prop}  (hV : ∀ (M : MI) (pc : Nat) (L : List (Option Value)) (st : List Value) (h : HP) (c : Nat) (Q : RR → HP → Prop), MG M → V M pc L st h c Q → J (mkG X) M pc L st h c Q) (hM : MG M) (d : DC M pc = .ok (.iastore, 1)) (hv : b_iastore  X V M pc L st h c Q) : J (mkG X) M pc L st h c Q := by
  unfold b_iastore at hv
  split at hv
  · split at hv
    · rename_i hh
      exact J_iastore d hh hv.1 (hV _ _ _ _ _ _ _ hM hv.2)
    · exact hv.elim
  · exact hv.elim
theorem s_bastore {X : XT} {V : VT} {M : MI} {pc : Nat} {L : List (Option Value)} {st : List Value} {h : HP} {c : Nat} {Q : RR → HP → Prop}  (hV : ∀ (M : MI) (pc : Nat) (L : List (Option Value)) (st : List Value) (h : HP) (c : Nat) (Q : RR → HP → Prop), MG M → V M pc L st h c Q → J (mkG X) M pc L st h c Q) (hM : MG M) (d : DC M pc = .ok (.bastore, 1)) (hv : b_bastore  X V M pc L st h c Q) : J (mkG X) M pc L st h c Q := by
  unfold b_bastore at hv
  split at hv
  · split at hv
    · rename_i hh
      exact J_bastore d hh hv.1 (hV _ _ _ _ _ _ _ hM hv.2)
    · exact hv.elim
  · exact hv.elim
theorem s_castore {X : XT} {V : VT} {M : MI} {pc : Nat} {L : List (Option Value)} {st : List Value} {h : HP} {c : Nat} {Q : RR → HP → Prop}  (hV : ∀ (M : MI) (pc : Nat) (L : List (Option Value)) (st : List Value) (h : HP) (c : Nat) (Q : RR → HP → Prop), MG M → V M pc L st h c Q → J (mkG X) M pc L st h c Q) (hM : MG M) (d : DC M pc = .ok (.castore, 1)) (hv : b_castore  X V M pc L st h c Q) : J (mkG X) M pc L st h c Q := by
  unfold b_castore at hv
  split at hv
  · split at hv
    · rename_i hh
      exact J_castore d hh hv.1 (hV _ _ _ _ _ _ _ hM hv.2)
    · exact hv.elim
  · exact hv.elim
theorem s_lastore {X : XT} {V : VT} {M : MI} {pc : Nat} {L : List (Option Value)} {st : List Value} {h : HP} {c : Nat} {Q : RR → HP → Prop}  (hV : ∀ (M : MI) (pc : Nat) (L : List (Option Value)) (st : List Value) (h : HP) (c : Nat) (Q : RR → HP → Prop), MG M → V M pc L st h c Q → J (mkG X) M pc L st h c Q) (hM : MG M) (d : DC M pc = .ok (.lastore, 1)) (hv : b_lastore  X V M pc L st h c Q) : J (mkG X) M pc L st h c Q := by
  unfold b_lastore at hv
  split at hv
  · split at hv
    · rename_i hh
      exact J_lastore d hh hv.1 (hV _ _ _ _ _ _ _ hM hv.2)
    · exact hv.elim
  · exact hv.elim
theorem s_dastore {X : XT} {V : VT} {M : MI} {pc : Nat} {L : List (Option Value)} {st : List Value} {h : HP} {c : Nat} {Q : RR → HP → Prop}  (hV : ∀ (M : MI) (pc : Nat) (L : List (Option Value)) (st : List Value) (h : HP) (c : Nat) (Q : RR → HP → Prop), MG M → V M pc L st h c Q → J (mkG X) M pc L st h c Q) (hM : MG M) (d : DC M pc = .ok (.dastore, 1)) (hv : b_dastore  X V M pc L st h c Q) : J (mkG X) M pc L st h c Q := by
  unfold b_dastore at hv
  split at hv
  · split at hv
    · rename_i hh
      exact J_dastore d hh hv.1 (hV _ _ _ _ _ _ _ hM hv.2)
    · exact hv.elim
  · exact hv.elim
theorem s_aastore {X : XT} {V : VT} {M : MI} {pc : Nat} {L : List (Option Value)} {st : List Value} {h : HP} {c : Nat} {Q : RR → HP → Prop}  (hV : ∀ (M : MI) (pc : Nat) (L : List (Option Value)) (st : List Value) (h : HP) (c : Nat) (Q : RR → HP → Prop), MG M → V M pc L st h c Q → J (mkG X) M pc L st h c Q) (hM : MG M) (d : DC M pc = .ok (.aastore, 1)) (hv : b_aastore  X V M pc L st h c Q) : J (mkG X) M pc L st h c Q := by
  unfold b_aastore at hv
  split at hv
  · split at hv
    · rename_i hh hb
      exact J_aastoreO d hh hb (OB_ok X) hv.1 (hV _ _ _ _ _ _ _ hM hv.2)
    · exact hv.elim
  · split at hv
    · rename_i hh
      exact J_aastoreN d hh hv.1 (hV _ _ _ _ _ _ _ hM hv.2)
    · exact hv.elim
  · exact hv.elim
theorem s_alen {X : XT} {V : VT} {M : MI} {pc : Nat} {L : List (Option Value)} {st : List Value} {h : HP} {c : Nat} {Q : RR → HP → Prop}  (hV : ∀ (M : MI) (pc : Nat) (L : List (Option Value)) (st : List Value) (h : HP) (c : Nat) (Q : RR → HP → Prop), MG M → V M pc L st h c Q → J (mkG X) M pc L st h c Q) (hM : MG M) (d : DC M pc = .ok (.arraylength, 1)) (hv : b_alen  X V M pc L st h c Q) : J (mkG X) M pc L st h c Q := by
  unfold b_alen at hv
  split at hv
  · split at hv
    · rename_i hh
      split at hv
      · rename_i hx
        exact J_alen d hh hx (hV _ _ _ _ _ _ _ hM hv)
      · exact hv.elim
    · exact hv.elim
  · exact hv.elim
theorem s_newa_i {X : XT} {V : VT} {M : MI} {pc : Nat} {L : List (Option Value)} {st : List Value} {h : HP} {c : Nat} {Q : RR → HP → Prop}  (hV : ∀ (M : MI) (pc : Nat) (L : List (Option Value)) (st : List Value) (h : HP) (c : Nat) (Q : RR → HP → Prop), MG M → V M pc L st h c Q → J (mkG X) M pc L st h c Q) (hM : MG M) (d : DC M pc = .ok (.newarray .int, 2)) (hv : b_newa_i  X V M pc L st h c Q) : J (mkG X) M pc L st h c Q := by
  unfold b_newa_i at hv
  split at hv
  · exact J_newarr_i d q252 hv.1 rfl hv.2.1 hv.2.2.1 (fun a ha => hV _ _ _ _ _ _ _ hM (hv.2.2.2 a ha))
  · exact hv.elim
theorem s_newa_b {X : XT} {V : VT} {M : MI} {pc : Nat} {L : List (Option Value)} {st : List Value} {h : HP} {c : Nat} {Q : RR → HP → Prop}  (hV : ∀ (M : MI) (pc : Nat) (L : List (Option Value)) (st : List Value) (h : HP) (c : Nat) (Q : RR → HP → Prop), MG M → V M pc L st h c Q → J (mkG X) M pc L st h c Q) (hM : MG M) (d : DC M pc = .ok (.newarray .byte, 2)) (hv : b_newa_b  X V M pc L st h c Q) : J (mkG X) M pc L st h c Q := by
  unfold b_newa_b at hv
  split at hv
  · exact J_newarr_b d q187 hv.1 rfl hv.2.1 hv.2.2.1 (fun a ha => hV _ _ _ _ _ _ _ hM (hv.2.2.2 a ha))
  · exact hv.elim
theorem s_newa_c {X : XT} {V : VT} {M : MI} {pc : Nat} {L : List (Option Value)} {st : List Value} {h : HP} {c : Nat} {Q : RR → HP → Prop}  (hV : ∀ (M : MI) (pc : Nat) (L : List (Option Value)) (st : List Value) (h : HP) (c : Nat) (Q : RR → HP → Prop), MG M → V M pc L st h c Q → J (mkG X) M pc L st h c Q) (hM : MG M) (d : DC M pc = .ok (.newarray .char, 2)) (hv : b_newa_c  X V M pc L st h c Q) : J (mkG X) M pc L st h c Q := by
  unfold b_newa_c at hv
  split at hv
  · exact J_newarr_c d q2449 hv.1 rfl hv.2.1 hv.2.2.1 (fun a ha => hV _ _ _ _ _ _ _ hM (hv.2.2.2 a ha))
  · exact hv.elim
theorem s_newa_l {X : XT} {V : VT} {M : MI} {pc : Nat} {L : List (Option Value)} {st : List Value} {h : HP} {c : Nat} {Q : RR → HP → Prop}  (hV : ∀ (M : MI) (pc : Nat) (L : List (Option Value)) (st : List Value) (h : HP) (c : Nat) (Q : RR → HP → Prop), MG M → V M pc L st h c Q → J (mkG X) M pc L st h c Q) (hM : MG M) (d : DC M pc = .ok (.newarray .long, 2)) (hv : b_newa_l  X V M pc L st h c Q) : J (mkG X) M pc L st h c Q := by
  unfold b_newa_l at hv
  split at hv
  · exact J_newarr_l d q2806 hv.1 rfl hv.2.1 hv.2.2.1 (fun a ha => hV _ _ _ _ _ _ _ hM (hv.2.2.2 a ha))
  · exact hv.elim
theorem s_newa_d {X : XT} {V : VT} {M : MI} {pc : Nat} {L : List (Option Value)} {st : List Value} {h : HP} {c : Nat} {Q : RR → HP → Prop}  (hV : ∀ (M : MI) (pc : Nat) (L : List (Option Value)) (st : List Value) (h : HP) (c : Nat) (Q : RR → HP → Prop), MG M → V M pc L st h c Q → J (mkG X) M pc L st h c Q) (hM : MG M) (d : DC M pc = .ok (.newarray .double, 2)) (hv : b_newa_d  X V M pc L st h c Q) : J (mkG X) M pc L st h c Q := by
  unfold b_newa_d at hv
  split at hv
  · exact J_newarr_d d q2807 hv.1 rfl hv.2.1 hv.2.2.1 (fun a ha => hV _ _ _ _ _ _ _ hM (hv.2.2.2 a ha))
  · exact hv.elim
theorem s_anew {X : XT} {V : VT} {M : MI} {pc : Nat} {L : List (Option Value)} {st : List Value} {h : HP} {c : Nat} {Q : RR → HP → Prop} {idx : Nat} (hV : ∀ (M : MI) (pc : Nat) (L : List (Option Value)) (st : List Value) (h : HP) (c : Nat) (Q : RR → HP → Prop), MG M → V M pc L st h c Q → J (mkG X) M pc L st h c Q) (hM : MG M) (d : DC M pc = .ok (.anewarray idx, 3)) (hv : b_anew idx X V M pc L st h c Q) : J (mkG X) M pc L st h c Q := by
  unfold b_anew at hv
  split at hv
  · obtain ⟨r, hr⟩ := Option.isSome_iff_exists.mp hv.1
    exact J_anew d (by rw [show (mY M).cls = cn (mO M) from hM]; exact AO_ok X _ _ (lk_mem hr)) hv.2.1 rfl hv.2.2.1 hv.2.2.2.1 (fun a ha => hV _ _ _ _ _ _ _ hM (hv.2.2.2.2 a ha))
  · exact hv.elim
theorem s_new {X : XT} {V : VT} {M : MI} {pc : Nat} {L : List (Option Value)} {st : List Value} {h : HP} {c : Nat} {Q : RR → HP → Prop} {idx : Nat} (hV : ∀ (M : MI) (pc : Nat) (L : List (Option Value)) (st : List Value) (h : HP) (c : Nat) (Q : RR → HP → Prop), MG M → V M pc L st h c Q → J (mkG X) M pc L st h c Q) (hM : MG M) (d : DC M pc = .ok (.new idx, 3)) (hv : b_new idx X V M pc L st h c Q) : J (mkG X) M pc L st h c Q := by
  unfold b_new at hv
  split at hv
  · rename_i hk
    exact J_new d (by rw [show (mY M).cls = cn (mO M) from hM]; exact NK_ok X _ _ (lk_mem hk)) hv.1 (fun a ha => hV _ _ _ _ _ _ _ hM (hv.2 a ha))
  · split at hv
    · rename_i hk
      obtain ⟨h1, h2, h3, h4, h5, h6⟩ := hv
      exact J_make0 d h1 h2 (by rw [show (mY M).cls = cn (mO M) from hM]; exact EK_ok X _ _ (lk_mem hk)) h3 h4 h5 (fun a ha => hV _ _ _ _ _ _ _ hM (h6 a ha))
    · exact hv.elim
theorem s_ldc {X : XT} {V : VT} {M : MI} {pc : Nat} {L : List (Option Value)} {st : List Value} {h : HP} {c : Nat} {Q : RR → HP → Prop} {idx : Nat} (hV : ∀ (M : MI) (pc : Nat) (L : List (Option Value)) (st : List Value) (h : HP) (c : Nat) (Q : RR → HP → Prop), MG M → V M pc L st h c Q → J (mkG X) M pc L st h c Q) (hM : MG M) (d : DC M pc = .ok (.ldc idx, 2)) (hv : b_ldc idx X V M pc L st h c Q) : J (mkG X) M pc L st h c Q := by
  unfold b_ldc at hv
  split at hv
  · rename_i hk
    obtain ⟨tx, h1⟩ := LG_ok X _ _ (lk_mem hk)
    exact J_ldcS d (by rw [show (mY M).cls = cn (mO M) from hM]; exact h1) (hV _ _ _ _ _ _ _ hM hv)
  · split at hv
    · rename_i hk
      exact J_ldcI d (by rw [show (mY M).cls = cn (mO M) from hM]; exact LI_ok X _ _ (lk_mem hk)) (hV _ _ _ _ _ _ _ hM hv)
    · split at hv
      · rename_i hk
        exact J_ldcM d (List.mem_of_getElem? (i := 0) rfl) (by rw [show (mY M).cls = cn (mO M) from hM]; exact LM_ok X _ _ (lk_mem hk)) (hV _ _ _ _ _ _ _ hM hv)
      · exact hv.elim
theorem s_ldcw {X : XT} {V : VT} {M : MI} {pc : Nat} {L : List (Option Value)} {st : List Value} {h : HP} {c : Nat} {Q : RR → HP → Prop} {idx : Nat} (hV : ∀ (M : MI) (pc : Nat) (L : List (Option Value)) (st : List Value) (h : HP) (c : Nat) (Q : RR → HP → Prop), MG M → V M pc L st h c Q → J (mkG X) M pc L st h c Q) (hM : MG M) (d : DC M pc = .ok (.ldc_w idx, 3)) (hv : b_ldcw idx X V M pc L st h c Q) : J (mkG X) M pc L st h c Q := by
  unfold b_ldcw at hv
  split at hv
  · rename_i hk
    obtain ⟨tx, h1⟩ := LG_ok X _ _ (lk_mem hk)
    exact J_ldcwS d (by rw [show (mY M).cls = cn (mO M) from hM]; exact h1) (hV _ _ _ _ _ _ _ hM hv)
  · split at hv
    · rename_i hk
      exact J_ldcwI d (by rw [show (mY M).cls = cn (mO M) from hM]; exact LI_ok X _ _ (lk_mem hk)) (hV _ _ _ _ _ _ _ hM hv)
    · exact hv.elim
theorem s_cast {X : XT} {V : VT} {M : MI} {pc : Nat} {L : List (Option Value)} {st : List Value} {h : HP} {c : Nat} {Q : RR → HP → Prop} {idx : Nat} (hV : ∀ (M : MI) (pc : Nat) (L : List (Option Value)) (st : List Value) (h : HP) (c : Nat) (Q : RR → HP → Prop), MG M → V M pc L st h c Q → J (mkG X) M pc L st h c Q) (hM : MG M) (d : DC M pc = .ok (.checkcast idx, 3)) (hv : b_cast idx X V M pc L st h c Q) : J (mkG X) M pc L st h c Q := by
  unfold b_cast at hv
  split at hv
  · exact J_castN d (hV _ _ _ _ _ _ _ hM hv)
  · split at hv
    · rename_i hh
      split at hv
      · rename_i hk
        obtain ⟨r2, nm, e1, e2, e3⟩ := KK_ok X _ _ (lk_mem hk)
        exact J_castY d hh e1 (by rw [show (mY M).cls = cn (mO M) from hM]; exact e2) e3 (hV _ _ _ _ _ _ _ hM hv)
      · exact hv.elim
    · rename_i hh
      rcases KA_ok X _ _ (lk_mem hv.1) with ⟨e1, e2⟩ | ⟨e1, e2⟩
      · exact J_castA (t := 1) d hh (Or.inl ⟨_, _, rfl⟩) (by rw [show (mY M).cls = cn (mO M) from hM]; exact e2) (fun s hE => fc_B hE) (hV _ _ _ _ _ _ _ hM hv.2)
      · cases e1
    · rename_i hh
      rcases KA_ok X _ _ (lk_mem hv.1) with ⟨e1, e2⟩ | ⟨e1, e2⟩
      · cases e1
      · exact J_castA (t := 5) d hh (Or.inr ⟨rfl, _, _, rfl⟩) (by rw [show (mY M).cls = cn (mO M) from hM]; exact e2) (fun s hE => fc_O hE) (hV _ _ _ _ _ _ _ hM hv.2)
    · exact hv.elim
  · exact hv.elim
theorem s_inst {X : XT} {V : VT} {M : MI} {pc : Nat} {L : List (Option Value)} {st : List Value} {h : HP} {c : Nat} {Q : RR → HP → Prop} {idx : Nat} (hV : ∀ (M : MI) (pc : Nat) (L : List (Option Value)) (st : List Value) (h : HP) (c : Nat) (Q : RR → HP → Prop), MG M → V M pc L st h c Q → J (mkG X) M pc L st h c Q) (hM : MG M) (d : DC M pc = .ok (.instanceof idx, 3)) (hv : b_inst idx X V M pc L st h c Q) : J (mkG X) M pc L st h c Q := by
  unfold b_inst at hv
  split at hv
  · split at hv
    · rename_i hh
      exact J_instY d hh (r := ("java/lang/String", TJ4, 4)) rfl (by rw [show (mY M).cls = cn (mO M) from hM]; exact IT_ok X _ _ (lk_mem hv.1)) rfl (hV _ _ _ _ _ _ _ hM hv.2)
    · exact hv.elim
  · exact hv.elim
theorem s_athrow {X : XT} {V : VT} {M : MI} {pc : Nat} {L : List (Option Value)} {st : List Value} {h : HP} {c : Nat} {Q : RR → HP → Prop}  (hV : ∀ (M : MI) (pc : Nat) (L : List (Option Value)) (st : List Value) (h : HP) (c : Nat) (Q : RR → HP → Prop), MG M → V M pc L st h c Q → J (mkG X) M pc L st h c Q) (hM : MG M) (d : DC M pc = .ok (.athrow, 1)) (hv : b_athrow  X V M pc L st h c Q) : J (mkG X) M pc L st h c Q := by
  unfold b_athrow at hv
  split at hv
  · split at hv
    · rename_i hh
      obtain ⟨r, hr⟩ := Option.isSome_iff_exists.mp hv.1
      exact J_athrow d hh hr (vcX_ok hV hM hr hv.2)
    · exact hv.elim
  · exact hv.elim
theorem s_invS {X : XT} {V : VT} {M : MI} {pc : Nat} {L : List (Option Value)} {st : List Value} {h : HP} {c : Nat} {Q : RR → HP → Prop} {idx : Nat} (hV : ∀ (M : MI) (pc : Nat) (L : List (Option Value)) (st : List Value) (h : HP) (c : Nat) (Q : RR → HP → Prop), MG M → V M pc L st h c Q → J (mkG X) M pc L st h c Q) (hM : MG M) (d : DC M pc = .ok (.invokestatic idx, 3)) (hv : b_invS idx X V M pc L st h c Q) : J (mkG X) M pc L st h c Q := by
  unfold b_invS at hv
  split at hv
  · rename_i hk
    split at hv
    · rename_i hx
      obtain ⟨rfl, hl⟩ := spl_ok hx
      obtain ⟨h1, h2, c1, h3, h4⟩ := hv
      exact J_invS d (by rw [show (mY M).cls = cn (mO M) from hM]; exact SK_ok X _ _ (lk_mem hk)) hl h2 h1 h3 h4 (fun v h' q => hV _ _ _ _ _ _ _ hM q) (fun ci q h' q2 => vcX_okK hV hM q2)
    · exact hv.elim
  · split at hv
    · rename_i hk
      split at hv
      · split at hv
        · rename_i hh0 hh
          obtain ⟨rfl, h1, h2, h3, h4, h5, h6, h7, h8⟩ := hv
          exact J_copyI d (by rw [show (mY M).cls = cn (mO M) from hM]; exact CP_ok X _ _ (lk_mem hk)) hh0 hh h1 h2 h3 h4 h5 h6 h7 (hV _ _ _ _ _ _ _ hM h8)
        · rename_i hh0 hh
          obtain ⟨h1, h2, h3, h4, h5, h6, h7, h8, h9⟩ := hv
          exact J_copyR d (by rw [show (mY M).cls = cn (mO M) from hM]; exact CP_ok X _ _ (lk_mem hk)) (OB_ok X) hh0 hh h1 h2 h3 h4 h5 h6 h7 h8 (hV _ _ _ _ _ _ _ hM h9)
        · exact hv.elim
      · exact hv.elim
    · split at hv
      · rename_i hk
        split at hv
        · obtain ⟨h1, h2, h3⟩ := hv
          exact J_mmx d (by rw [show (mY M).cls = cn (mO M) from hM]; exact MX_ok X _ _ (lk_mem hk)) h1 h2 (hV _ _ _ _ _ _ _ hM h3)
        · exact hv.elim
      · exact hv.elim
theorem s_invI {X : XT} {V : VT} {M : MI} {pc : Nat} {L : List (Option Value)} {st : List Value} {h : HP} {c : Nat} {Q : RR → HP → Prop} {idx : Nat} (hV : ∀ (M : MI) (pc : Nat) (L : List (Option Value)) (st : List Value) (h : HP) (c : Nat) (Q : RR → HP → Prop), MG M → V M pc L st h c Q → J (mkG X) M pc L st h c Q) (hM : MG M) (d : DC M pc = .ok (.invokespecial idx, 3)) (hv : b_invI idx X V M pc L st h c Q) : J (mkG X) M pc L st h c Q := by
  unfold b_invI at hv
  split at hv
  · rename_i hk
    split at hv
    · rename_i hx
      obtain ⟨rfl, hl⟩ := spl_ok hx
      obtain ⟨h1, h2, h0, c1, h3, h4⟩ := hv
      split at h0
      · rename_i hb
        exact J_invI d (by rw [show (mY M).cls = cn (mO M) from hM]; exact IK_ok X _ _ (lk_mem hk)) hb ⟨_, _, _, rfl⟩ hl h2 h1 h3 h4 (fun v h' q => hV _ _ _ _ _ _ _ hM q) (fun ci q h' q2 => vcX_okK hV hM q2)
      · exact h0.elim
    · exact hv.elim
  · split at hv
    · rename_i hk
      split at hv
      · obtain ⟨h1, h2, h3⟩ := hv
        exact J_oinit d (by rw [show (mY M).cls = cn (mO M) from hM]; exact OI_ok X _ _ (lk_mem hk)) h1 h2 (hV _ _ _ _ _ _ _ hM h3)
      · exact hv.elim
    · exact hv.elim
theorem s_invV {X : XT} {V : VT} {M : MI} {pc : Nat} {L : List (Option Value)} {st : List Value} {h : HP} {c : Nat} {Q : RR → HP → Prop} {idx : Nat} (hV : ∀ (M : MI) (pc : Nat) (L : List (Option Value)) (st : List Value) (h : HP) (c : Nat) (Q : RR → HP → Prop), MG M → V M pc L st h c Q → J (mkG X) M pc L st h c Q) (hM : MG M) (d : DC M pc = .ok (.invokevirtual idx, 3)) (hv : b_invV idx X V M pc L st h c Q) : J (mkG X) M pc L st h c Q := by
  unfold b_invV at hv
  split at hv
  · rename_i hk
    split at hv
    · split at hv
      · rename_i hh
        obtain ⟨h1, h2, h3⟩ := hv
        exact J_getC d (by rw [show (mY M).cls = cn (mO M) from hM]; exact GC_ok X _ _ (lk_mem hk)) hh (List.mem_of_getElem? (i := 0) rfl) h1 h2 (hV _ _ _ _ _ _ _ hM h3)
      · exact hv.elim
    · exact hv.elim
  · split at hv
    · split at hv
      · rename_i hx
        obtain ⟨rfl, hl⟩ := spl_ok hx
        split at hv
        · rename_i hb
          split at hv
          · rename_i hk
            obtain ⟨rfl, h1, h2, c1, h3, h4⟩ := hv
            exact J_invV d (by rw [show (mY M).cls = cn (mO M) from hM]; exact VK_ok X _ _ (lk_mem hk)) hb hl h2 h1 h3 h4 (fun v h' q => hV _ _ _ _ _ _ _ hM q) (fun ci q h' q2 => vcX_okK hV hM q2)
          · exact hv.elim
        · exact hv.elim
      · exact hv.elim
    · exact hv.elim
theorem s_invF {X : XT} {V : VT} {M : MI} {pc : Nat} {L : List (Option Value)} {st : List Value} {h : HP} {c : Nat} {Q : RR → HP → Prop} {idx : Nat} {ct : Nat} (hV : ∀ (M : MI) (pc : Nat) (L : List (Option Value)) (st : List Value) (h : HP) (c : Nat) (Q : RR → HP → Prop), MG M → V M pc L st h c Q → J (mkG X) M pc L st h c Q) (hM : MG M) (d : DC M pc = .ok (.invokeinterface idx ct, 5)) (hv : b_invF idx X V M pc L st h c Q) : J (mkG X) M pc L st h c Q := by
  unfold b_invF at hv
  split at hv
  · split at hv
    · rename_i hx
      obtain ⟨rfl, hl⟩ := spl_ok hx
      split at hv
      · rename_i hb
        split at hv
        · rename_i hk
          obtain ⟨rfl, h1, h2, c1, h3, h4⟩ := hv
          exact J_invF d (by rw [show (mY M).cls = cn (mO M) from hM]; exact IF_ok X _ _ (lk_mem hk)) hb hl h2 h1 h3 h4 (fun v h' q => hV _ _ _ _ _ _ _ hM q) (fun ci q h' q2 => vcX_okK hV hM q2)
        · exact hv.elim
      · exact hv.elim
    · exact hv.elim
  · exact hv.elim
