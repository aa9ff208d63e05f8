/-! overlays: a heap with cells of an owner laid over it; a theatre's cells (printed by wip/tools/gen_ov.py) -/
abbrev IT2 : Type := Nat → Option (Nat × Nat)
abbrev CT2 : Type := Nat → Nat → AC
def ov (I : IT2) (C : CT2) (h : HP) : HP := fun a => match I a with
  | some (k, n) => some (C k n)
  | none => h a
section OV
variable {I : IT2} {C C' : CT2} {h H : HP} {a k n : Nat} {x : AC} {D : Nat → Nat → Nat}
theorem ov_at (e : I a = some (k, n)) : ov I C h a = some (C k n) := by unfold ov; rw [e]
theorem ov_no (e : I a = none) : ov I C h a = h a := by unfold ov; rw [e]
/-- none of the owner's cells is the heap's -/
def bas (I : IT2) (h : HP) : Prop := ∀ (a : Nat) (p : Nat × Nat), I a = some p → h a = none
theorem bas.no (hb : bas I h) (e : h a = some x) : I a = none := by
  cases q : I a with
  | none => rfl
  | some j => rw [hb a j q] at e; cases e
theorem bas.b (hb : bas I h) (e : h a = some x) (C : CT2) : ov I C h a = some x := by rw [ov_no (hb.no e)]; exact e
theorem ov_hs (e : I a = none) (x : AC) : hs (ov I C h) a x = ov I C (hs h a x) := by
  funext b
  by_cases q : b = a
  · subst q
    rw [hs_eq, ov_no e, hs_eq]
  · rw [hs_ne _ _ q]
    unfold ov
    rw [hs_ne _ _ q]
theorem ov_none (e : ov I C h a = none) : I a = none ∧ h a = none := by
  cases q : I a with
  | none => rw [ov_no q] at e; exact ⟨rfl, e⟩
  | some p => obtain ⟨k, n⟩ := p; rw [ov_at q] at e; cases e
theorem ov_ext (e : ∀ a k n, I a = some (k, n) → C k n = C' k n) : ov I C h = ov I C' h := by
  funext b
  unfold ov
  cases q : I b with
  | none => rfl
  | some p => obtain ⟨k, n⟩ := p; exact congrArg some (e b k n q)
def strip (I : IT2) (H : HP) : HP := fun a => match I a with
  | some _ => none
  | none => H a
theorem strip_no (e : I a = none) : strip I H a = H a := by unfold strip; rw [e]
theorem ov_strip (e : ∀ a k n, I a = some (k, n) → H a = some (C k n)) : H = ov I C (strip I H) := by
  funext b
  cases q : I b with
  | none => rw [ov_no q, strip_no q]
  | some p => obtain ⟨k, n⟩ := p; rw [ov_at q]; exact e b k n q
theorem bas_strip : bas I (strip I H) := fun a p e => by unfold strip; rw [e]
theorem hle_strip (e : hle h H) (hb : bas I h) : hle h (strip I H) := fun a x q => by rw [strip_no (hb.no q)]; exact e a x q
theorem hle_ov (hb : bas I h) (C : CT2) : hle h (ov I C h) := fun _ _ q => hb.b q C
/-- a run that left the owner's cells as they are -/
theorem ov_grow (hb : bas I h) (e : hle (ov I C h) H) : ∃ h', H = ov I C h' ∧ hle h h' ∧ bas I h' := ⟨strip I H, ov_strip (fun a k n q => e a _ (ov_at q)), hle_strip ((hle_ov hb C).t e) hb, bas_strip⟩
def bd : Nat → Nat
  | 5 => 5
  | 6 => 5
  | 7 => 6
  | 8 => 6
  | 9 => 6
  | 10 => 6
  | _ => 1
/-- the owner's places: by kind and number -/
def IJ (D : Nat → Nat → Nat) (I : IT2) : Prop := ∀ (a k n : Nat), I a = some (k, n) → a = D k n ∧ n < bd k ∧ k < 11
theorem wr (hj : IJ D I) (e : I (D k n) = some (k, n)) (h1 : C' k n = x) (h2 : ∀ k' n', k' < 11 → n' < bd k' → ¬ (k' = k ∧ n' = n) → C' k' n' = C k' n') : hs (ov I C h) (D k n) x = ov I C' h := by
  funext b
  by_cases q : b = D k n
  · subst q
    rw [hs_eq, ov_at e, h1]
  · rw [hs_ne _ _ q]
    unfold ov
    cases q2 : I b with
    | none => rfl
    | some p =>
      obtain ⟨k', n'⟩ := p
      obtain ⟨r1, r2, r3⟩ := hj b k' n' q2
      refine congrArg some (h2 k' n' r3 r2 (fun r => q ?_)).symm
      rw [r1, r.1, r.2]
end OV
theorem c11 {k : Nat} (h : k < 11) : k = 0 ∨ k = 1 ∨ k = 2 ∨ k = 3 ∨ k = 4 ∨ k = 5 ∨ k = 6 ∨ k = 7 ∨ k = 8 ∨ k = 9 ∨ k = 10 := by omega
/-- a theatre's cells: T its numbers, as the model has them; E: 60 w + i taken in town w, 300 and 301 how often tours and towns changed, 302 how many towns, 310 + t how often the steps of t changed -/
def thF (D : Nat → Nat → Nat) (T : Nat → Int32) : List Value := [.ref (D 1 0), .ref (D 3 0), .int (T 0), .int (T 1), .int (T 2), .int (T 3), .int (T 4), .int (T 5), .int (T 6), .int (T 7)]
def twF (D : Nat → Nat → Nat) (T : Nat → Int32) (w : Nat) : List Value := [.int (T (9 + 3 * w)), .int (T (9 + 3 * w + 1)), .int (T (9 + 3 * w + 2)), .ref (D 6 w)]
def trF (D : Nat → Nat → Nat) (T : Nat → Int32) (t : Nat) : List Value := [.int (nI t), .int (tOf T t 1), .ref (D 8 t), .ref (D 10 t), .int (tOf T t 0), .int (tOf T t 3), .int (tOf T t 4), .int (tOf T t 5), .int (tOf T t 6), .int (tOf T t 7), .int (tOf T t 8), .ref (D 0 0)]
def stF (T : Nat → Int32) (t s : Nat) : List Value := [.int (tSt T t s 0), .int (tSt T t s 1), .int (tSt T t s 2), .int (tSt T t s 3)]
def rfs (n : Nat) (g : Nat → Nat) : Nat → Option Nat := fun i => if i < n then some (g i) else none
def tkF (E : Nat → Int32) (w : Nat) : Nat → Int32 := fun i => if i < 60 then E (60 * w + i) else 0
def prF (T : Nat → Int32) (t : Nat) : Nat → Int32 := fun s => if s < 8 then tSt T t s 4 else 0
def nW (E : Nat → Int32) : Nat := nn (E 302)
def tC (D : Nat → Nat → Nat) (T E : Nat → Int32) : CT2
  | 0, _ => (true, .inl (1, thF D T))
  | 1, _ => alC true (E 300) (D 2 0) (nT T)
  | 2, _ => oaC true 10 (rfs (nT T) (D 7))
  | 3, _ => alC true (E 301) (D 4 0) (nW E)
  | 4, _ => oaC true 10 (rfs (nW E) (D 5))
  | 5, w => (true, .inl (2, twF D T w))
  | 6, w => (true, .inr (.inl (0, 60, tkF E w)))
  | 7, t => (true, .inl (4, trF D T t))
  | 8, t => alC true (E (310 + t)) (D 9 t) (nS T t)
  | 9, t => oaC true 10 (rfs (nS T t) (fun s => D 11 (8 * t + s)))
  | _, t => (true, .inr (.inl (0, 8, prF T t)))
theorem rfs_some {n : Nat} {g : Nat → Nat} {i : Nat} (h : i < n) : rfs n g i = some (g i) := if_pos h
theorem thF_len (D : Nat → Nat → Nat) (T : Nat → Int32) : (thF D T).length = 10 := rfl
theorem twF_len (D : Nat → Nat → Nat) (T : Nat → Int32) (w : Nat) : (twF D T w).length = 4 := rfl
theorem trF_len (D : Nat → Nat → Nat) (T : Nat → Int32) (t : Nat) : (trF D T t).length = 12 := rfl
theorem thF_get (D : Nat → Nat → Nat) (T : Nat → Int32) (k : Nat) : (thF D T)[k]? = ([.ref (D 1 0), .ref (D 3 0), .int (T 0), .int (T 1), .int (T 2), .int (T 3), .int (T 4), .int (T 5), .int (T 6), .int (T 7)] : List Value)[k]? := rfl
theorem twF_get (D : Nat → Nat → Nat) (T : Nat → Int32) (w k : Nat) : (twF D T w)[k]? = ([.int (T (9 + 3 * w)), .int (T (9 + 3 * w + 1)), .int (T (9 + 3 * w + 2)), .ref (D 6 w)] : List Value)[k]? := rfl
theorem trF_get (D : Nat → Nat → Nat) (T : Nat → Int32) (t k : Nat) : (trF D T t)[k]? = ([.int (nI t), .int (tOf T t 1), .ref (D 8 t), .ref (D 10 t), .int (tOf T t 0), .int (tOf T t 3), .int (tOf T t 4), .int (tOf T t 5), .int (tOf T t 6), .int (tOf T t 7), .int (tOf T t 8), .ref (D 0 0)] : List Value)[k]? := rfl
theorem stF_get (T : Nat → Int32) (t s k : Nat) : (stF T t s)[k]? = ([.int (tSt T t s 0), .int (tSt T t s 1), .int (tSt T t s 2), .int (tSt T t s 3)] : List Value)[k]? := rfl
theorem tC_0 (D : Nat → Nat → Nat) (T E : Nat → Int32) (n : Nat) : tC D T E 0 n = (true, .inl (1, thF D T)) := rfl
theorem tC_1 (D : Nat → Nat → Nat) (T E : Nat → Int32) (n : Nat) : tC D T E 1 n = alC true (E 300) (D 2 0) (nT T) := rfl
theorem tC_2 (D : Nat → Nat → Nat) (T E : Nat → Int32) (n : Nat) : tC D T E 2 n = oaC true 10 (rfs (nT T) (D 7)) := rfl
theorem tC_3 (D : Nat → Nat → Nat) (T E : Nat → Int32) (n : Nat) : tC D T E 3 n = alC true (E 301) (D 4 0) (nW E) := rfl
theorem tC_4 (D : Nat → Nat → Nat) (T E : Nat → Int32) (n : Nat) : tC D T E 4 n = oaC true 10 (rfs (nW E) (D 5)) := rfl
theorem tC_5 (D : Nat → Nat → Nat) (T E : Nat → Int32) (n : Nat) : tC D T E 5 n = (true, .inl (2, twF D T n)) := rfl
theorem tC_6 (D : Nat → Nat → Nat) (T E : Nat → Int32) (n : Nat) : tC D T E 6 n = (true, .inr (.inl (0, 60, tkF E n))) := rfl
theorem tC_7 (D : Nat → Nat → Nat) (T E : Nat → Int32) (n : Nat) : tC D T E 7 n = (true, .inl (4, trF D T n)) := rfl
theorem tC_8 (D : Nat → Nat → Nat) (T E : Nat → Int32) (n : Nat) : tC D T E 8 n = alC true (E (310 + n)) (D 9 n) (nS T n) := rfl
theorem tC_9 (D : Nat → Nat → Nat) (T E : Nat → Int32) (n : Nat) : tC D T E 9 n = oaC true 10 (rfs (nS T n) (fun s => D 11 (8 * n + s))) := rfl
theorem tC_10 (D : Nat → Nat → Nat) (T E : Nat → Int32) (n : Nat) : tC D T E 10 n = (true, .inr (.inl (0, 8, prF T n))) := rfl
theorem thF_c {D : Nat → Nat → Nat} {T T' : Nat → Int32} (e : ∀ j, j < 8 → T' j = T j) : thF D T' = thF D T := by
  unfold thF
  rw [e 0 (by omega), e 1 (by omega), e 2 (by omega), e 3 (by omega), e 4 (by omega), e 5 (by omega), e 6 (by omega), e 7 (by omega)]
theorem twF_c {D : Nat → Nat → Nat} {T T' : Nat → Int32} {n : Nat} (e : ∀ v, v < 3 → T' (9 + 3 * n + v) = T (9 + 3 * n + v)) : twF D T' n = twF D T n := by
  have e0 := e 0 (by omega)
  rw [Nat.add_zero] at e0
  unfold twF
  rw [e0, e 1 (by omega), e 2 (by omega)]
theorem trF_c {D : Nat → Nat → Nat} {T T' : Nat → Int32} {n : Nat} (e : ∀ v, v < 9 → ¬ v = 2 → tOf T' n v = tOf T n v) : trF D T' n = trF D T n := by
  unfold trF
  rw [e 0 (by omega) (by omega), e 1 (by omega) (by omega), e 3 (by omega) (by omega), e 4 (by omega) (by omega), e 5 (by omega) (by omega), e 6 (by omega) (by omega), e 7 (by omega) (by omega), e 8 (by omega) (by omega)]
theorem prF_c {T T' : Nat → Int32} {n : Nat} (e : ∀ s, s < 8 → tSt T' n s 4 = tSt T n s 4) : prF T' n = prF T n := by
  funext s
  unfold prF
  split
  · rename_i q; exact e s q
  · rfl
/-- cells that agree: by the numbers they show -/
theorem tC_c {D : Nat → Nat → Nat} {T T' E : Nat → Int32} {k n : Nat} (hk : k < 11) (hn : n < bd k) (e0 : k = 0 → ∀ j, j < 8 → T' j = T j) (e1 : k = 1 ∨ k = 2 → T' 8 = T 8) (e5 : k = 5 → ∀ v, v < 3 → T' (9 + 3 * n + v) = T (9 + 3 * n + v))
    (e7 : k = 7 → ∀ v, v < 9 → ¬ v = 2 → tOf T' n v = tOf T n v) (e8 : k = 8 ∨ k = 9 → tOf T' n 2 = tOf T n 2) (e10 : k = 10 → ∀ s, s < 8 → tSt T' n s 4 = tSt T n s 4) : tC D T' E k n = tC D T E k n := by
  by_cases q : k = 0
  · subst q; rw [tC_0, tC_0, thF_c (e0 rfl)]
  by_cases q : k = 1
  · subst q; rw [tC_1, tC_1, nT, nT, e1 (.inl rfl)]
  by_cases q : k = 2
  · subst q; rw [tC_2, tC_2, nT, nT, e1 (.inr rfl)]
  by_cases q : k = 3
  · subst q; rw [tC_3, tC_3]
  by_cases q : k = 4
  · subst q; rw [tC_4, tC_4]
  by_cases q : k = 5
  · subst q; rw [tC_5, tC_5, twF_c (e5 rfl)]
  by_cases q : k = 6
  · subst q; rw [tC_6, tC_6]
  by_cases q : k = 7
  · subst q; rw [tC_7, tC_7, trF_c (e7 rfl)]
  by_cases q : k = 8
  · subst q; rw [tC_8, tC_8, nS, nS, e8 (.inl rfl)]
  by_cases q : k = 9
  · subst q; rw [tC_9, tC_9, nS, nS, e8 (.inr rfl)]
  · have q : k = 10 := by omega
    subst q; rw [tC_10, tC_10, prF_c (e10 rfl)]
theorem ix10 {n' t x s : Nat} (h9 : x < 9) (hs8 : s < 8) : ¬ 24 + 49 * n' + x = 24 + 49 * t + (9 + 5 * s + 4) := fun r => by
  have h3 : n' = t ∨ n' < t ∨ t < n' := by omega
  rcases h3 with h3 | h3 | h3 <;> omega
section WR
variable {I : IT2} {h : HP} {D : Nat → Nat → Nat} {T E : Nat → Int32}
theorem w0_0 (hj : IJ D I) (e : I (D 0 0) = some (0, 0)) (v : Int32) : hs (ov I (tC D T E) h) (D 0 0) (true, .inl (1, (thF D T).set 2 (.int v))) = ov I (tC D (upd T 0 v) E) h :=
  wr hj e rfl (fun k' n' hk hn hne => tC_c hk hn (fun q => by subst q; exact absurd ⟨rfl, by show n' = 0; have h1 : n' < 1 := hn; omega⟩ hne) (fun _ => rfl) (fun _ x _ => upd_ne (by omega)) (fun _ x _ _ => upd_ne (by omega)) (fun _ => upd_ne (by omega)) (fun _ s _ => upd_ne (by omega)))
theorem w0_1 (hj : IJ D I) (e : I (D 0 0) = some (0, 0)) (v : Int32) : hs (ov I (tC D T E) h) (D 0 0) (true, .inl (1, (thF D T).set 3 (.int v))) = ov I (tC D (upd T 1 v) E) h :=
  wr hj e rfl (fun k' n' hk hn hne => tC_c hk hn (fun q => by subst q; exact absurd ⟨rfl, by show n' = 0; have h1 : n' < 1 := hn; omega⟩ hne) (fun _ => rfl) (fun _ x _ => upd_ne (by omega)) (fun _ x _ _ => upd_ne (by omega)) (fun _ => upd_ne (by omega)) (fun _ s _ => upd_ne (by omega)))
theorem w0_2 (hj : IJ D I) (e : I (D 0 0) = some (0, 0)) (v : Int32) : hs (ov I (tC D T E) h) (D 0 0) (true, .inl (1, (thF D T).set 4 (.int v))) = ov I (tC D (upd T 2 v) E) h :=
  wr hj e rfl (fun k' n' hk hn hne => tC_c hk hn (fun q => by subst q; exact absurd ⟨rfl, by show n' = 0; have h1 : n' < 1 := hn; omega⟩ hne) (fun _ => rfl) (fun _ x _ => upd_ne (by omega)) (fun _ x _ _ => upd_ne (by omega)) (fun _ => upd_ne (by omega)) (fun _ s _ => upd_ne (by omega)))
theorem w0_3 (hj : IJ D I) (e : I (D 0 0) = some (0, 0)) (v : Int32) : hs (ov I (tC D T E) h) (D 0 0) (true, .inl (1, (thF D T).set 5 (.int v))) = ov I (tC D (upd T 3 v) E) h :=
  wr hj e rfl (fun k' n' hk hn hne => tC_c hk hn (fun q => by subst q; exact absurd ⟨rfl, by show n' = 0; have h1 : n' < 1 := hn; omega⟩ hne) (fun _ => rfl) (fun _ x _ => upd_ne (by omega)) (fun _ x _ _ => upd_ne (by omega)) (fun _ => upd_ne (by omega)) (fun _ s _ => upd_ne (by omega)))
theorem w0_4 (hj : IJ D I) (e : I (D 0 0) = some (0, 0)) (v : Int32) : hs (ov I (tC D T E) h) (D 0 0) (true, .inl (1, (thF D T).set 6 (.int v))) = ov I (tC D (upd T 4 v) E) h :=
  wr hj e rfl (fun k' n' hk hn hne => tC_c hk hn (fun q => by subst q; exact absurd ⟨rfl, by show n' = 0; have h1 : n' < 1 := hn; omega⟩ hne) (fun _ => rfl) (fun _ x _ => upd_ne (by omega)) (fun _ x _ _ => upd_ne (by omega)) (fun _ => upd_ne (by omega)) (fun _ s _ => upd_ne (by omega)))
theorem w0_5 (hj : IJ D I) (e : I (D 0 0) = some (0, 0)) (v : Int32) : hs (ov I (tC D T E) h) (D 0 0) (true, .inl (1, (thF D T).set 7 (.int v))) = ov I (tC D (upd T 5 v) E) h :=
  wr hj e rfl (fun k' n' hk hn hne => tC_c hk hn (fun q => by subst q; exact absurd ⟨rfl, by show n' = 0; have h1 : n' < 1 := hn; omega⟩ hne) (fun _ => rfl) (fun _ x _ => upd_ne (by omega)) (fun _ x _ _ => upd_ne (by omega)) (fun _ => upd_ne (by omega)) (fun _ s _ => upd_ne (by omega)))
theorem w0_6 (hj : IJ D I) (e : I (D 0 0) = some (0, 0)) (v : Int32) : hs (ov I (tC D T E) h) (D 0 0) (true, .inl (1, (thF D T).set 8 (.int v))) = ov I (tC D (upd T 6 v) E) h :=
  wr hj e rfl (fun k' n' hk hn hne => tC_c hk hn (fun q => by subst q; exact absurd ⟨rfl, by show n' = 0; have h1 : n' < 1 := hn; omega⟩ hne) (fun _ => rfl) (fun _ x _ => upd_ne (by omega)) (fun _ x _ _ => upd_ne (by omega)) (fun _ => upd_ne (by omega)) (fun _ s _ => upd_ne (by omega)))
theorem w0_7 (hj : IJ D I) (e : I (D 0 0) = some (0, 0)) (v : Int32) : hs (ov I (tC D T E) h) (D 0 0) (true, .inl (1, (thF D T).set 9 (.int v))) = ov I (tC D (upd T 7 v) E) h :=
  wr hj e rfl (fun k' n' hk hn hne => tC_c hk hn (fun q => by subst q; exact absurd ⟨rfl, by show n' = 0; have h1 : n' < 1 := hn; omega⟩ hne) (fun _ => rfl) (fun _ x _ => upd_ne (by omega)) (fun _ x _ _ => upd_ne (by omega)) (fun _ => upd_ne (by omega)) (fun _ s _ => upd_ne (by omega)))
theorem w5_0 (hj : IJ D I) {w : Nat} (hw : w < 5) (e : I (D 5 w) = some (5, w)) (v : Int32) : hs (ov I (tC D T E) h) (D 5 w) (true, .inl (2, (twF D T w).set 0 (.int v))) = ov I (tC D (upd T (9 + 3 * w) v) E) h := by
  refine wr hj e ?_ (fun k' n' hk hn hne => tC_c hk hn (fun _ j hj => upd_ne (by omega)) (fun _ => upd_ne (by omega)) (fun q x hx => upd_ne (fun r => hne ⟨q, by omega⟩)) (fun _ x _ _ => upd_ne (by omega)) (fun _ => upd_ne (by omega)) (fun _ s _ => upd_ne (by omega)))
  rw [tC_5]
  simp only [twF, List.set_cons_zero, List.set_cons_succ]
  rw [upd_eq, upd_ne (by omega), upd_ne (by omega)]
theorem w5_1 (hj : IJ D I) {w : Nat} (hw : w < 5) (e : I (D 5 w) = some (5, w)) (v : Int32) : hs (ov I (tC D T E) h) (D 5 w) (true, .inl (2, (twF D T w).set 1 (.int v))) = ov I (tC D (upd T (9 + 3 * w + 1) v) E) h := by
  refine wr hj e ?_ (fun k' n' hk hn hne => tC_c hk hn (fun _ j hj => upd_ne (by omega)) (fun _ => upd_ne (by omega)) (fun q x hx => upd_ne (fun r => hne ⟨q, by omega⟩)) (fun _ x _ _ => upd_ne (by omega)) (fun _ => upd_ne (by omega)) (fun _ s _ => upd_ne (by omega)))
  rw [tC_5]
  simp only [twF, List.set_cons_zero, List.set_cons_succ]
  rw [upd_ne (by omega), upd_eq, upd_ne (by omega)]
theorem w5_2 (hj : IJ D I) {w : Nat} (hw : w < 5) (e : I (D 5 w) = some (5, w)) (v : Int32) : hs (ov I (tC D T E) h) (D 5 w) (true, .inl (2, (twF D T w).set 2 (.int v))) = ov I (tC D (upd T (9 + 3 * w + 2) v) E) h := by
  refine wr hj e ?_ (fun k' n' hk hn hne => tC_c hk hn (fun _ j hj => upd_ne (by omega)) (fun _ => upd_ne (by omega)) (fun q x hx => upd_ne (fun r => hne ⟨q, by omega⟩)) (fun _ x _ _ => upd_ne (by omega)) (fun _ => upd_ne (by omega)) (fun _ s _ => upd_ne (by omega)))
  rw [tC_5]
  simp only [twF, List.set_cons_zero, List.set_cons_succ]
  rw [upd_ne (by omega), upd_ne (by omega), upd_eq]
theorem w7_0 (hj : IJ D I) {t : Nat} (ht : t < 6) (e : I (D 7 t) = some (7, t)) (v : Int32) : hs (ov I (tC D T E) h) (D 7 t) (true, .inl (4, (trF D T t).set 4 (.int v))) = ov I (tC D (upd T (24 + 49 * t + 0) v) E) h := by
  refine wr hj e ?_ (fun k' n' hk hn hne => tC_c hk hn (fun _ j hj => upd_ne (by omega)) (fun _ => upd_ne (by omega)) (fun q x hx => upd_ne (by subst q; have h1 : n' < 5 := hn; omega)) (fun q x h9 h2 => upd_ne (fun r => hne ⟨q, by omega⟩)) (fun q => upd_ne (by omega)) (fun q s hs => upd_ne (by omega)))
  rw [tC_7]
  simp only [trF, tOf, List.set_cons_zero, List.set_cons_succ]
  rw [upd_ne (by omega), upd_eq, upd_ne (by omega), upd_ne (by omega), upd_ne (by omega), upd_ne (by omega), upd_ne (by omega), upd_ne (by omega)]
theorem w7_3 (hj : IJ D I) {t : Nat} (ht : t < 6) (e : I (D 7 t) = some (7, t)) (v : Int32) : hs (ov I (tC D T E) h) (D 7 t) (true, .inl (4, (trF D T t).set 5 (.int v))) = ov I (tC D (upd T (24 + 49 * t + 3) v) E) h := by
  refine wr hj e ?_ (fun k' n' hk hn hne => tC_c hk hn (fun _ j hj => upd_ne (by omega)) (fun _ => upd_ne (by omega)) (fun q x hx => upd_ne (by subst q; have h1 : n' < 5 := hn; omega)) (fun q x h9 h2 => upd_ne (fun r => hne ⟨q, by omega⟩)) (fun q => upd_ne (by omega)) (fun q s hs => upd_ne (by omega)))
  rw [tC_7]
  simp only [trF, tOf, List.set_cons_zero, List.set_cons_succ]
  rw [upd_ne (by omega), upd_ne (by omega), upd_eq, upd_ne (by omega), upd_ne (by omega), upd_ne (by omega), upd_ne (by omega), upd_ne (by omega)]
theorem w7_4 (hj : IJ D I) {t : Nat} (ht : t < 6) (e : I (D 7 t) = some (7, t)) (v : Int32) : hs (ov I (tC D T E) h) (D 7 t) (true, .inl (4, (trF D T t).set 6 (.int v))) = ov I (tC D (upd T (24 + 49 * t + 4) v) E) h := by
  refine wr hj e ?_ (fun k' n' hk hn hne => tC_c hk hn (fun _ j hj => upd_ne (by omega)) (fun _ => upd_ne (by omega)) (fun q x hx => upd_ne (by subst q; have h1 : n' < 5 := hn; omega)) (fun q x h9 h2 => upd_ne (fun r => hne ⟨q, by omega⟩)) (fun q => upd_ne (by omega)) (fun q s hs => upd_ne (by omega)))
  rw [tC_7]
  simp only [trF, tOf, List.set_cons_zero, List.set_cons_succ]
  rw [upd_ne (by omega), upd_ne (by omega), upd_ne (by omega), upd_eq, upd_ne (by omega), upd_ne (by omega), upd_ne (by omega), upd_ne (by omega)]
theorem w7_5 (hj : IJ D I) {t : Nat} (ht : t < 6) (e : I (D 7 t) = some (7, t)) (v : Int32) : hs (ov I (tC D T E) h) (D 7 t) (true, .inl (4, (trF D T t).set 7 (.int v))) = ov I (tC D (upd T (24 + 49 * t + 5) v) E) h := by
  refine wr hj e ?_ (fun k' n' hk hn hne => tC_c hk hn (fun _ j hj => upd_ne (by omega)) (fun _ => upd_ne (by omega)) (fun q x hx => upd_ne (by subst q; have h1 : n' < 5 := hn; omega)) (fun q x h9 h2 => upd_ne (fun r => hne ⟨q, by omega⟩)) (fun q => upd_ne (by omega)) (fun q s hs => upd_ne (by omega)))
  rw [tC_7]
  simp only [trF, tOf, List.set_cons_zero, List.set_cons_succ]
  rw [upd_ne (by omega), upd_ne (by omega), upd_ne (by omega), upd_ne (by omega), upd_eq, upd_ne (by omega), upd_ne (by omega), upd_ne (by omega)]
theorem w7_6 (hj : IJ D I) {t : Nat} (ht : t < 6) (e : I (D 7 t) = some (7, t)) (v : Int32) : hs (ov I (tC D T E) h) (D 7 t) (true, .inl (4, (trF D T t).set 8 (.int v))) = ov I (tC D (upd T (24 + 49 * t + 6) v) E) h := by
  refine wr hj e ?_ (fun k' n' hk hn hne => tC_c hk hn (fun _ j hj => upd_ne (by omega)) (fun _ => upd_ne (by omega)) (fun q x hx => upd_ne (by subst q; have h1 : n' < 5 := hn; omega)) (fun q x h9 h2 => upd_ne (fun r => hne ⟨q, by omega⟩)) (fun q => upd_ne (by omega)) (fun q s hs => upd_ne (by omega)))
  rw [tC_7]
  simp only [trF, tOf, List.set_cons_zero, List.set_cons_succ]
  rw [upd_ne (by omega), upd_ne (by omega), upd_ne (by omega), upd_ne (by omega), upd_ne (by omega), upd_eq, upd_ne (by omega), upd_ne (by omega)]
theorem w7_7 (hj : IJ D I) {t : Nat} (ht : t < 6) (e : I (D 7 t) = some (7, t)) (v : Int32) : hs (ov I (tC D T E) h) (D 7 t) (true, .inl (4, (trF D T t).set 9 (.int v))) = ov I (tC D (upd T (24 + 49 * t + 7) v) E) h := by
  refine wr hj e ?_ (fun k' n' hk hn hne => tC_c hk hn (fun _ j hj => upd_ne (by omega)) (fun _ => upd_ne (by omega)) (fun q x hx => upd_ne (by subst q; have h1 : n' < 5 := hn; omega)) (fun q x h9 h2 => upd_ne (fun r => hne ⟨q, by omega⟩)) (fun q => upd_ne (by omega)) (fun q s hs => upd_ne (by omega)))
  rw [tC_7]
  simp only [trF, tOf, List.set_cons_zero, List.set_cons_succ]
  rw [upd_ne (by omega), upd_ne (by omega), upd_ne (by omega), upd_ne (by omega), upd_ne (by omega), upd_ne (by omega), upd_eq, upd_ne (by omega)]
theorem w7_8 (hj : IJ D I) {t : Nat} (ht : t < 6) (e : I (D 7 t) = some (7, t)) (v : Int32) : hs (ov I (tC D T E) h) (D 7 t) (true, .inl (4, (trF D T t).set 10 (.int v))) = ov I (tC D (upd T (24 + 49 * t + 8) v) E) h := by
  refine wr hj e ?_ (fun k' n' hk hn hne => tC_c hk hn (fun _ j hj => upd_ne (by omega)) (fun _ => upd_ne (by omega)) (fun q x hx => upd_ne (by subst q; have h1 : n' < 5 := hn; omega)) (fun q x h9 h2 => upd_ne (fun r => hne ⟨q, by omega⟩)) (fun q => upd_ne (by omega)) (fun q s hs => upd_ne (by omega)))
  rw [tC_7]
  simp only [trF, tOf, List.set_cons_zero, List.set_cons_succ]
  rw [upd_ne (by omega), upd_ne (by omega), upd_ne (by omega), upd_ne (by omega), upd_ne (by omega), upd_ne (by omega), upd_ne (by omega), upd_eq]
theorem w10 (hj : IJ D I) {t s : Nat} (ht : t < 6) (hs8 : s < 8) (e : I (D 10 t) = some (10, t)) (v : Int32) : hs (ov I (tC D T E) h) (D 10 t) (true, .inr (.inl (0, 8, upd (prF T t) s v))) = ov I (tC D (upd T (24 + 49 * t + (9 + 5 * s + 4)) v) E) h := by
  refine wr hj e ?_ (fun k' n' hk hn hne => tC_c hk hn (fun _ j hj => upd_ne (by omega)) (fun _ => upd_ne (by omega)) (fun q x hx => upd_ne (by subst q; have h1 : n' < 5 := hn; omega)) (fun q x h9 h2 => upd_ne (ix10 h9 hs8)) (fun q => upd_ne (ix10 (by omega) hs8)) (fun q s' hs' => upd_ne (fun r => hne ⟨q, by omega⟩)))
  have e' : prF (upd T (24 + 49 * t + (9 + 5 * s + 4)) v) t = upd (prF T t) s v := by
    funext j
    by_cases q : j = s
    · subst q
      rw [upd_eq]
      unfold prF
      rw [if_pos hs8]
      exact upd_eq
    · rw [upd_ne q]
      unfold prF
      split
      · exact upd_ne (by omega)
      · rfl
  rw [tC_10, e']
theorem w6 (hj : IJ D I) {w i : Nat} (hw : w < 5) (hi : i < 60) (e : I (D 6 w) = some (6, w)) (v : Int32) : hs (ov I (tC D T E) h) (D 6 w) (true, .inr (.inl (0, 60, upd (tkF E w) i v))) = ov I (tC D T (upd E (60 * w + i) v)) h := by
  have e' : tkF (upd E (60 * w + i) v) w = upd (tkF E w) i v := by
    funext j
    by_cases q : j = i
    · subst q
      rw [upd_eq]
      unfold tkF
      rw [if_pos hi]
      exact upd_eq
    · rw [upd_ne q]
      unfold tkF
      split
      · exact upd_ne (by omega)
      · rfl
  refine wr hj e (by rw [tC_6, e']) (fun k' n' hk hn hne => ?_)
  have w1 : nW (upd E (60 * w + i) v) = nW E := by unfold nW; rw [upd_ne (by omega)]
  by_cases q : k' = 0
  · subst q; rw [tC_0, tC_0]
  by_cases q : k' = 1
  · subst q; rw [tC_1, tC_1, upd_ne (by omega)]
  by_cases q : k' = 2
  · subst q; rw [tC_2, tC_2]
  by_cases q : k' = 3
  · subst q; rw [tC_3, tC_3, w1, upd_ne (by omega)]
  by_cases q : k' = 4
  · subst q; rw [tC_4, tC_4, w1]
  by_cases q : k' = 5
  · subst q; rw [tC_5, tC_5]
  by_cases q : k' = 6
  · subst q
    have hn' : n' < 5 := hn
    have e2 : tkF (upd E (60 * w + i) v) n' = tkF E n' := by
      funext j
      unfold tkF
      split
      · exact upd_ne (fun r => hne ⟨rfl, by omega⟩)
      · rfl
    rw [tC_6, tC_6, e2]
  by_cases q : k' = 7
  · subst q; rw [tC_7, tC_7]
  by_cases q : k' = 8
  · subst q; rw [tC_8, tC_8, upd_ne (by omega)]
  by_cases q : k' = 9
  · subst q; rw [tC_9, tC_9]
  · have q : k' = 10 := by omega
    subst q; rw [tC_10, tC_10]
end WR
