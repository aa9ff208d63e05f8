/-! the component: a theatre begins -/
def tB0 : Nat → Int32 := fun j => if j = 1 then 100 else 0
def eB0 : Nat → Int32 := fun _ => 0
def dB0 (d a1 a3 e0 : Nat) : Nat → Nat → Nat := fun k _ => if k = 0 then d else if k = 1 then a1 else if k = 3 then a3 else e0
def iB0 (d a1 a3 : Nat) : IT2 := fun q => if q = d then some (0, 0) else if q = a1 then some (1, 0) else if q = a3 then some (3, 0) else none
section TB
variable {X : XT} {h H : HP}
theorem th_base {d a1 a3 e0 : Nat} {b : Bool} {f : Nat → Option Nat} (e0h : xR X 3 = some e0) (he0 : h e0 = some (oaC b 0 f)) (fd : h d = none) (f1 : h a1 = none) (f3 : h a3 = none) (d1 : ¬ d = a1) (d3 : ¬ d = a3) (d13 : ¬ a1 = a3)
    (ed : H d = some (true, .inl (1, [.ref a1, .ref a3, .int 0, .int 100, .int 0, .int 0, .int 0, .int 0, .int 0, .int 0]))) (e1 : H a1 = some (alC true 0 e0 0)) (e3 : H a3 = some (alC true 0 e0 0)) (eo : ∀ q, ¬ q = d → ¬ q = a1 → ¬ q = a3 → H q = h q) :
    H = ov (iB0 d a1 a3) (tC (dB0 d a1 a3 e0) tB0 eB0) h ∧ BV X (iB0 d a1 a3) (dB0 d a1 a3 e0) tB0 eB0 h 0 := by
  have J0 : iB0 d a1 a3 d = some (0, 0) := if_pos rfl
  have J1 : iB0 d a1 a3 a1 = some (1, 0) := by unfold iB0; rw [if_neg (Ne.symm d1), if_pos rfl]
  have J3 : iB0 d a1 a3 a3 = some (3, 0) := by unfold iB0; rw [if_neg (Ne.symm d3), if_neg (Ne.symm d13), if_pos rfl]
  have Jo : ∀ q, ¬ q = d → ¬ q = a1 → ¬ q = a3 → iB0 d a1 a3 q = none := fun q q0 q1 q3 => by unfold iB0; rw [if_neg q0, if_neg q1, if_neg q3]
  have c3 : ∀ q k j, iB0 d a1 a3 q = some (k, j) → (q = d ∧ k = 0 ∧ j = 0) ∨ (q = a1 ∧ k = 1 ∧ j = 0) ∨ (q = a3 ∧ k = 3 ∧ j = 0) := by
    intro q k j e
    by_cases q0 : q = d
    · subst q0; rw [J0] at e; cases e; exact .inl ⟨rfl, rfl, rfl⟩
    by_cases q1 : q = a1
    · subst q1; rw [J1] at e; cases e; exact .inr (.inl ⟨rfl, rfl, rfl⟩)
    by_cases q3 : q = a3
    · subst q3; rw [J3] at e; cases e; exact .inr (.inr ⟨rfl, rfl, rfl⟩)
    · rw [Jo q q0 q1 q3] at e; cases e
  have zN : nT tB0 = 0 := rfl
  constructor
  · funext q
    by_cases q0 : q = d
    · subst q0; rw [ov_at J0, ed]; rfl
    by_cases q1 : q = a1
    · subst q1; rw [ov_at J1, e1]; rfl
    by_cases q3 : q = a3
    · subst q3; rw [ov_at J3, e3]; rfl
    · rw [ov_no (Jo q q0 q1 q3)]; exact eo q q0 q1 q3
  · refine ⟨fun q k j e => ?_, fun k j cv => ?_, fun q p e => ?_, fun t s h1 _ => ?_, rfl, e0, f, b, e0h, he0, fun _ => rfl, fun t h1 _ => ?_, fun q k j e => ?_, fun _ => rfl⟩
    · rcases c3 q k j e with ⟨rfl, rfl, rfl⟩ | ⟨rfl, rfl, rfl⟩ | ⟨rfl, rfl, rfl⟩
      · exact ⟨rfl, by decide, by omega⟩
      · exact ⟨rfl, by decide, by omega⟩
      · exact ⟨rfl, by decide, by omega⟩
    · unfold covB at cv
      rw [zN] at cv
      split at cv
      · subst cv; exact J0
      · subst cv; exact J1
      · omega
      · subst cv; exact J3
      · omega
      · omega
      · omega
      · omega
      · omega
      · omega
      · omega
      · exact cv.elim
    · obtain ⟨k, j⟩ := p
      rcases c3 q k j e with ⟨rfl, -, -⟩ | ⟨rfl, -, -⟩ | ⟨rfl, -, -⟩
      · exact fd
      · exact f1
      · exact f3
    · rw [zN] at h1; omega
    · rw [zN] at h1; omega
    · rcases c3 q k j e with ⟨-, rfl, rfl⟩ | ⟨-, rfl, rfl⟩ | ⟨-, rfl, rfl⟩
      · exact rfl
      · exact rfl
      · exact rfl
end TB
