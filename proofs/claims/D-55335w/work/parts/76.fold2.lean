/-! a tour more: the cells come together again -/
/-- which cells a theatre has while it is built: w towns -/
def covB (w : Nat) (T : Nat → Int32) : Nat → Nat → Prop
  | 0, n => n = 0
  | 1, n => n = 0
  | 2, n => n = 0 ∧ 0 < nT T
  | 3, n => n = 0
  | 4, n => n = 0 ∧ 0 < w
  | 5, n => n < w
  | 6, n => n < w
  | 7, n => n < nT T
  | 8, n => n < nT T
  | 9, n => n < nT T ∧ 0 < nS T n
  | 10, n => n < nT T
  | _, _ => False
def BV (X : XT) (I : IT2) (D : Nat → Nat → Nat) (T E : Nat → Int32) (h : HP) (w : Nat) : Prop := IJ D I ∧ (∀ k n, covB w T k n → I (D k n) = some (k, n)) ∧ bas I h ∧ (∀ t s, t < nT T → s < nS T t → ∃ b, h (D 11 (8 * t + s)) = some (b, .inl (7, stF T t s))) ∧ nW E = w ∧
  ∃ e0 f b, xR X 3 = some e0 ∧ h e0 = some (oaC b 0 f) ∧ (nT T = 0 → D 2 0 = e0) ∧ (∀ t, t < nT T → nS T t = 0 → D 9 t = e0) ∧ (∀ q k j, I q = some (k, j) → covB w T k j) ∧ (w = 0 → D 4 0 = e0)
theorem cov5 (T : Nat → Int32) : ∀ k n, cov T k n ↔ covB 5 T k n
  | 0, _ => Iff.rfl
  | 1, _ => Iff.rfl
  | 2, _ => Iff.rfl
  | 3, _ => Iff.rfl
  | 4, _ => ⟨fun q => ⟨q, by omega⟩, fun q => q.1⟩
  | 5, _ => Iff.rfl
  | 6, _ => Iff.rfl
  | 7, _ => Iff.rfl
  | 8, _ => Iff.rfl
  | 9, _ => Iff.rfl
  | 10, _ => Iff.rfl
  | _ + 11, _ => Iff.rfl
section FT
variable {X : XT} {h : HP} {I : IT2} {D : Nat → Nat → Nat} {T E : Nat → Int32}
theorem DV_B (v : DV X I D T E h) : BV X I D T E h 5 := by
  obtain ⟨v0, v1, v2, v3, v4, e0, f, b, v5, v6, v7, v8, v9⟩ := v
  exact ⟨v0, fun k n q => v1 k n ((cov5 T k n).mpr q), v2, v3, v4, e0, f, b, v5, v6, v7, v8, fun q k j r => (cov5 T k j).mp (v9 q k j r), fun q => by omega⟩
theorem B_DV (v : BV X I D T E h 5) : DV X I D T E h := by
  obtain ⟨v0, v1, v2, v3, v4, e0, f, b, v5, v6, v7, v8, v9, -⟩ := v
  exact ⟨v0, fun k n q => v1 k n ((cov5 T k n).mp q), v2, v3, v4, e0, f, b, v5, v6, v7, v8, fun q k j r => (cov5 T k j).mpr (v9 q k j r)⟩
/-- places with one tour more -/
def dTr (D : Nat → Nat → Nat) (n a7 a8 a9 a10 a2 : Nat) (st : Nat → Nat) : Nat → Nat → Nat := fun k j => if k = 2 then a2 else if j = n ∧ k = 7 then a7 else if j = n ∧ k = 8 then a8 else if j = n ∧ k = 9 then a9 else if j = n ∧ k = 10 then a10 else if k = 11 ∧ 8 * n ≤ j ∧ j < 8 * n + 8 then st (j - 8 * n) else D k j
def iTr (I : IT2) (n m a7 a8 a9 a10 a2 : Nat) : IT2 := fun q => if q = a7 then some (7, n) else if q = a8 then some (8, n) else if q = a10 then some (10, n) else if 0 < m ∧ q = a9 then some (9, n) else if q = a2 then some (2, 0) else I q
theorem dTr_o {n a7 a8 a9 a10 a2 : Nat} {st : Nat → Nat} {k j : Nat} (h2 : ¬ k = 2) (hj : k = 7 ∨ k = 8 ∨ k = 9 ∨ k = 10 → ¬ j = n) (h11 : k = 11 → j < 8 * n ∨ 8 * n + 8 ≤ j) : dTr D n a7 a8 a9 a10 a2 st k j = D k j := by
  unfold dTr
  rw [if_neg h2, if_neg (by omega), if_neg (by omega), if_neg (by omega), if_neg (by omega), if_neg (by omega)]
theorem dTr_2 {n a7 a8 a9 a10 a2 j : Nat} {st : Nat → Nat} : dTr D n a7 a8 a9 a10 a2 st 2 j = a2 := if_pos rfl
theorem dTr_7 {n a7 a8 a9 a10 a2 : Nat} {st : Nat → Nat} : dTr D n a7 a8 a9 a10 a2 st 7 n = a7 := by unfold dTr; rw [if_neg (by omega), if_pos ⟨rfl, rfl⟩]
theorem dTr_8 {n a7 a8 a9 a10 a2 : Nat} {st : Nat → Nat} : dTr D n a7 a8 a9 a10 a2 st 8 n = a8 := by unfold dTr; rw [if_neg (by omega), if_neg (by omega), if_pos ⟨rfl, rfl⟩]
theorem dTr_9 {n a7 a8 a9 a10 a2 : Nat} {st : Nat → Nat} : dTr D n a7 a8 a9 a10 a2 st 9 n = a9 := by unfold dTr; rw [if_neg (by omega), if_neg (by omega), if_neg (by omega), if_pos ⟨rfl, rfl⟩]
theorem dTr_10 {n a7 a8 a9 a10 a2 : Nat} {st : Nat → Nat} : dTr D n a7 a8 a9 a10 a2 st 10 n = a10 := by unfold dTr; rw [if_neg (by omega), if_neg (by omega), if_neg (by omega), if_neg (by omega), if_pos ⟨rfl, rfl⟩]
theorem dTr_11 {n a7 a8 a9 a10 a2 s : Nat} {st : Nat → Nat} (hs8 : s < 8) : dTr D n a7 a8 a9 a10 a2 st 11 (8 * n + s) = st s := by
  unfold dTr
  rw [if_neg (by omega), if_neg (by omega), if_neg (by omega), if_neg (by omega), if_neg (by omega), if_pos ⟨rfl, by omega, by omega⟩, Nat.add_sub_cancel_left]
theorem fold_tour {w : Nat} (v : BV X I D T E h w) (h6 : nT T < 6) (hS8 : ∀ t', t' < nT T → nS T t' ≤ 8) {T' E' : Nat → Int32} {a7 a8 a9 a10 a2 : Nat} {st : Nat → Nat} {H : HP}
    (f7 : I a7 = none ∧ h a7 = none) (f8 : I a8 = none ∧ h a8 = none) (f10 : I a10 = none ∧ h a10 = none) (f9 : (0 < nS T' (nT T) → I a9 = none ∧ h a9 = none ∧ ¬ a9 = a7 ∧ ¬ a9 = a8 ∧ ¬ a9 = a10 ∧ ¬ a9 = a2) ∧ (nS T' (nT T) = 0 → xR X 3 = some a9))
    (f2 : (0 < nT T ∧ a2 = D 2 0) ∨ (nT T = 0 ∧ I a2 = none ∧ h a2 = none)) (d78 : ¬ a7 = a8) (d70 : ¬ a7 = a10) (d80 : ¬ a8 = a10) (d72 : ¬ a7 = a2) (d82 : ¬ a8 = a2) (d02 : ¬ a10 = a2)
    (tT : ∀ j, j < 24 → ¬ j = 8 → T' j = T j) (tN : nT T' = nT T + 1) (tO : ∀ t', t' < nT T → ∀ u, u < 49 → T' (24 + 49 * t' + u) = T (24 + 49 * t' + u)) (tS : nS T' (nT T) ≤ 8)
    (eE : (∀ j, j < 300 → E' j = E j) ∧ E' 301 = E 301 ∧ nW E' = nW E ∧ ∀ t', t' < nT T → E' (310 + t') = E (310 + t')) (hst : ∀ s, s < nS T' (nT T) → ∃ b, h (st s) = some (b, .inl (7, stF T' (nT T) s)))
    (e7 : H a7 = some (tC (dTr D (nT T) a7 a8 a9 a10 a2 st) T' E' 7 (nT T))) (e8 : H a8 = some (tC (dTr D (nT T) a7 a8 a9 a10 a2 st) T' E' 8 (nT T))) (e10 : H a10 = some (tC (dTr D (nT T) a7 a8 a9 a10 a2 st) T' E' 10 (nT T))) (e9 : 0 < nS T' (nT T) → H a9 = some (tC (dTr D (nT T) a7 a8 a9 a10 a2 st) T' E' 9 (nT T)))
    (e1 : H (D 1 0) = some (tC (dTr D (nT T) a7 a8 a9 a10 a2 st) T' E' 1 0)) (e2 : H a2 = some (tC (dTr D (nT T) a7 a8 a9 a10 a2 st) T' E' 2 0))
    (eo : ∀ q, ¬ q = a7 → ¬ q = a8 → ¬ q = a10 → ¬ (0 < nS T' (nT T) ∧ q = a9) → ¬ q = D 1 0 → ¬ q = a2 → H q = ov I (tC D T E) h q) :
    H = ov (iTr I (nT T) (nS T' (nT T)) a7 a8 a9 a10 a2) (tC (dTr D (nT T) a7 a8 a9 a10 a2 st) T' E') h ∧ BV X (iTr I (nT T) (nS T' (nT T)) a7 a8 a9 a10 a2) (dTr D (nT T) a7 a8 a9 a10 a2 st) T' E' h w := by
  obtain ⟨v0, v1, v2, v3, v4, e0, f, b, v5, v6, v7, v8, v9, vA⟩ := v
  have i1 := v1 1 0 rfl
  have nSo : ∀ t', t' < nT T → nS T' t' = nS T t' := fun t' h' => by show nn (T' (24 + 49 * t' + 2)) = nn (T (24 + 49 * t' + 2)); rw [tO t' h' 2 (by omega)]
  -- the new index, by places
  have J7 : iTr I (nT T) (nS T' (nT T)) a7 a8 a9 a10 a2 a7 = some (7, nT T) := if_pos rfl
  have J8 : iTr I (nT T) (nS T' (nT T)) a7 a8 a9 a10 a2 a8 = some (8, nT T) := by unfold iTr; rw [if_neg (Ne.symm d78), if_pos rfl]
  have J10 : iTr I (nT T) (nS T' (nT T)) a7 a8 a9 a10 a2 a10 = some (10, nT T) := by unfold iTr; rw [if_neg (Ne.symm d70), if_neg (Ne.symm d80), if_pos rfl]
  have J9 : 0 < nS T' (nT T) → iTr I (nT T) (nS T' (nT T)) a7 a8 a9 a10 a2 a9 = some (9, nT T) := fun z => by
    obtain ⟨-, -, z1, z2, z3, -⟩ := f9.1 z
    unfold iTr; rw [if_neg z1, if_neg z2, if_neg z3, if_pos ⟨z, rfl⟩]
  have J2 : iTr I (nT T) (nS T' (nT T)) a7 a8 a9 a10 a2 a2 = some (2, 0) := by
    unfold iTr
    rw [if_neg (Ne.symm d72), if_neg (Ne.symm d82), if_neg (Ne.symm d02), if_neg (fun r => (f9.1 r.1).2.2.2.2.2 r.2.symm), if_pos rfl]
  have Jo : ∀ q, ¬ q = a7 → ¬ q = a8 → ¬ q = a10 → ¬ (0 < nS T' (nT T) ∧ q = a9) → ¬ q = a2 → iTr I (nT T) (nS T' (nT T)) a7 a8 a9 a10 a2 q = I q := fun q n7 n8 n10 n9 n2 => by
    unfold iTr
    rw [if_neg n7, if_neg n8, if_neg n10, if_neg n9, if_neg n2]
  -- an old place is none of the new ones
  have old : ∀ q k j, I q = some (k, j) → ¬ q = a7 ∧ ¬ q = a8 ∧ ¬ q = a10 ∧ ¬ (0 < nS T' (nT T) ∧ q = a9) ∧ (¬ k = 2 → ¬ q = a2) := by
    intro q k j e
    refine ⟨fun r => (by rw [r, f7.1] at e; cases e), fun r => (by rw [r, f8.1] at e; cases e), fun r => (by rw [r, f10.1] at e; cases e), fun r => (by rw [r.2, (f9.1 r.1).1] at e; cases e), fun nk r => ?_⟩
    rcases f2 with ⟨z1, z2⟩ | ⟨z1, z2, z3⟩
    · rw [r, z2, v1 2 0 ⟨rfl, z1⟩] at e
      cases e
      exact nk rfl
    · rw [r, z2] at e; cases e
  have o1 := old _ _ _ i1
  have n2 := o1.2.2.2.2 (by omega)
  have key : ∀ q k j, I q = some (k, j) → ¬ q = D 1 0 → ¬ q = a2 → tC (dTr D (nT T) a7 a8 a9 a10 a2 st) T' E' k j = tC D T E k j := by
    intro q k j e q1 q2
    obtain ⟨z1, z2, z3⟩ := v0 q k j e
    have cv := v9 q k j e
    have hj : k = 7 ∨ k = 8 ∨ k = 9 ∨ k = 10 → j < nT T := by
      intro r
      rcases r with rfl | rfl | rfl | rfl
      · exact cv
      · exact cv
      · exact cv.1
      · exact cv
    have k1 : ¬ k = 1 := fun r => by subst r; have : j = 0 := cv; subst this; exact q1 z1
    have k2 : ¬ k = 2 := fun r => by
      subst r
      have c2 : j = 0 ∧ 0 < nT T := cv
      rcases f2 with ⟨y1, y2⟩ | ⟨y1, y2, y3⟩
      · exact q2 (by rw [z1, c2.1, y2])
      · omega
    refine tC_x (T := T) (E := E) z3 z2 (fun k j h1 _ h3 => dTr_o (by omega) (by omega) (by omega)) (fun _ i hi => tT i (by omega) (by omega)) (fun r => absurd r k1) (fun r => absurd r k2) ⟨eE.2.1, eE.2.2.1⟩ (fun i _ => dTr_o (by omega) (by omega) (by omega)) (fun r u hu => ?_) eE.1 (fun r => ?_) (fun r => ?_) (fun r => ?_) (fun r s hs8 => ?_)
    · subst r
      have z2 : j < 5 := z2
      exact tT _ (by omega) (by omega)
    · have hj := hj (.inl r)
      exact ⟨fun u hu _ => tO j hj u (by omega), dTr_o (by omega) (by omega) (by omega), dTr_o (by omega) (by omega) (by omega)⟩
    · have hj := hj (.inr (.inl r))
      exact ⟨nSo j hj, eE.2.2.2 j hj, dTr_o (by omega) (by omega) (by omega)⟩
    · have hj := hj (.inr (.inr (.inl r)))
      have h8 := hS8 j hj
      exact ⟨nSo j hj, fun s hs8 => dTr_o (by omega) (by omega) (by omega)⟩
    · have hj := hj (.inr (.inr (.inr r)))
      exact tO j hj _ (by omega)
  constructor
  · funext q
    by_cases q7 : q = a7
    · subst q7; rw [ov_at J7]; exact e7
    by_cases q8 : q = a8
    · subst q8; rw [ov_at J8]; exact e8
    by_cases q10 : q = a10
    · subst q10; rw [ov_at J10]; exact e10
    by_cases q9 : 0 < nS T' (nT T) ∧ q = a9
    · obtain ⟨z, rfl⟩ := q9; rw [ov_at (J9 z)]; exact e9 z
    by_cases q2 : q = a2
    · subst q2; rw [ov_at J2]; exact e2
    by_cases q1 : q = D 1 0
    · subst q1
      rw [ov_at (show iTr I (nT T) (nS T' (nT T)) a7 a8 a9 a10 a2 (D 1 0) = some (1, 0) by rw [Jo _ q7 q8 q10 q9 q2]; exact i1)]
      exact e1
    rw [eo q q7 q8 q10 q9 q1 q2]
    unfold ov
    rw [Jo q q7 q8 q10 q9 q2]
    cases e : I q with
    | none => rfl
    | some p =>
      obtain ⟨k, j⟩ := p
      exact congrArg some (key q k j e q1 q2).symm
  · have cvn : ∀ k j, covB w T k j → covB w T' k j := by
      intro k j cv
      unfold covB at cv ⊢
      rw [tN]
      split at cv <;> first | exact cv | exact ⟨cv.1, by omega⟩ | exact Nat.lt_succ_of_lt cv | exact ⟨Nat.lt_succ_of_lt cv.1, by rw [nSo _ cv.1]; exact cv.2⟩
    have oldD : ∀ q k j, I q = some (k, j) → ¬ q = a2 → dTr D (nT T) a7 a8 a9 a10 a2 st k j = D k j := by
      intro q k j e q2
      obtain ⟨z1, z2, z3⟩ := v0 q k j e
      have cv := v9 q k j e
      refine dTr_o (fun r => ?_) (fun r => ?_) (fun r => by omega)
      · subst r
        have c2 : j = 0 ∧ 0 < nT T := cv
        rcases f2 with ⟨y1, y2⟩ | ⟨y1, y2, y3⟩
        · exact q2 (by rw [z1, c2.1, y2])
        · omega
      · rcases r with rfl | rfl | rfl | rfl
        · have : j < nT T := cv; omega
        · have : j < nT T := cv; omega
        · have : j < nT T := cv.1; omega
        · have : j < nT T := cv; omega
    have cases6 : ∀ q k j, iTr I (nT T) (nS T' (nT T)) a7 a8 a9 a10 a2 q = some (k, j) → (q = a7 ∧ k = 7 ∧ j = nT T) ∨ (q = a8 ∧ k = 8 ∧ j = nT T) ∨ (q = a10 ∧ k = 10 ∧ j = nT T) ∨ (0 < nS T' (nT T) ∧ q = a9 ∧ k = 9 ∧ j = nT T) ∨ (q = a2 ∧ k = 2 ∧ j = 0) ∨ (¬ q = a2 ∧ I q = some (k, j)) := by
      intro q k j e
      by_cases q7 : q = a7
      · subst q7; rw [J7] at e; cases e; exact .inl ⟨rfl, rfl, rfl⟩
      by_cases q8 : q = a8
      · subst q8; rw [J8] at e; cases e; exact .inr (.inl ⟨rfl, rfl, rfl⟩)
      by_cases q10 : q = a10
      · subst q10; rw [J10] at e; cases e; exact .inr (.inr (.inl ⟨rfl, rfl, rfl⟩))
      by_cases q9 : 0 < nS T' (nT T) ∧ q = a9
      · obtain ⟨z, rfl⟩ := q9; rw [J9 z] at e; cases e; exact .inr (.inr (.inr (.inl ⟨z, rfl, rfl, rfl⟩)))
      by_cases q2 : q = a2
      · subst q2; rw [J2] at e; cases e; exact .inr (.inr (.inr (.inr (.inl ⟨rfl, rfl, rfl⟩))))
      · rw [Jo q q7 q8 q10 q9 q2] at e
        exact .inr (.inr (.inr (.inr (.inr ⟨q2, e⟩))))
    have ck : ∀ k j, covB w T' k j → (k = 7 ∨ k = 8 ∨ k = 10 → j = nT T → False) → (k = 9 → j = nT T → False) → ¬ k = 2 → covB w T k j := by
      intro k j cv c1 c2 c3
      unfold covB at cv ⊢
      rw [tN] at cv
      split at cv
      · exact cv
      · exact cv
      · exact absurd rfl c3
      · exact cv
      · exact cv
      · exact cv
      · exact cv
      · exact Nat.lt_of_le_of_ne (Nat.le_of_lt_succ cv) (c1 (by omega))
      · exact Nat.lt_of_le_of_ne (Nat.le_of_lt_succ cv) (c1 (by omega))
      · have h1 := c2 rfl
        have h2 : _ < nT T := Nat.lt_of_le_of_ne (Nat.le_of_lt_succ cv.1) h1
        exact ⟨h2, by rw [← nSo _ h2]; exact cv.2⟩
      · exact Nat.lt_of_le_of_ne (Nat.le_of_lt_succ cv) (c1 (by omega))
      · exact cv
    refine ⟨fun q k j e => ?_, fun k j cv => ?_, fun q p e => ?_, fun t' s h1 h2 => ?_, by rw [eE.2.2.1]; exact v4, e0, f, b, v5, v6, fun z => by omega, fun t' h1 h2 => ?_, fun q k j e => ?_, fun z => by rw [dTr_o (by omega) (by omega) (by omega)]; exact vA z⟩
    · rcases cases6 q k j e with ⟨rfl, rfl, rfl⟩ | ⟨rfl, rfl, rfl⟩ | ⟨rfl, rfl, rfl⟩ | ⟨z, rfl, rfl, rfl⟩ | ⟨rfl, rfl, rfl⟩ | ⟨q2, e⟩
      · exact ⟨dTr_7.symm, h6, by omega⟩
      · exact ⟨dTr_8.symm, h6, by omega⟩
      · exact ⟨dTr_10.symm, h6, by omega⟩
      · exact ⟨dTr_9.symm, h6, by omega⟩
      · exact ⟨dTr_2.symm, by decide, by omega⟩
      · obtain ⟨z1, z2, z3⟩ := v0 q k j e
        exact ⟨by rw [oldD q k j e q2]; exact z1, z2, z3⟩
    · by_cases k2 : k = 2
      · subst k2
        have c2 : j = 0 ∧ 0 < nT T' := cv
        rw [dTr_2, c2.1]; exact J2
      by_cases k7 : k = 7 ∧ j = nT T
      · obtain ⟨rfl, rfl⟩ := k7; rw [dTr_7]; exact J7
      by_cases k8 : k = 8 ∧ j = nT T
      · obtain ⟨rfl, rfl⟩ := k8; rw [dTr_8]; exact J8
      by_cases k10 : k = 10 ∧ j = nT T
      · obtain ⟨rfl, rfl⟩ := k10; rw [dTr_10]; exact J10
      by_cases k9 : k = 9 ∧ j = nT T
      · obtain ⟨rfl, rfl⟩ := k9
        have c9 : nT T < nT T' ∧ 0 < nS T' (nT T) := cv
        rw [dTr_9]; exact J9 c9.2
      have cv' := ck k j cv (by omega) (by omega) k2
      have e := v1 k j cv'
      have o := old _ _ _ e
      have q2 := o.2.2.2.2 k2
      rw [oldD _ k j e q2, Jo _ o.1 o.2.1 o.2.2.1 o.2.2.2.1 q2]
      exact e
    · obtain ⟨k, j⟩ := p
      rcases cases6 q k j e with ⟨rfl, -, -⟩ | ⟨rfl, -, -⟩ | ⟨rfl, -, -⟩ | ⟨z, rfl, -, -⟩ | ⟨rfl, -, -⟩ | ⟨q2, e⟩
      · exact f7.2
      · exact f8.2
      · exact f10.2
      · exact (f9.1 z).2.1
      · rcases f2 with ⟨y1, y2⟩ | ⟨y1, y2, y3⟩
        · rw [y2]; exact v2 _ _ (v1 2 0 ⟨rfl, y1⟩)
        · exact y3
      · exact v2 q _ e
    · rw [tN] at h1
      by_cases z : t' = nT T
      · subst z
        rw [dTr_11 (by omega)]
        exact hst s h2
      · have h1 : t' < nT T := by omega
        rw [nSo t' h1] at h2
        have h8 := hS8 t' h1
        rw [dTr_o (by omega) (by omega) (by omega)]
        obtain ⟨b', q⟩ := v3 t' s h1 h2
        refine ⟨b', ?_⟩
        have es : ∀ u, u < 4 → tSt T' t' s u = tSt T t' s u := fun u hu => tO t' h1 _ (by omega)
        rw [q]
        unfold stF
        rw [es 0 (by omega), es 1 (by omega), es 2 (by omega), es 3 (by omega)]
    · rw [tN] at h1
      by_cases z : t' = nT T
      · subst z
        rw [dTr_9]
        have := f9.2 h2
        rw [v5] at this
        exact (Option.some.inj this).symm
      · have h1 : t' < nT T := by omega
        rw [nSo t' h1] at h2
        rw [dTr_o (by omega) (by omega) (by omega)]
        exact v8 t' h1 h2
    · rcases cases6 q k j e with ⟨-, rfl, rfl⟩ | ⟨-, rfl, rfl⟩ | ⟨-, rfl, rfl⟩ | ⟨z, -, rfl, rfl⟩ | ⟨-, rfl, rfl⟩ | ⟨q2, e⟩
      · show nT T < nT T'; omega
      · show nT T < nT T'; omega
      · show nT T < nT T'; omega
      · exact ⟨by omega, z⟩
      · exact ⟨rfl, by omega⟩
      · exact cvn k j (v9 q k j e)
end FT
