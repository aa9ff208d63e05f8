/-! a town more: the cells come together again -/
theorem tC_y {D D' : Nat → Nat → Nat} {T T' E E' : Nat → Int32} {k n : Nat} (hk : k < 11) (hn : n < bd k) (d0 : D' 0 0 = D 0 0) (e0 : k = 0 → (∀ j, j < 8 → T' j = T j) ∧ D' 1 0 = D 1 0 ∧ D' 3 0 = D 3 0) (e1 : k = 1 → nT T' = nT T ∧ E' 300 = E 300 ∧ D' 2 0 = D 2 0) (e2 : k = 2 → nT T' = nT T ∧ ∀ i, i < nT T → D' 7 i = D 7 i)
    (e3 : k = 3 → E' 301 = E 301 ∧ nW E' = nW E ∧ D' 4 0 = D 4 0) (e4 : k = 4 → nW E' = nW E ∧ ∀ j, j < nW E → D' 5 j = D 5 j) (e5 : k = 5 → (∀ v, v < 3 → T' (9 + 3 * n + v) = T (9 + 3 * n + v)) ∧ D' 6 n = D 6 n) (e6 : k = 6 → ∀ i, i < 60 → E' (60 * n + i) = E (60 * n + i))
    (e7 : k = 7 → (∀ v, v < 9 → ¬ v = 2 → tOf T' n v = tOf T n v) ∧ D' 8 n = D 8 n ∧ D' 10 n = D 10 n) (e8 : k = 8 → nS T' n = nS T n ∧ E' (310 + n) = E (310 + n) ∧ D' 9 n = D 9 n) (e9 : k = 9 → nS T' n = nS T n ∧ ∀ s, s < nS T n → D' 11 (8 * n + s) = D 11 (8 * n + s)) (e10 : k = 10 → ∀ s, s < 8 → tSt T' n s 4 = tSt T n s 4) : tC D' T' E' k n = tC D T E k n := by
  by_cases q : k = 0
  · subst q
    obtain ⟨z0, z1, z2⟩ := e0 rfl
    rw [tC_0, tC_0]
    have := thF_c (D := D) z0
    rw [← this]
    unfold thF
    rw [z1, z2]
  by_cases q : k = 1
  · subst q; obtain ⟨z1, z2, z3⟩ := e1 rfl; rw [tC_1, tC_1, z1, z2, z3]
  by_cases q : k = 2
  · subst q
    obtain ⟨z1, z2⟩ := e2 rfl
    rw [tC_2, tC_2, z1]
    have : rfs (nT T) (D' 7) = rfs (nT T) (D 7) := by
      funext i
      unfold rfs
      split
      · rename_i q; rw [z2 i q]
      · rfl
    rw [this]
  by_cases q : k = 3
  · subst q; obtain ⟨z1, z2, z3⟩ := e3 rfl; rw [tC_3, tC_3, z1, z2, z3]
  by_cases q : k = 4
  · subst q
    obtain ⟨z1, z2⟩ := e4 rfl
    rw [tC_4, tC_4, z1]
    have : rfs (nW E) (D' 5) = rfs (nW E) (D 5) := by
      funext i
      unfold rfs
      split
      · rename_i q; rw [z2 i q]
      · rfl
    rw [this]
  by_cases q : k = 5
  · subst q
    obtain ⟨z1, z2⟩ := e5 rfl
    have := twF_c (D := D) z1
    rw [tC_5, tC_5, ← this]
    unfold twF
    rw [z2]
  by_cases q : k = 6
  · subst q
    have : tkF E' n = tkF E n := by
      funext i
      unfold tkF
      split
      · rename_i q; rw [e6 rfl i q]
      · rfl
    rw [tC_6, tC_6, this]
  by_cases q : k = 7
  · subst q
    obtain ⟨z1, z2, z3⟩ := e7 rfl
    have := trF_c (D := D) z1
    rw [tC_7, tC_7, ← this]
    unfold trF
    rw [z2, z3, d0]
  by_cases q : k = 8
  · subst q; obtain ⟨z1, z2, z3⟩ := e8 rfl; rw [tC_8, tC_8, z1, z2, z3]
  by_cases q : k = 9
  · subst q
    obtain ⟨z1, z2⟩ := e9 rfl
    rw [tC_9, tC_9, z1]
    have : rfs (nS T n) (fun s => D' 11 (8 * n + s)) = rfs (nS T n) (fun s => D 11 (8 * n + s)) := by
      funext i
      unfold rfs
      split
      · rename_i q; exact congrArg some (z2 i q)
      · rfl
    rw [this]
  · have q : k = 10 := by omega
    subst q; rw [tC_10, tC_10, prF_c (e10 rfl)]
def dTw (D : Nat → Nat → Nat) (n a5 a6 a4 : Nat) : Nat → Nat → Nat := fun k j => if k = 4 then a4 else if j = n ∧ k = 5 then a5 else if j = n ∧ k = 6 then a6 else D k j
def iTw (I : IT2) (n a5 a6 a4 : Nat) : IT2 := fun q => if q = a5 then some (5, n) else if q = a6 then some (6, n) else if q = a4 then some (4, 0) else I q
section FW
variable {X : XT} {h : HP} {I : IT2} {D : Nat → Nat → Nat} {T E : Nat → Int32}
theorem dTw_o {n a5 a6 a4 k j : Nat} (h4 : ¬ k = 4) (hj : k = 5 ∨ k = 6 → ¬ j = n) : dTw D n a5 a6 a4 k j = D k j := by
  unfold dTw
  rw [if_neg h4, if_neg (by omega), if_neg (by omega)]
theorem dTw_4 {n a5 a6 a4 j : Nat} : dTw D n a5 a6 a4 4 j = a4 := if_pos rfl
theorem dTw_5 {n a5 a6 a4 : Nat} : dTw D n a5 a6 a4 5 n = a5 := by unfold dTw; rw [if_neg (by omega), if_pos ⟨rfl, rfl⟩]
theorem dTw_6 {n a5 a6 a4 : Nat} : dTw D n a5 a6 a4 6 n = a6 := by unfold dTw; rw [if_neg (by omega), if_neg (by omega), if_pos ⟨rfl, rfl⟩]
theorem fold_town {w : Nat} (v : BV X I D T E h w) (h5 : w < 5) {T' E' : Nat → Int32} {a5 a6 a4 : Nat} {H : HP}
    (f5 : I a5 = none ∧ h a5 = none) (f6 : I a6 = none ∧ h a6 = none) (f4 : (0 < w ∧ a4 = D 4 0) ∨ (w = 0 ∧ I a4 = none ∧ h a4 = none)) (d56 : ¬ a5 = a6) (d54 : ¬ a5 = a4) (d64 : ¬ a6 = a4)
    (tT : ∀ j, ¬ (9 + 3 * w ≤ j ∧ j < 9 + 3 * w + 3) → T' j = T j) (eE : (∀ j, j < 300 → ¬ (60 * w ≤ j ∧ j < 60 * w + 60) → E' j = E j) ∧ E' 300 = E 300 ∧ nW E' = w + 1 ∧ ∀ t', E' (310 + t') = E (310 + t'))
    (e5 : H a5 = some (tC (dTw D w a5 a6 a4) T' E' 5 w)) (e6 : H a6 = some (tC (dTw D w a5 a6 a4) T' E' 6 w)) (e3 : H (D 3 0) = some (tC (dTw D w a5 a6 a4) T' E' 3 0)) (e4 : H a4 = some (tC (dTw D w a5 a6 a4) T' E' 4 0))
    (eo : ∀ q, ¬ q = a5 → ¬ q = a6 → ¬ q = D 3 0 → ¬ q = a4 → H q = ov I (tC D T E) h q) :
    H = ov (iTw I w a5 a6 a4) (tC (dTw D w a5 a6 a4) T' E') h ∧ BV X (iTw I w a5 a6 a4) (dTw D w a5 a6 a4) T' E' h (w + 1) := by
  obtain ⟨v0, v1, v2, v3, v4, e0, f, b, v5, v6, v7, v8, v9, vA⟩ := v
  have i3 := v1 3 0 rfl
  have eN : nT T' = nT T := by unfold nT; rw [tT 8 (by omega)]
  have eS : ∀ t', nS T' t' = nS T t' := fun t' => by show nn (T' (24 + 49 * t' + 2)) = nn (T (24 + 49 * t' + 2)); rw [tT _ (by omega)]
  have J5 : iTw I w a5 a6 a4 a5 = some (5, w) := if_pos rfl
  have J6 : iTw I w a5 a6 a4 a6 = some (6, w) := by unfold iTw; rw [if_neg (Ne.symm d56), if_pos rfl]
  have J4 : iTw I w a5 a6 a4 a4 = some (4, 0) := by unfold iTw; rw [if_neg (Ne.symm d54), if_neg (Ne.symm d64), if_pos rfl]
  have Jo : ∀ q, ¬ q = a5 → ¬ q = a6 → ¬ q = a4 → iTw I w a5 a6 a4 q = I q := fun q n5 n6 n4 => by
    unfold iTw
    rw [if_neg n5, if_neg n6, if_neg n4]
  have old : ∀ q k j, I q = some (k, j) → ¬ q = a5 ∧ ¬ q = a6 ∧ (¬ k = 4 → ¬ q = a4) := by
    intro q k j e
    refine ⟨fun r => (by rw [r, f5.1] at e; cases e), fun r => (by rw [r, f6.1] at e; cases e), fun nk r => ?_⟩
    rcases f4 with ⟨z1, z2⟩ | ⟨z1, z2, z3⟩
    · rw [r, z2, v1 4 0 ⟨rfl, z1⟩] at e
      cases e
      exact nk rfl
    · rw [r, z2] at e; cases e
  have k4n : ∀ q k j, I q = some (k, j) → ¬ q = a4 → ¬ k = 4 := by
    intro q k j e q4 r
    subst r
    obtain ⟨z1, -, -⟩ := v0 q _ _ e
    have c4 : j = 0 ∧ 0 < w := v9 q _ _ e
    rcases f4 with ⟨y1, y2⟩ | ⟨y1, y2, y3⟩
    · exact q4 (by rw [z1, c4.1, y2])
    · omega
  have kj : ∀ q k j, I q = some (k, j) → k = 5 ∨ k = 6 → j < w := by
    intro q k j e r
    have cv := v9 q k j e
    rcases r with rfl | rfl
    · exact cv
    · exact cv
  have key : ∀ q k j, I q = some (k, j) → ¬ q = D 3 0 → ¬ q = a4 → tC (dTw D w a5 a6 a4) T' E' k j = tC D T E k j := by
    intro q k j e q3 q4
    obtain ⟨z1, z2, z3⟩ := v0 q k j e
    have cv := v9 q k j e
    have k4 := k4n q k j e q4
    have k3 : ¬ k = 3 := fun r => by subst r; have : j = 0 := cv; subst this; exact q3 z1
    have kj := kj q k j e
    refine tC_y (T := T) (E := E) z3 z2 (dTw_o (by omega) (by omega)) (fun r => ⟨fun i hi => tT i (by omega), dTw_o (by omega) (by omega), dTw_o (by omega) (by omega)⟩) (fun r => ⟨eN, eE.2.1, dTw_o (by omega) (by omega)⟩) (fun r => ⟨eN, fun i _ => dTw_o (by omega) (by omega)⟩) (fun r => absurd r k3) (fun r => absurd r k4)
      (fun r => ⟨fun u hu => tT _ (by have := kj (.inl r); omega), dTw_o (by omega) (fun _ => by have := kj (.inl r); omega)⟩) (fun r i hi => eE.1 _ (by have := kj (.inr r); omega) (by have := kj (.inr r); omega))
      (fun r => ⟨fun u hu _ => tT _ (by omega), dTw_o (by omega) (by omega), dTw_o (by omega) (by omega)⟩) (fun r => ⟨eS j, eE.2.2.2 j, dTw_o (by omega) (by omega)⟩) (fun r => ⟨eS j, fun s _ => dTw_o (by omega) (by omega)⟩) (fun r s hs8 => tT _ (by omega))
  constructor
  · funext q
    by_cases q5 : q = a5
    · subst q5; rw [ov_at J5]; exact e5
    by_cases q6 : q = a6
    · subst q6; rw [ov_at J6]; exact e6
    by_cases q4 : q = a4
    · subst q4; rw [ov_at J4]; exact e4
    by_cases q3 : q = D 3 0
    · subst q3
      rw [ov_at (show iTw I w a5 a6 a4 (D 3 0) = some (3, 0) by rw [Jo _ q5 q6 q4]; exact i3)]
      exact e3
    rw [eo q q5 q6 q3 q4]
    unfold ov
    rw [Jo q q5 q6 q4]
    cases e : I q with
    | none => rfl
    | some p =>
      obtain ⟨k, j⟩ := p
      exact congrArg some (key q k j e q3 q4).symm
  · have cases4 : ∀ q k j, iTw I w a5 a6 a4 q = some (k, j) → (q = a5 ∧ k = 5 ∧ j = w) ∨ (q = a6 ∧ k = 6 ∧ j = w) ∨ (q = a4 ∧ k = 4 ∧ j = 0) ∨ (¬ q = a4 ∧ I q = some (k, j)) := by
      intro q k j e
      by_cases q5 : q = a5
      · subst q5; rw [J5] at e; cases e; exact .inl ⟨rfl, rfl, rfl⟩
      by_cases q6 : q = a6
      · subst q6; rw [J6] at e; cases e; exact .inr (.inl ⟨rfl, rfl, rfl⟩)
      by_cases q4 : q = a4
      · subst q4; rw [J4] at e; cases e; exact .inr (.inr (.inl ⟨rfl, rfl, rfl⟩))
      · rw [Jo q q5 q6 q4] at e
        exact .inr (.inr (.inr ⟨q4, e⟩))
    have cvn : ∀ k j, covB w T k j → covB (w + 1) T' k j := by
      intro k j cv
      unfold covB at cv ⊢
      rw [eN]
      split at cv <;> first | exact cv | exact ⟨cv.1, by omega⟩ | exact Nat.lt_succ_of_lt cv | exact ⟨cv.1, by rw [eS]; exact cv.2⟩
    have ck : ∀ k j, covB (w + 1) T' k j → (k = 5 ∨ k = 6 → ¬ j = w) → ¬ k = 4 → covB w T k j := by
      intro k j cv c1 c3
      unfold covB at cv ⊢
      rw [eN] at cv
      split at cv
      · exact cv
      · exact cv
      · exact cv
      · exact cv
      · exact absurd rfl c3
      · exact Nat.lt_of_le_of_ne (Nat.le_of_lt_succ cv) (c1 (by omega))
      · exact Nat.lt_of_le_of_ne (Nat.le_of_lt_succ cv) (c1 (by omega))
      · exact cv
      · exact cv
      · exact ⟨cv.1, by rw [← eS]; exact cv.2⟩
      · exact cv
      · exact cv
    have oldD : ∀ q k j, I q = some (k, j) → ¬ q = a4 → dTw D w a5 a6 a4 k j = D k j := fun q k j e q4 => dTw_o (k4n q k j e q4) (fun r => by have := kj q k j e r; omega)
    refine ⟨fun q k j e => ?_, fun k j cv => ?_, fun q p e => ?_, fun t' s h1 h2 => ?_, eE.2.2.1, e0, f, b, v5, v6, fun z => ?_, fun t' h1 h2 => ?_, fun q k j e => ?_, fun z => by omega⟩
    · rcases cases4 q k j e with ⟨rfl, rfl, rfl⟩ | ⟨rfl, rfl, rfl⟩ | ⟨rfl, rfl, rfl⟩ | ⟨q4, e⟩
      · exact ⟨dTw_5.symm, h5, by omega⟩
      · exact ⟨dTw_6.symm, h5, by omega⟩
      · exact ⟨dTw_4.symm, by decide, by omega⟩
      · obtain ⟨z1, z2, z3⟩ := v0 q k j e
        exact ⟨by rw [oldD q k j e q4]; exact z1, z2, z3⟩
    · by_cases k4 : k = 4
      · subst k4
        have c4 : j = 0 ∧ 0 < w + 1 := cv
        rw [dTw_4, c4.1]; exact J4
      by_cases k5 : k = 5 ∧ j = w
      · obtain ⟨rfl, rfl⟩ := k5; rw [dTw_5]; exact J5
      by_cases k6 : k = 6 ∧ j = w
      · obtain ⟨rfl, rfl⟩ := k6; rw [dTw_6]; exact J6
      have cv' := ck k j cv (by omega) k4
      have e := v1 k j cv'
      have o := old _ _ _ e
      have q4 := o.2.2 k4
      rw [oldD _ k j e q4, Jo _ o.1 o.2.1 q4]
      exact e
    · obtain ⟨k, j⟩ := p
      rcases cases4 q k j e with ⟨rfl, -, -⟩ | ⟨rfl, -, -⟩ | ⟨rfl, -, -⟩ | ⟨q4, e⟩
      · exact f5.2
      · exact f6.2
      · rcases f4 with ⟨y1, y2⟩ | ⟨y1, y2, y3⟩
        · rw [y2]; exact v2 _ _ (v1 4 0 ⟨rfl, y1⟩)
        · exact y3
      · exact v2 q _ e
    · rw [eN] at h1
      rw [eS] at h2
      rw [dTw_o (by omega) (by omega)]
      obtain ⟨b', q⟩ := v3 t' s h1 h2
      refine ⟨b', ?_⟩
      have es : ∀ u, tSt T' t' s u = tSt T t' s u := fun u => tT _ (by omega)
      rw [q]
      unfold stF
      rw [es 0, es 1, es 2, es 3]
    · rw [eN] at z
      rw [dTw_o (by omega) (by omega)]; exact v7 z
    · rw [eN] at h1
      rw [eS] at h2
      rw [dTw_o (by omega) (by omega)]
      exact v8 t' h1 h2
    · rcases cases4 q k j e with ⟨-, rfl, rfl⟩ | ⟨-, rfl, rfl⟩ | ⟨-, rfl, rfl⟩ | ⟨q4, e⟩
      · exact Nat.lt_succ_self _
      · exact Nat.lt_succ_self _
      · exact ⟨rfl, by omega⟩
      · exact cvn k j (v9 q k j e)
end FW
