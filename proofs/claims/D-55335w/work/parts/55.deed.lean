/-! deeds: what a call does to a theatre's numbers: (0, answer, _, the numbers behind it) | (1 or 2, ..) a fault | (3, reason, detail, ..) refused -/
abbrev DR : Type := Nat × Int32 × Int32 × (Nat → Int32)
def dPlan (T : Nat → Int32) (x : Int32) : DR := if ¬ (0 ≤ x ∧ x ≤ 4) then (2, 0, 0, T) else if nT T = 6 then (3, 1, 6, T) else (0, nI (nT T), 0, plT T x)
def isTrD (T : Nat → Int32) (x : Int32) : Bool := decide (nn x < nT T ∧ x = nI (nn x))
theorem isTrD_t {T : Nat → Int32} {x : Int32} (h : isTr T x) : isTrD T x = true := decide_eq_true h
theorem isTrD_f {T : Nat → Int32} {x : Int32} (h : ¬ isTr T x) : isTrD T x = false := decide_eq_false h
theorem isTrD_p {T : Nat → Int32} {x : Int32} (h : isTrD T x = true) : isTr T x := by unfold isTrD at h; have h2 := of_decide_eq_true h; exact h2
def isTwD (x : Int32) : Bool := decide (nn x ≤ 4 ∧ x = nI (nn x))
theorem isTwD_t {x : Int32} (h : isTw x) : isTwD x = true := decide_eq_true h
theorem isTwD_f {x : Int32} (h : ¬ isTw x) : isTwD x = false := decide_eq_false h
def dStep (T : Nat → Int32) (x kd tw dy mn : Int32) : DR :=
  if ¬ (isTrD T x = true ∧ (0 ≤ tw ∧ tw ≤ 4) ∧ (0 ≤ dy ∧ dy ≤ 19)) then (1, 0, 0, T)
  else if ¬ ((0 ≤ kd ∧ kd ≤ 2) ∧ (1 ≤ mn ∧ mn ≤ most kd)) then (2, 0, 0, T)
  else if ¬ tOf T (nn x) 0 = 0 then (3, 2, tOf T (nn x) 0, T)
  else match lkS T (nn x) kd tw dy (nS T (nn x)) 0 with
    | some s => (3, 5, nI s, T)
    | none => if nS T (nn x) = 8 then (3, 1, 8, T) else (0, nI (nS T (nn x) + 1), 0, adT T (nn x) kd tw dy mn)
def dStart (T : Nat → Int32) (x : Int32) : DR :=
  if isTrD T x = false then (1, 0, 0, T) else if ¬ tOf T (nn x) 0 = 0 then (3, 2, tOf T (nn x) 0, T) else if tOf T (nn x) 2 = 0 then (3, 3, x, T)
  else (0, ctS (upd T (24 + 49 * nn x + 0) 1) 1 (nT T), 0, upd T (24 + 49 * nn x + 0) 1)
def dBack (T : Nat → Int32) (x : Int32) : DR :=
  if isTrD T x = false then (1, 0, 0, T) else if ¬ tOf T (nn x) 0 = 1 then (3, 2, tOf T (nn x) 0, T) else (0, tOf T (nn x) 3, 0, cbT T (nn x))
def dShut (T : Nat → Int32) (x b : Int32) : DR :=
  if isTwD x = false then (1, 0, 0, T) else if bI (T (9 + 3 * nn x) = 1) = b then (3, 4, 1 - b, T) else (0, opS (upd T (9 + 3 * nn x) b) 5, 0, upd T (9 + 3 * nn x) b)
def dPass (T : Nat → Int32) (x : Int32) : DR := if ¬ (1 ≤ x ∧ x ≤ 40) then (2, 0, 0, T) else (0, psN T (nn x), 0, psS T (nn x))
def dDear (T : Nat → Int32) (x y : Int32) : DR := if isTwD x = false then (1, 0, 0, T) else if ¬ (1 ≤ y ∧ y ≤ 5) then (2, 0, 0, T) else (0, T (9 + 3 * nn x + 1), 0, upd T (9 + 3 * nn x + 1) y)
/-- the model behind a deed -/
def dS (S : Nat → Int32) (r : DR) : Nat → Int32 := if r.1 = 0 then sU S 17 r.2.1 else if r.1 = 3 then sU (sU S 15 r.2.1) 16 r.2.2.1 else S
def dA (A : Nat → Nat → Int32) (r : DR) : Nat → Nat → Int32 := if r.1 = 0 then aU A 0 r.2.2.2 else A
section DD
variable {X : XT} {L : Nat → Nat} {S : Nat → Int32} {A : Nat → Nat → Int32} {w : Value} {h : HP} {c : Nat} {Q : RR → HP → Nat → Prop}
theorem D_plans (hL : LD L) (hT : TI (A 0)) (x : Int32) (k : Q (.inl (some (.int (nI (dPlan (A 0) x).1)))) (mput L (dS S (dPlan (A 0) x)) (dA A (dPlan (A 0) x)) w h) c) : CallC X mX4_plans [.ref (L 20), .int x] (mput L S A w h) c Q := by
  unfold dPlan at k
  refine C_plans hL hT x (fun g => ?_) (fun g g1 => ?_) (fun g g1 => ?_)
  · rw [if_pos g] at k; exact k
  · rw [if_neg (fun q => q g), if_pos g1] at k; exact k
  · rw [if_neg (fun q => q g), if_neg (by omega)] at k; exact k
theorem D_steps (hL : LD L) (hT : TI (A 0)) (x kd tw dy mn : Int32) (k : Q (.inl (some (.int (nI (dStep (A 0) x kd tw dy mn).1)))) (mput L (dS S (dStep (A 0) x kd tw dy mn)) (dA A (dStep (A 0) x kd tw dy mn)) w h) c) : CallC X mX4_steps [.ref (L 20), .int x, .int kd, .int tw, .int dy, .int mn] (mput L S A w h) c Q := by
  unfold dStep at k
  refine C_steps hL hT x kd tw dy mn (fun g => ?_) (fun g g1 => ?_) (fun g g1 g2 => ?_) (fun g g1 g2 s g3 => ?_) (fun g g1 g2 g3 g4 => ?_) (fun g g1 g2 g3 g4 => ?_)
  · rw [if_pos (fun q => g ⟨isTrD_p q.1, q.2⟩)] at k; exact k
  · rw [if_neg (fun q => q ⟨isTrD_t g.1, g.2⟩), if_pos g1] at k; exact k
  · rw [if_neg (fun q => q ⟨isTrD_t g.1, g.2⟩), if_neg (fun q => q g1), if_pos g2] at k; exact k
  · rw [if_neg (fun q => q ⟨isTrD_t g.1, g.2⟩), if_neg (fun q => q g1), if_neg (fun q => q g2), g3] at k; exact k
  · rw [if_neg (fun q => q ⟨isTrD_t g.1, g.2⟩), if_neg (fun q => q g1), if_neg (fun q => q g2), g3] at k
    simp only [] at k
    rw [if_pos g4] at k; exact k
  · rw [if_neg (fun q => q ⟨isTrD_t g.1, g.2⟩), if_neg (fun q => q g1), if_neg (fun q => q g2), g3] at k
    simp only [] at k
    rw [if_neg (by omega)] at k; exact k
theorem D_starts (hL : LD L) (hT : TI (A 0)) (x : Int32) (k : Q (.inl (some (.int (nI (dStart (A 0) x).1)))) (mput L (dS S (dStart (A 0) x)) (dA A (dStart (A 0) x)) w h) c) : CallC X mX4_starts [.ref (L 20), .int x] (mput L S A w h) c Q := by
  unfold dStart at k
  refine C_starts hL hT x (fun g => ?_) (fun g g1 => ?_) (fun g g1 g2 => ?_) (fun g g1 g2 => ?_)
  · rw [if_pos (isTrD_f g)] at k; exact k
  · rw [if_neg (by rw [isTrD_t g]; decide), if_pos g1] at k; exact k
  · rw [if_neg (by rw [isTrD_t g]; decide), if_neg (fun q => q g1), if_pos g2] at k; exact k
  · rw [if_neg (by rw [isTrD_t g]; decide), if_neg (fun q => q g1), if_neg g2] at k; exact k
theorem D_callsBack (hL : LD L) (hT : TI (A 0)) (x : Int32) (k : Q (.inl (some (.int (nI (dBack (A 0) x).1)))) (mput L (dS S (dBack (A 0) x)) (dA A (dBack (A 0) x)) w h) c) : CallC X mX4_callsBack [.ref (L 20), .int x] (mput L S A w h) c Q := by
  unfold dBack at k
  refine C_callsBack hL hT x (fun g => ?_) (fun g g1 => ?_) (fun g g1 => ?_)
  · rw [if_pos (isTrD_f g)] at k; exact k
  · rw [if_neg (by rw [isTrD_t g]; decide), if_pos g1] at k; exact k
  · rw [if_neg (by rw [isTrD_t g]; decide), if_neg (fun q => q g1)] at k; exact k
theorem D_shuts (hL : LD L) (x b : Int32) (hb : b = 0 ∨ b = 1) (k : Q (.inl (some (.int (nI (dShut (A 0) x b).1)))) (mput L (dS S (dShut (A 0) x b)) (dA A (dShut (A 0) x b)) w h) c) : CallC X mX4_shuts [.ref (L 20), .int x, .int b] (mput L S A w h) c Q := by
  unfold dShut at k
  refine C_shuts hL x b hb (fun g => ?_) (fun g g1 => ?_) (fun g g1 => ?_)
  · rw [if_pos (isTwD_f g)] at k; exact k
  · rw [if_neg (by rw [isTwD_t g]; decide), if_pos g1] at k; exact k
  · rw [if_neg (by rw [isTwD_t g]; decide), if_neg g1] at k; exact k
theorem D_passes (hL : LD L) (hT : TI (A 0)) (x : Int32) (k : Q (.inl (some (.int (nI (dPass (A 0) x).1)))) (mput L (dS S (dPass (A 0) x)) (dA A (dPass (A 0) x)) w h) c) : CallC X mX4_passes [.ref (L 20), .int x] (mput L S A w h) c Q := by
  unfold dPass at k
  refine C_passes hL hT x (fun g => ?_) (fun g => ?_)
  · rw [if_pos g] at k; exact k
  · rw [if_neg (fun q => q g)] at k; exact k
end DD
