/-! the model: its public methods that change, by what the deed comes to -/
def SMF (S S' : Nat → Int32) (A A' : Nat → Nat → Int32) : Prop := S' 6 = S 6 ∧ S' 8 = S 8 ∧ S' 10 = S 10 ∧ S' 14 = S 14 ∧ A' 5 = A 5 ∧ A' 7 = A 7 ∧ A' 9 = A 9
def MO (L : Nat → Nat) (S : Nat → Int32) (A : Nat → Nat → Int32) (w : Value) (h : HP) (c : Nat) (Q : RR → HP → Nat → Prop) (u : Nat) (r : DR) (c1 c2 c3 : Int32) : Prop :=
  (r.1 = 0 → ∀ S' A', S' 18 = 0 → S' 4 = nI (kpU u) → A' 0 = r.2.2.2 → A' 3 = kpK u (A 3) (va_cpy (A 0) (A 1) 0 0 318) → S' 15 = S 15 → S' 16 = S 16 → SMF S S' A A' → Q (.inl (some (.int r.2.1))) (mput L S' A' w h) c) ∧
  (¬ r.1 = 0 → ∀ S' A' an, S' 18 = (if r.1 = 1 then c1 else if r.1 = 2 then c2 else c3) → S' 4 = S 4 → A' 0 = A 0 → A' 3 = A 3 → S' 15 = (if r.1 = 3 then r.2.1 else S 15) → S' 16 = (if r.1 = 3 then r.2.2.1 else S 16) → SMF S S' A A' → Q (.inl (some (.int an))) (mput L S' A' w h) c)
section MRS
variable {X : XT} {L : Nat → Nat} {S : Nat → Int32} {A : Nat → Nat → Int32} {w : Value} {h : HP} {c : Nat} {Q : RR → HP → Nat → Prop} {u : Nat}
theorem M_tour (hL : LD L) (hT : TI (A 0)) (x : Int32) (hu : u ≤ 8) (hS : S 4 = nI u) (k : MO L S A w h c Q u (dPlan (A 0) x) 0 1 2) : CallC X mX4_tour [.ref (L 20), .int x] (mput L S A w h) c Q := by
  unfold dPlan at k
  refine C_tour hL hT x u hu hS (fun g => ?_) (fun g g1 => ?_) (fun g g1 => ?_)
  · rw [if_pos g] at k; exact k.2 (Nat.succ_ne_zero _) _ _ _ rfl rfl rfl rfl rfl rfl ⟨rfl, rfl, rfl, rfl, rfl, rfl, rfl⟩
  · rw [if_neg (fun q => q g), if_pos g1] at k; exact k.2 (Nat.succ_ne_zero _) _ _ _ rfl rfl rfl rfl rfl rfl ⟨rfl, rfl, rfl, rfl, rfl, rfl, rfl⟩
  · rw [if_neg (fun q => q g), if_neg (by omega)] at k; exact k.1 rfl _ _ rfl rfl rfl rfl rfl rfl ⟨rfl, rfl, rfl, rfl, rfl, rfl, rfl⟩
theorem M_step (hL : LD L) (hT : TI (A 0)) (x kd tw dy mn : Int32) (hu : u ≤ 8) (hS : S 4 = nI u) (k : MO L S A w h c Q u (dStep (A 0) x kd tw dy mn) 1 2 3) : CallC X mX4_step [.ref (L 20), .int x, .int kd, .int tw, .int dy, .int mn] (mput L S A w h) c Q := by
  unfold dStep at k
  refine C_step5 hL hT x kd tw dy mn u hu hS (fun g => ?_) (fun g g1 => ?_) (fun g g1 g2 => ?_) (fun g g1 g2 s g3 => ?_) (fun g g1 g2 g3 g4 => ?_) (fun g g1 g2 g3 g4 => ?_)
  · rw [if_pos (fun q => g ⟨isTrD_p q.1, q.2⟩)] at k; exact k.2 (Nat.succ_ne_zero _) _ _ _ rfl rfl rfl rfl rfl rfl ⟨rfl, rfl, rfl, rfl, rfl, rfl, rfl⟩
  · rw [if_neg (fun q => q ⟨isTrD_t g.1, g.2⟩), if_pos g1] at k; exact k.2 (Nat.succ_ne_zero _) _ _ _ rfl rfl rfl rfl rfl rfl ⟨rfl, rfl, rfl, rfl, rfl, rfl, rfl⟩
  · rw [if_neg (fun q => q ⟨isTrD_t g.1, g.2⟩), if_neg (fun q => q g1), if_pos g2] at k; exact k.2 (Nat.succ_ne_zero _) _ _ _ rfl rfl rfl rfl rfl rfl ⟨rfl, rfl, rfl, rfl, rfl, rfl, rfl⟩
  · rw [if_neg (fun q => q ⟨isTrD_t g.1, g.2⟩), if_neg (fun q => q g1), if_neg (fun q => q g2), g3] at k; exact k.2 (Nat.succ_ne_zero _) _ _ _ rfl rfl rfl rfl rfl rfl ⟨rfl, rfl, rfl, rfl, rfl, rfl, rfl⟩
  · rw [if_neg (fun q => q ⟨isTrD_t g.1, g.2⟩), if_neg (fun q => q g1), if_neg (fun q => q g2), g3] at k
    simp only [] at k
    rw [if_pos g4] at k; exact k.2 (Nat.succ_ne_zero _) _ _ _ rfl rfl rfl rfl rfl rfl ⟨rfl, rfl, rfl, rfl, rfl, rfl, rfl⟩
  · rw [if_neg (fun q => q ⟨isTrD_t g.1, g.2⟩), if_neg (fun q => q g1), if_neg (fun q => q g2), g3] at k
    simp only [] at k
    rw [if_neg (by omega)] at k; exact k.1 rfl _ _ rfl rfl rfl rfl rfl rfl ⟨rfl, rfl, rfl, rfl, rfl, rfl, rfl⟩
theorem M_start (hL : LD L) (hT : TI (A 0)) (x : Int32) (hu : u ≤ 8) (hS : S 4 = nI u) (k : MO L S A w h c Q u (dStart (A 0) x) 1 0 2) : CallC X mX4_start [.ref (L 20), .int x] (mput L S A w h) c Q := by
  unfold dStart at k
  refine C_start hL hT x u hu hS (fun g => ?_) (fun g g1 => ?_) (fun g g1 g2 => ?_) (fun g g1 g2 => ?_)
  · rw [if_pos (isTrD_f g)] at k; exact k.2 (Nat.succ_ne_zero _) _ _ _ rfl rfl rfl rfl rfl rfl ⟨rfl, rfl, rfl, rfl, rfl, rfl, rfl⟩
  · rw [if_neg (by rw [isTrD_t g]; decide), if_pos g1] at k; exact k.2 (Nat.succ_ne_zero _) _ _ _ rfl rfl rfl rfl rfl rfl ⟨rfl, rfl, rfl, rfl, rfl, rfl, rfl⟩
  · rw [if_neg (by rw [isTrD_t g]; decide), if_neg (fun q => q g1), if_pos g2] at k; exact k.2 (Nat.succ_ne_zero _) _ _ _ rfl rfl rfl rfl rfl rfl ⟨rfl, rfl, rfl, rfl, rfl, rfl, rfl⟩
  · rw [if_neg (by rw [isTrD_t g]; decide), if_neg (fun q => q g1), if_neg g2] at k; exact k.1 rfl _ _ rfl rfl rfl rfl rfl rfl ⟨rfl, rfl, rfl, rfl, rfl, rfl, rfl⟩
theorem M_back (hL : LD L) (hT : TI (A 0)) (x : Int32) (hu : u ≤ 8) (hS : S 4 = nI u) (k : MO L S A w h c Q u (dBack (A 0) x) 1 0 2) : CallC X mX4_back [.ref (L 20), .int x] (mput L S A w h) c Q := by
  unfold dBack at k
  refine C_back hL hT x u hu hS (fun g => ?_) (fun g g1 => ?_) (fun g g1 => ?_)
  · rw [if_pos (isTrD_f g)] at k; exact k.2 (Nat.succ_ne_zero _) _ _ _ rfl rfl rfl rfl rfl rfl ⟨rfl, rfl, rfl, rfl, rfl, rfl, rfl⟩
  · rw [if_neg (by rw [isTrD_t g]; decide), if_pos g1] at k; exact k.2 (Nat.succ_ne_zero _) _ _ _ rfl rfl rfl rfl rfl rfl ⟨rfl, rfl, rfl, rfl, rfl, rfl, rfl⟩
  · rw [if_neg (by rw [isTrD_t g]; decide), if_neg (fun q => q g1)] at k; exact k.1 rfl _ _ rfl rfl rfl rfl rfl rfl ⟨rfl, rfl, rfl, rfl, rfl, rfl, rfl⟩
theorem M_shut (hL : LD L) (x b : Int32) (hb : b = 0 ∨ b = 1) (hu : u ≤ 8) (hS : S 4 = nI u) (k : MO L S A w h c Q u (dShut (A 0) x b) 1 0 2) : CallC X mX4_shut [.ref (L 20), .int x, .int b] (mput L S A w h) c Q := by
  unfold dShut at k
  refine C_shut hL x b hb u hu hS (fun g => ?_) (fun g g1 => ?_) (fun g g1 => ?_)
  · rw [if_pos (isTwD_f g)] at k; exact k.2 (Nat.succ_ne_zero _) _ _ _ rfl rfl rfl rfl rfl rfl ⟨rfl, rfl, rfl, rfl, rfl, rfl, rfl⟩
  · rw [if_neg (by rw [isTwD_t g]; decide), if_pos g1] at k; exact k.2 (Nat.succ_ne_zero _) _ _ _ rfl rfl rfl rfl rfl rfl ⟨rfl, rfl, rfl, rfl, rfl, rfl, rfl⟩
  · rw [if_neg (by rw [isTwD_t g]; decide), if_neg g1] at k; exact k.1 rfl _ _ rfl rfl rfl rfl rfl rfl ⟨rfl, rfl, rfl, rfl, rfl, rfl, rfl⟩
theorem M_dear (hL : LD L) (x y : Int32) (hu : u ≤ 8) (hS : S 4 = nI u) (k : MO L S A w h c Q u (dDear (A 0) x y) 1 2 0) : CallC X mX4_dear [.ref (L 20), .int x, .int y] (mput L S A w h) c Q := by
  unfold dDear at k
  refine C_dear hL x y u hu hS (fun g => ?_) (fun g g1 => ?_) (fun g g1 => ?_)
  · rw [if_pos (isTwD_f g)] at k; exact k.2 (Nat.succ_ne_zero _) _ _ _ rfl rfl rfl rfl rfl rfl ⟨rfl, rfl, rfl, rfl, rfl, rfl, rfl⟩
  · rw [if_neg (by rw [isTwD_t g]; decide), if_pos g1] at k; exact k.2 (Nat.succ_ne_zero _) _ _ _ rfl rfl rfl rfl rfl rfl ⟨rfl, rfl, rfl, rfl, rfl, rfl, rfl⟩
  · rw [if_neg (by rw [isTwD_t g]; decide), if_neg (fun q => q g1)] at k; exact k.1 rfl _ _ rfl rfl rfl rfl rfl rfl ⟨rfl, rfl, rfl, rfl, rfl, rfl, rfl⟩
theorem M_pass (hL : LD L) (hT : TI (A 0)) (x : Int32) (hu : u ≤ 8) (hS : S 4 = nI u) (k : MO L S A w h c Q u (dPass (A 0) x) 0 1 0) : CallC X mX4_pass [.ref (L 20), .int x] (mput L S A w h) c Q := by
  unfold dPass at k
  refine C_pass hL hT x u hu hS (fun g => ?_) (fun g => ?_)
  · rw [if_pos g] at k; exact k.2 (Nat.succ_ne_zero _) _ _ _ rfl rfl rfl rfl rfl rfl ⟨rfl, rfl, rfl, rfl, rfl, rfl, rfl⟩
  · rw [if_neg (fun q => q g)] at k; exact k.1 rfl _ _ rfl rfl rfl rfl rfl rfl ⟨rfl, rfl, rfl, rfl, rfl, rfl, rfl⟩
end MRS
