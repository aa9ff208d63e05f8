/-! plain: the component's word by word search is the model's -/
theorem cm_ext {f f' g : Nat → Int32} {n p n' p' fr k : Nat} (hf : ∀ j, j < k → f (p + j) = f' (p' + j)) (hn : p + k ≤ n) (hn' : n' = p' + k) : ∀ m i, i ≤ k →
    (cm f' n' p' g fr m i < k ∧ cm f n p g fr m i = cm f' n' p' g fr m i) ∨ (cm f' n' p' g fr m i = k ∧ k ≤ i + m ∧ cm f n p g fr m i = cm f n p g fr (i + m - k) k) := by
  intro m
  induction m with
  | zero =>
    intro i hi
    by_cases q : i = k
    · subst q
      exact .inr ⟨rfl, by omega, by rw [show i + 0 - i = 0 from by omega]⟩
    · exact .inl ⟨by show i < k; omega, rfl⟩
  | succ m ih =>
    intro i hi
    by_cases q : i = k
    · subst q
      refine .inr ⟨?_, by omega, by rw [show i + (m + 1) - i = m + 1 from by omega]⟩
      rw [cm, if_neg (fun r => by omega)]
    · have e := hf i (by omega)
      by_cases r : f (p + i) = g (fr + i)
      · have e1 : cm f n p g fr (m + 1) i = cm f n p g fr m (i + 1) := by rw [cm, if_pos ⟨by omega, r⟩]
        have e2 : cm f' n' p' g fr (m + 1) i = cm f' n' p' g fr m (i + 1) := by rw [cm, if_pos ⟨by omega, by rw [← e]; exact r⟩]
        rw [e1, e2]
        have := ih (i + 1) (by omega)
        rw [show i + (m + 1) - k = i + 1 + m - k from by omega, show i + (m + 1) = i + 1 + m from by omega]
        exact this
      · have e1 : cm f n p g fr (m + 1) i = i := by rw [cm, if_neg (fun z => r z.2)]
        have e2 : cm f' n' p' g fr (m + 1) i = i := by rw [cm, if_neg (fun z => r (by rw [e]; exact z.2))]
        rw [e1, e2]
        exact .inl ⟨by omega, rfl⟩
theorem oneOf_none {f : Nat → Int32} {n p k : Nat} : ∀ (r : List (Nat × Nat)) (m : Nat), (∀ ab ∈ r, cm f n p gK ab.1 (ab.2 - ab.1) 0 ≤ k ∧ ¬ cm f n p gK ab.1 (ab.2 - ab.1) 0 = ab.2 - ab.1) → m ≤ k → (m = k ∨ ∃ ab ∈ r, cm f n p gK ab.1 (ab.2 - ab.1) 0 = k) → oneOf f n p r m = (none, p + k) := by
  intro r
  induction r with
  | nil =>
    intro m _ hm he
    rcases he with rfl | ⟨ab, h, -⟩
    · rfl
    · cases h
  | cons ab r ih =>
    intro m h hm he
    obtain ⟨a, b⟩ := ab
    have h1 := h (a, b) List.mem_cons_self
    rw [oneOf, if_neg h1.2]
    refine ih _ (fun x hx => h x (List.mem_cons_of_mem _ hx)) (Nat.max_le.mpr ⟨hm, h1.1⟩) ?_
    have h11 := h1.1
    rcases he with rfl | ⟨x, hx, e⟩
    · exact .inl (Nat.max_eq_left h11)
    · rcases List.mem_cons.mp hx with rfl | hx
      · refine .inl ?_
        rw [show cm f n p gK a (b - a) 0 = k from e]
        exact Nat.max_eq_right hm
      · exact .inr ⟨x, hx, e⟩
theorem oneOf_some {f : Nat → Int32} {n p : Nat} {w : Nat × Nat} (e : cm f n p gK w.1 (w.2 - w.1) 0 = w.2 - w.1) : ∀ (r : List (Nat × Nat)) (m : Nat), w ∈ r → (∀ ab ∈ r, ¬ ab = w → ¬ cm f n p gK ab.1 (ab.2 - ab.1) 0 = ab.2 - ab.1) → oneOf f n p r m = (some w, p + (w.2 - w.1)) := by
  intro r
  induction r with
  | nil => intro m hm; cases hm
  | cons ab r ih =>
    intro m hm h
    by_cases q : ab = w
    · subst q
      obtain ⟨a, b⟩ := ab
      rw [oneOf, if_pos e]
    · have h1 := h ab List.mem_cons_self q
      obtain ⟨a, b⟩ := ab
      rw [oneOf, if_neg h1]
      rcases List.mem_cons.mp hm with hm | hm
      · exact absurd hm.symm q
      · exact ih _ hm (fun x hx => h x (List.mem_cons_of_mem _ hx))
/-- how far what is told goes with a word -/
def lcw (t : List Int32) (ab : Nat × Nat) : Nat := cm (lf t) t.length 1 gK ab.1 (ab.2 - ab.1) 0
theorem WL_some : ∀ t ∈ TN, ∃ ab ∈ WP, lcw t ab = t.length - 1 := by decide +kernel
theorem WL_all : ∀ t ∈ TN, ∀ ab ∈ WP, lcw t ab < ab.2 - ab.1 ∧ (lcw t ab = t.length - 1 → (gK (ab.1 + (t.length - 1)) = 32 ∧ ctn (t ++ [32]) = true) ∨ ((97 : Int32) ≤ gK (ab.1 + (t.length - 1)) ∧ gK (ab.1 + (t.length - 1)) ≤ 122 ∧ ctn (t ++ [gK (ab.1 + (t.length - 1))]) = true)) := by decide +kernel
theorem WL_end : ∀ t ∈ TN, ctn (t ++ [32]) = true → ∃ ab ∈ WP, t = 32 :: WT ab.1 ∧ t.length = ab.2 - ab.1 ∧ lcw t ab = t.length - 1 ∧ gK (ab.1 + (t.length - 1)) = 32 ∧ ∀ w ∈ WP, ¬ w = ab → lcw t w < t.length - 1 := by decide +kernel
section WLW
variable {f : Nat → Int32} {n : Nat}
/-- what is told stands in the text -/
def tlS (f : Nat → Int32) (n p : Nat) (t : List Int32) : Prop := (∀ j, j < t.length - 1 → f (p + j) = lf t (1 + j)) ∧ p + (t.length - 1) ≤ n
theorem cm_t {p : Nat} {t : List Int32} (hT : t ∈ TN) (hz : tlS f n p t) {ab : Nat × Nat} (hab : ab ∈ WP) :
    (lcw t ab < t.length - 1 ∧ cm f n p gK ab.1 (ab.2 - ab.1) 0 = lcw t ab) ∨ (lcw t ab = t.length - 1 ∧ cm f n p gK ab.1 (ab.2 - ab.1) 0 = cm f n p gK ab.1 (ab.2 - ab.1 - (t.length - 1)) (t.length - 1)) := by
  have h1 := (TN_ok t hT).1
  rcases cm_ext (g := gK) (fr := ab.1) (n' := t.length) (p' := 1) hz.1 hz.2 (by omega) (ab.2 - ab.1) 0 (Nat.zero_le _) with q | q
  · exact .inl q
  · refine .inr ⟨q.1, ?_⟩
    rw [q.2.2, Nat.zero_add]
theorem wd_inr {p : Nat} {t : List Int32} (hT : t ∈ TN) (hz : tlS f n p t) (g1 : ¬ ctn (t ++ [32]) = true) (g2 : p + (t.length - 1) < n → ¬ ((97 : Int32) ≤ f (p + (t.length - 1)) ∧ f (p + (t.length - 1)) ≤ 122 ∧ ctn (t ++ [f (p + (t.length - 1))]) = true)) : oneOf f n p WP 0 = (none, p + (t.length - 1)) := by
  have key : ∀ ab ∈ WP, lcw t ab = t.length - 1 → cm f n p gK ab.1 (ab.2 - ab.1) 0 = t.length - 1 := by
    intro ab hab e
    rcases cm_t hT hz hab with q | q
    · omega
    · rw [q.2]
      cases hm : ab.2 - ab.1 - (t.length - 1) with
      | zero => rfl
      | succ m =>
        rw [cm, if_neg]
        intro r
        rcases (WL_all t hT ab hab).2 e with z | z
        · exact g1 z.2
        · rw [← r.2] at z
          exact g2 r.1 z
  refine oneOf_none WP 0 (fun ab hab => ?_) (Nat.zero_le _) (.inr ?_)
  · have w := (WL_all t hT ab hab).1
    rcases cm_t hT hz hab with q | q
    · rw [q.2]; exact ⟨by omega, by omega⟩
    · rw [key ab hab q.1]; exact ⟨Nat.le_refl _, by omega⟩
  · obtain ⟨ab, hab, e⟩ := WL_some t hT
    exact ⟨ab, hab, key ab hab e⟩
theorem wd_inl {p : Nat} {t : List Int32} (hT : t ∈ TN) (hz : tlS f n p t) (g1 : ctn (t ++ [32]) = true) : ∃ ab ∈ WP, t = 32 :: WT ab.1 ∧ t.length = ab.2 - ab.1 ∧
    ((p + (t.length - 1) < n ∧ f (p + (t.length - 1)) = 32) → oneOf f n p WP 0 = (some ab, p + (t.length - 1) + 1)) ∧ (¬ (p + (t.length - 1) < n ∧ f (p + (t.length - 1)) = 32) → oneOf f n p WP 0 = (none, p + (t.length - 1))) := by
  obtain ⟨ab, hab, e1, e2, e3, e4, e5⟩ := WL_end t hT g1
  have h1 := (TN_ok t hT).1
  have c1 : cm f n p gK ab.1 (ab.2 - ab.1) 0 = cm f n p gK ab.1 1 (t.length - 1) := by
    rcases cm_t hT hz hab with q | q
    · omega
    · rw [q.2]; congr 1; omega
  have c2 : ∀ w ∈ WP, ¬ w = ab → cm f n p gK w.1 (w.2 - w.1) 0 < t.length - 1 ∧ ¬ cm f n p gK w.1 (w.2 - w.1) 0 = w.2 - w.1 := by
    intro w hw nw
    have := e5 w hw nw
    have w2 := (WL_all t hT w hw).1
    rcases cm_t hT hz hw with q | q
    · rw [q.2]; exact ⟨by omega, by omega⟩
    · omega
  refine ⟨ab, hab, e1, e2, fun g => ?_, fun g => ?_⟩
  · have c3 : cm f n p gK ab.1 1 (t.length - 1) = t.length - 1 + 1 := by rw [cm, if_pos ⟨g.1, by rw [e4]; exact g.2⟩]; rfl
    rw [oneOf_some (w := ab) (by rw [c1, c3]; omega) WP 0 hab (fun w hw nw => (c2 w hw nw).2)]
    rw [show p + (ab.2 - ab.1) = p + (t.length - 1) + 1 from by omega]
  · have c3 : cm f n p gK ab.1 1 (t.length - 1) = t.length - 1 := by rw [cm, if_neg (fun r => g ⟨r.1, by rw [r.2, e4]⟩)]
    refine oneOf_none WP 0 (fun w hw => ?_) (Nat.zero_le _) (.inr ⟨ab, hab, c1.trans c3⟩)
    by_cases q : w = ab
    · subst q
      rw [c1, c3]
      exact ⟨Nat.le_refl _, by omega⟩
    · have := c2 w hw q
      exact ⟨by omega, this.2⟩
/-- the search of a word is the model's -/
theorem wdG_law {p : Nat} : ∀ (m : Nat) (t : List Int32) (p' : Nat), t ∈ TN → tlS f n p t → p' = p + (t.length - 1) → p' + m = n →
    (∀ q, wdG f m t p' = .inr q → oneOf f n p WP 0 = (none, q)) ∧ (∀ t' q, wdG f m t p' = .inl (t', q) → ∃ ab ∈ WP, t' = 32 :: WT ab.1 ∧ ((q < n ∧ f q = 32) → oneOf f n p WP 0 = (some ab, q + 1)) ∧ (¬ (q < n ∧ f q = 32) → oneOf f n p WP 0 = (none, q))) := by
  intro m
  induction m with
  | zero =>
    intro t p' hT hz hp hm
    subst hp
    rw [wdG]
    by_cases g : ctn (t ++ [32]) = true
    · rw [if_pos g]
      refine ⟨fun q e => (by cases e), fun t' q e => ?_⟩
      cases e
      obtain ⟨ab, a1, a2, a3, a4⟩ := wd_inl hT hz g
      exact ⟨ab, a1, a2, a4⟩
    · rw [if_neg g]
      refine ⟨fun q e => ?_, fun t' q e => (by cases e)⟩
      cases e
      exact wd_inr hT hz g (fun r => by omega)
  | succ m ih =>
    intro t p' hT hz hp hm
    have h1 := (TN_ok t hT).1
    subst hp
    rw [wdG]
    by_cases g : ctn (t ++ [32]) = true
    · rw [if_pos g]
      refine ⟨fun q e => (by cases e), fun t' q e => ?_⟩
      cases e
      obtain ⟨ab, a1, a2, a3, a4⟩ := wd_inl hT hz g
      exact ⟨ab, a1, a2, a4⟩
    · rw [if_neg g]
      by_cases g2 : (97 : Int32) ≤ f (p + (t.length - 1)) ∧ f (p + (t.length - 1)) ≤ 122 ∧ ctn (t ++ [f (p + (t.length - 1))]) = true
      · rw [if_pos g2]
        have l8 : (t ++ [f (p + (t.length - 1))]).length = t.length + 1 := by rw [List.length_append]; rfl
        refine ih _ _ ?_ ?_ (by rw [l8]; omega) (by omega)
        · obtain ⟨kk, lc⟩ := letter ⟨g2.1, g2.2.1⟩
          have gd := g2.2.2
          rw [lc] at gd ⊢
          exact TN_step t hT kk gd
        · refine ⟨fun j hj => ?_, by rw [l8]; omega⟩
          rw [l8] at hj
          by_cases q : j < t.length - 1
          · rw [hz.1 j q, lf_lt (by omega), lf_lt (by rw [l8]; omega), List.getElem_append_left]
          · have : j = t.length - 1 := by omega
            subst this
            rw [lf_lt (by rw [l8]; omega), List.getElem_append_right (by omega)]
            simp
      · rw [if_neg g2]
        refine ⟨fun q e => ?_, fun t' q e => (by cases e)⟩
        cases e
        exact wd_inr hT hz g (fun _ => g2)
theorem wdG_law0 {p : Nat} (hp : p ≤ n) :
    (∀ q, wdG f (n - p) [32] p = .inr q → oneOf f n p WP 0 = (none, q)) ∧ (∀ t' q, wdG f (n - p) [32] p = .inl (t', q) → ∃ ab ∈ WP, t' = 32 :: WT ab.1 ∧ ((q < n ∧ f q = 32) → oneOf f n p WP 0 = (some ab, q + 1)) ∧ (¬ (q < n ∧ f q = 32) → oneOf f n p WP 0 = (none, q))) :=
  wdG_law (n - p) [32] p (by decide) ⟨fun j hj => absurd hj (by simp), hp⟩ rfl (by omega)
end WLW
