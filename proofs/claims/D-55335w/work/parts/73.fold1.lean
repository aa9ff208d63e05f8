/-! a step more: the cells come together again -/
theorem TE_E {T E E' : Nat → Int32} (hE : TE T E) (e : ∀ j, j < 300 → E' j = E j) : TE T E' := fun k w d hk hw hd => by rw [e _ (by omega)]; exact hE k w d hk hw hd
def iU (I : IT2) (a : Nat) (p : Nat × Nat) : IT2 := fun b => if b = a then some p else I b
theorem iU_eq (I : IT2) (a : Nat) (p : Nat × Nat) : iU I a p a = some p := if_pos rfl
theorem iU_ne (I : IT2) {a b : Nat} (p : Nat × Nat) (n : ¬ b = a) : iU I a p b = I b := if_neg n
/-- places with a new array of steps of t at a, and step s of it at y -/
def dA9 (D : Nat → Nat → Nat) (t s a y : Nat) : Nat → Nat → Nat := fun k j => if k = 11 ∧ j = 8 * t + s then y else if k = 9 ∧ j = t then a else D k j
theorem dA9_o (D : Nat → Nat → Nat) (t s a y : Nat) {k j : Nat} (h11 : ¬ (k = 11 ∧ j = 8 * t + s)) (h9 : ¬ (k = 9 ∧ j = t)) : dA9 D t s a y k j = D k j := by
  unfold dA9
  rw [if_neg h11, if_neg h9]
theorem dA9_9 (D : Nat → Nat → Nat) (t s a y : Nat) : dA9 D t s a y 9 t = a := by
  unfold dA9
  rw [if_neg (by omega), if_pos ⟨rfl, rfl⟩]
theorem dA9_11 (D : Nat → Nat → Nat) (t s a y : Nat) : dA9 D t s a y 11 (8 * t + s) = y := by
  unfold dA9
  rw [if_pos ⟨rfl, rfl⟩]
theorem up_rfs {n y : Nat} {g g' : Nat → Nat} (h1 : ∀ i, i < n → g' i = g i) (h2 : g' n = y) : va_up (rfs n g) n (some y) = rfs (n + 1) g' := by
  funext i
  unfold va_up rfs
  by_cases q : i = n
  · subst q
    rw [if_pos rfl, if_pos (by omega), h2]
  · rw [if_neg q]
    by_cases q2 : i < n
    · rw [if_pos q2, if_pos (by omega), h1 i q2]
    · rw [if_neg q2, if_neg (by omega)]
section FA
variable {X : XT} {h : HP} {I : IT2} {D : Nat → Nat → Nat} {T E : Nat → Int32}
theorem adT_S {t : Nat} {kd tw dy mn : Int32} (h8 : nS T t < 8) : nS (adT T t kd tw dy mn) t = nS T t + 1 := by
  have e2 : tOf (adT T t kd tw dy mn) t 2 = nI (nS T t + 1) := upd_eq
  rw [nS, e2, nn_nI (by omega)]
theorem adT_So {t t' : Nat} {kd tw dy mn : Int32} (h8 : nS T t < 8) (hn : ¬ t' = t) : nS (adT T t kd tw dy mn) t' = nS T t' := by
  show nn (adT T t kd tw dy mn (24 + 49 * t' + 2)) = nn (T (24 + 49 * t' + 2))
  rw [adT_ne (by omega) (by omega)]
theorem adT_f {t : Nat} {kd tw dy mn : Int32} : tSt (adT T t kd tw dy mn) t (nS T t) 0 = kd ∧ tSt (adT T t kd tw dy mn) t (nS T t) 1 = tw ∧ tSt (adT T t kd tw dy mn) t (nS T t) 2 = dy ∧ tSt (adT T t kd tw dy mn) t (nS T t) 3 = mn ∧ tSt (adT T t kd tw dy mn) t (nS T t) 4 = 0 := by
  refine ⟨?_, ?_, ?_, ?_, ?_⟩
  · unfold adT; rw [tSt, upd_ne (by omega), upd_ne (by omega), upd_ne (by omega), upd_ne (by omega), upd_ne (by omega)]; exact if_pos (by omega)
  · unfold adT; rw [tSt, upd_ne (by omega), upd_ne (by omega), upd_ne (by omega), upd_ne (by omega)]; exact if_pos (by omega)
  · unfold adT; rw [tSt, upd_ne (by omega), upd_ne (by omega), upd_ne (by omega)]; exact if_pos (by omega)
  · unfold adT; rw [tSt, upd_ne (by omega), upd_ne (by omega)]; exact if_pos (by omega)
  · unfold adT; rw [tSt, upd_ne (by omega)]; exact if_pos (by omega)
theorem adT_st {t t' s v : Nat} {kd tw dy mn : Int32} (h8 : nS T t < 8) (hs8 : s < 8) (hv : v < 5) (hn : ¬ (t' = t ∧ s = nS T t)) : tSt (adT T t kd tw dy mn) t' s v = tSt T t' s v := by
  refine adT_ne ?_ ?_
  · have h3 : t' = t ∨ t' < t ∨ t < t' := by omega
    rcases h3 with h3 | h3 | h3 <;> omega
  · have h3 : t' = t ∨ t' < t ∨ t < t' := by omega
    rcases h3 with h3 | h3 | h3
    · subst h3
      have : ¬ s = nS T t' := fun q => hn ⟨rfl, q⟩
      omega
    · omega
    · omega
theorem fold_add (v : DV X I D T E h) (hJ : TJ T) {t : Nat} (ht : t < nT T) (h0 : tOf T t 0 = 0) (h8 : nS T t < 8) {kd tw dy mn : Int32} {y : Nat} {b0 : Bool} (ey : h y = some (spC b0 kd tw dy mn)) (a : Nat) (ha : h a = none) (h9 : (I a = none ∧ nS T t = 0) ∨ (a = D 9 t ∧ I a = some (9, t))) :
    hs (hs (ov I (tC D T E) h) a (oaC true 10 (va_up (rfs (nS T t) (fun s => D 11 (8 * t + s))) (nS T t) (some y)))) (D 8 t) (alC true (E (310 + t) + 1) a (nS T t + 1)) = ov (iU I a (9, t)) (tC (dA9 D t (nS T t) a y) (adT T t kd tw dy mn) (upd E (310 + t) (E (310 + t) + 1))) h ∧
    DV X (iU I a (9, t)) (dA9 D t (nS T t) a y) (adT T t kd tw dy mn) (upd E (310 + t) (E (310 + t) + 1)) h := by
  have h6 : t < 6 := by have := hJ.1.n6; omega
  obtain ⟨v0, v1, v2, v3, v4, e0, f, b, v5, v6, v7⟩ := v
  have i8 := v1 8 t ht
  have a8 : ¬ D 8 t = a := fun q => by
    rw [q] at i8
    rcases h9 with ⟨r, -⟩ | ⟨-, r⟩
    · rw [r] at i8; cases i8
    · rw [r] at i8; cases i8
  have eN : nT (adT T t kd tw dy mn) = nT T := by unfold nT; rw [adT_ne (by omega) (by omega)]
  have eWu : nW (upd E (310 + t) (E (310 + t) + 1)) = nW E := by unfold nW; rw [upd_ne (by omega)]
  -- places of I other than a
  have hI : ∀ q k j, I q = some (k, j) → ¬ q = a → ¬ (k = 9 ∧ j = t) := by
    intro q k j e n r
    obtain ⟨rfl, rfl⟩ := r
    obtain ⟨z1, -, -⟩ := v0 q _ _ e
    rcases h9 with ⟨r, z⟩ | ⟨r1, r2⟩
    · have := v7.2.1 j ht z
      rw [z1, this, v2.no v6] at e
      cases e
    · exact n (z1.trans r1.symm)
  have hDo : ∀ k j, k < 9 ∨ k = 10 → dA9 D t (nS T t) a y k j = D k j := fun k j hk => dA9_o D t _ a y (by omega) (by omega)
  have hS8 : ∀ t', t' < nT T → nS T t' ≤ 8 := fun t' h' => (hJ.1.2 t' h').2.2.1.2
  have hp0 := (hJ.2.2 t ht).1 h0
  constructor
  · funext q
    by_cases q8 : q = D 8 t
    · subst q8
      rw [hs_eq, ov_at (show iU I a (9, t) (D 8 t) = some (8, t) by rw [iU_ne _ _ a8]; exact i8), tC_8, upd_eq, dA9_9, adT_S h8]
    · rw [hs_ne _ _ q8]
      by_cases qa : q = a
      · subst qa
        rw [hs_eq, ov_at (iU_eq I q (9, t)), tC_9, adT_S h8]
        have : va_up (rfs (nS T t) (fun s => D 11 (8 * t + s))) (nS T t) (some y) = rfs (nS T t + 1) (fun s => dA9 D t (nS T t) q y 11 (8 * t + s)) := by
          refine up_rfs (fun i hi => ?_) ?_
          · exact dA9_o D t _ q y (by omega) (by omega)
          · exact dA9_11 D t _ q y
        rw [this]
      · rw [hs_ne _ _ qa]
        unfold ov
        rw [iU_ne _ _ qa]
        cases e : I q with
        | none => rfl
        | some p =>
          obtain ⟨k, j⟩ := p
          obtain ⟨z1, z2, z3⟩ := v0 q k j e
          have n9 := hI q k j e qa
          have n8 : ¬ (k = 8 ∧ j = t) := fun r => q8 (by rw [z1, r.1, r.2])
          have hj6 : k = 7 ∨ k = 8 ∨ k = 9 ∨ k = 10 → j < 6 := by
            intro r
            rcases r with rfl | rfl | rfl | rfl <;> exact z2
          refine congrArg some (tC_x z3 z2 (fun k j h1 _ _ => hDo k j h1) (fun _ i hi => adT_ne (by omega) (by omega)) (fun _ => ⟨eN, upd_ne (by omega), hDo 2 0 (by omega)⟩) (fun _ => ⟨eN, fun i _ => hDo 7 i (by omega)⟩) ⟨upd_ne (by omega), eWu⟩ (fun i _ => hDo 5 i (by omega)) (fun r w hw => ?_) (fun i hi => upd_ne (by omega)) (fun r => ⟨fun w hw h2 => ?_, hDo 8 j (by omega), hDo 10 j (by omega)⟩) (fun r => ?_) (fun r => ?_) (fun r s hs8 => ?_)).symm
          · subst r
            have z2 : j < 5 := z2
            exact adT_ne (by omega) (by omega)
          · have := hj6 (.inl r)
            refine adT_ne ?_ ?_
            · have h3 : j = t ∨ j < t ∨ t < j := by omega
              rcases h3 with h3 | h3 | h3 <;> omega
            · have h3 : j = t ∨ j < t ∨ t < j := by omega
              rcases h3 with h3 | h3 | h3 <;> omega
          · have nj : ¬ j = t := fun q => n8 ⟨r, q⟩
            exact ⟨adT_So h8 nj, upd_ne (by omega), dA9_o D t _ a y (by omega) (by omega)⟩
          · have nj : ¬ j = t := fun q => n9 ⟨r, q⟩
            have cv := v7.2.2 q k j e
            rw [r] at cv
            have h8j := hS8 j cv.1
            refine ⟨adT_So h8 nj, fun s hs8 => dA9_o D t _ a y (fun r2 => ?_) (by omega)⟩
            have r3 := r2.2
            have hs8 : s < nS T j := hs8
            have h3 : j < t ∨ t < j := by omega
            rcases h3 with h3 | h3 <;> omega
          · by_cases z : j = t ∧ s = nS T t
            · obtain ⟨rfl, rfl⟩ := z
              rw [adT_f.2.2.2.2, hp0.2.2 _ h8]
            · exact adT_st h8 hs8 (by omega) z
  · have hcv : ∀ k j, cov T k j → ¬ (k = 9 ∧ j = t) → ¬ D k j = a := by
      intro k j cv n9 q
      have e := v1 k j cv
      rw [q] at e
      rcases h9 with ⟨r, -⟩ | ⟨-, r⟩
      · rw [r] at e; cases e
      · rw [r] at e; cases e; exact n9 ⟨rfl, rfl⟩
    have cvT : ∀ k j, ¬ (k = 9 ∧ j = t) → (cov (adT T t kd tw dy mn) k j ↔ cov T k j) := by
      intro k j n9
      have hS : k = 9 → nS (adT T t kd tw dy mn) j = nS T j := fun r => adT_So h8 (fun q => n9 ⟨r, q⟩)
      unfold cov
      rw [eN]
      split <;> first | exact Iff.rfl | (rw [hS rfl])
    have c9 : cov (adT T t kd tw dy mn) 9 t := ⟨by rw [eN]; exact ht, by rw [adT_S h8]; omega⟩
    refine ⟨fun q k j e => ?_, fun k j cv => ?_, fun q p e => ?_, fun t' s h1 h2 => ?_, by rw [eWu]; exact v4, e0, f, b, v5, v6, fun z => ?_, fun t' h1 h2 => ?_, fun q k j e => ?_⟩
    · by_cases qa : q = a
      · subst qa
        rw [iU_eq] at e
        cases e
        exact ⟨(dA9_9 D t _ q y).symm, h6, by omega⟩
      · rw [iU_ne _ _ qa] at e
        obtain ⟨z1, z2, z3⟩ := v0 q k j e
        have n9 := hI q k j e qa
        exact ⟨by rw [dA9_o D t _ a y (by omega) n9]; exact z1, z2, z3⟩
    · by_cases n9 : k = 9 ∧ j = t
      · obtain ⟨rfl, rfl⟩ := n9
        rw [dA9_9]
        exact iU_eq _ _ _
      · have cv' := (cvT k j n9).mp cv
        have k11 : ¬ k = 11 := fun r => by rw [r] at cv'; exact cv'
        rw [dA9_o D t _ a y (by omega) n9, iU_ne _ _ (hcv k j cv' n9)]
        exact v1 k j cv'
    · by_cases qa : q = a
      · subst qa; exact ha
      · rw [iU_ne _ _ qa] at e
        exact v2 q p e
    · rw [eN] at h1
      by_cases z : t' = t ∧ s = nS T t
      · obtain ⟨rfl, rfl⟩ := z
        rw [dA9_11]
        refine ⟨b0, ?_⟩
        rw [ey]
        unfold stF
        rw [adT_f.1, adT_f.2.1, adT_f.2.2.1, adT_f.2.2.2.1]
      · have hs2 : s < nS T t' := by
          by_cases z2 : t' = t
          · subst z2
            rw [adT_S h8] at h2
            have : ¬ s = nS T t' := fun r => z ⟨rfl, r⟩
            omega
          · rw [adT_So h8 z2] at h2; exact h2
        have h8' := hS8 t' h1
        obtain ⟨b', q⟩ := v3 t' s h1 hs2
        rw [dA9_o D t _ a y (fun r2 => by
          have r3 := r2.2
          have h3 : t' = t ∨ t' < t ∨ t < t' := by omega
          rcases h3 with h3 | h3 | h3 <;> omega) (by omega)]
        refine ⟨b', ?_⟩
        rw [q]
        unfold stF
        rw [adT_st h8 (by omega) (by omega) z, adT_st h8 (by omega) (by omega) z, adT_st h8 (by omega) (by omega) z, adT_st h8 (by omega) (by omega) z]
    · rw [eN] at z
      rw [hDo 2 0 (by omega)]
      exact v7.1 z
    · rw [eN] at h1
      have nt : ¬ t' = t := fun r => by subst r; rw [adT_S h8] at h2; omega
      rw [adT_So h8 nt] at h2
      rw [dA9_o D t _ a y (by omega) (by omega)]
      exact v7.2.1 t' h1 h2
    · by_cases qa : q = a
      · subst qa
        rw [iU_eq] at e
        cases e
        exact c9
      · rw [iU_ne _ _ qa] at e
        exact (cvT k j (hI q k j e qa)).mpr (v7.2.2 q k j e)
end FA
