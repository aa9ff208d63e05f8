/-! plain facts: what a try leaves as it is; the theatre stays well made -/
theorem gtT_ne {T : Nat → Int32} {x : Int32} {j : Nat} (h1 : ¬ j = 1) (h5 : ¬ j = 5) : gtT T x j = T j := by
  unfold gtT
  split
  · exact inc_ne h1
  · rw [upd_ne h1, upd_ne h5, inc_ne h1]
theorem bk3_ne {T : Nat → Int32} {t j : Nat} {n : Int32} (h1 : ¬ j = 1) (h4 : ¬ j = 4) (h5 : ¬ j = 5) (ha : ¬ j = 24 + 49 * t + 0) (hb : ¬ j = 24 + 49 * t + 8) : bk3 T t n j = T j := by
  unfold bk3
  rw [gtT_ne h1 h5, inc_ne hb, inc_ne h4, upd_ne ha]
theorem ub1_ne {T : Nat → Int32} {t j : Nat} (h1 : ¬ j = 1) (h3 : ¬ j = 3) (h5 : ¬ j = 5) (ha : ¬ j = 24 + 49 * t + 7) (hb : ¬ j = 24 + 49 * t + (9 + 5 * (nB T t - 1) + 4)) (hc : ¬ j = 24 + 49 * t + 3) : ub1 T t j = T j := by
  unfold ub1
  rw [gtT_ne h1 h5, upd_ne hc, upd_ne hb, inc_ne ha, inc_ne h3]
theorem tbT_ne {T : Nat → Int32} {t j : Nat} (ha : ¬ j = 24 + 49 * t + 0) (hb : ¬ j = 24 + 49 * t + 4) : tbT T t j = T j := by
  unfold tbT
  rw [upd_ne hb, upd_ne ha]
/-- the places that a try of tour t may change -/
def dyn (t j : Nat) : Prop := j < 8 ∨ (9 ≤ j ∧ j < 24) ∨ j = 24 + 49 * t + 0 ∨ j = 24 + 49 * t + 3 ∨ j = 24 + 49 * t + 4 ∨ j = 24 + 49 * t + 5 ∨ j = 24 + 49 * t + 6 ∨ j = 24 + 49 * t + 7 ∨ j = 24 + 49 * t + 8 ∨ ∃ s, s < 8 ∧ j = 24 + 49 * t + (9 + 5 * s + 4)
theorem bkA_ne {T : Nat → Int32} {t j : Nat} (h4 : nn (tSt T t (nB T t) 1) ≤ 4) (h8 : nB T t < 8) (hd : ¬ dyn t j) : bkA T t j = T j := by
  unfold dyn at hd
  have hq : ¬ j = 24 + 49 * t + (9 + 5 * nB T t + 4) := fun e => hd (by right; right; right; right; right; right; right; right; right; exact ⟨_, h8, e⟩)
  have h1 : bk1 T t j = T j := bk1_ne (by omega) (by omega) (by omega) (by omega) hq (by omega)
  unfold bkA
  split
  · exact h1
  · rw [bk3_ne (by omega) (by omega) (by omega) (by omega) (by omega)]
    exact h1
theorem ubT_ne {T : Nat → Int32} {t j : Nat} (h8 : nB T t ≤ 8) (h0 : 0 < nB T t) (hd : ¬ dyn t j) : ubT T t j = T j := by
  unfold dyn at hd
  have hq : ¬ j = 24 + 49 * t + (9 + 5 * (nB T t - 1) + 4) := fun e => hd (by right; right; right; right; right; right; right; right; right; exact ⟨_, by omega, e⟩)
  have h1 : ub1 T t j = T j := ub1_ne (by omega) (by omega) (by omega) (by omega) hq (by omega)
  unfold ubT
  split
  · rw [upd_ne (by omega)]
    exact h1
  · exact h1
theorem mt2_B (T : Nat → Int32) (t : Nat) : nB (mt2 T t) t = nB T t := by unfold nB tOf; rw [mt2_ne (by omega) (by omega)]
theorem mt2_S (T : Nat → Int32) (t : Nat) : nS (mt2 T t) t = nS T t := by unfold nS tOf; rw [mt2_ne (by omega) (by omega)]
theorem mt2_st (T : Nat → Int32) (t s v : Nat) : tSt (mt2 T t) t s v = tSt T t s v := by unfold tSt; rw [mt2_ne (by omega) (by omega)]
theorem mtT_ne {T : Nat → Int32} {t j : Nat} (hT : TT T t) (hg : gsO T t) (hd : ¬ dyn t j) : mtT T t j = T j := by
  have hs := sNx_lt hT hg
  obtain ⟨a0, -, a2, a3, a4, a5, a6, a7⟩ := hT
  have h8 : nS T t ≤ 8 := a2.2
  have hd' := hd
  unfold dyn at hd'
  have m1 : ∀ f, mt1 T t f j = T j := fun f => mt1_ne (by omega) (by omega) (by omega) (by omega)
  have m2 : mt2 T t j = T j := mt2_ne (by omega) (by omega)
  unfold mtT
  split
  · split
    · rw [tbT_ne (by omega) (by omega)]; exact m1 _
    · exact m1 _
  · split
    · rename_i q
      rw [bkA_ne (by rw [mt2_B, mt2_st]; exact (a7 _ (a5 q)).2.1.2) (by rw [mt2_B]; have := a5 q; omega) hd]
      exact m2
    · rename_i q
      have q2 := ((gsO_12 a0).mp hg).resolve_left q
      rw [ubT_ne (by rw [mt2_B]; omega) (by rw [mt2_B]; exact a6 q2) hd]
      exact m2
/-- well made tours, by what they keep -/
theorem TT_c {T T' : Nat → Int32} {t : Nat} (hT : TT T t) (e1 : tOf T' t 1 = tOf T t 1) (e2 : tOf T' t 2 = tOf T t 2) (es : ∀ s v, s < 8 → v < 4 → tSt T' t s v = tSt T t s v)
    (h0 : sm (tOf T' t 0) 4) (h3 : sm (tOf T' t 3) 8) (h4 : nB T' t ≤ nS T t) (h5 : tOf T' t 0 = 1 → nB T' t < nS T t) (h6 : tOf T' t 0 = 2 → 0 < nB T' t) : TT T' t := by
  obtain ⟨a0, a1, a2, a3, a4, a5, a6, a7⟩ := hT
  have h8 : nS T t ≤ 8 := a2.2
  have eS : nS T' t = nS T t := by unfold nS; rw [e2]
  refine ⟨h0, by rw [e1]; exact a1, by rw [e2]; exact a2, h3, by rw [eS]; exact h4, by rw [eS]; exact h5, h6, fun s hs => ?_⟩
  rw [eS] at hs
  rw [es s 0 (by omega) (by omega), es s 1 (by omega) (by omega), es s 2 (by omega) (by omega), es s 3 (by omega) (by omega)]
  exact a7 s hs
theorem nd_other {t t' v : Nat} (h : ¬ t' = t) (hv : v < 49) : ¬ dyn t (24 + 49 * t' + v) := by
  unfold dyn
  rintro (q | q | q | q | q | q | q | q | q | ⟨s, hs, q⟩) <;> omega
theorem nd_12 {t v : Nat} (hv : v = 1 ∨ v = 2) : ¬ dyn t (24 + 49 * t + v) := by
  unfold dyn
  rintro (q | q | q | q | q | q | q | q | q | ⟨s, hs, q⟩) <;> omega
theorem nd_st {t s v : Nat} (hv : v < 4) : ¬ dyn t (24 + 49 * t + (9 + 5 * s + v)) := by
  unfold dyn
  rintro (q | q | q | q | q | q | q | q | q | ⟨s', hs, q⟩) <;> omega
theorem nd_8 {t : Nat} : ¬ dyn t 8 := by
  unfold dyn
  rintro (q | q | q | q | q | q | q | q | q | ⟨s', hs, q⟩) <;> omega
theorem nB_of {T : Nat → Int32} {t k : Nat} (e : tOf T t 3 = nI k) (h : k < 100) : nB T t = k := by unfold nB; rw [e, nn_nI (by omega)]
theorem sm1 {k m : Nat} (h : k ≤ m) (hm : m < 100) : sm (nI k) m := sm_nI h (by omega)
theorem mtT_t {T : Nat → Int32} {t : Nat} (hT : TT T t) (hg : gsO T t) : TT (mtT T t) t := by
  have hs := sNx_lt hT hg
  have hT' := hT
  obtain ⟨a0, a1, a2, a3, a4, a5, a6, a7⟩ := hT
  have h8 : nS T t ≤ 8 := a2.2
  have key : sm (tOf (mtT T t) t 0) 4 ∧ sm (tOf (mtT T t) t 3) 8 ∧ nB (mtT T t) t ≤ nS T t ∧ (tOf (mtT T t) t 0 = 1 → nB (mtT T t) t < nS T t) ∧ (tOf (mtT T t) t 0 = 2 → 0 < nB (mtT T t) t) := by
    unfold mtT
    split
    · have e0 : ∀ f, tOf (mt1 T t f) t 0 = tOf T t 0 := fun f => mt1_ne (by omega) (by omega) (by omega) (by omega)
      have e3 : ∀ f, tOf (mt1 T t f) t 3 = tOf T t 3 := fun f => mt1_ne (by omega) (by omega) (by omega) (by omega)
      split
      · rename_i q1 q2
        have f3 : tOf (tbT (mt1 T t (nfT T t)) t) t 3 = tOf T t 3 := by
          unfold tOf
          rw [tbT_ne (by omega) (by omega)]
          exact e3 _
        have f0 : tOf (tbT (mt1 T t (nfT T t)) t) t 0 = if tOf T t 3 = 0 then 4 else 2 := by
          unfold tbT
          rw [tOf, upd_ne (by omega), upd_eq, e3]
        have fB : nB (tbT (mt1 T t (nfT T t)) t) t = nB T t := by unfold nB; rw [f3]
        rw [f0, f3, fB]
        by_cases z : tOf T t 3 = 0
        · rw [if_pos z]
          exact ⟨sm1 (k := 4) (by omega) (by omega), a3, a4, fun q => absurd q (by decide), fun q => absurd q (by decide)⟩
        · rw [if_neg z]
          refine ⟨sm1 (k := 2) (by omega) (by omega), a3, a4, fun q => absurd q (by decide), fun _ => ?_⟩
          rcases Nat.eq_zero_or_pos (nB T t) with q | q
          · exact absurd (by rw [a3.1, show nn (tOf T t 3) = 0 from q]; rfl) z
          · exact q
      · have fB : nB (mt1 T t (nfT T t)) t = nB T t := by unfold nB; rw [e3]
        rw [e0, e3, fB]
        exact ⟨a0, a3, a4, a5, a6⟩
    · split
      · rename_i q1 q2
        have hb := a5 q2
        have c3 : tOf (bk1 (mt2 T t) t) t 3 = nI (nB T t + 1) := by
          unfold bk1
          rw [tOf, upd_eq, mt2_B]
        unfold bkA
        rw [mt2_B, mt2_S]
        split
        · rename_i q3
          have c0 : tOf (bk1 (mt2 T t) t) t 0 = tOf T t 0 := by
            have h4 : nn (tSt T t (nB T t) 1) ≤ 4 := (a7 _ hb).2.1.2
            unfold tOf
            rw [bk1_ne (by omega) (by omega) (by rw [mt2_B, mt2_st]; omega) (by omega) (by omega) (by omega), mt2_ne (by omega) (by omega)]
          have cB : nB (bk1 (mt2 T t) t) t = nB T t + 1 := nB_of c3 (by omega)
          rw [c0, c3, cB]
          exact ⟨a0, sm1 (by omega) (by omega), by omega, fun _ => q3, fun _ => by omega⟩
        · have d3 : ∀ n, tOf (bk3 (bk1 (mt2 T t) t) t n) t 3 = nI (nB T t + 1) := fun n => by
            rw [← c3]
            unfold tOf
            rw [bk3_ne (by omega) (by omega) (by omega) (by omega) (by omega)]
          have d0 : ∀ n, tOf (bk3 (bk1 (mt2 T t) t) t n) t 0 = 3 := fun n => by
            unfold bk3
            rw [tOf, gtT_ne (by omega) (by omega), inc_ne (by omega), inc_ne (by omega), upd_eq]
          have dB : ∀ n, nB (bk3 (bk1 (mt2 T t) t) t n) t = nB T t + 1 := fun n => nB_of (d3 n) (by omega)
          rw [d0, d3, dB]
          exact ⟨sm1 (k := 3) (by omega) (by omega), sm1 (by omega) (by omega), by omega, fun q => absurd q (by decide), fun q => absurd q (by decide)⟩
      · rename_i q1 q2
        have q3 := ((gsO_12 a0).mp hg).resolve_left q2
        have hb := a6 q3
        have c3 : tOf (ub1 (mt2 T t) t) t 3 = nI (nB T t - 1) := by
          unfold ub1
          rw [tOf, gtT_ne (by omega) (by omega), upd_eq, mt2_B]
        have c0 : tOf (ub1 (mt2 T t) t) t 0 = tOf T t 0 := by
          unfold tOf
          rw [ub1_ne (by omega) (by omega) (by omega) (by omega) (by omega) (by omega), mt2_ne (by omega) (by omega)]
        have cB : nB (ub1 (mt2 T t) t) t = nB T t - 1 := nB_of c3 (by omega)
        unfold ubT
        rw [mt2_B]
        split
        · rename_i q4
          have d0 : tOf (upd (ub1 (mt2 T t) t) (24 + 49 * t + 0) 4) t 0 = 4 := upd_eq
          have d3 : tOf (upd (ub1 (mt2 T t) t) (24 + 49 * t + 0) 4) t 3 = nI (nB T t - 1) := by rw [← c3, tOf, upd_ne (by omega), tOf]
          have dB : nB (upd (ub1 (mt2 T t) t) (24 + 49 * t + 0) 4) t = nB T t - 1 := nB_of d3 (by omega)
          rw [d0, d3, dB]
          exact ⟨sm1 (k := 4) (by omega) (by omega), sm1 (by omega) (by omega), by omega, fun q => absurd q (by decide), fun q => absurd q (by decide)⟩
        · rename_i q4
          rw [c0, c3, cB]
          exact ⟨a0, sm1 (by omega) (by omega), by omega, fun q => absurd q q2, fun _ => by omega⟩
  exact TT_c hT' (mtT_ne hT' hg (nd_12 (.inl rfl))) (mtT_ne hT' hg (nd_12 (.inr rfl))) (fun s v _ hv => mtT_ne hT' hg (nd_st hv)) key.1 key.2.1 key.2.2.1 key.2.2.2.1 key.2.2.2.2
theorem TT_s {T T' : Nat → Int32} {t : Nat} (hT : TT T t) (e : ∀ v, v < 49 → T' (24 + 49 * t + v) = T (24 + 49 * t + v)) : TT T' t := by
  have e' : ∀ v, v < 49 → tOf T' t v = tOf T t v := e
  have eB : nB T' t = nB T t := by unfold nB; rw [e' 3 (by omega)]
  refine TT_c hT (e' 1 (by omega)) (e' 2 (by omega)) (fun s v h1 h2 => e _ (by omega)) ?_ ?_ ?_ ?_ ?_
  · rw [e' 0 (by omega)]; exact hT.1
  · rw [e' 3 (by omega)]; exact hT.2.2.2.1
  · rw [eB]; exact hT.2.2.2.2.1
  · rw [eB, e' 0 (by omega)]; exact hT.2.2.2.2.2.1
  · rw [eB, e' 0 (by omega)]; exact hT.2.2.2.2.2.2.1
theorem TI_mt {T : Nat → Int32} {t : Nat} (hT : TI T) (ht : t < nT T) (hg : gsO T t) : TI (mtT T t) ∧ nT (mtT T t) = nT T := by
  have e8 : mtT T t 8 = T 8 := mtT_ne (hT.2 t ht) hg nd_8
  have eN : nT (mtT T t) = nT T := by unfold nT; rw [e8]
  refine ⟨⟨by rw [e8]; exact hT.1, fun t' ht' => ?_⟩, eN⟩
  rw [eN] at ht'
  by_cases q : t' = t
  · subst q
    exact mtT_t (hT.2 t' ht) hg
  · exact TT_s (hT.2 t' ht') (fun v hv => mtT_ne (hT.2 t ht) hg (nd_other q hv))
