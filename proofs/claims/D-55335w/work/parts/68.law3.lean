/-! plain facts: what is taken goes with what is left, try by try -/
theorem sumS_sh (f : Nat → Int32) (a d : Int32) : ∀ n, sumS f (a + d) n = sumS f a n + d := by
  intro n
  induction n with
  | zero => rfl
  | succ n ih =>
    show sumS f (a + d) n + f n = sumS f a n + f n + d
    rw [ih, Int32.add_assoc, Int32.add_comm d, ← Int32.add_assoc]
theorem lfT_c {T T' : Nat → Int32} {kd tw dy : Int32} : ∀ n, (∀ t, t < n → nB T' t = nB T t) → (∀ t s v, t < n → s < nB T t → v < 4 → tSt T' t s v = tSt T t s v) → lfT T' kd tw dy n = lfT T kd tw dy n := by
  intro n
  induction n with
  | zero => intro _ _; rfl
  | succ n ih =>
    intro h1 h2
    show sumS _ (lfT T' kd tw dy n) (nB T' n) = sumS _ (lfT T kd tw dy n) (nB T n)
    rw [ih (fun t ht => h1 t (by omega)) (fun t s v ht hs hv => h2 t s v (by omega) hs hv), h1 n (by omega)]
    refine sumS_c _ (fun q hq => ?_)
    show - lfF T' kd tw dy n q = - lfF T kd tw dy n q
    unfold lfF
    rw [h2 n q 0 (by omega) hq (by omega), h2 n q 1 (by omega) hq (by omega), h2 n q 2 (by omega) hq (by omega), h2 n q 3 (by omega) hq (by omega)]
theorem lfT_1 {T T' : Nat → Int32} {kd tw dy : Int32} {t : Nat} (hB : nB T' t = nB T t + 1) : ∀ n, (∀ t', t' < n → ¬ t' = t → nB T' t' = nB T t') → (∀ t' s v, t' < n → s < nB T' t' → v < 4 → tSt T' t' s v = tSt T t' s v) → t < n → lfT T' kd tw dy n = lfT T kd tw dy n + - lfF T kd tw dy t (nB T t) := by
  intro n
  induction n with
  | zero => intro _ _ h; omega
  | succ n ih =>
    intro h1 h2 h3
    have hF : ∀ q, q < nB T' n → lfF T' kd tw dy n q = lfF T kd tw dy n q := fun q hq => by
      unfold lfF
      rw [h2 n q 0 (by omega) hq (by omega), h2 n q 1 (by omega) hq (by omega), h2 n q 2 (by omega) hq (by omega), h2 n q 3 (by omega) hq (by omega)]
    show sumS (fun s => - lfF T' kd tw dy n s) (lfT T' kd tw dy n) (nB T' n) = sumS (fun s => - lfF T kd tw dy n s) (lfT T kd tw dy n) (nB T n) + - lfF T kd tw dy t (nB T t)
    have e1 : sumS (fun s => - lfF T' kd tw dy n s) (lfT T' kd tw dy n) (nB T' n) = sumS (fun s => - lfF T kd tw dy n s) (lfT T' kd tw dy n) (nB T' n) := sumS_c _ (fun q hq => congrArg (fun z => - z) (hF q hq))
    rw [e1]
    by_cases q : n = t
    · subst q
      rw [hB, lfT_c (T' := T') (T := T) n (fun t' ht' => h1 t' (by omega) (by omega)) (fun t' s v ht' hs hv => h2 t' s v (by omega) (by rw [h1 t' (by omega) (by omega)]; exact hs) hv)]
      rfl
    · rw [ih (fun t' ht' hn => h1 t' (by omega) hn) (fun t' s v ht' hs hv => h2 t' s v (by omega) hs hv) (by omega), h1 n (by omega) q, sumS_sh]
theorem sub_ad (a b c : Int32) : a - (b + c) = a - b + - c := by
  rw [Int32.sub_eq_add_neg, Int32.sub_eq_add_neg, Int32.neg_add, Int32.sub_eq_add_neg, Int32.add_assoc]
/-- the cell of a step in what is taken -/
abbrev ixE (T : Nat → Int32) (t s : Nat) : Nat := 60 * nn (tSt T t s 1) + (20 * nn (tSt T t s 0) + nn (tSt T t s 2))
theorem lfF_m {T : Nat → Int32} {t s k w d : Nat} (b0 : sm (tSt T t s 0) 2) (b1 : sm (tSt T t s 1) 4) (b2 : sm (tSt T t s 2) 19) (hk : k ≤ 2) (hw : w ≤ 4) (hd : d ≤ 19) :
    (60 * w + (20 * k + d) = ixE T t s → lfF T (nI k) (nI w) (nI d) t s = tSt T t s 3) ∧ (¬ 60 * w + (20 * k + d) = ixE T t s → lfF T (nI k) (nI w) (nI d) t s = 0) := by
  have c0 := b0.2
  have c1 := b1.2
  have c2 := b2.2
  unfold lfF
  constructor
  · intro q
    have q : 60 * w + (20 * k + d) = 60 * nn (tSt T t s 1) + (20 * nn (tSt T t s 0) + nn (tSt T t s 2)) := q
    have z1 : w = nn (tSt T t s 1) := by omega
    have z0 : k = nn (tSt T t s 0) := by omega
    have z2 : d = nn (tSt T t s 2) := by omega
    rw [if_pos ⟨by rw [z0]; exact b0.1, by rw [z1]; exact b1.1, by rw [z2]; exact b2.1⟩]
  · intro q
    refine if_neg (fun r => q ?_)
    have z0 : nn (tSt T t s 0) = k := by rw [r.1, nn_nI (by omega)]
    have z1 : nn (tSt T t s 1) = w := by rw [r.2.1, nn_nI (by omega)]
    have z2 : nn (tSt T t s 2) = d := by rw [r.2.2, nn_nI (by omega)]
    rw [ixE, z0, z1, z2]
theorem TE_up {T T' E : Nat → Int32} {t : Nat} (hE : TE T E) (hN : nT T' = nT T) (ht : t < nT T) (hB : nB T' t = nB T t + 1) (h1 : ∀ t', t' < nT T → ¬ t' = t → nB T' t' = nB T t') (h2 : ∀ t' s v, t' < nT T → s < nB T' t' → v < 4 → tSt T' t' s v = tSt T t' s v)
    (b0 : sm (tSt T t (nB T t) 0) 2) (b1 : sm (tSt T t (nB T t) 1) 4) (b2 : sm (tSt T t (nB T t) 2) 19) : TE T' (tkE T E t (nB T t) (tSt T t (nB T t) 3)) := by
  intro k w d hk hw hd
  obtain ⟨f1, f2⟩ := lfF_m (k := k) (w := w) (d := d) b0 b1 b2 hk hw hd
  unfold lfO
  rw [hN, lfT_1 hB (nT T) h1 h2 ht]
  have e := hE k w d hk hw hd
  unfold lfO at e
  rw [← e]
  unfold tkE
  by_cases q : 60 * w + (20 * k + d) = ixE T t (nB T t)
  · rw [f1 q, q, upd_eq, sub_ad]
  · rw [f2 q, upd_ne q, Int32.neg_zero, Int32.add_zero]
theorem TE_dn {T T' E : Nat → Int32} {t : Nat} (hE : TE T E) (hN : nT T' = nT T) (ht : t < nT T) (hB : nB T t = nB T' t + 1) (h1 : ∀ t', t' < nT T → ¬ t' = t → nB T' t' = nB T t') (h2 : ∀ t' s v, t' < nT T → s < nB T t' → v < 4 → tSt T' t' s v = tSt T t' s v)
    (b0 : sm (tSt T t (nB T t - 1) 0) 2) (b1 : sm (tSt T t (nB T t - 1) 1) 4) (b2 : sm (tSt T t (nB T t - 1) 2) 19) : TE T' (tkE T E t (nB T t - 1) (- tSt T t (nB T t - 1) 3)) := by
  intro k w d hk hw hd
  obtain ⟨f1, f2⟩ := lfF_m (k := k) (w := w) (d := d) b0 b1 b2 hk hw hd
  have hs : nB T' t = nB T t - 1 := by omega
  have e3 : lfF T' (nI k) (nI w) (nI d) t (nB T t - 1) = lfF T (nI k) (nI w) (nI d) t (nB T t - 1) := by
    unfold lfF
    rw [h2 t _ 0 ht (by omega) (by omega), h2 t _ 1 ht (by omega) (by omega), h2 t _ 2 ht (by omega) (by omega), h2 t _ 3 ht (by omega) (by omega)]
  have e := hE k w d hk hw hd
  unfold lfO at e ⊢
  rw [lfT_1 (T := T') (T' := T) hB (nT T) (fun t' q1 q2 => (h1 t' q1 q2).symm) (fun t' s v q1 q2 q3 => (h2 t' s v q1 q2 q3).symm) ht, hs, e3] at e
  rw [hN]
  have e4 : lfT T' (nI k) (nI w) (nI d) (nT T) = most (nI k) - E (60 * w + (20 * k + d)) + lfF T (nI k) (nI w) (nI d) t (nB T t - 1) := by
    rw [e, Int32.add_assoc, Int32.add_comm (- _), ← Int32.sub_eq_add_neg, Int32.sub_self, Int32.add_zero]
  rw [e4]
  unfold tkE
  by_cases q : 60 * w + (20 * k + d) = ixE T t (nB T t - 1)
  · rw [f1 q, q, upd_eq, sub_ad, Int32.neg_neg]
  · rw [f2 q, upd_ne q, Int32.add_zero]
theorem TE_c {T T' E : Nat → Int32} (hE : TE T E) (hN : nT T' = nT T) (h1 : ∀ t, t < nT T → nB T' t = nB T t) (h2 : ∀ t s v, t < nT T → s < nB T t → v < 4 → tSt T' t s v = tSt T t s v) : TE T' E := by
  intro k w d hk hw hd
  rw [hE k w d hk hw hd]
  unfold lfO
  rw [hN, lfT_c (nT T) h1 h2]
theorem mtT_B {T : Nat → Int32} {t : Nat} (hT : TT T t) (hg : gsO T t) : (0 < nfT T t → nB (mtT T t) t = nB T t) ∧ (¬ 0 < nfT T t → tOf T t 0 = 1 → nB (mtT T t) t = nB T t + 1) ∧ (¬ 0 < nfT T t → ¬ tOf T t 0 = 1 → nB T t = nB (mtT T t) t + 1) := by
  obtain ⟨a0, a1, a2, a3, a4, a5, a6, a7⟩ := hT
  have h8 : nS T t ≤ 8 := a2.2
  refine ⟨fun g => ?_, fun g g1 => ?_, fun g g1 => ?_⟩
  · unfold mtT
    rw [if_pos g]
    have e3 : ∀ f, tOf (mt1 T t f) t 3 = tOf T t 3 := fun f => mt1_ne (by omega) (by omega) (by omega) (by omega)
    split
    · have f3 : tOf (tbT (mt1 T t (nfT T t)) t) t 3 = tOf T t 3 := by
        unfold tOf
        rw [tbT_ne (by omega) (by omega)]
        exact e3 _
      unfold nB; rw [f3]
    · unfold nB; rw [e3]
  · unfold mtT
    rw [if_neg g, if_pos g1]
    have hb := a5 g1
    have c3 : tOf (bk1 (mt2 T t) t) t 3 = nI (nB T t + 1) := by
      unfold bk1
      rw [tOf, upd_eq, mt2_B]
    unfold bkA
    split
    · exact nB_of c3 (by omega)
    · refine nB_of ?_ (by omega)
      rw [← c3]
      unfold tOf
      rw [bk3_ne (by omega) (by omega) (by omega) (by omega) (by omega)]
  · unfold mtT
    rw [if_neg g, if_neg g1]
    have q3 := ((gsO_12 a0).mp hg).resolve_left g1
    have hb := a6 q3
    have c3 : tOf (ub1 (mt2 T t) t) t 3 = nI (nB T t - 1) := by
      unfold ub1
      rw [tOf, gtT_ne (by omega) (by omega), upd_eq, mt2_B]
    have cB : nB (ub1 (mt2 T t) t) t = nB T t - 1 := nB_of c3 (by omega)
    unfold ubT
    split
    · have d3 : tOf (upd (ub1 (mt2 T t) t) (24 + 49 * t + 0) 4) t 3 = nI (nB T t - 1) := by rw [← c3, tOf, upd_ne (by omega), tOf]
      rw [nB_of d3 (by omega)]; omega
    · rw [cB]; omega
theorem TE_mt {T E : Nat → Int32} {t : Nat} (hE : TE T E) (hJ : TJ T) (ht : t < nT T) (hg : gsO T t) : TE (mtT T t) (mtE T E t) := by
  have hT := hJ.1.2 t ht
  obtain ⟨m1, m2, m3⟩ := mtT_B hT hg
  have hN := (TI_mt hJ.1 ht hg).2
  have ho : ∀ t', t' < nT T → ¬ t' = t → nB (mtT T t) t' = nB T t' := fun t' _ hn => by
    show nn (mtT T t (24 + 49 * t' + 3)) = nn (T (24 + 49 * t' + 3))
    rw [mtT_ne hT hg (nd_other hn (by omega))]
  have hst : ∀ t' s v, t' < nT T → s < 8 → v < 4 → tSt (mtT T t) t' s v = tSt T t' s v := fun t' s v h1 h2 h3 => by
    by_cases q : t' = t
    · subst q; exact mtT_ne hT hg (nd_st h3)
    · exact mtT_ne hT hg (nd_other q (by omega))
  have hB8 : ∀ t', t' < nT T → nB T t' ≤ 8 := fun t' h' => (hJ.1.2 t' h').2.2.2.1.2
  have hS8 : nS T t ≤ 8 := hT.2.2.1.2
  unfold mtE
  split
  · rename_i g
    refine TE_c hE hN (fun t' h' => ?_) (fun t' s v h1 h2 h3 => hst t' s v h1 (by have := hB8 t' h1; omega) h3)
    by_cases q : t' = t
    · subst q; exact m1 g
    · exact ho t' h' q
  · rename_i g
    split
    · rename_i g1
      have hb := hT.2.2.2.2.2.1 g1
      obtain ⟨b0, b1, b2, b3, -⟩ := hT.2.2.2.2.2.2.2 _ hb
      refine TE_up hE hN ht (m2 g g1) ho (fun t' s v h1 h2 h3 => hst t' s v h1 ?_ h3) b0 b1 b2
      by_cases q : t' = t
      · subst q; rw [m2 g g1] at h2; omega
      · rw [ho t' h1 q] at h2; have := hB8 t' h1; omega
    · rename_i g1
      have g2 := ((gsO_12 hT.1).mp hg).resolve_left g1
      have hb := hT.2.2.2.2.2.2.1 g2
      have hbs : nB T t ≤ nS T t := hT.2.2.2.2.1
      obtain ⟨b0, b1, b2, b3, -⟩ := hT.2.2.2.2.2.2.2 (nB T t - 1) (by omega)
      exact TE_dn hE hN ht (m3 g g1) ho (fun t' s v h1 h2 h3 => hst t' s v h1 (by have := hB8 t' h1; omega) h3) b0 b1 b2
