/-! plain facts: what holds of a theatre's numbers all along -/
def TK (T : Nat → Int32) (t : Nat) : Prop := (tOf T t 0 = 0 → nB T t = 0 ∧ tOf T t 4 = 0 ∧ ∀ s, s < 8 → tSt T t s 4 = 0) ∧ (tOf T t 0 = 1 → sm (tOf T t 4) 4 ∧ nn (tOf T t 4) ≤ nn (tOf T t 1)) ∧ (nn (tOf T t 0) ≤ 2 → tOf T t 8 = 0) ∧ ∀ s, s < 8 → sm (tSt T t s 4) 1000
def TG (T : Nat → Int32) : Prop := sm (T 1) 9999 ∧ ∀ w, w < 5 → (T (9 + 3 * w) = 0 ∨ T (9 + 3 * w) = 1) ∧ sm (T (9 + 3 * w + 1)) 5
def TJ (T : Nat → Int32) : Prop := TI T ∧ TG T ∧ ∀ t, t < nT T → TK T t
theorem TK_s {T T' : Nat → Int32} {t : Nat} (hT : TK T t) (e : ∀ v, v < 49 → T' (24 + 49 * t + v) = T (24 + 49 * t + v)) : TK T' t := by
  have e' : ∀ v, v < 49 → tOf T' t v = tOf T t v := e
  have eB : nB T' t = nB T t := by unfold nB; rw [e' 3 (by omega)]
  have es : ∀ s, s < 8 → tSt T' t s 4 = tSt T t s 4 := fun s hs => e _ (by omega)
  obtain ⟨h1, h2, h3, h4⟩ := hT
  refine ⟨?_, ?_, ?_, fun s hs => by rw [es s hs]; exact h4 s hs⟩
  · rw [eB, e' 0 (by omega), e' 4 (by omega)]; exact fun q => ⟨(h1 q).1, (h1 q).2.1, fun s hs => by rw [es s hs]; exact (h1 q).2.2 s hs⟩
  · rw [e' 0 (by omega), e' 4 (by omega), e' 1 (by omega)]; exact h2
  · rw [e' 0 (by omega), e' 8 (by omega)]; exact h3
theorem sm_of {x : Int32} {m : Nat} (k : Nat) (e : x = nI k) (h : k ≤ m) (hm : m < 2 ^ 31) : sm x m := by rw [e]; exact sm_nI h hm
theorem pcK_n (kd : Int32) : ∃ k, k ≤ 6 ∧ pcK kd = nI k := by
  unfold pcK
  split
  · exact ⟨6, by omega, rfl⟩
  · split
    · exact ⟨2, by omega, rfl⟩
    · exact ⟨1, by omega, rfl⟩
theorem pcS_sm {T : Nat → Int32} {t s : Nat} (h3 : sm (tSt T t s 3) 12) (h1 : sm (T (9 + 3 * nn (tSt T t s 1) + 1)) 5) : sm (pcS T t s) 360 := by
  obtain ⟨k, hk, e⟩ := pcK_n (tSt T t s 0)
  have hk1 := h3.2
  have hk2 := h1.2
  have e2 : pcS T t s = nI (k * nn (tSt T t s 3) * nn (T (9 + 3 * nn (tSt T t s 1) + 1))) := by
    unfold pcS
    rw [e, h3.1, h1.1, nn_nI (by omega), nn_nI (by omega), pk_mul, pk_mul]
  refine sm_of _ e2 ?_ (by decide)
  have a : k * nn (tSt T t s 3) ≤ 6 * 12 := Nat.mul_le_mul hk hk1
  calc k * nn (tSt T t s 3) * nn (T (9 + 3 * nn (tSt T t s 1) + 1)) ≤ 6 * 12 * 5 := Nat.mul_le_mul a hk2
    _ = 360 := rfl
theorem hl_n (T : Nat → Int32) (t : Nat) : ∀ n, ∃ k, k ≤ n ∧ sumS (hlF T t) 0 n = nI k := by
  intro n
  induction n with
  | zero => exact ⟨0, Nat.le_refl _, rfl⟩
  | succ n ih =>
    obtain ⟨k, h1, h2⟩ := ih
    rw [sumS, h2]
    unfold hlF
    split
    · exact ⟨k + 1, by omega, nI_1 k⟩
    · exact ⟨k, by omega, Int32.add_zero _⟩
theorem gtT_1 {T : Nat → Int32} {x : Int32} (k : Nat) (h : sm (T 1) 9999) (e : x = nI k) (hk : k ≤ 10000) : sm (gtT T x 1) 9999 := by
  have h2 := h.2
  have e1 : T 1 + x = nI (nn (T 1) + k) := by rw [e, ← nI_add, ← h.1]
  unfold gtT
  rw [e1]
  split
  · rename_i q
    have := (nI_leI (b := 9999) (by omega) (by decide)).mp q
    rw [inc_e, upd_eq, e1]
    exact sm_nI this (by decide)
  · rw [upd_eq]
    exact sm_nI (k := 9999) (Nat.le_refl _) (by decide)
theorem nf0 {T : Nat → Int32} {t : Nat} (h : ¬ 0 < nfT T t) (h1 : tOf T t 0 = 1) : ¬ T 1 < pcS T t (nB T t) := by
  have e : sNx T t = nB T t := if_pos h1
  intro q
  apply h
  unfold nfT
  rw [e, if_neg (show ¬ tOf T t 0 = 2 by rw [h1]; decide), if_pos q]
  split
  · decide
  · split
    · decide
    · decide
theorem nI_div2 {k : Nat} (h : k ≤ 1000) : nI k / 2 = nI (k / 2) := by
  have : ∀ k : Fin 1001, nI k.1 / 2 = nI (k.1 / 2) := by decide +kernel
  exact this ⟨k, by omega⟩
theorem nI_subI {a b : Nat} (h : b ≤ a) : nI a + - nI b = nI (a - b) := by
  rw [← Int32.sub_eq_add_neg]
  exact nI_sub' h
/-- a try leaves the towns' doors and dearness -/
theorem mtT_tw {T : Nat → Int32} {t w v : Nat} (hT : TT T t) (hg : gsO T t) (hv : v < 2) : mtT T t (9 + 3 * w + v) = T (9 + 3 * w + v) ∨ 5 ≤ w := by
  rcases Nat.lt_or_ge w 5 with hw | hw
  · left
    have hs := sNx_lt hT hg
    obtain ⟨a0, -, a2, a3, a4, a5, a6, a7⟩ := hT
    have h8 : nS T t ≤ 8 := a2.2
    have m1 : ∀ f, mt1 T t f (9 + 3 * w + v) = T (9 + 3 * w + v) := fun f => mt1_ne (by omega) (by omega) (by omega) (by omega)
    have m2 : mt2 T t (9 + 3 * w + v) = T (9 + 3 * w + v) := mt2_ne (by omega) (by omega)
    unfold mtT
    split
    · split
      · rw [tbT_ne (by omega) (by omega)]; exact m1 _
      · exact m1 _
    · split
      · rename_i q
        have b1 : bk1 (mt2 T t) t (9 + 3 * w + v) = T (9 + 3 * w + v) := by rw [bk1_ne (by omega) (by omega) (by omega) (by omega) (by omega) (by omega)]; exact m2
        unfold bkA
        split
        · exact b1
        · rw [bk3_ne (by omega) (by omega) (by omega) (by omega) (by omega)]; exact b1
      · have b1 : ub1 (mt2 T t) t (9 + 3 * w + v) = T (9 + 3 * w + v) := by rw [ub1_ne (by omega) (by omega) (by omega) (by omega) (by omega) (by omega)]; exact m2
        unfold ubT
        split
        · rw [upd_ne (by omega)]; exact b1
        · exact b1
  · exact .inr hw
/-- coins behind a try -/
theorem mtT_1 {T : Nat → Int32} {t : Nat} (hT : TT T t) (hK : TK T t) (hG : TG T) (hg : gsO T t) : sm (mtT T t 1) 9999 := by
  obtain ⟨a0, -, a2, a3, a4, a5, a6, a7⟩ := hT
  have h8 : nS T t ≤ 8 := a2.2
  have m1 : ∀ f, mt1 T t f 1 = T 1 := fun f => mt1_ne (by omega) (by omega) (by omega) (by omega)
  have m2 : mt2 T t 1 = T 1 := mt2_ne (by omega) (by omega)
  unfold mtT
  split
  · split
    · rw [tbT_ne (by omega) (by omega), m1]; exact hG.1
    · rw [m1]; exact hG.1
  · rename_i q0
    split
    · rename_i q
      obtain ⟨b0, b1, b2, b3, -⟩ := a7 _ (a5 q)
      have p1 : pcS (mt2 T t) t (nB (mt2 T t) t) = pcS T t (nB T t) := by
        unfold pcS
        rw [mt2_B, mt2_st, mt2_st, mt2_st, mt2_ne (by have := b1.2; omega) (by have := b1.2; omega)]
      have sp := pcS_sm b3 (hG.2 _ (Nat.lt_succ_of_le b1.2)).2
      have hle : nn (pcS T t (nB T t)) ≤ nn (T 1) := by
        have q2 := nf0 q0 q
        rw [hG.1.1, sp.1] at q2
        have z1 := hG.1.2
        have z2 := sp.2
        rcases Nat.lt_or_ge (nn (T 1)) (nn (pcS T t (nB T t))) with r | r
        · exact absurd ((nI_ltI (by omega) (by omega)).mpr r) q2
        · exact r
      have e1 : bk1 (mt2 T t) t 1 = nI (nn (T 1) - nn (pcS T t (nB T t))) := by
        unfold bk1
        have hb1 := b1.2
        rw [p1, upd_ne (by omega), upd_ne (by omega), inc_ne (by omega), inc_ne (by rw [mt2_B, mt2_st]; omega), inc_ne (by omega), inc_e, upd_eq, m2, sp.1, nn_nI (by have := sp.2; omega)]
        conv => lhs; rw [hG.1.1]
        exact nI_subI hle
      have s1 : sm (bk1 (mt2 T t) t 1) 9999 := sm_of _ e1 (by have := hG.1.2; omega) (by decide)
      unfold bkA
      split
      · exact s1
      · obtain ⟨k, hk, ek⟩ := hl_n (mt2 T t) t (nB (mt2 T t) t + 1)
        have hk8 : nB T t < 8 := by have := a5 q; omega
        rw [mt2_B] at hk
        unfold bk3
        refine gtT_1 (10 * k) ?_ (by rw [ek, show (10 : Int32) = nI 10 from rfl, pk_mul]) (by omega)
        rw [inc_ne (by omega), inc_ne (by omega), upd_ne (by omega)]
        exact s1
    · rename_i q
      have q2 := ((gsO_12 a0).mp hg).resolve_left q
      have hb := a6 q2
      have hb8 : nB T t ≤ 8 := by omega
      have sp := hK.2.2.2 (nB T t - 1) (by omega)
      have sp2 := sp.2
      have e2 : tSt (mt2 T t) t (nB (mt2 T t) t - 1) 4 / 2 = nI (nn (tSt T t (nB T t - 1) 4) / 2) := by
        rw [mt2_B, mt2_st, sp.1, nn_nI (by omega)]
        exact nI_div2 (by omega)
      have s1 : sm (ub1 (mt2 T t) t 1) 9999 := by
        unfold ub1
        refine gtT_1 _ ?_ e2 (by omega)
        rw [upd_ne (by omega), upd_ne (by omega), inc_ne (by omega), inc_ne (by omega), m2]
        exact hG.1
      unfold ubT
      split
      · rw [upd_ne (by omega)]; exact s1
      · exact s1
theorem TK_mt {T : Nat → Int32} {t : Nat} (hT : TT T t) (hK : TK T t) (hG : TG T) (hg : gsO T t) : TK (mtT T t) t := by
  have hT' := hT
  obtain ⟨a0, a1, a2, a3, a4, a5, a6, a7⟩ := hT
  obtain ⟨k1', k2, k3, k4⟩ := hK
  have h8 : nS T t ≤ 8 := a2.2
  have h12 := (gsO_12 a0).mp hg
  have n0 : ¬ tOf T t 0 = 0 := by rcases h12 with q | q <;> rw [q] <;> decide
  have nle : nn (tOf T t 0) ≤ 2 := by rcases h12 with q | q <;> rw [q] <;> decide
  have hlim : tOf (mtT T t) t 1 = tOf T t 1 := mtT_ne hT' hg (nd_12 (.inl rfl))
  unfold TK
  rw [hlim]
  have m2v : ∀ v, ¬ v = 4 → tOf (mt2 T t) t v = tOf T t v := fun v hv => mt2_ne (by omega) (by omega)
  unfold mtT
  split
  · have e0 : ∀ f v, v < 4 ∨ 6 ≤ v → tOf (mt1 T t f) t v = tOf T t v := fun f v hv => mt1_ne (by omega) (by omega) (by omega) (by omega)
    have es : ∀ f s, tSt (mt1 T t f) t s 4 = tSt T t s 4 := fun f s => mt1_ne (by omega) (by omega) (by omega) (by omega)
    split
    · have f0 : tOf (tbT (mt1 T t (nfT T t)) t) t 0 = if tOf T t 3 = 0 then 4 else 2 := by
        unfold tbT
        rw [tOf, upd_ne (by omega), upd_eq, e0 _ _ (.inl (by omega))]
      have f8 : tOf (tbT (mt1 T t (nfT T t)) t) t 8 = tOf T t 8 := by
        unfold tOf
        rw [tbT_ne (by omega) (by omega)]
        exact e0 _ 8 (.inr (by omega))
      have fs : ∀ s, tSt (tbT (mt1 T t (nfT T t)) t) t s 4 = tSt T t s 4 := fun s => by
        unfold tSt
        rw [tbT_ne (by omega) (by omega)]
        exact es _ s
      refine ⟨fun q => ?_, fun q => ?_, fun _ => by rw [f8]; exact k3 nle, fun s hs => by rw [fs]; exact k4 s hs⟩
      · rw [f0] at q; split at q <;> exact absurd q (by decide)
      · rw [f0] at q; split at q <;> exact absurd q (by decide)
    · rename_i q1 q2
      have e4 : tOf (mt1 T t (nfT T t)) t 4 = tOf T t 4 + 1 := mt1_4
      refine ⟨fun q => ?_, fun q => ?_, fun _ => by rw [e0 _ _ (.inr (by omega))]; exact k3 nle, fun s hs => by rw [es]; exact k4 s hs⟩
      · rw [e0 _ _ (.inl (by omega))] at q; exact absurd q n0
      · rw [e0 _ _ (.inl (by omega))] at q
        obtain ⟨z1, z2⟩ := k2 q
        have z3 := z1.2
        have z4 := a1.2
        have z5 : ¬ nn (tOf T t 4) = nn (tOf T t 1) := fun r => q2 ⟨q, by rw [z1.1, a1.1, r]⟩
        rw [e4, z1.1, nI_1, nn_nI (by omega)]
        exact ⟨sm_nI (by omega) (by decide), by omega⟩
  · rename_i q0
    split
    · rename_i q
      have hb := a5 q
      obtain ⟨b0, b1, b2, b3, -⟩ := a7 _ hb
      have hb1 := b1.2
      have c0 : tOf (bk1 (mt2 T t) t) t 0 = tOf T t 0 := by
        unfold tOf
        rw [bk1_ne (by omega) (by omega) (by rw [mt2_B, mt2_st]; omega) (by omega) (by omega) (by omega), mt2_ne (by omega) (by omega)]
      have c8 : tOf (bk1 (mt2 T t) t) t 8 = tOf T t 8 := by
        unfold tOf
        rw [bk1_ne (by omega) (by omega) (by rw [mt2_B, mt2_st]; omega) (by omega) (by omega) (by omega), mt2_ne (by omega) (by omega)]
      have c4 : tOf (bk1 (mt2 T t) t) t 4 = 0 := by
        unfold tOf
        rw [bk1_ne (by omega) (by omega) (by rw [mt2_B, mt2_st]; omega) (by omega) (by omega) (by omega)]
        exact upd_eq
      have p1 : pcS (mt2 T t) t (nB T t) = pcS T t (nB T t) := by
        unfold pcS
        rw [mt2_st, mt2_st, mt2_st, mt2_ne (by omega) (by omega)]
      have sp := pcS_sm b3 (hG.2 _ (Nat.lt_succ_of_le b1.2)).2
      have cs : ∀ s, s < 8 → sm (tSt (bk1 (mt2 T t) t) t s 4) 1000 := by
        intro s hs
        by_cases e : s = nB T t
        · subst e
          unfold bk1
          rw [mt2_B, p1, tSt, upd_ne (by omega), upd_eq]
          exact ⟨sp.1, by have := sp.2; omega⟩
        · have : tSt (bk1 (mt2 T t) t) t s 4 = tSt T t s 4 := by
            unfold tSt
            rw [bk1_ne (by omega) (by omega) (by rw [mt2_B, mt2_st]; omega) (by omega) (by rw [mt2_B]; omega) (by omega), mt2_ne (by omega) (by omega)]
          rw [this]
          exact k4 s hs
      unfold bkA
      split
      · refine ⟨fun r => ?_, fun r => ?_, fun _ => by rw [c8]; exact k3 nle, cs⟩
        · rw [c0] at r; exact absurd r n0
        · rw [c4]; exact ⟨sm_nI (k := 0) (by omega) (by decide), Nat.zero_le _⟩
      · have d0 : ∀ n, tOf (bk3 (bk1 (mt2 T t) t) t n) t 0 = 3 := fun n => by
          unfold bk3
          rw [tOf, gtT_ne (by omega) (by omega), inc_ne (by omega), inc_ne (by omega), upd_eq]
        have ds : ∀ n s, tSt (bk3 (bk1 (mt2 T t) t) t n) t s 4 = tSt (bk1 (mt2 T t) t) t s 4 := fun n s => bk3_ne (by omega) (by omega) (by omega) (by omega) (by omega)
        rw [d0]
        exact ⟨fun r => absurd r (by decide), fun r => absurd r (by decide), fun r => absurd r (by decide), fun s hs => by rw [ds]; exact cs s hs⟩
    · rename_i q
      have q2 := h12.resolve_left q
      have hb := a6 q2
      have c0 : tOf (ub1 (mt2 T t) t) t 0 = 2 := by
        rw [← q2]
        unfold tOf
        rw [ub1_ne (by omega) (by omega) (by omega) (by omega) (by omega) (by omega), mt2_ne (by omega) (by omega)]
      have c8 : tOf (ub1 (mt2 T t) t) t 8 = tOf T t 8 := by
        unfold tOf
        rw [ub1_ne (by omega) (by omega) (by omega) (by omega) (by omega) (by omega), mt2_ne (by omega) (by omega)]
      have cs : ∀ s, s < 8 → sm (tSt (ub1 (mt2 T t) t) t s 4) 1000 := by
        intro s hs
        by_cases e : s = nB T t - 1
        · subst e
          unfold ub1
          rw [mt2_B, tSt, gtT_ne (by omega) (by omega), upd_ne (by omega), upd_eq]
          exact sm_nI (k := 0) (by omega) (by decide)
        · have : tSt (ub1 (mt2 T t) t) t s 4 = tSt T t s 4 := by
            unfold tSt
            rw [ub1_ne (by omega) (by omega) (by omega) (by omega) (by rw [mt2_B]; omega) (by omega), mt2_ne (by omega) (by omega)]
          rw [this]
          exact k4 s hs
      unfold ubT
      split
      · have d0 : tOf (upd (ub1 (mt2 T t) t) (24 + 49 * t + 0) 4) t 0 = 4 := upd_eq
        have ds : ∀ s, tSt (upd (ub1 (mt2 T t) t) (24 + 49 * t + 0) 4) t s 4 = tSt (ub1 (mt2 T t) t) t s 4 := fun s => upd_ne (by omega)
        rw [d0]
        exact ⟨fun r => absurd r (by decide), fun r => absurd r (by decide), fun r => absurd r (by decide), fun s hs => by rw [ds]; exact cs s hs⟩
      · rw [c0, c8]
        exact ⟨fun r => absurd r (by decide), fun r => absurd r (by decide), fun _ => k3 nle, cs⟩
theorem TJ_mt {T : Nat → Int32} {t : Nat} (hJ : TJ T) (ht : t < nT T) (hg : gsO T t) : TJ (mtT T t) ∧ nT (mtT T t) = nT T := by
  obtain ⟨hT, hG, hK⟩ := hJ
  obtain ⟨i1, i2⟩ := TI_mt hT ht hg
  refine ⟨⟨i1, ⟨mtT_1 (hT.2 t ht) (hK t ht) hG hg, fun w hw => ?_⟩, fun t' ht' => ?_⟩, i2⟩
  · have e0 := (mtT_tw (w := w) (v := 0) (hT.2 t ht) hg (by omega)).resolve_right (by omega)
    have e1 := (mtT_tw (w := w) (v := 1) (hT.2 t ht) hg (by omega)).resolve_right (by omega)
    rw [Nat.add_zero] at e0
    rw [e0, e1]
    exact hG.2 w hw
  · rw [i2] at ht'
    by_cases q : t' = t
    · subst q
      exact TK_mt (hT.2 t' ht) (hK t' ht) hG hg
    · exact TK_s (hK t' ht') (fun v hv => mtT_ne (hT.2 t ht) hg (nd_other q hv))
theorem TJ_inc0 {T : Nat → Int32} (hJ : TJ T) {k : Nat} (hk : k < 8) (h1 : ¬ k = 1) (v : Int32) : TJ (inc T k v) ∧ nT (inc T k v) = nT T := by
  obtain ⟨hT, hG, hK⟩ := hJ
  obtain ⟨i1, i2⟩ := TI_inc0 hT hk v
  refine ⟨⟨i1, ⟨by rw [inc_ne (Ne.symm h1)]; exact hG.1, fun w hw => ?_⟩, fun t' ht' => ?_⟩, i2⟩
  · rw [inc_ne (by omega), inc_ne (by omega)]; exact hG.2 w hw
  · rw [i2] at ht'
    exact TK_s (hK t' ht') (fun v hv => inc_ne (by omega))
theorem TJ_hrS {T : Nat → Int32} (hJ : TJ T) : ∀ t, t ≤ nT T → TJ (hrS T t) ∧ nT (hrS T t) = nT T := by
  intro t
  induction t with
  | zero => intro _; exact ⟨hJ, rfl⟩
  | succ t ih =>
    intro ht
    obtain ⟨i1, i2⟩ := ih (by omega)
    rw [hrS]
    split
    · rename_i q
      obtain ⟨j1, j2⟩ := TJ_mt i1 (by omega) q
      exact ⟨j1, by rw [j2, i2]⟩
    · exact ⟨i1, i2⟩
theorem TJ_hr {T : Nat → Int32} (hJ : TJ T) : TJ (hrT T) ∧ nT (hrT T) = nT T := by
  obtain ⟨i1, i2⟩ := TJ_hrS hJ (nT T) (Nat.le_refl _)
  obtain ⟨j1, j2⟩ := TJ_inc0 i1 (k := 0) (by omega) (by omega) 1
  exact ⟨j1, by rw [hrT, j2, i2]⟩
theorem TJ_ps {T : Nat → Int32} (hJ : TJ T) : ∀ n, TJ (psS T n) ∧ nT (psS T n) = nT T := by
  intro n
  induction n with
  | zero => exact ⟨hJ, rfl⟩
  | succ n ih =>
    obtain ⟨j1, j2⟩ := TJ_hr ih.1
    exact ⟨j1, by rw [psS, j2, ih.2]⟩
/-- one tour is another, all else is as it was -/
theorem TJ_1 {T T' : Nat → Int32} {t : Nat} (hJ : TJ T) (h24 : ∀ j, j < 24 → T' j = T j) (ho : ∀ t', t' < nT T → ¬ t' = t → ∀ v, v < 49 → T' (24 + 49 * t' + v) = T (24 + 49 * t' + v)) (h1 : TT T' t) (h2 : TK T' t) : TJ T' ∧ nT T' = nT T := by
  obtain ⟨hT, hG, hK⟩ := hJ
  have eN : nT T' = nT T := by unfold nT; rw [h24 8 (by omega)]
  refine ⟨⟨⟨by rw [h24 8 (by omega)]; exact hT.1, fun t' ht' => ?_⟩, ⟨by rw [h24 1 (by omega)]; exact hG.1, fun w hw => by rw [h24 _ (by omega), h24 _ (by omega)]; exact hG.2 w hw⟩, fun t' ht' => ?_⟩, eN⟩
  · rw [eN] at ht'
    by_cases q : t' = t
    · subst q; exact h1
    · exact TT_s (hT.2 t' ht') (ho t' ht' q)
  · rw [eN] at ht'
    by_cases q : t' = t
    · subst q; exact h2
    · exact TK_s (hK t' ht') (ho t' ht' q)
theorem plT_ne {T : Nat → Int32} {x : Int32} {j : Nat} (h8 : ¬ j = 8) (hb : j < 24 + 49 * nT T ∨ 24 + 49 * nT T + 49 ≤ j) : plT T x j = T j := by
  unfold plT
  rw [upd_ne h8, upd_ne (by omega)]
  exact if_neg (by omega)
theorem plT_0 {T : Nat → Int32} {x : Int32} {v : Nat} (hv : v < 49) (h1 : ¬ v = 1) : plT T x (24 + 49 * nT T + v) = 0 := by
  unfold plT
  rw [upd_ne (by omega), upd_ne (by omega)]
  exact if_pos (by omega)
theorem plT_1 {T : Nat → Int32} {x : Int32} : plT T x (24 + 49 * nT T + 1) = x := by
  unfold plT
  rw [upd_ne (by omega), upd_eq]
theorem plT_8 {T : Nat → Int32} {x : Int32} (hT : TI T) : plT T x 8 = nI (nT T + 1) := by
  unfold plT
  rw [upd_eq, hT.n, nI_1]
theorem TJ_pl {T : Nat → Int32} (hJ : TJ T) (x : Int32) (hx : 0 ≤ x ∧ x ≤ 4) (h6 : nT T < 6) : TJ (plT T x) ∧ nT (plT T x) = nT T + 1 := by
  obtain ⟨hT, hG, hK⟩ := hJ
  have e8 := plT_8 (x := x) hT
  have eN : nT (plT T x) = nT T + 1 := by rw [nT, e8, nn_nI (by omega)]
  have hx' := (in_lit (n := 4) (by decide)).mp hx
  have ev : ∀ v, v < 49 → ¬ v = 1 → tOf (plT T x) (nT T) v = 0 := fun v hv h1 => plT_0 hv h1
  have e1 : tOf (plT T x) (nT T) 1 = x := plT_1
  have es : ∀ s, s < 8 → tSt (plT T x) (nT T) s 4 = 0 := fun s hs => plT_0 (by omega) (by omega)
  have zS : nS (plT T x) (nT T) = 0 := by rw [nS, ev 2 (by omega) (by omega)]; rfl
  have zB : nB (plT T x) (nT T) = 0 := by rw [nB, ev 3 (by omega) (by omega)]; rfl
  refine ⟨⟨⟨by rw [e8]; exact sm_nI (by omega) (by decide), fun t ht => ?_⟩, ⟨by rw [plT_ne (by omega) (by omega)]; exact hG.1, fun w hw => by rw [plT_ne (by omega) (by omega), plT_ne (by omega) (by omega)]; exact hG.2 w hw⟩, fun t ht => ?_⟩, eN⟩
  · rw [eN] at ht
    by_cases q : t = nT T
    · subst q
      refine ⟨?_, ?_, ?_, ?_, ?_, ?_, ?_, fun s hs => absurd hs (by rw [zS]; omega)⟩
      · rw [ev 0 (by omega) (by omega)]; exact sm_nI (k := 0) (by omega) (by decide)
      · rw [e1]; exact ⟨hx'.2, hx'.1⟩
      · rw [ev 2 (by omega) (by omega)]; exact sm_nI (k := 0) (by omega) (by decide)
      · rw [ev 3 (by omega) (by omega)]; exact sm_nI (k := 0) (by omega) (by decide)
      · rw [zB]; exact Nat.zero_le _
      · rw [ev 0 (by omega) (by omega)]; exact fun r => absurd r (by decide)
      · rw [ev 0 (by omega) (by omega)]; exact fun r => absurd r (by decide)
    · exact TT_s (hT.2 t (by omega)) (fun v hv => plT_ne (by omega) (by omega))
  · rw [eN] at ht
    by_cases q : t = nT T
    · subst q
      refine ⟨fun _ => ⟨zB, ev 4 (by omega) (by omega), es⟩, ?_, fun _ => ev 8 (by omega) (by omega), fun s hs => by rw [es s hs]; exact sm_nI (k := 0) (by omega) (by decide)⟩
      rw [ev 0 (by omega) (by omega)]; exact fun r => absurd r (by decide)
    · exact TK_s (hK t (by omega)) (fun v hv => plT_ne (by omega) (by omega))
theorem adT_ne {T : Nat → Int32} {t j : Nat} {kd tw dy mn : Int32} (h2 : ¬ j = 24 + 49 * t + 2) (hs : j < 24 + 49 * t + (9 + 5 * nS T t) ∨ 24 + 49 * t + (9 + 5 * nS T t + 5) ≤ j) : adT T t kd tw dy mn j = T j := by
  unfold adT
  rw [upd_ne h2, upd_ne (by omega), upd_ne (by omega), upd_ne (by omega), upd_ne (by omega), upd_ne (by omega)]
theorem TJ_ad {T : Nat → Int32} (hJ : TJ T) {t : Nat} (ht : t < nT T) (h0 : tOf T t 0 = 0) (h8 : nS T t < 8) {kd tw dy mn : Int32} (hkd : 0 ≤ kd ∧ kd ≤ 2) (htw : 0 ≤ tw ∧ tw ≤ 4) (hdy : 0 ≤ dy ∧ dy ≤ 19) (hmn : 1 ≤ mn ∧ mn ≤ most kd) : TJ (adT T t kd tw dy mn) ∧ nT (adT T t kd tw dy mn) = nT T := by
  have hkd' := (in_lit (n := 2) (by decide)).mp hkd
  have htw' := (in_lit (n := 4) (by decide)).mp htw
  have hdy' := (in_lit (n := 19) (by decide)).mp hdy
  have hmn' : nn mn ≤ 12 ∧ mn = nI (nn mn) ∧ 1 ≤ nn mn := by
    have m12 : most kd ≤ 12 := by unfold most; (repeat' split) <;> decide
    have a := (in_lit (n := 12) (x := mn) (by decide)).mp ⟨Int32.le_trans (by decide) hmn.1, Int32.le_trans hmn.2 m12⟩
    refine ⟨a.1, a.2, ?_⟩
    rcases Nat.eq_zero_or_pos (nn mn) with q | q
    · rw [a.2, q] at hmn; exact absurd hmn.1 (by decide)
    · exact q
  have hTt := hJ.1.2 t ht
  have hKt := hJ.2.2 t ht
  obtain ⟨a0, a1, a2, a3, a4, a5, a6, a7⟩ := hTt
  obtain ⟨b1, b2, b3, b4⟩ := hKt
  have ev : ∀ v, v < 9 → ¬ v = 2 → tOf (adT T t kd tw dy mn) t v = tOf T t v := fun v hv h2 => adT_ne (by omega) (by omega)
  have e2 : tOf (adT T t kd tw dy mn) t 2 = nI (nS T t + 1) := upd_eq
  have eS : nS (adT T t kd tw dy mn) t = nS T t + 1 := by rw [nS, e2, nn_nI (by omega)]
  have eB : nB (adT T t kd tw dy mn) t = nB T t := by rw [nB, ev 3 (by omega) (by omega)]; rfl
  have f0 : tSt (adT T t kd tw dy mn) t (nS T t) 0 = kd := by unfold adT; rw [tSt, upd_ne (by omega), upd_ne (by omega), upd_ne (by omega), upd_ne (by omega), upd_ne (by omega)]; exact if_pos (by omega)
  have f1 : tSt (adT T t kd tw dy mn) t (nS T t) 1 = tw := by unfold adT; rw [tSt, upd_ne (by omega), upd_ne (by omega), upd_ne (by omega), upd_ne (by omega)]; exact if_pos (by omega)
  have f2 : tSt (adT T t kd tw dy mn) t (nS T t) 2 = dy := by unfold adT; rw [tSt, upd_ne (by omega), upd_ne (by omega), upd_ne (by omega)]; exact if_pos (by omega)
  have f3 : tSt (adT T t kd tw dy mn) t (nS T t) 3 = mn := by unfold adT; rw [tSt, upd_ne (by omega), upd_ne (by omega)]; exact if_pos (by omega)
  have f4 : tSt (adT T t kd tw dy mn) t (nS T t) 4 = 0 := by unfold adT; rw [tSt, upd_ne (by omega)]; exact if_pos (by omega)
  have fo : ∀ s v, ¬ s = nS T t → v < 5 → tSt (adT T t kd tw dy mn) t s v = tSt T t s v := fun s v hs hv => adT_ne (by omega) (by omega)
  refine TJ_1 (t := t) hJ (fun j hj => adT_ne (by omega) (by omega)) (fun t' ht' hn v hv => adT_ne (by omega) (by omega)) ⟨?_, ?_, ?_, ?_, ?_, ?_, ?_, fun s hs => ?_⟩ ⟨?_, ?_, ?_, fun s hs => ?_⟩
  · rw [ev 0 (by omega) (by omega)]; exact a0
  · rw [ev 1 (by omega) (by omega)]; exact a1
  · rw [e2]; exact sm_nI (by omega) (by decide)
  · rw [ev 3 (by omega) (by omega)]; exact a3
  · rw [eB, eS]; omega
  · rw [ev 0 (by omega) (by omega), h0]; exact fun r => absurd r (by decide)
  · rw [ev 0 (by omega) (by omega), h0]; exact fun r => absurd r (by decide)
  · rw [eS] at hs
    by_cases q : s = nS T t
    · subst q
      rw [f0, f1, f2, f3]
      exact ⟨⟨hkd'.2, hkd'.1⟩, ⟨htw'.2, htw'.1⟩, ⟨hdy'.2, hdy'.1⟩, ⟨hmn'.2.1, hmn'.1⟩, hmn'.2.2⟩
    · rw [fo s 0 q (by omega), fo s 1 q (by omega), fo s 2 q (by omega), fo s 3 q (by omega)]
      exact a7 s (by omega)
  · rw [eB, ev 0 (by omega) (by omega), ev 4 (by omega) (by omega)]
    refine fun q => ⟨(b1 q).1, (b1 q).2.1, fun s hs => ?_⟩
    by_cases q2 : s = nS T t
    · subst q2; exact f4
    · rw [fo s 4 q2 (by omega)]; exact (b1 q).2.2 s hs
  · rw [ev 0 (by omega) (by omega), ev 4 (by omega) (by omega), ev 1 (by omega) (by omega)]; exact b2
  · rw [ev 0 (by omega) (by omega), ev 8 (by omega) (by omega)]; exact b3
  · by_cases q : s = nS T t
    · subst q; rw [f4]; exact sm_nI (k := 0) (by omega) (by decide)
    · rw [fo s 4 q (by omega)]; exact b4 s hs
theorem TJ_st {T : Nat → Int32} (hJ : TJ T) {t : Nat} (ht : t < nT T) (h0 : tOf T t 0 = 0) (h2 : ¬ tOf T t 2 = 0) : TJ (upd T (24 + 49 * t + 0) 1) ∧ nT (upd T (24 + 49 * t + 0) 1) = nT T := by
  obtain ⟨a0, a1, a2, a3, a4, a5, a6, a7⟩ := hJ.1.2 t ht
  obtain ⟨b1, b2, b3, b4⟩ := hJ.2.2 t ht
  have ev : ∀ v, ¬ v = 0 → tOf (upd T (24 + 49 * t + 0) 1) t v = tOf T t v := fun v hv => upd_ne (by omega)
  have e0 : tOf (upd T (24 + 49 * t + 0) 1) t 0 = 1 := upd_eq
  have es : ∀ s v, tSt (upd T (24 + 49 * t + 0) 1) t s v = tSt T t s v := fun s v => upd_ne (by omega)
  have eS : nS (upd T (24 + 49 * t + 0) 1) t = nS T t := by rw [nS, ev 2 (by omega)]; rfl
  have eB : nB (upd T (24 + 49 * t + 0) 1) t = nB T t := by rw [nB, ev 3 (by omega)]; rfl
  have z := b1 h0
  have p2 : 0 < nS T t := by
    rcases Nat.eq_zero_or_pos (nS T t) with q | q
    · exact absurd (by rw [a2.1, show nn (tOf T t 2) = 0 from q]; rfl) h2
    · exact q
  refine TJ_1 (t := t) hJ (fun j hj => upd_ne (by omega)) (fun t' ht' hn v hv => upd_ne (by omega)) ⟨?_, ?_, ?_, ?_, ?_, ?_, ?_, fun s hs => ?_⟩ ⟨?_, ?_, ?_, fun s hs => ?_⟩
  · rw [e0]; exact sm_nI (k := 1) (by omega) (by decide)
  · rw [ev 1 (by omega)]; exact a1
  · rw [ev 2 (by omega)]; exact a2
  · rw [ev 3 (by omega)]; exact a3
  · rw [eB, eS]; exact a4
  · intro _; rw [eB, eS]; omega
  · rw [e0]; exact fun r => absurd r (by decide)
  · rw [eS] at hs; rw [es, es, es, es]; exact a7 s hs
  · rw [e0]; exact fun r => absurd r (by decide)
  · intro _; rw [ev 4 (by omega), z.2.1]; exact ⟨sm_nI (k := 0) (by omega) (by decide), Nat.zero_le _⟩
  · intro _; rw [ev 8 (by omega)]; exact b3 (by rw [h0]; decide)
  · rw [es]; exact b4 s hs
theorem TJ_cb {T : Nat → Int32} (hJ : TJ T) {t : Nat} (ht : t < nT T) (h1 : tOf T t 0 = 1) : TJ (cbT T t) ∧ nT (cbT T t) = nT T := by
  obtain ⟨a0, a1, a2, a3, a4, a5, a6, a7⟩ := hJ.1.2 t ht
  obtain ⟨b1, b2, b3, b4⟩ := hJ.2.2 t ht
  have ne : ∀ j, ¬ j = 24 + 49 * t + 0 → ¬ j = 24 + 49 * t + 4 → ¬ j = 24 + 49 * t + 5 → cbT T t j = T j := fun j q0 q4 q5 => by
    unfold cbT
    rw [upd_ne q5, tbT_ne q0 q4]
  have ev : ∀ v, ¬ v = 0 → ¬ v = 4 → ¬ v = 5 → tOf (cbT T t) t v = tOf T t v := fun v q0 q4 q5 => ne _ (by omega) (by omega) (by omega)
  have e0 : tOf (cbT T t) t 0 = if tOf T t 3 = 0 then 4 else 2 := by
    unfold cbT tbT
    rw [tOf, upd_ne (by omega), upd_ne (by omega), upd_eq]
  have es : ∀ s v, tSt (cbT T t) t s v = tSt T t s v := fun s v => ne _ (by omega) (by omega) (by omega)
  have eS : nS (cbT T t) t = nS T t := by rw [nS, ev 2 (by omega) (by omega) (by omega)]; rfl
  have eB : nB (cbT T t) t = nB T t := by rw [nB, ev 3 (by omega) (by omega) (by omega)]; rfl
  have h24 : tOf (cbT T t) t 0 = 4 ∨ (tOf (cbT T t) t 0 = 2 ∧ 0 < nB T t) := by
    rw [e0]
    by_cases z : tOf T t 3 = 0
    · rw [if_pos z]; exact .inl rfl
    · rw [if_neg z]
      refine .inr ⟨rfl, ?_⟩
      rcases Nat.eq_zero_or_pos (nB T t) with q | q
      · exact absurd (by rw [a3.1, show nn (tOf T t 3) = 0 from q]; rfl) z
      · exact q
  refine TJ_1 (t := t) hJ (fun j hj => ne _ (by omega) (by omega) (by omega)) (fun t' ht' hn v hv => ne _ (by omega) (by omega) (by omega)) ⟨?_, ?_, ?_, ?_, ?_, ?_, ?_, fun s hs => ?_⟩ ⟨?_, ?_, ?_, fun s hs => ?_⟩
  · rcases h24 with q | q
    · rw [q]; exact sm_nI (k := 4) (by omega) (by decide)
    · rw [q.1]; exact sm_nI (k := 2) (by omega) (by decide)
  · rw [ev 1 (by omega) (by omega) (by omega)]; exact a1
  · rw [ev 2 (by omega) (by omega) (by omega)]; exact a2
  · rw [ev 3 (by omega) (by omega) (by omega)]; exact a3
  · rw [eB, eS]; exact a4
  · intro r; rcases h24 with q | q
    · rw [q] at r; exact absurd r (by decide)
    · rw [q.1] at r; exact absurd r (by decide)
  · intro r; rw [eB]; rcases h24 with q | q
    · rw [q] at r; exact absurd r (by decide)
    · exact q.2
  · rw [eS] at hs; rw [es, es, es, es]; exact a7 s hs
  · intro r; rcases h24 with q | q
    · rw [q] at r; exact absurd r (by decide)
    · rw [q.1] at r; exact absurd r (by decide)
  · intro r; rcases h24 with q | q
    · rw [q] at r; exact absurd r (by decide)
    · rw [q.1] at r; exact absurd r (by decide)
  · intro _; rw [ev 8 (by omega) (by omega) (by omega)]; exact b3 (by rw [h1]; decide)
  · rw [es]; exact b4 s hs
theorem TJ_tw {T : Nat → Int32} (hJ : TJ T) {w v : Nat} {x : Int32} (hw : w < 5) (hx : (v = 0 ∧ (x = 0 ∨ x = 1)) ∨ (v = 1 ∧ sm x 5)) : TJ (upd T (9 + 3 * w + v) x) ∧ nT (upd T (9 + 3 * w + v) x) = nT T := by
  obtain ⟨hT, hG, hK⟩ := hJ
  have e8 : upd T (9 + 3 * w + v) x 8 = T 8 := upd_ne (by omega)
  have eN : nT (upd T (9 + 3 * w + v) x) = nT T := by unfold nT; rw [e8]
  refine ⟨⟨⟨by rw [e8]; exact hT.1, fun t ht => TT_s (hT.2 t (by rw [← eN]; exact ht)) (fun v hv => upd_ne (by omega))⟩, ⟨by rw [upd_ne (by omega)]; exact hG.1, fun w' hw' => ?_⟩, fun t ht => TK_s (hK t (by rw [← eN]; exact ht)) (fun v hv => upd_ne (by omega))⟩, eN⟩
  obtain ⟨g1, g2⟩ := hG.2 w' hw'
  by_cases q : w' = w
  · subst q
    rcases hx with ⟨rfl, h1⟩ | ⟨rfl, h1⟩
    · rw [Nat.add_zero, upd_eq, upd_ne (by omega)]; exact ⟨h1, g2⟩
    · rw [upd_ne (by omega), upd_eq]; exact ⟨g1, h1⟩
  · rw [upd_ne (by omega), upd_ne (by omega)]; exact ⟨g1, g2⟩
/-- a deed keeps what holds -/
def DJ (r : DR) : Prop := TJ r.2.2.2
theorem DJ_plan {T : Nat → Int32} (hJ : TJ T) (x : Int32) : DJ (dPlan T x) := by
  unfold dPlan
  split
  · exact hJ
  · rename_i q
    split
    · exact hJ
    · rename_i q2; have := hJ.1.n6; exact (TJ_pl hJ x (Classical.not_not.mp q) (by omega)).1
theorem DJ_step {T : Nat → Int32} (hJ : TJ T) (x kd tw dy mn : Int32) : DJ (dStep T x kd tw dy mn) := by
  unfold dStep
  split
  · exact hJ
  · rename_i q1
    split
    · exact hJ
    · rename_i q2
      split
      · exact hJ
      · rename_i q3
        split
        · exact hJ
        · split
          · exact hJ
          · rename_i q4 q5
            have q1 := Classical.not_not.mp q1
            have q2 := Classical.not_not.mp q2
            have q3 := Classical.not_not.mp q3
            have ht := (of_decide_eq_true q1.1).1
            have h8 := (hJ.1.2 _ ht).2.2.1.2
            exact (TJ_ad hJ ht q3 (by have : nS T (nn x) ≤ 8 := h8; omega) q2.1 q1.2.1 q1.2.2 q2.2).1
theorem DJ_start {T : Nat → Int32} (hJ : TJ T) (x : Int32) : DJ (dStart T x) := by
  unfold dStart
  split
  · exact hJ
  · rename_i q1
    split
    · exact hJ
    · rename_i q2
      split
      · exact hJ
      · rename_i q3
        exact (TJ_st hJ (of_decide_eq_true (show isTrD T x = true by simpa using q1)).1 (Classical.not_not.mp q2) q3).1
theorem DJ_back {T : Nat → Int32} (hJ : TJ T) (x : Int32) : DJ (dBack T x) := by
  unfold dBack
  split
  · exact hJ
  · rename_i q1
    split
    · exact hJ
    · rename_i q2
      exact (TJ_cb hJ (of_decide_eq_true (show isTrD T x = true by simpa using q1)).1 (Classical.not_not.mp q2)).1
theorem DJ_shut {T : Nat → Int32} (hJ : TJ T) (x b : Int32) (hb : b = 0 ∨ b = 1) : DJ (dShut T x b) := by
  unfold dShut
  split
  · exact hJ
  · rename_i q1
    split
    · exact hJ
    · have h4 := (of_decide_eq_true (show isTwD x = true by simpa using q1)).1
      exact (TJ_tw (v := 0) hJ (by omega) (.inl ⟨rfl, hb⟩)).1
theorem DJ_dear {T : Nat → Int32} (hJ : TJ T) (x y : Int32) : DJ (dDear T x y) := by
  unfold dDear
  split
  · exact hJ
  · rename_i q1
    split
    · exact hJ
    · rename_i q2
      have h4 := (of_decide_eq_true (show isTwD x = true by simpa using q1)).1
      have q2 := Classical.not_not.mp q2
      have a := (in_lit (n := 5) (x := y) (by decide)).mp ⟨Int32.le_trans (by decide) q2.1, q2.2⟩
      exact (TJ_tw (v := 1) hJ (by omega) (.inr ⟨rfl, a.2, a.1⟩)).1
theorem DJ_pass {T : Nat → Int32} (hJ : TJ T) (x : Int32) : DJ (dPass T x) := by
  unfold dPass
  split
  · exact hJ
  · exact (TJ_ps hJ _).1
theorem DJ_cmd {T : Nat → Int32} (hJ : TJ T) (a : Nat) (t : Nat → Int32) : DJ (dCmd a T t) := by
  unfold dCmd
  split
  · exact DJ_plan hJ _
  split
  · exact DJ_step hJ _ _ _ _ _
  split
  · exact DJ_step hJ _ _ _ _ _
  split
  · exact DJ_step hJ _ _ _ _ _
  split
  · exact DJ_start hJ _
  split
  · exact DJ_back hJ _
  split
  · exact DJ_shut hJ _ _ (.inr rfl)
  split
  · exact DJ_shut hJ _ _ (.inl rfl)
  · exact DJ_pass hJ _
