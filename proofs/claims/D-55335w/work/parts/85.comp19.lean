-- HEAP Y
/-! the component: a theatre is copied -/
def cT (S : Nat → Int32) (t : Nat) : Nat → Int32 := fun j => if j = 8 then nI t else if 9 ≤ j ∧ j < 24 + 49 * t then S j else tB0 j
def cE (F : Nat → Int32) (t : Nat) : Nat → Int32 := fun j => if j < 300 then F j else if j = 300 then nI t else if j = 301 ∨ j = 302 then 5 else if 310 ≤ j ∧ j < 310 + t then 1 else 0
section CP19
variable {X : XT} {h h' : HP} {c : Nat} {Q : RR → HP → Nat → Prop} {I : IT2} {D : Nat → Nat → Nat} {S F T E T' E' : Nat → Int32} {C : CT2} {a : Nat} {x y : AC}
theorem cT0 : bT S 5 = cT S 0 := by
  funext j
  unfold bT cT
  by_cases q : j = 8
  · subst q; rfl
  · rw [if_neg q]
theorem cE0 : bE F 5 = cE F 0 := by
  funext j
  unfold bE cE
  by_cases q : j < 300
  · rw [if_pos (by omega), if_pos q]
  · rw [if_neg (by omega), if_neg q]
    by_cases r : j = 300
    · subst r; rfl
    · rw [if_neg r]
      by_cases r : j = 301 ∨ j = 302
      · rw [if_pos r, if_pos r]; rfl
      · rw [if_neg r, if_neg r, if_neg (by omega)]
theorem cT_N {t : Nat} (ht : t ≤ 6) : nT (cT S t) = t := by
  unfold nT cT
  rw [if_pos rfl]
  exact nn_nI (by omega)
theorem cT_in {t t' u : Nat} (ht : t' < t) (hu : u < 49) : cT S t (24 + 49 * t' + u) = S (24 + 49 * t' + u) := by
  unfold cT
  rw [if_neg (by omega), if_pos (by omega)]
theorem cT_S {t t' : Nat} (ht : t' < t) : nS (cT S t) t' = nS S t' := by
  show nn (cT S t (24 + 49 * t' + 2)) = nn (S (24 + 49 * t' + 2))
  rw [cT_in ht (by omega)]
theorem cT_lo {t j : Nat} (hj : j < 24) (h8 : ¬ j = 8) : cT S (t + 1) j = cT S t j := by
  unfold cT
  rw [if_neg h8, if_neg h8]
  by_cases q : 9 ≤ j
  · rw [if_pos (by omega), if_pos (by omega)]
  · rw [if_neg (by omega), if_neg (by omega)]
theorem cT_st {t s u : Nat} (hs8 : s < 8) (hu : u < 5) : tSt (cT S (t + 1)) t s u = tSt S t s u := cT_in (u := 9 + 5 * s + u) (Nat.lt_succ_self t) (by omega)
theorem cT_of {t u : Nat} (hu : u < 9) : tOf (cT S (t + 1)) t u = tOf S t u := cT_in (Nat.lt_succ_self t) (by omega)
theorem cT_stF {t s : Nat} (hs8 : s < 8) : stF (cT S (t + 1)) t s = stF S t s := by
  unfold stF
  rw [cT_st hs8 (by omega), cT_st hs8 (by omega), cT_st hs8 (by omega), cT_st hs8 (by omega)]
theorem cT_prF {t : Nat} : prF (cT S (t + 1)) t = prF S t := by
  funext s
  unfold prF
  split
  · rename_i q; exact cT_st q (by omega)
  · rfl
theorem cE_t {t : Nat} : cE F (t + 1) (310 + t) = 1 := by
  unfold cE
  rw [if_neg (by omega), if_neg (by omega), if_neg (by omega), if_pos (by omega)]
theorem BV_le {w : Nat} (v : BV X I D T E h w) (hl : hle h h') (hb : bas I h') : BV X I D T E h' w := by
  obtain ⟨v0, v1, v2, v3, v4, e0, f, b, v5, v6, v7⟩ := v
  exact ⟨v0, v1, hb, fun t s q1 q2 => (v3 t s q1 q2).imp fun b q => hl _ _ q, v4, e0, f, b, v5, hl _ _ v6, v7⟩
theorem BV_it {w it i l : Nat} {lr m : Int32} (v : BV X I D T E h w) (e : h it = some (itC i lr m l)) (x : AC) : BV X I D T E (hs h it x) w := by
  obtain ⟨v0, v1, v2, v3, v4, e0, f, b, v5, v6, v7⟩ := v
  refine ⟨v0, v1, bas_hs v2 (v2.no e), fun t s q1 q2 => (v3 t s q1 q2).imp fun b q => ?_, v4, e0, f, b, v5, ?_, v7⟩
  · rw [hs_ne _ _ (fun r => by rw [r, e] at q; cases q)]; exact q
  · rw [hs_ne _ _ (fun r => by rw [r, e] at v6; cases v6)]; exact v6
theorem tour_more {t a7 a8 a9 a10 e0 : Nat} {st : Nat → Nat} {Hb : HP} (v : BV X I D (cT S t) (cE F t) h 5) (h6 : t < 6) (hS8 : ∀ t', t' ≤ t → nS S t' ≤ 8) (e0h : xR X 3 = some e0) (f7 : I a7 = none ∧ h a7 = none) (f8 : I a8 = none ∧ h a8 = none) (f10 : I a10 = none ∧ h a10 = none)
    (f9 : nS S t = 0 → a9 = e0) (f9' : 0 < nS S t → (I a9 = none ∧ h a9 = none) ∧ ¬ a9 = a7 ∧ ¬ a9 = a8 ∧ ¬ a9 = a10) (d78 : ¬ a7 = a8) (d70 : ¬ a7 = a10) (d80 : ¬ a8 = a10)
    (b7 : Hb a7 = some (true, .inl (4, tcF S t a8 a10 (D 0 0)))) (b8 : Hb a8 = some (alC true 1 a9 (nS S t))) (b10 : Hb a10 = some (true, .inr (.inl (0, 8, prF S t)))) (b9 : 0 < nS S t → Hb a9 = some (oaC true 10 (rfs (nS S t) st))) (hst : ∀ s, s < nS S t → ∃ b, h (st s) = some (b, .inl (7, stF S t s)))
    (bo : ∀ q, ¬ q = a7 → ¬ q = a8 → ¬ q = a10 → ¬ (0 < nS S t ∧ q = a9) → Hb q = ov I (tC D (cT S t) (cE F t)) h q) (hc : 22 ≤ c)
    (k : ∀ I' D' c', D' 0 0 = D 0 0 → BV X I' D' (cT S (t + 1)) (cE F (t + 1)) h 5 → c - 22 ≤ c' → Q (.inl (some (.int 1))) (ov I' (tC D' (cT S (t + 1)) (cE F (t + 1))) h) c') : CallC X mJ7_add [.ref (D 1 0), .ref a7] Hb c Q := by
  have i1 := v.2.1 1 0 rfl
  have eN := cT_N (S := S) (show t ≤ 6 by omega)
  have eN' := cT_N (S := S) (show t + 1 ≤ 6 by omega)
  have eS : nS (cT S (t + 1)) t = nS S t := cT_S (by omega)
  have mI : ∀ k j q, I (D k j) = some (k, j) → I q = none → ¬ D k j = q := fun k j q i e r => by rw [← r, i] at e; cases e
  have n17 := mI 1 0 a7 i1 f7.1
  have n18 := mI 1 0 a8 i1 f8.1
  have n110 := mI 1 0 a10 i1 f10.1
  have n19 : ¬ (0 < nS S t ∧ D 1 0 = a9) := fun r => mI 1 0 a9 i1 (f9' r.1).1.1 r.2
  have E0 : cE F t 300 = nI t := rfl
  have b1 : Hb (D 1 0) = some (alC true (nI t) (D 2 0) t) := by rw [bo _ n17 n18 n110 n19, ov_at i1, tC_1, eN, E0]
  have fold : ∀ (a2 c' : Nat) (H : HP), ((0 < t ∧ a2 = D 2 0) ∨ (t = 0 ∧ I a2 = none ∧ h a2 = none)) → ¬ a7 = a2 → ¬ a8 = a2 → ¬ a10 = a2 → (0 < nS S t → ¬ a9 = a2) → H a7 = Hb a7 → H a8 = Hb a8 → H a10 = Hb a10 → (0 < nS S t → H a9 = Hb a9) → H (D 1 0) = some (alC true (nI t + 1) a2 (t + 1)) → H a2 = some (oaC true 10 (va_up (rfs t (D 7)) t (some a7))) → (∀ q, ¬ q = D 1 0 → ¬ q = a2 → H q = Hb q) → c - 22 ≤ c' → Q (.inl (some (.int 1))) H c' := by
    intro a2 c' H f2 d72 d82 d02 d92 z7 z8 z10 z9 z1 z2 zo hc'
    have fl := fold_tour (H := H) (T' := cT S (t + 1)) (E' := cE F (t + 1)) (a7 := a7) (a8 := a8) (a9 := a9) (a10 := a10) (a2 := a2) (st := st) v
    rw [eN] at fl
    rw [eS] at fl
    have fl := fl h6 (fun t' h' => by rw [cT_S h']; exact hS8 t' (by omega)) f7 f8 f10 ⟨fun r => ⟨(f9' r).1.1, (f9' r).1.2, (f9' r).2.1, (f9' r).2.2.1, (f9' r).2.2.2, d92 r⟩, fun r => by rw [f9 r]; exact e0h⟩ f2 d78 d70 d80 d72 d82 d02
      (fun j hj h8 => cT_lo hj h8) eN' (fun t' h' u hu => by rw [cT_in (by omega) hu, cT_in h' hu]) (hS8 t (Nat.le_refl _))
      ⟨fun j hj => by unfold cE; rw [if_pos hj, if_pos hj], rfl, rfl, fun t' h' => by unfold cE; rw [if_neg (by omega), if_neg (by omega), if_neg (by omega), if_pos (by omega), if_neg (by omega), if_neg (by omega), if_neg (by omega), if_pos (by omega)]⟩
      (fun s hs8 => (hst s hs8).imp (fun b e => by rw [e, cT_stF (by have := hS8 t (Nat.le_refl _); omega)]))
      (by rw [z7, b7, tC_7]; unfold trF; rw [dTr_8, dTr_10, dTr_o (by omega) (by omega) (by omega), cT_of (by omega), cT_of (by omega), cT_of (by omega), cT_of (by omega), cT_of (by omega), cT_of (by omega), cT_of (by omega), cT_of (by omega)])
      (by rw [z8, b8, tC_8, dTr_9, eS, cE_t])
      (by rw [z10, b10, tC_10, cT_prF])
      (fun r => by rw [z9 r, b9 r, tC_9, eS]
                   have : rfs (nS S t) st = rfs (nS S t) (fun s => dTr D t a7 a8 a9 a10 a2 st 11 (8 * t + s)) := by
                     funext i
                     unfold rfs
                     split
                     · rename_i q; exact congrArg some (dTr_11 (Nat.lt_of_lt_of_le q (hS8 t (Nat.le_refl _)))).symm
                     · rfl
                   rw [this])
      (by rw [z1, tC_1, dTr_2, eN', show cE F (t + 1) 300 = nI (t + 1) from rfl, nI_1])
      (by rw [z2, tC_2, eN', up_rfs (g' := dTr D t a7 a8 a9 a10 a2 st 7) (fun i hi => dTr_o (by omega) (by omega) (by omega)) dTr_7])
      (fun q q7 q8 q10 q9 q1 q2 => by rw [zo q q1 q2]; exact bo q q7 q8 q10 q9)
    rw [fl.1]
    exact k _ _ _ (dTr_o (by omega) (by omega) (by omega)) fl.2 hc'
  obtain ⟨-, v1, vb, -, -, e0', f, b, e0h', he0, z2, -, -⟩ := v
  rw [eN] at z2
  have e00 : e0' = e0 := Option.some.inj (e0h'.symm.trans e0h)
  rw [e00] at he0 z2
  by_cases y0 : t = 0
  · have b1' : Hb (D 1 0) = some (alC true (nI t) e0 0) := by rw [b1, z2 y0, y0]
    have be0 : Hb e0 = some (oaC b 0 f) := by rw [bo _ (hle_ne he0 f7.2) (hle_ne he0 f8.2) (hle_ne he0 f10.2) (fun r => hle_ne he0 (f9' r.1).1.2 r.2)]; exact vb.b he0 _
    refine A_add0 e0h b1' be0 b7 (Ne.symm n17) hc (fun a2 ha2 => ?_)
    have k7 : ¬ a2 = a7 := fun r => by rw [r, b7] at ha2; cases ha2
    have k8 : ¬ a2 = a8 := fun r => by rw [r, b8] at ha2; cases ha2
    have k10 : ¬ a2 = a10 := fun r => by rw [r, b10] at ha2; cases ha2
    have k9 : ¬ (0 < nS S t ∧ a2 = a9) := fun r => by rw [r.2, b9 r.1] at ha2; cases ha2
    have kA : ¬ a2 = D 1 0 := fun r => by rw [r, b1] at ha2; cases ha2
    rw [bo _ k7 k8 k10 k9] at ha2
    have h2 := ov_none ha2
    refine fold a2 _ _ (.inr ⟨y0, h2.1, h2.2⟩) (Ne.symm k7) (Ne.symm k8) (Ne.symm k10) (fun r q => k9 ⟨r, q.symm⟩) ?_ ?_ ?_ (fun r => ?_) ?_ ?_ (fun q q1 q2 => ?_) (Nat.le_refl _)
    · rw [hs_ne _ _ (Ne.symm n17), hs_ne _ _ (Ne.symm k7)]
    · rw [hs_ne _ _ (Ne.symm n18), hs_ne _ _ (Ne.symm k8)]
    · rw [hs_ne _ _ (Ne.symm n110), hs_ne _ _ (Ne.symm k10)]
    · rw [hs_ne _ _ (fun q => n19 ⟨r, q.symm⟩), hs_ne _ _ (fun q => k9 ⟨r, q.symm⟩)]
    · rw [hs_eq, y0]
    · rw [hs_ne _ _ kA, hs_eq, y0]; rfl
    · rw [hs_ne _ _ q1, hs_ne _ _ q2]
  · have i2 := v1 2 0 ⟨rfl, by rw [eN]; omega⟩
    have m7 := mI 2 0 a7 i2 f7.1
    have m8 := mI 2 0 a8 i2 f8.1
    have m10 := mI 2 0 a10 i2 f10.1
    have m9 : ¬ (0 < nS S t ∧ D 2 0 = a9) := fun r => mI 2 0 a9 i2 (f9' r.1).1.1 r.2
    have b2 : Hb (D 2 0) = some (oaC true 10 (rfs t (D 7))) := by rw [bo _ m7 m8 m10 m9, ov_at i2, tC_2, eN]
    have kA : ¬ D 2 0 = D 1 0 := fun r => by rw [r, b1] at b2; cases b2
    refine A_add b1 b2 b7 (Ne.symm n17) (by omega) (by decide) ?_
    refine fold (D 2 0) _ _ (.inl ⟨by omega, rfl⟩) (Ne.symm m7) (Ne.symm m8) (Ne.symm m10) (fun r q => m9 ⟨r, q.symm⟩) ?_ ?_ ?_ (fun r => ?_) ?_ ?_ (fun q q1 q2 => ?_) (by omega)
    · rw [hs_ne _ _ (Ne.symm n17), hs_ne _ _ (Ne.symm m7)]
    · rw [hs_ne _ _ (Ne.symm n18), hs_ne _ _ (Ne.symm m8)]
    · rw [hs_ne _ _ (Ne.symm n110), hs_ne _ _ (Ne.symm m10)]
    · rw [hs_ne _ _ (fun q => n19 ⟨r, q.symm⟩), hs_ne _ _ (fun q => m9 ⟨r, q.symm⟩)]
    · rw [hs_eq]
    · rw [hs_ne _ _ kA, hs_eq]
    · rw [hs_ne _ _ q1, hs_ne _ _ q2]
end CP19
