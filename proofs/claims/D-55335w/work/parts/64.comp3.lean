-- HEAP O
/-! the component: a theatre that is changed -/
def DV (X : XT) (I : IT2) (D : Nat → Nat → Nat) (T E : Nat → Int32) (h : HP) : Prop := IJ D I ∧ (∀ k n, cov T k n → I (D k n) = some (k, n)) ∧ bas I h ∧ (∀ t s, t < nT T → s < nS T t → ∃ b, h (D 11 (8 * t + s)) = some (b, .inl (7, stF T t s))) ∧ nW E = 5 ∧
  ∃ e0 f b, xR X 3 = some e0 ∧ h e0 = some (oaC b 0 f) ∧ (nT T = 0 → D 2 0 = e0) ∧ (∀ t, t < nT T → nS T t = 0 → D 9 t = e0) ∧ ∀ q k j, I q = some (k, j) → cov T k j
theorem upd_id (f : Nat → Int32) (k : Nat) : upd f k (f k) = f := by
  funext j
  by_cases q : j = k
  · subst q; exact upd_eq
  · exact upd_ne q
theorem upd_cm (f : Nat → Int32) {a b : Nat} (x y : Int32) (n : ¬ a = b) : upd (upd f a x) b y = upd (upd f b y) a x := by
  funext j
  by_cases q : j = b
  · subst q; rw [upd_eq, upd_ne (Ne.symm n), upd_eq]
  · rw [upd_ne q]
    by_cases q2 : j = a
    · subst q2; rw [upd_eq, upd_eq]
    · rw [upd_ne q2, upd_ne q2, upd_ne q]
theorem sub_neg9 {a : Nat} (h : a ≤ 9999) : ¬ (0 : Int32) < nI a - 9999 := fun q => by
  have q1 := Int32.lt_iff_toInt_lt.mp q
  rw [Int32.toInt_sub, nI_toInt (by omega), show (0 : Int32).toInt = 0 from rfl, show (9999 : Int32).toInt = 9999 from rfl] at q1
  simp only [Int.bmod] at q1
  split at q1 <;> omega
section CP3
variable {X : XT} {h h' : HP} {c : Nat} {Q : RR → HP → Nat → Prop} {I : IT2} {D : Nat → Nat → Nat} {T E T' E' : Nat → Int32} {C : CT2} {a : Nat} {x y : AC}
theorem DV.tv (v : DV X I D T E h) : TV X (ov I (tC D T E) h) D T E := by
  obtain ⟨v0, v1, v2, v3, v4, e0, f, b, v5, v6, v7⟩ := v
  exact ⟨fun k n q => ov_at (v1 k n q), fun t s q1 q2 => (v3 t s q1 q2).imp fun b q => v2.b q _, v4, e0, f, b, v5, v2.b v6 _, v7.1, v7.2.1⟩
theorem DV.le (v : DV X I D T E h) (hl : hle h h') (hb : bas I h') : DV X I D T E h' := by
  obtain ⟨v0, v1, v2, v3, v4, e0, f, b, v5, v6, v7⟩ := v
  exact ⟨v0, v1, hb, fun t s q1 q2 => (v3 t s q1 q2).imp fun b q => hl _ _ q, v4, e0, f, b, v5, hl _ _ v6, v7⟩
/-- other numbers, the same tours and steps -/
theorem DV.t (v : DV X I D T E h) (e8 : nT T' = nT T) (eS : ∀ t, t < nT T → nS T' t = nS T t) (es : ∀ t s k, t < nT T → s < nS T t → k < 4 → tSt T' t s k = tSt T t s k) (eW : nW E' = nW E) : DV X I D T' E' h := by
  obtain ⟨v0, v1, v2, v3, v4, e0, f, b, v5, v6, v7⟩ := v
  have hc : ∀ k n, cov T' k n → cov T k n := by
    intro k n q
    unfold cov at q ⊢
    rw [e8] at q
    split at q <;> first | exact q | exact ⟨q.1, by rw [← eS _ q.1]; exact q.2⟩
  have hc' : ∀ k n, cov T k n → cov T' k n := by
    intro k n q
    unfold cov at q ⊢
    rw [e8]
    split at q <;> first | exact q | exact ⟨q.1, by rw [eS _ q.1]; exact q.2⟩
  refine ⟨v0, fun k n q => v1 k n (hc k n q), v2, fun t s q1 q2 => ?_, by rw [eW]; exact v4, e0, f, b, v5, v6, fun q => v7.1 (by rw [← e8]; exact q), fun t q1 q2 => v7.2.1 t (by rw [← e8]; exact q1) (by rw [← eS t (by rw [← e8]; exact q1)]; exact q2), fun q k j r => hc' k j (v7.2.2 q k j r)⟩
  rw [e8] at q1
  rw [eS t q1] at q2
  obtain ⟨b', q⟩ := v3 t s q1 q2
  refine ⟨b', ?_⟩
  rw [q]
  unfold stF
  rw [es t s 0 q1 q2 (by omega), es t s 1 q1 q2 (by omega), es t s 2 q1 q2 (by omega), es t s 3 q1 q2 (by omega)]
theorem o0 (i : I (D 0 0) = some (0, 0)) : ov I (tC D T E) h (D 0 0) = some (true, .inl (1, thF D T)) := ov_at i
theorem o5 {w : Nat} (i : I (D 5 w) = some (5, w)) : ov I (tC D T E) h (D 5 w) = some (true, .inl (2, twF D T w)) := ov_at i
theorem o6 {w : Nat} (i : I (D 6 w) = some (6, w)) : ov I (tC D T E) h (D 6 w) = some (true, .inr (.inl (0, 60, tkF E w))) := ov_at i
theorem o7 {t : Nat} (i : I (D 7 t) = some (7, t)) : ov I (tC D T E) h (D 7 t) = some (true, .inl (4, trF D T t)) := ov_at i
theorem o8 {t : Nat} (i : I (D 8 t) = some (8, t)) : ov I (tC D T E) h (D 8 t) = some (alC true (E (310 + t)) (D 9 t) (nS T t)) := ov_at i
theorem o10 {t : Nat} (i : I (D 10 t) = some (10, t)) : ov I (tC D T E) h (D 10 t) = some (true, .inr (.inl (0, 8, prF T t))) := ov_at i
theorem o1 (i : I (D 1 0) = some (1, 0)) : ov I (tC D T E) h (D 1 0) = some (alC true (E 300) (D 2 0) (nT T)) := ov_at i
theorem o3 (i : I (D 3 0) = some (3, 0)) : ov I (tC D T E) h (D 3 0) = some (alC true (E 301) (D 4 0) (nW E)) := ov_at i
theorem oa (e : I a = none) : ov I C (hs h a x) a = some x := by rw [ov_no e, hs_eq]
theorem ob (e : I a = none) : hs (ov I C (hs h a x)) a y = ov I C (hs h a y) := by rw [ov_hs e, hs_hs]
theorem bas_hs (hb : bas I h) (e : I a = none) : bas I (hs h a x) := fun b p q => by
  have n : ¬ b = a := fun r => by rw [r, e] at q; cases q
  rw [hs_ne _ _ n]
  exact hb b p q
theorem P_earn (hj : IJ D I) (i0 : I (D 0 0) = some (0, 0)) (hT : sm (T 1) 9999) (v : Int32) (k : Nat) (hv : v = nI k) (hk : k ≤ 10000) (q : Q (.inl none) (ov I (tC D (gtT T v) E) h) c) : CallC X mX2_earn [.ref (D 0 0), .int v] (ov I (tC D T E) h) c Q := by
  have h2 := hT.2
  have e1 : T 1 + v = nI (nn (T 1) + k) := by rw [hv, ← nI_add, ← hT.1]
  unfold gtT at q
  by_cases g : T 1 + v ≤ 9999
  · rw [if_pos g, inc_e] at q
    have g' : nn (T 1) + k ≤ 9999 := by rw [e1] at g; exact (nI_leI (b := 9999) (by omega) (by decide)).mp g
    have m0 : ¬ (0 : Int32) < T 1 + v - 9999 := by
      rw [e1]
      exact sub_neg9 g'
    refine CC 0 40 gX2_earn.1 rfl rfl (Nat.le_of_ble_eq_true rfl) (Nat.zero_le _) ?_
    simp only [entL_s, entL_n, entL_0, vcK_n, vcK_s, vcK_x, vc_0, isRefT_o, isRefT_a, vcX_n, clz_6, clz_11, clz_21, clz_22, clz_23, clz_24, clz_25, clz_26, thF_get, thF_len, twF_get, twF_len, trF_get, trF_len, vc_s, lgt_0, lgt_s, lst, k1, spl_0, spl_s, jmp, isRv_ref, isRv_null, isRv_rf, fitV_i, fitV_or, fitV_on, fitV_of, fitV_ar, fitV_an, fitV_af, fitV_z0, fitV_z1, fitV_b0, fitV_b1, cat_int, cat_ref, cat_null, cat_long, cat_dbl, cat_flt, cat8_n, cat8_1, cat8_2, cat8_3, cat8_4, cat8_5, LV_eq, List.getElem?_cons_zero, List.getElem?_cons_succ, List.set_cons_zero, List.set_cons_succ, List.length_cons, List.length_nil, Option.isSome_some, Nat.reduceAdd, Nat.reduceSub, Nat.reduceMul, Nat.reduceLeDiff, Nat.reduceLT, Nat.sub_zero, Bool.false_eq_true, Nat.reduceEqDiff, reduceIte, true_and, and_true, eq_self, not_true_eq_false, not_false_eq_true, forall_const, true_implies, false_implies, implies_true, and_self, if_true, if_false, ite_true, ite_false, Nat.zero_le, nar_i, nar_b0, nar_b1, Classical.not_not, Int32.reduceLT, Int32.reduceLE, Int32.reduceAdd, Int32.reduceSub, Int32.reduceMul, tsw_n, tsw_s, lsw_n, lsw_s, Int.reduceAdd, eqI_0_1, eqI_0_2, eqI_0_3, eqI_0_4, eqI_0_5, eqI_0_6, eqI_0_7, eqI_0_8, eqI_0_9, eqI_1_0, eqI_1_2, eqI_1_3, eqI_1_4, eqI_1_5, eqI_1_6, eqI_1_7, eqI_1_8, eqI_1_9, eqI_2_0, eqI_2_1, eqI_2_3, eqI_2_4, eqI_2_5, eqI_2_6, eqI_2_7, eqI_2_8, eqI_2_9, eqI_3_0, eqI_3_1, eqI_3_2, eqI_3_4, eqI_3_5, eqI_3_6, eqI_3_7, eqI_3_8, eqI_3_9, eqI_4_0, eqI_4_1, eqI_4_2, eqI_4_3, eqI_4_5, eqI_4_6, eqI_4_7, eqI_4_8, eqI_4_9, eqI_5_0, eqI_5_1, eqI_5_2, eqI_5_3, eqI_5_4, eqI_5_6, eqI_5_7, eqI_5_8, eqI_5_9, eqI_6_0, eqI_6_1, eqI_6_2, eqI_6_3, eqI_6_4, eqI_6_5, eqI_6_7, eqI_6_8, eqI_6_9, eqI_7_0, eqI_7_1, eqI_7_2, eqI_7_3, eqI_7_4, eqI_7_5, eqI_7_6, eqI_7_8, eqI_7_9, eqI_8_0, eqI_8_1, eqI_8_2, eqI_8_3, eqI_8_4, eqI_8_5, eqI_8_6, eqI_8_7, eqI_8_9, eqI_9_0, eqI_9_1, eqI_9_2, eqI_9_3, eqI_9_4, eqI_9_5, eqI_9_6, eqI_9_7, eqI_9_8, w_iconst, w_bipush, w_sipush, w_null, w_iload_0, w_iload_1, w_iload_2, w_iload_3, w_iload, b_iload, w_dload, b_dload, w_fload, b_fload, w_aload_0, w_aload_1, w_aload_2, w_aload_3, w_aload, b_aload, w_istore_0, w_istore_1, w_istore_2, w_istore_3, w_istore, w_fstore, w_dstore, w_astore_0, w_astore_1, w_astore_2, w_astore_3, w_astore, w_iinc, b_iinc, w_iadd, w_isub, w_imul, w_iand, w_ior, w_ixor, w_idiv, w_irem, w_ineg, w_ishl, w_ishr, w_iushr, w_i2l, w_i2b, w_i2c, w_i2d, w_i2f, w_f2d, w_ddiv, w_fdiv, w_lcmp, w_dcmp, w_fcmp, w_dup, w_pop, w_dup_x1, w_dup_x2, w_dup2, w_if_eq, w_icmp_eq, w_if_ne, w_icmp_ne, w_if_lt, w_icmp_lt, w_if_ge, w_icmp_ge, w_if_gt, w_icmp_gt, w_if_le, w_icmp_le, w_goto, w_ifnullR, w_ifnullN, w_ifnonnullR, w_ifnonnullN, w_acmp_eq, w_acmp_ne, w_lookup, w_tswitch, w_ireturn, w_return, w_areturn, w_dreturn, w_freturn, w_getf, b_getf, w_putf, b_putf, w_gets, b_gets, w_iaload, b_iaload, w_baload, b_baload, w_caload, b_caload, w_laload, b_laload, w_daload, b_daload, w_aaload, b_aaload, w_iastore, b_iastore, w_bastore, b_bastore, w_castore, b_castore, w_lastore, b_lastore, w_dastore, b_dastore, w_aastore, b_aastore, w_alen, b_alen, alen, w_newa_i, w_newa_b, w_newa_c, w_newa_l, w_newa_d, w_anew, w_new, b_new, w_ldc, b_ldc, w_ldcw, b_ldcw, w_cast, b_cast, w_inst, b_inst, w_athrow, b_athrow, w_invS, b_invS, w_invI, b_invI, w_invV, b_invV, w_invF, b_invF, oX2_earn, lX2_earn, rX2_earn, vX2_earn, hX2_earn, dX2_earn_0, dX2_earn_1, dX2_earn_2, fk_40_68_1, dX2_earn_5, ic_0, dX2_earn_6, dX2_earn_7, fk_40_21_1, dX2_earn_10, dX2_earn_11, dX2_earn_12, si_9999, dX2_earn_15, dX2_earn_16, no_sk_40_111, no_cp_40_111, mx_40_111, vJ9_max, lJ9_max, dX2_earn_19, dX2_earn_20, pk_40_68_1, dX2_earn_23, dX2_earn_24, dX2_earn_27, dX2_earn_28, dX2_earn_31, dX2_earn_32, dX2_earn_33, no_sk_40_117, no_cp_40_117, mx_40_117, vJ9_min, lJ9_min, dX2_earn_36, pk_40_21_1, dX2_earn_39, m0, Int32.add_zero, upd_id, o0 i0, w0_1 hj i0, w0_5 hj i0]
    have e9 : (if T 1 + v < 9999 then T 1 + v else 9999) = T 1 + v := by
      by_cases z : T 1 + v < 9999
      · rw [if_pos z]
      · rw [if_neg z]; exact Int32.le_antisymm (Int32.not_lt.mp z) g
    rw [e9]
    exact q
  · rw [if_neg g] at q
    have g' : 9999 < nn (T 1) + k := by
      rw [e1] at g
      rcases Nat.lt_or_ge 9999 (nn (T 1) + k) with r | r
      · exact r
      · exact absurd ((nI_leI (b := 9999) (by omega) (by decide)).mpr r) g
    have m0 : (0 : Int32) < T 1 + v - 9999 := by
      rw [e1, show (9999 : Int32) = nI 9999 from rfl, nI_sub' (by omega)]
      exact (nI_ltI (a := 0) (by decide) (by omega)).mpr (by omega)
    have n1 : ¬ T 1 + v < 9999 := fun r => g (Int32.le_of_lt r)
    have u5 : ∀ z, upd T 5 z 1 = T 1 := fun z => upd_ne (by omega)
    refine CC 0 40 gX2_earn.1 rfl rfl (Nat.le_of_ble_eq_true rfl) (Nat.zero_le _) ?_
    simp only [entL_s, entL_n, entL_0, vcK_n, vcK_s, vcK_x, vc_0, isRefT_o, isRefT_a, vcX_n, clz_6, clz_11, clz_21, clz_22, clz_23, clz_24, clz_25, clz_26, thF_get, thF_len, twF_get, twF_len, trF_get, trF_len, vc_s, lgt_0, lgt_s, lst, k1, spl_0, spl_s, jmp, isRv_ref, isRv_null, isRv_rf, fitV_i, fitV_or, fitV_on, fitV_of, fitV_ar, fitV_an, fitV_af, fitV_z0, fitV_z1, fitV_b0, fitV_b1, cat_int, cat_ref, cat_null, cat_long, cat_dbl, cat_flt, cat8_n, cat8_1, cat8_2, cat8_3, cat8_4, cat8_5, LV_eq, List.getElem?_cons_zero, List.getElem?_cons_succ, List.set_cons_zero, List.set_cons_succ, List.length_cons, List.length_nil, Option.isSome_some, Nat.reduceAdd, Nat.reduceSub, Nat.reduceMul, Nat.reduceLeDiff, Nat.reduceLT, Nat.sub_zero, Bool.false_eq_true, Nat.reduceEqDiff, reduceIte, true_and, and_true, eq_self, not_true_eq_false, not_false_eq_true, forall_const, true_implies, false_implies, implies_true, and_self, if_true, if_false, ite_true, ite_false, Nat.zero_le, nar_i, nar_b0, nar_b1, Classical.not_not, Int32.reduceLT, Int32.reduceLE, Int32.reduceAdd, Int32.reduceSub, Int32.reduceMul, tsw_n, tsw_s, lsw_n, lsw_s, Int.reduceAdd, eqI_0_1, eqI_0_2, eqI_0_3, eqI_0_4, eqI_0_5, eqI_0_6, eqI_0_7, eqI_0_8, eqI_0_9, eqI_1_0, eqI_1_2, eqI_1_3, eqI_1_4, eqI_1_5, eqI_1_6, eqI_1_7, eqI_1_8, eqI_1_9, eqI_2_0, eqI_2_1, eqI_2_3, eqI_2_4, eqI_2_5, eqI_2_6, eqI_2_7, eqI_2_8, eqI_2_9, eqI_3_0, eqI_3_1, eqI_3_2, eqI_3_4, eqI_3_5, eqI_3_6, eqI_3_7, eqI_3_8, eqI_3_9, eqI_4_0, eqI_4_1, eqI_4_2, eqI_4_3, eqI_4_5, eqI_4_6, eqI_4_7, eqI_4_8, eqI_4_9, eqI_5_0, eqI_5_1, eqI_5_2, eqI_5_3, eqI_5_4, eqI_5_6, eqI_5_7, eqI_5_8, eqI_5_9, eqI_6_0, eqI_6_1, eqI_6_2, eqI_6_3, eqI_6_4, eqI_6_5, eqI_6_7, eqI_6_8, eqI_6_9, eqI_7_0, eqI_7_1, eqI_7_2, eqI_7_3, eqI_7_4, eqI_7_5, eqI_7_6, eqI_7_8, eqI_7_9, eqI_8_0, eqI_8_1, eqI_8_2, eqI_8_3, eqI_8_4, eqI_8_5, eqI_8_6, eqI_8_7, eqI_8_9, eqI_9_0, eqI_9_1, eqI_9_2, eqI_9_3, eqI_9_4, eqI_9_5, eqI_9_6, eqI_9_7, eqI_9_8, w_iconst, w_bipush, w_sipush, w_null, w_iload_0, w_iload_1, w_iload_2, w_iload_3, w_iload, b_iload, w_dload, b_dload, w_fload, b_fload, w_aload_0, w_aload_1, w_aload_2, w_aload_3, w_aload, b_aload, w_istore_0, w_istore_1, w_istore_2, w_istore_3, w_istore, w_fstore, w_dstore, w_astore_0, w_astore_1, w_astore_2, w_astore_3, w_astore, w_iinc, b_iinc, w_iadd, w_isub, w_imul, w_iand, w_ior, w_ixor, w_idiv, w_irem, w_ineg, w_ishl, w_ishr, w_iushr, w_i2l, w_i2b, w_i2c, w_i2d, w_i2f, w_f2d, w_ddiv, w_fdiv, w_lcmp, w_dcmp, w_fcmp, w_dup, w_pop, w_dup_x1, w_dup_x2, w_dup2, w_if_eq, w_icmp_eq, w_if_ne, w_icmp_ne, w_if_lt, w_icmp_lt, w_if_ge, w_icmp_ge, w_if_gt, w_icmp_gt, w_if_le, w_icmp_le, w_goto, w_ifnullR, w_ifnullN, w_ifnonnullR, w_ifnonnullN, w_acmp_eq, w_acmp_ne, w_lookup, w_tswitch, w_ireturn, w_return, w_areturn, w_dreturn, w_freturn, w_getf, b_getf, w_putf, b_putf, w_gets, b_gets, w_iaload, b_iaload, w_baload, b_baload, w_caload, b_caload, w_laload, b_laload, w_daload, b_daload, w_aaload, b_aaload, w_iastore, b_iastore, w_bastore, b_bastore, w_castore, b_castore, w_lastore, b_lastore, w_dastore, b_dastore, w_aastore, b_aastore, w_alen, b_alen, alen, w_newa_i, w_newa_b, w_newa_c, w_newa_l, w_newa_d, w_anew, w_new, b_new, w_ldc, b_ldc, w_ldcw, b_ldcw, w_cast, b_cast, w_inst, b_inst, w_athrow, b_athrow, w_invS, b_invS, w_invI, b_invI, w_invV, b_invV, w_invF, b_invF, oX2_earn, lX2_earn, rX2_earn, vX2_earn, hX2_earn, dX2_earn_0, dX2_earn_1, dX2_earn_2, fk_40_68_1, dX2_earn_5, ic_0, dX2_earn_6, dX2_earn_7, fk_40_21_1, dX2_earn_10, dX2_earn_11, dX2_earn_12, si_9999, dX2_earn_15, dX2_earn_16, no_sk_40_111, no_cp_40_111, mx_40_111, vJ9_max, lJ9_max, dX2_earn_19, dX2_earn_20, pk_40_68_1, dX2_earn_23, dX2_earn_24, dX2_earn_27, dX2_earn_28, dX2_earn_31, dX2_earn_32, dX2_earn_33, no_sk_40_117, no_cp_40_117, mx_40_117, vJ9_min, lJ9_min, dX2_earn_36, pk_40_21_1, dX2_earn_39, m0, u5, n1, o0 i0, w0_1 hj i0, w0_5 hj i0]
    rw [inc_e, upd_cm T _ _ (show ¬ 1 = 5 by omega), upd_upd] at q
    exact q
end CP3
