/-! the model: lines -/
/-- f with a text written over its start -/
def ovr (f : Nat → Int32) (tx : List Int32) : Nat → Int32 := fun j => (tx[j]?).getD (f j)
theorem ovr_0 (f : Nat → Int32) : ovr f [] = f := rfl
theorem ovr_s (f : Nat → Int32) (tx : List Int32) (v : Int32) : upd (ovr f tx) tx.length v = ovr f (tx ++ [v]) := by
  funext j
  unfold upd ovr
  by_cases hj : j = tx.length
  · subst hj
    rw [if_pos rfl, List.getElem?_append_right (Nat.le_refl _)]
    simp
  · rw [if_neg hj]
    by_cases h2 : j < tx.length
    · rw [List.getElem?_append_left h2]
    · rw [List.getElem?_append_right (by omega), List.getElem?_eq_none (by omega), List.getElem?_eq_none (by simp; omega)]
def dgL (v : Nat) : List Int32 := if v ≤ 9 then [nI (48 + v)] else [nI (48 + v / 10), nI (48 + v % 10)]
theorem dg1 (v : Nat) (hv : v < 100) : vp_nar FieldType.char ((48 + nI v / 10).toUInt32 % 65536).toInt32 = nI (48 + v / 10) := by
  have : ∀ v : Fin 100, vp_nar FieldType.char ((48 + nI v.1 / 10).toUInt32 % 65536).toInt32 = nI (48 + v.1 / 10) := by decide +kernel
  exact this ⟨v, hv⟩
theorem dg2 (v : Nat) (hv : v < 100) : vp_nar FieldType.char ((48 + (nI v - nI v / 10 * 10)).toUInt32 % 65536).toInt32 = nI (48 + v % 10) := by
  have : ∀ v : Fin 100, vp_nar FieldType.char ((48 + (nI v.1 - nI v.1 / 10 * 10)).toUInt32 % 65536).toInt32 = nI (48 + v.1 % 10) := by decide +kernel
  exact this ⟨v, hv⟩
section MTG
variable {X : XT} {L : Nat → Nat} {S : Nat → Int32} {A : Nat → Nat → Int32} {w : Value} {h : HP} {c : Nat} {Q : RR → HP → Nat → Prop}
theorem C_writesNumber (hL : LD L) {x : Int32} (v : Nat) (hx : x = nI v) (hv : v < 100) (f : Nat → Int32) (tx : List Int32) (hm : tx.length < 98) (hS : S 8 = nI tx.length) (hA : A 7 = ovr f tx)
    (k : Q (.inl none) (mput L (sU S 8 (nI (tx ++ dgL v).length)) (aU A 7 (ovr f (tx ++ dgL v))) w h) c) : CallC X mX4_writesNumber [.ref (L 20), .int x] (mput L S A w h) c Q := by
  subst hx
  unfold dgL at k
  refine CC 0 60 gX4_writesNumber.1 rfl rfl (Nat.le_of_ble_eq_true rfl) (Nat.zero_le _) ?_
  simp only [entL_s, entL_n, entL_0, vcK_n, vcK_s, vcK_x, vc_0, mp_20, mp_0 hL, mp_1 hL, mp_2 hL, mp_3 hL, mp_5 hL, mp_7 hL, mp_9 hL, mp_13 hL, mf_get, mf_len, mq_4, mq_6, mq_8, mq_10, mq_11, mq_12, mq_14, mq_15, mq_16, mq_17, mq_18, ma_0 hL, ma_1 hL, ma_2 hL, ma_3 hL, ma_5 hL, ma_7 hL, ma_9 hL, ma_13 hL, sU_at, aU_at, vi_0, vi_1, vi_2, vi_3, vi_4, vi_5, vi_6, vi_7, vi_8, cl_0, cl_1, cl_2, cl_3, cl_4, cl_5, cl_6, cl_7, cl_8, vc_s, lgt_0, lgt_s, lst, k1, spl_0, spl_s, jmp, isRv_ref, isRv_null, isRv_rf, fitV_i, fitV_or, fitV_on, fitV_of, fitV_ar, fitV_an, fitV_af, fitV_z0, fitV_z1, fitV_b0, fitV_b1, cat_int, cat_ref, cat_null, cat_long, cat_dbl, cat_flt, cat8_n, cat8_1, cat8_2, cat8_3, cat8_4, cat8_5, LV_eq, List.getElem?_cons_zero, List.getElem?_cons_succ, List.set_cons_zero, List.set_cons_succ, List.length_cons, List.length_nil, Option.isSome_some, Nat.reduceAdd, Nat.reduceSub, Nat.reduceMul, Nat.reduceLeDiff, Nat.reduceLT, Nat.sub_zero, Bool.false_eq_true, Nat.reduceEqDiff, reduceIte, true_and, and_true, eq_self, not_true_eq_false, not_false_eq_true, forall_const, true_implies, false_implies, implies_true, and_self, if_true, if_false, ite_true, ite_false, Nat.zero_le, nar_i, nar_b0, nar_b1, Classical.not_not, Int32.reduceLT, Int32.reduceLE, Int32.reduceAdd, Int32.reduceSub, Int32.reduceMul, tsw_n, tsw_s, lsw_n, lsw_s, Int.reduceAdd, eqI_0_1, eqI_0_2, eqI_0_3, eqI_0_4, eqI_0_5, eqI_0_6, eqI_0_7, eqI_0_8, eqI_0_9, eqI_1_0, eqI_1_2, eqI_1_3, eqI_1_4, eqI_1_5, eqI_1_6, eqI_1_7, eqI_1_8, eqI_1_9, eqI_2_0, eqI_2_1, eqI_2_3, eqI_2_4, eqI_2_5, eqI_2_6, eqI_2_7, eqI_2_8, eqI_2_9, eqI_3_0, eqI_3_1, eqI_3_2, eqI_3_4, eqI_3_5, eqI_3_6, eqI_3_7, eqI_3_8, eqI_3_9, eqI_4_0, eqI_4_1, eqI_4_2, eqI_4_3, eqI_4_5, eqI_4_6, eqI_4_7, eqI_4_8, eqI_4_9, eqI_5_0, eqI_5_1, eqI_5_2, eqI_5_3, eqI_5_4, eqI_5_6, eqI_5_7, eqI_5_8, eqI_5_9, eqI_6_0, eqI_6_1, eqI_6_2, eqI_6_3, eqI_6_4, eqI_6_5, eqI_6_7, eqI_6_8, eqI_6_9, eqI_7_0, eqI_7_1, eqI_7_2, eqI_7_3, eqI_7_4, eqI_7_5, eqI_7_6, eqI_7_8, eqI_7_9, eqI_8_0, eqI_8_1, eqI_8_2, eqI_8_3, eqI_8_4, eqI_8_5, eqI_8_6, eqI_8_7, eqI_8_9, eqI_9_0, eqI_9_1, eqI_9_2, eqI_9_3, eqI_9_4, eqI_9_5, eqI_9_6, eqI_9_7, eqI_9_8, w_iconst, w_bipush, w_sipush, w_null, w_iload_0, w_iload_1, w_iload_2, w_iload_3, w_iload, b_iload, w_dload, b_dload, w_fload, b_fload, w_aload_0, w_aload_1, w_aload_2, w_aload_3, w_aload, b_aload, w_istore_0, w_istore_1, w_istore_2, w_istore_3, w_istore, w_fstore, w_dstore, w_astore_0, w_astore_1, w_astore_2, w_astore_3, w_astore, w_iinc, b_iinc, w_iadd, w_isub, w_imul, w_iand, w_ior, w_ixor, w_idiv, w_irem, w_ineg, w_ishl, w_ishr, w_iushr, w_i2l, w_i2b, w_i2c, w_i2d, w_i2f, w_f2d, w_ddiv, w_fdiv, w_lcmp, w_dcmp, w_fcmp, w_dup, w_pop, w_dup_x1, w_dup_x2, w_dup2, w_if_eq, w_icmp_eq, w_if_ne, w_icmp_ne, w_if_lt, w_icmp_lt, w_if_ge, w_icmp_ge, w_if_gt, w_icmp_gt, w_if_le, w_icmp_le, w_goto, w_ifnullR, w_ifnullN, w_ifnonnullR, w_ifnonnullN, w_acmp_eq, w_acmp_ne, w_lookup, w_tswitch, w_ireturn, w_return, w_areturn, w_dreturn, w_freturn, w_getf, b_getf, w_putf, b_putf, w_gets, b_gets, w_iaload, b_iaload, w_baload, b_baload, w_caload, b_caload, w_laload, b_laload, w_daload, b_daload, w_aaload, b_aaload, w_iastore, b_iastore, w_bastore, b_bastore, w_castore, b_castore, w_lastore, b_lastore, w_dastore, b_dastore, w_aastore, b_aastore, w_alen, b_alen, alen, w_newa_i, w_newa_b, w_newa_c, w_newa_l, w_newa_d, w_anew, w_new, b_new, w_ldc, b_ldc, w_ldcw, b_ldcw, w_cast, b_cast, w_inst, b_inst, w_athrow, b_athrow, w_invS, b_invS, w_invI, b_invI, w_invV, b_invV, w_invF, b_invF, oX4_writesNumber, lX4_writesNumber, rX4_writesNumber, vX4_writesNumber, hX4_writesNumber, dX4_writesNumber_0, dX4_writesNumber_1, bi_9, dX4_writesNumber_3, tg_3_27, jk_3_27, dX4_writesNumber_6, dX4_writesNumber_7, fk_42_25_3, dX4_writesNumber_10, dX4_writesNumber_11, dX4_writesNumber_12, fk_42_182_3, dX4_writesNumber_15, dX4_writesNumber_16, ic_1, dX4_writesNumber_17, dX4_writesNumber_18, pk_42_182_3, dX4_writesNumber_21, bi_48, dX4_writesNumber_23, dX4_writesNumber_24, bi_10, dX4_writesNumber_26, dX4_writesNumber_27, dX4_writesNumber_28, dX4_writesNumber_29, dX4_writesNumber_30, dX4_writesNumber_31, dX4_writesNumber_34, dX4_writesNumber_35, dX4_writesNumber_36, dX4_writesNumber_39, dX4_writesNumber_40, dX4_writesNumber_41, dX4_writesNumber_42, dX4_writesNumber_45, dX4_writesNumber_47, dX4_writesNumber_48, dX4_writesNumber_50, dX4_writesNumber_51, dX4_writesNumber_52, dX4_writesNumber_53, dX4_writesNumber_54, hS]
  refine ⟨fun g => ?_, fun g => ?_⟩
  · have g' : v ≤ 9 := (nI_leI (b := 9) (by omega) (by decide)).mp g
    rw [if_pos g', List.length_append] at k
    refine ⟨by decide, vp_in_nI (by omega) (by decide), ?_⟩
    rw [dg2 v hv, nI_clamp (by omega), nI_1, hA, ovr_s, Nat.mod_eq_of_lt (by omega)]
    exact k
  · have g' : ¬ v ≤ 9 := fun q => g ((nI_leI (b := 9) (by omega) (by decide)).mpr q)
    rw [if_neg g', List.length_append] at k
    rw [nI_1, nI_1]
    refine ⟨by decide, vp_in_nI (by omega) (by decide), by decide, vp_in_nI (by omega) (by decide), ?_⟩
    have e : upd (ovr f (tx ++ [nI (48 + v / 10)])) (tx.length + 1) (nI (48 + v % 10)) = ovr f (tx ++ [nI (48 + v / 10), nI (48 + v % 10)]) := by
      have := ovr_s f (tx ++ [nI (48 + v / 10)]) (nI (48 + v % 10))
      rw [List.length_append, List.length_singleton, List.append_assoc] at this
      exact this
    rw [dg1 v hv, dg2 v hv, nI_clamp (by omega), nI_clamp (by omega), hA, ovr_s, e, sU_sU, aU_aU]
    exact k
end MTG
