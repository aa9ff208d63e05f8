-- HEAP O
/-! the component: a copy of a theatre -/
section CP22
variable {X : XT} {h h' : HP} {c : Nat} {I : IT2} {D : Nat → Nat → Nat} {S F T E T' E' : Nat → Int32} {C : CT2} {a : Nat} {x y : AC}
theorem BV_ext (v : BV X I D T E h 5) (hS8 : ∀ t, t < nT T → nS T t ≤ 8) (e24 : ∀ j, j < 24 → T' j = T j) (eT : ∀ t u, t < nT T → u < 49 → T' (24 + 49 * t + u) = T (24 + 49 * t + u)) : ov I (tC D T E) h = ov I (tC D T' E) h ∧ BV X I D T' E h 5 := by
  have eN : nT T' = nT T := by unfold nT; rw [e24 8 (by omega)]
  have eS : ∀ t, t < nT T → nS T' t = nS T t := fun t ht => by show nn (T' (24 + 49 * t + 2)) = nn (T (24 + 49 * t + 2)); rw [eT t 2 ht (by omega)]
  have cv : ∀ k n, covB 5 T' k n ↔ covB 5 T k n := by
    intro k n
    unfold covB
    split
    · exact Iff.rfl
    · exact Iff.rfl
    · rw [eN]
    · exact Iff.rfl
    · exact Iff.rfl
    · exact Iff.rfl
    · exact Iff.rfl
    · rw [eN]
    · rw [eN]
    · rw [eN]; exact ⟨fun q => ⟨q.1, by rw [← eS n q.1]; exact q.2⟩, fun q => ⟨q.1, by rw [eS n q.1]; exact q.2⟩⟩
    · rw [eN]
    · exact Iff.rfl
  obtain ⟨v0, v1, v2, v3, v4, e0, f, b, v5, v6, v7, v8, v9, vA⟩ := v
  constructor
  · refine ov_ext (fun q k n e => ?_)
    obtain ⟨y1, y2, y3⟩ := v0 q k n e
    have cc := v9 q k n e
    refine (tC_c (T := T) y3 y2 (fun _ j hj => e24 j (by omega)) (fun _ => e24 8 (by omega)) (fun r u hu => ?_) (fun r u hu _ => ?_) (fun r => ?_) (fun r s hs8 => ?_)).symm
    · subst r; have : n < 5 := cc; exact e24 _ (by omega)
    · subst r; exact eT n u cc (by omega)
    · rcases r with r | r
      · subst r; exact eT n 2 cc (by omega)
      · subst r; exact eT n 2 cc.1 (by omega)
    · subst r; exact eT n (9 + 5 * s + 4) cc (by omega)
  · refine ⟨v0, fun k n q => v1 k n ((cv k n).mp q), v2, fun t s ht hs8 => ?_, v4, e0, f, b, v5, v6, fun q => v7 (by rw [← eN]; exact q), fun t ht hz => ?_, fun q k j e => (cv k j).mpr (v9 q k j e), vA⟩
    · rw [eN] at ht
      rw [eS t ht] at hs8
      have := hS8 t ht
      obtain ⟨b, e⟩ := v3 t s ht hs8
      refine ⟨b, ?_⟩
      rw [e]
      have key : ∀ u, u < 4 → tSt T' t s u = tSt T t s u := fun u hu => eT t (9 + 5 * s + u) ht (by omega)
      unfold stF
      rw [key 0 (by omega), key 1 (by omega), key 2 (by omega), key 3 (by omega)]
    · rw [eN] at ht
      rw [eS t ht] at hz
      exact v8 t ht hz
-- HEAP Y
set_option maxRecDepth 100000 in
theorem P_copy {Q : RR → HP → Nat → Prop} {V : Nat → Nat → Nat} {d : Nat} (z : TV X h V S F) (hJ : TJ S) (hd : h d = none) (hc : 1400 ≤ c)
    (k : ∀ I D h', D 0 0 = d → DV X I D S (cE F (nT S)) h' → hle h h' → Q (.inl none) (ov I (tC D S (cE F (nT S))) h') (c - 1400)) : CallC X mX2_init_2 [.ref d, .ref (V 0 0)] (hs h d (true, .inl (1, thD0))) c Q := by
  have h6 := hJ.1.n6
  have hS8 : ∀ t', t' < nT S → nS S t' ≤ 8 := fun t' h' => (hJ.1.2 t' h').2.2.1.2
  obtain ⟨-, -, -, e0, f, b, e0h, he0, -⟩ := id z
  refine CC 1400 19 gX2_init_2.1 rfl rfl (Nat.le_of_ble_eq_true rfl) (by omega) ?_
  simp only [entL_s, entL_n, entL_0, vcK_n, vcK_s, vcK_x, vc_0, hs_at, isRefT_o, isRefT_a, vcX_n, clz_6, clz_11, clz_21, clz_22, clz_23, clz_24, clz_25, clz_26, vc_s, lgt_0, lgt_s, lst, k1, spl_0, spl_s, jmp, isRv_ref, isRv_null, isRv_rf, fitV_i, fitV_or, fitV_on, fitV_of, fitV_ar, fitV_an, fitV_af, fitV_z0, fitV_z1, fitV_b0, fitV_b1, cat_int, cat_ref, cat_null, cat_long, cat_dbl, cat_flt, cat8_n, cat8_1, cat8_2, cat8_3, cat8_4, cat8_5, LV_eq, List.getElem?_cons_zero, List.getElem?_cons_succ, List.set_cons_zero, List.set_cons_succ, List.length_cons, List.length_nil, Option.isSome_some, Nat.reduceAdd, Nat.reduceSub, Nat.reduceMul, Nat.reduceLeDiff, Nat.reduceLT, Nat.sub_zero, Bool.false_eq_true, Nat.reduceEqDiff, reduceIte, true_and, and_true, eq_self, not_true_eq_false, not_false_eq_true, forall_const, true_implies, false_implies, implies_true, and_self, if_true, if_false, ite_true, ite_false, Nat.zero_le, nar_i, nar_b0, nar_b1, Classical.not_not, Int32.reduceLT, Int32.reduceLE, Int32.reduceAdd, Int32.reduceSub, Int32.reduceMul, tsw_n, tsw_s, lsw_n, lsw_s, Int.reduceAdd, eqI_0_1, eqI_0_2, eqI_0_3, eqI_0_4, eqI_0_5, eqI_0_6, eqI_0_7, eqI_0_8, eqI_0_9, eqI_1_0, eqI_1_2, eqI_1_3, eqI_1_4, eqI_1_5, eqI_1_6, eqI_1_7, eqI_1_8, eqI_1_9, eqI_2_0, eqI_2_1, eqI_2_3, eqI_2_4, eqI_2_5, eqI_2_6, eqI_2_7, eqI_2_8, eqI_2_9, eqI_3_0, eqI_3_1, eqI_3_2, eqI_3_4, eqI_3_5, eqI_3_6, eqI_3_7, eqI_3_8, eqI_3_9, eqI_4_0, eqI_4_1, eqI_4_2, eqI_4_3, eqI_4_5, eqI_4_6, eqI_4_7, eqI_4_8, eqI_4_9, eqI_5_0, eqI_5_1, eqI_5_2, eqI_5_3, eqI_5_4, eqI_5_6, eqI_5_7, eqI_5_8, eqI_5_9, eqI_6_0, eqI_6_1, eqI_6_2, eqI_6_3, eqI_6_4, eqI_6_5, eqI_6_7, eqI_6_8, eqI_6_9, eqI_7_0, eqI_7_1, eqI_7_2, eqI_7_3, eqI_7_4, eqI_7_5, eqI_7_6, eqI_7_8, eqI_7_9, eqI_8_0, eqI_8_1, eqI_8_2, eqI_8_3, eqI_8_4, eqI_8_5, eqI_8_6, eqI_8_7, eqI_8_9, eqI_9_0, eqI_9_1, eqI_9_2, eqI_9_3, eqI_9_4, eqI_9_5, eqI_9_6, eqI_9_7, eqI_9_8, w_iconst, w_bipush, w_sipush, w_null, w_iload_0, w_iload_1, w_iload_2, w_iload_3, w_iload, b_iload, w_dload, b_dload, w_fload, b_fload, w_aload_0, w_aload_1, w_aload_2, w_aload_3, w_aload, b_aload, w_istore_0, w_istore_1, w_istore_2, w_istore_3, w_istore, w_fstore, w_dstore, w_astore_0, w_astore_1, w_astore_2, w_astore_3, w_astore, w_iinc, b_iinc, w_iadd, w_isub, w_imul, w_iand, w_ior, w_ixor, w_idiv, w_irem, w_ineg, w_ishl, w_ishr, w_iushr, w_i2l, w_i2b, w_i2c, w_i2d, w_i2f, w_f2d, w_ddiv, w_fdiv, w_lcmp, w_dcmp, w_fcmp, w_dup, w_pop, w_dup_x1, w_dup_x2, w_dup2, w_if_eq, w_icmp_eq, w_if_ne, w_icmp_ne, w_if_lt, w_icmp_lt, w_if_ge, w_icmp_ge, w_if_gt, w_icmp_gt, w_if_le, w_icmp_le, w_goto, w_ifnullR, w_ifnullN, w_ifnonnullR, w_ifnonnullN, w_acmp_eq, w_acmp_ne, w_lookup, w_tswitch, w_ireturn, w_return, w_areturn, w_dreturn, w_freturn, w_getf, b_getf, w_putf, b_putf, w_gets, b_gets, w_iaload, b_iaload, w_baload, b_baload, w_caload, b_caload, w_laload, b_laload, w_daload, b_daload, w_aaload, b_aaload, w_iastore, b_iastore, w_bastore, b_bastore, w_castore, b_castore, w_lastore, b_lastore, w_dastore, b_dastore, w_aastore, b_aastore, w_alen, b_alen, alen, w_newa_i, w_newa_b, w_newa_c, w_newa_l, w_newa_d, w_anew, w_new, b_new, w_ldc, b_ldc, w_ldcw, b_ldcw, w_cast, b_cast, w_inst, b_inst, w_athrow, b_athrow, w_invS, b_invS, w_invI, b_invI, w_invV, b_invV, w_invF, b_invF, oX2_init_2, lX2_init_2, rX2_init_2, vX2_init_2, hX2_init_2, nX2_init_2, dX2_init_2_0, dX2_init_2_1, no_ik_40_3, oi_40_3, vJ36_init, lJ36_init, dX2_init_2_4, dX2_init_2_5, nk_40_9_0, dX2_init_2_8, dX2_init_2_9, ik_40_11_0, vJ7_init, lJ7_init, dX2_init_2_12, pk_40_12_1, dX2_init_2_15, dX2_init_2_16, dX2_init_2_19, dX2_init_2_20, dX2_init_2_23, pk_40_18_1, dX2_init_2_26, dX2_init_2_27, bi_100, dX2_init_2_29, pk_40_21_1, dX2_init_2_32, dX2_init_2_33, fk_40_18_1, dX2_init_2_36, an_40_34, if_40_34_15, if_40_34_17, vJ7_iterator, lJ7_iterator, vJ31_iterator, lJ31_iterator, dX2_init_2_41, dX2_init_2_42, dX2_init_2_43, an_40_38, if_40_38_16, if_40_38_19, if_40_38_8, vX9_hasNext, lX9_hasNext, vJ12_hasNext, lJ12_hasNext, vJ24_hasNext, lJ24_hasNext, dX2_init_2_48, tg_48_34, jk_48_34, dX2_init_2_51, dX2_init_2_52, an_40_44, if_40_44_8, if_40_44_16, if_40_44_19, vX9_next, lX9_next, vJ12_next, lJ12_next, vJ24_next, lJ24_next, dX2_init_2_57, kk_40_25_2, dX2_init_2_60, dX2_init_2_61, dX2_init_2_62, dX2_init_2_65, nk_40_25_0, dX2_init_2_68, dX2_init_2_69, dX2_init_2_70, ik_40_48_0, vX3_init_2, lX3_init_2, dX2_init_2_73, an_40_28, if_40_28_17, if_40_28_15, vJ7_add, lJ7_add, vJ32_add, lJ32_add, dX2_init_2_78, dX2_init_2_79, tg_79_m37, jk_79_m37, dX2_init_2_82, dX2_init_2_83, fk_40_12_1, dX2_init_2_86, dX2_init_2_91, dX2_init_2_92, dX2_init_2_93, dX2_init_2_98, tg_98_35, jk_98_35, dX2_init_2_101, dX2_init_2_102, dX2_init_2_107, kk_40_51_4, dX2_init_2_110, dX2_init_2_111, dX2_init_2_112, dX2_init_2_115, nk_40_51_0, dX2_init_2_118, dX2_init_2_119, dX2_init_2_120, dX2_init_2_121, ik_40_53_0, vX5_init, lX5_init, dX2_init_2_124, dX2_init_2_129, dX2_init_2_130, tg_130_m38, jk_130_m38, dX2_init_2_133, dX2_init_2_134, dX2_init_2_135, fk_40_56_1, dX2_init_2_138, pk_40_56_1, dX2_init_2_141, dX2_init_2_142, dX2_init_2_143, fk_40_21_1, dX2_init_2_146, dX2_init_2_149, dX2_init_2_150, dX2_init_2_151, fk_40_59_1, dX2_init_2_154, pk_40_59_1, dX2_init_2_157, dX2_init_2_158, dX2_init_2_159, fk_40_62_1, dX2_init_2_162, pk_40_62_1, dX2_init_2_165, dX2_init_2_166, dX2_init_2_167, fk_40_65_1, dX2_init_2_170, pk_40_65_1, dX2_init_2_173, dX2_init_2_174, dX2_init_2_175, fk_40_68_1, dX2_init_2_178, pk_40_68_1, dX2_init_2_181, dX2_init_2_182, dX2_init_2_183, fk_40_71_1, dX2_init_2_186, pk_40_71_1, dX2_init_2_189, dX2_init_2_190, dX2_init_2_191, fk_40_74_1, dX2_init_2_194, pk_40_74_1, dX2_init_2_197]
  fail
end CP22
