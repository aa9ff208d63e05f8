/-! the model's object: its cells -/
def sU (S : Nat → Int32) (k : Nat) (v : Int32) : Nat → Int32 := fun j => if j = k then v else S j
def aU (A : Nat → Nat → Int32) (k : Nat) (f : Nat → Int32) : Nat → Nat → Int32 := fun j => if j = k then f else A j
theorem sU_at (S : Nat → Int32) (k : Nat) (v : Int32) (j : Nat) : sU S k v j = if j = k then v else S j := rfl
theorem aU_at (A : Nat → Nat → Int32) (k : Nat) (f : Nat → Int32) (j : Nat) : aU A k f j = if j = k then f else A j := rfl
def mf (L : Nat → Nat) (S : Nat → Int32) (w : Value) : List Value := [.ref (L 0), .ref (L 1), .ref (L 2), .ref (L 3), .int (S 4), .ref (L 5), .int (S 6), .ref (L 7), .int (S 8), .ref (L 9), .int (S 10), .int (S 11), w, .ref (L 13), .int (S 14), .int (S 15), .int (S 16), .int (S 17), .int (S 18)]
/-- the heap h with the model's cells over it: its object at L 20 -/
def mput (L : Nat → Nat) (S : Nat → Int32) (A : Nat → Nat → Int32) (w : Value) (h : HP) : HP := fun a =>
  if a = L 20 then some (true, .inl (3, mf L S w)) else if a = L 0 then some (true, .inr (.inl (0, 318, A 0))) else if a = L 1 then some (true, .inr (.inl (0, 318, A 1))) else if a = L 2 then some (true, .inr (.inl (0, 318, A 2)))
  else if a = L 3 then some (true, .inr (.inl (0, 2544, A 3))) else if a = L 5 then some (true, .inr (.inl (0, 318, A 5))) else if a = L 7 then some (true, .inr (.inl (2, 100, A 7))) else if a = L 9 then some (true, .inr (.inl (2, 60, A 9)))
  else if a = L 13 then some (true, .inr (.inl (0, 4, A 13))) else h a
def mIx : List Nat := [20, 0, 1, 2, 3, 5, 7, 9, 13]
/-- the cells lie apart -/
def LD (L : Nat → Nat) : Prop := ∀ i ∈ mIx, ∀ j ∈ mIx, L i = L j → i = j
theorem LD.ne {L : Nat → Nat} (hL : LD L) (i j : Nat) (hi : mIx.contains i = true) (hj : mIx.contains j = true) (hn : (i == j) = false) : ¬ L i = L j := fun e => by
  have := hL i (by simpa using hi) j (by simpa using hj) e
  subst this
  simp at hn
section MPUT
variable {L : Nat → Nat} {S : Nat → Int32} {A : Nat → Nat → Int32} {w : Value} {h : HP}
theorem mp_20 : mput L S A w h (L 20) = some (true, .inl (3, mf L S w)) := if_pos rfl
theorem mp_0 (hL : LD L) : mput L S A w h (L 0) = some (true, .inr (.inl (0, 318, A 0))) := by simp [mput, hL.ne 0 20 rfl rfl rfl]
theorem mp_1 (hL : LD L) : mput L S A w h (L 1) = some (true, .inr (.inl (0, 318, A 1))) := by simp [mput, hL.ne 1 20 rfl rfl rfl, hL.ne 1 0 rfl rfl rfl]
theorem mp_2 (hL : LD L) : mput L S A w h (L 2) = some (true, .inr (.inl (0, 318, A 2))) := by simp [mput, hL.ne 2 20 rfl rfl rfl, hL.ne 2 0 rfl rfl rfl, hL.ne 2 1 rfl rfl rfl]
theorem mp_3 (hL : LD L) : mput L S A w h (L 3) = some (true, .inr (.inl (0, 2544, A 3))) := by simp [mput, hL.ne 3 20 rfl rfl rfl, hL.ne 3 0 rfl rfl rfl, hL.ne 3 1 rfl rfl rfl, hL.ne 3 2 rfl rfl rfl]
theorem mp_5 (hL : LD L) : mput L S A w h (L 5) = some (true, .inr (.inl (0, 318, A 5))) := by simp [mput, hL.ne 5 20 rfl rfl rfl, hL.ne 5 0 rfl rfl rfl, hL.ne 5 1 rfl rfl rfl, hL.ne 5 2 rfl rfl rfl, hL.ne 5 3 rfl rfl rfl]
theorem mp_7 (hL : LD L) : mput L S A w h (L 7) = some (true, .inr (.inl (2, 100, A 7))) := by simp [mput, hL.ne 7 20 rfl rfl rfl, hL.ne 7 0 rfl rfl rfl, hL.ne 7 1 rfl rfl rfl, hL.ne 7 2 rfl rfl rfl, hL.ne 7 3 rfl rfl rfl, hL.ne 7 5 rfl rfl rfl]
theorem mp_9 (hL : LD L) : mput L S A w h (L 9) = some (true, .inr (.inl (2, 60, A 9))) := by simp [mput, hL.ne 9 20 rfl rfl rfl, hL.ne 9 0 rfl rfl rfl, hL.ne 9 1 rfl rfl rfl, hL.ne 9 2 rfl rfl rfl, hL.ne 9 3 rfl rfl rfl, hL.ne 9 5 rfl rfl rfl, hL.ne 9 7 rfl rfl rfl]
theorem mp_13 (hL : LD L) : mput L S A w h (L 13) = some (true, .inr (.inl (0, 4, A 13))) := by simp [mput, hL.ne 13 20 rfl rfl rfl, hL.ne 13 0 rfl rfl rfl, hL.ne 13 1 rfl rfl rfl, hL.ne 13 2 rfl rfl rfl, hL.ne 13 3 rfl rfl rfl, hL.ne 13 5 rfl rfl rfl, hL.ne 13 7 rfl rfl rfl, hL.ne 13 9 rfl rfl rfl]
theorem mf_get (k : Nat) : (mf L S w)[k]? = ([.ref (L 0), .ref (L 1), .ref (L 2), .ref (L 3), .int (S 4), .ref (L 5), .int (S 6), .ref (L 7), .int (S 8), .ref (L 9), .int (S 10), .int (S 11), w, .ref (L 13), .int (S 14), .int (S 15), .int (S 16), .int (S 17), .int (S 18)] : List Value)[k]? := rfl
theorem mf_len : (mf L S w).length = 19 := rfl
theorem mq_4 (v : Int32) : hs (mput L S A w h) (L 20) (true, .inl (3, (mf L S w).set 4 (.int v))) = mput L (sU S 4 v) A w h := by funext a; unfold hs mput; split <;> rfl
theorem mq_6 (v : Int32) : hs (mput L S A w h) (L 20) (true, .inl (3, (mf L S w).set 6 (.int v))) = mput L (sU S 6 v) A w h := by funext a; unfold hs mput; split <;> rfl
theorem mq_8 (v : Int32) : hs (mput L S A w h) (L 20) (true, .inl (3, (mf L S w).set 8 (.int v))) = mput L (sU S 8 v) A w h := by funext a; unfold hs mput; split <;> rfl
theorem mq_10 (v : Int32) : hs (mput L S A w h) (L 20) (true, .inl (3, (mf L S w).set 10 (.int v))) = mput L (sU S 10 v) A w h := by funext a; unfold hs mput; split <;> rfl
theorem mq_11 (v : Int32) : hs (mput L S A w h) (L 20) (true, .inl (3, (mf L S w).set 11 (.int v))) = mput L (sU S 11 v) A w h := by funext a; unfold hs mput; split <;> rfl
theorem mq_12 (v : Value) : hs (mput L S A w h) (L 20) (true, .inl (3, (mf L S w).set 12 v)) = mput L S A v h := by funext a; unfold hs mput; split <;> rfl
theorem mq_14 (v : Int32) : hs (mput L S A w h) (L 20) (true, .inl (3, (mf L S w).set 14 (.int v))) = mput L (sU S 14 v) A w h := by funext a; unfold hs mput; split <;> rfl
theorem mq_15 (v : Int32) : hs (mput L S A w h) (L 20) (true, .inl (3, (mf L S w).set 15 (.int v))) = mput L (sU S 15 v) A w h := by funext a; unfold hs mput; split <;> rfl
theorem mq_16 (v : Int32) : hs (mput L S A w h) (L 20) (true, .inl (3, (mf L S w).set 16 (.int v))) = mput L (sU S 16 v) A w h := by funext a; unfold hs mput; split <;> rfl
theorem mq_17 (v : Int32) : hs (mput L S A w h) (L 20) (true, .inl (3, (mf L S w).set 17 (.int v))) = mput L (sU S 17 v) A w h := by funext a; unfold hs mput; split <;> rfl
theorem mq_18 (v : Int32) : hs (mput L S A w h) (L 20) (true, .inl (3, (mf L S w).set 18 (.int v))) = mput L (sU S 18 v) A w h := by funext a; unfold hs mput; split <;> rfl
theorem ma_gen (hL : LD L) (k t n : Nat) (f : Nat → Int32) (hk : mIx.contains k = true) (h0 : (k == 20) = false) (e : ∀ A', mput L S A' w h (L k) = some (true, .inr (.inl (t, n, A' k)))) : hs (mput L S A w h) (L k) (true, .inr (.inl (t, n, f))) = mput L S (aU A k f) w h := by
  funext a
  by_cases ha : a = L k
  · subst ha
    rw [hs_eq, e]
    simp [aU]
  · rw [hs_ne _ _ ha]
    have hk' : k = 0 ∨ k = 1 ∨ k = 2 ∨ k = 3 ∨ k = 5 ∨ k = 7 ∨ k = 9 ∨ k = 13 := by
      have : k ∈ mIx := by simpa using hk
      simp [mIx] at this
      simp at h0
      omega
    rcases hk' with rfl | rfl | rfl | rfl | rfl | rfl | rfl | rfl <;> simp [mput, aU, ha]
theorem ma_0 (hL : LD L) (f : Nat → Int32) : hs (mput L S A w h) (L 0) (true, .inr (.inl (0, 318, f))) = mput L S (aU A 0 f) w h := ma_gen hL 0 0 318 f rfl rfl (fun _ => mp_0 hL)
theorem ma_1 (hL : LD L) (f : Nat → Int32) : hs (mput L S A w h) (L 1) (true, .inr (.inl (0, 318, f))) = mput L S (aU A 1 f) w h := ma_gen hL 1 0 318 f rfl rfl (fun _ => mp_1 hL)
theorem ma_2 (hL : LD L) (f : Nat → Int32) : hs (mput L S A w h) (L 2) (true, .inr (.inl (0, 318, f))) = mput L S (aU A 2 f) w h := ma_gen hL 2 0 318 f rfl rfl (fun _ => mp_2 hL)
theorem ma_3 (hL : LD L) (f : Nat → Int32) : hs (mput L S A w h) (L 3) (true, .inr (.inl (0, 2544, f))) = mput L S (aU A 3 f) w h := ma_gen hL 3 0 2544 f rfl rfl (fun _ => mp_3 hL)
theorem ma_5 (hL : LD L) (f : Nat → Int32) : hs (mput L S A w h) (L 5) (true, .inr (.inl (0, 318, f))) = mput L S (aU A 5 f) w h := ma_gen hL 5 0 318 f rfl rfl (fun _ => mp_5 hL)
theorem ma_7 (hL : LD L) (f : Nat → Int32) : hs (mput L S A w h) (L 7) (true, .inr (.inl (2, 100, f))) = mput L S (aU A 7 f) w h := ma_gen hL 7 2 100 f rfl rfl (fun _ => mp_7 hL)
theorem ma_9 (hL : LD L) (f : Nat → Int32) : hs (mput L S A w h) (L 9) (true, .inr (.inl (2, 60, f))) = mput L S (aU A 9 f) w h := ma_gen hL 9 2 60 f rfl rfl (fun _ => mp_9 hL)
theorem ma_13 (hL : LD L) (f : Nat → Int32) : hs (mput L S A w h) (L 13) (true, .inr (.inl (0, 4, f))) = mput L S (aU A 13 f) w h := ma_gen hL 13 0 4 f rfl rfl (fun _ => mp_13 hL)
end MPUT
theorem vi_0 : vp_in 0 318 = True := eq_true (vp_in_nI (n := 0) (by decide) (by decide))
theorem cl_0 : (0 : Int32).toNatClampNeg = 0 := rfl
theorem vi_1 : vp_in 1 318 = True := eq_true (vp_in_nI (n := 1) (by decide) (by decide))
theorem cl_1 : (1 : Int32).toNatClampNeg = 1 := rfl
theorem vi_2 : vp_in 2 318 = True := eq_true (vp_in_nI (n := 2) (by decide) (by decide))
theorem cl_2 : (2 : Int32).toNatClampNeg = 2 := rfl
theorem vi_3 : vp_in 3 318 = True := eq_true (vp_in_nI (n := 3) (by decide) (by decide))
theorem cl_3 : (3 : Int32).toNatClampNeg = 3 := rfl
theorem vi_4 : vp_in 4 318 = True := eq_true (vp_in_nI (n := 4) (by decide) (by decide))
theorem cl_4 : (4 : Int32).toNatClampNeg = 4 := rfl
theorem vi_5 : vp_in 5 318 = True := eq_true (vp_in_nI (n := 5) (by decide) (by decide))
theorem cl_5 : (5 : Int32).toNatClampNeg = 5 := rfl
theorem vi_6 : vp_in 6 318 = True := eq_true (vp_in_nI (n := 6) (by decide) (by decide))
theorem cl_6 : (6 : Int32).toNatClampNeg = 6 := rfl
theorem vi_7 : vp_in 7 318 = True := eq_true (vp_in_nI (n := 7) (by decide) (by decide))
theorem cl_7 : (7 : Int32).toNatClampNeg = 7 := rfl
theorem vi_8 : vp_in 8 318 = True := eq_true (vp_in_nI (n := 8) (by decide) (by decide))
theorem cl_8 : (8 : Int32).toNatClampNeg = 8 := rfl
section MT
variable {X : XT} {L : Nat → Nat} {S : Nat → Int32} {A : Nat → Nat → Int32} {w : Value} {h : HP} {c : Nat} {Q : RR → HP → Nat → Prop}
theorem C_thrown (k : Q (.inl (some (.int (S 18)))) (mput L S A w h) c) : CallC X mX4_thrown [.ref (L 20)] (mput L S A w h) c Q := by
  refine CC 0 20 gX4_thrown.1 rfl rfl (Nat.le_of_ble_eq_true rfl) (Nat.zero_le _) ?_
  simp only [entL_s, entL_n, entL_0, mp_20, mf_get, vc_s, lgt_0, lgt_s, lst, k1, spl_0, spl_s, jmp, isRv_ref, isRv_null, isRv_rf, fitV_i, fitV_or, fitV_on, fitV_of, fitV_ar, fitV_an, fitV_af, fitV_z0, fitV_z1, fitV_b0, fitV_b1, cat_int, cat_ref, cat_null, cat_long, cat_dbl, cat_flt, cat8_n, cat8_1, cat8_2, cat8_3, cat8_4, cat8_5, LV_eq, List.getElem?_cons_zero, List.getElem?_cons_succ, List.set_cons_zero, List.set_cons_succ, List.length_cons, List.length_nil, Option.isSome_some, Nat.reduceAdd, Nat.reduceSub, Nat.reduceMul, Nat.reduceLeDiff, Nat.reduceLT, Nat.sub_zero, Bool.false_eq_true, Nat.reduceEqDiff, reduceIte, true_and, and_true, eq_self, not_true_eq_false, not_false_eq_true, forall_const, true_implies, false_implies, implies_true, and_self, if_true, if_false, ite_true, ite_false, Nat.zero_le, nar_i, nar_b0, nar_b1, Classical.not_not, Int32.reduceLT, Int32.reduceLE, Int32.reduceAdd, Int32.reduceSub, Int32.reduceMul, tsw_n, tsw_s, lsw_n, lsw_s, Int.reduceAdd, eqI_0_1, eqI_0_2, eqI_0_3, eqI_0_4, eqI_0_5, eqI_0_6, eqI_0_7, eqI_0_8, eqI_0_9, eqI_1_0, eqI_1_2, eqI_1_3, eqI_1_4, eqI_1_5, eqI_1_6, eqI_1_7, eqI_1_8, eqI_1_9, eqI_2_0, eqI_2_1, eqI_2_3, eqI_2_4, eqI_2_5, eqI_2_6, eqI_2_7, eqI_2_8, eqI_2_9, eqI_3_0, eqI_3_1, eqI_3_2, eqI_3_4, eqI_3_5, eqI_3_6, eqI_3_7, eqI_3_8, eqI_3_9, eqI_4_0, eqI_4_1, eqI_4_2, eqI_4_3, eqI_4_5, eqI_4_6, eqI_4_7, eqI_4_8, eqI_4_9, eqI_5_0, eqI_5_1, eqI_5_2, eqI_5_3, eqI_5_4, eqI_5_6, eqI_5_7, eqI_5_8, eqI_5_9, eqI_6_0, eqI_6_1, eqI_6_2, eqI_6_3, eqI_6_4, eqI_6_5, eqI_6_7, eqI_6_8, eqI_6_9, eqI_7_0, eqI_7_1, eqI_7_2, eqI_7_3, eqI_7_4, eqI_7_5, eqI_7_6, eqI_7_8, eqI_7_9, eqI_8_0, eqI_8_1, eqI_8_2, eqI_8_3, eqI_8_4, eqI_8_5, eqI_8_6, eqI_8_7, eqI_8_9, eqI_9_0, eqI_9_1, eqI_9_2, eqI_9_3, eqI_9_4, eqI_9_5, eqI_9_6, eqI_9_7, eqI_9_8, w_iconst, w_bipush, w_sipush, w_null, w_iload_0, w_iload_1, w_iload_2, w_iload_3, w_iload, b_iload, w_dload, b_dload, w_fload, b_fload, w_aload_0, w_aload_1, w_aload_2, w_aload_3, w_aload, b_aload, w_istore_0, w_istore_1, w_istore_2, w_istore_3, w_istore, w_fstore, w_dstore, w_astore_0, w_astore_1, w_astore_2, w_astore_3, w_astore, w_iinc, b_iinc, w_iadd, w_isub, w_imul, w_iand, w_ior, w_ixor, w_idiv, w_irem, w_ineg, w_ishl, w_ishr, w_iushr, w_i2l, w_i2b, w_i2c, w_i2d, w_i2f, w_f2d, w_ddiv, w_fdiv, w_lcmp, w_dcmp, w_fcmp, w_dup, w_pop, w_dup_x1, w_dup_x2, w_dup2, w_if_eq, w_icmp_eq, w_if_ne, w_icmp_ne, w_if_lt, w_icmp_lt, w_if_ge, w_icmp_ge, w_if_gt, w_icmp_gt, w_if_le, w_icmp_le, w_goto, w_ifnullR, w_ifnullN, w_ifnonnullR, w_ifnonnullN, w_acmp_eq, w_acmp_ne, w_lookup, w_tswitch, w_ireturn, w_return, w_areturn, w_dreturn, w_freturn, w_getf, b_getf, w_putf, b_putf, w_gets, b_gets, w_iaload, b_iaload, w_baload, b_baload, w_caload, b_caload, w_laload, b_laload, w_daload, b_daload, w_aaload, b_aaload, w_iastore, b_iastore, w_bastore, b_bastore, w_castore, b_castore, w_lastore, b_lastore, w_dastore, b_dastore, w_aastore, b_aastore, w_alen, b_alen, alen, w_newa_i, w_newa_b, w_newa_c, w_newa_l, w_newa_d, w_anew, w_new, b_new, w_ldc, b_ldc, w_ldcw, b_ldcw, w_cast, b_cast, w_inst, b_inst, w_athrow, b_athrow, w_invS, b_invS, w_invI, b_invI, w_invV, b_invV, w_invF, b_invF, oX4_thrown, lX4_thrown, rX4_thrown, vX4_thrown, hX4_thrown, dX4_thrown_0, dX4_thrown_1, fk_42_45_3, dX4_thrown_4]
  exact k
theorem C_raises (b : Int32) (k : Q (.inl (some (.int 0))) (mput L (sU S 18 b) A w h) c) : CallC X mX4_raises [.ref (L 20), .int b] (mput L S A w h) c Q := by
  refine CC 0 20 gX4_raises.1 rfl rfl (Nat.le_of_ble_eq_true rfl) (Nat.zero_le _) ?_
  simp only [entL_s, entL_n, entL_0, mp_20, mf_get, mf_len, mq_18, vc_s, lgt_0, lgt_s, lst, k1, spl_0, spl_s, jmp, isRv_ref, isRv_null, isRv_rf, fitV_i, fitV_or, fitV_on, fitV_of, fitV_ar, fitV_an, fitV_af, fitV_z0, fitV_z1, fitV_b0, fitV_b1, cat_int, cat_ref, cat_null, cat_long, cat_dbl, cat_flt, cat8_n, cat8_1, cat8_2, cat8_3, cat8_4, cat8_5, LV_eq, List.getElem?_cons_zero, List.getElem?_cons_succ, List.set_cons_zero, List.set_cons_succ, List.length_cons, List.length_nil, Option.isSome_some, Nat.reduceAdd, Nat.reduceSub, Nat.reduceMul, Nat.reduceLeDiff, Nat.reduceLT, Nat.sub_zero, Bool.false_eq_true, Nat.reduceEqDiff, reduceIte, true_and, and_true, eq_self, not_true_eq_false, not_false_eq_true, forall_const, true_implies, false_implies, implies_true, and_self, if_true, if_false, ite_true, ite_false, Nat.zero_le, nar_i, nar_b0, nar_b1, Classical.not_not, Int32.reduceLT, Int32.reduceLE, Int32.reduceAdd, Int32.reduceSub, Int32.reduceMul, tsw_n, tsw_s, lsw_n, lsw_s, Int.reduceAdd, eqI_0_1, eqI_0_2, eqI_0_3, eqI_0_4, eqI_0_5, eqI_0_6, eqI_0_7, eqI_0_8, eqI_0_9, eqI_1_0, eqI_1_2, eqI_1_3, eqI_1_4, eqI_1_5, eqI_1_6, eqI_1_7, eqI_1_8, eqI_1_9, eqI_2_0, eqI_2_1, eqI_2_3, eqI_2_4, eqI_2_5, eqI_2_6, eqI_2_7, eqI_2_8, eqI_2_9, eqI_3_0, eqI_3_1, eqI_3_2, eqI_3_4, eqI_3_5, eqI_3_6, eqI_3_7, eqI_3_8, eqI_3_9, eqI_4_0, eqI_4_1, eqI_4_2, eqI_4_3, eqI_4_5, eqI_4_6, eqI_4_7, eqI_4_8, eqI_4_9, eqI_5_0, eqI_5_1, eqI_5_2, eqI_5_3, eqI_5_4, eqI_5_6, eqI_5_7, eqI_5_8, eqI_5_9, eqI_6_0, eqI_6_1, eqI_6_2, eqI_6_3, eqI_6_4, eqI_6_5, eqI_6_7, eqI_6_8, eqI_6_9, eqI_7_0, eqI_7_1, eqI_7_2, eqI_7_3, eqI_7_4, eqI_7_5, eqI_7_6, eqI_7_8, eqI_7_9, eqI_8_0, eqI_8_1, eqI_8_2, eqI_8_3, eqI_8_4, eqI_8_5, eqI_8_6, eqI_8_7, eqI_8_9, eqI_9_0, eqI_9_1, eqI_9_2, eqI_9_3, eqI_9_4, eqI_9_5, eqI_9_6, eqI_9_7, eqI_9_8, w_iconst, w_bipush, w_sipush, w_null, w_iload_0, w_iload_1, w_iload_2, w_iload_3, w_iload, b_iload, w_dload, b_dload, w_fload, b_fload, w_aload_0, w_aload_1, w_aload_2, w_aload_3, w_aload, b_aload, w_istore_0, w_istore_1, w_istore_2, w_istore_3, w_istore, w_fstore, w_dstore, w_astore_0, w_astore_1, w_astore_2, w_astore_3, w_astore, w_iinc, b_iinc, w_iadd, w_isub, w_imul, w_iand, w_ior, w_ixor, w_idiv, w_irem, w_ineg, w_ishl, w_ishr, w_iushr, w_i2l, w_i2b, w_i2c, w_i2d, w_i2f, w_f2d, w_ddiv, w_fdiv, w_lcmp, w_dcmp, w_fcmp, w_dup, w_pop, w_dup_x1, w_dup_x2, w_dup2, w_if_eq, w_icmp_eq, w_if_ne, w_icmp_ne, w_if_lt, w_icmp_lt, w_if_ge, w_icmp_ge, w_if_gt, w_icmp_gt, w_if_le, w_icmp_le, w_goto, w_ifnullR, w_ifnullN, w_ifnonnullR, w_ifnonnullN, w_acmp_eq, w_acmp_ne, w_lookup, w_tswitch, w_ireturn, w_return, w_areturn, w_dreturn, w_freturn, w_getf, b_getf, w_putf, b_putf, w_gets, b_gets, w_iaload, b_iaload, w_baload, b_baload, w_caload, b_caload, w_laload, b_laload, w_daload, b_daload, w_aaload, b_aaload, w_iastore, b_iastore, w_bastore, b_bastore, w_castore, b_castore, w_lastore, b_lastore, w_dastore, b_dastore, w_aastore, b_aastore, w_alen, b_alen, alen, w_newa_i, w_newa_b, w_newa_c, w_newa_l, w_newa_d, w_anew, w_new, b_new, w_ldc, b_ldc, w_ldcw, b_ldcw, w_cast, b_cast, w_inst, b_inst, w_athrow, b_athrow, w_invS, b_invS, w_invI, b_invI, w_invV, b_invV, w_invF, b_invF, oX4_raises, lX4_raises, rX4_raises, vX4_raises, hX4_raises, dX4_raises_0, dX4_raises_1, dX4_raises_2, pk_42_45_3, dX4_raises_5, ic_0, dX4_raises_6]
  exact k
end MT
