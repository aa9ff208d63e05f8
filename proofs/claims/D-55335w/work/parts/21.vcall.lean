set_option maxHeartbeats 4000000 in
theorem vcB_ok {X : XT} {V : VT} {M : MI} {pc : Nat} {L : List (Option Value)} {st : List Value} {h : HP} {c : Nat} {Q : RR → HP → Prop} (hV : ∀ (M : MI) (pc : Nat) (L : List (Option Value)) (st : List Value) (h : HP) (c : Nat) (Q : RR → HP → Prop), MG M → V M pc L st h c Q → J (mkG X) M pc L st h c Q) (hM : MG M) (hv : vcB X V (DC M pc) M pc L st h c Q) : J (mkG X) M pc L st h c Q := by
  unfold vcB at hv
  generalize hd : DC M pc = r at hv
  unfold vB1 at hv
  split at hv
  · exact s_iconst hV hM hd hv
  · exact s_bipush hV hM hd hv
  · exact s_sipush hV hM hd hv
  · exact s_null hV hM hd hv
  · exact s_iload_n hV hM hd hv
  · exact s_iload hV hM hd hv
  · exact s_dload hV hM hd hv
  · exact s_fload hV hM hd hv
  · exact s_aload_n hV hM hd hv
  · exact s_aload hV hM hd hv
  · unfold vB2 at hv
    split at hv
    · exact s_istore_n hV hM hd hv
    · exact s_istore hV hM hd hv
    · exact s_fstore hV hM hd hv
    · exact s_dstore hV hM hd hv
    · exact s_astore_n hV hM hd hv
    · exact s_astore hV hM hd hv
    · exact s_iinc hV hM hd hv
    · unfold vB3 at hv
      split at hv
      · exact s_iadd hV hM hd hv
      · exact s_isub hV hM hd hv
      · exact s_imul hV hM hd hv
      · exact s_iand hV hM hd hv
      · exact s_ior hV hM hd hv
      · exact s_ixor hV hM hd hv
      · exact s_idiv hV hM hd hv
      · exact s_irem hV hM hd hv
      · exact s_ineg hV hM hd hv
      · exact s_ishl hV hM hd hv
      · exact s_ishr hV hM hd hv
      · exact s_iushr hV hM hd hv
      · exact s_i2l hV hM hd hv
      · exact s_i2b hV hM hd hv
      · exact s_i2c hV hM hd hv
      · exact s_i2d hV hM hd hv
      · exact s_i2f hV hM hd hv
      · unfold vB4 at hv
        split at hv
        · exact s_f2d hV hM hd hv
        · exact s_ddiv hV hM hd hv
        · exact s_fdiv hV hM hd hv
        · exact s_lcmp hV hM hd hv
        · exact s_dcmp hV hM hd hv
        · exact s_fcmp hV hM hd hv
        · exact s_dup hV hM hd hv
        · exact s_pop hV hM hd hv
        · exact s_dup_x1 hV hM hd hv
        · exact s_dup_x2 hV hM hd hv
        · exact s_dup2 hV hM hd hv
        · unfold vB5 at hv
          split at hv
          · exact s_if_eq hV hM hd hv
          · exact s_icmp_eq hV hM hd hv
          · exact s_if_ne hV hM hd hv
          · exact s_icmp_ne hV hM hd hv
          · exact s_if_lt hV hM hd hv
          · exact s_icmp_lt hV hM hd hv
          · exact s_if_ge hV hM hd hv
          · exact s_icmp_ge hV hM hd hv
          · exact s_if_gt hV hM hd hv
          · exact s_icmp_gt hV hM hd hv
          · exact s_if_le hV hM hd hv
          · exact s_icmp_le hV hM hd hv
          · exact s_goto hV hM hd hv
          · unfold vB6 at hv
            split at hv
            · exact s_ifnull hV hM hd hv
            · exact s_ifnonnull hV hM hd hv
            · exact s_acmp_eq hV hM hd hv
            · exact s_acmp_ne hV hM hd hv
            · exact s_lookup hV hM hd hv
            · exact s_tswitch hV hM hd hv
            · unfold vB7 at hv
              split at hv
              · exact s_ireturn hV hM hd hv
              · exact s_return hV hM hd hv
              · exact s_areturn hV hM hd hv
              · exact s_dreturn hV hM hd hv
              · exact s_freturn hV hM hd hv
              · exact s_getf hV hM hd hv
              · exact s_putf hV hM hd hv
              · exact s_gets hV hM hd hv
              · unfold vB8 at hv
                split at hv
                · exact s_iaload hV hM hd hv
                · exact s_baload hV hM hd hv
                · exact s_caload hV hM hd hv
                · exact s_laload hV hM hd hv
                · exact s_daload hV hM hd hv
                · exact s_aaload hV hM hd hv
                · exact s_iastore hV hM hd hv
                · exact s_bastore hV hM hd hv
                · exact s_castore hV hM hd hv
                · exact s_lastore hV hM hd hv
                · exact s_dastore hV hM hd hv
                · exact s_aastore hV hM hd hv
                · exact s_alen hV hM hd hv
                · unfold vB9 at hv
                  split at hv
                  · exact s_newa_i hV hM hd hv
                  · exact s_newa_b hV hM hd hv
                  · exact s_newa_c hV hM hd hv
                  · exact s_newa_l hV hM hd hv
                  · exact s_newa_d hV hM hd hv
                  · exact s_anew hV hM hd hv
                  · exact s_new hV hM hd hv
                  · exact s_ldc hV hM hd hv
                  · exact s_ldcw hV hM hd hv
                  · exact s_cast hV hM hd hv
                  · exact s_inst hV hM hd hv
                  · exact s_athrow hV hM hd hv
                  · unfold vB10 at hv
                    split at hv
                    · exact s_invS hV hM hd hv
                    · exact s_invI hV hM hd hv
                    · exact s_invV hV hM hd hv
                    · exact s_invF hV hM hd hv
                    · exact hv.elim
theorem vc_ok (X : XT) : ∀ (n : Nat) (M : MI) (pc : Nat) (L : List (Option Value)) (st : List Value) (h : HP) (c : Nat) (Q : RR → HP → Prop), MG M → vc X n M pc L st h c Q → J (mkG X) M pc L st h c Q := by
  intro n
  induction n with
  | zero => intro M pc L st h c Q _ hv; exact hv
  | succ n ih => intro M pc L st h c Q hM hv; exact vcB_ok ih hM hv
