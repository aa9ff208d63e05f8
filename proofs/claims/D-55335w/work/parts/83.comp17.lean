-- HEAP Y
/-! the component: a theatre is made -/
def bT (S : Nat → Int32) (w : Nat) : Nat → Int32 := fun j => if 9 ≤ j ∧ j < 9 + 3 * w then S j else tB0 j
def bE (F : Nat → Int32) (w : Nat) : Nat → Int32 := fun j => if j < 60 * w then F j else if j = 301 ∨ j = 302 then nI w else 0
section CP17
variable {X : XT} {h h' : HP} {c : Nat} {Q : RR → HP → Nat → Prop} {I : IT2} {D : Nat → Nat → Nat} {S F T E T' E' : Nat → Int32} {C : CT2} {a : Nat} {x y : AC}
theorem bT0 : bT S 0 = tB0 := by
  funext j
  unfold bT
  rw [if_neg (by omega)]
theorem bE0 : bE F 0 = eB0 := by
  funext j
  unfold bE eB0
  rw [if_neg (by omega)]
  split
  · rfl
  · rfl
theorem bT_in {w v : Nat} (hv : v < 3) : bT S (w + 1) (9 + 3 * w + v) = S (9 + 3 * w + v) := by unfold bT; rw [if_pos (by omega)]
theorem bE_W {w : Nat} (h5 : w ≤ 5) : bE F w 302 = nI w ∧ bE F w 301 = nI w ∧ bE F w 300 = 0 := by
  unfold bE
  refine ⟨?_, ?_, ?_⟩
  · rw [if_neg (by omega), if_pos (by omega)]
  · rw [if_neg (by omega), if_pos (by omega)]
  · rw [if_neg (by omega), if_neg (by omega)]
theorem tkF_b {w : Nat} : tkF (bE F (w + 1)) w = tkF F w := by
  funext i
  unfold tkF
  split
  · unfold bE; rw [if_pos (by omega)]
  · rfl
theorem bT_o {w j : Nat} (hj : ¬ (9 + 3 * w ≤ j ∧ j < 9 + 3 * w + 3)) : bT S (w + 1) j = bT S w j := by
  unfold bT
  by_cases q : 9 ≤ j ∧ j < 9 + 3 * w
  · rw [if_pos (by omega), if_pos q]
  · rw [if_neg (by omega), if_neg q]
theorem bE_o {w j : Nat} (h5 : w < 5) (hj : j < 300) (hn : ¬ (60 * w ≤ j ∧ j < 60 * w + 60)) : bE F (w + 1) j = bE F w j := by
  unfold bE
  by_cases q : j < 60 * w
  · rw [if_pos (by omega), if_pos q]
  · rw [if_neg (by omega), if_neg q, if_neg (by omega), if_neg (by omega)]
theorem bE_t {w t' : Nat} (h5 : w ≤ 5) : bE F w (310 + t') = 0 := by
  unfold bE
  rw [if_neg (by omega), if_neg (by omega)]
theorem town_more {w a5 a6 : Nat} {Hb : HP} (v : BV X I D (bT S w) (bE F w) h w) (h5 : w < 5) (f5 : I a5 = none ∧ h a5 = none) (f6 : I a6 = none ∧ h a6 = none) (d56 : ¬ a5 = a6)
    (b5 : Hb a5 = some (true, .inl (2, [.int (S (9 + 3 * w)), .int (S (9 + 3 * w + 1)), .int (S (9 + 3 * w + 2)), .ref a6]))) (b6 : Hb a6 = some (true, .inr (.inl (0, 60, tkF F w)))) (bo : ∀ q, ¬ q = a5 → ¬ q = a6 → Hb q = ov I (tC D (bT S w) (bE F w)) h q) (hc : 22 ≤ c)
    (k : ∀ I' D' c', D' 0 0 = D 0 0 → BV X I' D' (bT S (w + 1)) (bE F (w + 1)) h (w + 1) → c - 22 ≤ c' → Q (.inl (some (.int 1))) (ov I' (tC D' (bT S (w + 1)) (bE F (w + 1))) h) c') : CallC X mJ7_add [.ref (D 3 0), .ref a5] Hb c Q := by
  have i3 := v.2.1 3 0 rfl
  have m3 : ∀ q, I q = none → ¬ D 3 0 = q := fun q e r => by rw [← r, i3] at e; cases e
  have n35 := m3 a5 f5.1
  have n36 := m3 a6 f6.1
  have eW := bE_W (F := F) (show w ≤ 5 by omega)
  have eW' := bE_W (F := F) (show w + 1 ≤ 5 by omega)
  have nw : nW (bE F w) = w := v.2.2.2.2.1
  have nw' : nW (bE F (w + 1)) = w + 1 := by unfold nW; rw [eW'.1]; exact nn_nI (by omega)
  have b3 : Hb (D 3 0) = some (alC true (nI w) (D 4 0) w) := by rw [bo _ n35 n36, ov_at i3, tC_3, eW.2.1, nw]
  have fold : ∀ (a4 c' : Nat) (H : HP), ((0 < w ∧ a4 = D 4 0) ∨ (w = 0 ∧ I a4 = none ∧ h a4 = none)) → ¬ a5 = a4 → ¬ a6 = a4 → H a5 = Hb a5 → H a6 = Hb a6 → H (D 3 0) = some (alC true (nI w + 1) a4 (w + 1)) → H a4 = some (oaC true 10 (va_up (rfs w (D 5)) w (some a5))) → (∀ q, ¬ q = a5 → ¬ q = a6 → ¬ q = D 3 0 → ¬ q = a4 → H q = Hb q) → c - 22 ≤ c' → Q (.inl (some (.int 1))) H c' := by
    intro a4 c' H f4 d54 d64 z5 z6 z3 z4 zo hc'
    have fl := fold_town (H := H) (T' := bT S (w + 1)) (E' := bE F (w + 1)) v h5 f5 f6 f4 d56 d54 d64 (fun j hj => bT_o hj) ⟨fun j hj hn => bE_o h5 hj hn, by rw [eW.2.2, eW'.2.2], nw', fun t' => by rw [bE_t (by omega), bE_t (by omega)]⟩
      (by rw [z5, b5, tC_5]; unfold twF; rw [dTw_6, show bT S (w + 1) (9 + 3 * w) = S (9 + 3 * w) from bT_in (v := 0) (by omega), bT_in (v := 1) (by omega), bT_in (v := 2) (by omega)])
      (by rw [z6, b6, tC_6, tkF_b])
      (by rw [z3, tC_3, dTw_4, nw', eW'.2.1, nI_1])
      (by rw [z4, tC_4, nw', up_rfs (g' := dTw D w a5 a6 a4 5) (fun i hi => dTw_o (by omega) (by omega)) dTw_5])
      (fun q q5 q6 q3 q4 => by rw [zo q q5 q6 q3 q4]; exact bo q q5 q6)
    rw [fl.1]
    exact k _ _ _ (dTw_o (by omega) (by omega)) fl.2 hc'
  obtain ⟨-, v1, vb, -, -, e0, f, b, e0h, he0, -, -, -, z4⟩ := v
  by_cases y0 : w = 0
  · have b3' : Hb (D 3 0) = some (alC true (nI w) e0 0) := by rw [b3, z4 y0, y0]
    have be0 : Hb e0 = some (oaC b 0 f) := by rw [bo _ (hle_ne he0 f5.2) (hle_ne he0 f6.2)]; exact vb.b he0 _
    refine A_add0 e0h b3' be0 b5 (Ne.symm n35) hc (fun a4 ha4 => ?_)
    have k5 : ¬ a4 = a5 := fun r => by rw [r, b5] at ha4; cases ha4
    have k6 : ¬ a4 = a6 := fun r => by rw [r, b6] at ha4; cases ha4
    have k3 : ¬ a4 = D 3 0 := fun r => by rw [r, b3] at ha4; cases ha4
    rw [bo _ k5 k6] at ha4
    have h4 := ov_none ha4
    refine fold a4 _ _ (.inr ⟨y0, h4.1, h4.2⟩) (Ne.symm k5) (Ne.symm k6) ?_ ?_ ?_ ?_ (fun q q5 q6 q3 q4 => ?_) (Nat.le_refl _)
    · rw [hs_ne _ _ (Ne.symm n35), hs_ne _ _ (Ne.symm k5)]
    · rw [hs_ne _ _ (Ne.symm n36), hs_ne _ _ (Ne.symm k6)]
    · rw [hs_eq, y0]
    · rw [hs_ne _ _ k3, hs_eq, y0]; rfl
    · rw [hs_ne _ _ q3, hs_ne _ _ q4]
  · have i4 := v1 4 0 ⟨rfl, by omega⟩
    have m4 : ∀ q, I q = none → ¬ D 4 0 = q := fun q e r => by rw [← r, i4] at e; cases e
    have b4 : Hb (D 4 0) = some (oaC true 10 (rfs w (D 5))) := by rw [bo _ (m4 _ f5.1) (m4 _ f6.1), ov_at i4, tC_4, nw]
    have k3 : ¬ D 4 0 = D 3 0 := fun r => by rw [r, b3] at b4; cases b4
    refine A_add b3 b4 b5 (Ne.symm n35) (by omega) (by decide) ?_
    refine fold (D 4 0) _ _ (.inl ⟨by omega, rfl⟩) (Ne.symm (m4 _ f5.1)) (Ne.symm (m4 _ f6.1)) ?_ ?_ ?_ ?_ (fun q q5 q6 q3 q4 => ?_) (by omega)
    · rw [hs_ne _ _ (Ne.symm n35), hs_ne _ _ (Ne.symm (m4 _ f5.1))]
    · rw [hs_ne _ _ (Ne.symm n36), hs_ne _ _ (Ne.symm (m4 _ f6.1))]
    · rw [hs_eq]
    · rw [hs_ne _ _ k3, hs_eq]
    · rw [hs_ne _ _ q3, hs_ne _ _ q4]
end CP17
