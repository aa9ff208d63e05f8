/-! floating-point quotients of ints are no NaNs -/
def fpF (f : FP.Core.Fmt) : Prop := 0 < f.tails ∧ 2 ^ f.p = 2 * f.tails ∧ 3 ≤ f.exps ∧ f.qmax - f.qmin = (f.exps : Int) - 3
theorem fpF_32 : fpF FP.Core.b32 := by unfold fpF; decide
theorem fpF_64 : fpF FP.Core.b64 := by unfold fpF; decide
/-- what rounding gives -/
def fpW (f : FP.Core.Fmt) (d : FP.Core.Datum) : Prop := (∃ s, d = .inf s) ∨ ∃ s c q, d = .fin s c q ∧ c < 2 ^ f.p ∧ q ≤ f.qmax
theorem fp_ne {f : FP.Core.Fmt} {d : FP.Core.Datum} (h : fpW f d) : d ≠ .nan := by
  rcases h with ⟨s, rfl⟩ | ⟨s, c, q, rfl, -⟩ <;> exact fun r => by cases r
theorem fp_rr {f : FP.Core.Fmt} (hf : fpF f) (s : Bool) (num den : Nat) (e : Int) : fpW f (FP.Core.roundRatio f s num den e) := by
  obtain ⟨f1, f2, f3, f4⟩ := hf
  have bd : ∀ c q, c < 2 ^ f.p → fpW f (FP.Core.bound f s c q) := fun c q hc => by
    unfold FP.Core.bound
    split
    · rename_i g; exact .inr ⟨s, c, q, rfl, hc, g⟩
    · exact .inl ⟨s, rfl⟩
  unfold FP.Core.roundRatio
  split
  · exact .inr ⟨s, 0, _, rfl, by omega, by omega⟩
  · unfold FP.Core.roundAt FP.Core.settle
    split
    · rename_i g; exact bd _ _ g
    · exact bd _ _ (by omega)
theorem fp_asm {f : FP.Core.Fmt} (hf : fpF f) (s : Bool) {e t : Nat} (he : e < f.exps) (ht : t < f.tails) : FP.Core.fieldT f (FP.Core.assemble f s e t) = t ∧ FP.Core.fieldE f (FP.Core.assemble f s e t) = e ∧ FP.Core.assemble f s e t < 2 * f.exps * f.tails := by
  obtain ⟨f1, f2, f3, f4⟩ := hf
  unfold FP.Core.fieldT FP.Core.fieldE FP.Core.assemble
  refine ⟨?_, ?_, ?_⟩
  · rw [Nat.mul_comm, Nat.mul_add_mod]; exact Nat.mod_eq_of_lt ht
  · rw [Nat.mul_comm, Nat.mul_add_div f1, Nat.div_eq_of_lt ht, Nat.add_zero, Nat.mul_comm, Nat.mul_add_mod]; exact Nat.mod_eq_of_lt he
  · have h1 : s.toNat * f.exps + e + 1 ≤ 2 * f.exps := by
      have : s.toNat * f.exps ≤ 1 * f.exps := Nat.mul_le_mul_right _ (by cases s <;> decide)
      omega
    have h2 := Nat.mul_le_mul_right f.tails h1
    rw [Nat.add_mul, Nat.one_mul] at h2
    omega
theorem fp_enc {f : FP.Core.Fmt} (hf : fpF f) {d : FP.Core.Datum} (h : fpW f d) : FP.Core.encode f d < 2 * f.exps * f.tails ∧ fpW f (FP.Core.decode f (FP.Core.encode f d)) ∧ ∀ s c q, d = .fin s c q → ∃ s' q', FP.Core.decode f (FP.Core.encode f d) = .fin s' c q' := by
  obtain ⟨f1, f2, f3, f4⟩ := id hf
  rcases h with ⟨s, rfl⟩ | ⟨s, c, q, rfl, hc, hq⟩
  · obtain ⟨a1, a2, a3⟩ := fp_asm hf s (e := f.exps - 1) (t := 0) (by omega) f1
    refine ⟨a3, ?_, fun s c q e => by cases e⟩
    unfold FP.Core.decode
    rw [show FP.Core.encode f (.inf s) = FP.Core.assemble f s (f.exps - 1) 0 from rfl, if_pos a2, if_pos a1]
    exact .inl ⟨_, rfl⟩
  · by_cases g : c < f.tails
    · obtain ⟨a1, a2, a3⟩ := fp_asm hf s (e := 0) (t := c) (by omega) g
      have e : FP.Core.encode f (.fin s c q) = FP.Core.assemble f s 0 c := if_pos g
      rw [e]
      have de : FP.Core.decode f (FP.Core.assemble f s 0 c) = .fin (FP.Core.fieldS f (FP.Core.assemble f s 0 c)) c f.qmin := by
        unfold FP.Core.decode
        rw [a2, a1, if_neg (by omega), if_pos rfl]
      rw [de]
      refine ⟨a3, .inr ⟨_, _, _, rfl, hc, by omega⟩, fun s' c' q' r => ?_⟩
      cases r
      exact ⟨_, _, rfl⟩
    · obtain ⟨a1, a2, a3⟩ := fp_asm hf s (e := (q - f.qmin).toNat + 1) (t := c - f.tails) (by omega) (by omega)
      have e : FP.Core.encode f (.fin s c q) = FP.Core.assemble f s ((q - f.qmin).toNat + 1) (c - f.tails) := if_neg g
      rw [e]
      have de : FP.Core.decode f (FP.Core.assemble f s ((q - f.qmin).toNat + 1) (c - f.tails)) = .fin (FP.Core.fieldS f (FP.Core.assemble f s ((q - f.qmin).toNat + 1) (c - f.tails))) c (f.qmin + ((((q - f.qmin).toNat + 1 : Nat) : Int) - 1)) := by
        unfold FP.Core.decode
        rw [a2, a1, if_neg (by omega), if_neg (by omega), show f.tails + (c - f.tails) = c by omega]
      rw [de]
      refine ⟨a3, .inr ⟨_, _, _, rfl, hc, by omega⟩, fun s' c' q' r => ?_⟩
      cases r
      exact ⟨_, _, rfl⟩
theorem near_1 {num den : Nat} (h : 0 < den) (h2 : den ≤ num) : 1 ≤ FP.Core.nearest num den := by
  have h3 : 1 ≤ num / den := Nat.div_pos h2 h
  unfold FP.Core.nearest
  split
  · exact h3
  · split
    · omega
    · omega
theorem fp_fin {f : FP.Core.Fmt} (hf : f = FP.Core.b32 ∨ f = FP.Core.b64) (i : Int) (h : i ≠ 0) (hb : i.natAbs ≤ 2 ^ 31) : ∃ s c q, FP.Core.round f (FP.Core.ofInt i) = .fin s c q ∧ c ≠ 0 := by
  have hn : i.natAbs ≠ 0 := by omega
  have h1 : 2 ^ (i.natAbs.log2) ≤ i.natAbs := Nat.log2_self_le hn
  have hL : i.natAbs.log2 ≤ 31 := by
    have := (Nat.log2_lt hn (k := 32)).mpr (by omega)
    omega
  have ld : FP.Core.leading i.natAbs 1 = (i.natAbs.log2 : Int) := by
    unfold FP.Core.leading
    have e0 : Nat.log2 1 = 0 := by decide
    simp only [e0]
    rw [if_pos]
    · omega
    · have e1 : (((i.natAbs.log2 : Nat) : Int) - ((0 : Nat) : Int)).toNat = i.natAbs.log2 := by omega
      have e2 : (-(((i.natAbs.log2 : Nat) : Int) - ((0 : Nat) : Int))).toNat = 0 := by omega
      rw [e1, e2, Nat.pow_zero, Nat.one_mul, Nat.mul_one]
      exact h1
  have qv : ∃ P : Nat, 1 ≤ P ∧ P ≤ 60 ∧ FP.Core.quantum f i.natAbs 1 0 = (i.natAbs.log2 : Int) - P ∧ f.qmax ≥ 40 ∧ f.tails ≠ 0 := by
    rcases hf with rfl | rfl
    · refine ⟨23, by omega, by omega, ?_, by decide, by decide⟩
      unfold FP.Core.quantum
      rw [ld, show FP.Core.b32.qmin = -149 from by decide, show FP.Core.b32.p = 24 from rfl]
      omega
    · refine ⟨52, by omega, by omega, ?_, by decide, by decide⟩
      unfold FP.Core.quantum
      rw [ld, show FP.Core.b64.qmin = -1074 from by decide, show FP.Core.b64.p = 53 from rfl]
      omega
  obtain ⟨P, p1, p2, qe, qm, tl⟩ := qv
  have nz : 1 ≤ FP.Core.nearest (FP.Core.unitsNum i.natAbs 0 ((i.natAbs.log2 : Int) - P)) (FP.Core.unitsDen 1 0 ((i.natAbs.log2 : Int) - P)) := by
    unfold FP.Core.unitsNum FP.Core.unitsDen
    refine near_1 (by rw [Nat.one_mul]; exact Nat.two_pow_pos _) ?_
    rw [Nat.one_mul]
    by_cases g : (i.natAbs.log2 : Int) ≤ P
    · rw [show ((i.natAbs.log2 : Int) - P - 0).toNat = 0 by omega, Nat.pow_zero]
      have := Nat.two_pow_pos (0 - ((i.natAbs.log2 : Int) - P)).toNat
      exact Nat.mul_pos (by omega) this
    · rw [show (0 - ((i.natAbs.log2 : Int) - P)).toNat = 0 by omega, Nat.pow_zero, Nat.mul_one]
      refine Nat.le_trans (Nat.pow_le_pow_right (by omega) ?_) h1
      omega
  show ∃ s c q, FP.Core.roundRatio f (decide (i < 0)) i.natAbs 1 0 = .fin s c q ∧ c ≠ 0
  unfold FP.Core.roundRatio FP.Core.roundAt FP.Core.settle
  rw [if_neg hn, qe]
  split
  · unfold FP.Core.bound
    rw [if_pos (by omega)]
    exact ⟨_, _, _, rfl, by omega⟩
  · unfold FP.Core.bound
    rw [if_pos (by omega)]
    exact ⟨_, _, _, rfl, tl⟩
theorem fp_W {f : FP.Core.Fmt} (hf : f = FP.Core.b32 ∨ f = FP.Core.b64) : fpF f := by
  rcases hf with rfl | rfl
  · exact fpF_32
  · exact fpF_64
theorem fp_quot {f : FP.Core.Fmt} (hf : f = FP.Core.b32 ∨ f = FP.Core.b64) (i j : Int) (h : j ≠ 0) (hb : j.natAbs ≤ 2 ^ 31) : fpW f (FP.Core.quotient f (FP.Core.decode f (FP.Core.fromInt f i)) (FP.Core.decode f (FP.Core.fromInt f j))) := by
  have hF := fp_W hf
  obtain ⟨s, c, q, e, hc⟩ := fp_fin hf j h hb
  have wj : fpW f (FP.Core.round f (FP.Core.ofInt j)) := fp_rr hF _ _ _ _
  have wi : fpW f (FP.Core.round f (FP.Core.ofInt i)) := fp_rr hF _ _ _ _
  obtain ⟨s', q', ej⟩ := (fp_enc hF wj).2.2 s c q e
  have ei := (fp_enc hF wi).2.1
  unfold FP.Core.fromInt
  rw [ej]
  rcases ei with ⟨t, ei⟩ | ⟨t, d, r, ei, -⟩
  · rw [ei]; exact .inl ⟨_, rfl⟩
  · rw [ei]
    show fpW f (if c = 0 then _ else _)
    rw [if_neg hc]
    exact fp_rr hF _ _ _ _
theorem i32_abs (a : Int32) : a.toInt.natAbs ≤ 2 ^ 31 := by
  have h1 := a.toInt_lt
  have h2 := a.le_toInt
  omega
theorem i32_ne {a : Int32} (h : ¬ a = 0) : a.toInt ≠ 0 := fun r => h (Int32.toInt_inj.mp r)
theorem u32_enc {d : FP.Core.Datum} (h : fpW FP.Core.b32 d) : (UInt32.ofNat (FP.Core.encode FP.Core.b32 d)).toNat = FP.Core.encode FP.Core.b32 d := by
  have := (fp_enc fpF_32 h).1
  rw [show 2 * FP.Core.b32.exps * FP.Core.b32.tails = 2 ^ 32 from by decide] at this
  rw [UInt32.toNat_ofNat']; exact Nat.mod_eq_of_lt this
theorem u64_enc {d : FP.Core.Datum} (h : fpW FP.Core.b64 d) : (UInt64.ofNat (FP.Core.encode FP.Core.b64 d)).toNat = FP.Core.encode FP.Core.b64 d := by
  have := (fp_enc fpF_64 h).1
  rw [show 2 * FP.Core.b64.exps * FP.Core.b64.tails = 2 ^ 64 from by decide] at this
  rw [UInt64.toNat_ofNat']; exact Nat.mod_eq_of_lt this
/-- the datum of a float, of a double -/
def dtF (r : UInt32) : FP.Core.Datum := FP.Core.decode FP.Core.b32 r.toNat
def dtD (r : UInt64) : FP.Core.Datum := FP.Core.decode FP.Core.b64 r.toNat
theorem val_f (a b : Int32) (h : ¬ b = 0) : fpW FP.Core.b32 (dtF (FP.fdiv (FP.i2f a) (FP.i2f b))) := by
  have wa : fpW FP.Core.b32 (FP.Core.round FP.Core.b32 (FP.Core.ofInt a.toInt)) := fp_rr fpF_32 _ _ _ _
  have wb : fpW FP.Core.b32 (FP.Core.round FP.Core.b32 (FP.Core.ofInt b.toInt)) := fp_rr fpF_32 _ _ _ _
  have q := fp_quot (.inl rfl : FP.Core.b32 = FP.Core.b32 ∨ FP.Core.b32 = FP.Core.b64) a.toInt b.toInt (i32_ne h) (i32_abs b)
  show fpW FP.Core.b32 (FP.Core.decode FP.Core.b32 (UInt32.ofNat (FP.Core.encode FP.Core.b32 (FP.Core.quotient FP.Core.b32 (FP.Core.decode FP.Core.b32 (UInt32.ofNat (FP.Core.fromInt FP.Core.b32 a.toInt)).toNat) (FP.Core.decode FP.Core.b32 (UInt32.ofNat (FP.Core.fromInt FP.Core.b32 b.toInt)).toNat)))).toNat)
  rw [show (UInt32.ofNat (FP.Core.fromInt FP.Core.b32 a.toInt)).toNat = FP.Core.fromInt FP.Core.b32 a.toInt from u32_enc wa, show (UInt32.ofNat (FP.Core.fromInt FP.Core.b32 b.toInt)).toNat = FP.Core.fromInt FP.Core.b32 b.toInt from u32_enc wb, u32_enc q]
  exact (fp_enc fpF_32 q).2.1
theorem val_d (a b : Int32) (h : ¬ b = 0) : fpW FP.Core.b64 (dtD (FP.ddiv (FP.i2d a) (FP.i2d b))) := by
  have wa : fpW FP.Core.b64 (FP.Core.round FP.Core.b64 (FP.Core.ofInt a.toInt)) := fp_rr fpF_64 _ _ _ _
  have wb : fpW FP.Core.b64 (FP.Core.round FP.Core.b64 (FP.Core.ofInt b.toInt)) := fp_rr fpF_64 _ _ _ _
  have q := fp_quot (.inr rfl : FP.Core.b64 = FP.Core.b32 ∨ FP.Core.b64 = FP.Core.b64) a.toInt b.toInt (i32_ne h) (i32_abs b)
  show fpW FP.Core.b64 (FP.Core.decode FP.Core.b64 (UInt64.ofNat (FP.Core.encode FP.Core.b64 (FP.Core.quotient FP.Core.b64 (FP.Core.decode FP.Core.b64 (UInt64.ofNat (FP.Core.fromInt FP.Core.b64 a.toInt)).toNat) (FP.Core.decode FP.Core.b64 (UInt64.ofNat (FP.Core.fromInt FP.Core.b64 b.toInt)).toNat)))).toNat)
  rw [show (UInt64.ofNat (FP.Core.fromInt FP.Core.b64 a.toInt)).toNat = FP.Core.fromInt FP.Core.b64 a.toInt from u64_enc wa, show (UInt64.ofNat (FP.Core.fromInt FP.Core.b64 b.toInt)).toNat = FP.Core.fromInt FP.Core.b64 b.toInt from u64_enc wb, u64_enc q]
  exact (fp_enc fpF_64 q).2.1
theorem val_f2d {r : UInt32} (h : fpW FP.Core.b32 (dtF r)) : fpW FP.Core.b64 (dtD (FP.f2d r)) := by
  have nn : FP.Core.fIsNaN r = false := decide_eq_false (fp_ne h)
  have wr : fpW FP.Core.b64 (FP.Core.round FP.Core.b64 (dtF r)) := by
    rcases h with ⟨s, e⟩ | ⟨s, c, q, e, -⟩
    · rw [e]; exact .inl ⟨_, rfl⟩
    · rw [e]; exact fp_rr fpF_64 _ _ _ _
  unfold FP.f2d
  rw [nn]
  show fpW FP.Core.b64 (FP.Core.decode FP.Core.b64 (UInt64.ofNat (FP.Core.encode FP.Core.b64 (FP.Core.round FP.Core.b64 (dtF r)))).toNat)
  rw [u64_enc wr]
  exact (fp_enc fpF_64 wr).2.1
theorem cmp_d {r : UInt64} (h : fpW FP.Core.b64 (dtD r)) : FP.dcmp r r = some .eq := by
  show FP.Core.order (dtD r) (dtD r) = some .eq
  rcases h with ⟨s, e⟩ | ⟨s, c, q, e, -⟩
  · rw [e]; show some (compare _ _) = _; rw [Int.compare_eq_eq.mpr rfl]
  · rw [e]; show some (compare _ _) = _; rw [Int.compare_eq_eq.mpr rfl]
theorem n32_of {r : UInt32} (h : fpW FP.Core.b32 (dtF r)) : vf_n32 r := by
  unfold vf_n32
  rw [UInt32.le_iff_toNat_le, UInt32.toNat_and, show (0x7fffffff : UInt32).toNat = 2 ^ 31 - 1 from rfl, show (0x7f800000 : UInt32).toNat = 255 * 2 ^ 23 from rfl, Nat.and_two_pow_sub_one_eq_mod]
  have key : ¬ (r.toNat / 2 ^ 23 % 2 ^ 8 = 255 ∧ r.toNat % 2 ^ 23 ≠ 0) := fun q => fp_ne h (by
    show FP.Core.decode FP.Core.b32 r.toNat = .nan
    unfold FP.Core.decode
    have e1 : FP.Core.fieldE FP.Core.b32 r.toNat = FP.Core.b32.exps - 1 := q.1
    have e2 : ¬ FP.Core.fieldT FP.Core.b32 r.toNat = 0 := q.2
    rw [if_pos e1, if_neg e2])
  omega
theorem n64_of {r : UInt64} (h : fpW FP.Core.b64 (dtD r)) : vf_n64 r := by
  unfold vf_n64
  rw [UInt64.le_iff_toNat_le, UInt64.toNat_and, show (0x7fffffffffffffff : UInt64).toNat = 2 ^ 63 - 1 from rfl, show (0x7ff0000000000000 : UInt64).toNat = 2047 * 2 ^ 52 from rfl, Nat.and_two_pow_sub_one_eq_mod]
  have key : ¬ (r.toNat / 2 ^ 52 % 2 ^ 11 = 2047 ∧ r.toNat % 2 ^ 52 ≠ 0) := fun q => fp_ne h (by
    show FP.Core.decode FP.Core.b64 r.toNat = .nan
    unfold FP.Core.decode
    have e1 : FP.Core.fieldE FP.Core.b64 r.toNat = FP.Core.b64.exps - 1 := q.1
    have e2 : ¬ FP.Core.fieldT FP.Core.b64 r.toNat = 0 := q.2
    rw [if_pos e1, if_neg e2])
  omega
theorem nnF (a b : Int32) (h : ¬ b = 0) : vf_n32 (FP.fdiv (FP.i2f a) (FP.i2f b)) := n32_of (val_f a b h)
theorem nnD (a b : Int32) (h : ¬ b = 0) : vf_n64 (FP.ddiv (FP.i2d a) (FP.i2d b)) := n64_of (val_d a b h)
/-! signs of sixteen bits -/
theorem toI_nI (u : UInt32) : u.toInt32 = nI u.toNat := by
  apply Int32.toBitVec_inj.mp
  show u.toBitVec = BitVec.ofNat 32 u.toBitVec.toNat
  rw [BitVec.ofNat_toNat, BitVec.setWidth_eq]
theorem nI_toU {k : Nat} (h : k < 2 ^ 32) : (nI k).toUInt32.toNat = k := by
  show (BitVec.ofNat 32 k).toNat = k
  rw [BitVec.toNat_ofNat, Nat.mod_eq_of_lt h]
theorem i2c_nI (y : Int32) : ∃ k, k < 65536 ∧ (y.toUInt32 % 65536).toInt32 = nI k := by
  refine ⟨(y.toUInt32 % 65536).toNat, ?_, toI_nI _⟩
  rw [UInt32.toNat_mod]
  exact Nat.mod_lt _ (by decide)
theorem nar_ch {k : Nat} (h : k < 65536) : narrow .char (.int (nI k)) = .int (nI k) := by
  show Value.int (((nI k).toUInt32 % 65536).toInt32) = _
  rw [toI_nI, UInt32.toNat_mod, nI_toU (by omega), show (65536 : UInt32).toNat = 65536 from rfl, Nat.mod_eq_of_lt h]
theorem chs_nar {tx : List Int32} (s : chs tx) {i : Nat} (hi : i < tx.length) : narrow .char (.int (lf tx i)) = .int (lf tx i) := by
  obtain ⟨k, hk, e⟩ := s i hi
  rw [e]
  exact nar_ch hk
