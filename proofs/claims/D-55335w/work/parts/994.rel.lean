/-! the law: component and model side by side -/
def cut (f : Nat → Int32) (b : Nat) : Nat → Int32 := fun j => if j < 318 then f (b + j) else 0
/-- the component's state and the model's -/
def REL (T : Nat → Int32) (u : Nat) (K : Nat → Nat → Int32) (sv : Option (Nat → Int32)) (fa re dt : Int32) (tx ln : List Int32) (S : Nat → Int32) (A : Nat → Nat → Int32) : Prop :=
  A 0 = T ∧ S 4 = nI u ∧ (∀ i, i < u → K i = cut (A 3) (318 * (u - 1 - i))) ∧ ((sv = none ∧ S 6 = 0) ∨ (sv = some (cut (A 5) 0) ∧ S 6 = 1)) ∧ S 14 = fa ∧ (fa = -1 ∨ 0 ≤ fa) ∧ S 15 = re ∧ S 16 = dt ∧
  S 10 = nI tx.length ∧ (∀ j, j < tx.length → A 9 j = lf tx j) ∧ S 8 = nI ln.length ∧ (∀ j, j < ln.length → A 7 j = lf ln j) ∧ ln.length ≤ 100 ∧ asT ln
/-- the model's cells -/
def MC (L : Nat → Nat) (S : Nat → Int32) (A : Nat → Nat → Int32) (w : Value) (h : HP) : Prop := ∀ k, mIx.contains k = true → h (L k) = mput L S A w h (L k)
/-- kinds of cells that the component has none of -/
def LK : AC → Bool
  | (true, .inl (ci, _)) => ci == 3
  | (true, .inr (.inl (t, n, _))) => t == 2 || (t == 0 && (n == 318 || n == 2544 || n == 4))
  | (true, .inr (.inr (.inr _))) => true
  | _ => false
section RELS
variable {X : XT} {h h' : HP} {T T' : Nat → Int32} {u x : Nat} {K : Nat → Nat → Int32} {sv : Option (Nat → Int32)} {fa re dt : Int32} {tx ln : List Int32} {S S' : Nat → Int32} {A A' : Nat → Nat → Int32} {L : Nat → Nat} {w w' : Value} {th : Nat} {sq : Option Nat} {re' dt' : Int32}
theorem cut_cpy {f g : Nat → Int32} {b j : Nat} (h : j < 318) : cut (va_cpy f g 0 b 318) b j = f j := by
  unfold cut va_cpy
  rw [if_pos h, if_pos (by omega), Nat.zero_add, Nat.add_sub_cancel_left]
theorem REL_push (r : REL T u K sv fa re dt tx ln S A) (u8 : u ≤ 8) (hZ : ∀ j, 318 ≤ j → T j = 0) (e0 : A' 0 = T') (e4 : S' 4 = nI (kpU u)) (e3 : A' 3 = kpK u (A 3) (va_cpy (A 0) (A 1) 0 0 318)) (e5 : A' 5 = A 5) (e7 : A' 7 = A 7) (e9 : A' 9 = A 9) (s6 : S' 6 = S 6) (s8 : S' 8 = S 8) (s10 : S' 10 = S 10) (s14 : S' 14 = S 14) (s15 : S' 15 = S 15) (s16 : S' 16 = S 16) : REL T' (kpU u) (kCons T K) sv fa re dt tx ln S' A' := by
  obtain ⟨r0, r1, r2, r3, r4, r5, r6, r7, r8, r9, r10, r11, r12, r13⟩ := r
  refine ⟨e0, e4, fun i hi => ?_, by rw [e5, s6]; exact r3, s14.trans r4, r5, s15.trans r6, s16.trans r7, s10.trans r8, fun j hj => by rw [e9]; exact r9 j hj, s8.trans r10, fun j hj => by rw [e7]; exact r11 j hj, r12, r13⟩
  have t1 : ∀ j, j < 318 → va_cpy (A 0) (A 1) 0 0 318 j = T j := fun j hj => by
    unfold va_cpy
    rw [if_pos (by omega), Nat.zero_add, Nat.sub_zero, r0]
  unfold kCons
  rw [e3]
  unfold kpU at hi ⊢
  unfold kpK
  by_cases g : u = 8
  · rw [if_pos g] at hi ⊢
    rw [if_pos g]
    by_cases q : i = 0
    · rw [if_pos q, q]
      funext j
      by_cases hj : j < 318
      · rw [show 318 * (8 - 1 - 0) = 2226 from rfl, cut_cpy hj, t1 j hj]
      · unfold cut
        rw [if_neg hj, hZ j (by omega)]
    · rw [if_neg q, r2 (i - 1) (by omega)]
      funext j
      unfold cut
      by_cases hj : j < 318
      · rw [if_pos hj, if_pos hj]
        unfold va_cpy
        rw [if_neg (by omega), if_pos (by omega)]
        exact congrArg (A 3) (by omega)
      · rw [if_neg hj, if_neg hj]
  · rw [if_neg g] at hi ⊢
    rw [if_neg g]
    by_cases q : i = 0
    · rw [if_pos q, q]
      funext j
      by_cases hj : j < 318
      · rw [show u + 1 - 1 - 0 = u by omega, cut_cpy hj, t1 j hj]
      · unfold cut
        rw [if_neg hj, hZ j (by omega)]
    · rw [if_neg q, r2 (i - 1) (by omega)]
      funext j
      unfold cut
      by_cases hj : j < 318
      · rw [if_pos hj, if_pos hj]
        unfold va_cpy
        rw [if_neg (by
          have : 318 * (u + 1 - 1 - i) + 318 ≤ 318 * u := by
            have : u + 1 - 1 - i + 1 ≤ u := by omega
            omega
          omega)]
        exact congrArg (A 3) (by
          have : u - 1 - (i - 1) = u + 1 - 1 - i := by omega
          rw [this])
      · rw [if_neg hj, if_neg hj]
/-- the same state: only what both show counts -/
theorem REL_same (r : REL T u K sv fa re dt tx ln S A) (e0 : A' 0 = A 0) (e4 : S' 4 = S 4) (e3 : A' 3 = A 3) (e5 : A' 5 = A 5) (e7 : A' 7 = A 7) (e9 : A' 9 = A 9) (s6 : S' 6 = S 6) (s8 : S' 8 = S 8) (s10 : S' 10 = S 10) (s14 : S' 14 = S 14) (s15 : S' 15 = re') (s16 : S' 16 = dt') : REL T u K sv fa re' dt' tx ln S' A' := by
  obtain ⟨r0, r1, r2, r3, r4, r5, r6, r7, r8, r9, r10, r11, r12, r13⟩ := r
  exact ⟨e0.trans r0, e4.trans r1, by rw [e3]; exact r2, by rw [e5, s6]; exact r3, s14.trans r4, r5, s15, s16, s10.trans r8, fun j hj => by rw [e9]; exact r9 j hj, s8.trans r10, fun j hj => by rw [e7]; exact r11 j hj, r12, r13⟩
theorem cpy_cut {f g : Nat → Int32} {b : Nat} (hg : ∀ j, 318 ≤ j → g j = 0) : va_cpy f g b 0 318 = cut f b := by
  funext j
  unfold cut va_cpy
  by_cases hj : j < 318
  · rw [if_pos (by omega), if_pos hj, Nat.sub_zero]
  · rw [if_neg (by omega), if_neg hj, hg j (by omega)]
theorem LK_tC (D : Nat → Nat → Nat) (T E : Nat → Int32) : ∀ k n, LK (tC D T E k n) = false
  | 0, _ => rfl
  | 1, _ => rfl
  | 2, _ => rfl
  | 3, _ => rfl
  | 4, _ => rfl
  | 5, _ => rfl
  | 6, _ => rfl
  | 7, _ => rfl
  | 8, _ => rfl
  | 9, _ => rfl
  | 10, _ => rfl
  | _ + 11, _ => rfl
/-- all cells stay but those of the model's kinds -/
def lkk (h h' : HP) : Prop := ∀ q y, h q = some y → LK y = false → h' q = some y
theorem THE.lk (z : THE X h th T) (f : lkk h h') : THE X h' th T := by
  obtain ⟨D, E, z1, z2, z3⟩ := z
  obtain ⟨y1, y2, y3, e0, g, b, y4, y5, y6⟩ := z2
  refine ⟨D, E, z1, ⟨fun k n q => f _ _ (y1 k n q) (LK_tC D T E k n), fun t s q1 q2 => (y2 t s q1 q2).imp fun b e => f _ _ e ?_, y3, e0, g, b, y4, f _ _ y5 ?_, y6⟩, z3⟩
  · cases b <;> rfl
  · cases b <;> rfl
theorem CV.lk (cv : CV X h x T u K sv fa re dt tx ln) (hl : lkk h h') : CV X h' x T u K sv fa re dt tx ln := by
  obtain ⟨th, dq, de, hd, p, sb, v, N, lb, sq, e1, t1, q1, u8, t2, s1, s2, s3, l1, v1⟩ := cv
  obtain ⟨g, y1, y2, y3⟩ := q1
  refine ⟨th, dq, de, hd, p, sb, v, N, lb, sq, hl _ _ e1 rfl, t1.lk hl, ⟨g, hl _ _ y1 rfl, hl _ _ y2 rfl, y3⟩, u8, fun i hi => (t2 i hi).lk hl, ?_, s2, s3, ?_, ?_⟩
  · rcases s1 with ⟨f, mb, a1, a2, a3⟩ | ⟨f, mb, a1, a2, a3⟩
    · exact .inl ⟨f, mb, hl _ _ a1 rfl, hl _ _ a2 rfl, a3⟩
    · exact .inr ⟨f, mb, hl _ _ a1 rfl, hl _ _ a2 rfl, a3⟩
  · rcases l1 with ⟨hn, vv, hh, z, a1, a2⟩ | ⟨lv, N, ⟨f, mb, a1, a2, a3⟩, m1, m2⟩
    · exact .inl ⟨hn, vv, hh, z, hl _ _ a1 rfl, hl _ _ a2 rfl⟩
    · exact .inr ⟨lv, N, ⟨f, mb, hl _ _ a1 rfl, hl _ _ a2 rfl, a3⟩, m1, m2⟩
  · rcases v1 with v1 | ⟨q, Z, z1, z2, z3⟩
    · exact .inl v1
    · exact .inr ⟨q, Z, z1, z2, z3.lk hl⟩
theorem KS.lk (z : KS X h) (f : lkk h h') : KS X h' := fun i r q => (z i r q).imp fun _ s => ⟨f _ _ s.1 rfl, f _ _ s.2 rfl⟩
theorem KD.lk (k : KD X h) (e : lkk h h') : KD X h' := by
  obtain ⟨⟨a, a1, a2⟩, ⟨b, b1, b2⟩, ⟨d, f, d1, d2, d3⟩, ⟨e0, g, e1, e2⟩⟩ := k
  exact ⟨⟨a, a1, e _ _ a2 rfl⟩, ⟨b, b1, e _ _ b2 rfl⟩, ⟨d, f, d1, e _ _ d2 rfl, fun j hj => (d3 j hj).imp fun q r => ⟨r.1, e _ _ r.2 rfl⟩⟩, ⟨e0, g, e1, e _ _ e2 rfl⟩⟩
/-- the heap without the model's cells -/
def mless (L : Nat → Nat) (h : HP) : HP := fun a => if a = L 20 ∨ a = L 0 ∨ a = L 1 ∨ a = L 2 ∨ a = L 3 ∨ a = L 5 ∨ a = L 7 ∨ a = L 9 ∨ a = L 13 then none else h a
theorem mIx_or {k : Nat} (hk : mIx.contains k = true) : k = 20 ∨ k = 0 ∨ k = 1 ∨ k = 2 ∨ k = 3 ∨ k = 5 ∨ k = 7 ∨ k = 9 ∨ k = 13 := by
  have : k ∈ mIx := by simpa using hk
  simpa [mIx] using this
theorem mless_k {k : Nat} (hk : mIx.contains k = true) : mless L h (L k) = none := by
  unfold mless
  refine if_pos ?_
  rcases mIx_or hk with rfl | rfl | rfl | rfl | rfl | rfl | rfl | rfl | rfl <;> simp
theorem MH_less : MH L (mless L h) := fun k hk => mless_k hk
theorem mless_o {a : Nat} (n : ∀ k, mIx.contains k = true → ¬ a = L k) : mless L h a = h a := by
  unfold mless
  refine if_neg (fun q => ?_)
  rcases q with q | q | q | q | q | q | q | q | q
  · exact n 20 rfl q
  · exact n 0 rfl q
  · exact n 1 rfl q
  · exact n 2 rfl q
  · exact n 3 rfl q
  · exact n 5 rfl q
  · exact n 7 rfl q
  · exact n 9 rfl q
  · exact n 13 rfl q
/-- what stands at a place of the heap with the model's cells -/
theorem mput_cs (S : Nat → Int32) (A : Nat → Nat → Int32) (w : Value) (h : HP) (a : Nat) : (∃ y, (∃ k, mIx.contains k = true ∧ a = L k) ∧ MK y = false ∧ LK y = true ∧ (∀ f, ¬ y = (true, .inr (.inr (.inr f)))) ∧ ∀ h', mput L S A w h' a = some y) ∨ ((∀ k, mIx.contains k = true → ¬ a = L k) ∧ mput L S A w h a = h a) := by
  by_cases e20 : a = L 20
  · exact .inl ⟨(true, .inl (3, mf L S w)), ⟨20, rfl, e20⟩, rfl, rfl, fun f q => (by cases q), fun h' => by unfold mput; rw [if_pos e20]⟩
  by_cases e0 : a = L 0
  · exact .inl ⟨(true, .inr (.inl (0, 318, A 0))), ⟨0, rfl, e0⟩, rfl, rfl, fun f q => (by cases q), fun h' => by unfold mput; rw [if_neg e20, if_pos e0]⟩
  by_cases e1 : a = L 1
  · exact .inl ⟨(true, .inr (.inl (0, 318, A 1))), ⟨1, rfl, e1⟩, rfl, rfl, fun f q => (by cases q), fun h' => by unfold mput; rw [if_neg e20, if_neg e0, if_pos e1]⟩
  by_cases e2 : a = L 2
  · exact .inl ⟨(true, .inr (.inl (0, 318, A 2))), ⟨2, rfl, e2⟩, rfl, rfl, fun f q => (by cases q), fun h' => by unfold mput; rw [if_neg e20, if_neg e0, if_neg e1, if_pos e2]⟩
  by_cases e3 : a = L 3
  · exact .inl ⟨(true, .inr (.inl (0, 2544, A 3))), ⟨3, rfl, e3⟩, rfl, rfl, fun f q => (by cases q), fun h' => by unfold mput; rw [if_neg e20, if_neg e0, if_neg e1, if_neg e2, if_pos e3]⟩
  by_cases e5 : a = L 5
  · exact .inl ⟨(true, .inr (.inl (0, 318, A 5))), ⟨5, rfl, e5⟩, rfl, rfl, fun f q => (by cases q), fun h' => by unfold mput; rw [if_neg e20, if_neg e0, if_neg e1, if_neg e2, if_neg e3, if_pos e5]⟩
  by_cases e7 : a = L 7
  · exact .inl ⟨(true, .inr (.inl (2, 100, A 7))), ⟨7, rfl, e7⟩, rfl, rfl, fun f q => (by cases q), fun h' => by unfold mput; rw [if_neg e20, if_neg e0, if_neg e1, if_neg e2, if_neg e3, if_neg e5, if_pos e7]⟩
  by_cases e9 : a = L 9
  · exact .inl ⟨(true, .inr (.inl (2, 60, A 9))), ⟨9, rfl, e9⟩, rfl, rfl, fun f q => (by cases q), fun h' => by unfold mput; rw [if_neg e20, if_neg e0, if_neg e1, if_neg e2, if_neg e3, if_neg e5, if_neg e7, if_pos e9]⟩
  by_cases e13 : a = L 13
  · exact .inl ⟨(true, .inr (.inl (0, 4, A 13))), ⟨13, rfl, e13⟩, rfl, rfl, fun f q => (by cases q), fun h' => by unfold mput; rw [if_neg e20, if_neg e0, if_neg e1, if_neg e2, if_neg e3, if_neg e5, if_neg e7, if_neg e9, if_pos e13]⟩
  refine .inr ⟨fun k hk q => ?_, ?_⟩
  · rcases mIx_or hk with rfl | rfl | rfl | rfl | rfl | rfl | rfl | rfl | rfl
    · exact e20 q
    · exact e0 q
    · exact e1 q
    · exact e2 q
    · exact e3 q
    · exact e5 q
    · exact e7 q
    · exact e9 q
    · exact e13 q
  · unfold mput
    rw [if_neg e20, if_neg e0, if_neg e1, if_neg e2, if_neg e3, if_neg e5, if_neg e7, if_neg e9, if_neg e13]
theorem mput_less (m : MC L S A w h) : h = mput L S A w (mless L h) := by
  funext a
  rcases mput_cs (L := L) S A w (mless L h) a with ⟨y, ⟨k, hk, rfl⟩, -, -, -, e⟩ | ⟨n, e⟩
  · rw [m k hk, e, e]
  · rw [e, mless_o n]
theorem MC_mput (hL : LD L) : MC L S A w (mput L S A w h) := fun k hk => by
  rcases mput_cs (L := L) S A w h (L k) with ⟨y, -, -, -, -, e⟩ | ⟨n, -⟩
  · rw [e, e]
  · exact absurd rfl (n k hk)
/-- a cell of the model's heap that is no cell of the model -/
theorem mput_out {a : Nat} {y : AC} (e : mput L S A w h a = some y) (hy : LK y = false) : h a = some y := by
  rcases mput_cs (L := L) S A w h a with ⟨z, -, -, l, -, e'⟩ | ⟨n, e'⟩
  · rw [e' h] at e
    cases e
    rw [l] at hy; cases hy
  · rw [← e']; exact e
theorem lkk_mput (hM : MH L h') (hl : hle h h') : lkk (mput L S A w h) (mput L S' A' w' h') := fun q y e hy => mput_b hM (hl _ _ (mput_out e hy)) S' A' w'
/-- all cells stay but the component's own and the two places for answers -/
def FO (h h' : HP) (o d : Nat) : Prop := ∀ q y, ¬ q = o → ¬ q = d → h q = some y → MK y = false → h' q = some y
theorem MC.fo {o d : Nat} {f g : Nat × Nat × (Nat → Value)} (m : MC L S A w h) (e : FO h h' o d) (eo : h o = some (true, .inr (.inr (.inr f)))) (ed : h d = some (true, .inr (.inr (.inr g)))) : MC L S A w h' := fun k hk => by
  rcases mput_cs (L := L) S A w h (L k) with ⟨y, -, m1, -, no, e'⟩ | ⟨n, -⟩
  · have hy := (m k hk).trans (e' h)
    rw [e' h']
    exact e _ _ (fun r => by rw [r, eo] at hy; cases hy; exact no _ rfl) (fun r => by rw [r, ed] at hy; cases hy; exact no _ rfl) hy m1
  · exact absurd rfl (n k hk)
theorem FO_fz {o d : Nat} (f : fz h h') : FO h h' o d := fun q y _ _ e m => f q y e m
theorem FO.t {o d : Nat} {h'' : HP} (a : FO h h' o d) (b : FO h' h'' o d) : FO h h'' o d := fun q y n1 n2 e m => b q y n1 n2 (a q y n1 n2 e m) m
end RELS
