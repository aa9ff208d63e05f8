/-! J: arrays -/
section JA
variable {G : GT} {M : MI} {pc : Nat} {L : List (Option Value)} {st : List Value} {h : HP} {c : Nat} {Q : RR → HP → Prop}
theorem tys_at (G : GT) {t : Nat} (ht : t < 6) : (gTys G)[t]? = some (gA G t, aTy t) := by
  match t, ht with
  | 0, _ => rfl
  | 1, _ => rfl
  | 2, _ => rfl
  | 3, _ => rfl
  | 4, _ => rfl
  | 5, _ => rfl
theorem ar_spec {s : State} {w : Bool} {t n : Nat} {z : Nat → Value} {cell : Cell} (hE : EN G s) (ht : t < 6 ∨ w = false) (hA : AR G s w t n z cell) : s.isArrayOf cell (aTy t) ∧ cell.vm ≠ .unknown ∧ cell.vm.isStatics = false ∧ cell.slots.size = n ∧ ∀ j : Nat, j < n → cell.slots[j]? = some (z j) := by
  unfold AR at hA
  split at hA
  · rename_i hw
    subst hA
    have ht : t < 6 := ht.resolve_right (by rw [hw]; decide)
    exact ⟨(hE.1.2 t _ (tys_at G ht)).1 n z, (fun q => by cases q), rfl, arrV_size _ _ _, fun j hj => arrV_read _ _ hj⟩
  · exact ⟨hA.1, hA.2.1, hA.2.2.1, hA.2.2.2.1, hA.2.2.2.2.1⟩
theorem ar_cls {s : State} {w : Bool} {t n : Nat} {z : Nat → Value} {cell : Cell} (hA : AR G s w t n z cell) : t = 0 ∨ cell.cls = gA G t := by
  unfold AR at hA
  split at hA
  · subst hA; exact Or.inr rfl
  · exact hA.2.2.2.2.2
theorem in_of {n : Nat} {i : Int32} {cell : Cell} (hz : cell.slots.size = n) (hi : vp_in i n) : ¬ (i < 0 ∨ cell.slots.size ≤ i.toNatClampNeg) := by rw [hz]; exact hi
theorem in_lt {n : Nat} {i : Int32} (hi : vp_in i n) : i.toNatClampNeg < n := Nat.not_le.mp fun q => hi (Or.inr q)
theorem J_iaload {a n : Nat} {w : Bool} {f : Nat → Int32} {i : Int32} (d : DC M pc = .ok (.iaload, 1)) (hh : h a = some (w, .inr (.inl (0, n, f)))) (hi : vp_in i n) (kk : J G M (pc + 1) L (.int (f i.toNatClampNeg) :: st) h c Q) : J G M pc L (.int i :: .ref a :: st) h c Q := by
  intro p e R s m args below meth cc H locs cells slots ls C hl a2 a3 a4 a5
  obtain ⟨⟨cell, g1, -, -, g2⟩, -⟩ := a2.1 a _ hh
  obtain ⟨r1, r2, -, r3, r4⟩ := ar_spec C.2.2.2.2.2.2.2.2.2.2.1 (Or.inl (by decide)) g2
  exact W.iald (v := .int (f i.toNatClampNeg)) C.1 C.2.1 g1 r1 r2 (in_of r3 hi) (r4 _ (in_lt hi)) rfl rfl d (kk p e R s m args below meth cc H locs cells slots ls C hl a2 a3 a4 a5)
theorem J_baload {a n : Nat} {w : Bool} {f : Nat → Int32} {i : Int32} (d : DC M pc = .ok (.baload, 1)) (hh : h a = some (w, .inr (.inl (1, n, f)))) (hi : vp_in i n) (kk : J G M (pc + 1) L (.int (f i.toNatClampNeg) :: st) h c Q) : J G M pc L (.int i :: .ref a :: st) h c Q := by
  intro p e R s m args below meth cc H locs cells slots ls C hl a2 a3 a4 a5
  obtain ⟨⟨cell, g1, -, -, g2⟩, -⟩ := a2.1 a _ hh
  obtain ⟨r1, r2, -, r3, r4⟩ := ar_spec C.2.2.2.2.2.2.2.2.2.2.1 (Or.inl (by decide)) g2
  exact W.bald (v := .int (f i.toNatClampNeg)) C.1 C.2.1 g1 r1 r2 (in_of r3 hi) (r4 _ (in_lt hi)) rfl rfl d (kk p e R s m args below meth cc H locs cells slots ls C hl a2 a3 a4 a5)
theorem J_caload {a n : Nat} {w : Bool} {f : Nat → Int32} {i : Int32} (d : DC M pc = .ok (.caload, 1)) (hh : h a = some (w, .inr (.inl (2, n, f)))) (hi : vp_in i n) (kk : J G M (pc + 1) L (.int (f i.toNatClampNeg) :: st) h c Q) : J G M pc L (.int i :: .ref a :: st) h c Q := by
  intro p e R s m args below meth cc H locs cells slots ls C hl a2 a3 a4 a5
  obtain ⟨⟨cell, g1, -, -, g2⟩, -⟩ := a2.1 a _ hh
  obtain ⟨r1, r2, -, r3, r4⟩ := ar_spec C.2.2.2.2.2.2.2.2.2.2.1 (Or.inl (by decide)) g2
  exact W.cald (v := .int (f i.toNatClampNeg)) C.1 C.2.1 g1 r1 r2 (in_of r3 hi) (r4 _ (in_lt hi)) rfl rfl d (kk p e R s m args below meth cc H locs cells slots ls C hl a2 a3 a4 a5)
theorem J_laload {a n : Nat} {w : Bool} {f : Nat → Value} {i : Int32} (d : DC M pc = .ok (.laload, 1)) (hh : h a = some (w, .inr (.inr (.inr (3, n, f))))) (hi : vp_in i n) (kk : J G M (pc + 1) L (f i.toNatClampNeg :: st) h c Q) : J G M pc L (.int i :: .ref a :: st) h c Q := by
  intro p e R s m args below meth cc H locs cells slots ls C hl a2 a3 a4 a5
  obtain ⟨⟨cell, g1, -, g2⟩, -⟩ := a2.1 a _ hh
  obtain ⟨r1, r2, -, r3, r4⟩ := ar_spec C.2.2.2.2.2.2.2.2.2.2.1 (Or.inl (by decide)) g2
  exact W.lald (v := f i.toNatClampNeg) C.1 C.2.1 g1 r1 r2 (in_of r3 hi) (r4 _ (in_lt hi)) rfl rfl d (kk p e R s m args below meth cc H locs cells slots ls C hl a2 a3 a4 a5)
theorem J_daload {a n : Nat} {w : Bool} {f : Nat → Value} {i : Int32} (d : DC M pc = .ok (.daload, 1)) (hh : h a = some (w, .inr (.inr (.inr (4, n, f))))) (hi : vp_in i n) (kk : J G M (pc + 1) L (f i.toNatClampNeg :: st) h c Q) : J G M pc L (.int i :: .ref a :: st) h c Q := by
  intro p e R s m args below meth cc H locs cells slots ls C hl a2 a3 a4 a5
  obtain ⟨⟨cell, g1, -, g2⟩, -⟩ := a2.1 a _ hh
  obtain ⟨r1, r2, -, r3, r4⟩ := ar_spec C.2.2.2.2.2.2.2.2.2.2.1 (Or.inl (by decide)) g2
  exact W.dald (v := f i.toNatClampNeg) C.1 C.2.1 g1 r1 r2 (in_of r3 hi) (r4 _ (in_lt hi)) rfl rfl d (kk p e R s m args below meth cc H locs cells slots ls C hl a2 a3 a4 a5)
theorem J_aaload {a n : Nat} {w : Bool} {f : Nat → Option Nat} {i : Int32} (d : DC M pc = .ok (.aaload, 1)) (hh : h a = some (w, .inr (.inr (.inl (n, f))))) (hi : vp_in i n) (kk : J G M (pc + 1) L (va_rf (f i.toNatClampNeg) :: st) h c Q) : J G M pc L (.int i :: .ref a :: st) h c Q := by
  intro p e R s m args below meth cc H locs cells slots ls C hl a2 a3 a4 a5
  obtain ⟨⟨cell, g1, g2⟩, -⟩ := a2.1 a _ hh
  obtain ⟨r1, r2, -, r3, r4⟩ := ar_spec C.2.2.2.2.2.2.2.2.2.2.1 (Or.inl (by decide)) g2
  exact W.aald (v := va_rf (f i.toNatClampNeg)) (ty := aTy 5) C.1 C.2.1 g1 r1 rfl r2 (in_of r3 hi) (r4 _ (in_lt hi)) rfl rfl d (kk p e R s m args below meth cc H locs cells slots ls C hl a2 a3 a4 a5)
/-- the length of an array cell -/
def alen : AC → Option Nat
  | (_, .inr (.inl (_, n, _))) => some n
  | (_, .inr (.inr (.inl (n, _)))) => some n
  | (_, .inr (.inr (.inr (_, n, _)))) => some n
  | _ => none
theorem J_alen {a n : Nat} {x : AC} (d : DC M pc = .ok (.arraylength, 1)) (hh : h a = some x) (hx : alen x = some n) (kk : J G M (pc + 1) L (.int (nI n) :: st) h c Q) : J G M pc L (.ref a :: st) h c Q := by
  intro p e R s m args below meth cc H locs cells slots ls C hl a2 a3 a4 a5
  have K := kk p e R s m args below meth cc H locs cells slots ls C hl a2 a3 a4 a5
  obtain ⟨⟨cell, g1, g2⟩, -⟩ := a2.1 a _ hh
  have hE : EN G s := C.2.2.2.2.2.2.2.2.2.2.1
  obtain ⟨w, x⟩ := x
  rcases x with x | ⟨t, n', f⟩ | ⟨n', f⟩ | ⟨t, n', f⟩
  · cases hx
  · cases hx
    obtain ⟨g3, -, g4⟩ := g2
    obtain ⟨r1, -, -, r3, -⟩ := ar_spec hE (by omega) g4
    exact W.alen C.1 C.2.1 g1 r1 (by rw [r3]; rfl) rfl rfl d K
  · cases hx
    obtain ⟨r1, -, -, r3, -⟩ := ar_spec hE (Or.inl (by decide)) g2
    exact W.alen C.1 C.2.1 g1 r1 (by rw [r3]; rfl) rfl rfl d K
  · cases hx
    obtain ⟨g3, g4⟩ := g2
    obtain ⟨r1, -, -, r3, -⟩ := ar_spec hE (g3.elim (fun q => Or.inl (by omega)) (fun q => q.elim (fun q => Or.inl (by omega)) (fun q => Or.inr q.2))) g4
    exact W.alen C.1 C.2.1 g1 r1 (by rw [r3]; rfl) rfl rfl d K
theorem locs_add {locs : List Loc} {a j : Nat} (h1 : ∀ q ∈ locs, g0 G ≤ q.base) (ha : g0 G ≤ a) : ∀ q ∈ locs ++ [⟨a, j⟩], g0 G ≤ q.base := fun q hq => (List.mem_append.mp hq).elim (h1 q) (fun e => by rw [List.mem_singleton.mp e]; exact ha)
theorem arrV_put (cI : ClassId) (N k : Nat) (f : Nat → Int32) (x : Int32) : (arrV cI N (fun j => .int (f j))).setSlot k (.int x) = arrV cI N (fun j => .int (upd f k x j)) := by
  rw [arrV_store]
  congr 1
  funext j
  by_cases hj : j = k
  · simp [updV, upd, hj]
  · simp [updV, upd, hj]
theorem fits_nb (x : Int32) : fits .byte (.int (vp_nar .byte x)) = true := by rw [vp_nar_byte]; exact pk_fb x
theorem nar_c (x : Int32) : vp_nar .char x = (x.toUInt32 % 65536).toInt32 := by
  rw [vp_nar_char]
  congr 1
theorem fits_nc (x : Int32) : fits .char (.int (vp_nar .char x)) = true := by
  rw [nar_c]; exact pk_fc x
theorem J_iastore {a n : Nat} {f : Nat → Int32} {i x : Int32} (d : DC M pc = .ok (.iastore, 1)) (hh : h a = some (true, .inr (.inl (0, n, f)))) (hi : vp_in i n) (kk : J G M (pc + 1) L st (hs h a (true, .inr (.inl (0, n, upd f i.toNatClampNeg x)))) c Q) : J G M pc L (.int x :: .int i :: .ref a :: st) h c Q := by
  intro p e R s m args below meth cc H locs cells slots ls C hl a2 a3 a4 a5
  obtain ⟨⟨cell, g1, g2, g3, g4⟩, g5⟩ := a2.1 a _ hh
  have ha : g0 G ≤ a := g5 rfl
  obtain ⟨r1, r2, -, r3, r4⟩ := ar_spec C.2.2.2.2.2.2.2.2.2.2.1 (Or.inl (by decide)) g4
  have e0 : cell = arrV (gA G 0) n (fun j => .int (f j)) := by unfold AR at g4; rw [if_pos rfl] at g4; exact g4
  refine W.iast C.1 C.2.1 g1 r1 r2 (in_of r3 hi) rfl rfl d fun H' e1 e2 e3 => ?_
  refine kk p e R s m args below meth cc H' _ cells slots ls C hl (a2.put ha e1 e2 e3 ⟨g2, fun j hj => ?_, ?_⟩) a3 a4 (locs_add a5 ha)
  · by_cases hj2 : j = i.toNatClampNeg
    · rw [hj2, pk_us]; exact rfl
    · rw [pk_un hj2]; exact g3 j hj
  · unfold AR
    rw [if_pos rfl, e0]
    exact arrV_put _ _ _ _ _
theorem J_bastore {a n : Nat} {f : Nat → Int32} {i x : Int32} (d : DC M pc = .ok (.bastore, 1)) (hh : h a = some (true, .inr (.inl (1, n, f)))) (hi : vp_in i n) (kk : J G M (pc + 1) L st (hs h a (true, .inr (.inl (1, n, upd f i.toNatClampNeg (vp_nar .byte x))))) c Q) : J G M pc L (.int x :: .int i :: .ref a :: st) h c Q := by
  intro p e R s m args below meth cc H locs cells slots ls C hl a2 a3 a4 a5
  obtain ⟨⟨cell, g1, g2, g3, g4⟩, g5⟩ := a2.1 a _ hh
  have ha : g0 G ≤ a := g5 rfl
  obtain ⟨r1, r2, -, r3, r4⟩ := ar_spec C.2.2.2.2.2.2.2.2.2.2.1 (Or.inl (by decide)) g4
  have e0 : cell = arrV (gA G 1) n (fun j => .int (f j)) := by unfold AR at g4; rw [if_pos rfl] at g4; exact g4
  refine W.bast C.1 C.2.1 g1 r1 r2 (in_of r3 hi) rfl rfl d fun H' e1 e2 e3 => ?_
  refine kk p e R s m args below meth cc H' _ cells slots ls C hl (a2.put ha e1 e2 e3 ⟨g2, fun j hj => ?_, ?_⟩) a3 a4 (locs_add a5 ha)
  · by_cases hj2 : j = i.toNatClampNeg
    · rw [hj2, pk_us]; exact fits_nb x
    · rw [pk_un hj2]; exact g3 j hj
  · unfold AR
    rw [if_pos rfl, e0]
    exact arrV_put _ _ _ _ _
theorem J_castore {a n : Nat} {f : Nat → Int32} {i x : Int32} (d : DC M pc = .ok (.castore, 1)) (hh : h a = some (true, .inr (.inl (2, n, f)))) (hi : vp_in i n) (kk : J G M (pc + 1) L st (hs h a (true, .inr (.inl (2, n, upd f i.toNatClampNeg (vp_nar .char x))))) c Q) : J G M pc L (.int x :: .int i :: .ref a :: st) h c Q := by
  intro p e R s m args below meth cc H locs cells slots ls C hl a2 a3 a4 a5
  obtain ⟨⟨cell, g1, g2, g3, g4⟩, g5⟩ := a2.1 a _ hh
  have ha : g0 G ≤ a := g5 rfl
  obtain ⟨r1, r2, -, r3, r4⟩ := ar_spec C.2.2.2.2.2.2.2.2.2.2.1 (Or.inl (by decide)) g4
  have e0 : cell = arrV (gA G 2) n (fun j => .int (f j)) := by unfold AR at g4; rw [if_pos rfl] at g4; exact g4
  refine W.cast C.1 C.2.1 g1 r1 r2 (in_of r3 hi) rfl rfl d fun H' e1 e2 e3 => ?_
  refine kk p e R s m args below meth cc H' _ cells slots ls C hl (a2.put ha e1 e2 e3 ⟨g2, fun j hj => ?_, ?_⟩) a3 a4 (locs_add a5 ha)
  · by_cases hj2 : j = i.toNatClampNeg
    · rw [hj2, pk_us]; exact fits_nc x
    · rw [pk_un hj2]; exact g3 j hj
  · unfold AR
    rw [if_pos rfl, e0]
    exact arrV_put _ _ _ _ _
theorem J_lastore {a n : Nat} {f : Nat → Value} {i : Int32} {x : Int64} (d : DC M pc = .ok (.lastore, 1)) (hh : h a = some (true, .inr (.inr (.inr (3, n, f))))) (hi : vp_in i n) (kk : J G M (pc + 1) L st (hs h a (true, .inr (.inr (.inr (3, n, updV f i.toNatClampNeg (.long x)))))) c Q) : J G M pc L (.long x :: .int i :: .ref a :: st) h c Q := by
  intro p e R s m args below meth cc H locs cells slots ls C hl a2 a3 a4 a5
  obtain ⟨⟨cell, g1, g2, g4⟩, g5⟩ := a2.1 a _ hh
  have ha : g0 G ≤ a := g5 rfl
  obtain ⟨r1, r2, -, r3, r4⟩ := ar_spec C.2.2.2.2.2.2.2.2.2.2.1 (Or.inl (by decide)) g4
  have e0 : cell = arrV (gA G 3) n f := by unfold AR at g4; rw [if_pos rfl] at g4; exact g4
  refine W.last C.1 C.2.1 g1 r1 r2 (in_of r3 hi) rfl rfl d fun H' e1 e2 e3 => ?_
  refine kk p e R s m args below meth cc H' _ cells slots ls C hl (a2.put ha e1 e2 e3 ⟨g2, ?_⟩) a3 a4 (locs_add a5 ha)
  unfold AR
  rw [if_pos rfl, e0]
  exact arrV_store _ _ _ _ _
theorem J_dastore {a n : Nat} {f : Nat → Value} {i : Int32} {x : UInt64} (d : DC M pc = .ok (.dastore, 1)) (hh : h a = some (true, .inr (.inr (.inr (4, n, f))))) (hi : vp_in i n) (kk : J G M (pc + 1) L st (hs h a (true, .inr (.inr (.inr (4, n, updV f i.toNatClampNeg (.double x)))))) c Q) : J G M pc L (.double x :: .int i :: .ref a :: st) h c Q := by
  intro p e R s m args below meth cc H locs cells slots ls C hl a2 a3 a4 a5
  obtain ⟨⟨cell, g1, g2, g4⟩, g5⟩ := a2.1 a _ hh
  have ha : g0 G ≤ a := g5 rfl
  obtain ⟨r1, r2, -, r3, r4⟩ := ar_spec C.2.2.2.2.2.2.2.2.2.2.1 (Or.inl (by decide)) g4
  have e0 : cell = arrV (gA G 4) n f := by unfold AR at g4; rw [if_pos rfl] at g4; exact g4
  refine W.dast C.1 C.2.1 g1 r1 r2 (in_of r3 hi) rfl rfl d fun H' e1 e2 e3 => ?_
  refine kk p e R s m args below meth cc H' _ cells slots ls C hl (a2.put ha e1 e2 e3 ⟨g2, ?_⟩) a3 a4 (locs_add a5 ha)
  unfold AR
  rw [if_pos rfl, e0]
  exact arrV_store _ _ _ _ _
theorem arrV_putq (cI : ClassId) (N k : Nat) (f : Nat → Option Nat) (x : Option Nat) : (arrV cI N (fun j => va_rf (f j))).setSlot k (va_rf x) = arrV cI N (fun j => va_rf (va_up f k x j)) := by
  rw [arrV_store]
  congr 1
  funext j
  by_cases hj : j = k
  · simp [updV, va_up, hj]
  · simp [updV, va_up, hj]
/-- the class of an object, castable to Object -/
theorem J_aastore {a b n ci : Nat} {w : Bool} {fs : List Value} {r : vw_C} {f : Nat → Option Nat} {i : Int32} (d : DC M pc = .ok (.aastore, 1)) (hh : h a = some (true, .inr (.inr (.inl (n, f))))) (hb : h b = some (w, .inl (ci, fs))) (hr : (gC G)[ci]? = some r) (hca : Cond.castable r.1 "java/lang/Object" ∈ gW G) (hi : vp_in i n) (kk : J G M (pc + 1) L st (hs h a (true, .inr (.inr (.inl (n, va_up f i.toNatClampNeg (some b)))))) c Q) : J G M pc L (.ref b :: .int i :: .ref a :: st) h c Q := by
  intro p e R s m args below meth cc H locs cells slots ls C hl a2 a3 a4 a5
  obtain ⟨⟨cell, g1, g4⟩, g5⟩ := a2.1 a _ hh
  obtain ⟨⟨cellV, v1, v2, -, v4, -⟩, -⟩ := a2.1 b _ hb
  have ha : g0 G ≤ a := g5 rfl
  have hE : EN G s := C.2.2.2.2.2.2.2.2.2.2.1
  have e0 : cell = arrV (gA G 5) n (fun j => va_rf (f j)) := by
    have g6 : AR G s true 5 n (fun j => va_rf (f j)) cell := g4
    unfold AR at g6; rw [if_pos rfl] at g6; exact g6
  have hcls := (hE.1.1 ci r hr).2
  obtain ⟨kA, comp, k1, k2, k3, -⟩ := (hE.1.2 5 _ (tys_at G (by decide))).2
  obtain ⟨kE, hkE, -⟩ := Vm.findClass_spec k3
  obtain ⟨c0, t1, f1, f2, f3⟩ := Cond.castable_spec (hE.nw (A := args) hca)
  cases hcls.1.symm.trans f1
  cases k3.symm.trans f2
  obtain ⟨kC, hkC, -⟩ := hcls.2
  subst e0
  refine W.aast C.1 C.2.1 g1 (fun q h => by cases h) (fun h => by cases h) k1 k2 rfl hkE ⟨fun q => hi (Or.inl q), by rw [arrV_size]; exact in_lt hi⟩ v1 (fun q h => by rw [h] at v4; cases v4) (by rw [v2]; exact hkC) (by rw [v2]; exact f3) rfl rfl d fun H1 e1 e2 e3 => ?_
  refine kk p e R s m args below meth cc H1 _ cells slots ls C hl (a2.put ha e1 e2 e3 ?_) a3 a4 (locs_add a5 ha)
  show AR G s true 5 n _ _
  unfold AR
  rw [if_pos rfl]
  exact arrV_putq _ _ _ _ (some b)
theorem J_aastoreN {a n : Nat} {f : Nat → Option Nat} {i : Int32} (d : DC M pc = .ok (.aastore, 1)) (hh : h a = some (true, .inr (.inr (.inl (n, f))))) (hi : vp_in i n) (kk : J G M (pc + 1) L st (hs h a (true, .inr (.inr (.inl (n, va_up f i.toNatClampNeg none))))) c Q) : J G M pc L (.null :: .int i :: .ref a :: st) h c Q := by
  intro p e R s m args below meth cc H locs cells slots ls C hl a2 a3 a4 a5
  obtain ⟨⟨cell, g1, g4⟩, g5⟩ := a2.1 a _ hh
  have ha : g0 G ≤ a := g5 rfl
  have hE : EN G s := C.2.2.2.2.2.2.2.2.2.2.1
  obtain ⟨r1, r2, -, r3, r4⟩ := ar_spec hE (Or.inl (by decide)) g4
  have e0 : cell = arrV (gA G 5) n (fun j => va_rf (f j)) := by
    have g6 : AR G s true 5 n (fun j => va_rf (f j)) cell := g4
    unfold AR at g6; rw [if_pos rfl] at g6; exact g6
  refine va_WaastN C.1 C.2.1 g1 r1 r2 (in_of r3 hi) rfl rfl d fun H1 e1 e2 e3 => ?_
  refine kk p e R s m args below meth cc H1 _ cells slots ls C hl (a2.put ha e1 e2 e3 ?_) a3 a4 (locs_add a5 ha)
  show AR G s true 5 n _ _
  unfold AR
  rw [if_pos rfl, e0]
  exact arrV_putq _ _ _ _ none
/-- new arrays: the credit pays 12 and the length -/
theorem cr_new {c n : Nat} {R : Room} {cells slots : Nat} (hc : 12 + n ≤ c) (a3 : cells + c / 12 ≤ R.cells) (a4 : slots + c ≤ R.slots) : cells + 1 ≤ R.cells ∧ slots + n ≤ R.slots ∧ cells + 1 + (c - (12 + n)) / 12 ≤ R.cells ∧ slots + n + (c - (12 + n)) ≤ R.slots := by
  omega
theorem J_newarr_i {n : Int32} {N : Nat} (d : DC M pc = .ok (.newarray .int, 2)) (hw : Cond.arrayClass .int ∈ lw_all) (hn : ¬ n < 0) (hN : n.toNatClampNeg = N) (hb : N ≤ 10000000) (hc : 12 + N ≤ c) (kk : ∀ a : Nat, h a = none → J G M (pc + 2) L (.ref a :: st) (hs h a (true, .inr (.inl (0, N, fun _ => 0)))) (c - (12 + N)) Q) : J G M pc L (.int n :: st) h c Q := by
  intro p e R s m args below meth cc H locs cells slots ls C hl a2 a3 a4 a5
  obtain ⟨q1, q2, q3, q4⟩ := cr_new hc a3 a4
  have hE : EN G s := C.2.2.2.2.2.2.2.2.2.2.1
  refine va_newaK (atype := .int) C.1 C.2.1 (C.2.2.2.2.2.2.1 _ hw) rfl d rfl hn hN (by show N * componentBytes .int ≤ _; simp only [componentBytes]; omega) q1 q2 rfl fun H1 cA e1 z1 o1 hAr hNm => ?_
  have hcA : cA = gA G 0 := by
    have := (hE.1.2 0 _ (tys_at G (by decide))).2
    exact Option.some.inj (hNm.symm.trans this)
  subst hcA
  refine kk H.size (a2.none (Nat.le_refl _)) p e R s m args below meth cc H1 locs (cells + 1) (slots + N) ls C hl (a2.push e1 o1 (by omega) ⟨by decide, fun j _ => rfl, ?_⟩) q3 q4 a5
  unfold AR
  rw [if_pos rfl]
  rfl
theorem J_newarr_b {n : Int32} {N : Nat} (d : DC M pc = .ok (.newarray .byte, 2)) (hw : Cond.arrayClass .byte ∈ lw_all) (hn : ¬ n < 0) (hN : n.toNatClampNeg = N) (hb : N ≤ 10000000) (hc : 12 + N ≤ c) (kk : ∀ a : Nat, h a = none → J G M (pc + 2) L (.ref a :: st) (hs h a (true, .inr (.inl (1, N, fun _ => 0)))) (c - (12 + N)) Q) : J G M pc L (.int n :: st) h c Q := by
  intro p e R s m args below meth cc H locs cells slots ls C hl a2 a3 a4 a5
  obtain ⟨q1, q2, q3, q4⟩ := cr_new hc a3 a4
  have hE : EN G s := C.2.2.2.2.2.2.2.2.2.2.1
  refine va_newaK (atype := .byte) C.1 C.2.1 (C.2.2.2.2.2.2.1 _ hw) rfl d rfl hn hN (by show N * componentBytes .byte ≤ _; simp only [componentBytes]; omega) q1 q2 rfl fun H1 cA e1 z1 o1 hAr hNm => ?_
  have hcA : cA = gA G 1 := by
    have := (hE.1.2 1 _ (tys_at G (by decide))).2
    exact Option.some.inj (hNm.symm.trans this)
  subst hcA
  refine kk H.size (a2.none (Nat.le_refl _)) p e R s m args below meth cc H1 locs (cells + 1) (slots + N) ls C hl (a2.push e1 o1 (by omega) ⟨by decide, fun j _ => rfl, ?_⟩) q3 q4 a5
  unfold AR
  rw [if_pos rfl]
  rfl
theorem J_newarr_c {n : Int32} {N : Nat} (d : DC M pc = .ok (.newarray .char, 2)) (hw : Cond.arrayClass .char ∈ lw_all) (hn : ¬ n < 0) (hN : n.toNatClampNeg = N) (hb : N ≤ 10000000) (hc : 12 + N ≤ c) (kk : ∀ a : Nat, h a = none → J G M (pc + 2) L (.ref a :: st) (hs h a (true, .inr (.inl (2, N, fun _ => 0)))) (c - (12 + N)) Q) : J G M pc L (.int n :: st) h c Q := by
  intro p e R s m args below meth cc H locs cells slots ls C hl a2 a3 a4 a5
  obtain ⟨q1, q2, q3, q4⟩ := cr_new hc a3 a4
  have hE : EN G s := C.2.2.2.2.2.2.2.2.2.2.1
  refine va_newaK (atype := .char) C.1 C.2.1 (C.2.2.2.2.2.2.1 _ hw) rfl d rfl hn hN (by show N * componentBytes .char ≤ _; simp only [componentBytes]; omega) q1 q2 rfl fun H1 cA e1 z1 o1 hAr hNm => ?_
  have hcA : cA = gA G 2 := by
    have := (hE.1.2 2 _ (tys_at G (by decide))).2
    exact Option.some.inj (hNm.symm.trans this)
  subst hcA
  refine kk H.size (a2.none (Nat.le_refl _)) p e R s m args below meth cc H1 locs (cells + 1) (slots + N) ls C hl (a2.push e1 o1 (by omega) ⟨by decide, fun j _ => rfl, ?_⟩) q3 q4 a5
  unfold AR
  rw [if_pos rfl]
  rfl
theorem J_newarr_l {n : Int32} {N : Nat} (d : DC M pc = .ok (.newarray .long, 2)) (hw : Cond.arrayClass .long ∈ lw_all) (hn : ¬ n < 0) (hN : n.toNatClampNeg = N) (hb : N ≤ 10000000) (hc : 12 + N ≤ c) (kk : ∀ a : Nat, h a = none → J G M (pc + 2) L (.ref a :: st) (hs h a (true, .inr (.inr (.inr (3, N, fun _ => .long 0))))) (c - (12 + N)) Q) : J G M pc L (.int n :: st) h c Q := by
  intro p e R s m args below meth cc H locs cells slots ls C hl a2 a3 a4 a5
  obtain ⟨q1, q2, q3, q4⟩ := cr_new hc a3 a4
  have hE : EN G s := C.2.2.2.2.2.2.2.2.2.2.1
  refine va_newaK (atype := .long) C.1 C.2.1 (C.2.2.2.2.2.2.1 _ hw) rfl d rfl hn hN (by show N * componentBytes .long ≤ _; simp only [componentBytes]; omega) q1 q2 rfl fun H1 cA e1 z1 o1 hAr hNm => ?_
  have hcA : cA = gA G 3 := by
    have := (hE.1.2 3 _ (tys_at G (by decide))).2
    exact Option.some.inj (hNm.symm.trans this)
  subst hcA
  refine kk H.size (a2.none (Nat.le_refl _)) p e R s m args below meth cc H1 locs (cells + 1) (slots + N) ls C hl (a2.push e1 o1 (by omega) ⟨by decide, ?_⟩) q3 q4 a5
  unfold AR
  rw [if_pos rfl]
  rfl
theorem J_newarr_d {n : Int32} {N : Nat} (d : DC M pc = .ok (.newarray .double, 2)) (hw : Cond.arrayClass .double ∈ lw_all) (hn : ¬ n < 0) (hN : n.toNatClampNeg = N) (hb : N ≤ 10000000) (hc : 12 + N ≤ c) (kk : ∀ a : Nat, h a = none → J G M (pc + 2) L (.ref a :: st) (hs h a (true, .inr (.inr (.inr (4, N, fun _ => .double 0))))) (c - (12 + N)) Q) : J G M pc L (.int n :: st) h c Q := by
  intro p e R s m args below meth cc H locs cells slots ls C hl a2 a3 a4 a5
  obtain ⟨q1, q2, q3, q4⟩ := cr_new hc a3 a4
  have hE : EN G s := C.2.2.2.2.2.2.2.2.2.2.1
  refine va_newaK (atype := .double) C.1 C.2.1 (C.2.2.2.2.2.2.1 _ hw) rfl d rfl hn hN (by show N * componentBytes .double ≤ _; simp only [componentBytes]; omega) q1 q2 rfl fun H1 cA e1 z1 o1 hAr hNm => ?_
  have hcA : cA = gA G 4 := by
    have := (hE.1.2 4 _ (tys_at G (by decide))).2
    exact Option.some.inj (hNm.symm.trans this)
  subst hcA
  refine kk H.size (a2.none (Nat.le_refl _)) p e R s m args below meth cc H1 locs (cells + 1) (slots + N) ls C hl (a2.push e1 o1 (by omega) ⟨by decide, ?_⟩) q3 q4 a5
  unfold AR
  rw [if_pos rfl]
  rfl
theorem J_anew {n : Int32} {N idx : Nat} (d : DC M pc = .ok (.anewarray idx, 3)) (hw : Cond.classLink (mY M).cls idx "java/lang/Object" ∈ lw_all) (hn : ¬ n < 0) (hN : n.toNatClampNeg = N) (hb : N ≤ 10000000) (hc : 12 + N ≤ c) (kk : ∀ a : Nat, h a = none → J G M (pc + 3) L (.ref a :: st) (hs h a (true, .inr (.inr (.inl (N, fun _ => none))))) (c - (12 + N)) Q) : J G M pc L (.int n :: st) h c Q := by
  intro p e R s m args below meth cc H locs cells slots ls C hl a2 a3 a4 a5
  obtain ⟨q1, q2, q3, q4⟩ := cr_new hc a3 a4
  have hE : EN G s := C.2.2.2.2.2.2.2.2.2.2.1
  subst hN
  refine W.anew C.1 C.2.1 C.2.2.2.2.2.1 (C.2.2.2.2.2.2.1 _ hw) (va_AO.use hE.2.2.2.2.2.2.1) rfl d rfl hn (by omega) q1 q2 fun cA kA comp f1 f2 f3 f4 => ?_
  generalize hH1 : H.push ({ cls := cA, slots := Array.replicate n.toNatClampNeg .null, vm := .none } : Cell) = H1
  have z1 : H1.size = H.size + 1 := by rw [← hH1, Array.size_push]
  have e1 : H1[H.size]? = some (arrV cA n.toNatClampNeg (fun _ => .null)) := by rw [← hH1, Array.getElem?_push_size, ← arrV_new]
  have o1 : ∀ q : Nat, q < H.size → H1[q]? = H[q]? := fun q hq => by rw [← hH1, Array.getElem?_push, if_neg (Nat.ne_of_lt hq)]
  have hcA : cA = gA G 5 := by
    obtain ⟨_, _, _, _, _, this⟩ := (hE.1.2 5 _ (tys_at G (by decide))).2
    exact Option.some.inj (f1.symm.trans this)
  subst hcA
  refine kk H.size (a2.none (Nat.le_refl _)) p e R s m args below meth cc H1 locs (cells + 1) (slots + n.toNatClampNeg) ls C hl (a2.push e1 o1 (by omega) ?_) q3 q4 a5
  show AR G s true 5 _ _ _
  unfold AR
  rw [if_pos rfl]
  rfl
theorem J_aaload6 {a n : Nat} {f : Nat → Value} {i : Int32} (d : DC M pc = .ok (.aaload, 1)) (hh : h a = some (false, .inr (.inr (.inr (6, n, f))))) (hi : vp_in i n) (kk : J G M (pc + 1) L (f i.toNatClampNeg :: st) h c Q) : J G M pc L (.int i :: .ref a :: st) h c Q := by
  intro p e R s m args below meth cc H locs cells slots ls C hl a2 a3 a4 a5
  obtain ⟨⟨cell, g1, -, g2⟩, -⟩ := a2.1 a _ hh
  obtain ⟨r1, r2, -, r3, r4⟩ := ar_spec C.2.2.2.2.2.2.2.2.2.2.1 (Or.inr rfl) g2
  exact W.aald (v := f i.toNatClampNeg) (ty := aTy 6) C.1 C.2.1 g1 r1 rfl r2 (in_of r3 hi) (r4 _ (in_lt hi)) rfl rfl d (kk p e R s m args below meth cc H locs cells slots ls C hl a2 a3 a4 a5)
end JA
