theorem xnar_char (x : Int32) : narrow .char (.int x) = .int (nI (x.toBitVec.toNat % 65536)) := by
  rw [← pk_char]
  rfl
section XA
variable {sc : xSc} {M : xM} {d : Nat} {Q : xR → xH → Prop} {h : xH} {pc : Nat} {L : List (Option xV)} {st : List xV}
theorem vp_lt {i : Int32} {n : Nat} (h : vp_in i n) : i.toNatClampNeg < n := Nat.not_le.mp fun q => h (Or.inr q)
theorem x_iald {a n : Nat} {f : Nat → Int32} {i : Int32} (hd : decode M.2.1 pc = .ok (.iaload, 1)) (ha : xat sc h a = some (.inr (.int, (n, .inl f)))) (hin : vp_in i n) (kk : xW sc M d Q h (pc + 1) L (vI (f i.toNatClampNeg) :: st)) : xW sc M d Q h pc L (vI i :: vA a :: st) := by
  intro G p l e R s m args below meth cd H locs cells slots ls n0 s0 g1 g2 g3 g4 g5 g6 g7 g8 g9
  obtain ⟨cell, e1, e2, e3, e4, e5, -⟩ : xarr G H a .int (n, .inl f) := x_look g1 g3 ha
  exact W.iald g2.1 g2.2.1 e1 (State.isArrayOf_alike g2.2.2.2.2.2.2.2.2.1.1 e2) e3 (fun z => hin (z.imp id (Nat.le_trans e4.1))) (e5 _ (vp_lt hin)) rfl rfl hd (kk G p l e R s m args below meth cd H locs cells slots ls n0 s0 g1 g2 g3 g4 g5 g6 g7 g8 g9)
theorem x_bald {a n : Nat} {f : Nat → Int32} {i : Int32} (hd : decode M.2.1 pc = .ok (.baload, 1)) (ha : xat sc h a = some (.inr (.byte, (n, .inl f)))) (hin : vp_in i n) (kk : xW sc M d Q h (pc + 1) L (vI (f i.toNatClampNeg) :: st)) : xW sc M d Q h pc L (vI i :: vA a :: st) := by
  intro G p l e R s m args below meth cd H locs cells slots ls n0 s0 g1 g2 g3 g4 g5 g6 g7 g8 g9
  obtain ⟨cell, e1, e2, e3, e4, e5, -⟩ : xarr G H a .byte (n, .inl f) := x_look g1 g3 ha
  exact W.bald g2.1 g2.2.1 e1 (State.isArrayOf_alike g2.2.2.2.2.2.2.2.2.1.1 e2) e3 (fun z => hin (z.imp id (Nat.le_trans e4.1))) (e5 _ (vp_lt hin)) rfl rfl hd (kk G p l e R s m args below meth cd H locs cells slots ls n0 s0 g1 g2 g3 g4 g5 g6 g7 g8 g9)
theorem x_cald {a n : Nat} {f : Nat → Int32} {i : Int32} (hd : decode M.2.1 pc = .ok (.caload, 1)) (ha : xat sc h a = some (.inr (.char, (n, .inl f)))) (hin : vp_in i n) (kk : xW sc M d Q h (pc + 1) L (vI (f i.toNatClampNeg) :: st)) : xW sc M d Q h pc L (vI i :: vA a :: st) := by
  intro G p l e R s m args below meth cd H locs cells slots ls n0 s0 g1 g2 g3 g4 g5 g6 g7 g8 g9
  obtain ⟨cell, e1, e2, e3, e4, e5, -⟩ : xarr G H a .char (n, .inl f) := x_look g1 g3 ha
  exact W.cald g2.1 g2.2.1 e1 (State.isArrayOf_alike g2.2.2.2.2.2.2.2.2.1.1 e2) e3 (fun z => hin (z.imp id (Nat.le_trans e4.1))) (e5 _ (vp_lt hin)) rfl rfl hd (kk G p l e R s m args below meth cd H locs cells slots ls n0 s0 g1 g2 g3 g4 g5 g6 g7 g8 g9)
theorem x_lald {a n : Nat} {f : Nat → Int64} {i : Int32} (hd : decode M.2.1 pc = .ok (.laload, 1)) (ha : xat sc h a = some (.inr (.long, (n, .inr (.inl f))))) (hin : vp_in i n) (kk : xW sc M d Q h (pc + 1) L (vL (f i.toNatClampNeg) :: st)) : xW sc M d Q h pc L (vI i :: vA a :: st) := by
  intro G p l e R s m args below meth cd H locs cells slots ls n0 s0 g1 g2 g3 g4 g5 g6 g7 g8 g9
  obtain ⟨cell, e1, e2, e3, e4, e5, -⟩ : xarr G H a .long (n, .inr (.inl f)) := x_look g1 g3 ha
  exact W.lald g2.1 g2.2.1 e1 (State.isArrayOf_alike g2.2.2.2.2.2.2.2.2.1.1 e2) e3 (fun z => hin (z.imp id (Nat.le_trans e4.1))) (e5 _ (vp_lt hin)) rfl rfl hd (kk G p l e R s m args below meth cd H locs cells slots ls n0 s0 g1 g2 g3 g4 g5 g6 g7 g8 g9)
theorem x_dald {a n : Nat} {f : Nat → UInt64} {i : Int32} (hd : decode M.2.1 pc = .ok (.daload, 1)) (ha : xat sc h a = some (.inr (.double, (n, .inr (.inr (.inr (.inl f))))))) (hin : vp_in i n) (kk : xW sc M d Q h (pc + 1) L (vD (f i.toNatClampNeg) :: st)) : xW sc M d Q h pc L (vI i :: vA a :: st) := by
  intro G p l e R s m args below meth cd H locs cells slots ls n0 s0 g1 g2 g3 g4 g5 g6 g7 g8 g9
  obtain ⟨cell, e1, e2, e3, e4, e5, -⟩ : xarr G H a .double (n, .inr (.inr (.inr (.inl f)))) := x_look g1 g3 ha
  exact W.dald g2.1 g2.2.1 e1 (State.isArrayOf_alike g2.2.2.2.2.2.2.2.2.1.1 e2) e3 (fun z => hin (z.imp id (Nat.le_trans e4.1))) (e5 _ (vp_lt hin)) rfl rfl hd (kk G p l e R s m args below meth cd H locs cells slots ls n0 s0 g1 g2 g3 g4 g5 g6 g7 g8 g9)
theorem x_aald {a n : Nat} {ty : FieldType} {f : Nat → Option Nat} {i : Int32} (hd : decode M.2.1 pc = .ok (.aaload, 1)) (ha : xat sc h a = some (.inr (ty, (n, .inr (.inr (.inr (.inr f))))))) (hty : ty.isReference = true) (hin : vp_in i n) (kk : xW sc M d Q h (pc + 1) L (vR (f i.toNatClampNeg) :: st)) : xW sc M d Q h pc L (vI i :: vA a :: st) := by
  intro G p l e R s m args below meth cd H locs cells slots ls n0 s0 g1 g2 g3 g4 g5 g6 g7 g8 g9
  obtain ⟨cell, e1, e2, e3, e4, e5, -⟩ : xarr G H a ty (n, .inr (.inr (.inr (.inr f)))) := x_look g1 g3 ha
  exact W.aald g2.1 g2.2.1 e1 (State.isArrayOf_alike g2.2.2.2.2.2.2.2.2.1.1 e2) hty e3 (fun z => hin (z.imp id (Nat.le_trans e4.1))) (e5 _ (vp_lt hin)) rfl rfl hd (kk G p l e R s m args below meth cd H locs cells slots ls n0 s0 g1 g2 g3 g4 g5 g6 g7 g8 g9)
theorem x_alen {a : Nat} {ty : FieldType} {A : vp_A} (hd : decode M.2.1 pc = .ok (.arraylength, 1)) (ha : xat sc h a = some (.inr (ty, A))) (kk : xW sc M d Q h (pc + 1) L (vI (nI A.1) :: st)) : xW sc M d Q h pc L (vA a :: st) := by
  intro G p l e R s m args below meth cd H locs cells slots ls n0 s0 g1 g2 g3 g4 g5 g6 g7 g8 g9
  obtain ⟨cell, e1, e2, e3, e4, e5, -⟩ : xarr G H a ty A := x_look g1 g3 ha
  exact W.alen (n := nI A.1) g2.1 g2.2.1 e1 (State.isArrayOf_alike g2.2.2.2.2.2.2.2.2.1.1 e2) (by first | exact e4.2.1 | exact e4.2.1.symm) rfl rfl hd (kk G p l e R s m args below meth cd H locs cells slots ls n0 s0 g1 g2 g3 g4 g5 g6 g7 g8 g9)
theorem xarr_put {G : xG} {H1 : Heap} {a j : Nat} {ty : FieldType} {A A2 : vp_A} {w : xV} {cell : Cell} (e2 : G.s.isArrayOf cell ty) (e3 : cell.vm ≠ .unknown) (e4 : cell.slots.size = A.1) (e5 : ∀ j, j < A.1 → cell.slots[j]? = some (xv G (xel A j)))
    (e6 : xK ≤ a → ty.isReference = true → ∃ (k : Class) (comp : ClassId), G.s.vm.classes[cell.cls]? = some k ∧ k.kind = .array comp ty ∧ G.s.vm.findClass (xcn ty) = some comp)
    (hj : j < A.1) (hA : A2.1 = A.1) (hE : ∀ k, xel A2 k = if k = j then w else xel A k) (hc : H1[xr G a]? = some (cell.setSlot j (xv G w))) : xarr G H1 a ty A2 := by
  refine ⟨_, hc, e2, e3, ?_, fun k hk => ?_, e6⟩
  · refine xsz_of ?_
    rw [hA, ← e4]
    simp [Cell.setSlot]
  · rw [hE]
    by_cases e : k = j
    · subst e
      rw [if_pos rfl]
      have : k < cell.slots.size := by rw [e4]; exact hj
      simp [Cell.setSlot, this]
    · rw [if_neg e, slot_ne _ _ (fun z => e z.symm)]
      exact e5 k (by rw [← hA]; exact hk)
theorem x_locs {G : xG} {locs : List Loc} {a i : Nat} (g9 : ∀ q ∈ locs, G.s.heap.size ≤ q.base) (hK : xK ≤ a) : ∀ q ∈ locs ++ [⟨xr G a, i⟩], G.s.heap.size ≤ q.base := by
  intro z hz
  rcases List.mem_append.mp hz with hz | hz
  · exact g9 z hz
  · rw [List.mem_singleton.mp hz]
    show _ ≤ xr G a
    rw [xr_hi hK]
    omega
theorem x_iast {a n : Nat} {f : Nat → Int32} {i : Int32} {x : Int32} (hd : decode M.2.1 pc = .ok (.iastore, 1)) (hK : xK ≤ a) (ha : h.1 a = some (.inr (.int, (n, .inl f)))) (hin : vp_in i n) (kk : xW sc M d Q (xup h a (.inr (.int, (n, .inl (va_up f i.toNatClampNeg (x)))))) (pc + 1) L st) : xW sc M d Q h pc L (vI x :: vI i :: vA a :: st) := by
  intro G p l e R s m args below meth cd H locs cells slots ls n0 s0 g1 g2 g3 g4 g5 g6 g7 g8 g9
  obtain ⟨cell, e1, e2, e3, e4, e5, e6⟩ : xarr G H a .int (n, .inl f) := (g3.2.2.1 a _ hK ha).2
  replace e4 := e4.2.2 hK
  refine W.iast g2.1 g2.2.1 e1 (State.isArrayOf_alike g2.2.2.2.2.2.2.2.2.1.1 e2) e3 (by rw [e4]; exact hin) rfl rfl hd fun H1 w1 w2 w3 => ?_
  refine kk G p l e R s m args below meth cd H1 _ cells slots ls n0 s0 g1 g2 (x_rr_up g3 hK ha w2 w3 (xarr_put (A2 := (n, .inl (va_up f i.toNatClampNeg (x)))) (w := vI x) e2 e3 e4 e5 e6 (vp_lt hin) rfl (fun k => ?_) w1)) g4 g5 g6 g7 g8 (x_locs g9 hK)
  show vI (va_up f i.toNatClampNeg _ k) = if k = i.toNatClampNeg then _ else vI (f k)
  unfold va_up
  split <;> rfl
theorem x_bast {a n : Nat} {f : Nat → Int32} {i : Int32} {x : Int32} (hd : decode M.2.1 pc = .ok (.bastore, 1)) (hK : xK ≤ a) (ha : h.1 a = some (.inr (.byte, (n, .inl f)))) (hin : vp_in i n) (kk : xW sc M d Q (xup h a (.inr (.byte, (n, .inl (va_up f i.toNatClampNeg (x.toInt8.toInt32)))))) (pc + 1) L st) : xW sc M d Q h pc L (vI x :: vI i :: vA a :: st) := by
  intro G p l e R s m args below meth cd H locs cells slots ls n0 s0 g1 g2 g3 g4 g5 g6 g7 g8 g9
  obtain ⟨cell, e1, e2, e3, e4, e5, e6⟩ : xarr G H a .byte (n, .inl f) := (g3.2.2.1 a _ hK ha).2
  replace e4 := e4.2.2 hK
  refine W.bast g2.1 g2.2.1 e1 (State.isArrayOf_alike g2.2.2.2.2.2.2.2.2.1.1 e2) e3 (by rw [e4]; exact hin) rfl rfl hd fun H1 w1 w2 w3 => ?_
  rw [narrow_byte] at w1
  refine kk G p l e R s m args below meth cd H1 _ cells slots ls n0 s0 g1 g2 (x_rr_up g3 hK ha w2 w3 (xarr_put (A2 := (n, .inl (va_up f i.toNatClampNeg (x.toInt8.toInt32)))) (w := vI x.toInt8.toInt32) e2 e3 e4 e5 e6 (vp_lt hin) rfl (fun k => ?_) w1)) g4 g5 g6 g7 g8 (x_locs g9 hK)
  show vI (va_up f i.toNatClampNeg _ k) = if k = i.toNatClampNeg then _ else vI (f k)
  unfold va_up
  split <;> rfl
theorem x_cast {a n : Nat} {f : Nat → Int32} {i : Int32} {x : Int32} (hd : decode M.2.1 pc = .ok (.castore, 1)) (hK : xK ≤ a) (ha : h.1 a = some (.inr (.char, (n, .inl f)))) (hin : vp_in i n) (kk : xW sc M d Q (xup h a (.inr (.char, (n, .inl (va_up f i.toNatClampNeg ((x.toUInt32 % 65536).toInt32)))))) (pc + 1) L st) : xW sc M d Q h pc L (vI x :: vI i :: vA a :: st) := by
  intro G p l e R s m args below meth cd H locs cells slots ls n0 s0 g1 g2 g3 g4 g5 g6 g7 g8 g9
  obtain ⟨cell, e1, e2, e3, e4, e5, e6⟩ : xarr G H a .char (n, .inl f) := (g3.2.2.1 a _ hK ha).2
  replace e4 := e4.2.2 hK
  refine W.cast g2.1 g2.2.1 e1 (State.isArrayOf_alike g2.2.2.2.2.2.2.2.2.1.1 e2) e3 (by rw [e4]; exact hin) rfl rfl hd fun H1 w1 w2 w3 => ?_
  rw [show narrow .char (.int x) = .int (x.toUInt32 % 65536).toInt32 from by rw [pk_char]; exact xnar_char x] at w1
  refine kk G p l e R s m args below meth cd H1 _ cells slots ls n0 s0 g1 g2 (x_rr_up g3 hK ha w2 w3 (xarr_put (A2 := (n, .inl (va_up f i.toNatClampNeg ((x.toUInt32 % 65536).toInt32)))) (w := vI (x.toUInt32 % 65536).toInt32) e2 e3 e4 e5 e6 (vp_lt hin) rfl (fun k => ?_) w1)) g4 g5 g6 g7 g8 (x_locs g9 hK)
  show vI (va_up f i.toNatClampNeg _ k) = if k = i.toNatClampNeg then _ else vI (f k)
  unfold va_up
  split <;> rfl
theorem x_last {a n : Nat} {f : Nat → Int64} {i : Int32} {x : Int64} (hd : decode M.2.1 pc = .ok (.lastore, 1)) (hK : xK ≤ a) (ha : h.1 a = some (.inr (.long, (n, .inr (.inl f))))) (hin : vp_in i n) (kk : xW sc M d Q (xup h a (.inr (.long, (n, .inr (.inl (va_up f i.toNatClampNeg (x))))))) (pc + 1) L st) : xW sc M d Q h pc L (vL x :: vI i :: vA a :: st) := by
  intro G p l e R s m args below meth cd H locs cells slots ls n0 s0 g1 g2 g3 g4 g5 g6 g7 g8 g9
  obtain ⟨cell, e1, e2, e3, e4, e5, e6⟩ : xarr G H a .long (n, .inr (.inl f)) := (g3.2.2.1 a _ hK ha).2
  replace e4 := e4.2.2 hK
  refine W.last g2.1 g2.2.1 e1 (State.isArrayOf_alike g2.2.2.2.2.2.2.2.2.1.1 e2) e3 (by rw [e4]; exact hin) rfl rfl hd fun H1 w1 w2 w3 => ?_
  refine kk G p l e R s m args below meth cd H1 _ cells slots ls n0 s0 g1 g2 (x_rr_up g3 hK ha w2 w3 (xarr_put (A2 := (n, .inr (.inl (va_up f i.toNatClampNeg (x))))) (w := vL x) e2 e3 e4 e5 e6 (vp_lt hin) rfl (fun k => ?_) w1)) g4 g5 g6 g7 g8 (x_locs g9 hK)
  show vL (va_up f i.toNatClampNeg _ k) = if k = i.toNatClampNeg then _ else vL (f k)
  unfold va_up
  split <;> rfl
theorem x_dast {a n : Nat} {f : Nat → UInt64} {i : Int32} {x : UInt64} (hd : decode M.2.1 pc = .ok (.dastore, 1)) (hK : xK ≤ a) (ha : h.1 a = some (.inr (.double, (n, .inr (.inr (.inr (.inl f))))))) (hin : vp_in i n) (kk : xW sc M d Q (xup h a (.inr (.double, (n, .inr (.inr (.inr (.inl (va_up f i.toNatClampNeg (x))))))))) (pc + 1) L st) : xW sc M d Q h pc L (vD x :: vI i :: vA a :: st) := by
  intro G p l e R s m args below meth cd H locs cells slots ls n0 s0 g1 g2 g3 g4 g5 g6 g7 g8 g9
  obtain ⟨cell, e1, e2, e3, e4, e5, e6⟩ : xarr G H a .double (n, .inr (.inr (.inr (.inl f)))) := (g3.2.2.1 a _ hK ha).2
  replace e4 := e4.2.2 hK
  refine W.dast g2.1 g2.2.1 e1 (State.isArrayOf_alike g2.2.2.2.2.2.2.2.2.1.1 e2) e3 (by rw [e4]; exact hin) rfl rfl hd fun H1 w1 w2 w3 => ?_
  refine kk G p l e R s m args below meth cd H1 _ cells slots ls n0 s0 g1 g2 (x_rr_up g3 hK ha w2 w3 (xarr_put (A2 := (n, .inr (.inr (.inr (.inl (va_up f i.toNatClampNeg (x))))))) (w := vD x) e2 e3 e4 e5 e6 (vp_lt hin) rfl (fun k => ?_) w1)) g4 g5 g6 g7 g8 (x_locs g9 hK)
  show vD (va_up f i.toNatClampNeg _ k) = if k = i.toNatClampNeg then _ else vD (f k)
  unfold va_up
  split <;> rfl
/-- class c's objects may stand in an array of C's -/
def xCa (c : Nat) (C : String) : Prop := ∃ q : vw_C, xCl[c]? = some q ∧ ((q.1 = C ∧ c ≠ 19 ∧ c ≠ 20) ∨ Cond.castable q.1 C ∈ lw_tbl)
theorem x_aast {a n v c : Nat} {C : String} {f : Nat → Option Nat} {fs : List xV} {i : Int32} (hd : decode M.2.1 pc = .ok (.aastore, 1)) (hK : xK ≤ a) (ha : h.1 a = some (.inr (.object C, (n, .inr (.inr (.inr (.inr f))))))) (hin : vp_in i n) (hv : xat sc h v = some (.inl (c, fs))) (hC : xCa c C)
    (kk : xW sc M d Q (xup h a (.inr (.object C, (n, .inr (.inr (.inr (.inr (va_up f i.toNatClampNeg (some v))))))))) (pc + 1) L st) : xW sc M d Q h pc L (vA v :: vI i :: vA a :: st) := by
  intro G p l e R s m args below meth cd H locs cells slots ls n0 s0 g1 g2 g3 g4 g5 g6 g7 g8 g9
  obtain ⟨cell, e1, e2, e3, e4, e5, e6⟩ : xarr G H a (.object C) (n, .inr (.inr (.inr (.inr f)))) := (g3.2.2.1 a _ hK ha).2
  replace e4 := e4.2.2 hK
  obtain ⟨kA, comp, k1, k2, k3⟩ := e6 hK rfl
  obtain ⟨q, hq, hC⟩ := hC
  obtain ⟨cv, q2, f1, f2, f3, f4, f5, f6, f7, f8⟩ : xobj G H v c fs := x_look g1 g3 hv
  cases hq.symm.trans f1
  have hal := g2.2.2.2.2.2.2.2.2.1.1
  have hca := xCA_moved hal (g1.1 c q hq).1
  obtain ⟨kA', hkA', heA⟩ := hal.2.2 _ _ k1
  have hkind : kA'.kind = .array comp (.object C) := by rw [heA]; exact k2
  have hcomp : s.vm.findClass C = some comp := by rw [hal.findClass]; exact k3
  obtain ⟨kcomp, hkcomp⟩ := Vm.classAt_of_findClass hcomp
  obtain ⟨kv, hkv, -⟩ := hca.2
  have hinst : s.vm.assignable cv.cls comp = true := by
    rw [f3]
    rcases hC with ⟨e, o1⟩ | e
    · have : G.dC c = comp := Option.some.inj (hca.1.symm.trans (e ▸ hcomp))
      rw [← this]
      obtain ⟨z1, z2, z3, z4⟩ := hca
      exact va_assign ⟨z1, z2, z3, z4 o1⟩
    · obtain ⟨c0, t0, w1, w2, w3⟩ := Cond.castable_spec (g2.2.2.2.2.2.2.2.2.1.2.2 _ e (by rfl) args)
      cases hca.1.symm.trans w1
      cases hcomp.symm.trans w2
      exact w3
  refine W.aast g2.1 g2.2.1 e1 e2.1 e3 hkA' hkind rfl hkcomp ⟨fun z => hin (Or.inl z), by rw [e4]; exact vp_lt hin⟩ f2 (fun z hz => by rw [hz] at f6; cases f6) (by rw [f3]; exact hkv) hinst rfl rfl hd fun H1 w1 w2 w3 => ?_
  refine kk G p l e R s m args below meth cd H1 _ cells slots ls n0 s0 g1 g2 (x_rr_up g3 hK ha w2 w3 (xarr_put (A2 := (n, .inr (.inr (.inr (.inr (va_up f i.toNatClampNeg (some v))))))) (w := vA v) e2 e3 e4 e5 e6 (vp_lt hin) rfl (fun k => ?_) w1)) g4 g5 g6 g7 g8 (x_locs g9 hK)
  show vR (va_up f i.toNatClampNeg _ k) = if k = i.toNatClampNeg then _ else vR (f k)
  unfold va_up
  split <;> rfl
theorem x_aastN {a n : Nat} {C : String} {f : Nat → Option Nat} {i : Int32} (hd : decode M.2.1 pc = .ok (.aastore, 1)) (hK : xK ≤ a) (ha : h.1 a = some (.inr (.object C, (n, .inr (.inr (.inr (.inr f))))))) (hin : vp_in i n)
    (kk : xW sc M d Q (xup h a (.inr (.object C, (n, .inr (.inr (.inr (.inr (va_up f i.toNatClampNeg none)))))))) (pc + 1) L st) : xW sc M d Q h pc L (vN :: vI i :: vA a :: st) := by
  intro G p l e R s m args below meth cd H locs cells slots ls n0 s0 g1 g2 g3 g4 g5 g6 g7 g8 g9
  obtain ⟨cell, e1, e2, e3, e4, e5, e6⟩ : xarr G H a (.object C) (n, .inr (.inr (.inr (.inr f)))) := (g3.2.2.1 a _ hK ha).2
  replace e4 := e4.2.2 hK
  refine va_WaastN g2.1 g2.2.1 e1 (State.isArrayOf_alike g2.2.2.2.2.2.2.2.2.1.1 e2) e3 (by rw [e4]; exact hin) rfl rfl hd fun H1 w1 w2 w3 => ?_
  refine kk G p l e R s m args below meth cd H1 _ cells slots ls n0 s0 g1 g2 (x_rr_up g3 hK ha w2 w3 (xarr_put (A2 := (n, .inr (.inr (.inr (.inr (va_up f i.toNatClampNeg none)))))) (w := vN) e2 e3 e4 e5 e6 (vp_lt hin) rfl (fun k => ?_) w1)) g4 g5 g6 g7 g8 (x_locs g9 hK)
  show vR (va_up f i.toNatClampNeg _ k) = if k = i.toNatClampNeg then _ else vR (f k)
  unfold va_up
  split <;> rfl
/-- the pool entry idx of own names a static that holds v -/
def xSl (own : String) (idx : Nat) (v : xV) : Prop := ∃ q ∈ xSt, q.2.2.2 = v ∧ (Cond.fieldLink own idx q.1 q.2.1 q.2.2.1 ∈ lw_tbl ∨ ∃ host : String, Cond.fieldLinkNest own idx q.1 q.2.1 q.2.2.1 host ∈ lw_tbl)
theorem x_gets {idx : Nat} {v : xV} (hd : decode M.2.1 pc = .ok (.getstatic idx, 3)) (hl : xSl M.1 idx v) (kk : xW sc M d Q h (pc + 3) L (v :: st)) : xW sc M d Q h pc L st := by
  intro G p l e R s m args below meth cd H locs cells slots ls n0 s0 g1 g2 g3 g4 g5 g6 g7 g8 g9
  obtain ⟨q, hq, hv, hl⟩ := hl
  subst hv
  have hF : xFS G s := g2.2.2.2.2.2.2.2.2.1
  obtain ⟨cf, kf, fi, f, a, cell, h1, h2, h3, h4, h5, h6, h7, h8⟩ := va_Z.moved hF.1 (g1.2.2.2.1 q hq)
  have h5' : H[a]? = some cell := by rw [g3.2.2.2 a (by omega)]; exact h5
  have K := kk G p l e R s m args below meth cd H locs cells slots ls n0 s0 g1 g2 g3 g4 g5 g6 g7 g8 g9
  rcases hl with hl | ⟨host, hl⟩
  · exact W.gets g2.1 g2.2.1 g2.2.2.2.2.2.2.2.1 (hF.2.2 _ hl (by rfl) _) h1 h2 h3 h4 h5' (fun z => by rw [z] at h6; cases h6) h7 rfl hd K
  · exact va_WgetsN g2.1 g2.2.1 g2.2.2.2.2.2.2.2.1 (hF.2.2 _ hl (by rfl) _) h1 h2 h3 h4 h5' (fun z => by rw [z] at h6; cases h6) h7 rfl hd K
theorem x_ldc {idx : Nat} {v : Int32} (hd : decode M.2.1 pc = .ok (.ldc idx, 2)) (hl : Jvm.Cond.constant M.1 idx v ∈ lw_tbl) (kk : xW sc M d Q h (pc + 2) L (vI v :: st)) : xW sc M d Q h pc L st := by
  intro G p l e R s m args below meth cd H locs cells slots ls n0 s0 g1 g2 g3 g4 g5 g6 g7 g8 g9
  exact lv_ldc g2.1 g2.2.1 g2.2.2.2.2.2.2.2.1 (g2.2.2.2.2.2.2.2.2.1.2.2 _ hl (by rfl) _) hd (kk G p l e R s m args below meth cd H locs cells slots ls n0 s0 g1 g2 g3 g4 g5 g6 g7 g8 g9)
theorem x_ldc2 {idx : Nat} {v : Int64} (hd : decode M.2.1 pc = .ok (.ldc2_w idx, 3)) (hl : Jvm.Cond.constantLong M.1 idx v ∈ lw_tbl) (kk : xW sc M d Q h (pc + 3) L (vL v :: st)) : xW sc M d Q h pc L st := by
  intro G p l e R s m args below meth cd H locs cells slots ls n0 s0 g1 g2 g3 g4 g5 g6 g7 g8 g9
  exact lv_ldc2 g2.1 g2.2.1 g2.2.2.2.2.2.2.2.1 (g2.2.2.2.2.2.2.2.2.1.2.2 _ hl (by rfl) _) hd (kk G p l e R s m args below meth cd H locs cells slots ls n0 s0 g1 g2 g3 g4 g5 g6 g7 g8 g9)
theorem x_ldc2d {idx : Nat} {v : UInt64} (hd : decode M.2.1 pc = .ok (.ldc2_w idx, 3)) (hl : Jvm.Cond.constantDouble M.1 idx v ∈ lw_tbl) (kk : xW sc M d Q h (pc + 3) L (vD v :: st)) : xW sc M d Q h pc L st := by
  intro G p l e R s m args below meth cd H locs cells slots ls n0 s0 g1 g2 g3 g4 g5 g6 g7 g8 g9
  exact lv_ldc2d g2.1 g2.2.1 g2.2.2.2.2.2.2.2.1 (g2.2.2.2.2.2.2.2.2.1.2.2 _ hl (by rfl) _) hd (kk G p l e R s m args below meth cd H locs cells slots ls n0 s0 g1 g2 g3 g4 g5 g6 g7 g8 g9)
theorem x_ldcf {idx : Nat} {v : UInt32} (hd : decode M.2.1 pc = .ok (.ldc idx, 2)) (hl : Jvm.Cond.constantFloat M.1 idx v ∈ lw_tbl) (kk : xW sc M d Q h (pc + 2) L (vF v :: st)) : xW sc M d Q h pc L st := by
  intro G p l e R s m args below meth cd H locs cells slots ls n0 s0 g1 g2 g3 g4 g5 g6 g7 g8 g9
  exact lv_ldcf g2.1 g2.2.1 g2.2.2.2.2.2.2.2.1 (g2.2.2.2.2.2.2.2.2.1.2.2 _ hl (by rfl) _) hd (kk G p l e R s m args below meth cd H locs cells slots ls n0 s0 g1 g2 g3 g4 g5 g6 g7 g8 g9)
theorem x_ldcw {idx : Nat} {v : Int32} (hd : decode M.2.1 pc = .ok (.ldc_w idx, 3)) (hl : Jvm.Cond.constant M.1 idx v ∈ lw_tbl) (kk : xW sc M d Q h (pc + 3) L (vI v :: st)) : xW sc M d Q h pc L st := by
  intro G p l e R s m args below meth cd H locs cells slots ls n0 s0 g1 g2 g3 g4 g5 g6 g7 g8 g9
  exact lv_ldcw g2.1 g2.2.1 g2.2.2.2.2.2.2.2.1 (g2.2.2.2.2.2.2.2.2.1.2.2 _ hl (by rfl) _) hd (kk G p l e R s m args below meth cd H locs cells slots ls n0 s0 g1 g2 g3 g4 g5 g6 g7 g8 g9)
theorem x_ldcwf {idx : Nat} {v : UInt32} (hd : decode M.2.1 pc = .ok (.ldc_w idx, 3)) (hl : Jvm.Cond.constantFloat M.1 idx v ∈ lw_tbl) (kk : xW sc M d Q h (pc + 3) L (vF v :: st)) : xW sc M d Q h pc L st := by
  intro G p l e R s m args below meth cd H locs cells slots ls n0 s0 g1 g2 g3 g4 g5 g6 g7 g8 g9
  intro T hT X
  obtain ⟨t, a, b⟩ := kk G p l e R s m args below meth cd H locs cells slots ls n0 s0 g1 g2 g3 g4 g5 g6 g7 g8 g9 T hT X
  refine ⟨t, ?_, b⟩
  obtain ⟨k, cf, hk, hcf, hcp⟩ := Cond.constantFloat_spec g2.2.2.2.2.2.2.2.1 (g2.2.2.2.2.2.2.2.2.1.2.2 _ hl (by rfl) args)
  obtain ⟨k', hk', he⟩ := X.warmed.alike.2.2 _ _ hk
  have hb := g2.2.1
  jvm_step X.here [g2.1, hb, hd, ldc_w.wp_float (s := T) (f := F0 m pc ls (st.map (xv G))) X.here.top hk' (by rw [he]; exact hcf) hcp]
  exact a
def xdv (ty : FieldType) : xV := match ty with
  | .long => vL 0
  | .float => vF 0
  | .double => vD 0
  | .object _ => vN
  | .array _ => vN
  | _ => vI 0
theorem xdv_v (G : xG) (ty : FieldType) : xv G (xdv ty) = defaultValue ty := by cases ty <;> rfl
def xdef (c n : Nat) : List xV := (List.range n).map fun k => xdv (xTy c k)
theorem xdef_get {c n k : Nat} (hk : k < n) : xget (xdef c n) k = xdv (xTy c k) := by
  unfold xget xdef
  rw [List.getD_eq_getElem?_getD, List.getElem?_map, List.getElem?_range hk]
  rfl
/-- the pool entry idx of own names class c, whose objects have n slots -/
def xNw (own : String) (idx c n : Nat) : Prop := ∃ q : vw_C, xCl[c]? = some q ∧ Cond.classLink own idx q.1 ∈ lw_tbl ∧ Cond.instantiable q.1 n ∈ lw_tbl ∧ Cond.initialized q.1 ∈ lw_tbl
/-- all fields of class c as the tables lay them -/
def xLy (c : Nat) : Prop := ∃ q : vw_C, xCl[c]? = some q ∧ ∀ k, k < q.2.2 → u_lay q.1 q.2.1 k ∈ lw_tbl ∧ parseFieldDescriptor (q.2.1 k).2.2.1 = some (xTy c k)
theorem xu_lays {G : xG} {s : State} (hF : xFS G s) {C : String} {T : u_T} {k : Nat} {args : Array Value} (h : u_lay C T k ∈ lw_tbl) : (Cond.lays C (T k).1 (T k).2.1 (T k).2.2.1).before args s = true ∨ (Cond.laysFinal C (T k).1 (T k).2.1 (T k).2.2.1).before args s = true := by
  unfold u_lay at h
  split at h
  · exact Or.inr (hF.2.2 _ h (by rfl) args)
  · exact Or.inl (hF.2.2 _ h (by rfl) args)
theorem x_new {idx c n N : Nat} (hd : decode M.2.1 pc = .ok (.new idx, 3)) (hl : xNw M.1 idx c n) (hy : xLy c) (hN : ∃ q : vw_C, xCl[c]? = some q ∧ q.2.2 = N) (hc : h.2.1 + 1 ≤ xCM) (hs : h.2.2 + n ≤ xSM) (kk : xW sc M d Q (xnew h (.inl (c, xdef c N)) n) (pc + 3) L (vA h.2.1 :: st)) : xW sc M d Q h pc L st := by
  intro G p l e R s m args below meth cd H locs cells slots ls n0 s0 g1 g2 g3 g4 g5 g6 g7 g8 g9
  obtain ⟨q, hq, w1, w2, w3⟩ := hl
  obtain ⟨q8, hq8, hy⟩ := hy
  cases hq.symm.trans hq8
  obtain ⟨q8, hq8, hN⟩ := hN
  cases hq.symm.trans hq8
  subst hN
  have hF : xFS G s := g2.2.2.2.2.2.2.2.2.1
  have hca := xCA_moved hF.1 (g1.1 c q hq).1
  obtain ⟨⟨r0, r1, r1'⟩, r2, -⟩ := id g3
  refine W.newcK g2.1 g2.2.1 g2.2.2.2.2.2.2.2.1 (hF.2.2 _ w1 (by rfl) _) (hF.2.2 _ w2 (by rfl) _) (hF.2.2 _ w3 (by rfl) _) rfl hd (by omega) (by omega) hca.1 rfl fun H1 kC hkC e1 z1 o1 => ?_
  have hr : xr G h.2.1 = H.size := by rw [xr_hi r0, r2]
  have hob : xobj G H1 h.2.1 c (xdef c q.2.2) := by
    refine ⟨_, q, hq, by rw [hr]; exact e1, rfl, fun _ => rfl, (fun z => by cases z), rfl, (by unfold xdef; simp), fun k hk => ?_⟩
    obtain ⟨cf, kf, fi, fd, h1, h2, h3, h4⟩ := xFound g1 hF hq hk (Or.inl rfl)
    have h5 := (u_facts hca.1 hkC (xu_lays hF (hy k hk).1 (args := args)) h1).2.2
    rw [(State.fieldFound?_type h1 (hy k hk).2).2] at h5
    rw [← h3, xdef_get hk, xdv_v]
    exact k2_blank h5
  have K := kk G p l e R s m args below meth cd H1 locs (cells + 1) (slots + n) ls n0 s0 g1 g2 (x_rr_new g3 hc hs z1 o1 hob) g4 (by show cells + 1 + n0 = h.2.1 + 1; omega) (by show slots + n + s0 = h.2.2 + n; omega) g7 g8 g9
  have e9 : xv G (vA h.2.1) = .ref H.size := by rw [← hr]; rfl
  rw [List.map_cons, e9] at K
  exact K
theorem xarr_new {G : xG} {s : State} {H1 : Heap} {a N : Nat} {cA : ClassId} {ty : FieldType} {A : vp_A} {v : Value} (hal : G.s.vm.Alike s.vm) (e1 : H1[xr G a]? = some (arrV cA N (fun _ => v))) (hAr : ArrOfT s cA ty) (hN : A.1 = N) (hE : ∀ j, xv G (xel A j) = v)
    (hr : ty.isReference = true → ∃ (k : Class) (comp : ClassId), s.vm.classes[cA]? = some k ∧ k.kind = .array comp ty ∧ s.vm.findClass (xcn ty) = some comp) : xarr G H1 a ty A := by
  refine ⟨_, e1, State.isArrayOf_alike hal.symm (hAr _ _), (fun z => by cases z), ?_, fun j hj => ?_, fun _ h => ?_⟩
  · exact xsz_of (by rw [arrV_size]; exact hN.symm)
  · rw [arrV_read _ _ (by omega), hE]
  · obtain ⟨k, comp, h1, h2, h3⟩ := hr h
    obtain ⟨k', hk', he⟩ := hal.symm.2.2 _ _ h1
    exact ⟨k', comp, hk', by rw [he]; exact h2, by rw [hal.symm.findClass]; exact h3⟩
theorem x_newa_int {n : Int32} {N : Nat} (hd : decode M.2.1 pc = .ok (.newarray .int, 2)) (hl : Cond.arrayClass .int ∈ lw_tbl) (hn : n = nI N) (hN : N ≤ 100000) (hc : h.2.1 + 1 ≤ xCM) (hs : h.2.2 + N ≤ xSM) (kk : xW sc M d Q (xnew h (.inr (.int, (N, .inl fun _ => 0))) N) (pc + 2) L (vA h.2.1 :: st)) : xW sc M d Q h pc L (vI n :: st) := by
  intro G p l e R s m args below meth cd H locs cells slots ls n0 s0 g1 g2 g3 g4 g5 g6 g7 g8 g9
  subst hn
  have hF : xFS G s := g2.2.2.2.2.2.2.2.2.1
  obtain ⟨⟨r0, r1, r1'⟩, r2, -⟩ := id g3
  have hw := hF.2.2 _ hl (by rfl) args
  refine va_newaK (atype := .int) (n := nI N) (N := N) g2.1 g2.2.1 hw rfl hd rfl (nI_pos (by omega)) (nI_clamp (by omega)) (show N * 4 ≤ 536870912 by omega) (by omega) (by omega) rfl fun H1 cA e1 z1 o1 hAr _ => ?_
  have hr : xr G h.2.1 = H.size := by rw [xr_hi r0, r2]
  have K := kk G p l e R s m args below meth cd H1 locs (cells + 1) (slots + N) ls n0 s0 g1 g2 (x_rr_new g3 hc hs z1 o1 (xarr_new (ty := .int) (N := N) hF.1 (by rw [hr]; exact e1) hAr rfl (fun _ => rfl) (fun z => by cases z))) g4 (by show cells + 1 + n0 = h.2.1 + 1; omega) (by show slots + N + s0 = h.2.2 + N; omega) g7 g8 g9
  have e9 : xv G (vA h.2.1) = .ref H.size := by rw [← hr]; rfl
  rw [List.map_cons, e9] at K
  exact K
theorem x_newa_byte {n : Int32} {N : Nat} (hd : decode M.2.1 pc = .ok (.newarray .byte, 2)) (hl : Cond.arrayClass .byte ∈ lw_tbl) (hn : n = nI N) (hN : N ≤ 100000) (hc : h.2.1 + 1 ≤ xCM) (hs : h.2.2 + N ≤ xSM) (kk : xW sc M d Q (xnew h (.inr (.byte, (N, .inl fun _ => 0))) N) (pc + 2) L (vA h.2.1 :: st)) : xW sc M d Q h pc L (vI n :: st) := by
  intro G p l e R s m args below meth cd H locs cells slots ls n0 s0 g1 g2 g3 g4 g5 g6 g7 g8 g9
  subst hn
  have hF : xFS G s := g2.2.2.2.2.2.2.2.2.1
  obtain ⟨⟨r0, r1, r1'⟩, r2, -⟩ := id g3
  have hw := hF.2.2 _ hl (by rfl) args
  refine va_newaK (atype := .byte) (n := nI N) (N := N) g2.1 g2.2.1 hw rfl hd rfl (nI_pos (by omega)) (nI_clamp (by omega)) (show N * 1 ≤ 536870912 by omega) (by omega) (by omega) rfl fun H1 cA e1 z1 o1 hAr _ => ?_
  have hr : xr G h.2.1 = H.size := by rw [xr_hi r0, r2]
  have K := kk G p l e R s m args below meth cd H1 locs (cells + 1) (slots + N) ls n0 s0 g1 g2 (x_rr_new g3 hc hs z1 o1 (xarr_new (ty := .byte) (N := N) hF.1 (by rw [hr]; exact e1) hAr rfl (fun _ => rfl) (fun z => by cases z))) g4 (by show cells + 1 + n0 = h.2.1 + 1; omega) (by show slots + N + s0 = h.2.2 + N; omega) g7 g8 g9
  have e9 : xv G (vA h.2.1) = .ref H.size := by rw [← hr]; rfl
  rw [List.map_cons, e9] at K
  exact K
theorem x_newa_char {n : Int32} {N : Nat} (hd : decode M.2.1 pc = .ok (.newarray .char, 2)) (hl : Cond.arrayClass .char ∈ lw_tbl) (hn : n = nI N) (hN : N ≤ 100000) (hc : h.2.1 + 1 ≤ xCM) (hs : h.2.2 + N ≤ xSM) (kk : xW sc M d Q (xnew h (.inr (.char, (N, .inl fun _ => 0))) N) (pc + 2) L (vA h.2.1 :: st)) : xW sc M d Q h pc L (vI n :: st) := by
  intro G p l e R s m args below meth cd H locs cells slots ls n0 s0 g1 g2 g3 g4 g5 g6 g7 g8 g9
  subst hn
  have hF : xFS G s := g2.2.2.2.2.2.2.2.2.1
  obtain ⟨⟨r0, r1, r1'⟩, r2, -⟩ := id g3
  have hw := hF.2.2 _ hl (by rfl) args
  refine va_newaK (atype := .char) (n := nI N) (N := N) g2.1 g2.2.1 hw rfl hd rfl (nI_pos (by omega)) (nI_clamp (by omega)) (show N * 2 ≤ 536870912 by omega) (by omega) (by omega) rfl fun H1 cA e1 z1 o1 hAr _ => ?_
  have hr : xr G h.2.1 = H.size := by rw [xr_hi r0, r2]
  have K := kk G p l e R s m args below meth cd H1 locs (cells + 1) (slots + N) ls n0 s0 g1 g2 (x_rr_new g3 hc hs z1 o1 (xarr_new (ty := .char) (N := N) hF.1 (by rw [hr]; exact e1) hAr rfl (fun _ => rfl) (fun z => by cases z))) g4 (by show cells + 1 + n0 = h.2.1 + 1; omega) (by show slots + N + s0 = h.2.2 + N; omega) g7 g8 g9
  have e9 : xv G (vA h.2.1) = .ref H.size := by rw [← hr]; rfl
  rw [List.map_cons, e9] at K
  exact K
theorem x_newa_long {n : Int32} {N : Nat} (hd : decode M.2.1 pc = .ok (.newarray .long, 2)) (hl : Cond.arrayClass .long ∈ lw_tbl) (hn : n = nI N) (hN : N ≤ 100000) (hc : h.2.1 + 1 ≤ xCM) (hs : h.2.2 + N ≤ xSM) (kk : xW sc M d Q (xnew h (.inr (.long, (N, .inr (.inl fun _ => 0)))) N) (pc + 2) L (vA h.2.1 :: st)) : xW sc M d Q h pc L (vI n :: st) := by
  intro G p l e R s m args below meth cd H locs cells slots ls n0 s0 g1 g2 g3 g4 g5 g6 g7 g8 g9
  subst hn
  have hF : xFS G s := g2.2.2.2.2.2.2.2.2.1
  obtain ⟨⟨r0, r1, r1'⟩, r2, -⟩ := id g3
  have hw := hF.2.2 _ hl (by rfl) args
  refine va_newaK (atype := .long) (n := nI N) (N := N) g2.1 g2.2.1 hw rfl hd rfl (nI_pos (by omega)) (nI_clamp (by omega)) (show N * 8 ≤ 536870912 by omega) (by omega) (by omega) rfl fun H1 cA e1 z1 o1 hAr _ => ?_
  have hr : xr G h.2.1 = H.size := by rw [xr_hi r0, r2]
  have K := kk G p l e R s m args below meth cd H1 locs (cells + 1) (slots + N) ls n0 s0 g1 g2 (x_rr_new g3 hc hs z1 o1 (xarr_new (ty := .long) (N := N) hF.1 (by rw [hr]; exact e1) hAr rfl (fun _ => rfl) (fun z => by cases z))) g4 (by show cells + 1 + n0 = h.2.1 + 1; omega) (by show slots + N + s0 = h.2.2 + N; omega) g7 g8 g9
  have e9 : xv G (vA h.2.1) = .ref H.size := by rw [← hr]; rfl
  rw [List.map_cons, e9] at K
  exact K
theorem x_newa_double {n : Int32} {N : Nat} (hd : decode M.2.1 pc = .ok (.newarray .double, 2)) (hl : Cond.arrayClass .double ∈ lw_tbl) (hn : n = nI N) (hN : N ≤ 100000) (hc : h.2.1 + 1 ≤ xCM) (hs : h.2.2 + N ≤ xSM) (kk : xW sc M d Q (xnew h (.inr (.double, (N, .inr (.inr (.inr (.inl fun _ => 0)))))) N) (pc + 2) L (vA h.2.1 :: st)) : xW sc M d Q h pc L (vI n :: st) := by
  intro G p l e R s m args below meth cd H locs cells slots ls n0 s0 g1 g2 g3 g4 g5 g6 g7 g8 g9
  subst hn
  have hF : xFS G s := g2.2.2.2.2.2.2.2.2.1
  obtain ⟨⟨r0, r1, r1'⟩, r2, -⟩ := id g3
  have hw := hF.2.2 _ hl (by rfl) args
  refine va_newaK (atype := .double) (n := nI N) (N := N) g2.1 g2.2.1 hw rfl hd rfl (nI_pos (by omega)) (nI_clamp (by omega)) (show N * 8 ≤ 536870912 by omega) (by omega) (by omega) rfl fun H1 cA e1 z1 o1 hAr _ => ?_
  have hr : xr G h.2.1 = H.size := by rw [xr_hi r0, r2]
  have K := kk G p l e R s m args below meth cd H1 locs (cells + 1) (slots + N) ls n0 s0 g1 g2 (x_rr_new g3 hc hs z1 o1 (xarr_new (ty := .double) (N := N) hF.1 (by rw [hr]; exact e1) hAr rfl (fun _ => rfl) (fun z => by cases z))) g4 (by show cells + 1 + n0 = h.2.1 + 1; omega) (by show slots + N + s0 = h.2.2 + N; omega) g7 g8 g9
  have e9 : xv G (vA h.2.1) = .ref H.size := by rw [← hr]; rfl
  rw [List.map_cons, e9] at K
  exact K
theorem x_anew {idx : Nat} {C : String} {n : Int32} {N : Nat} (hd : decode M.2.1 pc = .ok (.anewarray idx, 3)) (hl : Cond.classLink M.1 idx C ∈ lw_tbl) (hv : Cond.arrayOver (.object C) ∈ lw_tbl) (hn : n = nI N) (hN : N ≤ 100000) (hc : h.2.1 + 1 ≤ xCM) (hs : h.2.2 + N ≤ xSM) (kk : xW sc M d Q (xnew h (.inr (.object C, (N, .inr (.inr (.inr (.inr fun _ => none)))))) N) (pc + 3) L (vA h.2.1 :: st)) : xW sc M d Q h pc L (vI n :: st) := by
  intro G p l e R s m args below meth cd H locs cells slots ls n0 s0 g1 g2 g3 g4 g5 g6 g7 g8 g9
  subst hn
  have hF : xFS G s := g2.2.2.2.2.2.2.2.2.1
  obtain ⟨⟨r0, r1, r1'⟩, r2, -⟩ := id g3
  have hcl : (nI N).toNatClampNeg = N := nI_clamp (by omega)
  refine W.anew g2.1 g2.2.1 g2.2.2.2.2.2.2.2.1 (hF.2.2 _ hl (by rfl) _) (hF.2.2 _ hv (by rfl) _) rfl hd rfl (nI_pos (by omega)) (by omega) (by omega) (by omega) fun cA kA comp h1 h2 h3 h4 => ?_
  rw [hcl]
  have hr : xr G h.2.1 = H.size := by rw [xr_hi r0, r2]
  have K := kk G p l e R s m args below meth cd (H.push { cls := cA, slots := Array.replicate N .null, vm := .none }) locs (cells + 1) (slots + N) ls n0 s0 g1 g2
    (x_rr_new g3 hc hs (by simp) (fun q hq => by rw [Array.getElem?_push, if_neg (Nat.ne_of_lt hq)]) (xarr_new (ty := .object C) (N := N) (cA := cA) (v := .null) hF.1 (by rw [hr, ← arrV_new]; simp) (fun n z => ⟨fun k h => (by cases h), kA, h2, comp, h3⟩) rfl (fun _ => rfl) (fun _ => ⟨kA, comp, h2, h3, h4⟩))) g4 (by show cells + 1 + n0 = h.2.1 + 1; omega) (by show slots + N + s0 = h.2.2 + N; omega) g7 g8 g9
  have e9 : xv G (vA h.2.1) = .ref H.size := by rw [← hr]; rfl
  rw [List.map_cons, e9] at K
  exact K
/-- checkcast of an object to its own class or one that it can be cast to -/
theorem x_chk {idx a c : Nat} {C : String} {fs : List xV} (hd : decode M.2.1 pc = .ok (.checkcast idx, 3)) (hl : Cond.classLink M.1 idx C ∈ lw_tbl) (ha : xat sc h a = some (.inl (c, fs))) (hC : ∃ q : vw_C, xCl[c]? = some q ∧ Cond.castable q.1 C ∈ lw_tbl) (kk : xW sc M d Q h (pc + 3) L (vA a :: st)) : xW sc M d Q h pc L (vA a :: st) := by
  intro G p l e R s m args below meth cd H locs cells slots ls n0 s0 g1 g2 g3 g4 g5 g6 g7 g8 g9
  have hF : xFS G s := g2.2.2.2.2.2.2.2.2.1
  obtain ⟨q, hq, hC⟩ := hC
  obtain ⟨cell, q2, e1, e2, e3, e4, e5, e6, e7, e8⟩ : xobj G H a c fs := x_look g1 g3 ha
  cases hq.symm.trans e1
  have hca := xCA_moved hF.1 (g1.1 c q hq).1
  exact va_castY g2.1 g2.2.1 g2.2.2.2.2.2.2.2.1 (hF.2.2 _ hl (by rfl) _) (hF.2.2 _ hC (by rfl) _) ⟨cell, e2, e6, by rw [e3]; exact hca.1⟩ hd (kk G p l e R s m args below meth cd H locs cells slots ls n0 s0 g1 g2 g3 g4 g5 g6 g7 g8 g9)
end XA
