/-! ends and calls -/
theorem W.xmono {p : Program} {l : Launch} {e : Env} {R : Room} {s : State} {m : MethodId} {args : Array Value} {below : List Frame} {meth : Method} {c : Code} {H : Heap} {locs : List Loc} {cells slots : Nat} {Z Z2 : State → Prop} {g : JFrame} (k : W p l e R s m args below meth c H locs cells slots Z g) (hz : ∀ t, Z t → Z2 t) : W p l e R s m args below meth c H locs cells slots Z2 g := fun T hT X => by
  obtain ⟨t, a, b⟩ := k T hT X
  exact ⟨t, a, hz t b⟩
theorem x_fin {G : xG} {h : xH} {Q : xR → xH → Prop} {r : xR} {n0 s0 : Nat} {s : State} {args : Array Value} {below : List Frame} {H : Heap} {cells slots : Nat} {t : State} (z : MQ below (fun _ _ o t => o = xo G r ∧ t.heap = H) args s cells slots (fun q => G.s.heap.size ≤ q) t) (g3 : xRR G h H) (g5 : cells + n0 = h.2.1) (g6 : slots + s0 = h.2.2) (hq : Q r h) : xEnd G Q s below n0 s0 t := by
  obtain ⟨o, h1, h2, ⟨rfl, h3⟩, L, ⟨-, h4, h5⟩, h6⟩ := z
  exact ⟨r, h, L, cells, slots, h1, h2, h4, h5, h6, g5, g6, by rw [h3]; exact g3, hq⟩
section XC
variable {sc : xSc} {M : xM} {d : Nat} {Q : xR → xH → Prop} {h : xH} {pc : Nat} {L : List (Option xV)} {st : List xV}
theorem x_iret {x : Int32} {ty : FieldType} (hd : decode M.2.1 pc = .ok (.ireturn, 1)) (hr : M.2.2.2.1 = some ty) (hn : narrow ty (.int x) = .int x) (hq : Q (.inl (some (vI x))) h) : xW sc M d Q h pc L [vI x] := by
  intro G p l e R s m args below meth cd H locs cells slots ls n0 s0 g1 g2 g3 g4 g5 g6 g7 g8 g9
  exact (W.zret (Qc := fun _ _ o t => o = xo G (.inl (some (vI x))) ∧ t.heap = H) (free := fun q => G.s.heap.size ≤ q) g2.1 g2.2.1 (g2.2.2.2.1.trans hr) hn (fun t ht _ => ⟨rfl, ht⟩) g9 hd g2.2.2.2.2.1).xmono (fun t z => x_fin z g3 g5 g6 hq)
theorem x_lret {x : Int64} (hd : decode M.2.1 pc = .ok (.lreturn, 1)) (hr : M.2.2.2.1 = some .long) (hq : Q (.inl (some (vL x))) h) : xW sc M d Q h pc L [vL x] := by
  intro G p l e R s m args below meth cd H locs cells slots ls n0 s0 g1 g2 g3 g4 g5 g6 g7 g8 g9
  exact (W.lret (Qc := fun _ _ o t => o = xo G (.inl (some (vL x))) ∧ t.heap = H) (free := fun q => G.s.heap.size ≤ q) g2.1 g2.2.1 (g2.2.2.2.1.trans hr) (fun t ht _ => ⟨rfl, ht⟩) g9 hd g2.2.2.2.2.1).xmono (fun t z => x_fin z g3 g5 g6 hq)
theorem x_dret {x : UInt64} (hd : decode M.2.1 pc = .ok (.dreturn, 1)) (hr : M.2.2.2.1 = some .double) (hq : Q (.inl (some (vD x))) h) : xW sc M d Q h pc L [vD x] := by
  intro G p l e R s m args below meth cd H locs cells slots ls n0 s0 g1 g2 g3 g4 g5 g6 g7 g8 g9
  exact (W.dret (Qc := fun _ _ o t => o = xo G (.inl (some (vD x))) ∧ t.heap = H) (free := fun q => G.s.heap.size ≤ q) g2.1 g2.2.1 (g2.2.2.2.1.trans hr) (fun t ht _ => ⟨rfl, ht⟩) g9 hd g2.2.2.2.2.1).xmono (fun t z => x_fin z g3 g5 g6 hq)
theorem x_aret {r : Option Nat} {ty : FieldType} (hd : decode M.2.1 pc = .ok (.areturn, 1)) (hr : M.2.2.2.1 = some ty) (hrt : (∃ n, ty = .object n) ∨ ∃ t, ty = .array t) (hq : Q (.inl (some (vR r))) h) : xW sc M d Q h pc L [vR r] := by
  intro G p l e R s m args below meth cd H locs cells slots ls n0 s0 g1 g2 g3 g4 g5 g6 g7 g8 g9
  exact (W.aret (Qc := fun _ _ o t => o = xo G (.inl (some (vR r))) ∧ t.heap = H) (free := fun q => G.s.heap.size ≤ q) g2.1 g2.2.1 (g2.2.2.2.1.trans hr) hrt (by cases r with | none => exact Or.inl rfl | some a => exact Or.inr ⟨_, rfl⟩) (fun t ht _ => ⟨rfl, ht⟩) g9 hd g2.2.2.2.2.1).xmono (fun t z => x_fin z g3 g5 g6 hq)
theorem x_vret (hd : decode M.2.1 pc = .ok (.return_, 1)) (hr : M.2.2.2.1 = none) (hq : Q (.inl none) h) : xW sc M d Q h pc L [] := by
  intro G p l e R s m args below meth cd H locs cells slots ls n0 s0 g1 g2 g3 g4 g5 g6 g7 g8 g9
  exact (W.vret (Qc := fun _ _ o t => o = xo G (.inl none) ∧ t.heap = H) (free := fun q => G.s.heap.size ≤ q) g2.1 g2.2.1 (g2.2.2.2.1.trans hr) (fun t ht _ => ⟨rfl, ht⟩) g9 hd g2.2.2.2.2.1).xmono (fun t z => x_fin z g3 g5 g6 hq)
/-- no handler covers pc -/
def xNo (M : xM) (pc : Nat) : Prop := ∀ q ∈ M.2.2.2.2.1, ¬ (q.1 ≤ pc ∧ pc < q.2.1)
theorem xNo_out {M : xM} {pc : Nat} {c : Code} (hx : c.exceptionTable.toList.map (fun h => (h.startPc, h.endPc, h.handlerPc, h.catchType)) = M.2.2.2.2.1) (h : xNo M pc) : ∀ x ∈ c.exceptionTable.toList, covers x pc = false := by
  intro x hm
  have h1 : (x.startPc, x.endPc, x.handlerPc, x.catchType) ∈ M.2.2.2.2.1 := by
    rw [← hx]
    exact List.mem_map.mpr ⟨x, hm, rfl⟩
  have h2 := h _ h1
  unfold covers
  by_cases c1 : x.startPc ≤ pc
  · have c2 : ¬ pc < x.endPc := fun z => h2 ⟨c1, z⟩
    simp [c2]
  · simp [c1]
theorem x_athrow {a : Nat} (hd : decode M.2.1 pc = .ok (.athrow, 1)) (hno : xNo M pc) (hq : Q (.inr a) h) : xW sc M d Q h pc L (vA a :: st) := by
  intro G p l e R s m args below meth cd H locs cells slots ls n0 s0 g1 g2 g3 g4 g5 g6 g7 g8 g9
  intro T hT X
  obtain ⟨h1, h2, h3, h4, h5⟩ := X.athrowLeaves g2.1 (g := F0 m pc ls ((vA a :: st).map (xv G))) rfl rfl rfl (xNo_out g2.2.2.2.2.2.1 hno) (a := xr G a) (rest := st.map (xv G)) rfl (by rw [g2.2.1]; exact hd) g2.2.2.2.2.1
  exact ⟨_, h1, .inr a, h, locs, cells, slots, h2, h3, h4, h5, g9, g5, g6, by show xRR G h T.heap; rw [hT]; exact g3, hq⟩
end XC
/-- locals at a method's entry -/
def xargs : List xV → List (Option xV)
  | [] => []
  | .inr (.inl x) :: r => some (vL x) :: none :: xargs r
  | .inr (.inr (.inr (.inl x))) :: r => some (vD x) :: none :: xargs r
  | v :: r => some v :: xargs r
theorem xargs_cons (v : xV) (r : List xV) : xargs (v :: r) = some v :: ((if xcat v = 2 then [none] else []) ++ xargs r) := by
  match v with
  | .inl _ => rfl
  | .inr (.inl _) => rfl
  | .inr (.inr (.inl _)) => rfl
  | .inr (.inr (.inr (.inl _))) => rfl
  | .inr (.inr (.inr (.inr _))) => rfl
theorem xargs_len (G : xG) (av : List xV) : (lg_sl (av.map (xv G))).length = (xargs av).length := by
  induction av with
  | nil => rfl
  | cons v r ih =>
    rw [xargs_cons]
    unfold lg_sl at ih ⊢
    rw [List.map_cons, List.flatMap_cons, List.length_append, ih, xcat_v]
    by_cases hc : xcat v = 2
    · simp [hc]; omega
    · simp [hc]; omega
theorem xargs_get (G : xG) (av : List xV) : ∀ (k i : Nat) (w : xV), (xargs av)[i]? = some (some w) → (k + i, xv G w) ∈ lv_args k (av.map (xv G)) := by
  induction av with
  | nil => intro k i w h; simp [xargs] at h
  | cons v r ih =>
    intro k i w h
    rw [xargs_cons] at h
    rw [List.map_cons, lv_args, xcat_v]
    cases i with
    | zero =>
      rw [List.getElem?_cons_zero] at h
      cases Option.some.inj (Option.some.inj h)
      exact List.mem_cons_self
    | succ i =>
      rw [List.getElem?_cons_succ] at h
      refine List.mem_cons_of_mem _ ?_
      by_cases hc : xcat v = 2
      · rw [if_pos hc] at h ⊢
        cases i with
        | zero => cases h
        | succ i =>
          have := ih (k + 2) i w h
          rw [show k + 2 + i = k + (i + 1 + 1) by omega] at this
          exact this
      · rw [if_neg hc] at h ⊢
        have := ih (k + 1) i w h
        rw [show k + 1 + i = k + (i + 1) by omega] at this
        exact this
def xent (av : List xV) (n : Nat) : List (Option xV) := xargs av ++ List.replicate (n - (xargs av).length) none
theorem xent_ls (G : xG) (av : List xV) {n : Nat} (hn : (xargs av).length ≤ n) : xls G (xent av n) ((lg_sl (av.map (xv G)) ++ List.replicate (n - (lg_sl (av.map (xv G))).length) Slot.unset).toArray) n := by
  have h := lv_entry (av.map (xv G)) (n := n) (by rw [xargs_len]; exact hn)
  refine ⟨h.1, by unfold xent; simp; omega, h.2.1, fun i v hv => ?_⟩
  refine h.2.2 (i, xv G v) ?_
  unfold xent at hv
  by_cases hi : i < (xargs av).length
  · rw [List.getElem?_append_left hi] at hv
    have := xargs_get G av 0 i v hv
    rwa [Nat.zero_add] at this
  · rw [List.getElem?_append_right (by omega), List.getElem?_replicate] at hv
    split at hv
    · cases hv
    · cases hv
/-- the method called y is Y -/
def xY (y : MethodName) (Y : xM) : Prop := Y.1 = y.cls ∧ Y.2.2.2.2.2 = y.name ∧ plainFor y = true ∧ ((Y.2.2.2.2.1 = [] ∧ Cond.code y Y.2.1 Y.2.2.1 Y.2.2.2.1 ∈ lw_tbl) ∨ Cond.codeWith y Y.2.1 Y.2.2.1 Y.2.2.2.1 Y.2.2.2.2.1 ∈ lw_tbl)
theorem xY_code {y : MethodName} {Y : xM} (hy : xY y Y) {U : State} (hw : ∀ w ∈ lw_tbl, xGood w = true → ∀ a : Array Value, w.before a U = true) {mk : MethodId} (hn : U.methodNamed? y = some mk) :
    ∃ methk ck, U.vm.method? mk = some methk ∧ methk.code = some ck ∧ ck.code = Y.2.1 ∧ ck.maxLocals = Y.2.2.1 ∧ methk.sig.returnType = Y.2.2.2.1 ∧ methk.locks = false ∧ ck.exceptionTable.toList.map (fun h => (h.startPc, h.endPc, h.handlerPc, h.catchType)) = Y.2.2.2.2.1 ∧ parseMethodDescriptor y.desc = some methk.sig := by
  rcases hy.2.2.2 with ⟨h0, hc⟩ | hc
  · obtain ⟨methk, ck, h1, h2, h3, h4, h5, h6, h7, h8⟩ := Cond.code_spec hn (hw _ hc (by rfl) #[])
    refine ⟨methk, ck, h1, h2, h3, h4, h5, h6, ?_, h8⟩
    rw [h0]
    have : ck.exceptionTable = #[] := by simpa using h7
    rw [this]
    rfl
  · obtain ⟨m9, methk, ck, h0, h1, h2, h3, h4, h5, h6, h7, h8⟩ := Cond.codeWith_spec (hw _ hc (by rfl) #[])
    cases hn.symm.trans h0
    exact ⟨methk, ck, h1, h2, h3, h4, h6, h7, h5, h8⟩
theorem x_enter {sc : xSc} {M : xM} {d : Nat} {h : xH} {pc : Nat} {L : List (Option xV)} {st : List xV} {G : xG} {p : Program} {l : Launch} {e : Env} {R : Room} {s : State} {m : MethodId} {args : Array Value} {below : List Frame} {meth : Method} {cd : Code} {H : Heap} {locs : List Loc} {cells slots : Nat} {ls : Array Slot} {n0 s0 : Nat}
    (g1 : xGF G sc) (g2 : xCtx G M (d + 1) p l R s m meth cd) (g3 : xRR G h H) (g4 : xls G L ls M.2.2.1) (g5 : cells + n0 = h.2.1) (g6 : slots + s0 = h.2.2) (g7 : xCM ≤ R.cells + n0) (g8 : xSM ≤ R.slots + s0) (g9 : ∀ q ∈ locs, G.s.heap.size ≤ q.base)
    {T : State} (hT : T.heap = H) {vm1 : Vm} (X1 : Stand p l e R s m args below meth cd (T.setVm vm1) locs cells slots)
    {y : MethodName} {Y : xM} (hy : xY y Y) {mk : MethodId} (hn : s.methodNamed? y = some mk) {ig : Instr} {len : Nat} (hdg : decode cd.code pc = .ok (ig, len)) {av : List xV} {Q' : xR → xH → Prop} (ha : (xargs av).length ≤ Y.2.2.1) (hroom : (st.map xcat).sum + (Y.2.2.1 + 11) ≤ 46) (hq : xW sc Y d Q' h 0 (xent av Y.2.2.1) []) :
    ∃ (r : xR) (h' : xH) (T' : State) (locs' : List Loc) (cells' slots' : Nat), Q' r h' ∧ xRR G h' T'.heap ∧ Stand p l e R s m args below meth cd T' locs' cells' slots' ∧ cells' + n0 = h'.2.1 ∧ slots' + s0 = h'.2.2 ∧ (∀ q ∈ locs', G.s.heap.size ≤ q.base) ∧
      ∀ acts, Steps p.tables e below (doInvoke e ((T.setVm vm1).setTop (F0 m pc ls (st.map (xv G)))) acts mk (av.map (xv G)).toArray).1
        (match r with
          | .inl v => T'.setTop (F0 m (pc + len) ls ((v.map (xv G)).toList ++ st.map (xv G)))
          | .inr a => (T'.setTop (F0 m pc ls (st.map (xv G)))).pushFrame (.throwing (xr G a))) := by
  have hF : xFS G s := g2.2.2.2.2.2.2.2.2.1
  have hnU : (T.setVm vm1).methodNamed? y = some mk := X1.named hn
  have hwU : ∀ w ∈ lw_tbl, xGood w = true → ∀ a : Array Value, w.before a (T.setVm vm1) = true := fun w hw hg a => xGood_move X1.warmed hg (hF.2.2 w hw hg #[])
  obtain ⟨methk, ck, k1, k2, k3, k4, k5, k6, k7, k8⟩ := xY_code hy hwU hnU
  obtain ⟨⟨r0, r1, r1'⟩, r2, -, -⟩ := id g3
  have hsum : (st.map (xv G)).map (fun v => v.category) = st.map xcat := by rw [List.map_map]; exact List.map_congr_left fun v _ => xcat_v G v
  obtain ⟨Y0, hin⟩ := X1.into (g := F0 m pc ls (st.map (xv G))) rfl (g4.1.trans g2.2.2.1.symm) hdg (av.map (xv G)).toArray (R' := { frames := d, cells := xCM - h.2.1, slots := xSM - h.2.2, locals := 46 * d }) k1 k2 k6 (State.plainMethod.of_named hy.2.2.1 hnU k1)
    g2.2.2.2.2.2.2.2.2.2.1 (by
      have z := g2.2.2.2.2.2.2.2.2.2.2.1
      show 2 * 0 + ((st.map (xv G)).map (fun v => v.category)).sum + (ck.maxLocals + 11) + 46 * d ≤ R.locals
      rw [hsum, k4]
      omega) (by show cells + (xCM - h.2.1) ≤ _; omega) (by show slots + (xSM - h.2.2) ≤ _; omega)
  generalize hs' : (T.setVm vm1).calling (F0 m pc ls (st.map (xv G))) mk (av.map (xv G)).toArray = s' at Y0
  have hvm : s'.vm = vm1 := by rw [← hs']; rfl
  have hheap : s'.heap = H := by rw [← hs', ← hT]; rfl
  have hWs : s.WarmedH s'.vm := by rw [hvm]; exact X1.warmed
  have hctx : xCtx G Y d p l { frames := d, cells := xCM - h.2.1, slots := xSM - h.2.2, locals := 46 * d } s' mk methk ck := by
    refine ⟨g2.1, k3, k4, k5, k6, k7, ?_, ?_, ⟨hF.1.trans hWs.alike, by rw [hheap, r2]; omega, fun w hw hg a => xGood_move hWs hg (hF.2.2 w hw hg #[])⟩, Nat.le_refl _, Nat.le_refl _, g2.2.2.2.2.2.2.2.2.2.2.2⟩
    · rw [(name_of_methodNamed hnU k1).1]; exact hy.2.1.symm
    · rw [hvm, hy.1]; exact findClass_of_methodNamed hnU
  have K := hq G p l e _ s' mk (av.map (xv G)).toArray (.java (F0 m pc ls (st.map (xv G))) :: below) methk ck H [] 0 0 _ h.2.1 h.2.2 g1 hctx g3 (xent_ls G av ha) (by omega) (by omega) (by show xCM ≤ xCM - h.2.1 + h.2.1; omega) (by show xSM ≤ xSM - h.2.2 + h.2.2; omega) (fun q hq => by cases hq)
  obtain ⟨t, t1, r, h', L', k, n, e1, e2, e3, e4, e5, e6, e7, e8, e9⟩ := K _ (show _ = H from by rw [← hT]; rfl) Y0
  have hst : ∀ acts, Steps p.tables e below (doInvoke e ((T.setVm vm1).setTop (F0 m pc ls (st.map (xv G)))) acts mk (av.map (xv G)).toArray).1 t := by
    intro acts
    rw [lg_entry_eq, k4] at t1
    rw [hin acts, lg_entry_eq, k4]
    exact Steps.weaken (mid := [.java (F0 m pc ls (st.map (xv G)))]) t1
  have hlocs : ∀ q ∈ locs ++ L', G.s.heap.size ≤ q.base := fun q hq => by
    rcases List.mem_append.mp hq with hq | hq
    · exact g9 q hq
    · exact e5 q hq
  cases r with
  | inl v =>
    obtain ⟨T', X', w1, w2, w3⟩ := X1.outOf (g := F0 m pc ls (st.map (xv G))) rfl hdg (mk := mk) (a := (av.map (xv G)).toArray) e2 (by rw [hs']; exact e3) (by rw [hs']; exact e4)
    refine ⟨.inl v, h', T', locs ++ L', cells + k, slots + n, e9, ?_, X', by omega, by omega, hlocs, fun acts => ?_⟩
    · rw [w3] at e8
      exact e8
    · have := hst acts
      rw [w3] at this
      exact this
  | inr a =>
    obtain ⟨T', X', w1, w2, w3⟩ := X1.outOfThrown (g := F0 m pc ls (st.map (xv G))) rfl (mk := mk) (a := (av.map (xv G)).toArray) e2 (by rw [hs']; exact e3) (by rw [hs']; exact e4)
    refine ⟨.inr a, h', T', locs ++ L', cells + k, slots + n, e9, ?_, X', by omega, by omega, hlocs, fun acts => ?_⟩
    · rw [w3, Stand.throwing_heap] at e8
      exact e8
    · have := hst acts
      rw [w3] at this
      exact this
