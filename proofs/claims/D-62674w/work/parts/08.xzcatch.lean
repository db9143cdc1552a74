/-! catching, with catch types resolved or not yet -/
section XK
variable {Q : Handler → Pre} {E : CtlPost} {e : Env} {d : Bool} {acts : List Action} {s : State} {f : JFrame} {a : Addr}
theorem xgo_class {x : ExceptionTableEntry} {t : List ExceptionTableEntry} {c : ClassId} {cell : Cell} (hx : covers x f.pc = true) (h0 : x.catchType ≠ 0)
    (hl : s.vm.ClassLinks e.platform f.method.cls x.catchType c) (hcell : s.heap[a]? = some cell) (hobj : ∀ k, cell.vm ≠ .statics k)
    (hk : ∃ k, s.vm.classes[cell.cls]? = some k) (hc : ∃ k, s.vm.classes[c]? = some k) :
    wp (findHandler.go f a (x :: t)) Q E e d acts s ↔
      if s.vm.assignable cell.cls c = true then Q (.found x.handlerPc) d acts (s.setVm (s.vm.noted f.method.cls x.catchType (.cls c))) else wp (findHandler.go f a t) Q E e d acts (s.setVm (s.vm.noted f.method.cls x.catchType (.cls c))) := by
  simp only [covers] at hx
  obtain ⟨ha, ht⟩ := (resolveClass_links e.toSetting hl).op (op := VmOp.resolveClass f.method.cls x.catchType) rfl
  have hal : s.vm.Alike (s.vm.noted f.method.cls x.catchType (.cls c)) := (Vm.Alike.refl s.vm).noted _ _ _
  obtain ⟨k1, hk1⟩ := hk
  obtain ⟨k2, hk2⟩ := hc
  obtain ⟨k1', hk1', -⟩ := hal.2.2 _ _ hk1
  obtain ⟨k2', hk2', -⟩ := hal.2.2 _ _ hk2
  have hfe : (s.vm.noted f.method.cls x.catchType (.cls c)).assignable cell.cls c = s.vm.assignable cell.cls c := by rw [hal.assignable]
  cases hfit : s.vm.assignable cell.cls c <;> rw [hfit] at hfe <;>
    simp [findHandler.go, hx, h0, ha, ht, hcell, hobj, hk1', hk2', hfe, VmOp.dirties, VmOp.acts]
end XK
/-- what the search gives, and the tables that it leaves -/
def xFT (e : Env) (s : State) (f : JFrame) (a : Addr) (h : Handler) (vm' : Vm) : Prop :=
  ∀ (Q : Handler → Pre) (E : CtlPost) (d : Bool) (acts : List Action), wp (findHandler f a) Q E e d acts s ↔ Q h d acts (s.setVm vm')
theorem xFT_step {tb : Tables} {e : Env} {s target : State} {g : JFrame} {c : Code} {below : List Frame} {a : Addr} (h : At s g.method c below) {pc : Nat} {vm' : Vm}
    (hfind : xFT e ((s.setTop g).pushFrame (.throwing a)) g a (.found pc) vm') (hrest : Steps tb e below ((s.setVm vm').setTop { g with pc := pc, stack := [.ref a] }) target) :
    Steps tb e below ((s.setTop g).pushFrame (.throwing a)) target := by
  have key : ∀ (u : State) (r : List Frame), xFT e u g a (.found pc) vm' → (stepThrowing e u a (.java g :: r)).Is ((u.setVm vm').setFrames (.java { g with pc := pc, stack := [.ref a] } :: r)) [] := by
    intro u r hf
    simp only [stepThrowing, searchFrame, vmDo]
    generalize hr : Sem.go _ e false [] u = res
    obtain ⟨as, rfl, ha⟩ := Sem.eq_ok_of hr (a := Handler.found pc) (s' := u.setVm vm') (acts' := []) (by simp [hf _ _ _ _])
    exact ⟨rfl, ha⟩
  obtain ⟨hgo, hw⟩ := h.throwing a
  refine Steps.head hgo hw ?_
  rw [stepThread_throwing (frames_entered h.top _), (key _ _ hfind).1]
  obtain ⟨g₀, hg⟩ := Option.isSome_iff_exists.mp h.top
  obtain ⟨r, hr⟩ := State.topJava?_eq_some.mp hg
  have hr' : (s.setVm vm').frames = .java g₀ :: r := hr
  have hsw : ∀ (u : State) (F K : List Frame), ((u.setFrames F).setVm vm').setFrames K = (u.setVm vm').setFrames K := fun u F K => by
    have h1 : (u.setFrames F).setVm vm' = (u.setVm vm').setFrames F := rfl
    rw [h1, State.setFrames_setFrames]
  rw [State.setTop_of_frames _ hr'] at hrest
  rw [hr, List.tail_cons, State.pushFrame, hsw, State.setTop_of_frames _ hr, hsw]
  exact hrest
/-- the tables' part of one catch type -/
theorem x_ct {G : xG} {s : State} {M : xM} {m : MethodId} {e : Env} {ct : Nat} {name : String} (hF : xFS G s) (hown : s.vm.findClass M.1 = some m.cls) (hl : Cond.classLink M.1 ct name ∈ lw_tbl) (hpl : e.platform.magicAccessors = ({} : Platform).magicAccessors) :
    ∃ cT, s.vm.findClass name = some cT ∧ s.vm.ClassLinks e.platform m.cls ct cT ∧ (∃ k, s.vm.classes[cT]? = some k) := by
  obtain ⟨cT, h1, h2⟩ := Cond.classLink_spec hown (hF.2.2 _ hl (by rfl) #[]) e.platform hpl
  exact ⟨cT, h1, h2, Vm.classAt_of_findClass h1⟩
theorem x_note {p : Program} {l : Launch} {e : Env} {R : Room} {s : State} {m : MethodId} {args : Array Value} {below : List Frame} {meth : Method} {c : Code} {T : State} {locs : List Loc} {cells slots : Nat} (X : Stand p l e R s m args below meth c T locs cells slots) {ct cT : Nat} (hcl : s.vm.ClassLinks e.platform m.cls ct cT) :
    Stand p l e R s m args below meth c (T.setVm (T.vm.noted m.cls ct (.cls cT))) locs cells slots := by
  obtain ⟨dk, _, _, kt, hd, _, _, _, _, hkt, _, hopen⟩ := hcl.here
  exact X.noted (X.warmed.noted hd hopen (State.rightAt_cls hcl))
/-- caught by the entry behind pre, none of which covers pc -/
theorem x_thCatch {sc : xSc} {M : xM} {d : Nat} {Q : xR → xH → Prop} {h : xH} {pc : Nat} {L : List (Option xV)} {a c b1 b2 hp ct : Nat} {fs : List xV} {name : String} (hsp : M.2.2.2.2.1 = [(b1, b2, hp, ct)] ∨ ∃ y, M.2.2.2.2.1 = [(b1, b2, hp, ct), y]) (hcov : b1 ≤ pc ∧ pc < b2) (h0 : ct ≠ 0) (hl : Cond.classLink M.1 ct name ∈ lw_tbl) (ha : xat sc h a = some (.inl (c, fs))) (hC : ∃ q : vw_C, xCl[c]? = some q ∧ Cond.castable q.1 name ∈ lw_tbl) (kk : xW sc M d Q h hp L [vA a]) : xT sc M d Q h pc L a := by
  intro G p l e R s m args below meth cd H locs cells slots ls n0 s0 st g1 g2 g3 g4 g5 g6 g7 g8 g9 T hT X
  have hF : xFS G s := g2.2.2.2.2.2.2.2.2.1
  have hpl : e.platform.magicAccessors = ({} : Platform).magicAccessors := by rw [X.admits.platform]
  obtain ⟨q, hq, hC⟩ := hC
  obtain ⟨cell, q2, e1, e2, e3, e4, e5, e6, e7, e8⟩ : xobj G H a c fs := x_look g1 g3 ha
  cases hq.symm.trans e1
  have hca := xCA_moved hF.1 (g1.1 c q hq).1
  obtain ⟨cT, k1, k2, k3⟩ := x_ct (e := e) hF g2.2.2.2.2.2.2.2.1 hl hpl
  obtain ⟨c0, t0, w1, w2, w3⟩ := Cond.castable_spec (hF.2.2 _ hC (by rfl) args)
  cases hca.1.symm.trans w1
  cases k1.symm.trans w2
  have X2 := x_note X k2
  have hal := X.warmed.alike
  have hfit : T.vm.assignable cell.cls cT = true := by rw [hal.assignable, e3]; exact w3
  obtain ⟨kT, hkT⟩ := k3
  obtain ⟨kT', hkT', -⟩ := hal.2.2 _ _ hkT
  obtain ⟨t, t1, t2⟩ := kk G p l e R s m args below meth cd H locs cells slots ls n0 s0 g1 g2 g3 g4 g5 g6 g7 g8 g9 (T.setVm (T.vm.noted m.cls ct (.cls cT))) hT X2
  refine ⟨t, xFT_step (g := F0 m pc ls st) (pc := hp) (vm' := T.vm.noted m.cls ct (.cls cT)) X.here ?_ t1, t2⟩
  intro Q E d acts
  rw [W.findHandler_eq (meth := meth) (code := cd) (by show ((T.setTop (F0 m pc ls st)).pushFrame _).vm.method? m = _; rw [Stand.throwing_vm]; exact X.method') X.code]
  obtain ⟨x, t9, hx, hxe⟩ : ∃ x t9, cd.exceptionTable.toList = x :: t9 ∧ (x.startPc, x.endPc, x.handlerPc, x.catchType) = (b1, b2, hp, ct) := by
    have hm := g2.2.2.2.2.2.1
    rcases hsp with h9 | ⟨y, h9⟩
    · rw [h9] at hm
      obtain ⟨x, t9, z1, z2, z3⟩ := List.map_eq_cons_iff.mp hm
      exact ⟨x, t9, z1, z2⟩
    · rw [h9] at hm
      obtain ⟨x, t9, z1, z2, z3⟩ := List.map_eq_cons_iff.mp hm
      exact ⟨x, t9, z1, z2⟩
  cases hxe
  rw [hx, xgo_class (c := cT) (cell := cell) (by simp [covers, hcov]) h0 (by rw [Stand.throwing_vm]; exact X.warmed.classLinks k2) (by rw [Stand.throwing_heap, hT]; exact e2) (fun z hz => by rw [hz] at e6; cases e6) (by rw [Stand.throwing_vm]; exact Vm.classAt_of_assignable hfit ⟨kT', hkT'⟩) (by rw [Stand.throwing_vm]; exact ⟨kT', hkT'⟩)]
  rw [if_pos (by rw [Stand.throwing_vm]; exact hfit), Stand.throwing_vm]
/-- two entries over pc: the first one's class is not the object's, the second one's is -/
theorem x_thCatch2 {sc : xSc} {M : xM} {d : Nat} {Q : xR → xH → Prop} {h : xH} {pc : Nat} {L : List (Option xV)} {a c b1 b2 hp ct b3 b4 hp2 ct2 : Nat} {fs : List xV} {name name2 : String} (hsp : M.2.2.2.2.1 = [(b1, b2, hp, ct), (b3, b4, hp2, ct2)]) (hcov : b1 ≤ pc ∧ pc < b2) (hcov2 : b3 ≤ pc ∧ pc < b4) (h0 : ct ≠ 0) (h02 : ct2 ≠ 0) (hl : Cond.classLink M.1 ct name ∈ lw_tbl) (hl2 : Cond.classLink M.1 ct2 name2 ∈ lw_tbl) (ha : xat sc h a = some (.inl (c, fs)))
    (hC : ∃ q : vw_C, xCl[c]? = some q ∧ Cond.castable q.1 name2 ∈ lw_tbl ∧ ∀ G, xGF G sc → va_Nc q.1 name G.s) (kk : xW sc M d Q h hp2 L [vA a]) : xT sc M d Q h pc L a := by
  intro G p l e R s m args below meth cd H locs cells slots ls n0 s0 st g1 g2 g3 g4 g5 g6 g7 g8 g9 T hT X
  have hF : xFS G s := g2.2.2.2.2.2.2.2.2.1
  have hpl : e.platform.magicAccessors = ({} : Platform).magicAccessors := by rw [X.admits.platform]
  obtain ⟨q, hq, hC, hNc⟩ := hC
  obtain ⟨cell, q2, e1, e2, e3, e4, e5, e6, e7, e8⟩ : xobj G H a c fs := x_look g1 g3 ha
  cases hq.symm.trans e1
  have hca := xCA_moved hF.1 (g1.1 c q hq).1
  obtain ⟨cT, k1, k2, k3⟩ := x_ct (e := e) hF g2.2.2.2.2.2.2.2.1 hl hpl
  obtain ⟨cT2, k12, k22, k32⟩ := x_ct (e := e) hF g2.2.2.2.2.2.2.2.1 hl2 hpl
  obtain ⟨c0, t0, w1, w2, w3⟩ := Cond.castable_spec (hF.2.2 _ hC (by rfl) args)
  cases hca.1.symm.trans w1
  cases k12.symm.trans w2
  obtain ⟨c9, t9, y1, y2, y3⟩ := va_Nc.moved hF.1 (hNc G g1)
  cases hca.1.symm.trans y1
  cases k1.symm.trans y2
  have X2 := x_note X k2
  have X3 := x_note X2 k22
  have hal := X.warmed.alike
  have hal2 := X2.warmed.alike
  have hnofit : T.vm.assignable cell.cls cT = false := by rw [hal.assignable, e3]; exact y3
  have hfit : (T.vm.noted m.cls ct (.cls cT)).assignable cell.cls cT2 = true := by
    have : (T.setVm (T.vm.noted m.cls ct (.cls cT))).vm.assignable cell.cls cT2 = true := by rw [hal2.assignable, e3]; exact w3
    exact this
  obtain ⟨kT, hkT⟩ := k3
  obtain ⟨kT', hkT', -⟩ := hal.2.2 _ _ hkT
  obtain ⟨kU, hkU⟩ := k32
  obtain ⟨kU', hkU', -⟩ := hal2.2.2 _ _ hkU
  obtain ⟨kc, hkc, -⟩ := hca.2
  obtain ⟨kc', hkc', -⟩ := hal.2.2 _ _ hkc
  obtain ⟨t, t1, t2⟩ := kk G p l e R s m args below meth cd H locs cells slots ls n0 s0 g1 g2 g3 g4 g5 g6 g7 g8 g9 (T.setVm ((T.vm.noted m.cls ct (.cls cT)).noted m.cls ct2 (.cls cT2))) hT X3
  refine ⟨t, xFT_step (g := F0 m pc ls st) (pc := hp2) (vm' := ((T.vm.noted m.cls ct (.cls cT)).noted m.cls ct2 (.cls cT2))) X.here ?_ t1, t2⟩
  intro Q E d acts
  rw [W.findHandler_eq (meth := meth) (code := cd) (by show ((T.setTop (F0 m pc ls st)).pushFrame _).vm.method? m = _; rw [Stand.throwing_vm]; exact X.method') X.code]
  obtain ⟨x, x2, hx, hxe, hxe2⟩ : ∃ x x2, cd.exceptionTable.toList = [x, x2] ∧ (x.startPc, x.endPc, x.handlerPc, x.catchType) = (b1, b2, hp, ct) ∧ (x2.startPc, x2.endPc, x2.handlerPc, x2.catchType) = (b3, b4, hp2, ct2) := by
    have hm := g2.2.2.2.2.2.1
    rw [hsp] at hm
    obtain ⟨x, t9, z1, z2, z3⟩ := List.map_eq_cons_iff.mp hm
    obtain ⟨x2, t8, z4, z5, z6⟩ := List.map_eq_cons_iff.mp z3
    rw [List.map_eq_nil_iff.mp z6] at z4
    exact ⟨x, x2, by rw [z1, z4], z2, z5⟩
  cases hxe
  cases hxe2
  rw [hx, xgo_class (c := cT) (cell := cell) (by simp [covers, hcov]) h0 (by rw [Stand.throwing_vm]; exact X.warmed.classLinks k2) (by rw [Stand.throwing_heap, hT]; exact e2) (fun z hz => by rw [hz] at e6; cases e6) (by rw [Stand.throwing_vm, e3]; exact ⟨_, hkc'⟩) (by rw [Stand.throwing_vm]; exact ⟨kT', hkT'⟩)]
  rw [if_neg (by rw [Stand.throwing_vm, hnofit]; decide), Stand.throwing_vm]
  rw [xgo_class (f := F0 m pc ls st) (a := xr G a) (s := ((T.setTop (F0 m pc ls st)).pushFrame (.throwing (xr G a))).setVm (T.vm.noted m.cls x.catchType (.cls cT))) (c := cT2) (cell := cell) (by simp [covers, hcov2]) h02 (X2.warmed.classLinks k22) (by show ((T.setTop (F0 m pc ls st)).pushFrame (.throwing (xr G a))).heap[xr G a]? = some cell; rw [Stand.throwing_heap, hT]; exact e2) (fun z hz => by rw [hz] at e6; cases e6) (Vm.classAt_of_assignable hfit ⟨kU', hkU'⟩) ⟨kU', hkU'⟩]
  rw [if_pos (show (((T.setTop (F0 m pc ls st)).pushFrame (.throwing (xr G a))).setVm (T.vm.noted m.cls x.catchType (.cls cT))).vm.assignable cell.cls cT2 = true from hfit)]
  exact Iff.rfl
