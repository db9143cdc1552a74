/-! an object is being thrown at pc; calls -/
/-- what is thrown at pc (with whatever operands) comes to an end of which Q holds -/
def xT (sc : xSc) (M : xM) (d : Nat) (Q : xR → xH → Prop) (h : xH) (pc : Nat) (L : List (Option xV)) (a : Nat) : Prop :=
  ∀ (G : xG) (p : Program) (l : Launch) (e : Env) (R : Room) (s : State) (m : MethodId) (args : Array Value) (below : List Frame) (meth : Method) (c : Code) (H : Heap) (locs : List Loc) (cells slots : Nat) (ls : Array Slot) (n0 s0 : Nat) (st : List Value),
    xGF G sc → xCtx G M d p l R s m meth c → xRR G h H → xls G L ls M.2.2.1 → cells + n0 = h.2.1 → slots + s0 = h.2.2 → xCM ≤ R.cells + n0 → xSM ≤ R.slots + s0 → (∀ q ∈ locs, G.s.heap.size ≤ q.base) →
    ∀ T : State, T.heap = H → Stand p l e R s m args below meth c T locs cells slots → ∃ t, Steps p.tables e below ((T.setTop (F0 m pc ls st)).pushFrame (.throwing (xr G a))) t ∧ xEnd G Q s below n0 s0 t
section XT
variable {sc : xSc} {M : xM} {d : Nat} {Q : xR → xH → Prop} {h : xH} {pc : Nat} {L : List (Option xV)} {st : List xV}
theorem x_thOut {a : Nat} (hno : xNo M pc) (hq : Q (.inr a) h) : xT sc M d Q h pc L a := by
  intro G p l e R s m args below meth cd H locs cells slots ls n0 s0 st g1 g2 g3 g4 g5 g6 g7 g8 g9 T hT X
  obtain ⟨h1, h2, h3, h4, h5⟩ := X.leaveThrown (xr G a) (g := F0 m pc ls st) rfl rfl rfl (xNo_out g2.2.2.2.2.2.1 hno) g2.2.2.2.2.1
  exact ⟨_, h1, .inr a, h, locs, cells, slots, h2, h3, h4, h5, g9, g5, g6, by show xRR G h T.heap; rw [hT]; exact g3, hq⟩
/-- the core of every call: hstep is what the instruction does up to the callee's entry -/
theorem x_core {G : xG} {p : Program} {l : Launch} {e : Env} {R : Room} {s : State} {m : MethodId} {args : Array Value} {below : List Frame} {meth : Method} {cd : Code} {H : Heap} {locs : List Loc} {cells slots : Nat} {ls : Array Slot} {n0 s0 : Nat}
    (g1 : xGF G sc) (g2 : xCtx G M (d + 1) p l R s m meth cd) (g3 : xRR G h H) (g4 : xls G L ls M.2.2.1) (g5 : cells + n0 = h.2.1) (g6 : slots + s0 = h.2.2) (g7 : xCM ≤ R.cells + n0) (g8 : xSM ≤ R.slots + s0) (g9 : ∀ q ∈ locs, G.s.heap.size ≤ q.base)
    {T : State} (hT : T.heap = H) {y : MethodName} {Y : xM} (hy : xY y Y) {mk : MethodId} (hn : s.methodNamed? y = some mk) {ig : Instr} {len : Nat} (hd : decode M.2.1 pc = .ok (ig, len)) {av : List xV} {g : JFrame}
    (hstep : ∃ vm1, Stand p l e R s m args below meth cd (T.setVm vm1) locs cells slots ∧ ∀ target, (∀ acts, Steps p.tables e below (doInvoke e ((T.setVm vm1).setTop (F0 m pc ls (st.map (xv G)))) acts mk (av.map (xv G)).toArray).1 target) → Steps p.tables e below (T.setTop g) target)
    {Q' : xR → xH → Prop} (ha : (xargs av).length ≤ Y.2.2.1) (hroom : (st.map xcat).sum + (Y.2.2.1 + 11) ≤ 46) (hq : xW sc Y d Q' h 0 (xent av Y.2.2.1) [])
    (kr : ∀ v h', Q' (.inl v) h' → xW sc M (d + 1) Q h' (pc + len) L (v.toList ++ st)) (kt : ∀ a h', Q' (.inr a) h' → xT sc M (d + 1) Q h' pc L a) :
    ∃ t, Steps p.tables e below (T.setTop g) t ∧ xEnd G Q s below n0 s0 t := by
  obtain ⟨vm1, X1, hs⟩ := hstep
  obtain ⟨r, h', T', locs', cells', slots', w1, w2, w3, w4, w5, w6, w7⟩ := x_enter g1 g2 g3 g4 g5 g6 g7 g8 g9 hT X1 hy hn (by rw [g2.2.1]; exact hd) ha hroom hq
  cases r with
  | inl v =>
    have K := kr v h' w1 G p l e R s m args below meth cd T'.heap locs' cells' slots' ls n0 s0 g1 g2 w2 g4 w4 w5 g7 g8 w6
    have e9 : (v.toList ++ st).map (xv G) = (v.map (xv G)).toList ++ st.map (xv G) := by cases v <;> rfl
    rw [e9] at K
    obtain ⟨t, t1, t2⟩ := K T' rfl w3
    exact ⟨t, hs t fun acts => (w7 acts).trans t1, t2⟩
  | inr a =>
    obtain ⟨t, t1, t2⟩ := kt a h' w1 G p l e R s m args below meth cd T'.heap locs' cells' slots' ls n0 s0 (st.map (xv G)) g1 g2 w2 g4 w4 w5 g7 g8 w6 T' rfl w3
    exact ⟨t, hs t fun acts => (w7 acts).trans t1, t2⟩
def xne (y : MethodName) : Prop := y.cls ≠ "java/lang/invoke/MethodHandle" ∧ y.cls ≠ "java/lang/invoke/VarHandle"
def xpar (y : MethodName) (n : Nat) : Prop := (parseMethodDescriptor y.desc).map (fun d => d.parameters.length) = some n
theorem xpar_len {y : MethodName} {n : Nat} (hp : xpar y n) {sig : MethodDescriptor} (h : parseMethodDescriptor y.desc = some sig) : n = sig.parameters.length := by
  unfold xpar at hp
  rw [h] at hp
  exact (Option.some.inj hp).symm
def xLm (own : String) (idx : Nat) (y : MethodName) : Prop := Cond.methodLink own idx y ∈ lw_tbl ∨ ∃ host : String, Cond.methodLinkNest own idx y host ∈ lw_tbl
def xCt (own : String) (idx : Nat) (y : MethodName) (n : Nat) : Prop := xne y ∧ xpar y n ∧ Cond.static y ∈ lw_tbl ∧ Cond.initialized y.cls ∈ lw_tbl ∧ xLm own idx y
def xCv (own : String) (idx c : Nat) (y : MethodName) (n : Nat) : Prop := xne y ∧ xpar y n ∧ Cond.instanceMethod y ∈ lw_tbl ∧ (∃ q : vw_C, xCl[c]? = some q ∧ Cond.selects q.1 y y ∈ lw_tbl) ∧ xLm own idx y
def xCi (own : String) (idx : Nat) (y : MethodName) (n : Nat) : Prop := y.name = "<init>" ∧ xne y ∧ xpar y n ∧ Cond.instanceMethod y ∈ lw_tbl ∧ xLm own idx y
theorem x_invs {idx : Nat} {y : MethodName} {Y : xM} {av stk : List xV} {Q' : xR → xH → Prop} (hd : decode M.2.1 pc = .ok (.invokestatic idx, 3)) (hc : xCt M.1 idx y av.length) (hy : xY y Y) (hs : stk = av.reverse ++ st) (ha : (xargs av).length ≤ Y.2.2.1) (hroom : (st.map xcat).sum + (Y.2.2.1 + 11) ≤ 46) (hq : xW sc Y d Q' h 0 (xent av Y.2.2.1) [])
    (kr : ∀ v h', Q' (.inl v) h' → xW sc M (d + 1) Q h' (pc + 3) L (v.toList ++ st)) (kt : ∀ a h', Q' (.inr a) h' → xT sc M (d + 1) Q h' pc L a) : xW sc M (d + 1) Q h pc L stk := by
  intro G p l e R s m args below meth cd H locs cells slots ls n0 s0 g1 g2 g3 g4 g5 g6 g7 g8 g9 T hT X
  have hF : xFS G s := g2.2.2.2.2.2.2.2.2.1
  obtain ⟨c1, c2, c3, c4, c5⟩ := hc
  have hcode := hy.2.2.2
  obtain ⟨mk, hn⟩ : ∃ mk, s.methodNamed? y = some mk := by
    rcases hcode with ⟨-, hc⟩ | hc
    · exact Cond.code_named (hF.2.2 _ hc (by rfl) #[])
    · obtain ⟨m9, -, -, h0, -⟩ := Cond.codeWith_spec (hF.2.2 _ hc (by rfl) #[])
      exact ⟨m9, h0⟩
  obtain ⟨methk, ck, k1, k2, k3, k4, k5, k6, k7, k8⟩ := xY_code hy hF.2.2 hn
  obtain ⟨kP, hkP, -⟩ := className_of_methodNamed hn
  have hinitP : kP.init = .initialized := Cond.initialized_spec (findClass_of_methodNamed hn) hkP (hF.2.2 _ c4 (by rfl) args)
  have hst : methk.isStatic = true := Cond.static_spec hn k1 (hF.2.2 _ c3 (by rfl) args)
  have hl : (av.map (xv G)).length = methk.sig.parameters.length := by rw [List.length_map]; exact xpar_len c2 k8
  have hsk : stk.map (xv G) = (av.map (xv G)).reverse ++ st.map (xv G) := by rw [hs, List.map_append, List.map_reverse]
  refine x_core (l := l) (args := args) (av := av) g1 g2 g3 g4 g5 g6 g7 g8 g9 hT hy hn hd ?_ ha hroom hq kr kt
  rcases c5 with c5 | ⟨host, c5⟩
  · exact X.invokestatic g2.1 g2.2.2.2.2.2.2.2.1 (hF.2.2 _ c5 (by rfl) _) hn k1 hst hkP hinitP c1 (g := F0 m pc ls (stk.map (xv G))) rfl (argsL := av.map (xv G)) (rest := st.map (xv G)) hl hsk (by rw [g2.2.1]; exact hd)
  · exact X.invokestaticNest g2.1 g2.2.2.2.2.2.2.2.1 (hF.2.2 _ c5 (by rfl) _) hn k1 hst hkP hinitP c1 (g := F0 m pc ls (stk.map (xv G))) rfl (argsL := av.map (xv G)) (rest := st.map (xv G)) hl hsk (by rw [g2.2.1]; exact hd)
theorem x_invv {idx a c : Nat} {fs : List xV} {y : MethodName} {Y : xM} {av stk : List xV} {Q' : xR → xH → Prop} (hd : decode M.2.1 pc = .ok (.invokevirtual idx, 3)) (hc : xCv M.1 idx c y av.length) (hy : xY y Y) (hob : xat sc h a = some (.inl (c, fs))) (hs : stk = av.reverse ++ vA a :: st) (ha : (xargs (vA a :: av)).length ≤ Y.2.2.1) (hroom : (st.map xcat).sum + (Y.2.2.1 + 11) ≤ 46) (hq : xW sc Y d Q' h 0 (xent (vA a :: av) Y.2.2.1) [])
    (kr : ∀ v h', Q' (.inl v) h' → xW sc M (d + 1) Q h' (pc + 3) L (v.toList ++ st)) (kt : ∀ a h', Q' (.inr a) h' → xT sc M (d + 1) Q h' pc L a) : xW sc M (d + 1) Q h pc L stk := by
  intro G p l e R s m args below meth cd H locs cells slots ls n0 s0 g1 g2 g3 g4 g5 g6 g7 g8 g9 T hT X
  have hF : xFS G s := g2.2.2.2.2.2.2.2.2.1
  obtain ⟨c1, c2, c3, ⟨q, hq0, c4⟩, c5⟩ := hc
  obtain ⟨cell, q2, e1, e2, e3, e4, e5, e6, e7, e8⟩ : xobj G H a c fs := x_look g1 g3 hob
  cases hq0.symm.trans e1
  have hca := xCA_moved hF.1 (g1.1 c q hq0).1
  obtain ⟨mk, methM, hn, hmethM, hstM, habM⟩ := Cond.instanceMethod_spec (hF.2.2 _ c3 (by rfl) args)
  obtain ⟨methk, ck, k1, k2, k3, k4, k5, k6, k7, k8⟩ := xY_code hy hF.2.2 hn
  cases hmethM.symm.trans k1
  obtain ⟨cS, r2, m2, q1, w2, w3, w4, kP, hkP, hkPi⟩ := Cond.selects_spec (hF.2.2 _ c4 (by rfl) args)
  cases hca.1.symm.trans q1
  cases (State.methodFound?_of_named hn c1).symm.trans w2
  cases hn.symm.trans w3
  have hselP : selectMethod e.platform s.vm cell.cls mk = .method mk := by rw [Launch.admits_selectMethod X.admits, e3]; exact w4
  have hl : (av.map (xv G)).length = methM.sig.parameters.length := by rw [List.length_map]; exact xpar_len c2 k8
  have hsk : stk.map (xv G) = (av.map (xv G)).reverse ++ .ref (xr G a) :: st.map (xv G) := by rw [hs, List.map_append, List.map_reverse]; rfl
  refine x_core (l := l) (args := args) (av := vA a :: av) g1 g2 g3 g4 g5 g6 g7 g8 g9 hT hy hn hd ?_ ha hroom hq kr kt
  rcases c5 with c5 | ⟨host, c5⟩
  · exact X.invokevirtual g2.1 g2.2.2.2.2.2.2.2.1 (hF.2.2 _ c5 (by rfl) _) hn k1 hstM hkP hkPi c1 (a := xr G a) (cell := cell) (by rw [hT]; exact e2) (fun z hz => by rw [hz] at e6; cases e6) hselP k1 habM hkP hkPi (g := F0 m pc ls (stk.map (xv G))) rfl (argsL := av.map (xv G)) (rest := st.map (xv G)) hl hsk (by rw [g2.2.1]; exact hd)
  · exact X.invokevirtualNest g2.1 g2.2.2.2.2.2.2.2.1 (hF.2.2 _ c5 (by rfl) _) hn k1 hstM hkP hkPi c1 (a := xr G a) (cell := cell) (by rw [hT]; exact e2) (fun z hz => by rw [hz] at e6; cases e6) hselP k1 habM hkP hkPi (g := F0 m pc ls (stk.map (xv G))) rfl (argsL := av.map (xv G)) (rest := st.map (xv G)) hl hsk (by rw [g2.2.1]; exact hd)
/-- a constructor -/
theorem x_invi {idx a : Nat} {y : MethodName} {Y : xM} {av stk : List xV} {Q' : xR → xH → Prop} (hd : decode M.2.1 pc = .ok (.invokespecial idx, 3)) (hc : xCi M.1 idx y av.length) (hy : xY y Y) (hy0 : Cond.code y Y.2.1 Y.2.2.1 none ∈ lw_tbl) (hs : stk = av.reverse ++ vA a :: st) (ha : (xargs (vA a :: av)).length ≤ Y.2.2.1) (hroom : (st.map xcat).sum + (Y.2.2.1 + 11) ≤ 46) (hq : xW sc Y d Q' h 0 (xent (vA a :: av) Y.2.2.1) [])
    (kr : ∀ v h', Q' (.inl v) h' → xW sc M (d + 1) Q h' (pc + 3) L (v.toList ++ st)) (kt : ∀ a h', Q' (.inr a) h' → xT sc M (d + 1) Q h' pc L a) : xW sc M (d + 1) Q h pc L stk := by
  intro G p l e R s m args below meth cd H locs cells slots ls n0 s0 g1 g2 g3 g4 g5 g6 g7 g8 g9 T hT X
  have hF : xFS G s := g2.2.2.2.2.2.2.2.2.1
  obtain ⟨c0, c1, c2, c3, c5⟩ := hc
  have hpl : e.platform.magicAccessors = ({} : Platform).magicAccessors := by rw [X.admits.platform]
  have hlen : ∀ sig, parseMethodDescriptor y.desc = some sig → (av.map (xv G)).length = sig.parameters.length := fun sig h => by rw [List.length_map]; exact xpar_len c2 h
  have hsk : (F0 m pc ls (stk.map (xv G))).stack = (av.map (xv G)).reverse ++ .ref (xr G a) :: st.map (xv G) := by
    show stk.map (xv G) = _
    rw [hs, List.map_append, List.map_reverse]; rfl
  rcases c5 with c5 | ⟨host, c5⟩
  · obtain ⟨mk, methM, cM, kP, vm1, hn, -, -, -, -, -, -, -, hW1, hstep⟩ := Steps.initColdArgs (e := e) X.here g2.1 X.warmed hpl g2.2.2.2.2.2.2.2.1 c0 c1 (hF.2.2 _ c5 (by rfl) args) (hF.2.2 _ c3 (by rfl) args) (hF.2.2 _ hy0 (by rfl) args) (f := F0 m pc ls (stk.map (xv G))) rfl hlen hsk (by rw [g2.2.1]; exact hd)
    exact x_core (av := vA a :: av) g1 g2 g3 g4 g5 g6 g7 g8 g9 hT hy hn hd ⟨vm1, X.noted hW1, hstep⟩ ha hroom hq kr kt
  · obtain ⟨mk, methM, cM, kP, vm1, hn, -, -, -, -, -, -, -, hW1, hstep⟩ := Steps.initColdArgsNest (e := e) X.here g2.1 X.warmed hpl g2.2.2.2.2.2.2.2.1 c0 c1 (hF.2.2 _ c5 (by rfl) args) (hF.2.2 _ c3 (by rfl) args) (hF.2.2 _ hy0 (by rfl) args) (f := F0 m pc ls (stk.map (xv G))) rfl hlen hsk (by rw [g2.2.1]; exact hd)
    exact x_core (av := vA a :: av) g1 g2 g3 g4 g5 g6 g7 g8 g9 hT hy hn hd ⟨vm1, X.noted hW1, hstep⟩ ha hroom hq kr kt
/-- Object.<init> -/
theorem x_obj {idx a : Nat} (hd : decode M.2.1 pc = .ok (.invokespecial idx, 3)) (hl : Cond.methodLink M.1 idx Lib.objectInit ∈ lw_tbl) (hi : Cond.instanceMethod Lib.objectInit ∈ lw_tbl) (hc : Cond.code Lib.objectInit ⟨#[0xb1]⟩ 1 none ∈ lw_tbl) (hroom : (st.map xcat).sum + 12 ≤ 46) (kk : xW sc M (d + 1) Q h (pc + 3) L st) : xW sc M (d + 1) Q h pc L (vA a :: st) := by
  intro G p l e R s m args below meth cd H locs cells slots ls n0 s0 g1 g2 g3 g4 g5 g6 g7 g8 g9
  have hF : xFS G s := g2.2.2.2.2.2.2.2.2.1
  have hsum : (st.map (xv G)).map (fun v => v.category) = st.map xcat := by rw [List.map_map]; exact List.map_congr_left fun v _ => xcat_v G v
  have z1 := g2.2.2.2.2.2.2.2.2.2.1
  have z2 := g2.2.2.2.2.2.2.2.2.2.2.1
  exact W.objInit g2.1 g2.2.1 g2.2.2.2.2.2.2.2.1 (hF.2.2 _ hl (by rfl) _) (hF.2.2 _ hi (by rfl) _) (hF.2.2 _ hc (by rfl) _) rfl (g4.1.trans g2.2.2.1.symm) rfl hd (by omega) (by show 2 * 0 + ((st.map (xv G)).map (fun v => v.category)).sum + 12 ≤ _; rw [hsum]; omega) (kk G p l e R s m args below meth cd H locs cells slots ls n0 s0 g1 g2 g3 g4 g5 g6 g7 g8 g9)
end XT
