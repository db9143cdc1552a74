/-! inherited and abstract methods; super.m(); interfaces -/
def xCu (own : String) (idx c : Nat) (x y : MethodName) (owner : String) (n : Nat) : Prop := Cond.methodLink own idx x ∈ lw_tbl ∧ Cond.sameMethod x.cls owner x.name x.desc ∈ lw_tbl ∧ (owner ≠ "java/lang/invoke/MethodHandle" ∧ owner ≠ "java/lang/invoke/VarHandle") ∧ ((Cond.declares ⟨owner, x.name, x.desc⟩ ∈ lw_tbl) ∨ (Cond.instanceMethod ⟨owner, x.name, x.desc⟩ ∈ lw_tbl ∧ ∃ b m r, Cond.code ⟨owner, x.name, x.desc⟩ b m r ∈ lw_tbl)) ∧ (∃ q : vw_C, xCl[c]? = some q ∧ Cond.selects q.1 x y ∈ lw_tbl) ∧ Cond.instanceMethod y ∈ lw_tbl ∧ xpar x n
def xCsu (own : String) (idx : Nat) (y : MethodName) (n : Nat) : Prop := Cond.methodLink own idx y ∈ lw_tbl ∧ Cond.sameMethod y.cls y.cls y.name y.desc ∈ lw_tbl ∧ Cond.superclass own y.cls ∈ lw_tbl ∧ Cond.instanceMethod y ∈ lw_tbl ∧ y.name ≠ "<init>" ∧ xpar y n
def xCf (own : String) (idx c : Nat) (x y : MethodName) (n : Nat) : Prop := Cond.methodLink own idx x ∈ lw_tbl ∧ Cond.declares x ∈ lw_tbl ∧ (Cond.interfaceMethod x.cls x.cls x.name x.desc ∈ lw_tbl ∧ xGood (Cond.interfaceMethod x.cls x.cls x.name x.desc) = true) ∧ (∃ q : vw_C, xCl[c]? = some q ∧ Cond.selects q.1 x y ∈ lw_tbl ∧ Cond.unhidden q.1 x.name x.desc ∈ lw_tbl ∧ Cond.castable q.1 x.cls ∈ lw_tbl) ∧ Cond.instanceMethod y ∈ lw_tbl ∧ Cond.publicMethod y ∈ lw_tbl ∧ xne x ∧ xpar x n
section XU
variable {sc : xSc} {M : xM} {d : Nat} {Q : xR → xH → Prop} {h : xH} {pc : Nat} {L : List (Option xV)} {st : List xV}
theorem x_invu {idx a c : Nat} {fs : List xV} {x y : MethodName} {owner : String} {Y : xM} {av stk : List xV} {Q' : xR → xH → Prop} (hd : decode M.2.1 pc = .ok (.invokevirtual idx, 3)) (hc : xCu M.1 idx c x y owner av.length) (hy : xY y Y) (hob : xat sc h a = some (.inl (c, fs))) (hs : stk = av.reverse ++ vA a :: st) (ha : (xargs (vA a :: av)).length ≤ Y.2.2.1) (hroom : (st.map xcat).sum + (Y.2.2.1 + 11) ≤ 46) (hq : xW sc Y d Q' h 0 (xent (vA a :: av) Y.2.2.1) [])
    (kr : ∀ v h', Q' (.inl v) h' → xW sc M (d + 1) Q h' (pc + 3) L (v.toList ++ st)) (kt : ∀ a h', Q' (.inr a) h' → xT sc M (d + 1) Q h' pc L a) : xW sc M (d + 1) Q h pc L stk := by
  intro G p l e R s m args below meth cd H locs cells slots ls n0 s0 g1 g2 g3 g4 g5 g6 g7 g8 g9 T hT X
  have hF : xFS G s := g2.2.2.2.2.2.2.2.2.1
  obtain ⟨c1, c2, c3, c4, ⟨q, hq0, c5⟩, c6, c7⟩ := hc
  obtain ⟨cell, q2, e1, e2, e3, e4, e5, e6, e7, e8⟩ : xobj G H a c fs := x_look g1 g3 hob
  cases hq0.symm.trans e1
  have hca := xCA_moved hF.1 (g1.1 c q hq0).1
  have hd0 : va_Decl s ⟨owner, x.name, x.desc⟩ := by
    rcases c4 with c4 | ⟨c4, b, mm, r, c4'⟩
    · exact va_Decl.abs (hF.2.2 _ c4 (by rfl) _)
    · exact va_Decl.of (hF.2.2 _ c4 (by rfl) args) (hF.2.2 _ c4' (by rfl) args)
  obtain ⟨r0, r, hn0, hrm, hstR, hsigR⟩ := hd0
  have hsame := hF.2.2 _ c2 (by rfl) args
  obtain ⟨cn, ck, r1, hcn, hck, hni, hf, hn1⟩ := Cond.sameMethod_found hsame
  cases hn0.symm.trans hn1
  obtain ⟨mk, methM, hn, hmethM, -, habM⟩ := Cond.instanceMethod_spec (hF.2.2 _ c6 (by rfl) args)
  obtain ⟨cS, r2, m2, q1, w2, w3, w4, kP, hkP, hkPi⟩ := Cond.selects_spec (hF.2.2 _ c5 (by rfl) args)
  cases hca.1.symm.trans q1
  cases hf.symm.trans w2
  cases hn.symm.trans w3
  have hselP : selectMethod e.platform s.vm cell.cls r0 = .method mk := by rw [Launch.admits_selectMethod X.admits, e3]; exact w4
  have hl : (av.map (xv G)).length = r.sig.parameters.length := by rw [List.length_map]; exact xpar_len c7 hsigR
  have hsk : stk.map (xv G) = (av.map (xv G)).reverse ++ .ref (xr G a) :: st.map (xv G) := by rw [hs, List.map_append, List.map_reverse]; rfl
  refine x_core (l := l) (args := args) (av := vA a :: av) g1 g2 g3 g4 g5 g6 g7 g8 g9 hT hy hn hd ?_ ha hroom hq kr kt
  exact X.invokevirtualUp g2.1 g2.2.2.2.2.2.2.2.1 (hF.2.2 _ c1 (by rfl) _) hsame c3 hn0 hrm hstR (a := xr G a) (cell := cell) (by rw [hT]; exact e2) (fun z hz => by rw [hz] at e6; cases e6) hselP hmethM habM hkP hkPi (g := F0 m pc ls (stk.map (xv G))) rfl (argsL := av.map (xv G)) (rest := st.map (xv G)) hl hsk (by rw [g2.2.1]; exact hd)
theorem x_invsu {idx a c : Nat} {fs : List xV} {y : MethodName} {Y : xM} {av stk : List xV} {Q' : xR → xH → Prop} (hd : decode M.2.1 pc = .ok (.invokespecial idx, 3)) (hc : xCsu M.1 idx y av.length) (hy : xY y Y) (hob : xat sc h a = some (.inl (c, fs))) (hs : stk = av.reverse ++ vA a :: st) (ha : (xargs (vA a :: av)).length ≤ Y.2.2.1) (hroom : (st.map xcat).sum + (Y.2.2.1 + 11) ≤ 46) (hq : xW sc Y d Q' h 0 (xent (vA a :: av) Y.2.2.1) [])
    (kr : ∀ v h', Q' (.inl v) h' → xW sc M (d + 1) Q h' (pc + 3) L (v.toList ++ st)) (kt : ∀ a h', Q' (.inr a) h' → xT sc M (d + 1) Q h' pc L a) : xW sc M (d + 1) Q h pc L stk := by
  intro G p l e R s m args below meth cd H locs cells slots ls n0 s0 g1 g2 g3 g4 g5 g6 g7 g8 g9 T hT X
  have hF : xFS G s := g2.2.2.2.2.2.2.2.2.1
  obtain ⟨c1, c2, c3, c4, c5, c6⟩ := hc
  obtain ⟨cell, q, e1, e2, e3, e4, e5, e6, e7, e8⟩ : xobj G H a c fs := x_look g1 g3 hob
  have hca := xCA_moved hF.1 (g1.1 c q e1).1
  obtain ⟨kB, hkB, -⟩ := hca.2
  obtain ⟨mk, methM, hn, hmethM, hstM, habM⟩ := Cond.instanceMethod_spec (hF.2.2 _ c4 (by rfl) args)
  obtain ⟨methk, ck, k1, k2, k3, k4, k5, k6, k7, k8⟩ := xY_code hy hF.2.2 hn
  cases hmethM.symm.trans k1
  obtain ⟨ps, dk, kp, hps, hdk, hkp, hsuper, -, -, hnid⟩ := Cond.superclass_spec g2.2.2.2.2.2.2.2.1 (hF.2.2 _ c3 (by rfl) args)
  have hpm : ps = mk.cls := Option.some.inj (hps.symm.trans (findClass_of_methodNamed hn))
  have hsub : s.vm.isSubclass ps mk.cls = true := by rw [hpm]; simp [Vm.isSubclass, Vm.isSubclassAux]
  have hl : (av.map (xv G)).length = methM.sig.parameters.length := by rw [List.length_map]; exact xpar_len c6 k8
  have hsk : stk.map (xv G) = (av.map (xv G)).reverse ++ .ref (xr G a) :: st.map (xv G) := by rw [hs, List.map_append, List.map_reverse]; rfl
  refine x_core (l := l) (args := args) (av := vA a :: av) g1 g2 g3 g4 g5 g6 g7 g8 g9 hT hy hn hd ?_ ha hroom hq kr kt
  obtain ⟨vm1, X1, hst1⟩ := X.invokespecialUp g2.1 g2.2.2.2.2.2.2.2.1 (hF.2.2 _ c1 (by rfl) _) (hF.2.2 _ c2 (by rfl) _) hn hmethM hstM habM c5 hdk hnid hps hsuper hsub (a := xr G a) (cell := cell) (by rw [hT]; exact e2) (fun z hz => by rw [hz] at e6; cases e6) (by rw [e3]; exact hkB) (g := F0 m pc ls (stk.map (xv G))) rfl (argsL := av.map (xv G)) (rest := st.map (xv G)) hl hsk (by rw [g2.2.1]; exact hd)
  exact ⟨vm1, X1, fun target ht => hst1 target (ht _)⟩
theorem x_invf {idx cnt a c : Nat} {fs : List xV} {x y : MethodName} {Y : xM} {av stk : List xV} {Q' : xR → xH → Prop} (hd : decode M.2.1 pc = .ok (.invokeinterface idx cnt, 5)) (hc : xCf M.1 idx c x y av.length) (hy : xY y Y) (hob : xat sc h a = some (.inl (c, fs))) (hs : stk = av.reverse ++ vA a :: st) (ha : (xargs (vA a :: av)).length ≤ Y.2.2.1) (hroom : (st.map xcat).sum + (Y.2.2.1 + 11) ≤ 46) (hq : xW sc Y d Q' h 0 (xent (vA a :: av) Y.2.2.1) [])
    (kr : ∀ v h', Q' (.inl v) h' → xW sc M (d + 1) Q h' (pc + 5) L (v.toList ++ st)) (kt : ∀ a h', Q' (.inr a) h' → xT sc M (d + 1) Q h' pc L a) : xW sc M (d + 1) Q h pc L stk := by
  intro G p l e R s m args below meth cd H locs cells slots ls n0 s0 g1 g2 g3 g4 g5 g6 g7 g8 g9 T hT X
  have hF : xFS G s := g2.2.2.2.2.2.2.2.2.1
  obtain ⟨c1, c2, ⟨c3, c3'⟩, ⟨q, hq0, c4, c5, c6⟩, c7, c8, c9, c10⟩ := hc
  obtain ⟨cell, q2, e1, e2, e3, e4, e5, e6, e7, e8⟩ : xobj G H a c fs := x_look g1 g3 hob
  cases hq0.symm.trans e1
  have hca := xCA_moved hF.1 (g1.1 c q hq0).1
  obtain ⟨kB, hkB, -⟩ := hca.2
  obtain ⟨r0, r, hn0, hrm, hstR, hsigR⟩ := Cond.declares_spec (hF.2.2 _ c2 (by rfl) args)
  obtain ⟨cL, kL, r1, hcL, hkL, hiL, hfoundL, hn1⟩ := Cond.interfaceMethod_spec (hF.2.2 _ c3 c3' args)
  cases hn0.symm.trans hn1
  have hr0cls : r0.cls = cL := Option.some.inj ((findClass_of_methodNamed hn0).symm.trans hcL)
  obtain ⟨hnameR, hdescR⟩ := name_of_methodNamed hn0 hrm
  obtain ⟨mk, methM, hn, hmethM, -, habM⟩ := Cond.instanceMethod_spec (hF.2.2 _ c7 (by rfl) args)
  obtain ⟨cS, r2, m2, q1, w2, w3, w4, -⟩ := Cond.selects_spec (hF.2.2 _ c4 (by rfl) args)
  cases hca.1.symm.trans q1
  cases hfoundL.symm.trans w2
  cases hn.symm.trans w3
  have hselP : selectMethod e.platform s.vm cell.cls r0 = .method mk := by rw [Launch.admits_selectMethod X.admits, e3]; exact w4
  have hpubM : hasFlag methM.accessFlags Acc.public_ = true := Cond.publicMethod_spec hn hmethM (hF.2.2 _ c8 (by rfl) args)
  have hway : ((cell.cls :: s.vm.superclasses cell.cls).any fun k => (declaredIn s.vm r.name r.desc k).any fun (_, z) => z.isPrivate || z.isStatic) = false := by
    rw [hnameR, hdescR, e3]; exact Cond.unhidden_spec hca.1 (hF.2.2 _ c5 (by rfl) args)
  obtain ⟨c0, t3, y1, y2, y3⟩ := Cond.castable_spec (hF.2.2 _ c6 (by rfl) args)
  cases hca.1.symm.trans y1
  cases hcL.symm.trans y2
  have hl : (av.map (xv G)).length = r.sig.parameters.length := by rw [List.length_map]; exact xpar_len c10 hsigR
  have hsk : stk.map (xv G) = (av.map (xv G)).reverse ++ .ref (xr G a) :: st.map (xv G) := by rw [hs, List.map_append, List.map_reverse]; rfl
  refine x_core (l := l) (args := args) (av := vA a :: av) g1 g2 g3 g4 g5 g6 g7 g8 g9 hT hy hn hd ?_ ha hroom hq kr kt
  exact X.invokeinterface g2.1 g2.2.2.2.2.2.2.2.1 (hF.2.2 _ c1 (by rfl) _) hn0 hrm hstR (by rw [hr0cls]; exact hkL) hiL c9 (a := xr G a) (cell := cell) (kcell := kB) (by rw [hT]; exact e2) (fun z hz => by rw [hz] at e6; cases e6) (by rw [e3]; exact hkB) (by rw [hr0cls, e3]; exact y3) hselP hmethM hway hpubM habM (g := F0 m pc ls (stk.map (xv G))) rfl (argsL := av.map (xv G)) (rest := st.map (xv G)) hl hsk (by rw [g2.2.1]; exact hd)
end XU
