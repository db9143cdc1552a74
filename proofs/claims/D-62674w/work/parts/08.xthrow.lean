/-! throwing a new exception; catching -/
/-- the invocation as if it began now -/
theorem x_rebase {p : Program} {l : Launch} {e : Env} {R : Room} {s : State} {m : MethodId} {args : Array Value} {below : List Frame} {meth : Method} {c : Code} {T : State} {locs : List Loc} {cells slots : Nat} (X : Stand p l e R s m args below meth c T locs cells slots) (hc : cells ≤ R.cells) (hs : slots ≤ R.slots) :
    Stand p l e { R with cells := R.cells - cells, slots := R.slots - slots } ({ s with heap := T.heap, slotsUsed := T.slotsUsed } : State) m args below meth c T [] 0 0 := by
  have hroom : ({ s with heap := T.heap, slotsUsed := T.slotsUsed } : State).hasRoom e.platform { R with cells := R.cells - cells, slots := R.slots - slots } = true := by
    have h1 := X.room
    have h2 := X.heapSize
    have h3 := X.used
    have h4 := X.book
    unfold State.hasRoom at h1 ⊢
    simp only [Bool.and_eq_true, decide_eq_true_eq] at h1 ⊢
    refine ⟨⟨⟨⟨h1.1.1.1.1, h1.1.1.1.2⟩, ?_⟩, ?_⟩, h4⟩
    · have := h1.1.1.2
      show T.heap.size + (R.cells - cells) ≤ _
      omega
    · have := h1.1.2
      show T.slotsUsed + (R.slots - slots) ≤ _
      omega
  refine ⟨X.admits, X.cas, X.clock, X.frames, hroom, X.hears, X.method, X.code, X.here, X.tail, X.warmed, X.limits, X.bytes, ?_⟩
  refine ⟨X.same.1, Nat.le_refl _, Nat.le_add_right _ _, ?_, ?_, fun a cc h => ⟨cc, h, rfl, rfl, fun _ _ => rfl⟩⟩
  · show T.slotsUsed = T.slotsUsed + ((T.heap.toList.drop T.heap.size).map (·.slots.size)).sum
    rw [List.drop_eq_nil_of_le (by simp)]
    rfl
  · show ((T.heap.toList.drop T.heap.size).map (·.slots.size)).sum ≤ 0
    rw [List.drop_eq_nil_of_le (by simp)]
    exact Nat.le_refl _
theorem x_sf {s V : State} {F : List Frame} {a : Heap} {b : Nat} (q : V = ({ s.setFrames F with heap := a, slotsUsed := b } : State)) (G : List Frame) (x : Heap) (y : Nat) : ({ V.setFrames G with heap := x, slotsUsed := y } : State) = ({ s.setFrames G with heap := x, slotsUsed := y } : State) := by
  subst q
  show ({ (s.setFrames F).setFrames G with heap := x, slotsUsed := y } : State) = _
  rw [State.setFrames_setFrames]
theorem x_unbase {s T U : State} {locs L : List Loc} {cells slots k n : Nat} (h1 : s.sameButNew (T.setVm s.vm) locs cells slots) (h2 : ({ s with heap := T.heap, slotsUsed := T.slotsUsed } : State).sameButNew ({ U with vm := s.vm } : State) L k n) : s.sameButNew ({ U with vm := s.vm } : State) (locs ++ L) (cells + k) (slots + n) := by
  refine h1.trans ?_
  obtain ⟨e1, e2⟩ := h2
  exact ⟨e1.trans (x_sf h1.1 _ _ _).symm, e2⟩
theorem x_isRef {C n d : String} {A : Nat → Prop} {U : State} (h : va_Zq C n d A U U.heap) (args : Array Value) : (Cond.isRef (.static C n d)).before args U = true := by
  have key : ∀ v : Value, va_Z C n d v A U U.heap → (Term.static C n d).eval args U none [] U = some v := by
    intro v hv
    obtain ⟨cf, kf, fi, f, a, cell, h1, h2, h3, h4, h5, h6, h7, h8⟩ := hv
    simp [Term.eval, State.fieldNamed?, h1, h2, h4, h5, h6, h7]
  rcases h with h | ⟨t, h⟩
  · simp [Cond.before, Cond.holds, Cond.value, key _ h]
  · simp [Cond.before, Cond.holds, Cond.value, key _ h]
/-- the pool entry ic of own is the constructor of class c, an exception whose superclasses up to Throwable are names -/
def xEx (own : String) (ic c : Nat) (names : List String) : Prop := ∃ q : vw_C, xCl[c]? = some q ∧ q.2.2 = 0 ∧ Bundle.fit q.1 = true ∧ (∀ n ∈ names, Bundle.fit n = true) ∧ ∀ w ∈ Bundle.ownAtoms0 own ic q.1 names, (w ∈ lw_tbl ∧ xGood w = true) ∨ w = .isRef (.static "java/lang/Throwable" "UNASSIGNED_STACK" "[Ljava/lang/StackTraceElement;") ∨ w = .isRef (.static "java/lang/Throwable" "SUPPRESSED_SENTINEL" "Ljava/util/List;") ∨ (w ∈ lw_tbl ∧ ∃ C n d, w = .laysStatic C n d)
theorem x_laysStatic {A U : State} (hal : A.vm.Alike U.vm) (hh : ∀ a, a < A.heap.size → U.heap[a]? = A.heap[a]?) {C n d : String} (hl : (Cond.laysStatic C n d).before #[] A = true) (args : Array Value) : (Cond.laysStatic C n d).before args U = true := by
  obtain ⟨c, k, i, f, a, cell, hc, hi, hst, ha, hcell, hs, hcls, hlt, hty⟩ := Cond.laysStatic_spec hl
  obtain ⟨k', hi', hek⟩ := State.fieldFound?_setVm (s := A) hal hi
  have hi2 : U.fieldFound? C n d = some (c, k', i, f) := by simpa only [State.fieldFound?, State.vm_setVm] using hi'
  exact Cond.laysStatic_of (by rw [hal.findClass]; exact hc) hi2 hst (by rw [hek]; exact ha) (by rw [hh a (Array.getElem?_eq_some_iff.mp hcell).1]; exact hcell) hs hcls hlt (by rw [hek]; exact hty)
theorem x_throwNew {sc : xSc} {M : xM} {d : Nat} {Q : xR → xH → Prop} {h : xH} {pc : Nat} {L : List (Option xV)} {st : List xV} {idx ic c : Nat} {names : List String} (hd0 : decode M.2.1 pc = .ok (.new idx, 3)) (hd3 : decode M.2.1 (pc + 3) = .ok (.dup, 1)) (hd4 : decode M.2.1 (pc + 4) = .ok (.invokespecial ic, 3)) (hd7 : decode M.2.1 (pc + 7) = .ok (.athrow, 1)) (hno : xNo M (pc + 7)) (hl : xNw M.1 idx c 6) (hx : xEx M.1 ic c names) (hn : names.length ≤ 2) (hst : (st.map xcat).sum ≤ 8) (hc : h.2.1 + 1 ≤ xCM) (hs : h.2.2 + 6 ≤ xSM) (hq : Q (.inr h.2.1) (xnew h (.inl (c, [])) 6)) : xW sc M (d + 6) Q h pc L st := by
  intro G p l e R s m args below meth cd H locs cells slots ls n0 s0 g1 g2 g3 g4 g5 g6 g7 g8 g9
  intro T hT X
  obtain ⟨⟨r0, r1, r1'⟩, r2, -, r4⟩ := id g3
  obtain ⟨q, hq0, w1, w2, w3⟩ := hl
  obtain ⟨q8, hq8, f0, f1, f2, f3⟩ := hx
  cases hq0.symm.trans hq8
  have hF : xFS G s := g2.2.2.2.2.2.2.2.2.1
  have hfr := g2.2.2.2.2.2.2.2.2.2.1
  have hlo := g2.2.2.2.2.2.2.2.2.2.2.1
  have X1 := x_rebase X (by omega) (by omega)
  have hwd : ∀ w ∈ lw_tbl, xGood w = true → ∀ a : Array Value, w.before a ({ s with heap := T.heap, slotsUsed := T.slotsUsed } : State) = true := fun w hw hg a => xGood_move (s := s) (State.WarmedH.refl s) hg (hF.2.2 w hw hg #[])
  have hown : ({ s with heap := T.heap, slotsUsed := T.slotsUsed } : State).vm.findClass M.1 = some m.cls := g2.2.2.2.2.2.2.2.1
  have hca := xCA_moved hF.1 (g1.1 c q hq0).1
  have hzq : ∀ {n d : String}, va_Zq "java/lang/Throwable" n d (fun a => G.s.heap.size ≤ a) G.s G.s.heap → va_Zq "java/lang/Throwable" n d (fun a => G.s.heap.size ≤ a) ({ s with heap := T.heap, slotsUsed := T.slotsUsed } : State) ({ s with heap := T.heap, slotsUsed := T.slotsUsed } : State).heap := by
    intro n d hz
    refine (va_Zq.moved (U := ({ s with heap := T.heap, slotsUsed := T.slotsUsed } : State)) hF.1 hz).kept fun a ha hA => ?_
    show T.heap[a]? = _
    rw [hT]
    exact r4 a ha
  have hat : ∀ w ∈ Bundle.ownAtoms0 M.1 ic q.1 names, w.before args ({ s with heap := T.heap, slotsUsed := T.slotsUsed } : State) = true := by
    intro w hw
    rcases f3 w hw with ⟨h1, h2⟩ | rfl | rfl | ⟨h1, C, n, d, rfl⟩
    · exact hwd w h1 h2 args
    · exact x_isRef (hzq g1.2.2.1.2.1) args
    · exact x_isRef (hzq g1.2.2.1.2.2.1) args
    · refine x_laysStatic (A := G.s) (U := ({ s with heap := T.heap, slotsUsed := T.slotsUsed } : State)) hF.1 (fun a ha => ?_) (g1.2.2.1.1 _ h1) args
      show T.heap[a]? = _
      rw [hT]
      exact r4 a ha
  have htr : e.platform.stackTraces = false := by
    rw [X.admits.platform]
    show l.stackTraces = false
    unfold Launch.stackTraces
    rw [g2.2.2.2.2.2.2.2.2.2.2.2]
    decide
  have hsum : (st.map (xv G)).map (fun v => v.category) = st.map xcat := by rw [List.map_map]; exact List.map_congr_left fun v _ => xcat_v G v
  have K : W p l e { R with cells := R.cells - cells, slots := R.slots - slots } ({ s with heap := T.heap, slotsUsed := T.slotsUsed } : State) m args below meth cd H [] 0 0
      (fun t => t.status = .running ∧ Ended t below (.threw H.size) ∧ s.WarmedH t.vm ∧ ({ s with heap := T.heap, slotsUsed := T.slotsUsed } : State).sameButNew ({ t with vm := s.vm } : State) [] (0 + 1) (0 + 6) ∧ ∃ ce : Cell, t.heap[H.size]? = some ce ∧ ce.cls = G.dC c ∧ ce.vm = .none) (F0 m pc ls (st.map (xv G))) := by
    refine W.newcK g2.1 g2.2.1 hown (hwd _ w1 (by rfl) _) (hwd _ w2 (by rfl) _) (hwd _ w3 (by rfl) _) rfl hd0 (by show 0 + 1 ≤ R.cells - cells; omega) (by show 0 + 6 ≤ R.slots - slots; omega) hca.1 rfl fun H1 kC hkC e1 z1 o1 => ?_
    refine lv_dup g2.1 g2.2.1 hd3 rfl ?_
    intro T2 hT2 X2
    obtain ⟨U, u1, u2, u3, u4, u5, ce, u6, u7⟩ := X2.ctorThrow0 g2.1 htr hown f1 f2 hat (fun x hx => by cases hx) hca.1 hkC (a := H.size) (by rw [hT2]; exact e1) (by show T.heap.size ≤ _; rw [hT]; exact Nat.le_refl _)
      (g := F0 m (pc + 3 + 1) ls (.ref H.size :: .ref H.size :: st.map (xv G))) rfl (g4.1.trans g2.2.2.1.symm) rfl rfl (rest := st.map (xv G)) rfl (by rw [g2.2.1]; exact hd4) (by rw [g2.2.1]; exact hd7) (xNo_out g2.2.2.2.2.2.1 hno) (by show _ < R.frames; omega)
      (by
        show 2 * 0 + (1 + ((st.map (xv G)).map (fun v => v.category)).sum) + _ ≤ R.locals
        rw [hsum]
        omega) g2.2.2.2.2.1
    refine ⟨U, u1, u2, u3, u4, u5, ce, u6, ?_, u7.vm⟩
    exact Option.some.inj (u7.cls.symm.trans hca.1)
  obtain ⟨t, t1, t2, t3, t4, t5, ce, t6, t7, t8⟩ := K T hT X1
  have hr : xr G h.2.1 = H.size := by rw [xr_hi r0, r2]
  have hz1 : t.heap.size ≤ T.heap.size + 1 := t5.2.2.1
  have hz2 : H.size < t.heap.size := (Array.getElem?_eq_some_iff.mp t6).1
  have hz : t.heap.size = H.size + 1 := by rw [hT] at hz1; omega
  have hold : ∀ q, q < H.size → t.heap[q]? = H[q]? := by
    intro q hq
    have h9 : T.heap[q]? = some (H[q]'hq) := by rw [hT]; exact Array.getElem?_eq_getElem hq
    obtain ⟨c', y1, y2, y3, y4⟩ := t5.2.2.2.2.2 q _ h9
    have y5 : c' = H[q]'hq := by
      rw [y2]
      have : c'.slots = (H[q]'hq).slots := Array.ext_getElem? fun i => y4 i (fun z => by cases z)
      rw [this]
    rw [Array.getElem?_eq_getElem hq, ← y5]
    exact y1
  refine ⟨t, t1, .inr h.2.1, xnew h (.inl (c, [])) 6, locs ++ [], cells + (0 + 1), slots + (0 + 6), t2, ?_, t4, x_unbase X.same t5, fun z hz => g9 z (by simpa using hz), by show cells + (0 + 1) + n0 = h.2.1 + 1; omega, by show slots + (0 + 6) + s0 = h.2.2 + 6; omega, x_rr_new g3 hc hs hz hold ?_, hq⟩
  · show Ended t below (.threw (xr G h.2.1))
    rw [hr]
    exact t3
  · refine ⟨ce, q, hq0, by rw [hr]; exact t6, t7, fun _ => t8, ?_, ?_, f0.symm, fun k hk => ?_⟩
    · rw [t8]; exact fun z => by cases z
    · rw [t8]; rfl
    · rw [f0] at hk
      exact absurd hk (Nat.not_lt_zero _)
