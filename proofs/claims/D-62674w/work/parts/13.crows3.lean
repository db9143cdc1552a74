/-! new byte[16][24] -/
def mOut (cA : ClassId) (b i : Nat) : Cell := { cls := cA, slots := Array.ofFn (n := 16) fun j => if j.val < i then Value.ref (b + 1 + j.val) else Value.null, vm := .none }
def mInn (cB : ClassId) : Cell := { cls := cB, slots := Array.replicate 24 (Value.int 0), vm := .none }
theorem mOut_size (cA : ClassId) (b i : Nat) : (mOut cA b i).slots.size = 16 := by simp [mOut]
theorem mOut_zero (cA : ClassId) (b : Nat) : ({ cls := cA, slots := Array.replicate 16 Value.null, vm := .none } : Cell) = mOut cA b 0 := by
  unfold mOut
  congr 1
theorem mOut_succ (cA : ClassId) (b i : Nat) (hi : i < 16) : (mOut cA b i).setSlot i (Value.ref (b + 1 + i)) = mOut cA b (i + 1) := by
  have key : ((mOut cA b i).setSlot i (Value.ref (b + 1 + i))).slots = (mOut cA b (i + 1)).slots := by
    apply Array.ext_getElem?
    intro j
    unfold mOut Cell.setSlot
    simp only [Array.getElem?_setIfInBounds, Array.size_ofFn]
    by_cases e : i = j
    · subst e
      rw [if_pos rfl, if_pos hi, Array.getElem?_ofFn]
      simp [hi]
    · rw [if_neg e, Array.getElem?_ofFn, Array.getElem?_ofFn]
      by_cases h : j < 16
      · simp only [h, dite_true]
        by_cases hj : j < i
        · rw [if_pos hj, if_pos (by omega)]
        · rw [if_neg hj, if_neg (by omega)]
      · simp only [h, dite_false]
  unfold mOut Cell.setSlot at key ⊢
  dsimp only at key
  rw [key]
def mSt (T : State) (cA cB : ClassId) : Nat → State
  | 0 => T.pushCell (mOut cA T.heap.size 0)
  | i + 1 => ((mSt T cA cB i).pushCell (mInn cB)).setCell T.heap.size (mOut cA T.heap.size (i + 1))
theorem mSt_facts (T : State) (cA cB : ClassId) : ∀ i, (mSt T cA cB i).heap.size = T.heap.size + 1 + i ∧ (mSt T cA cB i).heap[T.heap.size]? = some (mOut cA T.heap.size i) ∧ (mSt T cA cB i).vm = T.vm ∧ (mSt T cA cB i).slotsUsed = T.slotsUsed + 16 + i * 24 ∧ (∀ a, a < T.heap.size → (mSt T cA cB i).heap[a]? = T.heap[a]?) ∧ ∀ j, j < i → (mSt T cA cB i).heap[T.heap.size + 1 + j]? = some (mInn cB)
  | 0 => ⟨by simp [mSt], by simp [mSt], rfl, by simp [mSt, mOut], fun a ha => State.heap_pushCell_of_lt _ _ ha, fun j hj => absurd hj (Nat.not_lt_zero j)⟩
  | i + 1 => by
    obtain ⟨h1, h2, h3, h4, h5, h6⟩ := mSt_facts T cA cB i
    have hlt : T.heap.size < (mSt T cA cB i).heap.size := by omega
    have hb : ((mSt T cA cB i).pushCell (mInn cB)).heap[T.heap.size]? = some (mOut cA T.heap.size i) := by rw [State.heap_pushCell_of_lt (h := hlt)]; exact h2
    refine ⟨?_, State.heap_setCell_self hb, by simp [mSt, h3], ?_, fun a ha => ?_, fun j hj => ?_⟩
    · simp [mSt, State.setCell, h1]; omega
    · simp [mSt, h4, mInn, Nat.succ_mul]; omega
    · show (((mSt T cA cB i).pushCell (mInn cB)).setCell T.heap.size _).heap[a]? = _
      have hlt2 : a < (mSt T cA cB i).heap.size := by omega
      rw [State.heap_setCell_other (Nat.ne_of_gt ha), State.heap_pushCell_of_lt (h := hlt2)]
      exact h5 a ha
    · show (((mSt T cA cB i).pushCell (mInn cB)).setCell T.heap.size _).heap[T.heap.size + 1 + j]? = _
      rw [State.heap_setCell_other (show T.heap.size ≠ T.heap.size + 1 + j by omega)]
      by_cases e : j = i
      · subst e
        rw [← h1]
        exact State.heap_pushCell_size _ _
      · have hlt2 : T.heap.size + 1 + j < (mSt T cA cB i).heap.size := by omega
        rw [State.heap_pushCell_of_lt (h := hlt2)]
        exact h6 j (by omega)
theorem mSt_top (T : State) (f : JFrame) (cA cB : ClassId) : ∀ i, mSt (T.setTop f) cA cB i = (mSt T cA cB i).setTop f
  | 0 => rfl
  | i + 1 => by simp only [mSt, mSt_top T f cA cB i, State.heap_setTop, State.pushCell_setTop, State.setCell_setTop]
theorem mSt_stand {p : Program} {l : Launch} {e : Env} {R : Room} {s : State} {m : MethodId} {args : Array Value} {below : List Frame} {meth : Method} {c : Code} {T : State} {locs : List Loc} {cells slots : Nat} (X : Stand p l e R s m args below meth c T locs cells slots) (cA cB : ClassId) :
    ∀ i, i ≤ 16 → Stand p l e R s m args below meth c (mSt T cA cB i) (locs ++ (List.range i).map fun j => ⟨T.heap.size, j⟩) (cells + 1 + i) (slots + 16 + i * 24)
  | 0, _ => by
    have h := X.pushed (mOut cA T.heap.size 0)
    rw [mOut_size] at h
    simpa [mSt] using h
  | i + 1, hi => by
    have Xi := mSt_stand X cA cB i (by omega)
    obtain ⟨h1, h2, h3, h4, h5, h6⟩ := mSt_facts T cA cB i
    have hlt : T.heap.size < (mSt T cA cB i).heap.size := by omega
    have hb : ((mSt T cA cB i).pushCell (mInn cB)).heap[T.heap.size]? = some (mOut cA T.heap.size i) := by rw [State.heap_pushCell_of_lt (h := hlt)]; exact h2
    have h := (Xi.pushed (mInn cB)).stored hb i (.ref (T.heap.size + 1 + i))
    rw [mOut_succ cA _ i (by omega), show (mInn cB).slots.size = 24 by simp [mInn]] at h
    have e2 : (locs ++ (List.range (i + 1)).map fun j => (⟨T.heap.size, j⟩ : Loc)) = (locs ++ (List.range i).map fun j => (⟨T.heap.size, j⟩ : Loc)) ++ [⟨T.heap.size, i⟩] := by simp [List.range_succ, List.append_assoc]
    rw [e2, show slots + 16 + (i + 1) * 24 = slots + 16 + i * 24 + 24 by omega]
    exact h
section MW
variable {E : CtlPost} {e : Env} {d : Bool} {acts : List Action} {s : State}
theorem x_wpArr {c comp : ClassId} {k : Class} {ty : FieldType} {len : Nat} {init : Value} (hk : s.vm.classes[c]? = some k) (hkind : k.kind = .array comp ty) (hl : ¬ len > e.platform.arrayLengthLimit) (hh : ¬ len * componentBytes ty > e.platform.maxHeapBytes) (hf : fits ty init = true) (hdef : init.isDefault = true) {Q : Addr → Pre}
    (h1 : s.heap.size < e.platform.maxCells) (h2 : s.slotsUsed + len ≤ e.platform.maxSlots) (hq : Q s.heap.size d acts (s.pushCell { cls := c, slots := Array.replicate len init, vm := .none })) : wp (Jvm.newArray c len init) Q E e d acts s := by
  have hfits : ∀ i v, (Array.replicate len init)[i]? = some v → s.fitsSlot c .none i v = true := by
    intro i v hv
    rw [Array.getElem?_replicate] at hv
    split at hv
    · cases hv
      simp [State.fitsSlot, State.slotType?, hk, hkind, hf]
    · cases hv
  have hda : allocActs (Array.replicate len init) s.heap.size acts = acts := by
    unfold allocActs
    rw [if_pos (by rw [Array.all_replicate]; split <;> simp [hdef])]
  simp only [Jvm.newArray, Jvm.arrayFits, wp_bind', W.ask, W.ite, hl, if_false, wp_pure', W.theClass, hk, hkind, hh, W.alloc, W.stop, Option.some.injEq, exists_eq_left', Array.size_replicate, hda]
  rw [if_neg (by omega)]
  exact ⟨h1, h2, hfits, hq⟩
theorem x_wpInn {cB cc : ClassId} {kB : Class} (hk : s.vm.classes[cB]? = some kB) (hkind : kB.kind = .array cc .byte) (hl : ¬ 24 > e.platform.arrayLengthLimit) (hh : ¬ 24 > e.platform.maxHeapBytes)
    (h1 : s.heap.size < e.platform.maxCells) (h2 : s.slotsUsed + 24 ≤ e.platform.maxSlots) {Q : Addr → Pre} (hq : Q s.heap.size d acts (s.pushCell (mInn cB))) : wp (multianewarray.make cB [24]) Q E e d acts s := by
  rw [multianewarray.make]
  simp only [wp_bind', W.ite, show ¬ ((24 : Int32) < 0) by decide, if_false, wp_pure', W.theClass, hk, hkind, Option.some.injEq, exists_eq_left']
  exact x_wpArr (len := 24) hk hkind hl (by show ¬ 24 * 1 > _; omega) (by decide) (by decide) h1 h2 hq
theorem x_wpMulti {cA cB cc : ClassId} {kA kB : Class} (hk : s.vm.classes[cA]? = some kA) (hkind : kA.kind = .array cB (.array .byte)) (hkB : s.vm.classes[cB]? = some kB) (hkindB : kB.kind = .array cc .byte)
    (hl : ¬ 24 > e.platform.arrayLengthLimit) (hh : ¬ 64 > e.platform.maxHeapBytes) (h1 : s.heap.size + 17 ≤ e.platform.maxCells) (h2 : s.slotsUsed + 400 ≤ e.platform.maxSlots)
    {Q : Addr → Pre} (hq : ∀ d' acts', Q s.heap.size d' acts' (mSt s cA cB 16)) : wp (multianewarray.make cA [16, 24]) Q E e d acts s := by
  rw [multianewarray.make]
  simp only [wp_bind', W.ite, show ¬ ((16 : Int32) < 0) by decide, if_false, wp_pure', W.theClass, hk, hkind, Option.some.injEq, exists_eq_left']
  refine x_wpArr (len := 16) hk hkind (by omega) (by show ¬ 16 * 4 > _; omega) (by decide) (by decide) (by omega) (by omega) ?_
  rw [if_neg (by decide), mOut_zero cA s.heap.size]
  simp only [wp_pure', wp_bind']
  rw [Std.Legacy.Range.forIn_eq_forIn_range']
  show wp (forIn (List.range' 0 16 1) PUnit.unit _) _ E e d acts _
  refine wp_forIn_inv (fun rest s' => ∃ i, i ≤ 16 ∧ rest = List.range' i (16 - i) ∧ s' = mSt s cA cB i) _ _ ⟨0, by omega, rfl, rfl⟩ ?_ ?_
  · rintro x rest s' d' acts' Q' ⟨i, hi, hr, rfl⟩ hnext
    have hlt : i < 16 := by
      rcases Nat.lt_or_ge i 16 with z | z
      · exact z
      · rw [show 16 - i = 0 by omega] at hr
        simp at hr
    obtain ⟨rfl, hrest⟩ : x = i ∧ rest = List.range' (i + 1) (16 - (i + 1)) := by
      rw [show 16 - i = (16 - (i + 1)) + 1 by omega, List.range'_succ] at hr
      exact ⟨(List.cons.inj hr).1, (List.cons.inj hr).2⟩
    obtain ⟨f1, f2, f3, f4, f5, f6⟩ := mSt_facts s cA cB x
    simp only [wp_bind']
    refine x_wpInn (by rw [f3]; exact hkB) hkindB hl (by omega) (by omega) (by omega) ?_
    have hlt0 : s.heap.size < (mSt s cA cB x).heap.size := by omega
    simp only [wp_bind', W.writeLoc, wp_pure']
    refine ⟨mOut cA s.heap.size x, by rw [State.heap_pushCell_of_lt (h := hlt0)]; exact f2, by simp [mOut], by rw [mOut_size]; exact hlt, ?_, hnext _ _ _ ⟨x + 1, hlt, hrest, ?_⟩⟩
    · simp [State.fitsSlot, State.slotType?, mOut, f3, hk, hkind, fits]
    · rw [f1, mOut_succ cA _ x hlt]
      rfl
  · rintro s' d' acts' ⟨i, hi, hr, rfl⟩
    have hiN : i = 16 := by
      rcases Nat.lt_or_ge i 16 with z | z
      · rw [show 16 - i = (16 - (i + 1)) + 1 by omega, List.range'_succ] at hr
        cases hr
      · omega
    subst hiN
    simp only [wp_pure']
    exact hq _ _
end MW
theorem x_arrOverB {args : Array Value} {s : State} (h : (Cond.arrayOver (.array .byte)).before args s = true) : ∃ (comp c : ClassId) (k : Class), s.vm.findClass "[B" = some comp ∧ s.vm.classes[c]? = some k ∧ k.kind = .array comp (.array .byte) ∧ s.vm.findClass "[[B" = some c := by
  have e1 : (FieldType.array .byte).toString = "[B" := by decide +kernel
  have e2 : "[" ++ (FieldType.array .byte).toString = "[[B" := by decide +kernel
  simp only [Cond.before, Cond.holds, Cond.value, beq_iff_eq, e1] at h
  cases hc : s.vm.findClass "[B" with
  | none => simp [hc] at h
  | some comp =>
    simp only [hc, Option.bind_some, Option.bind_eq_some_iff, Option.map_eq_some_iff] at h
    obtain ⟨c, hi, k, hk, hb⟩ := h
    obtain ⟨hlt, hp, -⟩ := Array.findIdx?_eq_some_iff_getElem.mp hi
    have hkk : s.vm.classes[c] = k := (Array.getElem?_eq_some_iff.mp hk).2
    rw [hkk] at hp
    cases hkind : k.kind with
    | array component ty =>
      rw [hkind] at hb hp
      simp at hb hp
      exact ⟨comp, c, k, rfl, hk, by rw [hkind, hp, hb.1], by simpa using hb.2⟩
    | _ => rw [hkind] at hb; simp at hb
def nM (u : xH) : Option xH := if (decide (u.2.1 + 17 ≤ xCM) && decide (u.2.2 + 400 ≤ xSM)) = true then some ((fun a => if a = u.2.1 then some (.inr (.array .byte, (16, .inr (.inr (.inr (.inr fun j => some (u.2.1 + 1 + j))))))) else if u.2.1 < a ∧ a ≤ u.2.1 + 16 then some (eByte 24) else u.1 a), u.2.1 + 17, u.2.2 + 400) else none
theorem c_multi {sc : xSc} {M : xM} {d : Nat} {Q : xR → xH → Prop} {h : xH} {pc : Nat} {L : List (Option xV)} {st : List xV} {idx : Nat} {w : xH} (hd : decode M.2.1 pc = .ok (.multianewarray idx 2, 4)) (hl : Cond.classLink M.1 idx "[[B" ∈ lw_tbl) (hg : nM h = some w) (kk : xW sc M d Q w (pc + 4) L (vR (some h.2.1) :: st)) : xW sc M d Q h pc L (vI 24 :: vI 16 :: st) := by
  unfold nM at hg
  obtain ⟨hr, hw⟩ := ite_some hg
  rw [Bool.and_eq_true, decide_eq_true_eq, decide_eq_true_eq] at hr
  have hw := Option.some.inj hw
  subst hw
  intro G p l e R s m args below meth cd H locs cells slots ls n0 s0 g1 g2 g3 g4 g5 g6 g7 g8 g9 T hT X
  have hF : xFS G s := g2.2.2.2.2.2.2.2.2.1
  have hal := hF.1
  obtain ⟨cB, cA, kA, i1, i2, i3, i4⟩ := x_arrOverB (g1.2.2.1.1 _ (tw_2 (List.mem_of_getElem? (i := 218) rfl)))
  obtain ⟨cB', kB, cc, i5, i6, i7⟩ := Cond.arrayClass_spec (g1.2.2.1.1 (Cond.arrayClass .byte) (tw_1 (List.mem_of_getElem? (i := 135) rfl)))
  have i5' : G.s.vm.findClass "[B" = some cB' := i5
  cases i1.symm.trans i5'
  obtain ⟨kA', j1, j2⟩ := hal.2.2 _ _ i2
  obtain ⟨kB', j3, j4⟩ := hal.2.2 _ _ i6
  have hpl : e.platform.magicAccessors = ({} : Platform).magicAccessors := by rw [X.admits.platform]
  obtain ⟨c0, hfc0, hcl⟩ := Cond.classLink_spec g2.2.2.2.2.2.2.2.1 (hF.2.2 _ hl (by rfl) args) e.platform hpl
  have hA : s.vm.findClass "[[B" = some cA := by rw [hal.findClass]; exact i4
  cases hA.symm.trans hfc0
  obtain ⟨k1, k2, k3⟩ := State.classEntry (e := e) X.warmed hcl
  generalize T.vm.noted m.cls idx (.cls cA) = vm₁ at k1 k2 k3
  obtain ⟨kA1, j5, j6⟩ := k2.alike.2.2 _ _ j1
  obtain ⟨kB1, j7, j8⟩ := k2.alike.2.2 _ _ j3
  have X₁ := X.noted k2
  obtain ⟨hr1, hr2⟩ := X.roomAbove (a := 17) (b := 400) (by omega) (by omega)
  have hl1 : ¬ 24 > e.platform.arrayLengthLimit := by rw [Launch.admits_arrayLengthLimit X.admits]; omega
  have hh1 : ¬ 64 > e.platform.maxHeapBytes := by rw [Launch.admits_maxHeapBytes X.admits]; omega
  have XF := mSt_stand X₁ cA cB 16 (Nat.le_refl 16)
  obtain ⟨f1, f2, f3, f4, f5, f6⟩ := mSt_facts (T.setVm vm₁) cA cB 16
  have hTs : T.heap.size = H.size := by rw [hT]
  have step : ∀ target, Steps p.tables e below ((mSt (T.setVm vm₁) cA cB 16).setTop (F0 m (pc + 4) ls (.ref T.heap.size :: st.map (xv G)))) target → Steps p.tables e below (T.setTop (F0 m pc ls (.int 24 :: .int 16 :: st.map (xv G)))) target := by
    intro target hrest
    have hdg : decode cd.code pc = .ok (.multianewarray idx 2, 4) := by rw [g2.2.1]; exact hd
    jvm_step X.here [g2.1, hdg]
    simp only [Op.multianewarray.sem, wp_bind', W.resolveClassAt_links (State.method?_setTop (F0 m pc ls (.int 24 :: .int 16 :: st.map (xv G))) X.here.top) k1]
    rw [W.popN, if_neg (by decide)]
    refine ⟨F0 m pc ls (.int 24 :: .int 16 :: st.map (xv G)), State.topJava?_setTop' (s := T.setVm vm₁) _ X.here.top, [.int 16, .int 24], st.map (xv G), rfl, rfl, ?_⟩
    simp only [List.mapM_cons, List.mapM_nil, wp_bind', wp_pure']
    refine x_wpMulti (cc := cc) (kA := kA1) (kB := kB1) j5 (by rw [j6, j2]; exact i3) j7 (by rw [j8, j4]; exact i7) hl1 hh1 (by show T.heap.size + 17 ≤ _; omega) (by show T.slotsUsed + 400 ≤ _; omega) (fun d' acts' => ?_)
    have eS : ((T.setTop (F0 m pc ls (.int 24 :: .int 16 :: st.map (xv G)))).setVm vm₁).setTop { F0 m pc ls (.int 24 :: .int 16 :: st.map (xv G)) with stack := st.map (xv G) } = (T.setVm vm₁).setTop { F0 m pc ls (.int 24 :: .int 16 :: st.map (xv G)) with stack := st.map (xv G) } := by
      show ((T.setVm vm₁).setTop _).setTop _ = _
      rw [State.setTop_setTop]
    rw [eS, mSt_top]
    simp only [wp_bind', W.mark, W.pushRef, State.topJava?_setTop' _ XF.here.top, Option.some.injEq, exists_eq_left', State.setTop_setTop, State.heap_setTop]
    intro acts
    simp [jvm, XF.here.top]
    exact hrest
  have hb : xK ≤ h.2.1 := g3.1.1
  have hHs : H.size = G.s.heap.size + (h.2.1 - xK) := g3.2.1
  have hout : xr G h.2.1 = H.size := by rw [xr_hi hb, hHs]
  have hA' : ∀ (b i : Nat), G.s.isArrayOf (mOut cA b i) (.array .byte) := fun b i => ⟨fun k => by simp [mOut], kA, i2, cB, i3⟩
  have hB' : G.s.isArrayOf (mInn cB) .byte := ⟨fun k => by simp [mInn], kB, i6, cc, i7⟩
  have hsz : (mSt (T.setVm vm₁) cA cB 16).heap.size = H.size + 17 := by rw [f1]; show T.heap.size + 1 + 16 = _; omega
  have hrr : xRR G ((fun a => if a = h.2.1 then some (.inr (.array .byte, (16, .inr (.inr (.inr (.inr fun j => some (h.2.1 + 1 + j))))))) else if h.2.1 < a ∧ a ≤ h.2.1 + 16 then some (eByte 24) else h.1 a), h.2.1 + 17, h.2.2 + 400) (mSt (T.setVm vm₁) cA cB 16).heap := by
    refine ⟨⟨Nat.le_trans hb (Nat.le_add_right _ _), hr.1, hr.2⟩, ?_, fun a E ha hE => ?_, fun q hq => ?_⟩
    · show _ = G.s.heap.size + (h.2.1 + 17 - xK)
      omega
    · dsimp only at hE ⊢
      by_cases c1 : a = h.2.1
      · rw [if_pos c1] at hE
        cases hE
        subst c1
        refine ⟨by omega, mOut cA T.heap.size 16, ?_, hA' _ _, by simp [mOut], xsz_of (mOut_size _ _ _), fun j hj => ?_, fun _ _ => ⟨kA, cB, i2, i3, ?_⟩⟩
        · rw [hout, ← hTs]; exact f2
        · have hj' : j < 16 := hj
          have : (mOut cA T.heap.size 16).slots[j]? = some (Value.ref (T.heap.size + 1 + j)) := by
            unfold mOut
            rw [Array.getElem?_ofFn]
            simp [hj']
          rw [this]
          show _ = some (Value.ref (xr G (h.2.1 + 1 + j)))
          have e8 : xr G (h.2.1 + 1 + j) = T.heap.size + 1 + j := by
            rw [xr_hi (by omega)]
            omega
          rw [e8]
        · show G.s.vm.findClass (FieldType.array .byte).toString = some cB
          rw [show (FieldType.array .byte).toString = "[B" by decide +kernel]
          exact i1
      · rw [if_neg c1] at hE
        by_cases c2 : h.2.1 < a ∧ a ≤ h.2.1 + 16
        · rw [if_pos c2] at hE
          cases hE
          refine ⟨by omega, mInn cB, ?_, hB', by simp [mInn], xsz_of (by simp [mInn]), fun j hj => ?_, fun _ z => by cases z⟩
          · have e9 : xr G a = (T.setVm vm₁).heap.size + 1 + (a - h.2.1 - 1) := by
              rw [xr_hi (by omega)]
              show _ = T.heap.size + 1 + _
              omega
            rw [e9]
            exact f6 _ (by omega)
          · have hj' : j < 24 := hj
            show (Array.replicate 24 (Value.int 0))[j]? = some (Value.int 0)
            rw [Array.getElem?_replicate, if_pos hj']
        · rw [if_neg c2] at hE
          obtain ⟨z1, z2⟩ := g3.2.2.1 a E ha hE
          refine ⟨by omega, xcell_kept z2 ?_⟩
          have : xr G a < H.size := by rw [xr_hi ha]; omega
          rw [f5 _ (by show _ < T.heap.size; omega)]
          show T.heap[_]? = _
          rw [hT]
    · rw [f5 _ (by show _ < T.heap.size; omega)]
      show T.heap[q]? = _
      rw [hT]
      exact g3.2.2.2 q hq
  obtain ⟨t, t1, t2⟩ := kk G p l e R s m args below meth cd _ _ (cells + 1 + 16) (slots + 16 + 16 * 24) ls n0 s0 g1 g2 hrr g4 (by show cells + 1 + 16 + n0 = h.2.1 + 17; omega) (by show slots + 16 + 16 * 24 + s0 = h.2.2 + 400; omega) g7 g8 (fun q hq => by
    rcases List.mem_append.mp hq with z | z
    · exact g9 q z
    · obtain ⟨y, -, hy⟩ := List.mem_map.mp z
      rw [← hy]
      show _ ≤ T.heap.size
      omega) _ rfl XF
  refine ⟨t, step t ?_, t2⟩
  have e9 : xv G (vR (some h.2.1)) = .ref T.heap.size := by
    show Value.ref (xr G h.2.1) = _
    rw [hout, hTs]
  have t1' : Steps p.tables e below ((mSt (T.setVm vm₁) cA cB 16).setTop (F0 m (pc + 4) ls (xv G (vR (some h.2.1)) :: st.map (xv G)))) t := t1
  rw [e9] at t1'
  exact t1'
