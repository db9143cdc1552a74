/-- words that stay true under warmer tables -/
def xGood : Cond → Bool
  | .fieldLinkNest _ _ _ _ _ _ => true
  | .methodLinkNest _ _ _ _ => true
  | .arrayClass _ => true
  | .arrayOver (.object _) => true
  | w => w.onTables && w.keepsFace
theorem xGood_move {w : Cond} {a a' : Array Value} {s U : State} (hW : s.WarmedH U.vm) (hg : xGood w = true) (h : w.before a s = true) : w.before a' U = true := by
  have key : ∀ c : Cond, (c.onTables && c.keepsFace) = true → c.before a s = true → c.before a' U = true := by
    intro c hc hb
    rw [Bool.and_eq_true] at hc
    have h1 : c.before a (s.setVm U.vm) = true := Cond.before_shiftedFace (State.Shifted.of_warmed hW) c hc.2 hb
    exact va_tabs hc.1 (rfl : (s.setVm U.vm).vm = U.vm) h1
  unfold xGood at hg
  split at hg
  · exact va_Nw.use rfl (va_Nw.warmF hW (va_Nw.of rfl h))
  · exact va_Nw.use rfl (va_Nw.warmM hW (va_Nw.of rfl h))
  · exact word_at hW (Or.inr ⟨_, rfl⟩) h
  · exact va_AO.use (va_AO.moved hW.alike (va_AO.of h))
  · exact key _ hg h
/-! THE VIRTUAL MACHINE: values, cells and heaps by virtual addresses (numbers below xK: constants of the launch; from xK on: what is made, in the order of making) -/
abbrev xV : Type := Int32 ⊕ (Int64 ⊕ (UInt32 ⊕ (UInt64 ⊕ Option Nat)))
abbrev vI (x : Int32) : xV := Sum.inl x
abbrev vL (x : Int64) : xV := Sum.inr (Sum.inl x)
abbrev vF (x : UInt32) : xV := Sum.inr (Sum.inr (Sum.inl x))
abbrev vD (x : UInt64) : xV := Sum.inr (Sum.inr (Sum.inr (Sum.inl x)))
abbrev vR (x : Option Nat) : xV := Sum.inr (Sum.inr (Sum.inr (Sum.inr x)))
abbrev vA (a : Nat) : xV := vR (some a)
abbrev vN : xV := vR none
/-- an object: the number of its class, its fields; an array: the type of its elements, its length and contents -/
abbrev xE : Type := (Nat × List xV) ⊕ (FieldType × vp_A)
/-- the cells that were made, the next number, how many slots they have -/
abbrev xH : Type := (Nat → Option xE) × Nat × Nat
abbrev xSc : Type := Nat × (Nat → Int32)
abbrev xR : Type := Option xV ⊕ Nat
/-- a method: its class, its bytes, its locals, what it returns, its handlers, its name -/
abbrev xM : Type := String × ByteArray × Nat × Option FieldType × List (Nat × Nat × Nat × Nat) × String
/-- the launch: the state at the law's entry, where the constants lie, class numbers, slots of fields -/
abbrev xG : Type := State × (Nat → Nat) × (Nat → ClassId) × (Nat → Nat → Nat)
abbrev xG.s (G : xG) : State := G.1
abbrev xG.cst (G : xG) : Nat → Nat := G.2.1
abbrev xG.dC (G : xG) : Nat → ClassId := G.2.2.1
abbrev xG.dI (G : xG) : Nat → Nat → Nat := G.2.2.2
def xK : Nat := 256
def xCM : Nat := 600544
def xSM : Nat := 7292904
def xr (G : xG) (a : Nat) : Nat := if a < xK then G.cst a else G.s.heap.size + (a - xK)
def xv (G : xG) (v : xV) : Value := match v with
  | .inl x => .int x
  | .inr (.inl x) => .long x
  | .inr (.inr (.inl x)) => .float x
  | .inr (.inr (.inr (.inl x))) => .double x
  | .inr (.inr (.inr (.inr r))) => va_rf (r.map (xr G))
/-- element j of an array -/
def xel (A : vp_A) (j : Nat) : xV := match A.2 with
  | .inl f => vI (f j)
  | .inr (.inl f) => vL (f j)
  | .inr (.inr (.inl f)) => vF (f j)
  | .inr (.inr (.inr (.inl f))) => vD (f j)
  | .inr (.inr (.inr (.inr f))) => vR (f j)
def xget (fs : List xV) (k : Nat) : xV := fs.getD k vN
/-- what a cell of the machine must be for a virtual one -/
def xobj (G : xG) (H : Heap) (a : Nat) (c : Nat) (fs : List xV) : Prop :=
  ∃ (cell : Cell) (q : vw_C), xCl[c]? = some q ∧ H[xr G a]? = some cell ∧ cell.cls = G.dC c ∧ (xK ≤ a → cell.vm = .none) ∧ cell.vm ≠ .unknown ∧ cell.vm.isStatics = false ∧ fs.length = q.2.2 ∧ ∀ k, k < q.2.2 → cell.slots[G.dI c k]? = some (xv G (xget fs k))
def xcn (ty : FieldType) : String := match ty with
  | .object C => C
  | t => t.toString
/-- an array's length: of a constant's the Statement gives no more than its int -/
def xsz (a n sz : Nat) : Prop := n ≤ sz ∧ sz.toInt32 = nI n ∧ (xK ≤ a → sz = n)
theorem xsz_of {a n sz : Nat} (h : sz = n) : xsz a n sz := by
  subst h
  exact ⟨Nat.le_refl _, rfl, fun _ => rfl⟩
def xarr (G : xG) (H : Heap) (a : Nat) (ty : FieldType) (A : vp_A) : Prop :=
  ∃ cell : Cell, H[xr G a]? = some cell ∧ G.s.isArrayOf cell ty ∧ cell.vm ≠ .unknown ∧ xsz a A.1 cell.slots.size ∧ (∀ j, j < A.1 → cell.slots[j]? = some (xv G (xel A j))) ∧
    (xK ≤ a → ty.isReference = true → ∃ (k : Class) (comp : ClassId), G.s.vm.classes[cell.cls]? = some k ∧ k.kind = .array comp ty ∧ G.s.vm.findClass (xcn ty) = some comp)
def xcell (G : xG) (H : Heap) (a : Nat) (e : xE) : Prop := match e with
  | .inl o => xobj G H a o.1 o.2
  | .inr r => xarr G H a r.1 r.2
/-- a cell by its number: a constant, or one that was made -/
def xat (sc : xSc) (h : xH) (a : Nat) : Option xE := if a < xK then xCs sc a else h.1 a
/-- the virtual heap h stands for the heap H -/
def xRR (G : xG) (h : xH) (H : Heap) : Prop :=
  (xK ≤ h.2.1 ∧ h.2.1 ≤ xCM ∧ h.2.2 ≤ xSM) ∧ H.size = G.s.heap.size + (h.2.1 - xK) ∧ (∀ (a : Nat) (e : xE), xK ≤ a → h.1 a = some e → a < h.2.1 ∧ xcell G H a e) ∧ ∀ q, q < G.s.heap.size → H[q]? = G.s.heap[q]?
/-- locals -/
def xls (G : xG) (L : List (Option xV)) (ls : Array Slot) (n : Nat) : Prop :=
  ls.size = n ∧ L.length = n ∧ lv_wf ls ∧ ∀ (i : Nat) (v : xV), L[i]? = some (some v) → ls[i]? = some (.val (xv G v))
/-- outcomes -/
def xo (G : xG) (r : xR) : Outcome := match r with
  | .inl v => .returned (v.map (xv G))
  | .inr a => .threw (xr G a)
/-- a class by its name; an ordinary one, where ord says so -/
def xCA (U : State) (C : String) (cC : ClassId) (ord : Prop) : Prop := U.vm.findClass C = some cC ∧ ∃ kC : Class, U.vm.classes[cC]? = some kC ∧ (ord → kC.kind = .ordinary)
theorem xCA_moved {u E : State} {C : String} {cC : ClassId} {ord : Prop} (hvm : u.vm.Alike E.vm) (h : xCA u C cC ord) : xCA E C cC ord := by
  obtain ⟨h3, kC, hk, hkind⟩ := h
  obtain ⟨k', hk', he⟩ := hvm.2.2 _ _ hk
  exact ⟨by rw [hvm.findClass]; exact h3, k', hk', fun o => by rw [he]; exact hkind o⟩
/-- what the launch gives: class numbers and slots of fields, constants -/
def xGF (G : xG) (sc : xSc) : Prop :=
  (∀ (c : Nat) (q : vw_C), xCl[c]? = some q → xCA G.s q.1 (G.dC c) (c ≠ 19 ∧ c ≠ 20) ∧ (∀ k, k < q.2.2 → ∃ cf kf fi fd, G.s.fieldFound? (q.2.1 k).1 (q.2.1 k).2.1 (q.2.1 k).2.2.1 = some (cf, kf, fi, fd) ∧ fd.slot = G.dI c k ∧ fd.isStatic = false) ∧ ∀ i j, i < q.2.2 → j < q.2.2 → i ≠ j → G.dI c i ≠ G.dI c j) ∧
  (∀ (a : Nat) (e : xE), a < xK → xCs sc a = some e → xcell G G.s.heap a e ∧ G.cst a < G.s.heap.size) ∧ ((∀ w ∈ lw_tbl, w.before #[] G.s = true) ∧ va_Zq "java/lang/Throwable" "UNASSIGNED_STACK" "[Ljava/lang/StackTraceElement;" (fun a => G.s.heap.size ≤ a) G.s G.s.heap ∧ va_Zq "java/lang/Throwable" "SUPPRESSED_SENTINEL" "Ljava/util/List;" (fun a => G.s.heap.size ≤ a) G.s G.s.heap ∧ va_Nc "java/lang/IllegalStateException" "java/lang/IndexOutOfBoundsException" G.s ∧ ∃ r : Option Nat, va_Z "jdk/internal/util/Preconditions" "SIOOBE_FORMATTER" "Ljava/util/function/BiFunction;" (xv G (vR r)) (fun a => G.s.heap.size ≤ a) G.s G.s.heap) ∧ (∀ q ∈ xSt, va_Z q.1 q.2.1 q.2.2.1 (xv G q.2.2.2) (fun a => G.s.heap.size ≤ a) G.s G.s.heap) ∧ ∀ i j, i < 80 → j < 80 → G.cst i = G.cst j → i = j
def xFS (G : xG) (s : State) : Prop := G.s.vm.Alike s.vm ∧ G.s.heap.size ≤ s.heap.size ∧ ∀ w ∈ lw_tbl, xGood w = true → ∀ a : Array Value, w.before a s = true
def xCtx (G : xG) (M : xM) (d : Nat) (p : Program) (l : Launch) (R : Room) (s : State) (m : MethodId) (meth : Method) (c : Code) : Prop :=
  p.tables.exec = Jvm.exec ∧ c.code = M.2.1 ∧ c.maxLocals = M.2.2.1 ∧ meth.sig.returnType = M.2.2.2.1 ∧ meth.locks = false ∧ c.exceptionTable.toList.map (fun h => (h.startPc, h.endPc, h.handlerPc, h.catchType)) = M.2.2.2.2.1 ∧ meth.name = M.2.2.2.2.2 ∧ s.vm.findClass M.1 = some m.cls ∧ xFS G s ∧ d ≤ R.frames ∧ 46 * d ≤ R.locals ∧ l.flags = flags0
/-- the end of an invocation -/
def xEnd (G : xG) (Q : xR → xH → Prop) (s : State) (below : List Frame) (n0 s0 : Nat) (t : State) : Prop :=
  ∃ (r : xR) (h : xH) (L : List Loc) (k n : Nat), t.status = .running ∧ Ended t below (xo G r) ∧ s.WarmedH t.vm ∧ s.sameButNew ({ t with vm := s.vm } : State) L k n ∧ (∀ q ∈ L, G.s.heap.size ≤ q.base) ∧ k + n0 = h.2.1 ∧ n + s0 = h.2.2 ∧ xRR G h t.heap ∧ Q r h
/-- THE JUDGEMENT: from pc, with locals L, operands st, heap h, the invocation of M comes to an end of which Q holds; d: how many frames may lie above it -/
def xW (sc : xSc) (M : xM) (d : Nat) (Q : xR → xH → Prop) (h : xH) (pc : Nat) (L : List (Option xV)) (st : List xV) : Prop :=
  ∀ (G : xG) (p : Program) (l : Launch) (e : Env) (R : Room) (s : State) (m : MethodId) (args : Array Value) (below : List Frame) (meth : Method) (c : Code) (H : Heap) (locs : List Loc) (cells slots : Nat) (ls : Array Slot) (n0 s0 : Nat),
    xGF G sc → xCtx G M d p l R s m meth c → xRR G h H → xls G L ls M.2.2.1 → cells + n0 = h.2.1 → slots + s0 = h.2.2 → xCM ≤ R.cells + n0 → xSM ≤ R.slots + s0 → (∀ q ∈ locs, G.s.heap.size ≤ q.base) →
    W p l e R s m args below meth c H locs cells slots (xEnd G Q s below n0 s0) (F0 m pc ls (st.map (xv G)))
section XB
variable {sc : xSc} {M : xM} {d : Nat} {Q : xR → xH → Prop} {h : xH} {pc pc' : Nat} {L : List (Option xV)} {st st' : List xV}
/-- an instruction that moves operands alone -/
theorem x_pure (k : ∀ (G : xG) (p : Program) (l : Launch) (e : Env) (R : Room) (s : State) (m : MethodId) (args : Array Value) (below : List Frame) (meth : Method) (c : Code) (H : Heap) (locs : List Loc) (cells slots : Nat) (ls : Array Slot) (Z : State → Prop), p.tables.exec = Jvm.exec → c.code = M.2.1 → (∀ (i : Nat) (v : xV), L[i]? = some (some v) → ls[i]? = some (.val (xv G v))) →
      W p l e R s m args below meth c H locs cells slots Z (F0 m pc' ls (st'.map (xv G))) → W p l e R s m args below meth c H locs cells slots Z (F0 m pc ls (st.map (xv G))))
    (kk : xW sc M d Q h pc' L st') : xW sc M d Q h pc L st := by
  intro G p l e R s m args below meth c H locs cells slots ls n0 s0 g1 g2 g3 g4 g5 g6 g7 g8 g9
  exact k G p l e R s m args below meth c H locs cells slots ls _ g2.1 g2.2.1 g4.2.2.2 (kk G p l e R s m args below meth c H locs cells slots ls n0 s0 g1 g2 g3 g4 g5 g6 g7 g8 g9)
end XB
