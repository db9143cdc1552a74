/-! THE RELATION between the component's state c and the model's s -/
def yy_pl (s : MT) (p : Nat) : Int32 × Int64 × UInt64 := (mA 1 s p, mL 2 s p, mD 3 s p)
def yy_sP (p : Nat) (q : Int32 × Int64 × UInt64) (s : MT) : MT := sD 3 (va_up (mD 3 s) p q.2.2) (sL 2 (va_up (mL 2 s) p q.2.1) (sA 1 (va_up (mA 1 s) p q.1) s))
theorem yy_pl_sP (s : MT) (p : Nat) (q : Int32 × Int64 × UInt64) (r : Nat) : yy_pl (yy_sP p q s) r = if r = p then q else yy_pl s r := by
  show (va_up (mA 1 s) p q.1 r, va_up (mL 2 s) p q.2.1 r, va_up (mD 3 s) p q.2.2 r) = _
  unfold va_up
  by_cases h : r = p
  · rw [if_pos h, if_pos h, if_pos h, if_pos h]
  · rw [if_neg h, if_neg h, if_neg h, if_neg h]
    rfl
theorem yy_pl_sI (k : Nat) (x : Int32) (s : MT) (p : Nat) : yy_pl (sI k x s) p = yy_pl s p := rfl
theorem yy_mI_sP (k p : Nat) (q : Int32 × Int64 × UInt64) (s : MT) : mI k (yy_sP p q s) = mI k s := rfl
theorem yy_mG_sP (p : Nat) (q : Int32 × Int64 × UInt64) (s : MT) : mG (yy_sP p q s) = mG s := rfl
theorem yy_sI_sP (k p : Nat) (x : Int32) (q : Int32 × Int64 × UInt64) (s : MT) : sI k x (yy_sP p q s) = yy_sP p q (sI k x s) := rfl
theorem yy_mI_sI (k j : Nat) (x : Int32) (s : MT) : mI k (sI j x s) = if k = j then x else mI k s := rfl
theorem yy_sI_sI (k : Nat) (x y : Int32) (s : MT) : sI k x (sI k y s) = sI k x s := by
  unfold sI
  dsimp only
  rw [yy_va_upup]
/-- slots and dicts by address; a change: a slot that was v, a dict whose first was f -/
abbrev yy_SVF : Type := Nat → Option yy_SV
abbrev yy_DVF : Type := Nat → Option yy_DV
abbrev yy_LGE : Type := (Nat × yy_SV) ⊕ (Nat × Option Nat)
/-- what is remembered beside the states: whose a slot is; the names (address, word); how far stack, cells, drafts have been made; the saves (slots and dicts then, changes since, dicts then), the newest first -/
abbrev yy_GT : Type := (Nat → Nat × Nat) × List (Nat × Int64) × Nat × Nat × Nat × List (yy_SVF × yy_DVF × List yy_LGE × Nat)
def yy_gow (g : yy_GT) : Nat → Nat × Nat := g.1
def yy_gnm (g : yy_GT) : List (Nat × Int64) := g.2.1
def yy_ghS (g : yy_GT) : Nat := g.2.2.1
def yy_ghC (g : yy_GT) : Nat := g.2.2.2.1
def yy_ghD (g : yy_GT) : Nat := g.2.2.2.2.1
def yy_gsv (g : yy_GT) : List (yy_SVF × yy_DVF × List yy_LGE × Nat) := g.2.2.2.2.2
/-- numbers of the model -/
def yy_tk (s : MT) : Nat := (mI 5 s).toNatClampNeg
def yy_cel (s : MT) (k : Nat) : Nat := (mA 14 s k).toNatClampNeg
/-- an array of z cells from n on lies within what was taken and on one side of each save -/
def yy_VA (s : MT) (t o n z : Nat) : Prop := z = 0 ∨ (n + z ≤ t ∧ ∀ k, k < o → yy_cel s k ≤ n ∨ n + z ≤ yy_cel s k)
/-- a real of the machine: within the range -/
def yy_RG (d : UInt64) : Prop := (Op.cmpValue (FP.dcmp d (4786511204640096256 : UInt64)) .g) ≤ 0 ∧ 0 ≤ (Op.cmpValue (FP.dcmp d (14009883241494872064 : UInt64)) .l)
/-- what a value is beyond its kind: t cells taken, nd dicts, o saves -/
def yy_VP (g : yy_GT) (c : yy_CT) (s : MT) (t nd o : Nat) (k : Nat) (v : yy_SV) (q : Int32 × Int64 × UInt64) : Prop := match k with
  | 0 => q.2.1 = v.2.2.1.toInt64
  | 1 => q.2.1 = 0 ∧ v.2.2.1 = 0 ∧ q.2.2 = v.2.2.2.2.2.1 ∧ yy_RG q.2.2
  | 2 => q.2.1 = v.2.2.1.toInt64 ∧ (v.2.2.1 = 0 ∨ v.2.2.1 = 1)
  | 3 => ∃ a, v.2.2.2.2.2.2.1 = some a ∧ (a, q.2.1) ∈ yy_gnm g
  | 4 => q.2.1 = 0 ∧ v.2.2.1 = 0
  | 5 => ∃ n z : Nat, n ≤ 160 ∧ z ≤ 160 ∧ v.2.2.1 = nI n ∧ v.2.2.2.1 = nI z ∧ q.2.1 = Int64.ofNat (n + 1024 * z) ∧ yy_VA s t o n z
  | 6 => ∃ n a : Nat, n < nd ∧ v.2.2.1 = nI n ∧ q.2.1 = Int64.ofNat n ∧ yy_cR 273 c n = some a ∧ v.2.2.2.2.2.2.2 = some a
  | _ => q.2.1 = v.2.2.1.toInt64
def yy_VR (g : yy_GT) (c : yy_CT) (s : MT) (t nd o : Nat) (v : yy_SV) (q : Int32 × Int64 × UInt64) : Prop :=
  ∃ k l : Nat, k < 8 ∧ (l = 0 ∨ l = 1 ∧ (k = 3 ∨ k = 5)) ∧ v.1 = some (72 + k) ∧ v.2.1 = nI l ∧ q.1 = nI (k + 8 * l) ∧ yy_VP g c s t nd o k v q
/-- the stack -/
def yy_RSt (g : yy_GT) (c : yy_CT) (s : MT) (t nd o n : Nat) : Prop :=
  (n ≤ yy_ghS g ∧ n ≤ 40 ∧ yy_ghS g ≤ 41) ∧ (∀ i, i < yy_ghS g → ∃ a v, yy_cR 269 c i = some a ∧ yy_slv c a = some v ∧ yy_gow g a = (0, i) ∧ a < yy_cn c) ∧ (∀ i, yy_ghS g ≤ i → i < 41 → yy_cR 269 c i = none) ∧
  ∀ i, i < n → ∃ a v, yy_cR 269 c i = some a ∧ yy_slv c a = some v ∧ yy_VR g c s t nd o v (yy_pl s i)
/-- entries of a dict: linked from r on, the newest first: L lists (entry, name, slot), the oldest first -/
def yy_CH (c : yy_CT) : Option Nat → List (Nat × Nat × Nat) → Prop
  | r, [] => r = none
  | r, e :: L => r = some e.1 ∧ ∃ x, yy_ov c e.1 = some (.inl (5, [vR (some e.2.1), vR (some e.2.2), vR x])) ∧ yy_CH c x L
def yy_bs (d : Nat) : Nat := if d = 0 then 0 else 10 + 10 * d
def yy_cpl (b i : Nat) : Nat := if b = 0 then 50 + i else 330 + 280 * (b - 1) + i
/-- cells and dicts, of now (b = 0) or of a copy -/
def yy_RCe (g : yy_GT) (c : yy_CT) (s : MT) (b : Nat) (S : yy_SVF) (t nd o : Nat) : Prop :=
  t ≤ yy_ghC g ∧ ∀ i, i < t → ∃ a v, yy_cR 270 c i = some a ∧ a < yy_cn c ∧ S a = some v ∧ yy_gow g a = (1, i) ∧ yy_VR g c s t nd o v (yy_pl s (yy_cpl b i)) ∧ ∃ q : Nat, q ≤ o ∧ v.2.2.2.2.1 = nI q
def yy_RDi (g : yy_GT) (c : yy_CT) (s : MT) (b : Nat) (S : yy_SVF) (T : yy_DVF) (t nd o : Nat) : Prop :=
  (1 ≤ nd ∧ nd ≤ 7) ∧ (∀ d, nd ≤ d → d < 7 → mA 8 s (7 * b + d) = 0) ∧
  ∀ d, d < nd → ∃ (a r : Nat) (f : Option Nat) (L : List (Nat × Nat × Nat)), yy_cR 273 c d = some a ∧ T a = some (nI d, nI r, nI L.length, f) ∧ (1 ≤ r ∧ r ≤ (if d = 0 then 20 else 10) ∧ L.length ≤ r) ∧ mA 8 s (7 * b + d) = nI r ∧ mA 7 s (7 * b + d) = nI L.length ∧ yy_CH c f L ∧
    (∀ i j, i < L.length → j < L.length → mL 6 s (80 * b + yy_bs d + i) = mL 6 s (80 * b + yy_bs d + j) → i = j) ∧
    ∀ i e, L[i]? = some e → (e.2.1, mL 6 s (80 * b + yy_bs d + (L.length - 1 - i))) ∈ yy_gnm g ∧ e.2.2 < yy_cn c ∧ yy_gow g e.2.2 = (3, yy_bs d + (L.length - 1 - i)) ∧ ∃ v, S e.2.2 = some v ∧ yy_VR g c s t nd o v (yy_pl s (yy_cpl b (200 + yy_bs d + (L.length - 1 - i)))) ∧ ∃ q : Nat, q ≤ o ∧ v.2.2.2.2.1 = nI q
/-- the stack of dicts -/
def yy_RDs (c : yy_CT) (s : MT) (nd : Nat) : Prop :=
  ∃ n : Nat, (1 ≤ n ∧ n ≤ 6) ∧ mI 10 s = nI n ∧ ∀ i, i < n → ∃ d a : Nat, d < nd ∧ mA 9 s i = nI d ∧ yy_cR 273 c d = some a ∧ yy_cR 274 c i = some a
def yy_PT : List Nat := [1, 9, 99, 999, 611, 6, 1, 7, 0, 49, 4, 74, 0, 9, 35, 355, 1115, 15, 5, 65, 0, 0, 9, 0, 0, 8, 2, 0, 22, 22, 0, 0, 0]
def yy_EA : List Nat := [16880, 265989, 17060, 836067, 25334217, 406002, 18912643, 21452259, 378925, 13019780657223043, 4225, 2739, 12973, 22820, 730249, 4589, 7342, 19381638, 4675058, 9923, 19139, 185940, 5877798, 549, 174, 647, 167, 652, 172, 4545, 591, 20974, 693948240162, 25283, 21279427]
def yy_LA : List Nat := [372416632, 145707, 26266177, 289650860, 20647, 21168, 13570797040095399, 4242817, 658724, 14982306, 4549, 6308, 132588, 15449547, 22633606247172771, 104197, 201, 188093641, 18918, 672317618, 540140, 415287782, 665349, 540307, 4480056979, 21386278, 186419, 5989092530, 26896224435, 9262619822, 524474861, 524466476, 9484904283523, 405798, 415537637]
/-- the model's tables -/
def yy_RTb (s : MT) : Prop := (∀ j, j < 33 → mA 42 s j = nI (yy_PT.getD j 0)) ∧ (∀ j, j < 35 → mL 43 s j = Int64.ofNat (yy_EA.getD j 0)) ∧ ∀ j, j < 35 → mL 44 s j = Int64.ofNat (yy_LA.getD j 0)
/-- changes since a save, the newest first: linked from r on to m -/
def yy_LG (g : yy_GT) (c : yy_CT) : Option Nat → List yy_LGE → Option Nat → Prop
  | r, [], m => r = m
  | r, .inl e :: L, m => ∃ (a old : Nat) (x : Option Nat) (w : yy_SV), r = some a ∧ (∀ b, m = some b → b < a) ∧ yy_ov c a = some (.inl (8, [vR x, vR (some e.1), vR (some old), vI e.2.2.2.2.2.1])) ∧ yy_slv c old = some w ∧ yy_gow g old = (4, a) ∧ yy_svc e.2.2.2.2.2.1 w = e.2 ∧ xbo w.2.1 = true ∧ e.1 < yy_cn c ∧ ((yy_gow g e.1).1 = 1 ∨ (yy_gow g e.1).1 = 3) ∧ yy_LG g c x L m
  | r, .inr e :: L, m => ∃ (a : Nat) (x : Option Nat), r = some a ∧ (∀ b, m = some b → b < a) ∧ yy_ov c a = some (.inl (9, [vR x, vR (some e.1)])) ∧ yy_LG g c x L m
/-- what a slot was ahead of the changes; what a dict was: how many fewer, and its first -/
def yy_lk (a : Nat) : List yy_LGE → Option yy_SV
  | [] => none
  | .inl e :: L => (yy_lk a L).or (if e.1 = a then some e.2 else none)
  | .inr _ :: L => yy_lk a L
def yy_ld (a : Nat) : List yy_LGE → Nat × Option (Option Nat)
  | [] => (0, none)
  | .inl _ :: L => yy_ld a L
  | .inr e :: L => if e.1 = a then ((yy_ld a L).1 + 1, (yy_ld a L).2.or (some e.2)) else yy_ld a L
/-- the entries that were added stand first -/
def yy_FO (c : yy_CT) (a : Nat) : Option Nat → List yy_LGE → Prop
  | _, [] => True
  | r, .inl _ :: L => yy_FO c a r L
  | r, .inr e :: L => if e.1 = a then (∃ (b : Nat) (k x : xV), r = some b ∧ yy_ov c b = some (.inl (5, [k, x, vR e.2]))) ∧ yy_FO c a e.2 L else yy_FO c a r L
/-- a slot of a cell or an entry that there was at a save -/
def yy_REL (c : yy_CT) (T : yy_DVF) (t nd a : Nat) : Prop := (∃ i, i < t ∧ yy_cR 270 c i = some a) ∨ ∃ (d b : Nat) (v : yy_DV) (L : List (Nat × Nat × Nat)) (e : Nat × Nat × Nat), d < nd ∧ yy_cR 273 c d = some b ∧ T b = some v ∧ yy_CH c v.2.2.2 L ∧ e ∈ L ∧ e.2.2 = a
/-- the saves: S, T, t, nd as of now, or of the next save; serials below q -/
def yy_RSv (g : yy_GT) (c : yy_CT) (s : MT) : yy_SVF → yy_DVF → Option Nat → Nat → Nat → Nat → List (yy_SVF × yy_DVF × List yy_LGE × Nat) → Prop
  | _, _, _, _, _, _, [] => True
  | S, T, r, t, nd, q, e :: E => ∃ (a q1 t1 : Nat) (mk : Option Nat), yy_cR 277 c E.length = some a ∧ yy_ov c a = some (.inl (6, [vI (nI q1), vI (nI t1), vI (nI e.2.2.2), vR mk])) ∧ mA 13 s E.length = nI q1 ∧ q1 < q ∧ mA 14 s E.length = nI t1 ∧ t1 ≤ t ∧ e.2.2.2 ≤ nd ∧ yy_LG g c r e.2.2.1 mk ∧
    (∀ b, yy_REL c e.2.1 t1 e.2.2.2 b → e.1 b = (yy_lk b e.2.2.1).or (S b)) ∧
    (∀ d b, d < e.2.2.2 → yy_cR 273 c d = some b → ∃ v, T b = some v ∧ yy_FO c b v.2.2.2 e.2.2.1 ∧ ∃ w, e.2.1 b = some w ∧ w.1 = v.1 ∧ w.2.1 = v.2.1 ∧ v.2.2.1 = w.2.2.1 + nI (yy_ld b e.2.2.1).1 ∧ w.2.2.2 = ((yy_ld b e.2.2.1).2).getD v.2.2.2) ∧
    (∀ b v, yy_REL c e.2.1 t1 e.2.2.2 b → S b = some v → v.2.2.2.2.1 = nI (E.length + 1) → (yy_lk b e.2.2.1).isSome = true) ∧
    yy_RCe g c s (E.length + 1) e.1 t1 e.2.2.2 E.length ∧ yy_RDi g c s (E.length + 1) e.1 e.2.1 t1 e.2.2.2 E.length ∧ yy_RSv g c s e.1 e.2.1 mk t1 e.2.2.2 q1 E
/-- the path -/
def yy_FA (d : UInt64) : Prop := (Op.cmpValue (FP.dcmp d (4696837146684686336 : UInt64)) .g) ≤ 0 ∧ 0 ≤ (Op.cmpValue (FP.dcmp d (13920209183539462144 : UInt64)) .l)
def yy_RPt (c : yy_CT) (s : MT) : Prop := ∃ n : Nat, n ≤ 30 ∧ mI 41 s = nI n ∧ ∀ k, k < n → yy_cD 278 c k = mD 38 s k ∧ yy_cD 279 c k = mD 39 s k ∧ yy_FA (mD 38 s k) ∧ yy_FA (mD 39 s k) ∧ ∃ p : Nat, p ≤ k ∧ yy_cA 280 c k = nI p ∧ mA 40 s k = nI p
/-- the page: gray gives a level -/
def yy_GRY (x : UInt32) : Prop := xn32 (FP.fmul (1097859072 : UInt32) x) = true ∧ xn32 (FP.fadd (FP.fmul (1097859072 : UInt32) x) (1056964608 : UInt32)) = true ∧ ∃ v : Nat, v ≤ 127 ∧ FP.f2i (FP.fadd (FP.fmul (1097859072 : UInt32) x) (1056964608 : UInt32)) = nI v
def yy_RPx (c : yy_CT) (s : MT) : Prop := yy_GRY (mG s) ∧ ∃ C R : Nat, (1 ≤ C ∧ C ≤ 24 ∧ 1 ≤ R ∧ R ≤ 16) ∧ mI 34 s = nI C ∧ mI 35 s = nI R ∧ (∀ r x, r < R → x < C → ∃ v : Nat, v ≤ 127 ∧ yy_cA (284 + r) c x = nI v ∧ mA 36 s (24 * r + x) = nI v) ∧ ∀ r x, r < 16 → x < 24 → ¬ (r < R ∧ x < C) → mA 36 s (24 * r + x) = 0
/-- the text -/
def yy_RTx (c : yy_CT) (s : MT) : Prop := ∃ n : Nat, n ≤ 120 ∧ mI 24 s = nI n ∧ (120 ≤ (yy_cb c).2 ∧ (yy_cb c).2 ≤ 1000) ∧ ∀ j, j < n → ∃ v : Nat, 32 ≤ v ∧ v ≤ 126 ∧ yy_cA 266 c j = nI v ∧ mA 23 s j = nI v
/-- words: letters, their number, their text in the heap -/
def yy_lt5 (x : Nat) : Nat := if x = 91 then 27 else if x = 93 then 28 else x - 96
def yy_wc : List Nat → Nat
  | [] => 0
  | x :: L => yy_lt5 x + 32 * yy_wc L
def yy_okw (w : List Nat) : Prop := w = [91] ∨ w = [93] ∨ (1 ≤ w.length ∧ w.length ≤ 11 ∧ ∀ x ∈ w, 97 ≤ x ∧ x ≤ 122)
def yy_oa (c : yy_CT) (a : Nat) : Option xE := if a < 224 then xCs (0, fun _ => 0) a else if a < 256 then none else yy_ov c a
def yy_TX (c : yy_CT) (a : Nat) (w : List Nat) : Prop := ∃ (b : Nat) (f : Nat → Int32), yy_oa c a = some (.inl (18, [vA b, vI 0])) ∧ yy_oa c b = some (.inr (.byte, (w.length, .inl f))) ∧ ∀ j x, w[j]? = some x → f j = nI x
/-- the model's number of an operator -/
def yy_mop (k : Nat) : Nat := if k < 9 then k else if k = 9 then 70 else if k = 10 then 9 else if k = 11 then 71 else k - 2
/-- the number of the operator of a word, by the tables -/
def yy_opw (w : Int64) : Option Nat := if w = 27 then some 70 else if w = 28 then some 71 else (List.range 35).findSome? fun k => if Int64.ofNat (yy_EA.getD k 0) = w then some k else if Int64.ofNat (yy_LA.getD k 0) = w then some (35 + k) else none
def yy_bkt (w : List Nat) : Nat := (w.headD 0 * 7 + w.getLastD 0 * 3 + w.length) % 32
/-- names linked from r on -/
def yy_NC (c : yy_CT) : Option Nat → List Nat → Prop
  | r, [] => r = none
  | r, a :: L => r = some a ∧ ∃ t o x, yy_ov c a = some (.inl (3, [t, o, vR x])) ∧ yy_NC c x L
def yy_RNm (g : yy_GT) (c : yy_CT) (s : MT) : Prop :=
  (∀ p, p ∈ yy_gnm g → ∃ (tx : Nat) (o x : Option Nat) (w : List Nat), yy_ov c p.1 = some (.inl (3, [vR (some tx), vR o, vR x])) ∧ yy_TX c tx w ∧ yy_okw w ∧ p.2 = Int64.ofNat (yy_wc w) ∧ (o = none ∧ yy_opw p.2 = none ∧ w.length ≤ 8 ∨ ∃ k, k < 72 ∧ o = some k ∧ yy_opw p.2 = some (yy_mop k)) ∧ ∃ L, yy_NC c (yy_cR 264 c (yy_bkt w)) L ∧ p.1 ∈ L) ∧
  (∀ p q, p ∈ yy_gnm g → q ∈ yy_gnm g → (p.1 = q.1 ↔ p.2 = q.2)) ∧
  (∀ b, b < 32 → ∃ L, yy_NC c (yy_cR 264 c b) L ∧ L.length ≤ 120 ∧ ∀ a ∈ L, ∃ w, (a, w) ∈ yy_gnm g) ∧
  ∃ n : Nat, n ≤ 40 ∧ mI 30 s = nI n ∧ (∀ k, k < n → ∃ a, (a, mL 29 s k) ∈ yy_gnm g ∧ yy_opw (mL 29 s k) = none) ∧ ∀ p, p ∈ yy_gnm g → yy_opw p.2 = none → ∃ k, k < n ∧ mL 29 s k = p.2
/-- nothing but the stack (and error, fault) changes -/
def yy_KP (g : yy_GT) (c : yy_CT) (s : MT) (g' : yy_GT) (c' : yy_CT) (s' : MT) : Prop :=
  (yy_gnm g' = yy_gnm g ∧ yy_ghC g' = yy_ghC g ∧ yy_ghD g' = yy_ghD g ∧ yy_gsv g' = yy_gsv g ∧ ∀ a, a < yy_cn c → (yy_gow g a).1 ≠ 0 → yy_gow g' a = yy_gow g a) ∧
  (yy_cn c ≤ yy_cn c' ∧ yy_cb c' = yy_cb c ∧ yy_cl c' = yy_cl c ∧ yy_cg c' = yy_cg c) ∧
  (∀ a, a < yy_cn c → (yy_gow g a).1 ≠ 0 → yy_slv c' a = yy_slv c a) ∧ (∀ a v, a < yy_cn c → yy_dcv c a = some v → yy_dcv c' a = some v) ∧ (∀ a v, a < yy_cn c → yy_ov c a = some v → yy_ov c' a = some v) ∧
  (∀ k, k ≠ 269 → yy_cR k c' = yy_cR k c) ∧ (∀ k, yy_cA k c' = yy_cA k c) ∧ (∀ k, yy_cD k c' = yy_cD k c) ∧ (∀ k, k ≠ 9 → k ≠ 17 → k ≠ 18 → yy_cI k c' = yy_cI k c) ∧
  (∀ p, 50 ≤ p → p < 1170 → yy_pl s' p = yy_pl s p) ∧ (∀ k, k ≠ 1 → mA k s' = mA k s) ∧ (∀ k, k ≠ 2 → mL k s' = mL k s) ∧ (∀ k, k ≠ 3 → mD k s' = mD k s) ∧ (∀ k, k ≠ 4 → mI k s' = mI k s) ∧ mG s' = mG s
theorem yy_KP.refl (g : yy_GT) (c : yy_CT) (s : MT) : yy_KP g c s g c s :=
  ⟨⟨rfl, rfl, rfl, rfl, fun _ _ _ => rfl⟩, ⟨Nat.le_refl _, rfl, rfl, rfl⟩, fun _ _ _ => rfl, fun _ _ _ h => h, fun _ _ _ h => h, fun _ _ => rfl, fun _ => rfl, fun _ => rfl, fun _ _ _ _ => rfl, fun _ _ _ => rfl, fun _ _ => rfl, fun _ _ => rfl, fun _ _ => rfl, fun _ _ => rfl, rfl⟩
theorem yy_KP.trans {g g1 g2 : yy_GT} {c c1 c2 : yy_CT} {s s1 s2 : MT} (h : yy_KP g c s g1 c1 s1) (k : yy_KP g1 c1 s1 g2 c2 s2) : yy_KP g c s g2 c2 s2 := by
  obtain ⟨⟨a1, a2, a3, a4, a5⟩, ⟨b1, b2, b3, b4⟩, c1, d1, e1, f1, g1, h1, i1, j1, k1, l1, m1, n1, o1⟩ := h
  obtain ⟨⟨A1, A2, A3, A4, A5⟩, ⟨B1, B2, B3, B4⟩, C1, D1, E1, F1, G1, H1, I1, J1, K1, L1, M1, N1, O1⟩ := k
  refine ⟨⟨A1.trans a1, A2.trans a2, A3.trans a3, A4.trans a4, fun a ha hg => (A5 a (by omega) (by rw [a5 a ha hg]; exact hg)).trans (a5 a ha hg)⟩, ⟨by omega, B2.trans b2, B3.trans b3, B4.trans b4⟩, fun a ha hg => (C1 a (by omega) (by rw [a5 a ha hg]; exact hg)).trans (c1 a ha hg), fun a v ha hv => D1 a v (by omega) (d1 a v ha hv), fun a v ha hv => E1 a v (by omega) (e1 a v ha hv), fun q hq => (F1 q hq).trans (f1 q hq), fun q => (G1 q).trans (g1 q), fun q => (H1 q).trans (h1 q), fun q h1 h2 h3 => (I1 q h1 h2 h3).trans (i1 q h1 h2 h3), fun p h1 h2 => (J1 p h1 h2).trans (j1 p h1 h2), fun q hq => (K1 q hq).trans (k1 q hq), fun q hq => (L1 q hq).trans (l1 q hq), fun q hq => (M1 q hq).trans (m1 q hq), fun q hq => (N1 q hq).trans (n1 q hq), O1.trans o1⟩
theorem yy_VA_cong {s s' : MT} {t o n z : Nat} (h : mA 14 s' = mA 14 s) (hv : yy_VA s t o n z) : yy_VA s' t o n z := by
  unfold yy_VA yy_cel at *
  rw [h]
  exact hv
theorem yy_VP_0 (g : yy_GT) (c : yy_CT) (s : MT) (t nd o : Nat) (v : yy_SV) (q : Int32 × Int64 × UInt64) : yy_VP g c s t nd o 0 v q = (q.2.1 = v.2.2.1.toInt64) := rfl
theorem yy_VP_1 (g : yy_GT) (c : yy_CT) (s : MT) (t nd o : Nat) (v : yy_SV) (q : Int32 × Int64 × UInt64) : yy_VP g c s t nd o 1 v q = (q.2.1 = 0 ∧ v.2.2.1 = 0 ∧ q.2.2 = v.2.2.2.2.2.1 ∧ yy_RG q.2.2) := rfl
theorem yy_VP_2 (g : yy_GT) (c : yy_CT) (s : MT) (t nd o : Nat) (v : yy_SV) (q : Int32 × Int64 × UInt64) : yy_VP g c s t nd o 2 v q = (q.2.1 = v.2.2.1.toInt64 ∧ (v.2.2.1 = 0 ∨ v.2.2.1 = 1)) := rfl
theorem yy_VP_3 (g : yy_GT) (c : yy_CT) (s : MT) (t nd o : Nat) (v : yy_SV) (q : Int32 × Int64 × UInt64) : yy_VP g c s t nd o 3 v q = (∃ a, v.2.2.2.2.2.2.1 = some a ∧ (a, q.2.1) ∈ yy_gnm g) := rfl
theorem yy_VP_4 (g : yy_GT) (c : yy_CT) (s : MT) (t nd o : Nat) (v : yy_SV) (q : Int32 × Int64 × UInt64) : yy_VP g c s t nd o 4 v q = (q.2.1 = 0 ∧ v.2.2.1 = 0) := rfl
theorem yy_VP_5 (g : yy_GT) (c : yy_CT) (s : MT) (t nd o : Nat) (v : yy_SV) (q : Int32 × Int64 × UInt64) : yy_VP g c s t nd o 5 v q = (∃ n z : Nat, n ≤ 160 ∧ z ≤ 160 ∧ v.2.2.1 = nI n ∧ v.2.2.2.1 = nI z ∧ q.2.1 = Int64.ofNat (n + 1024 * z) ∧ yy_VA s t o n z) := rfl
theorem yy_VP_6 (g : yy_GT) (c : yy_CT) (s : MT) (t nd o : Nat) (v : yy_SV) (q : Int32 × Int64 × UInt64) : yy_VP g c s t nd o 6 v q = (∃ n a : Nat, n < nd ∧ v.2.2.1 = nI n ∧ q.2.1 = Int64.ofNat n ∧ yy_cR 273 c n = some a ∧ v.2.2.2.2.2.2.2 = some a) := rfl
theorem yy_VP_7 (g : yy_GT) (c : yy_CT) (s : MT) (t nd o : Nat) (v : yy_SV) (q : Int32 × Int64 × UInt64) : yy_VP g c s t nd o 7 v q = (q.2.1 = v.2.2.1.toInt64) := rfl
theorem yy_VP_cong {g g' : yy_GT} {c c' : yy_CT} {s s' : MT} {t nd o : Nat} {v : yy_SV} {q : Int32 × Int64 × UInt64} (hn : ∀ x, x ∈ yy_gnm g → x ∈ yy_gnm g') (hR : ∀ n, n < nd → yy_cR 273 c' n = yy_cR 273 c n) (hs : mA 14 s' = mA 14 s) {k : Nat} (hk : k < 8) (h : yy_VP g c s t nd o k v q) : yy_VP g' c' s' t nd o k v q := by
  rcases (by omega : k = 0 ∨ k = 1 ∨ k = 2 ∨ k = 3 ∨ k = 4 ∨ k = 5 ∨ k = 6 ∨ k = 7) with e | e | e | e | e | e | e | e
  · rw [e, yy_VP_0] at h ⊢
    exact h
  · rw [e, yy_VP_1] at h ⊢
    exact h
  · rw [e, yy_VP_2] at h ⊢
    exact h
  · rw [e, yy_VP_3] at h ⊢
    obtain ⟨a, e1, e2⟩ := h
    exact ⟨a, e1, hn _ e2⟩
  · rw [e, yy_VP_4] at h ⊢
    exact h
  · rw [e, yy_VP_5] at h ⊢
    obtain ⟨n, z, e1, e2, e3, e4, e5, e6⟩ := h
    exact ⟨n, z, e1, e2, e3, e4, e5, yy_VA_cong hs e6⟩
  · rw [e, yy_VP_6] at h ⊢
    obtain ⟨n, a, e1, e2, e3, e4, e5⟩ := h
    exact ⟨n, a, e1, e2, e3, (hR n e1).trans e4, e5⟩
  · rw [e, yy_VP_7] at h ⊢
    exact h
/-- values keep under more names, the same dicts and saves -/
theorem yy_VR_cong {g g' : yy_GT} {c c' : yy_CT} {s s' : MT} {t nd o : Nat} {v : yy_SV} {q : Int32 × Int64 × UInt64} (hn : ∀ x, x ∈ yy_gnm g → x ∈ yy_gnm g') (hR : ∀ n, n < nd → yy_cR 273 c' n = yy_cR 273 c n) (hs : mA 14 s' = mA 14 s) (h : yy_VR g c s t nd o v q) : yy_VR g' c' s' t nd o v q := by
  obtain ⟨k, l, h1, h2, h3, h4, h5, h6⟩ := h
  exact ⟨k, l, h1, h2, h3, h4, h5, yy_VP_cong hn hR hs h1 h6⟩
theorem yy_CH_cong {c c' : yy_CT} (h : ∀ a v, yy_ov c a = some v → yy_ov c' a = some v) : ∀ {L : List (Nat × Nat × Nat)} {r : Option Nat}, yy_CH c r L → yy_CH c' r L
  | [], _, e => e
  | _ :: _, _, e => by
    obtain ⟨e1, x, e2, e3⟩ := e
    exact ⟨e1, x, h _ _ e2, yy_CH_cong h e3⟩
/-- the cells that were made lie below what is next -/
def yy_LOW (c : yy_CT) : Prop := ∀ a, yy_cn c ≤ a → yy_slv c a = none ∧ yy_dcv c a = none ∧ yy_ov c a = none
theorem yy_LOW.s {c : yy_CT} (h : yy_LOW c) {a : Nat} {v : yy_SV} (e : yy_slv c a = some v) : a < yy_cn c := by
  rcases Nat.lt_or_ge a (yy_cn c) with q | q
  · exact q
  · rw [(h a q).1] at e
    cases e
theorem yy_LOW.d {c : yy_CT} (h : yy_LOW c) {a : Nat} {v : yy_DV} (e : yy_dcv c a = some v) : a < yy_cn c := by
  rcases Nat.lt_or_ge a (yy_cn c) with q | q
  · exact q
  · rw [(h a q).2.1] at e
    cases e
theorem yy_LOW.o {c : yy_CT} (h : yy_LOW c) {a : Nat} {v : xE} (e : yy_ov c a = some v) : a < yy_cn c := by
  rcases Nat.lt_or_ge a (yy_cn c) with q | q
  · exact q
  · rw [(h a q).2.2] at e
    cases e
theorem yy_cpl_range {b i : Nat} (hb : b ≤ 3) (hi : i < 280) : 50 ≤ yy_cpl b i ∧ yy_cpl b i < 1170 := by
  unfold yy_cpl
  by_cases h : b = 0
  · rw [if_pos h]
    omega
  · rw [if_neg h]
    omega
theorem yy_RCe_KP {g g' : yy_GT} {c c' : yy_CT} {s s' : MT} {b t nd o : Nat} {S S' : yy_SVF} (k : yy_KP g c s g' c' s') (hS : ∀ a v, a < yy_cn c → (yy_gow g a).1 ≠ 0 → S a = some v → S' a = some v) (hb : b ≤ 3) (ht : t ≤ 160) (h : yy_RCe g c s b S t nd o) : yy_RCe g' c' s' b S' t nd o := by
  obtain ⟨⟨a1, a2, a3, a4, a5⟩, ⟨b1, b2, b3, b4⟩, kS, kD, kO, kR, kA, kd, kI, kp, kmA, kmL, kmD, kmI, kG⟩ := k
  refine ⟨by rw [a2]; exact h.1, fun i hi => ?_⟩
  obtain ⟨a, v, e1, ha, e2, e3, e4, e5⟩ := h.2 i hi
  have n3 : (yy_gow g a).1 ≠ 0 := by rw [e3]; exact Nat.one_ne_zero
  refine ⟨a, v, by rw [kR 270 (by decide)]; exact e1, by omega, hS a v ha n3 e2, (a5 a ha n3).trans e3, ?_, e5⟩
  have r := yy_cpl_range (i := i) hb (by omega)
  rw [kp _ r.1 r.2]
  exact yy_VR_cong (by rw [a1]; exact fun _ h => h) (fun n _ => by rw [kR 273 (by decide)]) (kmA 14 (by decide)) e4
theorem yy_bs_le {d l r nd : Nat} (hd : d < nd) (hn : nd ≤ 7) (h1 : r ≤ (if d = 0 then 20 else 10)) (h2 : l ≤ r) : yy_bs d + l ≤ 80 := by
  unfold yy_bs
  by_cases h : d = 0
  · rw [if_pos h] at *
    omega
  · rw [if_neg h] at *
    omega
theorem yy_RDi_KP {g g' : yy_GT} {c c' : yy_CT} {s s' : MT} {b t nd o : Nat} {S S' : yy_SVF} {T T' : yy_DVF} (hL : yy_LOW c) (k : yy_KP g c s g' c' s') (hS : ∀ a v, a < yy_cn c → (yy_gow g a).1 ≠ 0 → S a = some v → S' a = some v) (hT : ∀ a v, T a = some v → T' a = some v) (hb : b ≤ 3) (h : yy_RDi g c s b S T t nd o) : yy_RDi g' c' s' b S' T' t nd o := by
  obtain ⟨⟨a1, a2, a3, a4, a5⟩, ⟨b1, b2, b3, b4⟩, kS, kD, kO, kR, kA, kd, kI, kp, kmA, kmL, kmD, kmI, kG⟩ := k
  have hov : ∀ a v, yy_ov c a = some v → yy_ov c' a = some v := fun a v e => kO a v (hL.o e) e
  refine ⟨h.1, fun d h1 h2 => by rw [kmA 8 (by decide)]; exact h.2.1 d h1 h2, fun d hd => ?_⟩
  obtain ⟨a, r, f, L, e1, e2, e3, e4, e5, e6, e7, e8⟩ := h.2.2 d hd
  refine ⟨a, r, f, L, by rw [kR 273 (by decide)]; exact e1, hT a _ e2, e3, by rw [kmA 8 (by decide)]; exact e4, by rw [kmA 7 (by decide)]; exact e5, yy_CH_cong hov e6, by rw [kmL 6 (by decide)]; exact e7, fun i e he => ?_⟩
  obtain ⟨q1, ha, q2, v, q3, q4, q5⟩ := e8 i e he
  have hi : i < L.length := by
    rcases Nat.lt_or_ge i L.length with w | w
    · exact w
    · rw [List.getElem?_eq_none w] at he
      cases he
  have n2 : (yy_gow g e.2.2).1 ≠ 0 := by rw [q2]; exact Nat.succ_ne_zero 2
  refine ⟨by rw [a1, kmL 6 (by decide)]; exact q1, by omega, (a5 _ ha n2).trans q2, v, hS _ v ha n2 q3, ?_, q5⟩
  have hb2 := yy_bs_le hd h.1.2 e3.2.1 e3.2.2
  have rg := yy_cpl_range (i := 200 + yy_bs d + (L.length - 1 - i)) hb (by omega)
  rw [kp _ rg.1 rg.2]
  exact yy_VR_cong (by rw [a1]; exact fun _ h => h) (fun n _ => by rw [kR 273 (by decide)]) (kmA 14 (by decide)) q4
theorem yy_RDs_KP {g g' : yy_GT} {c c' : yy_CT} {s s' : MT} {nd : Nat} (k : yy_KP g c s g' c' s') (h : yy_RDs c s nd) : yy_RDs c' s' nd := by
  obtain ⟨⟨a1, a2, a3, a4, a5⟩, ⟨b1, b2, b3, b4⟩, kS, kD, kO, kR, kA, kd, kI, kp, kmA, kmL, kmD, kmI, kG⟩ := k
  obtain ⟨n, h1, h2, h3⟩ := h
  refine ⟨n, h1, by rw [kmI 10 (by decide)]; exact h2, fun i hi => ?_⟩
  obtain ⟨d, a, e1, e2, e3, e4⟩ := h3 i hi
  exact ⟨d, a, e1, by rw [kmA 9 (by decide)]; exact e2, by rw [kR 273 (by decide)]; exact e3, by rw [kR 274 (by decide)]; exact e4⟩
/-- numbers that are the same on both sides -/
def yy_REq (c : yy_CT) (s : MT) : Prop :=
  yy_cI 9 c = mI 4 s ∧ yy_cI 10 c = mI 5 s ∧ yy_cI 14 c = mI 10 s ∧ yy_cI 26 c = mI 12 s ∧ yy_cI 27 c = mI 11 s ∧ yy_cI 15 c = mI 31 s ∧ yy_cI 16 c = mI 32 s ∧ yy_cI 35 c = mI 41 s ∧ yy_cI 38 c = mI 34 s ∧ yy_cI 39 c = mI 35 s ∧ yy_cI 4 c = mI 30 s ∧ yy_cI 100 c = mI 24 s ∧ yy_cg c = mG s
theorem yy_LG_KP {g g' : yy_GT} {c c' : yy_CT} {s s' : MT} (hL : yy_LOW c) (k : yy_KP g c s g' c' s') : ∀ {L : List yy_LGE} {r m : Option Nat}, yy_LG g c r L m → yy_LG g' c' r L m
  | [], _, _, e => e
  | .inl e :: _, _, _, h => by
    obtain ⟨a, old, x, w, h1, h2, h3, h4, h5, h6, h7, h8, h9, h10⟩ := h
    have ho := hL.s h4
    have n5 : (yy_gow g old).1 ≠ 0 := by rw [h5]; exact Nat.succ_ne_zero 3
    have n8 : (yy_gow g e.1).1 ≠ 0 := by
      intro z
      rw [z] at h9
      rcases h9 with h9 | h9 <;> cases h9
    have r := yy_LG_KP hL k h10
    obtain ⟨⟨a1, a2, a3, a4, a5⟩, ⟨b1, b2, b3, b4⟩, kS, kD, kO, _⟩ := k
    refine ⟨a, old, x, w, h1, h2, kO _ _ (hL.o h3) h3, (kS _ ho n5).trans h4, (a5 old ho n5).trans h5, h6, h7, by omega, ?_, r⟩
    rw [a5 _ h8 n8]
    exact h9
  | .inr e :: _, _, _, h => by
    obtain ⟨a, x, h1, h2, h3, h4⟩ := h
    have r := yy_LG_KP hL k h4
    obtain ⟨⟨a1, a2, a3, a4, a5⟩, ⟨b1, b2, b3, b4⟩, kS, kD, kO, _⟩ := k
    exact ⟨a, x, h1, h2, kO _ _ (hL.o h3) h3, r⟩
theorem yy_CH_inj {c : yy_CT} : ∀ {L L' : List (Nat × Nat × Nat)} {r : Option Nat}, yy_CH c r L → yy_CH c r L' → L = L'
  | [], [], _, _, _ => rfl
  | [], _ :: _, _, h, h' => by
    have e : _ = none := h
    rw [e] at h'
    cases h'.1
  | _ :: _, [], _, h, h' => by
    have e : _ = none := h'
    rw [e] at h
    cases h.1
  | e :: L, e' :: L', _, h, h' => by
    obtain ⟨h1, x, h2, h3⟩ := h
    obtain ⟨k1, y, k2, k3⟩ := h'
    rw [h1] at k1
    have e1 : e.1 = e'.1 := Option.some.inj k1
    rw [e1, k2] at h2
    simp only [Option.some.injEq, Sum.inl.injEq, Prod.mk.injEq, List.cons.injEq, Sum.inr.injEq, true_and, and_true] at h2
    obtain ⟨q1, q2, q3⟩ := h2
    rw [← q3] at h3
    rw [yy_CH_inj h3 k3, show e = e' from Prod.ext e1 (Prod.ext q1.symm q2.symm)]
theorem yy_FO_KP {g g' : yy_GT} {c c' : yy_CT} {s s' : MT} (hL : yy_LOW c) (k : yy_KP g c s g' c' s') {a : Nat} : ∀ {L : List yy_LGE} {r : Option Nat}, yy_FO c a r L → yy_FO c' a r L
  | [], _, _ => trivial
  | .inl _ :: L, r, h => yy_FO_KP (L := L) hL k h
  | .inr e :: L, r, h => by
    unfold yy_FO at h ⊢
    by_cases q : e.1 = a
    · rw [if_pos q] at h ⊢
      obtain ⟨⟨b, x, y, h1, h2⟩, h3⟩ := h
      have r := yy_FO_KP hL k h3
      obtain ⟨_, _, _, _, kO, _⟩ := k
      exact ⟨⟨b, x, y, h1, kO _ _ (hL.o h2) h2⟩, r⟩
    · rw [if_neg q] at h ⊢
      exact yy_FO_KP hL k h
theorem yy_REL_KP {g g' : yy_GT} {c c' : yy_CT} {s s' : MT} {b t nd o x : Nat} {S : yy_SVF} {T : yy_DVF} (hL : yy_LOW c) (k : yy_KP g c s g' c' s') (h : yy_RDi g c s b S T t nd o) (hr : yy_REL c' T t nd x) : yy_REL c T t nd x := by
  obtain ⟨_, _, _, _, kO, kR, _⟩ := k
  have hov : ∀ a v, yy_ov c a = some v → yy_ov c' a = some v := fun a v e => kO a v (hL.o e) e
  rcases hr with ⟨i, h1, h2⟩ | ⟨d, y, v, L, e, h1, h2, h3, h4, h5, h6⟩
  · exact Or.inl ⟨i, h1, by rw [kR 270 (by decide)] at h2; exact h2⟩
  · rw [kR 273 (by decide)] at h2
    obtain ⟨a, r, f, L2, e1, e2, e3, e4, e5, e6, e7, e8⟩ := h.2.2 d h1
    rw [h2] at e1
    cases e1
    rw [h3] at e2
    cases e2
    have := yy_CH_inj h4 (yy_CH_cong hov e6)
    subst this
    exact Or.inr ⟨d, y, _, L, e, h1, h2, h3, e6, h5, h6⟩
theorem yy_RSv_KP {g g' : yy_GT} {c c' : yy_CT} {s s' : MT} (hL : yy_LOW c) (k : yy_KP g c s g' c' s') : ∀ {E : List (yy_SVF × yy_DVF × List yy_LGE × Nat)} {S S' : yy_SVF} {T T' : yy_DVF} {r : Option Nat} {t nd q : Nat}, E.length ≤ 3 → t ≤ 160 →
    (∀ a v, a < yy_cn c → (yy_gow g a).1 ≠ 0 → S a = some v → S' a = some v) → (∀ a, a < yy_cn c → (yy_gow g a).1 ≠ 0 → S a = none → S' a = none) → (∀ a v, T a = some v → T' a = some v) → yy_RSv g c s S T r t nd q E → yy_RSv g' c' s' S' T' r t nd q E
  | [], _, _, _, _, _, _, _, _, _, _, _, _, _, _ => trivial
  | e :: E, S, S', T, T', r, t, nd, q, hE, ht, hS, hS0, hT, h => by
    obtain ⟨a, q1, t1, mk, h1, h2, h3, h4, h5, h6, h7, h8, h9, h10, h11, h12, h13, h14⟩ := h
    have kk := k
    obtain ⟨⟨a1, a2, a3, a4, a5⟩, ⟨b1, b2, b3, b4⟩, kS, kD, kO, kR, kA, kd, kI, kp, kmA, kmL, kmD, kmI, kG⟩ := kk
    have hE' : E.length + 1 ≤ 3 := by
      rw [List.length_cons] at hE
      exact hE
    have hrel : ∀ b, yy_REL c' e.2.1 t1 e.2.2.2 b → b < yy_cn c ∧ (yy_gow g b).1 ≠ 0 ∧ yy_REL c e.2.1 t1 e.2.2.2 b := fun b hb => by
      have hb' := yy_REL_KP hL k h13 hb
      refine ⟨?_, ?_, hb'⟩
      · rcases hb' with ⟨i, g1, g2⟩ | ⟨d, y, v, L, ee, g1, g2, g3, g4, g5, g6⟩
        · obtain ⟨x, v, p1, p2, p3, p4, p5, p6⟩ := h12.2 i g1
          rw [g2] at p1
          cases p1
          exact p2
        · obtain ⟨x, r, f, L2, p1, p2, p3, p4, p5, p6, p7, p8⟩ := h13.2.2 d g1
          rw [g2] at p1
          cases p1
          rw [g3] at p2
          cases p2
          have := yy_CH_inj g4 p6
          subst this
          obtain ⟨i, hi⟩ := List.getElem?_of_mem g5
          rw [← g6]
          exact (p8 i ee hi).2.1
      · rcases hb' with ⟨i, g1, g2⟩ | ⟨d, y, v, L, ee, g1, g2, g3, g4, g5, g6⟩
        · obtain ⟨x, v, p1, p2, p3, p4, p5, p6⟩ := h12.2 i g1
          rw [g2] at p1
          cases p1
          rw [p4]
          exact Nat.one_ne_zero
        · obtain ⟨x, r, f, L2, p1, p2, p3, p4, p5, p6, p7, p8⟩ := h13.2.2 d g1
          rw [g2] at p1
          cases p1
          rw [g3] at p2
          cases p2
          have := yy_CH_inj g4 p6
          subst this
          obtain ⟨i, hi⟩ := List.getElem?_of_mem g5
          rw [← g6, (p8 i ee hi).2.2.1]
          exact Nat.succ_ne_zero 2
    have hSe : ∀ b, yy_REL c' e.2.1 t1 e.2.2.2 b → S' b = S b := fun b hb => by
      obtain ⟨r1, r2, r3⟩ := hrel b hb
      rcases hs : S b with _ | v
      · exact hS0 b r1 r2 hs
      · exact hS b v r1 r2 hs
    refine ⟨a, q1, t1, mk, by rw [kR 277 (by decide)]; exact h1, kO _ _ (hL.o h2) h2, by rw [kmA 13 (by decide)]; exact h3, h4, by rw [kmA 14 (by decide)]; exact h5, h6, h7, yy_LG_KP hL k h8, fun b hb => ?_, fun d b hd hb => ?_, fun b v hb hv hq => ?_, yy_RCe_KP k (fun _ _ _ _ z => z) hE' (by omega) h12, yy_RDi_KP hL k (fun _ _ _ _ z => z) (fun _ _ z => z) hE' h13, yy_RSv_KP hL k (by omega) (by omega) (fun _ _ _ _ z => z) (fun _ _ _ z => z) (fun _ _ z => z) h14⟩
    · rw [hSe b hb]
      exact h9 b (hrel b hb).2.2
    · rw [kR 273 (by decide)] at hb
      obtain ⟨v, g1, g2, g3⟩ := h10 d b hd hb
      exact ⟨v, hT _ _ g1, yy_FO_KP hL k g2, g3⟩
    · rw [hSe b hb] at hv
      exact h11 b v (hrel b hb).2.2 hv hq
theorem yy_RPt_KP {g g' : yy_GT} {c c' : yy_CT} {s s' : MT} (k : yy_KP g c s g' c' s') (h : yy_RPt c s) : yy_RPt c' s' := by
  obtain ⟨_, _, kS, kD, kO, kR, kA, kd, kI, kp, kmA, kmL, kmD, kmI, kG⟩ := k
  unfold yy_RPt
  rw [kmI 41 (by decide), kd 278, kd 279, kA 280, kmD 38 (by decide), kmD 39 (by decide), kmA 40 (by decide)]
  exact h
theorem yy_RPx_KP {g g' : yy_GT} {c c' : yy_CT} {s s' : MT} (k : yy_KP g c s g' c' s') (h : yy_RPx c s) : yy_RPx c' s' := by
  obtain ⟨_, _, kS, kD, kO, kR, kA, kd, kI, kp, kmA, kmL, kmD, kmI, kG⟩ := k
  unfold yy_RPx
  rw [kmI 34 (by decide), kmI 35 (by decide), kG, kmA 36 (by decide)]
  simp only [kA]
  exact h
theorem yy_RTx_KP {g g' : yy_GT} {c c' : yy_CT} {s s' : MT} (k : yy_KP g c s g' c' s') (h : yy_RTx c s) : yy_RTx c' s' := by
  obtain ⟨_, ⟨b1, b2, b3, b4⟩, kS, kD, kO, kR, kA, kd, kI, kp, kmA, kmL, kmD, kmI, kG⟩ := k
  unfold yy_RTx
  rw [kmI 24 (by decide), b2, kA 266, kmA 23 (by decide)]
  exact h
theorem yy_NC_cong {c c' : yy_CT} (h : ∀ a v, yy_ov c a = some v → yy_ov c' a = some v) : ∀ {L : List Nat} {r : Option Nat}, yy_NC c r L → yy_NC c' r L
  | [], _, e => e
  | _ :: _, _, e => by
    obtain ⟨e1, t, o, x, e2, e3⟩ := e
    exact ⟨e1, t, o, x, h _ _ e2, yy_NC_cong h e3⟩
theorem yy_oa_cong {c c' : yy_CT} (h : ∀ a v, yy_ov c a = some v → yy_ov c' a = some v) {a : Nat} {e : xE} (q : yy_oa c a = some e) : yy_oa c' a = some e := by
  unfold yy_oa at *
  by_cases h1 : a < 224
  · rw [if_pos h1] at *
    exact q
  · rw [if_neg h1] at *
    by_cases h2 : a < 256
    · rw [if_pos h2] at *
      exact q
    · rw [if_neg h2] at *
      exact h _ _ q
theorem yy_RNm_KP {g g' : yy_GT} {c c' : yy_CT} {s s' : MT} (hL : yy_LOW c) (k : yy_KP g c s g' c' s') (h : yy_RNm g c s) : yy_RNm g' c' s' := by
  obtain ⟨⟨a1, a2, a3, a4, a5⟩, ⟨b1, b2, b3, b4⟩, kS, kD, kO, kR, kA, kd, kI, kp, kmA, kmL, kmD, kmI, kG⟩ := k
  have hov : ∀ a v, yy_ov c a = some v → yy_ov c' a = some v := fun a v e => kO a v (hL.o e) e
  obtain ⟨h1, h2, h3, h4⟩ := h
  unfold yy_RNm
  rw [a1, kmI 30 (by decide), kmL 29 (by decide), kR 264 (by decide)]
  refine ⟨fun p hp => ?_, h2, fun b hb => ?_, h4⟩
  · obtain ⟨tx, o, x, w, e1, e2, e3, e4, e5, L, e6, e7⟩ := h1 p hp
    obtain ⟨b, f, f1, f2, f3⟩ := e2
    exact ⟨tx, o, x, w, hov _ _ e1, ⟨b, f, yy_oa_cong hov f1, yy_oa_cong hov f2, f3⟩, e3, e4, e5, L, yy_NC_cong hov e6, e7⟩
  · obtain ⟨L, e1, e2⟩ := h3 b hb
    exact ⟨L, yy_NC_cong hov e1, e2⟩
/-- all but the stack -/
def yy_RO (g : yy_GT) (c : yy_CT) (s : MT) (t nd o : Nat) : Prop :=
  ((t ≤ 160 ∧ yy_ghC g ≤ 160) ∧ mI 5 s = nI t) ∧ (yy_cI 104 c = nI nd) ∧ ((o ≤ 3 ∧ (yy_gsv g).length = o) ∧ mI 12 s = nI o) ∧ yy_RCe g c s 0 (yy_slv c) t nd o ∧ yy_RDi g c s 0 (yy_slv c) (yy_dcv c) t nd o ∧ yy_RDs c s nd ∧ yy_RTb s ∧
  ((∀ i, i < yy_ghC g → ∃ a v, yy_cR 270 c i = some a ∧ yy_slv c a = some v ∧ yy_gow g a = (1, i)) ∧ ∀ i, yy_ghC g ≤ i → i < 160 → yy_cR 270 c i = none) ∧
  (∃ sn : Nat, mI 11 s = nI sn ∧ sn ≤ yy_cn c ∧ yy_RSv g c s (yy_slv c) (yy_dcv c) (yy_cl c) t nd (sn + 1) (yy_gsv g)) ∧ yy_RPt c s ∧ yy_RPx c s ∧ yy_RTx c s ∧ yy_RNm g c s
theorem yy_RO_KP {g g' : yy_GT} {c c' : yy_CT} {s s' : MT} {t nd o : Nat} (hL : yy_LOW c) (k : yy_KP g c s g' c' s') (h : yy_RO g c s t nd o) : yy_RO g' c' s' t nd o := by
  obtain ⟨h1, h2, h3, h4, h5, h6, h7, h8, ⟨sn, h9, h10, h11⟩, h12, h13, h14, h15⟩ := h
  obtain ⟨⟨a1, a2, a3, a4, a5⟩, ⟨b1, b2, b3, b4⟩, kS, kD, kO, kR, kA, kd, kI, kp, kmA, kmL, kmD, kmI, kG⟩ := id k
  refine ⟨⟨by rw [a2]; exact h1.1, by rw [kmI 5 (by decide)]; exact h1.2⟩, by rw [kI 104 (by decide) (by decide) (by decide)]; exact h2, ⟨by rw [a4]; exact h3.1, by rw [kmI 12 (by decide)]; exact h3.2⟩, yy_RCe_KP k (fun a v ha hg e => (kS a ha hg).trans e) (by decide) h1.1.1 h4, yy_RDi_KP hL k (fun a v ha hg e => (kS a ha hg).trans e) (fun a v e => kD a v (hL.d e) e) (by decide) h5, yy_RDs_KP k h6, by unfold yy_RTb at *; rw [kmA 42 (by decide), kmL 43 (by decide), kmL 44 (by decide)]; exact h7, ?_, ?_, yy_RPt_KP k h12, yy_RPx_KP k h13, yy_RTx_KP k h14, yy_RNm_KP hL k h15⟩
  · rw [a2, kR 270 (by decide)]
    refine ⟨fun i hi => ?_, h8.2⟩
    obtain ⟨a, v, e1, e2, e3⟩ := h8.1 i hi
    have ha := hL.s e2
    have n3 : (yy_gow g a).1 ≠ 0 := by rw [e3]; exact Nat.one_ne_zero
    exact ⟨a, v, e1, (kS a ha n3).trans e2, (a5 a ha n3).trans e3⟩
  · refine ⟨sn, by rw [kmI 11 (by decide)]; exact h9, by omega, ?_⟩
    rw [a4, b3]
    exact yy_RSv_KP hL k (by rw [h3.1.2]; exact h3.1.1) h1.1.1 (fun a v ha hg e => (kS a ha hg).trans e) (fun a ha hg e => (kS a ha hg).trans e) (fun a v e => kD a v (hL.d e) e) h11
/-- THE RELATION: m cells may be made yet; t cells taken, nd dicts, o saves, n values -/
def yy_RR (g : yy_GT) (m : Nat) (c : yy_CT) (s : MT) (t nd o n : Nat) : Prop :=
  (yy_FRc c ∧ yy_LOW c ∧ yy_RMc c (m + (41 - yy_ghS g) + (160 - yy_ghC g) + (120 - yy_ghD g))) ∧ (mI 4 s = nI n ∧ yy_REq c s) ∧ yy_RSt g c s t nd o n ∧ yy_RO g c s t nd o
