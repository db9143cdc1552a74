/-! rows by Option-valued looks at the heap: what the extracted functions of the component use -/
def oI : xV → Option Int32
  | .inl x => some x
  | _ => none
def oL : xV → Option Int64
  | .inr (.inl x) => some x
  | _ => none
def oF : xV → Option UInt32
  | .inr (.inr (.inl x)) => some x
  | _ => none
def oD : xV → Option UInt64
  | .inr (.inr (.inr (.inl x))) => some x
  | _ => none
def oR : xV → Option (Option Nat)
  | .inr (.inr (.inr (.inr x))) => some x
  | _ => none
theorem oI_s {v : xV} {x : Int32} (h : oI v = some x) : v = vI x := by
  rcases v with y | y | y | y | y <;> first | (cases h; rfl) | cases h
theorem oF_s {v : xV} {x : UInt32} (h : oF v = some x) : v = vF x := by
  rcases v with y | y | y | y | y <;> first | (cases h; rfl) | cases h
theorem oD_s {v : xV} {x : UInt64} (h : oD v = some x) : v = vD x := by
  rcases v with y | y | y | y | y <;> first | (cases h; rfl) | cases h
theorem oR_s {v : xV} {x : Option Nat} (h : oR v = some x) : v = vR x := by
  rcases v with y | y | y | y | y <;> first | (cases h; rfl) | cases h
/-- the object of class c that r names: its fields -/
def gO (sc : xSc) (u : xH) (c : Nat) (r : Option Nat) : Option (List xV) := match r with
  | none => none
  | some a => match xat sc u a with
    | some (.inl o) => if o.1 = c then some o.2 else none
    | _ => none
theorem gO_s {sc : xSc} {u : xH} {c : Nat} {r : Option Nat} {fs : List xV} (h : gO sc u c r = some fs) : ∃ a, r = some a ∧ xat sc u a = some (.inl (c, fs)) := by
  unfold gO at h
  cases r with
  | none => cases h
  | some a =>
    refine ⟨a, rfl, ?_⟩
    dsimp only at h
    split at h
    · next o e =>
      split at h
      · next e2 =>
        cases h
        rw [e, ← e2]
      · cases h
    · cases h
def gI (sc : xSc) (u : xH) (c k : Nat) (r : Option Nat) : Option Int32 := (gO sc u c r).bind fun fs => oI (xget fs k)
def gF (sc : xSc) (u : xH) (c k : Nat) (r : Option Nat) : Option UInt32 := (gO sc u c r).bind fun fs => oF (xget fs k)
def gD (sc : xSc) (u : xH) (c k : Nat) (r : Option Nat) : Option UInt64 := (gO sc u c r).bind fun fs => oD (xget fs k)
def gR (sc : xSc) (u : xH) (c k : Nat) (r : Option Nat) : Option (Option Nat) := (gO sc u c r).bind fun fs => oR (xget fs k)
def xis (sc : xSc) (u : xH) (c : Nat) (r : Option Nat) : Bool := (gO sc u c r).isSome
theorem xis_s {sc : xSc} {u : xH} {c : Nat} {r : Option Nat} (h : xis sc u c r = true) : ∃ a fs, r = some a ∧ xat sc u a = some (.inl (c, fs)) := by
  unfold xis at h
  obtain ⟨fs, e⟩ := Option.isSome_iff_exists.mp h
  obtain ⟨a, e1, e2⟩ := gO_s e
  exact ⟨a, fs, e1, e2⟩
/-- an object that was made: its number and fields -/
def pO (u : xH) (c : Nat) (r : Option Nat) : Option (Nat × List xV) := match r with
  | none => none
  | some a => if xK ≤ a then (match u.1 a with
    | some (.inl o) => if o.1 = c then some (a, o.2) else none
    | _ => none) else none
theorem pO_s {u : xH} {c : Nat} {r : Option Nat} {q : Nat × List xV} (h : pO u c r = some q) : r = some q.1 ∧ xK ≤ q.1 ∧ u.1 q.1 = some (.inl (c, q.2)) := by
  unfold pO at h
  cases r with
  | none => cases h
  | some a =>
    dsimp only at h
    split at h
    · next hk =>
      split at h
      · next o e =>
        split at h
        · next e2 =>
          cases h
          exact ⟨rfl, hk, by rw [e, ← e2]⟩
        · cases h
      · cases h
    · cases h
def pV (u : xH) (c k : Nat) (r : Option Nat) (v : xV) : Option xH := (pO u c r).map fun q => xup u q.1 (.inl (c, q.2.set k v))
theorem pV_s {u w : xH} {c k : Nat} {r : Option Nat} {v : xV} (h : pV u c k r v = some w) : ∃ a fs, r = some a ∧ xK ≤ a ∧ u.1 a = some (.inl (c, fs)) ∧ w = xup u a (.inl (c, fs.set k v)) := by
  obtain ⟨q, h1, h2⟩ := Option.map_eq_some_iff.mp h
  obtain ⟨e1, e2, e3⟩ := pO_s h1
  exact ⟨q.1, q.2, e1, e2, e3, h2.symm⟩
/-- the array that r names -/
def aO (sc : xSc) (u : xH) (r : Option Nat) : Option (FieldType × vp_A) := match r with
  | none => none
  | some a => match xat sc u a with
    | some (.inr A) => some A
    | _ => none
theorem aO_s {sc : xSc} {u : xH} {r : Option Nat} {A : FieldType × vp_A} (h : aO sc u r = some A) : ∃ a, r = some a ∧ xat sc u a = some (.inr A) := by
  unfold aO at h
  cases r with
  | none => cases h
  | some a =>
    refine ⟨a, rfl, ?_⟩
    dsimp only at h
    split at h
    · next A2 e =>
      cases h
      exact e
    · cases h
def aN (sc : xSc) (u : xH) (r : Option Nat) : Option Int32 := (aO sc u r).map fun A => nI A.2.1
def aI (ty : FieldType) (sc : xSc) (u : xH) (r : Option Nat) (i : Int32) : Option Int32 := (aO sc u r).bind fun A => match A with
  | (ty2, (n, .inl f)) => if ty2 = ty then (if xin i n = true then some (f i.toNatClampNeg) else none) else none
  | _ => none
def aD (sc : xSc) (u : xH) (r : Option Nat) (i : Int32) : Option UInt64 := (aO sc u r).bind fun A => match A with
  | (ty2, (n, .inr (.inr (.inr (.inl f))))) => if ty2 = .double then (if xin i n = true then some (f i.toNatClampNeg) else none) else none
  | _ => none
def aR (sc : xSc) (u : xH) (r : Option Nat) (i : Int32) : Option (Option Nat) := (aO sc u r).bind fun A => match A with
  | (ty2, (n, .inr (.inr (.inr (.inr f))))) => if ty2.isReference = true then (if xin i n = true then some (f i.toNatClampNeg) else none) else none
  | _ => none
theorem aI_s {ty : FieldType} {sc : xSc} {u : xH} {r : Option Nat} {i x : Int32} (h : aI ty sc u r i = some x) : ∃ a n f, r = some a ∧ xat sc u a = some (.inr (ty, (n, .inl f))) ∧ xin i n = true ∧ x = f i.toNatClampNeg := by
  obtain ⟨A, h1, h2⟩ := Option.bind_eq_some_iff.mp h
  obtain ⟨a, e1, e2⟩ := aO_s h1
  split at h2
  · split at h2
    · next e3 =>
      subst e3
      obtain ⟨h3, h4⟩ := ite_some h2
      exact ⟨a, _, _, e1, e2, h3, (Option.some.inj h4).symm⟩
    · cases h2
  · cases h2
theorem aD_s {sc : xSc} {u : xH} {r : Option Nat} {i : Int32} {x : UInt64} (h : aD sc u r i = some x) : ∃ a n f, r = some a ∧ xat sc u a = some (.inr (.double, (n, .inr (.inr (.inr (.inl f)))))) ∧ xin i n = true ∧ x = f i.toNatClampNeg := by
  obtain ⟨A, h1, h2⟩ := Option.bind_eq_some_iff.mp h
  obtain ⟨a, e1, e2⟩ := aO_s h1
  split at h2
  · split at h2
    · next e3 =>
      subst e3
      obtain ⟨h3, h4⟩ := ite_some h2
      exact ⟨a, _, _, e1, e2, h3, (Option.some.inj h4).symm⟩
    · cases h2
  · cases h2
theorem aR_s {sc : xSc} {u : xH} {r : Option Nat} {i : Int32} {x : Option Nat} (h : aR sc u r i = some x) : ∃ a ty n f, r = some a ∧ ty.isReference = true ∧ xat sc u a = some (.inr (ty, (n, .inr (.inr (.inr (.inr f)))))) ∧ xin i n = true ∧ x = f i.toNatClampNeg := by
  obtain ⟨A, h1, h2⟩ := Option.bind_eq_some_iff.mp h
  obtain ⟨a, e1, e2⟩ := aO_s h1
  split at h2
  · obtain ⟨h3, h2⟩ := ite_some h2
    obtain ⟨h4, h5⟩ := ite_some h2
    exact ⟨a, _, _, _, e1, h3, e2, h4, (Option.some.inj h5).symm⟩
  · cases h2
/-- an array that was made -/
def qO (u : xH) (r : Option Nat) : Option (Nat × FieldType × vp_A) := match r with
  | none => none
  | some a => if xK ≤ a then (match u.1 a with
    | some (.inr A) => some (a, A)
    | _ => none) else none
theorem qO_s {u : xH} {r : Option Nat} {q : Nat × FieldType × vp_A} (h : qO u r = some q) : r = some q.1 ∧ xK ≤ q.1 ∧ u.1 q.1 = some (.inr q.2) := by
  unfold qO at h
  cases r with
  | none => cases h
  | some a =>
    dsimp only at h
    split at h
    · next hk =>
      split at h
      · next A e =>
        cases h
        exact ⟨rfl, hk, e⟩
      · cases h
    · cases h
def bI (ty : FieldType) (u : xH) (r : Option Nat) (i x : Int32) : Option xH := (qO u r).bind fun q => match q with
  | (a, (ty2, (n, .inl f))) => if ty2 = ty then (if xin i n = true then some (xup u a (.inr (ty, (n, .inl (va_up f i.toNatClampNeg x))))) else none) else none
  | _ => none
def bL (u : xH) (r : Option Nat) (i : Int32) (x : Int64) : Option xH := (qO u r).bind fun q => match q with
  | (a, (ty2, (n, .inr (.inl f)))) => if ty2 = .long then (if xin i n = true then some (xup u a (.inr (.long, (n, .inr (.inl (va_up f i.toNatClampNeg x)))))) else none) else none
  | _ => none
def bD (u : xH) (r : Option Nat) (i : Int32) (x : UInt64) : Option xH := (qO u r).bind fun q => match q with
  | (a, (ty2, (n, .inr (.inr (.inr (.inl f)))))) => if ty2 = .double then (if xin i n = true then some (xup u a (.inr (.double, (n, .inr (.inr (.inr (.inl (va_up f i.toNatClampNeg x)))))))) else none) else none
  | _ => none
def bR (C : String) (c : Nat) (sc : xSc) (u : xH) (r : Option Nat) (i : Int32) (x : Option Nat) : Option xH := (qO u r).bind fun q => match q with
  | (a, (ty2, (n, .inr (.inr (.inr (.inr f)))))) => if ty2 = .object C then (if xin i n = true then (if (x.isNone || xis sc u c x) = true then some (xup u a (.inr (.object C, (n, .inr (.inr (.inr (.inr (va_up f i.toNatClampNeg x)))))))) else none) else none) else none
  | _ => none
theorem bI_s {ty : FieldType} {u w : xH} {r : Option Nat} {i x : Int32} (h : bI ty u r i x = some w) : ∃ a n f, r = some a ∧ xK ≤ a ∧ u.1 a = some (.inr (ty, (n, .inl f))) ∧ xin i n = true ∧ w = xup u a (.inr (ty, (n, .inl (va_up f i.toNatClampNeg x)))) := by
  obtain ⟨A, h1, h2⟩ := Option.bind_eq_some_iff.mp h
  obtain ⟨e1, e2, e4⟩ := qO_s h1
  split at h2
  · split at h2
    · next e3 =>
      subst e3
      obtain ⟨h3, h4⟩ := ite_some h2
      exact ⟨_, _, _, e1, e2, e4, h3, (Option.some.inj h4).symm⟩
    · cases h2
  · cases h2
theorem bL_s {u w : xH} {r : Option Nat} {i : Int32} {x : Int64} (h : bL u r i x = some w) : ∃ a n f, r = some a ∧ xK ≤ a ∧ u.1 a = some (.inr (.long, (n, .inr (.inl f)))) ∧ xin i n = true ∧ w = xup u a (.inr (.long, (n, .inr (.inl (va_up f i.toNatClampNeg x))))) := by
  obtain ⟨A, h1, h2⟩ := Option.bind_eq_some_iff.mp h
  obtain ⟨e1, e2, e4⟩ := qO_s h1
  split at h2
  · split at h2
    · next e3 =>
      subst e3
      obtain ⟨h3, h4⟩ := ite_some h2
      exact ⟨_, _, _, e1, e2, e4, h3, (Option.some.inj h4).symm⟩
    · cases h2
  · cases h2
theorem bD_s {u w : xH} {r : Option Nat} {i : Int32} {x : UInt64} (h : bD u r i x = some w) : ∃ a n f, r = some a ∧ xK ≤ a ∧ u.1 a = some (.inr (.double, (n, .inr (.inr (.inr (.inl f)))))) ∧ xin i n = true ∧ w = xup u a (.inr (.double, (n, .inr (.inr (.inr (.inl (va_up f i.toNatClampNeg x))))))) := by
  obtain ⟨A, h1, h2⟩ := Option.bind_eq_some_iff.mp h
  obtain ⟨e1, e2, e4⟩ := qO_s h1
  split at h2
  · split at h2
    · next e3 =>
      subst e3
      obtain ⟨h3, h4⟩ := ite_some h2
      exact ⟨_, _, _, e1, e2, e4, h3, (Option.some.inj h4).symm⟩
    · cases h2
  · cases h2
theorem bR_s {C : String} {c : Nat} {sc : xSc} {u w : xH} {r : Option Nat} {i : Int32} {x : Option Nat} (h : bR C c sc u r i x = some w) : ∃ a n f, r = some a ∧ xK ≤ a ∧ u.1 a = some (.inr (.object C, (n, .inr (.inr (.inr (.inr f)))))) ∧ xin i n = true ∧ (x = none ∨ ∃ v fs, x = some v ∧ xat sc u v = some (.inl (c, fs))) ∧ w = xup u a (.inr (.object C, (n, .inr (.inr (.inr (.inr (va_up f i.toNatClampNeg x))))))) := by
  obtain ⟨A, h1, h2⟩ := Option.bind_eq_some_iff.mp h
  obtain ⟨e1, e2, e4⟩ := qO_s h1
  split at h2
  · split at h2
    · next e3 =>
      subst e3
      obtain ⟨h3, h4⟩ := ite_some h2
      obtain ⟨h5, h6⟩ := ite_some h4
      refine ⟨_, _, _, e1, e2, e4, h3, ?_, (Option.some.inj h6).symm⟩
      rw [Bool.or_eq_true] at h5
      rcases h5 with h5 | h5
      · exact Or.inl (Option.isNone_iff_eq_none.mp h5)
      · obtain ⟨v, fs, z1, z2⟩ := xis_s h5
        exact Or.inr ⟨v, fs, z1, z2⟩
    · cases h2
  · cases h2
/-- room for a cell of n slots -/
def xrm (u : xH) (n : Nat) : Bool := decide (u.2.1 + 1 ≤ xCM) && decide (u.2.2 + n ≤ xSM)
theorem xrm_s {u : xH} {n : Nat} (h : xrm u n = true) : u.2.1 + 1 ≤ xCM ∧ u.2.2 + n ≤ xSM := by
  unfold xrm at h
  rw [Bool.and_eq_true] at h
  exact ⟨of_decide_eq_true h.1, of_decide_eq_true h.2⟩
def nO (c N n : Nat) (u : xH) : Option xH := if xrm u n = true then some (xnew u (.inl (c, xdef c N)) n) else none
def nA (f : Nat → xE) (u : xH) (n : Int32) : Option xH := if (decide (0 ≤ n) && decide (n.toNatClampNeg ≤ 100000) && xrm u n.toNatClampNeg) = true then some (xnew u (f n.toNatClampNeg) n.toNatClampNeg) else none
def eInt (N : Nat) : xE := .inr (.int, (N, .inl fun _ => 0))
def eByte (N : Nat) : xE := .inr (.byte, (N, .inl fun _ => 0))
def eDouble (N : Nat) : xE := .inr (.double, (N, .inr (.inr (.inr (.inl fun _ => 0)))))
def eLong (N : Nat) : xE := .inr (.long, (N, .inr (.inl fun _ => 0)))
def eChar (N : Nat) : xE := .inr (.char, (N, .inl fun _ => 0))
def eRef (C : String) (N : Nat) : xE := .inr (.object C, (N, .inr (.inr (.inr (.inr fun _ => none)))))
theorem nI_clampR {n : Int32} (h : 0 ≤ n) : n = nI n.toNatClampNeg := by
  have h1 : (0 : Int) ≤ n.toInt := by simpa using Int32.le_iff_toInt_le.mp h
  have h2 := Int32.toInt_lt n
  refine Int32.toInt_inj.mp ?_
  have : (nI n.toNatClampNeg).toInt = (n.toNatClampNeg : Int) := by
    refine nI_toInt ?_
    show n.toInt.toNat < _
    omega
  rw [this]
  show n.toInt = (n.toInt.toNat : Int)
  omega
theorem nA_s {f : Nat → xE} {u w : xH} {n : Int32} (h : nA f u n = some w) : n = nI n.toNatClampNeg ∧ n.toNatClampNeg ≤ 100000 ∧ u.2.1 + 1 ≤ xCM ∧ u.2.2 + n.toNatClampNeg ≤ xSM ∧ w = xnew u (f n.toNatClampNeg) n.toNatClampNeg := by
  unfold nA at h
  obtain ⟨h1, h2⟩ := ite_some h
  rw [Bool.and_eq_true, Bool.and_eq_true] at h1
  obtain ⟨e1, e2⟩ := xrm_s h1.2
  exact ⟨nI_clampR (of_decide_eq_true h1.1.1), of_decide_eq_true h1.1.2, e1, e2, (Option.some.inj h2).symm⟩
def xcm (r : Option Nat) : Bool := match r with
  | none => true
  | some a => decide (a < 80) || decide (xK ≤ a)
theorem xcm_s {r : Option Nat} (h : xcm r = true) : xcmpOk r := by
  intro a e
  subst e
  unfold xcm at h
  rw [Bool.or_eq_true] at h
  rcases h with h | h
  · exact Or.inl (of_decide_eq_true h)
  · exact Or.inr (of_decide_eq_true h)
/-- what a call comes to: a value, or a thrown object -/
def tB {T S : Type} (x : Option ((T ⊕ Nat) × xH)) (k : T → xH → Option S) (e : Nat → xH → Option S) : Option S := match x with
  | some (.inl v, u) => k v u
  | some (.inr a, u) => e a u
  | none => none
theorem tB_s {T S : Type} {x : Option ((T ⊕ Nat) × xH)} {k : T → xH → Option S} {e : Nat → xH → Option S} {z : S} (h : tB x k e = some z) : (∃ a u, x = some (.inr a, u) ∧ e a u = some z) ∨ ∃ v u, x = some (.inl v, u) ∧ k v u = some z := by
  unfold tB at h
  split at h
  · exact Or.inr ⟨_, _, rfl, h⟩
  · exact Or.inl ⟨_, _, rfl, h⟩
  · cases h
def cvU : Unit ⊕ Nat → xR
  | .inl _ => .inl none
  | .inr a => .inr a
def cvI : Int32 ⊕ Nat → xR
  | .inl v => .inl (some (vI v))
  | .inr a => .inr a
def cvD : UInt64 ⊕ Nat → xR
  | .inl v => .inl (some (vD v))
  | .inr a => .inr a
def cvR : Option Nat ⊕ Nat → xR
  | .inl v => .inl (some (vR v))
  | .inr a => .inr a
section CR
variable {sc : xSc} {M : xM} {d : Nat} {Q : xR → xH → Prop} {h : xH} {pc : Nat} {L : List (Option xV)} {st : List xV} {r : Option Nat}
theorem x_dmono {d' : Nat} (hd : d ≤ d') (k : xW sc M d Q h pc L st) : xW sc M d' Q h pc L st := by
  intro G p l e R s m args below meth cd H locs cells slots ls n0 s0 g1 g2
  obtain ⟨a1, a2, a3, a4, a5, a6, a7, a8, a9, a10, a11, a12⟩ := g2
  exact k G p l e R s m args below meth cd H locs cells slots ls n0 s0 g1 ⟨a1, a2, a3, a4, a5, a6, a7, a8, a9, Nat.le_trans hd a10, Nat.le_trans (Nat.mul_le_mul_left 46 hd) a11, a12⟩
theorem c_ifnull {off : Int} {tgt : Nat} (hd : decode M.2.1 pc = .ok (.ifnull off, 3)) (ht : (pc : Int) + off = (tgt : Int)) (kt : r = none → xW sc M d Q h tgt L st) (kf : ¬ r = none → xW sc M d Q h (pc + 3) L st) : xW sc M d Q h pc L (vR r :: st) :=
  x_ifnull hd ht kt (fun a e => kf (by rw [e]; nofun))
theorem c_ifnonnull {off : Int} {tgt : Nat} (hd : decode M.2.1 pc = .ok (.ifnonnull off, 3)) (ht : (pc : Int) + off = (tgt : Int)) (kt : ¬ r = none → xW sc M d Q h tgt L st) (kf : r = none → xW sc M d Q h (pc + 3) L st) : xW sc M d Q h pc L (vR r :: st) :=
  x_ifnonnull hd ht (fun a e => kt (by rw [e]; nofun)) kf
theorem c_getI {idx c k : Nat} {x : Int32} (hd : decode M.2.1 pc = .ok (.getfield idx, 3)) (hl : xFl M.1 idx c k) (hg : gI sc h c k r = some x) (kk : xW sc M d Q h (pc + 3) L (vI x :: st)) : xW sc M d Q h pc L (vR r :: st) := by
  obtain ⟨fs, h1, h2⟩ := Option.bind_eq_some_iff.mp hg
  obtain ⟨a, rfl, e⟩ := gO_s h1
  exact x_getf hd hl e (oI_s h2) kk
theorem c_getF {idx c k : Nat} {x : UInt32} (hd : decode M.2.1 pc = .ok (.getfield idx, 3)) (hl : xFl M.1 idx c k) (hg : gF sc h c k r = some x) (kk : xW sc M d Q h (pc + 3) L (vF x :: st)) : xW sc M d Q h pc L (vR r :: st) := by
  obtain ⟨fs, h1, h2⟩ := Option.bind_eq_some_iff.mp hg
  obtain ⟨a, rfl, e⟩ := gO_s h1
  exact x_getf hd hl e (oF_s h2) kk
theorem c_getD {idx c k : Nat} {x : UInt64} (hd : decode M.2.1 pc = .ok (.getfield idx, 3)) (hl : xFl M.1 idx c k) (hg : gD sc h c k r = some x) (kk : xW sc M d Q h (pc + 3) L (vD x :: st)) : xW sc M d Q h pc L (vR r :: st) := by
  obtain ⟨fs, h1, h2⟩ := Option.bind_eq_some_iff.mp hg
  obtain ⟨a, rfl, e⟩ := gO_s h1
  exact x_getf hd hl e (oD_s h2) kk
theorem c_getR {idx c k : Nat} {x : Option Nat} (hd : decode M.2.1 pc = .ok (.getfield idx, 3)) (hl : xFl M.1 idx c k) (hg : gR sc h c k r = some x) (kk : xW sc M d Q h (pc + 3) L (vR x :: st)) : xW sc M d Q h pc L (vR r :: st) := by
  obtain ⟨fs, h1, h2⟩ := Option.bind_eq_some_iff.mp hg
  obtain ⟨a, rfl, e⟩ := gO_s h1
  exact x_getf hd hl e (oR_s h2) kk
theorem c_putf {idx c k : Nat} {v : xV} {w : xH} (hd : decode M.2.1 pc = .ok (.putfield idx, 3)) (hl : xFl M.1 idx c k) (hp : xFp c k false) (hf : xfit (xTy c k) v) (hg : pV h c k r v = some w) (kk : xW sc M d Q w (pc + 3) L st) : xW sc M d Q h pc L (v :: vR r :: st) := by
  obtain ⟨a, fs, rfl, h1, h2, rfl⟩ := pV_s hg
  exact x_putf hd hl hp h1 h2 hf kk
theorem c_putF {idx c k : Nat} {v : xV} {w : xH} (hd : decode M.2.1 pc = .ok (.putfield idx, 3)) (hl : xFl M.1 idx c k) (hp : xFp c k true) (hi : M.2.2.2.2.2 = "<init>") (ho : ∃ q : vw_C, xCl[c]? = some q ∧ (q.2.1 k).1 = M.1 ∧ Cond.fieldLink M.1 idx M.1 (q.2.1 k).2.1 (q.2.1 k).2.2.1 ∈ lw_tbl) (hf : xfit (xTy c k) v) (hg : pV h c k r v = some w) (kk : xW sc M d Q w (pc + 3) L st) : xW sc M d Q h pc L (v :: vR r :: st) := by
  obtain ⟨a, fs, rfl, h1, h2, rfl⟩ := pV_s hg
  exact x_putF hd hl hp hi ho h1 h2 hf kk
theorem c_alen {x : Int32} (hd : decode M.2.1 pc = .ok (.arraylength, 1)) (hg : aN sc h r = some x) (kk : xW sc M d Q h (pc + 1) L (vI x :: st)) : xW sc M d Q h pc L (vR r :: st) := by
  obtain ⟨A, h1, h2⟩ := Option.map_eq_some_iff.mp hg
  obtain ⟨a, rfl, e⟩ := aO_s h1
  subst h2
  exact x_alen hd e kk
theorem c_iald {i x : Int32} (hd : decode M.2.1 pc = .ok (.iaload, 1)) (hg : aI .int sc h r i = some x) (kk : xW sc M d Q h (pc + 1) L (vI x :: st)) : xW sc M d Q h pc L (vI i :: vR r :: st) := by
  obtain ⟨a, n, f, rfl, h1, h2, rfl⟩ := aI_s hg
  exact x_iald hd h1 (xin_vp h2) kk
theorem c_bald {i x : Int32} (hd : decode M.2.1 pc = .ok (.baload, 1)) (hg : aI .byte sc h r i = some x) (kk : xW sc M d Q h (pc + 1) L (vI x :: st)) : xW sc M d Q h pc L (vI i :: vR r :: st) := by
  obtain ⟨a, n, f, rfl, h1, h2, rfl⟩ := aI_s hg
  exact x_bald hd h1 (xin_vp h2) kk
theorem c_dald {i : Int32} {x : UInt64} (hd : decode M.2.1 pc = .ok (.daload, 1)) (hg : aD sc h r i = some x) (kk : xW sc M d Q h (pc + 1) L (vD x :: st)) : xW sc M d Q h pc L (vI i :: vR r :: st) := by
  obtain ⟨a, n, f, rfl, h1, h2, rfl⟩ := aD_s hg
  exact x_dald hd h1 (xin_vp h2) kk
theorem c_aald {i : Int32} {x : Option Nat} (hd : decode M.2.1 pc = .ok (.aaload, 1)) (hg : aR sc h r i = some x) (kk : xW sc M d Q h (pc + 1) L (vR x :: st)) : xW sc M d Q h pc L (vI i :: vR r :: st) := by
  obtain ⟨a, ty, n, f, rfl, h0, h1, h2, rfl⟩ := aR_s hg
  exact x_aald hd h1 h0 (xin_vp h2) kk
theorem c_iast {i x : Int32} {w : xH} (hd : decode M.2.1 pc = .ok (.iastore, 1)) (hg : bI .int h r i x = some w) (kk : xW sc M d Q w (pc + 1) L st) : xW sc M d Q h pc L (vI x :: vI i :: vR r :: st) := by
  obtain ⟨a, n, f, rfl, h1, h2, h3, rfl⟩ := bI_s hg
  exact x_iast hd h1 h2 (xin_vp h3) kk
theorem c_bast {i x : Int32} {w : xH} (hd : decode M.2.1 pc = .ok (.bastore, 1)) (hg : bI .byte h r i x.toInt8.toInt32 = some w) (kk : xW sc M d Q w (pc + 1) L st) : xW sc M d Q h pc L (vI x :: vI i :: vR r :: st) := by
  obtain ⟨a, n, f, rfl, h1, h2, h3, rfl⟩ := bI_s hg
  exact x_bast hd h1 h2 (xin_vp h3) kk
theorem c_last {i : Int32} {x : Int64} {w : xH} (hd : decode M.2.1 pc = .ok (.lastore, 1)) (hg : bL h r i x = some w) (kk : xW sc M d Q w (pc + 1) L st) : xW sc M d Q h pc L (vL x :: vI i :: vR r :: st) := by
  obtain ⟨a, n, f, rfl, h1, h2, h3, rfl⟩ := bL_s hg
  exact x_last hd h1 h2 (xin_vp h3) kk
theorem c_dast {i : Int32} {x : UInt64} {w : xH} (hd : decode M.2.1 pc = .ok (.dastore, 1)) (hg : bD h r i x = some w) (kk : xW sc M d Q w (pc + 1) L st) : xW sc M d Q h pc L (vD x :: vI i :: vR r :: st) := by
  obtain ⟨a, n, f, rfl, h1, h2, h3, rfl⟩ := bD_s hg
  exact x_dast hd h1 h2 (xin_vp h3) kk
theorem c_aast {C : String} {c : Nat} {i : Int32} {x : Option Nat} {w : xH} (hd : decode M.2.1 pc = .ok (.aastore, 1)) (hC : xCa c C) (hg : bR C c sc h r i x = some w) (kk : xW sc M d Q w (pc + 1) L st) : xW sc M d Q h pc L (vR x :: vI i :: vR r :: st) := by
  obtain ⟨a, n, f, rfl, h1, h2, h3, h4, rfl⟩ := bR_s hg
  rcases h4 with rfl | ⟨v, fs, rfl, h4⟩
  · exact x_aastN hd h1 h2 (xin_vp h3) kk
  · exact x_aast hd h1 h2 (xin_vp h3) h4 hC kk
theorem c_new {idx c n N : Nat} {w : xH} (hd : decode M.2.1 pc = .ok (.new idx, 3)) (hl : xNw M.1 idx c n) (hy : xLy c) (hN : ∃ q : vw_C, xCl[c]? = some q ∧ q.2.2 = N) (hg : nO c N n h = some w) (kk : xW sc M d Q w (pc + 3) L (vR (some h.2.1) :: st)) : xW sc M d Q h pc L st := by
  unfold nO at hg
  obtain ⟨h1, h2⟩ := ite_some hg
  cases h2
  exact x_new hd hl hy hN (xrm_s h1).1 (xrm_s h1).2 kk
theorem c_newa_int {n : Int32} {w : xH} (hd : decode M.2.1 pc = .ok (.newarray .int, 2)) (hl : Cond.arrayClass .int ∈ lw_tbl) (hg : nA eInt h n = some w) (kk : xW sc M d Q w (pc + 2) L (vR (some h.2.1) :: st)) : xW sc M d Q h pc L (vI n :: st) := by
  obtain ⟨h1, h2, h3, h4, rfl⟩ := nA_s hg
  exact x_newa_int hd hl h1 h2 h3 h4 kk
theorem c_newa_byte {n : Int32} {w : xH} (hd : decode M.2.1 pc = .ok (.newarray .byte, 2)) (hl : Cond.arrayClass .byte ∈ lw_tbl) (hg : nA eByte h n = some w) (kk : xW sc M d Q w (pc + 2) L (vR (some h.2.1) :: st)) : xW sc M d Q h pc L (vI n :: st) := by
  obtain ⟨h1, h2, h3, h4, rfl⟩ := nA_s hg
  exact x_newa_byte hd hl h1 h2 h3 h4 kk
theorem c_newa_double {n : Int32} {w : xH} (hd : decode M.2.1 pc = .ok (.newarray .double, 2)) (hl : Cond.arrayClass .double ∈ lw_tbl) (hg : nA eDouble h n = some w) (kk : xW sc M d Q w (pc + 2) L (vR (some h.2.1) :: st)) : xW sc M d Q h pc L (vI n :: st) := by
  obtain ⟨h1, h2, h3, h4, rfl⟩ := nA_s hg
  exact x_newa_double hd hl h1 h2 h3 h4 kk
theorem c_newa_long {n : Int32} {w : xH} (hd : decode M.2.1 pc = .ok (.newarray .long, 2)) (hl : Cond.arrayClass .long ∈ lw_tbl) (hg : nA eLong h n = some w) (kk : xW sc M d Q w (pc + 2) L (vR (some h.2.1) :: st)) : xW sc M d Q h pc L (vI n :: st) := by
  obtain ⟨h1, h2, h3, h4, rfl⟩ := nA_s hg
  exact x_newa_long hd hl h1 h2 h3 h4 kk
theorem c_newa_char {n : Int32} {w : xH} (hd : decode M.2.1 pc = .ok (.newarray .char, 2)) (hl : Cond.arrayClass .char ∈ lw_tbl) (hg : nA eChar h n = some w) (kk : xW sc M d Q w (pc + 2) L (vR (some h.2.1) :: st)) : xW sc M d Q h pc L (vI n :: st) := by
  obtain ⟨h1, h2, h3, h4, rfl⟩ := nA_s hg
  exact x_newa_char hd hl h1 h2 h3 h4 kk
theorem c_anew {idx : Nat} {C : String} {n : Int32} {w : xH} (hd : decode M.2.1 pc = .ok (.anewarray idx, 3)) (hl : Cond.classLink M.1 idx C ∈ lw_tbl) (hv : Cond.arrayOver (.object C) ∈ lw_tbl) (hg : nA (eRef C) h n = some w) (kk : xW sc M d Q w (pc + 3) L (vR (some h.2.1) :: st)) : xW sc M d Q h pc L (vI n :: st) := by
  obtain ⟨h1, h2, h3, h4, rfl⟩ := nA_s hg
  exact x_anew hd hl hv h1 h2 h3 h4 kk
theorem c_chk {idx c : Nat} {C : String} (hd : decode M.2.1 pc = .ok (.checkcast idx, 3)) (hl : Cond.classLink M.1 idx C ∈ lw_tbl) (hC : ∃ q : vw_C, xCl[c]? = some q ∧ Cond.castable q.1 C ∈ lw_tbl) (hg : xis sc h c r = true) (kk : xW sc M d Q h (pc + 3) L (vR r :: st)) : xW sc M d Q h pc L (vR r :: st) := by
  obtain ⟨a, fs, rfl, e⟩ := xis_s hg
  exact x_chk hd hl e hC kk
theorem c_obj {idx : Nat} (hd : decode M.2.1 pc = .ok (.invokespecial idx, 3)) (hl : Cond.methodLink M.1 idx Lib.objectInit ∈ lw_tbl) (hi : Cond.instanceMethod Lib.objectInit ∈ lw_tbl) (hc : Cond.code Lib.objectInit ⟨#[0xb1]⟩ 1 none ∈ lw_tbl) (hroom : (st.map xcat).sum + 12 ≤ 46) (hg : r.isSome = true) (kk : xW sc M (d + 1) Q h (pc + 3) L st) : xW sc M (d + 1) Q h pc L (vR r :: st) := by
  obtain ⟨a, rfl⟩ := Option.isSome_iff_exists.mp hg
  exact x_obj hd hl hi hc hroom kk
theorem c_invv {idx c : Nat} {y : MethodName} {Y : xM} {av stk : List xV} {Q' : xR → xH → Prop} (hd : decode M.2.1 pc = .ok (.invokevirtual idx, 3)) (hc : xCv M.1 idx c y av.length) (hy : xY y Y) (hob : xis sc h c r = true) (hs : stk = av.reverse ++ vR r :: st) (ha : (xargs (vR r :: av)).length ≤ Y.2.2.1) (hroom : (st.map xcat).sum + (Y.2.2.1 + 11) ≤ 46) (hq : xW sc Y d Q' h 0 (xent (vR r :: av) Y.2.2.1) [])
    (kr : ∀ v h', Q' (.inl v) h' → xW sc M (d + 1) Q h' (pc + 3) L (v.toList ++ st)) (kt : ∀ a h', Q' (.inr a) h' → xT sc M (d + 1) Q h' pc L a) : xW sc M (d + 1) Q h pc L stk := by
  obtain ⟨a, fs, rfl, e⟩ := xis_s hob
  exact x_invv hd hc hy e hs ha hroom hq kr kt
theorem c_invu {idx c : Nat} {x y : MethodName} {owner : String} {Y : xM} {av stk : List xV} {Q' : xR → xH → Prop} (hd : decode M.2.1 pc = .ok (.invokevirtual idx, 3)) (hc : xCu M.1 idx c x y owner av.length) (hy : xY y Y) (hob : xis sc h c r = true) (hs : stk = av.reverse ++ vR r :: st) (ha : (xargs (vR r :: av)).length ≤ Y.2.2.1) (hroom : (st.map xcat).sum + (Y.2.2.1 + 11) ≤ 46) (hq : xW sc Y d Q' h 0 (xent (vR r :: av) Y.2.2.1) [])
    (kr : ∀ v h', Q' (.inl v) h' → xW sc M (d + 1) Q h' (pc + 3) L (v.toList ++ st)) (kt : ∀ a h', Q' (.inr a) h' → xT sc M (d + 1) Q h' pc L a) : xW sc M (d + 1) Q h pc L stk := by
  obtain ⟨a, fs, rfl, e⟩ := xis_s hob
  exact x_invu hd hc hy e hs ha hroom hq kr kt
theorem c_invsu {idx c : Nat} {y : MethodName} {Y : xM} {av stk : List xV} {Q' : xR → xH → Prop} (hd : decode M.2.1 pc = .ok (.invokespecial idx, 3)) (hc : xCsu M.1 idx y av.length) (hy : xY y Y) (hob : xis sc h c r = true) (hs : stk = av.reverse ++ vR r :: st) (ha : (xargs (vR r :: av)).length ≤ Y.2.2.1) (hroom : (st.map xcat).sum + (Y.2.2.1 + 11) ≤ 46) (hq : xW sc Y d Q' h 0 (xent (vR r :: av) Y.2.2.1) [])
    (kr : ∀ v h', Q' (.inl v) h' → xW sc M (d + 1) Q h' (pc + 3) L (v.toList ++ st)) (kt : ∀ a h', Q' (.inr a) h' → xT sc M (d + 1) Q h' pc L a) : xW sc M (d + 1) Q h pc L stk := by
  obtain ⟨a, fs, rfl, e⟩ := xis_s hob
  exact x_invsu hd hc hy e hs ha hroom hq kr kt
theorem c_invf {idx cnt c : Nat} {x y : MethodName} {Y : xM} {av stk : List xV} {Q' : xR → xH → Prop} (hd : decode M.2.1 pc = .ok (.invokeinterface idx cnt, 5)) (hc : xCf M.1 idx c x y av.length) (hy : xY y Y) (hob : xis sc h c r = true) (hs : stk = av.reverse ++ vR r :: st) (ha : (xargs (vR r :: av)).length ≤ Y.2.2.1) (hroom : (st.map xcat).sum + (Y.2.2.1 + 11) ≤ 46) (hq : xW sc Y d Q' h 0 (xent (vR r :: av) Y.2.2.1) [])
    (kr : ∀ v h', Q' (.inl v) h' → xW sc M (d + 1) Q h' (pc + 5) L (v.toList ++ st)) (kt : ∀ a h', Q' (.inr a) h' → xT sc M (d + 1) Q h' pc L a) : xW sc M (d + 1) Q h pc L stk := by
  obtain ⟨a, fs, rfl, e⟩ := xis_s hob
  exact x_invf hd hc hy e hs ha hroom hq kr kt
theorem c_invi {idx : Nat} {y : MethodName} {Y : xM} {av stk : List xV} {Q' : xR → xH → Prop} (hd : decode M.2.1 pc = .ok (.invokespecial idx, 3)) (hc : xCi M.1 idx y av.length) (hy : xY y Y) (hy0 : Cond.code y Y.2.1 Y.2.2.1 none ∈ lw_tbl) (hob : r.isSome = true) (hs : stk = av.reverse ++ vR r :: st) (ha : (xargs (vR r :: av)).length ≤ Y.2.2.1) (hroom : (st.map xcat).sum + (Y.2.2.1 + 11) ≤ 46) (hq : xW sc Y d Q' h 0 (xent (vR r :: av) Y.2.2.1) [])
    (kr : ∀ v h', Q' (.inl v) h' → xW sc M (d + 1) Q h' (pc + 3) L (v.toList ++ st)) (kt : ∀ a h', Q' (.inr a) h' → xT sc M (d + 1) Q h' pc L a) : xW sc M (d + 1) Q h pc L stk := by
  obtain ⟨a, rfl⟩ := Option.isSome_iff_exists.mp hob
  exact x_invi hd hc hy hy0 hs ha hroom hq kr kt
/-- a private method of a superclass -/
def xCp (own : String) (idx : Nat) (y : MethodName) (n : Nat) : Prop := xne y ∧ xpar y n ∧ Cond.instanceMethod y ∈ lw_tbl ∧ Cond.privateMethod y ∈ lw_tbl ∧ Cond.sameMethod y.cls y.cls y.name y.desc ∈ lw_tbl ∧ Cond.methodLink own idx y ∈ lw_tbl
theorem c_invp {idx c : Nat} {y : MethodName} {Y : xM} {av stk : List xV} {Q' : xR → xH → Prop} (hd : decode M.2.1 pc = .ok (.invokevirtual idx, 3)) (hc : xCp M.1 idx y av.length) (hy : xY y Y) (hob : xis sc h c r = true) (hs : stk = av.reverse ++ vR r :: st) (ha : (xargs (vR r :: av)).length ≤ Y.2.2.1) (hroom : (st.map xcat).sum + (Y.2.2.1 + 11) ≤ 46) (hq : xW sc Y d Q' h 0 (xent (vR r :: av) Y.2.2.1) [])
    (kr : ∀ v h', Q' (.inl v) h' → xW sc M (d + 1) Q h' (pc + 3) L (v.toList ++ st)) (kt : ∀ a h', Q' (.inr a) h' → xT sc M (d + 1) Q h' pc L a) : xW sc M (d + 1) Q h pc L stk := by
  obtain ⟨a, fs, rfl, hob2⟩ := xis_s hob
  intro G p l e R s m args below meth cd H locs cells slots ls n0 s0 g1 g2 g3 g4 g5 g6 g7 g8 g9 T hT X
  have hF : xFS G s := g2.2.2.2.2.2.2.2.2.1
  obtain ⟨c1, c2, c3, c4, c6, c5⟩ := hc
  obtain ⟨cell, q2, e1, e2, e3, e4, e5, e6, e7, e8⟩ : xobj G H a c fs := x_look g1 g3 hob2
  obtain ⟨mk, methM, hn, hmethM, hstM, habM⟩ := Cond.instanceMethod_spec (hF.2.2 _ c3 (by rfl) args)
  obtain ⟨methk, ck, k1, k2, k3, k4, k5, k6, k7, k8⟩ := xY_code hy hF.2.2 hn
  cases hmethM.symm.trans k1
  obtain ⟨cn, kP, r1, hcn, hkP, hkPi, hf, hn1⟩ := Cond.sameMethod_found (hF.2.2 _ c6 (by rfl) args)
  cases (findClass_of_methodNamed hn).symm.trans hcn
  have hselP : selectMethod e.platform s.vm cell.cls mk = .method mk := selectMethod_private hmethM (Cond.privateMethod_at (hF.2.2 _ c4 (by rfl) args) mk methM hn hmethM)
  have hl : (av.map (xv G)).length = methM.sig.parameters.length := by rw [List.length_map]; exact xpar_len c2 k8
  have hsk : stk.map (xv G) = (av.map (xv G)).reverse ++ .ref (xr G a) :: st.map (xv G) := by rw [hs, List.map_append, List.map_reverse]; rfl
  refine x_core (l := l) (args := args) (av := vA a :: av) g1 g2 g3 g4 g5 g6 g7 g8 g9 hT hy hn hd ?_ ha hroom hq kr kt
  exact X.invokevirtual g2.1 g2.2.2.2.2.2.2.2.1 (hF.2.2 _ c5 (by rfl) _) hn k1 hstM hkP hkPi c1 (a := xr G a) (cell := cell) (by rw [hT]; exact e2) (fun z hz => by rw [hz] at e6; cases e6) hselP k1 habM hkP hkPi (g := F0 m pc ls (stk.map (xv G))) rfl (argsL := av.map (xv G)) (rest := st.map (xv G)) hl hsk (by rw [g2.2.1]; exact hd)
end CR
