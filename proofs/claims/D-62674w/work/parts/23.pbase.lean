/-! looks at the heap under writes and makings: what the plain part rewrites with -/
theorem p_up_same (u : xH) (a : Nat) (e : xE) : (xup u a e).1 a = some e := va_up_self _ _ _
theorem p_up_ne {u : xH} {a b : Nat} {e : xE} (h : b ≠ a) : (xup u a e).1 b = u.1 b := va_up_ne _ _ h
theorem p_up_nx (u : xH) (a : Nat) (e : xE) : (xup u a e).2 = u.2 := rfl
theorem p_new_same (u : xH) (e : xE) (n : Nat) : (xnew u e n).1 u.2.1 = some e := va_up_self _ _ _
theorem p_new_ne {u : xH} {b n : Nat} {e : xE} (h : b ≠ u.2.1) : (xnew u e n).1 b = u.1 b := va_up_ne _ _ h
theorem p_at {sc : xSc} {u : xH} {a : Nat} (h : 256 ≤ a) : xat sc u a = u.1 a := if_neg (Nat.not_lt.mpr h)
theorem p_gO {sc : xSc} {u : xH} {c a : Nat} {fs : List xV} (h : xat sc u a = some (.inl (c, fs))) : gO sc u c (some a) = some fs := by
  unfold gO
  dsimp only
  rw [h]
  exact if_pos rfl
theorem p_gI {sc : xSc} {u : xH} {c k a : Nat} {fs : List xV} {x : Int32} (h : xat sc u a = some (.inl (c, fs))) (hx : xget fs k = vI x) : gI sc u c k (some a) = some x := by
  unfold gI
  rw [p_gO h]
  show oI (xget fs k) = _
  rw [hx]
  rfl
theorem p_gF {sc : xSc} {u : xH} {c k a : Nat} {fs : List xV} {x : UInt32} (h : xat sc u a = some (.inl (c, fs))) (hx : xget fs k = vF x) : gF sc u c k (some a) = some x := by
  unfold gF
  rw [p_gO h]
  show oF (xget fs k) = _
  rw [hx]
  rfl
theorem p_gD {sc : xSc} {u : xH} {c k a : Nat} {fs : List xV} {x : UInt64} (h : xat sc u a = some (.inl (c, fs))) (hx : xget fs k = vD x) : gD sc u c k (some a) = some x := by
  unfold gD
  rw [p_gO h]
  show oD (xget fs k) = _
  rw [hx]
  rfl
theorem p_gR {sc : xSc} {u : xH} {c k a : Nat} {fs : List xV} {x : Option Nat} (h : xat sc u a = some (.inl (c, fs))) (hx : xget fs k = vR x) : gR sc u c k (some a) = some x := by
  unfold gR
  rw [p_gO h]
  show oR (xget fs k) = _
  rw [hx]
  rfl
theorem p_xis {sc : xSc} {u : xH} {c a : Nat} {fs : List xV} (h : xat sc u a = some (.inl (c, fs))) : xis sc u c (some a) = true := by
  unfold xis
  rw [p_gO h]
  rfl
theorem p_pV {u : xH} {c k a : Nat} {fs : List xV} {v : xV} (hk : 256 ≤ a) (h : u.1 a = some (.inl (c, fs))) : pV u c k (some a) v = some (xup u a (.inl (c, fs.set k v))) := by
  unfold pV pO
  dsimp only
  rw [if_pos (show xK ≤ a from hk), h]
  dsimp only
  rw [if_pos rfl]
  rfl
theorem p_aI {sc : xSc} {u : xH} {a n : Nat} {ty : FieldType} {f : Nat → Int32} {i : Int32} (h : xat sc u a = some (.inr (ty, (n, .inl f)))) (hi : xin i n = true) : aI ty sc u (some a) i = some (f i.toNatClampNeg) := by
  unfold aI aO
  dsimp only
  rw [h]
  show (if ty = ty then (if xin i n = true then some (f i.toNatClampNeg) else none) else none) = _
  rw [if_pos rfl, if_pos hi]
theorem p_aD {sc : xSc} {u : xH} {a n : Nat} {f : Nat → UInt64} {i : Int32} (h : xat sc u a = some (.inr (.double, (n, .inr (.inr (.inr (.inl f))))))) (hi : xin i n = true) : aD sc u (some a) i = some (f i.toNatClampNeg) := by
  unfold aD aO
  dsimp only
  rw [h]
  show (if FieldType.double = .double then (if xin i n = true then some (f i.toNatClampNeg) else none) else none) = _
  rw [if_pos rfl, if_pos hi]
theorem p_aR {sc : xSc} {u : xH} {a n : Nat} {ty : FieldType} {f : Nat → Option Nat} {i : Int32} (h : xat sc u a = some (.inr (ty, (n, .inr (.inr (.inr (.inr f))))))) (ht : ty.isReference = true) (hi : xin i n = true) : aR sc u (some a) i = some (f i.toNatClampNeg) := by
  unfold aR aO
  dsimp only
  rw [h]
  show (if ty.isReference = true then (if xin i n = true then some (f i.toNatClampNeg) else none) else none) = _
  rw [if_pos ht, if_pos hi]
theorem p_aN {sc : xSc} {u : xH} {a : Nat} {ty : FieldType} {A : vp_A} (h : xat sc u a = some (.inr (ty, A))) : aN sc u (some a) = some (nI A.1) := by
  unfold aN aO
  dsimp only
  rw [h]
  rfl
theorem p_bI {u : xH} {a n : Nat} {ty : FieldType} {f : Nat → Int32} {i x : Int32} (hk : 256 ≤ a) (h : u.1 a = some (.inr (ty, (n, .inl f)))) (hi : xin i n = true) : bI ty u (some a) i x = some (xup u a (.inr (ty, (n, .inl (va_up f i.toNatClampNeg x))))) := by
  unfold bI qO
  dsimp only
  rw [if_pos (show xK ≤ a from hk), h]
  show (if ty = ty then (if xin i n = true then _ else none) else none) = _
  rw [if_pos rfl, if_pos hi]
theorem p_bD {u : xH} {a n : Nat} {f : Nat → UInt64} {i : Int32} {x : UInt64} (hk : 256 ≤ a) (h : u.1 a = some (.inr (.double, (n, .inr (.inr (.inr (.inl f))))))) (hi : xin i n = true) : bD u (some a) i x = some (xup u a (.inr (.double, (n, .inr (.inr (.inr (.inl (va_up f i.toNatClampNeg x)))))))) := by
  unfold bD qO
  dsimp only
  rw [if_pos (show xK ≤ a from hk), h]
  show (if FieldType.double = .double then (if xin i n = true then _ else none) else none) = _
  rw [if_pos rfl, if_pos hi]
theorem p_bL {u : xH} {a n : Nat} {f : Nat → Int64} {i : Int32} {x : Int64} (hk : 256 ≤ a) (h : u.1 a = some (.inr (.long, (n, .inr (.inl f))))) (hi : xin i n = true) : bL u (some a) i x = some (xup u a (.inr (.long, (n, .inr (.inl (va_up f i.toNatClampNeg x)))))) := by
  unfold bL qO
  dsimp only
  rw [if_pos (show xK ≤ a from hk), h]
  show (if FieldType.long = .long then (if xin i n = true then _ else none) else none) = _
  rw [if_pos rfl, if_pos hi]
theorem p_bR {C : String} {c : Nat} {sc : xSc} {u : xH} {a n : Nat} {f : Nat → Option Nat} {i : Int32} {x : Option Nat} (hk : 256 ≤ a) (h : u.1 a = some (.inr (.object C, (n, .inr (.inr (.inr (.inr f))))))) (hi : xin i n = true) (hx : x = none ∨ xis sc u c x = true) : bR C c sc u (some a) i x = some (xup u a (.inr (.object C, (n, .inr (.inr (.inr (.inr (va_up f i.toNatClampNeg x)))))))) := by
  unfold bR qO
  dsimp only
  rw [if_pos (show xK ≤ a from hk), h]
  show (if FieldType.object C = .object C then (if xin i n = true then (if (x.isNone || xis sc u c x) = true then _ else none) else none) else none) = _
  rw [if_pos rfl, if_pos hi, if_pos]
  rcases hx with rfl | hx
  · rfl
  · rw [hx, Bool.or_true]
theorem p_xin {i : Int32} {n : Nat} (h0 : 0 ≤ i.toInt) (h1 : i.toInt < n) : xin i n = true := by
  unfold xin
  rw [Bool.and_eq_true, decide_eq_true_eq, decide_eq_true_eq]
  refine ⟨Int32.le_iff_toInt_le.mpr (by simpa using h0), ?_⟩
  show i.toInt.toNat < n
  omega
theorem p_xrm {u : xH} {n : Nat} (h1 : u.2.1 < 600544) (h2 : u.2.2 + n ≤ 7292904) : xrm u n = true := by
  unfold xrm
  rw [Bool.and_eq_true, decide_eq_true_eq, decide_eq_true_eq]
  exact ⟨h1, h2⟩
theorem p_nO {c N n : Nat} {u : xH} (h1 : u.2.1 < 600544) (h2 : u.2.2 + n ≤ 7292904) : nO c N n u = some (xnew u (.inl (c, xdef c N)) n) := if_pos (p_xrm h1 h2)
theorem p_tBl {T S : Type} {v : T} {u : xH} {k : T → xH → Option S} {e : Nat → xH → Option S} : tB (some (.inl v, u)) k e = k v u := rfl
theorem p_tBr {T S : Type} {a : Nat} {u : xH} {k : T → xH → Option S} {e : Nat → xH → Option S} : tB (some (.inr a, u)) k e = e a u := rfl
