/-! calls of the model from the law: its state is read off the heap -/
def mcI (u : xH) (k : Nat) : Int32 := match u.1 373 with
  | some (.inl o) => (match xget o.2 k with
    | .inl x => x
    | _ => 0)
  | _ => 0
def mcG (u : xH) (k : Nat) : UInt32 := match u.1 373 with
  | some (.inl o) => (match xget o.2 k with
    | .inr (.inr (.inl x)) => x
    | _ => 0)
  | _ => 0
def mcA (u : xH) (a : Nat) : Nat → Int32 := match u.1 a with
  | some (.inr (_, (_, .inl f))) => f
  | _ => fun _ => 0
def mcL (u : xH) (a : Nat) : Nat → Int64 := match u.1 a with
  | some (.inr (_, (_, .inr (.inl f)))) => f
  | _ => fun _ => 0
def mcD (u : xH) (a : Nat) : Nat → UInt64 := match u.1 a with
  | some (.inr (_, (_, .inr (.inr (.inr (.inl f)))))) => f
  | _ => fun _ => 0
def mAd (k : Nat) : Nat := match k with
  | 1 => 374
  | 2 => 375
  | 3 => 376
  | 6 => 377
  | 7 => 378
  | 8 => 379
  | 9 => 380
  | 13 => 381
  | 14 => 382
  | 17 => 383
  | 18 => 384
  | 19 => 385
  | 20 => 386
  | 21 => 387
  | 22 => 388
  | 23 => 389
  | 28 => 390
  | 29 => 391
  | 36 => 392
  | 38 => 393
  | 39 => 394
  | 40 => 395
  | 42 => 396
  | 43 => 397
  | 44 => 398
  | _ => 0
def mS (u : xH) : MT := (fun k => mcI u k, fun k => mcA u (mAd k), fun k => mcL u (mAd k), fun k => mcD u (mAd k), mcG u 37)
def shI (u : xH) (a : Nat) (ty : FieldType) (n : Nat) : Bool := match u.1 a with
  | some (.inr (t, (m, .inl _))) => decide (t = ty) && decide (m = n)
  | _ => false
theorem shI_s {u : xH} {a n : Nat} {ty : FieldType} (h : shI u a ty n = true) : u.1 a = some (.inr (ty, (n, .inl (mcA u a)))) := by
  unfold shI at h
  split at h
  · next e =>
    rw [Bool.and_eq_true, decide_eq_true_eq, decide_eq_true_eq] at h
    obtain ⟨rfl, rfl⟩ := h
    unfold mcA
    rw [e]
  · cases h
def shL (u : xH) (a : Nat) (ty : FieldType) (n : Nat) : Bool := match u.1 a with
  | some (.inr (t, (m, .inr (.inl _)))) => decide (t = ty) && decide (m = n)
  | _ => false
theorem shL_s {u : xH} {a n : Nat} {ty : FieldType} (h : shL u a ty n = true) : u.1 a = some (.inr (ty, (n, .inr (.inl (mcL u a))))) := by
  unfold shL at h
  split at h
  · next e =>
    rw [Bool.and_eq_true, decide_eq_true_eq, decide_eq_true_eq] at h
    obtain ⟨rfl, rfl⟩ := h
    unfold mcL
    rw [e]
  · cases h
def shD (u : xH) (a : Nat) (ty : FieldType) (n : Nat) : Bool := match u.1 a with
  | some (.inr (t, (m, .inr (.inr (.inr (.inl _)))))) => decide (t = ty) && decide (m = n)
  | _ => false
theorem shD_s {u : xH} {a n : Nat} {ty : FieldType} (h : shD u a ty n = true) : u.1 a = some (.inr (ty, (n, .inr (.inr (.inr (.inl (mcD u a))))))) := by
  unfold shD at h
  split at h
  · next e =>
    rw [Bool.and_eq_true, decide_eq_true_eq, decide_eq_true_eq] at h
    obtain ⟨rfl, rfl⟩ := h
    unfold mcD
    rw [e]
  · cases h
def mok (u : xH) : Bool := ((((((((((((((((((((((((((match u.1 373 with
  | some (.inl o) => decide (o.1 = 1) && decide (o.2 = mFs (mS u))
  | _ => false) && shI u 374 .int 1300) && shL u 375 .long 1300) && shD u 376 .double 1300) && shL u 377 .long 320) && shI u 378 .int 28) && shI u 379 .int 28) && shI u 380 .int 6) && shI u 381 .int 3) && shI u 382 .int 3) && shI u 383 .int 560) && shL u 384 .long 560) && shI u 385 .int 560) && shL u 386 .long 560) && shL u 387 .long 560) && shL u 388 .long 560) && shI u 389 .char 120) && shI u 390 .int 4) && shL u 391 .long 40) && shI u 392 .int 384) && shD u 393 .double 30) && shD u 394 .double 30) && shI u 395 .int 30) && shI u 396 .int 33) && shL u 397 .long 35) && shL u 398 .long 35)
theorem mok_s {u : xH} (h : mok u = true) : mH (mS u) u = u := by
  unfold mok at h
  simp only [Bool.and_eq_true] at h
  obtain ⟨⟨⟨⟨⟨⟨⟨⟨⟨⟨⟨⟨⟨⟨⟨⟨⟨⟨⟨⟨⟨⟨⟨⟨⟨h0, h1⟩, h2⟩, h3⟩, h4⟩, h5⟩, h6⟩, h7⟩, h8⟩, h9⟩, h10⟩, h11⟩, h12⟩, h13⟩, h14⟩, h15⟩, h16⟩, h17⟩, h18⟩, h19⟩, h20⟩, h21⟩, h22⟩, h23⟩, h24⟩, h25⟩ := h
  refine Prod.ext (funext fun a => ?_) rfl
  show mMem (mS u) u.1 a = u.1 a
  unfold mMem
  by_cases e : a = 373
  · subst e
    rw [if_pos rfl]
    split at h0
    · next o e =>
      rw [Bool.and_eq_true, decide_eq_true_eq, decide_eq_true_eq] at h0
      rw [e, ← h0.1, ← h0.2]
    · cases h0
  · rw [if_neg e]
    by_cases e2 : mIn a = true
    · rw [if_pos e2]
      unfold mIn at e2
      rw [Bool.and_eq_true] at e2
      have l1 := Nat.le_of_ble_eq_true e2.1
      have l2 := Nat.le_of_ble_eq_true e2.2
      have : a = 374 ∨ a = 375 ∨ a = 376 ∨ a = 377 ∨ a = 378 ∨ a = 379 ∨ a = 380 ∨ a = 381 ∨ a = 382 ∨ a = 383 ∨ a = 384 ∨ a = 385 ∨ a = 386 ∨ a = 387 ∨ a = 388 ∨ a = 389 ∨ a = 390 ∨ a = 391 ∨ a = 392 ∨ a = 393 ∨ a = 394 ∨ a = 395 ∨ a = 396 ∨ a = 397 ∨ a = 398 := by omega
      rcases this with rfl | rfl | rfl | rfl | rfl | rfl | rfl | rfl | rfl | rfl | rfl | rfl | rfl | rfl | rfl | rfl | rfl | rfl | rfl | rfl | rfl | rfl | rfl | rfl | rfl
      · exact (shI_s h1).symm
      · exact (shL_s h2).symm
      · exact (shD_s h3).symm
      · exact (shL_s h4).symm
      · exact (shI_s h5).symm
      · exact (shI_s h6).symm
      · exact (shI_s h7).symm
      · exact (shI_s h8).symm
      · exact (shI_s h9).symm
      · exact (shI_s h10).symm
      · exact (shL_s h11).symm
      · exact (shI_s h12).symm
      · exact (shL_s h13).symm
      · exact (shL_s h14).symm
      · exact (shL_s h15).symm
      · exact (shI_s h16).symm
      · exact (shI_s h17).symm
      · exact (shL_s h18).symm
      · exact (shI_s h19).symm
      · exact (shD_s h20).symm
      · exact (shD_s h21).symm
      · exact (shI_s h22).symm
      · exact (shI_s h23).symm
      · exact (shL_s h24).symm
      · exact (shL_s h25).symm
    · rw [if_neg e2]
def mcall {T : Type} (f : MT → Option (T × MT)) (u : xH) : Option (T × xH) := if mok u = true then (f (mS u)).map fun q => (q.1, mH q.2 u) else none
theorem mcall_s {T : Type} {f : MT → Option (T × MT)} {u w : xH} {v : T} (h : mcall f u = some (v, w)) : u = mH (mS u) u ∧ ∃ s2, f (mS u) = some (v, s2) ∧ w = mH s2 u := by
  unfold mcall at h
  obtain ⟨h1, h2⟩ := ite_some h
  obtain ⟨q, h3, h4⟩ := Option.map_eq_some_iff.mp h2
  cases h4
  exact ⟨(mok_s h1).symm, q.2, h3, rfl⟩
def aL (sc : xSc) (u : xH) (r : Option Nat) (i : Int32) : Option Int64 := (aO sc u r).bind fun A => match A with
  | (ty2, (n, .inr (.inl f))) => if ty2 = .long then (if xin i n = true then some (f i.toNatClampNeg) else none) else none
  | _ => none
theorem aL_s {sc : xSc} {u : xH} {r : Option Nat} {i : Int32} {x : Int64} (h : aL sc u r i = some x) : ∃ a n f, r = some a ∧ xat sc u a = some (.inr (.long, (n, .inr (.inl f)))) ∧ xin i n = true ∧ x = f i.toNatClampNeg := by
  obtain ⟨A, h1, h2⟩ := Option.bind_eq_some_iff.mp h
  obtain ⟨a, e1, e2⟩ := aO_s h1
  split at h2
  · split at h2
    · next e3 =>
      subst e3
      obtain ⟨h3, h4⟩ := ite_some h2
      exact ⟨a, _, _, e1, e2, h3, (Option.some.inj h4).symm⟩
    · cases h2
  · cases h2
section CM
variable {sc : xSc} {M : xM} {d : Nat} {Q : xR → xH → Prop} {h : xH} {pc : Nat} {L : List (Option xV)} {st : List xV} {r : Option Nat}
theorem c_lald {i : Int32} {x : Int64} (hd : decode M.2.1 pc = .ok (.laload, 1)) (hg : aL sc h r i = some x) (kk : xW sc M d Q h (pc + 1) L (vL x :: st)) : xW sc M d Q h pc L (vI i :: vR r :: st) := by
  obtain ⟨a, n, f, rfl, h1, h2, rfl⟩ := aL_s hg
  exact x_lald hd h1 (xin_vp h2) kk
theorem c_minvI {idx : Nat} {y : MethodName} {Y : xM} {av stk : List xV} {f : MT → Option (Int32 × MT)} {v : Int32} {w : xH} (hd : decode M.2.1 pc = .ok (.invokevirtual idx, 3)) (hc : xCv M.1 idx 1 y av.length) (hy : xY y Y) (hr : r = some 373) (hs : stk = av.reverse ++ vR r :: st) (ha : (xargs (vA 373 :: av)).length ≤ Y.2.2.1) (hroom : (st.map xcat).sum + (Y.2.2.1 + 11) ≤ 46) (hg : mcall f h = some (v, w)) (hw : ∀ s s2 R, f s = some (v, s2) → xW sc Y d (fun r h' => r = .inl (some (vI v)) ∧ h' = mH s2 R) (mH s R) 0 (xent (vA 373 :: av) Y.2.2.1) []) (kk : xW sc M (d + 1) Q w (pc + 3) L (vI v :: st)) : xW sc M (d + 1) Q h pc L stk := by
  subst hr
  obtain ⟨h1, s2, h2, h3⟩ := mcall_s hg
  have h4 := hw (mS h) s2 h h2
  rw [← h1] at h4
  refine x_invv (c := 1) hd hc hy (by rw [h1]; exact xm_at (mS h) h) hs ha hroom h4 (fun v2 h' z => ?_) (fun a h' z => nomatch z.1)
  obtain ⟨z1, z2⟩ := z
  cases z1
  subst h'
  rw [← h3]
  exact kk
theorem c_minvD {idx : Nat} {y : MethodName} {Y : xM} {av stk : List xV} {f : MT → Option (UInt64 × MT)} {v : UInt64} {w : xH} (hd : decode M.2.1 pc = .ok (.invokevirtual idx, 3)) (hc : xCv M.1 idx 1 y av.length) (hy : xY y Y) (hr : r = some 373) (hs : stk = av.reverse ++ vR r :: st) (ha : (xargs (vA 373 :: av)).length ≤ Y.2.2.1) (hroom : (st.map xcat).sum + (Y.2.2.1 + 11) ≤ 46) (hg : mcall f h = some (v, w)) (hw : ∀ s s2 R, f s = some (v, s2) → xW sc Y d (fun r h' => r = .inl (some (vD v)) ∧ h' = mH s2 R) (mH s R) 0 (xent (vA 373 :: av) Y.2.2.1) []) (kk : xW sc M (d + 1) Q w (pc + 3) L (vD v :: st)) : xW sc M (d + 1) Q h pc L stk := by
  subst hr
  obtain ⟨h1, s2, h2, h3⟩ := mcall_s hg
  have h4 := hw (mS h) s2 h h2
  rw [← h1] at h4
  refine x_invv (c := 1) hd hc hy (by rw [h1]; exact xm_at (mS h) h) hs ha hroom h4 (fun v2 h' z => ?_) (fun a h' z => nomatch z.1)
  obtain ⟨z1, z2⟩ := z
  cases z1
  subst h'
  rw [← h3]
  exact kk
end CM
