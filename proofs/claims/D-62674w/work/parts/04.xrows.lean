/-! locals as the kit has them -/
def xcat (v : xV) : Nat := match v with
  | .inr (.inl _) => 2
  | .inr (.inr (.inr (.inl _))) => 2
  | _ => 1
theorem xcat_v (G : xG) (v : xV) : (xv G v).category = xcat v := by
  match v with
  | .inl _ => rfl
  | .inr (.inl _) => rfl
  | .inr (.inr (.inl _)) => rfl
  | .inr (.inr (.inr (.inl _))) => rfl
  | .inr (.inr (.inr (.inr none))) => rfl
  | .inr (.inr (.inr (.inr (some _)))) => rfl
/-- a wide local is lost -/
def xkill (L : List (Option xV)) (j : Nat) : List (Option xV) := match L[j]? with
  | some (some (.inr (.inl _))) => L.set j none
  | some (some (.inr (.inr (.inr (.inl _))))) => L.set j none
  | _ => L
/-- a value of one word is stored in local i: what was in the wide local before it is lost -/
def xset1 (L : List (Option xV)) (i : Nat) (v : xV) : List (Option xV) := List.set (match i with
  | 0 => L
  | j + 1 => xkill L j) i (some v)
def xset2 (L : List (Option xV)) (i : Nat) (v : xV) : List (Option xV) := (xset1 L i v).set (i + 1) none
def xlv (G : xG) (L : List (Option xV)) : List (Nat × Value) := (List.range L.length).filterMap fun i => match L[i]? with
  | some (some v) => some (i, xv G v)
  | _ => none
theorem xlv_mem {G : xG} {L : List (Option xV)} {i : Nat} {v : xV} (h : L[i]? = some (some v)) : (i, xv G v) ∈ xlv G L := by
  refine List.mem_filterMap.mpr ⟨i, List.mem_range.mpr (List.getElem?_eq_some_iff.mp h).1, ?_⟩
  rw [h]
theorem xlv_get {G : xG} {L : List (Option xV)} {q : Nat × Value} (h : q ∈ xlv G L) : ∃ v, L[q.1]? = some (some v) ∧ q.2 = xv G v := by
  obtain ⟨i, -, hi⟩ := List.mem_filterMap.mp h
  split at hi
  · rename_i v hv
    cases hi
    exact ⟨v, hv, rfl⟩
  · cases hi
theorem xls_has {G : xG} {L : List (Option xV)} {ls : Array Slot} {n : Nat} (h : xls G L ls n) : lv_has ls n (xlv G L) := by
  refine ⟨h.1, h.2.2.1, fun q hq => ?_⟩
  obtain ⟨v, h1, h2⟩ := xlv_get hq
  rw [h2]
  exact h.2.2.2 q.1 v h1
theorem xkill_len (L : List (Option xV)) (j : Nat) : (xkill L j).length = L.length := by
  unfold xkill
  split
  · exact List.length_set
  · exact List.length_set
  · rfl
theorem xset1_len (L : List (Option xV)) (i : Nat) (v : xV) : (xset1 L i v).length = L.length := by
  unfold xset1
  rw [List.length_set]
  cases i with
  | zero => rfl
  | succ j => exact xkill_len L j
theorem xset_self {L : List (Option xV)} {j : Nat} {x : Option xV} {w : xV} (h : (L.set j x)[j]? = some (some w)) : x = some w := by
  have hl : j < L.length := by
    have := (List.getElem?_eq_some_iff.mp h).1
    rwa [List.length_set] at this
  rw [List.getElem?_set_self hl] at h
  exact Option.some.inj h
theorem xkill_get {L : List (Option xV)} {k j : Nat} {w : xV} (h : (xkill L k)[j]? = some (some w)) : L[j]? = some (some w) ∧ ¬ (j = k ∧ xcat w = 2) := by
  unfold xkill at h
  by_cases hk : k = j
  · subst hk
    split at h
    · exact absurd (xset_self h) (by simp)
    · exact absurd (xset_self h) (by simp)
    · rename_i n1 n2
      refine ⟨h, fun z => ?_⟩
      match w, h, z.2 with
      | .inl _, _, z => exact absurd z (by simp [xcat])
      | .inr (.inl q), h, _ => exact n1 q h
      | .inr (.inr (.inl _)), _, z => exact absurd z (by simp [xcat])
      | .inr (.inr (.inr (.inl q))), h, _ => exact n2 q h
      | .inr (.inr (.inr (.inr _))), _, z => exact absurd z (by simp [xcat])
  · refine ⟨?_, fun z => hk z.1.symm⟩
    split at h
    · rwa [List.getElem?_set_ne hk] at h
    · rwa [List.getElem?_set_ne hk] at h
    · exact h
theorem xset1_get {L : List (Option xV)} {i j : Nat} {v w : xV} (h : (xset1 L i v)[j]? = some (some w)) : (j = i ∧ w = v) ∨ (j ≠ i ∧ L[j]? = some (some w) ∧ ¬ (j + 1 = i ∧ xcat w = 2)) := by
  unfold xset1 at h
  by_cases hj : i = j
  · subst hj
    exact Or.inl ⟨rfl, (Option.some.inj (xset_self h)).symm⟩
  · right
    rw [List.getElem?_set_ne hj] at h
    refine ⟨fun e => hj e.symm, ?_⟩
    cases i with
    | zero => exact ⟨h, fun z => by omega⟩
    | succ k =>
      obtain ⟨h1, h2⟩ := xkill_get h
      exact ⟨h1, fun z => h2 ⟨by omega, z.2⟩⟩
theorem xls_st1 {G : xG} {L : List (Option xV)} {ls ls2 : Array Slot} {n i : Nat} {v : xV} (g4 : xls G L ls n) (z : lv_has ls2 n ((i, xv G v) :: (xlv G L).filter (fun q => !(q.1 == i) && !(q.1 + 1 == i && q.2.category == 2)))) : xls G (xset1 L i v) ls2 n := by
  refine ⟨z.1, (xset1_len L i v).trans g4.2.1, z.2.1, fun j w hw => ?_⟩
  rcases xset1_get hw with ⟨rfl, rfl⟩ | ⟨h1, h2, h3⟩
  · exact z.2.2 _ List.mem_cons_self
  · refine z.2.2 (j, xv G w) (List.mem_cons_of_mem _ (List.mem_filter.mpr ⟨xlv_mem h2, ?_⟩))
    have e1 : (j == i) = false := by simpa using h1
    have e2 : (j + 1 == i && (xv G w).category == 2) = false := by
      rw [xcat_v]
      cases hh : (j + 1 == i && xcat w == 2) with
      | false => rfl
      | true =>
        rw [Bool.and_eq_true] at hh
        exact absurd ⟨by simpa using hh.1, by simpa using hh.2⟩ h3
    show (!(j == i) && !(j + 1 == i && (xv G w).category == 2)) = true
    rw [e1, e2]
    rfl
theorem xls_st2 {G : xG} {L : List (Option xV)} {ls ls2 : Array Slot} {n i : Nat} {v : xV} (g4 : xls G L ls n) (z : lv_has ls2 n ((i, xv G v) :: (xlv G L).filter (fun q => !(q.1 == i) && (!(q.1 == i + 1) && !(q.1 + 1 == i && q.2.category == 2))))) : xls G (xset2 L i v) ls2 n := by
  refine ⟨z.1, by unfold xset2; rw [List.length_set]; exact (xset1_len L i v).trans g4.2.1, z.2.1, fun j w hw => ?_⟩
  unfold xset2 at hw
  by_cases hj : i + 1 = j
  · subst hj
    rw [List.getElem?_set] at hw
    simp only [if_true] at hw
    split at hw <;> cases hw
  rw [List.getElem?_set_ne hj] at hw
  rcases xset1_get hw with ⟨rfl, rfl⟩ | ⟨h1, h2, h3⟩
  · exact z.2.2 _ List.mem_cons_self
  · refine z.2.2 (j, xv G w) (List.mem_cons_of_mem _ (List.mem_filter.mpr ⟨xlv_mem h2, ?_⟩))
    have e1 : (j == i) = false := by simpa using h1
    have e3 : (j == i + 1) = false := by simpa using fun e => hj e.symm
    have e2 : (j + 1 == i && (xv G w).category == 2) = false := by
      rw [xcat_v]
      cases hh : (j + 1 == i && xcat w == 2) with
      | false => rfl
      | true =>
        rw [Bool.and_eq_true] at hh
        exact absurd ⟨by simpa using hh.1, by simpa using hh.2⟩ h3
    show (!(j == i) && (!(j == i + 1) && !(j + 1 == i && (xv G w).category == 2))) = true
    rw [e1, e2, e3]
    rfl
section XR
variable {sc : xSc} {M : xM} {d : Nat} {Q : xR → xH → Prop} {h : xH} {pc : Nat} {L : List (Option xV)} {st : List xV}
theorem x_iconst {n : Int} {v : Int32} (hd : decode M.2.1 pc = .ok (.iconst n, 1)) (hv : Int32.ofInt n = v) (kk : xW sc M d Q h (pc + 1) L (vI v :: st)) : xW sc M d Q h pc L (st) :=
  x_pure (fun G p l e R s m args below meth c H locs cells slots ls Z hx hb hL k => lv_iconst hx hb hd hv k) kk
theorem x_bipush {n : Int} {v : Int32} (hd : decode M.2.1 pc = .ok (.bipush n, 2)) (hv : (Int8.ofInt n).toInt32 = v) (kk : xW sc M d Q h (pc + 2) L (vI v :: st)) : xW sc M d Q h pc L (st) :=
  x_pure (fun G p l e R s m args below meth c H locs cells slots ls Z hx hb hL k => lv_bipush hx hb hd hv k) kk
theorem x_sipush {n : Int} {v : Int32} (hd : decode M.2.1 pc = .ok (.sipush n, 3)) (hv : (Int16.ofInt n).toInt32 = v) (kk : xW sc M d Q h (pc + 3) L (vI v :: st)) : xW sc M d Q h pc L (st) :=
  x_pure (fun G p l e R s m args below meth c H locs cells slots ls Z hx hb hL k => lv_sipush hx hb hd hv k) kk
theorem x_lconst {n : Fin 2} {v : Int64} (hd : decode M.2.1 pc = .ok (.lconst n, 1)) (hv : Int64.ofNat (n : Nat) = v) (kk : xW sc M d Q h (pc + 1) L (vL v :: st)) : xW sc M d Q h pc L (st) :=
  x_pure (fun G p l e R s m args below meth c H locs cells slots ls Z hx hb hL k => lv_lconst hx hb hd hv k) kk
theorem x_dconst0  (hd : decode M.2.1 pc = .ok (.dconst 0, 1)) (kk : xW sc M d Q h (pc + 1) L (vD FP.dconst0 :: st)) : xW sc M d Q h pc L (st) :=
  x_pure (fun G p l e R s m args below meth c H locs cells slots ls Z hx hb hL k => lv_dconst0 hx hb hd k) kk
theorem x_dconst1  (hd : decode M.2.1 pc = .ok (.dconst 1, 1)) (kk : xW sc M d Q h (pc + 1) L (vD FP.dconst1 :: st)) : xW sc M d Q h pc L (st) :=
  x_pure (fun G p l e R s m args below meth c H locs cells slots ls Z hx hb hL k => lv_dconst1 hx hb hd k) kk
theorem x_fconst1  (hd : decode M.2.1 pc = .ok (.fconst 1, 1)) (kk : xW sc M d Q h (pc + 1) L (vF FP.fconst1 :: st)) : xW sc M d Q h pc L (st) :=
  x_pure (fun G p l e R s m args below meth c H locs cells slots ls Z hx hb hL k => lv_fconst1 hx hb hd k) kk
theorem x_null  (hd : decode M.2.1 pc = .ok (.aconst_null, 1)) (kk : xW sc M d Q h (pc + 1) L (vN :: st)) : xW sc M d Q h pc L (st) :=
  x_pure (fun G p l e R s m args below meth c H locs cells slots ls Z hx hb hL k => lv_null hx hb hd k) kk
theorem x_iload {x : Int32} {i : Nat} (hd : decode M.2.1 pc = .ok (.iload i, 2)) (hl : L[i]? = some (some (vI x))) (kk : xW sc M d Q h (pc + 2) L (vI x :: st)) : xW sc M d Q h pc L (st) :=
  x_pure (fun G p l e R s m args below meth c H locs cells slots ls Z hx hb hL k => lv_iload hx hb hd (hL i _ hl) k) kk
theorem x_iload_n {x : Int32} {i : Fin 4} (hd : decode M.2.1 pc = .ok (.iload_n i, 1)) (hl : L[(i : Nat)]? = some (some (vI x))) (kk : xW sc M d Q h (pc + 1) L (vI x :: st)) : xW sc M d Q h pc L (st) :=
  x_pure (fun G p l e R s m args below meth c H locs cells slots ls Z hx hb hL k => lv_iload_n hx hb hd rfl (hL i _ hl) k) kk
theorem x_lload {x : Int64} {i : Nat} (hd : decode M.2.1 pc = .ok (.lload i, 2)) (hl : L[i]? = some (some (vL x))) (kk : xW sc M d Q h (pc + 2) L (vL x :: st)) : xW sc M d Q h pc L (st) :=
  x_pure (fun G p l e R s m args below meth c H locs cells slots ls Z hx hb hL k => lv_lload hx hb hd (hL i _ hl) k) kk
theorem x_lload_n {x : Int64} {i : Fin 4} (hd : decode M.2.1 pc = .ok (.lload_n i, 1)) (hl : L[(i : Nat)]? = some (some (vL x))) (kk : xW sc M d Q h (pc + 1) L (vL x :: st)) : xW sc M d Q h pc L (st) :=
  x_pure (fun G p l e R s m args below meth c H locs cells slots ls Z hx hb hL k => lv_lload_n hx hb hd rfl (hL i _ hl) k) kk
theorem x_fload {x : UInt32} {i : Nat} (hd : decode M.2.1 pc = .ok (.fload i, 2)) (hl : L[i]? = some (some (vF x))) (kk : xW sc M d Q h (pc + 2) L (vF x :: st)) : xW sc M d Q h pc L (st) :=
  x_pure (fun G p l e R s m args below meth c H locs cells slots ls Z hx hb hL k => lv_fload hx hb hd (hL i _ hl) k) kk
theorem x_fload_n {x : UInt32} {i : Fin 4} (hd : decode M.2.1 pc = .ok (.fload_n i, 1)) (hl : L[(i : Nat)]? = some (some (vF x))) (kk : xW sc M d Q h (pc + 1) L (vF x :: st)) : xW sc M d Q h pc L (st) :=
  x_pure (fun G p l e R s m args below meth c H locs cells slots ls Z hx hb hL k => lv_fload_n hx hb hd rfl (hL i _ hl) k) kk
theorem x_dload {x : UInt64} {i : Nat} (hd : decode M.2.1 pc = .ok (.dload i, 2)) (hl : L[i]? = some (some (vD x))) (kk : xW sc M d Q h (pc + 2) L (vD x :: st)) : xW sc M d Q h pc L (st) :=
  x_pure (fun G p l e R s m args below meth c H locs cells slots ls Z hx hb hL k => lv_dload hx hb hd (hL i _ hl) k) kk
theorem x_dload_n {x : UInt64} {i : Fin 4} (hd : decode M.2.1 pc = .ok (.dload_n i, 1)) (hl : L[(i : Nat)]? = some (some (vD x))) (kk : xW sc M d Q h (pc + 1) L (vD x :: st)) : xW sc M d Q h pc L (st) :=
  x_pure (fun G p l e R s m args below meth c H locs cells slots ls Z hx hb hL k => lv_dload_n hx hb hd rfl (hL i _ hl) k) kk
theorem x_aload {i : Nat} {r : Option Nat} (hd : decode M.2.1 pc = .ok (.aload i, 2)) (hl : L[i]? = some (some (vR r))) (kk : xW sc M d Q h (pc + 2) L (vR r :: st)) : xW sc M d Q h pc L st := by
  cases r with
  | none => exact x_pure (fun G p l e R s m args below meth c H locs cells slots ls Z hx hb hL k => lv_aloadN hx hb hd (hL i _ hl) k) kk
  | some a => exact x_pure (fun G p l e R s m args below meth c H locs cells slots ls Z hx hb hL k => lv_aload hx hb hd (hL i _ hl) k) kk
theorem x_aload_n {i : Fin 4} {r : Option Nat} (hd : decode M.2.1 pc = .ok (.aload_n i, 1)) (hl : L[(i : Nat)]? = some (some (vR r))) (kk : xW sc M d Q h (pc + 1) L (vR r :: st)) : xW sc M d Q h pc L st := by
  cases r with
  | none => exact x_pure (fun G p l e R s m args below meth c H locs cells slots ls Z hx hb hL k => lv_aload_nN hx hb hd rfl (hL i _ hl) k) kk
  | some a => exact x_pure (fun G p l e R s m args below meth c H locs cells slots ls Z hx hb hL k => lv_aload_n hx hb hd rfl (hL i _ hl) k) kk
theorem x_iadd {x y : Int32} (hd : decode M.2.1 pc = .ok (.iadd, 1)) (kk : xW sc M d Q h (pc + 1) L (vI (x + y) :: st)) : xW sc M d Q h pc L (vI y :: vI x :: st) :=
  x_pure (fun G p l e R s m args below meth c H locs cells slots ls Z hx hb hL k => lv_iadd hx hb hd k) kk
theorem x_isub {x y : Int32} (hd : decode M.2.1 pc = .ok (.isub, 1)) (kk : xW sc M d Q h (pc + 1) L (vI (x - y) :: st)) : xW sc M d Q h pc L (vI y :: vI x :: st) :=
  x_pure (fun G p l e R s m args below meth c H locs cells slots ls Z hx hb hL k => lv_isub hx hb hd k) kk
theorem x_imul {x y : Int32} (hd : decode M.2.1 pc = .ok (.imul, 1)) (kk : xW sc M d Q h (pc + 1) L (vI (x * y) :: st)) : xW sc M d Q h pc L (vI y :: vI x :: st) :=
  x_pure (fun G p l e R s m args below meth c H locs cells slots ls Z hx hb hL k => lv_imul hx hb hd k) kk
theorem x_iand {x y : Int32} (hd : decode M.2.1 pc = .ok (.iand, 1)) (kk : xW sc M d Q h (pc + 1) L (vI (x &&& y) :: st)) : xW sc M d Q h pc L (vI y :: vI x :: st) :=
  x_pure (fun G p l e R s m args below meth c H locs cells slots ls Z hx hb hL k => lv_iand hx hb hd k) kk
theorem x_ior {x y : Int32} (hd : decode M.2.1 pc = .ok (.ior, 1)) (kk : xW sc M d Q h (pc + 1) L (vI (x ||| y) :: st)) : xW sc M d Q h pc L (vI y :: vI x :: st) :=
  x_pure (fun G p l e R s m args below meth c H locs cells slots ls Z hx hb hL k => lv_ior hx hb hd k) kk
theorem x_ixor {x y : Int32} (hd : decode M.2.1 pc = .ok (.ixor, 1)) (kk : xW sc M d Q h (pc + 1) L (vI (x ^^^ y) :: st)) : xW sc M d Q h pc L (vI y :: vI x :: st) :=
  x_pure (fun G p l e R s m args below meth c H locs cells slots ls Z hx hb hL k => lv_ixor hx hb hd k) kk
theorem x_ishl {x y : Int32} (hd : decode M.2.1 pc = .ok (.ishl, 1)) (kk : xW sc M d Q h (pc + 1) L (vI (x <<< (y &&& 31)) :: st)) : xW sc M d Q h pc L (vI y :: vI x :: st) :=
  x_pure (fun G p l e R s m args below meth c H locs cells slots ls Z hx hb hL k => lv_ishl hx hb hd k) kk
theorem x_ishr {x y : Int32} (hd : decode M.2.1 pc = .ok (.ishr, 1)) (kk : xW sc M d Q h (pc + 1) L (vI (x >>> (y &&& 31)) :: st)) : xW sc M d Q h pc L (vI y :: vI x :: st) :=
  x_pure (fun G p l e R s m args below meth c H locs cells slots ls Z hx hb hL k => lv_ishr hx hb hd k) kk
theorem x_ladd {x y : Int64} (hd : decode M.2.1 pc = .ok (.ladd, 1)) (kk : xW sc M d Q h (pc + 1) L (vL (x + y) :: st)) : xW sc M d Q h pc L (vL y :: vL x :: st) :=
  x_pure (fun G p l e R s m args below meth c H locs cells slots ls Z hx hb hL k => lv_ladd hx hb hd k) kk
theorem x_lsub {x y : Int64} (hd : decode M.2.1 pc = .ok (.lsub, 1)) (kk : xW sc M d Q h (pc + 1) L (vL (x - y) :: st)) : xW sc M d Q h pc L (vL y :: vL x :: st) :=
  x_pure (fun G p l e R s m args below meth c H locs cells slots ls Z hx hb hL k => lv_lsub hx hb hd k) kk
theorem x_lmul {x y : Int64} (hd : decode M.2.1 pc = .ok (.lmul, 1)) (kk : xW sc M d Q h (pc + 1) L (vL (x * y) :: st)) : xW sc M d Q h pc L (vL y :: vL x :: st) :=
  x_pure (fun G p l e R s m args below meth c H locs cells slots ls Z hx hb hL k => lv_lmul hx hb hd k) kk
theorem x_land {x y : Int64} (hd : decode M.2.1 pc = .ok (.land, 1)) (kk : xW sc M d Q h (pc + 1) L (vL (x &&& y) :: st)) : xW sc M d Q h pc L (vL y :: vL x :: st) :=
  x_pure (fun G p l e R s m args below meth c H locs cells slots ls Z hx hb hL k => lv_land hx hb hd k) kk
theorem x_lor {x y : Int64} (hd : decode M.2.1 pc = .ok (.lor, 1)) (kk : xW sc M d Q h (pc + 1) L (vL (x ||| y) :: st)) : xW sc M d Q h pc L (vL y :: vL x :: st) :=
  x_pure (fun G p l e R s m args below meth c H locs cells slots ls Z hx hb hL k => lv_lor hx hb hd k) kk
theorem x_lxor {x y : Int64} (hd : decode M.2.1 pc = .ok (.lxor, 1)) (kk : xW sc M d Q h (pc + 1) L (vL (x ^^^ y) :: st)) : xW sc M d Q h pc L (vL y :: vL x :: st) :=
  x_pure (fun G p l e R s m args below meth c H locs cells slots ls Z hx hb hL k => lv_lxor hx hb hd k) kk
theorem x_idiv {x y : Int32} (hd : decode M.2.1 pc = .ok (.idiv, 1)) (hne : ¬ y = 0) (kk : xW sc M d Q h (pc + 1) L (vI (x / y) :: st)) : xW sc M d Q h pc L (vI y :: vI x :: st) :=
  x_pure (fun G p l e R s m args below meth c H locs cells slots ls Z hx hb hL k => lv_idiv hx hb hd hne k) kk
theorem x_irem {x y : Int32} (hd : decode M.2.1 pc = .ok (.irem, 1)) (hne : ¬ y = 0) (kk : xW sc M d Q h (pc + 1) L (vI (x - x / y * y) :: st)) : xW sc M d Q h pc L (vI y :: vI x :: st) :=
  x_pure (fun G p l e R s m args below meth c H locs cells slots ls Z hx hb hL k => lv_irem hx hb hd hne k) kk
theorem x_ldiv {x y : Int64} (hd : decode M.2.1 pc = .ok (.ldiv, 1)) (hne : ¬ y = 0) (kk : xW sc M d Q h (pc + 1) L (vL (x / y) :: st)) : xW sc M d Q h pc L (vL y :: vL x :: st) :=
  x_pure (fun G p l e R s m args below meth c H locs cells slots ls Z hx hb hL k => lv_ldiv hx hb hd hne k) kk
theorem x_lrem {x y : Int64} (hd : decode M.2.1 pc = .ok (.lrem, 1)) (hne : ¬ y = 0) (kk : xW sc M d Q h (pc + 1) L (vL (x - x / y * y) :: st)) : xW sc M d Q h pc L (vL y :: vL x :: st) :=
  x_pure (fun G p l e R s m args below meth c H locs cells slots ls Z hx hb hL k => lv_lrem hx hb hd hne k) kk
theorem x_ineg {x : Int32} (hd : decode M.2.1 pc = .ok (.ineg, 1)) (kk : xW sc M d Q h (pc + 1) L (vI (-x) :: st)) : xW sc M d Q h pc L (vI x :: st) :=
  x_pure (fun G p l e R s m args below meth c H locs cells slots ls Z hx hb hL k => lv_ineg hx hb hd k) kk
theorem x_lneg {x : Int64} (hd : decode M.2.1 pc = .ok (.lneg, 1)) (kk : xW sc M d Q h (pc + 1) L (vL (-x) :: st)) : xW sc M d Q h pc L (vL x :: st) :=
  x_pure (fun G p l e R s m args below meth c H locs cells slots ls Z hx hb hL k => lv_lneg hx hb hd k) kk
theorem x_iushr {x y : Int32} (hd : decode M.2.1 pc = .ok (.iushr, 1)) (kk : xW sc M d Q h (pc + 1) L (vI ((x.toUInt32 >>> (y.toUInt32 &&& Int32.toUInt32 31)).toInt32) :: st)) : xW sc M d Q h pc L (vI y :: vI x :: st) :=
  x_pure (fun G p l e R s m args below meth c H locs cells slots ls Z hx hb hL k => lv_iushr hx hb hd rfl k) kk
theorem x_lshl {x : Int64} {y : Int32} (hd : decode M.2.1 pc = .ok (.lshl, 1)) (kk : xW sc M d Q h (pc + 1) L (vL (x <<< (y.toInt64 &&& 63)) :: st)) : xW sc M d Q h pc L (vI y :: vL x :: st) :=
  x_pure (fun G p l e R s m args below meth c H locs cells slots ls Z hx hb hL k => lv_lshl hx hb hd rfl k) kk
theorem x_lshr {x : Int64} {y : Int32} (hd : decode M.2.1 pc = .ok (.lshr, 1)) (kk : xW sc M d Q h (pc + 1) L (vL (x >>> (y.toInt64 &&& 63)) :: st)) : xW sc M d Q h pc L (vI y :: vL x :: st) :=
  x_pure (fun G p l e R s m args below meth c H locs cells slots ls Z hx hb hL k => lv_lshr hx hb hd rfl k) kk
theorem x_lcmp {x y : Int64} (hd : decode M.2.1 pc = .ok (.lcmp, 1)) (kk : xW sc M d Q h (pc + 1) L (vI (lg_cmp x y) :: st)) : xW sc M d Q h pc L (vL y :: vL x :: st) :=
  x_pure (fun G p l e R s m args below meth c H locs cells slots ls Z hx hb hL k => W.lcmp hx hb hd k) kk
theorem x_i2l {x : Int32} (hd : decode M.2.1 pc = .ok (.i2l, 1)) (kk : xW sc M d Q h (pc + 1) L (vL x.toInt64 :: st)) : xW sc M d Q h pc L (vI x :: st) :=
  x_pure (fun G p l e R s m args below meth c H locs cells slots ls Z hx hb hL k => lv_i2l hx hb hd rfl k) kk
theorem x_l2i {x : Int64} (hd : decode M.2.1 pc = .ok (.l2i, 1)) (kk : xW sc M d Q h (pc + 1) L (vI x.toInt32 :: st)) : xW sc M d Q h pc L (vL x :: st) :=
  x_pure (fun G p l e R s m args below meth c H locs cells slots ls Z hx hb hL k => lv_l2i hx hb hd rfl k) kk
theorem x_i2b {x : Int32} (hd : decode M.2.1 pc = .ok (.i2b, 1)) (kk : xW sc M d Q h (pc + 1) L (vI x.toInt8.toInt32 :: st)) : xW sc M d Q h pc L (vI x :: st) :=
  x_pure (fun G p l e R s m args below meth c H locs cells slots ls Z hx hb hL k => lv_i2b hx hb hd rfl k) kk
theorem x_i2c {x : Int32} (hd : decode M.2.1 pc = .ok (.i2c, 1)) (kk : xW sc M d Q h (pc + 1) L (vI (x.toUInt32 % 65536).toInt32 :: st)) : xW sc M d Q h pc L (vI x :: st) :=
  x_pure (fun G p l e R s m args below meth c H locs cells slots ls Z hx hb hL k => lv_i2c hx hb hd rfl k) kk
theorem x_i2d {x : Int32} (hd : decode M.2.1 pc = .ok (.i2d, 1)) (kk : xW sc M d Q h (pc + 1) L (vD (FP.i2d x) :: st)) : xW sc M d Q h pc L (vI x :: st) :=
  x_pure (fun G p l e R s m args below meth c H locs cells slots ls Z hx hb hL k => lv_i2d hx hb hd k) kk
theorem x_l2d {x : Int64} (hd : decode M.2.1 pc = .ok (.l2d, 1)) (kk : xW sc M d Q h (pc + 1) L (vD (FP.l2d x) :: st)) : xW sc M d Q h pc L (vL x :: st) :=
  x_pure (fun G p l e R s m args below meth c H locs cells slots ls Z hx hb hL k => lv_l2d hx hb hd k) kk
theorem x_d2i {x : UInt64} (hd : decode M.2.1 pc = .ok (.d2i, 1)) (kk : xW sc M d Q h (pc + 1) L (vI (FP.d2i x) :: st)) : xW sc M d Q h pc L (vD x :: st) :=
  x_pure (fun G p l e R s m args below meth c H locs cells slots ls Z hx hb hL k => lv_d2i hx hb hd k) kk
theorem x_d2l {x : UInt64} (hd : decode M.2.1 pc = .ok (.d2l, 1)) (kk : xW sc M d Q h (pc + 1) L (vL (FP.d2l x) :: st)) : xW sc M d Q h pc L (vD x :: st) :=
  x_pure (fun G p l e R s m args below meth c H locs cells slots ls Z hx hb hL k => lv_d2l hx hb hd k) kk
theorem x_f2i {x : UInt32} (hd : decode M.2.1 pc = .ok (.f2i, 1)) (kk : xW sc M d Q h (pc + 1) L (vI (FP.f2i x) :: st)) : xW sc M d Q h pc L (vF x :: st) :=
  x_pure (fun G p l e R s m args below meth c H locs cells slots ls Z hx hb hL k => lv_f2i hx hb hd k) kk
theorem x_d2f {x : UInt64} (hd : decode M.2.1 pc = .ok (.d2f, 1)) (hne : vf_n32 (FP.d2f x)) (kk : xW sc M d Q h (pc + 1) L (vF (FP.d2f x) :: st)) : xW sc M d Q h pc L (vD x :: st) :=
  x_pure (fun G p l e R s m args below meth c H locs cells slots ls Z hx hb hL k => lv_d2f hx hb hd hne k) kk
theorem x_dadd {x y : UInt64} (hd : decode M.2.1 pc = .ok (.dadd, 1)) (hne : vf_n64 (FP.dadd x y)) (kk : xW sc M d Q h (pc + 1) L (vD (FP.dadd x y) :: st)) : xW sc M d Q h pc L (vD y :: vD x :: st) :=
  x_pure (fun G p l e R s m args below meth c H locs cells slots ls Z hx hb hL k => lv_dadd hx hb hd hne k) kk
theorem x_dsub {x y : UInt64} (hd : decode M.2.1 pc = .ok (.dsub, 1)) (hne : vf_n64 (FP.dsub x y)) (kk : xW sc M d Q h (pc + 1) L (vD (FP.dsub x y) :: st)) : xW sc M d Q h pc L (vD y :: vD x :: st) :=
  x_pure (fun G p l e R s m args below meth c H locs cells slots ls Z hx hb hL k => lv_dsub hx hb hd hne k) kk
theorem x_dmul {x y : UInt64} (hd : decode M.2.1 pc = .ok (.dmul, 1)) (hne : vf_n64 (FP.dmul x y)) (kk : xW sc M d Q h (pc + 1) L (vD (FP.dmul x y) :: st)) : xW sc M d Q h pc L (vD y :: vD x :: st) :=
  x_pure (fun G p l e R s m args below meth c H locs cells slots ls Z hx hb hL k => lv_dmul hx hb hd hne k) kk
theorem x_ddiv {x y : UInt64} (hd : decode M.2.1 pc = .ok (.ddiv, 1)) (hne : vf_n64 (FP.ddiv x y)) (kk : xW sc M d Q h (pc + 1) L (vD (FP.ddiv x y) :: st)) : xW sc M d Q h pc L (vD y :: vD x :: st) :=
  x_pure (fun G p l e R s m args below meth c H locs cells slots ls Z hx hb hL k => lv_ddiv hx hb hd hne k) kk
theorem x_fadd {x y : UInt32} (hd : decode M.2.1 pc = .ok (.fadd, 1)) (hne : vf_n32 (FP.fadd x y)) (kk : xW sc M d Q h (pc + 1) L (vF (FP.fadd x y) :: st)) : xW sc M d Q h pc L (vF y :: vF x :: st) :=
  x_pure (fun G p l e R s m args below meth c H locs cells slots ls Z hx hb hL k => lv_fadd hx hb hd hne k) kk
theorem x_fmul {x y : UInt32} (hd : decode M.2.1 pc = .ok (.fmul, 1)) (hne : vf_n32 (FP.fmul x y)) (kk : xW sc M d Q h (pc + 1) L (vF (FP.fmul x y) :: st)) : xW sc M d Q h pc L (vF y :: vF x :: st) :=
  x_pure (fun G p l e R s m args below meth c H locs cells slots ls Z hx hb hL k => lv_fmul hx hb hd hne k) kk
theorem x_dcmp {x y : UInt64} {op : CmpOp} (hd : decode M.2.1 pc = .ok (.dcmp op, 1)) (kk : xW sc M d Q h (pc + 1) L (vI (Op.cmpValue (FP.dcmp x y) op) :: st)) : xW sc M d Q h pc L (vD y :: vD x :: st) :=
  x_pure (fun G p l e R s m args below meth c H locs cells slots ls Z hx hb hL k => lv_dcmp hx hb hd k) kk
theorem x_dup {v : xV} (hd : decode M.2.1 pc = .ok (.dup, 1)) (hv : xcat v = 1) (kk : xW sc M d Q h (pc + 1) L (v :: v :: st)) : xW sc M d Q h pc L (v :: st) :=
  x_pure (fun G p l e R s m args below meth c H locs cells slots ls Z hx hb hL k => lv_dup hx hb hd ((xcat_v G v).trans hv) k) kk
theorem x_pop {v : xV} (hd : decode M.2.1 pc = .ok (.pop, 1)) (hv : xcat v = 1) (kk : xW sc M d Q h (pc + 1) L (st)) : xW sc M d Q h pc L (v :: st) :=
  x_pure (fun G p l e R s m args below meth c H locs cells slots ls Z hx hb hL k => lv_pop hx hb hd ((xcat_v G v).trans hv) k) kk
theorem x_dup_x1 {u v : xV} (hd : decode M.2.1 pc = .ok (.dup_x1, 1)) (hv : xcat v = 1) (hu : xcat u = 1) (kk : xW sc M d Q h (pc + 1) L (v :: u :: v :: st)) : xW sc M d Q h pc L (v :: u :: st) :=
  x_pure (fun G p l e R s m args below meth c H locs cells slots ls Z hx hb hL k => lv_dup_x1 hx hb hd ((xcat_v G v).trans hv) ((xcat_v G u).trans hu) k) kk
theorem x_dup_x2 {t u v : xV} (hd : decode M.2.1 pc = .ok (.dup_x2, 1)) (hv : xcat v = 1) (hu : xcat u = 1) (ht : xcat t = 1) (kk : xW sc M d Q h (pc + 1) L (v :: u :: t :: v :: st)) : xW sc M d Q h pc L (v :: u :: t :: st) :=
  x_pure (fun G p l e R s m args below meth c H locs cells slots ls Z hx hb hL k => lv_dup_x2 hx hb hd ((xcat_v G v).trans hv) ((xcat_v G u).trans hu) ((xcat_v G t).trans ht) k) kk
theorem x_dup2_11 {u v : xV} (hd : decode M.2.1 pc = .ok (.dup2, 1)) (hv : xcat v = 1) (hu : xcat u = 1) (kk : xW sc M d Q h (pc + 1) L (v :: u :: v :: u :: st)) : xW sc M d Q h pc L (v :: u :: st) :=
  x_pure (fun G p l e R s m args below meth c H locs cells slots ls Z hx hb hL k => lv_dup2_11 hx hb hd ((xcat_v G v).trans hv) ((xcat_v G u).trans hu) k) kk
theorem x_dup2_2 {v : xV} (hd : decode M.2.1 pc = .ok (.dup2, 1)) (hv : xcat v = 2) (kk : xW sc M d Q h (pc + 1) L (v :: v :: st)) : xW sc M d Q h pc L (v :: st) :=
  x_pure (fun G p l e R s m args below meth c H locs cells slots ls Z hx hb hL k => lv_dup2_2 hx hb hd ((xcat_v G v).trans hv) k) kk
theorem x_goto {off : Int} {tgt : Nat} (hd : decode M.2.1 pc = .ok (.goto off, 3)) (ht : (pc : Int) + off = (tgt : Int)) (kk : xW sc M d Q h tgt L st) : xW sc M d Q h pc L st :=
  x_pure (fun G p l e R s m args below meth c H locs cells slots ls Z hx hb hL k => lv_goto hx hb hd ht k) kk
theorem x_if_eq {x : Int32} {off : Int} {tgt : Nat} (hd : decode M.2.1 pc = .ok (.ifCond .eq off, 3)) (ht : (pc : Int) + off = (tgt : Int)) (kt : x = 0 → xW sc M d Q h tgt L st) (kf : ¬ x = 0 → xW sc M d Q h (pc + 3) L st) : xW sc M d Q h pc L (vI x :: st) := by
  intro G p l e R s m args below meth c H locs cells slots ls n0 s0 g1 g2 g3 g4 g5 g6 g7 g8 g9
  exact lv_if_eq g2.1 g2.2.1 hd ht (fun z => kt z G p l e R s m args below meth c H locs cells slots ls n0 s0 g1 g2 g3 g4 g5 g6 g7 g8 g9) (fun z => kf z G p l e R s m args below meth c H locs cells slots ls n0 s0 g1 g2 g3 g4 g5 g6 g7 g8 g9)
theorem x_icmp_eq {x y : Int32} {off : Int} {tgt : Nat} (hd : decode M.2.1 pc = .ok (.if_icmp .eq off, 3)) (ht : (pc : Int) + off = (tgt : Int)) (kt : x = y → xW sc M d Q h tgt L st) (kf : ¬ x = y → xW sc M d Q h (pc + 3) L st) : xW sc M d Q h pc L (vI y :: vI x :: st) := by
  intro G p l e R s m args below meth c H locs cells slots ls n0 s0 g1 g2 g3 g4 g5 g6 g7 g8 g9
  exact lv_icmp_eq g2.1 g2.2.1 hd ht (fun z => kt z G p l e R s m args below meth c H locs cells slots ls n0 s0 g1 g2 g3 g4 g5 g6 g7 g8 g9) (fun z => kf z G p l e R s m args below meth c H locs cells slots ls n0 s0 g1 g2 g3 g4 g5 g6 g7 g8 g9)
theorem x_if_ne {x : Int32} {off : Int} {tgt : Nat} (hd : decode M.2.1 pc = .ok (.ifCond .ne off, 3)) (ht : (pc : Int) + off = (tgt : Int)) (kt : ¬ x = 0 → xW sc M d Q h tgt L st) (kf : x = 0 → xW sc M d Q h (pc + 3) L st) : xW sc M d Q h pc L (vI x :: st) := by
  intro G p l e R s m args below meth c H locs cells slots ls n0 s0 g1 g2 g3 g4 g5 g6 g7 g8 g9
  exact lv_if_ne g2.1 g2.2.1 hd ht (fun z => kt z G p l e R s m args below meth c H locs cells slots ls n0 s0 g1 g2 g3 g4 g5 g6 g7 g8 g9) (fun z => kf z G p l e R s m args below meth c H locs cells slots ls n0 s0 g1 g2 g3 g4 g5 g6 g7 g8 g9)
theorem x_icmp_ne {x y : Int32} {off : Int} {tgt : Nat} (hd : decode M.2.1 pc = .ok (.if_icmp .ne off, 3)) (ht : (pc : Int) + off = (tgt : Int)) (kt : ¬ x = y → xW sc M d Q h tgt L st) (kf : x = y → xW sc M d Q h (pc + 3) L st) : xW sc M d Q h pc L (vI y :: vI x :: st) := by
  intro G p l e R s m args below meth c H locs cells slots ls n0 s0 g1 g2 g3 g4 g5 g6 g7 g8 g9
  exact lv_icmp_ne g2.1 g2.2.1 hd ht (fun z => kt z G p l e R s m args below meth c H locs cells slots ls n0 s0 g1 g2 g3 g4 g5 g6 g7 g8 g9) (fun z => kf z G p l e R s m args below meth c H locs cells slots ls n0 s0 g1 g2 g3 g4 g5 g6 g7 g8 g9)
theorem x_if_lt {x : Int32} {off : Int} {tgt : Nat} (hd : decode M.2.1 pc = .ok (.ifCond .lt off, 3)) (ht : (pc : Int) + off = (tgt : Int)) (kt : x < 0 → xW sc M d Q h tgt L st) (kf : ¬ x < 0 → xW sc M d Q h (pc + 3) L st) : xW sc M d Q h pc L (vI x :: st) := by
  intro G p l e R s m args below meth c H locs cells slots ls n0 s0 g1 g2 g3 g4 g5 g6 g7 g8 g9
  exact lv_if_lt g2.1 g2.2.1 hd ht (fun z => kt z G p l e R s m args below meth c H locs cells slots ls n0 s0 g1 g2 g3 g4 g5 g6 g7 g8 g9) (fun z => kf z G p l e R s m args below meth c H locs cells slots ls n0 s0 g1 g2 g3 g4 g5 g6 g7 g8 g9)
theorem x_icmp_lt {x y : Int32} {off : Int} {tgt : Nat} (hd : decode M.2.1 pc = .ok (.if_icmp .lt off, 3)) (ht : (pc : Int) + off = (tgt : Int)) (kt : x < y → xW sc M d Q h tgt L st) (kf : ¬ x < y → xW sc M d Q h (pc + 3) L st) : xW sc M d Q h pc L (vI y :: vI x :: st) := by
  intro G p l e R s m args below meth c H locs cells slots ls n0 s0 g1 g2 g3 g4 g5 g6 g7 g8 g9
  exact lv_icmp_lt g2.1 g2.2.1 hd ht (fun z => kt z G p l e R s m args below meth c H locs cells slots ls n0 s0 g1 g2 g3 g4 g5 g6 g7 g8 g9) (fun z => kf z G p l e R s m args below meth c H locs cells slots ls n0 s0 g1 g2 g3 g4 g5 g6 g7 g8 g9)
theorem x_if_ge {x : Int32} {off : Int} {tgt : Nat} (hd : decode M.2.1 pc = .ok (.ifCond .ge off, 3)) (ht : (pc : Int) + off = (tgt : Int)) (kt : 0 ≤ x → xW sc M d Q h tgt L st) (kf : ¬ 0 ≤ x → xW sc M d Q h (pc + 3) L st) : xW sc M d Q h pc L (vI x :: st) := by
  intro G p l e R s m args below meth c H locs cells slots ls n0 s0 g1 g2 g3 g4 g5 g6 g7 g8 g9
  exact lv_if_ge g2.1 g2.2.1 hd ht (fun z => kt z G p l e R s m args below meth c H locs cells slots ls n0 s0 g1 g2 g3 g4 g5 g6 g7 g8 g9) (fun z => kf z G p l e R s m args below meth c H locs cells slots ls n0 s0 g1 g2 g3 g4 g5 g6 g7 g8 g9)
theorem x_icmp_ge {x y : Int32} {off : Int} {tgt : Nat} (hd : decode M.2.1 pc = .ok (.if_icmp .ge off, 3)) (ht : (pc : Int) + off = (tgt : Int)) (kt : y ≤ x → xW sc M d Q h tgt L st) (kf : ¬ y ≤ x → xW sc M d Q h (pc + 3) L st) : xW sc M d Q h pc L (vI y :: vI x :: st) := by
  intro G p l e R s m args below meth c H locs cells slots ls n0 s0 g1 g2 g3 g4 g5 g6 g7 g8 g9
  exact lv_icmp_ge g2.1 g2.2.1 hd ht (fun z => kt z G p l e R s m args below meth c H locs cells slots ls n0 s0 g1 g2 g3 g4 g5 g6 g7 g8 g9) (fun z => kf z G p l e R s m args below meth c H locs cells slots ls n0 s0 g1 g2 g3 g4 g5 g6 g7 g8 g9)
theorem x_if_gt {x : Int32} {off : Int} {tgt : Nat} (hd : decode M.2.1 pc = .ok (.ifCond .gt off, 3)) (ht : (pc : Int) + off = (tgt : Int)) (kt : 0 < x → xW sc M d Q h tgt L st) (kf : ¬ 0 < x → xW sc M d Q h (pc + 3) L st) : xW sc M d Q h pc L (vI x :: st) := by
  intro G p l e R s m args below meth c H locs cells slots ls n0 s0 g1 g2 g3 g4 g5 g6 g7 g8 g9
  exact lv_if_gt g2.1 g2.2.1 hd ht (fun z => kt z G p l e R s m args below meth c H locs cells slots ls n0 s0 g1 g2 g3 g4 g5 g6 g7 g8 g9) (fun z => kf z G p l e R s m args below meth c H locs cells slots ls n0 s0 g1 g2 g3 g4 g5 g6 g7 g8 g9)
theorem x_icmp_gt {x y : Int32} {off : Int} {tgt : Nat} (hd : decode M.2.1 pc = .ok (.if_icmp .gt off, 3)) (ht : (pc : Int) + off = (tgt : Int)) (kt : y < x → xW sc M d Q h tgt L st) (kf : ¬ y < x → xW sc M d Q h (pc + 3) L st) : xW sc M d Q h pc L (vI y :: vI x :: st) := by
  intro G p l e R s m args below meth c H locs cells slots ls n0 s0 g1 g2 g3 g4 g5 g6 g7 g8 g9
  exact lv_icmp_gt g2.1 g2.2.1 hd ht (fun z => kt z G p l e R s m args below meth c H locs cells slots ls n0 s0 g1 g2 g3 g4 g5 g6 g7 g8 g9) (fun z => kf z G p l e R s m args below meth c H locs cells slots ls n0 s0 g1 g2 g3 g4 g5 g6 g7 g8 g9)
theorem x_if_le {x : Int32} {off : Int} {tgt : Nat} (hd : decode M.2.1 pc = .ok (.ifCond .le off, 3)) (ht : (pc : Int) + off = (tgt : Int)) (kt : x ≤ 0 → xW sc M d Q h tgt L st) (kf : ¬ x ≤ 0 → xW sc M d Q h (pc + 3) L st) : xW sc M d Q h pc L (vI x :: st) := by
  intro G p l e R s m args below meth c H locs cells slots ls n0 s0 g1 g2 g3 g4 g5 g6 g7 g8 g9
  exact lv_if_le g2.1 g2.2.1 hd ht (fun z => kt z G p l e R s m args below meth c H locs cells slots ls n0 s0 g1 g2 g3 g4 g5 g6 g7 g8 g9) (fun z => kf z G p l e R s m args below meth c H locs cells slots ls n0 s0 g1 g2 g3 g4 g5 g6 g7 g8 g9)
theorem x_icmp_le {x y : Int32} {off : Int} {tgt : Nat} (hd : decode M.2.1 pc = .ok (.if_icmp .le off, 3)) (ht : (pc : Int) + off = (tgt : Int)) (kt : x ≤ y → xW sc M d Q h tgt L st) (kf : ¬ x ≤ y → xW sc M d Q h (pc + 3) L st) : xW sc M d Q h pc L (vI y :: vI x :: st) := by
  intro G p l e R s m args below meth c H locs cells slots ls n0 s0 g1 g2 g3 g4 g5 g6 g7 g8 g9
  exact lv_icmp_le g2.1 g2.2.1 hd ht (fun z => kt z G p l e R s m args below meth c H locs cells slots ls n0 s0 g1 g2 g3 g4 g5 g6 g7 g8 g9) (fun z => kf z G p l e R s m args below meth c H locs cells slots ls n0 s0 g1 g2 g3 g4 g5 g6 g7 g8 g9)
theorem x_ifnull {r : Option Nat} {off : Int} {tgt : Nat} (hd : decode M.2.1 pc = .ok (.ifnull off, 3)) (ht : (pc : Int) + off = (tgt : Int)) (kt : r = none → xW sc M d Q h tgt L st) (kf : ∀ a : Nat, r = some a → xW sc M d Q h (pc + 3) L st) : xW sc M d Q h pc L (vR r :: st) := by
  intro G p l e R s m args below meth c H locs cells slots ls n0 s0 g1 g2 g3 g4 g5 g6 g7 g8 g9
  cases r with
  | none => exact lv_ifnullN g2.1 g2.2.1 hd ht (kt rfl G p l e R s m args below meth c H locs cells slots ls n0 s0 g1 g2 g3 g4 g5 g6 g7 g8 g9)
  | some a => exact lv_ifnull g2.1 g2.2.1 hd (kf a rfl G p l e R s m args below meth c H locs cells slots ls n0 s0 g1 g2 g3 g4 g5 g6 g7 g8 g9)
theorem x_ifnonnull {r : Option Nat} {off : Int} {tgt : Nat} (hd : decode M.2.1 pc = .ok (.ifnonnull off, 3)) (ht : (pc : Int) + off = (tgt : Int)) (kt : ∀ a : Nat, r = some a → xW sc M d Q h tgt L st) (kf : r = none → xW sc M d Q h (pc + 3) L st) : xW sc M d Q h pc L (vR r :: st) := by
  intro G p l e R s m args below meth c H locs cells slots ls n0 s0 g1 g2 g3 g4 g5 g6 g7 g8 g9
  cases r with
  | none => exact lv_ifnonnullN g2.1 g2.2.1 hd (kf rfl G p l e R s m args below meth c H locs cells slots ls n0 s0 g1 g2 g3 g4 g5 g6 g7 g8 g9)
  | some a => exact lv_ifnonnull g2.1 g2.2.1 hd ht (kt a rfl G p l e R s m args below meth c H locs cells slots ls n0 s0 g1 g2 g3 g4 g5 g6 g7 g8 g9)
theorem x_tableOut {dflt lo hi : Int} {offs : Array Int} {len : Nat} {x : Int32} {tgt : Nat} (hd : decode M.2.1 pc = .ok (.tableswitch dflt lo hi offs, len)) (hr : x.toInt < lo ∨ hi < x.toInt) (ht : (pc : Int) + dflt = (tgt : Int)) (kk : xW sc M d Q h tgt L st) : xW sc M d Q h pc L (vI x :: st) :=
  x_pure (fun G p l e R s m args below meth c H locs cells slots ls Z hx hb hL k => lv_tableOut hx hb hd hr ht k) kk
theorem x_tableIn {dflt lo hi : Int} {offs : Array Int} {len : Nat} {x : Int32} {off : Int} {tgt : Nat} (hd : decode M.2.1 pc = .ok (.tableswitch dflt lo hi offs, len)) (h1 : ¬ x.toInt < lo) (h2 : ¬ hi < x.toInt) (ho : offs[(x.toInt - lo).toNat]? = some off) (ht : (pc : Int) + off = (tgt : Int)) (kk : xW sc M d Q h tgt L st) : xW sc M d Q h pc L (vI x :: st) :=
  x_pure (fun G p l e R s m args below meth c H locs cells slots ls Z hx hb hL k => lv_tableIn hx hb hd h1 h2 ho ht k) kk
theorem x_lookup {dflt : Int} {ps : Array (Int × Int)} {len : Nat} {x : Int32} {off : Int} {tgt : Nat} (hd : decode M.2.1 pc = .ok (.lookupswitch dflt ps, len)) (hp : (ps.toList.zip (ps.toList.drop 1)).all (fun (a, next) => a.1 < next.1) = true) (ho : Op.lookupswitch.offset ps.toList dflt x.toInt = off) (ht : (pc : Int) + off = (tgt : Int)) (kk : xW sc M d Q h tgt L st) : xW sc M d Q h pc L (vI x :: st) :=
  x_pure (fun G p l e R s m args below meth c H locs cells slots ls Z hx hb hL k => lv_lookup hx hb hd hp ho ht k) kk
/-- two references are the same where their virtual numbers are, if constants among them lie below 80 -/
def xcmpOk (r : Option Nat) : Prop := ∀ a, r = some a → a < 80 ∨ xK ≤ a
theorem xr_inj {G : xG} (g1 : xGF G sc) {a b : Nat} (ha : a < 80 ∨ xK ≤ a) (hb : b < 80 ∨ xK ≤ b) (e : xr G a = xr G b) : a = b := by
  have hc : ∀ q, q < 80 → G.cst q < G.s.heap.size := fun q hq => by
    have : ∃ e, xCs sc q = some e := by
      unfold xCs
      by_cases h1 : q < 72
      · exact ⟨_, if_pos h1⟩
      · rw [if_neg h1, if_pos hq]
        exact ⟨_, rfl⟩
    obtain ⟨e, he⟩ := this
    exact (g1.2.1 q e (by unfold xK; omega) he).2
  unfold xr xK at *
  rcases ha with ha | ha <;> rcases hb with hb | hb
  · rw [if_pos (by omega), if_pos (by omega)] at e
    exact g1.2.2.2.2 a b ha hb e
  · rw [if_pos (by omega), if_neg (by omega)] at e
    have := hc a ha
    omega
  · rw [if_neg (by omega), if_pos (by omega)] at e
    have := hc b hb
    omega
  · rw [if_neg (by omega), if_neg (by omega)] at e
    omega
theorem xr_injO {G : xG} (g1 : xGF G sc) {r t : Option Nat} (hr : xcmpOk r) (ht : xcmpOk t) (e : r.map (xr G) = t.map (xr G)) : r = t := by
  cases r with
  | none => cases t with
    | none => rfl
    | some b => cases e
  | some a => cases t with
    | none => cases e
    | some b =>
      have e2 : xr G a = xr G b := Option.some.inj e
      rw [xr_inj g1 (hr a rfl) (ht b rfl) e2]
theorem x_acmp_eq {r t : Option Nat} {off : Int} {tgt : Nat} (hd : decode M.2.1 pc = .ok (.if_acmp .eq off, 3)) (ht : (pc : Int) + off = (tgt : Int)) (hr : xcmpOk r) (hq : xcmpOk t) (kt : r = t → xW sc M d Q h tgt L st) (kf : ¬ r = t → xW sc M d Q h (pc + 3) L st) : xW sc M d Q h pc L (vR t :: vR r :: st) := by
  intro G p l e R s m args below meth c H locs cells slots ls n0 s0 g1 g2 g3 g4 g5 g6 g7 g8 g9
  exact lv_acmp_eq (rx := r.map (xr G)) (ry := t.map (xr G)) g2.1 g2.2.1 hd ht (fun z => kt (xr_injO g1 hr hq z) G p l e R s m args below meth c H locs cells slots ls n0 s0 g1 g2 g3 g4 g5 g6 g7 g8 g9) (fun z => kf (fun y => z (by rw [y])) G p l e R s m args below meth c H locs cells slots ls n0 s0 g1 g2 g3 g4 g5 g6 g7 g8 g9)
theorem x_acmp_ne {r t : Option Nat} {off : Int} {tgt : Nat} (hd : decode M.2.1 pc = .ok (.if_acmp .ne off, 3)) (ht : (pc : Int) + off = (tgt : Int)) (hr : xcmpOk r) (hq : xcmpOk t) (kt : ¬ r = t → xW sc M d Q h tgt L st) (kf : r = t → xW sc M d Q h (pc + 3) L st) : xW sc M d Q h pc L (vR t :: vR r :: st) := by
  intro G p l e R s m args below meth c H locs cells slots ls n0 s0 g1 g2 g3 g4 g5 g6 g7 g8 g9
  exact lv_acmp_ne (rx := r.map (xr G)) (ry := t.map (xr G)) g2.1 g2.2.1 hd ht (fun z => kt (fun y => z (by rw [y])) G p l e R s m args below meth c H locs cells slots ls n0 s0 g1 g2 g3 g4 g5 g6 g7 g8 g9) (fun z => kf (xr_injO g1 hr hq z) G p l e R s m args below meth c H locs cells slots ls n0 s0 g1 g2 g3 g4 g5 g6 g7 g8 g9)
theorem x_istore {x : Int32} {i : Nat} (hd : decode M.2.1 pc = .ok (.istore i, 2)) (hn : i < M.2.2.1) (kk : xW sc M d Q h (pc + 2) (xset1 L i (vI x)) st) : xW sc M d Q h pc L (vI x :: st) := by
  intro G p l e R s m args below meth c H locs cells slots ls n0 s0 g1 g2 g3 g4 g5 g6 g7 g8 g9
  exact lv_istore g2.1 g2.2.1 hd (xls_has g4) hn rfl (fun ls2 z => kk G p l e R s m args below meth c H locs cells slots ls2 n0 s0 g1 g2 g3 (xls_st1 (v := vI x) g4 z) g5 g6 g7 g8 g9)
theorem x_istore_n {x : Int32} {i : Fin 4} (hd : decode M.2.1 pc = .ok (.istore_n i, 1)) (hn : (i : Nat) < M.2.2.1) (kk : xW sc M d Q h (pc + 1) (xset1 L (i : Nat) (vI x)) st) : xW sc M d Q h pc L (vI x :: st) := by
  intro G p l e R s m args below meth c H locs cells slots ls n0 s0 g1 g2 g3 g4 g5 g6 g7 g8 g9
  exact lv_istore_n g2.1 g2.2.1 hd rfl (xls_has g4) hn rfl (fun ls2 z => kk G p l e R s m args below meth c H locs cells slots ls2 n0 s0 g1 g2 g3 (xls_st1 (v := vI x) g4 z) g5 g6 g7 g8 g9)
theorem x_fstore {x : UInt32} {i : Nat} (hd : decode M.2.1 pc = .ok (.fstore i, 2)) (hn : i < M.2.2.1) (kk : xW sc M d Q h (pc + 2) (xset1 L i (vF x)) st) : xW sc M d Q h pc L (vF x :: st) := by
  intro G p l e R s m args below meth c H locs cells slots ls n0 s0 g1 g2 g3 g4 g5 g6 g7 g8 g9
  exact lv_fstore g2.1 g2.2.1 hd (xls_has g4) hn rfl (fun ls2 z => kk G p l e R s m args below meth c H locs cells slots ls2 n0 s0 g1 g2 g3 (xls_st1 (v := vF x) g4 z) g5 g6 g7 g8 g9)
theorem x_fstore_n {x : UInt32} {i : Fin 4} (hd : decode M.2.1 pc = .ok (.fstore_n i, 1)) (hn : (i : Nat) < M.2.2.1) (kk : xW sc M d Q h (pc + 1) (xset1 L (i : Nat) (vF x)) st) : xW sc M d Q h pc L (vF x :: st) := by
  intro G p l e R s m args below meth c H locs cells slots ls n0 s0 g1 g2 g3 g4 g5 g6 g7 g8 g9
  exact lv_fstore_n g2.1 g2.2.1 hd rfl (xls_has g4) hn rfl (fun ls2 z => kk G p l e R s m args below meth c H locs cells slots ls2 n0 s0 g1 g2 g3 (xls_st1 (v := vF x) g4 z) g5 g6 g7 g8 g9)
theorem x_lstore {x : Int64} {i : Nat} (hd : decode M.2.1 pc = .ok (.lstore i, 2)) (hn : i + 1 < M.2.2.1) (kk : xW sc M d Q h (pc + 2) (xset2 L i (vL x)) st) : xW sc M d Q h pc L (vL x :: st) := by
  intro G p l e R s m args below meth c H locs cells slots ls n0 s0 g1 g2 g3 g4 g5 g6 g7 g8 g9
  exact lv_lstore g2.1 g2.2.1 hd (xls_has g4) hn rfl (fun ls2 z => kk G p l e R s m args below meth c H locs cells slots ls2 n0 s0 g1 g2 g3 (xls_st2 (v := vL x) g4 z) g5 g6 g7 g8 g9)
theorem x_lstore_n {x : Int64} {i : Fin 4} (hd : decode M.2.1 pc = .ok (.lstore_n i, 1)) (hn : (i : Nat) + 1 < M.2.2.1) (kk : xW sc M d Q h (pc + 1) (xset2 L (i : Nat) (vL x)) st) : xW sc M d Q h pc L (vL x :: st) := by
  intro G p l e R s m args below meth c H locs cells slots ls n0 s0 g1 g2 g3 g4 g5 g6 g7 g8 g9
  exact lv_lstore_n g2.1 g2.2.1 hd rfl (xls_has g4) hn rfl (fun ls2 z => kk G p l e R s m args below meth c H locs cells slots ls2 n0 s0 g1 g2 g3 (xls_st2 (v := vL x) g4 z) g5 g6 g7 g8 g9)
theorem x_dstore {x : UInt64} {i : Nat} (hd : decode M.2.1 pc = .ok (.dstore i, 2)) (hn : i + 1 < M.2.2.1) (kk : xW sc M d Q h (pc + 2) (xset2 L i (vD x)) st) : xW sc M d Q h pc L (vD x :: st) := by
  intro G p l e R s m args below meth c H locs cells slots ls n0 s0 g1 g2 g3 g4 g5 g6 g7 g8 g9
  exact lv_dstore g2.1 g2.2.1 hd (xls_has g4) hn rfl (fun ls2 z => kk G p l e R s m args below meth c H locs cells slots ls2 n0 s0 g1 g2 g3 (xls_st2 (v := vD x) g4 z) g5 g6 g7 g8 g9)
theorem x_dstore_n {x : UInt64} {i : Fin 4} (hd : decode M.2.1 pc = .ok (.dstore_n i, 1)) (hn : (i : Nat) + 1 < M.2.2.1) (kk : xW sc M d Q h (pc + 1) (xset2 L (i : Nat) (vD x)) st) : xW sc M d Q h pc L (vD x :: st) := by
  intro G p l e R s m args below meth c H locs cells slots ls n0 s0 g1 g2 g3 g4 g5 g6 g7 g8 g9
  exact lv_dstore_n g2.1 g2.2.1 hd rfl (xls_has g4) hn rfl (fun ls2 z => kk G p l e R s m args below meth c H locs cells slots ls2 n0 s0 g1 g2 g3 (xls_st2 (v := vD x) g4 z) g5 g6 g7 g8 g9)
theorem x_astore {r : Option Nat} {i : Nat} (hd : decode M.2.1 pc = .ok (.astore i, 2)) (hn : i < M.2.2.1) (kk : xW sc M d Q h (pc + 2) (xset1 L i (vR r)) st) : xW sc M d Q h pc L (vR r :: st) := by
  intro G p l e R s m args below meth c H locs cells slots ls n0 s0 g1 g2 g3 g4 g5 g6 g7 g8 g9
  cases r with
  | none => exact lv_astoreN g2.1 g2.2.1 hd (xls_has g4) hn rfl (fun ls2 z => kk G p l e R s m args below meth c H locs cells slots ls2 n0 s0 g1 g2 g3 (xls_st1 (v := vR none) g4 z) g5 g6 g7 g8 g9)
  | some a => exact lv_astore g2.1 g2.2.1 hd (xls_has g4) hn rfl (fun ls2 z => kk G p l e R s m args below meth c H locs cells slots ls2 n0 s0 g1 g2 g3 (xls_st1 (v := vR (some a)) g4 z) g5 g6 g7 g8 g9)
theorem x_astore_n {r : Option Nat} {i : Fin 4} (hd : decode M.2.1 pc = .ok (.astore_n i, 1)) (hn : (i : Nat) < M.2.2.1) (kk : xW sc M d Q h (pc + 1) (xset1 L (i : Nat) (vR r)) st) : xW sc M d Q h pc L (vR r :: st) := by
  intro G p l e R s m args below meth c H locs cells slots ls n0 s0 g1 g2 g3 g4 g5 g6 g7 g8 g9
  cases r with
  | none => exact lv_astore_nN g2.1 g2.2.1 hd rfl (xls_has g4) hn rfl (fun ls2 z => kk G p l e R s m args below meth c H locs cells slots ls2 n0 s0 g1 g2 g3 (xls_st1 (v := vR none) g4 z) g5 g6 g7 g8 g9)
  | some a => exact lv_astore_n g2.1 g2.2.1 hd rfl (xls_has g4) hn rfl (fun ls2 z => kk G p l e R s m args below meth c H locs cells slots ls2 n0 s0 g1 g2 g3 (xls_st1 (v := vR (some a)) g4 z) g5 g6 g7 g8 g9)
theorem x_iinc {x : Int32} {i : Nat} {n : Int} (hd : decode M.2.1 pc = .ok (.iinc i n, 3)) (hl : L[i]? = some (some (vI x))) (hn : i < M.2.2.1) (kk : xW sc M d Q h (pc + 3) (xset1 L i (vI (x + Int32.ofInt n))) st) : xW sc M d Q h pc L st := by
  intro G p l e R s m args below meth c H locs cells slots ls n0 s0 g1 g2 g3 g4 g5 g6 g7 g8 g9
  obtain ⟨k, hk⟩ := List.getElem?_of_mem (xlv_mem (G := G) hl)
  exact lv_iinc g2.1 g2.2.1 hd (xls_has g4) hk rfl hn rfl (fun ls2 z => kk G p l e R s m args below meth c H locs cells slots ls2 n0 s0 g1 g2 g3 (xls_st1 (v := vI (x + Int32.ofInt n)) g4 z) g5 g6 g7 g8 g9)
end XR
