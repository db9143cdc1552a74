/-! new cells; failures -/
def nwO (e : xE) (n : Nat) (c : CT) : CT := tn (cn c + 1) (tz (cz c + n) (tO (cn c) (some e) (tT (cn c) none (tS (cn c) none c))))
def nwS (v : SV) (c : CT) : CT := tn (cn c + 1) (tz (cz c + 8) (tS (cn c) (some v) c))
def nwT (v : DV) (c : CT) : CT := tn (cn c + 1) (tz (cz c + 4) (tT (cn c) (some v) (tS (cn c) none c)))
/-- what is new is no fixed cell -/
def FRc (c : CT) : Prop := 300 ≤ cn c ∧ (cb c).1 < cn c
/-- so many cells may be made yet -/
def RMc (c : CT) (m : Nat) : Prop := cn c + m ≤ 600544 ∧ cz c + 16 * m ≤ 7292904
theorem RMc.xrm {c : CT} {m n : Nat} (h : RMc c (m + 1)) (hn : n ≤ 16) : xrm (cH c) n = true := by
  refine p_xrm ?_ ?_
  · have := h.1
    show cn c < 600544
    omega
  · have := h.2
    show cz c + n ≤ 7292904
    omega
theorem RMc.le {c : CT} {m k : Nat} (h : RMc c m) (hk : k ≤ m) : RMc c k := by
  have := h.1
  have := h.2
  exact ⟨by omega, by omega⟩
theorem x_nwO {c : CT} (h : FRc c) (e : xE) (n : Nat) : xnew (cH c) e n = cH (nwO e n c) := by
  refine c_new ?_ (fun b hb => ?_) rfl rfl
  · have h1 : cX (cn c) = false := cX_of h.1
    show cM (nwO e n c) (cn c) = some e
    refine ov_M (ov_iff.mpr ⟨h1, ?_, ?_, ?_, ?_⟩)
    · show cn c ≠ (cb c).1
      have := h.2
      omega
    · exact va_up_self _ _ _
    · exact va_up_self _ _ _
    · exact va_up_self _ _ _
  · have e1 : cF (nwO e n c) b = cF c b := by
      unfold cF
      split <;> first | rfl | exact va_up_ne _ _ hb
    have e2 : cS (nwO e n c) b = cS c b := va_up_ne _ _ hb
    have e3 : cT (nwO e n c) b = cT c b := va_up_ne _ _ hb
    have e4 : cO (nwO e n c) b = cO c b := va_up_ne _ _ hb
    unfold cM
    rw [e1, e2, e3, e4]
    rfl
theorem x_nwS {c : CT} (h : FRc c) (v : SV) : xnew (cH c) (.inl (2, slV v)) 8 = cH (nwS v c) := by
  refine c_new ?_ (fun b hb => ?_) rfl rfl
  · have h1 : cX (cn c) = false := cX_of h.1
    refine slv_M (slv_iff.mpr ⟨h1, ?_, ?_⟩)
    · show cn c ≠ (cb c).1
      have := h.2
      omega
    · exact va_up_self _ _ _
  · have e2 : cS (nwS v c) b = cS c b := va_up_ne _ _ hb
    unfold cM
    rw [e2]
    rfl
theorem x_nwT {c : CT} (h : FRc c) (v : DV) : xnew (cH c) (.inl (4, dcV v)) 4 = cH (nwT v c) := by
  refine c_new ?_ (fun b hb => ?_) rfl rfl
  · have h1 : cX (cn c) = false := cX_of h.1
    refine dcv_M (dcv_iff.mpr ⟨h1, ?_, ?_, ?_⟩)
    · show cn c ≠ (cb c).1
      have := h.2
      omega
    · exact va_up_self _ _ _
    · exact va_up_self _ _ _
  · have e2 : cS (nwT v c) b = cS c b := va_up_ne _ _ hb
    have e3 : cT (nwT v c) b = cT c b := va_up_ne _ _ hb
    unfold cM
    rw [e2, e3]
    rfl
theorem slv_nwS {c : CT} (h : FRc c) (v : SV) : slv (nwS v c) (cn c) = some v := by
  refine slv_iff.mpr ⟨cX_of h.1, ?_, va_up_self _ _ _⟩
  show cn c ≠ (cb c).1
  have := h.2
  omega
theorem slv_nwS_ne {c : CT} {v : SV} {a : Nat} (h : a ≠ cn c) : slv (nwS v c) a = slv c a := by
  show slv (tS (cn c) (some v) c) a = _
  exact slv_tS_ne h
theorem slv_nwO_ne {c : CT} {e : xE} {n a : Nat} (h : a ≠ cn c) : slv (nwO e n c) a = slv c a := by
  show slv (tS (cn c) none c) a = _
  exact slv_tS_ne h
/-- a failure: error and fault, and what is thrown -/
def thr (k : Int32) (c : CT) : CT := nwO (.inl (21, [])) 6 (tI 18 k (tI 17 k c))
theorem e_need1 (sc : xSc) (c : CT) (k : Int32) : f_P_need sc (cH c) (some 256) 1 k = some (.inl (), cH c) := rfl
theorem e_need0 {sc : xSc} {c : CT} {m : Nat} (k : Int32) (h : FRc c) (hm : RMc c (m + 1)) : f_P_need sc (cH c) (some 256) 0 k = some (.inr (cn c), cH (thr k c)) := by
  unfold f_P_need
  rw [if_pos rfl, cpI_17]
  dsimp only [Option.bind_some]
  rw [cpI_18]
  dsimp only [Option.bind_some]
  rw [if_pos (RMc.xrm (c := tI 18 k (tI 17 k c)) (m := m) hm (by decide)), x_nwO (c := tI 18 k (tI 17 k c)) h]
  rfl
theorem e_need {sc : xSc} {c : CT} {m : Nat} (b k : Int32) (h : FRc c) (hm : RMc c (m + 1)) : f_P_need sc (cH c) (some 256) b k = if b = 0 then some (.inr (cn c), cH (thr k c)) else some (.inl (), cH c) := by
  by_cases hb : b = 0
  · rw [if_pos hb, hb, e_need0 k h hm]
  · rw [if_neg hb]
    unfold f_P_need
    rw [if_neg hb]
theorem e_type1 (sc : xSc) (c : CT) : f_P_type sc (cH c) (some 256) 1 = some (.inl (), cH c) := rfl
theorem e_type0 {sc : xSc} {c : CT} {m : Nat} (h : FRc c) (hm : RMc c (m + 1)) : f_P_type sc (cH c) (some 256) 0 = some (.inr (cn c), cH (thr 3 c)) := by
  unfold f_P_type
  rw [if_pos (cis_P _ _), e_need0 3 h hm]
  rfl
/-! small numbers -/
theorem nI_toInt {n : Nat} (h : n < 2147483648) : (nI n).toInt = n := by
  unfold nI
  exact Int32.toInt_ofNat_of_lt h
theorem nI_inj {a b : Nat} (ha : a < 2147483648) (hb : b < 2147483648) : nI a = nI b ↔ a = b := by
  refine ⟨fun e => ?_, fun e => by rw [e]⟩
  have := congrArg Int32.toInt e
  rw [nI_toInt ha, nI_toInt hb] at this
  omega
theorem nI_le {a b : Nat} (ha : a < 2147483648) (hb : b < 2147483648) : nI a ≤ nI b ↔ a ≤ b := by
  rw [Int32.le_iff_toInt_le, nI_toInt ha, nI_toInt hb]
  omega
theorem nI_lt {a b : Nat} (ha : a < 2147483648) (hb : b < 2147483648) : nI a < nI b ↔ a < b := by
  rw [Int32.lt_iff_toInt_lt, nI_toInt ha, nI_toInt hb]
  omega
theorem nI_add (a b : Nat) : nI a + nI b = nI (a + b) := by
  unfold nI
  exact (Int32.ofNat_add a b).symm
theorem nI_sub {a b : Nat} (h : b ≤ a) : nI a - nI b = nI (a - b) := by
  have : nI a = nI (a - b) + nI b := by rw [nI_add, Nat.sub_add_cancel h]
  rw [this]
  exact Int32.add_sub_cancel _ _
theorem nI_add1 (a : Nat) : nI a + 1 = nI (a + 1) := nI_add a 1
theorem nI_sub1 {a : Nat} (h : 1 ≤ a) : nI a - 1 = nI (a - 1) := nI_sub (b := 1) h
