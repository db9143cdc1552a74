/-! new cells; failures -/
def y_nwO (e : xE) (n : Nat) (c : y_CT) : y_CT := y_tn (y_cn c + 1) (y_tz (y_cz c + n) (y_tO (y_cn c) (some e) (y_tT (y_cn c) none (y_tS (y_cn c) none c))))
def y_nwS (v : y_SV) (c : y_CT) : y_CT := y_tn (y_cn c + 1) (y_tz (y_cz c + 8) (y_tS (y_cn c) (some v) c))
def y_nwT (v : y_DV) (c : y_CT) : y_CT := y_tn (y_cn c + 1) (y_tz (y_cz c + 4) (y_tT (y_cn c) (some v) (y_tS (y_cn c) none c)))
/-- what is new is no fixed cell -/
def y_FRc (c : y_CT) : Prop := 300 ≤ y_cn c ∧ (y_cb c).1 < y_cn c
/-- so many cells may be made yet -/
def y_RMc (c : y_CT) (m : Nat) : Prop := y_cn c + m ≤ 600544 ∧ y_cz c + 16 * m ≤ 7292904
theorem y_RMc.xrm {c : y_CT} {m n : Nat} (h : y_RMc c (m + 1)) (hn : n ≤ 16) : xrm (y_cH c) n = true := by
  refine p_xrm ?_ ?_
  · have := h.1
    show y_cn c < 600544
    omega
  · have := h.2
    show y_cz c + n ≤ 7292904
    omega
theorem y_RMc.le {c : y_CT} {m k : Nat} (h : y_RMc c m) (hk : k ≤ m) : y_RMc c k := by
  have := h.1
  have := h.2
  exact ⟨by omega, by omega⟩
theorem y_x_nwO {c : y_CT} (h : y_FRc c) (e : xE) (n : Nat) : xnew (y_cH c) e n = y_cH (y_nwO e n c) := by
  refine y_c_new ?_ (fun b hb => ?_) rfl rfl
  · have h1 : y_cX (y_cn c) = false := y_cX_of h.1
    show y_cM (y_nwO e n c) (y_cn c) = some e
    refine y_ov_M (y_ov_iff.mpr ⟨h1, ?_, ?_, ?_, ?_⟩)
    · show y_cn c ≠ (y_cb c).1
      have := h.2
      omega
    · exact va_up_self _ _ _
    · exact va_up_self _ _ _
    · exact va_up_self _ _ _
  · have e1 : y_cF (y_nwO e n c) b = y_cF c b := by
      unfold y_cF
      split <;> first | rfl | exact va_up_ne _ _ hb
    have e2 : y_cS (y_nwO e n c) b = y_cS c b := va_up_ne _ _ hb
    have e3 : y_cT (y_nwO e n c) b = y_cT c b := va_up_ne _ _ hb
    have e4 : y_cO (y_nwO e n c) b = y_cO c b := va_up_ne _ _ hb
    unfold y_cM
    rw [e1, e2, e3, e4]
    rfl
theorem y_x_nwS {c : y_CT} (h : y_FRc c) (v : y_SV) : xnew (y_cH c) (.inl (2, y_slV v)) 8 = y_cH (y_nwS v c) := by
  refine y_c_new ?_ (fun b hb => ?_) rfl rfl
  · have h1 : y_cX (y_cn c) = false := y_cX_of h.1
    refine y_slv_M (y_slv_iff.mpr ⟨h1, ?_, ?_⟩)
    · show y_cn c ≠ (y_cb c).1
      have := h.2
      omega
    · exact va_up_self _ _ _
  · have e2 : y_cS (y_nwS v c) b = y_cS c b := va_up_ne _ _ hb
    unfold y_cM
    rw [e2]
    rfl
theorem y_x_nwT {c : y_CT} (h : y_FRc c) (v : y_DV) : xnew (y_cH c) (.inl (4, y_dcV v)) 4 = y_cH (y_nwT v c) := by
  refine y_c_new ?_ (fun b hb => ?_) rfl rfl
  · have h1 : y_cX (y_cn c) = false := y_cX_of h.1
    refine y_dcv_M (y_dcv_iff.mpr ⟨h1, ?_, ?_, ?_⟩)
    · show y_cn c ≠ (y_cb c).1
      have := h.2
      omega
    · exact va_up_self _ _ _
    · exact va_up_self _ _ _
  · have e2 : y_cS (y_nwT v c) b = y_cS c b := va_up_ne _ _ hb
    have e3 : y_cT (y_nwT v c) b = y_cT c b := va_up_ne _ _ hb
    unfold y_cM
    rw [e2, e3]
    rfl
theorem y_slv_nwS {c : y_CT} (h : y_FRc c) (v : y_SV) : y_slv (y_nwS v c) (y_cn c) = some v := by
  refine y_slv_iff.mpr ⟨y_cX_of h.1, ?_, va_up_self _ _ _⟩
  show y_cn c ≠ (y_cb c).1
  have := h.2
  omega
theorem y_slv_nwS_ne {c : y_CT} {v : y_SV} {a : Nat} (h : a ≠ y_cn c) : y_slv (y_nwS v c) a = y_slv c a := by
  show y_slv (y_tS (y_cn c) (some v) c) a = _
  exact y_slv_tS_ne h
theorem y_slv_nwO_ne {c : y_CT} {e : xE} {n a : Nat} (h : a ≠ y_cn c) : y_slv (y_nwO e n c) a = y_slv c a := by
  show y_slv (y_tS (y_cn c) none c) a = _
  exact y_slv_tS_ne h
/-- a failure: error and fault, and what is thrown -/
def y_thr (k : Int32) (c : y_CT) : y_CT := y_nwO (.inl (21, [])) 6 (y_tI 18 k (y_tI 17 k c))
theorem y_e_need1 (sc : xSc) (c : y_CT) (k : Int32) : f_P_need sc (y_cH c) (some 256) 1 k = some (.inl (), y_cH c) := rfl
theorem y_e_need0 {sc : xSc} {c : y_CT} {m : Nat} (k : Int32) (h : y_FRc c) (hm : y_RMc c (m + 1)) : f_P_need sc (y_cH c) (some 256) 0 k = some (.inr (y_cn c), y_cH (y_thr k c)) := by
  unfold f_P_need
  rw [if_pos rfl, y_cpI_17]
  dsimp only [Option.bind_some]
  rw [y_cpI_18]
  dsimp only [Option.bind_some]
  rw [if_pos (y_RMc.xrm (c := y_tI 18 k (y_tI 17 k c)) (m := m) hm (by decide)), y_x_nwO (c := y_tI 18 k (y_tI 17 k c)) h]
  rfl
theorem y_e_need {sc : xSc} {c : y_CT} {m : Nat} (b k : Int32) (h : y_FRc c) (hm : y_RMc c (m + 1)) : f_P_need sc (y_cH c) (some 256) b k = if b = 0 then some (.inr (y_cn c), y_cH (y_thr k c)) else some (.inl (), y_cH c) := by
  by_cases hb : b = 0
  · rw [if_pos hb, hb, y_e_need0 k h hm]
  · rw [if_neg hb]
    unfold f_P_need
    rw [if_neg hb]
theorem y_e_type1 (sc : xSc) (c : y_CT) : f_P_type sc (y_cH c) (some 256) 1 = some (.inl (), y_cH c) := rfl
theorem y_e_type0 {sc : xSc} {c : y_CT} {m : Nat} (h : y_FRc c) (hm : y_RMc c (m + 1)) : f_P_type sc (y_cH c) (some 256) 0 = some (.inr (y_cn c), y_cH (y_thr 3 c)) := by
  unfold f_P_type
  rw [if_pos (y_cis_P _ _), y_e_need0 3 h hm]
  rfl
/-! small numbers -/
theorem y_nI_toInt {n : Nat} (h : n < 2147483648) : (nI n).toInt = n := by
  unfold nI
  exact Int32.toInt_ofNat_of_lt h
theorem y_nI_inj {a b : Nat} (ha : a < 2147483648) (hb : b < 2147483648) : nI a = nI b ↔ a = b := by
  refine ⟨fun e => ?_, fun e => by rw [e]⟩
  have := congrArg Int32.toInt e
  rw [y_nI_toInt ha, y_nI_toInt hb] at this
  omega
theorem y_nI_le {a b : Nat} (ha : a < 2147483648) (hb : b < 2147483648) : nI a ≤ nI b ↔ a ≤ b := by
  rw [Int32.le_iff_toInt_le, y_nI_toInt ha, y_nI_toInt hb]
  omega
theorem y_nI_lt {a b : Nat} (ha : a < 2147483648) (hb : b < 2147483648) : nI a < nI b ↔ a < b := by
  rw [Int32.lt_iff_toInt_lt, y_nI_toInt ha, y_nI_toInt hb]
  omega
theorem y_nI_add (a b : Nat) : nI a + nI b = nI (a + b) := by
  unfold nI
  exact (Int32.ofNat_add a b).symm
theorem y_nI_sub {a b : Nat} (h : b ≤ a) : nI a - nI b = nI (a - b) := by
  have : nI a = nI (a - b) + nI b := by rw [y_nI_add, Nat.sub_add_cancel h]
  rw [this]
  exact Int32.add_sub_cancel _ _
theorem y_nI_add1 (a : Nat) : nI a + 1 = nI (a + 1) := y_nI_add a 1
theorem y_nI_sub1 {a : Nat} (h : 1 ≤ a) : nI a - 1 = nI (a - 1) := y_nI_sub (b := 1) h
