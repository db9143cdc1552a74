/-! new cells; failures -/
def yy_nwO (e : xE) (n : Nat) (c : yy_CT) : yy_CT := yy_tn (yy_cn c + 1) (yy_tz (yy_cz c + n) (yy_tO (yy_cn c) (some e) (yy_tT (yy_cn c) none (yy_tS (yy_cn c) none c))))
def yy_nwS (v : yy_SV) (c : yy_CT) : yy_CT := yy_tn (yy_cn c + 1) (yy_tz (yy_cz c + 8) (yy_tS (yy_cn c) (some v) c))
def yy_nwT (v : yy_DV) (c : yy_CT) : yy_CT := yy_tn (yy_cn c + 1) (yy_tz (yy_cz c + 4) (yy_tT (yy_cn c) (some v) (yy_tS (yy_cn c) none c)))
/-- what is new is no fixed cell -/
def yy_FRc (c : yy_CT) : Prop := 300 ≤ yy_cn c ∧ (yy_cb c).1 < yy_cn c ∧ ∀ b, yy_cl c = some b → b < yy_cn c
/-- so many cells may be made yet -/
def yy_RMc (c : yy_CT) (m : Nat) : Prop := yy_cn c + m ≤ 600544 ∧ yy_cz c + 16 * m ≤ 7292904
theorem yy_RMc.xrm {c : yy_CT} {m n : Nat} (h : yy_RMc c (m + 1)) (hn : n ≤ 16) : xrm (yy_cH c) n = true := by
  refine p_xrm ?_ ?_
  · have := h.1
    show yy_cn c < 600544
    omega
  · have := h.2
    show yy_cz c + n ≤ 7292904
    omega
theorem yy_RMc.le {c : yy_CT} {m k : Nat} (h : yy_RMc c m) (hk : k ≤ m) : yy_RMc c k := by
  have := h.1
  have := h.2
  exact ⟨by omega, by omega⟩
theorem yy_x_nwO {c : yy_CT} (h : yy_FRc c) (e : xE) (n : Nat) : xnew (yy_cH c) e n = yy_cH (yy_nwO e n c) := by
  refine yy_c_new ?_ (fun b hb => ?_) rfl rfl
  · have h1 : yy_cX (yy_cn c) = false := yy_cX_of h.1
    show yy_cM (yy_nwO e n c) (yy_cn c) = some e
    refine yy_ov_M (yy_ov_iff.mpr ⟨h1, ?_, ?_, ?_, ?_⟩)
    · show yy_cn c ≠ (yy_cb c).1
      have := h.2.1
      omega
    · exact va_up_self _ _ _
    · exact va_up_self _ _ _
    · exact va_up_self _ _ _
  · have e1 : yy_cF (yy_nwO e n c) b = yy_cF c b := by
      unfold yy_cF
      split <;> first | rfl | exact va_up_ne _ _ hb
    have e2 : yy_cS (yy_nwO e n c) b = yy_cS c b := va_up_ne _ _ hb
    have e3 : yy_cT (yy_nwO e n c) b = yy_cT c b := va_up_ne _ _ hb
    have e4 : yy_cO (yy_nwO e n c) b = yy_cO c b := va_up_ne _ _ hb
    unfold yy_cM
    rw [e1, e2, e3, e4]
    rfl
theorem yy_x_nwS {c : yy_CT} (h : yy_FRc c) (v : yy_SV) : xnew (yy_cH c) (.inl (2, yy_slV v)) 8 = yy_cH (yy_nwS v c) := by
  refine yy_c_new ?_ (fun b hb => ?_) rfl rfl
  · have h1 : yy_cX (yy_cn c) = false := yy_cX_of h.1
    refine yy_slv_M (yy_slv_iff.mpr ⟨h1, ?_, ?_⟩)
    · show yy_cn c ≠ (yy_cb c).1
      have := h.2.1
      omega
    · exact va_up_self _ _ _
  · have e2 : yy_cS (yy_nwS v c) b = yy_cS c b := va_up_ne _ _ hb
    unfold yy_cM
    rw [e2]
    rfl
theorem yy_x_nwT {c : yy_CT} (h : yy_FRc c) (v : yy_DV) : xnew (yy_cH c) (.inl (4, yy_dcV v)) 4 = yy_cH (yy_nwT v c) := by
  refine yy_c_new ?_ (fun b hb => ?_) rfl rfl
  · have h1 : yy_cX (yy_cn c) = false := yy_cX_of h.1
    refine yy_dcv_M (yy_dcv_iff.mpr ⟨h1, ?_, ?_, ?_⟩)
    · show yy_cn c ≠ (yy_cb c).1
      have := h.2.1
      omega
    · exact va_up_self _ _ _
    · exact va_up_self _ _ _
  · have e2 : yy_cS (yy_nwT v c) b = yy_cS c b := va_up_ne _ _ hb
    have e3 : yy_cT (yy_nwT v c) b = yy_cT c b := va_up_ne _ _ hb
    unfold yy_cM
    rw [e2, e3]
    rfl
theorem yy_slv_nwS {c : yy_CT} (h : yy_FRc c) (v : yy_SV) : yy_slv (yy_nwS v c) (yy_cn c) = some v := by
  refine yy_slv_iff.mpr ⟨yy_cX_of h.1, ?_, va_up_self _ _ _⟩
  show yy_cn c ≠ (yy_cb c).1
  have := h.2.1
  omega
theorem yy_slv_nwS_ne {c : yy_CT} {v : yy_SV} {a : Nat} (h : a ≠ yy_cn c) : yy_slv (yy_nwS v c) a = yy_slv c a := by
  show yy_slv (yy_tS (yy_cn c) (some v) c) a = _
  exact yy_slv_tS_ne h
theorem yy_slv_nwO_ne {c : yy_CT} {e : xE} {n a : Nat} (h : a ≠ yy_cn c) : yy_slv (yy_nwO e n c) a = yy_slv c a := by
  show yy_slv (yy_tS (yy_cn c) none c) a = _
  exact yy_slv_tS_ne h
/-- a failure: error and fault, and what is thrown -/
def yy_thr (k : Int32) (c : yy_CT) : yy_CT := yy_nwO (.inl (21, [])) 6 (yy_tI 18 k (yy_tI 17 k c))
theorem yy_e_need1 (sc : xSc) (c : yy_CT) (k : Int32) : f_P_need sc (yy_cH c) (some 256) 1 k = some (.inl (), yy_cH c) := rfl
theorem yy_e_need0 {sc : xSc} {c : yy_CT} {m : Nat} (k : Int32) (h : yy_FRc c) (hm : yy_RMc c (m + 1)) : f_P_need sc (yy_cH c) (some 256) 0 k = some (.inr (yy_cn c), yy_cH (yy_thr k c)) := by
  unfold f_P_need
  rw [if_pos rfl, yy_cpI_17]
  dsimp only [Option.bind_some]
  rw [yy_cpI_18]
  dsimp only [Option.bind_some]
  rw [if_pos (yy_RMc.xrm (c := yy_tI 18 k (yy_tI 17 k c)) (m := m) hm (by decide)), yy_x_nwO (c := yy_tI 18 k (yy_tI 17 k c)) h]
  rfl
theorem yy_e_need {sc : xSc} {c : yy_CT} {m : Nat} (b k : Int32) (h : yy_FRc c) (hm : yy_RMc c (m + 1)) : f_P_need sc (yy_cH c) (some 256) b k = if b = 0 then some (.inr (yy_cn c), yy_cH (yy_thr k c)) else some (.inl (), yy_cH c) := by
  by_cases hb : b = 0
  · rw [if_pos hb, hb, yy_e_need0 k h hm]
  · rw [if_neg hb]
    unfold f_P_need
    rw [if_neg hb]
theorem yy_e_type1 (sc : xSc) (c : yy_CT) : f_P_type sc (yy_cH c) (some 256) 1 = some (.inl (), yy_cH c) := rfl
theorem yy_e_type0 {sc : xSc} {c : yy_CT} {m : Nat} (h : yy_FRc c) (hm : yy_RMc c (m + 1)) : f_P_type sc (yy_cH c) (some 256) 0 = some (.inr (yy_cn c), yy_cH (yy_thr 3 c)) := by
  unfold f_P_type
  rw [if_pos (yy_cis_P _ _), yy_e_need0 3 h hm]
  rfl
/-! small numbers -/
theorem yy_nI_toInt {n : Nat} (h : n < 2147483648) : (nI n).toInt = n := by
  unfold nI
  exact Int32.toInt_ofNat_of_lt h
theorem yy_nI_inj {a b : Nat} (ha : a < 2147483648) (hb : b < 2147483648) : nI a = nI b ↔ a = b := by
  refine ⟨fun e => ?_, fun e => by rw [e]⟩
  have := congrArg Int32.toInt e
  rw [yy_nI_toInt ha, yy_nI_toInt hb] at this
  omega
theorem yy_nI_le {a b : Nat} (ha : a < 2147483648) (hb : b < 2147483648) : nI a ≤ nI b ↔ a ≤ b := by
  rw [Int32.le_iff_toInt_le, yy_nI_toInt ha, yy_nI_toInt hb]
  omega
theorem yy_nI_lt {a b : Nat} (ha : a < 2147483648) (hb : b < 2147483648) : nI a < nI b ↔ a < b := by
  rw [Int32.lt_iff_toInt_lt, yy_nI_toInt ha, yy_nI_toInt hb]
  omega
theorem yy_nI_add (a b : Nat) : nI a + nI b = nI (a + b) := by
  unfold nI
  exact (Int32.ofNat_add a b).symm
theorem yy_nI_sub {a b : Nat} (h : b ≤ a) : nI a - nI b = nI (a - b) := by
  have : nI a = nI (a - b) + nI b := by rw [yy_nI_add, Nat.sub_add_cancel h]
  rw [this]
  exact Int32.add_sub_cancel _ _
theorem yy_nI_add1 (a : Nat) : nI a + 1 = nI (a + 1) := yy_nI_add a 1
theorem yy_nI_sub1 {a : Nat} (h : 1 ≤ a) : nI a - 1 = nI (a - 1) := yy_nI_sub (b := 1) h
