theorem yy_dsp_arr {op : Int32} {s : MT} (h : ¬ op < 10 ∧ op ≤ 69 ∧ 21 ≤ op ∧ 37 ≤ op ∧ ¬ 43 ≤ op) : yy_dsp op s = f_M_arrayOperator s op := by
  unfold yy_dsp
  rw [if_neg h.1, if_pos h.2.1, if_pos h.2.2.1, if_pos h.2.2.2.1, if_neg h.2.2.2.2]
theorem yy_dsp_dic {op : Int32} {s : MT} (h : ¬ op < 10 ∧ op ≤ 69 ∧ 21 ≤ op ∧ 37 ≤ op ∧ 43 ≤ op ∧ ¬ 50 ≤ op) : yy_dsp op s = f_M_dictOperator s op := by
  unfold yy_dsp
  rw [if_neg h.1, if_pos h.2.1, if_pos h.2.2.1, if_pos h.2.2.2.1, if_pos h.2.2.2.2.1, if_neg h.2.2.2.2.2]
theorem yy_dsp_beg {op : Int32} {s : MT} (h : ¬ op < 10 ∧ op ≤ 69 ∧ 21 ≤ op ∧ 37 ≤ op ∧ 43 ≤ op ∧ 50 ≤ op ∧ ¬ 63 ≤ op ∧ ¬ 57 ≤ op) : yy_dsp op s = f_M_begins s op := by
  unfold yy_dsp
  rw [if_neg h.1, if_pos h.2.1, if_pos h.2.2.1, if_pos h.2.2.2.1, if_pos h.2.2.2.2.1, if_pos h.2.2.2.2.2.1, if_neg h.2.2.2.2.2.2.1, if_neg h.2.2.2.2.2.2.2]
theorem yy_dsp_ctl {op : Int32} {s : MT} (h : ¬ op < 10 ∧ op ≤ 69 ∧ 21 ≤ op ∧ 37 ≤ op ∧ 43 ≤ op ∧ 50 ≤ op ∧ ¬ 63 ≤ op ∧ 57 ≤ op) : yy_dsp op s = f_M_control s op := by
  unfold yy_dsp
  rw [if_neg h.1, if_pos h.2.1, if_pos h.2.2.1, if_pos h.2.2.2.1, if_pos h.2.2.2.2.1, if_pos h.2.2.2.2.2.1, if_neg h.2.2.2.2.2.2.1, if_pos h.2.2.2.2.2.2.2]
theorem yy_dsp_pnt {op : Int32} {s : MT} (h : ¬ op < 10 ∧ op ≤ 69 ∧ 21 ≤ op ∧ 37 ≤ op ∧ 43 ≤ op ∧ 50 ≤ op ∧ 63 ≤ op) : yy_dsp op s = f_M_paint s op := by
  unfold yy_dsp
  rw [if_neg h.1, if_pos h.2.1, if_pos h.2.2.1, if_pos h.2.2.2.1, if_pos h.2.2.2.2.1, if_pos h.2.2.2.2.2.1, if_pos h.2.2.2.2.2.2]
theorem yy_RR.tb {g : yy_GT} {m : Nat} {c : yy_CT} {s : MT} {t nd o n : Nat} (h : yy_RR g m c s t nd o n) : yy_RTb s := h.2.2.2.2.2.2.2.2.2.1
theorem yy_RR.tk {g : yy_GT} {m : Nat} {c : yy_CT} {s : MT} {t nd o n : Nat} (h : yy_RR g m c s t nd o n) : t ≤ 160 ∧ mI 5 s = nI t ∧ yy_cI 10 c = nI t := ⟨h.2.2.2.1.1.1, h.2.2.2.1.2, h.2.1.2.2.1.trans h.2.2.2.1.2⟩
theorem yy_pat {s : MT} (h : yy_RTb s) {j : Nat} (hj : j < 33) : f_M_pattern s (nI (37 + j)) = some (nI (yy_PT.getD j 0), s) := by
  unfold f_M_pattern f_M_pattern_b159
  rw [if_pos (by rw [show (10 : Int32) = nI 10 from rfl, yy_nI_le (by omega) (by omega)]; omega), if_pos (by rw [show (21 : Int32) = nI 21 from rfl, yy_nI_le (by omega) (by omega)]; omega), if_pos (by rw [show (37 : Int32) = nI 37 from rfl, yy_nI_le (by omega) (by omega)]; omega), if_neg (fun z => by rw [show (70 : Int32) = nI 70 from rfl, yy_nI_le (by omega) (by omega)] at z; omega), show (37 : Int32) = nI 37 from rfl, yy_nI_sub (by omega), Nat.add_sub_cancel_left, if_pos (yy_xin_nI' hj (by decide)), yy_nI_c (by omega), h.1 j hj]
theorem yy_zeros_e {s : MT} {t n k : Nat} (h4 : mI 4 s = nI n) (hn : n ≤ 40) (h1 : 1 ≤ n) (h5 : mI 5 s = nI t) (hk : t + k ≤ 160) : ∀ (r j f : Nat), j + r = k → f_M_zeros_b27 (f + r + 1) (nI k).toInt64 (nI j) (yy_zs s t j) = some (0, yy_sP (n - 1) (5, Int64.ofNat (t + 1024 * k), FP.dconst0) (sI 5 (nI (t + k)) (yy_zs s t k)))
  | 0, j, f, hj => by
    have e : j = k := by omega
    subst e
    show (if 0 ≤ lg_cmp (nI j).toInt64 (nI j).toInt64 then _ else _) = _
    rw [if_pos (yy_lgc_ge.mpr (by rw [yy_i64_le, yy_nI_le (by omega) (by omega)]; omega)), yy_mI_zs, h5, yy_code_e (by omega) (by omega), show (1 : Int32) = nI 1 from rfl, yy_e_Mgive 5 _ (by rw [yy_mI_zs]; exact h4) h1 hn, Option.bind_some]
    show some ((0 : Int32), sI 5 (mI 5 (yy_sP _ _ (sI 4 _ (yy_zs s t j))) + _) _) = _
    rw [yy_mI_sP, yy_mI_sI, if_neg (by decide), yy_mI_zs, h5, Int32.toInt32_toInt64, yy_nI_add, yy_sI_sP]
    refine congrArg some (congrArg (fun z => ((0 : Int32), yy_sP (n - 1) (5, Int64.ofNat (t + 1024 * j), FP.dconst0) z)) ?_)
    rw [show n - 1 + 1 = n by omega, yy_sI_id (x := nI n) (k := 4) (by rw [yy_mI_zs]; exact h4)]
  | r + 1, j, f, hj => by
    show (if 0 ≤ lg_cmp (nI j).toInt64 (nI k).toInt64 then _ else (f_M_set (yy_zs s t j) (50 + mI 5 (yy_zs s t j) + nI j) 0 0).bind fun s7 => (f_M_zeros_b27 (f + (r + 1))) (nI k).toInt64 (nI j + Int32.ofInt 1) s7) = _
    rw [if_neg (fun z => by have := (yy_i64_le _ _).mp (yy_lgc_ge.mp z); rw [yy_nI_le (by omega) (by omega)] at this; omega), yy_mI_zs, h5, show (50 : Int32) = nI 50 from rfl, yy_nI_add, yy_nI_add, yy_e_Mset _ _ (by omega), Option.bind_some, show Int32.ofInt 1 = 1 from rfl, yy_nI_add1, show f + (r + 1) = f + r + 1 by omega]
    exact yy_zeros_e h4 hn h1 h5 hk r (j + 1) f (by omega)
theorem yy_mA_zs (s : MT) (t j : Nat) (hj : j ≠ 1) : ∀ k, mA j (yy_zs s t k) = mA j s
  | 0 => rfl
  | k + 1 => by
    show mA j (yy_sP _ _ (yy_zs s t k)) = _
    rw [show mA j (yy_sP (50 + t + k) (0, 0, FP.dconst0) (yy_zs s t k)) = mA j (yy_zs s t k) from va_up_ne _ _ hj, yy_mA_zs s t j hj k]
theorem yy_O_array {rc : rcE} {sc : xSc} {g : yy_GT} {m : Nat} {c : yy_CT} {s : MT} {t nd o n : Nat} {d : Int32} (h : yy_RR g (m + 1) c s t nd o n) : yy_OPS m c s (f_P_operate rc sc (yy_cH c) (some 256) (some 39) d) (f_M_operate s 37) := by
  have hn := h.le40
  obtain ⟨t1, t2, t3⟩ := h.tk
  refine yy_OP_head (gr := 3) 37 [1] h (yy_OPc_of _ rfl) (by decide) (by decide) (yy_pat h.tb (j := 0) (by decide)) (by decide) (by decide) (fun hr => ?_)
  have hr : 1 ≤ n := hr
  obtain ⟨a, v, a1, a2, a3, a4⟩ := h.val (show n - 1 < n by omega)
  rw [yy_alls1, a4.sk (j := 0) (by decide) (by decide) (by decide), yy_e_b96_3, show yy_opA c n [1].length = yy_cR 269 c (n - 1) from yy_opA_1 c n 0, a1, yy_Cp_39, if_pos (yy_sgis a2), yy_e_is a2 _ a4.cm rfl, Option.bind_some, if_pos (yy_cis_P _ _)]
  by_cases hv : v.1 = some 72
  · rw [if_pos hv, if_pos (decide_eq_true hv), yy_e_type1, p_tBl, yy_sg2 a2, Option.bind_some]
    obtain ⟨i1, i2, i3⟩ := a4.int hv
    have hM : yy_oth 37 s = f_M_zeros s v.2.2.1.toInt64 := by
      refine yy_oth_is 37 rfl ?_
      rw [yy_dsp_arr (by decide), yy_Mb_37, h.2.1.1, yy_nI_sub1 hr, if_pos (yy_xin_nI' (by omega) (by decide)), yy_nI_c (by omega), yy_bind_id, ← i1]
      rfl
    rw [hM]
    unfold f_M_zeros
    by_cases h0 : v.2.2.1 < 0
    · rw [if_pos h0, if_neg (fun z => by have := (yy_i64_le 0 _).mp (yy_lgc_ge.mp z); rw [Int32.le_iff_toInt_le] at this; rw [Int32.lt_iff_toInt_lt] at h0; omega)]
      refine yy_O_fail 4 h (by decide) (by decide) ?_ rfl
      unfold f_Holders_perform_b68
      rw [if_pos (yy_cis_P _ _), yy_e_need0 4 h.1.1 h.room]
      rfl
    · have h0' : (0 : Int32) ≤ v.2.2.1 := by
        rw [Int32.le_iff_toInt_le]
        rw [Int32.lt_iff_toInt_lt] at h0
        omega
      rw [if_neg h0, if_pos (show 0 ≤ lg_cmp v.2.2.1.toInt64 0 from yy_lgc_ge.mpr ((yy_i64_le 0 _).mpr h0')), t2, show (160 : Int32) = nI 160 from rfl, yy_nI_sub t1]
      unfold f_Holders_perform_b68
      rw [if_pos (yy_cis_P _ _), yy_e_need1, p_tBl, yy_sg2 a2, Option.bind_some, if_pos (yy_cis_P _ _)]
      by_cases h2 : nI (160 - t) < v.2.2.1
      · rw [if_neg (fun z => by have := (yy_i64_le _ _).mp (yy_lgc_le.mp z); rw [Int32.le_iff_toInt_le] at this; rw [Int32.lt_iff_toInt_lt] at h2; omega), yy_e_take0 h.1.1 h.room t3 t1 h2]
        exact yy_O_fail 7 h (by decide) (by decide) rfl rfl
      · rw [if_pos (yy_lgc_le.mpr ((yy_i64_le _ _).mpr (by rw [Int32.le_iff_toInt_le]; rw [Int32.lt_iff_toInt_lt] at h2; omega)))]
        obtain ⟨k, k1, k2⟩ := yy_i32_nat (N := 161 - t) h0 (by rw [Int32.lt_iff_toInt_lt, yy_nI_toInt (by omega)] at *; omega) (by omega)
        rw [k1]
        obtain ⟨g1, c1, e1, e2, e3, e4⟩ := yy_R_take sc h (k := k) (by omega)
        have a2' : yy_slv c1 a = some v := (e3.2.2.1 a (h.1.2.1.s a2) (by rw [a3])).1.trans a2
        have a1' : yy_cR 269 c1 (n - 1) = some a := by rw [e3.2.2.2.1]; exact a1
        have a3' : yy_gow g1 a = (0, n - 1) := (e3.2.2.1 a (h.1.2.1.s a2) (by rw [a3])).2.trans a3
        rw [e1, p_tBl, if_pos (yy_sgis a2'), yy_e_set a2' _ _ _ _ rfl, Option.bind_some]
        have z := yy_zeros_e h.2.1.1 hn hr t2 (show t + k ≤ 160 by omega) k 0 (mF - k - 1) (by omega)
        rw [show mF - k - 1 + k + 1 = mF by unfold mF; omega, show yy_zs s t 0 = s from rfl, show nI 0 = 0 from rfl] at z
        refine yy_O_doneQ (lo := t) (g := g) ⟨g1, _, rfl, (yy_R_setS e2 (show n - 1 < n by omega) a1' a2' (yy_VR_arr (l := 0) (by omega) (by omega) (by decide) (yy_VA_new h (yy_mA_zs s t 14 (by decide) k)) _ _ _ _ _)).less (by omega), e3.1.trans (yy_KQ.of ((yy_KP_tS a2' a3' _).trans (yy_KP_sP g1 _ _ _ (Or.inl (by omega))))), e3.2.2.2.2.2.2.1⟩ z
  · rw [if_neg hv, if_neg (by rw [decide_eq_false hv]; decide), yy_e_type0 h.1.1 h.room]
    exact yy_O_fail 3 h (by decide) (by decide) rfl rfl
