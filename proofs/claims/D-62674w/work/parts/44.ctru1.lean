theorem yy_i64_toInt {n : Nat} (h : n < 9223372036854775808) : (Int64.ofNat n).toInt = n := Int64.toInt_ofNat_of_lt h
theorem yy_cnt_e {n z : Nat} (hn : n < 1024) (hz : z ≤ 2000) : f_M_count (Int64.ofNat (n + 1024 * z)) = some (nI z) := by
  unfold f_M_count
  rw [show ((10 : Int32).toInt64 &&& 63) = 10 from by decide]
  refine congrArg some ?_
  rw [← Int32.toInt_inj, Int64.toInt_toInt32, yy_nI_toInt (by omega)]
  have : (Int64.ofNat (n + 1024 * z) >>> 10).toInt = (z : Int) := by
    rw [← Int64.toInt_toBitVec, Int64.toBitVec_shiftRight]
    rw [show (Int64.toBitVec 10).smod 64 = 10#64 from by decide]
    rw [BitVec.sshiftRight_eq']
    rw [BitVec.toInt_sshiftRight]
    rw [Int64.toInt_toBitVec, yy_i64_toInt (by omega)]
    show ((n + 1024 * z : Nat) : Int) >>> 10 = _
    rw [Int.shiftRight_eq_div_pow]
    omega
  rw [this]
  exact Int.bmod_eq_of_le (by omega) (by omega)
theorem yy_fst_e {n z : Nat} (hn : n < 1024) (hz : z ≤ 2000) : f_M_first (Int64.ofNat (n + 1024 * z)) = some (nI n) := by
  unfold f_M_first
  refine congrArg some ?_
  rw [← Int32.toInt_inj, Int64.toInt_toInt32, yy_nI_toInt (by omega)]
  have : (Int64.ofNat (n + 1024 * z) &&& 1023).toInt = (n : Int) := by
    rw [← Int64.toInt_toBitVec, Int64.toBitVec_and]
    rw [BitVec.toInt_eq_toNat_of_lt]
    · rw [BitVec.toNat_and]
      show (((Int64.ofNat (n + 1024 * z)).toBitVec.toNat &&& 1023 : Nat) : Int) = _
      rw [show (1023 : Nat) = 2 ^ 10 - 1 from rfl, Nat.and_two_pow_sub_one_eq_mod]
      have : (Int64.ofNat (n + 1024 * z)).toBitVec.toNat = n + 1024 * z := by
        show (BitVec.ofNat 64 (n + 1024 * z)).toNat = _
        rw [BitVec.toNat_ofNat]
        omega
      rw [this]
      omega
    · rw [BitVec.toNat_and]
      have h2 : ((Int64.ofNat (n + 1024 * z)).toBitVec.toNat &&& (Int64.toBitVec 1023).toNat) ≤ (Int64.toBitVec 1023).toNat := Nat.and_le_right
      have h3 : (Int64.toBitVec 1023).toNat = 1023 := by decide
      omega
  rw [this]
  exact Int.bmod_eq_of_le (by omega) (by omega)
/-! the group of truths -/
theorem yy_e_b96_2 (rc : rcE) (sc : xSc) (d : Int32) (t0 t1 t2 : Option Nat) (c : yy_CT) : f_P_operate_b96 rc sc d t0 t1 t2 (some 256) (some (258 + 2)) (yy_cH c) = f_Truths_perform sc (yy_cH c) (some 260) (some 256) t2 t1 t0 d := by
  unfold f_P_operate_b96
  rw [if_neg (by rw [show xis sc (yy_cH c) 10 (some (258 + 2)) = false from rfl]; decide), if_neg (by rw [show xis sc (yy_cH c) 11 (some (258 + 2)) = false from rfl]; decide), if_pos (show xis sc (yy_cH c) 12 (some (258 + 2)) = true from rfl)]
  exact yy_tB_id _
theorem yy_O_giveK {g : yy_GT} {m : Nat} {c : yy_CT} {s : MT} {t nd o n k : Nat} (sc : xSc) (h : yy_RR g m c s t nd o n) (hk : k ≤ n) (hk1 : 1 ≤ k) (kd : Option Nat) (x : Int32) (kq : Int32) (y : Int64) (hq : ∀ z d nm di, yy_VR g c s t nd o (kd, 0, x, 0, z, d, nm, di) (kq, y, FP.dconst0)) : yy_OPS m c s (f_P_give sc (yy_cH c) (some 256) (nI k) kd x) (f_M_give s (nI k) kq y) := by
  have hn := h.le40
  exact yy_O_done (yy_O_give sc h hk (by omega) kd x (kq, y, FP.dconst0) hq) (yy_e_Mgive kq y h.2.1.1 hk hn)
theorem yy_e_truth (sc : xSc) (c : yy_CT) (k b : Int32) : f_P_truth sc (yy_cH c) (some 256) k b = f_P_give sc (yy_cH c) (some 256) k (some 74) (if b = 0 then 0 else 1) := by
  unfold f_P_truth f_P_truth_b14
  by_cases e : b = 0
  · rw [if_pos e, if_pos e, if_pos (yy_cis_P _ _)]
    exact yy_tB_id _
  · rw [if_neg e, if_neg e, if_pos (yy_cis_P _ _)]
    exact yy_tB_id _
theorem yy_O_truth {g : yy_GT} {m : Nat} {c : yy_CT} {s : MT} {t nd o n k : Nat} (sc : xSc) (h : yy_RR g m c s t nd o n) (hk : k ≤ n) (hk1 : 1 ≤ k) (b : Prop) [Decidable b] : yy_OPS m c s (f_P_truth sc (yy_cH c) (some 256) (nI k) (if b then 1 else 0)) (f_M_give s (nI k) 2 (if b then 1 else 0)) := by
  rw [yy_e_truth]
  by_cases e : b
  · rw [if_pos e, if_pos e, if_neg (by decide)]
    exact yy_O_giveK sc h hk hk1 _ _ _ _ (fun _ _ _ _ => yy_VR_bool _ _ _ _ _ _ 1 _ _ _ _ _ _ (Or.inr rfl))
  · rw [if_neg e, if_neg e, if_pos rfl]
    exact yy_O_giveK sc h hk hk1 _ _ _ _ (fun _ _ _ _ => yy_VR_bool _ _ _ _ _ _ 0 _ _ _ _ _ _ (Or.inl rfl))
theorem yy_oth_tru {s : MT} (op : Int32) (h1 : f_M_suitsOther s op = some (1, s)) (h2 : yy_dsp op s = f_M_truth s op) : yy_oth op s = f_M_truth s op := by
  unfold yy_oth
  rw [h1, Option.bind_some]
  show (if (1 : Int32) = 0 then _ else _) = _
  rw [if_neg (by decide)]
  exact h2
theorem yy_T456 (sc : xSc) : (fun (_ : Unit) (u : xH) => f_Truths_perform_b456 sc u) = fun _ u => some (.inl (), u) := rfl
theorem yy_O_true {rc : rcE} {sc : xSc} {g : yy_GT} {m : Nat} {c : yy_CT} {s : MT} {t nd o n : Nat} {d : Int32} (h : yy_RR g (m + 1) c s t nd o n) : yy_OPS m c s (f_P_operate rc sc (yy_cH c) (some 256) (some 23) d) (f_M_operate s 21) := by
  refine yy_OP_head (gr := 2) 21 [] h (yy_OPc_of _ rfl) (by decide) (by decide) rfl (by simp) (by decide) (fun _ => ?_)
  rw [show yy_alls s (n - 1) [] = true from rfl, if_pos rfl, yy_oth_tru 21 rfl rfl, yy_e_b96_2, yy_Cp_23]
  have hx : f_Truths_perform_b84 sc (some 256) (some 23) (yy_cH c) = f_P_give sc (yy_cH c) (some 256) 0 (some 74) 1 := by
    unfold f_Truths_perform_b84 f_Truths_perform_b98
    rw [if_pos (show xcm (some 23) = true from rfl), if_pos (show xcm (some 23) = true from rfl), if_pos rfl, if_pos (yy_cis_P _ _), yy_T456, yy_tB_id, yy_e_truth]
    rfl
  have hy : f_M_truth s 21 = f_M_push s 2 1 := by
    unfold f_M_truth f_M_truth_b26
    rw [if_neg (by decide), if_pos rfl, yy_bind_id]
  rw [hx, hy]
  exact yy_O_give0 sc h _ _ _ _ (fun _ _ _ _ => yy_VR_bool _ _ _ _ _ _ 1 _ _ _ _ _ _ (Or.inr rfl))
theorem yy_O_false {rc : rcE} {sc : xSc} {g : yy_GT} {m : Nat} {c : yy_CT} {s : MT} {t nd o n : Nat} {d : Int32} (h : yy_RR g (m + 1) c s t nd o n) : yy_OPS m c s (f_P_operate rc sc (yy_cH c) (some 256) (some 24) d) (f_M_operate s 22) := by
  refine yy_OP_head (gr := 2) 22 [] h (yy_OPc_of _ rfl) (by decide) (by decide) rfl (by simp) (by decide) (fun _ => ?_)
  rw [show yy_alls s (n - 1) [] = true from rfl, if_pos rfl, yy_oth_tru 22 rfl rfl, yy_e_b96_2, yy_Cp_24]
  have hx : f_Truths_perform_b84 sc (some 256) (some 24) (yy_cH c) = f_P_give sc (yy_cH c) (some 256) 0 (some 74) 0 := by
    unfold f_Truths_perform_b84 f_Truths_perform_b98
    rw [if_pos (show xcm (some 24) = true from rfl), if_pos (show xcm (some 23) = true from rfl), if_neg (by decide), if_pos (yy_cis_P _ _), yy_T456, yy_tB_id, yy_e_truth]
    rfl
  have hy : f_M_truth s 22 = f_M_push s 2 0 := by
    unfold f_M_truth f_M_truth_b26
    rw [if_neg (by decide), if_neg (by decide), yy_bind_id]
  rw [hx, hy]
  exact yy_O_give0 sc h _ _ _ _ (fun _ _ _ _ => yy_VR_bool _ _ _ _ _ _ 0 _ _ _ _ _ _ (Or.inl rfl))
/-- a comparison of numbers on both sides -/
theorem yy_O_cmp {rc : rcE} {sc : xSc} {g : yy_GT} {m : Nat} {c : yy_CT} {s : MT} {t nd o n k : Nat} {d : Int32} (op : Int32) (B : UInt64 → UInt64 → Bool) (h : yy_RR g (m + 1) c s t nd o n) (ho : yy_OPc sc k 2 2) (hk : k < 72) (hp : f_M_pattern s op = some (nI (yy_dg [2, 2]), s)) (hs : yy_oth op s = f_M_truth s op)
    (e1 : ∀ a b, f_Truths_perform sc (yy_cH c) (some 260) (some 256) (some k) a b d = f_Truths_perform_b414 sc (some 256) (some k) a b (yy_cH c)) (e2 : ∀ x y, f_Truths_compares (some k) x y = some (if B x y = true then 1 else 0))
    (e3 : 2 ≤ n → f_M_truth s op = f_M_give s (nI 2) 2 (if B (yy_nq (yy_pl s (n - 2))) (yy_nq (yy_pl s (n - 1))) = true then 1 else 0)) :
    yy_OPS m c s (f_P_operate rc sc (yy_cH c) (some 256) (some k) d) (f_M_operate s op) := by
  refine yy_OP_head (gr := 2) op [2, 2] h ho hk (by decide) hp (by decide) (by decide) (fun hr => ?_)
  have hr : 2 ≤ n := hr
  obtain ⟨b, w, b1, b2, b3, b4⟩ := h.val (show n - 1 < n by omega)
  obtain ⟨a, v, a1, a2, a3, a4⟩ := h.val (show n - 2 < n by omega)
  have fail : f_Truths_perform_b434 sc (some 256) (some k) (some a) (some b) (some 256) (yy_cH c) = some (.inr (yy_cn c), yy_cH (yy_thr 3 c)) := by
    unfold f_Truths_perform_b434 f_Truths_perform_b435
    rw [if_pos (yy_cis_P _ _), yy_e_type0 h.1.1 h.room]
    rfl
  rw [yy_alls2, show n - 1 - 1 = n - 2 by omega, b4.sk2, a4.sk2, yy_e_b96_2, show yy_opA c n [2, 2].length = yy_cR 269 c (n - 2) from yy_opA_1 c n 1, a1, show yy_opB c n [2, 2].length = yy_cR 269 c (n - 2 + 1) from yy_opB_2 c n 0, show n - 2 + 1 = n - 1 by omega, b1, e1]
  unfold f_Truths_perform_b414
  rw [if_pos (yy_sgis a2), yy_e_isNum a2 a4.cm, Option.bind_some]
  by_cases hv : v.1 = some 72 ∨ v.1 = some 73
  · rw [if_pos hv, if_neg (show ¬ (1 : Int32) = 0 by decide), if_pos (yy_sgis b2), yy_e_isNum b2 b4.cm, Option.bind_some]
    by_cases hw : w.1 = some 72 ∨ w.1 = some 73
    · obtain ⟨q1, q2⟩ := a4.nval hv
      obtain ⟨q3, q4⟩ := b4.nval hw
      rw [if_pos hw, if_neg (show ¬ (1 : Int32) = 0 by decide), if_pos (show _ = true by rw [decide_eq_true hv, decide_eq_true hw]; rfl), hs, e3 hr, q1, q3]
      unfold f_Truths_perform_b435
      rw [if_pos (yy_cis_P _ _), yy_e_type1, p_tBl, if_pos (yy_sgis a2), yy_e_value a2 a4.cm, Option.bind_some, if_pos (yy_sgis b2), yy_e_value b2 b4.cm, Option.bind_some, e2, Option.bind_some, if_pos (yy_cis_P _ _), yy_T456, yy_tB_id]
      exact yy_O_truth sc (h.less (by omega)) hr (by decide) _
    · rw [if_neg hw, if_pos rfl, fail, if_neg (fun z => hw (by rw [Bool.and_eq_true, decide_eq_true_eq, decide_eq_true_eq] at z; exact z.1))]
      exact yy_O_fail 3 h (by decide) (by decide) rfl rfl
  · rw [if_neg hv, if_pos rfl, fail, if_neg (fun z => hv (by rw [Bool.and_eq_true, decide_eq_true_eq, decide_eq_true_eq] at z; exact z.2))]
    exact yy_O_fail 3 h (by decide) (by decide) rfl rfl
theorem yy_e_Mcmp {s : MT} {n : Nat} (op : Int32) (h : mI 4 s = nI n) (hn : n ≤ 40) (h2 : 2 ≤ n) (h3 : 23 ≤ op ∧ op ≤ 28) : f_M_truth s op = (if (25 : Int32) ≤ op then (if op = (25 : Int32) then (if (Op.cmpValue (FP.dcmp (yy_nq (yy_pl s (n - 2))) (yy_nq (yy_pl s (n - 1)))) .l) ≤ 0 then f_M_truth_b169 (0 : Int32) s else f_M_truth_b169 (1 : Int32) s) else (if op = (26 : Int32) then (if (Op.cmpValue (FP.dcmp (yy_nq (yy_pl s (n - 2))) (yy_nq (yy_pl s (n - 1)))) .l) < 0 then f_M_truth_b169 (0 : Int32) s else f_M_truth_b169 (1 : Int32) s) else (if op = (27 : Int32) then (if 0 ≤ (Op.cmpValue (FP.dcmp (yy_nq (yy_pl s (n - 2))) (yy_nq (yy_pl s (n - 1)))) .g) then f_M_truth_b169 (0 : Int32) s else f_M_truth_b169 (1 : Int32) s) else (if 0 < (Op.cmpValue (FP.dcmp (yy_nq (yy_pl s (n - 2))) (yy_nq (yy_pl s (n - 1)))) .g) then f_M_truth_b169 (0 : Int32) s else f_M_truth_b169 (1 : Int32) s)))) else (f_M_alike s (nI (n - 2)) (nI (n - 1))).bind fun (v21, s20) => (if op = (23 : Int32) then f_M_truth_b83 (1 : Int32) v21 s20 else f_M_truth_b83 (0 : Int32) v21 s20)) := by
  unfold f_M_truth
  rw [if_pos h3.1, if_pos h3.2, h, yy_nI_sub1 (by omega), yy_nI_sub1 (by omega), show n - 1 - 1 = n - 2 by omega, yy_e_MnumAt (by omega), Option.bind_some]
  show (f_M_numberAt s (nI (n - 1))).bind _ = _
  rw [yy_e_MnumAt (by omega), Option.bind_some]
theorem yy_T169 (s : MT) : f_M_truth_b169 0 s = f_M_give s (nI 2) 2 0 ∧ f_M_truth_b169 1 s = f_M_give s (nI 2) 2 1 := by
  constructor
  · unfold f_M_truth_b169 f_M_truth_b184
    rw [if_pos rfl]
    exact yy_bind_id _
  · unfold f_M_truth_b169 f_M_truth_b184
    rw [if_neg (by decide)]
    exact yy_bind_id _
theorem yy_O_gt {rc : rcE} {sc : xSc} {g : yy_GT} {m : Nat} {c : yy_CT} {s : MT} {t nd o n : Nat} {d : Int32} (h : yy_RR g (m + 1) c s t nd o n) : yy_OPS m c s (f_P_operate rc sc (yy_cH c) (some 256) (some 27) d) (f_M_operate s 25) := by
  refine yy_O_cmp 25 (fun x y => !decide ((Op.cmpValue (FP.dcmp x y) .l) ≤ 0)) h (yy_OPc_of _ rfl) (by decide) rfl (yy_oth_tru 25 rfl rfl) (fun a b => yy_Cp_27 sc c _ a b d) (fun x y => ?_) (fun h2 => ?_)
  · by_cases e : (Op.cmpValue (FP.dcmp x y) .l) ≤ 0
    · simp [f_Truths_compares, f_Truths_compares_b74, e, show xcm (some 27) = true from rfl, show xcm (some 28) = true from rfl, show xcm (some 29) = true from rfl, show xcm (some 30) = true from rfl, show xbo 0 = true from rfl, show xbo 1 = true from rfl]
    · simp [f_Truths_compares, f_Truths_compares_b74, e, show xcm (some 27) = true from rfl, show xcm (some 28) = true from rfl, show xcm (some 29) = true from rfl, show xcm (some 30) = true from rfl, show xbo 0 = true from rfl, show xbo 1 = true from rfl]
  · rw [yy_e_Mcmp 25 h.2.1.1 h.le40 h2 (by decide), if_pos (by decide), if_pos rfl]
    by_cases e : (Op.cmpValue (FP.dcmp (yy_nq (yy_pl s (n - 2))) (yy_nq (yy_pl s (n - 1)))) .l) ≤ 0
    · rw [if_pos e, (yy_T169 s).1, if_neg]
      rw [decide_eq_true e]
      decide
    · rw [if_neg e, (yy_T169 s).2, if_pos]
      rw [decide_eq_false e]
      rfl
theorem yy_O_ge {rc : rcE} {sc : xSc} {g : yy_GT} {m : Nat} {c : yy_CT} {s : MT} {t nd o n : Nat} {d : Int32} (h : yy_RR g (m + 1) c s t nd o n) : yy_OPS m c s (f_P_operate rc sc (yy_cH c) (some 256) (some 28) d) (f_M_operate s 26) := by
  refine yy_O_cmp 26 (fun x y => !decide ((Op.cmpValue (FP.dcmp x y) .l) < 0)) h (yy_OPc_of _ rfl) (by decide) rfl (yy_oth_tru 26 rfl rfl) (fun a b => yy_Cp_28 sc c _ a b d) (fun x y => ?_) (fun h2 => ?_)
  · by_cases e : (Op.cmpValue (FP.dcmp x y) .l) < 0
    · simp [f_Truths_compares, f_Truths_compares_b74, e, show xcm (some 27) = true from rfl, show xcm (some 28) = true from rfl, show xcm (some 29) = true from rfl, show xcm (some 30) = true from rfl, show xbo 0 = true from rfl, show xbo 1 = true from rfl]
    · simp [f_Truths_compares, f_Truths_compares_b74, e, show xcm (some 27) = true from rfl, show xcm (some 28) = true from rfl, show xcm (some 29) = true from rfl, show xcm (some 30) = true from rfl, show xbo 0 = true from rfl, show xbo 1 = true from rfl]
  · rw [yy_e_Mcmp 26 h.2.1.1 h.le40 h2 (by decide), if_pos (by decide), if_neg (show ¬ (26 : Int32) = 25 by decide), if_pos rfl]
    by_cases e : (Op.cmpValue (FP.dcmp (yy_nq (yy_pl s (n - 2))) (yy_nq (yy_pl s (n - 1)))) .l) < 0
    · rw [if_pos e, (yy_T169 s).1, if_neg]
      rw [decide_eq_true e]
      decide
    · rw [if_neg e, (yy_T169 s).2, if_pos]
      rw [decide_eq_false e]
      rfl
theorem yy_O_lt {rc : rcE} {sc : xSc} {g : yy_GT} {m : Nat} {c : yy_CT} {s : MT} {t nd o n : Nat} {d : Int32} (h : yy_RR g (m + 1) c s t nd o n) : yy_OPS m c s (f_P_operate rc sc (yy_cH c) (some 256) (some 29) d) (f_M_operate s 27) := by
  refine yy_O_cmp 27 (fun x y => !decide (0 ≤ (Op.cmpValue (FP.dcmp x y) .g))) h (yy_OPc_of _ rfl) (by decide) rfl (yy_oth_tru 27 rfl rfl) (fun a b => yy_Cp_29 sc c _ a b d) (fun x y => ?_) (fun h2 => ?_)
  · by_cases e : 0 ≤ (Op.cmpValue (FP.dcmp x y) .g)
    · simp [f_Truths_compares, f_Truths_compares_b74, e, show xcm (some 27) = true from rfl, show xcm (some 28) = true from rfl, show xcm (some 29) = true from rfl, show xcm (some 30) = true from rfl, show xbo 0 = true from rfl, show xbo 1 = true from rfl]
    · simp [f_Truths_compares, f_Truths_compares_b74, e, show xcm (some 27) = true from rfl, show xcm (some 28) = true from rfl, show xcm (some 29) = true from rfl, show xcm (some 30) = true from rfl, show xbo 0 = true from rfl, show xbo 1 = true from rfl]
  · rw [yy_e_Mcmp 27 h.2.1.1 h.le40 h2 (by decide), if_pos (by decide), if_neg (show ¬ (27 : Int32) = 25 by decide), if_neg (show ¬ (27 : Int32) = 26 by decide), if_pos rfl]
    by_cases e : 0 ≤ (Op.cmpValue (FP.dcmp (yy_nq (yy_pl s (n - 2))) (yy_nq (yy_pl s (n - 1)))) .g)
    · rw [if_pos e, (yy_T169 s).1, if_neg]
      rw [decide_eq_true e]
      decide
    · rw [if_neg e, (yy_T169 s).2, if_pos]
      rw [decide_eq_false e]
      rfl
theorem yy_O_le {rc : rcE} {sc : xSc} {g : yy_GT} {m : Nat} {c : yy_CT} {s : MT} {t nd o n : Nat} {d : Int32} (h : yy_RR g (m + 1) c s t nd o n) : yy_OPS m c s (f_P_operate rc sc (yy_cH c) (some 256) (some 30) d) (f_M_operate s 28) := by
  refine yy_O_cmp 28 (fun x y => !decide (0 < (Op.cmpValue (FP.dcmp x y) .g))) h (yy_OPc_of _ rfl) (by decide) rfl (yy_oth_tru 28 rfl rfl) (fun a b => yy_Cp_30 sc c _ a b d) (fun x y => ?_) (fun h2 => ?_)
  · by_cases e : 0 < (Op.cmpValue (FP.dcmp x y) .g)
    · simp [f_Truths_compares, f_Truths_compares_b74, e, show xcm (some 27) = true from rfl, show xcm (some 28) = true from rfl, show xcm (some 29) = true from rfl, show xcm (some 30) = true from rfl, show xbo 0 = true from rfl, show xbo 1 = true from rfl]
    · simp [f_Truths_compares, f_Truths_compares_b74, e, show xcm (some 27) = true from rfl, show xcm (some 28) = true from rfl, show xcm (some 29) = true from rfl, show xcm (some 30) = true from rfl, show xbo 0 = true from rfl, show xbo 1 = true from rfl]
  · rw [yy_e_Mcmp 28 h.2.1.1 h.le40 h2 (by decide), if_pos (by decide), if_neg (show ¬ (28 : Int32) = 25 by decide), if_neg (show ¬ (28 : Int32) = 26 by decide), if_neg (show ¬ (28 : Int32) = 27 by decide)]
    by_cases e : 0 < (Op.cmpValue (FP.dcmp (yy_nq (yy_pl s (n - 2))) (yy_nq (yy_pl s (n - 1)))) .g)
    · rw [if_pos e, (yy_T169 s).1, if_neg]
      rw [decide_eq_true e]
      decide
    · rw [if_neg e, (yy_T169 s).2, if_pos]
      rw [decide_eq_false e]
      rfl
