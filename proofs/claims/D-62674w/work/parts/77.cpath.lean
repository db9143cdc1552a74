/-- a point on both sides -/
theorem yy_e_point {sc : xSc} {c : yy_CT} {k : Nat} (x y : UInt64) (p : Int32) (h35 : yy_cI 35 c = nI k) (hk : k < 30) : f_P_point sc (yy_cH c) (some 256) x y p = some (.inl (), yy_cH (yy_tA 280 (va_up (yy_cA 280 c) k p) (yy_tI 35 (nI (k + 1)) (yy_tD 279 (va_up (yy_cD 279 c) k y) (yy_tD 278 (va_up (yy_cD 278 c) k x) c))))) := by
  unfold f_P_point
  rw [yy_cgI_35, Option.bind_some, h35, if_neg (fun z => by rw [show (30 : Int32) = nI 30 from rfl, yy_nI_le (by omega) (by omega)] at z; omega)]
  unfold f_P_point_b15
  rw [if_pos (yy_cis_P _ _), yy_e_need1, p_tBl, yy_cgR_30, Option.bind_some, yy_cgI_35, Option.bind_some, h35, yy_cbD_278 hk, Option.bind_some, yy_cgR_31, Option.bind_some, yy_cgI_35, Option.bind_some, yy_cI_tD, h35, yy_cbD_279 hk, Option.bind_some, yy_cgR_32, Option.bind_some, yy_cgI_35, Option.bind_some, yy_cI_tD, yy_cI_tD, h35, yy_nI_add1, yy_cpI_35, Option.bind_some, yy_cbI_280 hk, Option.bind_some]
  rfl
theorem yy_e_point30 {sc : xSc} {c : yy_CT} {m : Nat} (x y : UInt64) (p : Int32) (hF : yy_FRc c) (hm : yy_RMc c (m + 1)) (h35 : yy_cI 35 c = nI 30) : f_P_point sc (yy_cH c) (some 256) x y p = some (.inr (yy_cn c), yy_cH (yy_thr 7 c)) := by
  unfold f_P_point f_P_point_b15
  rw [yy_cgI_35, Option.bind_some, h35, if_pos (by decide), if_pos (yy_cis_P _ _), yy_e_need0 7 hF hm]
  rfl
theorem yy_e_Mpoint {s : MT} {k : Nat} (x y : UInt64) (p : Int32) (h41 : mI 41 s = nI k) (hk : k < 30) : f_M_point s x y p = some (0, sI 41 (nI (k + 1)) (sA 40 (va_up (mA 40 s) k p) (sD 39 (va_up (mD 39 s) k y) (sD 38 (va_up (mD 38 s) k x) s)))) := by
  unfold f_M_point
  have e1 : mI 41 (sD 38 (va_up (mD 38 s) k x) s) = nI k := h41
  have e2 : mI 41 (sD 39 (va_up (mD 39 (sD 38 (va_up (mD 38 s) k x) s)) k y) (sD 38 (va_up (mD 38 s) k x) s)) = nI k := h41
  have e3 : mI 41 (sA 40 (va_up (mA 40 (sD 39 (va_up (mD 39 (sD 38 (va_up (mD 38 s) k x) s)) k y) (sD 38 (va_up (mD 38 s) k x) s))) k p) (sD 39 (va_up (mD 39 (sD 38 (va_up (mD 38 s) k x) s)) k y) (sD 38 (va_up (mD 38 s) k x) s))) = nI k := h41
  rw [h41, yy_nI_c (by omega), e1, yy_nI_c (by omega), e2, yy_nI_c (by omega), e3, if_pos (yy_xin_nI' hk (by decide)), if_pos (yy_xin_nI' hk (by decide)), if_pos (yy_xin_nI' hk (by decide)), yy_nI_add1]
  rfl
theorem yy_R_point {g : yy_GT} {m : Nat} {c : yy_CT} {s : MT} {t nd o n k p : Nat} {x y : UInt64} (h : yy_RR g m c s t nd o n) (h41 : mI 41 s = nI k) (hk : k < 30) (hx : yy_FA x) (hy : yy_FA y) (hp : p ≤ k) : yy_RR g m (yy_tA 280 (va_up (yy_cA 280 c) k (nI p)) (yy_tI 35 (nI (k + 1)) (yy_tD 279 (va_up (yy_cD 279 c) k y) (yy_tD 278 (va_up (yy_cD 278 c) k x) c)))) (sI 41 (nI (k + 1)) (sA 40 (va_up (mA 40 s) k (nI p)) (sD 39 (va_up (mD 39 s) k y) (sD 38 (va_up (mD 38 s) k x) s)))) t nd o n ∧ yy_KF c s (yy_tA 280 (va_up (yy_cA 280 c) k (nI p)) (yy_tI 35 (nI (k + 1)) (yy_tD 279 (va_up (yy_cD 279 c) k y) (yy_tD 278 (va_up (yy_cD 278 c) k x) c)))) (sI 41 (nI (k + 1)) (sA 40 (va_up (mA 40 s) k (nI p)) (sD 39 (va_up (mD 39 s) k y) (sD 38 (va_up (mD 38 s) k x) s)))) := by
  obtain ⟨k', k1, k2, k3⟩ := h.pt
  have : k' = k := by
    rw [h41] at k2
    exact ((yy_nI_inj (by omega) (by omega)).mp k2).symm
  subst this
  refine yy_RR_pth h ⟨k' + 1, by omega, rfl, fun i hi => ?_⟩
  show va_up (yy_cD 278 c) k' x i = va_up (mD 38 s) k' x i ∧ va_up (yy_cD 279 c) k' y i = va_up (mD 39 s) k' y i ∧ yy_FA (va_up (mD 38 s) k' x i) ∧ yy_FA (va_up (mD 39 s) k' y i) ∧ ∃ q : Nat, q ≤ i ∧ va_up (yy_cA 280 c) k' (nI p) i = nI q ∧ va_up (mA 40 s) k' (nI p) i = nI q
  by_cases e : i = k'
  · subst e
    simp only [va_up_self]
    exact ⟨trivial, trivial, hx, hy, p, hp, rfl, rfl⟩
  · simp only [va_up_ne _ _ e]
    exact k3 i (by omega)
theorem yy_FA.dec {x : UInt64} : yy_FA x ↔ (¬ 0 < (Op.cmpValue (FP.dcmp x (4696837146684686336 : UInt64)) .g) ∧ ¬ (Op.cmpValue (FP.dcmp x (13920209183539462144 : UInt64)) .l) < 0) := by
  unfold yy_FA
  rw [Int32.le_iff_toInt_le, Int32.le_iff_toInt_le, Int32.lt_iff_toInt_lt, Int32.lt_iff_toInt_lt]
  have : (0 : Int32).toInt = 0 := rfl
  omega
/-- moveto and lineto: operands and range on both sides -/
theorem yy_O_to {rc : rcE} {sc : xSc} {g : yy_GT} {m : Nat} {c : yy_CT} {s : MT} {t nd o n k : Nat} {d : Int32} (op : Int32) (h : yy_RR g (m + 1) c s t nd o n) (ho : yy_OPc sc k 2 5) (hk : k < 72) (hk0 : k = 67 ∨ k = 68) (hop : op = 65 ∨ op = 66) (hp : f_M_pattern s op = some (nI (yy_dg [2, 2]), s)) (hs : yy_oth op s = f_M_paint s op)
    (e1 : ∀ x y, yy_FA x → yy_FA y → qfin x → qfin y → 2 ≤ n → yy_OPS m c s (f_Paint_perform_b108 sc (some 256) (some k) x y 1 (some 256) (yy_cH c)) (if op = 66 then (if mI 41 s = 0 then some (13, s) else f_M_paint_b190 op x y s) else f_M_paint_b190 op x y s)) : yy_OPS m c s (f_P_operate rc sc (yy_cH c) (some 256) (some k) d) (f_M_operate s op) := by
  have hn := h.le40
  refine yy_OP_head (gr := 5) op [2, 2] h ho hk (by decide) hp (by decide) (by decide) (fun hr => ?_)
  have hr : 2 ≤ n := hr
  obtain ⟨b, w, b1, b2, b3, b4⟩ := h.val (show n - 1 < n by omega)
  obtain ⟨a, v, a1, a2, a3, a4⟩ := h.val (show n - 2 < n by omega)
  obtain ⟨o1, o2, o3, o4⟩ := ho.g hk (yy_cH c)
  have n2 : ¬ nI 2 = 0 := by decide
  have fail3 : f_Paint_perform_b27 sc (some 256) (some k) (some a) (some b) (some 256) (yy_cH c) = some (.inr (yy_cn c), yy_cH (yy_thr 3 c)) := by
    unfold f_Paint_perform_b27 f_Paint_perform_b28
    rw [if_pos (yy_cis_P _ _), yy_e_type0 h.1.1 h.room]
    rfl
  have fail4 : ∀ x y, f_Paint_perform_b107 sc (some 256) (some k) x y (some 256) (yy_cH c) = some (.inr (yy_cn c), yy_cH (yy_thr 4 c)) := fun x y => by
    unfold f_Paint_perform_b107 f_Paint_perform_b108
    rw [if_pos (yy_cis_P _ _), yy_e_need0 4 h.1.1 h.room]
    rfl
  rw [yy_alls2, show n - 1 - 1 = n - 2 by omega, b4.sk2, a4.sk2, yy_e_b96_5, show yy_opA c n [2, 2].length = yy_cR 269 c (n - 2) from yy_opA_1 c n 1, a1, show yy_opB c n [2, 2].length = yy_cR 269 c (n - 2 + 1) from yy_opB_2 c n 0, show n - 2 + 1 = n - 1 by omega, b1]
  unfold f_Paint_perform
  rw [o2, Option.bind_some, if_neg n2, if_pos (yy_sgis a2), yy_e_isNum a2 a4.cm, Option.bind_some]
  by_cases hv : v.1 = some 72 ∨ v.1 = some 73
  · rw [if_pos hv, if_neg (show ¬ (1 : Int32) = 0 by decide), if_pos (yy_sgis b2), yy_e_isNum b2 b4.cm, Option.bind_some]
    by_cases hw : w.1 = some 72 ∨ w.1 = some 73
    · obtain ⟨q1, q2⟩ := a4.nval hv
      obtain ⟨q3, q4⟩ := b4.nval hw
      rw [if_pos hw, if_neg (show ¬ (1 : Int32) = 0 by decide), if_pos (show _ = true by rw [decide_eq_true hv, decide_eq_true hw]; rfl), hs]
      unfold f_Paint_perform_b23 f_Paint_perform_b28 f_Paint_perform_b46
      rw [if_pos (yy_cis_P _ _), yy_e_type1, p_tBl, o2, Option.bind_some, if_neg n2, if_pos (yy_sgis a2), yy_e_value a2 a4.cm, Option.bind_some, Option.bind_some, if_neg n2, if_pos (yy_sgis b2), yy_e_value b2 b4.cm, Option.bind_some]
      have hM : f_M_paint s op = f_M_paint_b138 op (yy_nv v) (yy_nv w) s := by
        have st : f_M_paint_b19 op (nI (n - 1)) s = f_M_paint_b138 op (yy_nv v) (yy_nv w) s := by
          unfold f_M_paint_b19 f_M_paint_b30
          rw [yy_nI_sub1 (by omega), show n - 1 - 1 = n - 2 by omega, yy_e_MnumAt (by omega), Option.bind_some]
          rcases hop with e | e
          · subst e
            show (if (65 : Int32) ≤ 62 then _ else (if (67 : Int32) ≤ 65 then _ else (if (65 : Int32) = 64 then _ else (f_M_numberAt s (nI (n - 1))).bind _))) = _
            rw [if_neg (by decide), if_neg (by decide), if_neg (by decide), yy_e_MnumAt (by omega), Option.bind_some, q1, q3]
            show f_M_paint_b58 65 (yy_nv v) (yy_nv w) s = _
            unfold f_M_paint_b58
            rw [if_neg (by decide), if_neg (by decide), if_pos rfl]
          · subst e
            show (if (66 : Int32) ≤ 62 then _ else (if (67 : Int32) ≤ 66 then _ else (if (66 : Int32) = 64 then _ else (f_M_numberAt s (nI (n - 1))).bind _))) = _
            rw [if_neg (by decide), if_neg (by decide), if_neg (by decide), yy_e_MnumAt (by omega), Option.bind_some, q1, q3]
            show f_M_paint_b58 66 (yy_nv v) (yy_nv w) s = _
            unfold f_M_paint_b58
            rw [if_neg (by decide), if_neg (by decide), if_neg (by decide), if_pos rfl]
        unfold f_M_paint
        rw [h.2.1.1, yy_nI_sub1 (by omega), st]
        rcases hop with e | e
        · rw [if_pos e]
        · rw [if_neg (by rw [e]; decide), if_pos e]
      rw [hM]
      unfold f_Paint_perform_b64 f_M_paint_b138 f_M_paint_b172
      have x1 := yy_xn_fin (yy_fin_xn q2) (4696837146684686336 : UInt64) rfl
      have x2 := yy_xn_fin (yy_fin_xn q2) (13920209183539462144 : UInt64) rfl
      have y1 := yy_xn_fin (yy_fin_xn q4) (4696837146684686336 : UInt64) rfl
      have y2 := yy_xn_fin (yy_fin_xn q4) (13920209183539462144 : UInt64) rfl
      rw [← x1, ← y1, x2, y2]
      by_cases c1 : 0 < (Op.cmpValue (FP.dcmp (yy_nv v) (4696837146684686336 : UInt64)) .g)
      · rw [if_pos c1, if_pos c1, fail4]
        exact yy_O_fail 4 h (by decide) (by decide) rfl rfl
      · rw [if_neg c1, if_neg c1]
        by_cases c2 : (Op.cmpValue (FP.dcmp (yy_nv v) (13920209183539462144 : UInt64)) .l) < 0
        · rw [if_pos c2, if_pos c2, fail4]
          exact yy_O_fail 4 h (by decide) (by decide) rfl rfl
        · rw [if_neg c2, if_neg c2]
          by_cases c3 : 0 < (Op.cmpValue (FP.dcmp (yy_nv w) (4696837146684686336 : UInt64)) .g)
          · rw [if_pos c3, if_pos c3, fail4]
            exact yy_O_fail 4 h (by decide) (by decide) rfl rfl
          · rw [if_neg c3, if_neg c3]
            by_cases c4 : (Op.cmpValue (FP.dcmp (yy_nv w) (13920209183539462144 : UInt64)) .l) < 0
            · rw [if_pos c4, fail4, if_neg (fun z => by rw [Int32.le_iff_toInt_le] at z; rw [Int32.lt_iff_toInt_lt] at c4; omega)]
              exact yy_O_fail 4 h (by decide) (by decide) rfl rfl
            · rw [if_neg c4, if_pos (by rw [Int32.le_iff_toInt_le]; rw [Int32.lt_iff_toInt_lt] at c4; omega)]
              exact e1 _ _ (yy_FA.dec.mpr ⟨c1, c2⟩) (yy_FA.dec.mpr ⟨c3, c4⟩) q2 q4 hr
    · rw [if_neg hw, if_pos rfl, fail3, if_neg (fun z => hw (by rw [Bool.and_eq_true, decide_eq_true_eq, decide_eq_true_eq] at z; exact z.1))]
      exact yy_O_fail 3 h (by decide) (by decide) rfl rfl
  · rw [if_neg hv, if_pos rfl, fail3, if_neg (fun z => hv (by rw [Bool.and_eq_true, decide_eq_true_eq, decide_eq_true_eq] at z; exact z.2))]
    exact yy_O_fail 3 h (by decide) (by decide) rfl rfl

theorem yy_P307 {sc : xSc} {c' : yy_CT} {k n r : Nat} (o2 : gI sc (yy_cH c') 19 2 (some k) = some (nI r)) (h9 : yy_cI 9 c' = nI n) (hr : r ≤ n) : f_Paint_perform_b307 sc (some 256) (some k) (yy_cH c') = some (.inl (), yy_cH (yy_tI 9 (nI (n - r)) c')) := by
  unfold f_Paint_perform_b307
  rw [yy_cgI_9, Option.bind_some, o2, Option.bind_some, h9, yy_nI_sub hr, yy_cpI_9, Option.bind_some]
theorem yy_sI_comm {j k : Nat} (x y : Int32) (s : MT) (h : j ≠ k) : sI j x (sI k y s) = sI k y (sI j x s) := by
  unfold sI
  dsimp only
  refine congrArg (fun z => (z, s.2)) (funext fun i => ?_)
  unfold va_up
  by_cases e1 : i = j
  · rw [if_pos e1, if_neg (by omega), if_pos e1]
  · rw [if_neg e1]
    by_cases e2 : i = k
    · rw [if_pos e2, if_pos e2]
    · rw [if_neg e2, if_neg e2, if_neg e1]
theorem yy_O_moveto {rc : rcE} {sc : xSc} {g : yy_GT} {m : Nat} {c : yy_CT} {s : MT} {t nd o n : Nat} {d : Int32} (h : yy_RR g (m + 1) c s t nd o n) : yy_OPS m c s (f_P_operate rc sc (yy_cH c) (some 256) (some 67) d) (f_M_operate s 65) := by
  obtain ⟨k, k1, k2, k3⟩ := h.pt
  have k35 : yy_cI 35 c = nI k := h.2.1.2.2.2.2.2.2.2.2.1.trans k2
  refine yy_O_to 65 h (yy_OPc_of _ rfl) (by decide) (Or.inl rfl) (Or.inl rfl) (yy_pat h.tb (j := 28) (by decide)) (yy_oth_is 65 rfl (yy_dsp_pnt (by decide))) (fun x y hx hy _ _ hr => ?_)
  rw [if_neg (by decide)]
  unfold f_Paint_perform_b108 f_M_paint_b190
  rw [if_pos (yy_cis_P _ _), yy_e_need1, p_tBl, if_pos (show xis sc (yy_cH c) 19 (some 67) = true from rfl), show f_Enum_ordinal19 sc (yy_cH c) (some 67) = some 67 from rfl, Option.bind_some, if_neg (by decide), if_neg (by decide), if_pos rfl, yy_cgI_35, Option.bind_some, if_pos (yy_cis_P _ _), k2, k35]
  by_cases e : k = 30
  · subst e
    rw [yy_e_point30 x y _ h.1.1 h.room k35]
    exact yy_O_fail 7 h (by decide) (by decide) rfl rfl
  · obtain ⟨r1, r2⟩ := yy_R_point (p := k) h k2 (by omega) hx hy (Nat.le_refl k)
    rw [yy_e_point x y _ k35 (by omega), p_tBl, yy_P307 (r := 2) (n := n) rfl r1.nine hr, if_neg (fun z => by rw [show (30 : Int32) = nI 30 from rfl, yy_nI_inj (by omega) (by omega)] at z; omega), if_pos rfl]
    unfold f_M_paint_b240
    rw [h.2.1.1, show (2 : Int32) = nI 2 from rfl, yy_nI_sub hr, yy_bind_id, show mI 41 (sI 4 (nI (n - 2)) s) = nI k from k2, yy_e_Mpoint (s := sI 4 (nI (n - 2)) s) x y _ k2 (by omega)]
    have r3 := yy_R_top r1 (n' := n - 2) (by omega)
    have kf := r2.trans (yy_KF.of ((yy_KP_t9 g _ _ (nI (n - 2))).trans (yy_KP_s4 g _ _ (nI (n - 2)))))
    rw [yy_sI_comm (j := 4) (k := 41) _ _ _ (by decide)] at r3 kf
    exact yy_O_out rfl rfl (r3.less (Nat.le_succ m)) kf rfl
theorem yy_O_lineto {rc : rcE} {sc : xSc} {g : yy_GT} {m : Nat} {c : yy_CT} {s : MT} {t nd o n : Nat} {d : Int32} (h : yy_RR g (m + 1) c s t nd o n) : yy_OPS m c s (f_P_operate rc sc (yy_cH c) (some 256) (some 68) d) (f_M_operate s 66) := by
  obtain ⟨k, k1, k2, k3⟩ := h.pt
  have k35 : yy_cI 35 c = nI k := h.2.1.2.2.2.2.2.2.2.2.1.trans k2
  refine yy_O_to 66 h (yy_OPc_of _ rfl) (by decide) (Or.inr rfl) (Or.inr rfl) (yy_pat h.tb (j := 29) (by decide)) (yy_oth_is 66 rfl (yy_dsp_pnt (by decide))) (fun x y hx hy _ _ hr => ?_)
  rw [if_pos rfl]
  unfold f_Paint_perform_b108
  rw [if_pos (yy_cis_P _ _), yy_e_need1, p_tBl, if_pos (show xis sc (yy_cH c) 19 (some 68) = true from rfl), show f_Enum_ordinal19 sc (yy_cH c) (some 68) = some 68 from rfl, Option.bind_some, if_neg (by decide), if_neg (by decide), if_neg (by decide), if_pos rfl, k2]
  unfold f_Paint_perform_b236 f_Paint_perform_b249
  rw [yy_cgI_35, Option.bind_some, k35]
  by_cases k0 : k = 0
  · rw [if_pos (show nI k ≤ 0 by rw [k0]; decide), if_pos (show nI k = 0 by rw [k0]; rfl), if_pos (yy_cis_P _ _), yy_e_need0 13 h.1.1 h.room]
    exact yy_O_fail 13 h (by decide) (by decide) rfl rfl
  · obtain ⟨p1, p2, p3, p4, p, p5, p6, p7⟩ := k3 (k - 1) (by omega)
    rw [if_neg (show ¬ nI k ≤ 0 from fun z => by rw [show (0 : Int32) = nI 0 from rfl, yy_nI_le (by omega) (by omega)] at z; omega), if_neg (show ¬ nI k = 0 from fun z => by rw [show (0 : Int32) = nI 0 from rfl, yy_nI_inj (by omega) (by omega)] at z; omega), if_pos (yy_cis_P _ _), yy_e_need1, p_tBl, yy_cgR_32, Option.bind_some, yy_cgI_35, Option.bind_some, k35, yy_nI_sub1 (by omega), yy_caI_280 (by omega), Option.bind_some, if_pos (show xcm (some 68) = true from rfl), if_pos (show xcm (some 68) = true from rfl), if_pos rfl, if_pos (yy_cis_P _ _), p6]
    unfold f_M_paint_b190
    rw [k2]
    by_cases e : k = 30
    · subst e
      rw [yy_e_point30 x y _ h.1.1 h.room k35]
      exact yy_O_fail 7 h (by decide) (by decide) rfl rfl
    · obtain ⟨r1, r2⟩ := yy_R_point (p := p) h k2 (by omega) hx hy (by omega)
      rw [yy_e_point x y _ k35 (by omega), p_tBl, yy_P307 (r := 2) (n := n) rfl r1.nine hr, if_neg (fun z => by rw [show (30 : Int32) = nI 30 from rfl, yy_nI_inj (by omega) (by omega)] at z; omega), if_neg (by decide)]
      unfold f_M_paint_b240
      rw [h.2.1.1, show (2 : Int32) = nI 2 from rfl, yy_nI_sub hr, show mI 41 (sI 4 (nI (n - 2)) s) = nI k from k2, yy_nI_sub1 (by omega), if_pos (yy_xin_nI' (by omega) (by decide)), yy_nI_c (by omega), show mA 40 (sI 4 (nI (n - 2)) s) (k - 1) = nI p from p7, yy_bind_id, yy_e_Mpoint (s := sI 4 (nI (n - 2)) s) x y _ k2 (by omega)]
      have r3 := yy_R_top r1 (n' := n - 2) (by omega)
      have kf := r2.trans (yy_KF.of ((yy_KP_t9 g _ _ (nI (n - 2))).trans (yy_KP_s4 g _ _ (nI (n - 2)))))
      rw [yy_sI_comm (j := 4) (k := 41) _ _ _ (by decide)] at r3 kf
      exact yy_O_out rfl rfl (r3.less (Nat.le_succ m)) kf rfl
theorem yy_O_closepath {rc : rcE} {sc : xSc} {g : yy_GT} {m : Nat} {c : yy_CT} {s : MT} {t nd o n : Nat} {d : Int32} (h : yy_RR g (m + 1) c s t nd o n) : yy_OPS m c s (f_P_operate rc sc (yy_cH c) (some 256) (some 69) d) (f_M_operate s 67) := by
  obtain ⟨k, k1, k2, k3⟩ := h.pt
  have k35 : yy_cI 35 c = nI k := h.2.1.2.2.2.2.2.2.2.2.1.trans k2
  refine yy_OP_head (gr := 5) 67 [] h (yy_OPc_of _ rfl) (by decide) (by decide) (yy_pat h.tb (j := 30) (by decide)) (by simp) (by decide) (fun _ => ?_)
  have hx : f_Paint_perform sc (yy_cH c) (some 263) (some 256) (some 69) (yy_opA c n ([] : List Nat).length) (yy_opB c n ([] : List Nat).length) d = f_Paint_perform_b236 sc (some 256) (some 69) FP.dconst0 FP.dconst0 (yy_cH c) := by
    unfold f_Paint_perform
    rw [show gI sc (yy_cH c) 19 2 (some 69) = some 0 from rfl, Option.bind_some, if_pos rfl]
    unfold f_Paint_perform_b23 f_Paint_perform_b28
    rw [if_pos (yy_cis_P _ _), yy_e_type1, p_tBl, show gI sc (yy_cH c) 19 2 (some 69) = some 0 from rfl, Option.bind_some, if_pos rfl]
    unfold f_Paint_perform_b46
    rw [show gI sc (yy_cH c) 19 2 (some 69) = some 0 from rfl, Option.bind_some, if_pos rfl]
    unfold f_Paint_perform_b64
    rw [if_neg (by decide), if_neg (by decide), if_neg (by decide), if_neg (by decide)]
    unfold f_Paint_perform_b108
    rw [if_pos (yy_cis_P _ _), yy_e_need1, p_tBl, if_pos (show xis sc (yy_cH c) 19 (some 69) = true from rfl), show f_Enum_ordinal19 sc (yy_cH c) (some 69) = some 69 from rfl, Option.bind_some, if_neg (by decide), if_neg (by decide), if_neg (by decide), if_neg (by decide), if_pos rfl]
  rw [show yy_alls s (n - 1) [] = true from rfl, if_pos rfl, yy_e_b96_5, yy_oth_is 67 rfl (yy_dsp_pnt (by decide)), hx]
  unfold f_M_paint f_M_paint_b30 f_M_paint_b57 f_M_paint_b58
  rw [if_neg (by decide), if_neg (by decide), if_neg (by decide), if_pos (by decide), if_neg (by decide), if_neg (by decide), if_neg (by decide), if_neg (by decide), if_pos rfl, k2]
  unfold f_Paint_perform_b236 f_Paint_perform_b249
  rw [yy_cgI_35, Option.bind_some, k35]
  by_cases k0 : k = 0
  · rw [if_pos (show nI k ≤ 0 by rw [k0]; decide), if_pos (show nI k = 0 by rw [k0]; rfl), if_pos (yy_cis_P _ _), yy_e_need0 13 h.1.1 h.room]
    exact yy_O_fail 13 h (by decide) (by decide) rfl rfl
  · obtain ⟨p1, p2, p3, p4, p, p5, p6, p7⟩ := k3 (k - 1) (by omega)
    obtain ⟨u1, u2, u3, u4, _⟩ := k3 p (by omega)
    rw [if_neg (show ¬ nI k ≤ 0 from fun z => by rw [show (0 : Int32) = nI 0 from rfl, yy_nI_le (by omega) (by omega)] at z; omega), if_neg (show ¬ nI k = 0 from fun z => by rw [show (0 : Int32) = nI 0 from rfl, yy_nI_inj (by omega) (by omega)] at z; omega), if_pos (yy_cis_P _ _), yy_e_need1, p_tBl, yy_cgR_32, Option.bind_some, yy_cgI_35, Option.bind_some, k35, yy_nI_sub1 (by omega), yy_caI_280 (by omega), Option.bind_some, if_pos (show xcm (some 69) = true from rfl), if_pos (show xcm (some 68) = true from rfl), if_neg (by decide), p6, yy_cgR_30, Option.bind_some, yy_caD_278 (by omega), Option.bind_some, yy_cgR_31, Option.bind_some, yy_caD_279 (by omega), Option.bind_some, if_pos (yy_cis_P _ _), u1, u2]
    by_cases e : k = 30
    · subst e
      rw [yy_e_point30 _ _ _ h.1.1 h.room k35]
      exact yy_O_fail 7 h (by decide) (by decide) rfl rfl
    · obtain ⟨r1, r2⟩ := yy_R_point (p := p) h k2 (by omega) u3 u4 (by omega)
      rw [yy_e_point _ _ _ k35 (by omega), p_tBl, yy_P307 (r := 0) (n := n) rfl r1.nine (Nat.zero_le n), if_neg (fun z => by rw [show (30 : Int32) = nI 30 from rfl, yy_nI_inj (by omega) (by omega)] at z; omega), if_pos (yy_xin_nI' (by omega) (by decide)), yy_nI_c (by omega), p7, if_pos (yy_xin_nI' (by omega) (by decide)), if_pos (yy_xin_nI' (by omega) (by decide)), if_pos (yy_xin_nI' (by omega) (by decide)), if_pos (yy_xin_nI' (by omega) (by decide)), yy_nI_c (by omega), yy_bind_id, yy_e_Mpoint _ _ _ k2 (by omega)]
      have r3 := yy_R_top r1 (n' := n) (Nat.le_refl n)
      have kf := r2.trans (yy_KF.of ((yy_KP_t9 g _ _ (nI n)).trans (yy_KP_s4 g _ _ (nI n))))
      rw [yy_sI_id (k := 4) (x := nI n) r1.2.1.1] at r3 kf
      exact yy_O_out rfl rfl (r3.less (by omega)) kf rfl
