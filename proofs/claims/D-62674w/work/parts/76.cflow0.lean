theorem yy_e_b96_4 (rc : rcE) (sc : xSc) (d : Int32) (t0 t1 t2 : Option Nat) (c : yy_CT) : f_P_operate_b96 rc sc d t0 t1 t2 (some 256) (some (258 + 4)) (yy_cH c) = f_Flow_perform rc sc (yy_cH c) (some 262) (some 256) t2 t1 t0 d := by
  unfold f_P_operate_b96
  rw [if_neg (by rw [show xis sc (yy_cH c) 10 (some (258 + 4)) = false from rfl]; decide), if_neg (by rw [show xis sc (yy_cH c) 11 (some (258 + 4)) = false from rfl]; decide), if_neg (by rw [show xis sc (yy_cH c) 12 (some (258 + 4)) = false from rfl]; decide), if_neg (by rw [show xis sc (yy_cH c) 13 (some (258 + 4)) = false from rfl]; decide), if_pos (show xis sc (yy_cH c) 14 (some (258 + 4)) = true from rfl)]
  exact yy_tB_id _
theorem yy_e_b96_5 (rc : rcE) (sc : xSc) (d : Int32) (t0 t1 t2 : Option Nat) (c : yy_CT) : f_P_operate_b96 rc sc d t0 t1 t2 (some 256) (some (258 + 5)) (yy_cH c) = f_Paint_perform sc (yy_cH c) (some 263) (some 256) t2 t1 t0 d := by
  unfold f_P_operate_b96
  rw [if_neg (by rw [show xis sc (yy_cH c) 10 (some (258 + 5)) = false from rfl]; decide), if_neg (by rw [show xis sc (yy_cH c) 11 (some (258 + 5)) = false from rfl]; decide), if_neg (by rw [show xis sc (yy_cH c) 12 (some (258 + 5)) = false from rfl]; decide), if_neg (by rw [show xis sc (yy_cH c) 13 (some (258 + 5)) = false from rfl]; decide), if_neg (by rw [show xis sc (yy_cH c) 14 (some (258 + 5)) = false from rfl]; decide), if_pos (show xis sc (yy_cH c) 15 (some (258 + 5)) = true from rfl)]
  exact yy_tB_id _
theorem yy_F405 (rc : rcE) (sc : xSc) : (fun (_ : Unit) (u : xH) => f_Flow_perform_b405 rc sc u) = fun _ u => some (.inl (), u) := rfl
theorem yy_O_stop {rc : rcE} {sc : xSc} {g : yy_GT} {m : Nat} {c : yy_CT} {s : MT} {t nd o n : Nat} {d : Int32} (h : yy_RR g (m + 1) c s t nd o n) : yy_OPS m c s (f_P_operate rc sc (yy_cH c) (some 256) (some 60) d) (f_M_operate s 58) := by
  refine yy_OP_head (gr := 4) 58 [] h (yy_OPc_of _ rfl) (by decide) (by decide) (yy_pat h.tb (j := 21) (by decide)) (by simp) (by decide) (fun _ => ?_)
  rw [show yy_alls s (n - 1) [] = true from rfl, if_pos rfl, yy_e_b96_4, yy_Cp_60, if_pos (yy_cis_P _ _), yy_e_need0 14 h.1.1 h.room, yy_oth_is 58 rfl (yy_dsp_ctl (by decide)), yy_Mb_58]
  exact yy_O_fail 14 h (by decide) (by decide) rfl rfl
theorem yy_O_fault {rc : rcE} {sc : xSc} {g : yy_GT} {m : Nat} {c : yy_CT} {s : MT} {t nd o n : Nat} {d : Int32} (h : yy_RR g (m + 1) c s t nd o n) (h18 : yy_cI 18 c = mI 33 s) : yy_OPS m c s (f_P_operate rc sc (yy_cH c) (some 256) (some 62) d) (f_M_operate s 60) := by
  refine yy_OP_head (gr := 4) 60 [] h (yy_OPc_of _ rfl) (by decide) (by decide) (yy_pat h.tb (j := 23) (by decide)) (by simp) (by decide) (fun _ => ?_)
  rw [show yy_alls s (n - 1) [] = true from rfl, if_pos rfl, yy_e_b96_4, yy_Cp_62, yy_cgI_18, Option.bind_some, if_pos (yy_cis_P _ _), yy_F405, yy_tB_id, yy_oth_is 60 rfl (yy_dsp_ctl (by decide)), yy_Mb_60, yy_bind_id, h18]
  exact yy_O_give0 sc h _ _ _ _ (fun _ _ _ _ => yy_VR_int _ _ _ _ _ _ _ _ _ _ _ _ _)
/-! the path -/
theorem yy_RR_pth {g : yy_GT} {m : Nat} {c : yy_CT} {s : MT} {t nd o n : Nat} {x : Int32} {a b a2 b2 : Nat → UInt64} {p p2 : Nat → Int32} (h : yy_RR g m c s t nd o n) (hp : yy_RPt (yy_tA 280 p (yy_tI 35 x (yy_tD 279 b (yy_tD 278 a c)))) (sI 41 x (sA 40 p2 (sD 39 b2 (sD 38 a2 s))))) : yy_RR g m (yy_tA 280 p (yy_tI 35 x (yy_tD 279 b (yy_tD 278 a c)))) (sI 41 x (sA 40 p2 (sD 39 b2 (sD 38 a2 s)))) t nd o n ∧ yy_KF c s (yy_tA 280 p (yy_tI 35 x (yy_tD 279 b (yy_tD 278 a c)))) (sI 41 x (sA 40 p2 (sD 39 b2 (sD 38 a2 s)))) := by
  have k : yy_KX t g c s g (yy_tA 280 p (yy_tI 35 x (yy_tD 279 b (yy_tD 278 a c)))) (sI 41 x (sA 40 p2 (sD 39 b2 (sD 38 a2 s)))) := by
    refine ⟨⟨rfl, Nat.le_refl _, rfl, fun _ _ _ => rfl⟩, ⟨Nat.le_refl _, rfl⟩, fun _ _ _ => rfl, fun _ _ _ h => h, fun _ _ _ h => h, ⟨fun k hk => rfl, fun _ _ => rfl⟩, fun _ _ _ _ => rfl, fun k hk => ?_, fun _ _ => rfl⟩
    show va_up s.2.1 40 p2 k = _
    exact va_up_ne _ _ (by omega)
  have hE : yy_REq (yy_tA 280 p (yy_tI 35 x (yy_tD 279 b (yy_tD 278 a c)))) (sI 41 x (sA 40 p2 (sD 39 b2 (sD 38 a2 s)))) := by
    obtain ⟨e1, e2, e3, e4, e5, e6, e7, e8, e10, e11, e12, e13, e14⟩ := h.2.1.2
    exact ⟨e1, e2, e3, e4, e5, e6, e7, rfl, e10, e11, e12, e13, e14⟩
  have hPx : yy_RPx (yy_tA 280 p (yy_tI 35 x (yy_tD 279 b (yy_tD 278 a c)))) (sI 41 x (sA 40 p2 (sD 39 b2 (sD 38 a2 s)))) := by
    obtain ⟨g0, C, R, h1, h2, h3, h4, h5⟩ := h.px
    refine ⟨g0, C, R, h1, h2, h3, fun r y hr hy => ?_, h5⟩
    rw [yy_cA_tA, if_neg (by omega)]
    exact h4 r y hr hy
  refine ⟨yy_RR_KX h k (fun _ _ h => h) h.1.1 h.1.2.1 h.1.2.2 h.2.1.1 hE (yy_RSt_KX k (fun _ _ _ => ⟨rfl, rfl⟩) rfl rfl (fun _ _ => rfl) h.2.2.1) rfl rfl rfl rfl rfl h.ds h.tb rfl h.ha hp hPx h.tx, ⟨rfl, rfl, rfl, rfl, rfl, rfl, rfl, rfl, rfl⟩, ⟨rfl, rfl, rfl, rfl, rfl, rfl⟩, rfl, rfl, rfl, rfl, rfl, rfl⟩
theorem yy_tA_id (k : Nat) (c : yy_CT) : yy_tA k (yy_cA k c) c = c := by
  unfold yy_tA
  show (c.1, va_up c.2.1 k (c.2.1 k), c.2.2) = c
  rw [yy_va_up_id]
theorem yy_tD_id (k : Nat) (c : yy_CT) : yy_tD k (yy_cD k c) c = c := by
  unfold yy_tD
  show (c.1, c.2.1, va_up c.2.2.1 k (c.2.2.1 k), c.2.2.2) = c
  rw [yy_va_up_id]
theorem yy_sD_id (k : Nat) (s : MT) : sD k (mD k s) s = s := by
  unfold sD
  show (s.1, s.2.1, s.2.2.1, va_up s.2.2.2.1 k (s.2.2.2.1 k), s.2.2.2.2) = s
  rw [yy_va_up_id]
theorem yy_O_newpath {rc : rcE} {sc : xSc} {g : yy_GT} {m : Nat} {c : yy_CT} {s : MT} {t nd o n : Nat} {d : Int32} (h : yy_RR g (m + 1) c s t nd o n) : yy_OPS m c s (f_P_operate rc sc (yy_cH c) (some 256) (some 66) d) (f_M_operate s 64) := by
  refine yy_OP_head (gr := 5) 64 [] h (yy_OPc_of _ rfl) (by decide) (by decide) (yy_pat h.tb (j := 27) (by decide)) (by simp) (by decide) (fun _ => ?_)
  have hM : f_M_paint s 64 = some (0, sI 41 0 s) := by
    unfold f_M_paint f_M_paint_b30 f_M_paint_b57 f_M_paint_b58
    rw [if_neg (by decide), if_neg (by decide), if_neg (by decide), if_neg (by decide), if_pos rfl, if_neg (by decide), if_pos rfl]
  have hx : f_Paint_perform sc (yy_cH c) (some 263) (some 256) (some 66) (yy_opA c n ([] : List Nat).length) (yy_opB c n ([] : List Nat).length) d = some (.inl (), yy_cH (yy_tI 9 (nI n) (yy_tI 35 0 c))) := by
    unfold f_Paint_perform
    rw [show gI sc (yy_cH c) 19 2 (some 66) = some 0 from rfl, Option.bind_some, if_pos rfl]
    unfold f_Paint_perform_b23 f_Paint_perform_b28
    rw [if_pos (yy_cis_P _ _), yy_e_type1, p_tBl, show gI sc (yy_cH c) 19 2 (some 66) = some 0 from rfl, Option.bind_some, if_pos rfl]
    unfold f_Paint_perform_b46
    rw [show gI sc (yy_cH c) 19 2 (some 66) = some 0 from rfl, Option.bind_some, if_pos rfl]
    unfold f_Paint_perform_b64
    rw [if_neg (by decide), if_neg (by decide), if_neg (by decide), if_neg (by decide)]
    unfold f_Paint_perform_b108
    rw [if_pos (yy_cis_P _ _), yy_e_need1, p_tBl, if_pos (show xis sc (yy_cH c) 19 (some 66) = true from rfl), show f_Enum_ordinal19 sc (yy_cH c) (some 66) = some 66 from rfl, Option.bind_some, if_neg (by decide), if_pos rfl, yy_cpI_35, Option.bind_some]
    unfold f_Paint_perform_b307
    rw [yy_cgI_9, Option.bind_some, show gI sc (yy_cH (yy_tI 35 0 c)) 19 2 (some 66) = some 0 from rfl, Option.bind_some, show yy_cI 9 (yy_tI 35 0 c) = nI n from h.nine, show (0 : Int32) = nI 0 from rfl, yy_nI_sub (Nat.zero_le n), yy_cpI_9]
    rfl
  rw [show yy_alls s (n - 1) [] = true from rfl, if_pos rfl, yy_e_b96_5, yy_oth_is 64 rfl (yy_dsp_pnt (by decide)), hM, hx]
  obtain ⟨r1, r2⟩ := yy_RR_pth (x := 0) (a := yy_cD 278 c) (b := yy_cD 279 c) (a2 := mD 38 s) (b2 := mD 39 s) (p := yy_cA 280 c) (p2 := mA 40 s) h ⟨0, by decide, rfl, fun k hk => absurd hk (Nat.not_lt_zero k)⟩
  have e1 : yy_tA 280 (yy_cA 280 c) (yy_tI 35 0 (yy_tD 279 (yy_cD 279 c) (yy_tD 278 (yy_cD 278 c) c))) = yy_tI 35 0 c := by
    rw [yy_tD_id, yy_tD_id]
    exact yy_tA_id 280 (yy_tI 35 0 c)
  have e2 : sI 41 0 (sA 40 (mA 40 s) (sD 39 (mD 39 s) (sD 38 (mD 38 s) s))) = sI 41 0 s := by
    rw [yy_sD_id, yy_sD_id, yy_sA_id]
  rw [e1, e2] at r1 r2
  have r3 := yy_R_top r1 (n' := n) (Nat.le_refl n)
  have e3 : sI 4 (nI n) (sI 41 0 s) = sI 41 0 s := yy_sI_id h.2.1.1
  rw [e3] at r3
  have kf := r2.trans (yy_KF.of (yy_KP_t9 g (yy_tI 35 0 c) (sI 41 0 s) (nI n)))
  exact yy_O_out rfl rfl (r3.less (by omega)) kf rfl
