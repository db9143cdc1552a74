theorem yy_tT_up {c : yy_CT} {a : Nat} {v w : yy_DV} (h : yy_dcv c a = some v) : xup (yy_cH c) a (.inl (4, yy_dcV w)) = yy_cH (yy_tT a (some w) c) := by
  obtain ⟨h1, h2, h3, h4⟩ := yy_dcv_iff.mp h
  refine yy_c_up ?_ (fun b hb => ?_) rfl rfl
  · exact yy_dcv_M (yy_dcv_iff.mpr ⟨h1, h2, h3, va_up_self _ _ _⟩)
  · have e3 : yy_cT (yy_tT a (some w) c) b = yy_cT c b := va_up_ne _ _ hb
    unfold yy_cM
    rw [e3]
    rfl
theorem yy_dcv_tT {c : yy_CT} {a : Nat} {v w : yy_DV} (h : yy_dcv c a = some v) : yy_dcv (yy_tT a (some w) c) a = some w := by
  obtain ⟨h1, h2, h3, h4⟩ := yy_dcv_iff.mp h
  exact yy_dcv_iff.mpr ⟨h1, h2, h3, va_up_self _ _ _⟩
theorem yy_dcv_tT_ne {c : yy_CT} {a b : Nat} {w : Option yy_DV} (h : b ≠ a) : yy_dcv (yy_tT a w c) b = yy_dcv c b := by
  unfold yy_dcv
  rw [yy_cT_tT, if_neg h]
  rfl
theorem yy_ov_tT {c : yy_CT} {a b : Nat} {v w : yy_DV} (h : yy_dcv c a = some v) : yy_ov (yy_tT a (some w) c) b = yy_ov c b := by
  obtain ⟨h1, h2, h3, h4⟩ := yy_dcv_iff.mp h
  unfold yy_ov
  by_cases e : b = a
  · subst e
    rw [if_neg (fun z => by have := z.2.2.2; rw [yy_cT_tT, if_pos rfl] at this; cases this), if_neg (fun z => by have := z.2.2.2; rw [h4] at this; cases this)]
  · rw [yy_cT_tT, if_neg e]
    rfl
theorem yy_dp_pV {c : yy_CT} {a k : Nat} {v w : yy_DV} {x : xV} (h : yy_dcv c a = some v) (hw : (yy_dcV v).set k x = yy_dcV w) : pV (yy_cH c) 4 k (some a) x = some (yy_cH (yy_tT a (some w) c)) := by
  rw [p_pV (yy_cX_ge (yy_dcv_iff.mp h).1) (show (yy_cH c).1 a = _ from yy_dcv_M h), hw, yy_tT_up h]
theorem yy_tT_tT (a : Nat) (x y : Option yy_DV) (c : yy_CT) : yy_tT a x (yy_tT a y c) = yy_tT a x c := by
  unfold yy_tT
  dsimp only
  rw [yy_va_upup]
/-- an entry and its slot are new -/
def yy_ad0 (e : xE) (c : yy_CT) : yy_CT := yy_nwS yy_dfS (yy_nwO e 3 c)
def yy_ad2 (b o : Nat) (key : Nat) (v : yy_DV) (c : yy_CT) : yy_CT := yy_tS (yy_cn c + 1) (some (some 72, 0, 0, 0, nI o, 0, none, none)) (yy_tT b (some (v.1, v.2.1, v.2.2.1 + 1, some (yy_cn c))) (yy_ad0 (.inl (5, [vR (some key), vR (some (yy_cn c + 1)), vR v.2.2.2])) c))
theorem yy_ad0_n (e : xE) (c : yy_CT) : yy_cn (yy_ad0 e c) = yy_cn c + 1 + 1 ∧ yy_cb (yy_ad0 e c) = yy_cb c ∧ yy_cz (yy_ad0 e c) = yy_cz c + 3 + 8 ∧ yy_cl (yy_ad0 e c) = yy_cl c := by
  unfold yy_ad0 yy_nwO yy_nwS
  simp only [yy_cI_tI, yy_cI_tA, yy_cI_tD, yy_cI_tR, yy_cI_tS, yy_cI_tT, yy_cI_tO, yy_cI_tl, yy_cI_tg, yy_cI_tb, yy_cI_tn, yy_cI_tz, yy_cA_tI, yy_cA_tA, yy_cA_tD, yy_cA_tR, yy_cA_tS, yy_cA_tT, yy_cA_tO, yy_cA_tl, yy_cA_tg, yy_cA_tb, yy_cA_tn, yy_cA_tz, yy_cD_tI, yy_cD_tA, yy_cD_tD, yy_cD_tR, yy_cD_tS, yy_cD_tT, yy_cD_tO, yy_cD_tl, yy_cD_tg, yy_cD_tb, yy_cD_tn, yy_cD_tz, yy_cR_tI, yy_cR_tA, yy_cR_tD, yy_cR_tR, yy_cR_tS, yy_cR_tT, yy_cR_tO, yy_cR_tl, yy_cR_tg, yy_cR_tb, yy_cR_tn, yy_cR_tz, yy_cS_tI, yy_cS_tA, yy_cS_tD, yy_cS_tR, yy_cS_tS, yy_cS_tT, yy_cS_tO, yy_cS_tl, yy_cS_tg, yy_cS_tb, yy_cS_tn, yy_cS_tz, yy_cT_tI, yy_cT_tA, yy_cT_tD, yy_cT_tR, yy_cT_tS, yy_cT_tT, yy_cT_tO, yy_cT_tl, yy_cT_tg, yy_cT_tb, yy_cT_tn, yy_cT_tz, yy_cO_tI, yy_cO_tA, yy_cO_tD, yy_cO_tR, yy_cO_tS, yy_cO_tT, yy_cO_tO, yy_cO_tl, yy_cO_tg, yy_cO_tb, yy_cO_tn, yy_cO_tz, yy_cl_tI, yy_cl_tA, yy_cl_tD, yy_cl_tR, yy_cl_tS, yy_cl_tT, yy_cl_tO, yy_cl_tl, yy_cl_tg, yy_cl_tb, yy_cl_tn, yy_cl_tz, yy_cg_tI, yy_cg_tA, yy_cg_tD, yy_cg_tR, yy_cg_tS, yy_cg_tT, yy_cg_tO, yy_cg_tl, yy_cg_tg, yy_cg_tb, yy_cg_tn, yy_cg_tz, yy_cb_tI, yy_cb_tA, yy_cb_tD, yy_cb_tR, yy_cb_tS, yy_cb_tT, yy_cb_tO, yy_cb_tl, yy_cb_tg, yy_cb_tb, yy_cb_tn, yy_cb_tz, yy_cn_tI, yy_cn_tA, yy_cn_tD, yy_cn_tR, yy_cn_tS, yy_cn_tT, yy_cn_tO, yy_cn_tl, yy_cn_tg, yy_cn_tb, yy_cn_tn, yy_cn_tz, yy_cz_tI, yy_cz_tA, yy_cz_tD, yy_cz_tR, yy_cz_tS, yy_cz_tT, yy_cz_tO, yy_cz_tl, yy_cz_tg, yy_cz_tb, yy_cz_tn, yy_cz_tz]
  exact ⟨trivial, trivial, trivial, trivial⟩
theorem yy_ad0_k (e : xE) (c : yy_CT) : (∀ k, yy_cI k (yy_ad0 e c) = yy_cI k c) ∧ (∀ k, yy_cA k (yy_ad0 e c) = yy_cA k c) ∧ (∀ k, yy_cD k (yy_ad0 e c) = yy_cD k c) ∧ (∀ k, yy_cR k (yy_ad0 e c) = yy_cR k c) ∧ yy_cg (yy_ad0 e c) = yy_cg c := by
  unfold yy_ad0 yy_nwO yy_nwS
  simp only [yy_cI_tI, yy_cI_tA, yy_cI_tD, yy_cI_tR, yy_cI_tS, yy_cI_tT, yy_cI_tO, yy_cI_tl, yy_cI_tg, yy_cI_tb, yy_cI_tn, yy_cI_tz, yy_cA_tI, yy_cA_tA, yy_cA_tD, yy_cA_tR, yy_cA_tS, yy_cA_tT, yy_cA_tO, yy_cA_tl, yy_cA_tg, yy_cA_tb, yy_cA_tn, yy_cA_tz, yy_cD_tI, yy_cD_tA, yy_cD_tD, yy_cD_tR, yy_cD_tS, yy_cD_tT, yy_cD_tO, yy_cD_tl, yy_cD_tg, yy_cD_tb, yy_cD_tn, yy_cD_tz, yy_cR_tI, yy_cR_tA, yy_cR_tD, yy_cR_tR, yy_cR_tS, yy_cR_tT, yy_cR_tO, yy_cR_tl, yy_cR_tg, yy_cR_tb, yy_cR_tn, yy_cR_tz, yy_cS_tI, yy_cS_tA, yy_cS_tD, yy_cS_tR, yy_cS_tS, yy_cS_tT, yy_cS_tO, yy_cS_tl, yy_cS_tg, yy_cS_tb, yy_cS_tn, yy_cS_tz, yy_cT_tI, yy_cT_tA, yy_cT_tD, yy_cT_tR, yy_cT_tS, yy_cT_tT, yy_cT_tO, yy_cT_tl, yy_cT_tg, yy_cT_tb, yy_cT_tn, yy_cT_tz, yy_cO_tI, yy_cO_tA, yy_cO_tD, yy_cO_tR, yy_cO_tS, yy_cO_tT, yy_cO_tO, yy_cO_tl, yy_cO_tg, yy_cO_tb, yy_cO_tn, yy_cO_tz, yy_cl_tI, yy_cl_tA, yy_cl_tD, yy_cl_tR, yy_cl_tS, yy_cl_tT, yy_cl_tO, yy_cl_tl, yy_cl_tg, yy_cl_tb, yy_cl_tn, yy_cl_tz, yy_cg_tI, yy_cg_tA, yy_cg_tD, yy_cg_tR, yy_cg_tS, yy_cg_tT, yy_cg_tO, yy_cg_tl, yy_cg_tg, yy_cg_tb, yy_cg_tn, yy_cg_tz, yy_cb_tI, yy_cb_tA, yy_cb_tD, yy_cb_tR, yy_cb_tS, yy_cb_tT, yy_cb_tO, yy_cb_tl, yy_cb_tg, yy_cb_tb, yy_cb_tn, yy_cb_tz, yy_cn_tI, yy_cn_tA, yy_cn_tD, yy_cn_tR, yy_cn_tS, yy_cn_tT, yy_cn_tO, yy_cn_tl, yy_cn_tg, yy_cn_tb, yy_cn_tn, yy_cn_tz, yy_cz_tI, yy_cz_tA, yy_cz_tD, yy_cz_tR, yy_cz_tS, yy_cz_tT, yy_cz_tO, yy_cz_tl, yy_cz_tg, yy_cz_tb, yy_cz_tn, yy_cz_tz]
  exact ⟨fun _ => trivial, fun _ => trivial, fun _ => trivial, fun _ => trivial, trivial⟩
theorem yy_nwO_n (e : xE) (n : Nat) (c : yy_CT) : yy_cn (yy_nwO e n c) = yy_cn c + 1 := by
  unfold yy_nwO
  simp only [yy_cI_tI, yy_cI_tA, yy_cI_tD, yy_cI_tR, yy_cI_tS, yy_cI_tT, yy_cI_tO, yy_cI_tl, yy_cI_tg, yy_cI_tb, yy_cI_tn, yy_cI_tz, yy_cA_tI, yy_cA_tA, yy_cA_tD, yy_cA_tR, yy_cA_tS, yy_cA_tT, yy_cA_tO, yy_cA_tl, yy_cA_tg, yy_cA_tb, yy_cA_tn, yy_cA_tz, yy_cD_tI, yy_cD_tA, yy_cD_tD, yy_cD_tR, yy_cD_tS, yy_cD_tT, yy_cD_tO, yy_cD_tl, yy_cD_tg, yy_cD_tb, yy_cD_tn, yy_cD_tz, yy_cR_tI, yy_cR_tA, yy_cR_tD, yy_cR_tR, yy_cR_tS, yy_cR_tT, yy_cR_tO, yy_cR_tl, yy_cR_tg, yy_cR_tb, yy_cR_tn, yy_cR_tz, yy_cS_tI, yy_cS_tA, yy_cS_tD, yy_cS_tR, yy_cS_tS, yy_cS_tT, yy_cS_tO, yy_cS_tl, yy_cS_tg, yy_cS_tb, yy_cS_tn, yy_cS_tz, yy_cT_tI, yy_cT_tA, yy_cT_tD, yy_cT_tR, yy_cT_tS, yy_cT_tT, yy_cT_tO, yy_cT_tl, yy_cT_tg, yy_cT_tb, yy_cT_tn, yy_cT_tz, yy_cO_tI, yy_cO_tA, yy_cO_tD, yy_cO_tR, yy_cO_tS, yy_cO_tT, yy_cO_tO, yy_cO_tl, yy_cO_tg, yy_cO_tb, yy_cO_tn, yy_cO_tz, yy_cl_tI, yy_cl_tA, yy_cl_tD, yy_cl_tR, yy_cl_tS, yy_cl_tT, yy_cl_tO, yy_cl_tl, yy_cl_tg, yy_cl_tb, yy_cl_tn, yy_cl_tz, yy_cg_tI, yy_cg_tA, yy_cg_tD, yy_cg_tR, yy_cg_tS, yy_cg_tT, yy_cg_tO, yy_cg_tl, yy_cg_tg, yy_cg_tb, yy_cg_tn, yy_cg_tz, yy_cb_tI, yy_cb_tA, yy_cb_tD, yy_cb_tR, yy_cb_tS, yy_cb_tT, yy_cb_tO, yy_cb_tl, yy_cb_tg, yy_cb_tb, yy_cb_tn, yy_cb_tz, yy_cn_tI, yy_cn_tA, yy_cn_tD, yy_cn_tR, yy_cn_tS, yy_cn_tT, yy_cn_tO, yy_cn_tl, yy_cn_tg, yy_cn_tb, yy_cn_tn, yy_cn_tz, yy_cz_tI, yy_cz_tA, yy_cz_tD, yy_cz_tR, yy_cz_tS, yy_cz_tT, yy_cz_tO, yy_cz_tl, yy_cz_tg, yy_cz_tb, yy_cz_tn, yy_cz_tz]
theorem yy_ad0_tO (e e' : xE) (c : yy_CT) : yy_tO (yy_cn c) (some e') (yy_ad0 e c) = yy_ad0 e' c := by
  unfold yy_ad0
  have := yy_tO_nwO c e e' 3
  show yy_nwS yy_dfS (yy_tO (yy_cn c) (some e') (yy_nwO e 3 c)) = _
  rw [this]
theorem yy_ad0_f {c : yy_CT} (hL : yy_LOW c) (hF : yy_FRc c) (e : xE) : yy_slv (yy_ad0 e c) (yy_cn c + 1) = some yy_dfS ∧ yy_ov (yy_ad0 e c) (yy_cn c) = some e ∧ (∀ b, b < yy_cn c → yy_slv (yy_ad0 e c) b = yy_slv c b) ∧ (∀ b, b < yy_cn c → yy_dcv (yy_ad0 e c) b = yy_dcv c b) ∧ (∀ b, b < yy_cn c → yy_ov (yy_ad0 e c) b = yy_ov c b) ∧ yy_LOW (yy_ad0 e c) ∧ yy_FRc (yy_ad0 e c) := by
  have F1 : yy_FRc (yy_nwO e 3 c) := hF.nwO e 3
  have L1 : yy_LOW (yy_nwO e 3 c) := hL.nwO e 3
  have n1 := yy_nwO_n e 3 c
  unfold yy_ad0
  refine ⟨?_, ?_, fun b hb => ?_, fun b hb => ?_, fun b hb => ?_, L1.nwS yy_dfS, F1.nwS yy_dfS⟩
  · rw [← n1]
    exact yy_slv_nwS F1 yy_dfS
  · rw [yy_ov_nwS_ne (by rw [n1]; omega)]
    exact yy_ov_nwO hF e 3
  · rw [yy_slv_nwS_ne (by rw [n1]; omega), yy_slv_nwO_ne (by omega)]
  · rw [yy_dcv_nwS_ne (by rw [n1]; omega), yy_dcv_nwO_ne (by omega)]
  · rw [yy_ov_nwS_ne (by rw [n1]; omega), yy_ov_nwO_ne (by omega)]
theorem yy_ad2_f {c : yy_CT} {b o key : Nat} {v : yy_DV} (hL : yy_LOW c) (hF : yy_FRc c) (hd : yy_dcv c b = some v) : yy_slv (yy_ad2 b o key v c) (yy_cn c + 1) = some (some 72, 0, 0, 0, nI o, 0, none, none) ∧ yy_ov (yy_ad2 b o key v c) (yy_cn c) = some (.inl (5, [vR (some key), vR (some (yy_cn c + 1)), vR v.2.2.2])) ∧ (∀ a, a < yy_cn c → yy_slv (yy_ad2 b o key v c) a = yy_slv c a) ∧ (∀ a, a < yy_cn c → a ≠ b → yy_dcv (yy_ad2 b o key v c) a = yy_dcv c a) ∧ yy_dcv (yy_ad2 b o key v c) b = some (v.1, v.2.1, v.2.2.1 + 1, some (yy_cn c)) ∧ (∀ a, a < yy_cn c → yy_ov (yy_ad2 b o key v c) a = yy_ov c a) ∧ yy_LOW (yy_ad2 b o key v c) ∧ yy_FRc (yy_ad2 b o key v c) := by
  obtain ⟨f1, f2, f3, f4, f5, f6, f7⟩ := yy_ad0_f hL hF (.inl (5, [vR (some key), vR (some (yy_cn c + 1)), vR v.2.2.2]))
  obtain ⟨n1, n2, n3, n4⟩ := yy_ad0_n (.inl (5, [vR (some key), vR (some (yy_cn c + 1)), vR v.2.2.2])) c
  have hb := hL.d hd
  have hd0 : yy_dcv (yy_ad0 (.inl (5, [vR (some key), vR (some (yy_cn c + 1)), vR v.2.2.2])) c) b = some v := (f4 b hb).trans hd
  have s1 : yy_slv (yy_tT b (some (v.1, v.2.1, v.2.2.1 + 1, some (yy_cn c))) (yy_ad0 (.inl (5, [vR (some key), vR (some (yy_cn c + 1)), vR v.2.2.2])) c)) (yy_cn c + 1) = some yy_dfS := by
    rw [yy_slv_tT]
    exact f1
  have L1 : yy_LOW (yy_tT b (some (v.1, v.2.1, v.2.2.1 + 1, some (yy_cn c))) (yy_ad0 (.inl (5, [vR (some key), vR (some (yy_cn c + 1)), vR v.2.2.2])) c)) := fun a ha => by
    rw [yy_cn_tT, n1] at ha
    rw [yy_slv_tT, yy_dcv_tT_ne (by omega), yy_ov_tT hd0]
    exact f6 a (by rw [n1]; exact ha)
  unfold yy_ad2
  refine ⟨yy_slv_tS s1, ?_, fun a ha => ?_, fun a ha hab => ?_, ?_, fun a ha => ?_, L1.tS s1 _, ?_⟩
  · rw [yy_ov_tS s1, yy_ov_tT hd0]
    exact f2
  · rw [yy_slv_tS_ne (by omega), yy_slv_tT]
    exact f3 a ha
  · rw [yy_dcv_tS s1, yy_dcv_tT_ne hab]
    exact f4 a ha
  · rw [yy_dcv_tS s1]
    exact yy_dcv_tT hd0
  · rw [yy_ov_tS s1, yy_ov_tT hd0]
    exact f5 a ha
  · obtain ⟨g1, g2, g3⟩ := f7
    refine ⟨?_, ?_, ?_⟩
    · rw [yy_cn_tS, yy_cn_tT]
      exact g1
    · rw [yy_cn_tS, yy_cn_tT, yy_cb_tS, yy_cb_tT]
      exact g2
    · rw [yy_cn_tS, yy_cn_tT, yy_cl_tS, yy_cl_tT]
      exact g3
theorem yy_e_add {sc : xSc} {c : yy_CT} {b key m : Nat} {v : yy_DV} (hL : yy_LOW c) (hF : yy_FRc c) (hm : yy_RMc c (m + 2)) (hd : yy_dcv c b = some v) : f_Dict_add sc (yy_cH c) (some b) (some key) = some (some (yy_cn c + 1), yy_cH (yy_tT b (some (v.1, v.2.1, v.2.2.1 + 1, some (yy_cn c))) (yy_ad0 (.inl (5, [vR (some key), vR (some (yy_cn c + 1)), vR v.2.2.2])) c))) := by
  have hb := hL.d hd
  have F1 : yy_FRc (yy_nwO (.inl (5, xdef 5 3)) 3 c) := hF.nwO _ 3
  have M1 : yy_RMc (yy_nwO (.inl (5, xdef 5 3)) 3 c) (m + 1) := yy_RMc.nwO hm (by decide) _
  have n1 := yy_nwO_n (.inl (5, xdef 5 3)) 3 c
  have e := yy_e_newS (sc := sc) F1 M1
  have hd0 : ∀ e, yy_dcv (yy_ad0 e c) b = some v := fun e => ((yy_ad0_f hL hF e).2.2.2.1 b hb).trans hd
  have ho0 : ∀ e, yy_ov (yy_ad0 e c) (yy_cn c) = some e := fun e => (yy_ad0_f hL hF e).2.1
  unfold f_Dict_add
  rw [show nO 5 3 3 (yy_cH c) = some (xnew (yy_cH c) (.inl (5, xdef 5 3)) 3) from if_pos (yy_RMc.xrm hm (by decide)), yy_x_nwO hF, Option.bind_some]
  simp only [Option.isSome_some, ↓reduceIte, yy_cH_nx]
  rw [← Option.bind_assoc, e, Option.bind_some, n1]
  rw [show yy_nwS yy_dfS (yy_nwO (.inl (5, xdef 5 3)) 3 c) = yy_ad0 (.inl (5, xdef 5 3)) c from rfl, p_gR (yy_dcv_a (hd0 _)) rfl, Option.bind_some]
  unfold f_Entry_init
  rw [if_pos (show (some (yy_cn c)).isSome = true from rfl), show f_Record_init (some (yy_cn c)) = some () from rfl, Option.bind_some, yy_op_pV (ho0 _), yy_ad0_tO, Option.bind_some, yy_op_pV (ho0 _), yy_ad0_tO, Option.bind_some, yy_op_pV (ho0 _), yy_ad0_tO, Option.bind_some, Option.bind_some, yy_dp_pV (hd0 _) (w := (v.1, v.2.1, v.2.2.1, some (yy_cn c))) rfl, Option.bind_some, p_gI (yy_dcv_a (yy_dcv_tT (hd0 _))) rfl, Option.bind_some, yy_dp_pV (yy_dcv_tT (hd0 _)) (w := (v.1, v.2.1, v.2.2.1 + 1, some (yy_cn c))) rfl, yy_tT_tT, Option.bind_some, p_gR (yy_dcv_a (yy_dcv_tT (hd0 _))) rfl, Option.bind_some]
  have ho1 : yy_ov (yy_tT b (some (v.1, v.2.1, v.2.2.1 + 1, some (yy_cn c))) (yy_ad0 (.inl (5, [vR (some key), vR (some (yy_cn c + 1)), vR v.2.2.2])) c)) (yy_cn c) = some (.inl (5, [vR (some key), vR (some (yy_cn c + 1)), vR v.2.2.2])) := by
    rw [yy_ov_tT (hd0 _)]
    exact ho0 _
  obtain ⟨g1, g2, g3, g4⟩ := yy_en_g (sc := sc) ho1
  have : ((((xdef 5 3).set 0 (vR (some key))).set 1 (vR (some (yy_cn c + 1)))).set 2 (vR v.2.2.2)) = [vR (some key), vR (some (yy_cn c + 1)), vR v.2.2.2] := rfl
  rw [this]
  rw [if_pos g1, g3, Option.bind_some]
