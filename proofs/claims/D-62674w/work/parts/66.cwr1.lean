theorem yy_tO_up {c : yy_CT} {a : Nat} {e e' : xE} (h : yy_ov c a = some e) : xup (yy_cH c) a e' = yy_cH (yy_tO a (some e') c) := by
  obtain ⟨h1, h2, h3, h4, h5⟩ := yy_ov_iff.mp h
  refine yy_c_up ?_ (fun b hb => ?_) rfl rfl
  · exact yy_ov_M (yy_ov_iff.mpr ⟨h1, h2, h3, h4, va_up_self _ _ _⟩)
  · have e1 : yy_cF (yy_tO a (some e') c) b = yy_cF c b := by
      unfold yy_cF
      split <;> first | rfl | exact va_up_ne _ _ hb
    have e4 : yy_cO (yy_tO a (some e') c) b = yy_cO c b := va_up_ne _ _ hb
    unfold yy_cM
    rw [e1, e4]
    rfl
theorem yy_op_pV {c : yy_CT} {a cls k : Nat} {fs : List xV} {x : xV} (h : yy_ov c a = some (.inl (cls, fs))) : pV (yy_cH c) cls k (some a) x = some (yy_cH (yy_tO a (some (.inl (cls, fs.set k x))) c)) := by
  rw [p_pV (yy_cX_ge (yy_ov_iff.mp h).1) (show (yy_cH c).1 a = _ from yy_ov_M h), yy_tO_up h]
theorem yy_tO_nwO (c : yy_CT) (e e' : xE) (n : Nat) : yy_tO (yy_cn c) (some e') (yy_nwO e n c) = yy_nwO e' n c := by
  unfold yy_nwO
  show yy_tn _ (yy_tz _ (yy_tO (yy_cn c) (some e') (yy_tO (yy_cn c) (some e) _))) = _
  congr 2
  unfold yy_tO
  dsimp only
  rw [yy_va_upup]
/-- the state after a noted change: old slot at yy_cn c, the change behind it -/
def yy_rwb (a : Nat) (v : yy_SV) (c : yy_CT) : yy_CT := yy_nwO (.inl (8, [vR (yy_cl c), vR (some a), vR (some (yy_cn c)), vI v.2.2.2.2.1])) 4 (yy_tS (yy_cn c) (some (yy_svc 0 v)) (yy_nwS yy_dfS c))
def yy_rwc (a o : Nat) (v w : yy_SV) (c : yy_CT) : yy_CT := yy_tS a (some (yy_svc (nI o) w)) (yy_tl (some (yy_cn c + 1)) (yy_rwb a v c))
theorem yy_ov_tl (x : Option Nat) (c : yy_CT) (a : Nat) : yy_ov (yy_tl x c) a = yy_ov c a := rfl
theorem yy_dcv_tl (x : Option Nat) (c : yy_CT) (a : Nat) : yy_dcv (yy_tl x c) a = yy_dcv c a := rfl
theorem yy_X_n (c : yy_CT) (y : yy_SV) : yy_cn (yy_tS (yy_cn c) (some y) (yy_nwS yy_dfS c)) = yy_cn c + 1 := by
  unfold yy_nwS
  simp only [yy_cI_tI, yy_cI_tA, yy_cI_tD, yy_cI_tR, yy_cI_tS, yy_cI_tT, yy_cI_tO, yy_cI_tl, yy_cI_tg, yy_cI_tb, yy_cI_tn, yy_cI_tz, yy_cA_tI, yy_cA_tA, yy_cA_tD, yy_cA_tR, yy_cA_tS, yy_cA_tT, yy_cA_tO, yy_cA_tl, yy_cA_tg, yy_cA_tb, yy_cA_tn, yy_cA_tz, yy_cD_tI, yy_cD_tA, yy_cD_tD, yy_cD_tR, yy_cD_tS, yy_cD_tT, yy_cD_tO, yy_cD_tl, yy_cD_tg, yy_cD_tb, yy_cD_tn, yy_cD_tz, yy_cR_tI, yy_cR_tA, yy_cR_tD, yy_cR_tR, yy_cR_tS, yy_cR_tT, yy_cR_tO, yy_cR_tl, yy_cR_tg, yy_cR_tb, yy_cR_tn, yy_cR_tz, yy_cS_tI, yy_cS_tA, yy_cS_tD, yy_cS_tR, yy_cS_tS, yy_cS_tT, yy_cS_tO, yy_cS_tl, yy_cS_tg, yy_cS_tb, yy_cS_tn, yy_cS_tz, yy_cT_tI, yy_cT_tA, yy_cT_tD, yy_cT_tR, yy_cT_tS, yy_cT_tT, yy_cT_tO, yy_cT_tl, yy_cT_tg, yy_cT_tb, yy_cT_tn, yy_cT_tz, yy_cO_tI, yy_cO_tA, yy_cO_tD, yy_cO_tR, yy_cO_tS, yy_cO_tT, yy_cO_tO, yy_cO_tl, yy_cO_tg, yy_cO_tb, yy_cO_tn, yy_cO_tz, yy_cl_tI, yy_cl_tA, yy_cl_tD, yy_cl_tR, yy_cl_tS, yy_cl_tT, yy_cl_tO, yy_cl_tl, yy_cl_tg, yy_cl_tb, yy_cl_tn, yy_cl_tz, yy_cg_tI, yy_cg_tA, yy_cg_tD, yy_cg_tR, yy_cg_tS, yy_cg_tT, yy_cg_tO, yy_cg_tl, yy_cg_tg, yy_cg_tb, yy_cg_tn, yy_cg_tz, yy_cb_tI, yy_cb_tA, yy_cb_tD, yy_cb_tR, yy_cb_tS, yy_cb_tT, yy_cb_tO, yy_cb_tl, yy_cb_tg, yy_cb_tb, yy_cb_tn, yy_cb_tz, yy_cn_tI, yy_cn_tA, yy_cn_tD, yy_cn_tR, yy_cn_tS, yy_cn_tT, yy_cn_tO, yy_cn_tl, yy_cn_tg, yy_cn_tb, yy_cn_tn, yy_cn_tz, yy_cz_tI, yy_cz_tA, yy_cz_tD, yy_cz_tR, yy_cz_tS, yy_cz_tT, yy_cz_tO, yy_cz_tl, yy_cz_tg, yy_cz_tb, yy_cz_tn, yy_cz_tz]
theorem yy_X_F {c : yy_CT} (h : yy_FRc c) (y : yy_SV) : yy_FRc (yy_tS (yy_cn c) (some y) (yy_nwS yy_dfS c)) := yy_FRc.nwS h yy_dfS
theorem yy_X_M {c : yy_CT} {m : Nat} (h : yy_RMc c (m + 1)) (y : yy_SV) : yy_RMc (yy_tS (yy_cn c) (some y) (yy_nwS yy_dfS c)) m := yy_RMc.nwS h yy_dfS
theorem yy_X_ov {c : yy_CT} (h : yy_FRc c) (y : yy_SV) (e : xE) : yy_ov (yy_nwO e 4 (yy_tS (yy_cn c) (some y) (yy_nwS yy_dfS c))) (yy_cn c + 1) = some e := by
  have := yy_ov_nwO (yy_X_F h y) e 4
  rw [yy_X_n] at this
  exact this
theorem yy_X_tO (c : yy_CT) (y : yy_SV) (e e' : xE) : yy_tO (yy_cn c + 1) (some e') (yy_nwO e 4 (yy_tS (yy_cn c) (some y) (yy_nwS yy_dfS c))) = yy_nwO e' 4 (yy_tS (yy_cn c) (some y) (yy_nwS yy_dfS c)) := by
  have := yy_tO_nwO (yy_tS (yy_cn c) (some y) (yy_nwS yy_dfS c)) e e' 4
  rw [yy_X_n] at this
  exact this
theorem yy_X_s (c : yy_CT) (y : yy_SV) (e : xE) {b : Nat} (hb : b < yy_cn c) : yy_slv (yy_nwO e 4 (yy_tS (yy_cn c) (some y) (yy_nwS yy_dfS c))) b = yy_slv c b := by
  rw [yy_slv_nwO_ne (by rw [yy_X_n]; omega), yy_slv_tS_ne (by omega), yy_slv_nwS_ne (by omega)]
theorem yy_X_d (c : yy_CT) (y : yy_SV) (e : xE) {b : Nat} (hb : b < yy_cn c) : yy_dcv (yy_nwO e 4 (yy_tS (yy_cn c) (some y) (yy_nwS yy_dfS c))) b = yy_dcv c b := by
  rw [yy_dcv_nwO_ne (by rw [yy_X_n]; omega), yy_dcv_tS_ne (by omega), yy_dcv_nwS_ne (by omega)]
theorem yy_X_o (c : yy_CT) (y : yy_SV) (e : xE) {b : Nat} (hb : b < yy_cn c) : yy_ov (yy_nwO e 4 (yy_tS (yy_cn c) (some y) (yy_nwS yy_dfS c))) b = yy_ov c b := by
  rw [yy_ov_nwO_ne (by rw [yy_X_n]; omega), yy_ov_tS_ne (by omega), yy_ov_nwS_ne (by omega)]
theorem yy_rwb_n (a : Nat) (v : yy_SV) (c : yy_CT) : yy_cn (yy_rwb a v c) = yy_cn c + 1 + 1 ∧ yy_cb (yy_rwb a v c) = yy_cb c ∧ yy_cz (yy_rwb a v c) = yy_cz c + 8 + 4 := by
  unfold yy_rwb yy_nwO yy_nwS
  simp only [yy_cI_tI, yy_cI_tA, yy_cI_tD, yy_cI_tR, yy_cI_tS, yy_cI_tT, yy_cI_tO, yy_cI_tl, yy_cI_tg, yy_cI_tb, yy_cI_tn, yy_cI_tz, yy_cA_tI, yy_cA_tA, yy_cA_tD, yy_cA_tR, yy_cA_tS, yy_cA_tT, yy_cA_tO, yy_cA_tl, yy_cA_tg, yy_cA_tb, yy_cA_tn, yy_cA_tz, yy_cD_tI, yy_cD_tA, yy_cD_tD, yy_cD_tR, yy_cD_tS, yy_cD_tT, yy_cD_tO, yy_cD_tl, yy_cD_tg, yy_cD_tb, yy_cD_tn, yy_cD_tz, yy_cR_tI, yy_cR_tA, yy_cR_tD, yy_cR_tR, yy_cR_tS, yy_cR_tT, yy_cR_tO, yy_cR_tl, yy_cR_tg, yy_cR_tb, yy_cR_tn, yy_cR_tz, yy_cS_tI, yy_cS_tA, yy_cS_tD, yy_cS_tR, yy_cS_tS, yy_cS_tT, yy_cS_tO, yy_cS_tl, yy_cS_tg, yy_cS_tb, yy_cS_tn, yy_cS_tz, yy_cT_tI, yy_cT_tA, yy_cT_tD, yy_cT_tR, yy_cT_tS, yy_cT_tT, yy_cT_tO, yy_cT_tl, yy_cT_tg, yy_cT_tb, yy_cT_tn, yy_cT_tz, yy_cO_tI, yy_cO_tA, yy_cO_tD, yy_cO_tR, yy_cO_tS, yy_cO_tT, yy_cO_tO, yy_cO_tl, yy_cO_tg, yy_cO_tb, yy_cO_tn, yy_cO_tz, yy_cl_tI, yy_cl_tA, yy_cl_tD, yy_cl_tR, yy_cl_tS, yy_cl_tT, yy_cl_tO, yy_cl_tl, yy_cl_tg, yy_cl_tb, yy_cl_tn, yy_cl_tz, yy_cg_tI, yy_cg_tA, yy_cg_tD, yy_cg_tR, yy_cg_tS, yy_cg_tT, yy_cg_tO, yy_cg_tl, yy_cg_tg, yy_cg_tb, yy_cg_tn, yy_cg_tz, yy_cb_tI, yy_cb_tA, yy_cb_tD, yy_cb_tR, yy_cb_tS, yy_cb_tT, yy_cb_tO, yy_cb_tl, yy_cb_tg, yy_cb_tb, yy_cb_tn, yy_cb_tz, yy_cn_tI, yy_cn_tA, yy_cn_tD, yy_cn_tR, yy_cn_tS, yy_cn_tT, yy_cn_tO, yy_cn_tl, yy_cn_tg, yy_cn_tb, yy_cn_tn, yy_cn_tz, yy_cz_tI, yy_cz_tA, yy_cz_tD, yy_cz_tR, yy_cz_tS, yy_cz_tT, yy_cz_tO, yy_cz_tl, yy_cz_tg, yy_cz_tb, yy_cz_tn, yy_cz_tz]
  exact ⟨trivial, trivial, trivial⟩
theorem yy_rwb_k (a : Nat) (v : yy_SV) (c : yy_CT) : (∀ k, yy_cI k (yy_rwb a v c) = yy_cI k c) ∧ (∀ k, yy_cA k (yy_rwb a v c) = yy_cA k c) ∧ (∀ k, yy_cD k (yy_rwb a v c) = yy_cD k c) ∧ (∀ k, yy_cR k (yy_rwb a v c) = yy_cR k c) ∧ yy_cg (yy_rwb a v c) = yy_cg c := by
  unfold yy_rwb yy_nwO yy_nwS
  simp only [yy_cI_tI, yy_cI_tA, yy_cI_tD, yy_cI_tR, yy_cI_tS, yy_cI_tT, yy_cI_tO, yy_cI_tl, yy_cI_tg, yy_cI_tb, yy_cI_tn, yy_cI_tz, yy_cA_tI, yy_cA_tA, yy_cA_tD, yy_cA_tR, yy_cA_tS, yy_cA_tT, yy_cA_tO, yy_cA_tl, yy_cA_tg, yy_cA_tb, yy_cA_tn, yy_cA_tz, yy_cD_tI, yy_cD_tA, yy_cD_tD, yy_cD_tR, yy_cD_tS, yy_cD_tT, yy_cD_tO, yy_cD_tl, yy_cD_tg, yy_cD_tb, yy_cD_tn, yy_cD_tz, yy_cR_tI, yy_cR_tA, yy_cR_tD, yy_cR_tR, yy_cR_tS, yy_cR_tT, yy_cR_tO, yy_cR_tl, yy_cR_tg, yy_cR_tb, yy_cR_tn, yy_cR_tz, yy_cS_tI, yy_cS_tA, yy_cS_tD, yy_cS_tR, yy_cS_tS, yy_cS_tT, yy_cS_tO, yy_cS_tl, yy_cS_tg, yy_cS_tb, yy_cS_tn, yy_cS_tz, yy_cT_tI, yy_cT_tA, yy_cT_tD, yy_cT_tR, yy_cT_tS, yy_cT_tT, yy_cT_tO, yy_cT_tl, yy_cT_tg, yy_cT_tb, yy_cT_tn, yy_cT_tz, yy_cO_tI, yy_cO_tA, yy_cO_tD, yy_cO_tR, yy_cO_tS, yy_cO_tT, yy_cO_tO, yy_cO_tl, yy_cO_tg, yy_cO_tb, yy_cO_tn, yy_cO_tz, yy_cl_tI, yy_cl_tA, yy_cl_tD, yy_cl_tR, yy_cl_tS, yy_cl_tT, yy_cl_tO, yy_cl_tl, yy_cl_tg, yy_cl_tb, yy_cl_tn, yy_cl_tz, yy_cg_tI, yy_cg_tA, yy_cg_tD, yy_cg_tR, yy_cg_tS, yy_cg_tT, yy_cg_tO, yy_cg_tl, yy_cg_tg, yy_cg_tb, yy_cg_tn, yy_cg_tz, yy_cb_tI, yy_cb_tA, yy_cb_tD, yy_cb_tR, yy_cb_tS, yy_cb_tT, yy_cb_tO, yy_cb_tl, yy_cb_tg, yy_cb_tb, yy_cb_tn, yy_cb_tz, yy_cn_tI, yy_cn_tA, yy_cn_tD, yy_cn_tR, yy_cn_tS, yy_cn_tT, yy_cn_tO, yy_cn_tl, yy_cn_tg, yy_cn_tb, yy_cn_tn, yy_cn_tz, yy_cz_tI, yy_cz_tA, yy_cz_tD, yy_cz_tR, yy_cz_tS, yy_cz_tT, yy_cz_tO, yy_cz_tl, yy_cz_tg, yy_cz_tb, yy_cz_tn, yy_cz_tz]
  exact ⟨fun _ => trivial, fun _ => trivial, fun _ => trivial, fun _ => trivial, trivial⟩
theorem yy_e_rewrite0 {sc : xSc} {c : yy_CT} {a b o : Nat} {v w : yy_SV} (hv : yy_slv c a = some v) (hw : yy_slv c b = some w) (hl : xbo w.2.1 = true) (ho : yy_cI 26 c = nI o) (hs : v.2.2.2.2.1 = nI o) : f_P_rewrite sc (yy_cH c) (some 256) (some a) (some b) = some (yy_cH (yy_tS a (some (yy_svc (nI o) w)) c)) := by
  unfold f_P_rewrite f_P_rewrite_b53
  rw [yy_sg4 hv, Option.bind_some, yy_cgI_26, Option.bind_some, ho, hs, if_pos (Int32.le_refl _), if_pos (yy_sgis hv), yy_e_copy hv hw hl, hs]
  rfl
theorem yy_slv_rwc {c : yy_CT} {a o : Nat} {v w : yy_SV} (hL : yy_LOW c) (hv : yy_slv c a = some v) (hF : yy_FRc c) : yy_slv (yy_rwc a o v w c) a = some (yy_svc (nI o) w) ∧ yy_slv (yy_rwc a o v w c) (yy_cn c) = some (yy_svc 0 v) ∧ (∀ b, b < yy_cn c → b ≠ a → yy_slv (yy_rwc a o v w c) b = yy_slv c b) ∧ yy_ov (yy_rwc a o v w c) (yy_cn c + 1) = some (.inl (8, [vR (yy_cl c), vR (some a), vR (some (yy_cn c)), vI v.2.2.2.2.1])) ∧ (∀ b x, b < yy_cn c → yy_dcv c b = some x → yy_dcv (yy_rwc a o v w c) b = some x) ∧ (∀ b x, b < yy_cn c → yy_ov c b = some x → yy_ov (yy_rwc a o v w c) b = some x) ∧ yy_LOW (yy_rwc a o v w c) ∧ yy_FRc (yy_rwc a o v w c) := by
  have ha := hL.s hv
  have s1 : yy_slv (yy_nwS yy_dfS c) (yy_cn c) = some yy_dfS := yy_slv_nwS hF yy_dfS
  have s2 : yy_slv (yy_tS (yy_cn c) (some (yy_svc 0 v)) (yy_nwS yy_dfS c)) (yy_cn c) = some (yy_svc 0 v) := yy_slv_tS s1
  have L2 : yy_LOW (yy_tS (yy_cn c) (some (yy_svc 0 v)) (yy_nwS yy_dfS c)) := (hL.nwS yy_dfS).tS s1 _
  have L4 : yy_LOW (yy_rwb a v c) := L2.nwO _ 4
  obtain ⟨r1, r2, r3⟩ := yy_rwb_n a v c
  have lo : ∀ b, b < yy_cn c → yy_slv (yy_rwb a v c) b = yy_slv c b := fun b hb => yy_X_s c _ _ hb
  have a4 : yy_slv (yy_rwb a v c) a = some v := (lo a ha).trans hv
  have a5 : yy_slv (yy_tl (some (yy_cn c + 1)) (yy_rwb a v c)) a = some v := by rw [yy_slv_tl]; exact a4
  have L5 : yy_LOW (yy_tl (some (yy_cn c + 1)) (yy_rwb a v c)) := fun b hb => by
    rw [yy_cn_tl] at hb
    rw [yy_slv_tl, yy_dcv_tl, yy_ov_tl]
    exact L4 b hb
  have F5 : yy_FRc (yy_tl (some (yy_cn c + 1)) (yy_rwb a v c)) := by
    have h1 := hF.1
    have h2 := hF.2.1
    refine ⟨?_, ?_, fun b hb => ?_⟩
    · rw [yy_cn_tl, r1]
      omega
    · rw [yy_cn_tl, yy_cb_tl, r1, r2]
      omega
    · rw [yy_cl_tl] at hb
      have : b = yy_cn c + 1 := (Option.some.inj hb).symm
      rw [yy_cn_tl, r1]
      omega
  unfold yy_rwc
  refine ⟨yy_slv_tS a5, ?_, fun b hb hba => ?_, ?_, fun b x hb e => ?_, fun b x hb e => ?_, L5.tS a5 _, ?_⟩
  · rw [yy_slv_tS_ne (by omega), yy_slv_tl]
    unfold yy_rwb
    rw [yy_slv_nwO_ne (by rw [yy_X_n]; omega)]
    exact s2
  · rw [yy_slv_tS_ne hba, yy_slv_tl]
    exact lo b hb
  · rw [yy_ov_tS a5, yy_ov_tl]
    exact yy_X_ov hF _ _
  · rw [yy_dcv_tS a5, yy_dcv_tl]
    exact (yy_X_d c _ _ hb).trans e
  · rw [yy_ov_tS a5, yy_ov_tl]
    exact (yy_X_o c _ _ hb).trans e
  · obtain ⟨f1, f2, f3⟩ := F5
    refine ⟨?_, ?_, ?_⟩
    · rw [yy_cn_tS]
      exact f1
    · rw [yy_cn_tS, yy_cb_tS]
      exact f2
    · rw [yy_cl_tS, yy_cn_tS]
      exact f3
theorem yy_e_rewrite1 {sc : xSc} {c : yy_CT} {a b o x m : Nat} {v w : yy_SV} (hab : b ≠ a) (hL : yy_LOW c) (hF : yy_FRc c) (hm : yy_RMc c (m + 2)) (hv : yy_slv c a = some v) (hw : yy_slv c b = some w) (hl : xbo w.2.1 = true) (hlv : xbo v.2.1 = true) (ho : yy_cI 26 c = nI o) (hs : v.2.2.2.2.1 = nI x) (hx : x < o) (h3 : o ≤ 3) : f_P_rewrite sc (yy_cH c) (some 256) (some a) (some b) = some (yy_cH (yy_rwc a o v w c)) := by
  have ha := hL.s hv
  have hb := hL.s hw
  have s1 : yy_slv (yy_nwS yy_dfS c) (yy_cn c) = some yy_dfS := yy_slv_nwS hF yy_dfS
  have sa : yy_slv (yy_nwS yy_dfS c) a = some v := (yy_slv_nwS_ne (by omega)).trans hv
  have e := yy_e_newS (sc := sc) (c := c) (m := m + 1) hF hm
  have F2 := yy_X_F hF (yy_svc 0 v)
  have M2 := yy_X_M hm (yy_svc 0 v)
  have sa3 : ∀ e, yy_slv (yy_nwO e 4 (yy_tS (yy_cn c) (some (yy_svc 0 v)) (yy_nwS yy_dfS c))) a = some v := fun e => (yy_X_s c _ e ha).trans hv
  have sb3 : ∀ e, yy_slv (yy_nwO e 4 (yy_tS (yy_cn c) (some (yy_svc 0 v)) (yy_nwS yy_dfS c))) b = some w := fun e => (yy_X_s c _ e hb).trans hw
  have o3 : ∀ e, yy_cI 26 (yy_nwO e 4 (yy_tS (yy_cn c) (some (yy_svc 0 v)) (yy_nwS yy_dfS c))) = nI o := fun e => by
    unfold yy_nwO yy_nwS
    simp only [yy_cI_tI, yy_cI_tA, yy_cI_tD, yy_cI_tR, yy_cI_tS, yy_cI_tT, yy_cI_tO, yy_cI_tl, yy_cI_tg, yy_cI_tb, yy_cI_tn, yy_cI_tz, yy_cA_tI, yy_cA_tA, yy_cA_tD, yy_cA_tR, yy_cA_tS, yy_cA_tT, yy_cA_tO, yy_cA_tl, yy_cA_tg, yy_cA_tb, yy_cA_tn, yy_cA_tz, yy_cD_tI, yy_cD_tA, yy_cD_tD, yy_cD_tR, yy_cD_tS, yy_cD_tT, yy_cD_tO, yy_cD_tl, yy_cD_tg, yy_cD_tb, yy_cD_tn, yy_cD_tz, yy_cR_tI, yy_cR_tA, yy_cR_tD, yy_cR_tR, yy_cR_tS, yy_cR_tT, yy_cR_tO, yy_cR_tl, yy_cR_tg, yy_cR_tb, yy_cR_tn, yy_cR_tz, yy_cS_tI, yy_cS_tA, yy_cS_tD, yy_cS_tR, yy_cS_tS, yy_cS_tT, yy_cS_tO, yy_cS_tl, yy_cS_tg, yy_cS_tb, yy_cS_tn, yy_cS_tz, yy_cT_tI, yy_cT_tA, yy_cT_tD, yy_cT_tR, yy_cT_tS, yy_cT_tT, yy_cT_tO, yy_cT_tl, yy_cT_tg, yy_cT_tb, yy_cT_tn, yy_cT_tz, yy_cO_tI, yy_cO_tA, yy_cO_tD, yy_cO_tR, yy_cO_tS, yy_cO_tT, yy_cO_tO, yy_cO_tl, yy_cO_tg, yy_cO_tb, yy_cO_tn, yy_cO_tz, yy_cl_tI, yy_cl_tA, yy_cl_tD, yy_cl_tR, yy_cl_tS, yy_cl_tT, yy_cl_tO, yy_cl_tl, yy_cl_tg, yy_cl_tb, yy_cl_tn, yy_cl_tz, yy_cg_tI, yy_cg_tA, yy_cg_tD, yy_cg_tR, yy_cg_tS, yy_cg_tT, yy_cg_tO, yy_cg_tl, yy_cg_tg, yy_cg_tb, yy_cg_tn, yy_cg_tz, yy_cb_tI, yy_cb_tA, yy_cb_tD, yy_cb_tR, yy_cb_tS, yy_cb_tT, yy_cb_tO, yy_cb_tl, yy_cb_tg, yy_cb_tb, yy_cb_tn, yy_cb_tz, yy_cn_tI, yy_cn_tA, yy_cn_tD, yy_cn_tR, yy_cn_tS, yy_cn_tT, yy_cn_tO, yy_cn_tl, yy_cn_tg, yy_cn_tb, yy_cn_tn, yy_cn_tz, yy_cz_tI, yy_cz_tA, yy_cz_tD, yy_cz_tR, yy_cz_tS, yy_cz_tT, yy_cz_tO, yy_cz_tl, yy_cz_tg, yy_cz_tb, yy_cz_tn, yy_cz_tz]
    exact ho
  have l3 : ∀ e, yy_cl (yy_nwO e 4 (yy_tS (yy_cn c) (some (yy_svc 0 v)) (yy_nwS yy_dfS c))) = yy_cl c := fun e => by
    unfold yy_nwO yy_nwS
    simp only [yy_cI_tI, yy_cI_tA, yy_cI_tD, yy_cI_tR, yy_cI_tS, yy_cI_tT, yy_cI_tO, yy_cI_tl, yy_cI_tg, yy_cI_tb, yy_cI_tn, yy_cI_tz, yy_cA_tI, yy_cA_tA, yy_cA_tD, yy_cA_tR, yy_cA_tS, yy_cA_tT, yy_cA_tO, yy_cA_tl, yy_cA_tg, yy_cA_tb, yy_cA_tn, yy_cA_tz, yy_cD_tI, yy_cD_tA, yy_cD_tD, yy_cD_tR, yy_cD_tS, yy_cD_tT, yy_cD_tO, yy_cD_tl, yy_cD_tg, yy_cD_tb, yy_cD_tn, yy_cD_tz, yy_cR_tI, yy_cR_tA, yy_cR_tD, yy_cR_tR, yy_cR_tS, yy_cR_tT, yy_cR_tO, yy_cR_tl, yy_cR_tg, yy_cR_tb, yy_cR_tn, yy_cR_tz, yy_cS_tI, yy_cS_tA, yy_cS_tD, yy_cS_tR, yy_cS_tS, yy_cS_tT, yy_cS_tO, yy_cS_tl, yy_cS_tg, yy_cS_tb, yy_cS_tn, yy_cS_tz, yy_cT_tI, yy_cT_tA, yy_cT_tD, yy_cT_tR, yy_cT_tS, yy_cT_tT, yy_cT_tO, yy_cT_tl, yy_cT_tg, yy_cT_tb, yy_cT_tn, yy_cT_tz, yy_cO_tI, yy_cO_tA, yy_cO_tD, yy_cO_tR, yy_cO_tS, yy_cO_tT, yy_cO_tO, yy_cO_tl, yy_cO_tg, yy_cO_tb, yy_cO_tn, yy_cO_tz, yy_cl_tI, yy_cl_tA, yy_cl_tD, yy_cl_tR, yy_cl_tS, yy_cl_tT, yy_cl_tO, yy_cl_tl, yy_cl_tg, yy_cl_tb, yy_cl_tn, yy_cl_tz, yy_cg_tI, yy_cg_tA, yy_cg_tD, yy_cg_tR, yy_cg_tS, yy_cg_tT, yy_cg_tO, yy_cg_tl, yy_cg_tg, yy_cg_tb, yy_cg_tn, yy_cg_tz, yy_cb_tI, yy_cb_tA, yy_cb_tD, yy_cb_tR, yy_cb_tS, yy_cb_tT, yy_cb_tO, yy_cb_tl, yy_cb_tg, yy_cb_tb, yy_cb_tn, yy_cb_tz, yy_cn_tI, yy_cn_tA, yy_cn_tD, yy_cn_tR, yy_cn_tS, yy_cn_tT, yy_cn_tO, yy_cn_tl, yy_cn_tg, yy_cn_tb, yy_cn_tn, yy_cn_tz, yy_cz_tI, yy_cz_tA, yy_cz_tD, yy_cz_tR, yy_cz_tS, yy_cz_tT, yy_cz_tO, yy_cz_tl, yy_cz_tg, yy_cz_tb, yy_cz_tn, yy_cz_tz]
  unfold f_P_rewrite
  rw [yy_sg4 hv, Option.bind_some, yy_cgI_26, Option.bind_some, ho, hs, if_neg (fun z => by rw [yy_nI_le (by omega) (by omega)] at z; omega)]
  simp only [Option.isSome_some, ↓reduceIte, yy_cH_nx]
  rw [← Option.bind_assoc, e, Option.bind_some, if_pos (yy_sgis s1), yy_e_copy s1 sa hlv, Option.bind_some]
  simp only [yy_cH_nx]
  rw [show yy_svc yy_dfS.2.2.2.2.1 v = yy_svc 0 v from rfl, yy_X_n]
  rw [show nO 8 4 4 (yy_cH (yy_tS (yy_cn c) (some (yy_svc 0 v)) (yy_nwS yy_dfS c))) = some (xnew (yy_cH (yy_tS (yy_cn c) (some (yy_svc 0 v)) (yy_nwS yy_dfS c))) (.inl (8, xdef 8 4)) 4) from if_pos (yy_RMc.xrm M2 (by decide)), yy_x_nwO F2, Option.bind_some, yy_cgR_28, Option.bind_some, yy_sg4 (sa3 _), Option.bind_some, l3]
  unfold f_Rewritten_init
  rw [if_pos (show (some (yy_cn c + 1)).isSome = true from rfl), show f_Record_init (some (yy_cn c + 1)) = some () from rfl, Option.bind_some, yy_op_pV (yy_X_ov hF _ _), yy_X_tO, Option.bind_some, yy_op_pV (yy_X_ov hF _ _), yy_X_tO, Option.bind_some, yy_op_pV (yy_X_ov hF _ _), yy_X_tO, Option.bind_some, yy_op_pV (yy_X_ov hF _ _), yy_X_tO, Option.bind_some, Option.bind_some, yy_cpR_28, Option.bind_some, yy_cgI_26, Option.bind_some, yy_cI_tl, o3]
  have key : ∀ E, yy_slv (yy_tl (some (yy_cn c + 1)) (yy_nwO E 4 (yy_tS (yy_cn c) (some (yy_svc 0 v)) (yy_nwS yy_dfS c)))) a = some v := fun E => by rw [yy_slv_tl]; exact sa3 E
  have kb : ∀ E, yy_slv (yy_tl (some (yy_cn c + 1)) (yy_nwO E 4 (yy_tS (yy_cn c) (some (yy_svc 0 v)) (yy_nwS yy_dfS c)))) b = some w := fun E => by rw [yy_slv_tl]; exact sb3 E
  rw [yy_sp4 (key _), Option.bind_some]
  unfold f_P_rewrite_b53
  rw [if_pos (yy_sgis (yy_slv_tS (key _))), yy_e_copy (yy_slv_tS (key _)) (b := b) (w := w) (by rw [yy_slv_tS_ne hab]; exact kb _) hl, yy_tS_tS, Option.bind_some]
  rfl

theorem yy_LG_mk {g : yy_GT} {c : yy_CT} (hL : yy_LOW c) : ∀ {L : List yy_LGE} {r m : Option Nat}, yy_LG g c r L m → (∀ b, r = some b → b < yy_cn c) → ∀ b, m = some b → b < yy_cn c
  | [], _, _, h, hr, b, hb => by
    have e : _ = _ := h
    rw [← e] at hb
    exact hr b hb
  | .inl _ :: _, _, _, h, _, b, hb => by
    obtain ⟨a, old, x, w, h1, h2, h3, _⟩ := h
    have := hL.o h3
    have := h2 b hb
    omega
  | .inr _ :: _, _, _, h, _, b, hb => by
    obtain ⟨a, x, h1, h2, h3, _⟩ := h
    have := hL.o h3
    have := h2 b hb
    omega
/-- the ghosts after a noted change -/
def yy_grw (a A B : Nat) (v : yy_SV) (g : yy_GT) : yy_GT := (va_up g.1 A (4, B), g.2.1, g.2.2.1, g.2.2.2.1, g.2.2.2.2.1, match g.2.2.2.2.2 with
  | [] => []
  | e :: E => (e.1, e.2.1, .inl (a, v) :: e.2.2.1, e.2.2.2) :: E)
theorem yy_RR_wr1 {g : yy_GT} {m : Nat} {c : yy_CT} {s : MT} {t nd o n a p0 x : Nat} {v w : yy_SV} {q : Int32 × Int64 × UInt64} (h : yy_RR g (m + 2) c s t nd o n) (hh : yy_HOME g c t nd a p0) (hv : yy_slv c a = some v) (hlv : xbo v.2.1 = true) (hw : yy_VR g c s t nd o w q) (hs : v.2.2.2.2.1 = nI x) (hx : x < o) : yy_RR (yy_grw a (yy_cn c) (yy_cn c + 1) v g) m (yy_rwc a o v w c) (yy_sP p0 q s) t nd o n := by
  have ht := h.tk.1
  have hp := hh.lt ht h.di.1.2
  have hL0 := h.1.2.1
  obtain ⟨w1, w2, w3, w4, w5, w6, w7, w8⟩ := yy_slv_rwc (o := o) (w := w) hL0 hv h.1.1
  obtain ⟨r1, r2, r3⟩ := yy_rwb_n a v c
  obtain ⟨k1, k2, k3, k4, k5⟩ := yy_rwb_k a v c
  have cnr : yy_cn (yy_rwc a o v w c) = yy_cn c + 1 + 1 := by
    unfold yy_rwc
    rw [yy_cn_tS, yy_cn_tl, r1]
  have czr : yy_cz (yy_rwc a o v w c) = yy_cz c + 8 + 4 := by
    unfold yy_rwc
    rw [yy_cz_tS, yy_cz_tl, r3]
  have clr : yy_cl (yy_rwc a o v w c) = some (yy_cn c + 1) := by
    unfold yy_rwc
    rw [yy_cl_tS, yy_cl_tl]
  have gow' : ∀ b, b < yy_cn c → yy_gow (yy_grw a (yy_cn c) (yy_cn c + 1) v g) b = yy_gow g b := fun b hb => va_up_ne _ _ (by omega)
  have hR : ∀ k, yy_cR k (yy_rwc a o v w c) = yy_cR k c := fun k => by
    unfold yy_rwc
    rw [yy_cR_tS, yy_cR_tl, k4]
  have k : yy_KY t a p0 g c s (yy_grw a (yy_cn c) (yy_cn c + 1) v g) (yy_rwc a o v w c) (yy_sP p0 q s) := ⟨⟨rfl, Nat.le_refl _, hh.tag, fun b hb _ => gow' b hb⟩, ⟨by rw [cnr]; omega, hp.2⟩, fun b hb _ hba => w3 b hb hba, w5, w6, ⟨fun k _ => hR k, fun i _ => by rw [hR]⟩, fun p _ _ _ hp => by rw [yy_pl_sP, if_neg hp], fun k hk => va_up_ne _ _ (by omega), fun k hk => va_up_ne _ _ (by omega)⟩
  have ko : yy_KO t g (yy_grw a (yy_cn c) (yy_cn c + 1) v g) c := fun b hb e => by rw [gow' b hb]; exact e
  have hlen := h.2.2.2.2.2.1.1
  have ha := hL0.s hv
  refine yy_RR_wr h hh (yy_VR_svc (nI o) hw) (Nat.le_refl o) rfl k ko w1 w8 w7 ?_ (fun b hb => ⟨gow' b hb, fun e => w3 b hb e⟩) (fun k => by unfold yy_rwc; rw [yy_cI_tS, yy_cI_tl, k1]) (by unfold yy_rwc; rw [yy_cg_tS, yy_cg_tl, k5]) hR (fun k => by unfold yy_rwc; rw [yy_cA_tS, yy_cA_tl, k2]) (fun k => by unfold yy_rwc; rw [yy_cD_tS, yy_cD_tl, k3]) (by unfold yy_rwc; rw [yy_cb_tS, yy_cb_tl, r2]) rfl rfl ?_ (fun sn hS => ?_)
  · have hM := h.1.2.2
    have e1 := hM.1
    have e2 := hM.2
    refine ⟨?_, ?_⟩
    · rw [cnr]
      show yy_cn c + 1 + 1 + (m + (41 - yy_ghS g) + (160 - yy_ghC g) + (120 - yy_ghD g)) ≤ _
      omega
    · rw [czr]
      show yy_cz c + 8 + 4 + 16 * (m + (41 - yy_ghS g) + (160 - yy_ghC g) + (120 - yy_ghD g)) ≤ _
      omega
  · rw [← hlen.2]
    unfold yy_gsv yy_grw
    dsimp only
    cases g.2.2.2.2.2 <;> rfl
  · cases hE : yy_gsv g with
    | nil =>
      rw [hE] at hlen
      have : o = 0 := hlen.2.symm
      omega
    | cons e E =>
      have hE' : yy_gsv (yy_grw a (yy_cn c) (yy_cn c + 1) v g) = (e.1, e.2.1, .inl (a, v) :: e.2.2.1, e.2.2.2) :: E := by
        unfold yy_gsv yy_grw
        dsimp only
        rw [show g.2.2.2.2.2 = e :: E from hE]
      rw [hE]at hS hlen
      rw [hE', clr]
      have ho : E.length + 1 = o := by
        rw [← hlen.2]
        rfl
      obtain ⟨y, q1, t1, mk, h1, h2, h3, h4, h5, h6, h7, h8, h9, h10, h11, h12, h13, h14⟩ := hS
      have rel : ∀ b, yy_REL (yy_rwc a o v w c) e.2.1 t1 e.2.2.2 b → yy_REL c e.2.1 t1 e.2.2.2 b := fun b hb => yy_REL_KY hL0 k h13 h12.1 hb
      have rlt : ∀ b, yy_REL c e.2.1 t1 e.2.2.2 b → b < yy_cn c := fun b hb => by
        rcases hb with ⟨i, g1, g2⟩ | ⟨d, y, v, L, ee, g1, g2, g3, g4, g5, g6⟩
        · obtain ⟨x, v, p1, p2, p3, p4, p5, p6⟩ := h12.2 i g1
          rw [g2] at p1
          cases p1
          exact p2
        · obtain ⟨x, r, f, L2, p1, p2, p3, p4, p5, p6, p7, p8⟩ := h13.2.2 d g1
          rw [g2] at p1
          cases p1
          rw [g3] at p2
          cases p2
          have := yy_CH_inj g4 p6
          subst this
          obtain ⟨i, hi⟩ := List.getElem?_of_mem g5
          rw [← g6]
          exact (p8 i ee hi).2.1
      have hlk : ∀ b, yy_lk b (.inl (a, v) :: e.2.2.1) = (yy_lk b e.2.2.1).or (if a = b then some v else none) := fun b => rfl
      refine ⟨y, q1, t1, mk, by rw [hR]; exact h1, w6 _ _ (hL0.o h2) h2, h3, h4, h5, h6, h7, ⟨yy_cn c + 1, yy_cn c, yy_cl c, yy_svc 0 v, rfl, fun b hb => ?_, w4, w2, va_up_self _ _ _, rfl, hlv, by rw [cnr]; show a < yy_cn c + 1 + 1; omega, ?_, yy_LG_KY hL0 k ko h8⟩, fun b hb => ?_, fun d b hd hb => ?_, fun b v' hb hv' hq => ?_, yy_RCe_KY k (fun _ _ _ _ z => z) (by omega) (by omega) (by omega) (by omega) h12, yy_RDi_KY hL0 k (fun _ _ _ _ z => z) (fun _ _ z => z) (by omega) (by omega) h13, yy_RSv_KY hL0 k ko (by omega) (by omega) (by omega) (fun _ _ _ _ z => z) (fun _ _ _ z => z) (fun _ _ z => z) h14⟩
      · have := yy_LG_mk hL0 h8 h.1.1.2.2 b hb
        omega
      · rw [gow' a ha]
        exact hh.tag
      · have hb' := rel b hb
        show e.1 b = (yy_lk b (.inl (a, v) :: e.2.2.1)).or (yy_slv (yy_rwc a o v w c) b)
        rw [hlk, h9 b hb']
        by_cases z : b = a
        · subst z
          rw [if_pos rfl, hv]
          cases yy_lk b e.2.2.1 <;> rfl
        · rw [if_neg (fun y => z y.symm), w3 b (rlt b hb') z]
          cases yy_lk b e.2.2.1 <;> rfl
      · rw [hR] at hb
        obtain ⟨v', g1, g2, g3⟩ := h10 d b hd hb
        exact ⟨v', w5 _ _ (hL0.d g1) g1, yy_FO_KY (L := .inl (a, v) :: e.2.2.1) hL0 k g2, g3⟩
      · have hb' := rel b hb
        show (yy_lk b (.inl (a, v) :: e.2.2.1)).isSome = true
        rw [hlk]
        by_cases z : b = a
        · subst z
          rw [if_pos rfl]
          cases yy_lk b e.2.2.1 <;> rfl
        · rw [if_neg (fun y => z y.symm)]
          have hv2 : yy_slv (yy_rwc a o v w c) b = some v' := hv'
          rw [w3 b (rlt b hb') z] at hv2
          have := h11 b v' hb' hv2 hq
          cases hq2 : yy_lk b e.2.2.1 with
          | none =>
            rw [hq2] at this
            cases this
          | some y => rfl
