/-! a place on the stack -/
theorem yy_cH_nx (c : yy_CT) : (yy_cH c).2.1 = yy_cn c := rfl
def yy_dfS : yy_SV := (some 72, 0, 0, 0, 0, 0, none, none)
theorem yy_e_newS {sc : xSc} {c : yy_CT} {m : Nat} (h : yy_FRc c) (hm : yy_RMc c (m + 1)) : (nO 2 8 8 (yy_cH c)).bind (fun u => f_Slot_init sc u (some (yy_cn c))) = some (yy_cH (yy_nwS yy_dfS c)) := by
  rw [show nO 2 8 8 (yy_cH c) = some (xnew (yy_cH c) (.inl (2, yy_slV (none, 0, 0, 0, 0, 0, none, none))) 8) from if_pos (yy_RMc.xrm hm (by decide)), yy_x_nwS h]
  dsimp only [Option.bind_some]
  unfold f_Slot_init
  rw [if_pos (show (some (yy_cn c)).isSome = true from rfl), yy_sp0 (yy_slv_nwS h _)]
  dsimp only [Option.bind_some]
  refine congrArg some (congrArg yy_cH ?_)
  show yy_tS (yy_cn c) _ (yy_tn _ (yy_tz _ (yy_tS (yy_cn c) _ c))) = _
  show yy_tn _ (yy_tz _ (yy_tS (yy_cn c) _ (yy_tS (yy_cn c) _ c))) = _
  rw [yy_tS_tS]
  rfl
theorem yy_e_place_some {sc : xSc} {c : yy_CT} {n k a : Nat} (h9 : yy_cI 9 c = nI n) (hk : k ≤ n) (hn : n ≤ 41) (hj : n - k < 40) (ha : yy_cR 269 c (n - k) = some a) : f_P_place sc (yy_cH c) (some 256) (nI k) = some (.inl (some a), yy_cH (yy_tI 9 (nI (n - k + 1)) c)) := by
  unfold f_P_place
  rw [yy_cgI_9]
  dsimp only [Option.bind_some]
  rw [h9, yy_nI_sub hk, if_neg (fun q => by rw [show (40 : Int32) = nI 40 from rfl, yy_nI_le (by decide) (by omega)] at q; omega)]
  unfold f_P_place_b17
  rw [if_pos (yy_cis_P _ _), yy_e_need1, p_tBl, yy_cgI_9]
  dsimp only [Option.bind_some]
  rw [h9, yy_nI_sub hk, yy_cpI_9]
  dsimp only [Option.bind_some]
  rw [yy_cgR_6]
  dsimp only [Option.bind_some]
  rw [yy_cgI_9]
  dsimp only [Option.bind_some]
  rw [yy_cI_tI, if_pos rfl, yy_caR_269 (by omega)]
  dsimp only [Option.bind_some]
  rw [yy_cR_tI, ha, if_neg (by simp)]
  unfold f_P_place_b59
  rw [yy_cgI_9]
  dsimp only [Option.bind_some]
  rw [yy_cI_tI, if_pos rfl, yy_cpI_9]
  dsimp only [Option.bind_some]
  rw [yy_cgR_6]
  dsimp only [Option.bind_some]
  rw [yy_cgI_9]
  dsimp only [Option.bind_some]
  rw [yy_cI_tI, if_pos rfl, yy_nI_add1, yy_nI_sub1 (by omega), Nat.add_sub_cancel, yy_caR_269 (by omega)]
  dsimp only [Option.bind_some]
  rw [yy_cR_tI, yy_cR_tI, ha, yy_tI_tI]
def yy_plN (c : yy_CT) (j : Nat) : yy_CT := yy_tI 9 (nI (j + 1)) (yy_tR 269 (va_up (yy_cR 269 c) j (some (yy_cn c))) (yy_nwS yy_dfS (yy_tI 9 (nI j) c)))
theorem yy_e_place_none {sc : xSc} {c : yy_CT} {n k m : Nat} (hF : yy_FRc c) (hm : yy_RMc c (m + 1)) (h9 : yy_cI 9 c = nI n) (hk : k ≤ n) (hn : n ≤ 41) (hj : n - k < 40) (ha : yy_cR 269 c (n - k) = none) : f_P_place sc (yy_cH c) (some 256) (nI k) = some (.inl (some (yy_cn c)), yy_cH (yy_plN c (n - k))) := by
  unfold f_P_place
  rw [yy_cgI_9]
  dsimp only [Option.bind_some]
  rw [h9, yy_nI_sub hk, if_neg (fun q => by rw [show (40 : Int32) = nI 40 from rfl, yy_nI_le (by decide) (by omega)] at q; omega)]
  unfold f_P_place_b17
  rw [if_pos (yy_cis_P _ _), yy_e_need1, p_tBl, yy_cgI_9]
  dsimp only [Option.bind_some]
  rw [h9, yy_nI_sub hk, yy_cpI_9]
  dsimp only [Option.bind_some]
  rw [yy_cgR_6]
  dsimp only [Option.bind_some]
  rw [yy_cgI_9]
  dsimp only [Option.bind_some]
  rw [yy_cI_tI, if_pos rfl, yy_caR_269 (by omega)]
  dsimp only [Option.bind_some]
  rw [yy_cR_tI, ha, if_pos rfl]
  simp only [Option.isSome_some, ↓reduceIte, yy_cH_nx, yy_cn_tI]
  have e := yy_e_newS (sc := sc) (c := yy_tI 9 (nI (n - k)) c) (m := m) hF hm
  rw [← Option.bind_assoc]
  rw [yy_cn_tI] at e
  rw [e]
  dsimp only [Option.bind_some]
  rw [yy_cbR_269 (by omega) (Or.inr (yy_sgis (a := yy_cn c) (yy_slv_nwS (c := yy_tI 9 (nI (n - k)) c) hF yy_dfS)))]
  dsimp only [Option.bind_some]
  unfold f_P_place_b59
  rw [yy_cgI_9]
  dsimp only [Option.bind_some]
  rw [show yy_cI 9 (yy_tR 269 (va_up (yy_cR 269 (yy_nwS yy_dfS (yy_tI 9 (nI (n - k)) c))) (n - k) (some (yy_cn c))) (yy_nwS yy_dfS (yy_tI 9 (nI (n - k)) c))) = nI (n - k) from rfl, yy_cpI_9]
  dsimp only [Option.bind_some]
  rw [yy_cgR_6]
  dsimp only [Option.bind_some]
  rw [yy_cgI_9]
  dsimp only [Option.bind_some]
  rw [yy_cI_tI, if_pos rfl, yy_nI_add1, yy_nI_sub1 (by omega), Nat.add_sub_cancel, yy_caR_269 (by omega)]
  dsimp only [Option.bind_some]
  rw [yy_cR_tI, yy_cR_tR, if_pos rfl, va_up_self]
  rfl
theorem yy_e_place_full {sc : xSc} {c : yy_CT} {m : Nat} (hF : yy_FRc c) (hm : yy_RMc c (m + 1)) (h9 : yy_cI 9 c = nI 40) : f_P_place sc (yy_cH c) (some 256) 0 = some (.inr (yy_cn c), yy_cH (yy_thr 2 c)) := by
  unfold f_P_place
  rw [yy_cgI_9]
  dsimp only [Option.bind_some]
  rw [h9, if_pos (by decide)]
  unfold f_P_place_b17
  rw [if_pos (yy_cis_P _ _), yy_e_need0 2 hF hm]
  rfl
