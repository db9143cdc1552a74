/-! a place on the stack -/
theorem y_cH_nx (c : y_CT) : (y_cH c).2.1 = y_cn c := rfl
def y_dfS : y_SV := (some 72, 0, 0, 0, 0, 0, none, none)
theorem y_e_newS {sc : xSc} {c : y_CT} {m : Nat} (h : y_FRc c) (hm : y_RMc c (m + 1)) : (nO 2 8 8 (y_cH c)).bind (fun u => f_Slot_init sc u (some (y_cn c))) = some (y_cH (y_nwS y_dfS c)) := by
  rw [show nO 2 8 8 (y_cH c) = some (xnew (y_cH c) (.inl (2, y_slV (none, 0, 0, 0, 0, 0, none, none))) 8) from if_pos (y_RMc.xrm hm (by decide)), y_x_nwS h]
  dsimp only [Option.bind_some]
  unfold f_Slot_init
  rw [if_pos (show (some (y_cn c)).isSome = true from rfl), y_sp0 (y_slv_nwS h _)]
  dsimp only [Option.bind_some]
  refine congrArg some (congrArg y_cH ?_)
  show y_tS (y_cn c) _ (y_tn _ (y_tz _ (y_tS (y_cn c) _ c))) = _
  show y_tn _ (y_tz _ (y_tS (y_cn c) _ (y_tS (y_cn c) _ c))) = _
  rw [y_tS_tS]
  rfl
theorem y_e_place_some {sc : xSc} {c : y_CT} {n k a : Nat} (h9 : y_cI 9 c = nI n) (hk : k ≤ n) (hn : n ≤ 41) (hj : n - k < 40) (ha : y_cR 269 c (n - k) = some a) : f_P_place sc (y_cH c) (some 256) (nI k) = some (.inl (some a), y_cH (y_tI 9 (nI (n - k + 1)) c)) := by
  unfold f_P_place
  rw [y_cgI_9]
  dsimp only [Option.bind_some]
  rw [h9, y_nI_sub hk, if_neg (fun q => by rw [show (40 : Int32) = nI 40 from rfl, y_nI_le (by decide) (by omega)] at q; omega)]
  unfold f_P_place_b17
  rw [if_pos (y_cis_P _ _), y_e_need1, p_tBl, y_cgI_9]
  dsimp only [Option.bind_some]
  rw [h9, y_nI_sub hk, y_cpI_9]
  dsimp only [Option.bind_some]
  rw [y_cgR_6]
  dsimp only [Option.bind_some]
  rw [y_cgI_9]
  dsimp only [Option.bind_some]
  rw [y_cI_tI, if_pos rfl, y_caR_269 (by omega)]
  dsimp only [Option.bind_some]
  rw [y_cR_tI, ha, if_neg (by simp)]
  unfold f_P_place_b59
  rw [y_cgI_9]
  dsimp only [Option.bind_some]
  rw [y_cI_tI, if_pos rfl, y_cpI_9]
  dsimp only [Option.bind_some]
  rw [y_cgR_6]
  dsimp only [Option.bind_some]
  rw [y_cgI_9]
  dsimp only [Option.bind_some]
  rw [y_cI_tI, if_pos rfl, y_nI_add1, y_nI_sub1 (by omega), Nat.add_sub_cancel, y_caR_269 (by omega)]
  dsimp only [Option.bind_some]
  rw [y_cR_tI, y_cR_tI, ha, y_tI_tI]
def y_plN (c : y_CT) (j : Nat) : y_CT := y_tI 9 (nI (j + 1)) (y_tR 269 (va_up (y_cR 269 c) j (some (y_cn c))) (y_nwS y_dfS (y_tI 9 (nI j) c)))
theorem y_e_place_none {sc : xSc} {c : y_CT} {n k m : Nat} (hF : y_FRc c) (hm : y_RMc c (m + 1)) (h9 : y_cI 9 c = nI n) (hk : k ≤ n) (hn : n ≤ 41) (hj : n - k < 40) (ha : y_cR 269 c (n - k) = none) : f_P_place sc (y_cH c) (some 256) (nI k) = some (.inl (some (y_cn c)), y_cH (y_plN c (n - k))) := by
  unfold f_P_place
  rw [y_cgI_9]
  dsimp only [Option.bind_some]
  rw [h9, y_nI_sub hk, if_neg (fun q => by rw [show (40 : Int32) = nI 40 from rfl, y_nI_le (by decide) (by omega)] at q; omega)]
  unfold f_P_place_b17
  rw [if_pos (y_cis_P _ _), y_e_need1, p_tBl, y_cgI_9]
  dsimp only [Option.bind_some]
  rw [h9, y_nI_sub hk, y_cpI_9]
  dsimp only [Option.bind_some]
  rw [y_cgR_6]
  dsimp only [Option.bind_some]
  rw [y_cgI_9]
  dsimp only [Option.bind_some]
  rw [y_cI_tI, if_pos rfl, y_caR_269 (by omega)]
  dsimp only [Option.bind_some]
  rw [y_cR_tI, ha, if_pos rfl]
  simp only [Option.isSome_some, ↓reduceIte, y_cH_nx, y_cn_tI]
  have e := y_e_newS (sc := sc) (c := y_tI 9 (nI (n - k)) c) (m := m) hF hm
  rw [← Option.bind_assoc]
  rw [y_cn_tI] at e
  rw [e]
  dsimp only [Option.bind_some]
  rw [y_cbR_269 (by omega) (Or.inr (y_sgis (a := y_cn c) (y_slv_nwS (c := y_tI 9 (nI (n - k)) c) hF y_dfS)))]
  dsimp only [Option.bind_some]
  unfold f_P_place_b59
  rw [y_cgI_9]
  dsimp only [Option.bind_some]
  rw [show y_cI 9 (y_tR 269 (va_up (y_cR 269 (y_nwS y_dfS (y_tI 9 (nI (n - k)) c))) (n - k) (some (y_cn c))) (y_nwS y_dfS (y_tI 9 (nI (n - k)) c))) = nI (n - k) from rfl, y_cpI_9]
  dsimp only [Option.bind_some]
  rw [y_cgR_6]
  dsimp only [Option.bind_some]
  rw [y_cgI_9]
  dsimp only [Option.bind_some]
  rw [y_cI_tI, if_pos rfl, y_nI_add1, y_nI_sub1 (by omega), Nat.add_sub_cancel, y_caR_269 (by omega)]
  dsimp only [Option.bind_some]
  rw [y_cR_tI, y_cR_tR, if_pos rfl, va_up_self]
  rfl
theorem y_e_place_full {sc : xSc} {c : y_CT} {m : Nat} (hF : y_FRc c) (hm : y_RMc c (m + 1)) (h9 : y_cI 9 c = nI 40) : f_P_place sc (y_cH c) (some 256) 0 = some (.inr (y_cn c), y_cH (y_thr 2 c)) := by
  unfold f_P_place
  rw [y_cgI_9]
  dsimp only [Option.bind_some]
  rw [h9, if_pos (by decide)]
  unfold f_P_place_b17
  rw [if_pos (y_cis_P _ _), y_e_need0 2 hF hm]
  rfl
