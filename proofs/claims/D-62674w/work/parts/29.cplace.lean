/-! a place on the stack -/
theorem cH_nx (c : CT) : (cH c).2.1 = cn c := rfl
def dfS : SV := (some 72, 0, 0, 0, 0, 0, none, none)
theorem e_newS {sc : xSc} {c : CT} {m : Nat} (h : FRc c) (hm : RMc c (m + 1)) : (nO 2 8 8 (cH c)).bind (fun u => f_Slot_init sc u (some (cn c))) = some (cH (nwS dfS c)) := by
  rw [show nO 2 8 8 (cH c) = some (xnew (cH c) (.inl (2, slV (none, 0, 0, 0, 0, 0, none, none))) 8) from if_pos (RMc.xrm hm (by decide)), x_nwS h]
  dsimp only [Option.bind_some]
  unfold f_Slot_init
  rw [if_pos (show (some (cn c)).isSome = true from rfl), sp0 (slv_nwS h _)]
  dsimp only [Option.bind_some]
  refine congrArg some (congrArg cH ?_)
  show tS (cn c) _ (tn _ (tz _ (tS (cn c) _ c))) = _
  show tn _ (tz _ (tS (cn c) _ (tS (cn c) _ c))) = _
  rw [tS_tS]
  rfl
theorem e_place_some {sc : xSc} {c : CT} {n k a : Nat} (h9 : cI 9 c = nI n) (hk : k ≤ n) (hn : n ≤ 41) (hj : n - k < 40) (ha : cR 269 c (n - k) = some a) : f_P_place sc (cH c) (some 256) (nI k) = some (.inl (some a), cH (tI 9 (nI (n - k + 1)) c)) := by
  unfold f_P_place
  rw [cgI_9]
  dsimp only [Option.bind_some]
  rw [h9, nI_sub hk, if_neg (fun q => by rw [show (40 : Int32) = nI 40 from rfl, nI_le (by decide) (by omega)] at q; omega)]
  unfold f_P_place_b17
  rw [if_pos (cis_P _ _), e_need1, p_tBl, cgI_9]
  dsimp only [Option.bind_some]
  rw [h9, nI_sub hk, cpI_9]
  dsimp only [Option.bind_some]
  rw [cgR_6]
  dsimp only [Option.bind_some]
  rw [cgI_9]
  dsimp only [Option.bind_some]
  rw [cI_tI, if_pos rfl, caR_269 (by omega)]
  dsimp only [Option.bind_some]
  rw [cR_tI, ha, if_neg (by simp)]
  unfold f_P_place_b59
  rw [cgI_9]
  dsimp only [Option.bind_some]
  rw [cI_tI, if_pos rfl, cpI_9]
  dsimp only [Option.bind_some]
  rw [cgR_6]
  dsimp only [Option.bind_some]
  rw [cgI_9]
  dsimp only [Option.bind_some]
  rw [cI_tI, if_pos rfl, nI_add1, nI_sub1 (by omega), Nat.add_sub_cancel, caR_269 (by omega)]
  dsimp only [Option.bind_some]
  rw [cR_tI, cR_tI, ha, tI_tI]
def plN (c : CT) (j : Nat) : CT := tI 9 (nI (j + 1)) (tR 269 (va_up (cR 269 c) j (some (cn c))) (nwS dfS (tI 9 (nI j) c)))
theorem e_place_none {sc : xSc} {c : CT} {n k m : Nat} (hF : FRc c) (hm : RMc c (m + 1)) (h9 : cI 9 c = nI n) (hk : k ≤ n) (hn : n ≤ 41) (hj : n - k < 40) (ha : cR 269 c (n - k) = none) : f_P_place sc (cH c) (some 256) (nI k) = some (.inl (some (cn c)), cH (plN c (n - k))) := by
  unfold f_P_place
  rw [cgI_9]
  dsimp only [Option.bind_some]
  rw [h9, nI_sub hk, if_neg (fun q => by rw [show (40 : Int32) = nI 40 from rfl, nI_le (by decide) (by omega)] at q; omega)]
  unfold f_P_place_b17
  rw [if_pos (cis_P _ _), e_need1, p_tBl, cgI_9]
  dsimp only [Option.bind_some]
  rw [h9, nI_sub hk, cpI_9]
  dsimp only [Option.bind_some]
  rw [cgR_6]
  dsimp only [Option.bind_some]
  rw [cgI_9]
  dsimp only [Option.bind_some]
  rw [cI_tI, if_pos rfl, caR_269 (by omega)]
  dsimp only [Option.bind_some]
  rw [cR_tI, ha, if_pos rfl]
  simp only [Option.isSome_some, ↓reduceIte, cH_nx, cn_tI]
  have e := e_newS (sc := sc) (c := tI 9 (nI (n - k)) c) (m := m) hF hm
  rw [← Option.bind_assoc]
  rw [cn_tI] at e
  rw [e]
  dsimp only [Option.bind_some]
  rw [cbR_269 (by omega) (Or.inr (sgis (a := cn c) (slv_nwS (c := tI 9 (nI (n - k)) c) hF dfS)))]
  dsimp only [Option.bind_some]
  unfold f_P_place_b59
  rw [cgI_9]
  dsimp only [Option.bind_some]
  rw [show cI 9 (tR 269 (va_up (cR 269 (nwS dfS (tI 9 (nI (n - k)) c))) (n - k) (some (cn c))) (nwS dfS (tI 9 (nI (n - k)) c))) = nI (n - k) from rfl, cpI_9]
  dsimp only [Option.bind_some]
  rw [cgR_6]
  dsimp only [Option.bind_some]
  rw [cgI_9]
  dsimp only [Option.bind_some]
  rw [cI_tI, if_pos rfl, nI_add1, nI_sub1 (by omega), Nat.add_sub_cancel, caR_269 (by omega)]
  dsimp only [Option.bind_some]
  rw [cR_tI, cR_tR, if_pos rfl, va_up_self]
  rfl
theorem e_place_full {sc : xSc} {c : CT} {m : Nat} (hF : FRc c) (hm : RMc c (m + 1)) (h9 : cI 9 c = nI 40) : f_P_place sc (cH c) (some 256) 0 = some (.inr (cn c), cH (thr 2 c)) := by
  unfold f_P_place
  rw [cgI_9]
  dsimp only [Option.bind_some]
  rw [h9, if_pos (by decide)]
  unfold f_P_place_b17
  rw [if_pos (cis_P _ _), e_need0 2 hF hm]
  rfl
