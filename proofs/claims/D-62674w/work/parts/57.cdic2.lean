theorem yy_VR_dic {g : yy_GT} {c : yy_CT} {s : MT} {t nd o x a : Nat} (hx : x < nd) (ha : yy_cR 273 c x = some a) (z y : Int32) (d : UInt64) (nm : Option Nat) (d' : UInt64) : yy_VR g c s t nd o (some 78, 0, nI x, z, y, d, nm, some a) (6, Int64.ofNat x, d') :=
  ⟨6, 0, by decide, Or.inl rfl, rfl, rfl, rfl, x, a, hx, rfl, rfl, ha, rfl⟩
theorem yy_nI_64 {x : Nat} (h : x < 2147483648) : (nI x).toInt64 = Int64.ofNat x := by
  rw [← Int64.toInt_inj, Int32.toInt_toInt64, yy_nI_toInt h, yy_i64_toInt (by omega)]
/-- a dict is given on both sides -/
theorem yy_O_dict {g : yy_GT} {m : Nat} {c : yy_CT} {s : MT} {t nd o n k x b : Nat} (sc : xSc) (h : yy_RR g m c s t nd o n) (hk : k ≤ n) (hj : n - k < 40) (hx : x < nd) (hb : yy_cR 273 c x = some b) :
    ∃ g' c', f_P_giveDict sc (yy_cH c) (some 256) (nI k) (some b) = some (.inl (), yy_cH c') ∧ yy_RR g' m c' (yy_sP (n - k) (6, Int64.ofNat x, FP.dconst0) (sI 4 (nI (n - k + 1)) s)) t nd o (n - k + 1) ∧ yy_KP g c s g' c' (yy_sP (n - k) (6, Int64.ofNat x, FP.dconst0) (sI 4 (nI (n - k + 1)) s)) ∧ yy_cI 18 c' = yy_cI 18 c := by
  obtain ⟨b', r, f, L, e1, e2, _⟩ := h.di.2.2 x hx
  rw [hb] at e1
  cases e1
  obtain ⟨g', c', a, v, p1, p2, p3, p4, p5, p18, p6⟩ := yy_R_place sc h hk hj
  obtain ⟨r1, r2⟩ := p6 (some 78, 0, nI x, 0, v.2.2.2.2.1, v.2.2.2.2.2.1, v.2.2.2.2.2.2.1, some b) (6, Int64.ofNat x, FP.dconst0) (yy_VR_dic hx hb _ _ _ _ _)
  refine ⟨g', _, ?_, r1, r2, p18⟩
  unfold f_P_giveDict
  rw [p_gI (yy_dcv_a e2) rfl, Option.bind_some, if_pos (yy_cis_P _ _), yy_e_give p1 p2, p_tBl, if_pos (yy_cis_P _ _), show (0 : Int32) = nI 0 from rfl, yy_e_at (c := yy_tS a _ c') (n := n - k + 1) p5 (by omega) (by omega), Option.bind_some, show n - k + 1 - 1 - 0 = n - k by omega, yy_cR_tS, p4, yy_sp7 (yy_slv_tS p2), yy_tS_tS, Option.bind_some]
theorem yy_O_currentdict {rc : rcE} {sc : xSc} {g : yy_GT} {m : Nat} {c : yy_CT} {s : MT} {t nd o n : Nat} {d : Int32} (h : yy_RR g (m + 1) c s t nd o n) : yy_OPS m c s (f_P_operate rc sc (yy_cH c) (some 256) (some 51) d) (f_M_operate s 49) := by
  have hn := h.le40
  obtain ⟨k, k1, k2, k3⟩ := h.ds
  have k14 : yy_cI 14 c = nI k := h.2.1.2.2.2.1.trans k2
  obtain ⟨x, b, x1, x2, x3, x4⟩ := k3 (k - 1) (by omega)
  have x7 : x < 7 := by
    have := h.di.1.2
    omega
  refine yy_OP_head (gr := 3) 49 [] h (yy_OPc_of _ rfl) (by decide) (by decide) (yy_pat h.tb (j := 12) (by decide)) (by simp) (by decide) (fun _ => ?_)
  rw [show yy_alls s (n - 1) [] = true from rfl, if_pos rfl, yy_e_b96_3, yy_Cp_51, yy_H337, yy_tB_id, yy_Dp_51 k14 k1.1 k1.2, x4, if_pos (yy_cis_P _ _), yy_H391, yy_tB_id, yy_oth_is 49 rfl (yy_dsp_dic (by decide)), yy_Mb_49, k2, yy_nI_sub1 (by omega), if_pos (yy_xin_nI' (by omega) (by decide)), yy_nI_c (by omega), x2, yy_nI_64 (by omega), yy_bind_id]
  rcases Nat.lt_or_ge n 40 with e | e
  · exact yy_O_done (by
      obtain ⟨g', c', r1, r2, r3, r4⟩ := yy_O_dict sc h (Nat.zero_le n) (by omega) x1 x3
      exact ⟨g', c', r1, r2.less (by omega), r3, r4⟩) (yy_e_Mpush 6 _ h.2.1.1 e)
  · have e40 : n = 40 := by omega
    subst e40
    obtain ⟨b', r, f, L, e1, e2, _⟩ := h.di.2.2 x x1
    rw [x3] at e1
    cases e1
    refine yy_O_fail 2 h (by decide) (by decide) ?_ (yy_e_Mpush40 6 _ h.2.1.1)
    unfold f_P_giveDict
    rw [p_gI (yy_dcv_a e2) rfl, Option.bind_some, if_pos (yy_cis_P _ _), yy_e_give40 h.1.1 h.room h.nine]
    rfl
theorem yy_O_known {rc : rcE} {sc : xSc} {g : yy_GT} {m : Nat} {c : yy_CT} {s : MT} {t nd o n : Nat} {d : Int32} (h : yy_RR g (m + 1) c s t nd o n) : yy_OPS m c s (f_P_operate rc sc (yy_cH c) (some 256) (some 50) d) (f_M_operate s 48) := by
  have hn := h.le40
  obtain ⟨k, k1, k2, k3⟩ := h.ds
  have k14 : yy_cI 14 c = nI k := h.2.1.2.2.2.1.trans k2
  refine yy_OP_head (gr := 3) 48 [4, 7] h (yy_OPc_of _ rfl) (by decide) (by decide) (yy_pat h.tb (j := 11) (by decide)) (by decide) (by decide) (fun hr => ?_)
  have hr : 2 ≤ n := hr
  obtain ⟨b, w, b1, b2, b3, b4⟩ := h.val (show n - 1 < n by omega)
  obtain ⟨a, v, a1, a2, a3, a4⟩ := h.val (show n - 2 < n by omega)
  have fail : f_Holders_dicts_b353 sc (some 256) (some a) (some b) (some 256) (yy_cH c) = some (.inr (yy_cn c), yy_cH (yy_thr 3 c)) := by
    unfold f_Holders_dicts_b353 f_Holders_dicts_b354
    rw [if_pos (yy_cis_P _ _), yy_e_type0 h.1.1 h.room]
    rfl
  rw [yy_alls2, show n - 1 - 1 = n - 2 by omega, b4.sk (j := 3) (by decide) (by decide) (by decide), a4.sk (j := 6) (by decide) (by decide) (by decide), yy_e_b96_3, show yy_opA c n [4, 7].length = yy_cR 269 c (n - 2) from yy_opA_1 c n 1, a1, show yy_opB c n [4, 7].length = yy_cR 269 c (n - 2 + 1) from yy_opB_2 c n 0, show n - 2 + 1 = n - 1 by omega, b1, yy_Cp_50, yy_H337, yy_tB_id, yy_Dp_50 k14 k1.1 k1.2, if_pos (yy_sgis a2), yy_e_is a2 _ a4.cm rfl, Option.bind_some]
  by_cases hv : v.1 = some 78
  · rw [if_pos hv, if_neg (show ¬ (1 : Int32) = 0 by decide), if_pos (yy_sgis b2), yy_e_is b2 _ b4.cm rfl, Option.bind_some]
    by_cases hw : w.1 = some 75
    · obtain ⟨x, y, x1, x2, x3, x4, x5, x6⟩ := a4.dict hv
      obtain ⟨p, p1, p2⟩ := b4.name hw
      have x7 : x < 7 := by
        have := h.di.1.2
        omega
      obtain ⟨y', r, f, L, e1, e2, _⟩ := h.di.2.2 x x1
      rw [x4] at e1
      cases e1
      rw [if_pos hw, if_neg (show ¬ (1 : Int32) = 0 by decide), if_pos (show _ = true by rw [decide_eq_true (show v.1 = some (72 + 6) from hv), decide_eq_true (show w.1 = some (72 + 3) from hw)]; rfl), yy_oth_is 48 rfl (yy_dsp_dic (by decide)), yy_Mb_48, h.2.1.1, yy_nI_sub1 (by omega), yy_nI_sub1 (by omega), show n - 1 - 1 = n - 2 by omega, if_pos (yy_xin_nI' (by omega) (by decide)), if_pos (yy_xin_nI' (by omega) (by decide)), yy_nI_c (by omega), yy_nI_c (by omega), show mL 2 s (n - 2) = Int64.ofNat x from x3, yy_i64_nI (by omega)]
      unfold f_Holders_dicts_b354
      rw [if_pos (yy_cis_P _ _), yy_e_type1, p_tBl, yy_sg7 a2, Option.bind_some, yy_sg6 b2, Option.bind_some, x5, p1, if_pos (p_xis (yy_dcv_a e2))]
      have tr : ∀ B : Prop, [Decidable B] → yy_OPS m c s (f_Holders_dicts_b378 sc (if B then 1 else 0) 2 (some 256) (yy_cH c)) (f_M_dictOperator_b214 (if B then 1 else 0) 2 2 s) := fun B _ => by
        unfold f_Holders_dicts_b378 f_M_dictOperator_b214
        rw [if_pos (yy_cis_P _ _), yy_H391, yy_tB_id, yy_bind_id]
        exact yy_O_truth sc (h.less (by omega)) hr (by decide) B
      rcases yy_D_find sc h x1 x4 p2 with ⟨e, v', j, f1, f2, f3, f4, f5, f6⟩ | ⟨f1, f2⟩
      · rw [f1, Option.bind_some, if_neg (by simp), show mL 2 s (n - 1) = (yy_pl s (n - 1)).2.1 from rfl, f2, Option.bind_some]
        show yy_OPS m c s _ (if nI (250 + (yy_bs x + j)) = -1 then _ else _)
        rw [if_neg]
        · exact tr True
        · intro z
          have := congrArg Int32.toInt z
          rw [yy_nI_toInt (by omega), show (-1 : Int32).toInt = -1 from by decide] at this
          omega
      · rw [f1, Option.bind_some, if_pos rfl, show mL 2 s (n - 1) = (yy_pl s (n - 1)).2.1 from rfl, f2, Option.bind_some]
        show yy_OPS m c s _ (if (-1 : Int32) = -1 then _ else _)
        rw [if_pos rfl]
        exact tr False
    · rw [if_neg hw, if_pos rfl, fail, if_neg (fun z => hw (by rw [Bool.and_eq_true, decide_eq_true_eq, decide_eq_true_eq] at z; exact z.1))]
      exact yy_O_fail 3 h (by decide) (by decide) rfl rfl
  · rw [if_neg hv, if_pos rfl, fail, if_neg (fun z => hv (by rw [Bool.and_eq_true, decide_eq_true_eq, decide_eq_true_eq] at z; exact z.2))]
    exact yy_O_fail 3 h (by decide) (by decide) rfl rfl
theorem yy_e_found0 {sc : xSc} {c : yy_CT} {m : Nat} (hF : yy_FRc c) (hm : yy_RMc c (m + 1)) (a : Option Nat) : f_P_found sc (yy_cH c) (some 256) a none = some (.inr (yy_cn c), yy_cH (yy_thr 5 c)) := by
  unfold f_P_found f_P_found_b10
  rw [if_pos rfl, if_pos (yy_cis_P _ _), yy_e_need0 5 hF hm]
  rfl
theorem yy_e_found {sc : xSc} {c : yy_CT} {a b : Nat} {v w : yy_SV} (ha : yy_slv c a = some v) (hb : yy_slv c b = some w) (hl : xbo w.2.1 = true) : f_P_found sc (yy_cH c) (some 256) (some a) (some b) = some (.inl (), yy_cH (yy_tS a (some (yy_svc v.2.2.2.2.1 w)) c)) := by
  unfold f_P_found f_P_found_b10
  rw [if_neg (by simp), if_pos (yy_cis_P _ _), yy_e_need1, p_tBl, if_neg (by simp), if_pos (yy_sgis ha), yy_e_copy ha hb hl]
  rfl
theorem yy_O_load {rc : rcE} {sc : xSc} {g : yy_GT} {m : Nat} {c : yy_CT} {s : MT} {t nd o n : Nat} {d : Int32} (h : yy_RR g (m + 1) c s t nd o n) : yy_OPS m c s (f_P_operate rc sc (yy_cH c) (some 256) (some 49) d) (f_M_operate s 47) := by
  have hn := h.le40
  obtain ⟨k, k1, k2, k3⟩ := h.ds
  have k14 : yy_cI 14 c = nI k := h.2.1.2.2.2.1.trans k2
  refine yy_OP_head (gr := 3) 47 [4] h (yy_OPc_of _ rfl) (by decide) (by decide) (yy_pat h.tb (j := 10) (by decide)) (by decide) (by decide) (fun hr => ?_)
  have hr : 1 ≤ n := hr
  obtain ⟨a, v, a1, a2, a3, a4⟩ := h.val (show n - 1 < n by omega)
  rw [yy_alls1, a4.sk (j := 3) (by decide) (by decide) (by decide), yy_e_b96_3, show yy_opA c n [4].length = yy_cR 269 c (n - 1) from yy_opA_1 c n 0, a1, yy_Cp_49, yy_H337, yy_tB_id, yy_Dp_49 k14 k1.1 k1.2, if_pos (yy_sgis a2), yy_e_is a2 _ a4.cm rfl, Option.bind_some, if_pos (yy_cis_P _ _)]
  by_cases hv : v.1 = some 75
  · obtain ⟨p, p1, p2⟩ := a4.name hv
    rw [if_pos hv, if_pos (decide_eq_true hv), yy_e_type1, p_tBl, yy_sg6 a2, Option.bind_some, p1, if_pos (yy_cis_P _ _), yy_oth_is 47 rfl (yy_dsp_dic (by decide)), yy_Mb_47, h.2.1.1, yy_nI_sub1 hr, if_pos (yy_xin_nI' (by omega) (by decide)), yy_nI_c (by omega), show mL 2 s (n - 1) = (yy_pl s (n - 1)).2.1 from rfl]
    rcases yy_P_find sc h p2 with ⟨e, v', j, f1, f2, f3, f4, f5, f6⟩ | ⟨f1, f2⟩
    · rw [f1, Option.bind_some, if_pos (yy_cis_P _ _), yy_e_found a2 f3 f5.live, p_tBl, f2, Option.bind_some]
      show yy_OPS m c s _ (if nI (250 + j) = -1 then _ else (f_M_move s (nI (n - 1)) (nI (250 + j))).bind _)
      rw [if_neg, yy_e_Mmove (by omega) (by omega), Option.bind_some]
      · exact yy_O_done (g := g) ⟨g, _, rfl, (yy_R_setS h (show n - 1 < n by omega) a1 a2 (yy_VR_svc _ f5)).less (by omega), (yy_KP_tS a2 a3 _).trans (yy_KP_sP g _ s _ (Or.inl (by omega))), rfl⟩ rfl
      · intro z
        have := congrArg Int32.toInt z
        rw [yy_nI_toInt (by omega), show (-1 : Int32).toInt = -1 from by decide] at this
        omega
    · rw [f1, Option.bind_some, if_pos (yy_cis_P _ _), yy_e_found0 h.1.1 h.room, f2, Option.bind_some]
      exact yy_O_fail 5 h (by decide) (by decide) rfl rfl
  · rw [if_neg hv, if_neg (by rw [decide_eq_false hv]; decide), yy_e_type0 h.1.1 h.room]
    exact yy_O_fail 3 h (by decide) (by decide) rfl rfl
