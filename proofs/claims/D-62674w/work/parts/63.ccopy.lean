/-! copy -/
theorem yy_copy_loop {sc : xSc} {m t nd o t0 M : Nat} (hM : M ≤ t0) (h40 : t0 + M ≤ 40) : ∀ (r k f : Nat) (g : yy_GT) (c : yy_CT) (s : MT), k + r = M → yy_RR g m c (sI 4 (nI (t0 + k)) s) t nd o (t0 + k) →
    ∃ g' c' s', f_Stacks_copy_b73 sc (f + r + 1) (some 256) (nI M) (nI k) (yy_cH c) = some (.inl (), yy_cH c') ∧ f_M_stackOperator_b187 (f + r + 1) (nI t0) (nI M).toInt64 (nI k) s = some (0, s') ∧ yy_RR g' m c' s' t nd o (t0 + M) ∧ yy_KP g c (sI 4 (nI (t0 + k)) s) g' c' s' ∧ yy_cI 18 c' = yy_cI 18 c
  | 0, k, f, g, c, s, hk, h => by
    have e : k = M := by omega
    subst e
    refine ⟨g, c, sI 4 (nI (t0 + k)) s, ?_, ?_, h, yy_KP.refl _ _ _, rfl⟩
    · show (if nI k ≤ nI k then _ else _) = _
      rw [if_pos (by rw [yy_nI_le (by omega) (by omega)]; omega)]
    · show (if 0 ≤ lg_cmp (nI k).toInt64 (nI k).toInt64 then _ else _) = _
      rw [if_pos (yy_lgc_ge.mpr (by rw [yy_i64_le, yy_nI_le (by omega) (by omega)]; omega)), Int32.toInt32_toInt64, yy_nI_add]
  | r + 1, k, f, g, c, s, hk, h => by
    obtain ⟨b, w, b1, b2, b3, b4⟩ := h.val (show t0 + k - M < t0 + k by omega)
    obtain ⟨g1, c1, e1, e2, e3, e4⟩ := yy_O_push sc h (by omega) b2 b4
    have st : yy_sP (t0 + k) (yy_pl (sI 4 (nI (t0 + k)) s) (t0 + k - M)) (sI 4 (nI (t0 + k + 1)) (sI 4 (nI (t0 + k)) s)) = sI 4 (nI (t0 + (k + 1))) (yy_sP (t0 + k) (yy_pl s (t0 + k - M)) s) := by
      rw [yy_sI_sI, yy_sI_sP]
      rfl
    rw [st] at e2 e3
    obtain ⟨g2, c2, s2, f1, f2, f3, f4, f5⟩ := yy_copy_loop hM h40 r (k + 1) f g1 c1 _ (by omega) e2
    refine ⟨g2, c2, s2, ?_, ?_, f3, e3.trans f4, f5.trans e4⟩
    · show (if nI M ≤ nI k then _ else _) = _
      rw [if_neg (fun z => by rw [yy_nI_le (by omega) (by omega)] at z; omega), if_pos (yy_cis_P _ _), yy_nI_sub1 (by omega), yy_e_at h.nine (by omega) (by omega), Option.bind_some, show t0 + k - 1 - (M - 1) = t0 + k - M by omega, b1, if_pos (yy_cis_P _ _), e1, p_tBl, show Int32.ofInt 1 = 1 from rfl, yy_nI_add1]
      exact f1
    · show (if 0 ≤ lg_cmp (nI k).toInt64 (nI M).toInt64 then _ else _) = _
      rw [if_neg (fun z => by have := (yy_i64_le _ _).mp (yy_lgc_ge.mp z); rw [yy_nI_le (by omega) (by omega)] at this; omega), yy_nI_add, Int32.toInt32_toInt64, yy_nI_sub (by omega), yy_e_Mmove (by omega) (by omega), Option.bind_some, show Int32.ofInt 1 = 1 from rfl, yy_nI_add1]
      exact f2
theorem yy_O_copy {rc : rcE} {sc : xSc} {g : yy_GT} {m : Nat} {c : yy_CT} {s : MT} {t nd o n : Nat} {d : Int32} (h : yy_RR g (m + 1) c s t nd o n) : yy_OPS m c s (f_P_operate rc sc (yy_cH c) (some 256) (some 3) d) (f_M_operate s 3) := by
  have hn := h.le40
  refine yy_OP_head (gr := 0) 3 [1] h (yy_OPc_of _ rfl) (by decide) (by decide) rfl (by decide) (by decide) (fun hr => ?_)
  have hr : 1 ≤ n := hr
  obtain ⟨a, v, a1, a2, a3, a4⟩ := h.val (show n - 1 < n by omega)
  rw [yy_alls1, a4.sk (j := 0) (by decide) (by decide) (by decide), yy_oth_stk 3 rfl (Or.inl (by decide)), yy_e_Mstk 3 h.2.1.1 hn (by omega), yy_e_b96_0, show yy_opA c n [1].length = yy_cR 269 c (n - 1) from yy_opA_1 c n 0, a1, yy_Cp_3, yy_Mb_3, show (fun (_ : Unit) (u : xH) => f_Stacks_perform_b240 sc u) = fun _ u => some (.inl (), u) from rfl, yy_tB_id]
  unfold f_Stacks_copy
  rw [if_pos (yy_sgis a2), yy_e_is a2 _ a4.cm rfl, Option.bind_some, if_pos (yy_cis_P _ _)]
  by_cases hv : v.1 = some 72
  · rw [if_pos hv, if_pos (decide_eq_true hv), yy_e_type1, p_tBl, yy_sg2 a2, Option.bind_some]
    obtain ⟨i1, i2, i3⟩ := a4.int hv
    have fail : f_Stacks_copy_b33 sc (some 256) v.2.2.1 (some 256) (yy_cH c) = some (.inr (yy_cn c), yy_cH (yy_thr 4 c)) := by
      unfold f_Stacks_copy_b33 f_Stacks_copy_b34
      rw [if_pos (yy_cis_P _ _), yy_e_need0 4 h.1.1 h.room]
      rfl
    rw [i1]
    by_cases h0 : v.2.2.1 < 0
    · rw [if_pos h0, if_pos (yy_lgc_lt.mpr ((yy_i64_lt0 _).mpr h0)), fail]
      exact yy_O_fail 4 h (by decide) (by decide) rfl rfl
    · rw [if_neg h0, if_neg (fun e => h0 ((yy_i64_lt0 _).mp (yy_lgc_lt.mp e))), yy_cgI_9, Option.bind_some, h.nine]
      by_cases h1 : nI n ≤ v.2.2.1
      · rw [if_pos h1, fail, if_neg (fun e => by have := (yy_i64_le _ _).mp (yy_lgc_le.mp e); rw [Int32.le_iff_toInt_le, yy_nI_toInt (by omega)] at this h1; omega)]
        exact yy_O_fail 4 h (by decide) (by decide) rfl rfl
      · obtain ⟨M, M1, M2⟩ := yy_i32_nat (N := n) h0 (by rw [Int32.le_iff_toInt_le] at h1; rw [Int32.lt_iff_toInt_lt]; omega) (by omega)
        rw [if_neg h1, M1, if_pos (yy_lgc_le.mpr ((yy_i64_le _ _).mpr (by rw [yy_nI_le (by omega) (by omega)]; omega)))]
        unfold f_Stacks_copy_b34
        rw [if_pos (yy_cis_P _ _), yy_e_need1, p_tBl, yy_cgI_9, Option.bind_some, h.nine, yy_nI_sub1 hr, yy_nI_add]
        unfold f_Stacks_copy_b57
        have a64 := yy_add_64 (nI (n - 1)) (nI M)
        rw [yy_nI_toInt (by omega), yy_nI_toInt (by omega)] at a64
        have e40 : (40 : Int64).toInt = 40 := by decide
        by_cases h2 : n - 1 + M ≤ 40
        · rw [if_neg (fun z => by rw [show (40 : Int32) = nI 40 from rfl, yy_nI_lt (by omega) (by omega)] at z; omega), if_pos (show lg_cmp ((nI (n - 1)).toInt64 + (nI M).toInt64) 40 ≤ 0 from yy_lgc_le.mpr (by rw [Int64.le_iff_toInt_le]; omega)), if_pos (yy_cis_P _ _), yy_e_need1, p_tBl, yy_cgI_9, Option.bind_some, h.nine, yy_nI_sub1 hr, yy_cpI_9, Option.bind_some]
          have r0 := yy_R_top h (n' := n - 1) (by omega)
          obtain ⟨g2, c2, s2, f1, f2, f3, f4, f5⟩ := yy_copy_loop (sc := sc) (M := M) (t0 := n - 1) (by omega) h2 M 0 (mF - M - 1) g (yy_tI 9 (nI (n - 1)) c) s (by omega) r0
          rw [show mF - M - 1 + M + 1 = mF by unfold mF; omega, show nI 0 = 0 from rfl] at f1 f2
          rw [f1, f2]
          exact yy_O_done (g := g) ⟨g2, c2, rfl, f3.less (by omega), ((yy_KP_t9 g c s _).trans (yy_KP_s4 g _ s _)).trans f4, f5⟩ rfl
        · rw [if_pos (by rw [show (40 : Int32) = nI 40 from rfl, yy_nI_lt (by omega) (by omega)]; omega), if_neg (show ¬ lg_cmp ((nI (n - 1)).toInt64 + (nI M).toInt64) 40 ≤ 0 from fun z => by have := yy_lgc_le.mp z; rw [Int64.le_iff_toInt_le] at this; omega), if_pos (yy_cis_P _ _), yy_e_need0 2 h.1.1 h.room]
          exact yy_O_fail 2 h (by decide) (by decide) rfl rfl
  · rw [if_neg hv, if_neg (by rw [decide_eq_false hv]; decide), yy_e_type0 h.1.1 h.room]
    exact yy_O_fail 3 h (by decide) (by decide) rfl rfl

/-! aload -/
theorem yy_spread_loop {sc : xSc} {m t nd o t0 x z l : Nat} {s : MT} {dd : UInt64} (h40 : t0 + z < 40) (hx : x ≤ 160) (hz : z ≤ 160) (hl : l ≤ 1) (hv : yy_VA s t o x z) : ∀ (r k f : Nat) (g : yy_GT) (c : yy_CT) (s1 : MT), k + r = z → yy_RR g m c s1 t nd o (t0 + k) → yy_KM s s1 → (∀ i, i < k → yy_pl s1 (t0 + i) = yy_pl s (50 + (x + i))) → (∀ i, i < t0 → yy_pl s1 i = yy_pl s i) →
    ∃ g' c' s2, f_Holders_spread_b64 sc (f + r + 1) (some 256) (nI x) (nI z) (nI l) (nI k) (yy_cH c) = some (.inl (), yy_cH c') ∧ yy_RR g' m c' s2 t nd o (t0 + z + 1) ∧ yy_KP g c s1 g' c' s2 ∧ yy_KM s s2 ∧ (∀ i, i < z → yy_pl s2 (t0 + i) = yy_pl s (50 + (x + i))) ∧ (∀ i, i < t0 → yy_pl s2 i = yy_pl s i) ∧ yy_pl s2 (t0 + z) = (nI (5 + 8 * l), Int64.ofNat (x + 1024 * z), dd) ∧ yy_cI 18 c' = yy_cI 18 c
  | 0, k, f, g, c, s1, hk, h, km, hp, hq => by
    have e : k = z := by omega
    subst e
    have m14 := km.2.1 14 (by decide)
    obtain ⟨g', c', a, v, p1, p2, p3, p4, p5, p18, p6⟩ := yy_R_place sc h (Nat.zero_le _) (by omega)
    obtain ⟨r1, r2⟩ := p6 (some 77, nI l, nI x, nI k, v.2.2.2.2.1, v.2.2.2.2.2.1, v.2.2.2.2.2.2.1, v.2.2.2.2.2.2.2) (nI (5 + 8 * l), Int64.ofNat (x + 1024 * k), dd) (yy_VR_arr hx hz hl (yy_VA_cong m14 hv) _ _ _ _ _)
    rw [Nat.sub_zero] at r1 r2 p4 p5
    refine ⟨g', _, _, ?_, r1, r2, km.trans (yy_KM.of r2), fun i hi => ?_, fun i hi => ?_, ?_, p18⟩
    · show (if nI k ≤ nI k then _ else _) = _
      rw [if_pos (by rw [yy_nI_le (by omega) (by omega)]; omega), if_pos (yy_cis_P _ _), show (0 : Int32) = nI 0 from rfl, yy_e_give p1 p2, p_tBl, if_pos (yy_cis_P _ _), yy_e_at (c := yy_tS a _ c') (n := t0 + k + 1) p5 (by omega) (by omega), Option.bind_some, show t0 + k + 1 - 1 - 0 = t0 + k by omega, yy_cR_tS, p4, if_pos (yy_sgis (yy_slv_tS p2)), yy_e_set (yy_slv_tS p2) _ _ _ _ (by rcases (by omega : l = 0 ∨ l = 1) with z | z <;> rw [z] <;> rfl), yy_tS_tS]
      rfl
    · rw [yy_pl_sP, if_neg (by omega), yy_pl_sI]
      exact hp i hi
    · rw [yy_pl_sP, if_neg (by omega), yy_pl_sI]
      exact hq i hi
    · rw [yy_pl_sP, if_pos rfl]
  | r + 1, k, f, g, c, s1, hk, h, km, hp, hq => by
    have m14 := km.2.1 14 (by decide)
    obtain ⟨e, u, c1, c2, c3, c4, c5⟩ := h.cell (yy_VA_cong m14 hv) (show k < z by omega)
    obtain ⟨t1, t2, t3⟩ := h.tk
    have hpl : yy_pl s1 (50 + (x + k)) = yy_pl s (50 + (x + k)) := km.1 _ (by omega) (by omega)
    obtain ⟨g1, c1', e1, e2, e3, e4⟩ := yy_O_push sc h (by omega) c2 c4
    obtain ⟨g2, c2', s2, f1, f2, f3, f4, f5, f6, f7, f8⟩ := yy_spread_loop h40 hx hz hl hv r (k + 1) f g1 c1' _ (by omega) e2 (km.trans (yy_KM.of e3)) (fun i hi => by
      rw [yy_pl_sP, yy_pl_sI]
      by_cases q : i = k
      · rw [if_pos (by omega), hpl, q]
      · rw [if_neg (by omega)]
        exact hp i (by omega)) (fun i hi => by
      rw [yy_pl_sP, yy_pl_sI, if_neg (by omega)]
      exact hq i hi)
    refine ⟨g2, c2', s2, ?_, f2, e3.trans f3, f4, f5, f6, f7, f8.trans e4⟩
    show (if nI z ≤ nI k then _ else _) = _
    rw [if_neg (fun q => by rw [yy_nI_le (by omega) (by omega)] at q; omega), yy_cgR_7, Option.bind_some, yy_nI_add, yy_caR_270 (by omega), Option.bind_some, c1, if_pos (yy_cis_P _ _), e1, p_tBl, show Int32.ofInt 1 = 1 from rfl, yy_nI_add1]
    exact f1
/-- the model's load: cells from x on are moved to the stack from t0 on -/
theorem yy_load_e {x z t0 n : Nat} (hx : x ≤ 160) (hz : z ≤ 160) (h40 : t0 + z < 41) (hxz : x + z ≤ 160 ∨ z = 0) : ∀ (r k f : Nat) (s : MT), k + r = z → mI 4 s = nI n → ∃ s', f_M_load_b39 (f + r + 1) (Int64.ofNat (x + 1024 * z)) (nI z) (nI t0) (nI k) s = some (0, s') ∧ yy_KM s s' ∧ mI 4 s' = nI (n + z) ∧ (∀ i, k ≤ i → i < z → yy_pl s' (t0 + i) = yy_pl s (50 + (x + i))) ∧ (∀ p, p < 50 → ¬ (t0 + k ≤ p ∧ p < t0 + z) → yy_pl s' p = yy_pl s p)
  | 0, k, f, s, hk, h4 => by
    refine ⟨sI 4 (nI (n + z)) s, ?_, (yy_KM.refl s).s4 _, rfl, fun i h1 h2 => by omega, fun p _ _ => rfl⟩
    show (if nI z ≤ nI k then _ else _) = _
    rw [if_pos (by rw [yy_nI_le (by omega) (by omega)]; omega), h4, yy_nI_add]
  | r + 1, k, f, s, hk, h4 => by
    obtain ⟨s', e1, e2, e3, e4, e5⟩ := yy_load_e hx hz h40 hxz r (k + 1) f (yy_sP (t0 + k) (yy_pl s (50 + (x + k))) s) (by omega) (by rw [yy_mI_sP]; exact h4)
    refine ⟨s', ?_, ((yy_KM.refl s).sP _ (Or.inl (by omega))).trans e2, e3, fun i h1 h2 => ?_, fun p hp hn => ?_⟩
    · show (if nI z ≤ nI k then _ else _) = _
      rw [if_neg (fun q => by rw [yy_nI_le (by omega) (by omega)] at q; omega), yy_fst_e (by omega) (by omega), Option.bind_some, show (50 : Int32) = nI 50 from rfl, yy_nI_add, yy_nI_add, yy_nI_add, yy_e_Mmove (by omega) (by omega), Option.bind_some, show Int32.ofInt 1 = 1 from rfl, yy_nI_add1, Nat.add_assoc 50 x k]
      exact e1
    · by_cases q : i = k
      · subst q
        rw [e5 (t0 + i) (by omega) (by omega), yy_pl_sP, if_pos rfl]
      · rw [e4 i (by omega) h2, yy_pl_sP, if_neg (by omega)]
    · rw [e5 p hp (by omega), yy_pl_sP, if_neg (by omega)]
theorem yy_O_aload {rc : rcE} {sc : xSc} {g : yy_GT} {m : Nat} {c : yy_CT} {s : MT} {t nd o n : Nat} {d : Int32} (h : yy_RR g (m + 1) c s t nd o n) : yy_OPS m c s (f_P_operate rc sc (yy_cH c) (some 256) (some 44) d) (f_M_operate s 42) := by
  have hn := h.le40
  obtain ⟨t1, t2, t3⟩ := h.tk
  refine yy_OP_head (gr := 3) 42 [6] h (yy_OPc_of _ rfl) (by decide) (by decide) (yy_pat h.tb (j := 5) (by decide)) (by decide) (by decide) (fun hr => ?_)
  have hr : 1 ≤ n := hr
  obtain ⟨a, v, a1, a2, a3, a4⟩ := h.val (show n - 1 < n by omega)
  rw [yy_alls1, a4.sk (j := 5) (by decide) (by decide) (by decide), yy_e_b96_3, show yy_opA c n [6].length = yy_cR 269 c (n - 1) from yy_opA_1 c n 0, a1, yy_Cp_44, yy_H337, yy_tB_id]
  unfold f_Holders_spread
  rw [if_pos (yy_sgis a2), yy_e_is a2 _ a4.cm rfl, Option.bind_some, if_pos (yy_cis_P _ _)]
  by_cases e5 : v.1 = some 77
  · obtain ⟨x, z, l, x1, x2, x3, x4, x5, x6, x7, x8, x9⟩ := a4.arr e5
    have hM : yy_oth 42 s = f_M_load s (Int64.ofNat (x + 1024 * z)) := by
      refine yy_oth_is 42 rfl ?_
      rw [yy_dsp_arr (by decide), yy_Mb_42, h.2.1.1, yy_nI_sub1 hr, if_pos (yy_xin_nI' (by omega) (by decide)), yy_nI_c (by omega), yy_bind_id, show mL 2 s (n - 1) = Int64.ofNat (x + 1024 * z) from x5]
    rw [if_pos e5, if_pos (decide_eq_true e5), yy_e_type1, p_tBl, yy_cgI_9, Option.bind_some, h.nine, yy_sg3 a2, Option.bind_some, x4, yy_nI_add, hM]
    unfold f_M_load
    rw [yy_cnt_e (by omega) (by omega), Option.bind_some, h.2.1.1, yy_nI_add]
    unfold f_Holders_spread_b31
    by_cases h2 : n + z ≤ 40
    · rw [if_neg (fun q => by rw [show (40 : Int32) = nI 40 from rfl, yy_nI_lt (by omega) (by omega)] at q; omega), if_pos (show nI (n + z) ≤ 40 by rw [show (40 : Int32) = nI 40 from rfl, yy_nI_le (by omega) (by omega)]; exact h2), if_pos (yy_cis_P _ _), yy_e_need1, p_tBl, yy_sg2 a2, Option.bind_some, yy_sg3 a2, Option.bind_some, yy_sg1 a2, Option.bind_some, yy_cgI_9, Option.bind_some, h.nine, yy_nI_sub1 hr, yy_cpI_9, Option.bind_some, x3, x4, x8, yy_nI_add, yy_e_Mmove (by omega) (by omega), Option.bind_some]
      have r0 := yy_R_top h (n' := n - 1) (by omega)
      obtain ⟨g2, c2, s2, f1, f2, f3, f4, f5, f6, f7, f8⟩ := yy_spread_loop (sc := sc) (t0 := n - 1) (l := l) (dd := (yy_pl s (n - 1)).2.2) (by omega) x1 x2 x7 x6 z 0 (mF - z - 1) g (yy_tI 9 (nI (n - 1)) c) (sI 4 (nI (n - 1)) s) (by omega) r0 ((yy_KM.refl s).s4 _) (fun i hi => absurd hi (Nat.not_lt_zero i)) (fun i _ => rfl)
      obtain ⟨s3, q1, q2, q3, q4, q5⟩ := yy_load_e (n := n) (x := x) (z := z) (t0 := n - 1) x1 x2 (by omega) (by rcases x6 with e | e <;> omega) z 0 (mF - z - 1) (yy_sP (n - 1 + z) (yy_pl s (n - 1)) s) (by omega) (by rw [yy_mI_sP]; exact h.2.1.1)
      rw [show mF - z - 1 + z + 1 = mF by unfold mF; omega, show nI 0 = 0 from rfl] at f1 q1
      rw [f1, q1]
      have km : yy_KM s2 s3 := (f4.symm.trans ((yy_KM.refl s).sP _ (Or.inl (by omega)))).trans q2
      have rr := yy_RR_scong f2 (km.kp g2 c2) (by rw [q3, f2.2.1.1, show n - 1 + z + 1 = n + z by omega]) (fun i hi => ?_)
      · refine yy_O_done (g := g) ⟨g2, c2, rfl, rr.less (by omega), (((yy_KP_t9 g c s _).trans (yy_KP_s4 g _ s _)).trans f3).trans (km.kp g2 c2), f8⟩ rfl
      · by_cases e1 : i < n - 1
        · rw [q5 i (by omega) (by omega), yy_pl_sP, if_neg (by omega), f6 i e1]
        · by_cases e2 : i = n - 1 + z
          · rw [e2, q5 (n - 1 + z) (by omega) (by omega), yy_pl_sP, if_pos rfl, f7, ← x9, ← x5]
          · have hi3 : i = n - 1 + (i - (n - 1)) := by omega
            rw [hi3, f5 (i - (n - 1)) (by omega), q4 (i - (n - 1)) (by omega) (by omega), yy_pl_sP, if_neg (by omega)]
    · rw [if_pos (show (40 : Int32) < nI (n + z) by rw [show (40 : Int32) = nI 40 from rfl, yy_nI_lt (by omega) (by omega)]; omega), if_neg (show ¬ nI (n + z) ≤ 40 from fun q => by rw [show (40 : Int32) = nI 40 from rfl, yy_nI_le (by omega) (by omega)] at q; omega), if_pos (yy_cis_P _ _), yy_e_need0 2 h.1.1 h.room]
      exact yy_O_fail 2 h (by decide) (by decide) rfl rfl
  · rw [if_neg e5, if_neg (by rw [decide_eq_false e5]; decide), yy_e_type0 h.1.1 h.room]
    exact yy_O_fail 3 h (by decide) (by decide) rfl rfl
