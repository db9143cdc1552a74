theorem yy_opA_3 (c : yy_CT) (n : Nat) : yy_opA c n 3 = yy_cR 269 c (n - 3) := yy_opA_1 c n 2
theorem yy_opB_3 (c : yy_CT) (n : Nat) : yy_opB c n 3 = yy_cR 269 c (n - 3 + 1) := yy_opB_2 c n 1
theorem yy_code_3 {x i k : Nat} (hx : x < 100000) (hi : i < 100000) (hk : k < 100000) : (nI x).toInt64 + (nI i).toInt64 + 1024 * (nI k).toInt64 = Int64.ofNat (x + i + 1024 * k) := by
  have : (nI x).toInt64 + (nI i).toInt64 = (nI (x + i)).toInt64 := by
    rw [← Int64.toInt_inj, Int64.toInt_add, Int32.toInt_toInt64, Int32.toInt_toInt64, Int32.toInt_toInt64, yy_nI_toInt (by omega), yy_nI_toInt (by omega), yy_nI_toInt (by omega), Int.bmod_eq_of_le (by omega) (by omega)]
    omega
  rw [this]
  rw [← Int64.toInt_inj, Int64.toInt_add, Int64.toInt_mul, Int32.toInt_toInt64, Int32.toInt_toInt64, yy_nI_toInt (by omega), yy_nI_toInt (by omega), yy_i64_toInt (by omega)]
  have e : (1024 : Int64).toInt = 1024 := by decide
  rw [e, Int.bmod_eq_of_le (n := 1024 * (k : Int)) (by omega) (by omega), Int.bmod_eq_of_le (by omega) (by omega)]
  omega
theorem yy_add_64 (x y : Int32) : (x.toInt64 + y.toInt64).toInt = x.toInt + y.toInt := by
  rw [Int64.toInt_add, Int32.toInt_toInt64, Int32.toInt_toInt64]
  have h1 := x.toInt_lt
  have h2 := x.le_toInt
  have h3 := y.toInt_lt
  have h4 := y.le_toInt
  exact Int.bmod_eq_of_le (by omega) (by omega)
theorem yy_O_getinterval {rc : rcE} {sc : xSc} {g : yy_GT} {m : Nat} {c : yy_CT} {s : MT} {t nd o n : Nat} {d : Int32} (h : yy_RR g (m + 1) c s t nd o n) : yy_OPS m c s (f_P_operate rc sc (yy_cH c) (some 256) (some 43) d) (f_M_operate s 41) := by
  have hn := h.le40
  obtain ⟨t1, t2, t3⟩ := h.tk
  refine yy_OP_head (gr := 3) 41 [1, 1, 6] h (yy_OPc_of _ rfl) (by decide) (by decide) (yy_pat h.tb (j := 4) (by decide)) (by decide) (by decide) (fun hr => ?_)
  have hr : 3 ≤ n := hr
  obtain ⟨p, q, p1, p2, p3, p4⟩ := h.val (show n - 1 < n by omega)
  obtain ⟨b, w, b1, b2, b3, b4⟩ := h.val (show n - 2 < n by omega)
  obtain ⟨a, v, a1, a2, a3, a4⟩ := h.val (show n - 3 < n by omega)
  have fail : f_Holders_perform_b230 sc (some 256) (some a) (some b) (some p) (some 256) (yy_cH c) = some (.inr (yy_cn c), yy_cH (yy_thr 3 c)) := by
    unfold f_Holders_perform_b230 f_Holders_perform_b231
    rw [if_pos (yy_cis_P _ _), yy_e_type0 h.1.1 h.room]
    rfl
  rw [yy_alls3, show n - 1 - 1 = n - 2 by omega, show n - 2 - 1 = n - 3 by omega, p4.sk (j := 0) (by decide) (by decide) (by decide), b4.sk (j := 0) (by decide) (by decide) (by decide), a4.sk (j := 5) (by decide) (by decide) (by decide), yy_e_b96_3, show yy_opA c n [1, 1, 6].length = yy_cR 269 c (n - 3) from yy_opA_3 c n, a1, show yy_opB c n [1, 1, 6].length = yy_cR 269 c (n - 3 + 1) from yy_opB_3 c n, show n - 3 + 1 = n - 2 by omega, b1, yy_Cp_43, if_pos (yy_cis_P _ _), show (0 : Int32) = nI 0 from rfl, yy_e_at h.nine (by omega) (by omega), Option.bind_some, show n - 1 - 0 = n - 1 by omega, p1, if_pos (yy_sgis a2), yy_e_is a2 _ a4.cm rfl, Option.bind_some]
  by_cases e5 : v.1 = some 77
  · rw [if_pos e5, if_neg (show ¬ (1 : Int32) = nI 0 by decide), if_pos (yy_sgis b2), yy_e_is b2 _ b4.cm rfl, Option.bind_some]
    by_cases e0 : w.1 = some 72
    · rw [if_pos e0, if_neg (show ¬ (1 : Int32) = nI 0 by decide), if_pos (yy_sgis p2), yy_e_is p2 _ p4.cm rfl, Option.bind_some]
      by_cases f0 : q.1 = some 72
      · obtain ⟨x, z, l, x1, x2, x3, x4, x5, x6, x7, x8, x9⟩ := a4.arr e5
        obtain ⟨i1, i2, i3⟩ := b4.int e0
        obtain ⟨j1, j2, j3⟩ := p4.int f0
        have ff : f_Holders_perform_b277 sc (some 256) (some a) (some b) (some p) (some 256) (yy_cH c) = some (.inr (yy_cn c), yy_cH (yy_thr 4 c)) := by
          unfold f_Holders_perform_b277 f_Holders_perform_b278
          rw [if_pos (yy_cis_P _ _), yy_e_need0 4 h.1.1 h.room]
          rfl
        have hM : yy_oth 41 s = f_M_part s (Int64.ofNat (x + 1024 * z)) w.2.2.1.toInt64 q.2.2.1.toInt64 := by
          refine yy_oth_is 41 rfl ?_
          rw [yy_dsp_arr (by decide), yy_Mb_41, h.2.1.1, yy_nI_sub1 (by omega), show (2 : Int32) = nI 2 from rfl, yy_nI_sub (by omega), yy_nI_sub1 (by omega), show n - 1 - 1 = n - 2 by omega, show n - 1 - 2 = n - 3 by omega, if_pos (yy_xin_nI' (by omega) (by decide)), if_pos (yy_xin_nI' (by omega) (by decide)), if_pos (yy_xin_nI' (by omega) (by decide)), yy_nI_c (by omega), yy_nI_c (by omega), yy_nI_c (by omega), yy_bind_id, show mL 2 s (n - 3) = Int64.ofNat (x + 1024 * z) from x5, show mL 2 s (n - 2) = w.2.2.1.toInt64 from i1, show mL 2 s (n - 1) = q.2.2.1.toInt64 from j1]
        rw [if_pos f0, if_neg (show ¬ (1 : Int32) = nI 0 by decide), if_pos (show _ = true by rw [decide_eq_true (show v.1 = some (72 + 5) from e5), decide_eq_true (show w.1 = some (72 + 0) from e0), decide_eq_true (show q.1 = some (72 + 0) from f0)]; rfl), hM]
        unfold f_Holders_perform_b231 f_M_part
        rw [if_pos (yy_cis_P _ _), yy_e_type1, p_tBl, yy_sg2 b2, Option.bind_some]
        by_cases c1 : w.2.2.1 < 0
        · rw [if_pos c1, if_pos (yy_lgc_lt.mpr ((yy_i64_lt0 _).mpr c1)), ff]
          exact yy_O_fail 4 h (by decide) (by decide) rfl rfl
        · rw [if_neg c1, if_neg (fun e => c1 ((yy_i64_lt0 _).mp (yy_lgc_lt.mp e))), yy_sg2 p2, Option.bind_some]
          by_cases c2 : q.2.2.1 < 0
          · rw [if_pos c2, if_pos (yy_lgc_lt.mpr ((yy_i64_lt0 _).mpr c2)), ff]
            exact yy_O_fail 4 h (by decide) (by decide) rfl rfl
          · rw [if_neg c2, if_neg (fun e => c2 ((yy_i64_lt0 _).mp (yy_lgc_lt.mp e))), Option.bind_some, Option.bind_some, yy_sg3 a2, Option.bind_some, x4, yy_cnt_e (by omega) (by omega), Option.bind_some]
            have hz : (nI z).toInt64.toInt = z := by rw [Int32.toInt_toInt64, yy_nI_toInt (by omega)]
            have a64 := yy_add_64 w.2.2.1 q.2.2.1
            by_cases c3 : 0 < lg_cmp (w.2.2.1.toInt64 + q.2.2.1.toInt64) (nI z).toInt64
            · rw [if_pos c3, if_neg (fun e => by have e1 := yy_lgc_le.mp e; have e2 := yy_lgc_gt.mp c3; rw [Int64.le_iff_toInt_le] at e1; rw [Int64.lt_iff_toInt_lt] at e2; omega), ff]
              exact yy_O_fail 4 h (by decide) (by decide) rfl rfl
            · have c3' : w.2.2.1.toInt + q.2.2.1.toInt ≤ z := by
                have e2 : ¬ _ := fun e => c3 (yy_lgc_gt.mpr e)
                rw [Int64.lt_iff_toInt_lt] at e2
                omega
              have w0 : 0 ≤ w.2.2.1.toInt := by
                rw [Int32.lt_iff_toInt_lt] at c1
                have : (0 : Int32).toInt = 0 := rfl
                omega
              have q0 : 0 ≤ q.2.2.1.toInt := by
                rw [Int32.lt_iff_toInt_lt] at c2
                have : (0 : Int32).toInt = 0 := rfl
                omega
              obtain ⟨i, hi, hi2⟩ := yy_i32_nat (N := 161) c1 (by rw [Int32.lt_iff_toInt_lt, yy_nI_toInt (by decide)]; omega) (by decide)
              obtain ⟨k, hk, hk2⟩ := yy_i32_nat (N := 161) c2 (by rw [Int32.lt_iff_toInt_lt, yy_nI_toInt (by decide)]; omega) (by decide)
              have hik : i + k ≤ z := by
                rw [hi, hk, yy_nI_toInt (by omega), yy_nI_toInt (by omega)] at c3'
                omega
              have hxi : x + i ≤ 160 := by
                rcases x6 with e | e
                · omega
                · omega
              have va : yy_VA s t o (x + i) k := by
                rcases x6 with e | e
                · exact Or.inl (by omega)
                · refine Or.inr ⟨by omega, fun j hj => ?_⟩
                  rcases e.2 j hj with f | f
                  · exact Or.inl (by omega)
                  · exact Or.inr (by omega)
              rw [if_neg c3, if_pos (by
                refine yy_lgc_le.mpr ?_
                rw [Int64.le_iff_toInt_le]
                omega), h.2.1.1, show (3 : Int32) = nI 3 from rfl, yy_nI_sub hr, if_pos (yy_xin_nI' (by omega) (by decide)), yy_fst_e (by omega) (by omega), Option.bind_some, yy_nI_c (by omega), yy_bind_id, hi, hk, yy_code_3 (by omega) (by omega) (by omega), show mA 1 s (n - 3) = nI (5 + 8 * l) from x9, yy_e_Mgive _ _ h.2.1.1 hr hn]
              unfold f_Holders_perform_b278
              rw [if_pos (yy_cis_P _ _), yy_e_need1, p_tBl, yy_cgI_9, Option.bind_some, h.nine, show (2 : Int32) = nI 2 from rfl, yy_nI_sub (by omega), yy_cpI_9, Option.bind_some, yy_sg2 (c := yy_tI 9 (nI (n - 2)) c) a2, Option.bind_some, yy_sg2 (c := yy_tI 9 (nI (n - 2)) c) b2, Option.bind_some, yy_sg2 (c := yy_tI 9 (nI (n - 2)) c) p2, Option.bind_some, yy_sg1 (c := yy_tI 9 (nI (n - 2)) c) a2, Option.bind_some, if_pos (yy_sgis (c := yy_tI 9 (nI (n - 2)) c) a2), yy_e_set (c := yy_tI 9 (nI (n - 2)) c) a2 _ _ _ _ a4.live, Option.bind_some, x3, hi, hk, yy_nI_add, x8]
              have r := yy_R_setS (yy_R_top h (n' := n - 2) (by omega)) (show n - 3 < n - 2 by omega) (a := a) a1 (v := v) a2 (yy_VR_arr (g := g) (l := l) (n := x + i) (z := k) hxi (by omega) x7 va v.2.2.2.2.1 v.2.2.2.2.2.1 v.2.2.2.2.2.2.1 v.2.2.2.2.2.2.2 FP.dconst0)
              refine yy_O_done (g := g) ⟨g, _, rfl, r.less (by omega), ((yy_KP_t9 g c s _).trans (yy_KP_s4 g _ s _)).trans ((yy_KP_tS (c := yy_tI 9 (nI (n - 2)) c) a2 a3 _).trans (yy_KP_sP g _ _ _ (Or.inl (by omega)))), rfl⟩ ?_
              rw [show n - 3 + 1 = n - 2 by omega]
      · rw [if_neg f0, if_pos (show (0 : Int32) = nI 0 from rfl), fail, if_neg (fun z => f0 (by rw [Bool.and_eq_true, Bool.and_eq_true, decide_eq_true_eq, decide_eq_true_eq, decide_eq_true_eq] at z; exact z.1))]
        exact yy_O_fail 3 h (by decide) (by decide) rfl rfl
    · rw [if_neg e0, if_pos (show (0 : Int32) = nI 0 from rfl), fail, if_neg (fun z => e0 (by rw [Bool.and_eq_true, Bool.and_eq_true, decide_eq_true_eq, decide_eq_true_eq, decide_eq_true_eq] at z; exact z.2.1))]
      exact yy_O_fail 3 h (by decide) (by decide) rfl rfl
  · rw [if_neg e5, if_pos (show (0 : Int32) = nI 0 from rfl), fail, if_neg (fun z => e5 (by rw [Bool.and_eq_true, Bool.and_eq_true, decide_eq_true_eq, decide_eq_true_eq, decide_eq_true_eq] at z; exact z.2.2))]
    exact yy_O_fail 3 h (by decide) (by decide) rfl rfl
