theorem yy_O_put {rc : rcE} {sc : xSc} {g : yy_GT} {m : Nat} {c : yy_CT} {s : MT} {t nd o n : Nat} {d : Int32} (h : yy_RR g (m + 3) c s t nd o n) : yy_OPS m c s (f_P_operate rc sc (yy_cH c) (some 256) (some 42) d) (f_M_operate s 40) := by
  have hn := h.le40
  have h1 : yy_RR g (m + 1) c s t nd o n := h.less (by omega)
  obtain ⟨t1, t2, t3⟩ := h.tk
  refine yy_OP_head (gr := 3) 40 [9, 9, 9] h1 (yy_OPc_of _ rfl) (by decide) (by decide) (yy_pat h.tb (j := 3) (by decide)) (by decide) (by decide) (fun hr => ?_)
  have hr : 3 ≤ n := hr
  obtain ⟨p, u, p1, p2, p3, p4⟩ := h.val (show n - 1 < n by omega)
  obtain ⟨b, w, b1, b2, b3, b4⟩ := h.val (show n - 2 < n by omega)
  obtain ⟨a, v, a1, a2, a3, a4⟩ := h.val (show n - 3 < n by omega)
  have q5 : v.1 = some 77 ↔ (yy_pl s (n - 3)).1 &&& 7 = 5 := a4.isk (j := 5) (by decide)
  have q6 : v.1 = some 78 ↔ (yy_pl s (n - 3)).1 &&& 7 = 6 := a4.isk (j := 6) (by decide)
  have r0 : w.1 = some 72 ↔ (yy_pl s (n - 2)).1 &&& 7 = 0 := b4.isk (j := 0) (by decide)
  have r3 : w.1 = some 75 ↔ (yy_pl s (n - 2)).1 &&& 7 = 3 := b4.isk (j := 3) (by decide)
  have fail : f_Holders_put_b57 sc (some 256) (some a) (some b) (some p) 0 (some 256) (yy_cH c) = some (.inr (yy_cn c), yy_cH (yy_thr 3 c)) := by
    unfold f_Holders_put_b57 f_Holders_put_b58
    rw [if_pos (yy_cis_P _ _), yy_e_type0 h.1.1 h.room]
    rfl
  have off : ∀ (c' : yy_CT), (∀ k, yy_cI k c' = yy_cI k c) → f_Holders_put_b134 sc (some 256) (yy_cH c') = some (.inl (), yy_cH (yy_tI 9 (nI (n - 3)) c')) := fun c' hI => by
    unfold f_Holders_put_b134
    rw [yy_cgI_9, Option.bind_some, hI, h.nine, show (3 : Int32) = nI 3 from rfl, yy_nI_sub hr, yy_cpI_9, Option.bind_some]
  have hM : f_M_arrayOperator s 40 = if (yy_pl s (n - 3)).1 &&& 7 = 6 then f_M_putEntry s (yy_pl s (n - 3)).2.1.toInt32 (yy_pl s (n - 2)).2.1 3 else f_M_putCell s (nI (n - 1)) := by
    rw [yy_Mb_40, h.2.1.1, yy_nI_sub1 (by omega), show (2 : Int32) = nI 2 from rfl, yy_nI_sub (by omega), yy_nI_sub1 (by omega), show n - 1 - 2 = n - 3 by omega, show n - 1 - 1 = n - 2 by omega, yy_e_Mkind (by omega), Option.bind_some]
    show (if (yy_pl s (n - 3)).1 &&& 7 = 6 then _ else _) = _
    by_cases z : (yy_pl s (n - 3)).1 &&& 7 = 6
    · rw [if_pos z, if_pos z, if_pos (yy_xin_nI' (by omega) (by decide)), if_pos (yy_xin_nI' (by omega) (by decide)), yy_nI_c (by omega), yy_nI_c (by omega)]
      exact yy_bind_id _
    · rw [if_neg z, if_neg z]
      exact yy_bind_id _
  rw [show yy_alls s (n - 1) [9, 9, 9] = true from rfl, if_pos rfl, yy_e_b96_3, show yy_opA c n [9, 9, 9].length = yy_cR 269 c (n - 3) from yy_opA_3 c n, a1, show yy_opB c n [9, 9, 9].length = yy_cR 269 c (n - 3 + 1) from yy_opB_3 c n, show n - 3 + 1 = n - 2 by omega, b1, yy_Cp_42, if_pos (yy_cis_P _ _), show f_P_at sc (yy_cH c) (some 256) 0 = some (some p) from by rw [show (0 : Int32) = nI 0 from rfl, yy_e_at h.nine (by omega) (by omega), show n - 1 - 0 = n - 1 by omega, p1], Option.bind_some, yy_H337, yy_tB_id, yy_oth_if (yy_so_40 h.2.1.1 hn hr) ((yy_dsp_arr (by decide)).trans hM)]
  unfold f_Holders_put
  rw [if_pos (yy_sgis a2), yy_e_is a2 _ a4.cm rfl, Option.bind_some]
  have g25 : f_Holders_put_b25 sc (some 256) (some a) (some b) (some p) 0 (yy_cH c) = if v.1 = some 78 ∧ w.1 = some 75 then f_Holders_put_b53 sc (some 256) (some a) (some b) (some p) 0 (some 256) (yy_cH c) else some (.inr (yy_cn c), yy_cH (yy_thr 3 c)) := by
    unfold f_Holders_put_b25
    rw [if_pos rfl, if_pos (yy_sgis a2), yy_e_is a2 _ a4.cm rfl, Option.bind_some]
    by_cases z : v.1 = some 78
    · rw [if_pos z, if_neg (show ¬ (1 : Int32) = 0 by decide), if_pos (yy_sgis b2), yy_e_is b2 _ b4.cm rfl, Option.bind_some]
      by_cases z2 : w.1 = some 75
      · rw [if_pos z2, if_neg (show ¬ (1 : Int32) = 0 by decide), if_pos ⟨z, z2⟩]
      · rw [if_neg z2, if_pos rfl, fail, if_neg (fun q => z2 q.2)]
    · rw [if_neg z, if_pos rfl, fail, if_neg (fun q => z q.1)]
  have dic : v.1 = some 78 → w.1 = some 75 → yy_OPS m c s (f_Holders_put_b53 sc (some 256) (some a) (some b) (some p) 0 (some 256) (yy_cH c)) (if (yy_pl s (n - 3)).1 &&& 7 = 6 then f_M_putEntry s (yy_pl s (n - 3)).2.1.toInt32 (yy_pl s (n - 2)).2.1 3 else f_M_putCell s (nI (n - 1))) := fun z z2 => by
    obtain ⟨x, y, x1, x2, x3, x4, x5, x6⟩ := a4.dict z
    obtain ⟨e, e1, e2⟩ := b4.name z2
    have x7 : x < 7 := by
      have := h.di.1.2
      omega
    rw [if_pos (q6.mp z), x3, yy_i64_nI (by omega), show (3 : Int32) = nI 3 from rfl]
    unfold f_Holders_put_b53 f_Holders_put_b58 f_Holders_put_b85 f_Holders_put_b90
    rw [if_pos (yy_cis_P _ _), yy_e_type1, p_tBl, if_pos rfl, if_pos (yy_cis_P _ _), yy_e_need1, p_tBl, if_pos rfl, yy_sg7 a2, Option.bind_some, yy_sg6 b2, Option.bind_some, x5, e1, if_pos (yy_cis_P _ _)]
    rcases yy_R_define (k := 3) sc h x1 x4 e2 p2 (by rw [p3]) p4 (by omega) hr with ⟨g', c', s1, f1, f2, f3, f4, f5⟩ | ⟨f1, f2⟩
    · rw [f1, p_tBl, off c' f5, f2]
      exact yy_O_off hr rfl rfl f3 f4 (f5 18)
    · rw [f1, f2]
      exact yy_O_fail 8 h1 (by decide) (by decide) rfl rfl
  by_cases e5 : v.1 = some 77
  · rw [if_pos e5, if_neg (show ¬ (1 : Int32) = 0 by decide), if_pos (yy_sgis b2), yy_e_is b2 _ b4.cm rfl, Option.bind_some]
    by_cases e0 : w.1 = some 72
    · obtain ⟨x, z, l, x1, x2, x3, x4, x5, x6, x7⟩ := a4.arr e5
      obtain ⟨i1, i2, i3⟩ := b4.int e0
      rw [if_pos e0, if_neg (show ¬ (1 : Int32) = 0 by decide), if_pos (Or.inl ⟨q5.mp e5, r0.mp e0⟩), if_neg (by rw [q5.mp e5]; decide)]
      have hMg : f_M_putCell s (nI (n - 1)) = if lg_cmp w.2.2.1.toInt64 0 < 0 then some (4, s) else if lg_cmp w.2.2.1.toInt64 (nI z).toInt64 < 0 then (f_M_move s (nI 50 + nI x + w.2.2.1) (nI (n - 1))).bind fun s11 => some ((0 : Int32), sI 4 ((mI 4 s11) - (3 : Int32)) s11) else some (4, s) := by
        unfold f_M_putCell f_M_putCell_b32
        rw [yy_nI_sub1 (by omega), show (2 : Int32) = nI 2 from rfl, yy_nI_sub (by omega), show n - 1 - 1 = n - 2 by omega, show n - 1 - 2 = n - 3 by omega, if_pos (yy_xin_nI' (by omega) (by decide)), if_pos (yy_xin_nI' (by omega) (by decide)), yy_nI_c (by omega), yy_nI_c (by omega), show mL 2 s (n - 3) = Int64.ofNat (x + 1024 * z) from x5, yy_cnt_e (by omega) (by omega), Option.bind_some, if_pos (yy_xin_nI' (by omega) (by decide)), yy_fst_e (by omega) (by omega), Option.bind_some, show mL 2 s (n - 2) = w.2.2.1.toInt64 from i1, Int32.toInt32_toInt64]
        rfl
      have f89 : f_Holders_put_b89 sc (some 256) (some a) (some b) (some p) 1 (some 256) (yy_cH c) = some (.inr (yy_cn c), yy_cH (yy_thr 4 c)) := by
        unfold f_Holders_put_b89 f_Holders_put_b90
        rw [if_pos (yy_cis_P _ _), yy_e_need0 4 h.1.1 h.room]
        rfl
      rw [hMg]
      unfold f_Holders_put_b25
      rw [if_neg (show ¬ (1 : Int32) = 0 by decide)]
      unfold f_Holders_put_b53 f_Holders_put_b58
      rw [if_pos (yy_cis_P _ _), yy_e_type1, p_tBl, if_neg (show ¬ (1 : Int32) = 0 by decide), yy_sg2 b2, Option.bind_some]
      by_cases h0 : w.2.2.1 < 0
      · rw [if_pos h0, if_pos (yy_lgc_lt.mpr ((yy_i64_lt0 _).mpr h0)), f89]
        exact yy_O_fail 4 h1 (by decide) (by decide) rfl rfl
      · rw [if_neg h0, if_neg (fun e => h0 ((yy_i64_lt0 _).mp (yy_lgc_lt.mp e))), Option.bind_some, yy_sg3 a2, Option.bind_some, x4]
        by_cases hz : nI z ≤ w.2.2.1
        · rw [if_pos hz, if_neg (fun e => by have := (yy_i64_lt _ _).mp (yy_lgc_lt.mp e); rw [Int32.lt_iff_toInt_lt] at this; rw [Int32.le_iff_toInt_le] at hz; omega), f89]
          exact yy_O_fail 4 h1 (by decide) (by decide) rfl rfl
        · have hz' : w.2.2.1 < nI z := by
            rw [Int32.le_iff_toInt_le] at hz
            rw [Int32.lt_iff_toInt_lt]
            omega
          obtain ⟨j, hj, hj2⟩ := yy_i32_nat h0 hz' (by omega)
          obtain ⟨e, c1, c2, c3⟩ := h.chome x6 hj2
          obtain ⟨g', c', d1, d2, d3, d4⟩ := yy_R_rewrite sc (h.less (Nat.le_succ _)) c2 p2 (by rw [p3]) p4
          rw [if_neg hz, if_pos (yy_lgc_lt.mpr ((yy_i64_lt _ _).mpr hz'))]
          unfold f_Holders_put_b85 f_Holders_put_b90
          rw [if_pos (yy_cis_P _ _), yy_e_need1, p_tBl, if_neg (show ¬ (1 : Int32) = 0 by decide), yy_cgR_7, Option.bind_some, yy_sg2 a2, Option.bind_some, yy_sg2 b2, Option.bind_some, x3, hj, yy_nI_add, yy_caR_270 (by omega), Option.bind_some, c1, if_pos (yy_cis_P _ _), d1, Option.bind_some, off c' d4, yy_nI_add, yy_nI_add, Nat.add_assoc, yy_e_Mmove (by omega) (by omega), Option.bind_some, yy_mI_sP, h.2.1.1, show (3 : Int32) = nI 3 from rfl, yy_nI_sub hr]
          exact yy_O_off hr rfl rfl d2 d3 (d4 18)
    · rw [if_neg e0, if_pos rfl]
      unfold f_Holders_put_b24
      rw [g25, if_neg (fun q => by rw [e5] at q; exact absurd q.1 (by decide)), if_neg (fun q => q.elim (fun r => e0 (r0.mpr r.2)) (fun r => by rw [q5.mp e5] at r; exact absurd r.1 (by decide)))]
      exact yy_O_fail 3 h1 (by decide) (by decide) rfl rfl
  · rw [if_neg e5, if_pos rfl]
    unfold f_Holders_put_b24
    rw [g25]
    by_cases z : v.1 = some 78 ∧ w.1 = some 75
    · rw [if_pos z, if_pos (Or.inr ⟨q6.mp z.1, r3.mp z.2⟩)]
      exact dic z.1 z.2
    · rw [if_neg z, if_neg (fun q => q.elim (fun r => e5 (q5.mpr r.1)) (fun r => z ⟨q6.mpr r.1, r3.mpr r.2⟩))]
      exact yy_O_fail 3 h1 (by decide) (by decide) rfl rfl
