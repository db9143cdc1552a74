theorem yy_alls1 {s : MT} {p : Nat} (d : Nat) : yy_alls s p [d] = yy_su (yy_pl s p).1 d := by
  show (yy_su (yy_pl s p).1 d && true) = _
  rw [Bool.and_true]
theorem yy_alls2 {s : MT} {p : Nat} (d e : Nat) : yy_alls s p [d, e] = (yy_su (yy_pl s p).1 d && yy_su (yy_pl s (p - 1)).1 e) := by
  show (yy_su (yy_pl s p).1 d && (yy_su (yy_pl s (p - 1)).1 e && true)) = _
  rw [Bool.and_true]
theorem yy_alls3 {s : MT} {p : Nat} (d e f : Nat) : yy_alls s p [d, e, f] = (yy_su (yy_pl s p).1 d && (yy_su (yy_pl s (p - 1)).1 e && yy_su (yy_pl s (p - 1 - 1)).1 f)) := by
  show (yy_su (yy_pl s p).1 d && (yy_su (yy_pl s (p - 1)).1 e && (yy_su (yy_pl s (p - 1 - 1)).1 f && true))) = _
  rw [Bool.and_true]
/-- a digit for a kind -/
theorem yy_VR.sk {g : yy_GT} {c : yy_CT} {s : MT} {t nd o : Nat} {v : yy_SV} {q : Int32 × Int64 × UInt64} (h : yy_VR g c s t nd o v q) {j : Nat} (hj : j < 8) (h2 : j ≠ 1) (h5 : j ≠ 4) : yy_su q.1 (j + 1) = decide (v.1 = some (72 + j)) := by
  have e := h.isk hj
  unfold yy_su
  rw [show (j + 1 == 9) = false from by rw [beq_eq_false_iff_ne]; omega, Bool.false_or, if_neg (by omega), if_neg (by omega), Nat.add_sub_cancel]
  exact decide_eq_decide.mpr e.symm
theorem yy_VR.sk2 {g : yy_GT} {c : yy_CT} {s : MT} {t nd o : Nat} {v : yy_SV} {q : Int32 × Int64 × UInt64} (h : yy_VR g c s t nd o v q) : yy_su q.1 2 = decide (v.1 = some 72 ∨ v.1 = some 73) := decide_eq_decide.mpr h.num.symm
theorem yy_VR.sk5 {g : yy_GT} {c : yy_CT} {s : MT} {t nd o : Nat} {v : yy_SV} {q : Int32 × Int64 × UInt64} (h : yy_VR g c s t nd o v q) : yy_su q.1 5 = decide (v.1 = some 77 ∧ v.2.1 ≠ 0) := decide_eq_decide.mpr h.proc.symm
theorem yy_O_index {rc : rcE} {sc : xSc} {g : yy_GT} {m : Nat} {c : yy_CT} {s : MT} {t nd o n : Nat} {d : Int32} (h : yy_RR g (m + 1) c s t nd o n) : yy_OPS m c s (f_P_operate rc sc (yy_cH c) (some 256) (some 4) d) (f_M_operate s 4) := by
  have hn := h.le40
  refine yy_OP_head (gr := 0) 4 [1] h (yy_OPc_of _ rfl) (by decide) (by decide) rfl (by decide) (by decide) (fun hr => ?_)
  have hr : 1 ≤ n := hr
  obtain ⟨a, v, a1, a2, a3, a4⟩ := h.val (show n - 1 < n by omega)
  rw [yy_alls1, a4.sk (j := 0) (by decide) (by decide) (by decide), yy_oth_stk 4 rfl (Or.inl (by decide)), yy_e_Mstk 4 h.2.1.1 hn (by omega), yy_e_b96_0, show yy_opA c n [1].length = yy_cR 269 c (n - 1) from yy_opA_1 c n 0, a1]
  rw [yy_Cp_4, yy_Mb_4, if_pos (yy_sgis a2), yy_e_is a2 _ a4.cm rfl, Option.bind_some, if_pos (yy_cis_P _ _)]
  by_cases hv : v.1 = some 72
  · rw [if_pos hv, if_pos (decide_eq_true hv), yy_e_type1, p_tBl, yy_sg2 a2, Option.bind_some]
    obtain ⟨i1, i2, i3⟩ := a4.int hv
    have fail : ∀ x, x = f_Stacks_perform_b152 sc (some 256) (some a) (some 256) (yy_cH c) → x = some (.inr (yy_cn c), yy_cH (yy_thr 4 c)) := fun x hx => by
      rw [hx]
      unfold f_Stacks_perform_b152 f_Stacks_perform_b153
      rw [if_pos (yy_cis_P _ _), yy_e_need0 4 h.1.1 h.room]
      rfl
    rw [i1]
    by_cases h0 : v.2.2.1 < 0
    · rw [if_pos h0, if_pos (yy_lgc_lt.mpr ((yy_i64_lt0 _).mpr h0))]
      exact yy_O_fail 4 h (by decide) (by decide) (fail _ rfl) rfl
    · rw [if_neg h0, if_neg (fun e => h0 ((yy_i64_lt0 _).mp (yy_lgc_lt.mp e))), Option.bind_some, yy_cgI_9, Option.bind_some, h.nine, yy_nI_sub1 hr]
      by_cases h1 : nI (n - 1) ≤ v.2.2.1
      · rw [if_pos h1, if_neg (fun e => by have := (yy_i64_lt _ _).mp (yy_lgc_lt.mp e); rw [Int32.lt_iff_toInt_lt] at this; rw [Int32.le_iff_toInt_le] at h1; omega)]
        exact yy_O_fail 4 h (by decide) (by decide) (fail _ rfl) rfl
      · have h1' : v.2.2.1 < nI (n - 1) := by
          rw [Int32.le_iff_toInt_le] at h1
          rw [Int32.lt_iff_toInt_lt]
          omega
        rw [if_neg h1, if_pos (yy_lgc_lt.mpr ((yy_i64_lt _ _).mpr h1'))]
        obtain ⟨j, hj, hj2⟩ := yy_i32_nat h0 h1' (by omega)
        obtain ⟨b, w, b1, b2, b3, b4⟩ := h.val (show n - 1 - (1 + j) < n by omega)
        unfold f_Stacks_perform_b153
        rw [if_pos (yy_cis_P _ _), yy_e_need1, p_tBl, yy_sg2 a2, Option.bind_some, if_pos (yy_cis_P _ _), hj, show (1 : Int32) = nI 1 from rfl, yy_nI_add, yy_e_at h.nine (by omega) (by omega), b1, Option.bind_some, if_pos (yy_sgis a2), yy_e_copy a2 b2 b4.live, Option.bind_some, Int32.toInt32_toInt64, yy_nI_sub (by omega), yy_nI_sub (by omega), yy_e_Mmove (by omega) (by omega), Option.bind_some]
        refine yy_O_done (g := g) ⟨g, _, rfl, (yy_R_setS h (show n - 1 < n by omega) a1 a2 (yy_VR_svc _ b4)).less (by omega), ?_, rfl⟩ ?_
        · exact (yy_KP_tS a2 a3 _).trans (yy_KP_sP g _ s _ (Or.inl (by omega)))
        · rw [show n - 1 - 1 - j = n - 1 - (1 + j) by omega]
  · rw [if_neg hv, if_neg (by rw [decide_eq_false hv]; decide), yy_e_type0 h.1.1 h.room]
    exact yy_O_fail 3 h (by decide) (by decide) rfl rfl
