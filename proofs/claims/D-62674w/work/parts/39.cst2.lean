theorem y_alls1 {s : MT} {p : Nat} (d : Nat) : y_alls s p [d] = y_su (y_pl s p).1 d := by
  show (y_su (y_pl s p).1 d && true) = _
  rw [Bool.and_true]
theorem y_alls2 {s : MT} {p : Nat} (d e : Nat) : y_alls s p [d, e] = (y_su (y_pl s p).1 d && y_su (y_pl s (p - 1)).1 e) := by
  show (y_su (y_pl s p).1 d && (y_su (y_pl s (p - 1)).1 e && true)) = _
  rw [Bool.and_true]
theorem y_alls3 {s : MT} {p : Nat} (d e f : Nat) : y_alls s p [d, e, f] = (y_su (y_pl s p).1 d && (y_su (y_pl s (p - 1)).1 e && y_su (y_pl s (p - 1 - 1)).1 f)) := by
  show (y_su (y_pl s p).1 d && (y_su (y_pl s (p - 1)).1 e && (y_su (y_pl s (p - 1 - 1)).1 f && true))) = _
  rw [Bool.and_true]
/-- a digit for a kind -/
theorem y_VR.sk {g : y_GT} {c : y_CT} {s : MT} {t nd o : Nat} {v : y_SV} {q : Int32 × Int64 × UInt64} (h : y_VR g c s t nd o v q) {j : Nat} (hj : j < 8) (h2 : j ≠ 1) (h5 : j ≠ 4) : y_su q.1 (j + 1) = decide (v.1 = some (72 + j)) := by
  have e := h.isk hj
  unfold y_su
  rw [show (j + 1 == 9) = false from by rw [beq_eq_false_iff_ne]; omega, Bool.false_or, if_neg (by omega), if_neg (by omega), Nat.add_sub_cancel]
  exact decide_eq_decide.mpr e.symm
theorem y_VR.sk2 {g : y_GT} {c : y_CT} {s : MT} {t nd o : Nat} {v : y_SV} {q : Int32 × Int64 × UInt64} (h : y_VR g c s t nd o v q) : y_su q.1 2 = decide (v.1 = some 72 ∨ v.1 = some 73) := decide_eq_decide.mpr h.num.symm
theorem y_VR.sk5 {g : y_GT} {c : y_CT} {s : MT} {t nd o : Nat} {v : y_SV} {q : Int32 × Int64 × UInt64} (h : y_VR g c s t nd o v q) : y_su q.1 5 = decide (v.1 = some 77 ∧ v.2.1 ≠ 0) := decide_eq_decide.mpr h.proc.symm
theorem y_O_index {rc : rcE} {sc : xSc} {g : y_GT} {m : Nat} {c : y_CT} {s : MT} {t nd o n : Nat} {d : Int32} (h : y_RR g (m + 1) c s t nd o n) : y_OPS m c s (f_P_operate rc sc (y_cH c) (some 256) (some 4) d) (f_M_operate s 4) := by
  have hn := h.le40
  refine y_OP_head (gr := 0) 4 [1] h (y_OPc_of _ rfl) (by decide) (by decide) rfl (by decide) (by decide) (fun hr => ?_)
  have hr : 1 ≤ n := hr
  obtain ⟨a, v, a1, a2, a3, a4⟩ := h.val (show n - 1 < n by omega)
  rw [y_alls1, a4.sk (j := 0) (by decide) (by decide) (by decide), y_oth_stk 4 rfl (Or.inl (by decide)), y_e_Mstk 4 h.2.1.1 hn (by omega), y_e_b96_0, show y_opA c n [1].length = y_cR 269 c (n - 1) from y_opA_1 c n 0, a1]
  rw [y_Cp_4, y_Mb_4, if_pos (y_sgis a2), y_e_is a2 _ a4.cm rfl, Option.bind_some, if_pos (y_cis_P _ _)]
  by_cases hv : v.1 = some 72
  · rw [if_pos hv, if_pos (decide_eq_true hv), y_e_type1, p_tBl, y_sg2 a2, Option.bind_some]
    obtain ⟨i1, i2, i3⟩ := a4.int hv
    have fail : ∀ x, x = f_Stacks_perform_b152 sc (some 256) (some a) (some 256) (y_cH c) → x = some (.inr (y_cn c), y_cH (y_thr 4 c)) := fun x hx => by
      rw [hx]
      unfold f_Stacks_perform_b152 f_Stacks_perform_b153
      rw [if_pos (y_cis_P _ _), y_e_need0 4 h.1.1 h.room]
      rfl
    rw [i1]
    by_cases h0 : v.2.2.1 < 0
    · rw [if_pos h0, if_pos (y_lgc_lt.mpr ((y_i64_lt0 _).mpr h0))]
      exact y_O_fail 4 h (by decide) (by decide) (fail _ rfl) rfl
    · rw [if_neg h0, if_neg (fun e => h0 ((y_i64_lt0 _).mp (y_lgc_lt.mp e))), Option.bind_some, y_cgI_9, Option.bind_some, h.nine, y_nI_sub1 hr]
      by_cases h1 : nI (n - 1) ≤ v.2.2.1
      · rw [if_pos h1, if_neg (fun e => by have := (y_i64_lt _ _).mp (y_lgc_lt.mp e); rw [Int32.lt_iff_toInt_lt] at this; rw [Int32.le_iff_toInt_le] at h1; omega)]
        exact y_O_fail 4 h (by decide) (by decide) (fail _ rfl) rfl
      · have h1' : v.2.2.1 < nI (n - 1) := by
          rw [Int32.le_iff_toInt_le] at h1
          rw [Int32.lt_iff_toInt_lt]
          omega
        rw [if_neg h1, if_pos (y_lgc_lt.mpr ((y_i64_lt _ _).mpr h1'))]
        obtain ⟨j, hj, hj2⟩ := y_i32_nat h0 h1' (by omega)
        obtain ⟨b, w, b1, b2, b3, b4⟩ := h.val (show n - 1 - (1 + j) < n by omega)
        unfold f_Stacks_perform_b153
        rw [if_pos (y_cis_P _ _), y_e_need1, p_tBl, y_sg2 a2, Option.bind_some, if_pos (y_cis_P _ _), hj, show (1 : Int32) = nI 1 from rfl, y_nI_add, y_e_at h.nine (by omega) (by omega), b1, Option.bind_some, if_pos (y_sgis a2), y_e_copy a2 b2 b4.live, Option.bind_some, Int32.toInt32_toInt64, y_nI_sub (by omega), y_nI_sub (by omega), y_e_Mmove (by omega) (by omega), Option.bind_some]
        refine y_O_done (g := g) ⟨g, _, rfl, (y_R_setS h (show n - 1 < n by omega) a1 a2 (y_VR_svc _ b4)).less (by omega), ?_, rfl⟩ ?_
        · exact (y_KP_tS a2 a3 _).trans (y_KP_sP g _ s _ (Or.inl (by omega)))
        · rw [show n - 1 - 1 - j = n - 1 - (1 + j) by omega]
  · rw [if_neg hv, if_neg (by rw [decide_eq_false hv]; decide), y_e_type0 h.1.1 h.room]
    exact y_O_fail 3 h (by decide) (by decide) rfl rfl
