theorem yy_i64_z (x : Int32) : x.toInt64 = 0 ↔ x = 0 := yy_i64_inj x 0
theorem yy_bm_e (x q y : Int) (m : Nat) : (x - ((q.bmod m) * y).bmod m).bmod m = (x - q * y).bmod m := by simp
theorem yy_tmod_lt (x y : Int) (hy : y ≠ 0) : (x.tmod y).natAbs < y.natAbs := by
  rw [Int.natAbs_tmod]
  exact Nat.mod_lt _ (Int.natAbs_pos.mpr hy)
theorem yy_i32_rem (x y : Int32) (hy : y ≠ 0) : (x - x / y * y).toInt = x.toInt.tmod y.toInt := by
  have hy' : y.toInt ≠ 0 := fun e => hy (Int32.toInt_inj.mp e)
  rw [Int32.toInt_sub, Int32.toInt_mul, Int32.toInt_div, yy_bm_e]
  have : x.toInt - x.toInt.tdiv y.toInt * y.toInt = x.toInt.tmod y.toInt := by
    rw [Int.tmod_def, Int.mul_comm]
  rw [this]
  have h1 := yy_tmod_lt x.toInt y.toInt hy'
  have h2 := y.toInt_lt
  have h3 := y.le_toInt
  exact Int.bmod_eq_of_le (by omega) (by omega)
theorem yy_i64_rem (x y : Int64) (hy : y ≠ 0) : (x - x / y * y).toInt = x.toInt.tmod y.toInt := by
  have hy' : y.toInt ≠ 0 := fun e => hy (Int64.toInt_inj.mp e)
  rw [Int64.toInt_sub, Int64.toInt_mul, Int64.toInt_div, yy_bm_e]
  have : x.toInt - x.toInt.tdiv y.toInt * y.toInt = x.toInt.tmod y.toInt := by
    rw [Int.tmod_def, Int.mul_comm]
  rw [this]
  have h1 := yy_tmod_lt x.toInt y.toInt hy'
  have h2 := y.toInt_lt
  have h3 := y.le_toInt
  exact Int.bmod_eq_of_le (by omega) (by omega)
theorem yy_rem_64 (x y : Int32) (hy : y ≠ 0) : (x - x / y * y).toInt64 = x.toInt64 - x.toInt64 / y.toInt64 * y.toInt64 := by
  rw [← Int64.toInt_inj, Int32.toInt_toInt64, yy_i32_rem x y hy, yy_i64_rem _ _ (fun e => hy ((yy_i64_z y).mp e)), Int32.toInt_toInt64, Int32.toInt_toInt64]
theorem yy_nz_i32 {x : Int32} (h : x = 0) : Op.cmpValue (FP.dcmp (FP.i2d x) FP.dconst0) .l = 0 := by
  rw [h]
  decide
/-- a quotient or a rest on both sides -/
theorem yy_O_cut {rc : rcE} {sc : xSc} {g : yy_GT} {m : Nat} {c : yy_CT} {s : MT} {t nd o n k : Nat} {d : Int32} (op : Int32) (F : Int32 → Int32 → Int64) (h : yy_RR g (m + 1) c s t nd o n) (ho : yy_OPc sc k 2 1) (hk : k = 16 ∨ k = 17) (hp : f_M_pattern s op = some (nI (yy_dg [1, 1]), s)) (hs : yy_oth op s = f_M_sum s op) (hop : ¬ op ≤ 12 ∧ ¬ op = 13)
    (e1 : ∀ a b v w l6, yy_slv c a = some v → yy_slv c b = some w → w.2.2.1 ≠ 0 → f_Numbers_perform_b111 sc (some 256) (some k) (some a) (some b) l6 1 (some 256) (yy_cH c) = f_P_whole sc (yy_cH c) (some 256) (nI 2) (F v.2.2.1 w.2.2.1))
    (e4 : ∀ l2 (x y : Int32) a b, y ≠ 0 → f_M_sum_b72 op l2 x.toInt64 y.toInt64 a b s = f_M_giveExact s (nI 2) (F x y)) :
    yy_OPS m c s (f_P_operate rc sc (yy_cH c) (some 256) (some k) d) (f_M_operate s op) := by
  have hn := h.le40
  have hk72 : k < 72 := by omega
  refine yy_OP_head (gr := 1) op [1, 1] h ho hk72 (by decide) hp (by decide) (by decide) (fun hr => ?_)
  have hr : 2 ≤ n := hr
  obtain ⟨b, w, b1, b2, b3, b4⟩ := h.val (show n - 1 < n by omega)
  obtain ⟨a, v, a1, a2, a3, a4⟩ := h.val (show n - 2 < n by omega)
  rw [yy_alls2, show n - 1 - 1 = n - 2 by omega, b4.sk (j := 0) (by decide) (by decide) (by decide), a4.sk (j := 0) (by decide) (by decide) (by decide), yy_e_b96_1, show yy_opA c n [1, 1].length = yy_cR 269 c (n - 2) from yy_opA_1 c n 1, a1, show yy_opB c n [1, 1].length = yy_cR 269 c (n - 2 + 1) from yy_opB_2 c n 0, show n - 2 + 1 = n - 1 by omega, b1, yy_N_perf _ _ a2 b2 a4.cm b4.cm, yy_N_b26c hk]
  by_cases hi : v.1 = some 72 ∧ w.1 = some 72
  · obtain ⟨i1, i2, i3⟩ := a4.int hi.1
    obtain ⟨j1, j2, j3⟩ := b4.int hi.2
    rw [if_pos (show _ = true by rw [decide_eq_true hi.1, decide_eq_true hi.2]; rfl), if_pos hi, hs, yy_e_Msum op h.2.1.1 hn hr, if_neg hop.1, if_neg hop.2, i1, j1]
    have e80 : f_Numbers_perform_b80 sc (some 256) (some k) (some a) (some b) 1 1 1 (some 256) (yy_cH c) = f_Numbers_perform_b96 sc (some 256) (some k) (some a) (some b) 1 (some 256) (yy_cH c) := by
      unfold f_Numbers_perform_b80
      rw [if_pos (yy_cis_P _ _), yy_e_type1, p_tBl, if_neg (show ¬ (1 : Int32) = 0 by decide)]
    rw [e80]
    unfold f_Numbers_perform_b96
    rw [if_pos (yy_sgis b2), yy_e_value b2 b4.cm, Option.bind_some, show yy_nv w = FP.i2d w.2.2.1 from if_pos hi.2]
    by_cases hz : w.2.2.1 = 0
    · rw [if_pos (yy_nz_i32 hz), if_pos (yy_lgc_eq.mpr (by rw [hz]; rfl))]
      refine yy_O_fail 6 h (by decide) (by decide) ?_ rfl
      unfold f_Numbers_perform_b111
      rw [if_pos (yy_cis_P _ _), yy_e_need0 6 h.1.1 h.room]
      rfl
    · rw [if_neg (fun z => hz (yy_z_i32 z)), if_neg (fun z => hz ((yy_i64_z _).mp (yy_lgc_eq.mp z))), e4 _ _ _ _ _ hz]
      unfold f_Numbers_perform_b106
      rw [e1 a b v w _ a2 b2 hz]
      exact yy_O_whole sc h hr (by decide) _
  · rw [if_neg hi, yy_N_b80_0 h.1.1 h.room, if_neg (fun z => hi (by rw [Bool.and_eq_true, decide_eq_true_eq, decide_eq_true_eq] at z; exact ⟨z.2, z.1⟩))]
    exact yy_O_fail 3 h (by decide) (by decide) rfl rfl
theorem yy_O_idiv {rc : rcE} {sc : xSc} {g : yy_GT} {m : Nat} {c : yy_CT} {s : MT} {t nd o n : Nat} {d : Int32} (h : yy_RR g (m + 1) c s t nd o n) : yy_OPS m c s (f_P_operate rc sc (yy_cH c) (some 256) (some 16) d) (f_M_operate s 14) := by
  refine yy_O_cut 14 (fun x y => x.toInt64 / y.toInt64) h (yy_OPc_of _ rfl) (Or.inl rfl) rfl (yy_oth_num 14 rfl rfl) (by decide) (fun a b v w l6 ha hb hw => ?_) (fun l2 x y a b hy => ?_)
  · unfold f_Numbers_perform_b111
    rw [if_pos (yy_cis_P _ _), yy_e_need1, p_tBl, if_pos (show xis sc (yy_cH c) 19 (some 16) = true from rfl), show f_Enum_ordinal19 sc (yy_cH c) (some 16) = some 16 from rfl, Option.bind_some, if_neg (show ¬ (16 : Int32) = 15 by decide), if_pos rfl, yy_sg2 ha, Option.bind_some, yy_sg2 hb, Option.bind_some, if_neg (fun z => hw ((yy_i64_z _).mp z)), if_pos (yy_cis_P _ _)]
    exact yy_tB_id _
  · unfold f_M_sum_b72
    rw [if_neg (show ¬ (14 : Int32) = 13 by decide), if_pos rfl, if_neg (fun z => hy ((yy_i64_z _).mp z))]
    exact yy_bind_id _
theorem yy_O_mod {rc : rcE} {sc : xSc} {g : yy_GT} {m : Nat} {c : yy_CT} {s : MT} {t nd o n : Nat} {d : Int32} (h : yy_RR g (m + 1) c s t nd o n) : yy_OPS m c s (f_P_operate rc sc (yy_cH c) (some 256) (some 17) d) (f_M_operate s 15) := by
  refine yy_O_cut 15 (fun x y => (x - x / y * y).toInt64) h (yy_OPc_of _ rfl) (Or.inr rfl) rfl (yy_oth_num 15 rfl rfl) (by decide) (fun a b v w l6 ha hb hw => ?_) (fun l2 x y a b hy => ?_)
  · unfold f_Numbers_perform_b111
    rw [if_pos (yy_cis_P _ _), yy_e_need1, p_tBl, if_pos (show xis sc (yy_cH c) 19 (some 17) = true from rfl), show f_Enum_ordinal19 sc (yy_cH c) (some 17) = some 17 from rfl, Option.bind_some, if_neg (show ¬ (17 : Int32) = 15 by decide), if_neg (show ¬ (17 : Int32) = 16 by decide), if_pos rfl, yy_sg2 ha, Option.bind_some, yy_sg2 hb, Option.bind_some, if_neg hw, if_pos (yy_cis_P _ _)]
    exact yy_tB_id _
  · unfold f_M_sum_b72
    rw [if_neg (show ¬ (15 : Int32) = 13 by decide), if_neg (show ¬ (15 : Int32) = 14 by decide), if_pos rfl, if_neg (fun z => hy ((yy_i64_z _).mp z)), ← yy_rem_64 x y hy]
    exact yy_bind_id _
/-! one operand -/
theorem yy_e_Msin {s : MT} {n : Nat} (op : Int32) (h : mI 4 s = nI n) (hn : n ≤ 40) (h1 : 1 ≤ n) : f_M_single s op = (if op = (16 : Int32) then (if (yy_pl s (n - 1)).1 = 0 then f_M_giveExact s (nI 1) (-(yy_pl s (n - 1)).2.1) else (if xn64 (FP.dsub FP.dconst0 (yy_nq (yy_pl s (n - 1)))) = true then f_M_giveReal s (nI 1) (FP.dsub FP.dconst0 (yy_nq (yy_pl s (n - 1)))) else none)) else (if op = (20 : Int32) then f_M_giveReal s (nI 1) (yy_nq (yy_pl s (n - 1))) else (if (yy_pl s (n - 1)).1 = 0 then some ((0 : Int32), s) else (if op = (17 : Int32) then (f_M_below (yy_nq (yy_pl s (n - 1)))).bind fun v23 => f_M_giveReal s (nI 1) v23 else (if op = (18 : Int32) then (if xn64 (FP.dadd (yy_nq (yy_pl s (n - 1))) (4602678819172646912 : UInt64)) = true then (f_M_below (FP.dadd (yy_nq (yy_pl s (n - 1))) (4602678819172646912 : UInt64))).bind fun v17 => f_M_giveReal s (nI 1) v17 else none) else (if (lg_cmp (FP.d2l (yy_nq (yy_pl s (n - 1)))) (((FP.d2l (yy_nq (yy_pl s (n - 1)))).toInt32).toInt64)) = 0 then f_M_give s (nI 1) (0 : Int32) (FP.d2l (yy_nq (yy_pl s (n - 1)))) else some (4, s))))))) := by
  unfold f_M_single
  rw [h, yy_nI_sub1 h1, yy_e_MnumAt (by omega), Option.bind_some]
  dsimp only
  rw [if_pos (yy_xin_nI' (by omega) (by decide)), if_pos (yy_xin_nI' (by omega) (by decide)), if_pos (yy_xin_nI' (by omega) (by decide)), yy_nI_c (by omega)]
  unfold f_M_single_b51 f_M_single_b138
  simp only [yy_bind_id]
  rfl
theorem yy_O_neg {rc : rcE} {sc : xSc} {g : yy_GT} {m : Nat} {c : yy_CT} {s : MT} {t nd o n : Nat} {d : Int32} (h : yy_RR g (m + 1) c s t nd o n) : yy_OPS m c s (f_P_operate rc sc (yy_cH c) (some 256) (some 18) d) (f_M_operate s 16) := by
  have hn := h.le40
  refine yy_OP_head (gr := 1) 16 [2] h (yy_OPc_of _ rfl) (by decide) (by decide) rfl (by decide) (by decide) (fun hr => ?_)
  have hr : 1 ≤ n := hr
  obtain ⟨a, v, a1, a2, a3, a4⟩ := h.val (show n - 1 < n by omega)
  rw [yy_alls1, a4.sk2, yy_e_b96_1, show yy_opA c n [2].length = yy_cR 269 c (n - 1) from yy_opA_1 c n 0, a1, show yy_opB c n [2].length = yy_cR 269 c (n - 1) from yy_opB_1 c n, a1, yy_N_perf _ _ a2 a2 a4.cm a4.cm, yy_N_b26 (by decide) (by decide) (by decide) a2 a2 a4.cm a4.cm]
  by_cases hv : v.1 = some 72 ∨ v.1 = some 73
  · rw [if_pos (decide_eq_true hv), if_pos (show (v.1 = some 72 ∨ v.1 = some 73) ∧ (v.1 = some 72 ∨ v.1 = some 73) from ⟨hv, hv⟩), yy_N_b80_1 (by decide) (by decide), yy_N_285 (by decide), yy_oth_sin 16 rfl rfl, yy_e_Msin 16 h.2.1.1 hn hr, if_pos rfl]
    obtain ⟨q1, q2⟩ := a4.nval hv
    by_cases hi : v.1 = some 72
    · obtain ⟨i1, i2, i3⟩ := a4.int hi
      rw [if_pos (show v.1 = some 72 ∧ v.1 = some 72 from ⟨hi, hi⟩), if_pos i3, yy_N_285i (r := 1) rfl a2 a2 rfl, i1]
      exact yy_O_whole sc h hr (by decide) _
    · have hx := q_dsub (a := FP.dconst0) ⟨_, _, _, rfl⟩ q2
      rw [if_neg (show ¬ (v.1 = some 72 ∧ v.1 = some 72) from fun z => hi z.1), if_neg (fun z => hi ((a4.isk (j := 0) (by decide)).mpr (by rw [z]; rfl))), q1, if_pos hx, yy_N_285r (r := 1) (z := FP.dsub FP.dconst0 (yy_nv v)) rfl a2 a2 a4.cm a4.cm ?_]
      · exact yy_O_giveReal sc h hr (by decide) hx
      · simp [f_Numbers_worked, f_Numbers_worked_b16, f_Numbers_worked_b93, hx, show xcm (some 12) = true from rfl, show xcm (some 13) = true from rfl, show xcm (some 14) = true from rfl, show xcm (some 18) = true from rfl, show xcm (some 20) = true from rfl]
  · rw [if_neg (show ¬ (decide (v.1 = some 72 ∨ v.1 = some 73)) = true by rw [decide_eq_false hv]; decide), if_neg (show ¬ ((v.1 = some 72 ∨ v.1 = some 73) ∧ (v.1 = some 72 ∨ v.1 = some 73)) from fun z => hv z.1), yy_N_b80_0 h.1.1 h.room]
    exact yy_O_fail 3 h (by decide) (by decide) rfl rfl
theorem yy_O_cvr {rc : rcE} {sc : xSc} {g : yy_GT} {m : Nat} {c : yy_CT} {s : MT} {t nd o n : Nat} {d : Int32} (h : yy_RR g (m + 1) c s t nd o n) : yy_OPS m c s (f_P_operate rc sc (yy_cH c) (some 256) (some 22) d) (f_M_operate s 20) := by
  have hn := h.le40
  refine yy_OP_head (gr := 1) 20 [2] h (yy_OPc_of _ rfl) (by decide) (by decide) rfl (by decide) (by decide) (fun hr => ?_)
  have hr : 1 ≤ n := hr
  obtain ⟨a, v, a1, a2, a3, a4⟩ := h.val (show n - 1 < n by omega)
  rw [yy_alls1, a4.sk2, yy_e_b96_1, show yy_opA c n [2].length = yy_cR 269 c (n - 1) from yy_opA_1 c n 0, a1, show yy_opB c n [2].length = yy_cR 269 c (n - 1) from yy_opB_1 c n, a1, yy_N_perf _ _ a2 a2 a4.cm a4.cm, yy_N_b26 (by decide) (by decide) (by decide) a2 a2 a4.cm a4.cm]
  by_cases hv : v.1 = some 72 ∨ v.1 = some 73
  · rw [if_pos (decide_eq_true hv), if_pos (show (v.1 = some 72 ∨ v.1 = some 73) ∧ (v.1 = some 72 ∨ v.1 = some 73) from ⟨hv, hv⟩), yy_N_b80_1 (by decide) (by decide), yy_oth_sin 20 rfl rfl, yy_e_Msin 20 h.2.1.1 hn hr, if_neg (show ¬ (20 : Int32) = 16 by decide), if_pos rfl]
    obtain ⟨q1, q2⟩ := a4.nval hv
    unfold f_Numbers_perform_b111
    rw [if_pos (yy_cis_P _ _), yy_e_need1, p_tBl, if_pos (show xis sc (yy_cH c) 19 (some 22) = true from rfl), show f_Enum_ordinal19 sc (yy_cH c) (some 22) = some 22 from rfl, Option.bind_some, if_neg (show ¬ (22 : Int32) = 15 by decide), if_neg (show ¬ (22 : Int32) = 16 by decide), if_neg (show ¬ (22 : Int32) = 17 by decide), if_neg (show ¬ (22 : Int32) = 18 by decide), if_neg (show ¬ (22 : Int32) = 19 by decide), if_neg (show ¬ (22 : Int32) = 20 by decide), if_neg (show ¬ (22 : Int32) = 21 by decide), if_pos rfl, if_pos (yy_sgis a2), yy_e_value a2 a4.cm, Option.bind_some, if_pos (yy_cis_P _ _), q1]
    rw [show (fun (_ : Unit) (u : xH) => f_Numbers_perform_b337 sc u) = fun _ u => some (.inl (), u) from rfl, yy_tB_id]
    exact yy_O_giveReal sc h hr (by decide) (yy_fin_xn q2)
  · rw [if_neg (show ¬ (decide (v.1 = some 72 ∨ v.1 = some 73)) = true by rw [decide_eq_false hv]; decide), if_neg (show ¬ ((v.1 = some 72 ∨ v.1 = some 73) ∧ (v.1 = some 72 ∨ v.1 = some 73)) from fun z => hv z.1), yy_N_b80_0 h.1.1 h.room]
    exact yy_O_fail 3 h (by decide) (by decide) rfl rfl
