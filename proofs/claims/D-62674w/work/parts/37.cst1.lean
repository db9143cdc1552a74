theorem yy_lgc_lt {x y : Int64} : lg_cmp x y < 0 ↔ x < y := by
  unfold lg_cmp
  by_cases h1 : x > y
  · rw [if_pos h1]
    refine ⟨fun e => absurd e (by decide), fun e => ?_⟩
    rw [gt_iff_lt, Int64.lt_iff_toInt_lt] at h1
    rw [Int64.lt_iff_toInt_lt] at e
    omega
  · rw [if_neg h1]
    by_cases h2 : x = y
    · rw [if_pos h2]
      refine ⟨fun e => absurd e (by decide), fun e => ?_⟩
      rw [h2, Int64.lt_iff_toInt_lt] at e
      omega
    · rw [if_neg h2]
      refine ⟨fun _ => ?_, fun _ => by decide⟩
      rw [gt_iff_lt, Int64.lt_iff_toInt_lt] at h1
      rw [Int64.lt_iff_toInt_lt]
      have : x.toInt ≠ y.toInt := fun e => h2 (Int64.toInt_inj.mp e)
      omega
theorem yy_lgc_le {x y : Int64} : lg_cmp x y ≤ 0 ↔ x ≤ y := by
  unfold lg_cmp
  by_cases h1 : x > y
  · rw [if_pos h1]
    refine ⟨fun e => absurd e (by decide), fun e => ?_⟩
    rw [gt_iff_lt, Int64.lt_iff_toInt_lt] at h1
    rw [Int64.le_iff_toInt_le] at e
    omega
  · rw [if_neg h1]
    by_cases h2 : x = y
    · rw [if_pos h2]
      refine ⟨fun e => ?_, fun e => by decide⟩
      rw [h2, Int64.le_iff_toInt_le]
      omega
    · rw [if_neg h2]
      refine ⟨fun _ => ?_, fun _ => by decide⟩
      rw [gt_iff_lt, Int64.lt_iff_toInt_lt] at h1
      rw [Int64.le_iff_toInt_le]
      omega
theorem yy_lgc_eq {x y : Int64} : lg_cmp x y = 0 ↔ x = y := by
  unfold lg_cmp
  by_cases h1 : x > y
  · rw [if_pos h1]
    refine ⟨fun e => absurd e (by decide), fun e => ?_⟩
    rw [gt_iff_lt, e, Int64.lt_iff_toInt_lt] at h1
    omega
  · rw [if_neg h1]
    by_cases h2 : x = y
    · rw [if_pos h2]
      exact ⟨fun _ => h2, fun _ => rfl⟩
    · rw [if_neg h2]
      exact ⟨fun e => absurd e (by decide), fun e => absurd e h2⟩
theorem yy_i64_lt0 (x : Int32) : x.toInt64 < 0 ↔ x < 0 := by
  rw [Int64.lt_iff_toInt_lt, Int32.lt_iff_toInt_lt, Int32.toInt_toInt64]
  exact Iff.rfl
theorem yy_i64_lt (x y : Int32) : x.toInt64 < y.toInt64 ↔ x < y := by
  rw [Int64.lt_iff_toInt_lt, Int32.lt_iff_toInt_lt, Int32.toInt_toInt64, Int32.toInt_toInt64]
theorem yy_i64_le (x y : Int32) : x.toInt64 ≤ y.toInt64 ↔ x ≤ y := by
  rw [Int64.le_iff_toInt_le, Int32.le_iff_toInt_le, Int32.toInt_toInt64, Int32.toInt_toInt64]
theorem yy_i64_inj (x y : Int32) : x.toInt64 = y.toInt64 ↔ x = y := by
  rw [← Int64.toInt_inj, ← Int32.toInt_inj, Int32.toInt_toInt64, Int32.toInt_toInt64]
/-- an int that is no less than 0 is a small number, where it is less than one -/
theorem yy_i32_nat {x : Int32} {N : Nat} (h0 : ¬ x < 0) (h1 : x < nI N) (hN : N < 2147483648) : ∃ j, x = nI j ∧ j < N := by
  rw [Int32.lt_iff_toInt_lt] at h0 h1
  rw [yy_nI_toInt hN] at h1
  have h0' : (0 : Int32).toInt = 0 := rfl
  refine ⟨x.toInt.toNat, ?_, by omega⟩
  rw [← Int32.toInt_inj, yy_nI_toInt (by omega)]
  omega
theorem yy_O_fail {g : yy_GT} {m : Nat} {c : yy_CT} {s : MT} {t nd o n : Nat} {x : Option ((Unit ⊕ Nat) × xH)} {y : Option (Int32 × MT)} (k : Int32) (h : yy_RR g (m + 1) c s t nd o n) (h0 : k ≠ 0) (h1 : k ≠ -1) (hx : x = some (.inr (yy_cn c), yy_cH (yy_thr k c))) (hy : y = some (k, s)) : yy_OPS m c s x y := ⟨_, _, _, hx, hy, yy_O_thr h h0 h1⟩
theorem yy_O_done {g : yy_GT} {m : Nat} {c : yy_CT} {s s' : MT} {x : Option ((Unit ⊕ Nat) × xH)} {y : Option (Int32 × MT)} {t nd o n : Nat} (hx : ∃ g' c', x = some (.inl (), yy_cH c') ∧ yy_RR g' m c' s' t nd o n ∧ yy_KP g c s g' c' s' ∧ yy_cI 18 c' = yy_cI 18 c) (hy : y = some (0, s')) : yy_OPS m c s x y := by
  obtain ⟨g', c', h1, h2, h3, h4⟩ := hx
  exact ⟨_, _, _, h1, hy, yy_O_ok h2 h3 h4⟩
/-- give of something new: full, or not -/
theorem yy_O_give0 {g : yy_GT} {m : Nat} {c : yy_CT} {s : MT} {t nd o n : Nat} (sc : xSc) (h : yy_RR g (m + 1) c s t nd o n) (kd : Option Nat) (x : Int32) (k : Int32) (y : Int64) (hq : ∀ z d nm di, yy_VR g c s t nd o (kd, 0, x, 0, z, d, nm, di) (k, y, FP.dconst0)) : yy_OPS m c s (f_P_give sc (yy_cH c) (some 256) 0 kd x) (f_M_push s k y) := by
  have hn := h.le40
  rcases Nat.lt_or_ge n 40 with e | e
  · exact yy_O_done (by
      obtain ⟨g', c', r1, r2, r3, r4⟩ := yy_O_give sc h (Nat.zero_le n) (by omega) kd x (k, y, FP.dconst0) hq
      exact ⟨g', c', r1, r2.less (by omega), r3, r4⟩) (yy_e_Mpush k y h.2.1.1 e)
  · have e40 : n = 40 := by omega
    subst e40
    exact yy_O_fail 2 h (by decide) (by decide) (yy_e_give40 h.1.1 h.room h.nine kd x) (yy_e_Mpush40 k y h.2.1.1)
theorem yy_O_push0 {g : yy_GT} {m : Nat} {c : yy_CT} {s : MT} {t nd o n b p : Nat} {w : yy_SV} (sc : xSc) (h : yy_RR g (m + 1) c s t nd o n) (hw : yy_slv c b = some w) (hp : p < 1300) (hq : yy_VR g c s t nd o w (yy_pl s p)) : yy_OPS m c s (f_P_push sc (yy_cH c) (some 256) (some b)) (f_M_pushValue s (nI p)) := by
  have hn := h.le40
  rcases Nat.lt_or_ge n 40 with e | e
  · exact yy_O_done (by
      obtain ⟨g', c', r1, r2, r3, r4⟩ := yy_O_push sc h e hw hq
      exact ⟨g', c', r1, r2.less (by omega), r3, r4⟩) (yy_e_MpushV h.2.1.1 e hp)
  · have e40 : n = 40 := by omega
    subst e40
    exact yy_O_fail 2 h (by decide) (by decide) (yy_e_push40 h.1.1 h.room h.nine _) (yy_e_MpushV40 _ h.2.1.1)
theorem yy_opA_1 (c : yy_CT) (n : Nat) (r : Nat) : yy_opA c n (r + 1) = yy_cR 269 c (n - (r + 1)) := if_neg (Nat.succ_ne_zero r)
theorem yy_opB_2 (c : yy_CT) (n : Nat) (r : Nat) : yy_opB c n (r + 2) = yy_cR 269 c (n - (r + 2) + 1) := if_neg (by omega)
theorem yy_O_dup {rc : rcE} {sc : xSc} {g : yy_GT} {m : Nat} {c : yy_CT} {s : MT} {t nd o n : Nat} {d : Int32} (h : yy_RR g (m + 1) c s t nd o n) : yy_OPS m c s (f_P_operate rc sc (yy_cH c) (some 256) (some 2) d) (f_M_operate s 2) := by
  have hn := h.le40
  refine yy_OP_head (gr := 0) 2 [9] h (yy_OPc_of _ rfl) (by decide) (by decide) rfl (by decide) (by decide) (fun hr => ?_)
  have hr : 1 ≤ n := hr
  obtain ⟨a, v, a1, a2, a3, a4⟩ := h.val (show n - 1 < n by omega)
  rw [show yy_alls s (n - 1) [9] = true from rfl, if_pos rfl, yy_oth_stk 2 rfl (Or.inl (by decide)), yy_e_Mstk 2 h.2.1.1 hn (by omega), yy_e_b96_0, show yy_opA c n [9].length = yy_cR 269 c (n - 1) from yy_opA_1 c n 0, a1]
  unfold f_Stacks_perform f_M_stackOperator_b21
  rw [if_pos (show xis sc (yy_cH c) 19 (some 2) = true from rfl), show f_Enum_ordinal19 sc (yy_cH c) (some 2) = some 2 from rfl, Option.bind_some, if_neg (show ¬ (2 : Int32) = 0 by decide), if_neg (show ¬ (2 : Int32) = 0 by decide), if_neg (show ¬ (2 : Int32) = 1 by decide), if_neg (show ¬ (2 : Int32) = 1 by decide), if_pos rfl, if_pos rfl, if_pos (yy_cis_P _ _)]
  rw [yy_bind_id, show (fun (_ : Unit) (u : xH) => f_Stacks_perform_b240 sc u) = fun _ u => some (.inl (), u) from rfl, yy_tB_id]
  exact yy_O_push0 sc h a2 (by omega) a4
theorem yy_O_clear {rc : rcE} {sc : xSc} {g : yy_GT} {m : Nat} {c : yy_CT} {s : MT} {t nd o n : Nat} {d : Int32} (h : yy_RR g (m + 1) c s t nd o n) : yy_OPS m c s (f_P_operate rc sc (yy_cH c) (some 256) (some 6) d) (f_M_operate s 6) := by
  have hn := h.le40
  refine yy_OP_head (gr := 0) 6 [] h (yy_OPc_of _ rfl) (by decide) (by decide) rfl (by simp) (by decide) (fun _ => ?_)
  rw [show yy_alls s (n - 1) [] = true from rfl, if_pos rfl, yy_oth_stk 6 rfl (Or.inl (by decide)), yy_e_b96_0]
  have hx : f_Stacks_perform sc (yy_cH c) (some 258) (some 256) (some 6) (yy_opA c n ([] : List Nat).length) (yy_opB c n ([] : List Nat).length) d = some (.inl (), yy_cH (yy_tI 9 (nI 0) c)) := by
    unfold f_Stacks_perform
    rw [if_pos (show xis sc (yy_cH c) 19 (some 6) = true from rfl), show f_Enum_ordinal19 sc (yy_cH c) (some 6) = some 6 from rfl, Option.bind_some, if_neg (by decide), if_neg (by decide), if_neg (by decide), if_neg (by decide), if_neg (by decide), if_neg (by decide), if_pos rfl, yy_cpI_9]
    rfl
  have hy : ∀ p q, f_M_stackOperator_b21 6 p q s = some (0, sI 4 (nI 0) s) := fun p q => by
    unfold f_M_stackOperator_b21
    rw [if_neg (by decide), if_neg (by decide), if_neg (by decide), if_neg (by decide), if_neg (by decide), if_neg (by decide), if_pos rfl]
    rfl
  rw [hx]
  refine yy_O_done (g := g) ⟨g, _, rfl, (yy_R_top h (Nat.zero_le n)).less (by omega), (yy_KP_t9 g c s _).trans (yy_KP_s4 g _ s _), rfl⟩ ?_
  rcases Nat.eq_zero_or_pos n with e | e
  · subst e
    rw [yy_e_Mstk0 6 h.2.1.1, hy]
  · rw [yy_e_Mstk 6 h.2.1.1 hn e, hy]
theorem yy_b21_any {s : MT} {n : Nat} {op : Int32} {y : Option (Int32 × MT)} (h : mI 4 s = nI n) (hn : n ≤ 40) (hy : ∀ p q, f_M_stackOperator_b21 op p q s = y) : f_M_stackOperator s op = y := by
  rcases Nat.eq_zero_or_pos n with e | e
  · subst e
    rw [yy_e_Mstk0 op h, hy]
  · rw [yy_e_Mstk op h hn e, hy]
theorem yy_O_count {rc : rcE} {sc : xSc} {g : yy_GT} {m : Nat} {c : yy_CT} {s : MT} {t nd o n : Nat} {d : Int32} (h : yy_RR g (m + 1) c s t nd o n) : yy_OPS m c s (f_P_operate rc sc (yy_cH c) (some 256) (some 7) d) (f_M_operate s 7) := by
  have hn := h.le40
  refine yy_OP_head (gr := 0) 7 [] h (yy_OPc_of _ rfl) (by decide) (by decide) rfl (by simp) (by decide) (fun _ => ?_)
  rw [show yy_alls s (n - 1) [] = true from rfl, if_pos rfl, yy_oth_stk 7 rfl (Or.inl (by decide)), yy_e_b96_0]
  have hx : f_Stacks_perform sc (yy_cH c) (some 258) (some 256) (some 7) (yy_opA c n ([] : List Nat).length) (yy_opB c n ([] : List Nat).length) d = f_P_give sc (yy_cH c) (some 256) 0 (some 72) (nI n) := by
    unfold f_Stacks_perform
    rw [if_pos (show xis sc (yy_cH c) 19 (some 7) = true from rfl), show f_Enum_ordinal19 sc (yy_cH c) (some 7) = some 7 from rfl, Option.bind_some, if_neg (by decide), if_neg (by decide), if_neg (by decide), if_neg (by decide), if_neg (by decide), if_neg (by decide), if_neg (by decide), if_pos rfl, yy_cgI_9, Option.bind_some, if_pos (yy_cis_P _ _), h.nine, show (fun (_ : Unit) (u : xH) => f_Stacks_perform_b240 sc u) = fun _ u => some (.inl (), u) from rfl, yy_tB_id]
  have hy : ∀ p q, f_M_stackOperator_b21 7 p q s = f_M_push s 0 (nI n).toInt64 := fun p q => by
    unfold f_M_stackOperator_b21
    rw [if_neg (by decide), if_neg (by decide), if_neg (by decide), if_neg (by decide), if_neg (by decide), if_neg (by decide), if_neg (by decide), if_pos rfl, h.2.1.1, yy_bind_id]
  rw [hx, yy_b21_any h.2.1.1 hn hy]
  exact yy_O_give0 sc h _ _ _ _ (fun _ _ _ _ => yy_VR_int _ _ _ _ _ _ _ _ _ _ _ _ _)
theorem yy_O_mark {rc : rcE} {sc : xSc} {g : yy_GT} {m : Nat} {c : yy_CT} {s : MT} {t nd o n : Nat} {d : Int32} (h : yy_RR g (m + 1) c s t nd o n) : yy_OPS m c s (f_P_operate rc sc (yy_cH c) (some 256) (some 8) d) (f_M_operate s 8) := by
  have hn := h.le40
  refine yy_OP_head (gr := 0) 8 [] h (yy_OPc_of _ rfl) (by decide) (by decide) rfl (by simp) (by decide) (fun _ => ?_)
  rw [show yy_alls s (n - 1) [] = true from rfl, if_pos rfl, yy_oth_stk 8 rfl (Or.inl (by decide)), yy_e_b96_0]
  have hx : f_Stacks_perform sc (yy_cH c) (some 258) (some 256) (some 8) (yy_opA c n ([] : List Nat).length) (yy_opB c n ([] : List Nat).length) d = f_P_give sc (yy_cH c) (some 256) 0 (some 76) 0 := by
    unfold f_Stacks_perform
    rw [if_pos (show xis sc (yy_cH c) 19 (some 8) = true from rfl), show f_Enum_ordinal19 sc (yy_cH c) (some 8) = some 8 from rfl, Option.bind_some, if_neg (by decide), if_neg (by decide), if_neg (by decide), if_neg (by decide), if_neg (by decide), if_neg (by decide), if_neg (by decide), if_neg (by decide), if_pos rfl]
    unfold f_Stacks_perform_b231
    rw [if_pos (yy_cis_P _ _), show (fun (_ : Unit) (u : xH) => f_Stacks_perform_b240 sc u) = fun _ u => some (.inl (), u) from rfl, yy_tB_id]
  have hy : ∀ p q, f_M_stackOperator_b21 8 p q s = f_M_push s 4 0 := fun p q => by
    unfold f_M_stackOperator_b21
    rw [if_neg (by decide), if_neg (by decide), if_neg (by decide), if_neg (by decide), if_neg (by decide), if_neg (by decide), if_neg (by decide), if_neg (by decide), if_pos rfl]
    exact yy_bind_id _
  rw [hx, yy_b21_any h.2.1.1 hn hy]
  exact yy_O_give0 sc h _ _ _ _ (fun _ _ _ _ => yy_VR_mark _ _ _ _ _ _ _ _ _ _ _ _)
theorem yy_O_opened {rc : rcE} {sc : xSc} {g : yy_GT} {m : Nat} {c : yy_CT} {s : MT} {t nd o n : Nat} {d : Int32} (h : yy_RR g (m + 1) c s t nd o n) : yy_OPS m c s (f_P_operate rc sc (yy_cH c) (some 256) (some 9) d) (f_M_operate s 70) := by
  have hn := h.le40
  refine yy_OP_head (gr := 0) 70 [] h (yy_OPc_of _ rfl) (by decide) (by decide) rfl (by simp) (by decide) (fun _ => ?_)
  rw [show yy_alls s (n - 1) [] = true from rfl, if_pos rfl, yy_oth_stk 70 rfl (Or.inr (by decide)), yy_e_b96_0]
  have hx : f_Stacks_perform sc (yy_cH c) (some 258) (some 256) (some 9) (yy_opA c n ([] : List Nat).length) (yy_opB c n ([] : List Nat).length) d = f_P_give sc (yy_cH c) (some 256) 0 (some 76) 0 := by
    unfold f_Stacks_perform
    rw [if_pos (show xis sc (yy_cH c) 19 (some 9) = true from rfl), show f_Enum_ordinal19 sc (yy_cH c) (some 9) = some 9 from rfl, Option.bind_some, if_neg (by decide), if_neg (by decide), if_neg (by decide), if_neg (by decide), if_neg (by decide), if_neg (by decide), if_neg (by decide), if_neg (by decide), if_neg (by decide), if_pos rfl]
    unfold f_Stacks_perform_b231
    rw [if_pos (yy_cis_P _ _), show (fun (_ : Unit) (u : xH) => f_Stacks_perform_b240 sc u) = fun _ u => some (.inl (), u) from rfl, yy_tB_id]
  have hy : ∀ p q, f_M_stackOperator_b21 70 p q s = f_M_push s 4 0 := fun p q => by
    unfold f_M_stackOperator_b21
    rw [if_neg (by decide), if_neg (by decide), if_neg (by decide), if_neg (by decide), if_neg (by decide), if_neg (by decide), if_neg (by decide), if_neg (by decide), if_neg (by decide), if_pos rfl]
    exact yy_bind_id _
  rw [hx, yy_b21_any h.2.1.1 hn hy]
  exact yy_O_give0 sc h _ _ _ _ (fun _ _ _ _ => yy_VR_mark _ _ _ _ _ _ _ _ _ _ _ _)
