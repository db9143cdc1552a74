/-! the group of numbers -/
theorem yy_xcm_lt {k : Nat} (h : k < 80) : xcm (some k) = true := by
  unfold xcm
  dsimp only
  rw [decide_eq_true h, Bool.true_or]
section NUM
variable {sc : xSc} {c : yy_CT} {a b k m : Nat} {v w : yy_SV}
theorem yy_N_perf (gg : Option Nat) (d : Int32) (ha : yy_slv c a = some v) (hb : yy_slv c b = some w) (h1 : xcm v.1 = true) (h2 : xcm w.1 = true) : f_Numbers_perform sc (yy_cH c) gg (some 256) (some k) (some a) (some b) d = f_Numbers_perform_b26 sc (some 256) (some k) (some a) (some b) (if v.1 = some 72 ∧ w.1 = some 72 then 1 else 0) (yy_cH c) := by
  unfold f_Numbers_perform
  rw [if_pos (yy_sgis ha), yy_e_is ha _ h1 rfl, Option.bind_some]
  by_cases e : v.1 = some 72
  · rw [if_pos e, if_neg (by decide), if_pos (yy_sgis hb), yy_e_is hb _ h2 rfl, Option.bind_some]
    by_cases f : w.1 = some 72
    · rw [if_pos f, if_neg (by decide), if_pos ⟨e, f⟩]
    · rw [if_neg f, if_pos rfl, if_neg (fun z => f z.2)]
      rfl
  · rw [if_neg e, if_pos rfl, if_neg (fun z => e z.1)]
    rfl
theorem yy_N_b80_0 {l6 l7 : Int32} (hF : yy_FRc c) (hm : yy_RMc c (m + 1)) : f_Numbers_perform_b80 sc (some 256) (some k) (some a) (some b) l6 l7 0 (some 256) (yy_cH c) = some (.inr (yy_cn c), yy_cH (yy_thr 3 c)) := by
  unfold f_Numbers_perform_b80
  rw [if_pos (yy_cis_P _ _), yy_e_type0 hF hm]
  rfl
theorem yy_N_b80_1 {l6 : Int32} (hk : k < 72) (h15 : k ≠ 15) : f_Numbers_perform_b80 sc (some 256) (some k) (some a) (some b) l6 0 1 (some 256) (yy_cH c) = f_Numbers_perform_b111 sc (some 256) (some k) (some a) (some b) l6 1 (some 256) (yy_cH c) := by
  unfold f_Numbers_perform_b80
  rw [if_pos (yy_cis_P _ _), yy_e_type1, p_tBl, if_pos rfl, if_pos (yy_xcm_lt (by omega)), if_pos (show xcm (some 15) = true from rfl), if_neg (by simp [h15])]
  rfl
theorem yy_N_b26 {l6 : Int32} (hk : k < 72) (h16 : k ≠ 16) (h17 : k ≠ 17) (ha : yy_slv c a = some v) (hb : yy_slv c b = some w) (h1 : xcm v.1 = true) (h2 : xcm w.1 = true) : f_Numbers_perform_b26 sc (some 256) (some k) (some a) (some b) l6 (yy_cH c) = f_Numbers_perform_b80 sc (some 256) (some k) (some a) (some b) l6 0 (if (v.1 = some 72 ∨ v.1 = some 73) ∧ (w.1 = some 72 ∨ w.1 = some 73) then 1 else 0) (some 256) (yy_cH c) := by
  unfold f_Numbers_perform_b26
  rw [if_pos (yy_xcm_lt (by omega)), if_pos (show xcm (some 16) = true from rfl), if_neg (by simp [h16]), if_pos (yy_xcm_lt (by omega)), if_pos (show xcm (some 17) = true from rfl), if_neg (by simp [h17])]
  unfold f_Numbers_perform_b47
  rw [if_pos rfl, if_pos (yy_sgis ha), yy_e_isNum ha h1, Option.bind_some]
  by_cases e : v.1 = some 72 ∨ v.1 = some 73
  · rw [if_pos e, if_neg (by decide), if_pos (yy_sgis hb), yy_e_isNum hb h2, Option.bind_some]
    by_cases f : w.1 = some 72 ∨ w.1 = some 73
    · rw [if_pos f, if_neg (by decide), if_pos ⟨e, f⟩]
    · rw [if_neg f, if_pos rfl, if_neg (fun z => f z.2)]
      rfl
  · rw [if_neg e, if_pos rfl, if_neg (fun z => e z.1)]
    rfl
theorem yy_N_b26c {l6 : Int32} (hk : k = 16 ∨ k = 17) : f_Numbers_perform_b26 sc (some 256) (some k) (some a) (some b) l6 (yy_cH c) = f_Numbers_perform_b80 sc (some 256) (some k) (some a) (some b) l6 1 l6 (some 256) (yy_cH c) := by
  unfold f_Numbers_perform_b26
  rw [if_pos (yy_xcm_lt (by omega)), if_pos (show xcm (some 16) = true from rfl)]
  have e : f_Numbers_perform_b42 sc (some 256) (some k) (some a) (some b) l6 (yy_cH c) = f_Numbers_perform_b80 sc (some 256) (some k) (some a) (some b) l6 1 l6 (some 256) (yy_cH c) := by
    unfold f_Numbers_perform_b42 f_Numbers_perform_b47
    rw [if_neg (by decide)]
  rcases hk with h | h
  · rw [if_pos (by rw [h]), e]
  · rw [if_neg (by simp [h]), if_pos (yy_xcm_lt (by omega)), if_pos (show xcm (some 17) = true from rfl), if_pos (by rw [h]), e]
theorem yy_N_285 {l6 : Int32} (hk : k = 12 ∨ k = 13 ∨ k = 14 ∨ k = 18 ∨ k = 19 ∨ k = 20) : f_Numbers_perform_b111 sc (some 256) (some k) (some a) (some b) l6 1 (some 256) (yy_cH c) = f_Numbers_perform_b285 sc (some 256) (some k) (some a) (some b) l6 (yy_cH c) := by
  unfold f_Numbers_perform_b111
  rw [if_pos (yy_cis_P _ _), yy_e_need1, p_tBl]
  rcases hk with h | h | h | h | h | h
  all_goals subst h
  · rw [if_pos (show xis sc (yy_cH c) 19 (some 12) = true from rfl), show f_Enum_ordinal19 sc (yy_cH c) (some 12) = some 12 from rfl, Option.bind_some, if_neg (by decide), if_neg (by decide), if_neg (by decide), if_neg (by decide), if_neg (by decide), if_neg (by decide), if_neg (by decide), if_neg (by decide)]
  · rw [if_pos (show xis sc (yy_cH c) 19 (some 13) = true from rfl), show f_Enum_ordinal19 sc (yy_cH c) (some 13) = some 13 from rfl, Option.bind_some, if_neg (by decide), if_neg (by decide), if_neg (by decide), if_neg (by decide), if_neg (by decide), if_neg (by decide), if_neg (by decide), if_neg (by decide)]
  · rw [if_pos (show xis sc (yy_cH c) 19 (some 14) = true from rfl), show f_Enum_ordinal19 sc (yy_cH c) (some 14) = some 14 from rfl, Option.bind_some, if_neg (by decide), if_neg (by decide), if_neg (by decide), if_neg (by decide), if_neg (by decide), if_neg (by decide), if_neg (by decide), if_neg (by decide)]
  · rw [if_pos (show xis sc (yy_cH c) 19 (some 18) = true from rfl), show f_Enum_ordinal19 sc (yy_cH c) (some 18) = some 18 from rfl, Option.bind_some, if_neg (by decide), if_neg (by decide), if_neg (by decide), if_pos rfl]
  · rw [if_pos (show xis sc (yy_cH c) 19 (some 19) = true from rfl), show f_Enum_ordinal19 sc (yy_cH c) (some 19) = some 19 from rfl, Option.bind_some, if_neg (by decide), if_neg (by decide), if_neg (by decide), if_neg (by decide), if_pos rfl]
  · rw [if_pos (show xis sc (yy_cH c) 19 (some 20) = true from rfl), show f_Enum_ordinal19 sc (yy_cH c) (some 20) = some 20 from rfl, Option.bind_some, if_neg (by decide), if_neg (by decide), if_neg (by decide), if_neg (by decide), if_neg (by decide), if_pos rfl]
theorem yy_N_285i {r : Nat} (ht : gI sc (yy_cH c) 19 2 (some k) = some (nI r)) (ha : yy_slv c a = some v) (hb : yy_slv c b = some w) {z : Int64} (he : f_Numbers_exact (some k) v.2.2.1.toInt64 w.2.2.1.toInt64 = some z) : f_Numbers_perform_b285 sc (some 256) (some k) (some a) (some b) 1 (yy_cH c) = f_P_whole sc (yy_cH c) (some 256) (nI r) z := by
  unfold f_Numbers_perform_b285
  rw [if_neg (by decide), ht, Option.bind_some, yy_sg2 ha, Option.bind_some, yy_sg2 hb, Option.bind_some, he, Option.bind_some, if_pos (yy_cis_P _ _)]
  exact yy_tB_id _
theorem yy_N_285r {r : Nat} (ht : gI sc (yy_cH c) 19 2 (some k) = some (nI r)) (ha : yy_slv c a = some v) (hb : yy_slv c b = some w) (h1 : xcm v.1 = true) (h2 : xcm w.1 = true) {z : UInt64} (he : f_Numbers_worked (some k) (yy_nv v) (yy_nv w) = some z) : f_Numbers_perform_b285 sc (some 256) (some k) (some a) (some b) 0 (yy_cH c) = f_P_giveReal sc (yy_cH c) (some 256) (nI r) z := by
  unfold f_Numbers_perform_b285
  rw [if_pos rfl, ht, Option.bind_some, if_pos (yy_sgis ha), yy_e_value ha h1, Option.bind_some, if_pos (yy_sgis hb), yy_e_value hb h2, Option.bind_some, he, Option.bind_some, if_pos (yy_cis_P _ _)]
  exact yy_tB_id _
end NUM
theorem yy_oth_num {s : MT} (op : Int32) (h1 : f_M_suitsOther s op = some (1, s)) (h2 : yy_dsp op s = f_M_sum s op) : yy_oth op s = f_M_sum s op := by
  unfold yy_oth
  rw [h1, Option.bind_some]
  show (if (1 : Int32) = 0 then _ else _) = _
  rw [if_neg (by decide)]
  exact h2
theorem yy_e_Msum {s : MT} {n : Nat} (op : Int32) (h : mI 4 s = nI n) (hn : n ≤ 40) (h2 : 2 ≤ n) : f_M_sum s op = (if op ≤ 12 then f_M_sum_b72 op (nI (n - 1)) (yy_pl s (n - 2)).2.1 (yy_pl s (n - 1)).2.1 (yy_nq (yy_pl s (n - 2))) (yy_nq (yy_pl s (n - 1))) s else if op = 13 then (if (Op.cmpValue (FP.dcmp (yy_nq (yy_pl s (n - 1))) FP.dconst0) .l) = 0 then some (6, s) else f_M_sum_b72 op (nI (n - 1)) (yy_pl s (n - 2)).2.1 (yy_pl s (n - 1)).2.1 (yy_nq (yy_pl s (n - 2))) (yy_nq (yy_pl s (n - 1))) s) else (if lg_cmp (yy_pl s (n - 1)).2.1 0 = 0 then some (6, s) else f_M_sum_b72 op (nI (n - 1)) (yy_pl s (n - 2)).2.1 (yy_pl s (n - 1)).2.1 (yy_nq (yy_pl s (n - 2))) (yy_nq (yy_pl s (n - 1))) s)) := by
  unfold f_M_sum
  rw [h, yy_nI_sub1 (by omega), yy_nI_sub1 (by omega), show n - 1 - 1 = n - 2 by omega, if_pos (yy_xin_nI' (by omega) (by decide)), if_pos (yy_xin_nI' (by omega) (by decide)), yy_e_MnumAt (by omega), Option.bind_some]
  show (f_M_numberAt s (nI (n - 1))).bind _ = _
  rw [yy_e_MnumAt (by omega), Option.bind_some, yy_nI_c (by omega), yy_nI_c (by omega)]
  rfl
/-- a sum of two on both sides -/
theorem yy_O_bin {rc : rcE} {sc : xSc} {g : yy_GT} {m : Nat} {c : yy_CT} {s : MT} {t nd o n k : Nat} {d : Int32} (op : Int32) (F : Int64 → Int64 → Int64) (G : UInt64 → UInt64 → UInt64) (h : yy_RR g (m + 1) c s t nd o n) (ho : yy_OPc sc k 2 1) (hk : k = 12 ∨ k = 13 ∨ k = 14) (hp : f_M_pattern s op = some (nI (yy_dg [2, 2]), s)) (hs : yy_oth op s = f_M_sum s op) (hop : op ≤ 12)
    (e1 : ∀ x y, f_Numbers_exact (some k) x y = some (F x y)) (e2 : ∀ x y, xn64 (G x y) = true → f_Numbers_worked (some k) x y = some (G x y)) (e3 : ∀ x y, qfin x → qfin y → xn64 (G x y) = true)
    (e4 : ∀ p x y a b, p + 1 < 1300 → f_M_sum_b72 op (nI (p + 1)) x y a b s = if (yy_pl s (p + 1)).1 = 0 ∧ (yy_pl s p).1 = 0 then f_M_giveExact s (nI 2) (F x y) else if xn64 (G a b) = true then f_M_giveReal s (nI 2) (G a b) else none) :
    yy_OPS m c s (f_P_operate rc sc (yy_cH c) (some 256) (some k) d) (f_M_operate s op) := by
  have hn := h.le40
  have hk72 : k < 72 := by omega
  refine yy_OP_head (gr := 1) op [2, 2] h ho hk72 (by decide) hp (by decide) (by decide) (fun hr => ?_)
  have hr : 2 ≤ n := hr
  obtain ⟨b, w, b1, b2, b3, b4⟩ := h.val (show n - 1 < n by omega)
  obtain ⟨a, v, a1, a2, a3, a4⟩ := h.val (show n - 2 < n by omega)
  obtain ⟨o1, o2, o3, o4⟩ := ho.g hk72 (yy_cH c)
  rw [yy_alls2, show n - 1 - 1 = n - 2 by omega, b4.sk2, a4.sk2, yy_e_b96_1, show yy_opA c n [2, 2].length = yy_cR 269 c (n - 2) from yy_opA_1 c n 1, a1, show yy_opB c n [2, 2].length = yy_cR 269 c (n - 2 + 1) from yy_opB_2 c n 0, show n - 2 + 1 = n - 1 by omega, b1, yy_N_perf _ _ a2 b2 a4.cm b4.cm, yy_N_b26 hk72 (by omega) (by omega) a2 b2 a4.cm b4.cm]
  by_cases hv : (v.1 = some 72 ∨ v.1 = some 73) ∧ (w.1 = some 72 ∨ w.1 = some 73)
  · rw [if_pos (show _ = true by rw [decide_eq_true hv.1, decide_eq_true hv.2]; rfl), if_pos hv, yy_N_b80_1 hk72 (by omega), yy_N_285 (by omega), hs, yy_e_Msum op h.2.1.1 hn hr, if_pos hop]
    obtain ⟨q1, q2⟩ := a4.nval hv.1
    obtain ⟨q3, q4⟩ := b4.nval hv.2
    have e5 := e4 (n - 2) (yy_pl s (n - 2)).2.1 (yy_pl s (n - 1)).2.1 (yy_nq (yy_pl s (n - 2))) (yy_nq (yy_pl s (n - 1))) (by omega)
    rw [show n - 2 + 1 = n - 1 by omega] at e5
    rw [e5]
    by_cases hi : v.1 = some 72 ∧ w.1 = some 72
    · obtain ⟨i1, i2, i3⟩ := a4.int hi.1
      obtain ⟨j1, j2, j3⟩ := b4.int hi.2
      rw [if_pos hi, if_pos ⟨j3, i3⟩, yy_N_285i o2 a2 b2 (e1 _ _), i1, j1]
      exact yy_O_whole sc h hr (by decide) _
    · rw [if_neg hi, if_neg (fun z => hi ⟨?_, ?_⟩), q1, q3, if_pos (e3 _ _ q2 q4), yy_N_285r o2 a2 b2 a4.cm b4.cm (e2 _ _ (e3 _ _ q2 q4))]
      · exact yy_O_giveReal sc h hr (by decide) (e3 _ _ q2 q4)
      · exact (a4.isk (j := 0) (by decide)).mpr (by rw [z.2]; rfl)
      · exact (b4.isk (j := 0) (by decide)).mpr (by rw [z.1]; rfl)
  · rw [if_neg hv, yy_N_b80_0 h.1.1 h.room, if_neg (fun z => hv (by rw [Bool.and_eq_true, decide_eq_true_eq, decide_eq_true_eq] at z; exact ⟨z.2, z.1⟩))]
    exact yy_O_fail 3 h (by decide) (by decide) rfl rfl

theorem yy_O_add {rc : rcE} {sc : xSc} {g : yy_GT} {m : Nat} {c : yy_CT} {s : MT} {t nd o n : Nat} {d : Int32} (h : yy_RR g (m + 1) c s t nd o n) : yy_OPS m c s (f_P_operate rc sc (yy_cH c) (some 256) (some 12) d) (f_M_operate s 10) := by
  refine yy_O_bin 10 (fun x y => x + y) FP.dadd h (yy_OPc_of _ rfl) (Or.inl rfl) rfl (yy_oth_num 10 rfl rfl) (by decide) (fun _ _ => rfl) (fun x y hx => ?_) (fun _ _ => q_dadd) (fun p x y a b hp => ?_)
  · simp [f_Numbers_worked, f_Numbers_worked_b16, f_Numbers_worked_b93, hx, show xcm (some 12) = true from rfl, show xcm (some 13) = true from rfl, show xcm (some 14) = true from rfl, show xcm (some 18) = true from rfl, show xcm (some 20) = true from rfl]
  · unfold f_M_sum_b72
    rw [if_neg (show ¬ (10 : Int32) = 13 by decide), if_neg (show ¬ (10 : Int32) = 14 by decide), if_neg (show ¬ (10 : Int32) = 15 by decide), if_pos (yy_xin_nI' hp (by decide)), yy_nI_c (by omega), yy_nI_sub1 (by omega), Nat.add_sub_cancel, if_pos (yy_xin_nI' (by omega) (by decide)), yy_nI_c (by omega)]
    have e177 : f_M_sum_b177 10 a b s = if xn64 (FP.dadd a b) = true then f_M_giveReal s (nI 2) (FP.dadd a b) else none := by
      unfold f_M_sum_b177
      rw [if_pos rfl]
      rw [show f_M_sum_b212 (FP.dadd a b) 2 s = f_M_giveReal s (nI 2) (FP.dadd a b) from yy_bind_id _]
    show (if (yy_pl s (p + 1)).1 = 0 then (if (yy_pl s p).1 = 0 then _ else _) else _) = _
    by_cases e1 : (yy_pl s (p + 1)).1 = 0
    · by_cases e2 : (yy_pl s p).1 = 0
      · rw [if_pos e1, if_pos e2, if_pos rfl, if_pos (show _ ∧ _ from ⟨e1, e2⟩)]
        exact yy_bind_id _
      · rw [if_pos e1, if_neg e2, if_neg (fun z => e2 z.2), e177]
    · rw [if_neg e1, if_neg (fun z => e1 z.1), e177]
theorem yy_O_sub {rc : rcE} {sc : xSc} {g : yy_GT} {m : Nat} {c : yy_CT} {s : MT} {t nd o n : Nat} {d : Int32} (h : yy_RR g (m + 1) c s t nd o n) : yy_OPS m c s (f_P_operate rc sc (yy_cH c) (some 256) (some 13) d) (f_M_operate s 11) := by
  refine yy_O_bin 11 (fun x y => x - y) FP.dsub h (yy_OPc_of _ rfl) (Or.inr (Or.inl rfl)) rfl (yy_oth_num 11 rfl rfl) (by decide) (fun _ _ => rfl) (fun x y hx => ?_) (fun _ _ => q_dsub) (fun p x y a b hp => ?_)
  · simp [f_Numbers_worked, f_Numbers_worked_b16, f_Numbers_worked_b93, hx, show xcm (some 12) = true from rfl, show xcm (some 13) = true from rfl, show xcm (some 14) = true from rfl, show xcm (some 18) = true from rfl, show xcm (some 20) = true from rfl]
  · unfold f_M_sum_b72
    rw [if_neg (show ¬ (11 : Int32) = 13 by decide), if_neg (show ¬ (11 : Int32) = 14 by decide), if_neg (show ¬ (11 : Int32) = 15 by decide), if_pos (yy_xin_nI' hp (by decide)), yy_nI_c (by omega), yy_nI_sub1 (by omega), Nat.add_sub_cancel, if_pos (yy_xin_nI' (by omega) (by decide)), yy_nI_c (by omega)]
    have e177 : f_M_sum_b177 11 a b s = if xn64 (FP.dsub a b) = true then f_M_giveReal s (nI 2) (FP.dsub a b) else none := by
      unfold f_M_sum_b177
      rw [if_neg (show ¬ (11 : Int32) = 10 by decide), if_pos rfl]
      rw [show f_M_sum_b212 (FP.dsub a b) 2 s = f_M_giveReal s (nI 2) (FP.dsub a b) from yy_bind_id _]
    show (if (yy_pl s (p + 1)).1 = 0 then (if (yy_pl s p).1 = 0 then _ else _) else _) = _
    by_cases e1 : (yy_pl s (p + 1)).1 = 0
    · by_cases e2 : (yy_pl s p).1 = 0
      · rw [if_pos e1, if_pos e2, if_neg (show ¬ (11 : Int32) = 10 by decide), if_pos rfl, if_pos (show _ ∧ _ from ⟨e1, e2⟩)]
        exact yy_bind_id _
      · rw [if_pos e1, if_neg e2, if_neg (fun z => e2 z.2), e177]
    · rw [if_neg e1, if_neg (fun z => e1 z.1), e177]
theorem yy_O_mul {rc : rcE} {sc : xSc} {g : yy_GT} {m : Nat} {c : yy_CT} {s : MT} {t nd o n : Nat} {d : Int32} (h : yy_RR g (m + 1) c s t nd o n) : yy_OPS m c s (f_P_operate rc sc (yy_cH c) (some 256) (some 14) d) (f_M_operate s 12) := by
  refine yy_O_bin 12 (fun x y => x * y) FP.dmul h (yy_OPc_of _ rfl) (Or.inr (Or.inr rfl)) rfl (yy_oth_num 12 rfl rfl) (by decide) (fun _ _ => rfl) (fun x y hx => ?_) (fun _ _ => q_dmul) (fun p x y a b hp => ?_)
  · simp [f_Numbers_worked, f_Numbers_worked_b16, f_Numbers_worked_b93, hx, show xcm (some 12) = true from rfl, show xcm (some 13) = true from rfl, show xcm (some 14) = true from rfl, show xcm (some 18) = true from rfl, show xcm (some 20) = true from rfl]
  · unfold f_M_sum_b72
    rw [if_neg (show ¬ (12 : Int32) = 13 by decide), if_neg (show ¬ (12 : Int32) = 14 by decide), if_neg (show ¬ (12 : Int32) = 15 by decide), if_pos (yy_xin_nI' hp (by decide)), yy_nI_c (by omega), yy_nI_sub1 (by omega), Nat.add_sub_cancel, if_pos (yy_xin_nI' (by omega) (by decide)), yy_nI_c (by omega)]
    have e177 : f_M_sum_b177 12 a b s = if xn64 (FP.dmul a b) = true then f_M_giveReal s (nI 2) (FP.dmul a b) else none := by
      unfold f_M_sum_b177
      rw [if_neg (show ¬ (12 : Int32) = 10 by decide), if_neg (show ¬ (12 : Int32) = 11 by decide)]
      rw [show f_M_sum_b212 (FP.dmul a b) 2 s = f_M_giveReal s (nI 2) (FP.dmul a b) from yy_bind_id _]
    show (if (yy_pl s (p + 1)).1 = 0 then (if (yy_pl s p).1 = 0 then _ else _) else _) = _
    by_cases e1 : (yy_pl s (p + 1)).1 = 0
    · by_cases e2 : (yy_pl s p).1 = 0
      · rw [if_pos e1, if_pos e2, if_neg (show ¬ (12 : Int32) = 10 by decide), if_neg (show ¬ (12 : Int32) = 11 by decide), if_pos (show _ ∧ _ from ⟨e1, e2⟩)]
        exact yy_bind_id _
      · rw [if_pos e1, if_neg e2, if_neg (fun z => e2 z.2), e177]
    · rw [if_neg e1, if_neg (fun z => e1 z.1), e177]
