/-! yy_marks -/
theorem yy_marks {sc : xSc} {g : yy_GT} {m : Nat} {c : yy_CT} {s : MT} {t nd o n : Nat} (h : yy_RR g m c s t nd o n) : ∀ (j f : Nat), j ≤ n → (∃ p, p < j ∧ (yy_pl s p).1 = 4 ∧ f_Stacks_marked_b7 sc (f + j + 1) (some 256) (nI j - 1) (yy_cH c) = f_Stacks_marked_b32 sc (some 256) (nI p) (yy_cH c) ∧ f_M_topMark_b7 (f + j + 1) (nI j - 1) s = some (nI p, s)) ∨ (f_Stacks_marked_b7 sc (f + j + 1) (some 256) (nI j - 1) (yy_cH c) = f_Stacks_marked_b32 sc (some 256) (-1) (yy_cH c) ∧ f_M_topMark_b7 (f + j + 1) (nI j - 1) s = some (-1, s))
  | 0, f, _ => Or.inr ⟨rfl, rfl⟩
  | j + 1, f, hj => by
    have hn := h.le40
    obtain ⟨a, v, a1, a2, a3, a4⟩ := h.val (show j < n by omega)
    have q4 : v.1 = some 76 ↔ (yy_pl s j).1 = 4 := by
      rw [a4.isk (j := 4) (by decide)]
      obtain ⟨k, l, h1, h2, h3, h4, h5, h6⟩ := a4
      rw [h5, yy_nI_and7 h1 (h2.imp id And.left), show (4 : Int32) = nI 4 from rfl, yy_nI_inj (by omega) (by omega), yy_nI_inj (by omega) (by omega)]
      omega
    have sC : f_Stacks_marked_b7 sc (f + (j + 1) + 1) (some 256) (nI (j + 1) - 1) (yy_cH c) = if v.1 = some 76 then f_Stacks_marked_b32 sc (some 256) (nI j) (yy_cH c) else f_Stacks_marked_b7 sc (f + j + 1) (some 256) (nI j - 1) (yy_cH c) := by
      show (if nI (j + 1) - 1 < 0 then _ else _) = _
      rw [yy_nI_sub1 (by omega), Nat.add_sub_cancel, if_neg (fun z => by rw [show (0 : Int32) = nI 0 from rfl, yy_nI_lt (by omega) (by omega)] at z; omega), yy_cgR_6, Option.bind_some, yy_caR_269 (by omega), Option.bind_some, a1, if_pos (yy_sgis a2), yy_e_is a2 _ a4.cm rfl, Option.bind_some, show Int32.ofInt (-1) = -1 from rfl, ← Int32.sub_eq_add_neg]
      by_cases e : v.1 = some 76
      · rw [if_pos e, if_pos e, if_neg (show ¬ (1 : Int32) = 0 by decide)]
      · rw [if_neg e, if_neg e, if_pos rfl]
        rfl
    have sM : f_M_topMark_b7 (f + (j + 1) + 1) (nI (j + 1) - 1) s = if (yy_pl s j).1 = 4 then some (nI j, s) else f_M_topMark_b7 (f + j + 1) (nI j - 1) s := by
      show (if nI (j + 1) - 1 < 0 then _ else _) = _
      rw [yy_nI_sub1 (by omega), Nat.add_sub_cancel, if_neg (fun z => by rw [show (0 : Int32) = nI 0 from rfl, yy_nI_lt (by omega) (by omega)] at z; omega), if_pos (yy_xin_nI' (by omega) (by decide)), yy_nI_c (by omega), show Int32.ofInt (-1) = -1 from rfl, ← Int32.sub_eq_add_neg]
      rfl
    rw [sC, sM]
    by_cases e : v.1 = some 76
    · rw [if_pos e, if_pos (q4.mp e)]
      exact Or.inl ⟨j, by omega, q4.mp e, rfl, rfl⟩
    · rw [if_neg e, if_neg (fun z => e (q4.mpr z))]
      rcases yy_marks h j f (by omega) with ⟨p, p1, p2⟩ | p
      · exact Or.inl ⟨p, by omega, p2⟩
      · exact Or.inr p
/-- the topmost mark, on both sides -/
theorem yy_O_marked {sc : xSc} {g : yy_GT} {m : Nat} {c : yy_CT} {s : MT} {t nd o n : Nat} (h : yy_RR g (m + 1) c s t nd o n) : (∃ p, p < n ∧ f_Stacks_marked sc (yy_cH c) (some 256) = some (.inl (nI p), yy_cH c) ∧ f_M_topMark s = some (nI p, s)) ∨ (f_Stacks_marked sc (yy_cH c) (some 256) = some (.inr (yy_cn c), yy_cH (yy_thr 9 c)) ∧ f_M_topMark s = some (-1, s)) := by
  have hn := h.le40
  have c1 : f_Stacks_marked sc (yy_cH c) (some 256) = f_Stacks_marked_b7 sc ((mF - n - 1) + n + 1) (some 256) (nI n - 1) (yy_cH c) := by
    unfold f_Stacks_marked
    rw [yy_cgI_9, Option.bind_some, h.nine, show (mF - n - 1) + n + 1 = mF by unfold mF; omega]
  have c2 : f_M_topMark s = f_M_topMark_b7 ((mF - n - 1) + n + 1) (nI n - 1) s := by
    unfold f_M_topMark
    rw [h.2.1.1, show (mF - n - 1) + n + 1 = mF by unfold mF; omega]
  rw [c1, c2]
  rcases yy_marks (sc := sc) h n (mF - n - 1) (Nat.le_refl n) with ⟨p, p1, p2, p3, p4⟩ | ⟨p3, p4⟩
  · left
    refine ⟨p, p1, ?_, p4⟩
    rw [p3]
    unfold f_Stacks_marked_b32 f_Stacks_marked_b42
    rw [if_neg (fun z => by rw [show (0 : Int32) = nI 0 from rfl, yy_nI_lt (by omega) (by omega)] at z; omega), if_pos (yy_cis_P _ _), yy_e_need1]
    rfl
  · right
    refine ⟨?_, p4⟩
    rw [p3]
    unfold f_Stacks_marked_b32 f_Stacks_marked_b42
    rw [if_pos (by decide), if_pos (yy_cis_P _ _), yy_e_need0 9 h.1.1 h.room]
    rfl
theorem yy_O_cleartomark {rc : rcE} {sc : xSc} {g : yy_GT} {m : Nat} {c : yy_CT} {s : MT} {t nd o n : Nat} {d : Int32} (h : yy_RR g (m + 1) c s t nd o n) : yy_OPS m c s (f_P_operate rc sc (yy_cH c) (some 256) (some 10) d) (f_M_operate s 9) := by
  have hn := h.le40
  refine yy_OP_head (gr := 0) 9 [] h (yy_OPc_of _ rfl) (by decide) (by decide) rfl (by simp) (by decide) (fun _ => ?_)
  have hM : f_M_stackOperator s 9 = f_M_toMark s 9 := yy_b21_any h.2.1.1 hn (fun p q => by rw [yy_Mb_9, yy_bind_id])
  rw [show yy_alls s (n - 1) [] = true from rfl, if_pos rfl, yy_oth_stk 9 rfl (Or.inl (by decide)), yy_e_b96_0, yy_Cp_10, hM]
  unfold f_M_toMark
  rcases yy_O_marked (sc := sc) h with ⟨p, p1, p2, p3⟩ | ⟨p2, p3⟩
  · rw [p2, p_tBl, yy_cpI_9, Option.bind_some, p3, Option.bind_some]
    show yy_OPS m c s _ (if 0 ≤ nI p then _ else _)
    rw [if_pos (by rw [show (0 : Int32) = nI 0 from rfl, yy_nI_le (by omega) (by omega)]; omega), if_neg (by decide)]
    exact yy_O_done (g := g) ⟨g, _, rfl, (yy_R_top h (n' := p) (by omega)).less (by omega), (yy_KP_t9 g c s _).trans (yy_KP_s4 g _ s _), rfl⟩ rfl
  · rw [p2, p3, Option.bind_some]
    exact yy_O_fail 9 h (by decide) (by decide) rfl rfl
/-! values are moved to cells -/
def yy_mvs (s : MT) (fr t : Nat) : Nat → MT
  | 0 => s
  | j + 1 => yy_sP (50 + t + j) (yy_pl (yy_mvs s fr t j) (fr + j)) (yy_mvs s fr t j)
theorem yy_pl_mvs (s : MT) {fr t : Nat} : ∀ (k p : Nat), fr + k ≤ 50 → yy_pl (yy_mvs s fr t k) p = if 50 + t ≤ p ∧ p < 50 + t + k then yy_pl s (fr + (p - (50 + t))) else yy_pl s p
  | 0, p, _ => by
    rw [if_neg (by omega)]
    rfl
  | k + 1, p, hf => by
    show yy_pl (yy_sP (50 + t + k) (yy_pl (yy_mvs s fr t k) (fr + k)) (yy_mvs s fr t k)) p = _
    rw [yy_pl_sP, yy_pl_mvs s k p (by omega), yy_pl_mvs s k (fr + k) (by omega), if_neg (show ¬ (50 + t ≤ fr + k ∧ fr + k < 50 + t + k) by omega)]
    by_cases e : p = 50 + t + k
    · rw [if_pos e, if_pos (by omega), e, show 50 + t + k - (50 + t) = k by omega]
    · rw [if_neg e]
      by_cases f : 50 + t ≤ p ∧ p < 50 + t + k
      · rw [if_pos f, if_pos (by omega)]
      · rw [if_neg f, if_neg (by omega)]
theorem yy_oth_mvs (s : MT) (fr t : Nat) : ∀ k, (∀ j, mI j (yy_mvs s fr t k) = mI j s) ∧ (∀ j, j ≠ 1 → mA j (yy_mvs s fr t k) = mA j s) ∧ (∀ j, j ≠ 2 → mL j (yy_mvs s fr t k) = mL j s) ∧ (∀ j, j ≠ 3 → mD j (yy_mvs s fr t k) = mD j s) ∧ mG (yy_mvs s fr t k) = mG s
  | 0 => ⟨fun _ => rfl, fun _ _ => rfl, fun _ _ => rfl, fun _ _ => rfl, rfl⟩
  | k + 1 => by
    obtain ⟨h1, h2, h3, h4, h5⟩ := yy_oth_mvs s fr t k
    exact ⟨fun j => h1 j, fun j hj => (va_up_ne _ _ hj).trans (h2 j hj), fun j hj => (va_up_ne _ _ hj).trans (h3 j hj), fun j hj => (va_up_ne _ _ hj).trans (h4 j hj), h5⟩
theorem yy_oth_zs (s : MT) (t : Nat) : ∀ k, (∀ j, mI j (yy_zs s t k) = mI j s) ∧ (∀ j, j ≠ 1 → mA j (yy_zs s t k) = mA j s) ∧ (∀ j, j ≠ 2 → mL j (yy_zs s t k) = mL j s) ∧ (∀ j, j ≠ 3 → mD j (yy_zs s t k) = mD j s) ∧ mG (yy_zs s t k) = mG s
  | 0 => ⟨fun _ => rfl, fun _ _ => rfl, fun _ _ => rfl, fun _ _ => rfl, rfl⟩
  | k + 1 => by
    obtain ⟨h1, h2, h3, h4, h5⟩ := yy_oth_zs s t k
    exact ⟨fun j => h1 j, fun j hj => (va_up_ne _ _ hj).trans (h2 j hj), fun j hj => (va_up_ne _ _ hj).trans (h3 j hj), fun j hj => (va_up_ne _ _ hj).trans (h4 j hj), h5⟩
/-- moved over zeros, or over what there was -/
theorem yy_KM_mvs {s : MT} {fr t k : Nat} (hf : fr + k ≤ 50) (x : Int32) : yy_KM (yy_mvs (sI 5 x (yy_zs s t k)) fr t k) (sI 5 x (yy_mvs s fr t k)) := by
  obtain ⟨a1, a2, a3, a4, a5⟩ := yy_oth_mvs (sI 5 x (yy_zs s t k)) fr t k
  obtain ⟨b1, b2, b3, b4, b5⟩ := yy_oth_mvs s fr t k
  obtain ⟨c1, c2, c3, c4, c5⟩ := yy_oth_zs s t k
  refine ⟨fun p h1 h2 => ?_, fun j hj => ?_, fun j hj => ?_, fun j hj => ?_, fun j hj => ?_, ?_⟩
  · rw [yy_pl_sI, yy_pl_mvs s k p hf, yy_pl_mvs _ k p hf, yy_pl_sI, yy_pl_sI, yy_pl_zs, yy_pl_zs]
    by_cases e : 50 + t ≤ p ∧ p < 50 + t + k
    · rw [if_pos e, if_pos e, if_neg (by omega)]
    · rw [if_neg e, if_neg e, if_neg e]
  · rw [a2 j hj]
    show mA j (yy_mvs s fr t k) = mA j (yy_zs s t k)
    rw [b2 j hj, c2 j hj]
  · rw [a3 j hj]
    show mL j (yy_mvs s fr t k) = mL j (yy_zs s t k)
    rw [b3 j hj, c3 j hj]
  · rw [a4 j hj]
    show mD j (yy_mvs s fr t k) = mD j (yy_zs s t k)
    rw [b4 j hj, c4 j hj]
  · rw [a1 j, yy_mI_sI, yy_mI_sI, b1 j, c1 j]
  · rw [a5]
    show mG (yy_mvs s fr t k) = mG (yy_zs s t k)
    rw [b5, c5]
theorem yy_pl_mvs_lo (s : MT) {fr t k p : Nat} (hf : fr + k ≤ 50) (hp : p < 50) : yy_pl (yy_mvs s fr t k) p = yy_pl s p := by
  rw [yy_pl_mvs s k p hf, if_neg (by omega)]
/-- the model's new array -/
theorem yy_newArr_e {s : MT} {t fr k : Nat} {kd : Int32} (h5 : mI 5 s = nI t) (hk : t + k ≤ 160) (hf : fr + k ≤ 50) : ∀ (r j f : Nat), j + r = k → f_M_newArray_b18 (f + r + 1) (nI fr) (nI k) kd (nI j) (yy_mvs s fr t j) = some (0, sI 5 (nI (t + k)) (yy_sP 40 (kd, Int64.ofNat (t + 1024 * k), FP.dconst0) (yy_mvs s fr t k)))
  | 0, j, f, hj => by
    have e : j = k := by omega
    subst e
    have m5 := (yy_oth_mvs s fr t j).1 5
    show (if nI j ≤ nI j then _ else _) = _
    rw [if_pos (by rw [yy_nI_le (by omega) (by omega)]; omega), m5, h5, yy_code_e (by omega) (by omega), show (40 : Int32) = nI 40 from rfl, yy_e_Mset _ _ (by decide), Option.bind_some, yy_mI_sP, m5, h5, yy_nI_add]
  | r + 1, j, f, hj => by
    have m5 := (yy_oth_mvs s fr t j).1 5
    show (if nI k ≤ nI j then _ else (f_M_move (yy_mvs s fr t j) (50 + mI 5 (yy_mvs s fr t j) + nI j) (nI fr + nI j)).bind fun s5 => (f_M_newArray_b18 (f + (r + 1))) (nI fr) (nI k) kd (nI j + Int32.ofInt 1) s5) = _
    rw [if_neg (fun z => by rw [yy_nI_le (by omega) (by omega)] at z; omega), m5, h5, show (50 : Int32) = nI 50 from rfl, yy_nI_add, yy_nI_add, yy_nI_add, yy_e_Mmove (by omega) (by omega), Option.bind_some, show Int32.ofInt 1 = 1 from rfl, yy_nI_add1, show f + (r + 1) = f + r + 1 by omega]
    exact yy_newArr_e h5 hk hf r (j + 1) f (by omega)
