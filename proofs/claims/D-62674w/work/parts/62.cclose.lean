theorem yy_close_loop {sc : xSc} {m t nd o n fr k : Nat} {σ : MT} (h40 : fr + k = n) (hf1 : 1 ≤ fr) (hlo : ∀ j, j < o → yy_cel σ j ≤ t) (hn40 : n ≤ 40) : ∀ (r j f : Nat) (g : yy_GT) (c : yy_CT), j + r = k → yy_RR g m c (yy_mvs σ fr t j) (t + k) nd o n → t + k ≤ 160 → yy_VA σ (t + k) o t k →
    ∃ g' c', f_Stacks_close_b16 sc (f + r + 1) (some 256) (nI fr) (nI k) (nI t) (nI j) (yy_cH c) = some (.inl (), yy_cH c') ∧ yy_RR g' m c' (yy_sP (fr - 1) (5, Int64.ofNat (t + 1024 * k), FP.dconst0) (sI 4 (nI fr) (yy_mvs σ fr t k))) (t + k) nd o fr ∧ yy_KQ t g c (yy_mvs σ fr t j) g' c' (yy_sP (fr - 1) (5, Int64.ofNat (t + 1024 * k), FP.dconst0) (sI 4 (nI fr) (yy_mvs σ fr t k))) ∧ yy_cI 18 c' = yy_cI 18 c
  | 0, j, f, g, c, hj, h, hk, hv => by
    have e : j = k := by omega
    subst e
    have h2 := yy_R_top h (n' := fr) (by omega)
    obtain ⟨a, v, a1, a2, a3, a4⟩ := h2.val (show fr - 1 < fr by omega)
    have m14 := (yy_oth_mvs σ fr t j).2.1 14 (by decide)
    have r := yy_R_setS h2 (show fr - 1 < fr by omega) a1 a2 (yy_VR_arr (g := g) (c := yy_tI 9 (nI fr) c) (s := sI 4 (nI fr) (yy_mvs σ fr t j)) (t := t + j) (nd := nd) (o := o) (n := t) (z := j) (l := 0) (by omega) (by omega) (by decide) (yy_VA_cong m14 hv) v.2.2.2.2.1 v.2.2.2.2.2.1 v.2.2.2.2.2.2.1 v.2.2.2.2.2.2.2 FP.dconst0)
    refine ⟨g, _, ?_, r, yy_KQ.of (((yy_KP_t9 g c _ (nI fr)).trans (yy_KP_s4 g _ _ (nI fr))).trans ((yy_KP_tS a2 a3 _).trans (yy_KP_sP g _ _ _ (Or.inl (by omega))))), rfl⟩
    show (if nI j ≤ nI j then _ else _) = _
    rw [if_pos (by rw [yy_nI_le (by omega) (by omega)]; omega), yy_cpI_9, Option.bind_some, if_pos (yy_cis_P _ _), show (0 : Int32) = nI 0 from rfl, yy_e_at (c := yy_tI 9 (nI fr) c) (n := fr) rfl (by omega) (by omega), Option.bind_some, show fr - 1 - 0 = fr - 1 by omega, a1, if_pos (yy_sgis a2), yy_e_set a2 _ _ _ _ rfl]
    rfl
  | r + 1, j, f, g, c, hj, h, hk, hv => by
    obtain ⟨b, w, b1, b2, b3, b4⟩ := h.val (show fr + j < n by omega)
    obtain ⟨a, v, p1, p2, p3, p4, p5, x, p6, p7⟩ := h.ce.2 (t + j) (by omega)
    have m14 := (yy_oth_mvs σ fr t j).2.1 14 (by decide)
    obtain ⟨q1, q2⟩ := yy_R_setC (lo := t) (x := x) h (fun z hz => by have := hlo z hz; unfold yy_cel at *; rw [m14]; exact this) (by omega) (by omega) p1 p3 p4 (yy_VR_svc v.2.2.2.2.1 b4) p6 p7
    have st : yy_sP (50 + (t + j)) (yy_pl (yy_mvs σ fr t j) (fr + j)) (yy_mvs σ fr t j) = yy_mvs σ fr t (j + 1) := by
      rw [← Nat.add_assoc]
      rfl
    rw [st] at q1 q2
    obtain ⟨g', c', e1, e2, e3, e4⟩ := yy_close_loop h40 hf1 hlo hn40 r (j + 1) f g _ (by omega) q1 hk hv
    refine ⟨g', c', ?_, e2, q2.1.trans e3, e4⟩
    show (if nI k ≤ nI j then _ else _) = _
    rw [if_neg (fun z => by rw [yy_nI_le (by omega) (by omega)] at z; omega), yy_cgR_7, Option.bind_some, yy_nI_add, yy_caR_270 (by omega), Option.bind_some, p1, yy_cgR_6, Option.bind_some, yy_nI_add, yy_caR_269 (by omega), Option.bind_some, b1, if_pos (yy_sgis p3), yy_e_copy p3 b2 b4.live, Option.bind_some, show Int32.ofInt 1 = 1 from rfl, yy_nI_add1]
    exact e1
theorem yy_O_closed {rc : rcE} {sc : xSc} {g : yy_GT} {m : Nat} {c : yy_CT} {s : MT} {t nd o n : Nat} {d : Int32} (h : yy_RR g (m + 1) c s t nd o n) : yy_OPS m c s (f_P_operate rc sc (yy_cH c) (some 256) (some 11) d) (f_M_operate s 71) := by
  have hn := h.le40
  obtain ⟨t1, t2, t3⟩ := h.tk
  refine yy_OP_head (gr := 0) 71 [] h (yy_OPc_of _ rfl) (by decide) (by decide) rfl (by simp) (by decide) (fun _ => ?_)
  have hM : f_M_stackOperator s 71 = f_M_toMark s 71 := yy_b21_any h.2.1.1 hn (fun p q => by rw [yy_Mb_71, yy_bind_id])
  rw [show yy_alls s (n - 1) [] = true from rfl, if_pos rfl, yy_oth_stk 71 rfl (Or.inr (by decide)), yy_e_b96_0, yy_Cp_11, hM]
  unfold f_M_toMark
  rcases yy_O_marked (sc := sc) h with ⟨p, p1, p2, p3⟩ | ⟨p2, p3⟩
  · rw [p2, p_tBl, yy_nI_add1, p3, Option.bind_some, show (fun (_ : Unit) (u : xH) => f_Stacks_perform_b240 sc u) = fun _ u => some (.inl (), u) from rfl, yy_tB_id]
    show yy_OPS m c s _ (if 0 ≤ nI p then (if (71 : Int32) = 71 then (f_M_newArray s (nI p + 1) ((mI 4 s - 1) - nI p) 5).bind _ else _) else _)
    rw [if_pos (show 0 ≤ nI p by rw [show (0 : Int32) = nI 0 from rfl, yy_nI_le (by omega) (by omega)]; omega), if_pos rfl, h.2.1.1, yy_nI_sub1 (by omega), yy_nI_sub (by omega), yy_nI_add1]
    unfold f_Stacks_close f_M_newArray
    rw [yy_cgI_9, Option.bind_some, if_pos (yy_cis_P _ _), h.nine, yy_nI_sub (by omega), show n - 1 - p = n - (p + 1) by omega, t2, yy_nI_add]
    by_cases ht : t + (n - (p + 1)) ≤ 160
    · rw [if_pos (by rw [show (160 : Int32) = nI 160 from rfl, yy_nI_le (by omega) (by omega)]; exact ht)]
      obtain ⟨g1, c1, e1, e2, e3, e4⟩ := yy_R_take sc h (k := n - (p + 1)) ht
      have z := yy_newArr_e (s := s) (kd := 5) (fr := p + 1) t2 ht (by omega) (n - (p + 1)) 0 (mF - (n - (p + 1)) - 1) (by omega)
      rw [show mF - (n - (p + 1)) - 1 + (n - (p + 1)) + 1 = mF by unfold mF; omega, show yy_mvs s (p + 1) t 0 = s from rfl, show nI 0 = 0 from rfl] at z
      rw [e1, p_tBl, z, Option.bind_some]
      obtain ⟨g2, c2, f1, f2, f3, f4⟩ := yy_close_loop (sc := sc) (n := n) (fr := p + 1) (k := n - (p + 1)) (σ := sI 5 (nI (t + (n - (p + 1)))) (yy_zs s t (n - (p + 1)))) (by omega) (by omega) (fun j hj => by have := h.cel j hj; unfold yy_cel at *; rw [show mA 14 (sI 5 (nI (t + (n - (p + 1)))) (yy_zs s t (n - (p + 1)))) = mA 14 s from yy_mA_zs s t 14 (by decide) _]; exact this) hn (n - (p + 1)) 0 (mF - (n - (p + 1)) - 1) g1 c1 (by omega) e2 ht (yy_VA_new h (yy_mA_zs s t 14 (by decide) _))
      rw [show mF - (n - (p + 1)) - 1 + (n - (p + 1)) + 1 = mF by unfold mF; omega, show nI 0 = 0 from rfl] at f1
      rw [f1]
      show yy_OPS m c s _ (if (0 : Int32) = 0 then (f_M_move (sI 5 (nI (t + (n - (p + 1)))) (yy_sP 40 (5, Int64.ofNat (t + 1024 * (n - (p + 1))), FP.dconst0) (yy_mvs s (p + 1) t (n - (p + 1))))) (nI p) 40).bind _ else _)
      rw [if_pos rfl, show (40 : Int32) = nI 40 from rfl, yy_e_Mmove (by omega) (by decide), Option.bind_some, show Int32.ofInt 1 = 1 from rfl, yy_nI_add1, show p + 1 - 1 = p by omega] at *
      generalize hS : sI 4 (nI (p + 1)) (yy_sP p (yy_pl (sI 5 (nI (t + (n - (p + 1)))) (yy_sP 40 (5, Int64.ofNat (t + 1024 * (n - (p + 1))), FP.dconst0) (yy_mvs s (p + 1) t (n - (p + 1))))) 40) (sI 5 (nI (t + (n - (p + 1)))) (yy_sP 40 (5, Int64.ofNat (t + 1024 * (n - (p + 1))), FP.dconst0) (yy_mvs s (p + 1) t (n - (p + 1)))))) = S
      have km1 : yy_KM (yy_mvs (sI 5 (nI (t + (n - (p + 1)))) (yy_zs s t (n - (p + 1)))) (p + 1) t (n - (p + 1))) (yy_sP p (5, Int64.ofNat (t + 1024 * (n - (p + 1))), FP.dconst0) (sI 4 (nI (p + 1)) (yy_mvs (sI 5 (nI (t + (n - (p + 1)))) (yy_zs s t (n - (p + 1)))) (p + 1) t (n - (p + 1))))) := ((yy_KM.refl _).s4 _).sP _ (Or.inl (by omega))
      have km2 : yy_KM (sI 5 (nI (t + (n - (p + 1)))) (yy_mvs s (p + 1) t (n - (p + 1)))) S := by
        rw [← hS, yy_sI_sP, yy_sI_sP]
        exact ((((yy_KM.refl _).sP _ (Or.inl (by decide))).sP _ (Or.inl (by omega))).s4 _)
      have km := (km1.symm.trans (yy_KM_mvs (s := s) (fr := p + 1) (t := t) (k := n - (p + 1)) (by omega) (nI (t + (n - (p + 1)))))).trans km2
      have rr := yy_RR_scong f2 (km.kp g2 c2) (by rw [← hS]; rfl) (fun i hi => by
        rw [← hS, yy_pl_sI, yy_pl_sP, yy_pl_sP, yy_pl_sI, yy_pl_sI, yy_pl_sI, yy_pl_sP, yy_pl_sP, if_pos rfl]
        by_cases e : i = p
        · rw [if_pos e, if_pos e]
        · rw [if_neg e, if_neg e, if_neg (by omega), yy_pl_mvs_lo _ (by omega) (by omega), yy_pl_mvs_lo _ (by omega) (by omega), yy_pl_sI, yy_pl_zs, if_neg (by omega)])
      exact yy_O_doneQ (lo := t) (g := g) ⟨g2, c2, rfl, rr.less (by omega), (e3.1.trans f3).trans (yy_KQ.of (km.kp g2 c2)), f4.trans e3.2.2.2.2.2.2.1⟩ (by rw [← hS]; rfl)
    · rw [if_neg (fun z => by rw [show (160 : Int32) = nI 160 from rfl, yy_nI_le (by omega) (by omega)] at z; omega), yy_e_take0 h.1.1 h.room t3 t1 (by rw [yy_nI_lt (by omega) (by omega)]; omega)]
      exact yy_O_fail 7 h (by decide) (by decide) rfl rfl
  · rw [p2, p3, Option.bind_some]
    exact yy_O_fail 9 h (by decide) (by decide) rfl rfl
