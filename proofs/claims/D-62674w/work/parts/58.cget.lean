theorem yy_VR.arr {g : yy_GT} {c : yy_CT} {s : MT} {t nd o : Nat} {v : yy_SV} {q : Int32 × Int64 × UInt64} (h : yy_VR g c s t nd o v q) (hk : v.1 = some 77) : ∃ x z l : Nat, x ≤ 160 ∧ z ≤ 160 ∧ v.2.2.1 = nI x ∧ v.2.2.2.1 = nI z ∧ q.2.1 = Int64.ofNat (x + 1024 * z) ∧ yy_VA s t o x z ∧ l ≤ 1 ∧ v.2.1 = nI l ∧ q.1 = nI (5 + 8 * l) := by
  obtain ⟨k, l, h1, h2, h3, h4, h5, h6⟩ := h
  rw [hk] at h3
  have := Option.some.inj h3
  have hk0 : k = 5 := by omega
  rw [hk0, yy_VP_5] at h6
  rw [hk0] at h5
  obtain ⟨x, z, e1, e2, e3, e4, e5, e6⟩ := h6
  exact ⟨x, z, l, e1, e2, e3, e4, e5, e6, by omega, h4, h5⟩
theorem yy_so_b178 (x y : Int32) (s : MT) : f_M_suitsOther_b178 x y s = some (if x = 6 ∧ y = 3 then 1 else 0, s) := by
  unfold f_M_suitsOther_b178
  by_cases e : x = 6
  · rw [if_pos e]
    by_cases f : y = 3
    · rw [if_pos f, if_pos ⟨e, f⟩]
      rfl
    · rw [if_neg f, if_neg (fun z => f z.2)]
      rfl
  · rw [if_neg e, if_neg (fun z => e z.1)]
    rfl
theorem yy_so_b84 {op : Int32} (h : op = 39 ∨ op = 40) (l2 x y : Int32) (s : MT) : f_M_suitsOther_b84 op l2 x y s = some (if (x = 5 ∧ y = 0) ∨ (x = 6 ∧ y = 3) then 1 else 0, s) := by
  have key : (if x = 5 then (if y = 0 then f_M_suitsOther_b190 s else f_M_suitsOther_b178 x y s) else f_M_suitsOther_b178 x y s) = some (if (x = 5 ∧ y = 0) ∨ (x = 6 ∧ y = 3) then 1 else 0, s) := by
    by_cases e : x = 5
    · rw [if_pos e]
      by_cases f : y = 0
      · rw [if_pos f, if_pos (Or.inl ⟨e, f⟩)]
        rfl
      · rw [if_neg f, yy_so_b178, if_neg (fun z => by rw [e] at z; exact absurd z.1 (by decide)), if_neg (fun z => z.elim (fun q => f q.2) (fun q => by rw [e] at q; exact absurd q.1 (by decide)))]
    · rw [if_neg e, yy_so_b178]
      by_cases f : x = 6 ∧ y = 3
      · rw [if_pos f, if_pos (Or.inr f)]
      · rw [if_neg f, if_neg (fun z => z.elim (fun q => e q.1) f)]
  unfold f_M_suitsOther_b84
  rcases h with e | e
  · subst e
    rw [if_neg (by decide), if_neg (by decide), if_neg (by decide), if_neg (by decide), key]
  · subst e
    rw [if_neg (by decide), if_neg (by decide), if_neg (by decide), if_neg (by decide), key]
theorem yy_so_39 {s : MT} {n : Nat} (h : mI 4 s = nI n) (hn : n ≤ 40) (h2 : 2 ≤ n) : f_M_suitsOther s 39 = some (if ((yy_pl s (n - 2)).1 &&& 7 = 5 ∧ (yy_pl s (n - 1)).1 &&& 7 = 0) ∨ ((yy_pl s (n - 2)).1 &&& 7 = 6 ∧ (yy_pl s (n - 1)).1 &&& 7 = 3) then 1 else 0, s) := by
  unfold f_M_suitsOther f_M_suitsOther_b26 f_M_suitsOther_b59
  rw [if_neg (by decide), if_neg (by decide), if_neg (by decide), if_pos (by decide), if_neg (by decide), if_pos rfl, h, yy_nI_sub1 (by omega), yy_nI_sub1 (by omega), show n - 1 - 1 = n - 2 by omega, yy_e_Mkind (by omega), Option.bind_some]
  show (if (39 : Int32) = 40 then _ else (f_M_kindOf s (nI (n - 1))).bind _) = _
  rw [if_neg (by decide), yy_e_Mkind (by omega), Option.bind_some]
  exact yy_so_b84 (Or.inl rfl) _ _ _ s
theorem yy_so_40 {s : MT} {n : Nat} (h : mI 4 s = nI n) (hn : n ≤ 40) (h2 : 3 ≤ n) : f_M_suitsOther s 40 = some (if ((yy_pl s (n - 3)).1 &&& 7 = 5 ∧ (yy_pl s (n - 2)).1 &&& 7 = 0) ∨ ((yy_pl s (n - 3)).1 &&& 7 = 6 ∧ (yy_pl s (n - 2)).1 &&& 7 = 3) then 1 else 0, s) := by
  unfold f_M_suitsOther f_M_suitsOther_b26 f_M_suitsOther_b59
  rw [if_neg (by decide), if_neg (by decide), if_neg (by decide), if_pos (by decide), if_pos rfl, h, yy_nI_sub1 (by omega), show (2 : Int32) = nI 2 from rfl, yy_nI_sub (by omega), show n - 1 - 2 = n - 3 by omega, yy_e_Mkind (by omega), Option.bind_some]
  show (if (40 : Int32) = 40 then (f_M_kindOf s (nI (n - 1) - 1)).bind _ else _) = _
  rw [if_pos rfl, yy_nI_sub1 (by omega), show n - 1 - 1 = n - 2 by omega, yy_e_Mkind (by omega), Option.bind_some]
  exact yy_so_b84 (Or.inr rfl) _ _ _ s
theorem yy_so_38 {s : MT} {n : Nat} (h : mI 4 s = nI n) (hn : n ≤ 40) (h2 : 1 ≤ n) : f_M_suitsOther s 38 = some (if (yy_pl s (n - 1)).1 &&& 7 = 5 ∨ (yy_pl s (n - 1)).1 &&& 7 = 6 then 1 else 0, s) := by
  unfold f_M_suitsOther f_M_suitsOther_b26 f_M_suitsOther_b59
  rw [if_neg (by decide), if_neg (by decide), if_neg (by decide), if_pos (by decide), if_neg (by decide), if_neg (by decide), h, yy_nI_sub1 (by omega), yy_e_Mkind (by omega), Option.bind_some]
  show (if (38 : Int32) = 40 then _ else (f_M_kindOf s (nI (n - 1))).bind _) = _
  rw [if_neg (by decide), yy_e_Mkind (by omega), Option.bind_some]
  show f_M_suitsOther_b84 38 (nI (n - 1)) ((yy_pl s (n - 1)).1 &&& 7) ((yy_pl s (n - 1)).1 &&& 7) s = _
  unfold f_M_suitsOther_b84
  rw [if_neg (by decide), if_neg (by decide), if_neg (by decide), if_pos rfl]
  by_cases e2 : (yy_pl s (n - 1)).1 &&& 7 = 5
  · rw [if_pos e2, if_pos (Or.inl e2)]
    rfl
  · rw [if_neg e2]
    by_cases e0 : (yy_pl s (n - 1)).1 &&& 7 = 6
    · rw [if_pos e0, if_pos (Or.inr e0)]
      rfl
    · rw [if_neg e0, if_neg (fun z => z.elim e2 e0)]
      rfl
theorem yy_oth_if {s : MT} {op : Int32} {B : Prop} [Decidable B] {y : Option (Int32 × MT)} (h : f_M_suitsOther s op = some (if B then 1 else 0, s)) (hd : yy_dsp op s = y) : yy_oth op s = if B then y else some (3, s) := by
  unfold yy_oth
  rw [h, Option.bind_some]
  show (if (if B then (1 : Int32) else 0) = 0 then _ else yy_dsp op s) = _
  by_cases e : B
  · rw [if_pos e, if_pos e, if_neg (by decide), hd]
  · rw [if_neg e, if_neg e, if_pos rfl]
theorem yy_O_length {rc : rcE} {sc : xSc} {g : yy_GT} {m : Nat} {c : yy_CT} {s : MT} {t nd o n : Nat} {d : Int32} (h : yy_RR g (m + 1) c s t nd o n) : yy_OPS m c s (f_P_operate rc sc (yy_cH c) (some 256) (some 40) d) (f_M_operate s 38) := by
  have hn := h.le40
  refine yy_OP_head (gr := 3) 38 [9] h (yy_OPc_of _ rfl) (by decide) (by decide) (yy_pat h.tb (j := 1) (by decide)) (by decide) (by decide) (fun hr => ?_)
  have hr : 1 ≤ n := hr
  obtain ⟨a, v, a1, a2, a3, a4⟩ := h.val (show n - 1 < n by omega)
  have q5 : v.1 = some 77 ↔ (yy_pl s (n - 1)).1 &&& 7 = 5 := a4.isk (j := 5) (by decide)
  have q6 : v.1 = some 78 ↔ (yy_pl s (n - 1)).1 &&& 7 = 6 := a4.isk (j := 6) (by decide)
  have give : ∀ x : Int32, yy_OPS m c s (f_Holders_perform_b155 sc x (some 72) 1 (some 256) (yy_cH c)) (f_M_arrayOperator_b93 x.toInt64 0 1 s) := fun x => by
    unfold f_Holders_perform_b155 f_M_arrayOperator_b93
    rw [if_pos (yy_cis_P _ _), yy_H337, yy_tB_id, yy_bind_id]
    exact yy_O_giveK sc (h.less (by omega)) hr (by decide) _ _ _ _ (fun _ _ _ _ => yy_VR_int _ _ _ _ _ _ _ _ _ _ _ _ _)
  rw [show yy_alls s (n - 1) [9] = true from rfl, if_pos rfl, yy_e_b96_3, show yy_opA c n [9].length = yy_cR 269 c (n - 1) from yy_opA_1 c n 0, a1, yy_Cp_40, if_pos (yy_sgis a2), yy_e_is a2 _ a4.cm rfl, Option.bind_some, yy_oth_if (yy_so_38 h.2.1.1 hn hr) (yy_dsp_arr (by decide)), yy_Mb_38, h.2.1.1, yy_nI_sub1 hr, yy_e_Mkind (by omega), Option.bind_some]
  by_cases e5 : v.1 = some 77
  · obtain ⟨x, z, l, x1, x2, x3, x4, x5, x6, x7⟩ := a4.arr e5
    rw [if_pos e5, if_neg (show ¬ (1 : Int32) = 0 by decide), if_pos (show (yy_pl s (n - 1)).1 &&& 7 = 5 ∨ _ from Or.inl (q5.mp e5))]
    show yy_OPS m c s _ (if (yy_pl s (n - 1)).1 &&& 7 = 5 then _ else _)
    rw [if_pos (q5.mp e5), if_pos (yy_xin_nI' (by omega) (by decide)), yy_nI_c (by omega), show mL 2 s (n - 1) = Int64.ofNat (x + 1024 * z) from x5, yy_cnt_e (by omega) (by omega), Option.bind_some]
    unfold f_Holders_perform_b118 f_Holders_perform_b123
    rw [if_pos (yy_cis_P _ _), yy_e_type1, p_tBl, if_pos (yy_sgis a2), yy_e_is a2 _ a4.cm rfl, Option.bind_some, if_pos e5, if_neg (show ¬ (1 : Int32) = 0 by decide), yy_sg3 a2, Option.bind_some, x4]
    exact give _
  · rw [if_neg e5, if_pos rfl, if_pos (yy_sgis a2), yy_e_is a2 _ a4.cm rfl, Option.bind_some]
    by_cases e6 : v.1 = some 78
    · obtain ⟨x, y, x1, x2, x3, x4, x5, x6⟩ := a4.dict e6
      have x7 : x < 7 := by
        have := h.di.1.2
        omega
      obtain ⟨y', r, f, L, f1, f2, f3, f4, f5, _⟩ := h.di.2.2 x x1
      rw [x4] at f1
      cases f1
      rw [Nat.mul_zero, Nat.zero_add] at f5
      rw [if_pos e6, if_neg (show ¬ (1 : Int32) = 0 by decide), if_pos (show _ ∨ (yy_pl s (n - 1)).1 &&& 7 = 6 from Or.inr (q6.mp e6))]
      show yy_OPS m c s _ (if (yy_pl s (n - 1)).1 &&& 7 = 5 then _ else _)
      rw [if_neg (fun z => e5 (q5.mpr z)), if_pos (yy_xin_nI' (by omega) (by decide)), yy_nI_c (by omega), show mL 2 s (n - 1) = Int64.ofNat x from x3, yy_i64_nI (by omega), if_pos (yy_xin_nI' (by omega) (by decide)), yy_nI_c (by omega), f5]
      unfold f_Holders_perform_b118 f_Holders_perform_b123
      rw [if_pos (yy_cis_P _ _), yy_e_type1, p_tBl, if_pos (yy_sgis a2), yy_e_is a2 _ a4.cm rfl, Option.bind_some, if_neg e5, if_pos rfl, yy_sg7 a2, Option.bind_some, x5, p_gI (yy_dcv_a f2) rfl, Option.bind_some]
      exact give _
    · rw [if_neg e6, if_pos rfl, if_neg (fun z => z.elim (fun q => e5 (q5.mpr q)) (fun q => e6 (q6.mpr q)))]
      refine yy_O_fail 3 h (by decide) (by decide) ?_ rfl
      unfold f_Holders_perform_b123
      rw [if_pos (yy_cis_P _ _), yy_e_type0 h.1.1 h.room]
      rfl
/-- a cell of an array on both sides -/
theorem yy_RR.cell {g : yy_GT} {m : Nat} {c : yy_CT} {s : MT} {t nd o n x z j : Nat} (h : yy_RR g m c s t nd o n) (hv : yy_VA s t o x z) (hj : j < z) : ∃ a v, yy_cR 270 c (x + j) = some a ∧ yy_slv c a = some v ∧ yy_gow g a = (1, x + j) ∧ yy_VR g c s t nd o v (yy_pl s (50 + (x + j))) ∧ x + j < t := by
  rcases hv with e | e
  · omega
  · obtain ⟨a, v, p1, p2, p3, p4, p5, p6⟩ := h.ce.2 (x + j) (by omega)
    refine ⟨a, v, p1, p3, p4, ?_, by omega⟩
    have : yy_cpl 0 (x + j) = 50 + (x + j) := if_pos rfl
    rw [this] at p5
    exact p5
theorem yy_e_MkindB {s : MT} {p k : Nat} (hp : p < 1300) (h : (yy_pl s p).1 &&& 7 = nI k) : f_M_kindOf s (nI p) = some (nI k, s) := by
  rw [yy_e_Mkind hp, h]
theorem yy_O_get {rc : rcE} {sc : xSc} {g : yy_GT} {m : Nat} {c : yy_CT} {s : MT} {t nd o n : Nat} {d : Int32} (h : yy_RR g (m + 1) c s t nd o n) : yy_OPS m c s (f_P_operate rc sc (yy_cH c) (some 256) (some 41) d) (f_M_operate s 39) := by
  have hn := h.le40
  obtain ⟨t1, t2, t3⟩ := h.tk
  refine yy_OP_head (gr := 3) 39 [9, 9] h (yy_OPc_of _ rfl) (by decide) (by decide) (yy_pat h.tb (j := 2) (by decide)) (by decide) (by decide) (fun hr => ?_)
  have hr : 2 ≤ n := hr
  obtain ⟨b, w, b1, b2, b3, b4⟩ := h.val (show n - 1 < n by omega)
  obtain ⟨a, v, a1, a2, a3, a4⟩ := h.val (show n - 2 < n by omega)
  have q5 : v.1 = some 77 ↔ (yy_pl s (n - 2)).1 &&& 7 = 5 := a4.isk (j := 5) (by decide)
  have q6 : v.1 = some 78 ↔ (yy_pl s (n - 2)).1 &&& 7 = 6 := a4.isk (j := 6) (by decide)
  have r0 : w.1 = some 72 ↔ (yy_pl s (n - 1)).1 &&& 7 = 0 := b4.isk (j := 0) (by decide)
  have r3 : w.1 = some 75 ↔ (yy_pl s (n - 1)).1 &&& 7 = 3 := b4.isk (j := 3) (by decide)
  have fail : f_Holders_get_b55 sc (some 256) (some a) (some b) 0 (some 256) (yy_cH c) = some (.inr (yy_cn c), yy_cH (yy_thr 3 c)) := by
    unfold f_Holders_get_b55 f_Holders_get_b56
    rw [if_pos (yy_cis_P _ _), yy_e_type0 h.1.1 h.room]
    rfl
  have fin : ∀ (e p : Nat) (u : yy_SV), yy_slv c e = some u → yy_VR g c s t nd o u (yy_pl s p) → p < 1300 → yy_OPS m c s (f_Holders_get_b125 sc (some 256) (some e) (some a) (some 256) (yy_cH c)) (f_M_get_b81 (nI (n - 1)) (nI p) s) := fun e p u hu hq hp => by
    unfold f_Holders_get_b125 f_M_get_b81
    rw [if_pos (yy_cis_P _ _), yy_e_found a2 hu hq.live, p_tBl, yy_cgI_9, Option.bind_some, show yy_cI 9 (yy_tS a (some (yy_svc v.2.2.2.2.1 u)) c) = nI n from h.nine, yy_nI_sub1 (by omega), yy_cpI_9, Option.bind_some, if_neg, yy_nI_sub1 (by omega), show n - 1 - 1 = n - 2 by omega, yy_e_Mmove (by omega) hp, Option.bind_some, yy_mI_sP, h.2.1.1, yy_nI_sub1 (by omega)]
    · have r := yy_R_top (yy_R_setS h (show n - 2 < n by omega) a1 a2 (yy_VR_svc v.2.2.2.2.1 hq)) (n' := n - 1) (by omega)
      exact yy_O_done (g := g) ⟨g, _, rfl, r.less (by omega), ((yy_KP_tS a2 a3 _).trans (yy_KP_sP g _ s _ (Or.inl (by omega)))).trans ((yy_KP_t9 g _ _ _).trans (yy_KP_s4 g _ _ _)), rfl⟩ rfl
    · intro z
      have := congrArg Int32.toInt z
      rw [yy_nI_toInt (by omega), show (-1 : Int32).toInt = -1 from by decide] at this
      omega
  have hM : f_M_arrayOperator s 39 = f_M_get s (nI (n - 1)) := by
    rw [yy_Mb_39, h.2.1.1, yy_nI_sub1 (by omega), yy_bind_id]
  rw [show yy_alls s (n - 1) [9, 9] = true from rfl, if_pos rfl, yy_e_b96_3, show yy_opA c n [9, 9].length = yy_cR 269 c (n - 2) from yy_opA_1 c n 1, a1, show yy_opB c n [9, 9].length = yy_cR 269 c (n - 2 + 1) from yy_opB_2 c n 0, show n - 2 + 1 = n - 1 by omega, b1, yy_Cp_41, yy_H337, yy_tB_id, yy_oth_if (yy_so_39 h.2.1.1 hn hr) ((yy_dsp_arr (by decide)).trans hM)]
  unfold f_Holders_get
  rw [if_pos (yy_sgis a2), yy_e_is a2 _ a4.cm rfl, Option.bind_some]
  have g25 : ¬ (v.1 = some 77 ∧ w.1 = some 72) → f_Holders_get_b25 sc (some 256) (some a) (some b) 0 (yy_cH c) = if v.1 = some 78 ∧ w.1 = some 75 then f_Holders_get_b51 sc (some 256) (some a) (some b) 0 (some 256) (yy_cH c) else some (.inr (yy_cn c), yy_cH (yy_thr 3 c)) := fun _ => by
    unfold f_Holders_get_b25
    rw [if_pos rfl, if_pos (yy_sgis a2), yy_e_is a2 _ a4.cm rfl, Option.bind_some]
    by_cases z : v.1 = some 78
    · rw [if_pos z, if_neg (show ¬ (1 : Int32) = 0 by decide), if_pos (yy_sgis b2), yy_e_is b2 _ b4.cm rfl, Option.bind_some]
      by_cases z2 : w.1 = some 75
      · rw [if_pos z2, if_neg (show ¬ (1 : Int32) = 0 by decide), if_pos ⟨z, z2⟩]
      · rw [if_neg z2, if_pos rfl, fail, if_neg (fun q => z2 q.2)]
    · rw [if_neg z, if_pos rfl, fail, if_neg (fun q => z q.1)]
  have dic : v.1 = some 78 → w.1 = some 75 → yy_OPS m c s (f_Holders_get_b51 sc (some 256) (some a) (some b) 0 (some 256) (yy_cH c)) (f_M_get s (nI (n - 1))) := fun z z2 => by
    obtain ⟨x, y, x1, x2, x3, x4, x5, x6⟩ := a4.dict z
    obtain ⟨p, p1, p2⟩ := b4.name z2
    have x7 : x < 7 := by
      have := h.di.1.2
      omega
    obtain ⟨y', r, f, L, f1, f2, _⟩ := h.di.2.2 x x1
    rw [x4] at f1
    cases f1
    have hMg : f_M_get s (nI (n - 1)) = (f_M_entry s (nI x) (yy_pl s (n - 1)).2.1).bind fun (v19, s18) => f_M_get_b81 (nI (n - 1)) v19 s18 := by
      unfold f_M_get
      rw [yy_nI_sub1 (by omega), show n - 1 - 1 = n - 2 by omega, if_pos (yy_xin_nI' (by omega) (by decide)), yy_e_Mkind (by omega), Option.bind_some]
      show (if (yy_pl s (n - 2)).1 &&& 7 = 6 then _ else _) = _
      rw [if_pos (q6.mp z), if_pos (yy_xin_nI' (by omega) (by decide)), yy_nI_c (by omega), yy_nI_c (by omega), show mL 2 s (n - 2) = Int64.ofNat x from x3, yy_i64_nI (by omega)]
      rfl
    rw [hMg]
    unfold f_Holders_get_b51 f_Holders_get_b56 f_Holders_get_b82 f_Holders_get_b87
    rw [if_pos (yy_cis_P _ _), yy_e_type1, p_tBl, if_pos rfl, if_pos (yy_cis_P _ _), yy_e_need1, p_tBl, if_pos rfl, yy_sg7 a2, Option.bind_some, yy_sg6 b2, Option.bind_some, x5, p1, if_pos (p_xis (yy_dcv_a f2))]
    rcases yy_D_find sc h x1 x4 p2 with ⟨e, v', j, g1, g2, g3, g4, g5, g6⟩ | ⟨g1, g2⟩
    · rw [g1, Option.bind_some, g2, Option.bind_some]
      exact fin e _ v' g3 g5 (by omega)
    · rw [g1, Option.bind_some, g2, Option.bind_some]
      refine yy_O_fail 5 h (by decide) (by decide) ?_ ?_
      · unfold f_Holders_get_b125
        rw [if_pos (yy_cis_P _ _), yy_e_found0 h.1.1 h.room]
        rfl
      · show f_M_get_b81 (nI (n - 1)) (-1) s = _
        unfold f_M_get_b81
        rw [if_pos rfl, yy_nI_sub1 (by omega), show n - 1 - 1 = n - 2 by omega, yy_e_Mkind (by omega), Option.bind_some]
        show (if (yy_pl s (n - 2)).1 &&& 7 = 6 then _ else _) = _
        rw [if_pos (q6.mp z)]
        rfl
  by_cases e5 : v.1 = some 77
  · rw [if_pos e5, if_neg (show ¬ (1 : Int32) = 0 by decide), if_pos (yy_sgis b2), yy_e_is b2 _ b4.cm rfl, Option.bind_some]
    by_cases e0 : w.1 = some 72
    · obtain ⟨x, z, l, x1, x2, x3, x4, x5, x6, x7⟩ := a4.arr e5
      obtain ⟨i1, i2, i3⟩ := b4.int e0
      rw [if_pos e0, if_neg (show ¬ (1 : Int32) = 0 by decide), if_pos (Or.inl ⟨q5.mp e5, r0.mp e0⟩)]
      have hMg : f_M_get s (nI (n - 1)) = if lg_cmp w.2.2.1.toInt64 0 < 0 then f_M_get_b62 (nI (n - 1)) s else if lg_cmp w.2.2.1.toInt64 (nI z).toInt64 < 0 then f_M_get_b81 (nI (n - 1)) (nI 50 + nI x + w.2.2.1) s else f_M_get_b62 (nI (n - 1)) s := by
        unfold f_M_get
        rw [yy_nI_sub1 (by omega), show n - 1 - 1 = n - 2 by omega, if_pos (yy_xin_nI' (by omega) (by decide)), yy_e_Mkind (by omega), Option.bind_some]
        show (if (yy_pl s (n - 2)).1 &&& 7 = 6 then _ else _) = _
        rw [if_neg (by rw [q5.mp e5]; decide), if_pos (yy_xin_nI' (by omega) (by decide)), if_pos (yy_xin_nI' (by omega) (by decide)), yy_nI_c (by omega), yy_nI_c (by omega), show mL 2 s (n - 2) = Int64.ofNat (x + 1024 * z) from x5, yy_cnt_e (by omega) (by omega), Option.bind_some, yy_fst_e (by omega) (by omega), Option.bind_some, if_pos (yy_xin_nI' (by omega) (by decide)), show mL 2 s (n - 1) = w.2.2.1.toInt64 from i1, Int32.toInt32_toInt64]
        rfl
      have f62 : f_M_get_b62 (nI (n - 1)) s = some (4, s) := by
        unfold f_M_get_b62 f_M_get_b81
        rw [if_pos rfl, yy_nI_sub1 (by omega), show n - 1 - 1 = n - 2 by omega, yy_e_Mkind (by omega), Option.bind_some]
        show (if (yy_pl s (n - 2)).1 &&& 7 = 6 then _ else _) = _
        rw [if_neg (by rw [q5.mp e5]; decide)]
        rfl
      have f86 : f_Holders_get_b86 sc (some 256) (some a) (some b) 1 (some 256) (yy_cH c) = some (.inr (yy_cn c), yy_cH (yy_thr 4 c)) := by
        unfold f_Holders_get_b86 f_Holders_get_b87
        rw [if_pos (yy_cis_P _ _), yy_e_need0 4 h.1.1 h.room]
        rfl
      rw [hMg, f62]
      unfold f_Holders_get_b25
      rw [if_neg (show ¬ (1 : Int32) = 0 by decide)]
      unfold f_Holders_get_b51 f_Holders_get_b56
      rw [if_pos (yy_cis_P _ _), yy_e_type1, p_tBl, if_neg (show ¬ (1 : Int32) = 0 by decide), yy_sg2 b2, Option.bind_some]
      by_cases h0 : w.2.2.1 < 0
      · rw [if_pos h0, if_pos (yy_lgc_lt.mpr ((yy_i64_lt0 _).mpr h0)), f86]
        exact yy_O_fail 4 h (by decide) (by decide) rfl rfl
      · rw [if_neg h0, if_neg (fun e => h0 ((yy_i64_lt0 _).mp (yy_lgc_lt.mp e))), Option.bind_some, yy_sg3 a2, Option.bind_some, x4]
        by_cases h1 : nI z ≤ w.2.2.1
        · rw [if_pos h1, if_neg (fun e => by have := (yy_i64_lt _ _).mp (yy_lgc_lt.mp e); rw [Int32.lt_iff_toInt_lt] at this; rw [Int32.le_iff_toInt_le] at h1; omega), f86]
          exact yy_O_fail 4 h (by decide) (by decide) rfl rfl
        · have h1' : w.2.2.1 < nI z := by
            rw [Int32.le_iff_toInt_le] at h1
            rw [Int32.lt_iff_toInt_lt]
            omega
          obtain ⟨j, hj, hj2⟩ := yy_i32_nat h0 h1' (by omega)
          obtain ⟨e, u, c1, c2, c3, c4, c5⟩ := h.cell x6 hj2
          rw [if_neg h1, if_pos (yy_lgc_lt.mpr ((yy_i64_lt _ _).mpr h1'))]
          unfold f_Holders_get_b82 f_Holders_get_b87
          rw [if_pos (yy_cis_P _ _), yy_e_need1, p_tBl, if_neg (show ¬ (1 : Int32) = 0 by decide), yy_cgR_7, Option.bind_some, yy_sg2 a2, Option.bind_some, yy_sg2 b2, Option.bind_some, x3, hj, yy_nI_add, yy_caR_270 (by omega), Option.bind_some, c1, yy_nI_add, yy_nI_add, Nat.add_assoc]
          exact fin e _ u c2 c4 (by omega)
    · rw [if_neg e0, if_pos rfl]
      unfold f_Holders_get_b24
      rw [g25 (fun q => e0 q.2), if_neg (fun q => by rw [e5] at q; exact absurd q.1 (by decide)), if_neg (fun q => q.elim (fun r => e0 (r0.mpr r.2)) (fun r => by rw [q5.mp e5] at r; exact absurd r.1 (by decide)))]
      exact yy_O_fail 3 h (by decide) (by decide) rfl rfl
  · rw [if_neg e5, if_pos rfl]
    unfold f_Holders_get_b24
    rw [g25 (fun q => e5 q.1)]
    by_cases z : v.1 = some 78 ∧ w.1 = some 75
    · rw [if_pos z, if_pos (Or.inr ⟨q6.mp z.1, r3.mp z.2⟩)]
      exact dic z.1 z.2
    · rw [if_neg z, if_neg (fun q => q.elim (fun r => e5 (q5.mpr r.1)) (fun r => z ⟨q6.mpr r.1, r3.mpr r.2⟩))]
      exact yy_O_fail 3 h (by decide) (by decide) rfl rfl
