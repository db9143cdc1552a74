theorem yy_put77 {s : MT} {n k p : Nat} (h4 : mI 4 s = nI n) (hk : k ≤ n) (h1 : 1 ≤ n) (hn : n ≤ 40) (hp : p < 1300) : f_M_putEntry_b77 (nI k) (nI p) s = some (0, sI 4 (nI (n - k)) (yy_sP p (yy_pl s (n - 1)) s)) := by
  unfold f_M_putEntry_b77
  rw [h4, yy_nI_sub1 h1, yy_e_Mmove hp (by omega), Option.bind_some, yy_mI_sP, h4, yy_nI_sub hk]
/-- define on both sides -/
theorem yy_R_define {g : yy_GT} {m : Nat} {c : yy_CT} {s : MT} {t nd o n d b key x k : Nat} {w : Int64} {u : yy_SV} (sc : xSc) (h : yy_RR g (m + 3) c s t nd o n) (hd : d < nd) (hb : yy_cR 273 c d = some b) (hk : (key, w) ∈ yy_gnm g) (hx : yy_slv c x = some u) (hx0 : (yy_gow g x).1 = 0) (hu : yy_VR g c s t nd o u (yy_pl s (n - 1))) (h1 : 1 ≤ n) (hkn : k ≤ n) :
    (∃ g' c' s1, f_P_define sc (yy_cH c) (some 256) (some b) (some key) (some x) = some (.inl (), yy_cH c') ∧ f_M_putEntry s (nI d) w (nI k) = some (0, sI 4 (nI (n - k)) s1) ∧ yy_RR g' m c' s1 t nd o n ∧ yy_KF c s c' s1 ∧ (∀ k, yy_cI k c' = yy_cI k c)) ∨ (f_P_define sc (yy_cH c) (some 256) (some b) (some key) (some x) = some (.inr (yy_cn c), yy_cH (yy_thr 8 c)) ∧ f_M_putEntry s (nI d) w (nI k) = some (8, s)) := by
  have hn := h.le40
  have n7 := h.di.1.2
  have h26 : yy_cI 26 c = nI o := h.2.1.2.2.2.2.1.trans h.2.2.2.2.2.1.2
  have o3 := h.2.2.2.2.2.1.1.1
  rcases yy_D_find2 sc h hd hb hk with ⟨e, v, j, f1, f2, f3, f4, f5, f6, f7⟩ | ⟨f1, f2, r, f, L, l1, l2, l3, l4, l5, l6⟩
  · left
    obtain ⟨g', c', e1, e2, e3, e4⟩ := yy_R_rewrite sc (h.less (Nat.le_succ _)) f7 hx hx0 hu
    obtain ⟨b', r, ff, L, z1, z2, _⟩ := h.di.2.2 d hd
    rw [hb] at z1
    cases z1
    refine ⟨g', c', _, ?_, ?_, e2, e3, e4⟩
    · unfold f_P_define f_P_define_b73
      rw [if_pos (p_xis (yy_dcv_a z2)), f1, Option.bind_some, if_neg (by simp), if_pos (yy_cis_P _ _), e1, Option.bind_some]
    · unfold f_M_putEntry
      rw [f2, Option.bind_some]
      have ne : ¬ nI (250 + (yy_bs d + j)) = -1 := by
        intro z
        have := congrArg Int32.toInt z
        rw [yy_nI_toInt (by omega), show (-1 : Int32).toInt = -1 from by decide] at this
        omega
      show (if nI (250 + (yy_bs d + j)) = -1 then _ else f_M_putEntry_b32 (nI d) w (nI k) (nI (250 + (yy_bs d + j))) s) = _
      rw [if_neg ne]
      unfold f_M_putEntry_b32
      rw [if_neg ne, yy_put77 h.2.1.1 hkn h1 hn (by omega)]
  · have hr20 : r ≤ 20 := by
      have := l3.2.1
      split at this <;> omega
    have hM0 : f_M_putEntry s (nI d) w (nI k) = if nI L.length = nI r then some (8, s) else f_M_putEntry_b32 (nI d) w (nI k) (-1) s := by
      unfold f_M_putEntry
      rw [f2, Option.bind_some]
      show (if (-1 : Int32) = -1 then _ else _) = _
      rw [if_pos rfl, if_pos (yy_xin_nI' (by omega) (by decide)), if_pos (yy_xin_nI' (by omega) (by decide)), yy_nI_c (by omega), l4, l5]
    by_cases hf : L.length = r
    · right
      refine ⟨?_, by rw [hM0, if_pos (by rw [hf])]⟩
      unfold f_P_define
      rw [if_pos (p_xis (yy_dcv_a l1)), f1, Option.bind_some, if_pos rfl, p_gI (yy_dcv_a l1) rfl, Option.bind_some, p_gI (yy_dcv_a l1) rfl, Option.bind_some]
      show (if nI r ≤ nI L.length then _ else _) = _
      rw [if_pos (by rw [yy_nI_le (by omega) (by omega)]; omega)]
      unfold f_P_define_b29
      rw [if_pos (yy_cis_P _ _), yy_e_need0 8 h.1.1 h.room]
      rfl
    · left
      have hlr : L.length < r := by
        have := l3.2.2
        omega
      have hbl := yy_bs_le (l := r) hd n7 l3.2.1 (Nat.le_refl r)
      have ed := yy_e_define1 (sc := sc) (m := m) h.1.2.1 h.1.1 h.room l1 f1 hlr hr20 hx hu.live h26 o3
      have em : f_M_putEntry s (nI d) w (nI k) = some (0, sI 4 (nI (n - k)) (yy_mad d L.length w (yy_pl s (n - 1)) s)) := by
        rw [hM0, if_neg (fun z => hf ((yy_nI_inj (by omega) (by omega)).mp z))]
        unfold f_M_putEntry_b32
        rw [if_pos rfl, yy_base_e (by omega), Option.bind_some, if_pos (yy_xin_nI' (by omega) (by decide)), if_pos (yy_xin_nI' (by omega) (by decide)), if_pos (yy_xin_nI' (by omega) (by decide)), yy_nI_c (show d < 2147483648 by omega), l5, show (250 : Int32) = nI 250 from rfl, yy_nI_add, yy_nI_add, yy_nI_sub (by omega), show 250 + yy_bs d + L.length - 250 = yy_bs d + L.length by omega, if_pos (yy_xin_nI' (by omega) (by decide)), yy_nI_c (by omega), show mA 7 (sL 6 (va_up (mL 6 s) (yy_bs d + L.length) w) s) d = nI L.length from l5, yy_nI_add1, yy_put77 (s := sA 7 (va_up (mA 7 (sL 6 (va_up (mL 6 s) (yy_bs d + L.length) w) s)) d (nI (L.length + 1))) (sL 6 (va_up (mL 6 s) (yy_bs d + L.length) w) s)) (n := n) h.2.1.1 hkn h1 hn (by omega), Nat.add_assoc]
        rfl
      obtain ⟨m1, m2, m3, m4, m5, m6, m7, m8, m9⟩ := yy_mad_f d L.length w (yy_pl s (n - 1)) s
      have kf : ∀ c', (∀ k, yy_cI k c' = yy_cI k c) → (∀ k, yy_cA k c' = yy_cA k c) → yy_KF c s c' (yy_mad d L.length w (yy_pl s (n - 1)) s) := fun c' hI hA => ⟨⟨hI _, hI _, hI _, hI _, hI _, hI _, hI _, hA _, hA _⟩, ⟨m1 _, m1 _, m1 _, m1 _, m1 _, m1 _⟩, m5 17 (by decide) (by decide), m5 19 (by decide) (by decide), m6 18 (by decide) (by decide), m6 20 (by decide) (by decide), m6 21 (by decide) (by decide), m6 22 (by decide) (by decide)⟩
      by_cases o0 : o = 0
      · subst o0
        obtain ⟨g', rr⟩ := yy_RR_add0 h hd hb l1 l2 ⟨hlr, l3.2.1⟩ hk l6 hu
        obtain ⟨k1, k2, _⟩ := yy_ad2_k b 0 key (nI d, nI r, nI L.length, f) c
        have hI : ∀ k, yy_cI k (yy_adf0 b key (nI d, nI r, nI L.length, f) u c) = yy_cI k c := fun k => by unfold yy_adf0; rw [yy_cI_tS, k1]
        have hA : ∀ k, yy_cA k (yy_adf0 b key (nI d, nI r, nI L.length, f) u c) = yy_cA k c := fun k => by unfold yy_adf0; rw [yy_cA_tS, k2]
        rw [if_pos rfl] at ed
        exact ⟨g', _, _, ed, em, rr, kf _ hI hA, hI⟩
      · have rr := yy_RR_add1 h (by omega) hd hb l1 l2 ⟨hlr, l3.2.1⟩ hk l6 hu
        obtain ⟨k1, k2, _⟩ := yy_adl_k b o key (nI d, nI r, nI L.length, f) c
        have hI : ∀ k, yy_cI k (yy_adf1 b o key (nI d, nI r, nI L.length, f) u c) = yy_cI k c := fun k => by unfold yy_adf1; rw [yy_cI_tS, k1]
        have hA : ∀ k, yy_cA k (yy_adf1 b o key (nI d, nI r, nI L.length, f) u c) = yy_cA k c := fun k => by unfold yy_adf1; rw [yy_cA_tS, k2]
        rw [if_neg o0] at ed
        exact ⟨_, _, _, ed, em, rr, kf _ hI hA, hI⟩
/-- values are taken off after a write -/
theorem yy_O_off {g' : yy_GT} {m k : Nat} {c c' : yy_CT} {s s1 : MT} {t nd o n : Nat} {x : Option ((Unit ⊕ Nat) × xH)} {y : Option (Int32 × MT)} (hk : k ≤ n) (hx : x = some (.inl (), yy_cH (yy_tI 9 (nI (n - k)) c'))) (hy : y = some (0, sI 4 (nI (n - k)) s1)) (h : yy_RR g' m c' s1 t nd o n) (kf : yy_KF c s c' s1) (h18 : yy_cI 18 c' = yy_cI 18 c) : yy_OPS m c s x y :=
  yy_O_out hx hy (yy_R_top h (by omega)) (kf.trans (yy_KF.of ((yy_KP_t9 g' c' s1 _).trans (yy_KP_s4 g' _ s1 _)))) h18
theorem yy_O_def {rc : rcE} {sc : xSc} {g : yy_GT} {m : Nat} {c : yy_CT} {s : MT} {t nd o n : Nat} {d : Int32} (h : yy_RR g (m + 3) c s t nd o n) : yy_OPS m c s (f_P_operate rc sc (yy_cH c) (some 256) (some 48) d) (f_M_operate s 46) := by
  have hn := h.le40
  have h1 : yy_RR g (m + 1) c s t nd o n := h.less (by omega)
  obtain ⟨k, k1, k2, k3⟩ := h.ds
  have k14 : yy_cI 14 c = nI k := h.2.1.2.2.2.1.trans k2
  obtain ⟨z, y, z1, z2, z3, z4⟩ := k3 (k - 1) (by omega)
  refine yy_OP_head (gr := 3) 46 [9, 4] h1 (yy_OPc_of _ rfl) (by decide) (by decide) (yy_pat h.tb (j := 9) (by decide)) (by decide) (by decide) (fun hr => ?_)
  have hr : 2 ≤ n := hr
  obtain ⟨b, w, b1, b2, b3, b4⟩ := h.val (show n - 1 < n by omega)
  obtain ⟨a, v, a1, a2, a3, a4⟩ := h.val (show n - 2 < n by omega)
  rw [yy_alls2, show n - 1 - 1 = n - 2 by omega, a4.sk (j := 3) (by decide) (by decide) (by decide), show yy_su (yy_pl s (n - 1)).1 9 = true from rfl, Bool.true_and, yy_e_b96_3, show yy_opA c n [9, 4].length = yy_cR 269 c (n - 2) from yy_opA_1 c n 1, a1, show yy_opB c n [9, 4].length = yy_cR 269 c (n - 2 + 1) from yy_opB_2 c n 0, show n - 2 + 1 = n - 1 by omega, b1, yy_Cp_48, yy_H337, yy_tB_id, yy_Dp_48 k14 k1.1 k1.2, if_pos (yy_sgis a2), yy_e_is a2 _ a4.cm rfl, Option.bind_some, if_pos (yy_cis_P _ _)]
  by_cases hv : v.1 = some 75
  · obtain ⟨p, p1, p2⟩ := a4.name hv
    rw [if_pos hv, if_pos (decide_eq_true hv), yy_e_type1, p_tBl, yy_sg6 a2, Option.bind_some, p1, if_pos (yy_cis_P _ _), z4, yy_oth_is 46 rfl (yy_dsp_dic (by decide)), yy_Mb_46, k2, yy_nI_sub1 (by omega), if_pos (yy_xin_nI' (by omega) (by decide)), h.2.1.1, yy_nI_sub1 (by omega), yy_nI_sub1 (by omega), show n - 1 - 1 = n - 2 by omega, if_pos (yy_xin_nI' (by omega) (by decide)), yy_nI_c (by omega), yy_nI_c (by omega), z2, yy_bind_id, show mL 2 s (n - 2) = (yy_pl s (n - 2)).2.1 from rfl, show (2 : Int32) = nI 2 from rfl]
    rcases yy_R_define (k := 2) sc h z1 z3 p2 b2 (by rw [b3]) b4 (by omega) hr with ⟨g', c', s1, e1, e2, e3, e4, e5⟩ | ⟨e1, e2⟩
    · rw [e1, p_tBl, yy_cgI_9, Option.bind_some, e5, h.nine, yy_nI_sub hr, yy_cpI_9, Option.bind_some, e2]
      exact yy_O_off hr rfl rfl e3 e4 (e5 18)
    · rw [e1, e2]
      exact yy_O_fail 8 h1 (by decide) (by decide) rfl rfl
  · rw [if_neg hv, if_neg (by rw [decide_eq_false hv]; decide), yy_e_type0 h.1.1 h.room]
    exact yy_O_fail 3 h1 (by decide) (by decide) rfl rfl
