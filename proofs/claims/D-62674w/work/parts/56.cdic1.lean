theorem yy_RR.ds {g : yy_GT} {m : Nat} {c : yy_CT} {s : MT} {t nd o n : Nat} (h : yy_RR g m c s t nd o n) : yy_RDs c s nd := h.2.2.2.2.2.2.2.2.1
theorem yy_RR.ha {g : yy_GT} {m : Nat} {c : yy_CT} {s : MT} {t nd o n : Nat} (h : yy_RR g m c s t nd o n) : (∀ i, i < yy_ghC g → ∃ a v, yy_cR 270 c i = some a ∧ yy_slv c a = some v ∧ yy_gow g a = (1, i)) ∧ ∀ i, yy_ghC g ≤ i → i < 160 → yy_cR 270 c i = none := h.2.2.2.2.2.2.2.2.2.2.1
theorem yy_RR.pt {g : yy_GT} {m : Nat} {c : yy_CT} {s : MT} {t nd o n : Nat} (h : yy_RR g m c s t nd o n) : yy_RPt c s := h.2.2.2.2.2.2.2.2.2.2.2.2.1
theorem yy_RR.px {g : yy_GT} {m : Nat} {c : yy_CT} {s : MT} {t nd o n : Nat} (h : yy_RR g m c s t nd o n) : yy_RPx c s := h.2.2.2.2.2.2.2.2.2.2.2.2.2.1
theorem yy_RR.tx {g : yy_GT} {m : Nat} {c : yy_CT} {s : MT} {t nd o n : Nat} (h : yy_RR g m c s t nd o n) : yy_RTx c s := h.2.2.2.2.2.2.2.2.2.2.2.2.2.2.1
theorem yy_RR.di {g : yy_GT} {m : Nat} {c : yy_CT} {s : MT} {t nd o n : Nat} (h : yy_RR g m c s t nd o n) : yy_RDi g c s 0 (yy_slv c) (yy_dcv c) t nd o := h.2.2.2.2.2.2.2.1
theorem yy_RR.ce {g : yy_GT} {m : Nat} {c : yy_CT} {s : MT} {t nd o n : Nat} (h : yy_RR g m c s t nd o n) : yy_RCe g c s 0 (yy_slv c) t nd o := h.2.2.2.2.2.2.1
theorem yy_RSt_KX {lo : Nat} {g g' : yy_GT} {c c' : yy_CT} {s s' : MT} {t nd o n : Nat} (k : yy_KX lo g c s g' c' s') (k0 : ∀ a, a < yy_cn c → (yy_gow g a).1 = 0 → yy_slv c' a = yy_slv c a ∧ yy_gow g' a = yy_gow g a) (k269 : yy_cR 269 c' = yy_cR 269 c) (kh : yy_ghS g' = yy_ghS g) (kpl : ∀ p, p < 50 → yy_pl s' p = yy_pl s p) (h : yy_RSt g c s t nd o n) : yy_RSt g' c' s' t nd o n := by
  obtain ⟨⟨h1, h2, h3⟩, h4, h5, h6⟩ := h
  have hc := k.2.1.1
  refine ⟨⟨by rw [kh]; exact h1, h2, by rw [kh]; exact h3⟩, fun i hi => ?_, fun i hi hi2 => ?_, fun i hi => ?_⟩
  · rw [kh] at hi
    obtain ⟨a, v, e1, e2, e3, e4⟩ := h4 i hi
    have q := k0 a e4 (by rw [e3])
    exact ⟨a, v, by rw [k269]; exact e1, q.1.trans e2, q.2.trans e3, by omega⟩
  · rw [kh] at hi
    rw [k269]
    exact h5 i hi hi2
  · obtain ⟨a, v, e1, e2, e3⟩ := h6 i hi
    obtain ⟨b, w, f1, f2, f3, f4⟩ := h4 i (by omega)
    rw [e1] at f1
    cases f1
    have q := k0 a f4 (by rw [f3])
    refine ⟨a, v, by rw [k269]; exact e1, q.1.trans e2, ?_⟩
    rw [kpl i (by omega)]
    exact yy_VR_KX k e3
theorem yy_REq_14 {c : yy_CT} {s : MT} {x : Int32} {y : Nat → Option Nat} {z : Nat → Int32} (h : yy_REq c s) : yy_REq (yy_tI 14 x (yy_tR 274 y c)) (sI 10 x (sA 9 z s)) := by
  obtain ⟨e1, e2, e3, e4, e5, e6, e7, e8, e10, e11, e12, e13, e14⟩ := h
  exact ⟨e1, e2, rfl, e4, e5, e6, e7, e8, e10, e11, e12, e13, e14⟩
theorem yy_RR_ds {g : yy_GT} {m : Nat} {c : yy_CT} {s : MT} {t nd o n : Nat} {x : Int32} {y : Nat → Option Nat} {z : Nat → Int32} (h : yy_RR g m c s t nd o n) (hD : yy_RDs (yy_tI 14 x (yy_tR 274 y c)) (sI 10 x (sA 9 z s)) nd) : yy_RR g m (yy_tI 14 x (yy_tR 274 y c)) (sI 10 x (sA 9 z s)) t nd o n := by
  have k : yy_KX t g c s g (yy_tI 14 x (yy_tR 274 y c)) (sI 10 x (sA 9 z s)) := by
    refine ⟨⟨rfl, Nat.le_refl _, rfl, fun _ _ _ => rfl⟩, ⟨Nat.le_refl _, rfl⟩, fun _ _ _ => rfl, fun _ _ _ h => h, fun _ _ _ h => h, ⟨fun k hk => ?_, fun _ _ => rfl⟩, fun _ _ _ _ => rfl, fun k hk => ?_, fun _ _ => rfl⟩
    · show yy_cR k (yy_tR 274 y c) = _
      rw [yy_cR_tR, if_neg (by omega)]
    · show va_up s.2.1 9 z k = _
      exact va_up_ne _ _ (by omega)
  exact yy_RR_KX h k (fun _ _ h => h) h.1.1 h.1.2.1 h.1.2.2 h.2.1.1 (yy_REq_14 h.2.1.2) (yy_RSt_KX k (fun _ _ _ => ⟨rfl, rfl⟩) rfl rfl (fun _ _ => rfl) h.2.2.1) rfl rfl rfl rfl rfl hD h.tb rfl h.ha h.pt h.px h.tx
theorem yy_KF_14 (c : yy_CT) (s : MT) (x : Int32) (y : Nat → Option Nat) (z : Nat → Int32) : yy_KF c s (yy_tI 14 x (yy_tR 274 y c)) (sI 10 x (sA 9 z s)) := by
  refine ⟨⟨rfl, rfl, rfl, rfl, rfl, rfl, rfl, rfl, rfl⟩, ⟨rfl, rfl, rfl, rfl, rfl, rfl⟩, rfl, rfl, rfl, rfl, rfl, rfl⟩
theorem yy_KF.trans {c c1 c2 : yy_CT} {s s1 s2 : MT} (h : yy_KF c s c1 s1) (k : yy_KF c1 s1 c2 s2) : yy_KF c s c2 s2 := by
  obtain ⟨⟨a1, a2, a3, a4, a5, a6, a7, a8, a9⟩, ⟨b1, b2, b3, b4, b5, b6⟩, d1, d2, d3, d4, d5, d6⟩ := h
  obtain ⟨⟨A1, A2, A3, A4, A5, A6, A7, A8, A9⟩, ⟨B1, B2, B3, B4, B5, B6⟩, D1, D2, D3, D4, D5, D6⟩ := k
  exact ⟨⟨A1.trans a1, A2.trans a2, A3.trans a3, A4.trans a4, A5.trans a5, A6.trans a6, A7.trans a7, A8.trans a8, A9.trans a9⟩, ⟨B1.trans b1, B2.trans b2, B3.trans b3, B4.trans b4, B5.trans b5, B6.trans b6⟩, D1.trans d1, D2.trans d2, D3.trans d3, D4.trans d4, D5.trans d5, D6.trans d6⟩
theorem yy_tR_id (k : Nat) (c : yy_CT) : yy_tR k (yy_cR k c) c = c := by
  unfold yy_tR
  show (c.1, c.2.1, c.2.2.1, va_up c.2.2.2.1 k (c.2.2.2.1 k), c.2.2.2.2) = c
  rw [yy_va_up_id]
theorem yy_sA_id (k : Nat) (s : MT) : sA k (mA k s) s = s := by
  unfold sA
  show (s.1, va_up s.2.1 k (s.2.1 k), s.2.2) = s
  rw [yy_va_up_id]
theorem yy_H337 (sc : xSc) : (fun (_ : Unit) (u : xH) => f_Holders_perform_b337 sc u) = fun _ u => some (.inl (), u) := rfl
theorem yy_H391 (sc : xSc) : (fun (_ : Unit) (u : xH) => f_Holders_dicts_b391 sc u) = fun _ u => some (.inl (), u) := rfl
theorem yy_O_out {g' : yy_GT} {m : Nat} {c c' : yy_CT} {s s' : MT} {x : Option ((Unit ⊕ Nat) × xH)} {y : Option (Int32 × MT)} {t nd o n : Nat} (hx : x = some (.inl (), yy_cH c')) (hy : y = some (0, s')) (h : yy_RR g' m c' s' t nd o n) (k : yy_KF c s c' s') (h18 : yy_cI 18 c' = yy_cI 18 c) : yy_OPS m c s x y := ⟨_, _, _, hx, hy, g', c', t, nd, o, n, rfl, h, k, Or.inl ⟨rfl, rfl, h18⟩⟩
theorem yy_O_end {rc : rcE} {sc : xSc} {g : yy_GT} {m : Nat} {c : yy_CT} {s : MT} {t nd o n : Nat} {d : Int32} (h : yy_RR g (m + 1) c s t nd o n) : yy_OPS m c s (f_P_operate rc sc (yy_cH c) (some 256) (some 47) d) (f_M_operate s 45) := by
  obtain ⟨k, k1, k2, k3⟩ := h.ds
  have k14 : yy_cI 14 c = nI k := h.2.1.2.2.2.1.trans k2
  refine yy_OP_head (gr := 3) 45 [] h (yy_OPc_of _ rfl) (by decide) (by decide) (yy_pat h.tb (j := 8) (by decide)) (by simp) (by decide) (fun _ => ?_)
  rw [show yy_alls s (n - 1) [] = true from rfl, if_pos rfl, yy_e_b96_3, yy_Cp_47, yy_H337, yy_tB_id, yy_Dp_47 k14 k1.1 k1.2, yy_cgI_14, Option.bind_some, k14, yy_oth_is 45 rfl (yy_dsp_dic (by decide)), yy_Mb_45, k2]
  unfold f_Holders_dicts_b248
  by_cases e : k = 1
  · rw [if_pos (show nI k ≤ 1 by rw [e]; decide), if_pos (show nI k = 1 by rw [e]; rfl)]
    refine yy_O_fail 9 h (by decide) (by decide) ?_ rfl
    rw [if_pos (yy_cis_P _ _), yy_e_need0 9 h.1.1 h.room]
    rfl
  · rw [if_neg (show ¬ nI k ≤ 1 from fun z => by rw [show (1 : Int32) = nI 1 from rfl, yy_nI_le (by omega) (by omega)] at z; omega), if_neg (show ¬ nI k = 1 from fun z => by rw [show (1 : Int32) = nI 1 from rfl, yy_nI_inj (by omega) (by omega)] at z; omega), if_pos (yy_cis_P _ _), yy_e_need1, p_tBl, yy_cgI_14, Option.bind_some, k14, yy_nI_sub1 (by omega), yy_cpI_14, Option.bind_some]
    have r := yy_RR_ds (x := nI (k - 1)) (y := yy_cR 274 c) (z := mA 9 s) h ⟨k - 1, by omega, rfl, fun i hi => by
      obtain ⟨d, a, d1, d2, d3, d4⟩ := k3 i (by omega)
      exact ⟨d, a, d1, by rw [yy_sA_id]; exact d2, by rw [yy_tR_id]; exact d3, by rw [yy_tR_id]; exact d4⟩⟩
    have kf := yy_KF_14 c s (nI (k - 1)) (yy_cR 274 c) (mA 9 s)
    rw [yy_tR_id, yy_sA_id] at r kf
    exact yy_O_out rfl rfl (r.less (by omega)) kf rfl
theorem yy_VR.dict {g : yy_GT} {c : yy_CT} {s : MT} {t nd o : Nat} {v : yy_SV} {q : Int32 × Int64 × UInt64} (h : yy_VR g c s t nd o v q) (hk : v.1 = some 78) : ∃ x a : Nat, x < nd ∧ v.2.2.1 = nI x ∧ q.2.1 = Int64.ofNat x ∧ yy_cR 273 c x = some a ∧ v.2.2.2.2.2.2.2 = some a ∧ q.1 = 6 := by
  obtain ⟨k, l, h1, h2, h3, h4, h5, h6⟩ := h
  rw [hk] at h3
  have := Option.some.inj h3
  have hk0 : k = 6 := by omega
  have hl0 : l = 0 := by omega
  rw [hk0, yy_VP_6] at h6
  rw [hk0, hl0] at h5
  obtain ⟨x, a, e1, e2, e3, e4, e5⟩ := h6
  exact ⟨x, a, e1, e2, e3, e4, e5, h5⟩
theorem yy_VR.name {g : yy_GT} {c : yy_CT} {s : MT} {t nd o : Nat} {v : yy_SV} {q : Int32 × Int64 × UInt64} (h : yy_VR g c s t nd o v q) (hk : v.1 = some 75) : ∃ a : Nat, v.2.2.2.2.2.2.1 = some a ∧ (a, q.2.1) ∈ yy_gnm g := by
  obtain ⟨k, l, h1, h2, h3, h4, h5, h6⟩ := h
  rw [hk] at h3
  have := Option.some.inj h3
  have hk0 : k = 3 := by omega
  rw [hk0, yy_VP_3] at h6
  exact h6
theorem yy_i64_nI {n : Nat} (h : n < 2147483648) : (Int64.ofNat n).toInt32 = nI n := by
  rw [← Int32.toInt_inj, Int64.toInt_toInt32, yy_i64_toInt (by omega), yy_nI_toInt h]
  exact Int.bmod_eq_of_le (by omega) (by omega)
theorem yy_O_begin {rc : rcE} {sc : xSc} {g : yy_GT} {m : Nat} {c : yy_CT} {s : MT} {t nd o n : Nat} {d : Int32} (h : yy_RR g (m + 1) c s t nd o n) : yy_OPS m c s (f_P_operate rc sc (yy_cH c) (some 256) (some 46) d) (f_M_operate s 44) := by
  have hn := h.le40
  obtain ⟨k, k1, k2, k3⟩ := h.ds
  have k14 : yy_cI 14 c = nI k := h.2.1.2.2.2.1.trans k2
  refine yy_OP_head (gr := 3) 44 [7] h (yy_OPc_of _ rfl) (by decide) (by decide) (yy_pat h.tb (j := 7) (by decide)) (by decide) (by decide) (fun hr => ?_)
  have hr : 1 ≤ n := hr
  obtain ⟨a, v, a1, a2, a3, a4⟩ := h.val (show n - 1 < n by omega)
  rw [yy_alls1, a4.sk (j := 6) (by decide) (by decide) (by decide), yy_e_b96_3, show yy_opA c n [7].length = yy_cR 269 c (n - 1) from yy_opA_1 c n 0, a1, yy_Cp_46, yy_H337, yy_tB_id, yy_Dp_46 k14 k1.1 k1.2, if_pos (yy_sgis a2), yy_e_is a2 _ a4.cm rfl, Option.bind_some, if_pos (yy_cis_P _ _)]
  by_cases hv : v.1 = some 78
  · obtain ⟨x, b, x1, x2, x3, x4, x5, x6⟩ := a4.dict hv
    have x7 : x < 7 := by
      have := h.di.1.2
      omega
    rw [if_pos hv, if_pos (decide_eq_true hv), yy_e_type1, p_tBl, yy_cgI_14, Option.bind_some, k14, yy_oth_is 44 rfl (yy_dsp_dic (by decide)), yy_Mb_44, k2]
    unfold f_Holders_dicts_b196
    by_cases e : k = 6
    · rw [if_pos (show (6 : Int32) ≤ nI k by rw [e]; decide), if_pos (show nI k = 6 by rw [e]; rfl)]
      refine yy_O_fail 7 h (by decide) (by decide) ?_ rfl
      rw [if_pos (yy_cis_P _ _), yy_e_need0 7 h.1.1 h.room]
      rfl
    · obtain ⟨b', r, f, L, e1, e2, _⟩ := h.di.2.2 x x1
      rw [x4] at e1
      cases e1
      rw [if_neg (show ¬ (6 : Int32) ≤ nI k from fun z => by rw [show (6 : Int32) = nI 6 from rfl, yy_nI_le (by omega) (by omega)] at z; omega), if_neg (show ¬ nI k = 6 from fun z => by rw [show (6 : Int32) = nI 6 from rfl, yy_nI_inj (by omega) (by omega)] at z; omega), if_pos (yy_cis_P _ _), yy_e_need1, p_tBl, yy_cgR_13, Option.bind_some, yy_cgI_14, Option.bind_some, k14, yy_nI_add1, yy_cpI_14, Option.bind_some, yy_sg7 (c := yy_tI 14 (nI (k + 1)) c) a2, Option.bind_some, x5, yy_cbR_274 (by omega) (Or.inr (p_xis (yy_dcv_a (c := yy_tI 14 (nI (k + 1)) c) e2))), Option.bind_some, yy_cgI_9, Option.bind_some, show yy_cI 9 (yy_tR 274 (va_up (yy_cR 274 (yy_tI 14 (nI (k + 1)) c)) k (some b)) (yy_tI 14 (nI (k + 1)) c)) = nI n from h.nine, yy_nI_sub1 hr, yy_cpI_9, Option.bind_some]
      rw [h.2.1.1, yy_nI_sub1 hr, if_pos (yy_xin_nI' (by omega) (by decide)), if_pos (yy_xin_nI' (by omega) (by decide)), yy_nI_c (by omega), yy_nI_c (by omega), show mL 2 s (n - 1) = Int64.ofNat x from x3, yy_i64_nI (by omega)]
      have r := yy_RR_ds (x := nI (k + 1)) (y := va_up (yy_cR 274 c) k (some b)) (z := va_up (mA 9 s) k (nI x)) h ⟨k + 1, by omega, rfl, fun i hi => by
        show ∃ d a, d < nd ∧ va_up (mA 9 s) k (nI x) i = nI d ∧ yy_cR 273 c d = some a ∧ va_up (yy_cR 274 c) k (some b) i = some a
        by_cases z : i = k
        · subst z
          exact ⟨x, b, x1, va_up_self _ _ _, x4, va_up_self _ _ _⟩
        · obtain ⟨d, a, d1, d2, d3, d4⟩ := k3 i (by omega)
          exact ⟨d, a, d1, (va_up_ne _ _ z).trans d2, d3, (va_up_ne _ _ z).trans d4⟩⟩
      have r2 := yy_R_top r (n' := n - 1) (by omega)
      have kf := (yy_KF_14 c s (nI (k + 1)) (va_up (yy_cR 274 c) k (some b)) (va_up (mA 9 s) k (nI x))).trans (yy_KF.of ((yy_KP_t9 g _ _ (nI (n - 1))).trans (yy_KP_s4 g _ _ (nI (n - 1)))))
      refine yy_O_out rfl ?_ (r2.less (by omega)) kf rfl
      rw [show mI 10 (sA 9 (va_up (mA 9 s) k (nI x)) s) = nI k from k2, yy_nI_add1, show mI 4 (sI 10 (nI (k + 1)) (sA 9 (va_up (mA 9 s) k (nI x)) s)) = nI n from h.2.1.1, yy_nI_sub1 hr]
  · rw [if_neg hv, if_neg (by rw [decide_eq_false hv]; decide), yy_e_type0 h.1.1 h.room]
    exact yy_O_fail 3 h (by decide) (by decide) rfl rfl
