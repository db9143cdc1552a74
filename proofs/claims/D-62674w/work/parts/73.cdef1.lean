/-- a name in a dict, on both sides, with the home of its slot; or what the dict is -/
theorem yy_D_find2 {g : yy_GT} {m : Nat} {c : yy_CT} {s : MT} {t nd o n d a key : Nat} {w : Int64} (sc : xSc) (h : yy_RR g m c s t nd o n) (hd : d < nd) (ha : yy_cR 273 c d = some a) (hk : (key, w) ∈ yy_gnm g) :
    (∃ e v j, f_Dict_find sc (yy_cH c) (some a) (some key) = some (some e) ∧ f_M_entry s (nI d) w = some (nI (250 + (yy_bs d + j)), s) ∧ yy_slv c e = some v ∧ (yy_gow g e).1 = 3 ∧ yy_VR g c s t nd o v (yy_pl s (250 + (yy_bs d + j))) ∧ yy_bs d + j < 80 ∧ yy_HOME g c t nd e (250 + (yy_bs d + j))) ∨ (f_Dict_find sc (yy_cH c) (some a) (some key) = some none ∧ f_M_entry s (nI d) w = some (-1, s) ∧ ∃ (r : Nat) (f : Option Nat) (L : List (Nat × Nat × Nat)), yy_dcv c a = some (nI d, nI r, nI L.length, f) ∧ yy_CH c f L ∧ (1 ≤ r ∧ r ≤ (if d = 0 then 20 else 10) ∧ L.length ≤ r) ∧ mA 8 s d = nI r ∧ mA 7 s d = nI L.length ∧ ∀ j, j < L.length → mL 6 s (yy_bs d + j) ≠ w) := by
  obtain ⟨n1, n2, n3⟩ := h.2.2.2.2.2.2.2.1
  obtain ⟨a', r, f, L, e1, e2, e3, e4, e5, e6, e7, e8⟩ := n3 d hd
  rw [ha] at e1
  cases e1
  have hb := yy_bs_le hd n1.2 e3.2.1 e3.2.2
  have hx : ∀ e ∈ L, xcm (some e.2.1) = true := fun e he => by
    obtain ⟨i, hi⟩ := List.getElem?_of_mem he
    exact h.nm.xcm (e8 i e hi).1
  have hL : L.length ≤ 20 := by
    have := e3.2.1
    have := e3.2.2
    split at * <;> omega
  have hf : f_Dict_find sc (yy_cH c) (some a) (some key) = some (yy_fnd key L) := by
    unfold f_Dict_find
    rw [p_gR (yy_dcv_a e2) rfl, Option.bind_some, show mF = (mF - L.length - 1) + L.length + 1 by unfold mF; omega]
    exact yy_find_chain (h.nm.xcm hk) L f _ e6 hx
  have he : f_M_entry s (nI d) w = f_M_entry_b6 ((mF - L.length - 1) + L.length + 1) (nI d) w (nI (yy_bs d + 0)) s := by
    unfold f_M_entry
    rw [yy_base_e (by omega), Option.bind_some, show (mF - L.length - 1) + L.length + 1 = mF by unfold mF; omega]
    rfl
  have e5' : mA 7 s d = nI L.length := by
    rw [Nat.mul_zero, Nat.zero_add] at e5
    exact e5
  have loop := yy_entry_loop (s := s) (w := w) (show d < 7 by omega) hb e5' L.length 0 (mF - L.length - 1) (by omega) (fun i hi => absurd hi (Nat.not_lt_zero i))
  rw [he, hf]
  rcases hfn : yy_fnd key L with _ | x
  · right
    have e4' : mA 8 s d = nI r := by
      rw [Nat.mul_zero, Nat.zero_add] at e4
      exact e4
    rcases loop with ⟨i, l1, l2, l3⟩ | ⟨l1, l2⟩
    · exfalso
      have hlt : L.length - 1 - i < L.length := by omega
      have hg : L[L.length - 1 - i]? = some L[L.length - 1 - i] := List.getElem?_eq_getElem hlt
      have q := (e8 _ _ hg).1
      rw [show L.length - 1 - (L.length - 1 - i) = i by omega, Nat.mul_zero, Nat.zero_add, l2] at q
      exact yy_fnd_none hfn _ _ hg ((h.nm.2.1 _ _ q hk).mpr rfl)
    · exact ⟨rfl, l2, r, f, L, e2, e6, e3, e4', e5', l1⟩
  · left
    obtain ⟨i, e, f1, f2, f3⟩ := yy_fnd_some hfn
    obtain ⟨q1, q2, q3, v, q4, q5, q6⟩ := e8 i e f1
    have hi : i < L.length := by
      rcases Nat.lt_or_ge i L.length with z | z
      · exact z
      · rw [List.getElem?_eq_none z] at f1
        cases f1
    rw [Nat.mul_zero, Nat.zero_add] at q1 e7
    have hw : mL 6 s (yy_bs d + (L.length - 1 - i)) = w := (h.nm.2.1 _ _ q1 hk).mp f2
    rcases loop with ⟨j, l1, l2, l3⟩ | ⟨l1, l2⟩
    · have hj : j = L.length - 1 - i := e7 j (L.length - 1 - i) l1 (by omega) (l2.trans hw.symm)
      subst hj
      refine ⟨x, v, L.length - 1 - i, rfl, l3, by rw [← f3]; exact q4, by rw [← f3, q3], ?_, by omega, Or.inr ⟨d, i, a, _, L, e, hd, ha, e2, e6, f1, f3, by rw [← f3]; exact q3, rfl, by have := e3.2.1; have := e3.2.2; omega⟩⟩
      have ep : yy_cpl 0 (200 + yy_bs d + (L.length - 1 - i)) = 250 + (yy_bs d + (L.length - 1 - i)) := by
        unfold yy_cpl
        rw [if_pos rfl]
        omega
      rw [ep] at q5
      exact q5
    · exact absurd hw (l1 _ (by omega))

theorem yy_ad_rw {sc : xSc} {c : yy_CT} {b o key x : Nat} {v : yy_DV} {u : yy_SV} (hL : yy_LOW c) (hF : yy_FRc c) (hd : yy_dcv c b = some v) (hx : yy_slv c x = some u) (hl : xbo u.2.1 = true) (ho : yy_cI 26 c = nI o) : f_P_rewrite sc (yy_cH (yy_ad2 b o key v c)) (some 256) (some (yy_cn c + 1)) (some x) = some (yy_cH (yy_tS (yy_cn c + 1) (some (yy_svc (nI o) u)) (yy_ad2 b o key v c))) ∧ f_P_rewrite sc (yy_cH (yy_adl b o key v c)) (some 256) (some (yy_cn c + 1)) (some x) = some (yy_cH (yy_adf1 b o key v u c)) := by
  have hx' := hL.s hx
  obtain ⟨f1, f2, f3, f4, f5, f6, f7, f8⟩ := yy_ad2_f (o := o) (key := key) hL hF hd
  obtain ⟨F1, F2, F9, F3, _⟩ := yy_adl_f (o := o) (key := key) hL hF hd
  obtain ⟨k1, _⟩ := yy_ad2_k b o key v c
  obtain ⟨K1, _⟩ := yy_adl_k b o key v c
  refine ⟨yy_e_rewrite0 f1 ((f3 x hx').trans hx) hl ((k1 26).trans ho) rfl, ?_⟩
  unfold yy_adf1
  exact yy_e_rewrite0 F1 ((F3 x hx').trans hx) hl ((K1 26).trans ho) rfl
theorem yy_e_define1 {sc : xSc} {c : yy_CT} {b o key x m d r l : Nat} {f : Option Nat} {u : yy_SV} (hL : yy_LOW c) (hF : yy_FRc c) (hm : yy_RMc c (m + 3)) (hd : yy_dcv c b = some (nI d, nI r, nI l, f)) (hfn : f_Dict_find sc (yy_cH c) (some b) (some key) = some none) (hlr : l < r) (hr : r ≤ 20) (hx : yy_slv c x = some u) (hl : xbo u.2.1 = true) (ho : yy_cI 26 c = nI o) (ho3 : o ≤ 3) : f_P_define sc (yy_cH c) (some 256) (some b) (some key) (some x) = some (.inl (), yy_cH (if o = 0 then yy_adf0 b key (nI d, nI r, nI l, f) u c else yy_adf1 b o key (nI d, nI r, nI l, f) u c)) := by
  have hx' := hL.s hx
  have ha := yy_e_add (sc := sc) (key := key) (m := m + 1) hL hF hm hd
  obtain ⟨f1, f2, f3, f4, f5, f6, f7⟩ := yy_ad0_f hL hF (.inl (5, [vR (some key), vR (some (yy_cn c + 1)), vR f]))
  obtain ⟨k1, _⟩ := yy_ad0_k (.inl (5, [vR (some key), vR (some (yy_cn c + 1)), vR f])) c
  obtain ⟨n1, n2, n3, n4⟩ := yy_ad0_n (.inl (5, [vR (some key), vR (some (yy_cn c + 1)), vR f])) c
  obtain ⟨N1, N2, N3, N4⟩ := yy_ad2_n b o key (nI d, nI r, nI l, f) c
  obtain ⟨K1, _⟩ := yy_ad2_k b o key (nI d, nI r, nI l, f) c
  obtain ⟨g1, g2, g3, g4, g5, g6, g7, g8⟩ := yy_ad2_f (o := o) (key := key) hL hF hd
  obtain ⟨r1, r2⟩ := yy_ad_rw (sc := sc) (key := key) hL hF hd hx hl ho
  have s1 : yy_slv (yy_tT b (some ((nI d, nI r, nI l, f).1, (nI d, nI r, nI l, f).2.1, (nI d, nI r, nI l, f).2.2.1 + 1, some (yy_cn c))) (yy_ad0 (.inl (5, [vR (some key), vR (some (yy_cn c + 1)), vR (nI d, nI r, nI l, f).2.2.2])) c)) (yy_cn c + 1) = some yy_dfS := by
    rw [yy_slv_tT]
    exact f1
  unfold f_P_define
  rw [if_pos (p_xis (yy_dcv_a hd)), hfn, Option.bind_some, if_pos rfl, p_gI (yy_dcv_a hd) rfl, Option.bind_some, p_gI (yy_dcv_a hd) rfl, Option.bind_some]
  show (if nI r ≤ nI l then _ else _) = _
  rw [if_neg (fun z => by rw [yy_nI_le (by omega) (by omega)] at z; omega)]
  unfold f_P_define_b29
  rw [if_pos (yy_cis_P _ _), yy_e_need1, p_tBl, if_pos (p_xis (yy_dcv_a hd)), ha, Option.bind_some]
  dsimp only
  rw [yy_cgI_26, Option.bind_some, yy_cI_tT, k1, ho, yy_sp4 s1, Option.bind_some]
  have ead : yy_tS (yy_cn c + 1) (some (yy_dfS.1, yy_dfS.2.1, yy_dfS.2.2.1, yy_dfS.2.2.2.1, nI o, yy_dfS.2.2.2.2.2)) (yy_tT b (some ((nI d, nI r, nI l, f).1, (nI d, nI r, nI l, f).2.1, (nI d, nI r, nI l, f).2.2.1 + 1, some (yy_cn c))) (yy_ad0 (.inl (5, [vR (some key), vR (some (yy_cn c + 1)), vR (nI d, nI r, nI l, f).2.2.2])) c)) = yy_ad2 b o key (nI d, nI r, nI l, f) c := rfl
  rw [ead, yy_cgI_26, Option.bind_some, K1, ho]
  unfold f_P_define_b73
  by_cases o0 : o = 0
  · subst o0
    rw [if_pos (show nI 0 ≤ 0 by decide), if_pos (yy_cis_P _ _), r1, if_pos rfl]
    rfl
  · have M2 : yy_RMc (yy_ad2 b o key (nI d, nI r, nI l, f) c) (m + 1) := by
      have e1 := hm.1
      have e2 := hm.2
      refine ⟨?_, ?_⟩
      · rw [N1]
        omega
      · rw [N3]
        omega
    rw [if_neg (fun z => by rw [show (0 : Int32) = nI 0 from rfl, yy_nI_le (by omega) (by omega)] at z; omega), if_neg o0, show nO 9 2 2 (yy_cH (yy_ad2 b o key (nI d, nI r, nI l, f) c)) = some (xnew (yy_cH (yy_ad2 b o key (nI d, nI r, nI l, f) c)) (.inl (9, xdef 9 2)) 2) from if_pos (yy_RMc.xrm M2 (by decide)), yy_x_nwO g8, Option.bind_some, yy_cgR_28, Option.bind_some]
    simp only [Option.isSome_some, ↓reduceIte, yy_cH_nx]
    obtain ⟨p1, p2, p3, p4⟩ := yy_nwO_g (.inl (9, xdef 9 2)) 2 (yy_ad2 b o key (nI d, nI r, nI l, f) c)
    have i1 : ∀ e, yy_ov (yy_nwO e 2 (yy_ad2 b o key (nI d, nI r, nI l, f) c)) (yy_cn c + 1 + 1) = some e := fun e => by
      have := yy_ov_nwO g8 e 2
      rw [N1] at this
      exact this
    have i2 : ∀ e e', yy_tO (yy_cn c + 1 + 1) (some e') (yy_nwO e 2 (yy_ad2 b o key (nI d, nI r, nI l, f) c)) = yy_nwO e' 2 (yy_ad2 b o key (nI d, nI r, nI l, f) c) := fun e e' => by
      have := yy_tO_nwO (yy_ad2 b o key (nI d, nI r, nI l, f) c) e e' 2
      rw [N1] at this
      exact this
    rw [N1, p4, N4]
    unfold f_Added_init
    rw [if_pos (show (some (yy_cn c + 1 + 1)).isSome = true from rfl), show f_Record_init (some (yy_cn c + 1 + 1)) = some () from rfl, Option.bind_some, yy_op_pV (i1 _), i2, Option.bind_some, yy_op_pV (i1 _), i2, Option.bind_some, Option.bind_some, yy_cpR_28, Option.bind_some]
    have ea : yy_tl (some (yy_cn c + 1 + 1)) (yy_nwO (.inl (9, ((xdef 9 2).set 0 (vR (yy_cl c))).set 1 (vR (some b)))) 2 (yy_ad2 b o key (nI d, nI r, nI l, f) c)) = yy_adl b o key (nI d, nI r, nI l, f) c := rfl
    rw [ea, if_pos (yy_cis_P _ _), r2, Option.bind_some]
