theorem yy_va_up_id {α : Type} (f : Nat → α) (k : Nat) : va_up f k (f k) = f := by
  funext j
  unfold va_up
  by_cases h : j = k
  · rw [if_pos h, h]
  · rw [if_neg h]
theorem yy_sI_id {k : Nat} {x : Int32} {s : MT} (h : mI k s = x) : sI k x s = s := by
  unfold sI
  rw [← h]
  show (va_up s.1 k (s.1 k), s.2) = s
  rw [yy_va_up_id]
theorem yy_sA_sP (s : MT) (p : Nat) (x : Int32) : sA 1 (va_up (mA 1 s) p x) s = yy_sP p (x, (yy_pl s p).2) s := by
  unfold yy_sP
  show sA 1 _ s = sD 3 (va_up (mD 3 s) p (mD 3 s p)) (sL 2 (va_up (mL 2 s) p (mL 2 s p)) _)
  rw [yy_va_up_id, yy_va_up_id]
  unfold sA sL sD
  dsimp only [mL, mD, mA]
  rw [yy_va_up_id, yy_va_up_id]
theorem yy_e_Mbit {s : MT} {n : Nat} (op : Int32) (h : mI 4 s = nI n) (h1 : 1 ≤ n) (h3 : 23 ≤ op ∧ ¬ op ≤ 28) : f_M_truth s op = f_M_bits s op (nI (n - 1)) := by
  unfold f_M_truth
  rw [if_pos h3.1, if_neg h3.2, h, yy_nI_sub1 h1]
  exact yy_bind_id _
theorem yy_O_xcheck {rc : rcE} {sc : xSc} {g : yy_GT} {m : Nat} {c : yy_CT} {s : MT} {t nd o n : Nat} {d : Int32} (h : yy_RR g (m + 1) c s t nd o n) : yy_OPS m c s (f_P_operate rc sc (yy_cH c) (some 256) (some 37) d) (f_M_operate s 35) := by
  have hn := h.le40
  refine yy_OP_head (gr := 2) 35 [9] h (yy_OPc_of _ rfl) (by decide) (by decide) rfl (by decide) (by decide) (fun hr => ?_)
  have hr : 1 ≤ n := hr
  obtain ⟨a, v, a1, a2, a3, a4⟩ := h.val (show n - 1 < n by omega)
  rw [show yy_alls s (n - 1) [9] = true from rfl, if_pos rfl, yy_oth_tru 35 rfl rfl, yy_e_b96_2, show yy_opA c n [9].length = yy_cR 269 c (n - 1) from yy_opA_1 c n 0, a1, yy_Cp_37, yy_sg1 a2, Option.bind_some, if_pos (yy_cis_P _ _), yy_T456, yy_tB_id, yy_e_Mbit 35 h.2.1.1 hr (by decide)]
  obtain ⟨k, l, h1, h2, h3, h4, h5, h6⟩ := a4
  have hM : f_M_bits s 35 (nI (n - 1)) = f_M_give s (nI 1) 2 (if l = 1 then 1 else 0) := by
    unfold f_M_bits f_M_bits_b70
    rw [if_pos (yy_xin_nI' (by omega) (by decide)), if_neg (by decide), if_pos rfl, if_pos (yy_xin_nI' (by omega) (by decide)), yy_nI_c (by omega)]
    show (if (yy_pl s (n - 1)).1 ≤ 7 then _ else _ : Option (Int32 × MT)) = _
    rw [h5]
    by_cases e : l = 1
    · rw [if_pos e, if_neg (fun z => by rw [show (7 : Int32) = nI 7 from rfl, yy_nI_le (by omega) (by omega)] at z; omega)]
      exact yy_bind_id _
    · rw [if_neg e, if_pos (by rw [show (7 : Int32) = nI 7 from rfl, yy_nI_le (by omega) (by omega)]; omega)]
      exact yy_bind_id _
  have hC : v.2.1 = if l = 1 then 1 else 0 := by
    rw [h4]
    rcases h2 with e | e
    · rw [e]
      rfl
    · rw [e.1]
      rfl
  rw [hM, hC]
  exact yy_O_truth sc (h.less (by omega)) hr (by decide) _
theorem yy_ord_k {sc : xSc} {c : yy_CT} {k : Nat} (hk : k < 8) : xis sc (yy_cH c) 20 (some (72 + k)) = true ∧ f_Enum_ordinal20 sc (yy_cH c) (some (72 + k)) = some (nI k) := by
  have e : xat sc (yy_cH c) (72 + k) = some (.inl (20, [vI (nI k)])) := by
    unfold xat
    rw [if_pos (by unfold xK; omega)]
    unfold xCs
    rw [if_neg (by omega), if_pos (by omega), Nat.add_sub_cancel_left]
  exact ⟨p_xis e, p_gI e rfl⟩
theorem yy_O_kind {rc : rcE} {sc : xSc} {g : yy_GT} {m : Nat} {c : yy_CT} {s : MT} {t nd o n : Nat} {d : Int32} (h : yy_RR g (m + 1) c s t nd o n) : yy_OPS m c s (f_P_operate rc sc (yy_cH c) (some 256) (some 38) d) (f_M_operate s 36) := by
  have hn := h.le40
  refine yy_OP_head (gr := 2) 36 [9] h (yy_OPc_of _ rfl) (by decide) (by decide) rfl (by decide) (by decide) (fun hr => ?_)
  have hr : 1 ≤ n := hr
  obtain ⟨a, v, a1, a2, a3, a4⟩ := h.val (show n - 1 < n by omega)
  obtain ⟨k, k1, k2, k3⟩ := a4.kd
  rw [show yy_alls s (n - 1) [9] = true from rfl, if_pos rfl, yy_oth_tru 36 rfl rfl, yy_e_b96_2, show yy_opA c n [9].length = yy_cR 269 c (n - 1) from yy_opA_1 c n 0, a1, yy_Cp_38, yy_sg0 a2, Option.bind_some, k2, if_pos (yy_ord_k k1).1, (yy_ord_k k1).2, Option.bind_some, if_pos (yy_cis_P _ _), yy_T456, yy_tB_id, yy_e_Mbit 36 h.2.1.1 hr (by decide)]
  have hM : f_M_bits s 36 (nI (n - 1)) = f_M_give s (nI 1) 0 (nI k).toInt64 := by
    unfold f_M_bits f_M_kindOf
    rw [if_pos (yy_xin_nI' (by omega) (by decide)), if_neg (by decide), if_neg (by decide), if_pos rfl, if_pos (yy_xin_nI' (by omega) (by decide)), yy_nI_c (by omega), Option.bind_some]
    show (f_M_give s 1 0 ((yy_pl s (n - 1)).1 &&& 7).toInt64).bind _ = _
    rw [k3]
    exact yy_bind_id _
  rw [hM]
  exact yy_O_giveK sc (h.less (by omega)) hr (by decide) _ _ _ _ (fun _ _ _ _ => yy_VR_int _ _ _ _ _ _ _ _ _ _ _ _ _)
/-- a live form, or none -/
theorem yy_VR_live {g : yy_GT} {c : yy_CT} {s : MT} {t nd o : Nat} {v : yy_SV} {q : Int32 × Int64 × UInt64} (h : yy_VR g c s t nd o v q) {k : Nat} (hk : v.1 = some (72 + k)) (h3 : k = 3 ∨ k = 5) {l : Nat} (hl : l ≤ 1) : yy_VR g c s t nd o (v.1, nI l, v.2.2) (nI (k + 8 * l), q.2) := by
  obtain ⟨k0, l0, h1, h2, h4, h5, h6, h7⟩ := h
  rw [hk] at h4
  have := Option.some.inj h4
  have e : k0 = k := by omega
  subst e
  refine ⟨k0, l, by omega, by omega, hk, rfl, rfl, ?_⟩
  rcases h3 with e | e
  · subst e
    exact h7
  · subst e
    exact h7
theorem yy_O_cv {rc : rcE} {sc : xSc} {g : yy_GT} {m : Nat} {c : yy_CT} {s : MT} {t nd o n : Nat} {d : Int32} (kk : Nat) (op : Int32) (l : Nat) (h : yy_RR g (m + 1) c s t nd o n) (ho : yy_OPc sc kk 1 2) (hk : kk < 72) (hl : l ≤ 1) (hp : f_M_pattern s op = some (nI (yy_dg [9]), s)) (hs : yy_oth op s = f_M_truth s op) (hop : 23 ≤ op ∧ ¬ op ≤ 28)
    (e1 : ∀ a v k, yy_slv c a = some v → v.1 = some (72 + k) → k < 8 → v.2.1 = 0 ∨ k = 3 ∨ k = 5 → f_Truths_perform sc (yy_cH c) (some 260) (some 256) (some kk) (some a) (some a) d = some (.inl (), yy_cH (yy_tS a (some (v.1, (if k = 3 ∨ k = 5 then nI l else v.2.1), v.2.2)) c)))
    (e2 : ∀ p k, p < 1300 → k < 8 → (yy_pl s p).1 &&& 7 = nI k → f_M_bits s op (nI p) = some (0, if k = 3 ∨ k = 5 then yy_sP p (nI (k + 8 * l), (yy_pl s p).2) s else s)) :
    yy_OPS m c s (f_P_operate rc sc (yy_cH c) (some 256) (some kk) d) (f_M_operate s op) := by
  have hn := h.le40
  refine yy_OP_head (gr := 2) op [9] h ho hk (by decide) hp (by decide) (by decide) (fun hr => ?_)
  have hr : 1 ≤ n := hr
  obtain ⟨a, v, a1, a2, a3, a4⟩ := h.val (show n - 1 < n by omega)
  obtain ⟨k, k1, k2, k3⟩ := a4.kd
  have hlive : v.2.1 = 0 ∨ k = 3 ∨ k = 5 := by
    obtain ⟨k0, l0, h1, h2, h4, h5, h6, h7⟩ := a4
    rw [k2] at h4
    have := Option.some.inj h4
    rcases h2 with e | e
    · left
      rw [h5, e]
      rfl
    · right
      omega
  rw [show yy_alls s (n - 1) [9] = true from rfl, if_pos rfl, hs, yy_e_b96_2, show yy_opA c n [9].length = yy_cR 269 c (n - 1) from yy_opA_1 c n 0, show yy_opB c n [9].length = yy_cR 269 c (n - 1) from yy_opB_1 c n, a1, e1 a v k a2 k2 k1 hlive, yy_e_Mbit op h.2.1.1 hr hop, e2 (n - 1) k (by omega) k1 k3]
  by_cases e : k = 3 ∨ k = 5
  · rw [if_pos e, if_pos e]
    exact yy_O_done (g := g) ⟨g, _, rfl, (yy_R_setS h (show n - 1 < n by omega) a1 a2 (yy_VR_live a4 k2 e hl)).less (by omega), (yy_KP_tS a2 a3 _).trans (yy_KP_sP g _ s _ (Or.inl (by omega))), rfl⟩ rfl
  · rw [if_neg e, if_neg e]
    have es : yy_sP (n - 1) (yy_pl s (n - 1)) s = s := by
      rw [← yy_sA_sP s (n - 1) (yy_pl s (n - 1)).1]
      show sA 1 (va_up (mA 1 s) (n - 1) (mA 1 s (n - 1))) s = s
      rw [yy_va_up_id]
      unfold sA
      show (s.1, va_up s.2.1 1 (s.2.1 1), s.2.2) = s
      rw [yy_va_up_id]
    have r := yy_R_setS h (show n - 1 < n by omega) a1 a2 (w := (v.1, v.2.1, v.2.2)) a4
    rw [es] at r
    have kp := (yy_KP_tS (g := g) (s := s) a2 a3 (v.1, v.2.1, v.2.2)).trans (yy_KP_sP g _ s (yy_pl s (n - 1)) (Or.inl (show n - 1 < 50 by omega)))
    rw [es] at kp
    exact yy_O_done (g := g) ⟨g, _, rfl, r.less (by omega), kp, rfl⟩ rfl
theorem yy_e_345 {sc : xSc} {c : yy_CT} {a k : Nat} {v : yy_SV} (a2 : yy_slv c a = some v) (hk : v.1 = some (72 + k)) (h8 : k < 8) : f_Truths_perform_b345 sc (some 35) (some a) (yy_cH c) = some (.inl (), yy_cH (yy_tS a (some (v.1, (if k = 3 ∨ k = 5 then 1 else 0), v.2.2)) c)) := by
  have hc : xcm v.1 = true := by
    rw [hk]
    exact yy_xcm_lt (by omega)
  unfold f_Truths_perform_b345
  rw [if_pos (show xcm (some 35) = true from rfl), if_pos (show xcm (some 35) = true from rfl), if_pos rfl, if_pos (yy_sgis a2), yy_e_is a2 _ hc rfl, Option.bind_some]
  have E : ∀ j, j < 8 → (v.1 = some (72 + j) ↔ k = j) := fun j hj => by
    rw [hk]
    refine ⟨fun e => by have := Option.some.inj e; omega, fun e => by rw [e]⟩
  by_cases e3 : k = 3
  · rw [if_pos ((E 3 (by decide)).mpr e3), if_neg (show ¬ (1 : Int32) = 0 by decide), if_pos (Or.inl e3)]
    unfold f_Truths_perform_b373 f_Truths_perform_b378
    rw [if_pos (show xbo 1 = true from rfl), yy_sp1 a2]
    rfl
  · rw [if_neg (fun z => e3 ((E 3 (by decide)).mp z)), if_pos rfl, if_pos (yy_sgis a2), yy_e_is a2 _ hc rfl, Option.bind_some]
    by_cases e5 : k = 5
    · rw [if_pos ((E 5 (by decide)).mpr e5), if_neg (show ¬ (1 : Int32) = 0 by decide), if_pos (Or.inr e5)]
      unfold f_Truths_perform_b373 f_Truths_perform_b378
      rw [if_pos (show xbo 1 = true from rfl), yy_sp1 a2]
      rfl
    · rw [if_neg (fun z => e5 ((E 5 (by decide)).mp z)), if_pos rfl, if_neg (fun z => z.elim e3 e5)]
      unfold f_Truths_perform_b377 f_Truths_perform_b378
      rw [if_pos (show xbo 0 = true from rfl), yy_sp1 a2]
      rfl
theorem yy_e_M105 {s : MT} {op : Int32} {p k : Nat} (hp : p < 1300) (h8 : k < 8) (hk : (yy_pl s p).1 &&& 7 = nI k) {l : Nat} (h124 : ∀ x : Nat, x < 8 → f_M_bits_b124 op (nI p) (nI x) s = f_M_bits_b145 (nI (x + 8 * l)) (nI p) s) : f_M_bits_b105 op (nI p) s = some (0, if k = 3 ∨ k = 5 then yy_sP p (nI (k + 8 * l), (yy_pl s p).2) s else s) := by
  unfold f_M_bits_b105 f_M_kindOf
  rw [if_pos (yy_xin_nI' hp (by decide)), yy_nI_c (by omega), Option.bind_some]
  show (if (yy_pl s p).1 &&& 7 = 3 then f_M_bits_b124 op (nI p) ((yy_pl s p).1 &&& 7) s else (if (yy_pl s p).1 &&& 7 = 5 then f_M_bits_b124 op (nI p) ((yy_pl s p).1 &&& 7) s else _)) = _
  rw [hk, h124 k h8]
  have hb : f_M_bits_b145 (nI (k + 8 * l)) (nI p) s = some (0, yy_sP p (nI (k + 8 * l), (yy_pl s p).2) s) := by
    unfold f_M_bits_b145 f_M_bits_b146
    rw [if_pos (yy_xin_nI' hp (by decide)), yy_nI_c (by omega), yy_sA_sP]
  by_cases e3 : k = 3
  · rw [if_pos (by rw [e3]; rfl), if_pos (Or.inl e3), hb]
  · rw [if_neg (fun z => by rw [show (3 : Int32) = nI 3 from rfl, yy_nI_inj (by omega) (by omega)] at z; exact e3 z)]
    by_cases e5 : k = 5
    · rw [if_pos (by rw [e5]; rfl), if_pos (Or.inr e5), hb]
    · rw [if_neg (fun z => by rw [show (5 : Int32) = nI 5 from rfl, yy_nI_inj (by omega) (by omega)] at z; exact e5 z), if_neg (fun z => z.elim e3 e5)]
      rfl
theorem yy_O_cvx {rc : rcE} {sc : xSc} {g : yy_GT} {m : Nat} {c : yy_CT} {s : MT} {t nd o n : Nat} {d : Int32} (h : yy_RR g (m + 1) c s t nd o n) : yy_OPS m c s (f_P_operate rc sc (yy_cH c) (some 256) (some 35) d) (f_M_operate s 33) := by
  refine yy_O_cv 35 33 1 h (yy_OPc_of _ rfl) (by decide) (by decide) rfl (yy_oth_tru 33 rfl rfl) (by decide) (fun a v k a2 hk h8 hl => ?_) (fun p k hp h8 hk => ?_)
  · rw [yy_Cp_35, yy_e_345 a2 hk h8]
    by_cases e : k = 3 ∨ k = 5
    · rw [if_pos e, if_pos e]
      rfl
    · rw [if_neg e, if_neg e]
      rcases hl with z | z
      · rw [z]
      · exact absurd z e
  · have : f_M_bits s 33 (nI p) = f_M_bits_b105 33 (nI p) s := by
      unfold f_M_bits
      rw [if_pos (yy_xin_nI' hp (by decide)), if_neg (by decide), if_neg (by decide), if_neg (by decide), if_pos rfl]
    rw [this]
    refine yy_e_M105 hp h8 hk (fun x hx => ?_)
    unfold f_M_bits_b124
    rw [if_pos rfl, show (8 : Int32) = nI 8 from rfl, yy_nI_add]
theorem yy_O_cvlit {rc : rcE} {sc : xSc} {g : yy_GT} {m : Nat} {c : yy_CT} {s : MT} {t nd o n : Nat} {d : Int32} (h : yy_RR g (m + 1) c s t nd o n) : yy_OPS m c s (f_P_operate rc sc (yy_cH c) (some 256) (some 36) d) (f_M_operate s 34) := by
  refine yy_O_cv 36 34 0 h (yy_OPc_of _ rfl) (by decide) (by decide) rfl (yy_oth_tru 34 rfl rfl) (by decide) (fun a v k a2 hk h8 hl => ?_) (fun p k hp h8 hk => ?_)
  · rw [yy_Cp_36]
    unfold f_Truths_perform_b345 f_Truths_perform_b377 f_Truths_perform_b378
    rw [if_pos (show xcm (some 36) = true from rfl), if_pos (show xcm (some 35) = true from rfl), if_neg (by decide), if_pos (show xbo 0 = true from rfl), yy_sp1 a2]
    by_cases e : k = 3 ∨ k = 5
    · rw [if_pos e]
      rfl
    · rw [if_neg e]
      rcases hl with z | z
      · rw [z]
        rfl
      · exact absurd z e
  · have : f_M_bits s 34 (nI p) = f_M_bits_b105 34 (nI p) s := by
      unfold f_M_bits
      rw [if_pos (yy_xin_nI' hp (by decide)), if_neg (by decide), if_neg (by decide), if_neg (by decide), if_neg (by decide), if_pos rfl]
    rw [this]
    refine yy_e_M105 hp h8 hk (fun x hx => ?_)
    unfold f_M_bits_b124
    rw [if_neg (by decide)]
    rfl
