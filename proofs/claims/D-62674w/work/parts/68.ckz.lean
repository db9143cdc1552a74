/-! an entry is added to dict d0, which lies at b0; its place is w0 -/
def yy_KZ (b0 d0 w0 : Nat) (g : yy_GT) (c : yy_CT) (s : MT) (g' : yy_GT) (c' : yy_CT) (s' : MT) : Prop :=
  (yy_gnm g' = yy_gnm g ∧ yy_ghC g ≤ yy_ghC g' ∧ ∀ a, a < yy_cn c → yy_gow g' a = yy_gow g a) ∧
  (yy_cn c ≤ yy_cn c' ∧ d0 < 7 ∧ w0 < 80) ∧
  (∀ a, a < yy_cn c → yy_slv c' a = yy_slv c a) ∧ (∀ a v, a < yy_cn c → a ≠ b0 → yy_dcv c a = some v → yy_dcv c' a = some v) ∧ (∀ a v, a < yy_cn c → yy_ov c a = some v → yy_ov c' a = some v) ∧
  ((∀ k, k = 264 ∨ k = 273 ∨ k = 277 → yy_cR k c' = yy_cR k c) ∧ ∀ i, i < yy_ghC g → yy_cR 270 c' i = yy_cR 270 c i) ∧
  (∀ p, 50 ≤ p → p < 1170 → p ≠ 250 + w0 → yy_pl s' p = yy_pl s p) ∧ ((∀ k, k = 8 ∨ k = 13 ∨ k = 14 → mA k s' = mA k s) ∧ ∀ j, j ≠ d0 → mA 7 s' j = mA 7 s j) ∧ (mL 29 s' = mL 29 s ∧ ∀ j, j ≠ w0 → mL 6 s' j = mL 6 s j)
theorem yy_LG_KZ {b0 d0 w0 : Nat} {g g' : yy_GT} {c c' : yy_CT} {s s' : MT} (hL : yy_LOW c) (k : yy_KZ b0 d0 w0 g c s g' c' s') : ∀ {L : List yy_LGE} {r m : Option Nat}, yy_LG g c r L m → yy_LG g' c' r L m
  | [], _, _, e => e
  | .inl e :: _, _, _, h => by
    obtain ⟨a, old, x, w, h1, h2, h3, h4, h5, h6, h7, h8, h9, h10⟩ := h
    have ho := hL.s h4
    have r := yy_LG_KZ hL k h10
    obtain ⟨⟨a1, a2, a5⟩, ⟨b1, b3, b4⟩, kS, kD, kO, _⟩ := k
    refine ⟨a, old, x, w, h1, h2, kO _ _ (hL.o h3) h3, (kS _ ho).trans h4, (a5 old ho).trans h5, h6, h7, by omega, ?_, r⟩
    rw [a5 _ h8]
    exact h9
  | .inr e :: _, _, _, h => by
    obtain ⟨a, x, h1, h2, h3, h4⟩ := h
    have r := yy_LG_KZ hL k h4
    obtain ⟨⟨a1, a2, a5⟩, ⟨b1, b3, b4⟩, kS, kD, kO, _⟩ := k
    exact ⟨a, x, h1, h2, kO _ _ (hL.o h3) h3, r⟩
theorem yy_FO_KZ {b0 d0 w0 : Nat} {g g' : yy_GT} {c c' : yy_CT} {s s' : MT} (hL : yy_LOW c) (k : yy_KZ b0 d0 w0 g c s g' c' s') {a : Nat} : ∀ {L : List yy_LGE} {r : Option Nat}, yy_FO c a r L → yy_FO c' a r L
  | [], _, _ => trivial
  | .inl _ :: L, r, h => yy_FO_KZ (L := L) hL k h
  | .inr e :: L, r, h => by
    unfold yy_FO at h ⊢
    by_cases q : e.1 = a
    · rw [if_pos q] at h ⊢
      obtain ⟨⟨b, x, y, h1, h2⟩, h3⟩ := h
      have r := yy_FO_KZ hL k h3
      obtain ⟨_, _, _, _, kO, _⟩ := k
      exact ⟨⟨b, x, y, h1, kO _ _ (hL.o h2) h2⟩, r⟩
    · rw [if_neg q] at h ⊢
      exact yy_FO_KZ hL k h
theorem yy_RCe_KZ {b0 d0 w0 : Nat} {g g' : yy_GT} {c c' : yy_CT} {s s' : MT} {b t nd o : Nat} {S : yy_SVF} (k : yy_KZ b0 d0 w0 g c s g' c' s') (hb : b ≤ 3) (hb1 : 1 ≤ b) (ht : t ≤ 160) (h : yy_RCe g c s b S t nd o) : yy_RCe g' c' s' b S t nd o := by
  obtain ⟨⟨a1, a2, a5⟩, ⟨b1, b3, b4⟩, kS, kD, kO, ⟨kR, kR2⟩, kp, ⟨kmA, kmA7⟩, kmL29, kmL6⟩ := k
  refine ⟨by have := h.1; omega, fun i hi => ?_⟩
  obtain ⟨a, v, e1, ha, e2, e3, e4, e5⟩ := h.2 i hi
  refine ⟨a, v, by rw [kR2 i (by have := h.1; omega)]; exact e1, by omega, e2, (a5 a ha).trans e3, ?_, e5⟩
  have r := yy_cpl_range (i := i) hb (by omega)
  rw [kp _ r.1 r.2 (by unfold yy_cpl; rw [if_neg (by omega)]; omega)]
  exact yy_VR_cong (by rw [a1]; exact fun _ h => h) (fun n _ => by rw [kR 273 (by decide)]) (kmA 14 (by decide)) e4
theorem yy_RDi_KZ {b0 d0 w0 : Nat} {g g' : yy_GT} {c c' : yy_CT} {s s' : MT} {b t nd o : Nat} {S : yy_SVF} {T : yy_DVF} (hL : yy_LOW c) (k : yy_KZ b0 d0 w0 g c s g' c' s') (hb : b ≤ 3) (hb1 : 1 ≤ b) (h : yy_RDi g c s b S T t nd o) : yy_RDi g' c' s' b S T t nd o := by
  obtain ⟨⟨a1, a2, a5⟩, ⟨b1, b3, b4⟩, kS, kD, kO, ⟨kR, kR2⟩, kp, ⟨kmA, kmA7⟩, kmL29, kmL6⟩ := k
  have hov : ∀ a v, yy_ov c a = some v → yy_ov c' a = some v := fun a v e => kO a v (hL.o e) e
  refine ⟨h.1, fun d h1 h2 => by rw [kmA 8 (by decide)]; exact h.2.1 d h1 h2, fun d hd => ?_⟩
  obtain ⟨a, r, f, L, e1, e2, e3, e4, e5, e6, e7, e8⟩ := h.2.2 d hd
  refine ⟨a, r, f, L, by rw [kR 273 (by decide)]; exact e1, e2, e3, by rw [kmA 8 (by decide)]; exact e4, (kmA7 _ (by omega)).trans e5, yy_CH_cong hov e6, fun i j hi hj e => e7 i j hi hj (by rw [← kmL6 _ (by omega), ← kmL6 _ (by omega)]; exact e), fun i e he => ?_⟩
  obtain ⟨q1, ha, q2, v, q3, q4, q5⟩ := e8 i e he
  have hi : i < L.length := by
    rcases Nat.lt_or_ge i L.length with w | w
    · exact w
    · rw [List.getElem?_eq_none w] at he
      cases he
  refine ⟨by rw [a1, kmL6 _ (by omega)]; exact q1, by omega, (a5 _ ha).trans q2, v, q3, ?_, q5⟩
  have hb2 := yy_bs_le hd h.1.2 e3.2.1 e3.2.2
  have rg := yy_cpl_range (i := 200 + yy_bs d + (L.length - 1 - i)) hb (by omega)
  rw [kp _ rg.1 rg.2 (by unfold yy_cpl; rw [if_neg (by omega)]; omega)]
  exact yy_VR_cong (by rw [a1]; exact fun _ h => h) (fun n _ => by rw [kR 273 (by decide)]) (kmA 14 (by decide)) q4
theorem yy_REL_KZ {b0 d0 w0 : Nat} {g g' : yy_GT} {c c' : yy_CT} {s s' : MT} {b t nd o x : Nat} {S : yy_SVF} {T : yy_DVF} (hL : yy_LOW c) (k : yy_KZ b0 d0 w0 g c s g' c' s') (h : yy_RDi g c s b S T t nd o) (htc : t ≤ yy_ghC g) (hr : yy_REL c' T t nd x) : yy_REL c T t nd x := by
  obtain ⟨_, _, _, _, kO, ⟨kR, kR2⟩, _⟩ := k
  have hov : ∀ a v, yy_ov c a = some v → yy_ov c' a = some v := fun a v e => kO a v (hL.o e) e
  rcases hr with ⟨i, h1, h2⟩ | ⟨d, y, v, L, e, h1, h2, h3, h4, h5, h6⟩
  · exact Or.inl ⟨i, h1, by rw [kR2 i (by omega)] at h2; exact h2⟩
  · rw [kR 273 (by decide)] at h2
    obtain ⟨a, r, f, L2, e1, e2, e3, e4, e5, e6, e7, e8⟩ := h.2.2 d h1
    rw [h2] at e1
    cases e1
    rw [h3] at e2
    cases e2
    have := yy_CH_inj h4 (yy_CH_cong hov e6)
    subst this
    exact Or.inr ⟨d, y, _, L, e, h1, h2, h3, e6, h5, h6⟩
theorem yy_RSv_KZ {b0 d0 w0 : Nat} {g g' : yy_GT} {c c' : yy_CT} {s s' : MT} (hL : yy_LOW c) (k : yy_KZ b0 d0 w0 g c s g' c' s') : ∀ {E : List (yy_SVF × yy_DVF × List yy_LGE × Nat)} {S : yy_SVF} {T : yy_DVF} {r : Option Nat} {t nd q : Nat}, E.length ≤ 3 → t ≤ 160 → yy_RSv g c s S T r t nd q E → yy_RSv g' c' s' S T r t nd q E
  | [], _, _, _, _, _, _, _, _, _ => trivial
  | e :: E, S, T, r, t, nd, q, hE, ht, h => by
    obtain ⟨a, q1, t1, mk, h1, h2, h3, h4, h5, h6, h7, h8, h9, h10, h11, h12, h13, h14⟩ := h
    have kk := k
    obtain ⟨⟨a1, a2, a5⟩, ⟨b1, b3, b4⟩, kS, kD, kO, ⟨kR, kR2⟩, kp, ⟨kmA, kmA7⟩, kmL29, kmL6⟩ := kk
    have hE' : E.length + 1 ≤ 3 := by
      rw [List.length_cons] at hE
      exact hE
    have rel : ∀ b, yy_REL c' e.2.1 t1 e.2.2.2 b → yy_REL c e.2.1 t1 e.2.2.2 b := fun b hb => yy_REL_KZ hL k h13 h12.1 hb
    refine ⟨a, q1, t1, mk, by rw [kR 277 (by decide)]; exact h1, kO _ _ (hL.o h2) h2, by rw [kmA 13 (by decide)]; exact h3, h4, by rw [kmA 14 (by decide)]; exact h5, h6, h7, yy_LG_KZ hL k h8, fun b hb => h9 b (rel b hb), fun d b hd hb => ?_, fun b v hb hv hq => h11 b v (rel b hb) hv hq, yy_RCe_KZ k hE' (by omega) (by omega) h12, yy_RDi_KZ hL k hE' (by omega) h13, yy_RSv_KZ hL k (by omega) (by omega) h14⟩
    rw [kR 273 (by decide)] at hb
    obtain ⟨v, g1, g2, g3⟩ := h10 d b hd hb
    exact ⟨v, g1, yy_FO_KZ hL k g2, g3⟩
theorem yy_RNm_KZ {b0 d0 w0 : Nat} {g g' : yy_GT} {c c' : yy_CT} {s s' : MT} (hL : yy_LOW c) (k : yy_KZ b0 d0 w0 g c s g' c' s') (h30 : mI 30 s' = mI 30 s) (h : yy_RNm g c s) : yy_RNm g' c' s' := by
  obtain ⟨⟨a1, a2, a5⟩, ⟨b1, b3, b4⟩, kS, kD, kO, ⟨kR, kR2⟩, kp, ⟨kmA, kmA7⟩, kmL29, kmL6⟩ := k
  have hov : ∀ a v, yy_ov c a = some v → yy_ov c' a = some v := fun a v e => kO a v (hL.o e) e
  obtain ⟨h1, h2, h3, h4⟩ := h
  unfold yy_RNm
  rw [a1, h30, kmL29, kR 264 (by decide)]
  refine ⟨fun p hp => ?_, h2, fun b hb => ?_, h4⟩
  · obtain ⟨tx, o, x, w, e1, e2, e3, e4, e5, L, e6, e7⟩ := h1 p hp
    obtain ⟨b, f, f1, f2, f3⟩ := e2
    exact ⟨tx, o, x, w, hov _ _ e1, ⟨b, f, yy_oa_cong hov f1, yy_oa_cong hov f2, f3⟩, e3, e4, e5, L, yy_NC_cong hov e6, e7⟩
  · obtain ⟨L, e1, e2⟩ := h3 b hb
    exact ⟨L, yy_NC_cong hov e1, e2⟩


