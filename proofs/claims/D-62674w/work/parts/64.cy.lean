/-! one slot a0, of place p0, is written; the log may grow -/
def yy_KY (lo a0 p0 : Nat) (g : yy_GT) (c : yy_CT) (s : MT) (g' : yy_GT) (c' : yy_CT) (s' : MT) : Prop :=
  (yy_gnm g' = yy_gnm g ∧ yy_ghC g ≤ yy_ghC g' ∧ ((yy_gow g a0).1 = 1 ∨ (yy_gow g a0).1 = 3) ∧ ∀ a, a < yy_cn c → ¬ yy_fre lo (yy_gow g a) → yy_gow g' a = yy_gow g a) ∧
  (yy_cn c ≤ yy_cn c' ∧ p0 < 330) ∧
  (∀ a, a < yy_cn c → ¬ yy_fre lo (yy_gow g a) → a ≠ a0 → yy_slv c' a = yy_slv c a) ∧ (∀ a v, a < yy_cn c → yy_dcv c a = some v → yy_dcv c' a = some v) ∧ (∀ a v, a < yy_cn c → yy_ov c a = some v → yy_ov c' a = some v) ∧
  ((∀ k, k = 264 ∨ k = 273 ∨ k = 277 → yy_cR k c' = yy_cR k c) ∧ ∀ i, i < yy_ghC g → yy_cR 270 c' i = yy_cR 270 c i) ∧
  (∀ p, 50 ≤ p → p < 1170 → ¬ (50 + lo ≤ p ∧ p < 210) → p ≠ p0 → yy_pl s' p = yy_pl s p) ∧ (∀ k, k = 7 ∨ k = 8 ∨ k = 13 ∨ k = 14 → mA k s' = mA k s) ∧ (∀ k, k = 6 ∨ k = 29 → mL k s' = mL k s)
theorem yy_LG_KY {lo a0 p0 : Nat} {g g' : yy_GT} {c c' : yy_CT} {s s' : MT} (hL : yy_LOW c) (k : yy_KY lo a0 p0 g c s g' c' s') (ko : yy_KO lo g g' c) : ∀ {L : List yy_LGE} {r m : Option Nat}, yy_LG g c r L m → yy_LG g' c' r L m
  | [], _, _, e => e
  | .inl e :: _, _, _, h => by
    obtain ⟨a, old, x, w, h1, h2, h3, h4, h5, h6, h7, h8, h9, h10⟩ := h
    have ho := hL.s h4
    have n5 : ¬ yy_fre lo (yy_gow g old) := by rw [h5]; exact yy_fre4
    have r := yy_LG_KY hL k ko h10
    obtain ⟨⟨a1, a2, a4, a5⟩, ⟨b1, b3⟩, kS, kD, kO, _⟩ := k
    refine ⟨a, old, x, w, h1, h2, kO _ _ (hL.o h3) h3, (kS _ ho n5 (fun z => by rw [z] at h5; rw [h5] at a4; rcases a4 with q | q <;> cases q)).trans h4, (a5 old ho n5).trans h5, h6, h7, by omega, ?_, r⟩
    rcases h9 with h9 | h9
    · exact Or.inl (ko _ h8 h9)
    · right
      rw [a5 _ h8 (fun z => z.elim (fun y => by rw [y] at h9; cases h9) (fun y => by rw [y.1] at h9; cases h9))]
      exact h9
  | .inr e :: _, _, _, h => by
    obtain ⟨a, x, h1, h2, h3, h4⟩ := h
    have r := yy_LG_KY hL k ko h4
    obtain ⟨⟨a1, a2, a4, a5⟩, ⟨b1, b3⟩, kS, kD, kO, _⟩ := k
    exact ⟨a, x, h1, h2, kO _ _ (hL.o h3) h3, r⟩
theorem yy_FO_KY {lo a0 p0 : Nat} {g g' : yy_GT} {c c' : yy_CT} {s s' : MT} (hL : yy_LOW c) (k : yy_KY lo a0 p0 g c s g' c' s') {a : Nat} : ∀ {L : List yy_LGE} {r : Option Nat}, yy_FO c a r L → yy_FO c' a r L
  | [], _, _ => trivial
  | .inl _ :: L, r, h => yy_FO_KY (L := L) hL k h
  | .inr e :: L, r, h => by
    unfold yy_FO at h ⊢
    by_cases q : e.1 = a
    · rw [if_pos q] at h ⊢
      obtain ⟨⟨b, x, y, h1, h2⟩, h3⟩ := h
      have r := yy_FO_KY hL k h3
      obtain ⟨_, _, _, _, kO, _⟩ := k
      exact ⟨⟨b, x, y, h1, kO _ _ (hL.o h2) h2⟩, r⟩
    · rw [if_neg q] at h ⊢
      exact yy_FO_KY hL k h
theorem yy_RCe_KY {lo a0 p0 : Nat} {g g' : yy_GT} {c c' : yy_CT} {s s' : MT} {b t nd o : Nat} {S S' : yy_SVF} (k : yy_KY lo a0 p0 g c s g' c' s') (hS : ∀ a v, a < yy_cn c → ¬ yy_fre lo (yy_gow g a) → S a = some v → S' a = some v) (hb : b ≤ 3) (hb1 : 1 ≤ b) (ht : t ≤ 160) (htl : t ≤ lo) (h : yy_RCe g c s b S t nd o) : yy_RCe g' c' s' b S' t nd o := by
  obtain ⟨⟨a1, a2, a4, a5⟩, ⟨b1, b3⟩, kS, kD, kO, ⟨kR, kR2⟩, kp, kmA, kmL⟩ := k
  refine ⟨by have := h.1; omega, fun i hi => ?_⟩
  obtain ⟨a, v, e1, ha, e2, e3, e4, e5⟩ := h.2 i hi
  have n3 : ¬ yy_fre lo (yy_gow g a) := by rw [e3]; exact yy_fre1 (by omega)
  refine ⟨a, v, by rw [kR2 i (by have := h.1; omega)]; exact e1, by omega, hS a v ha n3 e2, (a5 a ha n3).trans e3, ?_, e5⟩
  have r := yy_cpl_range (i := i) hb (by omega)
  rw [kp _ r.1 r.2 (fun z => by unfold yy_cpl at z; split at z <;> omega) (by unfold yy_cpl; rw [if_neg (by omega)]; omega)]
  exact yy_VR_cong (by rw [a1]; exact fun _ h => h) (fun n _ => by rw [kR 273 (by decide)]) (kmA 14 (by decide)) e4
theorem yy_RDi_KY {lo a0 p0 : Nat} {g g' : yy_GT} {c c' : yy_CT} {s s' : MT} {b t nd o : Nat} {S S' : yy_SVF} {T T' : yy_DVF} (hL : yy_LOW c) (k : yy_KY lo a0 p0 g c s g' c' s') (hS : ∀ a v, a < yy_cn c → ¬ yy_fre lo (yy_gow g a) → S a = some v → S' a = some v) (hT : ∀ a v, T a = some v → T' a = some v) (hb : b ≤ 3) (hb1 : 1 ≤ b) (h : yy_RDi g c s b S T t nd o) : yy_RDi g' c' s' b S' T' t nd o := by
  obtain ⟨⟨a1, a2, a4, a5⟩, ⟨b1, b3⟩, kS, kD, kO, ⟨kR, kR2⟩, kp, kmA, kmL⟩ := k
  have hov : ∀ a v, yy_ov c a = some v → yy_ov c' a = some v := fun a v e => kO a v (hL.o e) e
  refine ⟨h.1, fun d h1 h2 => by rw [kmA 8 (by decide)]; exact h.2.1 d h1 h2, fun d hd => ?_⟩
  obtain ⟨a, r, f, L, e1, e2, e3, e4, e5, e6, e7, e8⟩ := h.2.2 d hd
  refine ⟨a, r, f, L, by rw [kR 273 (by decide)]; exact e1, hT a _ e2, e3, by rw [kmA 8 (by decide)]; exact e4, by rw [kmA 7 (by decide)]; exact e5, yy_CH_cong hov e6, by rw [kmL 6 (by decide)]; exact e7, fun i e he => ?_⟩
  obtain ⟨q1, ha, q2, v, q3, q4, q5⟩ := e8 i e he
  have hi : i < L.length := by
    rcases Nat.lt_or_ge i L.length with w | w
    · exact w
    · rw [List.getElem?_eq_none w] at he
      cases he
  have n2 : ¬ yy_fre lo (yy_gow g e.2.2) := by rw [q2]; exact yy_fre3
  refine ⟨by rw [a1, kmL 6 (by decide)]; exact q1, by omega, (a5 _ ha n2).trans q2, v, hS _ v ha n2 q3, ?_, q5⟩
  have hb2 := yy_bs_le hd h.1.2 e3.2.1 e3.2.2
  have rg := yy_cpl_range (i := 200 + yy_bs d + (L.length - 1 - i)) hb (by omega)
  rw [kp _ rg.1 rg.2 (fun z => by unfold yy_cpl at z; split at z <;> omega) (by unfold yy_cpl; rw [if_neg (by omega)]; omega)]
  exact yy_VR_cong (by rw [a1]; exact fun _ h => h) (fun n _ => by rw [kR 273 (by decide)]) (kmA 14 (by decide)) q4
theorem yy_REL_KY {lo a0 p0 : Nat} {g g' : yy_GT} {c c' : yy_CT} {s s' : MT} {b t nd o x : Nat} {S : yy_SVF} {T : yy_DVF} (hL : yy_LOW c) (k : yy_KY lo a0 p0 g c s g' c' s') (h : yy_RDi g c s b S T t nd o) (htc : t ≤ yy_ghC g) (hr : yy_REL c' T t nd x) : yy_REL c T t nd x := by
  obtain ⟨_, _, _, _, kO, ⟨kR, kR2⟩, _⟩ := k
  have hov : ∀ a v, yy_ov c a = some v → yy_ov c' a = some v := fun a v e => kO a v (hL.o e) e
  rcases hr with ⟨i, h1, h2⟩ | ⟨d, y, v, L, e, h1, h2, h3, h4, h5, h6⟩
  · exact Or.inl ⟨i, h1, by rw [kR2 i (by omega)] at h2; exact h2⟩
  · rw [kR 273 (by decide)] at h2
    obtain ⟨a, r, f, L2, e1, e2, e3, e4, e5, e6, e7, e8⟩ := h.2.2 d h1
    rw [h2] at e1
    cases e1
    rw [h3] at e2
    cases e2
    have := yy_CH_inj h4 (yy_CH_cong hov e6)
    subst this
    exact Or.inr ⟨d, y, _, L, e, h1, h2, h3, e6, h5, h6⟩
theorem yy_RSv_KY {lo a0 p0 : Nat} {g g' : yy_GT} {c c' : yy_CT} {s s' : MT} (hL : yy_LOW c) (k : yy_KY lo a0 p0 g c s g' c' s') (ko : yy_KO lo g g' c) : ∀ {E : List (yy_SVF × yy_DVF × List yy_LGE × Nat)} {S S' : yy_SVF} {T T' : yy_DVF} {r : Option Nat} {t nd q : Nat}, E.length ≤ 3 → t ≤ 160 → t ≤ lo →
    (∀ a v, a < yy_cn c → ¬ yy_fre lo (yy_gow g a) → S a = some v → S' a = some v) → (∀ a, a < yy_cn c → ¬ yy_fre lo (yy_gow g a) → S a = none → S' a = none) → (∀ a v, T a = some v → T' a = some v) → yy_RSv g c s S T r t nd q E → yy_RSv g' c' s' S' T' r t nd q E
  | [], _, _, _, _, _, _, _, _, _, _, _, _, _, _, _ => trivial
  | e :: E, S, S', T, T', r, t, nd, q, hE, ht, htl, hS, hS0, hT, h => by
    obtain ⟨a, q1, t1, mk, h1, h2, h3, h4, h5, h6, h7, h8, h9, h10, h11, h12, h13, h14⟩ := h
    have kk := k
    obtain ⟨⟨a1, a2, a4, a5⟩, ⟨b1, b3⟩, kS, kD, kO, ⟨kR, kR2⟩, kp, kmA, kmL⟩ := kk
    have hE' : E.length + 1 ≤ 3 := by
      rw [List.length_cons] at hE
      exact hE
    have hrel : ∀ b, yy_REL c' e.2.1 t1 e.2.2.2 b → b < yy_cn c ∧ ¬ yy_fre lo (yy_gow g b) ∧ yy_REL c e.2.1 t1 e.2.2.2 b := fun b hb => by
      have hb' := yy_REL_KY hL k h13 h12.1 hb
      refine ⟨?_, ?_, hb'⟩
      · rcases hb' with ⟨i, g1, g2⟩ | ⟨d, y, v, L, ee, g1, g2, g3, g4, g5, g6⟩
        · obtain ⟨x, v, p1, p2, p3, p4, p5, p6⟩ := h12.2 i g1
          rw [g2] at p1
          cases p1
          exact p2
        · obtain ⟨x, r, f, L2, p1, p2, p3, p4, p5, p6, p7, p8⟩ := h13.2.2 d g1
          rw [g2] at p1
          cases p1
          rw [g3] at p2
          cases p2
          have := yy_CH_inj g4 p6
          subst this
          obtain ⟨i, hi⟩ := List.getElem?_of_mem g5
          rw [← g6]
          exact (p8 i ee hi).2.1
      · rcases hb' with ⟨i, g1, g2⟩ | ⟨d, y, v, L, ee, g1, g2, g3, g4, g5, g6⟩
        · obtain ⟨x, v, p1, p2, p3, p4, p5, p6⟩ := h12.2 i g1
          rw [g2] at p1
          cases p1
          rw [p4]
          exact yy_fre1 (by omega)
        · obtain ⟨x, r, f, L2, p1, p2, p3, p4, p5, p6, p7, p8⟩ := h13.2.2 d g1
          rw [g2] at p1
          cases p1
          rw [g3] at p2
          cases p2
          have := yy_CH_inj g4 p6
          subst this
          obtain ⟨i, hi⟩ := List.getElem?_of_mem g5
          rw [← g6, (p8 i ee hi).2.2.1]
          exact yy_fre3
    have hSe : ∀ b, yy_REL c' e.2.1 t1 e.2.2.2 b → S' b = S b := fun b hb => by
      obtain ⟨r1, r2, r3⟩ := hrel b hb
      rcases hs : S b with _ | v
      · exact hS0 b r1 r2 hs
      · exact hS b v r1 r2 hs
    refine ⟨a, q1, t1, mk, by rw [kR 277 (by decide)]; exact h1, kO _ _ (hL.o h2) h2, by rw [kmA 13 (by decide)]; exact h3, h4, by rw [kmA 14 (by decide)]; exact h5, h6, h7, yy_LG_KY hL k ko h8, fun b hb => ?_, fun d b hd hb => ?_, fun b v hb hv hq => ?_, yy_RCe_KY k (fun _ _ _ _ z => z) hE' (by omega) (by omega) (by omega) h12, yy_RDi_KY hL k (fun _ _ _ _ z => z) (fun _ _ z => z) hE' (by omega) h13, yy_RSv_KY hL k ko (by omega) (by omega) (by omega) (fun _ _ _ _ z => z) (fun _ _ _ z => z) (fun _ _ z => z) h14⟩
    · rw [hSe b hb]
      exact h9 b (hrel b hb).2.2
    · rw [kR 273 (by decide)] at hb
      obtain ⟨v, g1, g2, g3⟩ := h10 d b hd hb
      exact ⟨v, hT _ _ g1, yy_FO_KY hL k g2, g3⟩
    · rw [hSe b hb] at hv
      exact h11 b v (hrel b hb).2.2 hv hq
theorem yy_RNm_KY {lo a0 p0 : Nat} {g g' : yy_GT} {c c' : yy_CT} {s s' : MT} (hL : yy_LOW c) (k : yy_KY lo a0 p0 g c s g' c' s') (h30 : mI 30 s' = mI 30 s) (h : yy_RNm g c s) : yy_RNm g' c' s' := by
  obtain ⟨⟨a1, a2, a4, a5⟩, ⟨b1, b3⟩, kS, kD, kO, ⟨kR, kR2⟩, kp, kmA, kmL⟩ := k
  have hov : ∀ a v, yy_ov c a = some v → yy_ov c' a = some v := fun a v e => kO a v (hL.o e) e
  obtain ⟨h1, h2, h3, h4⟩ := h
  unfold yy_RNm
  rw [a1, h30, kmL 29 (by decide), kR 264 (by decide)]
  refine ⟨fun p hp => ?_, h2, fun b hb => ?_, h4⟩
  · obtain ⟨tx, o, x, w, e1, e2, e3, e4, e5, L, e6, e7⟩ := h1 p hp
    obtain ⟨b, f, f1, f2, f3⟩ := e2
    exact ⟨tx, o, x, w, hov _ _ e1, ⟨b, f, yy_oa_cong hov f1, yy_oa_cong hov f2, f3⟩, e3, e4, e5, L, yy_NC_cong hov e6, e7⟩
  · obtain ⟨L, e1, e2⟩ := h3 b hb
    exact ⟨L, yy_NC_cong hov e1, e2⟩

