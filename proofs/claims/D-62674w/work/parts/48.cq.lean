/-! cells from lo on may change as well, and be taken -/
def yy_fre (lo : Nat) (p : Nat × Nat) : Prop := p.1 = 0 ∨ (p.1 = 1 ∧ lo ≤ p.2)
def yy_KQ (lo : Nat) (g : yy_GT) (c : yy_CT) (s : MT) (g' : yy_GT) (c' : yy_CT) (s' : MT) : Prop :=
  (yy_gnm g' = yy_gnm g ∧ yy_ghC g ≤ yy_ghC g' ∧ yy_ghD g' = yy_ghD g ∧ yy_gsv g' = yy_gsv g ∧ ∀ a, a < yy_cn c → ¬ yy_fre lo (yy_gow g a) → yy_gow g' a = yy_gow g a) ∧
  (yy_cn c ≤ yy_cn c' ∧ yy_cb c' = yy_cb c ∧ yy_cl c' = yy_cl c ∧ yy_cg c' = yy_cg c) ∧
  (∀ a, a < yy_cn c → ¬ yy_fre lo (yy_gow g a) → yy_slv c' a = yy_slv c a) ∧ (∀ a v, a < yy_cn c → yy_dcv c a = some v → yy_dcv c' a = some v) ∧ (∀ a v, a < yy_cn c → yy_ov c a = some v → yy_ov c' a = some v) ∧
  ((∀ k, k ≠ 269 → k ≠ 270 → yy_cR k c' = yy_cR k c) ∧ ∀ i, i < yy_ghC g → yy_cR 270 c' i = yy_cR 270 c i) ∧ (∀ k, yy_cA k c' = yy_cA k c) ∧ (∀ k, yy_cD k c' = yy_cD k c) ∧ (∀ k, k ≠ 9 → k ≠ 17 → k ≠ 18 → k ≠ 10 → yy_cI k c' = yy_cI k c) ∧
  (∀ p, 50 ≤ p → p < 1170 → ¬ (50 + lo ≤ p ∧ p < 210) → yy_pl s' p = yy_pl s p) ∧ (∀ k, k ≠ 1 → mA k s' = mA k s) ∧ (∀ k, k ≠ 2 → mL k s' = mL k s) ∧ (∀ k, k ≠ 3 → mD k s' = mD k s) ∧ (∀ k, k ≠ 4 → k ≠ 5 → mI k s' = mI k s) ∧ mG s' = mG s
theorem yy_fre0 {lo : Nat} {p : Nat × Nat} (h : ¬ yy_fre lo p) : p.1 ≠ 0 := fun e => h (Or.inl e)
theorem yy_fre3 {lo x : Nat} : ¬ yy_fre lo (3, x) := fun e => e.elim (fun z => absurd z (by simp)) (fun z => absurd z.1 (by simp))
theorem yy_fre4 {lo x : Nat} : ¬ yy_fre lo (4, x) := fun e => e.elim (fun z => absurd z (by simp)) (fun z => absurd z.1 (by simp))
theorem yy_fre1 {lo x : Nat} (h : x < lo) : ¬ yy_fre lo (1, x) := fun e => e.elim (fun z => absurd z (by simp)) (fun z => by have := z.2; simp at this; omega)
theorem yy_KQ.of {lo : Nat} {g g' : yy_GT} {c c' : yy_CT} {s s' : MT} (k : yy_KP g c s g' c' s') : yy_KQ lo g c s g' c' s' := by
  obtain ⟨⟨a1, a2, a3, a4, a5⟩, b, kS, kD, kO, kR, kA, kd, kI, kp, kmA, kmL, kmD, kmI, kG⟩ := k
  exact ⟨⟨a1, Nat.le_of_eq a2.symm, a3, a4, fun a ha hf => a5 a ha (yy_fre0 hf)⟩, b, fun a ha hf => kS a ha (yy_fre0 hf), kD, kO, ⟨fun k h _ => kR k h, fun i _ => by rw [kR 270 (by decide)]⟩, kA, kd, fun k h1 h2 h3 _ => kI k h1 h2 h3, fun p h1 h2 _ => kp p h1 h2, kmA, kmL, kmD, fun k h _ => kmI k h, kG⟩
theorem yy_KQ.trans {lo : Nat} {g g1 g2 : yy_GT} {c c1 c2 : yy_CT} {s s1 s2 : MT} (h : yy_KQ lo g c s g1 c1 s1) (k : yy_KQ lo g1 c1 s1 g2 c2 s2) : yy_KQ lo g c s g2 c2 s2 := by
  obtain ⟨⟨a1, a2, a3, a4, a5⟩, ⟨b1, b2, b3, b4⟩, c1, d1, e1, ⟨f1, f2⟩, g1, h1, i1, j1, k1, l1, m1, n1, o1⟩ := h
  obtain ⟨⟨A1, A2, A3, A4, A5⟩, ⟨B1, B2, B3, B4⟩, C1, D1, E1, ⟨F1, F2⟩, G1, H1, I1, J1, K1, L1, M1, N1, O1⟩ := k
  refine ⟨⟨A1.trans a1, by omega, A3.trans a3, A4.trans a4, fun a ha hg => (A5 a (by omega) (by rw [a5 a ha hg]; exact hg)).trans (a5 a ha hg)⟩, ⟨by omega, B2.trans b2, B3.trans b3, B4.trans b4⟩, fun a ha hg => (C1 a (by omega) (by rw [a5 a ha hg]; exact hg)).trans (c1 a ha hg), fun a v ha hv => D1 a v (by omega) (d1 a v ha hv), fun a v ha hv => E1 a v (by omega) (e1 a v ha hv), ⟨fun q h1 h2 => (F1 q h1 h2).trans (f1 q h1 h2), fun i hi => (F2 i (by omega)).trans (f2 i hi)⟩, fun q => (G1 q).trans (g1 q), fun q => (H1 q).trans (h1 q), fun q h1 h2 h3 h4 => (I1 q h1 h2 h3 h4).trans (i1 q h1 h2 h3 h4), fun p h1 h2 h3 => (J1 p h1 h2 h3).trans (j1 p h1 h2 h3), fun q hq => (K1 q hq).trans (k1 q hq), fun q hq => (L1 q hq).trans (l1 q hq), fun q hq => (M1 q hq).trans (m1 q hq), fun q h1 h2 => (N1 q h1 h2).trans (n1 q h1 h2), O1.trans o1⟩
theorem yy_RDs_KQ {lo : Nat} {g g' : yy_GT} {c c' : yy_CT} {s s' : MT} {nd : Nat} (k : yy_KQ lo g c s g' c' s') (h : yy_RDs c s nd) : yy_RDs c' s' nd := by
  obtain ⟨⟨a1, a2, a3, a4, a5⟩, ⟨b1, b2, b3, b4⟩, kS, kD, kO, ⟨kR, kR2⟩, kA, kd, kI, kp, kmA, kmL, kmD, kmI, kG⟩ := k
  obtain ⟨n, h1, h2, h3⟩ := h
  refine ⟨n, h1, by rw [kmI 10 (by decide) (by decide)]; exact h2, fun i hi => ?_⟩
  obtain ⟨d, a, e1, e2, e3, e4⟩ := h3 i hi
  exact ⟨d, a, e1, by rw [kmA 9 (by decide)]; exact e2, by rw [kR 273 (by decide) (by decide)]; exact e3, by rw [kR 274 (by decide) (by decide)]; exact e4⟩
/-- whose a free cell is keeps its kind -/
def yy_KO (lo : Nat) (g g' : yy_GT) (c : yy_CT) : Prop := ∀ a, a < yy_cn c → (yy_gow g a).1 = 1 → (yy_gow g' a).1 = 1
theorem yy_LG_KQ {lo : Nat} {g g' : yy_GT} {c c' : yy_CT} {s s' : MT} (hL : yy_LOW c) (k : yy_KQ lo g c s g' c' s') (ko : yy_KO lo g g' c) : ∀ {L : List yy_LGE} {r m : Option Nat}, yy_LG g c r L m → yy_LG g' c' r L m
  | [], _, _, e => e
  | .inl e :: _, _, _, h => by
    obtain ⟨a, old, x, w, h1, h2, h3, h4, h5, h6, h7, h8, h9, h10⟩ := h
    have ho := hL.s h4
    have n5 : ¬ yy_fre lo (yy_gow g old) := by rw [h5]; exact yy_fre4
    have r := yy_LG_KQ hL k ko h10
    obtain ⟨⟨a1, a2, a3, a4, a5⟩, ⟨b1, b2, b3, b4⟩, kS, kD, kO, _⟩ := k
    refine ⟨a, old, x, w, h1, h2, kO _ _ (hL.o h3) h3, (kS _ ho n5).trans h4, (a5 old ho n5).trans h5, h6, h7, by omega, ?_, r⟩
    rcases h9 with h9 | h9
    · exact Or.inl (ko _ h8 h9)
    · right
      rw [a5 _ h8 (fun z => z.elim (fun y => by rw [y] at h9; cases h9) (fun y => by rw [y.1] at h9; cases h9))]
      exact h9
  | .inr e :: _, _, _, h => by
    obtain ⟨a, x, h1, h2, h3, h4⟩ := h
    have r := yy_LG_KQ hL k ko h4
    obtain ⟨⟨a1, a2, a3, a4, a5⟩, ⟨b1, b2, b3, b4⟩, kS, kD, kO, _⟩ := k
    exact ⟨a, x, h1, h2, kO _ _ (hL.o h3) h3, r⟩
theorem yy_FO_KQ {lo : Nat} {g g' : yy_GT} {c c' : yy_CT} {s s' : MT} (hL : yy_LOW c) (k : yy_KQ lo g c s g' c' s') {a : Nat} : ∀ {L : List yy_LGE} {r : Option Nat}, yy_FO c a r L → yy_FO c' a r L
  | [], _, _ => trivial
  | .inl _ :: L, r, h => yy_FO_KQ (L := L) hL k h
  | .inr e :: L, r, h => by
    unfold yy_FO at h ⊢
    by_cases q : e.1 = a
    · rw [if_pos q] at h ⊢
      obtain ⟨⟨b, x, y, h1, h2⟩, h3⟩ := h
      have r := yy_FO_KQ hL k h3
      obtain ⟨_, _, _, _, kO, _⟩ := k
      exact ⟨⟨b, x, y, h1, kO _ _ (hL.o h2) h2⟩, r⟩
    · rw [if_neg q] at h ⊢
      exact yy_FO_KQ hL k h
theorem yy_RCe_KQ {lo : Nat} {g g' : yy_GT} {c c' : yy_CT} {s s' : MT} {b t nd o : Nat} {S S' : yy_SVF} (k : yy_KQ lo g c s g' c' s') (hS : ∀ a v, a < yy_cn c → ¬ yy_fre lo (yy_gow g a) → S a = some v → S' a = some v) (hb : b ≤ 3) (ht : t ≤ 160) (htl : t ≤ lo) (h : yy_RCe g c s b S t nd o) : yy_RCe g' c' s' b S' t nd o := by
  obtain ⟨⟨a1, a2, a3, a4, a5⟩, ⟨b1, b2, b3, b4⟩, kS, kD, kO, ⟨kR, kR2⟩, kA, kd, kI, kp, kmA, kmL, kmD, kmI, kG⟩ := k
  refine ⟨by have := h.1; omega, fun i hi => ?_⟩
  obtain ⟨a, v, e1, ha, e2, e3, e4, e5⟩ := h.2 i hi
  have n3 : ¬ yy_fre lo (yy_gow g a) := by rw [e3]; exact yy_fre1 (by omega)
  refine ⟨a, v, by rw [kR2 i (by have := h.1; omega)]; exact e1, by omega, hS a v ha n3 e2, (a5 a ha n3).trans e3, ?_, e5⟩
  have r := yy_cpl_range (i := i) hb (by omega)
  rw [kp _ r.1 r.2 (fun z => by unfold yy_cpl at z; split at z <;> omega)]
  exact yy_VR_cong (by rw [a1]; exact fun _ h => h) (fun n _ => by rw [kR 273 (by decide) (by decide)]) (kmA 14 (by decide)) e4
theorem yy_RDi_KQ {lo : Nat} {g g' : yy_GT} {c c' : yy_CT} {s s' : MT} {b t nd o : Nat} {S S' : yy_SVF} {T T' : yy_DVF} (hL : yy_LOW c) (k : yy_KQ lo g c s g' c' s') (hS : ∀ a v, a < yy_cn c → ¬ yy_fre lo (yy_gow g a) → S a = some v → S' a = some v) (hT : ∀ a v, T a = some v → T' a = some v) (hb : b ≤ 3) (h : yy_RDi g c s b S T t nd o) : yy_RDi g' c' s' b S' T' t nd o := by
  obtain ⟨⟨a1, a2, a3, a4, a5⟩, ⟨b1, b2, b3, b4⟩, kS, kD, kO, ⟨kR, kR2⟩, kA, kd, kI, kp, kmA, kmL, kmD, kmI, kG⟩ := k
  have hov : ∀ a v, yy_ov c a = some v → yy_ov c' a = some v := fun a v e => kO a v (hL.o e) e
  refine ⟨h.1, fun d h1 h2 => by rw [kmA 8 (by decide)]; exact h.2.1 d h1 h2, fun d hd => ?_⟩
  obtain ⟨a, r, f, L, e1, e2, e3, e4, e5, e6, e7, e8⟩ := h.2.2 d hd
  refine ⟨a, r, f, L, by rw [kR 273 (by decide) (by decide)]; exact e1, hT a _ e2, e3, by rw [kmA 8 (by decide)]; exact e4, by rw [kmA 7 (by decide)]; exact e5, yy_CH_cong hov e6, by rw [kmL 6 (by decide)]; exact e7, fun i e he => ?_⟩
  obtain ⟨q1, ha, q2, v, q3, q4, q5⟩ := e8 i e he
  have hi : i < L.length := by
    rcases Nat.lt_or_ge i L.length with w | w
    · exact w
    · rw [List.getElem?_eq_none w] at he
      cases he
  have n2 : ¬ yy_fre lo (yy_gow g e.2.2) := by rw [q2]; exact yy_fre3
  refine ⟨by rw [a1, kmL 6 (by decide)]; exact q1, by omega, (a5 _ ha n2).trans q2, v, hS _ v ha n2 q3, ?_, q5⟩
  have hb2 := yy_bs_le hd h.1.2 e3.2.1 e3.2.2
  have rg := yy_cpl_range (i := 200 + yy_bs d + (L.length - 1 - i)) hb (by omega)
  rw [kp _ rg.1 rg.2 (fun z => by unfold yy_cpl at z; split at z <;> omega)]
  exact yy_VR_cong (by rw [a1]; exact fun _ h => h) (fun n _ => by rw [kR 273 (by decide) (by decide)]) (kmA 14 (by decide)) q4
theorem yy_REL_KQ {lo : Nat} {g g' : yy_GT} {c c' : yy_CT} {s s' : MT} {b t nd o x : Nat} {S : yy_SVF} {T : yy_DVF} (hL : yy_LOW c) (k : yy_KQ lo g c s g' c' s') (h : yy_RDi g c s b S T t nd o) (htc : t ≤ yy_ghC g) (hr : yy_REL c' T t nd x) : yy_REL c T t nd x := by
  obtain ⟨_, _, _, _, kO, ⟨kR, kR2⟩, _⟩ := k
  have hov : ∀ a v, yy_ov c a = some v → yy_ov c' a = some v := fun a v e => kO a v (hL.o e) e
  rcases hr with ⟨i, h1, h2⟩ | ⟨d, y, v, L, e, h1, h2, h3, h4, h5, h6⟩
  · exact Or.inl ⟨i, h1, by rw [kR2 i (by omega)] at h2; exact h2⟩
  · rw [kR 273 (by decide) (by decide)] at h2
    obtain ⟨a, r, f, L2, e1, e2, e3, e4, e5, e6, e7, e8⟩ := h.2.2 d h1
    rw [h2] at e1
    cases e1
    rw [h3] at e2
    cases e2
    have := yy_CH_inj h4 (yy_CH_cong hov e6)
    subst this
    exact Or.inr ⟨d, y, _, L, e, h1, h2, h3, e6, h5, h6⟩
theorem yy_RSv_KQ {lo : Nat} {g g' : yy_GT} {c c' : yy_CT} {s s' : MT} (hL : yy_LOW c) (k : yy_KQ lo g c s g' c' s') (ko : yy_KO lo g g' c) : ∀ {E : List (yy_SVF × yy_DVF × List yy_LGE × Nat)} {S S' : yy_SVF} {T T' : yy_DVF} {r : Option Nat} {t nd q : Nat}, E.length ≤ 3 → t ≤ 160 → t ≤ lo →
    (∀ a v, a < yy_cn c → ¬ yy_fre lo (yy_gow g a) → S a = some v → S' a = some v) → (∀ a, a < yy_cn c → ¬ yy_fre lo (yy_gow g a) → S a = none → S' a = none) → (∀ a v, T a = some v → T' a = some v) → yy_RSv g c s S T r t nd q E → yy_RSv g' c' s' S' T' r t nd q E
  | [], _, _, _, _, _, _, _, _, _, _, _, _, _, _, _ => trivial
  | e :: E, S, S', T, T', r, t, nd, q, hE, ht, htl, hS, hS0, hT, h => by
    obtain ⟨a, q1, t1, mk, h1, h2, h3, h4, h5, h6, h7, h8, h9, h10, h11, h12, h13, h14⟩ := h
    have kk := k
    obtain ⟨⟨a1, a2, a3, a4, a5⟩, ⟨b1, b2, b3, b4⟩, kS, kD, kO, ⟨kR, kR2⟩, kA, kd, kI, kp, kmA, kmL, kmD, kmI, kG⟩ := kk
    have hE' : E.length + 1 ≤ 3 := by
      rw [List.length_cons] at hE
      exact hE
    have hrel : ∀ b, yy_REL c' e.2.1 t1 e.2.2.2 b → b < yy_cn c ∧ ¬ yy_fre lo (yy_gow g b) ∧ yy_REL c e.2.1 t1 e.2.2.2 b := fun b hb => by
      have hb' := yy_REL_KQ hL k h13 h12.1 hb
      refine ⟨?_, ?_, hb'⟩
      · rcases hb' with ⟨i, g1, g2⟩ | ⟨d, y, v, L, ee, g1, g2, g3, g4, g5, g6⟩
        · obtain ⟨x, v, p1, p2, p3, p4, p5, p6⟩ := h12.2 i g1
          rw [g2] at p1
          cases p1
          exact p2
        · obtain ⟨x, r, f, L2, p1, p2, p3, p4, p5, p6, p7, p8⟩ := h13.2.2 d g1
          rw [g2] at p1
          cases p1
          rw [g3] at p2
          cases p2
          have := yy_CH_inj g4 p6
          subst this
          obtain ⟨i, hi⟩ := List.getElem?_of_mem g5
          rw [← g6]
          exact (p8 i ee hi).2.1
      · rcases hb' with ⟨i, g1, g2⟩ | ⟨d, y, v, L, ee, g1, g2, g3, g4, g5, g6⟩
        · obtain ⟨x, v, p1, p2, p3, p4, p5, p6⟩ := h12.2 i g1
          rw [g2] at p1
          cases p1
          rw [p4]
          exact yy_fre1 (by omega)
        · obtain ⟨x, r, f, L2, p1, p2, p3, p4, p5, p6, p7, p8⟩ := h13.2.2 d g1
          rw [g2] at p1
          cases p1
          rw [g3] at p2
          cases p2
          have := yy_CH_inj g4 p6
          subst this
          obtain ⟨i, hi⟩ := List.getElem?_of_mem g5
          rw [← g6, (p8 i ee hi).2.2.1]
          exact yy_fre3
    have hSe : ∀ b, yy_REL c' e.2.1 t1 e.2.2.2 b → S' b = S b := fun b hb => by
      obtain ⟨r1, r2, r3⟩ := hrel b hb
      rcases hs : S b with _ | v
      · exact hS0 b r1 r2 hs
      · exact hS b v r1 r2 hs
    refine ⟨a, q1, t1, mk, by rw [kR 277 (by decide) (by decide)]; exact h1, kO _ _ (hL.o h2) h2, by rw [kmA 13 (by decide)]; exact h3, h4, by rw [kmA 14 (by decide)]; exact h5, h6, h7, yy_LG_KQ hL k ko h8, fun b hb => ?_, fun d b hd hb => ?_, fun b v hb hv hq => ?_, yy_RCe_KQ k (fun _ _ _ _ z => z) hE' (by omega) (by omega) h12, yy_RDi_KQ hL k (fun _ _ _ _ z => z) (fun _ _ z => z) hE' h13, yy_RSv_KQ hL k ko (by omega) (by omega) (by omega) (fun _ _ _ _ z => z) (fun _ _ _ z => z) (fun _ _ z => z) h14⟩
    · rw [hSe b hb]
      exact h9 b (hrel b hb).2.2
    · rw [kR 273 (by decide) (by decide)] at hb
      obtain ⟨v, g1, g2, g3⟩ := h10 d b hd hb
      exact ⟨v, hT _ _ g1, yy_FO_KQ hL k g2, g3⟩
    · rw [hSe b hb] at hv
      exact h11 b v (hrel b hb).2.2 hv hq
theorem yy_RPt_KQ {lo : Nat} {g g' : yy_GT} {c c' : yy_CT} {s s' : MT} (k : yy_KQ lo g c s g' c' s') (h : yy_RPt c s) : yy_RPt c' s' := by
  obtain ⟨_, _, kS, kD, kO, ⟨kR, kR2⟩, kA, kd, kI, kp, kmA, kmL, kmD, kmI, kG⟩ := k
  unfold yy_RPt
  rw [kmI 41 (by decide) (by decide), kd 278, kd 279, kA 280, kmD 38 (by decide), kmD 39 (by decide), kmA 40 (by decide)]
  exact h
theorem yy_RPx_KQ {lo : Nat} {g g' : yy_GT} {c c' : yy_CT} {s s' : MT} (k : yy_KQ lo g c s g' c' s') (h : yy_RPx c s) : yy_RPx c' s' := by
  obtain ⟨_, _, kS, kD, kO, ⟨kR, kR2⟩, kA, kd, kI, kp, kmA, kmL, kmD, kmI, kG⟩ := k
  unfold yy_RPx
  rw [kmI 34 (by decide) (by decide), kmI 35 (by decide) (by decide), kG, kmA 36 (by decide)]
  simp only [kA]
  exact h
theorem yy_RTx_KQ {lo : Nat} {g g' : yy_GT} {c c' : yy_CT} {s s' : MT} (k : yy_KQ lo g c s g' c' s') (h : yy_RTx c s) : yy_RTx c' s' := by
  obtain ⟨_, ⟨b1, b2, b3, b4⟩, kS, kD, kO, ⟨kR, kR2⟩, kA, kd, kI, kp, kmA, kmL, kmD, kmI, kG⟩ := k
  unfold yy_RTx
  rw [kmI 24 (by decide) (by decide), b2, kA 266, kmA 23 (by decide)]
  exact h
theorem yy_RNm_KQ {lo : Nat} {g g' : yy_GT} {c c' : yy_CT} {s s' : MT} (hL : yy_LOW c) (k : yy_KQ lo g c s g' c' s') (h : yy_RNm g c s) : yy_RNm g' c' s' := by
  obtain ⟨⟨a1, a2, a3, a4, a5⟩, ⟨b1, b2, b3, b4⟩, kS, kD, kO, ⟨kR, kR2⟩, kA, kd, kI, kp, kmA, kmL, kmD, kmI, kG⟩ := k
  have hov : ∀ a v, yy_ov c a = some v → yy_ov c' a = some v := fun a v e => kO a v (hL.o e) e
  obtain ⟨h1, h2, h3, h4⟩ := h
  unfold yy_RNm
  rw [a1, kmI 30 (by decide) (by decide), kmL 29 (by decide), kR 264 (by decide) (by decide)]
  refine ⟨fun p hp => ?_, h2, fun b hb => ?_, h4⟩
  · obtain ⟨tx, o, x, w, e1, e2, e3, e4, e5, L, e6, e7⟩ := h1 p hp
    obtain ⟨b, f, f1, f2, f3⟩ := e2
    exact ⟨tx, o, x, w, hov _ _ e1, ⟨b, f, yy_oa_cong hov f1, yy_oa_cong hov f2, f3⟩, e3, e4, e5, L, yy_NC_cong hov e6, e7⟩
  · obtain ⟨L, e1, e2⟩ := h3 b hb
    exact ⟨L, yy_NC_cong hov e1, e2⟩
