/-! more cells -/
theorem yy_VA_mono {s : MT} {t t' o n z : Nat} (h : t ≤ t') (hv : yy_VA s t o n z) : yy_VA s t' o n z := hv.imp id fun e => ⟨by omega, e.2⟩
theorem yy_VP_mono {g : yy_GT} {c : yy_CT} {s : MT} {t t' nd o k : Nat} {v : yy_SV} {q : Int32 × Int64 × UInt64} (h : t ≤ t') (hk : k < 8) (hv : yy_VP g c s t nd o k v q) : yy_VP g c s t' nd o k v q := by
  rcases (by omega : k = 0 ∨ k = 1 ∨ k = 2 ∨ k = 3 ∨ k = 4 ∨ k = 5 ∨ k = 6 ∨ k = 7) with e | e | e | e | e | e | e | e
  · rw [e, yy_VP_0] at hv ⊢
    exact hv
  · rw [e, yy_VP_1] at hv ⊢
    exact hv
  · rw [e, yy_VP_2] at hv ⊢
    exact hv
  · rw [e, yy_VP_3] at hv ⊢
    exact hv
  · rw [e, yy_VP_4] at hv ⊢
    exact hv
  · rw [e, yy_VP_5] at hv ⊢
    obtain ⟨n, z, e1, e2, e3, e4, e5, e6⟩ := hv
    exact ⟨n, z, e1, e2, e3, e4, e5, yy_VA_mono h e6⟩
  · rw [e, yy_VP_6] at hv ⊢
    exact hv
  · rw [e, yy_VP_7] at hv ⊢
    exact hv
theorem yy_VR_mono {g : yy_GT} {c : yy_CT} {s : MT} {t t' nd o : Nat} {v : yy_SV} {q : Int32 × Int64 × UInt64} (h : t ≤ t') (hv : yy_VR g c s t nd o v q) : yy_VR g c s t' nd o v q := by
  obtain ⟨k, l, h1, h2, h3, h4, h5, h6⟩ := hv
  exact ⟨k, l, h1, h2, h3, h4, h5, yy_VP_mono h h1 h6⟩
theorem yy_RDi_mono {g : yy_GT} {c : yy_CT} {s : MT} {b t t' nd o : Nat} {S : yy_SVF} {T : yy_DVF} (ht : t ≤ t') (h : yy_RDi g c s b S T t nd o) : yy_RDi g c s b S T t' nd o := by
  refine ⟨h.1, h.2.1, fun d hd => ?_⟩
  obtain ⟨a, r, f, L, e1, e2, e3, e4, e5, e6, e7, e8⟩ := h.2.2 d hd
  refine ⟨a, r, f, L, e1, e2, e3, e4, e5, e6, e7, fun i e he => ?_⟩
  obtain ⟨q1, ha, q2, v, q3, q4, q5⟩ := e8 i e he
  exact ⟨q1, ha, q2, v, q3, yy_VR_mono ht q4, q5⟩
theorem yy_RSv_t {g : yy_GT} {c : yy_CT} {s : MT} {S : yy_SVF} {T : yy_DVF} {r : Option Nat} {t t' nd q : Nat} (ht : t ≤ t') : ∀ {E : List (yy_SVF × yy_DVF × List yy_LGE × Nat)}, yy_RSv g c s S T r t nd q E → yy_RSv g c s S T r t' nd q E
  | [], _ => trivial
  | _ :: _, h => by
    obtain ⟨a, q1, t1, mk, h1, h2, h3, h4, h5, h6, h7⟩ := h
    exact ⟨a, q1, t1, mk, h1, h2, h3, h4, h5, by omega, h7⟩
theorem yy_RSv_cel {g : yy_GT} {c : yy_CT} {s : MT} : ∀ {E : List (yy_SVF × yy_DVF × List yy_LGE × Nat)} {S : yy_SVF} {T : yy_DVF} {r : Option Nat} {t nd q : Nat}, t ≤ 160 → yy_RSv g c s S T r t nd q E → ∀ k, k < E.length → yy_cel s k ≤ t
  | [], _, _, _, _, _, _, _, _, k, hk => absurd hk (Nat.not_lt_zero k)
  | e :: E, _, _, _, t, _, _, ht, h, k, hk => by
    obtain ⟨a, q1, t1, mk, h1, h2, h3, h4, h5, h6, h7, h8, h9, h10, h11, h12, h13, h14⟩ := h
    rw [List.length_cons] at hk
    by_cases e1 : k = E.length
    · unfold yy_cel
      rw [e1, h5, yy_nI_c (by omega)]
      exact h6
    · have := yy_RSv_cel (by omega) h14 k (by omega)
      omega
theorem yy_RR.cel {g : yy_GT} {m : Nat} {c : yy_CT} {s : MT} {t nd o n : Nat} (h : yy_RR g m c s t nd o n) : ∀ k, k < o → yy_cel s k ≤ t := by
  obtain ⟨h1, h2, h3, h4, h5, h6, h7, h8, ⟨sn, h9, h10, h11⟩, _⟩ := h.2.2.2
  intro k hk
  exact yy_RSv_cel h1.1.1 h11 k (by rw [h3.1.2]; exact hk)
/-- nothing but cells from lo on changes -/
def yy_KC (lo : Nat) (g : yy_GT) (c : yy_CT) (s : MT) (g' : yy_GT) (c' : yy_CT) (s' : MT) : Prop :=
  yy_KQ lo g c s g' c' s' ∧ yy_KO lo g g' c ∧ (∀ a, a < yy_cn c → (yy_gow g a).1 = 0 → yy_slv c' a = yy_slv c a ∧ yy_gow g' a = yy_gow g a) ∧ yy_cR 269 c' = yy_cR 269 c ∧ yy_ghS g' = yy_ghS g ∧ yy_cI 9 c' = yy_cI 9 c ∧ yy_cI 18 c' = yy_cI 18 c ∧ (∀ p, p < 50 → yy_pl s' p = yy_pl s p) ∧ mI 4 s' = mI 4 s
theorem yy_KC.refl (lo : Nat) (g : yy_GT) (c : yy_CT) (s : MT) : yy_KC lo g c s g c s := ⟨yy_KQ.of (yy_KP.refl g c s), fun _ _ h => h, fun _ _ _ => ⟨rfl, rfl⟩, rfl, rfl, rfl, rfl, fun _ _ => rfl, rfl⟩
theorem yy_KC.trans {lo : Nat} {g g1 g2 : yy_GT} {c c1 c2 : yy_CT} {s s1 s2 : MT} (h : yy_KC lo g c s g1 c1 s1) (k : yy_KC lo g1 c1 s1 g2 c2 s2) : yy_KC lo g c s g2 c2 s2 := by
  have hn : yy_cn c ≤ yy_cn c1 := h.1.2.1.1
  refine ⟨h.1.trans k.1, fun a ha e => k.2.1 a (by omega) (h.2.1 a ha e), fun a ha e => ?_, k.2.2.2.1.trans h.2.2.2.1, k.2.2.2.2.1.trans h.2.2.2.2.1, k.2.2.2.2.2.1.trans h.2.2.2.2.2.1, k.2.2.2.2.2.2.1.trans h.2.2.2.2.2.2.1, fun p hp => (k.2.2.2.2.2.2.2.1 p hp).trans (h.2.2.2.2.2.2.2.1 p hp), k.2.2.2.2.2.2.2.2.trans h.2.2.2.2.2.2.2.2⟩
  obtain ⟨q1, q2⟩ := h.2.2.1 a ha e
  obtain ⟨r1, r2⟩ := k.2.2.1 a (by omega) (by rw [q2]; exact e)
  exact ⟨r1.trans q1, r2.trans q2⟩
theorem yy_RSt_KC {lo : Nat} {g g' : yy_GT} {c c' : yy_CT} {s s' : MT} {t t' nd o n : Nat} (hL : yy_LOW c) (k : yy_KC lo g c s g' c' s') (ht : t ≤ t') (h : yy_RSt g c s t nd o n) : yy_RSt g' c' s' t' nd o n := by
  obtain ⟨⟨h1, h2, h3⟩, h4, h5, h6⟩ := h
  obtain ⟨kq, ko, k0, k269, kh, k9, k18, kpl, k4⟩ := k
  obtain ⟨⟨a1, a2, a3, a4, a5⟩, ⟨b1, b2, b3, b4⟩, kS, kD, kO, ⟨kR, kR2⟩, kA, kd, kI, kp, kmA, kmL, kmD, kmI, kG⟩ := kq
  refine ⟨⟨by rw [kh]; exact h1, h2, by rw [kh]; exact h3⟩, fun i hi => ?_, fun i hi hi2 => ?_, fun i hi => ?_⟩
  · rw [kh] at hi
    obtain ⟨a, v, e1, e2, e3, e4⟩ := h4 i hi
    have q := k0 a e4 (by rw [e3])
    exact ⟨a, v, by rw [k269]; exact e1, q.1.trans e2, q.2.trans e3, by omega⟩
  · rw [kh] at hi
    rw [k269]
    exact h5 i hi hi2
  · obtain ⟨a, v, e1, e2, e3⟩ := h6 i hi
    obtain ⟨b, w, f1, f2, f3, f4⟩ := h4 i (by omega)
    rw [e1] at f1
    cases f1
    have q := k0 a f4 (by rw [f3])
    refine ⟨a, v, by rw [k269]; exact e1, q.1.trans e2, ?_⟩
    rw [kpl i (by omega)]
    exact yy_VR_mono ht (yy_VR_cong (by rw [a1]; exact fun _ h => h) (fun n _ => by rw [kR 273 (by decide) (by decide)]) (kmA 14 (by decide)) e3)
/-- the relation with more cells -/
theorem yy_RR_KC {g g' : yy_GT} {m m' : Nat} {c c' : yy_CT} {s s' : MT} {t t' nd o n : Nat} (h : yy_RR g m c s t nd o n) (k : yy_KC t g c s g' c' s') (hF : yy_FRc c') (hL : yy_LOW c') (hM : yy_RMc c' (m' + (41 - yy_ghS g') + (160 - yy_ghC g') + (120 - yy_ghD g'))) (ht : t ≤ t') (h5 : mI 5 s' = nI t') (h10 : yy_cI 10 c' = nI t') (hC : t' ≤ 160 ∧ yy_ghC g' ≤ 160) (hRC : yy_RCe g' c' s' 0 (yy_slv c') t' nd o)
    (hA : (∀ i, i < yy_ghC g' → ∃ a v, yy_cR 270 c' i = some a ∧ yy_slv c' a = some v ∧ yy_gow g' a = (1, i)) ∧ ∀ i, yy_ghC g' ≤ i → i < 160 → yy_cR 270 c' i = none) : yy_RR g' m' c' s' t' nd o n := by
  have hst := yy_RSt_KC h.1.2.1 k ht h.2.2.1
  obtain ⟨h1, h2, h3, h4, h5', h6, h7, h8, ⟨sn, h9, h10', h11⟩, h12, h13, h14, h15⟩ := h.2.2.2
  have hL0 := h.1.2.1
  have k' := k
  obtain ⟨kq, ko, k0, k269, kh, k9, k18, kpl, k4⟩ := k'
  have kq' := kq
  obtain ⟨⟨a1, a2, a3, a4, a5⟩, ⟨b1, b2, b3, b4⟩, kS, kD, kO, ⟨kR, kR2⟩, kA, kd, kI, kp, kmA, kmL, kmD, kmI, kG⟩ := kq'
  refine ⟨⟨hF, hL, hM⟩, ⟨k4.trans h.2.1.1, ?_⟩, hst, ⟨hC, h5⟩, by rw [kI 104 (by decide) (by decide) (by decide) (by decide)]; exact h2, ⟨by rw [a4]; exact h3.1, by rw [kmI 12 (by decide) (by decide)]; exact h3.2⟩, hRC, yy_RDi_mono ht (yy_RDi_KQ hL0 kq (fun a v ha hg e => (kS a ha hg).trans e) (fun a v e => kD a v (hL0.d e) e) (by decide) h5'), yy_RDs_KQ kq h6, by unfold yy_RTb at *; rw [kmA 42 (by decide), kmL 43 (by decide), kmL 44 (by decide)]; exact h7, hA, ⟨sn, by rw [kmI 11 (by decide) (by decide)]; exact h9, by omega, ?_⟩, yy_RPt_KQ kq h12, yy_RPx_KQ kq h13, yy_RTx_KQ kq h14, yy_RNm_KQ hL0 kq h15⟩
  · obtain ⟨e1, e2, e3, e4, e5, e6, e7, e8, e10, e11, e12, e13, e14⟩ := h.2.1.2
    refine ⟨k9.trans (e1.trans k4.symm), h10.trans h5.symm, ?_, ?_, ?_, ?_, ?_, ?_, ?_, ?_, ?_, ?_, by rw [b4, kG]; exact e14⟩
    all_goals rw [kI _ (by decide) (by decide) (by decide) (by decide), kmI _ (by decide) (by decide)]
    all_goals assumption
  · rw [a4, b3]
    exact yy_RSv_t ht (yy_RSv_KQ hL0 kq ko (by rw [h3.1.2]; exact h3.1.1) h1.1.1 (Nat.le_refl t) (fun a v ha hg e => (kS a ha hg).trans e) (fun a ha hg e => (kS a ha hg).trans e) (fun a v e => kD a v (hL0.d e) e) h11)
