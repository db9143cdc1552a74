/-! more cells -/
theorem y_VA_mono {s : MT} {t t' o n z : Nat} (h : t ≤ t') (hv : y_VA s t o n z) : y_VA s t' o n z := hv.imp id fun e => ⟨by omega, e.2⟩
theorem y_VP_mono {g : y_GT} {c : y_CT} {s : MT} {t t' nd o k : Nat} {v : y_SV} {q : Int32 × Int64 × UInt64} (h : t ≤ t') (hk : k < 8) (hv : y_VP g c s t nd o k v q) : y_VP g c s t' nd o k v q := by
  rcases (by omega : k = 0 ∨ k = 1 ∨ k = 2 ∨ k = 3 ∨ k = 4 ∨ k = 5 ∨ k = 6 ∨ k = 7) with e | e | e | e | e | e | e | e
  · rw [e, y_VP_0] at hv ⊢
    exact hv
  · rw [e, y_VP_1] at hv ⊢
    exact hv
  · rw [e, y_VP_2] at hv ⊢
    exact hv
  · rw [e, y_VP_3] at hv ⊢
    exact hv
  · rw [e, y_VP_4] at hv ⊢
    exact hv
  · rw [e, y_VP_5] at hv ⊢
    obtain ⟨n, z, e1, e2, e3, e4, e5, e6⟩ := hv
    exact ⟨n, z, e1, e2, e3, e4, e5, y_VA_mono h e6⟩
  · rw [e, y_VP_6] at hv ⊢
    exact hv
  · rw [e, y_VP_7] at hv ⊢
    exact hv
theorem y_VR_mono {g : y_GT} {c : y_CT} {s : MT} {t t' nd o : Nat} {v : y_SV} {q : Int32 × Int64 × UInt64} (h : t ≤ t') (hv : y_VR g c s t nd o v q) : y_VR g c s t' nd o v q := by
  obtain ⟨k, l, h1, h2, h3, h4, h5, h6⟩ := hv
  exact ⟨k, l, h1, h2, h3, h4, h5, y_VP_mono h h1 h6⟩
theorem y_RDi_mono {g : y_GT} {c : y_CT} {s : MT} {b t t' nd o : Nat} {S : y_SVF} {T : y_DVF} (ht : t ≤ t') (h : y_RDi g c s b S T t nd o) : y_RDi g c s b S T t' nd o := by
  refine ⟨h.1, h.2.1, fun d hd => ?_⟩
  obtain ⟨a, r, f, L, e1, e2, e3, e4, e5, e6, e7, e8⟩ := h.2.2 d hd
  refine ⟨a, r, f, L, e1, e2, e3, e4, e5, e6, e7, fun i e he => ?_⟩
  obtain ⟨q1, ha, q2, v, q3, q4, q5⟩ := e8 i e he
  exact ⟨q1, ha, q2, v, q3, y_VR_mono ht q4, q5⟩
theorem y_RSv_t {g : y_GT} {c : y_CT} {s : MT} {S : y_SVF} {T : y_DVF} {r : Option Nat} {t t' nd q : Nat} (ht : t ≤ t') : ∀ {E : List (y_SVF × y_DVF × List y_LGE × Nat)}, y_RSv g c s S T r t nd q E → y_RSv g c s S T r t' nd q E
  | [], _ => trivial
  | _ :: _, h => by
    obtain ⟨a, q1, t1, mk, h1, h2, h3, h4, h5, h6, h7⟩ := h
    exact ⟨a, q1, t1, mk, h1, h2, h3, h4, h5, by omega, h7⟩
theorem y_RSv_cel {g : y_GT} {c : y_CT} {s : MT} : ∀ {E : List (y_SVF × y_DVF × List y_LGE × Nat)} {S : y_SVF} {T : y_DVF} {r : Option Nat} {t nd q : Nat}, t ≤ 160 → y_RSv g c s S T r t nd q E → ∀ k, k < E.length → y_cel s k ≤ t
  | [], _, _, _, _, _, _, _, _, k, hk => absurd hk (Nat.not_lt_zero k)
  | e :: E, _, _, _, t, _, _, ht, h, k, hk => by
    obtain ⟨a, q1, t1, mk, h1, h2, h3, h4, h5, h6, h7, h8, h9, h10, h11, h12, h13, h14⟩ := h
    rw [List.length_cons] at hk
    by_cases e1 : k = E.length
    · unfold y_cel
      rw [e1, h5, y_nI_c (by omega)]
      exact h6
    · have := y_RSv_cel (by omega) h14 k (by omega)
      omega
theorem y_RR.cel {g : y_GT} {m : Nat} {c : y_CT} {s : MT} {t nd o n : Nat} (h : y_RR g m c s t nd o n) : ∀ k, k < o → y_cel s k ≤ t := by
  obtain ⟨h1, h2, h3, h4, h5, h6, h7, h8, ⟨sn, h9, h10, h11⟩, _⟩ := h.2.2.2
  intro k hk
  exact y_RSv_cel h1.1.1 h11 k (by rw [h3.1.2]; exact hk)
/-- nothing but cells from lo on changes -/
def y_KC (lo : Nat) (g : y_GT) (c : y_CT) (s : MT) (g' : y_GT) (c' : y_CT) (s' : MT) : Prop :=
  y_KQ lo g c s g' c' s' ∧ y_KO lo g g' c ∧ (∀ a, a < y_cn c → (y_gow g a).1 = 0 → y_slv c' a = y_slv c a ∧ y_gow g' a = y_gow g a) ∧ y_cR 269 c' = y_cR 269 c ∧ y_ghS g' = y_ghS g ∧ y_cI 9 c' = y_cI 9 c ∧ y_cI 18 c' = y_cI 18 c ∧ (∀ p, p < 50 → y_pl s' p = y_pl s p) ∧ mI 4 s' = mI 4 s
theorem y_KC.refl (lo : Nat) (g : y_GT) (c : y_CT) (s : MT) : y_KC lo g c s g c s := ⟨y_KQ.of (y_KP.refl g c s), fun _ _ h => h, fun _ _ _ => ⟨rfl, rfl⟩, rfl, rfl, rfl, rfl, fun _ _ => rfl, rfl⟩
theorem y_KC.trans {lo : Nat} {g g1 g2 : y_GT} {c c1 c2 : y_CT} {s s1 s2 : MT} (h : y_KC lo g c s g1 c1 s1) (k : y_KC lo g1 c1 s1 g2 c2 s2) : y_KC lo g c s g2 c2 s2 := by
  have hn : y_cn c ≤ y_cn c1 := h.1.2.1.1
  refine ⟨h.1.trans k.1, fun a ha e => k.2.1 a (by omega) (h.2.1 a ha e), fun a ha e => ?_, k.2.2.2.1.trans h.2.2.2.1, k.2.2.2.2.1.trans h.2.2.2.2.1, k.2.2.2.2.2.1.trans h.2.2.2.2.2.1, k.2.2.2.2.2.2.1.trans h.2.2.2.2.2.2.1, fun p hp => (k.2.2.2.2.2.2.2.1 p hp).trans (h.2.2.2.2.2.2.2.1 p hp), k.2.2.2.2.2.2.2.2.trans h.2.2.2.2.2.2.2.2⟩
  obtain ⟨q1, q2⟩ := h.2.2.1 a ha e
  obtain ⟨r1, r2⟩ := k.2.2.1 a (by omega) (by rw [q2]; exact e)
  exact ⟨r1.trans q1, r2.trans q2⟩
theorem y_RSt_KC {lo : Nat} {g g' : y_GT} {c c' : y_CT} {s s' : MT} {t t' nd o n : Nat} (hL : y_LOW c) (k : y_KC lo g c s g' c' s') (ht : t ≤ t') (h : y_RSt g c s t nd o n) : y_RSt g' c' s' t' nd o n := by
  obtain ⟨⟨h1, h2, h3⟩, h4, h5, h6⟩ := h
  obtain ⟨kq, ko, k0, k269, kh, k9, k18, kpl, k4⟩ := k
  obtain ⟨⟨a1, a2, a3, a4, a5⟩, ⟨b1, b2, b3, b4⟩, kS, kD, kO, ⟨kR, kR2⟩, kA, kd, kI, kp, kmA, kmL, kmD, kmI, kG⟩ := kq
  refine ⟨⟨by rw [kh]; exact h1, h2, by rw [kh]; exact h3⟩, fun i hi => ?_, fun i hi hi2 => ?_, fun i hi => ?_⟩
  · rw [kh] at hi
    obtain ⟨a, v, e1, e2, e3, e4⟩ := h4 i hi
    have q := k0 a e4 (by rw [e3])
    exact ⟨a, v, by rw [k269]; exact e1, q.1.trans e2, q.2.trans e3, by omega⟩
  · rw [kh] at hi
    rw [k269]
    exact h5 i hi hi2
  · obtain ⟨a, v, e1, e2, e3⟩ := h6 i hi
    obtain ⟨b, w, f1, f2, f3, f4⟩ := h4 i (by omega)
    rw [e1] at f1
    cases f1
    have q := k0 a f4 (by rw [f3])
    refine ⟨a, v, by rw [k269]; exact e1, q.1.trans e2, ?_⟩
    rw [kpl i (by omega)]
    exact y_VR_mono ht (y_VR_cong (by rw [a1]; exact fun _ h => h) (fun n _ => by rw [kR 273 (by decide) (by decide)]) (kmA 14 (by decide)) e3)
/-- the relation with more cells -/
theorem y_RR_KC {g g' : y_GT} {m m' : Nat} {c c' : y_CT} {s s' : MT} {t t' nd o n : Nat} (h : y_RR g m c s t nd o n) (k : y_KC t g c s g' c' s') (hF : y_FRc c') (hL : y_LOW c') (hM : y_RMc c' (m' + (41 - y_ghS g') + (160 - y_ghC g') + (120 - y_ghD g'))) (ht : t ≤ t') (h5 : mI 5 s' = nI t') (h10 : y_cI 10 c' = nI t') (hC : t' ≤ 160 ∧ y_ghC g' ≤ 160) (hRC : y_RCe g' c' s' 0 (y_slv c') t' nd o)
    (hA : (∀ i, i < y_ghC g' → ∃ a v, y_cR 270 c' i = some a ∧ y_slv c' a = some v ∧ y_gow g' a = (1, i)) ∧ ∀ i, y_ghC g' ≤ i → i < 160 → y_cR 270 c' i = none) : y_RR g' m' c' s' t' nd o n := by
  have hst := y_RSt_KC h.1.2.1 k ht h.2.2.1
  obtain ⟨h1, h2, h3, h4, h5', h6, h7, h8, ⟨sn, h9, h10', h11⟩, h12, h13, h14, h15⟩ := h.2.2.2
  have hL0 := h.1.2.1
  have k' := k
  obtain ⟨kq, ko, k0, k269, kh, k9, k18, kpl, k4⟩ := k'
  have kq' := kq
  obtain ⟨⟨a1, a2, a3, a4, a5⟩, ⟨b1, b2, b3, b4⟩, kS, kD, kO, ⟨kR, kR2⟩, kA, kd, kI, kp, kmA, kmL, kmD, kmI, kG⟩ := kq'
  refine ⟨⟨hF, hL, hM⟩, ⟨k4.trans h.2.1.1, ?_⟩, hst, ⟨hC, h5⟩, by rw [kI 104 (by decide) (by decide) (by decide) (by decide)]; exact h2, ⟨by rw [a4]; exact h3.1, by rw [kmI 12 (by decide) (by decide)]; exact h3.2⟩, hRC, y_RDi_mono ht (y_RDi_KQ hL0 kq (fun a v ha hg e => (kS a ha hg).trans e) (fun a v e => kD a v (hL0.d e) e) (by decide) h5'), y_RDs_KQ kq h6, by unfold y_RTb at *; rw [kmA 42 (by decide), kmL 43 (by decide), kmL 44 (by decide)]; exact h7, hA, ⟨sn, by rw [kmI 11 (by decide) (by decide)]; exact h9, by omega, ?_⟩, y_RPt_KQ kq h12, y_RPx_KQ kq h13, y_RTx_KQ kq h14, y_RNm_KQ hL0 kq h15⟩
  · obtain ⟨e1, e2, e3, e4, e5, e6, e7, e8, e10, e11, e12, e13, e14⟩ := h.2.1.2
    refine ⟨k9.trans (e1.trans k4.symm), h10.trans h5.symm, ?_, ?_, ?_, ?_, ?_, ?_, ?_, ?_, ?_, ?_, by rw [b4, kG]; exact e14⟩
    all_goals rw [kI _ (by decide) (by decide) (by decide) (by decide), kmI _ (by decide) (by decide)]
    all_goals assumption
  · rw [a4, b3]
    exact y_RSv_t ht (y_RSv_KQ hL0 kq ko (by rw [h3.1.2]; exact h3.1.1) h1.1.1 (Nat.le_refl t) (fun a v ha hg e => (kS a ha hg).trans e) (fun a ha hg e => (kS a ha hg).trans e) (fun a v e => kD a v (hL0.d e) e) h11)
