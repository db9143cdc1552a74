theorem yy_RSv_lo {g : yy_GT} {c : yy_CT} {s : MT} {S : yy_SVF} {T : yy_DVF} {r : Option Nat} {t lo nd q : Nat} : ∀ {E : List (yy_SVF × yy_DVF × List yy_LGE × Nat)}, (∀ k, k < E.length → yy_cel s k ≤ lo) → t ≤ 160 → yy_RSv g c s S T r t nd q E → yy_RSv g c s S T r lo nd q E
  | [], _, _, _ => trivial
  | _ :: E, hl, ht, h => by
    obtain ⟨a, q1, t1, mk, h1, h2, h3, h4, h5, h6, h7⟩ := h
    refine ⟨a, q1, t1, mk, h1, h2, h3, h4, h5, ?_, h7⟩
    have := hl E.length (by rw [List.length_cons]; omega)
    unfold yy_cel at this
    rw [h5, yy_nI_c (by omega)] at this
    exact this
/-- the relation with other cells, from lo on -/
theorem yy_RR_KL {g g' : yy_GT} {m m' : Nat} {c c' : yy_CT} {s s' : MT} {lo t t' nd o n : Nat} (h : yy_RR g m c s t nd o n) (hlo : ∀ k, k < o → yy_cel s k ≤ lo) (hl : lo ≤ t) (k : yy_KC lo g c s g' c' s') (hF : yy_FRc c') (hL : yy_LOW c') (hM : yy_RMc c' (m' + (41 - yy_ghS g') + (160 - yy_ghC g') + (120 - yy_ghD g'))) (ht : t ≤ t') (h5 : mI 5 s' = nI t') (h10 : yy_cI 10 c' = nI t') (hC : t' ≤ 160 ∧ yy_ghC g' ≤ 160) (hRC : yy_RCe g' c' s' 0 (yy_slv c') t' nd o)
    (hA : (∀ i, i < yy_ghC g' → ∃ a v, yy_cR 270 c' i = some a ∧ yy_slv c' a = some v ∧ yy_gow g' a = (1, i)) ∧ ∀ i, yy_ghC g' ≤ i → i < 160 → yy_cR 270 c' i = none) : yy_RR g' m' c' s' t' nd o n := by
  have hst := yy_RSt_KC h.1.2.1 k ht h.2.2.1
  obtain ⟨h1, h2, h3, h4, h5', h6, h7, h8, ⟨sn, h9, h10', h11⟩, h12, h13, h14, h15⟩ := h.2.2.2
  have hL0 := h.1.2.1
  have k' := k
  obtain ⟨kq, ko, k0, k269, kh, k9, k18, kpl, k4⟩ := k'
  have kq' := kq
  obtain ⟨⟨a1, a2, a3, a4, a5⟩, ⟨b1, b2, b3, b4⟩, kS, kD, kO, ⟨kR, kR2⟩, kA, kd, kI, kp, kmA, kmL, kmD, kmI, kG⟩ := kq'
  refine ⟨⟨hF, hL, hM⟩, ⟨k4.trans h.2.1.1, ?_⟩, hst, ⟨hC, h5⟩, by rw [kI 104 (by decide) (by decide) (by decide) (by decide)]; exact h2, ⟨by rw [a4]; exact h3.1, by rw [kmI 12 (by decide) (by decide)]; exact h3.2⟩, hRC, yy_RDi_mono ht (yy_RDi_KQ hL0 kq (fun a v ha hg e => (kS a ha hg).trans e) (fun a v e => kD a v (hL0.d e) e) (by decide) h5'), yy_RDs_KQ kq h6, by unfold yy_RTb at *; rw [kmA 42 (by decide), kmL 43 (by decide), kmL 44 (by decide)]; exact h7, hA, ⟨sn, by rw [kmI 11 (by decide) (by decide)]; exact h9, by omega, ?_⟩, yy_RPt_KQ kq h12, yy_RPx_KQ kq h13, yy_RTx_KQ kq h14, yy_RNm_KQ hL0 kq h15⟩
  · obtain ⟨e1, e2, e3, e4, e5, e6, e7, e8, e10, e11, e12, e13, e14⟩ := h.2.1.2
    refine ⟨k9.trans (e1.trans k4.symm), h10.trans h5.symm, ?_, ?_, ?_, ?_, ?_, ?_, ?_, ?_, ?_, ?_, by rw [b4, kG]; exact e14⟩
    all_goals rw [kI _ (by decide) (by decide) (by decide) (by decide), kmI _ (by decide) (by decide)]
    all_goals assumption
  · rw [a4, b3]
    exact yy_RSv_t (show lo ≤ t' by omega) (yy_RSv_KQ hL0 kq ko (by rw [h3.1.2]; exact h3.1.1) (by have := h1.1.1; omega) (Nat.le_refl lo) (fun a v ha hg e => (kS a ha hg).trans e) (fun a ha hg e => (kS a ha hg).trans e) (fun a v e => kD a v (hL0.d e) e) (yy_RSv_lo (fun k hk => hlo k (by rw [← h3.1.2]; exact hk)) (by have := h1.1.1; omega) h11))

/-- a cell that is newer than the saves is written -/
theorem yy_R_setC {g : yy_GT} {m : Nat} {c : yy_CT} {s : MT} {lo t nd o n i a x : Nat} {v w : yy_SV} {q : Int32 × Int64 × UInt64} (h : yy_RR g m c s t nd o n) (hlo : ∀ k, k < o → yy_cel s k ≤ lo) (hi : lo ≤ i) (hi2 : i < t) (ha : yy_cR 270 c i = some a) (hv : yy_slv c a = some v) (ho : yy_gow g a = (1, i)) (hw : yy_VR g c s t nd o w q) (hx : x ≤ o) (hs : w.2.2.2.2.1 = nI x) : yy_RR g m (yy_tS a (some w) c) (yy_sP (50 + i) q s) t nd o n ∧ yy_KC lo g c s g (yy_tS a (some w) c) (yy_sP (50 + i) q s) := by
  obtain ⟨t1, t2, t3⟩ := h.tk
  have kc : yy_KC lo g c s g (yy_tS a (some w) c) (yy_sP (50 + i) q s) := (yy_KC_tS hv ho hi w).trans (yy_KC_sP g _ s q (by omega) (by omega))
  have ce := h.ce
  have ha' := h.ha
  refine ⟨yy_RR_KL h hlo (by omega) kc h.1.1 (h.1.2.1.tS hv w) h.1.2.2 (Nat.le_refl t) t2 t3 ⟨t1, h.2.2.2.1.1.2⟩ ⟨ce.1, fun j hj => ?_⟩ ⟨fun j hj => ?_, ha'.2⟩, kc⟩
  · obtain ⟨b, u, p1, p2, p3, p4, p5, p6⟩ := ce.2 j hj
    by_cases e : j = i
    · subst e
      rw [ha] at p1
      cases p1
      refine ⟨a, w, ha, p2, yy_slv_tS hv, ho, ?_, x, hx, hs⟩
      rw [show yy_cpl 0 j = 50 + j from if_pos rfl, yy_pl_sP, if_pos rfl]
      exact yy_VR_cong (fun _ h => h) (fun _ _ => rfl) (kc.1.2.2.2.2.2.2.2.2.2.2.1 14 (by decide)) hw
    · have e2 : b ≠ a := fun z => by
        rw [z, ho] at p4
        cases p4
        exact e rfl
      refine ⟨b, u, p1, p2, by rw [yy_slv_tS_ne e2]; exact p3, p4, ?_, p6⟩
      rw [show yy_cpl 0 j = 50 + j from if_pos rfl, yy_pl_sP, if_neg (by omega)]
      rw [show yy_cpl 0 j = 50 + j from if_pos rfl] at p5
      exact yy_VR_cong (fun _ h => h) (fun _ _ => rfl) (kc.1.2.2.2.2.2.2.2.2.2.2.1 14 (by decide)) p5
  · obtain ⟨b, u, p1, p2, p3⟩ := ha'.1 j hj
    by_cases e : b = a
    · subst e
      exact ⟨b, w, p1, yy_slv_tS hv, p3⟩
    · exact ⟨b, u, p1, by rw [yy_slv_tS_ne e]; exact p2, p3⟩
