/-! the relation under moves of the stack -/
theorem y_RR_KP {g g' : y_GT} {m m' : Nat} {c c' : y_CT} {s s' : MT} {t nd o n n' : Nat} (h : y_RR g m c s t nd o n) (k : y_KP g c s g' c' s') (hF : y_FRc c') (hL : y_LOW c') (hM : y_RMc c' (m' + (41 - y_ghS g') + (160 - y_ghC g') + (120 - y_ghD g'))) (h4 : mI 4 s' = nI n') (h9 : y_cI 9 c' = nI n') (hS : y_RSt g' c' s' t nd o n') : y_RR g' m' c' s' t nd o n' :=
  ⟨⟨hF, hL, hM⟩, ⟨h4, y_REq_KP k (h9.trans h4.symm) h.2.1.2⟩, hS, y_RO_KP h.1.2.1 k h.2.2.2⟩
theorem y_RR.nine {g : y_GT} {m : Nat} {c : y_CT} {s : MT} {t nd o n : Nat} (h : y_RR g m c s t nd o n) : y_cI 9 c = nI n := h.2.1.2.1.trans h.2.1.1
theorem y_RR.le40 {g : y_GT} {m : Nat} {c : y_CT} {s : MT} {t nd o n : Nat} (h : y_RR g m c s t nd o n) : n ≤ 40 := h.2.2.1.1.2.1
theorem y_RR.val {g : y_GT} {m : Nat} {c : y_CT} {s : MT} {t nd o n : Nat} (h : y_RR g m c s t nd o n) {i : Nat} (hi : i < n) : ∃ a v, y_cR 269 c i = some a ∧ y_slv c a = some v ∧ y_gow g a = (0, i) ∧ y_VR g c s t nd o v (y_pl s i) := by
  obtain ⟨a, v, e1, e2, e3⟩ := h.2.2.1.2.2.2 i hi
  obtain ⟨b, w, q1, q2, q3, q4⟩ := h.2.2.1.2.1 i (by have := h.2.2.1.1.1; omega)
  rw [e1] at q1
  cases q1
  exact ⟨a, v, e1, e2, q3, e3⟩
theorem y_RR.room {g : y_GT} {m : Nat} {c : y_CT} {s : MT} {t nd o n : Nat} (h : y_RR g m c s t nd o n) : y_RMc c m := h.1.2.2.le (by omega)
theorem y_RR.less {g : y_GT} {m m' : Nat} {c : y_CT} {s : MT} {t nd o n : Nat} (h : y_RR g m c s t nd o n) (hm : m' ≤ m) : y_RR g m' c s t nd o n := ⟨⟨h.1.1, h.1.2.1, h.1.2.2.le (by omega)⟩, h.2⟩
theorem y_R_top {g : y_GT} {m : Nat} {c : y_CT} {s : MT} {t nd o n n' : Nat} (h : y_RR g m c s t nd o n) (hn : n' ≤ n) : y_RR g m (y_tI 9 (nI n') c) (sI 4 (nI n') s) t nd o n' := by
  refine y_RR_KP h ((y_KP_t9 g c s _).trans (y_KP_s4 g _ s _)) h.1.1 h.1.2.1 h.1.2.2 rfl rfl ?_
  obtain ⟨⟨h1, h2, h3⟩, h4, h5, h6⟩ := h.2.2.1
  exact ⟨⟨by omega, by omega, h3⟩, h4, h5, fun i hi => h6 i (by omega)⟩
theorem y_R_setS {g : y_GT} {m : Nat} {c : y_CT} {s : MT} {t nd o n i a : Nat} {v w : y_SV} {q : Int32 × Int64 × UInt64} (h : y_RR g m c s t nd o n) (hi : i < n) (ha : y_cR 269 c i = some a) (hv : y_slv c a = some v) (hw : y_VR g c s t nd o w q) : y_RR g m (y_tS a (some w) c) (y_sP i q s) t nd o n := by
  obtain ⟨⟨h1, h2, h3⟩, h4, h5, h6⟩ := h.2.2.1
  have ho : y_gow g a = (0, i) := by
    obtain ⟨b, x, q1, q2, q3, q4⟩ := h4 i (by omega)
    rw [ha] at q1
    cases q1
    exact q3
  have k : y_KP g c s g (y_tS a (some w) c) (y_sP i q s) := (y_KP_tS hv ho w).trans (y_KP_sP g _ s q (Or.inl (by omega)))
  refine y_RR_KP h k h.1.1 (h.1.2.1.tS hv w) h.1.2.2 h.2.1.1 h.nine ⟨⟨h1, h2, h3⟩, fun j hj => ?_, h5, fun j hj => ?_⟩
  · obtain ⟨b, x, q1, q2, q3, q4⟩ := h4 j hj
    by_cases e : b = a
    · subst e
      exact ⟨b, w, q1, y_slv_tS hv, q3, q4⟩
    · exact ⟨b, x, q1, by rw [y_slv_tS_ne e]; exact q2, q3, q4⟩
  · obtain ⟨b, x, q1, q2, q3⟩ := h6 j hj
    by_cases e : j = i
    · subst e
      rw [ha] at q1
      cases q1
      refine ⟨a, w, ha, y_slv_tS hv, ?_⟩
      rw [y_pl_sP, if_pos rfl]
      exact y_VR_KP k hw
    · have e2 : b ≠ a := by
        intro z
        obtain ⟨b2, x2, p1, p2, p3, p4⟩ := h4 j (by omega)
        rw [show y_cR 269 c j = some b from q1] at p1
        cases p1
        rw [z, ho] at p3
        cases p3
        exact e rfl
      refine ⟨b, x, q1, by rw [y_slv_tS_ne e2]; exact q2, ?_⟩
      rw [y_pl_sP, if_neg e]
      exact y_VR_KP k q3
/-- room on the stack: what is written there counts -/
theorem y_R_place {g : y_GT} {m : Nat} {c : y_CT} {s : MT} {t nd o n k : Nat} (sc : xSc) (h : y_RR g m c s t nd o n) (hk : k ≤ n) (hj : n - k < 40) :
    ∃ (g' : y_GT) (c' : y_CT) (a : Nat) (v : y_SV), f_P_place sc (y_cH c) (some 256) (nI k) = some (.inl (some a), y_cH c') ∧ y_slv c' a = some v ∧ (∀ b x, y_slv c b = some x → y_slv c' b = some x) ∧ y_cR 269 c' (n - k) = some a ∧ y_cI 9 c' = nI (n - k + 1) ∧ y_cI 18 c' = y_cI 18 c ∧
      ∀ w q, y_VR g c s t nd o w q → y_RR g' m (y_tS a (some w) c') (y_sP (n - k) q (sI 4 (nI (n - k + 1)) s)) t nd o (n - k + 1) ∧ y_KP g c s g' (y_tS a (some w) c') (y_sP (n - k) q (sI 4 (nI (n - k + 1)) s)) := by
  obtain ⟨⟨h1, h2, h3⟩, h4, h5, h6⟩ := h.2.2.1
  rcases Nat.lt_or_ge (n - k) (y_ghS g) with hs | hs
  · obtain ⟨a, v, q1, q2, q3, q4⟩ := h4 (n - k) hs
    refine ⟨g, y_tI 9 (nI (n - k + 1)) c, a, v, y_e_place_some h.nine hk (by omega) hj q1, q2, fun b x e => e, q1, rfl, rfl, fun w q hw => ?_⟩
    have kp : y_KP g c s g (y_tS a (some w) (y_tI 9 (nI (n - k + 1)) c)) (y_sP (n - k) q (sI 4 (nI (n - k + 1)) s)) := ((y_KP_t9 g c s (nI (n - k + 1))).trans (y_KP_s4 g _ s (nI (n - k + 1)))).trans ((y_KP_tS (c := y_tI 9 (nI (n - k + 1)) c) q2 q3 w).trans (y_KP_sP g _ _ q (Or.inl (by omega))))
    refine ⟨y_RR_KP h kp h.1.1 (y_LOW.tS (c := y_tI 9 (nI (n - k + 1)) c) h.1.2.1 q2 w) h.1.2.2 rfl rfl ⟨⟨by omega, by omega, h3⟩, fun j hj => ?_, h5, fun j hj => ?_⟩, kp⟩
    · obtain ⟨b, x, p1, p2, p3, p4⟩ := h4 j hj
      by_cases e : b = a
      · subst e
        exact ⟨b, w, p1, y_slv_tS (c := y_tI 9 (nI (n - k + 1)) c) q2, p3, p4⟩
      · exact ⟨b, x, p1, by rw [y_slv_tS_ne e]; exact p2, p3, p4⟩
    · by_cases e : j = n - k
      · subst e
        refine ⟨a, w, q1, y_slv_tS (c := y_tI 9 (nI (n - k + 1)) c) q2, ?_⟩
        rw [y_pl_sP, if_pos rfl]
        exact y_VR_KP kp hw
      · obtain ⟨b, x, p1, p2, p3⟩ := h6 j (by omega)
        have e2 : b ≠ a := by
          intro z
          obtain ⟨b2, x2, r1, r2, r3, r4⟩ := h4 j (by omega)
          rw [p1] at r1
          cases r1
          rw [z, q3] at r3
          cases r3
          exact e rfl
        refine ⟨b, x, p1, by rw [y_slv_tS_ne e2]; exact p2, ?_⟩
        rw [y_pl_sP, if_neg e]
        exact y_VR_KP kp p3
  · have hn0 : k = 0 ∧ n = y_ghS g := by omega
    have hM : y_RMc c ((m + (41 - (y_ghS g + 1)) + (160 - y_ghC g) + (120 - y_ghD g)) + 1) := h.1.2.2.le (by omega)
    have e0 := y_e_place_none (sc := sc) h.1.1 hM h.nine hk (by omega) hj (h5 (n - k) hs (by omega))
    have hF9 : y_FRc (y_tI 9 (nI (n - k)) c) := h.1.1
    have hs1 : y_slv (y_plN c (n - k)) (y_cn c) = some y_dfS := y_slv_nwS (c := y_tI 9 (nI (n - k)) c) hF9 y_dfS
    have hne : ∀ b x, y_slv c b = some x → y_slv (y_plN c (n - k)) b = some x := fun b x e => by
      show y_slv (y_nwS y_dfS (y_tI 9 (nI (n - k)) c)) b = some x
      rw [y_slv_nwS_ne (by have := h.1.2.1.s e; show b ≠ y_cn c; omega)]
      exact e
    refine ⟨y_gnS (n - k) (y_cn c) g, y_plN c (n - k), y_cn c, y_dfS, e0, hs1, hne, ?_, rfl, rfl, fun w q hw => ?_⟩
    · show va_up (y_cR 269 c) (n - k) (some (y_cn c)) (n - k) = _
      exact va_up_self _ _ _
    have ho : y_gow (y_gnS (n - k) (y_cn c) g) (y_cn c) = (0, n - k) := va_up_self _ _ _
    have kp0 : y_KP g c s (y_gnS (n - k) (y_cn c) g) (y_plN c (n - k)) s := ((y_KP_t9 g c s (nI (n - k))).trans (y_KP_nwS g (y_tI 9 (nI (n - k)) c) s (n - k) y_dfS)).trans ((y_KP_269 _ _ s _).trans (y_KP_t9 _ _ s _))
    have kp : y_KP g c s (y_gnS (n - k) (y_cn c) g) (y_tS (y_cn c) (some w) (y_plN c (n - k))) (y_sP (n - k) q (sI 4 (nI (n - k + 1)) s)) := (kp0.trans (y_KP_s4 _ _ s (nI (n - k + 1)))).trans ((y_KP_tS hs1 ho w).trans (y_KP_sP _ _ _ q (Or.inl (by omega))))
    have hR : ∀ j, j ≠ n - k → y_cR 269 (y_plN c (n - k)) j = y_cR 269 c j := fun j hj => va_up_ne _ _ hj
    have hRs : y_cR 269 (y_plN c (n - k)) (n - k) = some (y_cn c) := va_up_self _ _ _
    have hLn : y_LOW (y_plN c (n - k)) := y_LOW.nwS (c := y_tI 9 (nI (n - k)) c) h.1.2.1 y_dfS
    have hMn : y_RMc (y_plN c (n - k)) (m + (41 - (y_ghS g + 1)) + (160 - y_ghC g) + (120 - y_ghD g)) := y_RMc.nwS (c := y_tI 9 (nI (n - k)) c) hM y_dfS
    have hFn : y_FRc (y_plN c (n - k)) := y_FRc.nwS (c := y_tI 9 (nI (n - k)) c) hF9 y_dfS
    refine ⟨y_RR_KP h kp hFn (hLn.tS hs1 w) ?_ rfl rfl ⟨⟨?_, by omega, ?_⟩, fun j hj => ?_, fun j hj hj2 => ?_, fun j hj => ?_⟩, kp⟩
    · show y_RMc (y_plN c (n - k)) (m + (41 - (n - k + 1)) + (160 - y_ghC g) + (120 - y_ghD g))
      rw [hn0.1, hn0.2, Nat.sub_zero]
      rw [hn0.1, hn0.2, Nat.sub_zero] at hMn
      exact hMn
    · show n - k + 1 ≤ n - k + 1
      omega
    · show n - k + 1 ≤ 41
      omega
    · have hj' : j < n - k + 1 := hj
      by_cases e : j = n - k
      · subst e
        exact ⟨y_cn c, w, hRs, y_slv_tS hs1, ho, Nat.lt_succ_self _⟩
      · obtain ⟨b, x, p1, p2, p3, p4⟩ := h4 j (by omega)
        refine ⟨b, x, (hR j e).trans p1, ?_, ?_, Nat.lt_succ_of_lt p4⟩
        · rw [y_slv_tS_ne (by omega)]
          exact hne b x p2
        · exact (va_up_ne _ _ (by omega)).trans p3
    · have hj' : n - k + 1 ≤ j := hj
      exact (hR j (by omega)).trans (h5 j (by omega) hj2)
    · by_cases e : j = n - k
      · subst e
        refine ⟨y_cn c, w, hRs, y_slv_tS hs1, ?_⟩
        rw [y_pl_sP, if_pos rfl]
        exact y_VR_KP kp hw
      · obtain ⟨b, x, p1, p2, p3⟩ := h6 j (by omega)
        have hb := h.1.2.1.s p2
        refine ⟨b, x, (hR j e).trans p1, ?_, ?_⟩
        · rw [y_slv_tS_ne (by omega)]
          exact hne b x p2
        · rw [y_pl_sP, if_neg e]
          exact y_VR_KP kp p3
