/-! the relation under moves of the stack -/
theorem yy_RR_KP {g g' : yy_GT} {m m' : Nat} {c c' : yy_CT} {s s' : MT} {t nd o n n' : Nat} (h : yy_RR g m c s t nd o n) (k : yy_KP g c s g' c' s') (hF : yy_FRc c') (hL : yy_LOW c') (hM : yy_RMc c' (m' + (41 - yy_ghS g') + (160 - yy_ghC g') + (120 - yy_ghD g'))) (h4 : mI 4 s' = nI n') (h9 : yy_cI 9 c' = nI n') (hS : yy_RSt g' c' s' t nd o n') : yy_RR g' m' c' s' t nd o n' :=
  ⟨⟨hF, hL, hM⟩, ⟨h4, yy_REq_KP k (h9.trans h4.symm) h.2.1.2⟩, hS, yy_RO_KP h.1.2.1 k h.2.2.2⟩
theorem yy_RR.nine {g : yy_GT} {m : Nat} {c : yy_CT} {s : MT} {t nd o n : Nat} (h : yy_RR g m c s t nd o n) : yy_cI 9 c = nI n := h.2.1.2.1.trans h.2.1.1
theorem yy_RR.le40 {g : yy_GT} {m : Nat} {c : yy_CT} {s : MT} {t nd o n : Nat} (h : yy_RR g m c s t nd o n) : n ≤ 40 := h.2.2.1.1.2.1
theorem yy_RR.val {g : yy_GT} {m : Nat} {c : yy_CT} {s : MT} {t nd o n : Nat} (h : yy_RR g m c s t nd o n) {i : Nat} (hi : i < n) : ∃ a v, yy_cR 269 c i = some a ∧ yy_slv c a = some v ∧ yy_gow g a = (0, i) ∧ yy_VR g c s t nd o v (yy_pl s i) := by
  obtain ⟨a, v, e1, e2, e3⟩ := h.2.2.1.2.2.2 i hi
  obtain ⟨b, w, q1, q2, q3, q4⟩ := h.2.2.1.2.1 i (by have := h.2.2.1.1.1; omega)
  rw [e1] at q1
  cases q1
  exact ⟨a, v, e1, e2, q3, e3⟩
theorem yy_RR.room {g : yy_GT} {m : Nat} {c : yy_CT} {s : MT} {t nd o n : Nat} (h : yy_RR g m c s t nd o n) : yy_RMc c m := h.1.2.2.le (by omega)
theorem yy_RR.less {g : yy_GT} {m m' : Nat} {c : yy_CT} {s : MT} {t nd o n : Nat} (h : yy_RR g m c s t nd o n) (hm : m' ≤ m) : yy_RR g m' c s t nd o n := ⟨⟨h.1.1, h.1.2.1, h.1.2.2.le (by omega)⟩, h.2⟩
theorem yy_R_top {g : yy_GT} {m : Nat} {c : yy_CT} {s : MT} {t nd o n n' : Nat} (h : yy_RR g m c s t nd o n) (hn : n' ≤ n) : yy_RR g m (yy_tI 9 (nI n') c) (sI 4 (nI n') s) t nd o n' := by
  refine yy_RR_KP h ((yy_KP_t9 g c s _).trans (yy_KP_s4 g _ s _)) h.1.1 h.1.2.1 h.1.2.2 rfl rfl ?_
  obtain ⟨⟨h1, h2, h3⟩, h4, h5, h6⟩ := h.2.2.1
  exact ⟨⟨by omega, by omega, h3⟩, h4, h5, fun i hi => h6 i (by omega)⟩
theorem yy_R_setS {g : yy_GT} {m : Nat} {c : yy_CT} {s : MT} {t nd o n i a : Nat} {v w : yy_SV} {q : Int32 × Int64 × UInt64} (h : yy_RR g m c s t nd o n) (hi : i < n) (ha : yy_cR 269 c i = some a) (hv : yy_slv c a = some v) (hw : yy_VR g c s t nd o w q) : yy_RR g m (yy_tS a (some w) c) (yy_sP i q s) t nd o n := by
  obtain ⟨⟨h1, h2, h3⟩, h4, h5, h6⟩ := h.2.2.1
  have ho : yy_gow g a = (0, i) := by
    obtain ⟨b, x, q1, q2, q3, q4⟩ := h4 i (by omega)
    rw [ha] at q1
    cases q1
    exact q3
  have k : yy_KP g c s g (yy_tS a (some w) c) (yy_sP i q s) := (yy_KP_tS hv ho w).trans (yy_KP_sP g _ s q (Or.inl (by omega)))
  refine yy_RR_KP h k h.1.1 (h.1.2.1.tS hv w) h.1.2.2 h.2.1.1 h.nine ⟨⟨h1, h2, h3⟩, fun j hj => ?_, h5, fun j hj => ?_⟩
  · obtain ⟨b, x, q1, q2, q3, q4⟩ := h4 j hj
    by_cases e : b = a
    · subst e
      exact ⟨b, w, q1, yy_slv_tS hv, q3, q4⟩
    · exact ⟨b, x, q1, by rw [yy_slv_tS_ne e]; exact q2, q3, q4⟩
  · obtain ⟨b, x, q1, q2, q3⟩ := h6 j hj
    by_cases e : j = i
    · subst e
      rw [ha] at q1
      cases q1
      refine ⟨a, w, ha, yy_slv_tS hv, ?_⟩
      rw [yy_pl_sP, if_pos rfl]
      exact yy_VR_KP k hw
    · have e2 : b ≠ a := by
        intro z
        obtain ⟨b2, x2, p1, p2, p3, p4⟩ := h4 j (by omega)
        rw [show yy_cR 269 c j = some b from q1] at p1
        cases p1
        rw [z, ho] at p3
        cases p3
        exact e rfl
      refine ⟨b, x, q1, by rw [yy_slv_tS_ne e2]; exact q2, ?_⟩
      rw [yy_pl_sP, if_neg e]
      exact yy_VR_KP k q3
/-- room on the stack: what is written there counts -/
theorem yy_R_place {g : yy_GT} {m : Nat} {c : yy_CT} {s : MT} {t nd o n k : Nat} (sc : xSc) (h : yy_RR g m c s t nd o n) (hk : k ≤ n) (hj : n - k < 40) :
    ∃ (g' : yy_GT) (c' : yy_CT) (a : Nat) (v : yy_SV), f_P_place sc (yy_cH c) (some 256) (nI k) = some (.inl (some a), yy_cH c') ∧ yy_slv c' a = some v ∧ (∀ b x, yy_slv c b = some x → yy_slv c' b = some x) ∧ yy_cR 269 c' (n - k) = some a ∧ yy_cI 9 c' = nI (n - k + 1) ∧ yy_cI 18 c' = yy_cI 18 c ∧
      ∀ w q, yy_VR g c s t nd o w q → yy_RR g' m (yy_tS a (some w) c') (yy_sP (n - k) q (sI 4 (nI (n - k + 1)) s)) t nd o (n - k + 1) ∧ yy_KP g c s g' (yy_tS a (some w) c') (yy_sP (n - k) q (sI 4 (nI (n - k + 1)) s)) := by
  obtain ⟨⟨h1, h2, h3⟩, h4, h5, h6⟩ := h.2.2.1
  rcases Nat.lt_or_ge (n - k) (yy_ghS g) with hs | hs
  · obtain ⟨a, v, q1, q2, q3, q4⟩ := h4 (n - k) hs
    refine ⟨g, yy_tI 9 (nI (n - k + 1)) c, a, v, yy_e_place_some h.nine hk (by omega) hj q1, q2, fun b x e => e, q1, rfl, rfl, fun w q hw => ?_⟩
    have kp : yy_KP g c s g (yy_tS a (some w) (yy_tI 9 (nI (n - k + 1)) c)) (yy_sP (n - k) q (sI 4 (nI (n - k + 1)) s)) := ((yy_KP_t9 g c s (nI (n - k + 1))).trans (yy_KP_s4 g _ s (nI (n - k + 1)))).trans ((yy_KP_tS (c := yy_tI 9 (nI (n - k + 1)) c) q2 q3 w).trans (yy_KP_sP g _ _ q (Or.inl (by omega))))
    refine ⟨yy_RR_KP h kp h.1.1 (yy_LOW.tS (c := yy_tI 9 (nI (n - k + 1)) c) h.1.2.1 q2 w) h.1.2.2 rfl rfl ⟨⟨by omega, by omega, h3⟩, fun j hj => ?_, h5, fun j hj => ?_⟩, kp⟩
    · obtain ⟨b, x, p1, p2, p3, p4⟩ := h4 j hj
      by_cases e : b = a
      · subst e
        exact ⟨b, w, p1, yy_slv_tS (c := yy_tI 9 (nI (n - k + 1)) c) q2, p3, p4⟩
      · exact ⟨b, x, p1, by rw [yy_slv_tS_ne e]; exact p2, p3, p4⟩
    · by_cases e : j = n - k
      · subst e
        refine ⟨a, w, q1, yy_slv_tS (c := yy_tI 9 (nI (n - k + 1)) c) q2, ?_⟩
        rw [yy_pl_sP, if_pos rfl]
        exact yy_VR_KP kp hw
      · obtain ⟨b, x, p1, p2, p3⟩ := h6 j (by omega)
        have e2 : b ≠ a := by
          intro z
          obtain ⟨b2, x2, r1, r2, r3, r4⟩ := h4 j (by omega)
          rw [p1] at r1
          cases r1
          rw [z, q3] at r3
          cases r3
          exact e rfl
        refine ⟨b, x, p1, by rw [yy_slv_tS_ne e2]; exact p2, ?_⟩
        rw [yy_pl_sP, if_neg e]
        exact yy_VR_KP kp p3
  · have hn0 : k = 0 ∧ n = yy_ghS g := by omega
    have hM : yy_RMc c ((m + (41 - (yy_ghS g + 1)) + (160 - yy_ghC g) + (120 - yy_ghD g)) + 1) := h.1.2.2.le (by omega)
    have e0 := yy_e_place_none (sc := sc) h.1.1 hM h.nine hk (by omega) hj (h5 (n - k) hs (by omega))
    have hF9 : yy_FRc (yy_tI 9 (nI (n - k)) c) := h.1.1
    have hs1 : yy_slv (yy_plN c (n - k)) (yy_cn c) = some yy_dfS := yy_slv_nwS (c := yy_tI 9 (nI (n - k)) c) hF9 yy_dfS
    have hne : ∀ b x, yy_slv c b = some x → yy_slv (yy_plN c (n - k)) b = some x := fun b x e => by
      show yy_slv (yy_nwS yy_dfS (yy_tI 9 (nI (n - k)) c)) b = some x
      rw [yy_slv_nwS_ne (by have := h.1.2.1.s e; show b ≠ yy_cn c; omega)]
      exact e
    refine ⟨yy_gnS (n - k) (yy_cn c) g, yy_plN c (n - k), yy_cn c, yy_dfS, e0, hs1, hne, ?_, rfl, rfl, fun w q hw => ?_⟩
    · show va_up (yy_cR 269 c) (n - k) (some (yy_cn c)) (n - k) = _
      exact va_up_self _ _ _
    have ho : yy_gow (yy_gnS (n - k) (yy_cn c) g) (yy_cn c) = (0, n - k) := va_up_self _ _ _
    have kp0 : yy_KP g c s (yy_gnS (n - k) (yy_cn c) g) (yy_plN c (n - k)) s := ((yy_KP_t9 g c s (nI (n - k))).trans (yy_KP_nwS g (yy_tI 9 (nI (n - k)) c) s (n - k) yy_dfS)).trans ((yy_KP_269 _ _ s _).trans (yy_KP_t9 _ _ s _))
    have kp : yy_KP g c s (yy_gnS (n - k) (yy_cn c) g) (yy_tS (yy_cn c) (some w) (yy_plN c (n - k))) (yy_sP (n - k) q (sI 4 (nI (n - k + 1)) s)) := (kp0.trans (yy_KP_s4 _ _ s (nI (n - k + 1)))).trans ((yy_KP_tS hs1 ho w).trans (yy_KP_sP _ _ _ q (Or.inl (by omega))))
    have hR : ∀ j, j ≠ n - k → yy_cR 269 (yy_plN c (n - k)) j = yy_cR 269 c j := fun j hj => va_up_ne _ _ hj
    have hRs : yy_cR 269 (yy_plN c (n - k)) (n - k) = some (yy_cn c) := va_up_self _ _ _
    have hLn : yy_LOW (yy_plN c (n - k)) := yy_LOW.nwS (c := yy_tI 9 (nI (n - k)) c) h.1.2.1 yy_dfS
    have hMn : yy_RMc (yy_plN c (n - k)) (m + (41 - (yy_ghS g + 1)) + (160 - yy_ghC g) + (120 - yy_ghD g)) := yy_RMc.nwS (c := yy_tI 9 (nI (n - k)) c) hM yy_dfS
    have hFn : yy_FRc (yy_plN c (n - k)) := yy_FRc.nwS (c := yy_tI 9 (nI (n - k)) c) hF9 yy_dfS
    refine ⟨yy_RR_KP h kp hFn (hLn.tS hs1 w) ?_ rfl rfl ⟨⟨?_, by omega, ?_⟩, fun j hj => ?_, fun j hj hj2 => ?_, fun j hj => ?_⟩, kp⟩
    · show yy_RMc (yy_plN c (n - k)) (m + (41 - (n - k + 1)) + (160 - yy_ghC g) + (120 - yy_ghD g))
      rw [hn0.1, hn0.2, Nat.sub_zero]
      rw [hn0.1, hn0.2, Nat.sub_zero] at hMn
      exact hMn
    · show n - k + 1 ≤ n - k + 1
      omega
    · show n - k + 1 ≤ 41
      omega
    · have hj' : j < n - k + 1 := hj
      by_cases e : j = n - k
      · subst e
        exact ⟨yy_cn c, w, hRs, yy_slv_tS hs1, ho, Nat.lt_succ_self _⟩
      · obtain ⟨b, x, p1, p2, p3, p4⟩ := h4 j (by omega)
        refine ⟨b, x, (hR j e).trans p1, ?_, ?_, Nat.lt_succ_of_lt p4⟩
        · rw [yy_slv_tS_ne (by omega)]
          exact hne b x p2
        · exact (va_up_ne _ _ (by omega)).trans p3
    · have hj' : n - k + 1 ≤ j := hj
      exact (hR j (by omega)).trans (h5 j (by omega) hj2)
    · by_cases e : j = n - k
      · subst e
        refine ⟨yy_cn c, w, hRs, yy_slv_tS hs1, ?_⟩
        rw [yy_pl_sP, if_pos rfl]
        exact yy_VR_KP kp hw
      · obtain ⟨b, x, p1, p2, p3⟩ := h6 j (by omega)
        have hb := h.1.2.1.s p2
        refine ⟨b, x, (hR j e).trans p1, ?_, ?_⟩
        · rw [yy_slv_tS_ne (by omega)]
          exact hne b x p2
        · rw [yy_pl_sP, if_neg e]
          exact yy_VR_KP kp p3
