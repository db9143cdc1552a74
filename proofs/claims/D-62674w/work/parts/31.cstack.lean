/-! the relation under moves of the stack -/
theorem RR_KP {g g' : GT} {m m' : Nat} {c c' : CT} {s s' : MT} {t nd o n n' : Nat} (h : RR g m c s t nd o n) (k : KP g c s g' c' s') (hF : FRc c') (hL : LOW c') (hM : RMc c' (m' + (41 - ghS g') + (160 - ghC g') + (120 - ghD g'))) (h4 : mI 4 s' = nI n') (h9 : cI 9 c' = nI n') (hS : RSt g' c' s' t nd o n') : RR g' m' c' s' t nd o n' :=
  ⟨⟨hF, hL, hM⟩, ⟨h4, REq_KP k (h9.trans h4.symm) h.2.1.2⟩, hS, RO_KP h.1.2.1 k h.2.2.2⟩
theorem RR.nine {g : GT} {m : Nat} {c : CT} {s : MT} {t nd o n : Nat} (h : RR g m c s t nd o n) : cI 9 c = nI n := h.2.1.2.1.trans h.2.1.1
theorem RR.le40 {g : GT} {m : Nat} {c : CT} {s : MT} {t nd o n : Nat} (h : RR g m c s t nd o n) : n ≤ 40 := h.2.2.1.1.2.1
theorem RR.val {g : GT} {m : Nat} {c : CT} {s : MT} {t nd o n : Nat} (h : RR g m c s t nd o n) {i : Nat} (hi : i < n) : ∃ a v, cR 269 c i = some a ∧ slv c a = some v ∧ gow g a = (0, i) ∧ VR g c s t nd o v (pl s i) := by
  obtain ⟨a, v, e1, e2, e3⟩ := h.2.2.1.2.2.2 i hi
  obtain ⟨b, w, q1, q2, q3, q4⟩ := h.2.2.1.2.1 i (by have := h.2.2.1.1.1; omega)
  rw [e1] at q1
  cases q1
  exact ⟨a, v, e1, e2, q3, e3⟩
theorem RR.room {g : GT} {m : Nat} {c : CT} {s : MT} {t nd o n : Nat} (h : RR g m c s t nd o n) : RMc c m := h.1.2.2.le (by omega)
theorem RR.less {g : GT} {m m' : Nat} {c : CT} {s : MT} {t nd o n : Nat} (h : RR g m c s t nd o n) (hm : m' ≤ m) : RR g m' c s t nd o n := ⟨⟨h.1.1, h.1.2.1, h.1.2.2.le (by omega)⟩, h.2⟩
theorem R_top {g : GT} {m : Nat} {c : CT} {s : MT} {t nd o n n' : Nat} (h : RR g m c s t nd o n) (hn : n' ≤ n) : RR g m (tI 9 (nI n') c) (sI 4 (nI n') s) t nd o n' := by
  refine RR_KP h ((KP_t9 g c s _).trans (KP_s4 g _ s _)) h.1.1 h.1.2.1 h.1.2.2 rfl rfl ?_
  obtain ⟨⟨h1, h2, h3⟩, h4, h5, h6⟩ := h.2.2.1
  exact ⟨⟨by omega, by omega, h3⟩, h4, h5, fun i hi => h6 i (by omega)⟩
theorem R_setS {g : GT} {m : Nat} {c : CT} {s : MT} {t nd o n i a : Nat} {v w : SV} {q : Int32 × Int64 × UInt64} (h : RR g m c s t nd o n) (hi : i < n) (ha : cR 269 c i = some a) (hv : slv c a = some v) (hw : VR g c s t nd o w q) : RR g m (tS a (some w) c) (sP i q s) t nd o n := by
  obtain ⟨⟨h1, h2, h3⟩, h4, h5, h6⟩ := h.2.2.1
  have ho : gow g a = (0, i) := by
    obtain ⟨b, x, q1, q2, q3, q4⟩ := h4 i (by omega)
    rw [ha] at q1
    cases q1
    exact q3
  have k : KP g c s g (tS a (some w) c) (sP i q s) := (KP_tS hv ho w).trans (KP_sP g _ s q (Or.inl (by omega)))
  refine RR_KP h k h.1.1 (h.1.2.1.tS hv w) h.1.2.2 h.2.1.1 h.nine ⟨⟨h1, h2, h3⟩, fun j hj => ?_, h5, fun j hj => ?_⟩
  · obtain ⟨b, x, q1, q2, q3, q4⟩ := h4 j hj
    by_cases e : b = a
    · subst e
      exact ⟨b, w, q1, slv_tS hv, q3, q4⟩
    · exact ⟨b, x, q1, by rw [slv_tS_ne e]; exact q2, q3, q4⟩
  · obtain ⟨b, x, q1, q2, q3⟩ := h6 j hj
    by_cases e : j = i
    · subst e
      rw [ha] at q1
      cases q1
      refine ⟨a, w, ha, slv_tS hv, ?_⟩
      rw [pl_sP, if_pos rfl]
      exact VR_KP k hw
    · have e2 : b ≠ a := by
        intro z
        obtain ⟨b2, x2, p1, p2, p3, p4⟩ := h4 j (by omega)
        rw [show cR 269 c j = some b from q1] at p1
        cases p1
        rw [z, ho] at p3
        cases p3
        exact e rfl
      refine ⟨b, x, q1, by rw [slv_tS_ne e2]; exact q2, ?_⟩
      rw [pl_sP, if_neg e]
      exact VR_KP k q3
/-- room on the stack: what is written there counts -/
theorem R_place {g : GT} {m : Nat} {c : CT} {s : MT} {t nd o n k : Nat} (sc : xSc) (h : RR g m c s t nd o n) (hk : k ≤ n) (hj : n - k < 40) :
    ∃ (g' : GT) (c' : CT) (a : Nat) (v : SV), f_P_place sc (cH c) (some 256) (nI k) = some (.inl (some a), cH c') ∧ slv c' a = some v ∧ (∀ b x, slv c b = some x → slv c' b = some x) ∧ cR 269 c' (n - k) = some a ∧ cI 9 c' = nI (n - k + 1) ∧ cI 18 c' = cI 18 c ∧
      ∀ w q, VR g c s t nd o w q → RR g' m (tS a (some w) c') (sP (n - k) q (sI 4 (nI (n - k + 1)) s)) t nd o (n - k + 1) ∧ KP g c s g' (tS a (some w) c') (sP (n - k) q (sI 4 (nI (n - k + 1)) s)) := by
  obtain ⟨⟨h1, h2, h3⟩, h4, h5, h6⟩ := h.2.2.1
  rcases Nat.lt_or_ge (n - k) (ghS g) with hs | hs
  · obtain ⟨a, v, q1, q2, q3, q4⟩ := h4 (n - k) hs
    refine ⟨g, tI 9 (nI (n - k + 1)) c, a, v, e_place_some h.nine hk (by omega) hj q1, q2, fun b x e => e, q1, rfl, rfl, fun w q hw => ?_⟩
    have kp : KP g c s g (tS a (some w) (tI 9 (nI (n - k + 1)) c)) (sP (n - k) q (sI 4 (nI (n - k + 1)) s)) := ((KP_t9 g c s (nI (n - k + 1))).trans (KP_s4 g _ s (nI (n - k + 1)))).trans ((KP_tS (c := tI 9 (nI (n - k + 1)) c) q2 q3 w).trans (KP_sP g _ _ q (Or.inl (by omega))))
    refine ⟨RR_KP h kp h.1.1 (LOW.tS (c := tI 9 (nI (n - k + 1)) c) h.1.2.1 q2 w) h.1.2.2 rfl rfl ⟨⟨by omega, by omega, h3⟩, fun j hj => ?_, h5, fun j hj => ?_⟩, kp⟩
    · obtain ⟨b, x, p1, p2, p3, p4⟩ := h4 j hj
      by_cases e : b = a
      · subst e
        exact ⟨b, w, p1, slv_tS (c := tI 9 (nI (n - k + 1)) c) q2, p3, p4⟩
      · exact ⟨b, x, p1, by rw [slv_tS_ne e]; exact p2, p3, p4⟩
    · by_cases e : j = n - k
      · subst e
        refine ⟨a, w, q1, slv_tS (c := tI 9 (nI (n - k + 1)) c) q2, ?_⟩
        rw [pl_sP, if_pos rfl]
        exact VR_KP kp hw
      · obtain ⟨b, x, p1, p2, p3⟩ := h6 j (by omega)
        have e2 : b ≠ a := by
          intro z
          obtain ⟨b2, x2, r1, r2, r3, r4⟩ := h4 j (by omega)
          rw [p1] at r1
          cases r1
          rw [z, q3] at r3
          cases r3
          exact e rfl
        refine ⟨b, x, p1, by rw [slv_tS_ne e2]; exact p2, ?_⟩
        rw [pl_sP, if_neg e]
        exact VR_KP kp p3
  · have hn0 : k = 0 ∧ n = ghS g := by omega
    have hM : RMc c ((m + (41 - (ghS g + 1)) + (160 - ghC g) + (120 - ghD g)) + 1) := h.1.2.2.le (by omega)
    have e0 := e_place_none (sc := sc) h.1.1 hM h.nine hk (by omega) hj (h5 (n - k) hs (by omega))
    have hF9 : FRc (tI 9 (nI (n - k)) c) := h.1.1
    have hs1 : slv (plN c (n - k)) (cn c) = some dfS := slv_nwS (c := tI 9 (nI (n - k)) c) hF9 dfS
    have hne : ∀ b x, slv c b = some x → slv (plN c (n - k)) b = some x := fun b x e => by
      show slv (nwS dfS (tI 9 (nI (n - k)) c)) b = some x
      rw [slv_nwS_ne (by have := h.1.2.1.s e; show b ≠ cn c; omega)]
      exact e
    refine ⟨gnS (n - k) (cn c) g, plN c (n - k), cn c, dfS, e0, hs1, hne, ?_, rfl, rfl, fun w q hw => ?_⟩
    · show va_up (cR 269 c) (n - k) (some (cn c)) (n - k) = _
      exact va_up_self _ _ _
    have ho : gow (gnS (n - k) (cn c) g) (cn c) = (0, n - k) := va_up_self _ _ _
    have kp0 : KP g c s (gnS (n - k) (cn c) g) (plN c (n - k)) s := ((KP_t9 g c s (nI (n - k))).trans (KP_nwS g (tI 9 (nI (n - k)) c) s (n - k) dfS)).trans ((KP_269 _ _ s _).trans (KP_t9 _ _ s _))
    have kp : KP g c s (gnS (n - k) (cn c) g) (tS (cn c) (some w) (plN c (n - k))) (sP (n - k) q (sI 4 (nI (n - k + 1)) s)) := (kp0.trans (KP_s4 _ _ s (nI (n - k + 1)))).trans ((KP_tS hs1 ho w).trans (KP_sP _ _ _ q (Or.inl (by omega))))
    have hR : ∀ j, j ≠ n - k → cR 269 (plN c (n - k)) j = cR 269 c j := fun j hj => va_up_ne _ _ hj
    have hRs : cR 269 (plN c (n - k)) (n - k) = some (cn c) := va_up_self _ _ _
    have hLn : LOW (plN c (n - k)) := LOW.nwS (c := tI 9 (nI (n - k)) c) h.1.2.1 dfS
    have hMn : RMc (plN c (n - k)) (m + (41 - (ghS g + 1)) + (160 - ghC g) + (120 - ghD g)) := RMc.nwS (c := tI 9 (nI (n - k)) c) hM dfS
    have hFn : FRc (plN c (n - k)) := FRc.nwS (c := tI 9 (nI (n - k)) c) hF9 dfS
    refine ⟨RR_KP h kp hFn (hLn.tS hs1 w) ?_ rfl rfl ⟨⟨?_, by omega, ?_⟩, fun j hj => ?_, fun j hj hj2 => ?_, fun j hj => ?_⟩, kp⟩
    · show RMc (plN c (n - k)) (m + (41 - (n - k + 1)) + (160 - ghC g) + (120 - ghD g))
      rw [hn0.1, hn0.2, Nat.sub_zero]
      rw [hn0.1, hn0.2, Nat.sub_zero] at hMn
      exact hMn
    · show n - k + 1 ≤ n - k + 1
      omega
    · show n - k + 1 ≤ 41
      omega
    · have hj' : j < n - k + 1 := hj
      by_cases e : j = n - k
      · subst e
        exact ⟨cn c, w, hRs, slv_tS hs1, ho, Nat.lt_succ_self _⟩
      · obtain ⟨b, x, p1, p2, p3, p4⟩ := h4 j (by omega)
        refine ⟨b, x, (hR j e).trans p1, ?_, ?_, Nat.lt_succ_of_lt p4⟩
        · rw [slv_tS_ne (by omega)]
          exact hne b x p2
        · exact (va_up_ne _ _ (by omega)).trans p3
    · have hj' : n - k + 1 ≤ j := hj
      exact (hR j (by omega)).trans (h5 j (by omega) hj2)
    · by_cases e : j = n - k
      · subst e
        refine ⟨cn c, w, hRs, slv_tS hs1, ?_⟩
        rw [pl_sP, if_pos rfl]
        exact VR_KP kp hw
      · obtain ⟨b, x, p1, p2, p3⟩ := h6 j (by omega)
        have hb := h.1.2.1.s p2
        refine ⟨b, x, (hR j e).trans p1, ?_, ?_⟩
        · rw [slv_tS_ne (by omega)]
          exact hne b x p2
        · rw [pl_sP, if_neg e]
          exact VR_KP kp p3
