/-- the model's state with one more entry -/
def yy_mad (d l : Nat) (w : Int64) (q : Int32 × Int64 × UInt64) (s : MT) : MT := yy_sP (250 + (yy_bs d + l)) q (sA 7 (va_up (mA 7 s) d (nI (l + 1))) (sL 6 (va_up (mL 6 s) (yy_bs d + l) w) s))
theorem yy_mad_f (d l : Nat) (w : Int64) (q : Int32 × Int64 × UInt64) (s : MT) : (∀ k, mI k (yy_mad d l w q s) = mI k s) ∧ mG (yy_mad d l w q s) = mG s ∧ (∀ p, p ≠ 250 + (yy_bs d + l) → yy_pl (yy_mad d l w q s) p = yy_pl s p) ∧ yy_pl (yy_mad d l w q s) (250 + (yy_bs d + l)) = q ∧ (∀ k, k ≠ 1 → k ≠ 7 → mA k (yy_mad d l w q s) = mA k s) ∧ (∀ k, k ≠ 2 → k ≠ 6 → mL k (yy_mad d l w q s) = mL k s) ∧ (∀ k, k ≠ 3 → mD k (yy_mad d l w q s) = mD k s) ∧ mA 7 (yy_mad d l w q s) = va_up (mA 7 s) d (nI (l + 1)) ∧ mL 6 (yy_mad d l w q s) = va_up (mL 6 s) (yy_bs d + l) w := by
  unfold yy_mad
  refine ⟨fun _ => rfl, rfl, fun p hp => ?_, ?_, fun k h1 h7 => ?_, fun k h2 h6 => ?_, fun k h3 => ?_, ?_, ?_⟩
  · rw [yy_pl_sP, if_neg hp]
    rfl
  · rw [yy_pl_sP, if_pos rfl]
  · rw [yy_mA_sP h1]
    exact va_up_ne _ _ h7
  · rw [yy_mL_sP h2]
    exact va_up_ne _ _ h6
  · exact va_up_ne _ _ h3
  · rw [yy_mA_sP (by decide)]
    rfl
  · rw [yy_mL_sP (by decide)]
    rfl
theorem yy_RR_ad {g g' : yy_GT} {m m' : Nat} {c c' : yy_CT} {s : MT} {t nd o n d b r A B key : Nat} {f : Option Nat} {L : List (Nat × Nat × Nat)} {w : Int64} {u : yy_SV} {q : Int32 × Int64 × UInt64} (h : yy_RR g m c s t nd o n) (hd : d < nd) (hb : yy_cR 273 c d = some b) (hv : yy_dcv c b = some (nI d, nI r, nI L.length, f)) (hc : yy_CH c f L) (hr : L.length < r ∧ r ≤ (if d = 0 then 20 else 10)) (hk : (key, w) ∈ yy_gnm g) (hno : ∀ j, j < L.length → mL 6 s (yy_bs d + j) ≠ w) (hu : yy_VR g c s t nd o u q) (hus : u.2.2.2.2.1 = nI o)
    (k : yy_KZ b d (yy_bs d + L.length) g c s g' c' (yy_mad d L.length w q s)) (kB : yy_slv c' B = some u) (kA : yy_ov c' A = some (.inl (5, [vR (some key), vR (some B), vR f]))) (kb : yy_dcv c' b = some (nI d, nI r, nI (L.length + 1), some A)) (kBn : B < yy_cn c') (kBo : yy_gow g' B = (3, yy_bs d + L.length)) (hF : yy_FRc c') (hL : yy_LOW c') (hM : yy_RMc c' (m' + (41 - yy_ghS g') + (160 - yy_ghC g') + (120 - yy_ghD g')))
    (hI : ∀ k, yy_cI k c' = yy_cI k c) (hg : yy_cg c' = yy_cg c) (hR : ∀ k, yy_cR k c' = yy_cR k c) (hA : ∀ k, yy_cA k c' = yy_cA k c) (hD : ∀ k, yy_cD k c' = yy_cD k c) (hcb : yy_cb c' = yy_cb c) (kh : yy_ghS g' = yy_ghS g) (kC : yy_ghC g' = yy_ghC g) (hlen : (yy_gsv g').length = o)
    (hRS : ∀ sn, yy_RSv g c s (yy_slv c) (yy_dcv c) (yy_cl c) t nd (sn + 1) (yy_gsv g) → yy_RSv g' c' (yy_mad d L.length w q s) (yy_slv c') (yy_dcv c') (yy_cl c') t nd (sn + 1) (yy_gsv g')) : yy_RR g' m' c' (yy_mad d L.length w q s) t nd o n := by
  obtain ⟨q1, q2, q3, q4, q5, q6, q7, q8, ⟨sn, q9, q10, q11⟩, q12, q13, q14, q15⟩ := h.2.2.2
  have hL0 := h.1.2.1
  obtain ⟨m1, m2, m3, m4, m5, m6, m7, m8, m9⟩ := yy_mad_f d L.length w q s
  have kk := k
  obtain ⟨⟨a1, a2, a5⟩, ⟨b1, b3, b4⟩, kS, kD, kO, ⟨kR, kR2⟩, kp, ⟨kmA, kmA7⟩, kmL29, kmL6⟩ := kk
  have hov : ∀ a v, yy_ov c a = some v → yy_ov c' a = some v := fun a v e => kO a v (hL0.o e) e
  have vk : ∀ {v : yy_SV} {r : Int32 × Int64 × UInt64}, yy_VR g c s t nd o v r → yy_VR g' c' (yy_mad d L.length w q s) t nd o v r := fun hv => yy_VR_cong (by rw [a1]; exact fun _ h => h) (fun n _ => by rw [kR 273 (by decide)]) (kmA 14 (by decide)) hv
  have st : yy_RSt g' c' (yy_mad d L.length w q s) t nd o n := by
    obtain ⟨⟨h1, h2, h3⟩, h4, h5, h6⟩ := h.2.2.1
    refine ⟨⟨by rw [kh]; exact h1, h2, by rw [kh]; exact h3⟩, fun i hi => ?_, fun i hi hi2 => ?_, fun i hi => ?_⟩
    · rw [kh] at hi
      obtain ⟨a, v, e1, e2, e3, e4⟩ := h4 i hi
      exact ⟨a, v, by rw [hR]; exact e1, (kS a e4).trans e2, (a5 a e4).trans e3, by omega⟩
    · rw [kh] at hi
      rw [hR]
      exact h5 i hi hi2
    · obtain ⟨a, v, e1, e2, e3⟩ := h6 i hi
      refine ⟨a, v, by rw [hR]; exact e1, (kS a (hL0.s e2)).trans e2, ?_⟩
      rw [m3 i (by omega)]
      exact vk e3
  refine ⟨⟨hF, hL, hM⟩, ⟨by rw [m1]; exact h.2.1.1, ?_⟩, st, ⟨by rw [kC]; exact q1.1, by rw [m1]; exact q1.2⟩, by rw [hI]; exact q2, ⟨⟨q3.1.1, hlen⟩, by rw [m1]; exact q3.2⟩, ⟨by rw [kC]; exact q4.1, fun j hj => ?_⟩, ⟨q5.1, fun d' h1 h2 => by rw [m5 8 (by decide) (by decide)]; exact q5.2.1 d' h1 h2, fun d' hd' => ?_⟩, ?_, ?_, ⟨fun j hj => ?_, fun j hj hj2 => by rw [hR]; exact q8.2 j (by rw [kC] at hj; exact hj) hj2⟩, ⟨sn, by rw [m1]; exact q9, by omega, hRS sn q11⟩, ?_, ?_, ?_, yy_RNm_KZ hL0 k (m1 30) q15⟩
  · obtain ⟨e1, e2, e3, e4, e5, e6, e7, e8, e10, e11, e12, e13, e14⟩ := h.2.1.2
    refine ⟨?_, ?_, ?_, ?_, ?_, ?_, ?_, ?_, ?_, ?_, ?_, ?_, by rw [hg, m2]; exact e14⟩
    all_goals rw [hI, m1]
    all_goals assumption
  · obtain ⟨a, v, p1, p2, p3, p4, p5, p6⟩ := q4.2 j hj
    have ec : yy_cpl 0 j = 50 + j := if_pos rfl
    have := q1.1.1
    refine ⟨a, v, by rw [hR]; exact p1, by omega, (kS a p2).trans p3, (a5 a p2).trans p4, ?_, p6⟩
    rw [ec, m3 _ (by omega)]
    rw [ec] at p5
    exact vk p5
  · obtain ⟨b', r', f', L', e1, e2, e3, e4, e5, e6, e7, e8⟩ := q5.2.2 d' hd'
    have hroom : ∀ i, i < L'.length → i < (if d' = 0 then 20 else 10) := fun i hi => by
      have := e3.2.1
      have := e3.2.2
      omega
    have hroomd : L.length < (if d = 0 then 20 else 10) := by
      have := hr.1
      have := hr.2
      omega
    have ec : ∀ j, yy_cpl 0 (200 + yy_bs d' + j) = 250 + (yy_bs d' + j) := fun j => by
      unfold yy_cpl
      rw [if_pos rfl]
      omega
    by_cases z : d' = d
    · subst z
      rw [hb] at e1
      cases e1
      rw [hv] at e2
      have hr' : r' = r := by
        have := Option.some.inj e2
        have := congrArg (fun z => z.2.1) this
        dsimp only at this
        have h2 : r' ≤ 20 := by
          have := e3.2.1
          split at this <;> omega
        have h1 : r ≤ 20 := by
          have := hr.2
          split at this <;> omega
        exact ((yy_nI_inj (by omega) (by omega)).mp this).symm
      have hf' : f' = f := by
        have := Option.some.inj e2
        exact (congrArg (fun z => z.2.2.2) this).symm
      subst hr'
      subst hf'
      have := yy_CH_inj hc e6
      subst this
      refine ⟨b, r', some A, (A, key, B) :: L, by rw [hR]; exact hb, kb, ⟨e3.1, e3.2.1, hr.1⟩, by rw [m5 8 (by decide) (by decide)]; exact e4, ?_, ⟨rfl, f', kA, yy_CH_cong hov e6⟩, fun i j hi hj e => ?_, fun i e he => ?_⟩
      · rw [m8, Nat.mul_zero, Nat.zero_add, va_up_self]
        rfl
      · rw [List.length_cons] at hi hj
        rw [m9, Nat.mul_zero, Nat.zero_add] at e
        by_cases i0 : i = L.length
        · by_cases j0 : j = L.length
          · omega
          · rw [i0, va_up_self, va_up_ne _ _ (by omega)] at e
            exact absurd e.symm (hno j (by omega))
        · by_cases j0 : j = L.length
          · rw [j0, va_up_self, va_up_ne _ _ (by omega)] at e
            exact absurd e (hno i (by omega))
          · rw [va_up_ne _ _ (by omega), va_up_ne _ _ (by omega)] at e
            refine e7 i j (by omega) (by omega) ?_
            rw [Nat.mul_zero, Nat.zero_add]
            exact e
      · match i, he with
        | 0, he =>
          have he' : (A, key, B) = e := by simpa using he
          subst he'
          rw [List.length_cons, show L.length + 1 - 1 - 0 = L.length by omega, m9, Nat.mul_zero, Nat.zero_add, va_up_self]
          refine ⟨by rw [a1]; exact hk, kBn, kBo, u, kB, ?_, o, Nat.le_refl o, hus⟩
          rw [ec, m4]
          exact vk hu
        | i + 1, he =>
          have he' : L[i]? = some e := by simpa using he
          have hi := yy_lt_of_get he'
          obtain ⟨f1, f2, f3, v, f4, f5, f6⟩ := e8 i e he'
          rw [List.length_cons, show L.length + 1 - 1 - (i + 1) = L.length - 1 - i by omega, m9, Nat.mul_zero, Nat.zero_add, va_up_ne _ _ (by omega)]
          rw [Nat.mul_zero, Nat.zero_add] at f1
          refine ⟨by rw [a1]; exact f1, by omega, (a5 _ f2).trans f3, v, (kS _ f2).trans f4, ?_, f6⟩
          rw [ec, m3 _ (by omega)]
          rw [ec] at f5
          exact vk f5
    · have hb' : b' ≠ b := by
        intro y
        rw [y, hv] at e2
        have := congrArg (fun z => z.1) (Option.some.inj e2)
        dsimp only at this
        have h7 := q5.1.2
        exact z ((yy_nI_inj (by omega) (by omega)).mp this).symm
      have nw : ∀ i, i < L'.length → yy_bs d' + i ≠ yy_bs d + L.length := fun i hi e => z (yy_bs_inj (hroom i hi) hroomd e).1
      refine ⟨b', r', f', L', by rw [hR]; exact e1, kD b' _ (hL0.d e2) hb' e2, e3, by rw [m5 8 (by decide) (by decide)]; exact e4, ?_, yy_CH_cong hov e6, fun i j hi hj e => ?_, fun i e he => ?_⟩
      · rw [m8, Nat.mul_zero, Nat.zero_add, va_up_ne _ _ z]
        rw [Nat.mul_zero, Nat.zero_add] at e5
        exact e5
      · refine e7 i j hi hj ?_
        rw [m9, Nat.mul_zero, Nat.zero_add, va_up_ne _ _ (nw i hi), va_up_ne _ _ (nw j hj)] at e
        rw [Nat.mul_zero, Nat.zero_add]
        exact e
      · have hi := yy_lt_of_get he
        obtain ⟨f1, f2, f3, v, f4, f5, f6⟩ := e8 i e he
        rw [m9, Nat.mul_zero, Nat.zero_add, va_up_ne _ _ (nw _ (by omega))]
        rw [Nat.mul_zero, Nat.zero_add] at f1
        refine ⟨by rw [a1]; exact f1, by omega, (a5 _ f2).trans f3, v, (kS _ f2).trans f4, ?_, f6⟩
        have := nw (L'.length - 1 - i) (by omega)
        rw [ec, m3 _ (by omega)]
        rw [ec] at f5
        exact vk f5
  · obtain ⟨n', h1, h2, h3⟩ := q6
    refine ⟨n', h1, by rw [m1]; exact h2, fun i hi => ?_⟩
    obtain ⟨d, a, e1, e2, e3, e4⟩ := h3 i hi
    exact ⟨d, a, e1, by rw [m5 9 (by decide) (by decide)]; exact e2, by rw [hR]; exact e3, by rw [hR]; exact e4⟩
  · unfold yy_RTb at *
    rw [m5 42 (by decide) (by decide), m6 43 (by decide) (by decide), m6 44 (by decide) (by decide)]
    exact q7
  · rw [kC] at hj
    obtain ⟨a, v, p1, p2, p3⟩ := q8.1 j hj
    have ha := hL0.s p2
    exact ⟨a, v, by rw [hR]; exact p1, (kS a ha).trans p2, (a5 a ha).trans p3⟩
  · obtain ⟨n', h1, h2, h3⟩ := q12
    refine ⟨n', h1, by rw [m1]; exact h2, fun i hi => ?_⟩
    rw [hD, hD, hA, m7 38 (by decide), m7 39 (by decide), m5 40 (by decide) (by decide)]
    exact h3 i hi
  · obtain ⟨g0, C, R, h1, h2, h3, h4, h5⟩ := q13
    refine ⟨by rw [m2]; exact g0, C, R, h1, by rw [m1]; exact h2, by rw [m1]; exact h3, fun r x hr hx => ?_, fun r x hr hx hn => by rw [m5 36 (by decide) (by decide)]; exact h5 r x hr hx hn⟩
    rw [hA, m5 36 (by decide) (by decide)]
    exact h4 r x hr hx
  · obtain ⟨n', h1, h2, h3, h4⟩ := q14
    refine ⟨n', h1, by rw [m1]; exact h2, by rw [hcb]; exact h3, fun j hj => ?_⟩
    rw [hA, m5 23 (by decide) (by decide)]
    exact h4 j hj
