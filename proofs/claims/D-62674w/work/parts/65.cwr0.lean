/-! a slot of a cell or an entry is written -/
def yy_HOME (g : yy_GT) (c : yy_CT) (t nd a p0 : Nat) : Prop := (∃ i, i < t ∧ yy_cR 270 c i = some a ∧ yy_gow g a = (1, i) ∧ p0 = 50 + i) ∨
  ∃ (d i b : Nat) (v : yy_DV) (L : List (Nat × Nat × Nat)) (e : Nat × Nat × Nat), d < nd ∧ yy_cR 273 c d = some b ∧ yy_dcv c b = some v ∧ yy_CH c v.2.2.2 L ∧ L[i]? = some e ∧ e.2.2 = a ∧ yy_gow g a = (3, yy_bs d + (L.length - 1 - i)) ∧ p0 = 250 + (yy_bs d + (L.length - 1 - i)) ∧ L.length ≤ (if d = 0 then 20 else 10)
theorem yy_bs_inj {d j e k : Nat} (hj : j < (if d = 0 then 20 else 10)) (hk : k < (if e = 0 then 20 else 10)) (h : yy_bs d + j = yy_bs e + k) : d = e ∧ j = k := by
  unfold yy_bs at h
  by_cases d0 : d = 0
  · rw [if_pos d0] at *
    by_cases e0 : e = 0
    · rw [if_pos e0] at *
      omega
    · rw [if_neg e0] at *
      omega
  · rw [if_neg d0] at *
    by_cases e0 : e = 0
    · rw [if_pos e0] at *
      omega
    · rw [if_neg e0] at *
      omega
theorem yy_lt_of_get {α : Type} {L : List α} {i : Nat} {e : α} (h : L[i]? = some e) : i < L.length := by
  rcases Nat.lt_or_ge i L.length with z | z
  · exact z
  · rw [List.getElem?_eq_none z] at h
    cases h
theorem yy_RR_wr {g g' : yy_GT} {m m' : Nat} {c c' : yy_CT} {s : MT} {t nd o n a p0 x : Nat} {w : yy_SV} {q : Int32 × Int64 × UInt64} (h : yy_RR g m c s t nd o n) (hh : yy_HOME g c t nd a p0) (hw : yy_VR g c s t nd o w q) (hx : x ≤ o) (hs : w.2.2.2.2.1 = nI x)
    (k : yy_KY t a p0 g c s g' c' (yy_sP p0 q s)) (ko : yy_KO t g g' c) (ka : yy_slv c' a = some w) (hF : yy_FRc c') (hL : yy_LOW c') (hM : yy_RMc c' (m' + (41 - yy_ghS g') + (160 - yy_ghC g') + (120 - yy_ghD g'))) (hall : ∀ b, b < yy_cn c → yy_gow g' b = yy_gow g b ∧ (b ≠ a → yy_slv c' b = yy_slv c b))
    (hI : ∀ k, yy_cI k c' = yy_cI k c) (hg : yy_cg c' = yy_cg c) (hR : ∀ k, yy_cR k c' = yy_cR k c) (hA : ∀ k, yy_cA k c' = yy_cA k c) (hD : ∀ k, yy_cD k c' = yy_cD k c) (hb : yy_cb c' = yy_cb c) (kh : yy_ghS g' = yy_ghS g) (kC : yy_ghC g' = yy_ghC g) (hlen : (yy_gsv g').length = o)
    (hRS : ∀ sn, yy_RSv g c s (yy_slv c) (yy_dcv c) (yy_cl c) t nd (sn + 1) (yy_gsv g) → yy_RSv g' c' (yy_sP p0 q s) (yy_slv c') (yy_dcv c') (yy_cl c') t nd (sn + 1) (yy_gsv g')) : yy_RR g' m' c' (yy_sP p0 q s) t nd o n := by
  obtain ⟨q1, q2, q3, q4, q5, q6, q7, q8, ⟨sn, q9, q10, q11⟩, q12, q13, q14, q15⟩ := h.2.2.2
  have hL0 := h.1.2.1
  have kk := k
  obtain ⟨⟨a1, a2, a4, a5⟩, ⟨b1, b3⟩, kS, kD, kO, ⟨kR, kR2⟩, kp, kmA, kmL⟩ := kk
  have hov : ∀ a v, yy_ov c a = some v → yy_ov c' a = some v := fun a v e => kO a v (hL0.o e) e
  have k0 : ∀ b, b < yy_cn c → (yy_gow g b).1 = 0 → yy_slv c' b = yy_slv c b ∧ yy_gow g' b = yy_gow g b := fun b hb e => ⟨(hall b hb).2 (fun z => by rw [z] at e; rw [e] at a4; rcases a4 with y | y <;> cases y), (hall b hb).1⟩
  have p50 : 50 ≤ p0 := by
    rcases hh with ⟨i, _, _, _, e⟩ | ⟨d, i, b, v, L, e, _, _, _, _, _, _, _, e', _⟩ <;> omega
  have hpn : ∀ p, p ≠ p0 → yy_pl (yy_sP p0 q s) p = yy_pl s p := fun p hp => by rw [yy_pl_sP, if_neg hp]
  have vk : ∀ {v : yy_SV} {r : Int32 × Int64 × UInt64}, yy_VR g c s t nd o v r → yy_VR g' c' (yy_sP p0 q s) t nd o v r := fun hv => yy_VR_cong (by rw [a1]; exact fun _ h => h) (fun n _ => by rw [kR 273 (by decide)]) (kmA 14 (by decide)) hv
  have st : yy_RSt g' c' (yy_sP p0 q s) t nd o n := by
    obtain ⟨⟨h1, h2, h3⟩, h4, h5, h6⟩ := h.2.2.1
    refine ⟨⟨by rw [kh]; exact h1, h2, by rw [kh]; exact h3⟩, fun i hi => ?_, fun i hi hi2 => ?_, fun i hi => ?_⟩
    · rw [kh] at hi
      obtain ⟨a, v, e1, e2, e3, e4⟩ := h4 i hi
      have z := k0 a e4 (by rw [e3])
      exact ⟨a, v, by rw [hR]; exact e1, z.1.trans e2, z.2.trans e3, by omega⟩
    · rw [kh] at hi
      rw [hR]
      exact h5 i hi hi2
    · obtain ⟨a, v, e1, e2, e3⟩ := h6 i hi
      obtain ⟨b, u, f1, f2, f3, f4⟩ := h4 i (by omega)
      rw [e1] at f1
      cases f1
      have z := k0 a f4 (by rw [f3])
      refine ⟨a, v, by rw [hR]; exact e1, z.1.trans e2, ?_⟩
      rw [hpn i (by omega)]
      exact vk e3
  refine ⟨⟨hF, hL, hM⟩, ⟨h.2.1.1, ?_⟩, st, ⟨by rw [kC]; exact q1.1, q1.2⟩, by rw [hI]; exact q2, ⟨⟨q3.1.1, hlen⟩, q3.2⟩, ⟨by rw [kC]; exact q4.1, fun j hj => ?_⟩, ⟨q5.1, q5.2.1, fun d hd => ?_⟩, ?_, q7, ⟨fun j hj => ?_, fun j hj hj2 => by rw [hR]; exact q8.2 j (by rw [kC] at hj; exact hj) hj2⟩, ⟨sn, q9, by omega, hRS sn q11⟩, ?_, ?_, ?_, yy_RNm_KY hL0 k rfl q15⟩
  · obtain ⟨e1, e2, e3, e4, e5, e6, e7, e8, e10, e11, e12, e13, e14⟩ := h.2.1.2
    refine ⟨?_, ?_, ?_, ?_, ?_, ?_, ?_, ?_, ?_, ?_, ?_, ?_, by rw [hg]; exact e14⟩
    all_goals rw [hI]
    all_goals assumption
  · obtain ⟨b, u, p1, p2, p3, p4, p5, p6⟩ := q4.2 j hj
    have ec : yy_cpl 0 j = 50 + j := if_pos rfl
    have nf : ¬ yy_fre t (yy_gow g b) := by rw [p4]; exact yy_fre1 hj
    by_cases e : b = a
    · subst e
      have ep : p0 = 50 + j := by
        rcases hh with ⟨i, _, _, h3, h4⟩ | ⟨d, i, b', v, L, e, _, _, _, _, _, _, h7, _⟩
        · rw [p4] at h3
          cases h3
          exact h4
        · rw [p4] at h7
          cases h7
      refine ⟨b, w, by rw [hR]; exact p1, by omega, ka, (a5 b p2 nf).trans p4, ?_, x, hx, hs⟩
      rw [ec, ← ep, yy_pl_sP, if_pos rfl]
      exact vk hw
    · have ep : 50 + j ≠ p0 := by
        rcases hh with ⟨i, h1, h2, h3, h4⟩ | ⟨d, i, b', v, L, e, _, _, _, _, _, _, _, h8, _⟩
        · intro z
          have : i = j := by omega
          subst this
          rw [h2] at p1
          cases p1
          exact e rfl
        · have := q1.1.1
          omega
      refine ⟨b, u, by rw [hR]; exact p1, by omega, (kS b p2 nf e).trans p3, (a5 b p2 nf).trans p4, ?_, p6⟩
      rw [ec, hpn _ ep]
      rw [ec] at p5
      exact vk p5
  · obtain ⟨b, r, f, L, e1, e2, e3, e4, e5, e6, e7, e8⟩ := q5.2.2 d hd
    refine ⟨b, r, f, L, by rw [hR]; exact e1, kD b _ (hL0.d e2) e2, e3, e4, e5, yy_CH_cong hov e6, e7, fun i e he => ?_⟩
    obtain ⟨f1, f2, f3, u, f4, f5, f6⟩ := e8 i e he
    have hi := yy_lt_of_get he
    have ec : yy_cpl 0 (200 + yy_bs d + (L.length - 1 - i)) = 250 + (yy_bs d + (L.length - 1 - i)) := by
      unfold yy_cpl
      rw [if_pos rfl]
      omega
    have hr2 : L.length - 1 - i < (if d = 0 then 20 else 10) := by
      have := e3.2.1
      have := e3.2.2
      omega
    have nf : ¬ yy_fre t (yy_gow g e.2.2) := by rw [f3]; exact yy_fre3
    by_cases z : e.2.2 = a
    · have ep : p0 = 250 + (yy_bs d + (L.length - 1 - i)) := by
        rw [z] at f3
        rcases hh with ⟨i, _, _, h3, h4⟩ | ⟨d', i', b', v', L', e', _, _, _, _, _, _, h7, h8, _⟩
        · rw [f3] at h3
          cases h3
        · rw [f3] at h7
          have := congrArg Prod.snd h7
          dsimp only at this
          omega
      refine ⟨by rw [a1]; exact f1, by omega, (a5 _ f2 nf).trans f3, w, by rw [z]; exact ka, ?_, x, hx, hs⟩
      rw [ec, ← ep, yy_pl_sP, if_pos rfl]
      exact vk hw
    · have ep : 250 + (yy_bs d + (L.length - 1 - i)) ≠ p0 := by
        intro y
        rcases hh with ⟨i', h1, h2, h3, h4⟩ | ⟨d', i', b', v', L', e', h1, h2, h3, h4, h5, h6, h7, h8, h9⟩
        · have := q1.1.1
          omega
        · have hi' := yy_lt_of_get h5
          obtain ⟨z1, z2⟩ := yy_bs_inj hr2 (show L'.length - 1 - i' < (if d' = 0 then 20 else 10) by omega) (by omega)
          subst z1
          rw [e1] at h2
          cases h2
          rw [e2] at h3
          cases h3
          have := yy_CH_inj e6 h4
          subst this
          have : i = i' := by omega
          subst this
          rw [he] at h5
          cases h5
          exact z h6
      refine ⟨by rw [a1]; exact f1, by omega, (a5 _ f2 nf).trans f3, u, (kS _ f2 nf z).trans f4, ?_, f6⟩
      rw [ec, hpn _ ep]
      rw [ec] at f5
      exact vk f5
  · obtain ⟨n', h1, h2, h3⟩ := q6
    refine ⟨n', h1, h2, fun i hi => ?_⟩
    obtain ⟨d, a, e1, e2, e3, e4⟩ := h3 i hi
    exact ⟨d, a, e1, e2, by rw [hR]; exact e3, by rw [hR]; exact e4⟩
  · rw [kC] at hj
    obtain ⟨b, u, p1, p2, p3⟩ := q8.1 j hj
    have hb2 := hL0.s p2
    by_cases e : b = a
    · subst e
      refine ⟨b, w, by rw [hR]; exact p1, ka, ?_⟩
      rcases hh with ⟨i, h1, h2, h3, h4⟩ | ⟨d', i', b', v', L', e', h1, h2, h3, h4, h5, h6, h7, h8, h9⟩
      · have : j = i := by
          rw [p3] at h3
          cases h3
          rfl
        exact (a5 b hb2 (by rw [p3]; exact yy_fre1 (by omega))).trans p3
      · rw [p3] at h7
        cases h7
    · exact ⟨b, u, by rw [hR]; exact p1, ((hall b hb2).2 e).trans p2, (hall b hb2).1.trans p3⟩
  · obtain ⟨n', h1, h2, h3⟩ := q12
    refine ⟨n', h1, h2, fun i hi => ?_⟩
    rw [hD, hD, hA]
    exact h3 i hi
  · obtain ⟨g0, C, R, h1, h2, h3, h4, h5⟩ := q13
    refine ⟨g0, C, R, h1, h2, h3, fun r x hr hx => ?_, h5⟩
    rw [hA]
    exact h4 r x hr hx
  · obtain ⟨n', h1, h2, h3, h4⟩ := q14
    refine ⟨n', h1, h2, by rw [hb]; exact h3, fun j hj => ?_⟩
    rw [hA]
    exact h4 j hj

theorem yy_HOME.tag {g : yy_GT} {c : yy_CT} {t nd a p0 : Nat} (h : yy_HOME g c t nd a p0) : (yy_gow g a).1 = 1 ∨ (yy_gow g a).1 = 3 := by
  rcases h with ⟨i, _, _, h3, _⟩ | ⟨d', i', b', v', L', e', h1, h2, h3, h4, h5, h6, h7, h8, h9⟩
  · exact Or.inl (by rw [h3])
  · exact Or.inr (by rw [h7])
theorem yy_HOME.lt {g : yy_GT} {c : yy_CT} {t nd a p0 : Nat} (h : yy_HOME g c t nd a p0) (ht : t ≤ 160) (hn : nd ≤ 7) : 50 ≤ p0 ∧ p0 < 330 := by
  rcases h with ⟨i, _, _, h3, _⟩ | ⟨d', i', b', v', L', e', h1, h2, h3, h4, h5, h6, h7, h8, h9⟩
  · omega
  · have := yy_bs_le (l := L'.length) h1 hn h9 (Nat.le_refl _)
    have := yy_lt_of_get h5
    omega
theorem yy_HOME.nf {g : yy_GT} {c : yy_CT} {t nd a p0 : Nat} (h : yy_HOME g c t nd a p0) : ¬ yy_fre t (yy_gow g a) := by
  rcases h with ⟨i, h1, _, h3, _⟩ | ⟨d', i', b', v', L', e', h1, h2, h3, h4, h5, h6, h7, h8, h9⟩
  · rw [h3]
    exact yy_fre1 h1
  · rw [h7]
    exact yy_fre3
theorem yy_KY_tS {g : yy_GT} {c : yy_CT} {s : MT} {t nd a p0 : Nat} {v w : yy_SV} {q : Int32 × Int64 × UInt64} (hh : yy_HOME g c t nd a p0) (hp : 50 ≤ p0 ∧ p0 < 330) (hv : yy_slv c a = some v) : yy_KY t a p0 g c s g (yy_tS a (some w) c) (yy_sP p0 q s) := by
  refine ⟨⟨rfl, Nat.le_refl _, hh.tag, fun _ _ _ => rfl⟩, ⟨Nat.le_refl _, hp.2⟩, fun b _ _ hb => yy_slv_tS_ne hb, fun b x _ e => by rw [yy_dcv_tS hv]; exact e, fun b x _ e => by rw [yy_ov_tS hv]; exact e, ⟨fun _ _ => rfl, fun _ _ => rfl⟩, fun p _ _ _ hp => by rw [yy_pl_sP, if_neg hp], fun k hk => va_up_ne _ _ (by omega), fun k hk => va_up_ne _ _ (by omega)⟩
/-- the write of a slot that is logged already, or new: no change is noted -/
theorem yy_RR_wr0 {g : yy_GT} {m : Nat} {c : yy_CT} {s : MT} {t nd o n a p0 : Nat} {v w : yy_SV} {q : Int32 × Int64 × UInt64} (h : yy_RR g m c s t nd o n) (hh : yy_HOME g c t nd a p0) (hv : yy_slv c a = some v) (hw : yy_VR g c s t nd o w q) (hs : v.2.2.2.2.1 = nI o) (hs2 : w.2.2.2.2.1 = nI o) : yy_RR g m (yy_tS a (some w) c) (yy_sP p0 q s) t nd o n := by
  have ht := h.tk.1
  have hp := hh.lt ht h.di.1.2
  have k := yy_KY_tS (s := s) (w := w) (q := q) hh hp hv
  refine yy_RR_wr h hh hw (Nat.le_refl o) hs2 k (fun _ _ h => h) (yy_slv_tS hv) h.1.1 (h.1.2.1.tS hv w) h.1.2.2 (fun b hb => ⟨rfl, fun e => yy_slv_tS_ne e⟩) (fun _ => rfl) rfl (fun _ => rfl) (fun _ => rfl) (fun _ => rfl) rfl rfl rfl h.2.2.2.2.2.1.1.2 (fun sn hS => ?_)
  have hlen := h.2.2.2.2.2.1.1
  have hL0 := h.1.2.1
  cases hE : yy_gsv g with
  | nil => trivial
  | cons e E =>
    rw [hE] at hS hlen
    have ho : E.length + 1 = o := by
      rw [← hlen.2]
      rfl
    obtain ⟨x, q1, t1, mk, h1, h2, h3, h4, h5, h6, h7, h8, h9, h10, h11, h12, h13, h14⟩ := hS
    have rel : ∀ b, yy_REL (yy_tS a (some w) c) e.2.1 t1 e.2.2.2 b → yy_REL c e.2.1 t1 e.2.2.2 b := fun b hb => yy_REL_KY hL0 k h13 h12.1 hb
    refine ⟨x, q1, t1, mk, h1, k.2.2.2.2.1 _ _ (hL0.o h2) h2, h3, h4, h5, h6, h7, yy_LG_KY hL0 k (fun _ _ h => h) h8, fun b hb => ?_, fun d b hd hb => ?_, fun b v' hb hv' hq => ?_, yy_RCe_KY k (fun _ _ _ _ z => z) (by omega) (by omega) (by omega) (by omega) h12, yy_RDi_KY hL0 k (fun _ _ _ _ z => z) (fun _ _ z => z) (by omega) (by omega) h13, yy_RSv_KY hL0 k (fun _ _ h => h) (by omega) (by omega) (by omega) (fun _ _ _ _ z => z) (fun _ _ _ z => z) (fun _ _ z => z) h14⟩
    · have hb' := rel b hb
      by_cases z : b = a
      · subst z
        have hl := h11 b v hb' hv (by rw [ho]; exact hs)
        rw [h9 b hb']
        obtain ⟨y, hy⟩ := Option.isSome_iff_exists.mp hl
        rw [hy]
        rfl
      · rw [yy_slv_tS_ne z]
        exact h9 b hb'
    · obtain ⟨v', g1, g2, g3⟩ := h10 d b hd hb
      exact ⟨v', by rw [yy_dcv_tS hv]; exact g1, yy_FO_KY hL0 k g2, g3⟩
    · have hb' := rel b hb
      by_cases z : b = a
      · subst z
        exact h11 b v hb' hv (by rw [ho]; exact hs)
      · rw [yy_slv_tS_ne z] at hv'
        exact h11 b v' hb' hv' hq
