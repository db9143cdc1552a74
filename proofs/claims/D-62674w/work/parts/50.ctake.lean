/-! taking cells -/
theorem yy_KC_tS {lo : Nat} {g : yy_GT} {c : yy_CT} {s : MT} {a i : Nat} {v : yy_SV} (e : yy_slv c a = some v) (ho : yy_gow g a = (1, i)) (hi : lo ≤ i) (w : yy_SV) : yy_KC lo g c s g (yy_tS a (some w) c) s := by
  have key : ∀ b, ¬ (yy_gow g b = (1, i)) → yy_slv (yy_tS a (some w) c) b = yy_slv c b := fun b hb => yy_slv_tS_ne (fun z => hb (by rw [z]; exact ho))
  refine ⟨⟨⟨rfl, Nat.le_refl _, rfl, rfl, fun _ _ _ => rfl⟩, ⟨Nat.le_refl _, rfl, rfl, rfl⟩, fun b hb hg => key b (fun z => hg (by rw [z]; exact Or.inr ⟨rfl, hi⟩)), fun b x hb q => by rw [yy_dcv_tS e]; exact q, fun b x hb q => by rw [yy_ov_tS e]; exact q, ⟨fun _ _ _ => rfl, fun _ _ => rfl⟩, fun _ => rfl, fun _ => rfl, fun _ _ _ _ _ => rfl, fun _ _ _ _ => rfl, fun _ _ => rfl, fun _ _ => rfl, fun _ _ => rfl, fun _ _ _ => rfl, rfl⟩, fun _ _ h => h, fun b hb hg => ⟨key b (fun z => by rw [z] at hg; cases hg), rfl⟩, rfl, rfl, rfl, rfl, fun _ _ => rfl, rfl⟩
def yy_gnC (i : Nat) (a : Nat) (g : yy_GT) : yy_GT := (va_up g.1 a (1, i), g.2.1, g.2.2.1, i + 1, g.2.2.2.2)
def yy_nwC (i : Nat) (c : yy_CT) : yy_CT := yy_tR 270 (va_up (yy_cR 270 c) i (some (yy_cn c))) (yy_nwS yy_dfS c)
theorem yy_KC_nwC {lo : Nat} {g : yy_GT} {c : yy_CT} {s : MT} : yy_KC lo g c s (yy_gnC (yy_ghC g) (yy_cn c) g) (yy_nwC (yy_ghC g) c) s := by
  have hg : ∀ a, a < yy_cn c → yy_gow (yy_gnC (yy_ghC g) (yy_cn c) g) a = yy_gow g a := fun a h => va_up_ne _ _ (by omega)
  have hs : ∀ a, a < yy_cn c → yy_slv (yy_nwC (yy_ghC g) c) a = yy_slv c a := fun a h => yy_slv_nwS_ne (c := c) (v := yy_dfS) (by omega)
  refine ⟨⟨⟨rfl, Nat.le_succ _, rfl, rfl, fun a h _ => hg a h⟩, ⟨Nat.le_succ _, rfl, rfl, rfl⟩, fun a h _ => hs a h, fun a v ha e => ?_, fun a v ha e => ?_, ⟨fun k _ hk => ?_, fun i hi => ?_⟩, fun _ => rfl, fun _ => rfl, fun _ _ _ _ _ => rfl, fun _ _ _ _ => rfl, fun _ _ => rfl, fun _ _ => rfl, fun _ _ => rfl, fun _ _ _ => rfl, rfl⟩, fun a ha e => by rw [hg a ha]; exact e, fun a ha _ => ⟨hs a ha, hg a ha⟩, rfl, rfl, rfl, rfl, fun _ _ => rfl, rfl⟩
  · exact (yy_dcv_nwS_ne (c := c) (v := yy_dfS) (by omega)).trans e
  · exact (yy_ov_nwS_ne (c := c) (v := yy_dfS) (by omega)).trans e
  · show yy_cR k (yy_tR 270 _ _) = _
    rw [yy_cR_tR, if_neg hk]
    rfl
  · show va_up (yy_cR 270 c) (yy_ghC g) (some (yy_cn c)) i = _
    exact va_up_ne _ _ (by omega)
theorem yy_KC_10 {lo : Nat} (g : yy_GT) (c : yy_CT) (s : MT) (x y : Int32) : yy_KC lo g c s g (yy_tI 10 x c) (sI 5 y s) :=
  ⟨⟨⟨rfl, Nat.le_refl _, rfl, rfl, fun _ _ _ => rfl⟩, ⟨Nat.le_refl _, rfl, rfl, rfl⟩, fun _ _ _ => rfl, fun _ _ _ h => h, fun _ _ _ h => h, ⟨fun _ _ _ => rfl, fun _ _ => rfl⟩, fun _ => rfl, fun _ => rfl, fun k _ _ _ h => by rw [yy_cI_tI, if_neg h], fun _ _ _ _ => rfl, fun _ _ => rfl, fun _ _ => rfl, fun _ _ => rfl, fun k _ h => by rw [yy_mI_sI, if_neg h], rfl⟩, fun _ _ h => h, fun _ _ _ => ⟨rfl, rfl⟩, rfl, rfl, rfl, rfl, fun _ _ => rfl, rfl⟩
theorem yy_KC_sP {lo : Nat} (g : yy_GT) (c : yy_CT) (s : MT) {p : Nat} (q : Int32 × Int64 × UInt64) (h1 : 50 + lo ≤ p) (h2 : p < 210) : yy_KC lo g c s g c (yy_sP p q s) := by
  refine ⟨⟨⟨rfl, Nat.le_refl _, rfl, rfl, fun _ _ _ => rfl⟩, ⟨Nat.le_refl _, rfl, rfl, rfl⟩, fun _ _ _ => rfl, fun _ _ _ h => h, fun _ _ _ h => h, ⟨fun _ _ _ => rfl, fun _ _ => rfl⟩, fun _ => rfl, fun _ => rfl, fun _ _ _ _ _ => rfl, fun r _ _ h3 => by rw [yy_pl_sP, if_neg (fun z => h3 (by omega))], fun k h => ?_, fun k h => ?_, fun k h => ?_, fun _ _ _ => rfl, rfl⟩, fun _ _ h => h, fun _ _ _ => ⟨rfl, rfl⟩, rfl, rfl, rfl, rfl, fun r hr => by rw [yy_pl_sP, if_neg (by omega)], rfl⟩
  · exact va_up_ne _ _ h
  · exact va_up_ne _ _ h
  · exact va_up_ne _ _ h
/-- what stands while cells are taken -/
def yy_TK (g : yy_GT) (m : Nat) (c : yy_CT) : Prop :=
  (yy_FRc c ∧ yy_LOW c ∧ yy_RMc c (m + (41 - yy_ghS g) + (160 - yy_ghC g) + (120 - yy_ghD g))) ∧ yy_ghC g ≤ 160 ∧ (∀ i, i < yy_ghC g → ∃ a v, yy_cR 270 c i = some a ∧ yy_slv c a = some v ∧ yy_gow g a = (1, i)) ∧ ∀ i, yy_ghC g ≤ i → i < 160 → yy_cR 270 c i = none
theorem yy_TK.tS {g : yy_GT} {m : Nat} {c : yy_CT} {a : Nat} {v : yy_SV} (h : yy_TK g m c) (e : yy_slv c a = some v) (w : yy_SV) : yy_TK g m (yy_tS a (some w) c) := by
  obtain ⟨⟨h1, h2, h3⟩, h4, h5, h6⟩ := h
  refine ⟨⟨h1, h2.tS e w, h3⟩, h4, fun i hi => ?_, h6⟩
  obtain ⟨b, x, q1, q2, q3⟩ := h5 i hi
  by_cases z : b = a
  · subst z
    exact ⟨b, w, q1, yy_slv_tS e, q3⟩
  · exact ⟨b, x, q1, by rw [yy_slv_tS_ne z]; exact q2, q3⟩
theorem yy_TK.new {g : yy_GT} {m : Nat} {c : yy_CT} (h : yy_TK g m c) (hx : yy_ghC g < 160) : yy_TK (yy_gnC (yy_ghC g) (yy_cn c) g) m (yy_nwC (yy_ghC g) c) ∧ yy_slv (yy_nwC (yy_ghC g) c) (yy_cn c) = some yy_dfS := by
  obtain ⟨⟨h1, h2, h3⟩, h4, h5, h6⟩ := h
  have hM : yy_RMc c ((m + (41 - yy_ghS g) + (160 - (yy_ghC g + 1)) + (120 - yy_ghD g)) + 1) := h3.le (by omega)
  have hs : yy_slv (yy_nwC (yy_ghC g) c) (yy_cn c) = some yy_dfS := yy_slv_nwS h1 yy_dfS
  refine ⟨⟨⟨yy_FRc.nwS (c := c) h1 yy_dfS, yy_LOW.nwS (c := c) h2 yy_dfS, yy_RMc.nwS (c := c) hM yy_dfS⟩, by show yy_ghC g + 1 ≤ 160; omega, fun i hi => ?_, fun i hi hi2 => ?_⟩, hs⟩
  · have hi' : i < yy_ghC g + 1 := hi
    by_cases z : i = yy_ghC g
    · exact ⟨yy_cn c, yy_dfS, by rw [z]; exact va_up_self _ _ _, hs, by rw [z]; exact va_up_self _ _ _⟩
    · obtain ⟨b, x, q1, q2, q3⟩ := h5 i (by omega)
      have hb := h2.s q2
      exact ⟨b, x, (va_up_ne _ _ z).trans q1, (yy_slv_nwS_ne (c := c) (v := yy_dfS) (by omega)).trans q2, (va_up_ne _ _ (by omega)).trans q3⟩
  · have hi' : yy_ghC g + 1 ≤ i := hi
    exact (va_up_ne _ _ (by omega)).trans (h6 i (by omega) hi2)
/-- a cell that was taken: an int, and stamped -/
def yy_ZC (o : Nat) (v : yy_SV) : Prop := ∃ d nm di, v = (some 72, 0, 0, 0, nI o, d, nm, di)
theorem yy_take_step {sc : xSc} {g : yy_GT} {m : Nat} {c : yy_CT} {s : MT} {lo x o f : Nat} (h : yy_TK g m c) (hx : x < 160) (hlo : lo ≤ x) (hg : x ≤ yy_ghC g) (ho : yy_cI 26 c = nI o) (l1 : Int32) (ht : ¬ (yy_cI 10 c + l1) ≤ nI x) :
    ∃ g' c' a v, f_P_take_b28 sc (f + 1) (some 256) l1 (nI x) (yy_cH c) = f_P_take_b28 sc f (some 256) l1 (nI (x + 1)) (yy_cH c') ∧ yy_TK g' m c' ∧ yy_KC lo g c s g' c' s ∧ x < yy_ghC g' ∧ yy_cI 26 c' = nI o ∧ yy_cI 10 c' = yy_cI 10 c ∧ yy_cR 270 c' x = some a ∧ yy_slv c' a = some v ∧ yy_gow g' a = (1, x) ∧ yy_ZC o v ∧ (∀ i b w, i < x → yy_cR 270 c i = some b → yy_slv c b = some w → yy_gow g b = (1, i) → yy_cR 270 c' i = some b ∧ yy_slv c' b = some w ∧ yy_gow g' b = (1, i)) := by
  have b60 : ∀ (g1 : yy_GT) (c1 : yy_CT) (a : Nat) (v : yy_SV), yy_cR 270 c1 x = some a → yy_slv c1 a = some v → yy_cI 26 c1 = nI o → f_P_take_b60 sc (f_P_take_b28 sc f) (some 256) l1 (nI x) (yy_cH c1) = f_P_take_b28 sc f (some 256) l1 (nI (x + 1)) (yy_cH (yy_tS a (some (some 72, 0, 0, 0, nI o, v.2.2.2.2.2)) c1)) := fun g1 c1 a v q1 q2 q3 => by
    unfold f_P_take_b60
    rw [yy_cgR_7, Option.bind_some, yy_caR_270 hx, Option.bind_some, q1, if_pos (yy_sgis q2), yy_e_set q2 _ _ _ _ rfl, Option.bind_some, yy_cgR_7, Option.bind_some, yy_caR_270 hx, Option.bind_some, yy_cR_tS, q1, yy_cgI_26, Option.bind_some, yy_cI_tS, q3, yy_sp4 (yy_slv_tS q2), yy_tS_tS, Option.bind_some]
    rw [show Int32.ofInt 1 = 1 from rfl, yy_nI_add1]
  have hb : f_P_take_b28 sc (f + 1) (some 256) l1 (nI x) (yy_cH c) = (if yy_cR 270 c x = none then (nO 2 8 8 (yy_cH c)).bind fun u17 => (if (some (yy_cH c).2.1).isSome = true then (f_Slot_init sc u17 (some (yy_cH c).2.1)).bind fun u20 => (bR "PageScribe$Slot" 2 sc u20 (some 270) (nI x) (some (yy_cH c).2.1)).bind fun u22 => f_P_take_b60 sc (f_P_take_b28 sc f) (some 256) l1 (nI x) u22 else none) else f_P_take_b60 sc (f_P_take_b28 sc f) (some 256) l1 (nI x) (yy_cH c)) := by
    show ((gI sc (yy_cH c) 0 10 (some 256)).bind _) = _
    rw [yy_cgI_10, Option.bind_some, if_neg ht, yy_cgR_7, Option.bind_some, yy_caR_270 hx, Option.bind_some]
    rfl
  rcases Nat.lt_or_ge x (yy_ghC g) with hc | hc
  · obtain ⟨a, v, q1, q2, q3⟩ := h.2.2.1 x hc
    refine ⟨g, yy_tS a (some (some 72, 0, 0, 0, nI o, v.2.2.2.2.2)) c, a, (some 72, 0, 0, 0, nI o, v.2.2.2.2.2), ?_, h.tS q2 _, yy_KC_tS q2 q3 hlo _, hc, ho, rfl, q1, yy_slv_tS q2, q3, ⟨_, _, _, rfl⟩, fun i b w hi w1 w2 w3 => ⟨w1, ?_, w3⟩⟩
    · rw [hb, q1, if_neg (by simp), b60 g c a v q1 q2 ho]
    · rw [yy_slv_tS_ne]
      · exact w2
      · intro z
        rw [z, q3] at w3
        cases w3
        omega
  · have ex : x = yy_ghC g := by omega
    subst ex
    obtain ⟨t1, t2⟩ := h.new hx
    have hn := yy_e_newS (sc := sc) (c := c) (m := m + (41 - yy_ghS g) + (160 - (yy_ghC g + 1)) + (120 - yy_ghD g)) h.1.1 (h.1.2.2.le (by omega))
    have hr : yy_cR 270 (yy_nwC (yy_ghC g) c) (yy_ghC g) = some (yy_cn c) := va_up_self _ _ _
    have ho' : yy_gow (yy_gnC (yy_ghC g) (yy_cn c) g) (yy_cn c) = (1, yy_ghC g) := va_up_self _ _ _
    refine ⟨yy_gnC (yy_ghC g) (yy_cn c) g, yy_tS (yy_cn c) (some (some 72, 0, 0, 0, nI o, yy_dfS.2.2.2.2.2)) (yy_nwC (yy_ghC g) c), yy_cn c, (some 72, 0, 0, 0, nI o, yy_dfS.2.2.2.2.2), ?_, t1.tS t2 _, yy_KC_nwC.trans (yy_KC_tS t2 ho' hlo _), Nat.lt_succ_self _, ho, rfl, hr, yy_slv_tS t2, ho', ⟨_, _, _, rfl⟩, fun i b w hi w1 w2 w3 => ?_⟩
    · rw [hb, h.2.2.2 _ (Nat.le_refl _) hx, if_pos rfl]
      simp only [Option.isSome_some, ↓reduceIte, yy_cH_nx]
      rw [← Option.bind_assoc, hn, Option.bind_some, yy_cbR_270 hx (Or.inr (yy_sgis (yy_slv_nwS h.1.1 yy_dfS))), Option.bind_some]
      exact b60 g (yy_nwC (yy_ghC g) c) (yy_cn c) yy_dfS hr t2 ho
    · have hb' := h.1.2.1.s w2
      refine ⟨(va_up_ne _ _ (by omega)).trans w1, ?_, (va_up_ne _ _ (by omega)).trans w3⟩
      rw [yy_slv_tS_ne (by omega)]
      exact (yy_slv_nwS_ne (c := c) (v := yy_dfS) (by omega)).trans w2
theorem yy_take_loop {sc : xSc} {m lo o t k : Nat} {s : MT} (htk : t + k ≤ 160) (hlo : lo ≤ t) : ∀ (r : Nat) (j : Nat) (f : Nat) (g : yy_GT) (c : yy_CT), j + r = k → yy_TK g m c → t + j ≤ yy_ghC g → yy_cI 26 c = nI o → yy_cI 10 c = nI t →
    ∃ g' c', f_P_take_b28 sc (f + r + 1) (some 256) (nI k) (nI (t + j)) (yy_cH c) = some (.inl (nI t), yy_cH (yy_tI 10 (nI (t + k)) c')) ∧ yy_TK g' m c' ∧ yy_KC lo g c s g' c' s ∧ t + k ≤ yy_ghC g' ∧ yy_cI 26 c' = nI o ∧ (∀ i, t + j ≤ i → i < t + k → ∃ a v, yy_cR 270 c' i = some a ∧ yy_slv c' a = some v ∧ yy_gow g' a = (1, i) ∧ yy_ZC o v) ∧ (∀ i b w, i < t + j → yy_cR 270 c i = some b → yy_slv c b = some w → yy_gow g b = (1, i) → yy_cR 270 c' i = some b ∧ yy_slv c' b = some w ∧ yy_gow g' b = (1, i))
  | 0, j, f, g, c, hj, h, hg, ho, ht => by
    refine ⟨g, c, ?_, h, yy_KC.refl _ _ _ _, by omega, ho, fun i h1 h2 => by omega, fun i b w _ w1 w2 w3 => ⟨w1, w2, w3⟩⟩
    show ((gI sc (yy_cH c) 0 10 (some 256)).bind _) = _
    rw [yy_cgI_10, Option.bind_some, ht, yy_nI_add, if_pos (by rw [yy_nI_le (by omega) (by omega)]; omega), Option.bind_some, yy_nI_add, yy_cpI_10, Option.bind_some, yy_cgI_10, Option.bind_some, yy_cI_tI, if_pos rfl, yy_nI_sub (by omega), Nat.add_sub_cancel]
  | r + 1, j, f, g, c, hj, h, hg, ho, ht => by
    obtain ⟨g1, c1, a, v, e1, e2, e3, e4, e5, e6, e7, e8, e9, e10, e11⟩ := yy_take_step (sc := sc) (s := s) (lo := lo) (f := f + r + 1) h (show t + j < 160 by omega) (by omega) hg ho (nI k) (by rw [ht, yy_nI_add, yy_nI_le (by omega) (by omega)]; omega)
    obtain ⟨g2, c2, f1, f2, f3, f4, f5, f6, f7⟩ := yy_take_loop htk hlo r (j + 1) f g1 c1 (by omega) e2 (by omega) e5 (by rw [e6]; exact ht)
    refine ⟨g2, c2, ?_, f2, e3.trans f3, f4, f5, fun i h1 h2 => ?_, fun i b w hi w1 w2 w3 => ?_⟩
    · rw [show f + (r + 1) + 1 = (f + r + 1) + 1 by omega, e1, ← f1]
      rfl
    · by_cases z : i = t + j
      · subst z
        obtain ⟨p1, p2, p3⟩ := f7 (t + j) a v (by omega) e7 e8 e9
        exact ⟨a, v, p1, p2, p3, e10⟩
      · exact f6 i (by omega) h2
    · obtain ⟨p1, p2, p3⟩ := e11 i b w (by omega) w1 w2 w3
      exact f7 i b w (by omega) p1 p2 p3
