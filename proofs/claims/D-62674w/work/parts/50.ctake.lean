/-! taking cells -/
theorem y_KC_tS {lo : Nat} {g : y_GT} {c : y_CT} {s : MT} {a i : Nat} {v : y_SV} (e : y_slv c a = some v) (ho : y_gow g a = (1, i)) (hi : lo ≤ i) (w : y_SV) : y_KC lo g c s g (y_tS a (some w) c) s := by
  have key : ∀ b, ¬ (y_gow g b = (1, i)) → y_slv (y_tS a (some w) c) b = y_slv c b := fun b hb => y_slv_tS_ne (fun z => hb (by rw [z]; exact ho))
  refine ⟨⟨⟨rfl, Nat.le_refl _, rfl, rfl, fun _ _ _ => rfl⟩, ⟨Nat.le_refl _, rfl, rfl, rfl⟩, fun b hb hg => key b (fun z => hg (by rw [z]; exact Or.inr ⟨rfl, hi⟩)), fun b x hb q => by rw [y_dcv_tS e]; exact q, fun b x hb q => by rw [y_ov_tS e]; exact q, ⟨fun _ _ _ => rfl, fun _ _ => rfl⟩, fun _ => rfl, fun _ => rfl, fun _ _ _ _ _ => rfl, fun _ _ _ _ => rfl, fun _ _ => rfl, fun _ _ => rfl, fun _ _ => rfl, fun _ _ _ => rfl, rfl⟩, fun _ _ h => h, fun b hb hg => ⟨key b (fun z => by rw [z] at hg; cases hg), rfl⟩, rfl, rfl, rfl, rfl, fun _ _ => rfl, rfl⟩
def y_gnC (i : Nat) (a : Nat) (g : y_GT) : y_GT := (va_up g.1 a (1, i), g.2.1, g.2.2.1, i + 1, g.2.2.2.2)
def y_nwC (i : Nat) (c : y_CT) : y_CT := y_tR 270 (va_up (y_cR 270 c) i (some (y_cn c))) (y_nwS y_dfS c)
theorem y_KC_nwC {lo : Nat} {g : y_GT} {c : y_CT} {s : MT} : y_KC lo g c s (y_gnC (y_ghC g) (y_cn c) g) (y_nwC (y_ghC g) c) s := by
  have hg : ∀ a, a < y_cn c → y_gow (y_gnC (y_ghC g) (y_cn c) g) a = y_gow g a := fun a h => va_up_ne _ _ (by omega)
  have hs : ∀ a, a < y_cn c → y_slv (y_nwC (y_ghC g) c) a = y_slv c a := fun a h => y_slv_nwS_ne (c := c) (v := y_dfS) (by omega)
  refine ⟨⟨⟨rfl, Nat.le_succ _, rfl, rfl, fun a h _ => hg a h⟩, ⟨Nat.le_succ _, rfl, rfl, rfl⟩, fun a h _ => hs a h, fun a v ha e => ?_, fun a v ha e => ?_, ⟨fun k _ hk => ?_, fun i hi => ?_⟩, fun _ => rfl, fun _ => rfl, fun _ _ _ _ _ => rfl, fun _ _ _ _ => rfl, fun _ _ => rfl, fun _ _ => rfl, fun _ _ => rfl, fun _ _ _ => rfl, rfl⟩, fun a ha e => by rw [hg a ha]; exact e, fun a ha _ => ⟨hs a ha, hg a ha⟩, rfl, rfl, rfl, rfl, fun _ _ => rfl, rfl⟩
  · exact (y_dcv_nwS_ne (c := c) (v := y_dfS) (by omega)).trans e
  · exact (y_ov_nwS_ne (c := c) (v := y_dfS) (by omega)).trans e
  · show y_cR k (y_tR 270 _ _) = _
    rw [y_cR_tR, if_neg hk]
    rfl
  · show va_up (y_cR 270 c) (y_ghC g) (some (y_cn c)) i = _
    exact va_up_ne _ _ (by omega)
theorem y_KC_10 {lo : Nat} (g : y_GT) (c : y_CT) (s : MT) (x y : Int32) : y_KC lo g c s g (y_tI 10 x c) (sI 5 y s) :=
  ⟨⟨⟨rfl, Nat.le_refl _, rfl, rfl, fun _ _ _ => rfl⟩, ⟨Nat.le_refl _, rfl, rfl, rfl⟩, fun _ _ _ => rfl, fun _ _ _ h => h, fun _ _ _ h => h, ⟨fun _ _ _ => rfl, fun _ _ => rfl⟩, fun _ => rfl, fun _ => rfl, fun k _ _ _ h => by rw [y_cI_tI, if_neg h], fun _ _ _ _ => rfl, fun _ _ => rfl, fun _ _ => rfl, fun _ _ => rfl, fun k _ h => by rw [y_mI_sI, if_neg h], rfl⟩, fun _ _ h => h, fun _ _ _ => ⟨rfl, rfl⟩, rfl, rfl, rfl, rfl, fun _ _ => rfl, rfl⟩
theorem y_KC_sP {lo : Nat} (g : y_GT) (c : y_CT) (s : MT) {p : Nat} (q : Int32 × Int64 × UInt64) (h1 : 50 + lo ≤ p) (h2 : p < 210) : y_KC lo g c s g c (y_sP p q s) := by
  refine ⟨⟨⟨rfl, Nat.le_refl _, rfl, rfl, fun _ _ _ => rfl⟩, ⟨Nat.le_refl _, rfl, rfl, rfl⟩, fun _ _ _ => rfl, fun _ _ _ h => h, fun _ _ _ h => h, ⟨fun _ _ _ => rfl, fun _ _ => rfl⟩, fun _ => rfl, fun _ => rfl, fun _ _ _ _ _ => rfl, fun r _ _ h3 => by rw [y_pl_sP, if_neg (fun z => h3 (by omega))], fun k h => ?_, fun k h => ?_, fun k h => ?_, fun _ _ _ => rfl, rfl⟩, fun _ _ h => h, fun _ _ _ => ⟨rfl, rfl⟩, rfl, rfl, rfl, rfl, fun r hr => by rw [y_pl_sP, if_neg (by omega)], rfl⟩
  · exact va_up_ne _ _ h
  · exact va_up_ne _ _ h
  · exact va_up_ne _ _ h
/-- what stands while cells are taken -/
def y_TK (g : y_GT) (m : Nat) (c : y_CT) : Prop :=
  (y_FRc c ∧ y_LOW c ∧ y_RMc c (m + (41 - y_ghS g) + (160 - y_ghC g) + (120 - y_ghD g))) ∧ y_ghC g ≤ 160 ∧ (∀ i, i < y_ghC g → ∃ a v, y_cR 270 c i = some a ∧ y_slv c a = some v ∧ y_gow g a = (1, i)) ∧ ∀ i, y_ghC g ≤ i → i < 160 → y_cR 270 c i = none
theorem y_TK.tS {g : y_GT} {m : Nat} {c : y_CT} {a : Nat} {v : y_SV} (h : y_TK g m c) (e : y_slv c a = some v) (w : y_SV) : y_TK g m (y_tS a (some w) c) := by
  obtain ⟨⟨h1, h2, h3⟩, h4, h5, h6⟩ := h
  refine ⟨⟨h1, h2.tS e w, h3⟩, h4, fun i hi => ?_, h6⟩
  obtain ⟨b, x, q1, q2, q3⟩ := h5 i hi
  by_cases z : b = a
  · subst z
    exact ⟨b, w, q1, y_slv_tS e, q3⟩
  · exact ⟨b, x, q1, by rw [y_slv_tS_ne z]; exact q2, q3⟩
theorem y_TK.new {g : y_GT} {m : Nat} {c : y_CT} (h : y_TK g m c) (hx : y_ghC g < 160) : y_TK (y_gnC (y_ghC g) (y_cn c) g) m (y_nwC (y_ghC g) c) ∧ y_slv (y_nwC (y_ghC g) c) (y_cn c) = some y_dfS := by
  obtain ⟨⟨h1, h2, h3⟩, h4, h5, h6⟩ := h
  have hM : y_RMc c ((m + (41 - y_ghS g) + (160 - (y_ghC g + 1)) + (120 - y_ghD g)) + 1) := h3.le (by omega)
  have hs : y_slv (y_nwC (y_ghC g) c) (y_cn c) = some y_dfS := y_slv_nwS h1 y_dfS
  refine ⟨⟨⟨y_FRc.nwS (c := c) h1 y_dfS, y_LOW.nwS (c := c) h2 y_dfS, y_RMc.nwS (c := c) hM y_dfS⟩, by show y_ghC g + 1 ≤ 160; omega, fun i hi => ?_, fun i hi hi2 => ?_⟩, hs⟩
  · have hi' : i < y_ghC g + 1 := hi
    by_cases z : i = y_ghC g
    · exact ⟨y_cn c, y_dfS, by rw [z]; exact va_up_self _ _ _, hs, by rw [z]; exact va_up_self _ _ _⟩
    · obtain ⟨b, x, q1, q2, q3⟩ := h5 i (by omega)
      have hb := h2.s q2
      exact ⟨b, x, (va_up_ne _ _ z).trans q1, (y_slv_nwS_ne (c := c) (v := y_dfS) (by omega)).trans q2, (va_up_ne _ _ (by omega)).trans q3⟩
  · have hi' : y_ghC g + 1 ≤ i := hi
    exact (va_up_ne _ _ (by omega)).trans (h6 i (by omega) hi2)
/-- a cell that was taken: an int, and stamped -/
def y_ZC (o : Nat) (v : y_SV) : Prop := ∃ d nm di, v = (some 72, 0, 0, 0, nI o, d, nm, di)
theorem y_take_step {sc : xSc} {g : y_GT} {m : Nat} {c : y_CT} {s : MT} {lo x o f : Nat} (h : y_TK g m c) (hx : x < 160) (hlo : lo ≤ x) (hg : x ≤ y_ghC g) (ho : y_cI 26 c = nI o) (l1 : Int32) (ht : ¬ (y_cI 10 c + l1) ≤ nI x) :
    ∃ g' c' a v, f_P_take_b28 sc (f + 1) (some 256) l1 (nI x) (y_cH c) = f_P_take_b28 sc f (some 256) l1 (nI (x + 1)) (y_cH c') ∧ y_TK g' m c' ∧ y_KC lo g c s g' c' s ∧ x < y_ghC g' ∧ y_cI 26 c' = nI o ∧ y_cI 10 c' = y_cI 10 c ∧ y_cR 270 c' x = some a ∧ y_slv c' a = some v ∧ y_gow g' a = (1, x) ∧ y_ZC o v ∧ (∀ i b w, i < x → y_cR 270 c i = some b → y_slv c b = some w → y_gow g b = (1, i) → y_cR 270 c' i = some b ∧ y_slv c' b = some w ∧ y_gow g' b = (1, i)) := by
  have b60 : ∀ (g1 : y_GT) (c1 : y_CT) (a : Nat) (v : y_SV), y_cR 270 c1 x = some a → y_slv c1 a = some v → y_cI 26 c1 = nI o → f_P_take_b60 sc (f_P_take_b28 sc f) (some 256) l1 (nI x) (y_cH c1) = f_P_take_b28 sc f (some 256) l1 (nI (x + 1)) (y_cH (y_tS a (some (some 72, 0, 0, 0, nI o, v.2.2.2.2.2)) c1)) := fun g1 c1 a v q1 q2 q3 => by
    unfold f_P_take_b60
    rw [y_cgR_7, Option.bind_some, y_caR_270 hx, Option.bind_some, q1, if_pos (y_sgis q2), y_e_set q2 _ _ _ _ rfl, Option.bind_some, y_cgR_7, Option.bind_some, y_caR_270 hx, Option.bind_some, y_cR_tS, q1, y_cgI_26, Option.bind_some, y_cI_tS, q3, y_sp4 (y_slv_tS q2), y_tS_tS, Option.bind_some]
    rw [show Int32.ofInt 1 = 1 from rfl, y_nI_add1]
  have hb : f_P_take_b28 sc (f + 1) (some 256) l1 (nI x) (y_cH c) = (if y_cR 270 c x = none then (nO 2 8 8 (y_cH c)).bind fun u17 => (if (some (y_cH c).2.1).isSome = true then (f_Slot_init sc u17 (some (y_cH c).2.1)).bind fun u20 => (bR "PageScribe$Slot" 2 sc u20 (some 270) (nI x) (some (y_cH c).2.1)).bind fun u22 => f_P_take_b60 sc (f_P_take_b28 sc f) (some 256) l1 (nI x) u22 else none) else f_P_take_b60 sc (f_P_take_b28 sc f) (some 256) l1 (nI x) (y_cH c)) := by
    show ((gI sc (y_cH c) 0 10 (some 256)).bind _) = _
    rw [y_cgI_10, Option.bind_some, if_neg ht, y_cgR_7, Option.bind_some, y_caR_270 hx, Option.bind_some]
    rfl
  rcases Nat.lt_or_ge x (y_ghC g) with hc | hc
  · obtain ⟨a, v, q1, q2, q3⟩ := h.2.2.1 x hc
    refine ⟨g, y_tS a (some (some 72, 0, 0, 0, nI o, v.2.2.2.2.2)) c, a, (some 72, 0, 0, 0, nI o, v.2.2.2.2.2), ?_, h.tS q2 _, y_KC_tS q2 q3 hlo _, hc, ho, rfl, q1, y_slv_tS q2, q3, ⟨_, _, _, rfl⟩, fun i b w hi w1 w2 w3 => ⟨w1, ?_, w3⟩⟩
    · rw [hb, q1, if_neg (by simp), b60 g c a v q1 q2 ho]
    · rw [y_slv_tS_ne]
      · exact w2
      · intro z
        rw [z, q3] at w3
        cases w3
        omega
  · have ex : x = y_ghC g := by omega
    subst ex
    obtain ⟨t1, t2⟩ := h.new hx
    have hn := y_e_newS (sc := sc) (c := c) (m := m + (41 - y_ghS g) + (160 - (y_ghC g + 1)) + (120 - y_ghD g)) h.1.1 (h.1.2.2.le (by omega))
    have hr : y_cR 270 (y_nwC (y_ghC g) c) (y_ghC g) = some (y_cn c) := va_up_self _ _ _
    have ho' : y_gow (y_gnC (y_ghC g) (y_cn c) g) (y_cn c) = (1, y_ghC g) := va_up_self _ _ _
    refine ⟨y_gnC (y_ghC g) (y_cn c) g, y_tS (y_cn c) (some (some 72, 0, 0, 0, nI o, y_dfS.2.2.2.2.2)) (y_nwC (y_ghC g) c), y_cn c, (some 72, 0, 0, 0, nI o, y_dfS.2.2.2.2.2), ?_, t1.tS t2 _, y_KC_nwC.trans (y_KC_tS t2 ho' hlo _), Nat.lt_succ_self _, ho, rfl, hr, y_slv_tS t2, ho', ⟨_, _, _, rfl⟩, fun i b w hi w1 w2 w3 => ?_⟩
    · rw [hb, h.2.2.2 _ (Nat.le_refl _) hx, if_pos rfl]
      simp only [Option.isSome_some, ↓reduceIte, y_cH_nx]
      rw [← Option.bind_assoc, hn, Option.bind_some, y_cbR_270 hx (Or.inr (y_sgis (y_slv_nwS h.1.1 y_dfS))), Option.bind_some]
      exact b60 g (y_nwC (y_ghC g) c) (y_cn c) y_dfS hr t2 ho
    · have hb' := h.1.2.1.s w2
      refine ⟨(va_up_ne _ _ (by omega)).trans w1, ?_, (va_up_ne _ _ (by omega)).trans w3⟩
      rw [y_slv_tS_ne (by omega)]
      exact (y_slv_nwS_ne (c := c) (v := y_dfS) (by omega)).trans w2
theorem y_take_loop {sc : xSc} {m lo o t k : Nat} {s : MT} (htk : t + k ≤ 160) (hlo : lo ≤ t) : ∀ (r : Nat) (j : Nat) (f : Nat) (g : y_GT) (c : y_CT), j + r = k → y_TK g m c → t + j ≤ y_ghC g → y_cI 26 c = nI o → y_cI 10 c = nI t →
    ∃ g' c', f_P_take_b28 sc (f + r + 1) (some 256) (nI k) (nI (t + j)) (y_cH c) = some (.inl (nI t), y_cH (y_tI 10 (nI (t + k)) c')) ∧ y_TK g' m c' ∧ y_KC lo g c s g' c' s ∧ t + k ≤ y_ghC g' ∧ y_cI 26 c' = nI o ∧ (∀ i, t + j ≤ i → i < t + k → ∃ a v, y_cR 270 c' i = some a ∧ y_slv c' a = some v ∧ y_gow g' a = (1, i) ∧ y_ZC o v) ∧ (∀ i b w, i < t + j → y_cR 270 c i = some b → y_slv c b = some w → y_gow g b = (1, i) → y_cR 270 c' i = some b ∧ y_slv c' b = some w ∧ y_gow g' b = (1, i))
  | 0, j, f, g, c, hj, h, hg, ho, ht => by
    refine ⟨g, c, ?_, h, y_KC.refl _ _ _ _, by omega, ho, fun i h1 h2 => by omega, fun i b w _ w1 w2 w3 => ⟨w1, w2, w3⟩⟩
    show ((gI sc (y_cH c) 0 10 (some 256)).bind _) = _
    rw [y_cgI_10, Option.bind_some, ht, y_nI_add, if_pos (by rw [y_nI_le (by omega) (by omega)]; omega), Option.bind_some, y_nI_add, y_cpI_10, Option.bind_some, y_cgI_10, Option.bind_some, y_cI_tI, if_pos rfl, y_nI_sub (by omega), Nat.add_sub_cancel]
  | r + 1, j, f, g, c, hj, h, hg, ho, ht => by
    obtain ⟨g1, c1, a, v, e1, e2, e3, e4, e5, e6, e7, e8, e9, e10, e11⟩ := y_take_step (sc := sc) (s := s) (lo := lo) (f := f + r + 1) h (show t + j < 160 by omega) (by omega) hg ho (nI k) (by rw [ht, y_nI_add, y_nI_le (by omega) (by omega)]; omega)
    obtain ⟨g2, c2, f1, f2, f3, f4, f5, f6, f7⟩ := y_take_loop htk hlo r (j + 1) f g1 c1 (by omega) e2 (by omega) e5 (by rw [e6]; exact ht)
    refine ⟨g2, c2, ?_, f2, e3.trans f3, f4, f5, fun i h1 h2 => ?_, fun i b w hi w1 w2 w3 => ?_⟩
    · rw [show f + (r + 1) + 1 = (f + r + 1) + 1 by omega, e1, ← f1]
      rfl
    · by_cases z : i = t + j
      · subst z
        obtain ⟨p1, p2, p3⟩ := f7 (t + j) a v (by omega) e7 e8 e9
        exact ⟨a, v, p1, p2, p3, e10⟩
      · exact f6 i (by omega) h2
    · obtain ⟨p1, p2, p3⟩ := e11 i b w (by omega) w1 w2 w3
      exact f7 i b w (by omega) p1 p2 p3
