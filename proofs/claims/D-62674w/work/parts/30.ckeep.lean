/-! what keeps -/
theorem y_dcv_tS_ne {c : y_CT} {a b : Nat} {w : Option y_SV} (h : b ≠ a) : y_dcv (y_tS a w c) b = y_dcv c b := by
  unfold y_dcv
  rw [y_cS_tS, if_neg h]
  rfl
theorem y_ov_tS_ne {c : y_CT} {a b : Nat} {w : Option y_SV} (h : b ≠ a) : y_ov (y_tS a w c) b = y_ov c b := by
  unfold y_ov
  rw [y_cS_tS, if_neg h]
  rfl
theorem y_dcv_tS {c : y_CT} {a b : Nat} {v w : y_SV} (h : y_slv c a = some v) : y_dcv (y_tS a (some w) c) b = y_dcv c b := by
  by_cases e : b = a
  · subst e
    have h1 := (y_slv_iff.mp h).2.2
    unfold y_dcv
    rw [y_cS_tS, if_pos rfl, if_neg (fun q => by cases q.2.2), if_neg (fun q => by rw [h1] at q; cases q.2.2)]
  · exact y_dcv_tS_ne e
theorem y_ov_tS {c : y_CT} {a b : Nat} {v w : y_SV} (h : y_slv c a = some v) : y_ov (y_tS a (some w) c) b = y_ov c b := by
  by_cases e : b = a
  · subst e
    have h1 := (y_slv_iff.mp h).2.2
    unfold y_ov
    rw [y_cS_tS, if_pos rfl, if_neg (fun q => by cases q.2.2.1), if_neg (fun q => by rw [h1] at q; cases q.2.2.1)]
  · exact y_ov_tS_ne e
theorem y_dcv_nwS_ne {c : y_CT} {v : y_SV} {a : Nat} (h : a ≠ y_cn c) : y_dcv (y_nwS v c) a = y_dcv c a := y_dcv_tS_ne (w := some v) h
theorem y_ov_nwS_ne {c : y_CT} {v : y_SV} {a : Nat} (h : a ≠ y_cn c) : y_ov (y_nwS v c) a = y_ov c a := y_ov_tS_ne (w := some v) h
theorem y_dcv_nwO_ne {c : y_CT} {e : xE} {n a : Nat} (h : a ≠ y_cn c) : y_dcv (y_nwO e n c) a = y_dcv c a := by
  have e2 : y_cS (y_nwO e n c) a = y_cS c a := va_up_ne _ _ h
  have e3 : y_cT (y_nwO e n c) a = y_cT c a := va_up_ne _ _ h
  unfold y_dcv
  rw [e2, e3]
  rfl
theorem y_ov_nwO_ne {c : y_CT} {e : xE} {n a : Nat} (h : a ≠ y_cn c) : y_ov (y_nwO e n c) a = y_ov c a := by
  have e2 : y_cS (y_nwO e n c) a = y_cS c a := va_up_ne _ _ h
  have e3 : y_cT (y_nwO e n c) a = y_cT c a := va_up_ne _ _ h
  have e4 : y_cO (y_nwO e n c) a = y_cO c a := va_up_ne _ _ h
  unfold y_ov
  rw [e2, e3, e4]
  rfl
theorem y_ov_nwO {c : y_CT} (h : y_FRc c) (e : xE) (n : Nat) : y_ov (y_nwO e n c) (y_cn c) = some e := by
  refine y_ov_iff.mpr ⟨y_cX_of h.1, ?_, va_up_self _ _ _, va_up_self _ _ _, va_up_self _ _ _⟩
  show y_cn c ≠ (y_cb c).1
  have := h.2
  omega
theorem y_LOW.tS {c : y_CT} (h : y_LOW c) {a : Nat} {v : y_SV} (e : y_slv c a = some v) (w : y_SV) : y_LOW (y_tS a (some w) c) := by
  intro b hb
  have ha := h.s e
  have hb' : y_cn c ≤ b := hb
  rw [y_slv_tS_ne (by omega), y_dcv_tS_ne (by omega), y_ov_tS_ne (by omega)]
  exact h b hb
theorem y_LOW.nwS {c : y_CT} (h : y_LOW c) (v : y_SV) : y_LOW (y_nwS v c) := by
  intro b hb
  have hb' : y_cn c + 1 ≤ b := hb
  rw [y_slv_nwS_ne (by omega), y_dcv_nwS_ne (by omega), y_ov_nwS_ne (by omega)]
  exact h b (by omega)
theorem y_LOW.nwO {c : y_CT} (h : y_LOW c) (e : xE) (n : Nat) : y_LOW (y_nwO e n c) := by
  intro b hb
  have hb' : y_cn c + 1 ≤ b := hb
  rw [y_slv_nwO_ne (by omega), y_dcv_nwO_ne (by omega), y_ov_nwO_ne (by omega)]
  exact h b (by omega)
theorem y_RMc.nwO {c : y_CT} {m n : Nat} (h : y_RMc c (m + 1)) (hn : n ≤ 16) (e : xE) : y_RMc (y_nwO e n c) m := by
  have h1 := h.1
  have h2 := h.2
  exact ⟨by show y_cn c + 1 + m ≤ _; omega, by show y_cz c + n + 16 * m ≤ _; omega⟩
theorem y_RMc.nwS {c : y_CT} {m : Nat} (h : y_RMc c (m + 1)) (v : y_SV) : y_RMc (y_nwS v c) m := by
  have h1 := h.1
  have h2 := h.2
  exact ⟨by show y_cn c + 1 + m ≤ _; omega, by show y_cz c + 8 + 16 * m ≤ _; omega⟩
theorem y_FRc.nwO {c : y_CT} (h : y_FRc c) (e : xE) (n : Nat) : y_FRc (y_nwO e n c) := by
  have h1 := h.1
  have h2 := h.2
  exact ⟨by show 300 ≤ y_cn c + 1; omega, by show (y_cb c).1 < y_cn c + 1; omega⟩
theorem y_FRc.nwS {c : y_CT} (h : y_FRc c) (v : y_SV) : y_FRc (y_nwS v c) := by
  have h1 := h.1
  have h2 := h.2
  exact ⟨by show 300 ≤ y_cn c + 1; omega, by show (y_cb c).1 < y_cn c + 1; omega⟩
theorem y_KP_thr (g : y_GT) (c : y_CT) (s : MT) (k : Int32) : y_KP g c s g (y_thr k c) s := by
  refine ⟨⟨rfl, rfl, rfl, rfl, fun _ _ _ => rfl⟩, ⟨Nat.le_succ _, rfl, rfl, rfl⟩, fun a ha _ => ?_, fun a v ha e => ?_, fun a v ha e => ?_, fun _ _ => rfl, fun _ => rfl, fun _ => rfl, fun q _ h1 h2 => ?_, fun _ _ _ => rfl, fun _ _ => rfl, fun _ _ => rfl, fun _ _ => rfl, fun _ _ => rfl, rfl⟩
  · unfold y_thr
    rw [y_slv_nwO_ne (by show a ≠ y_cn c; omega)]
    rfl
  · unfold y_thr
    rw [y_dcv_nwO_ne (by show a ≠ y_cn c; omega)]
    exact e
  · unfold y_thr
    rw [y_ov_nwO_ne (by show a ≠ y_cn c; omega)]
    exact e
  · show y_cI q (y_tI 18 k (y_tI 17 k c)) = _
    rw [y_cI_tI, y_cI_tI, if_neg h2, if_neg h1]
theorem y_KP_tS {g : y_GT} {c : y_CT} {s : MT} {a i : Nat} {v : y_SV} (e : y_slv c a = some v) (ho : y_gow g a = (0, i)) (w : y_SV) : y_KP g c s g (y_tS a (some w) c) s := by
  refine ⟨⟨rfl, rfl, rfl, rfl, fun _ _ _ => rfl⟩, ⟨Nat.le_refl _, rfl, rfl, rfl⟩, fun b hb hg => ?_, fun b x hb q => by rw [y_dcv_tS e]; exact q, fun b x hb q => by rw [y_ov_tS e]; exact q, fun _ _ => rfl, fun _ => rfl, fun _ => rfl, fun _ _ _ _ => rfl, fun _ _ _ => rfl, fun _ _ => rfl, fun _ _ => rfl, fun _ _ => rfl, fun _ _ => rfl, rfl⟩
  by_cases h : b = a
  · subst h
    rw [ho] at hg
    exact absurd rfl hg
  · exact y_slv_tS_ne h
theorem y_KP_t9 (g : y_GT) (c : y_CT) (s : MT) (x : Int32) : y_KP g c s g (y_tI 9 x c) s :=
  ⟨⟨rfl, rfl, rfl, rfl, fun _ _ _ => rfl⟩, ⟨Nat.le_refl _, rfl, rfl, rfl⟩, fun _ _ _ => rfl, fun _ _ _ h => h, fun _ _ _ h => h, fun _ _ => rfl, fun _ => rfl, fun _ => rfl, fun k h _ _ => by rw [y_cI_tI, if_neg h], fun _ _ _ => rfl, fun _ _ => rfl, fun _ _ => rfl, fun _ _ => rfl, fun _ _ => rfl, rfl⟩
theorem y_KP_269 (g : y_GT) (c : y_CT) (s : MT) (x : Nat → Option Nat) : y_KP g c s g (y_tR 269 x c) s :=
  ⟨⟨rfl, rfl, rfl, rfl, fun _ _ _ => rfl⟩, ⟨Nat.le_refl _, rfl, rfl, rfl⟩, fun _ _ _ => rfl, fun _ _ _ h => h, fun _ _ _ h => h, fun k h => by rw [y_cR_tR, if_neg h], fun _ => rfl, fun _ => rfl, fun k h _ _ => rfl, fun _ _ _ => rfl, fun _ _ => rfl, fun _ _ => rfl, fun _ _ => rfl, fun _ _ => rfl, rfl⟩
theorem y_KP_s4 (g : y_GT) (c : y_CT) (s : MT) (x : Int32) : y_KP g c s g c (sI 4 x s) :=
  ⟨⟨rfl, rfl, rfl, rfl, fun _ _ _ => rfl⟩, ⟨Nat.le_refl _, rfl, rfl, rfl⟩, fun _ _ _ => rfl, fun _ _ _ h => h, fun _ _ _ h => h, fun _ _ => rfl, fun _ => rfl, fun _ => rfl, fun _ _ _ _ => rfl, fun _ _ _ => rfl, fun _ _ => rfl, fun _ _ => rfl, fun _ _ => rfl, fun k h => by rw [y_mI_sI, if_neg h], rfl⟩
theorem y_KP_sP (g : y_GT) (c : y_CT) (s : MT) {p : Nat} (q : Int32 × Int64 × UInt64) (hp : p < 50 ∨ 1170 ≤ p) : y_KP g c s g c (y_sP p q s) := by
  refine ⟨⟨rfl, rfl, rfl, rfl, fun _ _ _ => rfl⟩, ⟨Nat.le_refl _, rfl, rfl, rfl⟩, fun _ _ _ => rfl, fun _ _ _ h => h, fun _ _ _ h => h, fun _ _ => rfl, fun _ => rfl, fun _ => rfl, fun _ _ _ _ => rfl, fun r h1 h2 => by rw [y_pl_sP, if_neg (by omega)], fun k h => ?_, fun k h => ?_, fun k h => ?_, fun _ _ => rfl, rfl⟩
  · exact va_up_ne _ _ h
  · exact va_up_ne _ _ h
  · exact va_up_ne _ _ h
/-- a slot is new: whose it is is written down -/
def y_gnS (i : Nat) (a : Nat) (g : y_GT) : y_GT := (va_up g.1 a (0, i), g.2.1, i + 1, g.2.2.2)
theorem y_KP_nwS (g : y_GT) (c : y_CT) (s : MT) (i : Nat) (v : y_SV) : y_KP g c s (y_gnS i (y_cn c) g) (y_nwS v c) s := by
  refine ⟨⟨rfl, rfl, rfl, rfl, fun a h _ => va_up_ne _ _ (by omega)⟩, ⟨Nat.le_succ _, rfl, rfl, rfl⟩, fun a ha _ => ?_, fun a v ha e => ?_, fun a v ha e => ?_, fun _ _ => rfl, fun _ => rfl, fun _ => rfl, fun q _ h1 h2 => rfl, fun _ _ _ => rfl, fun _ _ => rfl, fun _ _ => rfl, fun _ _ => rfl, fun _ _ => rfl, rfl⟩
  · rw [y_slv_nwS_ne (by omega)]
  · rw [y_dcv_nwS_ne (by omega)]
    exact e
  · rw [y_ov_nwS_ne (by omega)]
    exact e
theorem y_VR_KP {g g' : y_GT} {c c' : y_CT} {s s' : MT} {t nd o : Nat} {v : y_SV} {q : Int32 × Int64 × UInt64} (k : y_KP g c s g' c' s') (h : y_VR g c s t nd o v q) : y_VR g' c' s' t nd o v q := by
  obtain ⟨⟨a1, a2, a3, a4, a5⟩, ⟨b1, b2, b3, b4⟩, kS, kD, kO, kR, kA, kd, kI, kp, kmA, kmL, kmD, kmI, kG⟩ := k
  exact y_VR_cong (by rw [a1]; exact fun _ h => h) (fun n _ => by rw [kR 273 (by decide)]) (kmA 14 (by decide)) h
theorem y_REq_KP {g g' : y_GT} {c c' : y_CT} {s s' : MT} (k : y_KP g c s g' c' s') (h9 : y_cI 9 c' = mI 4 s') (h : y_REq c s) : y_REq c' s' := by
  obtain ⟨⟨a1, a2, a3, a4, a5⟩, ⟨b1, b2, b3, b4⟩, kS, kD, kO, kR, kA, kd, kI, kp, kmA, kmL, kmD, kmI, kG⟩ := k
  obtain ⟨h1, h2, h3, h4, h5, h6, h7, h8, h10, h11, h12, h13, h14⟩ := h
  have e : ∀ k, k ≠ 9 → k ≠ 17 → k ≠ 18 → y_cI k c' = y_cI k c := kI
  refine ⟨h9, ?_, ?_, ?_, ?_, ?_, ?_, ?_, ?_, ?_, ?_, ?_, by rw [b4, kG]; exact h14⟩
  all_goals rw [kI _ (by decide) (by decide) (by decide), kmI _ (by decide)]
  all_goals assumption
theorem y_VR_svc {g : y_GT} {c : y_CT} {s : MT} {t nd o : Nat} {v : y_SV} {q : Int32 × Int64 × UInt64} (x : Int32) (h : y_VR g c s t nd o v q) : y_VR g c s t nd o (y_svc x v) q := h
