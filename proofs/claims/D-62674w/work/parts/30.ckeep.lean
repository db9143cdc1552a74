/-! what keeps -/
theorem yy_dcv_tS_ne {c : yy_CT} {a b : Nat} {w : Option yy_SV} (h : b ≠ a) : yy_dcv (yy_tS a w c) b = yy_dcv c b := by
  unfold yy_dcv
  rw [yy_cS_tS, if_neg h]
  rfl
theorem yy_ov_tS_ne {c : yy_CT} {a b : Nat} {w : Option yy_SV} (h : b ≠ a) : yy_ov (yy_tS a w c) b = yy_ov c b := by
  unfold yy_ov
  rw [yy_cS_tS, if_neg h]
  rfl
theorem yy_dcv_tS {c : yy_CT} {a b : Nat} {v w : yy_SV} (h : yy_slv c a = some v) : yy_dcv (yy_tS a (some w) c) b = yy_dcv c b := by
  by_cases e : b = a
  · subst e
    have h1 := (yy_slv_iff.mp h).2.2
    unfold yy_dcv
    rw [yy_cS_tS, if_pos rfl, if_neg (fun q => by cases q.2.2), if_neg (fun q => by rw [h1] at q; cases q.2.2)]
  · exact yy_dcv_tS_ne e
theorem yy_ov_tS {c : yy_CT} {a b : Nat} {v w : yy_SV} (h : yy_slv c a = some v) : yy_ov (yy_tS a (some w) c) b = yy_ov c b := by
  by_cases e : b = a
  · subst e
    have h1 := (yy_slv_iff.mp h).2.2
    unfold yy_ov
    rw [yy_cS_tS, if_pos rfl, if_neg (fun q => by cases q.2.2.1), if_neg (fun q => by rw [h1] at q; cases q.2.2.1)]
  · exact yy_ov_tS_ne e
theorem yy_dcv_nwS_ne {c : yy_CT} {v : yy_SV} {a : Nat} (h : a ≠ yy_cn c) : yy_dcv (yy_nwS v c) a = yy_dcv c a := yy_dcv_tS_ne (w := some v) h
theorem yy_ov_nwS_ne {c : yy_CT} {v : yy_SV} {a : Nat} (h : a ≠ yy_cn c) : yy_ov (yy_nwS v c) a = yy_ov c a := yy_ov_tS_ne (w := some v) h
theorem yy_dcv_nwO_ne {c : yy_CT} {e : xE} {n a : Nat} (h : a ≠ yy_cn c) : yy_dcv (yy_nwO e n c) a = yy_dcv c a := by
  have e2 : yy_cS (yy_nwO e n c) a = yy_cS c a := va_up_ne _ _ h
  have e3 : yy_cT (yy_nwO e n c) a = yy_cT c a := va_up_ne _ _ h
  unfold yy_dcv
  rw [e2, e3]
  rfl
theorem yy_ov_nwO_ne {c : yy_CT} {e : xE} {n a : Nat} (h : a ≠ yy_cn c) : yy_ov (yy_nwO e n c) a = yy_ov c a := by
  have e2 : yy_cS (yy_nwO e n c) a = yy_cS c a := va_up_ne _ _ h
  have e3 : yy_cT (yy_nwO e n c) a = yy_cT c a := va_up_ne _ _ h
  have e4 : yy_cO (yy_nwO e n c) a = yy_cO c a := va_up_ne _ _ h
  unfold yy_ov
  rw [e2, e3, e4]
  rfl
theorem yy_ov_nwO {c : yy_CT} (h : yy_FRc c) (e : xE) (n : Nat) : yy_ov (yy_nwO e n c) (yy_cn c) = some e := by
  refine yy_ov_iff.mpr ⟨yy_cX_of h.1, ?_, va_up_self _ _ _, va_up_self _ _ _, va_up_self _ _ _⟩
  show yy_cn c ≠ (yy_cb c).1
  have := h.2.1
  omega
theorem yy_LOW.tS {c : yy_CT} (h : yy_LOW c) {a : Nat} {v : yy_SV} (e : yy_slv c a = some v) (w : yy_SV) : yy_LOW (yy_tS a (some w) c) := by
  intro b hb
  have ha := h.s e
  have hb' : yy_cn c ≤ b := hb
  rw [yy_slv_tS_ne (by omega), yy_dcv_tS_ne (by omega), yy_ov_tS_ne (by omega)]
  exact h b hb
theorem yy_LOW.nwS {c : yy_CT} (h : yy_LOW c) (v : yy_SV) : yy_LOW (yy_nwS v c) := by
  intro b hb
  have hb' : yy_cn c + 1 ≤ b := hb
  rw [yy_slv_nwS_ne (by omega), yy_dcv_nwS_ne (by omega), yy_ov_nwS_ne (by omega)]
  exact h b (by omega)
theorem yy_LOW.nwO {c : yy_CT} (h : yy_LOW c) (e : xE) (n : Nat) : yy_LOW (yy_nwO e n c) := by
  intro b hb
  have hb' : yy_cn c + 1 ≤ b := hb
  rw [yy_slv_nwO_ne (by omega), yy_dcv_nwO_ne (by omega), yy_ov_nwO_ne (by omega)]
  exact h b (by omega)
theorem yy_RMc.nwO {c : yy_CT} {m n : Nat} (h : yy_RMc c (m + 1)) (hn : n ≤ 16) (e : xE) : yy_RMc (yy_nwO e n c) m := by
  have h1 := h.1
  have h2 := h.2
  exact ⟨by show yy_cn c + 1 + m ≤ _; omega, by show yy_cz c + n + 16 * m ≤ _; omega⟩
theorem yy_RMc.nwS {c : yy_CT} {m : Nat} (h : yy_RMc c (m + 1)) (v : yy_SV) : yy_RMc (yy_nwS v c) m := by
  have h1 := h.1
  have h2 := h.2
  exact ⟨by show yy_cn c + 1 + m ≤ _; omega, by show yy_cz c + 8 + 16 * m ≤ _; omega⟩
theorem yy_FRc.nwO {c : yy_CT} (h : yy_FRc c) (e : xE) (n : Nat) : yy_FRc (yy_nwO e n c) := by
  have h1 := h.1
  have h2 := h.2.1
  exact ⟨by show 300 ≤ yy_cn c + 1; omega, by show (yy_cb c).1 < yy_cn c + 1; omega, fun b hb => Nat.lt_succ_of_lt (h.2.2 b hb)⟩
theorem yy_FRc.nwS {c : yy_CT} (h : yy_FRc c) (v : yy_SV) : yy_FRc (yy_nwS v c) := by
  have h1 := h.1
  have h2 := h.2.1
  exact ⟨by show 300 ≤ yy_cn c + 1; omega, by show (yy_cb c).1 < yy_cn c + 1; omega, fun b hb => Nat.lt_succ_of_lt (h.2.2 b hb)⟩
theorem yy_KP_thr (g : yy_GT) (c : yy_CT) (s : MT) (k : Int32) : yy_KP g c s g (yy_thr k c) s := by
  refine ⟨⟨rfl, rfl, rfl, rfl, fun _ _ _ => rfl⟩, ⟨Nat.le_succ _, rfl, rfl, rfl⟩, fun a ha _ => ?_, fun a v ha e => ?_, fun a v ha e => ?_, fun _ _ => rfl, fun _ => rfl, fun _ => rfl, fun q _ h1 h2 => ?_, fun _ _ _ => rfl, fun _ _ => rfl, fun _ _ => rfl, fun _ _ => rfl, fun _ _ => rfl, rfl⟩
  · unfold yy_thr
    rw [yy_slv_nwO_ne (by show a ≠ yy_cn c; omega)]
    rfl
  · unfold yy_thr
    rw [yy_dcv_nwO_ne (by show a ≠ yy_cn c; omega)]
    exact e
  · unfold yy_thr
    rw [yy_ov_nwO_ne (by show a ≠ yy_cn c; omega)]
    exact e
  · show yy_cI q (yy_tI 18 k (yy_tI 17 k c)) = _
    rw [yy_cI_tI, yy_cI_tI, if_neg h2, if_neg h1]
theorem yy_KP_tS {g : yy_GT} {c : yy_CT} {s : MT} {a i : Nat} {v : yy_SV} (e : yy_slv c a = some v) (ho : yy_gow g a = (0, i)) (w : yy_SV) : yy_KP g c s g (yy_tS a (some w) c) s := by
  refine ⟨⟨rfl, rfl, rfl, rfl, fun _ _ _ => rfl⟩, ⟨Nat.le_refl _, rfl, rfl, rfl⟩, fun b hb hg => ?_, fun b x hb q => by rw [yy_dcv_tS e]; exact q, fun b x hb q => by rw [yy_ov_tS e]; exact q, fun _ _ => rfl, fun _ => rfl, fun _ => rfl, fun _ _ _ _ => rfl, fun _ _ _ => rfl, fun _ _ => rfl, fun _ _ => rfl, fun _ _ => rfl, fun _ _ => rfl, rfl⟩
  by_cases h : b = a
  · subst h
    rw [ho] at hg
    exact absurd rfl hg
  · exact yy_slv_tS_ne h
theorem yy_KP_t9 (g : yy_GT) (c : yy_CT) (s : MT) (x : Int32) : yy_KP g c s g (yy_tI 9 x c) s :=
  ⟨⟨rfl, rfl, rfl, rfl, fun _ _ _ => rfl⟩, ⟨Nat.le_refl _, rfl, rfl, rfl⟩, fun _ _ _ => rfl, fun _ _ _ h => h, fun _ _ _ h => h, fun _ _ => rfl, fun _ => rfl, fun _ => rfl, fun k h _ _ => by rw [yy_cI_tI, if_neg h], fun _ _ _ => rfl, fun _ _ => rfl, fun _ _ => rfl, fun _ _ => rfl, fun _ _ => rfl, rfl⟩
theorem yy_KP_269 (g : yy_GT) (c : yy_CT) (s : MT) (x : Nat → Option Nat) : yy_KP g c s g (yy_tR 269 x c) s :=
  ⟨⟨rfl, rfl, rfl, rfl, fun _ _ _ => rfl⟩, ⟨Nat.le_refl _, rfl, rfl, rfl⟩, fun _ _ _ => rfl, fun _ _ _ h => h, fun _ _ _ h => h, fun k h => by rw [yy_cR_tR, if_neg h], fun _ => rfl, fun _ => rfl, fun k h _ _ => rfl, fun _ _ _ => rfl, fun _ _ => rfl, fun _ _ => rfl, fun _ _ => rfl, fun _ _ => rfl, rfl⟩
theorem yy_KP_s4 (g : yy_GT) (c : yy_CT) (s : MT) (x : Int32) : yy_KP g c s g c (sI 4 x s) :=
  ⟨⟨rfl, rfl, rfl, rfl, fun _ _ _ => rfl⟩, ⟨Nat.le_refl _, rfl, rfl, rfl⟩, fun _ _ _ => rfl, fun _ _ _ h => h, fun _ _ _ h => h, fun _ _ => rfl, fun _ => rfl, fun _ => rfl, fun _ _ _ _ => rfl, fun _ _ _ => rfl, fun _ _ => rfl, fun _ _ => rfl, fun _ _ => rfl, fun k h => by rw [yy_mI_sI, if_neg h], rfl⟩
theorem yy_KP_sP (g : yy_GT) (c : yy_CT) (s : MT) {p : Nat} (q : Int32 × Int64 × UInt64) (hp : p < 50 ∨ 1170 ≤ p) : yy_KP g c s g c (yy_sP p q s) := by
  refine ⟨⟨rfl, rfl, rfl, rfl, fun _ _ _ => rfl⟩, ⟨Nat.le_refl _, rfl, rfl, rfl⟩, fun _ _ _ => rfl, fun _ _ _ h => h, fun _ _ _ h => h, fun _ _ => rfl, fun _ => rfl, fun _ => rfl, fun _ _ _ _ => rfl, fun r h1 h2 => by rw [yy_pl_sP, if_neg (by omega)], fun k h => ?_, fun k h => ?_, fun k h => ?_, fun _ _ => rfl, rfl⟩
  · exact va_up_ne _ _ h
  · exact va_up_ne _ _ h
  · exact va_up_ne _ _ h
/-- a slot is new: whose it is is written down -/
def yy_gnS (i : Nat) (a : Nat) (g : yy_GT) : yy_GT := (va_up g.1 a (0, i), g.2.1, i + 1, g.2.2.2)
theorem yy_KP_nwS (g : yy_GT) (c : yy_CT) (s : MT) (i : Nat) (v : yy_SV) : yy_KP g c s (yy_gnS i (yy_cn c) g) (yy_nwS v c) s := by
  refine ⟨⟨rfl, rfl, rfl, rfl, fun a h _ => va_up_ne _ _ (by omega)⟩, ⟨Nat.le_succ _, rfl, rfl, rfl⟩, fun a ha _ => ?_, fun a v ha e => ?_, fun a v ha e => ?_, fun _ _ => rfl, fun _ => rfl, fun _ => rfl, fun q _ h1 h2 => rfl, fun _ _ _ => rfl, fun _ _ => rfl, fun _ _ => rfl, fun _ _ => rfl, fun _ _ => rfl, rfl⟩
  · rw [yy_slv_nwS_ne (by omega)]
  · rw [yy_dcv_nwS_ne (by omega)]
    exact e
  · rw [yy_ov_nwS_ne (by omega)]
    exact e
theorem yy_VR_KP {g g' : yy_GT} {c c' : yy_CT} {s s' : MT} {t nd o : Nat} {v : yy_SV} {q : Int32 × Int64 × UInt64} (k : yy_KP g c s g' c' s') (h : yy_VR g c s t nd o v q) : yy_VR g' c' s' t nd o v q := by
  obtain ⟨⟨a1, a2, a3, a4, a5⟩, ⟨b1, b2, b3, b4⟩, kS, kD, kO, kR, kA, kd, kI, kp, kmA, kmL, kmD, kmI, kG⟩ := k
  exact yy_VR_cong (by rw [a1]; exact fun _ h => h) (fun n _ => by rw [kR 273 (by decide)]) (kmA 14 (by decide)) h
theorem yy_REq_KP {g g' : yy_GT} {c c' : yy_CT} {s s' : MT} (k : yy_KP g c s g' c' s') (h9 : yy_cI 9 c' = mI 4 s') (h : yy_REq c s) : yy_REq c' s' := by
  obtain ⟨⟨a1, a2, a3, a4, a5⟩, ⟨b1, b2, b3, b4⟩, kS, kD, kO, kR, kA, kd, kI, kp, kmA, kmL, kmD, kmI, kG⟩ := k
  obtain ⟨h1, h2, h3, h4, h5, h6, h7, h8, h10, h11, h12, h13, h14⟩ := h
  have e : ∀ k, k ≠ 9 → k ≠ 17 → k ≠ 18 → yy_cI k c' = yy_cI k c := kI
  refine ⟨h9, ?_, ?_, ?_, ?_, ?_, ?_, ?_, ?_, ?_, ?_, ?_, by rw [b4, kG]; exact h14⟩
  all_goals rw [kI _ (by decide) (by decide) (by decide), kmI _ (by decide)]
  all_goals assumption
theorem yy_VR_svc {g : yy_GT} {c : yy_CT} {s : MT} {t nd o : Nat} {v : yy_SV} {q : Int32 × Int64 × UInt64} (x : Int32) (h : yy_VR g c s t nd o v q) : yy_VR g c s t nd o (yy_svc x v) q := h
