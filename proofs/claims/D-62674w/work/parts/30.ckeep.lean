/-! what keeps -/
theorem dcv_tS_ne {c : CT} {a b : Nat} {w : Option SV} (h : b ≠ a) : dcv (tS a w c) b = dcv c b := by
  unfold dcv
  rw [cS_tS, if_neg h]
  rfl
theorem ov_tS_ne {c : CT} {a b : Nat} {w : Option SV} (h : b ≠ a) : ov (tS a w c) b = ov c b := by
  unfold ov
  rw [cS_tS, if_neg h]
  rfl
theorem dcv_tS {c : CT} {a b : Nat} {v w : SV} (h : slv c a = some v) : dcv (tS a (some w) c) b = dcv c b := by
  by_cases e : b = a
  · subst e
    have h1 := (slv_iff.mp h).2.2
    unfold dcv
    rw [cS_tS, if_pos rfl, if_neg (fun q => by cases q.2.2), if_neg (fun q => by rw [h1] at q; cases q.2.2)]
  · exact dcv_tS_ne e
theorem ov_tS {c : CT} {a b : Nat} {v w : SV} (h : slv c a = some v) : ov (tS a (some w) c) b = ov c b := by
  by_cases e : b = a
  · subst e
    have h1 := (slv_iff.mp h).2.2
    unfold ov
    rw [cS_tS, if_pos rfl, if_neg (fun q => by cases q.2.2.1), if_neg (fun q => by rw [h1] at q; cases q.2.2.1)]
  · exact ov_tS_ne e
theorem dcv_nwS_ne {c : CT} {v : SV} {a : Nat} (h : a ≠ cn c) : dcv (nwS v c) a = dcv c a := dcv_tS_ne (w := some v) h
theorem ov_nwS_ne {c : CT} {v : SV} {a : Nat} (h : a ≠ cn c) : ov (nwS v c) a = ov c a := ov_tS_ne (w := some v) h
theorem dcv_nwO_ne {c : CT} {e : xE} {n a : Nat} (h : a ≠ cn c) : dcv (nwO e n c) a = dcv c a := by
  have e2 : cS (nwO e n c) a = cS c a := va_up_ne _ _ h
  have e3 : cT (nwO e n c) a = cT c a := va_up_ne _ _ h
  unfold dcv
  rw [e2, e3]
  rfl
theorem ov_nwO_ne {c : CT} {e : xE} {n a : Nat} (h : a ≠ cn c) : ov (nwO e n c) a = ov c a := by
  have e2 : cS (nwO e n c) a = cS c a := va_up_ne _ _ h
  have e3 : cT (nwO e n c) a = cT c a := va_up_ne _ _ h
  have e4 : cO (nwO e n c) a = cO c a := va_up_ne _ _ h
  unfold ov
  rw [e2, e3, e4]
  rfl
theorem ov_nwO {c : CT} (h : FRc c) (e : xE) (n : Nat) : ov (nwO e n c) (cn c) = some e := by
  refine ov_iff.mpr ⟨cX_of h.1, ?_, va_up_self _ _ _, va_up_self _ _ _, va_up_self _ _ _⟩
  show cn c ≠ (cb c).1
  have := h.2
  omega
theorem LOW.tS {c : CT} (h : LOW c) {a : Nat} {v : SV} (e : slv c a = some v) (w : SV) : LOW (tS a (some w) c) := by
  intro b hb
  have ha := h.s e
  have hb' : cn c ≤ b := hb
  rw [slv_tS_ne (by omega), dcv_tS_ne (by omega), ov_tS_ne (by omega)]
  exact h b hb
theorem LOW.nwS {c : CT} (h : LOW c) (v : SV) : LOW (nwS v c) := by
  intro b hb
  have hb' : cn c + 1 ≤ b := hb
  rw [slv_nwS_ne (by omega), dcv_nwS_ne (by omega), ov_nwS_ne (by omega)]
  exact h b (by omega)
theorem LOW.nwO {c : CT} (h : LOW c) (e : xE) (n : Nat) : LOW (nwO e n c) := by
  intro b hb
  have hb' : cn c + 1 ≤ b := hb
  rw [slv_nwO_ne (by omega), dcv_nwO_ne (by omega), ov_nwO_ne (by omega)]
  exact h b (by omega)
theorem RMc.nwO {c : CT} {m n : Nat} (h : RMc c (m + 1)) (hn : n ≤ 16) (e : xE) : RMc (nwO e n c) m := by
  have h1 := h.1
  have h2 := h.2
  exact ⟨by show cn c + 1 + m ≤ _; omega, by show cz c + n + 16 * m ≤ _; omega⟩
theorem RMc.nwS {c : CT} {m : Nat} (h : RMc c (m + 1)) (v : SV) : RMc (nwS v c) m := by
  have h1 := h.1
  have h2 := h.2
  exact ⟨by show cn c + 1 + m ≤ _; omega, by show cz c + 8 + 16 * m ≤ _; omega⟩
theorem FRc.nwO {c : CT} (h : FRc c) (e : xE) (n : Nat) : FRc (nwO e n c) := by
  have h1 := h.1
  have h2 := h.2
  exact ⟨by show 300 ≤ cn c + 1; omega, by show (cb c).1 < cn c + 1; omega⟩
theorem FRc.nwS {c : CT} (h : FRc c) (v : SV) : FRc (nwS v c) := by
  have h1 := h.1
  have h2 := h.2
  exact ⟨by show 300 ≤ cn c + 1; omega, by show (cb c).1 < cn c + 1; omega⟩
theorem KP_thr (g : GT) (c : CT) (s : MT) (k : Int32) : KP g c s g (thr k c) s := by
  refine ⟨⟨rfl, rfl, rfl, rfl, fun _ _ _ => rfl⟩, ⟨Nat.le_succ _, rfl, rfl, rfl⟩, fun a ha _ => ?_, fun a v ha e => ?_, fun a v ha e => ?_, fun _ _ => rfl, fun _ => rfl, fun _ => rfl, fun q _ h1 h2 => ?_, fun _ _ _ => rfl, fun _ _ => rfl, fun _ _ => rfl, fun _ _ => rfl, fun _ _ => rfl, rfl⟩
  · unfold thr
    rw [slv_nwO_ne (by show a ≠ cn c; omega)]
    rfl
  · unfold thr
    rw [dcv_nwO_ne (by show a ≠ cn c; omega)]
    exact e
  · unfold thr
    rw [ov_nwO_ne (by show a ≠ cn c; omega)]
    exact e
  · show cI q (tI 18 k (tI 17 k c)) = _
    rw [cI_tI, cI_tI, if_neg h2, if_neg h1]
theorem KP_tS {g : GT} {c : CT} {s : MT} {a i : Nat} {v : SV} (e : slv c a = some v) (ho : gow g a = (0, i)) (w : SV) : KP g c s g (tS a (some w) c) s := by
  refine ⟨⟨rfl, rfl, rfl, rfl, fun _ _ _ => rfl⟩, ⟨Nat.le_refl _, rfl, rfl, rfl⟩, fun b hb hg => ?_, fun b x hb q => by rw [dcv_tS e]; exact q, fun b x hb q => by rw [ov_tS e]; exact q, fun _ _ => rfl, fun _ => rfl, fun _ => rfl, fun _ _ _ _ => rfl, fun _ _ _ => rfl, fun _ _ => rfl, fun _ _ => rfl, fun _ _ => rfl, fun _ _ => rfl, rfl⟩
  by_cases h : b = a
  · subst h
    rw [ho] at hg
    exact absurd rfl hg
  · exact slv_tS_ne h
theorem KP_t9 (g : GT) (c : CT) (s : MT) (x : Int32) : KP g c s g (tI 9 x c) s :=
  ⟨⟨rfl, rfl, rfl, rfl, fun _ _ _ => rfl⟩, ⟨Nat.le_refl _, rfl, rfl, rfl⟩, fun _ _ _ => rfl, fun _ _ _ h => h, fun _ _ _ h => h, fun _ _ => rfl, fun _ => rfl, fun _ => rfl, fun k h _ _ => by rw [cI_tI, if_neg h], fun _ _ _ => rfl, fun _ _ => rfl, fun _ _ => rfl, fun _ _ => rfl, fun _ _ => rfl, rfl⟩
theorem KP_269 (g : GT) (c : CT) (s : MT) (x : Nat → Option Nat) : KP g c s g (tR 269 x c) s :=
  ⟨⟨rfl, rfl, rfl, rfl, fun _ _ _ => rfl⟩, ⟨Nat.le_refl _, rfl, rfl, rfl⟩, fun _ _ _ => rfl, fun _ _ _ h => h, fun _ _ _ h => h, fun k h => by rw [cR_tR, if_neg h], fun _ => rfl, fun _ => rfl, fun k h _ _ => rfl, fun _ _ _ => rfl, fun _ _ => rfl, fun _ _ => rfl, fun _ _ => rfl, fun _ _ => rfl, rfl⟩
theorem KP_s4 (g : GT) (c : CT) (s : MT) (x : Int32) : KP g c s g c (sI 4 x s) :=
  ⟨⟨rfl, rfl, rfl, rfl, fun _ _ _ => rfl⟩, ⟨Nat.le_refl _, rfl, rfl, rfl⟩, fun _ _ _ => rfl, fun _ _ _ h => h, fun _ _ _ h => h, fun _ _ => rfl, fun _ => rfl, fun _ => rfl, fun _ _ _ _ => rfl, fun _ _ _ => rfl, fun _ _ => rfl, fun _ _ => rfl, fun _ _ => rfl, fun k h => by rw [mI_sI, if_neg h], rfl⟩
theorem KP_sP (g : GT) (c : CT) (s : MT) {p : Nat} (q : Int32 × Int64 × UInt64) (hp : p < 50 ∨ 1170 ≤ p) : KP g c s g c (sP p q s) := by
  refine ⟨⟨rfl, rfl, rfl, rfl, fun _ _ _ => rfl⟩, ⟨Nat.le_refl _, rfl, rfl, rfl⟩, fun _ _ _ => rfl, fun _ _ _ h => h, fun _ _ _ h => h, fun _ _ => rfl, fun _ => rfl, fun _ => rfl, fun _ _ _ _ => rfl, fun r h1 h2 => by rw [pl_sP, if_neg (by omega)], fun k h => ?_, fun k h => ?_, fun k h => ?_, fun _ _ => rfl, rfl⟩
  · exact va_up_ne _ _ h
  · exact va_up_ne _ _ h
  · exact va_up_ne _ _ h
/-- a slot is new: whose it is is written down -/
def gnS (i : Nat) (a : Nat) (g : GT) : GT := (va_up g.1 a (0, i), g.2.1, i + 1, g.2.2.2)
theorem KP_nwS (g : GT) (c : CT) (s : MT) (i : Nat) (v : SV) : KP g c s (gnS i (cn c) g) (nwS v c) s := by
  refine ⟨⟨rfl, rfl, rfl, rfl, fun a h _ => va_up_ne _ _ (by omega)⟩, ⟨Nat.le_succ _, rfl, rfl, rfl⟩, fun a ha _ => ?_, fun a v ha e => ?_, fun a v ha e => ?_, fun _ _ => rfl, fun _ => rfl, fun _ => rfl, fun q _ h1 h2 => rfl, fun _ _ _ => rfl, fun _ _ => rfl, fun _ _ => rfl, fun _ _ => rfl, fun _ _ => rfl, rfl⟩
  · rw [slv_nwS_ne (by omega)]
  · rw [dcv_nwS_ne (by omega)]
    exact e
  · rw [ov_nwS_ne (by omega)]
    exact e
theorem VR_KP {g g' : GT} {c c' : CT} {s s' : MT} {t nd o : Nat} {v : SV} {q : Int32 × Int64 × UInt64} (k : KP g c s g' c' s') (h : VR g c s t nd o v q) : VR g' c' s' t nd o v q := by
  obtain ⟨⟨a1, a2, a3, a4, a5⟩, ⟨b1, b2, b3, b4⟩, kS, kD, kO, kR, kA, kd, kI, kp, kmA, kmL, kmD, kmI, kG⟩ := k
  exact VR_cong (by rw [a1]; exact fun _ h => h) (fun n _ => by rw [kR 273 (by decide)]) (kmA 14 (by decide)) h
theorem REq_KP {g g' : GT} {c c' : CT} {s s' : MT} (k : KP g c s g' c' s') (h9 : cI 9 c' = mI 4 s') (h : REq c s) : REq c' s' := by
  obtain ⟨⟨a1, a2, a3, a4, a5⟩, ⟨b1, b2, b3, b4⟩, kS, kD, kO, kR, kA, kd, kI, kp, kmA, kmL, kmD, kmI, kG⟩ := k
  obtain ⟨h1, h2, h3, h4, h5, h6, h7, h8, h10, h11, h12, h13, h14⟩ := h
  have e : ∀ k, k ≠ 9 → k ≠ 17 → k ≠ 18 → cI k c' = cI k c := kI
  refine ⟨h9, ?_, ?_, ?_, ?_, ?_, ?_, ?_, ?_, ?_, ?_, ?_, by rw [b4, kG]; exact h14⟩
  all_goals rw [kI _ (by decide) (by decide) (by decide), kmI _ (by decide)]
  all_goals assumption
theorem VR_svc {g : GT} {c : CT} {s : MT} {t nd o : Nat} {v : SV} {q : Int32 × Int64 × UInt64} (x : Int32) (h : VR g c s t nd o v q) : VR g c s t nd o (svc x v) q := h
