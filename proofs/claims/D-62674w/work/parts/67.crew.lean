theorem yy_HOME.get {g : yy_GT} {m : Nat} {c : yy_CT} {s : MT} {t nd o n a p0 : Nat} (h : yy_RR g m c s t nd o n) (hh : yy_HOME g c t nd a p0) : ∃ v x, yy_slv c a = some v ∧ x ≤ o ∧ v.2.2.2.2.1 = nI x ∧ yy_VR g c s t nd o v (yy_pl s p0) := by
  rcases hh with ⟨i, h1, h2, h3, h4⟩ | ⟨d, i, b, v, L, e, h1, h2, h3, h4, h5, h6, h7, h8, h9⟩
  · obtain ⟨b, u, p1, p2, p3, p4, p5, x, p6, p7⟩ := h.ce.2 i h1
    rw [h2] at p1
    cases p1
    rw [show yy_cpl 0 i = 50 + i from if_pos rfl] at p5
    exact ⟨u, x, p3, p6, p7, by rw [h4]; exact p5⟩
  · obtain ⟨b', r, f, L2, e1, e2, e3, e4, e5, e6, e7, e8⟩ := h.di.2.2 d h1
    rw [h2] at e1
    cases e1
    rw [h3] at e2
    cases e2
    have := yy_CH_inj h4 e6
    subst this
    obtain ⟨f1, f2, f3, u, f4, f5, x, f6, f7⟩ := e8 i e h5
    rw [h6] at f4
    have ec : yy_cpl 0 (200 + yy_bs d + (L.length - 1 - i)) = 250 + (yy_bs d + (L.length - 1 - i)) := by
      unfold yy_cpl
      rw [if_pos rfl]
      omega
    rw [ec] at f5
    exact ⟨u, x, f4, f6, f7, by rw [h8]; exact f5⟩
theorem yy_mA_sP {k p : Nat} {q : Int32 × Int64 × UInt64} {s : MT} (h : k ≠ 1) : mA k (yy_sP p q s) = mA k s := va_up_ne _ _ h
theorem yy_mL_sP {k p : Nat} {q : Int32 × Int64 × UInt64} {s : MT} (h : k ≠ 2) : mL k (yy_sP p q s) = mL k s := va_up_ne _ _ h
theorem yy_KF_sP {c c' : yy_CT} {s : MT} {p : Nat} {q : Int32 × Int64 × UInt64} (hI : ∀ k, yy_cI k c' = yy_cI k c) (hA : ∀ k, yy_cA k c' = yy_cA k c) : yy_KF c s c' (yy_sP p q s) := by
  exact ⟨⟨hI _, hI _, hI _, hI _, hI _, hI _, hI _, hA _, hA _⟩, ⟨rfl, rfl, rfl, rfl, rfl, rfl⟩, yy_mA_sP (by decide), yy_mA_sP (by decide), yy_mL_sP (by decide), yy_mL_sP (by decide), yy_mL_sP (by decide), yy_mL_sP (by decide)⟩
/-- rewrite on both sides -/
theorem yy_R_rewrite {g : yy_GT} {m : Nat} {c : yy_CT} {s : MT} {t nd o n a b p0 : Nat} {w : yy_SV} {q : Int32 × Int64 × UInt64} (sc : xSc) (h : yy_RR g (m + 2) c s t nd o n) (hh : yy_HOME g c t nd a p0) (hw : yy_slv c b = some w) (hb : (yy_gow g b).1 = 0) (hq : yy_VR g c s t nd o w q) :
    ∃ g' c', f_P_rewrite sc (yy_cH c) (some 256) (some a) (some b) = some (yy_cH c') ∧ yy_RR g' m c' (yy_sP p0 q s) t nd o n ∧ yy_KF c s c' (yy_sP p0 q s) ∧ (∀ k, yy_cI k c' = yy_cI k c) := by
  obtain ⟨v, x, v1, v2, v3, v4⟩ := hh.get h
  have h26 : yy_cI 26 c = nI o := h.2.1.2.2.2.2.1.trans h.2.2.2.2.2.1.2
  have o3 := h.2.2.2.2.2.1.1.1
  have hab : b ≠ a := fun e => by
    have := hh.tag
    rw [e] at hb
    omega
  rcases Nat.lt_or_ge x o with hx | hx
  · obtain ⟨k1, k2, k3, k4, k5⟩ := yy_rwb_k a v c
    have hI : ∀ k, yy_cI k (yy_rwc a o v w c) = yy_cI k c := fun k => by unfold yy_rwc; rw [yy_cI_tS, yy_cI_tl, k1]
    have hA : ∀ k, yy_cA k (yy_rwc a o v w c) = yy_cA k c := fun k => by unfold yy_rwc; rw [yy_cA_tS, yy_cA_tl, k2]
    exact ⟨_, _, yy_e_rewrite1 hab h.1.2.1 h.1.1 h.room v1 hw hq.live v4.live h26 v3 hx o3, yy_RR_wr1 h hh v1 v4.live hq v3 hx, yy_KF_sP hI hA, hI⟩
  · have e : x = o := by omega
    subst e
    exact ⟨g, _, yy_e_rewrite0 v1 hw hq.live h26 v3, (yy_RR_wr0 h hh v1 (yy_VR_svc (nI x) hq) v3 rfl).less (by omega), yy_KF_sP (fun _ => rfl) (fun _ => rfl), fun _ => rfl⟩
/-- a cell of an array has its home -/
theorem yy_RR.chome {g : yy_GT} {m : Nat} {c : yy_CT} {s : MT} {t nd o n x z j : Nat} (h : yy_RR g m c s t nd o n) (hv : yy_VA s t o x z) (hj : j < z) : ∃ a, yy_cR 270 c (x + j) = some a ∧ yy_HOME g c t nd a (50 + (x + j)) ∧ x + j < t := by
  obtain ⟨a, v, c1, c2, c3, c4, c5⟩ := h.cell hv hj
  exact ⟨a, c1, Or.inl ⟨x + j, c5, c1, c3, rfl⟩, c5⟩
