/-! more operators of the stack -/
theorem y_OPc_of {sc : xSc} {k r gr : Nat} (w : xV) (h : xCs sc k = some (.inl (19, [vI (nI k), w, vI (nI r), vI (nI gr)]))) : y_OPc sc k r gr := ⟨w, h⟩
/-- the model's state is another, the same where it counts -/
theorem y_RR_scong {g : y_GT} {m : Nat} {c : y_CT} {s s' : MT} {t nd o n : Nat} (h : y_RR g m c s t nd o n) (k : y_KP g c s g c s') (h4 : mI 4 s' = mI 4 s) (hp : ∀ i, i < n → y_pl s' i = y_pl s i) : y_RR g m c s' t nd o n := by
  refine y_RR_KP h k h.1.1 h.1.2.1 h.1.2.2 (h4.trans h.2.1.1) h.nine ?_
  obtain ⟨h1, h2, h3, h5⟩ := h.2.2.1
  refine ⟨h1, h2, h3, fun i hi => ?_⟩
  obtain ⟨a, v, e1, e2, e3⟩ := h5 i hi
  exact ⟨a, v, e1, e2, by rw [hp i hi]; exact y_VR_KP k e3⟩
/-- the model's states agree but for the stack -/
def y_KM (s s' : MT) : Prop := (∀ p, 50 ≤ p → p < 1170 → y_pl s' p = y_pl s p) ∧ (∀ k, k ≠ 1 → mA k s' = mA k s) ∧ (∀ k, k ≠ 2 → mL k s' = mL k s) ∧ (∀ k, k ≠ 3 → mD k s' = mD k s) ∧ (∀ k, k ≠ 4 → mI k s' = mI k s) ∧ mG s' = mG s
theorem y_KM.refl (s : MT) : y_KM s s := ⟨fun _ _ _ => rfl, fun _ _ => rfl, fun _ _ => rfl, fun _ _ => rfl, fun _ _ => rfl, rfl⟩
theorem y_KM.symm {s s' : MT} (h : y_KM s s') : y_KM s' s := ⟨fun p h1 h2 => (h.1 p h1 h2).symm, fun k hk => (h.2.1 k hk).symm, fun k hk => (h.2.2.1 k hk).symm, fun k hk => (h.2.2.2.1 k hk).symm, fun k hk => (h.2.2.2.2.1 k hk).symm, h.2.2.2.2.2.symm⟩
theorem y_KM.trans {s s1 s2 : MT} (h : y_KM s s1) (k : y_KM s1 s2) : y_KM s s2 := ⟨fun p h1 h2 => (k.1 p h1 h2).trans (h.1 p h1 h2), fun x hx => (k.2.1 x hx).trans (h.2.1 x hx), fun x hx => (k.2.2.1 x hx).trans (h.2.2.1 x hx), fun x hx => (k.2.2.2.1 x hx).trans (h.2.2.2.1 x hx), fun x hx => (k.2.2.2.2.1 x hx).trans (h.2.2.2.2.1 x hx), k.2.2.2.2.2.trans h.2.2.2.2.2⟩
theorem y_KM.of {g g' : y_GT} {c c' : y_CT} {s s' : MT} (k : y_KP g c s g' c' s') : y_KM s s' := by
  obtain ⟨_, _, _, _, _, _, _, _, _, kp, kmA, kmL, kmD, kmI, kG⟩ := k
  exact ⟨kp, kmA, kmL, kmD, kmI, kG⟩
theorem y_KM.kp {s s' : MT} (h : y_KM s s') (g : y_GT) (c : y_CT) : y_KP g c s g c s' :=
  ⟨⟨rfl, rfl, rfl, rfl, fun _ _ _ => rfl⟩, ⟨Nat.le_refl _, rfl, rfl, rfl⟩, fun _ _ _ => rfl, fun _ _ _ h => h, fun _ _ _ h => h, fun _ _ => rfl, fun _ => rfl, fun _ => rfl, fun _ _ _ _ => rfl, h.1, h.2.1, h.2.2.1, h.2.2.2.1, h.2.2.2.2.1, h.2.2.2.2.2⟩
theorem y_KM.sP {s s' : MT} (h : y_KM s s') {p : Nat} (q : Int32 × Int64 × UInt64) (hp : p < 50 ∨ 1170 ≤ p) : y_KM s (y_sP p q s') := by
  refine h.trans ⟨fun r h1 h2 => by rw [y_pl_sP, if_neg (by omega)], fun k hk => ?_, fun k hk => ?_, fun k hk => ?_, fun _ _ => rfl, rfl⟩
  · exact va_up_ne _ _ hk
  · exact va_up_ne _ _ hk
  · exact va_up_ne _ _ hk
theorem y_KM.s4 {s s' : MT} (h : y_KM s s') (x : Int32) : y_KM s (sI 4 x s') := h.trans ⟨fun _ _ _ => rfl, fun _ _ => rfl, fun _ _ => rfl, fun _ _ => rfl, fun k hk => by rw [y_mI_sI, if_neg hk], rfl⟩
def y_swp (f : Nat → Option Nat) (i j : Nat) : Nat → Option Nat := va_up (va_up f i (f j)) j (f i)
theorem y_e_swap {sc : xSc} {g : y_GT} {m : Nat} {c : y_CT} {s : MT} {t nd o n i j : Nat} (h : y_RR g m c s t nd o n) (hi : i < y_ghS g) (hj : j < y_ghS g) : f_P_swap sc (y_cH c) (some 256) (nI i) (nI j) = some (y_cH (y_tR 269 (y_swp (y_cR 269 c) i j) c)) := by
  obtain ⟨⟨h1, h2, h3⟩, h4, h5, h6⟩ := h.2.2.1
  obtain ⟨a, v, a1, a2, a3, a4⟩ := h4 i hi
  obtain ⟨b, w, b1, b2, b3, b4⟩ := h4 j hj
  unfold f_P_swap
  rw [y_cgR_6]
  dsimp only [Option.bind_some]
  rw [y_caR_269 (by omega), y_caR_269 (by omega), a1, b1]
  dsimp only [Option.bind_some]
  rw [y_cbR_269 (by omega) (Or.inr (y_sgis b2))]
  dsimp only [Option.bind_some]
  rw [y_cgR_6]
  dsimp only [Option.bind_some]
  rw [y_cbR_269 (by omega) (Or.inr (y_sgis (c := y_tR 269 (va_up (y_cR 269 c) i (some b)) c) a2))]
  dsimp only [Option.bind_some]
  rw [y_tR_tR, y_cR_tR, if_pos rfl]
  unfold y_swp
  rw [a1, b1]
def y_gsw (a i b j : Nat) (g : y_GT) : y_GT := (va_up (va_up g.1 a (0, i)) b (0, j), g.2)
theorem y_R_swap {g : y_GT} {m : Nat} {c : y_CT} {s : MT} {t nd o n i j : Nat} (h : y_RR g m c s t nd o n) (hi : i < n) (hj : j < n) : ∃ g', y_RR g' m (y_tR 269 (y_swp (y_cR 269 c) i j) c) (y_sP j (y_pl s i) (y_sP i (y_pl s j) s)) t nd o n ∧ y_KP g c s g' (y_tR 269 (y_swp (y_cR 269 c) i j) c) (y_sP j (y_pl s i) (y_sP i (y_pl s j) s)) ∧ y_ghS g' = y_ghS g := by
  obtain ⟨⟨h1, h2, h3⟩, h4, h5, h6⟩ := h.2.2.1
  by_cases hij : i = j
  · subst hij
    refine ⟨g, ?_, ?_, rfl⟩
    · have e : y_tR 269 (y_swp (y_cR 269 c) i i) c = c := by
        have : y_swp (y_cR 269 c) i i = y_cR 269 c := by
          funext x
          unfold y_swp va_up
          by_cases hx : x = i
          · rw [if_pos hx, hx]
          · rw [if_neg hx, if_neg hx]
        rw [this]
        unfold y_tR
        have : va_up c.2.2.2.1 269 (y_cR 269 c) = c.2.2.2.1 := by
          funext x
          unfold va_up
          by_cases hx : x = 269
          · rw [if_pos hx, hx]
            rfl
          · rw [if_neg hx]
        rw [this]
      rw [e]
      refine y_RR_scong h ((y_KP_sP g c s _ (Or.inl (by omega))).trans (y_KP_sP g c _ _ (Or.inl (by omega)))) rfl (fun x hx => ?_)
      rw [y_pl_sP, y_pl_sP]
      by_cases hx : x = i
      · rw [if_pos hx, hx]
      · rw [if_neg hx, if_neg hx]
    · exact (y_KP_269 g c s _).trans ((y_KP_sP g _ s _ (Or.inl (by omega))).trans (y_KP_sP g _ _ _ (Or.inl (by omega))))
  obtain ⟨a, v, a1, a2, a3, a4⟩ := h4 i (by omega)
  obtain ⟨b, w, b1, b2, b3, b4⟩ := h4 j (by omega)
  have hab : a ≠ b := fun e => by
    rw [e, b3] at a3
    cases a3
    exact hij rfl
  have hg0 : ∀ x, (y_gow g x).1 ≠ 0 → y_gow (y_gsw a j b i g) x = y_gow g x := fun x hx => by
    show va_up (va_up g.1 a (0, j)) b (0, i) x = _
    have e1 : x ≠ a := fun e => by rw [e, a3] at hx; exact hx rfl
    have e2 : x ≠ b := fun e => by rw [e, b3] at hx; exact hx rfl
    rw [va_up_ne _ _ e2, va_up_ne _ _ e1]
    rfl
  have kp : y_KP g c s (y_gsw a j b i g) (y_tR 269 (y_swp (y_cR 269 c) i j) c) (y_sP j (y_pl s i) (y_sP i (y_pl s j) s)) := by
    have k1 : y_KP g c s (y_gsw a j b i g) c s := ⟨⟨rfl, rfl, rfl, rfl, fun x _ hx => hg0 x hx⟩, ⟨Nat.le_refl _, rfl, rfl, rfl⟩, fun _ _ _ => rfl, fun _ _ _ h => h, fun _ _ _ h => h, fun _ _ => rfl, fun _ => rfl, fun _ => rfl, fun _ _ _ _ => rfl, fun _ _ _ => rfl, fun _ _ => rfl, fun _ _ => rfl, fun _ _ => rfl, fun _ _ => rfl, rfl⟩
    exact (k1.trans (y_KP_269 _ c s _)).trans ((y_KP_sP _ _ s _ (Or.inl (by omega))).trans (y_KP_sP _ _ _ _ (Or.inl (by omega))))
  have hR : ∀ x, y_cR 269 (y_tR 269 (y_swp (y_cR 269 c) i j) c) x = if x = j then some a else if x = i then some b else y_cR 269 c x := fun x => by
    show y_swp (y_cR 269 c) i j x = _
    unfold y_swp va_up
    rw [a1, b1]
  refine ⟨y_gsw a j b i g, y_RR_KP h kp h.1.1 h.1.2.1 h.1.2.2 h.2.1.1 h.nine ⟨⟨h1, h2, h3⟩, fun x hx => ?_, fun x hx hx2 => ?_, fun x hx => ?_⟩, kp, rfl⟩
  · rw [hR]
    by_cases e1 : x = j
    · rw [if_pos e1, e1]
      refine ⟨a, v, rfl, a2, ?_, a4⟩
      show va_up (va_up g.1 a (0, j)) b (0, i) a = _
      rw [va_up_ne _ _ hab, va_up_self]
    · rw [if_neg e1]
      by_cases e2 : x = i
      · rw [if_pos e2, e2]
        refine ⟨b, w, rfl, b2, ?_, b4⟩
        show va_up (va_up g.1 a (0, j)) b (0, i) b = _
        rw [va_up_self]
      · rw [if_neg e2]
        obtain ⟨p, q, p1, p2, p3, p4⟩ := h4 x hx
        refine ⟨p, q, p1, p2, ?_, p4⟩
        show va_up (va_up g.1 a (0, j)) b (0, i) p = _
        have f1 : p ≠ a := fun e => by rw [e, a3] at p3; cases p3; exact e2 rfl
        have f2 : p ≠ b := fun e => by rw [e, b3] at p3; cases p3; exact e1 rfl
        rw [va_up_ne _ _ f2, va_up_ne _ _ f1]
        exact p3
  · have hx' : y_ghS g ≤ x := hx
    rw [hR, if_neg (by omega), if_neg (by omega)]
    exact h5 x hx' hx2
  · rw [hR, y_pl_sP, y_pl_sP]
    obtain ⟨p, q, p1, p2, p3⟩ := h6 i hi
    obtain ⟨r, y, r1, r2, r3⟩ := h6 j hj
    by_cases e1 : x = j
    · rw [if_pos e1, if_pos e1]
      rw [a1] at p1
      cases p1
      exact ⟨a, q, rfl, p2, y_VR_KP kp p3⟩
    · rw [if_neg e1, if_neg e1]
      by_cases e2 : x = i
      · rw [if_pos e2, if_pos e2]
        rw [b1] at r1
        cases r1
        exact ⟨b, y, rfl, r2, y_VR_KP kp r3⟩
      · rw [if_neg e2, if_neg e2]
        obtain ⟨p, q, p1, p2, p3⟩ := h6 x hx
        exact ⟨p, q, p1, p2, y_VR_KP kp p3⟩
theorem y_O_exch {rc : rcE} {sc : xSc} {g : y_GT} {m : Nat} {c : y_CT} {s : MT} {t nd o n : Nat} {d : Int32} (h : y_RR g (m + 1) c s t nd o n) : y_OPS m c s (f_P_operate rc sc (y_cH c) (some 256) (some 1) d) (f_M_operate s 1) := by
  have hn := h.le40
  refine y_OP_head (gr := 0) 1 [9, 9] h (y_OPc_of _ rfl) (by decide) (by decide) rfl (by decide) (by decide) (fun hr => ?_)
  have hr : 2 ≤ n := hr
  rw [show y_alls s (n - 1) [9, 9] = true from rfl, if_pos rfl, y_oth_stk 1 rfl (Or.inl (by decide)), y_e_Mstk 1 h.2.1.1 hn (by omega), y_e_b96_0]
  unfold f_Stacks_perform f_M_stackOperator_b21
  rw [if_pos (show xis sc (y_cH c) 19 (some 1) = true from rfl), show f_Enum_ordinal19 sc (y_cH c) (some 1) = some 1 from rfl]
  rw [Option.bind_some, if_neg (show ¬ (1 : Int32) = 0 by decide), if_neg (show ¬ (1 : Int32) = 0 by decide), if_pos rfl, if_pos rfl, y_cgI_9, Option.bind_some, Option.bind_some]
  rw [if_pos (y_cis_P _ _), h.nine, y_nI_sub1 (by omega), show (2 : Int32) = nI 2 from rfl, y_nI_sub (by omega)]
  have hS := h.2.2.1.1.1
  rw [y_e_swap h (by omega) (by omega), show (41 : Int32) = nI 41 from rfl, y_nI_sub1 (by omega), y_e_Mmove (by decide) (by omega)]
  dsimp only [Option.bind_some]
  rw [y_e_Mmove (by omega) (by omega)]
  dsimp only [Option.bind_some]
  rw [y_e_Mmove (by omega) (by decide)]
  dsimp only [Option.bind_some]
  obtain ⟨g', r1, r2, r3⟩ := y_R_swap h (show n - 2 < n by omega) (show n - 1 < n by omega)
  have e : n - 1 - 1 = n - 2 := by omega
  rw [e]
  generalize hs' : y_sP (n - 2) (y_pl (y_sP (n - 1) (y_pl (y_sP 41 (y_pl s (n - 1)) s) (n - 2)) (y_sP 41 (y_pl s (n - 1)) s)) 41) (y_sP (n - 1) (y_pl (y_sP 41 (y_pl s (n - 1)) s) (n - 2)) (y_sP 41 (y_pl s (n - 1)) s)) = s'
  have km : y_KM s s' := by
    rw [← hs']
    exact (((y_KM.refl s).sP _ (Or.inl (by omega))).sP _ (Or.inl (by omega))).sP _ (Or.inl (by omega))
  have kk := ((y_KM.of r2).symm.trans km).kp g' (y_tR 269 (y_swp (y_cR 269 c) (n - 2) (n - 1)) c)
  have rr := y_RR_scong r1 kk (by rw [← hs']; simp only [y_mI_sP]) (fun i hi => by
    rw [← hs']
    simp only [y_pl_sP]
    by_cases e1 : i = n - 2
    · rw [if_pos e1, if_neg (by omega), if_neg (show ¬ i = n - 1 by omega), if_pos e1, if_pos trivial]
    · by_cases e2 : i = n - 1
      · rw [if_neg e1, if_pos e2, if_neg (by omega), if_pos e2]
      · rw [if_neg e1, if_neg e2, if_neg (by omega), if_neg e2, if_neg e1])
  exact ⟨_, _, _, rfl, rfl, y_O_ok (rr.less (by omega)) (r2.trans kk) rfl⟩
