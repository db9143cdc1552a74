/-! more operators of the stack -/
theorem yy_OPc_of {sc : xSc} {k r gr : Nat} (w : xV) (h : xCs sc k = some (.inl (19, [vI (nI k), w, vI (nI r), vI (nI gr)]))) : yy_OPc sc k r gr := ⟨w, h⟩
/-- the model's state is another, the same where it counts -/
theorem yy_RR_scong {g : yy_GT} {m : Nat} {c : yy_CT} {s s' : MT} {t nd o n : Nat} (h : yy_RR g m c s t nd o n) (k : yy_KP g c s g c s') (h4 : mI 4 s' = mI 4 s) (hp : ∀ i, i < n → yy_pl s' i = yy_pl s i) : yy_RR g m c s' t nd o n := by
  refine yy_RR_KP h k h.1.1 h.1.2.1 h.1.2.2 (h4.trans h.2.1.1) h.nine ?_
  obtain ⟨h1, h2, h3, h5⟩ := h.2.2.1
  refine ⟨h1, h2, h3, fun i hi => ?_⟩
  obtain ⟨a, v, e1, e2, e3⟩ := h5 i hi
  exact ⟨a, v, e1, e2, by rw [hp i hi]; exact yy_VR_KP k e3⟩
/-- the model's states agree but for the stack -/
def yy_KM (s s' : MT) : Prop := (∀ p, 50 ≤ p → p < 1170 → yy_pl s' p = yy_pl s p) ∧ (∀ k, k ≠ 1 → mA k s' = mA k s) ∧ (∀ k, k ≠ 2 → mL k s' = mL k s) ∧ (∀ k, k ≠ 3 → mD k s' = mD k s) ∧ (∀ k, k ≠ 4 → mI k s' = mI k s) ∧ mG s' = mG s
theorem yy_KM.refl (s : MT) : yy_KM s s := ⟨fun _ _ _ => rfl, fun _ _ => rfl, fun _ _ => rfl, fun _ _ => rfl, fun _ _ => rfl, rfl⟩
theorem yy_KM.symm {s s' : MT} (h : yy_KM s s') : yy_KM s' s := ⟨fun p h1 h2 => (h.1 p h1 h2).symm, fun k hk => (h.2.1 k hk).symm, fun k hk => (h.2.2.1 k hk).symm, fun k hk => (h.2.2.2.1 k hk).symm, fun k hk => (h.2.2.2.2.1 k hk).symm, h.2.2.2.2.2.symm⟩
theorem yy_KM.trans {s s1 s2 : MT} (h : yy_KM s s1) (k : yy_KM s1 s2) : yy_KM s s2 := ⟨fun p h1 h2 => (k.1 p h1 h2).trans (h.1 p h1 h2), fun x hx => (k.2.1 x hx).trans (h.2.1 x hx), fun x hx => (k.2.2.1 x hx).trans (h.2.2.1 x hx), fun x hx => (k.2.2.2.1 x hx).trans (h.2.2.2.1 x hx), fun x hx => (k.2.2.2.2.1 x hx).trans (h.2.2.2.2.1 x hx), k.2.2.2.2.2.trans h.2.2.2.2.2⟩
theorem yy_KM.of {g g' : yy_GT} {c c' : yy_CT} {s s' : MT} (k : yy_KP g c s g' c' s') : yy_KM s s' := by
  obtain ⟨_, _, _, _, _, _, _, _, _, kp, kmA, kmL, kmD, kmI, kG⟩ := k
  exact ⟨kp, kmA, kmL, kmD, kmI, kG⟩
theorem yy_KM.kp {s s' : MT} (h : yy_KM s s') (g : yy_GT) (c : yy_CT) : yy_KP g c s g c s' :=
  ⟨⟨rfl, rfl, rfl, rfl, fun _ _ _ => rfl⟩, ⟨Nat.le_refl _, rfl, rfl, rfl⟩, fun _ _ _ => rfl, fun _ _ _ h => h, fun _ _ _ h => h, fun _ _ => rfl, fun _ => rfl, fun _ => rfl, fun _ _ _ _ => rfl, h.1, h.2.1, h.2.2.1, h.2.2.2.1, h.2.2.2.2.1, h.2.2.2.2.2⟩
theorem yy_KM.sP {s s' : MT} (h : yy_KM s s') {p : Nat} (q : Int32 × Int64 × UInt64) (hp : p < 50 ∨ 1170 ≤ p) : yy_KM s (yy_sP p q s') := by
  refine h.trans ⟨fun r h1 h2 => by rw [yy_pl_sP, if_neg (by omega)], fun k hk => ?_, fun k hk => ?_, fun k hk => ?_, fun _ _ => rfl, rfl⟩
  · exact va_up_ne _ _ hk
  · exact va_up_ne _ _ hk
  · exact va_up_ne _ _ hk
theorem yy_KM.s4 {s s' : MT} (h : yy_KM s s') (x : Int32) : yy_KM s (sI 4 x s') := h.trans ⟨fun _ _ _ => rfl, fun _ _ => rfl, fun _ _ => rfl, fun _ _ => rfl, fun k hk => by rw [yy_mI_sI, if_neg hk], rfl⟩
def yy_swp (f : Nat → Option Nat) (i j : Nat) : Nat → Option Nat := va_up (va_up f i (f j)) j (f i)
theorem yy_e_swap {sc : xSc} {g : yy_GT} {m : Nat} {c : yy_CT} {s : MT} {t nd o n i j : Nat} (h : yy_RR g m c s t nd o n) (hi : i < yy_ghS g) (hj : j < yy_ghS g) : f_P_swap sc (yy_cH c) (some 256) (nI i) (nI j) = some (yy_cH (yy_tR 269 (yy_swp (yy_cR 269 c) i j) c)) := by
  obtain ⟨⟨h1, h2, h3⟩, h4, h5, h6⟩ := h.2.2.1
  obtain ⟨a, v, a1, a2, a3, a4⟩ := h4 i hi
  obtain ⟨b, w, b1, b2, b3, b4⟩ := h4 j hj
  unfold f_P_swap
  rw [yy_cgR_6]
  dsimp only [Option.bind_some]
  rw [yy_caR_269 (by omega), yy_caR_269 (by omega), a1, b1]
  dsimp only [Option.bind_some]
  rw [yy_cbR_269 (by omega) (Or.inr (yy_sgis b2))]
  dsimp only [Option.bind_some]
  rw [yy_cgR_6]
  dsimp only [Option.bind_some]
  rw [yy_cbR_269 (by omega) (Or.inr (yy_sgis (c := yy_tR 269 (va_up (yy_cR 269 c) i (some b)) c) a2))]
  dsimp only [Option.bind_some]
  rw [yy_tR_tR, yy_cR_tR, if_pos rfl]
  unfold yy_swp
  rw [a1, b1]
def yy_gsw (a i b j : Nat) (g : yy_GT) : yy_GT := (va_up (va_up g.1 a (0, i)) b (0, j), g.2)
theorem yy_R_swap {g : yy_GT} {m : Nat} {c : yy_CT} {s : MT} {t nd o n i j : Nat} (h : yy_RR g m c s t nd o n) (hi : i < n) (hj : j < n) : ∃ g', yy_RR g' m (yy_tR 269 (yy_swp (yy_cR 269 c) i j) c) (yy_sP j (yy_pl s i) (yy_sP i (yy_pl s j) s)) t nd o n ∧ yy_KP g c s g' (yy_tR 269 (yy_swp (yy_cR 269 c) i j) c) (yy_sP j (yy_pl s i) (yy_sP i (yy_pl s j) s)) ∧ yy_ghS g' = yy_ghS g := by
  obtain ⟨⟨h1, h2, h3⟩, h4, h5, h6⟩ := h.2.2.1
  by_cases hij : i = j
  · subst hij
    refine ⟨g, ?_, ?_, rfl⟩
    · have e : yy_tR 269 (yy_swp (yy_cR 269 c) i i) c = c := by
        have : yy_swp (yy_cR 269 c) i i = yy_cR 269 c := by
          funext x
          unfold yy_swp va_up
          by_cases hx : x = i
          · rw [if_pos hx, hx]
          · rw [if_neg hx, if_neg hx]
        rw [this]
        unfold yy_tR
        have : va_up c.2.2.2.1 269 (yy_cR 269 c) = c.2.2.2.1 := by
          funext x
          unfold va_up
          by_cases hx : x = 269
          · rw [if_pos hx, hx]
            rfl
          · rw [if_neg hx]
        rw [this]
      rw [e]
      refine yy_RR_scong h ((yy_KP_sP g c s _ (Or.inl (by omega))).trans (yy_KP_sP g c _ _ (Or.inl (by omega)))) rfl (fun x hx => ?_)
      rw [yy_pl_sP, yy_pl_sP]
      by_cases hx : x = i
      · rw [if_pos hx, hx]
      · rw [if_neg hx, if_neg hx]
    · exact (yy_KP_269 g c s _).trans ((yy_KP_sP g _ s _ (Or.inl (by omega))).trans (yy_KP_sP g _ _ _ (Or.inl (by omega))))
  obtain ⟨a, v, a1, a2, a3, a4⟩ := h4 i (by omega)
  obtain ⟨b, w, b1, b2, b3, b4⟩ := h4 j (by omega)
  have hab : a ≠ b := fun e => by
    rw [e, b3] at a3
    cases a3
    exact hij rfl
  have hg0 : ∀ x, (yy_gow g x).1 ≠ 0 → yy_gow (yy_gsw a j b i g) x = yy_gow g x := fun x hx => by
    show va_up (va_up g.1 a (0, j)) b (0, i) x = _
    have e1 : x ≠ a := fun e => by rw [e, a3] at hx; exact hx rfl
    have e2 : x ≠ b := fun e => by rw [e, b3] at hx; exact hx rfl
    rw [va_up_ne _ _ e2, va_up_ne _ _ e1]
    rfl
  have kp : yy_KP g c s (yy_gsw a j b i g) (yy_tR 269 (yy_swp (yy_cR 269 c) i j) c) (yy_sP j (yy_pl s i) (yy_sP i (yy_pl s j) s)) := by
    have k1 : yy_KP g c s (yy_gsw a j b i g) c s := ⟨⟨rfl, rfl, rfl, rfl, fun x _ hx => hg0 x hx⟩, ⟨Nat.le_refl _, rfl, rfl, rfl⟩, fun _ _ _ => rfl, fun _ _ _ h => h, fun _ _ _ h => h, fun _ _ => rfl, fun _ => rfl, fun _ => rfl, fun _ _ _ _ => rfl, fun _ _ _ => rfl, fun _ _ => rfl, fun _ _ => rfl, fun _ _ => rfl, fun _ _ => rfl, rfl⟩
    exact (k1.trans (yy_KP_269 _ c s _)).trans ((yy_KP_sP _ _ s _ (Or.inl (by omega))).trans (yy_KP_sP _ _ _ _ (Or.inl (by omega))))
  have hR : ∀ x, yy_cR 269 (yy_tR 269 (yy_swp (yy_cR 269 c) i j) c) x = if x = j then some a else if x = i then some b else yy_cR 269 c x := fun x => by
    show yy_swp (yy_cR 269 c) i j x = _
    unfold yy_swp va_up
    rw [a1, b1]
  refine ⟨yy_gsw a j b i g, yy_RR_KP h kp h.1.1 h.1.2.1 h.1.2.2 h.2.1.1 h.nine ⟨⟨h1, h2, h3⟩, fun x hx => ?_, fun x hx hx2 => ?_, fun x hx => ?_⟩, kp, rfl⟩
  · rw [hR]
    by_cases e1 : x = j
    · rw [if_pos e1, e1]
      refine ⟨a, v, rfl, a2, ?_, a4⟩
      show va_up (va_up g.1 a (0, j)) b (0, i) a = _
      rw [va_up_ne _ _ hab, va_up_self]
    · rw [if_neg e1]
      by_cases e2 : x = i
      · rw [if_pos e2, e2]
        refine ⟨b, w, rfl, b2, ?_, b4⟩
        show va_up (va_up g.1 a (0, j)) b (0, i) b = _
        rw [va_up_self]
      · rw [if_neg e2]
        obtain ⟨p, q, p1, p2, p3, p4⟩ := h4 x hx
        refine ⟨p, q, p1, p2, ?_, p4⟩
        show va_up (va_up g.1 a (0, j)) b (0, i) p = _
        have f1 : p ≠ a := fun e => by rw [e, a3] at p3; cases p3; exact e2 rfl
        have f2 : p ≠ b := fun e => by rw [e, b3] at p3; cases p3; exact e1 rfl
        rw [va_up_ne _ _ f2, va_up_ne _ _ f1]
        exact p3
  · have hx' : yy_ghS g ≤ x := hx
    rw [hR, if_neg (by omega), if_neg (by omega)]
    exact h5 x hx' hx2
  · rw [hR, yy_pl_sP, yy_pl_sP]
    obtain ⟨p, q, p1, p2, p3⟩ := h6 i hi
    obtain ⟨r, y, r1, r2, r3⟩ := h6 j hj
    by_cases e1 : x = j
    · rw [if_pos e1, if_pos e1]
      rw [a1] at p1
      cases p1
      exact ⟨a, q, rfl, p2, yy_VR_KP kp p3⟩
    · rw [if_neg e1, if_neg e1]
      by_cases e2 : x = i
      · rw [if_pos e2, if_pos e2]
        rw [b1] at r1
        cases r1
        exact ⟨b, y, rfl, r2, yy_VR_KP kp r3⟩
      · rw [if_neg e2, if_neg e2]
        obtain ⟨p, q, p1, p2, p3⟩ := h6 x hx
        exact ⟨p, q, p1, p2, yy_VR_KP kp p3⟩
theorem yy_O_exch {rc : rcE} {sc : xSc} {g : yy_GT} {m : Nat} {c : yy_CT} {s : MT} {t nd o n : Nat} {d : Int32} (h : yy_RR g (m + 1) c s t nd o n) : yy_OPS m c s (f_P_operate rc sc (yy_cH c) (some 256) (some 1) d) (f_M_operate s 1) := by
  have hn := h.le40
  refine yy_OP_head (gr := 0) 1 [9, 9] h (yy_OPc_of _ rfl) (by decide) (by decide) rfl (by decide) (by decide) (fun hr => ?_)
  have hr : 2 ≤ n := hr
  rw [show yy_alls s (n - 1) [9, 9] = true from rfl, if_pos rfl, yy_oth_stk 1 rfl (Or.inl (by decide)), yy_e_Mstk 1 h.2.1.1 hn (by omega), yy_e_b96_0]
  unfold f_Stacks_perform f_M_stackOperator_b21
  rw [if_pos (show xis sc (yy_cH c) 19 (some 1) = true from rfl), show f_Enum_ordinal19 sc (yy_cH c) (some 1) = some 1 from rfl]
  rw [Option.bind_some, if_neg (show ¬ (1 : Int32) = 0 by decide), if_neg (show ¬ (1 : Int32) = 0 by decide), if_pos rfl, if_pos rfl, yy_cgI_9, Option.bind_some, Option.bind_some]
  rw [if_pos (yy_cis_P _ _), h.nine, yy_nI_sub1 (by omega), show (2 : Int32) = nI 2 from rfl, yy_nI_sub (by omega)]
  have hS := h.2.2.1.1.1
  rw [yy_e_swap h (by omega) (by omega), show (41 : Int32) = nI 41 from rfl, yy_nI_sub1 (by omega), yy_e_Mmove (by decide) (by omega)]
  dsimp only [Option.bind_some]
  rw [yy_e_Mmove (by omega) (by omega)]
  dsimp only [Option.bind_some]
  rw [yy_e_Mmove (by omega) (by decide)]
  dsimp only [Option.bind_some]
  obtain ⟨g', r1, r2, r3⟩ := yy_R_swap h (show n - 2 < n by omega) (show n - 1 < n by omega)
  have e : n - 1 - 1 = n - 2 := by omega
  rw [e]
  generalize hs' : yy_sP (n - 2) (yy_pl (yy_sP (n - 1) (yy_pl (yy_sP 41 (yy_pl s (n - 1)) s) (n - 2)) (yy_sP 41 (yy_pl s (n - 1)) s)) 41) (yy_sP (n - 1) (yy_pl (yy_sP 41 (yy_pl s (n - 1)) s) (n - 2)) (yy_sP 41 (yy_pl s (n - 1)) s)) = s'
  have km : yy_KM s s' := by
    rw [← hs']
    exact (((yy_KM.refl s).sP _ (Or.inl (by omega))).sP _ (Or.inl (by omega))).sP _ (Or.inl (by omega))
  have kk := ((yy_KM.of r2).symm.trans km).kp g' (yy_tR 269 (yy_swp (yy_cR 269 c) (n - 2) (n - 1)) c)
  have rr := yy_RR_scong r1 kk (by rw [← hs']; simp only [yy_mI_sP]) (fun i hi => by
    rw [← hs']
    simp only [yy_pl_sP]
    by_cases e1 : i = n - 2
    · rw [if_pos e1, if_neg (by omega), if_neg (show ¬ i = n - 1 by omega), if_pos e1, if_pos trivial]
    · by_cases e2 : i = n - 1
      · rw [if_neg e1, if_pos e2, if_neg (by omega), if_pos e2]
      · rw [if_neg e1, if_neg e2, if_neg (by omega), if_neg e2, if_neg e1])
  exact ⟨_, _, _, rfl, rfl, yy_O_ok (rr.less (by omega)) (r2.trans kk) rfl⟩
