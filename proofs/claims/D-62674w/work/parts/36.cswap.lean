/-! more operators of the stack -/
theorem OPc_of {sc : xSc} {k r gr : Nat} (w : xV) (h : xCs sc k = some (.inl (19, [vI (nI k), w, vI (nI r), vI (nI gr)]))) : OPc sc k r gr := ⟨w, h⟩
/-- the model's state is another, the same where it counts -/
theorem RR_scong {g : GT} {m : Nat} {c : CT} {s s' : MT} {t nd o n : Nat} (h : RR g m c s t nd o n) (k : KP g c s g c s') (h4 : mI 4 s' = mI 4 s) (hp : ∀ i, i < n → pl s' i = pl s i) : RR g m c s' t nd o n := by
  refine RR_KP h k h.1.1 h.1.2.1 h.1.2.2 (h4.trans h.2.1.1) h.nine ?_
  obtain ⟨h1, h2, h3, h5⟩ := h.2.2.1
  refine ⟨h1, h2, h3, fun i hi => ?_⟩
  obtain ⟨a, v, e1, e2, e3⟩ := h5 i hi
  exact ⟨a, v, e1, e2, by rw [hp i hi]; exact VR_KP k e3⟩
/-- the model's states agree but for the stack -/
def KM (s s' : MT) : Prop := (∀ p, 50 ≤ p → p < 1170 → pl s' p = pl s p) ∧ (∀ k, k ≠ 1 → mA k s' = mA k s) ∧ (∀ k, k ≠ 2 → mL k s' = mL k s) ∧ (∀ k, k ≠ 3 → mD k s' = mD k s) ∧ (∀ k, k ≠ 4 → mI k s' = mI k s) ∧ mG s' = mG s
theorem KM.refl (s : MT) : KM s s := ⟨fun _ _ _ => rfl, fun _ _ => rfl, fun _ _ => rfl, fun _ _ => rfl, fun _ _ => rfl, rfl⟩
theorem KM.symm {s s' : MT} (h : KM s s') : KM s' s := ⟨fun p h1 h2 => (h.1 p h1 h2).symm, fun k hk => (h.2.1 k hk).symm, fun k hk => (h.2.2.1 k hk).symm, fun k hk => (h.2.2.2.1 k hk).symm, fun k hk => (h.2.2.2.2.1 k hk).symm, h.2.2.2.2.2.symm⟩
theorem KM.trans {s s1 s2 : MT} (h : KM s s1) (k : KM s1 s2) : KM s s2 := ⟨fun p h1 h2 => (k.1 p h1 h2).trans (h.1 p h1 h2), fun x hx => (k.2.1 x hx).trans (h.2.1 x hx), fun x hx => (k.2.2.1 x hx).trans (h.2.2.1 x hx), fun x hx => (k.2.2.2.1 x hx).trans (h.2.2.2.1 x hx), fun x hx => (k.2.2.2.2.1 x hx).trans (h.2.2.2.2.1 x hx), k.2.2.2.2.2.trans h.2.2.2.2.2⟩
theorem KM.of {g g' : GT} {c c' : CT} {s s' : MT} (k : KP g c s g' c' s') : KM s s' := by
  obtain ⟨_, _, _, _, _, _, _, _, _, kp, kmA, kmL, kmD, kmI, kG⟩ := k
  exact ⟨kp, kmA, kmL, kmD, kmI, kG⟩
theorem KM.kp {s s' : MT} (h : KM s s') (g : GT) (c : CT) : KP g c s g c s' :=
  ⟨⟨rfl, rfl, rfl, rfl, fun _ _ _ => rfl⟩, ⟨Nat.le_refl _, rfl, rfl, rfl⟩, fun _ _ _ => rfl, fun _ _ _ h => h, fun _ _ _ h => h, fun _ _ => rfl, fun _ => rfl, fun _ => rfl, fun _ _ _ _ => rfl, h.1, h.2.1, h.2.2.1, h.2.2.2.1, h.2.2.2.2.1, h.2.2.2.2.2⟩
theorem KM.sP {s s' : MT} (h : KM s s') {p : Nat} (q : Int32 × Int64 × UInt64) (hp : p < 50 ∨ 1170 ≤ p) : KM s (sP p q s') := by
  refine h.trans ⟨fun r h1 h2 => by rw [pl_sP, if_neg (by omega)], fun k hk => ?_, fun k hk => ?_, fun k hk => ?_, fun _ _ => rfl, rfl⟩
  · exact va_up_ne _ _ hk
  · exact va_up_ne _ _ hk
  · exact va_up_ne _ _ hk
theorem KM.s4 {s s' : MT} (h : KM s s') (x : Int32) : KM s (sI 4 x s') := h.trans ⟨fun _ _ _ => rfl, fun _ _ => rfl, fun _ _ => rfl, fun _ _ => rfl, fun k hk => by rw [mI_sI, if_neg hk], rfl⟩
def swp (f : Nat → Option Nat) (i j : Nat) : Nat → Option Nat := va_up (va_up f i (f j)) j (f i)
theorem e_swap {sc : xSc} {g : GT} {m : Nat} {c : CT} {s : MT} {t nd o n i j : Nat} (h : RR g m c s t nd o n) (hi : i < ghS g) (hj : j < ghS g) : f_P_swap sc (cH c) (some 256) (nI i) (nI j) = some (cH (tR 269 (swp (cR 269 c) i j) c)) := by
  obtain ⟨⟨h1, h2, h3⟩, h4, h5, h6⟩ := h.2.2.1
  obtain ⟨a, v, a1, a2, a3, a4⟩ := h4 i hi
  obtain ⟨b, w, b1, b2, b3, b4⟩ := h4 j hj
  unfold f_P_swap
  rw [cgR_6]
  dsimp only [Option.bind_some]
  rw [caR_269 (by omega), caR_269 (by omega), a1, b1]
  dsimp only [Option.bind_some]
  rw [cbR_269 (by omega) (Or.inr (sgis b2))]
  dsimp only [Option.bind_some]
  rw [cgR_6]
  dsimp only [Option.bind_some]
  rw [cbR_269 (by omega) (Or.inr (sgis (c := tR 269 (va_up (cR 269 c) i (some b)) c) a2))]
  dsimp only [Option.bind_some]
  rw [tR_tR, cR_tR, if_pos rfl]
  unfold swp
  rw [a1, b1]
def gsw (a i b j : Nat) (g : GT) : GT := (va_up (va_up g.1 a (0, i)) b (0, j), g.2)
theorem R_swap {g : GT} {m : Nat} {c : CT} {s : MT} {t nd o n i j : Nat} (h : RR g m c s t nd o n) (hi : i < n) (hj : j < n) : ∃ g', RR g' m (tR 269 (swp (cR 269 c) i j) c) (sP j (pl s i) (sP i (pl s j) s)) t nd o n ∧ KP g c s g' (tR 269 (swp (cR 269 c) i j) c) (sP j (pl s i) (sP i (pl s j) s)) ∧ ghS g' = ghS g := by
  obtain ⟨⟨h1, h2, h3⟩, h4, h5, h6⟩ := h.2.2.1
  by_cases hij : i = j
  · subst hij
    refine ⟨g, ?_, ?_, rfl⟩
    · have e : tR 269 (swp (cR 269 c) i i) c = c := by
        have : swp (cR 269 c) i i = cR 269 c := by
          funext x
          unfold swp va_up
          by_cases hx : x = i
          · rw [if_pos hx, hx]
          · rw [if_neg hx, if_neg hx]
        rw [this]
        unfold tR
        have : va_up c.2.2.2.1 269 (cR 269 c) = c.2.2.2.1 := by
          funext x
          unfold va_up
          by_cases hx : x = 269
          · rw [if_pos hx, hx]
            rfl
          · rw [if_neg hx]
        rw [this]
      rw [e]
      refine RR_scong h ((KP_sP g c s _ (Or.inl (by omega))).trans (KP_sP g c _ _ (Or.inl (by omega)))) rfl (fun x hx => ?_)
      rw [pl_sP, pl_sP]
      by_cases hx : x = i
      · rw [if_pos hx, hx]
      · rw [if_neg hx, if_neg hx]
    · exact (KP_269 g c s _).trans ((KP_sP g _ s _ (Or.inl (by omega))).trans (KP_sP g _ _ _ (Or.inl (by omega))))
  obtain ⟨a, v, a1, a2, a3, a4⟩ := h4 i (by omega)
  obtain ⟨b, w, b1, b2, b3, b4⟩ := h4 j (by omega)
  have hab : a ≠ b := fun e => by
    rw [e, b3] at a3
    cases a3
    exact hij rfl
  have hg0 : ∀ x, (gow g x).1 ≠ 0 → gow (gsw a j b i g) x = gow g x := fun x hx => by
    show va_up (va_up g.1 a (0, j)) b (0, i) x = _
    have e1 : x ≠ a := fun e => by rw [e, a3] at hx; exact hx rfl
    have e2 : x ≠ b := fun e => by rw [e, b3] at hx; exact hx rfl
    rw [va_up_ne _ _ e2, va_up_ne _ _ e1]
    rfl
  have kp : KP g c s (gsw a j b i g) (tR 269 (swp (cR 269 c) i j) c) (sP j (pl s i) (sP i (pl s j) s)) := by
    have k1 : KP g c s (gsw a j b i g) c s := ⟨⟨rfl, rfl, rfl, rfl, fun x _ hx => hg0 x hx⟩, ⟨Nat.le_refl _, rfl, rfl, rfl⟩, fun _ _ _ => rfl, fun _ _ _ h => h, fun _ _ _ h => h, fun _ _ => rfl, fun _ => rfl, fun _ => rfl, fun _ _ _ _ => rfl, fun _ _ _ => rfl, fun _ _ => rfl, fun _ _ => rfl, fun _ _ => rfl, fun _ _ => rfl, rfl⟩
    exact (k1.trans (KP_269 _ c s _)).trans ((KP_sP _ _ s _ (Or.inl (by omega))).trans (KP_sP _ _ _ _ (Or.inl (by omega))))
  have hR : ∀ x, cR 269 (tR 269 (swp (cR 269 c) i j) c) x = if x = j then some a else if x = i then some b else cR 269 c x := fun x => by
    show swp (cR 269 c) i j x = _
    unfold swp va_up
    rw [a1, b1]
  refine ⟨gsw a j b i g, RR_KP h kp h.1.1 h.1.2.1 h.1.2.2 h.2.1.1 h.nine ⟨⟨h1, h2, h3⟩, fun x hx => ?_, fun x hx hx2 => ?_, fun x hx => ?_⟩, kp, rfl⟩
  · rw [hR]
    by_cases e1 : x = j
    · rw [if_pos e1, e1]
      refine ⟨a, v, rfl, a2, ?_, a4⟩
      show va_up (va_up g.1 a (0, j)) b (0, i) a = _
      rw [va_up_ne _ _ hab, va_up_self]
    · rw [if_neg e1]
      by_cases e2 : x = i
      · rw [if_pos e2, e2]
        refine ⟨b, w, rfl, b2, ?_, b4⟩
        show va_up (va_up g.1 a (0, j)) b (0, i) b = _
        rw [va_up_self]
      · rw [if_neg e2]
        obtain ⟨p, q, p1, p2, p3, p4⟩ := h4 x hx
        refine ⟨p, q, p1, p2, ?_, p4⟩
        show va_up (va_up g.1 a (0, j)) b (0, i) p = _
        have f1 : p ≠ a := fun e => by rw [e, a3] at p3; cases p3; exact e2 rfl
        have f2 : p ≠ b := fun e => by rw [e, b3] at p3; cases p3; exact e1 rfl
        rw [va_up_ne _ _ f2, va_up_ne _ _ f1]
        exact p3
  · have hx' : ghS g ≤ x := hx
    rw [hR, if_neg (by omega), if_neg (by omega)]
    exact h5 x hx' hx2
  · rw [hR, pl_sP, pl_sP]
    obtain ⟨p, q, p1, p2, p3⟩ := h6 i hi
    obtain ⟨r, y, r1, r2, r3⟩ := h6 j hj
    by_cases e1 : x = j
    · rw [if_pos e1, if_pos e1]
      rw [a1] at p1
      cases p1
      exact ⟨a, q, rfl, p2, VR_KP kp p3⟩
    · rw [if_neg e1, if_neg e1]
      by_cases e2 : x = i
      · rw [if_pos e2, if_pos e2]
        rw [b1] at r1
        cases r1
        exact ⟨b, y, rfl, r2, VR_KP kp r3⟩
      · rw [if_neg e2, if_neg e2]
        obtain ⟨p, q, p1, p2, p3⟩ := h6 x hx
        exact ⟨p, q, p1, p2, VR_KP kp p3⟩
theorem O_exch {rc : rcE} {sc : xSc} {g : GT} {m : Nat} {c : CT} {s : MT} {t nd o n : Nat} {d : Int32} (h : RR g (m + 1) c s t nd o n) : OPS m c s (f_P_operate rc sc (cH c) (some 256) (some 1) d) (f_M_operate s 1) := by
  have hn := h.le40
  refine OP_head (gr := 0) 1 [9, 9] h (OPc_of _ rfl) (by decide) (by decide) rfl (by decide) (by decide) (fun hr => ?_)
  have hr : 2 ≤ n := hr
  rw [show alls s (n - 1) [9, 9] = true from rfl, if_pos rfl, oth_stk 1 rfl (Or.inl (by decide)), e_Mstk 1 h.2.1.1 hn (by omega), e_b96_0]
  unfold f_Stacks_perform f_M_stackOperator_b21
  rw [if_pos (show xis sc (cH c) 19 (some 1) = true from rfl), show f_Enum_ordinal19 sc (cH c) (some 1) = some 1 from rfl]
  rw [Option.bind_some, if_neg (show ¬ (1 : Int32) = 0 by decide), if_neg (show ¬ (1 : Int32) = 0 by decide), if_pos rfl, if_pos rfl, cgI_9, Option.bind_some, Option.bind_some]
  rw [if_pos (cis_P _ _), h.nine, nI_sub1 (by omega), show (2 : Int32) = nI 2 from rfl, nI_sub (by omega)]
  have hS := h.2.2.1.1.1
  rw [e_swap h (by omega) (by omega), show (41 : Int32) = nI 41 from rfl, nI_sub1 (by omega), e_Mmove (by decide) (by omega)]
  dsimp only [Option.bind_some]
  rw [e_Mmove (by omega) (by omega)]
  dsimp only [Option.bind_some]
  rw [e_Mmove (by omega) (by decide)]
  dsimp only [Option.bind_some]
  obtain ⟨g', r1, r2, r3⟩ := R_swap h (show n - 2 < n by omega) (show n - 1 < n by omega)
  have e : n - 1 - 1 = n - 2 := by omega
  rw [e]
  generalize hs' : sP (n - 2) (pl (sP (n - 1) (pl (sP 41 (pl s (n - 1)) s) (n - 2)) (sP 41 (pl s (n - 1)) s)) 41) (sP (n - 1) (pl (sP 41 (pl s (n - 1)) s) (n - 2)) (sP 41 (pl s (n - 1)) s)) = s'
  have km : KM s s' := by
    rw [← hs']
    exact (((KM.refl s).sP _ (Or.inl (by omega))).sP _ (Or.inl (by omega))).sP _ (Or.inl (by omega))
  have kk := ((KM.of r2).symm.trans km).kp g' (tR 269 (swp (cR 269 c) (n - 2) (n - 1)) c)
  have rr := RR_scong r1 kk (by rw [← hs']; simp only [mI_sP]) (fun i hi => by
    rw [← hs']
    simp only [pl_sP]
    by_cases e1 : i = n - 2
    · rw [if_pos e1, if_neg (by omega), if_neg (show ¬ i = n - 1 by omega), if_pos e1, if_pos trivial]
    · by_cases e2 : i = n - 1
      · rw [if_neg e1, if_pos e2, if_neg (by omega), if_pos e2]
      · rw [if_neg e1, if_neg e2, if_neg (by omega), if_neg e2, if_neg e1])
  exact ⟨_, _, _, rfl, rfl, O_ok (rr.less (by omega)) (r2.trans kk) rfl⟩
