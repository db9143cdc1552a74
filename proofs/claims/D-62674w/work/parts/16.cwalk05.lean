def f_P_lookUp_b97 (rc : rcE) (sc : xSc)  (u : xH) : Option ((Unit ⊕ Nat) × xH) := some (.inl (), u)
theorem w_P_lookUp_b97 {rc : rcE} {D : Nat} {sc : xSc} {d : Nat} {Q : xR → xH → Prop} {oZ : Unit ⊕ Nat} {hZ : xH} (hrc : rcEOK sc D rc)  (hQ : Q (cvU oZ) hZ) (u : xH) (h : f_P_lookUp_b97 rc sc  u = some (oZ, hZ)) : xW sc m_P_lookUp (D + d + 14) Q (u) 97 [none, none, none, none] [] := by
  unfold f_P_lookUp_b97 at h
  cases h
  exact x_vret (pc := 97) d_P_lookUp_97 rfl hQ
def f_P_lookUp_b92 (rc : rcE) (sc : xSc)  (l0 : Option Nat) (l3 : Option Nat) (u : xH) : Option ((Unit ⊕ Nat) × xH) := (if xis sc u 0 l0 = true then tB (f_P_push sc u l0 l3) (fun v3 u2 => f_P_lookUp_b97 rc sc u2) (fun a5 u6 => some (.inr a5, u6)) else none)
theorem w_P_lookUp_b92 {rc : rcE} {D : Nat} {sc : xSc} {d : Nat} {Q : xR → xH → Prop} {oZ : Unit ⊕ Nat} {hZ : xH} (hrc : rcEOK sc D rc)  (hQ : Q (cvU oZ) hZ) (l0 : Option Nat) (l3 : Option Nat) (u : xH) (h : f_P_lookUp_b92 rc sc  l0 l3 u = some (oZ, hZ)) : xW sc m_P_lookUp (D + d + 14) Q (u) 92 [some (vR l0), none, none, some (vR l3)] [] := by
  unfold f_P_lookUp_b92 at h
  refine x_aload_n (pc := 92) d_P_lookUp_92 rfl ?_
  refine x_aload_n (pc := 93) d_P_lookUp_93 rfl ?_
  obtain ⟨c1, h⟩ := ite_some h
  rcases tB_s h with ⟨a5, u6, e4, h⟩ | ⟨v3, u2, e4, h⟩
  · refine c_invv (c := 0) (d := D + d + 13) (av := [vR l3]) (st := []) (Q' := fun r h' => r = .inr a5 ∧ h' = u6) (pc := 94) d_P_lookUp_94 cv_P_339 y_P_push c1 rfl (Nat.le_of_ble_eq_true rfl) (Nat.le_of_ble_eq_true rfl) (w_P_push (d := D + d + 5) (Q := fun r h' => r = .inr a5 ∧ h' = u6) ⟨rfl, rfl⟩ u l0 l3 e4) (fun v h' z => nomatch z.1) (fun a h' z => ?_)
    obtain ⟨z1, z2⟩ := z
    subst h'
    cases z1
    cases h
    exact x_thOut (xno rfl) hQ
  refine c_invv (c := 0) (d := D + d + 13) (av := [vR l3]) (st := []) (Q' := fun r h' => r = .inl none ∧ h' = u2) (pc := 94) d_P_lookUp_94 cv_P_339 y_P_push c1 rfl (Nat.le_of_ble_eq_true rfl) (Nat.le_of_ble_eq_true rfl) (w_P_push (d := D + d + 5) (Q := fun r h' => r = .inl none ∧ h' = u2) ⟨rfl, rfl⟩ u l0 l3 e4) (fun v h' z => ?_) (fun a h' z => nomatch z.1)
  obtain ⟨z1, z2⟩ := z
  subst h'
  cases z1
  show xW sc m_P_lookUp (D + d + 14) Q (u2) 97 [some (vR l0), none, none, some (vR l3)] []
  exact x_wk (L' := [none, none, none, none]) ⟨Or.inl rfl, Or.inl rfl, Or.inl rfl, Or.inl rfl, trivial⟩ (w_P_lookUp_b97 hrc hQ u2 h)
def f_P_lookUp_b76 (rc : rcE) (sc : xSc)  (l0 : Option Nat) (l2 : Int32) (l3 : Option Nat) (t0 : Int32) (t1 : Option Nat) (u : xH) : Option ((Unit ⊕ Nat) × xH) := (if xis sc u 0 t1 = true then tB (f_P_need sc u t1 t0 (12 : Int32)) (fun v3 u2 => (if xis sc u2 0 l0 = true then tB (rc u2 l0 l3 (l2 + (1 : Int32))) (fun v9 u8 => f_P_lookUp_b97 rc sc u8) (fun a11 u12 => some (.inr a11, u12)) else none)) (fun a5 u6 => some (.inr a5, u6)) else none)
theorem w_P_lookUp_b76 {rc : rcE} {D : Nat} {sc : xSc} {d : Nat} {Q : xR → xH → Prop} {oZ : Unit ⊕ Nat} {hZ : xH} (hrc : rcEOK sc D rc)  (hQ : Q (cvU oZ) hZ) (l0 : Option Nat) (l2 : Int32) (l3 : Option Nat) (t0 : Int32) (t1 : Option Nat) (u : xH) (h : f_P_lookUp_b76 rc sc  l0 l2 l3 t0 t1 u = some (oZ, hZ)) : xW sc m_P_lookUp (D + d + 14) Q (u) 76 [some (vR l0), none, some (vI l2), some (vR l3)] [vI t0, vR t1] := by
  unfold f_P_lookUp_b76 at h
  refine x_bipush (v := (12 : Int32)) (pc := 76) d_P_lookUp_76 (by decide) ?_
  obtain ⟨c1, h⟩ := ite_some h
  rcases tB_s h with ⟨a5, u6, e4, h⟩ | ⟨v3, u2, e4, h⟩
  · refine c_invv (c := 0) (d := D + d + 13) (av := [vI t0, vI (12 : Int32)]) (st := []) (Q' := fun r h' => r = .inr a5 ∧ h' = u6) (pc := 78) d_P_lookUp_78 cv_P_170 y_P_need c1 rfl (Nat.le_of_ble_eq_true rfl) (Nat.le_of_ble_eq_true rfl) (w_P_need (d := D + d + 7) (Q := fun r h' => r = .inr a5 ∧ h' = u6) ⟨rfl, rfl⟩ u t1 t0 (12 : Int32) e4) (fun v h' z => nomatch z.1) (fun a h' z => ?_)
    obtain ⟨z1, z2⟩ := z
    subst h'
    cases z1
    cases h
    exact x_thOut (xno rfl) hQ
  refine c_invv (c := 0) (d := D + d + 13) (av := [vI t0, vI (12 : Int32)]) (st := []) (Q' := fun r h' => r = .inl none ∧ h' = u2) (pc := 78) d_P_lookUp_78 cv_P_170 y_P_need c1 rfl (Nat.le_of_ble_eq_true rfl) (Nat.le_of_ble_eq_true rfl) (w_P_need (d := D + d + 7) (Q := fun r h' => r = .inl none ∧ h' = u2) ⟨rfl, rfl⟩ u t1 t0 (12 : Int32) e4) (fun v h' z => ?_) (fun a h' z => nomatch z.1)
  obtain ⟨z1, z2⟩ := z
  subst h'
  cases z1
  show xW sc m_P_lookUp (D + d + 14) Q (u2) 81 [some (vR l0), none, some (vI l2), some (vR l3)] []
  refine x_aload_n (pc := 81) d_P_lookUp_81 rfl ?_
  refine x_aload_n (pc := 82) d_P_lookUp_82 rfl ?_
  refine x_iload_n (pc := 83) d_P_lookUp_83 rfl ?_
  refine x_iconst (v := (1 : Int32)) (pc := 84) d_P_lookUp_84 (by decide) ?_
  refine x_iadd (pc := 85) d_P_lookUp_85 ?_
  obtain ⟨c7, h⟩ := ite_some h
  rcases tB_s h with ⟨a11, u12, e10, h⟩ | ⟨v9, u8, e10, h⟩
  · refine c_invv (c := 0) (d := D + d + 13) (av := [vR l3, vI (l2 + (1 : Int32))]) (st := []) (Q' := fun r h' => r = .inr a11 ∧ h' = u12) (pc := 86) d_P_lookUp_86 cv_P_364 y_P_element c7 rfl (Nat.le_of_ble_eq_true rfl) (Nat.le_of_ble_eq_true rfl) (hrc (d + 13) (fun r h' => r = .inr a11 ∧ h' = u12) u2 l0 l3 (l2 + (1 : Int32)) _ _ e10 ⟨rfl, rfl⟩) (fun v h' z => nomatch z.1) (fun a h' z => ?_)
    obtain ⟨z1, z2⟩ := z
    subst h'
    cases z1
    cases h
    exact x_thOut (xno rfl) hQ
  refine c_invv (c := 0) (d := D + d + 13) (av := [vR l3, vI (l2 + (1 : Int32))]) (st := []) (Q' := fun r h' => r = .inl none ∧ h' = u8) (pc := 86) d_P_lookUp_86 cv_P_364 y_P_element c7 rfl (Nat.le_of_ble_eq_true rfl) (Nat.le_of_ble_eq_true rfl) (hrc (d + 13) (fun r h' => r = .inl none ∧ h' = u8) u2 l0 l3 (l2 + (1 : Int32)) _ _ e10 ⟨rfl, rfl⟩) (fun v h' z => ?_) (fun a h' z => nomatch z.1)
  obtain ⟨z1, z2⟩ := z
  subst h'
  cases z1
  show xW sc m_P_lookUp (D + d + 14) Q (u8) 89 [some (vR l0), none, some (vI l2), some (vR l3)] []
  refine x_goto (tgt := 97) (pc := 89) d_P_lookUp_89 (by decide) ?_
  exact x_wk (L' := [none, none, none, none]) ⟨Or.inl rfl, Or.inl rfl, Or.inl rfl, Or.inl rfl, trivial⟩ (w_P_lookUp_b97 hrc hQ u8 h)
def f_P_lookUp (rc : rcE) (sc : xSc) (u : xH) (a0 : Option Nat) (a1 : Option Nat) (a2 : Int32) : Option ((Unit ⊕ Nat) × xH) := (if xis sc u 0 a0 = true then (f_P_find sc u a0 a1).bind fun v2 => (if v2 = none then (if xis sc u 3 a1 = true then (f_Name_op sc u a1).bind fun v28 => (if xis sc u 0 a0 = true then tB (f_P_operate rc sc u a0 v28 a2) (fun v32 u31 => f_P_lookUp_b97 rc sc u31) (fun a34 u35 => some (.inr a34, u35)) else none) else none) else (if xis sc u 2 v2 = true then (f_Slot_isProcedure sc u v2).bind fun v6 => (if v6 = 0 then (if xis sc u 2 v2 = true then (f_Slot_is sc u v2 (some 75)).bind fun v10 => (if v10 = 0 then f_P_lookUp_b92 rc sc a0 v2 u else (gI sc u 2 1 v2).bind fun v13 => (if v13 = 0 then f_P_lookUp_b92 rc sc a0 v2 u else (if (8 : Int32) ≤ a2 then f_P_lookUp_b76 rc sc a0 a2 v2 (0 : Int32) a0 u else f_P_lookUp_b76 rc sc a0 a2 v2 (1 : Int32) a0 u))) else none) else (gI sc u 2 2 v2).bind fun v17 => (gI sc u 2 3 v2).bind fun v19 => (if xis sc u 0 a0 = true then tB (f_P_call rc sc u a0 v17 v19 (a2 + (1 : Int32))) (fun v23 u22 => f_P_lookUp_b97 rc sc u22) (fun a25 u26 => some (.inr a25, u26)) else none)) else none)) else none)
theorem w_P_lookUp {rc : rcE} {D : Nat} {sc : xSc} {d : Nat} {Q : xR → xH → Prop} {oZ : Unit ⊕ Nat} {hZ : xH} (hrc : rcEOK sc D rc) (hQ : Q (cvU oZ) hZ) (u : xH) (a0 : Option Nat) (a1 : Option Nat) (a2 : Int32) (h : f_P_lookUp rc sc u a0 a1 a2 = some (oZ, hZ)) : xW sc m_P_lookUp (D + d + 14) Q (u) 0 (xent [vR a0, vR a1, vI a2] m_P_lookUp.2.2.1) [] := by
  show xW sc m_P_lookUp (D + d + 14) Q (u) 0 [some (vR a0), some (vR a1), some (vI a2), none] []
  unfold f_P_lookUp at h
  refine x_aload_n (pc := 0) d_P_lookUp_0 rfl ?_
  refine x_aload_n (pc := 1) d_P_lookUp_1 rfl ?_
  obtain ⟨c1, h⟩ := ite_some h
  obtain ⟨v2, e3, h⟩ := Option.bind_eq_some_iff.mp h
  refine c_invv (c := 0) (d := D + d + 13) (av := [vR a1]) (st := []) (Q' := fun r h' => r = .inl (some (vR v2)) ∧ h' = u) (pc := 2) d_P_lookUp_2 cv_P_342 y_P_find c1 rfl (Nat.le_of_ble_eq_true rfl) (Nat.le_of_ble_eq_true rfl) (w_P_find (d := D + d + 11) (Q := fun r h' => r = .inl (some (vR v2)) ∧ h' = u) ⟨rfl, rfl⟩ a0 a1 e3) (fun v h' z => ?_) (fun a h' z => nomatch z.1)
  obtain ⟨z1, z2⟩ := z
  subst h'
  cases z1
  show xW sc m_P_lookUp (D + d + 14) Q (u) 5 [some (vR a0), some (vR a1), some (vI a2), none] [vR v2]
  refine x_astore_n (pc := 5) d_P_lookUp_5 (by decide) ?_
  show xW sc m_P_lookUp (D + d + 14) Q (u) 6 [some (vR a0), some (vR a1), some (vI a2), some (vR v2)] []
  refine x_aload_n (pc := 6) d_P_lookUp_6 rfl ?_
  refine c_ifnonnull (tgt := 22) (pc := 7) d_P_lookUp_7 (by decide) (fun c4 => ?_) (fun c4 => ?_)
  · rw [if_neg c4] at h
    refine x_aload_n (pc := 22) d_P_lookUp_22 rfl ?_
    obtain ⟨c5, h⟩ := ite_some h
    obtain ⟨v6, e7, h⟩ := Option.bind_eq_some_iff.mp h
    refine c_invv (c := 2) (d := D + d + 13) (av := []) (st := []) (Q' := fun r h' => r = .inl (some (vI v6)) ∧ h' = u) (pc := 23) d_P_lookUp_23 cv_P_351 y_Slot_isProcedure c5 rfl (Nat.le_of_ble_eq_true rfl) (Nat.le_of_ble_eq_true rfl) (w_Slot_isProcedure (d := D + d + 13) (Q := fun r h' => r = .inl (some (vI v6)) ∧ h' = u) ⟨rfl, rfl⟩ v2 e7) (fun v h' z => ?_) (fun a h' z => nomatch z.1)
    obtain ⟨z1, z2⟩ := z
    subst h'
    cases z1
    show xW sc m_P_lookUp (D + d + 14) Q (u) 26 [some (vR a0), some (vR a1), some (vI a2), some (vR v2)] [vI v6]
    refine x_if_eq (tgt := 47) (pc := 26) d_P_lookUp_26 (by decide) (fun c8 => ?_) (fun c8 => ?_)
    · rw [if_pos c8] at h
      refine x_aload_n (pc := 47) d_P_lookUp_47 rfl ?_
      refine x_gets (v := vR (some 75)) (pc := 48) d_P_lookUp_48 sl_P_320 ?_
      obtain ⟨c9, h⟩ := ite_some h
      obtain ⟨v10, e11, h⟩ := Option.bind_eq_some_iff.mp h
      refine c_invv (c := 2) (d := D + d + 13) (av := [vR (some 75)]) (st := []) (Q' := fun r h' => r = .inl (some (vI v10)) ∧ h' = u) (pc := 51) d_P_lookUp_51 cv_P_323 y_Slot_is c9 rfl (Nat.le_of_ble_eq_true rfl) (Nat.le_of_ble_eq_true rfl) (w_Slot_is (d := D + d + 13) (Q := fun r h' => r = .inl (some (vI v10)) ∧ h' = u) ⟨rfl, rfl⟩ v2 (some 75) e11) (fun v h' z => ?_) (fun a h' z => nomatch z.1)
      obtain ⟨z1, z2⟩ := z
      subst h'
      cases z1
      show xW sc m_P_lookUp (D + d + 14) Q (u) 54 [some (vR a0), some (vR a1), some (vI a2), some (vR v2)] [vI v10]
      refine x_if_eq (tgt := 92) (pc := 54) d_P_lookUp_54 (by decide) (fun c12 => ?_) (fun c12 => ?_)
      · rw [if_pos c12] at h
        exact x_wk (L' := [some (vR a0), none, none, some (vR v2)]) ⟨Or.inr rfl, Or.inl rfl, Or.inl rfl, Or.inr rfl, trivial⟩ (w_P_lookUp_b92 hrc hQ a0 v2 u h)
      · rw [if_neg c12] at h
        refine x_aload_n (pc := 57) d_P_lookUp_57 rfl ?_
        obtain ⟨v13, e14, h⟩ := Option.bind_eq_some_iff.mp h
        refine c_getI (pc := 58) d_P_lookUp_58 l_P_327 e14 ?_
        refine x_if_eq (tgt := 92) (pc := 61) d_P_lookUp_61 (by decide) (fun c15 => ?_) (fun c15 => ?_)
        · rw [if_pos c15] at h
          exact x_wk (L' := [some (vR a0), none, none, some (vR v2)]) ⟨Or.inr rfl, Or.inl rfl, Or.inl rfl, Or.inr rfl, trivial⟩ (w_P_lookUp_b92 hrc hQ a0 v2 u h)
        · rw [if_neg c15] at h
          refine x_aload_n (pc := 64) d_P_lookUp_64 rfl ?_
          refine x_iload_n (pc := 65) d_P_lookUp_65 rfl ?_
          refine x_bipush (v := (8 : Int32)) (pc := 66) d_P_lookUp_66 (by decide) ?_
          refine x_icmp_ge (tgt := 75) (pc := 68) d_P_lookUp_68 (by decide) (fun c16 => ?_) (fun c16 => ?_)
          · rw [if_pos c16] at h
            refine x_iconst (v := (0 : Int32)) (pc := 75) d_P_lookUp_75 (by decide) ?_
            exact x_wk (L' := [some (vR a0), none, some (vI a2), some (vR v2)]) ⟨Or.inr rfl, Or.inl rfl, Or.inr rfl, Or.inr rfl, trivial⟩ (w_P_lookUp_b76 hrc hQ a0 a2 v2 (0 : Int32) a0 u h)
          · rw [if_neg c16] at h
            refine x_iconst (v := (1 : Int32)) (pc := 71) d_P_lookUp_71 (by decide) ?_
            refine x_goto (tgt := 76) (pc := 72) d_P_lookUp_72 (by decide) ?_
            exact x_wk (L' := [some (vR a0), none, some (vI a2), some (vR v2)]) ⟨Or.inr rfl, Or.inl rfl, Or.inr rfl, Or.inr rfl, trivial⟩ (w_P_lookUp_b76 hrc hQ a0 a2 v2 (1 : Int32) a0 u h)
    · rw [if_neg c8] at h
      refine x_aload_n (pc := 29) d_P_lookUp_29 rfl ?_
      refine x_aload_n (pc := 30) d_P_lookUp_30 rfl ?_
      obtain ⟨v17, e18, h⟩ := Option.bind_eq_some_iff.mp h
      refine c_getI (pc := 31) d_P_lookUp_31 l_P_355 e18 ?_
      refine x_aload_n (pc := 34) d_P_lookUp_34 rfl ?_
      obtain ⟨v19, e20, h⟩ := Option.bind_eq_some_iff.mp h
      refine c_getI (pc := 35) d_P_lookUp_35 l_P_358 e20 ?_
      refine x_iload_n (pc := 38) d_P_lookUp_38 rfl ?_
      refine x_iconst (v := (1 : Int32)) (pc := 39) d_P_lookUp_39 (by decide) ?_
      refine x_iadd (pc := 40) d_P_lookUp_40 ?_
      obtain ⟨c21, h⟩ := ite_some h
      rcases tB_s h with ⟨a25, u26, e24, h⟩ | ⟨v23, u22, e24, h⟩
      · refine c_invv (c := 0) (d := D + d + 13) (av := [vI v17, vI v19, vI (a2 + (1 : Int32))]) (st := []) (Q' := fun r h' => r = .inr a25 ∧ h' = u26) (pc := 41) d_P_lookUp_41 cv_P_360 y_P_call c21 rfl (Nat.le_of_ble_eq_true rfl) (Nat.le_of_ble_eq_true rfl) (w_P_call (d := d + 6) (Q := fun r h' => r = .inr a25 ∧ h' = u26) hrc ⟨rfl, rfl⟩ u a0 v17 v19 (a2 + (1 : Int32)) e24) (fun v h' z => nomatch z.1) (fun a h' z => ?_)
        obtain ⟨z1, z2⟩ := z
        subst h'
        cases z1
        cases h
        exact x_thOut (xno rfl) hQ
      refine c_invv (c := 0) (d := D + d + 13) (av := [vI v17, vI v19, vI (a2 + (1 : Int32))]) (st := []) (Q' := fun r h' => r = .inl none ∧ h' = u22) (pc := 41) d_P_lookUp_41 cv_P_360 y_P_call c21 rfl (Nat.le_of_ble_eq_true rfl) (Nat.le_of_ble_eq_true rfl) (w_P_call (d := d + 6) (Q := fun r h' => r = .inl none ∧ h' = u22) hrc ⟨rfl, rfl⟩ u a0 v17 v19 (a2 + (1 : Int32)) e24) (fun v h' z => ?_) (fun a h' z => nomatch z.1)
      obtain ⟨z1, z2⟩ := z
      subst h'
      cases z1
      show xW sc m_P_lookUp (D + d + 14) Q (u22) 44 [some (vR a0), some (vR a1), some (vI a2), some (vR v2)] []
      refine x_goto (tgt := 97) (pc := 44) d_P_lookUp_44 (by decide) ?_
      exact x_wk (L' := [none, none, none, none]) ⟨Or.inl rfl, Or.inl rfl, Or.inl rfl, Or.inl rfl, trivial⟩ (w_P_lookUp_b97 hrc hQ u22 h)
  · rw [if_pos c4] at h
    refine x_aload_n (pc := 10) d_P_lookUp_10 rfl ?_
    refine x_aload_n (pc := 11) d_P_lookUp_11 rfl ?_
    obtain ⟨c27, h⟩ := ite_some h
    obtain ⟨v28, e29, h⟩ := Option.bind_eq_some_iff.mp h
    refine c_invv (c := 3) (d := D + d + 13) (av := []) (st := [vR a0]) (Q' := fun r h' => r = .inl (some (vR v28)) ∧ h' = u) (pc := 12) d_P_lookUp_12 cv_P_343 y_Name_op c27 rfl (Nat.le_of_ble_eq_true rfl) (Nat.le_of_ble_eq_true rfl) (w_Name_op (d := D + d + 13) (Q := fun r h' => r = .inl (some (vR v28)) ∧ h' = u) ⟨rfl, rfl⟩ a1 e29) (fun v h' z => ?_) (fun a h' z => nomatch z.1)
    obtain ⟨z1, z2⟩ := z
    subst h'
    cases z1
    show xW sc m_P_lookUp (D + d + 14) Q (u) 15 [some (vR a0), some (vR a1), some (vI a2), some (vR v2)] [vR v28, vR a0]
    refine x_iload_n (pc := 15) d_P_lookUp_15 rfl ?_
    obtain ⟨c30, h⟩ := ite_some h
    rcases tB_s h with ⟨a34, u35, e33, h⟩ | ⟨v32, u31, e33, h⟩
    · refine c_invv (c := 0) (d := D + d + 13) (av := [vR v28, vI a2]) (st := []) (Q' := fun r h' => r = .inr a34 ∧ h' = u35) (pc := 16) d_P_lookUp_16 cv_P_347 y_P_operate c30 rfl (Nat.le_of_ble_eq_true rfl) (Nat.le_of_ble_eq_true rfl) (w_P_operate (d := d + 0) (Q := fun r h' => r = .inr a34 ∧ h' = u35) hrc ⟨rfl, rfl⟩ u a0 v28 a2 e33) (fun v h' z => nomatch z.1) (fun a h' z => ?_)
      obtain ⟨z1, z2⟩ := z
      subst h'
      cases z1
      cases h
      exact x_thOut (xno rfl) hQ
    refine c_invv (c := 0) (d := D + d + 13) (av := [vR v28, vI a2]) (st := []) (Q' := fun r h' => r = .inl none ∧ h' = u31) (pc := 16) d_P_lookUp_16 cv_P_347 y_P_operate c30 rfl (Nat.le_of_ble_eq_true rfl) (Nat.le_of_ble_eq_true rfl) (w_P_operate (d := d + 0) (Q := fun r h' => r = .inl none ∧ h' = u31) hrc ⟨rfl, rfl⟩ u a0 v28 a2 e33) (fun v h' z => ?_) (fun a h' z => nomatch z.1)
    obtain ⟨z1, z2⟩ := z
    subst h'
    cases z1
    show xW sc m_P_lookUp (D + d + 14) Q (u31) 19 [some (vR a0), some (vR a1), some (vI a2), some (vR v2)] []
    refine x_goto (tgt := 97) (pc := 19) d_P_lookUp_19 (by decide) ?_
    exact x_wk (L' := [none, none, none, none]) ⟨Or.inl rfl, Or.inl rfl, Or.inl rfl, Or.inl rfl, trivial⟩ (w_P_lookUp_b97 hrc hQ u31 h)
def f_P_element_b38 (rc : rcE) (sc : xSc)  (u : xH) : Option ((Unit ⊕ Nat) × xH) := some (.inl (), u)
theorem w_P_element_b38 {rc : rcE} {D : Nat} {sc : xSc} {d : Nat} {Q : xR → xH → Prop} {oZ : Unit ⊕ Nat} {hZ : xH} (hrc : rcEOK sc D rc)  (hQ : Q (cvU oZ) hZ) (u : xH) (h : f_P_element_b38 rc sc  u = some (oZ, hZ)) : xW sc m_P_element (D + d + 15) Q (u) 38 [none, none, none] [] := by
  unfold f_P_element_b38 at h
  cases h
  exact x_vret (pc := 38) d_P_element_38 rfl hQ
def f_P_element_b33 (rc : rcE) (sc : xSc)  (l0 : Option Nat) (l1 : Option Nat) (u : xH) : Option ((Unit ⊕ Nat) × xH) := (if xis sc u 0 l0 = true then tB (f_P_push sc u l0 l1) (fun v3 u2 => f_P_element_b38 rc sc u2) (fun a5 u6 => some (.inr a5, u6)) else none)
theorem w_P_element_b33 {rc : rcE} {D : Nat} {sc : xSc} {d : Nat} {Q : xR → xH → Prop} {oZ : Unit ⊕ Nat} {hZ : xH} (hrc : rcEOK sc D rc)  (hQ : Q (cvU oZ) hZ) (l0 : Option Nat) (l1 : Option Nat) (u : xH) (h : f_P_element_b33 rc sc  l0 l1 u = some (oZ, hZ)) : xW sc m_P_element (D + d + 15) Q (u) 33 [some (vR l0), some (vR l1), none] [] := by
  unfold f_P_element_b33 at h
  refine x_aload_n (pc := 33) d_P_element_33 rfl ?_
  refine x_aload_n (pc := 34) d_P_element_34 rfl ?_
  obtain ⟨c1, h⟩ := ite_some h
  rcases tB_s h with ⟨a5, u6, e4, h⟩ | ⟨v3, u2, e4, h⟩
  · refine c_invv (c := 0) (d := D + d + 14) (av := [vR l1]) (st := []) (Q' := fun r h' => r = .inr a5 ∧ h' = u6) (pc := 35) d_P_element_35 cv_P_339 y_P_push c1 rfl (Nat.le_of_ble_eq_true rfl) (Nat.le_of_ble_eq_true rfl) (w_P_push (d := D + d + 6) (Q := fun r h' => r = .inr a5 ∧ h' = u6) ⟨rfl, rfl⟩ u l0 l1 e4) (fun v h' z => nomatch z.1) (fun a h' z => ?_)
    obtain ⟨z1, z2⟩ := z
    subst h'
    cases z1
    cases h
    exact x_thOut (xno rfl) hQ
  refine c_invv (c := 0) (d := D + d + 14) (av := [vR l1]) (st := []) (Q' := fun r h' => r = .inl none ∧ h' = u2) (pc := 35) d_P_element_35 cv_P_339 y_P_push c1 rfl (Nat.le_of_ble_eq_true rfl) (Nat.le_of_ble_eq_true rfl) (w_P_push (d := D + d + 6) (Q := fun r h' => r = .inl none ∧ h' = u2) ⟨rfl, rfl⟩ u l0 l1 e4) (fun v h' z => ?_) (fun a h' z => nomatch z.1)
  obtain ⟨z1, z2⟩ := z
  subst h'
  cases z1
  show xW sc m_P_element (D + d + 15) Q (u2) 38 [some (vR l0), some (vR l1), none] []
  exact x_wk (L' := [none, none, none]) ⟨Or.inl rfl, Or.inl rfl, Or.inl rfl, trivial⟩ (w_P_element_b38 hrc hQ u2 h)
def f_P_element (rc : rcE) (sc : xSc) (u : xH) (a0 : Option Nat) (a1 : Option Nat) (a2 : Int32) : Option ((Unit ⊕ Nat) × xH) := (if xis sc u 0 a0 = true then tB (f_P_step sc u a0) (fun v3 u2 => (if xis sc u2 2 a1 = true then (f_Slot_is sc u2 a1 (some 75)).bind fun v8 => (if v8 = 0 then f_P_element_b33 rc sc a0 a1 u2 else (gI sc u2 2 1 a1).bind fun v11 => (if v11 = 0 then f_P_element_b33 rc sc a0 a1 u2 else (gR sc u2 2 6 a1).bind fun v14 => (if xis sc u2 0 a0 = true then tB (f_P_lookUp rc sc u2 a0 v14 a2) (fun v18 u17 => f_P_element_b38 rc sc u17) (fun a20 u21 => some (.inr a20, u21)) else none))) else none)) (fun a5 u6 => some (.inr a5, u6)) else none)
theorem w_P_element {rc : rcE} {D : Nat} {sc : xSc} {d : Nat} {Q : xR → xH → Prop} {oZ : Unit ⊕ Nat} {hZ : xH} (hrc : rcEOK sc D rc) (hQ : Q (cvU oZ) hZ) (u : xH) (a0 : Option Nat) (a1 : Option Nat) (a2 : Int32) (h : f_P_element rc sc u a0 a1 a2 = some (oZ, hZ)) : xW sc m_P_element (D + d + 15) Q (u) 0 (xent [vR a0, vR a1, vI a2] m_P_element.2.2.1) [] := by
  show xW sc m_P_element (D + d + 15) Q (u) 0 [some (vR a0), some (vR a1), some (vI a2)] []
  unfold f_P_element at h
  refine x_aload_n (pc := 0) d_P_element_0 rfl ?_
  obtain ⟨c1, h⟩ := ite_some h
  rcases tB_s h with ⟨a5, u6, e4, h⟩ | ⟨v3, u2, e4, h⟩
  · refine c_invv (c := 0) (d := D + d + 14) (av := []) (st := []) (Q' := fun r h' => r = .inr a5 ∧ h' = u6) (pc := 1) d_P_element_1 cv_P_317 y_P_step c1 rfl (Nat.le_of_ble_eq_true rfl) (Nat.le_of_ble_eq_true rfl) (w_P_step (d := D + d + 7) (Q := fun r h' => r = .inr a5 ∧ h' = u6) ⟨rfl, rfl⟩ u a0 e4) (fun v h' z => nomatch z.1) (fun a h' z => ?_)
    obtain ⟨z1, z2⟩ := z
    subst h'
    cases z1
    cases h
    exact x_thOut (xno rfl) hQ
  refine c_invv (c := 0) (d := D + d + 14) (av := []) (st := []) (Q' := fun r h' => r = .inl none ∧ h' = u2) (pc := 1) d_P_element_1 cv_P_317 y_P_step c1 rfl (Nat.le_of_ble_eq_true rfl) (Nat.le_of_ble_eq_true rfl) (w_P_step (d := D + d + 7) (Q := fun r h' => r = .inl none ∧ h' = u2) ⟨rfl, rfl⟩ u a0 e4) (fun v h' z => ?_) (fun a h' z => nomatch z.1)
  obtain ⟨z1, z2⟩ := z
  subst h'
  cases z1
  show xW sc m_P_element (D + d + 15) Q (u2) 4 [some (vR a0), some (vR a1), some (vI a2)] []
  refine x_aload_n (pc := 4) d_P_element_4 rfl ?_
  refine x_gets (v := vR (some 75)) (pc := 5) d_P_element_5 sl_P_320 ?_
  obtain ⟨c7, h⟩ := ite_some h
  obtain ⟨v8, e9, h⟩ := Option.bind_eq_some_iff.mp h
  refine c_invv (c := 2) (d := D + d + 14) (av := [vR (some 75)]) (st := []) (Q' := fun r h' => r = .inl (some (vI v8)) ∧ h' = u2) (pc := 8) d_P_element_8 cv_P_323 y_Slot_is c7 rfl (Nat.le_of_ble_eq_true rfl) (Nat.le_of_ble_eq_true rfl) (w_Slot_is (d := D + d + 14) (Q := fun r h' => r = .inl (some (vI v8)) ∧ h' = u2) ⟨rfl, rfl⟩ a1 (some 75) e9) (fun v h' z => ?_) (fun a h' z => nomatch z.1)
  obtain ⟨z1, z2⟩ := z
  subst h'
  cases z1
  show xW sc m_P_element (D + d + 15) Q (u2) 11 [some (vR a0), some (vR a1), some (vI a2)] [vI v8]
  refine x_if_eq (tgt := 33) (pc := 11) d_P_element_11 (by decide) (fun c10 => ?_) (fun c10 => ?_)
  · rw [if_pos c10] at h
    exact x_wk (L' := [some (vR a0), some (vR a1), none]) ⟨Or.inr rfl, Or.inr rfl, Or.inl rfl, trivial⟩ (w_P_element_b33 hrc hQ a0 a1 u2 h)
  · rw [if_neg c10] at h
    refine x_aload_n (pc := 14) d_P_element_14 rfl ?_
    obtain ⟨v11, e12, h⟩ := Option.bind_eq_some_iff.mp h
    refine c_getI (pc := 15) d_P_element_15 l_P_327 e12 ?_
    refine x_if_eq (tgt := 33) (pc := 18) d_P_element_18 (by decide) (fun c13 => ?_) (fun c13 => ?_)
    · rw [if_pos c13] at h
      exact x_wk (L' := [some (vR a0), some (vR a1), none]) ⟨Or.inr rfl, Or.inr rfl, Or.inl rfl, trivial⟩ (w_P_element_b33 hrc hQ a0 a1 u2 h)
    · rw [if_neg c13] at h
      refine x_aload_n (pc := 21) d_P_element_21 rfl ?_
      refine x_aload_n (pc := 22) d_P_element_22 rfl ?_
      obtain ⟨v14, e15, h⟩ := Option.bind_eq_some_iff.mp h
      refine c_getR (pc := 23) d_P_element_23 l_P_331 e15 ?_
      refine x_iload_n (pc := 26) d_P_element_26 rfl ?_
      obtain ⟨c16, h⟩ := ite_some h
      rcases tB_s h with ⟨a20, u21, e19, h⟩ | ⟨v18, u17, e19, h⟩
      · refine c_invv (c := 0) (d := D + d + 14) (av := [vR v14, vI a2]) (st := []) (Q' := fun r h' => r = .inr a20 ∧ h' = u21) (pc := 27) d_P_element_27 cv_P_335 y_P_lookUp c16 rfl (Nat.le_of_ble_eq_true rfl) (Nat.le_of_ble_eq_true rfl) (w_P_lookUp (d := d + 0) (Q := fun r h' => r = .inr a20 ∧ h' = u21) hrc ⟨rfl, rfl⟩ u2 a0 v14 a2 e19) (fun v h' z => nomatch z.1) (fun a h' z => ?_)
        obtain ⟨z1, z2⟩ := z
        subst h'
        cases z1
        cases h
        exact x_thOut (xno rfl) hQ
      refine c_invv (c := 0) (d := D + d + 14) (av := [vR v14, vI a2]) (st := []) (Q' := fun r h' => r = .inl none ∧ h' = u17) (pc := 27) d_P_element_27 cv_P_335 y_P_lookUp c16 rfl (Nat.le_of_ble_eq_true rfl) (Nat.le_of_ble_eq_true rfl) (w_P_lookUp (d := d + 0) (Q := fun r h' => r = .inl none ∧ h' = u17) hrc ⟨rfl, rfl⟩ u2 a0 v14 a2 e19) (fun v h' z => ?_) (fun a h' z => nomatch z.1)
      obtain ⟨z1, z2⟩ := z
      subst h'
      cases z1
      show xW sc m_P_element (D + d + 15) Q (u17) 30 [some (vR a0), some (vR a1), some (vI a2)] []
      refine x_goto (tgt := 38) (pc := 30) d_P_element_30 (by decide) ?_
      exact x_wk (L' := [none, none, none]) ⟨Or.inl rfl, Or.inl rfl, Or.inl rfl, trivial⟩ (w_P_element_b38 hrc hQ u17 h)
def fEn (sc : xSc) : Nat → rcE
  | 0 => fun _ _ _ _ => none
  | n + 1 => fun u a0 a1 a2 => f_P_element (fEn sc n) sc u a0 a1 a2
theorem fEn_ok {sc : xSc} : ∀ n, rcEOK sc (15 * n) (fEn sc n)
  | 0 => fun d Q u a0 a1 a2 o w h _ => nomatch h
  | n + 1 => fun d Q u a0 a1 a2 o w h hQ => x_dmono (by omega) (w_P_element (d := d) (fEn_ok n) hQ u a0 a1 a2 h)
def fE (sc : xSc) : rcE := fEn sc 12
theorem wE_P_element {sc : xSc} {Q : xR → xH → Prop} {oZ : Unit ⊕ Nat} {hZ : xH} (hQ : Q (cvU oZ) hZ) (u : xH) (a0 : Option Nat) (a1 : Option Nat) (a2 : Int32) (h : f_P_element (fE sc) sc u a0 a1 a2 = some (oZ, hZ)) : xW sc m_P_element 200 Q u 0 (xent [vR a0, vR a1, vI a2] m_P_element.2.2.1) [] :=
  x_dmono (by omega) (w_P_element (d := 0) (fEn_ok 12) hQ u a0 a1 a2 h)
def f_P_fault (sc : xSc) (u : xH) (a0 : Option Nat) : Option Int32 := (gI sc u 0 18 a0).bind fun v1 => some v1
theorem w_P_fault {sc : xSc} {d : Nat} {Q : xR → xH → Prop} {u : xH} {rZ : Int32} (hQ : Q (.inl (some (vI rZ))) u) (a0 : Option Nat) (h : f_P_fault sc u a0 = some rZ) : xW sc m_P_fault (d + 0) Q (u) 0 (xent [vR a0] m_P_fault.2.2.1) [] := by
  show xW sc m_P_fault (d + 0) Q (u) 0 [some (vR a0)] []
  unfold f_P_fault at h
  refine x_aload_n (pc := 0) d_P_fault_0 rfl ?_
  obtain ⟨v1, e2, h⟩ := Option.bind_eq_some_iff.mp h
  refine c_getI (pc := 1) d_P_fault_1 l_P_164 e2 ?_
  cases h
  exact x_iret (ty := .int) (pc := 4) d_P_fault_4 rfl (rfl) hQ
def f_P_feed_b44 (sc : xSc)  (l3 : Int32) (u : xH) : Option ((Int32 ⊕ Nat) × xH) := (if xbo l3 = true then some (.inl l3, u) else none)
theorem w_P_feed_b44 {sc : xSc} {d : Nat} {Q : xR → xH → Prop} {oZ : Int32 ⊕ Nat} {hZ : xH}  (hQ : Q (cvI oZ) hZ) (l3 : Int32) (u : xH) (h : f_P_feed_b44 sc  l3 u = some (oZ, hZ)) : xW sc m_P_feed (d + 8) Q (u) 44 [none, none, none, some (vI l3)] [] := by
  unfold f_P_feed_b44 at h
  refine x_iload_n (pc := 44) d_P_feed_44 rfl ?_
  obtain ⟨c1, h⟩ := ite_some h
  cases h
  exact x_iret (ty := .boolean) (pc := 45) d_P_feed_45 rfl (xbo_n c1) hQ
def f_P_feed_b30 (sc : xSc)  (l0 : Option Nat) (l1 : UInt64) (t0 : Int32) (u : xH) : Option ((Int32 ⊕ Nat) × xH) := (if t0 = 0 then f_P_feed_b44 sc t0 u else (if xis sc u 0 l0 = true then tB (f_P_place sc u l0 (0 : Int32)) (fun v4 u3 => (if xis sc u3 2 v4 = true then (f_Slot_makeReal sc u3 v4 l1).bind fun u9 => f_P_feed_b44 sc t0 u9 else none)) (fun a6 u7 => some (.inr a6, u7)) else none))
theorem w_P_feed_b30 {sc : xSc} {d : Nat} {Q : xR → xH → Prop} {oZ : Int32 ⊕ Nat} {hZ : xH}  (hQ : Q (cvI oZ) hZ) (l0 : Option Nat) (l1 : UInt64) (t0 : Int32) (u : xH) (h : f_P_feed_b30 sc  l0 l1 t0 u = some (oZ, hZ)) : xW sc m_P_feed (d + 8) Q (u) 30 [some (vR l0), some (vD l1), none, none] [vI t0] := by
  unfold f_P_feed_b30 at h
  refine x_istore_n (pc := 30) d_P_feed_30 (by decide) ?_
  show xW sc m_P_feed (d + 8) Q (u) 31 [some (vR l0), some (vD l1), none, some (vI t0)] []
  refine x_iload_n (pc := 31) d_P_feed_31 rfl ?_
  refine x_if_eq (tgt := 44) (pc := 32) d_P_feed_32 (by decide) (fun c1 => ?_) (fun c1 => ?_)
  · rw [if_pos c1] at h
    exact x_wk (L' := [none, none, none, some (vI t0)]) ⟨Or.inl rfl, Or.inl rfl, Or.inl rfl, Or.inr rfl, trivial⟩ (w_P_feed_b44 hQ t0 u h)
  · rw [if_neg c1] at h
    refine x_aload_n (pc := 35) d_P_feed_35 rfl ?_
    refine x_iconst (v := (0 : Int32)) (pc := 36) d_P_feed_36 (by decide) ?_
    obtain ⟨c2, h⟩ := ite_some h
    rcases tB_s h with ⟨a6, u7, e5, h⟩ | ⟨v4, u3, e5, h⟩
    · refine c_invv (c := 0) (d := d + 7) (av := [vI (0 : Int32)]) (st := []) (Q' := fun r h' => r = .inr a6 ∧ h' = u7) (pc := 37) d_P_feed_37 cv_P_178 y_P_place c2 rfl (Nat.le_of_ble_eq_true rfl) (Nat.le_of_ble_eq_true rfl) (w_P_place (d := d + 0) (Q := fun r h' => r = .inr a6 ∧ h' = u7) ⟨rfl, rfl⟩ u l0 (0 : Int32) e5) (fun v h' z => nomatch z.1) (fun a h' z => ?_)
      obtain ⟨z1, z2⟩ := z
      subst h'
      cases z1
      cases h
      exact x_thOut (xno rfl) hQ
    refine c_invv (c := 0) (d := d + 7) (av := [vI (0 : Int32)]) (st := []) (Q' := fun r h' => r = .inl (some (vR v4)) ∧ h' = u3) (pc := 37) d_P_feed_37 cv_P_178 y_P_place c2 rfl (Nat.le_of_ble_eq_true rfl) (Nat.le_of_ble_eq_true rfl) (w_P_place (d := d + 0) (Q := fun r h' => r = .inl (some (vR v4)) ∧ h' = u3) ⟨rfl, rfl⟩ u l0 (0 : Int32) e5) (fun v h' z => ?_) (fun a h' z => nomatch z.1)
    obtain ⟨z1, z2⟩ := z
    subst h'
    cases z1
    show xW sc m_P_feed (d + 8) Q (u3) 40 [some (vR l0), some (vD l1), none, some (vI t0)] [vR v4]
    refine x_dload_n (pc := 40) d_P_feed_40 rfl ?_
    obtain ⟨c8, h⟩ := ite_some h
    obtain ⟨u9, e10, h⟩ := Option.bind_eq_some_iff.mp h
    refine c_invv (c := 2) (d := d + 7) (av := [vD l1]) (st := []) (Q' := fun r h' => r = .inl none ∧ h' = u9) (pc := 41) d_P_feed_41 cv_P_217 y_Slot_makeReal c8 rfl (Nat.le_of_ble_eq_true rfl) (Nat.le_of_ble_eq_true rfl) (w_Slot_makeReal (d := d + 6) (Q := fun r h' => r = .inl none ∧ h' = u9) ⟨rfl, rfl⟩ u3 v4 l1 e10) (fun v h' z => ?_) (fun a h' z => nomatch z.1)
    obtain ⟨z1, z2⟩ := z
    subst h'
    cases z1
    show xW sc m_P_feed (d + 8) Q (u9) 44 [some (vR l0), some (vD l1), none, some (vI t0)] []
    exact x_wk (L' := [none, none, none, some (vI t0)]) ⟨Or.inl rfl, Or.inl rfl, Or.inl rfl, Or.inr rfl, trivial⟩ (w_P_feed_b44 hQ t0 u9 h)
def f_P_feed_b29 (sc : xSc)  (l0 : Option Nat) (l1 : UInt64) (u : xH) : Option ((Int32 ⊕ Nat) × xH) := f_P_feed_b30 sc l0 l1 (0 : Int32) u
theorem w_P_feed_b29 {sc : xSc} {d : Nat} {Q : xR → xH → Prop} {oZ : Int32 ⊕ Nat} {hZ : xH}  (hQ : Q (cvI oZ) hZ) (l0 : Option Nat) (l1 : UInt64) (u : xH) (h : f_P_feed_b29 sc  l0 l1 u = some (oZ, hZ)) : xW sc m_P_feed (d + 8) Q (u) 29 [some (vR l0), some (vD l1), none, none] [] := by
  unfold f_P_feed_b29 at h
  refine x_iconst (v := (0 : Int32)) (pc := 29) d_P_feed_29 (by decide) ?_
  exact w_P_feed_b30 hQ l0 l1 (0 : Int32) u h
def f_P_feed (sc : xSc) (u : xH) (a0 : Option Nat) (a1 : UInt64) : Option ((Int32 ⊕ Nat) × xH) := (gI sc u 0 9 a0).bind fun v1 => (if (40 : Int32) ≤ v1 then f_P_feed_b29 sc a0 a1 u else (if 0 < (Op.cmpValue (FP.dcmp a1 (4786511204640096256 : UInt64)) .g) then f_P_feed_b29 sc a0 a1 u else (if (Op.cmpValue (FP.dcmp a1 (14009883241494872064 : UInt64)) .l) < 0 then f_P_feed_b29 sc a0 a1 u else f_P_feed_b30 sc a0 a1 (1 : Int32) u)))
theorem w_P_feed {sc : xSc} {d : Nat} {Q : xR → xH → Prop} {oZ : Int32 ⊕ Nat} {hZ : xH} (hQ : Q (cvI oZ) hZ) (u : xH) (a0 : Option Nat) (a1 : UInt64) (h : f_P_feed sc u a0 a1 = some (oZ, hZ)) : xW sc m_P_feed (d + 8) Q (u) 0 (xent [vR a0, vD a1] m_P_feed.2.2.1) [] := by
  show xW sc m_P_feed (d + 8) Q (u) 0 [some (vR a0), some (vD a1), none, none] []
  unfold f_P_feed at h
  refine x_aload_n (pc := 0) d_P_feed_0 rfl ?_
  obtain ⟨v1, e2, h⟩ := Option.bind_eq_some_iff.mp h
  refine c_getI (pc := 1) d_P_feed_1 l_P_174 e2 ?_
  refine x_bipush (v := (40 : Int32)) (pc := 4) d_P_feed_4 (by decide) ?_
  refine x_icmp_ge (tgt := 29) (pc := 6) d_P_feed_6 (by decide) (fun c3 => ?_) (fun c3 => ?_)
  · rw [if_pos c3] at h
    exact w_P_feed_b29 hQ a0 a1 u h
  · rw [if_neg c3] at h
    refine x_dload_n (pc := 9) d_P_feed_9 rfl ?_
    refine x_ldc2d (v := (4786511204640096256 : UInt64)) (pc := 10) d_P_feed_10 c_P_213 ?_
    refine x_dcmp (pc := 13) d_P_feed_13 ?_
    refine x_if_gt (tgt := 29) (pc := 14) d_P_feed_14 (by decide) (fun c4 => ?_) (fun c4 => ?_)
    · rw [if_pos c4] at h
      exact w_P_feed_b29 hQ a0 a1 u h
    · rw [if_neg c4] at h
      refine x_dload_n (pc := 17) d_P_feed_17 rfl ?_
      refine x_ldc2d (v := (14009883241494872064 : UInt64)) (pc := 18) d_P_feed_18 c_P_215 ?_
      refine x_dcmp (pc := 21) d_P_feed_21 ?_
      refine x_if_lt (tgt := 29) (pc := 22) d_P_feed_22 (by decide) (fun c5 => ?_) (fun c5 => ?_)
      · rw [if_pos c5] at h
        exact w_P_feed_b29 hQ a0 a1 u h
      · rw [if_neg c5] at h
        refine x_iconst (v := (1 : Int32)) (pc := 25) d_P_feed_25 (by decide) ?_
        refine x_goto (tgt := 30) (pc := 26) d_P_feed_26 (by decide) ?_
        exact w_P_feed_b30 hQ a0 a1 (1 : Int32) u h
def f_Stacks_init  (a0 : Option Nat) : Option Unit := (if a0.isSome = true then (f_Group_init a0).bind fun v2 => some () else none)
theorem w_Stacks_init {sc : xSc} {d : Nat} {Q : xR → xH → Prop} {hh : xH} {rZ : Unit} (hQ : Q (.inl none) hh) (a0 : Option Nat) (h : f_Stacks_init  a0 = some rZ) : xW sc m_Stacks_init (d + 2) Q (hh) 0 (xent [vR a0] m_Stacks_init.2.2.1) [] := by
  show xW sc m_Stacks_init (d + 2) Q (hh) 0 [some (vR a0)] []
  unfold f_Stacks_init at h
  refine x_aload_n (pc := 0) d_Stacks_init_0 rfl ?_
  obtain ⟨c1, h⟩ := ite_some h
  obtain ⟨v2, e3, h⟩ := Option.bind_eq_some_iff.mp h
  refine c_invi (d := d + 1) (av := []) (st := []) (Q' := fun r h' => r = .inl none ∧ h' = hh) (pc := 1) d_Stacks_init_1 ci_Stacks_3 y_Group_init (tw_1 (List.mem_of_getElem? (i := 63) rfl)) c1 rfl (Nat.le_of_ble_eq_true rfl) (Nat.le_of_ble_eq_true rfl) (w_Group_init (d := d + 0) (Q := fun r h' => r = .inl none ∧ h' = hh) ⟨rfl, rfl⟩ a0 e3) (fun v h' z => ?_) (fun a h' z => nomatch z.1)
  obtain ⟨z1, z2⟩ := z
  subst h'
  cases z1
  show xW sc m_Stacks_init (d + 2) Q (hh) 4 [some (vR a0)] []
  cases h
  exact x_vret (pc := 4) d_Stacks_init_4 rfl hQ
def f_Truths_init  (a0 : Option Nat) : Option Unit := (if a0.isSome = true then (f_Group_init a0).bind fun v2 => some () else none)
theorem w_Truths_init {sc : xSc} {d : Nat} {Q : xR → xH → Prop} {hh : xH} {rZ : Unit} (hQ : Q (.inl none) hh) (a0 : Option Nat) (h : f_Truths_init  a0 = some rZ) : xW sc m_Truths_init (d + 2) Q (hh) 0 (xent [vR a0] m_Truths_init.2.2.1) [] := by
  show xW sc m_Truths_init (d + 2) Q (hh) 0 [some (vR a0)] []
  unfold f_Truths_init at h
  refine x_aload_n (pc := 0) d_Truths_init_0 rfl ?_
  obtain ⟨c1, h⟩ := ite_some h
  obtain ⟨v2, e3, h⟩ := Option.bind_eq_some_iff.mp h
  refine c_invi (d := d + 1) (av := []) (st := []) (Q' := fun r h' => r = .inl none ∧ h' = hh) (pc := 1) d_Truths_init_1 ci_Truths_1 y_Group_init (tw_1 (List.mem_of_getElem? (i := 63) rfl)) c1 rfl (Nat.le_of_ble_eq_true rfl) (Nat.le_of_ble_eq_true rfl) (w_Group_init (d := d + 0) (Q := fun r h' => r = .inl none ∧ h' = hh) ⟨rfl, rfl⟩ a0 e3) (fun v h' z => ?_) (fun a h' z => nomatch z.1)
  obtain ⟨z1, z2⟩ := z
  subst h'
  cases z1
  show xW sc m_Truths_init (d + 2) Q (hh) 4 [some (vR a0)] []
  cases h
  exact x_vret (pc := 4) d_Truths_init_4 rfl hQ
def f_Paint_init  (a0 : Option Nat) : Option Unit := (if a0.isSome = true then (f_Group_init a0).bind fun v2 => some () else none)
theorem w_Paint_init {sc : xSc} {d : Nat} {Q : xR → xH → Prop} {hh : xH} {rZ : Unit} (hQ : Q (.inl none) hh) (a0 : Option Nat) (h : f_Paint_init  a0 = some rZ) : xW sc m_Paint_init (d + 2) Q (hh) 0 (xent [vR a0] m_Paint_init.2.2.1) [] := by
  show xW sc m_Paint_init (d + 2) Q (hh) 0 [some (vR a0)] []
  unfold f_Paint_init at h
  refine x_aload_n (pc := 0) d_Paint_init_0 rfl ?_
  obtain ⟨c1, h⟩ := ite_some h
  obtain ⟨v2, e3, h⟩ := Option.bind_eq_some_iff.mp h
  refine c_invi (d := d + 1) (av := []) (st := []) (Q' := fun r h' => r = .inl none ∧ h' = hh) (pc := 1) d_Paint_init_1 ci_Paint_3 y_Group_init (tw_1 (List.mem_of_getElem? (i := 63) rfl)) c1 rfl (Nat.le_of_ble_eq_true rfl) (Nat.le_of_ble_eq_true rfl) (w_Group_init (d := d + 0) (Q := fun r h' => r = .inl none ∧ h' = hh) ⟨rfl, rfl⟩ a0 e3) (fun v h' z => ?_) (fun a h' z => nomatch z.1)
  obtain ⟨z1, z2⟩ := z
  subst h'
  cases z1
  show xW sc m_Paint_init (d + 2) Q (hh) 4 [some (vR a0)] []
  cases h
  exact x_vret (pc := 4) d_Paint_init_4 rfl hQ
def f_StringBuilder_init1 (sc : xSc) (u : xH) (a0 : Option Nat) (a1 : Int32) : Option xH := (if a0.isSome = true then (f_AbstractStringBuilder_init sc u a0 a1).bind fun u2 => some u2 else none)
theorem w_StringBuilder_init1 {sc : xSc} {d : Nat} {Q : xR → xH → Prop} {hZ : xH} (hQ : Q (.inl none) hZ) (u : xH) (a0 : Option Nat) (a1 : Int32) (h : f_StringBuilder_init1 sc u a0 a1 = some hZ) : xW sc m_StringBuilder_init1 (d + 2) Q (u) 0 (xent [vR a0, vI a1] m_StringBuilder_init1.2.2.1) [] := by
  show xW sc m_StringBuilder_init1 (d + 2) Q (u) 0 [some (vR a0), some (vI a1)] []
  unfold f_StringBuilder_init1 at h
  refine x_aload_n (pc := 0) d_StringBuilder_init1_0 rfl ?_
  refine x_iload_n (pc := 1) d_StringBuilder_init1_1 rfl ?_
  obtain ⟨c1, h⟩ := ite_some h
  obtain ⟨u2, e3, h⟩ := Option.bind_eq_some_iff.mp h
  refine c_invi (d := d + 1) (av := [vI a1]) (st := []) (Q' := fun r h' => r = .inl none ∧ h' = u2) (pc := 2) d_StringBuilder_init1_2 ci_StringBuilder_1 y_AbstractStringBuilder_init (tw_1 (List.mem_of_getElem? (i := 110) rfl)) c1 rfl (Nat.le_of_ble_eq_true rfl) (Nat.le_of_ble_eq_true rfl) (w_AbstractStringBuilder_init (d := d + 0) (Q := fun r h' => r = .inl none ∧ h' = u2) ⟨rfl, rfl⟩ u a0 a1 e3) (fun v h' z => ?_) (fun a h' z => nomatch z.1)
  obtain ⟨z1, z2⟩ := z
  subst h'
  cases z1
  show xW sc m_StringBuilder_init1 (d + 2) Q (u2) 5 [some (vR a0), some (vI a1)] []
  cases h
  exact x_vret (pc := 5) d_StringBuilder_init1_5 rfl hQ
def f_P_init_b297 (sc : xSc)  : Nat → Option Nat → Option Nat → Int32 → Int32 → xH → Option xH
  | 0, _, _, _, _, _ => none
  | n + 1, l0, l3, l4, l5, u => (if l4 ≤ l5 then (gR sc u 0 12 l0).bind fun v2 => (nO 4 4 4 u).bind fun u4 => (if (some u.2.1).isSome = true then (f_Dict_init sc u4 (some u.2.1) (0 : Int32) (20 : Int32)).bind fun u7 => (if xis sc u7 17 v2 = true then (f_ArrayList_add0 sc u7 v2 (some u.2.1)).bind fun (v11, u10) => (gR sc u10 0 13 l0).bind fun v13 => (gR sc u10 0 12 l0).bind fun v15 => (if xis sc u10 17 v15 = true then (f_ArrayList_get sc u10 v15 (0 : Int32)).bind fun v18 => (if xis sc u10 4 v18 = true then (bR "PageScribe$Dict" 4 sc u10 v13 (0 : Int32) v18).bind fun u21 => some u21 else none) else none) else none) else none) else (aR sc u l3 l5).bind fun v23 => (gR sc u 19 1 v23).bind fun v25 => (if xis sc u 18 v25 = true then (f_String_charAt sc u v25 (0 : Int32)).bind fun v28 => (gR sc u 19 1 v23).bind fun v30 => (gR sc u 19 1 v23).bind fun v32 => (if xis sc u 18 v32 = true then (f_String_length sc u v32).bind fun v35 => (if xis sc u 18 v30 = true then (f_String_charAt sc u v30 (v35 - (1 : Int32))).bind fun v38 => (gR sc u 19 1 v23).bind fun v40 => (if xis sc u 18 v40 = true then (f_String_length sc u v40).bind fun v43 => (f_P_bucket v28 v38 v43).bind fun v45 => (gR sc u 0 1 l0).bind fun v47 => (nO 3 3 3 u).bind fun u49 => (gR sc u49 19 1 v23).bind fun v51 => (gR sc u49 0 1 l0).bind fun v53 => (aR sc u49 v53 v45).bind fun v55 => (if (some u.2.1).isSome = true then (f_Name_init sc u49 (some u.2.1) v51 v23 v55).bind fun u58 => (bR "PageScribe$Name" 3 sc u58 v47 v45 (some u.2.1)).bind fun u60 => (f_P_init_b297 sc n) l0 l3 l4 (l5 + Int32.ofInt 1) u60 else none) else none) else none) else none) else none))
theorem w_P_init_b297 {sc : xSc} {d : Nat} {Q : xR → xH → Prop} {hZ : xH}  (hQ : Q (.inl none) hZ) : ∀ (n : Nat) (l0 : Option Nat) (l3 : Option Nat) (l4 : Int32) (l5 : Int32) (u : xH), f_P_init_b297 sc  n l0 l3 l4 l5 u = some hZ → xW sc m_P_init (d + 4) Q (u) 297 [some (vR l0), none, none, some (vR l3), some (vI l4), some (vI l5), none, none] [] := by
  intro n
  induction n with
  | zero =>
    intro l0 l3 l4 l5 u h
    cases h
  | succ n hk297 =>
    intro l0 l3 l4 l5 u h
    unfold f_P_init_b297 at h
    refine x_iload (pc := 297) d_P_init_297 rfl ?_
    refine x_iload (pc := 299) d_P_init_299 rfl ?_
    refine x_icmp_ge (tgt := 384) (pc := 301) d_P_init_301 (by decide) (fun c1 => ?_) (fun c1 => ?_)
    · rw [if_pos c1] at h
      refine x_aload_n (pc := 384) d_P_init_384 rfl ?_
      obtain ⟨v2, e3, h⟩ := Option.bind_eq_some_iff.mp h
      refine c_getR (pc := 385) d_P_init_385 l_P_66 e3 ?_
      obtain ⟨u4, e5, h⟩ := Option.bind_eq_some_iff.mp h
      refine c_new (pc := 388) d_P_init_388 nw_P_70 ly_4 ⟨_, rfl, rfl⟩ e5 ?_
      refine x_dup (pc := 391) d_P_init_391 rfl ?_
      refine x_iconst (v := (0 : Int32)) (pc := 392) d_P_init_392 (by decide) ?_
      refine x_bipush (v := (20 : Int32)) (pc := 393) d_P_init_393 (by decide) ?_
      obtain ⟨c6, h⟩ := ite_some h
      obtain ⟨u7, e8, h⟩ := Option.bind_eq_some_iff.mp h
      refine c_invi (d := d + 3) (av := [vI (0 : Int32), vI (20 : Int32)]) (st := [vR (some u.2.1), vR v2]) (Q' := fun r h' => r = .inl none ∧ h' = u7) (pc := 395) d_P_init_395 ci_P_150 y_Dict_init (tw_3 (List.mem_of_getElem? (i := 32) rfl)) c6 rfl (Nat.le_of_ble_eq_true rfl) (Nat.le_of_ble_eq_true rfl) (w_Dict_init (d := d + 2) (Q := fun r h' => r = .inl none ∧ h' = u7) ⟨rfl, rfl⟩ u4 (some u.2.1) (0 : Int32) (20 : Int32) e8) (fun v h' z => ?_) (fun a h' z => nomatch z.1)
      obtain ⟨z1, z2⟩ := z
      subst h'
      cases z1
      show xW sc m_P_init (d + 4) Q (u7) 398 [some (vR l0), none, none, some (vR l3), some (vI l4), some (vI l5), none, none] [vR (some u.2.1), vR v2]
      obtain ⟨c9, h⟩ := ite_some h
      obtain ⟨⟨v11, u10⟩, e12, h⟩ := Option.bind_eq_some_iff.mp h
      dsimp only at h
      refine c_invv (c := 17) (d := d + 3) (av := [vR (some u.2.1)]) (st := []) (Q' := fun r h' => r = .inl (some (vI v11)) ∧ h' = u10) (pc := 398) d_P_init_398 cv_P_153 y_ArrayList_add0 c9 rfl (Nat.le_of_ble_eq_true rfl) (Nat.le_of_ble_eq_true rfl) (w_ArrayList_add0 (d := d + 2) (Q := fun r h' => r = .inl (some (vI v11)) ∧ h' = u10) ⟨rfl, rfl⟩ u7 v2 (some u.2.1) e12) (fun v h' z => ?_) (fun a h' z => nomatch z.1)
      obtain ⟨z1, z2⟩ := z
      subst h'
      cases z1
      show xW sc m_P_init (d + 4) Q (u10) 401 [some (vR l0), none, none, some (vR l3), some (vI l4), some (vI l5), none, none] [vI v11]
      refine x_pop (pc := 401) d_P_init_401 rfl ?_
      refine x_aload_n (pc := 402) d_P_init_402 rfl ?_
      obtain ⟨v13, e14, h⟩ := Option.bind_eq_some_iff.mp h
      refine c_getR (pc := 403) d_P_init_403 l_P_72 e14 ?_
      refine x_iconst (v := (0 : Int32)) (pc := 406) d_P_init_406 (by decide) ?_
      refine x_aload_n (pc := 407) d_P_init_407 rfl ?_
      obtain ⟨v15, e16, h⟩ := Option.bind_eq_some_iff.mp h
      refine c_getR (pc := 408) d_P_init_408 l_P_66 e16 ?_
      refine x_iconst (v := (0 : Int32)) (pc := 411) d_P_init_411 (by decide) ?_
      obtain ⟨c17, h⟩ := ite_some h
      obtain ⟨v18, e19, h⟩ := Option.bind_eq_some_iff.mp h
      refine c_invv (c := 17) (d := d + 3) (av := [vI (0 : Int32)]) (st := [vI (0 : Int32), vR v13]) (Q' := fun r h' => r = .inl (some (vR v18)) ∧ h' = u10) (pc := 412) d_P_init_412 cv_P_157 y_ArrayList_get c17 rfl (Nat.le_of_ble_eq_true rfl) (Nat.le_of_ble_eq_true rfl) (w_ArrayList_get (d := d + 1) (Q := fun r h' => r = .inl (some (vR v18)) ∧ h' = u10) ⟨rfl, rfl⟩ v15 (0 : Int32) e19) (fun v h' z => ?_) (fun a h' z => nomatch z.1)
      obtain ⟨z1, z2⟩ := z
      subst h'
      cases z1
      show xW sc m_P_init (d + 4) Q (u10) 415 [some (vR l0), none, none, some (vR l3), some (vI l4), some (vI l5), none, none] [vR v18, vI (0 : Int32), vR v13]
      obtain ⟨c20, h⟩ := ite_some h
      refine c_chk (c := 4) (pc := 415) d_P_init_415 kl_P_70 ⟨_, rfl, tw_10 (List.mem_of_getElem? (i := 76) rfl)⟩ c20 ?_
      obtain ⟨u21, e22, h⟩ := Option.bind_eq_some_iff.mp h
      refine c_aast (C := "PageScribe$Dict") (c := 4) (pc := 418) d_P_init_418 ⟨_, rfl, Or.inl ⟨rfl, by decide, by decide⟩⟩ e22 ?_
      cases h
      exact x_vret (pc := 419) d_P_init_419 rfl hQ
    · rw [if_neg c1] at h
      refine x_aload_n (pc := 304) d_P_init_304 rfl ?_
      refine x_iload (pc := 305) d_P_init_305 rfl ?_
      obtain ⟨v23, e24, h⟩ := Option.bind_eq_some_iff.mp h
      refine c_aald (pc := 307) d_P_init_307 e24 ?_
      refine x_astore (pc := 308) d_P_init_308 (by decide) ?_
      show xW sc m_P_init (d + 4) Q (u) 310 [some (vR l0), none, none, some (vR l3), some (vI l4), some (vI l5), some (vR v23), none] []
      refine x_aload (pc := 310) d_P_init_310 rfl ?_
      obtain ⟨v25, e26, h⟩ := Option.bind_eq_some_iff.mp h
      refine c_getR (pc := 312) d_P_init_312 l_P_128 e26 ?_
      refine x_iconst (v := (0 : Int32)) (pc := 315) d_P_init_315 (by decide) ?_
      obtain ⟨c27, h⟩ := ite_some h
      obtain ⟨v28, e29, h⟩ := Option.bind_eq_some_iff.mp h
      refine c_invv (c := 18) (d := d + 3) (av := [vI (0 : Int32)]) (st := []) (Q' := fun r h' => r = .inl (some (vI v28)) ∧ h' = u) (pc := 316) d_P_init_316 cv_P_133 y_String_charAt c27 rfl (Nat.le_of_ble_eq_true rfl) (Nat.le_of_ble_eq_true rfl) (w_String_charAt (d := d + 0) (Q := fun r h' => r = .inl (some (vI v28)) ∧ h' = u) ⟨rfl, rfl⟩ v25 (0 : Int32) e29) (fun v h' z => ?_) (fun a h' z => nomatch z.1)
      obtain ⟨z1, z2⟩ := z
      subst h'
      cases z1
      show xW sc m_P_init (d + 4) Q (u) 319 [some (vR l0), none, none, some (vR l3), some (vI l4), some (vI l5), some (vR v23), none] [vI v28]
      refine x_aload (pc := 319) d_P_init_319 rfl ?_
      obtain ⟨v30, e31, h⟩ := Option.bind_eq_some_iff.mp h
      refine c_getR (pc := 321) d_P_init_321 l_P_128 e31 ?_
      refine x_aload (pc := 324) d_P_init_324 rfl ?_
      obtain ⟨v32, e33, h⟩ := Option.bind_eq_some_iff.mp h
      refine c_getR (pc := 326) d_P_init_326 l_P_128 e33 ?_
      obtain ⟨c34, h⟩ := ite_some h
      obtain ⟨v35, e36, h⟩ := Option.bind_eq_some_iff.mp h
      refine c_invv (c := 18) (d := d + 3) (av := []) (st := [vR v30, vI v28]) (Q' := fun r h' => r = .inl (some (vI v35)) ∧ h' = u) (pc := 329) d_P_init_329 cv_P_139 y_String_length c34 rfl (Nat.le_of_ble_eq_true rfl) (Nat.le_of_ble_eq_true rfl) (w_String_length (d := d + 2) (Q := fun r h' => r = .inl (some (vI v35)) ∧ h' = u) ⟨rfl, rfl⟩ v32 e36) (fun v h' z => ?_) (fun a h' z => nomatch z.1)
      obtain ⟨z1, z2⟩ := z
      subst h'
      cases z1
      show xW sc m_P_init (d + 4) Q (u) 332 [some (vR l0), none, none, some (vR l3), some (vI l4), some (vI l5), some (vR v23), none] [vI v35, vR v30, vI v28]
      refine x_iconst (v := (1 : Int32)) (pc := 332) d_P_init_332 (by decide) ?_
      refine x_isub (pc := 333) d_P_init_333 ?_
      obtain ⟨c37, h⟩ := ite_some h
      obtain ⟨v38, e39, h⟩ := Option.bind_eq_some_iff.mp h
      refine c_invv (c := 18) (d := d + 3) (av := [vI (v35 - (1 : Int32))]) (st := [vI v28]) (Q' := fun r h' => r = .inl (some (vI v38)) ∧ h' = u) (pc := 334) d_P_init_334 cv_P_133 y_String_charAt c37 rfl (Nat.le_of_ble_eq_true rfl) (Nat.le_of_ble_eq_true rfl) (w_String_charAt (d := d + 0) (Q := fun r h' => r = .inl (some (vI v38)) ∧ h' = u) ⟨rfl, rfl⟩ v30 (v35 - (1 : Int32)) e39) (fun v h' z => ?_) (fun a h' z => nomatch z.1)
      obtain ⟨z1, z2⟩ := z
      subst h'
      cases z1
      show xW sc m_P_init (d + 4) Q (u) 337 [some (vR l0), none, none, some (vR l3), some (vI l4), some (vI l5), some (vR v23), none] [vI v38, vI v28]
      refine x_aload (pc := 337) d_P_init_337 rfl ?_
      obtain ⟨v40, e41, h⟩ := Option.bind_eq_some_iff.mp h
      refine c_getR (pc := 339) d_P_init_339 l_P_128 e41 ?_
      obtain ⟨c42, h⟩ := ite_some h
      obtain ⟨v43, e44, h⟩ := Option.bind_eq_some_iff.mp h
      refine c_invv (c := 18) (d := d + 3) (av := []) (st := [vI v38, vI v28]) (Q' := fun r h' => r = .inl (some (vI v43)) ∧ h' = u) (pc := 342) d_P_init_342 cv_P_139 y_String_length c42 rfl (Nat.le_of_ble_eq_true rfl) (Nat.le_of_ble_eq_true rfl) (w_String_length (d := d + 2) (Q := fun r h' => r = .inl (some (vI v43)) ∧ h' = u) ⟨rfl, rfl⟩ v40 e44) (fun v h' z => ?_) (fun a h' z => nomatch z.1)
      obtain ⟨z1, z2⟩ := z
      subst h'
      cases z1
      show xW sc m_P_init (d + 4) Q (u) 345 [some (vR l0), none, none, some (vR l3), some (vI l4), some (vI l5), some (vR v23), none] [vI v43, vI v38, vI v28]
      obtain ⟨v45, e46, h⟩ := Option.bind_eq_some_iff.mp h
      refine x_invs (d := d + 3) (av := [vI v28, vI v38, vI v43]) (st := []) (Q' := fun r h' => r = .inl (some (vI v45)) ∧ h' = u) (pc := 345) d_P_init_345 cs_P_143 y_P_bucket rfl (Nat.le_of_ble_eq_true rfl) (Nat.le_of_ble_eq_true rfl) (w_P_bucket (d := d + 3) (Q := fun r h' => r = .inl (some (vI v45)) ∧ h' = u) (hh := u) ⟨rfl, rfl⟩ v28 v38 v43 e46) (fun v h' z => ?_) (fun a h' z => nomatch z.1)
      obtain ⟨z1, z2⟩ := z
      subst h'
      cases z1
      show xW sc m_P_init (d + 4) Q (u) 348 [some (vR l0), none, none, some (vR l3), some (vI l4), some (vI l5), some (vR v23), none] [vI v45]
      refine x_istore (pc := 348) d_P_init_348 (by decide) ?_
      show xW sc m_P_init (d + 4) Q (u) 350 [some (vR l0), none, none, some (vR l3), some (vI l4), some (vI l5), some (vR v23), some (vI v45)] []
      refine x_aload_n (pc := 350) d_P_init_350 rfl ?_
      obtain ⟨v47, e48, h⟩ := Option.bind_eq_some_iff.mp h
      refine c_getR (pc := 351) d_P_init_351 l_P_35 e48 ?_
      refine x_iload (pc := 354) d_P_init_354 rfl ?_
      obtain ⟨u49, e50, h⟩ := Option.bind_eq_some_iff.mp h
      refine c_new (pc := 356) d_P_init_356 nw_P_33 ly_3 ⟨_, rfl, rfl⟩ e50 ?_
      refine x_dup (pc := 359) d_P_init_359 rfl ?_
      refine x_aload (pc := 360) d_P_init_360 rfl ?_
      obtain ⟨v51, e52, h⟩ := Option.bind_eq_some_iff.mp h
      refine c_getR (pc := 362) d_P_init_362 l_P_128 e52 ?_
      refine x_aload (pc := 365) d_P_init_365 rfl ?_
      refine x_aload_n (pc := 367) d_P_init_367 rfl ?_
      obtain ⟨v53, e54, h⟩ := Option.bind_eq_some_iff.mp h
      refine c_getR (pc := 368) d_P_init_368 l_P_35 e54 ?_
      refine x_iload (pc := 371) d_P_init_371 rfl ?_
      obtain ⟨v55, e56, h⟩ := Option.bind_eq_some_iff.mp h
      refine c_aald (pc := 373) d_P_init_373 e56 ?_
      obtain ⟨c57, h⟩ := ite_some h
      obtain ⟨u58, e59, h⟩ := Option.bind_eq_some_iff.mp h
      refine c_invi (d := d + 3) (av := [vR v51, vR v23, vR v55]) (st := [vR (some u.2.1), vI v45, vR v47]) (Q' := fun r h' => r = .inl none ∧ h' = u58) (pc := 374) d_P_init_374 ci_P_147 y_Name_init (tw_3 (List.mem_of_getElem? (i := 12) rfl)) c57 rfl (Nat.le_of_ble_eq_true rfl) (Nat.le_of_ble_eq_true rfl) (w_Name_init (d := d + 1) (Q := fun r h' => r = .inl none ∧ h' = u58) ⟨rfl, rfl⟩ u49 (some u.2.1) v51 v23 v55 e59) (fun v h' z => ?_) (fun a h' z => nomatch z.1)
      obtain ⟨z1, z2⟩ := z
      subst h'
      cases z1
      show xW sc m_P_init (d + 4) Q (u58) 377 [some (vR l0), none, none, some (vR l3), some (vI l4), some (vI l5), some (vR v23), some (vI v45)] [vR (some u.2.1), vI v45, vR v47]
      obtain ⟨u60, e61, h⟩ := Option.bind_eq_some_iff.mp h
      refine c_aast (C := "PageScribe$Name") (c := 3) (pc := 377) d_P_init_377 ⟨_, rfl, Or.inl ⟨rfl, by decide, by decide⟩⟩ e61 ?_
      refine x_iinc (pc := 378) d_P_init_378 rfl (by decide) ?_
      show xW sc m_P_init (d + 4) Q (u60) 381 [some (vR l0), none, none, some (vR l3), some (vI l4), some (vI (l5 + Int32.ofInt 1)), some (vR v23), some (vI v45)] []
      refine x_goto (tgt := 297) (pc := 381) d_P_init_381 (by decide) ?_
      exact x_wk (L' := [some (vR l0), none, none, some (vR l3), some (vI l4), some (vI (l5 + Int32.ofInt 1)), none, none]) ⟨Or.inr rfl, Or.inl rfl, Or.inl rfl, Or.inr rfl, Or.inr rfl, Or.inr rfl, Or.inl rfl, Or.inl rfl, trivial⟩ (hk297 l0 l3 l4 (l5 + Int32.ofInt 1) u60 h)
def f_P_init_b283 (sc : xSc)  (l0 : Option Nat) (t0 : Int32) (t1 : Option Nat) (u : xH) : Option xH := (pV u 0 39 t1 (vI t0)).bind fun u1 => (aN sc u1 (some 224)).bind fun v3 => f_P_init_b297 sc mF l0 (some 224) v3 (0 : Int32) u1
theorem w_P_init_b283 {sc : xSc} {d : Nat} {Q : xR → xH → Prop} {hZ : xH}  (hQ : Q (.inl none) hZ) (l0 : Option Nat) (t0 : Int32) (t1 : Option Nat) (u : xH) (h : f_P_init_b283 sc  l0 t0 t1 u = some hZ) : xW sc m_P_init (d + 4) Q (u) 283 [some (vR l0), none, none, none, none, none, none, none] [vI t0, vR t1] := by
  unfold f_P_init_b283 at h
  obtain ⟨u1, e2, h⟩ := Option.bind_eq_some_iff.mp h
  refine c_putF (pc := 283) d_P_init_283 l_P_121 fp_0_39 rfl fo_P_121 (xfit_int) e2 ?_
  refine x_gets (v := vR (some 224)) (pc := 286) d_P_init_286 sl_P_124 ?_
  refine x_astore_n (pc := 289) d_P_init_289 (by decide) ?_
  show xW sc m_P_init (d + 4) Q (u1) 290 [some (vR l0), none, none, some (vR (some 224)), none, none, none, none] []
  refine x_aload_n (pc := 290) d_P_init_290 rfl ?_
  obtain ⟨v3, e4, h⟩ := Option.bind_eq_some_iff.mp h
  refine c_alen (pc := 291) d_P_init_291 e4 ?_
  refine x_istore (pc := 292) d_P_init_292 (by decide) ?_
  show xW sc m_P_init (d + 4) Q (u1) 294 [some (vR l0), none, none, some (vR (some 224)), some (vI v3), none, none, none] []
  refine x_iconst (v := (0 : Int32)) (pc := 294) d_P_init_294 (by decide) ?_
  refine x_istore (pc := 295) d_P_init_295 (by decide) ?_
  show xW sc m_P_init (d + 4) Q (u1) 297 [some (vR l0), none, none, some (vR (some 224)), some (vI v3), some (vI (0 : Int32)), none, none] []
  exact w_P_init_b297 hQ mF l0 (some 224) v3 (0 : Int32) u1 h
def f_P_init_b281 (sc : xSc)  (l0 : Option Nat) (t0 : Option Nat) (u : xH) : Option xH := f_P_init_b283 sc l0 (12 : Int32) t0 u
theorem w_P_init_b281 {sc : xSc} {d : Nat} {Q : xR → xH → Prop} {hZ : xH}  (hQ : Q (.inl none) hZ) (l0 : Option Nat) (t0 : Option Nat) (u : xH) (h : f_P_init_b281 sc  l0 t0 u = some hZ) : xW sc m_P_init (d + 4) Q (u) 281 [some (vR l0), none, none, none, none, none, none, none] [vR t0] := by
  unfold f_P_init_b281 at h
  refine x_bipush (v := (12 : Int32)) (pc := 281) d_P_init_281 (by decide) ?_
  exact w_P_init_b283 hQ l0 (12 : Int32) t0 u h
def f_P_init_b262 (sc : xSc)  (l0 : Option Nat) (l2 : Int32) (t0 : Int32) (t1 : Option Nat) (u : xH) : Option xH := (pV u 0 38 t1 (vI t0)).bind fun u1 => (if l2 < (1 : Int32) then f_P_init_b281 sc l0 l0 u1 else (if (16 : Int32) < l2 then f_P_init_b281 sc l0 l0 u1 else f_P_init_b283 sc l0 l2 l0 u1))
theorem w_P_init_b262 {sc : xSc} {d : Nat} {Q : xR → xH → Prop} {hZ : xH}  (hQ : Q (.inl none) hZ) (l0 : Option Nat) (l2 : Int32) (t0 : Int32) (t1 : Option Nat) (u : xH) (h : f_P_init_b262 sc  l0 l2 t0 t1 u = some hZ) : xW sc m_P_init (d + 4) Q (u) 262 [some (vR l0), none, some (vI l2), none, none, none, none, none] [vI t0, vR t1] := by
  unfold f_P_init_b262 at h
  obtain ⟨u1, e2, h⟩ := Option.bind_eq_some_iff.mp h
  refine c_putF (pc := 262) d_P_init_262 l_P_118 fp_0_38 rfl fo_P_118 (xfit_int) e2 ?_
  refine x_aload_n (pc := 265) d_P_init_265 rfl ?_
  refine x_iload_n (pc := 266) d_P_init_266 rfl ?_
  refine x_iconst (v := (1 : Int32)) (pc := 267) d_P_init_267 (by decide) ?_
  refine x_icmp_lt (tgt := 281) (pc := 268) d_P_init_268 (by decide) (fun c3 => ?_) (fun c3 => ?_)
  · rw [if_pos c3] at h
    exact x_wk (L' := [some (vR l0), none, none, none, none, none, none, none]) ⟨Or.inr rfl, Or.inl rfl, Or.inl rfl, Or.inl rfl, Or.inl rfl, Or.inl rfl, Or.inl rfl, Or.inl rfl, trivial⟩ (w_P_init_b281 hQ l0 l0 u1 h)
  · rw [if_neg c3] at h
    refine x_iload_n (pc := 271) d_P_init_271 rfl ?_
    refine x_bipush (v := (16 : Int32)) (pc := 272) d_P_init_272 (by decide) ?_
    refine x_icmp_gt (tgt := 281) (pc := 274) d_P_init_274 (by decide) (fun c4 => ?_) (fun c4 => ?_)
    · rw [if_pos c4] at h
      exact x_wk (L' := [some (vR l0), none, none, none, none, none, none, none]) ⟨Or.inr rfl, Or.inl rfl, Or.inl rfl, Or.inl rfl, Or.inl rfl, Or.inl rfl, Or.inl rfl, Or.inl rfl, trivial⟩ (w_P_init_b281 hQ l0 l0 u1 h)
    · rw [if_neg c4] at h
      refine x_iload_n (pc := 277) d_P_init_277 rfl ?_
      refine x_goto (tgt := 283) (pc := 278) d_P_init_278 (by decide) ?_
      exact x_wk (L' := [some (vR l0), none, none, none, none, none, none, none]) ⟨Or.inr rfl, Or.inl rfl, Or.inl rfl, Or.inl rfl, Or.inl rfl, Or.inl rfl, Or.inl rfl, Or.inl rfl, trivial⟩ (w_P_init_b283 hQ l0 l2 l0 u1 h)
def f_P_init_b260 (sc : xSc)  (l0 : Option Nat) (l2 : Int32) (t0 : Option Nat) (u : xH) : Option xH := f_P_init_b262 sc l0 l2 (16 : Int32) t0 u
theorem w_P_init_b260 {sc : xSc} {d : Nat} {Q : xR → xH → Prop} {hZ : xH}  (hQ : Q (.inl none) hZ) (l0 : Option Nat) (l2 : Int32) (t0 : Option Nat) (u : xH) (h : f_P_init_b260 sc  l0 l2 t0 u = some hZ) : xW sc m_P_init (d + 4) Q (u) 260 [some (vR l0), none, some (vI l2), none, none, none, none, none] [vR t0] := by
  unfold f_P_init_b260 at h
  refine x_bipush (v := (16 : Int32)) (pc := 260) d_P_init_260 (by decide) ?_
  exact w_P_init_b262 hQ l0 l2 (16 : Int32) t0 u h
def f_P_init (sc : xSc) (u : xH) (a0 : Option Nat) (a1 : Int32) (a2 : Int32) : Option xH := (if a0.isSome = true then (nA (eRef "PageScribe$Group") u (6 : Int32)).bind fun u2 => (nO 10 0 0 u2).bind fun u4 => (if (some u2.2.1).isSome = true then (f_Stacks_init (some u2.2.1)).bind fun v7 => (bR "PageScribe$Group" 10 sc u4 (some u.2.1) (0 : Int32) (some u2.2.1)).bind fun u9 => (nO 11 0 0 u9).bind fun u11 => (if (some u9.2.1).isSome = true then (f_Numbers_init (some u9.2.1)).bind fun v14 => (bR "PageScribe$Group" 11 sc u11 (some u.2.1) (1 : Int32) (some u9.2.1)).bind fun u16 => (nO 12 0 0 u16).bind fun u18 => (if (some u16.2.1).isSome = true then (f_Truths_init (some u16.2.1)).bind fun v21 => (bR "PageScribe$Group" 12 sc u18 (some u.2.1) (2 : Int32) (some u16.2.1)).bind fun u23 => (nO 13 0 0 u23).bind fun u25 => (if (some u23.2.1).isSome = true then (f_Holders_init (some u23.2.1)).bind fun v28 => (bR "PageScribe$Group" 13 sc u25 (some u.2.1) (3 : Int32) (some u23.2.1)).bind fun u30 => (nO 14 0 0 u30).bind fun u32 => (if (some u30.2.1).isSome = true then (f_Flow_init (some u30.2.1)).bind fun v35 => (bR "PageScribe$Group" 14 sc u32 (some u.2.1) (4 : Int32) (some u30.2.1)).bind fun u37 => (nO 15 0 0 u37).bind fun u39 => (if (some u37.2.1).isSome = true then (f_Paint_init (some u37.2.1)).bind fun v42 => (bR "PageScribe$Group" 15 sc u39 (some u.2.1) (5 : Int32) (some u37.2.1)).bind fun u44 => (pV u44 0 0 a0 (vR (some u.2.1))).bind fun u46 => (nA (eRef "PageScribe$Name") u46 (32 : Int32)).bind fun u48 => (pV u48 0 1 a0 (vR (some u46.2.1))).bind fun u50 => (nO 16 4 4 u50).bind fun u52 => (if (some u50.2.1).isSome = true then (f_StringBuilder_init1 sc u52 (some u50.2.1) (120 : Int32)).bind fun u55 => (pV u55 0 2 a0 (vR (some u50.2.1))).bind fun u57 => (nO 16 4 4 u57).bind fun u59 => (if (some u57.2.1).isSome = true then (f_StringBuilder_init1 sc u59 (some u57.2.1) (120 : Int32)).bind fun u62 => (pV u62 0 3 a0 (vR (some u57.2.1))).bind fun u64 => (nA (eRef "PageScribe$Slot") u64 (41 : Int32)).bind fun u66 => (pV u66 0 6 a0 (vR (some u64.2.1))).bind fun u68 => (nA (eRef "PageScribe$Slot") u68 (160 : Int32)).bind fun u70 => (pV u70 0 7 a0 (vR (some u68.2.1))).bind fun u72 => (nA (eRef "PageScribe$Slot") u72 (120 : Int32)).bind fun u74 => (pV u74 0 8 a0 (vR (some u72.2.1))).bind fun u76 => (nO 17 3 3 u76).bind fun u78 => (if (some u76.2.1).isSome = true then (f_ArrayList_init sc u78 (some u76.2.1) (7 : Int32)).bind fun u81 => (pV u81 0 12 a0 (vR (some u76.2.1))).bind fun u83 => (nA (eRef "PageScribe$Dict") u83 (6 : Int32)).bind fun u85 => (pV u85 0 13 a0 (vR (some u83.2.1))).bind fun u87 => (pV u87 0 14 a0 (vI (1 : Int32))).bind fun u89 => (nA eInt u89 (20 : Int32)).bind fun u91 => (pV u91 0 19 a0 (vR (some u89.2.1))).bind fun u93 => (nA eInt u93 (20 : Int32)).bind fun u95 => (pV u95 0 20 a0 (vR (some u93.2.1))).bind fun u97 => (nA (eRef "PageScribe$Save") u97 (3 : Int32)).bind fun u99 => (pV u99 0 25 a0 (vR (some u97.2.1))).bind fun u101 => (pV u101 0 29 a0 (vF FP.fconst1)).bind fun u103 => (nA eDouble u103 (30 : Int32)).bind fun u105 => (pV u105 0 30 a0 (vR (some u103.2.1))).bind fun u107 => (nA eDouble u107 (30 : Int32)).bind fun u109 => (pV u109 0 31 a0 (vR (some u107.2.1))).bind fun u111 => (nA eInt u111 (30 : Int32)).bind fun u113 => (pV u113 0 32 a0 (vR (some u111.2.1))).bind fun u115 => (nA eInt u115 (30 : Int32)).bind fun u117 => (pV u117 0 33 a0 (vR (some u115.2.1))).bind fun u119 => (nA eInt u119 (30 : Int32)).bind fun u121 => (pV u121 0 34 a0 (vR (some u119.2.1))).bind fun u123 => (nM u123).bind fun u125 => (pV u125 0 37 a0 (vR (some u123.2.1))).bind fun u127 => (if a1 < (1 : Int32) then f_P_init_b260 sc a0 a2 a0 u127 else (if (24 : Int32) < a1 then f_P_init_b260 sc a0 a2 a0 u127 else f_P_init_b262 sc a0 a2 a1 a0 u127)) else none) else none) else none) else none) else none) else none) else none) else none) else none) else none)
theorem w_P_init {sc : xSc} {d : Nat} {Q : xR → xH → Prop} {hZ : xH} (hQ : Q (.inl none) hZ) (u : xH) (a0 : Option Nat) (a1 : Int32) (a2 : Int32) (h : f_P_init sc u a0 a1 a2 = some hZ) : xW sc m_P_init (d + 4) Q (u) 0 (xent [vR a0, vI a1, vI a2] m_P_init.2.2.1) [] := by
  show xW sc m_P_init (d + 4) Q (u) 0 [some (vR a0), some (vI a1), some (vI a2), none, none, none, none, none] []
  unfold f_P_init at h
  refine x_aload_n (pc := 0) d_P_init_0 rfl ?_
  obtain ⟨c1, h⟩ := ite_some h
  refine c_obj (d := d + 3) (pc := 1) d_P_init_1 (tw_1 (List.mem_of_getElem? (i := 51) rfl)) oi_1 oi_2 (Nat.le_of_ble_eq_true rfl) c1 ?_
  refine x_aload_n (pc := 4) d_P_init_4 rfl ?_
  refine x_bipush (v := (6 : Int32)) (pc := 5) d_P_init_5 (by decide) ?_
  obtain ⟨u2, e3, h⟩ := Option.bind_eq_some_iff.mp h
  refine c_anew (pc := 7) d_P_init_7 kl_P_7 ao_PageScribe_Group e3 ?_
  refine x_dup (pc := 10) d_P_init_10 rfl ?_
  refine x_iconst (v := (0 : Int32)) (pc := 11) d_P_init_11 (by decide) ?_
  obtain ⟨u4, e5, h⟩ := Option.bind_eq_some_iff.mp h
  refine c_new (pc := 12) d_P_init_12 nw_P_9 ly_10 ⟨_, rfl, rfl⟩ e5 ?_
  refine x_dup (pc := 15) d_P_init_15 rfl ?_
  obtain ⟨c6, h⟩ := ite_some h
  obtain ⟨v7, e8, h⟩ := Option.bind_eq_some_iff.mp h
  refine c_invi (d := d + 3) (av := []) (st := [vR (some u2.2.1), vI (0 : Int32), vR (some u.2.1), vR (some u.2.1), vR a0]) (Q' := fun r h' => r = .inl none ∧ h' = u4) (pc := 16) d_P_init_16 ci_P_11 y_Stacks_init (tw_1 (List.mem_of_getElem? (i := 60) rfl)) c6 rfl (Nat.le_of_ble_eq_true rfl) (Nat.le_of_ble_eq_true rfl) (w_Stacks_init (d := d + 1) (Q := fun r h' => r = .inl none ∧ h' = u4) (hh := u4) ⟨rfl, rfl⟩ (some u2.2.1) e8) (fun v h' z => ?_) (fun a h' z => nomatch z.1)
  obtain ⟨z1, z2⟩ := z
  subst h'
  cases z1
  show xW sc m_P_init (d + 4) Q (u4) 19 [some (vR a0), some (vI a1), some (vI a2), none, none, none, none, none] [vR (some u2.2.1), vI (0 : Int32), vR (some u.2.1), vR (some u.2.1), vR a0]
  obtain ⟨u9, e10, h⟩ := Option.bind_eq_some_iff.mp h
  refine c_aast (C := "PageScribe$Group") (c := 10) (pc := 19) d_P_init_19 ⟨_, rfl, Or.inr (tw_10 (List.mem_of_getElem? (i := 103) rfl))⟩ e10 ?_
  refine x_dup (pc := 20) d_P_init_20 rfl ?_
  refine x_iconst (v := (1 : Int32)) (pc := 21) d_P_init_21 (by decide) ?_
  obtain ⟨u11, e12, h⟩ := Option.bind_eq_some_iff.mp h
  refine c_new (pc := 22) d_P_init_22 nw_P_12 ly_11 ⟨_, rfl, rfl⟩ e12 ?_
  refine x_dup (pc := 25) d_P_init_25 rfl ?_
  obtain ⟨c13, h⟩ := ite_some h
  obtain ⟨v14, e15, h⟩ := Option.bind_eq_some_iff.mp h
  refine c_invi (d := d + 3) (av := []) (st := [vR (some u9.2.1), vI (1 : Int32), vR (some u.2.1), vR (some u.2.1), vR a0]) (Q' := fun r h' => r = .inl none ∧ h' = u11) (pc := 26) d_P_init_26 ci_P_14 y_Numbers_init (tw_1 (List.mem_of_getElem? (i := 70) rfl)) c13 rfl (Nat.le_of_ble_eq_true rfl) (Nat.le_of_ble_eq_true rfl) (w_Numbers_init (d := d + 1) (Q := fun r h' => r = .inl none ∧ h' = u11) (hh := u11) ⟨rfl, rfl⟩ (some u9.2.1) e15) (fun v h' z => ?_) (fun a h' z => nomatch z.1)
  obtain ⟨z1, z2⟩ := z
  subst h'
  cases z1
  show xW sc m_P_init (d + 4) Q (u11) 29 [some (vR a0), some (vI a1), some (vI a2), none, none, none, none, none] [vR (some u9.2.1), vI (1 : Int32), vR (some u.2.1), vR (some u.2.1), vR a0]
  obtain ⟨u16, e17, h⟩ := Option.bind_eq_some_iff.mp h
  refine c_aast (C := "PageScribe$Group") (c := 11) (pc := 29) d_P_init_29 ⟨_, rfl, Or.inr (tw_10 (List.mem_of_getElem? (i := 101) rfl))⟩ e17 ?_
  refine x_dup (pc := 30) d_P_init_30 rfl ?_
  refine x_iconst (v := (2 : Int32)) (pc := 31) d_P_init_31 (by decide) ?_
  obtain ⟨u18, e19, h⟩ := Option.bind_eq_some_iff.mp h
  refine c_new (pc := 32) d_P_init_32 nw_P_15 ly_12 ⟨_, rfl, rfl⟩ e19 ?_
  refine x_dup (pc := 35) d_P_init_35 rfl ?_
  obtain ⟨c20, h⟩ := ite_some h
  obtain ⟨v21, e22, h⟩ := Option.bind_eq_some_iff.mp h
  refine c_invi (d := d + 3) (av := []) (st := [vR (some u16.2.1), vI (2 : Int32), vR (some u.2.1), vR (some u.2.1), vR a0]) (Q' := fun r h' => r = .inl none ∧ h' = u18) (pc := 36) d_P_init_36 ci_P_17 y_Truths_init (tw_1 (List.mem_of_getElem? (i := 77) rfl)) c20 rfl (Nat.le_of_ble_eq_true rfl) (Nat.le_of_ble_eq_true rfl) (w_Truths_init (d := d + 1) (Q := fun r h' => r = .inl none ∧ h' = u18) (hh := u18) ⟨rfl, rfl⟩ (some u16.2.1) e22) (fun v h' z => ?_) (fun a h' z => nomatch z.1)
  obtain ⟨z1, z2⟩ := z
  subst h'
  cases z1
  show xW sc m_P_init (d + 4) Q (u18) 39 [some (vR a0), some (vI a1), some (vI a2), none, none, none, none, none] [vR (some u16.2.1), vI (2 : Int32), vR (some u.2.1), vR (some u.2.1), vR a0]
  obtain ⟨u23, e24, h⟩ := Option.bind_eq_some_iff.mp h
  refine c_aast (C := "PageScribe$Group") (c := 12) (pc := 39) d_P_init_39 ⟨_, rfl, Or.inr (tw_10 (List.mem_of_getElem? (i := 104) rfl))⟩ e24 ?_
  refine x_dup (pc := 40) d_P_init_40 rfl ?_
  refine x_iconst (v := (3 : Int32)) (pc := 41) d_P_init_41 (by decide) ?_
  obtain ⟨u25, e26, h⟩ := Option.bind_eq_some_iff.mp h
  refine c_new (pc := 42) d_P_init_42 nw_P_18 ly_13 ⟨_, rfl, rfl⟩ e26 ?_
  refine x_dup (pc := 45) d_P_init_45 rfl ?_
  obtain ⟨c27, h⟩ := ite_some h
  obtain ⟨v28, e29, h⟩ := Option.bind_eq_some_iff.mp h
  refine c_invi (d := d + 3) (av := []) (st := [vR (some u23.2.1), vI (3 : Int32), vR (some u.2.1), vR (some u.2.1), vR a0]) (Q' := fun r h' => r = .inl none ∧ h' = u25) (pc := 46) d_P_init_46 ci_P_20 y_Holders_init (tw_1 (List.mem_of_getElem? (i := 84) rfl)) c27 rfl (Nat.le_of_ble_eq_true rfl) (Nat.le_of_ble_eq_true rfl) (w_Holders_init (d := d + 1) (Q := fun r h' => r = .inl none ∧ h' = u25) (hh := u25) ⟨rfl, rfl⟩ (some u23.2.1) e29) (fun v h' z => ?_) (fun a h' z => nomatch z.1)
  obtain ⟨z1, z2⟩ := z
  subst h'
  cases z1
  show xW sc m_P_init (d + 4) Q (u25) 49 [some (vR a0), some (vI a1), some (vI a2), none, none, none, none, none] [vR (some u23.2.1), vI (3 : Int32), vR (some u.2.1), vR (some u.2.1), vR a0]
  obtain ⟨u30, e31, h⟩ := Option.bind_eq_some_iff.mp h
  refine c_aast (C := "PageScribe$Group") (c := 13) (pc := 49) d_P_init_49 ⟨_, rfl, Or.inr (tw_10 (List.mem_of_getElem? (i := 100) rfl))⟩ e31 ?_
  refine x_dup (pc := 50) d_P_init_50 rfl ?_
  refine x_iconst (v := (4 : Int32)) (pc := 51) d_P_init_51 (by decide) ?_
  obtain ⟨u32, e33, h⟩ := Option.bind_eq_some_iff.mp h
  refine c_new (pc := 52) d_P_init_52 nw_P_21 ly_14 ⟨_, rfl, rfl⟩ e33 ?_
  refine x_dup (pc := 55) d_P_init_55 rfl ?_
  obtain ⟨c34, h⟩ := ite_some h
  obtain ⟨v35, e36, h⟩ := Option.bind_eq_some_iff.mp h
  refine c_invi (d := d + 3) (av := []) (st := [vR (some u30.2.1), vI (4 : Int32), vR (some u.2.1), vR (some u.2.1), vR a0]) (Q' := fun r h' => r = .inl none ∧ h' = u32) (pc := 56) d_P_init_56 ci_P_23 y_Flow_init (tw_1 (List.mem_of_getElem? (i := 91) rfl)) c34 rfl (Nat.le_of_ble_eq_true rfl) (Nat.le_of_ble_eq_true rfl) (w_Flow_init (d := d + 1) (Q := fun r h' => r = .inl none ∧ h' = u32) (hh := u32) ⟨rfl, rfl⟩ (some u30.2.1) e36) (fun v h' z => ?_) (fun a h' z => nomatch z.1)
  obtain ⟨z1, z2⟩ := z
  subst h'
  cases z1
  show xW sc m_P_init (d + 4) Q (u32) 59 [some (vR a0), some (vI a1), some (vI a2), none, none, none, none, none] [vR (some u30.2.1), vI (4 : Int32), vR (some u.2.1), vR (some u.2.1), vR a0]
  obtain ⟨u37, e38, h⟩ := Option.bind_eq_some_iff.mp h
  refine c_aast (C := "PageScribe$Group") (c := 14) (pc := 59) d_P_init_59 ⟨_, rfl, Or.inr (tw_10 (List.mem_of_getElem? (i := 99) rfl))⟩ e38 ?_
  refine x_dup (pc := 60) d_P_init_60 rfl ?_
  refine x_iconst (v := (5 : Int32)) (pc := 61) d_P_init_61 (by decide) ?_
  obtain ⟨u39, e40, h⟩ := Option.bind_eq_some_iff.mp h
  refine c_new (pc := 62) d_P_init_62 nw_P_24 ly_15 ⟨_, rfl, rfl⟩ e40 ?_
  refine x_dup (pc := 65) d_P_init_65 rfl ?_
  obtain ⟨c41, h⟩ := ite_some h
  obtain ⟨v42, e43, h⟩ := Option.bind_eq_some_iff.mp h
  refine c_invi (d := d + 3) (av := []) (st := [vR (some u37.2.1), vI (5 : Int32), vR (some u.2.1), vR (some u.2.1), vR a0]) (Q' := fun r h' => r = .inl none ∧ h' = u39) (pc := 66) d_P_init_66 ci_P_26 y_Paint_init (tw_1 (List.mem_of_getElem? (i := 98) rfl)) c41 rfl (Nat.le_of_ble_eq_true rfl) (Nat.le_of_ble_eq_true rfl) (w_Paint_init (d := d + 1) (Q := fun r h' => r = .inl none ∧ h' = u39) (hh := u39) ⟨rfl, rfl⟩ (some u37.2.1) e43) (fun v h' z => ?_) (fun a h' z => nomatch z.1)
  obtain ⟨z1, z2⟩ := z
  subst h'
  cases z1
  show xW sc m_P_init (d + 4) Q (u39) 69 [some (vR a0), some (vI a1), some (vI a2), none, none, none, none, none] [vR (some u37.2.1), vI (5 : Int32), vR (some u.2.1), vR (some u.2.1), vR a0]
  obtain ⟨u44, e45, h⟩ := Option.bind_eq_some_iff.mp h
  refine c_aast (C := "PageScribe$Group") (c := 15) (pc := 69) d_P_init_69 ⟨_, rfl, Or.inr (tw_10 (List.mem_of_getElem? (i := 102) rfl))⟩ e45 ?_
  obtain ⟨u46, e47, h⟩ := Option.bind_eq_some_iff.mp h
  refine c_putF (pc := 70) d_P_init_70 l_P_27 fp_0_0 rfl fo_P_27 (xfit_arr) e47 ?_
  refine x_aload_n (pc := 73) d_P_init_73 rfl ?_
  refine x_bipush (v := (32 : Int32)) (pc := 74) d_P_init_74 (by decide) ?_
  obtain ⟨u48, e49, h⟩ := Option.bind_eq_some_iff.mp h
  refine c_anew (pc := 76) d_P_init_76 kl_P_33 ao_PageScribe_Name e49 ?_
  obtain ⟨u50, e51, h⟩ := Option.bind_eq_some_iff.mp h
  refine c_putF (pc := 79) d_P_init_79 l_P_35 fp_0_1 rfl fo_P_35 (xfit_arr) e51 ?_
  refine x_aload_n (pc := 82) d_P_init_82 rfl ?_
  obtain ⟨u52, e53, h⟩ := Option.bind_eq_some_iff.mp h
  refine c_new (pc := 83) d_P_init_83 nw_P_39 ly_16 ⟨_, rfl, rfl⟩ e53 ?_
  refine x_dup (pc := 86) d_P_init_86 rfl ?_
  refine x_bipush (v := (120 : Int32)) (pc := 87) d_P_init_87 (by decide) ?_
  obtain ⟨c54, h⟩ := ite_some h
  obtain ⟨u55, e56, h⟩ := Option.bind_eq_some_iff.mp h
  refine c_invi (d := d + 3) (av := [vI (120 : Int32)]) (st := [vR (some u50.2.1), vR a0]) (Q' := fun r h' => r = .inl none ∧ h' = u55) (pc := 89) d_P_init_89 ci_P_41 y_StringBuilder_init1 (tw_1 (List.mem_of_getElem? (i := 107) rfl)) c54 rfl (Nat.le_of_ble_eq_true rfl) (Nat.le_of_ble_eq_true rfl) (w_StringBuilder_init1 (d := d + 1) (Q := fun r h' => r = .inl none ∧ h' = u55) ⟨rfl, rfl⟩ u52 (some u50.2.1) (120 : Int32) e56) (fun v h' z => ?_) (fun a h' z => nomatch z.1)
  obtain ⟨z1, z2⟩ := z
  subst h'
  cases z1
  show xW sc m_P_init (d + 4) Q (u55) 92 [some (vR a0), some (vI a1), some (vI a2), none, none, none, none, none] [vR (some u50.2.1), vR a0]
  obtain ⟨u57, e58, h⟩ := Option.bind_eq_some_iff.mp h
  refine c_putF (pc := 92) d_P_init_92 l_P_44 fp_0_2 rfl fo_P_44 (xfit_obj) e58 ?_
  refine x_aload_n (pc := 95) d_P_init_95 rfl ?_
  obtain ⟨u59, e60, h⟩ := Option.bind_eq_some_iff.mp h
  refine c_new (pc := 96) d_P_init_96 nw_P_39 ly_16 ⟨_, rfl, rfl⟩ e60 ?_
  refine x_dup (pc := 99) d_P_init_99 rfl ?_
  refine x_bipush (v := (120 : Int32)) (pc := 100) d_P_init_100 (by decide) ?_
  obtain ⟨c61, h⟩ := ite_some h
  obtain ⟨u62, e63, h⟩ := Option.bind_eq_some_iff.mp h
  refine c_invi (d := d + 3) (av := [vI (120 : Int32)]) (st := [vR (some u57.2.1), vR a0]) (Q' := fun r h' => r = .inl none ∧ h' = u62) (pc := 102) d_P_init_102 ci_P_41 y_StringBuilder_init1 (tw_1 (List.mem_of_getElem? (i := 107) rfl)) c61 rfl (Nat.le_of_ble_eq_true rfl) (Nat.le_of_ble_eq_true rfl) (w_StringBuilder_init1 (d := d + 1) (Q := fun r h' => r = .inl none ∧ h' = u62) ⟨rfl, rfl⟩ u59 (some u57.2.1) (120 : Int32) e63) (fun v h' z => ?_) (fun a h' z => nomatch z.1)
  obtain ⟨z1, z2⟩ := z
  subst h'
  cases z1
  show xW sc m_P_init (d + 4) Q (u62) 105 [some (vR a0), some (vI a1), some (vI a2), none, none, none, none, none] [vR (some u57.2.1), vR a0]
  obtain ⟨u64, e65, h⟩ := Option.bind_eq_some_iff.mp h
  refine c_putF (pc := 105) d_P_init_105 l_P_48 fp_0_3 rfl fo_P_48 (xfit_obj) e65 ?_
  refine x_aload_n (pc := 108) d_P_init_108 rfl ?_
  refine x_bipush (v := (41 : Int32)) (pc := 109) d_P_init_109 (by decide) ?_
  obtain ⟨u66, e67, h⟩ := Option.bind_eq_some_iff.mp h
  refine c_anew (pc := 111) d_P_init_111 kl_P_51 ao_PageScribe_Slot e67 ?_
  obtain ⟨u68, e69, h⟩ := Option.bind_eq_some_iff.mp h
  refine c_putF (pc := 114) d_P_init_114 l_P_53 fp_0_6 rfl fo_P_53 (xfit_arr) e69 ?_
  refine x_aload_n (pc := 117) d_P_init_117 rfl ?_
  refine x_sipush (v := (160 : Int32)) (pc := 118) d_P_init_118 (by decide) ?_
  obtain ⟨u70, e71, h⟩ := Option.bind_eq_some_iff.mp h
  refine c_anew (pc := 121) d_P_init_121 kl_P_51 ao_PageScribe_Slot e71 ?_
  obtain ⟨u72, e73, h⟩ := Option.bind_eq_some_iff.mp h
  refine c_putF (pc := 124) d_P_init_124 l_P_57 fp_0_7 rfl fo_P_57 (xfit_arr) e73 ?_
  refine x_aload_n (pc := 127) d_P_init_127 rfl ?_
  refine x_bipush (v := (120 : Int32)) (pc := 128) d_P_init_128 (by decide) ?_
  obtain ⟨u74, e75, h⟩ := Option.bind_eq_some_iff.mp h
  refine c_anew (pc := 130) d_P_init_130 kl_P_51 ao_PageScribe_Slot e75 ?_
  obtain ⟨u76, e77, h⟩ := Option.bind_eq_some_iff.mp h
  refine c_putF (pc := 133) d_P_init_133 l_P_60 fp_0_8 rfl fo_P_60 (xfit_arr) e77 ?_
  refine x_aload_n (pc := 136) d_P_init_136 rfl ?_
  obtain ⟨u78, e79, h⟩ := Option.bind_eq_some_iff.mp h
  refine c_new (pc := 137) d_P_init_137 nw_P_63 ly_17 ⟨_, rfl, rfl⟩ e79 ?_
  refine x_dup (pc := 140) d_P_init_140 rfl ?_
  refine x_bipush (v := (7 : Int32)) (pc := 141) d_P_init_141 (by decide) ?_
  obtain ⟨c80, h⟩ := ite_some h
  obtain ⟨u81, e82, h⟩ := Option.bind_eq_some_iff.mp h
  refine c_invi (d := d + 3) (av := [vI (7 : Int32)]) (st := [vR (some u76.2.1), vR a0]) (Q' := fun r h' => r = .inl none ∧ h' = u81) (pc := 143) d_P_init_143 ci_P_65 y_ArrayList_init (tw_1 (List.mem_of_getElem? (i := 142) rfl)) c80 rfl (Nat.le_of_ble_eq_true rfl) (Nat.le_of_ble_eq_true rfl) (w_ArrayList_init (d := d + 0) (Q := fun r h' => r = .inl none ∧ h' = u81) ⟨rfl, rfl⟩ u78 (some u76.2.1) (7 : Int32) e82) (fun v h' z => ?_) (fun a h' z => nomatch z.1)
  obtain ⟨z1, z2⟩ := z
  subst h'
  cases z1
  show xW sc m_P_init (d + 4) Q (u81) 146 [some (vR a0), some (vI a1), some (vI a2), none, none, none, none, none] [vR (some u76.2.1), vR a0]
  obtain ⟨u83, e84, h⟩ := Option.bind_eq_some_iff.mp h
  refine c_putF (pc := 146) d_P_init_146 l_P_66 fp_0_12 rfl fo_P_66 (xfit_obj) e84 ?_
  refine x_aload_n (pc := 149) d_P_init_149 rfl ?_
  refine x_bipush (v := (6 : Int32)) (pc := 150) d_P_init_150 (by decide) ?_
  obtain ⟨u85, e86, h⟩ := Option.bind_eq_some_iff.mp h
  refine c_anew (pc := 152) d_P_init_152 kl_P_70 ao_PageScribe_Dict e86 ?_
  obtain ⟨u87, e88, h⟩ := Option.bind_eq_some_iff.mp h
  refine c_putF (pc := 155) d_P_init_155 l_P_72 fp_0_13 rfl fo_P_72 (xfit_arr) e88 ?_
  refine x_aload_n (pc := 158) d_P_init_158 rfl ?_
  refine x_iconst (v := (1 : Int32)) (pc := 159) d_P_init_159 (by decide) ?_
  obtain ⟨u89, e90, h⟩ := Option.bind_eq_some_iff.mp h
  refine c_putf (pc := 160) d_P_init_160 l_P_76 fp_0_14 (xfit_int) e90 ?_
  refine x_aload_n (pc := 163) d_P_init_163 rfl ?_
  refine x_bipush (v := (20 : Int32)) (pc := 164) d_P_init_164 (by decide) ?_
  obtain ⟨u91, e92, h⟩ := Option.bind_eq_some_iff.mp h
  refine c_newa_int (pc := 166) d_P_init_166 ac_int e92 ?_
  obtain ⟨u93, e94, h⟩ := Option.bind_eq_some_iff.mp h
  refine c_putF (pc := 168) d_P_init_168 l_P_80 fp_0_19 rfl fo_P_80 (xfit_arr) e94 ?_
  refine x_aload_n (pc := 171) d_P_init_171 rfl ?_
  refine x_bipush (v := (20 : Int32)) (pc := 172) d_P_init_172 (by decide) ?_
  obtain ⟨u95, e96, h⟩ := Option.bind_eq_some_iff.mp h
  refine c_newa_int (pc := 174) d_P_init_174 ac_int e96 ?_
  obtain ⟨u97, e98, h⟩ := Option.bind_eq_some_iff.mp h
  refine c_putF (pc := 176) d_P_init_176 l_P_84 fp_0_20 rfl fo_P_84 (xfit_arr) e98 ?_
  refine x_aload_n (pc := 179) d_P_init_179 rfl ?_
  refine x_iconst (v := (3 : Int32)) (pc := 180) d_P_init_180 (by decide) ?_
  obtain ⟨u99, e100, h⟩ := Option.bind_eq_some_iff.mp h
  refine c_anew (pc := 181) d_P_init_181 kl_P_87 ao_PageScribe_Save e100 ?_
  obtain ⟨u101, e102, h⟩ := Option.bind_eq_some_iff.mp h
  refine c_putF (pc := 184) d_P_init_184 l_P_89 fp_0_25 rfl fo_P_89 (xfit_arr) e102 ?_
  refine x_aload_n (pc := 187) d_P_init_187 rfl ?_
  refine x_fconst1 (pc := 188) d_P_init_188 ?_
  obtain ⟨u103, e104, h⟩ := Option.bind_eq_some_iff.mp h
  refine c_putf (pc := 189) d_P_init_189 l_P_93 fp_0_29 (xfit_float) e104 ?_
  refine x_aload_n (pc := 192) d_P_init_192 rfl ?_
  refine x_bipush (v := (30 : Int32)) (pc := 193) d_P_init_193 (by decide) ?_
  obtain ⟨u105, e106, h⟩ := Option.bind_eq_some_iff.mp h
  refine c_newa_double (pc := 195) d_P_init_195 ac_double e106 ?_
  obtain ⟨u107, e108, h⟩ := Option.bind_eq_some_iff.mp h
  refine c_putF (pc := 197) d_P_init_197 l_P_97 fp_0_30 rfl fo_P_97 (xfit_arr) e108 ?_
  refine x_aload_n (pc := 200) d_P_init_200 rfl ?_
  refine x_bipush (v := (30 : Int32)) (pc := 201) d_P_init_201 (by decide) ?_
  obtain ⟨u109, e110, h⟩ := Option.bind_eq_some_iff.mp h
  refine c_newa_double (pc := 203) d_P_init_203 ac_double e110 ?_
  obtain ⟨u111, e112, h⟩ := Option.bind_eq_some_iff.mp h
  refine c_putF (pc := 205) d_P_init_205 l_P_101 fp_0_31 rfl fo_P_101 (xfit_arr) e112 ?_
  refine x_aload_n (pc := 208) d_P_init_208 rfl ?_
  refine x_bipush (v := (30 : Int32)) (pc := 209) d_P_init_209 (by decide) ?_
  obtain ⟨u113, e114, h⟩ := Option.bind_eq_some_iff.mp h
  refine c_newa_int (pc := 211) d_P_init_211 ac_int e114 ?_
  obtain ⟨u115, e116, h⟩ := Option.bind_eq_some_iff.mp h
  refine c_putF (pc := 213) d_P_init_213 l_P_104 fp_0_32 rfl fo_P_104 (xfit_arr) e116 ?_
  refine x_aload_n (pc := 216) d_P_init_216 rfl ?_
  refine x_bipush (v := (30 : Int32)) (pc := 217) d_P_init_217 (by decide) ?_
  obtain ⟨u117, e118, h⟩ := Option.bind_eq_some_iff.mp h
  refine c_newa_int (pc := 219) d_P_init_219 ac_int e118 ?_
  obtain ⟨u119, e120, h⟩ := Option.bind_eq_some_iff.mp h
  refine c_putF (pc := 221) d_P_init_221 l_P_107 fp_0_33 rfl fo_P_107 (xfit_arr) e120 ?_
  refine x_aload_n (pc := 224) d_P_init_224 rfl ?_
  refine x_bipush (v := (30 : Int32)) (pc := 225) d_P_init_225 (by decide) ?_
  obtain ⟨u121, e122, h⟩ := Option.bind_eq_some_iff.mp h
  refine c_newa_int (pc := 227) d_P_init_227 ac_int e122 ?_
  obtain ⟨u123, e124, h⟩ := Option.bind_eq_some_iff.mp h
  refine c_putF (pc := 229) d_P_init_229 l_P_110 fp_0_34 rfl fo_P_110 (xfit_arr) e124 ?_
  refine x_aload_n (pc := 232) d_P_init_232 rfl ?_
  refine x_bipush (v := (16 : Int32)) (pc := 233) d_P_init_233 (by decide) ?_
  refine x_bipush (v := (24 : Int32)) (pc := 235) d_P_init_235 (by decide) ?_
  obtain ⟨u125, e126, h⟩ := Option.bind_eq_some_iff.mp h
  refine c_multi (pc := 237) d_P_init_237 kl_P_113 e126 ?_
  obtain ⟨u127, e128, h⟩ := Option.bind_eq_some_iff.mp h
  refine c_putF (pc := 241) d_P_init_241 l_P_115 fp_0_37 rfl fo_P_115 (xfit_arr) e128 ?_
  refine x_aload_n (pc := 244) d_P_init_244 rfl ?_
  refine x_iload_n (pc := 245) d_P_init_245 rfl ?_
  refine x_iconst (v := (1 : Int32)) (pc := 246) d_P_init_246 (by decide) ?_
  refine x_icmp_lt (tgt := 260) (pc := 247) d_P_init_247 (by decide) (fun c129 => ?_) (fun c129 => ?_)
  · rw [if_pos c129] at h
    exact x_wk (L' := [some (vR a0), none, some (vI a2), none, none, none, none, none]) ⟨Or.inr rfl, Or.inl rfl, Or.inr rfl, Or.inl rfl, Or.inl rfl, Or.inl rfl, Or.inl rfl, Or.inl rfl, trivial⟩ (w_P_init_b260 hQ a0 a2 a0 u127 h)
  · rw [if_neg c129] at h
    refine x_iload_n (pc := 250) d_P_init_250 rfl ?_
    refine x_bipush (v := (24 : Int32)) (pc := 251) d_P_init_251 (by decide) ?_
    refine x_icmp_gt (tgt := 260) (pc := 253) d_P_init_253 (by decide) (fun c130 => ?_) (fun c130 => ?_)
    · rw [if_pos c130] at h
      exact x_wk (L' := [some (vR a0), none, some (vI a2), none, none, none, none, none]) ⟨Or.inr rfl, Or.inl rfl, Or.inr rfl, Or.inl rfl, Or.inl rfl, Or.inl rfl, Or.inl rfl, Or.inl rfl, trivial⟩ (w_P_init_b260 hQ a0 a2 a0 u127 h)
    · rw [if_neg c130] at h
      refine x_iload_n (pc := 256) d_P_init_256 rfl ?_
      refine x_goto (tgt := 262) (pc := 257) d_P_init_257 (by decide) ?_
      exact x_wk (L' := [some (vR a0), none, some (vI a2), none, none, none, none, none]) ⟨Or.inr rfl, Or.inl rfl, Or.inr rfl, Or.inl rfl, Or.inl rfl, Or.inl rfl, Or.inl rfl, Or.inl rfl, trivial⟩ (w_P_init_b262 hQ a0 a2 a1 a0 u127 h)
def f_P_isLetter_b23 (sc : xSc) (u : xH)  (t0 : Int32) : Option Int32 := (if xbo t0 = true then some t0 else none)
theorem w_P_isLetter_b23 {sc : xSc} {d : Nat} {Q : xR → xH → Prop} {u : xH} {rZ : Int32}  (hQ : Q (.inl (some (vI rZ))) u) (t0 : Int32) (h : f_P_isLetter_b23 sc u  t0 = some rZ) : xW sc m_P_isLetter (d + 5) Q (u) 23 [none] [vI t0] := by
  unfold f_P_isLetter_b23 at h
  obtain ⟨c1, h⟩ := ite_some h
  cases h
  exact x_iret (ty := .boolean) (pc := 23) d_P_isLetter_23 rfl (xbo_n c1) hQ
def f_P_isLetter_b22 (sc : xSc) (u : xH)   : Option Int32 := f_P_isLetter_b23 sc u (0 : Int32)
theorem w_P_isLetter_b22 {sc : xSc} {d : Nat} {Q : xR → xH → Prop} {u : xH} {rZ : Int32}  (hQ : Q (.inl (some (vI rZ))) u)  (h : f_P_isLetter_b22 sc u   = some rZ) : xW sc m_P_isLetter (d + 5) Q (u) 22 [none] [] := by
  unfold f_P_isLetter_b22 at h
  refine x_iconst (v := (0 : Int32)) (pc := 22) d_P_isLetter_22 (by decide) ?_
  exact w_P_isLetter_b23 hQ (0 : Int32) h
def f_P_isLetter (sc : xSc) (u : xH) (a0 : Option Nat) : Option Int32 := (if xis sc u 0 a0 = true then (f_P_here sc u a0).bind fun v2 => (if v2 < (97 : Int32) then f_P_isLetter_b22 sc u else (if xis sc u 0 a0 = true then (f_P_here sc u a0).bind fun v6 => (if (122 : Int32) < v6 then f_P_isLetter_b22 sc u else f_P_isLetter_b23 sc u (1 : Int32)) else none)) else none)
theorem w_P_isLetter {sc : xSc} {d : Nat} {Q : xR → xH → Prop} {u : xH} {rZ : Int32} (hQ : Q (.inl (some (vI rZ))) u) (a0 : Option Nat) (h : f_P_isLetter sc u a0 = some rZ) : xW sc m_P_isLetter (d + 5) Q (u) 0 (xent [vR a0] m_P_isLetter.2.2.1) [] := by
  show xW sc m_P_isLetter (d + 5) Q (u) 0 [some (vR a0)] []
  unfold f_P_isLetter at h
  refine x_aload_n (pc := 0) d_P_isLetter_0 rfl ?_
  obtain ⟨c1, h⟩ := ite_some h
  obtain ⟨v2, e3, h⟩ := Option.bind_eq_some_iff.mp h
  refine c_invv (c := 0) (d := d + 4) (av := []) (st := []) (Q' := fun r h' => r = .inl (some (vI v2)) ∧ h' = u) (pc := 1) d_P_isLetter_1 cv_P_398 y_P_here c1 rfl (Nat.le_of_ble_eq_true rfl) (Nat.le_of_ble_eq_true rfl) (w_P_here (d := d + 0) (Q := fun r h' => r = .inl (some (vI v2)) ∧ h' = u) ⟨rfl, rfl⟩ a0 e3) (fun v h' z => ?_) (fun a h' z => nomatch z.1)
  obtain ⟨z1, z2⟩ := z
  subst h'
  cases z1
  show xW sc m_P_isLetter (d + 5) Q (u) 4 [some (vR a0)] [vI v2]
  refine x_bipush (v := (97 : Int32)) (pc := 4) d_P_isLetter_4 (by decide) ?_
  refine x_icmp_lt (tgt := 22) (pc := 6) d_P_isLetter_6 (by decide) (fun c4 => ?_) (fun c4 => ?_)
  · rw [if_pos c4] at h
    exact x_wk (L' := [none]) ⟨Or.inl rfl, trivial⟩ (w_P_isLetter_b22 hQ h)
  · rw [if_neg c4] at h
    refine x_aload_n (pc := 9) d_P_isLetter_9 rfl ?_
    obtain ⟨c5, h⟩ := ite_some h
    obtain ⟨v6, e7, h⟩ := Option.bind_eq_some_iff.mp h
    refine c_invv (c := 0) (d := d + 4) (av := []) (st := []) (Q' := fun r h' => r = .inl (some (vI v6)) ∧ h' = u) (pc := 10) d_P_isLetter_10 cv_P_398 y_P_here c5 rfl (Nat.le_of_ble_eq_true rfl) (Nat.le_of_ble_eq_true rfl) (w_P_here (d := d + 0) (Q := fun r h' => r = .inl (some (vI v6)) ∧ h' = u) ⟨rfl, rfl⟩ a0 e7) (fun v h' z => ?_) (fun a h' z => nomatch z.1)
    obtain ⟨z1, z2⟩ := z
    subst h'
    cases z1
    show xW sc m_P_isLetter (d + 5) Q (u) 13 [some (vR a0)] [vI v6]
    refine x_bipush (v := (122 : Int32)) (pc := 13) d_P_isLetter_13 (by decide) ?_
    refine x_icmp_gt (tgt := 22) (pc := 15) d_P_isLetter_15 (by decide) (fun c8 => ?_) (fun c8 => ?_)
    · rw [if_pos c8] at h
      exact x_wk (L' := [none]) ⟨Or.inl rfl, trivial⟩ (w_P_isLetter_b22 hQ h)
    · rw [if_neg c8] at h
      refine x_iconst (v := (1 : Int32)) (pc := 18) d_P_isLetter_18 (by decide) ?_
      refine x_goto (tgt := 23) (pc := 19) d_P_isLetter_19 (by decide) ?_
      exact x_wk (L' := [none]) ⟨Or.inl rfl, trivial⟩ (w_P_isLetter_b23 hQ (1 : Int32) h)
def f_P_seen_b12 (sc : xSc)  (u : xH) : Option ((Option Nat ⊕ Nat) × xH) := (if xrm u 6 = true then some (.inr u.2.1, xnew u (.inl (23, [])) 6) else none)
theorem w_P_seen_b12 {sc : xSc} {d : Nat} {Q : xR → xH → Prop} {oZ : Option Nat ⊕ Nat} {hZ : xH}  (hQ : Q (cvR oZ) hZ) (u : xH) (h : f_P_seen_b12 sc  u = some (oZ, hZ)) : xW sc m_P_seen (d + 6) Q (u) 12 [none, none] [] := by
  unfold f_P_seen_b12 at h
  obtain ⟨c1, h⟩ := ite_some h
  cases h
  exact x_throwNew (d := d + 0) (c := 23) (pc := 12) d_P_seen_12 d_P_seen_15 d_P_seen_16 d_P_seen_19 (xno rfl) nw_P_494 ex_P_496 (by decide) (Nat.le_of_ble_eq_true rfl) (xrm_s c1).1 (xrm_s c1).2 hQ
def f_P_seen (sc : xSc) (u : xH) (a0 : Option Nat) (a1 : Int32) : Option ((Option Nat ⊕ Nat) × xH) := (if a1 < 0 then f_P_seen_b12 sc u else (gI sc u 0 9 a0).bind fun v2 => (if a1 < v2 then (if xis sc u 0 a0 = true then (f_P_at sc u a0 a1).bind fun v6 => some (.inl v6, u) else none) else f_P_seen_b12 sc u))
theorem w_P_seen {sc : xSc} {d : Nat} {Q : xR → xH → Prop} {oZ : Option Nat ⊕ Nat} {hZ : xH} (hQ : Q (cvR oZ) hZ) (u : xH) (a0 : Option Nat) (a1 : Int32) (h : f_P_seen sc u a0 a1 = some (oZ, hZ)) : xW sc m_P_seen (d + 6) Q (u) 0 (xent [vR a0, vI a1] m_P_seen.2.2.1) [] := by
  show xW sc m_P_seen (d + 6) Q (u) 0 [some (vR a0), some (vI a1)] []
  unfold f_P_seen at h
  refine x_iload_n (pc := 0) d_P_seen_0 rfl ?_
  refine x_if_lt (tgt := 12) (pc := 1) d_P_seen_1 (by decide) (fun c1 => ?_) (fun c1 => ?_)
  · rw [if_pos c1] at h
    exact x_wk (L' := [none, none]) ⟨Or.inl rfl, Or.inl rfl, trivial⟩ (w_P_seen_b12 hQ u h)
  · rw [if_neg c1] at h
    refine x_iload_n (pc := 4) d_P_seen_4 rfl ?_
    refine x_aload_n (pc := 5) d_P_seen_5 rfl ?_
    obtain ⟨v2, e3, h⟩ := Option.bind_eq_some_iff.mp h
    refine c_getI (pc := 6) d_P_seen_6 l_P_174 e3 ?_
    refine x_icmp_lt (tgt := 20) (pc := 9) d_P_seen_9 (by decide) (fun c4 => ?_) (fun c4 => ?_)
    · rw [if_pos c4] at h
      refine x_aload_n (pc := 20) d_P_seen_20 rfl ?_
      refine x_iload_n (pc := 21) d_P_seen_21 rfl ?_
      obtain ⟨c5, h⟩ := ite_some h
      obtain ⟨v6, e7, h⟩ := Option.bind_eq_some_iff.mp h
      refine c_invv (c := 0) (d := d + 5) (av := [vI a1]) (st := []) (Q' := fun r h' => r = .inl (some (vR v6)) ∧ h' = u) (pc := 22) d_P_seen_22 cv_P_203 y_P_at c5 rfl (Nat.le_of_ble_eq_true rfl) (Nat.le_of_ble_eq_true rfl) (w_P_at (d := d + 5) (Q := fun r h' => r = .inl (some (vR v6)) ∧ h' = u) ⟨rfl, rfl⟩ a0 a1 e7) (fun v h' z => ?_) (fun a h' z => nomatch z.1)
      obtain ⟨z1, z2⟩ := z
      subst h'
      cases z1
      show xW sc m_P_seen (d + 6) Q (u) 25 [some (vR a0), some (vI a1)] [vR v6]
      cases h
      exact x_aret (pc := 25) d_P_seen_25 rfl (Or.inl ⟨_, rfl⟩) hQ
    · rw [if_neg c4] at h
      exact x_wk (L' := [none, none]) ⟨Or.inl rfl, Or.inl rfl, trivial⟩ (w_P_seen_b12 hQ u h)
def f_P_kind_b28 (sc : xSc)  (t0 : Int32) (t1 : Int32) (u : xH) : Option ((Int32 ⊕ Nat) × xH) := some (.inl (t1 + t0), u)
theorem w_P_kind_b28 {sc : xSc} {d : Nat} {Q : xR → xH → Prop} {oZ : Int32 ⊕ Nat} {hZ : xH}  (hQ : Q (cvI oZ) hZ) (t0 : Int32) (t1 : Int32) (u : xH) (h : f_P_kind_b28 sc  t0 t1 u = some (oZ, hZ)) : xW sc m_P_kind (d + 7) Q (u) 28 [none, none] [vI t0, vI t1] := by
  unfold f_P_kind_b28 at h
  refine x_iadd (pc := 28) d_P_kind_28 ?_
  cases h
  exact x_iret (ty := .int) (pc := 29) d_P_kind_29 rfl (rfl) hQ
def f_P_kind (sc : xSc) (u : xH) (a0 : Option Nat) (a1 : Int32) : Option ((Int32 ⊕ Nat) × xH) := (if xis sc u 0 a0 = true then tB (f_P_seen sc u a0 a1) (fun v3 u2 => (gR sc u2 2 0 v3).bind fun v7 => (if xis sc u2 20 v7 = true then (f_Enum_ordinal20 sc u2 v7).bind fun v10 => (if xis sc u2 0 a0 = true then tB (f_P_seen sc u2 a0 a1) (fun v14 u13 => (gI sc u13 2 1 v14).bind fun v18 => (if v18 = 0 then f_P_kind_b28 sc (0 : Int32) v10 u13 else f_P_kind_b28 sc (8 : Int32) v10 u13)) (fun a16 u17 => some (.inr a16, u17)) else none) else none)) (fun a5 u6 => some (.inr a5, u6)) else none)
theorem w_P_kind {sc : xSc} {d : Nat} {Q : xR → xH → Prop} {oZ : Int32 ⊕ Nat} {hZ : xH} (hQ : Q (cvI oZ) hZ) (u : xH) (a0 : Option Nat) (a1 : Int32) (h : f_P_kind sc u a0 a1 = some (oZ, hZ)) : xW sc m_P_kind (d + 7) Q (u) 0 (xent [vR a0, vI a1] m_P_kind.2.2.1) [] := by
  show xW sc m_P_kind (d + 7) Q (u) 0 [some (vR a0), some (vI a1)] []
  unfold f_P_kind at h
  refine x_aload_n (pc := 0) d_P_kind_0 rfl ?_
  refine x_iload_n (pc := 1) d_P_kind_1 rfl ?_
  obtain ⟨c1, h⟩ := ite_some h
  rcases tB_s h with ⟨a5, u6, e4, h⟩ | ⟨v3, u2, e4, h⟩
  · refine c_invv (c := 0) (d := d + 6) (av := [vI a1]) (st := []) (Q' := fun r h' => r = .inr a5 ∧ h' = u6) (pc := 2) d_P_kind_2 cv_P_497 y_P_seen c1 rfl (Nat.le_of_ble_eq_true rfl) (Nat.le_of_ble_eq_true rfl) (w_P_seen (d := d + 0) (Q := fun r h' => r = .inr a5 ∧ h' = u6) ⟨rfl, rfl⟩ u a0 a1 e4) (fun v h' z => nomatch z.1) (fun a h' z => ?_)
    obtain ⟨z1, z2⟩ := z
    subst h'
    cases z1
    cases h
    exact x_thOut (xno rfl) hQ
  refine c_invv (c := 0) (d := d + 6) (av := [vI a1]) (st := []) (Q' := fun r h' => r = .inl (some (vR v3)) ∧ h' = u2) (pc := 2) d_P_kind_2 cv_P_497 y_P_seen c1 rfl (Nat.le_of_ble_eq_true rfl) (Nat.le_of_ble_eq_true rfl) (w_P_seen (d := d + 0) (Q := fun r h' => r = .inl (some (vR v3)) ∧ h' = u2) ⟨rfl, rfl⟩ u a0 a1 e4) (fun v h' z => ?_) (fun a h' z => nomatch z.1)
  obtain ⟨z1, z2⟩ := z
  subst h'
  cases z1
  show xW sc m_P_kind (d + 7) Q (u2) 5 [some (vR a0), some (vI a1)] [vR v3]
  obtain ⟨v7, e8, h⟩ := Option.bind_eq_some_iff.mp h
  refine c_getR (pc := 5) d_P_kind_5 l_P_500 e8 ?_
  obtain ⟨c9, h⟩ := ite_some h
  obtain ⟨v10, e11, h⟩ := Option.bind_eq_some_iff.mp h
  refine c_invu (c := 20) (d := d + 6) (av := []) (st := []) (Q' := fun r h' => r = .inl (some (vI v10)) ∧ h' = u2) (pc := 8) d_P_kind_8 cw_P_503_20 y_Enum_ordinal c9 rfl (Nat.le_of_ble_eq_true rfl) (Nat.le_of_ble_eq_true rfl) (w_Enum_ordinal20 (d := d + 6) (Q := fun r h' => r = .inl (some (vI v10)) ∧ h' = u2) ⟨rfl, rfl⟩ v7 e11) (fun v h' z => ?_) (fun a h' z => nomatch z.1)
  obtain ⟨z1, z2⟩ := z
  subst h'
  cases z1
  show xW sc m_P_kind (d + 7) Q (u2) 11 [some (vR a0), some (vI a1)] [vI v10]
  refine x_aload_n (pc := 11) d_P_kind_11 rfl ?_
  refine x_iload_n (pc := 12) d_P_kind_12 rfl ?_
  obtain ⟨c12, h⟩ := ite_some h
  rcases tB_s h with ⟨a16, u17, e15, h⟩ | ⟨v14, u13, e15, h⟩
  · refine c_invv (c := 0) (d := d + 6) (av := [vI a1]) (st := [vI v10]) (Q' := fun r h' => r = .inr a16 ∧ h' = u17) (pc := 13) d_P_kind_13 cv_P_497 y_P_seen c12 rfl (Nat.le_of_ble_eq_true rfl) (Nat.le_of_ble_eq_true rfl) (w_P_seen (d := d + 0) (Q := fun r h' => r = .inr a16 ∧ h' = u17) ⟨rfl, rfl⟩ u2 a0 a1 e15) (fun v h' z => nomatch z.1) (fun a h' z => ?_)
    obtain ⟨z1, z2⟩ := z
    subst h'
    cases z1
    cases h
    exact x_thOut (xno rfl) hQ
  refine c_invv (c := 0) (d := d + 6) (av := [vI a1]) (st := [vI v10]) (Q' := fun r h' => r = .inl (some (vR v14)) ∧ h' = u13) (pc := 13) d_P_kind_13 cv_P_497 y_P_seen c12 rfl (Nat.le_of_ble_eq_true rfl) (Nat.le_of_ble_eq_true rfl) (w_P_seen (d := d + 0) (Q := fun r h' => r = .inl (some (vR v14)) ∧ h' = u13) ⟨rfl, rfl⟩ u2 a0 a1 e15) (fun v h' z => ?_) (fun a h' z => nomatch z.1)
  obtain ⟨z1, z2⟩ := z
  subst h'
  cases z1
  show xW sc m_P_kind (d + 7) Q (u13) 16 [some (vR a0), some (vI a1)] [vR v14, vI v10]
  obtain ⟨v18, e19, h⟩ := Option.bind_eq_some_iff.mp h
  refine c_getI (pc := 16) d_P_kind_16 l_P_327 e19 ?_
  refine x_if_eq (tgt := 27) (pc := 19) d_P_kind_19 (by decide) (fun c20 => ?_) (fun c20 => ?_)
  · rw [if_pos c20] at h
    refine x_iconst (v := (0 : Int32)) (pc := 27) d_P_kind_27 (by decide) ?_
    exact x_wk (L' := [none, none]) ⟨Or.inl rfl, Or.inl rfl, trivial⟩ (w_P_kind_b28 hQ (0 : Int32) v10 u13 h)
  · rw [if_neg c20] at h
    refine x_bipush (v := (8 : Int32)) (pc := 22) d_P_kind_22 (by decide) ?_
    refine x_goto (tgt := 28) (pc := 24) d_P_kind_24 (by decide) ?_
    exact x_wk (L' := [none, none]) ⟨Or.inl rfl, Or.inl rfl, trivial⟩ (w_P_kind_b28 hQ (8 : Int32) v10 u13 h)
def f_String_init0_b97 (sc : xSc)  (u : xH) : Option xH := some u
theorem w_String_init0_b97 {sc : xSc} {d : Nat} {Q : xR → xH → Prop} {hZ : xH}  (hQ : Q (.inl none) hZ) (u : xH) (h : f_String_init0_b97 sc  u = some hZ) : xW sc m_String_init0 (d + 3) Q (u) 97 [none, none, none, none, none] [] := by
  unfold f_String_init0_b97 at h
  cases h
  exact x_vret (pc := 97) d_String_init0_97 rfl hQ
def f_String_init0_b79 (sc : xSc)  (l0 : Option Nat) (l3 : Option Nat) (l4 : Int32) (u : xH) : Option xH := (if xby (1 : Int32) = true then (pV u 18 1 l0 (vI (1 : Int32))).bind fun u2 => (f_Arrays_copyOfRange sc u2 l3 (0 : Int32) (l4 <<< ((1 : Int32) &&& 31))).bind fun (v5, u4) => (pV u4 18 0 l0 (vR v5)).bind fun u7 => f_String_init0_b97 sc u7 else none)
theorem w_String_init0_b79 {sc : xSc} {d : Nat} {Q : xR → xH → Prop} {hZ : xH}  (hQ : Q (.inl none) hZ) (l0 : Option Nat) (l3 : Option Nat) (l4 : Int32) (u : xH) (h : f_String_init0_b79 sc  l0 l3 l4 u = some hZ) : xW sc m_String_init0 (d + 3) Q (u) 79 [some (vR l0), none, none, some (vR l3), some (vI l4)] [] := by
  unfold f_String_init0_b79 at h
  refine x_aload_n (pc := 79) d_String_init0_79 rfl ?_
  refine x_iconst (v := (1 : Int32)) (pc := 80) d_String_init0_80 (by decide) ?_
  obtain ⟨c1, h⟩ := ite_some h
  obtain ⟨u2, e3, h⟩ := Option.bind_eq_some_iff.mp h
  refine c_putF (pc := 81) d_String_init0_81 l_String_15 fp_18_1 rfl fo_String_15 (xfit_byte (eq_of_beq c1)) e3 ?_
  refine x_aload_n (pc := 84) d_String_init0_84 rfl ?_
  refine x_aload_n (pc := 85) d_String_init0_85 rfl ?_
  refine x_iconst (v := (0 : Int32)) (pc := 86) d_String_init0_86 (by decide) ?_
  refine x_iload (pc := 87) d_String_init0_87 rfl ?_
  refine x_iconst (v := (1 : Int32)) (pc := 89) d_String_init0_89 (by decide) ?_
  refine x_ishl (pc := 90) d_String_init0_90 ?_
  obtain ⟨⟨v5, u4⟩, e6, h⟩ := Option.bind_eq_some_iff.mp h
  dsimp only at h
  refine x_invs (d := d + 2) (av := [vR l3, vI (0 : Int32), vI (l4 <<< ((1 : Int32) &&& 31))]) (st := [vR l0]) (Q' := fun r h' => r = .inl (some (vR v5)) ∧ h' = u4) (pc := 91) d_String_init0_91 cs_String_54 y_Arrays_copyOfRange rfl (Nat.le_of_ble_eq_true rfl) (Nat.le_of_ble_eq_true rfl) (w_Arrays_copyOfRange (d := d + 0) (Q := fun r h' => r = .inl (some (vR v5)) ∧ h' = u4) ⟨rfl, rfl⟩ u2 l3 (0 : Int32) (l4 <<< ((1 : Int32) &&& 31)) e6) (fun v h' z => ?_) (fun a h' z => nomatch z.1)
  obtain ⟨z1, z2⟩ := z
  subst h'
  cases z1
  show xW sc m_String_init0 (d + 3) Q (u4) 94 [some (vR l0), none, none, some (vR l3), some (vI l4)] [vR v5, vR l0]
  obtain ⟨u7, e8, h⟩ := Option.bind_eq_some_iff.mp h
  refine c_putF (pc := 94) d_String_init0_94 l_String_9 fp_18_0 rfl fo_String_9 (xfit_arr) e8 ?_
  exact x_wk (L' := [none, none, none, none, none]) ⟨Or.inl rfl, Or.inl rfl, Or.inl rfl, Or.inl rfl, Or.inl rfl, trivial⟩ (w_String_init0_b97 hQ u7 h)
def f_String_init0 (sc : xSc) (u : xH) (a0 : Option Nat) (a1 : Option Nat) (a2 : Option Nat) : Option xH := (if a0.isSome = true then (if xis sc u 16 a1 = true then (f_AbstractStringBuilder_getValue sc u a1).bind fun v3 => (if xis sc u 16 a1 = true then (f_StringBuilder_length sc u a1).bind fun v6 => (if xis sc u 16 a1 = true then (f_AbstractStringBuilder_isLatin1 sc u a1).bind fun v9 => (if v9 = 0 then (if (1 : Int32) = 0 then f_String_init0_b79 sc a0 v3 v6 u else (gI sc u 16 2 a1).bind fun v13 => (if v13 = 0 then f_String_init0_b79 sc a0 v3 v6 u else none)) else (if xby (0 : Int32) = true then (pV u 18 1 a0 (vI (0 : Int32))).bind fun u17 => (f_Arrays_copyOfRange sc u17 v3 (0 : Int32) v6).bind fun (v20, u19) => (pV u19 18 0 a0 (vR v20)).bind fun u22 => f_String_init0_b97 sc u22 else none)) else none) else none) else none) else none)
theorem w_String_init0 {sc : xSc} {d : Nat} {Q : xR → xH → Prop} {hZ : xH} (hQ : Q (.inl none) hZ) (u : xH) (a0 : Option Nat) (a1 : Option Nat) (a2 : Option Nat) (h : f_String_init0 sc u a0 a1 a2 = some hZ) : xW sc m_String_init0 (d + 3) Q (u) 0 (xent [vR a0, vR a1, vR a2] m_String_init0.2.2.1) [] := by
  show xW sc m_String_init0 (d + 3) Q (u) 0 [some (vR a0), some (vR a1), some (vR a2), none, none] []
  unfold f_String_init0 at h
  refine x_aload_n (pc := 0) d_String_init0_0 rfl ?_
  obtain ⟨c1, h⟩ := ite_some h
  refine c_obj (d := d + 2) (pc := 1) d_String_init0_1 (tw_2 (List.mem_of_getElem? (i := 120) rfl)) oi_1 oi_2 (Nat.le_of_ble_eq_true rfl) c1 ?_
  refine x_aload_n (pc := 4) d_String_init0_4 rfl ?_
  obtain ⟨c2, h⟩ := ite_some h
  obtain ⟨v3, e4, h⟩ := Option.bind_eq_some_iff.mp h
  refine c_invv (c := 16) (d := d + 2) (av := []) (st := []) (Q' := fun r h' => r = .inl (some (vR v3)) ∧ h' = u) (pc := 5) d_String_init0_5 cv_String_552 y_AbstractStringBuilder_getValue c2 rfl (Nat.le_of_ble_eq_true rfl) (Nat.le_of_ble_eq_true rfl) (w_AbstractStringBuilder_getValue (d := d + 2) (Q := fun r h' => r = .inl (some (vR v3)) ∧ h' = u) ⟨rfl, rfl⟩ a1 e4) (fun v h' z => ?_) (fun a h' z => nomatch z.1)
  obtain ⟨z1, z2⟩ := z
  subst h'
  cases z1
  show xW sc m_String_init0 (d + 3) Q (u) 8 [some (vR a0), some (vR a1), some (vR a2), none, none] [vR v3]
  refine x_astore_n (pc := 8) d_String_init0_8 (by decide) ?_
  show xW sc m_String_init0 (d + 3) Q (u) 9 [some (vR a0), some (vR a1), some (vR a2), some (vR v3), none] []
  refine x_aload_n (pc := 9) d_String_init0_9 rfl ?_
  obtain ⟨c5, h⟩ := ite_some h
  obtain ⟨v6, e7, h⟩ := Option.bind_eq_some_iff.mp h
  refine c_invu (c := 16) (d := d + 2) (av := []) (st := []) (Q' := fun r h' => r = .inl (some (vI v6)) ∧ h' = u) (pc := 10) d_String_init0_10 cw_String_549_16 y_StringBuilder_length c5 rfl (Nat.le_of_ble_eq_true rfl) (Nat.le_of_ble_eq_true rfl) (w_StringBuilder_length (d := d + 1) (Q := fun r h' => r = .inl (some (vI v6)) ∧ h' = u) ⟨rfl, rfl⟩ a1 e7) (fun v h' z => ?_) (fun a h' z => nomatch z.1)
  obtain ⟨z1, z2⟩ := z
  subst h'
  cases z1
  show xW sc m_String_init0 (d + 3) Q (u) 13 [some (vR a0), some (vR a1), some (vR a2), some (vR v3), none] [vI v6]
  refine x_istore (pc := 13) d_String_init0_13 (by decide) ?_
  show xW sc m_String_init0 (d + 3) Q (u) 15 [some (vR a0), some (vR a1), some (vR a2), some (vR v3), some (vI v6)] []
  refine x_aload_n (pc := 15) d_String_init0_15 rfl ?_
  obtain ⟨c8, h⟩ := ite_some h
  obtain ⟨v9, e10, h⟩ := Option.bind_eq_some_iff.mp h
  refine c_invv (c := 16) (d := d + 2) (av := []) (st := []) (Q' := fun r h' => r = .inl (some (vI v9)) ∧ h' = u) (pc := 16) d_String_init0_16 cv_String_1047 y_AbstractStringBuilder_isLatin1 c8 rfl (Nat.le_of_ble_eq_true rfl) (Nat.le_of_ble_eq_true rfl) (w_AbstractStringBuilder_isLatin1 (d := d + 2) (Q := fun r h' => r = .inl (some (vI v9)) ∧ h' = u) ⟨rfl, rfl⟩ a1 e10) (fun v h' z => ?_) (fun a h' z => nomatch z.1)
  obtain ⟨z1, z2⟩ := z
  subst h'
  cases z1
  show xW sc m_String_init0 (d + 3) Q (u) 19 [some (vR a0), some (vR a1), some (vR a2), some (vR v3), some (vI v6)] [vI v9]
  refine x_if_eq (tgt := 41) (pc := 19) d_String_init0_19 (by decide) (fun c11 => ?_) (fun c11 => ?_)
  · rw [if_pos c11] at h
    refine x_gets (v := vI (1 : Int32)) (pc := 41) d_String_init0_41 sl_String_38 ?_
    refine x_if_eq (tgt := 79) (pc := 44) d_String_init0_44 (by decide) (fun c12 => ?_) (fun c12 => ?_)
    · rw [if_pos c12] at h
      exact x_wk (L' := [some (vR a0), none, none, some (vR v3), some (vI v6)]) ⟨Or.inr rfl, Or.inl rfl, Or.inl rfl, Or.inr rfl, Or.inr rfl, trivial⟩ (w_String_init0_b79 hQ a0 v3 v6 u h)
    · rw [if_neg c12] at h
      refine x_aload_n (pc := 47) d_String_init0_47 rfl ?_
      obtain ⟨v13, e14, h⟩ := Option.bind_eq_some_iff.mp h
      refine c_getI (pc := 48) d_String_init0_48 l_String_1048 e14 ?_
      refine x_if_eq (tgt := 79) (pc := 51) d_String_init0_51 (by decide) (fun c15 => ?_) (fun c15 => ?_)
      · rw [if_pos c15] at h
        exact x_wk (L' := [some (vR a0), none, none, some (vR v3), some (vI v6)]) ⟨Or.inr rfl, Or.inl rfl, Or.inl rfl, Or.inr rfl, Or.inr rfl, trivial⟩ (w_String_init0_b79 hQ a0 v3 v6 u h)
      · rw [if_neg c15] at h
        refine x_aload_n (pc := 54) d_String_init0_54 rfl ?_
        refine x_aload_n (pc := 55) d_String_init0_55 rfl ?_
        refine x_iconst (v := (0 : Int32)) (pc := 56) d_String_init0_56 (by decide) ?_
        refine x_iload (pc := 57) d_String_init0_57 rfl ?_
        cases h
  · rw [if_neg c11] at h
    refine x_aload_n (pc := 22) d_String_init0_22 rfl ?_
    refine x_iconst (v := (0 : Int32)) (pc := 23) d_String_init0_23 (by decide) ?_
    obtain ⟨c16, h⟩ := ite_some h
    obtain ⟨u17, e18, h⟩ := Option.bind_eq_some_iff.mp h
    refine c_putF (pc := 24) d_String_init0_24 l_String_15 fp_18_1 rfl fo_String_15 (xfit_byte (eq_of_beq c16)) e18 ?_
    refine x_aload_n (pc := 27) d_String_init0_27 rfl ?_
    refine x_aload_n (pc := 28) d_String_init0_28 rfl ?_
    refine x_iconst (v := (0 : Int32)) (pc := 29) d_String_init0_29 (by decide) ?_
    refine x_iload (pc := 30) d_String_init0_30 rfl ?_
    obtain ⟨⟨v20, u19⟩, e21, h⟩ := Option.bind_eq_some_iff.mp h
    dsimp only at h
    refine x_invs (d := d + 2) (av := [vR v3, vI (0 : Int32), vI v6]) (st := [vR a0]) (Q' := fun r h' => r = .inl (some (vR v20)) ∧ h' = u19) (pc := 32) d_String_init0_32 cs_String_54 y_Arrays_copyOfRange rfl (Nat.le_of_ble_eq_true rfl) (Nat.le_of_ble_eq_true rfl) (w_Arrays_copyOfRange (d := d + 0) (Q := fun r h' => r = .inl (some (vR v20)) ∧ h' = u19) ⟨rfl, rfl⟩ u17 v3 (0 : Int32) v6 e21) (fun v h' z => ?_) (fun a h' z => nomatch z.1)
    obtain ⟨z1, z2⟩ := z
    subst h'
    cases z1
    show xW sc m_String_init0 (d + 3) Q (u19) 35 [some (vR a0), some (vR a1), some (vR a2), some (vR v3), some (vI v6)] [vR v20, vR a0]
    obtain ⟨u22, e23, h⟩ := Option.bind_eq_some_iff.mp h
    refine c_putF (pc := 35) d_String_init0_35 l_String_9 fp_18_0 rfl fo_String_9 (xfit_arr) e23 ?_
    refine x_goto (tgt := 97) (pc := 38) d_String_init0_38 (by decide) ?_
    exact x_wk (L' := [none, none, none, none, none]) ⟨Or.inl rfl, Or.inl rfl, Or.inl rfl, Or.inl rfl, Or.inl rfl, trivial⟩ (w_String_init0_b97 hQ u22 h)
def f_String_init1 (sc : xSc) (u : xH) (a0 : Option Nat) (a1 : Option Nat) : Option xH := (if a0.isSome = true then (f_String_init0 sc u a0 a1 none).bind fun u2 => some u2 else none)
theorem w_String_init1 {sc : xSc} {d : Nat} {Q : xR → xH → Prop} {hZ : xH} (hQ : Q (.inl none) hZ) (u : xH) (a0 : Option Nat) (a1 : Option Nat) (h : f_String_init1 sc u a0 a1 = some hZ) : xW sc m_String_init1 (d + 4) Q (u) 0 (xent [vR a0, vR a1] m_String_init1.2.2.1) [] := by
  show xW sc m_String_init1 (d + 4) Q (u) 0 [some (vR a0), some (vR a1)] []
  unfold f_String_init1 at h
  refine x_aload_n (pc := 0) d_String_init1_0 rfl ?_
  refine x_aload_n (pc := 1) d_String_init1_1 rfl ?_
  refine x_null (pc := 2) d_String_init1_2 ?_
  obtain ⟨c1, h⟩ := ite_some h
  obtain ⟨u2, e3, h⟩ := Option.bind_eq_some_iff.mp h
  refine c_invi (d := d + 3) (av := [vR a1, vR none]) (st := []) (Q' := fun r h' => r = .inl none ∧ h' = u2) (pc := 3) d_String_init1_3 ci_String_489 y_String_init0 (tw_2 (List.mem_of_getElem? (i := 119) rfl)) c1 rfl (Nat.le_of_ble_eq_true rfl) (Nat.le_of_ble_eq_true rfl) (w_String_init0 (d := d + 0) (Q := fun r h' => r = .inl none ∧ h' = u2) ⟨rfl, rfl⟩ u a0 a1 none e3) (fun v h' z => ?_) (fun a h' z => nomatch z.1)
  obtain ⟨z1, z2⟩ := z
  subst h'
  cases z1
  show xW sc m_String_init1 (d + 4) Q (u2) 6 [some (vR a0), some (vR a1)] []
  cases h
  exact x_vret (pc := 6) d_String_init1_6 rfl hQ
def f_StringBuilder_toString (sc : xSc) (u : xH) (a0 : Option Nat) : Option (Option Nat × xH) := (nO 18 2 4 u).bind fun u1 => (if (some u.2.1).isSome = true then (f_String_init1 sc u1 (some u.2.1) a0).bind fun u4 => some (some u.2.1, u4) else none)
theorem w_StringBuilder_toString {sc : xSc} {d : Nat} {Q : xR → xH → Prop} {hZ : xH} {rZ : Option Nat} (hQ : Q (.inl (some (vR rZ))) hZ) (u : xH) (a0 : Option Nat) (h : f_StringBuilder_toString sc u a0 = some (rZ, hZ)) : xW sc m_StringBuilder_toString (d + 5) Q (u) 0 (xent [vR a0] m_StringBuilder_toString.2.2.1) [] := by
  show xW sc m_StringBuilder_toString (d + 5) Q (u) 0 [some (vR a0)] []
  unfold f_StringBuilder_toString at h
  obtain ⟨u1, e2, h⟩ := Option.bind_eq_some_iff.mp h
  refine c_new (pc := 0) d_StringBuilder_toString_0 nw_StringBuilder_18 ly_18 ⟨_, rfl, rfl⟩ e2 ?_
  refine x_dup (pc := 3) d_StringBuilder_toString_3 rfl ?_
  refine x_aload_n (pc := 4) d_StringBuilder_toString_4 rfl ?_
  obtain ⟨c3, h⟩ := ite_some h
  obtain ⟨u4, e5, h⟩ := Option.bind_eq_some_iff.mp h
  refine c_invi (d := d + 4) (av := [vR a0]) (st := [vR (some u.2.1)]) (Q' := fun r h' => r = .inl none ∧ h' = u4) (pc := 5) d_StringBuilder_toString_5 ci_StringBuilder_137 y_String_init1 (tw_2 (List.mem_of_getElem? (i := 116) rfl)) c3 rfl (Nat.le_of_ble_eq_true rfl) (Nat.le_of_ble_eq_true rfl) (w_String_init1 (d := d + 0) (Q := fun r h' => r = .inl none ∧ h' = u4) ⟨rfl, rfl⟩ u1 (some u.2.1) a0 e5) (fun v h' z => ?_) (fun a h' z => nomatch z.1)
  obtain ⟨z1, z2⟩ := z
  subst h'
  cases z1
  show xW sc m_StringBuilder_toString (d + 5) Q (u4) 8 [some (vR a0)] [vR (some u.2.1)]
  cases h
  exact x_aret (pc := 8) d_StringBuilder_toString_8 rfl (Or.inl ⟨_, rfl⟩) hQ
def f_P_known_b99 (sc : xSc)  (l0 : Option Nat) (l2 : Int32) (t0 : Int32) (t1 : Option Nat) (u : xH) : Option ((Option Nat ⊕ Nat) × xH) := (if xis sc u 0 t1 = true then tB (f_P_need sc u t1 t0 (7 : Int32)) (fun v3 u2 => (gI sc u2 0 4 l0).bind fun v7 => (pV u2 0 4 l0 (vI (v7 + (1 : Int32)))).bind fun u9 => (gR sc u9 0 1 l0).bind fun v11 => (nO 3 3 3 u9).bind fun u13 => (gR sc u13 0 3 l0).bind fun v15 => (if xis sc u13 16 v15 = true then (f_StringBuilder_toString sc u13 v15).bind fun (v19, u18) => (gR sc u18 0 1 l0).bind fun v21 => (aR sc u18 v21 l2).bind fun v23 => (if (some u9.2.1).isSome = true then (f_Name_init sc u18 (some u9.2.1) v19 none v23).bind fun u26 => (bR "PageScribe$Name" 3 sc u26 v11 l2 (some u9.2.1)).bind fun u28 => (gR sc u28 0 1 l0).bind fun v30 => (aR sc u28 v30 l2).bind fun v32 => some (.inl v32, u28) else none) else none)) (fun a5 u6 => some (.inr a5, u6)) else none)
theorem w_P_known_b99 {sc : xSc} {d : Nat} {Q : xR → xH → Prop} {oZ : Option Nat ⊕ Nat} {hZ : xH}  (hQ : Q (cvR oZ) hZ) (l0 : Option Nat) (l2 : Int32) (t0 : Int32) (t1 : Option Nat) (u : xH) (h : f_P_known_b99 sc  l0 l2 t0 t1 u = some (oZ, hZ)) : xW sc m_P_known (d + 7) Q (u) 99 [some (vR l0), none, some (vI l2), none] [vI t0, vR t1] := by
  unfold f_P_known_b99 at h
  refine x_bipush (v := (7 : Int32)) (pc := 99) d_P_known_99 (by decide) ?_
  obtain ⟨c1, h⟩ := ite_some h
  rcases tB_s h with ⟨a5, u6, e4, h⟩ | ⟨v3, u2, e4, h⟩
  · refine c_invv (c := 0) (d := d + 6) (av := [vI t0, vI (7 : Int32)]) (st := []) (Q' := fun r h' => r = .inr a5 ∧ h' = u6) (pc := 101) d_P_known_101 cv_P_170 y_P_need c1 rfl (Nat.le_of_ble_eq_true rfl) (Nat.le_of_ble_eq_true rfl) (w_P_need (d := d + 0) (Q := fun r h' => r = .inr a5 ∧ h' = u6) ⟨rfl, rfl⟩ u t1 t0 (7 : Int32) e4) (fun v h' z => nomatch z.1) (fun a h' z => ?_)
    obtain ⟨z1, z2⟩ := z
    subst h'
    cases z1
    cases h
    exact x_thOut (xno rfl) hQ
  refine c_invv (c := 0) (d := d + 6) (av := [vI t0, vI (7 : Int32)]) (st := []) (Q' := fun r h' => r = .inl none ∧ h' = u2) (pc := 101) d_P_known_101 cv_P_170 y_P_need c1 rfl (Nat.le_of_ble_eq_true rfl) (Nat.le_of_ble_eq_true rfl) (w_P_need (d := d + 0) (Q := fun r h' => r = .inl none ∧ h' = u2) ⟨rfl, rfl⟩ u t1 t0 (7 : Int32) e4) (fun v h' z => ?_) (fun a h' z => nomatch z.1)
  obtain ⟨z1, z2⟩ := z
  subst h'
  cases z1
  show xW sc m_P_known (d + 7) Q (u2) 104 [some (vR l0), none, some (vI l2), none] []
  refine x_aload_n (pc := 104) d_P_known_104 rfl ?_
  refine x_dup (pc := 105) d_P_known_105 rfl ?_
  obtain ⟨v7, e8, h⟩ := Option.bind_eq_some_iff.mp h
  refine c_getI (pc := 106) d_P_known_106 l_P_464 e8 ?_
  refine x_iconst (v := (1 : Int32)) (pc := 109) d_P_known_109 (by decide) ?_
  refine x_iadd (pc := 110) d_P_known_110 ?_
  obtain ⟨u9, e10, h⟩ := Option.bind_eq_some_iff.mp h
  refine c_putf (pc := 111) d_P_known_111 l_P_464 fp_0_4 (xfit_int) e10 ?_
  refine x_aload_n (pc := 114) d_P_known_114 rfl ?_
  obtain ⟨v11, e12, h⟩ := Option.bind_eq_some_iff.mp h
  refine c_getR (pc := 115) d_P_known_115 l_P_35 e12 ?_
  refine x_iload_n (pc := 118) d_P_known_118 rfl ?_
  obtain ⟨u13, e14, h⟩ := Option.bind_eq_some_iff.mp h
  refine c_new (pc := 119) d_P_known_119 nw_P_33 ly_3 ⟨_, rfl, rfl⟩ e14 ?_
  refine x_dup (pc := 122) d_P_known_122 rfl ?_
  refine x_aload_n (pc := 123) d_P_known_123 rfl ?_
  obtain ⟨v15, e16, h⟩ := Option.bind_eq_some_iff.mp h
  refine c_getR (pc := 124) d_P_known_124 l_P_48 e16 ?_
  obtain ⟨c17, h⟩ := ite_some h
  obtain ⟨⟨v19, u18⟩, e20, h⟩ := Option.bind_eq_some_iff.mp h
  dsimp only at h
  refine c_invv (c := 16) (d := d + 6) (av := []) (st := [vR (some u9.2.1), vR (some u9.2.1), vI l2, vR v11]) (Q' := fun r h' => r = .inl (some (vR v19)) ∧ h' = u18) (pc := 127) d_P_known_127 cv_P_467 y_StringBuilder_toString c17 rfl (Nat.le_of_ble_eq_true rfl) (Nat.le_of_ble_eq_true rfl) (w_StringBuilder_toString (d := d + 1) (Q := fun r h' => r = .inl (some (vR v19)) ∧ h' = u18) ⟨rfl, rfl⟩ u13 v15 e20) (fun v h' z => ?_) (fun a h' z => nomatch z.1)
  obtain ⟨z1, z2⟩ := z
  subst h'
  cases z1
  show xW sc m_P_known (d + 7) Q (u18) 130 [some (vR l0), none, some (vI l2), none] [vR v19, vR (some u9.2.1), vR (some u9.2.1), vI l2, vR v11]
  refine x_null (pc := 130) d_P_known_130 ?_
  refine x_aload_n (pc := 131) d_P_known_131 rfl ?_
  obtain ⟨v21, e22, h⟩ := Option.bind_eq_some_iff.mp h
  refine c_getR (pc := 132) d_P_known_132 l_P_35 e22 ?_
  refine x_iload_n (pc := 135) d_P_known_135 rfl ?_
  obtain ⟨v23, e24, h⟩ := Option.bind_eq_some_iff.mp h
  refine c_aald (pc := 136) d_P_known_136 e24 ?_
  obtain ⟨c25, h⟩ := ite_some h
  obtain ⟨u26, e27, h⟩ := Option.bind_eq_some_iff.mp h
  refine c_invi (d := d + 6) (av := [vR v19, vR none, vR v23]) (st := [vR (some u9.2.1), vI l2, vR v11]) (Q' := fun r h' => r = .inl none ∧ h' = u26) (pc := 137) d_P_known_137 ci_P_147 y_Name_init (tw_3 (List.mem_of_getElem? (i := 12) rfl)) c25 rfl (Nat.le_of_ble_eq_true rfl) (Nat.le_of_ble_eq_true rfl) (w_Name_init (d := d + 4) (Q := fun r h' => r = .inl none ∧ h' = u26) ⟨rfl, rfl⟩ u18 (some u9.2.1) v19 none v23 e27) (fun v h' z => ?_) (fun a h' z => nomatch z.1)
  obtain ⟨z1, z2⟩ := z
  subst h'
  cases z1
  show xW sc m_P_known (d + 7) Q (u26) 140 [some (vR l0), none, some (vI l2), none] [vR (some u9.2.1), vI l2, vR v11]
  obtain ⟨u28, e29, h⟩ := Option.bind_eq_some_iff.mp h
  refine c_aast (C := "PageScribe$Name") (c := 3) (pc := 140) d_P_known_140 ⟨_, rfl, Or.inl ⟨rfl, by decide, by decide⟩⟩ e29 ?_
  refine x_aload_n (pc := 141) d_P_known_141 rfl ?_
  obtain ⟨v30, e31, h⟩ := Option.bind_eq_some_iff.mp h
  refine c_getR (pc := 142) d_P_known_142 l_P_35 e31 ?_
  refine x_iload_n (pc := 145) d_P_known_145 rfl ?_
  obtain ⟨v32, e33, h⟩ := Option.bind_eq_some_iff.mp h
  refine c_aald (pc := 146) d_P_known_146 e33 ?_
  cases h
  exact x_aret (pc := 147) d_P_known_147 rfl (Or.inl ⟨_, rfl⟩) hQ
def f_P_known_b79 (sc : xSc)  (l0 : Option Nat) (l2 : Int32) (t0 : Int32) (t1 : Option Nat) (u : xH) : Option ((Option Nat ⊕ Nat) × xH) := (if xis sc u 0 t1 = true then tB (f_P_need sc u t1 t0 (15 : Int32)) (fun v3 u2 => (gI sc u2 0 4 l0).bind fun v7 => (if (40 : Int32) ≤ v7 then f_P_known_b99 sc l0 l2 (0 : Int32) l0 u2 else f_P_known_b99 sc l0 l2 (1 : Int32) l0 u2)) (fun a5 u6 => some (.inr a5, u6)) else none)
theorem w_P_known_b79 {sc : xSc} {d : Nat} {Q : xR → xH → Prop} {oZ : Option Nat ⊕ Nat} {hZ : xH}  (hQ : Q (cvR oZ) hZ) (l0 : Option Nat) (l2 : Int32) (t0 : Int32) (t1 : Option Nat) (u : xH) (h : f_P_known_b79 sc  l0 l2 t0 t1 u = some (oZ, hZ)) : xW sc m_P_known (d + 7) Q (u) 79 [some (vR l0), none, some (vI l2), none] [vI t0, vR t1] := by
  unfold f_P_known_b79 at h
  refine x_bipush (v := (15 : Int32)) (pc := 79) d_P_known_79 (by decide) ?_
  obtain ⟨c1, h⟩ := ite_some h
  rcases tB_s h with ⟨a5, u6, e4, h⟩ | ⟨v3, u2, e4, h⟩
  · refine c_invv (c := 0) (d := d + 6) (av := [vI t0, vI (15 : Int32)]) (st := []) (Q' := fun r h' => r = .inr a5 ∧ h' = u6) (pc := 81) d_P_known_81 cv_P_170 y_P_need c1 rfl (Nat.le_of_ble_eq_true rfl) (Nat.le_of_ble_eq_true rfl) (w_P_need (d := d + 0) (Q := fun r h' => r = .inr a5 ∧ h' = u6) ⟨rfl, rfl⟩ u t1 t0 (15 : Int32) e4) (fun v h' z => nomatch z.1) (fun a h' z => ?_)
    obtain ⟨z1, z2⟩ := z
    subst h'
    cases z1
    cases h
    exact x_thOut (xno rfl) hQ
  refine c_invv (c := 0) (d := d + 6) (av := [vI t0, vI (15 : Int32)]) (st := []) (Q' := fun r h' => r = .inl none ∧ h' = u2) (pc := 81) d_P_known_81 cv_P_170 y_P_need c1 rfl (Nat.le_of_ble_eq_true rfl) (Nat.le_of_ble_eq_true rfl) (w_P_need (d := d + 0) (Q := fun r h' => r = .inl none ∧ h' = u2) ⟨rfl, rfl⟩ u t1 t0 (15 : Int32) e4) (fun v h' z => ?_) (fun a h' z => nomatch z.1)
  obtain ⟨z1, z2⟩ := z
  subst h'
  cases z1
  show xW sc m_P_known (d + 7) Q (u2) 84 [some (vR l0), none, some (vI l2), none] []
  refine x_aload_n (pc := 84) d_P_known_84 rfl ?_
  refine x_aload_n (pc := 85) d_P_known_85 rfl ?_
  obtain ⟨v7, e8, h⟩ := Option.bind_eq_some_iff.mp h
  refine c_getI (pc := 86) d_P_known_86 l_P_464 e8 ?_
  refine x_bipush (v := (40 : Int32)) (pc := 89) d_P_known_89 (by decide) ?_
  refine x_icmp_ge (tgt := 98) (pc := 91) d_P_known_91 (by decide) (fun c9 => ?_) (fun c9 => ?_)
  · rw [if_pos c9] at h
    refine x_iconst (v := (0 : Int32)) (pc := 98) d_P_known_98 (by decide) ?_
    exact w_P_known_b99 hQ l0 l2 (0 : Int32) l0 u2 h
  · rw [if_neg c9] at h
    refine x_iconst (v := (1 : Int32)) (pc := 94) d_P_known_94 (by decide) ?_
    refine x_goto (tgt := 99) (pc := 95) d_P_known_95 (by decide) ?_
    exact w_P_known_b99 hQ l0 l2 (1 : Int32) l0 u2 h
def f_P_known_b61 (sc : xSc)  (l0 : Option Nat) (l1 : Int32) (l2 : Int32) (l3 : Option Nat) (u : xH) : Option ((Option Nat ⊕ Nat) × xH) := (if l3 = none then (if (8 : Int32) < l1 then f_P_known_b79 sc l0 l2 (0 : Int32) l0 u else f_P_known_b79 sc l0 l2 (1 : Int32) l0 u) else some (.inl l3, u))
theorem w_P_known_b61 {sc : xSc} {d : Nat} {Q : xR → xH → Prop} {oZ : Option Nat ⊕ Nat} {hZ : xH}  (hQ : Q (cvR oZ) hZ) (l0 : Option Nat) (l1 : Int32) (l2 : Int32) (l3 : Option Nat) (u : xH) (h : f_P_known_b61 sc  l0 l1 l2 l3 u = some (oZ, hZ)) : xW sc m_P_known (d + 7) Q (u) 61 [some (vR l0), some (vI l1), some (vI l2), some (vR l3)] [] := by
  unfold f_P_known_b61 at h
  refine x_aload_n (pc := 61) d_P_known_61 rfl ?_
  refine c_ifnull (tgt := 67) (pc := 62) d_P_known_62 (by decide) (fun c1 => ?_) (fun c1 => ?_)
  · rw [if_pos c1] at h
    refine x_aload_n (pc := 67) d_P_known_67 rfl ?_
    refine x_iload_n (pc := 68) d_P_known_68 rfl ?_
    refine x_bipush (v := (8 : Int32)) (pc := 69) d_P_known_69 (by decide) ?_
    refine x_icmp_gt (tgt := 78) (pc := 71) d_P_known_71 (by decide) (fun c2 => ?_) (fun c2 => ?_)
    · rw [if_pos c2] at h
      refine x_iconst (v := (0 : Int32)) (pc := 78) d_P_known_78 (by decide) ?_
      exact x_wk (L' := [some (vR l0), none, some (vI l2), none]) ⟨Or.inr rfl, Or.inl rfl, Or.inr rfl, Or.inl rfl, trivial⟩ (w_P_known_b79 hQ l0 l2 (0 : Int32) l0 u h)
    · rw [if_neg c2] at h
      refine x_iconst (v := (1 : Int32)) (pc := 74) d_P_known_74 (by decide) ?_
      refine x_goto (tgt := 79) (pc := 75) d_P_known_75 (by decide) ?_
      exact x_wk (L' := [some (vR l0), none, some (vI l2), none]) ⟨Or.inr rfl, Or.inl rfl, Or.inr rfl, Or.inl rfl, trivial⟩ (w_P_known_b79 hQ l0 l2 (1 : Int32) l0 u h)
  · rw [if_neg c1] at h
    refine x_aload_n (pc := 65) d_P_known_65 rfl ?_
    cases h
    exact x_aret (pc := 66) d_P_known_66 rfl (Or.inl ⟨_, rfl⟩) hQ
def f_P_known_b38 (sc : xSc)  : Nat → Option Nat → Int32 → Int32 → Option Nat → xH → Option ((Option Nat ⊕ Nat) × xH)
  | 0, _, _, _, _, _ => none
  | n + 1, l0, l1, l2, l3, u => (if l3 = none then f_P_known_b61 sc l0 l1 l2 l3 u else (gR sc u 0 3 l0).bind fun v2 => (if xis sc u 3 l3 = true then (f_Name_is sc u l3 v2).bind fun v5 => (if v5 = 0 then (if xis sc u 3 l3 = true then (f_Name_next sc u l3).bind fun v9 => (f_P_known_b38 sc n) l0 l1 l2 v9 u else none) else f_P_known_b61 sc l0 l1 l2 l3 u) else none))
theorem w_P_known_b38 {sc : xSc} {d : Nat} {Q : xR → xH → Prop} {oZ : Option Nat ⊕ Nat} {hZ : xH}  (hQ : Q (cvR oZ) hZ) : ∀ (n : Nat) (l0 : Option Nat) (l1 : Int32) (l2 : Int32) (l3 : Option Nat) (u : xH), f_P_known_b38 sc  n l0 l1 l2 l3 u = some (oZ, hZ) → xW sc m_P_known (d + 7) Q (u) 38 [some (vR l0), some (vI l1), some (vI l2), some (vR l3)] [] := by
  intro n
  induction n with
  | zero =>
    intro l0 l1 l2 l3 u h
    cases h
  | succ n hk38 =>
    intro l0 l1 l2 l3 u h
    unfold f_P_known_b38 at h
    refine x_aload_n (pc := 38) d_P_known_38 rfl ?_
    refine c_ifnull (tgt := 61) (pc := 39) d_P_known_39 (by decide) (fun c1 => ?_) (fun c1 => ?_)
    · rw [if_pos c1] at h
      exact w_P_known_b61 hQ l0 l1 l2 l3 u h
    · rw [if_neg c1] at h
      refine x_aload_n (pc := 42) d_P_known_42 rfl ?_
      refine x_aload_n (pc := 43) d_P_known_43 rfl ?_
      obtain ⟨v2, e3, h⟩ := Option.bind_eq_some_iff.mp h
      refine c_getR (pc := 44) d_P_known_44 l_P_48 e3 ?_
      obtain ⟨c4, h⟩ := ite_some h
      obtain ⟨v5, e6, h⟩ := Option.bind_eq_some_iff.mp h
      refine c_invv (c := 3) (d := d + 6) (av := [vR v2]) (st := []) (Q' := fun r h' => r = .inl (some (vI v5)) ∧ h' = u) (pc := 47) d_P_known_47 cv_P_459 y_Name_is c4 rfl (Nat.le_of_ble_eq_true rfl) (Nat.le_of_ble_eq_true rfl) (w_Name_is (d := d + 2) (Q := fun r h' => r = .inl (some (vI v5)) ∧ h' = u) ⟨rfl, rfl⟩ l3 v2 e6) (fun v h' z => ?_) (fun a h' z => nomatch z.1)
      obtain ⟨z1, z2⟩ := z
      subst h'
      cases z1
      show xW sc m_P_known (d + 7) Q (u) 50 [some (vR l0), some (vI l1), some (vI l2), some (vR l3)] [vI v5]
      refine x_if_ne (tgt := 61) (pc := 50) d_P_known_50 (by decide) (fun c7 => ?_) (fun c7 => ?_)
      · rw [if_neg c7] at h
        exact w_P_known_b61 hQ l0 l1 l2 l3 u h
      · rw [if_pos c7] at h
        refine x_aload_n (pc := 53) d_P_known_53 rfl ?_
        obtain ⟨c8, h⟩ := ite_some h
        obtain ⟨v9, e10, h⟩ := Option.bind_eq_some_iff.mp h
        refine c_invv (c := 3) (d := d + 6) (av := []) (st := []) (Q' := fun r h' => r = .inl (some (vR v9)) ∧ h' = u) (pc := 54) d_P_known_54 cv_P_462 y_Name_next c8 rfl (Nat.le_of_ble_eq_true rfl) (Nat.le_of_ble_eq_true rfl) (w_Name_next (d := d + 6) (Q := fun r h' => r = .inl (some (vR v9)) ∧ h' = u) ⟨rfl, rfl⟩ l3 e10) (fun v h' z => ?_) (fun a h' z => nomatch z.1)
        obtain ⟨z1, z2⟩ := z
        subst h'
        cases z1
        show xW sc m_P_known (d + 7) Q (u) 57 [some (vR l0), some (vI l1), some (vI l2), some (vR l3)] [vR v9]
        refine x_astore_n (pc := 57) d_P_known_57 (by decide) ?_
        show xW sc m_P_known (d + 7) Q (u) 58 [some (vR l0), some (vI l1), some (vI l2), some (vR v9)] []
        refine x_goto (tgt := 38) (pc := 58) d_P_known_58 (by decide) ?_
        exact hk38 l0 l1 l2 v9 u h
def f_P_known (sc : xSc) (u : xH) (a0 : Option Nat) : Option ((Option Nat ⊕ Nat) × xH) := (gR sc u 0 3 a0).bind fun v1 => (if xis sc u 16 v1 = true then (f_StringBuilder_length sc u v1).bind fun v4 => (gR sc u 0 3 a0).bind fun v6 => (if xis sc u 16 v6 = true then (f_StringBuilder_charAt sc u v6 (0 : Int32)).bind fun v9 => (gR sc u 0 3 a0).bind fun v11 => (if xis sc u 16 v11 = true then (f_StringBuilder_charAt sc u v11 (v4 - (1 : Int32))).bind fun v14 => (f_P_bucket v9 v14 v4).bind fun v16 => (gR sc u 0 1 a0).bind fun v18 => (aR sc u v18 v16).bind fun v20 => f_P_known_b38 sc mF a0 v4 v16 v20 u else none) else none) else none)
theorem w_P_known {sc : xSc} {d : Nat} {Q : xR → xH → Prop} {oZ : Option Nat ⊕ Nat} {hZ : xH} (hQ : Q (cvR oZ) hZ) (u : xH) (a0 : Option Nat) (h : f_P_known sc u a0 = some (oZ, hZ)) : xW sc m_P_known (d + 7) Q (u) 0 (xent [vR a0] m_P_known.2.2.1) [] := by
  show xW sc m_P_known (d + 7) Q (u) 0 [some (vR a0), none, none, none] []
  unfold f_P_known at h
  refine x_aload_n (pc := 0) d_P_known_0 rfl ?_
  obtain ⟨v1, e2, h⟩ := Option.bind_eq_some_iff.mp h
  refine c_getR (pc := 1) d_P_known_1 l_P_48 e2 ?_
  obtain ⟨c3, h⟩ := ite_some h
  obtain ⟨v4, e5, h⟩ := Option.bind_eq_some_iff.mp h
  refine c_invv (c := 16) (d := d + 6) (av := []) (st := []) (Q' := fun r h' => r = .inl (some (vI v4)) ∧ h' = u) (pc := 4) d_P_known_4 cv_P_396 y_StringBuilder_length c3 rfl (Nat.le_of_ble_eq_true rfl) (Nat.le_of_ble_eq_true rfl) (w_StringBuilder_length (d := d + 5) (Q := fun r h' => r = .inl (some (vI v4)) ∧ h' = u) ⟨rfl, rfl⟩ v1 e5) (fun v h' z => ?_) (fun a h' z => nomatch z.1)
  obtain ⟨z1, z2⟩ := z
  subst h'
  cases z1
  show xW sc m_P_known (d + 7) Q (u) 7 [some (vR a0), none, none, none] [vI v4]
  refine x_istore_n (pc := 7) d_P_known_7 (by decide) ?_
  show xW sc m_P_known (d + 7) Q (u) 8 [some (vR a0), some (vI v4), none, none] []
  refine x_aload_n (pc := 8) d_P_known_8 rfl ?_
  obtain ⟨v6, e7, h⟩ := Option.bind_eq_some_iff.mp h
  refine c_getR (pc := 9) d_P_known_9 l_P_48 e7 ?_
  refine x_iconst (v := (0 : Int32)) (pc := 12) d_P_known_12 (by decide) ?_
  obtain ⟨c8, h⟩ := ite_some h
  obtain ⟨v9, e10, h⟩ := Option.bind_eq_some_iff.mp h
  refine c_invv (c := 16) (d := d + 6) (av := [vI (0 : Int32)]) (st := []) (Q' := fun r h' => r = .inl (some (vI v9)) ∧ h' = u) (pc := 13) d_P_known_13 cv_P_397 y_StringBuilder_charAt c8 rfl (Nat.le_of_ble_eq_true rfl) (Nat.le_of_ble_eq_true rfl) (w_StringBuilder_charAt (d := d + 3) (Q := fun r h' => r = .inl (some (vI v9)) ∧ h' = u) ⟨rfl, rfl⟩ v6 (0 : Int32) e10) (fun v h' z => ?_) (fun a h' z => nomatch z.1)
  obtain ⟨z1, z2⟩ := z
  subst h'
  cases z1
  show xW sc m_P_known (d + 7) Q (u) 16 [some (vR a0), some (vI v4), none, none] [vI v9]
  refine x_aload_n (pc := 16) d_P_known_16 rfl ?_
  obtain ⟨v11, e12, h⟩ := Option.bind_eq_some_iff.mp h
  refine c_getR (pc := 17) d_P_known_17 l_P_48 e12 ?_
  refine x_iload_n (pc := 20) d_P_known_20 rfl ?_
  refine x_iconst (v := (1 : Int32)) (pc := 21) d_P_known_21 (by decide) ?_
  refine x_isub (pc := 22) d_P_known_22 ?_
  obtain ⟨c13, h⟩ := ite_some h
  obtain ⟨v14, e15, h⟩ := Option.bind_eq_some_iff.mp h
  refine c_invv (c := 16) (d := d + 6) (av := [vI (v4 - (1 : Int32))]) (st := [vI v9]) (Q' := fun r h' => r = .inl (some (vI v14)) ∧ h' = u) (pc := 23) d_P_known_23 cv_P_397 y_StringBuilder_charAt c13 rfl (Nat.le_of_ble_eq_true rfl) (Nat.le_of_ble_eq_true rfl) (w_StringBuilder_charAt (d := d + 3) (Q := fun r h' => r = .inl (some (vI v14)) ∧ h' = u) ⟨rfl, rfl⟩ v11 (v4 - (1 : Int32)) e15) (fun v h' z => ?_) (fun a h' z => nomatch z.1)
  obtain ⟨z1, z2⟩ := z
  subst h'
  cases z1
  show xW sc m_P_known (d + 7) Q (u) 26 [some (vR a0), some (vI v4), none, none] [vI v14, vI v9]
  refine x_iload_n (pc := 26) d_P_known_26 rfl ?_
  obtain ⟨v16, e17, h⟩ := Option.bind_eq_some_iff.mp h
  refine x_invs (d := d + 6) (av := [vI v9, vI v14, vI v4]) (st := []) (Q' := fun r h' => r = .inl (some (vI v16)) ∧ h' = u) (pc := 27) d_P_known_27 cs_P_143 y_P_bucket rfl (Nat.le_of_ble_eq_true rfl) (Nat.le_of_ble_eq_true rfl) (w_P_bucket (d := d + 6) (Q := fun r h' => r = .inl (some (vI v16)) ∧ h' = u) (hh := u) ⟨rfl, rfl⟩ v9 v14 v4 e17) (fun v h' z => ?_) (fun a h' z => nomatch z.1)
  obtain ⟨z1, z2⟩ := z
  subst h'
  cases z1
  show xW sc m_P_known (d + 7) Q (u) 30 [some (vR a0), some (vI v4), none, none] [vI v16]
  refine x_istore_n (pc := 30) d_P_known_30 (by decide) ?_
  show xW sc m_P_known (d + 7) Q (u) 31 [some (vR a0), some (vI v4), some (vI v16), none] []
  refine x_aload_n (pc := 31) d_P_known_31 rfl ?_
  obtain ⟨v18, e19, h⟩ := Option.bind_eq_some_iff.mp h
  refine c_getR (pc := 32) d_P_known_32 l_P_35 e19 ?_
  refine x_iload_n (pc := 35) d_P_known_35 rfl ?_
  obtain ⟨v20, e21, h⟩ := Option.bind_eq_some_iff.mp h
  refine c_aald (pc := 36) d_P_known_36 e21 ?_
  refine x_astore_n (pc := 37) d_P_known_37 (by decide) ?_
  show xW sc m_P_known (d + 7) Q (u) 38 [some (vR a0), some (vI v4), some (vI v16), some (vR v20)] []
  exact w_P_known_b38 hQ mF a0 v4 v16 v20 u h
def f_P_letter_b61 (sc : xSc) (u : xH)  (t0 : Int32) : Option Int32 := some t0
theorem w_P_letter_b61 {sc : xSc} {d : Nat} {Q : xR → xH → Prop} {u : xH} {rZ : Int32}  (hQ : Q (.inl (some (vI rZ))) u) (t0 : Int32) (h : f_P_letter_b61 sc u  t0 = some rZ) : xW sc m_P_letter (d + 4) Q (u) 61 [none, none, none, none] [vI t0] := by
  unfold f_P_letter_b61 at h
  cases h
  exact x_iret (ty := .int) (pc := 61) d_P_letter_61 rfl (rfl) hQ
def f_P_letter_b52 (sc : xSc) (u : xH)   : Option Int32 := f_P_letter_b61 sc u (-1 : Int32)
theorem w_P_letter_b52 {sc : xSc} {d : Nat} {Q : xR → xH → Prop} {u : xH} {rZ : Int32}  (hQ : Q (.inl (some (vI rZ))) u)  (h : f_P_letter_b52 sc u   = some rZ) : xW sc m_P_letter (d + 4) Q (u) 52 [none, none, none, none] [] := by
  unfold f_P_letter_b52 at h
  refine x_iconst (v := (-1 : Int32)) (pc := 52) d_P_letter_52 (by decide) ?_
  refine x_goto (tgt := 61) (pc := 53) d_P_letter_53 (by decide) ?_
  exact w_P_letter_b61 hQ (-1 : Int32) h
def f_P_letter_b26 (sc : xSc) (u : xH)   : Option Int32 := some (-1 : Int32)
theorem w_P_letter_b26 {sc : xSc} {d : Nat} {Q : xR → xH → Prop} {u : xH} {rZ : Int32}  (hQ : Q (.inl (some (vI rZ))) u)  (h : f_P_letter_b26 sc u   = some rZ) : xW sc m_P_letter (d + 4) Q (u) 26 [none, none, none, none] [] := by
  unfold f_P_letter_b26 at h
  refine x_iconst (v := (-1 : Int32)) (pc := 26) d_P_letter_26 (by decide) ?_
  cases h
  exact x_iret (ty := .int) (pc := 27) d_P_letter_27 rfl (rfl) hQ
def f_P_letter (sc : xSc) (u : xH) (a0 : Option Nat) (a1 : Int32) (a2 : Int32) : Option Int32 := (if a1 < 0 then f_P_letter_b26 sc u else (gI sc u 0 9 a0).bind fun v2 => (if v2 ≤ a1 then f_P_letter_b26 sc u else (if xis sc u 0 a0 = true then (f_P_at sc u a0 a1).bind fun v6 => (if xis sc u 2 v6 = true then (f_Slot_is sc u v6 (some 75)).bind fun v9 => (if v9 = 0 then f_P_letter_b26 sc u else (if xis sc u 0 a0 = true then (f_P_at sc u a0 a1).bind fun v13 => (gR sc u 2 6 v13).bind fun v15 => (if xis sc u 3 v15 = true then (f_Name_text sc u v15).bind fun v18 => (if a2 < 0 then f_P_letter_b52 sc u else (if xis sc u 18 v18 = true then (f_String_length sc u v18).bind fun v22 => (if a2 < v22 then (if xis sc u 18 v18 = true then (f_String_charAt sc u v18 a2).bind fun v26 => f_P_letter_b61 sc u v26 else none) else f_P_letter_b52 sc u) else none)) else none) else none)) else none) else none)))
theorem w_P_letter {sc : xSc} {d : Nat} {Q : xR → xH → Prop} {u : xH} {rZ : Int32} (hQ : Q (.inl (some (vI rZ))) u) (a0 : Option Nat) (a1 : Int32) (a2 : Int32) (h : f_P_letter sc u a0 a1 a2 = some rZ) : xW sc m_P_letter (d + 4) Q (u) 0 (xent [vR a0, vI a1, vI a2] m_P_letter.2.2.1) [] := by
  show xW sc m_P_letter (d + 4) Q (u) 0 [some (vR a0), some (vI a1), some (vI a2), none] []
  unfold f_P_letter at h
  refine x_iload_n (pc := 0) d_P_letter_0 rfl ?_
  refine x_if_lt (tgt := 26) (pc := 1) d_P_letter_1 (by decide) (fun c1 => ?_) (fun c1 => ?_)
  · rw [if_pos c1] at h
    exact x_wk (L' := [none, none, none, none]) ⟨Or.inl rfl, Or.inl rfl, Or.inl rfl, Or.inl rfl, trivial⟩ (w_P_letter_b26 hQ h)
  · rw [if_neg c1] at h
    refine x_iload_n (pc := 4) d_P_letter_4 rfl ?_
    refine x_aload_n (pc := 5) d_P_letter_5 rfl ?_
    obtain ⟨v2, e3, h⟩ := Option.bind_eq_some_iff.mp h
    refine c_getI (pc := 6) d_P_letter_6 l_P_174 e3 ?_
    refine x_icmp_ge (tgt := 26) (pc := 9) d_P_letter_9 (by decide) (fun c4 => ?_) (fun c4 => ?_)
    · rw [if_pos c4] at h
      exact x_wk (L' := [none, none, none, none]) ⟨Or.inl rfl, Or.inl rfl, Or.inl rfl, Or.inl rfl, trivial⟩ (w_P_letter_b26 hQ h)
    · rw [if_neg c4] at h
      refine x_aload_n (pc := 12) d_P_letter_12 rfl ?_
      refine x_iload_n (pc := 13) d_P_letter_13 rfl ?_
      obtain ⟨c5, h⟩ := ite_some h
      obtain ⟨v6, e7, h⟩ := Option.bind_eq_some_iff.mp h
      refine c_invv (c := 0) (d := d + 3) (av := [vI a1]) (st := []) (Q' := fun r h' => r = .inl (some (vR v6)) ∧ h' = u) (pc := 14) d_P_letter_14 cv_P_203 y_P_at c5 rfl (Nat.le_of_ble_eq_true rfl) (Nat.le_of_ble_eq_true rfl) (w_P_at (d := d + 3) (Q := fun r h' => r = .inl (some (vR v6)) ∧ h' = u) ⟨rfl, rfl⟩ a0 a1 e7) (fun v h' z => ?_) (fun a h' z => nomatch z.1)
      obtain ⟨z1, z2⟩ := z
      subst h'
      cases z1
      show xW sc m_P_letter (d + 4) Q (u) 17 [some (vR a0), some (vI a1), some (vI a2), none] [vR v6]
      refine x_gets (v := vR (some 75)) (pc := 17) d_P_letter_17 sl_P_320 ?_
      obtain ⟨c8, h⟩ := ite_some h
      obtain ⟨v9, e10, h⟩ := Option.bind_eq_some_iff.mp h
      refine c_invv (c := 2) (d := d + 3) (av := [vR (some 75)]) (st := []) (Q' := fun r h' => r = .inl (some (vI v9)) ∧ h' = u) (pc := 20) d_P_letter_20 cv_P_323 y_Slot_is c8 rfl (Nat.le_of_ble_eq_true rfl) (Nat.le_of_ble_eq_true rfl) (w_Slot_is (d := d + 3) (Q := fun r h' => r = .inl (some (vI v9)) ∧ h' = u) ⟨rfl, rfl⟩ v6 (some 75) e10) (fun v h' z => ?_) (fun a h' z => nomatch z.1)
      obtain ⟨z1, z2⟩ := z
      subst h'
      cases z1
      show xW sc m_P_letter (d + 4) Q (u) 23 [some (vR a0), some (vI a1), some (vI a2), none] [vI v9]
      refine x_if_ne (tgt := 28) (pc := 23) d_P_letter_23 (by decide) (fun c11 => ?_) (fun c11 => ?_)
      · rw [if_neg c11] at h
        refine x_aload_n (pc := 28) d_P_letter_28 rfl ?_
        refine x_iload_n (pc := 29) d_P_letter_29 rfl ?_
        obtain ⟨c12, h⟩ := ite_some h
        obtain ⟨v13, e14, h⟩ := Option.bind_eq_some_iff.mp h
        refine c_invv (c := 0) (d := d + 3) (av := [vI a1]) (st := []) (Q' := fun r h' => r = .inl (some (vR v13)) ∧ h' = u) (pc := 30) d_P_letter_30 cv_P_203 y_P_at c12 rfl (Nat.le_of_ble_eq_true rfl) (Nat.le_of_ble_eq_true rfl) (w_P_at (d := d + 3) (Q := fun r h' => r = .inl (some (vR v13)) ∧ h' = u) ⟨rfl, rfl⟩ a0 a1 e14) (fun v h' z => ?_) (fun a h' z => nomatch z.1)
        obtain ⟨z1, z2⟩ := z
        subst h'
        cases z1
        show xW sc m_P_letter (d + 4) Q (u) 33 [some (vR a0), some (vI a1), some (vI a2), none] [vR v13]
        obtain ⟨v15, e16, h⟩ := Option.bind_eq_some_iff.mp h
        refine c_getR (pc := 33) d_P_letter_33 l_P_331 e16 ?_
        obtain ⟨c17, h⟩ := ite_some h
        obtain ⟨v18, e19, h⟩ := Option.bind_eq_some_iff.mp h
        refine c_invv (c := 3) (d := d + 3) (av := []) (st := []) (Q' := fun r h' => r = .inl (some (vR v18)) ∧ h' = u) (pc := 36) d_P_letter_36 cv_P_512 y_Name_text c17 rfl (Nat.le_of_ble_eq_true rfl) (Nat.le_of_ble_eq_true rfl) (w_Name_text (d := d + 3) (Q := fun r h' => r = .inl (some (vR v18)) ∧ h' = u) ⟨rfl, rfl⟩ v15 e19) (fun v h' z => ?_) (fun a h' z => nomatch z.1)
        obtain ⟨z1, z2⟩ := z
        subst h'
        cases z1
        show xW sc m_P_letter (d + 4) Q (u) 39 [some (vR a0), some (vI a1), some (vI a2), none] [vR v18]
        refine x_astore_n (pc := 39) d_P_letter_39 (by decide) ?_
        show xW sc m_P_letter (d + 4) Q (u) 40 [some (vR a0), some (vI a1), some (vI a2), some (vR v18)] []
        refine x_iload_n (pc := 40) d_P_letter_40 rfl ?_
        refine x_if_lt (tgt := 52) (pc := 41) d_P_letter_41 (by decide) (fun c20 => ?_) (fun c20 => ?_)
        · rw [if_pos c20] at h
          exact x_wk (L' := [none, none, none, none]) ⟨Or.inl rfl, Or.inl rfl, Or.inl rfl, Or.inl rfl, trivial⟩ (w_P_letter_b52 hQ h)
        · rw [if_neg c20] at h
          refine x_iload_n (pc := 44) d_P_letter_44 rfl ?_
          refine x_aload_n (pc := 45) d_P_letter_45 rfl ?_
          obtain ⟨c21, h⟩ := ite_some h
          obtain ⟨v22, e23, h⟩ := Option.bind_eq_some_iff.mp h
          refine c_invv (c := 18) (d := d + 3) (av := []) (st := [vI a2]) (Q' := fun r h' => r = .inl (some (vI v22)) ∧ h' = u) (pc := 46) d_P_letter_46 cv_P_139 y_String_length c21 rfl (Nat.le_of_ble_eq_true rfl) (Nat.le_of_ble_eq_true rfl) (w_String_length (d := d + 2) (Q := fun r h' => r = .inl (some (vI v22)) ∧ h' = u) ⟨rfl, rfl⟩ v18 e23) (fun v h' z => ?_) (fun a h' z => nomatch z.1)
          obtain ⟨z1, z2⟩ := z
          subst h'
          cases z1
          show xW sc m_P_letter (d + 4) Q (u) 49 [some (vR a0), some (vI a1), some (vI a2), some (vR v18)] [vI v22, vI a2]
          refine x_icmp_lt (tgt := 56) (pc := 49) d_P_letter_49 (by decide) (fun c24 => ?_) (fun c24 => ?_)
          · rw [if_pos c24] at h
            refine x_aload_n (pc := 56) d_P_letter_56 rfl ?_
            refine x_iload_n (pc := 57) d_P_letter_57 rfl ?_
            obtain ⟨c25, h⟩ := ite_some h
            obtain ⟨v26, e27, h⟩ := Option.bind_eq_some_iff.mp h
            refine c_invv (c := 18) (d := d + 3) (av := [vI a2]) (st := []) (Q' := fun r h' => r = .inl (some (vI v26)) ∧ h' = u) (pc := 58) d_P_letter_58 cv_P_133 y_String_charAt c25 rfl (Nat.le_of_ble_eq_true rfl) (Nat.le_of_ble_eq_true rfl) (w_String_charAt (d := d + 0) (Q := fun r h' => r = .inl (some (vI v26)) ∧ h' = u) ⟨rfl, rfl⟩ v18 a2 e27) (fun v h' z => ?_) (fun a h' z => nomatch z.1)
            obtain ⟨z1, z2⟩ := z
            subst h'
            cases z1
            show xW sc m_P_letter (d + 4) Q (u) 61 [some (vR a0), some (vI a1), some (vI a2), some (vR v18)] [vI v26]
            exact x_wk (L' := [none, none, none, none]) ⟨Or.inl rfl, Or.inl rfl, Or.inl rfl, Or.inl rfl, trivial⟩ (w_P_letter_b61 hQ v26 h)
          · rw [if_neg c24] at h
            exact x_wk (L' := [none, none, none, none]) ⟨Or.inl rfl, Or.inl rfl, Or.inl rfl, Or.inl rfl, trivial⟩ (w_P_letter_b52 hQ h)
      · rw [if_pos c11] at h
        exact x_wk (L' := [none, none, none, none]) ⟨Or.inl rfl, Or.inl rfl, Or.inl rfl, Or.inl rfl, trivial⟩ (w_P_letter_b26 hQ h)
def f_P_number_b68 (sc : xSc)  (t0 : Int32) (u : xH) : Option ((Int32 ⊕ Nat) × xH) := some (.inl t0, u)
theorem w_P_number_b68 {sc : xSc} {d : Nat} {Q : xR → xH → Prop} {oZ : Int32 ⊕ Nat} {hZ : xH}  (hQ : Q (cvI oZ) hZ) (t0 : Int32) (u : xH) (h : f_P_number_b68 sc  t0 u = some (oZ, hZ)) : xW sc m_P_number (d + 7) Q (u) 68 [none, none, none] [vI t0] := by
  unfold f_P_number_b68 at h
  cases h
  exact x_iret (ty := .int) (pc := 68) d_P_number_68 rfl (rfl) hQ
def f_P_number (sc : xSc) (u : xH) (a0 : Option Nat) (a1 : Int32) : Option ((Int32 ⊕ Nat) × xH) := (if xis sc u 0 a0 = true then tB (f_P_seen sc u a0 a1) (fun v3 u2 => (if xis sc u2 2 v3 = true then (f_Slot_is sc u2 v3 (some 73)).bind fun v8 => (if v8 = 0 then (if xis sc u2 2 v3 = true then (f_Slot_is sc u2 v3 (some 77)).bind fun v12 => (if v12 = 0 then (if xis sc u2 2 v3 = true then (f_Slot_is sc u2 v3 (some 75)).bind fun v16 => (if v16 = 0 then (gI sc u2 2 2 v3).bind fun v19 => f_P_number_b68 sc v19 u2 else (gR sc u2 2 6 v3).bind fun v21 => (if xis sc u2 3 v21 = true then (f_Name_text sc u2 v21).bind fun v24 => (if xis sc u2 18 v24 = true then (f_String_length sc u2 v24).bind fun v27 => f_P_number_b68 sc v27 u2 else none) else none)) else none) else (gI sc u2 2 3 v3).bind fun v29 => f_P_number_b68 sc v29 u2) else none) else (if xrm u2 6 = true then some (.inr u2.2.1, xnew u2 (.inl (24, [])) 6) else none)) else none)) (fun a5 u6 => some (.inr a5, u6)) else none)
theorem w_P_number {sc : xSc} {d : Nat} {Q : xR → xH → Prop} {oZ : Int32 ⊕ Nat} {hZ : xH} (hQ : Q (cvI oZ) hZ) (u : xH) (a0 : Option Nat) (a1 : Int32) (h : f_P_number sc u a0 a1 = some (oZ, hZ)) : xW sc m_P_number (d + 7) Q (u) 0 (xent [vR a0, vI a1] m_P_number.2.2.1) [] := by
  show xW sc m_P_number (d + 7) Q (u) 0 [some (vR a0), some (vI a1), none] []
  unfold f_P_number at h
  refine x_aload_n (pc := 0) d_P_number_0 rfl ?_
  refine x_iload_n (pc := 1) d_P_number_1 rfl ?_
  obtain ⟨c1, h⟩ := ite_some h
  rcases tB_s h with ⟨a5, u6, e4, h⟩ | ⟨v3, u2, e4, h⟩
  · refine c_invv (c := 0) (d := d + 6) (av := [vI a1]) (st := []) (Q' := fun r h' => r = .inr a5 ∧ h' = u6) (pc := 2) d_P_number_2 cv_P_497 y_P_seen c1 rfl (Nat.le_of_ble_eq_true rfl) (Nat.le_of_ble_eq_true rfl) (w_P_seen (d := d + 0) (Q := fun r h' => r = .inr a5 ∧ h' = u6) ⟨rfl, rfl⟩ u a0 a1 e4) (fun v h' z => nomatch z.1) (fun a h' z => ?_)
    obtain ⟨z1, z2⟩ := z
    subst h'
    cases z1
    cases h
    exact x_thOut (xno rfl) hQ
  refine c_invv (c := 0) (d := d + 6) (av := [vI a1]) (st := []) (Q' := fun r h' => r = .inl (some (vR v3)) ∧ h' = u2) (pc := 2) d_P_number_2 cv_P_497 y_P_seen c1 rfl (Nat.le_of_ble_eq_true rfl) (Nat.le_of_ble_eq_true rfl) (w_P_seen (d := d + 0) (Q := fun r h' => r = .inl (some (vR v3)) ∧ h' = u2) ⟨rfl, rfl⟩ u a0 a1 e4) (fun v h' z => ?_) (fun a h' z => nomatch z.1)
  obtain ⟨z1, z2⟩ := z
  subst h'
  cases z1
  show xW sc m_P_number (d + 7) Q (u2) 5 [some (vR a0), some (vI a1), none] [vR v3]
  refine x_astore_n (pc := 5) d_P_number_5 (by decide) ?_
  show xW sc m_P_number (d + 7) Q (u2) 6 [some (vR a0), some (vI a1), some (vR v3)] []
  refine x_aload_n (pc := 6) d_P_number_6 rfl ?_
  refine x_gets (v := vR (some 73)) (pc := 7) d_P_number_7 sl_P_506 ?_
  obtain ⟨c7, h⟩ := ite_some h
  obtain ⟨v8, e9, h⟩ := Option.bind_eq_some_iff.mp h
  refine c_invv (c := 2) (d := d + 6) (av := [vR (some 73)]) (st := []) (Q' := fun r h' => r = .inl (some (vI v8)) ∧ h' = u2) (pc := 10) d_P_number_10 cv_P_323 y_Slot_is c7 rfl (Nat.le_of_ble_eq_true rfl) (Nat.le_of_ble_eq_true rfl) (w_Slot_is (d := d + 6) (Q := fun r h' => r = .inl (some (vI v8)) ∧ h' = u2) ⟨rfl, rfl⟩ v3 (some 73) e9) (fun v h' z => ?_) (fun a h' z => nomatch z.1)
  obtain ⟨z1, z2⟩ := z
  subst h'
  cases z1
  show xW sc m_P_number (d + 7) Q (u2) 13 [some (vR a0), some (vI a1), some (vR v3)] [vI v8]
  refine x_if_eq (tgt := 24) (pc := 13) d_P_number_13 (by decide) (fun c10 => ?_) (fun c10 => ?_)
  · rw [if_pos c10] at h
    refine x_aload_n (pc := 24) d_P_number_24 rfl ?_
    refine x_gets (v := vR (some 77)) (pc := 25) d_P_number_25 sl_P_451 ?_
    obtain ⟨c11, h⟩ := ite_some h
    obtain ⟨v12, e13, h⟩ := Option.bind_eq_some_iff.mp h
    refine c_invv (c := 2) (d := d + 6) (av := [vR (some 77)]) (st := []) (Q' := fun r h' => r = .inl (some (vI v12)) ∧ h' = u2) (pc := 28) d_P_number_28 cv_P_323 y_Slot_is c11 rfl (Nat.le_of_ble_eq_true rfl) (Nat.le_of_ble_eq_true rfl) (w_Slot_is (d := d + 6) (Q := fun r h' => r = .inl (some (vI v12)) ∧ h' = u2) ⟨rfl, rfl⟩ v3 (some 77) e13) (fun v h' z => ?_) (fun a h' z => nomatch z.1)
    obtain ⟨z1, z2⟩ := z
    subst h'
    cases z1
    show xW sc m_P_number (d + 7) Q (u2) 31 [some (vR a0), some (vI a1), some (vR v3)] [vI v12]
    refine x_if_eq (tgt := 41) (pc := 31) d_P_number_31 (by decide) (fun c14 => ?_) (fun c14 => ?_)
    · rw [if_pos c14] at h
      refine x_aload_n (pc := 41) d_P_number_41 rfl ?_
      refine x_gets (v := vR (some 75)) (pc := 42) d_P_number_42 sl_P_320 ?_
      obtain ⟨c15, h⟩ := ite_some h
      obtain ⟨v16, e17, h⟩ := Option.bind_eq_some_iff.mp h
      refine c_invv (c := 2) (d := d + 6) (av := [vR (some 75)]) (st := []) (Q' := fun r h' => r = .inl (some (vI v16)) ∧ h' = u2) (pc := 45) d_P_number_45 cv_P_323 y_Slot_is c15 rfl (Nat.le_of_ble_eq_true rfl) (Nat.le_of_ble_eq_true rfl) (w_Slot_is (d := d + 6) (Q := fun r h' => r = .inl (some (vI v16)) ∧ h' = u2) ⟨rfl, rfl⟩ v3 (some 75) e17) (fun v h' z => ?_) (fun a h' z => nomatch z.1)
      obtain ⟨z1, z2⟩ := z
      subst h'
      cases z1
      show xW sc m_P_number (d + 7) Q (u2) 48 [some (vR a0), some (vI a1), some (vR v3)] [vI v16]
      refine x_if_eq (tgt := 64) (pc := 48) d_P_number_48 (by decide) (fun c18 => ?_) (fun c18 => ?_)
      · rw [if_pos c18] at h
        refine x_aload_n (pc := 64) d_P_number_64 rfl ?_
        obtain ⟨v19, e20, h⟩ := Option.bind_eq_some_iff.mp h
        refine c_getI (pc := 65) d_P_number_65 l_P_355 e20 ?_
        exact x_wk (L' := [none, none, none]) ⟨Or.inl rfl, Or.inl rfl, Or.inl rfl, trivial⟩ (w_P_number_b68 hQ v19 u2 h)
      · rw [if_neg c18] at h
        refine x_aload_n (pc := 51) d_P_number_51 rfl ?_
        obtain ⟨v21, e22, h⟩ := Option.bind_eq_some_iff.mp h
        refine c_getR (pc := 52) d_P_number_52 l_P_331 e22 ?_
        obtain ⟨c23, h⟩ := ite_some h
        obtain ⟨v24, e25, h⟩ := Option.bind_eq_some_iff.mp h
        refine c_invv (c := 3) (d := d + 6) (av := []) (st := []) (Q' := fun r h' => r = .inl (some (vR v24)) ∧ h' = u2) (pc := 55) d_P_number_55 cv_P_512 y_Name_text c23 rfl (Nat.le_of_ble_eq_true rfl) (Nat.le_of_ble_eq_true rfl) (w_Name_text (d := d + 6) (Q := fun r h' => r = .inl (some (vR v24)) ∧ h' = u2) ⟨rfl, rfl⟩ v21 e25) (fun v h' z => ?_) (fun a h' z => nomatch z.1)
        obtain ⟨z1, z2⟩ := z
        subst h'
        cases z1
        show xW sc m_P_number (d + 7) Q (u2) 58 [some (vR a0), some (vI a1), some (vR v3)] [vR v24]
        obtain ⟨c26, h⟩ := ite_some h
        obtain ⟨v27, e28, h⟩ := Option.bind_eq_some_iff.mp h
        refine c_invv (c := 18) (d := d + 6) (av := []) (st := []) (Q' := fun r h' => r = .inl (some (vI v27)) ∧ h' = u2) (pc := 58) d_P_number_58 cv_P_139 y_String_length c26 rfl (Nat.le_of_ble_eq_true rfl) (Nat.le_of_ble_eq_true rfl) (w_String_length (d := d + 5) (Q := fun r h' => r = .inl (some (vI v27)) ∧ h' = u2) ⟨rfl, rfl⟩ v24 e28) (fun v h' z => ?_) (fun a h' z => nomatch z.1)
        obtain ⟨z1, z2⟩ := z
        subst h'
        cases z1
        show xW sc m_P_number (d + 7) Q (u2) 61 [some (vR a0), some (vI a1), some (vR v3)] [vI v27]
        refine x_goto (tgt := 68) (pc := 61) d_P_number_61 (by decide) ?_
        exact x_wk (L' := [none, none, none]) ⟨Or.inl rfl, Or.inl rfl, Or.inl rfl, trivial⟩ (w_P_number_b68 hQ v27 u2 h)
    · rw [if_neg c14] at h
      refine x_aload_n (pc := 34) d_P_number_34 rfl ?_
      obtain ⟨v29, e30, h⟩ := Option.bind_eq_some_iff.mp h
      refine c_getI (pc := 35) d_P_number_35 l_P_358 e30 ?_
      refine x_goto (tgt := 68) (pc := 38) d_P_number_38 (by decide) ?_
      exact x_wk (L' := [none, none, none]) ⟨Or.inl rfl, Or.inl rfl, Or.inl rfl, trivial⟩ (w_P_number_b68 hQ v29 u2 h)
  · rw [if_neg c10] at h
    obtain ⟨c31, h⟩ := ite_some h
    cases h
    exact x_throwNew (d := d + 1) (c := 24) (pc := 16) d_P_number_16 d_P_number_19 d_P_number_20 d_P_number_23 (xno rfl) nw_P_509 ex_P_511 (by decide) (Nat.le_of_ble_eq_true rfl) (xrm_s c31).1 (xrm_s c31).2 hQ
def f_P_numeral_b194 (sc : xSc)  (t0 : UInt64) (t1 : Option Nat) (u : xH) : Option ((Unit ⊕ Nat) × xH) := (if xis sc u 2 t1 = true then (f_Slot_makeReal sc u t1 t0).bind fun u2 => some (.inl (), u2) else none)
theorem w_P_numeral_b194 {sc : xSc} {d : Nat} {Q : xR → xH → Prop} {oZ : Unit ⊕ Nat} {hZ : xH}  (hQ : Q (cvU oZ) hZ) (t0 : UInt64) (t1 : Option Nat) (u : xH) (h : f_P_numeral_b194 sc  t0 t1 u = some (oZ, hZ)) : xW sc m_P_numeral (d + 8) Q (u) 194 [none, none, none, none, none, none, none, none, none, none, none] [vD t0, vR t1] := by
  unfold f_P_numeral_b194 at h
  obtain ⟨c1, h⟩ := ite_some h
  obtain ⟨u2, e3, h⟩ := Option.bind_eq_some_iff.mp h
  refine c_invv (c := 2) (d := d + 7) (av := [vD t0]) (st := []) (Q' := fun r h' => r = .inl none ∧ h' = u2) (pc := 194) d_P_numeral_194 cv_P_217 y_Slot_makeReal c1 rfl (Nat.le_of_ble_eq_true rfl) (Nat.le_of_ble_eq_true rfl) (w_Slot_makeReal (d := d + 6) (Q := fun r h' => r = .inl none ∧ h' = u2) ⟨rfl, rfl⟩ u t1 t0 e3) (fun v h' z => ?_) (fun a h' z => nomatch z.1)
  obtain ⟨z1, z2⟩ := z
  subst h'
  cases z1
  show xW sc m_P_numeral (d + 8) Q (u2) 197 [none, none, none, none, none, none, none, none, none, none, none] []
  cases h
  exact x_vret (pc := 197) d_P_numeral_197 rfl hQ
def f_P_numeral_b146 (sc : xSc)  : Nat → Option Nat → Option Nat → Int32 → Int32 → Int32 → UInt64 → Int32 → xH → Option ((Unit ⊕ Nat) × xH)
  | 0, _, _, _, _, _, _, _, _ => none
  | n + 1, l0, l1, l2, l3, l6, l7, l9, u => (gI sc u 0 5 l0).bind fun v1 => (if v1 ≤ l9 then (if xn64 (FP.ddiv (FP.i2d l6) l7) = true then (if xn64 (FP.dadd (FP.i2d l3) (FP.ddiv (FP.i2d l6) l7)) = true then (if l2 = 0 then f_P_numeral_b194 sc (FP.dadd (FP.i2d l3) (FP.ddiv (FP.i2d l6) l7)) l1 u else (if xn64 (FP.dsub FP.dconst0 (FP.dadd (FP.i2d l3) (FP.ddiv (FP.i2d l6) l7))) = true then f_P_numeral_b194 sc (FP.dsub FP.dconst0 (FP.dadd (FP.i2d l3) (FP.ddiv (FP.i2d l6) l7))) l1 u else none)) else none) else none) else (if xn64 (FP.dmul l7 (4621819117588971520 : UInt64)) = true then (f_P_numeral_b146 sc n) l0 l1 l2 l3 l6 (FP.dmul l7 (4621819117588971520 : UInt64)) (l9 + Int32.ofInt 1) u else none))
theorem w_P_numeral_b146 {sc : xSc} {d : Nat} {Q : xR → xH → Prop} {oZ : Unit ⊕ Nat} {hZ : xH}  (hQ : Q (cvU oZ) hZ) : ∀ (n : Nat) (l0 : Option Nat) (l1 : Option Nat) (l2 : Int32) (l3 : Int32) (l6 : Int32) (l7 : UInt64) (l9 : Int32) (u : xH), f_P_numeral_b146 sc  n l0 l1 l2 l3 l6 l7 l9 u = some (oZ, hZ) → xW sc m_P_numeral (d + 8) Q (u) 146 [some (vR l0), some (vR l1), some (vI l2), some (vI l3), none, none, some (vI l6), some (vD l7), none, some (vI l9), none] [] := by
  intro n
  induction n with
  | zero =>
    intro l0 l1 l2 l3 l6 l7 l9 u h
    cases h
  | succ n hk146 =>
    intro l0 l1 l2 l3 l6 l7 l9 u h
    unfold f_P_numeral_b146 at h
    refine x_iload (pc := 146) d_P_numeral_146 rfl ?_
    refine x_aload_n (pc := 148) d_P_numeral_148 rfl ?_
    obtain ⟨v1, e2, h⟩ := Option.bind_eq_some_iff.mp h
    refine c_getI (pc := 149) d_P_numeral_149 l_P_393 e2 ?_
    refine x_icmp_ge (tgt := 169) (pc := 152) d_P_numeral_152 (by decide) (fun c3 => ?_) (fun c3 => ?_)
    · rw [if_pos c3] at h
      refine x_iload_n (pc := 169) d_P_numeral_169 rfl ?_
      refine x_i2d (pc := 170) d_P_numeral_170 ?_
      refine x_iload (pc := 171) d_P_numeral_171 rfl ?_
      refine x_i2d (pc := 173) d_P_numeral_173 ?_
      refine x_dload (pc := 174) d_P_numeral_174 rfl ?_
      obtain ⟨c4, h⟩ := ite_some h
      refine x_ddiv (pc := 176) d_P_numeral_176 (xn64_v c4) ?_
      obtain ⟨c5, h⟩ := ite_some h
      refine x_dadd (pc := 177) d_P_numeral_177 (xn64_v c5) ?_
      refine x_dstore (pc := 178) d_P_numeral_178 (by decide) ?_
      show xW sc m_P_numeral (d + 8) Q (u) 180 [some (vR l0), some (vR l1), some (vI l2), some (vI l3), none, none, some (vI l6), some (vD l7), none, some (vD (FP.dadd (FP.i2d l3) (FP.ddiv (FP.i2d l6) l7))), none] []
      refine x_aload_n (pc := 180) d_P_numeral_180 rfl ?_
      refine x_iload_n (pc := 181) d_P_numeral_181 rfl ?_
      refine x_if_eq (tgt := 192) (pc := 182) d_P_numeral_182 (by decide) (fun c6 => ?_) (fun c6 => ?_)
      · rw [if_pos c6] at h
        refine x_dload (pc := 192) d_P_numeral_192 rfl ?_
        exact x_wk (L' := [none, none, none, none, none, none, none, none, none, none, none]) ⟨Or.inl rfl, Or.inl rfl, Or.inl rfl, Or.inl rfl, Or.inl rfl, Or.inl rfl, Or.inl rfl, Or.inl rfl, Or.inl rfl, Or.inl rfl, Or.inl rfl, trivial⟩ (w_P_numeral_b194 hQ (FP.dadd (FP.i2d l3) (FP.ddiv (FP.i2d l6) l7)) l1 u h)
      · rw [if_neg c6] at h
        refine x_dconst0 (pc := 185) d_P_numeral_185 ?_
        refine x_dload (pc := 186) d_P_numeral_186 rfl ?_
        obtain ⟨c7, h⟩ := ite_some h
        refine x_dsub (pc := 188) d_P_numeral_188 (xn64_v c7) ?_
        refine x_goto (tgt := 194) (pc := 189) d_P_numeral_189 (by decide) ?_
        exact x_wk (L' := [none, none, none, none, none, none, none, none, none, none, none]) ⟨Or.inl rfl, Or.inl rfl, Or.inl rfl, Or.inl rfl, Or.inl rfl, Or.inl rfl, Or.inl rfl, Or.inl rfl, Or.inl rfl, Or.inl rfl, Or.inl rfl, trivial⟩ (w_P_numeral_b194 hQ (FP.dsub FP.dconst0 (FP.dadd (FP.i2d l3) (FP.ddiv (FP.i2d l6) l7))) l1 u h)
    · rw [if_neg c3] at h
      refine x_dload (pc := 155) d_P_numeral_155 rfl ?_
      refine x_ldc2d (v := (4621819117588971520 : UInt64)) (pc := 157) d_P_numeral_157 c_P_457 ?_
      obtain ⟨c8, h⟩ := ite_some h
      refine x_dmul (pc := 160) d_P_numeral_160 (xn64_v c8) ?_
      refine x_dstore (pc := 161) d_P_numeral_161 (by decide) ?_
      show xW sc m_P_numeral (d + 8) Q (u) 163 [some (vR l0), some (vR l1), some (vI l2), some (vI l3), none, none, some (vI l6), some (vD (FP.dmul l7 (4621819117588971520 : UInt64))), none, some (vI l9), none] []
      refine x_iinc (pc := 163) d_P_numeral_163 rfl (by decide) ?_
      show xW sc m_P_numeral (d + 8) Q (u) 166 [some (vR l0), some (vR l1), some (vI l2), some (vI l3), none, none, some (vI l6), some (vD (FP.dmul l7 (4621819117588971520 : UInt64))), none, some (vI (l9 + Int32.ofInt 1)), none] []
      refine x_goto (tgt := 146) (pc := 166) d_P_numeral_166 (by decide) ?_
      exact hk146 l0 l1 l2 l3 l6 (FP.dmul l7 (4621819117588971520 : UInt64)) (l9 + Int32.ofInt 1) u h
def f_P_numeral_b110 (sc : xSc)  (t0 : Int32) (t1 : Option Nat) (t2 : Option Nat) (u : xH) : Option ((Unit ⊕ Nat) × xH) := (if xis sc u 2 t2 = true then (f_Slot_set sc u t2 t1 t0 (0 : Int32) (0 : Int32)).bind fun u2 => some (.inl (), u2) else none)
theorem w_P_numeral_b110 {sc : xSc} {d : Nat} {Q : xR → xH → Prop} {oZ : Unit ⊕ Nat} {hZ : xH}  (hQ : Q (cvU oZ) hZ) (t0 : Int32) (t1 : Option Nat) (t2 : Option Nat) (u : xH) (h : f_P_numeral_b110 sc  t0 t1 t2 u = some (oZ, hZ)) : xW sc m_P_numeral (d + 8) Q (u) 110 [none, none, none, none, none, none, none, none, none, none, none] [vI t0, vR t1, vR t2] := by
  unfold f_P_numeral_b110 at h
  refine x_iconst (v := (0 : Int32)) (pc := 110) d_P_numeral_110 (by decide) ?_
  refine x_iconst (v := (0 : Int32)) (pc := 111) d_P_numeral_111 (by decide) ?_
  obtain ⟨c1, h⟩ := ite_some h
  obtain ⟨u2, e3, h⟩ := Option.bind_eq_some_iff.mp h
  refine c_invv (c := 2) (d := d + 7) (av := [vR t1, vI t0, vI (0 : Int32), vI (0 : Int32)]) (st := []) (Q' := fun r h' => r = .inl none ∧ h' = u2) (pc := 112) d_P_numeral_112 cv_P_186 y_Slot_set c1 rfl (Nat.le_of_ble_eq_true rfl) (Nat.le_of_ble_eq_true rfl) (w_Slot_set (d := d + 7) (Q := fun r h' => r = .inl none ∧ h' = u2) ⟨rfl, rfl⟩ u t2 t1 t0 (0 : Int32) (0 : Int32) e3) (fun v h' z => ?_) (fun a h' z => nomatch z.1)
  obtain ⟨z1, z2⟩ := z
  subst h'
  cases z1
  show xW sc m_P_numeral (d + 8) Q (u2) 115 [none, none, none, none, none, none, none, none, none, none, none] []
  cases h
  exact x_vret (pc := 115) d_P_numeral_115 rfl hQ
def f_P_numeral_b89 (sc : xSc)  (l0 : Option Nat) (l1 : Option Nat) (l2 : Int32) (l3 : Int32) (t0 : Int32) (u : xH) : Option ((Unit ⊕ Nat) × xH) := (if t0 = 0 then (if l2 = 0 then f_P_numeral_b110 sc l3 (some 72) l1 u else f_P_numeral_b110 sc (-l3) (some 72) l1 u) else (gI sc u 0 5 l0).bind fun v2 => (pV u 0 5 l0 (vI (v2 + (1 : Int32)))).bind fun u4 => (gI sc u4 0 5 l0).bind fun v6 => (if xis sc u4 0 l0 = true then tB (f_P_digits sc u4 l0 (4 : Int32)) (fun v10 u9 => f_P_numeral_b146 sc mF l0 l1 l2 l3 v10 FP.dconst1 v6 u9) (fun a12 u13 => some (.inr a12, u13)) else none))
theorem w_P_numeral_b89 {sc : xSc} {d : Nat} {Q : xR → xH → Prop} {oZ : Unit ⊕ Nat} {hZ : xH}  (hQ : Q (cvU oZ) hZ) (l0 : Option Nat) (l1 : Option Nat) (l2 : Int32) (l3 : Int32) (t0 : Int32) (u : xH) (h : f_P_numeral_b89 sc  l0 l1 l2 l3 t0 u = some (oZ, hZ)) : xW sc m_P_numeral (d + 8) Q (u) 89 [some (vR l0), some (vR l1), some (vI l2), some (vI l3), none, none, none, none, none, none, none] [vI t0] := by
  unfold f_P_numeral_b89 at h
  refine x_istore (pc := 89) d_P_numeral_89 (by decide) ?_
  show xW sc m_P_numeral (d + 8) Q (u) 91 [some (vR l0), some (vR l1), some (vI l2), some (vI l3), some (vI t0), none, none, none, none, none, none] []
  refine x_iload (pc := 91) d_P_numeral_91 rfl ?_
  refine x_if_ne (tgt := 116) (pc := 93) d_P_numeral_93 (by decide) (fun c1 => ?_) (fun c1 => ?_)
  · rw [if_neg c1] at h
    refine x_aload_n (pc := 116) d_P_numeral_116 rfl ?_
    refine x_dup (pc := 117) d_P_numeral_117 rfl ?_
    obtain ⟨v2, e3, h⟩ := Option.bind_eq_some_iff.mp h
    refine c_getI (pc := 118) d_P_numeral_118 l_P_393 e3 ?_
    refine x_iconst (v := (1 : Int32)) (pc := 121) d_P_numeral_121 (by decide) ?_
    refine x_iadd (pc := 122) d_P_numeral_122 ?_
    obtain ⟨u4, e5, h⟩ := Option.bind_eq_some_iff.mp h
    refine c_putf (pc := 123) d_P_numeral_123 l_P_393 fp_0_5 (xfit_int) e5 ?_
    refine x_aload_n (pc := 126) d_P_numeral_126 rfl ?_
    obtain ⟨v6, e7, h⟩ := Option.bind_eq_some_iff.mp h
    refine c_getI (pc := 127) d_P_numeral_127 l_P_393 e7 ?_
    refine x_istore (pc := 130) d_P_numeral_130 (by decide) ?_
    show xW sc m_P_numeral (d + 8) Q (u4) 132 [some (vR l0), some (vR l1), some (vI l2), some (vI l3), some (vI t0), some (vI v6), none, none, none, none, none] []
    refine x_aload_n (pc := 132) d_P_numeral_132 rfl ?_
    refine x_iconst (v := (4 : Int32)) (pc := 133) d_P_numeral_133 (by decide) ?_
    obtain ⟨c8, h⟩ := ite_some h
    rcases tB_s h with ⟨a12, u13, e11, h⟩ | ⟨v10, u9, e11, h⟩
    · refine c_invv (c := 0) (d := d + 7) (av := [vI (4 : Int32)]) (st := []) (Q' := fun r h' => r = .inr a12 ∧ h' = u13) (pc := 134) d_P_numeral_134 cv_P_454 y_P_digits c8 rfl (Nat.le_of_ble_eq_true rfl) (Nat.le_of_ble_eq_true rfl) (w_P_digits (d := d + 0) (Q := fun r h' => r = .inr a12 ∧ h' = u13) ⟨rfl, rfl⟩ u4 l0 (4 : Int32) e11) (fun v h' z => nomatch z.1) (fun a h' z => ?_)
      obtain ⟨z1, z2⟩ := z
      subst h'
      cases z1
      cases h
      exact x_thOut (xno rfl) hQ
    refine c_invv (c := 0) (d := d + 7) (av := [vI (4 : Int32)]) (st := []) (Q' := fun r h' => r = .inl (some (vI v10)) ∧ h' = u9) (pc := 134) d_P_numeral_134 cv_P_454 y_P_digits c8 rfl (Nat.le_of_ble_eq_true rfl) (Nat.le_of_ble_eq_true rfl) (w_P_digits (d := d + 0) (Q := fun r h' => r = .inl (some (vI v10)) ∧ h' = u9) ⟨rfl, rfl⟩ u4 l0 (4 : Int32) e11) (fun v h' z => ?_) (fun a h' z => nomatch z.1)
    obtain ⟨z1, z2⟩ := z
    subst h'
    cases z1
    show xW sc m_P_numeral (d + 8) Q (u9) 137 [some (vR l0), some (vR l1), some (vI l2), some (vI l3), some (vI t0), some (vI v6), none, none, none, none, none] [vI v10]
    refine x_istore (pc := 137) d_P_numeral_137 (by decide) ?_
    show xW sc m_P_numeral (d + 8) Q (u9) 139 [some (vR l0), some (vR l1), some (vI l2), some (vI l3), some (vI t0), some (vI v6), some (vI v10), none, none, none, none] []
    refine x_dconst1 (pc := 139) d_P_numeral_139 ?_
    refine x_dstore (pc := 140) d_P_numeral_140 (by decide) ?_
    show xW sc m_P_numeral (d + 8) Q (u9) 142 [some (vR l0), some (vR l1), some (vI l2), some (vI l3), some (vI t0), some (vI v6), some (vI v10), some (vD FP.dconst1), none, none, none] []
    refine x_iload (pc := 142) d_P_numeral_142 rfl ?_
    refine x_istore (pc := 144) d_P_numeral_144 (by decide) ?_
    show xW sc m_P_numeral (d + 8) Q (u9) 146 [some (vR l0), some (vR l1), some (vI l2), some (vI l3), some (vI t0), some (vI v6), some (vI v10), some (vD FP.dconst1), none, some (vI v6), none] []
    exact x_wk (L' := [some (vR l0), some (vR l1), some (vI l2), some (vI l3), none, none, some (vI v10), some (vD FP.dconst1), none, some (vI v6), none]) ⟨Or.inr rfl, Or.inr rfl, Or.inr rfl, Or.inr rfl, Or.inl rfl, Or.inl rfl, Or.inr rfl, Or.inr rfl, Or.inl rfl, Or.inr rfl, Or.inl rfl, trivial⟩ (w_P_numeral_b146 hQ mF l0 l1 l2 l3 v10 FP.dconst1 v6 u9 h)
  · rw [if_pos c1] at h
    refine x_aload_n (pc := 96) d_P_numeral_96 rfl ?_
    refine x_gets (v := vR (some 72)) (pc := 97) d_P_numeral_97 sl_P_221 ?_
    refine x_iload_n (pc := 100) d_P_numeral_100 rfl ?_
    refine x_if_eq (tgt := 109) (pc := 101) d_P_numeral_101 (by decide) (fun c14 => ?_) (fun c14 => ?_)
    · rw [if_pos c14] at h
      refine x_iload_n (pc := 109) d_P_numeral_109 rfl ?_
      exact x_wk (L' := [none, none, none, none, none, none, none, none, none, none, none]) ⟨Or.inl rfl, Or.inl rfl, Or.inl rfl, Or.inl rfl, Or.inl rfl, Or.inl rfl, Or.inl rfl, Or.inl rfl, Or.inl rfl, Or.inl rfl, Or.inl rfl, trivial⟩ (w_P_numeral_b110 hQ l3 (some 72) l1 u h)
    · rw [if_neg c14] at h
      refine x_iload_n (pc := 104) d_P_numeral_104 rfl ?_
      refine x_ineg (pc := 105) d_P_numeral_105 ?_
      refine x_goto (tgt := 110) (pc := 106) d_P_numeral_106 (by decide) ?_
      exact x_wk (L' := [none, none, none, none, none, none, none, none, none, none, none]) ⟨Or.inl rfl, Or.inl rfl, Or.inl rfl, Or.inl rfl, Or.inl rfl, Or.inl rfl, Or.inl rfl, Or.inl rfl, Or.inl rfl, Or.inl rfl, Or.inl rfl, trivial⟩ (w_P_numeral_b110 hQ (-l3) (some 72) l1 u h)
def f_P_numeral_b88 (sc : xSc)  (l0 : Option Nat) (l1 : Option Nat) (l2 : Int32) (l3 : Int32) (u : xH) : Option ((Unit ⊕ Nat) × xH) := f_P_numeral_b89 sc l0 l1 l2 l3 (0 : Int32) u
theorem w_P_numeral_b88 {sc : xSc} {d : Nat} {Q : xR → xH → Prop} {oZ : Unit ⊕ Nat} {hZ : xH}  (hQ : Q (cvU oZ) hZ) (l0 : Option Nat) (l1 : Option Nat) (l2 : Int32) (l3 : Int32) (u : xH) (h : f_P_numeral_b88 sc  l0 l1 l2 l3 u = some (oZ, hZ)) : xW sc m_P_numeral (d + 8) Q (u) 88 [some (vR l0), some (vR l1), some (vI l2), some (vI l3), none, none, none, none, none, none, none] [] := by
  unfold f_P_numeral_b88 at h
  refine x_iconst (v := (0 : Int32)) (pc := 88) d_P_numeral_88 (by decide) ?_
  exact w_P_numeral_b89 hQ l0 l1 l2 l3 (0 : Int32) u h
def f_P_numeral_b29 (sc : xSc)  (l0 : Option Nat) (l1 : Option Nat) (l2 : Int32) (t0 : Int32) (t1 : Int32) (t2 : Option Nat) (u : xH) : Option ((Unit ⊕ Nat) × xH) := (pV u 0 5 t2 (vI (t1 + t0))).bind fun u1 => (if xis sc u1 0 l0 = true then tB (f_P_digits sc u1 l0 (9 : Int32)) (fun v5 u4 => (if xis sc u4 0 l0 = true then (f_P_here sc u4 l0).bind fun v10 => (if v10 = (46 : Int32) then (gI sc u4 0 5 l0).bind fun v13 => (gR sc u4 0 2 l0).bind fun v15 => (if xis sc u4 16 v15 = true then (f_StringBuilder_length sc u4 v15).bind fun v18 => (if v18 ≤ (v13 + (1 : Int32)) then f_P_numeral_b88 sc l0 l1 l2 v5 u4 else (gR sc u4 0 2 l0).bind fun v21 => (gI sc u4 0 5 l0).bind fun v23 => (if xis sc u4 16 v21 = true then (f_StringBuilder_charAt sc u4 v21 (v23 + (1 : Int32))).bind fun v26 => (f_P_isDigit v26).bind fun v28 => (if v28 = 0 then f_P_numeral_b88 sc l0 l1 l2 v5 u4 else f_P_numeral_b89 sc l0 l1 l2 v5 (1 : Int32) u4) else none)) else none) else f_P_numeral_b88 sc l0 l1 l2 v5 u4) else none)) (fun a7 u8 => some (.inr a7, u8)) else none)
theorem w_P_numeral_b29 {sc : xSc} {d : Nat} {Q : xR → xH → Prop} {oZ : Unit ⊕ Nat} {hZ : xH}  (hQ : Q (cvU oZ) hZ) (l0 : Option Nat) (l1 : Option Nat) (l2 : Int32) (t0 : Int32) (t1 : Int32) (t2 : Option Nat) (u : xH) (h : f_P_numeral_b29 sc  l0 l1 l2 t0 t1 t2 u = some (oZ, hZ)) : xW sc m_P_numeral (d + 8) Q (u) 29 [some (vR l0), some (vR l1), some (vI l2), none, none, none, none, none, none, none, none] [vI t0, vI t1, vR t2] := by
  unfold f_P_numeral_b29 at h
  refine x_iadd (pc := 29) d_P_numeral_29 ?_
  obtain ⟨u1, e2, h⟩ := Option.bind_eq_some_iff.mp h
  refine c_putf (pc := 30) d_P_numeral_30 l_P_393 fp_0_5 (xfit_int) e2 ?_
  refine x_aload_n (pc := 33) d_P_numeral_33 rfl ?_
  refine x_bipush (v := (9 : Int32)) (pc := 34) d_P_numeral_34 (by decide) ?_
  obtain ⟨c3, h⟩ := ite_some h
  rcases tB_s h with ⟨a7, u8, e6, h⟩ | ⟨v5, u4, e6, h⟩
  · refine c_invv (c := 0) (d := d + 7) (av := [vI (9 : Int32)]) (st := []) (Q' := fun r h' => r = .inr a7 ∧ h' = u8) (pc := 36) d_P_numeral_36 cv_P_454 y_P_digits c3 rfl (Nat.le_of_ble_eq_true rfl) (Nat.le_of_ble_eq_true rfl) (w_P_digits (d := d + 0) (Q := fun r h' => r = .inr a7 ∧ h' = u8) ⟨rfl, rfl⟩ u1 l0 (9 : Int32) e6) (fun v h' z => nomatch z.1) (fun a h' z => ?_)
    obtain ⟨z1, z2⟩ := z
    subst h'
    cases z1
    cases h
    exact x_thOut (xno rfl) hQ
  refine c_invv (c := 0) (d := d + 7) (av := [vI (9 : Int32)]) (st := []) (Q' := fun r h' => r = .inl (some (vI v5)) ∧ h' = u4) (pc := 36) d_P_numeral_36 cv_P_454 y_P_digits c3 rfl (Nat.le_of_ble_eq_true rfl) (Nat.le_of_ble_eq_true rfl) (w_P_digits (d := d + 0) (Q := fun r h' => r = .inl (some (vI v5)) ∧ h' = u4) ⟨rfl, rfl⟩ u1 l0 (9 : Int32) e6) (fun v h' z => ?_) (fun a h' z => nomatch z.1)
  obtain ⟨z1, z2⟩ := z
  subst h'
  cases z1
  show xW sc m_P_numeral (d + 8) Q (u4) 39 [some (vR l0), some (vR l1), some (vI l2), none, none, none, none, none, none, none, none] [vI v5]
  refine x_istore_n (pc := 39) d_P_numeral_39 (by decide) ?_
  show xW sc m_P_numeral (d + 8) Q (u4) 40 [some (vR l0), some (vR l1), some (vI l2), some (vI v5), none, none, none, none, none, none, none] []
  refine x_aload_n (pc := 40) d_P_numeral_40 rfl ?_
  obtain ⟨c9, h⟩ := ite_some h
  obtain ⟨v10, e11, h⟩ := Option.bind_eq_some_iff.mp h
  refine c_invv (c := 0) (d := d + 7) (av := []) (st := []) (Q' := fun r h' => r = .inl (some (vI v10)) ∧ h' = u4) (pc := 41) d_P_numeral_41 cv_P_398 y_P_here c9 rfl (Nat.le_of_ble_eq_true rfl) (Nat.le_of_ble_eq_true rfl) (w_P_here (d := d + 3) (Q := fun r h' => r = .inl (some (vI v10)) ∧ h' = u4) ⟨rfl, rfl⟩ l0 e11) (fun v h' z => ?_) (fun a h' z => nomatch z.1)
  obtain ⟨z1, z2⟩ := z
  subst h'
  cases z1
  show xW sc m_P_numeral (d + 8) Q (u4) 44 [some (vR l0), some (vR l1), some (vI l2), some (vI v5), none, none, none, none, none, none, none] [vI v10]
  refine x_bipush (v := (46 : Int32)) (pc := 44) d_P_numeral_44 (by decide) ?_
  refine x_icmp_ne (tgt := 88) (pc := 46) d_P_numeral_46 (by decide) (fun c12 => ?_) (fun c12 => ?_)
  · rw [if_neg c12] at h
    exact w_P_numeral_b88 hQ l0 l1 l2 v5 u4 h
  · rw [if_pos c12] at h
    refine x_aload_n (pc := 49) d_P_numeral_49 rfl ?_
    obtain ⟨v13, e14, h⟩ := Option.bind_eq_some_iff.mp h
    refine c_getI (pc := 50) d_P_numeral_50 l_P_393 e14 ?_
    refine x_iconst (v := (1 : Int32)) (pc := 53) d_P_numeral_53 (by decide) ?_
    refine x_iadd (pc := 54) d_P_numeral_54 ?_
    refine x_aload_n (pc := 55) d_P_numeral_55 rfl ?_
    obtain ⟨v15, e16, h⟩ := Option.bind_eq_some_iff.mp h
    refine c_getR (pc := 56) d_P_numeral_56 l_P_44 e16 ?_
    obtain ⟨c17, h⟩ := ite_some h
    obtain ⟨v18, e19, h⟩ := Option.bind_eq_some_iff.mp h
    refine c_invv (c := 16) (d := d + 7) (av := []) (st := [vI (v13 + (1 : Int32))]) (Q' := fun r h' => r = .inl (some (vI v18)) ∧ h' = u4) (pc := 59) d_P_numeral_59 cv_P_396 y_StringBuilder_length c17 rfl (Nat.le_of_ble_eq_true rfl) (Nat.le_of_ble_eq_true rfl) (w_StringBuilder_length (d := d + 6) (Q := fun r h' => r = .inl (some (vI v18)) ∧ h' = u4) ⟨rfl, rfl⟩ v15 e19) (fun v h' z => ?_) (fun a h' z => nomatch z.1)
    obtain ⟨z1, z2⟩ := z
    subst h'
    cases z1
    show xW sc m_P_numeral (d + 8) Q (u4) 62 [some (vR l0), some (vR l1), some (vI l2), some (vI v5), none, none, none, none, none, none, none] [vI v18, vI (v13 + (1 : Int32))]
    refine x_icmp_ge (tgt := 88) (pc := 62) d_P_numeral_62 (by decide) (fun c20 => ?_) (fun c20 => ?_)
    · rw [if_pos c20] at h
      exact w_P_numeral_b88 hQ l0 l1 l2 v5 u4 h
    · rw [if_neg c20] at h
      refine x_aload_n (pc := 65) d_P_numeral_65 rfl ?_
      obtain ⟨v21, e22, h⟩ := Option.bind_eq_some_iff.mp h
      refine c_getR (pc := 66) d_P_numeral_66 l_P_44 e22 ?_
      refine x_aload_n (pc := 69) d_P_numeral_69 rfl ?_
      obtain ⟨v23, e24, h⟩ := Option.bind_eq_some_iff.mp h
      refine c_getI (pc := 70) d_P_numeral_70 l_P_393 e24 ?_
      refine x_iconst (v := (1 : Int32)) (pc := 73) d_P_numeral_73 (by decide) ?_
      refine x_iadd (pc := 74) d_P_numeral_74 ?_
      obtain ⟨c25, h⟩ := ite_some h
      obtain ⟨v26, e27, h⟩ := Option.bind_eq_some_iff.mp h
      refine c_invv (c := 16) (d := d + 7) (av := [vI (v23 + (1 : Int32))]) (st := []) (Q' := fun r h' => r = .inl (some (vI v26)) ∧ h' = u4) (pc := 75) d_P_numeral_75 cv_P_397 y_StringBuilder_charAt c25 rfl (Nat.le_of_ble_eq_true rfl) (Nat.le_of_ble_eq_true rfl) (w_StringBuilder_charAt (d := d + 4) (Q := fun r h' => r = .inl (some (vI v26)) ∧ h' = u4) ⟨rfl, rfl⟩ v21 (v23 + (1 : Int32)) e27) (fun v h' z => ?_) (fun a h' z => nomatch z.1)
      obtain ⟨z1, z2⟩ := z
      subst h'
      cases z1
      show xW sc m_P_numeral (d + 8) Q (u4) 78 [some (vR l0), some (vR l1), some (vI l2), some (vI v5), none, none, none, none, none, none, none] [vI v26]
      obtain ⟨v28, e29, h⟩ := Option.bind_eq_some_iff.mp h
      refine x_invs (d := d + 7) (av := [vI v26]) (st := []) (Q' := fun r h' => r = .inl (some (vI v28)) ∧ h' = u4) (pc := 78) d_P_numeral_78 cs_P_419 y_P_isDigit rfl (Nat.le_of_ble_eq_true rfl) (Nat.le_of_ble_eq_true rfl) (w_P_isDigit (d := d + 7) (Q := fun r h' => r = .inl (some (vI v28)) ∧ h' = u4) (hh := u4) ⟨rfl, rfl⟩ v26 e29) (fun v h' z => ?_) (fun a h' z => nomatch z.1)
      obtain ⟨z1, z2⟩ := z
      subst h'
      cases z1
      show xW sc m_P_numeral (d + 8) Q (u4) 81 [some (vR l0), some (vR l1), some (vI l2), some (vI v5), none, none, none, none, none, none, none] [vI v28]
      refine x_if_eq (tgt := 88) (pc := 81) d_P_numeral_81 (by decide) (fun c30 => ?_) (fun c30 => ?_)
      · rw [if_pos c30] at h
        exact w_P_numeral_b88 hQ l0 l1 l2 v5 u4 h
      · rw [if_neg c30] at h
        refine x_iconst (v := (1 : Int32)) (pc := 84) d_P_numeral_84 (by decide) ?_
        refine x_goto (tgt := 89) (pc := 85) d_P_numeral_85 (by decide) ?_
        exact w_P_numeral_b89 hQ l0 l1 l2 v5 (1 : Int32) u4 h
def f_P_numeral_b14 (sc : xSc)  (l0 : Option Nat) (l1 : Option Nat) (t0 : Int32) (u : xH) : Option ((Unit ⊕ Nat) × xH) := (gI sc u 0 5 l0).bind fun v1 => (if t0 = 0 then f_P_numeral_b29 sc l0 l1 t0 (0 : Int32) v1 l0 u else f_P_numeral_b29 sc l0 l1 t0 (1 : Int32) v1 l0 u)
theorem w_P_numeral_b14 {sc : xSc} {d : Nat} {Q : xR → xH → Prop} {oZ : Unit ⊕ Nat} {hZ : xH}  (hQ : Q (cvU oZ) hZ) (l0 : Option Nat) (l1 : Option Nat) (t0 : Int32) (u : xH) (h : f_P_numeral_b14 sc  l0 l1 t0 u = some (oZ, hZ)) : xW sc m_P_numeral (d + 8) Q (u) 14 [some (vR l0), some (vR l1), none, none, none, none, none, none, none, none, none] [vI t0] := by
  unfold f_P_numeral_b14 at h
  refine x_istore_n (pc := 14) d_P_numeral_14 (by decide) ?_
  show xW sc m_P_numeral (d + 8) Q (u) 15 [some (vR l0), some (vR l1), some (vI t0), none, none, none, none, none, none, none, none] []
  refine x_aload_n (pc := 15) d_P_numeral_15 rfl ?_
  refine x_dup (pc := 16) d_P_numeral_16 rfl ?_
  obtain ⟨v1, e2, h⟩ := Option.bind_eq_some_iff.mp h
  refine c_getI (pc := 17) d_P_numeral_17 l_P_393 e2 ?_
  refine x_iload_n (pc := 20) d_P_numeral_20 rfl ?_
  refine x_if_eq (tgt := 28) (pc := 21) d_P_numeral_21 (by decide) (fun c3 => ?_) (fun c3 => ?_)
  · rw [if_pos c3] at h
    refine x_iconst (v := (0 : Int32)) (pc := 28) d_P_numeral_28 (by decide) ?_
    exact w_P_numeral_b29 hQ l0 l1 t0 (0 : Int32) v1 l0 u h
  · rw [if_neg c3] at h
    refine x_iconst (v := (1 : Int32)) (pc := 24) d_P_numeral_24 (by decide) ?_
    refine x_goto (tgt := 29) (pc := 25) d_P_numeral_25 (by decide) ?_
    exact w_P_numeral_b29 hQ l0 l1 t0 (1 : Int32) v1 l0 u h
def f_P_numeral (sc : xSc) (u : xH) (a0 : Option Nat) (a1 : Option Nat) : Option ((Unit ⊕ Nat) × xH) := (if xis sc u 0 a0 = true then (f_P_here sc u a0).bind fun v2 => (if v2 = (45 : Int32) then f_P_numeral_b14 sc a0 a1 (1 : Int32) u else f_P_numeral_b14 sc a0 a1 (0 : Int32) u) else none)
theorem w_P_numeral {sc : xSc} {d : Nat} {Q : xR → xH → Prop} {oZ : Unit ⊕ Nat} {hZ : xH} (hQ : Q (cvU oZ) hZ) (u : xH) (a0 : Option Nat) (a1 : Option Nat) (h : f_P_numeral sc u a0 a1 = some (oZ, hZ)) : xW sc m_P_numeral (d + 8) Q (u) 0 (xent [vR a0, vR a1] m_P_numeral.2.2.1) [] := by
  show xW sc m_P_numeral (d + 8) Q (u) 0 [some (vR a0), some (vR a1), none, none, none, none, none, none, none, none, none] []
  unfold f_P_numeral at h
  refine x_aload_n (pc := 0) d_P_numeral_0 rfl ?_
  obtain ⟨c1, h⟩ := ite_some h
  obtain ⟨v2, e3, h⟩ := Option.bind_eq_some_iff.mp h
  refine c_invv (c := 0) (d := d + 7) (av := []) (st := []) (Q' := fun r h' => r = .inl (some (vI v2)) ∧ h' = u) (pc := 1) d_P_numeral_1 cv_P_398 y_P_here c1 rfl (Nat.le_of_ble_eq_true rfl) (Nat.le_of_ble_eq_true rfl) (w_P_here (d := d + 3) (Q := fun r h' => r = .inl (some (vI v2)) ∧ h' = u) ⟨rfl, rfl⟩ a0 e3) (fun v h' z => ?_) (fun a h' z => nomatch z.1)
  obtain ⟨z1, z2⟩ := z
  subst h'
  cases z1
  show xW sc m_P_numeral (d + 8) Q (u) 4 [some (vR a0), some (vR a1), none, none, none, none, none, none, none, none, none] [vI v2]
  refine x_bipush (v := (45 : Int32)) (pc := 4) d_P_numeral_4 (by decide) ?_
  refine x_icmp_ne (tgt := 13) (pc := 6) d_P_numeral_6 (by decide) (fun c4 => ?_) (fun c4 => ?_)
  · rw [if_neg c4] at h
    refine x_iconst (v := (0 : Int32)) (pc := 13) d_P_numeral_13 (by decide) ?_
    exact w_P_numeral_b14 hQ a0 a1 (0 : Int32) u h
  · rw [if_pos c4] at h
    refine x_iconst (v := (1 : Int32)) (pc := 9) d_P_numeral_9 (by decide) ?_
    refine x_goto (tgt := 14) (pc := 10) d_P_numeral_10 (by decide) ?_
    exact w_P_numeral_b14 hQ a0 a1 (1 : Int32) u h
def f_P_page_b39 (sc : xSc) (k4 : Option Nat → Int32 → Int32 → xH → Option (Int32 × xH)) (k14 : Option Nat → Int32 → Int32 → Int32 → xH → Option (Int32 × xH)) (l0 : Option Nat) (l2 : Int32) (l3 : Int32) (t0 : Int32) (t1 : Int32) (u : xH) : Option (Int32 × xH) := (gR sc u 0 37 l0).bind fun v1 => (aR sc u v1 l2).bind fun v3 => (bI .byte u v3 l3 ((0 : Int32).toInt8.toInt32)).bind fun u5 => k14 l0 (t1 + t0) l2 (l3 + Int32.ofInt 1) u5
theorem w_P_page_b39 {sc : xSc} {d : Nat} {Q : xR → xH → Prop} {hZ : xH} {rZ : Int32} (k4 : Option Nat → Int32 → Int32 → xH → Option (Int32 × xH)) (hk4 : ∀ (l0 : Option Nat) (l1 : Int32) (l2 : Int32) (u : xH), k4 l0 l1 l2 u = some (rZ, hZ) → xW sc m_P_page (d + 0) Q (u) 4 [some (vR l0), some (vI l1), some (vI l2), none] []) (k14 : Option Nat → Int32 → Int32 → Int32 → xH → Option (Int32 × xH)) (hk14 : ∀ (l0 : Option Nat) (l1 : Int32) (l2 : Int32) (l3 : Int32) (u : xH), k14 l0 l1 l2 l3 u = some (rZ, hZ) → xW sc m_P_page (d + 0) Q (u) 14 [some (vR l0), some (vI l1), some (vI l2), some (vI l3)] []) (hQ : Q (.inl (some (vI rZ))) hZ) (l0 : Option Nat) (l2 : Int32) (l3 : Int32) (t0 : Int32) (t1 : Int32) (u : xH) (h : f_P_page_b39 sc k4 k14 l0 l2 l3 t0 t1 u = some (rZ, hZ)) : xW sc m_P_page (d + 0) Q (u) 39 [some (vR l0), none, some (vI l2), some (vI l3)] [vI t0, vI t1] := by
  unfold f_P_page_b39 at h
  refine x_iadd (pc := 39) d_P_page_39 ?_
  refine x_istore_n (pc := 40) d_P_page_40 (by decide) ?_
  show xW sc m_P_page (d + 0) Q (u) 41 [some (vR l0), some (vI (t1 + t0)), some (vI l2), some (vI l3)] []
  refine x_aload_n (pc := 41) d_P_page_41 rfl ?_
  obtain ⟨v1, e2, h⟩ := Option.bind_eq_some_iff.mp h
  refine c_getR (pc := 42) d_P_page_42 l_P_115 e2 ?_
  refine x_iload_n (pc := 45) d_P_page_45 rfl ?_
  obtain ⟨v3, e4, h⟩ := Option.bind_eq_some_iff.mp h
  refine c_aald (pc := 46) d_P_page_46 e4 ?_
  refine x_iload_n (pc := 47) d_P_page_47 rfl ?_
  refine x_iconst (v := (0 : Int32)) (pc := 48) d_P_page_48 (by decide) ?_
  obtain ⟨u5, e6, h⟩ := Option.bind_eq_some_iff.mp h
  refine c_bast (pc := 49) d_P_page_49 e6 ?_
  refine x_iinc (pc := 50) d_P_page_50 rfl (by decide) ?_
  show xW sc m_P_page (d + 0) Q (u5) 53 [some (vR l0), some (vI (t1 + t0)), some (vI l2), some (vI (l3 + Int32.ofInt 1))] []
  refine x_goto (tgt := 14) (pc := 53) d_P_page_53 (by decide) ?_
  exact hk14 l0 (t1 + t0) l2 (l3 + Int32.ofInt 1) u5 h
def f_P_page_b14 (sc : xSc) (k4 : Option Nat → Int32 → Int32 → xH → Option (Int32 × xH)) : Nat → Option Nat → Int32 → Int32 → Int32 → xH → Option (Int32 × xH)
  | 0, _, _, _, _, _ => none
  | n + 1, l0, l1, l2, l3, u => (gI sc u 0 38 l0).bind fun v1 => (if v1 ≤ l3 then k4 l0 l1 (l2 + Int32.ofInt 1) u else (gR sc u 0 37 l0).bind fun v4 => (aR sc u v4 l2).bind fun v6 => (aI .byte sc u v6 l3).bind fun v8 => (if v8 ≤ 0 then f_P_page_b39 sc k4 (f_P_page_b14 sc k4 n) l0 l2 l3 (0 : Int32) l1 u else f_P_page_b39 sc k4 (f_P_page_b14 sc k4 n) l0 l2 l3 (1 : Int32) l1 u))
theorem w_P_page_b14 {sc : xSc} {d : Nat} {Q : xR → xH → Prop} {hZ : xH} {rZ : Int32} (k4 : Option Nat → Int32 → Int32 → xH → Option (Int32 × xH)) (hk4 : ∀ (l0 : Option Nat) (l1 : Int32) (l2 : Int32) (u : xH), k4 l0 l1 l2 u = some (rZ, hZ) → xW sc m_P_page (d + 0) Q (u) 4 [some (vR l0), some (vI l1), some (vI l2), none] []) (hQ : Q (.inl (some (vI rZ))) hZ) : ∀ (n : Nat) (l0 : Option Nat) (l1 : Int32) (l2 : Int32) (l3 : Int32) (u : xH), f_P_page_b14 sc k4 n l0 l1 l2 l3 u = some (rZ, hZ) → xW sc m_P_page (d + 0) Q (u) 14 [some (vR l0), some (vI l1), some (vI l2), some (vI l3)] [] := by
  intro n
  induction n with
  | zero =>
    intro l0 l1 l2 l3 u h
    cases h
  | succ n hk14 =>
    intro l0 l1 l2 l3 u h
    unfold f_P_page_b14 at h
    refine x_iload_n (pc := 14) d_P_page_14 rfl ?_
    refine x_aload_n (pc := 15) d_P_page_15 rfl ?_
    obtain ⟨v1, e2, h⟩ := Option.bind_eq_some_iff.mp h
    refine c_getI (pc := 16) d_P_page_16 l_P_118 e2 ?_
    refine x_icmp_ge (tgt := 56) (pc := 19) d_P_page_19 (by decide) (fun c3 => ?_) (fun c3 => ?_)
    · rw [if_pos c3] at h
      refine x_iinc (pc := 56) d_P_page_56 rfl (by decide) ?_
      show xW sc m_P_page (d + 0) Q (u) 59 [some (vR l0), some (vI l1), some (vI (l2 + Int32.ofInt 1)), some (vI l3)] []
      refine x_goto (tgt := 4) (pc := 59) d_P_page_59 (by decide) ?_
      exact x_wk (L' := [some (vR l0), some (vI l1), some (vI (l2 + Int32.ofInt 1)), none]) ⟨Or.inr rfl, Or.inr rfl, Or.inr rfl, Or.inl rfl, trivial⟩ (hk4 l0 l1 (l2 + Int32.ofInt 1) u h)
    · rw [if_neg c3] at h
      refine x_iload_n (pc := 22) d_P_page_22 rfl ?_
      refine x_aload_n (pc := 23) d_P_page_23 rfl ?_
      obtain ⟨v4, e5, h⟩ := Option.bind_eq_some_iff.mp h
      refine c_getR (pc := 24) d_P_page_24 l_P_115 e5 ?_
      refine x_iload_n (pc := 27) d_P_page_27 rfl ?_
      obtain ⟨v6, e7, h⟩ := Option.bind_eq_some_iff.mp h
      refine c_aald (pc := 28) d_P_page_28 e7 ?_
      refine x_iload_n (pc := 29) d_P_page_29 rfl ?_
      obtain ⟨v8, e9, h⟩ := Option.bind_eq_some_iff.mp h
      refine c_bald (pc := 30) d_P_page_30 e9 ?_
      refine x_if_le (tgt := 38) (pc := 31) d_P_page_31 (by decide) (fun c10 => ?_) (fun c10 => ?_)
      · rw [if_pos c10] at h
        refine x_iconst (v := (0 : Int32)) (pc := 38) d_P_page_38 (by decide) ?_
        exact x_wk (L' := [some (vR l0), none, some (vI l2), some (vI l3)]) ⟨Or.inr rfl, Or.inl rfl, Or.inr rfl, Or.inr rfl, trivial⟩ (w_P_page_b39 k4 hk4 (f_P_page_b14 sc k4 n) hk14 hQ l0 l2 l3 (0 : Int32) l1 u h)
      · rw [if_neg c10] at h
        refine x_iconst (v := (1 : Int32)) (pc := 34) d_P_page_34 (by decide) ?_
        refine x_goto (tgt := 39) (pc := 35) d_P_page_35 (by decide) ?_
        exact x_wk (L' := [some (vR l0), none, some (vI l2), some (vI l3)]) ⟨Or.inr rfl, Or.inl rfl, Or.inr rfl, Or.inr rfl, trivial⟩ (w_P_page_b39 k4 hk4 (f_P_page_b14 sc k4 n) hk14 hQ l0 l2 l3 (1 : Int32) l1 u h)
def f_P_page_b4 (sc : xSc)  : Nat → Option Nat → Int32 → Int32 → xH → Option (Int32 × xH)
  | 0, _, _, _, _ => none
  | n + 1, l0, l1, l2, u => (gI sc u 0 39 l0).bind fun v1 => (if v1 ≤ l2 then some (l1, u) else f_P_page_b14 sc (f_P_page_b4 sc n) mF l0 l1 l2 (0 : Int32) u)
theorem w_P_page_b4 {sc : xSc} {d : Nat} {Q : xR → xH → Prop} {hZ : xH} {rZ : Int32}  (hQ : Q (.inl (some (vI rZ))) hZ) : ∀ (n : Nat) (l0 : Option Nat) (l1 : Int32) (l2 : Int32) (u : xH), f_P_page_b4 sc  n l0 l1 l2 u = some (rZ, hZ) → xW sc m_P_page (d + 0) Q (u) 4 [some (vR l0), some (vI l1), some (vI l2), none] [] := by
  intro n
  induction n with
  | zero =>
    intro l0 l1 l2 u h
    cases h
  | succ n hk4 =>
    intro l0 l1 l2 u h
    unfold f_P_page_b4 at h
    refine x_iload_n (pc := 4) d_P_page_4 rfl ?_
    refine x_aload_n (pc := 5) d_P_page_5 rfl ?_
    obtain ⟨v1, e2, h⟩ := Option.bind_eq_some_iff.mp h
    refine c_getI (pc := 6) d_P_page_6 l_P_121 e2 ?_
    refine x_icmp_ge (tgt := 62) (pc := 9) d_P_page_9 (by decide) (fun c3 => ?_) (fun c3 => ?_)
    · rw [if_pos c3] at h
      refine x_iload_n (pc := 62) d_P_page_62 rfl ?_
      cases h
      exact x_iret (ty := .int) (pc := 63) d_P_page_63 rfl (rfl) hQ
    · rw [if_neg c3] at h
      refine x_iconst (v := (0 : Int32)) (pc := 12) d_P_page_12 (by decide) ?_
      refine x_istore_n (pc := 13) d_P_page_13 (by decide) ?_
      show xW sc m_P_page (d + 0) Q (u) 14 [some (vR l0), some (vI l1), some (vI l2), some (vI (0 : Int32))] []
      exact w_P_page_b14 (f_P_page_b4 sc n) hk4 hQ mF l0 l1 l2 (0 : Int32) u h
def f_P_page (sc : xSc) (u : xH) (a0 : Option Nat) : Option (Int32 × xH) := f_P_page_b4 sc mF a0 (0 : Int32) (0 : Int32) u
theorem w_P_page {sc : xSc} {d : Nat} {Q : xR → xH → Prop} {hZ : xH} {rZ : Int32} (hQ : Q (.inl (some (vI rZ))) hZ) (u : xH) (a0 : Option Nat) (h : f_P_page sc u a0 = some (rZ, hZ)) : xW sc m_P_page (d + 0) Q (u) 0 (xent [vR a0] m_P_page.2.2.1) [] := by
  show xW sc m_P_page (d + 0) Q (u) 0 [some (vR a0), none, none, none] []
  unfold f_P_page at h
  refine x_iconst (v := (0 : Int32)) (pc := 0) d_P_page_0 (by decide) ?_
  refine x_istore_n (pc := 1) d_P_page_1 (by decide) ?_
  show xW sc m_P_page (d + 0) Q (u) 2 [some (vR a0), some (vI (0 : Int32)), none, none] []
  refine x_iconst (v := (0 : Int32)) (pc := 2) d_P_page_2 (by decide) ?_
  refine x_istore_n (pc := 3) d_P_page_3 (by decide) ?_
  show xW sc m_P_page (d + 0) Q (u) 4 [some (vR a0), some (vI (0 : Int32)), some (vI (0 : Int32)), none] []
  exact w_P_page_b4 hQ mF a0 (0 : Int32) (0 : Int32) u h
def f_P_pixel_b36 (sc : xSc) (u : xH)  (t0 : Int32) : Option Int32 := some t0
theorem w_P_pixel_b36 {sc : xSc} {d : Nat} {Q : xR → xH → Prop} {u : xH} {rZ : Int32}  (hQ : Q (.inl (some (vI rZ))) u) (t0 : Int32) (h : f_P_pixel_b36 sc u  t0 = some rZ) : xW sc m_P_pixel (d + 0) Q (u) 36 [none, none, none] [vI t0] := by
  unfold f_P_pixel_b36 at h
  cases h
  exact x_iret (ty := .int) (pc := 36) d_P_pixel_36 rfl (rfl) hQ
def f_P_pixel_b24 (sc : xSc) (u : xH)   : Option Int32 := f_P_pixel_b36 sc u (-1 : Int32)
theorem w_P_pixel_b24 {sc : xSc} {d : Nat} {Q : xR → xH → Prop} {u : xH} {rZ : Int32}  (hQ : Q (.inl (some (vI rZ))) u)  (h : f_P_pixel_b24 sc u   = some rZ) : xW sc m_P_pixel (d + 0) Q (u) 24 [none, none, none] [] := by
  unfold f_P_pixel_b24 at h
  refine x_iconst (v := (-1 : Int32)) (pc := 24) d_P_pixel_24 (by decide) ?_
  refine x_goto (tgt := 36) (pc := 25) d_P_pixel_25 (by decide) ?_
  exact w_P_pixel_b36 hQ (-1 : Int32) h
def f_P_pixel (sc : xSc) (u : xH) (a0 : Option Nat) (a1 : Int32) (a2 : Int32) : Option Int32 := (if a1 < 0 then f_P_pixel_b24 sc u else (gI sc u 0 38 a0).bind fun v2 => (if v2 ≤ a1 then f_P_pixel_b24 sc u else (if a2 < 0 then f_P_pixel_b24 sc u else (gI sc u 0 39 a0).bind fun v6 => (if a2 < v6 then (gR sc u 0 37 a0).bind fun v9 => (aR sc u v9 a2).bind fun v11 => (aI .byte sc u v11 a1).bind fun v13 => f_P_pixel_b36 sc u v13 else f_P_pixel_b24 sc u))))
theorem w_P_pixel {sc : xSc} {d : Nat} {Q : xR → xH → Prop} {u : xH} {rZ : Int32} (hQ : Q (.inl (some (vI rZ))) u) (a0 : Option Nat) (a1 : Int32) (a2 : Int32) (h : f_P_pixel sc u a0 a1 a2 = some rZ) : xW sc m_P_pixel (d + 0) Q (u) 0 (xent [vR a0, vI a1, vI a2] m_P_pixel.2.2.1) [] := by
  show xW sc m_P_pixel (d + 0) Q (u) 0 [some (vR a0), some (vI a1), some (vI a2)] []
  unfold f_P_pixel at h
  refine x_iload_n (pc := 0) d_P_pixel_0 rfl ?_
  refine x_if_lt (tgt := 24) (pc := 1) d_P_pixel_1 (by decide) (fun c1 => ?_) (fun c1 => ?_)
  · rw [if_pos c1] at h
    exact x_wk (L' := [none, none, none]) ⟨Or.inl rfl, Or.inl rfl, Or.inl rfl, trivial⟩ (w_P_pixel_b24 hQ h)
  · rw [if_neg c1] at h
    refine x_iload_n (pc := 4) d_P_pixel_4 rfl ?_
    refine x_aload_n (pc := 5) d_P_pixel_5 rfl ?_
    obtain ⟨v2, e3, h⟩ := Option.bind_eq_some_iff.mp h
    refine c_getI (pc := 6) d_P_pixel_6 l_P_118 e3 ?_
    refine x_icmp_ge (tgt := 24) (pc := 9) d_P_pixel_9 (by decide) (fun c4 => ?_) (fun c4 => ?_)
    · rw [if_pos c4] at h
      exact x_wk (L' := [none, none, none]) ⟨Or.inl rfl, Or.inl rfl, Or.inl rfl, trivial⟩ (w_P_pixel_b24 hQ h)
    · rw [if_neg c4] at h
      refine x_iload_n (pc := 12) d_P_pixel_12 rfl ?_
      refine x_if_lt (tgt := 24) (pc := 13) d_P_pixel_13 (by decide) (fun c5 => ?_) (fun c5 => ?_)
      · rw [if_pos c5] at h
        exact x_wk (L' := [none, none, none]) ⟨Or.inl rfl, Or.inl rfl, Or.inl rfl, trivial⟩ (w_P_pixel_b24 hQ h)
      · rw [if_neg c5] at h
        refine x_iload_n (pc := 16) d_P_pixel_16 rfl ?_
        refine x_aload_n (pc := 17) d_P_pixel_17 rfl ?_
        obtain ⟨v6, e7, h⟩ := Option.bind_eq_some_iff.mp h
        refine c_getI (pc := 18) d_P_pixel_18 l_P_121 e7 ?_
        refine x_icmp_lt (tgt := 28) (pc := 21) d_P_pixel_21 (by decide) (fun c8 => ?_) (fun c8 => ?_)
        · rw [if_pos c8] at h
          refine x_aload_n (pc := 28) d_P_pixel_28 rfl ?_
          obtain ⟨v9, e10, h⟩ := Option.bind_eq_some_iff.mp h
          refine c_getR (pc := 29) d_P_pixel_29 l_P_115 e10 ?_
          refine x_iload_n (pc := 32) d_P_pixel_32 rfl ?_
          obtain ⟨v11, e12, h⟩ := Option.bind_eq_some_iff.mp h
          refine c_aald (pc := 33) d_P_pixel_33 e12 ?_
          refine x_iload_n (pc := 34) d_P_pixel_34 rfl ?_
          obtain ⟨v13, e14, h⟩ := Option.bind_eq_some_iff.mp h
          refine c_bald (pc := 35) d_P_pixel_35 e14 ?_
          exact x_wk (L' := [none, none, none]) ⟨Or.inl rfl, Or.inl rfl, Or.inl rfl, trivial⟩ (w_P_pixel_b36 hQ v13 h)
        · rw [if_neg c8] at h
          exact x_wk (L' := [none, none, none]) ⟨Or.inl rfl, Or.inl rfl, Or.inl rfl, trivial⟩ (w_P_pixel_b24 hQ h)
def f_P_procedure_b109 (rc : rcT) (sc : xSc)  : Nat → Option Nat → Int32 → Int32 → Int32 → Int32 → xH → Option ((Option Nat ⊕ Nat) × xH)
  | 0, _, _, _, _, _, _ => none
  | n + 1, l0, l2, l3, l4, l5, u => (if l3 ≤ l5 then (pV u 0 11 l0 (vI l2)).bind fun u2 => (if xis sc u2 0 l0 = true then (f_P_drafts sc u2 l0).bind fun (v6, u5) => (if xis sc u5 2 v6 = true then (f_Slot_set sc u5 v6 (some 77) l4 l3 (1 : Int32)).bind fun u9 => some (.inl v6, u9) else none) else none) else (gR sc u 0 7 l0).bind fun v11 => (aR sc u v11 (l4 + l5)).bind fun v13 => (gR sc u 0 8 l0).bind fun v15 => (aR sc u v15 (l2 + l5)).bind fun v17 => (if xis sc u 2 v13 = true then (f_Slot_copy sc u v13 v17).bind fun u20 => (f_P_procedure_b109 rc sc n) l0 l2 l3 l4 (l5 + Int32.ofInt 1) u20 else none))
theorem w_P_procedure_b109 {rc : rcT} {D : Nat} {sc : xSc} {d : Nat} {Q : xR → xH → Prop} {oZ : Option Nat ⊕ Nat} {hZ : xH} (hrc : rcTOK sc D rc)  (hQ : Q (cvR oZ) hZ) : ∀ (n : Nat) (l0 : Option Nat) (l2 : Int32) (l3 : Int32) (l4 : Int32) (l5 : Int32) (u : xH), f_P_procedure_b109 rc sc  n l0 l2 l3 l4 l5 u = some (oZ, hZ) → xW sc m_P_procedure (D + d + 8) Q (u) 109 [some (vR l0), none, some (vI l2), some (vI l3), some (vI l4), some (vI l5)] [] := by
  intro n
  induction n with
  | zero =>
    intro l0 l2 l3 l4 l5 u h
    cases h
  | succ n hk109 =>
    intro l0 l2 l3 l4 l5 u h
    unfold f_P_procedure_b109 at h
    refine x_iload (pc := 109) d_P_procedure_109 rfl ?_
    refine x_iload_n (pc := 111) d_P_procedure_111 rfl ?_
    refine x_icmp_ge (tgt := 143) (pc := 112) d_P_procedure_112 (by decide) (fun c1 => ?_) (fun c1 => ?_)
    · rw [if_pos c1] at h
      refine x_aload_n (pc := 143) d_P_procedure_143 rfl ?_
      refine x_iload_n (pc := 144) d_P_procedure_144 rfl ?_
      obtain ⟨u2, e3, h⟩ := Option.bind_eq_some_iff.mp h
      refine c_putf (pc := 145) d_P_procedure_145 l_P_405 fp_0_11 (xfit_int) e3 ?_
      refine x_aload_n (pc := 148) d_P_procedure_148 rfl ?_
      obtain ⟨c4, h⟩ := ite_some h
      obtain ⟨⟨v6, u5⟩, e7, h⟩ := Option.bind_eq_some_iff.mp h
      dsimp only at h
      refine c_invv (c := 0) (d := D + d + 7) (av := []) (st := []) (Q' := fun r h' => r = .inl (some (vR v6)) ∧ h' = u5) (pc := 149) d_P_procedure_149 cv_P_415 y_P_drafts c4 rfl (Nat.le_of_ble_eq_true rfl) (Nat.le_of_ble_eq_true rfl) (w_P_drafts (d := D + d + 5) (Q := fun r h' => r = .inl (some (vR v6)) ∧ h' = u5) ⟨rfl, rfl⟩ u2 l0 e7) (fun v h' z => ?_) (fun a h' z => nomatch z.1)
      obtain ⟨z1, z2⟩ := z
      subst h'
      cases z1
      show xW sc m_P_procedure (D + d + 8) Q (u5) 152 [some (vR l0), none, some (vI l2), some (vI l3), some (vI l4), some (vI l5)] [vR v6]
      refine x_astore (pc := 152) d_P_procedure_152 (by decide) ?_
      show xW sc m_P_procedure (D + d + 8) Q (u5) 154 [some (vR l0), none, some (vI l2), some (vI l3), some (vI l4), some (vR v6)] []
      refine x_aload (pc := 154) d_P_procedure_154 rfl ?_
      refine x_gets (v := vR (some 77)) (pc := 156) d_P_procedure_156 sl_P_451 ?_
      refine x_iload (pc := 159) d_P_procedure_159 rfl ?_
      refine x_iload_n (pc := 161) d_P_procedure_161 rfl ?_
      refine x_iconst (v := (1 : Int32)) (pc := 162) d_P_procedure_162 (by decide) ?_
      obtain ⟨c8, h⟩ := ite_some h
      obtain ⟨u9, e10, h⟩ := Option.bind_eq_some_iff.mp h
      refine c_invv (c := 2) (d := D + d + 7) (av := [vR (some 77), vI l4, vI l3, vI (1 : Int32)]) (st := []) (Q' := fun r h' => r = .inl none ∧ h' = u9) (pc := 163) d_P_procedure_163 cv_P_186 y_Slot_set c8 rfl (Nat.le_of_ble_eq_true rfl) (Nat.le_of_ble_eq_true rfl) (w_Slot_set (d := D + d + 7) (Q := fun r h' => r = .inl none ∧ h' = u9) ⟨rfl, rfl⟩ u5 v6 (some 77) l4 l3 (1 : Int32) e10) (fun v h' z => ?_) (fun a h' z => nomatch z.1)
      obtain ⟨z1, z2⟩ := z
      subst h'
      cases z1
      show xW sc m_P_procedure (D + d + 8) Q (u9) 166 [some (vR l0), none, some (vI l2), some (vI l3), some (vI l4), some (vR v6)] []
      refine x_aload (pc := 166) d_P_procedure_166 rfl ?_
      cases h
      exact x_aret (pc := 168) d_P_procedure_168 rfl (Or.inl ⟨_, rfl⟩) hQ
    · rw [if_neg c1] at h
      refine x_aload_n (pc := 115) d_P_procedure_115 rfl ?_
      obtain ⟨v11, e12, h⟩ := Option.bind_eq_some_iff.mp h
      refine c_getR (pc := 116) d_P_procedure_116 l_P_57 e12 ?_
      refine x_iload (pc := 119) d_P_procedure_119 rfl ?_
      refine x_iload (pc := 121) d_P_procedure_121 rfl ?_
      refine x_iadd (pc := 123) d_P_procedure_123 ?_
      obtain ⟨v13, e14, h⟩ := Option.bind_eq_some_iff.mp h
      refine c_aald (pc := 124) d_P_procedure_124 e14 ?_
      refine x_aload_n (pc := 125) d_P_procedure_125 rfl ?_
      obtain ⟨v15, e16, h⟩ := Option.bind_eq_some_iff.mp h
      refine c_getR (pc := 126) d_P_procedure_126 l_P_60 e16 ?_
      refine x_iload_n (pc := 129) d_P_procedure_129 rfl ?_
      refine x_iload (pc := 130) d_P_procedure_130 rfl ?_
      refine x_iadd (pc := 132) d_P_procedure_132 ?_
      obtain ⟨v17, e18, h⟩ := Option.bind_eq_some_iff.mp h
      refine c_aald (pc := 133) d_P_procedure_133 e18 ?_
      obtain ⟨c19, h⟩ := ite_some h
      obtain ⟨u20, e21, h⟩ := Option.bind_eq_some_iff.mp h
      refine c_invv (c := 2) (d := D + d + 7) (av := [vR v17]) (st := []) (Q' := fun r h' => r = .inl none ∧ h' = u20) (pc := 134) d_P_procedure_134 cv_P_182 y_Slot_copy c19 rfl (Nat.le_of_ble_eq_true rfl) (Nat.le_of_ble_eq_true rfl) (w_Slot_copy (d := D + d + 6) (Q := fun r h' => r = .inl none ∧ h' = u20) ⟨rfl, rfl⟩ u v13 v17 e21) (fun v h' z => ?_) (fun a h' z => nomatch z.1)
      obtain ⟨z1, z2⟩ := z
      subst h'
      cases z1
      show xW sc m_P_procedure (D + d + 8) Q (u20) 137 [some (vR l0), none, some (vI l2), some (vI l3), some (vI l4), some (vI l5)] []
      refine x_iinc (pc := 137) d_P_procedure_137 rfl (by decide) ?_
      show xW sc m_P_procedure (D + d + 8) Q (u20) 140 [some (vR l0), none, some (vI l2), some (vI l3), some (vI l4), some (vI (l5 + Int32.ofInt 1))] []
      refine x_goto (tgt := 109) (pc := 140) d_P_procedure_140 (by decide) ?_
      exact hk109 l0 l2 l3 l4 (l5 + Int32.ofInt 1) u20 h
def f_P_procedure_b64 (rc : rcT) (sc : xSc) (k35 : Option Nat → Int32 → Int32 → xH → Option ((Option Nat ⊕ Nat) × xH)) (l0 : Option Nat) (l1 : Int32) (l2 : Int32) (t0 : Int32) (t1 : Option Nat) (u : xH) : Option ((Option Nat ⊕ Nat) × xH) := (if xis sc u 0 t1 = true then tB (f_P_need sc u t1 t0 (15 : Int32)) (fun v3 u2 => (if xis sc u2 0 l0 = true then tB (rc u2 l0 l1) (fun v9 u8 => (if xis sc u8 0 l0 = true then (f_P_blanks sc u8 l0).bind fun u14 => k35 l0 l1 l2 u14 else none)) (fun a11 u12 => some (.inr a11, u12)) else none)) (fun a5 u6 => some (.inr a5, u6)) else none)
theorem w_P_procedure_b64 {rc : rcT} {D : Nat} {sc : xSc} {d : Nat} {Q : xR → xH → Prop} {oZ : Option Nat ⊕ Nat} {hZ : xH} (hrc : rcTOK sc D rc) (k35 : Option Nat → Int32 → Int32 → xH → Option ((Option Nat ⊕ Nat) × xH)) (hk35 : ∀ (l0 : Option Nat) (l1 : Int32) (l2 : Int32) (u : xH), k35 l0 l1 l2 u = some (oZ, hZ) → xW sc m_P_procedure (D + d + 8) Q (u) 35 [some (vR l0), some (vI l1), some (vI l2), none, none, none] []) (hQ : Q (cvR oZ) hZ) (l0 : Option Nat) (l1 : Int32) (l2 : Int32) (t0 : Int32) (t1 : Option Nat) (u : xH) (h : f_P_procedure_b64 rc sc k35 l0 l1 l2 t0 t1 u = some (oZ, hZ)) : xW sc m_P_procedure (D + d + 8) Q (u) 64 [some (vR l0), some (vI l1), some (vI l2), none, none, none] [vI t0, vR t1] := by
  unfold f_P_procedure_b64 at h
  refine x_bipush (v := (15 : Int32)) (pc := 64) d_P_procedure_64 (by decide) ?_
  obtain ⟨c1, h⟩ := ite_some h
  rcases tB_s h with ⟨a5, u6, e4, h⟩ | ⟨v3, u2, e4, h⟩
  · refine c_invv (c := 0) (d := D + d + 7) (av := [vI t0, vI (15 : Int32)]) (st := []) (Q' := fun r h' => r = .inr a5 ∧ h' = u6) (pc := 66) d_P_procedure_66 cv_P_170 y_P_need c1 rfl (Nat.le_of_ble_eq_true rfl) (Nat.le_of_ble_eq_true rfl) (w_P_need (d := D + d + 1) (Q := fun r h' => r = .inr a5 ∧ h' = u6) ⟨rfl, rfl⟩ u t1 t0 (15 : Int32) e4) (fun v h' z => nomatch z.1) (fun a h' z => ?_)
    obtain ⟨z1, z2⟩ := z
    subst h'
    cases z1
    cases h
    exact x_thOut (xno rfl) hQ
  refine c_invv (c := 0) (d := D + d + 7) (av := [vI t0, vI (15 : Int32)]) (st := []) (Q' := fun r h' => r = .inl none ∧ h' = u2) (pc := 66) d_P_procedure_66 cv_P_170 y_P_need c1 rfl (Nat.le_of_ble_eq_true rfl) (Nat.le_of_ble_eq_true rfl) (w_P_need (d := D + d + 1) (Q := fun r h' => r = .inl none ∧ h' = u2) ⟨rfl, rfl⟩ u t1 t0 (15 : Int32) e4) (fun v h' z => ?_) (fun a h' z => nomatch z.1)
  obtain ⟨z1, z2⟩ := z
  subst h'
  cases z1
  show xW sc m_P_procedure (D + d + 8) Q (u2) 69 [some (vR l0), some (vI l1), some (vI l2), none, none, none] []
  refine x_aload_n (pc := 69) d_P_procedure_69 rfl ?_
  refine x_iload_n (pc := 70) d_P_procedure_70 rfl ?_
  obtain ⟨c7, h⟩ := ite_some h
  rcases tB_s h with ⟨a11, u12, e10, h⟩ | ⟨v9, u8, e10, h⟩
  · refine c_invv (c := 0) (d := D + d + 7) (av := [vI l1]) (st := []) (Q' := fun r h' => r = .inr a11 ∧ h' = u12) (pc := 71) d_P_procedure_71 cv_P_408 y_P_token c7 rfl (Nat.le_of_ble_eq_true rfl) (Nat.le_of_ble_eq_true rfl) (hrc (d + 7) (fun r h' => r = .inr a11 ∧ h' = u12) u2 l0 l1 _ _ e10 ⟨rfl, rfl⟩) (fun v h' z => nomatch z.1) (fun a h' z => ?_)
    obtain ⟨z1, z2⟩ := z
    subst h'
    cases z1
    cases h
    exact x_thOut (xno rfl) hQ
  refine c_invv (c := 0) (d := D + d + 7) (av := [vI l1]) (st := []) (Q' := fun r h' => r = .inl (some (vR v9)) ∧ h' = u8) (pc := 71) d_P_procedure_71 cv_P_408 y_P_token c7 rfl (Nat.le_of_ble_eq_true rfl) (Nat.le_of_ble_eq_true rfl) (hrc (d + 7) (fun r h' => r = .inl (some (vR v9)) ∧ h' = u8) u2 l0 l1 _ _ e10 ⟨rfl, rfl⟩) (fun v h' z => ?_) (fun a h' z => nomatch z.1)
  obtain ⟨z1, z2⟩ := z
  subst h'
  cases z1
  show xW sc m_P_procedure (D + d + 8) Q (u8) 74 [some (vR l0), some (vI l1), some (vI l2), none, none, none] [vR v9]
  refine x_astore_n (pc := 74) d_P_procedure_74 (by decide) ?_
  show xW sc m_P_procedure (D + d + 8) Q (u8) 75 [some (vR l0), some (vI l1), some (vI l2), some (vR v9), none, none] []
  refine x_aload_n (pc := 75) d_P_procedure_75 rfl ?_
  obtain ⟨c13, h⟩ := ite_some h
  obtain ⟨u14, e15, h⟩ := Option.bind_eq_some_iff.mp h
  refine c_invv (c := 0) (d := D + d + 7) (av := []) (st := []) (Q' := fun r h' => r = .inl none ∧ h' = u14) (pc := 76) d_P_procedure_76 cv_P_402 y_P_blanks c13 rfl (Nat.le_of_ble_eq_true rfl) (Nat.le_of_ble_eq_true rfl) (w_P_blanks (d := D + d + 2) (Q := fun r h' => r = .inl none ∧ h' = u14) ⟨rfl, rfl⟩ u8 l0 e15) (fun v h' z => ?_) (fun a h' z => nomatch z.1)
  obtain ⟨z1, z2⟩ := z
  subst h'
  cases z1
  show xW sc m_P_procedure (D + d + 8) Q (u14) 79 [some (vR l0), some (vI l1), some (vI l2), some (vR v9), none, none] []
  refine x_goto (tgt := 35) (pc := 79) d_P_procedure_79 (by decide) ?_
  exact x_wk (L' := [some (vR l0), some (vI l1), some (vI l2), none, none, none]) ⟨Or.inr rfl, Or.inr rfl, Or.inr rfl, Or.inl rfl, Or.inl rfl, Or.inl rfl, trivial⟩ (hk35 l0 l1 l2 u14 h)
def f_P_procedure_b35 (rc : rcT) (sc : xSc)  : Nat → Option Nat → Int32 → Int32 → xH → Option ((Option Nat ⊕ Nat) × xH)
  | 0, _, _, _, _ => none
  | n + 1, l0, l1, l2, u => (if xis sc u 0 l0 = true then (f_P_here sc u l0).bind fun v2 => (if v2 = (125 : Int32) then (gI sc u 0 5 l0).bind fun v5 => (pV u 0 5 l0 (vI (v5 + (1 : Int32)))).bind fun u7 => (gI sc u7 0 11 l0).bind fun v9 => (if xis sc u7 0 l0 = true then tB (f_P_take sc u7 l0 (v9 - l2)) (fun v13 u12 => f_P_procedure_b109 rc sc mF l0 l2 (v9 - l2) v13 (0 : Int32) u12) (fun a15 u16 => some (.inr a15, u16)) else none) else (gI sc u 0 5 l0).bind fun v17 => (gR sc u 0 2 l0).bind fun v19 => (if xis sc u 16 v19 = true then (f_StringBuilder_length sc u v19).bind fun v22 => (if v22 ≤ v17 then f_P_procedure_b64 rc sc (f_P_procedure_b35 rc sc n) l0 l1 l2 (0 : Int32) l0 u else f_P_procedure_b64 rc sc (f_P_procedure_b35 rc sc n) l0 l1 l2 (1 : Int32) l0 u) else none)) else none)
theorem w_P_procedure_b35 {rc : rcT} {D : Nat} {sc : xSc} {d : Nat} {Q : xR → xH → Prop} {oZ : Option Nat ⊕ Nat} {hZ : xH} (hrc : rcTOK sc D rc)  (hQ : Q (cvR oZ) hZ) : ∀ (n : Nat) (l0 : Option Nat) (l1 : Int32) (l2 : Int32) (u : xH), f_P_procedure_b35 rc sc  n l0 l1 l2 u = some (oZ, hZ) → xW sc m_P_procedure (D + d + 8) Q (u) 35 [some (vR l0), some (vI l1), some (vI l2), none, none, none] [] := by
  intro n
  induction n with
  | zero =>
    intro l0 l1 l2 u h
    cases h
  | succ n hk35 =>
    intro l0 l1 l2 u h
    unfold f_P_procedure_b35 at h
    refine x_aload_n (pc := 35) d_P_procedure_35 rfl ?_
    obtain ⟨c1, h⟩ := ite_some h
    obtain ⟨v2, e3, h⟩ := Option.bind_eq_some_iff.mp h
    refine c_invv (c := 0) (d := D + d + 7) (av := []) (st := []) (Q' := fun r h' => r = .inl (some (vI v2)) ∧ h' = u) (pc := 36) d_P_procedure_36 cv_P_398 y_P_here c1 rfl (Nat.le_of_ble_eq_true rfl) (Nat.le_of_ble_eq_true rfl) (w_P_here (d := D + d + 3) (Q := fun r h' => r = .inl (some (vI v2)) ∧ h' = u) ⟨rfl, rfl⟩ l0 e3) (fun v h' z => ?_) (fun a h' z => nomatch z.1)
    obtain ⟨z1, z2⟩ := z
    subst h'
    cases z1
    show xW sc m_P_procedure (D + d + 8) Q (u) 39 [some (vR l0), some (vI l1), some (vI l2), none, none, none] [vI v2]
    refine x_bipush (v := (125 : Int32)) (pc := 39) d_P_procedure_39 (by decide) ?_
    refine x_icmp_eq (tgt := 82) (pc := 41) d_P_procedure_41 (by decide) (fun c4 => ?_) (fun c4 => ?_)
    · rw [if_pos c4] at h
      refine x_aload_n (pc := 82) d_P_procedure_82 rfl ?_
      refine x_dup (pc := 83) d_P_procedure_83 rfl ?_
      obtain ⟨v5, e6, h⟩ := Option.bind_eq_some_iff.mp h
      refine c_getI (pc := 84) d_P_procedure_84 l_P_393 e6 ?_
      refine x_iconst (v := (1 : Int32)) (pc := 87) d_P_procedure_87 (by decide) ?_
      refine x_iadd (pc := 88) d_P_procedure_88 ?_
      obtain ⟨u7, e8, h⟩ := Option.bind_eq_some_iff.mp h
      refine c_putf (pc := 89) d_P_procedure_89 l_P_393 fp_0_5 (xfit_int) e8 ?_
      refine x_aload_n (pc := 92) d_P_procedure_92 rfl ?_
      obtain ⟨v9, e10, h⟩ := Option.bind_eq_some_iff.mp h
      refine c_getI (pc := 93) d_P_procedure_93 l_P_405 e10 ?_
      refine x_iload_n (pc := 96) d_P_procedure_96 rfl ?_
      refine x_isub (pc := 97) d_P_procedure_97 ?_
      refine x_istore_n (pc := 98) d_P_procedure_98 (by decide) ?_
      show xW sc m_P_procedure (D + d + 8) Q (u7) 99 [some (vR l0), some (vI l1), some (vI l2), some (vI (v9 - l2)), none, none] []
      refine x_aload_n (pc := 99) d_P_procedure_99 rfl ?_
      refine x_iload_n (pc := 100) d_P_procedure_100 rfl ?_
      obtain ⟨c11, h⟩ := ite_some h
      rcases tB_s h with ⟨a15, u16, e14, h⟩ | ⟨v13, u12, e14, h⟩
      · refine c_invv (c := 0) (d := D + d + 7) (av := [vI (v9 - l2)]) (st := []) (Q' := fun r h' => r = .inr a15 ∧ h' = u16) (pc := 101) d_P_procedure_101 cv_P_447 y_P_take c11 rfl (Nat.le_of_ble_eq_true rfl) (Nat.le_of_ble_eq_true rfl) (w_P_take (d := D + d + 0) (Q := fun r h' => r = .inr a15 ∧ h' = u16) ⟨rfl, rfl⟩ u7 l0 (v9 - l2) e14) (fun v h' z => nomatch z.1) (fun a h' z => ?_)
        obtain ⟨z1, z2⟩ := z
        subst h'
        cases z1
        cases h
        exact x_thOut (xno rfl) hQ
      refine c_invv (c := 0) (d := D + d + 7) (av := [vI (v9 - l2)]) (st := []) (Q' := fun r h' => r = .inl (some (vI v13)) ∧ h' = u12) (pc := 101) d_P_procedure_101 cv_P_447 y_P_take c11 rfl (Nat.le_of_ble_eq_true rfl) (Nat.le_of_ble_eq_true rfl) (w_P_take (d := D + d + 0) (Q := fun r h' => r = .inl (some (vI v13)) ∧ h' = u12) ⟨rfl, rfl⟩ u7 l0 (v9 - l2) e14) (fun v h' z => ?_) (fun a h' z => nomatch z.1)
      obtain ⟨z1, z2⟩ := z
      subst h'
      cases z1
      show xW sc m_P_procedure (D + d + 8) Q (u12) 104 [some (vR l0), some (vI l1), some (vI l2), some (vI (v9 - l2)), none, none] [vI v13]
      refine x_istore (pc := 104) d_P_procedure_104 (by decide) ?_
      show xW sc m_P_procedure (D + d + 8) Q (u12) 106 [some (vR l0), some (vI l1), some (vI l2), some (vI (v9 - l2)), some (vI v13), none] []
      refine x_iconst (v := (0 : Int32)) (pc := 106) d_P_procedure_106 (by decide) ?_
      refine x_istore (pc := 107) d_P_procedure_107 (by decide) ?_
      show xW sc m_P_procedure (D + d + 8) Q (u12) 109 [some (vR l0), some (vI l1), some (vI l2), some (vI (v9 - l2)), some (vI v13), some (vI (0 : Int32))] []
      exact x_wk (L' := [some (vR l0), none, some (vI l2), some (vI (v9 - l2)), some (vI v13), some (vI (0 : Int32))]) ⟨Or.inr rfl, Or.inl rfl, Or.inr rfl, Or.inr rfl, Or.inr rfl, Or.inr rfl, trivial⟩ (w_P_procedure_b109 hrc hQ mF l0 l2 (v9 - l2) v13 (0 : Int32) u12 h)
    · rw [if_neg c4] at h
      refine x_aload_n (pc := 44) d_P_procedure_44 rfl ?_
      refine x_aload_n (pc := 45) d_P_procedure_45 rfl ?_
      obtain ⟨v17, e18, h⟩ := Option.bind_eq_some_iff.mp h
      refine c_getI (pc := 46) d_P_procedure_46 l_P_393 e18 ?_
      refine x_aload_n (pc := 49) d_P_procedure_49 rfl ?_
      obtain ⟨v19, e20, h⟩ := Option.bind_eq_some_iff.mp h
      refine c_getR (pc := 50) d_P_procedure_50 l_P_44 e20 ?_
      obtain ⟨c21, h⟩ := ite_some h
      obtain ⟨v22, e23, h⟩ := Option.bind_eq_some_iff.mp h
      refine c_invv (c := 16) (d := D + d + 7) (av := []) (st := [vI v17, vR l0]) (Q' := fun r h' => r = .inl (some (vI v22)) ∧ h' = u) (pc := 53) d_P_procedure_53 cv_P_396 y_StringBuilder_length c21 rfl (Nat.le_of_ble_eq_true rfl) (Nat.le_of_ble_eq_true rfl) (w_StringBuilder_length (d := D + d + 6) (Q := fun r h' => r = .inl (some (vI v22)) ∧ h' = u) ⟨rfl, rfl⟩ v19 e23) (fun v h' z => ?_) (fun a h' z => nomatch z.1)
      obtain ⟨z1, z2⟩ := z
      subst h'
      cases z1
      show xW sc m_P_procedure (D + d + 8) Q (u) 56 [some (vR l0), some (vI l1), some (vI l2), none, none, none] [vI v22, vI v17, vR l0]
      refine x_icmp_ge (tgt := 63) (pc := 56) d_P_procedure_56 (by decide) (fun c24 => ?_) (fun c24 => ?_)
      · rw [if_pos c24] at h
        refine x_iconst (v := (0 : Int32)) (pc := 63) d_P_procedure_63 (by decide) ?_
        exact w_P_procedure_b64 hrc (f_P_procedure_b35 rc sc n) hk35 hQ l0 l1 l2 (0 : Int32) l0 u h
      · rw [if_neg c24] at h
        refine x_iconst (v := (1 : Int32)) (pc := 59) d_P_procedure_59 (by decide) ?_
        refine x_goto (tgt := 64) (pc := 60) d_P_procedure_60 (by decide) ?_
        exact w_P_procedure_b64 hrc (f_P_procedure_b35 rc sc n) hk35 hQ l0 l1 l2 (1 : Int32) l0 u h
def f_P_procedure_b11 (rc : rcT) (sc : xSc)  (l0 : Option Nat) (l1 : Int32) (t0 : Int32) (t1 : Option Nat) (u : xH) : Option ((Option Nat ⊕ Nat) × xH) := (if xis sc u 0 t1 = true then tB (f_P_need sc u t1 t0 (12 : Int32)) (fun v3 u2 => (gI sc u2 0 5 l0).bind fun v7 => (pV u2 0 5 l0 (vI (v7 + (1 : Int32)))).bind fun u9 => (gI sc u9 0 11 l0).bind fun v11 => (if xis sc u9 0 l0 = true then (f_P_blanks sc u9 l0).bind fun u14 => f_P_procedure_b35 rc sc mF l0 l1 v11 u14 else none)) (fun a5 u6 => some (.inr a5, u6)) else none)
theorem w_P_procedure_b11 {rc : rcT} {D : Nat} {sc : xSc} {d : Nat} {Q : xR → xH → Prop} {oZ : Option Nat ⊕ Nat} {hZ : xH} (hrc : rcTOK sc D rc)  (hQ : Q (cvR oZ) hZ) (l0 : Option Nat) (l1 : Int32) (t0 : Int32) (t1 : Option Nat) (u : xH) (h : f_P_procedure_b11 rc sc  l0 l1 t0 t1 u = some (oZ, hZ)) : xW sc m_P_procedure (D + d + 8) Q (u) 11 [some (vR l0), some (vI l1), none, none, none, none] [vI t0, vR t1] := by
  unfold f_P_procedure_b11 at h
  refine x_bipush (v := (12 : Int32)) (pc := 11) d_P_procedure_11 (by decide) ?_
  obtain ⟨c1, h⟩ := ite_some h
  rcases tB_s h with ⟨a5, u6, e4, h⟩ | ⟨v3, u2, e4, h⟩
  · refine c_invv (c := 0) (d := D + d + 7) (av := [vI t0, vI (12 : Int32)]) (st := []) (Q' := fun r h' => r = .inr a5 ∧ h' = u6) (pc := 13) d_P_procedure_13 cv_P_170 y_P_need c1 rfl (Nat.le_of_ble_eq_true rfl) (Nat.le_of_ble_eq_true rfl) (w_P_need (d := D + d + 1) (Q := fun r h' => r = .inr a5 ∧ h' = u6) ⟨rfl, rfl⟩ u t1 t0 (12 : Int32) e4) (fun v h' z => nomatch z.1) (fun a h' z => ?_)
    obtain ⟨z1, z2⟩ := z
    subst h'
    cases z1
    cases h
    exact x_thOut (xno rfl) hQ
  refine c_invv (c := 0) (d := D + d + 7) (av := [vI t0, vI (12 : Int32)]) (st := []) (Q' := fun r h' => r = .inl none ∧ h' = u2) (pc := 13) d_P_procedure_13 cv_P_170 y_P_need c1 rfl (Nat.le_of_ble_eq_true rfl) (Nat.le_of_ble_eq_true rfl) (w_P_need (d := D + d + 1) (Q := fun r h' => r = .inl none ∧ h' = u2) ⟨rfl, rfl⟩ u t1 t0 (12 : Int32) e4) (fun v h' z => ?_) (fun a h' z => nomatch z.1)
  obtain ⟨z1, z2⟩ := z
  subst h'
  cases z1
  show xW sc m_P_procedure (D + d + 8) Q (u2) 16 [some (vR l0), some (vI l1), none, none, none, none] []
  refine x_aload_n (pc := 16) d_P_procedure_16 rfl ?_
  refine x_dup (pc := 17) d_P_procedure_17 rfl ?_
  obtain ⟨v7, e8, h⟩ := Option.bind_eq_some_iff.mp h
  refine c_getI (pc := 18) d_P_procedure_18 l_P_393 e8 ?_
  refine x_iconst (v := (1 : Int32)) (pc := 21) d_P_procedure_21 (by decide) ?_
  refine x_iadd (pc := 22) d_P_procedure_22 ?_
  obtain ⟨u9, e10, h⟩ := Option.bind_eq_some_iff.mp h
  refine c_putf (pc := 23) d_P_procedure_23 l_P_393 fp_0_5 (xfit_int) e10 ?_
  refine x_aload_n (pc := 26) d_P_procedure_26 rfl ?_
  obtain ⟨v11, e12, h⟩ := Option.bind_eq_some_iff.mp h
  refine c_getI (pc := 27) d_P_procedure_27 l_P_405 e12 ?_
  refine x_istore_n (pc := 30) d_P_procedure_30 (by decide) ?_
  show xW sc m_P_procedure (D + d + 8) Q (u9) 31 [some (vR l0), some (vI l1), some (vI v11), none, none, none] []
  refine x_aload_n (pc := 31) d_P_procedure_31 rfl ?_
  obtain ⟨c13, h⟩ := ite_some h
  obtain ⟨u14, e15, h⟩ := Option.bind_eq_some_iff.mp h
  refine c_invv (c := 0) (d := D + d + 7) (av := []) (st := []) (Q' := fun r h' => r = .inl none ∧ h' = u14) (pc := 32) d_P_procedure_32 cv_P_402 y_P_blanks c13 rfl (Nat.le_of_ble_eq_true rfl) (Nat.le_of_ble_eq_true rfl) (w_P_blanks (d := D + d + 2) (Q := fun r h' => r = .inl none ∧ h' = u14) ⟨rfl, rfl⟩ u9 l0 e15) (fun v h' z => ?_) (fun a h' z => nomatch z.1)
  obtain ⟨z1, z2⟩ := z
  subst h'
  cases z1
  show xW sc m_P_procedure (D + d + 8) Q (u14) 35 [some (vR l0), some (vI l1), some (vI v11), none, none, none] []
  exact w_P_procedure_b35 hrc hQ mF l0 l1 v11 u14 h
def f_P_procedure (rc : rcT) (sc : xSc) (u : xH) (a1 : Option Nat) (a2 : Int32) : Option ((Option Nat ⊕ Nat) × xH) := (if (4 : Int32) < a2 then f_P_procedure_b11 rc sc a1 a2 (0 : Int32) a1 u else f_P_procedure_b11 rc sc a1 a2 (1 : Int32) a1 u)
theorem w_P_procedure {rc : rcT} {D : Nat} {sc : xSc} {d : Nat} {Q : xR → xH → Prop} {oZ : Option Nat ⊕ Nat} {hZ : xH} (hrc : rcTOK sc D rc) (hQ : Q (cvR oZ) hZ) (u : xH) (a1 : Option Nat) (a2 : Int32) (h : f_P_procedure rc sc u a1 a2 = some (oZ, hZ)) : xW sc m_P_procedure (D + d + 8) Q (u) 0 (xent [vR a1, vI a2] m_P_procedure.2.2.1) [] := by
  show xW sc m_P_procedure (D + d + 8) Q (u) 0 [some (vR a1), some (vI a2), none, none, none, none] []
  unfold f_P_procedure at h
  refine x_aload_n (pc := 0) d_P_procedure_0 rfl ?_
  refine x_iload_n (pc := 1) d_P_procedure_1 rfl ?_
  refine x_iconst (v := (4 : Int32)) (pc := 2) d_P_procedure_2 (by decide) ?_
  refine x_icmp_gt (tgt := 10) (pc := 3) d_P_procedure_3 (by decide) (fun c1 => ?_) (fun c1 => ?_)
  · rw [if_pos c1] at h
    refine x_iconst (v := (0 : Int32)) (pc := 10) d_P_procedure_10 (by decide) ?_
    exact w_P_procedure_b11 hrc hQ a1 a2 (0 : Int32) a1 u h
  · rw [if_neg c1] at h
    refine x_iconst (v := (1 : Int32)) (pc := 6) d_P_procedure_6 (by decide) ?_
    refine x_goto (tgt := 11) (pc := 7) d_P_procedure_7 (by decide) ?_
    exact w_P_procedure_b11 hrc hQ a1 a2 (1 : Int32) a1 u h
def f_StringBuilder_setLength (sc : xSc) (u : xH) (a0 : Option Nat) (a1 : Int32) : Option xH := (if xis sc u 16 a0 = true then (f_AbstractStringBuilder_setLength sc u a0 a1).bind fun u2 => some u2 else none)
theorem w_StringBuilder_setLength {sc : xSc} {d : Nat} {Q : xR → xH → Prop} {hZ : xH} (hQ : Q (.inl none) hZ) (u : xH) (a0 : Option Nat) (a1 : Int32) (h : f_StringBuilder_setLength sc u a0 a1 = some hZ) : xW sc m_StringBuilder_setLength (d + 5) Q (u) 0 (xent [vR a0, vI a1] m_StringBuilder_setLength.2.2.1) [] := by
  show xW sc m_StringBuilder_setLength (d + 5) Q (u) 0 [some (vR a0), some (vI a1)] []
  unfold f_StringBuilder_setLength at h
  refine x_aload_n (pc := 0) d_StringBuilder_setLength_0 rfl ?_
  refine x_iload_n (pc := 1) d_StringBuilder_setLength_1 rfl ?_
  obtain ⟨c1, h⟩ := ite_some h
  obtain ⟨u2, e3, h⟩ := Option.bind_eq_some_iff.mp h
  refine c_invsu (c := 16) (d := d + 4) (av := [vI a1]) (st := []) (Q' := fun r h' => r = .inl none ∧ h' = u2) (pc := 2) d_StringBuilder_setLength_2 cu_StringBuilder_333 y_AbstractStringBuilder_setLength c1 rfl (Nat.le_of_ble_eq_true rfl) (Nat.le_of_ble_eq_true rfl) (w_AbstractStringBuilder_setLength (d := d + 0) (Q := fun r h' => r = .inl none ∧ h' = u2) ⟨rfl, rfl⟩ u a0 a1 e3) (fun v h' z => ?_) (fun a h' z => nomatch z.1)
  obtain ⟨z1, z2⟩ := z
  subst h'
  cases z1
  show xW sc m_StringBuilder_setLength (d + 5) Q (u2) 5 [some (vR a0), some (vI a1)] []
  cases h
  exact x_vret (pc := 5) d_StringBuilder_setLength_5 rfl hQ
def f_StringBuilder_append0 (sc : xSc) (u : xH) (a0 : Option Nat) (a1 : Int32) : Option (Option Nat × xH) := (if xis sc u 16 a0 = true then (f_AbstractStringBuilder_append0 sc u a0 a1).bind fun (v3, u2) => some (a0, u2) else none)
theorem w_StringBuilder_append0 {sc : xSc} {d : Nat} {Q : xR → xH → Prop} {hZ : xH} {rZ : Option Nat} (hQ : Q (.inl (some (vR rZ))) hZ) (u : xH) (a0 : Option Nat) (a1 : Int32) (h : f_StringBuilder_append0 sc u a0 a1 = some (rZ, hZ)) : xW sc m_StringBuilder_append0 (d + 5) Q (u) 0 (xent [vR a0, vI a1] m_StringBuilder_append0.2.2.1) [] := by
  show xW sc m_StringBuilder_append0 (d + 5) Q (u) 0 [some (vR a0), some (vI a1)] []
  unfold f_StringBuilder_append0 at h
  refine x_aload_n (pc := 0) d_StringBuilder_append0_0 rfl ?_
  refine x_iload_n (pc := 1) d_StringBuilder_append0_1 rfl ?_
  obtain ⟨c1, h⟩ := ite_some h
  obtain ⟨⟨v3, u2⟩, e4, h⟩ := Option.bind_eq_some_iff.mp h
  dsimp only at h
  refine c_invsu (c := 16) (d := d + 4) (av := [vI a1]) (st := []) (Q' := fun r h' => r = .inl (some (vR v3)) ∧ h' = u2) (pc := 2) d_StringBuilder_append0_2 cu_StringBuilder_50 y_AbstractStringBuilder_append0 c1 rfl (Nat.le_of_ble_eq_true rfl) (Nat.le_of_ble_eq_true rfl) (w_AbstractStringBuilder_append0 (d := d + 0) (Q := fun r h' => r = .inl (some (vR v3)) ∧ h' = u2) ⟨rfl, rfl⟩ u a0 a1 e4) (fun v h' z => ?_) (fun a h' z => nomatch z.1)
  obtain ⟨z1, z2⟩ := z
  subst h'
  cases z1
  show xW sc m_StringBuilder_append0 (d + 5) Q (u2) 5 [some (vR a0), some (vI a1)] [vR v3]
  refine x_pop (pc := 5) d_StringBuilder_append0_5 rfl ?_
  refine x_aload_n (pc := 6) d_StringBuilder_append0_6 rfl ?_
  cases h
  exact x_aret (pc := 7) d_StringBuilder_append0_7 rfl (Or.inl ⟨_, rfl⟩) hQ
def f_Slot_named (sc : xSc) (u : xH) (a0 : Option Nat) (a1 : Option Nat) (a2 : Int32) : Option xH := (if xis sc u 2 a0 = true then (f_Slot_set sc u a0 (some 75) (0 : Int32) (0 : Int32) a2).bind fun u2 => (pV u2 2 6 a0 (vR a1)).bind fun u4 => some u4 else none)
theorem w_Slot_named {sc : xSc} {d : Nat} {Q : xR → xH → Prop} {hZ : xH} (hQ : Q (.inl none) hZ) (u : xH) (a0 : Option Nat) (a1 : Option Nat) (a2 : Int32) (h : f_Slot_named sc u a0 a1 a2 = some hZ) : xW sc m_Slot_named (d + 1) Q (u) 0 (xent [vR a0, vR a1, vI a2] m_Slot_named.2.2.1) [] := by
  show xW sc m_Slot_named (d + 1) Q (u) 0 [some (vR a0), some (vR a1), some (vI a2)] []
  unfold f_Slot_named at h
  refine x_aload_n (pc := 0) d_Slot_named_0 rfl ?_
  refine x_gets (v := vR (some 75)) (pc := 1) d_Slot_named_1 sl_Slot_40 ?_
  refine x_iconst (v := (0 : Int32)) (pc := 4) d_Slot_named_4 (by decide) ?_
  refine x_iconst (v := (0 : Int32)) (pc := 5) d_Slot_named_5 (by decide) ?_
  refine x_iload_n (pc := 6) d_Slot_named_6 rfl ?_
  obtain ⟨c1, h⟩ := ite_some h
  obtain ⟨u2, e3, h⟩ := Option.bind_eq_some_iff.mp h
  refine c_invv (c := 2) (d := d + 0) (av := [vR (some 75), vI (0 : Int32), vI (0 : Int32), vI a2]) (st := []) (Q' := fun r h' => r = .inl none ∧ h' = u2) (pc := 7) d_Slot_named_7 cv_Slot_32 y_Slot_set c1 rfl (Nat.le_of_ble_eq_true rfl) (Nat.le_of_ble_eq_true rfl) (w_Slot_set (d := d + 0) (Q := fun r h' => r = .inl none ∧ h' = u2) ⟨rfl, rfl⟩ u a0 (some 75) (0 : Int32) (0 : Int32) a2 e3) (fun v h' z => ?_) (fun a h' z => nomatch z.1)
  obtain ⟨z1, z2⟩ := z
  subst h'
  cases z1
  show xW sc m_Slot_named (d + 1) Q (u2) 10 [some (vR a0), some (vR a1), some (vI a2)] []
  refine x_aload_n (pc := 10) d_Slot_named_10 rfl ?_
  refine x_aload_n (pc := 11) d_Slot_named_11 rfl ?_
  obtain ⟨u4, e5, h⟩ := Option.bind_eq_some_iff.mp h
  refine c_putf (pc := 12) d_Slot_named_12 l_Slot_43 fp_2_6 (xfit_obj) e5 ?_
  cases h
  exact x_vret (pc := 15) d_Slot_named_15 rfl hQ
def f_P_token_b183 (rc : rcT) (sc : xSc)  (l2 : Option Nat) (t0 : Int32) (t1 : Option Nat) (t2 : Option Nat) (u : xH) : Option ((Option Nat ⊕ Nat) × xH) := (if xis sc u 2 t2 = true then (f_Slot_named sc u t2 t1 t0).bind fun u2 => some (.inl l2, u2) else none)
theorem w_P_token_b183 {rc : rcT} {D : Nat} {sc : xSc} {d : Nat} {Q : xR → xH → Prop} {oZ : Option Nat ⊕ Nat} {hZ : xH} (hrc : rcTOK sc D rc)  (hQ : Q (cvR oZ) hZ) (l2 : Option Nat) (t0 : Int32) (t1 : Option Nat) (t2 : Option Nat) (u : xH) (h : f_P_token_b183 rc sc  l2 t0 t1 t2 u = some (oZ, hZ)) : xW sc m_P_token (D + d + 9) Q (u) 183 [none, none, some (vR l2), none] [vI t0, vR t1, vR t2] := by
  unfold f_P_token_b183 at h
  obtain ⟨c1, h⟩ := ite_some h
  obtain ⟨u2, e3, h⟩ := Option.bind_eq_some_iff.mp h
  refine c_invv (c := 2) (d := D + d + 8) (av := [vR t1, vI t0]) (st := []) (Q' := fun r h' => r = .inl none ∧ h' = u2) (pc := 183) d_P_token_183 cv_P_443 y_Slot_named c1 rfl (Nat.le_of_ble_eq_true rfl) (Nat.le_of_ble_eq_true rfl) (w_Slot_named (d := D + d + 7) (Q := fun r h' => r = .inl none ∧ h' = u2) ⟨rfl, rfl⟩ u t2 t1 t0 e3) (fun v h' z => ?_) (fun a h' z => nomatch z.1)
  obtain ⟨z1, z2⟩ := z
  subst h'
  cases z1
  show xW sc m_P_token (D + d + 9) Q (u2) 186 [none, none, some (vR l2), none] []
  refine x_aload_n (pc := 186) d_P_token_186 rfl ?_
  cases h
  exact x_aret (pc := 187) d_P_token_187 rfl (Or.inl ⟨_, rfl⟩) hQ
def f_P_token_b164 (rc : rcT) (sc : xSc)  (l0 : Option Nat) (l2 : Option Nat) (l3 : Int32) (t0 : Int32) (t1 : Option Nat) (u : xH) : Option ((Option Nat ⊕ Nat) × xH) := (if xis sc u 0 t1 = true then tB (f_P_need sc u t1 t0 (15 : Int32)) (fun v3 u2 => (if xis sc u2 0 l0 = true then tB (f_P_known sc u2 l0) (fun v9 u8 => (if l3 = 0 then f_P_token_b183 rc sc l2 (1 : Int32) v9 l2 u8 else f_P_token_b183 rc sc l2 (0 : Int32) v9 l2 u8)) (fun a11 u12 => some (.inr a11, u12)) else none)) (fun a5 u6 => some (.inr a5, u6)) else none)
theorem w_P_token_b164 {rc : rcT} {D : Nat} {sc : xSc} {d : Nat} {Q : xR → xH → Prop} {oZ : Option Nat ⊕ Nat} {hZ : xH} (hrc : rcTOK sc D rc)  (hQ : Q (cvR oZ) hZ) (l0 : Option Nat) (l2 : Option Nat) (l3 : Int32) (t0 : Int32) (t1 : Option Nat) (u : xH) (h : f_P_token_b164 rc sc  l0 l2 l3 t0 t1 u = some (oZ, hZ)) : xW sc m_P_token (D + d + 9) Q (u) 164 [some (vR l0), none, some (vR l2), some (vI l3)] [vI t0, vR t1] := by
  unfold f_P_token_b164 at h
  refine x_bipush (v := (15 : Int32)) (pc := 164) d_P_token_164 (by decide) ?_
  obtain ⟨c1, h⟩ := ite_some h
  rcases tB_s h with ⟨a5, u6, e4, h⟩ | ⟨v3, u2, e4, h⟩
  · refine c_invv (c := 0) (d := D + d + 8) (av := [vI t0, vI (15 : Int32)]) (st := []) (Q' := fun r h' => r = .inr a5 ∧ h' = u6) (pc := 166) d_P_token_166 cv_P_170 y_P_need c1 rfl (Nat.le_of_ble_eq_true rfl) (Nat.le_of_ble_eq_true rfl) (w_P_need (d := D + d + 2) (Q := fun r h' => r = .inr a5 ∧ h' = u6) ⟨rfl, rfl⟩ u t1 t0 (15 : Int32) e4) (fun v h' z => nomatch z.1) (fun a h' z => ?_)
    obtain ⟨z1, z2⟩ := z
    subst h'
    cases z1
    cases h
    exact x_thOut (xno rfl) hQ
  refine c_invv (c := 0) (d := D + d + 8) (av := [vI t0, vI (15 : Int32)]) (st := []) (Q' := fun r h' => r = .inl none ∧ h' = u2) (pc := 166) d_P_token_166 cv_P_170 y_P_need c1 rfl (Nat.le_of_ble_eq_true rfl) (Nat.le_of_ble_eq_true rfl) (w_P_need (d := D + d + 2) (Q := fun r h' => r = .inl none ∧ h' = u2) ⟨rfl, rfl⟩ u t1 t0 (15 : Int32) e4) (fun v h' z => ?_) (fun a h' z => nomatch z.1)
  obtain ⟨z1, z2⟩ := z
  subst h'
  cases z1
  show xW sc m_P_token (D + d + 9) Q (u2) 169 [some (vR l0), none, some (vR l2), some (vI l3)] []
  refine x_aload_n (pc := 169) d_P_token_169 rfl ?_
  refine x_aload_n (pc := 170) d_P_token_170 rfl ?_
  obtain ⟨c7, h⟩ := ite_some h
  rcases tB_s h with ⟨a11, u12, e10, h⟩ | ⟨v9, u8, e10, h⟩
  · refine c_invv (c := 0) (d := D + d + 8) (av := []) (st := [vR l2]) (Q' := fun r h' => r = .inr a11 ∧ h' = u12) (pc := 171) d_P_token_171 cv_P_439 y_P_known c7 rfl (Nat.le_of_ble_eq_true rfl) (Nat.le_of_ble_eq_true rfl) (w_P_known (d := D + d + 1) (Q := fun r h' => r = .inr a11 ∧ h' = u12) ⟨rfl, rfl⟩ u2 l0 e10) (fun v h' z => nomatch z.1) (fun a h' z => ?_)
    obtain ⟨z1, z2⟩ := z
    subst h'
    cases z1
    cases h
    exact x_thOut (xno rfl) hQ
  refine c_invv (c := 0) (d := D + d + 8) (av := []) (st := [vR l2]) (Q' := fun r h' => r = .inl (some (vR v9)) ∧ h' = u8) (pc := 171) d_P_token_171 cv_P_439 y_P_known c7 rfl (Nat.le_of_ble_eq_true rfl) (Nat.le_of_ble_eq_true rfl) (w_P_known (d := D + d + 1) (Q := fun r h' => r = .inl (some (vR v9)) ∧ h' = u8) ⟨rfl, rfl⟩ u2 l0 e10) (fun v h' z => ?_) (fun a h' z => nomatch z.1)
  obtain ⟨z1, z2⟩ := z
  subst h'
  cases z1
  show xW sc m_P_token (D + d + 9) Q (u8) 174 [some (vR l0), none, some (vR l2), some (vI l3)] [vR v9, vR l2]
  refine x_iload_n (pc := 174) d_P_token_174 rfl ?_
  refine x_if_ne (tgt := 182) (pc := 175) d_P_token_175 (by decide) (fun c13 => ?_) (fun c13 => ?_)
  · rw [if_neg c13] at h
    refine x_iconst (v := (0 : Int32)) (pc := 182) d_P_token_182 (by decide) ?_
    exact x_wk (L' := [none, none, some (vR l2), none]) ⟨Or.inl rfl, Or.inl rfl, Or.inr rfl, Or.inl rfl, trivial⟩ (w_P_token_b183 hrc hQ l2 (0 : Int32) v9 l2 u8 h)
  · rw [if_pos c13] at h
    refine x_iconst (v := (1 : Int32)) (pc := 178) d_P_token_178 (by decide) ?_
    refine x_goto (tgt := 183) (pc := 179) d_P_token_179 (by decide) ?_
    exact x_wk (L' := [none, none, some (vR l2), none]) ⟨Or.inl rfl, Or.inl rfl, Or.inr rfl, Or.inl rfl, trivial⟩ (w_P_token_b183 hrc hQ l2 (1 : Int32) v9 l2 u8 h)
def f_P_token_b148 (rc : rcT) (sc : xSc)  (l0 : Option Nat) (l2 : Option Nat) (l3 : Int32) (u : xH) : Option ((Option Nat ⊕ Nat) × xH) := (gR sc u 0 3 l0).bind fun v1 => (if xis sc u 16 v1 = true then (f_StringBuilder_length sc u v1).bind fun v4 => (if v4 ≤ 0 then f_P_token_b164 rc sc l0 l2 l3 (0 : Int32) l0 u else f_P_token_b164 rc sc l0 l2 l3 (1 : Int32) l0 u) else none)
theorem w_P_token_b148 {rc : rcT} {D : Nat} {sc : xSc} {d : Nat} {Q : xR → xH → Prop} {oZ : Option Nat ⊕ Nat} {hZ : xH} (hrc : rcTOK sc D rc)  (hQ : Q (cvR oZ) hZ) (l0 : Option Nat) (l2 : Option Nat) (l3 : Int32) (u : xH) (h : f_P_token_b148 rc sc  l0 l2 l3 u = some (oZ, hZ)) : xW sc m_P_token (D + d + 9) Q (u) 148 [some (vR l0), none, some (vR l2), some (vI l3)] [] := by
  unfold f_P_token_b148 at h
  refine x_aload_n (pc := 148) d_P_token_148 rfl ?_
  refine x_aload_n (pc := 149) d_P_token_149 rfl ?_
  obtain ⟨v1, e2, h⟩ := Option.bind_eq_some_iff.mp h
  refine c_getR (pc := 150) d_P_token_150 l_P_48 e2 ?_
  obtain ⟨c3, h⟩ := ite_some h
  obtain ⟨v4, e5, h⟩ := Option.bind_eq_some_iff.mp h
  refine c_invv (c := 16) (d := D + d + 8) (av := []) (st := [vR l0]) (Q' := fun r h' => r = .inl (some (vI v4)) ∧ h' = u) (pc := 153) d_P_token_153 cv_P_396 y_StringBuilder_length c3 rfl (Nat.le_of_ble_eq_true rfl) (Nat.le_of_ble_eq_true rfl) (w_StringBuilder_length (d := D + d + 7) (Q := fun r h' => r = .inl (some (vI v4)) ∧ h' = u) ⟨rfl, rfl⟩ v1 e5) (fun v h' z => ?_) (fun a h' z => nomatch z.1)
  obtain ⟨z1, z2⟩ := z
  subst h'
  cases z1
  show xW sc m_P_token (D + d + 9) Q (u) 156 [some (vR l0), none, some (vR l2), some (vI l3)] [vI v4, vR l0]
  refine x_if_le (tgt := 163) (pc := 156) d_P_token_156 (by decide) (fun c6 => ?_) (fun c6 => ?_)
  · rw [if_pos c6] at h
    refine x_iconst (v := (0 : Int32)) (pc := 163) d_P_token_163 (by decide) ?_
    exact w_P_token_b164 hrc hQ l0 l2 l3 (0 : Int32) l0 u h
  · rw [if_neg c6] at h
    refine x_iconst (v := (1 : Int32)) (pc := 159) d_P_token_159 (by decide) ?_
    refine x_goto (tgt := 164) (pc := 160) d_P_token_160 (by decide) ?_
    exact w_P_token_b164 hrc hQ l0 l2 l3 (1 : Int32) l0 u h
def f_P_token_b126 (rc : rcT) (sc : xSc)  : Nat → Option Nat → Option Nat → Int32 → xH → Option ((Option Nat ⊕ Nat) × xH)
  | 0, _, _, _, _ => none
  | n + 1, l0, l2, l3, u => (if xis sc u 0 l0 = true then (f_P_isLetter sc u l0).bind fun v2 => (if v2 = 0 then f_P_token_b148 rc sc l0 l2 l3 u else (gR sc u 0 3 l0).bind fun v5 => (if xis sc u 0 l0 = true then (f_P_next sc u l0).bind fun (v9, u8) => (if xis sc u8 16 v5 = true then (f_StringBuilder_append0 sc u8 v5 v9).bind fun (v13, u12) => (f_P_token_b126 rc sc n) l0 l2 l3 u12 else none) else none)) else none)
theorem w_P_token_b126 {rc : rcT} {D : Nat} {sc : xSc} {d : Nat} {Q : xR → xH → Prop} {oZ : Option Nat ⊕ Nat} {hZ : xH} (hrc : rcTOK sc D rc)  (hQ : Q (cvR oZ) hZ) : ∀ (n : Nat) (l0 : Option Nat) (l2 : Option Nat) (l3 : Int32) (u : xH), f_P_token_b126 rc sc  n l0 l2 l3 u = some (oZ, hZ) → xW sc m_P_token (D + d + 9) Q (u) 126 [some (vR l0), none, some (vR l2), some (vI l3)] [] := by
  intro n
  induction n with
  | zero =>
    intro l0 l2 l3 u h
    cases h
  | succ n hk126 =>
    intro l0 l2 l3 u h
    unfold f_P_token_b126 at h
    refine x_aload_n (pc := 126) d_P_token_126 rfl ?_
    obtain ⟨c1, h⟩ := ite_some h
    obtain ⟨v2, e3, h⟩ := Option.bind_eq_some_iff.mp h
    refine c_invv (c := 0) (d := D + d + 8) (av := []) (st := []) (Q' := fun r h' => r = .inl (some (vI v2)) ∧ h' = u) (pc := 127) d_P_token_127 cv_P_436 y_P_isLetter c1 rfl (Nat.le_of_ble_eq_true rfl) (Nat.le_of_ble_eq_true rfl) (w_P_isLetter (d := D + d + 3) (Q := fun r h' => r = .inl (some (vI v2)) ∧ h' = u) ⟨rfl, rfl⟩ l0 e3) (fun v h' z => ?_) (fun a h' z => nomatch z.1)
    obtain ⟨z1, z2⟩ := z
    subst h'
    cases z1
    show xW sc m_P_token (D + d + 9) Q (u) 130 [some (vR l0), none, some (vR l2), some (vI l3)] [vI v2]
    refine x_if_eq (tgt := 148) (pc := 130) d_P_token_130 (by decide) (fun c4 => ?_) (fun c4 => ?_)
    · rw [if_pos c4] at h
      exact w_P_token_b148 hrc hQ l0 l2 l3 u h
    · rw [if_neg c4] at h
      refine x_aload_n (pc := 133) d_P_token_133 rfl ?_
      obtain ⟨v5, e6, h⟩ := Option.bind_eq_some_iff.mp h
      refine c_getR (pc := 134) d_P_token_134 l_P_48 e6 ?_
      refine x_aload_n (pc := 137) d_P_token_137 rfl ?_
      obtain ⟨c7, h⟩ := ite_some h
      obtain ⟨⟨v9, u8⟩, e10, h⟩ := Option.bind_eq_some_iff.mp h
      dsimp only at h
      refine c_invv (c := 0) (d := D + d + 8) (av := []) (st := [vR v5]) (Q' := fun r h' => r = .inl (some (vI v9)) ∧ h' = u8) (pc := 138) d_P_token_138 cv_P_429 y_P_next c7 rfl (Nat.le_of_ble_eq_true rfl) (Nat.le_of_ble_eq_true rfl) (w_P_next (d := D + d + 4) (Q := fun r h' => r = .inl (some (vI v9)) ∧ h' = u8) ⟨rfl, rfl⟩ u l0 e10) (fun v h' z => ?_) (fun a h' z => nomatch z.1)
      obtain ⟨z1, z2⟩ := z
      subst h'
      cases z1
      show xW sc m_P_token (D + d + 9) Q (u8) 141 [some (vR l0), none, some (vR l2), some (vI l3)] [vI v9, vR v5]
      obtain ⟨c11, h⟩ := ite_some h
      obtain ⟨⟨v13, u12⟩, e14, h⟩ := Option.bind_eq_some_iff.mp h
      dsimp only at h
      refine c_invv (c := 16) (d := D + d + 8) (av := [vI v9]) (st := []) (Q' := fun r h' => r = .inl (some (vR v13)) ∧ h' = u12) (pc := 141) d_P_token_141 cv_P_432 y_StringBuilder_append0 c11 rfl (Nat.le_of_ble_eq_true rfl) (Nat.le_of_ble_eq_true rfl) (w_StringBuilder_append0 (d := D + d + 3) (Q := fun r h' => r = .inl (some (vR v13)) ∧ h' = u12) ⟨rfl, rfl⟩ u8 v5 v9 e14) (fun v h' z => ?_) (fun a h' z => nomatch z.1)
      obtain ⟨z1, z2⟩ := z
      subst h'
      cases z1
      show xW sc m_P_token (D + d + 9) Q (u12) 144 [some (vR l0), none, some (vR l2), some (vI l3)] [vR v13]
      refine x_pop (pc := 144) d_P_token_144 rfl ?_
      refine x_goto (tgt := 126) (pc := 145) d_P_token_145 (by decide) ?_
      exact hk126 l0 l2 l3 u12 h
def f_P_token_b111 (rc : rcT) (sc : xSc)  (l0 : Option Nat) (l2 : Option Nat) (l3 : Int32) (u : xH) : Option ((Option Nat ⊕ Nat) × xH) := (gR sc u 0 3 l0).bind fun v1 => (if xis sc u 0 l0 = true then (f_P_next sc u l0).bind fun (v5, u4) => (if xis sc u4 16 v1 = true then (f_StringBuilder_append0 sc u4 v1 v5).bind fun (v9, u8) => f_P_token_b148 rc sc l0 l2 l3 u8 else none) else none)
theorem w_P_token_b111 {rc : rcT} {D : Nat} {sc : xSc} {d : Nat} {Q : xR → xH → Prop} {oZ : Option Nat ⊕ Nat} {hZ : xH} (hrc : rcTOK sc D rc)  (hQ : Q (cvR oZ) hZ) (l0 : Option Nat) (l2 : Option Nat) (l3 : Int32) (u : xH) (h : f_P_token_b111 rc sc  l0 l2 l3 u = some (oZ, hZ)) : xW sc m_P_token (D + d + 9) Q (u) 111 [some (vR l0), none, some (vR l2), some (vI l3)] [] := by
  unfold f_P_token_b111 at h
  refine x_aload_n (pc := 111) d_P_token_111 rfl ?_
  obtain ⟨v1, e2, h⟩ := Option.bind_eq_some_iff.mp h
  refine c_getR (pc := 112) d_P_token_112 l_P_48 e2 ?_
  refine x_aload_n (pc := 115) d_P_token_115 rfl ?_
  obtain ⟨c3, h⟩ := ite_some h
  obtain ⟨⟨v5, u4⟩, e6, h⟩ := Option.bind_eq_some_iff.mp h
  dsimp only at h
  refine c_invv (c := 0) (d := D + d + 8) (av := []) (st := [vR v1]) (Q' := fun r h' => r = .inl (some (vI v5)) ∧ h' = u4) (pc := 116) d_P_token_116 cv_P_429 y_P_next c3 rfl (Nat.le_of_ble_eq_true rfl) (Nat.le_of_ble_eq_true rfl) (w_P_next (d := D + d + 4) (Q := fun r h' => r = .inl (some (vI v5)) ∧ h' = u4) ⟨rfl, rfl⟩ u l0 e6) (fun v h' z => ?_) (fun a h' z => nomatch z.1)
  obtain ⟨z1, z2⟩ := z
  subst h'
  cases z1
  show xW sc m_P_token (D + d + 9) Q (u4) 119 [some (vR l0), none, some (vR l2), some (vI l3)] [vI v5, vR v1]
  obtain ⟨c7, h⟩ := ite_some h
  obtain ⟨⟨v9, u8⟩, e10, h⟩ := Option.bind_eq_some_iff.mp h
  dsimp only at h
  refine c_invv (c := 16) (d := D + d + 8) (av := [vI v5]) (st := []) (Q' := fun r h' => r = .inl (some (vR v9)) ∧ h' = u8) (pc := 119) d_P_token_119 cv_P_432 y_StringBuilder_append0 c7 rfl (Nat.le_of_ble_eq_true rfl) (Nat.le_of_ble_eq_true rfl) (w_StringBuilder_append0 (d := D + d + 3) (Q := fun r h' => r = .inl (some (vR v9)) ∧ h' = u8) ⟨rfl, rfl⟩ u4 v1 v5 e10) (fun v h' z => ?_) (fun a h' z => nomatch z.1)
  obtain ⟨z1, z2⟩ := z
  subst h'
  cases z1
  show xW sc m_P_token (D + d + 9) Q (u8) 122 [some (vR l0), none, some (vR l2), some (vI l3)] [vR v9]
  refine x_pop (pc := 122) d_P_token_122 rfl ?_
  refine x_goto (tgt := 148) (pc := 123) d_P_token_123 (by decide) ?_
  exact w_P_token_b148 hrc hQ l0 l2 l3 u8 h
def f_P_token_b77 (rc : rcT) (sc : xSc)  (l0 : Option Nat) (l2 : Option Nat) (l3 : Int32) (t0 : Int32) (t1 : Int32) (t2 : Option Nat) (u : xH) : Option ((Option Nat ⊕ Nat) × xH) := (pV u 0 5 t2 (vI (t1 + t0))).bind fun u1 => (gR sc u1 0 3 l0).bind fun v3 => (if xis sc u1 16 v3 = true then (f_StringBuilder_setLength sc u1 v3 (0 : Int32)).bind fun u6 => (if l3 = 0 then (if xis sc u6 0 l0 = true then (f_P_here sc u6 l0).bind fun v10 => (if v10 = (91 : Int32) then f_P_token_b111 rc sc l0 l2 l3 u6 else (if xis sc u6 0 l0 = true then (f_P_here sc u6 l0).bind fun v14 => (if v14 = (93 : Int32) then f_P_token_b111 rc sc l0 l2 l3 u6 else f_P_token_b126 rc sc mF l0 l2 l3 u6) else none)) else none) else f_P_token_b126 rc sc mF l0 l2 l3 u6) else none)
theorem w_P_token_b77 {rc : rcT} {D : Nat} {sc : xSc} {d : Nat} {Q : xR → xH → Prop} {oZ : Option Nat ⊕ Nat} {hZ : xH} (hrc : rcTOK sc D rc)  (hQ : Q (cvR oZ) hZ) (l0 : Option Nat) (l2 : Option Nat) (l3 : Int32) (t0 : Int32) (t1 : Int32) (t2 : Option Nat) (u : xH) (h : f_P_token_b77 rc sc  l0 l2 l3 t0 t1 t2 u = some (oZ, hZ)) : xW sc m_P_token (D + d + 9) Q (u) 77 [some (vR l0), none, some (vR l2), some (vI l3)] [vI t0, vI t1, vR t2] := by
  unfold f_P_token_b77 at h
  refine x_iadd (pc := 77) d_P_token_77 ?_
  obtain ⟨u1, e2, h⟩ := Option.bind_eq_some_iff.mp h
  refine c_putf (pc := 78) d_P_token_78 l_P_393 fp_0_5 (xfit_int) e2 ?_
  refine x_aload_n (pc := 81) d_P_token_81 rfl ?_
  obtain ⟨v3, e4, h⟩ := Option.bind_eq_some_iff.mp h
  refine c_getR (pc := 82) d_P_token_82 l_P_48 e4 ?_
  refine x_iconst (v := (0 : Int32)) (pc := 85) d_P_token_85 (by decide) ?_
  obtain ⟨c5, h⟩ := ite_some h
  obtain ⟨u6, e7, h⟩ := Option.bind_eq_some_iff.mp h
  refine c_invv (c := 16) (d := D + d + 8) (av := [vI (0 : Int32)]) (st := []) (Q' := fun r h' => r = .inl none ∧ h' = u6) (pc := 86) d_P_token_86 cv_P_426 y_StringBuilder_setLength c5 rfl (Nat.le_of_ble_eq_true rfl) (Nat.le_of_ble_eq_true rfl) (w_StringBuilder_setLength (d := D + d + 3) (Q := fun r h' => r = .inl none ∧ h' = u6) ⟨rfl, rfl⟩ u1 v3 (0 : Int32) e7) (fun v h' z => ?_) (fun a h' z => nomatch z.1)
  obtain ⟨z1, z2⟩ := z
  subst h'
  cases z1
  show xW sc m_P_token (D + d + 9) Q (u6) 89 [some (vR l0), none, some (vR l2), some (vI l3)] []
  refine x_iload_n (pc := 89) d_P_token_89 rfl ?_
  refine x_if_ne (tgt := 126) (pc := 90) d_P_token_90 (by decide) (fun c8 => ?_) (fun c8 => ?_)
  · rw [if_neg c8] at h
    exact w_P_token_b126 hrc hQ mF l0 l2 l3 u6 h
  · rw [if_pos c8] at h
    refine x_aload_n (pc := 93) d_P_token_93 rfl ?_
    obtain ⟨c9, h⟩ := ite_some h
    obtain ⟨v10, e11, h⟩ := Option.bind_eq_some_iff.mp h
    refine c_invv (c := 0) (d := D + d + 8) (av := []) (st := []) (Q' := fun r h' => r = .inl (some (vI v10)) ∧ h' = u6) (pc := 94) d_P_token_94 cv_P_398 y_P_here c9 rfl (Nat.le_of_ble_eq_true rfl) (Nat.le_of_ble_eq_true rfl) (w_P_here (d := D + d + 4) (Q := fun r h' => r = .inl (some (vI v10)) ∧ h' = u6) ⟨rfl, rfl⟩ l0 e11) (fun v h' z => ?_) (fun a h' z => nomatch z.1)
    obtain ⟨z1, z2⟩ := z
    subst h'
    cases z1
    show xW sc m_P_token (D + d + 9) Q (u6) 97 [some (vR l0), none, some (vR l2), some (vI l3)] [vI v10]
    refine x_bipush (v := (91 : Int32)) (pc := 97) d_P_token_97 (by decide) ?_
    refine x_icmp_eq (tgt := 111) (pc := 99) d_P_token_99 (by decide) (fun c12 => ?_) (fun c12 => ?_)
    · rw [if_pos c12] at h
      exact w_P_token_b111 hrc hQ l0 l2 l3 u6 h
    · rw [if_neg c12] at h
      refine x_aload_n (pc := 102) d_P_token_102 rfl ?_
      obtain ⟨c13, h⟩ := ite_some h
      obtain ⟨v14, e15, h⟩ := Option.bind_eq_some_iff.mp h
      refine c_invv (c := 0) (d := D + d + 8) (av := []) (st := []) (Q' := fun r h' => r = .inl (some (vI v14)) ∧ h' = u6) (pc := 103) d_P_token_103 cv_P_398 y_P_here c13 rfl (Nat.le_of_ble_eq_true rfl) (Nat.le_of_ble_eq_true rfl) (w_P_here (d := D + d + 4) (Q := fun r h' => r = .inl (some (vI v14)) ∧ h' = u6) ⟨rfl, rfl⟩ l0 e15) (fun v h' z => ?_) (fun a h' z => nomatch z.1)
      obtain ⟨z1, z2⟩ := z
      subst h'
      cases z1
      show xW sc m_P_token (D + d + 9) Q (u6) 106 [some (vR l0), none, some (vR l2), some (vI l3)] [vI v14]
      refine x_bipush (v := (93 : Int32)) (pc := 106) d_P_token_106 (by decide) ?_
      refine x_icmp_ne (tgt := 126) (pc := 108) d_P_token_108 (by decide) (fun c16 => ?_) (fun c16 => ?_)
      · rw [if_neg c16] at h
        exact w_P_token_b126 hrc hQ mF l0 l2 l3 u6 h
      · rw [if_pos c16] at h
        exact w_P_token_b111 hrc hQ l0 l2 l3 u6 h
def f_P_token_b62 (rc : rcT) (sc : xSc)  (l0 : Option Nat) (l2 : Option Nat) (t0 : Int32) (u : xH) : Option ((Option Nat ⊕ Nat) × xH) := (gI sc u 0 5 l0).bind fun v1 => (if t0 = 0 then f_P_token_b77 rc sc l0 l2 t0 (0 : Int32) v1 l0 u else f_P_token_b77 rc sc l0 l2 t0 (1 : Int32) v1 l0 u)
theorem w_P_token_b62 {rc : rcT} {D : Nat} {sc : xSc} {d : Nat} {Q : xR → xH → Prop} {oZ : Option Nat ⊕ Nat} {hZ : xH} (hrc : rcTOK sc D rc)  (hQ : Q (cvR oZ) hZ) (l0 : Option Nat) (l2 : Option Nat) (t0 : Int32) (u : xH) (h : f_P_token_b62 rc sc  l0 l2 t0 u = some (oZ, hZ)) : xW sc m_P_token (D + d + 9) Q (u) 62 [some (vR l0), none, some (vR l2), none] [vI t0] := by
  unfold f_P_token_b62 at h
  refine x_istore_n (pc := 62) d_P_token_62 (by decide) ?_
  show xW sc m_P_token (D + d + 9) Q (u) 63 [some (vR l0), none, some (vR l2), some (vI t0)] []
  refine x_aload_n (pc := 63) d_P_token_63 rfl ?_
  refine x_dup (pc := 64) d_P_token_64 rfl ?_
  obtain ⟨v1, e2, h⟩ := Option.bind_eq_some_iff.mp h
  refine c_getI (pc := 65) d_P_token_65 l_P_393 e2 ?_
  refine x_iload_n (pc := 68) d_P_token_68 rfl ?_
  refine x_if_eq (tgt := 76) (pc := 69) d_P_token_69 (by decide) (fun c3 => ?_) (fun c3 => ?_)
  · rw [if_pos c3] at h
    refine x_iconst (v := (0 : Int32)) (pc := 76) d_P_token_76 (by decide) ?_
    exact w_P_token_b77 hrc hQ l0 l2 t0 (0 : Int32) v1 l0 u h
  · rw [if_neg c3] at h
    refine x_iconst (v := (1 : Int32)) (pc := 72) d_P_token_72 (by decide) ?_
    refine x_goto (tgt := 77) (pc := 73) d_P_token_73 (by decide) ?_
    exact w_P_token_b77 hrc hQ l0 l2 t0 (1 : Int32) v1 l0 u h
def f_P_token_b41 (rc : rcT) (sc : xSc)  (l0 : Option Nat) (l2 : Option Nat) (u : xH) : Option ((Option Nat ⊕ Nat) × xH) := (if xis sc u 0 l0 = true then tB (f_P_numeral sc u l0 l2) (fun v3 u2 => some (.inl l2, u2)) (fun a5 u6 => some (.inr a5, u6)) else none)
theorem w_P_token_b41 {rc : rcT} {D : Nat} {sc : xSc} {d : Nat} {Q : xR → xH → Prop} {oZ : Option Nat ⊕ Nat} {hZ : xH} (hrc : rcTOK sc D rc)  (hQ : Q (cvR oZ) hZ) (l0 : Option Nat) (l2 : Option Nat) (u : xH) (h : f_P_token_b41 rc sc  l0 l2 u = some (oZ, hZ)) : xW sc m_P_token (D + d + 9) Q (u) 41 [some (vR l0), none, some (vR l2), none] [] := by
  unfold f_P_token_b41 at h
  refine x_aload_n (pc := 41) d_P_token_41 rfl ?_
  refine x_aload_n (pc := 42) d_P_token_42 rfl ?_
  obtain ⟨c1, h⟩ := ite_some h
  rcases tB_s h with ⟨a5, u6, e4, h⟩ | ⟨v3, u2, e4, h⟩
  · refine c_invv (c := 0) (d := D + d + 8) (av := [vR l2]) (st := []) (Q' := fun r h' => r = .inr a5 ∧ h' = u6) (pc := 43) d_P_token_43 cv_P_423 y_P_numeral c1 rfl (Nat.le_of_ble_eq_true rfl) (Nat.le_of_ble_eq_true rfl) (w_P_numeral (d := D + d + 0) (Q := fun r h' => r = .inr a5 ∧ h' = u6) ⟨rfl, rfl⟩ u l0 l2 e4) (fun v h' z => nomatch z.1) (fun a h' z => ?_)
    obtain ⟨z1, z2⟩ := z
    subst h'
    cases z1
    cases h
    exact x_thOut (xno rfl) hQ
  refine c_invv (c := 0) (d := D + d + 8) (av := [vR l2]) (st := []) (Q' := fun r h' => r = .inl none ∧ h' = u2) (pc := 43) d_P_token_43 cv_P_423 y_P_numeral c1 rfl (Nat.le_of_ble_eq_true rfl) (Nat.le_of_ble_eq_true rfl) (w_P_numeral (d := D + d + 0) (Q := fun r h' => r = .inl none ∧ h' = u2) ⟨rfl, rfl⟩ u l0 l2 e4) (fun v h' z => ?_) (fun a h' z => nomatch z.1)
  obtain ⟨z1, z2⟩ := z
  subst h'
  cases z1
  show xW sc m_P_token (D + d + 9) Q (u2) 46 [some (vR l0), none, some (vR l2), none] []
  refine x_aload_n (pc := 46) d_P_token_46 rfl ?_
  cases h
  exact x_aret (pc := 47) d_P_token_47 rfl (Or.inl ⟨_, rfl⟩) hQ
def f_P_token (rc : rcT) (sc : xSc) (u : xH) (a0 : Option Nat) (a1 : Int32) : Option ((Option Nat ⊕ Nat) × xH) := (if xis sc u 0 a0 = true then (f_P_here sc u a0).bind fun v2 => (if v2 = (123 : Int32) then tB (f_P_procedure rc sc u a0 (a1 + (1 : Int32))) (fun v24 u23 => some (.inl v24, u23)) (fun a26 u27 => some (.inr a26, u27)) else (if xis sc u 0 a0 = true then (f_P_drafts sc u a0).bind fun (v7, u6) => (if xis sc u6 0 a0 = true then (f_P_here sc u6 a0).bind fun v10 => (f_P_isDigit v10).bind fun v12 => (if v12 = 0 then (if xis sc u6 0 a0 = true then (f_P_here sc u6 a0).bind fun v16 => (if v16 = (45 : Int32) then f_P_token_b41 rc sc a0 v7 u6 else (if xis sc u6 0 a0 = true then (f_P_here sc u6 a0).bind fun v20 => (if v20 = (47 : Int32) then f_P_token_b62 rc sc a0 v7 (1 : Int32) u6 else f_P_token_b62 rc sc a0 v7 (0 : Int32) u6) else none)) else none) else f_P_token_b41 rc sc a0 v7 u6) else none) else none)) else none)
theorem w_P_token {rc : rcT} {D : Nat} {sc : xSc} {d : Nat} {Q : xR → xH → Prop} {oZ : Option Nat ⊕ Nat} {hZ : xH} (hrc : rcTOK sc D rc) (hQ : Q (cvR oZ) hZ) (u : xH) (a0 : Option Nat) (a1 : Int32) (h : f_P_token rc sc u a0 a1 = some (oZ, hZ)) : xW sc m_P_token (D + d + 9) Q (u) 0 (xent [vR a0, vI a1] m_P_token.2.2.1) [] := by
  show xW sc m_P_token (D + d + 9) Q (u) 0 [some (vR a0), some (vI a1), none, none] []
  unfold f_P_token at h
  refine x_aload_n (pc := 0) d_P_token_0 rfl ?_
  obtain ⟨c1, h⟩ := ite_some h
  obtain ⟨v2, e3, h⟩ := Option.bind_eq_some_iff.mp h
  refine c_invv (c := 0) (d := D + d + 8) (av := []) (st := []) (Q' := fun r h' => r = .inl (some (vI v2)) ∧ h' = u) (pc := 1) d_P_token_1 cv_P_398 y_P_here c1 rfl (Nat.le_of_ble_eq_true rfl) (Nat.le_of_ble_eq_true rfl) (w_P_here (d := D + d + 4) (Q := fun r h' => r = .inl (some (vI v2)) ∧ h' = u) ⟨rfl, rfl⟩ a0 e3) (fun v h' z => ?_) (fun a h' z => nomatch z.1)
  obtain ⟨z1, z2⟩ := z
  subst h'
  cases z1
  show xW sc m_P_token (D + d + 9) Q (u) 4 [some (vR a0), some (vI a1), none, none] [vI v2]
  refine x_bipush (v := (123 : Int32)) (pc := 4) d_P_token_4 (by decide) ?_
  refine x_icmp_ne (tgt := 17) (pc := 6) d_P_token_6 (by decide) (fun c4 => ?_) (fun c4 => ?_)
  · rw [if_neg c4] at h
    refine x_aload_n (pc := 17) d_P_token_17 rfl ?_
    obtain ⟨c5, h⟩ := ite_some h
    obtain ⟨⟨v7, u6⟩, e8, h⟩ := Option.bind_eq_some_iff.mp h
    dsimp only at h
    refine c_invv (c := 0) (d := D + d + 8) (av := []) (st := []) (Q' := fun r h' => r = .inl (some (vR v7)) ∧ h' = u6) (pc := 18) d_P_token_18 cv_P_415 y_P_drafts c5 rfl (Nat.le_of_ble_eq_true rfl) (Nat.le_of_ble_eq_true rfl) (w_P_drafts (d := D + d + 6) (Q := fun r h' => r = .inl (some (vR v7)) ∧ h' = u6) ⟨rfl, rfl⟩ u a0 e8) (fun v h' z => ?_) (fun a h' z => nomatch z.1)
    obtain ⟨z1, z2⟩ := z
    subst h'
    cases z1
    show xW sc m_P_token (D + d + 9) Q (u6) 21 [some (vR a0), some (vI a1), none, none] [vR v7]
    refine x_astore_n (pc := 21) d_P_token_21 (by decide) ?_
    show xW sc m_P_token (D + d + 9) Q (u6) 22 [some (vR a0), some (vI a1), some (vR v7), none] []
    refine x_aload_n (pc := 22) d_P_token_22 rfl ?_
    obtain ⟨c9, h⟩ := ite_some h
    obtain ⟨v10, e11, h⟩ := Option.bind_eq_some_iff.mp h
    refine c_invv (c := 0) (d := D + d + 8) (av := []) (st := []) (Q' := fun r h' => r = .inl (some (vI v10)) ∧ h' = u6) (pc := 23) d_P_token_23 cv_P_398 y_P_here c9 rfl (Nat.le_of_ble_eq_true rfl) (Nat.le_of_ble_eq_true rfl) (w_P_here (d := D + d + 4) (Q := fun r h' => r = .inl (some (vI v10)) ∧ h' = u6) ⟨rfl, rfl⟩ a0 e11) (fun v h' z => ?_) (fun a h' z => nomatch z.1)
    obtain ⟨z1, z2⟩ := z
    subst h'
    cases z1
    show xW sc m_P_token (D + d + 9) Q (u6) 26 [some (vR a0), some (vI a1), some (vR v7), none] [vI v10]
    obtain ⟨v12, e13, h⟩ := Option.bind_eq_some_iff.mp h
    refine x_invs (d := D + d + 8) (av := [vI v10]) (st := []) (Q' := fun r h' => r = .inl (some (vI v12)) ∧ h' = u6) (pc := 26) d_P_token_26 cs_P_419 y_P_isDigit rfl (Nat.le_of_ble_eq_true rfl) (Nat.le_of_ble_eq_true rfl) (w_P_isDigit (d := D + d + 8) (Q := fun r h' => r = .inl (some (vI v12)) ∧ h' = u6) (hh := u6) ⟨rfl, rfl⟩ v10 e13) (fun v h' z => ?_) (fun a h' z => nomatch z.1)
    obtain ⟨z1, z2⟩ := z
    subst h'
    cases z1
    show xW sc m_P_token (D + d + 9) Q (u6) 29 [some (vR a0), some (vI a1), some (vR v7), none] [vI v12]
    refine x_if_ne (tgt := 41) (pc := 29) d_P_token_29 (by decide) (fun c14 => ?_) (fun c14 => ?_)
    · rw [if_neg c14] at h
      exact x_wk (L' := [some (vR a0), none, some (vR v7), none]) ⟨Or.inr rfl, Or.inl rfl, Or.inr rfl, Or.inl rfl, trivial⟩ (w_P_token_b41 hrc hQ a0 v7 u6 h)
    · rw [if_pos c14] at h
      refine x_aload_n (pc := 32) d_P_token_32 rfl ?_
      obtain ⟨c15, h⟩ := ite_some h
      obtain ⟨v16, e17, h⟩ := Option.bind_eq_some_iff.mp h
      refine c_invv (c := 0) (d := D + d + 8) (av := []) (st := []) (Q' := fun r h' => r = .inl (some (vI v16)) ∧ h' = u6) (pc := 33) d_P_token_33 cv_P_398 y_P_here c15 rfl (Nat.le_of_ble_eq_true rfl) (Nat.le_of_ble_eq_true rfl) (w_P_here (d := D + d + 4) (Q := fun r h' => r = .inl (some (vI v16)) ∧ h' = u6) ⟨rfl, rfl⟩ a0 e17) (fun v h' z => ?_) (fun a h' z => nomatch z.1)
      obtain ⟨z1, z2⟩ := z
      subst h'
      cases z1
      show xW sc m_P_token (D + d + 9) Q (u6) 36 [some (vR a0), some (vI a1), some (vR v7), none] [vI v16]
      refine x_bipush (v := (45 : Int32)) (pc := 36) d_P_token_36 (by decide) ?_
      refine x_icmp_ne (tgt := 48) (pc := 38) d_P_token_38 (by decide) (fun c18 => ?_) (fun c18 => ?_)
      · rw [if_neg c18] at h
        refine x_aload_n (pc := 48) d_P_token_48 rfl ?_
        obtain ⟨c19, h⟩ := ite_some h
        obtain ⟨v20, e21, h⟩ := Option.bind_eq_some_iff.mp h
        refine c_invv (c := 0) (d := D + d + 8) (av := []) (st := []) (Q' := fun r h' => r = .inl (some (vI v20)) ∧ h' = u6) (pc := 49) d_P_token_49 cv_P_398 y_P_here c19 rfl (Nat.le_of_ble_eq_true rfl) (Nat.le_of_ble_eq_true rfl) (w_P_here (d := D + d + 4) (Q := fun r h' => r = .inl (some (vI v20)) ∧ h' = u6) ⟨rfl, rfl⟩ a0 e21) (fun v h' z => ?_) (fun a h' z => nomatch z.1)
        obtain ⟨z1, z2⟩ := z
        subst h'
        cases z1
        show xW sc m_P_token (D + d + 9) Q (u6) 52 [some (vR a0), some (vI a1), some (vR v7), none] [vI v20]
        refine x_bipush (v := (47 : Int32)) (pc := 52) d_P_token_52 (by decide) ?_
        refine x_icmp_ne (tgt := 61) (pc := 54) d_P_token_54 (by decide) (fun c22 => ?_) (fun c22 => ?_)
        · rw [if_neg c22] at h
          refine x_iconst (v := (0 : Int32)) (pc := 61) d_P_token_61 (by decide) ?_
          exact x_wk (L' := [some (vR a0), none, some (vR v7), none]) ⟨Or.inr rfl, Or.inl rfl, Or.inr rfl, Or.inl rfl, trivial⟩ (w_P_token_b62 hrc hQ a0 v7 (0 : Int32) u6 h)
        · rw [if_pos c22] at h
          refine x_iconst (v := (1 : Int32)) (pc := 57) d_P_token_57 (by decide) ?_
          refine x_goto (tgt := 62) (pc := 58) d_P_token_58 (by decide) ?_
          exact x_wk (L' := [some (vR a0), none, some (vR v7), none]) ⟨Or.inr rfl, Or.inl rfl, Or.inr rfl, Or.inl rfl, trivial⟩ (w_P_token_b62 hrc hQ a0 v7 (1 : Int32) u6 h)
      · rw [if_pos c18] at h
        exact x_wk (L' := [some (vR a0), none, some (vR v7), none]) ⟨Or.inr rfl, Or.inl rfl, Or.inr rfl, Or.inl rfl, trivial⟩ (w_P_token_b41 hrc hQ a0 v7 u6 h)
  · rw [if_pos c4] at h
    refine x_aload_n (pc := 9) d_P_token_9 rfl ?_
    refine x_iload_n (pc := 10) d_P_token_10 rfl ?_
    refine x_iconst (v := (1 : Int32)) (pc := 11) d_P_token_11 (by decide) ?_
    refine x_iadd (pc := 12) d_P_token_12 ?_
    rcases tB_s h with ⟨a26, u27, e25, h⟩ | ⟨v24, u23, e25, h⟩
    · refine x_invs (d := D + d + 8) (av := [vR a0, vI (a1 + (1 : Int32))]) (st := []) (Q' := fun r h' => r = .inr a26 ∧ h' = u27) (pc := 13) d_P_token_13 cs_P_411 y_P_procedure rfl (Nat.le_of_ble_eq_true rfl) (Nat.le_of_ble_eq_true rfl) (w_P_procedure (d := d + 0) (Q := fun r h' => r = .inr a26 ∧ h' = u27) hrc ⟨rfl, rfl⟩ u a0 (a1 + (1 : Int32)) e25) (fun v h' z => nomatch z.1) (fun a h' z => ?_)
      obtain ⟨z1, z2⟩ := z
      subst h'
      cases z1
      cases h
      exact x_thOut (xno rfl) hQ
    refine x_invs (d := D + d + 8) (av := [vR a0, vI (a1 + (1 : Int32))]) (st := []) (Q' := fun r h' => r = .inl (some (vR v24)) ∧ h' = u23) (pc := 13) d_P_token_13 cs_P_411 y_P_procedure rfl (Nat.le_of_ble_eq_true rfl) (Nat.le_of_ble_eq_true rfl) (w_P_procedure (d := d + 0) (Q := fun r h' => r = .inl (some (vR v24)) ∧ h' = u23) hrc ⟨rfl, rfl⟩ u a0 (a1 + (1 : Int32)) e25) (fun v h' z => ?_) (fun a h' z => nomatch z.1)
    obtain ⟨z1, z2⟩ := z
    subst h'
    cases z1
    show xW sc m_P_token (D + d + 9) Q (u23) 16 [some (vR a0), some (vI a1), none, none] [vR v24]
    cases h
    exact x_aret (pc := 16) d_P_token_16 rfl (Or.inl ⟨_, rfl⟩) hQ
def fTn (sc : xSc) : Nat → rcT
  | 0 => fun _ _ _ => none
  | n + 1 => fun u a0 a1 => f_P_token (fTn sc n) sc u a0 a1
theorem fTn_ok {sc : xSc} : ∀ n, rcTOK sc (9 * n) (fTn sc n)
  | 0 => fun d Q u a0 a1 o w h _ => nomatch h
  | n + 1 => fun d Q u a0 a1 o w h hQ => x_dmono (by omega) (w_P_token (d := d) (fTn_ok n) hQ u a0 a1 h)
def fT (sc : xSc) : rcT := fTn sc 8
theorem wT_P_token {sc : xSc} {Q : xR → xH → Prop} {oZ : Option Nat ⊕ Nat} {hZ : xH} (hQ : Q (cvR oZ) hZ) (u : xH) (a0 : Option Nat) (a1 : Int32) (h : f_P_token (fT sc) sc u a0 a1 = some (oZ, hZ)) : xW sc m_P_token 200 Q u 0 (xent [vR a0, vI a1] m_P_token.2.2.1) [] :=
  x_dmono (by omega) (w_P_token (d := 0) (fTn_ok 8) hQ u a0 a1 h)
def f_P_read_b4 (sc : xSc)  : Nat → Option Nat → xH → Option ((Unit ⊕ Nat) × xH)
  | 0, _, _ => none
  | n + 1, l0, u => (gI sc u 0 5 l0).bind fun v1 => (gR sc u 0 2 l0).bind fun v3 => (if xis sc u 16 v3 = true then (f_StringBuilder_length sc u v3).bind fun v6 => (if v6 ≤ v1 then some (.inl (), u) else (pV u 0 11 l0 (vI (0 : Int32))).bind fun u9 => (if xis sc u9 0 l0 = true then tB (f_P_token (fT sc) sc u9 l0 (0 : Int32)) (fun v13 u12 => (if xis sc u12 0 l0 = true then tB (f_P_element (fE sc) sc u12 l0 v13 (0 : Int32)) (fun v19 u18 => (if xis sc u18 0 l0 = true then (f_P_blanks sc u18 l0).bind fun u24 => (f_P_read_b4 sc n) l0 u24 else none)) (fun a21 u22 => some (.inr a21, u22)) else none)) (fun a15 u16 => some (.inr a15, u16)) else none)) else none)
theorem w_P_read_b4 {sc : xSc} {d : Nat} {Q : xR → xH → Prop} {oZ : Unit ⊕ Nat} {hZ : xH}  (hQ : Q (cvU oZ) hZ) : ∀ (n : Nat) (l0 : Option Nat) (u : xH), f_P_read_b4 sc  n l0 u = some (oZ, hZ) → xW sc m_P_read (d + 201) Q (u) 4 [some (vR l0)] [] := by
  intro n
  induction n with
  | zero =>
    intro l0 u h
    cases h
  | succ n hk4 =>
    intro l0 u h
    unfold f_P_read_b4 at h
    refine x_aload_n (pc := 4) d_P_read_4 rfl ?_
    obtain ⟨v1, e2, h⟩ := Option.bind_eq_some_iff.mp h
    refine c_getI (pc := 5) d_P_read_5 l_P_393 e2 ?_
    refine x_aload_n (pc := 8) d_P_read_8 rfl ?_
    obtain ⟨v3, e4, h⟩ := Option.bind_eq_some_iff.mp h
    refine c_getR (pc := 9) d_P_read_9 l_P_44 e4 ?_
    obtain ⟨c5, h⟩ := ite_some h
    obtain ⟨v6, e7, h⟩ := Option.bind_eq_some_iff.mp h
    refine c_invv (c := 16) (d := d + 200) (av := []) (st := [vI v1]) (Q' := fun r h' => r = .inl (some (vI v6)) ∧ h' = u) (pc := 12) d_P_read_12 cv_P_396 y_StringBuilder_length c5 rfl (Nat.le_of_ble_eq_true rfl) (Nat.le_of_ble_eq_true rfl) (w_StringBuilder_length (d := d + 199) (Q := fun r h' => r = .inl (some (vI v6)) ∧ h' = u) ⟨rfl, rfl⟩ v3 e7) (fun v h' z => ?_) (fun a h' z => nomatch z.1)
    obtain ⟨z1, z2⟩ := z
    subst h'
    cases z1
    show xW sc m_P_read (d + 201) Q (u) 15 [some (vR l0)] [vI v6, vI v1]
    refine x_icmp_ge (tgt := 40) (pc := 15) d_P_read_15 (by decide) (fun c8 => ?_) (fun c8 => ?_)
    · rw [if_pos c8] at h
      cases h
      exact x_vret (pc := 40) d_P_read_40 rfl hQ
    · rw [if_neg c8] at h
      refine x_aload_n (pc := 18) d_P_read_18 rfl ?_
      refine x_iconst (v := (0 : Int32)) (pc := 19) d_P_read_19 (by decide) ?_
      obtain ⟨u9, e10, h⟩ := Option.bind_eq_some_iff.mp h
      refine c_putf (pc := 20) d_P_read_20 l_P_405 fp_0_11 (xfit_int) e10 ?_
      refine x_aload_n (pc := 23) d_P_read_23 rfl ?_
      refine x_aload_n (pc := 24) d_P_read_24 rfl ?_
      refine x_iconst (v := (0 : Int32)) (pc := 25) d_P_read_25 (by decide) ?_
      obtain ⟨c11, h⟩ := ite_some h
      rcases tB_s h with ⟨a15, u16, e14, h⟩ | ⟨v13, u12, e14, h⟩
      · refine c_invv (c := 0) (d := d + 200) (av := [vI (0 : Int32)]) (st := [vR l0]) (Q' := fun r h' => r = .inr a15 ∧ h' = u16) (pc := 26) d_P_read_26 cv_P_408 y_P_token c11 rfl (Nat.le_of_ble_eq_true rfl) (Nat.le_of_ble_eq_true rfl) (x_dmono (by omega) (wT_P_token (Q := fun r h' => r = .inr a15 ∧ h' = u16) ⟨rfl, rfl⟩ u9 l0 (0 : Int32) e14)) (fun v h' z => nomatch z.1) (fun a h' z => ?_)
        obtain ⟨z1, z2⟩ := z
        subst h'
        cases z1
        cases h
        exact x_thOut (xno rfl) hQ
      refine c_invv (c := 0) (d := d + 200) (av := [vI (0 : Int32)]) (st := [vR l0]) (Q' := fun r h' => r = .inl (some (vR v13)) ∧ h' = u12) (pc := 26) d_P_read_26 cv_P_408 y_P_token c11 rfl (Nat.le_of_ble_eq_true rfl) (Nat.le_of_ble_eq_true rfl) (x_dmono (by omega) (wT_P_token (Q := fun r h' => r = .inl (some (vR v13)) ∧ h' = u12) ⟨rfl, rfl⟩ u9 l0 (0 : Int32) e14)) (fun v h' z => ?_) (fun a h' z => nomatch z.1)
      obtain ⟨z1, z2⟩ := z
      subst h'
      cases z1
      show xW sc m_P_read (d + 201) Q (u12) 29 [some (vR l0)] [vR v13, vR l0]
      refine x_iconst (v := (0 : Int32)) (pc := 29) d_P_read_29 (by decide) ?_
      obtain ⟨c17, h⟩ := ite_some h
      rcases tB_s h with ⟨a21, u22, e20, h⟩ | ⟨v19, u18, e20, h⟩
      · refine c_invv (c := 0) (d := d + 200) (av := [vR v13, vI (0 : Int32)]) (st := []) (Q' := fun r h' => r = .inr a21 ∧ h' = u22) (pc := 30) d_P_read_30 cv_P_364 y_P_element c17 rfl (Nat.le_of_ble_eq_true rfl) (Nat.le_of_ble_eq_true rfl) (x_dmono (by omega) (wE_P_element (Q := fun r h' => r = .inr a21 ∧ h' = u22) ⟨rfl, rfl⟩ u12 l0 v13 (0 : Int32) e20)) (fun v h' z => nomatch z.1) (fun a h' z => ?_)
        obtain ⟨z1, z2⟩ := z
        subst h'
        cases z1
        cases h
        exact x_thOut (xno rfl) hQ
      refine c_invv (c := 0) (d := d + 200) (av := [vR v13, vI (0 : Int32)]) (st := []) (Q' := fun r h' => r = .inl none ∧ h' = u18) (pc := 30) d_P_read_30 cv_P_364 y_P_element c17 rfl (Nat.le_of_ble_eq_true rfl) (Nat.le_of_ble_eq_true rfl) (x_dmono (by omega) (wE_P_element (Q := fun r h' => r = .inl none ∧ h' = u18) ⟨rfl, rfl⟩ u12 l0 v13 (0 : Int32) e20)) (fun v h' z => ?_) (fun a h' z => nomatch z.1)
      obtain ⟨z1, z2⟩ := z
      subst h'
      cases z1
      show xW sc m_P_read (d + 201) Q (u18) 33 [some (vR l0)] []
      refine x_aload_n (pc := 33) d_P_read_33 rfl ?_
      obtain ⟨c23, h⟩ := ite_some h
      obtain ⟨u24, e25, h⟩ := Option.bind_eq_some_iff.mp h
      refine c_invv (c := 0) (d := d + 200) (av := []) (st := []) (Q' := fun r h' => r = .inl none ∧ h' = u24) (pc := 34) d_P_read_34 cv_P_402 y_P_blanks c23 rfl (Nat.le_of_ble_eq_true rfl) (Nat.le_of_ble_eq_true rfl) (w_P_blanks (d := d + 195) (Q := fun r h' => r = .inl none ∧ h' = u24) ⟨rfl, rfl⟩ u18 l0 e25) (fun v h' z => ?_) (fun a h' z => nomatch z.1)
      obtain ⟨z1, z2⟩ := z
      subst h'
      cases z1
      show xW sc m_P_read (d + 201) Q (u24) 37 [some (vR l0)] []
      refine x_goto (tgt := 4) (pc := 37) d_P_read_37 (by decide) ?_
      exact hk4 l0 u24 h
def f_P_read (sc : xSc) (u : xH) (a0 : Option Nat) : Option ((Unit ⊕ Nat) × xH) := (if xis sc u 0 a0 = true then (f_P_blanks sc u a0).bind fun u2 => f_P_read_b4 sc mF a0 u2 else none)
theorem w_P_read {sc : xSc} {d : Nat} {Q : xR → xH → Prop} {oZ : Unit ⊕ Nat} {hZ : xH} (hQ : Q (cvU oZ) hZ) (u : xH) (a0 : Option Nat) (h : f_P_read sc u a0 = some (oZ, hZ)) : xW sc m_P_read (d + 201) Q (u) 0 (xent [vR a0] m_P_read.2.2.1) [] := by
  show xW sc m_P_read (d + 201) Q (u) 0 [some (vR a0)] []
  unfold f_P_read at h
  refine x_aload_n (pc := 0) d_P_read_0 rfl ?_
  obtain ⟨c1, h⟩ := ite_some h
  obtain ⟨u2, e3, h⟩ := Option.bind_eq_some_iff.mp h
  refine c_invv (c := 0) (d := d + 200) (av := []) (st := []) (Q' := fun r h' => r = .inl none ∧ h' = u2) (pc := 1) d_P_read_1 cv_P_402 y_P_blanks c1 rfl (Nat.le_of_ble_eq_true rfl) (Nat.le_of_ble_eq_true rfl) (w_P_blanks (d := d + 195) (Q := fun r h' => r = .inl none ∧ h' = u2) ⟨rfl, rfl⟩ u a0 e3) (fun v h' z => ?_) (fun a h' z => nomatch z.1)
  obtain ⟨z1, z2⟩ := z
  subst h'
  cases z1
  show xW sc m_P_read (d + 201) Q (u2) 4 [some (vR a0)] []
  exact w_P_read_b4 hQ mF a0 u2 h
def f_P_real (sc : xSc) (u : xH) (a0 : Option Nat) (a1 : Int32) : Option ((UInt64 ⊕ Nat) × xH) := (if xis sc u 0 a0 = true then tB (f_P_seen sc u a0 a1) (fun v3 u2 => (if xis sc u2 2 v3 = true then (f_Slot_isNumber sc u2 v3).bind fun v8 => (if v8 = 0 then (if xrm u2 6 = true then some (.inr u2.2.1, xnew u2 (.inl (24, [])) 6) else none) else (if xis sc u2 2 v3 = true then (f_Slot_value sc u2 v3).bind fun v12 => some (.inl v12, u2) else none)) else none)) (fun a5 u6 => some (.inr a5, u6)) else none)
theorem w_P_real {sc : xSc} {d : Nat} {Q : xR → xH → Prop} {oZ : UInt64 ⊕ Nat} {hZ : xH} (hQ : Q (cvD oZ) hZ) (u : xH) (a0 : Option Nat) (a1 : Int32) (h : f_P_real sc u a0 a1 = some (oZ, hZ)) : xW sc m_P_real (d + 7) Q (u) 0 (xent [vR a0, vI a1] m_P_real.2.2.1) [] := by
  show xW sc m_P_real (d + 7) Q (u) 0 [some (vR a0), some (vI a1), none] []
  unfold f_P_real at h
  refine x_aload_n (pc := 0) d_P_real_0 rfl ?_
  refine x_iload_n (pc := 1) d_P_real_1 rfl ?_
  obtain ⟨c1, h⟩ := ite_some h
  rcases tB_s h with ⟨a5, u6, e4, h⟩ | ⟨v3, u2, e4, h⟩
  · refine c_invv (c := 0) (d := d + 6) (av := [vI a1]) (st := []) (Q' := fun r h' => r = .inr a5 ∧ h' = u6) (pc := 2) d_P_real_2 cv_P_497 y_P_seen c1 rfl (Nat.le_of_ble_eq_true rfl) (Nat.le_of_ble_eq_true rfl) (w_P_seen (d := d + 0) (Q := fun r h' => r = .inr a5 ∧ h' = u6) ⟨rfl, rfl⟩ u a0 a1 e4) (fun v h' z => nomatch z.1) (fun a h' z => ?_)
    obtain ⟨z1, z2⟩ := z
    subst h'
    cases z1
    cases h
    exact x_thOut (xno rfl) hQ
  refine c_invv (c := 0) (d := d + 6) (av := [vI a1]) (st := []) (Q' := fun r h' => r = .inl (some (vR v3)) ∧ h' = u2) (pc := 2) d_P_real_2 cv_P_497 y_P_seen c1 rfl (Nat.le_of_ble_eq_true rfl) (Nat.le_of_ble_eq_true rfl) (w_P_seen (d := d + 0) (Q := fun r h' => r = .inl (some (vR v3)) ∧ h' = u2) ⟨rfl, rfl⟩ u a0 a1 e4) (fun v h' z => ?_) (fun a h' z => nomatch z.1)
  obtain ⟨z1, z2⟩ := z
  subst h'
  cases z1
  show xW sc m_P_real (d + 7) Q (u2) 5 [some (vR a0), some (vI a1), none] [vR v3]
  refine x_astore_n (pc := 5) d_P_real_5 (by decide) ?_
  show xW sc m_P_real (d + 7) Q (u2) 6 [some (vR a0), some (vI a1), some (vR v3)] []
  refine x_aload_n (pc := 6) d_P_real_6 rfl ?_
  obtain ⟨c7, h⟩ := ite_some h
  obtain ⟨v8, e9, h⟩ := Option.bind_eq_some_iff.mp h
  refine c_invv (c := 2) (d := d + 6) (av := []) (st := []) (Q' := fun r h' => r = .inl (some (vI v8)) ∧ h' = u2) (pc := 7) d_P_real_7 cv_P_514 y_Slot_isNumber c7 rfl (Nat.le_of_ble_eq_true rfl) (Nat.le_of_ble_eq_true rfl) (w_Slot_isNumber (d := d + 6) (Q := fun r h' => r = .inl (some (vI v8)) ∧ h' = u2) ⟨rfl, rfl⟩ v3 e9) (fun v h' z => ?_) (fun a h' z => nomatch z.1)
  obtain ⟨z1, z2⟩ := z
  subst h'
  cases z1
  show xW sc m_P_real (d + 7) Q (u2) 10 [some (vR a0), some (vI a1), some (vR v3)] [vI v8]
  refine x_if_ne (tgt := 21) (pc := 10) d_P_real_10 (by decide) (fun c10 => ?_) (fun c10 => ?_)
  · rw [if_neg c10] at h
    refine x_aload_n (pc := 21) d_P_real_21 rfl ?_
    obtain ⟨c11, h⟩ := ite_some h
    obtain ⟨v12, e13, h⟩ := Option.bind_eq_some_iff.mp h
    refine c_invv (c := 2) (d := d + 6) (av := []) (st := []) (Q' := fun r h' => r = .inl (some (vD v12)) ∧ h' = u2) (pc := 22) d_P_real_22 cv_P_517 y_Slot_value c11 rfl (Nat.le_of_ble_eq_true rfl) (Nat.le_of_ble_eq_true rfl) (w_Slot_value (d := d + 6) (Q := fun r h' => r = .inl (some (vD v12)) ∧ h' = u2) ⟨rfl, rfl⟩ v3 e13) (fun v h' z => ?_) (fun a h' z => nomatch z.1)
    obtain ⟨z1, z2⟩ := z
    subst h'
    cases z1
    show xW sc m_P_real (d + 7) Q (u2) 25 [some (vR a0), some (vI a1), some (vR v3)] [vD v12]
    cases h
    exact x_dret (pc := 25) d_P_real_25 rfl hQ
  · rw [if_pos c10] at h
    obtain ⟨c14, h⟩ := ite_some h
    cases h
    exact x_throwNew (d := d + 1) (c := 24) (pc := 13) d_P_real_13 d_P_real_16 d_P_real_17 d_P_real_20 (xno rfl) nw_P_509 ex_P_511 (by decide) (Nat.le_of_ble_eq_true rfl) (xrm_s c14).1 (xrm_s c14).2 hQ
def f_P_run_b75 (sc : xSc)  (l0 : Option Nat) (l2 : Int32) (u : xH) : Option ((Int32 ⊕ Nat) × xH) := (gR sc u 0 2 l0).bind fun v1 => (if xis sc u 16 v1 = true then (f_StringBuilder_setLength sc u v1 (0 : Int32)).bind fun u4 => some (.inl l2, u4) else none)
theorem w_P_run_b75 {sc : xSc} {d : Nat} {Q : xR → xH → Prop} {oZ : Int32 ⊕ Nat} {hZ : xH}  (hQ : Q (cvI oZ) hZ) (l0 : Option Nat) (l2 : Int32) (u : xH) (h : f_P_run_b75 sc  l0 l2 u = some (oZ, hZ)) : xW sc m_P_run (d + 202) Q (u) 75 [some (vR l0), none, some (vI l2), none] [] := by
  unfold f_P_run_b75 at h
  refine x_aload_n (pc := 75) d_P_run_75 rfl ?_
  obtain ⟨v1, e2, h⟩ := Option.bind_eq_some_iff.mp h
  refine c_getR (pc := 76) d_P_run_76 l_P_44 e2 ?_
  refine x_iconst (v := (0 : Int32)) (pc := 79) d_P_run_79 (by decide) ?_
  obtain ⟨c3, h⟩ := ite_some h
  obtain ⟨u4, e5, h⟩ := Option.bind_eq_some_iff.mp h
  refine c_invv (c := 16) (d := d + 201) (av := [vI (0 : Int32)]) (st := []) (Q' := fun r h' => r = .inl none ∧ h' = u4) (pc := 80) d_P_run_80 cv_P_426 y_StringBuilder_setLength c3 rfl (Nat.le_of_ble_eq_true rfl) (Nat.le_of_ble_eq_true rfl) (w_StringBuilder_setLength (d := d + 196) (Q := fun r h' => r = .inl none ∧ h' = u4) ⟨rfl, rfl⟩ u v1 (0 : Int32) e5) (fun v h' z => ?_) (fun a h' z => nomatch z.1)
  obtain ⟨z1, z2⟩ := z
  subst h'
  cases z1
  show xW sc m_P_run (d + 202) Q (u4) 83 [some (vR l0), none, some (vI l2), none] []
  refine x_iload_n (pc := 83) d_P_run_83 rfl ?_
  cases h
  exact x_iret (ty := .int) (pc := 84) d_P_run_84 rfl (rfl) hQ
def f_P_run_b69 (sc : xSc)  (l0 : Option Nat) (t0 : Option Nat) (u : xH) : Option ((Int32 ⊕ Nat) × xH) := (gI sc u 0 17 l0).bind fun v1 => f_P_run_b75 sc l0 v1 u
theorem w_P_run_b69 {sc : xSc} {d : Nat} {Q : xR → xH → Prop} {oZ : Int32 ⊕ Nat} {hZ : xH}  (hQ : Q (cvI oZ) hZ) (l0 : Option Nat) (t0 : Option Nat) (u : xH) (h : f_P_run_b69 sc  l0 t0 u = some (oZ, hZ)) : xW sc m_P_run (d + 202) Q (u) 69 [some (vR l0), none, none, none] [vR t0] := by
  unfold f_P_run_b69 at h
  refine x_astore_n (pc := 69) d_P_run_69 (by decide) ?_
  show xW sc m_P_run (d + 202) Q (u) 70 [some (vR l0), none, none, some (vR t0)] []
  refine x_aload_n (pc := 70) d_P_run_70 rfl ?_
  obtain ⟨v1, e2, h⟩ := Option.bind_eq_some_iff.mp h
  refine c_getI (pc := 71) d_P_run_71 l_P_161 e2 ?_
  refine x_istore_n (pc := 74) d_P_run_74 (by decide) ?_
  show xW sc m_P_run (d + 202) Q (u) 75 [some (vR l0), none, some (vI v1), some (vR t0)] []
  exact x_wk (L' := [some (vR l0), none, some (vI v1), none]) ⟨Or.inr rfl, Or.inl rfl, Or.inr rfl, Or.inl rfl, trivial⟩ (w_P_run_b75 hQ l0 v1 u h)
def f_P_run_b12 (sc : xSc)  (u : xH) : Option ((Int32 ⊕ Nat) × xH) := (if xrm u 6 = true then some (.inr u.2.1, xnew u (.inl (22, [])) 6) else none)
theorem w_P_run_b12 {sc : xSc} {d : Nat} {Q : xR → xH → Prop} {oZ : Int32 ⊕ Nat} {hZ : xH}  (hQ : Q (cvI oZ) hZ) (u : xH) (h : f_P_run_b12 sc  u = some (oZ, hZ)) : xW sc m_P_run (d + 202) Q (u) 12 [none, none, none, none] [] := by
  unfold f_P_run_b12 at h
  obtain ⟨c1, h⟩ := ite_some h
  cases h
  exact x_throwNew (d := d + 196) (c := 22) (pc := 12) d_P_run_12 d_P_run_15 d_P_run_16 d_P_run_19 (xno rfl) nw_P_488 ex_P_490 (by decide) (Nat.le_of_ble_eq_true rfl) (xrm_s c1).1 (xrm_s c1).2 hQ
def f_P_run (sc : xSc) (u : xH) (a0 : Option Nat) (a1 : Int32) : Option ((Int32 ⊕ Nat) × xH) := (if a1 < (1 : Int32) then f_P_run_b12 sc u else (if a1 ≤ (500 : Int32) then (pV u 0 15 a0 (vI a1)).bind fun u3 => (pV u3 0 23 a0 (vI (0 : Int32))).bind fun u5 => (pV u5 0 22 a0 (vI (0 : Int32))).bind fun u7 => (pV u7 0 21 a0 (vI (0 : Int32))).bind fun u9 => (pV u9 0 5 a0 (vI (0 : Int32))).bind fun u11 => (pV u11 0 17 a0 (vI (0 : Int32))).bind fun u13 => (pV u13 0 16 a0 (vI (0 : Int32))).bind fun u15 => (pV u15 0 24 a0 (vI (0 : Int32))).bind fun u17 => (if xis sc u17 0 a0 = true then tB (f_P_read sc u17 a0) (fun v21 u20 => f_P_run_b75 sc a0 (0 : Int32) u20) (fun a23 u24 => (if xis sc u24 21 (some a23) = true then f_P_run_b69 sc a0 (some a23) u24 else none)) else none) else f_P_run_b12 sc u))
theorem w_P_run {sc : xSc} {d : Nat} {Q : xR → xH → Prop} {oZ : Int32 ⊕ Nat} {hZ : xH} (hQ : Q (cvI oZ) hZ) (u : xH) (a0 : Option Nat) (a1 : Int32) (h : f_P_run sc u a0 a1 = some (oZ, hZ)) : xW sc m_P_run (d + 202) Q (u) 0 (xent [vR a0, vI a1] m_P_run.2.2.1) [] := by
  show xW sc m_P_run (d + 202) Q (u) 0 [some (vR a0), some (vI a1), none, none] []
  unfold f_P_run at h
  refine x_iload_n (pc := 0) d_P_run_0 rfl ?_
  refine x_iconst (v := (1 : Int32)) (pc := 1) d_P_run_1 (by decide) ?_
  refine x_icmp_lt (tgt := 12) (pc := 2) d_P_run_2 (by decide) (fun c1 => ?_) (fun c1 => ?_)
  · rw [if_pos c1] at h
    exact x_wk (L' := [none, none, none, none]) ⟨Or.inl rfl, Or.inl rfl, Or.inl rfl, Or.inl rfl, trivial⟩ (w_P_run_b12 hQ u h)
  · rw [if_neg c1] at h
    refine x_iload_n (pc := 5) d_P_run_5 rfl ?_
    refine x_sipush (v := (500 : Int32)) (pc := 6) d_P_run_6 (by decide) ?_
    refine x_icmp_le (tgt := 20) (pc := 9) d_P_run_9 (by decide) (fun c2 => ?_) (fun c2 => ?_)
    · rw [if_pos c2] at h
      refine x_aload_n (pc := 20) d_P_run_20 rfl ?_
      refine x_iload_n (pc := 21) d_P_run_21 rfl ?_
      obtain ⟨u3, e4, h⟩ := Option.bind_eq_some_iff.mp h
      refine c_putf (pc := 22) d_P_run_22 l_P_314 fp_0_15 (xfit_int) e4 ?_
      refine x_aload_n (pc := 25) d_P_run_25 rfl ?_
      refine x_aload_n (pc := 26) d_P_run_26 rfl ?_
      refine x_aload_n (pc := 27) d_P_run_27 rfl ?_
      refine x_aload_n (pc := 28) d_P_run_28 rfl ?_
      refine x_aload_n (pc := 29) d_P_run_29 rfl ?_
      refine x_aload_n (pc := 30) d_P_run_30 rfl ?_
      refine x_iconst (v := (0 : Int32)) (pc := 31) d_P_run_31 (by decide) ?_
      refine x_dup_x1 (pc := 32) d_P_run_32 rfl rfl ?_
      obtain ⟨u5, e6, h⟩ := Option.bind_eq_some_iff.mp h
      refine c_putf (pc := 33) d_P_run_33 l_P_387 fp_0_23 (xfit_int) e6 ?_
      refine x_dup_x1 (pc := 36) d_P_run_36 rfl rfl ?_
      obtain ⟨u7, e8, h⟩ := Option.bind_eq_some_iff.mp h
      refine c_putf (pc := 37) d_P_run_37 l_P_384 fp_0_22 (xfit_int) e8 ?_
      refine x_dup_x1 (pc := 40) d_P_run_40 rfl rfl ?_
      obtain ⟨u9, e10, h⟩ := Option.bind_eq_some_iff.mp h
      refine c_putf (pc := 41) d_P_run_41 l_P_291 fp_0_21 (xfit_int) e10 ?_
      refine x_dup_x1 (pc := 44) d_P_run_44 rfl rfl ?_
      obtain ⟨u11, e12, h⟩ := Option.bind_eq_some_iff.mp h
      refine c_putf (pc := 45) d_P_run_45 l_P_393 fp_0_5 (xfit_int) e12 ?_
      refine x_dup_x1 (pc := 48) d_P_run_48 rfl rfl ?_
      obtain ⟨u13, e14, h⟩ := Option.bind_eq_some_iff.mp h
      refine c_putf (pc := 49) d_P_run_49 l_P_161 fp_0_17 (xfit_int) e14 ?_
      obtain ⟨u15, e16, h⟩ := Option.bind_eq_some_iff.mp h
      refine c_putf (pc := 52) d_P_run_52 l_P_311 fp_0_16 (xfit_int) e16 ?_
      refine x_aload_n (pc := 55) d_P_run_55 rfl ?_
      refine x_iconst (v := (0 : Int32)) (pc := 56) d_P_run_56 (by decide) ?_
      obtain ⟨u17, e18, h⟩ := Option.bind_eq_some_iff.mp h
      refine c_putf (pc := 57) d_P_run_57 l_P_381 fp_0_24 (xfit_bool (by decide)) e18 ?_
      refine x_iconst (v := (0 : Int32)) (pc := 60) d_P_run_60 (by decide) ?_
      refine x_istore_n (pc := 61) d_P_run_61 (by decide) ?_
      show xW sc m_P_run (d + 202) Q (u17) 62 [some (vR a0), some (vI a1), some (vI (0 : Int32)), none] []
      refine x_aload_n (pc := 62) d_P_run_62 rfl ?_
      obtain ⟨c19, h⟩ := ite_some h
      rcases tB_s h with ⟨a23, u24, e22, h⟩ | ⟨v21, u20, e22, h⟩
      · refine c_invv (c := 0) (d := d + 201) (av := []) (st := []) (Q' := fun r h' => r = .inr a23 ∧ h' = u24) (pc := 63) d_P_run_63 cv_P_491 y_P_read c19 rfl (Nat.le_of_ble_eq_true rfl) (Nat.le_of_ble_eq_true rfl) (w_P_read (d := d + 0) (Q := fun r h' => r = .inr a23 ∧ h' = u24) ⟨rfl, rfl⟩ u17 a0 e22) (fun v h' z => nomatch z.1) (fun a h' z => ?_)
        obtain ⟨z1, z2⟩ := z
        subst h'
        cases z1
        by_cases c25 : xis sc u24 21 (some a23) = true
        · rw [if_pos c25] at h
          obtain ⟨a9, fs9, e9, f9⟩ := xis_s c25
          cases e9
          refine x_thCatch (b1 := 62) (b2 := 66) (hp := 69) (ct := 167) (Or.inl rfl) ⟨by decide, by decide⟩ (by decide) kl_P_167 f9 ⟨_, rfl, tw_4 (List.mem_of_getElem? (i := 135) rfl)⟩ ?_
          exact x_wk (L' := [some (vR a0), none, none, none]) ⟨Or.inr rfl, Or.inl rfl, Or.inl rfl, Or.inl rfl, trivial⟩ (w_P_run_b69 hQ a0 (some a23) u24 h)
        rw [if_neg c25] at h
        cases h
      refine c_invv (c := 0) (d := d + 201) (av := []) (st := []) (Q' := fun r h' => r = .inl none ∧ h' = u20) (pc := 63) d_P_run_63 cv_P_491 y_P_read c19 rfl (Nat.le_of_ble_eq_true rfl) (Nat.le_of_ble_eq_true rfl) (w_P_read (d := d + 0) (Q := fun r h' => r = .inl none ∧ h' = u20) ⟨rfl, rfl⟩ u17 a0 e22) (fun v h' z => ?_) (fun a h' z => nomatch z.1)
      obtain ⟨z1, z2⟩ := z
      subst h'
      cases z1
      show xW sc m_P_run (d + 202) Q (u20) 66 [some (vR a0), some (vI a1), some (vI (0 : Int32)), none] []
      refine x_goto (tgt := 75) (pc := 66) d_P_run_66 (by decide) ?_
      exact x_wk (L' := [some (vR a0), none, some (vI (0 : Int32)), none]) ⟨Or.inr rfl, Or.inl rfl, Or.inr rfl, Or.inl rfl, trivial⟩ (w_P_run_b75 hQ a0 (0 : Int32) u20 h)
    · rw [if_neg c2] at h
      exact x_wk (L' := [none, none, none, none]) ⟨Or.inl rfl, Or.inl rfl, Or.inl rfl, Or.inl rfl, trivial⟩ (w_P_run_b12 hQ u h)
