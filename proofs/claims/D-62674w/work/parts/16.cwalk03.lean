def f_Holders_spread_b64 (sc : xSc)  : Nat → Option Nat → Int32 → Int32 → Int32 → Int32 → xH → Option ((Unit ⊕ Nat) × xH)
  | 0, _, _, _, _, _, _ => none
  | n + 1, l0, l2, l3, l4, l5, u => (if l3 ≤ l5 then (if xis sc u 0 l0 = true then tB (f_P_give sc u l0 (0 : Int32) (some 76) (0 : Int32)) (fun v4 u3 => (if xis sc u3 0 l0 = true then (f_P_at sc u3 l0 (0 : Int32)).bind fun v9 => (if xis sc u3 2 v9 = true then (f_Slot_set sc u3 v9 (some 77) l2 l3 l4).bind fun u12 => some (.inl (), u12) else none) else none)) (fun a6 u7 => some (.inr a6, u7)) else none) else (gR sc u 0 7 l0).bind fun v14 => (aR sc u v14 (l2 + l5)).bind fun v16 => (if xis sc u 0 l0 = true then tB (f_P_push sc u l0 v16) (fun v20 u19 => (f_Holders_spread_b64 sc n) l0 l2 l3 l4 (l5 + Int32.ofInt 1) u19) (fun a22 u23 => some (.inr a22, u23)) else none))
theorem w_Holders_spread_b64 {sc : xSc} {d : Nat} {Q : xR → xH → Prop} {oZ : Unit ⊕ Nat} {hZ : xH}  (hQ : Q (cvU oZ) hZ) : ∀ (n : Nat) (l0 : Option Nat) (l2 : Int32) (l3 : Int32) (l4 : Int32) (l5 : Int32) (u : xH), f_Holders_spread_b64 sc  n l0 l2 l3 l4 l5 u = some (oZ, hZ) → xW sc m_Holders_spread (d + 9) Q (u) 64 [some (vR l0), none, some (vI l2), some (vI l3), some (vI l4), some (vI l5)] [] := by
  intro n
  induction n with
  | zero =>
    intro l0 l2 l3 l4 l5 u h
    cases h
  | succ n hk64 =>
    intro l0 l2 l3 l4 l5 u h
    unfold f_Holders_spread_b64 at h
    refine x_iload (pc := 64) d_Holders_spread_64 rfl ?_
    refine x_iload_n (pc := 66) d_Holders_spread_66 rfl ?_
    refine x_icmp_ge (tgt := 89) (pc := 67) d_Holders_spread_67 (by decide) (fun c1 => ?_) (fun c1 => ?_)
    · rw [if_pos c1] at h
      refine x_aload_n (pc := 89) d_Holders_spread_89 rfl ?_
      refine x_iconst (v := (0 : Int32)) (pc := 90) d_Holders_spread_90 (by decide) ?_
      refine x_gets (v := vR (some 76)) (pc := 91) d_Holders_spread_91 sl_Holders_128 ?_
      refine x_iconst (v := (0 : Int32)) (pc := 94) d_Holders_spread_94 (by decide) ?_
      obtain ⟨c2, h⟩ := ite_some h
      rcases tB_s h with ⟨a6, u7, e5, h⟩ | ⟨v4, u3, e5, h⟩
      · refine c_invv (c := 0) (d := d + 8) (av := [vI (0 : Int32), vR (some 76), vI (0 : Int32)]) (st := []) (Q' := fun r h' => r = .inr a6 ∧ h' = u7) (pc := 95) d_Holders_spread_95 cv_Holders_65 y_P_give c2 rfl (Nat.le_of_ble_eq_true rfl) (Nat.le_of_ble_eq_true rfl) (w_P_give (d := d + 0) (Q := fun r h' => r = .inr a6 ∧ h' = u7) ⟨rfl, rfl⟩ u l0 (0 : Int32) (some 76) (0 : Int32) e5) (fun v h' z => nomatch z.1) (fun a h' z => ?_)
        obtain ⟨z1, z2⟩ := z
        subst h'
        cases z1
        cases h
        exact x_thOut (xno rfl) hQ
      refine c_invv (c := 0) (d := d + 8) (av := [vI (0 : Int32), vR (some 76), vI (0 : Int32)]) (st := []) (Q' := fun r h' => r = .inl none ∧ h' = u3) (pc := 95) d_Holders_spread_95 cv_Holders_65 y_P_give c2 rfl (Nat.le_of_ble_eq_true rfl) (Nat.le_of_ble_eq_true rfl) (w_P_give (d := d + 0) (Q := fun r h' => r = .inl none ∧ h' = u3) ⟨rfl, rfl⟩ u l0 (0 : Int32) (some 76) (0 : Int32) e5) (fun v h' z => ?_) (fun a h' z => nomatch z.1)
      obtain ⟨z1, z2⟩ := z
      subst h'
      cases z1
      show xW sc m_Holders_spread (d + 9) Q (u3) 98 [some (vR l0), none, some (vI l2), some (vI l3), some (vI l4), some (vI l5)] []
      refine x_aload_n (pc := 98) d_Holders_spread_98 rfl ?_
      refine x_iconst (v := (0 : Int32)) (pc := 99) d_Holders_spread_99 (by decide) ?_
      obtain ⟨c8, h⟩ := ite_some h
      obtain ⟨v9, e10, h⟩ := Option.bind_eq_some_iff.mp h
      refine c_invv (c := 0) (d := d + 8) (av := [vI (0 : Int32)]) (st := []) (Q' := fun r h' => r = .inl (some (vR v9)) ∧ h' = u3) (pc := 100) d_Holders_spread_100 cv_Holders_75 y_P_at c8 rfl (Nat.le_of_ble_eq_true rfl) (Nat.le_of_ble_eq_true rfl) (w_P_at (d := d + 8) (Q := fun r h' => r = .inl (some (vR v9)) ∧ h' = u3) ⟨rfl, rfl⟩ l0 (0 : Int32) e10) (fun v h' z => ?_) (fun a h' z => nomatch z.1)
      obtain ⟨z1, z2⟩ := z
      subst h'
      cases z1
      show xW sc m_Holders_spread (d + 9) Q (u3) 103 [some (vR l0), none, some (vI l2), some (vI l3), some (vI l4), some (vI l5)] [vR v9]
      refine x_gets (v := vR (some 77)) (pc := 103) d_Holders_spread_103 sl_Holders_39 ?_
      refine x_iload_n (pc := 106) d_Holders_spread_106 rfl ?_
      refine x_iload_n (pc := 107) d_Holders_spread_107 rfl ?_
      refine x_iload (pc := 108) d_Holders_spread_108 rfl ?_
      obtain ⟨c11, h⟩ := ite_some h
      obtain ⟨u12, e13, h⟩ := Option.bind_eq_some_iff.mp h
      refine c_invv (c := 2) (d := d + 8) (av := [vR (some 77), vI l2, vI l3, vI l4]) (st := []) (Q' := fun r h' => r = .inl none ∧ h' = u12) (pc := 110) d_Holders_spread_110 cv_Holders_46 y_Slot_set c11 rfl (Nat.le_of_ble_eq_true rfl) (Nat.le_of_ble_eq_true rfl) (w_Slot_set (d := d + 8) (Q := fun r h' => r = .inl none ∧ h' = u12) ⟨rfl, rfl⟩ u3 v9 (some 77) l2 l3 l4 e13) (fun v h' z => ?_) (fun a h' z => nomatch z.1)
      obtain ⟨z1, z2⟩ := z
      subst h'
      cases z1
      show xW sc m_Holders_spread (d + 9) Q (u12) 113 [some (vR l0), none, some (vI l2), some (vI l3), some (vI l4), some (vI l5)] []
      cases h
      exact x_vret (pc := 113) d_Holders_spread_113 rfl hQ
    · rw [if_neg c1] at h
      refine x_aload_n (pc := 70) d_Holders_spread_70 rfl ?_
      refine x_aload_n (pc := 71) d_Holders_spread_71 rfl ?_
      obtain ⟨v14, e15, h⟩ := Option.bind_eq_some_iff.mp h
      refine c_getR (pc := 72) d_Holders_spread_72 l_Holders_101 e15 ?_
      refine x_iload_n (pc := 75) d_Holders_spread_75 rfl ?_
      refine x_iload (pc := 76) d_Holders_spread_76 rfl ?_
      refine x_iadd (pc := 78) d_Holders_spread_78 ?_
      obtain ⟨v16, e17, h⟩ := Option.bind_eq_some_iff.mp h
      refine c_aald (pc := 79) d_Holders_spread_79 e17 ?_
      obtain ⟨c18, h⟩ := ite_some h
      rcases tB_s h with ⟨a22, u23, e21, h⟩ | ⟨v20, u19, e21, h⟩
      · refine c_invv (c := 0) (d := d + 8) (av := [vR v16]) (st := []) (Q' := fun r h' => r = .inr a22 ∧ h' = u23) (pc := 80) d_Holders_spread_80 cv_Holders_124 y_P_push c18 rfl (Nat.le_of_ble_eq_true rfl) (Nat.le_of_ble_eq_true rfl) (w_P_push (d := d + 0) (Q := fun r h' => r = .inr a22 ∧ h' = u23) ⟨rfl, rfl⟩ u l0 v16 e21) (fun v h' z => nomatch z.1) (fun a h' z => ?_)
        obtain ⟨z1, z2⟩ := z
        subst h'
        cases z1
        cases h
        exact x_thOut (xno rfl) hQ
      refine c_invv (c := 0) (d := d + 8) (av := [vR v16]) (st := []) (Q' := fun r h' => r = .inl none ∧ h' = u19) (pc := 80) d_Holders_spread_80 cv_Holders_124 y_P_push c18 rfl (Nat.le_of_ble_eq_true rfl) (Nat.le_of_ble_eq_true rfl) (w_P_push (d := d + 0) (Q := fun r h' => r = .inl none ∧ h' = u19) ⟨rfl, rfl⟩ u l0 v16 e21) (fun v h' z => ?_) (fun a h' z => nomatch z.1)
      obtain ⟨z1, z2⟩ := z
      subst h'
      cases z1
      show xW sc m_Holders_spread (d + 9) Q (u19) 83 [some (vR l0), none, some (vI l2), some (vI l3), some (vI l4), some (vI l5)] []
      refine x_iinc (pc := 83) d_Holders_spread_83 rfl (by decide) ?_
      show xW sc m_Holders_spread (d + 9) Q (u19) 86 [some (vR l0), none, some (vI l2), some (vI l3), some (vI l4), some (vI (l5 + Int32.ofInt 1))] []
      refine x_goto (tgt := 64) (pc := 86) d_Holders_spread_86 (by decide) ?_
      exact hk64 l0 l2 l3 l4 (l5 + Int32.ofInt 1) u19 h
def f_Holders_spread_b31 (sc : xSc)  (l0 : Option Nat) (l1 : Option Nat) (t0 : Int32) (t1 : Option Nat) (u : xH) : Option ((Unit ⊕ Nat) × xH) := (if xis sc u 0 t1 = true then tB (f_P_need sc u t1 t0 (2 : Int32)) (fun v3 u2 => (gI sc u2 2 2 l1).bind fun v7 => (gI sc u2 2 3 l1).bind fun v9 => (gI sc u2 2 1 l1).bind fun v11 => (gI sc u2 0 9 l0).bind fun v13 => (pV u2 0 9 l0 (vI (v13 - (1 : Int32)))).bind fun u15 => f_Holders_spread_b64 sc mF l0 v7 v9 v11 (0 : Int32) u15) (fun a5 u6 => some (.inr a5, u6)) else none)
theorem w_Holders_spread_b31 {sc : xSc} {d : Nat} {Q : xR → xH → Prop} {oZ : Unit ⊕ Nat} {hZ : xH}  (hQ : Q (cvU oZ) hZ) (l0 : Option Nat) (l1 : Option Nat) (t0 : Int32) (t1 : Option Nat) (u : xH) (h : f_Holders_spread_b31 sc  l0 l1 t0 t1 u = some (oZ, hZ)) : xW sc m_Holders_spread (d + 9) Q (u) 31 [some (vR l0), some (vR l1), none, none, none, none] [vI t0, vR t1] := by
  unfold f_Holders_spread_b31 at h
  refine x_iconst (v := (2 : Int32)) (pc := 31) d_Holders_spread_31 (by decide) ?_
  obtain ⟨c1, h⟩ := ite_some h
  rcases tB_s h with ⟨a5, u6, e4, h⟩ | ⟨v3, u2, e4, h⟩
  · refine c_invv (c := 0) (d := d + 8) (av := [vI t0, vI (2 : Int32)]) (st := []) (Q' := fun r h' => r = .inr a5 ∧ h' = u6) (pc := 32) d_Holders_spread_32 cv_Holders_35 y_P_need c1 rfl (Nat.le_of_ble_eq_true rfl) (Nat.le_of_ble_eq_true rfl) (w_P_need (d := d + 2) (Q := fun r h' => r = .inr a5 ∧ h' = u6) ⟨rfl, rfl⟩ u t1 t0 (2 : Int32) e4) (fun v h' z => nomatch z.1) (fun a h' z => ?_)
    obtain ⟨z1, z2⟩ := z
    subst h'
    cases z1
    cases h
    exact x_thOut (xno rfl) hQ
  refine c_invv (c := 0) (d := d + 8) (av := [vI t0, vI (2 : Int32)]) (st := []) (Q' := fun r h' => r = .inl none ∧ h' = u2) (pc := 32) d_Holders_spread_32 cv_Holders_35 y_P_need c1 rfl (Nat.le_of_ble_eq_true rfl) (Nat.le_of_ble_eq_true rfl) (w_P_need (d := d + 2) (Q := fun r h' => r = .inl none ∧ h' = u2) ⟨rfl, rfl⟩ u t1 t0 (2 : Int32) e4) (fun v h' z => ?_) (fun a h' z => nomatch z.1)
  obtain ⟨z1, z2⟩ := z
  subst h'
  cases z1
  show xW sc m_Holders_spread (d + 9) Q (u2) 35 [some (vR l0), some (vR l1), none, none, none, none] []
  refine x_aload_n (pc := 35) d_Holders_spread_35 rfl ?_
  obtain ⟨v7, e8, h⟩ := Option.bind_eq_some_iff.mp h
  refine c_getI (pc := 36) d_Holders_spread_36 l_Holders_31 e8 ?_
  refine x_istore_n (pc := 39) d_Holders_spread_39 (by decide) ?_
  show xW sc m_Holders_spread (d + 9) Q (u2) 40 [some (vR l0), some (vR l1), some (vI v7), none, none, none] []
  refine x_aload_n (pc := 40) d_Holders_spread_40 rfl ?_
  obtain ⟨v9, e10, h⟩ := Option.bind_eq_some_iff.mp h
  refine c_getI (pc := 41) d_Holders_spread_41 l_Holders_53 e10 ?_
  refine x_istore_n (pc := 44) d_Holders_spread_44 (by decide) ?_
  show xW sc m_Holders_spread (d + 9) Q (u2) 45 [some (vR l0), some (vR l1), some (vI v7), some (vI v9), none, none] []
  refine x_aload_n (pc := 45) d_Holders_spread_45 rfl ?_
  obtain ⟨v11, e12, h⟩ := Option.bind_eq_some_iff.mp h
  refine c_getI (pc := 46) d_Holders_spread_46 l_Holders_86 e12 ?_
  refine x_istore (pc := 49) d_Holders_spread_49 (by decide) ?_
  show xW sc m_Holders_spread (d + 9) Q (u2) 51 [some (vR l0), some (vR l1), some (vI v7), some (vI v9), some (vI v11), none] []
  refine x_aload_n (pc := 51) d_Holders_spread_51 rfl ?_
  refine x_dup (pc := 52) d_Holders_spread_52 rfl ?_
  obtain ⟨v13, e14, h⟩ := Option.bind_eq_some_iff.mp h
  refine c_getI (pc := 53) d_Holders_spread_53 l_Holders_83 e14 ?_
  refine x_iconst (v := (1 : Int32)) (pc := 56) d_Holders_spread_56 (by decide) ?_
  refine x_isub (pc := 57) d_Holders_spread_57 ?_
  obtain ⟨u15, e16, h⟩ := Option.bind_eq_some_iff.mp h
  refine c_putf (pc := 58) d_Holders_spread_58 l_Holders_83 fp_0_9 (xfit_int) e16 ?_
  refine x_iconst (v := (0 : Int32)) (pc := 61) d_Holders_spread_61 (by decide) ?_
  refine x_istore (pc := 62) d_Holders_spread_62 (by decide) ?_
  show xW sc m_Holders_spread (d + 9) Q (u15) 64 [some (vR l0), some (vR l1), some (vI v7), some (vI v9), some (vI v11), some (vI (0 : Int32))] []
  exact x_wk (L' := [some (vR l0), none, some (vI v7), some (vI v9), some (vI v11), some (vI (0 : Int32))]) ⟨Or.inr rfl, Or.inl rfl, Or.inr rfl, Or.inr rfl, Or.inr rfl, Or.inr rfl, trivial⟩ (w_Holders_spread_b64 hQ mF l0 v7 v9 v11 (0 : Int32) u15 h)
def f_Holders_spread (sc : xSc) (u : xH) (a1 : Option Nat) (a2 : Option Nat) : Option ((Unit ⊕ Nat) × xH) := (if xis sc u 2 a2 = true then (f_Slot_is sc u a2 (some 77)).bind fun v2 => (if xis sc u 0 a1 = true then tB (f_P_type sc u a1 v2) (fun v6 u5 => (gI sc u5 0 9 a1).bind fun v10 => (gI sc u5 2 3 a2).bind fun v12 => (if (40 : Int32) < (v10 + v12) then f_Holders_spread_b31 sc a1 a2 (0 : Int32) a1 u5 else f_Holders_spread_b31 sc a1 a2 (1 : Int32) a1 u5)) (fun a8 u9 => some (.inr a8, u9)) else none) else none)
theorem w_Holders_spread {sc : xSc} {d : Nat} {Q : xR → xH → Prop} {oZ : Unit ⊕ Nat} {hZ : xH} (hQ : Q (cvU oZ) hZ) (u : xH) (a1 : Option Nat) (a2 : Option Nat) (h : f_Holders_spread sc u a1 a2 = some (oZ, hZ)) : xW sc m_Holders_spread (d + 9) Q (u) 0 (xent [vR a1, vR a2] m_Holders_spread.2.2.1) [] := by
  show xW sc m_Holders_spread (d + 9) Q (u) 0 [some (vR a1), some (vR a2), none, none, none, none] []
  unfold f_Holders_spread at h
  refine x_aload_n (pc := 0) d_Holders_spread_0 rfl ?_
  refine x_aload_n (pc := 1) d_Holders_spread_1 rfl ?_
  refine x_gets (v := vR (some 77)) (pc := 2) d_Holders_spread_2 sl_Holders_39 ?_
  obtain ⟨c1, h⟩ := ite_some h
  obtain ⟨v2, e3, h⟩ := Option.bind_eq_some_iff.mp h
  refine c_invv (c := 2) (d := d + 8) (av := [vR (some 77)]) (st := [vR a1]) (Q' := fun r h' => r = .inl (some (vI v2)) ∧ h' = u) (pc := 5) d_Holders_spread_5 cv_Holders_21 y_Slot_is c1 rfl (Nat.le_of_ble_eq_true rfl) (Nat.le_of_ble_eq_true rfl) (w_Slot_is (d := d + 8) (Q := fun r h' => r = .inl (some (vI v2)) ∧ h' = u) ⟨rfl, rfl⟩ a2 (some 77) e3) (fun v h' z => ?_) (fun a h' z => nomatch z.1)
  obtain ⟨z1, z2⟩ := z
  subst h'
  cases z1
  show xW sc m_Holders_spread (d + 9) Q (u) 8 [some (vR a1), some (vR a2), none, none, none, none] [vI v2, vR a1]
  obtain ⟨c4, h⟩ := ite_some h
  rcases tB_s h with ⟨a8, u9, e7, h⟩ | ⟨v6, u5, e7, h⟩
  · refine c_invv (c := 0) (d := d + 8) (av := [vI v2]) (st := []) (Q' := fun r h' => r = .inr a8 ∧ h' = u9) (pc := 8) d_Holders_spread_8 cv_Holders_27 y_P_type c4 rfl (Nat.le_of_ble_eq_true rfl) (Nat.le_of_ble_eq_true rfl) (w_P_type (d := d + 1) (Q := fun r h' => r = .inr a8 ∧ h' = u9) ⟨rfl, rfl⟩ u a1 v2 e7) (fun v h' z => nomatch z.1) (fun a h' z => ?_)
    obtain ⟨z1, z2⟩ := z
    subst h'
    cases z1
    cases h
    exact x_thOut (xno rfl) hQ
  refine c_invv (c := 0) (d := d + 8) (av := [vI v2]) (st := []) (Q' := fun r h' => r = .inl none ∧ h' = u5) (pc := 8) d_Holders_spread_8 cv_Holders_27 y_P_type c4 rfl (Nat.le_of_ble_eq_true rfl) (Nat.le_of_ble_eq_true rfl) (w_P_type (d := d + 1) (Q := fun r h' => r = .inl none ∧ h' = u5) ⟨rfl, rfl⟩ u a1 v2 e7) (fun v h' z => ?_) (fun a h' z => nomatch z.1)
  obtain ⟨z1, z2⟩ := z
  subst h'
  cases z1
  show xW sc m_Holders_spread (d + 9) Q (u5) 11 [some (vR a1), some (vR a2), none, none, none, none] []
  refine x_aload_n (pc := 11) d_Holders_spread_11 rfl ?_
  refine x_aload_n (pc := 12) d_Holders_spread_12 rfl ?_
  obtain ⟨v10, e11, h⟩ := Option.bind_eq_some_iff.mp h
  refine c_getI (pc := 13) d_Holders_spread_13 l_Holders_83 e11 ?_
  refine x_aload_n (pc := 16) d_Holders_spread_16 rfl ?_
  obtain ⟨v12, e13, h⟩ := Option.bind_eq_some_iff.mp h
  refine c_getI (pc := 17) d_Holders_spread_17 l_Holders_53 e13 ?_
  refine x_iadd (pc := 20) d_Holders_spread_20 ?_
  refine x_bipush (v := (40 : Int32)) (pc := 21) d_Holders_spread_21 (by decide) ?_
  refine x_icmp_gt (tgt := 30) (pc := 23) d_Holders_spread_23 (by decide) (fun c14 => ?_) (fun c14 => ?_)
  · rw [if_pos c14] at h
    refine x_iconst (v := (0 : Int32)) (pc := 30) d_Holders_spread_30 (by decide) ?_
    exact w_Holders_spread_b31 hQ a1 a2 (0 : Int32) a1 u5 h
  · rw [if_neg c14] at h
    refine x_iconst (v := (1 : Int32)) (pc := 26) d_Holders_spread_26 (by decide) ?_
    refine x_goto (tgt := 31) (pc := 27) d_Holders_spread_27 (by decide) ?_
    exact w_Holders_spread_b31 hQ a1 a2 (1 : Int32) a1 u5 h
def f_Holders_perform_b337 (sc : xSc)  (u : xH) : Option ((Unit ⊕ Nat) × xH) := some (.inl (), u)
theorem w_Holders_perform_b337 {sc : xSc} {d : Nat} {Q : xR → xH → Prop} {oZ : Unit ⊕ Nat} {hZ : xH}  (hQ : Q (cvU oZ) hZ) (u : xH) (h : f_Holders_perform_b337 sc  u = some (oZ, hZ)) : xW sc m_Holders_perform (d + 11) Q (u) 337 [none, none, none, none, none, none, none, none] [] := by
  unfold f_Holders_perform_b337 at h
  cases h
  exact x_vret (pc := 337) d_Holders_perform_337 rfl hQ
def f_Holders_perform_b278 (sc : xSc)  (l1 : Option Nat) (l3 : Option Nat) (l4 : Option Nat) (l7 : Option Nat) (t0 : Int32) (t1 : Option Nat) (u : xH) : Option ((Unit ⊕ Nat) × xH) := (if xis sc u 0 t1 = true then tB (f_P_need sc u t1 t0 (4 : Int32)) (fun v3 u2 => (gI sc u2 0 9 l1).bind fun v7 => (pV u2 0 9 l1 (vI (v7 - (2 : Int32)))).bind fun u9 => (gI sc u9 2 2 l3).bind fun v11 => (gI sc u9 2 2 l4).bind fun v13 => (gI sc u9 2 2 l7).bind fun v15 => (gI sc u9 2 1 l3).bind fun v17 => (if xis sc u9 2 l3 = true then (f_Slot_set sc u9 l3 (some 77) (v11 + v13) v15 v17).bind fun u20 => f_Holders_perform_b337 sc u20 else none)) (fun a5 u6 => some (.inr a5, u6)) else none)
theorem w_Holders_perform_b278 {sc : xSc} {d : Nat} {Q : xR → xH → Prop} {oZ : Unit ⊕ Nat} {hZ : xH}  (hQ : Q (cvU oZ) hZ) (l1 : Option Nat) (l3 : Option Nat) (l4 : Option Nat) (l7 : Option Nat) (t0 : Int32) (t1 : Option Nat) (u : xH) (h : f_Holders_perform_b278 sc  l1 l3 l4 l7 t0 t1 u = some (oZ, hZ)) : xW sc m_Holders_perform (d + 11) Q (u) 278 [none, some (vR l1), none, some (vR l3), some (vR l4), none, none, some (vR l7)] [vI t0, vR t1] := by
  unfold f_Holders_perform_b278 at h
  refine x_iconst (v := (4 : Int32)) (pc := 278) d_Holders_perform_278 (by decide) ?_
  obtain ⟨c1, h⟩ := ite_some h
  rcases tB_s h with ⟨a5, u6, e4, h⟩ | ⟨v3, u2, e4, h⟩
  · refine c_invv (c := 0) (d := d + 10) (av := [vI t0, vI (4 : Int32)]) (st := []) (Q' := fun r h' => r = .inr a5 ∧ h' = u6) (pc := 279) d_Holders_perform_279 cv_Holders_35 y_P_need c1 rfl (Nat.le_of_ble_eq_true rfl) (Nat.le_of_ble_eq_true rfl) (w_P_need (d := d + 4) (Q := fun r h' => r = .inr a5 ∧ h' = u6) ⟨rfl, rfl⟩ u t1 t0 (4 : Int32) e4) (fun v h' z => nomatch z.1) (fun a h' z => ?_)
    obtain ⟨z1, z2⟩ := z
    subst h'
    cases z1
    cases h
    exact x_thOut (xno rfl) hQ
  refine c_invv (c := 0) (d := d + 10) (av := [vI t0, vI (4 : Int32)]) (st := []) (Q' := fun r h' => r = .inl none ∧ h' = u2) (pc := 279) d_Holders_perform_279 cv_Holders_35 y_P_need c1 rfl (Nat.le_of_ble_eq_true rfl) (Nat.le_of_ble_eq_true rfl) (w_P_need (d := d + 4) (Q := fun r h' => r = .inl none ∧ h' = u2) ⟨rfl, rfl⟩ u t1 t0 (4 : Int32) e4) (fun v h' z => ?_) (fun a h' z => nomatch z.1)
  obtain ⟨z1, z2⟩ := z
  subst h'
  cases z1
  show xW sc m_Holders_perform (d + 11) Q (u2) 282 [none, some (vR l1), none, some (vR l3), some (vR l4), none, none, some (vR l7)] []
  refine x_aload_n (pc := 282) d_Holders_perform_282 rfl ?_
  refine x_dup (pc := 283) d_Holders_perform_283 rfl ?_
  obtain ⟨v7, e8, h⟩ := Option.bind_eq_some_iff.mp h
  refine c_getI (pc := 284) d_Holders_perform_284 l_Holders_83 e8 ?_
  refine x_iconst (v := (2 : Int32)) (pc := 287) d_Holders_perform_287 (by decide) ?_
  refine x_isub (pc := 288) d_Holders_perform_288 ?_
  obtain ⟨u9, e10, h⟩ := Option.bind_eq_some_iff.mp h
  refine c_putf (pc := 289) d_Holders_perform_289 l_Holders_83 fp_0_9 (xfit_int) e10 ?_
  refine x_aload_n (pc := 292) d_Holders_perform_292 rfl ?_
  refine x_gets (v := vR (some 77)) (pc := 293) d_Holders_perform_293 sl_Holders_39 ?_
  refine x_aload_n (pc := 296) d_Holders_perform_296 rfl ?_
  obtain ⟨v11, e12, h⟩ := Option.bind_eq_some_iff.mp h
  refine c_getI (pc := 297) d_Holders_perform_297 l_Holders_31 e12 ?_
  refine x_aload (pc := 300) d_Holders_perform_300 rfl ?_
  obtain ⟨v13, e14, h⟩ := Option.bind_eq_some_iff.mp h
  refine c_getI (pc := 302) d_Holders_perform_302 l_Holders_31 e14 ?_
  refine x_iadd (pc := 305) d_Holders_perform_305 ?_
  refine x_aload (pc := 306) d_Holders_perform_306 rfl ?_
  obtain ⟨v15, e16, h⟩ := Option.bind_eq_some_iff.mp h
  refine c_getI (pc := 308) d_Holders_perform_308 l_Holders_31 e16 ?_
  refine x_aload_n (pc := 311) d_Holders_perform_311 rfl ?_
  obtain ⟨v17, e18, h⟩ := Option.bind_eq_some_iff.mp h
  refine c_getI (pc := 312) d_Holders_perform_312 l_Holders_86 e18 ?_
  obtain ⟨c19, h⟩ := ite_some h
  obtain ⟨u20, e21, h⟩ := Option.bind_eq_some_iff.mp h
  refine c_invv (c := 2) (d := d + 10) (av := [vR (some 77), vI (v11 + v13), vI v15, vI v17]) (st := []) (Q' := fun r h' => r = .inl none ∧ h' = u20) (pc := 315) d_Holders_perform_315 cv_Holders_46 y_Slot_set c19 rfl (Nat.le_of_ble_eq_true rfl) (Nat.le_of_ble_eq_true rfl) (w_Slot_set (d := d + 10) (Q := fun r h' => r = .inl none ∧ h' = u20) ⟨rfl, rfl⟩ u9 l3 (some 77) (v11 + v13) v15 v17 e21) (fun v h' z => ?_) (fun a h' z => nomatch z.1)
  obtain ⟨z1, z2⟩ := z
  subst h'
  cases z1
  show xW sc m_Holders_perform (d + 11) Q (u20) 318 [none, some (vR l1), none, some (vR l3), some (vR l4), none, none, some (vR l7)] []
  refine x_goto (tgt := 337) (pc := 318) d_Holders_perform_318 (by decide) ?_
  exact x_wk (L' := [none, none, none, none, none, none, none, none]) ⟨Or.inl rfl, Or.inl rfl, Or.inl rfl, Or.inl rfl, Or.inl rfl, Or.inl rfl, Or.inl rfl, Or.inl rfl, trivial⟩ (w_Holders_perform_b337 hQ u20 h)
def f_Holders_perform_b277 (sc : xSc)  (l1 : Option Nat) (l3 : Option Nat) (l4 : Option Nat) (l7 : Option Nat) (t0 : Option Nat) (u : xH) : Option ((Unit ⊕ Nat) × xH) := f_Holders_perform_b278 sc l1 l3 l4 l7 (0 : Int32) t0 u
theorem w_Holders_perform_b277 {sc : xSc} {d : Nat} {Q : xR → xH → Prop} {oZ : Unit ⊕ Nat} {hZ : xH}  (hQ : Q (cvU oZ) hZ) (l1 : Option Nat) (l3 : Option Nat) (l4 : Option Nat) (l7 : Option Nat) (t0 : Option Nat) (u : xH) (h : f_Holders_perform_b277 sc  l1 l3 l4 l7 t0 u = some (oZ, hZ)) : xW sc m_Holders_perform (d + 11) Q (u) 277 [none, some (vR l1), none, some (vR l3), some (vR l4), none, none, some (vR l7)] [vR t0] := by
  unfold f_Holders_perform_b277 at h
  refine x_iconst (v := (0 : Int32)) (pc := 277) d_Holders_perform_277 (by decide) ?_
  exact w_Holders_perform_b278 hQ l1 l3 l4 l7 (0 : Int32) t0 u h
def f_Holders_perform_b231 (sc : xSc)  (l1 : Option Nat) (l3 : Option Nat) (l4 : Option Nat) (l7 : Option Nat) (t0 : Int32) (t1 : Option Nat) (u : xH) : Option ((Unit ⊕ Nat) × xH) := (if xis sc u 0 t1 = true then tB (f_P_type sc u t1 t0) (fun v3 u2 => (gI sc u2 2 2 l4).bind fun v7 => (if v7 < 0 then f_Holders_perform_b277 sc l1 l3 l4 l7 l1 u2 else (gI sc u2 2 2 l7).bind fun v10 => (if v10 < 0 then f_Holders_perform_b277 sc l1 l3 l4 l7 l1 u2 else (gI sc u2 2 2 l4).bind fun v13 => (gI sc u2 2 2 l7).bind fun v15 => (gI sc u2 2 3 l3).bind fun v17 => (if 0 < (lg_cmp (v13.toInt64 + v15.toInt64) v17.toInt64) then f_Holders_perform_b277 sc l1 l3 l4 l7 l1 u2 else f_Holders_perform_b278 sc l1 l3 l4 l7 (1 : Int32) l1 u2)))) (fun a5 u6 => some (.inr a5, u6)) else none)
theorem w_Holders_perform_b231 {sc : xSc} {d : Nat} {Q : xR → xH → Prop} {oZ : Unit ⊕ Nat} {hZ : xH}  (hQ : Q (cvU oZ) hZ) (l1 : Option Nat) (l3 : Option Nat) (l4 : Option Nat) (l7 : Option Nat) (t0 : Int32) (t1 : Option Nat) (u : xH) (h : f_Holders_perform_b231 sc  l1 l3 l4 l7 t0 t1 u = some (oZ, hZ)) : xW sc m_Holders_perform (d + 11) Q (u) 231 [none, some (vR l1), none, some (vR l3), some (vR l4), none, none, some (vR l7)] [vI t0, vR t1] := by
  unfold f_Holders_perform_b231 at h
  obtain ⟨c1, h⟩ := ite_some h
  rcases tB_s h with ⟨a5, u6, e4, h⟩ | ⟨v3, u2, e4, h⟩
  · refine c_invv (c := 0) (d := d + 10) (av := [vI t0]) (st := []) (Q' := fun r h' => r = .inr a5 ∧ h' = u6) (pc := 231) d_Holders_perform_231 cv_Holders_27 y_P_type c1 rfl (Nat.le_of_ble_eq_true rfl) (Nat.le_of_ble_eq_true rfl) (w_P_type (d := d + 3) (Q := fun r h' => r = .inr a5 ∧ h' = u6) ⟨rfl, rfl⟩ u t1 t0 e4) (fun v h' z => nomatch z.1) (fun a h' z => ?_)
    obtain ⟨z1, z2⟩ := z
    subst h'
    cases z1
    cases h
    exact x_thOut (xno rfl) hQ
  refine c_invv (c := 0) (d := d + 10) (av := [vI t0]) (st := []) (Q' := fun r h' => r = .inl none ∧ h' = u2) (pc := 231) d_Holders_perform_231 cv_Holders_27 y_P_type c1 rfl (Nat.le_of_ble_eq_true rfl) (Nat.le_of_ble_eq_true rfl) (w_P_type (d := d + 3) (Q := fun r h' => r = .inl none ∧ h' = u2) ⟨rfl, rfl⟩ u t1 t0 e4) (fun v h' z => ?_) (fun a h' z => nomatch z.1)
  obtain ⟨z1, z2⟩ := z
  subst h'
  cases z1
  show xW sc m_Holders_perform (d + 11) Q (u2) 234 [none, some (vR l1), none, some (vR l3), some (vR l4), none, none, some (vR l7)] []
  refine x_aload_n (pc := 234) d_Holders_perform_234 rfl ?_
  refine x_aload (pc := 235) d_Holders_perform_235 rfl ?_
  obtain ⟨v7, e8, h⟩ := Option.bind_eq_some_iff.mp h
  refine c_getI (pc := 237) d_Holders_perform_237 l_Holders_31 e8 ?_
  refine x_if_lt (tgt := 277) (pc := 240) d_Holders_perform_240 (by decide) (fun c9 => ?_) (fun c9 => ?_)
  · rw [if_pos c9] at h
    exact w_Holders_perform_b277 hQ l1 l3 l4 l7 l1 u2 h
  · rw [if_neg c9] at h
    refine x_aload (pc := 243) d_Holders_perform_243 rfl ?_
    obtain ⟨v10, e11, h⟩ := Option.bind_eq_some_iff.mp h
    refine c_getI (pc := 245) d_Holders_perform_245 l_Holders_31 e11 ?_
    refine x_if_lt (tgt := 277) (pc := 248) d_Holders_perform_248 (by decide) (fun c12 => ?_) (fun c12 => ?_)
    · rw [if_pos c12] at h
      exact w_Holders_perform_b277 hQ l1 l3 l4 l7 l1 u2 h
    · rw [if_neg c12] at h
      refine x_aload (pc := 251) d_Holders_perform_251 rfl ?_
      obtain ⟨v13, e14, h⟩ := Option.bind_eq_some_iff.mp h
      refine c_getI (pc := 253) d_Holders_perform_253 l_Holders_31 e14 ?_
      refine x_i2l (pc := 256) d_Holders_perform_256 ?_
      refine x_aload (pc := 257) d_Holders_perform_257 rfl ?_
      obtain ⟨v15, e16, h⟩ := Option.bind_eq_some_iff.mp h
      refine c_getI (pc := 259) d_Holders_perform_259 l_Holders_31 e16 ?_
      refine x_i2l (pc := 262) d_Holders_perform_262 ?_
      refine x_ladd (pc := 263) d_Holders_perform_263 ?_
      refine x_aload_n (pc := 264) d_Holders_perform_264 rfl ?_
      obtain ⟨v17, e18, h⟩ := Option.bind_eq_some_iff.mp h
      refine c_getI (pc := 265) d_Holders_perform_265 l_Holders_53 e18 ?_
      refine x_i2l (pc := 268) d_Holders_perform_268 ?_
      refine x_lcmp (pc := 269) d_Holders_perform_269 ?_
      refine x_if_gt (tgt := 277) (pc := 270) d_Holders_perform_270 (by decide) (fun c19 => ?_) (fun c19 => ?_)
      · rw [if_pos c19] at h
        exact w_Holders_perform_b277 hQ l1 l3 l4 l7 l1 u2 h
      · rw [if_neg c19] at h
        refine x_iconst (v := (1 : Int32)) (pc := 273) d_Holders_perform_273 (by decide) ?_
        refine x_goto (tgt := 278) (pc := 274) d_Holders_perform_274 (by decide) ?_
        exact w_Holders_perform_b278 hQ l1 l3 l4 l7 (1 : Int32) l1 u2 h
def f_Holders_perform_b230 (sc : xSc)  (l1 : Option Nat) (l3 : Option Nat) (l4 : Option Nat) (l7 : Option Nat) (t0 : Option Nat) (u : xH) : Option ((Unit ⊕ Nat) × xH) := f_Holders_perform_b231 sc l1 l3 l4 l7 (0 : Int32) t0 u
theorem w_Holders_perform_b230 {sc : xSc} {d : Nat} {Q : xR → xH → Prop} {oZ : Unit ⊕ Nat} {hZ : xH}  (hQ : Q (cvU oZ) hZ) (l1 : Option Nat) (l3 : Option Nat) (l4 : Option Nat) (l7 : Option Nat) (t0 : Option Nat) (u : xH) (h : f_Holders_perform_b230 sc  l1 l3 l4 l7 t0 u = some (oZ, hZ)) : xW sc m_Holders_perform (d + 11) Q (u) 230 [none, some (vR l1), none, some (vR l3), some (vR l4), none, none, some (vR l7)] [vR t0] := by
  unfold f_Holders_perform_b230 at h
  refine x_iconst (v := (0 : Int32)) (pc := 230) d_Holders_perform_230 (by decide) ?_
  exact w_Holders_perform_b231 hQ l1 l3 l4 l7 (0 : Int32) t0 u h
def f_Holders_perform_b155 (sc : xSc)  (t0 : Int32) (t1 : Option Nat) (t2 : Int32) (t3 : Option Nat) (u : xH) : Option ((Unit ⊕ Nat) × xH) := (if xis sc u 0 t3 = true then tB (f_P_give sc u t3 t2 t1 t0) (fun v3 u2 => f_Holders_perform_b337 sc u2) (fun a5 u6 => some (.inr a5, u6)) else none)
theorem w_Holders_perform_b155 {sc : xSc} {d : Nat} {Q : xR → xH → Prop} {oZ : Unit ⊕ Nat} {hZ : xH}  (hQ : Q (cvU oZ) hZ) (t0 : Int32) (t1 : Option Nat) (t2 : Int32) (t3 : Option Nat) (u : xH) (h : f_Holders_perform_b155 sc  t0 t1 t2 t3 u = some (oZ, hZ)) : xW sc m_Holders_perform (d + 11) Q (u) 155 [none, none, none, none, none, none, none, none] [vI t0, vR t1, vI t2, vR t3] := by
  unfold f_Holders_perform_b155 at h
  obtain ⟨c1, h⟩ := ite_some h
  rcases tB_s h with ⟨a5, u6, e4, h⟩ | ⟨v3, u2, e4, h⟩
  · refine c_invv (c := 0) (d := d + 10) (av := [vI t2, vR t1, vI t0]) (st := []) (Q' := fun r h' => r = .inr a5 ∧ h' = u6) (pc := 155) d_Holders_perform_155 cv_Holders_65 y_P_give c1 rfl (Nat.le_of_ble_eq_true rfl) (Nat.le_of_ble_eq_true rfl) (w_P_give (d := d + 2) (Q := fun r h' => r = .inr a5 ∧ h' = u6) ⟨rfl, rfl⟩ u t3 t2 t1 t0 e4) (fun v h' z => nomatch z.1) (fun a h' z => ?_)
    obtain ⟨z1, z2⟩ := z
    subst h'
    cases z1
    cases h
    exact x_thOut (xno rfl) hQ
  refine c_invv (c := 0) (d := d + 10) (av := [vI t2, vR t1, vI t0]) (st := []) (Q' := fun r h' => r = .inl none ∧ h' = u2) (pc := 155) d_Holders_perform_155 cv_Holders_65 y_P_give c1 rfl (Nat.le_of_ble_eq_true rfl) (Nat.le_of_ble_eq_true rfl) (w_P_give (d := d + 2) (Q := fun r h' => r = .inl none ∧ h' = u2) ⟨rfl, rfl⟩ u t3 t2 t1 t0 e4) (fun v h' z => ?_) (fun a h' z => nomatch z.1)
  obtain ⟨z1, z2⟩ := z
  subst h'
  cases z1
  show xW sc m_Holders_perform (d + 11) Q (u2) 158 [none, none, none, none, none, none, none, none] []
  refine x_goto (tgt := 337) (pc := 158) d_Holders_perform_158 (by decide) ?_
  exact w_Holders_perform_b337 hQ u2 h
def f_Holders_perform_b123 (sc : xSc)  (l1 : Option Nat) (l3 : Option Nat) (t0 : Int32) (t1 : Option Nat) (u : xH) : Option ((Unit ⊕ Nat) × xH) := (if xis sc u 0 t1 = true then tB (f_P_type sc u t1 t0) (fun v3 u2 => (if xis sc u2 2 l3 = true then (f_Slot_is sc u2 l3 (some 77)).bind fun v8 => (if v8 = 0 then (gR sc u2 2 7 l3).bind fun v11 => (gI sc u2 4 2 v11).bind fun v13 => f_Holders_perform_b155 sc v13 (some 72) (1 : Int32) l1 u2 else (gI sc u2 2 3 l3).bind fun v15 => f_Holders_perform_b155 sc v15 (some 72) (1 : Int32) l1 u2) else none)) (fun a5 u6 => some (.inr a5, u6)) else none)
theorem w_Holders_perform_b123 {sc : xSc} {d : Nat} {Q : xR → xH → Prop} {oZ : Unit ⊕ Nat} {hZ : xH}  (hQ : Q (cvU oZ) hZ) (l1 : Option Nat) (l3 : Option Nat) (t0 : Int32) (t1 : Option Nat) (u : xH) (h : f_Holders_perform_b123 sc  l1 l3 t0 t1 u = some (oZ, hZ)) : xW sc m_Holders_perform (d + 11) Q (u) 123 [none, some (vR l1), none, some (vR l3), none, none, none, none] [vI t0, vR t1] := by
  unfold f_Holders_perform_b123 at h
  obtain ⟨c1, h⟩ := ite_some h
  rcases tB_s h with ⟨a5, u6, e4, h⟩ | ⟨v3, u2, e4, h⟩
  · refine c_invv (c := 0) (d := d + 10) (av := [vI t0]) (st := []) (Q' := fun r h' => r = .inr a5 ∧ h' = u6) (pc := 123) d_Holders_perform_123 cv_Holders_27 y_P_type c1 rfl (Nat.le_of_ble_eq_true rfl) (Nat.le_of_ble_eq_true rfl) (w_P_type (d := d + 3) (Q := fun r h' => r = .inr a5 ∧ h' = u6) ⟨rfl, rfl⟩ u t1 t0 e4) (fun v h' z => nomatch z.1) (fun a h' z => ?_)
    obtain ⟨z1, z2⟩ := z
    subst h'
    cases z1
    cases h
    exact x_thOut (xno rfl) hQ
  refine c_invv (c := 0) (d := d + 10) (av := [vI t0]) (st := []) (Q' := fun r h' => r = .inl none ∧ h' = u2) (pc := 123) d_Holders_perform_123 cv_Holders_27 y_P_type c1 rfl (Nat.le_of_ble_eq_true rfl) (Nat.le_of_ble_eq_true rfl) (w_P_type (d := d + 3) (Q := fun r h' => r = .inl none ∧ h' = u2) ⟨rfl, rfl⟩ u t1 t0 e4) (fun v h' z => ?_) (fun a h' z => nomatch z.1)
  obtain ⟨z1, z2⟩ := z
  subst h'
  cases z1
  show xW sc m_Holders_perform (d + 11) Q (u2) 126 [none, some (vR l1), none, some (vR l3), none, none, none, none] []
  refine x_aload_n (pc := 126) d_Holders_perform_126 rfl ?_
  refine x_iconst (v := (1 : Int32)) (pc := 127) d_Holders_perform_127 (by decide) ?_
  refine x_gets (v := vR (some 72)) (pc := 128) d_Holders_perform_128 sl_Holders_15 ?_
  refine x_aload_n (pc := 131) d_Holders_perform_131 rfl ?_
  refine x_gets (v := vR (some 77)) (pc := 132) d_Holders_perform_132 sl_Holders_39 ?_
  obtain ⟨c7, h⟩ := ite_some h
  obtain ⟨v8, e9, h⟩ := Option.bind_eq_some_iff.mp h
  refine c_invv (c := 2) (d := d + 10) (av := [vR (some 77)]) (st := [vR (some 72), vI (1 : Int32), vR l1]) (Q' := fun r h' => r = .inl (some (vI v8)) ∧ h' = u2) (pc := 135) d_Holders_perform_135 cv_Holders_21 y_Slot_is c7 rfl (Nat.le_of_ble_eq_true rfl) (Nat.le_of_ble_eq_true rfl) (w_Slot_is (d := d + 10) (Q := fun r h' => r = .inl (some (vI v8)) ∧ h' = u2) ⟨rfl, rfl⟩ l3 (some 77) e9) (fun v h' z => ?_) (fun a h' z => nomatch z.1)
  obtain ⟨z1, z2⟩ := z
  subst h'
  cases z1
  show xW sc m_Holders_perform (d + 11) Q (u2) 138 [none, some (vR l1), none, some (vR l3), none, none, none, none] [vI v8, vR (some 72), vI (1 : Int32), vR l1]
  refine x_if_eq (tgt := 148) (pc := 138) d_Holders_perform_138 (by decide) (fun c10 => ?_) (fun c10 => ?_)
  · rw [if_pos c10] at h
    refine x_aload_n (pc := 148) d_Holders_perform_148 rfl ?_
    obtain ⟨v11, e12, h⟩ := Option.bind_eq_some_iff.mp h
    refine c_getR (pc := 149) d_Holders_perform_149 l_Holders_56 e12 ?_
    obtain ⟨v13, e14, h⟩ := Option.bind_eq_some_iff.mp h
    refine c_getI (pc := 152) d_Holders_perform_152 l_Holders_60 e14 ?_
    exact x_wk (L' := [none, none, none, none, none, none, none, none]) ⟨Or.inl rfl, Or.inl rfl, Or.inl rfl, Or.inl rfl, Or.inl rfl, Or.inl rfl, Or.inl rfl, Or.inl rfl, trivial⟩ (w_Holders_perform_b155 hQ v13 (some 72) (1 : Int32) l1 u2 h)
  · rw [if_neg c10] at h
    refine x_aload_n (pc := 141) d_Holders_perform_141 rfl ?_
    obtain ⟨v15, e16, h⟩ := Option.bind_eq_some_iff.mp h
    refine c_getI (pc := 142) d_Holders_perform_142 l_Holders_53 e16 ?_
    refine x_goto (tgt := 155) (pc := 145) d_Holders_perform_145 (by decide) ?_
    exact x_wk (L' := [none, none, none, none, none, none, none, none]) ⟨Or.inl rfl, Or.inl rfl, Or.inl rfl, Or.inl rfl, Or.inl rfl, Or.inl rfl, Or.inl rfl, Or.inl rfl, trivial⟩ (w_Holders_perform_b155 hQ v15 (some 72) (1 : Int32) l1 u2 h)
def f_Holders_perform_b118 (sc : xSc)  (l1 : Option Nat) (l3 : Option Nat) (t0 : Option Nat) (u : xH) : Option ((Unit ⊕ Nat) × xH) := f_Holders_perform_b123 sc l1 l3 (1 : Int32) t0 u
theorem w_Holders_perform_b118 {sc : xSc} {d : Nat} {Q : xR → xH → Prop} {oZ : Unit ⊕ Nat} {hZ : xH}  (hQ : Q (cvU oZ) hZ) (l1 : Option Nat) (l3 : Option Nat) (t0 : Option Nat) (u : xH) (h : f_Holders_perform_b118 sc  l1 l3 t0 u = some (oZ, hZ)) : xW sc m_Holders_perform (d + 11) Q (u) 118 [none, some (vR l1), none, some (vR l3), none, none, none, none] [vR t0] := by
  unfold f_Holders_perform_b118 at h
  refine x_iconst (v := (1 : Int32)) (pc := 118) d_Holders_perform_118 (by decide) ?_
  refine x_goto (tgt := 123) (pc := 119) d_Holders_perform_119 (by decide) ?_
  exact w_Holders_perform_b123 hQ l1 l3 (1 : Int32) t0 u h
def f_Holders_perform_b68 (sc : xSc)  (l1 : Option Nat) (l3 : Option Nat) (t0 : Int32) (t1 : Option Nat) (u : xH) : Option ((Unit ⊕ Nat) × xH) := (if xis sc u 0 t1 = true then tB (f_P_need sc u t1 t0 (4 : Int32)) (fun v3 u2 => (gI sc u2 2 2 l3).bind fun v7 => (if xis sc u2 0 l1 = true then tB (f_P_take sc u2 l1 v7) (fun v11 u10 => (if xis sc u10 2 l3 = true then (f_Slot_set sc u10 l3 (some 77) v11 v7 (0 : Int32)).bind fun u16 => f_Holders_perform_b337 sc u16 else none)) (fun a13 u14 => some (.inr a13, u14)) else none)) (fun a5 u6 => some (.inr a5, u6)) else none)
theorem w_Holders_perform_b68 {sc : xSc} {d : Nat} {Q : xR → xH → Prop} {oZ : Unit ⊕ Nat} {hZ : xH}  (hQ : Q (cvU oZ) hZ) (l1 : Option Nat) (l3 : Option Nat) (t0 : Int32) (t1 : Option Nat) (u : xH) (h : f_Holders_perform_b68 sc  l1 l3 t0 t1 u = some (oZ, hZ)) : xW sc m_Holders_perform (d + 11) Q (u) 68 [none, some (vR l1), none, some (vR l3), none, none, none, none] [vI t0, vR t1] := by
  unfold f_Holders_perform_b68 at h
  refine x_iconst (v := (4 : Int32)) (pc := 68) d_Holders_perform_68 (by decide) ?_
  obtain ⟨c1, h⟩ := ite_some h
  rcases tB_s h with ⟨a5, u6, e4, h⟩ | ⟨v3, u2, e4, h⟩
  · refine c_invv (c := 0) (d := d + 10) (av := [vI t0, vI (4 : Int32)]) (st := []) (Q' := fun r h' => r = .inr a5 ∧ h' = u6) (pc := 69) d_Holders_perform_69 cv_Holders_35 y_P_need c1 rfl (Nat.le_of_ble_eq_true rfl) (Nat.le_of_ble_eq_true rfl) (w_P_need (d := d + 4) (Q := fun r h' => r = .inr a5 ∧ h' = u6) ⟨rfl, rfl⟩ u t1 t0 (4 : Int32) e4) (fun v h' z => nomatch z.1) (fun a h' z => ?_)
    obtain ⟨z1, z2⟩ := z
    subst h'
    cases z1
    cases h
    exact x_thOut (xno rfl) hQ
  refine c_invv (c := 0) (d := d + 10) (av := [vI t0, vI (4 : Int32)]) (st := []) (Q' := fun r h' => r = .inl none ∧ h' = u2) (pc := 69) d_Holders_perform_69 cv_Holders_35 y_P_need c1 rfl (Nat.le_of_ble_eq_true rfl) (Nat.le_of_ble_eq_true rfl) (w_P_need (d := d + 4) (Q := fun r h' => r = .inl none ∧ h' = u2) ⟨rfl, rfl⟩ u t1 t0 (4 : Int32) e4) (fun v h' z => ?_) (fun a h' z => nomatch z.1)
  obtain ⟨z1, z2⟩ := z
  subst h'
  cases z1
  show xW sc m_Holders_perform (d + 11) Q (u2) 72 [none, some (vR l1), none, some (vR l3), none, none, none, none] []
  refine x_aload_n (pc := 72) d_Holders_perform_72 rfl ?_
  obtain ⟨v7, e8, h⟩ := Option.bind_eq_some_iff.mp h
  refine c_getI (pc := 73) d_Holders_perform_73 l_Holders_31 e8 ?_
  refine x_istore (pc := 76) d_Holders_perform_76 (by decide) ?_
  show xW sc m_Holders_perform (d + 11) Q (u2) 78 [none, some (vR l1), none, some (vR l3), none, none, some (vI v7), none] []
  refine x_aload_n (pc := 78) d_Holders_perform_78 rfl ?_
  refine x_gets (v := vR (some 77)) (pc := 79) d_Holders_perform_79 sl_Holders_39 ?_
  refine x_aload_n (pc := 82) d_Holders_perform_82 rfl ?_
  refine x_iload (pc := 83) d_Holders_perform_83 rfl ?_
  obtain ⟨c9, h⟩ := ite_some h
  rcases tB_s h with ⟨a13, u14, e12, h⟩ | ⟨v11, u10, e12, h⟩
  · refine c_invv (c := 0) (d := d + 10) (av := [vI v7]) (st := [vR (some 77), vR l3]) (Q' := fun r h' => r = .inr a13 ∧ h' = u14) (pc := 85) d_Holders_perform_85 cv_Holders_42 y_P_take c9 rfl (Nat.le_of_ble_eq_true rfl) (Nat.le_of_ble_eq_true rfl) (w_P_take (d := d + 3) (Q := fun r h' => r = .inr a13 ∧ h' = u14) ⟨rfl, rfl⟩ u2 l1 v7 e12) (fun v h' z => nomatch z.1) (fun a h' z => ?_)
    obtain ⟨z1, z2⟩ := z
    subst h'
    cases z1
    cases h
    exact x_thOut (xno rfl) hQ
  refine c_invv (c := 0) (d := d + 10) (av := [vI v7]) (st := [vR (some 77), vR l3]) (Q' := fun r h' => r = .inl (some (vI v11)) ∧ h' = u10) (pc := 85) d_Holders_perform_85 cv_Holders_42 y_P_take c9 rfl (Nat.le_of_ble_eq_true rfl) (Nat.le_of_ble_eq_true rfl) (w_P_take (d := d + 3) (Q := fun r h' => r = .inl (some (vI v11)) ∧ h' = u10) ⟨rfl, rfl⟩ u2 l1 v7 e12) (fun v h' z => ?_) (fun a h' z => nomatch z.1)
  obtain ⟨z1, z2⟩ := z
  subst h'
  cases z1
  show xW sc m_Holders_perform (d + 11) Q (u10) 88 [none, some (vR l1), none, some (vR l3), none, none, some (vI v7), none] [vI v11, vR (some 77), vR l3]
  refine x_iload (pc := 88) d_Holders_perform_88 rfl ?_
  refine x_iconst (v := (0 : Int32)) (pc := 90) d_Holders_perform_90 (by decide) ?_
  obtain ⟨c15, h⟩ := ite_some h
  obtain ⟨u16, e17, h⟩ := Option.bind_eq_some_iff.mp h
  refine c_invv (c := 2) (d := d + 10) (av := [vR (some 77), vI v11, vI v7, vI (0 : Int32)]) (st := []) (Q' := fun r h' => r = .inl none ∧ h' = u16) (pc := 91) d_Holders_perform_91 cv_Holders_46 y_Slot_set c15 rfl (Nat.le_of_ble_eq_true rfl) (Nat.le_of_ble_eq_true rfl) (w_Slot_set (d := d + 10) (Q := fun r h' => r = .inl none ∧ h' = u16) ⟨rfl, rfl⟩ u10 l3 (some 77) v11 v7 (0 : Int32) e17) (fun v h' z => ?_) (fun a h' z => nomatch z.1)
  obtain ⟨z1, z2⟩ := z
  subst h'
  cases z1
  show xW sc m_Holders_perform (d + 11) Q (u16) 94 [none, some (vR l1), none, some (vR l3), none, none, some (vI v7), none] []
  refine x_goto (tgt := 337) (pc := 94) d_Holders_perform_94 (by decide) ?_
  exact x_wk (L' := [none, none, none, none, none, none, none, none]) ⟨Or.inl rfl, Or.inl rfl, Or.inl rfl, Or.inl rfl, Or.inl rfl, Or.inl rfl, Or.inl rfl, Or.inl rfl, trivial⟩ (w_Holders_perform_b337 hQ u16 h)
def f_Holders_perform (sc : xSc) (u : xH) (a0 : Option Nat) (a1 : Option Nat) (a2 : Option Nat) (a3 : Option Nat) (a4 : Option Nat) (a5 : Int32) : Option ((Unit ⊕ Nat) × xH) := (if xis sc u 19 a2 = true then (f_Enum_ordinal19 sc u a2).bind fun v2 => (if v2 = (39 : Int32) then (if xis sc u 2 a3 = true then (f_Slot_is sc u a3 (some 72)).bind fun v6 => (if xis sc u 0 a1 = true then tB (f_P_type sc u a1 v6) (fun v10 u9 => (gI sc u9 2 2 a3).bind fun v14 => (if v14 < 0 then f_Holders_perform_b68 sc a1 a3 (0 : Int32) a1 u9 else f_Holders_perform_b68 sc a1 a3 (1 : Int32) a1 u9)) (fun a12 u13 => some (.inr a12, u13)) else none) else none) else (if v2 = (40 : Int32) then (if xis sc u 2 a3 = true then (f_Slot_is sc u a3 (some 77)).bind fun v19 => (if v19 = 0 then (if xis sc u 2 a3 = true then (f_Slot_is sc u a3 (some 78)).bind fun v23 => (if v23 = 0 then f_Holders_perform_b123 sc a1 a3 (0 : Int32) a1 u else f_Holders_perform_b118 sc a1 a3 a1 u) else none) else f_Holders_perform_b118 sc a1 a3 a1 u) else none) else (if v2 = (41 : Int32) then tB (f_Holders_get sc u a1 a3 a4) (fun v28 u27 => f_Holders_perform_b337 sc u27) (fun a30 u31 => some (.inr a30, u31)) else (if v2 = (42 : Int32) then (if xis sc u 0 a1 = true then (f_P_at sc u a1 (0 : Int32)).bind fun v34 => tB (f_Holders_put sc u a1 a3 a4 v34) (fun v37 u36 => f_Holders_perform_b337 sc u36) (fun a39 u40 => some (.inr a39, u40)) else none) else (if v2 = (43 : Int32) then (if xis sc u 0 a1 = true then (f_P_at sc u a1 (0 : Int32)).bind fun v43 => (if xis sc u 2 a3 = true then (f_Slot_is sc u a3 (some 77)).bind fun v46 => (if v46 = 0 then f_Holders_perform_b230 sc a1 a3 a4 v43 a1 u else (if xis sc u 2 a4 = true then (f_Slot_is sc u a4 (some 72)).bind fun v50 => (if v50 = 0 then f_Holders_perform_b230 sc a1 a3 a4 v43 a1 u else (if xis sc u 2 v43 = true then (f_Slot_is sc u v43 (some 72)).bind fun v54 => (if v54 = 0 then f_Holders_perform_b230 sc a1 a3 a4 v43 a1 u else f_Holders_perform_b231 sc a1 a3 a4 v43 (1 : Int32) a1 u) else none)) else none)) else none) else none) else (if v2 = (44 : Int32) then tB (f_Holders_spread sc u a1 a3) (fun v59 u58 => f_Holders_perform_b337 sc u58) (fun a61 u62 => some (.inr a61, u62)) else tB (f_Holders_dicts sc u a1 a2 a3 a4) (fun v64 u63 => f_Holders_perform_b337 sc u63) (fun a66 u67 => some (.inr a66, u67)))))))) else none)
theorem w_Holders_perform {sc : xSc} {d : Nat} {Q : xR → xH → Prop} {oZ : Unit ⊕ Nat} {hZ : xH} (hQ : Q (cvU oZ) hZ) (u : xH) (a0 : Option Nat) (a1 : Option Nat) (a2 : Option Nat) (a3 : Option Nat) (a4 : Option Nat) (a5 : Int32) (h : f_Holders_perform sc u a0 a1 a2 a3 a4 a5 = some (oZ, hZ)) : xW sc m_Holders_perform (d + 11) Q (u) 0 (xent [vR a0, vR a1, vR a2, vR a3, vR a4, vI a5] m_Holders_perform.2.2.1) [] := by
  show xW sc m_Holders_perform (d + 11) Q (u) 0 [some (vR a0), some (vR a1), some (vR a2), some (vR a3), some (vR a4), some (vI a5), none, none] []
  unfold f_Holders_perform at h
  refine x_aload_n (pc := 0) d_Holders_perform_0 rfl ?_
  obtain ⟨c1, h⟩ := ite_some h
  obtain ⟨v2, e3, h⟩ := Option.bind_eq_some_iff.mp h
  refine c_invu (c := 19) (d := d + 10) (av := []) (st := []) (Q' := fun r h' => r = .inl (some (vI v2)) ∧ h' = u) (pc := 1) d_Holders_perform_1 cw_Holders_9_19 y_Enum_ordinal c1 rfl (Nat.le_of_ble_eq_true rfl) (Nat.le_of_ble_eq_true rfl) (w_Enum_ordinal19 (d := d + 10) (Q := fun r h' => r = .inl (some (vI v2)) ∧ h' = u) ⟨rfl, rfl⟩ a2 e3) (fun v h' z => ?_) (fun a h' z => nomatch z.1)
  obtain ⟨z1, z2⟩ := z
  subst h'
  cases z1
  show xW sc m_Holders_perform (d + 11) Q (u) 4 [some (vR a0), some (vR a1), some (vR a2), some (vR a3), some (vR a4), some (vI a5), none, none] [vI v2]
  by_cases c4 : v2 = (39 : Int32)
  · rw [if_pos c4] at h
    refine x_tableIn (off := 40) (tgt := 44) (pc := 4) d_Holders_perform_4 (by rw [c4]; decide) (by rw [c4]; decide) (by rw [c4]; decide) (by decide) ?_
    refine x_aload_n (pc := 44) d_Holders_perform_44 rfl ?_
    refine x_aload_n (pc := 45) d_Holders_perform_45 rfl ?_
    refine x_gets (v := vR (some 72)) (pc := 46) d_Holders_perform_46 sl_Holders_15 ?_
    obtain ⟨c5, h⟩ := ite_some h
    obtain ⟨v6, e7, h⟩ := Option.bind_eq_some_iff.mp h
    refine c_invv (c := 2) (d := d + 10) (av := [vR (some 72)]) (st := [vR a1]) (Q' := fun r h' => r = .inl (some (vI v6)) ∧ h' = u) (pc := 49) d_Holders_perform_49 cv_Holders_21 y_Slot_is c5 rfl (Nat.le_of_ble_eq_true rfl) (Nat.le_of_ble_eq_true rfl) (w_Slot_is (d := d + 10) (Q := fun r h' => r = .inl (some (vI v6)) ∧ h' = u) ⟨rfl, rfl⟩ a3 (some 72) e7) (fun v h' z => ?_) (fun a h' z => nomatch z.1)
    obtain ⟨z1, z2⟩ := z
    subst h'
    cases z1
    show xW sc m_Holders_perform (d + 11) Q (u) 52 [some (vR a0), some (vR a1), some (vR a2), some (vR a3), some (vR a4), some (vI a5), none, none] [vI v6, vR a1]
    obtain ⟨c8, h⟩ := ite_some h
    rcases tB_s h with ⟨a12, u13, e11, h⟩ | ⟨v10, u9, e11, h⟩
    · refine c_invv (c := 0) (d := d + 10) (av := [vI v6]) (st := []) (Q' := fun r h' => r = .inr a12 ∧ h' = u13) (pc := 52) d_Holders_perform_52 cv_Holders_27 y_P_type c8 rfl (Nat.le_of_ble_eq_true rfl) (Nat.le_of_ble_eq_true rfl) (w_P_type (d := d + 3) (Q := fun r h' => r = .inr a12 ∧ h' = u13) ⟨rfl, rfl⟩ u a1 v6 e11) (fun v h' z => nomatch z.1) (fun a h' z => ?_)
      obtain ⟨z1, z2⟩ := z
      subst h'
      cases z1
      cases h
      exact x_thOut (xno rfl) hQ
    refine c_invv (c := 0) (d := d + 10) (av := [vI v6]) (st := []) (Q' := fun r h' => r = .inl none ∧ h' = u9) (pc := 52) d_Holders_perform_52 cv_Holders_27 y_P_type c8 rfl (Nat.le_of_ble_eq_true rfl) (Nat.le_of_ble_eq_true rfl) (w_P_type (d := d + 3) (Q := fun r h' => r = .inl none ∧ h' = u9) ⟨rfl, rfl⟩ u a1 v6 e11) (fun v h' z => ?_) (fun a h' z => nomatch z.1)
    obtain ⟨z1, z2⟩ := z
    subst h'
    cases z1
    show xW sc m_Holders_perform (d + 11) Q (u9) 55 [some (vR a0), some (vR a1), some (vR a2), some (vR a3), some (vR a4), some (vI a5), none, none] []
    refine x_aload_n (pc := 55) d_Holders_perform_55 rfl ?_
    refine x_aload_n (pc := 56) d_Holders_perform_56 rfl ?_
    obtain ⟨v14, e15, h⟩ := Option.bind_eq_some_iff.mp h
    refine c_getI (pc := 57) d_Holders_perform_57 l_Holders_31 e15 ?_
    refine x_if_lt (tgt := 67) (pc := 60) d_Holders_perform_60 (by decide) (fun c16 => ?_) (fun c16 => ?_)
    · rw [if_pos c16] at h
      refine x_iconst (v := (0 : Int32)) (pc := 67) d_Holders_perform_67 (by decide) ?_
      exact x_wk (L' := [none, some (vR a1), none, some (vR a3), none, none, none, none]) ⟨Or.inl rfl, Or.inr rfl, Or.inl rfl, Or.inr rfl, Or.inl rfl, Or.inl rfl, Or.inl rfl, Or.inl rfl, trivial⟩ (w_Holders_perform_b68 hQ a1 a3 (0 : Int32) a1 u9 h)
    · rw [if_neg c16] at h
      refine x_iconst (v := (1 : Int32)) (pc := 63) d_Holders_perform_63 (by decide) ?_
      refine x_goto (tgt := 68) (pc := 64) d_Holders_perform_64 (by decide) ?_
      exact x_wk (L' := [none, some (vR a1), none, some (vR a3), none, none, none, none]) ⟨Or.inl rfl, Or.inr rfl, Or.inl rfl, Or.inr rfl, Or.inl rfl, Or.inl rfl, Or.inl rfl, Or.inl rfl, trivial⟩ (w_Holders_perform_b68 hQ a1 a3 (1 : Int32) a1 u9 h)
  rw [if_neg c4] at h
  by_cases c17 : v2 = (40 : Int32)
  · rw [if_pos c17] at h
    refine x_tableIn (off := 93) (tgt := 97) (pc := 4) d_Holders_perform_4 (by rw [c17]; decide) (by rw [c17]; decide) (by rw [c17]; decide) (by decide) ?_
    refine x_aload_n (pc := 97) d_Holders_perform_97 rfl ?_
    refine x_aload_n (pc := 98) d_Holders_perform_98 rfl ?_
    refine x_gets (v := vR (some 77)) (pc := 99) d_Holders_perform_99 sl_Holders_39 ?_
    obtain ⟨c18, h⟩ := ite_some h
    obtain ⟨v19, e20, h⟩ := Option.bind_eq_some_iff.mp h
    refine c_invv (c := 2) (d := d + 10) (av := [vR (some 77)]) (st := [vR a1]) (Q' := fun r h' => r = .inl (some (vI v19)) ∧ h' = u) (pc := 102) d_Holders_perform_102 cv_Holders_21 y_Slot_is c18 rfl (Nat.le_of_ble_eq_true rfl) (Nat.le_of_ble_eq_true rfl) (w_Slot_is (d := d + 10) (Q := fun r h' => r = .inl (some (vI v19)) ∧ h' = u) ⟨rfl, rfl⟩ a3 (some 77) e20) (fun v h' z => ?_) (fun a h' z => nomatch z.1)
    obtain ⟨z1, z2⟩ := z
    subst h'
    cases z1
    show xW sc m_Holders_perform (d + 11) Q (u) 105 [some (vR a0), some (vR a1), some (vR a2), some (vR a3), some (vR a4), some (vI a5), none, none] [vI v19, vR a1]
    refine x_if_ne (tgt := 118) (pc := 105) d_Holders_perform_105 (by decide) (fun c21 => ?_) (fun c21 => ?_)
    · rw [if_neg c21] at h
      exact x_wk (L' := [none, some (vR a1), none, some (vR a3), none, none, none, none]) ⟨Or.inl rfl, Or.inr rfl, Or.inl rfl, Or.inr rfl, Or.inl rfl, Or.inl rfl, Or.inl rfl, Or.inl rfl, trivial⟩ (w_Holders_perform_b118 hQ a1 a3 a1 u h)
    · rw [if_pos c21] at h
      refine x_aload_n (pc := 108) d_Holders_perform_108 rfl ?_
      refine x_gets (v := vR (some 78)) (pc := 109) d_Holders_perform_109 sl_Holders_50 ?_
      obtain ⟨c22, h⟩ := ite_some h
      obtain ⟨v23, e24, h⟩ := Option.bind_eq_some_iff.mp h
      refine c_invv (c := 2) (d := d + 10) (av := [vR (some 78)]) (st := [vR a1]) (Q' := fun r h' => r = .inl (some (vI v23)) ∧ h' = u) (pc := 112) d_Holders_perform_112 cv_Holders_21 y_Slot_is c22 rfl (Nat.le_of_ble_eq_true rfl) (Nat.le_of_ble_eq_true rfl) (w_Slot_is (d := d + 10) (Q := fun r h' => r = .inl (some (vI v23)) ∧ h' = u) ⟨rfl, rfl⟩ a3 (some 78) e24) (fun v h' z => ?_) (fun a h' z => nomatch z.1)
      obtain ⟨z1, z2⟩ := z
      subst h'
      cases z1
      show xW sc m_Holders_perform (d + 11) Q (u) 115 [some (vR a0), some (vR a1), some (vR a2), some (vR a3), some (vR a4), some (vI a5), none, none] [vI v23, vR a1]
      refine x_if_eq (tgt := 122) (pc := 115) d_Holders_perform_115 (by decide) (fun c25 => ?_) (fun c25 => ?_)
      · rw [if_pos c25] at h
        refine x_iconst (v := (0 : Int32)) (pc := 122) d_Holders_perform_122 (by decide) ?_
        exact x_wk (L' := [none, some (vR a1), none, some (vR a3), none, none, none, none]) ⟨Or.inl rfl, Or.inr rfl, Or.inl rfl, Or.inr rfl, Or.inl rfl, Or.inl rfl, Or.inl rfl, Or.inl rfl, trivial⟩ (w_Holders_perform_b123 hQ a1 a3 (0 : Int32) a1 u h)
      · rw [if_neg c25] at h
        exact x_wk (L' := [none, some (vR a1), none, some (vR a3), none, none, none, none]) ⟨Or.inl rfl, Or.inr rfl, Or.inl rfl, Or.inr rfl, Or.inl rfl, Or.inl rfl, Or.inl rfl, Or.inl rfl, trivial⟩ (w_Holders_perform_b118 hQ a1 a3 a1 u h)
  rw [if_neg c17] at h
  by_cases c26 : v2 = (41 : Int32)
  · rw [if_pos c26] at h
    refine x_tableIn (off := 157) (tgt := 161) (pc := 4) d_Holders_perform_4 (by rw [c26]; decide) (by rw [c26]; decide) (by rw [c26]; decide) (by decide) ?_
    refine x_aload_n (pc := 161) d_Holders_perform_161 rfl ?_
    refine x_aload_n (pc := 162) d_Holders_perform_162 rfl ?_
    refine x_aload (pc := 163) d_Holders_perform_163 rfl ?_
    rcases tB_s h with ⟨a30, u31, e29, h⟩ | ⟨v28, u27, e29, h⟩
    · refine x_invs (d := d + 10) (av := [vR a1, vR a3, vR a4]) (st := []) (Q' := fun r h' => r = .inr a30 ∧ h' = u31) (pc := 165) d_Holders_perform_165 cs_Holders_69 y_Holders_get rfl (Nat.le_of_ble_eq_true rfl) (Nat.le_of_ble_eq_true rfl) (w_Holders_get (d := d + 2) (Q := fun r h' => r = .inr a30 ∧ h' = u31) ⟨rfl, rfl⟩ u a1 a3 a4 e29) (fun v h' z => nomatch z.1) (fun a h' z => ?_)
      obtain ⟨z1, z2⟩ := z
      subst h'
      cases z1
      cases h
      exact x_thOut (xno rfl) hQ
    refine x_invs (d := d + 10) (av := [vR a1, vR a3, vR a4]) (st := []) (Q' := fun r h' => r = .inl none ∧ h' = u27) (pc := 165) d_Holders_perform_165 cs_Holders_69 y_Holders_get rfl (Nat.le_of_ble_eq_true rfl) (Nat.le_of_ble_eq_true rfl) (w_Holders_get (d := d + 2) (Q := fun r h' => r = .inl none ∧ h' = u27) ⟨rfl, rfl⟩ u a1 a3 a4 e29) (fun v h' z => ?_) (fun a h' z => nomatch z.1)
    obtain ⟨z1, z2⟩ := z
    subst h'
    cases z1
    show xW sc m_Holders_perform (d + 11) Q (u27) 168 [some (vR a0), some (vR a1), some (vR a2), some (vR a3), some (vR a4), some (vI a5), none, none] []
    refine x_goto (tgt := 337) (pc := 168) d_Holders_perform_168 (by decide) ?_
    exact x_wk (L' := [none, none, none, none, none, none, none, none]) ⟨Or.inl rfl, Or.inl rfl, Or.inl rfl, Or.inl rfl, Or.inl rfl, Or.inl rfl, Or.inl rfl, Or.inl rfl, trivial⟩ (w_Holders_perform_b337 hQ u27 h)
  rw [if_neg c26] at h
  by_cases c32 : v2 = (42 : Int32)
  · rw [if_pos c32] at h
    refine x_tableIn (off := 167) (tgt := 171) (pc := 4) d_Holders_perform_4 (by rw [c32]; decide) (by rw [c32]; decide) (by rw [c32]; decide) (by decide) ?_
    refine x_aload_n (pc := 171) d_Holders_perform_171 rfl ?_
    refine x_aload_n (pc := 172) d_Holders_perform_172 rfl ?_
    refine x_aload (pc := 173) d_Holders_perform_173 rfl ?_
    refine x_aload_n (pc := 175) d_Holders_perform_175 rfl ?_
    refine x_iconst (v := (0 : Int32)) (pc := 176) d_Holders_perform_176 (by decide) ?_
    obtain ⟨c33, h⟩ := ite_some h
    obtain ⟨v34, e35, h⟩ := Option.bind_eq_some_iff.mp h
    refine c_invv (c := 0) (d := d + 10) (av := [vI (0 : Int32)]) (st := [vR a4, vR a3, vR a1]) (Q' := fun r h' => r = .inl (some (vR v34)) ∧ h' = u) (pc := 177) d_Holders_perform_177 cv_Holders_75 y_P_at c33 rfl (Nat.le_of_ble_eq_true rfl) (Nat.le_of_ble_eq_true rfl) (w_P_at (d := d + 10) (Q := fun r h' => r = .inl (some (vR v34)) ∧ h' = u) ⟨rfl, rfl⟩ a1 (0 : Int32) e35) (fun v h' z => ?_) (fun a h' z => nomatch z.1)
    obtain ⟨z1, z2⟩ := z
    subst h'
    cases z1
    show xW sc m_Holders_perform (d + 11) Q (u) 180 [some (vR a0), some (vR a1), some (vR a2), some (vR a3), some (vR a4), some (vI a5), none, none] [vR v34, vR a4, vR a3, vR a1]
    rcases tB_s h with ⟨a39, u40, e38, h⟩ | ⟨v37, u36, e38, h⟩
    · refine x_invs (d := d + 10) (av := [vR a1, vR a3, vR a4, vR v34]) (st := []) (Q' := fun r h' => r = .inr a39 ∧ h' = u40) (pc := 180) d_Holders_perform_180 cs_Holders_79 y_Holders_put rfl (Nat.le_of_ble_eq_true rfl) (Nat.le_of_ble_eq_true rfl) (w_Holders_put (d := d + 2) (Q := fun r h' => r = .inr a39 ∧ h' = u40) ⟨rfl, rfl⟩ u a1 a3 a4 v34 e38) (fun v h' z => nomatch z.1) (fun a h' z => ?_)
      obtain ⟨z1, z2⟩ := z
      subst h'
      cases z1
      cases h
      exact x_thOut (xno rfl) hQ
    refine x_invs (d := d + 10) (av := [vR a1, vR a3, vR a4, vR v34]) (st := []) (Q' := fun r h' => r = .inl none ∧ h' = u36) (pc := 180) d_Holders_perform_180 cs_Holders_79 y_Holders_put rfl (Nat.le_of_ble_eq_true rfl) (Nat.le_of_ble_eq_true rfl) (w_Holders_put (d := d + 2) (Q := fun r h' => r = .inl none ∧ h' = u36) ⟨rfl, rfl⟩ u a1 a3 a4 v34 e38) (fun v h' z => ?_) (fun a h' z => nomatch z.1)
    obtain ⟨z1, z2⟩ := z
    subst h'
    cases z1
    show xW sc m_Holders_perform (d + 11) Q (u36) 183 [some (vR a0), some (vR a1), some (vR a2), some (vR a3), some (vR a4), some (vI a5), none, none] []
    refine x_goto (tgt := 337) (pc := 183) d_Holders_perform_183 (by decide) ?_
    exact x_wk (L' := [none, none, none, none, none, none, none, none]) ⟨Or.inl rfl, Or.inl rfl, Or.inl rfl, Or.inl rfl, Or.inl rfl, Or.inl rfl, Or.inl rfl, Or.inl rfl, trivial⟩ (w_Holders_perform_b337 hQ u36 h)
  rw [if_neg c32] at h
  by_cases c41 : v2 = (43 : Int32)
  · rw [if_pos c41] at h
    refine x_tableIn (off := 182) (tgt := 186) (pc := 4) d_Holders_perform_4 (by rw [c41]; decide) (by rw [c41]; decide) (by rw [c41]; decide) (by decide) ?_
    refine x_aload_n (pc := 186) d_Holders_perform_186 rfl ?_
    refine x_iconst (v := (0 : Int32)) (pc := 187) d_Holders_perform_187 (by decide) ?_
    obtain ⟨c42, h⟩ := ite_some h
    obtain ⟨v43, e44, h⟩ := Option.bind_eq_some_iff.mp h
    refine c_invv (c := 0) (d := d + 10) (av := [vI (0 : Int32)]) (st := []) (Q' := fun r h' => r = .inl (some (vR v43)) ∧ h' = u) (pc := 188) d_Holders_perform_188 cv_Holders_75 y_P_at c42 rfl (Nat.le_of_ble_eq_true rfl) (Nat.le_of_ble_eq_true rfl) (w_P_at (d := d + 10) (Q := fun r h' => r = .inl (some (vR v43)) ∧ h' = u) ⟨rfl, rfl⟩ a1 (0 : Int32) e44) (fun v h' z => ?_) (fun a h' z => nomatch z.1)
    obtain ⟨z1, z2⟩ := z
    subst h'
    cases z1
    show xW sc m_Holders_perform (d + 11) Q (u) 191 [some (vR a0), some (vR a1), some (vR a2), some (vR a3), some (vR a4), some (vI a5), none, none] [vR v43]
    refine x_astore (pc := 191) d_Holders_perform_191 (by decide) ?_
    show xW sc m_Holders_perform (d + 11) Q (u) 193 [some (vR a0), some (vR a1), some (vR a2), some (vR a3), some (vR a4), some (vI a5), none, some (vR v43)] []
    refine x_aload_n (pc := 193) d_Holders_perform_193 rfl ?_
    refine x_aload_n (pc := 194) d_Holders_perform_194 rfl ?_
    refine x_gets (v := vR (some 77)) (pc := 195) d_Holders_perform_195 sl_Holders_39 ?_
    obtain ⟨c45, h⟩ := ite_some h
    obtain ⟨v46, e47, h⟩ := Option.bind_eq_some_iff.mp h
    refine c_invv (c := 2) (d := d + 10) (av := [vR (some 77)]) (st := [vR a1]) (Q' := fun r h' => r = .inl (some (vI v46)) ∧ h' = u) (pc := 198) d_Holders_perform_198 cv_Holders_21 y_Slot_is c45 rfl (Nat.le_of_ble_eq_true rfl) (Nat.le_of_ble_eq_true rfl) (w_Slot_is (d := d + 10) (Q := fun r h' => r = .inl (some (vI v46)) ∧ h' = u) ⟨rfl, rfl⟩ a3 (some 77) e47) (fun v h' z => ?_) (fun a h' z => nomatch z.1)
    obtain ⟨z1, z2⟩ := z
    subst h'
    cases z1
    show xW sc m_Holders_perform (d + 11) Q (u) 201 [some (vR a0), some (vR a1), some (vR a2), some (vR a3), some (vR a4), some (vI a5), none, some (vR v43)] [vI v46, vR a1]
    refine x_if_eq (tgt := 230) (pc := 201) d_Holders_perform_201 (by decide) (fun c48 => ?_) (fun c48 => ?_)
    · rw [if_pos c48] at h
      exact x_wk (L' := [none, some (vR a1), none, some (vR a3), some (vR a4), none, none, some (vR v43)]) ⟨Or.inl rfl, Or.inr rfl, Or.inl rfl, Or.inr rfl, Or.inr rfl, Or.inl rfl, Or.inl rfl, Or.inr rfl, trivial⟩ (w_Holders_perform_b230 hQ a1 a3 a4 v43 a1 u h)
    · rw [if_neg c48] at h
      refine x_aload (pc := 204) d_Holders_perform_204 rfl ?_
      refine x_gets (v := vR (some 72)) (pc := 206) d_Holders_perform_206 sl_Holders_15 ?_
      obtain ⟨c49, h⟩ := ite_some h
      obtain ⟨v50, e51, h⟩ := Option.bind_eq_some_iff.mp h
      refine c_invv (c := 2) (d := d + 10) (av := [vR (some 72)]) (st := [vR a1]) (Q' := fun r h' => r = .inl (some (vI v50)) ∧ h' = u) (pc := 209) d_Holders_perform_209 cv_Holders_21 y_Slot_is c49 rfl (Nat.le_of_ble_eq_true rfl) (Nat.le_of_ble_eq_true rfl) (w_Slot_is (d := d + 10) (Q := fun r h' => r = .inl (some (vI v50)) ∧ h' = u) ⟨rfl, rfl⟩ a4 (some 72) e51) (fun v h' z => ?_) (fun a h' z => nomatch z.1)
      obtain ⟨z1, z2⟩ := z
      subst h'
      cases z1
      show xW sc m_Holders_perform (d + 11) Q (u) 212 [some (vR a0), some (vR a1), some (vR a2), some (vR a3), some (vR a4), some (vI a5), none, some (vR v43)] [vI v50, vR a1]
      refine x_if_eq (tgt := 230) (pc := 212) d_Holders_perform_212 (by decide) (fun c52 => ?_) (fun c52 => ?_)
      · rw [if_pos c52] at h
        exact x_wk (L' := [none, some (vR a1), none, some (vR a3), some (vR a4), none, none, some (vR v43)]) ⟨Or.inl rfl, Or.inr rfl, Or.inl rfl, Or.inr rfl, Or.inr rfl, Or.inl rfl, Or.inl rfl, Or.inr rfl, trivial⟩ (w_Holders_perform_b230 hQ a1 a3 a4 v43 a1 u h)
      · rw [if_neg c52] at h
        refine x_aload (pc := 215) d_Holders_perform_215 rfl ?_
        refine x_gets (v := vR (some 72)) (pc := 217) d_Holders_perform_217 sl_Holders_15 ?_
        obtain ⟨c53, h⟩ := ite_some h
        obtain ⟨v54, e55, h⟩ := Option.bind_eq_some_iff.mp h
        refine c_invv (c := 2) (d := d + 10) (av := [vR (some 72)]) (st := [vR a1]) (Q' := fun r h' => r = .inl (some (vI v54)) ∧ h' = u) (pc := 220) d_Holders_perform_220 cv_Holders_21 y_Slot_is c53 rfl (Nat.le_of_ble_eq_true rfl) (Nat.le_of_ble_eq_true rfl) (w_Slot_is (d := d + 10) (Q := fun r h' => r = .inl (some (vI v54)) ∧ h' = u) ⟨rfl, rfl⟩ v43 (some 72) e55) (fun v h' z => ?_) (fun a h' z => nomatch z.1)
        obtain ⟨z1, z2⟩ := z
        subst h'
        cases z1
        show xW sc m_Holders_perform (d + 11) Q (u) 223 [some (vR a0), some (vR a1), some (vR a2), some (vR a3), some (vR a4), some (vI a5), none, some (vR v43)] [vI v54, vR a1]
        refine x_if_eq (tgt := 230) (pc := 223) d_Holders_perform_223 (by decide) (fun c56 => ?_) (fun c56 => ?_)
        · rw [if_pos c56] at h
          exact x_wk (L' := [none, some (vR a1), none, some (vR a3), some (vR a4), none, none, some (vR v43)]) ⟨Or.inl rfl, Or.inr rfl, Or.inl rfl, Or.inr rfl, Or.inr rfl, Or.inl rfl, Or.inl rfl, Or.inr rfl, trivial⟩ (w_Holders_perform_b230 hQ a1 a3 a4 v43 a1 u h)
        · rw [if_neg c56] at h
          refine x_iconst (v := (1 : Int32)) (pc := 226) d_Holders_perform_226 (by decide) ?_
          refine x_goto (tgt := 231) (pc := 227) d_Holders_perform_227 (by decide) ?_
          exact x_wk (L' := [none, some (vR a1), none, some (vR a3), some (vR a4), none, none, some (vR v43)]) ⟨Or.inl rfl, Or.inr rfl, Or.inl rfl, Or.inr rfl, Or.inr rfl, Or.inl rfl, Or.inl rfl, Or.inr rfl, trivial⟩ (w_Holders_perform_b231 hQ a1 a3 a4 v43 (1 : Int32) a1 u h)
  rw [if_neg c41] at h
  by_cases c57 : v2 = (44 : Int32)
  · rw [if_pos c57] at h
    refine x_tableIn (off := 317) (tgt := 321) (pc := 4) d_Holders_perform_4 (by rw [c57]; decide) (by rw [c57]; decide) (by rw [c57]; decide) (by decide) ?_
    refine x_aload_n (pc := 321) d_Holders_perform_321 rfl ?_
    refine x_aload_n (pc := 322) d_Holders_perform_322 rfl ?_
    rcases tB_s h with ⟨a61, u62, e60, h⟩ | ⟨v59, u58, e60, h⟩
    · refine x_invs (d := d + 10) (av := [vR a1, vR a3]) (st := []) (Q' := fun r h' => r = .inr a61 ∧ h' = u62) (pc := 323) d_Holders_perform_323 cs_Holders_90 y_Holders_spread rfl (Nat.le_of_ble_eq_true rfl) (Nat.le_of_ble_eq_true rfl) (w_Holders_spread (d := d + 1) (Q := fun r h' => r = .inr a61 ∧ h' = u62) ⟨rfl, rfl⟩ u a1 a3 e60) (fun v h' z => nomatch z.1) (fun a h' z => ?_)
      obtain ⟨z1, z2⟩ := z
      subst h'
      cases z1
      cases h
      exact x_thOut (xno rfl) hQ
    refine x_invs (d := d + 10) (av := [vR a1, vR a3]) (st := []) (Q' := fun r h' => r = .inl none ∧ h' = u58) (pc := 323) d_Holders_perform_323 cs_Holders_90 y_Holders_spread rfl (Nat.le_of_ble_eq_true rfl) (Nat.le_of_ble_eq_true rfl) (w_Holders_spread (d := d + 1) (Q := fun r h' => r = .inl none ∧ h' = u58) ⟨rfl, rfl⟩ u a1 a3 e60) (fun v h' z => ?_) (fun a h' z => nomatch z.1)
    obtain ⟨z1, z2⟩ := z
    subst h'
    cases z1
    show xW sc m_Holders_perform (d + 11) Q (u58) 326 [some (vR a0), some (vR a1), some (vR a2), some (vR a3), some (vR a4), some (vI a5), none, none] []
    refine x_goto (tgt := 337) (pc := 326) d_Holders_perform_326 (by decide) ?_
    exact x_wk (L' := [none, none, none, none, none, none, none, none]) ⟨Or.inl rfl, Or.inl rfl, Or.inl rfl, Or.inl rfl, Or.inl rfl, Or.inl rfl, Or.inl rfl, Or.inl rfl, trivial⟩ (w_Holders_perform_b337 hQ u58 h)
  rw [if_neg c57] at h
  refine x_tableOut (tgt := 329) (pc := 4) d_Holders_perform_4 (by have q0 := lv_neT c4 (a := 39) (by decide); have q1 := lv_neT c17 (a := 40) (by decide); have q2 := lv_neT c26 (a := 41) (by decide); have q3 := lv_neT c32 (a := 42) (by decide); have q4 := lv_neT c41 (a := 43) (by decide); have q5 := lv_neT c57 (a := 44) (by decide); omega) (by decide) ?_
  refine x_aload_n (pc := 329) d_Holders_perform_329 rfl ?_
  refine x_aload_n (pc := 330) d_Holders_perform_330 rfl ?_
  refine x_aload_n (pc := 331) d_Holders_perform_331 rfl ?_
  refine x_aload (pc := 332) d_Holders_perform_332 rfl ?_
  rcases tB_s h with ⟨a66, u67, e65, h⟩ | ⟨v64, u63, e65, h⟩
  · refine x_invs (d := d + 10) (av := [vR a1, vR a2, vR a3, vR a4]) (st := []) (Q' := fun r h' => r = .inr a66 ∧ h' = u67) (pc := 334) d_Holders_perform_334 cs_Holders_94 y_Holders_dicts rfl (Nat.le_of_ble_eq_true rfl) (Nat.le_of_ble_eq_true rfl) (w_Holders_dicts (d := d + 0) (Q := fun r h' => r = .inr a66 ∧ h' = u67) ⟨rfl, rfl⟩ u a1 a2 a3 a4 e65) (fun v h' z => nomatch z.1) (fun a h' z => ?_)
    obtain ⟨z1, z2⟩ := z
    subst h'
    cases z1
    cases h
    exact x_thOut (xno rfl) hQ
  refine x_invs (d := d + 10) (av := [vR a1, vR a2, vR a3, vR a4]) (st := []) (Q' := fun r h' => r = .inl none ∧ h' = u63) (pc := 334) d_Holders_perform_334 cs_Holders_94 y_Holders_dicts rfl (Nat.le_of_ble_eq_true rfl) (Nat.le_of_ble_eq_true rfl) (w_Holders_dicts (d := d + 0) (Q := fun r h' => r = .inl none ∧ h' = u63) ⟨rfl, rfl⟩ u a1 a2 a3 a4 e65) (fun v h' z => ?_) (fun a h' z => nomatch z.1)
  obtain ⟨z1, z2⟩ := z
  subst h'
  cases z1
  show xW sc m_Holders_perform (d + 11) Q (u63) 337 [some (vR a0), some (vR a1), some (vR a2), some (vR a3), some (vR a4), some (vI a5), none, none] []
  exact x_wk (L' := [none, none, none, none, none, none, none, none]) ⟨Or.inl rfl, Or.inl rfl, Or.inl rfl, Or.inl rfl, Or.inl rfl, Or.inl rfl, Or.inl rfl, Or.inl rfl, trivial⟩ (w_Holders_perform_b337 hQ u63 h)
def f_Math_floorMod_b18   (l2 : Int32) : Option Int32 := some l2
theorem w_Math_floorMod_b18 {sc : xSc} {d : Nat} {Q : xR → xH → Prop} {hh : xH} {rZ : Int32}  (hQ : Q (.inl (some (vI rZ))) hh) (l2 : Int32) (h : f_Math_floorMod_b18   l2 = some rZ) : xW sc m_Math_floorMod (d + 0) Q (hh) 18 [none, none, some (vI l2)] [] := by
  unfold f_Math_floorMod_b18 at h
  refine x_iload_n (pc := 18) d_Math_floorMod_18 rfl ?_
  cases h
  exact x_iret (ty := .int) (pc := 19) d_Math_floorMod_19 rfl (rfl) hQ
def f_Math_floorMod  (a1 : Int32) (a2 : Int32) : Option Int32 := (if a2 = 0 then none else (if 0 ≤ (a1 ^^^ a2) then f_Math_floorMod_b18 (a1 - a1 / a2 * a2) else (if (a1 - a1 / a2 * a2) = 0 then f_Math_floorMod_b18 (a1 - a1 / a2 * a2) else some ((a1 - a1 / a2 * a2) + a2))))
theorem w_Math_floorMod {sc : xSc} {d : Nat} {Q : xR → xH → Prop} {hh : xH} {rZ : Int32} (hQ : Q (.inl (some (vI rZ))) hh) (a1 : Int32) (a2 : Int32) (h : f_Math_floorMod  a1 a2 = some rZ) : xW sc m_Math_floorMod (d + 0) Q (hh) 0 (xent [vI a1, vI a2] m_Math_floorMod.2.2.1) [] := by
  show xW sc m_Math_floorMod (d + 0) Q (hh) 0 [some (vI a1), some (vI a2), none] []
  unfold f_Math_floorMod at h
  refine x_iload_n (pc := 0) d_Math_floorMod_0 rfl ?_
  refine x_iload_n (pc := 1) d_Math_floorMod_1 rfl ?_
  obtain ⟨c1, h⟩ := itn_some h
  refine x_irem (pc := 2) d_Math_floorMod_2 (c1) ?_
  refine x_istore_n (pc := 3) d_Math_floorMod_3 (by decide) ?_
  show xW sc m_Math_floorMod (d + 0) Q (hh) 4 [some (vI a1), some (vI a2), some (vI (a1 - a1 / a2 * a2))] []
  refine x_iload_n (pc := 4) d_Math_floorMod_4 rfl ?_
  refine x_iload_n (pc := 5) d_Math_floorMod_5 rfl ?_
  refine x_ixor (pc := 6) d_Math_floorMod_6 ?_
  refine x_if_ge (tgt := 18) (pc := 7) d_Math_floorMod_7 (by decide) (fun c2 => ?_) (fun c2 => ?_)
  · rw [if_pos c2] at h
    exact x_wk (L' := [none, none, some (vI (a1 - a1 / a2 * a2))]) ⟨Or.inl rfl, Or.inl rfl, Or.inr rfl, trivial⟩ (w_Math_floorMod_b18 hQ (a1 - a1 / a2 * a2) h)
  · rw [if_neg c2] at h
    refine x_iload_n (pc := 10) d_Math_floorMod_10 rfl ?_
    refine x_if_eq (tgt := 18) (pc := 11) d_Math_floorMod_11 (by decide) (fun c3 => ?_) (fun c3 => ?_)
    · rw [if_pos c3] at h
      exact x_wk (L' := [none, none, some (vI (a1 - a1 / a2 * a2))]) ⟨Or.inl rfl, Or.inl rfl, Or.inr rfl, trivial⟩ (w_Math_floorMod_b18 hQ (a1 - a1 / a2 * a2) h)
    · rw [if_neg c3] at h
      refine x_iload_n (pc := 14) d_Math_floorMod_14 rfl ?_
      refine x_iload_n (pc := 15) d_Math_floorMod_15 rfl ?_
      refine x_iadd (pc := 16) d_Math_floorMod_16 ?_
      cases h
      exact x_iret (ty := .int) (pc := 17) d_Math_floorMod_17 rfl (rfl) hQ
def f_Name_init (sc : xSc) (u : xH) (a0 : Option Nat) (a1 : Option Nat) (a2 : Option Nat) (a3 : Option Nat) : Option xH := (if a0.isSome = true then (f_Record_init a0).bind fun v2 => (pV u 3 0 a0 (vR a1)).bind fun u4 => (pV u4 3 1 a0 (vR a2)).bind fun u6 => (pV u6 3 2 a0 (vR a3)).bind fun u8 => some u8 else none)
theorem w_Name_init {sc : xSc} {d : Nat} {Q : xR → xH → Prop} {hZ : xH} (hQ : Q (.inl none) hZ) (u : xH) (a0 : Option Nat) (a1 : Option Nat) (a2 : Option Nat) (a3 : Option Nat) (h : f_Name_init sc u a0 a1 a2 a3 = some hZ) : xW sc m_Name_init (d + 2) Q (u) 0 (xent [vR a0, vR a1, vR a2, vR a3] m_Name_init.2.2.1) [] := by
  show xW sc m_Name_init (d + 2) Q (u) 0 [some (vR a0), some (vR a1), some (vR a2), some (vR a3)] []
  unfold f_Name_init at h
  refine x_aload_n (pc := 0) d_Name_init_0 rfl ?_
  obtain ⟨c1, h⟩ := ite_some h
  obtain ⟨v2, e3, h⟩ := Option.bind_eq_some_iff.mp h
  refine c_invi (d := d + 1) (av := []) (st := []) (Q' := fun r h' => r = .inl none ∧ h' = u) (pc := 1) d_Name_init_1 ci_Name_1 y_Record_init (tw_3 (List.mem_of_getElem? (i := 15) rfl)) c1 rfl (Nat.le_of_ble_eq_true rfl) (Nat.le_of_ble_eq_true rfl) (w_Record_init (d := d + 0) (Q := fun r h' => r = .inl none ∧ h' = u) (hh := u) ⟨rfl, rfl⟩ a0 e3) (fun v h' z => ?_) (fun a h' z => nomatch z.1)
  obtain ⟨z1, z2⟩ := z
  subst h'
  cases z1
  show xW sc m_Name_init (d + 2) Q (u) 4 [some (vR a0), some (vR a1), some (vR a2), some (vR a3)] []
  refine x_aload_n (pc := 4) d_Name_init_4 rfl ?_
  refine x_aload_n (pc := 5) d_Name_init_5 rfl ?_
  obtain ⟨u4, e5, h⟩ := Option.bind_eq_some_iff.mp h
  refine c_putF (pc := 6) d_Name_init_6 l_Name_7 fp_3_0 rfl fo_Name_7 (xfit_obj) e5 ?_
  refine x_aload_n (pc := 9) d_Name_init_9 rfl ?_
  refine x_aload_n (pc := 10) d_Name_init_10 rfl ?_
  obtain ⟨u6, e7, h⟩ := Option.bind_eq_some_iff.mp h
  refine c_putF (pc := 11) d_Name_init_11 l_Name_13 fp_3_1 rfl fo_Name_13 (xfit_obj) e7 ?_
  refine x_aload_n (pc := 14) d_Name_init_14 rfl ?_
  refine x_aload_n (pc := 15) d_Name_init_15 rfl ?_
  obtain ⟨u8, e9, h⟩ := Option.bind_eq_some_iff.mp h
  refine c_putF (pc := 16) d_Name_init_16 l_Name_17 fp_3_2 rfl fo_Name_17 (xfit_obj) e9 ?_
  cases h
  exact x_vret (pc := 19) d_Name_init_19 rfl hQ
def f_StringBuilder_length (sc : xSc) (u : xH) (a0 : Option Nat) : Option Int32 := (if xis sc u 16 a0 = true then (f_AbstractStringBuilder_length sc u a0).bind fun v2 => some v2 else none)
theorem w_StringBuilder_length {sc : xSc} {d : Nat} {Q : xR → xH → Prop} {u : xH} {rZ : Int32} (hQ : Q (.inl (some (vI rZ))) u) (a0 : Option Nat) (h : f_StringBuilder_length sc u a0 = some rZ) : xW sc m_StringBuilder_length (d + 1) Q (u) 0 (xent [vR a0] m_StringBuilder_length.2.2.1) [] := by
  show xW sc m_StringBuilder_length (d + 1) Q (u) 0 [some (vR a0)] []
  unfold f_StringBuilder_length at h
  refine x_aload_n (pc := 0) d_StringBuilder_length_0 rfl ?_
  obtain ⟨c1, h⟩ := ite_some h
  obtain ⟨v2, e3, h⟩ := Option.bind_eq_some_iff.mp h
  refine c_invsu (c := 16) (d := d + 0) (av := []) (st := []) (Q' := fun r h' => r = .inl (some (vI v2)) ∧ h' = u) (pc := 1) d_StringBuilder_length_1 cu_StringBuilder_343 y_AbstractStringBuilder_length c1 rfl (Nat.le_of_ble_eq_true rfl) (Nat.le_of_ble_eq_true rfl) (w_AbstractStringBuilder_length (d := d + 0) (Q := fun r h' => r = .inl (some (vI v2)) ∧ h' = u) ⟨rfl, rfl⟩ a0 e3) (fun v h' z => ?_) (fun a h' z => nomatch z.1)
  obtain ⟨z1, z2⟩ := z
  subst h'
  cases z1
  show xW sc m_StringBuilder_length (d + 1) Q (u) 4 [some (vR a0)] [vI v2]
  cases h
  exact x_iret (ty := .int) (pc := 4) d_StringBuilder_length_4 rfl (rfl) hQ
def f_String_coder_b14 (sc : xSc) (u : xH)  (t0 : Int32) : Option Int32 := (if xby t0 = true then some t0 else none)
theorem w_String_coder_b14 {sc : xSc} {d : Nat} {Q : xR → xH → Prop} {u : xH} {rZ : Int32}  (hQ : Q (.inl (some (vI rZ))) u) (t0 : Int32) (h : f_String_coder_b14 sc u  t0 = some rZ) : xW sc m_String_coder (d + 0) Q (u) 14 [none] [vI t0] := by
  unfold f_String_coder_b14 at h
  obtain ⟨c1, h⟩ := ite_some h
  cases h
  exact x_iret (ty := .byte) (pc := 14) d_String_coder_14 rfl (xby_n c1) hQ
def f_String_coder (sc : xSc) (u : xH) (a0 : Option Nat) : Option Int32 := (if (1 : Int32) = 0 then f_String_coder_b14 sc u (1 : Int32) else (gI sc u 18 1 a0).bind fun v2 => f_String_coder_b14 sc u v2)
theorem w_String_coder {sc : xSc} {d : Nat} {Q : xR → xH → Prop} {u : xH} {rZ : Int32} (hQ : Q (.inl (some (vI rZ))) u) (a0 : Option Nat) (h : f_String_coder sc u a0 = some rZ) : xW sc m_String_coder (d + 0) Q (u) 0 (xent [vR a0] m_String_coder.2.2.1) [] := by
  show xW sc m_String_coder (d + 0) Q (u) 0 [some (vR a0)] []
  unfold f_String_coder at h
  refine x_gets (v := vI (1 : Int32)) (pc := 0) d_String_coder_0 sl_String_38 ?_
  refine x_if_eq (tgt := 13) (pc := 3) d_String_coder_3 (by decide) (fun c1 => ?_) (fun c1 => ?_)
  · rw [if_pos c1] at h
    refine x_iconst (v := (1 : Int32)) (pc := 13) d_String_coder_13 (by decide) ?_
    exact x_wk (L' := [none]) ⟨Or.inl rfl, trivial⟩ (w_String_coder_b14 hQ (1 : Int32) h)
  · rw [if_neg c1] at h
    refine x_aload_n (pc := 6) d_String_coder_6 rfl ?_
    obtain ⟨v2, e3, h⟩ := Option.bind_eq_some_iff.mp h
    refine c_getI (pc := 7) d_String_coder_7 l_String_15 e3 ?_
    refine x_goto (tgt := 14) (pc := 10) d_String_coder_10 (by decide) ?_
    exact x_wk (L' := [none]) ⟨Or.inl rfl, trivial⟩ (w_String_coder_b14 hQ v2 h)
def f_String_length (sc : xSc) (u : xH) (a0 : Option Nat) : Option Int32 := (gR sc u 18 0 a0).bind fun v1 => (aN sc u v1).bind fun v3 => (if xis sc u 18 a0 = true then (f_String_coder sc u a0).bind fun v6 => some (v3 >>> (v6 &&& 31)) else none)
theorem w_String_length {sc : xSc} {d : Nat} {Q : xR → xH → Prop} {u : xH} {rZ : Int32} (hQ : Q (.inl (some (vI rZ))) u) (a0 : Option Nat) (h : f_String_length sc u a0 = some rZ) : xW sc m_String_length (d + 1) Q (u) 0 (xent [vR a0] m_String_length.2.2.1) [] := by
  show xW sc m_String_length (d + 1) Q (u) 0 [some (vR a0)] []
  unfold f_String_length at h
  refine x_aload_n (pc := 0) d_String_length_0 rfl ?_
  obtain ⟨v1, e2, h⟩ := Option.bind_eq_some_iff.mp h
  refine c_getR (pc := 1) d_String_length_1 l_String_9 e2 ?_
  obtain ⟨v3, e4, h⟩ := Option.bind_eq_some_iff.mp h
  refine c_alen (pc := 4) d_String_length_4 e4 ?_
  refine x_aload_n (pc := 5) d_String_length_5 rfl ?_
  obtain ⟨c5, h⟩ := ite_some h
  obtain ⟨v6, e7, h⟩ := Option.bind_eq_some_iff.mp h
  refine c_invv (c := 18) (d := d + 0) (av := []) (st := [vI v3]) (Q' := fun r h' => r = .inl (some (vI v6)) ∧ h' = u) (pc := 6) d_String_length_6 cv_String_335 y_String_coder c5 rfl (Nat.le_of_ble_eq_true rfl) (Nat.le_of_ble_eq_true rfl) (w_String_coder (d := d + 0) (Q := fun r h' => r = .inl (some (vI v6)) ∧ h' = u) ⟨rfl, rfl⟩ a0 e7) (fun v h' z => ?_) (fun a h' z => nomatch z.1)
  obtain ⟨z1, z2⟩ := z
  subst h'
  cases z1
  show xW sc m_String_length (d + 1) Q (u) 9 [some (vR a0)] [vI v6, vI v3]
  refine x_ishr (pc := 9) d_String_length_9 ?_
  cases h
  exact x_iret (ty := .int) (pc := 10) d_String_length_10 rfl (rfl) hQ
def f_StringBuilder_charAt (sc : xSc) (u : xH) (a0 : Option Nat) (a1 : Int32) : Option Int32 := (if xis sc u 16 a0 = true then (f_AbstractStringBuilder_charAt sc u a0 a1).bind fun v2 => (if xch v2 = true then some v2 else none) else none)
theorem w_StringBuilder_charAt {sc : xSc} {d : Nat} {Q : xR → xH → Prop} {u : xH} {rZ : Int32} (hQ : Q (.inl (some (vI rZ))) u) (a0 : Option Nat) (a1 : Int32) (h : f_StringBuilder_charAt sc u a0 a1 = some rZ) : xW sc m_StringBuilder_charAt (d + 3) Q (u) 0 (xent [vR a0, vI a1] m_StringBuilder_charAt.2.2.1) [] := by
  show xW sc m_StringBuilder_charAt (d + 3) Q (u) 0 [some (vR a0), some (vI a1)] []
  unfold f_StringBuilder_charAt at h
  refine x_aload_n (pc := 0) d_StringBuilder_charAt_0 rfl ?_
  refine x_iload_n (pc := 1) d_StringBuilder_charAt_1 rfl ?_
  obtain ⟨c1, h⟩ := ite_some h
  obtain ⟨v2, e3, h⟩ := Option.bind_eq_some_iff.mp h
  refine c_invsu (c := 16) (d := d + 2) (av := [vI a1]) (st := []) (Q' := fun r h' => r = .inl (some (vI v2)) ∧ h' = u) (pc := 2) d_StringBuilder_charAt_2 cu_StringBuilder_329 y_AbstractStringBuilder_charAt c1 rfl (Nat.le_of_ble_eq_true rfl) (Nat.le_of_ble_eq_true rfl) (w_AbstractStringBuilder_charAt (d := d + 0) (Q := fun r h' => r = .inl (some (vI v2)) ∧ h' = u) ⟨rfl, rfl⟩ a0 a1 e3) (fun v h' z => ?_) (fun a h' z => nomatch z.1)
  obtain ⟨z1, z2⟩ := z
  subst h'
  cases z1
  show xW sc m_StringBuilder_charAt (d + 3) Q (u) 5 [some (vR a0), some (vI a1)] [vI v2]
  obtain ⟨c4, h⟩ := ite_some h
  cases h
  exact x_iret (ty := .char) (pc := 5) d_StringBuilder_charAt_5 rfl (xch_n c4) hQ
def f_String_isLatin1_b18 (sc : xSc) (u : xH)  (t0 : Int32) : Option Int32 := (if xbo t0 = true then some t0 else none)
theorem w_String_isLatin1_b18 {sc : xSc} {d : Nat} {Q : xR → xH → Prop} {u : xH} {rZ : Int32}  (hQ : Q (.inl (some (vI rZ))) u) (t0 : Int32) (h : f_String_isLatin1_b18 sc u  t0 = some rZ) : xW sc m_String_isLatin1 (d + 0) Q (u) 18 [none] [vI t0] := by
  unfold f_String_isLatin1_b18 at h
  obtain ⟨c1, h⟩ := ite_some h
  cases h
  exact x_iret (ty := .boolean) (pc := 18) d_String_isLatin1_18 rfl (xbo_n c1) hQ
def f_String_isLatin1_b17 (sc : xSc) (u : xH)   : Option Int32 := f_String_isLatin1_b18 sc u (0 : Int32)
theorem w_String_isLatin1_b17 {sc : xSc} {d : Nat} {Q : xR → xH → Prop} {u : xH} {rZ : Int32}  (hQ : Q (.inl (some (vI rZ))) u)  (h : f_String_isLatin1_b17 sc u   = some rZ) : xW sc m_String_isLatin1 (d + 0) Q (u) 17 [none] [] := by
  unfold f_String_isLatin1_b17 at h
  refine x_iconst (v := (0 : Int32)) (pc := 17) d_String_isLatin1_17 (by decide) ?_
  exact w_String_isLatin1_b18 hQ (0 : Int32) h
def f_String_isLatin1 (sc : xSc) (u : xH) (a0 : Option Nat) : Option Int32 := (if (1 : Int32) = 0 then f_String_isLatin1_b17 sc u else (gI sc u 18 1 a0).bind fun v2 => (if v2 = 0 then f_String_isLatin1_b18 sc u (1 : Int32) else f_String_isLatin1_b17 sc u))
theorem w_String_isLatin1 {sc : xSc} {d : Nat} {Q : xR → xH → Prop} {u : xH} {rZ : Int32} (hQ : Q (.inl (some (vI rZ))) u) (a0 : Option Nat) (h : f_String_isLatin1 sc u a0 = some rZ) : xW sc m_String_isLatin1 (d + 0) Q (u) 0 (xent [vR a0] m_String_isLatin1.2.2.1) [] := by
  show xW sc m_String_isLatin1 (d + 0) Q (u) 0 [some (vR a0)] []
  unfold f_String_isLatin1 at h
  refine x_gets (v := vI (1 : Int32)) (pc := 0) d_String_isLatin1_0 sl_String_38 ?_
  refine x_if_eq (tgt := 17) (pc := 3) d_String_isLatin1_3 (by decide) (fun c1 => ?_) (fun c1 => ?_)
  · rw [if_pos c1] at h
    exact x_wk (L' := [none]) ⟨Or.inl rfl, trivial⟩ (w_String_isLatin1_b17 hQ h)
  · rw [if_neg c1] at h
    refine x_aload_n (pc := 6) d_String_isLatin1_6 rfl ?_
    obtain ⟨v2, e3, h⟩ := Option.bind_eq_some_iff.mp h
    refine c_getI (pc := 7) d_String_isLatin1_7 l_String_15 e3 ?_
    refine x_if_ne (tgt := 17) (pc := 10) d_String_isLatin1_10 (by decide) (fun c4 => ?_) (fun c4 => ?_)
    · rw [if_neg c4] at h
      exact x_wk (L' := [none]) ⟨Or.inl rfl, trivial⟩ (w_String_isLatin1_b17 hQ h)
    · rw [if_pos c4] at h
      refine x_iconst (v := (1 : Int32)) (pc := 13) d_String_isLatin1_13 (by decide) ?_
      refine x_goto (tgt := 18) (pc := 14) d_String_isLatin1_14 (by decide) ?_
      exact x_wk (L' := [none]) ⟨Or.inl rfl, trivial⟩ (w_String_isLatin1_b18 hQ (1 : Int32) h)
def f_StringLatin1_charAt (sc : xSc) (u : xH) (a1 : Option Nat) (a2 : Int32) : Option Int32 := (aN sc u a1).bind fun v1 => (f_String_checkIndex a2 v1).bind fun v3 => (aI .byte sc u a1 a2).bind fun v5 => (if xch (((v5 &&& (255 : Int32)).toUInt32 % 65536).toInt32) = true then some (((v5 &&& (255 : Int32)).toUInt32 % 65536).toInt32) else none)
theorem w_StringLatin1_charAt {sc : xSc} {d : Nat} {Q : xR → xH → Prop} {u : xH} {rZ : Int32} (hQ : Q (.inl (some (vI rZ))) u) (a1 : Option Nat) (a2 : Int32) (h : f_StringLatin1_charAt sc u a1 a2 = some rZ) : xW sc m_StringLatin1_charAt (d + 2) Q (u) 0 (xent [vR a1, vI a2] m_StringLatin1_charAt.2.2.1) [] := by
  show xW sc m_StringLatin1_charAt (d + 2) Q (u) 0 [some (vR a1), some (vI a2)] []
  unfold f_StringLatin1_charAt at h
  refine x_iload_n (pc := 0) d_StringLatin1_charAt_0 rfl ?_
  refine x_aload_n (pc := 1) d_StringLatin1_charAt_1 rfl ?_
  obtain ⟨v1, e2, h⟩ := Option.bind_eq_some_iff.mp h
  refine c_alen (pc := 2) d_StringLatin1_charAt_2 e2 ?_
  obtain ⟨v3, e4, h⟩ := Option.bind_eq_some_iff.mp h
  refine x_invs (d := d + 1) (av := [vI a2, vI v1]) (st := []) (Q' := fun r h' => r = .inl none ∧ h' = u) (pc := 3) d_StringLatin1_charAt_3 cs_StringLatin1_9 y_String_checkIndex rfl (Nat.le_of_ble_eq_true rfl) (Nat.le_of_ble_eq_true rfl) (w_String_checkIndex (d := d + 0) (Q := fun r h' => r = .inl none ∧ h' = u) (hh := u) ⟨rfl, rfl⟩ a2 v1 e4) (fun v h' z => ?_) (fun a h' z => nomatch z.1)
  obtain ⟨z1, z2⟩ := z
  subst h'
  cases z1
  show xW sc m_StringLatin1_charAt (d + 2) Q (u) 6 [some (vR a1), some (vI a2)] []
  refine x_aload_n (pc := 6) d_StringLatin1_charAt_6 rfl ?_
  refine x_iload_n (pc := 7) d_StringLatin1_charAt_7 rfl ?_
  obtain ⟨v5, e6, h⟩ := Option.bind_eq_some_iff.mp h
  refine c_bald (pc := 8) d_StringLatin1_charAt_8 e6 ?_
  refine x_sipush (v := (255 : Int32)) (pc := 9) d_StringLatin1_charAt_9 (by decide) ?_
  refine x_iand (pc := 12) d_StringLatin1_charAt_12 ?_
  refine x_i2c (pc := 13) d_StringLatin1_charAt_13 ?_
  obtain ⟨c7, h⟩ := ite_some h
  cases h
  exact x_iret (ty := .char) (pc := 14) d_StringLatin1_charAt_14 rfl (xch_n c7) hQ
def f_String_charAt (sc : xSc) (u : xH) (a0 : Option Nat) (a1 : Int32) : Option Int32 := (if xis sc u 18 a0 = true then (f_String_isLatin1 sc u a0).bind fun v2 => (if v2 = 0 then (gR sc u 18 0 a0).bind fun v5 => none else (gR sc u 18 0 a0).bind fun v7 => (f_StringLatin1_charAt sc u v7 a1).bind fun v9 => (if xch v9 = true then some v9 else none)) else none)
theorem w_String_charAt {sc : xSc} {d : Nat} {Q : xR → xH → Prop} {u : xH} {rZ : Int32} (hQ : Q (.inl (some (vI rZ))) u) (a0 : Option Nat) (a1 : Int32) (h : f_String_charAt sc u a0 a1 = some rZ) : xW sc m_String_charAt (d + 3) Q (u) 0 (xent [vR a0, vI a1] m_String_charAt.2.2.1) [] := by
  show xW sc m_String_charAt (d + 3) Q (u) 0 [some (vR a0), some (vI a1)] []
  unfold f_String_charAt at h
  refine x_aload_n (pc := 0) d_String_charAt_0 rfl ?_
  obtain ⟨c1, h⟩ := ite_some h
  obtain ⟨v2, e3, h⟩ := Option.bind_eq_some_iff.mp h
  refine c_invv (c := 18) (d := d + 2) (av := []) (st := []) (Q' := fun r h' => r = .inl (some (vI v2)) ∧ h' = u) (pc := 1) d_String_charAt_1 cv_String_492 y_String_isLatin1 c1 rfl (Nat.le_of_ble_eq_true rfl) (Nat.le_of_ble_eq_true rfl) (w_String_isLatin1 (d := d + 2) (Q := fun r h' => r = .inl (some (vI v2)) ∧ h' = u) ⟨rfl, rfl⟩ a0 e3) (fun v h' z => ?_) (fun a h' z => nomatch z.1)
  obtain ⟨z1, z2⟩ := z
  subst h'
  cases z1
  show xW sc m_String_charAt (d + 3) Q (u) 4 [some (vR a0), some (vI a1)] [vI v2]
  refine x_if_eq (tgt := 16) (pc := 4) d_String_charAt_4 (by decide) (fun c4 => ?_) (fun c4 => ?_)
  · rw [if_pos c4] at h
    refine x_aload_n (pc := 16) d_String_charAt_16 rfl ?_
    obtain ⟨v5, e6, h⟩ := Option.bind_eq_some_iff.mp h
    refine c_getR (pc := 17) d_String_charAt_17 l_String_9 e6 ?_
    refine x_iload_n (pc := 20) d_String_charAt_20 rfl ?_
    cases h
  · rw [if_neg c4] at h
    refine x_aload_n (pc := 7) d_String_charAt_7 rfl ?_
    obtain ⟨v7, e8, h⟩ := Option.bind_eq_some_iff.mp h
    refine c_getR (pc := 8) d_String_charAt_8 l_String_9 e8 ?_
    refine x_iload_n (pc := 11) d_String_charAt_11 rfl ?_
    obtain ⟨v9, e10, h⟩ := Option.bind_eq_some_iff.mp h
    refine x_invs (d := d + 2) (av := [vR v7, vI a1]) (st := []) (Q' := fun r h' => r = .inl (some (vI v9)) ∧ h' = u) (pc := 12) d_String_charAt_12 cs_String_495 y_StringLatin1_charAt rfl (Nat.le_of_ble_eq_true rfl) (Nat.le_of_ble_eq_true rfl) (w_StringLatin1_charAt (d := d + 0) (Q := fun r h' => r = .inl (some (vI v9)) ∧ h' = u) ⟨rfl, rfl⟩ v7 a1 e10) (fun v h' z => ?_) (fun a h' z => nomatch z.1)
    obtain ⟨z1, z2⟩ := z
    subst h'
    cases z1
    show xW sc m_String_charAt (d + 3) Q (u) 15 [some (vR a0), some (vI a1)] [vI v9]
    obtain ⟨c11, h⟩ := ite_some h
    cases h
    exact x_iret (ty := .char) (pc := 15) d_String_charAt_15 rfl (xch_n c11) hQ
def f_Name_is_b65 (sc : xSc) (u : xH)  (l2 : Int32) : Option Int32 := (if xbo l2 = true then some l2 else none)
theorem w_Name_is_b65 {sc : xSc} {d : Nat} {Q : xR → xH → Prop} {u : xH} {rZ : Int32}  (hQ : Q (.inl (some (vI rZ))) u) (l2 : Int32) (h : f_Name_is_b65 sc u  l2 = some rZ) : xW sc m_Name_is (d + 4) Q (u) 65 [none, none, some (vI l2), none] [] := by
  unfold f_Name_is_b65 at h
  refine x_iload_n (pc := 65) d_Name_is_65 rfl ?_
  obtain ⟨c1, h⟩ := ite_some h
  cases h
  exact x_iret (ty := .boolean) (pc := 66) d_Name_is_66 rfl (xbo_n c1) hQ
def f_Name_is_b58 (sc : xSc) (u : xH) (k22 : Option Nat → Option Nat → Int32 → Int32 → Option Int32) (l0 : Option Nat) (l1 : Option Nat) (l3 : Int32) (t0 : Int32) : Option Int32 := k22 l0 l1 t0 (l3 + Int32.ofInt 1)
theorem w_Name_is_b58 {sc : xSc} {d : Nat} {Q : xR → xH → Prop} {u : xH} {rZ : Int32} (k22 : Option Nat → Option Nat → Int32 → Int32 → Option Int32) (hk22 : ∀ (l0 : Option Nat) (l1 : Option Nat) (l2 : Int32) (l3 : Int32), k22 l0 l1 l2 l3 = some rZ → xW sc m_Name_is (d + 4) Q (u) 22 [some (vR l0), some (vR l1), some (vI l2), some (vI l3)] []) (hQ : Q (.inl (some (vI rZ))) u) (l0 : Option Nat) (l1 : Option Nat) (l3 : Int32) (t0 : Int32) (h : f_Name_is_b58 sc u k22 l0 l1 l3 t0 = some rZ) : xW sc m_Name_is (d + 4) Q (u) 58 [some (vR l0), some (vR l1), none, some (vI l3)] [vI t0] := by
  unfold f_Name_is_b58 at h
  refine x_istore_n (pc := 58) d_Name_is_58 (by decide) ?_
  show xW sc m_Name_is (d + 4) Q (u) 59 [some (vR l0), some (vR l1), some (vI t0), some (vI l3)] []
  refine x_iinc (pc := 59) d_Name_is_59 rfl (by decide) ?_
  show xW sc m_Name_is (d + 4) Q (u) 62 [some (vR l0), some (vR l1), some (vI t0), some (vI (l3 + Int32.ofInt 1))] []
  refine x_goto (tgt := 22) (pc := 62) d_Name_is_62 (by decide) ?_
  exact hk22 l0 l1 t0 (l3 + Int32.ofInt 1) h
def f_Name_is_b22 (sc : xSc) (u : xH)  : Nat → Option Nat → Option Nat → Int32 → Int32 → Option Int32
  | 0, _, _, _, _ => none
  | n + 1, l0, l1, l2, l3 => (if l2 = 0 then f_Name_is_b65 sc u l2 else (gR sc u 3 0 l0).bind fun v2 => (if xis sc u 18 v2 = true then (f_String_length sc u v2).bind fun v5 => (if v5 ≤ l3 then f_Name_is_b65 sc u l2 else (if xis sc u 16 l1 = true then (f_StringBuilder_charAt sc u l1 l3).bind fun v9 => (gR sc u 3 0 l0).bind fun v11 => (if xis sc u 18 v11 = true then (f_String_charAt sc u v11 l3).bind fun v14 => (if v9 = v14 then f_Name_is_b58 sc u (f_Name_is_b22 sc u n) l0 l1 l3 (1 : Int32) else f_Name_is_b58 sc u (f_Name_is_b22 sc u n) l0 l1 l3 (0 : Int32)) else none) else none)) else none))
theorem w_Name_is_b22 {sc : xSc} {d : Nat} {Q : xR → xH → Prop} {u : xH} {rZ : Int32}  (hQ : Q (.inl (some (vI rZ))) u) : ∀ (n : Nat) (l0 : Option Nat) (l1 : Option Nat) (l2 : Int32) (l3 : Int32), f_Name_is_b22 sc u  n l0 l1 l2 l3 = some rZ → xW sc m_Name_is (d + 4) Q (u) 22 [some (vR l0), some (vR l1), some (vI l2), some (vI l3)] [] := by
  intro n
  induction n with
  | zero =>
    intro l0 l1 l2 l3 h
    cases h
  | succ n hk22 =>
    intro l0 l1 l2 l3 h
    unfold f_Name_is_b22 at h
    refine x_iload_n (pc := 22) d_Name_is_22 rfl ?_
    refine x_if_eq (tgt := 65) (pc := 23) d_Name_is_23 (by decide) (fun c1 => ?_) (fun c1 => ?_)
    · rw [if_pos c1] at h
      exact x_wk (L' := [none, none, some (vI l2), none]) ⟨Or.inl rfl, Or.inl rfl, Or.inr rfl, Or.inl rfl, trivial⟩ (w_Name_is_b65 hQ l2 h)
    · rw [if_neg c1] at h
      refine x_iload_n (pc := 26) d_Name_is_26 rfl ?_
      refine x_aload_n (pc := 27) d_Name_is_27 rfl ?_
      obtain ⟨v2, e3, h⟩ := Option.bind_eq_some_iff.mp h
      refine c_getR (pc := 28) d_Name_is_28 l_Name_7 e3 ?_
      obtain ⟨c4, h⟩ := ite_some h
      obtain ⟨v5, e6, h⟩ := Option.bind_eq_some_iff.mp h
      refine c_invv (c := 18) (d := d + 3) (av := []) (st := [vI l3]) (Q' := fun r h' => r = .inl (some (vI v5)) ∧ h' = u) (pc := 31) d_Name_is_31 cv_Name_27 y_String_length c4 rfl (Nat.le_of_ble_eq_true rfl) (Nat.le_of_ble_eq_true rfl) (w_String_length (d := d + 2) (Q := fun r h' => r = .inl (some (vI v5)) ∧ h' = u) ⟨rfl, rfl⟩ v2 e6) (fun v h' z => ?_) (fun a h' z => nomatch z.1)
      obtain ⟨z1, z2⟩ := z
      subst h'
      cases z1
      show xW sc m_Name_is (d + 4) Q (u) 34 [some (vR l0), some (vR l1), some (vI l2), some (vI l3)] [vI v5, vI l3]
      refine x_icmp_ge (tgt := 65) (pc := 34) d_Name_is_34 (by decide) (fun c7 => ?_) (fun c7 => ?_)
      · rw [if_pos c7] at h
        exact x_wk (L' := [none, none, some (vI l2), none]) ⟨Or.inl rfl, Or.inl rfl, Or.inr rfl, Or.inl rfl, trivial⟩ (w_Name_is_b65 hQ l2 h)
      · rw [if_neg c7] at h
        refine x_aload_n (pc := 37) d_Name_is_37 rfl ?_
        refine x_iload_n (pc := 38) d_Name_is_38 rfl ?_
        obtain ⟨c8, h⟩ := ite_some h
        obtain ⟨v9, e10, h⟩ := Option.bind_eq_some_iff.mp h
        refine c_invv (c := 16) (d := d + 3) (av := [vI l3]) (st := []) (Q' := fun r h' => r = .inl (some (vI v9)) ∧ h' = u) (pc := 39) d_Name_is_39 cv_Name_30 y_StringBuilder_charAt c8 rfl (Nat.le_of_ble_eq_true rfl) (Nat.le_of_ble_eq_true rfl) (w_StringBuilder_charAt (d := d + 0) (Q := fun r h' => r = .inl (some (vI v9)) ∧ h' = u) ⟨rfl, rfl⟩ l1 l3 e10) (fun v h' z => ?_) (fun a h' z => nomatch z.1)
        obtain ⟨z1, z2⟩ := z
        subst h'
        cases z1
        show xW sc m_Name_is (d + 4) Q (u) 42 [some (vR l0), some (vR l1), some (vI l2), some (vI l3)] [vI v9]
        refine x_aload_n (pc := 42) d_Name_is_42 rfl ?_
        obtain ⟨v11, e12, h⟩ := Option.bind_eq_some_iff.mp h
        refine c_getR (pc := 43) d_Name_is_43 l_Name_7 e12 ?_
        refine x_iload_n (pc := 46) d_Name_is_46 rfl ?_
        obtain ⟨c13, h⟩ := ite_some h
        obtain ⟨v14, e15, h⟩ := Option.bind_eq_some_iff.mp h
        refine c_invv (c := 18) (d := d + 3) (av := [vI l3]) (st := [vI v9]) (Q' := fun r h' => r = .inl (some (vI v14)) ∧ h' = u) (pc := 47) d_Name_is_47 cv_Name_34 y_String_charAt c13 rfl (Nat.le_of_ble_eq_true rfl) (Nat.le_of_ble_eq_true rfl) (w_String_charAt (d := d + 0) (Q := fun r h' => r = .inl (some (vI v14)) ∧ h' = u) ⟨rfl, rfl⟩ v11 l3 e15) (fun v h' z => ?_) (fun a h' z => nomatch z.1)
        obtain ⟨z1, z2⟩ := z
        subst h'
        cases z1
        show xW sc m_Name_is (d + 4) Q (u) 50 [some (vR l0), some (vR l1), some (vI l2), some (vI l3)] [vI v14, vI v9]
        refine x_icmp_ne (tgt := 57) (pc := 50) d_Name_is_50 (by decide) (fun c16 => ?_) (fun c16 => ?_)
        · rw [if_neg c16] at h
          refine x_iconst (v := (0 : Int32)) (pc := 57) d_Name_is_57 (by decide) ?_
          exact x_wk (L' := [some (vR l0), some (vR l1), none, some (vI l3)]) ⟨Or.inr rfl, Or.inr rfl, Or.inl rfl, Or.inr rfl, trivial⟩ (w_Name_is_b58 (f_Name_is_b22 sc u n) hk22 hQ l0 l1 l3 (0 : Int32) h)
        · rw [if_pos c16] at h
          refine x_iconst (v := (1 : Int32)) (pc := 53) d_Name_is_53 (by decide) ?_
          refine x_goto (tgt := 58) (pc := 54) d_Name_is_54 (by decide) ?_
          exact x_wk (L' := [some (vR l0), some (vR l1), none, some (vI l3)]) ⟨Or.inr rfl, Or.inr rfl, Or.inl rfl, Or.inr rfl, trivial⟩ (w_Name_is_b58 (f_Name_is_b22 sc u n) hk22 hQ l0 l1 l3 (1 : Int32) h)
def f_Name_is_b19 (sc : xSc) (u : xH)  (l0 : Option Nat) (l1 : Option Nat) (t0 : Int32) : Option Int32 := f_Name_is_b22 sc u mF l0 l1 t0 (0 : Int32)
theorem w_Name_is_b19 {sc : xSc} {d : Nat} {Q : xR → xH → Prop} {u : xH} {rZ : Int32}  (hQ : Q (.inl (some (vI rZ))) u) (l0 : Option Nat) (l1 : Option Nat) (t0 : Int32) (h : f_Name_is_b19 sc u  l0 l1 t0 = some rZ) : xW sc m_Name_is (d + 4) Q (u) 19 [some (vR l0), some (vR l1), none, none] [vI t0] := by
  unfold f_Name_is_b19 at h
  refine x_istore_n (pc := 19) d_Name_is_19 (by decide) ?_
  show xW sc m_Name_is (d + 4) Q (u) 20 [some (vR l0), some (vR l1), some (vI t0), none] []
  refine x_iconst (v := (0 : Int32)) (pc := 20) d_Name_is_20 (by decide) ?_
  refine x_istore_n (pc := 21) d_Name_is_21 (by decide) ?_
  show xW sc m_Name_is (d + 4) Q (u) 22 [some (vR l0), some (vR l1), some (vI t0), some (vI (0 : Int32))] []
  exact w_Name_is_b22 hQ mF l0 l1 t0 (0 : Int32) h
def f_Name_is (sc : xSc) (u : xH) (a0 : Option Nat) (a1 : Option Nat) : Option Int32 := (if xis sc u 16 a1 = true then (f_StringBuilder_length sc u a1).bind fun v2 => (gR sc u 3 0 a0).bind fun v4 => (if xis sc u 18 v4 = true then (f_String_length sc u v4).bind fun v7 => (if v2 = v7 then f_Name_is_b19 sc u a0 a1 (1 : Int32) else f_Name_is_b19 sc u a0 a1 (0 : Int32)) else none) else none)
theorem w_Name_is {sc : xSc} {d : Nat} {Q : xR → xH → Prop} {u : xH} {rZ : Int32} (hQ : Q (.inl (some (vI rZ))) u) (a0 : Option Nat) (a1 : Option Nat) (h : f_Name_is sc u a0 a1 = some rZ) : xW sc m_Name_is (d + 4) Q (u) 0 (xent [vR a0, vR a1] m_Name_is.2.2.1) [] := by
  show xW sc m_Name_is (d + 4) Q (u) 0 [some (vR a0), some (vR a1), none, none] []
  unfold f_Name_is at h
  refine x_aload_n (pc := 0) d_Name_is_0 rfl ?_
  obtain ⟨c1, h⟩ := ite_some h
  obtain ⟨v2, e3, h⟩ := Option.bind_eq_some_iff.mp h
  refine c_invv (c := 16) (d := d + 3) (av := []) (st := []) (Q' := fun r h' => r = .inl (some (vI v2)) ∧ h' = u) (pc := 1) d_Name_is_1 cv_Name_21 y_StringBuilder_length c1 rfl (Nat.le_of_ble_eq_true rfl) (Nat.le_of_ble_eq_true rfl) (w_StringBuilder_length (d := d + 2) (Q := fun r h' => r = .inl (some (vI v2)) ∧ h' = u) ⟨rfl, rfl⟩ a1 e3) (fun v h' z => ?_) (fun a h' z => nomatch z.1)
  obtain ⟨z1, z2⟩ := z
  subst h'
  cases z1
  show xW sc m_Name_is (d + 4) Q (u) 4 [some (vR a0), some (vR a1), none, none] [vI v2]
  refine x_aload_n (pc := 4) d_Name_is_4 rfl ?_
  obtain ⟨v4, e5, h⟩ := Option.bind_eq_some_iff.mp h
  refine c_getR (pc := 5) d_Name_is_5 l_Name_7 e5 ?_
  obtain ⟨c6, h⟩ := ite_some h
  obtain ⟨v7, e8, h⟩ := Option.bind_eq_some_iff.mp h
  refine c_invv (c := 18) (d := d + 3) (av := []) (st := [vI v2]) (Q' := fun r h' => r = .inl (some (vI v7)) ∧ h' = u) (pc := 8) d_Name_is_8 cv_Name_27 y_String_length c6 rfl (Nat.le_of_ble_eq_true rfl) (Nat.le_of_ble_eq_true rfl) (w_String_length (d := d + 2) (Q := fun r h' => r = .inl (some (vI v7)) ∧ h' = u) ⟨rfl, rfl⟩ v4 e8) (fun v h' z => ?_) (fun a h' z => nomatch z.1)
  obtain ⟨z1, z2⟩ := z
  subst h'
  cases z1
  show xW sc m_Name_is (d + 4) Q (u) 11 [some (vR a0), some (vR a1), none, none] [vI v7, vI v2]
  refine x_icmp_ne (tgt := 18) (pc := 11) d_Name_is_11 (by decide) (fun c9 => ?_) (fun c9 => ?_)
  · rw [if_neg c9] at h
    refine x_iconst (v := (0 : Int32)) (pc := 18) d_Name_is_18 (by decide) ?_
    exact w_Name_is_b19 hQ a0 a1 (0 : Int32) h
  · rw [if_pos c9] at h
    refine x_iconst (v := (1 : Int32)) (pc := 14) d_Name_is_14 (by decide) ?_
    refine x_goto (tgt := 19) (pc := 15) d_Name_is_15 (by decide) ?_
    exact w_Name_is_b19 hQ a0 a1 (1 : Int32) h
def f_Name_next (sc : xSc) (u : xH) (a0 : Option Nat) : Option (Option Nat) := (gR sc u 3 2 a0).bind fun v1 => some v1
theorem w_Name_next {sc : xSc} {d : Nat} {Q : xR → xH → Prop} {u : xH} {rZ : Option Nat} (hQ : Q (.inl (some (vR rZ))) u) (a0 : Option Nat) (h : f_Name_next sc u a0 = some rZ) : xW sc m_Name_next (d + 0) Q (u) 0 (xent [vR a0] m_Name_next.2.2.1) [] := by
  show xW sc m_Name_next (d + 0) Q (u) 0 [some (vR a0)] []
  unfold f_Name_next at h
  refine x_aload_n (pc := 0) d_Name_next_0 rfl ?_
  obtain ⟨v1, e2, h⟩ := Option.bind_eq_some_iff.mp h
  refine c_getR (pc := 1) d_Name_next_1 l_Name_17 e2 ?_
  cases h
  exact x_aret (pc := 4) d_Name_next_4 rfl (Or.inl ⟨_, rfl⟩) hQ
def f_Name_op (sc : xSc) (u : xH) (a0 : Option Nat) : Option (Option Nat) := (gR sc u 3 1 a0).bind fun v1 => some v1
theorem w_Name_op {sc : xSc} {d : Nat} {Q : xR → xH → Prop} {u : xH} {rZ : Option Nat} (hQ : Q (.inl (some (vR rZ))) u) (a0 : Option Nat) (h : f_Name_op sc u a0 = some rZ) : xW sc m_Name_op (d + 0) Q (u) 0 (xent [vR a0] m_Name_op.2.2.1) [] := by
  show xW sc m_Name_op (d + 0) Q (u) 0 [some (vR a0)] []
  unfold f_Name_op at h
  refine x_aload_n (pc := 0) d_Name_op_0 rfl ?_
  obtain ⟨v1, e2, h⟩ := Option.bind_eq_some_iff.mp h
  refine c_getR (pc := 1) d_Name_op_1 l_Name_13 e2 ?_
  cases h
  exact x_aret (pc := 4) d_Name_op_4 rfl (Or.inl ⟨_, rfl⟩) hQ
def f_Name_text (sc : xSc) (u : xH) (a0 : Option Nat) : Option (Option Nat) := (gR sc u 3 0 a0).bind fun v1 => some v1
theorem w_Name_text {sc : xSc} {d : Nat} {Q : xR → xH → Prop} {u : xH} {rZ : Option Nat} (hQ : Q (.inl (some (vR rZ))) u) (a0 : Option Nat) (h : f_Name_text sc u a0 = some rZ) : xW sc m_Name_text (d + 0) Q (u) 0 (xent [vR a0] m_Name_text.2.2.1) [] := by
  show xW sc m_Name_text (d + 0) Q (u) 0 [some (vR a0)] []
  unfold f_Name_text at h
  refine x_aload_n (pc := 0) d_Name_text_0 rfl ?_
  obtain ⟨v1, e2, h⟩ := Option.bind_eq_some_iff.mp h
  refine c_getR (pc := 1) d_Name_text_1 l_Name_7 e2 ?_
  cases h
  exact x_aret (pc := 4) d_Name_text_4 rfl (Or.inl ⟨_, rfl⟩) hQ
def f_Numbers_exact_b52   (t0 : Int64) : Option Int64 := some t0
theorem w_Numbers_exact_b52 {sc : xSc} {d : Nat} {Q : xR → xH → Prop} {hh : xH} {rZ : Int64}  (hQ : Q (.inl (some (vL rZ))) hh) (t0 : Int64) (h : f_Numbers_exact_b52   t0 = some rZ) : xW sc m_Numbers_exact (d + 0) Q (hh) 52 [none, none, none, none, none] [vL t0] := by
  unfold f_Numbers_exact_b52 at h
  cases h
  exact x_lret (pc := 52) d_Numbers_exact_52 rfl hQ
def f_Numbers_exact  (a1 : Option Nat) (a2 : Int64) (a3 : Int64) : Option Int64 := (if xcm a1 = true then (if xcm (some 12) = true then (if a1 = (some 12) then f_Numbers_exact_b52 (a2 + a3) else (if xcm a1 = true then (if xcm (some 13) = true then (if a1 = (some 13) then f_Numbers_exact_b52 (a2 - a3) else (if xcm a1 = true then (if xcm (some 14) = true then (if a1 = (some 14) then f_Numbers_exact_b52 (a2 * a3) else (if xcm a1 = true then (if xcm (some 18) = true then (if a1 = (some 18) then f_Numbers_exact_b52 (-a2) else f_Numbers_exact_b52 a2) else none) else none)) else none) else none)) else none) else none)) else none) else none)
theorem w_Numbers_exact {sc : xSc} {d : Nat} {Q : xR → xH → Prop} {hh : xH} {rZ : Int64} (hQ : Q (.inl (some (vL rZ))) hh) (a1 : Option Nat) (a2 : Int64) (a3 : Int64) (h : f_Numbers_exact  a1 a2 a3 = some rZ) : xW sc m_Numbers_exact (d + 0) Q (hh) 0 (xent [vR a1, vL a2, vL a3] m_Numbers_exact.2.2.1) [] := by
  show xW sc m_Numbers_exact (d + 0) Q (hh) 0 [some (vR a1), some (vL a2), none, some (vL a3), none] []
  unfold f_Numbers_exact at h
  refine x_aload_n (pc := 0) d_Numbers_exact_0 rfl ?_
  refine x_gets (v := vR (some 12)) (pc := 1) d_Numbers_exact_1 sl_Numbers_86 ?_
  obtain ⟨c1, h⟩ := ite_some h
  obtain ⟨c2, h⟩ := ite_some h
  refine x_acmp_ne (tgt := 13) (pc := 4) d_Numbers_exact_4 (by decide) (xcm_s c1) (xcm_s c2) (fun c3 => ?_) (fun c3 => ?_)
  · rw [if_neg c3] at h
    refine x_aload_n (pc := 13) d_Numbers_exact_13 rfl ?_
    refine x_gets (v := vR (some 13)) (pc := 14) d_Numbers_exact_14 sl_Numbers_89 ?_
    obtain ⟨c4, h⟩ := ite_some h
    obtain ⟨c5, h⟩ := ite_some h
    refine x_acmp_ne (tgt := 26) (pc := 17) d_Numbers_exact_17 (by decide) (xcm_s c4) (xcm_s c5) (fun c6 => ?_) (fun c6 => ?_)
    · rw [if_neg c6] at h
      refine x_aload_n (pc := 26) d_Numbers_exact_26 rfl ?_
      refine x_gets (v := vR (some 14)) (pc := 27) d_Numbers_exact_27 sl_Numbers_92 ?_
      obtain ⟨c7, h⟩ := ite_some h
      obtain ⟨c8, h⟩ := ite_some h
      refine x_acmp_ne (tgt := 39) (pc := 30) d_Numbers_exact_30 (by decide) (xcm_s c7) (xcm_s c8) (fun c9 => ?_) (fun c9 => ?_)
      · rw [if_neg c9] at h
        refine x_aload_n (pc := 39) d_Numbers_exact_39 rfl ?_
        refine x_gets (v := vR (some 18)) (pc := 40) d_Numbers_exact_40 sl_Numbers_95 ?_
        obtain ⟨c10, h⟩ := ite_some h
        obtain ⟨c11, h⟩ := ite_some h
        refine x_acmp_ne (tgt := 51) (pc := 43) d_Numbers_exact_43 (by decide) (xcm_s c10) (xcm_s c11) (fun c12 => ?_) (fun c12 => ?_)
        · rw [if_neg c12] at h
          refine x_lload_n (pc := 51) d_Numbers_exact_51 rfl ?_
          exact x_wk (L' := [none, none, none, none, none]) ⟨Or.inl rfl, Or.inl rfl, Or.inl rfl, Or.inl rfl, Or.inl rfl, trivial⟩ (w_Numbers_exact_b52 hQ a2 h)
        · rw [if_pos c12] at h
          refine x_lload_n (pc := 46) d_Numbers_exact_46 rfl ?_
          refine x_lneg (pc := 47) d_Numbers_exact_47 ?_
          refine x_goto (tgt := 52) (pc := 48) d_Numbers_exact_48 (by decide) ?_
          exact x_wk (L' := [none, none, none, none, none]) ⟨Or.inl rfl, Or.inl rfl, Or.inl rfl, Or.inl rfl, Or.inl rfl, trivial⟩ (w_Numbers_exact_b52 hQ (-a2) h)
      · rw [if_pos c9] at h
        refine x_lload_n (pc := 33) d_Numbers_exact_33 rfl ?_
        refine x_lload_n (pc := 34) d_Numbers_exact_34 rfl ?_
        refine x_lmul (pc := 35) d_Numbers_exact_35 ?_
        refine x_goto (tgt := 52) (pc := 36) d_Numbers_exact_36 (by decide) ?_
        exact x_wk (L' := [none, none, none, none, none]) ⟨Or.inl rfl, Or.inl rfl, Or.inl rfl, Or.inl rfl, Or.inl rfl, trivial⟩ (w_Numbers_exact_b52 hQ (a2 * a3) h)
    · rw [if_pos c6] at h
      refine x_lload_n (pc := 20) d_Numbers_exact_20 rfl ?_
      refine x_lload_n (pc := 21) d_Numbers_exact_21 rfl ?_
      refine x_lsub (pc := 22) d_Numbers_exact_22 ?_
      refine x_goto (tgt := 52) (pc := 23) d_Numbers_exact_23 (by decide) ?_
      exact x_wk (L' := [none, none, none, none, none]) ⟨Or.inl rfl, Or.inl rfl, Or.inl rfl, Or.inl rfl, Or.inl rfl, trivial⟩ (w_Numbers_exact_b52 hQ (a2 - a3) h)
  · rw [if_pos c3] at h
    refine x_lload_n (pc := 7) d_Numbers_exact_7 rfl ?_
    refine x_lload_n (pc := 8) d_Numbers_exact_8 rfl ?_
    refine x_ladd (pc := 9) d_Numbers_exact_9 ?_
    refine x_goto (tgt := 52) (pc := 10) d_Numbers_exact_10 (by decide) ?_
    exact x_wk (L' := [none, none, none, none, none]) ⟨Or.inl rfl, Or.inl rfl, Or.inl rfl, Or.inl rfl, Or.inl rfl, trivial⟩ (w_Numbers_exact_b52 hQ (a2 + a3) h)
def f_Numbers_init  (a0 : Option Nat) : Option Unit := (if a0.isSome = true then (f_Group_init a0).bind fun v2 => some () else none)
theorem w_Numbers_init {sc : xSc} {d : Nat} {Q : xR → xH → Prop} {hh : xH} {rZ : Unit} (hQ : Q (.inl none) hh) (a0 : Option Nat) (h : f_Numbers_init  a0 = some rZ) : xW sc m_Numbers_init (d + 2) Q (hh) 0 (xent [vR a0] m_Numbers_init.2.2.1) [] := by
  show xW sc m_Numbers_init (d + 2) Q (hh) 0 [some (vR a0)] []
  unfold f_Numbers_init at h
  refine x_aload_n (pc := 0) d_Numbers_init_0 rfl ?_
  obtain ⟨c1, h⟩ := ite_some h
  obtain ⟨v2, e3, h⟩ := Option.bind_eq_some_iff.mp h
  refine c_invi (d := d + 1) (av := []) (st := []) (Q' := fun r h' => r = .inl none ∧ h' = hh) (pc := 1) d_Numbers_init_1 ci_Numbers_3 y_Group_init (tw_1 (List.mem_of_getElem? (i := 63) rfl)) c1 rfl (Nat.le_of_ble_eq_true rfl) (Nat.le_of_ble_eq_true rfl) (w_Group_init (d := d + 0) (Q := fun r h' => r = .inl none ∧ h' = hh) ⟨rfl, rfl⟩ a0 e3) (fun v h' z => ?_) (fun a h' z => nomatch z.1)
  obtain ⟨z1, z2⟩ := z
  subst h'
  cases z1
  show xW sc m_Numbers_init (d + 2) Q (hh) 4 [some (vR a0)] []
  cases h
  exact x_vret (pc := 4) d_Numbers_init_4 rfl hQ
def f_Slot_isNumber_b25 (sc : xSc) (u : xH)  (t0 : Int32) : Option Int32 := (if xbo t0 = true then some t0 else none)
theorem w_Slot_isNumber_b25 {sc : xSc} {d : Nat} {Q : xR → xH → Prop} {u : xH} {rZ : Int32}  (hQ : Q (.inl (some (vI rZ))) u) (t0 : Int32) (h : f_Slot_isNumber_b25 sc u  t0 = some rZ) : xW sc m_Slot_isNumber (d + 0) Q (u) 25 [none] [vI t0] := by
  unfold f_Slot_isNumber_b25 at h
  obtain ⟨c1, h⟩ := ite_some h
  cases h
  exact x_iret (ty := .boolean) (pc := 25) d_Slot_isNumber_25 rfl (xbo_n c1) hQ
def f_Slot_isNumber_b20 (sc : xSc) (u : xH)   : Option Int32 := f_Slot_isNumber_b25 sc u (1 : Int32)
theorem w_Slot_isNumber_b20 {sc : xSc} {d : Nat} {Q : xR → xH → Prop} {u : xH} {rZ : Int32}  (hQ : Q (.inl (some (vI rZ))) u)  (h : f_Slot_isNumber_b20 sc u   = some rZ) : xW sc m_Slot_isNumber (d + 0) Q (u) 20 [none] [] := by
  unfold f_Slot_isNumber_b20 at h
  refine x_iconst (v := (1 : Int32)) (pc := 20) d_Slot_isNumber_20 (by decide) ?_
  refine x_goto (tgt := 25) (pc := 21) d_Slot_isNumber_21 (by decide) ?_
  exact w_Slot_isNumber_b25 hQ (1 : Int32) h
def f_Slot_isNumber (sc : xSc) (u : xH) (a0 : Option Nat) : Option Int32 := (gR sc u 2 0 a0).bind fun v1 => (if xcm v1 = true then (if xcm (some 72) = true then (if v1 = (some 72) then f_Slot_isNumber_b20 sc u else (gR sc u 2 0 a0).bind fun v6 => (if xcm v6 = true then (if xcm (some 73) = true then (if v6 = (some 73) then f_Slot_isNumber_b20 sc u else f_Slot_isNumber_b25 sc u (0 : Int32)) else none) else none)) else none) else none)
theorem w_Slot_isNumber {sc : xSc} {d : Nat} {Q : xR → xH → Prop} {u : xH} {rZ : Int32} (hQ : Q (.inl (some (vI rZ))) u) (a0 : Option Nat) (h : f_Slot_isNumber sc u a0 = some rZ) : xW sc m_Slot_isNumber (d + 0) Q (u) 0 (xent [vR a0] m_Slot_isNumber.2.2.1) [] := by
  show xW sc m_Slot_isNumber (d + 0) Q (u) 0 [some (vR a0)] []
  unfold f_Slot_isNumber at h
  refine x_aload_n (pc := 0) d_Slot_isNumber_0 rfl ?_
  obtain ⟨v1, e2, h⟩ := Option.bind_eq_some_iff.mp h
  refine c_getR (pc := 1) d_Slot_isNumber_1 l_Slot_13 e2 ?_
  refine x_gets (v := vR (some 72)) (pc := 4) d_Slot_isNumber_4 sl_Slot_7 ?_
  obtain ⟨c3, h⟩ := ite_some h
  obtain ⟨c4, h⟩ := ite_some h
  refine x_acmp_eq (tgt := 20) (pc := 7) d_Slot_isNumber_7 (by decide) (xcm_s c3) (xcm_s c4) (fun c5 => ?_) (fun c5 => ?_)
  · rw [if_pos c5] at h
    exact x_wk (L' := [none]) ⟨Or.inl rfl, trivial⟩ (w_Slot_isNumber_b20 hQ h)
  · rw [if_neg c5] at h
    refine x_aload_n (pc := 10) d_Slot_isNumber_10 rfl ?_
    obtain ⟨v6, e7, h⟩ := Option.bind_eq_some_iff.mp h
    refine c_getR (pc := 11) d_Slot_isNumber_11 l_Slot_13 e7 ?_
    refine x_gets (v := vR (some 73)) (pc := 14) d_Slot_isNumber_14 sl_Slot_29 ?_
    obtain ⟨c8, h⟩ := ite_some h
    obtain ⟨c9, h⟩ := ite_some h
    refine x_acmp_ne (tgt := 24) (pc := 17) d_Slot_isNumber_17 (by decide) (xcm_s c8) (xcm_s c9) (fun c10 => ?_) (fun c10 => ?_)
    · rw [if_neg c10] at h
      refine x_iconst (v := (0 : Int32)) (pc := 24) d_Slot_isNumber_24 (by decide) ?_
      exact x_wk (L' := [none]) ⟨Or.inl rfl, trivial⟩ (w_Slot_isNumber_b25 hQ (0 : Int32) h)
    · rw [if_pos c10] at h
      exact x_wk (L' := [none]) ⟨Or.inl rfl, trivial⟩ (w_Slot_isNumber_b20 hQ h)
def f_Slot_value_b22 (sc : xSc) (u : xH)  (t0 : UInt64) : Option UInt64 := some t0
theorem w_Slot_value_b22 {sc : xSc} {d : Nat} {Q : xR → xH → Prop} {u : xH} {rZ : UInt64}  (hQ : Q (.inl (some (vD rZ))) u) (t0 : UInt64) (h : f_Slot_value_b22 sc u  t0 = some rZ) : xW sc m_Slot_value (d + 0) Q (u) 22 [none] [vD t0] := by
  unfold f_Slot_value_b22 at h
  cases h
  exact x_dret (pc := 22) d_Slot_value_22 rfl hQ
def f_Slot_value (sc : xSc) (u : xH) (a0 : Option Nat) : Option UInt64 := (gR sc u 2 0 a0).bind fun v1 => (if xcm v1 = true then (if xcm (some 72) = true then (if v1 = (some 72) then (gI sc u 2 2 a0).bind fun v8 => f_Slot_value_b22 sc u (FP.i2d v8) else (gD sc u 2 5 a0).bind fun v6 => f_Slot_value_b22 sc u v6) else none) else none)
theorem w_Slot_value {sc : xSc} {d : Nat} {Q : xR → xH → Prop} {u : xH} {rZ : UInt64} (hQ : Q (.inl (some (vD rZ))) u) (a0 : Option Nat) (h : f_Slot_value sc u a0 = some rZ) : xW sc m_Slot_value (d + 0) Q (u) 0 (xent [vR a0] m_Slot_value.2.2.1) [] := by
  show xW sc m_Slot_value (d + 0) Q (u) 0 [some (vR a0)] []
  unfold f_Slot_value at h
  refine x_aload_n (pc := 0) d_Slot_value_0 rfl ?_
  obtain ⟨v1, e2, h⟩ := Option.bind_eq_some_iff.mp h
  refine c_getR (pc := 1) d_Slot_value_1 l_Slot_13 e2 ?_
  refine x_gets (v := vR (some 72)) (pc := 4) d_Slot_value_4 sl_Slot_7 ?_
  obtain ⟨c3, h⟩ := ite_some h
  obtain ⟨c4, h⟩ := ite_some h
  refine x_acmp_ne (tgt := 18) (pc := 7) d_Slot_value_7 (by decide) (xcm_s c3) (xcm_s c4) (fun c5 => ?_) (fun c5 => ?_)
  · rw [if_neg c5] at h
    refine x_aload_n (pc := 18) d_Slot_value_18 rfl ?_
    obtain ⟨v6, e7, h⟩ := Option.bind_eq_some_iff.mp h
    refine c_getD (pc := 19) d_Slot_value_19 l_Slot_36 e7 ?_
    exact x_wk (L' := [none]) ⟨Or.inl rfl, trivial⟩ (w_Slot_value_b22 hQ v6 h)
  · rw [if_pos c5] at h
    refine x_aload_n (pc := 10) d_Slot_value_10 rfl ?_
    obtain ⟨v8, e9, h⟩ := Option.bind_eq_some_iff.mp h
    refine c_getI (pc := 11) d_Slot_value_11 l_Slot_18 e9 ?_
    refine x_i2d (pc := 14) d_Slot_value_14 ?_
    refine x_goto (tgt := 22) (pc := 15) d_Slot_value_15 (by decide) ?_
    exact x_wk (L' := [none]) ⟨Or.inl rfl, trivial⟩ (w_Slot_value_b22 hQ (FP.i2d v8) h)
def f_Slot_makeReal (sc : xSc) (u : xH) (a0 : Option Nat) (a1 : UInt64) : Option xH := (if xis sc u 2 a0 = true then (f_Slot_set sc u a0 (some 73) (0 : Int32) (0 : Int32) (0 : Int32)).bind fun u2 => (pV u2 2 5 a0 (vD a1)).bind fun u4 => some u4 else none)
theorem w_Slot_makeReal {sc : xSc} {d : Nat} {Q : xR → xH → Prop} {hZ : xH} (hQ : Q (.inl none) hZ) (u : xH) (a0 : Option Nat) (a1 : UInt64) (h : f_Slot_makeReal sc u a0 a1 = some hZ) : xW sc m_Slot_makeReal (d + 1) Q (u) 0 (xent [vR a0, vD a1] m_Slot_makeReal.2.2.1) [] := by
  show xW sc m_Slot_makeReal (d + 1) Q (u) 0 [some (vR a0), some (vD a1), none] []
  unfold f_Slot_makeReal at h
  refine x_aload_n (pc := 0) d_Slot_makeReal_0 rfl ?_
  refine x_gets (v := vR (some 73)) (pc := 1) d_Slot_makeReal_1 sl_Slot_29 ?_
  refine x_iconst (v := (0 : Int32)) (pc := 4) d_Slot_makeReal_4 (by decide) ?_
  refine x_iconst (v := (0 : Int32)) (pc := 5) d_Slot_makeReal_5 (by decide) ?_
  refine x_iconst (v := (0 : Int32)) (pc := 6) d_Slot_makeReal_6 (by decide) ?_
  obtain ⟨c1, h⟩ := ite_some h
  obtain ⟨u2, e3, h⟩ := Option.bind_eq_some_iff.mp h
  refine c_invv (c := 2) (d := d + 0) (av := [vR (some 73), vI (0 : Int32), vI (0 : Int32), vI (0 : Int32)]) (st := []) (Q' := fun r h' => r = .inl none ∧ h' = u2) (pc := 7) d_Slot_makeReal_7 cv_Slot_32 y_Slot_set c1 rfl (Nat.le_of_ble_eq_true rfl) (Nat.le_of_ble_eq_true rfl) (w_Slot_set (d := d + 0) (Q := fun r h' => r = .inl none ∧ h' = u2) ⟨rfl, rfl⟩ u a0 (some 73) (0 : Int32) (0 : Int32) (0 : Int32) e3) (fun v h' z => ?_) (fun a h' z => nomatch z.1)
  obtain ⟨z1, z2⟩ := z
  subst h'
  cases z1
  show xW sc m_Slot_makeReal (d + 1) Q (u2) 10 [some (vR a0), some (vD a1), none] []
  refine x_aload_n (pc := 10) d_Slot_makeReal_10 rfl ?_
  refine x_dload_n (pc := 11) d_Slot_makeReal_11 rfl ?_
  obtain ⟨u4, e5, h⟩ := Option.bind_eq_some_iff.mp h
  refine c_putf (pc := 12) d_Slot_makeReal_12 l_Slot_36 fp_2_5 (xfit_double) e5 ?_
  cases h
  exact x_vret (pc := 15) d_Slot_makeReal_15 rfl hQ
def f_P_giveReal_b22 (sc : xSc)  (l0 : Option Nat) (l1 : Int32) (l2 : UInt64) (t0 : Int32) (t1 : Option Nat) (u : xH) : Option ((Unit ⊕ Nat) × xH) := (if xis sc u 0 t1 = true then tB (f_P_need sc u t1 t0 (4 : Int32)) (fun v3 u2 => (if xis sc u2 0 l0 = true then tB (f_P_place sc u2 l0 l1) (fun v9 u8 => (if xis sc u8 2 v9 = true then (f_Slot_makeReal sc u8 v9 l2).bind fun u14 => some (.inl (), u14) else none)) (fun a11 u12 => some (.inr a11, u12)) else none)) (fun a5 u6 => some (.inr a5, u6)) else none)
theorem w_P_giveReal_b22 {sc : xSc} {d : Nat} {Q : xR → xH → Prop} {oZ : Unit ⊕ Nat} {hZ : xH}  (hQ : Q (cvU oZ) hZ) (l0 : Option Nat) (l1 : Int32) (l2 : UInt64) (t0 : Int32) (t1 : Option Nat) (u : xH) (h : f_P_giveReal_b22 sc  l0 l1 l2 t0 t1 u = some (oZ, hZ)) : xW sc m_P_giveReal (d + 8) Q (u) 22 [some (vR l0), some (vI l1), some (vD l2), none] [vI t0, vR t1] := by
  unfold f_P_giveReal_b22 at h
  refine x_iconst (v := (4 : Int32)) (pc := 22) d_P_giveReal_22 (by decide) ?_
  obtain ⟨c1, h⟩ := ite_some h
  rcases tB_s h with ⟨a5, u6, e4, h⟩ | ⟨v3, u2, e4, h⟩
  · refine c_invv (c := 0) (d := d + 7) (av := [vI t0, vI (4 : Int32)]) (st := []) (Q' := fun r h' => r = .inr a5 ∧ h' = u6) (pc := 23) d_P_giveReal_23 cv_P_170 y_P_need c1 rfl (Nat.le_of_ble_eq_true rfl) (Nat.le_of_ble_eq_true rfl) (w_P_need (d := d + 1) (Q := fun r h' => r = .inr a5 ∧ h' = u6) ⟨rfl, rfl⟩ u t1 t0 (4 : Int32) e4) (fun v h' z => nomatch z.1) (fun a h' z => ?_)
    obtain ⟨z1, z2⟩ := z
    subst h'
    cases z1
    cases h
    exact x_thOut (xno rfl) hQ
  refine c_invv (c := 0) (d := d + 7) (av := [vI t0, vI (4 : Int32)]) (st := []) (Q' := fun r h' => r = .inl none ∧ h' = u2) (pc := 23) d_P_giveReal_23 cv_P_170 y_P_need c1 rfl (Nat.le_of_ble_eq_true rfl) (Nat.le_of_ble_eq_true rfl) (w_P_need (d := d + 1) (Q := fun r h' => r = .inl none ∧ h' = u2) ⟨rfl, rfl⟩ u t1 t0 (4 : Int32) e4) (fun v h' z => ?_) (fun a h' z => nomatch z.1)
  obtain ⟨z1, z2⟩ := z
  subst h'
  cases z1
  show xW sc m_P_giveReal (d + 8) Q (u2) 26 [some (vR l0), some (vI l1), some (vD l2), none] []
  refine x_aload_n (pc := 26) d_P_giveReal_26 rfl ?_
  refine x_iload_n (pc := 27) d_P_giveReal_27 rfl ?_
  obtain ⟨c7, h⟩ := ite_some h
  rcases tB_s h with ⟨a11, u12, e10, h⟩ | ⟨v9, u8, e10, h⟩
  · refine c_invv (c := 0) (d := d + 7) (av := [vI l1]) (st := []) (Q' := fun r h' => r = .inr a11 ∧ h' = u12) (pc := 28) d_P_giveReal_28 cv_P_178 y_P_place c7 rfl (Nat.le_of_ble_eq_true rfl) (Nat.le_of_ble_eq_true rfl) (w_P_place (d := d + 0) (Q := fun r h' => r = .inr a11 ∧ h' = u12) ⟨rfl, rfl⟩ u2 l0 l1 e10) (fun v h' z => nomatch z.1) (fun a h' z => ?_)
    obtain ⟨z1, z2⟩ := z
    subst h'
    cases z1
    cases h
    exact x_thOut (xno rfl) hQ
  refine c_invv (c := 0) (d := d + 7) (av := [vI l1]) (st := []) (Q' := fun r h' => r = .inl (some (vR v9)) ∧ h' = u8) (pc := 28) d_P_giveReal_28 cv_P_178 y_P_place c7 rfl (Nat.le_of_ble_eq_true rfl) (Nat.le_of_ble_eq_true rfl) (w_P_place (d := d + 0) (Q := fun r h' => r = .inl (some (vR v9)) ∧ h' = u8) ⟨rfl, rfl⟩ u2 l0 l1 e10) (fun v h' z => ?_) (fun a h' z => nomatch z.1)
  obtain ⟨z1, z2⟩ := z
  subst h'
  cases z1
  show xW sc m_P_giveReal (d + 8) Q (u8) 31 [some (vR l0), some (vI l1), some (vD l2), none] [vR v9]
  refine x_dload_n (pc := 31) d_P_giveReal_31 rfl ?_
  obtain ⟨c13, h⟩ := ite_some h
  obtain ⟨u14, e15, h⟩ := Option.bind_eq_some_iff.mp h
  refine c_invv (c := 2) (d := d + 7) (av := [vD l2]) (st := []) (Q' := fun r h' => r = .inl none ∧ h' = u14) (pc := 32) d_P_giveReal_32 cv_P_217 y_Slot_makeReal c13 rfl (Nat.le_of_ble_eq_true rfl) (Nat.le_of_ble_eq_true rfl) (w_Slot_makeReal (d := d + 6) (Q := fun r h' => r = .inl none ∧ h' = u14) ⟨rfl, rfl⟩ u8 v9 l2 e15) (fun v h' z => ?_) (fun a h' z => nomatch z.1)
  obtain ⟨z1, z2⟩ := z
  subst h'
  cases z1
  show xW sc m_P_giveReal (d + 8) Q (u14) 35 [some (vR l0), some (vI l1), some (vD l2), none] []
  cases h
  exact x_vret (pc := 35) d_P_giveReal_35 rfl hQ
def f_P_giveReal_b21 (sc : xSc)  (l0 : Option Nat) (l1 : Int32) (l2 : UInt64) (t0 : Option Nat) (u : xH) : Option ((Unit ⊕ Nat) × xH) := f_P_giveReal_b22 sc l0 l1 l2 (0 : Int32) t0 u
theorem w_P_giveReal_b21 {sc : xSc} {d : Nat} {Q : xR → xH → Prop} {oZ : Unit ⊕ Nat} {hZ : xH}  (hQ : Q (cvU oZ) hZ) (l0 : Option Nat) (l1 : Int32) (l2 : UInt64) (t0 : Option Nat) (u : xH) (h : f_P_giveReal_b21 sc  l0 l1 l2 t0 u = some (oZ, hZ)) : xW sc m_P_giveReal (d + 8) Q (u) 21 [some (vR l0), some (vI l1), some (vD l2), none] [vR t0] := by
  unfold f_P_giveReal_b21 at h
  refine x_iconst (v := (0 : Int32)) (pc := 21) d_P_giveReal_21 (by decide) ?_
  exact w_P_giveReal_b22 hQ l0 l1 l2 (0 : Int32) t0 u h
def f_P_giveReal (sc : xSc) (u : xH) (a0 : Option Nat) (a1 : Int32) (a2 : UInt64) : Option ((Unit ⊕ Nat) × xH) := (if 0 < (Op.cmpValue (FP.dcmp a2 (4786511204640096256 : UInt64)) .g) then f_P_giveReal_b21 sc a0 a1 a2 a0 u else (if (Op.cmpValue (FP.dcmp a2 (14009883241494872064 : UInt64)) .l) < 0 then f_P_giveReal_b21 sc a0 a1 a2 a0 u else f_P_giveReal_b22 sc a0 a1 a2 (1 : Int32) a0 u))
theorem w_P_giveReal {sc : xSc} {d : Nat} {Q : xR → xH → Prop} {oZ : Unit ⊕ Nat} {hZ : xH} (hQ : Q (cvU oZ) hZ) (u : xH) (a0 : Option Nat) (a1 : Int32) (a2 : UInt64) (h : f_P_giveReal sc u a0 a1 a2 = some (oZ, hZ)) : xW sc m_P_giveReal (d + 8) Q (u) 0 (xent [vR a0, vI a1, vD a2] m_P_giveReal.2.2.1) [] := by
  show xW sc m_P_giveReal (d + 8) Q (u) 0 [some (vR a0), some (vI a1), some (vD a2), none] []
  unfold f_P_giveReal at h
  refine x_aload_n (pc := 0) d_P_giveReal_0 rfl ?_
  refine x_dload_n (pc := 1) d_P_giveReal_1 rfl ?_
  refine x_ldc2d (v := (4786511204640096256 : UInt64)) (pc := 2) d_P_giveReal_2 c_P_213 ?_
  refine x_dcmp (pc := 5) d_P_giveReal_5 ?_
  refine x_if_gt (tgt := 21) (pc := 6) d_P_giveReal_6 (by decide) (fun c1 => ?_) (fun c1 => ?_)
  · rw [if_pos c1] at h
    exact w_P_giveReal_b21 hQ a0 a1 a2 a0 u h
  · rw [if_neg c1] at h
    refine x_dload_n (pc := 9) d_P_giveReal_9 rfl ?_
    refine x_ldc2d (v := (14009883241494872064 : UInt64)) (pc := 10) d_P_giveReal_10 c_P_215 ?_
    refine x_dcmp (pc := 13) d_P_giveReal_13 ?_
    refine x_if_lt (tgt := 21) (pc := 14) d_P_giveReal_14 (by decide) (fun c2 => ?_) (fun c2 => ?_)
    · rw [if_pos c2] at h
      exact w_P_giveReal_b21 hQ a0 a1 a2 a0 u h
    · rw [if_neg c2] at h
      refine x_iconst (v := (1 : Int32)) (pc := 17) d_P_giveReal_17 (by decide) ?_
      refine x_goto (tgt := 22) (pc := 18) d_P_giveReal_18 (by decide) ?_
      exact w_P_giveReal_b22 hQ a0 a1 a2 (1 : Int32) a0 u h
def f_P_whole_b28 (sc : xSc)  (u : xH) : Option ((Unit ⊕ Nat) × xH) := some (.inl (), u)
theorem w_P_whole_b28 {sc : xSc} {d : Nat} {Q : xR → xH → Prop} {oZ : Unit ⊕ Nat} {hZ : xH}  (hQ : Q (cvU oZ) hZ) (u : xH) (h : f_P_whole_b28 sc  u = some (oZ, hZ)) : xW sc m_P_whole (d + 9) Q (u) 28 [none, none, none, none] [] := by
  unfold f_P_whole_b28 at h
  cases h
  exact x_vret (pc := 28) d_P_whole_28 rfl hQ
def f_P_whole (sc : xSc) (u : xH) (a0 : Option Nat) (a1 : Int32) (a2 : Int64) : Option ((Unit ⊕ Nat) × xH) := (if (lg_cmp a2.toInt32.toInt64 a2) = 0 then (if xis sc u 0 a0 = true then tB (f_P_give sc u a0 a1 (some 72) a2.toInt32) (fun v10 u9 => f_P_whole_b28 sc u9) (fun a12 u13 => some (.inr a12, u13)) else none) else (if xis sc u 0 a0 = true then tB (f_P_giveReal sc u a0 a1 (FP.l2d a2)) (fun v4 u3 => f_P_whole_b28 sc u3) (fun a6 u7 => some (.inr a6, u7)) else none))
theorem w_P_whole {sc : xSc} {d : Nat} {Q : xR → xH → Prop} {oZ : Unit ⊕ Nat} {hZ : xH} (hQ : Q (cvU oZ) hZ) (u : xH) (a0 : Option Nat) (a1 : Int32) (a2 : Int64) (h : f_P_whole sc u a0 a1 a2 = some (oZ, hZ)) : xW sc m_P_whole (d + 9) Q (u) 0 (xent [vR a0, vI a1, vL a2] m_P_whole.2.2.1) [] := by
  show xW sc m_P_whole (d + 9) Q (u) 0 [some (vR a0), some (vI a1), some (vL a2), none] []
  unfold f_P_whole at h
  refine x_lload_n (pc := 0) d_P_whole_0 rfl ?_
  refine x_l2i (pc := 1) d_P_whole_1 ?_
  refine x_i2l (pc := 2) d_P_whole_2 ?_
  refine x_lload_n (pc := 3) d_P_whole_3 rfl ?_
  refine x_lcmp (pc := 4) d_P_whole_4 ?_
  refine x_if_ne (tgt := 21) (pc := 5) d_P_whole_5 (by decide) (fun c1 => ?_) (fun c1 => ?_)
  · rw [if_neg c1] at h
    refine x_aload_n (pc := 21) d_P_whole_21 rfl ?_
    refine x_iload_n (pc := 22) d_P_whole_22 rfl ?_
    refine x_lload_n (pc := 23) d_P_whole_23 rfl ?_
    refine x_l2d (pc := 24) d_P_whole_24 ?_
    obtain ⟨c2, h⟩ := ite_some h
    rcases tB_s h with ⟨a6, u7, e5, h⟩ | ⟨v4, u3, e5, h⟩
    · refine c_invv (c := 0) (d := d + 8) (av := [vI a1, vD (FP.l2d a2)]) (st := []) (Q' := fun r h' => r = .inr a6 ∧ h' = u7) (pc := 25) d_P_whole_25 cv_P_224 y_P_giveReal c2 rfl (Nat.le_of_ble_eq_true rfl) (Nat.le_of_ble_eq_true rfl) (w_P_giveReal (d := d + 0) (Q := fun r h' => r = .inr a6 ∧ h' = u7) ⟨rfl, rfl⟩ u a0 a1 (FP.l2d a2) e5) (fun v h' z => nomatch z.1) (fun a h' z => ?_)
      obtain ⟨z1, z2⟩ := z
      subst h'
      cases z1
      cases h
      exact x_thOut (xno rfl) hQ
    refine c_invv (c := 0) (d := d + 8) (av := [vI a1, vD (FP.l2d a2)]) (st := []) (Q' := fun r h' => r = .inl none ∧ h' = u3) (pc := 25) d_P_whole_25 cv_P_224 y_P_giveReal c2 rfl (Nat.le_of_ble_eq_true rfl) (Nat.le_of_ble_eq_true rfl) (w_P_giveReal (d := d + 0) (Q := fun r h' => r = .inl none ∧ h' = u3) ⟨rfl, rfl⟩ u a0 a1 (FP.l2d a2) e5) (fun v h' z => ?_) (fun a h' z => nomatch z.1)
    obtain ⟨z1, z2⟩ := z
    subst h'
    cases z1
    show xW sc m_P_whole (d + 9) Q (u3) 28 [some (vR a0), some (vI a1), some (vL a2), none] []
    exact x_wk (L' := [none, none, none, none]) ⟨Or.inl rfl, Or.inl rfl, Or.inl rfl, Or.inl rfl, trivial⟩ (w_P_whole_b28 hQ u3 h)
  · rw [if_pos c1] at h
    refine x_aload_n (pc := 8) d_P_whole_8 rfl ?_
    refine x_iload_n (pc := 9) d_P_whole_9 rfl ?_
    refine x_gets (v := vR (some 72)) (pc := 10) d_P_whole_10 sl_P_221 ?_
    refine x_lload_n (pc := 13) d_P_whole_13 rfl ?_
    refine x_l2i (pc := 14) d_P_whole_14 ?_
    obtain ⟨c8, h⟩ := ite_some h
    rcases tB_s h with ⟨a12, u13, e11, h⟩ | ⟨v10, u9, e11, h⟩
    · refine c_invv (c := 0) (d := d + 8) (av := [vI a1, vR (some 72), vI a2.toInt32]) (st := []) (Q' := fun r h' => r = .inr a12 ∧ h' = u13) (pc := 15) d_P_whole_15 cv_P_199 y_P_give c8 rfl (Nat.le_of_ble_eq_true rfl) (Nat.le_of_ble_eq_true rfl) (w_P_give (d := d + 0) (Q := fun r h' => r = .inr a12 ∧ h' = u13) ⟨rfl, rfl⟩ u a0 a1 (some 72) a2.toInt32 e11) (fun v h' z => nomatch z.1) (fun a h' z => ?_)
      obtain ⟨z1, z2⟩ := z
      subst h'
      cases z1
      cases h
      exact x_thOut (xno rfl) hQ
    refine c_invv (c := 0) (d := d + 8) (av := [vI a1, vR (some 72), vI a2.toInt32]) (st := []) (Q' := fun r h' => r = .inl none ∧ h' = u9) (pc := 15) d_P_whole_15 cv_P_199 y_P_give c8 rfl (Nat.le_of_ble_eq_true rfl) (Nat.le_of_ble_eq_true rfl) (w_P_give (d := d + 0) (Q := fun r h' => r = .inl none ∧ h' = u9) ⟨rfl, rfl⟩ u a0 a1 (some 72) a2.toInt32 e11) (fun v h' z => ?_) (fun a h' z => nomatch z.1)
    obtain ⟨z1, z2⟩ := z
    subst h'
    cases z1
    show xW sc m_P_whole (d + 9) Q (u9) 18 [some (vR a0), some (vI a1), some (vL a2), none] []
    refine x_goto (tgt := 28) (pc := 18) d_P_whole_18 (by decide) ?_
    exact x_wk (L' := [none, none, none, none]) ⟨Or.inl rfl, Or.inl rfl, Or.inl rfl, Or.inl rfl, trivial⟩ (w_P_whole_b28 hQ u9 h)
def f_Numbers_worked_b93   (t0 : UInt64) : Option UInt64 := some t0
theorem w_Numbers_worked_b93 {sc : xSc} {d : Nat} {Q : xR → xH → Prop} {hh : xH} {rZ : UInt64}  (hQ : Q (.inl (some (vD rZ))) hh) (t0 : UInt64) (h : f_Numbers_worked_b93   t0 = some rZ) : xW sc m_Numbers_worked (d + 0) Q (hh) 93 [none, none, none, none, none, none, none, none, none] [vD t0] := by
  unfold f_Numbers_worked_b93 at h
  cases h
  exact x_dret (pc := 93) d_Numbers_worked_93 rfl hQ
def f_Numbers_worked_b16   (l0 : Option Nat) (l1 : UInt64) (l3 : UInt64) (t0 : UInt64) : Option UInt64 := (if xcm l0 = true then (if xcm (some 12) = true then (if l0 = (some 12) then (if xn64 (FP.dadd l1 l3) = true then f_Numbers_worked_b93 (FP.dadd l1 l3) else none) else (if xcm l0 = true then (if xcm (some 13) = true then (if l0 = (some 13) then (if xn64 (FP.dsub l1 l3) = true then f_Numbers_worked_b93 (FP.dsub l1 l3) else none) else (if xcm l0 = true then (if xcm (some 14) = true then (if l0 = (some 14) then (if xn64 (FP.dmul l1 l3) = true then f_Numbers_worked_b93 (FP.dmul l1 l3) else none) else (if xcm l0 = true then (if xcm (some 18) = true then (if l0 = (some 18) then (if xn64 (FP.dsub FP.dconst0 l1) = true then f_Numbers_worked_b93 (FP.dsub FP.dconst0 l1) else none) else (if (Op.cmpValue (FP.dcmp (FP.l2d (FP.d2l t0)) t0) .l) ≤ 0 then f_Numbers_worked_b93 (FP.l2d (FP.d2l t0)) else (if xn64 (FP.dsub (FP.l2d (FP.d2l t0)) FP.dconst1) = true then f_Numbers_worked_b93 (FP.dsub (FP.l2d (FP.d2l t0)) FP.dconst1) else none))) else none) else none)) else none) else none)) else none) else none)) else none) else none)
theorem w_Numbers_worked_b16 {sc : xSc} {d : Nat} {Q : xR → xH → Prop} {hh : xH} {rZ : UInt64}  (hQ : Q (.inl (some (vD rZ))) hh) (l0 : Option Nat) (l1 : UInt64) (l3 : UInt64) (t0 : UInt64) (h : f_Numbers_worked_b16   l0 l1 l3 t0 = some rZ) : xW sc m_Numbers_worked (d + 0) Q (hh) 16 [some (vR l0), some (vD l1), none, some (vD l3), none, none, none, none, none] [vD t0] := by
  unfold f_Numbers_worked_b16 at h
  refine x_dstore (pc := 16) d_Numbers_worked_16 (by decide) ?_
  show xW sc m_Numbers_worked (d + 0) Q (hh) 18 [some (vR l0), some (vD l1), none, some (vD l3), none, some (vD t0), none, none, none] []
  refine x_dload (pc := 18) d_Numbers_worked_18 rfl ?_
  refine x_d2l (pc := 20) d_Numbers_worked_20 ?_
  refine x_l2d (pc := 21) d_Numbers_worked_21 ?_
  refine x_dstore (pc := 22) d_Numbers_worked_22 (by decide) ?_
  show xW sc m_Numbers_worked (d + 0) Q (hh) 24 [some (vR l0), some (vD l1), none, some (vD l3), none, some (vD t0), none, some (vD (FP.l2d (FP.d2l t0))), none] []
  refine x_aload_n (pc := 24) d_Numbers_worked_24 rfl ?_
  refine x_gets (v := vR (some 12)) (pc := 25) d_Numbers_worked_25 sl_Numbers_86 ?_
  obtain ⟨c1, h⟩ := ite_some h
  obtain ⟨c2, h⟩ := ite_some h
  refine x_acmp_ne (tgt := 37) (pc := 28) d_Numbers_worked_28 (by decide) (xcm_s c1) (xcm_s c2) (fun c3 => ?_) (fun c3 => ?_)
  · rw [if_neg c3] at h
    refine x_aload_n (pc := 37) d_Numbers_worked_37 rfl ?_
    refine x_gets (v := vR (some 13)) (pc := 38) d_Numbers_worked_38 sl_Numbers_89 ?_
    obtain ⟨c4, h⟩ := ite_some h
    obtain ⟨c5, h⟩ := ite_some h
    refine x_acmp_ne (tgt := 50) (pc := 41) d_Numbers_worked_41 (by decide) (xcm_s c4) (xcm_s c5) (fun c6 => ?_) (fun c6 => ?_)
    · rw [if_neg c6] at h
      refine x_aload_n (pc := 50) d_Numbers_worked_50 rfl ?_
      refine x_gets (v := vR (some 14)) (pc := 51) d_Numbers_worked_51 sl_Numbers_92 ?_
      obtain ⟨c7, h⟩ := ite_some h
      obtain ⟨c8, h⟩ := ite_some h
      refine x_acmp_ne (tgt := 63) (pc := 54) d_Numbers_worked_54 (by decide) (xcm_s c7) (xcm_s c8) (fun c9 => ?_) (fun c9 => ?_)
      · rw [if_neg c9] at h
        refine x_aload_n (pc := 63) d_Numbers_worked_63 rfl ?_
        refine x_gets (v := vR (some 18)) (pc := 64) d_Numbers_worked_64 sl_Numbers_95 ?_
        obtain ⟨c10, h⟩ := ite_some h
        obtain ⟨c11, h⟩ := ite_some h
        refine x_acmp_ne (tgt := 76) (pc := 67) d_Numbers_worked_67 (by decide) (xcm_s c10) (xcm_s c11) (fun c12 => ?_) (fun c12 => ?_)
        · rw [if_neg c12] at h
          refine x_dload (pc := 76) d_Numbers_worked_76 rfl ?_
          refine x_dload (pc := 78) d_Numbers_worked_78 rfl ?_
          refine x_dcmp (pc := 80) d_Numbers_worked_80 ?_
          refine x_if_le (tgt := 91) (pc := 81) d_Numbers_worked_81 (by decide) (fun c13 => ?_) (fun c13 => ?_)
          · rw [if_pos c13] at h
            refine x_dload (pc := 91) d_Numbers_worked_91 rfl ?_
            exact x_wk (L' := [none, none, none, none, none, none, none, none, none]) ⟨Or.inl rfl, Or.inl rfl, Or.inl rfl, Or.inl rfl, Or.inl rfl, Or.inl rfl, Or.inl rfl, Or.inl rfl, Or.inl rfl, trivial⟩ (w_Numbers_worked_b93 hQ (FP.l2d (FP.d2l t0)) h)
          · rw [if_neg c13] at h
            refine x_dload (pc := 84) d_Numbers_worked_84 rfl ?_
            refine x_dconst1 (pc := 86) d_Numbers_worked_86 ?_
            obtain ⟨c14, h⟩ := ite_some h
            refine x_dsub (pc := 87) d_Numbers_worked_87 (xn64_v c14) ?_
            refine x_goto (tgt := 93) (pc := 88) d_Numbers_worked_88 (by decide) ?_
            exact x_wk (L' := [none, none, none, none, none, none, none, none, none]) ⟨Or.inl rfl, Or.inl rfl, Or.inl rfl, Or.inl rfl, Or.inl rfl, Or.inl rfl, Or.inl rfl, Or.inl rfl, Or.inl rfl, trivial⟩ (w_Numbers_worked_b93 hQ (FP.dsub (FP.l2d (FP.d2l t0)) FP.dconst1) h)
        · rw [if_pos c12] at h
          refine x_dconst0 (pc := 70) d_Numbers_worked_70 ?_
          refine x_dload_n (pc := 71) d_Numbers_worked_71 rfl ?_
          obtain ⟨c15, h⟩ := ite_some h
          refine x_dsub (pc := 72) d_Numbers_worked_72 (xn64_v c15) ?_
          refine x_goto (tgt := 93) (pc := 73) d_Numbers_worked_73 (by decide) ?_
          exact x_wk (L' := [none, none, none, none, none, none, none, none, none]) ⟨Or.inl rfl, Or.inl rfl, Or.inl rfl, Or.inl rfl, Or.inl rfl, Or.inl rfl, Or.inl rfl, Or.inl rfl, Or.inl rfl, trivial⟩ (w_Numbers_worked_b93 hQ (FP.dsub FP.dconst0 l1) h)
      · rw [if_pos c9] at h
        refine x_dload_n (pc := 57) d_Numbers_worked_57 rfl ?_
        refine x_dload_n (pc := 58) d_Numbers_worked_58 rfl ?_
        obtain ⟨c16, h⟩ := ite_some h
        refine x_dmul (pc := 59) d_Numbers_worked_59 (xn64_v c16) ?_
        refine x_goto (tgt := 93) (pc := 60) d_Numbers_worked_60 (by decide) ?_
        exact x_wk (L' := [none, none, none, none, none, none, none, none, none]) ⟨Or.inl rfl, Or.inl rfl, Or.inl rfl, Or.inl rfl, Or.inl rfl, Or.inl rfl, Or.inl rfl, Or.inl rfl, Or.inl rfl, trivial⟩ (w_Numbers_worked_b93 hQ (FP.dmul l1 l3) h)
    · rw [if_pos c6] at h
      refine x_dload_n (pc := 44) d_Numbers_worked_44 rfl ?_
      refine x_dload_n (pc := 45) d_Numbers_worked_45 rfl ?_
      obtain ⟨c17, h⟩ := ite_some h
      refine x_dsub (pc := 46) d_Numbers_worked_46 (xn64_v c17) ?_
      refine x_goto (tgt := 93) (pc := 47) d_Numbers_worked_47 (by decide) ?_
      exact x_wk (L' := [none, none, none, none, none, none, none, none, none]) ⟨Or.inl rfl, Or.inl rfl, Or.inl rfl, Or.inl rfl, Or.inl rfl, Or.inl rfl, Or.inl rfl, Or.inl rfl, Or.inl rfl, trivial⟩ (w_Numbers_worked_b93 hQ (FP.dsub l1 l3) h)
  · rw [if_pos c3] at h
    refine x_dload_n (pc := 31) d_Numbers_worked_31 rfl ?_
    refine x_dload_n (pc := 32) d_Numbers_worked_32 rfl ?_
    obtain ⟨c18, h⟩ := ite_some h
    refine x_dadd (pc := 33) d_Numbers_worked_33 (xn64_v c18) ?_
    refine x_goto (tgt := 93) (pc := 34) d_Numbers_worked_34 (by decide) ?_
    exact x_wk (L' := [none, none, none, none, none, none, none, none, none]) ⟨Or.inl rfl, Or.inl rfl, Or.inl rfl, Or.inl rfl, Or.inl rfl, Or.inl rfl, Or.inl rfl, Or.inl rfl, Or.inl rfl, trivial⟩ (w_Numbers_worked_b93 hQ (FP.dadd l1 l3) h)
def f_Numbers_worked  (a1 : Option Nat) (a2 : UInt64) (a3 : UInt64) : Option UInt64 := (if xcm a1 = true then (if xcm (some 20) = true then (if a1 = (some 20) then (if xn64 (FP.dadd a2 (4602678819172646912 : UInt64)) = true then f_Numbers_worked_b16 a1 a2 a3 (FP.dadd a2 (4602678819172646912 : UInt64)) else none) else f_Numbers_worked_b16 a1 a2 a3 a2) else none) else none)
theorem w_Numbers_worked {sc : xSc} {d : Nat} {Q : xR → xH → Prop} {hh : xH} {rZ : UInt64} (hQ : Q (.inl (some (vD rZ))) hh) (a1 : Option Nat) (a2 : UInt64) (a3 : UInt64) (h : f_Numbers_worked  a1 a2 a3 = some rZ) : xW sc m_Numbers_worked (d + 0) Q (hh) 0 (xent [vR a1, vD a2, vD a3] m_Numbers_worked.2.2.1) [] := by
  show xW sc m_Numbers_worked (d + 0) Q (hh) 0 [some (vR a1), some (vD a2), none, some (vD a3), none, none, none, none, none] []
  unfold f_Numbers_worked at h
  refine x_aload_n (pc := 0) d_Numbers_worked_0 rfl ?_
  refine x_gets (v := vR (some 20)) (pc := 1) d_Numbers_worked_1 sl_Numbers_98 ?_
  obtain ⟨c1, h⟩ := ite_some h
  obtain ⟨c2, h⟩ := ite_some h
  refine x_acmp_ne (tgt := 15) (pc := 4) d_Numbers_worked_4 (by decide) (xcm_s c1) (xcm_s c2) (fun c3 => ?_) (fun c3 => ?_)
  · rw [if_neg c3] at h
    refine x_dload_n (pc := 15) d_Numbers_worked_15 rfl ?_
    exact w_Numbers_worked_b16 hQ a1 a2 a3 a2 h
  · rw [if_pos c3] at h
    refine x_dload_n (pc := 7) d_Numbers_worked_7 rfl ?_
    refine x_ldc2d (v := (4602678819172646912 : UInt64)) (pc := 8) d_Numbers_worked_8 c_Numbers_101 ?_
    obtain ⟨c4, h⟩ := ite_some h
    refine x_dadd (pc := 11) d_Numbers_worked_11 (xn64_v c4) ?_
    refine x_goto (tgt := 16) (pc := 12) d_Numbers_worked_12 (by decide) ?_
    exact w_Numbers_worked_b16 hQ a1 a2 a3 (FP.dadd a2 (4602678819172646912 : UInt64)) h
def f_Numbers_perform_b337 (sc : xSc)  (u : xH) : Option ((Unit ⊕ Nat) × xH) := some (.inl (), u)
theorem w_Numbers_perform_b337 {sc : xSc} {d : Nat} {Q : xR → xH → Prop} {oZ : Unit ⊕ Nat} {hZ : xH}  (hQ : Q (cvU oZ) hZ) (u : xH) (h : f_Numbers_perform_b337 sc  u = some (oZ, hZ)) : xW sc m_Numbers_perform (d + 10) Q (u) 337 [none, none, none, none, none, none, none, none] [] := by
  unfold f_Numbers_perform_b337 at h
  cases h
  exact x_vret (pc := 337) d_Numbers_perform_337 rfl hQ
def f_Numbers_perform_b285 (sc : xSc)  (l1 : Option Nat) (l2 : Option Nat) (l3 : Option Nat) (l4 : Option Nat) (l6 : Int32) (u : xH) : Option ((Unit ⊕ Nat) × xH) := (if l6 = 0 then (gI sc u 19 2 l2).bind fun v2 => (if xis sc u 2 l3 = true then (f_Slot_value sc u l3).bind fun v5 => (if xis sc u 2 l4 = true then (f_Slot_value sc u l4).bind fun v8 => (f_Numbers_worked l2 v5 v8).bind fun v10 => (if xis sc u 0 l1 = true then tB (f_P_giveReal sc u l1 v2 v10) (fun v14 u13 => f_Numbers_perform_b337 sc u13) (fun a16 u17 => some (.inr a16, u17)) else none) else none) else none) else (gI sc u 19 2 l2).bind fun v18 => (gI sc u 2 2 l3).bind fun v20 => (gI sc u 2 2 l4).bind fun v22 => (f_Numbers_exact l2 v20.toInt64 v22.toInt64).bind fun v24 => (if xis sc u 0 l1 = true then tB (f_P_whole sc u l1 v18 v24) (fun v28 u27 => f_Numbers_perform_b337 sc u27) (fun a30 u31 => some (.inr a30, u31)) else none))
theorem w_Numbers_perform_b285 {sc : xSc} {d : Nat} {Q : xR → xH → Prop} {oZ : Unit ⊕ Nat} {hZ : xH}  (hQ : Q (cvU oZ) hZ) (l1 : Option Nat) (l2 : Option Nat) (l3 : Option Nat) (l4 : Option Nat) (l6 : Int32) (u : xH) (h : f_Numbers_perform_b285 sc  l1 l2 l3 l4 l6 u = some (oZ, hZ)) : xW sc m_Numbers_perform (d + 10) Q (u) 285 [none, some (vR l1), some (vR l2), some (vR l3), some (vR l4), none, some (vI l6), none] [] := by
  unfold f_Numbers_perform_b285 at h
  refine x_iload (pc := 285) d_Numbers_perform_285 rfl ?_
  refine x_if_eq (tgt := 316) (pc := 287) d_Numbers_perform_287 (by decide) (fun c1 => ?_) (fun c1 => ?_)
  · rw [if_pos c1] at h
    refine x_aload_n (pc := 316) d_Numbers_perform_316 rfl ?_
    refine x_aload_n (pc := 317) d_Numbers_perform_317 rfl ?_
    obtain ⟨v2, e3, h⟩ := Option.bind_eq_some_iff.mp h
    refine c_getI (pc := 318) d_Numbers_perform_318 l_Numbers_73 e3 ?_
    refine x_aload_n (pc := 321) d_Numbers_perform_321 rfl ?_
    refine x_aload_n (pc := 322) d_Numbers_perform_322 rfl ?_
    obtain ⟨c4, h⟩ := ite_some h
    obtain ⟨v5, e6, h⟩ := Option.bind_eq_some_iff.mp h
    refine c_invv (c := 2) (d := d + 9) (av := []) (st := [vR l2, vI v2, vR l1]) (Q' := fun r h' => r = .inl (some (vD v5)) ∧ h' = u) (pc := 323) d_Numbers_perform_323 cv_Numbers_41 y_Slot_value c4 rfl (Nat.le_of_ble_eq_true rfl) (Nat.le_of_ble_eq_true rfl) (w_Slot_value (d := d + 9) (Q := fun r h' => r = .inl (some (vD v5)) ∧ h' = u) ⟨rfl, rfl⟩ l3 e6) (fun v h' z => ?_) (fun a h' z => nomatch z.1)
    obtain ⟨z1, z2⟩ := z
    subst h'
    cases z1
    show xW sc m_Numbers_perform (d + 10) Q (u) 326 [none, some (vR l1), some (vR l2), some (vR l3), some (vR l4), none, some (vI l6), none] [vD v5, vR l2, vI v2, vR l1]
    refine x_aload (pc := 326) d_Numbers_perform_326 rfl ?_
    obtain ⟨c7, h⟩ := ite_some h
    obtain ⟨v8, e9, h⟩ := Option.bind_eq_some_iff.mp h
    refine c_invv (c := 2) (d := d + 9) (av := []) (st := [vD v5, vR l2, vI v2, vR l1]) (Q' := fun r h' => r = .inl (some (vD v8)) ∧ h' = u) (pc := 328) d_Numbers_perform_328 cv_Numbers_41 y_Slot_value c7 rfl (Nat.le_of_ble_eq_true rfl) (Nat.le_of_ble_eq_true rfl) (w_Slot_value (d := d + 9) (Q := fun r h' => r = .inl (some (vD v8)) ∧ h' = u) ⟨rfl, rfl⟩ l4 e9) (fun v h' z => ?_) (fun a h' z => nomatch z.1)
    obtain ⟨z1, z2⟩ := z
    subst h'
    cases z1
    show xW sc m_Numbers_perform (d + 10) Q (u) 331 [none, some (vR l1), some (vR l2), some (vR l3), some (vR l4), none, some (vI l6), none] [vD v8, vD v5, vR l2, vI v2, vR l1]
    obtain ⟨v10, e11, h⟩ := Option.bind_eq_some_iff.mp h
    refine x_invs (d := d + 9) (av := [vR l2, vD v5, vD v8]) (st := [vI v2, vR l1]) (Q' := fun r h' => r = .inl (some (vD v10)) ∧ h' = u) (pc := 331) d_Numbers_perform_331 cs_Numbers_82 y_Numbers_worked rfl (Nat.le_of_ble_eq_true rfl) (Nat.le_of_ble_eq_true rfl) (w_Numbers_worked (d := d + 9) (Q := fun r h' => r = .inl (some (vD v10)) ∧ h' = u) (hh := u) ⟨rfl, rfl⟩ l2 v5 v8 e11) (fun v h' z => ?_) (fun a h' z => nomatch z.1)
    obtain ⟨z1, z2⟩ := z
    subst h'
    cases z1
    show xW sc m_Numbers_perform (d + 10) Q (u) 334 [none, some (vR l1), some (vR l2), some (vR l3), some (vR l4), none, some (vI l6), none] [vD v10, vI v2, vR l1]
    obtain ⟨c12, h⟩ := ite_some h
    rcases tB_s h with ⟨a16, u17, e15, h⟩ | ⟨v14, u13, e15, h⟩
    · refine c_invv (c := 0) (d := d + 9) (av := [vI v2, vD v10]) (st := []) (Q' := fun r h' => r = .inr a16 ∧ h' = u17) (pc := 334) d_Numbers_perform_334 cv_Numbers_61 y_P_giveReal c12 rfl (Nat.le_of_ble_eq_true rfl) (Nat.le_of_ble_eq_true rfl) (w_P_giveReal (d := d + 1) (Q := fun r h' => r = .inr a16 ∧ h' = u17) ⟨rfl, rfl⟩ u l1 v2 v10 e15) (fun v h' z => nomatch z.1) (fun a h' z => ?_)
      obtain ⟨z1, z2⟩ := z
      subst h'
      cases z1
      cases h
      exact x_thOut (xno rfl) hQ
    refine c_invv (c := 0) (d := d + 9) (av := [vI v2, vD v10]) (st := []) (Q' := fun r h' => r = .inl none ∧ h' = u13) (pc := 334) d_Numbers_perform_334 cv_Numbers_61 y_P_giveReal c12 rfl (Nat.le_of_ble_eq_true rfl) (Nat.le_of_ble_eq_true rfl) (w_P_giveReal (d := d + 1) (Q := fun r h' => r = .inl none ∧ h' = u13) ⟨rfl, rfl⟩ u l1 v2 v10 e15) (fun v h' z => ?_) (fun a h' z => nomatch z.1)
    obtain ⟨z1, z2⟩ := z
    subst h'
    cases z1
    show xW sc m_Numbers_perform (d + 10) Q (u13) 337 [none, some (vR l1), some (vR l2), some (vR l3), some (vR l4), none, some (vI l6), none] []
    exact x_wk (L' := [none, none, none, none, none, none, none, none]) ⟨Or.inl rfl, Or.inl rfl, Or.inl rfl, Or.inl rfl, Or.inl rfl, Or.inl rfl, Or.inl rfl, Or.inl rfl, trivial⟩ (w_Numbers_perform_b337 hQ u13 h)
  · rw [if_neg c1] at h
    refine x_aload_n (pc := 290) d_Numbers_perform_290 rfl ?_
    refine x_aload_n (pc := 291) d_Numbers_perform_291 rfl ?_
    obtain ⟨v18, e19, h⟩ := Option.bind_eq_some_iff.mp h
    refine c_getI (pc := 292) d_Numbers_perform_292 l_Numbers_73 e19 ?_
    refine x_aload_n (pc := 295) d_Numbers_perform_295 rfl ?_
    refine x_aload_n (pc := 296) d_Numbers_perform_296 rfl ?_
    obtain ⟨v20, e21, h⟩ := Option.bind_eq_some_iff.mp h
    refine c_getI (pc := 297) d_Numbers_perform_297 l_Numbers_53 e21 ?_
    refine x_i2l (pc := 300) d_Numbers_perform_300 ?_
    refine x_aload (pc := 301) d_Numbers_perform_301 rfl ?_
    obtain ⟨v22, e23, h⟩ := Option.bind_eq_some_iff.mp h
    refine c_getI (pc := 303) d_Numbers_perform_303 l_Numbers_53 e23 ?_
    refine x_i2l (pc := 306) d_Numbers_perform_306 ?_
    obtain ⟨v24, e25, h⟩ := Option.bind_eq_some_iff.mp h
    refine x_invs (d := d + 9) (av := [vR l2, vL v20.toInt64, vL v22.toInt64]) (st := [vI v18, vR l1]) (Q' := fun r h' => r = .inl (some (vL v24)) ∧ h' = u) (pc := 307) d_Numbers_perform_307 cs_Numbers_76 y_Numbers_exact rfl (Nat.le_of_ble_eq_true rfl) (Nat.le_of_ble_eq_true rfl) (w_Numbers_exact (d := d + 9) (Q := fun r h' => r = .inl (some (vL v24)) ∧ h' = u) (hh := u) ⟨rfl, rfl⟩ l2 v20.toInt64 v22.toInt64 e25) (fun v h' z => ?_) (fun a h' z => nomatch z.1)
    obtain ⟨z1, z2⟩ := z
    subst h'
    cases z1
    show xW sc m_Numbers_perform (d + 10) Q (u) 310 [none, some (vR l1), some (vR l2), some (vR l3), some (vR l4), none, some (vI l6), none] [vL v24, vI v18, vR l1]
    obtain ⟨c26, h⟩ := ite_some h
    rcases tB_s h with ⟨a30, u31, e29, h⟩ | ⟨v28, u27, e29, h⟩
    · refine c_invv (c := 0) (d := d + 9) (av := [vI v18, vL v24]) (st := []) (Q' := fun r h' => r = .inr a30 ∧ h' = u31) (pc := 310) d_Numbers_perform_310 cv_Numbers_57 y_P_whole c26 rfl (Nat.le_of_ble_eq_true rfl) (Nat.le_of_ble_eq_true rfl) (w_P_whole (d := d + 0) (Q := fun r h' => r = .inr a30 ∧ h' = u31) ⟨rfl, rfl⟩ u l1 v18 v24 e29) (fun v h' z => nomatch z.1) (fun a h' z => ?_)
      obtain ⟨z1, z2⟩ := z
      subst h'
      cases z1
      cases h
      exact x_thOut (xno rfl) hQ
    refine c_invv (c := 0) (d := d + 9) (av := [vI v18, vL v24]) (st := []) (Q' := fun r h' => r = .inl none ∧ h' = u27) (pc := 310) d_Numbers_perform_310 cv_Numbers_57 y_P_whole c26 rfl (Nat.le_of_ble_eq_true rfl) (Nat.le_of_ble_eq_true rfl) (w_P_whole (d := d + 0) (Q := fun r h' => r = .inl none ∧ h' = u27) ⟨rfl, rfl⟩ u l1 v18 v24 e29) (fun v h' z => ?_) (fun a h' z => nomatch z.1)
    obtain ⟨z1, z2⟩ := z
    subst h'
    cases z1
    show xW sc m_Numbers_perform (d + 10) Q (u27) 313 [none, some (vR l1), some (vR l2), some (vR l3), some (vR l4), none, some (vI l6), none] []
    refine x_goto (tgt := 337) (pc := 313) d_Numbers_perform_313 (by decide) ?_
    exact x_wk (L' := [none, none, none, none, none, none, none, none]) ⟨Or.inl rfl, Or.inl rfl, Or.inl rfl, Or.inl rfl, Or.inl rfl, Or.inl rfl, Or.inl rfl, Or.inl rfl, trivial⟩ (w_Numbers_perform_b337 hQ u27 h)
def f_Numbers_perform_b265 (sc : xSc)  (l1 : Option Nat) (l3 : Option Nat) (t0 : Int32) (t1 : Option Nat) (u : xH) : Option ((Unit ⊕ Nat) × xH) := (if xis sc u 0 t1 = true then tB (f_P_need sc u t1 t0 (4 : Int32)) (fun v3 u2 => (if xis sc u2 2 l3 = true then (f_Slot_value sc u2 l3).bind fun v8 => (if xis sc u2 0 l1 = true then tB (f_P_give sc u2 l1 (1 : Int32) (some 72) (FP.d2i v8)) (fun v12 u11 => f_Numbers_perform_b337 sc u11) (fun a14 u15 => some (.inr a14, u15)) else none) else none)) (fun a5 u6 => some (.inr a5, u6)) else none)
theorem w_Numbers_perform_b265 {sc : xSc} {d : Nat} {Q : xR → xH → Prop} {oZ : Unit ⊕ Nat} {hZ : xH}  (hQ : Q (cvU oZ) hZ) (l1 : Option Nat) (l3 : Option Nat) (t0 : Int32) (t1 : Option Nat) (u : xH) (h : f_Numbers_perform_b265 sc  l1 l3 t0 t1 u = some (oZ, hZ)) : xW sc m_Numbers_perform (d + 10) Q (u) 265 [none, some (vR l1), none, some (vR l3), none, none, none, none] [vI t0, vR t1] := by
  unfold f_Numbers_perform_b265 at h
  refine x_iconst (v := (4 : Int32)) (pc := 265) d_Numbers_perform_265 (by decide) ?_
  obtain ⟨c1, h⟩ := ite_some h
  rcases tB_s h with ⟨a5, u6, e4, h⟩ | ⟨v3, u2, e4, h⟩
  · refine c_invv (c := 0) (d := d + 9) (av := [vI t0, vI (4 : Int32)]) (st := []) (Q' := fun r h' => r = .inr a5 ∧ h' = u6) (pc := 266) d_Numbers_perform_266 cv_Numbers_45 y_P_need c1 rfl (Nat.le_of_ble_eq_true rfl) (Nat.le_of_ble_eq_true rfl) (w_P_need (d := d + 3) (Q := fun r h' => r = .inr a5 ∧ h' = u6) ⟨rfl, rfl⟩ u t1 t0 (4 : Int32) e4) (fun v h' z => nomatch z.1) (fun a h' z => ?_)
    obtain ⟨z1, z2⟩ := z
    subst h'
    cases z1
    cases h
    exact x_thOut (xno rfl) hQ
  refine c_invv (c := 0) (d := d + 9) (av := [vI t0, vI (4 : Int32)]) (st := []) (Q' := fun r h' => r = .inl none ∧ h' = u2) (pc := 266) d_Numbers_perform_266 cv_Numbers_45 y_P_need c1 rfl (Nat.le_of_ble_eq_true rfl) (Nat.le_of_ble_eq_true rfl) (w_P_need (d := d + 3) (Q := fun r h' => r = .inl none ∧ h' = u2) ⟨rfl, rfl⟩ u t1 t0 (4 : Int32) e4) (fun v h' z => ?_) (fun a h' z => nomatch z.1)
  obtain ⟨z1, z2⟩ := z
  subst h'
  cases z1
  show xW sc m_Numbers_perform (d + 10) Q (u2) 269 [none, some (vR l1), none, some (vR l3), none, none, none, none] []
  refine x_aload_n (pc := 269) d_Numbers_perform_269 rfl ?_
  refine x_iconst (v := (1 : Int32)) (pc := 270) d_Numbers_perform_270 (by decide) ?_
  refine x_gets (v := vR (some 72)) (pc := 271) d_Numbers_perform_271 sl_Numbers_9 ?_
  refine x_aload_n (pc := 274) d_Numbers_perform_274 rfl ?_
  obtain ⟨c7, h⟩ := ite_some h
  obtain ⟨v8, e9, h⟩ := Option.bind_eq_some_iff.mp h
  refine c_invv (c := 2) (d := d + 9) (av := []) (st := [vR (some 72), vI (1 : Int32), vR l1]) (Q' := fun r h' => r = .inl (some (vD v8)) ∧ h' = u2) (pc := 275) d_Numbers_perform_275 cv_Numbers_41 y_Slot_value c7 rfl (Nat.le_of_ble_eq_true rfl) (Nat.le_of_ble_eq_true rfl) (w_Slot_value (d := d + 9) (Q := fun r h' => r = .inl (some (vD v8)) ∧ h' = u2) ⟨rfl, rfl⟩ l3 e9) (fun v h' z => ?_) (fun a h' z => nomatch z.1)
  obtain ⟨z1, z2⟩ := z
  subst h'
  cases z1
  show xW sc m_Numbers_perform (d + 10) Q (u2) 278 [none, some (vR l1), none, some (vR l3), none, none, none, none] [vD v8, vR (some 72), vI (1 : Int32), vR l1]
  refine x_d2i (pc := 278) d_Numbers_perform_278 ?_
  obtain ⟨c10, h⟩ := ite_some h
  rcases tB_s h with ⟨a14, u15, e13, h⟩ | ⟨v12, u11, e13, h⟩
  · refine c_invv (c := 0) (d := d + 9) (av := [vI (1 : Int32), vR (some 72), vI (FP.d2i v8)]) (st := []) (Q' := fun r h' => r = .inr a14 ∧ h' = u15) (pc := 279) d_Numbers_perform_279 cv_Numbers_69 y_P_give c10 rfl (Nat.le_of_ble_eq_true rfl) (Nat.le_of_ble_eq_true rfl) (w_P_give (d := d + 1) (Q := fun r h' => r = .inr a14 ∧ h' = u15) ⟨rfl, rfl⟩ u2 l1 (1 : Int32) (some 72) (FP.d2i v8) e13) (fun v h' z => nomatch z.1) (fun a h' z => ?_)
    obtain ⟨z1, z2⟩ := z
    subst h'
    cases z1
    cases h
    exact x_thOut (xno rfl) hQ
  refine c_invv (c := 0) (d := d + 9) (av := [vI (1 : Int32), vR (some 72), vI (FP.d2i v8)]) (st := []) (Q' := fun r h' => r = .inl none ∧ h' = u11) (pc := 279) d_Numbers_perform_279 cv_Numbers_69 y_P_give c10 rfl (Nat.le_of_ble_eq_true rfl) (Nat.le_of_ble_eq_true rfl) (w_P_give (d := d + 1) (Q := fun r h' => r = .inl none ∧ h' = u11) ⟨rfl, rfl⟩ u2 l1 (1 : Int32) (some 72) (FP.d2i v8) e13) (fun v h' z => ?_) (fun a h' z => nomatch z.1)
  obtain ⟨z1, z2⟩ := z
  subst h'
  cases z1
  show xW sc m_Numbers_perform (d + 10) Q (u11) 282 [none, some (vR l1), none, some (vR l3), none, none, none, none] []
  refine x_goto (tgt := 337) (pc := 282) d_Numbers_perform_282 (by decide) ?_
  exact x_wk (L' := [none, none, none, none, none, none, none, none]) ⟨Or.inl rfl, Or.inl rfl, Or.inl rfl, Or.inl rfl, Or.inl rfl, Or.inl rfl, Or.inl rfl, Or.inl rfl, trivial⟩ (w_Numbers_perform_b337 hQ u11 h)
def f_Numbers_perform_b264 (sc : xSc)  (l1 : Option Nat) (l3 : Option Nat) (t0 : Option Nat) (u : xH) : Option ((Unit ⊕ Nat) × xH) := f_Numbers_perform_b265 sc l1 l3 (0 : Int32) t0 u
theorem w_Numbers_perform_b264 {sc : xSc} {d : Nat} {Q : xR → xH → Prop} {oZ : Unit ⊕ Nat} {hZ : xH}  (hQ : Q (cvU oZ) hZ) (l1 : Option Nat) (l3 : Option Nat) (t0 : Option Nat) (u : xH) (h : f_Numbers_perform_b264 sc  l1 l3 t0 u = some (oZ, hZ)) : xW sc m_Numbers_perform (d + 10) Q (u) 264 [none, some (vR l1), none, some (vR l3), none, none, none, none] [vR t0] := by
  unfold f_Numbers_perform_b264 at h
  refine x_iconst (v := (0 : Int32)) (pc := 264) d_Numbers_perform_264 (by decide) ?_
  exact w_Numbers_perform_b265 hQ l1 l3 (0 : Int32) t0 u h
def f_Numbers_perform_b111 (sc : xSc)  (l1 : Option Nat) (l2 : Option Nat) (l3 : Option Nat) (l4 : Option Nat) (l6 : Int32) (t0 : Int32) (t1 : Option Nat) (u : xH) : Option ((Unit ⊕ Nat) × xH) := (if xis sc u 0 t1 = true then tB (f_P_need sc u t1 t0 (6 : Int32)) (fun v3 u2 => (if xis sc u2 19 l2 = true then (f_Enum_ordinal19 sc u2 l2).bind fun v8 => (if v8 = (15 : Int32) then (if xis sc u2 2 l3 = true then (f_Slot_value sc u2 l3).bind fun v12 => (if xis sc u2 2 l4 = true then (f_Slot_value sc u2 l4).bind fun v15 => (if xn64 (FP.ddiv v12 v15) = true then (if xis sc u2 0 l1 = true then tB (f_P_giveReal sc u2 l1 (2 : Int32) (FP.ddiv v12 v15)) (fun v20 u19 => f_Numbers_perform_b337 sc u19) (fun a22 u23 => some (.inr a22, u23)) else none) else none) else none) else none) else (if v8 = (16 : Int32) then (gI sc u2 2 2 l3).bind fun v25 => (gI sc u2 2 2 l4).bind fun v27 => (if v27.toInt64 = 0 then none else (if xis sc u2 0 l1 = true then tB (f_P_whole sc u2 l1 (2 : Int32) (v25.toInt64 / v27.toInt64)) (fun v32 u31 => f_Numbers_perform_b337 sc u31) (fun a34 u35 => some (.inr a34, u35)) else none)) else (if v8 = (17 : Int32) then (gI sc u2 2 2 l3).bind fun v37 => (gI sc u2 2 2 l4).bind fun v39 => (if v39 = 0 then none else (if xis sc u2 0 l1 = true then tB (f_P_whole sc u2 l1 (2 : Int32) ((v37 - v37 / v39 * v39).toInt64)) (fun v44 u43 => f_Numbers_perform_b337 sc u43) (fun a46 u47 => some (.inr a46, u47)) else none)) else (if v8 = (18 : Int32) then f_Numbers_perform_b285 sc l1 l2 l3 l4 l6 u2 else (if v8 = (19 : Int32) then f_Numbers_perform_b285 sc l1 l2 l3 l4 l6 u2 else (if v8 = (20 : Int32) then f_Numbers_perform_b285 sc l1 l2 l3 l4 l6 u2 else (if v8 = (21 : Int32) then (if xis sc u2 2 l3 = true then (f_Slot_value sc u2 l3).bind fun v53 => (if (Op.cmpValue (FP.dcmp v53 (13970166044105375744 : UInt64)) .l) ≤ 0 then f_Numbers_perform_b264 sc l1 l3 l1 u2 else (if xis sc u2 2 l3 = true then (f_Slot_value sc u2 l3).bind fun v57 => (if 0 ≤ (Op.cmpValue (FP.dcmp v57 (4746794007248502784 : UInt64)) .g) then f_Numbers_perform_b264 sc l1 l3 l1 u2 else f_Numbers_perform_b265 sc l1 l3 (1 : Int32) l1 u2) else none)) else none) else (if v8 = (22 : Int32) then (if xis sc u2 2 l3 = true then (f_Slot_value sc u2 l3).bind fun v62 => (if xis sc u2 0 l1 = true then tB (f_P_giveReal sc u2 l1 (1 : Int32) v62) (fun v66 u65 => f_Numbers_perform_b337 sc u65) (fun a68 u69 => some (.inr a68, u69)) else none) else none) else f_Numbers_perform_b285 sc l1 l2 l3 l4 l6 u2)))))))) else none)) (fun a5 u6 => some (.inr a5, u6)) else none)
theorem w_Numbers_perform_b111 {sc : xSc} {d : Nat} {Q : xR → xH → Prop} {oZ : Unit ⊕ Nat} {hZ : xH}  (hQ : Q (cvU oZ) hZ) (l1 : Option Nat) (l2 : Option Nat) (l3 : Option Nat) (l4 : Option Nat) (l6 : Int32) (t0 : Int32) (t1 : Option Nat) (u : xH) (h : f_Numbers_perform_b111 sc  l1 l2 l3 l4 l6 t0 t1 u = some (oZ, hZ)) : xW sc m_Numbers_perform (d + 10) Q (u) 111 [none, some (vR l1), some (vR l2), some (vR l3), some (vR l4), none, some (vI l6), none] [vI t0, vR t1] := by
  unfold f_Numbers_perform_b111 at h
  refine x_bipush (v := (6 : Int32)) (pc := 111) d_Numbers_perform_111 (by decide) ?_
  obtain ⟨c1, h⟩ := ite_some h
  rcases tB_s h with ⟨a5, u6, e4, h⟩ | ⟨v3, u2, e4, h⟩
  · refine c_invv (c := 0) (d := d + 9) (av := [vI t0, vI (6 : Int32)]) (st := []) (Q' := fun r h' => r = .inr a5 ∧ h' = u6) (pc := 113) d_Numbers_perform_113 cv_Numbers_45 y_P_need c1 rfl (Nat.le_of_ble_eq_true rfl) (Nat.le_of_ble_eq_true rfl) (w_P_need (d := d + 3) (Q := fun r h' => r = .inr a5 ∧ h' = u6) ⟨rfl, rfl⟩ u t1 t0 (6 : Int32) e4) (fun v h' z => nomatch z.1) (fun a h' z => ?_)
    obtain ⟨z1, z2⟩ := z
    subst h'
    cases z1
    cases h
    exact x_thOut (xno rfl) hQ
  refine c_invv (c := 0) (d := d + 9) (av := [vI t0, vI (6 : Int32)]) (st := []) (Q' := fun r h' => r = .inl none ∧ h' = u2) (pc := 113) d_Numbers_perform_113 cv_Numbers_45 y_P_need c1 rfl (Nat.le_of_ble_eq_true rfl) (Nat.le_of_ble_eq_true rfl) (w_P_need (d := d + 3) (Q := fun r h' => r = .inl none ∧ h' = u2) ⟨rfl, rfl⟩ u t1 t0 (6 : Int32) e4) (fun v h' z => ?_) (fun a h' z => nomatch z.1)
  obtain ⟨z1, z2⟩ := z
  subst h'
  cases z1
  show xW sc m_Numbers_perform (d + 10) Q (u2) 116 [none, some (vR l1), some (vR l2), some (vR l3), some (vR l4), none, some (vI l6), none] []
  refine x_aload_n (pc := 116) d_Numbers_perform_116 rfl ?_
  obtain ⟨c7, h⟩ := ite_some h
  obtain ⟨v8, e9, h⟩ := Option.bind_eq_some_iff.mp h
  refine c_invu (c := 19) (d := d + 9) (av := []) (st := []) (Q' := fun r h' => r = .inl (some (vI v8)) ∧ h' = u2) (pc := 117) d_Numbers_perform_117 cw_Numbers_49_19 y_Enum_ordinal c7 rfl (Nat.le_of_ble_eq_true rfl) (Nat.le_of_ble_eq_true rfl) (w_Enum_ordinal19 (d := d + 9) (Q := fun r h' => r = .inl (some (vI v8)) ∧ h' = u2) ⟨rfl, rfl⟩ l2 e9) (fun v h' z => ?_) (fun a h' z => nomatch z.1)
  obtain ⟨z1, z2⟩ := z
  subst h'
  cases z1
  show xW sc m_Numbers_perform (d + 10) Q (u2) 120 [none, some (vR l1), some (vR l2), some (vR l3), some (vR l4), none, some (vI l6), none] [vI v8]
  by_cases c10 : v8 = (15 : Int32)
  · rw [if_pos c10] at h
    refine x_tableIn (off := 87) (tgt := 207) (pc := 120) d_Numbers_perform_120 (by rw [c10]; decide) (by rw [c10]; decide) (by rw [c10]; decide) (by decide) ?_
    refine x_aload_n (pc := 207) d_Numbers_perform_207 rfl ?_
    refine x_iconst (v := (2 : Int32)) (pc := 208) d_Numbers_perform_208 (by decide) ?_
    refine x_aload_n (pc := 209) d_Numbers_perform_209 rfl ?_
    obtain ⟨c11, h⟩ := ite_some h
    obtain ⟨v12, e13, h⟩ := Option.bind_eq_some_iff.mp h
    refine c_invv (c := 2) (d := d + 9) (av := []) (st := [vI (2 : Int32), vR l1]) (Q' := fun r h' => r = .inl (some (vD v12)) ∧ h' = u2) (pc := 210) d_Numbers_perform_210 cv_Numbers_41 y_Slot_value c11 rfl (Nat.le_of_ble_eq_true rfl) (Nat.le_of_ble_eq_true rfl) (w_Slot_value (d := d + 9) (Q := fun r h' => r = .inl (some (vD v12)) ∧ h' = u2) ⟨rfl, rfl⟩ l3 e13) (fun v h' z => ?_) (fun a h' z => nomatch z.1)
    obtain ⟨z1, z2⟩ := z
    subst h'
    cases z1
    show xW sc m_Numbers_perform (d + 10) Q (u2) 213 [none, some (vR l1), some (vR l2), some (vR l3), some (vR l4), none, some (vI l6), none] [vD v12, vI (2 : Int32), vR l1]
    refine x_aload (pc := 213) d_Numbers_perform_213 rfl ?_
    obtain ⟨c14, h⟩ := ite_some h
    obtain ⟨v15, e16, h⟩ := Option.bind_eq_some_iff.mp h
    refine c_invv (c := 2) (d := d + 9) (av := []) (st := [vD v12, vI (2 : Int32), vR l1]) (Q' := fun r h' => r = .inl (some (vD v15)) ∧ h' = u2) (pc := 215) d_Numbers_perform_215 cv_Numbers_41 y_Slot_value c14 rfl (Nat.le_of_ble_eq_true rfl) (Nat.le_of_ble_eq_true rfl) (w_Slot_value (d := d + 9) (Q := fun r h' => r = .inl (some (vD v15)) ∧ h' = u2) ⟨rfl, rfl⟩ l4 e16) (fun v h' z => ?_) (fun a h' z => nomatch z.1)
    obtain ⟨z1, z2⟩ := z
    subst h'
    cases z1
    show xW sc m_Numbers_perform (d + 10) Q (u2) 218 [none, some (vR l1), some (vR l2), some (vR l3), some (vR l4), none, some (vI l6), none] [vD v15, vD v12, vI (2 : Int32), vR l1]
    obtain ⟨c17, h⟩ := ite_some h
    refine x_ddiv (pc := 218) d_Numbers_perform_218 (xn64_v c17) ?_
    obtain ⟨c18, h⟩ := ite_some h
    rcases tB_s h with ⟨a22, u23, e21, h⟩ | ⟨v20, u19, e21, h⟩
    · refine c_invv (c := 0) (d := d + 9) (av := [vI (2 : Int32), vD (FP.ddiv v12 v15)]) (st := []) (Q' := fun r h' => r = .inr a22 ∧ h' = u23) (pc := 219) d_Numbers_perform_219 cv_Numbers_61 y_P_giveReal c18 rfl (Nat.le_of_ble_eq_true rfl) (Nat.le_of_ble_eq_true rfl) (w_P_giveReal (d := d + 1) (Q := fun r h' => r = .inr a22 ∧ h' = u23) ⟨rfl, rfl⟩ u2 l1 (2 : Int32) (FP.ddiv v12 v15) e21) (fun v h' z => nomatch z.1) (fun a h' z => ?_)
      obtain ⟨z1, z2⟩ := z
      subst h'
      cases z1
      cases h
      exact x_thOut (xno rfl) hQ
    refine c_invv (c := 0) (d := d + 9) (av := [vI (2 : Int32), vD (FP.ddiv v12 v15)]) (st := []) (Q' := fun r h' => r = .inl none ∧ h' = u19) (pc := 219) d_Numbers_perform_219 cv_Numbers_61 y_P_giveReal c18 rfl (Nat.le_of_ble_eq_true rfl) (Nat.le_of_ble_eq_true rfl) (w_P_giveReal (d := d + 1) (Q := fun r h' => r = .inl none ∧ h' = u19) ⟨rfl, rfl⟩ u2 l1 (2 : Int32) (FP.ddiv v12 v15) e21) (fun v h' z => ?_) (fun a h' z => nomatch z.1)
    obtain ⟨z1, z2⟩ := z
    subst h'
    cases z1
    show xW sc m_Numbers_perform (d + 10) Q (u19) 222 [none, some (vR l1), some (vR l2), some (vR l3), some (vR l4), none, some (vI l6), none] []
    refine x_goto (tgt := 337) (pc := 222) d_Numbers_perform_222 (by decide) ?_
    exact x_wk (L' := [none, none, none, none, none, none, none, none]) ⟨Or.inl rfl, Or.inl rfl, Or.inl rfl, Or.inl rfl, Or.inl rfl, Or.inl rfl, Or.inl rfl, Or.inl rfl, trivial⟩ (w_Numbers_perform_b337 hQ u19 h)
  rw [if_neg c10] at h
  by_cases c24 : v8 = (16 : Int32)
  · rw [if_pos c24] at h
    refine x_tableIn (off := 48) (tgt := 168) (pc := 120) d_Numbers_perform_120 (by rw [c24]; decide) (by rw [c24]; decide) (by rw [c24]; decide) (by decide) ?_
    refine x_aload_n (pc := 168) d_Numbers_perform_168 rfl ?_
    refine x_iconst (v := (2 : Int32)) (pc := 169) d_Numbers_perform_169 (by decide) ?_
    refine x_aload_n (pc := 170) d_Numbers_perform_170 rfl ?_
    obtain ⟨v25, e26, h⟩ := Option.bind_eq_some_iff.mp h
    refine c_getI (pc := 171) d_Numbers_perform_171 l_Numbers_53 e26 ?_
    refine x_i2l (pc := 174) d_Numbers_perform_174 ?_
    refine x_aload (pc := 175) d_Numbers_perform_175 rfl ?_
    obtain ⟨v27, e28, h⟩ := Option.bind_eq_some_iff.mp h
    refine c_getI (pc := 177) d_Numbers_perform_177 l_Numbers_53 e28 ?_
    refine x_i2l (pc := 180) d_Numbers_perform_180 ?_
    obtain ⟨c29, h⟩ := itn_some h
    refine x_ldiv (pc := 181) d_Numbers_perform_181 (c29) ?_
    obtain ⟨c30, h⟩ := ite_some h
    rcases tB_s h with ⟨a34, u35, e33, h⟩ | ⟨v32, u31, e33, h⟩
    · refine c_invv (c := 0) (d := d + 9) (av := [vI (2 : Int32), vL (v25.toInt64 / v27.toInt64)]) (st := []) (Q' := fun r h' => r = .inr a34 ∧ h' = u35) (pc := 182) d_Numbers_perform_182 cv_Numbers_57 y_P_whole c30 rfl (Nat.le_of_ble_eq_true rfl) (Nat.le_of_ble_eq_true rfl) (w_P_whole (d := d + 0) (Q := fun r h' => r = .inr a34 ∧ h' = u35) ⟨rfl, rfl⟩ u2 l1 (2 : Int32) (v25.toInt64 / v27.toInt64) e33) (fun v h' z => nomatch z.1) (fun a h' z => ?_)
      obtain ⟨z1, z2⟩ := z
      subst h'
      cases z1
      cases h
      exact x_thOut (xno rfl) hQ
    refine c_invv (c := 0) (d := d + 9) (av := [vI (2 : Int32), vL (v25.toInt64 / v27.toInt64)]) (st := []) (Q' := fun r h' => r = .inl none ∧ h' = u31) (pc := 182) d_Numbers_perform_182 cv_Numbers_57 y_P_whole c30 rfl (Nat.le_of_ble_eq_true rfl) (Nat.le_of_ble_eq_true rfl) (w_P_whole (d := d + 0) (Q := fun r h' => r = .inl none ∧ h' = u31) ⟨rfl, rfl⟩ u2 l1 (2 : Int32) (v25.toInt64 / v27.toInt64) e33) (fun v h' z => ?_) (fun a h' z => nomatch z.1)
    obtain ⟨z1, z2⟩ := z
    subst h'
    cases z1
    show xW sc m_Numbers_perform (d + 10) Q (u31) 185 [none, some (vR l1), some (vR l2), some (vR l3), some (vR l4), none, some (vI l6), none] []
    refine x_goto (tgt := 337) (pc := 185) d_Numbers_perform_185 (by decide) ?_
    exact x_wk (L' := [none, none, none, none, none, none, none, none]) ⟨Or.inl rfl, Or.inl rfl, Or.inl rfl, Or.inl rfl, Or.inl rfl, Or.inl rfl, Or.inl rfl, Or.inl rfl, trivial⟩ (w_Numbers_perform_b337 hQ u31 h)
  rw [if_neg c24] at h
  by_cases c36 : v8 = (17 : Int32)
  · rw [if_pos c36] at h
    refine x_tableIn (off := 68) (tgt := 188) (pc := 120) d_Numbers_perform_120 (by rw [c36]; decide) (by rw [c36]; decide) (by rw [c36]; decide) (by decide) ?_
    refine x_aload_n (pc := 188) d_Numbers_perform_188 rfl ?_
    refine x_iconst (v := (2 : Int32)) (pc := 189) d_Numbers_perform_189 (by decide) ?_
    refine x_aload_n (pc := 190) d_Numbers_perform_190 rfl ?_
    obtain ⟨v37, e38, h⟩ := Option.bind_eq_some_iff.mp h
    refine c_getI (pc := 191) d_Numbers_perform_191 l_Numbers_53 e38 ?_
    refine x_aload (pc := 194) d_Numbers_perform_194 rfl ?_
    obtain ⟨v39, e40, h⟩ := Option.bind_eq_some_iff.mp h
    refine c_getI (pc := 196) d_Numbers_perform_196 l_Numbers_53 e40 ?_
    obtain ⟨c41, h⟩ := itn_some h
    refine x_irem (pc := 199) d_Numbers_perform_199 (c41) ?_
    refine x_i2l (pc := 200) d_Numbers_perform_200 ?_
    obtain ⟨c42, h⟩ := ite_some h
    rcases tB_s h with ⟨a46, u47, e45, h⟩ | ⟨v44, u43, e45, h⟩
    · refine c_invv (c := 0) (d := d + 9) (av := [vI (2 : Int32), vL ((v37 - v37 / v39 * v39).toInt64)]) (st := []) (Q' := fun r h' => r = .inr a46 ∧ h' = u47) (pc := 201) d_Numbers_perform_201 cv_Numbers_57 y_P_whole c42 rfl (Nat.le_of_ble_eq_true rfl) (Nat.le_of_ble_eq_true rfl) (w_P_whole (d := d + 0) (Q := fun r h' => r = .inr a46 ∧ h' = u47) ⟨rfl, rfl⟩ u2 l1 (2 : Int32) ((v37 - v37 / v39 * v39).toInt64) e45) (fun v h' z => nomatch z.1) (fun a h' z => ?_)
      obtain ⟨z1, z2⟩ := z
      subst h'
      cases z1
      cases h
      exact x_thOut (xno rfl) hQ
    refine c_invv (c := 0) (d := d + 9) (av := [vI (2 : Int32), vL ((v37 - v37 / v39 * v39).toInt64)]) (st := []) (Q' := fun r h' => r = .inl none ∧ h' = u43) (pc := 201) d_Numbers_perform_201 cv_Numbers_57 y_P_whole c42 rfl (Nat.le_of_ble_eq_true rfl) (Nat.le_of_ble_eq_true rfl) (w_P_whole (d := d + 0) (Q := fun r h' => r = .inl none ∧ h' = u43) ⟨rfl, rfl⟩ u2 l1 (2 : Int32) ((v37 - v37 / v39 * v39).toInt64) e45) (fun v h' z => ?_) (fun a h' z => nomatch z.1)
    obtain ⟨z1, z2⟩ := z
    subst h'
    cases z1
    show xW sc m_Numbers_perform (d + 10) Q (u43) 204 [none, some (vR l1), some (vR l2), some (vR l3), some (vR l4), none, some (vI l6), none] []
    refine x_goto (tgt := 337) (pc := 204) d_Numbers_perform_204 (by decide) ?_
    exact x_wk (L' := [none, none, none, none, none, none, none, none]) ⟨Or.inl rfl, Or.inl rfl, Or.inl rfl, Or.inl rfl, Or.inl rfl, Or.inl rfl, Or.inl rfl, Or.inl rfl, trivial⟩ (w_Numbers_perform_b337 hQ u43 h)
  rw [if_neg c36] at h
  by_cases c48 : v8 = (18 : Int32)
  · rw [if_pos c48] at h
    refine x_tableIn (off := 165) (tgt := 285) (pc := 120) d_Numbers_perform_120 (by rw [c48]; decide) (by rw [c48]; decide) (by rw [c48]; decide) (by decide) ?_
    exact w_Numbers_perform_b285 hQ l1 l2 l3 l4 l6 u2 h
  rw [if_neg c48] at h
  by_cases c49 : v8 = (19 : Int32)
  · rw [if_pos c49] at h
    refine x_tableIn (off := 165) (tgt := 285) (pc := 120) d_Numbers_perform_120 (by rw [c49]; decide) (by rw [c49]; decide) (by rw [c49]; decide) (by decide) ?_
    exact w_Numbers_perform_b285 hQ l1 l2 l3 l4 l6 u2 h
  rw [if_neg c49] at h
  by_cases c50 : v8 = (20 : Int32)
  · rw [if_pos c50] at h
    refine x_tableIn (off := 165) (tgt := 285) (pc := 120) d_Numbers_perform_120 (by rw [c50]; decide) (by rw [c50]; decide) (by rw [c50]; decide) (by decide) ?_
    exact w_Numbers_perform_b285 hQ l1 l2 l3 l4 l6 u2 h
  rw [if_neg c50] at h
  by_cases c51 : v8 = (21 : Int32)
  · rw [if_pos c51] at h
    refine x_tableIn (off := 117) (tgt := 237) (pc := 120) d_Numbers_perform_120 (by rw [c51]; decide) (by rw [c51]; decide) (by rw [c51]; decide) (by decide) ?_
    refine x_aload_n (pc := 237) d_Numbers_perform_237 rfl ?_
    refine x_aload_n (pc := 238) d_Numbers_perform_238 rfl ?_
    obtain ⟨c52, h⟩ := ite_some h
    obtain ⟨v53, e54, h⟩ := Option.bind_eq_some_iff.mp h
    refine c_invv (c := 2) (d := d + 9) (av := []) (st := [vR l1]) (Q' := fun r h' => r = .inl (some (vD v53)) ∧ h' = u2) (pc := 239) d_Numbers_perform_239 cv_Numbers_41 y_Slot_value c52 rfl (Nat.le_of_ble_eq_true rfl) (Nat.le_of_ble_eq_true rfl) (w_Slot_value (d := d + 9) (Q := fun r h' => r = .inl (some (vD v53)) ∧ h' = u2) ⟨rfl, rfl⟩ l3 e54) (fun v h' z => ?_) (fun a h' z => nomatch z.1)
    obtain ⟨z1, z2⟩ := z
    subst h'
    cases z1
    show xW sc m_Numbers_perform (d + 10) Q (u2) 242 [none, some (vR l1), some (vR l2), some (vR l3), some (vR l4), none, some (vI l6), none] [vD v53, vR l1]
    refine x_ldc2d (v := (13970166044105375744 : UInt64)) (pc := 242) d_Numbers_perform_242 c_Numbers_65 ?_
    refine x_dcmp (pc := 245) d_Numbers_perform_245 ?_
    refine x_if_le (tgt := 264) (pc := 246) d_Numbers_perform_246 (by decide) (fun c55 => ?_) (fun c55 => ?_)
    · rw [if_pos c55] at h
      exact x_wk (L' := [none, some (vR l1), none, some (vR l3), none, none, none, none]) ⟨Or.inl rfl, Or.inr rfl, Or.inl rfl, Or.inr rfl, Or.inl rfl, Or.inl rfl, Or.inl rfl, Or.inl rfl, trivial⟩ (w_Numbers_perform_b264 hQ l1 l3 l1 u2 h)
    · rw [if_neg c55] at h
      refine x_aload_n (pc := 249) d_Numbers_perform_249 rfl ?_
      obtain ⟨c56, h⟩ := ite_some h
      obtain ⟨v57, e58, h⟩ := Option.bind_eq_some_iff.mp h
      refine c_invv (c := 2) (d := d + 9) (av := []) (st := [vR l1]) (Q' := fun r h' => r = .inl (some (vD v57)) ∧ h' = u2) (pc := 250) d_Numbers_perform_250 cv_Numbers_41 y_Slot_value c56 rfl (Nat.le_of_ble_eq_true rfl) (Nat.le_of_ble_eq_true rfl) (w_Slot_value (d := d + 9) (Q := fun r h' => r = .inl (some (vD v57)) ∧ h' = u2) ⟨rfl, rfl⟩ l3 e58) (fun v h' z => ?_) (fun a h' z => nomatch z.1)
      obtain ⟨z1, z2⟩ := z
      subst h'
      cases z1
      show xW sc m_Numbers_perform (d + 10) Q (u2) 253 [none, some (vR l1), some (vR l2), some (vR l3), some (vR l4), none, some (vI l6), none] [vD v57, vR l1]
      refine x_ldc2d (v := (4746794007248502784 : UInt64)) (pc := 253) d_Numbers_perform_253 c_Numbers_67 ?_
      refine x_dcmp (pc := 256) d_Numbers_perform_256 ?_
      refine x_if_ge (tgt := 264) (pc := 257) d_Numbers_perform_257 (by decide) (fun c59 => ?_) (fun c59 => ?_)
      · rw [if_pos c59] at h
        exact x_wk (L' := [none, some (vR l1), none, some (vR l3), none, none, none, none]) ⟨Or.inl rfl, Or.inr rfl, Or.inl rfl, Or.inr rfl, Or.inl rfl, Or.inl rfl, Or.inl rfl, Or.inl rfl, trivial⟩ (w_Numbers_perform_b264 hQ l1 l3 l1 u2 h)
      · rw [if_neg c59] at h
        refine x_iconst (v := (1 : Int32)) (pc := 260) d_Numbers_perform_260 (by decide) ?_
        refine x_goto (tgt := 265) (pc := 261) d_Numbers_perform_261 (by decide) ?_
        exact x_wk (L' := [none, some (vR l1), none, some (vR l3), none, none, none, none]) ⟨Or.inl rfl, Or.inr rfl, Or.inl rfl, Or.inr rfl, Or.inl rfl, Or.inl rfl, Or.inl rfl, Or.inl rfl, trivial⟩ (w_Numbers_perform_b265 hQ l1 l3 (1 : Int32) l1 u2 h)
  rw [if_neg c51] at h
  by_cases c60 : v8 = (22 : Int32)
  · rw [if_pos c60] at h
    refine x_tableIn (off := 105) (tgt := 225) (pc := 120) d_Numbers_perform_120 (by rw [c60]; decide) (by rw [c60]; decide) (by rw [c60]; decide) (by decide) ?_
    refine x_aload_n (pc := 225) d_Numbers_perform_225 rfl ?_
    refine x_iconst (v := (1 : Int32)) (pc := 226) d_Numbers_perform_226 (by decide) ?_
    refine x_aload_n (pc := 227) d_Numbers_perform_227 rfl ?_
    obtain ⟨c61, h⟩ := ite_some h
    obtain ⟨v62, e63, h⟩ := Option.bind_eq_some_iff.mp h
    refine c_invv (c := 2) (d := d + 9) (av := []) (st := [vI (1 : Int32), vR l1]) (Q' := fun r h' => r = .inl (some (vD v62)) ∧ h' = u2) (pc := 228) d_Numbers_perform_228 cv_Numbers_41 y_Slot_value c61 rfl (Nat.le_of_ble_eq_true rfl) (Nat.le_of_ble_eq_true rfl) (w_Slot_value (d := d + 9) (Q := fun r h' => r = .inl (some (vD v62)) ∧ h' = u2) ⟨rfl, rfl⟩ l3 e63) (fun v h' z => ?_) (fun a h' z => nomatch z.1)
    obtain ⟨z1, z2⟩ := z
    subst h'
    cases z1
    show xW sc m_Numbers_perform (d + 10) Q (u2) 231 [none, some (vR l1), some (vR l2), some (vR l3), some (vR l4), none, some (vI l6), none] [vD v62, vI (1 : Int32), vR l1]
    obtain ⟨c64, h⟩ := ite_some h
    rcases tB_s h with ⟨a68, u69, e67, h⟩ | ⟨v66, u65, e67, h⟩
    · refine c_invv (c := 0) (d := d + 9) (av := [vI (1 : Int32), vD v62]) (st := []) (Q' := fun r h' => r = .inr a68 ∧ h' = u69) (pc := 231) d_Numbers_perform_231 cv_Numbers_61 y_P_giveReal c64 rfl (Nat.le_of_ble_eq_true rfl) (Nat.le_of_ble_eq_true rfl) (w_P_giveReal (d := d + 1) (Q := fun r h' => r = .inr a68 ∧ h' = u69) ⟨rfl, rfl⟩ u2 l1 (1 : Int32) v62 e67) (fun v h' z => nomatch z.1) (fun a h' z => ?_)
      obtain ⟨z1, z2⟩ := z
      subst h'
      cases z1
      cases h
      exact x_thOut (xno rfl) hQ
    refine c_invv (c := 0) (d := d + 9) (av := [vI (1 : Int32), vD v62]) (st := []) (Q' := fun r h' => r = .inl none ∧ h' = u65) (pc := 231) d_Numbers_perform_231 cv_Numbers_61 y_P_giveReal c64 rfl (Nat.le_of_ble_eq_true rfl) (Nat.le_of_ble_eq_true rfl) (w_P_giveReal (d := d + 1) (Q := fun r h' => r = .inl none ∧ h' = u65) ⟨rfl, rfl⟩ u2 l1 (1 : Int32) v62 e67) (fun v h' z => ?_) (fun a h' z => nomatch z.1)
    obtain ⟨z1, z2⟩ := z
    subst h'
    cases z1
    show xW sc m_Numbers_perform (d + 10) Q (u65) 234 [none, some (vR l1), some (vR l2), some (vR l3), some (vR l4), none, some (vI l6), none] []
    refine x_goto (tgt := 337) (pc := 234) d_Numbers_perform_234 (by decide) ?_
    exact x_wk (L' := [none, none, none, none, none, none, none, none]) ⟨Or.inl rfl, Or.inl rfl, Or.inl rfl, Or.inl rfl, Or.inl rfl, Or.inl rfl, Or.inl rfl, Or.inl rfl, trivial⟩ (w_Numbers_perform_b337 hQ u65 h)
  rw [if_neg c60] at h
  refine x_tableOut (tgt := 285) (pc := 120) d_Numbers_perform_120 (by have q0 := lv_neT c10 (a := 15) (by decide); have q1 := lv_neT c24 (a := 16) (by decide); have q2 := lv_neT c36 (a := 17) (by decide); have q3 := lv_neT c48 (a := 18) (by decide); have q4 := lv_neT c49 (a := 19) (by decide); have q5 := lv_neT c50 (a := 20) (by decide); have q6 := lv_neT c51 (a := 21) (by decide); have q7 := lv_neT c60 (a := 22) (by decide); omega) (by decide) ?_
  exact w_Numbers_perform_b285 hQ l1 l2 l3 l4 l6 u2 h
def f_Numbers_perform_b106 (sc : xSc)  (l1 : Option Nat) (l2 : Option Nat) (l3 : Option Nat) (l4 : Option Nat) (l6 : Int32) (t0 : Option Nat) (u : xH) : Option ((Unit ⊕ Nat) × xH) := f_Numbers_perform_b111 sc l1 l2 l3 l4 l6 (1 : Int32) t0 u
theorem w_Numbers_perform_b106 {sc : xSc} {d : Nat} {Q : xR → xH → Prop} {oZ : Unit ⊕ Nat} {hZ : xH}  (hQ : Q (cvU oZ) hZ) (l1 : Option Nat) (l2 : Option Nat) (l3 : Option Nat) (l4 : Option Nat) (l6 : Int32) (t0 : Option Nat) (u : xH) (h : f_Numbers_perform_b106 sc  l1 l2 l3 l4 l6 t0 u = some (oZ, hZ)) : xW sc m_Numbers_perform (d + 10) Q (u) 106 [none, some (vR l1), some (vR l2), some (vR l3), some (vR l4), none, some (vI l6), none] [vR t0] := by
  unfold f_Numbers_perform_b106 at h
  refine x_iconst (v := (1 : Int32)) (pc := 106) d_Numbers_perform_106 (by decide) ?_
  refine x_goto (tgt := 111) (pc := 107) d_Numbers_perform_107 (by decide) ?_
  exact w_Numbers_perform_b111 hQ l1 l2 l3 l4 l6 (1 : Int32) t0 u h
def f_Numbers_perform_b96 (sc : xSc)  (l1 : Option Nat) (l2 : Option Nat) (l3 : Option Nat) (l4 : Option Nat) (l6 : Int32) (t0 : Option Nat) (u : xH) : Option ((Unit ⊕ Nat) × xH) := (if xis sc u 2 l4 = true then (f_Slot_value sc u l4).bind fun v2 => (if (Op.cmpValue (FP.dcmp v2 FP.dconst0) .l) = 0 then f_Numbers_perform_b111 sc l1 l2 l3 l4 l6 (0 : Int32) t0 u else f_Numbers_perform_b106 sc l1 l2 l3 l4 l6 t0 u) else none)
theorem w_Numbers_perform_b96 {sc : xSc} {d : Nat} {Q : xR → xH → Prop} {oZ : Unit ⊕ Nat} {hZ : xH}  (hQ : Q (cvU oZ) hZ) (l1 : Option Nat) (l2 : Option Nat) (l3 : Option Nat) (l4 : Option Nat) (l6 : Int32) (t0 : Option Nat) (u : xH) (h : f_Numbers_perform_b96 sc  l1 l2 l3 l4 l6 t0 u = some (oZ, hZ)) : xW sc m_Numbers_perform (d + 10) Q (u) 96 [none, some (vR l1), some (vR l2), some (vR l3), some (vR l4), none, some (vI l6), none] [vR t0] := by
  unfold f_Numbers_perform_b96 at h
  refine x_aload (pc := 96) d_Numbers_perform_96 rfl ?_
  obtain ⟨c1, h⟩ := ite_some h
  obtain ⟨v2, e3, h⟩ := Option.bind_eq_some_iff.mp h
  refine c_invv (c := 2) (d := d + 9) (av := []) (st := [vR t0]) (Q' := fun r h' => r = .inl (some (vD v2)) ∧ h' = u) (pc := 98) d_Numbers_perform_98 cv_Numbers_41 y_Slot_value c1 rfl (Nat.le_of_ble_eq_true rfl) (Nat.le_of_ble_eq_true rfl) (w_Slot_value (d := d + 9) (Q := fun r h' => r = .inl (some (vD v2)) ∧ h' = u) ⟨rfl, rfl⟩ l4 e3) (fun v h' z => ?_) (fun a h' z => nomatch z.1)
  obtain ⟨z1, z2⟩ := z
  subst h'
  cases z1
  show xW sc m_Numbers_perform (d + 10) Q (u) 101 [none, some (vR l1), some (vR l2), some (vR l3), some (vR l4), none, some (vI l6), none] [vD v2, vR t0]
  refine x_dconst0 (pc := 101) d_Numbers_perform_101 ?_
  refine x_dcmp (pc := 102) d_Numbers_perform_102 ?_
  refine x_if_eq (tgt := 110) (pc := 103) d_Numbers_perform_103 (by decide) (fun c4 => ?_) (fun c4 => ?_)
  · rw [if_pos c4] at h
    refine x_iconst (v := (0 : Int32)) (pc := 110) d_Numbers_perform_110 (by decide) ?_
    exact w_Numbers_perform_b111 hQ l1 l2 l3 l4 l6 (0 : Int32) t0 u h
  · rw [if_neg c4] at h
    exact w_Numbers_perform_b106 hQ l1 l2 l3 l4 l6 t0 u h
def f_Numbers_perform_b80 (sc : xSc)  (l1 : Option Nat) (l2 : Option Nat) (l3 : Option Nat) (l4 : Option Nat) (l6 : Int32) (l7 : Int32) (t0 : Int32) (t1 : Option Nat) (u : xH) : Option ((Unit ⊕ Nat) × xH) := (if xis sc u 0 t1 = true then tB (f_P_type sc u t1 t0) (fun v3 u2 => (if l7 = 0 then (if xcm l2 = true then (if xcm (some 15) = true then (if l2 = (some 15) then f_Numbers_perform_b96 sc l1 l2 l3 l4 l6 l1 u2 else f_Numbers_perform_b106 sc l1 l2 l3 l4 l6 l1 u2) else none) else none) else f_Numbers_perform_b96 sc l1 l2 l3 l4 l6 l1 u2)) (fun a5 u6 => some (.inr a5, u6)) else none)
theorem w_Numbers_perform_b80 {sc : xSc} {d : Nat} {Q : xR → xH → Prop} {oZ : Unit ⊕ Nat} {hZ : xH}  (hQ : Q (cvU oZ) hZ) (l1 : Option Nat) (l2 : Option Nat) (l3 : Option Nat) (l4 : Option Nat) (l6 : Int32) (l7 : Int32) (t0 : Int32) (t1 : Option Nat) (u : xH) (h : f_Numbers_perform_b80 sc  l1 l2 l3 l4 l6 l7 t0 t1 u = some (oZ, hZ)) : xW sc m_Numbers_perform (d + 10) Q (u) 80 [none, some (vR l1), some (vR l2), some (vR l3), some (vR l4), none, some (vI l6), some (vI l7)] [vI t0, vR t1] := by
  unfold f_Numbers_perform_b80 at h
  obtain ⟨c1, h⟩ := ite_some h
  rcases tB_s h with ⟨a5, u6, e4, h⟩ | ⟨v3, u2, e4, h⟩
  · refine c_invv (c := 0) (d := d + 9) (av := [vI t0]) (st := []) (Q' := fun r h' => r = .inr a5 ∧ h' = u6) (pc := 80) d_Numbers_perform_80 cv_Numbers_34 y_P_type c1 rfl (Nat.le_of_ble_eq_true rfl) (Nat.le_of_ble_eq_true rfl) (w_P_type (d := d + 2) (Q := fun r h' => r = .inr a5 ∧ h' = u6) ⟨rfl, rfl⟩ u t1 t0 e4) (fun v h' z => nomatch z.1) (fun a h' z => ?_)
    obtain ⟨z1, z2⟩ := z
    subst h'
    cases z1
    cases h
    exact x_thOut (xno rfl) hQ
  refine c_invv (c := 0) (d := d + 9) (av := [vI t0]) (st := []) (Q' := fun r h' => r = .inl none ∧ h' = u2) (pc := 80) d_Numbers_perform_80 cv_Numbers_34 y_P_type c1 rfl (Nat.le_of_ble_eq_true rfl) (Nat.le_of_ble_eq_true rfl) (w_P_type (d := d + 2) (Q := fun r h' => r = .inl none ∧ h' = u2) ⟨rfl, rfl⟩ u t1 t0 e4) (fun v h' z => ?_) (fun a h' z => nomatch z.1)
  obtain ⟨z1, z2⟩ := z
  subst h'
  cases z1
  show xW sc m_Numbers_perform (d + 10) Q (u2) 83 [none, some (vR l1), some (vR l2), some (vR l3), some (vR l4), none, some (vI l6), some (vI l7)] []
  refine x_aload_n (pc := 83) d_Numbers_perform_83 rfl ?_
  refine x_iload (pc := 84) d_Numbers_perform_84 rfl ?_
  refine x_if_ne (tgt := 96) (pc := 86) d_Numbers_perform_86 (by decide) (fun c7 => ?_) (fun c7 => ?_)
  · rw [if_neg c7] at h
    exact x_wk (L' := [none, some (vR l1), some (vR l2), some (vR l3), some (vR l4), none, some (vI l6), none]) ⟨Or.inl rfl, Or.inr rfl, Or.inr rfl, Or.inr rfl, Or.inr rfl, Or.inl rfl, Or.inr rfl, Or.inl rfl, trivial⟩ (w_Numbers_perform_b96 hQ l1 l2 l3 l4 l6 l1 u2 h)
  · rw [if_pos c7] at h
    refine x_aload_n (pc := 89) d_Numbers_perform_89 rfl ?_
    refine x_gets (v := vR (some 15)) (pc := 90) d_Numbers_perform_90 sl_Numbers_38 ?_
    obtain ⟨c8, h⟩ := ite_some h
    obtain ⟨c9, h⟩ := ite_some h
    refine x_acmp_ne (tgt := 106) (pc := 93) d_Numbers_perform_93 (by decide) (xcm_s c8) (xcm_s c9) (fun c10 => ?_) (fun c10 => ?_)
    · rw [if_neg c10] at h
      exact x_wk (L' := [none, some (vR l1), some (vR l2), some (vR l3), some (vR l4), none, some (vI l6), none]) ⟨Or.inl rfl, Or.inr rfl, Or.inr rfl, Or.inr rfl, Or.inr rfl, Or.inl rfl, Or.inr rfl, Or.inl rfl, trivial⟩ (w_Numbers_perform_b106 hQ l1 l2 l3 l4 l6 l1 u2 h)
    · rw [if_pos c10] at h
      exact x_wk (L' := [none, some (vR l1), some (vR l2), some (vR l3), some (vR l4), none, some (vI l6), none]) ⟨Or.inl rfl, Or.inr rfl, Or.inr rfl, Or.inr rfl, Or.inr rfl, Or.inl rfl, Or.inr rfl, Or.inl rfl, trivial⟩ (w_Numbers_perform_b96 hQ l1 l2 l3 l4 l6 l1 u2 h)
def f_Numbers_perform_b79 (sc : xSc)  (l1 : Option Nat) (l2 : Option Nat) (l3 : Option Nat) (l4 : Option Nat) (l6 : Int32) (l7 : Int32) (t0 : Option Nat) (u : xH) : Option ((Unit ⊕ Nat) × xH) := f_Numbers_perform_b80 sc l1 l2 l3 l4 l6 l7 (0 : Int32) t0 u
theorem w_Numbers_perform_b79 {sc : xSc} {d : Nat} {Q : xR → xH → Prop} {oZ : Unit ⊕ Nat} {hZ : xH}  (hQ : Q (cvU oZ) hZ) (l1 : Option Nat) (l2 : Option Nat) (l3 : Option Nat) (l4 : Option Nat) (l6 : Int32) (l7 : Int32) (t0 : Option Nat) (u : xH) (h : f_Numbers_perform_b79 sc  l1 l2 l3 l4 l6 l7 t0 u = some (oZ, hZ)) : xW sc m_Numbers_perform (d + 10) Q (u) 79 [none, some (vR l1), some (vR l2), some (vR l3), some (vR l4), none, some (vI l6), some (vI l7)] [vR t0] := by
  unfold f_Numbers_perform_b79 at h
  refine x_iconst (v := (0 : Int32)) (pc := 79) d_Numbers_perform_79 (by decide) ?_
  exact w_Numbers_perform_b80 hQ l1 l2 l3 l4 l6 l7 (0 : Int32) t0 u h
def f_Numbers_perform_b47 (sc : xSc)  (l1 : Option Nat) (l2 : Option Nat) (l3 : Option Nat) (l4 : Option Nat) (l6 : Int32) (t0 : Int32) (u : xH) : Option ((Unit ⊕ Nat) × xH) := (if t0 = 0 then (if xis sc u 2 l3 = true then (f_Slot_isNumber sc u l3).bind fun v3 => (if v3 = 0 then f_Numbers_perform_b79 sc l1 l2 l3 l4 l6 t0 l1 u else (if xis sc u 2 l4 = true then (f_Slot_isNumber sc u l4).bind fun v7 => (if v7 = 0 then f_Numbers_perform_b79 sc l1 l2 l3 l4 l6 t0 l1 u else f_Numbers_perform_b80 sc l1 l2 l3 l4 l6 t0 (1 : Int32) l1 u) else none)) else none) else f_Numbers_perform_b80 sc l1 l2 l3 l4 l6 t0 l6 l1 u)
theorem w_Numbers_perform_b47 {sc : xSc} {d : Nat} {Q : xR → xH → Prop} {oZ : Unit ⊕ Nat} {hZ : xH}  (hQ : Q (cvU oZ) hZ) (l1 : Option Nat) (l2 : Option Nat) (l3 : Option Nat) (l4 : Option Nat) (l6 : Int32) (t0 : Int32) (u : xH) (h : f_Numbers_perform_b47 sc  l1 l2 l3 l4 l6 t0 u = some (oZ, hZ)) : xW sc m_Numbers_perform (d + 10) Q (u) 47 [none, some (vR l1), some (vR l2), some (vR l3), some (vR l4), none, some (vI l6), none] [vI t0] := by
  unfold f_Numbers_perform_b47 at h
  refine x_istore (pc := 47) d_Numbers_perform_47 (by decide) ?_
  show xW sc m_Numbers_perform (d + 10) Q (u) 49 [none, some (vR l1), some (vR l2), some (vR l3), some (vR l4), none, some (vI l6), some (vI t0)] []
  refine x_aload_n (pc := 49) d_Numbers_perform_49 rfl ?_
  refine x_iload (pc := 50) d_Numbers_perform_50 rfl ?_
  refine x_if_eq (tgt := 60) (pc := 52) d_Numbers_perform_52 (by decide) (fun c1 => ?_) (fun c1 => ?_)
  · rw [if_pos c1] at h
    refine x_aload_n (pc := 60) d_Numbers_perform_60 rfl ?_
    obtain ⟨c2, h⟩ := ite_some h
    obtain ⟨v3, e4, h⟩ := Option.bind_eq_some_iff.mp h
    refine c_invv (c := 2) (d := d + 9) (av := []) (st := [vR l1]) (Q' := fun r h' => r = .inl (some (vI v3)) ∧ h' = u) (pc := 61) d_Numbers_perform_61 cv_Numbers_30 y_Slot_isNumber c2 rfl (Nat.le_of_ble_eq_true rfl) (Nat.le_of_ble_eq_true rfl) (w_Slot_isNumber (d := d + 9) (Q := fun r h' => r = .inl (some (vI v3)) ∧ h' = u) ⟨rfl, rfl⟩ l3 e4) (fun v h' z => ?_) (fun a h' z => nomatch z.1)
    obtain ⟨z1, z2⟩ := z
    subst h'
    cases z1
    show xW sc m_Numbers_perform (d + 10) Q (u) 64 [none, some (vR l1), some (vR l2), some (vR l3), some (vR l4), none, some (vI l6), some (vI t0)] [vI v3, vR l1]
    refine x_if_eq (tgt := 79) (pc := 64) d_Numbers_perform_64 (by decide) (fun c5 => ?_) (fun c5 => ?_)
    · rw [if_pos c5] at h
      exact w_Numbers_perform_b79 hQ l1 l2 l3 l4 l6 t0 l1 u h
    · rw [if_neg c5] at h
      refine x_aload (pc := 67) d_Numbers_perform_67 rfl ?_
      obtain ⟨c6, h⟩ := ite_some h
      obtain ⟨v7, e8, h⟩ := Option.bind_eq_some_iff.mp h
      refine c_invv (c := 2) (d := d + 9) (av := []) (st := [vR l1]) (Q' := fun r h' => r = .inl (some (vI v7)) ∧ h' = u) (pc := 69) d_Numbers_perform_69 cv_Numbers_30 y_Slot_isNumber c6 rfl (Nat.le_of_ble_eq_true rfl) (Nat.le_of_ble_eq_true rfl) (w_Slot_isNumber (d := d + 9) (Q := fun r h' => r = .inl (some (vI v7)) ∧ h' = u) ⟨rfl, rfl⟩ l4 e8) (fun v h' z => ?_) (fun a h' z => nomatch z.1)
      obtain ⟨z1, z2⟩ := z
      subst h'
      cases z1
      show xW sc m_Numbers_perform (d + 10) Q (u) 72 [none, some (vR l1), some (vR l2), some (vR l3), some (vR l4), none, some (vI l6), some (vI t0)] [vI v7, vR l1]
      refine x_if_eq (tgt := 79) (pc := 72) d_Numbers_perform_72 (by decide) (fun c9 => ?_) (fun c9 => ?_)
      · rw [if_pos c9] at h
        exact w_Numbers_perform_b79 hQ l1 l2 l3 l4 l6 t0 l1 u h
      · rw [if_neg c9] at h
        refine x_iconst (v := (1 : Int32)) (pc := 75) d_Numbers_perform_75 (by decide) ?_
        refine x_goto (tgt := 80) (pc := 76) d_Numbers_perform_76 (by decide) ?_
        exact w_Numbers_perform_b80 hQ l1 l2 l3 l4 l6 t0 (1 : Int32) l1 u h
  · rw [if_neg c1] at h
    refine x_iload (pc := 55) d_Numbers_perform_55 rfl ?_
    refine x_goto (tgt := 80) (pc := 57) d_Numbers_perform_57 (by decide) ?_
    exact w_Numbers_perform_b80 hQ l1 l2 l3 l4 l6 t0 l6 l1 u h
def f_Numbers_perform_b42 (sc : xSc)  (l1 : Option Nat) (l2 : Option Nat) (l3 : Option Nat) (l4 : Option Nat) (l6 : Int32) (u : xH) : Option ((Unit ⊕ Nat) × xH) := f_Numbers_perform_b47 sc l1 l2 l3 l4 l6 (1 : Int32) u
theorem w_Numbers_perform_b42 {sc : xSc} {d : Nat} {Q : xR → xH → Prop} {oZ : Unit ⊕ Nat} {hZ : xH}  (hQ : Q (cvU oZ) hZ) (l1 : Option Nat) (l2 : Option Nat) (l3 : Option Nat) (l4 : Option Nat) (l6 : Int32) (u : xH) (h : f_Numbers_perform_b42 sc  l1 l2 l3 l4 l6 u = some (oZ, hZ)) : xW sc m_Numbers_perform (d + 10) Q (u) 42 [none, some (vR l1), some (vR l2), some (vR l3), some (vR l4), none, some (vI l6), none] [] := by
  unfold f_Numbers_perform_b42 at h
  refine x_iconst (v := (1 : Int32)) (pc := 42) d_Numbers_perform_42 (by decide) ?_
  refine x_goto (tgt := 47) (pc := 43) d_Numbers_perform_43 (by decide) ?_
  exact w_Numbers_perform_b47 hQ l1 l2 l3 l4 l6 (1 : Int32) u h
def f_Numbers_perform_b26 (sc : xSc)  (l1 : Option Nat) (l2 : Option Nat) (l3 : Option Nat) (l4 : Option Nat) (t0 : Int32) (u : xH) : Option ((Unit ⊕ Nat) × xH) := (if xcm l2 = true then (if xcm (some 16) = true then (if l2 = (some 16) then f_Numbers_perform_b42 sc l1 l2 l3 l4 t0 u else (if xcm l2 = true then (if xcm (some 17) = true then (if l2 = (some 17) then f_Numbers_perform_b42 sc l1 l2 l3 l4 t0 u else f_Numbers_perform_b47 sc l1 l2 l3 l4 t0 (0 : Int32) u) else none) else none)) else none) else none)
theorem w_Numbers_perform_b26 {sc : xSc} {d : Nat} {Q : xR → xH → Prop} {oZ : Unit ⊕ Nat} {hZ : xH}  (hQ : Q (cvU oZ) hZ) (l1 : Option Nat) (l2 : Option Nat) (l3 : Option Nat) (l4 : Option Nat) (t0 : Int32) (u : xH) (h : f_Numbers_perform_b26 sc  l1 l2 l3 l4 t0 u = some (oZ, hZ)) : xW sc m_Numbers_perform (d + 10) Q (u) 26 [none, some (vR l1), some (vR l2), some (vR l3), some (vR l4), none, none, none] [vI t0] := by
  unfold f_Numbers_perform_b26 at h
  refine x_istore (pc := 26) d_Numbers_perform_26 (by decide) ?_
  show xW sc m_Numbers_perform (d + 10) Q (u) 28 [none, some (vR l1), some (vR l2), some (vR l3), some (vR l4), none, some (vI t0), none] []
  refine x_aload_n (pc := 28) d_Numbers_perform_28 rfl ?_
  refine x_gets (v := vR (some 16)) (pc := 29) d_Numbers_perform_29 sl_Numbers_21 ?_
  obtain ⟨c1, h⟩ := ite_some h
  obtain ⟨c2, h⟩ := ite_some h
  refine x_acmp_eq (tgt := 42) (pc := 32) d_Numbers_perform_32 (by decide) (xcm_s c1) (xcm_s c2) (fun c3 => ?_) (fun c3 => ?_)
  · rw [if_pos c3] at h
    exact w_Numbers_perform_b42 hQ l1 l2 l3 l4 t0 u h
  · rw [if_neg c3] at h
    refine x_aload_n (pc := 35) d_Numbers_perform_35 rfl ?_
    refine x_gets (v := vR (some 17)) (pc := 36) d_Numbers_perform_36 sl_Numbers_27 ?_
    obtain ⟨c4, h⟩ := ite_some h
    obtain ⟨c5, h⟩ := ite_some h
    refine x_acmp_ne (tgt := 46) (pc := 39) d_Numbers_perform_39 (by decide) (xcm_s c4) (xcm_s c5) (fun c6 => ?_) (fun c6 => ?_)
    · rw [if_neg c6] at h
      refine x_iconst (v := (0 : Int32)) (pc := 46) d_Numbers_perform_46 (by decide) ?_
      exact w_Numbers_perform_b47 hQ l1 l2 l3 l4 t0 (0 : Int32) u h
    · rw [if_pos c6] at h
      exact w_Numbers_perform_b42 hQ l1 l2 l3 l4 t0 u h
def f_Numbers_perform_b25 (sc : xSc)  (l1 : Option Nat) (l2 : Option Nat) (l3 : Option Nat) (l4 : Option Nat) (u : xH) : Option ((Unit ⊕ Nat) × xH) := f_Numbers_perform_b26 sc l1 l2 l3 l4 (0 : Int32) u
theorem w_Numbers_perform_b25 {sc : xSc} {d : Nat} {Q : xR → xH → Prop} {oZ : Unit ⊕ Nat} {hZ : xH}  (hQ : Q (cvU oZ) hZ) (l1 : Option Nat) (l2 : Option Nat) (l3 : Option Nat) (l4 : Option Nat) (u : xH) (h : f_Numbers_perform_b25 sc  l1 l2 l3 l4 u = some (oZ, hZ)) : xW sc m_Numbers_perform (d + 10) Q (u) 25 [none, some (vR l1), some (vR l2), some (vR l3), some (vR l4), none, none, none] [] := by
  unfold f_Numbers_perform_b25 at h
  refine x_iconst (v := (0 : Int32)) (pc := 25) d_Numbers_perform_25 (by decide) ?_
  exact w_Numbers_perform_b26 hQ l1 l2 l3 l4 (0 : Int32) u h
def f_Numbers_perform (sc : xSc) (u : xH) (a0 : Option Nat) (a1 : Option Nat) (a2 : Option Nat) (a3 : Option Nat) (a4 : Option Nat) (a5 : Int32) : Option ((Unit ⊕ Nat) × xH) := (if xis sc u 2 a3 = true then (f_Slot_is sc u a3 (some 72)).bind fun v2 => (if v2 = 0 then f_Numbers_perform_b25 sc a1 a2 a3 a4 u else (if xis sc u 2 a4 = true then (f_Slot_is sc u a4 (some 72)).bind fun v6 => (if v6 = 0 then f_Numbers_perform_b25 sc a1 a2 a3 a4 u else f_Numbers_perform_b26 sc a1 a2 a3 a4 (1 : Int32) u) else none)) else none)
theorem w_Numbers_perform {sc : xSc} {d : Nat} {Q : xR → xH → Prop} {oZ : Unit ⊕ Nat} {hZ : xH} (hQ : Q (cvU oZ) hZ) (u : xH) (a0 : Option Nat) (a1 : Option Nat) (a2 : Option Nat) (a3 : Option Nat) (a4 : Option Nat) (a5 : Int32) (h : f_Numbers_perform sc u a0 a1 a2 a3 a4 a5 = some (oZ, hZ)) : xW sc m_Numbers_perform (d + 10) Q (u) 0 (xent [vR a0, vR a1, vR a2, vR a3, vR a4, vI a5] m_Numbers_perform.2.2.1) [] := by
  show xW sc m_Numbers_perform (d + 10) Q (u) 0 [some (vR a0), some (vR a1), some (vR a2), some (vR a3), some (vR a4), some (vI a5), none, none] []
  unfold f_Numbers_perform at h
  refine x_aload_n (pc := 0) d_Numbers_perform_0 rfl ?_
  refine x_gets (v := vR (some 72)) (pc := 1) d_Numbers_perform_1 sl_Numbers_9 ?_
  obtain ⟨c1, h⟩ := ite_some h
  obtain ⟨v2, e3, h⟩ := Option.bind_eq_some_iff.mp h
  refine c_invv (c := 2) (d := d + 9) (av := [vR (some 72)]) (st := []) (Q' := fun r h' => r = .inl (some (vI v2)) ∧ h' = u) (pc := 4) d_Numbers_perform_4 cv_Numbers_15 y_Slot_is c1 rfl (Nat.le_of_ble_eq_true rfl) (Nat.le_of_ble_eq_true rfl) (w_Slot_is (d := d + 9) (Q := fun r h' => r = .inl (some (vI v2)) ∧ h' = u) ⟨rfl, rfl⟩ a3 (some 72) e3) (fun v h' z => ?_) (fun a h' z => nomatch z.1)
  obtain ⟨z1, z2⟩ := z
  subst h'
  cases z1
  show xW sc m_Numbers_perform (d + 10) Q (u) 7 [some (vR a0), some (vR a1), some (vR a2), some (vR a3), some (vR a4), some (vI a5), none, none] [vI v2]
  refine x_if_eq (tgt := 25) (pc := 7) d_Numbers_perform_7 (by decide) (fun c4 => ?_) (fun c4 => ?_)
  · rw [if_pos c4] at h
    exact x_wk (L' := [none, some (vR a1), some (vR a2), some (vR a3), some (vR a4), none, none, none]) ⟨Or.inl rfl, Or.inr rfl, Or.inr rfl, Or.inr rfl, Or.inr rfl, Or.inl rfl, Or.inl rfl, Or.inl rfl, trivial⟩ (w_Numbers_perform_b25 hQ a1 a2 a3 a4 u h)
  · rw [if_neg c4] at h
    refine x_aload (pc := 10) d_Numbers_perform_10 rfl ?_
    refine x_gets (v := vR (some 72)) (pc := 12) d_Numbers_perform_12 sl_Numbers_9 ?_
    obtain ⟨c5, h⟩ := ite_some h
    obtain ⟨v6, e7, h⟩ := Option.bind_eq_some_iff.mp h
    refine c_invv (c := 2) (d := d + 9) (av := [vR (some 72)]) (st := []) (Q' := fun r h' => r = .inl (some (vI v6)) ∧ h' = u) (pc := 15) d_Numbers_perform_15 cv_Numbers_15 y_Slot_is c5 rfl (Nat.le_of_ble_eq_true rfl) (Nat.le_of_ble_eq_true rfl) (w_Slot_is (d := d + 9) (Q := fun r h' => r = .inl (some (vI v6)) ∧ h' = u) ⟨rfl, rfl⟩ a4 (some 72) e7) (fun v h' z => ?_) (fun a h' z => nomatch z.1)
    obtain ⟨z1, z2⟩ := z
    subst h'
    cases z1
    show xW sc m_Numbers_perform (d + 10) Q (u) 18 [some (vR a0), some (vR a1), some (vR a2), some (vR a3), some (vR a4), some (vI a5), none, none] [vI v6]
    refine x_if_eq (tgt := 25) (pc := 18) d_Numbers_perform_18 (by decide) (fun c8 => ?_) (fun c8 => ?_)
    · rw [if_pos c8] at h
      exact x_wk (L' := [none, some (vR a1), some (vR a2), some (vR a3), some (vR a4), none, none, none]) ⟨Or.inl rfl, Or.inr rfl, Or.inr rfl, Or.inr rfl, Or.inr rfl, Or.inl rfl, Or.inl rfl, Or.inl rfl, trivial⟩ (w_Numbers_perform_b25 hQ a1 a2 a3 a4 u h)
    · rw [if_neg c8] at h
      refine x_iconst (v := (1 : Int32)) (pc := 21) d_Numbers_perform_21 (by decide) ?_
      refine x_goto (tgt := 26) (pc := 22) d_Numbers_perform_22 (by decide) ?_
      exact x_wk (L' := [none, some (vR a1), some (vR a2), some (vR a3), some (vR a4), none, none, none]) ⟨Or.inl rfl, Or.inr rfl, Or.inr rfl, Or.inr rfl, Or.inr rfl, Or.inl rfl, Or.inl rfl, Or.inl rfl, trivial⟩ (w_Numbers_perform_b26 hQ a1 a2 a3 a4 (1 : Int32) u h)
def f_P_swap (sc : xSc) (u : xH) (a0 : Option Nat) (a1 : Int32) (a2 : Int32) : Option xH := (gR sc u 0 6 a0).bind fun v1 => (aR sc u v1 a1).bind fun v3 => (gR sc u 0 6 a0).bind fun v5 => (gR sc u 0 6 a0).bind fun v7 => (aR sc u v7 a2).bind fun v9 => (bR "PageScribe$Slot" 2 sc u v5 a1 v9).bind fun u11 => (gR sc u11 0 6 a0).bind fun v13 => (bR "PageScribe$Slot" 2 sc u11 v13 a2 v3).bind fun u15 => some u15
theorem w_P_swap {sc : xSc} {d : Nat} {Q : xR → xH → Prop} {hZ : xH} (hQ : Q (.inl none) hZ) (u : xH) (a0 : Option Nat) (a1 : Int32) (a2 : Int32) (h : f_P_swap sc u a0 a1 a2 = some hZ) : xW sc m_P_swap (d + 0) Q (u) 0 (xent [vR a0, vI a1, vI a2] m_P_swap.2.2.1) [] := by
  show xW sc m_P_swap (d + 0) Q (u) 0 [some (vR a0), some (vI a1), some (vI a2), none] []
  unfold f_P_swap at h
  refine x_aload_n (pc := 0) d_P_swap_0 rfl ?_
  obtain ⟨v1, e2, h⟩ := Option.bind_eq_some_iff.mp h
  refine c_getR (pc := 1) d_P_swap_1 l_P_53 e2 ?_
  refine x_iload_n (pc := 4) d_P_swap_4 rfl ?_
  obtain ⟨v3, e4, h⟩ := Option.bind_eq_some_iff.mp h
  refine c_aald (pc := 5) d_P_swap_5 e4 ?_
  refine x_astore_n (pc := 6) d_P_swap_6 (by decide) ?_
  show xW sc m_P_swap (d + 0) Q (u) 7 [some (vR a0), some (vI a1), some (vI a2), some (vR v3)] []
  refine x_aload_n (pc := 7) d_P_swap_7 rfl ?_
  obtain ⟨v5, e6, h⟩ := Option.bind_eq_some_iff.mp h
  refine c_getR (pc := 8) d_P_swap_8 l_P_53 e6 ?_
  refine x_iload_n (pc := 11) d_P_swap_11 rfl ?_
  refine x_aload_n (pc := 12) d_P_swap_12 rfl ?_
  obtain ⟨v7, e8, h⟩ := Option.bind_eq_some_iff.mp h
  refine c_getR (pc := 13) d_P_swap_13 l_P_53 e8 ?_
  refine x_iload_n (pc := 16) d_P_swap_16 rfl ?_
  obtain ⟨v9, e10, h⟩ := Option.bind_eq_some_iff.mp h
  refine c_aald (pc := 17) d_P_swap_17 e10 ?_
  obtain ⟨u11, e12, h⟩ := Option.bind_eq_some_iff.mp h
  refine c_aast (C := "PageScribe$Slot") (c := 2) (pc := 18) d_P_swap_18 ⟨_, rfl, Or.inl ⟨rfl, by decide, by decide⟩⟩ e12 ?_
  refine x_aload_n (pc := 19) d_P_swap_19 rfl ?_
  obtain ⟨v13, e14, h⟩ := Option.bind_eq_some_iff.mp h
  refine c_getR (pc := 20) d_P_swap_20 l_P_53 e14 ?_
  refine x_iload_n (pc := 23) d_P_swap_23 rfl ?_
  refine x_aload_n (pc := 24) d_P_swap_24 rfl ?_
  obtain ⟨u15, e16, h⟩ := Option.bind_eq_some_iff.mp h
  refine c_aast (C := "PageScribe$Slot") (c := 2) (pc := 25) d_P_swap_25 ⟨_, rfl, Or.inl ⟨rfl, by decide, by decide⟩⟩ e16 ?_
  cases h
  exact x_vret (pc := 26) d_P_swap_26 rfl hQ
def f_P_about_b5 (sc : xSc)  : Nat → Option Nat → Int32 → Int32 → xH → Option xH
  | 0, _, _, _, _ => none
  | n + 1, l0, l3, l4, u => (if l4 ≤ l3 then some u else (if xis sc u 0 l0 = true then (f_P_swap sc u l0 l3 l4).bind fun u3 => (f_P_about_b5 sc n) l0 (l3 + Int32.ofInt 1) (l4 + Int32.ofInt (-1)) u3 else none))
theorem w_P_about_b5 {sc : xSc} {d : Nat} {Q : xR → xH → Prop} {hZ : xH}  (hQ : Q (.inl none) hZ) : ∀ (n : Nat) (l0 : Option Nat) (l3 : Int32) (l4 : Int32) (u : xH), f_P_about_b5 sc  n l0 l3 l4 u = some hZ → xW sc m_P_about (d + 1) Q (u) 5 [some (vR l0), none, none, some (vI l3), some (vI l4)] [] := by
  intro n
  induction n with
  | zero =>
    intro l0 l3 l4 u h
    cases h
  | succ n hk5 =>
    intro l0 l3 l4 u h
    unfold f_P_about_b5 at h
    refine x_iload_n (pc := 5) d_P_about_5 rfl ?_
    refine x_iload (pc := 6) d_P_about_6 rfl ?_
    refine x_icmp_ge (tgt := 27) (pc := 8) d_P_about_8 (by decide) (fun c1 => ?_) (fun c1 => ?_)
    · rw [if_pos c1] at h
      cases h
      exact x_vret (pc := 27) d_P_about_27 rfl hQ
    · rw [if_neg c1] at h
      refine x_aload_n (pc := 11) d_P_about_11 rfl ?_
      refine x_iload_n (pc := 12) d_P_about_12 rfl ?_
      refine x_iload (pc := 13) d_P_about_13 rfl ?_
      obtain ⟨c2, h⟩ := ite_some h
      obtain ⟨u3, e4, h⟩ := Option.bind_eq_some_iff.mp h
      refine c_invv (c := 0) (d := d + 0) (av := [vI l3, vI l4]) (st := []) (Q' := fun r h' => r = .inl none ∧ h' = u3) (pc := 15) d_P_about_15 cv_P_228 y_P_swap c2 rfl (Nat.le_of_ble_eq_true rfl) (Nat.le_of_ble_eq_true rfl) (w_P_swap (d := d + 0) (Q := fun r h' => r = .inl none ∧ h' = u3) ⟨rfl, rfl⟩ u l0 l3 l4 e4) (fun v h' z => ?_) (fun a h' z => nomatch z.1)
      obtain ⟨z1, z2⟩ := z
      subst h'
      cases z1
      show xW sc m_P_about (d + 1) Q (u3) 18 [some (vR l0), none, none, some (vI l3), some (vI l4)] []
      refine x_iinc (pc := 18) d_P_about_18 rfl (by decide) ?_
      show xW sc m_P_about (d + 1) Q (u3) 21 [some (vR l0), none, none, some (vI (l3 + Int32.ofInt 1)), some (vI l4)] []
      refine x_iinc (pc := 21) d_P_about_21 rfl (by decide) ?_
      show xW sc m_P_about (d + 1) Q (u3) 24 [some (vR l0), none, none, some (vI (l3 + Int32.ofInt 1)), some (vI (l4 + Int32.ofInt (-1)))] []
      refine x_goto (tgt := 5) (pc := 24) d_P_about_24 (by decide) ?_
      exact hk5 l0 (l3 + Int32.ofInt 1) (l4 + Int32.ofInt (-1)) u3 h
def f_P_about (sc : xSc) (u : xH) (a0 : Option Nat) (a1 : Int32) (a2 : Int32) : Option xH := f_P_about_b5 sc mF a0 a1 a2 u
theorem w_P_about {sc : xSc} {d : Nat} {Q : xR → xH → Prop} {hZ : xH} (hQ : Q (.inl none) hZ) (u : xH) (a0 : Option Nat) (a1 : Int32) (a2 : Int32) (h : f_P_about sc u a0 a1 a2 = some hZ) : xW sc m_P_about (d + 1) Q (u) 0 (xent [vR a0, vI a1, vI a2] m_P_about.2.2.1) [] := by
  show xW sc m_P_about (d + 1) Q (u) 0 [some (vR a0), some (vI a1), some (vI a2), none, none] []
  unfold f_P_about at h
  refine x_iload_n (pc := 0) d_P_about_0 rfl ?_
  refine x_istore_n (pc := 1) d_P_about_1 (by decide) ?_
  show xW sc m_P_about (d + 1) Q (u) 2 [some (vR a0), some (vI a1), some (vI a2), some (vI a1), none] []
  refine x_iload_n (pc := 2) d_P_about_2 rfl ?_
  refine x_istore (pc := 3) d_P_about_3 (by decide) ?_
  show xW sc m_P_about (d + 1) Q (u) 5 [some (vR a0), some (vI a1), some (vI a2), some (vI a1), some (vI a2)] []
  exact x_wk (L' := [some (vR a0), none, none, some (vI a1), some (vI a2)]) ⟨Or.inr rfl, Or.inl rfl, Or.inl rfl, Or.inr rfl, Or.inr rfl, trivial⟩ (w_P_about_b5 hQ mF a0 a1 a2 u h)
def f_P_here_b29 (sc : xSc) (u : xH)  (t0 : Int32) : Option Int32 := (if xch t0 = true then some t0 else none)
theorem w_P_here_b29 {sc : xSc} {d : Nat} {Q : xR → xH → Prop} {u : xH} {rZ : Int32}  (hQ : Q (.inl (some (vI rZ))) u) (t0 : Int32) (h : f_P_here_b29 sc u  t0 = some rZ) : xW sc m_P_here (d + 4) Q (u) 29 [none] [vI t0] := by
  unfold f_P_here_b29 at h
  obtain ⟨c1, h⟩ := ite_some h
  cases h
  exact x_iret (ty := .char) (pc := 29) d_P_here_29 rfl (xch_n c1) hQ
def f_P_here (sc : xSc) (u : xH) (a0 : Option Nat) : Option Int32 := (gI sc u 0 5 a0).bind fun v1 => (gR sc u 0 2 a0).bind fun v3 => (if xis sc u 16 v3 = true then (f_StringBuilder_length sc u v3).bind fun v6 => (if v6 ≤ v1 then f_P_here_b29 sc u (0 : Int32) else (gR sc u 0 2 a0).bind fun v9 => (gI sc u 0 5 a0).bind fun v11 => (if xis sc u 16 v9 = true then (f_StringBuilder_charAt sc u v9 v11).bind fun v14 => f_P_here_b29 sc u v14 else none)) else none)
theorem w_P_here {sc : xSc} {d : Nat} {Q : xR → xH → Prop} {u : xH} {rZ : Int32} (hQ : Q (.inl (some (vI rZ))) u) (a0 : Option Nat) (h : f_P_here sc u a0 = some rZ) : xW sc m_P_here (d + 4) Q (u) 0 (xent [vR a0] m_P_here.2.2.1) [] := by
  show xW sc m_P_here (d + 4) Q (u) 0 [some (vR a0)] []
  unfold f_P_here at h
  refine x_aload_n (pc := 0) d_P_here_0 rfl ?_
  obtain ⟨v1, e2, h⟩ := Option.bind_eq_some_iff.mp h
  refine c_getI (pc := 1) d_P_here_1 l_P_393 e2 ?_
  refine x_aload_n (pc := 4) d_P_here_4 rfl ?_
  obtain ⟨v3, e4, h⟩ := Option.bind_eq_some_iff.mp h
  refine c_getR (pc := 5) d_P_here_5 l_P_44 e4 ?_
  obtain ⟨c5, h⟩ := ite_some h
  obtain ⟨v6, e7, h⟩ := Option.bind_eq_some_iff.mp h
  refine c_invv (c := 16) (d := d + 3) (av := []) (st := [vI v1]) (Q' := fun r h' => r = .inl (some (vI v6)) ∧ h' = u) (pc := 8) d_P_here_8 cv_P_396 y_StringBuilder_length c5 rfl (Nat.le_of_ble_eq_true rfl) (Nat.le_of_ble_eq_true rfl) (w_StringBuilder_length (d := d + 2) (Q := fun r h' => r = .inl (some (vI v6)) ∧ h' = u) ⟨rfl, rfl⟩ v3 e7) (fun v h' z => ?_) (fun a h' z => nomatch z.1)
  obtain ⟨z1, z2⟩ := z
  subst h'
  cases z1
  show xW sc m_P_here (d + 4) Q (u) 11 [some (vR a0)] [vI v6, vI v1]
  refine x_icmp_ge (tgt := 28) (pc := 11) d_P_here_11 (by decide) (fun c8 => ?_) (fun c8 => ?_)
  · rw [if_pos c8] at h
    refine x_iconst (v := (0 : Int32)) (pc := 28) d_P_here_28 (by decide) ?_
    exact x_wk (L' := [none]) ⟨Or.inl rfl, trivial⟩ (w_P_here_b29 hQ (0 : Int32) h)
  · rw [if_neg c8] at h
    refine x_aload_n (pc := 14) d_P_here_14 rfl ?_
    obtain ⟨v9, e10, h⟩ := Option.bind_eq_some_iff.mp h
    refine c_getR (pc := 15) d_P_here_15 l_P_44 e10 ?_
    refine x_aload_n (pc := 18) d_P_here_18 rfl ?_
    obtain ⟨v11, e12, h⟩ := Option.bind_eq_some_iff.mp h
    refine c_getI (pc := 19) d_P_here_19 l_P_393 e12 ?_
    obtain ⟨c13, h⟩ := ite_some h
    obtain ⟨v14, e15, h⟩ := Option.bind_eq_some_iff.mp h
    refine c_invv (c := 16) (d := d + 3) (av := [vI v11]) (st := []) (Q' := fun r h' => r = .inl (some (vI v14)) ∧ h' = u) (pc := 22) d_P_here_22 cv_P_397 y_StringBuilder_charAt c13 rfl (Nat.le_of_ble_eq_true rfl) (Nat.le_of_ble_eq_true rfl) (w_StringBuilder_charAt (d := d + 0) (Q := fun r h' => r = .inl (some (vI v14)) ∧ h' = u) ⟨rfl, rfl⟩ v9 v11 e15) (fun v h' z => ?_) (fun a h' z => nomatch z.1)
    obtain ⟨z1, z2⟩ := z
    subst h'
    cases z1
    show xW sc m_P_here (d + 4) Q (u) 25 [some (vR a0)] [vI v14]
    refine x_goto (tgt := 29) (pc := 25) d_P_here_25 (by decide) ?_
    exact x_wk (L' := [none]) ⟨Or.inl rfl, trivial⟩ (w_P_here_b29 hQ v14 h)
def f_P_blanks_b0 (sc : xSc)  : Nat → Option Nat → xH → Option xH
  | 0, _, _ => none
  | n + 1, l0, u => (if xis sc u 0 l0 = true then (f_P_here sc u l0).bind fun v2 => (if v2 = (32 : Int32) then (gI sc u 0 5 l0).bind fun v5 => (pV u 0 5 l0 (vI (v5 + (1 : Int32)))).bind fun u7 => (f_P_blanks_b0 sc n) l0 u7 else some u) else none)
theorem w_P_blanks_b0 {sc : xSc} {d : Nat} {Q : xR → xH → Prop} {hZ : xH}  (hQ : Q (.inl none) hZ) : ∀ (n : Nat) (l0 : Option Nat) (u : xH), f_P_blanks_b0 sc  n l0 u = some hZ → xW sc m_P_blanks (d + 5) Q (u) 0 [some (vR l0)] [] := by
  intro n
  induction n with
  | zero =>
    intro l0 u h
    cases h
  | succ n hk0 =>
    intro l0 u h
    unfold f_P_blanks_b0 at h
    refine x_aload_n (pc := 0) d_P_blanks_0 rfl ?_
    obtain ⟨c1, h⟩ := ite_some h
    obtain ⟨v2, e3, h⟩ := Option.bind_eq_some_iff.mp h
    refine c_invv (c := 0) (d := d + 4) (av := []) (st := []) (Q' := fun r h' => r = .inl (some (vI v2)) ∧ h' = u) (pc := 1) d_P_blanks_1 cv_P_398 y_P_here c1 rfl (Nat.le_of_ble_eq_true rfl) (Nat.le_of_ble_eq_true rfl) (w_P_here (d := d + 0) (Q := fun r h' => r = .inl (some (vI v2)) ∧ h' = u) ⟨rfl, rfl⟩ l0 e3) (fun v h' z => ?_) (fun a h' z => nomatch z.1)
    obtain ⟨z1, z2⟩ := z
    subst h'
    cases z1
    show xW sc m_P_blanks (d + 5) Q (u) 4 [some (vR l0)] [vI v2]
    refine x_bipush (v := (32 : Int32)) (pc := 4) d_P_blanks_4 (by decide) ?_
    refine x_icmp_ne (tgt := 22) (pc := 6) d_P_blanks_6 (by decide) (fun c4 => ?_) (fun c4 => ?_)
    · rw [if_neg c4] at h
      cases h
      exact x_vret (pc := 22) d_P_blanks_22 rfl hQ
    · rw [if_pos c4] at h
      refine x_aload_n (pc := 9) d_P_blanks_9 rfl ?_
      refine x_dup (pc := 10) d_P_blanks_10 rfl ?_
      obtain ⟨v5, e6, h⟩ := Option.bind_eq_some_iff.mp h
      refine c_getI (pc := 11) d_P_blanks_11 l_P_393 e6 ?_
      refine x_iconst (v := (1 : Int32)) (pc := 14) d_P_blanks_14 (by decide) ?_
      refine x_iadd (pc := 15) d_P_blanks_15 ?_
      obtain ⟨u7, e8, h⟩ := Option.bind_eq_some_iff.mp h
      refine c_putf (pc := 16) d_P_blanks_16 l_P_393 fp_0_5 (xfit_int) e8 ?_
      refine x_goto (tgt := 0) (pc := 19) d_P_blanks_19 (by decide) ?_
      exact hk0 l0 u7 h
def f_P_blanks (sc : xSc) (u : xH) (a0 : Option Nat) : Option xH := f_P_blanks_b0 sc mF a0 u
theorem w_P_blanks {sc : xSc} {d : Nat} {Q : xR → xH → Prop} {hZ : xH} (hQ : Q (.inl none) hZ) (u : xH) (a0 : Option Nat) (h : f_P_blanks sc u a0 = some hZ) : xW sc m_P_blanks (d + 5) Q (u) 0 (xent [vR a0] m_P_blanks.2.2.1) [] := by
  show xW sc m_P_blanks (d + 5) Q (u) 0 [some (vR a0)] []
  unfold f_P_blanks at h
  exact w_P_blanks_b0 hQ mF a0 u h
def f_P_bucket  (a1 : Int32) (a2 : Int32) (a3 : Int32) : Option Int32 := (if (32 : Int32) = 0 then none else some ((((a1 * (7 : Int32)) + (a2 * (3 : Int32))) + a3) - (((a1 * (7 : Int32)) + (a2 * (3 : Int32))) + a3) / (32 : Int32) * (32 : Int32)))
theorem w_P_bucket {sc : xSc} {d : Nat} {Q : xR → xH → Prop} {hh : xH} {rZ : Int32} (hQ : Q (.inl (some (vI rZ))) hh) (a1 : Int32) (a2 : Int32) (a3 : Int32) (h : f_P_bucket  a1 a2 a3 = some rZ) : xW sc m_P_bucket (d + 0) Q (hh) 0 (xent [vI a1, vI a2, vI a3] m_P_bucket.2.2.1) [] := by
  show xW sc m_P_bucket (d + 0) Q (hh) 0 [some (vI a1), some (vI a2), some (vI a3)] []
  unfold f_P_bucket at h
  refine x_iload_n (pc := 0) d_P_bucket_0 rfl ?_
  refine x_bipush (v := (7 : Int32)) (pc := 1) d_P_bucket_1 (by decide) ?_
  refine x_imul (pc := 3) d_P_bucket_3 ?_
  refine x_iload_n (pc := 4) d_P_bucket_4 rfl ?_
  refine x_iconst (v := (3 : Int32)) (pc := 5) d_P_bucket_5 (by decide) ?_
  refine x_imul (pc := 6) d_P_bucket_6 ?_
  refine x_iadd (pc := 7) d_P_bucket_7 ?_
  refine x_iload_n (pc := 8) d_P_bucket_8 rfl ?_
  refine x_iadd (pc := 9) d_P_bucket_9 ?_
  refine x_bipush (v := (32 : Int32)) (pc := 10) d_P_bucket_10 (by decide) ?_
  obtain ⟨c1, h⟩ := itn_some h
  refine x_irem (pc := 12) d_P_bucket_12 (c1) ?_
  cases h
  exact x_iret (ty := .int) (pc := 13) d_P_bucket_13 rfl (rfl) hQ
def f_P_depth (sc : xSc) (u : xH) (a0 : Option Nat) : Option Int32 := (gI sc u 0 9 a0).bind fun v1 => some v1
theorem w_P_depth {sc : xSc} {d : Nat} {Q : xR → xH → Prop} {u : xH} {rZ : Int32} (hQ : Q (.inl (some (vI rZ))) u) (a0 : Option Nat) (h : f_P_depth sc u a0 = some rZ) : xW sc m_P_depth (d + 0) Q (u) 0 (xent [vR a0] m_P_depth.2.2.1) [] := by
  show xW sc m_P_depth (d + 0) Q (u) 0 [some (vR a0)] []
  unfold f_P_depth at h
  refine x_aload_n (pc := 0) d_P_depth_0 rfl ?_
  obtain ⟨v1, e2, h⟩ := Option.bind_eq_some_iff.mp h
  refine c_getI (pc := 1) d_P_depth_1 l_P_174 e2 ?_
  cases h
  exact x_iret (ty := .int) (pc := 4) d_P_depth_4 rfl (rfl) hQ
def f_P_isDigit_b17   (t0 : Int32) : Option Int32 := (if xbo t0 = true then some t0 else none)
theorem w_P_isDigit_b17 {sc : xSc} {d : Nat} {Q : xR → xH → Prop} {hh : xH} {rZ : Int32}  (hQ : Q (.inl (some (vI rZ))) hh) (t0 : Int32) (h : f_P_isDigit_b17   t0 = some rZ) : xW sc m_P_isDigit (d + 0) Q (hh) 17 [none] [vI t0] := by
  unfold f_P_isDigit_b17 at h
  obtain ⟨c1, h⟩ := ite_some h
  cases h
  exact x_iret (ty := .boolean) (pc := 17) d_P_isDigit_17 rfl (xbo_n c1) hQ
def f_P_isDigit_b16    : Option Int32 := f_P_isDigit_b17 (0 : Int32)
theorem w_P_isDigit_b16 {sc : xSc} {d : Nat} {Q : xR → xH → Prop} {hh : xH} {rZ : Int32}  (hQ : Q (.inl (some (vI rZ))) hh)  (h : f_P_isDigit_b16    = some rZ) : xW sc m_P_isDigit (d + 0) Q (hh) 16 [none] [] := by
  unfold f_P_isDigit_b16 at h
  refine x_iconst (v := (0 : Int32)) (pc := 16) d_P_isDigit_16 (by decide) ?_
  exact w_P_isDigit_b17 hQ (0 : Int32) h
def f_P_isDigit  (a1 : Int32) : Option Int32 := (if a1 < (48 : Int32) then f_P_isDigit_b16 else (if (57 : Int32) < a1 then f_P_isDigit_b16 else f_P_isDigit_b17 (1 : Int32)))
theorem w_P_isDigit {sc : xSc} {d : Nat} {Q : xR → xH → Prop} {hh : xH} {rZ : Int32} (hQ : Q (.inl (some (vI rZ))) hh) (a1 : Int32) (h : f_P_isDigit  a1 = some rZ) : xW sc m_P_isDigit (d + 0) Q (hh) 0 (xent [vI a1] m_P_isDigit.2.2.1) [] := by
  show xW sc m_P_isDigit (d + 0) Q (hh) 0 [some (vI a1)] []
  unfold f_P_isDigit at h
  refine x_iload_n (pc := 0) d_P_isDigit_0 rfl ?_
  refine x_bipush (v := (48 : Int32)) (pc := 1) d_P_isDigit_1 (by decide) ?_
  refine x_icmp_lt (tgt := 16) (pc := 3) d_P_isDigit_3 (by decide) (fun c1 => ?_) (fun c1 => ?_)
  · rw [if_pos c1] at h
    exact x_wk (L' := [none]) ⟨Or.inl rfl, trivial⟩ (w_P_isDigit_b16 hQ h)
  · rw [if_neg c1] at h
    refine x_iload_n (pc := 6) d_P_isDigit_6 rfl ?_
    refine x_bipush (v := (57 : Int32)) (pc := 7) d_P_isDigit_7 (by decide) ?_
    refine x_icmp_gt (tgt := 16) (pc := 9) d_P_isDigit_9 (by decide) (fun c2 => ?_) (fun c2 => ?_)
    · rw [if_pos c2] at h
      exact x_wk (L' := [none]) ⟨Or.inl rfl, trivial⟩ (w_P_isDigit_b16 hQ h)
    · rw [if_neg c2] at h
      refine x_iconst (v := (1 : Int32)) (pc := 12) d_P_isDigit_12 (by decide) ?_
      refine x_goto (tgt := 17) (pc := 13) d_P_isDigit_13 (by decide) ?_
      exact x_wk (L' := [none]) ⟨Or.inl rfl, trivial⟩ (w_P_isDigit_b17 hQ (1 : Int32) h)
def f_P_next (sc : xSc) (u : xH) (a0 : Option Nat) : Option (Int32 × xH) := (gR sc u 0 2 a0).bind fun v1 => (gI sc u 0 5 a0).bind fun v3 => (pV u 0 5 a0 (vI (v3 + (1 : Int32)))).bind fun u5 => (if xis sc u5 16 v1 = true then (f_StringBuilder_charAt sc u5 v1 v3).bind fun v8 => (if xch v8 = true then some (v8, u5) else none) else none)
theorem w_P_next {sc : xSc} {d : Nat} {Q : xR → xH → Prop} {hZ : xH} {rZ : Int32} (hQ : Q (.inl (some (vI rZ))) hZ) (u : xH) (a0 : Option Nat) (h : f_P_next sc u a0 = some (rZ, hZ)) : xW sc m_P_next (d + 4) Q (u) 0 (xent [vR a0] m_P_next.2.2.1) [] := by
  show xW sc m_P_next (d + 4) Q (u) 0 [some (vR a0)] []
  unfold f_P_next at h
  refine x_aload_n (pc := 0) d_P_next_0 rfl ?_
  obtain ⟨v1, e2, h⟩ := Option.bind_eq_some_iff.mp h
  refine c_getR (pc := 1) d_P_next_1 l_P_44 e2 ?_
  refine x_aload_n (pc := 4) d_P_next_4 rfl ?_
  refine x_dup (pc := 5) d_P_next_5 rfl ?_
  obtain ⟨v3, e4, h⟩ := Option.bind_eq_some_iff.mp h
  refine c_getI (pc := 6) d_P_next_6 l_P_393 e4 ?_
  refine x_dup_x1 (pc := 9) d_P_next_9 rfl rfl ?_
  refine x_iconst (v := (1 : Int32)) (pc := 10) d_P_next_10 (by decide) ?_
  refine x_iadd (pc := 11) d_P_next_11 ?_
  obtain ⟨u5, e6, h⟩ := Option.bind_eq_some_iff.mp h
  refine c_putf (pc := 12) d_P_next_12 l_P_393 fp_0_5 (xfit_int) e6 ?_
  obtain ⟨c7, h⟩ := ite_some h
  obtain ⟨v8, e9, h⟩ := Option.bind_eq_some_iff.mp h
  refine c_invv (c := 16) (d := d + 3) (av := [vI v3]) (st := []) (Q' := fun r h' => r = .inl (some (vI v8)) ∧ h' = u5) (pc := 15) d_P_next_15 cv_P_397 y_StringBuilder_charAt c7 rfl (Nat.le_of_ble_eq_true rfl) (Nat.le_of_ble_eq_true rfl) (w_StringBuilder_charAt (d := d + 0) (Q := fun r h' => r = .inl (some (vI v8)) ∧ h' = u5) ⟨rfl, rfl⟩ v1 v3 e9) (fun v h' z => ?_) (fun a h' z => nomatch z.1)
  obtain ⟨z1, z2⟩ := z
  subst h'
  cases z1
  show xW sc m_P_next (d + 4) Q (u5) 18 [some (vR a0)] [vI v8]
  obtain ⟨c10, h⟩ := ite_some h
  cases h
  exact x_iret (ty := .char) (pc := 18) d_P_next_18 rfl (xch_n c10) hQ
def f_P_digits_b60 (sc : xSc)  (l2 : Int32) (t0 : Int32) (t1 : Option Nat) (u : xH) : Option ((Int32 ⊕ Nat) × xH) := (if xis sc u 0 t1 = true then tB (f_P_need sc u t1 t0 (15 : Int32)) (fun v3 u2 => some (.inl l2, u2)) (fun a5 u6 => some (.inr a5, u6)) else none)
theorem w_P_digits_b60 {sc : xSc} {d : Nat} {Q : xR → xH → Prop} {oZ : Int32 ⊕ Nat} {hZ : xH}  (hQ : Q (cvI oZ) hZ) (l2 : Int32) (t0 : Int32) (t1 : Option Nat) (u : xH) (h : f_P_digits_b60 sc  l2 t0 t1 u = some (oZ, hZ)) : xW sc m_P_digits (d + 7) Q (u) 60 [none, none, some (vI l2), none] [vI t0, vR t1] := by
  unfold f_P_digits_b60 at h
  refine x_bipush (v := (15 : Int32)) (pc := 60) d_P_digits_60 (by decide) ?_
  obtain ⟨c1, h⟩ := ite_some h
  rcases tB_s h with ⟨a5, u6, e4, h⟩ | ⟨v3, u2, e4, h⟩
  · refine c_invv (c := 0) (d := d + 6) (av := [vI t0, vI (15 : Int32)]) (st := []) (Q' := fun r h' => r = .inr a5 ∧ h' = u6) (pc := 62) d_P_digits_62 cv_P_170 y_P_need c1 rfl (Nat.le_of_ble_eq_true rfl) (Nat.le_of_ble_eq_true rfl) (w_P_need (d := d + 0) (Q := fun r h' => r = .inr a5 ∧ h' = u6) ⟨rfl, rfl⟩ u t1 t0 (15 : Int32) e4) (fun v h' z => nomatch z.1) (fun a h' z => ?_)
    obtain ⟨z1, z2⟩ := z
    subst h'
    cases z1
    cases h
    exact x_thOut (xno rfl) hQ
  refine c_invv (c := 0) (d := d + 6) (av := [vI t0, vI (15 : Int32)]) (st := []) (Q' := fun r h' => r = .inl none ∧ h' = u2) (pc := 62) d_P_digits_62 cv_P_170 y_P_need c1 rfl (Nat.le_of_ble_eq_true rfl) (Nat.le_of_ble_eq_true rfl) (w_P_need (d := d + 0) (Q := fun r h' => r = .inl none ∧ h' = u2) ⟨rfl, rfl⟩ u t1 t0 (15 : Int32) e4) (fun v h' z => ?_) (fun a h' z => nomatch z.1)
  obtain ⟨z1, z2⟩ := z
  subst h'
  cases z1
  show xW sc m_P_digits (d + 7) Q (u2) 65 [none, none, some (vI l2), none] []
  refine x_iload_n (pc := 65) d_P_digits_65 rfl ?_
  cases h
  exact x_iret (ty := .int) (pc := 66) d_P_digits_66 rfl (rfl) hQ
def f_P_digits_b59 (sc : xSc)  (l2 : Int32) (t0 : Option Nat) (u : xH) : Option ((Int32 ⊕ Nat) × xH) := f_P_digits_b60 sc l2 (0 : Int32) t0 u
theorem w_P_digits_b59 {sc : xSc} {d : Nat} {Q : xR → xH → Prop} {oZ : Int32 ⊕ Nat} {hZ : xH}  (hQ : Q (cvI oZ) hZ) (l2 : Int32) (t0 : Option Nat) (u : xH) (h : f_P_digits_b59 sc  l2 t0 u = some (oZ, hZ)) : xW sc m_P_digits (d + 7) Q (u) 59 [none, none, some (vI l2), none] [vR t0] := by
  unfold f_P_digits_b59 at h
  refine x_iconst (v := (0 : Int32)) (pc := 59) d_P_digits_59 (by decide) ?_
  exact w_P_digits_b60 hQ l2 (0 : Int32) t0 u h
def f_P_digits_b38 (sc : xSc) (k4 : Option Nat → Int32 → Int32 → Int32 → xH → Option ((Int32 ⊕ Nat) × xH)) (l0 : Option Nat) (l1 : Int32) (l3 : Int32) (t0 : Int32) (u : xH) : Option ((Int32 ⊕ Nat) × xH) := k4 l0 l1 t0 (l3 + Int32.ofInt 1) u
theorem w_P_digits_b38 {sc : xSc} {d : Nat} {Q : xR → xH → Prop} {oZ : Int32 ⊕ Nat} {hZ : xH} (k4 : Option Nat → Int32 → Int32 → Int32 → xH → Option ((Int32 ⊕ Nat) × xH)) (hk4 : ∀ (l0 : Option Nat) (l1 : Int32) (l2 : Int32) (l3 : Int32) (u : xH), k4 l0 l1 l2 l3 u = some (oZ, hZ) → xW sc m_P_digits (d + 7) Q (u) 4 [some (vR l0), some (vI l1), some (vI l2), some (vI l3)] []) (hQ : Q (cvI oZ) hZ) (l0 : Option Nat) (l1 : Int32) (l3 : Int32) (t0 : Int32) (u : xH) (h : f_P_digits_b38 sc k4 l0 l1 l3 t0 u = some (oZ, hZ)) : xW sc m_P_digits (d + 7) Q (u) 38 [some (vR l0), some (vI l1), none, some (vI l3)] [vI t0] := by
  unfold f_P_digits_b38 at h
  refine x_istore_n (pc := 38) d_P_digits_38 (by decide) ?_
  show xW sc m_P_digits (d + 7) Q (u) 39 [some (vR l0), some (vI l1), some (vI t0), some (vI l3)] []
  refine x_iinc (pc := 39) d_P_digits_39 rfl (by decide) ?_
  show xW sc m_P_digits (d + 7) Q (u) 42 [some (vR l0), some (vI l1), some (vI t0), some (vI (l3 + Int32.ofInt 1))] []
  refine x_goto (tgt := 4) (pc := 42) d_P_digits_42 (by decide) ?_
  exact hk4 l0 l1 t0 (l3 + Int32.ofInt 1) u h
def f_P_digits_b4 (sc : xSc)  : Nat → Option Nat → Int32 → Int32 → Int32 → xH → Option ((Int32 ⊕ Nat) × xH)
  | 0, _, _, _, _, _ => none
  | n + 1, l0, l1, l2, l3, u => (if xis sc u 0 l0 = true then (f_P_here sc u l0).bind fun v2 => (f_P_isDigit v2).bind fun v4 => (if v4 = 0 then (if l3 ≤ 0 then f_P_digits_b59 sc l2 l0 u else (if l1 < l3 then f_P_digits_b59 sc l2 l0 u else f_P_digits_b60 sc l2 (1 : Int32) l0 u)) else (if l1 ≤ l3 then (if xis sc u 0 l0 = true then (f_P_next sc u l0).bind fun (v12, u11) => f_P_digits_b38 sc (f_P_digits_b4 sc n) l0 l1 l3 v12 u11 else none) else (if xis sc u 0 l0 = true then (f_P_next sc u l0).bind fun (v16, u15) => f_P_digits_b38 sc (f_P_digits_b4 sc n) l0 l1 l3 ((((10 : Int32) * l2) + v16) - (48 : Int32)) u15 else none))) else none)
theorem w_P_digits_b4 {sc : xSc} {d : Nat} {Q : xR → xH → Prop} {oZ : Int32 ⊕ Nat} {hZ : xH}  (hQ : Q (cvI oZ) hZ) : ∀ (n : Nat) (l0 : Option Nat) (l1 : Int32) (l2 : Int32) (l3 : Int32) (u : xH), f_P_digits_b4 sc  n l0 l1 l2 l3 u = some (oZ, hZ) → xW sc m_P_digits (d + 7) Q (u) 4 [some (vR l0), some (vI l1), some (vI l2), some (vI l3)] [] := by
  intro n
  induction n with
  | zero =>
    intro l0 l1 l2 l3 u h
    cases h
  | succ n hk4 =>
    intro l0 l1 l2 l3 u h
    unfold f_P_digits_b4 at h
    refine x_aload_n (pc := 4) d_P_digits_4 rfl ?_
    obtain ⟨c1, h⟩ := ite_some h
    obtain ⟨v2, e3, h⟩ := Option.bind_eq_some_iff.mp h
    refine c_invv (c := 0) (d := d + 6) (av := []) (st := []) (Q' := fun r h' => r = .inl (some (vI v2)) ∧ h' = u) (pc := 5) d_P_digits_5 cv_P_398 y_P_here c1 rfl (Nat.le_of_ble_eq_true rfl) (Nat.le_of_ble_eq_true rfl) (w_P_here (d := d + 2) (Q := fun r h' => r = .inl (some (vI v2)) ∧ h' = u) ⟨rfl, rfl⟩ l0 e3) (fun v h' z => ?_) (fun a h' z => nomatch z.1)
    obtain ⟨z1, z2⟩ := z
    subst h'
    cases z1
    show xW sc m_P_digits (d + 7) Q (u) 8 [some (vR l0), some (vI l1), some (vI l2), some (vI l3)] [vI v2]
    obtain ⟨v4, e5, h⟩ := Option.bind_eq_some_iff.mp h
    refine x_invs (d := d + 6) (av := [vI v2]) (st := []) (Q' := fun r h' => r = .inl (some (vI v4)) ∧ h' = u) (pc := 8) d_P_digits_8 cs_P_419 y_P_isDigit rfl (Nat.le_of_ble_eq_true rfl) (Nat.le_of_ble_eq_true rfl) (w_P_isDigit (d := d + 6) (Q := fun r h' => r = .inl (some (vI v4)) ∧ h' = u) (hh := u) ⟨rfl, rfl⟩ v2 e5) (fun v h' z => ?_) (fun a h' z => nomatch z.1)
    obtain ⟨z1, z2⟩ := z
    subst h'
    cases z1
    show xW sc m_P_digits (d + 7) Q (u) 11 [some (vR l0), some (vI l1), some (vI l2), some (vI l3)] [vI v4]
    refine x_if_eq (tgt := 45) (pc := 11) d_P_digits_11 (by decide) (fun c6 => ?_) (fun c6 => ?_)
    · rw [if_pos c6] at h
      refine x_aload_n (pc := 45) d_P_digits_45 rfl ?_
      refine x_iload_n (pc := 46) d_P_digits_46 rfl ?_
      refine x_if_le (tgt := 59) (pc := 47) d_P_digits_47 (by decide) (fun c7 => ?_) (fun c7 => ?_)
      · rw [if_pos c7] at h
        exact x_wk (L' := [none, none, some (vI l2), none]) ⟨Or.inl rfl, Or.inl rfl, Or.inr rfl, Or.inl rfl, trivial⟩ (w_P_digits_b59 hQ l2 l0 u h)
      · rw [if_neg c7] at h
        refine x_iload_n (pc := 50) d_P_digits_50 rfl ?_
        refine x_iload_n (pc := 51) d_P_digits_51 rfl ?_
        refine x_icmp_gt (tgt := 59) (pc := 52) d_P_digits_52 (by decide) (fun c8 => ?_) (fun c8 => ?_)
        · rw [if_pos c8] at h
          exact x_wk (L' := [none, none, some (vI l2), none]) ⟨Or.inl rfl, Or.inl rfl, Or.inr rfl, Or.inl rfl, trivial⟩ (w_P_digits_b59 hQ l2 l0 u h)
        · rw [if_neg c8] at h
          refine x_iconst (v := (1 : Int32)) (pc := 55) d_P_digits_55 (by decide) ?_
          refine x_goto (tgt := 60) (pc := 56) d_P_digits_56 (by decide) ?_
          exact x_wk (L' := [none, none, some (vI l2), none]) ⟨Or.inl rfl, Or.inl rfl, Or.inr rfl, Or.inl rfl, trivial⟩ (w_P_digits_b60 hQ l2 (1 : Int32) l0 u h)
    · rw [if_neg c6] at h
      refine x_iload_n (pc := 14) d_P_digits_14 rfl ?_
      refine x_iload_n (pc := 15) d_P_digits_15 rfl ?_
      refine x_icmp_ge (tgt := 34) (pc := 16) d_P_digits_16 (by decide) (fun c9 => ?_) (fun c9 => ?_)
      · rw [if_pos c9] at h
        refine x_aload_n (pc := 34) d_P_digits_34 rfl ?_
        obtain ⟨c10, h⟩ := ite_some h
        obtain ⟨⟨v12, u11⟩, e13, h⟩ := Option.bind_eq_some_iff.mp h
        dsimp only at h
        refine c_invv (c := 0) (d := d + 6) (av := []) (st := []) (Q' := fun r h' => r = .inl (some (vI v12)) ∧ h' = u11) (pc := 35) d_P_digits_35 cv_P_429 y_P_next c10 rfl (Nat.le_of_ble_eq_true rfl) (Nat.le_of_ble_eq_true rfl) (w_P_next (d := d + 2) (Q := fun r h' => r = .inl (some (vI v12)) ∧ h' = u11) ⟨rfl, rfl⟩ u l0 e13) (fun v h' z => ?_) (fun a h' z => nomatch z.1)
        obtain ⟨z1, z2⟩ := z
        subst h'
        cases z1
        show xW sc m_P_digits (d + 7) Q (u11) 38 [some (vR l0), some (vI l1), some (vI l2), some (vI l3)] [vI v12]
        exact x_wk (L' := [some (vR l0), some (vI l1), none, some (vI l3)]) ⟨Or.inr rfl, Or.inr rfl, Or.inl rfl, Or.inr rfl, trivial⟩ (w_P_digits_b38 (f_P_digits_b4 sc n) hk4 hQ l0 l1 l3 v12 u11 h)
      · rw [if_neg c9] at h
        refine x_bipush (v := (10 : Int32)) (pc := 19) d_P_digits_19 (by decide) ?_
        refine x_iload_n (pc := 21) d_P_digits_21 rfl ?_
        refine x_imul (pc := 22) d_P_digits_22 ?_
        refine x_aload_n (pc := 23) d_P_digits_23 rfl ?_
        obtain ⟨c14, h⟩ := ite_some h
        obtain ⟨⟨v16, u15⟩, e17, h⟩ := Option.bind_eq_some_iff.mp h
        dsimp only at h
        refine c_invv (c := 0) (d := d + 6) (av := []) (st := [vI ((10 : Int32) * l2)]) (Q' := fun r h' => r = .inl (some (vI v16)) ∧ h' = u15) (pc := 24) d_P_digits_24 cv_P_429 y_P_next c14 rfl (Nat.le_of_ble_eq_true rfl) (Nat.le_of_ble_eq_true rfl) (w_P_next (d := d + 2) (Q := fun r h' => r = .inl (some (vI v16)) ∧ h' = u15) ⟨rfl, rfl⟩ u l0 e17) (fun v h' z => ?_) (fun a h' z => nomatch z.1)
        obtain ⟨z1, z2⟩ := z
        subst h'
        cases z1
        show xW sc m_P_digits (d + 7) Q (u15) 27 [some (vR l0), some (vI l1), some (vI l2), some (vI l3)] [vI v16, vI ((10 : Int32) * l2)]
        refine x_iadd (pc := 27) d_P_digits_27 ?_
        refine x_bipush (v := (48 : Int32)) (pc := 28) d_P_digits_28 (by decide) ?_
        refine x_isub (pc := 30) d_P_digits_30 ?_
        refine x_goto (tgt := 38) (pc := 31) d_P_digits_31 (by decide) ?_
        exact x_wk (L' := [some (vR l0), some (vI l1), none, some (vI l3)]) ⟨Or.inr rfl, Or.inr rfl, Or.inl rfl, Or.inr rfl, trivial⟩ (w_P_digits_b38 (f_P_digits_b4 sc n) hk4 hQ l0 l1 l3 ((((10 : Int32) * l2) + v16) - (48 : Int32)) u15 h)
def f_P_digits (sc : xSc) (u : xH) (a0 : Option Nat) (a1 : Int32) : Option ((Int32 ⊕ Nat) × xH) := f_P_digits_b4 sc mF a0 a1 (0 : Int32) (0 : Int32) u
theorem w_P_digits {sc : xSc} {d : Nat} {Q : xR → xH → Prop} {oZ : Int32 ⊕ Nat} {hZ : xH} (hQ : Q (cvI oZ) hZ) (u : xH) (a0 : Option Nat) (a1 : Int32) (h : f_P_digits sc u a0 a1 = some (oZ, hZ)) : xW sc m_P_digits (d + 7) Q (u) 0 (xent [vR a0, vI a1] m_P_digits.2.2.1) [] := by
  show xW sc m_P_digits (d + 7) Q (u) 0 [some (vR a0), some (vI a1), none, none] []
  unfold f_P_digits at h
  refine x_iconst (v := (0 : Int32)) (pc := 0) d_P_digits_0 (by decide) ?_
  refine x_istore_n (pc := 1) d_P_digits_1 (by decide) ?_
  show xW sc m_P_digits (d + 7) Q (u) 2 [some (vR a0), some (vI a1), some (vI (0 : Int32)), none] []
  refine x_iconst (v := (0 : Int32)) (pc := 2) d_P_digits_2 (by decide) ?_
  refine x_istore_n (pc := 3) d_P_digits_3 (by decide) ?_
  show xW sc m_P_digits (d + 7) Q (u) 4 [some (vR a0), some (vI a1), some (vI (0 : Int32)), some (vI (0 : Int32))] []
  exact w_P_digits_b4 hQ mF a0 a1 (0 : Int32) (0 : Int32) u h
def f_P_drafts_b28 (sc : xSc)  (l0 : Option Nat) (u : xH) : Option (Option Nat × xH) := (gR sc u 0 8 l0).bind fun v1 => (gI sc u 0 11 l0).bind fun v3 => (pV u 0 11 l0 (vI (v3 + (1 : Int32)))).bind fun u5 => (aR sc u5 v1 v3).bind fun v7 => some (v7, u5)
theorem w_P_drafts_b28 {sc : xSc} {d : Nat} {Q : xR → xH → Prop} {hZ : xH} {rZ : Option Nat}  (hQ : Q (.inl (some (vR rZ))) hZ) (l0 : Option Nat) (u : xH) (h : f_P_drafts_b28 sc  l0 u = some (rZ, hZ)) : xW sc m_P_drafts (d + 2) Q (u) 28 [some (vR l0)] [] := by
  unfold f_P_drafts_b28 at h
  refine x_aload_n (pc := 28) d_P_drafts_28 rfl ?_
  obtain ⟨v1, e2, h⟩ := Option.bind_eq_some_iff.mp h
  refine c_getR (pc := 29) d_P_drafts_29 l_P_60 e2 ?_
  refine x_aload_n (pc := 32) d_P_drafts_32 rfl ?_
  refine x_dup (pc := 33) d_P_drafts_33 rfl ?_
  obtain ⟨v3, e4, h⟩ := Option.bind_eq_some_iff.mp h
  refine c_getI (pc := 34) d_P_drafts_34 l_P_405 e4 ?_
  refine x_dup_x1 (pc := 37) d_P_drafts_37 rfl rfl ?_
  refine x_iconst (v := (1 : Int32)) (pc := 38) d_P_drafts_38 (by decide) ?_
  refine x_iadd (pc := 39) d_P_drafts_39 ?_
  obtain ⟨u5, e6, h⟩ := Option.bind_eq_some_iff.mp h
  refine c_putf (pc := 40) d_P_drafts_40 l_P_405 fp_0_11 (xfit_int) e6 ?_
  obtain ⟨v7, e8, h⟩ := Option.bind_eq_some_iff.mp h
  refine c_aald (pc := 43) d_P_drafts_43 e8 ?_
  cases h
  exact x_aret (pc := 44) d_P_drafts_44 rfl (Or.inl ⟨_, rfl⟩) hQ
def f_P_drafts (sc : xSc) (u : xH) (a0 : Option Nat) : Option (Option Nat × xH) := (gR sc u 0 8 a0).bind fun v1 => (gI sc u 0 11 a0).bind fun v3 => (aR sc u v1 v3).bind fun v5 => (if v5 = none then (gR sc u 0 8 a0).bind fun v8 => (gI sc u 0 11 a0).bind fun v10 => (nO 2 8 8 u).bind fun u12 => (if (some u.2.1).isSome = true then (f_Slot_init sc u12 (some u.2.1)).bind fun u15 => (bR "PageScribe$Slot" 2 sc u15 v8 v10 (some u.2.1)).bind fun u17 => f_P_drafts_b28 sc a0 u17 else none) else f_P_drafts_b28 sc a0 u)
theorem w_P_drafts {sc : xSc} {d : Nat} {Q : xR → xH → Prop} {hZ : xH} {rZ : Option Nat} (hQ : Q (.inl (some (vR rZ))) hZ) (u : xH) (a0 : Option Nat) (h : f_P_drafts sc u a0 = some (rZ, hZ)) : xW sc m_P_drafts (d + 2) Q (u) 0 (xent [vR a0] m_P_drafts.2.2.1) [] := by
  show xW sc m_P_drafts (d + 2) Q (u) 0 [some (vR a0)] []
  unfold f_P_drafts at h
  refine x_aload_n (pc := 0) d_P_drafts_0 rfl ?_
  obtain ⟨v1, e2, h⟩ := Option.bind_eq_some_iff.mp h
  refine c_getR (pc := 1) d_P_drafts_1 l_P_60 e2 ?_
  refine x_aload_n (pc := 4) d_P_drafts_4 rfl ?_
  obtain ⟨v3, e4, h⟩ := Option.bind_eq_some_iff.mp h
  refine c_getI (pc := 5) d_P_drafts_5 l_P_405 e4 ?_
  obtain ⟨v5, e6, h⟩ := Option.bind_eq_some_iff.mp h
  refine c_aald (pc := 8) d_P_drafts_8 e6 ?_
  refine c_ifnonnull (tgt := 28) (pc := 9) d_P_drafts_9 (by decide) (fun c7 => ?_) (fun c7 => ?_)
  · rw [if_neg c7] at h
    exact w_P_drafts_b28 hQ a0 u h
  · rw [if_pos c7] at h
    refine x_aload_n (pc := 12) d_P_drafts_12 rfl ?_
    obtain ⟨v8, e9, h⟩ := Option.bind_eq_some_iff.mp h
    refine c_getR (pc := 13) d_P_drafts_13 l_P_60 e9 ?_
    refine x_aload_n (pc := 16) d_P_drafts_16 rfl ?_
    obtain ⟨v10, e11, h⟩ := Option.bind_eq_some_iff.mp h
    refine c_getI (pc := 17) d_P_drafts_17 l_P_405 e11 ?_
    obtain ⟨u12, e13, h⟩ := Option.bind_eq_some_iff.mp h
    refine c_new (pc := 20) d_P_drafts_20 nw_P_51 ly_2 ⟨_, rfl, rfl⟩ e13 ?_
    refine x_dup (pc := 23) d_P_drafts_23 rfl ?_
    obtain ⟨c14, h⟩ := ite_some h
    obtain ⟨u15, e16, h⟩ := Option.bind_eq_some_iff.mp h
    refine c_invi (d := d + 1) (av := []) (st := [vR (some u.2.1), vI v10, vR v8]) (Q' := fun r h' => r = .inl none ∧ h' = u15) (pc := 24) d_P_drafts_24 ci_P_177 y_Slot_init (tw_4 (List.mem_of_getElem? (i := 157) rfl)) c14 rfl (Nat.le_of_ble_eq_true rfl) (Nat.le_of_ble_eq_true rfl) (w_Slot_init (d := d + 0) (Q := fun r h' => r = .inl none ∧ h' = u15) ⟨rfl, rfl⟩ u12 (some u.2.1) e16) (fun v h' z => ?_) (fun a h' z => nomatch z.1)
    obtain ⟨z1, z2⟩ := z
    subst h'
    cases z1
    show xW sc m_P_drafts (d + 2) Q (u15) 27 [some (vR a0)] [vR (some u.2.1), vI v10, vR v8]
    obtain ⟨u17, e18, h⟩ := Option.bind_eq_some_iff.mp h
    refine c_aast (C := "PageScribe$Slot") (c := 2) (pc := 27) d_P_drafts_27 ⟨_, rfl, Or.inl ⟨rfl, by decide, by decide⟩⟩ e18 ?_
    exact w_P_drafts_b28 hQ a0 u17 h
def f_P_point_b15 (sc : xSc)  (l0 : Option Nat) (l1 : UInt64) (l3 : UInt64) (l5 : Int32) (t0 : Int32) (t1 : Option Nat) (u : xH) : Option ((Unit ⊕ Nat) × xH) := (if xis sc u 0 t1 = true then tB (f_P_need sc u t1 t0 (7 : Int32)) (fun v3 u2 => (gR sc u2 0 30 l0).bind fun v7 => (gI sc u2 0 35 l0).bind fun v9 => (bD u2 v7 v9 l1).bind fun u11 => (gR sc u11 0 31 l0).bind fun v13 => (gI sc u11 0 35 l0).bind fun v15 => (bD u11 v13 v15 l3).bind fun u17 => (gR sc u17 0 32 l0).bind fun v19 => (gI sc u17 0 35 l0).bind fun v21 => (pV u17 0 35 l0 (vI (v21 + (1 : Int32)))).bind fun u23 => (bI .int u23 v19 v21 l5).bind fun u25 => some (.inl (), u25)) (fun a5 u6 => some (.inr a5, u6)) else none)
theorem w_P_point_b15 {sc : xSc} {d : Nat} {Q : xR → xH → Prop} {oZ : Unit ⊕ Nat} {hZ : xH}  (hQ : Q (cvU oZ) hZ) (l0 : Option Nat) (l1 : UInt64) (l3 : UInt64) (l5 : Int32) (t0 : Int32) (t1 : Option Nat) (u : xH) (h : f_P_point_b15 sc  l0 l1 l3 l5 t0 t1 u = some (oZ, hZ)) : xW sc m_P_point (d + 7) Q (u) 15 [some (vR l0), some (vD l1), none, some (vD l3), none, some (vI l5)] [vI t0, vR t1] := by
  unfold f_P_point_b15 at h
  refine x_bipush (v := (7 : Int32)) (pc := 15) d_P_point_15 (by decide) ?_
  obtain ⟨c1, h⟩ := ite_some h
  rcases tB_s h with ⟨a5, u6, e4, h⟩ | ⟨v3, u2, e4, h⟩
  · refine c_invv (c := 0) (d := d + 6) (av := [vI t0, vI (7 : Int32)]) (st := []) (Q' := fun r h' => r = .inr a5 ∧ h' = u6) (pc := 17) d_P_point_17 cv_P_170 y_P_need c1 rfl (Nat.le_of_ble_eq_true rfl) (Nat.le_of_ble_eq_true rfl) (w_P_need (d := d + 0) (Q := fun r h' => r = .inr a5 ∧ h' = u6) ⟨rfl, rfl⟩ u t1 t0 (7 : Int32) e4) (fun v h' z => nomatch z.1) (fun a h' z => ?_)
    obtain ⟨z1, z2⟩ := z
    subst h'
    cases z1
    cases h
    exact x_thOut (xno rfl) hQ
  refine c_invv (c := 0) (d := d + 6) (av := [vI t0, vI (7 : Int32)]) (st := []) (Q' := fun r h' => r = .inl none ∧ h' = u2) (pc := 17) d_P_point_17 cv_P_170 y_P_need c1 rfl (Nat.le_of_ble_eq_true rfl) (Nat.le_of_ble_eq_true rfl) (w_P_need (d := d + 0) (Q := fun r h' => r = .inl none ∧ h' = u2) ⟨rfl, rfl⟩ u t1 t0 (7 : Int32) e4) (fun v h' z => ?_) (fun a h' z => nomatch z.1)
  obtain ⟨z1, z2⟩ := z
  subst h'
  cases z1
  show xW sc m_P_point (d + 7) Q (u2) 20 [some (vR l0), some (vD l1), none, some (vD l3), none, some (vI l5)] []
  refine x_aload_n (pc := 20) d_P_point_20 rfl ?_
  obtain ⟨v7, e8, h⟩ := Option.bind_eq_some_iff.mp h
  refine c_getR (pc := 21) d_P_point_21 l_P_97 e8 ?_
  refine x_aload_n (pc := 24) d_P_point_24 rfl ?_
  obtain ⟨v9, e10, h⟩ := Option.bind_eq_some_iff.mp h
  refine c_getI (pc := 25) d_P_point_25 l_P_471 e10 ?_
  refine x_dload_n (pc := 28) d_P_point_28 rfl ?_
  obtain ⟨u11, e12, h⟩ := Option.bind_eq_some_iff.mp h
  refine c_dast (pc := 29) d_P_point_29 e12 ?_
  refine x_aload_n (pc := 30) d_P_point_30 rfl ?_
  obtain ⟨v13, e14, h⟩ := Option.bind_eq_some_iff.mp h
  refine c_getR (pc := 31) d_P_point_31 l_P_101 e14 ?_
  refine x_aload_n (pc := 34) d_P_point_34 rfl ?_
  obtain ⟨v15, e16, h⟩ := Option.bind_eq_some_iff.mp h
  refine c_getI (pc := 35) d_P_point_35 l_P_471 e16 ?_
  refine x_dload_n (pc := 38) d_P_point_38 rfl ?_
  obtain ⟨u17, e18, h⟩ := Option.bind_eq_some_iff.mp h
  refine c_dast (pc := 39) d_P_point_39 e18 ?_
  refine x_aload_n (pc := 40) d_P_point_40 rfl ?_
  obtain ⟨v19, e20, h⟩ := Option.bind_eq_some_iff.mp h
  refine c_getR (pc := 41) d_P_point_41 l_P_104 e20 ?_
  refine x_aload_n (pc := 44) d_P_point_44 rfl ?_
  refine x_dup (pc := 45) d_P_point_45 rfl ?_
  obtain ⟨v21, e22, h⟩ := Option.bind_eq_some_iff.mp h
  refine c_getI (pc := 46) d_P_point_46 l_P_471 e22 ?_
  refine x_dup_x1 (pc := 49) d_P_point_49 rfl rfl ?_
  refine x_iconst (v := (1 : Int32)) (pc := 50) d_P_point_50 (by decide) ?_
  refine x_iadd (pc := 51) d_P_point_51 ?_
  obtain ⟨u23, e24, h⟩ := Option.bind_eq_some_iff.mp h
  refine c_putf (pc := 52) d_P_point_52 l_P_471 fp_0_35 (xfit_int) e24 ?_
  refine x_iload (pc := 55) d_P_point_55 rfl ?_
  obtain ⟨u25, e26, h⟩ := Option.bind_eq_some_iff.mp h
  refine c_iast (pc := 57) d_P_point_57 e26 ?_
  cases h
  exact x_vret (pc := 58) d_P_point_58 rfl hQ
def f_P_point (sc : xSc) (u : xH) (a0 : Option Nat) (a1 : UInt64) (a2 : UInt64) (a3 : Int32) : Option ((Unit ⊕ Nat) × xH) := (gI sc u 0 35 a0).bind fun v1 => (if (30 : Int32) ≤ v1 then f_P_point_b15 sc a0 a1 a2 a3 (0 : Int32) a0 u else f_P_point_b15 sc a0 a1 a2 a3 (1 : Int32) a0 u)
theorem w_P_point {sc : xSc} {d : Nat} {Q : xR → xH → Prop} {oZ : Unit ⊕ Nat} {hZ : xH} (hQ : Q (cvU oZ) hZ) (u : xH) (a0 : Option Nat) (a1 : UInt64) (a2 : UInt64) (a3 : Int32) (h : f_P_point sc u a0 a1 a2 a3 = some (oZ, hZ)) : xW sc m_P_point (d + 7) Q (u) 0 (xent [vR a0, vD a1, vD a2, vI a3] m_P_point.2.2.1) [] := by
  show xW sc m_P_point (d + 7) Q (u) 0 [some (vR a0), some (vD a1), none, some (vD a2), none, some (vI a3)] []
  unfold f_P_point at h
  refine x_aload_n (pc := 0) d_P_point_0 rfl ?_
  refine x_aload_n (pc := 1) d_P_point_1 rfl ?_
  obtain ⟨v1, e2, h⟩ := Option.bind_eq_some_iff.mp h
  refine c_getI (pc := 2) d_P_point_2 l_P_471 e2 ?_
  refine x_bipush (v := (30 : Int32)) (pc := 5) d_P_point_5 (by decide) ?_
  refine x_icmp_ge (tgt := 14) (pc := 7) d_P_point_7 (by decide) (fun c3 => ?_) (fun c3 => ?_)
  · rw [if_pos c3] at h
    refine x_iconst (v := (0 : Int32)) (pc := 14) d_P_point_14 (by decide) ?_
    exact w_P_point_b15 hQ a0 a1 a2 a3 (0 : Int32) a0 u h
  · rw [if_neg c3] at h
    refine x_iconst (v := (1 : Int32)) (pc := 10) d_P_point_10 (by decide) ?_
    refine x_goto (tgt := 15) (pc := 11) d_P_point_11 (by decide) ?_
    exact w_P_point_b15 hQ a0 a1 a2 a3 (1 : Int32) a0 u h
def f_P_pass_b123 (sc : xSc) (k7 : Option Nat → UInt64 → Int32 → xH → Option xH) (l0 : Option Nat) (l1 : UInt64) (l3 : Int32) (u : xH) : Option xH := k7 l0 l1 (l3 + Int32.ofInt 1) u
theorem w_P_pass_b123 {sc : xSc} {d : Nat} {Q : xR → xH → Prop} {hZ : xH} (k7 : Option Nat → UInt64 → Int32 → xH → Option xH) (hk7 : ∀ (l0 : Option Nat) (l1 : UInt64) (l3 : Int32) (u : xH), k7 l0 l1 l3 u = some hZ → xW sc m_P_pass (d + 0) Q (u) 7 [some (vR l0), some (vD l1), none, some (vI l3), none] []) (hQ : Q (.inl none) hZ) (l0 : Option Nat) (l1 : UInt64) (l3 : Int32) (u : xH) (h : f_P_pass_b123 sc k7 l0 l1 l3 u = some hZ) : xW sc m_P_pass (d + 0) Q (u) 123 [some (vR l0), some (vD l1), none, some (vI l3), none] [] := by
  unfold f_P_pass_b123 at h
  refine x_iinc (pc := 123) d_P_pass_123 rfl (by decide) ?_
  show xW sc m_P_pass (d + 0) Q (u) 126 [some (vR l0), some (vD l1), none, some (vI (l3 + Int32.ofInt 1)), none] []
  refine x_goto (tgt := 7) (pc := 126) d_P_pass_126 (by decide) ?_
  exact hk7 l0 l1 (l3 + Int32.ofInt 1) u h
def f_P_pass_b89 (sc : xSc) (k7 : Option Nat → UInt64 → Int32 → xH → Option xH) (l0 : Option Nat) (l1 : UInt64) (l3 : Int32) (l4 : Int32) (t0 : Int32) (t1 : Int32) (u : xH) : Option xH := (if t1 = t0 then f_P_pass_b123 sc k7 l0 l1 l3 u else (gR sc u 0 33 l0).bind fun v2 => (gI sc u 0 36 l0).bind fun v4 => (bI .int u v2 v4 l3).bind fun u6 => (gR sc u6 0 34 l0).bind fun v8 => (gI sc u6 0 36 l0).bind fun v10 => (pV u6 0 36 l0 (vI (v10 + (1 : Int32)))).bind fun u12 => (bI .int u12 v8 v10 l4).bind fun u14 => f_P_pass_b123 sc k7 l0 l1 l3 u14)
theorem w_P_pass_b89 {sc : xSc} {d : Nat} {Q : xR → xH → Prop} {hZ : xH} (k7 : Option Nat → UInt64 → Int32 → xH → Option xH) (hk7 : ∀ (l0 : Option Nat) (l1 : UInt64) (l3 : Int32) (u : xH), k7 l0 l1 l3 u = some hZ → xW sc m_P_pass (d + 0) Q (u) 7 [some (vR l0), some (vD l1), none, some (vI l3), none] []) (hQ : Q (.inl none) hZ) (l0 : Option Nat) (l1 : UInt64) (l3 : Int32) (l4 : Int32) (t0 : Int32) (t1 : Int32) (u : xH) (h : f_P_pass_b89 sc k7 l0 l1 l3 l4 t0 t1 u = some hZ) : xW sc m_P_pass (d + 0) Q (u) 89 [some (vR l0), some (vD l1), none, some (vI l3), some (vI l4)] [vI t0, vI t1] := by
  unfold f_P_pass_b89 at h
  refine x_icmp_ne (tgt := 95) (pc := 89) d_P_pass_89 (by decide) (fun c1 => ?_) (fun c1 => ?_)
  · rw [if_neg c1] at h
    refine x_aload_n (pc := 95) d_P_pass_95 rfl ?_
    obtain ⟨v2, e3, h⟩ := Option.bind_eq_some_iff.mp h
    refine c_getR (pc := 96) d_P_pass_96 l_P_107 e3 ?_
    refine x_aload_n (pc := 99) d_P_pass_99 rfl ?_
    obtain ⟨v4, e5, h⟩ := Option.bind_eq_some_iff.mp h
    refine c_getI (pc := 100) d_P_pass_100 l_P_474 e5 ?_
    refine x_iload_n (pc := 103) d_P_pass_103 rfl ?_
    obtain ⟨u6, e7, h⟩ := Option.bind_eq_some_iff.mp h
    refine c_iast (pc := 104) d_P_pass_104 e7 ?_
    refine x_aload_n (pc := 105) d_P_pass_105 rfl ?_
    obtain ⟨v8, e9, h⟩ := Option.bind_eq_some_iff.mp h
    refine c_getR (pc := 106) d_P_pass_106 l_P_110 e9 ?_
    refine x_aload_n (pc := 109) d_P_pass_109 rfl ?_
    refine x_dup (pc := 110) d_P_pass_110 rfl ?_
    obtain ⟨v10, e11, h⟩ := Option.bind_eq_some_iff.mp h
    refine c_getI (pc := 111) d_P_pass_111 l_P_474 e11 ?_
    refine x_dup_x1 (pc := 114) d_P_pass_114 rfl rfl ?_
    refine x_iconst (v := (1 : Int32)) (pc := 115) d_P_pass_115 (by decide) ?_
    refine x_iadd (pc := 116) d_P_pass_116 ?_
    obtain ⟨u12, e13, h⟩ := Option.bind_eq_some_iff.mp h
    refine c_putf (pc := 117) d_P_pass_117 l_P_474 fp_0_36 (xfit_int) e13 ?_
    refine x_iload (pc := 120) d_P_pass_120 rfl ?_
    obtain ⟨u14, e15, h⟩ := Option.bind_eq_some_iff.mp h
    refine c_iast (pc := 122) d_P_pass_122 e15 ?_
    exact x_wk (L' := [some (vR l0), some (vD l1), none, some (vI l3), none]) ⟨Or.inr rfl, Or.inr rfl, Or.inl rfl, Or.inr rfl, Or.inl rfl, trivial⟩ (w_P_pass_b123 k7 hk7 hQ l0 l1 l3 u14 h)
  · rw [if_pos c1] at h
    refine x_goto (tgt := 123) (pc := 92) d_P_pass_92 (by decide) ?_
    exact x_wk (L' := [some (vR l0), some (vD l1), none, some (vI l3), none]) ⟨Or.inr rfl, Or.inr rfl, Or.inl rfl, Or.inr rfl, Or.inl rfl, trivial⟩ (w_P_pass_b123 k7 hk7 hQ l0 l1 l3 u h)
def f_P_pass_b72 (sc : xSc) (k7 : Option Nat → UInt64 → Int32 → xH → Option xH) (l0 : Option Nat) (l1 : UInt64) (l3 : Int32) (l4 : Int32) (t0 : Int32) (u : xH) : Option xH := (gR sc u 0 31 l0).bind fun v1 => (aD sc u v1 l4).bind fun v3 => (if 0 < (Op.cmpValue (FP.dcmp v3 l1) .g) then f_P_pass_b89 sc k7 l0 l1 l3 l4 (0 : Int32) t0 u else f_P_pass_b89 sc k7 l0 l1 l3 l4 (1 : Int32) t0 u)
theorem w_P_pass_b72 {sc : xSc} {d : Nat} {Q : xR → xH → Prop} {hZ : xH} (k7 : Option Nat → UInt64 → Int32 → xH → Option xH) (hk7 : ∀ (l0 : Option Nat) (l1 : UInt64) (l3 : Int32) (u : xH), k7 l0 l1 l3 u = some hZ → xW sc m_P_pass (d + 0) Q (u) 7 [some (vR l0), some (vD l1), none, some (vI l3), none] []) (hQ : Q (.inl none) hZ) (l0 : Option Nat) (l1 : UInt64) (l3 : Int32) (l4 : Int32) (t0 : Int32) (u : xH) (h : f_P_pass_b72 sc k7 l0 l1 l3 l4 t0 u = some hZ) : xW sc m_P_pass (d + 0) Q (u) 72 [some (vR l0), some (vD l1), none, some (vI l3), some (vI l4)] [vI t0] := by
  unfold f_P_pass_b72 at h
  refine x_aload_n (pc := 72) d_P_pass_72 rfl ?_
  obtain ⟨v1, e2, h⟩ := Option.bind_eq_some_iff.mp h
  refine c_getR (pc := 73) d_P_pass_73 l_P_101 e2 ?_
  refine x_iload (pc := 76) d_P_pass_76 rfl ?_
  obtain ⟨v3, e4, h⟩ := Option.bind_eq_some_iff.mp h
  refine c_dald (pc := 78) d_P_pass_78 e4 ?_
  refine x_dload_n (pc := 79) d_P_pass_79 rfl ?_
  refine x_dcmp (pc := 80) d_P_pass_80 ?_
  refine x_if_gt (tgt := 88) (pc := 81) d_P_pass_81 (by decide) (fun c5 => ?_) (fun c5 => ?_)
  · rw [if_pos c5] at h
    refine x_iconst (v := (0 : Int32)) (pc := 88) d_P_pass_88 (by decide) ?_
    exact w_P_pass_b89 k7 hk7 hQ l0 l1 l3 l4 (0 : Int32) t0 u h
  · rw [if_neg c5] at h
    refine x_iconst (v := (1 : Int32)) (pc := 84) d_P_pass_84 (by decide) ?_
    refine x_goto (tgt := 89) (pc := 85) d_P_pass_85 (by decide) ?_
    exact w_P_pass_b89 k7 hk7 hQ l0 l1 l3 l4 (1 : Int32) t0 u h
def f_P_pass_b54 (sc : xSc) (k7 : Option Nat → UInt64 → Int32 → xH → Option xH) (l0 : Option Nat) (l1 : UInt64) (l3 : Int32) (t0 : Int32) (u : xH) : Option xH := (gR sc u 0 31 l0).bind fun v1 => (aD sc u v1 l3).bind fun v3 => (if 0 < (Op.cmpValue (FP.dcmp v3 l1) .g) then f_P_pass_b72 sc k7 l0 l1 l3 t0 (0 : Int32) u else f_P_pass_b72 sc k7 l0 l1 l3 t0 (1 : Int32) u)
theorem w_P_pass_b54 {sc : xSc} {d : Nat} {Q : xR → xH → Prop} {hZ : xH} (k7 : Option Nat → UInt64 → Int32 → xH → Option xH) (hk7 : ∀ (l0 : Option Nat) (l1 : UInt64) (l3 : Int32) (u : xH), k7 l0 l1 l3 u = some hZ → xW sc m_P_pass (d + 0) Q (u) 7 [some (vR l0), some (vD l1), none, some (vI l3), none] []) (hQ : Q (.inl none) hZ) (l0 : Option Nat) (l1 : UInt64) (l3 : Int32) (t0 : Int32) (u : xH) (h : f_P_pass_b54 sc k7 l0 l1 l3 t0 u = some hZ) : xW sc m_P_pass (d + 0) Q (u) 54 [some (vR l0), some (vD l1), none, some (vI l3), none] [vI t0] := by
  unfold f_P_pass_b54 at h
  refine x_istore (pc := 54) d_P_pass_54 (by decide) ?_
  show xW sc m_P_pass (d + 0) Q (u) 56 [some (vR l0), some (vD l1), none, some (vI l3), some (vI t0)] []
  refine x_aload_n (pc := 56) d_P_pass_56 rfl ?_
  obtain ⟨v1, e2, h⟩ := Option.bind_eq_some_iff.mp h
  refine c_getR (pc := 57) d_P_pass_57 l_P_101 e2 ?_
  refine x_iload_n (pc := 60) d_P_pass_60 rfl ?_
  obtain ⟨v3, e4, h⟩ := Option.bind_eq_some_iff.mp h
  refine c_dald (pc := 61) d_P_pass_61 e4 ?_
  refine x_dload_n (pc := 62) d_P_pass_62 rfl ?_
  refine x_dcmp (pc := 63) d_P_pass_63 ?_
  refine x_if_gt (tgt := 71) (pc := 64) d_P_pass_64 (by decide) (fun c5 => ?_) (fun c5 => ?_)
  · rw [if_pos c5] at h
    refine x_iconst (v := (0 : Int32)) (pc := 71) d_P_pass_71 (by decide) ?_
    exact w_P_pass_b72 k7 hk7 hQ l0 l1 l3 t0 (0 : Int32) u h
  · rw [if_neg c5] at h
    refine x_iconst (v := (1 : Int32)) (pc := 67) d_P_pass_67 (by decide) ?_
    refine x_goto (tgt := 72) (pc := 68) d_P_pass_68 (by decide) ?_
    exact w_P_pass_b72 k7 hk7 hQ l0 l1 l3 t0 (1 : Int32) u h
def f_P_pass_b42 (sc : xSc) (k7 : Option Nat → UInt64 → Int32 → xH → Option xH) (l0 : Option Nat) (l1 : UInt64) (l3 : Int32) (u : xH) : Option xH := (gR sc u 0 32 l0).bind fun v1 => (aI .int sc u v1 l3).bind fun v3 => f_P_pass_b54 sc k7 l0 l1 l3 v3 u
theorem w_P_pass_b42 {sc : xSc} {d : Nat} {Q : xR → xH → Prop} {hZ : xH} (k7 : Option Nat → UInt64 → Int32 → xH → Option xH) (hk7 : ∀ (l0 : Option Nat) (l1 : UInt64) (l3 : Int32) (u : xH), k7 l0 l1 l3 u = some hZ → xW sc m_P_pass (d + 0) Q (u) 7 [some (vR l0), some (vD l1), none, some (vI l3), none] []) (hQ : Q (.inl none) hZ) (l0 : Option Nat) (l1 : UInt64) (l3 : Int32) (u : xH) (h : f_P_pass_b42 sc k7 l0 l1 l3 u = some hZ) : xW sc m_P_pass (d + 0) Q (u) 42 [some (vR l0), some (vD l1), none, some (vI l3), none] [] := by
  unfold f_P_pass_b42 at h
  refine x_aload_n (pc := 42) d_P_pass_42 rfl ?_
  obtain ⟨v1, e2, h⟩ := Option.bind_eq_some_iff.mp h
  refine c_getR (pc := 43) d_P_pass_43 l_P_104 e2 ?_
  refine x_iload_n (pc := 46) d_P_pass_46 rfl ?_
  obtain ⟨v3, e4, h⟩ := Option.bind_eq_some_iff.mp h
  refine c_iald (pc := 47) d_P_pass_47 e4 ?_
  refine x_goto (tgt := 54) (pc := 48) d_P_pass_48 (by decide) ?_
  exact w_P_pass_b54 k7 hk7 hQ l0 l1 l3 v3 u h
def f_P_pass_b7 (sc : xSc)  : Nat → Option Nat → UInt64 → Int32 → xH → Option xH
  | 0, _, _, _, _ => none
  | n + 1, l0, l1, l3, u => (gI sc u 0 35 l0).bind fun v1 => (if v1 ≤ l3 then some u else (gI sc u 0 35 l0).bind fun v4 => (if (l3 + (1 : Int32)) = v4 then f_P_pass_b42 sc (f_P_pass_b7 sc n) l0 l1 l3 u else (gR sc u 0 32 l0).bind fun v7 => (aI .int sc u v7 (l3 + (1 : Int32))).bind fun v9 => (gR sc u 0 32 l0).bind fun v11 => (aI .int sc u v11 l3).bind fun v13 => (if v9 = v13 then f_P_pass_b54 sc (f_P_pass_b7 sc n) l0 l1 l3 (l3 + (1 : Int32)) u else f_P_pass_b42 sc (f_P_pass_b7 sc n) l0 l1 l3 u)))
theorem w_P_pass_b7 {sc : xSc} {d : Nat} {Q : xR → xH → Prop} {hZ : xH}  (hQ : Q (.inl none) hZ) : ∀ (n : Nat) (l0 : Option Nat) (l1 : UInt64) (l3 : Int32) (u : xH), f_P_pass_b7 sc  n l0 l1 l3 u = some hZ → xW sc m_P_pass (d + 0) Q (u) 7 [some (vR l0), some (vD l1), none, some (vI l3), none] [] := by
  intro n
  induction n with
  | zero =>
    intro l0 l1 l3 u h
    cases h
  | succ n hk7 =>
    intro l0 l1 l3 u h
    unfold f_P_pass_b7 at h
    refine x_iload_n (pc := 7) d_P_pass_7 rfl ?_
    refine x_aload_n (pc := 8) d_P_pass_8 rfl ?_
    obtain ⟨v1, e2, h⟩ := Option.bind_eq_some_iff.mp h
    refine c_getI (pc := 9) d_P_pass_9 l_P_471 e2 ?_
    refine x_icmp_ge (tgt := 129) (pc := 12) d_P_pass_12 (by decide) (fun c3 => ?_) (fun c3 => ?_)
    · rw [if_pos c3] at h
      cases h
      exact x_vret (pc := 129) d_P_pass_129 rfl hQ
    · rw [if_neg c3] at h
      refine x_iload_n (pc := 15) d_P_pass_15 rfl ?_
      refine x_iconst (v := (1 : Int32)) (pc := 16) d_P_pass_16 (by decide) ?_
      refine x_iadd (pc := 17) d_P_pass_17 ?_
      refine x_aload_n (pc := 18) d_P_pass_18 rfl ?_
      obtain ⟨v4, e5, h⟩ := Option.bind_eq_some_iff.mp h
      refine c_getI (pc := 19) d_P_pass_19 l_P_471 e5 ?_
      refine x_icmp_eq (tgt := 42) (pc := 22) d_P_pass_22 (by decide) (fun c6 => ?_) (fun c6 => ?_)
      · rw [if_pos c6] at h
        exact w_P_pass_b42 (f_P_pass_b7 sc n) hk7 hQ l0 l1 l3 u h
      · rw [if_neg c6] at h
        refine x_aload_n (pc := 25) d_P_pass_25 rfl ?_
        obtain ⟨v7, e8, h⟩ := Option.bind_eq_some_iff.mp h
        refine c_getR (pc := 26) d_P_pass_26 l_P_104 e8 ?_
        refine x_iload_n (pc := 29) d_P_pass_29 rfl ?_
        refine x_iconst (v := (1 : Int32)) (pc := 30) d_P_pass_30 (by decide) ?_
        refine x_iadd (pc := 31) d_P_pass_31 ?_
        obtain ⟨v9, e10, h⟩ := Option.bind_eq_some_iff.mp h
        refine c_iald (pc := 32) d_P_pass_32 e10 ?_
        refine x_aload_n (pc := 33) d_P_pass_33 rfl ?_
        obtain ⟨v11, e12, h⟩ := Option.bind_eq_some_iff.mp h
        refine c_getR (pc := 34) d_P_pass_34 l_P_104 e12 ?_
        refine x_iload_n (pc := 37) d_P_pass_37 rfl ?_
        obtain ⟨v13, e14, h⟩ := Option.bind_eq_some_iff.mp h
        refine c_iald (pc := 38) d_P_pass_38 e14 ?_
        refine x_icmp_eq (tgt := 51) (pc := 39) d_P_pass_39 (by decide) (fun c15 => ?_) (fun c15 => ?_)
        · rw [if_pos c15] at h
          refine x_iload_n (pc := 51) d_P_pass_51 rfl ?_
          refine x_iconst (v := (1 : Int32)) (pc := 52) d_P_pass_52 (by decide) ?_
          refine x_iadd (pc := 53) d_P_pass_53 ?_
          exact w_P_pass_b54 (f_P_pass_b7 sc n) hk7 hQ l0 l1 l3 (l3 + (1 : Int32)) u h
        · rw [if_neg c15] at h
          exact w_P_pass_b42 (f_P_pass_b7 sc n) hk7 hQ l0 l1 l3 u h
def f_P_pass (sc : xSc) (u : xH) (a0 : Option Nat) (a1 : UInt64) : Option xH := (pV u 0 36 a0 (vI (0 : Int32))).bind fun u1 => f_P_pass_b7 sc mF a0 a1 (0 : Int32) u1
theorem w_P_pass {sc : xSc} {d : Nat} {Q : xR → xH → Prop} {hZ : xH} (hQ : Q (.inl none) hZ) (u : xH) (a0 : Option Nat) (a1 : UInt64) (h : f_P_pass sc u a0 a1 = some hZ) : xW sc m_P_pass (d + 0) Q (u) 0 (xent [vR a0, vD a1] m_P_pass.2.2.1) [] := by
  show xW sc m_P_pass (d + 0) Q (u) 0 [some (vR a0), some (vD a1), none, none, none] []
  unfold f_P_pass at h
  refine x_aload_n (pc := 0) d_P_pass_0 rfl ?_
  refine x_iconst (v := (0 : Int32)) (pc := 1) d_P_pass_1 (by decide) ?_
  obtain ⟨u1, e2, h⟩ := Option.bind_eq_some_iff.mp h
  refine c_putf (pc := 2) d_P_pass_2 l_P_474 fp_0_36 (xfit_int) e2 ?_
  refine x_iconst (v := (0 : Int32)) (pc := 5) d_P_pass_5 (by decide) ?_
  refine x_istore_n (pc := 6) d_P_pass_6 (by decide) ?_
  show xW sc m_P_pass (d + 0) Q (u1) 7 [some (vR a0), some (vD a1), none, some (vI (0 : Int32)), none] []
  exact w_P_pass_b7 hQ mF a0 a1 (0 : Int32) u1 h
def f_P_isInside_b194 (sc : xSc) (u : xH)  (t0 : Int32) : Option Int32 := (if xbo t0 = true then some t0 else none)
theorem w_P_isInside_b194 {sc : xSc} {d : Nat} {Q : xR → xH → Prop} {u : xH} {rZ : Int32}  (hQ : Q (.inl (some (vI rZ))) u) (t0 : Int32) (h : f_P_isInside_b194 sc u  t0 = some rZ) : xW sc m_P_isInside (d + 0) Q (u) 194 [none, none, none, none, none, none, none, none, none, none, none, none, none, none] [vI t0] := by
  unfold f_P_isInside_b194 at h
  obtain ⟨c1, h⟩ := ite_some h
  cases h
  exact x_iret (ty := .boolean) (pc := 194) d_P_isInside_194 rfl (xbo_n c1) hQ
def f_P_isInside_b157 (sc : xSc) (u : xH) (k9 : Option Nat → UInt64 → UInt64 → Int32 → Int32 → Int32 → Int32 → Option Int32) (l0 : Option Nat) (l1 : UInt64) (l3 : UInt64) (l5 : Int32) (l6 : Int32) (l7 : Int32) (l8 : Int32) : Option Int32 := k9 l0 l1 l3 l5 l6 l7 (l8 + Int32.ofInt 1)
theorem w_P_isInside_b157 {sc : xSc} {d : Nat} {Q : xR → xH → Prop} {u : xH} {rZ : Int32} (k9 : Option Nat → UInt64 → UInt64 → Int32 → Int32 → Int32 → Int32 → Option Int32) (hk9 : ∀ (l0 : Option Nat) (l1 : UInt64) (l3 : UInt64) (l5 : Int32) (l6 : Int32) (l7 : Int32) (l8 : Int32), k9 l0 l1 l3 l5 l6 l7 l8 = some rZ → xW sc m_P_isInside (d + 0) Q (u) 9 [some (vR l0), some (vD l1), none, some (vD l3), none, some (vI l5), some (vI l6), some (vI l7), some (vI l8), none, none, none, none, none] []) (hQ : Q (.inl (some (vI rZ))) u) (l0 : Option Nat) (l1 : UInt64) (l3 : UInt64) (l5 : Int32) (l6 : Int32) (l7 : Int32) (l8 : Int32) (h : f_P_isInside_b157 sc u k9 l0 l1 l3 l5 l6 l7 l8 = some rZ) : xW sc m_P_isInside (d + 0) Q (u) 157 [some (vR l0), some (vD l1), none, some (vD l3), none, some (vI l5), some (vI l6), some (vI l7), some (vI l8), none, none, none, none, none] [] := by
  unfold f_P_isInside_b157 at h
  refine x_iinc (pc := 157) d_P_isInside_157 rfl (by decide) ?_
  show xW sc m_P_isInside (d + 0) Q (u) 160 [some (vR l0), some (vD l1), none, some (vD l3), none, some (vI l5), some (vI l6), some (vI l7), some (vI (l8 + Int32.ofInt 1)), none, none, none, none, none] []
  refine x_goto (tgt := 9) (pc := 160) d_P_isInside_160 (by decide) ?_
  exact hk9 l0 l1 l3 l5 l6 l7 (l8 + Int32.ofInt 1) h
def f_P_isInside_b151 (sc : xSc) (u : xH) (k9 : Option Nat → UInt64 → UInt64 → Int32 → Int32 → Int32 → Int32 → Option Int32) (l0 : Option Nat) (l1 : UInt64) (l3 : UInt64) (l5 : Int32) (l7 : Int32) (l8 : Int32) (t0 : Int32) (t1 : Int32) : Option Int32 := f_P_isInside_b157 sc u k9 l0 l1 l3 l5 (t1 + t0) (l7 + Int32.ofInt 1) l8
theorem w_P_isInside_b151 {sc : xSc} {d : Nat} {Q : xR → xH → Prop} {u : xH} {rZ : Int32} (k9 : Option Nat → UInt64 → UInt64 → Int32 → Int32 → Int32 → Int32 → Option Int32) (hk9 : ∀ (l0 : Option Nat) (l1 : UInt64) (l3 : UInt64) (l5 : Int32) (l6 : Int32) (l7 : Int32) (l8 : Int32), k9 l0 l1 l3 l5 l6 l7 l8 = some rZ → xW sc m_P_isInside (d + 0) Q (u) 9 [some (vR l0), some (vD l1), none, some (vD l3), none, some (vI l5), some (vI l6), some (vI l7), some (vI l8), none, none, none, none, none] []) (hQ : Q (.inl (some (vI rZ))) u) (l0 : Option Nat) (l1 : UInt64) (l3 : UInt64) (l5 : Int32) (l7 : Int32) (l8 : Int32) (t0 : Int32) (t1 : Int32) (h : f_P_isInside_b151 sc u k9 l0 l1 l3 l5 l7 l8 t0 t1 = some rZ) : xW sc m_P_isInside (d + 0) Q (u) 151 [some (vR l0), some (vD l1), none, some (vD l3), none, some (vI l5), none, some (vI l7), some (vI l8), none, none, none, none, none] [vI t0, vI t1] := by
  unfold f_P_isInside_b151 at h
  refine x_iadd (pc := 151) d_P_isInside_151 ?_
  refine x_istore (pc := 152) d_P_isInside_152 (by decide) ?_
  show xW sc m_P_isInside (d + 0) Q (u) 154 [some (vR l0), some (vD l1), none, some (vD l3), none, some (vI l5), some (vI (t1 + t0)), some (vI l7), some (vI l8), none, none, none, none, none] []
  refine x_iinc (pc := 154) d_P_isInside_154 rfl (by decide) ?_
  show xW sc m_P_isInside (d + 0) Q (u) 157 [some (vR l0), some (vD l1), none, some (vD l3), none, some (vI l5), some (vI (t1 + t0)), some (vI (l7 + Int32.ofInt 1)), some (vI l8), none, none, none, none, none] []
  exact w_P_isInside_b157 k9 hk9 hQ l0 l1 l3 l5 (t1 + t0) (l7 + Int32.ofInt 1) l8 h
def f_P_isInside_b139 (sc : xSc) (u : xH) (k9 : Option Nat → UInt64 → UInt64 → Int32 → Int32 → Int32 → Int32 → Option Int32) (l0 : Option Nat) (l1 : UInt64) (l3 : UInt64) (l5 : Int32) (l6 : Int32) (l7 : Int32) (l8 : Int32) (l13 : Int32) : Option Int32 := (if l13 = 0 then f_P_isInside_b151 sc u k9 l0 l1 l3 l5 l7 l8 (-1 : Int32) l6 else f_P_isInside_b151 sc u k9 l0 l1 l3 l5 l7 l8 (1 : Int32) l6)
theorem w_P_isInside_b139 {sc : xSc} {d : Nat} {Q : xR → xH → Prop} {u : xH} {rZ : Int32} (k9 : Option Nat → UInt64 → UInt64 → Int32 → Int32 → Int32 → Int32 → Option Int32) (hk9 : ∀ (l0 : Option Nat) (l1 : UInt64) (l3 : UInt64) (l5 : Int32) (l6 : Int32) (l7 : Int32) (l8 : Int32), k9 l0 l1 l3 l5 l6 l7 l8 = some rZ → xW sc m_P_isInside (d + 0) Q (u) 9 [some (vR l0), some (vD l1), none, some (vD l3), none, some (vI l5), some (vI l6), some (vI l7), some (vI l8), none, none, none, none, none] []) (hQ : Q (.inl (some (vI rZ))) u) (l0 : Option Nat) (l1 : UInt64) (l3 : UInt64) (l5 : Int32) (l6 : Int32) (l7 : Int32) (l8 : Int32) (l13 : Int32) (h : f_P_isInside_b139 sc u k9 l0 l1 l3 l5 l6 l7 l8 l13 = some rZ) : xW sc m_P_isInside (d + 0) Q (u) 139 [some (vR l0), some (vD l1), none, some (vD l3), none, some (vI l5), some (vI l6), some (vI l7), some (vI l8), none, none, none, none, some (vI l13)] [] := by
  unfold f_P_isInside_b139 at h
  refine x_iload (pc := 139) d_P_isInside_139 rfl ?_
  refine x_iload (pc := 141) d_P_isInside_141 rfl ?_
  refine x_if_eq (tgt := 150) (pc := 143) d_P_isInside_143 (by decide) (fun c1 => ?_) (fun c1 => ?_)
  · rw [if_pos c1] at h
    refine x_iconst (v := (-1 : Int32)) (pc := 150) d_P_isInside_150 (by decide) ?_
    exact x_wk (L' := [some (vR l0), some (vD l1), none, some (vD l3), none, some (vI l5), none, some (vI l7), some (vI l8), none, none, none, none, none]) ⟨Or.inr rfl, Or.inr rfl, Or.inl rfl, Or.inr rfl, Or.inl rfl, Or.inr rfl, Or.inl rfl, Or.inr rfl, Or.inr rfl, Or.inl rfl, Or.inl rfl, Or.inl rfl, Or.inl rfl, Or.inl rfl, trivial⟩ (w_P_isInside_b151 k9 hk9 hQ l0 l1 l3 l5 l7 l8 (-1 : Int32) l6 h)
  · rw [if_neg c1] at h
    refine x_iconst (v := (1 : Int32)) (pc := 146) d_P_isInside_146 (by decide) ?_
    refine x_goto (tgt := 151) (pc := 147) d_P_isInside_147 (by decide) ?_
    exact x_wk (L' := [some (vR l0), some (vD l1), none, some (vD l3), none, some (vI l5), none, some (vI l7), some (vI l8), none, none, none, none, none]) ⟨Or.inr rfl, Or.inr rfl, Or.inl rfl, Or.inr rfl, Or.inl rfl, Or.inr rfl, Or.inl rfl, Or.inr rfl, Or.inr rfl, Or.inl rfl, Or.inl rfl, Or.inl rfl, Or.inl rfl, Or.inl rfl, trivial⟩ (w_P_isInside_b151 k9 hk9 hQ l0 l1 l3 l5 l7 l8 (1 : Int32) l6 h)
def f_P_isInside_b112 (sc : xSc) (u : xH) (k9 : Option Nat → UInt64 → UInt64 → Int32 → Int32 → Int32 → Int32 → Option Int32) (l0 : Option Nat) (l1 : UInt64) (l3 : UInt64) (l5 : Int32) (l6 : Int32) (l7 : Int32) (l8 : Int32) (l11 : UInt64) (t0 : Int32) : Option Int32 := (if t0 = 0 then (if (Op.cmpValue (FP.dcmp l11 FP.dconst0) .l) < 0 then f_P_isInside_b139 sc u k9 l0 l1 l3 l5 l6 l7 l8 t0 else f_P_isInside_b157 sc u k9 l0 l1 l3 l5 l6 l7 l8) else (if 0 < (Op.cmpValue (FP.dcmp l11 FP.dconst0) .g) then f_P_isInside_b139 sc u k9 l0 l1 l3 l5 l6 l7 l8 t0 else f_P_isInside_b157 sc u k9 l0 l1 l3 l5 l6 l7 l8))
theorem w_P_isInside_b112 {sc : xSc} {d : Nat} {Q : xR → xH → Prop} {u : xH} {rZ : Int32} (k9 : Option Nat → UInt64 → UInt64 → Int32 → Int32 → Int32 → Int32 → Option Int32) (hk9 : ∀ (l0 : Option Nat) (l1 : UInt64) (l3 : UInt64) (l5 : Int32) (l6 : Int32) (l7 : Int32) (l8 : Int32), k9 l0 l1 l3 l5 l6 l7 l8 = some rZ → xW sc m_P_isInside (d + 0) Q (u) 9 [some (vR l0), some (vD l1), none, some (vD l3), none, some (vI l5), some (vI l6), some (vI l7), some (vI l8), none, none, none, none, none] []) (hQ : Q (.inl (some (vI rZ))) u) (l0 : Option Nat) (l1 : UInt64) (l3 : UInt64) (l5 : Int32) (l6 : Int32) (l7 : Int32) (l8 : Int32) (l11 : UInt64) (t0 : Int32) (h : f_P_isInside_b112 sc u k9 l0 l1 l3 l5 l6 l7 l8 l11 t0 = some rZ) : xW sc m_P_isInside (d + 0) Q (u) 112 [some (vR l0), some (vD l1), none, some (vD l3), none, some (vI l5), some (vI l6), some (vI l7), some (vI l8), none, none, some (vD l11), none, none] [vI t0] := by
  unfold f_P_isInside_b112 at h
  refine x_istore (pc := 112) d_P_isInside_112 (by decide) ?_
  show xW sc m_P_isInside (d + 0) Q (u) 114 [some (vR l0), some (vD l1), none, some (vD l3), none, some (vI l5), some (vI l6), some (vI l7), some (vI l8), none, none, some (vD l11), none, some (vI t0)] []
  refine x_iload (pc := 114) d_P_isInside_114 rfl ?_
  refine x_if_eq (tgt := 129) (pc := 116) d_P_isInside_116 (by decide) (fun c1 => ?_) (fun c1 => ?_)
  · rw [if_pos c1] at h
    refine x_dload (pc := 129) d_P_isInside_129 rfl ?_
    refine x_dconst0 (pc := 131) d_P_isInside_131 ?_
    refine x_dcmp (pc := 132) d_P_isInside_132 ?_
    refine x_if_lt (tgt := 139) (pc := 133) d_P_isInside_133 (by decide) (fun c2 => ?_) (fun c2 => ?_)
    · rw [if_pos c2] at h
      exact x_wk (L' := [some (vR l0), some (vD l1), none, some (vD l3), none, some (vI l5), some (vI l6), some (vI l7), some (vI l8), none, none, none, none, some (vI t0)]) ⟨Or.inr rfl, Or.inr rfl, Or.inl rfl, Or.inr rfl, Or.inl rfl, Or.inr rfl, Or.inr rfl, Or.inr rfl, Or.inr rfl, Or.inl rfl, Or.inl rfl, Or.inl rfl, Or.inl rfl, Or.inr rfl, trivial⟩ (w_P_isInside_b139 k9 hk9 hQ l0 l1 l3 l5 l6 l7 l8 t0 h)
    · rw [if_neg c2] at h
      refine x_goto (tgt := 157) (pc := 136) d_P_isInside_136 (by decide) ?_
      exact x_wk (L' := [some (vR l0), some (vD l1), none, some (vD l3), none, some (vI l5), some (vI l6), some (vI l7), some (vI l8), none, none, none, none, none]) ⟨Or.inr rfl, Or.inr rfl, Or.inl rfl, Or.inr rfl, Or.inl rfl, Or.inr rfl, Or.inr rfl, Or.inr rfl, Or.inr rfl, Or.inl rfl, Or.inl rfl, Or.inl rfl, Or.inl rfl, Or.inl rfl, trivial⟩ (w_P_isInside_b157 k9 hk9 hQ l0 l1 l3 l5 l6 l7 l8 h)
  · rw [if_neg c1] at h
    refine x_dload (pc := 119) d_P_isInside_119 rfl ?_
    refine x_dconst0 (pc := 121) d_P_isInside_121 ?_
    refine x_dcmp (pc := 122) d_P_isInside_122 ?_
    refine x_if_gt (tgt := 139) (pc := 123) d_P_isInside_123 (by decide) (fun c3 => ?_) (fun c3 => ?_)
    · rw [if_pos c3] at h
      exact x_wk (L' := [some (vR l0), some (vD l1), none, some (vD l3), none, some (vI l5), some (vI l6), some (vI l7), some (vI l8), none, none, none, none, some (vI t0)]) ⟨Or.inr rfl, Or.inr rfl, Or.inl rfl, Or.inr rfl, Or.inl rfl, Or.inr rfl, Or.inr rfl, Or.inr rfl, Or.inr rfl, Or.inl rfl, Or.inl rfl, Or.inl rfl, Or.inl rfl, Or.inr rfl, trivial⟩ (w_P_isInside_b139 k9 hk9 hQ l0 l1 l3 l5 l6 l7 l8 t0 h)
    · rw [if_neg c3] at h
      refine x_goto (tgt := 157) (pc := 126) d_P_isInside_126 (by decide) ?_
      exact x_wk (L' := [some (vR l0), some (vD l1), none, some (vD l3), none, some (vI l5), some (vI l6), some (vI l7), some (vI l8), none, none, none, none, none]) ⟨Or.inr rfl, Or.inr rfl, Or.inl rfl, Or.inr rfl, Or.inl rfl, Or.inr rfl, Or.inr rfl, Or.inr rfl, Or.inr rfl, Or.inl rfl, Or.inl rfl, Or.inl rfl, Or.inl rfl, Or.inl rfl, trivial⟩ (w_P_isInside_b157 k9 hk9 hQ l0 l1 l3 l5 l6 l7 l8 h)
def f_P_isInside_b9 (sc : xSc) (u : xH)  : Nat → Option Nat → UInt64 → UInt64 → Int32 → Int32 → Int32 → Int32 → Option Int32
  | 0, _, _, _, _, _, _, _ => none
  | n + 1, l0, l1, l3, l5, l6, l7, l8 => (gI sc u 0 36 l0).bind fun v1 => (if v1 ≤ l8 then (if l5 = 0 then (if (2 : Int32) = 0 then none else (if (l7 - l7 / (2 : Int32) * (2 : Int32)) = (1 : Int32) then f_P_isInside_b194 sc u (1 : Int32) else f_P_isInside_b194 sc u (0 : Int32))) else (if l6 = 0 then f_P_isInside_b194 sc u (0 : Int32) else f_P_isInside_b194 sc u (1 : Int32))) else (gR sc u 0 33 l0).bind fun v8 => (aI .int sc u v8 l8).bind fun v10 => (gR sc u 0 34 l0).bind fun v12 => (aI .int sc u v12 l8).bind fun v14 => (gR sc u 0 30 l0).bind fun v16 => (aD sc u v16 v14).bind fun v18 => (gR sc u 0 30 l0).bind fun v20 => (aD sc u v20 v10).bind fun v22 => (if xn64 (FP.dsub v18 v22) = true then (gR sc u 0 31 l0).bind fun v25 => (aD sc u v25 v10).bind fun v27 => (if xn64 (FP.dsub l3 v27) = true then (if xn64 (FP.dmul (FP.dsub v18 v22) (FP.dsub l3 v27)) = true then (gR sc u 0 30 l0).bind fun v31 => (aD sc u v31 v10).bind fun v33 => (if xn64 (FP.dsub l1 v33) = true then (gR sc u 0 31 l0).bind fun v36 => (aD sc u v36 v14).bind fun v38 => (gR sc u 0 31 l0).bind fun v40 => (aD sc u v40 v10).bind fun v42 => (if xn64 (FP.dsub v38 v42) = true then (if xn64 (FP.dmul (FP.dsub l1 v33) (FP.dsub v38 v42)) = true then (if xn64 (FP.dsub (FP.dmul (FP.dsub v18 v22) (FP.dsub l3 v27)) (FP.dmul (FP.dsub l1 v33) (FP.dsub v38 v42))) = true then (gR sc u 0 31 l0).bind fun v47 => (aD sc u v47 v10).bind fun v49 => (gR sc u 0 31 l0).bind fun v51 => (aD sc u v51 v14).bind fun v53 => (if 0 ≤ (Op.cmpValue (FP.dcmp v49 v53) .g) then f_P_isInside_b112 sc u (f_P_isInside_b9 sc u n) l0 l1 l3 l5 l6 l7 l8 (FP.dsub (FP.dmul (FP.dsub v18 v22) (FP.dsub l3 v27)) (FP.dmul (FP.dsub l1 v33) (FP.dsub v38 v42))) (0 : Int32) else f_P_isInside_b112 sc u (f_P_isInside_b9 sc u n) l0 l1 l3 l5 l6 l7 l8 (FP.dsub (FP.dmul (FP.dsub v18 v22) (FP.dsub l3 v27)) (FP.dmul (FP.dsub l1 v33) (FP.dsub v38 v42))) (1 : Int32)) else none) else none) else none) else none) else none) else none) else none))
theorem w_P_isInside_b9 {sc : xSc} {d : Nat} {Q : xR → xH → Prop} {u : xH} {rZ : Int32}  (hQ : Q (.inl (some (vI rZ))) u) : ∀ (n : Nat) (l0 : Option Nat) (l1 : UInt64) (l3 : UInt64) (l5 : Int32) (l6 : Int32) (l7 : Int32) (l8 : Int32), f_P_isInside_b9 sc u  n l0 l1 l3 l5 l6 l7 l8 = some rZ → xW sc m_P_isInside (d + 0) Q (u) 9 [some (vR l0), some (vD l1), none, some (vD l3), none, some (vI l5), some (vI l6), some (vI l7), some (vI l8), none, none, none, none, none] [] := by
  intro n
  induction n with
  | zero =>
    intro l0 l1 l3 l5 l6 l7 l8 h
    cases h
  | succ n hk9 =>
    intro l0 l1 l3 l5 l6 l7 l8 h
    unfold f_P_isInside_b9 at h
    refine x_iload (pc := 9) d_P_isInside_9 rfl ?_
    refine x_aload_n (pc := 11) d_P_isInside_11 rfl ?_
    obtain ⟨v1, e2, h⟩ := Option.bind_eq_some_iff.mp h
    refine c_getI (pc := 12) d_P_isInside_12 l_P_474 e2 ?_
    refine x_icmp_ge (tgt := 163) (pc := 15) d_P_isInside_15 (by decide) (fun c3 => ?_) (fun c3 => ?_)
    · rw [if_pos c3] at h
      refine x_iload (pc := 163) d_P_isInside_163 rfl ?_
      refine x_if_eq (tgt := 181) (pc := 165) d_P_isInside_165 (by decide) (fun c4 => ?_) (fun c4 => ?_)
      · rw [if_pos c4] at h
        refine x_iload (pc := 181) d_P_isInside_181 rfl ?_
        refine x_iconst (v := (2 : Int32)) (pc := 183) d_P_isInside_183 (by decide) ?_
        obtain ⟨c5, h⟩ := itn_some h
        refine x_irem (pc := 184) d_P_isInside_184 (c5) ?_
        refine x_iconst (v := (1 : Int32)) (pc := 185) d_P_isInside_185 (by decide) ?_
        refine x_icmp_ne (tgt := 193) (pc := 186) d_P_isInside_186 (by decide) (fun c6 => ?_) (fun c6 => ?_)
        · rw [if_neg c6] at h
          refine x_iconst (v := (0 : Int32)) (pc := 193) d_P_isInside_193 (by decide) ?_
          exact x_wk (L' := [none, none, none, none, none, none, none, none, none, none, none, none, none, none]) ⟨Or.inl rfl, Or.inl rfl, Or.inl rfl, Or.inl rfl, Or.inl rfl, Or.inl rfl, Or.inl rfl, Or.inl rfl, Or.inl rfl, Or.inl rfl, Or.inl rfl, Or.inl rfl, Or.inl rfl, Or.inl rfl, trivial⟩ (w_P_isInside_b194 hQ (0 : Int32) h)
        · rw [if_pos c6] at h
          refine x_iconst (v := (1 : Int32)) (pc := 189) d_P_isInside_189 (by decide) ?_
          refine x_goto (tgt := 194) (pc := 190) d_P_isInside_190 (by decide) ?_
          exact x_wk (L' := [none, none, none, none, none, none, none, none, none, none, none, none, none, none]) ⟨Or.inl rfl, Or.inl rfl, Or.inl rfl, Or.inl rfl, Or.inl rfl, Or.inl rfl, Or.inl rfl, Or.inl rfl, Or.inl rfl, Or.inl rfl, Or.inl rfl, Or.inl rfl, Or.inl rfl, Or.inl rfl, trivial⟩ (w_P_isInside_b194 hQ (1 : Int32) h)
      · rw [if_neg c4] at h
        refine x_iload (pc := 168) d_P_isInside_168 rfl ?_
        refine x_if_eq (tgt := 177) (pc := 170) d_P_isInside_170 (by decide) (fun c7 => ?_) (fun c7 => ?_)
        · rw [if_pos c7] at h
          refine x_iconst (v := (0 : Int32)) (pc := 177) d_P_isInside_177 (by decide) ?_
          refine x_goto (tgt := 194) (pc := 178) d_P_isInside_178 (by decide) ?_
          exact x_wk (L' := [none, none, none, none, none, none, none, none, none, none, none, none, none, none]) ⟨Or.inl rfl, Or.inl rfl, Or.inl rfl, Or.inl rfl, Or.inl rfl, Or.inl rfl, Or.inl rfl, Or.inl rfl, Or.inl rfl, Or.inl rfl, Or.inl rfl, Or.inl rfl, Or.inl rfl, Or.inl rfl, trivial⟩ (w_P_isInside_b194 hQ (0 : Int32) h)
        · rw [if_neg c7] at h
          refine x_iconst (v := (1 : Int32)) (pc := 173) d_P_isInside_173 (by decide) ?_
          refine x_goto (tgt := 194) (pc := 174) d_P_isInside_174 (by decide) ?_
          exact x_wk (L' := [none, none, none, none, none, none, none, none, none, none, none, none, none, none]) ⟨Or.inl rfl, Or.inl rfl, Or.inl rfl, Or.inl rfl, Or.inl rfl, Or.inl rfl, Or.inl rfl, Or.inl rfl, Or.inl rfl, Or.inl rfl, Or.inl rfl, Or.inl rfl, Or.inl rfl, Or.inl rfl, trivial⟩ (w_P_isInside_b194 hQ (1 : Int32) h)
    · rw [if_neg c3] at h
      refine x_aload_n (pc := 18) d_P_isInside_18 rfl ?_
      obtain ⟨v8, e9, h⟩ := Option.bind_eq_some_iff.mp h
      refine c_getR (pc := 19) d_P_isInside_19 l_P_107 e9 ?_
      refine x_iload (pc := 22) d_P_isInside_22 rfl ?_
      obtain ⟨v10, e11, h⟩ := Option.bind_eq_some_iff.mp h
      refine c_iald (pc := 24) d_P_isInside_24 e11 ?_
      refine x_istore (pc := 25) d_P_isInside_25 (by decide) ?_
      show xW sc m_P_isInside (d + 0) Q (u) 27 [some (vR l0), some (vD l1), none, some (vD l3), none, some (vI l5), some (vI l6), some (vI l7), some (vI l8), some (vI v10), none, none, none, none] []
      refine x_aload_n (pc := 27) d_P_isInside_27 rfl ?_
      obtain ⟨v12, e13, h⟩ := Option.bind_eq_some_iff.mp h
      refine c_getR (pc := 28) d_P_isInside_28 l_P_110 e13 ?_
      refine x_iload (pc := 31) d_P_isInside_31 rfl ?_
      obtain ⟨v14, e15, h⟩ := Option.bind_eq_some_iff.mp h
      refine c_iald (pc := 33) d_P_isInside_33 e15 ?_
      refine x_istore (pc := 34) d_P_isInside_34 (by decide) ?_
      show xW sc m_P_isInside (d + 0) Q (u) 36 [some (vR l0), some (vD l1), none, some (vD l3), none, some (vI l5), some (vI l6), some (vI l7), some (vI l8), some (vI v10), some (vI v14), none, none, none] []
      refine x_aload_n (pc := 36) d_P_isInside_36 rfl ?_
      obtain ⟨v16, e17, h⟩ := Option.bind_eq_some_iff.mp h
      refine c_getR (pc := 37) d_P_isInside_37 l_P_97 e17 ?_
      refine x_iload (pc := 40) d_P_isInside_40 rfl ?_
      obtain ⟨v18, e19, h⟩ := Option.bind_eq_some_iff.mp h
      refine c_dald (pc := 42) d_P_isInside_42 e19 ?_
      refine x_aload_n (pc := 43) d_P_isInside_43 rfl ?_
      obtain ⟨v20, e21, h⟩ := Option.bind_eq_some_iff.mp h
      refine c_getR (pc := 44) d_P_isInside_44 l_P_97 e21 ?_
      refine x_iload (pc := 47) d_P_isInside_47 rfl ?_
      obtain ⟨v22, e23, h⟩ := Option.bind_eq_some_iff.mp h
      refine c_dald (pc := 49) d_P_isInside_49 e23 ?_
      obtain ⟨c24, h⟩ := ite_some h
      refine x_dsub (pc := 50) d_P_isInside_50 (xn64_v c24) ?_
      refine x_dload_n (pc := 51) d_P_isInside_51 rfl ?_
      refine x_aload_n (pc := 52) d_P_isInside_52 rfl ?_
      obtain ⟨v25, e26, h⟩ := Option.bind_eq_some_iff.mp h
      refine c_getR (pc := 53) d_P_isInside_53 l_P_101 e26 ?_
      refine x_iload (pc := 56) d_P_isInside_56 rfl ?_
      obtain ⟨v27, e28, h⟩ := Option.bind_eq_some_iff.mp h
      refine c_dald (pc := 58) d_P_isInside_58 e28 ?_
      obtain ⟨c29, h⟩ := ite_some h
      refine x_dsub (pc := 59) d_P_isInside_59 (xn64_v c29) ?_
      obtain ⟨c30, h⟩ := ite_some h
      refine x_dmul (pc := 60) d_P_isInside_60 (xn64_v c30) ?_
      refine x_dload_n (pc := 61) d_P_isInside_61 rfl ?_
      refine x_aload_n (pc := 62) d_P_isInside_62 rfl ?_
      obtain ⟨v31, e32, h⟩ := Option.bind_eq_some_iff.mp h
      refine c_getR (pc := 63) d_P_isInside_63 l_P_97 e32 ?_
      refine x_iload (pc := 66) d_P_isInside_66 rfl ?_
      obtain ⟨v33, e34, h⟩ := Option.bind_eq_some_iff.mp h
      refine c_dald (pc := 68) d_P_isInside_68 e34 ?_
      obtain ⟨c35, h⟩ := ite_some h
      refine x_dsub (pc := 69) d_P_isInside_69 (xn64_v c35) ?_
      refine x_aload_n (pc := 70) d_P_isInside_70 rfl ?_
      obtain ⟨v36, e37, h⟩ := Option.bind_eq_some_iff.mp h
      refine c_getR (pc := 71) d_P_isInside_71 l_P_101 e37 ?_
      refine x_iload (pc := 74) d_P_isInside_74 rfl ?_
      obtain ⟨v38, e39, h⟩ := Option.bind_eq_some_iff.mp h
      refine c_dald (pc := 76) d_P_isInside_76 e39 ?_
      refine x_aload_n (pc := 77) d_P_isInside_77 rfl ?_
      obtain ⟨v40, e41, h⟩ := Option.bind_eq_some_iff.mp h
      refine c_getR (pc := 78) d_P_isInside_78 l_P_101 e41 ?_
      refine x_iload (pc := 81) d_P_isInside_81 rfl ?_
      obtain ⟨v42, e43, h⟩ := Option.bind_eq_some_iff.mp h
      refine c_dald (pc := 83) d_P_isInside_83 e43 ?_
      obtain ⟨c44, h⟩ := ite_some h
      refine x_dsub (pc := 84) d_P_isInside_84 (xn64_v c44) ?_
      obtain ⟨c45, h⟩ := ite_some h
      refine x_dmul (pc := 85) d_P_isInside_85 (xn64_v c45) ?_
      obtain ⟨c46, h⟩ := ite_some h
      refine x_dsub (pc := 86) d_P_isInside_86 (xn64_v c46) ?_
      refine x_dstore (pc := 87) d_P_isInside_87 (by decide) ?_
      show xW sc m_P_isInside (d + 0) Q (u) 89 [some (vR l0), some (vD l1), none, some (vD l3), none, some (vI l5), some (vI l6), some (vI l7), some (vI l8), some (vI v10), some (vI v14), some (vD (FP.dsub (FP.dmul (FP.dsub v18 v22) (FP.dsub l3 v27)) (FP.dmul (FP.dsub l1 v33) (FP.dsub v38 v42)))), none, none] []
      refine x_aload_n (pc := 89) d_P_isInside_89 rfl ?_
      obtain ⟨v47, e48, h⟩ := Option.bind_eq_some_iff.mp h
      refine c_getR (pc := 90) d_P_isInside_90 l_P_101 e48 ?_
      refine x_iload (pc := 93) d_P_isInside_93 rfl ?_
      obtain ⟨v49, e50, h⟩ := Option.bind_eq_some_iff.mp h
      refine c_dald (pc := 95) d_P_isInside_95 e50 ?_
      refine x_aload_n (pc := 96) d_P_isInside_96 rfl ?_
      obtain ⟨v51, e52, h⟩ := Option.bind_eq_some_iff.mp h
      refine c_getR (pc := 97) d_P_isInside_97 l_P_101 e52 ?_
      refine x_iload (pc := 100) d_P_isInside_100 rfl ?_
      obtain ⟨v53, e54, h⟩ := Option.bind_eq_some_iff.mp h
      refine c_dald (pc := 102) d_P_isInside_102 e54 ?_
      refine x_dcmp (pc := 103) d_P_isInside_103 ?_
      refine x_if_ge (tgt := 111) (pc := 104) d_P_isInside_104 (by decide) (fun c55 => ?_) (fun c55 => ?_)
      · rw [if_pos c55] at h
        refine x_iconst (v := (0 : Int32)) (pc := 111) d_P_isInside_111 (by decide) ?_
        exact x_wk (L' := [some (vR l0), some (vD l1), none, some (vD l3), none, some (vI l5), some (vI l6), some (vI l7), some (vI l8), none, none, some (vD (FP.dsub (FP.dmul (FP.dsub v18 v22) (FP.dsub l3 v27)) (FP.dmul (FP.dsub l1 v33) (FP.dsub v38 v42)))), none, none]) ⟨Or.inr rfl, Or.inr rfl, Or.inl rfl, Or.inr rfl, Or.inl rfl, Or.inr rfl, Or.inr rfl, Or.inr rfl, Or.inr rfl, Or.inl rfl, Or.inl rfl, Or.inr rfl, Or.inl rfl, Or.inl rfl, trivial⟩ (w_P_isInside_b112 (f_P_isInside_b9 sc u n) hk9 hQ l0 l1 l3 l5 l6 l7 l8 (FP.dsub (FP.dmul (FP.dsub v18 v22) (FP.dsub l3 v27)) (FP.dmul (FP.dsub l1 v33) (FP.dsub v38 v42))) (0 : Int32) h)
      · rw [if_neg c55] at h
        refine x_iconst (v := (1 : Int32)) (pc := 107) d_P_isInside_107 (by decide) ?_
        refine x_goto (tgt := 112) (pc := 108) d_P_isInside_108 (by decide) ?_
        exact x_wk (L' := [some (vR l0), some (vD l1), none, some (vD l3), none, some (vI l5), some (vI l6), some (vI l7), some (vI l8), none, none, some (vD (FP.dsub (FP.dmul (FP.dsub v18 v22) (FP.dsub l3 v27)) (FP.dmul (FP.dsub l1 v33) (FP.dsub v38 v42)))), none, none]) ⟨Or.inr rfl, Or.inr rfl, Or.inl rfl, Or.inr rfl, Or.inl rfl, Or.inr rfl, Or.inr rfl, Or.inr rfl, Or.inr rfl, Or.inl rfl, Or.inl rfl, Or.inr rfl, Or.inl rfl, Or.inl rfl, trivial⟩ (w_P_isInside_b112 (f_P_isInside_b9 sc u n) hk9 hQ l0 l1 l3 l5 l6 l7 l8 (FP.dsub (FP.dmul (FP.dsub v18 v22) (FP.dsub l3 v27)) (FP.dmul (FP.dsub l1 v33) (FP.dsub v38 v42))) (1 : Int32) h)
def f_P_isInside (sc : xSc) (u : xH) (a0 : Option Nat) (a1 : UInt64) (a2 : UInt64) (a3 : Int32) : Option Int32 := f_P_isInside_b9 sc u mF a0 a1 a2 a3 (0 : Int32) (0 : Int32) (0 : Int32)
theorem w_P_isInside {sc : xSc} {d : Nat} {Q : xR → xH → Prop} {u : xH} {rZ : Int32} (hQ : Q (.inl (some (vI rZ))) u) (a0 : Option Nat) (a1 : UInt64) (a2 : UInt64) (a3 : Int32) (h : f_P_isInside sc u a0 a1 a2 a3 = some rZ) : xW sc m_P_isInside (d + 0) Q (u) 0 (xent [vR a0, vD a1, vD a2, vI a3] m_P_isInside.2.2.1) [] := by
  show xW sc m_P_isInside (d + 0) Q (u) 0 [some (vR a0), some (vD a1), none, some (vD a2), none, some (vI a3), none, none, none, none, none, none, none, none] []
  unfold f_P_isInside at h
  refine x_iconst (v := (0 : Int32)) (pc := 0) d_P_isInside_0 (by decide) ?_
  refine x_istore (pc := 1) d_P_isInside_1 (by decide) ?_
  show xW sc m_P_isInside (d + 0) Q (u) 3 [some (vR a0), some (vD a1), none, some (vD a2), none, some (vI a3), some (vI (0 : Int32)), none, none, none, none, none, none, none] []
  refine x_iconst (v := (0 : Int32)) (pc := 3) d_P_isInside_3 (by decide) ?_
  refine x_istore (pc := 4) d_P_isInside_4 (by decide) ?_
  show xW sc m_P_isInside (d + 0) Q (u) 6 [some (vR a0), some (vD a1), none, some (vD a2), none, some (vI a3), some (vI (0 : Int32)), some (vI (0 : Int32)), none, none, none, none, none, none] []
  refine x_iconst (v := (0 : Int32)) (pc := 6) d_P_isInside_6 (by decide) ?_
  refine x_istore (pc := 7) d_P_isInside_7 (by decide) ?_
  show xW sc m_P_isInside (d + 0) Q (u) 9 [some (vR a0), some (vD a1), none, some (vD a2), none, some (vI a3), some (vI (0 : Int32)), some (vI (0 : Int32)), some (vI (0 : Int32)), none, none, none, none, none] []
  exact w_P_isInside_b9 hQ mF a0 a1 a2 a3 (0 : Int32) (0 : Int32) (0 : Int32) h
