def f_Turn_init (sc : xSc) (u : xH) (a0 : Option Nat) (a1 : Int32) (a2 : Int32) (a3 : Int32) : Option xH := (if a0.isSome = true then (f_Record_init a0).bind fun v2 => (pV u 7 0 a0 (vI a1)).bind fun u4 => (pV u4 7 1 a0 (vI a2)).bind fun u6 => (pV u6 7 2 a0 (vI a3)).bind fun u8 => some u8 else none)
theorem w_Turn_init {sc : xSc} {d : Nat} {Q : xR → xH → Prop} {hZ : xH} (hQ : Q (.inl none) hZ) (u : xH) (a0 : Option Nat) (a1 : Int32) (a2 : Int32) (a3 : Int32) (h : f_Turn_init sc u a0 a1 a2 a3 = some hZ) : xW sc m_Turn_init (d + 2) Q (u) 0 (xent [vR a0, vI a1, vI a2, vI a3] m_Turn_init.2.2.1) [] := by
  show xW sc m_Turn_init (d + 2) Q (u) 0 [some (vR a0), some (vI a1), some (vI a2), some (vI a3)] []
  unfold f_Turn_init at h
  refine x_aload_n (pc := 0) d_Turn_init_0 rfl ?_
  obtain ⟨c1, h⟩ := ite_some h
  obtain ⟨v2, e3, h⟩ := Option.bind_eq_some_iff.mp h
  refine c_invi (d := d + 1) (av := []) (st := []) (Q' := fun r h' => r = .inl none ∧ h' = u) (pc := 1) d_Turn_init_1 ci_Turn_1 y_Record_init (tw_3 (List.mem_of_getElem? (i := 15) rfl)) c1 rfl (Nat.le_of_ble_eq_true rfl) (Nat.le_of_ble_eq_true rfl) (w_Record_init (d := d + 0) (Q := fun r h' => r = .inl none ∧ h' = u) (hh := u) ⟨rfl, rfl⟩ a0 e3) (fun v h' z => ?_) (fun a h' z => nomatch z.1)
  obtain ⟨z1, z2⟩ := z
  subst h'
  cases z1
  show xW sc m_Turn_init (d + 2) Q (u) 4 [some (vR a0), some (vI a1), some (vI a2), some (vI a3)] []
  refine x_aload_n (pc := 4) d_Turn_init_4 rfl ?_
  refine x_iload_n (pc := 5) d_Turn_init_5 rfl ?_
  obtain ⟨u4, e5, h⟩ := Option.bind_eq_some_iff.mp h
  refine c_putF (pc := 6) d_Turn_init_6 l_Turn_7 fp_7_0 rfl fo_Turn_7 (xfit_int) e5 ?_
  refine x_aload_n (pc := 9) d_Turn_init_9 rfl ?_
  refine x_iload_n (pc := 10) d_Turn_init_10 rfl ?_
  obtain ⟨u6, e7, h⟩ := Option.bind_eq_some_iff.mp h
  refine c_putF (pc := 11) d_Turn_init_11 l_Turn_13 fp_7_1 rfl fo_Turn_13 (xfit_int) e7 ?_
  refine x_aload_n (pc := 14) d_Turn_init_14 rfl ?_
  refine x_iload_n (pc := 15) d_Turn_init_15 rfl ?_
  obtain ⟨u8, e9, h⟩ := Option.bind_eq_some_iff.mp h
  refine c_putF (pc := 16) d_Turn_init_16 l_Turn_16 fp_7_2 rfl fo_Turn_16 (xfit_int) e9 ?_
  cases h
  exact x_vret (pc := 19) d_Turn_init_19 rfl hQ
def f_P_step_b17 (sc : xSc)  (l0 : Option Nat) (t0 : Int32) (t1 : Option Nat) (u : xH) : Option ((Unit ⊕ Nat) × xH) := (if xis sc u 0 t1 = true then tB (f_P_need sc u t1 t0 (16 : Int32)) (fun v3 u2 => (gI sc u2 0 16 l0).bind fun v7 => (pV u2 0 16 l0 (vI (v7 + (1 : Int32)))).bind fun u9 => some (.inl (), u9)) (fun a5 u6 => some (.inr a5, u6)) else none)
theorem w_P_step_b17 {sc : xSc} {d : Nat} {Q : xR → xH → Prop} {oZ : Unit ⊕ Nat} {hZ : xH}  (hQ : Q (cvU oZ) hZ) (l0 : Option Nat) (t0 : Int32) (t1 : Option Nat) (u : xH) (h : f_P_step_b17 sc  l0 t0 t1 u = some (oZ, hZ)) : xW sc m_P_step (d + 7) Q (u) 17 [some (vR l0)] [vI t0, vR t1] := by
  unfold f_P_step_b17 at h
  refine x_bipush (v := (16 : Int32)) (pc := 17) d_P_step_17 (by decide) ?_
  obtain ⟨c1, h⟩ := ite_some h
  rcases tB_s h with ⟨a5, u6, e4, h⟩ | ⟨v3, u2, e4, h⟩
  · refine c_invv (c := 0) (d := d + 6) (av := [vI t0, vI (16 : Int32)]) (st := []) (Q' := fun r h' => r = .inr a5 ∧ h' = u6) (pc := 19) d_P_step_19 cv_P_170 y_P_need c1 rfl (Nat.le_of_ble_eq_true rfl) (Nat.le_of_ble_eq_true rfl) (w_P_need (d := d + 0) (Q := fun r h' => r = .inr a5 ∧ h' = u6) ⟨rfl, rfl⟩ u t1 t0 (16 : Int32) e4) (fun v h' z => nomatch z.1) (fun a h' z => ?_)
    obtain ⟨z1, z2⟩ := z
    subst h'
    cases z1
    cases h
    exact x_thOut (xno rfl) hQ
  refine c_invv (c := 0) (d := d + 6) (av := [vI t0, vI (16 : Int32)]) (st := []) (Q' := fun r h' => r = .inl none ∧ h' = u2) (pc := 19) d_P_step_19 cv_P_170 y_P_need c1 rfl (Nat.le_of_ble_eq_true rfl) (Nat.le_of_ble_eq_true rfl) (w_P_need (d := d + 0) (Q := fun r h' => r = .inl none ∧ h' = u2) ⟨rfl, rfl⟩ u t1 t0 (16 : Int32) e4) (fun v h' z => ?_) (fun a h' z => nomatch z.1)
  obtain ⟨z1, z2⟩ := z
  subst h'
  cases z1
  show xW sc m_P_step (d + 7) Q (u2) 22 [some (vR l0)] []
  refine x_aload_n (pc := 22) d_P_step_22 rfl ?_
  refine x_dup (pc := 23) d_P_step_23 rfl ?_
  obtain ⟨v7, e8, h⟩ := Option.bind_eq_some_iff.mp h
  refine c_getI (pc := 24) d_P_step_24 l_P_311 e8 ?_
  refine x_iconst (v := (1 : Int32)) (pc := 27) d_P_step_27 (by decide) ?_
  refine x_iadd (pc := 28) d_P_step_28 ?_
  obtain ⟨u9, e10, h⟩ := Option.bind_eq_some_iff.mp h
  refine c_putf (pc := 29) d_P_step_29 l_P_311 fp_0_16 (xfit_int) e10 ?_
  cases h
  exact x_vret (pc := 32) d_P_step_32 rfl hQ
def f_P_step (sc : xSc) (u : xH) (a0 : Option Nat) : Option ((Unit ⊕ Nat) × xH) := (gI sc u 0 16 a0).bind fun v1 => (gI sc u 0 15 a0).bind fun v3 => (if v3 ≤ v1 then f_P_step_b17 sc a0 (0 : Int32) a0 u else f_P_step_b17 sc a0 (1 : Int32) a0 u)
theorem w_P_step {sc : xSc} {d : Nat} {Q : xR → xH → Prop} {oZ : Unit ⊕ Nat} {hZ : xH} (hQ : Q (cvU oZ) hZ) (u : xH) (a0 : Option Nat) (h : f_P_step sc u a0 = some (oZ, hZ)) : xW sc m_P_step (d + 7) Q (u) 0 (xent [vR a0] m_P_step.2.2.1) [] := by
  show xW sc m_P_step (d + 7) Q (u) 0 [some (vR a0)] []
  unfold f_P_step at h
  refine x_aload_n (pc := 0) d_P_step_0 rfl ?_
  refine x_aload_n (pc := 1) d_P_step_1 rfl ?_
  obtain ⟨v1, e2, h⟩ := Option.bind_eq_some_iff.mp h
  refine c_getI (pc := 2) d_P_step_2 l_P_311 e2 ?_
  refine x_aload_n (pc := 5) d_P_step_5 rfl ?_
  obtain ⟨v3, e4, h⟩ := Option.bind_eq_some_iff.mp h
  refine c_getI (pc := 6) d_P_step_6 l_P_314 e4 ?_
  refine x_icmp_ge (tgt := 16) (pc := 9) d_P_step_9 (by decide) (fun c5 => ?_) (fun c5 => ?_)
  · rw [if_pos c5] at h
    refine x_iconst (v := (0 : Int32)) (pc := 16) d_P_step_16 (by decide) ?_
    exact w_P_step_b17 hQ a0 (0 : Int32) a0 u h
  · rw [if_neg c5] at h
    refine x_iconst (v := (1 : Int32)) (pc := 12) d_P_step_12 (by decide) ?_
    refine x_goto (tgt := 17) (pc := 13) d_P_step_13 (by decide) ?_
    exact w_P_step_b17 hQ a0 (1 : Int32) a0 u h
def f_P_push (sc : xSc) (u : xH) (a0 : Option Nat) (a1 : Option Nat) : Option ((Unit ⊕ Nat) × xH) := (if xis sc u 0 a0 = true then tB (f_P_place sc u a0 (0 : Int32)) (fun v3 u2 => (if xis sc u2 2 v3 = true then (f_Slot_copy sc u2 v3 a1).bind fun u8 => some (.inl (), u8) else none)) (fun a5 u6 => some (.inr a5, u6)) else none)
theorem w_P_push {sc : xSc} {d : Nat} {Q : xR → xH → Prop} {oZ : Unit ⊕ Nat} {hZ : xH} (hQ : Q (cvU oZ) hZ) (u : xH) (a0 : Option Nat) (a1 : Option Nat) (h : f_P_push sc u a0 a1 = some (oZ, hZ)) : xW sc m_P_push (d + 8) Q (u) 0 (xent [vR a0, vR a1] m_P_push.2.2.1) [] := by
  show xW sc m_P_push (d + 8) Q (u) 0 [some (vR a0), some (vR a1)] []
  unfold f_P_push at h
  refine x_aload_n (pc := 0) d_P_push_0 rfl ?_
  refine x_iconst (v := (0 : Int32)) (pc := 1) d_P_push_1 (by decide) ?_
  obtain ⟨c1, h⟩ := ite_some h
  rcases tB_s h with ⟨a5, u6, e4, h⟩ | ⟨v3, u2, e4, h⟩
  · refine c_invv (c := 0) (d := d + 7) (av := [vI (0 : Int32)]) (st := []) (Q' := fun r h' => r = .inr a5 ∧ h' = u6) (pc := 2) d_P_push_2 cv_P_178 y_P_place c1 rfl (Nat.le_of_ble_eq_true rfl) (Nat.le_of_ble_eq_true rfl) (w_P_place (d := d + 0) (Q := fun r h' => r = .inr a5 ∧ h' = u6) ⟨rfl, rfl⟩ u a0 (0 : Int32) e4) (fun v h' z => nomatch z.1) (fun a h' z => ?_)
    obtain ⟨z1, z2⟩ := z
    subst h'
    cases z1
    cases h
    exact x_thOut (xno rfl) hQ
  refine c_invv (c := 0) (d := d + 7) (av := [vI (0 : Int32)]) (st := []) (Q' := fun r h' => r = .inl (some (vR v3)) ∧ h' = u2) (pc := 2) d_P_push_2 cv_P_178 y_P_place c1 rfl (Nat.le_of_ble_eq_true rfl) (Nat.le_of_ble_eq_true rfl) (w_P_place (d := d + 0) (Q := fun r h' => r = .inl (some (vR v3)) ∧ h' = u2) ⟨rfl, rfl⟩ u a0 (0 : Int32) e4) (fun v h' z => ?_) (fun a h' z => nomatch z.1)
  obtain ⟨z1, z2⟩ := z
  subst h'
  cases z1
  show xW sc m_P_push (d + 8) Q (u2) 5 [some (vR a0), some (vR a1)] [vR v3]
  refine x_aload_n (pc := 5) d_P_push_5 rfl ?_
  obtain ⟨c7, h⟩ := ite_some h
  obtain ⟨u8, e9, h⟩ := Option.bind_eq_some_iff.mp h
  refine c_invv (c := 2) (d := d + 7) (av := [vR a1]) (st := []) (Q' := fun r h' => r = .inl none ∧ h' = u8) (pc := 6) d_P_push_6 cv_P_182 y_Slot_copy c7 rfl (Nat.le_of_ble_eq_true rfl) (Nat.le_of_ble_eq_true rfl) (w_Slot_copy (d := d + 6) (Q := fun r h' => r = .inl none ∧ h' = u8) ⟨rfl, rfl⟩ u2 v3 a1 e9) (fun v h' z => ?_) (fun a h' z => nomatch z.1)
  obtain ⟨z1, z2⟩ := z
  subst h'
  cases z1
  show xW sc m_P_push (d + 8) Q (u8) 9 [some (vR a0), some (vR a1)] []
  cases h
  exact x_vret (pc := 9) d_P_push_9 rfl hQ
def f_Turn_go_b13 (rc : rcE) (sc : xSc)  (l0 : Option Nat) (l1 : Option Nat) (u : xH) : Option ((Unit ⊕ Nat) × xH) := (gI sc u 7 0 l0).bind fun v1 => (gI sc u 7 1 l0).bind fun v3 => (gI sc u 7 2 l0).bind fun v5 => (if xis sc u 0 l1 = true then tB (f_P_call rc sc u l1 v1 v3 v5) (fun v9 u8 => some (.inl (), u8)) (fun a11 u12 => some (.inr a11, u12)) else none)
theorem w_Turn_go_b13 {rc : rcE} {D : Nat} {sc : xSc} {d : Nat} {Q : xR → xH → Prop} {oZ : Unit ⊕ Nat} {hZ : xH} (hrc : rcEOK sc D rc)  (hQ : Q (cvU oZ) hZ) (l0 : Option Nat) (l1 : Option Nat) (u : xH) (h : f_Turn_go_b13 rc sc  l0 l1 u = some (oZ, hZ)) : xW sc m_Turn_go (D + d + 9) Q (u) 13 [some (vR l0), some (vR l1), none] [] := by
  unfold f_Turn_go_b13 at h
  refine x_aload_n (pc := 13) d_Turn_go_13 rfl ?_
  refine x_aload_n (pc := 14) d_Turn_go_14 rfl ?_
  obtain ⟨v1, e2, h⟩ := Option.bind_eq_some_iff.mp h
  refine c_getI (pc := 15) d_Turn_go_15 l_Turn_7 e2 ?_
  refine x_aload_n (pc := 18) d_Turn_go_18 rfl ?_
  obtain ⟨v3, e4, h⟩ := Option.bind_eq_some_iff.mp h
  refine c_getI (pc := 19) d_Turn_go_19 l_Turn_13 e4 ?_
  refine x_aload_n (pc := 22) d_Turn_go_22 rfl ?_
  obtain ⟨v5, e6, h⟩ := Option.bind_eq_some_iff.mp h
  refine c_getI (pc := 23) d_Turn_go_23 l_Turn_16 e6 ?_
  obtain ⟨c7, h⟩ := ite_some h
  rcases tB_s h with ⟨a11, u12, e10, h⟩ | ⟨v9, u8, e10, h⟩
  · refine c_invv (c := 0) (d := D + d + 8) (av := [vI v1, vI v3, vI v5]) (st := []) (Q' := fun r h' => r = .inr a11 ∧ h' = u12) (pc := 26) d_Turn_go_26 cv_Turn_28 y_P_call c7 rfl (Nat.le_of_ble_eq_true rfl) (Nat.le_of_ble_eq_true rfl) (w_P_call (d := d + 1) (Q := fun r h' => r = .inr a11 ∧ h' = u12) hrc ⟨rfl, rfl⟩ u l1 v1 v3 v5 e10) (fun v h' z => nomatch z.1) (fun a h' z => ?_)
    obtain ⟨z1, z2⟩ := z
    subst h'
    cases z1
    cases h
    exact x_thOut (xno rfl) hQ
  refine c_invv (c := 0) (d := D + d + 8) (av := [vI v1, vI v3, vI v5]) (st := []) (Q' := fun r h' => r = .inl none ∧ h' = u8) (pc := 26) d_Turn_go_26 cv_Turn_28 y_P_call c7 rfl (Nat.le_of_ble_eq_true rfl) (Nat.le_of_ble_eq_true rfl) (w_P_call (d := d + 1) (Q := fun r h' => r = .inl none ∧ h' = u8) hrc ⟨rfl, rfl⟩ u l1 v1 v3 v5 e10) (fun v h' z => ?_) (fun a h' z => nomatch z.1)
  obtain ⟨z1, z2⟩ := z
  subst h'
  cases z1
  show xW sc m_Turn_go (D + d + 9) Q (u8) 29 [some (vR l0), some (vR l1), none] []
  cases h
  exact x_vret (pc := 29) d_Turn_go_29 rfl hQ
def f_Turn_go (rc : rcE) (sc : xSc) (u : xH) (a0 : Option Nat) (a1 : Option Nat) (a2 : Option Nat) : Option ((Unit ⊕ Nat) × xH) := (if xis sc u 0 a1 = true then tB (f_P_step sc u a1) (fun v3 u2 => (if a2 = none then f_Turn_go_b13 rc sc a0 a1 u2 else (if xis sc u2 0 a1 = true then tB (f_P_push sc u2 a1 a2) (fun v10 u9 => f_Turn_go_b13 rc sc a0 a1 u9) (fun a12 u13 => some (.inr a12, u13)) else none))) (fun a5 u6 => some (.inr a5, u6)) else none)
theorem w_Turn_go {rc : rcE} {D : Nat} {sc : xSc} {d : Nat} {Q : xR → xH → Prop} {oZ : Unit ⊕ Nat} {hZ : xH} (hrc : rcEOK sc D rc) (hQ : Q (cvU oZ) hZ) (u : xH) (a0 : Option Nat) (a1 : Option Nat) (a2 : Option Nat) (h : f_Turn_go rc sc u a0 a1 a2 = some (oZ, hZ)) : xW sc m_Turn_go (D + d + 9) Q (u) 0 (xent [vR a0, vR a1, vR a2] m_Turn_go.2.2.1) [] := by
  show xW sc m_Turn_go (D + d + 9) Q (u) 0 [some (vR a0), some (vR a1), some (vR a2)] []
  unfold f_Turn_go at h
  refine x_aload_n (pc := 0) d_Turn_go_0 rfl ?_
  obtain ⟨c1, h⟩ := ite_some h
  rcases tB_s h with ⟨a5, u6, e4, h⟩ | ⟨v3, u2, e4, h⟩
  · refine c_invv (c := 0) (d := D + d + 8) (av := []) (st := []) (Q' := fun r h' => r = .inr a5 ∧ h' = u6) (pc := 1) d_Turn_go_1 cv_Turn_19 y_P_step c1 rfl (Nat.le_of_ble_eq_true rfl) (Nat.le_of_ble_eq_true rfl) (w_P_step (d := D + d + 1) (Q := fun r h' => r = .inr a5 ∧ h' = u6) ⟨rfl, rfl⟩ u a1 e4) (fun v h' z => nomatch z.1) (fun a h' z => ?_)
    obtain ⟨z1, z2⟩ := z
    subst h'
    cases z1
    cases h
    exact x_thOut (xno rfl) hQ
  refine c_invv (c := 0) (d := D + d + 8) (av := []) (st := []) (Q' := fun r h' => r = .inl none ∧ h' = u2) (pc := 1) d_Turn_go_1 cv_Turn_19 y_P_step c1 rfl (Nat.le_of_ble_eq_true rfl) (Nat.le_of_ble_eq_true rfl) (w_P_step (d := D + d + 1) (Q := fun r h' => r = .inl none ∧ h' = u2) ⟨rfl, rfl⟩ u a1 e4) (fun v h' z => ?_) (fun a h' z => nomatch z.1)
  obtain ⟨z1, z2⟩ := z
  subst h'
  cases z1
  show xW sc m_Turn_go (D + d + 9) Q (u2) 4 [some (vR a0), some (vR a1), some (vR a2)] []
  refine x_aload_n (pc := 4) d_Turn_go_4 rfl ?_
  refine c_ifnull (tgt := 13) (pc := 5) d_Turn_go_5 (by decide) (fun c7 => ?_) (fun c7 => ?_)
  · rw [if_pos c7] at h
    exact x_wk (L' := [some (vR a0), some (vR a1), none]) ⟨Or.inr rfl, Or.inr rfl, Or.inl rfl, trivial⟩ (w_Turn_go_b13 hrc hQ a0 a1 u2 h)
  · rw [if_neg c7] at h
    refine x_aload_n (pc := 8) d_Turn_go_8 rfl ?_
    refine x_aload_n (pc := 9) d_Turn_go_9 rfl ?_
    obtain ⟨c8, h⟩ := ite_some h
    rcases tB_s h with ⟨a12, u13, e11, h⟩ | ⟨v10, u9, e11, h⟩
    · refine c_invv (c := 0) (d := D + d + 8) (av := [vR a2]) (st := []) (Q' := fun r h' => r = .inr a12 ∧ h' = u13) (pc := 10) d_Turn_go_10 cv_Turn_24 y_P_push c8 rfl (Nat.le_of_ble_eq_true rfl) (Nat.le_of_ble_eq_true rfl) (w_P_push (d := D + d + 0) (Q := fun r h' => r = .inr a12 ∧ h' = u13) ⟨rfl, rfl⟩ u2 a1 a2 e11) (fun v h' z => nomatch z.1) (fun a h' z => ?_)
      obtain ⟨z1, z2⟩ := z
      subst h'
      cases z1
      cases h
      exact x_thOut (xno rfl) hQ
    refine c_invv (c := 0) (d := D + d + 8) (av := [vR a2]) (st := []) (Q' := fun r h' => r = .inl none ∧ h' = u9) (pc := 10) d_Turn_go_10 cv_Turn_24 y_P_push c8 rfl (Nat.le_of_ble_eq_true rfl) (Nat.le_of_ble_eq_true rfl) (w_P_push (d := D + d + 0) (Q := fun r h' => r = .inl none ∧ h' = u9) ⟨rfl, rfl⟩ u2 a1 a2 e11) (fun v h' z => ?_) (fun a h' z => nomatch z.1)
    obtain ⟨z1, z2⟩ := z
    subst h'
    cases z1
    show xW sc m_Turn_go (D + d + 9) Q (u9) 13 [some (vR a0), some (vR a1), some (vR a2)] []
    exact x_wk (L' := [some (vR a0), some (vR a1), none]) ⟨Or.inr rfl, Or.inr rfl, Or.inl rfl, trivial⟩ (w_Turn_go_b13 hrc hQ a0 a1 u9 h)
def f_Flow_stretch_b74 (rc : rcE) (sc : xSc)  (u : xH) : Option ((Unit ⊕ Nat) × xH) := some (.inl (), u)
theorem w_Flow_stretch_b74 {rc : rcE} {D : Nat} {sc : xSc} {d : Nat} {Q : xR → xH → Prop} {oZ : Unit ⊕ Nat} {hZ : xH} (hrc : rcEOK sc D rc)  (hQ : Q (cvU oZ) hZ) (u : xH) (h : f_Flow_stretch_b74 rc sc  u = some (oZ, hZ)) : xW sc m_Flow_stretch (D + d + 10) Q (u) 74 [none, none, none, none, none, none, none, none, none, none, none] [] := by
  unfold f_Flow_stretch_b74 at h
  cases h
  exact x_vret (pc := 74) d_Flow_stretch_74 rfl hQ
def f_Flow_stretch_b44 (rc : rcE) (sc : xSc) (k12 : Option Nat → Int64 → Int64 → Option Nat → Option Nat → Int64 → xH → Option ((Unit ⊕ Nat) × xH)) (l0 : Option Nat) (l3 : Int64) (l5 : Int64) (l7 : Option Nat) (l8 : Option Nat) (l9 : Int64) (u : xH) : Option ((Unit ⊕ Nat) × xH) := (if xis sc u 2 l8 = true then (f_Slot_set sc u l8 (some 72) l9.toInt32 (0 : Int32) (0 : Int32)).bind fun u2 => (if xis sc u2 7 l7 = true then tB (f_Turn_go rc sc u2 l7 l0 l8) (fun v6 u5 => k12 l0 l3 l5 l7 l8 (l9 + l3) u5) (fun a8 u9 => some (.inr a8, u9)) else none) else none)
theorem w_Flow_stretch_b44 {rc : rcE} {D : Nat} {sc : xSc} {d : Nat} {Q : xR → xH → Prop} {oZ : Unit ⊕ Nat} {hZ : xH} (hrc : rcEOK sc D rc) (k12 : Option Nat → Int64 → Int64 → Option Nat → Option Nat → Int64 → xH → Option ((Unit ⊕ Nat) × xH)) (hk12 : ∀ (l0 : Option Nat) (l3 : Int64) (l5 : Int64) (l7 : Option Nat) (l8 : Option Nat) (l9 : Int64) (u : xH), k12 l0 l3 l5 l7 l8 l9 u = some (oZ, hZ) → xW sc m_Flow_stretch (D + d + 10) Q (u) 12 [some (vR l0), none, none, some (vL l3), none, some (vL l5), none, some (vR l7), some (vR l8), some (vL l9), none] []) (hQ : Q (cvU oZ) hZ) (l0 : Option Nat) (l3 : Int64) (l5 : Int64) (l7 : Option Nat) (l8 : Option Nat) (l9 : Int64) (u : xH) (h : f_Flow_stretch_b44 rc sc k12 l0 l3 l5 l7 l8 l9 u = some (oZ, hZ)) : xW sc m_Flow_stretch (D + d + 10) Q (u) 44 [some (vR l0), none, none, some (vL l3), none, some (vL l5), none, some (vR l7), some (vR l8), some (vL l9), none] [] := by
  unfold f_Flow_stretch_b44 at h
  refine x_aload (pc := 44) d_Flow_stretch_44 rfl ?_
  refine x_gets (v := vR (some 72)) (pc := 46) d_Flow_stretch_46 sl_Flow_76 ?_
  refine x_lload (pc := 49) d_Flow_stretch_49 rfl ?_
  refine x_l2i (pc := 51) d_Flow_stretch_51 ?_
  refine x_iconst (v := (0 : Int32)) (pc := 52) d_Flow_stretch_52 (by decide) ?_
  refine x_iconst (v := (0 : Int32)) (pc := 53) d_Flow_stretch_53 (by decide) ?_
  obtain ⟨c1, h⟩ := ite_some h
  obtain ⟨u2, e3, h⟩ := Option.bind_eq_some_iff.mp h
  refine c_invv (c := 2) (d := D + d + 9) (av := [vR (some 72), vI l9.toInt32, vI (0 : Int32), vI (0 : Int32)]) (st := []) (Q' := fun r h' => r = .inl none ∧ h' = u2) (pc := 54) d_Flow_stretch_54 cv_Flow_132 y_Slot_set c1 rfl (Nat.le_of_ble_eq_true rfl) (Nat.le_of_ble_eq_true rfl) (w_Slot_set (d := D + d + 9) (Q := fun r h' => r = .inl none ∧ h' = u2) ⟨rfl, rfl⟩ u l8 (some 72) l9.toInt32 (0 : Int32) (0 : Int32) e3) (fun v h' z => ?_) (fun a h' z => nomatch z.1)
  obtain ⟨z1, z2⟩ := z
  subst h'
  cases z1
  show xW sc m_Flow_stretch (D + d + 10) Q (u2) 57 [some (vR l0), none, none, some (vL l3), none, some (vL l5), none, some (vR l7), some (vR l8), some (vL l9), none] []
  refine x_aload (pc := 57) d_Flow_stretch_57 rfl ?_
  refine x_aload_n (pc := 59) d_Flow_stretch_59 rfl ?_
  refine x_aload (pc := 60) d_Flow_stretch_60 rfl ?_
  obtain ⟨c4, h⟩ := ite_some h
  rcases tB_s h with ⟨a8, u9, e7, h⟩ | ⟨v6, u5, e7, h⟩
  · refine c_invv (c := 7) (d := D + d + 9) (av := [vR l0, vR l8]) (st := []) (Q' := fun r h' => r = .inr a8 ∧ h' = u9) (pc := 62) d_Flow_stretch_62 cv_Flow_114 y_Turn_go c4 rfl (Nat.le_of_ble_eq_true rfl) (Nat.le_of_ble_eq_true rfl) (w_Turn_go (d := d + 0) (Q := fun r h' => r = .inr a8 ∧ h' = u9) hrc ⟨rfl, rfl⟩ u2 l7 l0 l8 e7) (fun v h' z => nomatch z.1) (fun a h' z => ?_)
    obtain ⟨z1, z2⟩ := z
    subst h'
    cases z1
    cases h
    exact x_thOut (xno rfl) hQ
  refine c_invv (c := 7) (d := D + d + 9) (av := [vR l0, vR l8]) (st := []) (Q' := fun r h' => r = .inl none ∧ h' = u5) (pc := 62) d_Flow_stretch_62 cv_Flow_114 y_Turn_go c4 rfl (Nat.le_of_ble_eq_true rfl) (Nat.le_of_ble_eq_true rfl) (w_Turn_go (d := d + 0) (Q := fun r h' => r = .inl none ∧ h' = u5) hrc ⟨rfl, rfl⟩ u2 l7 l0 l8 e7) (fun v h' z => ?_) (fun a h' z => nomatch z.1)
  obtain ⟨z1, z2⟩ := z
  subst h'
  cases z1
  show xW sc m_Flow_stretch (D + d + 10) Q (u5) 65 [some (vR l0), none, none, some (vL l3), none, some (vL l5), none, some (vR l7), some (vR l8), some (vL l9), none] []
  refine x_lload (pc := 65) d_Flow_stretch_65 rfl ?_
  refine x_lload_n (pc := 67) d_Flow_stretch_67 rfl ?_
  refine x_ladd (pc := 68) d_Flow_stretch_68 ?_
  refine x_lstore (pc := 69) d_Flow_stretch_69 (by decide) ?_
  show xW sc m_Flow_stretch (D + d + 10) Q (u5) 71 [some (vR l0), none, none, some (vL l3), none, some (vL l5), none, some (vR l7), some (vR l8), some (vL (l9 + l3)), none] []
  refine x_goto (tgt := 12) (pc := 71) d_Flow_stretch_71 (by decide) ?_
  exact hk12 l0 l3 l5 l7 l8 (l9 + l3) u5 h
def f_Flow_stretch_b12 (rc : rcE) (sc : xSc)  : Nat → Option Nat → Int64 → Int64 → Option Nat → Option Nat → Int64 → xH → Option ((Unit ⊕ Nat) × xH)
  | 0, _, _, _, _, _, _, _ => none
  | n + 1, l0, l3, l5, l7, l8, l9, u => (gI sc u 0 24 l0).bind fun v1 => (if v1 = 0 then (if (lg_cmp l3 (0 : Int64)) < 0 then (if (lg_cmp l9 l5) < 0 then f_Flow_stretch_b74 rc sc u else f_Flow_stretch_b44 rc sc (f_Flow_stretch_b12 rc sc n) l0 l3 l5 l7 l8 l9 u) else (if 0 < (lg_cmp l9 l5) then f_Flow_stretch_b74 rc sc u else f_Flow_stretch_b44 rc sc (f_Flow_stretch_b12 rc sc n) l0 l3 l5 l7 l8 l9 u)) else f_Flow_stretch_b74 rc sc u)
theorem w_Flow_stretch_b12 {rc : rcE} {D : Nat} {sc : xSc} {d : Nat} {Q : xR → xH → Prop} {oZ : Unit ⊕ Nat} {hZ : xH} (hrc : rcEOK sc D rc)  (hQ : Q (cvU oZ) hZ) : ∀ (n : Nat) (l0 : Option Nat) (l3 : Int64) (l5 : Int64) (l7 : Option Nat) (l8 : Option Nat) (l9 : Int64) (u : xH), f_Flow_stretch_b12 rc sc  n l0 l3 l5 l7 l8 l9 u = some (oZ, hZ) → xW sc m_Flow_stretch (D + d + 10) Q (u) 12 [some (vR l0), none, none, some (vL l3), none, some (vL l5), none, some (vR l7), some (vR l8), some (vL l9), none] [] := by
  intro n
  induction n with
  | zero =>
    intro l0 l3 l5 l7 l8 l9 u h
    cases h
  | succ n hk12 =>
    intro l0 l3 l5 l7 l8 l9 u h
    unfold f_Flow_stretch_b12 at h
    refine x_aload_n (pc := 12) d_Flow_stretch_12 rfl ?_
    obtain ⟨v1, e2, h⟩ := Option.bind_eq_some_iff.mp h
    refine c_getI (pc := 13) d_Flow_stretch_13 l_Flow_64 e2 ?_
    refine x_if_ne (tgt := 74) (pc := 16) d_Flow_stretch_16 (by decide) (fun c3 => ?_) (fun c3 => ?_)
    · rw [if_neg c3] at h
      exact x_wk (L' := [none, none, none, none, none, none, none, none, none, none, none]) ⟨Or.inl rfl, Or.inl rfl, Or.inl rfl, Or.inl rfl, Or.inl rfl, Or.inl rfl, Or.inl rfl, Or.inl rfl, Or.inl rfl, Or.inl rfl, Or.inl rfl, trivial⟩ (w_Flow_stretch_b74 hrc hQ u h)
    · rw [if_pos c3] at h
      refine x_lload_n (pc := 19) d_Flow_stretch_19 rfl ?_
      refine x_lconst (v := (0 : Int64)) (pc := 20) d_Flow_stretch_20 (by decide) ?_
      refine x_lcmp (pc := 21) d_Flow_stretch_21 ?_
      refine x_if_lt (tgt := 36) (pc := 22) d_Flow_stretch_22 (by decide) (fun c4 => ?_) (fun c4 => ?_)
      · rw [if_pos c4] at h
        refine x_lload (pc := 36) d_Flow_stretch_36 rfl ?_
        refine x_lload (pc := 38) d_Flow_stretch_38 rfl ?_
        refine x_lcmp (pc := 40) d_Flow_stretch_40 ?_
        refine x_if_lt (tgt := 74) (pc := 41) d_Flow_stretch_41 (by decide) (fun c5 => ?_) (fun c5 => ?_)
        · rw [if_pos c5] at h
          exact x_wk (L' := [none, none, none, none, none, none, none, none, none, none, none]) ⟨Or.inl rfl, Or.inl rfl, Or.inl rfl, Or.inl rfl, Or.inl rfl, Or.inl rfl, Or.inl rfl, Or.inl rfl, Or.inl rfl, Or.inl rfl, Or.inl rfl, trivial⟩ (w_Flow_stretch_b74 hrc hQ u h)
        · rw [if_neg c5] at h
          exact w_Flow_stretch_b44 hrc (f_Flow_stretch_b12 rc sc n) hk12 hQ l0 l3 l5 l7 l8 l9 u h
      · rw [if_neg c4] at h
        refine x_lload (pc := 25) d_Flow_stretch_25 rfl ?_
        refine x_lload (pc := 27) d_Flow_stretch_27 rfl ?_
        refine x_lcmp (pc := 29) d_Flow_stretch_29 ?_
        refine x_if_gt (tgt := 74) (pc := 30) d_Flow_stretch_30 (by decide) (fun c6 => ?_) (fun c6 => ?_)
        · rw [if_pos c6] at h
          exact x_wk (L' := [none, none, none, none, none, none, none, none, none, none, none]) ⟨Or.inl rfl, Or.inl rfl, Or.inl rfl, Or.inl rfl, Or.inl rfl, Or.inl rfl, Or.inl rfl, Or.inl rfl, Or.inl rfl, Or.inl rfl, Or.inl rfl, trivial⟩ (w_Flow_stretch_b74 hrc hQ u h)
        · rw [if_neg c6] at h
          refine x_goto (tgt := 44) (pc := 33) d_Flow_stretch_33 (by decide) ?_
          exact w_Flow_stretch_b44 hrc (f_Flow_stretch_b12 rc sc n) hk12 hQ l0 l3 l5 l7 l8 l9 u h
def f_Flow_stretch (rc : rcE) (sc : xSc) (u : xH) (a1 : Option Nat) (a2 : Int64) (a3 : Int64) (a4 : Int64) (a5 : Option Nat) : Option ((Unit ⊕ Nat) × xH) := (nO 2 8 8 u).bind fun u1 => (if (some u.2.1).isSome = true then (f_Slot_init sc u1 (some u.2.1)).bind fun u4 => f_Flow_stretch_b12 rc sc mF a1 a3 a4 a5 (some u.2.1) a2 u4 else none)
theorem w_Flow_stretch {rc : rcE} {D : Nat} {sc : xSc} {d : Nat} {Q : xR → xH → Prop} {oZ : Unit ⊕ Nat} {hZ : xH} (hrc : rcEOK sc D rc) (hQ : Q (cvU oZ) hZ) (u : xH) (a1 : Option Nat) (a2 : Int64) (a3 : Int64) (a4 : Int64) (a5 : Option Nat) (h : f_Flow_stretch rc sc u a1 a2 a3 a4 a5 = some (oZ, hZ)) : xW sc m_Flow_stretch (D + d + 10) Q (u) 0 (xent [vR a1, vL a2, vL a3, vL a4, vR a5] m_Flow_stretch.2.2.1) [] := by
  show xW sc m_Flow_stretch (D + d + 10) Q (u) 0 [some (vR a1), some (vL a2), none, some (vL a3), none, some (vL a4), none, some (vR a5), none, none, none] []
  unfold f_Flow_stretch at h
  obtain ⟨u1, e2, h⟩ := Option.bind_eq_some_iff.mp h
  refine c_new (pc := 0) d_Flow_stretch_0 nw_Flow_30 ly_2 ⟨_, rfl, rfl⟩ e2 ?_
  refine x_dup (pc := 3) d_Flow_stretch_3 rfl ?_
  obtain ⟨c3, h⟩ := ite_some h
  obtain ⟨u4, e5, h⟩ := Option.bind_eq_some_iff.mp h
  refine c_invi (d := D + d + 9) (av := []) (st := [vR (some u.2.1)]) (Q' := fun r h' => r = .inl none ∧ h' = u4) (pc := 4) d_Flow_stretch_4 ci_Flow_131 y_Slot_init (tw_4 (List.mem_of_getElem? (i := 157) rfl)) c3 rfl (Nat.le_of_ble_eq_true rfl) (Nat.le_of_ble_eq_true rfl) (w_Slot_init (d := D + d + 8) (Q := fun r h' => r = .inl none ∧ h' = u4) ⟨rfl, rfl⟩ u1 (some u.2.1) e5) (fun v h' z => ?_) (fun a h' z => nomatch z.1)
  obtain ⟨z1, z2⟩ := z
  subst h'
  cases z1
  show xW sc m_Flow_stretch (D + d + 10) Q (u4) 7 [some (vR a1), some (vL a2), none, some (vL a3), none, some (vL a4), none, some (vR a5), none, none, none] [vR (some u.2.1)]
  refine x_astore (pc := 7) d_Flow_stretch_7 (by decide) ?_
  show xW sc m_Flow_stretch (D + d + 10) Q (u4) 9 [some (vR a1), some (vL a2), none, some (vL a3), none, some (vL a4), none, some (vR a5), some (vR (some u.2.1)), none, none] []
  refine x_lload_n (pc := 9) d_Flow_stretch_9 rfl ?_
  refine x_lstore (pc := 10) d_Flow_stretch_10 (by decide) ?_
  show xW sc m_Flow_stretch (D + d + 10) Q (u4) 12 [some (vR a1), some (vL a2), none, some (vL a3), none, some (vL a4), none, some (vR a5), some (vR (some u.2.1)), some (vL a2), none] []
  exact x_wk (L' := [some (vR a1), none, none, some (vL a3), none, some (vL a4), none, some (vR a5), some (vR (some u.2.1)), some (vL a2), none]) ⟨Or.inr rfl, Or.inl rfl, Or.inl rfl, Or.inr rfl, Or.inl rfl, Or.inr rfl, Or.inl rfl, Or.inr rfl, Or.inr rfl, Or.inr rfl, Or.inl rfl, trivial⟩ (w_Flow_stretch_b12 hrc hQ mF a1 a3 a4 a5 (some u.2.1) a2 u4 h)
def f_Flow_turns_b315 (rc : rcE) (sc : xSc)  (u : xH) : Option ((Unit ⊕ Nat) × xH) := some (.inl (), u)
theorem w_Flow_turns_b315 {rc : rcE} {D : Nat} {sc : xSc} {d : Nat} {Q : xR → xH → Prop} {oZ : Unit ⊕ Nat} {hZ : xH} (hrc : rcEOK sc D rc)  (hQ : Q (cvU oZ) hZ) (u : xH) (h : f_Flow_turns_b315 rc sc  u = some (oZ, hZ)) : xW sc m_Flow_turns (D + d + 11) Q (u) 315 [none, none, none, none, none, none, none, none, none, none] [] := by
  unfold f_Flow_turns_b315 at h
  cases h
  exact x_vret (pc := 315) d_Flow_turns_315 rfl hQ
def f_Flow_turns_b298 (rc : rcE) (sc : xSc)  : Nat → Option Nat → Option Nat → xH → Option ((Unit ⊕ Nat) × xH)
  | 0, _, _, _ => none
  | n + 1, l0, l4, u => (gI sc u 0 24 l0).bind fun v1 => (if v1 = 0 then (if xis sc u 7 l4 = true then tB (f_Turn_go rc sc u l4 l0 none) (fun v6 u5 => (f_Flow_turns_b298 rc sc n) l0 l4 u5) (fun a8 u9 => some (.inr a8, u9)) else none) else f_Flow_turns_b315 rc sc u)
theorem w_Flow_turns_b298 {rc : rcE} {D : Nat} {sc : xSc} {d : Nat} {Q : xR → xH → Prop} {oZ : Unit ⊕ Nat} {hZ : xH} (hrc : rcEOK sc D rc)  (hQ : Q (cvU oZ) hZ) : ∀ (n : Nat) (l0 : Option Nat) (l4 : Option Nat) (u : xH), f_Flow_turns_b298 rc sc  n l0 l4 u = some (oZ, hZ) → xW sc m_Flow_turns (D + d + 11) Q (u) 298 [some (vR l0), none, none, none, some (vR l4), none, none, none, none, none] [] := by
  intro n
  induction n with
  | zero =>
    intro l0 l4 u h
    cases h
  | succ n hk298 =>
    intro l0 l4 u h
    unfold f_Flow_turns_b298 at h
    refine x_aload_n (pc := 298) d_Flow_turns_298 rfl ?_
    obtain ⟨v1, e2, h⟩ := Option.bind_eq_some_iff.mp h
    refine c_getI (pc := 299) d_Flow_turns_299 l_Flow_64 e2 ?_
    refine x_if_ne (tgt := 315) (pc := 302) d_Flow_turns_302 (by decide) (fun c3 => ?_) (fun c3 => ?_)
    · rw [if_neg c3] at h
      exact x_wk (L' := [none, none, none, none, none, none, none, none, none, none]) ⟨Or.inl rfl, Or.inl rfl, Or.inl rfl, Or.inl rfl, Or.inl rfl, Or.inl rfl, Or.inl rfl, Or.inl rfl, Or.inl rfl, Or.inl rfl, trivial⟩ (w_Flow_turns_b315 hrc hQ u h)
    · rw [if_pos c3] at h
      refine x_aload (pc := 305) d_Flow_turns_305 rfl ?_
      refine x_aload_n (pc := 307) d_Flow_turns_307 rfl ?_
      refine x_null (pc := 308) d_Flow_turns_308 ?_
      obtain ⟨c4, h⟩ := ite_some h
      rcases tB_s h with ⟨a8, u9, e7, h⟩ | ⟨v6, u5, e7, h⟩
      · refine c_invv (c := 7) (d := D + d + 10) (av := [vR l0, vR none]) (st := []) (Q' := fun r h' => r = .inr a8 ∧ h' = u9) (pc := 309) d_Flow_turns_309 cv_Flow_114 y_Turn_go c4 rfl (Nat.le_of_ble_eq_true rfl) (Nat.le_of_ble_eq_true rfl) (w_Turn_go (d := d + 1) (Q := fun r h' => r = .inr a8 ∧ h' = u9) hrc ⟨rfl, rfl⟩ u l4 l0 none e7) (fun v h' z => nomatch z.1) (fun a h' z => ?_)
        obtain ⟨z1, z2⟩ := z
        subst h'
        cases z1
        cases h
        exact x_thOut (xno rfl) hQ
      refine c_invv (c := 7) (d := D + d + 10) (av := [vR l0, vR none]) (st := []) (Q' := fun r h' => r = .inl none ∧ h' = u5) (pc := 309) d_Flow_turns_309 cv_Flow_114 y_Turn_go c4 rfl (Nat.le_of_ble_eq_true rfl) (Nat.le_of_ble_eq_true rfl) (w_Turn_go (d := d + 1) (Q := fun r h' => r = .inl none ∧ h' = u5) hrc ⟨rfl, rfl⟩ u l4 l0 none e7) (fun v h' z => ?_) (fun a h' z => nomatch z.1)
      obtain ⟨z1, z2⟩ := z
      subst h'
      cases z1
      show xW sc m_Flow_turns (D + d + 11) Q (u5) 312 [some (vR l0), none, none, none, some (vR l4), none, none, none, none, none] []
      refine x_goto (tgt := 298) (pc := 312) d_Flow_turns_312 (by decide) ?_
      exact hk298 l0 l4 u5 h
def f_Flow_turns_b288 (rc : rcE) (sc : xSc)  (l0 : Option Nat) (l4 : Option Nat) (u : xH) : Option ((Unit ⊕ Nat) × xH) := (gI sc u 0 9 l0).bind fun v1 => (pV u 0 9 l0 (vI (v1 - (1 : Int32)))).bind fun u3 => f_Flow_turns_b298 rc sc mF l0 l4 u3
theorem w_Flow_turns_b288 {rc : rcE} {D : Nat} {sc : xSc} {d : Nat} {Q : xR → xH → Prop} {oZ : Unit ⊕ Nat} {hZ : xH} (hrc : rcEOK sc D rc)  (hQ : Q (cvU oZ) hZ) (l0 : Option Nat) (l4 : Option Nat) (u : xH) (h : f_Flow_turns_b288 rc sc  l0 l4 u = some (oZ, hZ)) : xW sc m_Flow_turns (D + d + 11) Q (u) 288 [some (vR l0), none, none, none, some (vR l4), none, none, none, none, none] [] := by
  unfold f_Flow_turns_b288 at h
  refine x_aload_n (pc := 288) d_Flow_turns_288 rfl ?_
  refine x_dup (pc := 289) d_Flow_turns_289 rfl ?_
  obtain ⟨v1, e2, h⟩ := Option.bind_eq_some_iff.mp h
  refine c_getI (pc := 290) d_Flow_turns_290 l_Flow_15 e2 ?_
  refine x_iconst (v := (1 : Int32)) (pc := 293) d_Flow_turns_293 (by decide) ?_
  refine x_isub (pc := 294) d_Flow_turns_294 ?_
  obtain ⟨u3, e4, h⟩ := Option.bind_eq_some_iff.mp h
  refine c_putf (pc := 295) d_Flow_turns_295 l_Flow_15 fp_0_9 (xfit_int) e4 ?_
  exact w_Flow_turns_b298 hrc hQ mF l0 l4 u3 h
def f_Flow_turns_b275 (rc : rcE) (sc : xSc)  (l0 : Option Nat) (u : xH) : Option ((Unit ⊕ Nat) × xH) := (gI sc u 0 21 l0).bind fun v1 => (pV u 0 21 l0 (vI (v1 - (1 : Int32)))).bind fun u3 => f_Flow_turns_b315 rc sc u3
theorem w_Flow_turns_b275 {rc : rcE} {D : Nat} {sc : xSc} {d : Nat} {Q : xR → xH → Prop} {oZ : Unit ⊕ Nat} {hZ : xH} (hrc : rcEOK sc D rc)  (hQ : Q (cvU oZ) hZ) (l0 : Option Nat) (u : xH) (h : f_Flow_turns_b275 rc sc  l0 u = some (oZ, hZ)) : xW sc m_Flow_turns (D + d + 11) Q (u) 275 [some (vR l0), none, none, none, none, none, none, none, none, none] [] := by
  unfold f_Flow_turns_b275 at h
  refine x_aload_n (pc := 275) d_Flow_turns_275 rfl ?_
  refine x_dup (pc := 276) d_Flow_turns_276 rfl ?_
  obtain ⟨v1, e2, h⟩ := Option.bind_eq_some_iff.mp h
  refine c_getI (pc := 277) d_Flow_turns_277 l_Flow_128 e2 ?_
  refine x_iconst (v := (1 : Int32)) (pc := 280) d_Flow_turns_280 (by decide) ?_
  refine x_isub (pc := 281) d_Flow_turns_281 ?_
  obtain ⟨u3, e4, h⟩ := Option.bind_eq_some_iff.mp h
  refine c_putf (pc := 282) d_Flow_turns_282 l_Flow_128 fp_0_21 (xfit_int) e4 ?_
  refine x_goto (tgt := 315) (pc := 285) d_Flow_turns_285 (by decide) ?_
  exact x_wk (L' := [none, none, none, none, none, none, none, none, none, none]) ⟨Or.inl rfl, Or.inl rfl, Or.inl rfl, Or.inl rfl, Or.inl rfl, Or.inl rfl, Or.inl rfl, Or.inl rfl, Or.inl rfl, Or.inl rfl, trivial⟩ (w_Flow_turns_b315 hrc hQ u3 h)
def f_Flow_turns_b239 (rc : rcE) (sc : xSc)  : Nat → Option Nat → Option Nat → Int32 → Int32 → Int32 → xH → Option ((Unit ⊕ Nat) × xH)
  | 0, _, _, _, _, _, _ => none
  | n + 1, l0, l4, l7, l8, l9, u => (if l8 ≤ l9 then f_Flow_turns_b275 rc sc l0 u else (gI sc u 0 24 l0).bind fun v2 => (if v2 = 0 then (gR sc u 0 7 l0).bind fun v5 => (aR sc u v5 (l7 + l9)).bind fun v7 => (if xis sc u 7 l4 = true then tB (f_Turn_go rc sc u l4 l0 v7) (fun v11 u10 => (f_Flow_turns_b239 rc sc n) l0 l4 l7 l8 (l9 + Int32.ofInt 1) u10) (fun a13 u14 => some (.inr a13, u14)) else none) else f_Flow_turns_b275 rc sc l0 u))
theorem w_Flow_turns_b239 {rc : rcE} {D : Nat} {sc : xSc} {d : Nat} {Q : xR → xH → Prop} {oZ : Unit ⊕ Nat} {hZ : xH} (hrc : rcEOK sc D rc)  (hQ : Q (cvU oZ) hZ) : ∀ (n : Nat) (l0 : Option Nat) (l4 : Option Nat) (l7 : Int32) (l8 : Int32) (l9 : Int32) (u : xH), f_Flow_turns_b239 rc sc  n l0 l4 l7 l8 l9 u = some (oZ, hZ) → xW sc m_Flow_turns (D + d + 11) Q (u) 239 [some (vR l0), none, none, none, some (vR l4), none, none, some (vI l7), some (vI l8), some (vI l9)] [] := by
  intro n
  induction n with
  | zero =>
    intro l0 l4 l7 l8 l9 u h
    cases h
  | succ n hk239 =>
    intro l0 l4 l7 l8 l9 u h
    unfold f_Flow_turns_b239 at h
    refine x_iload (pc := 239) d_Flow_turns_239 rfl ?_
    refine x_iload (pc := 241) d_Flow_turns_241 rfl ?_
    refine x_icmp_ge (tgt := 275) (pc := 243) d_Flow_turns_243 (by decide) (fun c1 => ?_) (fun c1 => ?_)
    · rw [if_pos c1] at h
      exact x_wk (L' := [some (vR l0), none, none, none, none, none, none, none, none, none]) ⟨Or.inr rfl, Or.inl rfl, Or.inl rfl, Or.inl rfl, Or.inl rfl, Or.inl rfl, Or.inl rfl, Or.inl rfl, Or.inl rfl, Or.inl rfl, trivial⟩ (w_Flow_turns_b275 hrc hQ l0 u h)
    · rw [if_neg c1] at h
      refine x_aload_n (pc := 246) d_Flow_turns_246 rfl ?_
      obtain ⟨v2, e3, h⟩ := Option.bind_eq_some_iff.mp h
      refine c_getI (pc := 247) d_Flow_turns_247 l_Flow_64 e3 ?_
      refine x_if_ne (tgt := 275) (pc := 250) d_Flow_turns_250 (by decide) (fun c4 => ?_) (fun c4 => ?_)
      · rw [if_neg c4] at h
        exact x_wk (L' := [some (vR l0), none, none, none, none, none, none, none, none, none]) ⟨Or.inr rfl, Or.inl rfl, Or.inl rfl, Or.inl rfl, Or.inl rfl, Or.inl rfl, Or.inl rfl, Or.inl rfl, Or.inl rfl, Or.inl rfl, trivial⟩ (w_Flow_turns_b275 hrc hQ l0 u h)
      · rw [if_pos c4] at h
        refine x_aload (pc := 253) d_Flow_turns_253 rfl ?_
        refine x_aload_n (pc := 255) d_Flow_turns_255 rfl ?_
        refine x_aload_n (pc := 256) d_Flow_turns_256 rfl ?_
        obtain ⟨v5, e6, h⟩ := Option.bind_eq_some_iff.mp h
        refine c_getR (pc := 257) d_Flow_turns_257 l_Flow_125 e6 ?_
        refine x_iload (pc := 260) d_Flow_turns_260 rfl ?_
        refine x_iload (pc := 262) d_Flow_turns_262 rfl ?_
        refine x_iadd (pc := 264) d_Flow_turns_264 ?_
        obtain ⟨v7, e8, h⟩ := Option.bind_eq_some_iff.mp h
        refine c_aald (pc := 265) d_Flow_turns_265 e8 ?_
        obtain ⟨c9, h⟩ := ite_some h
        rcases tB_s h with ⟨a13, u14, e12, h⟩ | ⟨v11, u10, e12, h⟩
        · refine c_invv (c := 7) (d := D + d + 10) (av := [vR l0, vR v7]) (st := []) (Q' := fun r h' => r = .inr a13 ∧ h' = u14) (pc := 266) d_Flow_turns_266 cv_Flow_114 y_Turn_go c9 rfl (Nat.le_of_ble_eq_true rfl) (Nat.le_of_ble_eq_true rfl) (w_Turn_go (d := d + 1) (Q := fun r h' => r = .inr a13 ∧ h' = u14) hrc ⟨rfl, rfl⟩ u l4 l0 v7 e12) (fun v h' z => nomatch z.1) (fun a h' z => ?_)
          obtain ⟨z1, z2⟩ := z
          subst h'
          cases z1
          cases h
          exact x_thOut (xno rfl) hQ
        refine c_invv (c := 7) (d := D + d + 10) (av := [vR l0, vR v7]) (st := []) (Q' := fun r h' => r = .inl none ∧ h' = u10) (pc := 266) d_Flow_turns_266 cv_Flow_114 y_Turn_go c9 rfl (Nat.le_of_ble_eq_true rfl) (Nat.le_of_ble_eq_true rfl) (w_Turn_go (d := d + 1) (Q := fun r h' => r = .inl none ∧ h' = u10) hrc ⟨rfl, rfl⟩ u l4 l0 v7 e12) (fun v h' z => ?_) (fun a h' z => nomatch z.1)
        obtain ⟨z1, z2⟩ := z
        subst h'
        cases z1
        show xW sc m_Flow_turns (D + d + 11) Q (u10) 269 [some (vR l0), none, none, none, some (vR l4), none, none, some (vI l7), some (vI l8), some (vI l9)] []
        refine x_iinc (pc := 269) d_Flow_turns_269 rfl (by decide) ?_
        show xW sc m_Flow_turns (D + d + 11) Q (u10) 272 [some (vR l0), none, none, none, some (vR l4), none, none, some (vI l7), some (vI l8), some (vI (l9 + Int32.ofInt 1))] []
        refine x_goto (tgt := 239) (pc := 272) d_Flow_turns_272 (by decide) ?_
        exact hk239 l0 l4 l7 l8 (l9 + Int32.ofInt 1) u10 h
def f_Flow_turns_b192 (rc : rcE) (sc : xSc)  (u : xH) : Option ((Unit ⊕ Nat) × xH) := f_Flow_turns_b315 rc sc u
theorem w_Flow_turns_b192 {rc : rcE} {D : Nat} {sc : xSc} {d : Nat} {Q : xR → xH → Prop} {oZ : Unit ⊕ Nat} {hZ : xH} (hrc : rcEOK sc D rc)  (hQ : Q (cvU oZ) hZ) (u : xH) (h : f_Flow_turns_b192 rc sc  u = some (oZ, hZ)) : xW sc m_Flow_turns (D + d + 11) Q (u) 192 [none, none, none, none, none, none, none, none, none, none] [] := by
  unfold f_Flow_turns_b192 at h
  refine x_goto (tgt := 315) (pc := 192) d_Flow_turns_192 (by decide) ?_
  exact w_Flow_turns_b315 hrc hQ u h
def f_Flow_turns_b165 (rc : rcE) (sc : xSc)  : Nat → Option Nat → Option Nat → Int32 → Int32 → xH → Option ((Unit ⊕ Nat) × xH)
  | 0, _, _, _, _, _ => none
  | n + 1, l0, l4, l6, l7, u => (if l6 ≤ l7 then f_Flow_turns_b192 rc sc u else (gI sc u 0 24 l0).bind fun v2 => (if v2 = 0 then (if xis sc u 7 l4 = true then tB (f_Turn_go rc sc u l4 l0 none) (fun v7 u6 => (f_Flow_turns_b165 rc sc n) l0 l4 l6 (l7 + Int32.ofInt 1) u6) (fun a9 u10 => some (.inr a9, u10)) else none) else f_Flow_turns_b192 rc sc u))
theorem w_Flow_turns_b165 {rc : rcE} {D : Nat} {sc : xSc} {d : Nat} {Q : xR → xH → Prop} {oZ : Unit ⊕ Nat} {hZ : xH} (hrc : rcEOK sc D rc)  (hQ : Q (cvU oZ) hZ) : ∀ (n : Nat) (l0 : Option Nat) (l4 : Option Nat) (l6 : Int32) (l7 : Int32) (u : xH), f_Flow_turns_b165 rc sc  n l0 l4 l6 l7 u = some (oZ, hZ) → xW sc m_Flow_turns (D + d + 11) Q (u) 165 [some (vR l0), none, none, none, some (vR l4), none, some (vI l6), some (vI l7), none, none] [] := by
  intro n
  induction n with
  | zero =>
    intro l0 l4 l6 l7 u h
    cases h
  | succ n hk165 =>
    intro l0 l4 l6 l7 u h
    unfold f_Flow_turns_b165 at h
    refine x_iload (pc := 165) d_Flow_turns_165 rfl ?_
    refine x_iload (pc := 167) d_Flow_turns_167 rfl ?_
    refine x_icmp_ge (tgt := 192) (pc := 169) d_Flow_turns_169 (by decide) (fun c1 => ?_) (fun c1 => ?_)
    · rw [if_pos c1] at h
      exact x_wk (L' := [none, none, none, none, none, none, none, none, none, none]) ⟨Or.inl rfl, Or.inl rfl, Or.inl rfl, Or.inl rfl, Or.inl rfl, Or.inl rfl, Or.inl rfl, Or.inl rfl, Or.inl rfl, Or.inl rfl, trivial⟩ (w_Flow_turns_b192 hrc hQ u h)
    · rw [if_neg c1] at h
      refine x_aload_n (pc := 172) d_Flow_turns_172 rfl ?_
      obtain ⟨v2, e3, h⟩ := Option.bind_eq_some_iff.mp h
      refine c_getI (pc := 173) d_Flow_turns_173 l_Flow_64 e3 ?_
      refine x_if_ne (tgt := 192) (pc := 176) d_Flow_turns_176 (by decide) (fun c4 => ?_) (fun c4 => ?_)
      · rw [if_neg c4] at h
        exact x_wk (L' := [none, none, none, none, none, none, none, none, none, none]) ⟨Or.inl rfl, Or.inl rfl, Or.inl rfl, Or.inl rfl, Or.inl rfl, Or.inl rfl, Or.inl rfl, Or.inl rfl, Or.inl rfl, Or.inl rfl, trivial⟩ (w_Flow_turns_b192 hrc hQ u h)
      · rw [if_pos c4] at h
        refine x_aload (pc := 179) d_Flow_turns_179 rfl ?_
        refine x_aload_n (pc := 181) d_Flow_turns_181 rfl ?_
        refine x_null (pc := 182) d_Flow_turns_182 ?_
        obtain ⟨c5, h⟩ := ite_some h
        rcases tB_s h with ⟨a9, u10, e8, h⟩ | ⟨v7, u6, e8, h⟩
        · refine c_invv (c := 7) (d := D + d + 10) (av := [vR l0, vR none]) (st := []) (Q' := fun r h' => r = .inr a9 ∧ h' = u10) (pc := 183) d_Flow_turns_183 cv_Flow_114 y_Turn_go c5 rfl (Nat.le_of_ble_eq_true rfl) (Nat.le_of_ble_eq_true rfl) (w_Turn_go (d := d + 1) (Q := fun r h' => r = .inr a9 ∧ h' = u10) hrc ⟨rfl, rfl⟩ u l4 l0 none e8) (fun v h' z => nomatch z.1) (fun a h' z => ?_)
          obtain ⟨z1, z2⟩ := z
          subst h'
          cases z1
          cases h
          exact x_thOut (xno rfl) hQ
        refine c_invv (c := 7) (d := D + d + 10) (av := [vR l0, vR none]) (st := []) (Q' := fun r h' => r = .inl none ∧ h' = u6) (pc := 183) d_Flow_turns_183 cv_Flow_114 y_Turn_go c5 rfl (Nat.le_of_ble_eq_true rfl) (Nat.le_of_ble_eq_true rfl) (w_Turn_go (d := d + 1) (Q := fun r h' => r = .inl none ∧ h' = u6) hrc ⟨rfl, rfl⟩ u l4 l0 none e8) (fun v h' z => ?_) (fun a h' z => nomatch z.1)
        obtain ⟨z1, z2⟩ := z
        subst h'
        cases z1
        show xW sc m_Flow_turns (D + d + 11) Q (u6) 186 [some (vR l0), none, none, none, some (vR l4), none, some (vI l6), some (vI l7), none, none] []
        refine x_iinc (pc := 186) d_Flow_turns_186 rfl (by decide) ?_
        show xW sc m_Flow_turns (D + d + 11) Q (u6) 189 [some (vR l0), none, none, none, some (vR l4), none, some (vI l6), some (vI (l7 + Int32.ofInt 1)), none, none] []
        refine x_goto (tgt := 165) (pc := 189) d_Flow_turns_189 (by decide) ?_
        exact hk165 l0 l4 l6 (l7 + Int32.ofInt 1) u6 h
def f_Flow_turns_b142 (rc : rcE) (sc : xSc)  (l0 : Option Nat) (l2 : Option Nat) (l4 : Option Nat) (t0 : Int32) (t1 : Option Nat) (u : xH) : Option ((Unit ⊕ Nat) × xH) := (if xis sc u 0 t1 = true then tB (f_P_need sc u t1 t0 (4 : Int32)) (fun v3 u2 => (gI sc u2 0 9 l0).bind fun v7 => (pV u2 0 9 l0 (vI (v7 - (2 : Int32)))).bind fun u9 => (gI sc u9 2 2 l2).bind fun v11 => f_Flow_turns_b165 rc sc mF l0 l4 v11 (0 : Int32) u9) (fun a5 u6 => some (.inr a5, u6)) else none)
theorem w_Flow_turns_b142 {rc : rcE} {D : Nat} {sc : xSc} {d : Nat} {Q : xR → xH → Prop} {oZ : Unit ⊕ Nat} {hZ : xH} (hrc : rcEOK sc D rc)  (hQ : Q (cvU oZ) hZ) (l0 : Option Nat) (l2 : Option Nat) (l4 : Option Nat) (t0 : Int32) (t1 : Option Nat) (u : xH) (h : f_Flow_turns_b142 rc sc  l0 l2 l4 t0 t1 u = some (oZ, hZ)) : xW sc m_Flow_turns (D + d + 11) Q (u) 142 [some (vR l0), none, some (vR l2), none, some (vR l4), none, none, none, none, none] [vI t0, vR t1] := by
  unfold f_Flow_turns_b142 at h
  refine x_iconst (v := (4 : Int32)) (pc := 142) d_Flow_turns_142 (by decide) ?_
  obtain ⟨c1, h⟩ := ite_some h
  rcases tB_s h with ⟨a5, u6, e4, h⟩ | ⟨v3, u2, e4, h⟩
  · refine c_invv (c := 0) (d := D + d + 10) (av := [vI t0, vI (4 : Int32)]) (st := []) (Q' := fun r h' => r = .inr a5 ∧ h' = u6) (pc := 143) d_Flow_turns_143 cv_Flow_60 y_P_need c1 rfl (Nat.le_of_ble_eq_true rfl) (Nat.le_of_ble_eq_true rfl) (w_P_need (d := D + d + 4) (Q := fun r h' => r = .inr a5 ∧ h' = u6) ⟨rfl, rfl⟩ u t1 t0 (4 : Int32) e4) (fun v h' z => nomatch z.1) (fun a h' z => ?_)
    obtain ⟨z1, z2⟩ := z
    subst h'
    cases z1
    cases h
    exact x_thOut (xno rfl) hQ
  refine c_invv (c := 0) (d := D + d + 10) (av := [vI t0, vI (4 : Int32)]) (st := []) (Q' := fun r h' => r = .inl none ∧ h' = u2) (pc := 143) d_Flow_turns_143 cv_Flow_60 y_P_need c1 rfl (Nat.le_of_ble_eq_true rfl) (Nat.le_of_ble_eq_true rfl) (w_P_need (d := D + d + 4) (Q := fun r h' => r = .inl none ∧ h' = u2) ⟨rfl, rfl⟩ u t1 t0 (4 : Int32) e4) (fun v h' z => ?_) (fun a h' z => nomatch z.1)
  obtain ⟨z1, z2⟩ := z
  subst h'
  cases z1
  show xW sc m_Flow_turns (D + d + 11) Q (u2) 146 [some (vR l0), none, some (vR l2), none, some (vR l4), none, none, none, none, none] []
  refine x_aload_n (pc := 146) d_Flow_turns_146 rfl ?_
  refine x_dup (pc := 147) d_Flow_turns_147 rfl ?_
  obtain ⟨v7, e8, h⟩ := Option.bind_eq_some_iff.mp h
  refine c_getI (pc := 148) d_Flow_turns_148 l_Flow_15 e8 ?_
  refine x_iconst (v := (2 : Int32)) (pc := 151) d_Flow_turns_151 (by decide) ?_
  refine x_isub (pc := 152) d_Flow_turns_152 ?_
  obtain ⟨u9, e10, h⟩ := Option.bind_eq_some_iff.mp h
  refine c_putf (pc := 153) d_Flow_turns_153 l_Flow_15 fp_0_9 (xfit_int) e10 ?_
  refine x_aload_n (pc := 156) d_Flow_turns_156 rfl ?_
  obtain ⟨v11, e12, h⟩ := Option.bind_eq_some_iff.mp h
  refine c_getI (pc := 157) d_Flow_turns_157 l_Flow_43 e12 ?_
  refine x_istore (pc := 160) d_Flow_turns_160 (by decide) ?_
  show xW sc m_Flow_turns (D + d + 11) Q (u9) 162 [some (vR l0), none, some (vR l2), none, some (vR l4), none, some (vI v11), none, none, none] []
  refine x_iconst (v := (0 : Int32)) (pc := 162) d_Flow_turns_162 (by decide) ?_
  refine x_istore (pc := 163) d_Flow_turns_163 (by decide) ?_
  show xW sc m_Flow_turns (D + d + 11) Q (u9) 165 [some (vR l0), none, some (vR l2), none, some (vR l4), none, some (vI v11), some (vI (0 : Int32)), none, none] []
  exact x_wk (L' := [some (vR l0), none, none, none, some (vR l4), none, some (vI v11), some (vI (0 : Int32)), none, none]) ⟨Or.inr rfl, Or.inl rfl, Or.inl rfl, Or.inl rfl, Or.inr rfl, Or.inl rfl, Or.inr rfl, Or.inr rfl, Or.inl rfl, Or.inl rfl, trivial⟩ (w_Flow_turns_b165 hrc hQ mF l0 l4 v11 (0 : Int32) u9 h)
def f_Flow_turns_b80 (rc : rcE) (sc : xSc)  (l0 : Option Nat) (l2 : Option Nat) (l3 : Option Nat) (l4 : Option Nat) (l5 : Option Nat) (t0 : Int32) (t1 : Option Nat) (u : xH) : Option ((Unit ⊕ Nat) × xH) := (if xis sc u 0 t1 = true then tB (f_P_type sc u t1 t0) (fun v3 u2 => (gI sc u2 0 9 l0).bind fun v7 => (pV u2 0 9 l0 (vI (v7 - (4 : Int32)))).bind fun u9 => (gI sc u9 2 2 l2).bind fun v11 => (gI sc u9 2 2 l3).bind fun v13 => (gI sc u9 2 2 l5).bind fun v15 => tB (f_Flow_stretch rc sc u9 l0 v11.toInt64 v13.toInt64 v15.toInt64 l4) (fun v18 u17 => f_Flow_turns_b315 rc sc u17) (fun a20 u21 => some (.inr a20, u21))) (fun a5 u6 => some (.inr a5, u6)) else none)
theorem w_Flow_turns_b80 {rc : rcE} {D : Nat} {sc : xSc} {d : Nat} {Q : xR → xH → Prop} {oZ : Unit ⊕ Nat} {hZ : xH} (hrc : rcEOK sc D rc)  (hQ : Q (cvU oZ) hZ) (l0 : Option Nat) (l2 : Option Nat) (l3 : Option Nat) (l4 : Option Nat) (l5 : Option Nat) (t0 : Int32) (t1 : Option Nat) (u : xH) (h : f_Flow_turns_b80 rc sc  l0 l2 l3 l4 l5 t0 t1 u = some (oZ, hZ)) : xW sc m_Flow_turns (D + d + 11) Q (u) 80 [some (vR l0), none, some (vR l2), some (vR l3), some (vR l4), some (vR l5), none, none, none, none] [vI t0, vR t1] := by
  unfold f_Flow_turns_b80 at h
  obtain ⟨c1, h⟩ := ite_some h
  rcases tB_s h with ⟨a5, u6, e4, h⟩ | ⟨v3, u2, e4, h⟩
  · refine c_invv (c := 0) (d := D + d + 10) (av := [vI t0]) (st := []) (Q' := fun r h' => r = .inr a5 ∧ h' = u6) (pc := 80) d_Flow_turns_80 cv_Flow_39 y_P_type c1 rfl (Nat.le_of_ble_eq_true rfl) (Nat.le_of_ble_eq_true rfl) (w_P_type (d := D + d + 3) (Q := fun r h' => r = .inr a5 ∧ h' = u6) ⟨rfl, rfl⟩ u t1 t0 e4) (fun v h' z => nomatch z.1) (fun a h' z => ?_)
    obtain ⟨z1, z2⟩ := z
    subst h'
    cases z1
    cases h
    exact x_thOut (xno rfl) hQ
  refine c_invv (c := 0) (d := D + d + 10) (av := [vI t0]) (st := []) (Q' := fun r h' => r = .inl none ∧ h' = u2) (pc := 80) d_Flow_turns_80 cv_Flow_39 y_P_type c1 rfl (Nat.le_of_ble_eq_true rfl) (Nat.le_of_ble_eq_true rfl) (w_P_type (d := D + d + 3) (Q := fun r h' => r = .inl none ∧ h' = u2) ⟨rfl, rfl⟩ u t1 t0 e4) (fun v h' z => ?_) (fun a h' z => nomatch z.1)
  obtain ⟨z1, z2⟩ := z
  subst h'
  cases z1
  show xW sc m_Flow_turns (D + d + 11) Q (u2) 83 [some (vR l0), none, some (vR l2), some (vR l3), some (vR l4), some (vR l5), none, none, none, none] []
  refine x_aload_n (pc := 83) d_Flow_turns_83 rfl ?_
  refine x_dup (pc := 84) d_Flow_turns_84 rfl ?_
  obtain ⟨v7, e8, h⟩ := Option.bind_eq_some_iff.mp h
  refine c_getI (pc := 85) d_Flow_turns_85 l_Flow_15 e8 ?_
  refine x_iconst (v := (4 : Int32)) (pc := 88) d_Flow_turns_88 (by decide) ?_
  refine x_isub (pc := 89) d_Flow_turns_89 ?_
  obtain ⟨u9, e10, h⟩ := Option.bind_eq_some_iff.mp h
  refine c_putf (pc := 90) d_Flow_turns_90 l_Flow_15 fp_0_9 (xfit_int) e10 ?_
  refine x_aload_n (pc := 93) d_Flow_turns_93 rfl ?_
  refine x_aload_n (pc := 94) d_Flow_turns_94 rfl ?_
  obtain ⟨v11, e12, h⟩ := Option.bind_eq_some_iff.mp h
  refine c_getI (pc := 95) d_Flow_turns_95 l_Flow_43 e12 ?_
  refine x_i2l (pc := 98) d_Flow_turns_98 ?_
  refine x_aload_n (pc := 99) d_Flow_turns_99 rfl ?_
  obtain ⟨v13, e14, h⟩ := Option.bind_eq_some_iff.mp h
  refine c_getI (pc := 100) d_Flow_turns_100 l_Flow_43 e14 ?_
  refine x_i2l (pc := 103) d_Flow_turns_103 ?_
  refine x_aload (pc := 104) d_Flow_turns_104 rfl ?_
  obtain ⟨v15, e16, h⟩ := Option.bind_eq_some_iff.mp h
  refine c_getI (pc := 106) d_Flow_turns_106 l_Flow_43 e16 ?_
  refine x_i2l (pc := 109) d_Flow_turns_109 ?_
  refine x_aload (pc := 110) d_Flow_turns_110 rfl ?_
  rcases tB_s h with ⟨a20, u21, e19, h⟩ | ⟨v18, u17, e19, h⟩
  · refine x_invs (d := D + d + 10) (av := [vR l0, vL v11.toInt64, vL v13.toInt64, vL v15.toInt64, vR l4]) (st := []) (Q' := fun r h' => r = .inr a20 ∧ h' = u21) (pc := 112) d_Flow_turns_112 cs_Flow_110 y_Flow_stretch rfl (Nat.le_of_ble_eq_true rfl) (Nat.le_of_ble_eq_true rfl) (w_Flow_stretch (d := d + 0) (Q := fun r h' => r = .inr a20 ∧ h' = u21) hrc ⟨rfl, rfl⟩ u9 l0 v11.toInt64 v13.toInt64 v15.toInt64 l4 e19) (fun v h' z => nomatch z.1) (fun a h' z => ?_)
    obtain ⟨z1, z2⟩ := z
    subst h'
    cases z1
    cases h
    exact x_thOut (xno rfl) hQ
  refine x_invs (d := D + d + 10) (av := [vR l0, vL v11.toInt64, vL v13.toInt64, vL v15.toInt64, vR l4]) (st := []) (Q' := fun r h' => r = .inl none ∧ h' = u17) (pc := 112) d_Flow_turns_112 cs_Flow_110 y_Flow_stretch rfl (Nat.le_of_ble_eq_true rfl) (Nat.le_of_ble_eq_true rfl) (w_Flow_stretch (d := d + 0) (Q := fun r h' => r = .inl none ∧ h' = u17) hrc ⟨rfl, rfl⟩ u9 l0 v11.toInt64 v13.toInt64 v15.toInt64 l4 e19) (fun v h' z => ?_) (fun a h' z => nomatch z.1)
  obtain ⟨z1, z2⟩ := z
  subst h'
  cases z1
  show xW sc m_Flow_turns (D + d + 11) Q (u17) 115 [some (vR l0), none, some (vR l2), some (vR l3), some (vR l4), some (vR l5), none, none, none, none] []
  refine x_goto (tgt := 315) (pc := 115) d_Flow_turns_115 (by decide) ?_
  exact x_wk (L' := [none, none, none, none, none, none, none, none, none, none]) ⟨Or.inl rfl, Or.inl rfl, Or.inl rfl, Or.inl rfl, Or.inl rfl, Or.inl rfl, Or.inl rfl, Or.inl rfl, Or.inl rfl, Or.inl rfl, trivial⟩ (w_Flow_turns_b315 hrc hQ u17 h)
def f_Flow_turns_b79 (rc : rcE) (sc : xSc)  (l0 : Option Nat) (l2 : Option Nat) (l3 : Option Nat) (l4 : Option Nat) (l5 : Option Nat) (t0 : Option Nat) (u : xH) : Option ((Unit ⊕ Nat) × xH) := f_Flow_turns_b80 rc sc l0 l2 l3 l4 l5 (0 : Int32) t0 u
theorem w_Flow_turns_b79 {rc : rcE} {D : Nat} {sc : xSc} {d : Nat} {Q : xR → xH → Prop} {oZ : Unit ⊕ Nat} {hZ : xH} (hrc : rcEOK sc D rc)  (hQ : Q (cvU oZ) hZ) (l0 : Option Nat) (l2 : Option Nat) (l3 : Option Nat) (l4 : Option Nat) (l5 : Option Nat) (t0 : Option Nat) (u : xH) (h : f_Flow_turns_b79 rc sc  l0 l2 l3 l4 l5 t0 u = some (oZ, hZ)) : xW sc m_Flow_turns (D + d + 11) Q (u) 79 [some (vR l0), none, some (vR l2), some (vR l3), some (vR l4), some (vR l5), none, none, none, none] [vR t0] := by
  unfold f_Flow_turns_b79 at h
  refine x_iconst (v := (0 : Int32)) (pc := 79) d_Flow_turns_79 (by decide) ?_
  exact w_Flow_turns_b80 hrc hQ l0 l2 l3 l4 l5 (0 : Int32) t0 u h
def f_Flow_turns (rc : rcE) (sc : xSc) (u : xH) (a1 : Option Nat) (a2 : Option Nat) (a3 : Option Nat) (a4 : Option Nat) (a5 : Option Nat) : Option ((Unit ⊕ Nat) × xH) := (if xis sc u 19 a2 = true then (f_Enum_ordinal19 sc u a2).bind fun v2 => (if v2 = (55 : Int32) then (if xis sc u 0 a1 = true then (f_P_at sc u a1 (1 : Int32)).bind fun v6 => (if xis sc u 2 a3 = true then (f_Slot_is sc u a3 (some 72)).bind fun v9 => (if v9 = 0 then f_Flow_turns_b79 rc sc a1 a3 a4 a5 v6 a1 u else (if xis sc u 2 a4 = true then (f_Slot_is sc u a4 (some 72)).bind fun v13 => (if v13 = 0 then f_Flow_turns_b79 rc sc a1 a3 a4 a5 v6 a1 u else (if xis sc u 2 v6 = true then (f_Slot_is sc u v6 (some 72)).bind fun v17 => (if v17 = 0 then f_Flow_turns_b79 rc sc a1 a3 a4 a5 v6 a1 u else f_Flow_turns_b80 rc sc a1 a3 a4 a5 v6 (1 : Int32) a1 u) else none)) else none)) else none) else none) else (if v2 = (56 : Int32) then (if xis sc u 2 a3 = true then (f_Slot_is sc u a3 (some 72)).bind fun v22 => (if xis sc u 0 a1 = true then tB (f_P_type sc u a1 v22) (fun v26 u25 => (gI sc u25 2 2 a3).bind fun v30 => (if v30 < 0 then f_Flow_turns_b142 rc sc a1 a3 a5 (0 : Int32) a1 u25 else f_Flow_turns_b142 rc sc a1 a3 a5 (1 : Int32) a1 u25)) (fun a28 u29 => some (.inr a28, u29)) else none) else none) else (if v2 = (57 : Int32) then f_Flow_turns_b288 rc sc a1 a5 u else (if v2 = (58 : Int32) then (if xis sc u 2 a3 = true then (f_Slot_is sc u a3 (some 77)).bind fun v36 => (if xis sc u 0 a1 = true then tB (f_P_type sc u a1 v36) (fun v40 u39 => (gI sc u39 0 9 a1).bind fun v44 => (pV u39 0 9 a1 (vI (v44 - (2 : Int32)))).bind fun u46 => (gI sc u46 2 2 a3).bind fun v48 => (gI sc u46 2 3 a3).bind fun v50 => (if xis sc u46 0 a1 = true then (f_P_enter sc u46 a1 v48 v50).bind fun u53 => f_Flow_turns_b239 rc sc mF a1 a5 v48 v50 (0 : Int32) u53 else none)) (fun a42 u43 => some (.inr a42, u43)) else none) else none) else f_Flow_turns_b288 rc sc a1 a5 u)))) else none)
theorem w_Flow_turns {rc : rcE} {D : Nat} {sc : xSc} {d : Nat} {Q : xR → xH → Prop} {oZ : Unit ⊕ Nat} {hZ : xH} (hrc : rcEOK sc D rc) (hQ : Q (cvU oZ) hZ) (u : xH) (a1 : Option Nat) (a2 : Option Nat) (a3 : Option Nat) (a4 : Option Nat) (a5 : Option Nat) (h : f_Flow_turns rc sc u a1 a2 a3 a4 a5 = some (oZ, hZ)) : xW sc m_Flow_turns (D + d + 11) Q (u) 0 (xent [vR a1, vR a2, vR a3, vR a4, vR a5] m_Flow_turns.2.2.1) [] := by
  show xW sc m_Flow_turns (D + d + 11) Q (u) 0 [some (vR a1), some (vR a2), some (vR a3), some (vR a4), some (vR a5), none, none, none, none, none] []
  unfold f_Flow_turns at h
  refine x_aload_n (pc := 0) d_Flow_turns_0 rfl ?_
  obtain ⟨c1, h⟩ := ite_some h
  obtain ⟨v2, e3, h⟩ := Option.bind_eq_some_iff.mp h
  refine c_invu (c := 19) (d := D + d + 10) (av := []) (st := []) (Q' := fun r h' => r = .inl (some (vI v2)) ∧ h' = u) (pc := 1) d_Flow_turns_1 cw_Flow_9_19 y_Enum_ordinal c1 rfl (Nat.le_of_ble_eq_true rfl) (Nat.le_of_ble_eq_true rfl) (w_Enum_ordinal19 (d := D + d + 10) (Q := fun r h' => r = .inl (some (vI v2)) ∧ h' = u) ⟨rfl, rfl⟩ a2 e3) (fun v h' z => ?_) (fun a h' z => nomatch z.1)
  obtain ⟨z1, z2⟩ := z
  subst h'
  cases z1
  show xW sc m_Flow_turns (D + d + 11) Q (u) 4 [some (vR a1), some (vR a2), some (vR a3), some (vR a4), some (vR a5), none, none, none, none, none] [vI v2]
  by_cases c4 : v2 = (55 : Int32)
  · rw [if_pos c4] at h
    refine x_tableIn (off := 32) (tgt := 36) (pc := 4) d_Flow_turns_4 (by rw [c4]; decide) (by rw [c4]; decide) (by rw [c4]; decide) (by decide) ?_
    refine x_aload_n (pc := 36) d_Flow_turns_36 rfl ?_
    refine x_iconst (v := (1 : Int32)) (pc := 37) d_Flow_turns_37 (by decide) ?_
    obtain ⟨c5, h⟩ := ite_some h
    obtain ⟨v6, e7, h⟩ := Option.bind_eq_some_iff.mp h
    refine c_invv (c := 0) (d := D + d + 10) (av := [vI (1 : Int32)]) (st := []) (Q' := fun r h' => r = .inl (some (vR v6)) ∧ h' = u) (pc := 38) d_Flow_turns_38 cv_Flow_46 y_P_at c5 rfl (Nat.le_of_ble_eq_true rfl) (Nat.le_of_ble_eq_true rfl) (w_P_at (d := D + d + 10) (Q := fun r h' => r = .inl (some (vR v6)) ∧ h' = u) ⟨rfl, rfl⟩ a1 (1 : Int32) e7) (fun v h' z => ?_) (fun a h' z => nomatch z.1)
    obtain ⟨z1, z2⟩ := z
    subst h'
    cases z1
    show xW sc m_Flow_turns (D + d + 11) Q (u) 41 [some (vR a1), some (vR a2), some (vR a3), some (vR a4), some (vR a5), none, none, none, none, none] [vR v6]
    refine x_astore (pc := 41) d_Flow_turns_41 (by decide) ?_
    show xW sc m_Flow_turns (D + d + 11) Q (u) 43 [some (vR a1), some (vR a2), some (vR a3), some (vR a4), some (vR a5), some (vR v6), none, none, none, none] []
    refine x_aload_n (pc := 43) d_Flow_turns_43 rfl ?_
    refine x_aload_n (pc := 44) d_Flow_turns_44 rfl ?_
    refine x_gets (v := vR (some 72)) (pc := 45) d_Flow_turns_45 sl_Flow_76 ?_
    obtain ⟨c8, h⟩ := ite_some h
    obtain ⟨v9, e10, h⟩ := Option.bind_eq_some_iff.mp h
    refine c_invv (c := 2) (d := D + d + 10) (av := [vR (some 72)]) (st := [vR a1]) (Q' := fun r h' => r = .inl (some (vI v9)) ∧ h' = u) (pc := 48) d_Flow_turns_48 cv_Flow_29 y_Slot_is c8 rfl (Nat.le_of_ble_eq_true rfl) (Nat.le_of_ble_eq_true rfl) (w_Slot_is (d := D + d + 10) (Q := fun r h' => r = .inl (some (vI v9)) ∧ h' = u) ⟨rfl, rfl⟩ a3 (some 72) e10) (fun v h' z => ?_) (fun a h' z => nomatch z.1)
    obtain ⟨z1, z2⟩ := z
    subst h'
    cases z1
    show xW sc m_Flow_turns (D + d + 11) Q (u) 51 [some (vR a1), some (vR a2), some (vR a3), some (vR a4), some (vR a5), some (vR v6), none, none, none, none] [vI v9, vR a1]
    refine x_if_eq (tgt := 79) (pc := 51) d_Flow_turns_51 (by decide) (fun c11 => ?_) (fun c11 => ?_)
    · rw [if_pos c11] at h
      exact x_wk (L' := [some (vR a1), none, some (vR a3), some (vR a4), some (vR a5), some (vR v6), none, none, none, none]) ⟨Or.inr rfl, Or.inl rfl, Or.inr rfl, Or.inr rfl, Or.inr rfl, Or.inr rfl, Or.inl rfl, Or.inl rfl, Or.inl rfl, Or.inl rfl, trivial⟩ (w_Flow_turns_b79 hrc hQ a1 a3 a4 a5 v6 a1 u h)
    · rw [if_neg c11] at h
      refine x_aload_n (pc := 54) d_Flow_turns_54 rfl ?_
      refine x_gets (v := vR (some 72)) (pc := 55) d_Flow_turns_55 sl_Flow_76 ?_
      obtain ⟨c12, h⟩ := ite_some h
      obtain ⟨v13, e14, h⟩ := Option.bind_eq_some_iff.mp h
      refine c_invv (c := 2) (d := D + d + 10) (av := [vR (some 72)]) (st := [vR a1]) (Q' := fun r h' => r = .inl (some (vI v13)) ∧ h' = u) (pc := 58) d_Flow_turns_58 cv_Flow_29 y_Slot_is c12 rfl (Nat.le_of_ble_eq_true rfl) (Nat.le_of_ble_eq_true rfl) (w_Slot_is (d := D + d + 10) (Q := fun r h' => r = .inl (some (vI v13)) ∧ h' = u) ⟨rfl, rfl⟩ a4 (some 72) e14) (fun v h' z => ?_) (fun a h' z => nomatch z.1)
      obtain ⟨z1, z2⟩ := z
      subst h'
      cases z1
      show xW sc m_Flow_turns (D + d + 11) Q (u) 61 [some (vR a1), some (vR a2), some (vR a3), some (vR a4), some (vR a5), some (vR v6), none, none, none, none] [vI v13, vR a1]
      refine x_if_eq (tgt := 79) (pc := 61) d_Flow_turns_61 (by decide) (fun c15 => ?_) (fun c15 => ?_)
      · rw [if_pos c15] at h
        exact x_wk (L' := [some (vR a1), none, some (vR a3), some (vR a4), some (vR a5), some (vR v6), none, none, none, none]) ⟨Or.inr rfl, Or.inl rfl, Or.inr rfl, Or.inr rfl, Or.inr rfl, Or.inr rfl, Or.inl rfl, Or.inl rfl, Or.inl rfl, Or.inl rfl, trivial⟩ (w_Flow_turns_b79 hrc hQ a1 a3 a4 a5 v6 a1 u h)
      · rw [if_neg c15] at h
        refine x_aload (pc := 64) d_Flow_turns_64 rfl ?_
        refine x_gets (v := vR (some 72)) (pc := 66) d_Flow_turns_66 sl_Flow_76 ?_
        obtain ⟨c16, h⟩ := ite_some h
        obtain ⟨v17, e18, h⟩ := Option.bind_eq_some_iff.mp h
        refine c_invv (c := 2) (d := D + d + 10) (av := [vR (some 72)]) (st := [vR a1]) (Q' := fun r h' => r = .inl (some (vI v17)) ∧ h' = u) (pc := 69) d_Flow_turns_69 cv_Flow_29 y_Slot_is c16 rfl (Nat.le_of_ble_eq_true rfl) (Nat.le_of_ble_eq_true rfl) (w_Slot_is (d := D + d + 10) (Q := fun r h' => r = .inl (some (vI v17)) ∧ h' = u) ⟨rfl, rfl⟩ v6 (some 72) e18) (fun v h' z => ?_) (fun a h' z => nomatch z.1)
        obtain ⟨z1, z2⟩ := z
        subst h'
        cases z1
        show xW sc m_Flow_turns (D + d + 11) Q (u) 72 [some (vR a1), some (vR a2), some (vR a3), some (vR a4), some (vR a5), some (vR v6), none, none, none, none] [vI v17, vR a1]
        refine x_if_eq (tgt := 79) (pc := 72) d_Flow_turns_72 (by decide) (fun c19 => ?_) (fun c19 => ?_)
        · rw [if_pos c19] at h
          exact x_wk (L' := [some (vR a1), none, some (vR a3), some (vR a4), some (vR a5), some (vR v6), none, none, none, none]) ⟨Or.inr rfl, Or.inl rfl, Or.inr rfl, Or.inr rfl, Or.inr rfl, Or.inr rfl, Or.inl rfl, Or.inl rfl, Or.inl rfl, Or.inl rfl, trivial⟩ (w_Flow_turns_b79 hrc hQ a1 a3 a4 a5 v6 a1 u h)
        · rw [if_neg c19] at h
          refine x_iconst (v := (1 : Int32)) (pc := 75) d_Flow_turns_75 (by decide) ?_
          refine x_goto (tgt := 80) (pc := 76) d_Flow_turns_76 (by decide) ?_
          exact x_wk (L' := [some (vR a1), none, some (vR a3), some (vR a4), some (vR a5), some (vR v6), none, none, none, none]) ⟨Or.inr rfl, Or.inl rfl, Or.inr rfl, Or.inr rfl, Or.inr rfl, Or.inr rfl, Or.inl rfl, Or.inl rfl, Or.inl rfl, Or.inl rfl, trivial⟩ (w_Flow_turns_b80 hrc hQ a1 a3 a4 a5 v6 (1 : Int32) a1 u h)
  rw [if_neg c4] at h
  by_cases c20 : v2 = (56 : Int32)
  · rw [if_pos c20] at h
    refine x_tableIn (off := 114) (tgt := 118) (pc := 4) d_Flow_turns_4 (by rw [c20]; decide) (by rw [c20]; decide) (by rw [c20]; decide) (by decide) ?_
    refine x_aload_n (pc := 118) d_Flow_turns_118 rfl ?_
    refine x_aload_n (pc := 119) d_Flow_turns_119 rfl ?_
    refine x_gets (v := vR (some 72)) (pc := 120) d_Flow_turns_120 sl_Flow_76 ?_
    obtain ⟨c21, h⟩ := ite_some h
    obtain ⟨v22, e23, h⟩ := Option.bind_eq_some_iff.mp h
    refine c_invv (c := 2) (d := D + d + 10) (av := [vR (some 72)]) (st := [vR a1]) (Q' := fun r h' => r = .inl (some (vI v22)) ∧ h' = u) (pc := 123) d_Flow_turns_123 cv_Flow_29 y_Slot_is c21 rfl (Nat.le_of_ble_eq_true rfl) (Nat.le_of_ble_eq_true rfl) (w_Slot_is (d := D + d + 10) (Q := fun r h' => r = .inl (some (vI v22)) ∧ h' = u) ⟨rfl, rfl⟩ a3 (some 72) e23) (fun v h' z => ?_) (fun a h' z => nomatch z.1)
    obtain ⟨z1, z2⟩ := z
    subst h'
    cases z1
    show xW sc m_Flow_turns (D + d + 11) Q (u) 126 [some (vR a1), some (vR a2), some (vR a3), some (vR a4), some (vR a5), none, none, none, none, none] [vI v22, vR a1]
    obtain ⟨c24, h⟩ := ite_some h
    rcases tB_s h with ⟨a28, u29, e27, h⟩ | ⟨v26, u25, e27, h⟩
    · refine c_invv (c := 0) (d := D + d + 10) (av := [vI v22]) (st := []) (Q' := fun r h' => r = .inr a28 ∧ h' = u29) (pc := 126) d_Flow_turns_126 cv_Flow_39 y_P_type c24 rfl (Nat.le_of_ble_eq_true rfl) (Nat.le_of_ble_eq_true rfl) (w_P_type (d := D + d + 3) (Q := fun r h' => r = .inr a28 ∧ h' = u29) ⟨rfl, rfl⟩ u a1 v22 e27) (fun v h' z => nomatch z.1) (fun a h' z => ?_)
      obtain ⟨z1, z2⟩ := z
      subst h'
      cases z1
      cases h
      exact x_thOut (xno rfl) hQ
    refine c_invv (c := 0) (d := D + d + 10) (av := [vI v22]) (st := []) (Q' := fun r h' => r = .inl none ∧ h' = u25) (pc := 126) d_Flow_turns_126 cv_Flow_39 y_P_type c24 rfl (Nat.le_of_ble_eq_true rfl) (Nat.le_of_ble_eq_true rfl) (w_P_type (d := D + d + 3) (Q := fun r h' => r = .inl none ∧ h' = u25) ⟨rfl, rfl⟩ u a1 v22 e27) (fun v h' z => ?_) (fun a h' z => nomatch z.1)
    obtain ⟨z1, z2⟩ := z
    subst h'
    cases z1
    show xW sc m_Flow_turns (D + d + 11) Q (u25) 129 [some (vR a1), some (vR a2), some (vR a3), some (vR a4), some (vR a5), none, none, none, none, none] []
    refine x_aload_n (pc := 129) d_Flow_turns_129 rfl ?_
    refine x_aload_n (pc := 130) d_Flow_turns_130 rfl ?_
    obtain ⟨v30, e31, h⟩ := Option.bind_eq_some_iff.mp h
    refine c_getI (pc := 131) d_Flow_turns_131 l_Flow_43 e31 ?_
    refine x_if_lt (tgt := 141) (pc := 134) d_Flow_turns_134 (by decide) (fun c32 => ?_) (fun c32 => ?_)
    · rw [if_pos c32] at h
      refine x_iconst (v := (0 : Int32)) (pc := 141) d_Flow_turns_141 (by decide) ?_
      exact x_wk (L' := [some (vR a1), none, some (vR a3), none, some (vR a5), none, none, none, none, none]) ⟨Or.inr rfl, Or.inl rfl, Or.inr rfl, Or.inl rfl, Or.inr rfl, Or.inl rfl, Or.inl rfl, Or.inl rfl, Or.inl rfl, Or.inl rfl, trivial⟩ (w_Flow_turns_b142 hrc hQ a1 a3 a5 (0 : Int32) a1 u25 h)
    · rw [if_neg c32] at h
      refine x_iconst (v := (1 : Int32)) (pc := 137) d_Flow_turns_137 (by decide) ?_
      refine x_goto (tgt := 142) (pc := 138) d_Flow_turns_138 (by decide) ?_
      exact x_wk (L' := [some (vR a1), none, some (vR a3), none, some (vR a5), none, none, none, none, none]) ⟨Or.inr rfl, Or.inl rfl, Or.inr rfl, Or.inl rfl, Or.inr rfl, Or.inl rfl, Or.inl rfl, Or.inl rfl, Or.inl rfl, Or.inl rfl, trivial⟩ (w_Flow_turns_b142 hrc hQ a1 a3 a5 (1 : Int32) a1 u25 h)
  rw [if_neg c20] at h
  by_cases c33 : v2 = (57 : Int32)
  · rw [if_pos c33] at h
    refine x_tableIn (off := 284) (tgt := 288) (pc := 4) d_Flow_turns_4 (by rw [c33]; decide) (by rw [c33]; decide) (by rw [c33]; decide) (by decide) ?_
    exact x_wk (L' := [some (vR a1), none, none, none, some (vR a5), none, none, none, none, none]) ⟨Or.inr rfl, Or.inl rfl, Or.inl rfl, Or.inl rfl, Or.inr rfl, Or.inl rfl, Or.inl rfl, Or.inl rfl, Or.inl rfl, Or.inl rfl, trivial⟩ (w_Flow_turns_b288 hrc hQ a1 a5 u h)
  rw [if_neg c33] at h
  by_cases c34 : v2 = (58 : Int32)
  · rw [if_pos c34] at h
    refine x_tableIn (off := 191) (tgt := 195) (pc := 4) d_Flow_turns_4 (by rw [c34]; decide) (by rw [c34]; decide) (by rw [c34]; decide) (by decide) ?_
    refine x_aload_n (pc := 195) d_Flow_turns_195 rfl ?_
    refine x_aload_n (pc := 196) d_Flow_turns_196 rfl ?_
    refine x_gets (v := vR (some 77)) (pc := 197) d_Flow_turns_197 sl_Flow_118 ?_
    obtain ⟨c35, h⟩ := ite_some h
    obtain ⟨v36, e37, h⟩ := Option.bind_eq_some_iff.mp h
    refine c_invv (c := 2) (d := D + d + 10) (av := [vR (some 77)]) (st := [vR a1]) (Q' := fun r h' => r = .inl (some (vI v36)) ∧ h' = u) (pc := 200) d_Flow_turns_200 cv_Flow_29 y_Slot_is c35 rfl (Nat.le_of_ble_eq_true rfl) (Nat.le_of_ble_eq_true rfl) (w_Slot_is (d := D + d + 10) (Q := fun r h' => r = .inl (some (vI v36)) ∧ h' = u) ⟨rfl, rfl⟩ a3 (some 77) e37) (fun v h' z => ?_) (fun a h' z => nomatch z.1)
    obtain ⟨z1, z2⟩ := z
    subst h'
    cases z1
    show xW sc m_Flow_turns (D + d + 11) Q (u) 203 [some (vR a1), some (vR a2), some (vR a3), some (vR a4), some (vR a5), none, none, none, none, none] [vI v36, vR a1]
    obtain ⟨c38, h⟩ := ite_some h
    rcases tB_s h with ⟨a42, u43, e41, h⟩ | ⟨v40, u39, e41, h⟩
    · refine c_invv (c := 0) (d := D + d + 10) (av := [vI v36]) (st := []) (Q' := fun r h' => r = .inr a42 ∧ h' = u43) (pc := 203) d_Flow_turns_203 cv_Flow_39 y_P_type c38 rfl (Nat.le_of_ble_eq_true rfl) (Nat.le_of_ble_eq_true rfl) (w_P_type (d := D + d + 3) (Q := fun r h' => r = .inr a42 ∧ h' = u43) ⟨rfl, rfl⟩ u a1 v36 e41) (fun v h' z => nomatch z.1) (fun a h' z => ?_)
      obtain ⟨z1, z2⟩ := z
      subst h'
      cases z1
      cases h
      exact x_thOut (xno rfl) hQ
    refine c_invv (c := 0) (d := D + d + 10) (av := [vI v36]) (st := []) (Q' := fun r h' => r = .inl none ∧ h' = u39) (pc := 203) d_Flow_turns_203 cv_Flow_39 y_P_type c38 rfl (Nat.le_of_ble_eq_true rfl) (Nat.le_of_ble_eq_true rfl) (w_P_type (d := D + d + 3) (Q := fun r h' => r = .inl none ∧ h' = u39) ⟨rfl, rfl⟩ u a1 v36 e41) (fun v h' z => ?_) (fun a h' z => nomatch z.1)
    obtain ⟨z1, z2⟩ := z
    subst h'
    cases z1
    show xW sc m_Flow_turns (D + d + 11) Q (u39) 206 [some (vR a1), some (vR a2), some (vR a3), some (vR a4), some (vR a5), none, none, none, none, none] []
    refine x_aload_n (pc := 206) d_Flow_turns_206 rfl ?_
    refine x_dup (pc := 207) d_Flow_turns_207 rfl ?_
    obtain ⟨v44, e45, h⟩ := Option.bind_eq_some_iff.mp h
    refine c_getI (pc := 208) d_Flow_turns_208 l_Flow_15 e45 ?_
    refine x_iconst (v := (2 : Int32)) (pc := 211) d_Flow_turns_211 (by decide) ?_
    refine x_isub (pc := 212) d_Flow_turns_212 ?_
    obtain ⟨u46, e47, h⟩ := Option.bind_eq_some_iff.mp h
    refine c_putf (pc := 213) d_Flow_turns_213 l_Flow_15 fp_0_9 (xfit_int) e47 ?_
    refine x_aload_n (pc := 216) d_Flow_turns_216 rfl ?_
    obtain ⟨v48, e49, h⟩ := Option.bind_eq_some_iff.mp h
    refine c_getI (pc := 217) d_Flow_turns_217 l_Flow_43 e49 ?_
    refine x_istore (pc := 220) d_Flow_turns_220 (by decide) ?_
    show xW sc m_Flow_turns (D + d + 11) Q (u46) 222 [some (vR a1), some (vR a2), some (vR a3), some (vR a4), some (vR a5), none, none, some (vI v48), none, none] []
    refine x_aload_n (pc := 222) d_Flow_turns_222 rfl ?_
    obtain ⟨v50, e51, h⟩ := Option.bind_eq_some_iff.mp h
    refine c_getI (pc := 223) d_Flow_turns_223 l_Flow_98 e51 ?_
    refine x_istore (pc := 226) d_Flow_turns_226 (by decide) ?_
    show xW sc m_Flow_turns (D + d + 11) Q (u46) 228 [some (vR a1), some (vR a2), some (vR a3), some (vR a4), some (vR a5), none, none, some (vI v48), some (vI v50), none] []
    refine x_aload_n (pc := 228) d_Flow_turns_228 rfl ?_
    refine x_iload (pc := 229) d_Flow_turns_229 rfl ?_
    refine x_iload (pc := 231) d_Flow_turns_231 rfl ?_
    obtain ⟨c52, h⟩ := ite_some h
    obtain ⟨u53, e54, h⟩ := Option.bind_eq_some_iff.mp h
    refine c_invv (c := 0) (d := D + d + 10) (av := [vI v48, vI v50]) (st := []) (Q' := fun r h' => r = .inl none ∧ h' = u53) (pc := 233) d_Flow_turns_233 cv_Flow_121 y_P_enter c52 rfl (Nat.le_of_ble_eq_true rfl) (Nat.le_of_ble_eq_true rfl) (w_P_enter (d := D + d + 10) (Q := fun r h' => r = .inl none ∧ h' = u53) ⟨rfl, rfl⟩ u46 a1 v48 v50 e54) (fun v h' z => ?_) (fun a h' z => nomatch z.1)
    obtain ⟨z1, z2⟩ := z
    subst h'
    cases z1
    show xW sc m_Flow_turns (D + d + 11) Q (u53) 236 [some (vR a1), some (vR a2), some (vR a3), some (vR a4), some (vR a5), none, none, some (vI v48), some (vI v50), none] []
    refine x_iconst (v := (0 : Int32)) (pc := 236) d_Flow_turns_236 (by decide) ?_
    refine x_istore (pc := 237) d_Flow_turns_237 (by decide) ?_
    show xW sc m_Flow_turns (D + d + 11) Q (u53) 239 [some (vR a1), some (vR a2), some (vR a3), some (vR a4), some (vR a5), none, none, some (vI v48), some (vI v50), some (vI (0 : Int32))] []
    exact x_wk (L' := [some (vR a1), none, none, none, some (vR a5), none, none, some (vI v48), some (vI v50), some (vI (0 : Int32))]) ⟨Or.inr rfl, Or.inl rfl, Or.inl rfl, Or.inl rfl, Or.inr rfl, Or.inl rfl, Or.inl rfl, Or.inr rfl, Or.inr rfl, Or.inr rfl, trivial⟩ (w_Flow_turns_b239 hrc hQ mF a1 a5 v48 v50 (0 : Int32) u53 h)
  rw [if_neg c34] at h
  refine x_tableOut (tgt := 288) (pc := 4) d_Flow_turns_4 (by have q0 := lv_neT c4 (a := 55) (by decide); have q1 := lv_neT c20 (a := 56) (by decide); have q2 := lv_neT c33 (a := 57) (by decide); have q3 := lv_neT c34 (a := 58) (by decide); omega) (by decide) ?_
  exact x_wk (L' := [some (vR a1), none, none, none, some (vR a5), none, none, none, none, none]) ⟨Or.inr rfl, Or.inl rfl, Or.inl rfl, Or.inl rfl, Or.inr rfl, Or.inl rfl, Or.inl rfl, Or.inl rfl, Or.inl rfl, Or.inl rfl, trivial⟩ (w_Flow_turns_b288 hrc hQ a1 a5 u h)
def f_Flow_perform_b405 (rc : rcE) (sc : xSc)  (u : xH) : Option ((Unit ⊕ Nat) × xH) := some (.inl (), u)
theorem w_Flow_perform_b405 {rc : rcE} {D : Nat} {sc : xSc} {d : Nat} {Q : xR → xH → Prop} {oZ : Unit ⊕ Nat} {hZ : xH} (hrc : rcEOK sc D rc)  (hQ : Q (cvU oZ) hZ) (u : xH) (h : f_Flow_perform_b405 rc sc  u = some (oZ, hZ)) : xW sc m_Flow_perform (D + d + 12) Q (u) 405 [none, none, none, none, none, none, none, none] [] := by
  unfold f_Flow_perform_b405 at h
  cases h
  exact x_vret (pc := 405) d_Flow_perform_405 rfl hQ
def f_Flow_perform_b334 (rc : rcE) (sc : xSc)  (l1 : Option Nat) (l2 : Option Nat) (l3 : Option Nat) (l4 : Option Nat) (l5 : Int32) (u : xH) : Option ((Unit ⊕ Nat) × xH) := (if xis sc u 0 l1 = true then (f_P_at sc u l1 (0 : Int32)).bind fun v2 => (if xis sc u 2 v2 = true then (f_Slot_isProcedure sc u v2).bind fun v5 => (if xis sc u 0 l1 = true then tB (f_P_type sc u l1 v5) (fun v9 u8 => (gI sc u8 0 22 l1).bind fun v13 => (pV u8 0 22 l1 (vI (v13 + (1 : Int32)))).bind fun u15 => (nO 7 3 3 u15).bind fun u17 => (if xis sc u17 0 l1 = true then (f_P_at sc u17 l1 (0 : Int32)).bind fun v20 => (gI sc u17 2 2 v20).bind fun v22 => (if xis sc u17 0 l1 = true then (f_P_at sc u17 l1 (0 : Int32)).bind fun v25 => (gI sc u17 2 3 v25).bind fun v27 => (if (some u15.2.1).isSome = true then (f_Turn_init sc u17 (some u15.2.1) v22 v27 (l5 + (1 : Int32))).bind fun u30 => tB (f_Flow_turns rc sc u30 l1 l2 l3 l4 (some u15.2.1)) (fun v33 u32 => (pV u32 0 22 l1 (vI v13)).bind fun u37 => (pV u37 0 24 l1 (vI (0 : Int32))).bind fun u39 => f_Flow_perform_b405 rc sc u39) (fun a35 u36 => some (.inr a35, u36)) else none) else none) else none)) (fun a11 u12 => some (.inr a11, u12)) else none) else none) else none)
theorem w_Flow_perform_b334 {rc : rcE} {D : Nat} {sc : xSc} {d : Nat} {Q : xR → xH → Prop} {oZ : Unit ⊕ Nat} {hZ : xH} (hrc : rcEOK sc D rc)  (hQ : Q (cvU oZ) hZ) (l1 : Option Nat) (l2 : Option Nat) (l3 : Option Nat) (l4 : Option Nat) (l5 : Int32) (u : xH) (h : f_Flow_perform_b334 rc sc  l1 l2 l3 l4 l5 u = some (oZ, hZ)) : xW sc m_Flow_perform (D + d + 12) Q (u) 334 [none, some (vR l1), some (vR l2), some (vR l3), some (vR l4), some (vI l5), none, none] [] := by
  unfold f_Flow_perform_b334 at h
  refine x_aload_n (pc := 334) d_Flow_perform_334 rfl ?_
  refine x_aload_n (pc := 335) d_Flow_perform_335 rfl ?_
  refine x_iconst (v := (0 : Int32)) (pc := 336) d_Flow_perform_336 (by decide) ?_
  obtain ⟨c1, h⟩ := ite_some h
  obtain ⟨v2, e3, h⟩ := Option.bind_eq_some_iff.mp h
  refine c_invv (c := 0) (d := D + d + 11) (av := [vI (0 : Int32)]) (st := [vR l1]) (Q' := fun r h' => r = .inl (some (vR v2)) ∧ h' = u) (pc := 337) d_Flow_perform_337 cv_Flow_46 y_P_at c1 rfl (Nat.le_of_ble_eq_true rfl) (Nat.le_of_ble_eq_true rfl) (w_P_at (d := D + d + 11) (Q := fun r h' => r = .inl (some (vR v2)) ∧ h' = u) ⟨rfl, rfl⟩ l1 (0 : Int32) e3) (fun v h' z => ?_) (fun a h' z => nomatch z.1)
  obtain ⟨z1, z2⟩ := z
  subst h'
  cases z1
  show xW sc m_Flow_perform (D + d + 12) Q (u) 340 [none, some (vR l1), some (vR l2), some (vR l3), some (vR l4), some (vI l5), none, none] [vR v2, vR l1]
  obtain ⟨c4, h⟩ := ite_some h
  obtain ⟨v5, e6, h⟩ := Option.bind_eq_some_iff.mp h
  refine c_invv (c := 2) (d := D + d + 11) (av := []) (st := [vR l1]) (Q' := fun r h' => r = .inl (some (vI v5)) ∧ h' = u) (pc := 340) d_Flow_perform_340 cv_Flow_35 y_Slot_isProcedure c4 rfl (Nat.le_of_ble_eq_true rfl) (Nat.le_of_ble_eq_true rfl) (w_Slot_isProcedure (d := D + d + 11) (Q := fun r h' => r = .inl (some (vI v5)) ∧ h' = u) ⟨rfl, rfl⟩ v2 e6) (fun v h' z => ?_) (fun a h' z => nomatch z.1)
  obtain ⟨z1, z2⟩ := z
  subst h'
  cases z1
  show xW sc m_Flow_perform (D + d + 12) Q (u) 343 [none, some (vR l1), some (vR l2), some (vR l3), some (vR l4), some (vI l5), none, none] [vI v5, vR l1]
  obtain ⟨c7, h⟩ := ite_some h
  rcases tB_s h with ⟨a11, u12, e10, h⟩ | ⟨v9, u8, e10, h⟩
  · refine c_invv (c := 0) (d := D + d + 11) (av := [vI v5]) (st := []) (Q' := fun r h' => r = .inr a11 ∧ h' = u12) (pc := 343) d_Flow_perform_343 cv_Flow_39 y_P_type c7 rfl (Nat.le_of_ble_eq_true rfl) (Nat.le_of_ble_eq_true rfl) (w_P_type (d := D + d + 4) (Q := fun r h' => r = .inr a11 ∧ h' = u12) ⟨rfl, rfl⟩ u l1 v5 e10) (fun v h' z => nomatch z.1) (fun a h' z => ?_)
    obtain ⟨z1, z2⟩ := z
    subst h'
    cases z1
    cases h
    exact x_thOut (xno rfl) hQ
  refine c_invv (c := 0) (d := D + d + 11) (av := [vI v5]) (st := []) (Q' := fun r h' => r = .inl none ∧ h' = u8) (pc := 343) d_Flow_perform_343 cv_Flow_39 y_P_type c7 rfl (Nat.le_of_ble_eq_true rfl) (Nat.le_of_ble_eq_true rfl) (w_P_type (d := D + d + 4) (Q := fun r h' => r = .inl none ∧ h' = u8) ⟨rfl, rfl⟩ u l1 v5 e10) (fun v h' z => ?_) (fun a h' z => nomatch z.1)
  obtain ⟨z1, z2⟩ := z
  subst h'
  cases z1
  show xW sc m_Flow_perform (D + d + 12) Q (u8) 346 [none, some (vR l1), some (vR l2), some (vR l3), some (vR l4), some (vI l5), none, none] []
  refine x_aload_n (pc := 346) d_Flow_perform_346 rfl ?_
  refine x_dup (pc := 347) d_Flow_perform_347 rfl ?_
  obtain ⟨v13, e14, h⟩ := Option.bind_eq_some_iff.mp h
  refine c_getI (pc := 348) d_Flow_perform_348 l_Flow_54 e14 ?_
  refine x_dup_x1 (pc := 351) d_Flow_perform_351 rfl rfl ?_
  refine x_iconst (v := (1 : Int32)) (pc := 352) d_Flow_perform_352 (by decide) ?_
  refine x_iadd (pc := 353) d_Flow_perform_353 ?_
  obtain ⟨u15, e16, h⟩ := Option.bind_eq_some_iff.mp h
  refine c_putf (pc := 354) d_Flow_perform_354 l_Flow_54 fp_0_22 (xfit_int) e16 ?_
  refine x_istore (pc := 357) d_Flow_perform_357 (by decide) ?_
  show xW sc m_Flow_perform (D + d + 12) Q (u15) 359 [none, some (vR l1), some (vR l2), some (vR l3), some (vR l4), some (vI l5), none, some (vI v13)] []
  refine x_aload_n (pc := 359) d_Flow_perform_359 rfl ?_
  refine x_aload_n (pc := 360) d_Flow_perform_360 rfl ?_
  refine x_aload_n (pc := 361) d_Flow_perform_361 rfl ?_
  refine x_aload (pc := 362) d_Flow_perform_362 rfl ?_
  obtain ⟨u17, e18, h⟩ := Option.bind_eq_some_iff.mp h
  refine c_new (pc := 364) d_Flow_perform_364 nw_Flow_96 ly_7 ⟨_, rfl, rfl⟩ e18 ?_
  refine x_dup (pc := 367) d_Flow_perform_367 rfl ?_
  refine x_aload_n (pc := 368) d_Flow_perform_368 rfl ?_
  refine x_iconst (v := (0 : Int32)) (pc := 369) d_Flow_perform_369 (by decide) ?_
  obtain ⟨c19, h⟩ := ite_some h
  obtain ⟨v20, e21, h⟩ := Option.bind_eq_some_iff.mp h
  refine c_invv (c := 0) (d := D + d + 11) (av := [vI (0 : Int32)]) (st := [vR (some u15.2.1), vR (some u15.2.1), vR l4, vR l3, vR l2, vR l1]) (Q' := fun r h' => r = .inl (some (vR v20)) ∧ h' = u17) (pc := 370) d_Flow_perform_370 cv_Flow_46 y_P_at c19 rfl (Nat.le_of_ble_eq_true rfl) (Nat.le_of_ble_eq_true rfl) (w_P_at (d := D + d + 11) (Q := fun r h' => r = .inl (some (vR v20)) ∧ h' = u17) ⟨rfl, rfl⟩ l1 (0 : Int32) e21) (fun v h' z => ?_) (fun a h' z => nomatch z.1)
  obtain ⟨z1, z2⟩ := z
  subst h'
  cases z1
  show xW sc m_Flow_perform (D + d + 12) Q (u17) 373 [none, some (vR l1), some (vR l2), some (vR l3), some (vR l4), some (vI l5), none, some (vI v13)] [vR v20, vR (some u15.2.1), vR (some u15.2.1), vR l4, vR l3, vR l2, vR l1]
  obtain ⟨v22, e23, h⟩ := Option.bind_eq_some_iff.mp h
  refine c_getI (pc := 373) d_Flow_perform_373 l_Flow_43 e23 ?_
  refine x_aload_n (pc := 376) d_Flow_perform_376 rfl ?_
  refine x_iconst (v := (0 : Int32)) (pc := 377) d_Flow_perform_377 (by decide) ?_
  obtain ⟨c24, h⟩ := ite_some h
  obtain ⟨v25, e26, h⟩ := Option.bind_eq_some_iff.mp h
  refine c_invv (c := 0) (d := D + d + 11) (av := [vI (0 : Int32)]) (st := [vI v22, vR (some u15.2.1), vR (some u15.2.1), vR l4, vR l3, vR l2, vR l1]) (Q' := fun r h' => r = .inl (some (vR v25)) ∧ h' = u17) (pc := 378) d_Flow_perform_378 cv_Flow_46 y_P_at c24 rfl (Nat.le_of_ble_eq_true rfl) (Nat.le_of_ble_eq_true rfl) (w_P_at (d := D + d + 11) (Q := fun r h' => r = .inl (some (vR v25)) ∧ h' = u17) ⟨rfl, rfl⟩ l1 (0 : Int32) e26) (fun v h' z => ?_) (fun a h' z => nomatch z.1)
  obtain ⟨z1, z2⟩ := z
  subst h'
  cases z1
  show xW sc m_Flow_perform (D + d + 12) Q (u17) 381 [none, some (vR l1), some (vR l2), some (vR l3), some (vR l4), some (vI l5), none, some (vI v13)] [vR v25, vI v22, vR (some u15.2.1), vR (some u15.2.1), vR l4, vR l3, vR l2, vR l1]
  obtain ⟨v27, e28, h⟩ := Option.bind_eq_some_iff.mp h
  refine c_getI (pc := 381) d_Flow_perform_381 l_Flow_98 e28 ?_
  refine x_iload (pc := 384) d_Flow_perform_384 rfl ?_
  refine x_iconst (v := (1 : Int32)) (pc := 386) d_Flow_perform_386 (by decide) ?_
  refine x_iadd (pc := 387) d_Flow_perform_387 ?_
  obtain ⟨c29, h⟩ := ite_some h
  obtain ⟨u30, e31, h⟩ := Option.bind_eq_some_iff.mp h
  refine c_invi (d := D + d + 11) (av := [vI v22, vI v27, vI (l5 + (1 : Int32))]) (st := [vR (some u15.2.1), vR l4, vR l3, vR l2, vR l1]) (Q' := fun r h' => r = .inl none ∧ h' = u30) (pc := 388) d_Flow_perform_388 ci_Flow_101 y_Turn_init (tw_6 (List.mem_of_getElem? (i := 75) rfl)) c29 rfl (Nat.le_of_ble_eq_true rfl) (Nat.le_of_ble_eq_true rfl) (w_Turn_init (d := D + d + 9) (Q := fun r h' => r = .inl none ∧ h' = u30) ⟨rfl, rfl⟩ u17 (some u15.2.1) v22 v27 (l5 + (1 : Int32)) e31) (fun v h' z => ?_) (fun a h' z => nomatch z.1)
  obtain ⟨z1, z2⟩ := z
  subst h'
  cases z1
  show xW sc m_Flow_perform (D + d + 12) Q (u30) 391 [none, some (vR l1), some (vR l2), some (vR l3), some (vR l4), some (vI l5), none, some (vI v13)] [vR (some u15.2.1), vR l4, vR l3, vR l2, vR l1]
  rcases tB_s h with ⟨a35, u36, e34, h⟩ | ⟨v33, u32, e34, h⟩
  · refine x_invs (d := D + d + 11) (av := [vR l1, vR l2, vR l3, vR l4, vR (some u15.2.1)]) (st := []) (Q' := fun r h' => r = .inr a35 ∧ h' = u36) (pc := 391) d_Flow_perform_391 cs_Flow_104 y_Flow_turns rfl (Nat.le_of_ble_eq_true rfl) (Nat.le_of_ble_eq_true rfl) (w_Flow_turns (d := d + 0) (Q := fun r h' => r = .inr a35 ∧ h' = u36) hrc ⟨rfl, rfl⟩ u30 l1 l2 l3 l4 (some u15.2.1) e34) (fun v h' z => nomatch z.1) (fun a h' z => ?_)
    obtain ⟨z1, z2⟩ := z
    subst h'
    cases z1
    cases h
    exact x_thOut (xno rfl) hQ
  refine x_invs (d := D + d + 11) (av := [vR l1, vR l2, vR l3, vR l4, vR (some u15.2.1)]) (st := []) (Q' := fun r h' => r = .inl none ∧ h' = u32) (pc := 391) d_Flow_perform_391 cs_Flow_104 y_Flow_turns rfl (Nat.le_of_ble_eq_true rfl) (Nat.le_of_ble_eq_true rfl) (w_Flow_turns (d := d + 0) (Q := fun r h' => r = .inl none ∧ h' = u32) hrc ⟨rfl, rfl⟩ u30 l1 l2 l3 l4 (some u15.2.1) e34) (fun v h' z => ?_) (fun a h' z => nomatch z.1)
  obtain ⟨z1, z2⟩ := z
  subst h'
  cases z1
  show xW sc m_Flow_perform (D + d + 12) Q (u32) 394 [none, some (vR l1), some (vR l2), some (vR l3), some (vR l4), some (vI l5), none, some (vI v13)] []
  refine x_aload_n (pc := 394) d_Flow_perform_394 rfl ?_
  refine x_iload (pc := 395) d_Flow_perform_395 rfl ?_
  obtain ⟨u37, e38, h⟩ := Option.bind_eq_some_iff.mp h
  refine c_putf (pc := 397) d_Flow_perform_397 l_Flow_54 fp_0_22 (xfit_int) e38 ?_
  refine x_aload_n (pc := 400) d_Flow_perform_400 rfl ?_
  refine x_iconst (v := (0 : Int32)) (pc := 401) d_Flow_perform_401 (by decide) ?_
  obtain ⟨u39, e40, h⟩ := Option.bind_eq_some_iff.mp h
  refine c_putf (pc := 402) d_Flow_perform_402 l_Flow_64 fp_0_24 (xfit_bool (by decide)) e40 ?_
  exact x_wk (L' := [none, none, none, none, none, none, none, none]) ⟨Or.inl rfl, Or.inl rfl, Or.inl rfl, Or.inl rfl, Or.inl rfl, Or.inl rfl, Or.inl rfl, Or.inl rfl, trivial⟩ (w_Flow_perform_b405 hrc hQ u39 h)
def f_Flow_perform_b238 (rc : rcE) (sc : xSc)  (l1 : Option Nat) (t0 : Int32) (t1 : Option Nat) (u : xH) : Option ((Unit ⊕ Nat) × xH) := (if xis sc u 0 t1 = true then tB (f_P_need sc u t1 t0 (11 : Int32)) (fun v3 u2 => (pV u2 0 24 l1 (vI (1 : Int32))).bind fun u7 => f_Flow_perform_b405 rc sc u7) (fun a5 u6 => some (.inr a5, u6)) else none)
theorem w_Flow_perform_b238 {rc : rcE} {D : Nat} {sc : xSc} {d : Nat} {Q : xR → xH → Prop} {oZ : Unit ⊕ Nat} {hZ : xH} (hrc : rcEOK sc D rc)  (hQ : Q (cvU oZ) hZ) (l1 : Option Nat) (t0 : Int32) (t1 : Option Nat) (u : xH) (h : f_Flow_perform_b238 rc sc  l1 t0 t1 u = some (oZ, hZ)) : xW sc m_Flow_perform (D + d + 12) Q (u) 238 [none, some (vR l1), none, none, none, none, none, none] [vI t0, vR t1] := by
  unfold f_Flow_perform_b238 at h
  refine x_bipush (v := (11 : Int32)) (pc := 238) d_Flow_perform_238 (by decide) ?_
  obtain ⟨c1, h⟩ := ite_some h
  rcases tB_s h with ⟨a5, u6, e4, h⟩ | ⟨v3, u2, e4, h⟩
  · refine c_invv (c := 0) (d := D + d + 11) (av := [vI t0, vI (11 : Int32)]) (st := []) (Q' := fun r h' => r = .inr a5 ∧ h' = u6) (pc := 240) d_Flow_perform_240 cv_Flow_60 y_P_need c1 rfl (Nat.le_of_ble_eq_true rfl) (Nat.le_of_ble_eq_true rfl) (w_P_need (d := D + d + 5) (Q := fun r h' => r = .inr a5 ∧ h' = u6) ⟨rfl, rfl⟩ u t1 t0 (11 : Int32) e4) (fun v h' z => nomatch z.1) (fun a h' z => ?_)
    obtain ⟨z1, z2⟩ := z
    subst h'
    cases z1
    cases h
    exact x_thOut (xno rfl) hQ
  refine c_invv (c := 0) (d := D + d + 11) (av := [vI t0, vI (11 : Int32)]) (st := []) (Q' := fun r h' => r = .inl none ∧ h' = u2) (pc := 240) d_Flow_perform_240 cv_Flow_60 y_P_need c1 rfl (Nat.le_of_ble_eq_true rfl) (Nat.le_of_ble_eq_true rfl) (w_P_need (d := D + d + 5) (Q := fun r h' => r = .inl none ∧ h' = u2) ⟨rfl, rfl⟩ u t1 t0 (11 : Int32) e4) (fun v h' z => ?_) (fun a h' z => nomatch z.1)
  obtain ⟨z1, z2⟩ := z
  subst h'
  cases z1
  show xW sc m_Flow_perform (D + d + 12) Q (u2) 243 [none, some (vR l1), none, none, none, none, none, none] []
  refine x_aload_n (pc := 243) d_Flow_perform_243 rfl ?_
  refine x_iconst (v := (1 : Int32)) (pc := 244) d_Flow_perform_244 (by decide) ?_
  obtain ⟨u7, e8, h⟩ := Option.bind_eq_some_iff.mp h
  refine c_putf (pc := 245) d_Flow_perform_245 l_Flow_64 fp_0_24 (xfit_bool (by decide)) e8 ?_
  refine x_goto (tgt := 405) (pc := 248) d_Flow_perform_248 (by decide) ?_
  exact x_wk (L' := [none, none, none, none, none, none, none, none]) ⟨Or.inl rfl, Or.inl rfl, Or.inl rfl, Or.inl rfl, Or.inl rfl, Or.inl rfl, Or.inl rfl, Or.inl rfl, trivial⟩ (w_Flow_perform_b405 hrc hQ u7 h)
def f_Flow_perform_b183 (rc : rcE) (sc : xSc)  (l1 : Option Nat) (l3 : Option Nat) (l5 : Int32) (t0 : Int32) (t1 : Option Nat) (u : xH) : Option ((Unit ⊕ Nat) × xH) := (if xis sc u 0 t1 = true then tB (f_P_type sc u t1 t0) (fun v3 u2 => (gI sc u2 0 9 l1).bind fun v7 => (pV u2 0 9 l1 (vI (v7 - (3 : Int32)))).bind fun u9 => (gR sc u9 0 6 l1).bind fun v11 => (gI sc u9 0 9 l1).bind fun v13 => (gI sc u9 2 2 l3).bind fun v15 => (aR sc u9 v11 ((v13 + (2 : Int32)) - v15)).bind fun v17 => (if xis sc u9 0 l1 = true then tB (f_P_execute rc sc u9 l1 v17 l5) (fun v21 u20 => f_Flow_perform_b405 rc sc u20) (fun a23 u24 => some (.inr a23, u24)) else none)) (fun a5 u6 => some (.inr a5, u6)) else none)
theorem w_Flow_perform_b183 {rc : rcE} {D : Nat} {sc : xSc} {d : Nat} {Q : xR → xH → Prop} {oZ : Unit ⊕ Nat} {hZ : xH} (hrc : rcEOK sc D rc)  (hQ : Q (cvU oZ) hZ) (l1 : Option Nat) (l3 : Option Nat) (l5 : Int32) (t0 : Int32) (t1 : Option Nat) (u : xH) (h : f_Flow_perform_b183 rc sc  l1 l3 l5 t0 t1 u = some (oZ, hZ)) : xW sc m_Flow_perform (D + d + 12) Q (u) 183 [none, some (vR l1), none, some (vR l3), none, some (vI l5), none, none] [vI t0, vR t1] := by
  unfold f_Flow_perform_b183 at h
  obtain ⟨c1, h⟩ := ite_some h
  rcases tB_s h with ⟨a5, u6, e4, h⟩ | ⟨v3, u2, e4, h⟩
  · refine c_invv (c := 0) (d := D + d + 11) (av := [vI t0]) (st := []) (Q' := fun r h' => r = .inr a5 ∧ h' = u6) (pc := 183) d_Flow_perform_183 cv_Flow_39 y_P_type c1 rfl (Nat.le_of_ble_eq_true rfl) (Nat.le_of_ble_eq_true rfl) (w_P_type (d := D + d + 4) (Q := fun r h' => r = .inr a5 ∧ h' = u6) ⟨rfl, rfl⟩ u t1 t0 e4) (fun v h' z => nomatch z.1) (fun a h' z => ?_)
    obtain ⟨z1, z2⟩ := z
    subst h'
    cases z1
    cases h
    exact x_thOut (xno rfl) hQ
  refine c_invv (c := 0) (d := D + d + 11) (av := [vI t0]) (st := []) (Q' := fun r h' => r = .inl none ∧ h' = u2) (pc := 183) d_Flow_perform_183 cv_Flow_39 y_P_type c1 rfl (Nat.le_of_ble_eq_true rfl) (Nat.le_of_ble_eq_true rfl) (w_P_type (d := D + d + 4) (Q := fun r h' => r = .inl none ∧ h' = u2) ⟨rfl, rfl⟩ u t1 t0 e4) (fun v h' z => ?_) (fun a h' z => nomatch z.1)
  obtain ⟨z1, z2⟩ := z
  subst h'
  cases z1
  show xW sc m_Flow_perform (D + d + 12) Q (u2) 186 [none, some (vR l1), none, some (vR l3), none, some (vI l5), none, none] []
  refine x_aload_n (pc := 186) d_Flow_perform_186 rfl ?_
  refine x_dup (pc := 187) d_Flow_perform_187 rfl ?_
  obtain ⟨v7, e8, h⟩ := Option.bind_eq_some_iff.mp h
  refine c_getI (pc := 188) d_Flow_perform_188 l_Flow_15 e8 ?_
  refine x_iconst (v := (3 : Int32)) (pc := 191) d_Flow_perform_191 (by decide) ?_
  refine x_isub (pc := 192) d_Flow_perform_192 ?_
  obtain ⟨u9, e10, h⟩ := Option.bind_eq_some_iff.mp h
  refine c_putf (pc := 193) d_Flow_perform_193 l_Flow_15 fp_0_9 (xfit_int) e10 ?_
  refine x_aload_n (pc := 196) d_Flow_perform_196 rfl ?_
  refine x_aload_n (pc := 197) d_Flow_perform_197 rfl ?_
  obtain ⟨v11, e12, h⟩ := Option.bind_eq_some_iff.mp h
  refine c_getR (pc := 198) d_Flow_perform_198 l_Flow_50 e12 ?_
  refine x_aload_n (pc := 201) d_Flow_perform_201 rfl ?_
  obtain ⟨v13, e14, h⟩ := Option.bind_eq_some_iff.mp h
  refine c_getI (pc := 202) d_Flow_perform_202 l_Flow_15 e14 ?_
  refine x_iconst (v := (2 : Int32)) (pc := 205) d_Flow_perform_205 (by decide) ?_
  refine x_iadd (pc := 206) d_Flow_perform_206 ?_
  refine x_aload_n (pc := 207) d_Flow_perform_207 rfl ?_
  obtain ⟨v15, e16, h⟩ := Option.bind_eq_some_iff.mp h
  refine c_getI (pc := 208) d_Flow_perform_208 l_Flow_43 e16 ?_
  refine x_isub (pc := 211) d_Flow_perform_211 ?_
  obtain ⟨v17, e18, h⟩ := Option.bind_eq_some_iff.mp h
  refine c_aald (pc := 212) d_Flow_perform_212 e18 ?_
  refine x_iload (pc := 213) d_Flow_perform_213 rfl ?_
  obtain ⟨c19, h⟩ := ite_some h
  rcases tB_s h with ⟨a23, u24, e22, h⟩ | ⟨v21, u20, e22, h⟩
  · refine c_invv (c := 0) (d := D + d + 11) (av := [vR v17, vI l5]) (st := []) (Q' := fun r h' => r = .inr a23 ∧ h' = u24) (pc := 215) d_Flow_perform_215 cv_Flow_19 y_P_execute c19 rfl (Nat.le_of_ble_eq_true rfl) (Nat.le_of_ble_eq_true rfl) (w_P_execute (d := d + 3) (Q := fun r h' => r = .inr a23 ∧ h' = u24) hrc ⟨rfl, rfl⟩ u9 l1 v17 l5 e22) (fun v h' z => nomatch z.1) (fun a h' z => ?_)
    obtain ⟨z1, z2⟩ := z
    subst h'
    cases z1
    cases h
    exact x_thOut (xno rfl) hQ
  refine c_invv (c := 0) (d := D + d + 11) (av := [vR v17, vI l5]) (st := []) (Q' := fun r h' => r = .inl none ∧ h' = u20) (pc := 215) d_Flow_perform_215 cv_Flow_19 y_P_execute c19 rfl (Nat.le_of_ble_eq_true rfl) (Nat.le_of_ble_eq_true rfl) (w_P_execute (d := d + 3) (Q := fun r h' => r = .inl none ∧ h' = u20) hrc ⟨rfl, rfl⟩ u9 l1 v17 l5 e22) (fun v h' z => ?_) (fun a h' z => nomatch z.1)
  obtain ⟨z1, z2⟩ := z
  subst h'
  cases z1
  show xW sc m_Flow_perform (D + d + 12) Q (u20) 218 [none, some (vR l1), none, some (vR l3), none, some (vI l5), none, none] []
  refine x_goto (tgt := 405) (pc := 218) d_Flow_perform_218 (by decide) ?_
  exact x_wk (L' := [none, none, none, none, none, none, none, none]) ⟨Or.inl rfl, Or.inl rfl, Or.inl rfl, Or.inl rfl, Or.inl rfl, Or.inl rfl, Or.inl rfl, Or.inl rfl, trivial⟩ (w_Flow_perform_b405 hrc hQ u20 h)
def f_Flow_perform_b182 (rc : rcE) (sc : xSc)  (l1 : Option Nat) (l3 : Option Nat) (l5 : Int32) (t0 : Option Nat) (u : xH) : Option ((Unit ⊕ Nat) × xH) := f_Flow_perform_b183 rc sc l1 l3 l5 (0 : Int32) t0 u
theorem w_Flow_perform_b182 {rc : rcE} {D : Nat} {sc : xSc} {d : Nat} {Q : xR → xH → Prop} {oZ : Unit ⊕ Nat} {hZ : xH} (hrc : rcEOK sc D rc)  (hQ : Q (cvU oZ) hZ) (l1 : Option Nat) (l3 : Option Nat) (l5 : Int32) (t0 : Option Nat) (u : xH) (h : f_Flow_perform_b182 rc sc  l1 l3 l5 t0 u = some (oZ, hZ)) : xW sc m_Flow_perform (D + d + 12) Q (u) 182 [none, some (vR l1), none, some (vR l3), none, some (vI l5), none, none] [vR t0] := by
  unfold f_Flow_perform_b182 at h
  refine x_iconst (v := (0 : Int32)) (pc := 182) d_Flow_perform_182 (by decide) ?_
  exact w_Flow_perform_b183 hrc hQ l1 l3 l5 (0 : Int32) t0 u h
def f_Flow_perform_b116 (rc : rcE) (sc : xSc)  (l1 : Option Nat) (l3 : Option Nat) (l4 : Option Nat) (l5 : Int32) (t0 : Int32) (t1 : Option Nat) (u : xH) : Option ((Unit ⊕ Nat) × xH) := (if xis sc u 0 t1 = true then tB (f_P_type sc u t1 t0) (fun v3 u2 => (gI sc u2 0 9 l1).bind fun v7 => (pV u2 0 9 l1 (vI (v7 - (2 : Int32)))).bind fun u9 => (gI sc u9 2 2 l3).bind fun v11 => (if v11 = (1 : Int32) then (if xis sc u9 0 l1 = true then tB (f_P_execute rc sc u9 l1 l4 l5) (fun v16 u15 => f_Flow_perform_b405 rc sc u15) (fun a18 u19 => some (.inr a18, u19)) else none) else f_Flow_perform_b405 rc sc u9)) (fun a5 u6 => some (.inr a5, u6)) else none)
theorem w_Flow_perform_b116 {rc : rcE} {D : Nat} {sc : xSc} {d : Nat} {Q : xR → xH → Prop} {oZ : Unit ⊕ Nat} {hZ : xH} (hrc : rcEOK sc D rc)  (hQ : Q (cvU oZ) hZ) (l1 : Option Nat) (l3 : Option Nat) (l4 : Option Nat) (l5 : Int32) (t0 : Int32) (t1 : Option Nat) (u : xH) (h : f_Flow_perform_b116 rc sc  l1 l3 l4 l5 t0 t1 u = some (oZ, hZ)) : xW sc m_Flow_perform (D + d + 12) Q (u) 116 [none, some (vR l1), none, some (vR l3), some (vR l4), some (vI l5), none, none] [vI t0, vR t1] := by
  unfold f_Flow_perform_b116 at h
  obtain ⟨c1, h⟩ := ite_some h
  rcases tB_s h with ⟨a5, u6, e4, h⟩ | ⟨v3, u2, e4, h⟩
  · refine c_invv (c := 0) (d := D + d + 11) (av := [vI t0]) (st := []) (Q' := fun r h' => r = .inr a5 ∧ h' = u6) (pc := 116) d_Flow_perform_116 cv_Flow_39 y_P_type c1 rfl (Nat.le_of_ble_eq_true rfl) (Nat.le_of_ble_eq_true rfl) (w_P_type (d := D + d + 4) (Q := fun r h' => r = .inr a5 ∧ h' = u6) ⟨rfl, rfl⟩ u t1 t0 e4) (fun v h' z => nomatch z.1) (fun a h' z => ?_)
    obtain ⟨z1, z2⟩ := z
    subst h'
    cases z1
    cases h
    exact x_thOut (xno rfl) hQ
  refine c_invv (c := 0) (d := D + d + 11) (av := [vI t0]) (st := []) (Q' := fun r h' => r = .inl none ∧ h' = u2) (pc := 116) d_Flow_perform_116 cv_Flow_39 y_P_type c1 rfl (Nat.le_of_ble_eq_true rfl) (Nat.le_of_ble_eq_true rfl) (w_P_type (d := D + d + 4) (Q := fun r h' => r = .inl none ∧ h' = u2) ⟨rfl, rfl⟩ u t1 t0 e4) (fun v h' z => ?_) (fun a h' z => nomatch z.1)
  obtain ⟨z1, z2⟩ := z
  subst h'
  cases z1
  show xW sc m_Flow_perform (D + d + 12) Q (u2) 119 [none, some (vR l1), none, some (vR l3), some (vR l4), some (vI l5), none, none] []
  refine x_aload_n (pc := 119) d_Flow_perform_119 rfl ?_
  refine x_dup (pc := 120) d_Flow_perform_120 rfl ?_
  obtain ⟨v7, e8, h⟩ := Option.bind_eq_some_iff.mp h
  refine c_getI (pc := 121) d_Flow_perform_121 l_Flow_15 e8 ?_
  refine x_iconst (v := (2 : Int32)) (pc := 124) d_Flow_perform_124 (by decide) ?_
  refine x_isub (pc := 125) d_Flow_perform_125 ?_
  obtain ⟨u9, e10, h⟩ := Option.bind_eq_some_iff.mp h
  refine c_putf (pc := 126) d_Flow_perform_126 l_Flow_15 fp_0_9 (xfit_int) e10 ?_
  refine x_aload_n (pc := 129) d_Flow_perform_129 rfl ?_
  obtain ⟨v11, e12, h⟩ := Option.bind_eq_some_iff.mp h
  refine c_getI (pc := 130) d_Flow_perform_130 l_Flow_43 e12 ?_
  refine x_iconst (v := (1 : Int32)) (pc := 133) d_Flow_perform_133 (by decide) ?_
  refine x_icmp_ne (tgt := 405) (pc := 134) d_Flow_perform_134 (by decide) (fun c13 => ?_) (fun c13 => ?_)
  · rw [if_neg c13] at h
    exact x_wk (L' := [none, none, none, none, none, none, none, none]) ⟨Or.inl rfl, Or.inl rfl, Or.inl rfl, Or.inl rfl, Or.inl rfl, Or.inl rfl, Or.inl rfl, Or.inl rfl, trivial⟩ (w_Flow_perform_b405 hrc hQ u9 h)
  · rw [if_pos c13] at h
    refine x_aload_n (pc := 137) d_Flow_perform_137 rfl ?_
    refine x_aload (pc := 138) d_Flow_perform_138 rfl ?_
    refine x_iload (pc := 140) d_Flow_perform_140 rfl ?_
    obtain ⟨c14, h⟩ := ite_some h
    rcases tB_s h with ⟨a18, u19, e17, h⟩ | ⟨v16, u15, e17, h⟩
    · refine c_invv (c := 0) (d := D + d + 11) (av := [vR l4, vI l5]) (st := []) (Q' := fun r h' => r = .inr a18 ∧ h' = u19) (pc := 142) d_Flow_perform_142 cv_Flow_19 y_P_execute c14 rfl (Nat.le_of_ble_eq_true rfl) (Nat.le_of_ble_eq_true rfl) (w_P_execute (d := d + 3) (Q := fun r h' => r = .inr a18 ∧ h' = u19) hrc ⟨rfl, rfl⟩ u9 l1 l4 l5 e17) (fun v h' z => nomatch z.1) (fun a h' z => ?_)
      obtain ⟨z1, z2⟩ := z
      subst h'
      cases z1
      cases h
      exact x_thOut (xno rfl) hQ
    refine c_invv (c := 0) (d := D + d + 11) (av := [vR l4, vI l5]) (st := []) (Q' := fun r h' => r = .inl none ∧ h' = u15) (pc := 142) d_Flow_perform_142 cv_Flow_19 y_P_execute c14 rfl (Nat.le_of_ble_eq_true rfl) (Nat.le_of_ble_eq_true rfl) (w_P_execute (d := d + 3) (Q := fun r h' => r = .inl none ∧ h' = u15) hrc ⟨rfl, rfl⟩ u9 l1 l4 l5 e17) (fun v h' z => ?_) (fun a h' z => nomatch z.1)
    obtain ⟨z1, z2⟩ := z
    subst h'
    cases z1
    show xW sc m_Flow_perform (D + d + 12) Q (u15) 145 [none, some (vR l1), none, some (vR l3), some (vR l4), some (vI l5), none, none] []
    refine x_goto (tgt := 405) (pc := 145) d_Flow_perform_145 (by decide) ?_
    exact x_wk (L' := [none, none, none, none, none, none, none, none]) ⟨Or.inl rfl, Or.inl rfl, Or.inl rfl, Or.inl rfl, Or.inl rfl, Or.inl rfl, Or.inl rfl, Or.inl rfl, trivial⟩ (w_Flow_perform_b405 hrc hQ u15 h)
def f_Flow_perform_b115 (rc : rcE) (sc : xSc)  (l1 : Option Nat) (l3 : Option Nat) (l4 : Option Nat) (l5 : Int32) (t0 : Option Nat) (u : xH) : Option ((Unit ⊕ Nat) × xH) := f_Flow_perform_b116 rc sc l1 l3 l4 l5 (0 : Int32) t0 u
theorem w_Flow_perform_b115 {rc : rcE} {D : Nat} {sc : xSc} {d : Nat} {Q : xR → xH → Prop} {oZ : Unit ⊕ Nat} {hZ : xH} (hrc : rcEOK sc D rc)  (hQ : Q (cvU oZ) hZ) (l1 : Option Nat) (l3 : Option Nat) (l4 : Option Nat) (l5 : Int32) (t0 : Option Nat) (u : xH) (h : f_Flow_perform_b115 rc sc  l1 l3 l4 l5 t0 u = some (oZ, hZ)) : xW sc m_Flow_perform (D + d + 12) Q (u) 115 [none, some (vR l1), none, some (vR l3), some (vR l4), some (vI l5), none, none] [vR t0] := by
  unfold f_Flow_perform_b115 at h
  refine x_iconst (v := (0 : Int32)) (pc := 115) d_Flow_perform_115 (by decide) ?_
  exact w_Flow_perform_b116 hrc hQ l1 l3 l4 l5 (0 : Int32) t0 u h
def f_Flow_perform (rc : rcE) (sc : xSc) (u : xH) (a0 : Option Nat) (a1 : Option Nat) (a2 : Option Nat) (a3 : Option Nat) (a4 : Option Nat) (a5 : Int32) : Option ((Unit ⊕ Nat) × xH) := (if xis sc u 19 a2 = true then (f_Enum_ordinal19 sc u a2).bind fun v2 => (if v2 = (52 : Int32) then (gI sc u 0 9 a1).bind fun v5 => (pV u 0 9 a1 (vI (v5 - (1 : Int32)))).bind fun u7 => (if xis sc u7 0 a1 = true then tB (f_P_execute rc sc u7 a1 a3 a5) (fun v11 u10 => f_Flow_perform_b405 rc sc u10) (fun a13 u14 => some (.inr a13, u14)) else none) else (if v2 = (53 : Int32) then (if xis sc u 2 a3 = true then (f_Slot_is sc u a3 (some 74)).bind fun v17 => (if v17 = 0 then f_Flow_perform_b115 rc sc a1 a3 a4 a5 a1 u else (if xis sc u 2 a4 = true then (f_Slot_isProcedure sc u a4).bind fun v21 => (if v21 = 0 then f_Flow_perform_b115 rc sc a1 a3 a4 a5 a1 u else f_Flow_perform_b116 rc sc a1 a3 a4 a5 (1 : Int32) a1 u) else none)) else none) else (if v2 = (54 : Int32) then (if xis sc u 2 a3 = true then (f_Slot_is sc u a3 (some 74)).bind fun v26 => (if v26 = 0 then f_Flow_perform_b182 rc sc a1 a3 a5 a1 u else (if xis sc u 2 a4 = true then (f_Slot_isProcedure sc u a4).bind fun v30 => (if v30 = 0 then f_Flow_perform_b182 rc sc a1 a3 a5 a1 u else (if xis sc u 0 a1 = true then (f_P_at sc u a1 (0 : Int32)).bind fun v34 => (if xis sc u 2 v34 = true then (f_Slot_isProcedure sc u v34).bind fun v37 => (if v37 = 0 then f_Flow_perform_b182 rc sc a1 a3 a5 a1 u else f_Flow_perform_b183 rc sc a1 a3 a5 (1 : Int32) a1 u) else none) else none)) else none)) else none) else (if v2 = (55 : Int32) then f_Flow_perform_b334 rc sc a1 a2 a3 a4 a5 u else (if v2 = (56 : Int32) then f_Flow_perform_b334 rc sc a1 a2 a3 a4 a5 u else (if v2 = (57 : Int32) then f_Flow_perform_b334 rc sc a1 a2 a3 a4 a5 u else (if v2 = (58 : Int32) then f_Flow_perform_b334 rc sc a1 a2 a3 a4 a5 u else (if v2 = (59 : Int32) then (gI sc u 0 22 a1).bind fun v45 => (gI sc u 0 23 a1).bind fun v47 => (if v45 ≤ v47 then f_Flow_perform_b238 rc sc a1 (0 : Int32) a1 u else f_Flow_perform_b238 rc sc a1 (1 : Int32) a1 u) else (if v2 = (60 : Int32) then (if xis sc u 0 a1 = true then tB (f_P_need sc u a1 (0 : Int32) (14 : Int32)) (fun v53 u52 => f_Flow_perform_b405 rc sc u52) (fun a55 u56 => some (.inr a55, u56)) else none) else (if v2 = (61 : Int32) then (gI sc u 0 9 a1).bind fun v58 => (pV u 0 9 a1 (vI (v58 - (1 : Int32)))).bind fun u60 => (if xis sc u60 0 a1 = true then tB (f_P_fails rc sc u60 a1 a3 a5) (fun v64 u63 => (if xis sc u63 0 a1 = true then tB (f_P_truth sc u63 a1 (0 : Int32) v64) (fun v70 u69 => f_Flow_perform_b405 rc sc u69) (fun a72 u73 => some (.inr a72, u73)) else none)) (fun a66 u67 => some (.inr a66, u67)) else none) else (if v2 = (62 : Int32) then (gI sc u 0 18 a1).bind fun v75 => (if xis sc u 0 a1 = true then tB (f_P_give sc u a1 (0 : Int32) (some 72) v75) (fun v79 u78 => f_Flow_perform_b405 rc sc u78) (fun a81 u82 => some (.inr a81, u82)) else none) else (if v2 = (63 : Int32) then (if xis sc u 0 a1 = true then tB (f_P_save sc u a1) (fun v86 u85 => f_Flow_perform_b405 rc sc u85) (fun a88 u89 => some (.inr a88, u89)) else none) else (if v2 = (64 : Int32) then (if xis sc u 2 a3 = true then (f_Slot_is sc u a3 (some 79)).bind fun v92 => (if xis sc u 0 a1 = true then tB (f_P_type sc u a1 v92) (fun v96 u95 => (gI sc u95 2 2 a3).bind fun v100 => (if xis sc u95 0 a1 = true then tB (f_P_restore sc u95 a1 v100) (fun v104 u103 => f_Flow_perform_b405 rc sc u103) (fun a106 u107 => some (.inr a106, u107)) else none)) (fun a98 u99 => some (.inr a98, u99)) else none) else none) else f_Flow_perform_b334 rc sc a1 a2 a3 a4 a5 u))))))))))))) else none)
theorem w_Flow_perform {rc : rcE} {D : Nat} {sc : xSc} {d : Nat} {Q : xR → xH → Prop} {oZ : Unit ⊕ Nat} {hZ : xH} (hrc : rcEOK sc D rc) (hQ : Q (cvU oZ) hZ) (u : xH) (a0 : Option Nat) (a1 : Option Nat) (a2 : Option Nat) (a3 : Option Nat) (a4 : Option Nat) (a5 : Int32) (h : f_Flow_perform rc sc u a0 a1 a2 a3 a4 a5 = some (oZ, hZ)) : xW sc m_Flow_perform (D + d + 12) Q (u) 0 (xent [vR a0, vR a1, vR a2, vR a3, vR a4, vI a5] m_Flow_perform.2.2.1) [] := by
  show xW sc m_Flow_perform (D + d + 12) Q (u) 0 [some (vR a0), some (vR a1), some (vR a2), some (vR a3), some (vR a4), some (vI a5), none, none] []
  unfold f_Flow_perform at h
  refine x_aload_n (pc := 0) d_Flow_perform_0 rfl ?_
  obtain ⟨c1, h⟩ := ite_some h
  obtain ⟨v2, e3, h⟩ := Option.bind_eq_some_iff.mp h
  refine c_invu (c := 19) (d := D + d + 11) (av := []) (st := []) (Q' := fun r h' => r = .inl (some (vI v2)) ∧ h' = u) (pc := 1) d_Flow_perform_1 cw_Flow_9_19 y_Enum_ordinal c1 rfl (Nat.le_of_ble_eq_true rfl) (Nat.le_of_ble_eq_true rfl) (w_Enum_ordinal19 (d := D + d + 11) (Q := fun r h' => r = .inl (some (vI v2)) ∧ h' = u) ⟨rfl, rfl⟩ a2 e3) (fun v h' z => ?_) (fun a h' z => nomatch z.1)
  obtain ⟨z1, z2⟩ := z
  subst h'
  cases z1
  show xW sc m_Flow_perform (D + d + 12) Q (u) 4 [some (vR a0), some (vR a1), some (vR a2), some (vR a3), some (vR a4), some (vI a5), none, none] [vI v2]
  by_cases c4 : v2 = (52 : Int32)
  · rw [if_pos c4] at h
    refine x_tableIn (off := 68) (tgt := 72) (pc := 4) d_Flow_perform_4 (by rw [c4]; decide) (by rw [c4]; decide) (by rw [c4]; decide) (by decide) ?_
    refine x_aload_n (pc := 72) d_Flow_perform_72 rfl ?_
    refine x_dup (pc := 73) d_Flow_perform_73 rfl ?_
    obtain ⟨v5, e6, h⟩ := Option.bind_eq_some_iff.mp h
    refine c_getI (pc := 74) d_Flow_perform_74 l_Flow_15 e6 ?_
    refine x_iconst (v := (1 : Int32)) (pc := 77) d_Flow_perform_77 (by decide) ?_
    refine x_isub (pc := 78) d_Flow_perform_78 ?_
    obtain ⟨u7, e8, h⟩ := Option.bind_eq_some_iff.mp h
    refine c_putf (pc := 79) d_Flow_perform_79 l_Flow_15 fp_0_9 (xfit_int) e8 ?_
    refine x_aload_n (pc := 82) d_Flow_perform_82 rfl ?_
    refine x_aload_n (pc := 83) d_Flow_perform_83 rfl ?_
    refine x_iload (pc := 84) d_Flow_perform_84 rfl ?_
    obtain ⟨c9, h⟩ := ite_some h
    rcases tB_s h with ⟨a13, u14, e12, h⟩ | ⟨v11, u10, e12, h⟩
    · refine c_invv (c := 0) (d := D + d + 11) (av := [vR a3, vI a5]) (st := []) (Q' := fun r h' => r = .inr a13 ∧ h' = u14) (pc := 86) d_Flow_perform_86 cv_Flow_19 y_P_execute c9 rfl (Nat.le_of_ble_eq_true rfl) (Nat.le_of_ble_eq_true rfl) (w_P_execute (d := d + 3) (Q := fun r h' => r = .inr a13 ∧ h' = u14) hrc ⟨rfl, rfl⟩ u7 a1 a3 a5 e12) (fun v h' z => nomatch z.1) (fun a h' z => ?_)
      obtain ⟨z1, z2⟩ := z
      subst h'
      cases z1
      cases h
      exact x_thOut (xno rfl) hQ
    refine c_invv (c := 0) (d := D + d + 11) (av := [vR a3, vI a5]) (st := []) (Q' := fun r h' => r = .inl none ∧ h' = u10) (pc := 86) d_Flow_perform_86 cv_Flow_19 y_P_execute c9 rfl (Nat.le_of_ble_eq_true rfl) (Nat.le_of_ble_eq_true rfl) (w_P_execute (d := d + 3) (Q := fun r h' => r = .inl none ∧ h' = u10) hrc ⟨rfl, rfl⟩ u7 a1 a3 a5 e12) (fun v h' z => ?_) (fun a h' z => nomatch z.1)
    obtain ⟨z1, z2⟩ := z
    subst h'
    cases z1
    show xW sc m_Flow_perform (D + d + 12) Q (u10) 89 [some (vR a0), some (vR a1), some (vR a2), some (vR a3), some (vR a4), some (vI a5), none, none] []
    refine x_goto (tgt := 405) (pc := 89) d_Flow_perform_89 (by decide) ?_
    exact x_wk (L' := [none, none, none, none, none, none, none, none]) ⟨Or.inl rfl, Or.inl rfl, Or.inl rfl, Or.inl rfl, Or.inl rfl, Or.inl rfl, Or.inl rfl, Or.inl rfl, trivial⟩ (w_Flow_perform_b405 hrc hQ u10 h)
  rw [if_neg c4] at h
  by_cases c15 : v2 = (53 : Int32)
  · rw [if_pos c15] at h
    refine x_tableIn (off := 88) (tgt := 92) (pc := 4) d_Flow_perform_4 (by rw [c15]; decide) (by rw [c15]; decide) (by rw [c15]; decide) (by decide) ?_
    refine x_aload_n (pc := 92) d_Flow_perform_92 rfl ?_
    refine x_aload_n (pc := 93) d_Flow_perform_93 rfl ?_
    refine x_gets (v := vR (some 74)) (pc := 94) d_Flow_perform_94 sl_Flow_23 ?_
    obtain ⟨c16, h⟩ := ite_some h
    obtain ⟨v17, e18, h⟩ := Option.bind_eq_some_iff.mp h
    refine c_invv (c := 2) (d := D + d + 11) (av := [vR (some 74)]) (st := [vR a1]) (Q' := fun r h' => r = .inl (some (vI v17)) ∧ h' = u) (pc := 97) d_Flow_perform_97 cv_Flow_29 y_Slot_is c16 rfl (Nat.le_of_ble_eq_true rfl) (Nat.le_of_ble_eq_true rfl) (w_Slot_is (d := D + d + 11) (Q := fun r h' => r = .inl (some (vI v17)) ∧ h' = u) ⟨rfl, rfl⟩ a3 (some 74) e18) (fun v h' z => ?_) (fun a h' z => nomatch z.1)
    obtain ⟨z1, z2⟩ := z
    subst h'
    cases z1
    show xW sc m_Flow_perform (D + d + 12) Q (u) 100 [some (vR a0), some (vR a1), some (vR a2), some (vR a3), some (vR a4), some (vI a5), none, none] [vI v17, vR a1]
    refine x_if_eq (tgt := 115) (pc := 100) d_Flow_perform_100 (by decide) (fun c19 => ?_) (fun c19 => ?_)
    · rw [if_pos c19] at h
      exact x_wk (L' := [none, some (vR a1), none, some (vR a3), some (vR a4), some (vI a5), none, none]) ⟨Or.inl rfl, Or.inr rfl, Or.inl rfl, Or.inr rfl, Or.inr rfl, Or.inr rfl, Or.inl rfl, Or.inl rfl, trivial⟩ (w_Flow_perform_b115 hrc hQ a1 a3 a4 a5 a1 u h)
    · rw [if_neg c19] at h
      refine x_aload (pc := 103) d_Flow_perform_103 rfl ?_
      obtain ⟨c20, h⟩ := ite_some h
      obtain ⟨v21, e22, h⟩ := Option.bind_eq_some_iff.mp h
      refine c_invv (c := 2) (d := D + d + 11) (av := []) (st := [vR a1]) (Q' := fun r h' => r = .inl (some (vI v21)) ∧ h' = u) (pc := 105) d_Flow_perform_105 cv_Flow_35 y_Slot_isProcedure c20 rfl (Nat.le_of_ble_eq_true rfl) (Nat.le_of_ble_eq_true rfl) (w_Slot_isProcedure (d := D + d + 11) (Q := fun r h' => r = .inl (some (vI v21)) ∧ h' = u) ⟨rfl, rfl⟩ a4 e22) (fun v h' z => ?_) (fun a h' z => nomatch z.1)
      obtain ⟨z1, z2⟩ := z
      subst h'
      cases z1
      show xW sc m_Flow_perform (D + d + 12) Q (u) 108 [some (vR a0), some (vR a1), some (vR a2), some (vR a3), some (vR a4), some (vI a5), none, none] [vI v21, vR a1]
      refine x_if_eq (tgt := 115) (pc := 108) d_Flow_perform_108 (by decide) (fun c23 => ?_) (fun c23 => ?_)
      · rw [if_pos c23] at h
        exact x_wk (L' := [none, some (vR a1), none, some (vR a3), some (vR a4), some (vI a5), none, none]) ⟨Or.inl rfl, Or.inr rfl, Or.inl rfl, Or.inr rfl, Or.inr rfl, Or.inr rfl, Or.inl rfl, Or.inl rfl, trivial⟩ (w_Flow_perform_b115 hrc hQ a1 a3 a4 a5 a1 u h)
      · rw [if_neg c23] at h
        refine x_iconst (v := (1 : Int32)) (pc := 111) d_Flow_perform_111 (by decide) ?_
        refine x_goto (tgt := 116) (pc := 112) d_Flow_perform_112 (by decide) ?_
        exact x_wk (L' := [none, some (vR a1), none, some (vR a3), some (vR a4), some (vI a5), none, none]) ⟨Or.inl rfl, Or.inr rfl, Or.inl rfl, Or.inr rfl, Or.inr rfl, Or.inr rfl, Or.inl rfl, Or.inl rfl, trivial⟩ (w_Flow_perform_b116 hrc hQ a1 a3 a4 a5 (1 : Int32) a1 u h)
  rw [if_neg c15] at h
  by_cases c24 : v2 = (54 : Int32)
  · rw [if_pos c24] at h
    refine x_tableIn (off := 144) (tgt := 148) (pc := 4) d_Flow_perform_4 (by rw [c24]; decide) (by rw [c24]; decide) (by rw [c24]; decide) (by decide) ?_
    refine x_aload_n (pc := 148) d_Flow_perform_148 rfl ?_
    refine x_aload_n (pc := 149) d_Flow_perform_149 rfl ?_
    refine x_gets (v := vR (some 74)) (pc := 150) d_Flow_perform_150 sl_Flow_23 ?_
    obtain ⟨c25, h⟩ := ite_some h
    obtain ⟨v26, e27, h⟩ := Option.bind_eq_some_iff.mp h
    refine c_invv (c := 2) (d := D + d + 11) (av := [vR (some 74)]) (st := [vR a1]) (Q' := fun r h' => r = .inl (some (vI v26)) ∧ h' = u) (pc := 153) d_Flow_perform_153 cv_Flow_29 y_Slot_is c25 rfl (Nat.le_of_ble_eq_true rfl) (Nat.le_of_ble_eq_true rfl) (w_Slot_is (d := D + d + 11) (Q := fun r h' => r = .inl (some (vI v26)) ∧ h' = u) ⟨rfl, rfl⟩ a3 (some 74) e27) (fun v h' z => ?_) (fun a h' z => nomatch z.1)
    obtain ⟨z1, z2⟩ := z
    subst h'
    cases z1
    show xW sc m_Flow_perform (D + d + 12) Q (u) 156 [some (vR a0), some (vR a1), some (vR a2), some (vR a3), some (vR a4), some (vI a5), none, none] [vI v26, vR a1]
    refine x_if_eq (tgt := 182) (pc := 156) d_Flow_perform_156 (by decide) (fun c28 => ?_) (fun c28 => ?_)
    · rw [if_pos c28] at h
      exact x_wk (L' := [none, some (vR a1), none, some (vR a3), none, some (vI a5), none, none]) ⟨Or.inl rfl, Or.inr rfl, Or.inl rfl, Or.inr rfl, Or.inl rfl, Or.inr rfl, Or.inl rfl, Or.inl rfl, trivial⟩ (w_Flow_perform_b182 hrc hQ a1 a3 a5 a1 u h)
    · rw [if_neg c28] at h
      refine x_aload (pc := 159) d_Flow_perform_159 rfl ?_
      obtain ⟨c29, h⟩ := ite_some h
      obtain ⟨v30, e31, h⟩ := Option.bind_eq_some_iff.mp h
      refine c_invv (c := 2) (d := D + d + 11) (av := []) (st := [vR a1]) (Q' := fun r h' => r = .inl (some (vI v30)) ∧ h' = u) (pc := 161) d_Flow_perform_161 cv_Flow_35 y_Slot_isProcedure c29 rfl (Nat.le_of_ble_eq_true rfl) (Nat.le_of_ble_eq_true rfl) (w_Slot_isProcedure (d := D + d + 11) (Q := fun r h' => r = .inl (some (vI v30)) ∧ h' = u) ⟨rfl, rfl⟩ a4 e31) (fun v h' z => ?_) (fun a h' z => nomatch z.1)
      obtain ⟨z1, z2⟩ := z
      subst h'
      cases z1
      show xW sc m_Flow_perform (D + d + 12) Q (u) 164 [some (vR a0), some (vR a1), some (vR a2), some (vR a3), some (vR a4), some (vI a5), none, none] [vI v30, vR a1]
      refine x_if_eq (tgt := 182) (pc := 164) d_Flow_perform_164 (by decide) (fun c32 => ?_) (fun c32 => ?_)
      · rw [if_pos c32] at h
        exact x_wk (L' := [none, some (vR a1), none, some (vR a3), none, some (vI a5), none, none]) ⟨Or.inl rfl, Or.inr rfl, Or.inl rfl, Or.inr rfl, Or.inl rfl, Or.inr rfl, Or.inl rfl, Or.inl rfl, trivial⟩ (w_Flow_perform_b182 hrc hQ a1 a3 a5 a1 u h)
      · rw [if_neg c32] at h
        refine x_aload_n (pc := 167) d_Flow_perform_167 rfl ?_
        refine x_iconst (v := (0 : Int32)) (pc := 168) d_Flow_perform_168 (by decide) ?_
        obtain ⟨c33, h⟩ := ite_some h
        obtain ⟨v34, e35, h⟩ := Option.bind_eq_some_iff.mp h
        refine c_invv (c := 0) (d := D + d + 11) (av := [vI (0 : Int32)]) (st := [vR a1]) (Q' := fun r h' => r = .inl (some (vR v34)) ∧ h' = u) (pc := 169) d_Flow_perform_169 cv_Flow_46 y_P_at c33 rfl (Nat.le_of_ble_eq_true rfl) (Nat.le_of_ble_eq_true rfl) (w_P_at (d := D + d + 11) (Q := fun r h' => r = .inl (some (vR v34)) ∧ h' = u) ⟨rfl, rfl⟩ a1 (0 : Int32) e35) (fun v h' z => ?_) (fun a h' z => nomatch z.1)
        obtain ⟨z1, z2⟩ := z
        subst h'
        cases z1
        show xW sc m_Flow_perform (D + d + 12) Q (u) 172 [some (vR a0), some (vR a1), some (vR a2), some (vR a3), some (vR a4), some (vI a5), none, none] [vR v34, vR a1]
        obtain ⟨c36, h⟩ := ite_some h
        obtain ⟨v37, e38, h⟩ := Option.bind_eq_some_iff.mp h
        refine c_invv (c := 2) (d := D + d + 11) (av := []) (st := [vR a1]) (Q' := fun r h' => r = .inl (some (vI v37)) ∧ h' = u) (pc := 172) d_Flow_perform_172 cv_Flow_35 y_Slot_isProcedure c36 rfl (Nat.le_of_ble_eq_true rfl) (Nat.le_of_ble_eq_true rfl) (w_Slot_isProcedure (d := D + d + 11) (Q := fun r h' => r = .inl (some (vI v37)) ∧ h' = u) ⟨rfl, rfl⟩ v34 e38) (fun v h' z => ?_) (fun a h' z => nomatch z.1)
        obtain ⟨z1, z2⟩ := z
        subst h'
        cases z1
        show xW sc m_Flow_perform (D + d + 12) Q (u) 175 [some (vR a0), some (vR a1), some (vR a2), some (vR a3), some (vR a4), some (vI a5), none, none] [vI v37, vR a1]
        refine x_if_eq (tgt := 182) (pc := 175) d_Flow_perform_175 (by decide) (fun c39 => ?_) (fun c39 => ?_)
        · rw [if_pos c39] at h
          exact x_wk (L' := [none, some (vR a1), none, some (vR a3), none, some (vI a5), none, none]) ⟨Or.inl rfl, Or.inr rfl, Or.inl rfl, Or.inr rfl, Or.inl rfl, Or.inr rfl, Or.inl rfl, Or.inl rfl, trivial⟩ (w_Flow_perform_b182 hrc hQ a1 a3 a5 a1 u h)
        · rw [if_neg c39] at h
          refine x_iconst (v := (1 : Int32)) (pc := 178) d_Flow_perform_178 (by decide) ?_
          refine x_goto (tgt := 183) (pc := 179) d_Flow_perform_179 (by decide) ?_
          exact x_wk (L' := [none, some (vR a1), none, some (vR a3), none, some (vI a5), none, none]) ⟨Or.inl rfl, Or.inr rfl, Or.inl rfl, Or.inr rfl, Or.inl rfl, Or.inr rfl, Or.inl rfl, Or.inl rfl, trivial⟩ (w_Flow_perform_b183 hrc hQ a1 a3 a5 (1 : Int32) a1 u h)
  rw [if_neg c24] at h
  by_cases c40 : v2 = (55 : Int32)
  · rw [if_pos c40] at h
    refine x_tableIn (off := 330) (tgt := 334) (pc := 4) d_Flow_perform_4 (by rw [c40]; decide) (by rw [c40]; decide) (by rw [c40]; decide) (by decide) ?_
    exact x_wk (L' := [none, some (vR a1), some (vR a2), some (vR a3), some (vR a4), some (vI a5), none, none]) ⟨Or.inl rfl, Or.inr rfl, Or.inr rfl, Or.inr rfl, Or.inr rfl, Or.inr rfl, Or.inl rfl, Or.inl rfl, trivial⟩ (w_Flow_perform_b334 hrc hQ a1 a2 a3 a4 a5 u h)
  rw [if_neg c40] at h
  by_cases c41 : v2 = (56 : Int32)
  · rw [if_pos c41] at h
    refine x_tableIn (off := 330) (tgt := 334) (pc := 4) d_Flow_perform_4 (by rw [c41]; decide) (by rw [c41]; decide) (by rw [c41]; decide) (by decide) ?_
    exact x_wk (L' := [none, some (vR a1), some (vR a2), some (vR a3), some (vR a4), some (vI a5), none, none]) ⟨Or.inl rfl, Or.inr rfl, Or.inr rfl, Or.inr rfl, Or.inr rfl, Or.inr rfl, Or.inl rfl, Or.inl rfl, trivial⟩ (w_Flow_perform_b334 hrc hQ a1 a2 a3 a4 a5 u h)
  rw [if_neg c41] at h
  by_cases c42 : v2 = (57 : Int32)
  · rw [if_pos c42] at h
    refine x_tableIn (off := 330) (tgt := 334) (pc := 4) d_Flow_perform_4 (by rw [c42]; decide) (by rw [c42]; decide) (by rw [c42]; decide) (by decide) ?_
    exact x_wk (L' := [none, some (vR a1), some (vR a2), some (vR a3), some (vR a4), some (vI a5), none, none]) ⟨Or.inl rfl, Or.inr rfl, Or.inr rfl, Or.inr rfl, Or.inr rfl, Or.inr rfl, Or.inl rfl, Or.inl rfl, trivial⟩ (w_Flow_perform_b334 hrc hQ a1 a2 a3 a4 a5 u h)
  rw [if_neg c42] at h
  by_cases c43 : v2 = (58 : Int32)
  · rw [if_pos c43] at h
    refine x_tableIn (off := 330) (tgt := 334) (pc := 4) d_Flow_perform_4 (by rw [c43]; decide) (by rw [c43]; decide) (by rw [c43]; decide) (by decide) ?_
    exact x_wk (L' := [none, some (vR a1), some (vR a2), some (vR a3), some (vR a4), some (vI a5), none, none]) ⟨Or.inl rfl, Or.inr rfl, Or.inr rfl, Or.inr rfl, Or.inr rfl, Or.inr rfl, Or.inl rfl, Or.inl rfl, trivial⟩ (w_Flow_perform_b334 hrc hQ a1 a2 a3 a4 a5 u h)
  rw [if_neg c43] at h
  by_cases c44 : v2 = (59 : Int32)
  · rw [if_pos c44] at h
    refine x_tableIn (off := 217) (tgt := 221) (pc := 4) d_Flow_perform_4 (by rw [c44]; decide) (by rw [c44]; decide) (by rw [c44]; decide) (by decide) ?_
    refine x_aload_n (pc := 221) d_Flow_perform_221 rfl ?_
    refine x_aload_n (pc := 222) d_Flow_perform_222 rfl ?_
    obtain ⟨v45, e46, h⟩ := Option.bind_eq_some_iff.mp h
    refine c_getI (pc := 223) d_Flow_perform_223 l_Flow_54 e46 ?_
    refine x_aload_n (pc := 226) d_Flow_perform_226 rfl ?_
    obtain ⟨v47, e48, h⟩ := Option.bind_eq_some_iff.mp h
    refine c_getI (pc := 227) d_Flow_perform_227 l_Flow_57 e48 ?_
    refine x_icmp_le (tgt := 237) (pc := 230) d_Flow_perform_230 (by decide) (fun c49 => ?_) (fun c49 => ?_)
    · rw [if_pos c49] at h
      refine x_iconst (v := (0 : Int32)) (pc := 237) d_Flow_perform_237 (by decide) ?_
      exact x_wk (L' := [none, some (vR a1), none, none, none, none, none, none]) ⟨Or.inl rfl, Or.inr rfl, Or.inl rfl, Or.inl rfl, Or.inl rfl, Or.inl rfl, Or.inl rfl, Or.inl rfl, trivial⟩ (w_Flow_perform_b238 hrc hQ a1 (0 : Int32) a1 u h)
    · rw [if_neg c49] at h
      refine x_iconst (v := (1 : Int32)) (pc := 233) d_Flow_perform_233 (by decide) ?_
      refine x_goto (tgt := 238) (pc := 234) d_Flow_perform_234 (by decide) ?_
      exact x_wk (L' := [none, some (vR a1), none, none, none, none, none, none]) ⟨Or.inl rfl, Or.inr rfl, Or.inl rfl, Or.inl rfl, Or.inl rfl, Or.inl rfl, Or.inl rfl, Or.inl rfl, trivial⟩ (w_Flow_perform_b238 hrc hQ a1 (1 : Int32) a1 u h)
  rw [if_neg c44] at h
  by_cases c50 : v2 = (60 : Int32)
  · rw [if_pos c50] at h
    refine x_tableIn (off := 247) (tgt := 251) (pc := 4) d_Flow_perform_4 (by rw [c50]; decide) (by rw [c50]; decide) (by rw [c50]; decide) (by decide) ?_
    refine x_aload_n (pc := 251) d_Flow_perform_251 rfl ?_
    refine x_iconst (v := (0 : Int32)) (pc := 252) d_Flow_perform_252 (by decide) ?_
    refine x_bipush (v := (14 : Int32)) (pc := 253) d_Flow_perform_253 (by decide) ?_
    obtain ⟨c51, h⟩ := ite_some h
    rcases tB_s h with ⟨a55, u56, e54, h⟩ | ⟨v53, u52, e54, h⟩
    · refine c_invv (c := 0) (d := D + d + 11) (av := [vI (0 : Int32), vI (14 : Int32)]) (st := []) (Q' := fun r h' => r = .inr a55 ∧ h' = u56) (pc := 255) d_Flow_perform_255 cv_Flow_60 y_P_need c51 rfl (Nat.le_of_ble_eq_true rfl) (Nat.le_of_ble_eq_true rfl) (w_P_need (d := D + d + 5) (Q := fun r h' => r = .inr a55 ∧ h' = u56) ⟨rfl, rfl⟩ u a1 (0 : Int32) (14 : Int32) e54) (fun v h' z => nomatch z.1) (fun a h' z => ?_)
      obtain ⟨z1, z2⟩ := z
      subst h'
      cases z1
      cases h
      exact x_thOut (xno rfl) hQ
    refine c_invv (c := 0) (d := D + d + 11) (av := [vI (0 : Int32), vI (14 : Int32)]) (st := []) (Q' := fun r h' => r = .inl none ∧ h' = u52) (pc := 255) d_Flow_perform_255 cv_Flow_60 y_P_need c51 rfl (Nat.le_of_ble_eq_true rfl) (Nat.le_of_ble_eq_true rfl) (w_P_need (d := D + d + 5) (Q := fun r h' => r = .inl none ∧ h' = u52) ⟨rfl, rfl⟩ u a1 (0 : Int32) (14 : Int32) e54) (fun v h' z => ?_) (fun a h' z => nomatch z.1)
    obtain ⟨z1, z2⟩ := z
    subst h'
    cases z1
    show xW sc m_Flow_perform (D + d + 12) Q (u52) 258 [some (vR a0), some (vR a1), some (vR a2), some (vR a3), some (vR a4), some (vI a5), none, none] []
    refine x_goto (tgt := 405) (pc := 258) d_Flow_perform_258 (by decide) ?_
    exact x_wk (L' := [none, none, none, none, none, none, none, none]) ⟨Or.inl rfl, Or.inl rfl, Or.inl rfl, Or.inl rfl, Or.inl rfl, Or.inl rfl, Or.inl rfl, Or.inl rfl, trivial⟩ (w_Flow_perform_b405 hrc hQ u52 h)
  rw [if_neg c50] at h
  by_cases c57 : v2 = (61 : Int32)
  · rw [if_pos c57] at h
    refine x_tableIn (off := 257) (tgt := 261) (pc := 4) d_Flow_perform_4 (by rw [c57]; decide) (by rw [c57]; decide) (by rw [c57]; decide) (by decide) ?_
    refine x_aload_n (pc := 261) d_Flow_perform_261 rfl ?_
    refine x_dup (pc := 262) d_Flow_perform_262 rfl ?_
    obtain ⟨v58, e59, h⟩ := Option.bind_eq_some_iff.mp h
    refine c_getI (pc := 263) d_Flow_perform_263 l_Flow_15 e59 ?_
    refine x_iconst (v := (1 : Int32)) (pc := 266) d_Flow_perform_266 (by decide) ?_
    refine x_isub (pc := 267) d_Flow_perform_267 ?_
    obtain ⟨u60, e61, h⟩ := Option.bind_eq_some_iff.mp h
    refine c_putf (pc := 268) d_Flow_perform_268 l_Flow_15 fp_0_9 (xfit_int) e61 ?_
    refine x_aload_n (pc := 271) d_Flow_perform_271 rfl ?_
    refine x_aload_n (pc := 272) d_Flow_perform_272 rfl ?_
    refine x_iload (pc := 273) d_Flow_perform_273 rfl ?_
    obtain ⟨c62, h⟩ := ite_some h
    rcases tB_s h with ⟨a66, u67, e65, h⟩ | ⟨v64, u63, e65, h⟩
    · refine c_invv (c := 0) (d := D + d + 11) (av := [vR a3, vI a5]) (st := []) (Q' := fun r h' => r = .inr a66 ∧ h' = u67) (pc := 275) d_Flow_perform_275 cv_Flow_68 y_P_fails c62 rfl (Nat.le_of_ble_eq_true rfl) (Nat.le_of_ble_eq_true rfl) (w_P_fails (d := d + 2) (Q := fun r h' => r = .inr a66 ∧ h' = u67) hrc ⟨rfl, rfl⟩ u60 a1 a3 a5 e65) (fun v h' z => nomatch z.1) (fun a h' z => ?_)
      obtain ⟨z1, z2⟩ := z
      subst h'
      cases z1
      cases h
      exact x_thOut (xno rfl) hQ
    refine c_invv (c := 0) (d := D + d + 11) (av := [vR a3, vI a5]) (st := []) (Q' := fun r h' => r = .inl (some (vI v64)) ∧ h' = u63) (pc := 275) d_Flow_perform_275 cv_Flow_68 y_P_fails c62 rfl (Nat.le_of_ble_eq_true rfl) (Nat.le_of_ble_eq_true rfl) (w_P_fails (d := d + 2) (Q := fun r h' => r = .inl (some (vI v64)) ∧ h' = u63) hrc ⟨rfl, rfl⟩ u60 a1 a3 a5 e65) (fun v h' z => ?_) (fun a h' z => nomatch z.1)
    obtain ⟨z1, z2⟩ := z
    subst h'
    cases z1
    show xW sc m_Flow_perform (D + d + 12) Q (u63) 278 [some (vR a0), some (vR a1), some (vR a2), some (vR a3), some (vR a4), some (vI a5), none, none] [vI v64]
    refine x_istore (pc := 278) d_Flow_perform_278 (by decide) ?_
    show xW sc m_Flow_perform (D + d + 12) Q (u63) 280 [some (vR a0), some (vR a1), some (vR a2), some (vR a3), some (vR a4), some (vI a5), some (vI v64), none] []
    refine x_aload_n (pc := 280) d_Flow_perform_280 rfl ?_
    refine x_iconst (v := (0 : Int32)) (pc := 281) d_Flow_perform_281 (by decide) ?_
    refine x_iload (pc := 282) d_Flow_perform_282 rfl ?_
    obtain ⟨c68, h⟩ := ite_some h
    rcases tB_s h with ⟨a72, u73, e71, h⟩ | ⟨v70, u69, e71, h⟩
    · refine c_invv (c := 0) (d := D + d + 11) (av := [vI (0 : Int32), vI v64]) (st := []) (Q' := fun r h' => r = .inr a72 ∧ h' = u73) (pc := 284) d_Flow_perform_284 cv_Flow_72 y_P_truth c68 rfl (Nat.le_of_ble_eq_true rfl) (Nat.le_of_ble_eq_true rfl) (w_P_truth (d := D + d + 2) (Q := fun r h' => r = .inr a72 ∧ h' = u73) ⟨rfl, rfl⟩ u63 a1 (0 : Int32) v64 e71) (fun v h' z => nomatch z.1) (fun a h' z => ?_)
      obtain ⟨z1, z2⟩ := z
      subst h'
      cases z1
      cases h
      exact x_thOut (xno rfl) hQ
    refine c_invv (c := 0) (d := D + d + 11) (av := [vI (0 : Int32), vI v64]) (st := []) (Q' := fun r h' => r = .inl none ∧ h' = u69) (pc := 284) d_Flow_perform_284 cv_Flow_72 y_P_truth c68 rfl (Nat.le_of_ble_eq_true rfl) (Nat.le_of_ble_eq_true rfl) (w_P_truth (d := D + d + 2) (Q := fun r h' => r = .inl none ∧ h' = u69) ⟨rfl, rfl⟩ u63 a1 (0 : Int32) v64 e71) (fun v h' z => ?_) (fun a h' z => nomatch z.1)
    obtain ⟨z1, z2⟩ := z
    subst h'
    cases z1
    show xW sc m_Flow_perform (D + d + 12) Q (u69) 287 [some (vR a0), some (vR a1), some (vR a2), some (vR a3), some (vR a4), some (vI a5), some (vI v64), none] []
    refine x_goto (tgt := 405) (pc := 287) d_Flow_perform_287 (by decide) ?_
    exact x_wk (L' := [none, none, none, none, none, none, none, none]) ⟨Or.inl rfl, Or.inl rfl, Or.inl rfl, Or.inl rfl, Or.inl rfl, Or.inl rfl, Or.inl rfl, Or.inl rfl, trivial⟩ (w_Flow_perform_b405 hrc hQ u69 h)
  rw [if_neg c57] at h
  by_cases c74 : v2 = (62 : Int32)
  · rw [if_pos c74] at h
    refine x_tableIn (off := 286) (tgt := 290) (pc := 4) d_Flow_perform_4 (by rw [c74]; decide) (by rw [c74]; decide) (by rw [c74]; decide) (by decide) ?_
    refine x_aload_n (pc := 290) d_Flow_perform_290 rfl ?_
    refine x_iconst (v := (0 : Int32)) (pc := 291) d_Flow_perform_291 (by decide) ?_
    refine x_gets (v := vR (some 72)) (pc := 292) d_Flow_perform_292 sl_Flow_76 ?_
    refine x_aload_n (pc := 295) d_Flow_perform_295 rfl ?_
    obtain ⟨v75, e76, h⟩ := Option.bind_eq_some_iff.mp h
    refine c_getI (pc := 296) d_Flow_perform_296 l_Flow_79 e76 ?_
    obtain ⟨c77, h⟩ := ite_some h
    rcases tB_s h with ⟨a81, u82, e80, h⟩ | ⟨v79, u78, e80, h⟩
    · refine c_invv (c := 0) (d := D + d + 11) (av := [vI (0 : Int32), vR (some 72), vI v75]) (st := []) (Q' := fun r h' => r = .inr a81 ∧ h' = u82) (pc := 299) d_Flow_perform_299 cv_Flow_82 y_P_give c77 rfl (Nat.le_of_ble_eq_true rfl) (Nat.le_of_ble_eq_true rfl) (w_P_give (d := D + d + 3) (Q := fun r h' => r = .inr a81 ∧ h' = u82) ⟨rfl, rfl⟩ u a1 (0 : Int32) (some 72) v75 e80) (fun v h' z => nomatch z.1) (fun a h' z => ?_)
      obtain ⟨z1, z2⟩ := z
      subst h'
      cases z1
      cases h
      exact x_thOut (xno rfl) hQ
    refine c_invv (c := 0) (d := D + d + 11) (av := [vI (0 : Int32), vR (some 72), vI v75]) (st := []) (Q' := fun r h' => r = .inl none ∧ h' = u78) (pc := 299) d_Flow_perform_299 cv_Flow_82 y_P_give c77 rfl (Nat.le_of_ble_eq_true rfl) (Nat.le_of_ble_eq_true rfl) (w_P_give (d := D + d + 3) (Q := fun r h' => r = .inl none ∧ h' = u78) ⟨rfl, rfl⟩ u a1 (0 : Int32) (some 72) v75 e80) (fun v h' z => ?_) (fun a h' z => nomatch z.1)
    obtain ⟨z1, z2⟩ := z
    subst h'
    cases z1
    show xW sc m_Flow_perform (D + d + 12) Q (u78) 302 [some (vR a0), some (vR a1), some (vR a2), some (vR a3), some (vR a4), some (vI a5), none, none] []
    refine x_goto (tgt := 405) (pc := 302) d_Flow_perform_302 (by decide) ?_
    exact x_wk (L' := [none, none, none, none, none, none, none, none]) ⟨Or.inl rfl, Or.inl rfl, Or.inl rfl, Or.inl rfl, Or.inl rfl, Or.inl rfl, Or.inl rfl, Or.inl rfl, trivial⟩ (w_Flow_perform_b405 hrc hQ u78 h)
  rw [if_neg c74] at h
  by_cases c83 : v2 = (63 : Int32)
  · rw [if_pos c83] at h
    refine x_tableIn (off := 301) (tgt := 305) (pc := 4) d_Flow_perform_4 (by rw [c83]; decide) (by rw [c83]; decide) (by rw [c83]; decide) (by decide) ?_
    refine x_aload_n (pc := 305) d_Flow_perform_305 rfl ?_
    obtain ⟨c84, h⟩ := ite_some h
    rcases tB_s h with ⟨a88, u89, e87, h⟩ | ⟨v86, u85, e87, h⟩
    · refine c_invv (c := 0) (d := D + d + 11) (av := []) (st := []) (Q' := fun r h' => r = .inr a88 ∧ h' = u89) (pc := 306) d_Flow_perform_306 cv_Flow_86 y_P_save c84 rfl (Nat.le_of_ble_eq_true rfl) (Nat.le_of_ble_eq_true rfl) (w_P_save (d := D + d + 2) (Q := fun r h' => r = .inr a88 ∧ h' = u89) ⟨rfl, rfl⟩ u a1 e87) (fun v h' z => nomatch z.1) (fun a h' z => ?_)
      obtain ⟨z1, z2⟩ := z
      subst h'
      cases z1
      cases h
      exact x_thOut (xno rfl) hQ
    refine c_invv (c := 0) (d := D + d + 11) (av := []) (st := []) (Q' := fun r h' => r = .inl none ∧ h' = u85) (pc := 306) d_Flow_perform_306 cv_Flow_86 y_P_save c84 rfl (Nat.le_of_ble_eq_true rfl) (Nat.le_of_ble_eq_true rfl) (w_P_save (d := D + d + 2) (Q := fun r h' => r = .inl none ∧ h' = u85) ⟨rfl, rfl⟩ u a1 e87) (fun v h' z => ?_) (fun a h' z => nomatch z.1)
    obtain ⟨z1, z2⟩ := z
    subst h'
    cases z1
    show xW sc m_Flow_perform (D + d + 12) Q (u85) 309 [some (vR a0), some (vR a1), some (vR a2), some (vR a3), some (vR a4), some (vI a5), none, none] []
    refine x_goto (tgt := 405) (pc := 309) d_Flow_perform_309 (by decide) ?_
    exact x_wk (L' := [none, none, none, none, none, none, none, none]) ⟨Or.inl rfl, Or.inl rfl, Or.inl rfl, Or.inl rfl, Or.inl rfl, Or.inl rfl, Or.inl rfl, Or.inl rfl, trivial⟩ (w_Flow_perform_b405 hrc hQ u85 h)
  rw [if_neg c83] at h
  by_cases c90 : v2 = (64 : Int32)
  · rw [if_pos c90] at h
    refine x_tableIn (off := 308) (tgt := 312) (pc := 4) d_Flow_perform_4 (by rw [c90]; decide) (by rw [c90]; decide) (by rw [c90]; decide) (by decide) ?_
    refine x_aload_n (pc := 312) d_Flow_perform_312 rfl ?_
    refine x_aload_n (pc := 313) d_Flow_perform_313 rfl ?_
    refine x_gets (v := vR (some 79)) (pc := 314) d_Flow_perform_314 sl_Flow_89 ?_
    obtain ⟨c91, h⟩ := ite_some h
    obtain ⟨v92, e93, h⟩ := Option.bind_eq_some_iff.mp h
    refine c_invv (c := 2) (d := D + d + 11) (av := [vR (some 79)]) (st := [vR a1]) (Q' := fun r h' => r = .inl (some (vI v92)) ∧ h' = u) (pc := 317) d_Flow_perform_317 cv_Flow_29 y_Slot_is c91 rfl (Nat.le_of_ble_eq_true rfl) (Nat.le_of_ble_eq_true rfl) (w_Slot_is (d := D + d + 11) (Q := fun r h' => r = .inl (some (vI v92)) ∧ h' = u) ⟨rfl, rfl⟩ a3 (some 79) e93) (fun v h' z => ?_) (fun a h' z => nomatch z.1)
    obtain ⟨z1, z2⟩ := z
    subst h'
    cases z1
    show xW sc m_Flow_perform (D + d + 12) Q (u) 320 [some (vR a0), some (vR a1), some (vR a2), some (vR a3), some (vR a4), some (vI a5), none, none] [vI v92, vR a1]
    obtain ⟨c94, h⟩ := ite_some h
    rcases tB_s h with ⟨a98, u99, e97, h⟩ | ⟨v96, u95, e97, h⟩
    · refine c_invv (c := 0) (d := D + d + 11) (av := [vI v92]) (st := []) (Q' := fun r h' => r = .inr a98 ∧ h' = u99) (pc := 320) d_Flow_perform_320 cv_Flow_39 y_P_type c94 rfl (Nat.le_of_ble_eq_true rfl) (Nat.le_of_ble_eq_true rfl) (w_P_type (d := D + d + 4) (Q := fun r h' => r = .inr a98 ∧ h' = u99) ⟨rfl, rfl⟩ u a1 v92 e97) (fun v h' z => nomatch z.1) (fun a h' z => ?_)
      obtain ⟨z1, z2⟩ := z
      subst h'
      cases z1
      cases h
      exact x_thOut (xno rfl) hQ
    refine c_invv (c := 0) (d := D + d + 11) (av := [vI v92]) (st := []) (Q' := fun r h' => r = .inl none ∧ h' = u95) (pc := 320) d_Flow_perform_320 cv_Flow_39 y_P_type c94 rfl (Nat.le_of_ble_eq_true rfl) (Nat.le_of_ble_eq_true rfl) (w_P_type (d := D + d + 4) (Q := fun r h' => r = .inl none ∧ h' = u95) ⟨rfl, rfl⟩ u a1 v92 e97) (fun v h' z => ?_) (fun a h' z => nomatch z.1)
    obtain ⟨z1, z2⟩ := z
    subst h'
    cases z1
    show xW sc m_Flow_perform (D + d + 12) Q (u95) 323 [some (vR a0), some (vR a1), some (vR a2), some (vR a3), some (vR a4), some (vI a5), none, none] []
    refine x_aload_n (pc := 323) d_Flow_perform_323 rfl ?_
    refine x_aload_n (pc := 324) d_Flow_perform_324 rfl ?_
    obtain ⟨v100, e101, h⟩ := Option.bind_eq_some_iff.mp h
    refine c_getI (pc := 325) d_Flow_perform_325 l_Flow_43 e101 ?_
    obtain ⟨c102, h⟩ := ite_some h
    rcases tB_s h with ⟨a106, u107, e105, h⟩ | ⟨v104, u103, e105, h⟩
    · refine c_invv (c := 0) (d := D + d + 11) (av := [vI v100]) (st := []) (Q' := fun r h' => r = .inr a106 ∧ h' = u107) (pc := 328) d_Flow_perform_328 cv_Flow_92 y_P_restore c102 rfl (Nat.le_of_ble_eq_true rfl) (Nat.le_of_ble_eq_true rfl) (w_P_restore (d := D + d + 4) (Q := fun r h' => r = .inr a106 ∧ h' = u107) ⟨rfl, rfl⟩ u95 a1 v100 e105) (fun v h' z => nomatch z.1) (fun a h' z => ?_)
      obtain ⟨z1, z2⟩ := z
      subst h'
      cases z1
      cases h
      exact x_thOut (xno rfl) hQ
    refine c_invv (c := 0) (d := D + d + 11) (av := [vI v100]) (st := []) (Q' := fun r h' => r = .inl none ∧ h' = u103) (pc := 328) d_Flow_perform_328 cv_Flow_92 y_P_restore c102 rfl (Nat.le_of_ble_eq_true rfl) (Nat.le_of_ble_eq_true rfl) (w_P_restore (d := D + d + 4) (Q := fun r h' => r = .inl none ∧ h' = u103) ⟨rfl, rfl⟩ u95 a1 v100 e105) (fun v h' z => ?_) (fun a h' z => nomatch z.1)
    obtain ⟨z1, z2⟩ := z
    subst h'
    cases z1
    show xW sc m_Flow_perform (D + d + 12) Q (u103) 331 [some (vR a0), some (vR a1), some (vR a2), some (vR a3), some (vR a4), some (vI a5), none, none] []
    refine x_goto (tgt := 405) (pc := 331) d_Flow_perform_331 (by decide) ?_
    exact x_wk (L' := [none, none, none, none, none, none, none, none]) ⟨Or.inl rfl, Or.inl rfl, Or.inl rfl, Or.inl rfl, Or.inl rfl, Or.inl rfl, Or.inl rfl, Or.inl rfl, trivial⟩ (w_Flow_perform_b405 hrc hQ u103 h)
  rw [if_neg c90] at h
  refine x_tableOut (tgt := 334) (pc := 4) d_Flow_perform_4 (by have q0 := lv_neT c4 (a := 52) (by decide); have q1 := lv_neT c15 (a := 53) (by decide); have q2 := lv_neT c24 (a := 54) (by decide); have q3 := lv_neT c40 (a := 55) (by decide); have q4 := lv_neT c41 (a := 56) (by decide); have q5 := lv_neT c42 (a := 57) (by decide); have q6 := lv_neT c43 (a := 58) (by decide); have q7 := lv_neT c44 (a := 59) (by decide); have q8 := lv_neT c50 (a := 60) (by decide); have q9 := lv_neT c57 (a := 61) (by decide); have q10 := lv_neT c74 (a := 62) (by decide); have q11 := lv_neT c83 (a := 63) (by decide); have q12 := lv_neT c90 (a := 64) (by decide); omega) (by decide) ?_
  exact x_wk (L' := [none, some (vR a1), some (vR a2), some (vR a3), some (vR a4), some (vI a5), none, none]) ⟨Or.inl rfl, Or.inr rfl, Or.inr rfl, Or.inr rfl, Or.inr rfl, Or.inr rfl, Or.inl rfl, Or.inl rfl, trivial⟩ (w_Flow_perform_b334 hrc hQ a1 a2 a3 a4 a5 u h)
def f_P_giveDict (sc : xSc) (u : xH) (a0 : Option Nat) (a1 : Int32) (a2 : Option Nat) : Option ((Unit ⊕ Nat) × xH) := (gI sc u 4 0 a2).bind fun v1 => (if xis sc u 0 a0 = true then tB (f_P_give sc u a0 a1 (some 78) v1) (fun v5 u4 => (if xis sc u4 0 a0 = true then (f_P_at sc u4 a0 (0 : Int32)).bind fun v10 => (pV u4 2 7 v10 (vR a2)).bind fun u12 => some (.inl (), u12) else none)) (fun a7 u8 => some (.inr a7, u8)) else none)
theorem w_P_giveDict {sc : xSc} {d : Nat} {Q : xR → xH → Prop} {oZ : Unit ⊕ Nat} {hZ : xH} (hQ : Q (cvU oZ) hZ) (u : xH) (a0 : Option Nat) (a1 : Int32) (a2 : Option Nat) (h : f_P_giveDict sc u a0 a1 a2 = some (oZ, hZ)) : xW sc m_P_giveDict (d + 9) Q (u) 0 (xent [vR a0, vI a1, vR a2] m_P_giveDict.2.2.1) [] := by
  show xW sc m_P_giveDict (d + 9) Q (u) 0 [some (vR a0), some (vI a1), some (vR a2)] []
  unfold f_P_giveDict at h
  refine x_aload_n (pc := 0) d_P_giveDict_0 rfl ?_
  refine x_iload_n (pc := 1) d_P_giveDict_1 rfl ?_
  refine x_gets (v := vR (some 78)) (pc := 2) d_P_giveDict_2 sl_P_190 ?_
  refine x_aload_n (pc := 5) d_P_giveDict_5 rfl ?_
  obtain ⟨v1, e2, h⟩ := Option.bind_eq_some_iff.mp h
  refine c_getI (pc := 6) d_P_giveDict_6 l_P_196 e2 ?_
  obtain ⟨c3, h⟩ := ite_some h
  rcases tB_s h with ⟨a7, u8, e6, h⟩ | ⟨v5, u4, e6, h⟩
  · refine c_invv (c := 0) (d := d + 8) (av := [vI a1, vR (some 78), vI v1]) (st := []) (Q' := fun r h' => r = .inr a7 ∧ h' = u8) (pc := 9) d_P_giveDict_9 cv_P_199 y_P_give c3 rfl (Nat.le_of_ble_eq_true rfl) (Nat.le_of_ble_eq_true rfl) (w_P_give (d := d + 0) (Q := fun r h' => r = .inr a7 ∧ h' = u8) ⟨rfl, rfl⟩ u a0 a1 (some 78) v1 e6) (fun v h' z => nomatch z.1) (fun a h' z => ?_)
    obtain ⟨z1, z2⟩ := z
    subst h'
    cases z1
    cases h
    exact x_thOut (xno rfl) hQ
  refine c_invv (c := 0) (d := d + 8) (av := [vI a1, vR (some 78), vI v1]) (st := []) (Q' := fun r h' => r = .inl none ∧ h' = u4) (pc := 9) d_P_giveDict_9 cv_P_199 y_P_give c3 rfl (Nat.le_of_ble_eq_true rfl) (Nat.le_of_ble_eq_true rfl) (w_P_give (d := d + 0) (Q := fun r h' => r = .inl none ∧ h' = u4) ⟨rfl, rfl⟩ u a0 a1 (some 78) v1 e6) (fun v h' z => ?_) (fun a h' z => nomatch z.1)
  obtain ⟨z1, z2⟩ := z
  subst h'
  cases z1
  show xW sc m_P_giveDict (d + 9) Q (u4) 12 [some (vR a0), some (vI a1), some (vR a2)] []
  refine x_aload_n (pc := 12) d_P_giveDict_12 rfl ?_
  refine x_iconst (v := (0 : Int32)) (pc := 13) d_P_giveDict_13 (by decide) ?_
  obtain ⟨c9, h⟩ := ite_some h
  obtain ⟨v10, e11, h⟩ := Option.bind_eq_some_iff.mp h
  refine c_invv (c := 0) (d := d + 8) (av := [vI (0 : Int32)]) (st := []) (Q' := fun r h' => r = .inl (some (vR v10)) ∧ h' = u4) (pc := 14) d_P_giveDict_14 cv_P_203 y_P_at c9 rfl (Nat.le_of_ble_eq_true rfl) (Nat.le_of_ble_eq_true rfl) (w_P_at (d := d + 8) (Q := fun r h' => r = .inl (some (vR v10)) ∧ h' = u4) ⟨rfl, rfl⟩ a0 (0 : Int32) e11) (fun v h' z => ?_) (fun a h' z => nomatch z.1)
  obtain ⟨z1, z2⟩ := z
  subst h'
  cases z1
  show xW sc m_P_giveDict (d + 9) Q (u4) 17 [some (vR a0), some (vI a1), some (vR a2)] [vR v10]
  refine x_aload_n (pc := 17) d_P_giveDict_17 rfl ?_
  obtain ⟨u12, e13, h⟩ := Option.bind_eq_some_iff.mp h
  refine c_putf (pc := 18) d_P_giveDict_18 l_P_206 fp_2_7 (xfit_obj) e13 ?_
  cases h
  exact x_vret (pc := 21) d_P_giveDict_21 rfl hQ
def f_Rewritten_init (sc : xSc) (u : xH) (a0 : Option Nat) (a1 : Option Nat) (a2 : Option Nat) (a3 : Option Nat) (a4 : Int32) : Option xH := (if a0.isSome = true then (f_Record_init a0).bind fun v2 => (pV u 8 0 a0 (vR a1)).bind fun u4 => (pV u4 8 1 a0 (vR a2)).bind fun u6 => (pV u6 8 2 a0 (vR a3)).bind fun u8 => (pV u8 8 3 a0 (vI a4)).bind fun u10 => some u10 else none)
theorem w_Rewritten_init {sc : xSc} {d : Nat} {Q : xR → xH → Prop} {hZ : xH} (hQ : Q (.inl none) hZ) (u : xH) (a0 : Option Nat) (a1 : Option Nat) (a2 : Option Nat) (a3 : Option Nat) (a4 : Int32) (h : f_Rewritten_init sc u a0 a1 a2 a3 a4 = some hZ) : xW sc m_Rewritten_init (d + 2) Q (u) 0 (xent [vR a0, vR a1, vR a2, vR a3, vI a4] m_Rewritten_init.2.2.1) [] := by
  show xW sc m_Rewritten_init (d + 2) Q (u) 0 [some (vR a0), some (vR a1), some (vR a2), some (vR a3), some (vI a4)] []
  unfold f_Rewritten_init at h
  refine x_aload_n (pc := 0) d_Rewritten_init_0 rfl ?_
  obtain ⟨c1, h⟩ := ite_some h
  obtain ⟨v2, e3, h⟩ := Option.bind_eq_some_iff.mp h
  refine c_invi (d := d + 1) (av := []) (st := []) (Q' := fun r h' => r = .inl none ∧ h' = u) (pc := 1) d_Rewritten_init_1 ci_Rewritten_1 y_Record_init (tw_3 (List.mem_of_getElem? (i := 15) rfl)) c1 rfl (Nat.le_of_ble_eq_true rfl) (Nat.le_of_ble_eq_true rfl) (w_Record_init (d := d + 0) (Q := fun r h' => r = .inl none ∧ h' = u) (hh := u) ⟨rfl, rfl⟩ a0 e3) (fun v h' z => ?_) (fun a h' z => nomatch z.1)
  obtain ⟨z1, z2⟩ := z
  subst h'
  cases z1
  show xW sc m_Rewritten_init (d + 2) Q (u) 4 [some (vR a0), some (vR a1), some (vR a2), some (vR a3), some (vI a4)] []
  refine x_aload_n (pc := 4) d_Rewritten_init_4 rfl ?_
  refine x_aload_n (pc := 5) d_Rewritten_init_5 rfl ?_
  obtain ⟨u4, e5, h⟩ := Option.bind_eq_some_iff.mp h
  refine c_putF (pc := 6) d_Rewritten_init_6 l_Rewritten_7 fp_8_0 rfl fo_Rewritten_7 (xfit_obj) e5 ?_
  refine x_aload_n (pc := 9) d_Rewritten_init_9 rfl ?_
  refine x_aload_n (pc := 10) d_Rewritten_init_10 rfl ?_
  obtain ⟨u6, e7, h⟩ := Option.bind_eq_some_iff.mp h
  refine c_putF (pc := 11) d_Rewritten_init_11 l_Rewritten_13 fp_8_1 rfl fo_Rewritten_13 (xfit_obj) e7 ?_
  refine x_aload_n (pc := 14) d_Rewritten_init_14 rfl ?_
  refine x_aload_n (pc := 15) d_Rewritten_init_15 rfl ?_
  obtain ⟨u8, e9, h⟩ := Option.bind_eq_some_iff.mp h
  refine c_putF (pc := 16) d_Rewritten_init_16 l_Rewritten_17 fp_8_2 rfl fo_Rewritten_17 (xfit_obj) e9 ?_
  refine x_aload_n (pc := 19) d_Rewritten_init_19 rfl ?_
  refine x_iload (pc := 20) d_Rewritten_init_20 rfl ?_
  obtain ⟨u10, e11, h⟩ := Option.bind_eq_some_iff.mp h
  refine c_putF (pc := 22) d_Rewritten_init_22 l_Rewritten_20 fp_8_3 rfl fo_Rewritten_20 (xfit_int) e11 ?_
  cases h
  exact x_vret (pc := 25) d_Rewritten_init_25 rfl hQ
def f_P_rewrite_b53 (sc : xSc)  (l1 : Option Nat) (l2 : Option Nat) (u : xH) : Option xH := (if xis sc u 2 l1 = true then (f_Slot_copy sc u l1 l2).bind fun u2 => some u2 else none)
theorem w_P_rewrite_b53 {sc : xSc} {d : Nat} {Q : xR → xH → Prop} {hZ : xH}  (hQ : Q (.inl none) hZ) (l1 : Option Nat) (l2 : Option Nat) (u : xH) (h : f_P_rewrite_b53 sc  l1 l2 u = some hZ) : xW sc m_P_rewrite (d + 3) Q (u) 53 [none, some (vR l1), some (vR l2), none] [] := by
  unfold f_P_rewrite_b53 at h
  refine x_aload_n (pc := 53) d_P_rewrite_53 rfl ?_
  refine x_aload_n (pc := 54) d_P_rewrite_54 rfl ?_
  obtain ⟨c1, h⟩ := ite_some h
  obtain ⟨u2, e3, h⟩ := Option.bind_eq_some_iff.mp h
  refine c_invv (c := 2) (d := d + 2) (av := [vR l2]) (st := []) (Q' := fun r h' => r = .inl none ∧ h' = u2) (pc := 55) d_P_rewrite_55 cv_P_182 y_Slot_copy c1 rfl (Nat.le_of_ble_eq_true rfl) (Nat.le_of_ble_eq_true rfl) (w_Slot_copy (d := d + 1) (Q := fun r h' => r = .inl none ∧ h' = u2) ⟨rfl, rfl⟩ u l1 l2 e3) (fun v h' z => ?_) (fun a h' z => nomatch z.1)
  obtain ⟨z1, z2⟩ := z
  subst h'
  cases z1
  show xW sc m_P_rewrite (d + 3) Q (u2) 58 [none, some (vR l1), some (vR l2), none] []
  cases h
  exact x_vret (pc := 58) d_P_rewrite_58 rfl hQ
def f_P_rewrite (sc : xSc) (u : xH) (a0 : Option Nat) (a1 : Option Nat) (a2 : Option Nat) : Option xH := (gI sc u 2 4 a1).bind fun v1 => (gI sc u 0 26 a0).bind fun v3 => (if v3 ≤ v1 then f_P_rewrite_b53 sc a1 a2 u else (nO 2 8 8 u).bind fun u6 => (if (some u.2.1).isSome = true then (f_Slot_init sc u6 (some u.2.1)).bind fun u9 => (if xis sc u9 2 (some u.2.1) = true then (f_Slot_copy sc u9 (some u.2.1) a1).bind fun u12 => (nO 8 4 4 u12).bind fun u14 => (gR sc u14 0 28 a0).bind fun v16 => (gI sc u14 2 4 a1).bind fun v18 => (if (some u12.2.1).isSome = true then (f_Rewritten_init sc u14 (some u12.2.1) v16 a1 (some u.2.1) v18).bind fun u21 => (pV u21 0 28 a0 (vR (some u12.2.1))).bind fun u23 => (gI sc u23 0 26 a0).bind fun v25 => (pV u23 2 4 a1 (vI v25)).bind fun u27 => f_P_rewrite_b53 sc a1 a2 u27 else none) else none) else none))
theorem w_P_rewrite {sc : xSc} {d : Nat} {Q : xR → xH → Prop} {hZ : xH} (hQ : Q (.inl none) hZ) (u : xH) (a0 : Option Nat) (a1 : Option Nat) (a2 : Option Nat) (h : f_P_rewrite sc u a0 a1 a2 = some hZ) : xW sc m_P_rewrite (d + 3) Q (u) 0 (xent [vR a0, vR a1, vR a2] m_P_rewrite.2.2.1) [] := by
  show xW sc m_P_rewrite (d + 3) Q (u) 0 [some (vR a0), some (vR a1), some (vR a2), none] []
  unfold f_P_rewrite at h
  refine x_aload_n (pc := 0) d_P_rewrite_0 rfl ?_
  obtain ⟨v1, e2, h⟩ := Option.bind_eq_some_iff.mp h
  refine c_getI (pc := 1) d_P_rewrite_1 l_P_237 e2 ?_
  refine x_aload_n (pc := 4) d_P_rewrite_4 rfl ?_
  obtain ⟨v3, e4, h⟩ := Option.bind_eq_some_iff.mp h
  refine c_getI (pc := 5) d_P_rewrite_5 l_P_234 e4 ?_
  refine x_icmp_ge (tgt := 53) (pc := 8) d_P_rewrite_8 (by decide) (fun c5 => ?_) (fun c5 => ?_)
  · rw [if_pos c5] at h
    exact x_wk (L' := [none, some (vR a1), some (vR a2), none]) ⟨Or.inl rfl, Or.inr rfl, Or.inr rfl, Or.inl rfl, trivial⟩ (w_P_rewrite_b53 hQ a1 a2 u h)
  · rw [if_neg c5] at h
    obtain ⟨u6, e7, h⟩ := Option.bind_eq_some_iff.mp h
    refine c_new (pc := 11) d_P_rewrite_11 nw_P_51 ly_2 ⟨_, rfl, rfl⟩ e7 ?_
    refine x_dup (pc := 14) d_P_rewrite_14 rfl ?_
    obtain ⟨c8, h⟩ := ite_some h
    obtain ⟨u9, e10, h⟩ := Option.bind_eq_some_iff.mp h
    refine c_invi (d := d + 2) (av := []) (st := [vR (some u.2.1)]) (Q' := fun r h' => r = .inl none ∧ h' = u9) (pc := 15) d_P_rewrite_15 ci_P_177 y_Slot_init (tw_4 (List.mem_of_getElem? (i := 157) rfl)) c8 rfl (Nat.le_of_ble_eq_true rfl) (Nat.le_of_ble_eq_true rfl) (w_Slot_init (d := d + 1) (Q := fun r h' => r = .inl none ∧ h' = u9) ⟨rfl, rfl⟩ u6 (some u.2.1) e10) (fun v h' z => ?_) (fun a h' z => nomatch z.1)
    obtain ⟨z1, z2⟩ := z
    subst h'
    cases z1
    show xW sc m_P_rewrite (d + 3) Q (u9) 18 [some (vR a0), some (vR a1), some (vR a2), none] [vR (some u.2.1)]
    refine x_astore_n (pc := 18) d_P_rewrite_18 (by decide) ?_
    show xW sc m_P_rewrite (d + 3) Q (u9) 19 [some (vR a0), some (vR a1), some (vR a2), some (vR (some u.2.1))] []
    refine x_aload_n (pc := 19) d_P_rewrite_19 rfl ?_
    refine x_aload_n (pc := 20) d_P_rewrite_20 rfl ?_
    obtain ⟨c11, h⟩ := ite_some h
    obtain ⟨u12, e13, h⟩ := Option.bind_eq_some_iff.mp h
    refine c_invv (c := 2) (d := d + 2) (av := [vR a1]) (st := []) (Q' := fun r h' => r = .inl none ∧ h' = u12) (pc := 21) d_P_rewrite_21 cv_P_182 y_Slot_copy c11 rfl (Nat.le_of_ble_eq_true rfl) (Nat.le_of_ble_eq_true rfl) (w_Slot_copy (d := d + 1) (Q := fun r h' => r = .inl none ∧ h' = u12) ⟨rfl, rfl⟩ u9 (some u.2.1) a1 e13) (fun v h' z => ?_) (fun a h' z => nomatch z.1)
    obtain ⟨z1, z2⟩ := z
    subst h'
    cases z1
    show xW sc m_P_rewrite (d + 3) Q (u12) 24 [some (vR a0), some (vR a1), some (vR a2), some (vR (some u.2.1))] []
    refine x_aload_n (pc := 24) d_P_rewrite_24 rfl ?_
    obtain ⟨u14, e15, h⟩ := Option.bind_eq_some_iff.mp h
    refine c_new (pc := 25) d_P_rewrite_25 nw_P_240 ly_8 ⟨_, rfl, rfl⟩ e15 ?_
    refine x_dup (pc := 28) d_P_rewrite_28 rfl ?_
    refine x_aload_n (pc := 29) d_P_rewrite_29 rfl ?_
    obtain ⟨v16, e17, h⟩ := Option.bind_eq_some_iff.mp h
    refine c_getR (pc := 30) d_P_rewrite_30 l_P_242 e17 ?_
    refine x_aload_n (pc := 33) d_P_rewrite_33 rfl ?_
    refine x_aload_n (pc := 34) d_P_rewrite_34 rfl ?_
    refine x_aload_n (pc := 35) d_P_rewrite_35 rfl ?_
    obtain ⟨v18, e19, h⟩ := Option.bind_eq_some_iff.mp h
    refine c_getI (pc := 36) d_P_rewrite_36 l_P_237 e19 ?_
    obtain ⟨c20, h⟩ := ite_some h
    obtain ⟨u21, e22, h⟩ := Option.bind_eq_some_iff.mp h
    refine c_invi (d := d + 2) (av := [vR v16, vR a1, vR (some u.2.1), vI v18]) (st := [vR (some u12.2.1), vR a0]) (Q' := fun r h' => r = .inl none ∧ h' = u21) (pc := 39) d_P_rewrite_39 ci_P_246 y_Rewritten_init (tw_6 (List.mem_of_getElem? (i := 142) rfl)) c20 rfl (Nat.le_of_ble_eq_true rfl) (Nat.le_of_ble_eq_true rfl) (w_Rewritten_init (d := d + 0) (Q := fun r h' => r = .inl none ∧ h' = u21) ⟨rfl, rfl⟩ u14 (some u12.2.1) v16 a1 (some u.2.1) v18 e22) (fun v h' z => ?_) (fun a h' z => nomatch z.1)
    obtain ⟨z1, z2⟩ := z
    subst h'
    cases z1
    show xW sc m_P_rewrite (d + 3) Q (u21) 42 [some (vR a0), some (vR a1), some (vR a2), some (vR (some u.2.1))] [vR (some u12.2.1), vR a0]
    obtain ⟨u23, e24, h⟩ := Option.bind_eq_some_iff.mp h
    refine c_putf (pc := 42) d_P_rewrite_42 l_P_242 fp_0_28 (xfit_obj) e24 ?_
    refine x_aload_n (pc := 45) d_P_rewrite_45 rfl ?_
    refine x_aload_n (pc := 46) d_P_rewrite_46 rfl ?_
    obtain ⟨v25, e26, h⟩ := Option.bind_eq_some_iff.mp h
    refine c_getI (pc := 47) d_P_rewrite_47 l_P_234 e26 ?_
    obtain ⟨u27, e28, h⟩ := Option.bind_eq_some_iff.mp h
    refine c_putf (pc := 50) d_P_rewrite_50 l_P_237 fp_2_4 (xfit_int) e28 ?_
    exact x_wk (L' := [none, some (vR a1), some (vR a2), none]) ⟨Or.inl rfl, Or.inr rfl, Or.inr rfl, Or.inl rfl, trivial⟩ (w_P_rewrite_b53 hQ a1 a2 u27 h)
def f_P_define_b73 (sc : xSc)  (l0 : Option Nat) (l3 : Option Nat) (l4 : Option Nat) (u : xH) : Option ((Unit ⊕ Nat) × xH) := (if xis sc u 0 l0 = true then (f_P_rewrite sc u l0 l4 l3).bind fun u2 => some (.inl (), u2) else none)
theorem w_P_define_b73 {sc : xSc} {d : Nat} {Q : xR → xH → Prop} {oZ : Unit ⊕ Nat} {hZ : xH}  (hQ : Q (cvU oZ) hZ) (l0 : Option Nat) (l3 : Option Nat) (l4 : Option Nat) (u : xH) (h : f_P_define_b73 sc  l0 l3 l4 u = some (oZ, hZ)) : xW sc m_P_define (d + 7) Q (u) 73 [some (vR l0), none, none, some (vR l3), some (vR l4)] [] := by
  unfold f_P_define_b73 at h
  refine x_aload_n (pc := 73) d_P_define_73 rfl ?_
  refine x_aload (pc := 74) d_P_define_74 rfl ?_
  refine x_aload_n (pc := 76) d_P_define_76 rfl ?_
  obtain ⟨c1, h⟩ := ite_some h
  obtain ⟨u2, e3, h⟩ := Option.bind_eq_some_iff.mp h
  refine c_invv (c := 0) (d := d + 6) (av := [vR l4, vR l3]) (st := []) (Q' := fun r h' => r = .inl none ∧ h' = u2) (pc := 77) d_P_define_77 cv_P_266 y_P_rewrite c1 rfl (Nat.le_of_ble_eq_true rfl) (Nat.le_of_ble_eq_true rfl) (w_P_rewrite (d := d + 3) (Q := fun r h' => r = .inl none ∧ h' = u2) ⟨rfl, rfl⟩ u l0 l4 l3 e3) (fun v h' z => ?_) (fun a h' z => nomatch z.1)
  obtain ⟨z1, z2⟩ := z
  subst h'
  cases z1
  show xW sc m_P_define (d + 7) Q (u2) 80 [some (vR l0), none, none, some (vR l3), some (vR l4)] []
  cases h
  exact x_vret (pc := 80) d_P_define_80 rfl hQ
def f_P_define_b29 (sc : xSc)  (l0 : Option Nat) (l1 : Option Nat) (l2 : Option Nat) (l3 : Option Nat) (t0 : Int32) (t1 : Option Nat) (u : xH) : Option ((Unit ⊕ Nat) × xH) := (if xis sc u 0 t1 = true then tB (f_P_need sc u t1 t0 (8 : Int32)) (fun v3 u2 => (if xis sc u2 4 l1 = true then (f_Dict_add sc u2 l1 l2).bind fun (v9, u8) => (gI sc u8 0 26 l0).bind fun v11 => (pV u8 2 4 v9 (vI v11)).bind fun u13 => (gI sc u13 0 26 l0).bind fun v15 => (if v15 ≤ 0 then f_P_define_b73 sc l0 l3 v9 u13 else (nO 9 2 2 u13).bind fun u18 => (gR sc u18 0 28 l0).bind fun v20 => (if (some u13.2.1).isSome = true then (f_Added_init sc u18 (some u13.2.1) v20 l1).bind fun u23 => (pV u23 0 28 l0 (vR (some u13.2.1))).bind fun u25 => f_P_define_b73 sc l0 l3 v9 u25 else none)) else none)) (fun a5 u6 => some (.inr a5, u6)) else none)
theorem w_P_define_b29 {sc : xSc} {d : Nat} {Q : xR → xH → Prop} {oZ : Unit ⊕ Nat} {hZ : xH}  (hQ : Q (cvU oZ) hZ) (l0 : Option Nat) (l1 : Option Nat) (l2 : Option Nat) (l3 : Option Nat) (t0 : Int32) (t1 : Option Nat) (u : xH) (h : f_P_define_b29 sc  l0 l1 l2 l3 t0 t1 u = some (oZ, hZ)) : xW sc m_P_define (d + 7) Q (u) 29 [some (vR l0), some (vR l1), some (vR l2), some (vR l3), none] [vI t0, vR t1] := by
  unfold f_P_define_b29 at h
  refine x_bipush (v := (8 : Int32)) (pc := 29) d_P_define_29 (by decide) ?_
  obtain ⟨c1, h⟩ := ite_some h
  rcases tB_s h with ⟨a5, u6, e4, h⟩ | ⟨v3, u2, e4, h⟩
  · refine c_invv (c := 0) (d := d + 6) (av := [vI t0, vI (8 : Int32)]) (st := []) (Q' := fun r h' => r = .inr a5 ∧ h' = u6) (pc := 31) d_P_define_31 cv_P_170 y_P_need c1 rfl (Nat.le_of_ble_eq_true rfl) (Nat.le_of_ble_eq_true rfl) (w_P_need (d := d + 0) (Q := fun r h' => r = .inr a5 ∧ h' = u6) ⟨rfl, rfl⟩ u t1 t0 (8 : Int32) e4) (fun v h' z => nomatch z.1) (fun a h' z => ?_)
    obtain ⟨z1, z2⟩ := z
    subst h'
    cases z1
    cases h
    exact x_thOut (xno rfl) hQ
  refine c_invv (c := 0) (d := d + 6) (av := [vI t0, vI (8 : Int32)]) (st := []) (Q' := fun r h' => r = .inl none ∧ h' = u2) (pc := 31) d_P_define_31 cv_P_170 y_P_need c1 rfl (Nat.le_of_ble_eq_true rfl) (Nat.le_of_ble_eq_true rfl) (w_P_need (d := d + 0) (Q := fun r h' => r = .inl none ∧ h' = u2) ⟨rfl, rfl⟩ u t1 t0 (8 : Int32) e4) (fun v h' z => ?_) (fun a h' z => nomatch z.1)
  obtain ⟨z1, z2⟩ := z
  subst h'
  cases z1
  show xW sc m_P_define (d + 7) Q (u2) 34 [some (vR l0), some (vR l1), some (vR l2), some (vR l3), none] []
  refine x_aload_n (pc := 34) d_P_define_34 rfl ?_
  refine x_aload_n (pc := 35) d_P_define_35 rfl ?_
  obtain ⟨c7, h⟩ := ite_some h
  obtain ⟨⟨v9, u8⟩, e10, h⟩ := Option.bind_eq_some_iff.mp h
  dsimp only at h
  refine c_invv (c := 4) (d := d + 6) (av := [vR l2]) (st := []) (Q' := fun r h' => r = .inl (some (vR v9)) ∧ h' = u8) (pc := 36) d_P_define_36 cv_P_259 y_Dict_add c7 rfl (Nat.le_of_ble_eq_true rfl) (Nat.le_of_ble_eq_true rfl) (w_Dict_add (d := d + 3) (Q := fun r h' => r = .inl (some (vR v9)) ∧ h' = u8) ⟨rfl, rfl⟩ u2 l1 l2 e10) (fun v h' z => ?_) (fun a h' z => nomatch z.1)
  obtain ⟨z1, z2⟩ := z
  subst h'
  cases z1
  show xW sc m_P_define (d + 7) Q (u8) 39 [some (vR l0), some (vR l1), some (vR l2), some (vR l3), none] [vR v9]
  refine x_astore (pc := 39) d_P_define_39 (by decide) ?_
  show xW sc m_P_define (d + 7) Q (u8) 41 [some (vR l0), some (vR l1), some (vR l2), some (vR l3), some (vR v9)] []
  refine x_aload (pc := 41) d_P_define_41 rfl ?_
  refine x_aload_n (pc := 43) d_P_define_43 rfl ?_
  obtain ⟨v11, e12, h⟩ := Option.bind_eq_some_iff.mp h
  refine c_getI (pc := 44) d_P_define_44 l_P_234 e12 ?_
  obtain ⟨u13, e14, h⟩ := Option.bind_eq_some_iff.mp h
  refine c_putf (pc := 47) d_P_define_47 l_P_237 fp_2_4 (xfit_int) e14 ?_
  refine x_aload_n (pc := 50) d_P_define_50 rfl ?_
  obtain ⟨v15, e16, h⟩ := Option.bind_eq_some_iff.mp h
  refine c_getI (pc := 51) d_P_define_51 l_P_234 e16 ?_
  refine x_if_le (tgt := 73) (pc := 54) d_P_define_54 (by decide) (fun c17 => ?_) (fun c17 => ?_)
  · rw [if_pos c17] at h
    exact x_wk (L' := [some (vR l0), none, none, some (vR l3), some (vR v9)]) ⟨Or.inr rfl, Or.inl rfl, Or.inl rfl, Or.inr rfl, Or.inr rfl, trivial⟩ (w_P_define_b73 hQ l0 l3 v9 u13 h)
  · rw [if_neg c17] at h
    refine x_aload_n (pc := 57) d_P_define_57 rfl ?_
    obtain ⟨u18, e19, h⟩ := Option.bind_eq_some_iff.mp h
    refine c_new (pc := 58) d_P_define_58 nw_P_261 ly_9 ⟨_, rfl, rfl⟩ e19 ?_
    refine x_dup (pc := 61) d_P_define_61 rfl ?_
    refine x_aload_n (pc := 62) d_P_define_62 rfl ?_
    obtain ⟨v20, e21, h⟩ := Option.bind_eq_some_iff.mp h
    refine c_getR (pc := 63) d_P_define_63 l_P_242 e21 ?_
    refine x_aload_n (pc := 66) d_P_define_66 rfl ?_
    obtain ⟨c22, h⟩ := ite_some h
    obtain ⟨u23, e24, h⟩ := Option.bind_eq_some_iff.mp h
    refine c_invi (d := d + 6) (av := [vR v20, vR l1]) (st := [vR (some u13.2.1), vR l0]) (Q' := fun r h' => r = .inl none ∧ h' = u23) (pc := 67) d_P_define_67 ci_P_263 y_Added_init (tw_6 (List.mem_of_getElem? (i := 187) rfl)) c22 rfl (Nat.le_of_ble_eq_true rfl) (Nat.le_of_ble_eq_true rfl) (w_Added_init (d := d + 4) (Q := fun r h' => r = .inl none ∧ h' = u23) ⟨rfl, rfl⟩ u18 (some u13.2.1) v20 l1 e24) (fun v h' z => ?_) (fun a h' z => nomatch z.1)
    obtain ⟨z1, z2⟩ := z
    subst h'
    cases z1
    show xW sc m_P_define (d + 7) Q (u23) 70 [some (vR l0), some (vR l1), some (vR l2), some (vR l3), some (vR v9)] [vR (some u13.2.1), vR l0]
    obtain ⟨u25, e26, h⟩ := Option.bind_eq_some_iff.mp h
    refine c_putf (pc := 70) d_P_define_70 l_P_242 fp_0_28 (xfit_obj) e26 ?_
    exact x_wk (L' := [some (vR l0), none, none, some (vR l3), some (vR v9)]) ⟨Or.inr rfl, Or.inl rfl, Or.inl rfl, Or.inr rfl, Or.inr rfl, trivial⟩ (w_P_define_b73 hQ l0 l3 v9 u25 h)
def f_P_define (sc : xSc) (u : xH) (a0 : Option Nat) (a1 : Option Nat) (a2 : Option Nat) (a3 : Option Nat) : Option ((Unit ⊕ Nat) × xH) := (if xis sc u 4 a1 = true then (f_Dict_find sc u a1 a2).bind fun v2 => (if v2 = none then (gI sc u 4 2 a1).bind fun v5 => (gI sc u 4 1 a1).bind fun v7 => (if v7 ≤ v5 then f_P_define_b29 sc a0 a1 a2 a3 (0 : Int32) a0 u else f_P_define_b29 sc a0 a1 a2 a3 (1 : Int32) a0 u) else f_P_define_b73 sc a0 a3 v2 u) else none)
theorem w_P_define {sc : xSc} {d : Nat} {Q : xR → xH → Prop} {oZ : Unit ⊕ Nat} {hZ : xH} (hQ : Q (cvU oZ) hZ) (u : xH) (a0 : Option Nat) (a1 : Option Nat) (a2 : Option Nat) (a3 : Option Nat) (h : f_P_define sc u a0 a1 a2 a3 = some (oZ, hZ)) : xW sc m_P_define (d + 7) Q (u) 0 (xent [vR a0, vR a1, vR a2, vR a3] m_P_define.2.2.1) [] := by
  show xW sc m_P_define (d + 7) Q (u) 0 [some (vR a0), some (vR a1), some (vR a2), some (vR a3), none] []
  unfold f_P_define at h
  refine x_aload_n (pc := 0) d_P_define_0 rfl ?_
  refine x_aload_n (pc := 1) d_P_define_1 rfl ?_
  obtain ⟨c1, h⟩ := ite_some h
  obtain ⟨v2, e3, h⟩ := Option.bind_eq_some_iff.mp h
  refine c_invv (c := 4) (d := d + 6) (av := [vR a2]) (st := []) (Q' := fun r h' => r = .inl (some (vR v2)) ∧ h' = u) (pc := 2) d_P_define_2 cv_P_249 y_Dict_find c1 rfl (Nat.le_of_ble_eq_true rfl) (Nat.le_of_ble_eq_true rfl) (w_Dict_find (d := d + 5) (Q := fun r h' => r = .inl (some (vR v2)) ∧ h' = u) ⟨rfl, rfl⟩ a1 a2 e3) (fun v h' z => ?_) (fun a h' z => nomatch z.1)
  obtain ⟨z1, z2⟩ := z
  subst h'
  cases z1
  show xW sc m_P_define (d + 7) Q (u) 5 [some (vR a0), some (vR a1), some (vR a2), some (vR a3), none] [vR v2]
  refine x_astore (pc := 5) d_P_define_5 (by decide) ?_
  show xW sc m_P_define (d + 7) Q (u) 7 [some (vR a0), some (vR a1), some (vR a2), some (vR a3), some (vR v2)] []
  refine x_aload (pc := 7) d_P_define_7 rfl ?_
  refine c_ifnonnull (tgt := 73) (pc := 9) d_P_define_9 (by decide) (fun c4 => ?_) (fun c4 => ?_)
  · rw [if_neg c4] at h
    exact x_wk (L' := [some (vR a0), none, none, some (vR a3), some (vR v2)]) ⟨Or.inr rfl, Or.inl rfl, Or.inl rfl, Or.inr rfl, Or.inr rfl, trivial⟩ (w_P_define_b73 hQ a0 a3 v2 u h)
  · rw [if_pos c4] at h
    refine x_aload_n (pc := 12) d_P_define_12 rfl ?_
    refine x_aload_n (pc := 13) d_P_define_13 rfl ?_
    obtain ⟨v5, e6, h⟩ := Option.bind_eq_some_iff.mp h
    refine c_getI (pc := 14) d_P_define_14 l_P_253 e6 ?_
    refine x_aload_n (pc := 17) d_P_define_17 rfl ?_
    obtain ⟨v7, e8, h⟩ := Option.bind_eq_some_iff.mp h
    refine c_getI (pc := 18) d_P_define_18 l_P_256 e8 ?_
    refine x_icmp_ge (tgt := 28) (pc := 21) d_P_define_21 (by decide) (fun c9 => ?_) (fun c9 => ?_)
    · rw [if_pos c9] at h
      refine x_iconst (v := (0 : Int32)) (pc := 28) d_P_define_28 (by decide) ?_
      exact x_wk (L' := [some (vR a0), some (vR a1), some (vR a2), some (vR a3), none]) ⟨Or.inr rfl, Or.inr rfl, Or.inr rfl, Or.inr rfl, Or.inl rfl, trivial⟩ (w_P_define_b29 hQ a0 a1 a2 a3 (0 : Int32) a0 u h)
    · rw [if_neg c9] at h
      refine x_iconst (v := (1 : Int32)) (pc := 24) d_P_define_24 (by decide) ?_
      refine x_goto (tgt := 29) (pc := 25) d_P_define_25 (by decide) ?_
      exact x_wk (L' := [some (vR a0), some (vR a1), some (vR a2), some (vR a3), none]) ⟨Or.inr rfl, Or.inr rfl, Or.inr rfl, Or.inr rfl, Or.inl rfl, trivial⟩ (w_P_define_b29 hQ a0 a1 a2 a3 (1 : Int32) a0 u h)
def f_P_find_b34 (sc : xSc) (u : xH)  (l2 : Option Nat) : Option (Option Nat) := some l2
theorem w_P_find_b34 {sc : xSc} {d : Nat} {Q : xR → xH → Prop} {u : xH} {rZ : Option Nat}  (hQ : Q (.inl (some (vR rZ))) u) (l2 : Option Nat) (h : f_P_find_b34 sc u  l2 = some rZ) : xW sc m_P_find (d + 2) Q (u) 34 [none, none, some (vR l2), none] [] := by
  unfold f_P_find_b34 at h
  refine x_aload_n (pc := 34) d_P_find_34 rfl ?_
  cases h
  exact x_aret (pc := 35) d_P_find_35 rfl (Or.inl ⟨_, rfl⟩) hQ
def f_P_find_b9 (sc : xSc) (u : xH)  : Nat → Option Nat → Option Nat → Option Nat → Int32 → Option (Option Nat)
  | 0, _, _, _, _ => none
  | n + 1, l0, l1, l2, l3 => (if l3 < 0 then f_P_find_b34 sc u l2 else (if l2 = none then (gR sc u 0 13 l0).bind fun v3 => (aR sc u v3 l3).bind fun v5 => (if xis sc u 4 v5 = true then (f_Dict_find sc u v5 l1).bind fun v8 => (f_P_find_b9 sc u n) l0 l1 v8 (l3 + Int32.ofInt (-1)) else none) else f_P_find_b34 sc u l2))
theorem w_P_find_b9 {sc : xSc} {d : Nat} {Q : xR → xH → Prop} {u : xH} {rZ : Option Nat}  (hQ : Q (.inl (some (vR rZ))) u) : ∀ (n : Nat) (l0 : Option Nat) (l1 : Option Nat) (l2 : Option Nat) (l3 : Int32), f_P_find_b9 sc u  n l0 l1 l2 l3 = some rZ → xW sc m_P_find (d + 2) Q (u) 9 [some (vR l0), some (vR l1), some (vR l2), some (vI l3)] [] := by
  intro n
  induction n with
  | zero =>
    intro l0 l1 l2 l3 h
    cases h
  | succ n hk9 =>
    intro l0 l1 l2 l3 h
    unfold f_P_find_b9 at h
    refine x_iload_n (pc := 9) d_P_find_9 rfl ?_
    refine x_if_lt (tgt := 34) (pc := 10) d_P_find_10 (by decide) (fun c1 => ?_) (fun c1 => ?_)
    · rw [if_pos c1] at h
      exact x_wk (L' := [none, none, some (vR l2), none]) ⟨Or.inl rfl, Or.inl rfl, Or.inr rfl, Or.inl rfl, trivial⟩ (w_P_find_b34 hQ l2 h)
    · rw [if_neg c1] at h
      refine x_aload_n (pc := 13) d_P_find_13 rfl ?_
      refine c_ifnonnull (tgt := 34) (pc := 14) d_P_find_14 (by decide) (fun c2 => ?_) (fun c2 => ?_)
      · rw [if_neg c2] at h
        exact x_wk (L' := [none, none, some (vR l2), none]) ⟨Or.inl rfl, Or.inl rfl, Or.inr rfl, Or.inl rfl, trivial⟩ (w_P_find_b34 hQ l2 h)
      · rw [if_pos c2] at h
        refine x_aload_n (pc := 17) d_P_find_17 rfl ?_
        obtain ⟨v3, e4, h⟩ := Option.bind_eq_some_iff.mp h
        refine c_getR (pc := 18) d_P_find_18 l_P_72 e4 ?_
        refine x_iload_n (pc := 21) d_P_find_21 rfl ?_
        obtain ⟨v5, e6, h⟩ := Option.bind_eq_some_iff.mp h
        refine c_aald (pc := 22) d_P_find_22 e6 ?_
        refine x_aload_n (pc := 23) d_P_find_23 rfl ?_
        obtain ⟨c7, h⟩ := ite_some h
        obtain ⟨v8, e9, h⟩ := Option.bind_eq_some_iff.mp h
        refine c_invv (c := 4) (d := d + 1) (av := [vR l1]) (st := []) (Q' := fun r h' => r = .inl (some (vR v8)) ∧ h' = u) (pc := 24) d_P_find_24 cv_P_249 y_Dict_find c7 rfl (Nat.le_of_ble_eq_true rfl) (Nat.le_of_ble_eq_true rfl) (w_Dict_find (d := d + 0) (Q := fun r h' => r = .inl (some (vR v8)) ∧ h' = u) ⟨rfl, rfl⟩ v5 l1 e9) (fun v h' z => ?_) (fun a h' z => nomatch z.1)
        obtain ⟨z1, z2⟩ := z
        subst h'
        cases z1
        show xW sc m_P_find (d + 2) Q (u) 27 [some (vR l0), some (vR l1), some (vR l2), some (vI l3)] [vR v8]
        refine x_astore_n (pc := 27) d_P_find_27 (by decide) ?_
        show xW sc m_P_find (d + 2) Q (u) 28 [some (vR l0), some (vR l1), some (vR v8), some (vI l3)] []
        refine x_iinc (pc := 28) d_P_find_28 rfl (by decide) ?_
        show xW sc m_P_find (d + 2) Q (u) 31 [some (vR l0), some (vR l1), some (vR v8), some (vI (l3 + Int32.ofInt (-1)))] []
        refine x_goto (tgt := 9) (pc := 31) d_P_find_31 (by decide) ?_
        exact hk9 l0 l1 v8 (l3 + Int32.ofInt (-1)) h
def f_P_find (sc : xSc) (u : xH) (a0 : Option Nat) (a1 : Option Nat) : Option (Option Nat) := (gI sc u 0 14 a0).bind fun v1 => f_P_find_b9 sc u mF a0 a1 none (v1 - (1 : Int32))
theorem w_P_find {sc : xSc} {d : Nat} {Q : xR → xH → Prop} {u : xH} {rZ : Option Nat} (hQ : Q (.inl (some (vR rZ))) u) (a0 : Option Nat) (a1 : Option Nat) (h : f_P_find sc u a0 a1 = some rZ) : xW sc m_P_find (d + 2) Q (u) 0 (xent [vR a0, vR a1] m_P_find.2.2.1) [] := by
  show xW sc m_P_find (d + 2) Q (u) 0 [some (vR a0), some (vR a1), none, none] []
  unfold f_P_find at h
  refine x_null (pc := 0) d_P_find_0 ?_
  refine x_astore_n (pc := 1) d_P_find_1 (by decide) ?_
  show xW sc m_P_find (d + 2) Q (u) 2 [some (vR a0), some (vR a1), some (vR none), none] []
  refine x_aload_n (pc := 2) d_P_find_2 rfl ?_
  obtain ⟨v1, e2, h⟩ := Option.bind_eq_some_iff.mp h
  refine c_getI (pc := 3) d_P_find_3 l_P_76 e2 ?_
  refine x_iconst (v := (1 : Int32)) (pc := 6) d_P_find_6 (by decide) ?_
  refine x_isub (pc := 7) d_P_find_7 ?_
  refine x_istore_n (pc := 8) d_P_find_8 (by decide) ?_
  show xW sc m_P_find (d + 2) Q (u) 9 [some (vR a0), some (vR a1), some (vR none), some (vI (v1 - (1 : Int32)))] []
  exact w_P_find_b9 hQ mF a0 a1 none (v1 - (1 : Int32)) h
def f_P_found_b23 (sc : xSc)  (u : xH) : Option ((Unit ⊕ Nat) × xH) := some (.inl (), u)
theorem w_P_found_b23 {sc : xSc} {d : Nat} {Q : xR → xH → Prop} {oZ : Unit ⊕ Nat} {hZ : xH}  (hQ : Q (cvU oZ) hZ) (u : xH) (h : f_P_found_b23 sc  u = some (oZ, hZ)) : xW sc m_P_found (d + 7) Q (u) 23 [none, none, none] [] := by
  unfold f_P_found_b23 at h
  cases h
  exact x_vret (pc := 23) d_P_found_23 rfl hQ
def f_P_found_b10 (sc : xSc)  (l1 : Option Nat) (l2 : Option Nat) (t0 : Int32) (t1 : Option Nat) (u : xH) : Option ((Unit ⊕ Nat) × xH) := (if xis sc u 0 t1 = true then tB (f_P_need sc u t1 t0 (5 : Int32)) (fun v3 u2 => (if l2 = none then f_P_found_b23 sc u2 else (if xis sc u2 2 l1 = true then (f_Slot_copy sc u2 l1 l2).bind fun u9 => f_P_found_b23 sc u9 else none))) (fun a5 u6 => some (.inr a5, u6)) else none)
theorem w_P_found_b10 {sc : xSc} {d : Nat} {Q : xR → xH → Prop} {oZ : Unit ⊕ Nat} {hZ : xH}  (hQ : Q (cvU oZ) hZ) (l1 : Option Nat) (l2 : Option Nat) (t0 : Int32) (t1 : Option Nat) (u : xH) (h : f_P_found_b10 sc  l1 l2 t0 t1 u = some (oZ, hZ)) : xW sc m_P_found (d + 7) Q (u) 10 [none, some (vR l1), some (vR l2)] [vI t0, vR t1] := by
  unfold f_P_found_b10 at h
  refine x_iconst (v := (5 : Int32)) (pc := 10) d_P_found_10 (by decide) ?_
  obtain ⟨c1, h⟩ := ite_some h
  rcases tB_s h with ⟨a5, u6, e4, h⟩ | ⟨v3, u2, e4, h⟩
  · refine c_invv (c := 0) (d := d + 6) (av := [vI t0, vI (5 : Int32)]) (st := []) (Q' := fun r h' => r = .inr a5 ∧ h' = u6) (pc := 11) d_P_found_11 cv_P_170 y_P_need c1 rfl (Nat.le_of_ble_eq_true rfl) (Nat.le_of_ble_eq_true rfl) (w_P_need (d := d + 0) (Q := fun r h' => r = .inr a5 ∧ h' = u6) ⟨rfl, rfl⟩ u t1 t0 (5 : Int32) e4) (fun v h' z => nomatch z.1) (fun a h' z => ?_)
    obtain ⟨z1, z2⟩ := z
    subst h'
    cases z1
    cases h
    exact x_thOut (xno rfl) hQ
  refine c_invv (c := 0) (d := d + 6) (av := [vI t0, vI (5 : Int32)]) (st := []) (Q' := fun r h' => r = .inl none ∧ h' = u2) (pc := 11) d_P_found_11 cv_P_170 y_P_need c1 rfl (Nat.le_of_ble_eq_true rfl) (Nat.le_of_ble_eq_true rfl) (w_P_need (d := d + 0) (Q := fun r h' => r = .inl none ∧ h' = u2) ⟨rfl, rfl⟩ u t1 t0 (5 : Int32) e4) (fun v h' z => ?_) (fun a h' z => nomatch z.1)
  obtain ⟨z1, z2⟩ := z
  subst h'
  cases z1
  show xW sc m_P_found (d + 7) Q (u2) 14 [none, some (vR l1), some (vR l2)] []
  refine x_aload_n (pc := 14) d_P_found_14 rfl ?_
  refine c_ifnull (tgt := 23) (pc := 15) d_P_found_15 (by decide) (fun c7 => ?_) (fun c7 => ?_)
  · rw [if_pos c7] at h
    exact x_wk (L' := [none, none, none]) ⟨Or.inl rfl, Or.inl rfl, Or.inl rfl, trivial⟩ (w_P_found_b23 hQ u2 h)
  · rw [if_neg c7] at h
    refine x_aload_n (pc := 18) d_P_found_18 rfl ?_
    refine x_aload_n (pc := 19) d_P_found_19 rfl ?_
    obtain ⟨c8, h⟩ := ite_some h
    obtain ⟨u9, e10, h⟩ := Option.bind_eq_some_iff.mp h
    refine c_invv (c := 2) (d := d + 6) (av := [vR l2]) (st := []) (Q' := fun r h' => r = .inl none ∧ h' = u9) (pc := 20) d_P_found_20 cv_P_182 y_Slot_copy c8 rfl (Nat.le_of_ble_eq_true rfl) (Nat.le_of_ble_eq_true rfl) (w_Slot_copy (d := d + 5) (Q := fun r h' => r = .inl none ∧ h' = u9) ⟨rfl, rfl⟩ u2 l1 l2 e10) (fun v h' z => ?_) (fun a h' z => nomatch z.1)
    obtain ⟨z1, z2⟩ := z
    subst h'
    cases z1
    show xW sc m_P_found (d + 7) Q (u9) 23 [none, some (vR l1), some (vR l2)] []
    exact x_wk (L' := [none, none, none]) ⟨Or.inl rfl, Or.inl rfl, Or.inl rfl, trivial⟩ (w_P_found_b23 hQ u9 h)
def f_P_found (sc : xSc) (u : xH) (a0 : Option Nat) (a1 : Option Nat) (a2 : Option Nat) : Option ((Unit ⊕ Nat) × xH) := (if a2 = none then f_P_found_b10 sc a1 a2 (0 : Int32) a0 u else f_P_found_b10 sc a1 a2 (1 : Int32) a0 u)
theorem w_P_found {sc : xSc} {d : Nat} {Q : xR → xH → Prop} {oZ : Unit ⊕ Nat} {hZ : xH} (hQ : Q (cvU oZ) hZ) (u : xH) (a0 : Option Nat) (a1 : Option Nat) (a2 : Option Nat) (h : f_P_found sc u a0 a1 a2 = some (oZ, hZ)) : xW sc m_P_found (d + 7) Q (u) 0 (xent [vR a0, vR a1, vR a2] m_P_found.2.2.1) [] := by
  show xW sc m_P_found (d + 7) Q (u) 0 [some (vR a0), some (vR a1), some (vR a2)] []
  unfold f_P_found at h
  refine x_aload_n (pc := 0) d_P_found_0 rfl ?_
  refine x_aload_n (pc := 1) d_P_found_1 rfl ?_
  refine c_ifnull (tgt := 9) (pc := 2) d_P_found_2 (by decide) (fun c1 => ?_) (fun c1 => ?_)
  · rw [if_pos c1] at h
    refine x_iconst (v := (0 : Int32)) (pc := 9) d_P_found_9 (by decide) ?_
    exact x_wk (L' := [none, some (vR a1), some (vR a2)]) ⟨Or.inl rfl, Or.inr rfl, Or.inr rfl, trivial⟩ (w_P_found_b10 hQ a1 a2 (0 : Int32) a0 u h)
  · rw [if_neg c1] at h
    refine x_iconst (v := (1 : Int32)) (pc := 5) d_P_found_5 (by decide) ?_
    refine x_goto (tgt := 10) (pc := 6) d_P_found_6 (by decide) ?_
    exact x_wk (L' := [none, some (vR a1), some (vR a2)]) ⟨Or.inl rfl, Or.inr rfl, Or.inr rfl, trivial⟩ (w_P_found_b10 hQ a1 a2 (1 : Int32) a0 u h)
def f_Holders_dicts_b391 (sc : xSc)  (u : xH) : Option ((Unit ⊕ Nat) × xH) := some (.inl (), u)
theorem w_Holders_dicts_b391 {sc : xSc} {d : Nat} {Q : xR → xH → Prop} {oZ : Unit ⊕ Nat} {hZ : xH}  (hQ : Q (cvU oZ) hZ) (u : xH) (h : f_Holders_dicts_b391 sc  u = some (oZ, hZ)) : xW sc m_Holders_dicts (d + 10) Q (u) 391 [none, none, none, none, none] [] := by
  unfold f_Holders_dicts_b391 at h
  cases h
  exact x_vret (pc := 391) d_Holders_dicts_391 rfl hQ
def f_Holders_dicts_b378 (sc : xSc)  (t0 : Int32) (t1 : Int32) (t2 : Option Nat) (u : xH) : Option ((Unit ⊕ Nat) × xH) := (if xis sc u 0 t2 = true then tB (f_P_truth sc u t2 t1 t0) (fun v3 u2 => f_Holders_dicts_b391 sc u2) (fun a5 u6 => some (.inr a5, u6)) else none)
theorem w_Holders_dicts_b378 {sc : xSc} {d : Nat} {Q : xR → xH → Prop} {oZ : Unit ⊕ Nat} {hZ : xH}  (hQ : Q (cvU oZ) hZ) (t0 : Int32) (t1 : Int32) (t2 : Option Nat) (u : xH) (h : f_Holders_dicts_b378 sc  t0 t1 t2 u = some (oZ, hZ)) : xW sc m_Holders_dicts (d + 10) Q (u) 378 [none, none, none, none, none] [vI t0, vI t1, vR t2] := by
  unfold f_Holders_dicts_b378 at h
  obtain ⟨c1, h⟩ := ite_some h
  rcases tB_s h with ⟨a5, u6, e4, h⟩ | ⟨v3, u2, e4, h⟩
  · refine c_invv (c := 0) (d := d + 9) (av := [vI t1, vI t0]) (st := []) (Q' := fun r h' => r = .inr a5 ∧ h' = u6) (pc := 378) d_Holders_dicts_378 cv_Holders_160 y_P_truth c1 rfl (Nat.le_of_ble_eq_true rfl) (Nat.le_of_ble_eq_true rfl) (w_P_truth (d := d + 0) (Q := fun r h' => r = .inr a5 ∧ h' = u6) ⟨rfl, rfl⟩ u t2 t1 t0 e4) (fun v h' z => nomatch z.1) (fun a h' z => ?_)
    obtain ⟨z1, z2⟩ := z
    subst h'
    cases z1
    cases h
    exact x_thOut (xno rfl) hQ
  refine c_invv (c := 0) (d := d + 9) (av := [vI t1, vI t0]) (st := []) (Q' := fun r h' => r = .inl none ∧ h' = u2) (pc := 378) d_Holders_dicts_378 cv_Holders_160 y_P_truth c1 rfl (Nat.le_of_ble_eq_true rfl) (Nat.le_of_ble_eq_true rfl) (w_P_truth (d := d + 0) (Q := fun r h' => r = .inl none ∧ h' = u2) ⟨rfl, rfl⟩ u t2 t1 t0 e4) (fun v h' z => ?_) (fun a h' z => nomatch z.1)
  obtain ⟨z1, z2⟩ := z
  subst h'
  cases z1
  show xW sc m_Holders_dicts (d + 10) Q (u2) 381 [none, none, none, none, none] []
  refine x_goto (tgt := 391) (pc := 381) d_Holders_dicts_381 (by decide) ?_
  exact w_Holders_dicts_b391 hQ u2 h
def f_Holders_dicts_b354 (sc : xSc)  (l0 : Option Nat) (l2 : Option Nat) (l3 : Option Nat) (t0 : Int32) (t1 : Option Nat) (u : xH) : Option ((Unit ⊕ Nat) × xH) := (if xis sc u 0 t1 = true then tB (f_P_type sc u t1 t0) (fun v3 u2 => (gR sc u2 2 7 l2).bind fun v7 => (gR sc u2 2 6 l3).bind fun v9 => (if xis sc u2 4 v7 = true then (f_Dict_find sc u2 v7 v9).bind fun v12 => (if v12 = none then f_Holders_dicts_b378 sc (0 : Int32) (2 : Int32) l0 u2 else f_Holders_dicts_b378 sc (1 : Int32) (2 : Int32) l0 u2) else none)) (fun a5 u6 => some (.inr a5, u6)) else none)
theorem w_Holders_dicts_b354 {sc : xSc} {d : Nat} {Q : xR → xH → Prop} {oZ : Unit ⊕ Nat} {hZ : xH}  (hQ : Q (cvU oZ) hZ) (l0 : Option Nat) (l2 : Option Nat) (l3 : Option Nat) (t0 : Int32) (t1 : Option Nat) (u : xH) (h : f_Holders_dicts_b354 sc  l0 l2 l3 t0 t1 u = some (oZ, hZ)) : xW sc m_Holders_dicts (d + 10) Q (u) 354 [some (vR l0), none, some (vR l2), some (vR l3), none] [vI t0, vR t1] := by
  unfold f_Holders_dicts_b354 at h
  obtain ⟨c1, h⟩ := ite_some h
  rcases tB_s h with ⟨a5, u6, e4, h⟩ | ⟨v3, u2, e4, h⟩
  · refine c_invv (c := 0) (d := d + 9) (av := [vI t0]) (st := []) (Q' := fun r h' => r = .inr a5 ∧ h' = u6) (pc := 354) d_Holders_dicts_354 cv_Holders_27 y_P_type c1 rfl (Nat.le_of_ble_eq_true rfl) (Nat.le_of_ble_eq_true rfl) (w_P_type (d := d + 2) (Q := fun r h' => r = .inr a5 ∧ h' = u6) ⟨rfl, rfl⟩ u t1 t0 e4) (fun v h' z => nomatch z.1) (fun a h' z => ?_)
    obtain ⟨z1, z2⟩ := z
    subst h'
    cases z1
    cases h
    exact x_thOut (xno rfl) hQ
  refine c_invv (c := 0) (d := d + 9) (av := [vI t0]) (st := []) (Q' := fun r h' => r = .inl none ∧ h' = u2) (pc := 354) d_Holders_dicts_354 cv_Holders_27 y_P_type c1 rfl (Nat.le_of_ble_eq_true rfl) (Nat.le_of_ble_eq_true rfl) (w_P_type (d := d + 2) (Q := fun r h' => r = .inl none ∧ h' = u2) ⟨rfl, rfl⟩ u t1 t0 e4) (fun v h' z => ?_) (fun a h' z => nomatch z.1)
  obtain ⟨z1, z2⟩ := z
  subst h'
  cases z1
  show xW sc m_Holders_dicts (d + 10) Q (u2) 357 [some (vR l0), none, some (vR l2), some (vR l3), none] []
  refine x_aload_n (pc := 357) d_Holders_dicts_357 rfl ?_
  refine x_iconst (v := (2 : Int32)) (pc := 358) d_Holders_dicts_358 (by decide) ?_
  refine x_aload_n (pc := 359) d_Holders_dicts_359 rfl ?_
  obtain ⟨v7, e8, h⟩ := Option.bind_eq_some_iff.mp h
  refine c_getR (pc := 360) d_Holders_dicts_360 l_Holders_56 e8 ?_
  refine x_aload_n (pc := 363) d_Holders_dicts_363 rfl ?_
  obtain ⟨v9, e10, h⟩ := Option.bind_eq_some_iff.mp h
  refine c_getR (pc := 364) d_Holders_dicts_364 l_Holders_105 e10 ?_
  obtain ⟨c11, h⟩ := ite_some h
  obtain ⟨v12, e13, h⟩ := Option.bind_eq_some_iff.mp h
  refine c_invv (c := 4) (d := d + 9) (av := [vR v9]) (st := [vI (2 : Int32), vR l0]) (Q' := fun r h' => r = .inl (some (vR v12)) ∧ h' = u2) (pc := 367) d_Holders_dicts_367 cv_Holders_109 y_Dict_find c11 rfl (Nat.le_of_ble_eq_true rfl) (Nat.le_of_ble_eq_true rfl) (w_Dict_find (d := d + 8) (Q := fun r h' => r = .inl (some (vR v12)) ∧ h' = u2) ⟨rfl, rfl⟩ v7 v9 e13) (fun v h' z => ?_) (fun a h' z => nomatch z.1)
  obtain ⟨z1, z2⟩ := z
  subst h'
  cases z1
  show xW sc m_Holders_dicts (d + 10) Q (u2) 370 [some (vR l0), none, some (vR l2), some (vR l3), none] [vR v12, vI (2 : Int32), vR l0]
  refine c_ifnull (tgt := 377) (pc := 370) d_Holders_dicts_370 (by decide) (fun c14 => ?_) (fun c14 => ?_)
  · rw [if_pos c14] at h
    refine x_iconst (v := (0 : Int32)) (pc := 377) d_Holders_dicts_377 (by decide) ?_
    exact x_wk (L' := [none, none, none, none, none]) ⟨Or.inl rfl, Or.inl rfl, Or.inl rfl, Or.inl rfl, Or.inl rfl, trivial⟩ (w_Holders_dicts_b378 hQ (0 : Int32) (2 : Int32) l0 u2 h)
  · rw [if_neg c14] at h
    refine x_iconst (v := (1 : Int32)) (pc := 373) d_Holders_dicts_373 (by decide) ?_
    refine x_goto (tgt := 378) (pc := 374) d_Holders_dicts_374 (by decide) ?_
    exact x_wk (L' := [none, none, none, none, none]) ⟨Or.inl rfl, Or.inl rfl, Or.inl rfl, Or.inl rfl, Or.inl rfl, trivial⟩ (w_Holders_dicts_b378 hQ (1 : Int32) (2 : Int32) l0 u2 h)
def f_Holders_dicts_b353 (sc : xSc)  (l0 : Option Nat) (l2 : Option Nat) (l3 : Option Nat) (t0 : Option Nat) (u : xH) : Option ((Unit ⊕ Nat) × xH) := f_Holders_dicts_b354 sc l0 l2 l3 (0 : Int32) t0 u
theorem w_Holders_dicts_b353 {sc : xSc} {d : Nat} {Q : xR → xH → Prop} {oZ : Unit ⊕ Nat} {hZ : xH}  (hQ : Q (cvU oZ) hZ) (l0 : Option Nat) (l2 : Option Nat) (l3 : Option Nat) (t0 : Option Nat) (u : xH) (h : f_Holders_dicts_b353 sc  l0 l2 l3 t0 u = some (oZ, hZ)) : xW sc m_Holders_dicts (d + 10) Q (u) 353 [some (vR l0), none, some (vR l2), some (vR l3), none] [vR t0] := by
  unfold f_Holders_dicts_b353 at h
  refine x_iconst (v := (0 : Int32)) (pc := 353) d_Holders_dicts_353 (by decide) ?_
  exact w_Holders_dicts_b354 hQ l0 l2 l3 (0 : Int32) t0 u h
def f_Holders_dicts_b248 (sc : xSc)  (l0 : Option Nat) (t0 : Int32) (t1 : Option Nat) (u : xH) : Option ((Unit ⊕ Nat) × xH) := (if xis sc u 0 t1 = true then tB (f_P_need sc u t1 t0 (9 : Int32)) (fun v3 u2 => (gI sc u2 0 14 l0).bind fun v7 => (pV u2 0 14 l0 (vI (v7 - (1 : Int32)))).bind fun u9 => f_Holders_dicts_b391 sc u9) (fun a5 u6 => some (.inr a5, u6)) else none)
theorem w_Holders_dicts_b248 {sc : xSc} {d : Nat} {Q : xR → xH → Prop} {oZ : Unit ⊕ Nat} {hZ : xH}  (hQ : Q (cvU oZ) hZ) (l0 : Option Nat) (t0 : Int32) (t1 : Option Nat) (u : xH) (h : f_Holders_dicts_b248 sc  l0 t0 t1 u = some (oZ, hZ)) : xW sc m_Holders_dicts (d + 10) Q (u) 248 [some (vR l0), none, none, none, none] [vI t0, vR t1] := by
  unfold f_Holders_dicts_b248 at h
  refine x_bipush (v := (9 : Int32)) (pc := 248) d_Holders_dicts_248 (by decide) ?_
  obtain ⟨c1, h⟩ := ite_some h
  rcases tB_s h with ⟨a5, u6, e4, h⟩ | ⟨v3, u2, e4, h⟩
  · refine c_invv (c := 0) (d := d + 9) (av := [vI t0, vI (9 : Int32)]) (st := []) (Q' := fun r h' => r = .inr a5 ∧ h' = u6) (pc := 250) d_Holders_dicts_250 cv_Holders_35 y_P_need c1 rfl (Nat.le_of_ble_eq_true rfl) (Nat.le_of_ble_eq_true rfl) (w_P_need (d := d + 3) (Q := fun r h' => r = .inr a5 ∧ h' = u6) ⟨rfl, rfl⟩ u t1 t0 (9 : Int32) e4) (fun v h' z => nomatch z.1) (fun a h' z => ?_)
    obtain ⟨z1, z2⟩ := z
    subst h'
    cases z1
    cases h
    exact x_thOut (xno rfl) hQ
  refine c_invv (c := 0) (d := d + 9) (av := [vI t0, vI (9 : Int32)]) (st := []) (Q' := fun r h' => r = .inl none ∧ h' = u2) (pc := 250) d_Holders_dicts_250 cv_Holders_35 y_P_need c1 rfl (Nat.le_of_ble_eq_true rfl) (Nat.le_of_ble_eq_true rfl) (w_P_need (d := d + 3) (Q := fun r h' => r = .inl none ∧ h' = u2) ⟨rfl, rfl⟩ u t1 t0 (9 : Int32) e4) (fun v h' z => ?_) (fun a h' z => nomatch z.1)
  obtain ⟨z1, z2⟩ := z
  subst h'
  cases z1
  show xW sc m_Holders_dicts (d + 10) Q (u2) 253 [some (vR l0), none, none, none, none] []
  refine x_aload_n (pc := 253) d_Holders_dicts_253 rfl ?_
  refine x_dup (pc := 254) d_Holders_dicts_254 rfl ?_
  obtain ⟨v7, e8, h⟩ := Option.bind_eq_some_iff.mp h
  refine c_getI (pc := 255) d_Holders_dicts_255 l_Holders_135 e8 ?_
  refine x_iconst (v := (1 : Int32)) (pc := 258) d_Holders_dicts_258 (by decide) ?_
  refine x_isub (pc := 259) d_Holders_dicts_259 ?_
  obtain ⟨u9, e10, h⟩ := Option.bind_eq_some_iff.mp h
  refine c_putf (pc := 260) d_Holders_dicts_260 l_Holders_135 fp_0_14 (xfit_int) e10 ?_
  refine x_goto (tgt := 391) (pc := 263) d_Holders_dicts_263 (by decide) ?_
  exact x_wk (L' := [none, none, none, none, none]) ⟨Or.inl rfl, Or.inl rfl, Or.inl rfl, Or.inl rfl, Or.inl rfl, trivial⟩ (w_Holders_dicts_b391 hQ u9 h)
def f_Holders_dicts_b196 (sc : xSc)  (l0 : Option Nat) (l2 : Option Nat) (t0 : Int32) (t1 : Option Nat) (u : xH) : Option ((Unit ⊕ Nat) × xH) := (if xis sc u 0 t1 = true then tB (f_P_need sc u t1 t0 (7 : Int32)) (fun v3 u2 => (gR sc u2 0 13 l0).bind fun v7 => (gI sc u2 0 14 l0).bind fun v9 => (pV u2 0 14 l0 (vI (v9 + (1 : Int32)))).bind fun u11 => (gR sc u11 2 7 l2).bind fun v13 => (bR "PageScribe$Dict" 4 sc u11 v7 v9 v13).bind fun u15 => (gI sc u15 0 9 l0).bind fun v17 => (pV u15 0 9 l0 (vI (v17 - (1 : Int32)))).bind fun u19 => f_Holders_dicts_b391 sc u19) (fun a5 u6 => some (.inr a5, u6)) else none)
theorem w_Holders_dicts_b196 {sc : xSc} {d : Nat} {Q : xR → xH → Prop} {oZ : Unit ⊕ Nat} {hZ : xH}  (hQ : Q (cvU oZ) hZ) (l0 : Option Nat) (l2 : Option Nat) (t0 : Int32) (t1 : Option Nat) (u : xH) (h : f_Holders_dicts_b196 sc  l0 l2 t0 t1 u = some (oZ, hZ)) : xW sc m_Holders_dicts (d + 10) Q (u) 196 [some (vR l0), none, some (vR l2), none, none] [vI t0, vR t1] := by
  unfold f_Holders_dicts_b196 at h
  refine x_bipush (v := (7 : Int32)) (pc := 196) d_Holders_dicts_196 (by decide) ?_
  obtain ⟨c1, h⟩ := ite_some h
  rcases tB_s h with ⟨a5, u6, e4, h⟩ | ⟨v3, u2, e4, h⟩
  · refine c_invv (c := 0) (d := d + 9) (av := [vI t0, vI (7 : Int32)]) (st := []) (Q' := fun r h' => r = .inr a5 ∧ h' = u6) (pc := 198) d_Holders_dicts_198 cv_Holders_35 y_P_need c1 rfl (Nat.le_of_ble_eq_true rfl) (Nat.le_of_ble_eq_true rfl) (w_P_need (d := d + 3) (Q := fun r h' => r = .inr a5 ∧ h' = u6) ⟨rfl, rfl⟩ u t1 t0 (7 : Int32) e4) (fun v h' z => nomatch z.1) (fun a h' z => ?_)
    obtain ⟨z1, z2⟩ := z
    subst h'
    cases z1
    cases h
    exact x_thOut (xno rfl) hQ
  refine c_invv (c := 0) (d := d + 9) (av := [vI t0, vI (7 : Int32)]) (st := []) (Q' := fun r h' => r = .inl none ∧ h' = u2) (pc := 198) d_Holders_dicts_198 cv_Holders_35 y_P_need c1 rfl (Nat.le_of_ble_eq_true rfl) (Nat.le_of_ble_eq_true rfl) (w_P_need (d := d + 3) (Q := fun r h' => r = .inl none ∧ h' = u2) ⟨rfl, rfl⟩ u t1 t0 (7 : Int32) e4) (fun v h' z => ?_) (fun a h' z => nomatch z.1)
  obtain ⟨z1, z2⟩ := z
  subst h'
  cases z1
  show xW sc m_Holders_dicts (d + 10) Q (u2) 201 [some (vR l0), none, some (vR l2), none, none] []
  refine x_aload_n (pc := 201) d_Holders_dicts_201 rfl ?_
  obtain ⟨v7, e8, h⟩ := Option.bind_eq_some_iff.mp h
  refine c_getR (pc := 202) d_Holders_dicts_202 l_Holders_131 e8 ?_
  refine x_aload_n (pc := 205) d_Holders_dicts_205 rfl ?_
  refine x_dup (pc := 206) d_Holders_dicts_206 rfl ?_
  obtain ⟨v9, e10, h⟩ := Option.bind_eq_some_iff.mp h
  refine c_getI (pc := 207) d_Holders_dicts_207 l_Holders_135 e10 ?_
  refine x_dup_x1 (pc := 210) d_Holders_dicts_210 rfl rfl ?_
  refine x_iconst (v := (1 : Int32)) (pc := 211) d_Holders_dicts_211 (by decide) ?_
  refine x_iadd (pc := 212) d_Holders_dicts_212 ?_
  obtain ⟨u11, e12, h⟩ := Option.bind_eq_some_iff.mp h
  refine c_putf (pc := 213) d_Holders_dicts_213 l_Holders_135 fp_0_14 (xfit_int) e12 ?_
  refine x_aload_n (pc := 216) d_Holders_dicts_216 rfl ?_
  obtain ⟨v13, e14, h⟩ := Option.bind_eq_some_iff.mp h
  refine c_getR (pc := 217) d_Holders_dicts_217 l_Holders_56 e14 ?_
  obtain ⟨u15, e16, h⟩ := Option.bind_eq_some_iff.mp h
  refine c_aast (C := "PageScribe$Dict") (c := 4) (pc := 220) d_Holders_dicts_220 ⟨_, rfl, Or.inl ⟨rfl, by decide, by decide⟩⟩ e16 ?_
  refine x_aload_n (pc := 221) d_Holders_dicts_221 rfl ?_
  refine x_dup (pc := 222) d_Holders_dicts_222 rfl ?_
  obtain ⟨v17, e18, h⟩ := Option.bind_eq_some_iff.mp h
  refine c_getI (pc := 223) d_Holders_dicts_223 l_Holders_83 e18 ?_
  refine x_iconst (v := (1 : Int32)) (pc := 226) d_Holders_dicts_226 (by decide) ?_
  refine x_isub (pc := 227) d_Holders_dicts_227 ?_
  obtain ⟨u19, e20, h⟩ := Option.bind_eq_some_iff.mp h
  refine c_putf (pc := 228) d_Holders_dicts_228 l_Holders_83 fp_0_9 (xfit_int) e20 ?_
  refine x_goto (tgt := 391) (pc := 231) d_Holders_dicts_231 (by decide) ?_
  exact x_wk (L' := [none, none, none, none, none]) ⟨Or.inl rfl, Or.inl rfl, Or.inl rfl, Or.inl rfl, Or.inl rfl, trivial⟩ (w_Holders_dicts_b391 hQ u19 h)
def f_Holders_dicts_b112 (sc : xSc)  (l0 : Option Nat) (l2 : Option Nat) (t0 : Int32) (t1 : Option Nat) (u : xH) : Option ((Unit ⊕ Nat) × xH) := (if xis sc u 0 t1 = true then tB (f_P_need sc u t1 t0 (7 : Int32)) (fun v3 u2 => (gR sc u2 0 12 l0).bind fun v7 => (nO 4 4 4 u2).bind fun u9 => (gR sc u9 0 12 l0).bind fun v11 => (if xis sc u9 17 v11 = true then (f_ArrayList_size sc u9 v11).bind fun v14 => (gI sc u9 2 2 l2).bind fun v16 => (if (some u2.2.1).isSome = true then (f_Dict_init sc u9 (some u2.2.1) v14 v16).bind fun u19 => (if xis sc u19 17 v7 = true then (f_ArrayList_add0 sc u19 v7 (some u2.2.1)).bind fun (v23, u22) => (gR sc u22 0 12 l0).bind fun v25 => (gR sc u22 0 12 l0).bind fun v27 => (if xis sc u22 17 v27 = true then (f_ArrayList_size sc u22 v27).bind fun v30 => (if xis sc u22 17 v25 = true then (f_ArrayList_get sc u22 v25 (v30 - (1 : Int32))).bind fun v33 => (if xis sc u22 4 v33 = true then (if xis sc u22 0 l0 = true then tB (f_P_giveDict sc u22 l0 (1 : Int32) v33) (fun v38 u37 => f_Holders_dicts_b391 sc u37) (fun a40 u41 => some (.inr a40, u41)) else none) else none) else none) else none) else none) else none) else none)) (fun a5 u6 => some (.inr a5, u6)) else none)
theorem w_Holders_dicts_b112 {sc : xSc} {d : Nat} {Q : xR → xH → Prop} {oZ : Unit ⊕ Nat} {hZ : xH}  (hQ : Q (cvU oZ) hZ) (l0 : Option Nat) (l2 : Option Nat) (t0 : Int32) (t1 : Option Nat) (u : xH) (h : f_Holders_dicts_b112 sc  l0 l2 t0 t1 u = some (oZ, hZ)) : xW sc m_Holders_dicts (d + 10) Q (u) 112 [some (vR l0), none, some (vR l2), none, none] [vI t0, vR t1] := by
  unfold f_Holders_dicts_b112 at h
  refine x_bipush (v := (7 : Int32)) (pc := 112) d_Holders_dicts_112 (by decide) ?_
  obtain ⟨c1, h⟩ := ite_some h
  rcases tB_s h with ⟨a5, u6, e4, h⟩ | ⟨v3, u2, e4, h⟩
  · refine c_invv (c := 0) (d := d + 9) (av := [vI t0, vI (7 : Int32)]) (st := []) (Q' := fun r h' => r = .inr a5 ∧ h' = u6) (pc := 114) d_Holders_dicts_114 cv_Holders_35 y_P_need c1 rfl (Nat.le_of_ble_eq_true rfl) (Nat.le_of_ble_eq_true rfl) (w_P_need (d := d + 3) (Q := fun r h' => r = .inr a5 ∧ h' = u6) ⟨rfl, rfl⟩ u t1 t0 (7 : Int32) e4) (fun v h' z => nomatch z.1) (fun a h' z => ?_)
    obtain ⟨z1, z2⟩ := z
    subst h'
    cases z1
    cases h
    exact x_thOut (xno rfl) hQ
  refine c_invv (c := 0) (d := d + 9) (av := [vI t0, vI (7 : Int32)]) (st := []) (Q' := fun r h' => r = .inl none ∧ h' = u2) (pc := 114) d_Holders_dicts_114 cv_Holders_35 y_P_need c1 rfl (Nat.le_of_ble_eq_true rfl) (Nat.le_of_ble_eq_true rfl) (w_P_need (d := d + 3) (Q := fun r h' => r = .inl none ∧ h' = u2) ⟨rfl, rfl⟩ u t1 t0 (7 : Int32) e4) (fun v h' z => ?_) (fun a h' z => nomatch z.1)
  obtain ⟨z1, z2⟩ := z
  subst h'
  cases z1
  show xW sc m_Holders_dicts (d + 10) Q (u2) 117 [some (vR l0), none, some (vR l2), none, none] []
  refine x_aload_n (pc := 117) d_Holders_dicts_117 rfl ?_
  obtain ⟨v7, e8, h⟩ := Option.bind_eq_some_iff.mp h
  refine c_getR (pc := 118) d_Holders_dicts_118 l_Holders_138 e8 ?_
  obtain ⟨u9, e10, h⟩ := Option.bind_eq_some_iff.mp h
  refine c_new (pc := 121) d_Holders_dicts_121 nw_Holders_61 ly_4 ⟨_, rfl, rfl⟩ e10 ?_
  refine x_dup (pc := 124) d_Holders_dicts_124 rfl ?_
  refine x_aload_n (pc := 125) d_Holders_dicts_125 rfl ?_
  obtain ⟨v11, e12, h⟩ := Option.bind_eq_some_iff.mp h
  refine c_getR (pc := 126) d_Holders_dicts_126 l_Holders_138 e12 ?_
  obtain ⟨c13, h⟩ := ite_some h
  obtain ⟨v14, e15, h⟩ := Option.bind_eq_some_iff.mp h
  refine c_invv (c := 17) (d := d + 9) (av := []) (st := [vR (some u2.2.1), vR (some u2.2.1), vR v7]) (Q' := fun r h' => r = .inl (some (vI v14)) ∧ h' = u9) (pc := 129) d_Holders_dicts_129 cv_Holders_141 y_ArrayList_size c13 rfl (Nat.le_of_ble_eq_true rfl) (Nat.le_of_ble_eq_true rfl) (w_ArrayList_size (d := d + 9) (Q := fun r h' => r = .inl (some (vI v14)) ∧ h' = u9) ⟨rfl, rfl⟩ v11 e15) (fun v h' z => ?_) (fun a h' z => nomatch z.1)
  obtain ⟨z1, z2⟩ := z
  subst h'
  cases z1
  show xW sc m_Holders_dicts (d + 10) Q (u9) 132 [some (vR l0), none, some (vR l2), none, none] [vI v14, vR (some u2.2.1), vR (some u2.2.1), vR v7]
  refine x_aload_n (pc := 132) d_Holders_dicts_132 rfl ?_
  obtain ⟨v16, e17, h⟩ := Option.bind_eq_some_iff.mp h
  refine c_getI (pc := 133) d_Holders_dicts_133 l_Holders_31 e17 ?_
  obtain ⟨c18, h⟩ := ite_some h
  obtain ⟨u19, e20, h⟩ := Option.bind_eq_some_iff.mp h
  refine c_invi (d := d + 9) (av := [vI v14, vI v16]) (st := [vR (some u2.2.1), vR v7]) (Q' := fun r h' => r = .inl none ∧ h' = u19) (pc := 136) d_Holders_dicts_136 ci_Holders_145 y_Dict_init (tw_3 (List.mem_of_getElem? (i := 32) rfl)) c18 rfl (Nat.le_of_ble_eq_true rfl) (Nat.le_of_ble_eq_true rfl) (w_Dict_init (d := d + 8) (Q := fun r h' => r = .inl none ∧ h' = u19) ⟨rfl, rfl⟩ u9 (some u2.2.1) v14 v16 e20) (fun v h' z => ?_) (fun a h' z => nomatch z.1)
  obtain ⟨z1, z2⟩ := z
  subst h'
  cases z1
  show xW sc m_Holders_dicts (d + 10) Q (u19) 139 [some (vR l0), none, some (vR l2), none, none] [vR (some u2.2.1), vR v7]
  obtain ⟨c21, h⟩ := ite_some h
  obtain ⟨⟨v23, u22⟩, e24, h⟩ := Option.bind_eq_some_iff.mp h
  dsimp only at h
  refine c_invv (c := 17) (d := d + 9) (av := [vR (some u2.2.1)]) (st := []) (Q' := fun r h' => r = .inl (some (vI v23)) ∧ h' = u22) (pc := 139) d_Holders_dicts_139 cv_Holders_148 y_ArrayList_add0 c21 rfl (Nat.le_of_ble_eq_true rfl) (Nat.le_of_ble_eq_true rfl) (w_ArrayList_add0 (d := d + 8) (Q := fun r h' => r = .inl (some (vI v23)) ∧ h' = u22) ⟨rfl, rfl⟩ u19 v7 (some u2.2.1) e24) (fun v h' z => ?_) (fun a h' z => nomatch z.1)
  obtain ⟨z1, z2⟩ := z
  subst h'
  cases z1
  show xW sc m_Holders_dicts (d + 10) Q (u22) 142 [some (vR l0), none, some (vR l2), none, none] [vI v23]
  refine x_pop (pc := 142) d_Holders_dicts_142 rfl ?_
  refine x_aload_n (pc := 143) d_Holders_dicts_143 rfl ?_
  refine x_iconst (v := (1 : Int32)) (pc := 144) d_Holders_dicts_144 (by decide) ?_
  refine x_aload_n (pc := 145) d_Holders_dicts_145 rfl ?_
  obtain ⟨v25, e26, h⟩ := Option.bind_eq_some_iff.mp h
  refine c_getR (pc := 146) d_Holders_dicts_146 l_Holders_138 e26 ?_
  refine x_aload_n (pc := 149) d_Holders_dicts_149 rfl ?_
  obtain ⟨v27, e28, h⟩ := Option.bind_eq_some_iff.mp h
  refine c_getR (pc := 150) d_Holders_dicts_150 l_Holders_138 e28 ?_
  obtain ⟨c29, h⟩ := ite_some h
  obtain ⟨v30, e31, h⟩ := Option.bind_eq_some_iff.mp h
  refine c_invv (c := 17) (d := d + 9) (av := []) (st := [vR v25, vI (1 : Int32), vR l0]) (Q' := fun r h' => r = .inl (some (vI v30)) ∧ h' = u22) (pc := 153) d_Holders_dicts_153 cv_Holders_141 y_ArrayList_size c29 rfl (Nat.le_of_ble_eq_true rfl) (Nat.le_of_ble_eq_true rfl) (w_ArrayList_size (d := d + 9) (Q := fun r h' => r = .inl (some (vI v30)) ∧ h' = u22) ⟨rfl, rfl⟩ v27 e31) (fun v h' z => ?_) (fun a h' z => nomatch z.1)
  obtain ⟨z1, z2⟩ := z
  subst h'
  cases z1
  show xW sc m_Holders_dicts (d + 10) Q (u22) 156 [some (vR l0), none, some (vR l2), none, none] [vI v30, vR v25, vI (1 : Int32), vR l0]
  refine x_iconst (v := (1 : Int32)) (pc := 156) d_Holders_dicts_156 (by decide) ?_
  refine x_isub (pc := 157) d_Holders_dicts_157 ?_
  obtain ⟨c32, h⟩ := ite_some h
  obtain ⟨v33, e34, h⟩ := Option.bind_eq_some_iff.mp h
  refine c_invv (c := 17) (d := d + 9) (av := [vI (v30 - (1 : Int32))]) (st := [vI (1 : Int32), vR l0]) (Q' := fun r h' => r = .inl (some (vR v33)) ∧ h' = u22) (pc := 158) d_Holders_dicts_158 cv_Holders_152 y_ArrayList_get c32 rfl (Nat.le_of_ble_eq_true rfl) (Nat.le_of_ble_eq_true rfl) (w_ArrayList_get (d := d + 7) (Q := fun r h' => r = .inl (some (vR v33)) ∧ h' = u22) ⟨rfl, rfl⟩ v25 (v30 - (1 : Int32)) e34) (fun v h' z => ?_) (fun a h' z => nomatch z.1)
  obtain ⟨z1, z2⟩ := z
  subst h'
  cases z1
  show xW sc m_Holders_dicts (d + 10) Q (u22) 161 [some (vR l0), none, some (vR l2), none, none] [vR v33, vI (1 : Int32), vR l0]
  obtain ⟨c35, h⟩ := ite_some h
  refine c_chk (c := 4) (pc := 161) d_Holders_dicts_161 kl_Holders_61 ⟨_, rfl, tw_10 (List.mem_of_getElem? (i := 76) rfl)⟩ c35 ?_
  obtain ⟨c36, h⟩ := ite_some h
  rcases tB_s h with ⟨a40, u41, e39, h⟩ | ⟨v38, u37, e39, h⟩
  · refine c_invv (c := 0) (d := d + 9) (av := [vI (1 : Int32), vR v33]) (st := []) (Q' := fun r h' => r = .inr a40 ∧ h' = u41) (pc := 164) d_Holders_dicts_164 cv_Holders_155 y_P_giveDict c36 rfl (Nat.le_of_ble_eq_true rfl) (Nat.le_of_ble_eq_true rfl) (w_P_giveDict (d := d + 0) (Q := fun r h' => r = .inr a40 ∧ h' = u41) ⟨rfl, rfl⟩ u22 l0 (1 : Int32) v33 e39) (fun v h' z => nomatch z.1) (fun a h' z => ?_)
    obtain ⟨z1, z2⟩ := z
    subst h'
    cases z1
    cases h
    exact x_thOut (xno rfl) hQ
  refine c_invv (c := 0) (d := d + 9) (av := [vI (1 : Int32), vR v33]) (st := []) (Q' := fun r h' => r = .inl none ∧ h' = u37) (pc := 164) d_Holders_dicts_164 cv_Holders_155 y_P_giveDict c36 rfl (Nat.le_of_ble_eq_true rfl) (Nat.le_of_ble_eq_true rfl) (w_P_giveDict (d := d + 0) (Q := fun r h' => r = .inl none ∧ h' = u37) ⟨rfl, rfl⟩ u22 l0 (1 : Int32) v33 e39) (fun v h' z => ?_) (fun a h' z => nomatch z.1)
  obtain ⟨z1, z2⟩ := z
  subst h'
  cases z1
  show xW sc m_Holders_dicts (d + 10) Q (u37) 167 [some (vR l0), none, some (vR l2), none, none] []
  refine x_goto (tgt := 391) (pc := 167) d_Holders_dicts_167 (by decide) ?_
  exact x_wk (L' := [none, none, none, none, none]) ⟨Or.inl rfl, Or.inl rfl, Or.inl rfl, Or.inl rfl, Or.inl rfl, trivial⟩ (w_Holders_dicts_b391 hQ u37 h)
def f_Holders_dicts_b90 (sc : xSc)  (l0 : Option Nat) (l2 : Option Nat) (t0 : Int32) (t1 : Option Nat) (u : xH) : Option ((Unit ⊕ Nat) × xH) := (if xis sc u 0 t1 = true then tB (f_P_need sc u t1 t0 (4 : Int32)) (fun v3 u2 => (gR sc u2 0 12 l0).bind fun v7 => (if xis sc u2 17 v7 = true then (f_ArrayList_size sc u2 v7).bind fun v10 => (if (7 : Int32) ≤ v10 then f_Holders_dicts_b112 sc l0 l2 (0 : Int32) l0 u2 else f_Holders_dicts_b112 sc l0 l2 (1 : Int32) l0 u2) else none)) (fun a5 u6 => some (.inr a5, u6)) else none)
theorem w_Holders_dicts_b90 {sc : xSc} {d : Nat} {Q : xR → xH → Prop} {oZ : Unit ⊕ Nat} {hZ : xH}  (hQ : Q (cvU oZ) hZ) (l0 : Option Nat) (l2 : Option Nat) (t0 : Int32) (t1 : Option Nat) (u : xH) (h : f_Holders_dicts_b90 sc  l0 l2 t0 t1 u = some (oZ, hZ)) : xW sc m_Holders_dicts (d + 10) Q (u) 90 [some (vR l0), none, some (vR l2), none, none] [vI t0, vR t1] := by
  unfold f_Holders_dicts_b90 at h
  refine x_iconst (v := (4 : Int32)) (pc := 90) d_Holders_dicts_90 (by decide) ?_
  obtain ⟨c1, h⟩ := ite_some h
  rcases tB_s h with ⟨a5, u6, e4, h⟩ | ⟨v3, u2, e4, h⟩
  · refine c_invv (c := 0) (d := d + 9) (av := [vI t0, vI (4 : Int32)]) (st := []) (Q' := fun r h' => r = .inr a5 ∧ h' = u6) (pc := 91) d_Holders_dicts_91 cv_Holders_35 y_P_need c1 rfl (Nat.le_of_ble_eq_true rfl) (Nat.le_of_ble_eq_true rfl) (w_P_need (d := d + 3) (Q := fun r h' => r = .inr a5 ∧ h' = u6) ⟨rfl, rfl⟩ u t1 t0 (4 : Int32) e4) (fun v h' z => nomatch z.1) (fun a h' z => ?_)
    obtain ⟨z1, z2⟩ := z
    subst h'
    cases z1
    cases h
    exact x_thOut (xno rfl) hQ
  refine c_invv (c := 0) (d := d + 9) (av := [vI t0, vI (4 : Int32)]) (st := []) (Q' := fun r h' => r = .inl none ∧ h' = u2) (pc := 91) d_Holders_dicts_91 cv_Holders_35 y_P_need c1 rfl (Nat.le_of_ble_eq_true rfl) (Nat.le_of_ble_eq_true rfl) (w_P_need (d := d + 3) (Q := fun r h' => r = .inl none ∧ h' = u2) ⟨rfl, rfl⟩ u t1 t0 (4 : Int32) e4) (fun v h' z => ?_) (fun a h' z => nomatch z.1)
  obtain ⟨z1, z2⟩ := z
  subst h'
  cases z1
  show xW sc m_Holders_dicts (d + 10) Q (u2) 94 [some (vR l0), none, some (vR l2), none, none] []
  refine x_aload_n (pc := 94) d_Holders_dicts_94 rfl ?_
  refine x_aload_n (pc := 95) d_Holders_dicts_95 rfl ?_
  obtain ⟨v7, e8, h⟩ := Option.bind_eq_some_iff.mp h
  refine c_getR (pc := 96) d_Holders_dicts_96 l_Holders_138 e8 ?_
  obtain ⟨c9, h⟩ := ite_some h
  obtain ⟨v10, e11, h⟩ := Option.bind_eq_some_iff.mp h
  refine c_invv (c := 17) (d := d + 9) (av := []) (st := [vR l0]) (Q' := fun r h' => r = .inl (some (vI v10)) ∧ h' = u2) (pc := 99) d_Holders_dicts_99 cv_Holders_141 y_ArrayList_size c9 rfl (Nat.le_of_ble_eq_true rfl) (Nat.le_of_ble_eq_true rfl) (w_ArrayList_size (d := d + 9) (Q := fun r h' => r = .inl (some (vI v10)) ∧ h' = u2) ⟨rfl, rfl⟩ v7 e11) (fun v h' z => ?_) (fun a h' z => nomatch z.1)
  obtain ⟨z1, z2⟩ := z
  subst h'
  cases z1
  show xW sc m_Holders_dicts (d + 10) Q (u2) 102 [some (vR l0), none, some (vR l2), none, none] [vI v10, vR l0]
  refine x_bipush (v := (7 : Int32)) (pc := 102) d_Holders_dicts_102 (by decide) ?_
  refine x_icmp_ge (tgt := 111) (pc := 104) d_Holders_dicts_104 (by decide) (fun c12 => ?_) (fun c12 => ?_)
  · rw [if_pos c12] at h
    refine x_iconst (v := (0 : Int32)) (pc := 111) d_Holders_dicts_111 (by decide) ?_
    exact w_Holders_dicts_b112 hQ l0 l2 (0 : Int32) l0 u2 h
  · rw [if_neg c12] at h
    refine x_iconst (v := (1 : Int32)) (pc := 107) d_Holders_dicts_107 (by decide) ?_
    refine x_goto (tgt := 112) (pc := 108) d_Holders_dicts_108 (by decide) ?_
    exact w_Holders_dicts_b112 hQ l0 l2 (1 : Int32) l0 u2 h
def f_Holders_dicts_b89 (sc : xSc)  (l0 : Option Nat) (l2 : Option Nat) (t0 : Option Nat) (u : xH) : Option ((Unit ⊕ Nat) × xH) := f_Holders_dicts_b90 sc l0 l2 (0 : Int32) t0 u
theorem w_Holders_dicts_b89 {sc : xSc} {d : Nat} {Q : xR → xH → Prop} {oZ : Unit ⊕ Nat} {hZ : xH}  (hQ : Q (cvU oZ) hZ) (l0 : Option Nat) (l2 : Option Nat) (t0 : Option Nat) (u : xH) (h : f_Holders_dicts_b89 sc  l0 l2 t0 u = some (oZ, hZ)) : xW sc m_Holders_dicts (d + 10) Q (u) 89 [some (vR l0), none, some (vR l2), none, none] [vR t0] := by
  unfold f_Holders_dicts_b89 at h
  refine x_iconst (v := (0 : Int32)) (pc := 89) d_Holders_dicts_89 (by decide) ?_
  exact w_Holders_dicts_b90 hQ l0 l2 (0 : Int32) t0 u h
def f_Holders_dicts (sc : xSc) (u : xH) (a1 : Option Nat) (a2 : Option Nat) (a3 : Option Nat) (a4 : Option Nat) : Option ((Unit ⊕ Nat) × xH) := (gR sc u 0 13 a1).bind fun v1 => (gI sc u 0 14 a1).bind fun v3 => (aR sc u v1 (v3 - (1 : Int32))).bind fun v5 => (if xis sc u 19 a2 = true then (f_Enum_ordinal19 sc u a2).bind fun v8 => (if v8 = (45 : Int32) then (if xis sc u 2 a3 = true then (f_Slot_is sc u a3 (some 72)).bind fun v12 => (if xis sc u 0 a1 = true then tB (f_P_type sc u a1 v12) (fun v16 u15 => (gI sc u15 2 2 a3).bind fun v20 => (if v20 < (1 : Int32) then f_Holders_dicts_b89 sc a1 a3 a1 u15 else (gI sc u15 2 2 a3).bind fun v23 => (if (10 : Int32) < v23 then f_Holders_dicts_b89 sc a1 a3 a1 u15 else f_Holders_dicts_b90 sc a1 a3 (1 : Int32) a1 u15))) (fun a18 u19 => some (.inr a18, u19)) else none) else none) else (if v8 = (46 : Int32) then (if xis sc u 2 a3 = true then (f_Slot_is sc u a3 (some 78)).bind fun v28 => (if xis sc u 0 a1 = true then tB (f_P_type sc u a1 v28) (fun v32 u31 => (gI sc u31 0 14 a1).bind fun v36 => (if (6 : Int32) ≤ v36 then f_Holders_dicts_b196 sc a1 a3 (0 : Int32) a1 u31 else f_Holders_dicts_b196 sc a1 a3 (1 : Int32) a1 u31)) (fun a34 u35 => some (.inr a34, u35)) else none) else none) else (if v8 = (47 : Int32) then (gI sc u 0 14 a1).bind fun v40 => (if v40 ≤ (1 : Int32) then f_Holders_dicts_b248 sc a1 (0 : Int32) a1 u else f_Holders_dicts_b248 sc a1 (1 : Int32) a1 u) else (if v8 = (48 : Int32) then (if xis sc u 2 a3 = true then (f_Slot_is sc u a3 (some 75)).bind fun v45 => (if xis sc u 0 a1 = true then tB (f_P_type sc u a1 v45) (fun v49 u48 => (gR sc u48 2 6 a3).bind fun v53 => (if xis sc u48 0 a1 = true then tB (f_P_define sc u48 a1 v5 v53 a4) (fun v57 u56 => (gI sc u56 0 9 a1).bind fun v61 => (pV u56 0 9 a1 (vI (v61 - (2 : Int32)))).bind fun u63 => f_Holders_dicts_b391 sc u63) (fun a59 u60 => some (.inr a59, u60)) else none)) (fun a51 u52 => some (.inr a51, u52)) else none) else none) else (if v8 = (49 : Int32) then (if xis sc u 2 a3 = true then (f_Slot_is sc u a3 (some 75)).bind fun v67 => (if xis sc u 0 a1 = true then tB (f_P_type sc u a1 v67) (fun v71 u70 => (gR sc u70 2 6 a3).bind fun v75 => (if xis sc u70 0 a1 = true then (f_P_find sc u70 a1 v75).bind fun v78 => (if xis sc u70 0 a1 = true then tB (f_P_found sc u70 a1 a3 v78) (fun v82 u81 => f_Holders_dicts_b391 sc u81) (fun a84 u85 => some (.inr a84, u85)) else none) else none)) (fun a73 u74 => some (.inr a73, u74)) else none) else none) else (if v8 = (50 : Int32) then (if xis sc u 2 a3 = true then (f_Slot_is sc u a3 (some 78)).bind fun v88 => (if v88 = 0 then f_Holders_dicts_b353 sc a1 a3 a4 a1 u else (if xis sc u 2 a4 = true then (f_Slot_is sc u a4 (some 75)).bind fun v92 => (if v92 = 0 then f_Holders_dicts_b353 sc a1 a3 a4 a1 u else f_Holders_dicts_b354 sc a1 a3 a4 (1 : Int32) a1 u) else none)) else none) else (if xis sc u 0 a1 = true then tB (f_P_giveDict sc u a1 (0 : Int32) v5) (fun v97 u96 => f_Holders_dicts_b391 sc u96) (fun a99 u100 => some (.inr a99, u100)) else none))))))) else none)
theorem w_Holders_dicts {sc : xSc} {d : Nat} {Q : xR → xH → Prop} {oZ : Unit ⊕ Nat} {hZ : xH} (hQ : Q (cvU oZ) hZ) (u : xH) (a1 : Option Nat) (a2 : Option Nat) (a3 : Option Nat) (a4 : Option Nat) (h : f_Holders_dicts sc u a1 a2 a3 a4 = some (oZ, hZ)) : xW sc m_Holders_dicts (d + 10) Q (u) 0 (xent [vR a1, vR a2, vR a3, vR a4] m_Holders_dicts.2.2.1) [] := by
  show xW sc m_Holders_dicts (d + 10) Q (u) 0 [some (vR a1), some (vR a2), some (vR a3), some (vR a4), none] []
  unfold f_Holders_dicts at h
  refine x_aload_n (pc := 0) d_Holders_dicts_0 rfl ?_
  obtain ⟨v1, e2, h⟩ := Option.bind_eq_some_iff.mp h
  refine c_getR (pc := 1) d_Holders_dicts_1 l_Holders_131 e2 ?_
  refine x_aload_n (pc := 4) d_Holders_dicts_4 rfl ?_
  obtain ⟨v3, e4, h⟩ := Option.bind_eq_some_iff.mp h
  refine c_getI (pc := 5) d_Holders_dicts_5 l_Holders_135 e4 ?_
  refine x_iconst (v := (1 : Int32)) (pc := 8) d_Holders_dicts_8 (by decide) ?_
  refine x_isub (pc := 9) d_Holders_dicts_9 ?_
  obtain ⟨v5, e6, h⟩ := Option.bind_eq_some_iff.mp h
  refine c_aald (pc := 10) d_Holders_dicts_10 e6 ?_
  refine x_astore (pc := 11) d_Holders_dicts_11 (by decide) ?_
  show xW sc m_Holders_dicts (d + 10) Q (u) 13 [some (vR a1), some (vR a2), some (vR a3), some (vR a4), some (vR v5)] []
  refine x_aload_n (pc := 13) d_Holders_dicts_13 rfl ?_
  obtain ⟨c7, h⟩ := ite_some h
  obtain ⟨v8, e9, h⟩ := Option.bind_eq_some_iff.mp h
  refine c_invu (c := 19) (d := d + 9) (av := []) (st := []) (Q' := fun r h' => r = .inl (some (vI v8)) ∧ h' = u) (pc := 14) d_Holders_dicts_14 cw_Holders_9_19 y_Enum_ordinal c7 rfl (Nat.le_of_ble_eq_true rfl) (Nat.le_of_ble_eq_true rfl) (w_Enum_ordinal19 (d := d + 9) (Q := fun r h' => r = .inl (some (vI v8)) ∧ h' = u) ⟨rfl, rfl⟩ a2 e9) (fun v h' z => ?_) (fun a h' z => nomatch z.1)
  obtain ⟨z1, z2⟩ := z
  subst h'
  cases z1
  show xW sc m_Holders_dicts (d + 10) Q (u) 17 [some (vR a1), some (vR a2), some (vR a3), some (vR a4), some (vR v5)] [vI v8]
  by_cases c10 : v8 = (45 : Int32)
  · rw [if_pos c10] at h
    refine x_tableIn (off := 39) (tgt := 56) (pc := 17) d_Holders_dicts_17 (by rw [c10]; decide) (by rw [c10]; decide) (by rw [c10]; decide) (by decide) ?_
    refine x_aload_n (pc := 56) d_Holders_dicts_56 rfl ?_
    refine x_aload_n (pc := 57) d_Holders_dicts_57 rfl ?_
    refine x_gets (v := vR (some 72)) (pc := 58) d_Holders_dicts_58 sl_Holders_15 ?_
    obtain ⟨c11, h⟩ := ite_some h
    obtain ⟨v12, e13, h⟩ := Option.bind_eq_some_iff.mp h
    refine c_invv (c := 2) (d := d + 9) (av := [vR (some 72)]) (st := [vR a1]) (Q' := fun r h' => r = .inl (some (vI v12)) ∧ h' = u) (pc := 61) d_Holders_dicts_61 cv_Holders_21 y_Slot_is c11 rfl (Nat.le_of_ble_eq_true rfl) (Nat.le_of_ble_eq_true rfl) (w_Slot_is (d := d + 9) (Q := fun r h' => r = .inl (some (vI v12)) ∧ h' = u) ⟨rfl, rfl⟩ a3 (some 72) e13) (fun v h' z => ?_) (fun a h' z => nomatch z.1)
    obtain ⟨z1, z2⟩ := z
    subst h'
    cases z1
    show xW sc m_Holders_dicts (d + 10) Q (u) 64 [some (vR a1), some (vR a2), some (vR a3), some (vR a4), some (vR v5)] [vI v12, vR a1]
    obtain ⟨c14, h⟩ := ite_some h
    rcases tB_s h with ⟨a18, u19, e17, h⟩ | ⟨v16, u15, e17, h⟩
    · refine c_invv (c := 0) (d := d + 9) (av := [vI v12]) (st := []) (Q' := fun r h' => r = .inr a18 ∧ h' = u19) (pc := 64) d_Holders_dicts_64 cv_Holders_27 y_P_type c14 rfl (Nat.le_of_ble_eq_true rfl) (Nat.le_of_ble_eq_true rfl) (w_P_type (d := d + 2) (Q := fun r h' => r = .inr a18 ∧ h' = u19) ⟨rfl, rfl⟩ u a1 v12 e17) (fun v h' z => nomatch z.1) (fun a h' z => ?_)
      obtain ⟨z1, z2⟩ := z
      subst h'
      cases z1
      cases h
      exact x_thOut (xno rfl) hQ
    refine c_invv (c := 0) (d := d + 9) (av := [vI v12]) (st := []) (Q' := fun r h' => r = .inl none ∧ h' = u15) (pc := 64) d_Holders_dicts_64 cv_Holders_27 y_P_type c14 rfl (Nat.le_of_ble_eq_true rfl) (Nat.le_of_ble_eq_true rfl) (w_P_type (d := d + 2) (Q := fun r h' => r = .inl none ∧ h' = u15) ⟨rfl, rfl⟩ u a1 v12 e17) (fun v h' z => ?_) (fun a h' z => nomatch z.1)
    obtain ⟨z1, z2⟩ := z
    subst h'
    cases z1
    show xW sc m_Holders_dicts (d + 10) Q (u15) 67 [some (vR a1), some (vR a2), some (vR a3), some (vR a4), some (vR v5)] []
    refine x_aload_n (pc := 67) d_Holders_dicts_67 rfl ?_
    refine x_aload_n (pc := 68) d_Holders_dicts_68 rfl ?_
    obtain ⟨v20, e21, h⟩ := Option.bind_eq_some_iff.mp h
    refine c_getI (pc := 69) d_Holders_dicts_69 l_Holders_31 e21 ?_
    refine x_iconst (v := (1 : Int32)) (pc := 72) d_Holders_dicts_72 (by decide) ?_
    refine x_icmp_lt (tgt := 89) (pc := 73) d_Holders_dicts_73 (by decide) (fun c22 => ?_) (fun c22 => ?_)
    · rw [if_pos c22] at h
      exact x_wk (L' := [some (vR a1), none, some (vR a3), none, none]) ⟨Or.inr rfl, Or.inl rfl, Or.inr rfl, Or.inl rfl, Or.inl rfl, trivial⟩ (w_Holders_dicts_b89 hQ a1 a3 a1 u15 h)
    · rw [if_neg c22] at h
      refine x_aload_n (pc := 76) d_Holders_dicts_76 rfl ?_
      obtain ⟨v23, e24, h⟩ := Option.bind_eq_some_iff.mp h
      refine c_getI (pc := 77) d_Holders_dicts_77 l_Holders_31 e24 ?_
      refine x_bipush (v := (10 : Int32)) (pc := 80) d_Holders_dicts_80 (by decide) ?_
      refine x_icmp_gt (tgt := 89) (pc := 82) d_Holders_dicts_82 (by decide) (fun c25 => ?_) (fun c25 => ?_)
      · rw [if_pos c25] at h
        exact x_wk (L' := [some (vR a1), none, some (vR a3), none, none]) ⟨Or.inr rfl, Or.inl rfl, Or.inr rfl, Or.inl rfl, Or.inl rfl, trivial⟩ (w_Holders_dicts_b89 hQ a1 a3 a1 u15 h)
      · rw [if_neg c25] at h
        refine x_iconst (v := (1 : Int32)) (pc := 85) d_Holders_dicts_85 (by decide) ?_
        refine x_goto (tgt := 90) (pc := 86) d_Holders_dicts_86 (by decide) ?_
        exact x_wk (L' := [some (vR a1), none, some (vR a3), none, none]) ⟨Or.inr rfl, Or.inl rfl, Or.inr rfl, Or.inl rfl, Or.inl rfl, trivial⟩ (w_Holders_dicts_b90 hQ a1 a3 (1 : Int32) a1 u15 h)
  rw [if_neg c10] at h
  by_cases c26 : v8 = (46 : Int32)
  · rw [if_pos c26] at h
    refine x_tableIn (off := 153) (tgt := 170) (pc := 17) d_Holders_dicts_17 (by rw [c26]; decide) (by rw [c26]; decide) (by rw [c26]; decide) (by decide) ?_
    refine x_aload_n (pc := 170) d_Holders_dicts_170 rfl ?_
    refine x_aload_n (pc := 171) d_Holders_dicts_171 rfl ?_
    refine x_gets (v := vR (some 78)) (pc := 172) d_Holders_dicts_172 sl_Holders_50 ?_
    obtain ⟨c27, h⟩ := ite_some h
    obtain ⟨v28, e29, h⟩ := Option.bind_eq_some_iff.mp h
    refine c_invv (c := 2) (d := d + 9) (av := [vR (some 78)]) (st := [vR a1]) (Q' := fun r h' => r = .inl (some (vI v28)) ∧ h' = u) (pc := 175) d_Holders_dicts_175 cv_Holders_21 y_Slot_is c27 rfl (Nat.le_of_ble_eq_true rfl) (Nat.le_of_ble_eq_true rfl) (w_Slot_is (d := d + 9) (Q := fun r h' => r = .inl (some (vI v28)) ∧ h' = u) ⟨rfl, rfl⟩ a3 (some 78) e29) (fun v h' z => ?_) (fun a h' z => nomatch z.1)
    obtain ⟨z1, z2⟩ := z
    subst h'
    cases z1
    show xW sc m_Holders_dicts (d + 10) Q (u) 178 [some (vR a1), some (vR a2), some (vR a3), some (vR a4), some (vR v5)] [vI v28, vR a1]
    obtain ⟨c30, h⟩ := ite_some h
    rcases tB_s h with ⟨a34, u35, e33, h⟩ | ⟨v32, u31, e33, h⟩
    · refine c_invv (c := 0) (d := d + 9) (av := [vI v28]) (st := []) (Q' := fun r h' => r = .inr a34 ∧ h' = u35) (pc := 178) d_Holders_dicts_178 cv_Holders_27 y_P_type c30 rfl (Nat.le_of_ble_eq_true rfl) (Nat.le_of_ble_eq_true rfl) (w_P_type (d := d + 2) (Q := fun r h' => r = .inr a34 ∧ h' = u35) ⟨rfl, rfl⟩ u a1 v28 e33) (fun v h' z => nomatch z.1) (fun a h' z => ?_)
      obtain ⟨z1, z2⟩ := z
      subst h'
      cases z1
      cases h
      exact x_thOut (xno rfl) hQ
    refine c_invv (c := 0) (d := d + 9) (av := [vI v28]) (st := []) (Q' := fun r h' => r = .inl none ∧ h' = u31) (pc := 178) d_Holders_dicts_178 cv_Holders_27 y_P_type c30 rfl (Nat.le_of_ble_eq_true rfl) (Nat.le_of_ble_eq_true rfl) (w_P_type (d := d + 2) (Q := fun r h' => r = .inl none ∧ h' = u31) ⟨rfl, rfl⟩ u a1 v28 e33) (fun v h' z => ?_) (fun a h' z => nomatch z.1)
    obtain ⟨z1, z2⟩ := z
    subst h'
    cases z1
    show xW sc m_Holders_dicts (d + 10) Q (u31) 181 [some (vR a1), some (vR a2), some (vR a3), some (vR a4), some (vR v5)] []
    refine x_aload_n (pc := 181) d_Holders_dicts_181 rfl ?_
    refine x_aload_n (pc := 182) d_Holders_dicts_182 rfl ?_
    obtain ⟨v36, e37, h⟩ := Option.bind_eq_some_iff.mp h
    refine c_getI (pc := 183) d_Holders_dicts_183 l_Holders_135 e37 ?_
    refine x_bipush (v := (6 : Int32)) (pc := 186) d_Holders_dicts_186 (by decide) ?_
    refine x_icmp_ge (tgt := 195) (pc := 188) d_Holders_dicts_188 (by decide) (fun c38 => ?_) (fun c38 => ?_)
    · rw [if_pos c38] at h
      refine x_iconst (v := (0 : Int32)) (pc := 195) d_Holders_dicts_195 (by decide) ?_
      exact x_wk (L' := [some (vR a1), none, some (vR a3), none, none]) ⟨Or.inr rfl, Or.inl rfl, Or.inr rfl, Or.inl rfl, Or.inl rfl, trivial⟩ (w_Holders_dicts_b196 hQ a1 a3 (0 : Int32) a1 u31 h)
    · rw [if_neg c38] at h
      refine x_iconst (v := (1 : Int32)) (pc := 191) d_Holders_dicts_191 (by decide) ?_
      refine x_goto (tgt := 196) (pc := 192) d_Holders_dicts_192 (by decide) ?_
      exact x_wk (L' := [some (vR a1), none, some (vR a3), none, none]) ⟨Or.inr rfl, Or.inl rfl, Or.inr rfl, Or.inl rfl, Or.inl rfl, trivial⟩ (w_Holders_dicts_b196 hQ a1 a3 (1 : Int32) a1 u31 h)
  rw [if_neg c26] at h
  by_cases c39 : v8 = (47 : Int32)
  · rw [if_pos c39] at h
    refine x_tableIn (off := 217) (tgt := 234) (pc := 17) d_Holders_dicts_17 (by rw [c39]; decide) (by rw [c39]; decide) (by rw [c39]; decide) (by decide) ?_
    refine x_aload_n (pc := 234) d_Holders_dicts_234 rfl ?_
    refine x_aload_n (pc := 235) d_Holders_dicts_235 rfl ?_
    obtain ⟨v40, e41, h⟩ := Option.bind_eq_some_iff.mp h
    refine c_getI (pc := 236) d_Holders_dicts_236 l_Holders_135 e41 ?_
    refine x_iconst (v := (1 : Int32)) (pc := 239) d_Holders_dicts_239 (by decide) ?_
    refine x_icmp_le (tgt := 247) (pc := 240) d_Holders_dicts_240 (by decide) (fun c42 => ?_) (fun c42 => ?_)
    · rw [if_pos c42] at h
      refine x_iconst (v := (0 : Int32)) (pc := 247) d_Holders_dicts_247 (by decide) ?_
      exact x_wk (L' := [some (vR a1), none, none, none, none]) ⟨Or.inr rfl, Or.inl rfl, Or.inl rfl, Or.inl rfl, Or.inl rfl, trivial⟩ (w_Holders_dicts_b248 hQ a1 (0 : Int32) a1 u h)
    · rw [if_neg c42] at h
      refine x_iconst (v := (1 : Int32)) (pc := 243) d_Holders_dicts_243 (by decide) ?_
      refine x_goto (tgt := 248) (pc := 244) d_Holders_dicts_244 (by decide) ?_
      exact x_wk (L' := [some (vR a1), none, none, none, none]) ⟨Or.inr rfl, Or.inl rfl, Or.inl rfl, Or.inl rfl, Or.inl rfl, trivial⟩ (w_Holders_dicts_b248 hQ a1 (1 : Int32) a1 u h)
  rw [if_neg c39] at h
  by_cases c43 : v8 = (48 : Int32)
  · rw [if_pos c43] at h
    refine x_tableIn (off := 249) (tgt := 266) (pc := 17) d_Holders_dicts_17 (by rw [c43]; decide) (by rw [c43]; decide) (by rw [c43]; decide) (by decide) ?_
    refine x_aload_n (pc := 266) d_Holders_dicts_266 rfl ?_
    refine x_aload_n (pc := 267) d_Holders_dicts_267 rfl ?_
    refine x_gets (v := vR (some 75)) (pc := 268) d_Holders_dicts_268 sl_Holders_98 ?_
    obtain ⟨c44, h⟩ := ite_some h
    obtain ⟨v45, e46, h⟩ := Option.bind_eq_some_iff.mp h
    refine c_invv (c := 2) (d := d + 9) (av := [vR (some 75)]) (st := [vR a1]) (Q' := fun r h' => r = .inl (some (vI v45)) ∧ h' = u) (pc := 271) d_Holders_dicts_271 cv_Holders_21 y_Slot_is c44 rfl (Nat.le_of_ble_eq_true rfl) (Nat.le_of_ble_eq_true rfl) (w_Slot_is (d := d + 9) (Q := fun r h' => r = .inl (some (vI v45)) ∧ h' = u) ⟨rfl, rfl⟩ a3 (some 75) e46) (fun v h' z => ?_) (fun a h' z => nomatch z.1)
    obtain ⟨z1, z2⟩ := z
    subst h'
    cases z1
    show xW sc m_Holders_dicts (d + 10) Q (u) 274 [some (vR a1), some (vR a2), some (vR a3), some (vR a4), some (vR v5)] [vI v45, vR a1]
    obtain ⟨c47, h⟩ := ite_some h
    rcases tB_s h with ⟨a51, u52, e50, h⟩ | ⟨v49, u48, e50, h⟩
    · refine c_invv (c := 0) (d := d + 9) (av := [vI v45]) (st := []) (Q' := fun r h' => r = .inr a51 ∧ h' = u52) (pc := 274) d_Holders_dicts_274 cv_Holders_27 y_P_type c47 rfl (Nat.le_of_ble_eq_true rfl) (Nat.le_of_ble_eq_true rfl) (w_P_type (d := d + 2) (Q := fun r h' => r = .inr a51 ∧ h' = u52) ⟨rfl, rfl⟩ u a1 v45 e50) (fun v h' z => nomatch z.1) (fun a h' z => ?_)
      obtain ⟨z1, z2⟩ := z
      subst h'
      cases z1
      cases h
      exact x_thOut (xno rfl) hQ
    refine c_invv (c := 0) (d := d + 9) (av := [vI v45]) (st := []) (Q' := fun r h' => r = .inl none ∧ h' = u48) (pc := 274) d_Holders_dicts_274 cv_Holders_27 y_P_type c47 rfl (Nat.le_of_ble_eq_true rfl) (Nat.le_of_ble_eq_true rfl) (w_P_type (d := d + 2) (Q := fun r h' => r = .inl none ∧ h' = u48) ⟨rfl, rfl⟩ u a1 v45 e50) (fun v h' z => ?_) (fun a h' z => nomatch z.1)
    obtain ⟨z1, z2⟩ := z
    subst h'
    cases z1
    show xW sc m_Holders_dicts (d + 10) Q (u48) 277 [some (vR a1), some (vR a2), some (vR a3), some (vR a4), some (vR v5)] []
    refine x_aload_n (pc := 277) d_Holders_dicts_277 rfl ?_
    refine x_aload (pc := 278) d_Holders_dicts_278 rfl ?_
    refine x_aload_n (pc := 280) d_Holders_dicts_280 rfl ?_
    obtain ⟨v53, e54, h⟩ := Option.bind_eq_some_iff.mp h
    refine c_getR (pc := 281) d_Holders_dicts_281 l_Holders_105 e54 ?_
    refine x_aload_n (pc := 284) d_Holders_dicts_284 rfl ?_
    obtain ⟨c55, h⟩ := ite_some h
    rcases tB_s h with ⟨a59, u60, e58, h⟩ | ⟨v57, u56, e58, h⟩
    · refine c_invv (c := 0) (d := d + 9) (av := [vR v5, vR v53, vR a4]) (st := []) (Q' := fun r h' => r = .inr a59 ∧ h' = u60) (pc := 285) d_Holders_dicts_285 cv_Holders_120 y_P_define c55 rfl (Nat.le_of_ble_eq_true rfl) (Nat.le_of_ble_eq_true rfl) (w_P_define (d := d + 2) (Q := fun r h' => r = .inr a59 ∧ h' = u60) ⟨rfl, rfl⟩ u48 a1 v5 v53 a4 e58) (fun v h' z => nomatch z.1) (fun a h' z => ?_)
      obtain ⟨z1, z2⟩ := z
      subst h'
      cases z1
      cases h
      exact x_thOut (xno rfl) hQ
    refine c_invv (c := 0) (d := d + 9) (av := [vR v5, vR v53, vR a4]) (st := []) (Q' := fun r h' => r = .inl none ∧ h' = u56) (pc := 285) d_Holders_dicts_285 cv_Holders_120 y_P_define c55 rfl (Nat.le_of_ble_eq_true rfl) (Nat.le_of_ble_eq_true rfl) (w_P_define (d := d + 2) (Q := fun r h' => r = .inl none ∧ h' = u56) ⟨rfl, rfl⟩ u48 a1 v5 v53 a4 e58) (fun v h' z => ?_) (fun a h' z => nomatch z.1)
    obtain ⟨z1, z2⟩ := z
    subst h'
    cases z1
    show xW sc m_Holders_dicts (d + 10) Q (u56) 288 [some (vR a1), some (vR a2), some (vR a3), some (vR a4), some (vR v5)] []
    refine x_aload_n (pc := 288) d_Holders_dicts_288 rfl ?_
    refine x_dup (pc := 289) d_Holders_dicts_289 rfl ?_
    obtain ⟨v61, e62, h⟩ := Option.bind_eq_some_iff.mp h
    refine c_getI (pc := 290) d_Holders_dicts_290 l_Holders_83 e62 ?_
    refine x_iconst (v := (2 : Int32)) (pc := 293) d_Holders_dicts_293 (by decide) ?_
    refine x_isub (pc := 294) d_Holders_dicts_294 ?_
    obtain ⟨u63, e64, h⟩ := Option.bind_eq_some_iff.mp h
    refine c_putf (pc := 295) d_Holders_dicts_295 l_Holders_83 fp_0_9 (xfit_int) e64 ?_
    refine x_goto (tgt := 391) (pc := 298) d_Holders_dicts_298 (by decide) ?_
    exact x_wk (L' := [none, none, none, none, none]) ⟨Or.inl rfl, Or.inl rfl, Or.inl rfl, Or.inl rfl, Or.inl rfl, trivial⟩ (w_Holders_dicts_b391 hQ u63 h)
  rw [if_neg c43] at h
  by_cases c65 : v8 = (49 : Int32)
  · rw [if_pos c65] at h
    refine x_tableIn (off := 284) (tgt := 301) (pc := 17) d_Holders_dicts_17 (by rw [c65]; decide) (by rw [c65]; decide) (by rw [c65]; decide) (by decide) ?_
    refine x_aload_n (pc := 301) d_Holders_dicts_301 rfl ?_
    refine x_aload_n (pc := 302) d_Holders_dicts_302 rfl ?_
    refine x_gets (v := vR (some 75)) (pc := 303) d_Holders_dicts_303 sl_Holders_98 ?_
    obtain ⟨c66, h⟩ := ite_some h
    obtain ⟨v67, e68, h⟩ := Option.bind_eq_some_iff.mp h
    refine c_invv (c := 2) (d := d + 9) (av := [vR (some 75)]) (st := [vR a1]) (Q' := fun r h' => r = .inl (some (vI v67)) ∧ h' = u) (pc := 306) d_Holders_dicts_306 cv_Holders_21 y_Slot_is c66 rfl (Nat.le_of_ble_eq_true rfl) (Nat.le_of_ble_eq_true rfl) (w_Slot_is (d := d + 9) (Q := fun r h' => r = .inl (some (vI v67)) ∧ h' = u) ⟨rfl, rfl⟩ a3 (some 75) e68) (fun v h' z => ?_) (fun a h' z => nomatch z.1)
    obtain ⟨z1, z2⟩ := z
    subst h'
    cases z1
    show xW sc m_Holders_dicts (d + 10) Q (u) 309 [some (vR a1), some (vR a2), some (vR a3), some (vR a4), some (vR v5)] [vI v67, vR a1]
    obtain ⟨c69, h⟩ := ite_some h
    rcases tB_s h with ⟨a73, u74, e72, h⟩ | ⟨v71, u70, e72, h⟩
    · refine c_invv (c := 0) (d := d + 9) (av := [vI v67]) (st := []) (Q' := fun r h' => r = .inr a73 ∧ h' = u74) (pc := 309) d_Holders_dicts_309 cv_Holders_27 y_P_type c69 rfl (Nat.le_of_ble_eq_true rfl) (Nat.le_of_ble_eq_true rfl) (w_P_type (d := d + 2) (Q := fun r h' => r = .inr a73 ∧ h' = u74) ⟨rfl, rfl⟩ u a1 v67 e72) (fun v h' z => nomatch z.1) (fun a h' z => ?_)
      obtain ⟨z1, z2⟩ := z
      subst h'
      cases z1
      cases h
      exact x_thOut (xno rfl) hQ
    refine c_invv (c := 0) (d := d + 9) (av := [vI v67]) (st := []) (Q' := fun r h' => r = .inl none ∧ h' = u70) (pc := 309) d_Holders_dicts_309 cv_Holders_27 y_P_type c69 rfl (Nat.le_of_ble_eq_true rfl) (Nat.le_of_ble_eq_true rfl) (w_P_type (d := d + 2) (Q := fun r h' => r = .inl none ∧ h' = u70) ⟨rfl, rfl⟩ u a1 v67 e72) (fun v h' z => ?_) (fun a h' z => nomatch z.1)
    obtain ⟨z1, z2⟩ := z
    subst h'
    cases z1
    show xW sc m_Holders_dicts (d + 10) Q (u70) 312 [some (vR a1), some (vR a2), some (vR a3), some (vR a4), some (vR v5)] []
    refine x_aload_n (pc := 312) d_Holders_dicts_312 rfl ?_
    refine x_aload_n (pc := 313) d_Holders_dicts_313 rfl ?_
    refine x_aload_n (pc := 314) d_Holders_dicts_314 rfl ?_
    refine x_aload_n (pc := 315) d_Holders_dicts_315 rfl ?_
    obtain ⟨v75, e76, h⟩ := Option.bind_eq_some_iff.mp h
    refine c_getR (pc := 316) d_Holders_dicts_316 l_Holders_105 e76 ?_
    obtain ⟨c77, h⟩ := ite_some h
    obtain ⟨v78, e79, h⟩ := Option.bind_eq_some_iff.mp h
    refine c_invv (c := 0) (d := d + 9) (av := [vR v75]) (st := [vR a3, vR a1]) (Q' := fun r h' => r = .inl (some (vR v78)) ∧ h' = u70) (pc := 319) d_Holders_dicts_319 cv_Holders_159 y_P_find c77 rfl (Nat.le_of_ble_eq_true rfl) (Nat.le_of_ble_eq_true rfl) (w_P_find (d := d + 7) (Q := fun r h' => r = .inl (some (vR v78)) ∧ h' = u70) ⟨rfl, rfl⟩ a1 v75 e79) (fun v h' z => ?_) (fun a h' z => nomatch z.1)
    obtain ⟨z1, z2⟩ := z
    subst h'
    cases z1
    show xW sc m_Holders_dicts (d + 10) Q (u70) 322 [some (vR a1), some (vR a2), some (vR a3), some (vR a4), some (vR v5)] [vR v78, vR a3, vR a1]
    obtain ⟨c80, h⟩ := ite_some h
    rcases tB_s h with ⟨a84, u85, e83, h⟩ | ⟨v82, u81, e83, h⟩
    · refine c_invv (c := 0) (d := d + 9) (av := [vR a3, vR v78]) (st := []) (Q' := fun r h' => r = .inr a84 ∧ h' = u85) (pc := 322) d_Holders_dicts_322 cv_Holders_113 y_P_found c80 rfl (Nat.le_of_ble_eq_true rfl) (Nat.le_of_ble_eq_true rfl) (w_P_found (d := d + 2) (Q := fun r h' => r = .inr a84 ∧ h' = u85) ⟨rfl, rfl⟩ u70 a1 a3 v78 e83) (fun v h' z => nomatch z.1) (fun a h' z => ?_)
      obtain ⟨z1, z2⟩ := z
      subst h'
      cases z1
      cases h
      exact x_thOut (xno rfl) hQ
    refine c_invv (c := 0) (d := d + 9) (av := [vR a3, vR v78]) (st := []) (Q' := fun r h' => r = .inl none ∧ h' = u81) (pc := 322) d_Holders_dicts_322 cv_Holders_113 y_P_found c80 rfl (Nat.le_of_ble_eq_true rfl) (Nat.le_of_ble_eq_true rfl) (w_P_found (d := d + 2) (Q := fun r h' => r = .inl none ∧ h' = u81) ⟨rfl, rfl⟩ u70 a1 a3 v78 e83) (fun v h' z => ?_) (fun a h' z => nomatch z.1)
    obtain ⟨z1, z2⟩ := z
    subst h'
    cases z1
    show xW sc m_Holders_dicts (d + 10) Q (u81) 325 [some (vR a1), some (vR a2), some (vR a3), some (vR a4), some (vR v5)] []
    refine x_goto (tgt := 391) (pc := 325) d_Holders_dicts_325 (by decide) ?_
    exact x_wk (L' := [none, none, none, none, none]) ⟨Or.inl rfl, Or.inl rfl, Or.inl rfl, Or.inl rfl, Or.inl rfl, trivial⟩ (w_Holders_dicts_b391 hQ u81 h)
  rw [if_neg c65] at h
  by_cases c86 : v8 = (50 : Int32)
  · rw [if_pos c86] at h
    refine x_tableIn (off := 311) (tgt := 328) (pc := 17) d_Holders_dicts_17 (by rw [c86]; decide) (by rw [c86]; decide) (by rw [c86]; decide) (by decide) ?_
    refine x_aload_n (pc := 328) d_Holders_dicts_328 rfl ?_
    refine x_aload_n (pc := 329) d_Holders_dicts_329 rfl ?_
    refine x_gets (v := vR (some 78)) (pc := 330) d_Holders_dicts_330 sl_Holders_50 ?_
    obtain ⟨c87, h⟩ := ite_some h
    obtain ⟨v88, e89, h⟩ := Option.bind_eq_some_iff.mp h
    refine c_invv (c := 2) (d := d + 9) (av := [vR (some 78)]) (st := [vR a1]) (Q' := fun r h' => r = .inl (some (vI v88)) ∧ h' = u) (pc := 333) d_Holders_dicts_333 cv_Holders_21 y_Slot_is c87 rfl (Nat.le_of_ble_eq_true rfl) (Nat.le_of_ble_eq_true rfl) (w_Slot_is (d := d + 9) (Q := fun r h' => r = .inl (some (vI v88)) ∧ h' = u) ⟨rfl, rfl⟩ a3 (some 78) e89) (fun v h' z => ?_) (fun a h' z => nomatch z.1)
    obtain ⟨z1, z2⟩ := z
    subst h'
    cases z1
    show xW sc m_Holders_dicts (d + 10) Q (u) 336 [some (vR a1), some (vR a2), some (vR a3), some (vR a4), some (vR v5)] [vI v88, vR a1]
    refine x_if_eq (tgt := 353) (pc := 336) d_Holders_dicts_336 (by decide) (fun c90 => ?_) (fun c90 => ?_)
    · rw [if_pos c90] at h
      exact x_wk (L' := [some (vR a1), none, some (vR a3), some (vR a4), none]) ⟨Or.inr rfl, Or.inl rfl, Or.inr rfl, Or.inr rfl, Or.inl rfl, trivial⟩ (w_Holders_dicts_b353 hQ a1 a3 a4 a1 u h)
    · rw [if_neg c90] at h
      refine x_aload_n (pc := 339) d_Holders_dicts_339 rfl ?_
      refine x_gets (v := vR (some 75)) (pc := 340) d_Holders_dicts_340 sl_Holders_98 ?_
      obtain ⟨c91, h⟩ := ite_some h
      obtain ⟨v92, e93, h⟩ := Option.bind_eq_some_iff.mp h
      refine c_invv (c := 2) (d := d + 9) (av := [vR (some 75)]) (st := [vR a1]) (Q' := fun r h' => r = .inl (some (vI v92)) ∧ h' = u) (pc := 343) d_Holders_dicts_343 cv_Holders_21 y_Slot_is c91 rfl (Nat.le_of_ble_eq_true rfl) (Nat.le_of_ble_eq_true rfl) (w_Slot_is (d := d + 9) (Q := fun r h' => r = .inl (some (vI v92)) ∧ h' = u) ⟨rfl, rfl⟩ a4 (some 75) e93) (fun v h' z => ?_) (fun a h' z => nomatch z.1)
      obtain ⟨z1, z2⟩ := z
      subst h'
      cases z1
      show xW sc m_Holders_dicts (d + 10) Q (u) 346 [some (vR a1), some (vR a2), some (vR a3), some (vR a4), some (vR v5)] [vI v92, vR a1]
      refine x_if_eq (tgt := 353) (pc := 346) d_Holders_dicts_346 (by decide) (fun c94 => ?_) (fun c94 => ?_)
      · rw [if_pos c94] at h
        exact x_wk (L' := [some (vR a1), none, some (vR a3), some (vR a4), none]) ⟨Or.inr rfl, Or.inl rfl, Or.inr rfl, Or.inr rfl, Or.inl rfl, trivial⟩ (w_Holders_dicts_b353 hQ a1 a3 a4 a1 u h)
      · rw [if_neg c94] at h
        refine x_iconst (v := (1 : Int32)) (pc := 349) d_Holders_dicts_349 (by decide) ?_
        refine x_goto (tgt := 354) (pc := 350) d_Holders_dicts_350 (by decide) ?_
        exact x_wk (L' := [some (vR a1), none, some (vR a3), some (vR a4), none]) ⟨Or.inr rfl, Or.inl rfl, Or.inr rfl, Or.inr rfl, Or.inl rfl, trivial⟩ (w_Holders_dicts_b354 hQ a1 a3 a4 (1 : Int32) a1 u h)
  rw [if_neg c86] at h
  refine x_tableOut (tgt := 384) (pc := 17) d_Holders_dicts_17 (by have q0 := lv_neT c10 (a := 45) (by decide); have q1 := lv_neT c26 (a := 46) (by decide); have q2 := lv_neT c39 (a := 47) (by decide); have q3 := lv_neT c43 (a := 48) (by decide); have q4 := lv_neT c65 (a := 49) (by decide); have q5 := lv_neT c86 (a := 50) (by decide); omega) (by decide) ?_
  refine x_aload_n (pc := 384) d_Holders_dicts_384 rfl ?_
  refine x_iconst (v := (0 : Int32)) (pc := 385) d_Holders_dicts_385 (by decide) ?_
  refine x_aload (pc := 386) d_Holders_dicts_386 rfl ?_
  obtain ⟨c95, h⟩ := ite_some h
  rcases tB_s h with ⟨a99, u100, e98, h⟩ | ⟨v97, u96, e98, h⟩
  · refine c_invv (c := 0) (d := d + 9) (av := [vI (0 : Int32), vR v5]) (st := []) (Q' := fun r h' => r = .inr a99 ∧ h' = u100) (pc := 388) d_Holders_dicts_388 cv_Holders_155 y_P_giveDict c95 rfl (Nat.le_of_ble_eq_true rfl) (Nat.le_of_ble_eq_true rfl) (w_P_giveDict (d := d + 0) (Q := fun r h' => r = .inr a99 ∧ h' = u100) ⟨rfl, rfl⟩ u a1 (0 : Int32) v5 e98) (fun v h' z => nomatch z.1) (fun a h' z => ?_)
    obtain ⟨z1, z2⟩ := z
    subst h'
    cases z1
    cases h
    exact x_thOut (xno rfl) hQ
  refine c_invv (c := 0) (d := d + 9) (av := [vI (0 : Int32), vR v5]) (st := []) (Q' := fun r h' => r = .inl none ∧ h' = u96) (pc := 388) d_Holders_dicts_388 cv_Holders_155 y_P_giveDict c95 rfl (Nat.le_of_ble_eq_true rfl) (Nat.le_of_ble_eq_true rfl) (w_P_giveDict (d := d + 0) (Q := fun r h' => r = .inl none ∧ h' = u96) ⟨rfl, rfl⟩ u a1 (0 : Int32) v5 e98) (fun v h' z => ?_) (fun a h' z => nomatch z.1)
  obtain ⟨z1, z2⟩ := z
  subst h'
  cases z1
  show xW sc m_Holders_dicts (d + 10) Q (u96) 391 [some (vR a1), some (vR a2), some (vR a3), some (vR a4), some (vR v5)] []
  exact x_wk (L' := [none, none, none, none, none]) ⟨Or.inl rfl, Or.inl rfl, Or.inl rfl, Or.inl rfl, Or.inl rfl, trivial⟩ (w_Holders_dicts_b391 hQ u96 h)
def f_Holders_get_b125 (sc : xSc)  (l0 : Option Nat) (t0 : Option Nat) (t1 : Option Nat) (t2 : Option Nat) (u : xH) : Option ((Unit ⊕ Nat) × xH) := (if xis sc u 0 t2 = true then tB (f_P_found sc u t2 t1 t0) (fun v3 u2 => (gI sc u2 0 9 l0).bind fun v7 => (pV u2 0 9 l0 (vI (v7 - (1 : Int32)))).bind fun u9 => some (.inl (), u9)) (fun a5 u6 => some (.inr a5, u6)) else none)
theorem w_Holders_get_b125 {sc : xSc} {d : Nat} {Q : xR → xH → Prop} {oZ : Unit ⊕ Nat} {hZ : xH}  (hQ : Q (cvU oZ) hZ) (l0 : Option Nat) (t0 : Option Nat) (t1 : Option Nat) (t2 : Option Nat) (u : xH) (h : f_Holders_get_b125 sc  l0 t0 t1 t2 u = some (oZ, hZ)) : xW sc m_Holders_get (d + 8) Q (u) 125 [some (vR l0), none, none, none] [vR t0, vR t1, vR t2] := by
  unfold f_Holders_get_b125 at h
  obtain ⟨c1, h⟩ := ite_some h
  rcases tB_s h with ⟨a5, u6, e4, h⟩ | ⟨v3, u2, e4, h⟩
  · refine c_invv (c := 0) (d := d + 7) (av := [vR t1, vR t0]) (st := []) (Q' := fun r h' => r = .inr a5 ∧ h' = u6) (pc := 125) d_Holders_get_125 cv_Holders_113 y_P_found c1 rfl (Nat.le_of_ble_eq_true rfl) (Nat.le_of_ble_eq_true rfl) (w_P_found (d := d + 0) (Q := fun r h' => r = .inr a5 ∧ h' = u6) ⟨rfl, rfl⟩ u t2 t1 t0 e4) (fun v h' z => nomatch z.1) (fun a h' z => ?_)
    obtain ⟨z1, z2⟩ := z
    subst h'
    cases z1
    cases h
    exact x_thOut (xno rfl) hQ
  refine c_invv (c := 0) (d := d + 7) (av := [vR t1, vR t0]) (st := []) (Q' := fun r h' => r = .inl none ∧ h' = u2) (pc := 125) d_Holders_get_125 cv_Holders_113 y_P_found c1 rfl (Nat.le_of_ble_eq_true rfl) (Nat.le_of_ble_eq_true rfl) (w_P_found (d := d + 0) (Q := fun r h' => r = .inl none ∧ h' = u2) ⟨rfl, rfl⟩ u t2 t1 t0 e4) (fun v h' z => ?_) (fun a h' z => nomatch z.1)
  obtain ⟨z1, z2⟩ := z
  subst h'
  cases z1
  show xW sc m_Holders_get (d + 8) Q (u2) 128 [some (vR l0), none, none, none] []
  refine x_aload_n (pc := 128) d_Holders_get_128 rfl ?_
  refine x_dup (pc := 129) d_Holders_get_129 rfl ?_
  obtain ⟨v7, e8, h⟩ := Option.bind_eq_some_iff.mp h
  refine c_getI (pc := 130) d_Holders_get_130 l_Holders_83 e8 ?_
  refine x_iconst (v := (1 : Int32)) (pc := 133) d_Holders_get_133 (by decide) ?_
  refine x_isub (pc := 134) d_Holders_get_134 ?_
  obtain ⟨u9, e10, h⟩ := Option.bind_eq_some_iff.mp h
  refine c_putf (pc := 135) d_Holders_get_135 l_Holders_83 fp_0_9 (xfit_int) e10 ?_
  cases h
  exact x_vret (pc := 138) d_Holders_get_138 rfl hQ
def f_Holders_get_b87 (sc : xSc)  (l0 : Option Nat) (l1 : Option Nat) (l2 : Option Nat) (l3 : Int32) (t0 : Int32) (t1 : Option Nat) (u : xH) : Option ((Unit ⊕ Nat) × xH) := (if xis sc u 0 t1 = true then tB (f_P_need sc u t1 t0 (4 : Int32)) (fun v3 u2 => (if l3 = 0 then (gR sc u2 2 7 l1).bind fun v8 => (gR sc u2 2 6 l2).bind fun v10 => (if xis sc u2 4 v8 = true then (f_Dict_find sc u2 v8 v10).bind fun v13 => f_Holders_get_b125 sc l0 v13 l1 l0 u2 else none) else (gR sc u2 0 7 l0).bind fun v15 => (gI sc u2 2 2 l1).bind fun v17 => (gI sc u2 2 2 l2).bind fun v19 => (aR sc u2 v15 (v17 + v19)).bind fun v21 => f_Holders_get_b125 sc l0 v21 l1 l0 u2)) (fun a5 u6 => some (.inr a5, u6)) else none)
theorem w_Holders_get_b87 {sc : xSc} {d : Nat} {Q : xR → xH → Prop} {oZ : Unit ⊕ Nat} {hZ : xH}  (hQ : Q (cvU oZ) hZ) (l0 : Option Nat) (l1 : Option Nat) (l2 : Option Nat) (l3 : Int32) (t0 : Int32) (t1 : Option Nat) (u : xH) (h : f_Holders_get_b87 sc  l0 l1 l2 l3 t0 t1 u = some (oZ, hZ)) : xW sc m_Holders_get (d + 8) Q (u) 87 [some (vR l0), some (vR l1), some (vR l2), some (vI l3)] [vI t0, vR t1] := by
  unfold f_Holders_get_b87 at h
  refine x_iconst (v := (4 : Int32)) (pc := 87) d_Holders_get_87 (by decide) ?_
  obtain ⟨c1, h⟩ := ite_some h
  rcases tB_s h with ⟨a5, u6, e4, h⟩ | ⟨v3, u2, e4, h⟩
  · refine c_invv (c := 0) (d := d + 7) (av := [vI t0, vI (4 : Int32)]) (st := []) (Q' := fun r h' => r = .inr a5 ∧ h' = u6) (pc := 88) d_Holders_get_88 cv_Holders_35 y_P_need c1 rfl (Nat.le_of_ble_eq_true rfl) (Nat.le_of_ble_eq_true rfl) (w_P_need (d := d + 1) (Q := fun r h' => r = .inr a5 ∧ h' = u6) ⟨rfl, rfl⟩ u t1 t0 (4 : Int32) e4) (fun v h' z => nomatch z.1) (fun a h' z => ?_)
    obtain ⟨z1, z2⟩ := z
    subst h'
    cases z1
    cases h
    exact x_thOut (xno rfl) hQ
  refine c_invv (c := 0) (d := d + 7) (av := [vI t0, vI (4 : Int32)]) (st := []) (Q' := fun r h' => r = .inl none ∧ h' = u2) (pc := 88) d_Holders_get_88 cv_Holders_35 y_P_need c1 rfl (Nat.le_of_ble_eq_true rfl) (Nat.le_of_ble_eq_true rfl) (w_P_need (d := d + 1) (Q := fun r h' => r = .inl none ∧ h' = u2) ⟨rfl, rfl⟩ u t1 t0 (4 : Int32) e4) (fun v h' z => ?_) (fun a h' z => nomatch z.1)
  obtain ⟨z1, z2⟩ := z
  subst h'
  cases z1
  show xW sc m_Holders_get (d + 8) Q (u2) 91 [some (vR l0), some (vR l1), some (vR l2), some (vI l3)] []
  refine x_aload_n (pc := 91) d_Holders_get_91 rfl ?_
  refine x_aload_n (pc := 92) d_Holders_get_92 rfl ?_
  refine x_iload_n (pc := 93) d_Holders_get_93 rfl ?_
  refine x_if_eq (tgt := 114) (pc := 94) d_Holders_get_94 (by decide) (fun c7 => ?_) (fun c7 => ?_)
  · rw [if_pos c7] at h
    refine x_aload_n (pc := 114) d_Holders_get_114 rfl ?_
    obtain ⟨v8, e9, h⟩ := Option.bind_eq_some_iff.mp h
    refine c_getR (pc := 115) d_Holders_get_115 l_Holders_56 e9 ?_
    refine x_aload_n (pc := 118) d_Holders_get_118 rfl ?_
    obtain ⟨v10, e11, h⟩ := Option.bind_eq_some_iff.mp h
    refine c_getR (pc := 119) d_Holders_get_119 l_Holders_105 e11 ?_
    obtain ⟨c12, h⟩ := ite_some h
    obtain ⟨v13, e14, h⟩ := Option.bind_eq_some_iff.mp h
    refine c_invv (c := 4) (d := d + 7) (av := [vR v10]) (st := [vR l1, vR l0]) (Q' := fun r h' => r = .inl (some (vR v13)) ∧ h' = u2) (pc := 122) d_Holders_get_122 cv_Holders_109 y_Dict_find c12 rfl (Nat.le_of_ble_eq_true rfl) (Nat.le_of_ble_eq_true rfl) (w_Dict_find (d := d + 6) (Q := fun r h' => r = .inl (some (vR v13)) ∧ h' = u2) ⟨rfl, rfl⟩ v8 v10 e14) (fun v h' z => ?_) (fun a h' z => nomatch z.1)
    obtain ⟨z1, z2⟩ := z
    subst h'
    cases z1
    show xW sc m_Holders_get (d + 8) Q (u2) 125 [some (vR l0), some (vR l1), some (vR l2), some (vI l3)] [vR v13, vR l1, vR l0]
    exact x_wk (L' := [some (vR l0), none, none, none]) ⟨Or.inr rfl, Or.inl rfl, Or.inl rfl, Or.inl rfl, trivial⟩ (w_Holders_get_b125 hQ l0 v13 l1 l0 u2 h)
  · rw [if_neg c7] at h
    refine x_aload_n (pc := 97) d_Holders_get_97 rfl ?_
    obtain ⟨v15, e16, h⟩ := Option.bind_eq_some_iff.mp h
    refine c_getR (pc := 98) d_Holders_get_98 l_Holders_101 e16 ?_
    refine x_aload_n (pc := 101) d_Holders_get_101 rfl ?_
    obtain ⟨v17, e18, h⟩ := Option.bind_eq_some_iff.mp h
    refine c_getI (pc := 102) d_Holders_get_102 l_Holders_31 e18 ?_
    refine x_aload_n (pc := 105) d_Holders_get_105 rfl ?_
    obtain ⟨v19, e20, h⟩ := Option.bind_eq_some_iff.mp h
    refine c_getI (pc := 106) d_Holders_get_106 l_Holders_31 e20 ?_
    refine x_iadd (pc := 109) d_Holders_get_109 ?_
    obtain ⟨v21, e22, h⟩ := Option.bind_eq_some_iff.mp h
    refine c_aald (pc := 110) d_Holders_get_110 e22 ?_
    refine x_goto (tgt := 125) (pc := 111) d_Holders_get_111 (by decide) ?_
    exact x_wk (L' := [some (vR l0), none, none, none]) ⟨Or.inr rfl, Or.inl rfl, Or.inl rfl, Or.inl rfl, trivial⟩ (w_Holders_get_b125 hQ l0 v21 l1 l0 u2 h)
def f_Holders_get_b86 (sc : xSc)  (l0 : Option Nat) (l1 : Option Nat) (l2 : Option Nat) (l3 : Int32) (t0 : Option Nat) (u : xH) : Option ((Unit ⊕ Nat) × xH) := f_Holders_get_b87 sc l0 l1 l2 l3 (0 : Int32) t0 u
theorem w_Holders_get_b86 {sc : xSc} {d : Nat} {Q : xR → xH → Prop} {oZ : Unit ⊕ Nat} {hZ : xH}  (hQ : Q (cvU oZ) hZ) (l0 : Option Nat) (l1 : Option Nat) (l2 : Option Nat) (l3 : Int32) (t0 : Option Nat) (u : xH) (h : f_Holders_get_b86 sc  l0 l1 l2 l3 t0 u = some (oZ, hZ)) : xW sc m_Holders_get (d + 8) Q (u) 86 [some (vR l0), some (vR l1), some (vR l2), some (vI l3)] [vR t0] := by
  unfold f_Holders_get_b86 at h
  refine x_iconst (v := (0 : Int32)) (pc := 86) d_Holders_get_86 (by decide) ?_
  exact w_Holders_get_b87 hQ l0 l1 l2 l3 (0 : Int32) t0 u h
def f_Holders_get_b82 (sc : xSc)  (l0 : Option Nat) (l1 : Option Nat) (l2 : Option Nat) (l3 : Int32) (t0 : Option Nat) (u : xH) : Option ((Unit ⊕ Nat) × xH) := f_Holders_get_b87 sc l0 l1 l2 l3 (1 : Int32) t0 u
theorem w_Holders_get_b82 {sc : xSc} {d : Nat} {Q : xR → xH → Prop} {oZ : Unit ⊕ Nat} {hZ : xH}  (hQ : Q (cvU oZ) hZ) (l0 : Option Nat) (l1 : Option Nat) (l2 : Option Nat) (l3 : Int32) (t0 : Option Nat) (u : xH) (h : f_Holders_get_b82 sc  l0 l1 l2 l3 t0 u = some (oZ, hZ)) : xW sc m_Holders_get (d + 8) Q (u) 82 [some (vR l0), some (vR l1), some (vR l2), some (vI l3)] [vR t0] := by
  unfold f_Holders_get_b82 at h
  refine x_iconst (v := (1 : Int32)) (pc := 82) d_Holders_get_82 (by decide) ?_
  refine x_goto (tgt := 87) (pc := 83) d_Holders_get_83 (by decide) ?_
  exact w_Holders_get_b87 hQ l0 l1 l2 l3 (1 : Int32) t0 u h
def f_Holders_get_b56 (sc : xSc)  (l0 : Option Nat) (l1 : Option Nat) (l2 : Option Nat) (l3 : Int32) (t0 : Int32) (t1 : Option Nat) (u : xH) : Option ((Unit ⊕ Nat) × xH) := (if xis sc u 0 t1 = true then tB (f_P_type sc u t1 t0) (fun v3 u2 => (if l3 = 0 then f_Holders_get_b82 sc l0 l1 l2 l3 l0 u2 else (gI sc u2 2 2 l2).bind fun v8 => (if v8 < 0 then f_Holders_get_b86 sc l0 l1 l2 l3 l0 u2 else (gI sc u2 2 2 l2).bind fun v11 => (gI sc u2 2 3 l1).bind fun v13 => (if v13 ≤ v11 then f_Holders_get_b86 sc l0 l1 l2 l3 l0 u2 else f_Holders_get_b82 sc l0 l1 l2 l3 l0 u2)))) (fun a5 u6 => some (.inr a5, u6)) else none)
theorem w_Holders_get_b56 {sc : xSc} {d : Nat} {Q : xR → xH → Prop} {oZ : Unit ⊕ Nat} {hZ : xH}  (hQ : Q (cvU oZ) hZ) (l0 : Option Nat) (l1 : Option Nat) (l2 : Option Nat) (l3 : Int32) (t0 : Int32) (t1 : Option Nat) (u : xH) (h : f_Holders_get_b56 sc  l0 l1 l2 l3 t0 t1 u = some (oZ, hZ)) : xW sc m_Holders_get (d + 8) Q (u) 56 [some (vR l0), some (vR l1), some (vR l2), some (vI l3)] [vI t0, vR t1] := by
  unfold f_Holders_get_b56 at h
  obtain ⟨c1, h⟩ := ite_some h
  rcases tB_s h with ⟨a5, u6, e4, h⟩ | ⟨v3, u2, e4, h⟩
  · refine c_invv (c := 0) (d := d + 7) (av := [vI t0]) (st := []) (Q' := fun r h' => r = .inr a5 ∧ h' = u6) (pc := 56) d_Holders_get_56 cv_Holders_27 y_P_type c1 rfl (Nat.le_of_ble_eq_true rfl) (Nat.le_of_ble_eq_true rfl) (w_P_type (d := d + 0) (Q := fun r h' => r = .inr a5 ∧ h' = u6) ⟨rfl, rfl⟩ u t1 t0 e4) (fun v h' z => nomatch z.1) (fun a h' z => ?_)
    obtain ⟨z1, z2⟩ := z
    subst h'
    cases z1
    cases h
    exact x_thOut (xno rfl) hQ
  refine c_invv (c := 0) (d := d + 7) (av := [vI t0]) (st := []) (Q' := fun r h' => r = .inl none ∧ h' = u2) (pc := 56) d_Holders_get_56 cv_Holders_27 y_P_type c1 rfl (Nat.le_of_ble_eq_true rfl) (Nat.le_of_ble_eq_true rfl) (w_P_type (d := d + 0) (Q := fun r h' => r = .inl none ∧ h' = u2) ⟨rfl, rfl⟩ u t1 t0 e4) (fun v h' z => ?_) (fun a h' z => nomatch z.1)
  obtain ⟨z1, z2⟩ := z
  subst h'
  cases z1
  show xW sc m_Holders_get (d + 8) Q (u2) 59 [some (vR l0), some (vR l1), some (vR l2), some (vI l3)] []
  refine x_aload_n (pc := 59) d_Holders_get_59 rfl ?_
  refine x_iload_n (pc := 60) d_Holders_get_60 rfl ?_
  refine x_if_eq (tgt := 82) (pc := 61) d_Holders_get_61 (by decide) (fun c7 => ?_) (fun c7 => ?_)
  · rw [if_pos c7] at h
    exact w_Holders_get_b82 hQ l0 l1 l2 l3 l0 u2 h
  · rw [if_neg c7] at h
    refine x_aload_n (pc := 64) d_Holders_get_64 rfl ?_
    obtain ⟨v8, e9, h⟩ := Option.bind_eq_some_iff.mp h
    refine c_getI (pc := 65) d_Holders_get_65 l_Holders_31 e9 ?_
    refine x_if_lt (tgt := 86) (pc := 68) d_Holders_get_68 (by decide) (fun c10 => ?_) (fun c10 => ?_)
    · rw [if_pos c10] at h
      exact w_Holders_get_b86 hQ l0 l1 l2 l3 l0 u2 h
    · rw [if_neg c10] at h
      refine x_aload_n (pc := 71) d_Holders_get_71 rfl ?_
      obtain ⟨v11, e12, h⟩ := Option.bind_eq_some_iff.mp h
      refine c_getI (pc := 72) d_Holders_get_72 l_Holders_31 e12 ?_
      refine x_aload_n (pc := 75) d_Holders_get_75 rfl ?_
      obtain ⟨v13, e14, h⟩ := Option.bind_eq_some_iff.mp h
      refine c_getI (pc := 76) d_Holders_get_76 l_Holders_53 e14 ?_
      refine x_icmp_ge (tgt := 86) (pc := 79) d_Holders_get_79 (by decide) (fun c15 => ?_) (fun c15 => ?_)
      · rw [if_pos c15] at h
        exact w_Holders_get_b86 hQ l0 l1 l2 l3 l0 u2 h
      · rw [if_neg c15] at h
        exact w_Holders_get_b82 hQ l0 l1 l2 l3 l0 u2 h
def f_Holders_get_b55 (sc : xSc)  (l0 : Option Nat) (l1 : Option Nat) (l2 : Option Nat) (l3 : Int32) (t0 : Option Nat) (u : xH) : Option ((Unit ⊕ Nat) × xH) := f_Holders_get_b56 sc l0 l1 l2 l3 (0 : Int32) t0 u
theorem w_Holders_get_b55 {sc : xSc} {d : Nat} {Q : xR → xH → Prop} {oZ : Unit ⊕ Nat} {hZ : xH}  (hQ : Q (cvU oZ) hZ) (l0 : Option Nat) (l1 : Option Nat) (l2 : Option Nat) (l3 : Int32) (t0 : Option Nat) (u : xH) (h : f_Holders_get_b55 sc  l0 l1 l2 l3 t0 u = some (oZ, hZ)) : xW sc m_Holders_get (d + 8) Q (u) 55 [some (vR l0), some (vR l1), some (vR l2), some (vI l3)] [vR t0] := by
  unfold f_Holders_get_b55 at h
  refine x_iconst (v := (0 : Int32)) (pc := 55) d_Holders_get_55 (by decide) ?_
  exact w_Holders_get_b56 hQ l0 l1 l2 l3 (0 : Int32) t0 u h
def f_Holders_get_b51 (sc : xSc)  (l0 : Option Nat) (l1 : Option Nat) (l2 : Option Nat) (l3 : Int32) (t0 : Option Nat) (u : xH) : Option ((Unit ⊕ Nat) × xH) := f_Holders_get_b56 sc l0 l1 l2 l3 (1 : Int32) t0 u
theorem w_Holders_get_b51 {sc : xSc} {d : Nat} {Q : xR → xH → Prop} {oZ : Unit ⊕ Nat} {hZ : xH}  (hQ : Q (cvU oZ) hZ) (l0 : Option Nat) (l1 : Option Nat) (l2 : Option Nat) (l3 : Int32) (t0 : Option Nat) (u : xH) (h : f_Holders_get_b51 sc  l0 l1 l2 l3 t0 u = some (oZ, hZ)) : xW sc m_Holders_get (d + 8) Q (u) 51 [some (vR l0), some (vR l1), some (vR l2), some (vI l3)] [vR t0] := by
  unfold f_Holders_get_b51 at h
  refine x_iconst (v := (1 : Int32)) (pc := 51) d_Holders_get_51 (by decide) ?_
  refine x_goto (tgt := 56) (pc := 52) d_Holders_get_52 (by decide) ?_
  exact w_Holders_get_b56 hQ l0 l1 l2 l3 (1 : Int32) t0 u h
def f_Holders_get_b25 (sc : xSc)  (l0 : Option Nat) (l1 : Option Nat) (l2 : Option Nat) (t0 : Int32) (u : xH) : Option ((Unit ⊕ Nat) × xH) := (if t0 = 0 then (if xis sc u 2 l1 = true then (f_Slot_is sc u l1 (some 78)).bind fun v3 => (if v3 = 0 then f_Holders_get_b55 sc l0 l1 l2 t0 l0 u else (if xis sc u 2 l2 = true then (f_Slot_is sc u l2 (some 75)).bind fun v7 => (if v7 = 0 then f_Holders_get_b55 sc l0 l1 l2 t0 l0 u else f_Holders_get_b51 sc l0 l1 l2 t0 l0 u) else none)) else none) else f_Holders_get_b51 sc l0 l1 l2 t0 l0 u)
theorem w_Holders_get_b25 {sc : xSc} {d : Nat} {Q : xR → xH → Prop} {oZ : Unit ⊕ Nat} {hZ : xH}  (hQ : Q (cvU oZ) hZ) (l0 : Option Nat) (l1 : Option Nat) (l2 : Option Nat) (t0 : Int32) (u : xH) (h : f_Holders_get_b25 sc  l0 l1 l2 t0 u = some (oZ, hZ)) : xW sc m_Holders_get (d + 8) Q (u) 25 [some (vR l0), some (vR l1), some (vR l2), none] [vI t0] := by
  unfold f_Holders_get_b25 at h
  refine x_istore_n (pc := 25) d_Holders_get_25 (by decide) ?_
  show xW sc m_Holders_get (d + 8) Q (u) 26 [some (vR l0), some (vR l1), some (vR l2), some (vI t0)] []
  refine x_aload_n (pc := 26) d_Holders_get_26 rfl ?_
  refine x_iload_n (pc := 27) d_Holders_get_27 rfl ?_
  refine x_if_ne (tgt := 51) (pc := 28) d_Holders_get_28 (by decide) (fun c1 => ?_) (fun c1 => ?_)
  · rw [if_neg c1] at h
    exact w_Holders_get_b51 hQ l0 l1 l2 t0 l0 u h
  · rw [if_pos c1] at h
    refine x_aload_n (pc := 31) d_Holders_get_31 rfl ?_
    refine x_gets (v := vR (some 78)) (pc := 32) d_Holders_get_32 sl_Holders_50 ?_
    obtain ⟨c2, h⟩ := ite_some h
    obtain ⟨v3, e4, h⟩ := Option.bind_eq_some_iff.mp h
    refine c_invv (c := 2) (d := d + 7) (av := [vR (some 78)]) (st := [vR l0]) (Q' := fun r h' => r = .inl (some (vI v3)) ∧ h' = u) (pc := 35) d_Holders_get_35 cv_Holders_21 y_Slot_is c2 rfl (Nat.le_of_ble_eq_true rfl) (Nat.le_of_ble_eq_true rfl) (w_Slot_is (d := d + 7) (Q := fun r h' => r = .inl (some (vI v3)) ∧ h' = u) ⟨rfl, rfl⟩ l1 (some 78) e4) (fun v h' z => ?_) (fun a h' z => nomatch z.1)
    obtain ⟨z1, z2⟩ := z
    subst h'
    cases z1
    show xW sc m_Holders_get (d + 8) Q (u) 38 [some (vR l0), some (vR l1), some (vR l2), some (vI t0)] [vI v3, vR l0]
    refine x_if_eq (tgt := 55) (pc := 38) d_Holders_get_38 (by decide) (fun c5 => ?_) (fun c5 => ?_)
    · rw [if_pos c5] at h
      exact w_Holders_get_b55 hQ l0 l1 l2 t0 l0 u h
    · rw [if_neg c5] at h
      refine x_aload_n (pc := 41) d_Holders_get_41 rfl ?_
      refine x_gets (v := vR (some 75)) (pc := 42) d_Holders_get_42 sl_Holders_98 ?_
      obtain ⟨c6, h⟩ := ite_some h
      obtain ⟨v7, e8, h⟩ := Option.bind_eq_some_iff.mp h
      refine c_invv (c := 2) (d := d + 7) (av := [vR (some 75)]) (st := [vR l0]) (Q' := fun r h' => r = .inl (some (vI v7)) ∧ h' = u) (pc := 45) d_Holders_get_45 cv_Holders_21 y_Slot_is c6 rfl (Nat.le_of_ble_eq_true rfl) (Nat.le_of_ble_eq_true rfl) (w_Slot_is (d := d + 7) (Q := fun r h' => r = .inl (some (vI v7)) ∧ h' = u) ⟨rfl, rfl⟩ l2 (some 75) e8) (fun v h' z => ?_) (fun a h' z => nomatch z.1)
      obtain ⟨z1, z2⟩ := z
      subst h'
      cases z1
      show xW sc m_Holders_get (d + 8) Q (u) 48 [some (vR l0), some (vR l1), some (vR l2), some (vI t0)] [vI v7, vR l0]
      refine x_if_eq (tgt := 55) (pc := 48) d_Holders_get_48 (by decide) (fun c9 => ?_) (fun c9 => ?_)
      · rw [if_pos c9] at h
        exact w_Holders_get_b55 hQ l0 l1 l2 t0 l0 u h
      · rw [if_neg c9] at h
        exact w_Holders_get_b51 hQ l0 l1 l2 t0 l0 u h
def f_Holders_get_b24 (sc : xSc)  (l0 : Option Nat) (l1 : Option Nat) (l2 : Option Nat) (u : xH) : Option ((Unit ⊕ Nat) × xH) := f_Holders_get_b25 sc l0 l1 l2 (0 : Int32) u
theorem w_Holders_get_b24 {sc : xSc} {d : Nat} {Q : xR → xH → Prop} {oZ : Unit ⊕ Nat} {hZ : xH}  (hQ : Q (cvU oZ) hZ) (l0 : Option Nat) (l1 : Option Nat) (l2 : Option Nat) (u : xH) (h : f_Holders_get_b24 sc  l0 l1 l2 u = some (oZ, hZ)) : xW sc m_Holders_get (d + 8) Q (u) 24 [some (vR l0), some (vR l1), some (vR l2), none] [] := by
  unfold f_Holders_get_b24 at h
  refine x_iconst (v := (0 : Int32)) (pc := 24) d_Holders_get_24 (by decide) ?_
  exact w_Holders_get_b25 hQ l0 l1 l2 (0 : Int32) u h
def f_Holders_get (sc : xSc) (u : xH) (a1 : Option Nat) (a2 : Option Nat) (a3 : Option Nat) : Option ((Unit ⊕ Nat) × xH) := (if xis sc u 2 a2 = true then (f_Slot_is sc u a2 (some 77)).bind fun v2 => (if v2 = 0 then f_Holders_get_b24 sc a1 a2 a3 u else (if xis sc u 2 a3 = true then (f_Slot_is sc u a3 (some 72)).bind fun v6 => (if v6 = 0 then f_Holders_get_b24 sc a1 a2 a3 u else f_Holders_get_b25 sc a1 a2 a3 (1 : Int32) u) else none)) else none)
theorem w_Holders_get {sc : xSc} {d : Nat} {Q : xR → xH → Prop} {oZ : Unit ⊕ Nat} {hZ : xH} (hQ : Q (cvU oZ) hZ) (u : xH) (a1 : Option Nat) (a2 : Option Nat) (a3 : Option Nat) (h : f_Holders_get sc u a1 a2 a3 = some (oZ, hZ)) : xW sc m_Holders_get (d + 8) Q (u) 0 (xent [vR a1, vR a2, vR a3] m_Holders_get.2.2.1) [] := by
  show xW sc m_Holders_get (d + 8) Q (u) 0 [some (vR a1), some (vR a2), some (vR a3), none] []
  unfold f_Holders_get at h
  refine x_aload_n (pc := 0) d_Holders_get_0 rfl ?_
  refine x_gets (v := vR (some 77)) (pc := 1) d_Holders_get_1 sl_Holders_39 ?_
  obtain ⟨c1, h⟩ := ite_some h
  obtain ⟨v2, e3, h⟩ := Option.bind_eq_some_iff.mp h
  refine c_invv (c := 2) (d := d + 7) (av := [vR (some 77)]) (st := []) (Q' := fun r h' => r = .inl (some (vI v2)) ∧ h' = u) (pc := 4) d_Holders_get_4 cv_Holders_21 y_Slot_is c1 rfl (Nat.le_of_ble_eq_true rfl) (Nat.le_of_ble_eq_true rfl) (w_Slot_is (d := d + 7) (Q := fun r h' => r = .inl (some (vI v2)) ∧ h' = u) ⟨rfl, rfl⟩ a2 (some 77) e3) (fun v h' z => ?_) (fun a h' z => nomatch z.1)
  obtain ⟨z1, z2⟩ := z
  subst h'
  cases z1
  show xW sc m_Holders_get (d + 8) Q (u) 7 [some (vR a1), some (vR a2), some (vR a3), none] [vI v2]
  refine x_if_eq (tgt := 24) (pc := 7) d_Holders_get_7 (by decide) (fun c4 => ?_) (fun c4 => ?_)
  · rw [if_pos c4] at h
    exact w_Holders_get_b24 hQ a1 a2 a3 u h
  · rw [if_neg c4] at h
    refine x_aload_n (pc := 10) d_Holders_get_10 rfl ?_
    refine x_gets (v := vR (some 72)) (pc := 11) d_Holders_get_11 sl_Holders_15 ?_
    obtain ⟨c5, h⟩ := ite_some h
    obtain ⟨v6, e7, h⟩ := Option.bind_eq_some_iff.mp h
    refine c_invv (c := 2) (d := d + 7) (av := [vR (some 72)]) (st := []) (Q' := fun r h' => r = .inl (some (vI v6)) ∧ h' = u) (pc := 14) d_Holders_get_14 cv_Holders_21 y_Slot_is c5 rfl (Nat.le_of_ble_eq_true rfl) (Nat.le_of_ble_eq_true rfl) (w_Slot_is (d := d + 7) (Q := fun r h' => r = .inl (some (vI v6)) ∧ h' = u) ⟨rfl, rfl⟩ a3 (some 72) e7) (fun v h' z => ?_) (fun a h' z => nomatch z.1)
    obtain ⟨z1, z2⟩ := z
    subst h'
    cases z1
    show xW sc m_Holders_get (d + 8) Q (u) 17 [some (vR a1), some (vR a2), some (vR a3), none] [vI v6]
    refine x_if_eq (tgt := 24) (pc := 17) d_Holders_get_17 (by decide) (fun c8 => ?_) (fun c8 => ?_)
    · rw [if_pos c8] at h
      exact w_Holders_get_b24 hQ a1 a2 a3 u h
    · rw [if_neg c8] at h
      refine x_iconst (v := (1 : Int32)) (pc := 20) d_Holders_get_20 (by decide) ?_
      refine x_goto (tgt := 25) (pc := 21) d_Holders_get_21 (by decide) ?_
      exact w_Holders_get_b25 hQ a1 a2 a3 (1 : Int32) u h
def f_Holders_init  (a0 : Option Nat) : Option Unit := (if a0.isSome = true then (f_Group_init a0).bind fun v2 => some () else none)
theorem w_Holders_init {sc : xSc} {d : Nat} {Q : xR → xH → Prop} {hh : xH} {rZ : Unit} (hQ : Q (.inl none) hh) (a0 : Option Nat) (h : f_Holders_init  a0 = some rZ) : xW sc m_Holders_init (d + 2) Q (hh) 0 (xent [vR a0] m_Holders_init.2.2.1) [] := by
  show xW sc m_Holders_init (d + 2) Q (hh) 0 [some (vR a0)] []
  unfold f_Holders_init at h
  refine x_aload_n (pc := 0) d_Holders_init_0 rfl ?_
  obtain ⟨c1, h⟩ := ite_some h
  obtain ⟨v2, e3, h⟩ := Option.bind_eq_some_iff.mp h
  refine c_invi (d := d + 1) (av := []) (st := []) (Q' := fun r h' => r = .inl none ∧ h' = hh) (pc := 1) d_Holders_init_1 ci_Holders_3 y_Group_init (tw_1 (List.mem_of_getElem? (i := 63) rfl)) c1 rfl (Nat.le_of_ble_eq_true rfl) (Nat.le_of_ble_eq_true rfl) (w_Group_init (d := d + 0) (Q := fun r h' => r = .inl none ∧ h' = hh) ⟨rfl, rfl⟩ a0 e3) (fun v h' z => ?_) (fun a h' z => nomatch z.1)
  obtain ⟨z1, z2⟩ := z
  subst h'
  cases z1
  show xW sc m_Holders_init (d + 2) Q (hh) 4 [some (vR a0)] []
  cases h
  exact x_vret (pc := 4) d_Holders_init_4 rfl hQ
def f_P_take_b60 (sc : xSc) (k28 : Option Nat → Int32 → Int32 → xH → Option ((Int32 ⊕ Nat) × xH)) (l0 : Option Nat) (l1 : Int32) (l2 : Int32) (u : xH) : Option ((Int32 ⊕ Nat) × xH) := (gR sc u 0 7 l0).bind fun v1 => (aR sc u v1 l2).bind fun v3 => (if xis sc u 2 v3 = true then (f_Slot_set sc u v3 (some 72) (0 : Int32) (0 : Int32) (0 : Int32)).bind fun u6 => (gR sc u6 0 7 l0).bind fun v8 => (aR sc u6 v8 l2).bind fun v10 => (gI sc u6 0 26 l0).bind fun v12 => (pV u6 2 4 v10 (vI v12)).bind fun u14 => k28 l0 l1 (l2 + Int32.ofInt 1) u14 else none)
theorem w_P_take_b60 {sc : xSc} {d : Nat} {Q : xR → xH → Prop} {oZ : Int32 ⊕ Nat} {hZ : xH} (k28 : Option Nat → Int32 → Int32 → xH → Option ((Int32 ⊕ Nat) × xH)) (hk28 : ∀ (l0 : Option Nat) (l1 : Int32) (l2 : Int32) (u : xH), k28 l0 l1 l2 u = some (oZ, hZ) → xW sc m_P_take (d + 7) Q (u) 28 [some (vR l0), some (vI l1), some (vI l2)] []) (hQ : Q (cvI oZ) hZ) (l0 : Option Nat) (l1 : Int32) (l2 : Int32) (u : xH) (h : f_P_take_b60 sc k28 l0 l1 l2 u = some (oZ, hZ)) : xW sc m_P_take (d + 7) Q (u) 60 [some (vR l0), some (vI l1), some (vI l2)] [] := by
  unfold f_P_take_b60 at h
  refine x_aload_n (pc := 60) d_P_take_60 rfl ?_
  obtain ⟨v1, e2, h⟩ := Option.bind_eq_some_iff.mp h
  refine c_getR (pc := 61) d_P_take_61 l_P_57 e2 ?_
  refine x_iload_n (pc := 64) d_P_take_64 rfl ?_
  obtain ⟨v3, e4, h⟩ := Option.bind_eq_some_iff.mp h
  refine c_aald (pc := 65) d_P_take_65 e4 ?_
  refine x_gets (v := vR (some 72)) (pc := 66) d_P_take_66 sl_P_221 ?_
  refine x_iconst (v := (0 : Int32)) (pc := 69) d_P_take_69 (by decide) ?_
  refine x_iconst (v := (0 : Int32)) (pc := 70) d_P_take_70 (by decide) ?_
  refine x_iconst (v := (0 : Int32)) (pc := 71) d_P_take_71 (by decide) ?_
  obtain ⟨c5, h⟩ := ite_some h
  obtain ⟨u6, e7, h⟩ := Option.bind_eq_some_iff.mp h
  refine c_invv (c := 2) (d := d + 6) (av := [vR (some 72), vI (0 : Int32), vI (0 : Int32), vI (0 : Int32)]) (st := []) (Q' := fun r h' => r = .inl none ∧ h' = u6) (pc := 72) d_P_take_72 cv_P_186 y_Slot_set c5 rfl (Nat.le_of_ble_eq_true rfl) (Nat.le_of_ble_eq_true rfl) (w_Slot_set (d := d + 6) (Q := fun r h' => r = .inl none ∧ h' = u6) ⟨rfl, rfl⟩ u v3 (some 72) (0 : Int32) (0 : Int32) (0 : Int32) e7) (fun v h' z => ?_) (fun a h' z => nomatch z.1)
  obtain ⟨z1, z2⟩ := z
  subst h'
  cases z1
  show xW sc m_P_take (d + 7) Q (u6) 75 [some (vR l0), some (vI l1), some (vI l2)] []
  refine x_aload_n (pc := 75) d_P_take_75 rfl ?_
  obtain ⟨v8, e9, h⟩ := Option.bind_eq_some_iff.mp h
  refine c_getR (pc := 76) d_P_take_76 l_P_57 e9 ?_
  refine x_iload_n (pc := 79) d_P_take_79 rfl ?_
  obtain ⟨v10, e11, h⟩ := Option.bind_eq_some_iff.mp h
  refine c_aald (pc := 80) d_P_take_80 e11 ?_
  refine x_aload_n (pc := 81) d_P_take_81 rfl ?_
  obtain ⟨v12, e13, h⟩ := Option.bind_eq_some_iff.mp h
  refine c_getI (pc := 82) d_P_take_82 l_P_234 e13 ?_
  obtain ⟨u14, e15, h⟩ := Option.bind_eq_some_iff.mp h
  refine c_putf (pc := 85) d_P_take_85 l_P_237 fp_2_4 (xfit_int) e15 ?_
  refine x_iinc (pc := 88) d_P_take_88 rfl (by decide) ?_
  show xW sc m_P_take (d + 7) Q (u14) 91 [some (vR l0), some (vI l1), some (vI (l2 + Int32.ofInt 1))] []
  refine x_goto (tgt := 28) (pc := 91) d_P_take_91 (by decide) ?_
  exact hk28 l0 l1 (l2 + Int32.ofInt 1) u14 h
def f_P_take_b28 (sc : xSc)  : Nat → Option Nat → Int32 → Int32 → xH → Option ((Int32 ⊕ Nat) × xH)
  | 0, _, _, _, _ => none
  | n + 1, l0, l1, l2, u => (gI sc u 0 10 l0).bind fun v1 => (if (v1 + l1) ≤ l2 then (gI sc u 0 10 l0).bind fun v4 => (pV u 0 10 l0 (vI (v4 + l1))).bind fun u6 => (gI sc u6 0 10 l0).bind fun v8 => some (.inl (v8 - l1), u6) else (gR sc u 0 7 l0).bind fun v10 => (aR sc u v10 l2).bind fun v12 => (if v12 = none then (gR sc u 0 7 l0).bind fun v15 => (nO 2 8 8 u).bind fun u17 => (if (some u.2.1).isSome = true then (f_Slot_init sc u17 (some u.2.1)).bind fun u20 => (bR "PageScribe$Slot" 2 sc u20 v15 l2 (some u.2.1)).bind fun u22 => f_P_take_b60 sc (f_P_take_b28 sc n) l0 l1 l2 u22 else none) else f_P_take_b60 sc (f_P_take_b28 sc n) l0 l1 l2 u))
theorem w_P_take_b28 {sc : xSc} {d : Nat} {Q : xR → xH → Prop} {oZ : Int32 ⊕ Nat} {hZ : xH}  (hQ : Q (cvI oZ) hZ) : ∀ (n : Nat) (l0 : Option Nat) (l1 : Int32) (l2 : Int32) (u : xH), f_P_take_b28 sc  n l0 l1 l2 u = some (oZ, hZ) → xW sc m_P_take (d + 7) Q (u) 28 [some (vR l0), some (vI l1), some (vI l2)] [] := by
  intro n
  induction n with
  | zero =>
    intro l0 l1 l2 u h
    cases h
  | succ n hk28 =>
    intro l0 l1 l2 u h
    unfold f_P_take_b28 at h
    refine x_iload_n (pc := 28) d_P_take_28 rfl ?_
    refine x_aload_n (pc := 29) d_P_take_29 rfl ?_
    obtain ⟨v1, e2, h⟩ := Option.bind_eq_some_iff.mp h
    refine c_getI (pc := 30) d_P_take_30 l_P_231 e2 ?_
    refine x_iload_n (pc := 33) d_P_take_33 rfl ?_
    refine x_iadd (pc := 34) d_P_take_34 ?_
    refine x_icmp_ge (tgt := 94) (pc := 35) d_P_take_35 (by decide) (fun c3 => ?_) (fun c3 => ?_)
    · rw [if_pos c3] at h
      refine x_aload_n (pc := 94) d_P_take_94 rfl ?_
      refine x_dup (pc := 95) d_P_take_95 rfl ?_
      obtain ⟨v4, e5, h⟩ := Option.bind_eq_some_iff.mp h
      refine c_getI (pc := 96) d_P_take_96 l_P_231 e5 ?_
      refine x_iload_n (pc := 99) d_P_take_99 rfl ?_
      refine x_iadd (pc := 100) d_P_take_100 ?_
      obtain ⟨u6, e7, h⟩ := Option.bind_eq_some_iff.mp h
      refine c_putf (pc := 101) d_P_take_101 l_P_231 fp_0_10 (xfit_int) e7 ?_
      refine x_aload_n (pc := 104) d_P_take_104 rfl ?_
      obtain ⟨v8, e9, h⟩ := Option.bind_eq_some_iff.mp h
      refine c_getI (pc := 105) d_P_take_105 l_P_231 e9 ?_
      refine x_iload_n (pc := 108) d_P_take_108 rfl ?_
      refine x_isub (pc := 109) d_P_take_109 ?_
      cases h
      exact x_iret (ty := .int) (pc := 110) d_P_take_110 rfl (rfl) hQ
    · rw [if_neg c3] at h
      refine x_aload_n (pc := 38) d_P_take_38 rfl ?_
      obtain ⟨v10, e11, h⟩ := Option.bind_eq_some_iff.mp h
      refine c_getR (pc := 39) d_P_take_39 l_P_57 e11 ?_
      refine x_iload_n (pc := 42) d_P_take_42 rfl ?_
      obtain ⟨v12, e13, h⟩ := Option.bind_eq_some_iff.mp h
      refine c_aald (pc := 43) d_P_take_43 e13 ?_
      refine c_ifnonnull (tgt := 60) (pc := 44) d_P_take_44 (by decide) (fun c14 => ?_) (fun c14 => ?_)
      · rw [if_neg c14] at h
        exact w_P_take_b60 (f_P_take_b28 sc n) hk28 hQ l0 l1 l2 u h
      · rw [if_pos c14] at h
        refine x_aload_n (pc := 47) d_P_take_47 rfl ?_
        obtain ⟨v15, e16, h⟩ := Option.bind_eq_some_iff.mp h
        refine c_getR (pc := 48) d_P_take_48 l_P_57 e16 ?_
        refine x_iload_n (pc := 51) d_P_take_51 rfl ?_
        obtain ⟨u17, e18, h⟩ := Option.bind_eq_some_iff.mp h
        refine c_new (pc := 52) d_P_take_52 nw_P_51 ly_2 ⟨_, rfl, rfl⟩ e18 ?_
        refine x_dup (pc := 55) d_P_take_55 rfl ?_
        obtain ⟨c19, h⟩ := ite_some h
        obtain ⟨u20, e21, h⟩ := Option.bind_eq_some_iff.mp h
        refine c_invi (d := d + 6) (av := []) (st := [vR (some u.2.1), vI l2, vR v15]) (Q' := fun r h' => r = .inl none ∧ h' = u20) (pc := 56) d_P_take_56 ci_P_177 y_Slot_init (tw_4 (List.mem_of_getElem? (i := 157) rfl)) c19 rfl (Nat.le_of_ble_eq_true rfl) (Nat.le_of_ble_eq_true rfl) (w_Slot_init (d := d + 5) (Q := fun r h' => r = .inl none ∧ h' = u20) ⟨rfl, rfl⟩ u17 (some u.2.1) e21) (fun v h' z => ?_) (fun a h' z => nomatch z.1)
        obtain ⟨z1, z2⟩ := z
        subst h'
        cases z1
        show xW sc m_P_take (d + 7) Q (u20) 59 [some (vR l0), some (vI l1), some (vI l2)] [vR (some u.2.1), vI l2, vR v15]
        obtain ⟨u22, e23, h⟩ := Option.bind_eq_some_iff.mp h
        refine c_aast (C := "PageScribe$Slot") (c := 2) (pc := 59) d_P_take_59 ⟨_, rfl, Or.inl ⟨rfl, by decide, by decide⟩⟩ e23 ?_
        exact w_P_take_b60 (f_P_take_b28 sc n) hk28 hQ l0 l1 l2 u22 h
def f_P_take_b18 (sc : xSc)  (l0 : Option Nat) (l1 : Int32) (t0 : Int32) (t1 : Option Nat) (u : xH) : Option ((Int32 ⊕ Nat) × xH) := (if xis sc u 0 t1 = true then tB (f_P_need sc u t1 t0 (7 : Int32)) (fun v3 u2 => (gI sc u2 0 10 l0).bind fun v7 => f_P_take_b28 sc mF l0 l1 v7 u2) (fun a5 u6 => some (.inr a5, u6)) else none)
theorem w_P_take_b18 {sc : xSc} {d : Nat} {Q : xR → xH → Prop} {oZ : Int32 ⊕ Nat} {hZ : xH}  (hQ : Q (cvI oZ) hZ) (l0 : Option Nat) (l1 : Int32) (t0 : Int32) (t1 : Option Nat) (u : xH) (h : f_P_take_b18 sc  l0 l1 t0 t1 u = some (oZ, hZ)) : xW sc m_P_take (d + 7) Q (u) 18 [some (vR l0), some (vI l1), none] [vI t0, vR t1] := by
  unfold f_P_take_b18 at h
  refine x_bipush (v := (7 : Int32)) (pc := 18) d_P_take_18 (by decide) ?_
  obtain ⟨c1, h⟩ := ite_some h
  rcases tB_s h with ⟨a5, u6, e4, h⟩ | ⟨v3, u2, e4, h⟩
  · refine c_invv (c := 0) (d := d + 6) (av := [vI t0, vI (7 : Int32)]) (st := []) (Q' := fun r h' => r = .inr a5 ∧ h' = u6) (pc := 20) d_P_take_20 cv_P_170 y_P_need c1 rfl (Nat.le_of_ble_eq_true rfl) (Nat.le_of_ble_eq_true rfl) (w_P_need (d := d + 0) (Q := fun r h' => r = .inr a5 ∧ h' = u6) ⟨rfl, rfl⟩ u t1 t0 (7 : Int32) e4) (fun v h' z => nomatch z.1) (fun a h' z => ?_)
    obtain ⟨z1, z2⟩ := z
    subst h'
    cases z1
    cases h
    exact x_thOut (xno rfl) hQ
  refine c_invv (c := 0) (d := d + 6) (av := [vI t0, vI (7 : Int32)]) (st := []) (Q' := fun r h' => r = .inl none ∧ h' = u2) (pc := 20) d_P_take_20 cv_P_170 y_P_need c1 rfl (Nat.le_of_ble_eq_true rfl) (Nat.le_of_ble_eq_true rfl) (w_P_need (d := d + 0) (Q := fun r h' => r = .inl none ∧ h' = u2) ⟨rfl, rfl⟩ u t1 t0 (7 : Int32) e4) (fun v h' z => ?_) (fun a h' z => nomatch z.1)
  obtain ⟨z1, z2⟩ := z
  subst h'
  cases z1
  show xW sc m_P_take (d + 7) Q (u2) 23 [some (vR l0), some (vI l1), none] []
  refine x_aload_n (pc := 23) d_P_take_23 rfl ?_
  obtain ⟨v7, e8, h⟩ := Option.bind_eq_some_iff.mp h
  refine c_getI (pc := 24) d_P_take_24 l_P_231 e8 ?_
  refine x_istore_n (pc := 27) d_P_take_27 (by decide) ?_
  show xW sc m_P_take (d + 7) Q (u2) 28 [some (vR l0), some (vI l1), some (vI v7)] []
  exact w_P_take_b28 hQ mF l0 l1 v7 u2 h
def f_P_take (sc : xSc) (u : xH) (a0 : Option Nat) (a1 : Int32) : Option ((Int32 ⊕ Nat) × xH) := (gI sc u 0 10 a0).bind fun v1 => (if ((160 : Int32) - v1) < a1 then f_P_take_b18 sc a0 a1 (0 : Int32) a0 u else f_P_take_b18 sc a0 a1 (1 : Int32) a0 u)
theorem w_P_take {sc : xSc} {d : Nat} {Q : xR → xH → Prop} {oZ : Int32 ⊕ Nat} {hZ : xH} (hQ : Q (cvI oZ) hZ) (u : xH) (a0 : Option Nat) (a1 : Int32) (h : f_P_take sc u a0 a1 = some (oZ, hZ)) : xW sc m_P_take (d + 7) Q (u) 0 (xent [vR a0, vI a1] m_P_take.2.2.1) [] := by
  show xW sc m_P_take (d + 7) Q (u) 0 [some (vR a0), some (vI a1), none] []
  unfold f_P_take at h
  refine x_aload_n (pc := 0) d_P_take_0 rfl ?_
  refine x_iload_n (pc := 1) d_P_take_1 rfl ?_
  refine x_sipush (v := (160 : Int32)) (pc := 2) d_P_take_2 (by decide) ?_
  refine x_aload_n (pc := 5) d_P_take_5 rfl ?_
  obtain ⟨v1, e2, h⟩ := Option.bind_eq_some_iff.mp h
  refine c_getI (pc := 6) d_P_take_6 l_P_231 e2 ?_
  refine x_isub (pc := 9) d_P_take_9 ?_
  refine x_icmp_gt (tgt := 17) (pc := 10) d_P_take_10 (by decide) (fun c3 => ?_) (fun c3 => ?_)
  · rw [if_pos c3] at h
    refine x_iconst (v := (0 : Int32)) (pc := 17) d_P_take_17 (by decide) ?_
    exact w_P_take_b18 hQ a0 a1 (0 : Int32) a0 u h
  · rw [if_neg c3] at h
    refine x_iconst (v := (1 : Int32)) (pc := 13) d_P_take_13 (by decide) ?_
    refine x_goto (tgt := 18) (pc := 14) d_P_take_14 (by decide) ?_
    exact w_P_take_b18 hQ a0 a1 (1 : Int32) a0 u h
def f_Holders_put_b134 (sc : xSc)  (l0 : Option Nat) (u : xH) : Option ((Unit ⊕ Nat) × xH) := (gI sc u 0 9 l0).bind fun v1 => (pV u 0 9 l0 (vI (v1 - (3 : Int32)))).bind fun u3 => some (.inl (), u3)
theorem w_Holders_put_b134 {sc : xSc} {d : Nat} {Q : xR → xH → Prop} {oZ : Unit ⊕ Nat} {hZ : xH}  (hQ : Q (cvU oZ) hZ) (l0 : Option Nat) (u : xH) (h : f_Holders_put_b134 sc  l0 u = some (oZ, hZ)) : xW sc m_Holders_put (d + 8) Q (u) 134 [some (vR l0), none, none, none, none] [] := by
  unfold f_Holders_put_b134 at h
  refine x_aload_n (pc := 134) d_Holders_put_134 rfl ?_
  refine x_dup (pc := 135) d_Holders_put_135 rfl ?_
  obtain ⟨v1, e2, h⟩ := Option.bind_eq_some_iff.mp h
  refine c_getI (pc := 136) d_Holders_put_136 l_Holders_83 e2 ?_
  refine x_iconst (v := (3 : Int32)) (pc := 139) d_Holders_put_139 (by decide) ?_
  refine x_isub (pc := 140) d_Holders_put_140 ?_
  obtain ⟨u3, e4, h⟩ := Option.bind_eq_some_iff.mp h
  refine c_putf (pc := 141) d_Holders_put_141 l_Holders_83 fp_0_9 (xfit_int) e4 ?_
  cases h
  exact x_vret (pc := 144) d_Holders_put_144 rfl hQ
def f_Holders_put_b90 (sc : xSc)  (l0 : Option Nat) (l1 : Option Nat) (l2 : Option Nat) (l3 : Option Nat) (l4 : Int32) (t0 : Int32) (t1 : Option Nat) (u : xH) : Option ((Unit ⊕ Nat) × xH) := (if xis sc u 0 t1 = true then tB (f_P_need sc u t1 t0 (4 : Int32)) (fun v3 u2 => (if l4 = 0 then (gR sc u2 2 7 l1).bind fun v8 => (gR sc u2 2 6 l2).bind fun v10 => (if xis sc u2 0 l0 = true then tB (f_P_define sc u2 l0 v8 v10 l3) (fun v14 u13 => f_Holders_put_b134 sc l0 u13) (fun a16 u17 => some (.inr a16, u17)) else none) else (gR sc u2 0 7 l0).bind fun v18 => (gI sc u2 2 2 l1).bind fun v20 => (gI sc u2 2 2 l2).bind fun v22 => (aR sc u2 v18 (v20 + v22)).bind fun v24 => (if xis sc u2 0 l0 = true then (f_P_rewrite sc u2 l0 v24 l3).bind fun u27 => f_Holders_put_b134 sc l0 u27 else none))) (fun a5 u6 => some (.inr a5, u6)) else none)
theorem w_Holders_put_b90 {sc : xSc} {d : Nat} {Q : xR → xH → Prop} {oZ : Unit ⊕ Nat} {hZ : xH}  (hQ : Q (cvU oZ) hZ) (l0 : Option Nat) (l1 : Option Nat) (l2 : Option Nat) (l3 : Option Nat) (l4 : Int32) (t0 : Int32) (t1 : Option Nat) (u : xH) (h : f_Holders_put_b90 sc  l0 l1 l2 l3 l4 t0 t1 u = some (oZ, hZ)) : xW sc m_Holders_put (d + 8) Q (u) 90 [some (vR l0), some (vR l1), some (vR l2), some (vR l3), some (vI l4)] [vI t0, vR t1] := by
  unfold f_Holders_put_b90 at h
  refine x_iconst (v := (4 : Int32)) (pc := 90) d_Holders_put_90 (by decide) ?_
  obtain ⟨c1, h⟩ := ite_some h
  rcases tB_s h with ⟨a5, u6, e4, h⟩ | ⟨v3, u2, e4, h⟩
  · refine c_invv (c := 0) (d := d + 7) (av := [vI t0, vI (4 : Int32)]) (st := []) (Q' := fun r h' => r = .inr a5 ∧ h' = u6) (pc := 91) d_Holders_put_91 cv_Holders_35 y_P_need c1 rfl (Nat.le_of_ble_eq_true rfl) (Nat.le_of_ble_eq_true rfl) (w_P_need (d := d + 1) (Q := fun r h' => r = .inr a5 ∧ h' = u6) ⟨rfl, rfl⟩ u t1 t0 (4 : Int32) e4) (fun v h' z => nomatch z.1) (fun a h' z => ?_)
    obtain ⟨z1, z2⟩ := z
    subst h'
    cases z1
    cases h
    exact x_thOut (xno rfl) hQ
  refine c_invv (c := 0) (d := d + 7) (av := [vI t0, vI (4 : Int32)]) (st := []) (Q' := fun r h' => r = .inl none ∧ h' = u2) (pc := 91) d_Holders_put_91 cv_Holders_35 y_P_need c1 rfl (Nat.le_of_ble_eq_true rfl) (Nat.le_of_ble_eq_true rfl) (w_P_need (d := d + 1) (Q := fun r h' => r = .inl none ∧ h' = u2) ⟨rfl, rfl⟩ u t1 t0 (4 : Int32) e4) (fun v h' z => ?_) (fun a h' z => nomatch z.1)
  obtain ⟨z1, z2⟩ := z
  subst h'
  cases z1
  show xW sc m_Holders_put (d + 8) Q (u2) 94 [some (vR l0), some (vR l1), some (vR l2), some (vR l3), some (vI l4)] []
  refine x_iload (pc := 94) d_Holders_put_94 rfl ?_
  refine x_if_eq (tgt := 121) (pc := 96) d_Holders_put_96 (by decide) (fun c7 => ?_) (fun c7 => ?_)
  · rw [if_pos c7] at h
    refine x_aload_n (pc := 121) d_Holders_put_121 rfl ?_
    refine x_aload_n (pc := 122) d_Holders_put_122 rfl ?_
    obtain ⟨v8, e9, h⟩ := Option.bind_eq_some_iff.mp h
    refine c_getR (pc := 123) d_Holders_put_123 l_Holders_56 e9 ?_
    refine x_aload_n (pc := 126) d_Holders_put_126 rfl ?_
    obtain ⟨v10, e11, h⟩ := Option.bind_eq_some_iff.mp h
    refine c_getR (pc := 127) d_Holders_put_127 l_Holders_105 e11 ?_
    refine x_aload_n (pc := 130) d_Holders_put_130 rfl ?_
    obtain ⟨c12, h⟩ := ite_some h
    rcases tB_s h with ⟨a16, u17, e15, h⟩ | ⟨v14, u13, e15, h⟩
    · refine c_invv (c := 0) (d := d + 7) (av := [vR v8, vR v10, vR l3]) (st := []) (Q' := fun r h' => r = .inr a16 ∧ h' = u17) (pc := 131) d_Holders_put_131 cv_Holders_120 y_P_define c12 rfl (Nat.le_of_ble_eq_true rfl) (Nat.le_of_ble_eq_true rfl) (w_P_define (d := d + 0) (Q := fun r h' => r = .inr a16 ∧ h' = u17) ⟨rfl, rfl⟩ u2 l0 v8 v10 l3 e15) (fun v h' z => nomatch z.1) (fun a h' z => ?_)
      obtain ⟨z1, z2⟩ := z
      subst h'
      cases z1
      cases h
      exact x_thOut (xno rfl) hQ
    refine c_invv (c := 0) (d := d + 7) (av := [vR v8, vR v10, vR l3]) (st := []) (Q' := fun r h' => r = .inl none ∧ h' = u13) (pc := 131) d_Holders_put_131 cv_Holders_120 y_P_define c12 rfl (Nat.le_of_ble_eq_true rfl) (Nat.le_of_ble_eq_true rfl) (w_P_define (d := d + 0) (Q := fun r h' => r = .inl none ∧ h' = u13) ⟨rfl, rfl⟩ u2 l0 v8 v10 l3 e15) (fun v h' z => ?_) (fun a h' z => nomatch z.1)
    obtain ⟨z1, z2⟩ := z
    subst h'
    cases z1
    show xW sc m_Holders_put (d + 8) Q (u13) 134 [some (vR l0), some (vR l1), some (vR l2), some (vR l3), some (vI l4)] []
    exact x_wk (L' := [some (vR l0), none, none, none, none]) ⟨Or.inr rfl, Or.inl rfl, Or.inl rfl, Or.inl rfl, Or.inl rfl, trivial⟩ (w_Holders_put_b134 hQ l0 u13 h)
  · rw [if_neg c7] at h
    refine x_aload_n (pc := 99) d_Holders_put_99 rfl ?_
    refine x_aload_n (pc := 100) d_Holders_put_100 rfl ?_
    obtain ⟨v18, e19, h⟩ := Option.bind_eq_some_iff.mp h
    refine c_getR (pc := 101) d_Holders_put_101 l_Holders_101 e19 ?_
    refine x_aload_n (pc := 104) d_Holders_put_104 rfl ?_
    obtain ⟨v20, e21, h⟩ := Option.bind_eq_some_iff.mp h
    refine c_getI (pc := 105) d_Holders_put_105 l_Holders_31 e21 ?_
    refine x_aload_n (pc := 108) d_Holders_put_108 rfl ?_
    obtain ⟨v22, e23, h⟩ := Option.bind_eq_some_iff.mp h
    refine c_getI (pc := 109) d_Holders_put_109 l_Holders_31 e23 ?_
    refine x_iadd (pc := 112) d_Holders_put_112 ?_
    obtain ⟨v24, e25, h⟩ := Option.bind_eq_some_iff.mp h
    refine c_aald (pc := 113) d_Holders_put_113 e25 ?_
    refine x_aload_n (pc := 114) d_Holders_put_114 rfl ?_
    obtain ⟨c26, h⟩ := ite_some h
    obtain ⟨u27, e28, h⟩ := Option.bind_eq_some_iff.mp h
    refine c_invv (c := 0) (d := d + 7) (av := [vR v24, vR l3]) (st := []) (Q' := fun r h' => r = .inl none ∧ h' = u27) (pc := 115) d_Holders_put_115 cv_Holders_117 y_P_rewrite c26 rfl (Nat.le_of_ble_eq_true rfl) (Nat.le_of_ble_eq_true rfl) (w_P_rewrite (d := d + 4) (Q := fun r h' => r = .inl none ∧ h' = u27) ⟨rfl, rfl⟩ u2 l0 v24 l3 e28) (fun v h' z => ?_) (fun a h' z => nomatch z.1)
    obtain ⟨z1, z2⟩ := z
    subst h'
    cases z1
    show xW sc m_Holders_put (d + 8) Q (u27) 118 [some (vR l0), some (vR l1), some (vR l2), some (vR l3), some (vI l4)] []
    refine x_goto (tgt := 134) (pc := 118) d_Holders_put_118 (by decide) ?_
    exact x_wk (L' := [some (vR l0), none, none, none, none]) ⟨Or.inr rfl, Or.inl rfl, Or.inl rfl, Or.inl rfl, Or.inl rfl, trivial⟩ (w_Holders_put_b134 hQ l0 u27 h)
def f_Holders_put_b89 (sc : xSc)  (l0 : Option Nat) (l1 : Option Nat) (l2 : Option Nat) (l3 : Option Nat) (l4 : Int32) (t0 : Option Nat) (u : xH) : Option ((Unit ⊕ Nat) × xH) := f_Holders_put_b90 sc l0 l1 l2 l3 l4 (0 : Int32) t0 u
theorem w_Holders_put_b89 {sc : xSc} {d : Nat} {Q : xR → xH → Prop} {oZ : Unit ⊕ Nat} {hZ : xH}  (hQ : Q (cvU oZ) hZ) (l0 : Option Nat) (l1 : Option Nat) (l2 : Option Nat) (l3 : Option Nat) (l4 : Int32) (t0 : Option Nat) (u : xH) (h : f_Holders_put_b89 sc  l0 l1 l2 l3 l4 t0 u = some (oZ, hZ)) : xW sc m_Holders_put (d + 8) Q (u) 89 [some (vR l0), some (vR l1), some (vR l2), some (vR l3), some (vI l4)] [vR t0] := by
  unfold f_Holders_put_b89 at h
  refine x_iconst (v := (0 : Int32)) (pc := 89) d_Holders_put_89 (by decide) ?_
  exact w_Holders_put_b90 hQ l0 l1 l2 l3 l4 (0 : Int32) t0 u h
def f_Holders_put_b85 (sc : xSc)  (l0 : Option Nat) (l1 : Option Nat) (l2 : Option Nat) (l3 : Option Nat) (l4 : Int32) (t0 : Option Nat) (u : xH) : Option ((Unit ⊕ Nat) × xH) := f_Holders_put_b90 sc l0 l1 l2 l3 l4 (1 : Int32) t0 u
theorem w_Holders_put_b85 {sc : xSc} {d : Nat} {Q : xR → xH → Prop} {oZ : Unit ⊕ Nat} {hZ : xH}  (hQ : Q (cvU oZ) hZ) (l0 : Option Nat) (l1 : Option Nat) (l2 : Option Nat) (l3 : Option Nat) (l4 : Int32) (t0 : Option Nat) (u : xH) (h : f_Holders_put_b85 sc  l0 l1 l2 l3 l4 t0 u = some (oZ, hZ)) : xW sc m_Holders_put (d + 8) Q (u) 85 [some (vR l0), some (vR l1), some (vR l2), some (vR l3), some (vI l4)] [vR t0] := by
  unfold f_Holders_put_b85 at h
  refine x_iconst (v := (1 : Int32)) (pc := 85) d_Holders_put_85 (by decide) ?_
  refine x_goto (tgt := 90) (pc := 86) d_Holders_put_86 (by decide) ?_
  exact w_Holders_put_b90 hQ l0 l1 l2 l3 l4 (1 : Int32) t0 u h
def f_Holders_put_b58 (sc : xSc)  (l0 : Option Nat) (l1 : Option Nat) (l2 : Option Nat) (l3 : Option Nat) (l4 : Int32) (t0 : Int32) (t1 : Option Nat) (u : xH) : Option ((Unit ⊕ Nat) × xH) := (if xis sc u 0 t1 = true then tB (f_P_type sc u t1 t0) (fun v3 u2 => (if l4 = 0 then f_Holders_put_b85 sc l0 l1 l2 l3 l4 l0 u2 else (gI sc u2 2 2 l2).bind fun v8 => (if v8 < 0 then f_Holders_put_b89 sc l0 l1 l2 l3 l4 l0 u2 else (gI sc u2 2 2 l2).bind fun v11 => (gI sc u2 2 3 l1).bind fun v13 => (if v13 ≤ v11 then f_Holders_put_b89 sc l0 l1 l2 l3 l4 l0 u2 else f_Holders_put_b85 sc l0 l1 l2 l3 l4 l0 u2)))) (fun a5 u6 => some (.inr a5, u6)) else none)
theorem w_Holders_put_b58 {sc : xSc} {d : Nat} {Q : xR → xH → Prop} {oZ : Unit ⊕ Nat} {hZ : xH}  (hQ : Q (cvU oZ) hZ) (l0 : Option Nat) (l1 : Option Nat) (l2 : Option Nat) (l3 : Option Nat) (l4 : Int32) (t0 : Int32) (t1 : Option Nat) (u : xH) (h : f_Holders_put_b58 sc  l0 l1 l2 l3 l4 t0 t1 u = some (oZ, hZ)) : xW sc m_Holders_put (d + 8) Q (u) 58 [some (vR l0), some (vR l1), some (vR l2), some (vR l3), some (vI l4)] [vI t0, vR t1] := by
  unfold f_Holders_put_b58 at h
  obtain ⟨c1, h⟩ := ite_some h
  rcases tB_s h with ⟨a5, u6, e4, h⟩ | ⟨v3, u2, e4, h⟩
  · refine c_invv (c := 0) (d := d + 7) (av := [vI t0]) (st := []) (Q' := fun r h' => r = .inr a5 ∧ h' = u6) (pc := 58) d_Holders_put_58 cv_Holders_27 y_P_type c1 rfl (Nat.le_of_ble_eq_true rfl) (Nat.le_of_ble_eq_true rfl) (w_P_type (d := d + 0) (Q := fun r h' => r = .inr a5 ∧ h' = u6) ⟨rfl, rfl⟩ u t1 t0 e4) (fun v h' z => nomatch z.1) (fun a h' z => ?_)
    obtain ⟨z1, z2⟩ := z
    subst h'
    cases z1
    cases h
    exact x_thOut (xno rfl) hQ
  refine c_invv (c := 0) (d := d + 7) (av := [vI t0]) (st := []) (Q' := fun r h' => r = .inl none ∧ h' = u2) (pc := 58) d_Holders_put_58 cv_Holders_27 y_P_type c1 rfl (Nat.le_of_ble_eq_true rfl) (Nat.le_of_ble_eq_true rfl) (w_P_type (d := d + 0) (Q := fun r h' => r = .inl none ∧ h' = u2) ⟨rfl, rfl⟩ u t1 t0 e4) (fun v h' z => ?_) (fun a h' z => nomatch z.1)
  obtain ⟨z1, z2⟩ := z
  subst h'
  cases z1
  show xW sc m_Holders_put (d + 8) Q (u2) 61 [some (vR l0), some (vR l1), some (vR l2), some (vR l3), some (vI l4)] []
  refine x_aload_n (pc := 61) d_Holders_put_61 rfl ?_
  refine x_iload (pc := 62) d_Holders_put_62 rfl ?_
  refine x_if_eq (tgt := 85) (pc := 64) d_Holders_put_64 (by decide) (fun c7 => ?_) (fun c7 => ?_)
  · rw [if_pos c7] at h
    exact w_Holders_put_b85 hQ l0 l1 l2 l3 l4 l0 u2 h
  · rw [if_neg c7] at h
    refine x_aload_n (pc := 67) d_Holders_put_67 rfl ?_
    obtain ⟨v8, e9, h⟩ := Option.bind_eq_some_iff.mp h
    refine c_getI (pc := 68) d_Holders_put_68 l_Holders_31 e9 ?_
    refine x_if_lt (tgt := 89) (pc := 71) d_Holders_put_71 (by decide) (fun c10 => ?_) (fun c10 => ?_)
    · rw [if_pos c10] at h
      exact w_Holders_put_b89 hQ l0 l1 l2 l3 l4 l0 u2 h
    · rw [if_neg c10] at h
      refine x_aload_n (pc := 74) d_Holders_put_74 rfl ?_
      obtain ⟨v11, e12, h⟩ := Option.bind_eq_some_iff.mp h
      refine c_getI (pc := 75) d_Holders_put_75 l_Holders_31 e12 ?_
      refine x_aload_n (pc := 78) d_Holders_put_78 rfl ?_
      obtain ⟨v13, e14, h⟩ := Option.bind_eq_some_iff.mp h
      refine c_getI (pc := 79) d_Holders_put_79 l_Holders_53 e14 ?_
      refine x_icmp_ge (tgt := 89) (pc := 82) d_Holders_put_82 (by decide) (fun c15 => ?_) (fun c15 => ?_)
      · rw [if_pos c15] at h
        exact w_Holders_put_b89 hQ l0 l1 l2 l3 l4 l0 u2 h
      · rw [if_neg c15] at h
        exact w_Holders_put_b85 hQ l0 l1 l2 l3 l4 l0 u2 h
def f_Holders_put_b57 (sc : xSc)  (l0 : Option Nat) (l1 : Option Nat) (l2 : Option Nat) (l3 : Option Nat) (l4 : Int32) (t0 : Option Nat) (u : xH) : Option ((Unit ⊕ Nat) × xH) := f_Holders_put_b58 sc l0 l1 l2 l3 l4 (0 : Int32) t0 u
theorem w_Holders_put_b57 {sc : xSc} {d : Nat} {Q : xR → xH → Prop} {oZ : Unit ⊕ Nat} {hZ : xH}  (hQ : Q (cvU oZ) hZ) (l0 : Option Nat) (l1 : Option Nat) (l2 : Option Nat) (l3 : Option Nat) (l4 : Int32) (t0 : Option Nat) (u : xH) (h : f_Holders_put_b57 sc  l0 l1 l2 l3 l4 t0 u = some (oZ, hZ)) : xW sc m_Holders_put (d + 8) Q (u) 57 [some (vR l0), some (vR l1), some (vR l2), some (vR l3), some (vI l4)] [vR t0] := by
  unfold f_Holders_put_b57 at h
  refine x_iconst (v := (0 : Int32)) (pc := 57) d_Holders_put_57 (by decide) ?_
  exact w_Holders_put_b58 hQ l0 l1 l2 l3 l4 (0 : Int32) t0 u h
def f_Holders_put_b53 (sc : xSc)  (l0 : Option Nat) (l1 : Option Nat) (l2 : Option Nat) (l3 : Option Nat) (l4 : Int32) (t0 : Option Nat) (u : xH) : Option ((Unit ⊕ Nat) × xH) := f_Holders_put_b58 sc l0 l1 l2 l3 l4 (1 : Int32) t0 u
theorem w_Holders_put_b53 {sc : xSc} {d : Nat} {Q : xR → xH → Prop} {oZ : Unit ⊕ Nat} {hZ : xH}  (hQ : Q (cvU oZ) hZ) (l0 : Option Nat) (l1 : Option Nat) (l2 : Option Nat) (l3 : Option Nat) (l4 : Int32) (t0 : Option Nat) (u : xH) (h : f_Holders_put_b53 sc  l0 l1 l2 l3 l4 t0 u = some (oZ, hZ)) : xW sc m_Holders_put (d + 8) Q (u) 53 [some (vR l0), some (vR l1), some (vR l2), some (vR l3), some (vI l4)] [vR t0] := by
  unfold f_Holders_put_b53 at h
  refine x_iconst (v := (1 : Int32)) (pc := 53) d_Holders_put_53 (by decide) ?_
  refine x_goto (tgt := 58) (pc := 54) d_Holders_put_54 (by decide) ?_
  exact w_Holders_put_b58 hQ l0 l1 l2 l3 l4 (1 : Int32) t0 u h
def f_Holders_put_b25 (sc : xSc)  (l0 : Option Nat) (l1 : Option Nat) (l2 : Option Nat) (l3 : Option Nat) (t0 : Int32) (u : xH) : Option ((Unit ⊕ Nat) × xH) := (if t0 = 0 then (if xis sc u 2 l1 = true then (f_Slot_is sc u l1 (some 78)).bind fun v3 => (if v3 = 0 then f_Holders_put_b57 sc l0 l1 l2 l3 t0 l0 u else (if xis sc u 2 l2 = true then (f_Slot_is sc u l2 (some 75)).bind fun v7 => (if v7 = 0 then f_Holders_put_b57 sc l0 l1 l2 l3 t0 l0 u else f_Holders_put_b53 sc l0 l1 l2 l3 t0 l0 u) else none)) else none) else f_Holders_put_b53 sc l0 l1 l2 l3 t0 l0 u)
theorem w_Holders_put_b25 {sc : xSc} {d : Nat} {Q : xR → xH → Prop} {oZ : Unit ⊕ Nat} {hZ : xH}  (hQ : Q (cvU oZ) hZ) (l0 : Option Nat) (l1 : Option Nat) (l2 : Option Nat) (l3 : Option Nat) (t0 : Int32) (u : xH) (h : f_Holders_put_b25 sc  l0 l1 l2 l3 t0 u = some (oZ, hZ)) : xW sc m_Holders_put (d + 8) Q (u) 25 [some (vR l0), some (vR l1), some (vR l2), some (vR l3), none] [vI t0] := by
  unfold f_Holders_put_b25 at h
  refine x_istore (pc := 25) d_Holders_put_25 (by decide) ?_
  show xW sc m_Holders_put (d + 8) Q (u) 27 [some (vR l0), some (vR l1), some (vR l2), some (vR l3), some (vI t0)] []
  refine x_aload_n (pc := 27) d_Holders_put_27 rfl ?_
  refine x_iload (pc := 28) d_Holders_put_28 rfl ?_
  refine x_if_ne (tgt := 53) (pc := 30) d_Holders_put_30 (by decide) (fun c1 => ?_) (fun c1 => ?_)
  · rw [if_neg c1] at h
    exact w_Holders_put_b53 hQ l0 l1 l2 l3 t0 l0 u h
  · rw [if_pos c1] at h
    refine x_aload_n (pc := 33) d_Holders_put_33 rfl ?_
    refine x_gets (v := vR (some 78)) (pc := 34) d_Holders_put_34 sl_Holders_50 ?_
    obtain ⟨c2, h⟩ := ite_some h
    obtain ⟨v3, e4, h⟩ := Option.bind_eq_some_iff.mp h
    refine c_invv (c := 2) (d := d + 7) (av := [vR (some 78)]) (st := [vR l0]) (Q' := fun r h' => r = .inl (some (vI v3)) ∧ h' = u) (pc := 37) d_Holders_put_37 cv_Holders_21 y_Slot_is c2 rfl (Nat.le_of_ble_eq_true rfl) (Nat.le_of_ble_eq_true rfl) (w_Slot_is (d := d + 7) (Q := fun r h' => r = .inl (some (vI v3)) ∧ h' = u) ⟨rfl, rfl⟩ l1 (some 78) e4) (fun v h' z => ?_) (fun a h' z => nomatch z.1)
    obtain ⟨z1, z2⟩ := z
    subst h'
    cases z1
    show xW sc m_Holders_put (d + 8) Q (u) 40 [some (vR l0), some (vR l1), some (vR l2), some (vR l3), some (vI t0)] [vI v3, vR l0]
    refine x_if_eq (tgt := 57) (pc := 40) d_Holders_put_40 (by decide) (fun c5 => ?_) (fun c5 => ?_)
    · rw [if_pos c5] at h
      exact w_Holders_put_b57 hQ l0 l1 l2 l3 t0 l0 u h
    · rw [if_neg c5] at h
      refine x_aload_n (pc := 43) d_Holders_put_43 rfl ?_
      refine x_gets (v := vR (some 75)) (pc := 44) d_Holders_put_44 sl_Holders_98 ?_
      obtain ⟨c6, h⟩ := ite_some h
      obtain ⟨v7, e8, h⟩ := Option.bind_eq_some_iff.mp h
      refine c_invv (c := 2) (d := d + 7) (av := [vR (some 75)]) (st := [vR l0]) (Q' := fun r h' => r = .inl (some (vI v7)) ∧ h' = u) (pc := 47) d_Holders_put_47 cv_Holders_21 y_Slot_is c6 rfl (Nat.le_of_ble_eq_true rfl) (Nat.le_of_ble_eq_true rfl) (w_Slot_is (d := d + 7) (Q := fun r h' => r = .inl (some (vI v7)) ∧ h' = u) ⟨rfl, rfl⟩ l2 (some 75) e8) (fun v h' z => ?_) (fun a h' z => nomatch z.1)
      obtain ⟨z1, z2⟩ := z
      subst h'
      cases z1
      show xW sc m_Holders_put (d + 8) Q (u) 50 [some (vR l0), some (vR l1), some (vR l2), some (vR l3), some (vI t0)] [vI v7, vR l0]
      refine x_if_eq (tgt := 57) (pc := 50) d_Holders_put_50 (by decide) (fun c9 => ?_) (fun c9 => ?_)
      · rw [if_pos c9] at h
        exact w_Holders_put_b57 hQ l0 l1 l2 l3 t0 l0 u h
      · rw [if_neg c9] at h
        exact w_Holders_put_b53 hQ l0 l1 l2 l3 t0 l0 u h
def f_Holders_put_b24 (sc : xSc)  (l0 : Option Nat) (l1 : Option Nat) (l2 : Option Nat) (l3 : Option Nat) (u : xH) : Option ((Unit ⊕ Nat) × xH) := f_Holders_put_b25 sc l0 l1 l2 l3 (0 : Int32) u
theorem w_Holders_put_b24 {sc : xSc} {d : Nat} {Q : xR → xH → Prop} {oZ : Unit ⊕ Nat} {hZ : xH}  (hQ : Q (cvU oZ) hZ) (l0 : Option Nat) (l1 : Option Nat) (l2 : Option Nat) (l3 : Option Nat) (u : xH) (h : f_Holders_put_b24 sc  l0 l1 l2 l3 u = some (oZ, hZ)) : xW sc m_Holders_put (d + 8) Q (u) 24 [some (vR l0), some (vR l1), some (vR l2), some (vR l3), none] [] := by
  unfold f_Holders_put_b24 at h
  refine x_iconst (v := (0 : Int32)) (pc := 24) d_Holders_put_24 (by decide) ?_
  exact w_Holders_put_b25 hQ l0 l1 l2 l3 (0 : Int32) u h
def f_Holders_put (sc : xSc) (u : xH) (a1 : Option Nat) (a2 : Option Nat) (a3 : Option Nat) (a4 : Option Nat) : Option ((Unit ⊕ Nat) × xH) := (if xis sc u 2 a2 = true then (f_Slot_is sc u a2 (some 77)).bind fun v2 => (if v2 = 0 then f_Holders_put_b24 sc a1 a2 a3 a4 u else (if xis sc u 2 a3 = true then (f_Slot_is sc u a3 (some 72)).bind fun v6 => (if v6 = 0 then f_Holders_put_b24 sc a1 a2 a3 a4 u else f_Holders_put_b25 sc a1 a2 a3 a4 (1 : Int32) u) else none)) else none)
theorem w_Holders_put {sc : xSc} {d : Nat} {Q : xR → xH → Prop} {oZ : Unit ⊕ Nat} {hZ : xH} (hQ : Q (cvU oZ) hZ) (u : xH) (a1 : Option Nat) (a2 : Option Nat) (a3 : Option Nat) (a4 : Option Nat) (h : f_Holders_put sc u a1 a2 a3 a4 = some (oZ, hZ)) : xW sc m_Holders_put (d + 8) Q (u) 0 (xent [vR a1, vR a2, vR a3, vR a4] m_Holders_put.2.2.1) [] := by
  show xW sc m_Holders_put (d + 8) Q (u) 0 [some (vR a1), some (vR a2), some (vR a3), some (vR a4), none] []
  unfold f_Holders_put at h
  refine x_aload_n (pc := 0) d_Holders_put_0 rfl ?_
  refine x_gets (v := vR (some 77)) (pc := 1) d_Holders_put_1 sl_Holders_39 ?_
  obtain ⟨c1, h⟩ := ite_some h
  obtain ⟨v2, e3, h⟩ := Option.bind_eq_some_iff.mp h
  refine c_invv (c := 2) (d := d + 7) (av := [vR (some 77)]) (st := []) (Q' := fun r h' => r = .inl (some (vI v2)) ∧ h' = u) (pc := 4) d_Holders_put_4 cv_Holders_21 y_Slot_is c1 rfl (Nat.le_of_ble_eq_true rfl) (Nat.le_of_ble_eq_true rfl) (w_Slot_is (d := d + 7) (Q := fun r h' => r = .inl (some (vI v2)) ∧ h' = u) ⟨rfl, rfl⟩ a2 (some 77) e3) (fun v h' z => ?_) (fun a h' z => nomatch z.1)
  obtain ⟨z1, z2⟩ := z
  subst h'
  cases z1
  show xW sc m_Holders_put (d + 8) Q (u) 7 [some (vR a1), some (vR a2), some (vR a3), some (vR a4), none] [vI v2]
  refine x_if_eq (tgt := 24) (pc := 7) d_Holders_put_7 (by decide) (fun c4 => ?_) (fun c4 => ?_)
  · rw [if_pos c4] at h
    exact w_Holders_put_b24 hQ a1 a2 a3 a4 u h
  · rw [if_neg c4] at h
    refine x_aload_n (pc := 10) d_Holders_put_10 rfl ?_
    refine x_gets (v := vR (some 72)) (pc := 11) d_Holders_put_11 sl_Holders_15 ?_
    obtain ⟨c5, h⟩ := ite_some h
    obtain ⟨v6, e7, h⟩ := Option.bind_eq_some_iff.mp h
    refine c_invv (c := 2) (d := d + 7) (av := [vR (some 72)]) (st := []) (Q' := fun r h' => r = .inl (some (vI v6)) ∧ h' = u) (pc := 14) d_Holders_put_14 cv_Holders_21 y_Slot_is c5 rfl (Nat.le_of_ble_eq_true rfl) (Nat.le_of_ble_eq_true rfl) (w_Slot_is (d := d + 7) (Q := fun r h' => r = .inl (some (vI v6)) ∧ h' = u) ⟨rfl, rfl⟩ a3 (some 72) e7) (fun v h' z => ?_) (fun a h' z => nomatch z.1)
    obtain ⟨z1, z2⟩ := z
    subst h'
    cases z1
    show xW sc m_Holders_put (d + 8) Q (u) 17 [some (vR a1), some (vR a2), some (vR a3), some (vR a4), none] [vI v6]
    refine x_if_eq (tgt := 24) (pc := 17) d_Holders_put_17 (by decide) (fun c8 => ?_) (fun c8 => ?_)
    · rw [if_pos c8] at h
      exact w_Holders_put_b24 hQ a1 a2 a3 a4 u h
    · rw [if_neg c8] at h
      refine x_iconst (v := (1 : Int32)) (pc := 20) d_Holders_put_20 (by decide) ?_
      refine x_goto (tgt := 25) (pc := 21) d_Holders_put_21 (by decide) ?_
      exact w_Holders_put_b25 hQ a1 a2 a3 a4 (1 : Int32) u h
