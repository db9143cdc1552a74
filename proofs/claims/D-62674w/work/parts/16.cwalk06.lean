def f_P_steps (sc : xSc) (u : xH) (a0 : Option Nat) : Option Int32 := (gI sc u 0 16 a0).bind fun v1 => some v1
theorem w_P_steps {sc : xSc} {d : Nat} {Q : xR → xH → Prop} {u : xH} {rZ : Int32} (hQ : Q (.inl (some (vI rZ))) u) (a0 : Option Nat) (h : f_P_steps sc u a0 = some rZ) : xW sc m_P_steps (d + 0) Q (u) 0 (xent [vR a0] m_P_steps.2.2.1) [] := by
  show xW sc m_P_steps (d + 0) Q (u) 0 [some (vR a0)] []
  unfold f_P_steps at h
  refine x_aload_n (pc := 0) d_P_steps_0 rfl ?_
  obtain ⟨v1, e2, h⟩ := Option.bind_eq_some_iff.mp h
  refine c_getI (pc := 1) d_P_steps_1 l_P_311 e2 ?_
  cases h
  exact x_iret (ty := .int) (pc := 4) d_P_steps_4 rfl (rfl) hQ
def f_P_used_b93 (sc : xSc) (u : xH)  (t0 : Int32) : Option Int32 := some t0
theorem w_P_used_b93 {sc : xSc} {d : Nat} {Q : xR → xH → Prop} {u : xH} {rZ : Int32}  (hQ : Q (.inl (some (vI rZ))) u) (t0 : Int32) (h : f_P_used_b93 sc u  t0 = some rZ) : xW sc m_P_used (d + 2) Q (u) 93 [none, none] [vI t0] := by
  unfold f_P_used_b93 at h
  cases h
  exact x_iret (ty := .int) (pc := 93) d_P_used_93 rfl (rfl) hQ
def f_P_used (sc : xSc) (u : xH) (a0 : Option Nat) (a1 : Int32) : Option Int32 := (if a1 = 0 then (gI sc u 0 10 a0).bind fun v26 => f_P_used_b93 sc u v26 else (if a1 = (1 : Int32) then (gR sc u 0 12 a0).bind fun v21 => (if xis sc u 17 v21 = true then (f_ArrayList_size sc u v21).bind fun v24 => f_P_used_b93 sc u (v24 - (1 : Int32)) else none) else (if a1 = (2 : Int32) then (gI sc u 0 14 a0).bind fun v19 => f_P_used_b93 sc u v19 else (if a1 = (3 : Int32) then (gI sc u 0 26 a0).bind fun v17 => f_P_used_b93 sc u v17 else (if a1 = (4 : Int32) then (gI sc u 0 35 a0).bind fun v15 => f_P_used_b93 sc u v15 else (if a1 = (5 : Int32) then (gI sc u 0 4 a0).bind fun v13 => f_P_used_b93 sc u v13 else (if a1 = (6 : Int32) then (gR sc u 0 2 a0).bind fun v8 => (if xis sc u 16 v8 = true then (f_StringBuilder_length sc u v8).bind fun v11 => f_P_used_b93 sc u v11 else none) else f_P_used_b93 sc u (-1 : Int32))))))))
theorem w_P_used {sc : xSc} {d : Nat} {Q : xR → xH → Prop} {u : xH} {rZ : Int32} (hQ : Q (.inl (some (vI rZ))) u) (a0 : Option Nat) (a1 : Int32) (h : f_P_used sc u a0 a1 = some rZ) : xW sc m_P_used (d + 2) Q (u) 0 (xent [vR a0, vI a1] m_P_used.2.2.1) [] := by
  show xW sc m_P_used (d + 2) Q (u) 0 [some (vR a0), some (vI a1)] []
  unfold f_P_used at h
  refine x_iload_n (pc := 0) d_P_used_0 rfl ?_
  refine x_if_ne (tgt := 11) (pc := 1) d_P_used_1 (by decide) (fun c1 => ?_) (fun c1 => ?_)
  · rw [if_neg c1] at h
    refine x_iload_n (pc := 11) d_P_used_11 rfl ?_
    refine x_iconst (v := (1 : Int32)) (pc := 12) d_P_used_12 (by decide) ?_
    refine x_icmp_ne (tgt := 28) (pc := 13) d_P_used_13 (by decide) (fun c2 => ?_) (fun c2 => ?_)
    · rw [if_neg c2] at h
      refine x_iload_n (pc := 28) d_P_used_28 rfl ?_
      refine x_iconst (v := (2 : Int32)) (pc := 29) d_P_used_29 (by decide) ?_
      refine x_icmp_ne (tgt := 40) (pc := 30) d_P_used_30 (by decide) (fun c3 => ?_) (fun c3 => ?_)
      · rw [if_neg c3] at h
        refine x_iload_n (pc := 40) d_P_used_40 rfl ?_
        refine x_iconst (v := (3 : Int32)) (pc := 41) d_P_used_41 (by decide) ?_
        refine x_icmp_ne (tgt := 52) (pc := 42) d_P_used_42 (by decide) (fun c4 => ?_) (fun c4 => ?_)
        · rw [if_neg c4] at h
          refine x_iload_n (pc := 52) d_P_used_52 rfl ?_
          refine x_iconst (v := (4 : Int32)) (pc := 53) d_P_used_53 (by decide) ?_
          refine x_icmp_ne (tgt := 64) (pc := 54) d_P_used_54 (by decide) (fun c5 => ?_) (fun c5 => ?_)
          · rw [if_neg c5] at h
            refine x_iload_n (pc := 64) d_P_used_64 rfl ?_
            refine x_iconst (v := (5 : Int32)) (pc := 65) d_P_used_65 (by decide) ?_
            refine x_icmp_ne (tgt := 76) (pc := 66) d_P_used_66 (by decide) (fun c6 => ?_) (fun c6 => ?_)
            · rw [if_neg c6] at h
              refine x_iload_n (pc := 76) d_P_used_76 rfl ?_
              refine x_bipush (v := (6 : Int32)) (pc := 77) d_P_used_77 (by decide) ?_
              refine x_icmp_ne (tgt := 92) (pc := 79) d_P_used_79 (by decide) (fun c7 => ?_) (fun c7 => ?_)
              · rw [if_neg c7] at h
                refine x_iconst (v := (-1 : Int32)) (pc := 92) d_P_used_92 (by decide) ?_
                exact x_wk (L' := [none, none]) ⟨Or.inl rfl, Or.inl rfl, trivial⟩ (w_P_used_b93 hQ (-1 : Int32) h)
              · rw [if_pos c7] at h
                refine x_aload_n (pc := 82) d_P_used_82 rfl ?_
                obtain ⟨v8, e9, h⟩ := Option.bind_eq_some_iff.mp h
                refine c_getR (pc := 83) d_P_used_83 l_P_44 e9 ?_
                obtain ⟨c10, h⟩ := ite_some h
                obtain ⟨v11, e12, h⟩ := Option.bind_eq_some_iff.mp h
                refine c_invv (c := 16) (d := d + 1) (av := []) (st := []) (Q' := fun r h' => r = .inl (some (vI v11)) ∧ h' = u) (pc := 86) d_P_used_86 cv_P_396 y_StringBuilder_length c10 rfl (Nat.le_of_ble_eq_true rfl) (Nat.le_of_ble_eq_true rfl) (w_StringBuilder_length (d := d + 0) (Q := fun r h' => r = .inl (some (vI v11)) ∧ h' = u) ⟨rfl, rfl⟩ v8 e12) (fun v h' z => ?_) (fun a h' z => nomatch z.1)
                obtain ⟨z1, z2⟩ := z
                subst h'
                cases z1
                show xW sc m_P_used (d + 2) Q (u) 89 [some (vR a0), some (vI a1)] [vI v11]
                refine x_goto (tgt := 93) (pc := 89) d_P_used_89 (by decide) ?_
                exact x_wk (L' := [none, none]) ⟨Or.inl rfl, Or.inl rfl, trivial⟩ (w_P_used_b93 hQ v11 h)
            · rw [if_pos c6] at h
              refine x_aload_n (pc := 69) d_P_used_69 rfl ?_
              obtain ⟨v13, e14, h⟩ := Option.bind_eq_some_iff.mp h
              refine c_getI (pc := 70) d_P_used_70 l_P_464 e14 ?_
              refine x_goto (tgt := 93) (pc := 73) d_P_used_73 (by decide) ?_
              exact x_wk (L' := [none, none]) ⟨Or.inl rfl, Or.inl rfl, trivial⟩ (w_P_used_b93 hQ v13 h)
          · rw [if_pos c5] at h
            refine x_aload_n (pc := 57) d_P_used_57 rfl ?_
            obtain ⟨v15, e16, h⟩ := Option.bind_eq_some_iff.mp h
            refine c_getI (pc := 58) d_P_used_58 l_P_471 e16 ?_
            refine x_goto (tgt := 93) (pc := 61) d_P_used_61 (by decide) ?_
            exact x_wk (L' := [none, none]) ⟨Or.inl rfl, Or.inl rfl, trivial⟩ (w_P_used_b93 hQ v15 h)
        · rw [if_pos c4] at h
          refine x_aload_n (pc := 45) d_P_used_45 rfl ?_
          obtain ⟨v17, e18, h⟩ := Option.bind_eq_some_iff.mp h
          refine c_getI (pc := 46) d_P_used_46 l_P_234 e18 ?_
          refine x_goto (tgt := 93) (pc := 49) d_P_used_49 (by decide) ?_
          exact x_wk (L' := [none, none]) ⟨Or.inl rfl, Or.inl rfl, trivial⟩ (w_P_used_b93 hQ v17 h)
      · rw [if_pos c3] at h
        refine x_aload_n (pc := 33) d_P_used_33 rfl ?_
        obtain ⟨v19, e20, h⟩ := Option.bind_eq_some_iff.mp h
        refine c_getI (pc := 34) d_P_used_34 l_P_76 e20 ?_
        refine x_goto (tgt := 93) (pc := 37) d_P_used_37 (by decide) ?_
        exact x_wk (L' := [none, none]) ⟨Or.inl rfl, Or.inl rfl, trivial⟩ (w_P_used_b93 hQ v19 h)
    · rw [if_pos c2] at h
      refine x_aload_n (pc := 16) d_P_used_16 rfl ?_
      obtain ⟨v21, e22, h⟩ := Option.bind_eq_some_iff.mp h
      refine c_getR (pc := 17) d_P_used_17 l_P_66 e22 ?_
      obtain ⟨c23, h⟩ := ite_some h
      obtain ⟨v24, e25, h⟩ := Option.bind_eq_some_iff.mp h
      refine c_invv (c := 17) (d := d + 1) (av := []) (st := []) (Q' := fun r h' => r = .inl (some (vI v24)) ∧ h' = u) (pc := 20) d_P_used_20 cv_P_276 y_ArrayList_size c23 rfl (Nat.le_of_ble_eq_true rfl) (Nat.le_of_ble_eq_true rfl) (w_ArrayList_size (d := d + 1) (Q := fun r h' => r = .inl (some (vI v24)) ∧ h' = u) ⟨rfl, rfl⟩ v21 e25) (fun v h' z => ?_) (fun a h' z => nomatch z.1)
      obtain ⟨z1, z2⟩ := z
      subst h'
      cases z1
      show xW sc m_P_used (d + 2) Q (u) 23 [some (vR a0), some (vI a1)] [vI v24]
      refine x_iconst (v := (1 : Int32)) (pc := 23) d_P_used_23 (by decide) ?_
      refine x_isub (pc := 24) d_P_used_24 ?_
      refine x_goto (tgt := 93) (pc := 25) d_P_used_25 (by decide) ?_
      exact x_wk (L' := [none, none]) ⟨Or.inl rfl, Or.inl rfl, trivial⟩ (w_P_used_b93 hQ (v24 - (1 : Int32)) h)
  · rw [if_pos c1] at h
    refine x_aload_n (pc := 4) d_P_used_4 rfl ?_
    obtain ⟨v26, e27, h⟩ := Option.bind_eq_some_iff.mp h
    refine c_getI (pc := 5) d_P_used_5 l_P_231 e27 ?_
    refine x_goto (tgt := 93) (pc := 8) d_P_used_8 (by decide) ?_
    exact x_wk (L' := [none, none]) ⟨Or.inl rfl, Or.inl rfl, trivial⟩ (w_P_used_b93 hQ v26 h)
def f_P_write_b121 (sc : xSc)  (l4 : Int32) (u : xH) : Option (Int32 × xH) := (if xbo l4 = true then some (l4, u) else none)
theorem w_P_write_b121 {sc : xSc} {d : Nat} {Q : xR → xH → Prop} {hZ : xH} {rZ : Int32}  (hQ : Q (.inl (some (vI rZ))) hZ) (l4 : Int32) (u : xH) (h : f_P_write_b121 sc  l4 u = some (rZ, hZ)) : xW sc m_P_write (d + 6) Q (u) 121 [none, none, none, none, some (vI l4), none, none] [] := by
  unfold f_P_write_b121 at h
  refine x_iload (pc := 121) d_P_write_121 rfl ?_
  obtain ⟨c1, h⟩ := ite_some h
  cases h
  exact x_iret (ty := .boolean) (pc := 123) d_P_write_123 rfl (xbo_n c1) hQ
def f_P_write_b106 (sc : xSc)  (l0 : Option Nat) (l3 : Int32) (t0 : Int32) (u : xH) : Option (Int32 × xH) := (if t0 = 0 then (gR sc u 0 2 l0).bind fun v2 => (if xis sc u 16 v2 = true then (f_StringBuilder_setLength sc u v2 l3).bind fun u5 => f_P_write_b121 sc t0 u5 else none) else f_P_write_b121 sc t0 u)
theorem w_P_write_b106 {sc : xSc} {d : Nat} {Q : xR → xH → Prop} {hZ : xH} {rZ : Int32}  (hQ : Q (.inl (some (vI rZ))) hZ) (l0 : Option Nat) (l3 : Int32) (t0 : Int32) (u : xH) (h : f_P_write_b106 sc  l0 l3 t0 u = some (rZ, hZ)) : xW sc m_P_write (d + 6) Q (u) 106 [some (vR l0), none, none, some (vI l3), none, none, none] [vI t0] := by
  unfold f_P_write_b106 at h
  refine x_istore (pc := 106) d_P_write_106 (by decide) ?_
  show xW sc m_P_write (d + 6) Q (u) 108 [some (vR l0), none, none, some (vI l3), some (vI t0), none, none] []
  refine x_iload (pc := 108) d_P_write_108 rfl ?_
  refine x_if_ne (tgt := 121) (pc := 110) d_P_write_110 (by decide) (fun c1 => ?_) (fun c1 => ?_)
  · rw [if_neg c1] at h
    exact x_wk (L' := [none, none, none, none, some (vI t0), none, none]) ⟨Or.inl rfl, Or.inl rfl, Or.inl rfl, Or.inl rfl, Or.inr rfl, Or.inl rfl, Or.inl rfl, trivial⟩ (w_P_write_b121 hQ t0 u h)
  · rw [if_pos c1] at h
    refine x_aload_n (pc := 113) d_P_write_113 rfl ?_
    obtain ⟨v2, e3, h⟩ := Option.bind_eq_some_iff.mp h
    refine c_getR (pc := 114) d_P_write_114 l_P_44 e3 ?_
    refine x_iload_n (pc := 117) d_P_write_117 rfl ?_
    obtain ⟨c4, h⟩ := ite_some h
    obtain ⟨u5, e6, h⟩ := Option.bind_eq_some_iff.mp h
    refine c_invv (c := 16) (d := d + 5) (av := [vI l3]) (st := []) (Q' := fun r h' => r = .inl none ∧ h' = u5) (pc := 118) d_P_write_118 cv_P_426 y_StringBuilder_setLength c4 rfl (Nat.le_of_ble_eq_true rfl) (Nat.le_of_ble_eq_true rfl) (w_StringBuilder_setLength (d := d + 0) (Q := fun r h' => r = .inl none ∧ h' = u5) ⟨rfl, rfl⟩ u v2 l3 e6) (fun v h' z => ?_) (fun a h' z => nomatch z.1)
    obtain ⟨z1, z2⟩ := z
    subst h'
    cases z1
    show xW sc m_P_write (d + 6) Q (u5) 121 [some (vR l0), none, none, some (vI l3), some (vI t0), none, none] []
    exact x_wk (L' := [none, none, none, none, some (vI t0), none, none]) ⟨Or.inl rfl, Or.inl rfl, Or.inl rfl, Or.inl rfl, Or.inr rfl, Or.inl rfl, Or.inl rfl, trivial⟩ (w_P_write_b121 hQ t0 u5 h)
def f_P_write_b105 (sc : xSc)  (l0 : Option Nat) (l3 : Int32) (u : xH) : Option (Int32 × xH) := f_P_write_b106 sc l0 l3 (0 : Int32) u
theorem w_P_write_b105 {sc : xSc} {d : Nat} {Q : xR → xH → Prop} {hZ : xH} {rZ : Int32}  (hQ : Q (.inl (some (vI rZ))) hZ) (l0 : Option Nat) (l3 : Int32) (u : xH) (h : f_P_write_b105 sc  l0 l3 u = some (rZ, hZ)) : xW sc m_P_write (d + 6) Q (u) 105 [some (vR l0), none, none, some (vI l3), none, none, none] [] := by
  unfold f_P_write_b105 at h
  refine x_iconst (v := (0 : Int32)) (pc := 105) d_P_write_105 (by decide) ?_
  exact w_P_write_b106 hQ l0 l3 (0 : Int32) u h
def f_P_write_b76 (sc : xSc) (k15 : Option Nat → Int64 → Int32 → Int32 → Int32 → xH → Option (Int32 × xH)) (l0 : Option Nat) (l1 : Int64) (l3 : Int32) (l5 : Int32) (t0 : Int32) (u : xH) : Option (Int32 × xH) := k15 l0 l1 l3 t0 (l5 + Int32.ofInt (-8)) u
theorem w_P_write_b76 {sc : xSc} {d : Nat} {Q : xR → xH → Prop} {hZ : xH} {rZ : Int32} (k15 : Option Nat → Int64 → Int32 → Int32 → Int32 → xH → Option (Int32 × xH)) (hk15 : ∀ (l0 : Option Nat) (l1 : Int64) (l3 : Int32) (l4 : Int32) (l5 : Int32) (u : xH), k15 l0 l1 l3 l4 l5 u = some (rZ, hZ) → xW sc m_P_write (d + 6) Q (u) 15 [some (vR l0), some (vL l1), none, some (vI l3), some (vI l4), some (vI l5), none] []) (hQ : Q (.inl (some (vI rZ))) hZ) (l0 : Option Nat) (l1 : Int64) (l3 : Int32) (l5 : Int32) (t0 : Int32) (u : xH) (h : f_P_write_b76 sc k15 l0 l1 l3 l5 t0 u = some (rZ, hZ)) : xW sc m_P_write (d + 6) Q (u) 76 [some (vR l0), some (vL l1), none, some (vI l3), none, some (vI l5), none] [vI t0] := by
  unfold f_P_write_b76 at h
  refine x_istore (pc := 76) d_P_write_76 (by decide) ?_
  show xW sc m_P_write (d + 6) Q (u) 78 [some (vR l0), some (vL l1), none, some (vI l3), some (vI t0), some (vI l5), none] []
  refine x_iinc (pc := 78) d_P_write_78 rfl (by decide) ?_
  show xW sc m_P_write (d + 6) Q (u) 81 [some (vR l0), some (vL l1), none, some (vI l3), some (vI t0), some (vI (l5 + Int32.ofInt (-8))), none] []
  refine x_goto (tgt := 15) (pc := 81) d_P_write_81 (by decide) ?_
  exact hk15 l0 l1 l3 t0 (l5 + Int32.ofInt (-8)) u h
def f_P_write_b75 (sc : xSc) (k15 : Option Nat → Int64 → Int32 → Int32 → Int32 → xH → Option (Int32 × xH)) (l0 : Option Nat) (l1 : Int64) (l3 : Int32) (l5 : Int32) (u : xH) : Option (Int32 × xH) := f_P_write_b76 sc k15 l0 l1 l3 l5 (0 : Int32) u
theorem w_P_write_b75 {sc : xSc} {d : Nat} {Q : xR → xH → Prop} {hZ : xH} {rZ : Int32} (k15 : Option Nat → Int64 → Int32 → Int32 → Int32 → xH → Option (Int32 × xH)) (hk15 : ∀ (l0 : Option Nat) (l1 : Int64) (l3 : Int32) (l4 : Int32) (l5 : Int32) (u : xH), k15 l0 l1 l3 l4 l5 u = some (rZ, hZ) → xW sc m_P_write (d + 6) Q (u) 15 [some (vR l0), some (vL l1), none, some (vI l3), some (vI l4), some (vI l5), none] []) (hQ : Q (.inl (some (vI rZ))) hZ) (l0 : Option Nat) (l1 : Int64) (l3 : Int32) (l5 : Int32) (u : xH) (h : f_P_write_b75 sc k15 l0 l1 l3 l5 u = some (rZ, hZ)) : xW sc m_P_write (d + 6) Q (u) 75 [some (vR l0), some (vL l1), none, some (vI l3), none, some (vI l5), none] [] := by
  unfold f_P_write_b75 at h
  refine x_iconst (v := (0 : Int32)) (pc := 75) d_P_write_75 (by decide) ?_
  exact w_P_write_b76 k15 hk15 hQ l0 l1 l3 l5 (0 : Int32) u h
def f_P_write_b71 (sc : xSc) (k15 : Option Nat → Int64 → Int32 → Int32 → Int32 → xH → Option (Int32 × xH)) (l0 : Option Nat) (l1 : Int64) (l3 : Int32) (l5 : Int32) (u : xH) : Option (Int32 × xH) := f_P_write_b76 sc k15 l0 l1 l3 l5 (1 : Int32) u
theorem w_P_write_b71 {sc : xSc} {d : Nat} {Q : xR → xH → Prop} {hZ : xH} {rZ : Int32} (k15 : Option Nat → Int64 → Int32 → Int32 → Int32 → xH → Option (Int32 × xH)) (hk15 : ∀ (l0 : Option Nat) (l1 : Int64) (l3 : Int32) (l4 : Int32) (l5 : Int32) (u : xH), k15 l0 l1 l3 l4 l5 u = some (rZ, hZ) → xW sc m_P_write (d + 6) Q (u) 15 [some (vR l0), some (vL l1), none, some (vI l3), some (vI l4), some (vI l5), none] []) (hQ : Q (.inl (some (vI rZ))) hZ) (l0 : Option Nat) (l1 : Int64) (l3 : Int32) (l5 : Int32) (u : xH) (h : f_P_write_b71 sc k15 l0 l1 l3 l5 u = some (rZ, hZ)) : xW sc m_P_write (d + 6) Q (u) 71 [some (vR l0), some (vL l1), none, some (vI l3), none, some (vI l5), none] [] := by
  unfold f_P_write_b71 at h
  refine x_iconst (v := (1 : Int32)) (pc := 71) d_P_write_71 (by decide) ?_
  refine x_goto (tgt := 76) (pc := 72) d_P_write_72 (by decide) ?_
  exact w_P_write_b76 k15 hk15 hQ l0 l1 l3 l5 (1 : Int32) u h
def f_P_write_b47 (sc : xSc) (k15 : Option Nat → Int64 → Int32 → Int32 → Int32 → xH → Option (Int32 × xH)) (l0 : Option Nat) (l1 : Int64) (l3 : Int32) (l4 : Int32) (l5 : Int32) (l6 : Int32) (u : xH) : Option (Int32 × xH) := (if l4 = 0 then f_P_write_b75 sc k15 l0 l1 l3 l5 u else (if l6 = 0 then f_P_write_b71 sc k15 l0 l1 l3 l5 u else (if l6 < (32 : Int32) then f_P_write_b75 sc k15 l0 l1 l3 l5 u else (if (126 : Int32) < l6 then f_P_write_b75 sc k15 l0 l1 l3 l5 u else f_P_write_b71 sc k15 l0 l1 l3 l5 u))))
theorem w_P_write_b47 {sc : xSc} {d : Nat} {Q : xR → xH → Prop} {hZ : xH} {rZ : Int32} (k15 : Option Nat → Int64 → Int32 → Int32 → Int32 → xH → Option (Int32 × xH)) (hk15 : ∀ (l0 : Option Nat) (l1 : Int64) (l3 : Int32) (l4 : Int32) (l5 : Int32) (u : xH), k15 l0 l1 l3 l4 l5 u = some (rZ, hZ) → xW sc m_P_write (d + 6) Q (u) 15 [some (vR l0), some (vL l1), none, some (vI l3), some (vI l4), some (vI l5), none] []) (hQ : Q (.inl (some (vI rZ))) hZ) (l0 : Option Nat) (l1 : Int64) (l3 : Int32) (l4 : Int32) (l5 : Int32) (l6 : Int32) (u : xH) (h : f_P_write_b47 sc k15 l0 l1 l3 l4 l5 l6 u = some (rZ, hZ)) : xW sc m_P_write (d + 6) Q (u) 47 [some (vR l0), some (vL l1), none, some (vI l3), some (vI l4), some (vI l5), some (vI l6)] [] := by
  unfold f_P_write_b47 at h
  refine x_iload (pc := 47) d_P_write_47 rfl ?_
  refine x_if_eq (tgt := 75) (pc := 49) d_P_write_49 (by decide) (fun c1 => ?_) (fun c1 => ?_)
  · rw [if_pos c1] at h
    exact x_wk (L' := [some (vR l0), some (vL l1), none, some (vI l3), none, some (vI l5), none]) ⟨Or.inr rfl, Or.inr rfl, Or.inl rfl, Or.inr rfl, Or.inl rfl, Or.inr rfl, Or.inl rfl, trivial⟩ (w_P_write_b75 k15 hk15 hQ l0 l1 l3 l5 u h)
  · rw [if_neg c1] at h
    refine x_iload (pc := 52) d_P_write_52 rfl ?_
    refine x_if_eq (tgt := 71) (pc := 54) d_P_write_54 (by decide) (fun c2 => ?_) (fun c2 => ?_)
    · rw [if_pos c2] at h
      exact x_wk (L' := [some (vR l0), some (vL l1), none, some (vI l3), none, some (vI l5), none]) ⟨Or.inr rfl, Or.inr rfl, Or.inl rfl, Or.inr rfl, Or.inl rfl, Or.inr rfl, Or.inl rfl, trivial⟩ (w_P_write_b71 k15 hk15 hQ l0 l1 l3 l5 u h)
    · rw [if_neg c2] at h
      refine x_iload (pc := 57) d_P_write_57 rfl ?_
      refine x_bipush (v := (32 : Int32)) (pc := 59) d_P_write_59 (by decide) ?_
      refine x_icmp_lt (tgt := 75) (pc := 61) d_P_write_61 (by decide) (fun c3 => ?_) (fun c3 => ?_)
      · rw [if_pos c3] at h
        exact x_wk (L' := [some (vR l0), some (vL l1), none, some (vI l3), none, some (vI l5), none]) ⟨Or.inr rfl, Or.inr rfl, Or.inl rfl, Or.inr rfl, Or.inl rfl, Or.inr rfl, Or.inl rfl, trivial⟩ (w_P_write_b75 k15 hk15 hQ l0 l1 l3 l5 u h)
      · rw [if_neg c3] at h
        refine x_iload (pc := 64) d_P_write_64 rfl ?_
        refine x_bipush (v := (126 : Int32)) (pc := 66) d_P_write_66 (by decide) ?_
        refine x_icmp_gt (tgt := 75) (pc := 68) d_P_write_68 (by decide) (fun c4 => ?_) (fun c4 => ?_)
        · rw [if_pos c4] at h
          exact x_wk (L' := [some (vR l0), some (vL l1), none, some (vI l3), none, some (vI l5), none]) ⟨Or.inr rfl, Or.inr rfl, Or.inl rfl, Or.inr rfl, Or.inl rfl, Or.inr rfl, Or.inl rfl, trivial⟩ (w_P_write_b75 k15 hk15 hQ l0 l1 l3 l5 u h)
        · rw [if_neg c4] at h
          exact x_wk (L' := [some (vR l0), some (vL l1), none, some (vI l3), none, some (vI l5), none]) ⟨Or.inr rfl, Or.inr rfl, Or.inl rfl, Or.inr rfl, Or.inl rfl, Or.inr rfl, Or.inl rfl, trivial⟩ (w_P_write_b71 k15 hk15 hQ l0 l1 l3 l5 u h)
def f_P_write_b15 (sc : xSc)  : Nat → Option Nat → Int64 → Int32 → Int32 → Int32 → xH → Option (Int32 × xH)
  | 0, _, _, _, _, _, _ => none
  | n + 1, l0, l1, l3, l4, l5, u => (if l5 < 0 then (if l4 = 0 then f_P_write_b105 sc l0 l3 u else (gR sc u 0 2 l0).bind fun v3 => (if xis sc u 16 v3 = true then (f_StringBuilder_length sc u v3).bind fun v6 => (if (120 : Int32) < v6 then f_P_write_b105 sc l0 l3 u else f_P_write_b106 sc l0 l3 (1 : Int32) u) else none)) else (if (((l1 >>> (l5.toInt64 &&& 63)).toInt32) &&& (255 : Int32)) = 0 then f_P_write_b47 sc (f_P_write_b15 sc n) l0 l1 l3 l4 l5 (((l1 >>> (l5.toInt64 &&& 63)).toInt32) &&& (255 : Int32)) u else (gR sc u 0 2 l0).bind fun v10 => (if xis sc u 16 v10 = true then (f_StringBuilder_append0 sc u v10 (((((l1 >>> (l5.toInt64 &&& 63)).toInt32) &&& (255 : Int32)).toUInt32 % 65536).toInt32)).bind fun (v14, u13) => f_P_write_b47 sc (f_P_write_b15 sc n) l0 l1 l3 l4 l5 (((l1 >>> (l5.toInt64 &&& 63)).toInt32) &&& (255 : Int32)) u13 else none)))
theorem w_P_write_b15 {sc : xSc} {d : Nat} {Q : xR → xH → Prop} {hZ : xH} {rZ : Int32}  (hQ : Q (.inl (some (vI rZ))) hZ) : ∀ (n : Nat) (l0 : Option Nat) (l1 : Int64) (l3 : Int32) (l4 : Int32) (l5 : Int32) (u : xH), f_P_write_b15 sc  n l0 l1 l3 l4 l5 u = some (rZ, hZ) → xW sc m_P_write (d + 6) Q (u) 15 [some (vR l0), some (vL l1), none, some (vI l3), some (vI l4), some (vI l5), none] [] := by
  intro n
  induction n with
  | zero =>
    intro l0 l1 l3 l4 l5 u h
    cases h
  | succ n hk15 =>
    intro l0 l1 l3 l4 l5 u h
    unfold f_P_write_b15 at h
    refine x_iload (pc := 15) d_P_write_15 rfl ?_
    refine x_if_lt (tgt := 84) (pc := 17) d_P_write_17 (by decide) (fun c1 => ?_) (fun c1 => ?_)
    · rw [if_pos c1] at h
      refine x_iload (pc := 84) d_P_write_84 rfl ?_
      refine x_if_eq (tgt := 105) (pc := 86) d_P_write_86 (by decide) (fun c2 => ?_) (fun c2 => ?_)
      · rw [if_pos c2] at h
        exact x_wk (L' := [some (vR l0), none, none, some (vI l3), none, none, none]) ⟨Or.inr rfl, Or.inl rfl, Or.inl rfl, Or.inr rfl, Or.inl rfl, Or.inl rfl, Or.inl rfl, trivial⟩ (w_P_write_b105 hQ l0 l3 u h)
      · rw [if_neg c2] at h
        refine x_aload_n (pc := 89) d_P_write_89 rfl ?_
        obtain ⟨v3, e4, h⟩ := Option.bind_eq_some_iff.mp h
        refine c_getR (pc := 90) d_P_write_90 l_P_44 e4 ?_
        obtain ⟨c5, h⟩ := ite_some h
        obtain ⟨v6, e7, h⟩ := Option.bind_eq_some_iff.mp h
        refine c_invv (c := 16) (d := d + 5) (av := []) (st := []) (Q' := fun r h' => r = .inl (some (vI v6)) ∧ h' = u) (pc := 93) d_P_write_93 cv_P_396 y_StringBuilder_length c5 rfl (Nat.le_of_ble_eq_true rfl) (Nat.le_of_ble_eq_true rfl) (w_StringBuilder_length (d := d + 4) (Q := fun r h' => r = .inl (some (vI v6)) ∧ h' = u) ⟨rfl, rfl⟩ v3 e7) (fun v h' z => ?_) (fun a h' z => nomatch z.1)
        obtain ⟨z1, z2⟩ := z
        subst h'
        cases z1
        show xW sc m_P_write (d + 6) Q (u) 96 [some (vR l0), some (vL l1), none, some (vI l3), some (vI l4), some (vI l5), none] [vI v6]
        refine x_bipush (v := (120 : Int32)) (pc := 96) d_P_write_96 (by decide) ?_
        refine x_icmp_gt (tgt := 105) (pc := 98) d_P_write_98 (by decide) (fun c8 => ?_) (fun c8 => ?_)
        · rw [if_pos c8] at h
          exact x_wk (L' := [some (vR l0), none, none, some (vI l3), none, none, none]) ⟨Or.inr rfl, Or.inl rfl, Or.inl rfl, Or.inr rfl, Or.inl rfl, Or.inl rfl, Or.inl rfl, trivial⟩ (w_P_write_b105 hQ l0 l3 u h)
        · rw [if_neg c8] at h
          refine x_iconst (v := (1 : Int32)) (pc := 101) d_P_write_101 (by decide) ?_
          refine x_goto (tgt := 106) (pc := 102) d_P_write_102 (by decide) ?_
          exact x_wk (L' := [some (vR l0), none, none, some (vI l3), none, none, none]) ⟨Or.inr rfl, Or.inl rfl, Or.inl rfl, Or.inr rfl, Or.inl rfl, Or.inl rfl, Or.inl rfl, trivial⟩ (w_P_write_b106 hQ l0 l3 (1 : Int32) u h)
    · rw [if_neg c1] at h
      refine x_lload_n (pc := 20) d_P_write_20 rfl ?_
      refine x_iload (pc := 21) d_P_write_21 rfl ?_
      refine x_lshr (pc := 23) d_P_write_23 ?_
      refine x_l2i (pc := 24) d_P_write_24 ?_
      refine x_sipush (v := (255 : Int32)) (pc := 25) d_P_write_25 (by decide) ?_
      refine x_iand (pc := 28) d_P_write_28 ?_
      refine x_istore (pc := 29) d_P_write_29 (by decide) ?_
      show xW sc m_P_write (d + 6) Q (u) 31 [some (vR l0), some (vL l1), none, some (vI l3), some (vI l4), some (vI l5), some (vI (((l1 >>> (l5.toInt64 &&& 63)).toInt32) &&& (255 : Int32)))] []
      refine x_iload (pc := 31) d_P_write_31 rfl ?_
      refine x_if_eq (tgt := 47) (pc := 33) d_P_write_33 (by decide) (fun c9 => ?_) (fun c9 => ?_)
      · rw [if_pos c9] at h
        exact w_P_write_b47 (f_P_write_b15 sc n) hk15 hQ l0 l1 l3 l4 l5 (((l1 >>> (l5.toInt64 &&& 63)).toInt32) &&& (255 : Int32)) u h
      · rw [if_neg c9] at h
        refine x_aload_n (pc := 36) d_P_write_36 rfl ?_
        obtain ⟨v10, e11, h⟩ := Option.bind_eq_some_iff.mp h
        refine c_getR (pc := 37) d_P_write_37 l_P_44 e11 ?_
        refine x_iload (pc := 40) d_P_write_40 rfl ?_
        refine x_i2c (pc := 42) d_P_write_42 ?_
        obtain ⟨c12, h⟩ := ite_some h
        obtain ⟨⟨v14, u13⟩, e15, h⟩ := Option.bind_eq_some_iff.mp h
        dsimp only at h
        refine c_invv (c := 16) (d := d + 5) (av := [vI (((((l1 >>> (l5.toInt64 &&& 63)).toInt32) &&& (255 : Int32)).toUInt32 % 65536).toInt32)]) (st := []) (Q' := fun r h' => r = .inl (some (vR v14)) ∧ h' = u13) (pc := 43) d_P_write_43 cv_P_432 y_StringBuilder_append0 c12 rfl (Nat.le_of_ble_eq_true rfl) (Nat.le_of_ble_eq_true rfl) (w_StringBuilder_append0 (d := d + 0) (Q := fun r h' => r = .inl (some (vR v14)) ∧ h' = u13) ⟨rfl, rfl⟩ u v10 (((((l1 >>> (l5.toInt64 &&& 63)).toInt32) &&& (255 : Int32)).toUInt32 % 65536).toInt32) e15) (fun v h' z => ?_) (fun a h' z => nomatch z.1)
        obtain ⟨z1, z2⟩ := z
        subst h'
        cases z1
        show xW sc m_P_write (d + 6) Q (u13) 46 [some (vR l0), some (vL l1), none, some (vI l3), some (vI l4), some (vI l5), some (vI (((l1 >>> (l5.toInt64 &&& 63)).toInt32) &&& (255 : Int32)))] [vR v14]
        refine x_pop (pc := 46) d_P_write_46 rfl ?_
        exact w_P_write_b47 (f_P_write_b15 sc n) hk15 hQ l0 l1 l3 l4 l5 (((l1 >>> (l5.toInt64 &&& 63)).toInt32) &&& (255 : Int32)) u13 h
def f_P_write (sc : xSc) (u : xH) (a0 : Option Nat) (a1 : Int64) : Option (Int32 × xH) := (gR sc u 0 2 a0).bind fun v1 => (if xis sc u 16 v1 = true then (f_StringBuilder_length sc u v1).bind fun v4 => f_P_write_b15 sc mF a0 a1 v4 (1 : Int32) (56 : Int32) u else none)
theorem w_P_write {sc : xSc} {d : Nat} {Q : xR → xH → Prop} {hZ : xH} {rZ : Int32} (hQ : Q (.inl (some (vI rZ))) hZ) (u : xH) (a0 : Option Nat) (a1 : Int64) (h : f_P_write sc u a0 a1 = some (rZ, hZ)) : xW sc m_P_write (d + 6) Q (u) 0 (xent [vR a0, vL a1] m_P_write.2.2.1) [] := by
  show xW sc m_P_write (d + 6) Q (u) 0 [some (vR a0), some (vL a1), none, none, none, none, none] []
  unfold f_P_write at h
  refine x_aload_n (pc := 0) d_P_write_0 rfl ?_
  obtain ⟨v1, e2, h⟩ := Option.bind_eq_some_iff.mp h
  refine c_getR (pc := 1) d_P_write_1 l_P_44 e2 ?_
  obtain ⟨c3, h⟩ := ite_some h
  obtain ⟨v4, e5, h⟩ := Option.bind_eq_some_iff.mp h
  refine c_invv (c := 16) (d := d + 5) (av := []) (st := []) (Q' := fun r h' => r = .inl (some (vI v4)) ∧ h' = u) (pc := 4) d_P_write_4 cv_P_396 y_StringBuilder_length c3 rfl (Nat.le_of_ble_eq_true rfl) (Nat.le_of_ble_eq_true rfl) (w_StringBuilder_length (d := d + 4) (Q := fun r h' => r = .inl (some (vI v4)) ∧ h' = u) ⟨rfl, rfl⟩ v1 e5) (fun v h' z => ?_) (fun a h' z => nomatch z.1)
  obtain ⟨z1, z2⟩ := z
  subst h'
  cases z1
  show xW sc m_P_write (d + 6) Q (u) 7 [some (vR a0), some (vL a1), none, none, none, none, none] [vI v4]
  refine x_istore_n (pc := 7) d_P_write_7 (by decide) ?_
  show xW sc m_P_write (d + 6) Q (u) 8 [some (vR a0), some (vL a1), none, some (vI v4), none, none, none] []
  refine x_iconst (v := (1 : Int32)) (pc := 8) d_P_write_8 (by decide) ?_
  refine x_istore (pc := 9) d_P_write_9 (by decide) ?_
  show xW sc m_P_write (d + 6) Q (u) 11 [some (vR a0), some (vL a1), none, some (vI v4), some (vI (1 : Int32)), none, none] []
  refine x_bipush (v := (56 : Int32)) (pc := 11) d_P_write_11 (by decide) ?_
  refine x_istore (pc := 13) d_P_write_13 (by decide) ?_
  show xW sc m_P_write (d + 6) Q (u) 15 [some (vR a0), some (vL a1), none, some (vI v4), some (vI (1 : Int32)), some (vI (56 : Int32)), none] []
  exact w_P_write_b15 hQ mF a0 a1 v4 (1 : Int32) (56 : Int32) u h
def f_W_cell_b13 (sc : xSc) (u : xH)  (t0 : Int32) : Option Int32 := some t0
theorem w_W_cell_b13 {sc : xSc} {d : Nat} {Q : xR → xH → Prop} {u : xH} {rZ : Int32}  (hQ : Q (.inl (some (vI rZ))) u) (t0 : Int32) (h : f_W_cell_b13 sc u  t0 = some rZ) : xW sc m_W_cell (d + 0) Q (u) 13 [none, none] [vI t0] := by
  unfold f_W_cell_b13 at h
  cases h
  exact x_iret (ty := .int) (pc := 13) d_W_cell_13 rfl (rfl) hQ
def f_W_cell (sc : xSc) (u : xH) (a1 : Option Nat) (a2 : Int32) : Option Int32 := (aN sc u a1).bind fun v1 => (if v1 ≤ a2 then f_W_cell_b13 sc u (0 : Int32) else (aI .int sc u a1 a2).bind fun v4 => f_W_cell_b13 sc u v4)
theorem w_W_cell {sc : xSc} {d : Nat} {Q : xR → xH → Prop} {u : xH} {rZ : Int32} (hQ : Q (.inl (some (vI rZ))) u) (a1 : Option Nat) (a2 : Int32) (h : f_W_cell sc u a1 a2 = some rZ) : xW sc m_W_cell (d + 0) Q (u) 0 (xent [vR a1, vI a2] m_W_cell.2.2.1) [] := by
  show xW sc m_W_cell (d + 0) Q (u) 0 [some (vR a1), some (vI a2)] []
  unfold f_W_cell at h
  refine x_iload_n (pc := 0) d_W_cell_0 rfl ?_
  refine x_aload_n (pc := 1) d_W_cell_1 rfl ?_
  obtain ⟨v1, e2, h⟩ := Option.bind_eq_some_iff.mp h
  refine c_alen (pc := 2) d_W_cell_2 e2 ?_
  refine x_icmp_ge (tgt := 12) (pc := 3) d_W_cell_3 (by decide) (fun c3 => ?_) (fun c3 => ?_)
  · rw [if_pos c3] at h
    refine x_iconst (v := (0 : Int32)) (pc := 12) d_W_cell_12 (by decide) ?_
    exact x_wk (L' := [none, none]) ⟨Or.inl rfl, Or.inl rfl, trivial⟩ (w_W_cell_b13 hQ (0 : Int32) h)
  · rw [if_neg c3] at h
    refine x_aload_n (pc := 6) d_W_cell_6 rfl ?_
    refine x_iload_n (pc := 7) d_W_cell_7 rfl ?_
    obtain ⟨v4, e5, h⟩ := Option.bind_eq_some_iff.mp h
    refine c_iald (pc := 8) d_W_cell_8 e5 ?_
    refine x_goto (tgt := 13) (pc := 9) d_W_cell_9 (by decide) ?_
    exact x_wk (L' := [none, none]) ⟨Or.inl rfl, Or.inl rfl, trivial⟩ (w_W_cell_b13 hQ v4 h)
def f_W_kind_b12 (sc : xSc)  (t0 : Option Nat) (u : xH) : Option (Int32 × xH) := some ((1 : Int32), u)
theorem w_W_kind_b12 {sc : xSc} {d : Nat} {Q : xR → xH → Prop} {hZ : xH} {rZ : Int32}  (hQ : Q (.inl (some (vI rZ))) hZ) (t0 : Option Nat) (u : xH) (h : f_W_kind_b12 sc  t0 u = some (rZ, hZ)) : xW sc m_W_kind (d + 8) Q (u) 12 [none, none, none, none] [vR t0] := by
  unfold f_W_kind_b12 at h
  refine x_astore_n (pc := 12) d_W_kind_12 (by decide) ?_
  show xW sc m_W_kind (d + 8) Q (u) 13 [none, none, none, some (vR t0)] []
  refine x_iconst (v := (1 : Int32)) (pc := 13) d_W_kind_13 (by decide) ?_
  cases h
  exact x_iret (ty := .int) (pc := 14) d_W_kind_14 rfl (rfl) hQ
def f_W_kind (sc : xSc) (u : xH) (a1 : Option Nat) (a2 : Int32) (a3 : Option Nat) : Option (Int32 × xH) := (if xis sc u 0 a1 = true then tB (f_P_kind sc u a1 a2) (fun v3 u2 => (bL u2 a3 (0 : Int32) v3.toInt64).bind fun u8 => some ((0 : Int32), u8)) (fun a5 u6 => (if xis sc u6 23 (some a5) = true then f_W_kind_b12 sc (some a5) u6 else none)) else none)
theorem w_W_kind {sc : xSc} {d : Nat} {Q : xR → xH → Prop} {hZ : xH} {rZ : Int32} (hQ : Q (.inl (some (vI rZ))) hZ) (u : xH) (a1 : Option Nat) (a2 : Int32) (a3 : Option Nat) (h : f_W_kind sc u a1 a2 a3 = some (rZ, hZ)) : xW sc m_W_kind (d + 8) Q (u) 0 (xent [vR a1, vI a2, vR a3] m_W_kind.2.2.1) [] := by
  show xW sc m_W_kind (d + 8) Q (u) 0 [some (vR a1), some (vI a2), some (vR a3), none] []
  unfold f_W_kind at h
  refine x_aload_n (pc := 0) d_W_kind_0 rfl ?_
  refine x_iconst (v := (0 : Int32)) (pc := 1) d_W_kind_1 (by decide) ?_
  refine x_aload_n (pc := 2) d_W_kind_2 rfl ?_
  refine x_iload_n (pc := 3) d_W_kind_3 rfl ?_
  obtain ⟨c1, h⟩ := ite_some h
  rcases tB_s h with ⟨a5, u6, e4, h⟩ | ⟨v3, u2, e4, h⟩
  · refine c_invv (c := 0) (d := d + 7) (av := [vI a2]) (st := [vI (0 : Int32), vR a3]) (Q' := fun r h' => r = .inr a5 ∧ h' = u6) (pc := 4) d_W_kind_4 cv_W_15 y_P_kind c1 rfl (Nat.le_of_ble_eq_true rfl) (Nat.le_of_ble_eq_true rfl) (w_P_kind (d := d + 0) (Q := fun r h' => r = .inr a5 ∧ h' = u6) ⟨rfl, rfl⟩ u a1 a2 e4) (fun v h' z => nomatch z.1) (fun a h' z => ?_)
    obtain ⟨z1, z2⟩ := z
    subst h'
    cases z1
    by_cases c7 : xis sc u6 23 (some a5) = true
    · rw [if_pos c7] at h
      obtain ⟨a9, fs9, e9, f9⟩ := xis_s c7
      cases e9
      refine x_thCatch (b1 := 0) (b2 := 9) (hp := 12) (ct := 18) (Or.inl rfl) ⟨by decide, by decide⟩ (by decide) kl_W_18 f9 ⟨_, rfl, tw_7 (List.mem_of_getElem? (i := 162) rfl)⟩ ?_
      exact x_wk (L' := [none, none, none, none]) ⟨Or.inl rfl, Or.inl rfl, Or.inl rfl, Or.inl rfl, trivial⟩ (w_W_kind_b12 hQ (some a5) u6 h)
    rw [if_neg c7] at h
    cases h
  refine c_invv (c := 0) (d := d + 7) (av := [vI a2]) (st := [vI (0 : Int32), vR a3]) (Q' := fun r h' => r = .inl (some (vI v3)) ∧ h' = u2) (pc := 4) d_W_kind_4 cv_W_15 y_P_kind c1 rfl (Nat.le_of_ble_eq_true rfl) (Nat.le_of_ble_eq_true rfl) (w_P_kind (d := d + 0) (Q := fun r h' => r = .inl (some (vI v3)) ∧ h' = u2) ⟨rfl, rfl⟩ u a1 a2 e4) (fun v h' z => ?_) (fun a h' z => nomatch z.1)
  obtain ⟨z1, z2⟩ := z
  subst h'
  cases z1
  show xW sc m_W_kind (d + 8) Q (u2) 7 [some (vR a1), some (vI a2), some (vR a3), none] [vI v3, vI (0 : Int32), vR a3]
  refine x_i2l (pc := 7) d_W_kind_7 ?_
  obtain ⟨u8, e9, h⟩ := Option.bind_eq_some_iff.mp h
  refine c_last (pc := 8) d_W_kind_8 e9 ?_
  refine x_goto (tgt := 15) (pc := 9) d_W_kind_9 (by decide) ?_
  refine x_iconst (v := (0 : Int32)) (pc := 15) d_W_kind_15 (by decide) ?_
  cases h
  exact x_iret (ty := .int) (pc := 16) d_W_kind_16 rfl (rfl) hQ
def f_W_number_b15 (sc : xSc)  (t0 : Option Nat) (u : xH) : Option (Int32 × xH) := some ((2 : Int32), u)
theorem w_W_number_b15 {sc : xSc} {d : Nat} {Q : xR → xH → Prop} {hZ : xH} {rZ : Int32}  (hQ : Q (.inl (some (vI rZ))) hZ) (t0 : Option Nat) (u : xH) (h : f_W_number_b15 sc  t0 u = some (rZ, hZ)) : xW sc m_W_number (d + 8) Q (u) 15 [none, none, none, none] [vR t0] := by
  unfold f_W_number_b15 at h
  refine x_astore_n (pc := 15) d_W_number_15 (by decide) ?_
  show xW sc m_W_number (d + 8) Q (u) 16 [none, none, none, some (vR t0)] []
  refine x_iconst (v := (2 : Int32)) (pc := 16) d_W_number_16 (by decide) ?_
  cases h
  exact x_iret (ty := .int) (pc := 17) d_W_number_17 rfl (rfl) hQ
def f_W_number_b12 (sc : xSc)  (t0 : Option Nat) (u : xH) : Option (Int32 × xH) := some ((1 : Int32), u)
theorem w_W_number_b12 {sc : xSc} {d : Nat} {Q : xR → xH → Prop} {hZ : xH} {rZ : Int32}  (hQ : Q (.inl (some (vI rZ))) hZ) (t0 : Option Nat) (u : xH) (h : f_W_number_b12 sc  t0 u = some (rZ, hZ)) : xW sc m_W_number (d + 8) Q (u) 12 [none, none, none, none] [vR t0] := by
  unfold f_W_number_b12 at h
  refine x_astore_n (pc := 12) d_W_number_12 (by decide) ?_
  show xW sc m_W_number (d + 8) Q (u) 13 [none, none, none, some (vR t0)] []
  refine x_iconst (v := (1 : Int32)) (pc := 13) d_W_number_13 (by decide) ?_
  cases h
  exact x_iret (ty := .int) (pc := 14) d_W_number_14 rfl (rfl) hQ
def f_W_number (sc : xSc) (u : xH) (a1 : Option Nat) (a2 : Int32) (a3 : Option Nat) : Option (Int32 × xH) := (if xis sc u 0 a1 = true then tB (f_P_number sc u a1 a2) (fun v3 u2 => (bL u2 a3 (0 : Int32) v3.toInt64).bind fun u9 => some ((0 : Int32), u9)) (fun a5 u6 => (if xis sc u6 23 (some a5) = true then f_W_number_b12 sc (some a5) u6 else (if xis sc u6 24 (some a5) = true then f_W_number_b15 sc (some a5) u6 else none))) else none)
theorem w_W_number {sc : xSc} {d : Nat} {Q : xR → xH → Prop} {hZ : xH} {rZ : Int32} (hQ : Q (.inl (some (vI rZ))) hZ) (u : xH) (a1 : Option Nat) (a2 : Int32) (a3 : Option Nat) (h : f_W_number sc u a1 a2 a3 = some (rZ, hZ)) : xW sc m_W_number (d + 8) Q (u) 0 (xent [vR a1, vI a2, vR a3] m_W_number.2.2.1) [] := by
  show xW sc m_W_number (d + 8) Q (u) 0 [some (vR a1), some (vI a2), some (vR a3), none] []
  unfold f_W_number at h
  refine x_aload_n (pc := 0) d_W_number_0 rfl ?_
  refine x_iconst (v := (0 : Int32)) (pc := 1) d_W_number_1 (by decide) ?_
  refine x_aload_n (pc := 2) d_W_number_2 rfl ?_
  refine x_iload_n (pc := 3) d_W_number_3 rfl ?_
  obtain ⟨c1, h⟩ := ite_some h
  rcases tB_s h with ⟨a5, u6, e4, h⟩ | ⟨v3, u2, e4, h⟩
  · refine c_invv (c := 0) (d := d + 7) (av := [vI a2]) (st := [vI (0 : Int32), vR a3]) (Q' := fun r h' => r = .inr a5 ∧ h' = u6) (pc := 4) d_W_number_4 cv_W_20 y_P_number c1 rfl (Nat.le_of_ble_eq_true rfl) (Nat.le_of_ble_eq_true rfl) (w_P_number (d := d + 0) (Q := fun r h' => r = .inr a5 ∧ h' = u6) ⟨rfl, rfl⟩ u a1 a2 e4) (fun v h' z => nomatch z.1) (fun a h' z => ?_)
    obtain ⟨z1, z2⟩ := z
    subst h'
    cases z1
    by_cases c7 : xis sc u6 23 (some a5) = true
    · rw [if_pos c7] at h
      obtain ⟨a9, fs9, e9, f9⟩ := xis_s c7
      cases e9
      refine x_thCatch (b1 := 0) (b2 := 9) (hp := 12) (ct := 18) (Or.inr ⟨_, rfl⟩) ⟨by decide, by decide⟩ (by decide) kl_W_18 f9 ⟨_, rfl, tw_7 (List.mem_of_getElem? (i := 162) rfl)⟩ ?_
      exact x_wk (L' := [none, none, none, none]) ⟨Or.inl rfl, Or.inl rfl, Or.inl rfl, Or.inl rfl, trivial⟩ (w_W_number_b12 hQ (some a5) u6 h)
    rw [if_neg c7] at h
    by_cases c8 : xis sc u6 24 (some a5) = true
    · rw [if_pos c8] at h
      obtain ⟨a9, fs9, e9, f9⟩ := xis_s c8
      cases e9
      refine x_thCatch2 (b1 := 0) (b2 := 9) (hp := 12) (ct := 18) (b3 := 0) (b4 := 9) (hp2 := 15) (ct2 := 23) rfl ⟨by decide, by decide⟩ ⟨by decide, by decide⟩ (by decide) (by decide) kl_W_18 kl_W_23 f9 ⟨_, rfl, tw_7 (List.mem_of_getElem? (i := 187) rfl), fun G g => g.2.2.1.2.2.2.1⟩ ?_
      exact x_wk (L' := [none, none, none, none]) ⟨Or.inl rfl, Or.inl rfl, Or.inl rfl, Or.inl rfl, trivial⟩ (w_W_number_b15 hQ (some a5) u6 h)
    rw [if_neg c8] at h
    cases h
  refine c_invv (c := 0) (d := d + 7) (av := [vI a2]) (st := [vI (0 : Int32), vR a3]) (Q' := fun r h' => r = .inl (some (vI v3)) ∧ h' = u2) (pc := 4) d_W_number_4 cv_W_20 y_P_number c1 rfl (Nat.le_of_ble_eq_true rfl) (Nat.le_of_ble_eq_true rfl) (w_P_number (d := d + 0) (Q := fun r h' => r = .inl (some (vI v3)) ∧ h' = u2) ⟨rfl, rfl⟩ u a1 a2 e4) (fun v h' z => ?_) (fun a h' z => nomatch z.1)
  obtain ⟨z1, z2⟩ := z
  subst h'
  cases z1
  show xW sc m_W_number (d + 8) Q (u2) 7 [some (vR a1), some (vI a2), some (vR a3), none] [vI v3, vI (0 : Int32), vR a3]
  refine x_i2l (pc := 7) d_W_number_7 ?_
  obtain ⟨u9, e10, h⟩ := Option.bind_eq_some_iff.mp h
  refine c_last (pc := 8) d_W_number_8 e10 ?_
  refine x_goto (tgt := 18) (pc := 9) d_W_number_9 (by decide) ?_
  refine x_iconst (v := (0 : Int32)) (pc := 18) d_W_number_18 (by decide) ?_
  cases h
  exact x_iret (ty := .int) (pc := 19) d_W_number_19 rfl (rfl) hQ
def f_W_real_b14 (sc : xSc)  (t0 : Option Nat) (u : xH) : Option (Int32 × xH) := some ((2 : Int32), u)
theorem w_W_real_b14 {sc : xSc} {d : Nat} {Q : xR → xH → Prop} {hZ : xH} {rZ : Int32}  (hQ : Q (.inl (some (vI rZ))) hZ) (t0 : Option Nat) (u : xH) (h : f_W_real_b14 sc  t0 u = some (rZ, hZ)) : xW sc m_W_real (d + 8) Q (u) 14 [none, none, none, none] [vR t0] := by
  unfold f_W_real_b14 at h
  refine x_astore_n (pc := 14) d_W_real_14 (by decide) ?_
  show xW sc m_W_real (d + 8) Q (u) 15 [none, none, none, some (vR t0)] []
  refine x_iconst (v := (2 : Int32)) (pc := 15) d_W_real_15 (by decide) ?_
  cases h
  exact x_iret (ty := .int) (pc := 16) d_W_real_16 rfl (rfl) hQ
def f_W_real_b11 (sc : xSc)  (t0 : Option Nat) (u : xH) : Option (Int32 × xH) := some ((1 : Int32), u)
theorem w_W_real_b11 {sc : xSc} {d : Nat} {Q : xR → xH → Prop} {hZ : xH} {rZ : Int32}  (hQ : Q (.inl (some (vI rZ))) hZ) (t0 : Option Nat) (u : xH) (h : f_W_real_b11 sc  t0 u = some (rZ, hZ)) : xW sc m_W_real (d + 8) Q (u) 11 [none, none, none, none] [vR t0] := by
  unfold f_W_real_b11 at h
  refine x_astore_n (pc := 11) d_W_real_11 (by decide) ?_
  show xW sc m_W_real (d + 8) Q (u) 12 [none, none, none, some (vR t0)] []
  refine x_iconst (v := (1 : Int32)) (pc := 12) d_W_real_12 (by decide) ?_
  cases h
  exact x_iret (ty := .int) (pc := 13) d_W_real_13 rfl (rfl) hQ
def f_W_real (sc : xSc) (u : xH) (a1 : Option Nat) (a2 : Int32) (a3 : Option Nat) : Option (Int32 × xH) := (if xis sc u 0 a1 = true then tB (f_P_real sc u a1 a2) (fun v3 u2 => (bD u2 a3 (0 : Int32) v3).bind fun u9 => some ((0 : Int32), u9)) (fun a5 u6 => (if xis sc u6 23 (some a5) = true then f_W_real_b11 sc (some a5) u6 else (if xis sc u6 24 (some a5) = true then f_W_real_b14 sc (some a5) u6 else none))) else none)
theorem w_W_real {sc : xSc} {d : Nat} {Q : xR → xH → Prop} {hZ : xH} {rZ : Int32} (hQ : Q (.inl (some (vI rZ))) hZ) (u : xH) (a1 : Option Nat) (a2 : Int32) (a3 : Option Nat) (h : f_W_real sc u a1 a2 a3 = some (rZ, hZ)) : xW sc m_W_real (d + 8) Q (u) 0 (xent [vR a1, vI a2, vR a3] m_W_real.2.2.1) [] := by
  show xW sc m_W_real (d + 8) Q (u) 0 [some (vR a1), some (vI a2), some (vR a3), none] []
  unfold f_W_real at h
  refine x_aload_n (pc := 0) d_W_real_0 rfl ?_
  refine x_iconst (v := (0 : Int32)) (pc := 1) d_W_real_1 (by decide) ?_
  refine x_aload_n (pc := 2) d_W_real_2 rfl ?_
  refine x_iload_n (pc := 3) d_W_real_3 rfl ?_
  obtain ⟨c1, h⟩ := ite_some h
  rcases tB_s h with ⟨a5, u6, e4, h⟩ | ⟨v3, u2, e4, h⟩
  · refine c_invv (c := 0) (d := d + 7) (av := [vI a2]) (st := [vI (0 : Int32), vR a3]) (Q' := fun r h' => r = .inr a5 ∧ h' = u6) (pc := 4) d_W_real_4 cv_W_25 y_P_real c1 rfl (Nat.le_of_ble_eq_true rfl) (Nat.le_of_ble_eq_true rfl) (w_P_real (d := d + 0) (Q := fun r h' => r = .inr a5 ∧ h' = u6) ⟨rfl, rfl⟩ u a1 a2 e4) (fun v h' z => nomatch z.1) (fun a h' z => ?_)
    obtain ⟨z1, z2⟩ := z
    subst h'
    cases z1
    by_cases c7 : xis sc u6 23 (some a5) = true
    · rw [if_pos c7] at h
      obtain ⟨a9, fs9, e9, f9⟩ := xis_s c7
      cases e9
      refine x_thCatch (b1 := 0) (b2 := 8) (hp := 11) (ct := 18) (Or.inr ⟨_, rfl⟩) ⟨by decide, by decide⟩ (by decide) kl_W_18 f9 ⟨_, rfl, tw_7 (List.mem_of_getElem? (i := 162) rfl)⟩ ?_
      exact x_wk (L' := [none, none, none, none]) ⟨Or.inl rfl, Or.inl rfl, Or.inl rfl, Or.inl rfl, trivial⟩ (w_W_real_b11 hQ (some a5) u6 h)
    rw [if_neg c7] at h
    by_cases c8 : xis sc u6 24 (some a5) = true
    · rw [if_pos c8] at h
      obtain ⟨a9, fs9, e9, f9⟩ := xis_s c8
      cases e9
      refine x_thCatch2 (b1 := 0) (b2 := 8) (hp := 11) (ct := 18) (b3 := 0) (b4 := 8) (hp2 := 14) (ct2 := 23) rfl ⟨by decide, by decide⟩ ⟨by decide, by decide⟩ (by decide) (by decide) kl_W_18 kl_W_23 f9 ⟨_, rfl, tw_7 (List.mem_of_getElem? (i := 187) rfl), fun G g => g.2.2.1.2.2.2.1⟩ ?_
      exact x_wk (L' := [none, none, none, none]) ⟨Or.inl rfl, Or.inl rfl, Or.inl rfl, Or.inl rfl, trivial⟩ (w_W_real_b14 hQ (some a5) u6 h)
    rw [if_neg c8] at h
    cases h
  refine c_invv (c := 0) (d := d + 7) (av := [vI a2]) (st := [vI (0 : Int32), vR a3]) (Q' := fun r h' => r = .inl (some (vD v3)) ∧ h' = u2) (pc := 4) d_W_real_4 cv_W_25 y_P_real c1 rfl (Nat.le_of_ble_eq_true rfl) (Nat.le_of_ble_eq_true rfl) (w_P_real (d := d + 0) (Q := fun r h' => r = .inl (some (vD v3)) ∧ h' = u2) ⟨rfl, rfl⟩ u a1 a2 e4) (fun v h' z => ?_) (fun a h' z => nomatch z.1)
  obtain ⟨z1, z2⟩ := z
  subst h'
  cases z1
  show xW sc m_W_real (d + 8) Q (u2) 7 [some (vR a1), some (vI a2), some (vR a3), none] [vD v3, vI (0 : Int32), vR a3]
  obtain ⟨u9, e10, h⟩ := Option.bind_eq_some_iff.mp h
  refine c_dast (pc := 7) d_W_real_7 e10 ?_
  refine x_goto (tgt := 17) (pc := 8) d_W_real_8 (by decide) ?_
  refine x_iconst (v := (0 : Int32)) (pc := 17) d_W_real_17 (by decide) ?_
  cases h
  exact x_iret (ty := .int) (pc := 18) d_W_real_18 rfl (rfl) hQ
def f_W_run_b12 (sc : xSc)  (t0 : Option Nat) (u : xH) : Option (Int32 × xH) := some ((1 : Int32), u)
theorem w_W_run_b12 {sc : xSc} {d : Nat} {Q : xR → xH → Prop} {hZ : xH} {rZ : Int32}  (hQ : Q (.inl (some (vI rZ))) hZ) (t0 : Option Nat) (u : xH) (h : f_W_run_b12 sc  t0 u = some (rZ, hZ)) : xW sc m_W_run (d + 203) Q (u) 12 [none, none, none, none] [vR t0] := by
  unfold f_W_run_b12 at h
  refine x_astore_n (pc := 12) d_W_run_12 (by decide) ?_
  show xW sc m_W_run (d + 203) Q (u) 13 [none, none, none, some (vR t0)] []
  refine x_iconst (v := (1 : Int32)) (pc := 13) d_W_run_13 (by decide) ?_
  cases h
  exact x_iret (ty := .int) (pc := 14) d_W_run_14 rfl (rfl) hQ
def f_W_run (sc : xSc) (u : xH) (a1 : Option Nat) (a2 : Int32) (a3 : Option Nat) : Option (Int32 × xH) := (if xis sc u 0 a1 = true then tB (f_P_run sc u a1 a2) (fun v3 u2 => (bL u2 a3 (0 : Int32) v3.toInt64).bind fun u8 => some ((0 : Int32), u8)) (fun a5 u6 => (if xis sc u6 22 (some a5) = true then f_W_run_b12 sc (some a5) u6 else none)) else none)
theorem w_W_run {sc : xSc} {d : Nat} {Q : xR → xH → Prop} {hZ : xH} {rZ : Int32} (hQ : Q (.inl (some (vI rZ))) hZ) (u : xH) (a1 : Option Nat) (a2 : Int32) (a3 : Option Nat) (h : f_W_run sc u a1 a2 a3 = some (rZ, hZ)) : xW sc m_W_run (d + 203) Q (u) 0 (xent [vR a1, vI a2, vR a3] m_W_run.2.2.1) [] := by
  show xW sc m_W_run (d + 203) Q (u) 0 [some (vR a1), some (vI a2), some (vR a3), none] []
  unfold f_W_run at h
  refine x_aload_n (pc := 0) d_W_run_0 rfl ?_
  refine x_iconst (v := (0 : Int32)) (pc := 1) d_W_run_1 (by decide) ?_
  refine x_aload_n (pc := 2) d_W_run_2 rfl ?_
  refine x_iload_n (pc := 3) d_W_run_3 rfl ?_
  obtain ⟨c1, h⟩ := ite_some h
  rcases tB_s h with ⟨a5, u6, e4, h⟩ | ⟨v3, u2, e4, h⟩
  · refine c_invv (c := 0) (d := d + 202) (av := [vI a2]) (st := [vI (0 : Int32), vR a3]) (Q' := fun r h' => r = .inr a5 ∧ h' = u6) (pc := 4) d_W_run_4 cv_W_7 y_P_run c1 rfl (Nat.le_of_ble_eq_true rfl) (Nat.le_of_ble_eq_true rfl) (w_P_run (d := d + 0) (Q := fun r h' => r = .inr a5 ∧ h' = u6) ⟨rfl, rfl⟩ u a1 a2 e4) (fun v h' z => nomatch z.1) (fun a h' z => ?_)
    obtain ⟨z1, z2⟩ := z
    subst h'
    cases z1
    by_cases c7 : xis sc u6 22 (some a5) = true
    · rw [if_pos c7] at h
      obtain ⟨a9, fs9, e9, f9⟩ := xis_s c7
      cases e9
      refine x_thCatch (b1 := 0) (b2 := 9) (hp := 12) (ct := 13) (Or.inl rfl) ⟨by decide, by decide⟩ (by decide) kl_W_13 f9 ⟨_, rfl, tw_1 (List.mem_of_getElem? (i := 156) rfl)⟩ ?_
      exact x_wk (L' := [none, none, none, none]) ⟨Or.inl rfl, Or.inl rfl, Or.inl rfl, Or.inl rfl, trivial⟩ (w_W_run_b12 hQ (some a5) u6 h)
    rw [if_neg c7] at h
    cases h
  refine c_invv (c := 0) (d := d + 202) (av := [vI a2]) (st := [vI (0 : Int32), vR a3]) (Q' := fun r h' => r = .inl (some (vI v3)) ∧ h' = u2) (pc := 4) d_W_run_4 cv_W_7 y_P_run c1 rfl (Nat.le_of_ble_eq_true rfl) (Nat.le_of_ble_eq_true rfl) (w_P_run (d := d + 0) (Q := fun r h' => r = .inl (some (vI v3)) ∧ h' = u2) ⟨rfl, rfl⟩ u a1 a2 e4) (fun v h' z => ?_) (fun a h' z => nomatch z.1)
  obtain ⟨z1, z2⟩ := z
  subst h'
  cases z1
  show xW sc m_W_run (d + 203) Q (u2) 7 [some (vR a1), some (vI a2), some (vR a3), none] [vI v3, vI (0 : Int32), vR a3]
  refine x_i2l (pc := 7) d_W_run_7 ?_
  obtain ⟨u8, e9, h⟩ := Option.bind_eq_some_iff.mp h
  refine c_last (pc := 8) d_W_run_8 e9 ?_
  refine x_goto (tgt := 15) (pc := 9) d_W_run_9 (by decide) ?_
  refine x_iconst (v := (0 : Int32)) (pc := 15) d_W_run_15 (by decide) ?_
  cases h
  exact x_iret (ty := .int) (pc := 16) d_W_run_16 rfl (rfl) hQ
