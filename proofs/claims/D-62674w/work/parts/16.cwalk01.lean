/-! the component's methods, the JDK's that it calls, the law's: extracted (gen/cext.py) -/
abbrev rcE : Type := xH → Option Nat → Option Nat → Int32 → Option ((Unit ⊕ Nat) × xH)
abbrev rcT : Type := xH → Option Nat → Int32 → Option ((Option Nat ⊕ Nat) × xH)
def rcEOK (sc : xSc) (D : Nat) (rc : rcE) : Prop := ∀ (d : Nat) (Q : xR → xH → Prop) (u : xH) (a0 a1 : Option Nat) (a2 : Int32) (o : Unit ⊕ Nat) (w : xH), rc u a0 a1 a2 = some (o, w) → Q (cvU o) w → xW sc m_P_element (D + d) Q u 0 (xent [vR a0, vR a1, vI a2] m_P_element.2.2.1) []
def rcTOK (sc : xSc) (D : Nat) (rc : rcT) : Prop := ∀ (d : Nat) (Q : xR → xH → Prop) (u : xH) (a0 : Option Nat) (a1 : Int32) (o : Option Nat ⊕ Nat) (w : xH), rc u a0 a1 = some (o, w) → Q (cvR o) w → xW sc m_P_token (D + d) Q u 0 (xent [vR a0, vI a1] m_P_token.2.2.1) []
theorem xno {M : xM} {pc : Nat} (h : M.2.2.2.2.1.all (fun q => !(decide (q.1 ≤ pc) && decide (pc < q.2.1))) = true) : xNo M pc := by
  intro q hq z
  have := List.all_eq_true.mp h q hq
  rw [decide_eq_true z.1, decide_eq_true z.2] at this
  cases this
theorem xby_n {x : Int32} (h : xby x = true) : narrow .byte (.int x) = .int x := by
  have e : x.toInt8.toInt32 = x := eq_of_beq h
  rw [narrow_byte, e]
def f_Enum_ordinal19 (sc : xSc) (u : xH) (a0 : Option Nat) : Option Int32 := gI sc u 19 0 a0
def f_Enum_ordinal20 (sc : xSc) (u : xH) (a0 : Option Nat) : Option Int32 := gI sc u 20 0 a0
theorem w_Enum_ordinal19 {sc : xSc} {d : Nat} {Q : xR → xH → Prop} {u : xH} {rZ : Int32} (hQ : Q (.inl (some (vI rZ))) u) (a0 : Option Nat) (h : f_Enum_ordinal19 sc u a0 = some rZ) : xW sc m_Enum_ordinal (d + 0) Q u 0 (xent [vR a0] m_Enum_ordinal.2.2.1) [] := by
  show xW sc m_Enum_ordinal (d + 0) Q u 0 [some (vR a0)] []
  refine x_aload_n (pc := 0) d_Enum_ordinal_0 rfl ?_
  refine c_getI (c := 19) (k := 0) (pc := 1) d_Enum_ordinal_1 l_Enum_19 h ?_
  exact x_iret (ty := .int) (pc := 4) d_Enum_ordinal_4 rfl rfl hQ
theorem w_Enum_ordinal20 {sc : xSc} {d : Nat} {Q : xR → xH → Prop} {u : xH} {rZ : Int32} (hQ : Q (.inl (some (vI rZ))) u) (a0 : Option Nat) (h : f_Enum_ordinal20 sc u a0 = some rZ) : xW sc m_Enum_ordinal (d + 0) Q u 0 (xent [vR a0] m_Enum_ordinal.2.2.1) [] := by
  show xW sc m_Enum_ordinal (d + 0) Q u 0 [some (vR a0)] []
  refine x_aload_n (pc := 0) d_Enum_ordinal_0 rfl ?_
  refine c_getI (c := 20) (k := 0) (pc := 1) d_Enum_ordinal_1 l_Enum_20 h ?_
  exact x_iret (ty := .int) (pc := 4) d_Enum_ordinal_4 rfl rfl hQ
def f_AbstractCollection_init  (a0 : Option Nat) : Option Unit := (if a0.isSome = true then some () else none)
theorem w_AbstractCollection_init {sc : xSc} {d : Nat} {Q : xR → xH → Prop} {hh : xH} {rZ : Unit} (hQ : Q (.inl none) hh) (a0 : Option Nat) (h : f_AbstractCollection_init  a0 = some rZ) : xW sc m_AbstractCollection_init (d + 1) Q (hh) 0 (xent [vR a0] m_AbstractCollection_init.2.2.1) [] := by
  show xW sc m_AbstractCollection_init (d + 1) Q (hh) 0 [some (vR a0)] []
  unfold f_AbstractCollection_init at h
  refine x_aload_n (pc := 0) d_AbstractCollection_init_0 rfl ?_
  obtain ⟨c1, h⟩ := ite_some h
  refine c_obj (d := d + 0) (pc := 1) d_AbstractCollection_init_1 (tw_1 (List.mem_of_getElem? (i := 149) rfl)) oi_1 oi_2 (Nat.le_of_ble_eq_true rfl) c1 ?_
  cases h
  exact x_vret (pc := 4) d_AbstractCollection_init_4 rfl hQ
def f_AbstractList_init (sc : xSc) (u : xH) (a0 : Option Nat) : Option xH := (if a0.isSome = true then (f_AbstractCollection_init a0).bind fun v2 => (pV u 17 2 a0 (vI (0 : Int32))).bind fun u4 => some u4 else none)
theorem w_AbstractList_init {sc : xSc} {d : Nat} {Q : xR → xH → Prop} {hZ : xH} (hQ : Q (.inl none) hZ) (u : xH) (a0 : Option Nat) (h : f_AbstractList_init sc u a0 = some hZ) : xW sc m_AbstractList_init (d + 2) Q (u) 0 (xent [vR a0] m_AbstractList_init.2.2.1) [] := by
  show xW sc m_AbstractList_init (d + 2) Q (u) 0 [some (vR a0)] []
  unfold f_AbstractList_init at h
  refine x_aload_n (pc := 0) d_AbstractList_init_0 rfl ?_
  obtain ⟨c1, h⟩ := ite_some h
  obtain ⟨v2, e3, h⟩ := Option.bind_eq_some_iff.mp h
  refine c_invi (d := d + 1) (av := []) (st := []) (Q' := fun r h' => r = .inl none ∧ h' = u) (pc := 1) d_AbstractList_init_1 ci_AbstractList_1 y_AbstractCollection_init (tw_1 (List.mem_of_getElem? (i := 148) rfl)) c1 rfl (Nat.le_of_ble_eq_true rfl) (Nat.le_of_ble_eq_true rfl) (w_AbstractCollection_init (d := d + 0) (Q := fun r h' => r = .inl none ∧ h' = u) (hh := u) ⟨rfl, rfl⟩ a0 e3) (fun v h' z => ?_) (fun a h' z => nomatch z.1)
  obtain ⟨z1, z2⟩ := z
  subst h'
  cases z1
  show xW sc m_AbstractList_init (d + 2) Q (u) 4 [some (vR a0)] []
  refine x_aload_n (pc := 4) d_AbstractList_init_4 rfl ?_
  refine x_iconst (v := (0 : Int32)) (pc := 5) d_AbstractList_init_5 (by decide) ?_
  obtain ⟨u4, e5, h⟩ := Option.bind_eq_some_iff.mp h
  refine c_putf (pc := 6) d_AbstractList_init_6 l_AbstractList_7 fp_17_2 (xfit_int) e5 ?_
  cases h
  exact x_vret (pc := 9) d_AbstractList_init_9 rfl hQ
def f_Math_max_b10   (t0 : Int32) : Option Int32 := some t0
theorem w_Math_max_b10 {sc : xSc} {d : Nat} {Q : xR → xH → Prop} {hh : xH} {rZ : Int32}  (hQ : Q (.inl (some (vI rZ))) hh) (t0 : Int32) (h : f_Math_max_b10   t0 = some rZ) : xW sc m_Math_max (d + 0) Q (hh) 10 [none, none] [vI t0] := by
  unfold f_Math_max_b10 at h
  cases h
  exact x_iret (ty := .int) (pc := 10) d_Math_max_10 rfl (rfl) hQ
def f_Math_max  (a1 : Int32) (a2 : Int32) : Option Int32 := (if a1 < a2 then f_Math_max_b10 a2 else f_Math_max_b10 a1)
theorem w_Math_max {sc : xSc} {d : Nat} {Q : xR → xH → Prop} {hh : xH} {rZ : Int32} (hQ : Q (.inl (some (vI rZ))) hh) (a1 : Int32) (a2 : Int32) (h : f_Math_max  a1 a2 = some rZ) : xW sc m_Math_max (d + 0) Q (hh) 0 (xent [vI a1, vI a2] m_Math_max.2.2.1) [] := by
  show xW sc m_Math_max (d + 0) Q (hh) 0 [some (vI a1), some (vI a2)] []
  unfold f_Math_max at h
  refine x_iload_n (pc := 0) d_Math_max_0 rfl ?_
  refine x_iload_n (pc := 1) d_Math_max_1 rfl ?_
  refine x_icmp_lt (tgt := 9) (pc := 2) d_Math_max_2 (by decide) (fun c1 => ?_) (fun c1 => ?_)
  · rw [if_pos c1] at h
    refine x_iload_n (pc := 9) d_Math_max_9 rfl ?_
    exact x_wk (L' := [none, none]) ⟨Or.inl rfl, Or.inl rfl, trivial⟩ (w_Math_max_b10 hQ a2 h)
  · rw [if_neg c1] at h
    refine x_iload_n (pc := 5) d_Math_max_5 rfl ?_
    refine x_goto (tgt := 10) (pc := 6) d_Math_max_6 (by decide) ?_
    exact x_wk (L' := [none, none]) ⟨Or.inl rfl, Or.inl rfl, trivial⟩ (w_Math_max_b10 hQ a1 h)
def f_ArraysSupport_newLength_b21   (l0 : Int32) (l1 : Int32) : Option Int32 := none
theorem w_ArraysSupport_newLength_b21 {sc : xSc} {d : Nat} {Q : xR → xH → Prop} {hh : xH} {rZ : Int32}  (hQ : Q (.inl (some (vI rZ))) hh) (l0 : Int32) (l1 : Int32) (h : f_ArraysSupport_newLength_b21   l0 l1 = some rZ) : xW sc m_ArraysSupport_newLength (d + 1) Q (hh) 21 [some (vI l0), some (vI l1), none, none] [] := by
  unfold f_ArraysSupport_newLength_b21 at h
  refine x_iload_n (pc := 21) d_ArraysSupport_newLength_21 rfl ?_
  refine x_iload_n (pc := 22) d_ArraysSupport_newLength_22 rfl ?_
  cases h
def f_ArraysSupport_newLength  (a1 : Int32) (a2 : Int32) (a3 : Int32) : Option Int32 := (f_Math_max a2 a3).bind fun v1 => (if (a1 + v1) ≤ (0 : Int32) then f_ArraysSupport_newLength_b21 a1 a2 else (if (2147483639 : Int32) < (a1 + v1) then f_ArraysSupport_newLength_b21 a1 a2 else some (a1 + v1)))
theorem w_ArraysSupport_newLength {sc : xSc} {d : Nat} {Q : xR → xH → Prop} {hh : xH} {rZ : Int32} (hQ : Q (.inl (some (vI rZ))) hh) (a1 : Int32) (a2 : Int32) (a3 : Int32) (h : f_ArraysSupport_newLength  a1 a2 a3 = some rZ) : xW sc m_ArraysSupport_newLength (d + 1) Q (hh) 0 (xent [vI a1, vI a2, vI a3] m_ArraysSupport_newLength.2.2.1) [] := by
  show xW sc m_ArraysSupport_newLength (d + 1) Q (hh) 0 [some (vI a1), some (vI a2), some (vI a3), none] []
  unfold f_ArraysSupport_newLength at h
  refine x_iload_n (pc := 0) d_ArraysSupport_newLength_0 rfl ?_
  refine x_iload_n (pc := 1) d_ArraysSupport_newLength_1 rfl ?_
  refine x_iload_n (pc := 2) d_ArraysSupport_newLength_2 rfl ?_
  obtain ⟨v1, e2, h⟩ := Option.bind_eq_some_iff.mp h
  refine x_invs (d := d + 0) (av := [vI a2, vI a3]) (st := [vI a1]) (Q' := fun r h' => r = .inl (some (vI v1)) ∧ h' = hh) (pc := 3) d_ArraysSupport_newLength_3 cs_ArraysSupport_194 y_Math_max rfl (Nat.le_of_ble_eq_true rfl) (Nat.le_of_ble_eq_true rfl) (w_Math_max (d := d + 0) (Q := fun r h' => r = .inl (some (vI v1)) ∧ h' = hh) ⟨rfl, rfl⟩ a2 a3 e2) (fun v h' z => ?_) (fun a h' z => nomatch z.1)
  obtain ⟨z1, z2⟩ := z
  subst h'
  cases z1
  show xW sc m_ArraysSupport_newLength (d + 1) Q (hh) 6 [some (vI a1), some (vI a2), some (vI a3), none] [vI v1, vI a1]
  refine x_iadd (pc := 6) d_ArraysSupport_newLength_6 ?_
  refine x_istore_n (pc := 7) d_ArraysSupport_newLength_7 (by decide) ?_
  show xW sc m_ArraysSupport_newLength (d + 1) Q (hh) 8 [some (vI a1), some (vI a2), some (vI a3), some (vI (a1 + v1))] []
  refine x_iconst (v := (0 : Int32)) (pc := 8) d_ArraysSupport_newLength_8 (by decide) ?_
  refine x_iload_n (pc := 9) d_ArraysSupport_newLength_9 rfl ?_
  refine x_icmp_ge (tgt := 21) (pc := 10) d_ArraysSupport_newLength_10 (by decide) (fun c3 => ?_) (fun c3 => ?_)
  · rw [if_pos c3] at h
    exact x_wk (L' := [some (vI a1), some (vI a2), none, none]) ⟨Or.inr rfl, Or.inr rfl, Or.inl rfl, Or.inl rfl, trivial⟩ (w_ArraysSupport_newLength_b21 hQ a1 a2 h)
  · rw [if_neg c3] at h
    refine x_iload_n (pc := 13) d_ArraysSupport_newLength_13 rfl ?_
    refine x_ldc (v := (2147483639 : Int32)) (pc := 14) d_ArraysSupport_newLength_14 c_ArraysSupport_200 ?_
    refine x_icmp_gt (tgt := 21) (pc := 16) d_ArraysSupport_newLength_16 (by decide) (fun c4 => ?_) (fun c4 => ?_)
    · rw [if_pos c4] at h
      exact x_wk (L' := [some (vI a1), some (vI a2), none, none]) ⟨Or.inr rfl, Or.inr rfl, Or.inl rfl, Or.inl rfl, trivial⟩ (w_ArraysSupport_newLength_b21 hQ a1 a2 h)
    · rw [if_neg c4] at h
      refine x_iload_n (pc := 19) d_ArraysSupport_newLength_19 rfl ?_
      cases h
      exact x_iret (ty := .int) (pc := 20) d_ArraysSupport_newLength_20 rfl (rfl) hQ
def f_AbstractStringBuilder_newCapacity (sc : xSc) (u : xH) (a0 : Option Nat) (a1 : Int32) : Option Int32 := (gR sc u 16 0 a0).bind fun v1 => (aN sc u v1).bind fun v3 => (gI sc u 16 1 a0).bind fun v5 => (gI sc u 16 1 a0).bind fun v7 => (f_ArraysSupport_newLength v3 ((a1 <<< (v5 &&& 31)) - v3) (v3 + ((2 : Int32) <<< (v7 &&& 31)))).bind fun v9 => (if v9 = (2147483647 : Int32) then none else (gI sc u 16 1 a0).bind fun v12 => some (v9 >>> (v12 &&& 31)))
theorem w_AbstractStringBuilder_newCapacity {sc : xSc} {d : Nat} {Q : xR → xH → Prop} {u : xH} {rZ : Int32} (hQ : Q (.inl (some (vI rZ))) u) (a0 : Option Nat) (a1 : Int32) (h : f_AbstractStringBuilder_newCapacity sc u a0 a1 = some rZ) : xW sc m_AbstractStringBuilder_newCapacity (d + 2) Q (u) 0 (xent [vR a0, vI a1] m_AbstractStringBuilder_newCapacity.2.2.1) [] := by
  show xW sc m_AbstractStringBuilder_newCapacity (d + 2) Q (u) 0 [some (vR a0), some (vI a1), none, none, none, none] []
  unfold f_AbstractStringBuilder_newCapacity at h
  refine x_aload_n (pc := 0) d_AbstractStringBuilder_newCapacity_0 rfl ?_
  obtain ⟨v1, e2, h⟩ := Option.bind_eq_some_iff.mp h
  refine c_getR (pc := 1) d_AbstractStringBuilder_newCapacity_1 l_AbstractStringBuilder_15 e2 ?_
  obtain ⟨v3, e4, h⟩ := Option.bind_eq_some_iff.mp h
  refine c_alen (pc := 4) d_AbstractStringBuilder_newCapacity_4 e4 ?_
  refine x_istore_n (pc := 5) d_AbstractStringBuilder_newCapacity_5 (by decide) ?_
  show xW sc m_AbstractStringBuilder_newCapacity (d + 2) Q (u) 6 [some (vR a0), some (vI a1), some (vI v3), none, none, none] []
  refine x_iload_n (pc := 6) d_AbstractStringBuilder_newCapacity_6 rfl ?_
  refine x_aload_n (pc := 7) d_AbstractStringBuilder_newCapacity_7 rfl ?_
  obtain ⟨v5, e6, h⟩ := Option.bind_eq_some_iff.mp h
  refine c_getI (pc := 8) d_AbstractStringBuilder_newCapacity_8 l_AbstractStringBuilder_22 e6 ?_
  refine x_ishl (pc := 11) d_AbstractStringBuilder_newCapacity_11 ?_
  refine x_istore_n (pc := 12) d_AbstractStringBuilder_newCapacity_12 (by decide) ?_
  show xW sc m_AbstractStringBuilder_newCapacity (d + 2) Q (u) 13 [some (vR a0), some (vI a1), some (vI v3), some (vI (a1 <<< (v5 &&& 31))), none, none] []
  refine x_iload_n (pc := 13) d_AbstractStringBuilder_newCapacity_13 rfl ?_
  refine x_iload_n (pc := 14) d_AbstractStringBuilder_newCapacity_14 rfl ?_
  refine x_isub (pc := 15) d_AbstractStringBuilder_newCapacity_15 ?_
  refine x_istore (pc := 16) d_AbstractStringBuilder_newCapacity_16 (by decide) ?_
  show xW sc m_AbstractStringBuilder_newCapacity (d + 2) Q (u) 18 [some (vR a0), some (vI a1), some (vI v3), some (vI (a1 <<< (v5 &&& 31))), some (vI ((a1 <<< (v5 &&& 31)) - v3)), none] []
  refine x_iload_n (pc := 18) d_AbstractStringBuilder_newCapacity_18 rfl ?_
  refine x_iload (pc := 19) d_AbstractStringBuilder_newCapacity_19 rfl ?_
  refine x_iload_n (pc := 21) d_AbstractStringBuilder_newCapacity_21 rfl ?_
  refine x_iconst (v := (2 : Int32)) (pc := 22) d_AbstractStringBuilder_newCapacity_22 (by decide) ?_
  refine x_aload_n (pc := 23) d_AbstractStringBuilder_newCapacity_23 rfl ?_
  obtain ⟨v7, e8, h⟩ := Option.bind_eq_some_iff.mp h
  refine c_getI (pc := 24) d_AbstractStringBuilder_newCapacity_24 l_AbstractStringBuilder_22 e8 ?_
  refine x_ishl (pc := 27) d_AbstractStringBuilder_newCapacity_27 ?_
  refine x_iadd (pc := 28) d_AbstractStringBuilder_newCapacity_28 ?_
  obtain ⟨v9, e10, h⟩ := Option.bind_eq_some_iff.mp h
  refine x_invs (d := d + 1) (av := [vI v3, vI ((a1 <<< (v5 &&& 31)) - v3), vI (v3 + ((2 : Int32) <<< (v7 &&& 31)))]) (st := []) (Q' := fun r h' => r = .inl (some (vI v9)) ∧ h' = u) (pc := 29) d_AbstractStringBuilder_newCapacity_29 cs_AbstractStringBuilder_114 y_ArraysSupport_newLength rfl (Nat.le_of_ble_eq_true rfl) (Nat.le_of_ble_eq_true rfl) (w_ArraysSupport_newLength (d := d + 0) (Q := fun r h' => r = .inl (some (vI v9)) ∧ h' = u) (hh := u) ⟨rfl, rfl⟩ v3 ((a1 <<< (v5 &&& 31)) - v3) (v3 + ((2 : Int32) <<< (v7 &&& 31))) e10) (fun v h' z => ?_) (fun a h' z => nomatch z.1)
  obtain ⟨z1, z2⟩ := z
  subst h'
  cases z1
  show xW sc m_AbstractStringBuilder_newCapacity (d + 2) Q (u) 32 [some (vR a0), some (vI a1), some (vI v3), some (vI (a1 <<< (v5 &&& 31))), some (vI ((a1 <<< (v5 &&& 31)) - v3)), none] [vI v9]
  refine x_istore (pc := 32) d_AbstractStringBuilder_newCapacity_32 (by decide) ?_
  show xW sc m_AbstractStringBuilder_newCapacity (d + 2) Q (u) 34 [some (vR a0), some (vI a1), some (vI v3), some (vI (a1 <<< (v5 &&& 31))), some (vI ((a1 <<< (v5 &&& 31)) - v3)), some (vI v9)] []
  refine x_iload (pc := 34) d_AbstractStringBuilder_newCapacity_34 rfl ?_
  refine x_ldc (v := (2147483647 : Int32)) (pc := 36) d_AbstractStringBuilder_newCapacity_36 c_AbstractStringBuilder_39 ?_
  refine x_icmp_ne (tgt := 51) (pc := 38) d_AbstractStringBuilder_newCapacity_38 (by decide) (fun c11 => ?_) (fun c11 => ?_)
  · rw [if_neg c11] at h
    refine x_iload (pc := 51) d_AbstractStringBuilder_newCapacity_51 rfl ?_
    refine x_aload_n (pc := 53) d_AbstractStringBuilder_newCapacity_53 rfl ?_
    obtain ⟨v12, e13, h⟩ := Option.bind_eq_some_iff.mp h
    refine c_getI (pc := 54) d_AbstractStringBuilder_newCapacity_54 l_AbstractStringBuilder_22 e13 ?_
    refine x_ishr (pc := 57) d_AbstractStringBuilder_newCapacity_57 ?_
    cases h
    exact x_iret (ty := .int) (pc := 58) d_AbstractStringBuilder_newCapacity_58 rfl (rfl) hQ
  · rw [if_pos c11] at h
    cases h
def f_Math_min_b10   (t0 : Int32) : Option Int32 := some t0
theorem w_Math_min_b10 {sc : xSc} {d : Nat} {Q : xR → xH → Prop} {hh : xH} {rZ : Int32}  (hQ : Q (.inl (some (vI rZ))) hh) (t0 : Int32) (h : f_Math_min_b10   t0 = some rZ) : xW sc m_Math_min (d + 0) Q (hh) 10 [none, none] [vI t0] := by
  unfold f_Math_min_b10 at h
  cases h
  exact x_iret (ty := .int) (pc := 10) d_Math_min_10 rfl (rfl) hQ
def f_Math_min  (a1 : Int32) (a2 : Int32) : Option Int32 := (if a2 < a1 then f_Math_min_b10 a2 else f_Math_min_b10 a1)
theorem w_Math_min {sc : xSc} {d : Nat} {Q : xR → xH → Prop} {hh : xH} {rZ : Int32} (hQ : Q (.inl (some (vI rZ))) hh) (a1 : Int32) (a2 : Int32) (h : f_Math_min  a1 a2 = some rZ) : xW sc m_Math_min (d + 0) Q (hh) 0 (xent [vI a1, vI a2] m_Math_min.2.2.1) [] := by
  show xW sc m_Math_min (d + 0) Q (hh) 0 [some (vI a1), some (vI a2)] []
  unfold f_Math_min at h
  refine x_iload_n (pc := 0) d_Math_min_0 rfl ?_
  refine x_iload_n (pc := 1) d_Math_min_1 rfl ?_
  refine x_icmp_gt (tgt := 9) (pc := 2) d_Math_min_2 (by decide) (fun c1 => ?_) (fun c1 => ?_)
  · rw [if_pos c1] at h
    refine x_iload_n (pc := 9) d_Math_min_9 rfl ?_
    exact x_wk (L' := [none, none]) ⟨Or.inl rfl, Or.inl rfl, trivial⟩ (w_Math_min_b10 hQ a2 h)
  · rw [if_neg c1] at h
    refine x_iload_n (pc := 5) d_Math_min_5 rfl ?_
    refine x_goto (tgt := 10) (pc := 6) d_Math_min_6 (by decide) ?_
    exact x_wk (L' := [none, none]) ⟨Or.inl rfl, Or.inl rfl, trivial⟩ (w_Math_min_b10 hQ a1 h)
def f_Arrays_copyOf0 (sc : xSc) (u : xH) (a1 : Option Nat) (a2 : Int32) : Option (Option Nat × xH) := (aN sc u a1).bind fun v1 => (if a2 = v1 then none else (nA eByte u a2).bind fun u4 => (aN sc u4 a1).bind fun v6 => (f_Math_min v6 a2).bind fun v8 => (xCpy sc u4 a1 (0 : Int32) (some u.2.1) (0 : Int32) v8).bind fun u10 => some (some u.2.1, u10))
theorem w_Arrays_copyOf0 {sc : xSc} {d : Nat} {Q : xR → xH → Prop} {hZ : xH} {rZ : Option Nat} (hQ : Q (.inl (some (vR rZ))) hZ) (u : xH) (a1 : Option Nat) (a2 : Int32) (h : f_Arrays_copyOf0 sc u a1 a2 = some (rZ, hZ)) : xW sc m_Arrays_copyOf0 (d + 1) Q (u) 0 (xent [vR a1, vI a2] m_Arrays_copyOf0.2.2.1) [] := by
  show xW sc m_Arrays_copyOf0 (d + 1) Q (u) 0 [some (vR a1), some (vI a2), none] []
  unfold f_Arrays_copyOf0 at h
  refine x_iload_n (pc := 0) d_Arrays_copyOf0_0 rfl ?_
  refine x_aload_n (pc := 1) d_Arrays_copyOf0_1 rfl ?_
  obtain ⟨v1, e2, h⟩ := Option.bind_eq_some_iff.mp h
  refine c_alen (pc := 2) d_Arrays_copyOf0_2 e2 ?_
  refine x_icmp_ne (tgt := 14) (pc := 3) d_Arrays_copyOf0_3 (by decide) (fun c3 => ?_) (fun c3 => ?_)
  · rw [if_neg c3] at h
    refine x_iload_n (pc := 14) d_Arrays_copyOf0_14 rfl ?_
    obtain ⟨u4, e5, h⟩ := Option.bind_eq_some_iff.mp h
    refine c_newa_byte (pc := 15) d_Arrays_copyOf0_15 ac_byte e5 ?_
    refine x_astore_n (pc := 17) d_Arrays_copyOf0_17 (by decide) ?_
    show xW sc m_Arrays_copyOf0 (d + 1) Q (u4) 18 [some (vR a1), some (vI a2), some (vR (some u.2.1))] []
    refine x_aload_n (pc := 18) d_Arrays_copyOf0_18 rfl ?_
    refine x_iconst (v := (0 : Int32)) (pc := 19) d_Arrays_copyOf0_19 (by decide) ?_
    refine x_aload_n (pc := 20) d_Arrays_copyOf0_20 rfl ?_
    refine x_iconst (v := (0 : Int32)) (pc := 21) d_Arrays_copyOf0_21 (by decide) ?_
    refine x_aload_n (pc := 22) d_Arrays_copyOf0_22 rfl ?_
    obtain ⟨v6, e7, h⟩ := Option.bind_eq_some_iff.mp h
    refine c_alen (pc := 23) d_Arrays_copyOf0_23 e7 ?_
    refine x_iload_n (pc := 24) d_Arrays_copyOf0_24 rfl ?_
    obtain ⟨v8, e9, h⟩ := Option.bind_eq_some_iff.mp h
    refine x_invs (d := d + 0) (av := [vI v6, vI a2]) (st := [vI (0 : Int32), vR (some u.2.1), vI (0 : Int32), vR a1]) (Q' := fun r h' => r = .inl (some (vI v8)) ∧ h' = u4) (pc := 25) d_Arrays_copyOf0_25 cs_Arrays_304 y_Math_min rfl (Nat.le_of_ble_eq_true rfl) (Nat.le_of_ble_eq_true rfl) (w_Math_min (d := d + 0) (Q := fun r h' => r = .inl (some (vI v8)) ∧ h' = u4) (hh := u4) ⟨rfl, rfl⟩ v6 a2 e9) (fun v h' z => ?_) (fun a h' z => nomatch z.1)
    obtain ⟨z1, z2⟩ := z
    subst h'
    cases z1
    show xW sc m_Arrays_copyOf0 (d + 1) Q (u4) 28 [some (vR a1), some (vI a2), some (vR (some u.2.1))] [vI v8, vI (0 : Int32), vR (some u.2.1), vI (0 : Int32), vR a1]
    obtain ⟨u10, e11, h⟩ := Option.bind_eq_some_iff.mp h
    refine c_acopy (pc := 28) d_Arrays_copyOf0_28 ac9_Arrays_150 (Nat.le_of_ble_eq_true rfl) e11 ?_
    refine x_aload_n (pc := 31) d_Arrays_copyOf0_31 rfl ?_
    cases h
    exact x_aret (pc := 32) d_Arrays_copyOf0_32 rfl (Or.inr ⟨_, rfl⟩) hQ
  · rw [if_pos c3] at h
    refine x_aload_n (pc := 6) d_Arrays_copyOf0_6 rfl ?_
    cases h
def f_AbstractStringBuilder_ensureCapacityInternal_b38 (sc : xSc)  (u : xH) : Option xH := some u
theorem w_AbstractStringBuilder_ensureCapacityInternal_b38 {sc : xSc} {d : Nat} {Q : xR → xH → Prop} {hZ : xH}  (hQ : Q (.inl none) hZ) (u : xH) (h : f_AbstractStringBuilder_ensureCapacityInternal_b38 sc  u = some hZ) : xW sc m_AbstractStringBuilder_ensureCapacityInternal (d + 3) Q (u) 38 [none, none, none] [] := by
  unfold f_AbstractStringBuilder_ensureCapacityInternal_b38 at h
  cases h
  exact x_vret (pc := 38) d_AbstractStringBuilder_ensureCapacityInternal_38 rfl hQ
def f_AbstractStringBuilder_ensureCapacityInternal (sc : xSc) (u : xH) (a0 : Option Nat) (a1 : Int32) : Option xH := (gR sc u 16 0 a0).bind fun v1 => (aN sc u v1).bind fun v3 => (gI sc u 16 1 a0).bind fun v5 => (if (a1 - (v3 >>> (v5 &&& 31))) ≤ 0 then f_AbstractStringBuilder_ensureCapacityInternal_b38 sc u else (gR sc u 16 0 a0).bind fun v8 => (if xis sc u 16 a0 = true then (f_AbstractStringBuilder_newCapacity sc u a0 a1).bind fun v11 => (gI sc u 16 1 a0).bind fun v13 => (f_Arrays_copyOf0 sc u v8 (v11 <<< (v13 &&& 31))).bind fun (v16, u15) => (pV u15 16 0 a0 (vR v16)).bind fun u18 => f_AbstractStringBuilder_ensureCapacityInternal_b38 sc u18 else none))
theorem w_AbstractStringBuilder_ensureCapacityInternal {sc : xSc} {d : Nat} {Q : xR → xH → Prop} {hZ : xH} (hQ : Q (.inl none) hZ) (u : xH) (a0 : Option Nat) (a1 : Int32) (h : f_AbstractStringBuilder_ensureCapacityInternal sc u a0 a1 = some hZ) : xW sc m_AbstractStringBuilder_ensureCapacityInternal (d + 3) Q (u) 0 (xent [vR a0, vI a1] m_AbstractStringBuilder_ensureCapacityInternal.2.2.1) [] := by
  show xW sc m_AbstractStringBuilder_ensureCapacityInternal (d + 3) Q (u) 0 [some (vR a0), some (vI a1), none] []
  unfold f_AbstractStringBuilder_ensureCapacityInternal at h
  refine x_aload_n (pc := 0) d_AbstractStringBuilder_ensureCapacityInternal_0 rfl ?_
  obtain ⟨v1, e2, h⟩ := Option.bind_eq_some_iff.mp h
  refine c_getR (pc := 1) d_AbstractStringBuilder_ensureCapacityInternal_1 l_AbstractStringBuilder_15 e2 ?_
  obtain ⟨v3, e4, h⟩ := Option.bind_eq_some_iff.mp h
  refine c_alen (pc := 4) d_AbstractStringBuilder_ensureCapacityInternal_4 e4 ?_
  refine x_aload_n (pc := 5) d_AbstractStringBuilder_ensureCapacityInternal_5 rfl ?_
  obtain ⟨v5, e6, h⟩ := Option.bind_eq_some_iff.mp h
  refine c_getI (pc := 6) d_AbstractStringBuilder_ensureCapacityInternal_6 l_AbstractStringBuilder_22 e6 ?_
  refine x_ishr (pc := 9) d_AbstractStringBuilder_ensureCapacityInternal_9 ?_
  refine x_istore_n (pc := 10) d_AbstractStringBuilder_ensureCapacityInternal_10 (by decide) ?_
  show xW sc m_AbstractStringBuilder_ensureCapacityInternal (d + 3) Q (u) 11 [some (vR a0), some (vI a1), some (vI (v3 >>> (v5 &&& 31)))] []
  refine x_iload_n (pc := 11) d_AbstractStringBuilder_ensureCapacityInternal_11 rfl ?_
  refine x_iload_n (pc := 12) d_AbstractStringBuilder_ensureCapacityInternal_12 rfl ?_
  refine x_isub (pc := 13) d_AbstractStringBuilder_ensureCapacityInternal_13 ?_
  refine x_if_le (tgt := 38) (pc := 14) d_AbstractStringBuilder_ensureCapacityInternal_14 (by decide) (fun c7 => ?_) (fun c7 => ?_)
  · rw [if_pos c7] at h
    exact x_wk (L' := [none, none, none]) ⟨Or.inl rfl, Or.inl rfl, Or.inl rfl, trivial⟩ (w_AbstractStringBuilder_ensureCapacityInternal_b38 hQ u h)
  · rw [if_neg c7] at h
    refine x_aload_n (pc := 17) d_AbstractStringBuilder_ensureCapacityInternal_17 rfl ?_
    refine x_aload_n (pc := 18) d_AbstractStringBuilder_ensureCapacityInternal_18 rfl ?_
    obtain ⟨v8, e9, h⟩ := Option.bind_eq_some_iff.mp h
    refine c_getR (pc := 19) d_AbstractStringBuilder_ensureCapacityInternal_19 l_AbstractStringBuilder_15 e9 ?_
    refine x_aload_n (pc := 22) d_AbstractStringBuilder_ensureCapacityInternal_22 rfl ?_
    refine x_iload_n (pc := 23) d_AbstractStringBuilder_ensureCapacityInternal_23 rfl ?_
    obtain ⟨c10, h⟩ := ite_some h
    obtain ⟨v11, e12, h⟩ := Option.bind_eq_some_iff.mp h
    refine c_invp (c := 16) (d := d + 2) (av := [vI a1]) (st := [vR v8, vR a0]) (Q' := fun r h' => r = .inl (some (vI v11)) ∧ h' = u) (pc := 24) d_AbstractStringBuilder_ensureCapacityInternal_24 cp_AbstractStringBuilder_104 y_AbstractStringBuilder_newCapacity c10 rfl (Nat.le_of_ble_eq_true rfl) (Nat.le_of_ble_eq_true rfl) (w_AbstractStringBuilder_newCapacity (d := d + 0) (Q := fun r h' => r = .inl (some (vI v11)) ∧ h' = u) ⟨rfl, rfl⟩ a0 a1 e12) (fun v h' z => ?_) (fun a h' z => nomatch z.1)
    obtain ⟨z1, z2⟩ := z
    subst h'
    cases z1
    show xW sc m_AbstractStringBuilder_ensureCapacityInternal (d + 3) Q (u) 27 [some (vR a0), some (vI a1), some (vI (v3 >>> (v5 &&& 31)))] [vI v11, vR v8, vR a0]
    refine x_aload_n (pc := 27) d_AbstractStringBuilder_ensureCapacityInternal_27 rfl ?_
    obtain ⟨v13, e14, h⟩ := Option.bind_eq_some_iff.mp h
    refine c_getI (pc := 28) d_AbstractStringBuilder_ensureCapacityInternal_28 l_AbstractStringBuilder_22 e14 ?_
    refine x_ishl (pc := 31) d_AbstractStringBuilder_ensureCapacityInternal_31 ?_
    obtain ⟨⟨v16, u15⟩, e17, h⟩ := Option.bind_eq_some_iff.mp h
    dsimp only at h
    refine x_invs (d := d + 2) (av := [vR v8, vI (v11 <<< (v13 &&& 31))]) (st := [vR a0]) (Q' := fun r h' => r = .inl (some (vR v16)) ∧ h' = u15) (pc := 32) d_AbstractStringBuilder_ensureCapacityInternal_32 cs_AbstractStringBuilder_108 y_Arrays_copyOf0 rfl (Nat.le_of_ble_eq_true rfl) (Nat.le_of_ble_eq_true rfl) (w_Arrays_copyOf0 (d := d + 1) (Q := fun r h' => r = .inl (some (vR v16)) ∧ h' = u15) ⟨rfl, rfl⟩ u v8 (v11 <<< (v13 &&& 31)) e17) (fun v h' z => ?_) (fun a h' z => nomatch z.1)
    obtain ⟨z1, z2⟩ := z
    subst h'
    cases z1
    show xW sc m_AbstractStringBuilder_ensureCapacityInternal (d + 3) Q (u15) 35 [some (vR a0), some (vI a1), some (vI (v3 >>> (v5 &&& 31)))] [vR v16, vR a0]
    obtain ⟨u18, e19, h⟩ := Option.bind_eq_some_iff.mp h
    refine c_putf (pc := 35) d_AbstractStringBuilder_ensureCapacityInternal_35 l_AbstractStringBuilder_15 fp_16_0 (xfit_arr) e19 ?_
    exact x_wk (L' := [none, none, none]) ⟨Or.inl rfl, Or.inl rfl, Or.inl rfl, trivial⟩ (w_AbstractStringBuilder_ensureCapacityInternal_b38 hQ u18 h)
def f_AbstractStringBuilder_isLatin1_b18 (sc : xSc) (u : xH)  (t0 : Int32) : Option Int32 := (if xbo t0 = true then some t0 else none)
theorem w_AbstractStringBuilder_isLatin1_b18 {sc : xSc} {d : Nat} {Q : xR → xH → Prop} {u : xH} {rZ : Int32}  (hQ : Q (.inl (some (vI rZ))) u) (t0 : Int32) (h : f_AbstractStringBuilder_isLatin1_b18 sc u  t0 = some rZ) : xW sc m_AbstractStringBuilder_isLatin1 (d + 0) Q (u) 18 [none] [vI t0] := by
  unfold f_AbstractStringBuilder_isLatin1_b18 at h
  obtain ⟨c1, h⟩ := ite_some h
  cases h
  exact x_iret (ty := .boolean) (pc := 18) d_AbstractStringBuilder_isLatin1_18 rfl (xbo_n c1) hQ
def f_AbstractStringBuilder_isLatin1_b17 (sc : xSc) (u : xH)   : Option Int32 := f_AbstractStringBuilder_isLatin1_b18 sc u (0 : Int32)
theorem w_AbstractStringBuilder_isLatin1_b17 {sc : xSc} {d : Nat} {Q : xR → xH → Prop} {u : xH} {rZ : Int32}  (hQ : Q (.inl (some (vI rZ))) u)  (h : f_AbstractStringBuilder_isLatin1_b17 sc u   = some rZ) : xW sc m_AbstractStringBuilder_isLatin1 (d + 0) Q (u) 17 [none] [] := by
  unfold f_AbstractStringBuilder_isLatin1_b17 at h
  refine x_iconst (v := (0 : Int32)) (pc := 17) d_AbstractStringBuilder_isLatin1_17 (by decide) ?_
  exact w_AbstractStringBuilder_isLatin1_b18 hQ (0 : Int32) h
def f_AbstractStringBuilder_isLatin1 (sc : xSc) (u : xH) (a0 : Option Nat) : Option Int32 := (if (1 : Int32) = 0 then f_AbstractStringBuilder_isLatin1_b17 sc u else (gI sc u 16 1 a0).bind fun v2 => (if v2 = 0 then f_AbstractStringBuilder_isLatin1_b18 sc u (1 : Int32) else f_AbstractStringBuilder_isLatin1_b17 sc u))
theorem w_AbstractStringBuilder_isLatin1 {sc : xSc} {d : Nat} {Q : xR → xH → Prop} {u : xH} {rZ : Int32} (hQ : Q (.inl (some (vI rZ))) u) (a0 : Option Nat) (h : f_AbstractStringBuilder_isLatin1 sc u a0 = some rZ) : xW sc m_AbstractStringBuilder_isLatin1 (d + 0) Q (u) 0 (xent [vR a0] m_AbstractStringBuilder_isLatin1.2.2.1) [] := by
  show xW sc m_AbstractStringBuilder_isLatin1 (d + 0) Q (u) 0 [some (vR a0)] []
  unfold f_AbstractStringBuilder_isLatin1 at h
  refine x_gets (v := vI (1 : Int32)) (pc := 0) d_AbstractStringBuilder_isLatin1_0 sl_AbstractStringBuilder_18 ?_
  refine x_if_eq (tgt := 17) (pc := 3) d_AbstractStringBuilder_isLatin1_3 (by decide) (fun c1 => ?_) (fun c1 => ?_)
  · rw [if_pos c1] at h
    exact x_wk (L' := [none]) ⟨Or.inl rfl, trivial⟩ (w_AbstractStringBuilder_isLatin1_b17 hQ h)
  · rw [if_neg c1] at h
    refine x_aload_n (pc := 6) d_AbstractStringBuilder_isLatin1_6 rfl ?_
    obtain ⟨v2, e3, h⟩ := Option.bind_eq_some_iff.mp h
    refine c_getI (pc := 7) d_AbstractStringBuilder_isLatin1_7 l_AbstractStringBuilder_22 e3 ?_
    refine x_if_ne (tgt := 17) (pc := 10) d_AbstractStringBuilder_isLatin1_10 (by decide) (fun c4 => ?_) (fun c4 => ?_)
    · rw [if_neg c4] at h
      exact x_wk (L' := [none]) ⟨Or.inl rfl, trivial⟩ (w_AbstractStringBuilder_isLatin1_b17 hQ h)
    · rw [if_pos c4] at h
      refine x_iconst (v := (1 : Int32)) (pc := 13) d_AbstractStringBuilder_isLatin1_13 (by decide) ?_
      refine x_goto (tgt := 18) (pc := 14) d_AbstractStringBuilder_isLatin1_14 (by decide) ?_
      exact x_wk (L' := [none]) ⟨Or.inl rfl, trivial⟩ (w_AbstractStringBuilder_isLatin1_b18 hQ (1 : Int32) h)
def f_StringLatin1_canEncode_b12   (t0 : Int32) : Option Int32 := (if xbo t0 = true then some t0 else none)
theorem w_StringLatin1_canEncode_b12 {sc : xSc} {d : Nat} {Q : xR → xH → Prop} {hh : xH} {rZ : Int32}  (hQ : Q (.inl (some (vI rZ))) hh) (t0 : Int32) (h : f_StringLatin1_canEncode_b12   t0 = some rZ) : xW sc m_StringLatin1_canEncode (d + 0) Q (hh) 12 [none] [vI t0] := by
  unfold f_StringLatin1_canEncode_b12 at h
  obtain ⟨c1, h⟩ := ite_some h
  cases h
  exact x_iret (ty := .boolean) (pc := 12) d_StringLatin1_canEncode_12 rfl (xbo_n c1) hQ
def f_StringLatin1_canEncode  (a1 : Int32) : Option Int32 := (if (255 : Int32) < a1 then f_StringLatin1_canEncode_b12 (0 : Int32) else f_StringLatin1_canEncode_b12 (1 : Int32))
theorem w_StringLatin1_canEncode {sc : xSc} {d : Nat} {Q : xR → xH → Prop} {hh : xH} {rZ : Int32} (hQ : Q (.inl (some (vI rZ))) hh) (a1 : Int32) (h : f_StringLatin1_canEncode  a1 = some rZ) : xW sc m_StringLatin1_canEncode (d + 0) Q (hh) 0 (xent [vI a1] m_StringLatin1_canEncode.2.2.1) [] := by
  show xW sc m_StringLatin1_canEncode (d + 0) Q (hh) 0 [some (vI a1)] []
  unfold f_StringLatin1_canEncode at h
  refine x_iload_n (pc := 0) d_StringLatin1_canEncode_0 rfl ?_
  refine x_sipush (v := (255 : Int32)) (pc := 1) d_StringLatin1_canEncode_1 (by decide) ?_
  refine x_icmp_gt (tgt := 11) (pc := 4) d_StringLatin1_canEncode_4 (by decide) (fun c1 => ?_) (fun c1 => ?_)
  · rw [if_pos c1] at h
    refine x_iconst (v := (0 : Int32)) (pc := 11) d_StringLatin1_canEncode_11 (by decide) ?_
    exact x_wk (L' := [none]) ⟨Or.inl rfl, trivial⟩ (w_StringLatin1_canEncode_b12 hQ (0 : Int32) h)
  · rw [if_neg c1] at h
    refine x_iconst (v := (1 : Int32)) (pc := 7) d_StringLatin1_canEncode_7 (by decide) ?_
    refine x_goto (tgt := 12) (pc := 8) d_StringLatin1_canEncode_8 (by decide) ?_
    exact x_wk (L' := [none]) ⟨Or.inl rfl, trivial⟩ (w_StringLatin1_canEncode_b12 hQ (1 : Int32) h)
def f_AbstractStringBuilder_append0_b75 (sc : xSc)  (l0 : Option Nat) (u : xH) : Option (Option Nat × xH) := some (l0, u)
theorem w_AbstractStringBuilder_append0_b75 {sc : xSc} {d : Nat} {Q : xR → xH → Prop} {hZ : xH} {rZ : Option Nat}  (hQ : Q (.inl (some (vR rZ))) hZ) (l0 : Option Nat) (u : xH) (h : f_AbstractStringBuilder_append0_b75 sc  l0 u = some (rZ, hZ)) : xW sc m_AbstractStringBuilder_append0 (d + 4) Q (u) 75 [some (vR l0), none] [] := by
  unfold f_AbstractStringBuilder_append0_b75 at h
  refine x_aload_n (pc := 75) d_AbstractStringBuilder_append0_75 rfl ?_
  cases h
  exact x_aret (pc := 76) d_AbstractStringBuilder_append0_76 rfl (Or.inl ⟨_, rfl⟩) hQ
def f_AbstractStringBuilder_append0_b56 (sc : xSc)  (l0 : Option Nat) (l1 : Int32) (u : xH) : Option (Option Nat × xH) := (gR sc u 16 0 l0).bind fun v1 => (gI sc u 16 3 l0).bind fun v3 => (pV u 16 3 l0 (vI (v3 + (1 : Int32)))).bind fun u5 => none
theorem w_AbstractStringBuilder_append0_b56 {sc : xSc} {d : Nat} {Q : xR → xH → Prop} {hZ : xH} {rZ : Option Nat}  (hQ : Q (.inl (some (vR rZ))) hZ) (l0 : Option Nat) (l1 : Int32) (u : xH) (h : f_AbstractStringBuilder_append0_b56 sc  l0 l1 u = some (rZ, hZ)) : xW sc m_AbstractStringBuilder_append0 (d + 4) Q (u) 56 [some (vR l0), some (vI l1)] [] := by
  unfold f_AbstractStringBuilder_append0_b56 at h
  refine x_aload_n (pc := 56) d_AbstractStringBuilder_append0_56 rfl ?_
  obtain ⟨v1, e2, h⟩ := Option.bind_eq_some_iff.mp h
  refine c_getR (pc := 57) d_AbstractStringBuilder_append0_57 l_AbstractStringBuilder_15 e2 ?_
  refine x_aload_n (pc := 60) d_AbstractStringBuilder_append0_60 rfl ?_
  refine x_dup (pc := 61) d_AbstractStringBuilder_append0_61 rfl ?_
  obtain ⟨v3, e4, h⟩ := Option.bind_eq_some_iff.mp h
  refine c_getI (pc := 62) d_AbstractStringBuilder_append0_62 l_AbstractStringBuilder_79 e4 ?_
  refine x_dup_x1 (pc := 65) d_AbstractStringBuilder_append0_65 rfl rfl ?_
  refine x_iconst (v := (1 : Int32)) (pc := 66) d_AbstractStringBuilder_append0_66 (by decide) ?_
  refine x_iadd (pc := 67) d_AbstractStringBuilder_append0_67 ?_
  obtain ⟨u5, e6, h⟩ := Option.bind_eq_some_iff.mp h
  refine c_putf (pc := 68) d_AbstractStringBuilder_append0_68 l_AbstractStringBuilder_79 fp_16_3 (xfit_int) e6 ?_
  refine x_iload_n (pc := 71) d_AbstractStringBuilder_append0_71 rfl ?_
  cases h
def f_AbstractStringBuilder_append0_b45 (sc : xSc)  (l0 : Option Nat) (l1 : Int32) (u : xH) : Option (Option Nat × xH) := (if xis sc u 16 l0 = true then (f_AbstractStringBuilder_isLatin1 sc u l0).bind fun v2 => (if v2 = 0 then f_AbstractStringBuilder_append0_b56 sc l0 l1 u else none) else none)
theorem w_AbstractStringBuilder_append0_b45 {sc : xSc} {d : Nat} {Q : xR → xH → Prop} {hZ : xH} {rZ : Option Nat}  (hQ : Q (.inl (some (vR rZ))) hZ) (l0 : Option Nat) (l1 : Int32) (u : xH) (h : f_AbstractStringBuilder_append0_b45 sc  l0 l1 u = some (rZ, hZ)) : xW sc m_AbstractStringBuilder_append0 (d + 4) Q (u) 45 [some (vR l0), some (vI l1)] [] := by
  unfold f_AbstractStringBuilder_append0_b45 at h
  refine x_aload_n (pc := 45) d_AbstractStringBuilder_append0_45 rfl ?_
  obtain ⟨c1, h⟩ := ite_some h
  obtain ⟨v2, e3, h⟩ := Option.bind_eq_some_iff.mp h
  refine c_invv (c := 16) (d := d + 3) (av := []) (st := []) (Q' := fun r h' => r = .inl (some (vI v2)) ∧ h' = u) (pc := 46) d_AbstractStringBuilder_append0_46 cv_AbstractStringBuilder_83 y_AbstractStringBuilder_isLatin1 c1 rfl (Nat.le_of_ble_eq_true rfl) (Nat.le_of_ble_eq_true rfl) (w_AbstractStringBuilder_isLatin1 (d := d + 3) (Q := fun r h' => r = .inl (some (vI v2)) ∧ h' = u) ⟨rfl, rfl⟩ l0 e3) (fun v h' z => ?_) (fun a h' z => nomatch z.1)
  obtain ⟨z1, z2⟩ := z
  subst h'
  cases z1
  show xW sc m_AbstractStringBuilder_append0 (d + 4) Q (u) 49 [some (vR l0), some (vI l1)] [vI v2]
  refine x_if_eq (tgt := 56) (pc := 49) d_AbstractStringBuilder_append0_49 (by decide) (fun c4 => ?_) (fun c4 => ?_)
  · rw [if_pos c4] at h
    exact w_AbstractStringBuilder_append0_b56 hQ l0 l1 u h
  · rw [if_neg c4] at h
    refine x_aload_n (pc := 52) d_AbstractStringBuilder_append0_52 rfl ?_
    cases h
def f_AbstractStringBuilder_append0 (sc : xSc) (u : xH) (a0 : Option Nat) (a1 : Int32) : Option (Option Nat × xH) := (gI sc u 16 3 a0).bind fun v1 => (if xis sc u 16 a0 = true then (f_AbstractStringBuilder_ensureCapacityInternal sc u a0 (v1 + (1 : Int32))).bind fun u4 => (if xis sc u4 16 a0 = true then (f_AbstractStringBuilder_isLatin1 sc u4 a0).bind fun v7 => (if v7 = 0 then f_AbstractStringBuilder_append0_b45 sc a0 a1 u4 else (f_StringLatin1_canEncode a1).bind fun v10 => (if v10 = 0 then f_AbstractStringBuilder_append0_b45 sc a0 a1 u4 else (gR sc u4 16 0 a0).bind fun v13 => (gI sc u4 16 3 a0).bind fun v15 => (pV u4 16 3 a0 (vI (v15 + (1 : Int32)))).bind fun u17 => (bI .byte u17 v13 v15 (a1.toInt8.toInt32.toInt8.toInt32)).bind fun u19 => f_AbstractStringBuilder_append0_b75 sc a0 u19)) else none) else none)
theorem w_AbstractStringBuilder_append0 {sc : xSc} {d : Nat} {Q : xR → xH → Prop} {hZ : xH} {rZ : Option Nat} (hQ : Q (.inl (some (vR rZ))) hZ) (u : xH) (a0 : Option Nat) (a1 : Int32) (h : f_AbstractStringBuilder_append0 sc u a0 a1 = some (rZ, hZ)) : xW sc m_AbstractStringBuilder_append0 (d + 4) Q (u) 0 (xent [vR a0, vI a1] m_AbstractStringBuilder_append0.2.2.1) [] := by
  show xW sc m_AbstractStringBuilder_append0 (d + 4) Q (u) 0 [some (vR a0), some (vI a1)] []
  unfold f_AbstractStringBuilder_append0 at h
  refine x_aload_n (pc := 0) d_AbstractStringBuilder_append0_0 rfl ?_
  refine x_aload_n (pc := 1) d_AbstractStringBuilder_append0_1 rfl ?_
  obtain ⟨v1, e2, h⟩ := Option.bind_eq_some_iff.mp h
  refine c_getI (pc := 2) d_AbstractStringBuilder_append0_2 l_AbstractStringBuilder_79 e2 ?_
  refine x_iconst (v := (1 : Int32)) (pc := 5) d_AbstractStringBuilder_append0_5 (by decide) ?_
  refine x_iadd (pc := 6) d_AbstractStringBuilder_append0_6 ?_
  obtain ⟨c3, h⟩ := ite_some h
  obtain ⟨u4, e5, h⟩ := Option.bind_eq_some_iff.mp h
  refine c_invp (c := 16) (d := d + 3) (av := [vI (v1 + (1 : Int32))]) (st := []) (Q' := fun r h' => r = .inl none ∧ h' = u4) (pc := 7) d_AbstractStringBuilder_append0_7 cp_AbstractStringBuilder_100 y_AbstractStringBuilder_ensureCapacityInternal c3 rfl (Nat.le_of_ble_eq_true rfl) (Nat.le_of_ble_eq_true rfl) (w_AbstractStringBuilder_ensureCapacityInternal (d := d + 0) (Q := fun r h' => r = .inl none ∧ h' = u4) ⟨rfl, rfl⟩ u a0 (v1 + (1 : Int32)) e5) (fun v h' z => ?_) (fun a h' z => nomatch z.1)
  obtain ⟨z1, z2⟩ := z
  subst h'
  cases z1
  show xW sc m_AbstractStringBuilder_append0 (d + 4) Q (u4) 10 [some (vR a0), some (vI a1)] []
  refine x_aload_n (pc := 10) d_AbstractStringBuilder_append0_10 rfl ?_
  obtain ⟨c6, h⟩ := ite_some h
  obtain ⟨v7, e8, h⟩ := Option.bind_eq_some_iff.mp h
  refine c_invv (c := 16) (d := d + 3) (av := []) (st := []) (Q' := fun r h' => r = .inl (some (vI v7)) ∧ h' = u4) (pc := 11) d_AbstractStringBuilder_append0_11 cv_AbstractStringBuilder_83 y_AbstractStringBuilder_isLatin1 c6 rfl (Nat.le_of_ble_eq_true rfl) (Nat.le_of_ble_eq_true rfl) (w_AbstractStringBuilder_isLatin1 (d := d + 3) (Q := fun r h' => r = .inl (some (vI v7)) ∧ h' = u4) ⟨rfl, rfl⟩ a0 e8) (fun v h' z => ?_) (fun a h' z => nomatch z.1)
  obtain ⟨z1, z2⟩ := z
  subst h'
  cases z1
  show xW sc m_AbstractStringBuilder_append0 (d + 4) Q (u4) 14 [some (vR a0), some (vI a1)] [vI v7]
  refine x_if_eq (tgt := 45) (pc := 14) d_AbstractStringBuilder_append0_14 (by decide) (fun c9 => ?_) (fun c9 => ?_)
  · rw [if_pos c9] at h
    exact w_AbstractStringBuilder_append0_b45 hQ a0 a1 u4 h
  · rw [if_neg c9] at h
    refine x_iload_n (pc := 17) d_AbstractStringBuilder_append0_17 rfl ?_
    obtain ⟨v10, e11, h⟩ := Option.bind_eq_some_iff.mp h
    refine x_invs (d := d + 3) (av := [vI a1]) (st := []) (Q' := fun r h' => r = .inl (some (vI v10)) ∧ h' = u4) (pc := 18) d_AbstractStringBuilder_append0_18 cs_AbstractStringBuilder_191 y_StringLatin1_canEncode rfl (Nat.le_of_ble_eq_true rfl) (Nat.le_of_ble_eq_true rfl) (w_StringLatin1_canEncode (d := d + 3) (Q := fun r h' => r = .inl (some (vI v10)) ∧ h' = u4) (hh := u4) ⟨rfl, rfl⟩ a1 e11) (fun v h' z => ?_) (fun a h' z => nomatch z.1)
    obtain ⟨z1, z2⟩ := z
    subst h'
    cases z1
    show xW sc m_AbstractStringBuilder_append0 (d + 4) Q (u4) 21 [some (vR a0), some (vI a1)] [vI v10]
    refine x_if_eq (tgt := 45) (pc := 21) d_AbstractStringBuilder_append0_21 (by decide) (fun c12 => ?_) (fun c12 => ?_)
    · rw [if_pos c12] at h
      exact w_AbstractStringBuilder_append0_b45 hQ a0 a1 u4 h
    · rw [if_neg c12] at h
      refine x_aload_n (pc := 24) d_AbstractStringBuilder_append0_24 rfl ?_
      obtain ⟨v13, e14, h⟩ := Option.bind_eq_some_iff.mp h
      refine c_getR (pc := 25) d_AbstractStringBuilder_append0_25 l_AbstractStringBuilder_15 e14 ?_
      refine x_aload_n (pc := 28) d_AbstractStringBuilder_append0_28 rfl ?_
      refine x_dup (pc := 29) d_AbstractStringBuilder_append0_29 rfl ?_
      obtain ⟨v15, e16, h⟩ := Option.bind_eq_some_iff.mp h
      refine c_getI (pc := 30) d_AbstractStringBuilder_append0_30 l_AbstractStringBuilder_79 e16 ?_
      refine x_dup_x1 (pc := 33) d_AbstractStringBuilder_append0_33 rfl rfl ?_
      refine x_iconst (v := (1 : Int32)) (pc := 34) d_AbstractStringBuilder_append0_34 (by decide) ?_
      refine x_iadd (pc := 35) d_AbstractStringBuilder_append0_35 ?_
      obtain ⟨u17, e18, h⟩ := Option.bind_eq_some_iff.mp h
      refine c_putf (pc := 36) d_AbstractStringBuilder_append0_36 l_AbstractStringBuilder_79 fp_16_3 (xfit_int) e18 ?_
      refine x_iload_n (pc := 39) d_AbstractStringBuilder_append0_39 rfl ?_
      refine x_i2b (pc := 40) d_AbstractStringBuilder_append0_40 ?_
      obtain ⟨u19, e20, h⟩ := Option.bind_eq_some_iff.mp h
      refine c_bast (pc := 41) d_AbstractStringBuilder_append0_41 e20 ?_
      refine x_goto (tgt := 75) (pc := 42) d_AbstractStringBuilder_append0_42 (by decide) ?_
      exact x_wk (L' := [some (vR a0), none]) ⟨Or.inr rfl, Or.inl rfl, trivial⟩ (w_AbstractStringBuilder_append0_b75 hQ a0 u19 h)
def f_Preconditions_checkIndex_b9   (l0 : Int32) (l1 : Int32) (l2 : Option Nat) : Option Int32 := none
theorem w_Preconditions_checkIndex_b9 {sc : xSc} {d : Nat} {Q : xR → xH → Prop} {hh : xH} {rZ : Int32}  (hQ : Q (.inl (some (vI rZ))) hh) (l0 : Int32) (l1 : Int32) (l2 : Option Nat) (h : f_Preconditions_checkIndex_b9   l0 l1 l2 = some rZ) : xW sc m_Preconditions_checkIndex (d + 0) Q (hh) 9 [some (vI l0), some (vI l1), some (vR l2)] [] := by
  unfold f_Preconditions_checkIndex_b9 at h
  refine x_aload_n (pc := 9) d_Preconditions_checkIndex_9 rfl ?_
  refine x_iload_n (pc := 10) d_Preconditions_checkIndex_10 rfl ?_
  refine x_iload_n (pc := 11) d_Preconditions_checkIndex_11 rfl ?_
  cases h
def f_Preconditions_checkIndex  (a1 : Int32) (a2 : Int32) (a3 : Option Nat) : Option Int32 := (if a1 < 0 then f_Preconditions_checkIndex_b9 a1 a2 a3 else (if a1 < a2 then some a1 else f_Preconditions_checkIndex_b9 a1 a2 a3))
theorem w_Preconditions_checkIndex {sc : xSc} {d : Nat} {Q : xR → xH → Prop} {hh : xH} {rZ : Int32} (hQ : Q (.inl (some (vI rZ))) hh) (a1 : Int32) (a2 : Int32) (a3 : Option Nat) (h : f_Preconditions_checkIndex  a1 a2 a3 = some rZ) : xW sc m_Preconditions_checkIndex (d + 0) Q (hh) 0 (xent [vI a1, vI a2, vR a3] m_Preconditions_checkIndex.2.2.1) [] := by
  show xW sc m_Preconditions_checkIndex (d + 0) Q (hh) 0 [some (vI a1), some (vI a2), some (vR a3)] []
  unfold f_Preconditions_checkIndex at h
  refine x_iload_n (pc := 0) d_Preconditions_checkIndex_0 rfl ?_
  refine x_if_lt (tgt := 9) (pc := 1) d_Preconditions_checkIndex_1 (by decide) (fun c1 => ?_) (fun c1 => ?_)
  · rw [if_pos c1] at h
    exact w_Preconditions_checkIndex_b9 hQ a1 a2 a3 h
  · rw [if_neg c1] at h
    refine x_iload_n (pc := 4) d_Preconditions_checkIndex_4 rfl ?_
    refine x_iload_n (pc := 5) d_Preconditions_checkIndex_5 rfl ?_
    refine x_icmp_lt (tgt := 16) (pc := 6) d_Preconditions_checkIndex_6 (by decide) (fun c2 => ?_) (fun c2 => ?_)
    · rw [if_pos c2] at h
      refine x_iload_n (pc := 16) d_Preconditions_checkIndex_16 rfl ?_
      cases h
      exact x_iret (ty := .int) (pc := 17) d_Preconditions_checkIndex_17 rfl (rfl) hQ
    · rw [if_neg c2] at h
      exact w_Preconditions_checkIndex_b9 hQ a1 a2 a3 h
def f_String_checkIndex (a1 : Int32) (a2 : Int32) : Option Unit := (f_Preconditions_checkIndex a1 a2 none).map fun _ => ()
theorem w_String_checkIndex {sc : xSc} {d : Nat} {Q : xR → xH → Prop} {hh : xH} {rZ : Unit} (hQ : Q (.inl none) hh) (a1 : Int32) (a2 : Int32) (h : f_String_checkIndex a1 a2 = some rZ) : xW sc m_String_checkIndex (d + 1) Q hh 0 (xent [vI a1, vI a2] m_String_checkIndex.2.2.1) [] := by
  show xW sc m_String_checkIndex (d + 1) Q hh 0 [some (vI a1), some (vI a2)] []
  obtain ⟨v1, e1, -⟩ := Option.map_eq_some_iff.mp h
  refine x_iload_n (pc := 0) d_String_checkIndex_0 rfl ?_
  refine x_iload_n (pc := 1) d_String_checkIndex_1 rfl ?_
  refine x_getsF (pc := 2) d_String_checkIndex_2 sf_String_1053 ?_
  intro r
  refine x_invs (d := d) (av := [vI a1, vI a2, vR r]) (st := []) (Q' := fun r h' => r = .inl (some (vI v1)) ∧ h' = hh) (pc := 5) d_String_checkIndex_5 cs_String_1059 y_Preconditions_checkIndex rfl (Nat.le_of_ble_eq_true rfl) (Nat.le_of_ble_eq_true rfl) (w_Preconditions_checkIndex (d := d) (Q := fun r h' => r = .inl (some (vI v1)) ∧ h' = hh) (hh := hh) ⟨rfl, rfl⟩ a1 a2 r e1) (fun v h' z => ?_) (fun a h' z => nomatch z.1)
  obtain ⟨z1, z2⟩ := z
  subst h'
  cases z1
  refine x_pop (pc := 8) d_String_checkIndex_8 rfl ?_
  exact x_vret (pc := 9) d_String_checkIndex_9 rfl hQ
def f_AbstractStringBuilder_charAt (sc : xSc) (u : xH) (a0 : Option Nat) (a1 : Int32) : Option Int32 := (gI sc u 16 1 a0).bind fun v1 => (gR sc u 16 0 a0).bind fun v3 => (gI sc u 16 3 a0).bind fun v5 => (aN sc u v3).bind fun v7 => (f_Math_min v5 (v7 >>> (v1 &&& 31))).bind fun v9 => (f_String_checkIndex a1 v9).bind fun v11 => (if v1 = 0 then (aI .byte sc u v3 a1).bind fun v14 => (if xch (((v14 &&& (255 : Int32)).toUInt32 % 65536).toInt32) = true then some (((v14 &&& (255 : Int32)).toUInt32 % 65536).toInt32) else none) else none)
theorem w_AbstractStringBuilder_charAt {sc : xSc} {d : Nat} {Q : xR → xH → Prop} {u : xH} {rZ : Int32} (hQ : Q (.inl (some (vI rZ))) u) (a0 : Option Nat) (a1 : Int32) (h : f_AbstractStringBuilder_charAt sc u a0 a1 = some rZ) : xW sc m_AbstractStringBuilder_charAt (d + 2) Q (u) 0 (xent [vR a0, vI a1] m_AbstractStringBuilder_charAt.2.2.1) [] := by
  show xW sc m_AbstractStringBuilder_charAt (d + 2) Q (u) 0 [some (vR a0), some (vI a1), none, none, none] []
  unfold f_AbstractStringBuilder_charAt at h
  refine x_aload_n (pc := 0) d_AbstractStringBuilder_charAt_0 rfl ?_
  obtain ⟨v1, e2, h⟩ := Option.bind_eq_some_iff.mp h
  refine c_getI (pc := 1) d_AbstractStringBuilder_charAt_1 l_AbstractStringBuilder_22 e2 ?_
  refine x_istore_n (pc := 4) d_AbstractStringBuilder_charAt_4 (by decide) ?_
  show xW sc m_AbstractStringBuilder_charAt (d + 2) Q (u) 5 [some (vR a0), some (vI a1), some (vI v1), none, none] []
  refine x_aload_n (pc := 5) d_AbstractStringBuilder_charAt_5 rfl ?_
  obtain ⟨v3, e4, h⟩ := Option.bind_eq_some_iff.mp h
  refine c_getR (pc := 6) d_AbstractStringBuilder_charAt_6 l_AbstractStringBuilder_15 e4 ?_
  refine x_astore_n (pc := 9) d_AbstractStringBuilder_charAt_9 (by decide) ?_
  show xW sc m_AbstractStringBuilder_charAt (d + 2) Q (u) 10 [some (vR a0), some (vI a1), some (vI v1), some (vR v3), none] []
  refine x_aload_n (pc := 10) d_AbstractStringBuilder_charAt_10 rfl ?_
  obtain ⟨v5, e6, h⟩ := Option.bind_eq_some_iff.mp h
  refine c_getI (pc := 11) d_AbstractStringBuilder_charAt_11 l_AbstractStringBuilder_79 e6 ?_
  refine x_aload_n (pc := 14) d_AbstractStringBuilder_charAt_14 rfl ?_
  obtain ⟨v7, e8, h⟩ := Option.bind_eq_some_iff.mp h
  refine c_alen (pc := 15) d_AbstractStringBuilder_charAt_15 e8 ?_
  refine x_iload_n (pc := 16) d_AbstractStringBuilder_charAt_16 rfl ?_
  refine x_ishr (pc := 17) d_AbstractStringBuilder_charAt_17 ?_
  obtain ⟨v9, e10, h⟩ := Option.bind_eq_some_iff.mp h
  refine x_invs (d := d + 1) (av := [vI v5, vI (v7 >>> (v1 &&& 31))]) (st := []) (Q' := fun r h' => r = .inl (some (vI v9)) ∧ h' = u) (pc := 18) d_AbstractStringBuilder_charAt_18 cs_AbstractStringBuilder_138 y_Math_min rfl (Nat.le_of_ble_eq_true rfl) (Nat.le_of_ble_eq_true rfl) (w_Math_min (d := d + 1) (Q := fun r h' => r = .inl (some (vI v9)) ∧ h' = u) (hh := u) ⟨rfl, rfl⟩ v5 (v7 >>> (v1 &&& 31)) e10) (fun v h' z => ?_) (fun a h' z => nomatch z.1)
  obtain ⟨z1, z2⟩ := z
  subst h'
  cases z1
  show xW sc m_AbstractStringBuilder_charAt (d + 2) Q (u) 21 [some (vR a0), some (vI a1), some (vI v1), some (vR v3), none] [vI v9]
  refine x_istore (pc := 21) d_AbstractStringBuilder_charAt_21 (by decide) ?_
  show xW sc m_AbstractStringBuilder_charAt (d + 2) Q (u) 23 [some (vR a0), some (vI a1), some (vI v1), some (vR v3), some (vI v9)] []
  refine x_iload_n (pc := 23) d_AbstractStringBuilder_charAt_23 rfl ?_
  refine x_iload (pc := 24) d_AbstractStringBuilder_charAt_24 rfl ?_
  obtain ⟨v11, e12, h⟩ := Option.bind_eq_some_iff.mp h
  refine x_invs (d := d + 1) (av := [vI a1, vI v9]) (st := []) (Q' := fun r h' => r = .inl none ∧ h' = u) (pc := 26) d_AbstractStringBuilder_charAt_26 cs_AbstractStringBuilder_144 y_String_checkIndex rfl (Nat.le_of_ble_eq_true rfl) (Nat.le_of_ble_eq_true rfl) (w_String_checkIndex (d := d + 0) (Q := fun r h' => r = .inl none ∧ h' = u) (hh := u) ⟨rfl, rfl⟩ a1 v9 e12) (fun v h' z => ?_) (fun a h' z => nomatch z.1)
  obtain ⟨z1, z2⟩ := z
  subst h'
  cases z1
  show xW sc m_AbstractStringBuilder_charAt (d + 2) Q (u) 29 [some (vR a0), some (vI a1), some (vI v1), some (vR v3), some (vI v9)] []
  refine x_iload_n (pc := 29) d_AbstractStringBuilder_charAt_29 rfl ?_
  refine x_if_ne (tgt := 42) (pc := 30) d_AbstractStringBuilder_charAt_30 (by decide) (fun c13 => ?_) (fun c13 => ?_)
  · rw [if_neg c13] at h
    refine x_aload_n (pc := 42) d_AbstractStringBuilder_charAt_42 rfl ?_
    refine x_iload_n (pc := 43) d_AbstractStringBuilder_charAt_43 rfl ?_
    cases h
  · rw [if_pos c13] at h
    refine x_aload_n (pc := 33) d_AbstractStringBuilder_charAt_33 rfl ?_
    refine x_iload_n (pc := 34) d_AbstractStringBuilder_charAt_34 rfl ?_
    obtain ⟨v14, e15, h⟩ := Option.bind_eq_some_iff.mp h
    refine c_bald (pc := 35) d_AbstractStringBuilder_charAt_35 e15 ?_
    refine x_sipush (v := (255 : Int32)) (pc := 36) d_AbstractStringBuilder_charAt_36 (by decide) ?_
    refine x_iand (pc := 39) d_AbstractStringBuilder_charAt_39 ?_
    refine x_i2c (pc := 40) d_AbstractStringBuilder_charAt_40 ?_
    obtain ⟨c16, h⟩ := ite_some h
    cases h
    exact x_iret (ty := .char) (pc := 41) d_AbstractStringBuilder_charAt_41 rfl (xch_n c16) hQ
def f_AbstractStringBuilder_getValue (sc : xSc) (u : xH) (a0 : Option Nat) : Option (Option Nat) := (gR sc u 16 0 a0).bind fun v1 => some v1
theorem w_AbstractStringBuilder_getValue {sc : xSc} {d : Nat} {Q : xR → xH → Prop} {u : xH} {rZ : Option Nat} (hQ : Q (.inl (some (vR rZ))) u) (a0 : Option Nat) (h : f_AbstractStringBuilder_getValue sc u a0 = some rZ) : xW sc m_AbstractStringBuilder_getValue (d + 0) Q (u) 0 (xent [vR a0] m_AbstractStringBuilder_getValue.2.2.1) [] := by
  show xW sc m_AbstractStringBuilder_getValue (d + 0) Q (u) 0 [some (vR a0)] []
  unfold f_AbstractStringBuilder_getValue at h
  refine x_aload_n (pc := 0) d_AbstractStringBuilder_getValue_0 rfl ?_
  obtain ⟨v1, e2, h⟩ := Option.bind_eq_some_iff.mp h
  refine c_getR (pc := 1) d_AbstractStringBuilder_getValue_1 l_AbstractStringBuilder_15 e2 ?_
  cases h
  exact x_aret (pc := 4) d_AbstractStringBuilder_getValue_4 rfl (Or.inr ⟨_, rfl⟩) hQ
def f_AbstractStringBuilder_init_b38 (sc : xSc)  (u : xH) : Option xH := some u
theorem w_AbstractStringBuilder_init_b38 {sc : xSc} {d : Nat} {Q : xR → xH → Prop} {hZ : xH}  (hQ : Q (.inl none) hZ) (u : xH) (h : f_AbstractStringBuilder_init_b38 sc  u = some hZ) : xW sc m_AbstractStringBuilder_init (d + 1) Q (u) 38 [none, none] [] := by
  unfold f_AbstractStringBuilder_init_b38 at h
  cases h
  exact x_vret (pc := 38) d_AbstractStringBuilder_init_38 rfl hQ
def f_AbstractStringBuilder_init (sc : xSc) (u : xH) (a0 : Option Nat) (a1 : Int32) : Option xH := (if a0.isSome = true then (if (1 : Int32) = 0 then none else (nA eByte u a1).bind fun u3 => (pV u3 16 0 a0 (vR (some u.2.1))).bind fun u5 => (if xby (0 : Int32) = true then (pV u5 16 1 a0 (vI (0 : Int32))).bind fun u8 => f_AbstractStringBuilder_init_b38 sc u8 else none)) else none)
theorem w_AbstractStringBuilder_init {sc : xSc} {d : Nat} {Q : xR → xH → Prop} {hZ : xH} (hQ : Q (.inl none) hZ) (u : xH) (a0 : Option Nat) (a1 : Int32) (h : f_AbstractStringBuilder_init sc u a0 a1 = some hZ) : xW sc m_AbstractStringBuilder_init (d + 1) Q (u) 0 (xent [vR a0, vI a1] m_AbstractStringBuilder_init.2.2.1) [] := by
  show xW sc m_AbstractStringBuilder_init (d + 1) Q (u) 0 [some (vR a0), some (vI a1)] []
  unfold f_AbstractStringBuilder_init at h
  refine x_aload_n (pc := 0) d_AbstractStringBuilder_init_0 rfl ?_
  obtain ⟨c1, h⟩ := ite_some h
  refine c_obj (d := d + 0) (pc := 1) d_AbstractStringBuilder_init_1 (tw_1 (List.mem_of_getElem? (i := 111) rfl)) oi_1 oi_2 (Nat.le_of_ble_eq_true rfl) c1 ?_
  refine x_gets (v := vI (1 : Int32)) (pc := 4) d_AbstractStringBuilder_init_4 sl_AbstractStringBuilder_18 ?_
  refine x_if_eq (tgt := 25) (pc := 7) d_AbstractStringBuilder_init_7 (by decide) (fun c2 => ?_) (fun c2 => ?_)
  · rw [if_pos c2] at h
    refine x_aload_n (pc := 25) d_AbstractStringBuilder_init_25 rfl ?_
    refine x_iload_n (pc := 26) d_AbstractStringBuilder_init_26 rfl ?_
    cases h
  · rw [if_neg c2] at h
    refine x_aload_n (pc := 10) d_AbstractStringBuilder_init_10 rfl ?_
    refine x_iload_n (pc := 11) d_AbstractStringBuilder_init_11 rfl ?_
    obtain ⟨u3, e4, h⟩ := Option.bind_eq_some_iff.mp h
    refine c_newa_byte (pc := 12) d_AbstractStringBuilder_init_12 ac_byte e4 ?_
    obtain ⟨u5, e6, h⟩ := Option.bind_eq_some_iff.mp h
    refine c_putf (pc := 14) d_AbstractStringBuilder_init_14 l_AbstractStringBuilder_15 fp_16_0 (xfit_arr) e6 ?_
    refine x_aload_n (pc := 17) d_AbstractStringBuilder_init_17 rfl ?_
    refine x_iconst (v := (0 : Int32)) (pc := 18) d_AbstractStringBuilder_init_18 (by decide) ?_
    obtain ⟨c7, h⟩ := ite_some h
    obtain ⟨u8, e9, h⟩ := Option.bind_eq_some_iff.mp h
    refine c_putf (pc := 19) d_AbstractStringBuilder_init_19 l_AbstractStringBuilder_22 fp_16_1 (xfit_byte (eq_of_beq c7)) e9 ?_
    refine x_goto (tgt := 38) (pc := 22) d_AbstractStringBuilder_init_22 (by decide) ?_
    exact x_wk (L' := [none, none]) ⟨Or.inl rfl, Or.inl rfl, trivial⟩ (w_AbstractStringBuilder_init_b38 hQ u8 h)
def f_AbstractStringBuilder_length (sc : xSc) (u : xH) (a0 : Option Nat) : Option Int32 := (gI sc u 16 3 a0).bind fun v1 => some v1
theorem w_AbstractStringBuilder_length {sc : xSc} {d : Nat} {Q : xR → xH → Prop} {u : xH} {rZ : Int32} (hQ : Q (.inl (some (vI rZ))) u) (a0 : Option Nat) (h : f_AbstractStringBuilder_length sc u a0 = some rZ) : xW sc m_AbstractStringBuilder_length (d + 0) Q (u) 0 (xent [vR a0] m_AbstractStringBuilder_length.2.2.1) [] := by
  show xW sc m_AbstractStringBuilder_length (d + 0) Q (u) 0 [some (vR a0)] []
  unfold f_AbstractStringBuilder_length at h
  refine x_aload_n (pc := 0) d_AbstractStringBuilder_length_0 rfl ?_
  obtain ⟨v1, e2, h⟩ := Option.bind_eq_some_iff.mp h
  refine c_getI (pc := 1) d_AbstractStringBuilder_length_1 l_AbstractStringBuilder_79 e2 ?_
  cases h
  exact x_iret (ty := .int) (pc := 4) d_AbstractStringBuilder_length_4 rfl (rfl) hQ
def f_AbstractStringBuilder_setLength_b76 (sc : xSc)  (l0 : Option Nat) (l1 : Int32) (u : xH) : Option xH := (pV u 16 3 l0 (vI l1)).bind fun u1 => some u1
theorem w_AbstractStringBuilder_setLength_b76 {sc : xSc} {d : Nat} {Q : xR → xH → Prop} {hZ : xH}  (hQ : Q (.inl none) hZ) (l0 : Option Nat) (l1 : Int32) (u : xH) (h : f_AbstractStringBuilder_setLength_b76 sc  l0 l1 u = some hZ) : xW sc m_AbstractStringBuilder_setLength (d + 4) Q (u) 76 [some (vR l0), some (vI l1)] [] := by
  unfold f_AbstractStringBuilder_setLength_b76 at h
  refine x_aload_n (pc := 76) d_AbstractStringBuilder_setLength_76 rfl ?_
  refine x_iload_n (pc := 77) d_AbstractStringBuilder_setLength_77 rfl ?_
  obtain ⟨u1, e2, h⟩ := Option.bind_eq_some_iff.mp h
  refine c_putf (pc := 78) d_AbstractStringBuilder_setLength_78 l_AbstractStringBuilder_79 fp_16_3 (xfit_int) e2 ?_
  cases h
  exact x_vret (pc := 81) d_AbstractStringBuilder_setLength_81 rfl hQ
def f_AbstractStringBuilder_setLength (sc : xSc) (u : xH) (a0 : Option Nat) (a1 : Int32) : Option xH := (if 0 ≤ a1 then (if xis sc u 16 a0 = true then (f_AbstractStringBuilder_ensureCapacityInternal sc u a0 a1).bind fun u3 => (gI sc u3 16 3 a0).bind fun v5 => (if a1 ≤ v5 then (gI sc u3 16 3 a0).bind fun v8 => (if v8 ≤ a1 then f_AbstractStringBuilder_setLength_b76 sc a0 a1 u3 else (pV u3 16 2 a0 (vI (1 : Int32))).bind fun u11 => f_AbstractStringBuilder_setLength_b76 sc a0 a1 u11) else (if xis sc u3 16 a0 = true then (f_AbstractStringBuilder_isLatin1 sc u3 a0).bind fun v14 => (if v14 = 0 then (gR sc u3 16 0 a0).bind fun v17 => (gI sc u3 16 3 a0).bind fun v19 => none else (gR sc u3 16 0 a0).bind fun v21 => (gI sc u3 16 3 a0).bind fun v23 => none) else none)) else none) else none)
theorem w_AbstractStringBuilder_setLength {sc : xSc} {d : Nat} {Q : xR → xH → Prop} {hZ : xH} (hQ : Q (.inl none) hZ) (u : xH) (a0 : Option Nat) (a1 : Int32) (h : f_AbstractStringBuilder_setLength sc u a0 a1 = some hZ) : xW sc m_AbstractStringBuilder_setLength (d + 4) Q (u) 0 (xent [vR a0, vI a1] m_AbstractStringBuilder_setLength.2.2.1) [] := by
  show xW sc m_AbstractStringBuilder_setLength (d + 4) Q (u) 0 [some (vR a0), some (vI a1)] []
  unfold f_AbstractStringBuilder_setLength at h
  refine x_iload_n (pc := 0) d_AbstractStringBuilder_setLength_0 rfl ?_
  refine x_if_ge (tgt := 13) (pc := 1) d_AbstractStringBuilder_setLength_1 (by decide) (fun c1 => ?_) (fun c1 => ?_)
  · rw [if_pos c1] at h
    refine x_aload_n (pc := 13) d_AbstractStringBuilder_setLength_13 rfl ?_
    refine x_iload_n (pc := 14) d_AbstractStringBuilder_setLength_14 rfl ?_
    obtain ⟨c2, h⟩ := ite_some h
    obtain ⟨u3, e4, h⟩ := Option.bind_eq_some_iff.mp h
    refine c_invp (c := 16) (d := d + 3) (av := [vI a1]) (st := []) (Q' := fun r h' => r = .inl none ∧ h' = u3) (pc := 15) d_AbstractStringBuilder_setLength_15 cp_AbstractStringBuilder_100 y_AbstractStringBuilder_ensureCapacityInternal c2 rfl (Nat.le_of_ble_eq_true rfl) (Nat.le_of_ble_eq_true rfl) (w_AbstractStringBuilder_ensureCapacityInternal (d := d + 0) (Q := fun r h' => r = .inl none ∧ h' = u3) ⟨rfl, rfl⟩ u a0 a1 e4) (fun v h' z => ?_) (fun a h' z => nomatch z.1)
    obtain ⟨z1, z2⟩ := z
    subst h'
    cases z1
    show xW sc m_AbstractStringBuilder_setLength (d + 4) Q (u3) 18 [some (vR a0), some (vI a1)] []
    refine x_aload_n (pc := 18) d_AbstractStringBuilder_setLength_18 rfl ?_
    obtain ⟨v5, e6, h⟩ := Option.bind_eq_some_iff.mp h
    refine c_getI (pc := 19) d_AbstractStringBuilder_setLength_19 l_AbstractStringBuilder_79 e6 ?_
    refine x_iload_n (pc := 22) d_AbstractStringBuilder_setLength_22 rfl ?_
    refine x_icmp_ge (tgt := 63) (pc := 23) d_AbstractStringBuilder_setLength_23 (by decide) (fun c7 => ?_) (fun c7 => ?_)
    · rw [if_pos c7] at h
      refine x_aload_n (pc := 63) d_AbstractStringBuilder_setLength_63 rfl ?_
      obtain ⟨v8, e9, h⟩ := Option.bind_eq_some_iff.mp h
      refine c_getI (pc := 64) d_AbstractStringBuilder_setLength_64 l_AbstractStringBuilder_79 e9 ?_
      refine x_iload_n (pc := 67) d_AbstractStringBuilder_setLength_67 rfl ?_
      refine x_icmp_le (tgt := 76) (pc := 68) d_AbstractStringBuilder_setLength_68 (by decide) (fun c10 => ?_) (fun c10 => ?_)
      · rw [if_pos c10] at h
        exact w_AbstractStringBuilder_setLength_b76 hQ a0 a1 u3 h
      · rw [if_neg c10] at h
        refine x_aload_n (pc := 71) d_AbstractStringBuilder_setLength_71 rfl ?_
        refine x_iconst (v := (1 : Int32)) (pc := 72) d_AbstractStringBuilder_setLength_72 (by decide) ?_
        obtain ⟨u11, e12, h⟩ := Option.bind_eq_some_iff.mp h
        refine c_putf (pc := 73) d_AbstractStringBuilder_setLength_73 l_AbstractStringBuilder_73 fp_16_2 (xfit_bool (by decide)) e12 ?_
        exact w_AbstractStringBuilder_setLength_b76 hQ a0 a1 u11 h
    · rw [if_neg c7] at h
      refine x_aload_n (pc := 26) d_AbstractStringBuilder_setLength_26 rfl ?_
      obtain ⟨c13, h⟩ := ite_some h
      obtain ⟨v14, e15, h⟩ := Option.bind_eq_some_iff.mp h
      refine c_invv (c := 16) (d := d + 3) (av := []) (st := []) (Q' := fun r h' => r = .inl (some (vI v14)) ∧ h' = u3) (pc := 27) d_AbstractStringBuilder_setLength_27 cv_AbstractStringBuilder_83 y_AbstractStringBuilder_isLatin1 c13 rfl (Nat.le_of_ble_eq_true rfl) (Nat.le_of_ble_eq_true rfl) (w_AbstractStringBuilder_isLatin1 (d := d + 3) (Q := fun r h' => r = .inl (some (vI v14)) ∧ h' = u3) ⟨rfl, rfl⟩ a0 e15) (fun v h' z => ?_) (fun a h' z => nomatch z.1)
      obtain ⟨z1, z2⟩ := z
      subst h'
      cases z1
      show xW sc m_AbstractStringBuilder_setLength (d + 4) Q (u3) 30 [some (vR a0), some (vI a1)] [vI v14]
      refine x_if_eq (tgt := 48) (pc := 30) d_AbstractStringBuilder_setLength_30 (by decide) (fun c16 => ?_) (fun c16 => ?_)
      · rw [if_pos c16] at h
        refine x_aload_n (pc := 48) d_AbstractStringBuilder_setLength_48 rfl ?_
        obtain ⟨v17, e18, h⟩ := Option.bind_eq_some_iff.mp h
        refine c_getR (pc := 49) d_AbstractStringBuilder_setLength_49 l_AbstractStringBuilder_15 e18 ?_
        refine x_aload_n (pc := 52) d_AbstractStringBuilder_setLength_52 rfl ?_
        obtain ⟨v19, e20, h⟩ := Option.bind_eq_some_iff.mp h
        refine c_getI (pc := 53) d_AbstractStringBuilder_setLength_53 l_AbstractStringBuilder_79 e20 ?_
        refine x_iload_n (pc := 56) d_AbstractStringBuilder_setLength_56 rfl ?_
        cases h
      · rw [if_neg c16] at h
        refine x_aload_n (pc := 33) d_AbstractStringBuilder_setLength_33 rfl ?_
        obtain ⟨v21, e22, h⟩ := Option.bind_eq_some_iff.mp h
        refine c_getR (pc := 34) d_AbstractStringBuilder_setLength_34 l_AbstractStringBuilder_15 e22 ?_
        refine x_aload_n (pc := 37) d_AbstractStringBuilder_setLength_37 rfl ?_
        obtain ⟨v23, e24, h⟩ := Option.bind_eq_some_iff.mp h
        refine c_getI (pc := 38) d_AbstractStringBuilder_setLength_38 l_AbstractStringBuilder_79 e24 ?_
        refine x_iload_n (pc := 41) d_AbstractStringBuilder_setLength_41 rfl ?_
        cases h
  · rw [if_neg c1] at h
    cases h
def f_Added_before (sc : xSc) (u : xH) (a0 : Option Nat) : Option (Option Nat) := (gR sc u 9 0 a0).bind fun v1 => some v1
theorem w_Added_before {sc : xSc} {d : Nat} {Q : xR → xH → Prop} {u : xH} {rZ : Option Nat} (hQ : Q (.inl (some (vR rZ))) u) (a0 : Option Nat) (h : f_Added_before sc u a0 = some rZ) : xW sc m_Added_before (d + 0) Q (u) 0 (xent [vR a0] m_Added_before.2.2.1) [] := by
  show xW sc m_Added_before (d + 0) Q (u) 0 [some (vR a0)] []
  unfold f_Added_before at h
  refine x_aload_n (pc := 0) d_Added_before_0 rfl ?_
  obtain ⟨v1, e2, h⟩ := Option.bind_eq_some_iff.mp h
  refine c_getR (pc := 1) d_Added_before_1 l_Added_7 e2 ?_
  cases h
  exact x_aret (pc := 4) d_Added_before_4 rfl (Or.inl ⟨_, rfl⟩) hQ
def f_Record_init  (a0 : Option Nat) : Option Unit := (if a0.isSome = true then some () else none)
theorem w_Record_init {sc : xSc} {d : Nat} {Q : xR → xH → Prop} {hh : xH} {rZ : Unit} (hQ : Q (.inl none) hh) (a0 : Option Nat) (h : f_Record_init  a0 = some rZ) : xW sc m_Record_init (d + 1) Q (hh) 0 (xent [vR a0] m_Record_init.2.2.1) [] := by
  show xW sc m_Record_init (d + 1) Q (hh) 0 [some (vR a0)] []
  unfold f_Record_init at h
  refine x_aload_n (pc := 0) d_Record_init_0 rfl ?_
  obtain ⟨c1, h⟩ := ite_some h
  refine c_obj (d := d + 0) (pc := 1) d_Record_init_1 (tw_3 (List.mem_of_getElem? (i := 16) rfl)) oi_1 oi_2 (Nat.le_of_ble_eq_true rfl) c1 ?_
  cases h
  exact x_vret (pc := 4) d_Record_init_4 rfl hQ
def f_Added_init (sc : xSc) (u : xH) (a0 : Option Nat) (a1 : Option Nat) (a2 : Option Nat) : Option xH := (if a0.isSome = true then (f_Record_init a0).bind fun v2 => (pV u 9 0 a0 (vR a1)).bind fun u4 => (pV u4 9 1 a0 (vR a2)).bind fun u6 => some u6 else none)
theorem w_Added_init {sc : xSc} {d : Nat} {Q : xR → xH → Prop} {hZ : xH} (hQ : Q (.inl none) hZ) (u : xH) (a0 : Option Nat) (a1 : Option Nat) (a2 : Option Nat) (h : f_Added_init sc u a0 a1 a2 = some hZ) : xW sc m_Added_init (d + 2) Q (u) 0 (xent [vR a0, vR a1, vR a2] m_Added_init.2.2.1) [] := by
  show xW sc m_Added_init (d + 2) Q (u) 0 [some (vR a0), some (vR a1), some (vR a2)] []
  unfold f_Added_init at h
  refine x_aload_n (pc := 0) d_Added_init_0 rfl ?_
  obtain ⟨c1, h⟩ := ite_some h
  obtain ⟨v2, e3, h⟩ := Option.bind_eq_some_iff.mp h
  refine c_invi (d := d + 1) (av := []) (st := []) (Q' := fun r h' => r = .inl none ∧ h' = u) (pc := 1) d_Added_init_1 ci_Added_1 y_Record_init (tw_3 (List.mem_of_getElem? (i := 15) rfl)) c1 rfl (Nat.le_of_ble_eq_true rfl) (Nat.le_of_ble_eq_true rfl) (w_Record_init (d := d + 0) (Q := fun r h' => r = .inl none ∧ h' = u) (hh := u) ⟨rfl, rfl⟩ a0 e3) (fun v h' z => ?_) (fun a h' z => nomatch z.1)
  obtain ⟨z1, z2⟩ := z
  subst h'
  cases z1
  show xW sc m_Added_init (d + 2) Q (u) 4 [some (vR a0), some (vR a1), some (vR a2)] []
  refine x_aload_n (pc := 4) d_Added_init_4 rfl ?_
  refine x_aload_n (pc := 5) d_Added_init_5 rfl ?_
  obtain ⟨u4, e5, h⟩ := Option.bind_eq_some_iff.mp h
  refine c_putF (pc := 6) d_Added_init_6 l_Added_7 fp_9_0 rfl fo_Added_7 (xfit_obj) e5 ?_
  refine x_aload_n (pc := 9) d_Added_init_9 rfl ?_
  refine x_aload_n (pc := 10) d_Added_init_10 rfl ?_
  obtain ⟨u6, e7, h⟩ := Option.bind_eq_some_iff.mp h
  refine c_putF (pc := 11) d_Added_init_11 l_Added_13 fp_9_1 rfl fo_Added_13 (xfit_obj) e7 ?_
  cases h
  exact x_vret (pc := 14) d_Added_init_14 rfl hQ
def f_Entry_next (sc : xSc) (u : xH) (a0 : Option Nat) : Option (Option Nat) := (gR sc u 5 2 a0).bind fun v1 => some v1
theorem w_Entry_next {sc : xSc} {d : Nat} {Q : xR → xH → Prop} {u : xH} {rZ : Option Nat} (hQ : Q (.inl (some (vR rZ))) u) (a0 : Option Nat) (h : f_Entry_next sc u a0 = some rZ) : xW sc m_Entry_next (d + 0) Q (u) 0 (xent [vR a0] m_Entry_next.2.2.1) [] := by
  show xW sc m_Entry_next (d + 0) Q (u) 0 [some (vR a0)] []
  unfold f_Entry_next at h
  refine x_aload_n (pc := 0) d_Entry_next_0 rfl ?_
  obtain ⟨v1, e2, h⟩ := Option.bind_eq_some_iff.mp h
  refine c_getR (pc := 1) d_Entry_next_1 l_Entry_17 e2 ?_
  cases h
  exact x_aret (pc := 4) d_Entry_next_4 rfl (Or.inl ⟨_, rfl⟩) hQ
def f_Dict_drop (sc : xSc) (u : xH) (a0 : Option Nat) : Option xH := (gR sc u 4 3 a0).bind fun v1 => (if xis sc u 5 v1 = true then (f_Entry_next sc u v1).bind fun v4 => (pV u 4 3 a0 (vR v4)).bind fun u6 => (gI sc u6 4 2 a0).bind fun v8 => (pV u6 4 2 a0 (vI (v8 - (1 : Int32)))).bind fun u10 => some u10 else none)
theorem w_Dict_drop {sc : xSc} {d : Nat} {Q : xR → xH → Prop} {hZ : xH} (hQ : Q (.inl none) hZ) (u : xH) (a0 : Option Nat) (h : f_Dict_drop sc u a0 = some hZ) : xW sc m_Dict_drop (d + 1) Q (u) 0 (xent [vR a0] m_Dict_drop.2.2.1) [] := by
  show xW sc m_Dict_drop (d + 1) Q (u) 0 [some (vR a0)] []
  unfold f_Dict_drop at h
  refine x_aload_n (pc := 0) d_Dict_drop_0 rfl ?_
  refine x_aload_n (pc := 1) d_Dict_drop_1 rfl ?_
  obtain ⟨v1, e2, h⟩ := Option.bind_eq_some_iff.mp h
  refine c_getR (pc := 2) d_Dict_drop_2 l_Dict_16 e2 ?_
  obtain ⟨c3, h⟩ := ite_some h
  obtain ⟨v4, e5, h⟩ := Option.bind_eq_some_iff.mp h
  refine c_invv (c := 5) (d := d + 0) (av := []) (st := [vR a0]) (Q' := fun r h' => r = .inl (some (vR v4)) ∧ h' = u) (pc := 5) d_Dict_drop_5 cv_Dict_26 y_Entry_next c3 rfl (Nat.le_of_ble_eq_true rfl) (Nat.le_of_ble_eq_true rfl) (w_Entry_next (d := d + 0) (Q := fun r h' => r = .inl (some (vR v4)) ∧ h' = u) ⟨rfl, rfl⟩ v1 e5) (fun v h' z => ?_) (fun a h' z => nomatch z.1)
  obtain ⟨z1, z2⟩ := z
  subst h'
  cases z1
  show xW sc m_Dict_drop (d + 1) Q (u) 8 [some (vR a0)] [vR v4, vR a0]
  obtain ⟨u6, e7, h⟩ := Option.bind_eq_some_iff.mp h
  refine c_putf (pc := 8) d_Dict_drop_8 l_Dict_16 fp_4_3 (xfit_obj) e7 ?_
  refine x_aload_n (pc := 11) d_Dict_drop_11 rfl ?_
  refine x_dup (pc := 12) d_Dict_drop_12 rfl ?_
  obtain ⟨v8, e9, h⟩ := Option.bind_eq_some_iff.mp h
  refine c_getI (pc := 13) d_Dict_drop_13 l_Dict_40 e9 ?_
  refine x_iconst (v := (1 : Int32)) (pc := 16) d_Dict_drop_16 (by decide) ?_
  refine x_isub (pc := 17) d_Dict_drop_17 ?_
  obtain ⟨u10, e11, h⟩ := Option.bind_eq_some_iff.mp h
  refine c_putf (pc := 18) d_Dict_drop_18 l_Dict_40 fp_4_2 (xfit_int) e11 ?_
  cases h
  exact x_vret (pc := 21) d_Dict_drop_21 rfl hQ
def f_Added_undo (sc : xSc) (u : xH) (a0 : Option Nat) : Option xH := (gR sc u 9 1 a0).bind fun v1 => (if xis sc u 4 v1 = true then (f_Dict_drop sc u v1).bind fun u4 => some u4 else none)
theorem w_Added_undo {sc : xSc} {d : Nat} {Q : xR → xH → Prop} {hZ : xH} (hQ : Q (.inl none) hZ) (u : xH) (a0 : Option Nat) (h : f_Added_undo sc u a0 = some hZ) : xW sc m_Added_undo (d + 2) Q (u) 0 (xent [vR a0] m_Added_undo.2.2.1) [] := by
  show xW sc m_Added_undo (d + 2) Q (u) 0 [some (vR a0)] []
  unfold f_Added_undo at h
  refine x_aload_n (pc := 0) d_Added_undo_0 rfl ?_
  obtain ⟨v1, e2, h⟩ := Option.bind_eq_some_iff.mp h
  refine c_getR (pc := 1) d_Added_undo_1 l_Added_13 e2 ?_
  obtain ⟨c3, h⟩ := ite_some h
  obtain ⟨u4, e5, h⟩ := Option.bind_eq_some_iff.mp h
  refine c_invv (c := 4) (d := d + 1) (av := []) (st := []) (Q' := fun r h' => r = .inl none ∧ h' = u4) (pc := 4) d_Added_undo_4 cv_Added_17 y_Dict_drop c3 rfl (Nat.le_of_ble_eq_true rfl) (Nat.le_of_ble_eq_true rfl) (w_Dict_drop (d := d + 0) (Q := fun r h' => r = .inl none ∧ h' = u4) ⟨rfl, rfl⟩ u v1 e5) (fun v h' z => ?_) (fun a h' z => nomatch z.1)
  obtain ⟨z1, z2⟩ := z
  subst h'
  cases z1
  show xW sc m_Added_undo (d + 2) Q (u4) 7 [some (vR a0)] []
  cases h
  exact x_vret (pc := 7) d_Added_undo_7 rfl hQ
def f_ArrayList_add1_b11 (sc : xSc)  (l0 : Option Nat) (l1 : Option Nat) (l2 : Option Nat) (l3 : Int32) (u : xH) : Option xH := (bR "java/lang/Object" 4 sc u l2 l3 l1).bind fun u1 => (pV u1 17 1 l0 (vI (l3 + (1 : Int32)))).bind fun u3 => some u3
theorem w_ArrayList_add1_b11 {sc : xSc} {d : Nat} {Q : xR → xH → Prop} {hZ : xH}  (hQ : Q (.inl none) hZ) (l0 : Option Nat) (l1 : Option Nat) (l2 : Option Nat) (l3 : Int32) (u : xH) (h : f_ArrayList_add1_b11 sc  l0 l1 l2 l3 u = some hZ) : xW sc m_ArrayList_add1 (d + 0) Q (u) 11 [some (vR l0), some (vR l1), some (vR l2), some (vI l3)] [] := by
  unfold f_ArrayList_add1_b11 at h
  refine x_aload_n (pc := 11) d_ArrayList_add1_11 rfl ?_
  refine x_iload_n (pc := 12) d_ArrayList_add1_12 rfl ?_
  refine x_aload_n (pc := 13) d_ArrayList_add1_13 rfl ?_
  obtain ⟨u1, e2, h⟩ := Option.bind_eq_some_iff.mp h
  refine c_aast (C := "java/lang/Object") (c := 4) (pc := 14) d_ArrayList_add1_14 ⟨_, rfl, Or.inr (tw_10 (List.mem_of_getElem? (i := 89) rfl))⟩ e2 ?_
  refine x_aload_n (pc := 15) d_ArrayList_add1_15 rfl ?_
  refine x_iload_n (pc := 16) d_ArrayList_add1_16 rfl ?_
  refine x_iconst (v := (1 : Int32)) (pc := 17) d_ArrayList_add1_17 (by decide) ?_
  refine x_iadd (pc := 18) d_ArrayList_add1_18 ?_
  obtain ⟨u3, e4, h⟩ := Option.bind_eq_some_iff.mp h
  refine c_putf (pc := 19) d_ArrayList_add1_19 l_ArrayList_48 fp_17_1 (xfit_int) e4 ?_
  cases h
  exact x_vret (pc := 22) d_ArrayList_add1_22 rfl hQ
def f_ArrayList_add1 (sc : xSc) (u : xH) (a0 : Option Nat) (a1 : Option Nat) (a2 : Option Nat) (a3 : Int32) : Option xH := (aN sc u a2).bind fun v1 => (if a3 = v1 then none else f_ArrayList_add1_b11 sc a0 a1 a2 a3 u)
theorem w_ArrayList_add1 {sc : xSc} {d : Nat} {Q : xR → xH → Prop} {hZ : xH} (hQ : Q (.inl none) hZ) (u : xH) (a0 : Option Nat) (a1 : Option Nat) (a2 : Option Nat) (a3 : Int32) (h : f_ArrayList_add1 sc u a0 a1 a2 a3 = some hZ) : xW sc m_ArrayList_add1 (d + 0) Q (u) 0 (xent [vR a0, vR a1, vR a2, vI a3] m_ArrayList_add1.2.2.1) [] := by
  show xW sc m_ArrayList_add1 (d + 0) Q (u) 0 [some (vR a0), some (vR a1), some (vR a2), some (vI a3)] []
  unfold f_ArrayList_add1 at h
  refine x_iload_n (pc := 0) d_ArrayList_add1_0 rfl ?_
  refine x_aload_n (pc := 1) d_ArrayList_add1_1 rfl ?_
  obtain ⟨v1, e2, h⟩ := Option.bind_eq_some_iff.mp h
  refine c_alen (pc := 2) d_ArrayList_add1_2 e2 ?_
  refine x_icmp_ne (tgt := 11) (pc := 3) d_ArrayList_add1_3 (by decide) (fun c3 => ?_) (fun c3 => ?_)
  · rw [if_neg c3] at h
    exact w_ArrayList_add1_b11 hQ a0 a1 a2 a3 u h
  · rw [if_pos c3] at h
    refine x_aload_n (pc := 6) d_ArrayList_add1_6 rfl ?_
    cases h
def f_ArrayList_add0 (sc : xSc) (u : xH) (a0 : Option Nat) (a1 : Option Nat) : Option (Int32 × xH) := (gI sc u 17 2 a0).bind fun v1 => (pV u 17 2 a0 (vI (v1 + (1 : Int32)))).bind fun u3 => (gR sc u3 17 0 a0).bind fun v5 => (gI sc u3 17 1 a0).bind fun v7 => (if xis sc u3 17 a0 = true then (f_ArrayList_add1 sc u3 a0 a1 v5 v7).bind fun u10 => some ((1 : Int32), u10) else none)
theorem w_ArrayList_add0 {sc : xSc} {d : Nat} {Q : xR → xH → Prop} {hZ : xH} {rZ : Int32} (hQ : Q (.inl (some (vI rZ))) hZ) (u : xH) (a0 : Option Nat) (a1 : Option Nat) (h : f_ArrayList_add0 sc u a0 a1 = some (rZ, hZ)) : xW sc m_ArrayList_add0 (d + 1) Q (u) 0 (xent [vR a0, vR a1] m_ArrayList_add0.2.2.1) [] := by
  show xW sc m_ArrayList_add0 (d + 1) Q (u) 0 [some (vR a0), some (vR a1)] []
  unfold f_ArrayList_add0 at h
  refine x_aload_n (pc := 0) d_ArrayList_add0_0 rfl ?_
  refine x_dup (pc := 1) d_ArrayList_add0_1 rfl ?_
  obtain ⟨v1, e2, h⟩ := Option.bind_eq_some_iff.mp h
  refine c_getI (pc := 2) d_ArrayList_add0_2 l_ArrayList_63 e2 ?_
  refine x_iconst (v := (1 : Int32)) (pc := 5) d_ArrayList_add0_5 (by decide) ?_
  refine x_iadd (pc := 6) d_ArrayList_add0_6 ?_
  obtain ⟨u3, e4, h⟩ := Option.bind_eq_some_iff.mp h
  refine c_putf (pc := 7) d_ArrayList_add0_7 l_ArrayList_63 fp_17_2 (xfit_int) e4 ?_
  refine x_aload_n (pc := 10) d_ArrayList_add0_10 rfl ?_
  refine x_aload_n (pc := 11) d_ArrayList_add0_11 rfl ?_
  refine x_aload_n (pc := 12) d_ArrayList_add0_12 rfl ?_
  obtain ⟨v5, e6, h⟩ := Option.bind_eq_some_iff.mp h
  refine c_getR (pc := 13) d_ArrayList_add0_13 l_ArrayList_9 e6 ?_
  refine x_aload_n (pc := 16) d_ArrayList_add0_16 rfl ?_
  obtain ⟨v7, e8, h⟩ := Option.bind_eq_some_iff.mp h
  refine c_getI (pc := 17) d_ArrayList_add0_17 l_ArrayList_48 e8 ?_
  obtain ⟨c9, h⟩ := ite_some h
  obtain ⟨u10, e11, h⟩ := Option.bind_eq_some_iff.mp h
  refine c_invv (c := 17) (d := d + 0) (av := [vR a1, vR v5, vI v7]) (st := []) (Q' := fun r h' => r = .inl none ∧ h' = u10) (pc := 20) d_ArrayList_add0_20 cv_ArrayList_131 y_ArrayList_add1 c9 rfl (Nat.le_of_ble_eq_true rfl) (Nat.le_of_ble_eq_true rfl) (w_ArrayList_add1 (d := d + 0) (Q := fun r h' => r = .inl none ∧ h' = u10) ⟨rfl, rfl⟩ u3 a0 a1 v5 v7 e11) (fun v h' z => ?_) (fun a h' z => nomatch z.1)
  obtain ⟨z1, z2⟩ := z
  subst h'
  cases z1
  show xW sc m_ArrayList_add0 (d + 1) Q (u10) 23 [some (vR a0), some (vR a1)] []
  refine x_iconst (v := (1 : Int32)) (pc := 23) d_ArrayList_add0_23 (by decide) ?_
  cases h
  exact x_iret (ty := .boolean) (pc := 24) d_ArrayList_add0_24 rfl (rfl) hQ
def f_ArrayList_elementData (sc : xSc) (u : xH) (a0 : Option Nat) (a1 : Int32) : Option (Option Nat) := (gR sc u 17 0 a0).bind fun v1 => (aR sc u v1 a1).bind fun v3 => some v3
theorem w_ArrayList_elementData {sc : xSc} {d : Nat} {Q : xR → xH → Prop} {u : xH} {rZ : Option Nat} (hQ : Q (.inl (some (vR rZ))) u) (a0 : Option Nat) (a1 : Int32) (h : f_ArrayList_elementData sc u a0 a1 = some rZ) : xW sc m_ArrayList_elementData (d + 0) Q (u) 0 (xent [vR a0, vI a1] m_ArrayList_elementData.2.2.1) [] := by
  show xW sc m_ArrayList_elementData (d + 0) Q (u) 0 [some (vR a0), some (vI a1)] []
  unfold f_ArrayList_elementData at h
  refine x_aload_n (pc := 0) d_ArrayList_elementData_0 rfl ?_
  obtain ⟨v1, e2, h⟩ := Option.bind_eq_some_iff.mp h
  refine c_getR (pc := 1) d_ArrayList_elementData_1 l_ArrayList_9 e2 ?_
  refine x_iload_n (pc := 4) d_ArrayList_elementData_4 rfl ?_
  obtain ⟨v3, e4, h⟩ := Option.bind_eq_some_iff.mp h
  refine c_aald (pc := 5) d_ArrayList_elementData_5 e4 ?_
  cases h
  exact x_aret (pc := 6) d_ArrayList_elementData_6 rfl (Or.inl ⟨_, rfl⟩) hQ
def f_ArrayList_fastRemove_b34 (sc : xSc)  (l0 : Option Nat) (l1 : Option Nat) (l3 : Int32) (u : xH) : Option xH := (pV u 17 1 l0 (vI l3)).bind fun u1 => (bR "java/lang/Object" 4 sc u1 l1 l3 none).bind fun u3 => some u3
theorem w_ArrayList_fastRemove_b34 {sc : xSc} {d : Nat} {Q : xR → xH → Prop} {hZ : xH}  (hQ : Q (.inl none) hZ) (l0 : Option Nat) (l1 : Option Nat) (l3 : Int32) (u : xH) (h : f_ArrayList_fastRemove_b34 sc  l0 l1 l3 u = some hZ) : xW sc m_ArrayList_fastRemove (d + 1) Q (u) 34 [some (vR l0), some (vR l1), none, some (vI l3)] [] := by
  unfold f_ArrayList_fastRemove_b34 at h
  refine x_aload_n (pc := 34) d_ArrayList_fastRemove_34 rfl ?_
  refine x_aload_n (pc := 35) d_ArrayList_fastRemove_35 rfl ?_
  refine x_iload_n (pc := 36) d_ArrayList_fastRemove_36 rfl ?_
  refine x_dup_x1 (pc := 37) d_ArrayList_fastRemove_37 rfl rfl ?_
  obtain ⟨u1, e2, h⟩ := Option.bind_eq_some_iff.mp h
  refine c_putf (pc := 38) d_ArrayList_fastRemove_38 l_ArrayList_48 fp_17_1 (xfit_int) e2 ?_
  refine x_null (pc := 41) d_ArrayList_fastRemove_41 ?_
  obtain ⟨u3, e4, h⟩ := Option.bind_eq_some_iff.mp h
  refine c_aast (C := "java/lang/Object") (c := 4) (pc := 42) d_ArrayList_fastRemove_42 ⟨_, rfl, Or.inr (tw_10 (List.mem_of_getElem? (i := 89) rfl))⟩ e4 ?_
  cases h
  exact x_vret (pc := 43) d_ArrayList_fastRemove_43 rfl hQ
def f_ArrayList_fastRemove (sc : xSc) (u : xH) (a0 : Option Nat) (a1 : Option Nat) (a2 : Int32) : Option xH := (gI sc u 17 2 a0).bind fun v1 => (pV u 17 2 a0 (vI (v1 + (1 : Int32)))).bind fun u3 => (gI sc u3 17 1 a0).bind fun v5 => (if (v5 - (1 : Int32)) ≤ a2 then f_ArrayList_fastRemove_b34 sc a0 a1 (v5 - (1 : Int32)) u3 else (xCpy sc u3 a1 (a2 + (1 : Int32)) a1 a2 ((v5 - (1 : Int32)) - a2)).bind fun u8 => f_ArrayList_fastRemove_b34 sc a0 a1 (v5 - (1 : Int32)) u8)
theorem w_ArrayList_fastRemove {sc : xSc} {d : Nat} {Q : xR → xH → Prop} {hZ : xH} (hQ : Q (.inl none) hZ) (u : xH) (a0 : Option Nat) (a1 : Option Nat) (a2 : Int32) (h : f_ArrayList_fastRemove sc u a0 a1 a2 = some hZ) : xW sc m_ArrayList_fastRemove (d + 1) Q (u) 0 (xent [vR a0, vR a1, vI a2] m_ArrayList_fastRemove.2.2.1) [] := by
  show xW sc m_ArrayList_fastRemove (d + 1) Q (u) 0 [some (vR a0), some (vR a1), some (vI a2), none] []
  unfold f_ArrayList_fastRemove at h
  refine x_aload_n (pc := 0) d_ArrayList_fastRemove_0 rfl ?_
  refine x_dup (pc := 1) d_ArrayList_fastRemove_1 rfl ?_
  obtain ⟨v1, e2, h⟩ := Option.bind_eq_some_iff.mp h
  refine c_getI (pc := 2) d_ArrayList_fastRemove_2 l_ArrayList_63 e2 ?_
  refine x_iconst (v := (1 : Int32)) (pc := 5) d_ArrayList_fastRemove_5 (by decide) ?_
  refine x_iadd (pc := 6) d_ArrayList_fastRemove_6 ?_
  obtain ⟨u3, e4, h⟩ := Option.bind_eq_some_iff.mp h
  refine c_putf (pc := 7) d_ArrayList_fastRemove_7 l_ArrayList_63 fp_17_2 (xfit_int) e4 ?_
  refine x_aload_n (pc := 10) d_ArrayList_fastRemove_10 rfl ?_
  obtain ⟨v5, e6, h⟩ := Option.bind_eq_some_iff.mp h
  refine c_getI (pc := 11) d_ArrayList_fastRemove_11 l_ArrayList_48 e6 ?_
  refine x_iconst (v := (1 : Int32)) (pc := 14) d_ArrayList_fastRemove_14 (by decide) ?_
  refine x_isub (pc := 15) d_ArrayList_fastRemove_15 ?_
  refine x_dup (pc := 16) d_ArrayList_fastRemove_16 rfl ?_
  refine x_istore_n (pc := 17) d_ArrayList_fastRemove_17 (by decide) ?_
  show xW sc m_ArrayList_fastRemove (d + 1) Q (u3) 18 [some (vR a0), some (vR a1), some (vI a2), some (vI (v5 - (1 : Int32)))] [vI (v5 - (1 : Int32))]
  refine x_iload_n (pc := 18) d_ArrayList_fastRemove_18 rfl ?_
  refine x_icmp_le (tgt := 34) (pc := 19) d_ArrayList_fastRemove_19 (by decide) (fun c7 => ?_) (fun c7 => ?_)
  · rw [if_pos c7] at h
    exact x_wk (L' := [some (vR a0), some (vR a1), none, some (vI (v5 - (1 : Int32)))]) ⟨Or.inr rfl, Or.inr rfl, Or.inl rfl, Or.inr rfl, trivial⟩ (w_ArrayList_fastRemove_b34 hQ a0 a1 (v5 - (1 : Int32)) u3 h)
  · rw [if_neg c7] at h
    refine x_aload_n (pc := 22) d_ArrayList_fastRemove_22 rfl ?_
    refine x_iload_n (pc := 23) d_ArrayList_fastRemove_23 rfl ?_
    refine x_iconst (v := (1 : Int32)) (pc := 24) d_ArrayList_fastRemove_24 (by decide) ?_
    refine x_iadd (pc := 25) d_ArrayList_fastRemove_25 ?_
    refine x_aload_n (pc := 26) d_ArrayList_fastRemove_26 rfl ?_
    refine x_iload_n (pc := 27) d_ArrayList_fastRemove_27 rfl ?_
    refine x_iload_n (pc := 28) d_ArrayList_fastRemove_28 rfl ?_
    refine x_iload_n (pc := 29) d_ArrayList_fastRemove_29 rfl ?_
    refine x_isub (pc := 30) d_ArrayList_fastRemove_30 ?_
    obtain ⟨u8, e9, h⟩ := Option.bind_eq_some_iff.mp h
    refine c_acopy (pc := 31) d_ArrayList_fastRemove_31 ac9_ArrayList_112 (Nat.le_of_ble_eq_true rfl) e9 ?_
    exact x_wk (L' := [some (vR a0), some (vR a1), none, some (vI (v5 - (1 : Int32)))]) ⟨Or.inr rfl, Or.inr rfl, Or.inl rfl, Or.inr rfl, trivial⟩ (w_ArrayList_fastRemove_b34 hQ a0 a1 (v5 - (1 : Int32)) u8 h)
def f_Objects_checkIndex  (a1 : Int32) (a2 : Int32) : Option Int32 := (f_Preconditions_checkIndex a1 a2 none).bind fun v1 => some v1
theorem w_Objects_checkIndex {sc : xSc} {d : Nat} {Q : xR → xH → Prop} {hh : xH} {rZ : Int32} (hQ : Q (.inl (some (vI rZ))) hh) (a1 : Int32) (a2 : Int32) (h : f_Objects_checkIndex  a1 a2 = some rZ) : xW sc m_Objects_checkIndex (d + 1) Q (hh) 0 (xent [vI a1, vI a2] m_Objects_checkIndex.2.2.1) [] := by
  show xW sc m_Objects_checkIndex (d + 1) Q (hh) 0 [some (vI a1), some (vI a2)] []
  unfold f_Objects_checkIndex at h
  refine x_iload_n (pc := 0) d_Objects_checkIndex_0 rfl ?_
  refine x_iload_n (pc := 1) d_Objects_checkIndex_1 rfl ?_
  refine x_null (pc := 2) d_Objects_checkIndex_2 ?_
  obtain ⟨v1, e2, h⟩ := Option.bind_eq_some_iff.mp h
  refine x_invs (d := d + 0) (av := [vI a1, vI a2, vR none]) (st := []) (Q' := fun r h' => r = .inl (some (vI v1)) ∧ h' = hh) (pc := 3) d_Objects_checkIndex_3 cs_Objects_105 y_Preconditions_checkIndex rfl (Nat.le_of_ble_eq_true rfl) (Nat.le_of_ble_eq_true rfl) (w_Preconditions_checkIndex (d := d + 0) (Q := fun r h' => r = .inl (some (vI v1)) ∧ h' = hh) ⟨rfl, rfl⟩ a1 a2 none e2) (fun v h' z => ?_) (fun a h' z => nomatch z.1)
  obtain ⟨z1, z2⟩ := z
  subst h'
  cases z1
  show xW sc m_Objects_checkIndex (d + 1) Q (hh) 6 [some (vI a1), some (vI a2)] [vI v1]
  cases h
  exact x_iret (ty := .int) (pc := 6) d_Objects_checkIndex_6 rfl (rfl) hQ
def f_ArrayList_get (sc : xSc) (u : xH) (a0 : Option Nat) (a1 : Int32) : Option (Option Nat) := (gI sc u 17 1 a0).bind fun v1 => (f_Objects_checkIndex a1 v1).bind fun v3 => (if xis sc u 17 a0 = true then (f_ArrayList_elementData sc u a0 a1).bind fun v6 => some v6 else none)
theorem w_ArrayList_get {sc : xSc} {d : Nat} {Q : xR → xH → Prop} {u : xH} {rZ : Option Nat} (hQ : Q (.inl (some (vR rZ))) u) (a0 : Option Nat) (a1 : Int32) (h : f_ArrayList_get sc u a0 a1 = some rZ) : xW sc m_ArrayList_get (d + 2) Q (u) 0 (xent [vR a0, vI a1] m_ArrayList_get.2.2.1) [] := by
  show xW sc m_ArrayList_get (d + 2) Q (u) 0 [some (vR a0), some (vI a1)] []
  unfold f_ArrayList_get at h
  refine x_iload_n (pc := 0) d_ArrayList_get_0 rfl ?_
  refine x_aload_n (pc := 1) d_ArrayList_get_1 rfl ?_
  obtain ⟨v1, e2, h⟩ := Option.bind_eq_some_iff.mp h
  refine c_getI (pc := 2) d_ArrayList_get_2 l_ArrayList_48 e2 ?_
  obtain ⟨v3, e4, h⟩ := Option.bind_eq_some_iff.mp h
  refine x_invs (d := d + 1) (av := [vI a1, vI v1]) (st := []) (Q' := fun r h' => r = .inl (some (vI v3)) ∧ h' = u) (pc := 5) d_ArrayList_get_5 cs_ArrayList_118 y_Objects_checkIndex rfl (Nat.le_of_ble_eq_true rfl) (Nat.le_of_ble_eq_true rfl) (w_Objects_checkIndex (d := d + 0) (Q := fun r h' => r = .inl (some (vI v3)) ∧ h' = u) (hh := u) ⟨rfl, rfl⟩ a1 v1 e4) (fun v h' z => ?_) (fun a h' z => nomatch z.1)
  obtain ⟨z1, z2⟩ := z
  subst h'
  cases z1
  show xW sc m_ArrayList_get (d + 2) Q (u) 8 [some (vR a0), some (vI a1)] [vI v3]
  refine x_pop (pc := 8) d_ArrayList_get_8 rfl ?_
  refine x_aload_n (pc := 9) d_ArrayList_get_9 rfl ?_
  refine x_iload_n (pc := 10) d_ArrayList_get_10 rfl ?_
  obtain ⟨c5, h⟩ := ite_some h
  obtain ⟨v6, e7, h⟩ := Option.bind_eq_some_iff.mp h
  refine c_invv (c := 17) (d := d + 1) (av := [vI a1]) (st := []) (Q' := fun r h' => r = .inl (some (vR v6)) ∧ h' = u) (pc := 11) d_ArrayList_get_11 cv_ArrayList_123 y_ArrayList_elementData c5 rfl (Nat.le_of_ble_eq_true rfl) (Nat.le_of_ble_eq_true rfl) (w_ArrayList_elementData (d := d + 1) (Q := fun r h' => r = .inl (some (vR v6)) ∧ h' = u) ⟨rfl, rfl⟩ a0 a1 e7) (fun v h' z => ?_) (fun a h' z => nomatch z.1)
  obtain ⟨z1, z2⟩ := z
  subst h'
  cases z1
  show xW sc m_ArrayList_get (d + 2) Q (u) 14 [some (vR a0), some (vI a1)] [vR v6]
  cases h
  exact x_aret (pc := 14) d_ArrayList_get_14 rfl (Or.inl ⟨_, rfl⟩) hQ
def f_ArrayList_init_b60 (sc : xSc)  (u : xH) : Option xH := some u
theorem w_ArrayList_init_b60 {sc : xSc} {d : Nat} {Q : xR → xH → Prop} {hZ : xH}  (hQ : Q (.inl none) hZ) (u : xH) (h : f_ArrayList_init_b60 sc  u = some hZ) : xW sc m_ArrayList_init (d + 3) Q (u) 60 [none, none] [] := by
  unfold f_ArrayList_init_b60 at h
  cases h
  exact x_vret (pc := 60) d_ArrayList_init_60 rfl hQ
def f_ArrayList_init (sc : xSc) (u : xH) (a0 : Option Nat) (a1 : Int32) : Option xH := (if a0.isSome = true then (f_AbstractList_init sc u a0).bind fun u2 => (if a1 ≤ 0 then (if a1 = 0 then none else (nO 22 0 6 u2).bind fun u6 => (nO 16 4 4 u6).bind fun u8 => none) else (nA (eRef "java/lang/Object") u2 a1).bind fun u10 => (pV u10 17 0 a0 (vR (some u2.2.1))).bind fun u12 => f_ArrayList_init_b60 sc u12) else none)
theorem w_ArrayList_init {sc : xSc} {d : Nat} {Q : xR → xH → Prop} {hZ : xH} (hQ : Q (.inl none) hZ) (u : xH) (a0 : Option Nat) (a1 : Int32) (h : f_ArrayList_init sc u a0 a1 = some hZ) : xW sc m_ArrayList_init (d + 3) Q (u) 0 (xent [vR a0, vI a1] m_ArrayList_init.2.2.1) [] := by
  show xW sc m_ArrayList_init (d + 3) Q (u) 0 [some (vR a0), some (vI a1)] []
  unfold f_ArrayList_init at h
  refine x_aload_n (pc := 0) d_ArrayList_init_0 rfl ?_
  obtain ⟨c1, h⟩ := ite_some h
  obtain ⟨u2, e3, h⟩ := Option.bind_eq_some_iff.mp h
  refine c_invi (d := d + 2) (av := []) (st := []) (Q' := fun r h' => r = .inl none ∧ h' = u2) (pc := 1) d_ArrayList_init_1 ci_ArrayList_1 y_AbstractList_init (tw_1 (List.mem_of_getElem? (i := 145) rfl)) c1 rfl (Nat.le_of_ble_eq_true rfl) (Nat.le_of_ble_eq_true rfl) (w_AbstractList_init (d := d + 0) (Q := fun r h' => r = .inl none ∧ h' = u2) ⟨rfl, rfl⟩ u a0 e3) (fun v h' z => ?_) (fun a h' z => nomatch z.1)
  obtain ⟨z1, z2⟩ := z
  subst h'
  cases z1
  show xW sc m_ArrayList_init (d + 3) Q (u2) 4 [some (vR a0), some (vI a1)] []
  refine x_iload_n (pc := 4) d_ArrayList_init_4 rfl ?_
  refine x_if_le (tgt := 19) (pc := 5) d_ArrayList_init_5 (by decide) (fun c4 => ?_) (fun c4 => ?_)
  · rw [if_pos c4] at h
    refine x_iload_n (pc := 19) d_ArrayList_init_19 rfl ?_
    refine x_if_ne (tgt := 33) (pc := 20) d_ArrayList_init_20 (by decide) (fun c5 => ?_) (fun c5 => ?_)
    · rw [if_neg c5] at h
      obtain ⟨u6, e7, h⟩ := Option.bind_eq_some_iff.mp h
      refine c_new (pc := 33) d_ArrayList_init_33 nw_ArrayList_18 ly_22 ⟨_, rfl, rfl⟩ e7 ?_
      refine x_dup (pc := 36) d_ArrayList_init_36 rfl ?_
      obtain ⟨u8, e9, h⟩ := Option.bind_eq_some_iff.mp h
      refine c_new (pc := 37) d_ArrayList_init_37 nw_ArrayList_20 ly_16 ⟨_, rfl, rfl⟩ e9 ?_
      refine x_dup (pc := 40) d_ArrayList_init_40 rfl ?_
      cases h
    · rw [if_pos c5] at h
      refine x_aload_n (pc := 23) d_ArrayList_init_23 rfl ?_
      cases h
  · rw [if_neg c4] at h
    refine x_aload_n (pc := 8) d_ArrayList_init_8 rfl ?_
    refine x_iload_n (pc := 9) d_ArrayList_init_9 rfl ?_
    obtain ⟨u10, e11, h⟩ := Option.bind_eq_some_iff.mp h
    refine c_anew (pc := 10) d_ArrayList_init_10 kl_ArrayList_7 ao_Object e11 ?_
    obtain ⟨u12, e13, h⟩ := Option.bind_eq_some_iff.mp h
    refine c_putf (pc := 13) d_ArrayList_init_13 l_ArrayList_9 fp_17_0 (xfit_arr) e13 ?_
    refine x_goto (tgt := 60) (pc := 16) d_ArrayList_init_16 (by decide) ?_
    exact x_wk (L' := [none, none]) ⟨Or.inl rfl, Or.inl rfl, trivial⟩ (w_ArrayList_init_b60 hQ u12 h)
def f_ArrayList_remove (sc : xSc) (u : xH) (a0 : Option Nat) (a1 : Int32) : Option (Option Nat × xH) := (gI sc u 17 1 a0).bind fun v1 => (f_Objects_checkIndex a1 v1).bind fun v3 => (gR sc u 17 0 a0).bind fun v5 => (aR sc u v5 a1).bind fun v7 => (if xis sc u 17 a0 = true then (f_ArrayList_fastRemove sc u a0 v5 a1).bind fun u10 => some (v7, u10) else none)
theorem w_ArrayList_remove {sc : xSc} {d : Nat} {Q : xR → xH → Prop} {hZ : xH} {rZ : Option Nat} (hQ : Q (.inl (some (vR rZ))) hZ) (u : xH) (a0 : Option Nat) (a1 : Int32) (h : f_ArrayList_remove sc u a0 a1 = some (rZ, hZ)) : xW sc m_ArrayList_remove (d + 2) Q (u) 0 (xent [vR a0, vI a1] m_ArrayList_remove.2.2.1) [] := by
  show xW sc m_ArrayList_remove (d + 2) Q (u) 0 [some (vR a0), some (vI a1), none, none] []
  unfold f_ArrayList_remove at h
  refine x_iload_n (pc := 0) d_ArrayList_remove_0 rfl ?_
  refine x_aload_n (pc := 1) d_ArrayList_remove_1 rfl ?_
  obtain ⟨v1, e2, h⟩ := Option.bind_eq_some_iff.mp h
  refine c_getI (pc := 2) d_ArrayList_remove_2 l_ArrayList_48 e2 ?_
  obtain ⟨v3, e4, h⟩ := Option.bind_eq_some_iff.mp h
  refine x_invs (d := d + 1) (av := [vI a1, vI v1]) (st := []) (Q' := fun r h' => r = .inl (some (vI v3)) ∧ h' = u) (pc := 5) d_ArrayList_remove_5 cs_ArrayList_118 y_Objects_checkIndex rfl (Nat.le_of_ble_eq_true rfl) (Nat.le_of_ble_eq_true rfl) (w_Objects_checkIndex (d := d + 0) (Q := fun r h' => r = .inl (some (vI v3)) ∧ h' = u) (hh := u) ⟨rfl, rfl⟩ a1 v1 e4) (fun v h' z => ?_) (fun a h' z => nomatch z.1)
  obtain ⟨z1, z2⟩ := z
  subst h'
  cases z1
  show xW sc m_ArrayList_remove (d + 2) Q (u) 8 [some (vR a0), some (vI a1), none, none] [vI v3]
  refine x_pop (pc := 8) d_ArrayList_remove_8 rfl ?_
  refine x_aload_n (pc := 9) d_ArrayList_remove_9 rfl ?_
  obtain ⟨v5, e6, h⟩ := Option.bind_eq_some_iff.mp h
  refine c_getR (pc := 10) d_ArrayList_remove_10 l_ArrayList_9 e6 ?_
  refine x_astore_n (pc := 13) d_ArrayList_remove_13 (by decide) ?_
  show xW sc m_ArrayList_remove (d + 2) Q (u) 14 [some (vR a0), some (vI a1), some (vR v5), none] []
  refine x_aload_n (pc := 14) d_ArrayList_remove_14 rfl ?_
  refine x_iload_n (pc := 15) d_ArrayList_remove_15 rfl ?_
  obtain ⟨v7, e8, h⟩ := Option.bind_eq_some_iff.mp h
  refine c_aald (pc := 16) d_ArrayList_remove_16 e8 ?_
  refine x_astore_n (pc := 17) d_ArrayList_remove_17 (by decide) ?_
  show xW sc m_ArrayList_remove (d + 2) Q (u) 18 [some (vR a0), some (vI a1), some (vR v5), some (vR v7)] []
  refine x_aload_n (pc := 18) d_ArrayList_remove_18 rfl ?_
  refine x_aload_n (pc := 19) d_ArrayList_remove_19 rfl ?_
  refine x_iload_n (pc := 20) d_ArrayList_remove_20 rfl ?_
  obtain ⟨c9, h⟩ := ite_some h
  obtain ⟨u10, e11, h⟩ := Option.bind_eq_some_iff.mp h
  refine c_invv (c := 17) (d := d + 1) (av := [vR v5, vI a1]) (st := []) (Q' := fun r h' => r = .inl none ∧ h' = u10) (pc := 21) d_ArrayList_remove_21 cv_ArrayList_144 y_ArrayList_fastRemove c9 rfl (Nat.le_of_ble_eq_true rfl) (Nat.le_of_ble_eq_true rfl) (w_ArrayList_fastRemove (d := d + 0) (Q := fun r h' => r = .inl none ∧ h' = u10) ⟨rfl, rfl⟩ u a0 v5 a1 e11) (fun v h' z => ?_) (fun a h' z => nomatch z.1)
  obtain ⟨z1, z2⟩ := z
  subst h'
  cases z1
  show xW sc m_ArrayList_remove (d + 2) Q (u10) 24 [some (vR a0), some (vI a1), some (vR v5), some (vR v7)] []
  refine x_aload_n (pc := 24) d_ArrayList_remove_24 rfl ?_
  cases h
  exact x_aret (pc := 25) d_ArrayList_remove_25 rfl (Or.inl ⟨_, rfl⟩) hQ
def f_ArrayList_size (sc : xSc) (u : xH) (a0 : Option Nat) : Option Int32 := (gI sc u 17 1 a0).bind fun v1 => some v1
theorem w_ArrayList_size {sc : xSc} {d : Nat} {Q : xR → xH → Prop} {u : xH} {rZ : Int32} (hQ : Q (.inl (some (vI rZ))) u) (a0 : Option Nat) (h : f_ArrayList_size sc u a0 = some rZ) : xW sc m_ArrayList_size (d + 0) Q (u) 0 (xent [vR a0] m_ArrayList_size.2.2.1) [] := by
  show xW sc m_ArrayList_size (d + 0) Q (u) 0 [some (vR a0)] []
  unfold f_ArrayList_size at h
  refine x_aload_n (pc := 0) d_ArrayList_size_0 rfl ?_
  obtain ⟨v1, e2, h⟩ := Option.bind_eq_some_iff.mp h
  refine c_getI (pc := 1) d_ArrayList_size_1 l_ArrayList_48 e2 ?_
  cases h
  exact x_iret (ty := .int) (pc := 4) d_ArrayList_size_4 rfl (rfl) hQ
def f_Arrays_checkLength (sc : xSc) (u : xH) (a1 : Int32) (a2 : Int32) : Option xH := (if a1 ≤ a2 then some u else (nO 22 0 6 u).bind fun u2 => (nO 16 4 4 u2).bind fun u4 => none)
theorem w_Arrays_checkLength {sc : xSc} {d : Nat} {Q : xR → xH → Prop} {hZ : xH} (hQ : Q (.inl none) hZ) (u : xH) (a1 : Int32) (a2 : Int32) (h : f_Arrays_checkLength sc u a1 a2 = some hZ) : xW sc m_Arrays_checkLength (d + 0) Q (u) 0 (xent [vI a1, vI a2] m_Arrays_checkLength.2.2.1) [] := by
  show xW sc m_Arrays_checkLength (d + 0) Q (u) 0 [some (vI a1), some (vI a2)] []
  unfold f_Arrays_checkLength at h
  refine x_iload_n (pc := 0) d_Arrays_checkLength_0 rfl ?_
  refine x_iload_n (pc := 1) d_Arrays_checkLength_1 rfl ?_
  refine x_icmp_ge (tgt := 37) (pc := 2) d_Arrays_checkLength_2 (by decide) (fun c1 => ?_) (fun c1 => ?_)
  · rw [if_pos c1] at h
    cases h
    exact x_vret (pc := 37) d_Arrays_checkLength_37 rfl hQ
  · rw [if_neg c1] at h
    obtain ⟨u2, e3, h⟩ := Option.bind_eq_some_iff.mp h
    refine c_new (pc := 5) d_Arrays_checkLength_5 nw_Arrays_43 ly_22 ⟨_, rfl, rfl⟩ e3 ?_
    refine x_dup (pc := 8) d_Arrays_checkLength_8 rfl ?_
    obtain ⟨u4, e5, h⟩ := Option.bind_eq_some_iff.mp h
    refine c_new (pc := 9) d_Arrays_checkLength_9 nw_Arrays_45 ly_16 ⟨_, rfl, rfl⟩ e5 ?_
    refine x_dup (pc := 12) d_Arrays_checkLength_12 rfl ?_
    cases h
def f_Arrays_copyOfRangeByte (sc : xSc) (u : xH) (a1 : Option Nat) (a2 : Int32) (a3 : Int32) : Option (Option Nat × xH) := (f_Arrays_checkLength sc u a2 a3).bind fun u1 => (nA eByte u1 (a3 - a2)).bind fun u3 => (aN sc u3 a1).bind fun v5 => (f_Math_min (v5 - a2) (a3 - a2)).bind fun v7 => (xCpy sc u3 a1 a2 (some u1.2.1) (0 : Int32) v7).bind fun u9 => some (some u1.2.1, u9)
theorem w_Arrays_copyOfRangeByte {sc : xSc} {d : Nat} {Q : xR → xH → Prop} {hZ : xH} {rZ : Option Nat} (hQ : Q (.inl (some (vR rZ))) hZ) (u : xH) (a1 : Option Nat) (a2 : Int32) (a3 : Int32) (h : f_Arrays_copyOfRangeByte sc u a1 a2 a3 = some (rZ, hZ)) : xW sc m_Arrays_copyOfRangeByte (d + 1) Q (u) 0 (xent [vR a1, vI a2, vI a3] m_Arrays_copyOfRangeByte.2.2.1) [] := by
  show xW sc m_Arrays_copyOfRangeByte (d + 1) Q (u) 0 [some (vR a1), some (vI a2), some (vI a3), none, none] []
  unfold f_Arrays_copyOfRangeByte at h
  refine x_iload_n (pc := 0) d_Arrays_copyOfRangeByte_0 rfl ?_
  refine x_iload_n (pc := 1) d_Arrays_copyOfRangeByte_1 rfl ?_
  obtain ⟨u1, e2, h⟩ := Option.bind_eq_some_iff.mp h
  refine x_invs (d := d + 0) (av := [vI a2, vI a3]) (st := []) (Q' := fun r h' => r = .inl none ∧ h' = u1) (pc := 2) d_Arrays_copyOfRangeByte_2 cs_Arrays_343 y_Arrays_checkLength rfl (Nat.le_of_ble_eq_true rfl) (Nat.le_of_ble_eq_true rfl) (w_Arrays_checkLength (d := d + 0) (Q := fun r h' => r = .inl none ∧ h' = u1) ⟨rfl, rfl⟩ u a2 a3 e2) (fun v h' z => ?_) (fun a h' z => nomatch z.1)
  obtain ⟨z1, z2⟩ := z
  subst h'
  cases z1
  show xW sc m_Arrays_copyOfRangeByte (d + 1) Q (u1) 5 [some (vR a1), some (vI a2), some (vI a3), none, none] []
  refine x_iload_n (pc := 5) d_Arrays_copyOfRangeByte_5 rfl ?_
  refine x_iload_n (pc := 6) d_Arrays_copyOfRangeByte_6 rfl ?_
  refine x_isub (pc := 7) d_Arrays_copyOfRangeByte_7 ?_
  refine x_istore_n (pc := 8) d_Arrays_copyOfRangeByte_8 (by decide) ?_
  show xW sc m_Arrays_copyOfRangeByte (d + 1) Q (u1) 9 [some (vR a1), some (vI a2), some (vI a3), some (vI (a3 - a2)), none] []
  refine x_iload_n (pc := 9) d_Arrays_copyOfRangeByte_9 rfl ?_
  obtain ⟨u3, e4, h⟩ := Option.bind_eq_some_iff.mp h
  refine c_newa_byte (pc := 10) d_Arrays_copyOfRangeByte_10 ac_byte e4 ?_
  refine x_astore (pc := 12) d_Arrays_copyOfRangeByte_12 (by decide) ?_
  show xW sc m_Arrays_copyOfRangeByte (d + 1) Q (u3) 14 [some (vR a1), some (vI a2), some (vI a3), some (vI (a3 - a2)), some (vR (some u1.2.1))] []
  refine x_aload_n (pc := 14) d_Arrays_copyOfRangeByte_14 rfl ?_
  refine x_iload_n (pc := 15) d_Arrays_copyOfRangeByte_15 rfl ?_
  refine x_aload (pc := 16) d_Arrays_copyOfRangeByte_16 rfl ?_
  refine x_iconst (v := (0 : Int32)) (pc := 18) d_Arrays_copyOfRangeByte_18 (by decide) ?_
  refine x_aload_n (pc := 19) d_Arrays_copyOfRangeByte_19 rfl ?_
  obtain ⟨v5, e6, h⟩ := Option.bind_eq_some_iff.mp h
  refine c_alen (pc := 20) d_Arrays_copyOfRangeByte_20 e6 ?_
  refine x_iload_n (pc := 21) d_Arrays_copyOfRangeByte_21 rfl ?_
  refine x_isub (pc := 22) d_Arrays_copyOfRangeByte_22 ?_
  refine x_iload_n (pc := 23) d_Arrays_copyOfRangeByte_23 rfl ?_
  obtain ⟨v7, e8, h⟩ := Option.bind_eq_some_iff.mp h
  refine x_invs (d := d + 0) (av := [vI (v5 - a2), vI (a3 - a2)]) (st := [vI (0 : Int32), vR (some u1.2.1), vI a2, vR a1]) (Q' := fun r h' => r = .inl (some (vI v7)) ∧ h' = u3) (pc := 24) d_Arrays_copyOfRangeByte_24 cs_Arrays_304 y_Math_min rfl (Nat.le_of_ble_eq_true rfl) (Nat.le_of_ble_eq_true rfl) (w_Math_min (d := d + 0) (Q := fun r h' => r = .inl (some (vI v7)) ∧ h' = u3) (hh := u3) ⟨rfl, rfl⟩ (v5 - a2) (a3 - a2) e8) (fun v h' z => ?_) (fun a h' z => nomatch z.1)
  obtain ⟨z1, z2⟩ := z
  subst h'
  cases z1
  show xW sc m_Arrays_copyOfRangeByte (d + 1) Q (u3) 27 [some (vR a1), some (vI a2), some (vI a3), some (vI (a3 - a2)), some (vR (some u1.2.1))] [vI v7, vI (0 : Int32), vR (some u1.2.1), vI a2, vR a1]
  obtain ⟨u9, e10, h⟩ := Option.bind_eq_some_iff.mp h
  refine c_acopy (pc := 27) d_Arrays_copyOfRangeByte_27 ac9_Arrays_150 (Nat.le_of_ble_eq_true rfl) e10 ?_
  refine x_aload (pc := 30) d_Arrays_copyOfRangeByte_30 rfl ?_
  cases h
  exact x_aret (pc := 32) d_Arrays_copyOfRangeByte_32 rfl (Or.inr ⟨_, rfl⟩) hQ
def f_Arrays_copyOfRange_b10 (sc : xSc)  (l0 : Option Nat) (l1 : Int32) (l2 : Int32) (u : xH) : Option (Option Nat × xH) := (f_Arrays_copyOfRangeByte sc u l0 l1 l2).bind fun (v2, u1) => some (v2, u1)
theorem w_Arrays_copyOfRange_b10 {sc : xSc} {d : Nat} {Q : xR → xH → Prop} {hZ : xH} {rZ : Option Nat}  (hQ : Q (.inl (some (vR rZ))) hZ) (l0 : Option Nat) (l1 : Int32) (l2 : Int32) (u : xH) (h : f_Arrays_copyOfRange_b10 sc  l0 l1 l2 u = some (rZ, hZ)) : xW sc m_Arrays_copyOfRange (d + 2) Q (u) 10 [some (vR l0), some (vI l1), some (vI l2)] [] := by
  unfold f_Arrays_copyOfRange_b10 at h
  refine x_aload_n (pc := 10) d_Arrays_copyOfRange_10 rfl ?_
  refine x_iload_n (pc := 11) d_Arrays_copyOfRange_11 rfl ?_
  refine x_iload_n (pc := 12) d_Arrays_copyOfRange_12 rfl ?_
  obtain ⟨⟨v2, u1⟩, e3, h⟩ := Option.bind_eq_some_iff.mp h
  dsimp only at h
  refine x_invs (d := d + 1) (av := [vR l0, vI l1, vI l2]) (st := []) (Q' := fun r h' => r = .inl (some (vR v2)) ∧ h' = u1) (pc := 13) d_Arrays_copyOfRange_13 cs_Arrays_339 y_Arrays_copyOfRangeByte rfl (Nat.le_of_ble_eq_true rfl) (Nat.le_of_ble_eq_true rfl) (w_Arrays_copyOfRangeByte (d := d + 0) (Q := fun r h' => r = .inl (some (vR v2)) ∧ h' = u1) ⟨rfl, rfl⟩ u l0 l1 l2 e3) (fun v h' z => ?_) (fun a h' z => nomatch z.1)
  obtain ⟨z1, z2⟩ := z
  subst h'
  cases z1
  show xW sc m_Arrays_copyOfRange (d + 2) Q (u1) 16 [some (vR l0), some (vI l1), some (vI l2)] [vR v2]
  cases h
  exact x_aret (pc := 16) d_Arrays_copyOfRange_16 rfl (Or.inr ⟨_, rfl⟩) hQ
def f_Arrays_copyOfRange (sc : xSc) (u : xH) (a1 : Option Nat) (a2 : Int32) (a3 : Int32) : Option (Option Nat × xH) := (if a2 = 0 then (aN sc u a1).bind fun v2 => (if a3 = v2 then none else f_Arrays_copyOfRange_b10 sc a1 a2 a3 u) else f_Arrays_copyOfRange_b10 sc a1 a2 a3 u)
theorem w_Arrays_copyOfRange {sc : xSc} {d : Nat} {Q : xR → xH → Prop} {hZ : xH} {rZ : Option Nat} (hQ : Q (.inl (some (vR rZ))) hZ) (u : xH) (a1 : Option Nat) (a2 : Int32) (a3 : Int32) (h : f_Arrays_copyOfRange sc u a1 a2 a3 = some (rZ, hZ)) : xW sc m_Arrays_copyOfRange (d + 2) Q (u) 0 (xent [vR a1, vI a2, vI a3] m_Arrays_copyOfRange.2.2.1) [] := by
  show xW sc m_Arrays_copyOfRange (d + 2) Q (u) 0 [some (vR a1), some (vI a2), some (vI a3)] []
  unfold f_Arrays_copyOfRange at h
  refine x_iload_n (pc := 0) d_Arrays_copyOfRange_0 rfl ?_
  refine x_if_ne (tgt := 10) (pc := 1) d_Arrays_copyOfRange_1 (by decide) (fun c1 => ?_) (fun c1 => ?_)
  · rw [if_neg c1] at h
    exact w_Arrays_copyOfRange_b10 hQ a1 a2 a3 u h
  · rw [if_pos c1] at h
    refine x_iload_n (pc := 4) d_Arrays_copyOfRange_4 rfl ?_
    refine x_aload_n (pc := 5) d_Arrays_copyOfRange_5 rfl ?_
    obtain ⟨v2, e3, h⟩ := Option.bind_eq_some_iff.mp h
    refine c_alen (pc := 6) d_Arrays_copyOfRange_6 e3 ?_
    refine x_icmp_eq (tgt := 17) (pc := 7) d_Arrays_copyOfRange_7 (by decide) (fun c4 => ?_) (fun c4 => ?_)
    · rw [if_pos c4] at h
      refine x_aload_n (pc := 17) d_Arrays_copyOfRange_17 rfl ?_
      cases h
    · rw [if_neg c4] at h
      exact w_Arrays_copyOfRange_b10 hQ a1 a2 a3 u h
def f_Slot_init (sc : xSc) (u : xH) (a0 : Option Nat) : Option xH := (if a0.isSome = true then (pV u 2 0 a0 (vR (some 72))).bind fun u2 => some u2 else none)
theorem w_Slot_init {sc : xSc} {d : Nat} {Q : xR → xH → Prop} {hZ : xH} (hQ : Q (.inl none) hZ) (u : xH) (a0 : Option Nat) (h : f_Slot_init sc u a0 = some hZ) : xW sc m_Slot_init (d + 1) Q (u) 0 (xent [vR a0] m_Slot_init.2.2.1) [] := by
  show xW sc m_Slot_init (d + 1) Q (u) 0 [some (vR a0)] []
  unfold f_Slot_init at h
  refine x_aload_n (pc := 0) d_Slot_init_0 rfl ?_
  obtain ⟨c1, h⟩ := ite_some h
  refine c_obj (d := d + 0) (pc := 1) d_Slot_init_1 (tw_4 (List.mem_of_getElem? (i := 158) rfl)) oi_1 oi_2 (Nat.le_of_ble_eq_true rfl) c1 ?_
  refine x_aload_n (pc := 4) d_Slot_init_4 rfl ?_
  refine x_gets (v := vR (some 72)) (pc := 5) d_Slot_init_5 sl_Slot_7 ?_
  obtain ⟨u2, e3, h⟩ := Option.bind_eq_some_iff.mp h
  refine c_putf (pc := 8) d_Slot_init_8 l_Slot_13 fp_2_0 (xfit_obj) e3 ?_
  cases h
  exact x_vret (pc := 11) d_Slot_init_11 rfl hQ
def f_Entry_init (sc : xSc) (u : xH) (a0 : Option Nat) (a1 : Option Nat) (a2 : Option Nat) (a3 : Option Nat) : Option xH := (if a0.isSome = true then (f_Record_init a0).bind fun v2 => (pV u 5 0 a0 (vR a1)).bind fun u4 => (pV u4 5 1 a0 (vR a2)).bind fun u6 => (pV u6 5 2 a0 (vR a3)).bind fun u8 => some u8 else none)
theorem w_Entry_init {sc : xSc} {d : Nat} {Q : xR → xH → Prop} {hZ : xH} (hQ : Q (.inl none) hZ) (u : xH) (a0 : Option Nat) (a1 : Option Nat) (a2 : Option Nat) (a3 : Option Nat) (h : f_Entry_init sc u a0 a1 a2 a3 = some hZ) : xW sc m_Entry_init (d + 2) Q (u) 0 (xent [vR a0, vR a1, vR a2, vR a3] m_Entry_init.2.2.1) [] := by
  show xW sc m_Entry_init (d + 2) Q (u) 0 [some (vR a0), some (vR a1), some (vR a2), some (vR a3)] []
  unfold f_Entry_init at h
  refine x_aload_n (pc := 0) d_Entry_init_0 rfl ?_
  obtain ⟨c1, h⟩ := ite_some h
  obtain ⟨v2, e3, h⟩ := Option.bind_eq_some_iff.mp h
  refine c_invi (d := d + 1) (av := []) (st := []) (Q' := fun r h' => r = .inl none ∧ h' = u) (pc := 1) d_Entry_init_1 ci_Entry_1 y_Record_init (tw_3 (List.mem_of_getElem? (i := 15) rfl)) c1 rfl (Nat.le_of_ble_eq_true rfl) (Nat.le_of_ble_eq_true rfl) (w_Record_init (d := d + 0) (Q := fun r h' => r = .inl none ∧ h' = u) (hh := u) ⟨rfl, rfl⟩ a0 e3) (fun v h' z => ?_) (fun a h' z => nomatch z.1)
  obtain ⟨z1, z2⟩ := z
  subst h'
  cases z1
  show xW sc m_Entry_init (d + 2) Q (u) 4 [some (vR a0), some (vR a1), some (vR a2), some (vR a3)] []
  refine x_aload_n (pc := 4) d_Entry_init_4 rfl ?_
  refine x_aload_n (pc := 5) d_Entry_init_5 rfl ?_
  obtain ⟨u4, e5, h⟩ := Option.bind_eq_some_iff.mp h
  refine c_putF (pc := 6) d_Entry_init_6 l_Entry_7 fp_5_0 rfl fo_Entry_7 (xfit_obj) e5 ?_
  refine x_aload_n (pc := 9) d_Entry_init_9 rfl ?_
  refine x_aload_n (pc := 10) d_Entry_init_10 rfl ?_
  obtain ⟨u6, e7, h⟩ := Option.bind_eq_some_iff.mp h
  refine c_putF (pc := 11) d_Entry_init_11 l_Entry_13 fp_5_1 rfl fo_Entry_13 (xfit_obj) e7 ?_
  refine x_aload_n (pc := 14) d_Entry_init_14 rfl ?_
  refine x_aload_n (pc := 15) d_Entry_init_15 rfl ?_
  obtain ⟨u8, e9, h⟩ := Option.bind_eq_some_iff.mp h
  refine c_putF (pc := 16) d_Entry_init_16 l_Entry_17 fp_5_2 rfl fo_Entry_17 (xfit_obj) e9 ?_
  cases h
  exact x_vret (pc := 19) d_Entry_init_19 rfl hQ
def f_Entry_value (sc : xSc) (u : xH) (a0 : Option Nat) : Option (Option Nat) := (gR sc u 5 1 a0).bind fun v1 => some v1
theorem w_Entry_value {sc : xSc} {d : Nat} {Q : xR → xH → Prop} {u : xH} {rZ : Option Nat} (hQ : Q (.inl (some (vR rZ))) u) (a0 : Option Nat) (h : f_Entry_value sc u a0 = some rZ) : xW sc m_Entry_value (d + 0) Q (u) 0 (xent [vR a0] m_Entry_value.2.2.1) [] := by
  show xW sc m_Entry_value (d + 0) Q (u) 0 [some (vR a0)] []
  unfold f_Entry_value at h
  refine x_aload_n (pc := 0) d_Entry_value_0 rfl ?_
  obtain ⟨v1, e2, h⟩ := Option.bind_eq_some_iff.mp h
  refine c_getR (pc := 1) d_Entry_value_1 l_Entry_13 e2 ?_
  cases h
  exact x_aret (pc := 4) d_Entry_value_4 rfl (Or.inl ⟨_, rfl⟩) hQ
def f_Dict_add (sc : xSc) (u : xH) (a0 : Option Nat) (a1 : Option Nat) : Option (Option Nat × xH) := (nO 5 3 3 u).bind fun u1 => (nO 2 8 8 u1).bind fun u3 => (if (some u1.2.1).isSome = true then (f_Slot_init sc u3 (some u1.2.1)).bind fun u6 => (gR sc u6 4 3 a0).bind fun v8 => (if (some u.2.1).isSome = true then (f_Entry_init sc u6 (some u.2.1) a1 (some u1.2.1) v8).bind fun u11 => (pV u11 4 3 a0 (vR (some u.2.1))).bind fun u13 => (gI sc u13 4 2 a0).bind fun v15 => (pV u13 4 2 a0 (vI (v15 + (1 : Int32)))).bind fun u17 => (gR sc u17 4 3 a0).bind fun v19 => (if xis sc u17 5 v19 = true then (f_Entry_value sc u17 v19).bind fun v22 => some (v22, u17) else none) else none) else none)
theorem w_Dict_add {sc : xSc} {d : Nat} {Q : xR → xH → Prop} {hZ : xH} {rZ : Option Nat} (hQ : Q (.inl (some (vR rZ))) hZ) (u : xH) (a0 : Option Nat) (a1 : Option Nat) (h : f_Dict_add sc u a0 a1 = some (rZ, hZ)) : xW sc m_Dict_add (d + 3) Q (u) 0 (xent [vR a0, vR a1] m_Dict_add.2.2.1) [] := by
  show xW sc m_Dict_add (d + 3) Q (u) 0 [some (vR a0), some (vR a1)] []
  unfold f_Dict_add at h
  refine x_aload_n (pc := 0) d_Dict_add_0 rfl ?_
  obtain ⟨u1, e2, h⟩ := Option.bind_eq_some_iff.mp h
  refine c_new (pc := 1) d_Dict_add_1 nw_Dict_21 ly_5 ⟨_, rfl, rfl⟩ e2 ?_
  refine x_dup (pc := 4) d_Dict_add_4 rfl ?_
  refine x_aload_n (pc := 5) d_Dict_add_5 rfl ?_
  obtain ⟨u3, e4, h⟩ := Option.bind_eq_some_iff.mp h
  refine c_new (pc := 6) d_Dict_add_6 nw_Dict_34 ly_2 ⟨_, rfl, rfl⟩ e4 ?_
  refine x_dup (pc := 9) d_Dict_add_9 rfl ?_
  obtain ⟨c5, h⟩ := ite_some h
  obtain ⟨u6, e7, h⟩ := Option.bind_eq_some_iff.mp h
  refine c_invi (d := d + 2) (av := []) (st := [vR (some u1.2.1), vR a1, vR (some u.2.1), vR (some u.2.1), vR a0]) (Q' := fun r h' => r = .inl none ∧ h' = u6) (pc := 10) d_Dict_add_10 ci_Dict_36 y_Slot_init (tw_4 (List.mem_of_getElem? (i := 157) rfl)) c5 rfl (Nat.le_of_ble_eq_true rfl) (Nat.le_of_ble_eq_true rfl) (w_Slot_init (d := d + 1) (Q := fun r h' => r = .inl none ∧ h' = u6) ⟨rfl, rfl⟩ u3 (some u1.2.1) e7) (fun v h' z => ?_) (fun a h' z => nomatch z.1)
  obtain ⟨z1, z2⟩ := z
  subst h'
  cases z1
  show xW sc m_Dict_add (d + 3) Q (u6) 13 [some (vR a0), some (vR a1)] [vR (some u1.2.1), vR a1, vR (some u.2.1), vR (some u.2.1), vR a0]
  refine x_aload_n (pc := 13) d_Dict_add_13 rfl ?_
  obtain ⟨v8, e9, h⟩ := Option.bind_eq_some_iff.mp h
  refine c_getR (pc := 14) d_Dict_add_14 l_Dict_16 e9 ?_
  obtain ⟨c10, h⟩ := ite_some h
  obtain ⟨u11, e12, h⟩ := Option.bind_eq_some_iff.mp h
  refine c_invi (d := d + 2) (av := [vR a1, vR (some u1.2.1), vR v8]) (st := [vR (some u.2.1), vR a0]) (Q' := fun r h' => r = .inl none ∧ h' = u11) (pc := 17) d_Dict_add_17 ci_Dict_37 y_Entry_init (tw_6 (List.mem_of_getElem? (i := 171) rfl)) c10 rfl (Nat.le_of_ble_eq_true rfl) (Nat.le_of_ble_eq_true rfl) (w_Entry_init (d := d + 0) (Q := fun r h' => r = .inl none ∧ h' = u11) ⟨rfl, rfl⟩ u6 (some u.2.1) a1 (some u1.2.1) v8 e12) (fun v h' z => ?_) (fun a h' z => nomatch z.1)
  obtain ⟨z1, z2⟩ := z
  subst h'
  cases z1
  show xW sc m_Dict_add (d + 3) Q (u11) 20 [some (vR a0), some (vR a1)] [vR (some u.2.1), vR a0]
  obtain ⟨u13, e14, h⟩ := Option.bind_eq_some_iff.mp h
  refine c_putf (pc := 20) d_Dict_add_20 l_Dict_16 fp_4_3 (xfit_obj) e14 ?_
  refine x_aload_n (pc := 23) d_Dict_add_23 rfl ?_
  refine x_dup (pc := 24) d_Dict_add_24 rfl ?_
  obtain ⟨v15, e16, h⟩ := Option.bind_eq_some_iff.mp h
  refine c_getI (pc := 25) d_Dict_add_25 l_Dict_40 e16 ?_
  refine x_iconst (v := (1 : Int32)) (pc := 28) d_Dict_add_28 (by decide) ?_
  refine x_iadd (pc := 29) d_Dict_add_29 ?_
  obtain ⟨u17, e18, h⟩ := Option.bind_eq_some_iff.mp h
  refine c_putf (pc := 30) d_Dict_add_30 l_Dict_40 fp_4_2 (xfit_int) e18 ?_
  refine x_aload_n (pc := 33) d_Dict_add_33 rfl ?_
  obtain ⟨v19, e20, h⟩ := Option.bind_eq_some_iff.mp h
  refine c_getR (pc := 34) d_Dict_add_34 l_Dict_16 e20 ?_
  obtain ⟨c21, h⟩ := ite_some h
  obtain ⟨v22, e23, h⟩ := Option.bind_eq_some_iff.mp h
  refine c_invv (c := 5) (d := d + 2) (av := []) (st := []) (Q' := fun r h' => r = .inl (some (vR v22)) ∧ h' = u17) (pc := 37) d_Dict_add_37 cv_Dict_30 y_Entry_value c21 rfl (Nat.le_of_ble_eq_true rfl) (Nat.le_of_ble_eq_true rfl) (w_Entry_value (d := d + 2) (Q := fun r h' => r = .inl (some (vR v22)) ∧ h' = u17) ⟨rfl, rfl⟩ v19 e23) (fun v h' z => ?_) (fun a h' z => nomatch z.1)
  obtain ⟨z1, z2⟩ := z
  subst h'
  cases z1
  show xW sc m_Dict_add (d + 3) Q (u17) 40 [some (vR a0), some (vR a1)] [vR v22]
  cases h
  exact x_aret (pc := 40) d_Dict_add_40 rfl (Or.inl ⟨_, rfl⟩) hQ
def f_Entry_key (sc : xSc) (u : xH) (a0 : Option Nat) : Option (Option Nat) := (gR sc u 5 0 a0).bind fun v1 => some v1
theorem w_Entry_key {sc : xSc} {d : Nat} {Q : xR → xH → Prop} {u : xH} {rZ : Option Nat} (hQ : Q (.inl (some (vR rZ))) u) (a0 : Option Nat) (h : f_Entry_key sc u a0 = some rZ) : xW sc m_Entry_key (d + 0) Q (u) 0 (xent [vR a0] m_Entry_key.2.2.1) [] := by
  show xW sc m_Entry_key (d + 0) Q (u) 0 [some (vR a0)] []
  unfold f_Entry_key at h
  refine x_aload_n (pc := 0) d_Entry_key_0 rfl ?_
  obtain ⟨v1, e2, h⟩ := Option.bind_eq_some_iff.mp h
  refine c_getR (pc := 1) d_Entry_key_1 l_Entry_7 e2 ?_
  cases h
  exact x_aret (pc := 4) d_Entry_key_4 rfl (Or.inl ⟨_, rfl⟩) hQ
def f_Dict_find_b37 (sc : xSc) (u : xH)  (t0 : Option Nat) : Option (Option Nat) := some t0
theorem w_Dict_find_b37 {sc : xSc} {d : Nat} {Q : xR → xH → Prop} {u : xH} {rZ : Option Nat}  (hQ : Q (.inl (some (vR rZ))) u) (t0 : Option Nat) (h : f_Dict_find_b37 sc u  t0 = some rZ) : xW sc m_Dict_find (d + 1) Q (u) 37 [none, none, none] [vR t0] := by
  unfold f_Dict_find_b37 at h
  cases h
  exact x_aret (pc := 37) d_Dict_find_37 rfl (Or.inl ⟨_, rfl⟩) hQ
def f_Dict_find_b25 (sc : xSc) (u : xH)  (l2 : Option Nat) : Option (Option Nat) := (if l2 = none then f_Dict_find_b37 sc u none else (if xis sc u 5 l2 = true then (f_Entry_value sc u l2).bind fun v3 => f_Dict_find_b37 sc u v3 else none))
theorem w_Dict_find_b25 {sc : xSc} {d : Nat} {Q : xR → xH → Prop} {u : xH} {rZ : Option Nat}  (hQ : Q (.inl (some (vR rZ))) u) (l2 : Option Nat) (h : f_Dict_find_b25 sc u  l2 = some rZ) : xW sc m_Dict_find (d + 1) Q (u) 25 [none, none, some (vR l2)] [] := by
  unfold f_Dict_find_b25 at h
  refine x_aload_n (pc := 25) d_Dict_find_25 rfl ?_
  refine c_ifnonnull (tgt := 33) (pc := 26) d_Dict_find_26 (by decide) (fun c1 => ?_) (fun c1 => ?_)
  · rw [if_neg c1] at h
    refine x_aload_n (pc := 33) d_Dict_find_33 rfl ?_
    obtain ⟨c2, h⟩ := ite_some h
    obtain ⟨v3, e4, h⟩ := Option.bind_eq_some_iff.mp h
    refine c_invv (c := 5) (d := d + 0) (av := []) (st := []) (Q' := fun r h' => r = .inl (some (vR v3)) ∧ h' = u) (pc := 34) d_Dict_find_34 cv_Dict_30 y_Entry_value c2 rfl (Nat.le_of_ble_eq_true rfl) (Nat.le_of_ble_eq_true rfl) (w_Entry_value (d := d + 0) (Q := fun r h' => r = .inl (some (vR v3)) ∧ h' = u) ⟨rfl, rfl⟩ l2 e4) (fun v h' z => ?_) (fun a h' z => nomatch z.1)
    obtain ⟨z1, z2⟩ := z
    subst h'
    cases z1
    show xW sc m_Dict_find (d + 1) Q (u) 37 [none, none, some (vR l2)] [vR v3]
    exact x_wk (L' := [none, none, none]) ⟨Or.inl rfl, Or.inl rfl, Or.inl rfl, trivial⟩ (w_Dict_find_b37 hQ v3 h)
  · rw [if_pos c1] at h
    refine x_null (pc := 29) d_Dict_find_29 ?_
    refine x_goto (tgt := 37) (pc := 30) d_Dict_find_30 (by decide) ?_
    exact x_wk (L' := [none, none, none]) ⟨Or.inl rfl, Or.inl rfl, Or.inl rfl, trivial⟩ (w_Dict_find_b37 hQ none h)
def f_Dict_find_b5 (sc : xSc) (u : xH)  : Nat → Option Nat → Option Nat → Option (Option Nat)
  | 0, _, _ => none
  | n + 1, l1, l2 => (if l2 = none then f_Dict_find_b25 sc u l2 else (if xis sc u 5 l2 = true then (f_Entry_key sc u l2).bind fun v3 => (if xcm v3 = true then (if xcm l1 = true then (if v3 = l1 then f_Dict_find_b25 sc u l2 else (if xis sc u 5 l2 = true then (f_Entry_next sc u l2).bind fun v9 => (f_Dict_find_b5 sc u n) l1 v9 else none)) else none) else none) else none))
theorem w_Dict_find_b5 {sc : xSc} {d : Nat} {Q : xR → xH → Prop} {u : xH} {rZ : Option Nat}  (hQ : Q (.inl (some (vR rZ))) u) : ∀ (n : Nat) (l1 : Option Nat) (l2 : Option Nat), f_Dict_find_b5 sc u  n l1 l2 = some rZ → xW sc m_Dict_find (d + 1) Q (u) 5 [none, some (vR l1), some (vR l2)] [] := by
  intro n
  induction n with
  | zero =>
    intro l1 l2 h
    cases h
  | succ n hk5 =>
    intro l1 l2 h
    unfold f_Dict_find_b5 at h
    refine x_aload_n (pc := 5) d_Dict_find_5 rfl ?_
    refine c_ifnull (tgt := 25) (pc := 6) d_Dict_find_6 (by decide) (fun c1 => ?_) (fun c1 => ?_)
    · rw [if_pos c1] at h
      exact x_wk (L' := [none, none, some (vR l2)]) ⟨Or.inl rfl, Or.inl rfl, Or.inr rfl, trivial⟩ (w_Dict_find_b25 hQ l2 h)
    · rw [if_neg c1] at h
      refine x_aload_n (pc := 9) d_Dict_find_9 rfl ?_
      obtain ⟨c2, h⟩ := ite_some h
      obtain ⟨v3, e4, h⟩ := Option.bind_eq_some_iff.mp h
      refine c_invv (c := 5) (d := d + 0) (av := []) (st := []) (Q' := fun r h' => r = .inl (some (vR v3)) ∧ h' = u) (pc := 10) d_Dict_find_10 cv_Dict_20 y_Entry_key c2 rfl (Nat.le_of_ble_eq_true rfl) (Nat.le_of_ble_eq_true rfl) (w_Entry_key (d := d + 0) (Q := fun r h' => r = .inl (some (vR v3)) ∧ h' = u) ⟨rfl, rfl⟩ l2 e4) (fun v h' z => ?_) (fun a h' z => nomatch z.1)
      obtain ⟨z1, z2⟩ := z
      subst h'
      cases z1
      show xW sc m_Dict_find (d + 1) Q (u) 13 [none, some (vR l1), some (vR l2)] [vR v3]
      refine x_aload_n (pc := 13) d_Dict_find_13 rfl ?_
      obtain ⟨c5, h⟩ := ite_some h
      obtain ⟨c6, h⟩ := ite_some h
      refine x_acmp_eq (tgt := 25) (pc := 14) d_Dict_find_14 (by decide) (xcm_s c5) (xcm_s c6) (fun c7 => ?_) (fun c7 => ?_)
      · rw [if_pos c7] at h
        exact x_wk (L' := [none, none, some (vR l2)]) ⟨Or.inl rfl, Or.inl rfl, Or.inr rfl, trivial⟩ (w_Dict_find_b25 hQ l2 h)
      · rw [if_neg c7] at h
        refine x_aload_n (pc := 17) d_Dict_find_17 rfl ?_
        obtain ⟨c8, h⟩ := ite_some h
        obtain ⟨v9, e10, h⟩ := Option.bind_eq_some_iff.mp h
        refine c_invv (c := 5) (d := d + 0) (av := []) (st := []) (Q' := fun r h' => r = .inl (some (vR v9)) ∧ h' = u) (pc := 18) d_Dict_find_18 cv_Dict_26 y_Entry_next c8 rfl (Nat.le_of_ble_eq_true rfl) (Nat.le_of_ble_eq_true rfl) (w_Entry_next (d := d + 0) (Q := fun r h' => r = .inl (some (vR v9)) ∧ h' = u) ⟨rfl, rfl⟩ l2 e10) (fun v h' z => ?_) (fun a h' z => nomatch z.1)
        obtain ⟨z1, z2⟩ := z
        subst h'
        cases z1
        show xW sc m_Dict_find (d + 1) Q (u) 21 [none, some (vR l1), some (vR l2)] [vR v9]
        refine x_astore_n (pc := 21) d_Dict_find_21 (by decide) ?_
        show xW sc m_Dict_find (d + 1) Q (u) 22 [none, some (vR l1), some (vR v9)] []
        refine x_goto (tgt := 5) (pc := 22) d_Dict_find_22 (by decide) ?_
        exact hk5 l1 v9 h
def f_Dict_find (sc : xSc) (u : xH) (a0 : Option Nat) (a1 : Option Nat) : Option (Option Nat) := (gR sc u 4 3 a0).bind fun v1 => f_Dict_find_b5 sc u mF a1 v1
theorem w_Dict_find {sc : xSc} {d : Nat} {Q : xR → xH → Prop} {u : xH} {rZ : Option Nat} (hQ : Q (.inl (some (vR rZ))) u) (a0 : Option Nat) (a1 : Option Nat) (h : f_Dict_find sc u a0 a1 = some rZ) : xW sc m_Dict_find (d + 1) Q (u) 0 (xent [vR a0, vR a1] m_Dict_find.2.2.1) [] := by
  show xW sc m_Dict_find (d + 1) Q (u) 0 [some (vR a0), some (vR a1), none] []
  unfold f_Dict_find at h
  refine x_aload_n (pc := 0) d_Dict_find_0 rfl ?_
  obtain ⟨v1, e2, h⟩ := Option.bind_eq_some_iff.mp h
  refine c_getR (pc := 1) d_Dict_find_1 l_Dict_16 e2 ?_
  refine x_astore_n (pc := 4) d_Dict_find_4 (by decide) ?_
  show xW sc m_Dict_find (d + 1) Q (u) 5 [some (vR a0), some (vR a1), some (vR v1)] []
  exact x_wk (L' := [none, some (vR a1), some (vR v1)]) ⟨Or.inl rfl, Or.inr rfl, Or.inr rfl, trivial⟩ (w_Dict_find_b5 hQ mF a1 v1 h)
def f_Dict_init (sc : xSc) (u : xH) (a0 : Option Nat) (a1 : Int32) (a2 : Int32) : Option xH := (if a0.isSome = true then (pV u 4 0 a0 (vI a1)).bind fun u2 => (pV u2 4 1 a0 (vI a2)).bind fun u4 => some u4 else none)
theorem w_Dict_init {sc : xSc} {d : Nat} {Q : xR → xH → Prop} {hZ : xH} (hQ : Q (.inl none) hZ) (u : xH) (a0 : Option Nat) (a1 : Int32) (a2 : Int32) (h : f_Dict_init sc u a0 a1 a2 = some hZ) : xW sc m_Dict_init (d + 1) Q (u) 0 (xent [vR a0, vI a1, vI a2] m_Dict_init.2.2.1) [] := by
  show xW sc m_Dict_init (d + 1) Q (u) 0 [some (vR a0), some (vI a1), some (vI a2)] []
  unfold f_Dict_init at h
  refine x_aload_n (pc := 0) d_Dict_init_0 rfl ?_
  obtain ⟨c1, h⟩ := ite_some h
  refine c_obj (d := d + 0) (pc := 1) d_Dict_init_1 (tw_3 (List.mem_of_getElem? (i := 33) rfl)) oi_1 oi_2 (Nat.le_of_ble_eq_true rfl) c1 ?_
  refine x_aload_n (pc := 4) d_Dict_init_4 rfl ?_
  refine x_iload_n (pc := 5) d_Dict_init_5 rfl ?_
  obtain ⟨u2, e3, h⟩ := Option.bind_eq_some_iff.mp h
  refine c_putF (pc := 6) d_Dict_init_6 l_Dict_7 fp_4_0 rfl fo_Dict_7 (xfit_int) e3 ?_
  refine x_aload_n (pc := 9) d_Dict_init_9 rfl ?_
  refine x_iload_n (pc := 10) d_Dict_init_10 rfl ?_
  obtain ⟨u4, e5, h⟩ := Option.bind_eq_some_iff.mp h
  refine c_putF (pc := 11) d_Dict_init_11 l_Dict_13 fp_4_1 rfl fo_Dict_13 (xfit_int) e5 ?_
  cases h
  exact x_vret (pc := 14) d_Dict_init_14 rfl hQ
def f_Group_init  (a0 : Option Nat) : Option Unit := (if a0.isSome = true then some () else none)
theorem w_Group_init {sc : xSc} {d : Nat} {Q : xR → xH → Prop} {hh : xH} {rZ : Unit} (hQ : Q (.inl none) hh) (a0 : Option Nat) (h : f_Group_init  a0 = some rZ) : xW sc m_Group_init (d + 1) Q (hh) 0 (xent [vR a0] m_Group_init.2.2.1) [] := by
  show xW sc m_Group_init (d + 1) Q (hh) 0 [some (vR a0)] []
  unfold f_Group_init at h
  refine x_aload_n (pc := 0) d_Group_init_0 rfl ?_
  obtain ⟨c1, h⟩ := ite_some h
  refine c_obj (d := d + 0) (pc := 1) d_Group_init_1 (tw_1 (List.mem_of_getElem? (i := 64) rfl)) oi_1 oi_2 (Nat.le_of_ble_eq_true rfl) c1 ?_
  cases h
  exact x_vret (pc := 4) d_Group_init_4 rfl hQ
def f_Flow_init  (a0 : Option Nat) : Option Unit := (if a0.isSome = true then (f_Group_init a0).bind fun v2 => some () else none)
theorem w_Flow_init {sc : xSc} {d : Nat} {Q : xR → xH → Prop} {hh : xH} {rZ : Unit} (hQ : Q (.inl none) hh) (a0 : Option Nat) (h : f_Flow_init  a0 = some rZ) : xW sc m_Flow_init (d + 2) Q (hh) 0 (xent [vR a0] m_Flow_init.2.2.1) [] := by
  show xW sc m_Flow_init (d + 2) Q (hh) 0 [some (vR a0)] []
  unfold f_Flow_init at h
  refine x_aload_n (pc := 0) d_Flow_init_0 rfl ?_
  obtain ⟨c1, h⟩ := ite_some h
  obtain ⟨v2, e3, h⟩ := Option.bind_eq_some_iff.mp h
  refine c_invi (d := d + 1) (av := []) (st := []) (Q' := fun r h' => r = .inl none ∧ h' = hh) (pc := 1) d_Flow_init_1 ci_Flow_3 y_Group_init (tw_1 (List.mem_of_getElem? (i := 63) rfl)) c1 rfl (Nat.le_of_ble_eq_true rfl) (Nat.le_of_ble_eq_true rfl) (w_Group_init (d := d + 0) (Q := fun r h' => r = .inl none ∧ h' = hh) ⟨rfl, rfl⟩ a0 e3) (fun v h' z => ?_) (fun a h' z => nomatch z.1)
  obtain ⟨z1, z2⟩ := z
  subst h'
  cases z1
  show xW sc m_Flow_init (d + 2) Q (hh) 4 [some (vR a0)] []
  cases h
  exact x_vret (pc := 4) d_Flow_init_4 rfl hQ
def f_P_need (sc : xSc) (u : xH) (a0 : Option Nat) (a1 : Int32) (a2 : Int32) : Option ((Unit ⊕ Nat) × xH) := (if a1 = 0 then (pV u 0 17 a0 (vI a2)).bind fun u2 => (pV u2 0 18 a0 (vI a2)).bind fun u4 => (if xrm u4 6 = true then some (.inr u4.2.1, xnew u4 (.inl (21, [])) 6) else none) else some (.inl (), u))
theorem w_P_need {sc : xSc} {d : Nat} {Q : xR → xH → Prop} {oZ : Unit ⊕ Nat} {hZ : xH} (hQ : Q (cvU oZ) hZ) (u : xH) (a0 : Option Nat) (a1 : Int32) (a2 : Int32) (h : f_P_need sc u a0 a1 a2 = some (oZ, hZ)) : xW sc m_P_need (d + 6) Q (u) 0 (xent [vR a0, vI a1, vI a2] m_P_need.2.2.1) [] := by
  show xW sc m_P_need (d + 6) Q (u) 0 [some (vR a0), some (vI a1), some (vI a2)] []
  unfold f_P_need at h
  refine x_iload_n (pc := 0) d_P_need_0 rfl ?_
  refine x_if_eq (tgt := 5) (pc := 1) d_P_need_1 (by decide) (fun c1 => ?_) (fun c1 => ?_)
  · rw [if_pos c1] at h
    refine x_aload_n (pc := 5) d_P_need_5 rfl ?_
    refine x_iload_n (pc := 6) d_P_need_6 rfl ?_
    obtain ⟨u2, e3, h⟩ := Option.bind_eq_some_iff.mp h
    refine c_putf (pc := 7) d_P_need_7 l_P_161 fp_0_17 (xfit_int) e3 ?_
    refine x_aload_n (pc := 10) d_P_need_10 rfl ?_
    refine x_iload_n (pc := 11) d_P_need_11 rfl ?_
    obtain ⟨u4, e5, h⟩ := Option.bind_eq_some_iff.mp h
    refine c_putf (pc := 12) d_P_need_12 l_P_164 fp_0_18 (xfit_int) e5 ?_
    obtain ⟨c6, h⟩ := ite_some h
    cases h
    exact x_throwNew (d := d + 0) (c := 21) (pc := 15) d_P_need_15 d_P_need_18 d_P_need_19 d_P_need_22 (xno rfl) nw_P_167 ex_P_169 (by decide) (Nat.le_of_ble_eq_true rfl) (xrm_s c6).1 (xrm_s c6).2 hQ
  · rw [if_neg c1] at h
    cases h
    exact x_vret (pc := 4) d_P_need_4 rfl hQ
def f_Slot_isProcedure_b22 (sc : xSc) (u : xH)  (t0 : Int32) : Option Int32 := (if xbo t0 = true then some t0 else none)
theorem w_Slot_isProcedure_b22 {sc : xSc} {d : Nat} {Q : xR → xH → Prop} {u : xH} {rZ : Int32}  (hQ : Q (.inl (some (vI rZ))) u) (t0 : Int32) (h : f_Slot_isProcedure_b22 sc u  t0 = some rZ) : xW sc m_Slot_isProcedure (d + 0) Q (u) 22 [none] [vI t0] := by
  unfold f_Slot_isProcedure_b22 at h
  obtain ⟨c1, h⟩ := ite_some h
  cases h
  exact x_iret (ty := .boolean) (pc := 22) d_Slot_isProcedure_22 rfl (xbo_n c1) hQ
def f_Slot_isProcedure_b21 (sc : xSc) (u : xH)   : Option Int32 := f_Slot_isProcedure_b22 sc u (0 : Int32)
theorem w_Slot_isProcedure_b21 {sc : xSc} {d : Nat} {Q : xR → xH → Prop} {u : xH} {rZ : Int32}  (hQ : Q (.inl (some (vI rZ))) u)  (h : f_Slot_isProcedure_b21 sc u   = some rZ) : xW sc m_Slot_isProcedure (d + 0) Q (u) 21 [none] [] := by
  unfold f_Slot_isProcedure_b21 at h
  refine x_iconst (v := (0 : Int32)) (pc := 21) d_Slot_isProcedure_21 (by decide) ?_
  exact w_Slot_isProcedure_b22 hQ (0 : Int32) h
def f_Slot_isProcedure (sc : xSc) (u : xH) (a0 : Option Nat) : Option Int32 := (gR sc u 2 0 a0).bind fun v1 => (if xcm v1 = true then (if xcm (some 77) = true then (if v1 = (some 77) then (gI sc u 2 1 a0).bind fun v6 => (if v6 = 0 then f_Slot_isProcedure_b21 sc u else f_Slot_isProcedure_b22 sc u (1 : Int32)) else f_Slot_isProcedure_b21 sc u) else none) else none)
theorem w_Slot_isProcedure {sc : xSc} {d : Nat} {Q : xR → xH → Prop} {u : xH} {rZ : Int32} (hQ : Q (.inl (some (vI rZ))) u) (a0 : Option Nat) (h : f_Slot_isProcedure sc u a0 = some rZ) : xW sc m_Slot_isProcedure (d + 0) Q (u) 0 (xent [vR a0] m_Slot_isProcedure.2.2.1) [] := by
  show xW sc m_Slot_isProcedure (d + 0) Q (u) 0 [some (vR a0)] []
  unfold f_Slot_isProcedure at h
  refine x_aload_n (pc := 0) d_Slot_isProcedure_0 rfl ?_
  obtain ⟨v1, e2, h⟩ := Option.bind_eq_some_iff.mp h
  refine c_getR (pc := 1) d_Slot_isProcedure_1 l_Slot_13 e2 ?_
  refine x_gets (v := vR (some 77)) (pc := 4) d_Slot_isProcedure_4 sl_Slot_51 ?_
  obtain ⟨c3, h⟩ := ite_some h
  obtain ⟨c4, h⟩ := ite_some h
  refine x_acmp_ne (tgt := 21) (pc := 7) d_Slot_isProcedure_7 (by decide) (xcm_s c3) (xcm_s c4) (fun c5 => ?_) (fun c5 => ?_)
  · rw [if_neg c5] at h
    exact x_wk (L' := [none]) ⟨Or.inl rfl, trivial⟩ (w_Slot_isProcedure_b21 hQ h)
  · rw [if_pos c5] at h
    refine x_aload_n (pc := 10) d_Slot_isProcedure_10 rfl ?_
    obtain ⟨v6, e7, h⟩ := Option.bind_eq_some_iff.mp h
    refine c_getI (pc := 11) d_Slot_isProcedure_11 l_Slot_25 e7 ?_
    refine x_if_eq (tgt := 21) (pc := 14) d_Slot_isProcedure_14 (by decide) (fun c8 => ?_) (fun c8 => ?_)
    · rw [if_pos c8] at h
      exact x_wk (L' := [none]) ⟨Or.inl rfl, trivial⟩ (w_Slot_isProcedure_b21 hQ h)
    · rw [if_neg c8] at h
      refine x_iconst (v := (1 : Int32)) (pc := 17) d_Slot_isProcedure_17 (by decide) ?_
      refine x_goto (tgt := 22) (pc := 18) d_Slot_isProcedure_18 (by decide) ?_
      exact x_wk (L' := [none]) ⟨Or.inl rfl, trivial⟩ (w_Slot_isProcedure_b22 hQ (1 : Int32) h)
def f_P_enter (sc : xSc) (u : xH) (a0 : Option Nat) (a1 : Int32) (a2 : Int32) : Option xH := (gR sc u 0 19 a0).bind fun v1 => (gI sc u 0 21 a0).bind fun v3 => (bI .int u v1 v3 a1).bind fun u5 => (gR sc u5 0 20 a0).bind fun v7 => (gI sc u5 0 21 a0).bind fun v9 => (pV u5 0 21 a0 (vI (v9 + (1 : Int32)))).bind fun u11 => (bI .int u11 v7 v9 a2).bind fun u13 => some u13
theorem w_P_enter {sc : xSc} {d : Nat} {Q : xR → xH → Prop} {hZ : xH} (hQ : Q (.inl none) hZ) (u : xH) (a0 : Option Nat) (a1 : Int32) (a2 : Int32) (h : f_P_enter sc u a0 a1 a2 = some hZ) : xW sc m_P_enter (d + 0) Q (u) 0 (xent [vR a0, vI a1, vI a2] m_P_enter.2.2.1) [] := by
  show xW sc m_P_enter (d + 0) Q (u) 0 [some (vR a0), some (vI a1), some (vI a2)] []
  unfold f_P_enter at h
  refine x_aload_n (pc := 0) d_P_enter_0 rfl ?_
  obtain ⟨v1, e2, h⟩ := Option.bind_eq_some_iff.mp h
  refine c_getR (pc := 1) d_P_enter_1 l_P_80 e2 ?_
  refine x_aload_n (pc := 4) d_P_enter_4 rfl ?_
  obtain ⟨v3, e4, h⟩ := Option.bind_eq_some_iff.mp h
  refine c_getI (pc := 5) d_P_enter_5 l_P_291 e4 ?_
  refine x_iload_n (pc := 8) d_P_enter_8 rfl ?_
  obtain ⟨u5, e6, h⟩ := Option.bind_eq_some_iff.mp h
  refine c_iast (pc := 9) d_P_enter_9 e6 ?_
  refine x_aload_n (pc := 10) d_P_enter_10 rfl ?_
  obtain ⟨v7, e8, h⟩ := Option.bind_eq_some_iff.mp h
  refine c_getR (pc := 11) d_P_enter_11 l_P_84 e8 ?_
  refine x_aload_n (pc := 14) d_P_enter_14 rfl ?_
  refine x_dup (pc := 15) d_P_enter_15 rfl ?_
  obtain ⟨v9, e10, h⟩ := Option.bind_eq_some_iff.mp h
  refine c_getI (pc := 16) d_P_enter_16 l_P_291 e10 ?_
  refine x_dup_x1 (pc := 19) d_P_enter_19 rfl rfl ?_
  refine x_iconst (v := (1 : Int32)) (pc := 20) d_P_enter_20 (by decide) ?_
  refine x_iadd (pc := 21) d_P_enter_21 ?_
  obtain ⟨u11, e12, h⟩ := Option.bind_eq_some_iff.mp h
  refine c_putf (pc := 22) d_P_enter_22 l_P_291 fp_0_21 (xfit_int) e12 ?_
  refine x_iload_n (pc := 25) d_P_enter_25 rfl ?_
  obtain ⟨u13, e14, h⟩ := Option.bind_eq_some_iff.mp h
  refine c_iast (pc := 26) d_P_enter_26 e14 ?_
  cases h
  exact x_vret (pc := 27) d_P_enter_27 rfl hQ
def f_P_call_b59 (rc : rcE) (sc : xSc)  (l0 : Option Nat) (u : xH) : Option ((Unit ⊕ Nat) × xH) := (gI sc u 0 21 l0).bind fun v1 => (pV u 0 21 l0 (vI (v1 - (1 : Int32)))).bind fun u3 => some (.inl (), u3)
theorem w_P_call_b59 {rc : rcE} {D : Nat} {sc : xSc} {d : Nat} {Q : xR → xH → Prop} {oZ : Unit ⊕ Nat} {hZ : xH} (hrc : rcEOK sc D rc)  (hQ : Q (cvU oZ) hZ) (l0 : Option Nat) (u : xH) (h : f_P_call_b59 rc sc  l0 u = some (oZ, hZ)) : xW sc m_P_call (D + d + 7) Q (u) 59 [some (vR l0), none, none, none, none] [] := by
  unfold f_P_call_b59 at h
  refine x_aload_n (pc := 59) d_P_call_59 rfl ?_
  refine x_dup (pc := 60) d_P_call_60 rfl ?_
  obtain ⟨v1, e2, h⟩ := Option.bind_eq_some_iff.mp h
  refine c_getI (pc := 61) d_P_call_61 l_P_291 e2 ?_
  refine x_iconst (v := (1 : Int32)) (pc := 64) d_P_call_64 (by decide) ?_
  refine x_isub (pc := 65) d_P_call_65 ?_
  obtain ⟨u3, e4, h⟩ := Option.bind_eq_some_iff.mp h
  refine c_putf (pc := 66) d_P_call_66 l_P_291 fp_0_21 (xfit_int) e4 ?_
  cases h
  exact x_vret (pc := 69) d_P_call_69 rfl hQ
def f_P_call_b26 (rc : rcE) (sc : xSc)  : Nat → Option Nat → Int32 → Int32 → Int32 → Int32 → xH → Option ((Unit ⊕ Nat) × xH)
  | 0, _, _, _, _, _, _ => none
  | n + 1, l0, l1, l2, l3, l4, u => (if l2 ≤ l4 then f_P_call_b59 rc sc l0 u else (gI sc u 0 24 l0).bind fun v2 => (if v2 = 0 then (gR sc u 0 7 l0).bind fun v5 => (aR sc u v5 (l1 + l4)).bind fun v7 => (if xis sc u 0 l0 = true then tB (rc u l0 v7 l3) (fun v11 u10 => (f_P_call_b26 rc sc n) l0 l1 l2 l3 (l4 + Int32.ofInt 1) u10) (fun a13 u14 => some (.inr a13, u14)) else none) else f_P_call_b59 rc sc l0 u))
theorem w_P_call_b26 {rc : rcE} {D : Nat} {sc : xSc} {d : Nat} {Q : xR → xH → Prop} {oZ : Unit ⊕ Nat} {hZ : xH} (hrc : rcEOK sc D rc)  (hQ : Q (cvU oZ) hZ) : ∀ (n : Nat) (l0 : Option Nat) (l1 : Int32) (l2 : Int32) (l3 : Int32) (l4 : Int32) (u : xH), f_P_call_b26 rc sc  n l0 l1 l2 l3 l4 u = some (oZ, hZ) → xW sc m_P_call (D + d + 7) Q (u) 26 [some (vR l0), some (vI l1), some (vI l2), some (vI l3), some (vI l4)] [] := by
  intro n
  induction n with
  | zero =>
    intro l0 l1 l2 l3 l4 u h
    cases h
  | succ n hk26 =>
    intro l0 l1 l2 l3 l4 u h
    unfold f_P_call_b26 at h
    refine x_iload (pc := 26) d_P_call_26 rfl ?_
    refine x_iload_n (pc := 28) d_P_call_28 rfl ?_
    refine x_icmp_ge (tgt := 59) (pc := 29) d_P_call_29 (by decide) (fun c1 => ?_) (fun c1 => ?_)
    · rw [if_pos c1] at h
      exact x_wk (L' := [some (vR l0), none, none, none, none]) ⟨Or.inr rfl, Or.inl rfl, Or.inl rfl, Or.inl rfl, Or.inl rfl, trivial⟩ (w_P_call_b59 hrc hQ l0 u h)
    · rw [if_neg c1] at h
      refine x_aload_n (pc := 32) d_P_call_32 rfl ?_
      obtain ⟨v2, e3, h⟩ := Option.bind_eq_some_iff.mp h
      refine c_getI (pc := 33) d_P_call_33 l_P_381 e3 ?_
      refine x_if_ne (tgt := 59) (pc := 36) d_P_call_36 (by decide) (fun c4 => ?_) (fun c4 => ?_)
      · rw [if_neg c4] at h
        exact x_wk (L' := [some (vR l0), none, none, none, none]) ⟨Or.inr rfl, Or.inl rfl, Or.inl rfl, Or.inl rfl, Or.inl rfl, trivial⟩ (w_P_call_b59 hrc hQ l0 u h)
      · rw [if_pos c4] at h
        refine x_aload_n (pc := 39) d_P_call_39 rfl ?_
        refine x_aload_n (pc := 40) d_P_call_40 rfl ?_
        obtain ⟨v5, e6, h⟩ := Option.bind_eq_some_iff.mp h
        refine c_getR (pc := 41) d_P_call_41 l_P_57 e6 ?_
        refine x_iload_n (pc := 44) d_P_call_44 rfl ?_
        refine x_iload (pc := 45) d_P_call_45 rfl ?_
        refine x_iadd (pc := 47) d_P_call_47 ?_
        obtain ⟨v7, e8, h⟩ := Option.bind_eq_some_iff.mp h
        refine c_aald (pc := 48) d_P_call_48 e8 ?_
        refine x_iload_n (pc := 49) d_P_call_49 rfl ?_
        obtain ⟨c9, h⟩ := ite_some h
        rcases tB_s h with ⟨a13, u14, e12, h⟩ | ⟨v11, u10, e12, h⟩
        · refine c_invv (c := 0) (d := D + d + 6) (av := [vR v7, vI l3]) (st := []) (Q' := fun r h' => r = .inr a13 ∧ h' = u14) (pc := 50) d_P_call_50 cv_P_364 y_P_element c9 rfl (Nat.le_of_ble_eq_true rfl) (Nat.le_of_ble_eq_true rfl) (hrc (d + 6) (fun r h' => r = .inr a13 ∧ h' = u14) u l0 v7 l3 _ _ e12 ⟨rfl, rfl⟩) (fun v h' z => nomatch z.1) (fun a h' z => ?_)
          obtain ⟨z1, z2⟩ := z
          subst h'
          cases z1
          cases h
          exact x_thOut (xno rfl) hQ
        refine c_invv (c := 0) (d := D + d + 6) (av := [vR v7, vI l3]) (st := []) (Q' := fun r h' => r = .inl none ∧ h' = u10) (pc := 50) d_P_call_50 cv_P_364 y_P_element c9 rfl (Nat.le_of_ble_eq_true rfl) (Nat.le_of_ble_eq_true rfl) (hrc (d + 6) (fun r h' => r = .inl none ∧ h' = u10) u l0 v7 l3 _ _ e12 ⟨rfl, rfl⟩) (fun v h' z => ?_) (fun a h' z => nomatch z.1)
        obtain ⟨z1, z2⟩ := z
        subst h'
        cases z1
        show xW sc m_P_call (D + d + 7) Q (u10) 53 [some (vR l0), some (vI l1), some (vI l2), some (vI l3), some (vI l4)] []
        refine x_iinc (pc := 53) d_P_call_53 rfl (by decide) ?_
        show xW sc m_P_call (D + d + 7) Q (u10) 56 [some (vR l0), some (vI l1), some (vI l2), some (vI l3), some (vI (l4 + Int32.ofInt 1))] []
        refine x_goto (tgt := 26) (pc := 56) d_P_call_56 (by decide) ?_
        exact hk26 l0 l1 l2 l3 (l4 + Int32.ofInt 1) u10 h
def f_P_call_b12 (rc : rcE) (sc : xSc)  (l0 : Option Nat) (l1 : Int32) (l2 : Int32) (l3 : Int32) (t0 : Int32) (t1 : Option Nat) (u : xH) : Option ((Unit ⊕ Nat) × xH) := (if xis sc u 0 t1 = true then tB (f_P_need sc u t1 t0 (12 : Int32)) (fun v3 u2 => (if xis sc u2 0 l0 = true then (f_P_enter sc u2 l0 l1 l2).bind fun u8 => f_P_call_b26 rc sc mF l0 l1 l2 l3 (0 : Int32) u8 else none)) (fun a5 u6 => some (.inr a5, u6)) else none)
theorem w_P_call_b12 {rc : rcE} {D : Nat} {sc : xSc} {d : Nat} {Q : xR → xH → Prop} {oZ : Unit ⊕ Nat} {hZ : xH} (hrc : rcEOK sc D rc)  (hQ : Q (cvU oZ) hZ) (l0 : Option Nat) (l1 : Int32) (l2 : Int32) (l3 : Int32) (t0 : Int32) (t1 : Option Nat) (u : xH) (h : f_P_call_b12 rc sc  l0 l1 l2 l3 t0 t1 u = some (oZ, hZ)) : xW sc m_P_call (D + d + 7) Q (u) 12 [some (vR l0), some (vI l1), some (vI l2), some (vI l3), none] [vI t0, vR t1] := by
  unfold f_P_call_b12 at h
  refine x_bipush (v := (12 : Int32)) (pc := 12) d_P_call_12 (by decide) ?_
  obtain ⟨c1, h⟩ := ite_some h
  rcases tB_s h with ⟨a5, u6, e4, h⟩ | ⟨v3, u2, e4, h⟩
  · refine c_invv (c := 0) (d := D + d + 6) (av := [vI t0, vI (12 : Int32)]) (st := []) (Q' := fun r h' => r = .inr a5 ∧ h' = u6) (pc := 14) d_P_call_14 cv_P_170 y_P_need c1 rfl (Nat.le_of_ble_eq_true rfl) (Nat.le_of_ble_eq_true rfl) (w_P_need (d := D + d + 0) (Q := fun r h' => r = .inr a5 ∧ h' = u6) ⟨rfl, rfl⟩ u t1 t0 (12 : Int32) e4) (fun v h' z => nomatch z.1) (fun a h' z => ?_)
    obtain ⟨z1, z2⟩ := z
    subst h'
    cases z1
    cases h
    exact x_thOut (xno rfl) hQ
  refine c_invv (c := 0) (d := D + d + 6) (av := [vI t0, vI (12 : Int32)]) (st := []) (Q' := fun r h' => r = .inl none ∧ h' = u2) (pc := 14) d_P_call_14 cv_P_170 y_P_need c1 rfl (Nat.le_of_ble_eq_true rfl) (Nat.le_of_ble_eq_true rfl) (w_P_need (d := D + d + 0) (Q := fun r h' => r = .inl none ∧ h' = u2) ⟨rfl, rfl⟩ u t1 t0 (12 : Int32) e4) (fun v h' z => ?_) (fun a h' z => nomatch z.1)
  obtain ⟨z1, z2⟩ := z
  subst h'
  cases z1
  show xW sc m_P_call (D + d + 7) Q (u2) 17 [some (vR l0), some (vI l1), some (vI l2), some (vI l3), none] []
  refine x_aload_n (pc := 17) d_P_call_17 rfl ?_
  refine x_iload_n (pc := 18) d_P_call_18 rfl ?_
  refine x_iload_n (pc := 19) d_P_call_19 rfl ?_
  obtain ⟨c7, h⟩ := ite_some h
  obtain ⟨u8, e9, h⟩ := Option.bind_eq_some_iff.mp h
  refine c_invv (c := 0) (d := D + d + 6) (av := [vI l1, vI l2]) (st := []) (Q' := fun r h' => r = .inl none ∧ h' = u8) (pc := 20) d_P_call_20 cv_P_378 y_P_enter c7 rfl (Nat.le_of_ble_eq_true rfl) (Nat.le_of_ble_eq_true rfl) (w_P_enter (d := D + d + 6) (Q := fun r h' => r = .inl none ∧ h' = u8) ⟨rfl, rfl⟩ u2 l0 l1 l2 e9) (fun v h' z => ?_) (fun a h' z => nomatch z.1)
  obtain ⟨z1, z2⟩ := z
  subst h'
  cases z1
  show xW sc m_P_call (D + d + 7) Q (u8) 23 [some (vR l0), some (vI l1), some (vI l2), some (vI l3), none] []
  refine x_iconst (v := (0 : Int32)) (pc := 23) d_P_call_23 (by decide) ?_
  refine x_istore (pc := 24) d_P_call_24 (by decide) ?_
  show xW sc m_P_call (D + d + 7) Q (u8) 26 [some (vR l0), some (vI l1), some (vI l2), some (vI l3), some (vI (0 : Int32))] []
  exact w_P_call_b26 hrc hQ mF l0 l1 l2 l3 (0 : Int32) u8 h
def f_P_call (rc : rcE) (sc : xSc) (u : xH) (a0 : Option Nat) (a1 : Int32) (a2 : Int32) (a3 : Int32) : Option ((Unit ⊕ Nat) × xH) := (if (8 : Int32) < a3 then f_P_call_b12 rc sc a0 a1 a2 a3 (0 : Int32) a0 u else f_P_call_b12 rc sc a0 a1 a2 a3 (1 : Int32) a0 u)
theorem w_P_call {rc : rcE} {D : Nat} {sc : xSc} {d : Nat} {Q : xR → xH → Prop} {oZ : Unit ⊕ Nat} {hZ : xH} (hrc : rcEOK sc D rc) (hQ : Q (cvU oZ) hZ) (u : xH) (a0 : Option Nat) (a1 : Int32) (a2 : Int32) (a3 : Int32) (h : f_P_call rc sc u a0 a1 a2 a3 = some (oZ, hZ)) : xW sc m_P_call (D + d + 7) Q (u) 0 (xent [vR a0, vI a1, vI a2, vI a3] m_P_call.2.2.1) [] := by
  show xW sc m_P_call (D + d + 7) Q (u) 0 [some (vR a0), some (vI a1), some (vI a2), some (vI a3), none] []
  unfold f_P_call at h
  refine x_aload_n (pc := 0) d_P_call_0 rfl ?_
  refine x_iload_n (pc := 1) d_P_call_1 rfl ?_
  refine x_bipush (v := (8 : Int32)) (pc := 2) d_P_call_2 (by decide) ?_
  refine x_icmp_gt (tgt := 11) (pc := 4) d_P_call_4 (by decide) (fun c1 => ?_) (fun c1 => ?_)
  · rw [if_pos c1] at h
    refine x_iconst (v := (0 : Int32)) (pc := 11) d_P_call_11 (by decide) ?_
    exact w_P_call_b12 hrc hQ a0 a1 a2 a3 (0 : Int32) a0 u h
  · rw [if_neg c1] at h
    refine x_iconst (v := (1 : Int32)) (pc := 7) d_P_call_7 (by decide) ?_
    refine x_goto (tgt := 12) (pc := 8) d_P_call_8 (by decide) ?_
    exact w_P_call_b12 hrc hQ a0 a1 a2 a3 (1 : Int32) a0 u h
def f_P_execute_b68 (rc : rcE) (sc : xSc)  (u : xH) : Option ((Unit ⊕ Nat) × xH) := some (.inl (), u)
theorem w_P_execute_b68 {rc : rcE} {D : Nat} {sc : xSc} {d : Nat} {Q : xR → xH → Prop} {oZ : Unit ⊕ Nat} {hZ : xH} (hrc : rcEOK sc D rc)  (hQ : Q (cvU oZ) hZ) (u : xH) (h : f_P_execute_b68 rc sc  u = some (oZ, hZ)) : xW sc m_P_execute (D + d + 8) Q (u) 68 [none, none, none] [] := by
  unfold f_P_execute_b68 at h
  cases h
  exact x_vret (pc := 68) d_P_execute_68 rfl hQ
def f_P_execute_b65 (rc : rcE) (sc : xSc)  (t0 : Int32) (t1 : Option Nat) (t2 : Option Nat) (u : xH) : Option ((Unit ⊕ Nat) × xH) := (if xis sc u 0 t2 = true then tB (rc u t2 t1 t0) (fun v3 u2 => f_P_execute_b68 rc sc u2) (fun a5 u6 => some (.inr a5, u6)) else none)
theorem w_P_execute_b65 {rc : rcE} {D : Nat} {sc : xSc} {d : Nat} {Q : xR → xH → Prop} {oZ : Unit ⊕ Nat} {hZ : xH} (hrc : rcEOK sc D rc)  (hQ : Q (cvU oZ) hZ) (t0 : Int32) (t1 : Option Nat) (t2 : Option Nat) (u : xH) (h : f_P_execute_b65 rc sc  t0 t1 t2 u = some (oZ, hZ)) : xW sc m_P_execute (D + d + 8) Q (u) 65 [none, none, none] [vI t0, vR t1, vR t2] := by
  unfold f_P_execute_b65 at h
  obtain ⟨c1, h⟩ := ite_some h
  rcases tB_s h with ⟨a5, u6, e4, h⟩ | ⟨v3, u2, e4, h⟩
  · refine c_invv (c := 0) (d := D + d + 7) (av := [vR t1, vI t0]) (st := []) (Q' := fun r h' => r = .inr a5 ∧ h' = u6) (pc := 65) d_P_execute_65 cv_P_364 y_P_element c1 rfl (Nat.le_of_ble_eq_true rfl) (Nat.le_of_ble_eq_true rfl) (hrc (d + 7) (fun r h' => r = .inr a5 ∧ h' = u6) u t2 t1 t0 _ _ e4 ⟨rfl, rfl⟩) (fun v h' z => nomatch z.1) (fun a h' z => ?_)
    obtain ⟨z1, z2⟩ := z
    subst h'
    cases z1
    cases h
    exact x_thOut (xno rfl) hQ
  refine c_invv (c := 0) (d := D + d + 7) (av := [vR t1, vI t0]) (st := []) (Q' := fun r h' => r = .inl none ∧ h' = u2) (pc := 65) d_P_execute_65 cv_P_364 y_P_element c1 rfl (Nat.le_of_ble_eq_true rfl) (Nat.le_of_ble_eq_true rfl) (hrc (d + 7) (fun r h' => r = .inl none ∧ h' = u2) u t2 t1 t0 _ _ e4 ⟨rfl, rfl⟩) (fun v h' z => ?_) (fun a h' z => nomatch z.1)
  obtain ⟨z1, z2⟩ := z
  subst h'
  cases z1
  show xW sc m_P_execute (D + d + 8) Q (u2) 68 [none, none, none] []
  exact w_P_execute_b68 hrc hQ u2 h
def f_P_execute_b19 (rc : rcE) (sc : xSc)  (l0 : Option Nat) (l1 : Option Nat) (l2 : Int32) (t0 : Int32) (t1 : Option Nat) (u : xH) : Option ((Unit ⊕ Nat) × xH) := (if xis sc u 0 t1 = true then tB (f_P_need sc u t1 t0 (12 : Int32)) (fun v3 u2 => (if xis sc u2 2 l1 = true then (f_Slot_isProcedure sc u2 l1).bind fun v8 => (if v8 = 0 then (gI sc u2 2 1 l1).bind fun v11 => (if v11 = 0 then f_P_execute_b65 rc sc l2 l1 l0 u2 else f_P_execute_b65 rc sc (l2 + (1 : Int32)) l1 l0 u2) else (gI sc u2 2 2 l1).bind fun v14 => (gI sc u2 2 3 l1).bind fun v16 => (if xis sc u2 0 l0 = true then tB (f_P_call rc sc u2 l0 v14 v16 (l2 + (1 : Int32))) (fun v20 u19 => f_P_execute_b68 rc sc u19) (fun a22 u23 => some (.inr a22, u23)) else none)) else none)) (fun a5 u6 => some (.inr a5, u6)) else none)
theorem w_P_execute_b19 {rc : rcE} {D : Nat} {sc : xSc} {d : Nat} {Q : xR → xH → Prop} {oZ : Unit ⊕ Nat} {hZ : xH} (hrc : rcEOK sc D rc)  (hQ : Q (cvU oZ) hZ) (l0 : Option Nat) (l1 : Option Nat) (l2 : Int32) (t0 : Int32) (t1 : Option Nat) (u : xH) (h : f_P_execute_b19 rc sc  l0 l1 l2 t0 t1 u = some (oZ, hZ)) : xW sc m_P_execute (D + d + 8) Q (u) 19 [some (vR l0), some (vR l1), some (vI l2)] [vI t0, vR t1] := by
  unfold f_P_execute_b19 at h
  refine x_bipush (v := (12 : Int32)) (pc := 19) d_P_execute_19 (by decide) ?_
  obtain ⟨c1, h⟩ := ite_some h
  rcases tB_s h with ⟨a5, u6, e4, h⟩ | ⟨v3, u2, e4, h⟩
  · refine c_invv (c := 0) (d := D + d + 7) (av := [vI t0, vI (12 : Int32)]) (st := []) (Q' := fun r h' => r = .inr a5 ∧ h' = u6) (pc := 21) d_P_execute_21 cv_P_170 y_P_need c1 rfl (Nat.le_of_ble_eq_true rfl) (Nat.le_of_ble_eq_true rfl) (w_P_need (d := D + d + 1) (Q := fun r h' => r = .inr a5 ∧ h' = u6) ⟨rfl, rfl⟩ u t1 t0 (12 : Int32) e4) (fun v h' z => nomatch z.1) (fun a h' z => ?_)
    obtain ⟨z1, z2⟩ := z
    subst h'
    cases z1
    cases h
    exact x_thOut (xno rfl) hQ
  refine c_invv (c := 0) (d := D + d + 7) (av := [vI t0, vI (12 : Int32)]) (st := []) (Q' := fun r h' => r = .inl none ∧ h' = u2) (pc := 21) d_P_execute_21 cv_P_170 y_P_need c1 rfl (Nat.le_of_ble_eq_true rfl) (Nat.le_of_ble_eq_true rfl) (w_P_need (d := D + d + 1) (Q := fun r h' => r = .inl none ∧ h' = u2) ⟨rfl, rfl⟩ u t1 t0 (12 : Int32) e4) (fun v h' z => ?_) (fun a h' z => nomatch z.1)
  obtain ⟨z1, z2⟩ := z
  subst h'
  cases z1
  show xW sc m_P_execute (D + d + 8) Q (u2) 24 [some (vR l0), some (vR l1), some (vI l2)] []
  refine x_aload_n (pc := 24) d_P_execute_24 rfl ?_
  obtain ⟨c7, h⟩ := ite_some h
  obtain ⟨v8, e9, h⟩ := Option.bind_eq_some_iff.mp h
  refine c_invv (c := 2) (d := D + d + 7) (av := []) (st := []) (Q' := fun r h' => r = .inl (some (vI v8)) ∧ h' = u2) (pc := 25) d_P_execute_25 cv_P_351 y_Slot_isProcedure c7 rfl (Nat.le_of_ble_eq_true rfl) (Nat.le_of_ble_eq_true rfl) (w_Slot_isProcedure (d := D + d + 7) (Q := fun r h' => r = .inl (some (vI v8)) ∧ h' = u2) ⟨rfl, rfl⟩ l1 e9) (fun v h' z => ?_) (fun a h' z => nomatch z.1)
  obtain ⟨z1, z2⟩ := z
  subst h'
  cases z1
  show xW sc m_P_execute (D + d + 8) Q (u2) 28 [some (vR l0), some (vR l1), some (vI l2)] [vI v8]
  refine x_if_eq (tgt := 49) (pc := 28) d_P_execute_28 (by decide) (fun c10 => ?_) (fun c10 => ?_)
  · rw [if_pos c10] at h
    refine x_aload_n (pc := 49) d_P_execute_49 rfl ?_
    refine x_aload_n (pc := 50) d_P_execute_50 rfl ?_
    refine x_aload_n (pc := 51) d_P_execute_51 rfl ?_
    obtain ⟨v11, e12, h⟩ := Option.bind_eq_some_iff.mp h
    refine c_getI (pc := 52) d_P_execute_52 l_P_327 e12 ?_
    refine x_if_eq (tgt := 64) (pc := 55) d_P_execute_55 (by decide) (fun c13 => ?_) (fun c13 => ?_)
    · rw [if_pos c13] at h
      refine x_iload_n (pc := 64) d_P_execute_64 rfl ?_
      exact x_wk (L' := [none, none, none]) ⟨Or.inl rfl, Or.inl rfl, Or.inl rfl, trivial⟩ (w_P_execute_b65 hrc hQ l2 l1 l0 u2 h)
    · rw [if_neg c13] at h
      refine x_iload_n (pc := 58) d_P_execute_58 rfl ?_
      refine x_iconst (v := (1 : Int32)) (pc := 59) d_P_execute_59 (by decide) ?_
      refine x_iadd (pc := 60) d_P_execute_60 ?_
      refine x_goto (tgt := 65) (pc := 61) d_P_execute_61 (by decide) ?_
      exact x_wk (L' := [none, none, none]) ⟨Or.inl rfl, Or.inl rfl, Or.inl rfl, trivial⟩ (w_P_execute_b65 hrc hQ (l2 + (1 : Int32)) l1 l0 u2 h)
  · rw [if_neg c10] at h
    refine x_aload_n (pc := 31) d_P_execute_31 rfl ?_
    refine x_aload_n (pc := 32) d_P_execute_32 rfl ?_
    obtain ⟨v14, e15, h⟩ := Option.bind_eq_some_iff.mp h
    refine c_getI (pc := 33) d_P_execute_33 l_P_355 e15 ?_
    refine x_aload_n (pc := 36) d_P_execute_36 rfl ?_
    obtain ⟨v16, e17, h⟩ := Option.bind_eq_some_iff.mp h
    refine c_getI (pc := 37) d_P_execute_37 l_P_358 e17 ?_
    refine x_iload_n (pc := 40) d_P_execute_40 rfl ?_
    refine x_iconst (v := (1 : Int32)) (pc := 41) d_P_execute_41 (by decide) ?_
    refine x_iadd (pc := 42) d_P_execute_42 ?_
    obtain ⟨c18, h⟩ := ite_some h
    rcases tB_s h with ⟨a22, u23, e21, h⟩ | ⟨v20, u19, e21, h⟩
    · refine c_invv (c := 0) (d := D + d + 7) (av := [vI v14, vI v16, vI (l2 + (1 : Int32))]) (st := []) (Q' := fun r h' => r = .inr a22 ∧ h' = u23) (pc := 43) d_P_execute_43 cv_P_360 y_P_call c18 rfl (Nat.le_of_ble_eq_true rfl) (Nat.le_of_ble_eq_true rfl) (w_P_call (d := d + 0) (Q := fun r h' => r = .inr a22 ∧ h' = u23) hrc ⟨rfl, rfl⟩ u2 l0 v14 v16 (l2 + (1 : Int32)) e21) (fun v h' z => nomatch z.1) (fun a h' z => ?_)
      obtain ⟨z1, z2⟩ := z
      subst h'
      cases z1
      cases h
      exact x_thOut (xno rfl) hQ
    refine c_invv (c := 0) (d := D + d + 7) (av := [vI v14, vI v16, vI (l2 + (1 : Int32))]) (st := []) (Q' := fun r h' => r = .inl none ∧ h' = u19) (pc := 43) d_P_execute_43 cv_P_360 y_P_call c18 rfl (Nat.le_of_ble_eq_true rfl) (Nat.le_of_ble_eq_true rfl) (w_P_call (d := d + 0) (Q := fun r h' => r = .inl none ∧ h' = u19) hrc ⟨rfl, rfl⟩ u2 l0 v14 v16 (l2 + (1 : Int32)) e21) (fun v h' z => ?_) (fun a h' z => nomatch z.1)
    obtain ⟨z1, z2⟩ := z
    subst h'
    cases z1
    show xW sc m_P_execute (D + d + 8) Q (u19) 46 [some (vR l0), some (vR l1), some (vI l2)] []
    refine x_goto (tgt := 68) (pc := 46) d_P_execute_46 (by decide) ?_
    exact x_wk (L' := [none, none, none]) ⟨Or.inl rfl, Or.inl rfl, Or.inl rfl, trivial⟩ (w_P_execute_b68 hrc hQ u19 h)
def f_P_execute_b14 (rc : rcE) (sc : xSc)  (l0 : Option Nat) (l1 : Option Nat) (l2 : Int32) (t0 : Option Nat) (u : xH) : Option ((Unit ⊕ Nat) × xH) := f_P_execute_b19 rc sc l0 l1 l2 (1 : Int32) t0 u
theorem w_P_execute_b14 {rc : rcE} {D : Nat} {sc : xSc} {d : Nat} {Q : xR → xH → Prop} {oZ : Unit ⊕ Nat} {hZ : xH} (hrc : rcEOK sc D rc)  (hQ : Q (cvU oZ) hZ) (l0 : Option Nat) (l1 : Option Nat) (l2 : Int32) (t0 : Option Nat) (u : xH) (h : f_P_execute_b14 rc sc  l0 l1 l2 t0 u = some (oZ, hZ)) : xW sc m_P_execute (D + d + 8) Q (u) 14 [some (vR l0), some (vR l1), some (vI l2)] [vR t0] := by
  unfold f_P_execute_b14 at h
  refine x_iconst (v := (1 : Int32)) (pc := 14) d_P_execute_14 (by decide) ?_
  refine x_goto (tgt := 19) (pc := 15) d_P_execute_15 (by decide) ?_
  exact w_P_execute_b19 hrc hQ l0 l1 l2 (1 : Int32) t0 u h
def f_P_execute (rc : rcE) (sc : xSc) (u : xH) (a0 : Option Nat) (a1 : Option Nat) (a2 : Int32) : Option ((Unit ⊕ Nat) × xH) := (gI sc u 2 1 a1).bind fun v1 => (if v1 = 0 then f_P_execute_b14 rc sc a0 a1 a2 a0 u else (if (8 : Int32) ≤ a2 then f_P_execute_b19 rc sc a0 a1 a2 (0 : Int32) a0 u else f_P_execute_b14 rc sc a0 a1 a2 a0 u))
theorem w_P_execute {rc : rcE} {D : Nat} {sc : xSc} {d : Nat} {Q : xR → xH → Prop} {oZ : Unit ⊕ Nat} {hZ : xH} (hrc : rcEOK sc D rc) (hQ : Q (cvU oZ) hZ) (u : xH) (a0 : Option Nat) (a1 : Option Nat) (a2 : Int32) (h : f_P_execute rc sc u a0 a1 a2 = some (oZ, hZ)) : xW sc m_P_execute (D + d + 8) Q (u) 0 (xent [vR a0, vR a1, vI a2] m_P_execute.2.2.1) [] := by
  show xW sc m_P_execute (D + d + 8) Q (u) 0 [some (vR a0), some (vR a1), some (vI a2)] []
  unfold f_P_execute at h
  refine x_aload_n (pc := 0) d_P_execute_0 rfl ?_
  refine x_aload_n (pc := 1) d_P_execute_1 rfl ?_
  obtain ⟨v1, e2, h⟩ := Option.bind_eq_some_iff.mp h
  refine c_getI (pc := 2) d_P_execute_2 l_P_327 e2 ?_
  refine x_if_eq (tgt := 14) (pc := 5) d_P_execute_5 (by decide) (fun c3 => ?_) (fun c3 => ?_)
  · rw [if_pos c3] at h
    exact w_P_execute_b14 hrc hQ a0 a1 a2 a0 u h
  · rw [if_neg c3] at h
    refine x_iload_n (pc := 8) d_P_execute_8 rfl ?_
    refine x_bipush (v := (8 : Int32)) (pc := 9) d_P_execute_9 (by decide) ?_
    refine x_icmp_ge (tgt := 18) (pc := 11) d_P_execute_11 (by decide) (fun c4 => ?_) (fun c4 => ?_)
    · rw [if_pos c4] at h
      refine x_iconst (v := (0 : Int32)) (pc := 18) d_P_execute_18 (by decide) ?_
      exact w_P_execute_b19 hrc hQ a0 a1 a2 (0 : Int32) a0 u h
    · rw [if_neg c4] at h
      exact w_P_execute_b14 hrc hQ a0 a1 a2 a0 u h
def f_Slot_is_b13 (sc : xSc) (u : xH)  (t0 : Int32) : Option Int32 := (if xbo t0 = true then some t0 else none)
theorem w_Slot_is_b13 {sc : xSc} {d : Nat} {Q : xR → xH → Prop} {u : xH} {rZ : Int32}  (hQ : Q (.inl (some (vI rZ))) u) (t0 : Int32) (h : f_Slot_is_b13 sc u  t0 = some rZ) : xW sc m_Slot_is (d + 0) Q (u) 13 [none, none] [vI t0] := by
  unfold f_Slot_is_b13 at h
  obtain ⟨c1, h⟩ := ite_some h
  cases h
  exact x_iret (ty := .boolean) (pc := 13) d_Slot_is_13 rfl (xbo_n c1) hQ
def f_Slot_is (sc : xSc) (u : xH) (a0 : Option Nat) (a1 : Option Nat) : Option Int32 := (gR sc u 2 0 a0).bind fun v1 => (if xcm v1 = true then (if xcm a1 = true then (if v1 = a1 then f_Slot_is_b13 sc u (1 : Int32) else f_Slot_is_b13 sc u (0 : Int32)) else none) else none)
theorem w_Slot_is {sc : xSc} {d : Nat} {Q : xR → xH → Prop} {u : xH} {rZ : Int32} (hQ : Q (.inl (some (vI rZ))) u) (a0 : Option Nat) (a1 : Option Nat) (h : f_Slot_is sc u a0 a1 = some rZ) : xW sc m_Slot_is (d + 0) Q (u) 0 (xent [vR a0, vR a1] m_Slot_is.2.2.1) [] := by
  show xW sc m_Slot_is (d + 0) Q (u) 0 [some (vR a0), some (vR a1)] []
  unfold f_Slot_is at h
  refine x_aload_n (pc := 0) d_Slot_is_0 rfl ?_
  obtain ⟨v1, e2, h⟩ := Option.bind_eq_some_iff.mp h
  refine c_getR (pc := 1) d_Slot_is_1 l_Slot_13 e2 ?_
  refine x_aload_n (pc := 4) d_Slot_is_4 rfl ?_
  obtain ⟨c3, h⟩ := ite_some h
  obtain ⟨c4, h⟩ := ite_some h
  refine x_acmp_ne (tgt := 12) (pc := 5) d_Slot_is_5 (by decide) (xcm_s c3) (xcm_s c4) (fun c5 => ?_) (fun c5 => ?_)
  · rw [if_neg c5] at h
    refine x_iconst (v := (0 : Int32)) (pc := 12) d_Slot_is_12 (by decide) ?_
    exact x_wk (L' := [none, none]) ⟨Or.inl rfl, Or.inl rfl, trivial⟩ (w_Slot_is_b13 hQ (0 : Int32) h)
  · rw [if_pos c5] at h
    refine x_iconst (v := (1 : Int32)) (pc := 8) d_Slot_is_8 (by decide) ?_
    refine x_goto (tgt := 13) (pc := 9) d_Slot_is_9 (by decide) ?_
    exact x_wk (L' := [none, none]) ⟨Or.inl rfl, Or.inl rfl, trivial⟩ (w_Slot_is_b13 hQ (1 : Int32) h)
def f_P_type (sc : xSc) (u : xH) (a0 : Option Nat) (a1 : Int32) : Option ((Unit ⊕ Nat) × xH) := (if xis sc u 0 a0 = true then tB (f_P_need sc u a0 a1 (3 : Int32)) (fun v3 u2 => some (.inl (), u2)) (fun a5 u6 => some (.inr a5, u6)) else none)
theorem w_P_type {sc : xSc} {d : Nat} {Q : xR → xH → Prop} {oZ : Unit ⊕ Nat} {hZ : xH} (hQ : Q (cvU oZ) hZ) (u : xH) (a0 : Option Nat) (a1 : Int32) (h : f_P_type sc u a0 a1 = some (oZ, hZ)) : xW sc m_P_type (d + 7) Q (u) 0 (xent [vR a0, vI a1] m_P_type.2.2.1) [] := by
  show xW sc m_P_type (d + 7) Q (u) 0 [some (vR a0), some (vI a1)] []
  unfold f_P_type at h
  refine x_aload_n (pc := 0) d_P_type_0 rfl ?_
  refine x_iload_n (pc := 1) d_P_type_1 rfl ?_
  refine x_iconst (v := (3 : Int32)) (pc := 2) d_P_type_2 (by decide) ?_
  obtain ⟨c1, h⟩ := ite_some h
  rcases tB_s h with ⟨a5, u6, e4, h⟩ | ⟨v3, u2, e4, h⟩
  · refine c_invv (c := 0) (d := d + 6) (av := [vI a1, vI (3 : Int32)]) (st := []) (Q' := fun r h' => r = .inr a5 ∧ h' = u6) (pc := 3) d_P_type_3 cv_P_170 y_P_need c1 rfl (Nat.le_of_ble_eq_true rfl) (Nat.le_of_ble_eq_true rfl) (w_P_need (d := d + 0) (Q := fun r h' => r = .inr a5 ∧ h' = u6) ⟨rfl, rfl⟩ u a0 a1 (3 : Int32) e4) (fun v h' z => nomatch z.1) (fun a h' z => ?_)
    obtain ⟨z1, z2⟩ := z
    subst h'
    cases z1
    cases h
    exact x_thOut (xno rfl) hQ
  refine c_invv (c := 0) (d := d + 6) (av := [vI a1, vI (3 : Int32)]) (st := []) (Q' := fun r h' => r = .inl none ∧ h' = u2) (pc := 3) d_P_type_3 cv_P_170 y_P_need c1 rfl (Nat.le_of_ble_eq_true rfl) (Nat.le_of_ble_eq_true rfl) (w_P_need (d := d + 0) (Q := fun r h' => r = .inl none ∧ h' = u2) ⟨rfl, rfl⟩ u a0 a1 (3 : Int32) e4) (fun v h' z => ?_) (fun a h' z => nomatch z.1)
  obtain ⟨z1, z2⟩ := z
  subst h'
  cases z1
  show xW sc m_P_type (d + 7) Q (u2) 6 [some (vR a0), some (vI a1)] []
  cases h
  exact x_vret (pc := 6) d_P_type_6 rfl hQ
def f_P_at (sc : xSc) (u : xH) (a0 : Option Nat) (a1 : Int32) : Option (Option Nat) := (gR sc u 0 6 a0).bind fun v1 => (gI sc u 0 9 a0).bind fun v3 => (aR sc u v1 ((v3 - (1 : Int32)) - a1)).bind fun v5 => some v5
theorem w_P_at {sc : xSc} {d : Nat} {Q : xR → xH → Prop} {u : xH} {rZ : Option Nat} (hQ : Q (.inl (some (vR rZ))) u) (a0 : Option Nat) (a1 : Int32) (h : f_P_at sc u a0 a1 = some rZ) : xW sc m_P_at (d + 0) Q (u) 0 (xent [vR a0, vI a1] m_P_at.2.2.1) [] := by
  show xW sc m_P_at (d + 0) Q (u) 0 [some (vR a0), some (vI a1)] []
  unfold f_P_at at h
  refine x_aload_n (pc := 0) d_P_at_0 rfl ?_
  obtain ⟨v1, e2, h⟩ := Option.bind_eq_some_iff.mp h
  refine c_getR (pc := 1) d_P_at_1 l_P_53 e2 ?_
  refine x_aload_n (pc := 4) d_P_at_4 rfl ?_
  obtain ⟨v3, e4, h⟩ := Option.bind_eq_some_iff.mp h
  refine c_getI (pc := 5) d_P_at_5 l_P_174 e4 ?_
  refine x_iconst (v := (1 : Int32)) (pc := 8) d_P_at_8 (by decide) ?_
  refine x_isub (pc := 9) d_P_at_9 ?_
  refine x_iload_n (pc := 10) d_P_at_10 rfl ?_
  refine x_isub (pc := 11) d_P_at_11 ?_
  obtain ⟨v5, e6, h⟩ := Option.bind_eq_some_iff.mp h
  refine c_aald (pc := 12) d_P_at_12 e6 ?_
  cases h
  exact x_aret (pc := 13) d_P_at_13 rfl (Or.inl ⟨_, rfl⟩) hQ
def f_P_fails_b62 (rc : rcE) (sc : xSc)  (l0 : Option Nat) (l3 : Int32) (l4 : Int32) (l5 : Int32) (l6 : Int32) (t0 : Int32) (t1 : Option Nat) (u : xH) : Option ((Int32 ⊕ Nat) × xH) := (if xis sc u 0 t1 = true then tB (f_P_need sc u t1 t0 (16 : Int32)) (fun v3 u2 => (pV u2 0 21 l0 (vI l3)).bind fun u7 => (pV u7 0 22 l0 (vI l4)).bind fun u9 => (pV u9 0 23 l0 (vI l5)).bind fun u11 => (pV u11 0 24 l0 (vI (0 : Int32))).bind fun u13 => (if xbo l6 = true then some (.inl l6, u13) else none)) (fun a5 u6 => some (.inr a5, u6)) else none)
theorem w_P_fails_b62 {rc : rcE} {D : Nat} {sc : xSc} {d : Nat} {Q : xR → xH → Prop} {oZ : Int32 ⊕ Nat} {hZ : xH} (hrc : rcEOK sc D rc)  (hQ : Q (cvI oZ) hZ) (l0 : Option Nat) (l3 : Int32) (l4 : Int32) (l5 : Int32) (l6 : Int32) (t0 : Int32) (t1 : Option Nat) (u : xH) (h : f_P_fails_b62 rc sc  l0 l3 l4 l5 l6 t0 t1 u = some (oZ, hZ)) : xW sc m_P_fails (D + d + 9) Q (u) 62 [some (vR l0), none, none, some (vI l3), some (vI l4), some (vI l5), some (vI l6), none] [vI t0, vR t1] := by
  unfold f_P_fails_b62 at h
  refine x_bipush (v := (16 : Int32)) (pc := 62) d_P_fails_62 (by decide) ?_
  obtain ⟨c1, h⟩ := ite_some h
  rcases tB_s h with ⟨a5, u6, e4, h⟩ | ⟨v3, u2, e4, h⟩
  · refine c_invv (c := 0) (d := D + d + 8) (av := [vI t0, vI (16 : Int32)]) (st := []) (Q' := fun r h' => r = .inr a5 ∧ h' = u6) (pc := 64) d_P_fails_64 cv_P_170 y_P_need c1 rfl (Nat.le_of_ble_eq_true rfl) (Nat.le_of_ble_eq_true rfl) (w_P_need (d := D + d + 2) (Q := fun r h' => r = .inr a5 ∧ h' = u6) ⟨rfl, rfl⟩ u t1 t0 (16 : Int32) e4) (fun v h' z => nomatch z.1) (fun a h' z => ?_)
    obtain ⟨z1, z2⟩ := z
    subst h'
    cases z1
    cases h
    exact x_thOut (xno rfl) hQ
  refine c_invv (c := 0) (d := D + d + 8) (av := [vI t0, vI (16 : Int32)]) (st := []) (Q' := fun r h' => r = .inl none ∧ h' = u2) (pc := 64) d_P_fails_64 cv_P_170 y_P_need c1 rfl (Nat.le_of_ble_eq_true rfl) (Nat.le_of_ble_eq_true rfl) (w_P_need (d := D + d + 2) (Q := fun r h' => r = .inl none ∧ h' = u2) ⟨rfl, rfl⟩ u t1 t0 (16 : Int32) e4) (fun v h' z => ?_) (fun a h' z => nomatch z.1)
  obtain ⟨z1, z2⟩ := z
  subst h'
  cases z1
  show xW sc m_P_fails (D + d + 9) Q (u2) 67 [some (vR l0), none, none, some (vI l3), some (vI l4), some (vI l5), some (vI l6), none] []
  refine x_aload_n (pc := 67) d_P_fails_67 rfl ?_
  refine x_iload_n (pc := 68) d_P_fails_68 rfl ?_
  obtain ⟨u7, e8, h⟩ := Option.bind_eq_some_iff.mp h
  refine c_putf (pc := 69) d_P_fails_69 l_P_291 fp_0_21 (xfit_int) e8 ?_
  refine x_aload_n (pc := 72) d_P_fails_72 rfl ?_
  refine x_iload (pc := 73) d_P_fails_73 rfl ?_
  obtain ⟨u9, e10, h⟩ := Option.bind_eq_some_iff.mp h
  refine c_putf (pc := 75) d_P_fails_75 l_P_384 fp_0_22 (xfit_int) e10 ?_
  refine x_aload_n (pc := 78) d_P_fails_78 rfl ?_
  refine x_iload (pc := 79) d_P_fails_79 rfl ?_
  obtain ⟨u11, e12, h⟩ := Option.bind_eq_some_iff.mp h
  refine c_putf (pc := 81) d_P_fails_81 l_P_387 fp_0_23 (xfit_int) e12 ?_
  refine x_aload_n (pc := 84) d_P_fails_84 rfl ?_
  refine x_iconst (v := (0 : Int32)) (pc := 85) d_P_fails_85 (by decide) ?_
  obtain ⟨u13, e14, h⟩ := Option.bind_eq_some_iff.mp h
  refine c_putf (pc := 86) d_P_fails_86 l_P_381 fp_0_24 (xfit_bool (by decide)) e14 ?_
  refine x_iload (pc := 89) d_P_fails_89 rfl ?_
  obtain ⟨c15, h⟩ := ite_some h
  cases h
  exact x_iret (ty := .boolean) (pc := 91) d_P_fails_91 rfl (xbo_n c15) hQ
def f_P_fails_b57 (rc : rcE) (sc : xSc)  (l0 : Option Nat) (l3 : Int32) (l4 : Int32) (l5 : Int32) (l6 : Int32) (t0 : Option Nat) (u : xH) : Option ((Int32 ⊕ Nat) × xH) := f_P_fails_b62 rc sc l0 l3 l4 l5 l6 (1 : Int32) t0 u
theorem w_P_fails_b57 {rc : rcE} {D : Nat} {sc : xSc} {d : Nat} {Q : xR → xH → Prop} {oZ : Int32 ⊕ Nat} {hZ : xH} (hrc : rcEOK sc D rc)  (hQ : Q (cvI oZ) hZ) (l0 : Option Nat) (l3 : Int32) (l4 : Int32) (l5 : Int32) (l6 : Int32) (t0 : Option Nat) (u : xH) (h : f_P_fails_b57 rc sc  l0 l3 l4 l5 l6 t0 u = some (oZ, hZ)) : xW sc m_P_fails (D + d + 9) Q (u) 57 [some (vR l0), none, none, some (vI l3), some (vI l4), some (vI l5), some (vI l6), none] [vR t0] := by
  unfold f_P_fails_b57 at h
  refine x_iconst (v := (1 : Int32)) (pc := 57) d_P_fails_57 (by decide) ?_
  refine x_goto (tgt := 62) (pc := 58) d_P_fails_58 (by decide) ?_
  exact w_P_fails_b62 hrc hQ l0 l3 l4 l5 l6 (1 : Int32) t0 u h
def f_P_fails_b42 (rc : rcE) (sc : xSc)  (l0 : Option Nat) (l3 : Int32) (l4 : Int32) (l5 : Int32) (l6 : Int32) (u : xH) : Option ((Int32 ⊕ Nat) × xH) := (if l6 = 0 then f_P_fails_b57 rc sc l0 l3 l4 l5 l6 l0 u else (gI sc u 0 17 l0).bind fun v2 => (if v2 = (16 : Int32) then f_P_fails_b62 rc sc l0 l3 l4 l5 l6 (0 : Int32) l0 u else f_P_fails_b57 rc sc l0 l3 l4 l5 l6 l0 u))
theorem w_P_fails_b42 {rc : rcE} {D : Nat} {sc : xSc} {d : Nat} {Q : xR → xH → Prop} {oZ : Int32 ⊕ Nat} {hZ : xH} (hrc : rcEOK sc D rc)  (hQ : Q (cvI oZ) hZ) (l0 : Option Nat) (l3 : Int32) (l4 : Int32) (l5 : Int32) (l6 : Int32) (u : xH) (h : f_P_fails_b42 rc sc  l0 l3 l4 l5 l6 u = some (oZ, hZ)) : xW sc m_P_fails (D + d + 9) Q (u) 42 [some (vR l0), none, none, some (vI l3), some (vI l4), some (vI l5), some (vI l6), none] [] := by
  unfold f_P_fails_b42 at h
  refine x_aload_n (pc := 42) d_P_fails_42 rfl ?_
  refine x_iload (pc := 43) d_P_fails_43 rfl ?_
  refine x_if_eq (tgt := 57) (pc := 45) d_P_fails_45 (by decide) (fun c1 => ?_) (fun c1 => ?_)
  · rw [if_pos c1] at h
    exact w_P_fails_b57 hrc hQ l0 l3 l4 l5 l6 l0 u h
  · rw [if_neg c1] at h
    refine x_aload_n (pc := 48) d_P_fails_48 rfl ?_
    obtain ⟨v2, e3, h⟩ := Option.bind_eq_some_iff.mp h
    refine c_getI (pc := 49) d_P_fails_49 l_P_161 e3 ?_
    refine x_bipush (v := (16 : Int32)) (pc := 52) d_P_fails_52 (by decide) ?_
    refine x_icmp_eq (tgt := 61) (pc := 54) d_P_fails_54 (by decide) (fun c4 => ?_) (fun c4 => ?_)
    · rw [if_pos c4] at h
      refine x_iconst (v := (0 : Int32)) (pc := 61) d_P_fails_61 (by decide) ?_
      exact w_P_fails_b62 hrc hQ l0 l3 l4 l5 l6 (0 : Int32) l0 u h
    · rw [if_neg c4] at h
      exact w_P_fails_b57 hrc hQ l0 l3 l4 l5 l6 l0 u h
def f_P_fails_b37 (rc : rcE) (sc : xSc)  (l0 : Option Nat) (l3 : Int32) (l4 : Int32) (l5 : Int32) (t0 : Option Nat) (u : xH) : Option ((Int32 ⊕ Nat) × xH) := f_P_fails_b42 rc sc l0 l3 l4 l5 (1 : Int32) u
theorem w_P_fails_b37 {rc : rcE} {D : Nat} {sc : xSc} {d : Nat} {Q : xR → xH → Prop} {oZ : Int32 ⊕ Nat} {hZ : xH} (hrc : rcEOK sc D rc)  (hQ : Q (cvI oZ) hZ) (l0 : Option Nat) (l3 : Int32) (l4 : Int32) (l5 : Int32) (t0 : Option Nat) (u : xH) (h : f_P_fails_b37 rc sc  l0 l3 l4 l5 t0 u = some (oZ, hZ)) : xW sc m_P_fails (D + d + 9) Q (u) 37 [some (vR l0), none, none, some (vI l3), some (vI l4), some (vI l5), none, none] [vR t0] := by
  unfold f_P_fails_b37 at h
  refine x_astore (pc := 37) d_P_fails_37 (by decide) ?_
  show xW sc m_P_fails (D + d + 9) Q (u) 39 [some (vR l0), none, none, some (vI l3), some (vI l4), some (vI l5), none, some (vR t0)] []
  refine x_iconst (v := (1 : Int32)) (pc := 39) d_P_fails_39 (by decide) ?_
  refine x_istore (pc := 40) d_P_fails_40 (by decide) ?_
  show xW sc m_P_fails (D + d + 9) Q (u) 42 [some (vR l0), none, none, some (vI l3), some (vI l4), some (vI l5), some (vI (1 : Int32)), some (vR t0)] []
  exact x_wk (L' := [some (vR l0), none, none, some (vI l3), some (vI l4), some (vI l5), some (vI (1 : Int32)), none]) ⟨Or.inr rfl, Or.inl rfl, Or.inl rfl, Or.inr rfl, Or.inr rfl, Or.inr rfl, Or.inr rfl, Or.inl rfl, trivial⟩ (w_P_fails_b42 hrc hQ l0 l3 l4 l5 (1 : Int32) u h)
def f_P_fails (rc : rcE) (sc : xSc) (u : xH) (a0 : Option Nat) (a1 : Option Nat) (a2 : Int32) : Option ((Int32 ⊕ Nat) × xH) := (gI sc u 0 21 a0).bind fun v1 => (gI sc u 0 22 a0).bind fun v3 => (gI sc u 0 23 a0).bind fun v5 => (gI sc u 0 22 a0).bind fun v7 => (pV u 0 23 a0 (vI v7)).bind fun u9 => (if xis sc u9 0 a0 = true then tB (f_P_execute rc sc u9 a0 a1 a2) (fun v13 u12 => f_P_fails_b42 rc sc a0 v1 v3 v5 (0 : Int32) u12) (fun a15 u16 => (if xis sc u16 21 (some a15) = true then f_P_fails_b37 rc sc a0 v1 v3 v5 (some a15) u16 else none)) else none)
theorem w_P_fails {rc : rcE} {D : Nat} {sc : xSc} {d : Nat} {Q : xR → xH → Prop} {oZ : Int32 ⊕ Nat} {hZ : xH} (hrc : rcEOK sc D rc) (hQ : Q (cvI oZ) hZ) (u : xH) (a0 : Option Nat) (a1 : Option Nat) (a2 : Int32) (h : f_P_fails rc sc u a0 a1 a2 = some (oZ, hZ)) : xW sc m_P_fails (D + d + 9) Q (u) 0 (xent [vR a0, vR a1, vI a2] m_P_fails.2.2.1) [] := by
  show xW sc m_P_fails (D + d + 9) Q (u) 0 [some (vR a0), some (vR a1), some (vI a2), none, none, none, none, none] []
  unfold f_P_fails at h
  refine x_aload_n (pc := 0) d_P_fails_0 rfl ?_
  obtain ⟨v1, e2, h⟩ := Option.bind_eq_some_iff.mp h
  refine c_getI (pc := 1) d_P_fails_1 l_P_291 e2 ?_
  refine x_istore_n (pc := 4) d_P_fails_4 (by decide) ?_
  show xW sc m_P_fails (D + d + 9) Q (u) 5 [some (vR a0), some (vR a1), some (vI a2), some (vI v1), none, none, none, none] []
  refine x_aload_n (pc := 5) d_P_fails_5 rfl ?_
  obtain ⟨v3, e4, h⟩ := Option.bind_eq_some_iff.mp h
  refine c_getI (pc := 6) d_P_fails_6 l_P_384 e4 ?_
  refine x_istore (pc := 9) d_P_fails_9 (by decide) ?_
  show xW sc m_P_fails (D + d + 9) Q (u) 11 [some (vR a0), some (vR a1), some (vI a2), some (vI v1), some (vI v3), none, none, none] []
  refine x_aload_n (pc := 11) d_P_fails_11 rfl ?_
  obtain ⟨v5, e6, h⟩ := Option.bind_eq_some_iff.mp h
  refine c_getI (pc := 12) d_P_fails_12 l_P_387 e6 ?_
  refine x_istore (pc := 15) d_P_fails_15 (by decide) ?_
  show xW sc m_P_fails (D + d + 9) Q (u) 17 [some (vR a0), some (vR a1), some (vI a2), some (vI v1), some (vI v3), some (vI v5), none, none] []
  refine x_aload_n (pc := 17) d_P_fails_17 rfl ?_
  refine x_aload_n (pc := 18) d_P_fails_18 rfl ?_
  obtain ⟨v7, e8, h⟩ := Option.bind_eq_some_iff.mp h
  refine c_getI (pc := 19) d_P_fails_19 l_P_384 e8 ?_
  obtain ⟨u9, e10, h⟩ := Option.bind_eq_some_iff.mp h
  refine c_putf (pc := 22) d_P_fails_22 l_P_387 fp_0_23 (xfit_int) e10 ?_
  refine x_iconst (v := (0 : Int32)) (pc := 25) d_P_fails_25 (by decide) ?_
  refine x_istore (pc := 26) d_P_fails_26 (by decide) ?_
  show xW sc m_P_fails (D + d + 9) Q (u9) 28 [some (vR a0), some (vR a1), some (vI a2), some (vI v1), some (vI v3), some (vI v5), some (vI (0 : Int32)), none] []
  refine x_aload_n (pc := 28) d_P_fails_28 rfl ?_
  refine x_aload_n (pc := 29) d_P_fails_29 rfl ?_
  refine x_iload_n (pc := 30) d_P_fails_30 rfl ?_
  obtain ⟨c11, h⟩ := ite_some h
  rcases tB_s h with ⟨a15, u16, e14, h⟩ | ⟨v13, u12, e14, h⟩
  · refine c_invv (c := 0) (d := D + d + 8) (av := [vR a1, vI a2]) (st := []) (Q' := fun r h' => r = .inr a15 ∧ h' = u16) (pc := 31) d_P_fails_31 cv_P_390 y_P_execute c11 rfl (Nat.le_of_ble_eq_true rfl) (Nat.le_of_ble_eq_true rfl) (w_P_execute (d := d + 0) (Q := fun r h' => r = .inr a15 ∧ h' = u16) hrc ⟨rfl, rfl⟩ u9 a0 a1 a2 e14) (fun v h' z => nomatch z.1) (fun a h' z => ?_)
    obtain ⟨z1, z2⟩ := z
    subst h'
    cases z1
    by_cases c17 : xis sc u16 21 (some a15) = true
    · rw [if_pos c17] at h
      obtain ⟨a9, fs9, e9, f9⟩ := xis_s c17
      cases e9
      refine x_thCatch (b1 := 28) (b2 := 34) (hp := 37) (ct := 167) (Or.inl rfl) ⟨by decide, by decide⟩ (by decide) kl_P_167 f9 ⟨_, rfl, tw_4 (List.mem_of_getElem? (i := 135) rfl)⟩ ?_
      exact x_wk (L' := [some (vR a0), none, none, some (vI v1), some (vI v3), some (vI v5), none, none]) ⟨Or.inr rfl, Or.inl rfl, Or.inl rfl, Or.inr rfl, Or.inr rfl, Or.inr rfl, Or.inl rfl, Or.inl rfl, trivial⟩ (w_P_fails_b37 hrc hQ a0 v1 v3 v5 (some a15) u16 h)
    rw [if_neg c17] at h
    cases h
  refine c_invv (c := 0) (d := D + d + 8) (av := [vR a1, vI a2]) (st := []) (Q' := fun r h' => r = .inl none ∧ h' = u12) (pc := 31) d_P_fails_31 cv_P_390 y_P_execute c11 rfl (Nat.le_of_ble_eq_true rfl) (Nat.le_of_ble_eq_true rfl) (w_P_execute (d := d + 0) (Q := fun r h' => r = .inl none ∧ h' = u12) hrc ⟨rfl, rfl⟩ u9 a0 a1 a2 e14) (fun v h' z => ?_) (fun a h' z => nomatch z.1)
  obtain ⟨z1, z2⟩ := z
  subst h'
  cases z1
  show xW sc m_P_fails (D + d + 9) Q (u12) 34 [some (vR a0), some (vR a1), some (vI a2), some (vI v1), some (vI v3), some (vI v5), some (vI (0 : Int32)), none] []
  refine x_goto (tgt := 42) (pc := 34) d_P_fails_34 (by decide) ?_
  exact x_wk (L' := [some (vR a0), none, none, some (vI v1), some (vI v3), some (vI v5), some (vI (0 : Int32)), none]) ⟨Or.inr rfl, Or.inl rfl, Or.inl rfl, Or.inr rfl, Or.inr rfl, Or.inr rfl, Or.inr rfl, Or.inl rfl, trivial⟩ (w_P_fails_b42 hrc hQ a0 v1 v3 v5 (0 : Int32) u12 h)
def f_P_place_b59 (sc : xSc)  (l0 : Option Nat) (u : xH) : Option ((Option Nat ⊕ Nat) × xH) := (gI sc u 0 9 l0).bind fun v1 => (pV u 0 9 l0 (vI (v1 + (1 : Int32)))).bind fun u3 => (gR sc u3 0 6 l0).bind fun v5 => (gI sc u3 0 9 l0).bind fun v7 => (aR sc u3 v5 (v7 - (1 : Int32))).bind fun v9 => some (.inl v9, u3)
theorem w_P_place_b59 {sc : xSc} {d : Nat} {Q : xR → xH → Prop} {oZ : Option Nat ⊕ Nat} {hZ : xH}  (hQ : Q (cvR oZ) hZ) (l0 : Option Nat) (u : xH) (h : f_P_place_b59 sc  l0 u = some (oZ, hZ)) : xW sc m_P_place (d + 7) Q (u) 59 [some (vR l0), none] [] := by
  unfold f_P_place_b59 at h
  refine x_aload_n (pc := 59) d_P_place_59 rfl ?_
  refine x_dup (pc := 60) d_P_place_60 rfl ?_
  obtain ⟨v1, e2, h⟩ := Option.bind_eq_some_iff.mp h
  refine c_getI (pc := 61) d_P_place_61 l_P_174 e2 ?_
  refine x_iconst (v := (1 : Int32)) (pc := 64) d_P_place_64 (by decide) ?_
  refine x_iadd (pc := 65) d_P_place_65 ?_
  obtain ⟨u3, e4, h⟩ := Option.bind_eq_some_iff.mp h
  refine c_putf (pc := 66) d_P_place_66 l_P_174 fp_0_9 (xfit_int) e4 ?_
  refine x_aload_n (pc := 69) d_P_place_69 rfl ?_
  obtain ⟨v5, e6, h⟩ := Option.bind_eq_some_iff.mp h
  refine c_getR (pc := 70) d_P_place_70 l_P_53 e6 ?_
  refine x_aload_n (pc := 73) d_P_place_73 rfl ?_
  obtain ⟨v7, e8, h⟩ := Option.bind_eq_some_iff.mp h
  refine c_getI (pc := 74) d_P_place_74 l_P_174 e8 ?_
  refine x_iconst (v := (1 : Int32)) (pc := 77) d_P_place_77 (by decide) ?_
  refine x_isub (pc := 78) d_P_place_78 ?_
  obtain ⟨v9, e10, h⟩ := Option.bind_eq_some_iff.mp h
  refine c_aald (pc := 79) d_P_place_79 e10 ?_
  cases h
  exact x_aret (pc := 80) d_P_place_80 rfl (Or.inl ⟨_, rfl⟩) hQ
def f_P_place_b17 (sc : xSc)  (l0 : Option Nat) (l1 : Int32) (t0 : Int32) (t1 : Option Nat) (u : xH) : Option ((Option Nat ⊕ Nat) × xH) := (if xis sc u 0 t1 = true then tB (f_P_need sc u t1 t0 (2 : Int32)) (fun v3 u2 => (gI sc u2 0 9 l0).bind fun v7 => (pV u2 0 9 l0 (vI (v7 - l1))).bind fun u9 => (gR sc u9 0 6 l0).bind fun v11 => (gI sc u9 0 9 l0).bind fun v13 => (aR sc u9 v11 v13).bind fun v15 => (if v15 = none then (gR sc u9 0 6 l0).bind fun v18 => (gI sc u9 0 9 l0).bind fun v20 => (nO 2 8 8 u9).bind fun u22 => (if (some u9.2.1).isSome = true then (f_Slot_init sc u22 (some u9.2.1)).bind fun u25 => (bR "PageScribe$Slot" 2 sc u25 v18 v20 (some u9.2.1)).bind fun u27 => f_P_place_b59 sc l0 u27 else none) else f_P_place_b59 sc l0 u9)) (fun a5 u6 => some (.inr a5, u6)) else none)
theorem w_P_place_b17 {sc : xSc} {d : Nat} {Q : xR → xH → Prop} {oZ : Option Nat ⊕ Nat} {hZ : xH}  (hQ : Q (cvR oZ) hZ) (l0 : Option Nat) (l1 : Int32) (t0 : Int32) (t1 : Option Nat) (u : xH) (h : f_P_place_b17 sc  l0 l1 t0 t1 u = some (oZ, hZ)) : xW sc m_P_place (d + 7) Q (u) 17 [some (vR l0), some (vI l1)] [vI t0, vR t1] := by
  unfold f_P_place_b17 at h
  refine x_iconst (v := (2 : Int32)) (pc := 17) d_P_place_17 (by decide) ?_
  obtain ⟨c1, h⟩ := ite_some h
  rcases tB_s h with ⟨a5, u6, e4, h⟩ | ⟨v3, u2, e4, h⟩
  · refine c_invv (c := 0) (d := d + 6) (av := [vI t0, vI (2 : Int32)]) (st := []) (Q' := fun r h' => r = .inr a5 ∧ h' = u6) (pc := 18) d_P_place_18 cv_P_170 y_P_need c1 rfl (Nat.le_of_ble_eq_true rfl) (Nat.le_of_ble_eq_true rfl) (w_P_need (d := d + 0) (Q := fun r h' => r = .inr a5 ∧ h' = u6) ⟨rfl, rfl⟩ u t1 t0 (2 : Int32) e4) (fun v h' z => nomatch z.1) (fun a h' z => ?_)
    obtain ⟨z1, z2⟩ := z
    subst h'
    cases z1
    cases h
    exact x_thOut (xno rfl) hQ
  refine c_invv (c := 0) (d := d + 6) (av := [vI t0, vI (2 : Int32)]) (st := []) (Q' := fun r h' => r = .inl none ∧ h' = u2) (pc := 18) d_P_place_18 cv_P_170 y_P_need c1 rfl (Nat.le_of_ble_eq_true rfl) (Nat.le_of_ble_eq_true rfl) (w_P_need (d := d + 0) (Q := fun r h' => r = .inl none ∧ h' = u2) ⟨rfl, rfl⟩ u t1 t0 (2 : Int32) e4) (fun v h' z => ?_) (fun a h' z => nomatch z.1)
  obtain ⟨z1, z2⟩ := z
  subst h'
  cases z1
  show xW sc m_P_place (d + 7) Q (u2) 21 [some (vR l0), some (vI l1)] []
  refine x_aload_n (pc := 21) d_P_place_21 rfl ?_
  refine x_dup (pc := 22) d_P_place_22 rfl ?_
  obtain ⟨v7, e8, h⟩ := Option.bind_eq_some_iff.mp h
  refine c_getI (pc := 23) d_P_place_23 l_P_174 e8 ?_
  refine x_iload_n (pc := 26) d_P_place_26 rfl ?_
  refine x_isub (pc := 27) d_P_place_27 ?_
  obtain ⟨u9, e10, h⟩ := Option.bind_eq_some_iff.mp h
  refine c_putf (pc := 28) d_P_place_28 l_P_174 fp_0_9 (xfit_int) e10 ?_
  refine x_aload_n (pc := 31) d_P_place_31 rfl ?_
  obtain ⟨v11, e12, h⟩ := Option.bind_eq_some_iff.mp h
  refine c_getR (pc := 32) d_P_place_32 l_P_53 e12 ?_
  refine x_aload_n (pc := 35) d_P_place_35 rfl ?_
  obtain ⟨v13, e14, h⟩ := Option.bind_eq_some_iff.mp h
  refine c_getI (pc := 36) d_P_place_36 l_P_174 e14 ?_
  obtain ⟨v15, e16, h⟩ := Option.bind_eq_some_iff.mp h
  refine c_aald (pc := 39) d_P_place_39 e16 ?_
  refine c_ifnonnull (tgt := 59) (pc := 40) d_P_place_40 (by decide) (fun c17 => ?_) (fun c17 => ?_)
  · rw [if_neg c17] at h
    exact x_wk (L' := [some (vR l0), none]) ⟨Or.inr rfl, Or.inl rfl, trivial⟩ (w_P_place_b59 hQ l0 u9 h)
  · rw [if_pos c17] at h
    refine x_aload_n (pc := 43) d_P_place_43 rfl ?_
    obtain ⟨v18, e19, h⟩ := Option.bind_eq_some_iff.mp h
    refine c_getR (pc := 44) d_P_place_44 l_P_53 e19 ?_
    refine x_aload_n (pc := 47) d_P_place_47 rfl ?_
    obtain ⟨v20, e21, h⟩ := Option.bind_eq_some_iff.mp h
    refine c_getI (pc := 48) d_P_place_48 l_P_174 e21 ?_
    obtain ⟨u22, e23, h⟩ := Option.bind_eq_some_iff.mp h
    refine c_new (pc := 51) d_P_place_51 nw_P_51 ly_2 ⟨_, rfl, rfl⟩ e23 ?_
    refine x_dup (pc := 54) d_P_place_54 rfl ?_
    obtain ⟨c24, h⟩ := ite_some h
    obtain ⟨u25, e26, h⟩ := Option.bind_eq_some_iff.mp h
    refine c_invi (d := d + 6) (av := []) (st := [vR (some u9.2.1), vI v20, vR v18]) (Q' := fun r h' => r = .inl none ∧ h' = u25) (pc := 55) d_P_place_55 ci_P_177 y_Slot_init (tw_4 (List.mem_of_getElem? (i := 157) rfl)) c24 rfl (Nat.le_of_ble_eq_true rfl) (Nat.le_of_ble_eq_true rfl) (w_Slot_init (d := d + 5) (Q := fun r h' => r = .inl none ∧ h' = u25) ⟨rfl, rfl⟩ u22 (some u9.2.1) e26) (fun v h' z => ?_) (fun a h' z => nomatch z.1)
    obtain ⟨z1, z2⟩ := z
    subst h'
    cases z1
    show xW sc m_P_place (d + 7) Q (u25) 58 [some (vR l0), some (vI l1)] [vR (some u9.2.1), vI v20, vR v18]
    obtain ⟨u27, e28, h⟩ := Option.bind_eq_some_iff.mp h
    refine c_aast (C := "PageScribe$Slot") (c := 2) (pc := 58) d_P_place_58 ⟨_, rfl, Or.inl ⟨rfl, by decide, by decide⟩⟩ e28 ?_
    exact x_wk (L' := [some (vR l0), none]) ⟨Or.inr rfl, Or.inl rfl, trivial⟩ (w_P_place_b59 hQ l0 u27 h)
def f_P_place (sc : xSc) (u : xH) (a0 : Option Nat) (a1 : Int32) : Option ((Option Nat ⊕ Nat) × xH) := (gI sc u 0 9 a0).bind fun v1 => (if (40 : Int32) ≤ (v1 - a1) then f_P_place_b17 sc a0 a1 (0 : Int32) a0 u else f_P_place_b17 sc a0 a1 (1 : Int32) a0 u)
theorem w_P_place {sc : xSc} {d : Nat} {Q : xR → xH → Prop} {oZ : Option Nat ⊕ Nat} {hZ : xH} (hQ : Q (cvR oZ) hZ) (u : xH) (a0 : Option Nat) (a1 : Int32) (h : f_P_place sc u a0 a1 = some (oZ, hZ)) : xW sc m_P_place (d + 7) Q (u) 0 (xent [vR a0, vI a1] m_P_place.2.2.1) [] := by
  show xW sc m_P_place (d + 7) Q (u) 0 [some (vR a0), some (vI a1)] []
  unfold f_P_place at h
  refine x_aload_n (pc := 0) d_P_place_0 rfl ?_
  refine x_aload_n (pc := 1) d_P_place_1 rfl ?_
  obtain ⟨v1, e2, h⟩ := Option.bind_eq_some_iff.mp h
  refine c_getI (pc := 2) d_P_place_2 l_P_174 e2 ?_
  refine x_iload_n (pc := 5) d_P_place_5 rfl ?_
  refine x_isub (pc := 6) d_P_place_6 ?_
  refine x_bipush (v := (40 : Int32)) (pc := 7) d_P_place_7 (by decide) ?_
  refine x_icmp_ge (tgt := 16) (pc := 9) d_P_place_9 (by decide) (fun c3 => ?_) (fun c3 => ?_)
  · rw [if_pos c3] at h
    refine x_iconst (v := (0 : Int32)) (pc := 16) d_P_place_16 (by decide) ?_
    exact w_P_place_b17 hQ a0 a1 (0 : Int32) a0 u h
  · rw [if_neg c3] at h
    refine x_iconst (v := (1 : Int32)) (pc := 12) d_P_place_12 (by decide) ?_
    refine x_goto (tgt := 17) (pc := 13) d_P_place_13 (by decide) ?_
    exact w_P_place_b17 hQ a0 a1 (1 : Int32) a0 u h
def f_Slot_set (sc : xSc) (u : xH) (a0 : Option Nat) (a1 : Option Nat) (a2 : Int32) (a3 : Int32) (a4 : Int32) : Option xH := (pV u 2 0 a0 (vR a1)).bind fun u1 => (pV u1 2 2 a0 (vI a2)).bind fun u3 => (pV u3 2 3 a0 (vI a3)).bind fun u5 => (if xbo a4 = true then (pV u5 2 1 a0 (vI a4)).bind fun u8 => some u8 else none)
theorem w_Slot_set {sc : xSc} {d : Nat} {Q : xR → xH → Prop} {hZ : xH} (hQ : Q (.inl none) hZ) (u : xH) (a0 : Option Nat) (a1 : Option Nat) (a2 : Int32) (a3 : Int32) (a4 : Int32) (h : f_Slot_set sc u a0 a1 a2 a3 a4 = some hZ) : xW sc m_Slot_set (d + 0) Q (u) 0 (xent [vR a0, vR a1, vI a2, vI a3, vI a4] m_Slot_set.2.2.1) [] := by
  show xW sc m_Slot_set (d + 0) Q (u) 0 [some (vR a0), some (vR a1), some (vI a2), some (vI a3), some (vI a4)] []
  unfold f_Slot_set at h
  refine x_aload_n (pc := 0) d_Slot_set_0 rfl ?_
  refine x_aload_n (pc := 1) d_Slot_set_1 rfl ?_
  obtain ⟨u1, e2, h⟩ := Option.bind_eq_some_iff.mp h
  refine c_putf (pc := 2) d_Slot_set_2 l_Slot_13 fp_2_0 (xfit_obj) e2 ?_
  refine x_aload_n (pc := 5) d_Slot_set_5 rfl ?_
  refine x_iload_n (pc := 6) d_Slot_set_6 rfl ?_
  obtain ⟨u3, e4, h⟩ := Option.bind_eq_some_iff.mp h
  refine c_putf (pc := 7) d_Slot_set_7 l_Slot_18 fp_2_2 (xfit_int) e4 ?_
  refine x_aload_n (pc := 10) d_Slot_set_10 rfl ?_
  refine x_iload_n (pc := 11) d_Slot_set_11 rfl ?_
  obtain ⟨u5, e6, h⟩ := Option.bind_eq_some_iff.mp h
  refine c_putf (pc := 12) d_Slot_set_12 l_Slot_22 fp_2_3 (xfit_int) e6 ?_
  refine x_aload_n (pc := 15) d_Slot_set_15 rfl ?_
  refine x_iload (pc := 16) d_Slot_set_16 rfl ?_
  obtain ⟨c7, h⟩ := ite_some h
  obtain ⟨u8, e9, h⟩ := Option.bind_eq_some_iff.mp h
  refine c_putf (pc := 18) d_Slot_set_18 l_Slot_25 fp_2_1 (xfit_bool (xbo_or c7)) e9 ?_
  cases h
  exact x_vret (pc := 21) d_Slot_set_21 rfl hQ
def f_P_give (sc : xSc) (u : xH) (a0 : Option Nat) (a1 : Int32) (a2 : Option Nat) (a3 : Int32) : Option ((Unit ⊕ Nat) × xH) := (if xis sc u 0 a0 = true then tB (f_P_place sc u a0 a1) (fun v3 u2 => (if xis sc u2 2 v3 = true then (f_Slot_set sc u2 v3 a2 a3 (0 : Int32) (0 : Int32)).bind fun u8 => some (.inl (), u8) else none)) (fun a5 u6 => some (.inr a5, u6)) else none)
theorem w_P_give {sc : xSc} {d : Nat} {Q : xR → xH → Prop} {oZ : Unit ⊕ Nat} {hZ : xH} (hQ : Q (cvU oZ) hZ) (u : xH) (a0 : Option Nat) (a1 : Int32) (a2 : Option Nat) (a3 : Int32) (h : f_P_give sc u a0 a1 a2 a3 = some (oZ, hZ)) : xW sc m_P_give (d + 8) Q (u) 0 (xent [vR a0, vI a1, vR a2, vI a3] m_P_give.2.2.1) [] := by
  show xW sc m_P_give (d + 8) Q (u) 0 [some (vR a0), some (vI a1), some (vR a2), some (vI a3)] []
  unfold f_P_give at h
  refine x_aload_n (pc := 0) d_P_give_0 rfl ?_
  refine x_iload_n (pc := 1) d_P_give_1 rfl ?_
  obtain ⟨c1, h⟩ := ite_some h
  rcases tB_s h with ⟨a5, u6, e4, h⟩ | ⟨v3, u2, e4, h⟩
  · refine c_invv (c := 0) (d := d + 7) (av := [vI a1]) (st := []) (Q' := fun r h' => r = .inr a5 ∧ h' = u6) (pc := 2) d_P_give_2 cv_P_178 y_P_place c1 rfl (Nat.le_of_ble_eq_true rfl) (Nat.le_of_ble_eq_true rfl) (w_P_place (d := d + 0) (Q := fun r h' => r = .inr a5 ∧ h' = u6) ⟨rfl, rfl⟩ u a0 a1 e4) (fun v h' z => nomatch z.1) (fun a h' z => ?_)
    obtain ⟨z1, z2⟩ := z
    subst h'
    cases z1
    cases h
    exact x_thOut (xno rfl) hQ
  refine c_invv (c := 0) (d := d + 7) (av := [vI a1]) (st := []) (Q' := fun r h' => r = .inl (some (vR v3)) ∧ h' = u2) (pc := 2) d_P_give_2 cv_P_178 y_P_place c1 rfl (Nat.le_of_ble_eq_true rfl) (Nat.le_of_ble_eq_true rfl) (w_P_place (d := d + 0) (Q := fun r h' => r = .inl (some (vR v3)) ∧ h' = u2) ⟨rfl, rfl⟩ u a0 a1 e4) (fun v h' z => ?_) (fun a h' z => nomatch z.1)
  obtain ⟨z1, z2⟩ := z
  subst h'
  cases z1
  show xW sc m_P_give (d + 8) Q (u2) 5 [some (vR a0), some (vI a1), some (vR a2), some (vI a3)] [vR v3]
  refine x_aload_n (pc := 5) d_P_give_5 rfl ?_
  refine x_iload_n (pc := 6) d_P_give_6 rfl ?_
  refine x_iconst (v := (0 : Int32)) (pc := 7) d_P_give_7 (by decide) ?_
  refine x_iconst (v := (0 : Int32)) (pc := 8) d_P_give_8 (by decide) ?_
  obtain ⟨c7, h⟩ := ite_some h
  obtain ⟨u8, e9, h⟩ := Option.bind_eq_some_iff.mp h
  refine c_invv (c := 2) (d := d + 7) (av := [vR a2, vI a3, vI (0 : Int32), vI (0 : Int32)]) (st := []) (Q' := fun r h' => r = .inl none ∧ h' = u8) (pc := 9) d_P_give_9 cv_P_186 y_Slot_set c7 rfl (Nat.le_of_ble_eq_true rfl) (Nat.le_of_ble_eq_true rfl) (w_Slot_set (d := d + 7) (Q := fun r h' => r = .inl none ∧ h' = u8) ⟨rfl, rfl⟩ u2 v3 a2 a3 (0 : Int32) (0 : Int32) e9) (fun v h' z => ?_) (fun a h' z => nomatch z.1)
  obtain ⟨z1, z2⟩ := z
  subst h'
  cases z1
  show xW sc m_P_give (d + 8) Q (u8) 12 [some (vR a0), some (vI a1), some (vR a2), some (vI a3)] []
  cases h
  exact x_vret (pc := 12) d_P_give_12 rfl hQ
def f_P_truth_b14 (sc : xSc)  (t0 : Int32) (t1 : Option Nat) (t2 : Int32) (t3 : Option Nat) (u : xH) : Option ((Unit ⊕ Nat) × xH) := (if xis sc u 0 t3 = true then tB (f_P_give sc u t3 t2 t1 t0) (fun v3 u2 => some (.inl (), u2)) (fun a5 u6 => some (.inr a5, u6)) else none)
theorem w_P_truth_b14 {sc : xSc} {d : Nat} {Q : xR → xH → Prop} {oZ : Unit ⊕ Nat} {hZ : xH}  (hQ : Q (cvU oZ) hZ) (t0 : Int32) (t1 : Option Nat) (t2 : Int32) (t3 : Option Nat) (u : xH) (h : f_P_truth_b14 sc  t0 t1 t2 t3 u = some (oZ, hZ)) : xW sc m_P_truth (d + 9) Q (u) 14 [none, none, none] [vI t0, vR t1, vI t2, vR t3] := by
  unfold f_P_truth_b14 at h
  obtain ⟨c1, h⟩ := ite_some h
  rcases tB_s h with ⟨a5, u6, e4, h⟩ | ⟨v3, u2, e4, h⟩
  · refine c_invv (c := 0) (d := d + 8) (av := [vI t2, vR t1, vI t0]) (st := []) (Q' := fun r h' => r = .inr a5 ∧ h' = u6) (pc := 14) d_P_truth_14 cv_P_199 y_P_give c1 rfl (Nat.le_of_ble_eq_true rfl) (Nat.le_of_ble_eq_true rfl) (w_P_give (d := d + 0) (Q := fun r h' => r = .inr a5 ∧ h' = u6) ⟨rfl, rfl⟩ u t3 t2 t1 t0 e4) (fun v h' z => nomatch z.1) (fun a h' z => ?_)
    obtain ⟨z1, z2⟩ := z
    subst h'
    cases z1
    cases h
    exact x_thOut (xno rfl) hQ
  refine c_invv (c := 0) (d := d + 8) (av := [vI t2, vR t1, vI t0]) (st := []) (Q' := fun r h' => r = .inl none ∧ h' = u2) (pc := 14) d_P_truth_14 cv_P_199 y_P_give c1 rfl (Nat.le_of_ble_eq_true rfl) (Nat.le_of_ble_eq_true rfl) (w_P_give (d := d + 0) (Q := fun r h' => r = .inl none ∧ h' = u2) ⟨rfl, rfl⟩ u t3 t2 t1 t0 e4) (fun v h' z => ?_) (fun a h' z => nomatch z.1)
  obtain ⟨z1, z2⟩ := z
  subst h'
  cases z1
  show xW sc m_P_truth (d + 9) Q (u2) 17 [none, none, none] []
  cases h
  exact x_vret (pc := 17) d_P_truth_17 rfl hQ
def f_P_truth (sc : xSc) (u : xH) (a0 : Option Nat) (a1 : Int32) (a2 : Int32) : Option ((Unit ⊕ Nat) × xH) := (if a2 = 0 then f_P_truth_b14 sc (0 : Int32) (some 74) a1 a0 u else f_P_truth_b14 sc (1 : Int32) (some 74) a1 a0 u)
theorem w_P_truth {sc : xSc} {d : Nat} {Q : xR → xH → Prop} {oZ : Unit ⊕ Nat} {hZ : xH} (hQ : Q (cvU oZ) hZ) (u : xH) (a0 : Option Nat) (a1 : Int32) (a2 : Int32) (h : f_P_truth sc u a0 a1 a2 = some (oZ, hZ)) : xW sc m_P_truth (d + 9) Q (u) 0 (xent [vR a0, vI a1, vI a2] m_P_truth.2.2.1) [] := by
  show xW sc m_P_truth (d + 9) Q (u) 0 [some (vR a0), some (vI a1), some (vI a2)] []
  unfold f_P_truth at h
  refine x_aload_n (pc := 0) d_P_truth_0 rfl ?_
  refine x_iload_n (pc := 1) d_P_truth_1 rfl ?_
  refine x_gets (v := vR (some 74)) (pc := 2) d_P_truth_2 sl_P_210 ?_
  refine x_iload_n (pc := 5) d_P_truth_5 rfl ?_
  refine x_if_eq (tgt := 13) (pc := 6) d_P_truth_6 (by decide) (fun c1 => ?_) (fun c1 => ?_)
  · rw [if_pos c1] at h
    refine x_iconst (v := (0 : Int32)) (pc := 13) d_P_truth_13 (by decide) ?_
    exact x_wk (L' := [none, none, none]) ⟨Or.inl rfl, Or.inl rfl, Or.inl rfl, trivial⟩ (w_P_truth_b14 hQ (0 : Int32) (some 74) a1 a0 u h)
  · rw [if_neg c1] at h
    refine x_iconst (v := (1 : Int32)) (pc := 9) d_P_truth_9 (by decide) ?_
    refine x_goto (tgt := 14) (pc := 10) d_P_truth_10 (by decide) ?_
    exact x_wk (L' := [none, none, none]) ⟨Or.inl rfl, Or.inl rfl, Or.inl rfl, trivial⟩ (w_P_truth_b14 hQ (1 : Int32) (some 74) a1 a0 u h)
def f_Save_init (sc : xSc) (u : xH) (a0 : Option Nat) (a1 : Int32) (a2 : Int32) (a3 : Int32) (a4 : Option Nat) : Option xH := (if a0.isSome = true then (f_Record_init a0).bind fun v2 => (pV u 6 0 a0 (vI a1)).bind fun u4 => (pV u4 6 1 a0 (vI a2)).bind fun u6 => (pV u6 6 2 a0 (vI a3)).bind fun u8 => (pV u8 6 3 a0 (vR a4)).bind fun u10 => some u10 else none)
theorem w_Save_init {sc : xSc} {d : Nat} {Q : xR → xH → Prop} {hZ : xH} (hQ : Q (.inl none) hZ) (u : xH) (a0 : Option Nat) (a1 : Int32) (a2 : Int32) (a3 : Int32) (a4 : Option Nat) (h : f_Save_init sc u a0 a1 a2 a3 a4 = some hZ) : xW sc m_Save_init (d + 2) Q (u) 0 (xent [vR a0, vI a1, vI a2, vI a3, vR a4] m_Save_init.2.2.1) [] := by
  show xW sc m_Save_init (d + 2) Q (u) 0 [some (vR a0), some (vI a1), some (vI a2), some (vI a3), some (vR a4)] []
  unfold f_Save_init at h
  refine x_aload_n (pc := 0) d_Save_init_0 rfl ?_
  obtain ⟨c1, h⟩ := ite_some h
  obtain ⟨v2, e3, h⟩ := Option.bind_eq_some_iff.mp h
  refine c_invi (d := d + 1) (av := []) (st := []) (Q' := fun r h' => r = .inl none ∧ h' = u) (pc := 1) d_Save_init_1 ci_Save_1 y_Record_init (tw_3 (List.mem_of_getElem? (i := 15) rfl)) c1 rfl (Nat.le_of_ble_eq_true rfl) (Nat.le_of_ble_eq_true rfl) (w_Record_init (d := d + 0) (Q := fun r h' => r = .inl none ∧ h' = u) (hh := u) ⟨rfl, rfl⟩ a0 e3) (fun v h' z => ?_) (fun a h' z => nomatch z.1)
  obtain ⟨z1, z2⟩ := z
  subst h'
  cases z1
  show xW sc m_Save_init (d + 2) Q (u) 4 [some (vR a0), some (vI a1), some (vI a2), some (vI a3), some (vR a4)] []
  refine x_aload_n (pc := 4) d_Save_init_4 rfl ?_
  refine x_iload_n (pc := 5) d_Save_init_5 rfl ?_
  obtain ⟨u4, e5, h⟩ := Option.bind_eq_some_iff.mp h
  refine c_putF (pc := 6) d_Save_init_6 l_Save_7 fp_6_0 rfl fo_Save_7 (xfit_int) e5 ?_
  refine x_aload_n (pc := 9) d_Save_init_9 rfl ?_
  refine x_iload_n (pc := 10) d_Save_init_10 rfl ?_
  obtain ⟨u6, e7, h⟩ := Option.bind_eq_some_iff.mp h
  refine c_putF (pc := 11) d_Save_init_11 l_Save_13 fp_6_1 rfl fo_Save_13 (xfit_int) e7 ?_
  refine x_aload_n (pc := 14) d_Save_init_14 rfl ?_
  refine x_iload_n (pc := 15) d_Save_init_15 rfl ?_
  obtain ⟨u8, e9, h⟩ := Option.bind_eq_some_iff.mp h
  refine c_putF (pc := 16) d_Save_init_16 l_Save_16 fp_6_2 rfl fo_Save_16 (xfit_int) e9 ?_
  refine x_aload_n (pc := 19) d_Save_init_19 rfl ?_
  refine x_aload (pc := 20) d_Save_init_20 rfl ?_
  obtain ⟨u10, e11, h⟩ := Option.bind_eq_some_iff.mp h
  refine c_putF (pc := 22) d_Save_init_22 l_Save_19 fp_6_3 rfl fo_Save_19 (xfit_obj) e11 ?_
  cases h
  exact x_vret (pc := 25) d_Save_init_25 rfl hQ
def f_P_save_b14 (sc : xSc)  (l0 : Option Nat) (t0 : Int32) (t1 : Option Nat) (u : xH) : Option ((Unit ⊕ Nat) × xH) := (if xis sc u 0 t1 = true then tB (f_P_need sc u t1 t0 (7 : Int32)) (fun v3 u2 => (gI sc u2 0 27 l0).bind fun v7 => (if xis sc u2 0 l0 = true then tB (f_P_give sc u2 l0 (0 : Int32) (some 79) (v7 + (1 : Int32))) (fun v11 u10 => (gI sc u10 0 27 l0).bind fun v15 => (pV u10 0 27 l0 (vI (v15 + (1 : Int32)))).bind fun u17 => (gR sc u17 0 25 l0).bind fun v19 => (gI sc u17 0 26 l0).bind fun v21 => (pV u17 0 26 l0 (vI (v21 + (1 : Int32)))).bind fun u23 => (nO 6 4 4 u23).bind fun u25 => (gI sc u25 0 27 l0).bind fun v27 => (gI sc u25 0 10 l0).bind fun v29 => (gR sc u25 0 12 l0).bind fun v31 => (if xis sc u25 17 v31 = true then (f_ArrayList_size sc u25 v31).bind fun v34 => (gR sc u25 0 28 l0).bind fun v36 => (if (some u23.2.1).isSome = true then (f_Save_init sc u25 (some u23.2.1) v27 v29 v34 v36).bind fun u39 => (bR "PageScribe$Save" 6 sc u39 v19 v21 (some u23.2.1)).bind fun u41 => some (.inl (), u41) else none) else none)) (fun a13 u14 => some (.inr a13, u14)) else none)) (fun a5 u6 => some (.inr a5, u6)) else none)
theorem w_P_save_b14 {sc : xSc} {d : Nat} {Q : xR → xH → Prop} {oZ : Unit ⊕ Nat} {hZ : xH}  (hQ : Q (cvU oZ) hZ) (l0 : Option Nat) (t0 : Int32) (t1 : Option Nat) (u : xH) (h : f_P_save_b14 sc  l0 t0 t1 u = some (oZ, hZ)) : xW sc m_P_save (d + 9) Q (u) 14 [some (vR l0)] [vI t0, vR t1] := by
  unfold f_P_save_b14 at h
  refine x_bipush (v := (7 : Int32)) (pc := 14) d_P_save_14 (by decide) ?_
  obtain ⟨c1, h⟩ := ite_some h
  rcases tB_s h with ⟨a5, u6, e4, h⟩ | ⟨v3, u2, e4, h⟩
  · refine c_invv (c := 0) (d := d + 8) (av := [vI t0, vI (7 : Int32)]) (st := []) (Q' := fun r h' => r = .inr a5 ∧ h' = u6) (pc := 16) d_P_save_16 cv_P_170 y_P_need c1 rfl (Nat.le_of_ble_eq_true rfl) (Nat.le_of_ble_eq_true rfl) (w_P_need (d := d + 2) (Q := fun r h' => r = .inr a5 ∧ h' = u6) ⟨rfl, rfl⟩ u t1 t0 (7 : Int32) e4) (fun v h' z => nomatch z.1) (fun a h' z => ?_)
    obtain ⟨z1, z2⟩ := z
    subst h'
    cases z1
    cases h
    exact x_thOut (xno rfl) hQ
  refine c_invv (c := 0) (d := d + 8) (av := [vI t0, vI (7 : Int32)]) (st := []) (Q' := fun r h' => r = .inl none ∧ h' = u2) (pc := 16) d_P_save_16 cv_P_170 y_P_need c1 rfl (Nat.le_of_ble_eq_true rfl) (Nat.le_of_ble_eq_true rfl) (w_P_need (d := d + 2) (Q := fun r h' => r = .inl none ∧ h' = u2) ⟨rfl, rfl⟩ u t1 t0 (7 : Int32) e4) (fun v h' z => ?_) (fun a h' z => nomatch z.1)
  obtain ⟨z1, z2⟩ := z
  subst h'
  cases z1
  show xW sc m_P_save (d + 9) Q (u2) 19 [some (vR l0)] []
  refine x_aload_n (pc := 19) d_P_save_19 rfl ?_
  refine x_iconst (v := (0 : Int32)) (pc := 20) d_P_save_20 (by decide) ?_
  refine x_gets (v := vR (some 79)) (pc := 21) d_P_save_21 sl_P_270 ?_
  refine x_aload_n (pc := 24) d_P_save_24 rfl ?_
  obtain ⟨v7, e8, h⟩ := Option.bind_eq_some_iff.mp h
  refine c_getI (pc := 25) d_P_save_25 l_P_273 e8 ?_
  refine x_iconst (v := (1 : Int32)) (pc := 28) d_P_save_28 (by decide) ?_
  refine x_iadd (pc := 29) d_P_save_29 ?_
  obtain ⟨c9, h⟩ := ite_some h
  rcases tB_s h with ⟨a13, u14, e12, h⟩ | ⟨v11, u10, e12, h⟩
  · refine c_invv (c := 0) (d := d + 8) (av := [vI (0 : Int32), vR (some 79), vI (v7 + (1 : Int32))]) (st := []) (Q' := fun r h' => r = .inr a13 ∧ h' = u14) (pc := 30) d_P_save_30 cv_P_199 y_P_give c9 rfl (Nat.le_of_ble_eq_true rfl) (Nat.le_of_ble_eq_true rfl) (w_P_give (d := d + 0) (Q := fun r h' => r = .inr a13 ∧ h' = u14) ⟨rfl, rfl⟩ u2 l0 (0 : Int32) (some 79) (v7 + (1 : Int32)) e12) (fun v h' z => nomatch z.1) (fun a h' z => ?_)
    obtain ⟨z1, z2⟩ := z
    subst h'
    cases z1
    cases h
    exact x_thOut (xno rfl) hQ
  refine c_invv (c := 0) (d := d + 8) (av := [vI (0 : Int32), vR (some 79), vI (v7 + (1 : Int32))]) (st := []) (Q' := fun r h' => r = .inl none ∧ h' = u10) (pc := 30) d_P_save_30 cv_P_199 y_P_give c9 rfl (Nat.le_of_ble_eq_true rfl) (Nat.le_of_ble_eq_true rfl) (w_P_give (d := d + 0) (Q := fun r h' => r = .inl none ∧ h' = u10) ⟨rfl, rfl⟩ u2 l0 (0 : Int32) (some 79) (v7 + (1 : Int32)) e12) (fun v h' z => ?_) (fun a h' z => nomatch z.1)
  obtain ⟨z1, z2⟩ := z
  subst h'
  cases z1
  show xW sc m_P_save (d + 9) Q (u10) 33 [some (vR l0)] []
  refine x_aload_n (pc := 33) d_P_save_33 rfl ?_
  refine x_dup (pc := 34) d_P_save_34 rfl ?_
  obtain ⟨v15, e16, h⟩ := Option.bind_eq_some_iff.mp h
  refine c_getI (pc := 35) d_P_save_35 l_P_273 e16 ?_
  refine x_iconst (v := (1 : Int32)) (pc := 38) d_P_save_38 (by decide) ?_
  refine x_iadd (pc := 39) d_P_save_39 ?_
  obtain ⟨u17, e18, h⟩ := Option.bind_eq_some_iff.mp h
  refine c_putf (pc := 40) d_P_save_40 l_P_273 fp_0_27 (xfit_int) e18 ?_
  refine x_aload_n (pc := 43) d_P_save_43 rfl ?_
  obtain ⟨v19, e20, h⟩ := Option.bind_eq_some_iff.mp h
  refine c_getR (pc := 44) d_P_save_44 l_P_89 e20 ?_
  refine x_aload_n (pc := 47) d_P_save_47 rfl ?_
  refine x_dup (pc := 48) d_P_save_48 rfl ?_
  obtain ⟨v21, e22, h⟩ := Option.bind_eq_some_iff.mp h
  refine c_getI (pc := 49) d_P_save_49 l_P_234 e22 ?_
  refine x_dup_x1 (pc := 52) d_P_save_52 rfl rfl ?_
  refine x_iconst (v := (1 : Int32)) (pc := 53) d_P_save_53 (by decide) ?_
  refine x_iadd (pc := 54) d_P_save_54 ?_
  obtain ⟨u23, e24, h⟩ := Option.bind_eq_some_iff.mp h
  refine c_putf (pc := 55) d_P_save_55 l_P_234 fp_0_26 (xfit_int) e24 ?_
  obtain ⟨u25, e26, h⟩ := Option.bind_eq_some_iff.mp h
  refine c_new (pc := 58) d_P_save_58 nw_P_87 ly_6 ⟨_, rfl, rfl⟩ e26 ?_
  refine x_dup (pc := 61) d_P_save_61 rfl ?_
  refine x_aload_n (pc := 62) d_P_save_62 rfl ?_
  obtain ⟨v27, e28, h⟩ := Option.bind_eq_some_iff.mp h
  refine c_getI (pc := 63) d_P_save_63 l_P_273 e28 ?_
  refine x_aload_n (pc := 66) d_P_save_66 rfl ?_
  obtain ⟨v29, e30, h⟩ := Option.bind_eq_some_iff.mp h
  refine c_getI (pc := 67) d_P_save_67 l_P_231 e30 ?_
  refine x_aload_n (pc := 70) d_P_save_70 rfl ?_
  obtain ⟨v31, e32, h⟩ := Option.bind_eq_some_iff.mp h
  refine c_getR (pc := 71) d_P_save_71 l_P_66 e32 ?_
  obtain ⟨c33, h⟩ := ite_some h
  obtain ⟨v34, e35, h⟩ := Option.bind_eq_some_iff.mp h
  refine c_invv (c := 17) (d := d + 8) (av := []) (st := [vI v29, vI v27, vR (some u23.2.1), vR (some u23.2.1), vI v21, vR v19]) (Q' := fun r h' => r = .inl (some (vI v34)) ∧ h' = u25) (pc := 74) d_P_save_74 cv_P_276 y_ArrayList_size c33 rfl (Nat.le_of_ble_eq_true rfl) (Nat.le_of_ble_eq_true rfl) (w_ArrayList_size (d := d + 8) (Q := fun r h' => r = .inl (some (vI v34)) ∧ h' = u25) ⟨rfl, rfl⟩ v31 e35) (fun v h' z => ?_) (fun a h' z => nomatch z.1)
  obtain ⟨z1, z2⟩ := z
  subst h'
  cases z1
  show xW sc m_P_save (d + 9) Q (u25) 77 [some (vR l0)] [vI v34, vI v29, vI v27, vR (some u23.2.1), vR (some u23.2.1), vI v21, vR v19]
  refine x_aload_n (pc := 77) d_P_save_77 rfl ?_
  obtain ⟨v36, e37, h⟩ := Option.bind_eq_some_iff.mp h
  refine c_getR (pc := 78) d_P_save_78 l_P_242 e37 ?_
  obtain ⟨c38, h⟩ := ite_some h
  obtain ⟨u39, e40, h⟩ := Option.bind_eq_some_iff.mp h
  refine c_invi (d := d + 8) (av := [vI v27, vI v29, vI v34, vR v36]) (st := [vR (some u23.2.1), vI v21, vR v19]) (Q' := fun r h' => r = .inl none ∧ h' = u39) (pc := 81) d_P_save_81 ci_P_279 y_Save_init (tw_5 (List.mem_of_getElem? (i := 222) rfl)) c38 rfl (Nat.le_of_ble_eq_true rfl) (Nat.le_of_ble_eq_true rfl) (w_Save_init (d := d + 6) (Q := fun r h' => r = .inl none ∧ h' = u39) ⟨rfl, rfl⟩ u25 (some u23.2.1) v27 v29 v34 v36 e40) (fun v h' z => ?_) (fun a h' z => nomatch z.1)
  obtain ⟨z1, z2⟩ := z
  subst h'
  cases z1
  show xW sc m_P_save (d + 9) Q (u39) 84 [some (vR l0)] [vR (some u23.2.1), vI v21, vR v19]
  obtain ⟨u41, e42, h⟩ := Option.bind_eq_some_iff.mp h
  refine c_aast (C := "PageScribe$Save") (c := 6) (pc := 84) d_P_save_84 ⟨_, rfl, Or.inl ⟨rfl, by decide, by decide⟩⟩ e42 ?_
  cases h
  exact x_vret (pc := 85) d_P_save_85 rfl hQ
def f_P_save (sc : xSc) (u : xH) (a0 : Option Nat) : Option ((Unit ⊕ Nat) × xH) := (gI sc u 0 26 a0).bind fun v1 => (if (3 : Int32) ≤ v1 then f_P_save_b14 sc a0 (0 : Int32) a0 u else f_P_save_b14 sc a0 (1 : Int32) a0 u)
theorem w_P_save {sc : xSc} {d : Nat} {Q : xR → xH → Prop} {oZ : Unit ⊕ Nat} {hZ : xH} (hQ : Q (cvU oZ) hZ) (u : xH) (a0 : Option Nat) (h : f_P_save sc u a0 = some (oZ, hZ)) : xW sc m_P_save (d + 9) Q (u) 0 (xent [vR a0] m_P_save.2.2.1) [] := by
  show xW sc m_P_save (d + 9) Q (u) 0 [some (vR a0)] []
  unfold f_P_save at h
  refine x_aload_n (pc := 0) d_P_save_0 rfl ?_
  refine x_aload_n (pc := 1) d_P_save_1 rfl ?_
  obtain ⟨v1, e2, h⟩ := Option.bind_eq_some_iff.mp h
  refine c_getI (pc := 2) d_P_save_2 l_P_234 e2 ?_
  refine x_iconst (v := (3 : Int32)) (pc := 5) d_P_save_5 (by decide) ?_
  refine x_icmp_ge (tgt := 13) (pc := 6) d_P_save_6 (by decide) (fun c3 => ?_) (fun c3 => ?_)
  · rw [if_pos c3] at h
    refine x_iconst (v := (0 : Int32)) (pc := 13) d_P_save_13 (by decide) ?_
    exact w_P_save_b14 hQ a0 (0 : Int32) a0 u h
  · rw [if_neg c3] at h
    refine x_iconst (v := (1 : Int32)) (pc := 9) d_P_save_9 (by decide) ?_
    refine x_goto (tgt := 14) (pc := 10) d_P_save_10 (by decide) ?_
    exact w_P_save_b14 hQ a0 (1 : Int32) a0 u h
def f_Save_serial (sc : xSc) (u : xH) (a0 : Option Nat) : Option Int32 := (gI sc u 6 0 a0).bind fun v1 => some v1
theorem w_Save_serial {sc : xSc} {d : Nat} {Q : xR → xH → Prop} {u : xH} {rZ : Int32} (hQ : Q (.inl (some (vI rZ))) u) (a0 : Option Nat) (h : f_Save_serial sc u a0 = some rZ) : xW sc m_Save_serial (d + 0) Q (u) 0 (xent [vR a0] m_Save_serial.2.2.1) [] := by
  show xW sc m_Save_serial (d + 0) Q (u) 0 [some (vR a0)] []
  unfold f_Save_serial at h
  refine x_aload_n (pc := 0) d_Save_serial_0 rfl ?_
  obtain ⟨v1, e2, h⟩ := Option.bind_eq_some_iff.mp h
  refine c_getI (pc := 1) d_Save_serial_1 l_Save_7 e2 ?_
  cases h
  exact x_iret (ty := .int) (pc := 4) d_Save_serial_4 rfl (rfl) hQ
def f_Save_isBefore_b91 (sc : xSc) (u : xH)  (t0 : Int32) : Option Int32 := (if xbo t0 = true then some t0 else none)
theorem w_Save_isBefore_b91 {sc : xSc} {d : Nat} {Q : xR → xH → Prop} {u : xH} {rZ : Int32}  (hQ : Q (.inl (some (vI rZ))) u) (t0 : Int32) (h : f_Save_isBefore_b91 sc u  t0 = some rZ) : xW sc m_Save_isBefore (d + 1) Q (u) 91 [none, none] [vI t0] := by
  unfold f_Save_isBefore_b91 at h
  obtain ⟨c1, h⟩ := ite_some h
  cases h
  exact x_iret (ty := .boolean) (pc := 91) d_Save_isBefore_91 rfl (xbo_n c1) hQ
def f_Save_isBefore_b90 (sc : xSc) (u : xH)   : Option Int32 := f_Save_isBefore_b91 sc u (0 : Int32)
theorem w_Save_isBefore_b90 {sc : xSc} {d : Nat} {Q : xR → xH → Prop} {u : xH} {rZ : Int32}  (hQ : Q (.inl (some (vI rZ))) u)  (h : f_Save_isBefore_b90 sc u   = some rZ) : xW sc m_Save_isBefore (d + 1) Q (u) 90 [none, none] [] := by
  unfold f_Save_isBefore_b90 at h
  refine x_iconst (v := (0 : Int32)) (pc := 90) d_Save_isBefore_90 (by decide) ?_
  exact w_Save_isBefore_b91 hQ (0 : Int32) h
def f_Save_isBefore_b32 (sc : xSc) (u : xH)   : Option Int32 := f_Save_isBefore_b91 sc u (0 : Int32)
theorem w_Save_isBefore_b32 {sc : xSc} {d : Nat} {Q : xR → xH → Prop} {u : xH} {rZ : Int32}  (hQ : Q (.inl (some (vI rZ))) u)  (h : f_Save_isBefore_b32 sc u   = some rZ) : xW sc m_Save_isBefore (d + 1) Q (u) 32 [none, none] [] := by
  unfold f_Save_isBefore_b32 at h
  refine x_iconst (v := (0 : Int32)) (pc := 32) d_Save_isBefore_32 (by decide) ?_
  refine x_goto (tgt := 91) (pc := 33) d_Save_isBefore_33 (by decide) ?_
  exact w_Save_isBefore_b91 hQ (0 : Int32) h
def f_Save_isBefore (sc : xSc) (u : xH) (a0 : Option Nat) (a1 : Option Nat) : Option Int32 := (if xis sc u 2 a1 = true then (f_Slot_is sc u a1 (some 77)).bind fun v2 => (if v2 = 0 then (if xis sc u 2 a1 = true then (f_Slot_is sc u a1 (some 78)).bind fun v6 => (if v6 = 0 then (if xis sc u 2 a1 = true then (f_Slot_is sc u a1 (some 79)).bind fun v10 => (if v10 = 0 then f_Save_isBefore_b90 sc u else (gI sc u 2 2 a1).bind fun v13 => (gI sc u 6 0 a0).bind fun v15 => (if v13 ≤ v15 then f_Save_isBefore_b90 sc u else f_Save_isBefore_b91 sc u (1 : Int32))) else none) else (gI sc u 2 2 a1).bind fun v18 => (gI sc u 6 2 a0).bind fun v20 => (if v18 < v20 then f_Save_isBefore_b91 sc u (0 : Int32) else f_Save_isBefore_b91 sc u (1 : Int32))) else none) else (gI sc u 2 3 a1).bind fun v23 => (if v23 ≤ 0 then f_Save_isBefore_b32 sc u else (gI sc u 2 2 a1).bind fun v26 => (gI sc u 6 1 a0).bind fun v28 => (if v26 < v28 then f_Save_isBefore_b32 sc u else f_Save_isBefore_b91 sc u (1 : Int32)))) else none)
theorem w_Save_isBefore {sc : xSc} {d : Nat} {Q : xR → xH → Prop} {u : xH} {rZ : Int32} (hQ : Q (.inl (some (vI rZ))) u) (a0 : Option Nat) (a1 : Option Nat) (h : f_Save_isBefore sc u a0 a1 = some rZ) : xW sc m_Save_isBefore (d + 1) Q (u) 0 (xent [vR a0, vR a1] m_Save_isBefore.2.2.1) [] := by
  show xW sc m_Save_isBefore (d + 1) Q (u) 0 [some (vR a0), some (vR a1)] []
  unfold f_Save_isBefore at h
  refine x_aload_n (pc := 0) d_Save_isBefore_0 rfl ?_
  refine x_gets (v := vR (some 77)) (pc := 1) d_Save_isBefore_1 sl_Save_23 ?_
  obtain ⟨c1, h⟩ := ite_some h
  obtain ⟨v2, e3, h⟩ := Option.bind_eq_some_iff.mp h
  refine c_invv (c := 2) (d := d + 0) (av := [vR (some 77)]) (st := []) (Q' := fun r h' => r = .inl (some (vI v2)) ∧ h' = u) (pc := 4) d_Save_isBefore_4 cv_Save_29 y_Slot_is c1 rfl (Nat.le_of_ble_eq_true rfl) (Nat.le_of_ble_eq_true rfl) (w_Slot_is (d := d + 0) (Q := fun r h' => r = .inl (some (vI v2)) ∧ h' = u) ⟨rfl, rfl⟩ a1 (some 77) e3) (fun v h' z => ?_) (fun a h' z => nomatch z.1)
  obtain ⟨z1, z2⟩ := z
  subst h'
  cases z1
  show xW sc m_Save_isBefore (d + 1) Q (u) 7 [some (vR a0), some (vR a1)] [vI v2]
  refine x_if_eq (tgt := 36) (pc := 7) d_Save_isBefore_7 (by decide) (fun c4 => ?_) (fun c4 => ?_)
  · rw [if_pos c4] at h
    refine x_aload_n (pc := 36) d_Save_isBefore_36 rfl ?_
    refine x_gets (v := vR (some 78)) (pc := 37) d_Save_isBefore_37 sl_Save_41 ?_
    obtain ⟨c5, h⟩ := ite_some h
    obtain ⟨v6, e7, h⟩ := Option.bind_eq_some_iff.mp h
    refine c_invv (c := 2) (d := d + 0) (av := [vR (some 78)]) (st := []) (Q' := fun r h' => r = .inl (some (vI v6)) ∧ h' = u) (pc := 40) d_Save_isBefore_40 cv_Save_29 y_Slot_is c5 rfl (Nat.le_of_ble_eq_true rfl) (Nat.le_of_ble_eq_true rfl) (w_Slot_is (d := d + 0) (Q := fun r h' => r = .inl (some (vI v6)) ∧ h' = u) ⟨rfl, rfl⟩ a1 (some 78) e7) (fun v h' z => ?_) (fun a h' z => nomatch z.1)
    obtain ⟨z1, z2⟩ := z
    subst h'
    cases z1
    show xW sc m_Save_isBefore (d + 1) Q (u) 43 [some (vR a0), some (vR a1)] [vI v6]
    refine x_if_eq (tgt := 65) (pc := 43) d_Save_isBefore_43 (by decide) (fun c8 => ?_) (fun c8 => ?_)
    · rw [if_pos c8] at h
      refine x_aload_n (pc := 65) d_Save_isBefore_65 rfl ?_
      refine x_gets (v := vR (some 79)) (pc := 66) d_Save_isBefore_66 sl_Save_44 ?_
      obtain ⟨c9, h⟩ := ite_some h
      obtain ⟨v10, e11, h⟩ := Option.bind_eq_some_iff.mp h
      refine c_invv (c := 2) (d := d + 0) (av := [vR (some 79)]) (st := []) (Q' := fun r h' => r = .inl (some (vI v10)) ∧ h' = u) (pc := 69) d_Save_isBefore_69 cv_Save_29 y_Slot_is c9 rfl (Nat.le_of_ble_eq_true rfl) (Nat.le_of_ble_eq_true rfl) (w_Slot_is (d := d + 0) (Q := fun r h' => r = .inl (some (vI v10)) ∧ h' = u) ⟨rfl, rfl⟩ a1 (some 79) e11) (fun v h' z => ?_) (fun a h' z => nomatch z.1)
      obtain ⟨z1, z2⟩ := z
      subst h'
      cases z1
      show xW sc m_Save_isBefore (d + 1) Q (u) 72 [some (vR a0), some (vR a1)] [vI v10]
      refine x_if_eq (tgt := 90) (pc := 72) d_Save_isBefore_72 (by decide) (fun c12 => ?_) (fun c12 => ?_)
      · rw [if_pos c12] at h
        exact x_wk (L' := [none, none]) ⟨Or.inl rfl, Or.inl rfl, trivial⟩ (w_Save_isBefore_b90 hQ h)
      · rw [if_neg c12] at h
        refine x_aload_n (pc := 75) d_Save_isBefore_75 rfl ?_
        obtain ⟨v13, e14, h⟩ := Option.bind_eq_some_iff.mp h
        refine c_getI (pc := 76) d_Save_isBefore_76 l_Save_38 e14 ?_
        refine x_aload_n (pc := 79) d_Save_isBefore_79 rfl ?_
        obtain ⟨v15, e16, h⟩ := Option.bind_eq_some_iff.mp h
        refine c_getI (pc := 80) d_Save_isBefore_80 l_Save_7 e16 ?_
        refine x_icmp_le (tgt := 90) (pc := 83) d_Save_isBefore_83 (by decide) (fun c17 => ?_) (fun c17 => ?_)
        · rw [if_pos c17] at h
          exact x_wk (L' := [none, none]) ⟨Or.inl rfl, Or.inl rfl, trivial⟩ (w_Save_isBefore_b90 hQ h)
        · rw [if_neg c17] at h
          refine x_iconst (v := (1 : Int32)) (pc := 86) d_Save_isBefore_86 (by decide) ?_
          refine x_goto (tgt := 91) (pc := 87) d_Save_isBefore_87 (by decide) ?_
          exact x_wk (L' := [none, none]) ⟨Or.inl rfl, Or.inl rfl, trivial⟩ (w_Save_isBefore_b91 hQ (1 : Int32) h)
    · rw [if_neg c8] at h
      refine x_aload_n (pc := 46) d_Save_isBefore_46 rfl ?_
      obtain ⟨v18, e19, h⟩ := Option.bind_eq_some_iff.mp h
      refine c_getI (pc := 47) d_Save_isBefore_47 l_Save_38 e19 ?_
      refine x_aload_n (pc := 50) d_Save_isBefore_50 rfl ?_
      obtain ⟨v20, e21, h⟩ := Option.bind_eq_some_iff.mp h
      refine c_getI (pc := 51) d_Save_isBefore_51 l_Save_16 e21 ?_
      refine x_icmp_lt (tgt := 61) (pc := 54) d_Save_isBefore_54 (by decide) (fun c22 => ?_) (fun c22 => ?_)
      · rw [if_pos c22] at h
        refine x_iconst (v := (0 : Int32)) (pc := 61) d_Save_isBefore_61 (by decide) ?_
        refine x_goto (tgt := 91) (pc := 62) d_Save_isBefore_62 (by decide) ?_
        exact x_wk (L' := [none, none]) ⟨Or.inl rfl, Or.inl rfl, trivial⟩ (w_Save_isBefore_b91 hQ (0 : Int32) h)
      · rw [if_neg c22] at h
        refine x_iconst (v := (1 : Int32)) (pc := 57) d_Save_isBefore_57 (by decide) ?_
        refine x_goto (tgt := 91) (pc := 58) d_Save_isBefore_58 (by decide) ?_
        exact x_wk (L' := [none, none]) ⟨Or.inl rfl, Or.inl rfl, trivial⟩ (w_Save_isBefore_b91 hQ (1 : Int32) h)
  · rw [if_neg c4] at h
    refine x_aload_n (pc := 10) d_Save_isBefore_10 rfl ?_
    obtain ⟨v23, e24, h⟩ := Option.bind_eq_some_iff.mp h
    refine c_getI (pc := 11) d_Save_isBefore_11 l_Save_35 e24 ?_
    refine x_if_le (tgt := 32) (pc := 14) d_Save_isBefore_14 (by decide) (fun c25 => ?_) (fun c25 => ?_)
    · rw [if_pos c25] at h
      exact x_wk (L' := [none, none]) ⟨Or.inl rfl, Or.inl rfl, trivial⟩ (w_Save_isBefore_b32 hQ h)
    · rw [if_neg c25] at h
      refine x_aload_n (pc := 17) d_Save_isBefore_17 rfl ?_
      obtain ⟨v26, e27, h⟩ := Option.bind_eq_some_iff.mp h
      refine c_getI (pc := 18) d_Save_isBefore_18 l_Save_38 e27 ?_
      refine x_aload_n (pc := 21) d_Save_isBefore_21 rfl ?_
      obtain ⟨v28, e29, h⟩ := Option.bind_eq_some_iff.mp h
      refine c_getI (pc := 22) d_Save_isBefore_22 l_Save_13 e29 ?_
      refine x_icmp_lt (tgt := 32) (pc := 25) d_Save_isBefore_25 (by decide) (fun c30 => ?_) (fun c30 => ?_)
      · rw [if_pos c30] at h
        exact x_wk (L' := [none, none]) ⟨Or.inl rfl, Or.inl rfl, trivial⟩ (w_Save_isBefore_b32 hQ h)
      · rw [if_neg c30] at h
        refine x_iconst (v := (1 : Int32)) (pc := 28) d_Save_isBefore_28 (by decide) ?_
        refine x_goto (tgt := 91) (pc := 29) d_Save_isBefore_29 (by decide) ?_
        exact x_wk (L' := [none, none]) ⟨Or.inl rfl, Or.inl rfl, trivial⟩ (w_Save_isBefore_b91 hQ (1 : Int32) h)
def f_Save_dicts (sc : xSc) (u : xH) (a0 : Option Nat) : Option Int32 := (gI sc u 6 2 a0).bind fun v1 => some v1
theorem w_Save_dicts {sc : xSc} {d : Nat} {Q : xR → xH → Prop} {u : xH} {rZ : Int32} (hQ : Q (.inl (some (vI rZ))) u) (a0 : Option Nat) (h : f_Save_dicts sc u a0 = some rZ) : xW sc m_Save_dicts (d + 0) Q (u) 0 (xent [vR a0] m_Save_dicts.2.2.1) [] := by
  show xW sc m_Save_dicts (d + 0) Q (u) 0 [some (vR a0)] []
  unfold f_Save_dicts at h
  refine x_aload_n (pc := 0) d_Save_dicts_0 rfl ?_
  obtain ⟨v1, e2, h⟩ := Option.bind_eq_some_iff.mp h
  refine c_getI (pc := 1) d_Save_dicts_1 l_Save_16 e2 ?_
  cases h
  exact x_iret (ty := .int) (pc := 4) d_Save_dicts_4 rfl (rfl) hQ
def f_Save_cells (sc : xSc) (u : xH) (a0 : Option Nat) : Option Int32 := (gI sc u 6 1 a0).bind fun v1 => some v1
theorem w_Save_cells {sc : xSc} {d : Nat} {Q : xR → xH → Prop} {u : xH} {rZ : Int32} (hQ : Q (.inl (some (vI rZ))) u) (a0 : Option Nat) (h : f_Save_cells sc u a0 = some rZ) : xW sc m_Save_cells (d + 0) Q (u) 0 (xent [vR a0] m_Save_cells.2.2.1) [] := by
  show xW sc m_Save_cells (d + 0) Q (u) 0 [some (vR a0)] []
  unfold f_Save_cells at h
  refine x_aload_n (pc := 0) d_Save_cells_0 rfl ?_
  obtain ⟨v1, e2, h⟩ := Option.bind_eq_some_iff.mp h
  refine c_getI (pc := 1) d_Save_cells_1 l_Save_13 e2 ?_
  cases h
  exact x_iret (ty := .int) (pc := 4) d_Save_cells_4 rfl (rfl) hQ
def f_Save_mark (sc : xSc) (u : xH) (a0 : Option Nat) : Option (Option Nat) := (gR sc u 6 3 a0).bind fun v1 => some v1
theorem w_Save_mark {sc : xSc} {d : Nat} {Q : xR → xH → Prop} {u : xH} {rZ : Option Nat} (hQ : Q (.inl (some (vR rZ))) u) (a0 : Option Nat) (h : f_Save_mark sc u a0 = some rZ) : xW sc m_Save_mark (d + 0) Q (u) 0 (xent [vR a0] m_Save_mark.2.2.1) [] := by
  show xW sc m_Save_mark (d + 0) Q (u) 0 [some (vR a0)] []
  unfold f_Save_mark at h
  refine x_aload_n (pc := 0) d_Save_mark_0 rfl ?_
  obtain ⟨v1, e2, h⟩ := Option.bind_eq_some_iff.mp h
  refine c_getR (pc := 1) d_Save_mark_1 l_Save_19 e2 ?_
  cases h
  exact x_aret (pc := 4) d_Save_mark_4 rfl (Or.inl ⟨_, rfl⟩) hQ
def f_Slot_copy (sc : xSc) (u : xH) (a0 : Option Nat) (a1 : Option Nat) : Option xH := (gR sc u 2 0 a1).bind fun v1 => (gI sc u 2 2 a1).bind fun v3 => (gI sc u 2 3 a1).bind fun v5 => (gI sc u 2 1 a1).bind fun v7 => (if xis sc u 2 a0 = true then (f_Slot_set sc u a0 v1 v3 v5 v7).bind fun u10 => (gD sc u10 2 5 a1).bind fun v12 => (pV u10 2 5 a0 (vD v12)).bind fun u14 => (gR sc u14 2 6 a1).bind fun v16 => (pV u14 2 6 a0 (vR v16)).bind fun u18 => (gR sc u18 2 7 a1).bind fun v20 => (pV u18 2 7 a0 (vR v20)).bind fun u22 => some u22 else none)
theorem w_Slot_copy {sc : xSc} {d : Nat} {Q : xR → xH → Prop} {hZ : xH} (hQ : Q (.inl none) hZ) (u : xH) (a0 : Option Nat) (a1 : Option Nat) (h : f_Slot_copy sc u a0 a1 = some hZ) : xW sc m_Slot_copy (d + 1) Q (u) 0 (xent [vR a0, vR a1] m_Slot_copy.2.2.1) [] := by
  show xW sc m_Slot_copy (d + 1) Q (u) 0 [some (vR a0), some (vR a1)] []
  unfold f_Slot_copy at h
  refine x_aload_n (pc := 0) d_Slot_copy_0 rfl ?_
  refine x_aload_n (pc := 1) d_Slot_copy_1 rfl ?_
  obtain ⟨v1, e2, h⟩ := Option.bind_eq_some_iff.mp h
  refine c_getR (pc := 2) d_Slot_copy_2 l_Slot_13 e2 ?_
  refine x_aload_n (pc := 5) d_Slot_copy_5 rfl ?_
  obtain ⟨v3, e4, h⟩ := Option.bind_eq_some_iff.mp h
  refine c_getI (pc := 6) d_Slot_copy_6 l_Slot_18 e4 ?_
  refine x_aload_n (pc := 9) d_Slot_copy_9 rfl ?_
  obtain ⟨v5, e6, h⟩ := Option.bind_eq_some_iff.mp h
  refine c_getI (pc := 10) d_Slot_copy_10 l_Slot_22 e6 ?_
  refine x_aload_n (pc := 13) d_Slot_copy_13 rfl ?_
  obtain ⟨v7, e8, h⟩ := Option.bind_eq_some_iff.mp h
  refine c_getI (pc := 14) d_Slot_copy_14 l_Slot_25 e8 ?_
  obtain ⟨c9, h⟩ := ite_some h
  obtain ⟨u10, e11, h⟩ := Option.bind_eq_some_iff.mp h
  refine c_invv (c := 2) (d := d + 0) (av := [vR v1, vI v3, vI v5, vI v7]) (st := []) (Q' := fun r h' => r = .inl none ∧ h' = u10) (pc := 17) d_Slot_copy_17 cv_Slot_32 y_Slot_set c9 rfl (Nat.le_of_ble_eq_true rfl) (Nat.le_of_ble_eq_true rfl) (w_Slot_set (d := d + 0) (Q := fun r h' => r = .inl none ∧ h' = u10) ⟨rfl, rfl⟩ u a0 v1 v3 v5 v7 e11) (fun v h' z => ?_) (fun a h' z => nomatch z.1)
  obtain ⟨z1, z2⟩ := z
  subst h'
  cases z1
  show xW sc m_Slot_copy (d + 1) Q (u10) 20 [some (vR a0), some (vR a1)] []
  refine x_aload_n (pc := 20) d_Slot_copy_20 rfl ?_
  refine x_aload_n (pc := 21) d_Slot_copy_21 rfl ?_
  obtain ⟨v12, e13, h⟩ := Option.bind_eq_some_iff.mp h
  refine c_getD (pc := 22) d_Slot_copy_22 l_Slot_36 e13 ?_
  obtain ⟨u14, e15, h⟩ := Option.bind_eq_some_iff.mp h
  refine c_putf (pc := 25) d_Slot_copy_25 l_Slot_36 fp_2_5 (xfit_double) e15 ?_
  refine x_aload_n (pc := 28) d_Slot_copy_28 rfl ?_
  refine x_aload_n (pc := 29) d_Slot_copy_29 rfl ?_
  obtain ⟨v16, e17, h⟩ := Option.bind_eq_some_iff.mp h
  refine c_getR (pc := 30) d_Slot_copy_30 l_Slot_43 e17 ?_
  obtain ⟨u18, e19, h⟩ := Option.bind_eq_some_iff.mp h
  refine c_putf (pc := 33) d_Slot_copy_33 l_Slot_43 fp_2_6 (xfit_obj) e19 ?_
  refine x_aload_n (pc := 36) d_Slot_copy_36 rfl ?_
  refine x_aload_n (pc := 37) d_Slot_copy_37 rfl ?_
  obtain ⟨v20, e21, h⟩ := Option.bind_eq_some_iff.mp h
  refine c_getR (pc := 38) d_Slot_copy_38 l_Slot_47 e21 ?_
  obtain ⟨u22, e23, h⟩ := Option.bind_eq_some_iff.mp h
  refine c_putf (pc := 41) d_Slot_copy_41 l_Slot_47 fp_2_7 (xfit_obj) e23 ?_
  cases h
  exact x_vret (pc := 44) d_Slot_copy_44 rfl hQ
def f_Rewritten_undo (sc : xSc) (u : xH) (a0 : Option Nat) : Option xH := (gR sc u 8 1 a0).bind fun v1 => (gR sc u 8 2 a0).bind fun v3 => (if xis sc u 2 v1 = true then (f_Slot_copy sc u v1 v3).bind fun u6 => (gR sc u6 8 1 a0).bind fun v8 => (gI sc u6 8 3 a0).bind fun v10 => (pV u6 2 4 v8 (vI v10)).bind fun u12 => some u12 else none)
theorem w_Rewritten_undo {sc : xSc} {d : Nat} {Q : xR → xH → Prop} {hZ : xH} (hQ : Q (.inl none) hZ) (u : xH) (a0 : Option Nat) (h : f_Rewritten_undo sc u a0 = some hZ) : xW sc m_Rewritten_undo (d + 2) Q (u) 0 (xent [vR a0] m_Rewritten_undo.2.2.1) [] := by
  show xW sc m_Rewritten_undo (d + 2) Q (u) 0 [some (vR a0)] []
  unfold f_Rewritten_undo at h
  refine x_aload_n (pc := 0) d_Rewritten_undo_0 rfl ?_
  obtain ⟨v1, e2, h⟩ := Option.bind_eq_some_iff.mp h
  refine c_getR (pc := 1) d_Rewritten_undo_1 l_Rewritten_13 e2 ?_
  refine x_aload_n (pc := 4) d_Rewritten_undo_4 rfl ?_
  obtain ⟨v3, e4, h⟩ := Option.bind_eq_some_iff.mp h
  refine c_getR (pc := 5) d_Rewritten_undo_5 l_Rewritten_17 e4 ?_
  obtain ⟨c5, h⟩ := ite_some h
  obtain ⟨u6, e7, h⟩ := Option.bind_eq_some_iff.mp h
  refine c_invv (c := 2) (d := d + 1) (av := [vR v3]) (st := []) (Q' := fun r h' => r = .inl none ∧ h' = u6) (pc := 8) d_Rewritten_undo_8 cv_Rewritten_24 y_Slot_copy c5 rfl (Nat.le_of_ble_eq_true rfl) (Nat.le_of_ble_eq_true rfl) (w_Slot_copy (d := d + 0) (Q := fun r h' => r = .inl none ∧ h' = u6) ⟨rfl, rfl⟩ u v1 v3 e7) (fun v h' z => ?_) (fun a h' z => nomatch z.1)
  obtain ⟨z1, z2⟩ := z
  subst h'
  cases z1
  show xW sc m_Rewritten_undo (d + 2) Q (u6) 11 [some (vR a0)] []
  refine x_aload_n (pc := 11) d_Rewritten_undo_11 rfl ?_
  obtain ⟨v8, e9, h⟩ := Option.bind_eq_some_iff.mp h
  refine c_getR (pc := 12) d_Rewritten_undo_12 l_Rewritten_13 e9 ?_
  refine x_aload_n (pc := 15) d_Rewritten_undo_15 rfl ?_
  obtain ⟨v10, e11, h⟩ := Option.bind_eq_some_iff.mp h
  refine c_getI (pc := 16) d_Rewritten_undo_16 l_Rewritten_20 e11 ?_
  obtain ⟨u12, e13, h⟩ := Option.bind_eq_some_iff.mp h
  refine c_putf (pc := 19) d_Rewritten_undo_19 l_Rewritten_30 fp_2_4 (xfit_int) e13 ?_
  cases h
  exact x_vret (pc := 22) d_Rewritten_undo_22 rfl hQ
def f_Rewritten_before (sc : xSc) (u : xH) (a0 : Option Nat) : Option (Option Nat) := (gR sc u 8 0 a0).bind fun v1 => some v1
theorem w_Rewritten_before {sc : xSc} {d : Nat} {Q : xR → xH → Prop} {u : xH} {rZ : Option Nat} (hQ : Q (.inl (some (vR rZ))) u) (a0 : Option Nat) (h : f_Rewritten_before sc u a0 = some rZ) : xW sc m_Rewritten_before (d + 0) Q (u) 0 (xent [vR a0] m_Rewritten_before.2.2.1) [] := by
  show xW sc m_Rewritten_before (d + 0) Q (u) 0 [some (vR a0)] []
  unfold f_Rewritten_before at h
  refine x_aload_n (pc := 0) d_Rewritten_before_0 rfl ?_
  obtain ⟨v1, e2, h⟩ := Option.bind_eq_some_iff.mp h
  refine c_getR (pc := 1) d_Rewritten_before_1 l_Rewritten_7 e2 ?_
  cases h
  exact x_aret (pc := 4) d_Rewritten_before_4 rfl (Or.inl ⟨_, rfl⟩) hQ
def f_P_restore_b257 (sc : xSc)  : Nat → Option Nat → Option Nat → xH → Option ((Unit ⊕ Nat) × xH)
  | 0, _, _, _ => none
  | n + 1, l0, l3, u => (gR sc u 0 12 l0).bind fun v1 => (if xis sc u 17 v1 = true then (f_ArrayList_size sc u v1).bind fun v4 => (if xis sc u 6 l3 = true then (f_Save_dicts sc u l3).bind fun v7 => (if v4 ≤ v7 then (gI sc u 0 9 l0).bind fun v10 => (pV u 0 9 l0 (vI (v10 - (1 : Int32)))).bind fun u12 => some (.inl (), u12) else (gR sc u 0 12 l0).bind fun v14 => (gR sc u 0 12 l0).bind fun v16 => (if xis sc u 17 v16 = true then (f_ArrayList_size sc u v16).bind fun v19 => (if xis sc u 17 v14 = true then (f_ArrayList_remove sc u v14 (v19 - (1 : Int32))).bind fun (v23, u22) => (f_P_restore_b257 sc n) l0 l3 u22 else none) else none)) else none) else none)
theorem w_P_restore_b257 {sc : xSc} {d : Nat} {Q : xR → xH → Prop} {oZ : Unit ⊕ Nat} {hZ : xH}  (hQ : Q (cvU oZ) hZ) : ∀ (n : Nat) (l0 : Option Nat) (l3 : Option Nat) (u : xH), f_P_restore_b257 sc  n l0 l3 u = some (oZ, hZ) → xW sc m_P_restore (d + 7) Q (u) 257 [some (vR l0), none, none, some (vR l3), none] [] := by
  intro n
  induction n with
  | zero =>
    intro l0 l3 u h
    cases h
  | succ n hk257 =>
    intro l0 l3 u h
    unfold f_P_restore_b257 at h
    refine x_aload_n (pc := 257) d_P_restore_257 rfl ?_
    obtain ⟨v1, e2, h⟩ := Option.bind_eq_some_iff.mp h
    refine c_getR (pc := 258) d_P_restore_258 l_P_66 e2 ?_
    obtain ⟨c3, h⟩ := ite_some h
    obtain ⟨v4, e5, h⟩ := Option.bind_eq_some_iff.mp h
    refine c_invv (c := 17) (d := d + 6) (av := []) (st := []) (Q' := fun r h' => r = .inl (some (vI v4)) ∧ h' = u) (pc := 261) d_P_restore_261 cv_P_276 y_ArrayList_size c3 rfl (Nat.le_of_ble_eq_true rfl) (Nat.le_of_ble_eq_true rfl) (w_ArrayList_size (d := d + 6) (Q := fun r h' => r = .inl (some (vI v4)) ∧ h' = u) ⟨rfl, rfl⟩ v1 e5) (fun v h' z => ?_) (fun a h' z => nomatch z.1)
    obtain ⟨z1, z2⟩ := z
    subst h'
    cases z1
    show xW sc m_P_restore (d + 7) Q (u) 264 [some (vR l0), none, none, some (vR l3), none] [vI v4]
    refine x_aload_n (pc := 264) d_P_restore_264 rfl ?_
    obtain ⟨c6, h⟩ := ite_some h
    obtain ⟨v7, e8, h⟩ := Option.bind_eq_some_iff.mp h
    refine c_invv (c := 6) (d := d + 6) (av := []) (st := [vI v4]) (Q' := fun r h' => r = .inl (some (vI v7)) ∧ h' = u) (pc := 265) d_P_restore_265 cv_P_289 y_Save_dicts c6 rfl (Nat.le_of_ble_eq_true rfl) (Nat.le_of_ble_eq_true rfl) (w_Save_dicts (d := d + 6) (Q := fun r h' => r = .inl (some (vI v7)) ∧ h' = u) ⟨rfl, rfl⟩ l3 e8) (fun v h' z => ?_) (fun a h' z => nomatch z.1)
    obtain ⟨z1, z2⟩ := z
    subst h'
    cases z1
    show xW sc m_P_restore (d + 7) Q (u) 268 [some (vR l0), none, none, some (vR l3), none] [vI v7, vI v4]
    refine x_icmp_le (tgt := 291) (pc := 268) d_P_restore_268 (by decide) (fun c9 => ?_) (fun c9 => ?_)
    · rw [if_pos c9] at h
      refine x_aload_n (pc := 291) d_P_restore_291 rfl ?_
      refine x_dup (pc := 292) d_P_restore_292 rfl ?_
      obtain ⟨v10, e11, h⟩ := Option.bind_eq_some_iff.mp h
      refine c_getI (pc := 293) d_P_restore_293 l_P_174 e11 ?_
      refine x_iconst (v := (1 : Int32)) (pc := 296) d_P_restore_296 (by decide) ?_
      refine x_isub (pc := 297) d_P_restore_297 ?_
      obtain ⟨u12, e13, h⟩ := Option.bind_eq_some_iff.mp h
      refine c_putf (pc := 298) d_P_restore_298 l_P_174 fp_0_9 (xfit_int) e13 ?_
      cases h
      exact x_vret (pc := 301) d_P_restore_301 rfl hQ
    · rw [if_neg c9] at h
      refine x_aload_n (pc := 271) d_P_restore_271 rfl ?_
      obtain ⟨v14, e15, h⟩ := Option.bind_eq_some_iff.mp h
      refine c_getR (pc := 272) d_P_restore_272 l_P_66 e15 ?_
      refine x_aload_n (pc := 275) d_P_restore_275 rfl ?_
      obtain ⟨v16, e17, h⟩ := Option.bind_eq_some_iff.mp h
      refine c_getR (pc := 276) d_P_restore_276 l_P_66 e17 ?_
      obtain ⟨c18, h⟩ := ite_some h
      obtain ⟨v19, e20, h⟩ := Option.bind_eq_some_iff.mp h
      refine c_invv (c := 17) (d := d + 6) (av := []) (st := [vR v14]) (Q' := fun r h' => r = .inl (some (vI v19)) ∧ h' = u) (pc := 279) d_P_restore_279 cv_P_276 y_ArrayList_size c18 rfl (Nat.le_of_ble_eq_true rfl) (Nat.le_of_ble_eq_true rfl) (w_ArrayList_size (d := d + 6) (Q := fun r h' => r = .inl (some (vI v19)) ∧ h' = u) ⟨rfl, rfl⟩ v16 e20) (fun v h' z => ?_) (fun a h' z => nomatch z.1)
      obtain ⟨z1, z2⟩ := z
      subst h'
      cases z1
      show xW sc m_P_restore (d + 7) Q (u) 282 [some (vR l0), none, none, some (vR l3), none] [vI v19, vR v14]
      refine x_iconst (v := (1 : Int32)) (pc := 282) d_P_restore_282 (by decide) ?_
      refine x_isub (pc := 283) d_P_restore_283 ?_
      obtain ⟨c21, h⟩ := ite_some h
      obtain ⟨⟨v23, u22⟩, e24, h⟩ := Option.bind_eq_some_iff.mp h
      dsimp only at h
      refine c_invv (c := 17) (d := d + 6) (av := [vI (v19 - (1 : Int32))]) (st := []) (Q' := fun r h' => r = .inl (some (vR v23)) ∧ h' = u22) (pc := 284) d_P_restore_284 cv_P_308 y_ArrayList_remove c21 rfl (Nat.le_of_ble_eq_true rfl) (Nat.le_of_ble_eq_true rfl) (w_ArrayList_remove (d := d + 4) (Q := fun r h' => r = .inl (some (vR v23)) ∧ h' = u22) ⟨rfl, rfl⟩ u v14 (v19 - (1 : Int32)) e24) (fun v h' z => ?_) (fun a h' z => nomatch z.1)
      obtain ⟨z1, z2⟩ := z
      subst h'
      cases z1
      show xW sc m_P_restore (d + 7) Q (u22) 287 [some (vR l0), none, none, some (vR l3), none] [vR v23]
      refine x_pop (pc := 287) d_P_restore_287 rfl ?_
      refine x_goto (tgt := 257) (pc := 288) d_P_restore_288 (by decide) ?_
      exact hk257 l0 l3 u22 h
def f_P_restore_b244 (sc : xSc)  (l0 : Option Nat) (l2 : Int32) (l3 : Option Nat) (u : xH) : Option ((Unit ⊕ Nat) × xH) := (pV u 0 26 l0 (vI l2)).bind fun u1 => (if xis sc u1 6 l3 = true then (f_Save_cells sc u1 l3).bind fun v4 => (pV u1 0 10 l0 (vI v4)).bind fun u6 => f_P_restore_b257 sc mF l0 l3 u6 else none)
theorem w_P_restore_b244 {sc : xSc} {d : Nat} {Q : xR → xH → Prop} {oZ : Unit ⊕ Nat} {hZ : xH}  (hQ : Q (cvU oZ) hZ) (l0 : Option Nat) (l2 : Int32) (l3 : Option Nat) (u : xH) (h : f_P_restore_b244 sc  l0 l2 l3 u = some (oZ, hZ)) : xW sc m_P_restore (d + 7) Q (u) 244 [some (vR l0), none, some (vI l2), some (vR l3), none] [] := by
  unfold f_P_restore_b244 at h
  refine x_aload_n (pc := 244) d_P_restore_244 rfl ?_
  refine x_iload_n (pc := 245) d_P_restore_245 rfl ?_
  obtain ⟨u1, e2, h⟩ := Option.bind_eq_some_iff.mp h
  refine c_putf (pc := 246) d_P_restore_246 l_P_234 fp_0_26 (xfit_int) e2 ?_
  refine x_aload_n (pc := 249) d_P_restore_249 rfl ?_
  refine x_aload_n (pc := 250) d_P_restore_250 rfl ?_
  obtain ⟨c3, h⟩ := ite_some h
  obtain ⟨v4, e5, h⟩ := Option.bind_eq_some_iff.mp h
  refine c_invv (c := 6) (d := d + 6) (av := []) (st := [vR l0]) (Q' := fun r h' => r = .inl (some (vI v4)) ∧ h' = u1) (pc := 251) d_P_restore_251 cv_P_294 y_Save_cells c3 rfl (Nat.le_of_ble_eq_true rfl) (Nat.le_of_ble_eq_true rfl) (w_Save_cells (d := d + 6) (Q := fun r h' => r = .inl (some (vI v4)) ∧ h' = u1) ⟨rfl, rfl⟩ l3 e5) (fun v h' z => ?_) (fun a h' z => nomatch z.1)
  obtain ⟨z1, z2⟩ := z
  subst h'
  cases z1
  show xW sc m_P_restore (d + 7) Q (u1) 254 [some (vR l0), none, some (vI l2), some (vR l3), none] [vI v4, vR l0]
  obtain ⟨u6, e7, h⟩ := Option.bind_eq_some_iff.mp h
  refine c_putf (pc := 254) d_P_restore_254 l_P_231 fp_0_10 (xfit_int) e7 ?_
  exact x_wk (L' := [some (vR l0), none, none, some (vR l3), none]) ⟨Or.inr rfl, Or.inl rfl, Or.inl rfl, Or.inr rfl, Or.inl rfl, trivial⟩ (w_P_restore_b257 hQ mF l0 l3 u6 h)
def f_P_restore_b201 (sc : xSc)  : Nat → Option Nat → Int32 → Option Nat → xH → Option ((Unit ⊕ Nat) × xH)
  | 0, _, _, _, _ => none
  | n + 1, l0, l2, l3, u => (gR sc u 0 28 l0).bind fun v1 => (if xis sc u 6 l3 = true then (f_Save_mark sc u l3).bind fun v4 => (if xcm v1 = true then (if xcm v4 = true then (if v1 = v4 then f_P_restore_b244 sc l0 l2 l3 u else (gR sc u 0 28 l0).bind fun v9 => (if v9 = none then f_P_restore_b244 sc l0 l2 l3 u else (gR sc u 0 28 l0).bind fun v12 => (if xis sc u 8 v12 = true then (f_Rewritten_undo sc u v12).bind fun u15 => (gR sc u15 0 28 l0).bind fun v17 => (if xis sc u15 8 v17 = true then (f_Rewritten_before sc u15 v17).bind fun v20 => (pV u15 0 28 l0 (vR v20)).bind fun u22 => (f_P_restore_b201 sc n) l0 l2 l3 u22 else (if xis sc u15 9 v17 = true then (f_Added_before sc u15 v17).bind fun v25 => (pV u15 0 28 l0 (vR v25)).bind fun u27 => (f_P_restore_b201 sc n) l0 l2 l3 u27 else none)) else (if xis sc u 9 v12 = true then (f_Added_undo sc u v12).bind fun u30 => (gR sc u30 0 28 l0).bind fun v32 => (if xis sc u30 8 v32 = true then (f_Rewritten_before sc u30 v32).bind fun v35 => (pV u30 0 28 l0 (vR v35)).bind fun u37 => (f_P_restore_b201 sc n) l0 l2 l3 u37 else (if xis sc u30 9 v32 = true then (f_Added_before sc u30 v32).bind fun v40 => (pV u30 0 28 l0 (vR v40)).bind fun u42 => (f_P_restore_b201 sc n) l0 l2 l3 u42 else none)) else none)))) else none) else none) else none)
theorem w_P_restore_b201 {sc : xSc} {d : Nat} {Q : xR → xH → Prop} {oZ : Unit ⊕ Nat} {hZ : xH}  (hQ : Q (cvU oZ) hZ) : ∀ (n : Nat) (l0 : Option Nat) (l2 : Int32) (l3 : Option Nat) (u : xH), f_P_restore_b201 sc  n l0 l2 l3 u = some (oZ, hZ) → xW sc m_P_restore (d + 7) Q (u) 201 [some (vR l0), none, some (vI l2), some (vR l3), none] [] := by
  intro n
  induction n with
  | zero =>
    intro l0 l2 l3 u h
    cases h
  | succ n hk201 =>
    intro l0 l2 l3 u h
    unfold f_P_restore_b201 at h
    refine x_aload_n (pc := 201) d_P_restore_201 rfl ?_
    obtain ⟨v1, e2, h⟩ := Option.bind_eq_some_iff.mp h
    refine c_getR (pc := 202) d_P_restore_202 l_P_242 e2 ?_
    refine x_aload_n (pc := 205) d_P_restore_205 rfl ?_
    obtain ⟨c3, h⟩ := ite_some h
    obtain ⟨v4, e5, h⟩ := Option.bind_eq_some_iff.mp h
    refine c_invv (c := 6) (d := d + 6) (av := []) (st := [vR v1]) (Q' := fun r h' => r = .inl (some (vR v4)) ∧ h' = u) (pc := 206) d_P_restore_206 cv_P_296 y_Save_mark c3 rfl (Nat.le_of_ble_eq_true rfl) (Nat.le_of_ble_eq_true rfl) (w_Save_mark (d := d + 6) (Q := fun r h' => r = .inl (some (vR v4)) ∧ h' = u) ⟨rfl, rfl⟩ l3 e5) (fun v h' z => ?_) (fun a h' z => nomatch z.1)
    obtain ⟨z1, z2⟩ := z
    subst h'
    cases z1
    show xW sc m_P_restore (d + 7) Q (u) 209 [some (vR l0), none, some (vI l2), some (vR l3), none] [vR v4, vR v1]
    obtain ⟨c6, h⟩ := ite_some h
    obtain ⟨c7, h⟩ := ite_some h
    refine x_acmp_eq (tgt := 244) (pc := 209) d_P_restore_209 (by decide) (xcm_s c6) (xcm_s c7) (fun c8 => ?_) (fun c8 => ?_)
    · rw [if_pos c8] at h
      exact w_P_restore_b244 hQ l0 l2 l3 u h
    · rw [if_neg c8] at h
      refine x_aload_n (pc := 212) d_P_restore_212 rfl ?_
      obtain ⟨v9, e10, h⟩ := Option.bind_eq_some_iff.mp h
      refine c_getR (pc := 213) d_P_restore_213 l_P_242 e10 ?_
      refine c_ifnull (tgt := 244) (pc := 216) d_P_restore_216 (by decide) (fun c11 => ?_) (fun c11 => ?_)
      · rw [if_pos c11] at h
        exact w_P_restore_b244 hQ l0 l2 l3 u h
      · rw [if_neg c11] at h
        refine x_aload_n (pc := 219) d_P_restore_219 rfl ?_
        obtain ⟨v12, e13, h⟩ := Option.bind_eq_some_iff.mp h
        refine c_getR (pc := 220) d_P_restore_220 l_P_242 e13 ?_
        by_cases c14 : xis sc u 8 v12 = true
        · rw [if_pos c14] at h
          obtain ⟨u15, e16, h⟩ := Option.bind_eq_some_iff.mp h
          refine c_invf (c := 8) (d := d + 6) (av := []) (st := []) (Q' := fun r h' => r = .inl none ∧ h' = u15) (pc := 223) d_P_restore_223 cf_P_300_8 y_Rewritten_undo c14 rfl (Nat.le_of_ble_eq_true rfl) (Nat.le_of_ble_eq_true rfl) (w_Rewritten_undo (d := d + 4) (Q := fun r h' => r = .inl none ∧ h' = u15) ⟨rfl, rfl⟩ u v12 e16) (fun v h' z => ?_) (fun a h' z => nomatch z.1)
          obtain ⟨z1, z2⟩ := z
          subst h'
          cases z1
          show xW sc m_P_restore (d + 7) Q (u15) 228 [some (vR l0), none, some (vI l2), some (vR l3), none] []
          refine x_aload_n (pc := 228) d_P_restore_228 rfl ?_
          refine x_aload_n (pc := 229) d_P_restore_229 rfl ?_
          obtain ⟨v17, e18, h⟩ := Option.bind_eq_some_iff.mp h
          refine c_getR (pc := 230) d_P_restore_230 l_P_242 e18 ?_
          by_cases c19 : xis sc u15 8 v17 = true
          · rw [if_pos c19] at h
            obtain ⟨v20, e21, h⟩ := Option.bind_eq_some_iff.mp h
            refine c_invf (c := 8) (d := d + 6) (av := []) (st := [vR l0]) (Q' := fun r h' => r = .inl (some (vR v20)) ∧ h' = u15) (pc := 233) d_P_restore_233 cf_P_305_8 y_Rewritten_before c19 rfl (Nat.le_of_ble_eq_true rfl) (Nat.le_of_ble_eq_true rfl) (w_Rewritten_before (d := d + 6) (Q := fun r h' => r = .inl (some (vR v20)) ∧ h' = u15) ⟨rfl, rfl⟩ v17 e21) (fun v h' z => ?_) (fun a h' z => nomatch z.1)
            obtain ⟨z1, z2⟩ := z
            subst h'
            cases z1
            show xW sc m_P_restore (d + 7) Q (u15) 238 [some (vR l0), none, some (vI l2), some (vR l3), none] [vR v20, vR l0]
            obtain ⟨u22, e23, h⟩ := Option.bind_eq_some_iff.mp h
            refine c_putf (pc := 238) d_P_restore_238 l_P_242 fp_0_28 (xfit_obj) e23 ?_
            refine x_goto (tgt := 201) (pc := 241) d_P_restore_241 (by decide) ?_
            exact hk201 l0 l2 l3 u22 h
          rw [if_neg c19] at h
          by_cases c24 : xis sc u15 9 v17 = true
          · rw [if_pos c24] at h
            obtain ⟨v25, e26, h⟩ := Option.bind_eq_some_iff.mp h
            refine c_invf (c := 9) (d := d + 6) (av := []) (st := [vR l0]) (Q' := fun r h' => r = .inl (some (vR v25)) ∧ h' = u15) (pc := 233) d_P_restore_233 cf_P_305_9 y_Added_before c24 rfl (Nat.le_of_ble_eq_true rfl) (Nat.le_of_ble_eq_true rfl) (w_Added_before (d := d + 6) (Q := fun r h' => r = .inl (some (vR v25)) ∧ h' = u15) ⟨rfl, rfl⟩ v17 e26) (fun v h' z => ?_) (fun a h' z => nomatch z.1)
            obtain ⟨z1, z2⟩ := z
            subst h'
            cases z1
            show xW sc m_P_restore (d + 7) Q (u15) 238 [some (vR l0), none, some (vI l2), some (vR l3), none] [vR v25, vR l0]
            obtain ⟨u27, e28, h⟩ := Option.bind_eq_some_iff.mp h
            refine c_putf (pc := 238) d_P_restore_238 l_P_242 fp_0_28 (xfit_obj) e28 ?_
            refine x_goto (tgt := 201) (pc := 241) d_P_restore_241 (by decide) ?_
            exact hk201 l0 l2 l3 u27 h
          rw [if_neg c24] at h
          cases h
        rw [if_neg c14] at h
        by_cases c29 : xis sc u 9 v12 = true
        · rw [if_pos c29] at h
          obtain ⟨u30, e31, h⟩ := Option.bind_eq_some_iff.mp h
          refine c_invf (c := 9) (d := d + 6) (av := []) (st := []) (Q' := fun r h' => r = .inl none ∧ h' = u30) (pc := 223) d_P_restore_223 cf_P_300_9 y_Added_undo c29 rfl (Nat.le_of_ble_eq_true rfl) (Nat.le_of_ble_eq_true rfl) (w_Added_undo (d := d + 4) (Q := fun r h' => r = .inl none ∧ h' = u30) ⟨rfl, rfl⟩ u v12 e31) (fun v h' z => ?_) (fun a h' z => nomatch z.1)
          obtain ⟨z1, z2⟩ := z
          subst h'
          cases z1
          show xW sc m_P_restore (d + 7) Q (u30) 228 [some (vR l0), none, some (vI l2), some (vR l3), none] []
          refine x_aload_n (pc := 228) d_P_restore_228 rfl ?_
          refine x_aload_n (pc := 229) d_P_restore_229 rfl ?_
          obtain ⟨v32, e33, h⟩ := Option.bind_eq_some_iff.mp h
          refine c_getR (pc := 230) d_P_restore_230 l_P_242 e33 ?_
          by_cases c34 : xis sc u30 8 v32 = true
          · rw [if_pos c34] at h
            obtain ⟨v35, e36, h⟩ := Option.bind_eq_some_iff.mp h
            refine c_invf (c := 8) (d := d + 6) (av := []) (st := [vR l0]) (Q' := fun r h' => r = .inl (some (vR v35)) ∧ h' = u30) (pc := 233) d_P_restore_233 cf_P_305_8 y_Rewritten_before c34 rfl (Nat.le_of_ble_eq_true rfl) (Nat.le_of_ble_eq_true rfl) (w_Rewritten_before (d := d + 6) (Q := fun r h' => r = .inl (some (vR v35)) ∧ h' = u30) ⟨rfl, rfl⟩ v32 e36) (fun v h' z => ?_) (fun a h' z => nomatch z.1)
            obtain ⟨z1, z2⟩ := z
            subst h'
            cases z1
            show xW sc m_P_restore (d + 7) Q (u30) 238 [some (vR l0), none, some (vI l2), some (vR l3), none] [vR v35, vR l0]
            obtain ⟨u37, e38, h⟩ := Option.bind_eq_some_iff.mp h
            refine c_putf (pc := 238) d_P_restore_238 l_P_242 fp_0_28 (xfit_obj) e38 ?_
            refine x_goto (tgt := 201) (pc := 241) d_P_restore_241 (by decide) ?_
            exact hk201 l0 l2 l3 u37 h
          rw [if_neg c34] at h
          by_cases c39 : xis sc u30 9 v32 = true
          · rw [if_pos c39] at h
            obtain ⟨v40, e41, h⟩ := Option.bind_eq_some_iff.mp h
            refine c_invf (c := 9) (d := d + 6) (av := []) (st := [vR l0]) (Q' := fun r h' => r = .inl (some (vR v40)) ∧ h' = u30) (pc := 233) d_P_restore_233 cf_P_305_9 y_Added_before c39 rfl (Nat.le_of_ble_eq_true rfl) (Nat.le_of_ble_eq_true rfl) (w_Added_before (d := d + 6) (Q := fun r h' => r = .inl (some (vR v40)) ∧ h' = u30) ⟨rfl, rfl⟩ v32 e41) (fun v h' z => ?_) (fun a h' z => nomatch z.1)
            obtain ⟨z1, z2⟩ := z
            subst h'
            cases z1
            show xW sc m_P_restore (d + 7) Q (u30) 238 [some (vR l0), none, some (vI l2), some (vR l3), none] [vR v40, vR l0]
            obtain ⟨u42, e43, h⟩ := Option.bind_eq_some_iff.mp h
            refine c_putf (pc := 238) d_P_restore_238 l_P_242 fp_0_28 (xfit_obj) e43 ?_
            refine x_goto (tgt := 201) (pc := 241) d_P_restore_241 (by decide) ?_
            exact hk201 l0 l2 l3 u42 h
          rw [if_neg c39] at h
          cases h
        rw [if_neg c29] at h
        cases h
def f_P_restore_b190 (sc : xSc) (k151 : Option Nat → Int32 → Option Nat → Int32 → xH → Option ((Unit ⊕ Nat) × xH)) (l0 : Option Nat) (l2 : Int32) (l3 : Option Nat) (l4 : Int32) (t0 : Int32) (t1 : Option Nat) (u : xH) : Option ((Unit ⊕ Nat) × xH) := (if xis sc u 0 t1 = true then tB (f_P_need sc u t1 t0 (10 : Int32)) (fun v3 u2 => k151 l0 l2 l3 (l4 + Int32.ofInt 1) u2) (fun a5 u6 => some (.inr a5, u6)) else none)
theorem w_P_restore_b190 {sc : xSc} {d : Nat} {Q : xR → xH → Prop} {oZ : Unit ⊕ Nat} {hZ : xH} (k151 : Option Nat → Int32 → Option Nat → Int32 → xH → Option ((Unit ⊕ Nat) × xH)) (hk151 : ∀ (l0 : Option Nat) (l2 : Int32) (l3 : Option Nat) (l4 : Int32) (u : xH), k151 l0 l2 l3 l4 u = some (oZ, hZ) → xW sc m_P_restore (d + 7) Q (u) 151 [some (vR l0), none, some (vI l2), some (vR l3), some (vI l4)] []) (hQ : Q (cvU oZ) hZ) (l0 : Option Nat) (l2 : Int32) (l3 : Option Nat) (l4 : Int32) (t0 : Int32) (t1 : Option Nat) (u : xH) (h : f_P_restore_b190 sc k151 l0 l2 l3 l4 t0 t1 u = some (oZ, hZ)) : xW sc m_P_restore (d + 7) Q (u) 190 [some (vR l0), none, some (vI l2), some (vR l3), some (vI l4)] [vI t0, vR t1] := by
  unfold f_P_restore_b190 at h
  refine x_bipush (v := (10 : Int32)) (pc := 190) d_P_restore_190 (by decide) ?_
  obtain ⟨c1, h⟩ := ite_some h
  rcases tB_s h with ⟨a5, u6, e4, h⟩ | ⟨v3, u2, e4, h⟩
  · refine c_invv (c := 0) (d := d + 6) (av := [vI t0, vI (10 : Int32)]) (st := []) (Q' := fun r h' => r = .inr a5 ∧ h' = u6) (pc := 192) d_P_restore_192 cv_P_170 y_P_need c1 rfl (Nat.le_of_ble_eq_true rfl) (Nat.le_of_ble_eq_true rfl) (w_P_need (d := d + 0) (Q := fun r h' => r = .inr a5 ∧ h' = u6) ⟨rfl, rfl⟩ u t1 t0 (10 : Int32) e4) (fun v h' z => nomatch z.1) (fun a h' z => ?_)
    obtain ⟨z1, z2⟩ := z
    subst h'
    cases z1
    cases h
    exact x_thOut (xno rfl) hQ
  refine c_invv (c := 0) (d := d + 6) (av := [vI t0, vI (10 : Int32)]) (st := []) (Q' := fun r h' => r = .inl none ∧ h' = u2) (pc := 192) d_P_restore_192 cv_P_170 y_P_need c1 rfl (Nat.le_of_ble_eq_true rfl) (Nat.le_of_ble_eq_true rfl) (w_P_need (d := d + 0) (Q := fun r h' => r = .inl none ∧ h' = u2) ⟨rfl, rfl⟩ u t1 t0 (10 : Int32) e4) (fun v h' z => ?_) (fun a h' z => nomatch z.1)
  obtain ⟨z1, z2⟩ := z
  subst h'
  cases z1
  show xW sc m_P_restore (d + 7) Q (u2) 195 [some (vR l0), none, some (vI l2), some (vR l3), some (vI l4)] []
  refine x_iinc (pc := 195) d_P_restore_195 rfl (by decide) ?_
  show xW sc m_P_restore (d + 7) Q (u2) 198 [some (vR l0), none, some (vI l2), some (vR l3), some (vI (l4 + Int32.ofInt 1))] []
  refine x_goto (tgt := 151) (pc := 198) d_P_restore_198 (by decide) ?_
  exact hk151 l0 l2 l3 (l4 + Int32.ofInt 1) u2 h
def f_P_restore_b185 (sc : xSc) (k151 : Option Nat → Int32 → Option Nat → Int32 → xH → Option ((Unit ⊕ Nat) × xH)) (l0 : Option Nat) (l2 : Int32) (l3 : Option Nat) (l4 : Int32) (t0 : Option Nat) (u : xH) : Option ((Unit ⊕ Nat) × xH) := f_P_restore_b190 sc k151 l0 l2 l3 l4 (1 : Int32) t0 u
theorem w_P_restore_b185 {sc : xSc} {d : Nat} {Q : xR → xH → Prop} {oZ : Unit ⊕ Nat} {hZ : xH} (k151 : Option Nat → Int32 → Option Nat → Int32 → xH → Option ((Unit ⊕ Nat) × xH)) (hk151 : ∀ (l0 : Option Nat) (l2 : Int32) (l3 : Option Nat) (l4 : Int32) (u : xH), k151 l0 l2 l3 l4 u = some (oZ, hZ) → xW sc m_P_restore (d + 7) Q (u) 151 [some (vR l0), none, some (vI l2), some (vR l3), some (vI l4)] []) (hQ : Q (cvU oZ) hZ) (l0 : Option Nat) (l2 : Int32) (l3 : Option Nat) (l4 : Int32) (t0 : Option Nat) (u : xH) (h : f_P_restore_b185 sc k151 l0 l2 l3 l4 t0 u = some (oZ, hZ)) : xW sc m_P_restore (d + 7) Q (u) 185 [some (vR l0), none, some (vI l2), some (vR l3), some (vI l4)] [vR t0] := by
  unfold f_P_restore_b185 at h
  refine x_iconst (v := (1 : Int32)) (pc := 185) d_P_restore_185 (by decide) ?_
  refine x_goto (tgt := 190) (pc := 186) d_P_restore_186 (by decide) ?_
  exact w_P_restore_b190 k151 hk151 hQ l0 l2 l3 l4 (1 : Int32) t0 u h
def f_P_restore_b151 (sc : xSc)  : Nat → Option Nat → Int32 → Option Nat → Int32 → xH → Option ((Unit ⊕ Nat) × xH)
  | 0, _, _, _, _, _ => none
  | n + 1, l0, l2, l3, l4, u => (gI sc u 0 21 l0).bind fun v1 => (if v1 ≤ l4 then f_P_restore_b201 sc mF l0 l2 l3 u else (gR sc u 0 20 l0).bind fun v4 => (aI .int sc u v4 l4).bind fun v6 => (if v6 = 0 then f_P_restore_b185 sc (f_P_restore_b151 sc n) l0 l2 l3 l4 l0 u else (gR sc u 0 19 l0).bind fun v9 => (aI .int sc u v9 l4).bind fun v11 => (if xis sc u 6 l3 = true then (f_Save_cells sc u l3).bind fun v14 => (if v14 ≤ v11 then f_P_restore_b190 sc (f_P_restore_b151 sc n) l0 l2 l3 l4 (0 : Int32) l0 u else f_P_restore_b185 sc (f_P_restore_b151 sc n) l0 l2 l3 l4 l0 u) else none)))
theorem w_P_restore_b151 {sc : xSc} {d : Nat} {Q : xR → xH → Prop} {oZ : Unit ⊕ Nat} {hZ : xH}  (hQ : Q (cvU oZ) hZ) : ∀ (n : Nat) (l0 : Option Nat) (l2 : Int32) (l3 : Option Nat) (l4 : Int32) (u : xH), f_P_restore_b151 sc  n l0 l2 l3 l4 u = some (oZ, hZ) → xW sc m_P_restore (d + 7) Q (u) 151 [some (vR l0), none, some (vI l2), some (vR l3), some (vI l4)] [] := by
  intro n
  induction n with
  | zero =>
    intro l0 l2 l3 l4 u h
    cases h
  | succ n hk151 =>
    intro l0 l2 l3 l4 u h
    unfold f_P_restore_b151 at h
    refine x_iload (pc := 151) d_P_restore_151 rfl ?_
    refine x_aload_n (pc := 153) d_P_restore_153 rfl ?_
    obtain ⟨v1, e2, h⟩ := Option.bind_eq_some_iff.mp h
    refine c_getI (pc := 154) d_P_restore_154 l_P_291 e2 ?_
    refine x_icmp_ge (tgt := 201) (pc := 157) d_P_restore_157 (by decide) (fun c3 => ?_) (fun c3 => ?_)
    · rw [if_pos c3] at h
      exact x_wk (L' := [some (vR l0), none, some (vI l2), some (vR l3), none]) ⟨Or.inr rfl, Or.inl rfl, Or.inr rfl, Or.inr rfl, Or.inl rfl, trivial⟩ (w_P_restore_b201 hQ mF l0 l2 l3 u h)
    · rw [if_neg c3] at h
      refine x_aload_n (pc := 160) d_P_restore_160 rfl ?_
      refine x_aload_n (pc := 161) d_P_restore_161 rfl ?_
      obtain ⟨v4, e5, h⟩ := Option.bind_eq_some_iff.mp h
      refine c_getR (pc := 162) d_P_restore_162 l_P_84 e5 ?_
      refine x_iload (pc := 165) d_P_restore_165 rfl ?_
      obtain ⟨v6, e7, h⟩ := Option.bind_eq_some_iff.mp h
      refine c_iald (pc := 167) d_P_restore_167 e7 ?_
      refine x_if_eq (tgt := 185) (pc := 168) d_P_restore_168 (by decide) (fun c8 => ?_) (fun c8 => ?_)
      · rw [if_pos c8] at h
        exact w_P_restore_b185 (f_P_restore_b151 sc n) hk151 hQ l0 l2 l3 l4 l0 u h
      · rw [if_neg c8] at h
        refine x_aload_n (pc := 171) d_P_restore_171 rfl ?_
        obtain ⟨v9, e10, h⟩ := Option.bind_eq_some_iff.mp h
        refine c_getR (pc := 172) d_P_restore_172 l_P_80 e10 ?_
        refine x_iload (pc := 175) d_P_restore_175 rfl ?_
        obtain ⟨v11, e12, h⟩ := Option.bind_eq_some_iff.mp h
        refine c_iald (pc := 177) d_P_restore_177 e12 ?_
        refine x_aload_n (pc := 178) d_P_restore_178 rfl ?_
        obtain ⟨c13, h⟩ := ite_some h
        obtain ⟨v14, e15, h⟩ := Option.bind_eq_some_iff.mp h
        refine c_invv (c := 6) (d := d + 6) (av := []) (st := [vI v11, vR l0]) (Q' := fun r h' => r = .inl (some (vI v14)) ∧ h' = u) (pc := 179) d_P_restore_179 cv_P_294 y_Save_cells c13 rfl (Nat.le_of_ble_eq_true rfl) (Nat.le_of_ble_eq_true rfl) (w_Save_cells (d := d + 6) (Q := fun r h' => r = .inl (some (vI v14)) ∧ h' = u) ⟨rfl, rfl⟩ l3 e15) (fun v h' z => ?_) (fun a h' z => nomatch z.1)
        obtain ⟨z1, z2⟩ := z
        subst h'
        cases z1
        show xW sc m_P_restore (d + 7) Q (u) 182 [some (vR l0), none, some (vI l2), some (vR l3), some (vI l4)] [vI v14, vI v11, vR l0]
        refine x_icmp_ge (tgt := 189) (pc := 182) d_P_restore_182 (by decide) (fun c16 => ?_) (fun c16 => ?_)
        · rw [if_pos c16] at h
          refine x_iconst (v := (0 : Int32)) (pc := 189) d_P_restore_189 (by decide) ?_
          exact w_P_restore_b190 (f_P_restore_b151 sc n) hk151 hQ l0 l2 l3 l4 (0 : Int32) l0 u h
        · rw [if_neg c16] at h
          exact w_P_restore_b185 (f_P_restore_b151 sc n) hk151 hQ l0 l2 l3 l4 l0 u h
def f_P_restore_b137 (sc : xSc) (k105 : Option Nat → Int32 → Option Nat → Int32 → xH → Option ((Unit ⊕ Nat) × xH)) (l0 : Option Nat) (l2 : Int32) (l3 : Option Nat) (l4 : Int32) (t0 : Int32) (t1 : Option Nat) (u : xH) : Option ((Unit ⊕ Nat) × xH) := (if xis sc u 0 t1 = true then tB (f_P_need sc u t1 t0 (10 : Int32)) (fun v3 u2 => k105 l0 l2 l3 (l4 + Int32.ofInt 1) u2) (fun a5 u6 => some (.inr a5, u6)) else none)
theorem w_P_restore_b137 {sc : xSc} {d : Nat} {Q : xR → xH → Prop} {oZ : Unit ⊕ Nat} {hZ : xH} (k105 : Option Nat → Int32 → Option Nat → Int32 → xH → Option ((Unit ⊕ Nat) × xH)) (hk105 : ∀ (l0 : Option Nat) (l2 : Int32) (l3 : Option Nat) (l4 : Int32) (u : xH), k105 l0 l2 l3 l4 u = some (oZ, hZ) → xW sc m_P_restore (d + 7) Q (u) 105 [some (vR l0), none, some (vI l2), some (vR l3), some (vI l4)] []) (hQ : Q (cvU oZ) hZ) (l0 : Option Nat) (l2 : Int32) (l3 : Option Nat) (l4 : Int32) (t0 : Int32) (t1 : Option Nat) (u : xH) (h : f_P_restore_b137 sc k105 l0 l2 l3 l4 t0 t1 u = some (oZ, hZ)) : xW sc m_P_restore (d + 7) Q (u) 137 [some (vR l0), none, some (vI l2), some (vR l3), some (vI l4)] [vI t0, vR t1] := by
  unfold f_P_restore_b137 at h
  refine x_bipush (v := (10 : Int32)) (pc := 137) d_P_restore_137 (by decide) ?_
  obtain ⟨c1, h⟩ := ite_some h
  rcases tB_s h with ⟨a5, u6, e4, h⟩ | ⟨v3, u2, e4, h⟩
  · refine c_invv (c := 0) (d := d + 6) (av := [vI t0, vI (10 : Int32)]) (st := []) (Q' := fun r h' => r = .inr a5 ∧ h' = u6) (pc := 139) d_P_restore_139 cv_P_170 y_P_need c1 rfl (Nat.le_of_ble_eq_true rfl) (Nat.le_of_ble_eq_true rfl) (w_P_need (d := d + 0) (Q := fun r h' => r = .inr a5 ∧ h' = u6) ⟨rfl, rfl⟩ u t1 t0 (10 : Int32) e4) (fun v h' z => nomatch z.1) (fun a h' z => ?_)
    obtain ⟨z1, z2⟩ := z
    subst h'
    cases z1
    cases h
    exact x_thOut (xno rfl) hQ
  refine c_invv (c := 0) (d := d + 6) (av := [vI t0, vI (10 : Int32)]) (st := []) (Q' := fun r h' => r = .inl none ∧ h' = u2) (pc := 139) d_P_restore_139 cv_P_170 y_P_need c1 rfl (Nat.le_of_ble_eq_true rfl) (Nat.le_of_ble_eq_true rfl) (w_P_need (d := d + 0) (Q := fun r h' => r = .inl none ∧ h' = u2) ⟨rfl, rfl⟩ u t1 t0 (10 : Int32) e4) (fun v h' z => ?_) (fun a h' z => nomatch z.1)
  obtain ⟨z1, z2⟩ := z
  subst h'
  cases z1
  show xW sc m_P_restore (d + 7) Q (u2) 142 [some (vR l0), none, some (vI l2), some (vR l3), some (vI l4)] []
  refine x_iinc (pc := 142) d_P_restore_142 rfl (by decide) ?_
  show xW sc m_P_restore (d + 7) Q (u2) 145 [some (vR l0), none, some (vI l2), some (vR l3), some (vI (l4 + Int32.ofInt 1))] []
  refine x_goto (tgt := 105) (pc := 145) d_P_restore_145 (by decide) ?_
  exact hk105 l0 l2 l3 (l4 + Int32.ofInt 1) u2 h
def f_P_restore_b105 (sc : xSc)  : Nat → Option Nat → Int32 → Option Nat → Int32 → xH → Option ((Unit ⊕ Nat) × xH)
  | 0, _, _, _, _, _ => none
  | n + 1, l0, l2, l3, l4, u => (gI sc u 0 14 l0).bind fun v1 => (if v1 ≤ l4 then f_P_restore_b151 sc mF l0 l2 l3 (0 : Int32) u else (gR sc u 0 13 l0).bind fun v4 => (aR sc u v4 l4).bind fun v6 => (gI sc u 4 0 v6).bind fun v8 => (if xis sc u 6 l3 = true then (f_Save_dicts sc u l3).bind fun v11 => (if v11 ≤ v8 then f_P_restore_b137 sc (f_P_restore_b105 sc n) l0 l2 l3 l4 (0 : Int32) l0 u else f_P_restore_b137 sc (f_P_restore_b105 sc n) l0 l2 l3 l4 (1 : Int32) l0 u) else none))
theorem w_P_restore_b105 {sc : xSc} {d : Nat} {Q : xR → xH → Prop} {oZ : Unit ⊕ Nat} {hZ : xH}  (hQ : Q (cvU oZ) hZ) : ∀ (n : Nat) (l0 : Option Nat) (l2 : Int32) (l3 : Option Nat) (l4 : Int32) (u : xH), f_P_restore_b105 sc  n l0 l2 l3 l4 u = some (oZ, hZ) → xW sc m_P_restore (d + 7) Q (u) 105 [some (vR l0), none, some (vI l2), some (vR l3), some (vI l4)] [] := by
  intro n
  induction n with
  | zero =>
    intro l0 l2 l3 l4 u h
    cases h
  | succ n hk105 =>
    intro l0 l2 l3 l4 u h
    unfold f_P_restore_b105 at h
    refine x_iload (pc := 105) d_P_restore_105 rfl ?_
    refine x_aload_n (pc := 107) d_P_restore_107 rfl ?_
    obtain ⟨v1, e2, h⟩ := Option.bind_eq_some_iff.mp h
    refine c_getI (pc := 108) d_P_restore_108 l_P_76 e2 ?_
    refine x_icmp_ge (tgt := 148) (pc := 111) d_P_restore_111 (by decide) (fun c3 => ?_) (fun c3 => ?_)
    · rw [if_pos c3] at h
      refine x_iconst (v := (0 : Int32)) (pc := 148) d_P_restore_148 (by decide) ?_
      refine x_istore (pc := 149) d_P_restore_149 (by decide) ?_
      show xW sc m_P_restore (d + 7) Q (u) 151 [some (vR l0), none, some (vI l2), some (vR l3), some (vI (0 : Int32))] []
      exact w_P_restore_b151 hQ mF l0 l2 l3 (0 : Int32) u h
    · rw [if_neg c3] at h
      refine x_aload_n (pc := 114) d_P_restore_114 rfl ?_
      refine x_aload_n (pc := 115) d_P_restore_115 rfl ?_
      obtain ⟨v4, e5, h⟩ := Option.bind_eq_some_iff.mp h
      refine c_getR (pc := 116) d_P_restore_116 l_P_72 e5 ?_
      refine x_iload (pc := 119) d_P_restore_119 rfl ?_
      obtain ⟨v6, e7, h⟩ := Option.bind_eq_some_iff.mp h
      refine c_aald (pc := 121) d_P_restore_121 e7 ?_
      obtain ⟨v8, e9, h⟩ := Option.bind_eq_some_iff.mp h
      refine c_getI (pc := 122) d_P_restore_122 l_P_196 e9 ?_
      refine x_aload_n (pc := 125) d_P_restore_125 rfl ?_
      obtain ⟨c10, h⟩ := ite_some h
      obtain ⟨v11, e12, h⟩ := Option.bind_eq_some_iff.mp h
      refine c_invv (c := 6) (d := d + 6) (av := []) (st := [vI v8, vR l0]) (Q' := fun r h' => r = .inl (some (vI v11)) ∧ h' = u) (pc := 126) d_P_restore_126 cv_P_289 y_Save_dicts c10 rfl (Nat.le_of_ble_eq_true rfl) (Nat.le_of_ble_eq_true rfl) (w_Save_dicts (d := d + 6) (Q := fun r h' => r = .inl (some (vI v11)) ∧ h' = u) ⟨rfl, rfl⟩ l3 e12) (fun v h' z => ?_) (fun a h' z => nomatch z.1)
      obtain ⟨z1, z2⟩ := z
      subst h'
      cases z1
      show xW sc m_P_restore (d + 7) Q (u) 129 [some (vR l0), none, some (vI l2), some (vR l3), some (vI l4)] [vI v11, vI v8, vR l0]
      refine x_icmp_ge (tgt := 136) (pc := 129) d_P_restore_129 (by decide) (fun c13 => ?_) (fun c13 => ?_)
      · rw [if_pos c13] at h
        refine x_iconst (v := (0 : Int32)) (pc := 136) d_P_restore_136 (by decide) ?_
        exact w_P_restore_b137 (f_P_restore_b105 sc n) hk105 hQ l0 l2 l3 l4 (0 : Int32) l0 u h
      · rw [if_neg c13] at h
        refine x_iconst (v := (1 : Int32)) (pc := 132) d_P_restore_132 (by decide) ?_
        refine x_goto (tgt := 137) (pc := 133) d_P_restore_133 (by decide) ?_
        exact w_P_restore_b137 (f_P_restore_b105 sc n) hk105 hQ l0 l2 l3 l4 (1 : Int32) l0 u h
def f_P_restore_b91 (sc : xSc) (k60 : Option Nat → Int32 → Option Nat → Int32 → xH → Option ((Unit ⊕ Nat) × xH)) (l0 : Option Nat) (l2 : Int32) (l3 : Option Nat) (l4 : Int32) (t0 : Int32) (t1 : Option Nat) (u : xH) : Option ((Unit ⊕ Nat) × xH) := (if xis sc u 0 t1 = true then tB (f_P_need sc u t1 t0 (10 : Int32)) (fun v3 u2 => k60 l0 l2 l3 (l4 + Int32.ofInt 1) u2) (fun a5 u6 => some (.inr a5, u6)) else none)
theorem w_P_restore_b91 {sc : xSc} {d : Nat} {Q : xR → xH → Prop} {oZ : Unit ⊕ Nat} {hZ : xH} (k60 : Option Nat → Int32 → Option Nat → Int32 → xH → Option ((Unit ⊕ Nat) × xH)) (hk60 : ∀ (l0 : Option Nat) (l2 : Int32) (l3 : Option Nat) (l4 : Int32) (u : xH), k60 l0 l2 l3 l4 u = some (oZ, hZ) → xW sc m_P_restore (d + 7) Q (u) 60 [some (vR l0), none, some (vI l2), some (vR l3), some (vI l4)] []) (hQ : Q (cvU oZ) hZ) (l0 : Option Nat) (l2 : Int32) (l3 : Option Nat) (l4 : Int32) (t0 : Int32) (t1 : Option Nat) (u : xH) (h : f_P_restore_b91 sc k60 l0 l2 l3 l4 t0 t1 u = some (oZ, hZ)) : xW sc m_P_restore (d + 7) Q (u) 91 [some (vR l0), none, some (vI l2), some (vR l3), some (vI l4)] [vI t0, vR t1] := by
  unfold f_P_restore_b91 at h
  refine x_bipush (v := (10 : Int32)) (pc := 91) d_P_restore_91 (by decide) ?_
  obtain ⟨c1, h⟩ := ite_some h
  rcases tB_s h with ⟨a5, u6, e4, h⟩ | ⟨v3, u2, e4, h⟩
  · refine c_invv (c := 0) (d := d + 6) (av := [vI t0, vI (10 : Int32)]) (st := []) (Q' := fun r h' => r = .inr a5 ∧ h' = u6) (pc := 93) d_P_restore_93 cv_P_170 y_P_need c1 rfl (Nat.le_of_ble_eq_true rfl) (Nat.le_of_ble_eq_true rfl) (w_P_need (d := d + 0) (Q := fun r h' => r = .inr a5 ∧ h' = u6) ⟨rfl, rfl⟩ u t1 t0 (10 : Int32) e4) (fun v h' z => nomatch z.1) (fun a h' z => ?_)
    obtain ⟨z1, z2⟩ := z
    subst h'
    cases z1
    cases h
    exact x_thOut (xno rfl) hQ
  refine c_invv (c := 0) (d := d + 6) (av := [vI t0, vI (10 : Int32)]) (st := []) (Q' := fun r h' => r = .inl none ∧ h' = u2) (pc := 93) d_P_restore_93 cv_P_170 y_P_need c1 rfl (Nat.le_of_ble_eq_true rfl) (Nat.le_of_ble_eq_true rfl) (w_P_need (d := d + 0) (Q := fun r h' => r = .inl none ∧ h' = u2) ⟨rfl, rfl⟩ u t1 t0 (10 : Int32) e4) (fun v h' z => ?_) (fun a h' z => nomatch z.1)
  obtain ⟨z1, z2⟩ := z
  subst h'
  cases z1
  show xW sc m_P_restore (d + 7) Q (u2) 96 [some (vR l0), none, some (vI l2), some (vR l3), some (vI l4)] []
  refine x_iinc (pc := 96) d_P_restore_96 rfl (by decide) ?_
  show xW sc m_P_restore (d + 7) Q (u2) 99 [some (vR l0), none, some (vI l2), some (vR l3), some (vI (l4 + Int32.ofInt 1))] []
  refine x_goto (tgt := 60) (pc := 99) d_P_restore_99 (by decide) ?_
  exact hk60 l0 l2 l3 (l4 + Int32.ofInt 1) u2 h
def f_P_restore_b60 (sc : xSc)  : Nat → Option Nat → Int32 → Option Nat → Int32 → xH → Option ((Unit ⊕ Nat) × xH)
  | 0, _, _, _, _, _ => none
  | n + 1, l0, l2, l3, l4, u => (gI sc u 0 9 l0).bind fun v1 => (if (v1 - (1 : Int32)) ≤ l4 then f_P_restore_b105 sc mF l0 l2 l3 (0 : Int32) u else (gR sc u 0 6 l0).bind fun v4 => (aR sc u v4 l4).bind fun v6 => (if xis sc u 6 l3 = true then (f_Save_isBefore sc u l3 v6).bind fun v9 => (if v9 = 0 then f_P_restore_b91 sc (f_P_restore_b60 sc n) l0 l2 l3 l4 (1 : Int32) l0 u else f_P_restore_b91 sc (f_P_restore_b60 sc n) l0 l2 l3 l4 (0 : Int32) l0 u) else none))
theorem w_P_restore_b60 {sc : xSc} {d : Nat} {Q : xR → xH → Prop} {oZ : Unit ⊕ Nat} {hZ : xH}  (hQ : Q (cvU oZ) hZ) : ∀ (n : Nat) (l0 : Option Nat) (l2 : Int32) (l3 : Option Nat) (l4 : Int32) (u : xH), f_P_restore_b60 sc  n l0 l2 l3 l4 u = some (oZ, hZ) → xW sc m_P_restore (d + 7) Q (u) 60 [some (vR l0), none, some (vI l2), some (vR l3), some (vI l4)] [] := by
  intro n
  induction n with
  | zero =>
    intro l0 l2 l3 l4 u h
    cases h
  | succ n hk60 =>
    intro l0 l2 l3 l4 u h
    unfold f_P_restore_b60 at h
    refine x_iload (pc := 60) d_P_restore_60 rfl ?_
    refine x_aload_n (pc := 62) d_P_restore_62 rfl ?_
    obtain ⟨v1, e2, h⟩ := Option.bind_eq_some_iff.mp h
    refine c_getI (pc := 63) d_P_restore_63 l_P_174 e2 ?_
    refine x_iconst (v := (1 : Int32)) (pc := 66) d_P_restore_66 (by decide) ?_
    refine x_isub (pc := 67) d_P_restore_67 ?_
    refine x_icmp_ge (tgt := 102) (pc := 68) d_P_restore_68 (by decide) (fun c3 => ?_) (fun c3 => ?_)
    · rw [if_pos c3] at h
      refine x_iconst (v := (0 : Int32)) (pc := 102) d_P_restore_102 (by decide) ?_
      refine x_istore (pc := 103) d_P_restore_103 (by decide) ?_
      show xW sc m_P_restore (d + 7) Q (u) 105 [some (vR l0), none, some (vI l2), some (vR l3), some (vI (0 : Int32))] []
      exact w_P_restore_b105 hQ mF l0 l2 l3 (0 : Int32) u h
    · rw [if_neg c3] at h
      refine x_aload_n (pc := 71) d_P_restore_71 rfl ?_
      refine x_aload_n (pc := 72) d_P_restore_72 rfl ?_
      refine x_aload_n (pc := 73) d_P_restore_73 rfl ?_
      obtain ⟨v4, e5, h⟩ := Option.bind_eq_some_iff.mp h
      refine c_getR (pc := 74) d_P_restore_74 l_P_53 e5 ?_
      refine x_iload (pc := 77) d_P_restore_77 rfl ?_
      obtain ⟨v6, e7, h⟩ := Option.bind_eq_some_iff.mp h
      refine c_aald (pc := 79) d_P_restore_79 e7 ?_
      obtain ⟨c8, h⟩ := ite_some h
      obtain ⟨v9, e10, h⟩ := Option.bind_eq_some_iff.mp h
      refine c_invv (c := 6) (d := d + 6) (av := [vR v6]) (st := [vR l0]) (Q' := fun r h' => r = .inl (some (vI v9)) ∧ h' = u) (pc := 80) d_P_restore_80 cv_P_285 y_Save_isBefore c8 rfl (Nat.le_of_ble_eq_true rfl) (Nat.le_of_ble_eq_true rfl) (w_Save_isBefore (d := d + 5) (Q := fun r h' => r = .inl (some (vI v9)) ∧ h' = u) ⟨rfl, rfl⟩ l3 v6 e10) (fun v h' z => ?_) (fun a h' z => nomatch z.1)
      obtain ⟨z1, z2⟩ := z
      subst h'
      cases z1
      show xW sc m_P_restore (d + 7) Q (u) 83 [some (vR l0), none, some (vI l2), some (vR l3), some (vI l4)] [vI v9, vR l0]
      refine x_if_ne (tgt := 90) (pc := 83) d_P_restore_83 (by decide) (fun c11 => ?_) (fun c11 => ?_)
      · rw [if_neg c11] at h
        refine x_iconst (v := (0 : Int32)) (pc := 90) d_P_restore_90 (by decide) ?_
        exact w_P_restore_b91 (f_P_restore_b60 sc n) hk60 hQ l0 l2 l3 l4 (0 : Int32) l0 u h
      · rw [if_pos c11] at h
        refine x_iconst (v := (1 : Int32)) (pc := 86) d_P_restore_86 (by decide) ?_
        refine x_goto (tgt := 91) (pc := 87) d_P_restore_87 (by decide) ?_
        exact w_P_restore_b91 (f_P_restore_b60 sc n) hk60 hQ l0 l2 l3 l4 (1 : Int32) l0 u h
def f_P_restore_b40 (sc : xSc)  (l0 : Option Nat) (l2 : Int32) (t0 : Int32) (t1 : Option Nat) (u : xH) : Option ((Unit ⊕ Nat) × xH) := (if xis sc u 0 t1 = true then tB (f_P_need sc u t1 t0 (10 : Int32)) (fun v3 u2 => (if 0 ≤ l2 then (gR sc u2 0 25 l0).bind fun v8 => (aR sc u2 v8 l2).bind fun v10 => f_P_restore_b60 sc mF l0 l2 v10 (0 : Int32) u2 else some (.inl (), u2))) (fun a5 u6 => some (.inr a5, u6)) else none)
theorem w_P_restore_b40 {sc : xSc} {d : Nat} {Q : xR → xH → Prop} {oZ : Unit ⊕ Nat} {hZ : xH}  (hQ : Q (cvU oZ) hZ) (l0 : Option Nat) (l2 : Int32) (t0 : Int32) (t1 : Option Nat) (u : xH) (h : f_P_restore_b40 sc  l0 l2 t0 t1 u = some (oZ, hZ)) : xW sc m_P_restore (d + 7) Q (u) 40 [some (vR l0), none, some (vI l2), none, none] [vI t0, vR t1] := by
  unfold f_P_restore_b40 at h
  refine x_bipush (v := (10 : Int32)) (pc := 40) d_P_restore_40 (by decide) ?_
  obtain ⟨c1, h⟩ := ite_some h
  rcases tB_s h with ⟨a5, u6, e4, h⟩ | ⟨v3, u2, e4, h⟩
  · refine c_invv (c := 0) (d := d + 6) (av := [vI t0, vI (10 : Int32)]) (st := []) (Q' := fun r h' => r = .inr a5 ∧ h' = u6) (pc := 42) d_P_restore_42 cv_P_170 y_P_need c1 rfl (Nat.le_of_ble_eq_true rfl) (Nat.le_of_ble_eq_true rfl) (w_P_need (d := d + 0) (Q := fun r h' => r = .inr a5 ∧ h' = u6) ⟨rfl, rfl⟩ u t1 t0 (10 : Int32) e4) (fun v h' z => nomatch z.1) (fun a h' z => ?_)
    obtain ⟨z1, z2⟩ := z
    subst h'
    cases z1
    cases h
    exact x_thOut (xno rfl) hQ
  refine c_invv (c := 0) (d := d + 6) (av := [vI t0, vI (10 : Int32)]) (st := []) (Q' := fun r h' => r = .inl none ∧ h' = u2) (pc := 42) d_P_restore_42 cv_P_170 y_P_need c1 rfl (Nat.le_of_ble_eq_true rfl) (Nat.le_of_ble_eq_true rfl) (w_P_need (d := d + 0) (Q := fun r h' => r = .inl none ∧ h' = u2) ⟨rfl, rfl⟩ u t1 t0 (10 : Int32) e4) (fun v h' z => ?_) (fun a h' z => nomatch z.1)
  obtain ⟨z1, z2⟩ := z
  subst h'
  cases z1
  show xW sc m_P_restore (d + 7) Q (u2) 45 [some (vR l0), none, some (vI l2), none, none] []
  refine x_iload_n (pc := 45) d_P_restore_45 rfl ?_
  refine x_if_ge (tgt := 50) (pc := 46) d_P_restore_46 (by decide) (fun c7 => ?_) (fun c7 => ?_)
  · rw [if_pos c7] at h
    refine x_aload_n (pc := 50) d_P_restore_50 rfl ?_
    obtain ⟨v8, e9, h⟩ := Option.bind_eq_some_iff.mp h
    refine c_getR (pc := 51) d_P_restore_51 l_P_89 e9 ?_
    refine x_iload_n (pc := 54) d_P_restore_54 rfl ?_
    obtain ⟨v10, e11, h⟩ := Option.bind_eq_some_iff.mp h
    refine c_aald (pc := 55) d_P_restore_55 e11 ?_
    refine x_astore_n (pc := 56) d_P_restore_56 (by decide) ?_
    show xW sc m_P_restore (d + 7) Q (u2) 57 [some (vR l0), none, some (vI l2), some (vR v10), none] []
    refine x_iconst (v := (0 : Int32)) (pc := 57) d_P_restore_57 (by decide) ?_
    refine x_istore (pc := 58) d_P_restore_58 (by decide) ?_
    show xW sc m_P_restore (d + 7) Q (u2) 60 [some (vR l0), none, some (vI l2), some (vR v10), some (vI (0 : Int32))] []
    exact w_P_restore_b60 hQ mF l0 l2 v10 (0 : Int32) u2 h
  · rw [if_neg c7] at h
    cases h
    exact x_vret (pc := 49) d_P_restore_49 rfl hQ
def f_P_restore_b30 (sc : xSc)  (l0 : Option Nat) (l2 : Int32) (u : xH) : Option ((Unit ⊕ Nat) × xH) := (if l2 < 0 then f_P_restore_b40 sc l0 l2 (0 : Int32) l0 u else f_P_restore_b40 sc l0 l2 (1 : Int32) l0 u)
theorem w_P_restore_b30 {sc : xSc} {d : Nat} {Q : xR → xH → Prop} {oZ : Unit ⊕ Nat} {hZ : xH}  (hQ : Q (cvU oZ) hZ) (l0 : Option Nat) (l2 : Int32) (u : xH) (h : f_P_restore_b30 sc  l0 l2 u = some (oZ, hZ)) : xW sc m_P_restore (d + 7) Q (u) 30 [some (vR l0), none, some (vI l2), none, none] [] := by
  unfold f_P_restore_b30 at h
  refine x_aload_n (pc := 30) d_P_restore_30 rfl ?_
  refine x_iload_n (pc := 31) d_P_restore_31 rfl ?_
  refine x_if_lt (tgt := 39) (pc := 32) d_P_restore_32 (by decide) (fun c1 => ?_) (fun c1 => ?_)
  · rw [if_pos c1] at h
    refine x_iconst (v := (0 : Int32)) (pc := 39) d_P_restore_39 (by decide) ?_
    exact w_P_restore_b40 hQ l0 l2 (0 : Int32) l0 u h
  · rw [if_neg c1] at h
    refine x_iconst (v := (1 : Int32)) (pc := 35) d_P_restore_35 (by decide) ?_
    refine x_goto (tgt := 40) (pc := 36) d_P_restore_36 (by decide) ?_
    exact w_P_restore_b40 hQ l0 l2 (1 : Int32) l0 u h
def f_P_restore_b7 (sc : xSc)  : Nat → Option Nat → Int32 → Int32 → xH → Option ((Unit ⊕ Nat) × xH)
  | 0, _, _, _, _ => none
  | n + 1, l0, l1, l2, u => (if l2 < 0 then f_P_restore_b30 sc l0 l2 u else (gR sc u 0 25 l0).bind fun v2 => (aR sc u v2 l2).bind fun v4 => (if xis sc u 6 v4 = true then (f_Save_serial sc u v4).bind fun v7 => (if v7 = l1 then f_P_restore_b30 sc l0 l2 u else (f_P_restore_b7 sc n) l0 l1 (l2 + Int32.ofInt (-1)) u) else none))
theorem w_P_restore_b7 {sc : xSc} {d : Nat} {Q : xR → xH → Prop} {oZ : Unit ⊕ Nat} {hZ : xH}  (hQ : Q (cvU oZ) hZ) : ∀ (n : Nat) (l0 : Option Nat) (l1 : Int32) (l2 : Int32) (u : xH), f_P_restore_b7 sc  n l0 l1 l2 u = some (oZ, hZ) → xW sc m_P_restore (d + 7) Q (u) 7 [some (vR l0), some (vI l1), some (vI l2), none, none] [] := by
  intro n
  induction n with
  | zero =>
    intro l0 l1 l2 u h
    cases h
  | succ n hk7 =>
    intro l0 l1 l2 u h
    unfold f_P_restore_b7 at h
    refine x_iload_n (pc := 7) d_P_restore_7 rfl ?_
    refine x_if_lt (tgt := 30) (pc := 8) d_P_restore_8 (by decide) (fun c1 => ?_) (fun c1 => ?_)
    · rw [if_pos c1] at h
      exact x_wk (L' := [some (vR l0), none, some (vI l2), none, none]) ⟨Or.inr rfl, Or.inl rfl, Or.inr rfl, Or.inl rfl, Or.inl rfl, trivial⟩ (w_P_restore_b30 hQ l0 l2 u h)
    · rw [if_neg c1] at h
      refine x_aload_n (pc := 11) d_P_restore_11 rfl ?_
      obtain ⟨v2, e3, h⟩ := Option.bind_eq_some_iff.mp h
      refine c_getR (pc := 12) d_P_restore_12 l_P_89 e3 ?_
      refine x_iload_n (pc := 15) d_P_restore_15 rfl ?_
      obtain ⟨v4, e5, h⟩ := Option.bind_eq_some_iff.mp h
      refine c_aald (pc := 16) d_P_restore_16 e5 ?_
      obtain ⟨c6, h⟩ := ite_some h
      obtain ⟨v7, e8, h⟩ := Option.bind_eq_some_iff.mp h
      refine c_invv (c := 6) (d := d + 6) (av := []) (st := []) (Q' := fun r h' => r = .inl (some (vI v7)) ∧ h' = u) (pc := 17) d_P_restore_17 cv_P_282 y_Save_serial c6 rfl (Nat.le_of_ble_eq_true rfl) (Nat.le_of_ble_eq_true rfl) (w_Save_serial (d := d + 6) (Q := fun r h' => r = .inl (some (vI v7)) ∧ h' = u) ⟨rfl, rfl⟩ v4 e8) (fun v h' z => ?_) (fun a h' z => nomatch z.1)
      obtain ⟨z1, z2⟩ := z
      subst h'
      cases z1
      show xW sc m_P_restore (d + 7) Q (u) 20 [some (vR l0), some (vI l1), some (vI l2), none, none] [vI v7]
      refine x_iload_n (pc := 20) d_P_restore_20 rfl ?_
      refine x_icmp_eq (tgt := 30) (pc := 21) d_P_restore_21 (by decide) (fun c9 => ?_) (fun c9 => ?_)
      · rw [if_pos c9] at h
        exact x_wk (L' := [some (vR l0), none, some (vI l2), none, none]) ⟨Or.inr rfl, Or.inl rfl, Or.inr rfl, Or.inl rfl, Or.inl rfl, trivial⟩ (w_P_restore_b30 hQ l0 l2 u h)
      · rw [if_neg c9] at h
        refine x_iinc (pc := 24) d_P_restore_24 rfl (by decide) ?_
        show xW sc m_P_restore (d + 7) Q (u) 27 [some (vR l0), some (vI l1), some (vI (l2 + Int32.ofInt (-1))), none, none] []
        refine x_goto (tgt := 7) (pc := 27) d_P_restore_27 (by decide) ?_
        exact hk7 l0 l1 (l2 + Int32.ofInt (-1)) u h
def f_P_restore (sc : xSc) (u : xH) (a0 : Option Nat) (a1 : Int32) : Option ((Unit ⊕ Nat) × xH) := (gI sc u 0 26 a0).bind fun v1 => f_P_restore_b7 sc mF a0 a1 (v1 - (1 : Int32)) u
theorem w_P_restore {sc : xSc} {d : Nat} {Q : xR → xH → Prop} {oZ : Unit ⊕ Nat} {hZ : xH} (hQ : Q (cvU oZ) hZ) (u : xH) (a0 : Option Nat) (a1 : Int32) (h : f_P_restore sc u a0 a1 = some (oZ, hZ)) : xW sc m_P_restore (d + 7) Q (u) 0 (xent [vR a0, vI a1] m_P_restore.2.2.1) [] := by
  show xW sc m_P_restore (d + 7) Q (u) 0 [some (vR a0), some (vI a1), none, none, none] []
  unfold f_P_restore at h
  refine x_aload_n (pc := 0) d_P_restore_0 rfl ?_
  obtain ⟨v1, e2, h⟩ := Option.bind_eq_some_iff.mp h
  refine c_getI (pc := 1) d_P_restore_1 l_P_234 e2 ?_
  refine x_iconst (v := (1 : Int32)) (pc := 4) d_P_restore_4 (by decide) ?_
  refine x_isub (pc := 5) d_P_restore_5 ?_
  refine x_istore_n (pc := 6) d_P_restore_6 (by decide) ?_
  show xW sc m_P_restore (d + 7) Q (u) 7 [some (vR a0), some (vI a1), some (vI (v1 - (1 : Int32))), none, none] []
  exact w_P_restore_b7 hQ mF a0 a1 (v1 - (1 : Int32)) u h
